/-! THE HEAP's KIT, 6: copies, clones, casts of arrays, class objects, any object in an array, ordinals -/
theorem gOb : ∀ (c : Nat) (r : vw_C), gCl[c]? = some r → (Cond.castable r.1 "java/lang/Object") ∈ lw_tbl := by
  intro c r h
  match c, h with
  | 0, h => cases h; exact q2556
  | 1, h => cases h; exact q2557
  | 2, h => cases h; exact q2559
  | 3, h => cases h; exact q2560
  | 4, h => cases h; exact q2561
  | 5, h => cases h; exact q2565
  | 6, h => cases h; exact q2567
  | 7, h => cases h; exact q2568
  | 8, h => cases h; exact q2569
  | 9, h => cases h; exact q2570
  | 10, h => cases h; exact q2571
  | 11, h => cases h; exact q2572
  | 12, h => cases h; exact q2573
  | 13, h => cases h; exact q2555
  | 14, h => cases h; exact q2574
  | 15, h => cases h; exact q2575
  | 16, h => cases h; exact q2578
  | 17, h => cases h; exact q2579
  | 18, h => cases h; exact q2558
  | 19, h => cases h; exact q2563
  | 20, h => cases h; exact q2564
  | 21, h => cases h; exact q2576
  | 22, h => cases h; exact q2577
  | 23, h => cases h; exact q2577
  | n + 24, h => exact absurd h (by simp [gCl])
def uObj (u : UH) (a : Nat) : Bool := match u.2.2 a with
  | some (.inr _) => true
  | _ => false
theorem uNN (z : Int32) (hz : ¬ z < 0) : z.toInt = (z.toNatClampNeg : Int) := by
  have hz0 : (0 : Int) ≤ z.toInt := by
    have := Int32.not_lt.mp hz
    simpa using Int32.le_iff_toInt_le.mp this
  show z.toInt = ((z.toInt.toNat : Nat) : Int)
  omega
abbrev uVs : Type := (Nat → Int32) ⊕ (Nat → Int64) ⊕ (Nat → UInt32) ⊕ (Nat → UInt64) ⊕ (Nat → Option Nat)
/-- System.arraycopy of bytes -/
def uCpB (b : Nat) (u : UH) (a0 : Nat) (sp : Int32) (a : Nat) (dp n : Int32) : Option UH := match u.2.2 a0, u.2.2 a with
  | some (.inl (t0, n0, .inl f)), some (.inl (t1, n1, .inl g)) => if t0 = 1 ∧ t1 = 1 ∧ b ≤ a ∧ ¬ sp < 0 ∧ ¬ dp < 0 ∧ ¬ n < 0 ∧ sp.toNatClampNeg + n.toNatClampNeg ≤ n0 ∧ dp.toNatClampNeg + n.toNatClampNeg ≤ n1 ∧ (List.range n.toNatClampNeg).all (fun i => fits .byte (.int (f (sp.toNatClampNeg + i)))) = true then some (uSet u a (.inl (1, n1, .inl (va_cpy f g sp.toNatClampNeg dp.toNatClampNeg n.toNatClampNeg)))) else none
  | _, _ => none
/-- System.arraycopy of objects -/
def uCpR (b : Nat) (u : UH) (a0 : Nat) (sp : Int32) (a : Nat) (dp n : Int32) : Option UH := match u.2.2 a0, u.2.2 a with
  | some (.inl (t0, n0, .inr (.inr (.inr (.inr f))))), some (.inl (t1, n1, .inr (.inr (.inr (.inr g))))) => if t0 = 4 ∧ t1 = 4 ∧ b ≤ a ∧ ¬ sp < 0 ∧ ¬ dp < 0 ∧ ¬ n < 0 ∧ sp.toNatClampNeg + n.toNatClampNeg ≤ n0 ∧ dp.toNatClampNeg + n.toNatClampNeg ≤ n1 ∧ (List.range n.toNatClampNeg).all (fun i => ucase (f (sp.toNatClampNeg + i)) true (uObj u)) = true then some (uSet u a (.inl (4, n1, .inr (.inr (.inr (.inr (va_cpy f g sp.toNatClampNeg dp.toNatClampNeg n.toNatClampNeg))))))) else none
  | _, _ => none
theorem uCpB_n {b : Nat} {u u' : UH} {a0 a : Nat} {sp dp n : Int32} (h : uCpB b u a0 sp a dp n = some u') : ∃ n0 f n1 g, u.2.2 a0 = some (.inl (1, n0, .inl f)) ∧ u.2.2 a = some (.inl (1, n1, .inl g)) ∧ b ≤ a ∧ ¬ sp < 0 ∧ ¬ dp < 0 ∧ ¬ n < 0 ∧ sp.toNatClampNeg + n.toNatClampNeg ≤ n0 ∧ dp.toNatClampNeg + n.toNatClampNeg ≤ n1 ∧ (∀ i, i < n.toNatClampNeg → fits .byte (.int (f (sp.toNatClampNeg + i))) = true) ∧ u' = uSet u a (.inl (1, n1, .inl (va_cpy f g sp.toNatClampNeg dp.toNatClampNeg n.toNatClampNeg))) := by
  unfold uCpB at h
  split at h
  · rename_i t0 n0 f t1 n1 g h0 h1
    obtain ⟨⟨rfl, rfl, c1, c2, c3, c4, c5, c6, c7⟩, h2⟩ := mif_n h
    cases h2
    exact ⟨n0, f, n1, g, h0, h1, c1, c2, c3, c4, c5, c6, fun i hi => List.all_eq_true.mp c7 i (List.mem_range.mpr hi), rfl⟩
  · cases h
theorem uCpR_n {b : Nat} {u u' : UH} {a0 a : Nat} {sp dp n : Int32} (h : uCpR b u a0 sp a dp n = some u') : ∃ n0 f n1 g, u.2.2 a0 = some (.inl (4, n0, .inr (.inr (.inr (.inr f))))) ∧ u.2.2 a = some (.inl (4, n1, .inr (.inr (.inr (.inr g))))) ∧ b ≤ a ∧ ¬ sp < 0 ∧ ¬ dp < 0 ∧ ¬ n < 0 ∧ sp.toNatClampNeg + n.toNatClampNeg ≤ n0 ∧ dp.toNatClampNeg + n.toNatClampNeg ≤ n1 ∧ (∀ i, i < n.toNatClampNeg → ucase (f (sp.toNatClampNeg + i)) true (uObj u) = true) ∧ u' = uSet u a (.inl (4, n1, .inr (.inr (.inr (.inr (va_cpy f g sp.toNatClampNeg dp.toNatClampNeg n.toNatClampNeg)))))) := by
  unfold uCpR at h
  split at h
  · rename_i t0 n0 f t1 n1 g h0 h1
    obtain ⟨⟨rfl, rfl, c1, c2, c3, c4, c5, c6, c7⟩, h2⟩ := mif_n h
    cases h2
    exact ⟨n0, f, n1, g, h0, h1, c1, c2, c3, c4, c5, c6, fun i hi => List.all_eq_true.mp c7 i (List.mem_range.mpr hi), rfl⟩
  · cases h
theorem uCpB_sz {b : Nat} {u u' : UH} {a0 a : Nat} {sp dp n : Int32} (h : uCpB b u a0 sp a dp n = some u') : u'.1 = u.1 ∧ u'.2.1 = u.2.1 := by
  obtain ⟨_, _, _, _, -, -, -, -, -, -, -, -, -, rfl⟩ := uCpB_n h
  exact ⟨rfl, rfl⟩
theorem uCpR_sz {b : Nat} {u u' : UH} {a0 a : Nat} {sp dp n : Int32} (h : uCpR b u a0 sp a dp n = some u') : u'.1 = u.1 ∧ u'.2.1 = u.2.1 := by
  obtain ⟨_, _, _, _, -, -, -, -, -, -, -, -, -, rfl⟩ := uCpR_n h
  exact ⟨rfl, rfl⟩
section UROWS6
variable {p : Program} {l : Launch} {e : Env} {R : Room} {s : State} {m : MethodId} {args : Array Value} {below : List Frame} {meth : Method} {c : Code} {H : Heap} {locs : List Loc} {cells slots : Nat} {Q : State → Prop}
variable {cc : ByteArray} {pc nL : Nat} {ls : Array Slot} {rest st : List Value} {G : uG} {u u' : UH} {ret : Option FieldType} {own : String} {a t : Nat} {cA : ClassId}
theorem u_anyO (hC : uC p s m args meth c G own cc nL ret) (hP : uP G u H) (hi : uObj u a = true) : va_Any "java/lang/Object" s H a := by
  unfold uObj at hi
  split at hi
  · rename_i o he
    obtain ⟨c0, fs⟩ := o
    obtain ⟨⟨C, T, N⟩, cell, h1, -⟩ := hP.2 a _ he
    exact u_any hC hP (ci := c0) (by simp [uIs, he]) h1 (gOb _ _ h1)
  · cases hi
theorem u_anyS (hC : uC p s m args meth c G own cc nL ret) (hP : uP G u H) {C : String} {T : u_T} {N ci : Nat} (hi : uIs u a ci = true) (hc : gCl[ci]? = some (C, T, N)) : va_Any C s H a := by
  obtain ⟨cell, h1, h2, h3⟩ := u_rcv hC hP hi hc
  obtain ⟨kC, hkC, -⟩ := Vm.findClass_spec h3
  refine ⟨cell, h1, h2, ⟨kC, hkC⟩, fun comp h => ?_⟩
  cases h3.symm.trans h
  exact va_asg _ _
theorem u_copyG (hC : uC p s m args meth c G own cc nL ret) (hP : uP G u H) (hS : va_S (uA G) s.heap H locs) {a0 t0 t1 n0 n1 : Nat} {x y z : uVs} {sp dp n : Int32} (he0 : u.2.2 a0 = some (.inl (t0, n0, x))) (he1 : u.2.2 a = some (.inl (t1, n1, y))) {cA0 cA1 : ClassId} {ty0 ty1 : FieldType} (ht0 : (uTys G)[t0]? = some (cA0, ty0)) (ht1 : (uTys G)[t1]? = some (cA1, ty1)) (hty : ((refKind ty0 != refKind ty1) || (!refKind ty0 && ty0 != ty1)) = false) (hba : ub G ≤ a) (h1 : ¬ sp < 0) (h2 : ¬ dp < 0) (h3 : ¬ n < 0) (h4 : sp.toNatClampNeg + n.toNatClampNeg ≤ n0) (h5 : dp.toNatClampNeg + n.toNatClampNeg ≤ n1)
    (hvals : ∀ vm', s.vm.Alike vm' → ∀ T : State, T.heap = H → ∀ (kd : Class) (dComp : ClassId), s.vm.classes[cA1]? = some kd → kd.kind = .array dComp ty1 → ∀ i, i < n.toNatClampNeg → fits ty1 (uV x (sp.toNatClampNeg + i)) = true ∧ (T.setVm vm').takes dComp (uV x (sp.toNatClampNeg + i)))
    (hz : ∀ j : Nat, uV z j = if dp.toNatClampNeg ≤ j ∧ j < dp.toNatClampNeg + n.toNatClampNeg then uV x (sp.toNatClampNeg + (j - dp.toNatClampNeg)) else uV y j) {index : Nat}
    (hlink : (Cond.methodLink own index arraycopyName) ∈ lw_all) (hls : ls.size = nL) (hframes : 1 ≤ R.frames) (hlocals : (rest.map fun v => v.category).sum + (nativeFrameWords "java/lang/System" "arraycopy" 5 + 11) ≤ R.locals) (hdg : decode cc pc = .ok (.invokestatic index, 3))
    (kk : ∀ (H1 : Heap) (locs1 : List Loc), uP G (uSet u a (.inl (t1, n1, z))) H1 → va_S (uA G) s.heap H1 locs1 → W p l e R s m args below meth c H1 locs1 cells slots Q (F0 m (pc + 3) ls rest)) : W p l e R s m args below meth c H locs cells slots Q (F0 m pc ls (.int n :: .int dp :: .ref a :: .int sp :: .ref a0 :: rest)) := by
  obtain ⟨⟨hx, hb, hml, hown, hts⟩, hK, -⟩ := id hC
  obtain ⟨q0, c0, r0, e0, g0, v0, z0, s0⟩ := hP.2 a0 _ he0
  obtain ⟨q1, c1, r1, e1, g1, v1, z1, s1⟩ := hP.2 a _ he1
  cases ht0.symm.trans r0
  cases ht1.symm.trans r1
  obtain ⟨-, k0, hk0, cm0, hkk0⟩ := (hC.arr ht0) 0 (fun _ => .null)
  obtain ⟨-, k1, hk1, cm1, hkk1⟩ := (hC.arr ht1) 0 (fun _ => .null)
  intro T hT X
  have gd : ∀ i : Nat, i < n.toNatClampNeg → c0.slots.getD (sp.toNatClampNeg + i) .null = uV x (sp.toNatClampNeg + i) := fun i hi => by
    rw [Array.getD_eq_getD_getElem?, s0 _ (Nat.lt_of_lt_of_le (Nat.add_lt_add_left hi _) h4)]
    rfl
  obtain ⟨vm', X', step⟩ := X.arraycopy hx hown (hts _ hlink) (hts _ q430) (hts _ q429) (hts _ q115) (src := a0) (dst := a) (cs := c0) (cd := c1) (srcPos := sp) (destPos := dp) (n := n) (by rw [hT]; exact e0) (by rw [hT]; exact e1)
    (fun k h => by have := v0.2.1; rw [h] at this; cases this) (fun k h => by have := v1.2.1; rw [h] at this; cases this) v0.1 v1.1 (ks := k0) (kd := k1) (by rw [g0]; exact hk0) (by rw [g1]; exact hk1) hkk0 hkk1 hty h1 h2 h3
    (by rw [uNN sp h1, uNN n h3]; have hz : n0 ≤ c0.slots.size := z0.1; omega)
    (by rw [uNN dp h2, uNN n h3]; have hz : n1 ≤ c1.slots.size := z1.1; omega)
    (fun vm' hal i hi => by rw [gd i hi]; exact hvals vm' hal T hT k1 cm1 hk1 hkk1 i hi)
    (g := F0 m pc ls (.int n :: .int dp :: .ref a :: .int sp :: .ref a0 :: rest)) rfl (by show ls.size = _; rw [hls, hml]) (rest := rest) rfl (by rw [hb]; exact hdg) hframes (by show 2 * 0 + _ + _ ≤ _; omega)
  have hl : a < H.size := (Array.getElem?_eq_some_iff.mp e1).1
  have hheap : ((T.setVm vm').setCell a (copied c0 c1 sp dp n)).heap = H.setIfInBounds a (copied c0 c1 sp dp n) := by rw [← hT]; rfl
  have oq : ∀ q : Nat, q ≠ a → (H.setIfInBounds a (copied c0 c1 sp dp n))[q]? = H[q]? := fun q hq => by simp [Array.getElem?_setIfInBounds, Ne.symm hq]
  have hst : (c0.stretch sp.toNatClampNeg n.toNatClampNeg).length = n.toNatClampNeg := by simp [Cell.stretch]
  obtain ⟨f1, f2, f3, -⟩ := Cell.storeRun_facts c1 dp.toNatClampNeg (c0.stretch sp.toNatClampNeg n.toNatClampNeg)
  have hcell : uAt G a (.inl (t1, n1, z)) (H.setIfInBounds a (copied c0 c1 sp dp n)) := by
    refine ⟨_, copied c0 c1 sp dp n, ht1, by simp [Array.getElem?_setIfInBounds, hl], f1.trans g1, ?_, ?_, fun j hj => ?_⟩
    · exact ⟨by rw [show (copied c0 c1 sp dp n).vm = c1.vm from f2]; exact v1.1, by rw [show (copied c0 c1 sp dp n).vm = c1.vm from f2]; exact v1.2.1, by rw [show (copied c0 c1 sp dp n).vm = c1.vm from f2]; exact v1.2.2⟩
    · rw [show (copied c0 c1 sp dp n).slots.size = c1.slots.size from f3]
      exact z1
    · have hg := Cell.storeRun_get c1 dp.toNatClampNeg (c0.stretch sp.toNatClampNeg n.toNatClampNeg) j (by rw [hst]; exact Nat.le_trans h5 z1.1)
      rw [hst] at hg
      refine hg.trans ?_
      rw [hz j]
      by_cases hj2 : dp.toNatClampNeg ≤ j ∧ j < dp.toNatClampNeg + n.toNatClampNeg
      · rw [if_pos hj2, if_pos hj2]
        have hlt : j - dp.toNatClampNeg < n.toNatClampNeg := by omega
        rw [← gd _ hlt]
        simp [Cell.stretch, hlt]
      · rw [if_neg hj2, if_neg hj2]
        exact s1 j hj
  obtain ⟨t, a1, b1⟩ := kk _ _ (hP.set (by simp) hcell oq) ⟨by simp; exact hS.1, fun q k1 k2 => by
      rw [oq q (fun e => k2 (by rw [e]; exact hba))]
      exact hS.2.1 q k1 k2, fun q hq => by
      rcases List.mem_append.mp hq with h | h
      · exact hS.2.2 q h
      · obtain ⟨w, -, hw⟩ := List.mem_map.mp h
        rw [← hw]
        exact hba⟩ _ hheap X'
  exact ⟨t, step t a1, b1⟩
theorem u_copyB (hC : uC p s m args meth c G own cc nL ret) (hP : uP G u H) (hS : va_S (uA G) s.heap H locs) {a0 : Nat} {sp dp n : Int32} (hv : uCpB (ub G) u a0 sp a dp n = some u') {index : Nat}
    (hlink : (Cond.methodLink own index arraycopyName) ∈ lw_all) (hls : ls.size = nL) (hframes : 1 ≤ R.frames) (hlocals : (rest.map fun v => v.category).sum + (nativeFrameWords "java/lang/System" "arraycopy" 5 + 11) ≤ R.locals) (hdg : decode cc pc = .ok (.invokestatic index, 3))
    (kk : ∀ (H1 : Heap) (locs1 : List Loc), uP G u' H1 → va_S (uA G) s.heap H1 locs1 → W p l e R s m args below meth c H1 locs1 cells slots Q (F0 m (pc + 3) ls rest)) : W p l e R s m args below meth c H locs cells slots Q (F0 m pc ls (.int n :: .int dp :: .ref a :: .int sp :: .ref a0 :: rest)) := by
  obtain ⟨n0, f, n1, g, e0, e1, c1, c2, c3, c4, c5, c6, c7, rfl⟩ := uCpB_n hv
  exact u_copyG hC hP hS (x := .inl f) (y := .inl g) e0 e1 (ty0 := .byte) (ty1 := .byte) rfl rfl rfl c1 c2 c3 c4 c5 c6 (fun vm' _ T _ kd dC _ _ i hi => ⟨c7 i hi, trivial⟩) (fun j => by simp only [uV, va_cpy]; split <;> rfl) hlink hls hframes hlocals hdg kk
theorem u_copyR (hC : uC p s m args meth c G own cc nL ret) (hP : uP G u H) (hS : va_S (uA G) s.heap H locs) {a0 : Nat} {sp dp n : Int32} (hv : uCpR (ub G) u a0 sp a dp n = some u') {index : Nat}
    (hlink : (Cond.methodLink own index arraycopyName) ∈ lw_all) (hls : ls.size = nL) (hframes : 1 ≤ R.frames) (hlocals : (rest.map fun v => v.category).sum + (nativeFrameWords "java/lang/System" "arraycopy" 5 + 11) ≤ R.locals) (hdg : decode cc pc = .ok (.invokestatic index, 3))
    (kk : ∀ (H1 : Heap) (locs1 : List Loc), uP G u' H1 → va_S (uA G) s.heap H1 locs1 → W p l e R s m args below meth c H1 locs1 cells slots Q (F0 m (pc + 3) ls rest)) : W p l e R s m args below meth c H locs cells slots Q (F0 m pc ls (.int n :: .int dp :: .ref a :: .int sp :: .ref a0 :: rest)) := by
  obtain ⟨n0, f, n1, g, e0, e1, c1, c2, c3, c4, c5, c6, c7, rfl⟩ := uCpR_n hv
  refine u_copyG hC hP hS (x := .inr (.inr (.inr (.inr f)))) (y := .inr (.inr (.inr (.inr g)))) e0 e1 (ty0 := .object "java/lang/Object") (ty1 := .object "java/lang/Object") rfl rfl rfl c1 c2 c3 c4 c5 c6 (fun vm' hal T hT kd dC hkd hkind i hi => ?_) (fun j => by simp only [uV, va_cpy]; split <;> rfl) hlink hls hframes hlocals hdg kk
  have hi7 := c7 i hi
  show fits _ (va_rf (f (sp.toNatClampNeg + i))) = true ∧ (T.setVm vm').takes dC (va_rf (f (sp.toNatClampNeg + i)))
  cases hy : f (sp.toNatClampNeg + i) with
  | none => exact ⟨rfl, trivial⟩
  | some y =>
    rw [hy] at hi7
    obtain ⟨cellV, g1, g2, ⟨kC, hkC⟩, hasg⟩ := u_anyO hC hP (a := y) hi7
    obtain ⟨kA, comp, r1, r2, r3, -⟩ := (hC.2.1.1.2 4 _ rfl).2
    cases hkd.symm.trans r1
    cases hkind.symm.trans r2
    obtain ⟨kE, hkE, -⟩ := Vm.findClass_spec r3
    obtain ⟨kC', hkC', -⟩ := hal.2.2 _ _ hkC
    obtain ⟨kE', hkE', -⟩ := hal.2.2 _ _ hkE
    refine ⟨rfl, cellV, (show T.heap[y]? = some cellV by rw [hT]; exact g1), (fun q h => by rw [h] at g2; cases g2), ⟨kC', hkC'⟩, ?_, ?_⟩
    · exact ⟨kE', hkE'⟩
    · show vm'.assignable _ _ = true
      rw [hal.assignable]
      exact hasg _ r3
/-- casts and questions of classes -/
theorem u_instS (hC : uC p s m args meth c G own cc nL ret) (hP : uP G u H) {C : String} {T : u_T} {N ci index : Nat} (hi : uIs u a ci = true) (hc : gCl[ci]? = some (C, T, N)) (hlink : (Cond.classLink own index C) ∈ lw_all) (hdg : decode cc pc = .ok (.instanceof index, 3))
    (kk : W p l e R s m args below meth c H locs cells slots Q (F0 m (pc + 3) ls (.int 1 :: rest))) : W p l e R s m args below meth c H locs cells slots Q (F0 m pc ls (.ref a :: rest)) :=
  va_instS hC.1.1 hC.1.2.1 hC.1.2.2.2.1 (hC.1.2.2.2.2 _ hlink) (hC.2.1.1.1 ci _ hc).2 (u_rcv hC hP hi hc) hdg kk
/-- whether an array of a type lies there -/
def uIsA (u : UH) (a t : Nat) : Bool := match u.2.2 a with
  | some (.inl (t0, _)) => t0 == t
  | _ => false
theorem u_rcvA (hC : uC p s m args meth c G own cc nL ret) (hP : uP G u H) (hi : uIsA u a t = true) {ty : FieldType} (ht : (uTys G)[t]? = some (cA, ty)) : ∃ cell : Cell, H[a]? = some cell ∧ cell.vm.isStatics = false ∧ cell.cls = cA := by
  unfold uIsA at hi
  split at hi
  · rename_i t0 x he
    have : t0 = t := by simpa using hi
    subst this
    obtain ⟨q, cell, h1, q1, q2, q3, -⟩ := hP.2 a _ he
    cases ht.symm.trans h1
    exact ⟨cell, q1, q3.2.1, q2⟩
  · cases hi
theorem u_castB (hC : uC p s m args meth c G own cc nL ret) (hP : uP G u H) {index : Nat} (hi : uIsA u a 1 = true) (hlink : (Cond.classLink own index "[B") ∈ lw_all) (hdg : decode cc pc = .ok (.checkcast index, 3))
    (kk : W p l e R s m args below meth c H locs cells slots Q (F0 m (pc + 3) ls (.ref a :: rest))) : W p l e R s m args below meth c H locs cells slots Q (F0 m pc ls (.ref a :: rest)) := by
  obtain ⟨cell, h1, h2, h3⟩ := u_rcvA hC hP hi (cA := G.2.1 1) (ty := .byte) rfl
  exact va_castE hC.1.1 hC.1.2.1 hC.1.2.2.2.1 (hC.1.2.2.2.2 _ hlink) ⟨cell, h1, h2, by rw [h3]; exact va_nm_byte (hC.2.1.1.2 1 _ rfl).2⟩ hdg kk
/-- class objects -/
theorem u_ldcM (hC : uC p s m args meth c G own cc nL ret) {index : Nat} (hlink : (Cond.classLink own index "[Ljava/lang/Object;") ∈ lw_all) (hdg : decode cc pc = .ok (.ldc index, 2))
    (kk : W p l e R s m args below meth c H locs cells slots Q (F0 m (pc + 2) ls (va_rf ((ug G).1 20) :: rest))) : W p l e R s m args below meth c H locs cells slots Q (F0 m pc ls rest) := by
  obtain ⟨mi, m1, m2⟩ := hC.2.2.1.2.2.2.2.2.2.2.1
  rw [m1] at kk
  exact va_ldcM hC.1.1 hC.1.2.1 hC.1.2.2.2.1 (hC.1.2.2.2.2 _ hlink) m2 hdg kk
theorem u_getC (hC : uC p s m args meth c G own cc nL ret) (hP : uP G u H) {index : Nat} (hi : uIsA u a 4 = true) (hlink : (Cond.methodLink own index ⟨"java/lang/Object", "getClass", "()Ljava/lang/Class;"⟩) ∈ lw_all) (hls : ls.size = nL) (hframes : 1 ≤ R.frames) (hlocals : (rest.map fun v => v.category).sum + 14 ≤ R.locals) (hdg : decode cc pc = .ok (.invokevirtual index, 3))
    (kk : W p l e R s m args below meth c H locs cells slots Q (F0 m (pc + 3) ls (va_rf ((ug G).1 20) :: rest))) : W p l e R s m args below meth c H locs cells slots Q (F0 m pc ls (.ref a :: rest)) := by
  obtain ⟨mi, m1, m2⟩ := hC.2.2.1.2.2.2.2.2.2.2.1
  rw [m1] at kk
  obtain ⟨cell, h1, h2, h3⟩ := u_rcvA hC hP hi (cA := G.2.1 4) (ty := .object "java/lang/Object") rfl
  exact va_getC hC.1.1 hC.1.2.1 (by rw [hC.1.2.2.1, hls]) hC.1.2.2.2.1 (hC.1.2.2.2.2 _ hlink) (hC.2.1.2.1.use q2583 rfl) (hC.1.2.2.2.2 _ q2582) (hC.1.2.2.2.2 _ q955) (hC.1.2.2.2.2 _ q983) m2 ⟨cell, h1, h2, by rw [h3]; exact va_nmO (hC.2.1.1.2 4 _ rfl).2 (by decide +kernel)⟩ hframes hlocals hdg kk
/-- Way.values: the array of the ways, cloned -/
def uClW (g : uEnv) (u : UH) (a : Nat) : Option UH := match u.2.2 a with
  | some (.inl (t, n, .inr (.inr (.inr (.inr f))))) => if t = 5 ∧ n = 4 ∧ g.1 9 = some a then some (uNew u 4 (.inl (5, 4, .inr (.inr (.inr (.inr f)))))) else none
  | _ => none
theorem uClW_n {g : uEnv} {u u' : UH} {a : Nat} (h : uClW g u a = some u') : ∃ f, u.2.2 a = some (.inl (5, 4, .inr (.inr (.inr (.inr f))))) ∧ g.1 9 = some a ∧ u' = uNew u 4 (.inl (5, 4, .inr (.inr (.inr (.inr f))))) := by
  unfold uClW at h
  split at h
  · rename_i t n f he
    obtain ⟨⟨rfl, rfl, h1⟩, h2⟩ := mif_n h
    cases h2
    exact ⟨f, he, h1, rfl⟩
  · cases h
theorem uClW_sz {g : uEnv} {u u' : UH} {a : Nat} (h : uClW g u a = some u') : u'.1 = u.1 + 1 ∧ u'.2.1 = u.2.1 + 4 := by
  obtain ⟨f, -, -, rfl⟩ := uClW_n h
  exact ⟨rfl, rfl⟩
theorem u_cloneW (hC : uC p s m args meth c G own cc nL ret) (hP : uP G u H) (hS : va_S (uA G) s.heap H locs) (hv : uClW (ug G) u a = some u') {index : Nat} (hlink : (Cond.methodLink own index ⟨"[LSoftWheels$Way;", "clone", "()Ljava/lang/Object;"⟩) ∈ lw_all) (hls : ls.size = nL) (hframes : 1 ≤ R.frames) (hlocals : (rest.map fun v => v.category).sum + 14 ≤ R.locals) (hcells : cells + 1 ≤ R.cells) (hslots : slots + 4 ≤ R.slots) (hdg : decode cc pc = .ok (.invokevirtual index, 3))
    (kk : ∀ H1 : Heap, uP G u' H1 → va_S (uA G) s.heap H1 locs → W p l e R s m args below meth c H1 locs (cells + 1) (slots + 4) Q (F0 m (pc + 3) ls (.ref u.1 :: rest))) : W p l e R s m args below meth c H locs cells slots Q (F0 m pc ls (.ref a :: rest)) := by
  have hb0 := u_sz hC hP hS
  obtain ⟨⟨hx, hb, hml, hown, hts⟩, hK, ⟨-, hZ⟩, -⟩ := hC
  obtain ⟨f, he, hg9, rfl⟩ := uClW_n hv
  obtain ⟨va, vc, v1, v2, v3, v4, -⟩ := hZ.2.2.2.2.2.2.2.2.2
  cases hg9.symm.trans v1
  obtain ⟨q, cell, h0, e1, g1, w1, z1, s1⟩ := hP.2 a _ he
  cases (show (uTys G)[5]? = some (G.2.1 5, FieldType.object "SoftWheels$Way") from rfl).symm.trans h0
  have hsz : cell.slots.size = 4 := by
    have h2 := hS.2.1 a (Array.getElem?_eq_some_iff.mp v3).1 v2
    rw [e1, v3] at h2
    cases h2
    exact v4
  have hnm : s.vm.findClass "[LSoftWheels$Way;" = some (G.2.1 5) := va_nmO (hK.1.2 5 _ rfl).2 (by decide +kernel)
  obtain ⟨c0, t0', f1, f2, f3⟩ := Cond.castable_spec (hK.2.1.use (A := args) q1129 rfl)
  cases hnm.symm.trans f1
  intro T hT X
  have hcellT : T.heap[a]? = some cell := by rw [hT]; exact e1
  obtain ⟨-, kA, hkA, comp, hkind⟩ := State.isArrayOf_alike X.warmed.alike ((hK.1.2 5 _ rfl).1 0 (fun _ => .null))
  obtain ⟨-, kS, hkS, compS, hkindS⟩ := (hK.1.2 5 _ rfl).1 0 (fun _ => .null)
  obtain ⟨vm', X', st⟩ := X.cloneArray hx hown (hts _ hlink) (hts _ q1127) (hts _ q420) (hts _ q421) (hts _ q1128) (a := a) (cell := cell) hcellT (fun k h => by have := w1.2.1; rw [h] at this; cases this) w1.1 (by rw [g1]; exact hnm) f2 (by rw [g1]; exact f3)
    (fun i v hv => by
      rw [g1]
      have hi : i < 4 := by rw [← hsz]; exact (Array.getElem?_eq_some_iff.mp hv).1
      have hv2 : v = va_rf (f i) := Option.some.inj (hv.symm.trans (s1 i hi))
      have hk' : T.vm.classes[G.2.1 5]? = some kA := hkA
      have hf : fits (.object "SoftWheels$Way") v = true := by rw [hv2]; exact (uNarR _ _).2
      simpa [State.fitsSlot, State.slotType?, hk', hkind] using hf)
    (g := F0 m pc ls (.ref a :: rest)) rfl (by show ls.size = _; rw [hls, hml]) rfl (by rw [hb]; exact hdg) hframes (by show 2 * 0 + _ + 14 ≤ _; omega) hcells (by rw [hsz]; exact hslots) (hloader := by rw [g1]; exact Vm.clonesLoader_of_array hkS hkindS)
  rw [hsz] at X'
  generalize hH1 : H.push ({ cls := cell.cls, slots := cell.slots } : Cell) = H1
  have z1' : H1.size = H.size + 1 := by rw [← hH1, Array.size_push]
  have e1' : H1[u.1]? = some ({ cls := cell.cls, slots := cell.slots } : Cell) := by rw [← hH1, ← hP.1, Array.getElem?_push_size]
  have o1 : ∀ q : Nat, q < H.size → H1[q]? = H[q]? := fun q hq => by rw [← hH1, Array.getElem?_push, if_neg (Nat.ne_of_lt hq)]
  obtain ⟨t, b1, b2⟩ := kk H1 (hP.new z1' ⟨(G.2.1 5, .object "SoftWheels$Way"), _, rfl, e1', g1, ⟨fun h => (by cases h), rfl, fun _ => rfl⟩, ⟨Nat.le_of_eq hsz.symm, by show cell.slots.size.toInt32 = _; rw [hsz]⟩, s1⟩ o1) ⟨Nat.le_trans hS.1 (by rw [z1']; omega), fun q h1 h2 => (o1 q (Nat.lt_of_lt_of_le h1 hS.1)).trans (hS.2.1 q h1 h2), hS.2.2⟩ ((T.setVm vm').pushCell { cls := cell.cls, slots := cell.slots }) (by rw [← hH1, ← hT]; rfl) X'
  refine ⟨t, st t ?_, b2⟩
  rw [hT, hP.1]
  exact b1
theorem u_castW (hC : uC p s m args meth c G own cc nL ret) (hP : uP G u H) {index : Nat} (hi : uIsA u a 5 = true) (hlink : (Cond.classLink own index "[LSoftWheels$Way;") ∈ lw_all) (hdg : decode cc pc = .ok (.checkcast index, 3))
    (kk : W p l e R s m args below meth c H locs cells slots Q (F0 m (pc + 3) ls (.ref a :: rest))) : W p l e R s m args below meth c H locs cells slots Q (F0 m pc ls (.ref a :: rest)) := by
  obtain ⟨cell, h1, h2, h3⟩ := u_rcvA hC hP hi (cA := G.2.1 5) (ty := .object "SoftWheels$Way") rfl
  exact va_castE hC.1.1 hC.1.2.1 hC.1.2.2.2.1 (hC.1.2.2.2.2 _ hlink) ⟨cell, h1, h2, by rw [h3]; exact va_nmO (hC.2.1.1.2 5 _ rfl).2 (by decide +kernel)⟩ hdg kk
/-- the small Integers -/
theorem u_cach (hC : uC p s m args meth c G own cc nL ret) (hS : va_S (uA G) s.heap H locs) (he : (ug G).1 11 = some a) {i : Int32} (hi : mIn i 256 = true) (hdg : decode cc pc = .ok (.aaload, 1))
    (kk : W p l e R s m args below meth c H locs cells slots Q (F0 m (pc + 1) ls (.ref ((ug G).2.2 i.toNatClampNeg) :: rest))) : W p l e R s m args below meth c H locs cells slots Q (F0 m pc ls (.int i :: .ref a :: rest)) := by
  obtain ⟨t, t1, t2⟩ := hC.2.2.1.2.2.2.2.2.2.2.2.2.1
  cases he.symm.trans t1
  exact vb_tq hC.1.1 hC.1.2.1 t2 hS (mIn_vp hi) rfl hdg kk
theorem u_castY2 (hC : uC p s m args meth c G own cc nL ret) (hP : uP G u H) {C1 C2 nm : String} {T1 T2 : u_T} {N1 N2 ci1 ci2 index : Nat} (hi : uIs u a ci1 = true ∨ uIs u a ci2 = true) (hc1 : gCl[ci1]? = some (C1, T1, N1)) (hc2 : gCl[ci2]? = some (C2, T2, N2)) (hcs1 : (Cond.castable C1 nm) ∈ lw_tbl) (hcs2 : (Cond.castable C2 nm) ∈ lw_tbl) (hlink : (Cond.classLink own index nm) ∈ lw_all) (hdg : decode cc pc = .ok (.checkcast index, 3))
    (kk : W p l e R s m args below meth c H locs cells slots Q (F0 m (pc + 3) ls (.ref a :: rest))) : W p l e R s m args below meth c H locs cells slots Q (F0 m pc ls (.ref a :: rest)) := by
  rcases hi with hi | hi
  · exact u_castY hC hP hi hc1 hcs1 hlink hdg kk
  · exact u_castY hC hP hi hc2 hcs2 hlink hdg kk
end UROWS6

/-! THE HEAP's KIT, 2: arrays, new cells -/
def uLdI (u : UH) (a t : Nat) (i : Int32) : Option Int32 := match u.2.2 a with
  | some (.inl (c, n, .inl f)) => if c = t ∧ mIn i n = true then some (f i.toNatClampNeg) else none
  | _ => none
def uLdL (u : UH) (a t : Nat) (i : Int32) : Option Int64 := match u.2.2 a with
  | some (.inl (c, n, .inr (.inl f))) => if c = t ∧ mIn i n = true then some (f i.toNatClampNeg) else none
  | _ => none
def uLdR (u : UH) (a t : Nat) (i : Int32) : Option (Option Nat) := match u.2.2 a with
  | some (.inl (c, n, .inr (.inr (.inr (.inr f))))) => if c = t ∧ mIn i n = true then some (f i.toNatClampNeg) else none
  | _ => none
def uLen (u : UH) (a t : Nat) : Option Int32 := match u.2.2 a with
  | some (.inl (c, n, _)) => if c = t then some (Int32.ofNat n) else none
  | _ => none
def uStI (b : Nat) (u : UH) (a t : Nat) (i x : Int32) : Option UH := match u.2.2 a with
  | some (.inl (c, n, .inl f)) => if c = t ∧ b ≤ a ∧ mIn i n = true then some (uSet u a (.inl (c, n, .inl (upd f i.toNatClampNeg x)))) else none
  | _ => none
def uStL (b : Nat) (u : UH) (a t : Nat) (i : Int32) (x : Int64) : Option UH := match u.2.2 a with
  | some (.inl (c, n, .inr (.inl f))) => if c = t ∧ b ≤ a ∧ mIn i n = true then some (uSet u a (.inl (c, n, .inr (.inl (vp_updL f i.toNatClampNeg x))))) else none
  | _ => none
def uStR (b : Nat) (u : UH) (a t : Nat) (i : Int32) (x : Option Nat) : Option UH := match u.2.2 a with
  | some (.inl (c, n, .inr (.inr (.inr (.inr f))))) => if c = t ∧ b ≤ a ∧ mIn i n = true then some (uSet u a (.inl (c, n, .inr (.inr (.inr (.inr (va_up f i.toNatClampNeg x))))))) else none
  | _ => none
theorem uLdI_n {u : UH} {a t : Nat} {i x : Int32} (h : uLdI u a t i = some x) : ∃ n f, u.2.2 a = some (.inl (t, n, .inl f)) ∧ mIn i n = true ∧ x = f i.toNatClampNeg := by
  unfold uLdI at h
  split at h
  · rename_i c n f he
    obtain ⟨⟨rfl, h1⟩, h2⟩ := mif_n h
    cases h2
    exact ⟨n, f, he, h1, rfl⟩
  · cases h
theorem uLdL_n {u : UH} {a t : Nat} {i : Int32} {x : Int64} (h : uLdL u a t i = some x) : ∃ n f, u.2.2 a = some (.inl (t, n, .inr (.inl f))) ∧ mIn i n = true ∧ x = f i.toNatClampNeg := by
  unfold uLdL at h
  split at h
  · rename_i c n f he
    obtain ⟨⟨rfl, h1⟩, h2⟩ := mif_n h
    cases h2
    exact ⟨n, f, he, h1, rfl⟩
  · cases h
theorem uLdR_n {u : UH} {a t : Nat} {i : Int32} {x : Option Nat} (h : uLdR u a t i = some x) : ∃ n f, u.2.2 a = some (.inl (t, n, .inr (.inr (.inr (.inr f))))) ∧ mIn i n = true ∧ x = f i.toNatClampNeg := by
  unfold uLdR at h
  split at h
  · rename_i c n f he
    obtain ⟨⟨rfl, h1⟩, h2⟩ := mif_n h
    cases h2
    exact ⟨n, f, he, h1, rfl⟩
  · cases h
theorem uLen_n {u : UH} {a t : Nat} {x : Int32} (h : uLen u a t = some x) : ∃ n f, u.2.2 a = some (.inl (t, n, f)) ∧ x = Int32.ofNat n := by
  unfold uLen at h
  split at h
  · rename_i c n f he
    obtain ⟨rfl, h2⟩ := mif_n h
    cases h2
    exact ⟨n, f, he, rfl⟩
  · cases h
theorem uStI_n {b : Nat} {u u' : UH} {a t : Nat} {i x : Int32} (h : uStI b u a t i x = some u') : ∃ n f, u.2.2 a = some (.inl (t, n, .inl f)) ∧ b ≤ a ∧ mIn i n = true ∧ u' = uSet u a (.inl (t, n, .inl (upd f i.toNatClampNeg x))) := by
  unfold uStI at h
  split at h
  · rename_i c n f he
    obtain ⟨⟨rfl, h1, h3⟩, h2⟩ := mif_n h
    cases h2
    exact ⟨n, f, he, h1, h3, rfl⟩
  · cases h
theorem uStL_n {b : Nat} {u u' : UH} {a t : Nat} {i : Int32} {x : Int64} (h : uStL b u a t i x = some u') : ∃ n f, u.2.2 a = some (.inl (t, n, .inr (.inl f))) ∧ b ≤ a ∧ mIn i n = true ∧ u' = uSet u a (.inl (t, n, .inr (.inl (vp_updL f i.toNatClampNeg x)))) := by
  unfold uStL at h
  split at h
  · rename_i c n f he
    obtain ⟨⟨rfl, h1, h3⟩, h2⟩ := mif_n h
    cases h2
    exact ⟨n, f, he, h1, h3, rfl⟩
  · cases h
theorem uStR_n {b : Nat} {u u' : UH} {a t : Nat} {i : Int32} {x : Option Nat} (h : uStR b u a t i x = some u') : ∃ n f, u.2.2 a = some (.inl (t, n, .inr (.inr (.inr (.inr f))))) ∧ b ≤ a ∧ mIn i n = true ∧ u' = uSet u a (.inl (t, n, .inr (.inr (.inr (.inr (va_up f i.toNatClampNeg x)))))) := by
  unfold uStR at h
  split at h
  · rename_i c n f he
    obtain ⟨⟨rfl, h1, h3⟩, h2⟩ := mif_n h
    cases h2
    exact ⟨n, f, he, h1, h3, rfl⟩
  · cases h
theorem uArr {s : State} {cell : Cell} {q : ClassId × FieldType} (hA : ArrOfT s q.1 q.2) (hc : cell.cls = q.1) (hv : cell.vm.isStatics = false) : s.isArrayOf cell q.2 := by
  obtain ⟨-, kA, h1, h2⟩ := hA 0 (fun _ => .null)
  exact ⟨fun k h => (by rw [h] at hv; cases hv), kA, (by rw [hc]; exact h1), h2⟩
theorem uIx {i : Int32} {n z : Nat} (h : mIn i n = true) (hz : n ≤ z) : ¬ (i < 0 ∨ z ≤ i.toNatClampNeg) := by
  have h1 := mIn_vp h
  intro h2
  rcases h2 with h2 | h2
  · exact h1 (Or.inl h2)
  · exact h1 (Or.inr (Nat.le_trans hz h2))
theorem uIx2 {i : Int32} {n : Nat} (h : mIn i n = true) : i.toNatClampNeg < n := Nat.not_le.mp fun q => mIn_vp h (Or.inr q)
/-- an array written: the new cell -/
theorem uAt_ast {G : uG} {a t n i : Nat} {x y : (Nat → Int32) ⊕ (Nat → Int64) ⊕ (Nat → UInt32) ⊕ (Nat → UInt64) ⊕ (Nat → Option Nat)} {cell : Cell} {v : Value} {H1 : Heap} {q : ClassId × FieldType} (h0 : (uTys G)[t]? = some q) (e1 : H1[a]? = some (cell.setSlot i v)) (q2 : cell.cls = q.1) (q3 : uVm G a cell) (q4 : n ≤ cell.slots.size ∧ cell.slots.size.toInt32 = Int32.ofNat n) (q5 : ∀ j : Nat, j < n → cell.slots[j]? = some (uV x j)) (hi : i < n) (hy : ∀ j : Nat, uV y j = if j = i then v else uV x j) : uAt G a (.inl (t, n, y)) H1 := by
  have hz : (cell.setSlot i v).slots.size = cell.slots.size := by simp [Cell.setSlot]
  refine ⟨q, _, h0, e1, q2, q3, by rw [hz]; exact q4, fun j hj => ?_⟩
  show (cell.setSlot i v).slots[j]? = some (uV y j)
  rw [hy j]
  by_cases hji : j = i
  · subst hji
    rw [if_pos rfl]
    exact Cell.slots_setSlot_self v (by omega)
  · rw [if_neg hji, slot_ne _ _ (Ne.symm hji)]
    exact q5 j hj
section UROWS2
variable {p : Program} {l : Launch} {e : Env} {R : Room} {s : State} {m : MethodId} {args : Array Value} {below : List Frame} {meth : Method} {c : Code} {H : Heap} {locs : List Loc} {cells slots : Nat} {Q : State → Prop}
variable {cc : ByteArray} {pc nL : Nat} {ls : Array Slot} {rest st : List Value} {G : uG} {u u' : UH} {ret : Option FieldType} {own : String} {a t : Nat} {cA : ClassId}
theorem u_iald (hC : uC p s m args meth c G own cc nL ret) (hP : uP G u H) {i x : Int32} (hv : uLdI u a t i = some x) (ht : (uTys G)[t]? = some (cA, .int)) (hdg : decode cc pc = .ok (.iaload, 1))
    (kk : W p l e R s m args below meth c H locs cells slots Q (F0 m (pc + 1) ls (.int x :: rest))) : W p l e R s m args below meth c H locs cells slots Q (F0 m pc ls (.int i :: .ref a :: rest)) := by
  obtain ⟨⟨hx, hb, hml, hown, hts⟩, hK, -⟩ := id hC
  obtain ⟨n, f, he, hi, rfl⟩ := uLdI_n hv
  obtain ⟨q, cell, h0, q1, q2, q3, q4, q5⟩ := hP.2 a _ he
  cases ht.symm.trans h0
  exact W.iald hx hb q1 (uArr (hC.arr ht) q2 q3.2.1) q3.1 (uIx hi q4.1) (q5 _ (uIx2 hi)) rfl rfl hdg kk
theorem u_bald (hC : uC p s m args meth c G own cc nL ret) (hP : uP G u H) {i x : Int32} (hv : uLdI u a t i = some x) (ht : (uTys G)[t]? = some (cA, .byte)) (hdg : decode cc pc = .ok (.baload, 1))
    (kk : W p l e R s m args below meth c H locs cells slots Q (F0 m (pc + 1) ls (.int x :: rest))) : W p l e R s m args below meth c H locs cells slots Q (F0 m pc ls (.int i :: .ref a :: rest)) := by
  obtain ⟨⟨hx, hb, hml, hown, hts⟩, hK, -⟩ := id hC
  obtain ⟨n, f, he, hi, rfl⟩ := uLdI_n hv
  obtain ⟨q, cell, h0, q1, q2, q3, q4, q5⟩ := hP.2 a _ he
  cases ht.symm.trans h0
  exact W.bald hx hb q1 (uArr (hC.arr ht) q2 q3.2.1) q3.1 (uIx hi q4.1) (q5 _ (uIx2 hi)) rfl rfl hdg kk
theorem u_zald (hC : uC p s m args meth c G own cc nL ret) (hP : uP G u H) {i x : Int32} (hv : uLdI u a t i = some x) (ht : (uTys G)[t]? = some (cA, .boolean)) (hdg : decode cc pc = .ok (.baload, 1))
    (kk : W p l e R s m args below meth c H locs cells slots Q (F0 m (pc + 1) ls (.int x :: rest))) : W p l e R s m args below meth c H locs cells slots Q (F0 m pc ls (.int i :: .ref a :: rest)) := by
  obtain ⟨⟨hx, hb, hml, hown, hts⟩, hK, -⟩ := id hC
  obtain ⟨n, f, he, hi, rfl⟩ := uLdI_n hv
  obtain ⟨q, cell, h0, q1, q2, q3, q4, q5⟩ := hP.2 a _ he
  cases ht.symm.trans h0
  exact W.zald hx hb q1 (uArr (hC.arr ht) q2 q3.2.1) q3.1 (uIx hi q4.1) (q5 _ (uIx2 hi)) rfl rfl hdg kk
theorem u_lald (hC : uC p s m args meth c G own cc nL ret) (hP : uP G u H) {i : Int32} {x : Int64} (hv : uLdL u a t i = some x) (ht : (uTys G)[t]? = some (cA, .long)) (hdg : decode cc pc = .ok (.laload, 1))
    (kk : W p l e R s m args below meth c H locs cells slots Q (F0 m (pc + 1) ls (.long x :: rest))) : W p l e R s m args below meth c H locs cells slots Q (F0 m pc ls (.int i :: .ref a :: rest)) := by
  obtain ⟨⟨hx, hb, hml, hown, hts⟩, hK, -⟩ := id hC
  obtain ⟨n, f, he, hi, rfl⟩ := uLdL_n hv
  obtain ⟨q, cell, h0, q1, q2, q3, q4, q5⟩ := hP.2 a _ he
  cases ht.symm.trans h0
  exact W.lald hx hb q1 (uArr (hC.arr ht) q2 q3.2.1) q3.1 (uIx hi q4.1) (q5 _ (uIx2 hi)) rfl rfl hdg kk
theorem u_aald (hC : uC p s m args meth c G own cc nL ret) (hP : uP G u H) {i : Int32} {x : Option Nat} {C : String} (hv : uLdR u a t i = some x) (ht : (uTys G)[t]? = some (cA, .object C)) (hdg : decode cc pc = .ok (.aaload, 1))
    (kk : W p l e R s m args below meth c H locs cells slots Q (F0 m (pc + 1) ls (va_rf x :: rest))) : W p l e R s m args below meth c H locs cells slots Q (F0 m pc ls (.int i :: .ref a :: rest)) := by
  obtain ⟨⟨hx, hb, hml, hown, hts⟩, hK, -⟩ := id hC
  obtain ⟨n, f, he, hi, rfl⟩ := uLdR_n hv
  obtain ⟨q, cell, h0, q1, q2, q3, q4, q5⟩ := hP.2 a _ he
  cases ht.symm.trans h0
  exact W.aald hx hb q1 (uArr (hC.arr ht) q2 q3.2.1) rfl q3.1 (uIx hi q4.1) (q5 _ (uIx2 hi)) rfl rfl hdg kk
theorem u_alen (hC : uC p s m args meth c G own cc nL ret) (hP : uP G u H) {x : Int32} (hv : uLen u a t = some x) (hdg : decode cc pc = .ok (.arraylength, 1))
    (kk : W p l e R s m args below meth c H locs cells slots Q (F0 m (pc + 1) ls (.int x :: rest))) : W p l e R s m args below meth c H locs cells slots Q (F0 m pc ls (.ref a :: rest)) := by
  obtain ⟨⟨hx, hb, hml, hown, hts⟩, hK, -⟩ := id hC
  obtain ⟨n, f, he, rfl⟩ := uLen_n hv
  obtain ⟨q, cell, h0, q1, q2, q3, q4, q5⟩ := hP.2 a _ he
  exact W.alen hx hb q1 (uArr (hC.arr h0) q2 q3.2.1) q4.2 rfl rfl hdg kk
theorem u_iast (hC : uC p s m args meth c G own cc nL ret) (hP : uP G u H) (hS : va_S (uA G) s.heap H locs) {i x : Int32} (hv : uStI (ub G) u a t i x = some u') (ht : (uTys G)[t]? = some (cA, .int)) (hdg : decode cc pc = .ok (.iastore, 1))
    (kk : ∀ (H1 : Heap) (locs1 : List Loc), uP G u' H1 → va_S (uA G) s.heap H1 locs1 → W p l e R s m args below meth c H1 locs1 cells slots Q (F0 m (pc + 1) ls rest)) : W p l e R s m args below meth c H locs cells slots Q (F0 m pc ls (.int x :: .int i :: .ref a :: rest)) := by
  obtain ⟨⟨hx, hb, hml, hown, hts⟩, hK, -⟩ := id hC
  obtain ⟨n, f, he, hba, hi, rfl⟩ := uStI_n hv
  obtain ⟨q, cell, h0, q1, q2, q3, q4, q5⟩ := hP.2 a _ he
  cases ht.symm.trans h0
  exact W.iast hx hb q1 (uArr (hC.arr ht) q2 q3.2.1) q3.1 (uIx hi q4.1) rfl rfl hdg fun H1 e1 z oq => kk H1 _ (hP.set z (uAt_ast h0 e1 q2 q3 q4 q5 (uIx2 hi) (fun j => by simp only [uV, upd]; split <;> rfl)) oq) (hS.put z oq hba)
theorem u_bast (hC : uC p s m args meth c G own cc nL ret) (hP : uP G u H) (hS : va_S (uA G) s.heap H locs) {i x : Int32} (hv : uStI (ub G) u a t i (vp_nar .byte x) = some u') (ht : (uTys G)[t]? = some (cA, .byte)) (hdg : decode cc pc = .ok (.bastore, 1))
    (kk : ∀ (H1 : Heap) (locs1 : List Loc), uP G u' H1 → va_S (uA G) s.heap H1 locs1 → W p l e R s m args below meth c H1 locs1 cells slots Q (F0 m (pc + 1) ls rest)) : W p l e R s m args below meth c H locs cells slots Q (F0 m pc ls (.int x :: .int i :: .ref a :: rest)) := by
  obtain ⟨⟨hx, hb, hml, hown, hts⟩, hK, -⟩ := id hC
  obtain ⟨n, f, he, hba, hi, rfl⟩ := uStI_n hv
  obtain ⟨q, cell, h0, q1, q2, q3, q4, q5⟩ := hP.2 a _ he
  cases ht.symm.trans h0
  exact W.bast hx hb q1 (uArr (hC.arr ht) q2 q3.2.1) q3.1 (uIx hi q4.1) rfl rfl hdg fun H1 e1 z oq => kk H1 _ (hP.set z (uAt_ast h0 e1 q2 q3 q4 q5 (uIx2 hi) (fun j => by simp only [uV, upd]; split <;> rfl)) oq) (hS.put z oq hba)
theorem u_zast (hC : uC p s m args meth c G own cc nL ret) (hP : uP G u H) (hS : va_S (uA G) s.heap H locs) {i x : Int32} (hv : uStI (ub G) u a t i (vp_nar .boolean x) = some u') (ht : (uTys G)[t]? = some (cA, .boolean)) (hdg : decode cc pc = .ok (.bastore, 1))
    (kk : ∀ (H1 : Heap) (locs1 : List Loc), uP G u' H1 → va_S (uA G) s.heap H1 locs1 → W p l e R s m args below meth c H1 locs1 cells slots Q (F0 m (pc + 1) ls rest)) : W p l e R s m args below meth c H locs cells slots Q (F0 m pc ls (.int x :: .int i :: .ref a :: rest)) := by
  obtain ⟨⟨hx, hb, hml, hown, hts⟩, hK, -⟩ := id hC
  obtain ⟨n, f, he, hba, hi, rfl⟩ := uStI_n hv
  obtain ⟨q, cell, h0, q1, q2, q3, q4, q5⟩ := hP.2 a _ he
  cases ht.symm.trans h0
  exact W.zast hx hb q1 (uArr (hC.arr ht) q2 q3.2.1) q3.1 (uIx hi q4.1) rfl rfl hdg fun H1 e1 z oq => kk H1 _ (hP.set z (uAt_ast h0 e1 q2 q3 q4 q5 (uIx2 hi) (fun j => by simp only [uV, upd]; split <;> rfl)) oq) (hS.put z oq hba)
theorem u_last (hC : uC p s m args meth c G own cc nL ret) (hP : uP G u H) (hS : va_S (uA G) s.heap H locs) {i : Int32} {x : Int64} (hv : uStL (ub G) u a t i x = some u') (ht : (uTys G)[t]? = some (cA, .long)) (hdg : decode cc pc = .ok (.lastore, 1))
    (kk : ∀ (H1 : Heap) (locs1 : List Loc), uP G u' H1 → va_S (uA G) s.heap H1 locs1 → W p l e R s m args below meth c H1 locs1 cells slots Q (F0 m (pc + 1) ls rest)) : W p l e R s m args below meth c H locs cells slots Q (F0 m pc ls (.long x :: .int i :: .ref a :: rest)) := by
  obtain ⟨⟨hx, hb, hml, hown, hts⟩, hK, -⟩ := id hC
  obtain ⟨n, f, he, hba, hi, rfl⟩ := uStL_n hv
  obtain ⟨q, cell, h0, q1, q2, q3, q4, q5⟩ := hP.2 a _ he
  cases ht.symm.trans h0
  exact W.last hx hb q1 (uArr (hC.arr ht) q2 q3.2.1) q3.1 (uIx hi q4.1) rfl rfl hdg fun H1 e1 z oq => kk H1 _ (hP.set z (uAt_ast h0 e1 q2 q3 q4 q5 (uIx2 hi) (fun j => by simp only [uV, vp_updL]; split <;> rfl)) oq) (hS.put z oq hba)
theorem u_aastN (hC : uC p s m args meth c G own cc nL ret) (hP : uP G u H) (hS : va_S (uA G) s.heap H locs) {i : Int32} {C : String} (hv : uStR (ub G) u a t i none = some u') (ht : (uTys G)[t]? = some (cA, .object C)) (hdg : decode cc pc = .ok (.aastore, 1))
    (kk : ∀ (H1 : Heap) (locs1 : List Loc), uP G u' H1 → va_S (uA G) s.heap H1 locs1 → W p l e R s m args below meth c H1 locs1 cells slots Q (F0 m (pc + 1) ls rest)) : W p l e R s m args below meth c H locs cells slots Q (F0 m pc ls (.null :: .int i :: .ref a :: rest)) := by
  obtain ⟨⟨hx, hb, hml, hown, hts⟩, hK, -⟩ := id hC
  obtain ⟨n, f, he, hba, hi, rfl⟩ := uStR_n hv
  obtain ⟨q, cell, h0, q1, q2, q3, q4, q5⟩ := hP.2 a _ he
  cases ht.symm.trans h0
  exact va_WaastN (C := C) hx hb q1 (uArr (hC.arr ht) q2 q3.2.1) q3.1 (uIx hi q4.1) rfl rfl hdg fun H1 e1 z oq => kk H1 _ (hP.set z (uAt_ast h0 e1 q2 q3 q4 q5 (uIx2 hi) (fun j => by simp only [uV, va_up]; split <;> rfl)) oq) (hS.put z oq hba)
theorem u_aast (hC : uC p s m args meth c G own cc nL ret) (hP : uP G u H) (hS : va_S (uA G) s.heap H locs) {i : Int32} {v : Nat} {C : String} (hv : uStR (ub G) u a t i (some v) = some u') (ht : (uTys G)[t]? = some (cA, .object C)) (hr : va_Any C s H v) (hdg : decode cc pc = .ok (.aastore, 1))
    (kk : ∀ (H1 : Heap) (locs1 : List Loc), uP G u' H1 → va_S (uA G) s.heap H1 locs1 → W p l e R s m args below meth c H1 locs1 cells slots Q (F0 m (pc + 1) ls rest)) : W p l e R s m args below meth c H locs cells slots Q (F0 m pc ls (.ref v :: .int i :: .ref a :: rest)) := by
  obtain ⟨⟨hx, hb, hml, hown, hts⟩, hK, -⟩ := id hC
  obtain ⟨n, f, he, hba, hi, rfl⟩ := uStR_n hv
  obtain ⟨q, cell, h0, q1, q2, q3, q4, q5⟩ := hP.2 a _ he
  cases ht.symm.trans h0
  obtain ⟨cellV, g1, g3, ⟨kC, hkC⟩, hasg⟩ := hr
  obtain ⟨kA, comp, k1, k2, k3, -⟩ := (hC.ra ht)
  obtain ⟨kE, hkE, -⟩ := Vm.findClass_spec k3
  have hn := uIx hi q4.1
  exact W.aast hx hb q1 (fun q h => by have := q3.2.1; rw [h] at this; cases this) q3.1 (by rw [q2]; exact k1) k2 rfl hkE ⟨fun z => hn (Or.inl z), Nat.not_le.mp fun z => hn (Or.inr z)⟩ g1 (fun q h => by rw [h] at g3; cases g3) hkC (hasg _ k3) rfl rfl hdg fun H1 e1 z oq => kk H1 _ (hP.set z (uAt_ast h0 e1 q2 q3 q4 q5 (uIx2 hi) (fun j => by simp only [uV, va_up]; split <;> rfl)) oq) (hS.put z oq hba)
end UROWS2

/-! THE MODEL's KIT: one abstract state σ for the one object of SoftWheelsModel and its 35 arrays; rows for its fields, arrays and calls -/
abbrev MS : Type := (Nat → Int32) × (Nat → Nat → Int32) × (Nat → Int64)
/-- the fields that hold arrays -/
def mIx : List Nat := [1, 11, 14, 15, 16, 17, 18, 19, 20, 21, 30, 31, 32, 33, 41, 42, 43, 44, 45, 46, 47, 48, 52, 53, 54, 56, 57, 60, 61, 62, 68, 70, 71, 72, 74]
def mLen (j : Nat) : Nat := match j with
  | 1 => 500 | 11 => 8 | 14 => 64 | 15 => 8 | 16 => 64 | 17 => 8 | 18 => 8 | 19 => 8 | 20 => 64 | 21 => 64 | 30 => 6 | 31 => 6 | 32 => 6 | 33 => 400
  | 41 => 100 | 42 => 100 | 43 => 100 | 44 => 5 | 45 => 5 | 46 => 40 | 47 => 6 | 48 => 102400 | 52 => 20 | 53 => 5 | 54 => 2000 | 56 => 4096 | 57 => 8
  | 60 => 8 | 61 => 8 | 62 => 8 | 68 => 15625 | 70 => 400 | 71 => 3200 | 72 => 100 | _ => 2000
def mInt (j : Nat) : Bool := mIx.contains j && !(j == 48) && !(j == 62)
def mFI (k : Nat) : Bool := !(mIx.contains k)
/-- dC and dI, the classes, the model's place among them, its address, its arrays' addresses, the classes of [I, [Z, [J -/
abbrev mE : Type := va_G × List vw_C × Nat × Nat × (Nat → Nat) × ClassId × ClassId × ClassId
abbrev mh (E : mE) : Nat := E.2.2.2.1
abbrev mad (E : mE) : Nat → Nat := E.2.2.2.2.1
def mF (ad : Nat → Nat) (σ : MS) : List Value := (List.range 75).map fun k => if mFI k = true then Value.int (σ.1 k) else Value.ref (ad k)
def mEl (E : mE) (σ : MS) (j : Nat) : Nat × va_E := (mad E j, .inl (if j = 48 then E.2.2.2.2.2.2.2 else if j = 62 then E.2.2.2.2.2.2.1 else E.2.2.2.2.2.1, mLen j, if j = 48 then .inr (.inl σ.2.2) else .inl (σ.2.1 j)))
def mPic (E : mE) (σ : MS) : va_W := (mh E, .inr (E.2.2.1, mF (mad E) σ)) :: mIx.map (mEl E σ)
def mσ0 : MS := (fun _ => 0, fun _ _ => 0, fun _ => 0)
def mSet (σ : MS) (k : Nat) (v : Int32) : MS := (upd σ.1 k v, σ.2.1, σ.2.2)
def mArr (σ : MS) (j i : Nat) (x : Int32) : MS := (σ.1, fun k => if k = j then upd (σ.2.1 j) i x else σ.2.1 k, σ.2.2)
def mVal (σ : MS) (i : Nat) (x : Int64) : MS := (σ.1, σ.2.1, vp_updL σ.2.2 i x)
def mP (E : mE) (σ : MS) (H : Heap) : Prop := va_P E.1 E.2.1 (mPic E σ) H
def mTys (E : mE) : List (ClassId × FieldType) := [(E.2.2.2.2.2.1, .int), (E.2.2.2.2.2.2.1, .boolean), (E.2.2.2.2.2.2.2, .long)]
def mK (E : mE) (U : State) : Prop := E.2.1[E.2.2.1]? = some (RX3, TX3, 75) ∧ va_K E.1 E.2.1 (mTys E) U
def mA (E : mE) (sz : Nat) : Nat → Prop := va_A (mPic E mσ0) sz
theorem mFlen (ad : Nat → Nat) (σ : MS) : (mF ad σ).length = 75 := by simp [mF]
theorem mF_at {ad : Nat → Nat} {σ : MS} {k : Nat} (hk : k < 75) : (mF ad σ)[k]? = some (if mFI k = true then Value.int (σ.1 k) else Value.ref (ad k)) := by
  unfold mF
  rw [List.getElem?_map, List.getElem?_range hk]
  rfl
theorem mF_set {ad : Nat → Nat} {σ : MS} {k : Nat} {v : Int32} (hI : mFI k = true) : (mF ad σ).set k (.int v) = mF ad (mSet σ k v) := by
  apply List.ext_getElem?
  intro j
  by_cases hj : j < 75
  · by_cases hjk : k = j
    · subst hjk
      rw [List.getElem?_set_self (by rw [mFlen]; exact hj), mF_at hj, if_pos hI]
      simp [mSet, upd]
    · rw [List.getElem?_set_ne hjk, mF_at hj, mF_at hj]
      have : (mSet σ k v).1 j = σ.1 j := by simp [mSet, upd, Ne.symm hjk]
      rw [this]
  · rw [List.getElem?_eq_none (by simp [mFlen]; omega), List.getElem?_eq_none (by simp [mFlen]; omega)]
theorem mIx_nd : mIx.Nodup := by decide
theorem mInt_pos {j : Nat} (h : mInt j = true) : (∃ q : Nat, mIx[q]? = some j) ∧ j ≠ 48 ∧ j ≠ 62 := by
  simp only [mInt, Bool.and_eq_true, Bool.not_eq_true', beq_eq_false_iff_ne, List.contains_iff_mem] at h
  exact ⟨List.getElem?_of_mem h.1.1, h.1.2, h.2⟩
theorem mPic_q {E : mE} {σ : MS} {q j : Nat} (h : mIx[q]? = some j) : (mPic E σ)[q + 1]? = some (mEl E σ j) := by
  unfold mPic
  rw [List.getElem?_cons_succ, List.getElem?_map, h]
  rfl
theorem mPic_set {E : mE} {σ σ' : MS} {q j : Nat} {z : Nat × va_E} (h : mIx[q]? = some j) (h1 : σ'.1 = σ.1) (h2 : mEl E σ' j = z) (h3 : ∀ k, k ≠ j → mEl E σ' k = mEl E σ k) : (mPic E σ).set (q + 1) z = mPic E σ' := by
  unfold mPic
  rw [List.set_cons_succ]
  congr 1
  · simp [mF, h1]
  · apply List.ext_getElem?
    intro i
    rw [List.getElem?_map]
    have hl : q < mIx.length := (List.getElem?_eq_some_iff.mp h).1
    by_cases hi : q = i
    · subst hi
      rw [List.getElem?_set_self (by rw [List.length_map]; exact hl), h, ← h2]
      rfl
    · rw [List.getElem?_set_ne hi, List.getElem?_map]
      cases hm : mIx[i]? with
      | none => rfl
      | some k =>
        have hk : k ≠ j := by
          intro e
          subst e
          obtain ⟨l1, e1⟩ := List.getElem?_eq_some_iff.mp h
          obtain ⟨l2, e2⟩ := List.getElem?_eq_some_iff.mp hm
          exact hi ((List.getElem_inj mIx_nd).mp (e1.trans e2.symm))
        show some (mEl E σ k) = some (mEl E σ' k)
        rw [h3 k hk]
theorem mPic_adr {E : mE} {σ σ' : MS} {k : Nat} {q : Nat × va_E} (h : (mPic E σ)[k]? = some q) : ∃ q', (mPic E σ')[k]? = some q' ∧ q'.1 = q.1 := by
  cases k with
  | zero =>
    unfold mPic at h ⊢
    cases h
    exact ⟨_, rfl, rfl⟩
  | succ k =>
    unfold mPic at h ⊢
    rw [List.getElem?_cons_succ, List.getElem?_map] at h ⊢
    cases hm : mIx[k]? with
    | none => rw [hm] at h; cases h
    | some j =>
      rw [hm] at h
      cases h
      exact ⟨_, rfl, rfl⟩
theorem mD_any {E : mE} {σ σ' : MS} {A : Nat → Prop} (h : va_D A (mPic E σ)) : va_D A (mPic E σ') := by
  refine ⟨fun i j x y hi hj hxy => ?_, fun k q hk => ?_⟩
  · obtain ⟨x', h1, h2⟩ := mPic_adr (σ' := σ) hi
    obtain ⟨y', h3, h4⟩ := mPic_adr (σ' := σ) hj
    exact h.1 i j x' y' h1 h3 (by rw [h2, h4, hxy])
  · obtain ⟨q', h1, h2⟩ := mPic_adr (σ' := σ) hk
    rw [← h2]
    exact h.2 k q' h1
theorem mD_self {E : mE} {sz : Nat} (h : va_D (fun _ => True) (mPic E mσ0)) (σ : MS) : va_D (mA E sz) (mPic E σ) := mD_any (h.self (sz := sz))
theorem mA_free {E : mE} {a b : Nat} (h : a ≤ b) (q : Nat) (hq : mA E b q) : mA E a q := by
  rcases hq with h1 | h1
  · exact Or.inl h1
  · exact Or.inr (Nat.le_trans h h1)
def mC (p : Program) (s : State) (m : MethodId) (args : Array Value) (meth : Method) (c : Code) (E : mE) (cc : ByteArray) (nL : Nat) (ret : Option FieldType) : Prop :=
  CallFix p m c cc nL s args lw_all RX3 ∧ mK E s ∧ va_D (fun _ => True) (mPic E mσ0) ∧ meth.sig.returnType = ret ∧ meth.locks = false
def mPc (E : mE) (sz : Nat) (σ : MS) (av : List Value) : Array Value → State → Prop := va_Pc av (fun U => U.heap.size = sz ∧ mP E σ U.heap ∧ mK E U ∧ va_D (fun _ => True) (mPic E mσ0))
def mB (E : mE) (u : MS) (t : State) : Prop := mP E u t.heap ∧ mK E t
def mQi (E : mE) (sz : Nat) (r : Int32) (σ : MS) := va_Qi (fun (r' : Int32) (u : MS) => r' = r ∧ u = σ) (mB E) (mA E sz)
def mQl (E : mE) (sz : Nat) (r : Int64) (σ : MS) := va_Ql (fun (r' : Int64) (u : MS) => r' = r ∧ u = σ) (mB E) (mA E sz)
def mQv (E : mE) (sz : Nat) (σ : MS) := va_Qv (fun (u : MS) => u = σ) (mB E) (mA E sz)
theorem mK.moved {E : mE} {u U : State} (hvm : u.vm.Alike U.vm) (h : mK E u) : mK E U := ⟨h.1, va_K.moved hvm h.2⟩
theorem mPc_blind {E : mE} {sz : Nat} {σ : MS} {av : List Value} : FrameBlind (mPc E sz σ av) := by
  intro a U g mk q
  obtain ⟨q0, q1, qP, qK, qD⟩ := q
  exact ⟨q0, q1, qP, mK.moved (u := U) (U := U.calling g mk a) (Vm.Alike.refl U.vm) qK, qD⟩
/-- pure words: a name for a value, a test that must hold -/
def mlet {α β : Type} (a : α) (f : α → β) : β := f a
theorem mlet_at {α β : Type} {a y : α} {f : α → Option β} {r : Option β} (e : y = a) (h : mlet a f = r) : f y = r := by subst e; exact h
theorem mif_t {c : Prop} [Decidable c] {β : Type} {x y r : Option β} (hc : c) (h : (if c then x else y) = r) : x = r := by rw [if_pos hc] at h; exact h
theorem mif_f {c : Prop} [Decidable c] {β : Type} {x y r : Option β} (hc : ¬ c) (h : (if c then x else y) = r) : y = r := by rw [if_neg hc] at h; exact h
theorem mif_n {c : Prop} [Decidable c] {β : Type} {x : Option β} {r : β} (h : (if c then x else none) = some r) : c ∧ x = some r := by
  by_cases hc : c
  · rw [if_pos hc] at h; exact ⟨hc, h⟩
  · rw [if_neg hc] at h; cases h
theorem mbind_n {α β : Type} {o : Option α} {f : α → Option β} {r : β} (h : o.bind f = some r) : ∃ a, o = some a ∧ f a = some r := by
  cases o with
  | none => cases h
  | some a => exact ⟨a, rfl, h⟩
def mIn (i : Int32) (n : Nat) : Bool := decide (¬ (i < 0 ∨ n ≤ i.toNatClampNeg))
theorem mIn_vp {i : Int32} {n : Nat} (h : mIn i n = true) : vp_in i n := (of_decide_eq_true h : ¬ (i < 0 ∨ n ≤ i.toNatClampNeg))
def mBit (v : Int32) : Bool := decide (v = 0) || decide (v = 1)
theorem mBit_n {v : Int32} (h : mBit v = true) : narrow .boolean (.int v) = .int v ∧ fits .boolean (.int v) = true := by
  simp only [mBit, Bool.or_eq_true, decide_eq_true_eq] at h
  rcases h with h | h <;> subst h <;> exact ⟨rfl, rfl⟩
section MROWS
variable {p : Program} {l : Launch} {e : Env} {R : Room} {s : State} {m : MethodId} {args : Array Value} {below : List Frame} {meth : Method} {c : Code} {H : Heap} {locs : List Loc} {Q : State → Prop}
variable {cc : ByteArray} {pc nL : Nat} {ls : Array Slot} {rest st : List Value} {E : mE} {σ σ' : MS} {ret : Option FieldType}
theorem m_geti (hC : mC p s m args meth c E cc nL ret) (hP : mP E σ H) {index : Nat} (k : Nat) (hk : k < 75) (hI : mFI k = true) (hlink : (Cond.fieldLink RX3 index (TX3 k).1 (TX3 k).2.1 (TX3 k).2.2.1) ∈ lw_all) (hdg : decode cc pc = .ok (.getfield index, 3))
    (kk : W p l e R s m args below meth c H locs 0 0 Q (F0 m (pc + 3) ls (.int (σ.1 k) :: rest))) : W p l e R s m args below meth c H locs 0 0 Q (F0 m pc ls (.ref (mh E) :: rest)) := by
  obtain ⟨⟨hx, hb, hml, hown, hts⟩, hK, -⟩ := hC
  exact va_get (C := RX3) (T := TX3) (N := 75) hx hb hts in_X3 hown hK.2 hP 0 rfl hK.1 k hk (hts _ hlink) (fun _ h => h) (by rw [mF_at hk, if_pos hI]) hdg kk
theorem m_geta (hC : mC p s m args meth c E cc nL ret) (hP : mP E σ H) {index : Nat} (k : Nat) (hk : k < 75) (hI : mFI k = false) (hlink : (Cond.fieldLink RX3 index (TX3 k).1 (TX3 k).2.1 (TX3 k).2.2.1) ∈ lw_all) (hdg : decode cc pc = .ok (.getfield index, 3))
    (kk : W p l e R s m args below meth c H locs 0 0 Q (F0 m (pc + 3) ls (.ref (mad E k) :: rest))) : W p l e R s m args below meth c H locs 0 0 Q (F0 m pc ls (.ref (mh E) :: rest)) := by
  obtain ⟨⟨hx, hb, hml, hown, hts⟩, hK, -⟩ := hC
  exact va_get (C := RX3) (T := TX3) (N := 75) hx hb hts in_X3 hown hK.2 hP 0 rfl hK.1 k hk (hts _ hlink) (fun _ h => h) (by rw [mF_at hk, if_neg (by rw [hI]; decide)]) hdg kk
theorem m_put (hC : mC p s m args meth c E cc nL ret) (hP : mP E σ H) (hS : va_S (mA E s.heap.size) s.heap H locs) {index : Nat} (k : Nat) (hk : k < 75) (hI : mFI k = true) (hlink : (Cond.fieldLink RX3 index (TX3 k).1 (TX3 k).2.1 (TX3 k).2.2.1) ∈ lw_all) {v : Int32} (hfin : (TX3 k).2.2.2 = false) {ty : FieldType} (hd : parseFieldDescriptor (TX3 k).2.2.1 = some ty) (hn : narrow ty (.int v) = .int v ∧ fits ty (.int v) = true) (hdg : decode cc pc = .ok (.putfield index, 3))
    (kk : ∀ (H1 : Heap) (locs1 : List Loc), mP E (mSet σ k v) H1 → va_S (mA E s.heap.size) s.heap H1 locs1 → W p l e R s m args below meth c H1 locs1 0 0 Q (F0 m (pc + 3) ls rest)) : W p l e R s m args below meth c H locs 0 0 Q (F0 m pc ls (.int v :: .ref (mh E) :: rest)) := by
  obtain ⟨⟨hx, hb, hml, hown, hts⟩, hK, hD, -⟩ := hC
  refine va_put (C := RX3) (T := TX3) (N := 75) hx hb hts in_X3 tyX3 tyX3_ok nmX3 hown hK.2 hP (mD_self hD σ) hS 0 rfl hK.1 k hk (hts _ hlink) (fun _ h => h) hfin hd hn.1 hn.2 (by rw [mFlen]; exact hk) hdg (fun H1 locs1 h1 h2 h3 => kk H1 locs1 ?_ h3)
  have e : (mPic E σ).set 0 (mh E, .inr (E.2.2.1, (mF (mad E) σ).set k (.int v))) = mPic E (mSet σ k v) := by
    rw [mF_set hI]
    rfl
  unfold mP
  rw [← e]
  exact h1
theorem m_ald (hC : mC p s m args meth c E cc nL ret) (hP : mP E σ H) (j : Nat) (hj : mInt j = true) {i : Int32} (hin : mIn i (mLen j) = true) (hdg : decode cc pc = .ok (.iaload, 1))
    (kk : W p l e R s m args below meth c H locs 0 0 Q (F0 m (pc + 1) ls (.int (σ.2.1 j i.toNatClampNeg) :: rest))) : W p l e R s m args below meth c H locs 0 0 Q (F0 m pc ls (.int i :: .ref (mad E j) :: rest)) := by
  obtain ⟨⟨hx, hb, hml, hown, hts⟩, hK, -⟩ := hC
  obtain ⟨⟨q, hq⟩, n1, n2⟩ := mInt_pos hj
  refine va_iald hx hb hK.2 hP (q + 1) 0 (cA := E.2.2.2.2.2.1) (n := mLen j) (f := σ.2.1 j) ?_ rfl (mIn_vp hin) hdg kk
  rw [mPic_q hq]
  simp [mEl, n1, n2]
theorem m_ast (hC : mC p s m args meth c E cc nL ret) (hP : mP E σ H) (hS : va_S (mA E s.heap.size) s.heap H locs) (j : Nat) (hj : mInt j = true) {i x : Int32} (hin : mIn i (mLen j) = true) (hdg : decode cc pc = .ok (.iastore, 1))
    (kk : ∀ (H1 : Heap) (locs1 : List Loc), mP E (mArr σ j i.toNatClampNeg x) H1 → va_S (mA E s.heap.size) s.heap H1 locs1 → W p l e R s m args below meth c H1 locs1 0 0 Q (F0 m (pc + 1) ls rest)) : W p l e R s m args below meth c H locs 0 0 Q (F0 m pc ls (.int x :: .int i :: .ref (mad E j) :: rest)) := by
  obtain ⟨⟨hx, hb, hml, hown, hts⟩, hK, hD, -⟩ := hC
  obtain ⟨⟨q, hq⟩, n1, n2⟩ := mInt_pos hj
  refine va_iast hx hb hK.2 hP (mD_self hD σ) hS (q + 1) 0 (cA := E.2.2.2.2.2.1) (n := mLen j) (f := σ.2.1 j) ?_ rfl (mIn_vp hin) hdg (fun H1 locs1 h1 _ h3 => kk H1 locs1 ?_ h3)
  · rw [mPic_q hq]
    simp [mEl, n1, n2]
  · have e := mPic_set (E := E) (σ := σ) (σ' := mArr σ j i.toNatClampNeg x) (z := (mad E j, .inl (E.2.2.2.2.2.1, mLen j, .inl (upd (σ.2.1 j) i.toNatClampNeg x)))) hq rfl (by simp [mEl, mArr, n1, n2]) (fun k hk => by simp [mEl, mArr, hk])
    unfold mP
    rw [← e]
    exact h1
theorem m_zld (hC : mC p s m args meth c E cc nL ret) (hP : mP E σ H) {i : Int32} (hin : mIn i 8 = true) (hdg : decode cc pc = .ok (.baload, 1))
    (kk : W p l e R s m args below meth c H locs 0 0 Q (F0 m (pc + 1) ls (.int (σ.2.1 62 i.toNatClampNeg) :: rest))) : W p l e R s m args below meth c H locs 0 0 Q (F0 m pc ls (.int i :: .ref (mad E 62) :: rest)) := by
  obtain ⟨⟨hx, hb, hml, hown, hts⟩, hK, -⟩ := hC
  exact va_zald hx hb hK.2 hP 30 1 (cA := E.2.2.2.2.2.2.1) (n := 8) (f := σ.2.1 62) rfl rfl (mIn_vp hin) hdg kk
theorem m_lld (hC : mC p s m args meth c E cc nL ret) (hP : mP E σ H) {i : Int32} (hin : mIn i 102400 = true) (hdg : decode cc pc = .ok (.laload, 1))
    (kk : W p l e R s m args below meth c H locs 0 0 Q (F0 m (pc + 1) ls (.long (σ.2.2 i.toNatClampNeg) :: rest))) : W p l e R s m args below meth c H locs 0 0 Q (F0 m pc ls (.int i :: .ref (mad E 48) :: rest)) := by
  obtain ⟨⟨hx, hb, hml, hown, hts⟩, hK, -⟩ := hC
  refine va_lald hx hb hK.2 hP 22 2 (cA := E.2.2.2.2.2.2.2) (n := 102400) (f := σ.2.2) ?_ rfl (mIn_vp hin) hdg kk
  rw [mPic_q (show mIx[21]? = some 48 from rfl)]
  simp [mEl, mLen]
theorem m_lst (hC : mC p s m args meth c E cc nL ret) (hP : mP E σ H) (hS : va_S (mA E s.heap.size) s.heap H locs) {i : Int32} {x : Int64} (hin : mIn i 102400 = true) (hdg : decode cc pc = .ok (.lastore, 1))
    (kk : ∀ (H1 : Heap) (locs1 : List Loc), mP E (mVal σ i.toNatClampNeg x) H1 → va_S (mA E s.heap.size) s.heap H1 locs1 → W p l e R s m args below meth c H1 locs1 0 0 Q (F0 m (pc + 1) ls rest)) : W p l e R s m args below meth c H locs 0 0 Q (F0 m pc ls (.long x :: .int i :: .ref (mad E 48) :: rest)) := by
  obtain ⟨⟨hx, hb, hml, hown, hts⟩, hK, hD, -⟩ := hC
  refine va_last hx hb hK.2 hP (mD_self hD σ) hS 22 2 (cA := E.2.2.2.2.2.2.2) (n := 102400) (f := σ.2.2) ?_ rfl (mIn_vp hin) hdg (fun H1 locs1 h1 _ h3 => kk H1 locs1 ?_ h3)
  · rw [mPic_q (show mIx[21]? = some 48 from rfl)]
    simp [mEl, mLen]
  · have e := mPic_set (E := E) (σ := σ) (σ' := mVal σ i.toNatClampNeg x) (q := 21) (j := 48) (z := (mad E 48, .inl (E.2.2.2.2.2.2.2, 102400, .inr (.inl (vp_updL σ.2.2 i.toNatClampNeg x))))) rfl rfl (by simp [mEl, mVal, mLen]) (fun k hk => by simp [mEl, mVal, hk])
    unfold mP
    rw [← e]
    exact h1
theorem m_pre {H : Heap} {av : List Value} {U : State} (hC : mC p s m args meth c E cc nL ret) (hP : mP E σ H) (hU : U.heap = H) (hW : s.WarmedH U.vm) : mPc E H.size σ av av.toArray U :=
  ⟨rfl, by rw [hU], by rw [hU]; exact hP, mK.moved hW.alike hC.2.1, hC.2.2.1⟩
theorem m_rcv (hC : mC p s m args meth c E cc nL ret) (hP : mP E σ H) : ∃ cell : Cell, H[mh E]? = some cell ∧ cell.vm.isStatics = false ∧ s.vm.findClass RX3 = some cell.cls := va_recv (q := (RX3, TX3, 75)) hC.2.1.2 hP hC.2.1.1 (show (mPic E σ)[0]? = some _ from rfl)
variable {y : MethodName} {bytes : ByteArray} {maxL n index : Nat} {rt : Option FieldType} {rm : Room} {As : List Value}
theorem m_calli (hC : mC p s m args meth c E cc nL ret) {r : Int32} (hM : Met l y (ws_ y bytes maxL rt) rm (mPc E H.size σ (.ref (mh E) :: As)) (mQi E H.size r σ') 0 0 (mA E H.size)) (cw : CallW R s args RX3 RX3 index y bytes maxL rt (ws_ y bytes maxL rt) rm 0 0 n) (hP : mP E σ H) (hS : va_S (mA E s.heap.size) s.heap H locs) (hn : As.length = n) (hz : ls.size = nL) (hst : st = As.reverse ++ .ref (mh E) :: rest) (hw : (rest.map fun v => v.category).sum ≤ 8) (hdg : decode cc pc = .ok (.invokevirtual index, 3))
    (kk : ∀ (H1 : Heap) (locs1 : List Loc), mP E σ' H1 → va_S (mA E s.heap.size) s.heap H1 locs1 → W p l e R s m args below meth c H1 locs1 0 0 Q (F0 m (pc + 3) ls (.int r :: rest))) : W p l e R s m args below meth c H locs 0 0 Q (F0 m pc ls st) :=
  va_calli (va_runV (As := As) (rest := rest) hC.1 hM cw ⟨mPc_blind, m_rcv hC hP, fun U hU hW => m_pre hC hP hU hW⟩ rfl hn hz hst (lv_room hw) hdg ⟨Nat.zero_le _, Nat.zero_le _⟩) hS (fun q _ h => mA_free hS.1 q h) (fun q h => mA_free hS.1 q h)
    (fun r' u t H1 locs1 ht hvm hw hB hz hk hS1 => by obtain ⟨rfl, rfl⟩ := hw; exact kk H1 locs1 (by rw [← ht]; exact hB.1) hS1)
theorem m_calll (hC : mC p s m args meth c E cc nL ret) {r : Int64} (hM : Met l y (ws_ y bytes maxL rt) rm (mPc E H.size σ (.ref (mh E) :: As)) (mQl E H.size r σ') 0 0 (mA E H.size)) (cw : CallW R s args RX3 RX3 index y bytes maxL rt (ws_ y bytes maxL rt) rm 0 0 n) (hP : mP E σ H) (hS : va_S (mA E s.heap.size) s.heap H locs) (hn : As.length = n) (hz : ls.size = nL) (hst : st = As.reverse ++ .ref (mh E) :: rest) (hw : (rest.map fun v => v.category).sum ≤ 8) (hdg : decode cc pc = .ok (.invokevirtual index, 3))
    (kk : ∀ (H1 : Heap) (locs1 : List Loc), mP E σ' H1 → va_S (mA E s.heap.size) s.heap H1 locs1 → W p l e R s m args below meth c H1 locs1 0 0 Q (F0 m (pc + 3) ls (.long r :: rest))) : W p l e R s m args below meth c H locs 0 0 Q (F0 m pc ls st) :=
  va_calll (va_runV (As := As) (rest := rest) hC.1 hM cw ⟨mPc_blind, m_rcv hC hP, fun U hU hW => m_pre hC hP hU hW⟩ rfl hn hz hst (lv_room hw) hdg ⟨Nat.zero_le _, Nat.zero_le _⟩) hS (fun q _ h => mA_free hS.1 q h) (fun q h => mA_free hS.1 q h)
    (fun r' u t H1 locs1 ht hvm hw hB hz hk hS1 => by obtain ⟨rfl, rfl⟩ := hw; exact kk H1 locs1 (by rw [← ht]; exact hB.1) hS1)
theorem m_callv (hC : mC p s m args meth c E cc nL ret) (hM : Met l y (ws_ y bytes maxL rt) rm (mPc E H.size σ (.ref (mh E) :: As)) (mQv E H.size σ') 0 0 (mA E H.size)) (cw : CallW R s args RX3 RX3 index y bytes maxL rt (ws_ y bytes maxL rt) rm 0 0 n) (hP : mP E σ H) (hS : va_S (mA E s.heap.size) s.heap H locs) (hn : As.length = n) (hz : ls.size = nL) (hst : st = As.reverse ++ .ref (mh E) :: rest) (hw : (rest.map fun v => v.category).sum ≤ 8) (hdg : decode cc pc = .ok (.invokevirtual index, 3))
    (kk : ∀ (H1 : Heap) (locs1 : List Loc), mP E σ' H1 → va_S (mA E s.heap.size) s.heap H1 locs1 → W p l e R s m args below meth c H1 locs1 0 0 Q (F0 m (pc + 3) ls rest)) : W p l e R s m args below meth c H locs 0 0 Q (F0 m pc ls st) :=
  va_callv (va_runV (As := As) (rest := rest) hC.1 hM cw ⟨mPc_blind, m_rcv hC hP, fun U hU hW => m_pre hC hP hU hW⟩ rfl hn hz hst (lv_room hw) hdg ⟨Nat.zero_le _, Nat.zero_le _⟩) hS (fun q _ h => mA_free hS.1 q h) (fun q h => mA_free hS.1 q h)
    (fun u t H1 locs1 ht hvm hw hB hz hk hS1 => by cases hw; exact kk H1 locs1 (by rw [← ht]; exact hB.1) hS1)
theorem m_callsi (hC : mC p s m args meth c E cc nL ret) {r : Int32} (hM : Met l y (ws_ y bytes maxL rt) rm (mPc E H.size σ As) (mQi E H.size r σ') 0 0 (mA E H.size)) (cw : CallB R s args RX3 index y bytes maxL rt (ws_ y bytes maxL rt) rm 0 0 n ∧ (Cond.static y).before args s = true) (hP : mP E σ H) (hS : va_S (mA E s.heap.size) s.heap H locs) (hn : As.length = n) (hz : ls.size = nL) (hst : st = As.reverse ++ rest) (hw : (rest.map fun v => v.category).sum ≤ 8) (hdg : decode cc pc = .ok (.invokestatic index, 3))
    (kk : ∀ (H1 : Heap) (locs1 : List Loc), mP E σ' H1 → va_S (mA E s.heap.size) s.heap H1 locs1 → W p l e R s m args below meth c H1 locs1 0 0 Q (F0 m (pc + 3) ls (.int r :: rest))) : W p l e R s m args below meth c H locs 0 0 Q (F0 m pc ls st) :=
  va_calli (va_runS (As := As) (rest := rest) hC.1 hM cw ⟨mPc_blind, fun U hU hW => m_pre hC hP hU hW⟩ rfl hn hz hst (lv_room hw) hdg ⟨Nat.zero_le _, Nat.zero_le _⟩) hS (fun q _ h => mA_free hS.1 q h) (fun q h => mA_free hS.1 q h)
    (fun r' u t H1 locs1 ht hvm hw hB hz hk hS1 => by obtain ⟨rfl, rfl⟩ := hw; exact kk H1 locs1 (by rw [← ht]; exact hB.1) hS1)
theorem m_callsl (hC : mC p s m args meth c E cc nL ret) {r : Int64} (hM : Met l y (ws_ y bytes maxL rt) rm (mPc E H.size σ As) (mQl E H.size r σ') 0 0 (mA E H.size)) (cw : CallB R s args RX3 index y bytes maxL rt (ws_ y bytes maxL rt) rm 0 0 n ∧ (Cond.static y).before args s = true) (hP : mP E σ H) (hS : va_S (mA E s.heap.size) s.heap H locs) (hn : As.length = n) (hz : ls.size = nL) (hst : st = As.reverse ++ rest) (hw : (rest.map fun v => v.category).sum ≤ 8) (hdg : decode cc pc = .ok (.invokestatic index, 3))
    (kk : ∀ (H1 : Heap) (locs1 : List Loc), mP E σ' H1 → va_S (mA E s.heap.size) s.heap H1 locs1 → W p l e R s m args below meth c H1 locs1 0 0 Q (F0 m (pc + 3) ls (.long r :: rest))) : W p l e R s m args below meth c H locs 0 0 Q (F0 m pc ls st) :=
  va_calll (va_runS (As := As) (rest := rest) hC.1 hM cw ⟨mPc_blind, fun U hU hW => m_pre hC hP hU hW⟩ rfl hn hz hst (lv_room hw) hdg ⟨Nat.zero_le _, Nat.zero_le _⟩) hS (fun q _ h => mA_free hS.1 q h) (fun q h => mA_free hS.1 q h)
    (fun r' u t H1 locs1 ht hvm hw hB hz hk hS1 => by obtain ⟨rfl, rfl⟩ := hw; exact kk H1 locs1 (by rw [← ht]; exact hB.1) hS1)
/-- ends -/
theorem m_iret {r : Int32} {σ' : MS} (hC : mC p s m args meth c E cc nL (some .int)) (hP : mP E σ' H) (hS : va_S (mA E s.heap.size) s.heap H locs) (hdg : decode cc pc = .ok (.ireturn, 1)) : W p l e R s m args below meth c H locs 0 0 (MQ below (mQi E s.heap.size r σ') args s 0 0 (mA E s.heap.size)) (F0 m pc ls [.int r]) :=
  W.iret hC.1.1 hC.1.2.1 hC.2.2.2.1 (fun t ht hW => ⟨⟨r, σ', rfl, ⟨rfl, rfl⟩, by rw [ht]; exact hP, mK.moved hW.alike hC.2.1⟩, hS.F ht⟩) hS.2.2 hdg hC.2.2.2.2
theorem m_zret {r : Int32} {σ' : MS} (hC : mC p s m args meth c E cc nL (some .boolean)) (hr : mBit r = true) (hP : mP E σ' H) (hS : va_S (mA E s.heap.size) s.heap H locs) (hdg : decode cc pc = .ok (.ireturn, 1)) : W p l e R s m args below meth c H locs 0 0 (MQ below (mQi E s.heap.size r σ') args s 0 0 (mA E s.heap.size)) (F0 m pc ls [.int r]) :=
  W.zret hC.1.1 hC.1.2.1 hC.2.2.2.1 (mBit_n hr).1 (fun t ht hW => ⟨⟨r, σ', rfl, ⟨rfl, rfl⟩, by rw [ht]; exact hP, mK.moved hW.alike hC.2.1⟩, hS.F ht⟩) hS.2.2 hdg hC.2.2.2.2
theorem m_lret {r : Int64} {σ' : MS} (hC : mC p s m args meth c E cc nL (some .long)) (hP : mP E σ' H) (hS : va_S (mA E s.heap.size) s.heap H locs) (hdg : decode cc pc = .ok (.lreturn, 1)) : W p l e R s m args below meth c H locs 0 0 (MQ below (mQl E s.heap.size r σ') args s 0 0 (mA E s.heap.size)) (F0 m pc ls [.long r]) :=
  W.lret hC.1.1 hC.1.2.1 hC.2.2.2.1 (fun t ht hW => ⟨⟨r, σ', rfl, ⟨rfl, rfl⟩, by rw [ht]; exact hP, mK.moved hW.alike hC.2.1⟩, hS.F ht⟩) hS.2.2 hdg hC.2.2.2.2
theorem m_vret {σ' : MS} (hC : mC p s m args meth c E cc nL none) (hP : mP E σ' H) (hS : va_S (mA E s.heap.size) s.heap H locs) (hdg : decode cc pc = .ok (.return_, 1)) : W p l e R s m args below meth c H locs 0 0 (MQ below (mQv E s.heap.size σ') args s 0 0 (mA E s.heap.size)) (F0 m pc ls []) :=
  W.vret hC.1.1 hC.1.2.1 hC.2.2.2.1 (fun t ht hW => ⟨⟨σ', rfl, rfl, by rw [ht]; exact hP, mK.moved hW.alike hC.2.1⟩, hS.F ht⟩) hS.2.2 hdg hC.2.2.2.2
end MROWS

/-! PLAIN: the model's object in the heap, by its state σ -/
abbrev pA : Type := Nat × (Nat → Nat)
def pGood (b : Nat) (A : pA) : Prop := b ≤ A.1 ∧ (∀ j ∈ mIx, b ≤ A.2 j ∧ A.2 j ≠ A.1) ∧ ∀ i ∈ mIx, ∀ j ∈ mIx, A.2 i = A.2 j → i = j
def pEnt (σ : MS) (j : Nat) : uE := .inl (if j = 48 then 3 else if j = 62 then 2 else 0, mLen j, if j = 48 then .inr (.inl σ.2.2) else .inl (σ.2.1 j))
def pMap (A : pA) (f : Nat → Option uE) (σ : MS) (c : Nat) : Option uE := if c = A.1 then some (.inr (2, mF A.2 σ)) else match mIx.find? (fun j => decide (c = A.2 j)) with
  | some j => some (pEnt σ j)
  | none => f c
def pUp (A : pA) (u : UH) (σ : MS) : UH := (u.1, u.2.1, pMap A u.2.2 σ)
theorem pUp_obj (A : pA) (u : UH) (σ : MS) : (pUp A u σ).2.2 A.1 = some (.inr (2, mF A.2 σ)) := if_pos rfl
theorem p_find {b : Nat} {A : pA} (hA : pGood b A) {j : Nat} (hj : j ∈ mIx) : mIx.find? (fun i => decide (A.2 j = A.2 i)) = some j := by
  have h1 : ∀ i ∈ mIx, (decide (A.2 j = A.2 i) = true ↔ i = j) := fun i hi => by
    rw [decide_eq_true_eq]
    exact ⟨fun h => hA.2.2 i hi j hj h.symm, fun h => by rw [h]⟩
  cases hf : mIx.find? (fun i => decide (A.2 j = A.2 i)) with
  | none =>
    have := List.find?_eq_none.mp hf j hj
    exact absurd ((h1 j hj).mpr rfl) this
  | some k =>
    have hk := List.mem_of_find?_eq_some hf
    have hp : (fun i => decide (A.2 j = A.2 i)) k = true := List.find?_some (p := fun i => decide (A.2 j = A.2 i)) hf
    rw [(h1 k hk).mp hp]
theorem pUp_arr {b : Nat} {A : pA} (hA : pGood b A) (u : UH) (σ : MS) {j : Nat} (hj : j ∈ mIx) : (pUp A u σ).2.2 (A.2 j) = some (pEnt σ j) := by
  show pMap A u.2.2 σ (A.2 j) = _
  unfold pMap
  rw [if_neg (hA.2.1 j hj).2, p_find hA hj]
theorem pUp_else {A : pA} (u : UH) (σ : MS) {c : Nat} (h1 : c ≠ A.1) (h2 : ∀ j ∈ mIx, c ≠ A.2 j) : (pUp A u σ).2.2 c = u.2.2 c := by
  show pMap A u.2.2 σ c = _
  unfold pMap
  rw [if_neg h1]
  have : mIx.find? (fun j => decide (c = A.2 j)) = none := List.find?_eq_none.mpr fun j hj h => h2 j hj (of_decide_eq_true h)
  rw [this]
theorem p_setO {A : pA} (u : UH) {σ σ' : MS} (h : σ'.2 = σ.2) : uSet (pUp A u σ) A.1 (.inr (2, mF A.2 σ')) = pUp A u σ' := by
  unfold uSet pUp
  refine congrArg (Prod.mk u.1) (congrArg (Prod.mk u.2.1) (funext fun c => ?_))
  show (if c = A.1 then some (Sum.inr (2, mF A.2 σ')) else pMap A u.2.2 σ c) = pMap A u.2.2 σ' c
  by_cases hc : c = A.1
  · rw [if_pos hc]
    unfold pMap
    rw [if_pos hc]
  · rw [if_neg hc]
    unfold pMap
    rw [if_neg hc, if_neg hc]
    have : ∀ j, pEnt σ' j = pEnt σ j := fun j => by unfold pEnt; rw [h]
    cases mIx.find? (fun j => decide (c = A.2 j)) with
    | none => rfl
    | some j => exact congrArg some (this j).symm
theorem p_setA {b : Nat} {A : pA} (hA : pGood b A) (u : UH) {σ σ' : MS} {j : Nat} (hj : j ∈ mIx) (h1 : σ'.1 = σ.1) (h2 : ∀ k, k ≠ j → pEnt σ' k = pEnt σ k) : uSet (pUp A u σ) (A.2 j) (pEnt σ' j) = pUp A u σ' := by
  unfold uSet pUp
  refine congrArg (Prod.mk u.1) (congrArg (Prod.mk u.2.1) (funext fun c => ?_))
  show (if c = A.2 j then some (pEnt σ' j) else pMap A u.2.2 σ c) = pMap A u.2.2 σ' c
  by_cases hc : c = A.2 j
  · rw [if_pos hc, hc]
    exact (pUp_arr hA u σ' hj).symm
  · rw [if_neg hc]
    unfold pMap
    have hF : mF A.2 σ' = mF A.2 σ := by simp [mF, h1]
    rw [hF]
    cases hf : mIx.find? (fun i => decide (c = A.2 i)) with
    | none => rfl
    | some k =>
      have hk : c = A.2 k := of_decide_eq_true (List.find?_some (p := fun i => decide (c = A.2 i)) hf)
      have hkj : k ≠ j := fun e => hc (by rw [← e]; exact hk)
      simp only [h2 k hkj]
/-- rows -/
def pI (k : Nat) : Bool := decide (k < 75) && mFI k
def pR (k : Nat) : Bool := decide (k < 75) && !mFI k
theorem p_gi {A : pA} {u : UH} {σ : MS} {k : Nat} (hk : pI k = true) : uGI (pUp A u σ) A.1 2 k = some (σ.1 k) := by
  simp only [pI, Bool.and_eq_true, decide_eq_true_eq] at hk
  unfold uGI uGet
  rw [pUp_obj]
  simp only [if_true]
  rw [mF_at hk.1, if_pos hk.2]
theorem p_gr {A : pA} {u : UH} {σ : MS} {k : Nat} (hk : pR k = true) : uGR (pUp A u σ) A.1 2 k = some (some (A.2 k)) := by
  simp only [pR, Bool.and_eq_true, decide_eq_true_eq, Bool.not_eq_true'] at hk
  unfold uGR uGet
  rw [pUp_obj]
  simp only [if_true]
  rw [mF_at hk.1, if_neg (by rw [hk.2]; decide)]
theorem p_is {A : pA} {u : UH} {σ : MS} : uIs (pUp A u σ) A.1 2 = true := by
  unfold uIs
  rw [pUp_obj]
  rfl
theorem p_put {b : Nat} {A : pA} (hA : pGood b A) {u : UH} {σ : MS} {k : Nat} {v : Int32} (hk : pI k = true) : uPut b (pUp A u σ) A.1 2 k (.int v) = some (pUp A u (mSet σ k v)) := by
  simp only [pI, Bool.and_eq_true, decide_eq_true_eq] at hk
  unfold uPut
  rw [pUp_obj]
  simp only
  rw [if_pos ⟨trivial, hA.1, by rw [mFlen]; exact hk.1⟩, mF_set hk.2, p_setO u (σ := σ) (σ' := mSet σ k v) rfl]
theorem p_mInt {j : Nat} (h : mInt j = true) : j ∈ mIx ∧ j ≠ 48 ∧ j ≠ 62 := by
  obtain ⟨⟨q, hq⟩, h1, h2⟩ := mInt_pos h
  exact ⟨List.mem_of_getElem? hq, h1, h2⟩
theorem p_ldI {b : Nat} {A : pA} (hA : pGood b A) {u : UH} {σ : MS} {j : Nat} (hj : mInt j = true) {i : Int32} : uLdI (pUp A u σ) (A.2 j) 0 i = if mIn i (mLen j) = true then some (σ.2.1 j i.toNatClampNeg) else none := by
  obtain ⟨h1, h2, h3⟩ := p_mInt hj
  unfold uLdI
  rw [pUp_arr hA u σ h1]
  simp [pEnt, h2, h3]
theorem p_stI {b : Nat} {A : pA} (hA : pGood b A) {u : UH} {σ : MS} {j : Nat} (hj : mInt j = true) {i x : Int32} : uStI b (pUp A u σ) (A.2 j) 0 i x = if mIn i (mLen j) = true then some (pUp A u (mArr σ j i.toNatClampNeg x)) else none := by
  obtain ⟨h1, h2, h3⟩ := p_mInt hj
  unfold uStI
  rw [pUp_arr hA u σ h1]
  have hb := (hA.2.1 j h1).1
  by_cases hi : mIn i (mLen j) = true
  · have := p_setA hA u (σ := σ) (σ' := mArr σ j i.toNatClampNeg x) h1 rfl (fun k hk => by unfold pEnt mArr; simp [hk])
    simp only [pEnt, h2, h3, if_false, hi, hb, and_self, if_true]
    rw [← this]
    simp [pEnt, h2, h3, mArr]
  · simp [pEnt, h2, h3, hi]
theorem p_ldZ {b : Nat} {A : pA} (hA : pGood b A) {u : UH} {σ : MS} {i : Int32} : uLdI (pUp A u σ) (A.2 62) 2 i = if mIn i 8 = true then some (σ.2.1 62 i.toNatClampNeg) else none := by
  unfold uLdI
  rw [pUp_arr hA u σ (by decide)]
  simp [pEnt, mLen]
theorem p_stZ {b : Nat} {A : pA} (hA : pGood b A) {u : UH} {σ : MS} {i x : Int32} : uStI b (pUp A u σ) (A.2 62) 2 i x = if mIn i 8 = true then some (pUp A u (mArr σ 62 i.toNatClampNeg x)) else none := by
  unfold uStI
  rw [pUp_arr hA u σ (by decide)]
  have hb := (hA.2.1 62 (by decide)).1
  by_cases hi : mIn i 8 = true
  · have := p_setA hA u (σ := σ) (σ' := mArr σ 62 i.toNatClampNeg x) (j := 62) (by decide) rfl (fun k hk => by unfold pEnt mArr; simp [hk])
    simp only [pEnt, mLen, if_false, hi, hb, and_self, if_true, reduceCtorEq, Nat.reduceEqDiff]
    rw [← this]
    simp [pEnt, mLen, mArr]
  · simp [pEnt, mLen, hi]
theorem p_ldL {b : Nat} {A : pA} (hA : pGood b A) {u : UH} {σ : MS} {i : Int32} : uLdL (pUp A u σ) (A.2 48) 3 i = if mIn i 102400 = true then some (σ.2.2 i.toNatClampNeg) else none := by
  unfold uLdL
  rw [pUp_arr hA u σ (by decide)]
  simp [pEnt, mLen]
theorem p_stL {b : Nat} {A : pA} (hA : pGood b A) {u : UH} {σ : MS} {i : Int32} {x : Int64} : uStL b (pUp A u σ) (A.2 48) 3 i x = if mIn i 102400 = true then some (pUp A u (mVal σ i.toNatClampNeg x)) else none := by
  unfold uStL
  rw [pUp_arr hA u σ (by decide)]
  have hb := (hA.2.1 48 (by decide)).1
  by_cases hi : mIn i 102400 = true
  · have := p_setA hA u (σ := σ) (σ' := mVal σ i.toNatClampNeg x) (j := 48) (by decide) rfl (fun k hk => by unfold pEnt mVal; simp [hk])
    simp only [pEnt, mLen, if_true, hi, hb, and_self]
    rw [← this]
    simp [pEnt, mLen, mVal]
  · simp [pEnt, mLen, hi]

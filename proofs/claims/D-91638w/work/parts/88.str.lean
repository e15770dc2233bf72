/-! PLAIN: strings that stand outside the model's cells -/
theorem pUp_lo {b : Nat} {A : pA} (hA : pGood b A) (u : UH) (σ : MS) {c : Nat} (hc : c < b) : (pUp A u σ).2.2 c = u.2.2 c :=
  pUp_else u σ (fun e => by have := hA.1; omega) (fun j hj e => by have := (hA.2.1 j hj).1; omega)
def pLit (b : Nat) (u : UH) (a : Nat) (tx : List Int32) : Prop := a < b ∧ tx.length < 100 ∧ ∃ (v : Nat) (h : Int32) (f : Nat → Int32), v < b ∧ u.2.2 a = some (.inr (20, [.ref v, .int 0, .int h, .int 0])) ∧ u.2.2 v = some (.inl (1, tx.length, .inl f)) ∧ ∀ j : Nat, j < tx.length → f j = tx.getD j 0 ∧ ∃ c : Nat, c < 128 ∧ tx.getD j 0 = Int32.ofNat c
theorem p_uc {α β : Type} (z : α × UH) (f : α → UH → Option β) : ucall (some z) f = f z.1 z.2 := congrArg (fun z : α × UH => f z.1 z.2) (Eq.refl z)
theorem p_uci {α β : Type} {c : Prop} [Decidable c] (z : α × UH) (f : α → UH → Option β) : ucall (if c then some z else none) f = if c then f z.1 z.2 else none := by split <;> rfl
theorem t_chr : ∀ c < 128, ((Int32.ofNat c &&& 255).toUInt32 % 65536).toInt32 = Int32.ofNat c ∧ uFit .char (Int32.ofNat c) = true := by decide +kernel
theorem t_lt {i : Int32} {n : Nat} (hn : n < 2147483648) (h0 : ¬ i < 0) : i < Int32.ofNat n ↔ i.toNatClampNeg < n := by
  have e1 : (Int32.ofNat n).toInt = (n : Int) := Int32.toInt_ofNat_of_lt hn
  have h1 : (0 : Int) ≤ i.toInt := by
    rw [Int32.lt_iff_toInt_lt] at h0
    have : (0 : Int32).toInt = 0 := rfl
    omega
  have e2 : i.toNatClampNeg = i.toInt.toNat := rfl
  rw [Int32.lt_iff_toInt_lt, e1, e2]
  omega
theorem t_in {i : Int32} {n : Nat} (hn : n < 2147483648) : (mIn i n = true) ↔ (¬ i < 0 ∧ i < Int32.ofNat n) := by
  unfold mIn
  rw [decide_eq_true_eq]
  constructor
  · intro h
    have h0 : ¬ i < 0 := fun z => h (Or.inl z)
    exact ⟨h0, (t_lt hn h0).mpr (Nat.not_le.mp fun z => h (Or.inr z))⟩
  · rintro ⟨h0, h1⟩ (z | z)
    · exact h0 z
    · exact absurd ((t_lt hn h0).mp h1) (Nat.not_lt.mpr z)
section
variable {N b : Nat} {g : uEnv} {A : pA} {u : UH} {a : Nat} {tx : List Int32}
theorem t_is (hA : pGood b A) (ht : pLit b u a tx) {σ : MS} : uIs (pUp A u σ) a 20 = true := by
  obtain ⟨h1, -, v, h, f, hv, e1, -⟩ := ht
  unfold uIs
  rw [pUp_lo hA u σ h1, e1]
  rfl
theorem t_gi (hA : pGood b A) (ht : pLit b u a tx) {σ : MS} : uGI (pUp A u σ) a 20 1 = some 0 := by
  obtain ⟨h1, -, v, h, f, hv, e1, -⟩ := ht
  unfold uGI uGet
  rw [pUp_lo hA u σ h1, e1]
  rfl
theorem t_len (hA : pGood b A) (ht : pLit b u a tx) {σ : MS} : f_J6_length N b g (pUp A u σ) a = some (Int32.ofNat tx.length, pUp A u σ) := by
  have hi := t_is hA ht (σ := σ)
  have hg := t_gi hA ht (σ := σ)
  obtain ⟨h1, -, v, h, f, hv, e1, e2, -⟩ := ht
  have r1 : uGR (pUp A u σ) a 20 0 = some (some v) := by
    unfold uGR uGet
    rw [pUp_lo hA u σ h1, e1]
    rfl
  have r2 : uLen (pUp A u σ) v 1 = some (Int32.ofNat tx.length) := by
    unfold uLen
    rw [pUp_lo hA u σ hv, e2]
    rfl
  have r3 : f_J6_coder N b g (pUp A u σ) a = some (0, pUp A u σ) := by
    unfold f_J6_coder
    rw [if_neg (by decide), hg]
    rfl
  have hs : Int32.ofNat tx.length >>> ((0 : Int32) &&& 31) = Int32.ofNat tx.length := by
    show Int32.ofNat tx.length >>> (0 : Int32) = Int32.ofNat tx.length
    exact Int32.shiftRight_zero
  unfold f_J6_length
  rw [r1]
  show ((uLen (pUp A u σ) v 1).bind fun y3 => _) = _
  rw [r2]
  show (if uIs (pUp A u σ) a 20 = true then _ else none) = _
  rw [if_pos hi, r3, p_uc]
  show some (Int32.ofNat tx.length >>> ((0 : Int32) &&& 31), pUp A u σ) = _
  rw [hs]
theorem t_at (hA : pGood b A) (ht : pLit b u a tx) {σ : MS} {i : Int32} : f_J6_charAt N b g (pUp A u σ) a i = if mIn i tx.length = true then some (tx.getD i.toNatClampNeg 0, pUp A u σ) else none := by
  have hi := t_is hA ht (σ := σ)
  have hg := t_gi hA ht (σ := σ)
  obtain ⟨h1, hl, v, h, f, hv, e1, e2, e3⟩ := ht
  have r1 : uGR (pUp A u σ) a 20 0 = some (some v) := by
    unfold uGR uGet
    rw [pUp_lo hA u σ h1, e1]
    rfl
  have r2 : uLen (pUp A u σ) v 1 = some (Int32.ofNat tx.length) := by
    unfold uLen
    rw [pUp_lo hA u σ hv, e2]
    rfl
  have r3 : f_J6_isLatin1 N b g (pUp A u σ) a = some (1, pUp A u σ) := by
    unfold f_J6_isLatin1
    rw [if_neg (by decide), hg]
    rfl
  have r4 : uLdI (pUp A u σ) v 1 i = if mIn i tx.length = true then some (f i.toNatClampNeg) else none := by
    unfold uLdI
    rw [pUp_lo hA u σ hv, e2]
    simp
  have r5 : f_J11_charAt N b g (pUp A u σ) (some v) i = if mIn i tx.length = true then some (tx.getD i.toNatClampNeg 0, pUp A u σ) else none := by
    unfold f_J11_charAt
    rw [p_bs, r2, p_bs]
    by_cases hm : mIn i tx.length = true
    · obtain ⟨q1, q2⟩ := (t_in (by omega)).mp hm
      have r6 : f_J6_checkIndex N b g (pUp A u σ) i (Int32.ofNat tx.length) = some (pUp A u σ) := by
        unfold f_J6_checkIndex f_J12_checkIndex
        rw [p_let, if_neg q1, if_pos q2, p_uc]
      rw [r6, p_bs, r4, if_pos hm, p_bs, if_pos hm]
      obtain ⟨k1, c, k2, k3⟩ := e3 i.toNatClampNeg (uIx2 hm)
      obtain ⟨k4, k5⟩ := t_chr c k2
      rw [k1, k3, k4, if_pos k5]
    · rw [if_neg hm]
      have r6 : f_J6_checkIndex N b g (pUp A u σ) i (Int32.ofNat tx.length) = none := by
        unfold f_J6_checkIndex f_J12_checkIndex f_J12_checkIndex_9
        rw [p_let]
        by_cases q1 : i < 0
        · rw [if_pos q1]; rfl
        · rw [if_neg q1, if_neg (fun q2 => hm ((t_in (by omega)).mpr ⟨q1, q2⟩))]; rfl
      rw [r6]
      rfl
  unfold f_J6_charAt
  rw [if_pos hi, r3, p_uc]
  show (if (1 : Int32) = 0 then _ else _) = _
  rw [if_neg (by decide), r1, p_bs, r5, p_uci]
  by_cases hm : mIn i tx.length = true
  · rw [if_pos hm, if_pos hm]
    obtain ⟨k1, c, k2, k3⟩ := e3 i.toNatClampNeg (uIx2 hm)
    obtain ⟨k4, k5⟩ := t_chr c k2
    show (if uFit .char (tx.getD i.toNatClampNeg 0) = true then some (tx.getD i.toNatClampNeg 0, pUp A u σ) else none) = _
    rw [k3, if_pos k5]
  · rw [if_neg hm, if_neg hm]
end

/-! PLAIN: a line of pairs: Line.value and between -/
/-- the value at x of a line of n pairs (at k, v k): the first pair that lies above x -/
def lnK (at_ : Nat → Int) (n : Nat) (x : Int) : Nat → Nat → Nat
  | 0, k => k
  | m + 1, k => if k < n ∧ at_ k ≤ x then lnK at_ n x m (k + 1) else k
def lnV (at_ v : Nat → Int) (n : Nat) (x : Int) : Int :=
  let k := lnK at_ n x n 0
  if k = 0 then v 0 else if k = n then v (n - 1) else v (k - 1) + ((v k - v (k - 1)) * (x - at_ (k - 1))).fdiv (at_ k - at_ (k - 1))
def lnOk (at_ v : Nat → Int) (n : Nat) : Prop := 1 ≤ n ∧ n ≤ 4 ∧ (∀ k, k < n → 0 ≤ at_ k ∧ at_ k ≤ 999 ∧ 0 ≤ v k ∧ v k ≤ 300) ∧ ∀ k, k + 1 < n → at_ k < at_ (k + 1)
theorem ln_floorDiv {N b : Nat} {g : uEnv} {u : UH} {p q : Int} (hp : iS p) (hq : iS q) (h : 0 < q) : f_J9_floorDiv N b g u (iI p) (iI q) = some (iI (p.fdiv q), u) := by
  have hz : iS 0 := ⟨by decide, by decide⟩
  have hd : iS (p.tdiv q) := by
    have h1 := Int.natAbs_tdiv_le_natAbs p q
    unfold iS at hp ⊢
    by_cases hm : 0 ≤ p
    · have := Int.tdiv_nonneg hm (by omega : 0 ≤ q)
      omega
    · have e := Int.neg_tdiv p q
      have := Int.tdiv_nonneg (by omega : 0 ≤ -p) (by omega : 0 ≤ q)
      omega
  unfold f_J9_floorDiv f_J9_floorDiv_21
  rw [if_pos (by rw [show (0 : Int32) = iI 0 from rfl, i_eq hq hz]; omega), p_let, i_div hp hq (Or.inl (by omega)), i_mul, i_fdiv h]
  have hm : iS (p.tdiv q * q) := by
    unfold iS at hp ⊢
    have h2 : (p.tdiv q * q).natAbs ≤ p.natAbs := by
      rw [Int.natAbs_mul, Int.natAbs_tdiv]
      exact Nat.div_mul_le_self _ _
    by_cases hm : 0 ≤ p
    · have h3 := Int.tdiv_nonneg hm (by omega : 0 ≤ q)
      have := Int.mul_nonneg h3 (by omega : 0 ≤ q)
      omega
    · have e := Int.neg_tdiv p q
      have h3 := Int.tdiv_nonneg (by omega : 0 ≤ -p) (by omega : 0 ≤ q)
      have h4 := Int.mul_nonneg h3 (by omega : 0 ≤ q)
      rw [e, Int.neg_mul] at h4
      omega
  by_cases h1 : 0 ≤ p
  · rw [if_pos ((i_xor hp hq (by omega)).mpr h1), if_pos (Or.inl h1)]
  · rw [if_neg (fun z => h1 ((i_xor hp hq (by omega)).mp z))]
    by_cases h2 : p.tdiv q * q = p
    · rw [if_pos (by rw [h2]), if_pos (Or.inr h2)]
    · rw [if_neg (by rw [i_eq hm hp]; exact h2), if_neg (fun z => z.elim h1 h2)]
      rw [show (1 : Int32) = iI 1 from rfl, i_sub]
theorem ln_tq {p q : Int} (hp : iS p) (h : 0 < q) : iS (p.tdiv q) ∧ iS (p.tdiv q * q) ∧ iS (p - p.tdiv q * q) := by
  unfold iS at hp ⊢
  have h1 := Int.natAbs_tdiv_le_natAbs p q
  have h2 : (p.tdiv q * q).natAbs ≤ p.natAbs := by
    rw [Int.natAbs_mul, Int.natAbs_tdiv]
    exact Nat.div_mul_le_self _ _
  by_cases hm : 0 ≤ p
  · have h3 := Int.tdiv_nonneg hm (by omega : 0 ≤ q)
    have h4 := Int.mul_nonneg h3 (by omega : 0 ≤ q)
    omega
  · have e := Int.neg_tdiv p q
    have h3 := Int.tdiv_nonneg (by omega : 0 ≤ -p) (by omega : 0 ≤ q)
    have h4 := Int.mul_nonneg h3 (by omega : 0 ≤ q)
    rw [e, Int.neg_mul] at h4
    omega
theorem ln_down {N : Nat} {σ : MS} {p q : Int} (hp : iS p) (hq : iS q) (h : 0 < q) : f_down N σ (iI p) (iI q) = some (iI (p.fdiv q), σ) := by
  have hz : iS 0 := ⟨by decide, by decide⟩
  obtain ⟨h1, h2, h3⟩ := ln_tq hp h
  have hq0 : ¬ iI q = 0 := by rw [show (0 : Int32) = iI 0 from rfl, i_eq hq hz]; omega
  unfold f_down f_down_20 f_down_21
  rw [if_pos hq0, p_let, if_pos hq0, i_div hp hq (Or.inl (by omega)), i_mul, i_sub, i_fdiv h]
  by_cases c1 : p.tdiv q * q = p
  · rw [if_pos (by rw [show (0 : Int32) = iI 0 from rfl, i_eq h3 hz]; omega), if_pos (Or.inr c1)]
  · rw [if_neg (by rw [show (0 : Int32) = iI 0 from rfl, i_eq h3 hz]; omega)]
    by_cases c2 : 0 ≤ p
    · rw [if_pos (by rw [show (0 : Int32) = iI 0 from rfl, i_le hz hp]; exact c2), if_pos (Or.inl c2)]
    · rw [if_neg (by rw [show (0 : Int32) = iI 0 from rfl, i_le hz hp]; exact c2), if_neg (fun z => z.elim c2 c1), show (1 : Int32) = iI 1 from rfl, i_sub]
/-- a line as it lies in the heap -/
def vLn (u : UH) (a n : Nat) (at_ v : Nat → Int) : Prop := ∃ (p1 p2 : Nat) (f1 f2 : Nat → Int32), u.2.2 a = some (.inr (7, [.ref p1, .ref p2, .int (iI n)])) ∧ u.2.2 p1 = some (.inl (0, 4, .inl f1)) ∧ u.2.2 p2 = some (.inl (0, 4, .inl f2)) ∧ ∀ k, k < n → f1 k = iI (at_ k) ∧ f2 k = iI (v k)
theorem ln_K {at_ : Nat → Int} {n : Nat} {x : Int} : ∀ (m k : Nat), n ≤ k + m → k ≤ n → lnK at_ n x m k ≤ n ∧ k ≤ lnK at_ n x m k ∧ (∀ j, k ≤ j → j < lnK at_ n x m k → at_ j ≤ x) ∧ (lnK at_ n x m k < n → x < at_ (lnK at_ n x m k)) := by
  intro m
  induction m with
  | zero =>
    intro k h1 h2
    simp only [lnK]
    exact ⟨h2, Nat.le_refl _, fun j h3 h4 => absurd h4 (Nat.not_lt.mpr h3), fun h => by omega⟩
  | succ m ih =>
    intro k h1 h2
    simp only [lnK]
    by_cases hc : k < n ∧ at_ k ≤ x
    · rw [if_pos hc]
      obtain ⟨i1, i2, i3, i4⟩ := ih (k + 1) (by omega) (by omega)
      refine ⟨i1, by omega, fun j h3 h4 => ?_, i4⟩
      by_cases hj : j = k
      · rw [hj]; exact hc.2
      · exact i3 j (by omega) h4
    · rw [if_neg hc]
      refine ⟨h2, Nat.le_refl _, fun j h3 h4 => absurd h4 (Nat.not_lt.mpr h3), fun h => ?_⟩
      exact Int.not_le.mp fun z => hc ⟨h, z⟩
theorem v_gi {u : UH} {a c k : Nat} {fs : List Value} {x : Int32} (h : u.2.2 a = some (.inr (c, fs))) (hk : fs[k]? = some (.int x)) : uGI u a c k = some x := by
  unfold uGI uGet
  rw [h]
  simp only [if_true]
  rw [hk]
theorem v_gr {u : UH} {a c k r : Nat} {fs : List Value} (h : u.2.2 a = some (.inr (c, fs))) (hk : fs[k]? = some (.ref r)) : uGR u a c k = some (some r) := by
  unfold uGR uGet
  rw [h]
  simp only [if_true]
  rw [hk]
theorem v_gn {u : UH} {a c k : Nat} {fs : List Value} (h : u.2.2 a = some (.inr (c, fs))) (hk : fs[k]? = some .null) : uGR u a c k = some none := by
  unfold uGR uGet
  rw [h]
  simp only [if_true]
  rw [hk]
theorem v_is {u : UH} {a c : Nat} {fs : List Value} (h : u.2.2 a = some (.inr (c, fs))) : uIs u a c = true := by
  unfold uIs
  rw [h]
  simp
theorem v_ld {u : UH} {a t n : Nat} {f : Nat → Int32} {i : Int} (h : u.2.2 a = some (.inl (t, n, .inl f))) (hs : iS i) (h0 : 0 ≤ i) (h1 : i < n) : uLdI u a t (iI i) = some (f i.toNat) := by
  unfold uLdI
  rw [h]
  simp only
  rw [if_pos ⟨trivial, by rw [i_in hs, decide_eq_true_eq]; exact ⟨h0, h1⟩⟩, i_nat hs]
theorem ln_26 {N b : Nat} {g : uEnv} {u : UH} {a n k : Nat} {at_ v : Nat → Int} {x : Int} (hv : vLn u a n at_ v) (ho : lnOk at_ v n) (hx : 0 ≤ x ∧ x ≤ 999) (hk : k ≤ n) : f_X9_value_26 N b g a u (iI x) (iI k) = some (iI (if k = 0 then v 0 else if k = n then v (n - 1) else v (k - 1) + ((v k - v (k - 1)) * (x - at_ (k - 1))).fdiv (at_ k - at_ (k - 1))), u) := by
  obtain ⟨p1, p2, f1, f2, e1, e2, e3, e4⟩ := hv
  obtain ⟨o1, o2, o3, o4⟩ := ho
  have s : ∀ i : Int, -100000000 ≤ i → i ≤ 100000000 → iS i := fun i h1 h2 => ⟨by omega, by omega⟩
  have rn : uGI u a 7 2 = some (iI n) := v_gi e1 rfl
  have r0 : uGR u a 7 0 = some (some p1) := v_gr e1 rfl
  have r1 : uGR u a 7 1 = some (some p2) := v_gr e1 rfl
  have z0 : (0 : Int32) = iI ((0 : Nat) : Int) := rfl
  have ld1 : ∀ j : Nat, j < n → uLdI u p1 0 (iI (j : Int)) = some (iI (at_ j)) := fun j hj => by
    rw [v_ld e2 (s _ (by omega) (by omega)) (by omega) (by omega)]
    exact congrArg some (e4 j hj).1
  have ld2 : ∀ j : Nat, j < n → uLdI u p2 0 (iI (j : Int)) = some (iI (v j)) := fun j hj => by
    rw [v_ld e3 (s _ (by omega) (by omega)) (by omega) (by omega)]
    exact congrArg some (e4 j hj).2
  unfold f_X9_value_26
  by_cases k0 : k = 0
  · subst k0
    rw [if_pos (show iI ((0 : Nat) : Int) = 0 from rfl), if_pos rfl, r1, p_bs, p_bs, z0, ld2 0 (by omega), p_bs]
  · rw [if_neg (by rw [z0, i_eq (s _ (by omega) (by omega)) (s _ (by omega) (by omega))]; omega), if_neg k0, rn, p_bs]
    by_cases kn : k = n
    · subst kn
      have em : iI (k : Int) - 1 = iI ((k - 1 : Nat) : Int) := by
        rw [show (1 : Int32) = iI 1 from rfl, i_sub]
        congr 1
        omega
      rw [if_pos rfl, if_pos rfl, r1, p_bs, p_bs, p_bs, em, ld2 (k - 1) (by omega), p_bs]
    · have em : iI (k : Int) - 1 = iI ((k - 1 : Nat) : Int) := by
        rw [show (1 : Int32) = iI 1 from rfl, i_sub]
        congr 1
        omega
      have a1 := o3 k (by omega)
      have a2 := o3 (k - 1) (by omega)
      have a3 : at_ (k - 1) < at_ k := by
        have := o4 (k - 1) (by omega)
        rwa [show k - 1 + 1 = k from by omega] at this
      have hmul : -1000000 ≤ (v k - v (k - 1)) * (x - at_ (k - 1)) ∧ (v k - v (k - 1)) * (x - at_ (k - 1)) ≤ 1000000 := by
        have b1 : (v k - v (k - 1)).natAbs ≤ 300 := by omega
        have b2 : (x - at_ (k - 1)).natAbs ≤ 999 := by omega
        have b3 : ((v k - v (k - 1)) * (x - at_ (k - 1))).natAbs ≤ 300 * 999 := by
          rw [Int.natAbs_mul]
          exact Nat.mul_le_mul b1 b2
        omega
      rw [if_neg (by rw [i_eq (s _ (by omega) (by omega)) (s _ (by omega) (by omega))]; omega), if_neg kn]
      simp only [r0, r1, p_bs, em, ld1 (k - 1) (by omega), ld2 (k - 1) (by omega), ld1 k (by omega), ld2 k (by omega), i_sub, i_mul]
      rw [ln_floorDiv (s _ (by omega) (by omega)) (s _ (by omega) (by omega)) (by omega), p_uc, i_add]
theorem ln_2 {N b : Nat} {g : uEnv} {u : UH} {a n : Nat} {at_ v : Nat → Int} {x : Int} (hv : vLn u a n at_ v) (ho : lnOk at_ v n) (hx : 0 ≤ x ∧ x ≤ 999) : ∀ (m k : Nat), k ≤ n → n < k + m → f_X9_value_2 N b g a m u (iI x) (iI k) = f_X9_value_26 N b g a u (iI x) (iI (lnK at_ n x (n - k) k)) := by
  have hv' := hv
  obtain ⟨p1, p2, f1, f2, e1, e2, e3, e4⟩ := hv
  obtain ⟨o1, o2, o3, o4⟩ := ho
  have s : ∀ i : Int, -100000000 ≤ i → i ≤ 100000000 → iS i := fun i h1 h2 => ⟨by omega, by omega⟩
  intro m
  induction m with
  | zero => intro k h1 h2; omega
  | succ m ih =>
    intro k h1 h2
    rw [f_X9_value_2, v_gi e1 rfl, p_bs]
    by_cases hn : n ≤ k
    · have : k = n := by omega
      subst this
      rw [if_pos (Int32.le_refl _), Nat.sub_self]
      rfl
    · rw [if_neg (by rw [i_le (s _ (by omega) (by omega)) (s _ (by omega) (by omega))]; omega), v_gr e1 rfl, p_bs, p_bs, v_ld e2 (s _ (by omega) (by omega)) (by omega) (by omega), p_bs]
      have e5 : f1 ((k : Int)).toNat = iI (at_ k) := (e4 k (by omega)).1
      have a1 := o3 k (by omega)
      rw [e5]
      have ek : n - k = (n - (k + 1)) + 1 := by omega
      rw [ek]
      simp only [lnK]
      by_cases hc : at_ k ≤ x
      · rw [if_neg (by rw [i_lt (s _ (by omega) (by omega)) (s _ (by omega) (by omega))]; omega), if_pos ⟨by omega, hc⟩, p_let, show (1 : Int32) = iI 1 from rfl, i_add]
        exact ih (k + 1) (by omega) (by omega)
      · rw [if_pos (by rw [i_lt (s _ (by omega) (by omega)) (s _ (by omega) (by omega))]; omega), if_neg (fun z => hc z.2)]
/-- Line.value -/
theorem ln_value {N b : Nat} {g : uEnv} {u : UH} {a n : Nat} {at_ v : Nat → Int} {x : Int} (hv : vLn u a n at_ v) (ho : lnOk at_ v n) (hx : 0 ≤ x ∧ x ≤ 999) (hN : 5 ≤ N) : f_X9_value N b g u a (iI x) = some (iI (lnV at_ v n x), u) := by
  unfold f_X9_value
  have h1 := ln_2 (N := N) (b := b) (g := g) hv ho hx N 0 (by omega) (by have := ho.2.1; omega)
  rw [show (0 : Int32) = iI ((0 : Nat) : Int) from rfl, h1, Nat.sub_zero]
  exact ln_26 hv ho hx (ln_K n 0 (by omega) (by omega)).1

/-! PLAIN: within, beside -/
theorem b_in {N b : Nat} {g : uEnv} {u : UH} {x l h : Int} (hx : iS x) (hl : iS l) (hh : iS h) : f_X1_in N b g u (iI x) (iI l) (iI h) = some (if l ≤ x ∧ x ≤ h then 1 else 0, u) := by
  unfold f_X1_in f_X1_in_14 f_X1_in_15
  by_cases c1 : x < l
  · rw [if_pos ((i_lt hx hl).mpr c1), if_neg (show ¬ (l ≤ x ∧ x ≤ h) by omega)]; rfl
  · rw [if_neg (fun z => c1 ((i_lt hx hl).mp z))]
    by_cases c2 : h < x
    · rw [if_pos ((i_lt hh hx).mpr c2), if_neg (show ¬ (l ≤ x ∧ x ≤ h) by omega)]; rfl
    · rw [if_neg (fun z => c2 ((i_lt hh hx).mp z)), if_pos (show l ≤ x ∧ x ≤ h by omega)]; rfl
theorem b_within {N : Nat} {σ : MS} {x l h : Int} (hx : iS x) (hl : iS l) (hh : iS h) : f_within N σ (iI x) (iI l) (iI h) = some (if l ≤ x ∧ x ≤ h then 1 else 0, σ) := by
  unfold f_within f_within_14 f_within_15
  by_cases c1 : x < l
  · rw [if_pos ((i_lt hx hl).mpr c1), if_neg (show ¬ (l ≤ x ∧ x ≤ h) by omega)]; rfl
  · rw [if_neg (fun z => c1 ((i_lt hx hl).mp z))]
    by_cases c2 : h < x
    · rw [if_pos ((i_lt hh hx).mpr c2), if_neg (show ¬ (l ≤ x ∧ x ≤ h) by omega)]; rfl
    · rw [if_neg (fun z => c2 ((i_lt hh hx).mp z)), if_pos (show l ≤ x ∧ x ≤ h by omega)]; rfl
def wX (d : Nat) : Int := match d with | 0 => 1 | 1 => -1 | _ => 0
def wY (d : Nat) : Int := match d with | 2 => -1 | 3 => 1 | _ => 0
theorem wX_i (d : Nat) : uWx d = iI (wX d) := by
  match d with
  | 0 => rfl
  | 1 => rfl
  | n + 2 => rfl
theorem wY_i (d : Nat) : uWy d = iI (wY d) := by
  match d with
  | 0 => rfl
  | 1 => rfl
  | 2 => rfl
  | 3 => rfl
  | n + 4 => rfl
theorem wX_b (d : Nat) : -1 ≤ wX d ∧ wX d ≤ 1 := by
  unfold wX
  split <;> exact ⟨by decide, by decide⟩
theorem wY_b (d : Nat) : -1 ≤ wY d ∧ wY d ≤ 1 := by
  unfold wY
  split <;> exact ⟨by decide, by decide⟩
/-- the cell beside c by the way d on a map of w and h; -1 -/
def besI (w h c d : Nat) : Int := if 0 ≤ ((c % w : Nat) : Int) + wX d ∧ ((c % w : Nat) : Int) + wX d ≤ (w : Int) - 1 then (if 0 ≤ ((c / w : Nat) : Int) + wY d ∧ ((c / w : Nat) : Int) + wY d ≤ (h : Int) - 1 then (((c / w : Nat) : Int) + wY d) * w + (((c % w : Nat) : Int) + wX d) else -1) else -1
theorem b_dm {c w : Nat} (hw : 1 ≤ w) : (c : Int).tdiv (w : Int) = ((c / w : Nat) : Int) ∧ (c : Int) - (c : Int).tdiv (w : Int) * (w : Int) = ((c % w : Nat) : Int) := by
  have e1 : (c : Int).tdiv (w : Int) = ((c / w : Nat) : Int) := by
    rw [Int.tdiv_eq_ediv_of_nonneg (by omega)]; rfl
  refine ⟨e1, ?_⟩
  rw [e1]
  have h := Nat.div_add_mod c w
  have h2 : ((w * (c / w) + c % w : Nat) : Int) = (c : Int) := by rw [h]
  rw [Int.natCast_add, Int.natCast_mul, Int.mul_comm] at h2
  omega
theorem b_sm {c w h d : Nat} (hw : 1 ≤ w ∧ w ≤ 10) (hh : 1 ≤ h ∧ h ≤ 10) (hc : c < w * h) : c % w < w ∧ c / w < h ∧ c < 100 := by
  refine ⟨Nat.mod_lt _ (by omega), Nat.div_lt_of_lt_mul hc, ?_⟩
  have : w * h ≤ 10 * 10 := Nat.mul_le_mul hw.2 hh.2
  omega
theorem b_X14 {N b : Nat} {g : uEnv} {u : UH} {a r w h c d : Nat} {fs : List Value} (e : u.2.2 a = some (.inr (12, fs))) (e1 : fs[1]? = some (.int (iI w))) (e2 : fs[2]? = some (.int (iI h))) (hr : uWay g r = some d) (hw : 1 ≤ w ∧ w ≤ 10) (hh : 1 ≤ h ∧ h ≤ 10) (hc : c < w * h) : f_X14_beside N b g u a (iI c) (some r) = some (iI (besI w h c d), u) := by
  obtain ⟨s1, s2, s3⟩ := b_sm (d := d) hw hh hc
  have q0 : (0 : Int) ≤ ((c / w : Nat) : Int) := Int.natCast_nonneg _
  obtain ⟨m1, m2⟩ := b_dm (c := c) hw.1
  have bx := wX_b d
  have bw := wY_b d
  have s : ∀ i : Int, -100000000 ≤ i → i ≤ 100000000 → iS i := fun i h1 h2 => ⟨by omega, by omega⟩
  have hw0 : ¬ iI (w : Int) = 0 := by rw [show (0 : Int32) = iI 0 from rfl, i_eq (s _ (by omega) (by omega)) (s _ (by omega) (by omega))]; omega
  have k1 : uGI u a 12 1 = some (iI w) := v_gi e e1
  have k2 : uGI u a 12 2 = some (iI h) := v_gi e e2
  have hd : iI (c : Int) / iI (w : Int) = iI ((c / w : Nat) : Int) := by
    rw [i_div (s _ (by omega) (by omega)) (s _ (by omega) (by omega)) (Or.inl (by omega)), m1]
  have hm : iI (c : Int) - iI ((c / w : Nat) : Int) * iI (w : Int) = iI ((c % w : Nat) : Int) := by
    rw [i_mul, i_sub, ← m1, m2]
  have h1 : ∀ z : Int, iI z - 1 = iI (z - 1) := fun z => i_sub z 1
  unfold f_X14_beside f_X14_beside_66 f_X14_beside_67
  simp only [k1, p_bs, p_let, hr, hd, hm, wX_i, wY_i, i_add, h1]
  rw [if_pos hw0, if_pos hw0]
  rw [show (0 : Int32) = iI 0 from rfl, b_in (s _ (by omega) (by omega)) (s _ (by omega) (by omega)) (s _ (by omega) (by omega)), p_uc]
  unfold besI
  by_cases c1 : 0 ≤ ((c % w : Nat) : Int) + wX d ∧ ((c % w : Nat) : Int) + wX d ≤ (w : Int) - 1
  · rw [if_pos c1, if_pos c1]
    rw [if_neg (show ¬ (1 : Int32) = iI 0 by decide)]
    show ((uGI u a 12 2).bind fun y15 => _) = _
    rw [k2, p_bs, h1, b_in (s _ (by omega) (by omega)) (s _ (by omega) (by omega)) (s _ (by omega) (by omega)), p_uc]
    by_cases c2 : 0 ≤ ((c / w : Nat) : Int) + wY d ∧ ((c / w : Nat) : Int) + wY d ≤ (h : Int) - 1
    · rw [if_pos c2, if_pos c2, if_neg (show ¬ (1 : Int32) = iI 0 by decide)]
      show ((uGI u a 12 1).bind fun y20 => some (iI (((c / w : Nat) : Int) + wY d) * y20 + iI (((c % w : Nat) : Int) + wX d), u)) = _
      rw [k1, p_bs, i_mul, i_add]
    · rw [if_neg c2, if_neg c2]
      exact if_pos rfl
  · rw [if_neg c1, if_neg c1]
    exact if_pos rfl
theorem p_mc {α β : Type} (z : α × MS) (f : α → MS → Option β) : mcall (some z) f = f z.1 z.2 := congrArg (fun z : α × MS => f z.1 z.2) (Eq.refl z)
theorem b_m24 {N : Nat} {σ : MS} {w h c d : Nat} (e1 : σ.1 35 = iI w) (e2 : σ.1 36 = iI h) (hd4 : d < 4) (hw : 1 ≤ w ∧ w ≤ 10) (hh : 1 ≤ h ∧ h ≤ 10) (hc : c < w * h) : f_beside N σ (iI c) (iI d) = some (iI (besI w h c d), σ) := by
  obtain ⟨s1, s2, s3⟩ := b_sm (d := d) hw hh hc
  have q0 : (0 : Int) ≤ ((c / w : Nat) : Int) := Int.natCast_nonneg _
  obtain ⟨m1, m2⟩ := b_dm (c := c) hw.1
  have bx := wX_b d
  have bw := wY_b d
  have s : ∀ i : Int, -100000000 ≤ i → i ≤ 100000000 → iS i := fun i h1 h2 => ⟨by omega, by omega⟩
  have hw0 : ¬ iI (w : Int) = 0 := by rw [show (0 : Int32) = iI 0 from rfl, i_eq (s _ (by omega) (by omega)) (s _ (by omega) (by omega))]; omega
  have hd : iI (c : Int) / iI (w : Int) = iI ((c / w : Nat) : Int) := by
    rw [i_div (s _ (by omega) (by omega)) (s _ (by omega) (by omega)) (Or.inl (by omega)), m1]
  have hm : iI (c : Int) - iI ((c / w : Nat) : Int) * iI (w : Int) = iI ((c % w : Nat) : Int) := by
    rw [i_mul, i_sub, ← m1, m2]
  have h1 : ∀ z : Int, iI z - 1 = iI (z - 1) := fun z => i_sub z 1
  have h51 : f_beside_51 N σ (iI (((c % w : Nat) : Int) + wX d)) (iI (wY d)) (iI ((c / w : Nat) : Int)) = some (iI (besI w h c d), σ) := by
    unfold f_beside_51 f_beside_95 f_beside_96 besI
    rw [p_let, i_add, e1, h1, show (0 : Int32) = iI 0 from rfl, b_within (s _ (by omega) (by omega)) (s _ (by omega) (by omega)) (s _ (by omega) (by omega))]
    by_cases c1 : 0 ≤ ((c % w : Nat) : Int) + wX d ∧ ((c % w : Nat) : Int) + wX d ≤ (w : Int) - 1
    · rw [if_pos c1, if_pos c1, p_mc, if_neg (show ¬ (1 : Int32) = iI 0 by decide)]
      show (mcall (f_within N σ (iI (((c / w : Nat) : Int) + wY d)) (iI 0) (σ.1 36 - 1)) fun r8 σ6 => _) = _
      rw [e2, h1, b_within (s _ (by omega) (by omega)) (s _ (by omega) (by omega)) (s _ (by omega) (by omega))]
      by_cases c2 : 0 ≤ ((c / w : Nat) : Int) + wY d ∧ ((c / w : Nat) : Int) + wY d ≤ (h : Int) - 1
      · rw [if_pos c2, if_pos c2, p_mc, if_neg (show ¬ (1 : Int32) = iI 0 by decide)]
        show some (σ.1 35 * iI (((c / w : Nat) : Int) + wY d) + iI (((c % w : Nat) : Int) + wX d), σ) = _
        rw [e1, i_mul, i_add, Int.mul_comm]
      · rw [if_neg c2, if_neg c2, p_mc]
        exact if_pos rfl
    · rw [if_neg c1, if_neg c1, p_mc]
      exact if_pos rfl
  unfold f_beside f_beside_24
  simp only [e1, hd, hm, p_let]
  rw [if_pos hw0]
  match d, hd4 with
  | 0, _ =>
    rw [if_pos (show iI ((0 : Nat) : Int) = 0 from rfl), if_pos hw0, if_neg (by decide), if_neg (by decide)]
    rw [← i_add] at h51
    exact h51
  | 1, _ =>
    rw [if_neg (by decide), if_pos (show iI ((1 : Nat) : Int) = 1 from rfl), if_pos hw0, if_neg (by decide), if_neg (by decide)]
    rw [← i_add] at h51
    exact h51
  | 2, _ =>
    rw [if_neg (by decide), if_neg (by decide), if_pos hw0, if_pos (show iI ((2 : Nat) : Int) = 2 from rfl)]
    rw [← i_add] at h51
    exact h51
  | 3, _ =>
    rw [if_neg (by decide), if_neg (by decide), if_pos hw0, if_neg (by decide), if_pos (show iI ((3 : Nat) : Int) = 3 from rfl)]
    rw [← i_add] at h51
    exact h51

/-! PLAIN: the first doubt that is seen, as the class finds it -/
def zTz (m : Nat) : Nat := if m % 2 = 1 then 0 else if m / 2 % 2 = 1 then 1 else if m / 4 % 2 = 1 then 2 else if m / 8 % 2 = 1 then 3 else 4
theorem c_tz {N b : Nat} {g : uEnv} {u : UH} {m : Nat} (h0 : m ≠ 0) (h1 : m < 32) : f_J19_numberOfTrailingZeros N b g u (iI (m : Int)) = some (iI (zTz m : Int), u) := by
  match m, h0, h1 with
  | 0, h, _ => exact absurd rfl h
  | 1, _, _ => rfl
  | 2, _, _ => rfl
  | 3, _, _ => rfl
  | 4, _, _ => rfl
  | 5, _, _ => rfl
  | 6, _, _ => rfl
  | 7, _, _ => rfl
  | 8, _, _ => rfl
  | 9, _, _ => rfl
  | 10, _, _ => rfl
  | 11, _, _ => rfl
  | 12, _, _ => rfl
  | 13, _, _ => rfl
  | 14, _, _ => rfl
  | 15, _, _ => rfl
  | 16, _, _ => rfl
  | 17, _, _ => rfl
  | 18, _, _ => rfl
  | 19, _, _ => rfl
  | 20, _, _ => rfl
  | 21, _, _ => rfl
  | 22, _, _ => rfl
  | 23, _, _ => rfl
  | 24, _, _ => rfl
  | 25, _, _ => rfl
  | 26, _, _ => rfl
  | 27, _, _ => rfl
  | 28, _, _ => rfl
  | 29, _, _ => rfl
  | 30, _, _ => rfl
  | 31, _, _ => rfl
  | k + 32, _, h => exact absurd h (by omega)
theorem t_lowF : ∀ s : Fin 32, ∀ e : Fin 5, s.1.testBit e.1 = true → (∀ j : Fin 5, j.1 < e.1 → s.1.testBit j.1 = false) → zTz s.1 = e.1 ∧ s.1 ≠ 0 := by decide +kernel
theorem t_clrF : ∀ s : Fin 32, ∀ e : Fin 5, s.1.testBit e.1 = true → (∀ j : Fin 5, j.1 < e.1 → s.1.testBit j.1 = false) → (iI (s.1 : Int)) &&& (iI (s.1 : Int) - 1) = iI ((s.1 - 2 ^ e.1 : Nat) : Int) ∧ ∀ j : Fin 5, (s.1 - 2 ^ e.1).testBit j.1 = (s.1.testBit j.1 && decide (j.1 ≠ e.1)) := by decide +kernel
theorem t_eqF : ∀ s : Fin 32, ∀ t : Fin 32, (∀ j : Fin 5, s.1.testBit j.1 = t.1.testBit j.1) → s = t := by decide +kernel
theorem zNw_f {nd nb cd : Nat} : ∀ (m d e : Nat), zNw nd nb cd m d = (e : Int) → ∀ j, d ≤ j → j < e → ¬ (zD cd j = 0 ∧ nb / 2 ^ j % 2 = 1) := by
  intro m
  induction m with
  | zero => intro d e h; rw [zNw] at h; omega
  | succ m ih =>
    intro d e h j h1 h2
    rw [zNw] at h
    by_cases c1 : nd ≤ d
    · rw [if_pos c1] at h; omega
    · rw [if_neg c1] at h
      by_cases c2 : zD cd d = 0 ∧ nb / 2 ^ d % 2 = 1
      · rw [if_pos c2] at h; omega
      · rw [if_neg c2] at h
        by_cases x : j = d
        · rw [x]; exact c2
        · exact ih (d + 1) e h j (by omega) h2
/-- what is seen and not known: the first one, and the rest behind it -/
theorem z_first {nd nb cd e : Nat} (hnd : nd ≤ 5) (hcd : cd < 1024) (hnb : nb < 32) (he : zNw nd nb cd (nd + 1) 0 = (e : Int)) (hen : e < nd) (h0 : zD cd e = 0) (hb : nb / 2 ^ e % 2 = 1) : zTz (nb &&& zUb cd nd) = e ∧ nb &&& zUb cd nd ≠ 0 ∧ ∀ k, k < 3 → (iI ((nb &&& zUb cd nd : Nat) : Int)) &&& (iI ((nb &&& zUb cd nd : Nat) : Int) - 1) = iI ((nb &&& zUb (cd + (k + 1) * 4 ^ e) nd : Nat) : Int) := by
  have ul : ∀ c, zUb c nd < 32 := fun c => Nat.lt_of_lt_of_le (zUb_lt nd) (Nat.pow_le_pow_right (by decide) hnd)
  have sl : nb &&& zUb cd nd < 32 := Nat.lt_of_le_of_lt Nat.and_le_right (ul cd)
  have tb : ∀ j, (nb &&& zUb cd nd).testBit j = (decide (nb / 2 ^ j % 2 = 1) && (decide (j < nd) && decide (zD cd j = 0))) := fun j => by
    rw [Nat.testBit_and, zUb_t, Nat.testBit_eq_decide_div_mod_eq]
  have te : (nb &&& zUb cd nd).testBit e = true := by
    rw [tb]
    simp [hb, hen, h0]
  have tl : ∀ j : Fin 5, j.1 < e → (nb &&& zUb cd nd).testBit j.1 = false := fun j hj => by
    rw [tb]
    have := zNw_f _ _ _ he j.1 (by omega) hj
    by_cases c1 : zD cd j.1 = 0
    · by_cases c2 : nb / 2 ^ j.1 % 2 = 1
      · exact absurd ⟨c1, c2⟩ this
      · simp [c2]
    · simp [c1]
  obtain ⟨a1, a2⟩ := t_lowF ⟨nb &&& zUb cd nd, sl⟩ ⟨e, by omega⟩ te tl
  refine ⟨a1, a2, fun k hk => ?_⟩
  obtain ⟨b1, b2⟩ := t_clrF ⟨nb &&& zUb cd nd, sl⟩ ⟨e, by omega⟩ te tl
  obtain ⟨u1, u2, u3⟩ := zD_up (k := k) hcd (by omega : e < 5) hk h0
  have sl2 : nb &&& zUb (cd + (k + 1) * 4 ^ e) nd < 32 := Nat.lt_of_le_of_lt Nat.and_le_right (ul _)
  have hq : (⟨(nb &&& zUb cd nd) - 2 ^ e, Nat.lt_of_le_of_lt (Nat.sub_le _ _) sl⟩ : Fin 32) = ⟨nb &&& zUb (cd + (k + 1) * 4 ^ e) nd, sl2⟩ := by
    refine t_eqF _ _ (fun j => ?_)
    have c1 := b2 j
    refine c1.trans ?_
    show ((nb &&& zUb cd nd).testBit j.1 && decide (j.1 ≠ e)) = (nb &&& zUb (cd + (k + 1) * 4 ^ e) nd).testBit j.1
    rw [tb, Nat.testBit_and, zUb_t, Nat.testBit_eq_decide_div_mod_eq]
    by_cases x : j.1 = e
    · rw [x, u2]
      simp
    · rw [u3 j.1 j.2 x]
      simp [x]
  have hv : (nb &&& zUb cd nd) - 2 ^ e = nb &&& zUb (cd + (k + 1) * 4 ^ e) nd := congrArg Fin.val hq
  rw [← hv]
  exact b1
/-- all that may come is there: no never -/
theorem zOv_f0 {wt val : Nat → Nat} {B : Nat} : ∀ (m k acc : Nat), acc ≤ B → (∀ j, k ≤ j → j < k + m → val j < 1000000000000000 ∧ val j ≤ B) → zOv 0 wt val m k acc ≤ B := by
  intro m
  induction m with
  | zero => intro k acc h1 h2; exact h1
  | succ m ih =>
    intro k acc h1 h2
    obtain ⟨a, b⟩ := h2 k (by omega) (by omega)
    rw [zOv, if_pos a, if_pos rfl]
    refine ih (k + 1) _ ?_ (fun j d1 d2 => h2 j (by omega) (by omega))
    split <;> omega
theorem zOv_f1 {wt val : Nat → Nat} {B : Nat} : ∀ (m k acc : Nat), (∀ j, k ≤ j → j < k + m → val j < 1000000000000000 ∧ val j ≤ B) → zOv 1 wt val m k acc + zSum wt k * B ≤ acc + zSum wt (k + m) * B := by
  intro m
  induction m with
  | zero => intro k acc h2; exact Nat.le_refl _
  | succ m ih =>
    intro k acc h2
    obtain ⟨a, b⟩ := h2 k (by omega) (by omega)
    rw [zOv, if_pos a, if_neg (by decide)]
    have h4 := ih (k + 1) (acc + wt k * val k) (fun j d1 d2 => h2 j (by omega) (by omega))
    have h5 : wt k * val k ≤ wt k * B := Nat.mul_le_mul_left _ b
    simp only [zSum] at h4
    rw [Nat.add_mul, show k + 1 + m = k + (m + 1) from by omega] at h4
    omega
/-- Arrays.fill of booleans: what is past -/
theorem c_fill6 {N b : Nat} {g : uEnv} {u : UH} {sa : Nat → Nat} {V : Nat → Int64} {D : Nat → Int32} (hk : kOk b sa) : ∀ (m i : Nat) (P : Nat → Int32), i ≤ 100 → 100 < i + m → ∃ P' : Nat → Int32, f_J10_fill_2_5 N b g m (kH u sa V D P) (some (sa 6)) 0 (iI i) (iI 100) = some (kH u sa V D P') ∧ (∀ j, i ≤ j → j < 100 → P' j = 0) ∧ ∀ j, j < i → P' j = P j := by
  intro m
  induction m with
  | zero => intro i P h1 h2; omega
  | succ m ih =>
    intro i P h1 h2
    rw [f_J10_fill_2_5]
    by_cases hi : i = 100
    · subst hi
      refine ⟨P, ?_, fun j d1 d2 => by omega, fun j _ => rfl⟩
      rw [if_pos (show iI (100 : Int) ≤ iI ((100 : Nat) : Int) from Int32.le_refl _)]
    · have ei : iI (i : Int) + 1 = iI ((i + 1 : Nat) : Int) := by
        rw [j1, i_add]
        rfl
      obtain ⟨P', a1, a2, a3⟩ := ih (i + 1) (upd P i 0) (by omega) (by omega)
      refine ⟨P', ?_, fun j d1 d2 => ?_, fun j d1 => ?_⟩
      · rw [n_le (by omega) (by omega) (by omega) (by omega) (by omega), p_bs, show vp_nar .boolean 0 = 0 from rfl, k_stP hk rfl (by omega), p_bs, p_let, ei]
        exact a1
      · by_cases x : j = i
        · rw [x, a3 i (by omega)]
          exact if_pos rfl
        · exact a2 j (by omega) d2
      · rw [a3 j (by omega)]
        exact if_neg (by omega)

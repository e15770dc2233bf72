/-! PLAIN: the room: hops of a way: special cells side by side and on the rim cost one each -/
/-- two special cells side by side, no hop between them -/
def rnE (l : Nat → Nat) (s : Nat → Bool) : Nat → Nat
  | 0 => 0
  | x + 1 => if s x = true ∧ s (x + 1) = true ∧ l (x + 1) = 0 then 1 else 0
section U5s
variable {v l : Nat → Nat} {s : Nat → Bool} {w : Nat}
theorem rn_row2 (hw : 1 ≤ w) (hv : ∀ x, v x ≤ 1) (hl0 : l 0 = 0) (hlw : l w = 0) (hl : ∀ x, l (x + 1) = 0 ∨ (l (x + 1) = 1 ∧ v x = 1 ∧ v (x + 1) = 1)) (hg : ∀ a b, a < b → b < w → v a = 1 → v b = 1 → (∀ x, a < x → x < b → v x = 0) → l b = 1 ∨ s a = true ∨ s b = true ∨ ∃ x, a < x ∧ x < b ∧ s x = true) : zSum v w + zSum (rnE l s) w + (if s 0 = true then 1 else 0) + (if s (w - 1) = true then 1 else 0) ≤ zSum l w + 1 + zSum (rnC v l s) w := by
  have P : ∀ n, n ≤ w → (zSum v n = 0 ∧ (∀ x, x < n → v x = 0) ∧ (n = 0 ∨ zSum (rnE l s) n + (if s 0 = true then 1 else 0) ≤ zSum (rnC v l s) n)) ∨ ∃ a u, a < n ∧ v a = 1 ∧ (∀ x, a < x → x < n → v x = 0) ∧ ((∃ x, a < x ∧ x < n ∧ s x = true) → 1 ≤ u + rnR l s a) ∧ zSum v n + rnR l s a + u + zSum (rnE l s) n + (if s 0 = true then 1 else 0) ≤ zSum l n + 1 + zSum (rnC v l s) n := by
    intro n
    induction n with
    | zero => intro _; exact Or.inl ⟨rfl, fun x hx => by omega, Or.inl rfl⟩
    | succ n ih =>
      intro hn
      have e1 : zSum v (n + 1) = zSum v n + v n := rfl
      have e2 : zSum l (n + 1) = zSum l n + l n := rfl
      have e3 : zSum (rnC v l s) (n + 1) = zSum (rnC v l s) n + rnC v l s n := rfl
      have e4 : zSum (rnE l s) (n + 1) = zSum (rnE l s) n + rnE l s n := rfl
      have ee : rnE l s n ≤ 1 ∧ (rnE l s n = 1 → 1 ≤ n ∧ s (n - 1) = true ∧ s n = true ∧ l n = 0) := by
        cases n with
        | zero => exact ⟨Nat.zero_le _, fun z => absurd z (show ¬ (0 : Nat) = 1 by decide)⟩
        | succ m =>
          show (if s m = true ∧ s (m + 1) = true ∧ l (m + 1) = 0 then 1 else 0) ≤ 1 ∧ ((if s m = true ∧ s (m + 1) = true ∧ l (m + 1) = 0 then 1 else 0) = 1 → _)
          by_cases c : s m = true ∧ s (m + 1) = true ∧ l (m + 1) = 0
          · rw [if_pos c]
            exact ⟨Nat.le_refl _, fun _ => ⟨by omega, c⟩⟩
          · rw [if_neg c]
            exact ⟨by omega, fun z => absurd z (by decide)⟩
      obtain ⟨ee1, ee2⟩ := ee
      by_cases c : v n = 0
      · have gn : s n = true → rnC v l s n = 1 := fun z => by
          unfold rnC
          rw [if_pos z, if_pos c]
        have en : rnE l s n ≤ rnC v l s n := by
          by_cases d : rnE l s n = 1
          · rw [gn (ee2 d).2.2.1]
            omega
          · omega
        rcases ih (by omega) with ⟨h1, h2, h2'⟩ | ⟨a, u, h1, h2, h3, h4, h5⟩
        · refine Or.inl ⟨by omega, fun x hx => ?_, Or.inr ?_⟩
          · by_cases d : x = n
            · rw [d]; exact c
            · exact h2 x (by omega)
          · rcases h2' with h2' | h2'
            · subst h2'
              have z0 : rnE l s 0 = 0 := rfl
              have z1 : zSum (rnE l s) 0 = 0 := rfl
              by_cases d : s 0 = true
              · rw [if_pos d]
                have := gn d
                omega
              · rw [if_neg d]
                omega
            · omega
        · right
          refine ⟨a, u + rnC v l s n - rnE l s n, by omega, h2, fun x hx hx' => ?_, fun ⟨x, x1, x2, x3⟩ => ?_, by omega⟩
          · by_cases d : x = n
            · rw [d]; exact c
            · exact h3 x hx (by omega)
          · by_cases d : x = n
            · rw [d] at x3
              have g1 := gn x3
              by_cases f : rnE l s n = 1
              · obtain ⟨f1, f2, -, f4⟩ := ee2 f
                by_cases i : n - 1 = a
                · have : rnR l s a = 1 := by
                    unfold rnR
                    rw [show a + 1 = n by omega, f4, ← i, if_pos f2]
                  omega
                · have := h4 ⟨n - 1, by omega, by omega, f2⟩
                  omega
              · omega
            · have := h4 ⟨x, x1, by omega, x3⟩
              omega
      · have c1 : v n = 1 := by
          have := hv n
          omega
        have cg : s n = true → rnC v l s n = (1 - l n) + rnR l s n := fun z => by
          unfold rnR rnC
          rw [if_pos z, if_pos z, if_neg c]
        have cg' : s n ≠ true → rnC v l s n = 0 ∧ rnR l s n = 0 ∧ rnE l s n = 0 := fun z => by
          refine ⟨?_, ?_, ?_⟩
          · unfold rnC
            rw [if_neg z]
          · unfold rnR
            rw [if_neg z]
          · by_cases f : rnE l s n = 1
            · exact absurd (ee2 f).2.2.1 z
            · omega
        right
        rcases ih (by omega) with ⟨h1, h2, h2'⟩ | ⟨a, u, h1, h2, h3, h4, h5⟩
        · refine ⟨n, 0, by omega, c1, fun x hx hx' => by omega, fun ⟨x, x1, x2, x3⟩ => by omega, ?_⟩
          have ln : l n = 0 := by
            cases n with
            | zero => exact hl0
            | succ m =>
              rcases hl m with q | ⟨-, q, -⟩
              · exact q
              · have := h2 m (by omega)
                omega
          rcases h2' with h2' | h2'
          · subst h2'
            have z0 : rnE l s 0 = 0 := rfl
            have z1 : zSum (rnE l s) 0 = 0 := rfl
            have z2 : zSum v 0 = 0 := rfl
            by_cases d : s 0 = true
            · rw [if_pos d]
              have := cg d
              omega
            · rw [if_neg d]
              have := cg' d
              omega
          · by_cases d : s n = true
            · have := cg d
              omega
            · have := cg' d
              omega
        · refine ⟨n, 0, by omega, c1, fun x hx hx' => by omega, fun ⟨x, x1, x2, x3⟩ => by omega, ?_⟩
          by_cases y : l n = 0
          · have ea : l (a + 1) = 0 := by
              rcases hl a with q | ⟨q, -, q2⟩
              · exact q
              · by_cases d : a + 1 = n
                · rw [d]; exact y
                · have := h3 (a + 1) (by omega) (by omega)
                  omega
            have ra : s a = true → rnR l s a = 1 := fun z => by
              unfold rnR
              rw [if_pos z, ea]
            by_cases d : s n = true
            · have k := cg d
              by_cases f : rnE l s n = 1
              · obtain ⟨f1, f2, -, f4⟩ := ee2 f
                by_cases i : n - 1 = a
                · rw [i] at f2
                  have := ra f2
                  omega
                · have := h4 ⟨n - 1, by omega, by omega, f2⟩
                  omega
              · omega
            · have k := cg' d
              rcases hg a n h1 (by omega) h2 c1 h3 with z | z | z | z
              · omega
              · have := ra z
                omega
              · exact absurd z d
              · have := h4 z
                omega
          · have f : rnE l s n = 0 := by
              by_cases f : rnE l s n = 1
              · exact absurd (ee2 f).2.2.2 y
              · omega
            have ly : l n = 1 := by
              cases n with
              | zero => exact absurd hl0 y
              | succ m =>
                rcases hl m with q | ⟨q, -, -⟩
                · exact absurd q y
                · exact q
            by_cases d : s n = true
            · have k := cg d
              omega
            · have k := cg' d
              omega
  rcases P w (Nat.le_refl _) with ⟨h1, h2, h3⟩ | ⟨a, u, h1, h2, h3, h4, h5⟩
  · rcases h3 with h3 | h3
    · omega
    · have : (if s (w - 1) = true then 1 else 0) ≤ 1 := by split <;> omega
      omega
  · by_cases d : s (w - 1) = true
    · rw [if_pos d]
      by_cases i : w - 1 = a
      · have : rnR l s a = 1 := by
          unfold rnR
          rw [show a + 1 = w by omega, hlw, ← i, if_pos d]
        omega
      · have := h4 ⟨w - 1, by omega, by omega, d⟩
        omega
    · rw [if_neg d]
      omega
end U5s

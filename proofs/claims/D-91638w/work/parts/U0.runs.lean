/-! PLAIN: the room: hops of a way that is straight on plain lines -/
/-- one line: what a special cell may be charged -/
def rnC (v l : Nat → Nat) (s : Nat → Bool) (x : Nat) : Nat := if s x = true then (if v x = 0 then 1 else (1 - l x) + (1 - l (x + 1))) else 0
def rnR (l : Nat → Nat) (s : Nat → Bool) (x : Nat) : Nat := if s x = true then 1 - l (x + 1) else 0
section U0s
variable {v l : Nat → Nat} {s : Nat → Bool} {w : Nat}
theorem rn_row (hv : ∀ x, v x ≤ 1) (hl : ∀ x, l (x + 1) = 0 ∨ (l (x + 1) = 1 ∧ v x = 1 ∧ v (x + 1) = 1)) (hg : ∀ a b, a < b → b < w → v a = 1 → v b = 1 → (∀ x, a < x → x < b → v x = 0) → l b = 1 ∨ s a = true ∨ s b = true ∨ ∃ x, a < x ∧ x < b ∧ s x = true) : zSum v w ≤ zSum l w + 1 + zSum (rnC v l s) w := by
  have P : ∀ n, n ≤ w → (zSum v n = 0 ∧ ∀ x, x < n → v x = 0) ∨ ∃ a u, a < n ∧ v a = 1 ∧ (∀ x, a < x → x < n → v x = 0) ∧ ((∃ x, a < x ∧ x < n ∧ s x = true) → 1 ≤ u) ∧ zSum v n + rnR l s a + u ≤ zSum l n + 1 + zSum (rnC v l s) n := by
    intro n
    induction n with
    | zero => intro _; exact Or.inl ⟨rfl, fun x hx => by omega⟩
    | succ n ih =>
      intro hn
      have e1 : zSum v (n + 1) = zSum v n + v n := rfl
      have e2 : zSum l (n + 1) = zSum l n + l n := rfl
      have e3 : zSum (rnC v l s) (n + 1) = zSum (rnC v l s) n + rnC v l s n := rfl
      by_cases c : v n = 0
      · rcases ih (by omega) with ⟨h1, h2⟩ | ⟨a, u, h1, h2, h3, h4, h5⟩
        · refine Or.inl ⟨by omega, fun x hx => ?_⟩
          by_cases d : x = n
          · rw [d]; exact c
          · exact h2 x (by omega)
        · right
          have gn : s n = true → rnC v l s n = 1 := fun z => by
            unfold rnC
            rw [if_pos z, if_pos c]
          refine ⟨a, u + rnC v l s n, by omega, h2, fun x hx hx' => ?_, fun ⟨x, x1, x2, x3⟩ => ?_, by omega⟩
          · by_cases d : x = n
            · rw [d]; exact c
            · exact h3 x hx (by omega)
          · by_cases d : x = n
            · rw [d] at x3
              rw [gn x3]
              omega
            · have := h4 ⟨x, x1, by omega, x3⟩
              omega
      · have c1 : v n = 1 := by
          have := hv n
          omega
        have cg : rnR l s n ≤ rnC v l s n := by
          unfold rnR rnC
          by_cases z : s n = true
          · rw [if_pos z, if_pos z, if_neg c]
            omega
          · rw [if_neg z, if_neg z]
            exact Nat.le_refl _
        right
        rcases ih (by omega) with ⟨h1, h2⟩ | ⟨a, u, h1, h2, h3, h4, h5⟩
        · exact ⟨n, 0, by omega, c1, fun x hx hx' => by omega, fun ⟨x, x1, x2, x3⟩ => by omega, by omega⟩
        · refine ⟨n, 0, by omega, c1, fun x hx hx' => by omega, fun ⟨x, x1, x2, x3⟩ => by omega, ?_⟩
          rcases hg a n h1 (by omega) h2 c1 h3 with z | z | z | z
          · omega
          · by_cases y : l n = 0
            · have ea : l (a + 1) = 0 := by
                rcases hl a with q | ⟨q, -, q2⟩
                · exact q
                · by_cases d : a + 1 = n
                  · rw [d]; exact y
                  · have := h3 (a + 1) (by omega) (by omega)
                    omega
              have : rnR l s a = 1 := by
                unfold rnR
                rw [if_pos z, ea]
              omega
            · omega
          · by_cases y : l n = 0
            · have : rnR l s n + 1 ≤ rnC v l s n := by
                unfold rnR rnC
                rw [if_pos z, if_pos z, if_neg c, y]
                omega
              omega
            · omega
          · have := h4 z
            omega
  rcases P w (Nat.le_refl _) with ⟨h1, -⟩ | ⟨a, u, -, -, -, -, h5⟩ <;> omega
end U0s

/-! PLAIN: the room: a book: 21 signs for each ground -/
section S10s
variable {N : Nat} {σ σ' : MS} {r : Int32}
/-- the grounds that are read, against the signs -/
def vH (a b : MS) : Prop := (a.1 13 ≠ 0 → b.1 13 ≠ 0) ∧ ∀ n st g : Nat, tOk n a st → a.1 22 = iI g → 21 * g ≤ st → b.1 13 = 0 → ∃ st' g' : Nat, tOk n b st' ∧ b.1 22 = iI g' ∧ 21 * g' ≤ st'
theorem vH_r {a : MS} : vH a a := ⟨fun h => h, fun n st g h1 h2 h3 _ => ⟨st, g, h1, h2, h3⟩⟩
theorem vH.t {a b c : MS} (h : vH a b) (h' : vH b c) : vH a c := ⟨fun z => h'.1 (h.1 z), fun n st g h1 h2 h3 z => by
  have zb : b.1 13 = 0 := Classical.byContradiction (fun w => h'.1 w z)
  obtain ⟨s1, g1, k1, k2, k3⟩ := h.2 n st g h1 h2 h3 zb
  exact h'.2 n s1 g1 k1 k2 k3 z⟩
theorem vG.h {a b : MS} (h : vG 21 a b) : vH a b := ⟨h.1, fun n st g h1 h2 h3 z => by
  obtain ⟨s1, g1, k1, k2, k3, k4⟩ := h.2 n st g h1 h2 z
  refine ⟨s1, g1, k1, k2, ?_⟩
  rcases k4 with k4 | ⟨k4, k5⟩ <;> omega⟩
theorem vKt.h {a b : MS} (h : vKt a b) (y : b.1 22 = a.1 22) : vH a b := ⟨h.2, fun n st g h1 h2 h3 _ => by
  obtain ⟨s1, k1, k2⟩ := h.1 n st h1
  exact ⟨s1, g, k1, y.trans h2, by omega⟩⟩
theorem p_b116 (h : f_book_116 N σ = some (r, σ')) : ∃ s, vH σ s ∧ f_book_140 N s = some (r, σ') := by
  unfold f_book_116 at h
  obtain ⟨y1, e1⟩ : ∃ z, z = σ.1 13 := ⟨_, rfl⟩
  have h := mlet_at e1 h
  by_cases c : y1 = 0
  · have h := mif_t c h
    obtain ⟨y3, e3⟩ : ∃ z, z = σ.1 6 := ⟨_, rfl⟩
    have h := mlet_at e3 h
    by_cases d : y3 = 0
    · exact ⟨σ, vH_r, mif_t d h⟩
    · have h := mif_f d h
      obtain ⟨y5, e5⟩ : ∃ z, z = σ.1 4 := ⟨_, rfl⟩
      have h := mlet_at e5 h
      obtain ⟨r9, s7, c9, h⟩ := mcall_n h
      exact ⟨s7, (kt_wrong N σ 1 y5 _ _ c9).1.h ((ky_wrong N σ 1 y5 _ _ c9).1 22 rfl), h⟩
  · exact ⟨σ, vH_r, mif_f c h⟩
theorem p_b89 : ∀ (f : Nat) (a : MS), f_book_89 N f a = some (r, σ') → ∃ s, vH a s ∧ f_book_140 N s = some (r, σ') := by
  intro f
  induction f with
  | zero => intro a h; cases h
  | succ f ih =>
    intro a h
    unfold f_book_89 at h
    obtain ⟨y1, e1⟩ : ∃ z, z = a.1 13 := ⟨_, rfl⟩
    have h := mlet_at e1 h
    by_cases c : y1 = 0
    · have h := mif_t c h
      obtain ⟨y3, e3⟩ : ∃ z, z = a.1 6 := ⟨_, rfl⟩
      have h := mlet_at e3 h
      by_cases d : y3 = 59
      · have h := mif_t d h
        obtain ⟨s6, c6, h⟩ := mcallv_n h
        obtain ⟨s9, c9, h⟩ := mcallv_n h
        obtain ⟨s, w, h⟩ := ih s9 h
        exact ⟨s, (((kt_next N a s6 c6).h ((ky_next N a s6 c6).1 22 rfl)).t (p_line c9).h).t w, h⟩
      · exact p_b116 (mif_f d h)
    · exact p_b116 (mif_f c h)
end S10s

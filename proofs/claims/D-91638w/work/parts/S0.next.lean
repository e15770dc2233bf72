/-! PLAIN: the room: the next token -/
section S5s
variable {N : Nat} {σ σ' : MS}
theorem p_n5 {n : Nat} (hn : n ≤ 500) : ∀ (f x : Nat) (s : MS), s.1 3 = iI n → x ≤ n → f_next_5 N f s (iI x) = some σ' → ∃ st : Nat, x ≤ st ∧ tOk n σ' st := by
  intro f
  induction f with
  | zero => intro x s _ _ h; cases h
  | succ f ih =>
    intro x s h3 hx h
    unfold f_next_5 at h
    obtain ⟨r3, s1, c1, g1⟩ := mcall_n h
    obtain ⟨rfl, e3⟩ := p_look c1
    clear h
    have h := g1
    have ex : iI (x : Int) + 1 = iI ((x + 1 : Nat) : Int) := by
      rw [j1, i_add]
      rfl
    by_cases c : r3 = 32
    · have h := mif_t c h
      have xn : x < n := lk_in h3 hn (by omega) (fun z => by
        rw [e3, z] at c
        exact absurd c (by decide))
      have h : f_next_5 N f s1 (iI (x : Int) + 1) = some σ' := h
      rw [ex] at h
      obtain ⟨st, k1, k2⟩ := ih (x + 1) s1 h3 (by omega) h
      exact ⟨st, by omega, k2⟩
    · have h := mif_f c h
      obtain ⟨s5, e5⟩ : ∃ z, z = mSet s1 4 (iI x) := ⟨_, rfl⟩
      have h := mlet_at e5 h
      obtain ⟨r8, s6, c2, g2⟩ := mcall_n h
      obtain ⟨q6, e8⟩ := p_look c2
      obtain ⟨s9, e9⟩ : ∃ z, z = mSet s6 8 0 := ⟨_, rfl⟩
      have h := mlet_at e9 g2
      obtain ⟨s10, e10⟩ : ∃ z, z = mSet s9 7 0 := ⟨_, rfl⟩
      have h := mlet_at e10 h
      have F : ∀ k, k ≠ 4 → k ≠ 8 → k ≠ 7 → s10.1 k = s1.1 k := fun k a b c => by
        rw [e10, e9, q6, e5]
        show upd (upd (upd s1.1 4 (iI x)) 8 0) 7 0 k = _
        rw [upd_n c, upd_n b, upd_n a]
      have F4 : s10.1 4 = iI x := by
        rw [e10, e9, q6, e5]
        show upd (upd (upd s1.1 4 (iI x)) 8 0) 7 0 4 = _
        rw [upd_n (by decide), upd_n (by decide), upd_s]
      have F8 : s10.1 8 = iI ((0 : Nat) : Int) := by
        rw [e10, e9, q6, e5]
        show upd (upd (upd s1.1 4 (iI x)) 8 0) 7 0 8 = _
        rw [upd_n (by decide), upd_s]
        rfl
      have R : s10.2 = s1.2 := by
        rw [e10, e9, q6, e5]
        rfl
      have F3 : s10.1 3 = iI n := (F 3 (by decide) (by decide) (by decide)).trans h3
      have L8 : r8 = lk s10 (iI x) := by
        rw [e8]
        unfold lk
        rw [F 3 (by decide) (by decide) (by decide), R, e5]
        rfl
      refine ⟨x, Nat.le_refl _, ?_⟩
      by_cases d : r8 = (-1)
      · have h := mif_t d h
        have h : some (mSet (mSet s10 6 0) 5 (iI x)) = some σ' := h
        injection h with h
        rw [← h]
        refine ⟨?_, hn, ?_, x, ?_, Nat.le_refl _, hx, fun z => ?_, fun z => ?_⟩
        · show upd (upd s10.1 6 0) 5 (iI x) 3 = _
          rw [upd_n (by decide), upd_n (by decide)]
          exact F3
        · show upd (upd s10.1 6 0) 5 (iI x) 4 = _
          rw [upd_n (by decide), upd_n (by decide)]
          exact F4
        · show upd (upd s10.1 6 0) 5 (iI x) 5 = _
          rw [upd_s]
        · have z : upd (upd s10.1 6 0) 5 (iI x) 6 = 2 := z
          rw [upd_n (by decide), upd_s] at z
          exact absurd z (by decide)
        · have z : upd (upd s10.1 6 0) 5 (iI x) 6 = 3 := z
          rw [upd_n (by decide), upd_s] at z
          exact absurd z (by decide)
      · have h := mif_f d h
        have xn : x < n := lk_in F3 hn (by omega) (by rw [← L8]; exact d)
        obtain ⟨r14, s12, c3, g3⟩ := mcall_n h
        obtain ⟨q12, e14⟩ := p_small c3
        by_cases e : r14 = 0
        · have h := mif_t e g3
          obtain ⟨r18, s16, c4, g4⟩ := mcall_n h
          obtain ⟨q16, e18⟩ := p_digit c4
          by_cases f' : r18 = 0
          · have h := mif_t f' g4
            obtain ⟨s20, e20⟩ : ∃ z, z = mSet s16 5 (iI (x : Int) + 1) := ⟨_, rfl⟩
            have h := mlet_at e20 h
            have fin : ∀ v : Int32, v ≠ 2 → v ≠ 3 → f_next_262 N s20 v = some σ' → tOk n σ' x := fun v v2 v3 h => by
              have h : some (mSet s20 6 v) = some σ' := h
              injection h with h
              rw [← h, e20, q16, q12]
              refine ⟨?_, hn, ?_, x + 1, ?_, by omega, by omega, fun z => ?_, fun z => ?_⟩
              · show upd (upd s10.1 5 (iI (x : Int) + 1)) 6 v 3 = _
                rw [upd_n (by decide), upd_n (by decide)]
                exact F3
              · show upd (upd s10.1 5 (iI (x : Int) + 1)) 6 v 4 = _
                rw [upd_n (by decide), upd_n (by decide)]
                exact F4
              · show upd (upd s10.1 5 (iI (x : Int) + 1)) 6 v 5 = _
                rw [upd_n (by decide), upd_s, ex]
              · have z : upd (upd s10.1 5 (iI (x : Int) + 1)) 6 v 6 = 2 := z
                rw [upd_s] at z
                exact absurd z v2
              · have z : upd (upd s10.1 5 (iI (x : Int) + 1)) 6 v 6 = 3 := z
                rw [upd_s] at z
                exact absurd z v3
            have fin7 : ∀ v : Int32, v ≠ 2 → v ≠ 3 → f_next_257 N s20 v = some σ' → tOk n σ' x := fun v v2 v3 h => fin v v2 v3 h
            by_cases c59 : r8 = 59
            · exact fin7 r8 (by rw [c59]; decide) (by rw [c59]; decide) (mif_t c59 h)
            · have h := mif_f c59 h
              by_cases c44 : r8 = 44
              · exact fin7 r8 (by rw [c44]; decide) (by rw [c44]; decide) (mif_t c44 h)
              · have h := mif_f c44 h
                by_cases c45 : r8 = 45
                · exact fin7 r8 (by rw [c45]; decide) (by rw [c45]; decide) (mif_t c45 h)
                · have h := mif_f c45 h
                  by_cases c40 : r8 = 40
                  · exact fin7 r8 (by rw [c40]; decide) (by rw [c40]; decide) (mif_t c40 h)
                  · have h := mif_f c40 h
                    by_cases c41 : r8 = 41
                    · exact fin7 r8 (by rw [c41]; decide) (by rw [c41]; decide) (mif_t c41 h)
                    · exact fin 1 (by decide) (by decide) (mif_f c41 h)
          · have h := mif_f f' g4
            rw [q16, q12] at h
            obtain ⟨x', k1, k2, k3, k4, k5, k6, k7⟩ := p_152 hn N x 0 s10 F3 hx h
            have x1 : x < x' := k7 (by rw [← L8, ← e18]; exact f')
            refine ⟨k4.trans F3, hn, k5.trans F4, x', k1, k2, k3, fun z => ?_, fun _ => x1⟩
            rcases k6 with k6 | k6 <;> rw [k6] at z <;> exact absurd z (by decide)
        · have h := mif_f e g3
          rw [q12] at h
          obtain ⟨x', m', k1, k2, k3, k4, k5, k6, k7, k8, k9⟩ := p_67 hn N x 0 s10 F3 F8 hx (by omega) h
          have x1 : x < x' := k9 (by rw [← L8, ← e14]; exact e)
          refine ⟨k6.trans F3, hn, k7.trans F4, x', k1, k4, k5, fun _ => ⟨m', k2, by omega, by omega, by omega⟩, fun z => ?_⟩
          rcases k8 with k8 | k8 <;> rw [k8] at z <;> exact absurd z (by decide)
theorem p_next {n st : Nat} (h : tOk n σ st) (e : f_next N σ = some σ') : ∃ st' : Nat, tOk n σ' st' ∧ st ≤ st' ∧ (∀ m : Nat, σ.1 6 = 2 → σ.1 8 = iI m → m ≤ 500 → st + m ≤ st') ∧ (σ.1 6 = 3 → st + 1 ≤ st') := by
  obtain ⟨h3, hn, h4, a, h5, h6, h7, h8, h9⟩ := h
  unfold f_next at e
  have e : f_next_5 N N σ (σ.1 5) = some σ' := e
  rw [h5] at e
  obtain ⟨st', k1, k2⟩ := p_n5 hn N a σ h3 h7 e
  refine ⟨st', k2, by omega, fun m z1 z2 z3 => ?_, fun z => ?_⟩
  · obtain ⟨m', q1, q2, q3, q4⟩ := h8 z1
    have : iI (m' : Int) = iI (m : Int) := q1.symm.trans z2
    rw [j_eq (by omega) (by omega) (by omega) (by omega)] at this
    omega
  · have := h9 z
    omega
/-- the reading goes on, a fault stays -/
def vKt (σ σ' : MS) : Prop := (∀ n st : Nat, tOk n σ st → ∃ st' : Nat, tOk n σ' st' ∧ st ≤ st') ∧ (σ.1 13 ≠ 0 → σ'.1 13 ≠ 0)
theorem vKt_r {σ : MS} : vKt σ σ := ⟨fun n st h => ⟨st, h, Nat.le_refl _⟩, fun h => h⟩
theorem vKt.t {a b c : MS} (h : vKt a b) (h' : vKt b c) : vKt a c := ⟨fun n st hs => by
  obtain ⟨s1, k1, k2⟩ := h.1 n st hs
  obtain ⟨s2, k3, k4⟩ := h'.1 n s1 k1
  exact ⟨s2, k3, by omega⟩, fun z => h'.2 (h.2 z)⟩
def vOkT (k : Nat) : Bool := !(k == 3 || k == 4 || k == 5 || k == 6 || k == 8 || k == 13)
theorem vKt_set {σ : MS} {k : Nat} {v : Int32} (h : vOkT k = true) : vKt σ (mSet σ k v) := by
  have ne : ∀ i, i = 3 ∨ i = 4 ∨ i = 5 ∨ i = 6 ∨ i = 8 ∨ i = 13 → (mSet σ k v).1 i = σ.1 i := fun i hi => upd_n (fun z => by
    subst z
    unfold vOkT at h
    rcases hi with rfl | rfl | rfl | rfl | rfl | rfl <;> exact absurd h (by decide))
  refine ⟨fun n st hs => ⟨st, ?_, Nat.le_refl _⟩, fun z => ?_⟩
  · unfold tOk
    rw [ne 3 (by omega), ne 4 (by omega), ne 5 (by omega), ne 6 (by omega), ne 8 (by omega)]
    exact hs
  · rw [ne 13 (by omega)]
    exact z
theorem vKt_arr {σ : MS} {j i : Nat} {x : Int32} : vKt σ (mArr σ j i x) := ⟨fun n st hs => ⟨st, hs, Nat.le_refl _⟩, fun z => z⟩
theorem vKt_val {σ : MS} {i : Nat} {x : Int64} : vKt σ (mVal σ i x) := ⟨fun n st hs => ⟨st, hs, Nat.le_refl _⟩, fun z => z⟩
end S5s
theorem kt_next (N : Nat) (σ : MS) (σ_ : MS) (h : f_next N σ = some σ_) : vKt σ σ_ := ⟨fun n st hs => by
  obtain ⟨s1, k1, k2, -⟩ := p_next hs h
  exact ⟨s1, k1, k2⟩, fun z => by
  rw [(kn_next N σ _ h).1 13 (by omega)]
  exact z⟩
theorem kt_wrong (N : Nat) (σ : MS) (x1 x2 : Int32) (r : Int32) (σ_ : MS) (h : f_wrong N σ x1 x2 = some (r, σ_)) : vKt σ σ_ ∧ σ_.1 13 ≠ 0 := by
  unfold f_wrong f_wrong_22 at h
  by_cases c : (σ.1 13) = 0
  · have h := mif_t c h
    have h : some ((0 : Int32), mSet (mSet (mSet σ 13 1) 9 x1) 10 x2) = some (r, σ_) := h
    cases h
    refine ⟨⟨fun n st hs => ⟨st, hs, Nat.le_refl _⟩, fun z => absurd c z⟩, ?_⟩
    show upd (upd (upd σ.1 13 1) 9 x1) 10 x2 13 ≠ 0
    rw [upd_n (by decide), upd_n (by decide), upd_s]
    decide
  · have h := mif_f c h
    cases h
    exact ⟨vKt_r, c⟩

/-! PLAIN: the room: words and numbers are read: the reading goes on -/
section S6s
variable {N : Nat} {σ σ' : MS}
theorem p_w32 {tx : List Int32} {r : Int32} : ∀ (f : Nat) (s : MS) (x2 x3 : Int32), f_word_32 N tx f s x2 x3 = some (r, σ') → σ' = s := by
  intro f
  induction f with
  | zero => intro s x2 x3 h; cases h
  | succ f ih =>
    intro s x2 x3 h
    unfold f_word_32 at h
    obtain ⟨y1, ey1⟩ : ∃ z, z = s.1 8 := ⟨_, rfl⟩
    have h := mlet_at ey1 h
    by_cases c : y1 ≤ x3
    · have h := mif_t c h
      obtain ⟨c2, h⟩ := mif_n h
      cases h
      rfl
    · have h := mif_f c h
      by_cases c3 : x2 = 0
      · have h := mif_t c3 h
        exact ih s 0 (x3 + 1) h
      · have h := mif_f c3 h
        obtain ⟨c4, h⟩ := mif_n h
        obtain ⟨y7, ey7⟩ : ∃ z, z = s.2.1 11 x3.toNatClampNeg := ⟨_, rfl⟩
        have h := mlet_at ey7 h
        obtain ⟨c5, h⟩ := mif_n h
        obtain ⟨r12, er⟩ : ∃ z, z = tx.getD x3.toNatClampNeg 0 := ⟨_, rfl⟩
        have h := mlet_at er h
        by_cases c6 : y7 = r12
        · exact ih s 1 (x3 + 1) (mif_t c6 h)
        · exact ih s 0 (x3 + 1) (mif_f c6 h)
theorem p_word {tx : List Int32} {r : Int32} (h : f_word N tx σ = some (r, σ')) : σ' = σ ∧ (r ≠ 0 → σ.1 13 = 0 ∧ σ.1 6 = 2 ∧ σ.1 8 = Int32.ofNat tx.length) := by
  unfold f_word at h
  obtain ⟨y1, e1⟩ : ∃ z, z = σ.1 13 := ⟨_, rfl⟩
  have h := mlet_at e1 h
  have nn : some ((0 : Int32), σ) = some (r, σ') → σ' = σ ∧ (r ≠ 0 → σ.1 13 = 0 ∧ σ.1 6 = 2 ∧ σ.1 8 = Int32.ofNat tx.length) := fun h => by
    cases h
    exact ⟨rfl, fun z => absurd rfl z⟩
  by_cases c1 : y1 = 0
  · have h := mif_t c1 h
    obtain ⟨y3, e3⟩ : ∃ z, z = σ.1 6 := ⟨_, rfl⟩
    have h := mlet_at e3 h
    by_cases c2 : y3 = 2
    · have h := mif_t c2 h
      obtain ⟨y5, e5⟩ : ∃ z, z = σ.1 8 := ⟨_, rfl⟩
      have h := mlet_at e5 h
      obtain ⟨r10, e10⟩ : ∃ z, z = Int32.ofNat tx.length := ⟨_, rfl⟩
      have h := mlet_at e10 h
      by_cases c3 : y5 = r10
      · have h := mif_t c3 h
        exact ⟨p_w32 N σ 1 0 h, fun _ => ⟨by rw [← e1]; exact c1, by rw [← e3]; exact c2, by rw [← e5, ← e10]; exact c3⟩⟩
      · exact nn (mif_f c3 h)
    · exact nn (mif_f c2 h)
  · exact nn (mif_f c1 h)
theorem p_within {x0 x1 x2 r : Int32} (h : f_within N σ x0 x1 x2 = some (r, σ')) : σ' = σ := by
  have e : ∀ v : Int32, f_within_15 N σ v = some (r, σ') → σ' = σ := fun v h => by
    unfold f_within_15 at h
    obtain ⟨_, h⟩ := mif_n h
    cases h
    rfl
  unfold f_within at h
  by_cases c1 : x0 < x1
  · exact e _ (mif_t c1 h)
  · have h := mif_f c1 h
    by_cases c2 : x2 < x0
    · exact e _ (mif_t c2 h)
    · exact e _ (mif_f c2 h)
/-- the reading goes on by at least a signs, or there is a fault -/
def vKs (a : Nat) (σ σ' : MS) : Prop := (∀ n st : Nat, tOk n σ st → σ'.1 13 = 0 → ∃ st' : Nat, tOk n σ' st' ∧ st + a ≤ st') ∧ (σ.1 13 ≠ 0 → σ'.1 13 ≠ 0)
theorem vKt.s {a b : MS} (h : vKt a b) : vKs 0 a b := ⟨fun n st hs _ => by
  obtain ⟨s1, k1, k2⟩ := h.1 n st hs
  exact ⟨s1, k1, by omega⟩, h.2⟩
theorem vKs.le {x y : Nat} {a b : MS} (h : vKs x a b) (hl : y ≤ x) : vKs y a b := ⟨fun n st hs z => by
  obtain ⟨s1, k1, k2⟩ := h.1 n st hs z
  exact ⟨s1, k1, by omega⟩, h.2⟩
theorem vKs.t {x y : Nat} {a b c : MS} (h : vKs x a b) (h' : vKs y b c) : vKs (x + y) a c := ⟨fun n st hs z => by
  have zb : b.1 13 = 0 := Classical.byContradiction (fun w => h'.2 w z)
  obtain ⟨s1, k1, k2⟩ := h.1 n st hs zb
  obtain ⟨s2, k3, k4⟩ := h'.1 n s1 k1 z
  exact ⟨s2, k3, by omega⟩, fun z => h'.2 (h.2 z)⟩
theorem vKs_bad {x : Nat} {a b : MS} (h : vKt a b) (z : b.1 13 ≠ 0) : vKs x a b := ⟨fun _ _ _ w => absurd w z, h.2⟩
theorem ks_number {x1 x2 r : Int32} (h : f_number N σ x1 x2 = some (r, σ')) : vKs 1 σ σ' := by
  have K := kt_number N σ x1 x2 r σ' h
  unfold f_number at h
  by_cases c1 : (σ.1 13) = 0
  · have h := mif_t c1 h
    by_cases c2 : (σ.1 6) = 3
    · have h := mif_t c2 h
      obtain ⟨y3, e3⟩ : ∃ z, z = σ.1 7 := ⟨_, rfl⟩
      have h := mlet_at e3 h
      obtain ⟨r6, σ4, c3, g⟩ := mcall_n h
      have q4 := p_within c3
      by_cases c4 : r6 = 0
      · have h := mif_t c4 g
        obtain ⟨r12, σ10, c5, h⟩ := mcall_n h
        cases h
        exact vKs_bad K (kt_wrong N σ4 4 (σ4.1 4) _ _ c5).2
      · have h := mif_f c4 g
        obtain ⟨σ8, c5, h⟩ := mcallv_n h
        cases h
        rw [q4] at c5
        refine ⟨fun n st hs _ => ?_, K.2⟩
        obtain ⟨s1, k1, k2, k3, k4⟩ := p_next hs c5
        exact ⟨s1, k1, k4 c2⟩
    · have h := mif_f c2 h
      obtain ⟨r12, σ10, c5, h⟩ := mcall_n h
      cases h
      exact vKs_bad K (kt_wrong N σ 1 (σ.1 4) _ _ c5).2
  · have h := mif_f c1 h
    cases h
    exact vKs_bad K c1
theorem ks_must {tx : List Int32} {r : Int32} (hl : tx.length ≤ 500) (h : f_must N tx σ = some (r, σ')) : vKs tx.length σ σ' := by
  have K := kt_must N tx σ r σ' h
  unfold f_must at h
  obtain ⟨y1, e1⟩ : ∃ z, z = σ.1 13 := ⟨_, rfl⟩
  have h := mlet_at e1 h
  by_cases c1 : y1 = 0
  · have h := mif_t c1 h
    obtain ⟨r6, σ4, c3, g⟩ := mcall_n h
    obtain ⟨q4, w⟩ := p_word c3
    by_cases c4 : r6 = 0
    · have h := mif_t c4 g
      obtain ⟨y11, e11⟩ : ∃ z, z = σ4.1 4 := ⟨_, rfl⟩
      have h := mlet_at e11 h
      obtain ⟨r15, σ13, c5, h⟩ := mcall_n h
      obtain ⟨_, h⟩ := mif_n h
      cases h
      exact vKs_bad K (kt_wrong N σ4 1 y11 _ _ c5).2
    · have h := mif_f c4 g
      obtain ⟨σ9, c5, h⟩ := mcallv_n h
      cases h
      rw [q4] at c5
      obtain ⟨w1, w2, w3⟩ := w c4
      refine ⟨fun n st hs _ => ?_, K.2⟩
      obtain ⟨s1, k1, k2, k3, k4⟩ := p_next hs c5
      exact ⟨s1, k1, k3 tx.length w2 w3 hl⟩
  · have h := mif_f c1 h
    cases h
    exact vKs_bad K (by rw [← e1]; exact c1)
end S6s

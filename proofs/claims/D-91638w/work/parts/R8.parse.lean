/-! PLAIN: the room: how long a text is: where a token begins -/
/-- a token begins at st -/
def tOk (n : Nat) (σ : MS) (st : Nat) : Prop := σ.1 3 = iI n ∧ n ≤ 500 ∧ σ.1 4 = iI st ∧ ∃ a : Nat, σ.1 5 = iI a ∧ st ≤ a ∧ a ≤ n ∧ (σ.1 6 = 2 → ∃ m : Nat, σ.1 8 = iI m ∧ 1 ≤ m ∧ m ≤ 500 ∧ st + m ≤ a) ∧ (σ.1 6 = 3 → st + 1 ≤ a)
/-- the sign at a place -/
def lk (σ : MS) (x : Int32) : Int32 := if (σ.1 3) ≤ x then -1 else σ.2.1 1 x.toNatClampNeg
def sm (r : Int32) : Int32 := if r < 97 then 0 else if 122 < r then 0 else 1
def dg (r : Int32) : Int32 := if r < 48 then 0 else if 57 < r then 0 else 1
section S4s
variable {N : Nat} {σ σ' : MS}
theorem p_look {r x : Int32} (h : f_look N σ x = some (r, σ')) : σ' = σ ∧ r = lk σ x := by
  unfold f_look f_look_18 at h
  unfold lk
  by_cases c : (σ.1 3) ≤ x
  · have h := mif_t c h
    cases h
    rw [if_pos c]
    exact ⟨rfl, rfl⟩
  · have h := mif_f c h
    obtain ⟨-, h⟩ := mif_n h
    have h : some (σ.2.1 1 x.toNatClampNeg, σ) = some (r, σ') := h
    cases h
    rw [if_neg c]
    exact ⟨rfl, rfl⟩
theorem p_small {r v : Int32} (h : f_isSmall N σ r = some (v, σ')) : σ' = σ ∧ v = sm r := by
  unfold f_isSmall f_isSmall_16 f_isSmall_17 at h
  unfold sm
  by_cases c : r < 97
  · have h := mif_t c h
    obtain ⟨-, h⟩ := mif_n h
    cases h
    rw [if_pos c]
    exact ⟨rfl, rfl⟩
  · have h := mif_f c h
    rw [if_neg c]
    by_cases d : 122 < r
    · have h := mif_t d h
      obtain ⟨-, h⟩ := mif_n h
      cases h
      rw [if_pos d]
      exact ⟨rfl, rfl⟩
    · have h := mif_f d h
      obtain ⟨-, h⟩ := mif_n h
      cases h
      rw [if_neg d]
      exact ⟨rfl, rfl⟩
theorem p_digit {r v : Int32} (h : f_isDigit N σ r = some (v, σ')) : σ' = σ ∧ v = dg r := by
  unfold f_isDigit f_isDigit_16 f_isDigit_17 at h
  unfold dg
  by_cases c : r < 48
  · have h := mif_t c h
    obtain ⟨-, h⟩ := mif_n h
    cases h
    rw [if_pos c]
    exact ⟨rfl, rfl⟩
  · have h := mif_f c h
    rw [if_neg c]
    by_cases d : 57 < r
    · have h := mif_t d h
      obtain ⟨-, h⟩ := mif_n h
      cases h
      rw [if_pos d]
      exact ⟨rfl, rfl⟩
    · have h := mif_f d h
      obtain ⟨-, h⟩ := mif_n h
      cases h
      rw [if_neg d]
      exact ⟨rfl, rfl⟩
/-- where there is a sign, the text goes on -/
theorem lk_in {n x : Nat} (h3 : σ.1 3 = iI n) (hn : n ≤ 500) (hx : x ≤ 501) (h : lk σ (iI x) ≠ -1) : x < n := by
  apply Classical.byContradiction
  intro z
  apply h
  unfold lk
  rw [if_pos]
  rw [h3, j_le (by omega) (by omega) (by omega) (by omega)]
  omega
theorem p_67 {n : Nat} (hn : n ≤ 500) : ∀ (f x m : Nat) (s : MS), s.1 3 = iI n → s.1 8 = iI m → x ≤ n → m ≤ x → f_next_67 N f s (iI x) = some σ' → ∃ x' m' : Nat, σ'.1 5 = iI x' ∧ σ'.1 8 = iI m' ∧ x' + m = x + m' ∧ x ≤ x' ∧ x' ≤ n ∧ σ'.1 3 = s.1 3 ∧ σ'.1 4 = s.1 4 ∧ (σ'.1 6 = 2 ∨ σ'.1 6 = 1) ∧ (sm (lk s (iI x)) ≠ 0 → x < x') := by
  intro f
  induction f with
  | zero => intro x m s _ _ _ _ h; cases h
  | succ f ih =>
    intro x m s h3 h8 hx hm h
    unfold f_next_67 at h
    obtain ⟨r3, s1, c1, g1⟩ := mcall_n h
    obtain ⟨rfl, e3⟩ := p_look c1
    obtain ⟨r6, s4, c2, g2⟩ := mcall_n g1
    obtain ⟨rfl, e6⟩ := p_small c2
    clear h g1
    have h := g2
    by_cases c : r6 = 0
    · have h := mif_t c h
      obtain ⟨s8, e8⟩ : ∃ z, z = mSet s4 5 (iI x) := ⟨_, rfl⟩
      have h := mlet_at e8 h
      have fin : ∀ v : Int32, v = 2 ∨ v = 1 → f_next_137 N s8 v = some σ' → ∃ x' m' : Nat, σ'.1 5 = iI x' ∧ σ'.1 8 = iI m' ∧ x' + m = x + m' ∧ x ≤ x' ∧ x' ≤ n ∧ σ'.1 3 = s4.1 3 ∧ σ'.1 4 = s4.1 4 ∧ (σ'.1 6 = 2 ∨ σ'.1 6 = 1) ∧ (sm (lk s4 (iI x)) ≠ 0 → x < x') := fun v hv h => by
        have h : some (mSet s8 6 v) = some σ' := h
        injection h with h
        rw [← h, e8]
        refine ⟨x, m, ?_, ?_, rfl, Nat.le_refl _, hx, ?_, ?_, ?_, fun z => absurd (by rw [← e3, ← e6]; exact c) z⟩
        · show upd (upd s4.1 5 (iI x)) 6 v 5 = _
          rw [upd_n (by decide), upd_s]
        · show upd (upd s4.1 5 (iI x)) 6 v 8 = _
          rw [upd_n (by decide), upd_n (by decide)]
          exact h8
        · show upd (upd s4.1 5 (iI x)) 6 v 3 = _
          rw [upd_n (by decide), upd_n (by decide)]
        · show upd (upd s4.1 5 (iI x)) 6 v 4 = _
          rw [upd_n (by decide), upd_n (by decide)]
        · show upd (upd s4.1 5 (iI x)) 6 v 6 = 2 ∨ upd (upd s4.1 5 (iI x)) 6 v 6 = 1
          rw [upd_s]
          exact hv
      by_cases d : (s8.1 8) ≤ 8
      · exact fin 2 (Or.inl rfl) (mif_t d h)
      · exact fin 1 (Or.inr rfl) (mif_f d h)
    · have h := mif_f c h
      have xn : x < n := lk_in h3 hn (by omega) (fun z => by
        rw [e3] at e6
        rw [z] at e6
        exact c e6)
      have ex : iI (x : Int) + 1 = iI ((x + 1 : Nat) : Int) := by
        rw [j1, i_add]
        rfl
      have go : ∀ s' : MS, s'.1 = s4.1 → f_next_101 N (f_next_67 N f) s' (iI x) = some σ' → ∃ x' m' : Nat, σ'.1 5 = iI x' ∧ σ'.1 8 = iI m' ∧ x' + m = x + m' ∧ x ≤ x' ∧ x' ≤ n ∧ σ'.1 3 = s4.1 3 ∧ σ'.1 4 = s4.1 4 ∧ (σ'.1 6 = 2 ∨ σ'.1 6 = 1) ∧ (sm (lk s4 (iI x)) ≠ 0 → x < x') := fun s' hs h => by
        unfold f_next_101 at h
        obtain ⟨t, et⟩ : ∃ z, z = mSet s' 8 ((s'.1 8) + 1) := ⟨_, rfl⟩
        have h := mlet_at et h
        have h : f_next_67 N f t (iI (x : Int) + 1) = some σ' := h
        rw [ex] at h
        have t1 : ∀ k, k ≠ 8 → t.1 k = s4.1 k := fun k hk => by
          rw [et]
          show upd s'.1 8 _ k = _
          rw [upd_n hk, hs]
        have t8 : t.1 8 = iI ((m + 1 : Nat) : Int) := by
          rw [et]
          show upd s'.1 8 (s'.1 8 + 1) 8 = _
          rw [upd_s, hs, h8, j1, i_add]
          rfl
        obtain ⟨x', m', k1, k2, k3, k4, k5, k6, k7, k8, -⟩ := ih (x + 1) (m + 1) t ((t1 3 (by decide)).trans h3) t8 (by omega) (by omega) h
        exact ⟨x', m', k1, k2, by omega, by omega, k5, k6.trans (t1 3 (by decide)), k7.trans (t1 4 (by decide)), k8, fun _ => by omega⟩
      by_cases d : 8 ≤ (s4.1 8)
      · exact go s4 rfl (mif_t d h)
      · have h := mif_f d h
        obtain ⟨r13, s11, c3, g3⟩ := mcall_n h
        obtain ⟨rfl, -⟩ := p_look c3
        obtain ⟨-, h⟩ := mif_n g3
        obtain ⟨t, et⟩ : ∃ z, z = mArr s11 11 (s11.1 8).toNatClampNeg r13 := ⟨_, rfl⟩
        have h := mlet_at et h
        exact go t (by rw [et]; rfl) h
theorem p_152 {n : Nat} (hn : n ≤ 500) : ∀ (f x : Nat) (c : Int32) (s : MS), s.1 3 = iI n → x ≤ n → f_next_152 N f s (iI x) c = some σ' → ∃ x' : Nat, σ'.1 5 = iI x' ∧ x ≤ x' ∧ x' ≤ n ∧ σ'.1 3 = s.1 3 ∧ σ'.1 4 = s.1 4 ∧ (σ'.1 6 = 3 ∨ σ'.1 6 = 1) ∧ (dg (lk s (iI x)) ≠ 0 → x < x') := by
  intro f
  induction f with
  | zero => intro x c s _ _ h; cases h
  | succ f ih =>
    intro x c3 s h3 hx h
    unfold f_next_152 at h
    obtain ⟨r3, s1, c1, g1⟩ := mcall_n h
    obtain ⟨rfl, e3⟩ := p_look c1
    obtain ⟨r6, s4, c2, g2⟩ := mcall_n g1
    obtain ⟨rfl, e6⟩ := p_digit c2
    clear h g1
    have h := g2
    by_cases c : r6 = 0
    · have h := mif_t c h
      obtain ⟨s8, e8⟩ : ∃ z, z = mSet s4 5 (iI x) := ⟨_, rfl⟩
      have h := mlet_at e8 h
      have fin : ∀ v : Int32, v = 3 ∨ v = 1 → f_next_213 N s8 v = some σ' → ∃ x' : Nat, σ'.1 5 = iI x' ∧ x ≤ x' ∧ x' ≤ n ∧ σ'.1 3 = s4.1 3 ∧ σ'.1 4 = s4.1 4 ∧ (σ'.1 6 = 3 ∨ σ'.1 6 = 1) ∧ (dg (lk s4 (iI x)) ≠ 0 → x < x') := fun v hv h => by
        have h : some (mSet s8 6 v) = some σ' := h
        injection h with h
        rw [← h, e8]
        refine ⟨x, ?_, Nat.le_refl _, hx, ?_, ?_, ?_, fun z => absurd (by rw [← e3, ← e6]; exact c) z⟩
        · show upd (upd s4.1 5 (iI x)) 6 v 5 = _
          rw [upd_n (by decide), upd_s]
        · show upd (upd s4.1 5 (iI x)) 6 v 3 = _
          rw [upd_n (by decide), upd_n (by decide)]
        · show upd (upd s4.1 5 (iI x)) 6 v 4 = _
          rw [upd_n (by decide), upd_n (by decide)]
        · show upd (upd s4.1 5 (iI x)) 6 v 6 = 3 ∨ upd (upd s4.1 5 (iI x)) 6 v 6 = 1
          rw [upd_s]
          exact hv
      by_cases d : c3 ≤ 4
      · exact fin 3 (Or.inl rfl) (mif_t d h)
      · exact fin 1 (Or.inr rfl) (mif_f d h)
    · have h := mif_f c h
      have xn : x < n := lk_in h3 hn (by omega) (fun z => by
        rw [e3] at e6
        rw [z] at e6
        exact c e6)
      have ex : iI (x : Int) + 1 = iI ((x + 1 : Nat) : Int) := by
        rw [j1, i_add]
        rfl
      have go : ∀ t : MS, (∀ k, k ≠ 7 → t.1 k = s4.1 k) → f_next_188 N (f_next_152 N f) t (iI x) c3 = some σ' → ∃ x' : Nat, σ'.1 5 = iI x' ∧ x ≤ x' ∧ x' ≤ n ∧ σ'.1 3 = s4.1 3 ∧ σ'.1 4 = s4.1 4 ∧ (σ'.1 6 = 3 ∨ σ'.1 6 = 1) ∧ (dg (lk s4 (iI x)) ≠ 0 → x < x') := fun t t1 h => by
        have h : f_next_152 N f t (iI (x : Int) + 1) (c3 + 1) = some σ' := h
        rw [ex] at h
        obtain ⟨x', k1, k4, k5, k6, k7, k8, -⟩ := ih (x + 1) _ t ((t1 3 (by decide)).trans h3) (by omega) h
        exact ⟨x', k1, by omega, k5, k6.trans (t1 3 (by decide)), k7.trans (t1 4 (by decide)), k8, fun _ => by omega⟩
      by_cases d : 4 ≤ c3
      · exact go s4 (fun _ _ => rfl) (mif_t d h)
      · have h := mif_f d h
        obtain ⟨r13, s11, c4, g3⟩ := mcall_n h
        obtain ⟨rfl, -⟩ := p_look c4
        obtain ⟨t, et⟩ : ∃ z, z = mSet s11 7 (((10 * (s11.1 7)) + r13) - 48) := ⟨_, rfl⟩
        have h := mlet_at et g3
        exact go t (fun k hk => by rw [et]; exact upd_n hk) h
end S4s

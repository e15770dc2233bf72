/-! PLAIN: the room: the line of a ground -/
section S8s
variable {N : Nat} {σ σ' : MS}
/-- behind a line: the number of grounds, and how far the reading has come -/
def vG (a : Nat) (σ σ' : MS) : Prop := (σ.1 13 ≠ 0 → σ'.1 13 ≠ 0) ∧ ∀ n st g : Nat, tOk n σ st → σ.1 22 = iI g → σ'.1 13 = 0 → ∃ st' g' : Nat, tOk n σ' st' ∧ σ'.1 22 = iI g' ∧ st ≤ st' ∧ (g' = g ∨ (g' = g + 1 ∧ st + a ≤ st'))
theorem vG_bad {a : Nat} (h : vKt σ σ') (z : σ'.1 13 ≠ 0) : vG a σ σ' := ⟨h.2, fun _ _ _ _ _ w => absurd w z⟩
theorem vG_keep {a : Nat} (h : vKt σ σ') (y : σ'.1 22 = σ.1 22) : vG a σ σ' := ⟨h.2, fun n st g hs hg _ => by
  obtain ⟨s1, k1, k2⟩ := h.1 n st hs
  exact ⟨s1, g, k1, y.trans hg, k2, Or.inl rfl⟩⟩
theorem L42 : (pTx 42).length = 5 := by decide
theorem L43 : (pTx 43).length = 5 := by decide
theorem p_g83 : ∀ (f : Nat) (s : MS) (x1 : Int32), s.1 6 = 2 → f_groundLine_83 N f s x1 = some σ' → vG 15 s σ' := by
  intro f
  induction f with
  | zero => intro s x1 _ h; cases h
  | succ f ih =>
    intro s x1 h6 h
    have KK := kt_groundLine_83 N (f + 1) s x1 σ' h
    unfold f_groundLine_83 at h
    obtain ⟨y1, e1⟩ : ∃ z, z = s.1 8 := ⟨_, rfl⟩
    have h := mlet_at e1 h
    by_cases c : y1 ≤ x1
    · have h := mif_t c h
      obtain ⟨y4, e4⟩ : ∃ z, z = s.1 22 := ⟨_, rfl⟩
      have h := mlet_at e4 h
      obtain ⟨y5, e5⟩ : ∃ z, z = s.1 8 := ⟨_, rfl⟩
      have h := mlet_at e5 h
      obtain ⟨_, h⟩ := mif_n h
      obtain ⟨s7, e7⟩ : ∃ z, z = mArr s 15 y4.toNatClampNeg y5 := ⟨_, rfl⟩
      have h := mlet_at e7 h
      obtain ⟨s9, c9, h⟩ := mcallv_n h
      obtain ⟨r14, s12, c12, h⟩ := mcall_n h
      obtain ⟨y16, e16⟩ : ∃ z, z = s12.1 22 := ⟨_, rfl⟩
      have h := mlet_at e16 h
      obtain ⟨r21, s19, c19, h⟩ := mcall_n h
      obtain ⟨_, h⟩ := mif_n h
      obtain ⟨s23, e23⟩ : ∃ z, z = mArr s19 18 y16.toNatClampNeg r21 := ⟨_, rfl⟩
      have h := mlet_at e23 h
      obtain ⟨r27, s25, c25, h⟩ := mcall_n h
      obtain ⟨y29, e29⟩ : ∃ z, z = s25.1 22 := ⟨_, rfl⟩
      have h := mlet_at e29 h
      obtain ⟨r34, s32, c32, h⟩ := mcall_n h
      obtain ⟨_, h⟩ := mif_n h
      obtain ⟨s36, e36⟩ : ∃ z, z = mArr s32 19 y29.toNatClampNeg r34 := ⟨_, rfl⟩
      have h := mlet_at e36 h
      obtain ⟨y37, e37⟩ : ∃ z, z = s36.1 13 := ⟨_, rfl⟩
      have h := mlet_at e37 h
      have w1 : vKs 0 s19 s23 := by rw [e23]; exact vKt_arr.s
      have w2 : vKs 0 s32 s36 := by rw [e36]; exact vKt_arr.s
      have K := ((((ks_must (by rw [L42]; decide) c12).t (ks_pairs N 20 (by decide) s12 1 r21 s19 c19)).t w1).t (ks_must (by rw [L43]; decide) c25)).t (ks_pairs N 21 (by decide) s25 0 r34 s32 c32) |>.t w2
      rw [L42, L43] at K
      have Y : s36.1 22 = s.1 22 := by
        rw [e36]
        show s32.1 22 = _
        rw [(ky_pairs N 21 (by decide) s25 0 r34 s32 c32).1 22 rfl, (ky_must N (pTx 43) s23 r27 s25 c25).1 22 rfl, e23]
        show s19.1 22 = _
        rw [(ky_pairs N 20 (by decide) s12 1 r21 s19 c19).1 22 rfl, (ky_must N (pTx 42) s9 r14 s12 c12).1 22 rfl, (ky_next N s7 s9 c9).1 22 rfl, e7]
        rfl
      by_cases d : y37 = 0
      · have h := mif_t d h
        obtain ⟨y39, e39⟩ : ∃ z, z = s36.1 22 := ⟨_, rfl⟩
        have h := mlet_at e39 h
        have h : some (mSet s36 22 (y39 + 1)) = some σ' := h
        injection h with h
        refine ⟨KK.2, fun n st g hs hg z => ?_⟩
        have hs7 : tOk n s7 st := by rw [e7]; exact hs
        obtain ⟨st1, k1, k2, k3, -⟩ := p_next hs7 c9
        obtain ⟨m, q1, q2, q3, q4⟩ : ∃ m : Nat, s.1 8 = iI m ∧ 1 ≤ m ∧ m ≤ 500 ∧ True := by
          obtain ⟨_, _, _, a, _, _, _, h8, _⟩ := hs
          obtain ⟨m, q1, q2, q3, q4⟩ := h8 h6
          exact ⟨m, q1, q2, q3, trivial⟩
        have k3 := k3 m (by rw [e7]; exact h6) (by rw [e7]; exact q1) q3
        obtain ⟨st2, k4, k5⟩ := K.1 n st1 k1 (by rw [← e37]; exact d)
        obtain ⟨st3, k6, k7⟩ := (vKt_set (σ := s36) (k := 22) (v := y39 + 1) (by decide)).1 n st2 k4
        refine ⟨st3, g + 1, by rw [← h]; exact k6, ?_, by omega, Or.inr ⟨rfl, by omega⟩⟩
        rw [← h]
        show upd s36.1 22 (y39 + 1) 22 = _
        rw [upd_s, e39, Y, hg, j1, i_add]
        rfl
      · have h := mif_f d h
        have h : some s36 = some σ' := h
        injection h with h
        exact vG_bad KK (by rw [← h, ← e37]; exact d)
    · have h := mif_f c h
      obtain ⟨y42, e42⟩ : ∃ z, z = s.1 22 := ⟨_, rfl⟩
      have h := mlet_at e42 h
      obtain ⟨_, h⟩ := mif_n h
      obtain ⟨y45, e45⟩ : ∃ z, z = s.2.1 11 x1.toNatClampNeg := ⟨_, rfl⟩
      have h := mlet_at e45 h
      obtain ⟨_, h⟩ := mif_n h
      obtain ⟨s47, e47⟩ : ∃ z, z = mArr s 14 ((8 * y42) + x1).toNatClampNeg y45 := ⟨_, rfl⟩
      have h := mlet_at e47 h
      have G := ih s47 (x1 + 1) (by rw [e47]; exact h6) h
      refine ⟨KK.2, fun n st g hs hg z => ?_⟩
      exact G.2 n st g (by rw [e47]; exact hs) (by rw [e47]; exact hg) z
theorem p_g73 (h6 : σ.1 6 = 2) (h : f_groundLine_73 N σ = some σ') : vG 15 σ σ' := by
  unfold f_groundLine_73 at h
  obtain ⟨y1, e1⟩ : ∃ z, z = σ.1 13 := ⟨_, rfl⟩
  have h := mlet_at e1 h
  by_cases c : y1 = 0
  · exact p_g83 N σ 0 h6 (mif_t c h)
  · have h := mif_f c h
    cases h
    exact vG_bad vKt_r (by rw [← e1]; exact c)
end S8s

/-! PLAIN: the room: books and plans are counted -/
section S2s
variable {N : Nat} {σ σ' : MS} {r x1 : Int32}
theorem e_plan (h : f_plan N σ x1 = some (r, σ')) : (σ'.1 2 = σ.1 2 ∨ σ'.1 2 = 0) ∧ σ'.1 12 = σ.1 12 ∧ σ'.1 22 = σ.1 22 ∧ σ'.1 34 = σ.1 34 ∧ kM σ' = kM σ := by
  refine ⟨?_, (kq_plan N σ x1 _ _ h).m⟩
  unfold f_plan at h
  obtain ⟨σ2, c1, h⟩ := mcallv_n h
  have w1 := kp_good N σ _ c1
  obtain ⟨y4, e4⟩ : ∃ z, z = σ2.1 34 := ⟨_, rfl⟩
  have h := mlet_at e4 h
  by_cases c : y4 = 0
  · have h := mif_t c h
    obtain ⟨r48, σ46, c2, h⟩ := mcall_n h
    have w2 := w1.t (kp_no N σ2 1 _ _ c2)
    cases h
    exact Or.inl w2.2
  · have h := mif_f c h
    obtain ⟨y6, e6⟩ : ∃ z, z = σ2.1 2 := ⟨_, rfl⟩
    have h := mlet_at e6 h
    obtain ⟨r9, σ7, c2, h⟩ := mcall_n h
    have w2 := w1.t (kp_within N σ2 x1 0 y6 _ _ c2)
    by_cases d : r9 = 0
    · have h := mif_t d h
      obtain ⟨r44, σ42, c3, h⟩ := mcall_n h
      have w3 := w2.t (kp_no N σ7 2 _ _ c3)
      cases h
      exact Or.inl w3.2
    · have h := mif_f d h
      right
      obtain ⟨s0, e0⟩ : ∃ z, z = mSet σ7 2 (0) := ⟨_, rfl⟩
      have h := mlet_at e0 h
      have z0 : s0.1 2 = 0 := by
        rw [e0]
        exact upd_s (f := σ7.1) (k := 2) (a := 0)
      obtain ⟨s1, e1⟩ : ∃ z, z = mSet s0 9 (0) := ⟨_, rfl⟩
      have h := mlet_at e1 h
      have v1 : vKf s0 s1 := by rw [e1]; exact vKf_set (by decide)
      obtain ⟨s2, e2⟩ : ∃ z, z = mSet s1 58 (0) := ⟨_, rfl⟩
      have h := mlet_at e2 h
      have v2 : vKf s0 s2 := v1.t (by rw [e2]; exact vKf_set (by decide))
      obtain ⟨s3, e3⟩ : ∃ z, z = mSet s2 59 (0) := ⟨_, rfl⟩
      have h := mlet_at e3 h
      have v3 : vKf s0 s3 := v2.t (by rw [e3]; exact vKf_set (by decide))
      obtain ⟨σ16, c3, h⟩ := mcallv_n h
      have v4 := v3.t (kp_begins N s3 x1 _ c3)
      obtain ⟨σ19, c4, h⟩ := mcallv_n h
      have v5 := v4.t (kp_reads N σ16 _ c4)
      obtain ⟨y21, e21⟩ : ∃ z, z = σ19.1 13 := ⟨_, rfl⟩
      have h := mlet_at e21 h
      by_cases f : y21 = 0
      · have h := mif_t f h
        obtain ⟨y23, e23⟩ : ∃ z, z = σ19.1 40 := ⟨_, rfl⟩
        have h := mlet_at e23 h
        by_cases i : y23 = 8
        · have h := mif_t i h
          obtain ⟨r36, σ34, c5, h⟩ := mcall_n h
          have v6 := v5.t (kp_no N σ19 3 _ _ c5)
          cases h
          exact v6.2.trans z0
        · have h := mif_f i h
          obtain ⟨y26, e26⟩ : ∃ z, z = σ19.1 40 := ⟨_, rfl⟩
          have h := mlet_at e26 h
          obtain ⟨y27, e27⟩ : ∃ z, z = σ19.1 58 := ⟨_, rfl⟩
          have h := mlet_at e27 h
          obtain ⟨-, h⟩ := mif_n h
          obtain ⟨s4, e4'⟩ : ∃ z, z = mArr σ19 57 y26.toNatClampNeg y27 := ⟨_, rfl⟩
          have h := mlet_at e4' h
          have v6 : vKf s0 s4 := v5.t (by rw [e4']; exact vKf_arr (by decide))
          obtain ⟨y30, e30⟩ : ∃ z, z = s4.1 40 := ⟨_, rfl⟩
          have h := mlet_at e30 h
          obtain ⟨s5, e5⟩ : ∃ z, z = mSet s4 40 ((y30 + 1)) := ⟨_, rfl⟩
          have h := mlet_at e5 h
          have v7 : vKf s0 s5 := v6.t (by rw [e5]; exact vKf_set (by decide))
          cases h
          exact v7.2.trans z0
      · have h := mif_f f h
        obtain ⟨r40, σ38, c5, h⟩ := mcall_n h
        have v6 := v5.t (kp_no N σ19 4 _ _ c5)
        cases h
        exact v6.2.trans z0
theorem vKb.m {a b : MS} (h : vKb a b) : b.1 2 = a.1 2 ∧ b.1 12 = a.1 12 ∧ b.1 34 = a.1 34 ∧ kM b = kM a ∧ b.2.1 33 = a.2.1 33 := by
  obtain ⟨h1, h2⟩ := h
  refine ⟨h1 2 (by omega), h1 12 (by omega), h1 34 (by omega), ?_, h2 33 (by omega)⟩
  unfold kM
  rw [h1 37 (by omega), h2 41 (by omega), h2 42 (by omega), h2 46 (by omega)]
theorem e_b116 (h : f_book_116 N σ = some (r, σ')) : ∃ s, vKb σ s ∧ f_book_140 N s = some (r, σ') := by
  unfold f_book_116 at h
  obtain ⟨y1, e1⟩ : ∃ z, z = σ.1 13 := ⟨_, rfl⟩
  have h := mlet_at e1 h
  by_cases c : y1 = 0
  · have h := mif_t c h
    obtain ⟨y3, e3⟩ : ∃ z, z = σ.1 6 := ⟨_, rfl⟩
    have h := mlet_at e3 h
    by_cases d : y3 = 0
    · exact ⟨σ, vKb_r, mif_t d h⟩
    · have h := mif_f d h
      obtain ⟨y5, e5⟩ : ∃ z, z = σ.1 4 := ⟨_, rfl⟩
      have h := mlet_at e5 h
      obtain ⟨r9, σ7, c2, h⟩ := mcall_n h
      exact ⟨σ7, kb_wrong N σ 1 y5 _ _ c2, h⟩
  · exact ⟨σ, vKb_r, mif_f c h⟩
theorem e_b89 : ∀ (n : Nat) (s : MS), f_book_89 N n s = some (r, σ') → ∃ s', vKb s s' ∧ f_book_140 N s' = some (r, σ') := by
  intro n
  induction n with
  | zero => intro s h; cases h
  | succ n ih =>
    intro s h
    unfold f_book_89 at h
    obtain ⟨y1, e1⟩ : ∃ z, z = s.1 13 := ⟨_, rfl⟩
    have h := mlet_at e1 h
    by_cases c : y1 = 0
    · have h := mif_t c h
      obtain ⟨y3, e3⟩ : ∃ z, z = s.1 6 := ⟨_, rfl⟩
      have h := mlet_at e3 h
      by_cases d : y3 = 59
      · have h := mif_t d h
        obtain ⟨σ6, c2, h⟩ := mcallv_n h
        have w1 := kb_next N s _ c2
        obtain ⟨σ9, c3, h⟩ := mcallv_n h
        have w2 := w1.t (kb_line N σ6 _ c3)
        obtain ⟨s', q1, q2⟩ := ih σ9 h
        exact ⟨s', w2.t q1, q2⟩
      · exact e_b116 (mif_f d h)
    · exact e_b116 (mif_f c h)
/-- what a book does to what is counted -/
theorem e_book (hN : 2000 ≤ N) (h : f_book N σ x1 = some (r, σ')) : vEff σ σ' 0 ∨ (σ'.1 2 = 0 ∧ σ'.1 12 = σ.1 12 ∧ σ'.1 22 = σ.1 22 ∧ σ'.1 34 = σ.1 34 ∧ kM σ' = kM σ) ∨ (σ'.1 2 = 0 ∧ σ'.1 12 = 1 ∧ σ'.1 34 = 0) := by
  unfold f_book at h
  obtain ⟨σ2, c1, h⟩ := mcallv_n h
  have w1 := kp_good N σ _ c1
  obtain ⟨y4, e4⟩ : ∃ z, z = σ2.1 2 := ⟨_, rfl⟩
  have h := mlet_at e4 h
  obtain ⟨r7, σ5, c2, h⟩ := mcall_n h
  have w2 := w1.t (kp_within N σ2 x1 0 y4 _ _ c2)
  by_cases c : r7 = 0
  · have h := mif_t c h
    obtain ⟨r31, σ29, c3, h⟩ := mcall_n h
    have w3 := w2.t (kp_no N σ5 2 _ _ c3)
    cases h
    exact Or.inl w3.eff
  · have h := mif_f c h
    right
    obtain ⟨s0, e0⟩ : ∃ z, z = mSet (mSet σ5 2 (0)) 9 (0) := ⟨_, rfl⟩
    have h : mcallv (f_store N (mSet (mSet σ5 2 (0)) 9 (0)) 0) _ = some (r, σ') := h
    rw [← e0] at h
    have z0 : s0.1 2 = 0 := by
      rw [e0]
      show upd (upd σ5.1 2 0) 9 0 2 = 0
      rw [upd_n (by decide), upd_s]
    have g0 : ∀ k, k ≠ 2 → k ≠ 9 → s0.1 k = σ5.1 k := fun k a b => by
      rw [e0]
      show upd (upd σ5.1 2 0) 9 0 k = _
      rw [upd_n b, upd_n a]
    have r0 : s0.2 = σ5.2 := by
      rw [e0]
      rfl
    obtain ⟨r33, s1, -, -, -, s5⟩ := m_save (N := N) (σ := s0) hN
    rw [s1, q_mv] at h
    obtain ⟨t0, et⟩ : ∃ z, z = mSet (mSet (mSet (mSet (mSet (mSet (mSet (mSet (mRow s0 33 r33) 22 (0)) 23 (0)) 24 (4)) 25 (100)) 26 (100)) 27 (100)) 28 (0)) 29 (0) := ⟨_, rfl⟩
    have h : mcallv (f_begins N (mSet (mSet (mSet (mSet (mSet (mSet (mSet (mSet (mRow s0 33 r33) 22 (0)) 23 (0)) 24 (4)) 25 (100)) 26 (100)) 27 (100)) 28 (0)) 29 (0)) x1) _ = some (r, σ') := h
    rw [← et] at h
    have gt : ∀ k, k < 22 ∨ 29 < k → t0.1 k = s0.1 k := fun k a => by
      rw [et]
      show upd (upd (upd (upd (upd (upd (upd (upd s0.1 22 0) 23 0) 24 4) 25 100) 26 100) 27 100) 28 0) 29 0 k = _
      rw [upd_n (by omega), upd_n (by omega), upd_n (by omega), upd_n (by omega), upd_n (by omega), upd_n (by omega), upd_n (by omega), upd_n (by omega)]
    have rt : ∀ j, j ≠ 33 → t0.2.1 j = s0.2.1 j := fun j a => by
      rw [et]
      exact if_neg a
    have r33' : t0.2.1 33 = r33 := by
      rw [et]
      rfl
    obtain ⟨σ23, c3, h⟩ := mcallv_n h
    have w3 := kb_begins N t0 x1 _ c3
    obtain ⟨σ26, c4, h⟩ := mcallv_n h
    have w4 := w3.t (kb_line N σ23 _ c4)
    obtain ⟨s, w5, h⟩ := e_b89 N σ26 h
    obtain ⟨m1, m2, m3, m4, m5⟩ := (w4.t w5).m
    obtain ⟨v1, v2, v3, v4, v5⟩ := w2.eff
    have kt : kM t0 = kM σ5 := by
      unfold kM
      rw [gt 37 (by omega), g0 37 (by decide) (by decide), rt 41 (by decide), rt 42 (by decide), rt 46 (by decide), r0]
    have k5 : kM σ5 = kM σ := by
      obtain ⟨q1, q2⟩ := w2.1
      unfold kM
      rw [q1 37 (by omega), q2 41 (by omega), q2 42 (by omega), q2 46 (by omega)]
    unfold f_book_140 at h
    obtain ⟨y1, e1⟩ : ∃ z, z = s.1 13 := ⟨_, rfl⟩
    have h := mlet_at e1 h
    by_cases d : y1 = 0
    · have h := mif_t d h
      right
      obtain ⟨f0, ef⟩ : ∃ z, z = mSet (mSet (mSet (mSet (mSet (mSet (mSet s 12 (1)) 69 (0)) 34 (0)) 40 (0)) 37 (0)) 38 (0)) 51 (0) := ⟨_, rfl⟩
      have h : f_book_195 N N (mSet (mSet (mSet (mSet (mSet (mSet (mSet s 12 (1)) 69 (0)) 34 (0)) 40 (0)) 37 (0)) 38 (0)) 51 (0)) 0 = some (r, σ') := h
      rw [← ef] at h
      obtain ⟨q1, -⟩ := kb_book_195 N N f0 0 _ _ h
      have fe : ∀ k, σ'.1 k = f0.1 k → True := fun _ _ => trivial
      refine ⟨?_, ?_, ?_⟩
      · rw [q1 2 (by omega), ef]
        show upd (upd (upd (upd (upd (upd (upd s.1 12 1) 69 0) 34 0) 40 0) 37 0) 38 0) 51 0 2 = 0
        rw [upd_n (by decide), upd_n (by decide), upd_n (by decide), upd_n (by decide), upd_n (by decide), upd_n (by decide), upd_n (by decide), m1, gt 2 (by omega), z0]
      · rw [q1 12 (by omega), ef]
        show upd (upd (upd (upd (upd (upd (upd s.1 12 1) 69 0) 34 0) 40 0) 37 0) 38 0) 51 0 12 = 1
        rw [upd_n (by decide), upd_n (by decide), upd_n (by decide), upd_n (by decide), upd_n (by decide), upd_n (by decide), upd_s]
      · rw [q1 34 (by omega), ef]
        show upd (upd (upd (upd (upd (upd (upd s.1 12 1) 69 0) 34 0) 40 0) 37 0) 38 0) 51 0 34 = 0
        rw [upd_n (by decide), upd_n (by decide), upd_n (by decide), upd_n (by decide), upd_s]
    · have h := mif_f d h
      left
      obtain ⟨σ11, k1, k2, k3, -, k6, -⟩ := m_rest (N := N) (σ := s) hN
      rw [k1, q_mv] at h
      obtain ⟨r16, σ14, c6, h⟩ := mcall_n h
      have w6 := kp_no N σ11 4 _ _ c6
      cases h
      obtain ⟨u1, u2, u3, u4, u5⟩ := w6.eff
      have kk : kM σ' = kM σ11 := by
        obtain ⟨q1, q2⟩ := w6.1
        unfold kM
        rw [q1 37 (by omega), q2 41 (by omega), q2 42 (by omega), q2 46 (by omega)]
      have ks : kM σ11 = kM s := by
        unfold kM
        rw [k2 37 (by omega), k6 41 (by omega), k6 42 (by omega), k6 46 (by omega)]
      have h22 : σ11.1 22 = σ.1 22 := by
        have a1 := k3 0 (by omega)
        have a2 := s5 0 (by omega)
        rw [m5, r33'] at a1
        rw [show (22 + 0 : Nat) = 22 from rfl] at a1 a2
        rw [a1, a2, g0 22 (by decide) (by decide), v3]
      refine ⟨?_, ?_, ?_, ?_, ?_⟩
      · rw [u1, k2 2 (by omega), m1, gt 2 (by omega), z0]
      · rw [u2, k2 12 (by omega), m2, gt 12 (by omega), g0 12 (by decide) (by decide), v2]
      · rw [u3, h22]
      · rw [u4, k2 34 (by omega), m3, gt 34 (by omega), g0 34 (by decide) (by decide), v4]
      · rw [kk, ks, m4, kt, k5]
end S2s

/-! PLAIN: the room: a book and the feeds that it takes -/
section T0s
variable {N : Nat} {σ σ' : MS} {r x1 : Int32}
theorem p_in {nt : Nat} (hn : nt ≤ 500) (h : f_within N σ x1 0 (iI nt) = some (r, σ')) (hr : r ≠ 0) : ∃ n : Nat, n ≤ nt ∧ x1 = iI n := by
  have hs := i_S x1
  have e := i_of x1
  have w := b_within (N := N) (σ := σ) (x := x1.toInt) (l := 0) (h := nt) hs (by unfold iS; omega) (by unfold iS; omega)
  rw [← e] at w
  have w : f_within N σ x1 0 (iI nt) = _ := w
  rw [w] at h
  by_cases c : 0 ≤ x1.toInt ∧ x1.toInt ≤ nt
  · refine ⟨x1.toInt.toNat, by omega, ?_⟩
    rw [show ((x1.toInt.toNat : Nat) : Int) = x1.toInt by omega]
    exact e
  · rw [if_neg c] at h
    cases h
    exact absurd rfl hr
theorem p_begins {n : Nat} (hn : n ≤ 500) (h : f_begins N σ (iI n) = some σ') : (∃ st : Nat, tOk n σ' st) ∧ σ'.1 22 = σ.1 22 := by
  unfold f_begins at h
  obtain ⟨s, es⟩ : ∃ z, z = mSet (mSet (mSet σ 3 (iI n)) 5 0) 13 0 := ⟨_, rfl⟩
  have h : mcallv (f_next N (mSet (mSet (mSet σ 3 (iI n)) 5 0) 13 0)) _ = some σ' := h
  rw [← es] at h
  obtain ⟨σ4, c, h⟩ := mcallv_n h
  cases h
  have s3 : s.1 3 = iI n := by
    rw [es]
    show upd (upd (upd σ.1 3 (iI n)) 5 0) 13 0 3 = _
    rw [upd_n (by decide), upd_n (by decide), upd_s]
  have s5 : s.1 5 = iI (0 : Nat) := by
    rw [es]
    show upd (upd (upd σ.1 3 (iI n)) 5 0) 13 0 5 = _
    rw [upd_n (by decide), upd_s]
    rfl
  have s22 : s.1 22 = σ.1 22 := by
    rw [es]
    show upd (upd (upd σ.1 3 (iI n)) 5 0) 13 0 22 = _
    rw [upd_n (by decide), upd_n (by decide), upd_n (by decide)]
  have k := kn_next N s _ c
  refine ⟨?_, ?_⟩
  · have e := c
    unfold f_next at e
    have e : f_next_5 N N s (s.1 5) = some _ := e
    rw [s5] at e
    obtain ⟨st, -, t⟩ := p_n5 hn N 0 s s3 (Nat.zero_le _) e
    exact ⟨st, t⟩
  · rw [k.1 22 (by omega), s22]
theorem y_195 : ∀ (f : Nat) (s : MS) (x : Int32), f_book_195 N f s x = some (r, σ') → σ'.1 = s.1 := by
  intro f
  induction f with
  | zero => intro s x h; cases h
  | succ f ih =>
    intro s x h
    unfold f_book_195 at h
    by_cases c : 6 ≤ x
    · have h := mif_t c h
      have h : some (s.1 22, s) = some (r, σ') := h
      cases h
      rfl
    · have h := mif_f c h
      obtain ⟨_, h⟩ := mif_n h
      have h : f_book_195 N f (mArr s 47 x.toNatClampNeg 0) (x + 1) = some (r, σ') := h
      exact ih (mArr s 47 x.toNatClampNeg 0) (x + 1) h
theorem q_b116 (h : f_book_116 N σ = some (r, σ')) : ∃ s, vH σ s ∧ vKb σ s ∧ f_book_140 N s = some (r, σ') := by
  unfold f_book_116 at h
  obtain ⟨y1, e1⟩ : ∃ z, z = σ.1 13 := ⟨_, rfl⟩
  have h := mlet_at e1 h
  by_cases c : y1 = 0
  · have h := mif_t c h
    obtain ⟨y3, e3⟩ : ∃ z, z = σ.1 6 := ⟨_, rfl⟩
    have h := mlet_at e3 h
    by_cases d : y3 = 0
    · exact ⟨σ, vH_r, vKb_r, mif_t d h⟩
    · have h := mif_f d h
      obtain ⟨y5, e5⟩ : ∃ z, z = σ.1 4 := ⟨_, rfl⟩
      have h := mlet_at e5 h
      obtain ⟨r9, s7, c9, h⟩ := mcall_n h
      exact ⟨s7, (kt_wrong N σ 1 y5 _ _ c9).1.h ((ky_wrong N σ 1 y5 _ _ c9).1 22 rfl), kb_wrong N σ 1 y5 _ _ c9, h⟩
  · exact ⟨σ, vH_r, vKb_r, mif_f c h⟩
theorem q_b89 : ∀ (f : Nat) (a : MS), f_book_89 N f a = some (r, σ') → ∃ s, vH a s ∧ vKb a s ∧ f_book_140 N s = some (r, σ') := by
  intro f
  induction f with
  | zero => intro a h; cases h
  | succ f ih =>
    intro a h
    unfold f_book_89 at h
    obtain ⟨y1, e1⟩ : ∃ z, z = a.1 13 := ⟨_, rfl⟩
    have h := mlet_at e1 h
    by_cases c : y1 = 0
    · have h := mif_t c h
      obtain ⟨y3, e3⟩ : ∃ z, z = a.1 6 := ⟨_, rfl⟩
      have h := mlet_at e3 h
      by_cases d : y3 = 59
      · have h := mif_t d h
        obtain ⟨s6, c6, h⟩ := mcallv_n h
        obtain ⟨s9, c9, h⟩ := mcallv_n h
        obtain ⟨s, w, w', h⟩ := ih s9 h
        exact ⟨s, (((kt_next N a s6 c6).h ((ky_next N a s6 c6).1 22 rfl)).t (p_line c9).h).t w, ((kb_next N a _ c6).t (kb_line N s6 _ c9)).t w', h⟩
      · exact q_b116 (mif_f d h)
    · exact q_b116 (mif_f c h)
theorem e_book2 {nt : Nat} (h2 : σ.1 2 = iI nt) (hn : nt ≤ 500) (hN : 2000 ≤ N) (h : f_book N σ x1 = some (r, σ')) : vEff σ σ' 0 ∨ (σ'.1 2 = 0 ∧ σ'.1 12 = σ.1 12 ∧ σ'.1 22 = σ.1 22 ∧ σ'.1 34 = σ.1 34 ∧ kM σ' = kM σ) ∨ (σ'.1 2 = 0 ∧ σ'.1 12 = 1 ∧ σ'.1 34 = 0 ∧ ∃ g : Nat, 21 * g ≤ nt ∧ σ'.1 22 = iI g) := by
  unfold f_book at h
  obtain ⟨σ2, c1, h⟩ := mcallv_n h
  have w1 := kp_good N σ _ c1
  obtain ⟨y4, e4⟩ : ∃ z, z = σ2.1 2 := ⟨_, rfl⟩
  have h := mlet_at e4 h
  obtain ⟨r7, σ5, c2, h⟩ := mcall_n h
  have w2 := w1.t (kp_within N σ2 x1 0 y4 _ _ c2)
  by_cases c : r7 = 0
  · have h := mif_t c h
    obtain ⟨r31, σ29, c3, h⟩ := mcall_n h
    have w3 := w2.t (kp_no N σ5 2 _ _ c3)
    cases h
    exact Or.inl w3.eff
  · have h := mif_f c h
    right
    have y2 : y4 = iI nt := by
      rw [e4, ← h2]
      exact w1.2
    rw [y2] at c2
    obtain ⟨n, hnn, ex⟩ := p_in hn c2 c
    obtain ⟨s0, e0⟩ : ∃ z, z = mSet (mSet σ5 2 (0)) 9 (0) := ⟨_, rfl⟩
    have h : mcallv (f_store N (mSet (mSet σ5 2 (0)) 9 (0)) 0) _ = some (r, σ') := h
    rw [← e0] at h
    have z0 : s0.1 2 = 0 := by
      rw [e0]
      show upd (upd σ5.1 2 0) 9 0 2 = 0
      rw [upd_n (by decide), upd_s]
    have g0 : ∀ k, k ≠ 2 → k ≠ 9 → s0.1 k = σ5.1 k := fun k a b => by
      rw [e0]
      show upd (upd σ5.1 2 0) 9 0 k = _
      rw [upd_n b, upd_n a]
    have r0 : s0.2 = σ5.2 := by
      rw [e0]
      rfl
    obtain ⟨r33, s1, -, -, -, s5⟩ := m_save (N := N) (σ := s0) hN
    rw [s1, q_mv] at h
    obtain ⟨t0, et⟩ : ∃ z, z = mSet (mSet (mSet (mSet (mSet (mSet (mSet (mSet (mRow s0 33 r33) 22 (0)) 23 (0)) 24 (4)) 25 (100)) 26 (100)) 27 (100)) 28 (0)) 29 (0) := ⟨_, rfl⟩
    have h : mcallv (f_begins N (mSet (mSet (mSet (mSet (mSet (mSet (mSet (mSet (mRow s0 33 r33) 22 (0)) 23 (0)) 24 (4)) 25 (100)) 26 (100)) 27 (100)) 28 (0)) 29 (0)) x1) _ = some (r, σ') := h
    rw [← et] at h
    have gt : ∀ k, k < 22 ∨ 29 < k → t0.1 k = s0.1 k := fun k a => by
      rw [et]
      show upd (upd (upd (upd (upd (upd (upd (upd s0.1 22 0) 23 0) 24 4) 25 100) 26 100) 27 100) 28 0) 29 0 k = _
      rw [upd_n (by omega), upd_n (by omega), upd_n (by omega), upd_n (by omega), upd_n (by omega), upd_n (by omega), upd_n (by omega), upd_n (by omega)]
    have rt : ∀ j, j ≠ 33 → t0.2.1 j = s0.2.1 j := fun j a => by
      rw [et]
      exact if_neg a
    have r33' : t0.2.1 33 = r33 := by
      rw [et]
      rfl
    have t22 : t0.1 22 = iI (0 : Nat) := by
      rw [et]
      show upd (upd (upd (upd (upd (upd (upd (upd s0.1 22 0) 23 0) 24 4) 25 100) 26 100) 27 100) 28 0) 29 0 22 = _
      rw [upd_n (by decide), upd_n (by decide), upd_n (by decide), upd_n (by decide), upd_n (by decide), upd_n (by decide), upd_n (by decide), upd_s]
      rfl
    obtain ⟨σ23, c3, h⟩ := mcallv_n h
    have c3' := c3
    rw [ex] at c3'
    obtain ⟨⟨st, b1⟩, b2⟩ := p_begins (by omega) c3'
    have w3 := kb_begins N t0 x1 _ c3
    obtain ⟨σ26, c4, h⟩ := mcallv_n h
    have w4 := w3.t (kb_line N σ23 _ c4)
    obtain ⟨s, v1', w5, h⟩ := q_b89 N σ26 h
    have vv := (p_line c4).h.t v1'
    obtain ⟨m1, m2, m3, m4, m5⟩ := (w4.t w5).m
    obtain ⟨v1, v2, v3, v4, v5⟩ := w2.eff
    have kt : kM t0 = kM σ5 := by
      unfold kM
      rw [gt 37 (by omega), g0 37 (by decide) (by decide), rt 41 (by decide), rt 42 (by decide), rt 46 (by decide), r0]
    have k5 : kM σ5 = kM σ := by
      obtain ⟨q1, q2⟩ := w2.1
      unfold kM
      rw [q1 37 (by omega), q2 41 (by omega), q2 42 (by omega), q2 46 (by omega)]
    unfold f_book_140 at h
    obtain ⟨y1, e1⟩ : ∃ z, z = s.1 13 := ⟨_, rfl⟩
    have h := mlet_at e1 h
    by_cases d : y1 = 0
    · have h := mif_t d h
      right
      obtain ⟨f0, ef⟩ : ∃ z, z = mSet (mSet (mSet (mSet (mSet (mSet (mSet s 12 (1)) 69 (0)) 34 (0)) 40 (0)) 37 (0)) 38 (0)) 51 (0) := ⟨_, rfl⟩
      have h : f_book_195 N N (mSet (mSet (mSet (mSet (mSet (mSet (mSet s 12 (1)) 69 (0)) 34 (0)) 40 (0)) 37 (0)) 38 (0)) 51 (0)) 0 = some (r, σ') := h
      rw [← ef] at h
      obtain ⟨q1, -⟩ := kb_book_195 N N f0 0 _ _ h
      have q := y_195 N f0 0 h
      have q22 : σ'.1 22 = s.1 22 := by
        rw [q, ef]
        show upd (upd (upd (upd (upd (upd (upd s.1 12 1) 69 0) 34 0) 40 0) 37 0) 38 0) 51 0 22 = _
        rw [upd_n (by decide), upd_n (by decide), upd_n (by decide), upd_n (by decide), upd_n (by decide), upd_n (by decide), upd_n (by decide)]
      obtain ⟨st', g', k1, k2, k3⟩ := vv.2 n st 0 b1 (b2.trans t22) (by omega) (by rw [← e1]; exact d)
      obtain ⟨-, -, -, a, -, a1, a2, -⟩ := k1
      refine ⟨?_, ?_, ?_, g', by omega, q22.trans k2⟩
      · rw [q1 2 (by omega), ef]
        show upd (upd (upd (upd (upd (upd (upd s.1 12 1) 69 0) 34 0) 40 0) 37 0) 38 0) 51 0 2 = 0
        rw [upd_n (by decide), upd_n (by decide), upd_n (by decide), upd_n (by decide), upd_n (by decide), upd_n (by decide), upd_n (by decide), m1, gt 2 (by omega), z0]
      · rw [q1 12 (by omega), ef]
        show upd (upd (upd (upd (upd (upd (upd s.1 12 1) 69 0) 34 0) 40 0) 37 0) 38 0) 51 0 12 = 1
        rw [upd_n (by decide), upd_n (by decide), upd_n (by decide), upd_n (by decide), upd_n (by decide), upd_n (by decide), upd_s]
      · rw [q1 34 (by omega), ef]
        show upd (upd (upd (upd (upd (upd (upd s.1 12 1) 69 0) 34 0) 40 0) 37 0) 38 0) 51 0 34 = 0
        rw [upd_n (by decide), upd_n (by decide), upd_n (by decide), upd_n (by decide), upd_s]
    · have h := mif_f d h
      left
      obtain ⟨σ11, k1, k2, k3, -, k6, -⟩ := m_rest (N := N) (σ := s) hN
      rw [k1, q_mv] at h
      obtain ⟨r16, σ14, c6, h⟩ := mcall_n h
      have w6 := kp_no N σ11 4 _ _ c6
      cases h
      obtain ⟨u1, u2, u3, u4, u5⟩ := w6.eff
      have kk : kM σ' = kM σ11 := by
        obtain ⟨q1, q2⟩ := w6.1
        unfold kM
        rw [q1 37 (by omega), q2 41 (by omega), q2 42 (by omega), q2 46 (by omega)]
      have ks : kM σ11 = kM s := by
        unfold kM
        rw [k2 37 (by omega), k6 41 (by omega), k6 42 (by omega), k6 46 (by omega)]
      have h22 : σ11.1 22 = σ.1 22 := by
        have a1 := k3 0 (by omega)
        have a2 := s5 0 (by omega)
        rw [m5, r33'] at a1
        rw [show (22 + 0 : Nat) = 22 from rfl] at a1 a2
        rw [a1, a2, g0 22 (by decide) (by decide), v3]
      refine ⟨?_, ?_, ?_, ?_, ?_⟩
      · rw [u1, k2 2 (by omega), m1, gt 2 (by omega), z0]
      · rw [u2, k2 12 (by omega), m2, gt 12 (by omega), g0 12 (by decide) (by decide), v2]
      · rw [u3, h22]
      · rw [u4, k2 34 (by omega), m3, gt 34 (by omega), g0 34 (by decide) (by decide), v4]
      · rw [kk, ks, m4, kt, k5]
end T0s

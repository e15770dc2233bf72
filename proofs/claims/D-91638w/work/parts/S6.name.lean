/-! BY gen_nm.py: PLAIN: a name is a word -/
section S7s
variable {N : Nat} {σ σ' : MS}
theorem p_n95 {s0 r : Int32} (h : f_isName_95 N σ s0 = some (r, σ')) (z : r ≠ 0) : σ.1 6 = 2 := by
  have n0 : f_isName_113 N σ 0 = some (r, σ') → False := fun h => by
    unfold f_isName_113 at h
    obtain ⟨_, h⟩ := mif_n h
    cases h
    exact z rfl
  unfold f_isName_95 at h
  obtain ⟨y1, e1⟩ : ∃ z, z = σ.1 6 := ⟨_, rfl⟩
  have h := mlet_at e1 h
  by_cases c : y1 = 2
  · rw [← e1]
    exact c
  · exact (n0 (mif_f c h)).elim
theorem p_isName {r : Int32} (h : f_isName N σ = some (r, σ')) (z : r ≠ 0) : σ.1 6 = 2 := by
  have fin : ∀ (s : MS) (v : Int32), s = σ → f_isName_95 N s v = some (r, σ') → σ.1 6 = 2 := fun s v q h => by
    rw [q] at h
    exact p_n95 h z
  unfold f_isName at h
  obtain ⟨r0, s0, c0, g0⟩ := mcall_n h
  have q0 := (p_word c0).1
  by_cases d0 : r0 = 0
  · have h := mif_t d0 g0
    obtain ⟨r1, s1, c1, g1⟩ := mcall_n h
    have q1 := (p_word c1).1.trans q0
    by_cases d1 : r1 = 0
    · have h := mif_t d1 g1
      obtain ⟨r2, s2, c2, g2⟩ := mcall_n h
      have q2 := (p_word c2).1.trans q1
      by_cases d2 : r2 = 0
      · have h := mif_t d2 g2
        obtain ⟨r3, s3, c3, g3⟩ := mcall_n h
        have q3 := (p_word c3).1.trans q2
        by_cases d3 : r3 = 0
        · have h := mif_t d3 g3
          obtain ⟨r4, s4, c4, g4⟩ := mcall_n h
          have q4 := (p_word c4).1.trans q3
          by_cases d4 : r4 = 0
          · have h := mif_t d4 g4
            obtain ⟨r5, s5, c5, g5⟩ := mcall_n h
            have q5 := (p_word c5).1.trans q4
            by_cases d5 : r5 = 0
            · have h := mif_t d5 g5
              obtain ⟨r6, s6, c6, g6⟩ := mcall_n h
              have q6 := (p_word c6).1.trans q5
              by_cases d6 : r6 = 0
              · have h := mif_t d6 g6
                obtain ⟨r7, s7, c7, g7⟩ := mcall_n h
                have q7 := (p_word c7).1.trans q6
                by_cases d7 : r7 = 0
                · have h := mif_t d7 g7
                  obtain ⟨r8, s8, c8, g8⟩ := mcall_n h
                  have q8 := (p_word c8).1.trans q7
                  by_cases d8 : r8 = 0
                  · have h := mif_t d8 g8
                    obtain ⟨r9, s9, c9, g9⟩ := mcall_n h
                    have q9 := (p_word c9).1.trans q8
                    by_cases d9 : r9 = 0
                    · exact fin _ _ q9 (mif_t d9 g9)
                    · exact fin _ _ q9 (mif_f d9 g9)
                  · exact fin _ _ q8 (mif_f d8 g8)
                · exact fin _ _ q7 (mif_f d7 g7)
              · exact fin _ _ q6 (mif_f d6 g6)
            · exact fin _ _ q5 (mif_f d5 g5)
          · exact fin _ _ q4 (mif_f d4 g4)
        · exact fin _ _ q3 (mif_f d3 g3)
      · exact fin _ _ q2 (mif_f d2 g2)
    · exact fin _ _ q1 (mif_f d1 g1)
  · exact fin _ _ q0 (mif_f d0 g0)
end S7s

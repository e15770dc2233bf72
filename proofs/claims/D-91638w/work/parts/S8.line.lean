/-! PLAIN: the room: a line of a book: a ground takes 21 signs -/
section S9s
variable {N : Nat} {σ σ' : MS}
theorem p_g47 (h6 : σ.1 6 = 2) (h : f_groundLine_47 N σ = some σ') : vG 15 σ σ' := by
  have KK := kt_groundLine_47 N σ σ' h
  unfold f_groundLine_47 at h
  obtain ⟨y1, e1⟩ : ∃ z, z = σ.1 13 := ⟨_, rfl⟩
  have h := mlet_at e1 h
  by_cases c : y1 = 0
  · have h := mif_t c h
    obtain ⟨y3, e3⟩ : ∃ z, z = σ.1 22 := ⟨_, rfl⟩
    have h := mlet_at e3 h
    by_cases d : y3 = 8
    · have h := mif_t d h
      obtain ⟨y5, e5⟩ : ∃ z, z = σ.1 4 := ⟨_, rfl⟩
      have h := mlet_at e5 h
      obtain ⟨r9, s7, c9, h⟩ := mcall_n h
      exact vG_bad KK ((kt_groundLine_73 N s7 σ' h).2 (kt_wrong N σ 5 y5 _ _ c9).2)
    · exact p_g73 h6 (mif_f d h)
  · exact p_g73 h6 (mif_f c h)
theorem p_ground (h : f_groundLine N σ = some σ') : vG 15 σ σ' := by
  have KK := kt_groundLine N σ σ' h
  unfold f_groundLine at h
  obtain ⟨r4, s2, c2, h⟩ := mcall_n h
  have q2 : s2 = σ := kz_isName N σ r4 s2 c2
  by_cases c : r4 = 0
  · have h := mif_t c h
    obtain ⟨y19, e19⟩ : ∃ z, z = s2.1 4 := ⟨_, rfl⟩
    have h := mlet_at e19 h
    obtain ⟨r23, s21, c3, h⟩ := mcall_n h
    cases h
    exact vG_bad KK (kt_wrong N s2 1 y19 _ _ c3).2
  · have h := mif_f c h
    obtain ⟨y8, e8⟩ : ∃ z, z = s2.1 22 := ⟨_, rfl⟩
    have h := mlet_at e8 h
    obtain ⟨r12, s10, c10, h⟩ := mcall_n h
    have q10 : s10 = σ := (kz_find N 14 (by decide) 15 (by decide) s2 y8 r12 s10 c10 : s10 = s2).trans q2
    by_cases d : r12 < 0
    · have h := mif_t d h
      rw [q10] at h
      exact p_g47 (p_isName c2 c) h
    · have h := mif_f d h
      obtain ⟨y14, e14⟩ : ∃ z, z = s10.1 4 := ⟨_, rfl⟩
      have h := mlet_at e14 h
      obtain ⟨r18, s16, c3, h⟩ := mcall_n h
      exact vG_bad KK ((kt_groundLine_47 N s16 σ' h).2 (kt_wrong N s10 3 y14 _ _ c3).2)
theorem L32 : (pTx 32).length = 6 := by decide
theorem p_line (h : f_line N σ = some σ') : vG 21 σ σ' := by
  have KK := kt_line N σ σ' h
  unfold f_line at h
  obtain ⟨r4, s2, c2, h⟩ := mcall_n h
  obtain ⟨q2, w2⟩ := p_word c2
  by_cases a1 : r4 = 0
  · have h := mif_t a1 h
    obtain ⟨r9, s7, c7, h⟩ := mcall_n h
    have q7 : s7 = σ := (p_word c7).1.trans q2
    by_cases a2 : r9 = 0
    · have h := mif_t a2 h
      obtain ⟨r14, s12, c12, h⟩ := mcall_n h
      have q12 : s12 = σ := (p_word c12).1.trans q7
      by_cases a3 : r14 = 0
      · have h := mif_t a3 h
        obtain ⟨y16, e16⟩ : ∃ z, z = s12.1 4 := ⟨_, rfl⟩
        have h := mlet_at e16 h
        obtain ⟨r20, s18, c18, h⟩ := mcall_n h
        have h : some s18 = some σ' := h
        cases h
        exact vG_bad KK (kt_wrong N s12 1 y16 _ _ c18).2
      · have h := mif_f a3 h
        obtain ⟨s22, c22, h⟩ := mcallv_n h
        obtain ⟨s25, c25, h⟩ := mcallv_n h
        have h : some s25 = some σ' := h
        cases h
        refine vG_keep KK ?_
        rw [(ky_tryLine N s22 _ c25).1 22 rfl, (ky_next N s12 s22 c22).1 22 rfl, q12]
    · have h := mif_f a2 h
      obtain ⟨y27, e27⟩ : ∃ z, z = s7.1 29 := ⟨_, rfl⟩
      have h := mlet_at e27 h
      by_cases a3 : y27 = 0
      · have h := mif_t a3 h
        obtain ⟨s30, c30, h⟩ := mcallv_n h
        obtain ⟨s32, e32⟩ : ∃ z, z = mSet s30 29 1 := ⟨_, rfl⟩
        have h := mlet_at e32 h
        obtain ⟨r36, s34, c34, h⟩ := mcall_n h
        obtain ⟨r40, s38, c38, h⟩ := mcall_n h
        obtain ⟨s41, e41⟩ : ∃ z, z = mSet s38 24 r40 := ⟨_, rfl⟩
        have h := mlet_at e41 h
        obtain ⟨r45, s43, c43, h⟩ := mcall_n h
        obtain ⟨r49, s47, c47, h⟩ := mcall_n h
        obtain ⟨s50, e50⟩ : ∃ z, z = mSet s47 25 r49 := ⟨_, rfl⟩
        have h := mlet_at e50 h
        obtain ⟨r54, s52, c52, h⟩ := mcall_n h
        obtain ⟨r58, s56, c56, h⟩ := mcall_n h
        obtain ⟨s59, e59⟩ : ∃ z, z = mSet s56 26 r58 := ⟨_, rfl⟩
        have h := mlet_at e59 h
        obtain ⟨r63, s61, c61, h⟩ := mcall_n h
        obtain ⟨r67, s65, c65, h⟩ := mcall_n h
        obtain ⟨s68, e68⟩ : ∃ z, z = mSet s65 27 r67 := ⟨_, rfl⟩
        have h := mlet_at e68 h
        obtain ⟨r72, s70, c70, h⟩ := mcall_n h
        obtain ⟨r76, s74, c74, h⟩ := mcall_n h
        have h : some (mSet s74 28 r76) = some σ' := h
        injection h with h
        refine vG_keep KK ?_
        have u : ∀ (s : MS) (k : Nat) (v : Int32), vOkG k = true → (mSet s k v).1 22 = s.1 22 := fun s k v z => (vKy_set z).1 22 rfl
        rw [← h, u _ _ _ (by decide), (ky_number N s70 _ _ _ _ c74).1 22 rfl, (ky_must N _ s68 _ _ c70).1 22 rfl, e68, u _ _ _ (by decide), (ky_number N s61 _ _ _ _ c65).1 22 rfl, (ky_must N _ s59 _ _ c61).1 22 rfl, e59, u _ _ _ (by decide), (ky_number N s52 _ _ _ _ c56).1 22 rfl, (ky_must N _ s50 _ _ c52).1 22 rfl, e50, u _ _ _ (by decide), (ky_number N s43 _ _ _ _ c47).1 22 rfl, (ky_must N _ s41 _ _ c43).1 22 rfl, e41, u _ _ _ (by decide), (ky_number N s34 _ _ _ _ c38).1 22 rfl, (ky_must N _ s32 _ _ c34).1 22 rfl, e32, u _ _ _ (by decide), (ky_next N s7 s30 c30).1 22 rfl, q7]
      · have h := mif_f a3 h
        obtain ⟨y78, e78⟩ : ∃ z, z = s7.1 4 := ⟨_, rfl⟩
        have h := mlet_at e78 h
        obtain ⟨r82, s80, c80, h⟩ := mcall_n h
        cases h
        exact vG_bad KK (kt_wrong N s7 3 y78 _ _ c80).2
  · have h := mif_f a1 h
    obtain ⟨s84, c84, h⟩ := mcallv_n h
    obtain ⟨s87, c87, h⟩ := mcallv_n h
    have h : some s87 = some σ' := h
    cases h
    obtain ⟨w3, w4, w5⟩ := w2 a1
    have G := p_ground c87
    refine ⟨KK.2, fun n st g hs hg z => ?_⟩
    obtain ⟨st1, k1, k2, k3, -⟩ := p_next (by rw [q2]; exact hs) c84
    have k3 := k3 6 (by rw [q2]; exact w4) (by rw [q2, w5, L32]; rfl) (by omega)
    obtain ⟨st2, g', k4, k5, k6, k7⟩ := G.2 n st1 g k1 (by rw [(ky_next N s2 s84 c84).1 22 rfl, q2]; exact hg) z
    exact ⟨st2, g', k4, k5, by omega, k7.elim Or.inl (fun k => Or.inr ⟨k.1, by omega⟩)⟩
end S9s

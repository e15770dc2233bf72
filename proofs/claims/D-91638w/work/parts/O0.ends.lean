/-! PLAIN: a step of a plan: the ends of a choice, in the model -/
section K9s
variable {N b : Nat} {g : uEnv} {lo rd tp n pl bo mp nD nG np : Nat} {T : Nat → Nat} {U : UH} {σ σ1 σ2 : MS} {at' at2 k cs d s : Nat}
theorem sLn {σ : MS} {r : Nat → Int32} {np s : Nat} (m2 : np = 8 → r = σ.2.1 56) (m4 : ∀ i, i ≠ 512 * np + (4 * s + 3) → r i = σ.2.1 56 i) (hk : np ≤ 8 ∧ s < 128) : mSm pS pRw σ (mRow σ 56 r) := by
  refine ⟨fun _ _ => rfl, fun j hj => if_neg (fun q => hj (Or.inr (Or.inl q))), rfl, fun j _ i hi => ?_⟩
  show (if j = 56 then r else σ.2.1 j) i = σ.2.1 j i
  by_cases cj : j = 56
  · subst cj
    rw [if_pos rfl]
    by_cases c8 : np = 8
    · rw [m2 c8]
    · exact m4 i (by rw [show mLen 56 = 4096 from rfl] at hi; omega)
  · rw [if_neg cj]
/-- the choice ends here -/
theorem m_lnd {k4 : MS → Int32 → Int32 → Option MS} {k35 : MS → Int32 → Int32 → Int32 → Option MS} (p : pP b g lo rd tp n T pl bo mp nD nG np U σ at' k cs d) (hd : d < 6) (hs : s < k) (hw : (σ.2.1 62 d = 0 ∧ σ.2.1 60 d = iI s) ∨ (σ.2.1 62 d = 1 ∧ σ.2.1 61 d = iI s)) : ∃ σ2, f_reads_82 N k4 k35 σ (iI d) 1 1 = k35 σ2 (iI d) 1 1 ∧ pP b g lo rd tp n T pl bo mp nD nG np U σ2 at' k cs d ∧ pTo lo rd pl np s d 0 0 U σ at' U σ2 at' ∧ (np < 8 → σ2.2.1 56 (512 * np + (4 * s + 3)) = iI k) ∧ ∀ i, i ≠ 512 * np + (4 * s + 3) → σ2.2.1 56 i = σ.2.1 56 i := by
  obtain ⟨hr, hpl, hlp, ⟨a1, a1'⟩, ⟨a2, a2'⟩, ⟨a3, a3'⟩, hO⟩ := id p
  have ho : uOld U := hr.2.2.2.2.2.1
  obtain ⟨r, m1, m2, m3, m4⟩ := m_lands (N := N) (σ := σ) (np := np) (k := k) (s := s) a3 a2 a3' (by omega)
  obtain ⟨t1, t2⟩ := t_ix (a := (d : Int)) (n := mLen 60) (k := d) rfl (by rw [show mLen 60 = 8 from rfl]; omega) (by rw [show mLen 60 = 8 from rfl]; omega)
  obtain ⟨t1', t2'⟩ := t_ix (a := (d : Int)) (n := mLen 61) (k := d) rfl (by rw [show mLen 61 = 8 from rfl]; omega) (by rw [show mLen 61 = 8 from rfl]; omega)
  obtain ⟨t3, t4⟩ := t_ix (a := (d : Int)) (n := 8) (k := d) rfl (by omega) (by omega)
  refine ⟨mRow σ 56 r, ?_, p.sg (fun _ _ => rfl) ⟨a2, a2'⟩ (fun j hj => mRw_n (by omega)), ⟨rKw.refl ho, Nat.le_refl _, by omega, by omega, sLn m2 m4 (by omega), fun i hi => ?_, fun i hi => ⟨?_, ?_, ?_⟩⟩, fun q => ?_, fun i hi => ?_⟩
  · unfold f_reads_82 f_reads_83 f_reads_183 f_reads_186
    rw [if_pos rfl, if_pos t3, p_let, t4]
    rcases hw with ⟨w1, w2⟩ | ⟨w1, w2⟩
    · rw [if_pos w1, if_pos t1, p_let, w2, m1, q_mv]
    · rw [if_neg (by rw [w1]; exact n10), if_pos t1', p_let, w2, m1, q_mv]
  · rw [mRw_s]
    exact m4 i (by omega)
  · rw [mRw_n (by decide)]
  · rw [mRw_n (by decide)]
  · rw [mRw_n (by decide)]
  · rw [mRw_s]
    exact m3 q
  · rw [mRw_s]
    exact m4 i hi
/-- the other side begins -/
theorem m_els {m n' : Nat} (p : pP b g lo rd tp n T pl bo mp nD nG np U σ2 at2 k cs (d + 1)) (hd : d < 6) (hk : k + 1 ≤ 2 * cs) (hs : s < k) (h1 : f_next N σ = some σ1) (h6 : σ1.1 6 = 40) (h2 : f_next N σ1 = some σ2) (h60 : σ2.2.1 60 d = iI s) : ∃ σ3, f_reads_83 N (f_reads_4 N m) (f_reads_35 N (f_reads_4 N m) (n' + 1)) σ (iI d) 1 1 1 = f_reads_4 N m σ3 (iI ((d + 1 : Nat) : Int)) 1 ∧ pP b g lo rd tp n T pl bo mp nD nG np U σ3 at2 (k + 1) cs (d + 1) ∧ pTo lo rd pl np s d 0 0 U σ2 at2 U σ3 at2 ∧ σ3.2.1 61 d = iI k ∧ σ3.2.1 62 d = 1 ∧ (np < 8 → σ3.2.1 56 (512 * np + 4 * k) = 2 ∧ σ3.2.1 56 (512 * np + (4 * s + 3)) = iI ((k + 1 : Nat) : Int)) ∧ ∀ i, i ≠ 512 * np + (4 * s + 3) → i < 512 * np + 4 * k → σ3.2.1 56 i = σ2.2.1 56 i := by
  obtain ⟨hr, hpl, hlp, ⟨a1, a1'⟩, ⟨a2, a2'⟩, ⟨a3, a3'⟩, hO⟩ := id p
  have ho : uOld U := hr.2.2.2.2.2.1
  obtain ⟨r, m1, m2, m3, m4⟩ := m_order (N := N) (σ := σ2) (np := np) (k := k) a3 a2 a3' (by omega) 2 0 0 0
  obtain ⟨t1, t2⟩ := t_ix (a := (d : Int)) (n := mLen 60) (k := d) rfl (by rw [show mLen 60 = 8 from rfl]; omega) (by rw [show mLen 60 = 8 from rfl]; omega)
  obtain ⟨t1', t2'⟩ := t_ix (a := (d : Int)) (n := mLen 61) (k := d) rfl (by rw [show mLen 61 = 8 from rfl]; omega) (by rw [show mLen 61 = 8 from rfl]; omega)
  obtain ⟨t3, t4⟩ := t_ix (a := (d : Int)) (n := 8) (k := d) rfl (by omega) (by omega)
  obtain ⟨s1, hs1⟩ : ∃ s1, s1 = mSet (mRow σ2 56 r) 58 (iI ((k + 1 : Nat) : Int)) := ⟨_, rfl⟩
  have r1 : ∀ j, j ≠ 56 → s1.2.1 j = σ2.2.1 j := fun j hj => by
    rw [hs1]
    exact mRw_n hj
  have r56 : s1.2.1 56 = r := by
    rw [hs1]
    exact mRw_s
  have f1 : ∀ i, i ≠ 58 → s1.1 i = σ2.1 i := fun i hi => by
    rw [hs1]
    exact upd_n hi
  have f58 : s1.1 58 = iI ((k + 1 : Nat) : Int) := by
    rw [hs1]
    rfl
  have sm : mSm pS pRw σ2 s1 := by
    rw [hs1]
    have q0 : mSm pS pRw σ2 (mRow σ2 56 r) := sOr m2 m4 (by omega)
    exact q0.trans (mSm.set (Or.inr (Or.inl rfl)))
  obtain ⟨s2, hs2⟩ : ∃ s2, s2 = mArr s1 61 d (iI k) := ⟨_, rfl⟩
  have w : ∀ j, j ≠ 61 → s2.2.1 j = s1.2.1 j := fun j j1 => by
    rw [hs2, mArr_n j1]
  have w61 : s2.2.1 61 = upd (s1.2.1 61) d (iI k) := by
    rw [hs2, mArr_s]
  have fw : s2.1 = s1.1 := by
    rw [hs2]
    rfl
  have sm2 : mSm pS pRw s1 s2 := by
    rw [hs2]
    exact mSm.arr (Or.inr (Or.inr (Or.inr (Or.inl rfl)))) (by rw [show mLen 61 = 8 from rfl]; omega)
  obtain ⟨r', l1, l2, l3, l4⟩ := m_lands (N := N) (σ := s2) (np := np) (k := k + 1) (s := s) (by rw [fw, f1 _ (by decide)]; exact a3) (by rw [fw]; exact f58) a3' (by omega)
  rw [w 56 (by decide), r56] at l2 l4
  obtain ⟨s3, hs3⟩ : ∃ s3, s3 = mArr (mRow s2 56 r') 62 d 1 := ⟨_, rfl⟩
  have v : ∀ j, j ≠ 56 → j ≠ 62 → s3.2.1 j = s2.2.1 j := fun j j1 j2 => by
    rw [hs3, mArr_n j2, mRw_n j1]
  have v56 : s3.2.1 56 = r' := by
    rw [hs3, mArr_n (by decide), mRw_s]
  have v62 : s3.2.1 62 = upd (s2.2.1 62) d 1 := by
    rw [hs3, mArr_s, mRw_n (by decide)]
  have fv : s3.1 = s1.1 := by
    rw [hs3, ← fw]
    rfl
  have sm3 : mSm pS pRw s2 s3 := by
    rw [hs3]
    have q0 : mSm pS pRw s2 (mRow s2 56 r') := sLn (np := np) (s := s) (by rw [w 56 (by decide), r56]; exact l2) (by rw [w 56 (by decide), r56]; exact l4) (by omega)
    exact q0.trans (mSm.arr (Or.inr (Or.inr (Or.inr (Or.inr rfl)))) (by rw [show mLen 62 = 8 from rfl]; omega))
  have ec : iI (d : Int) + 1 = iI ((d + 1 : Nat) : Int) := by
    rw [j1, i_add]
    rfl
  refine ⟨s3, ?_, p.sg (fun i hi => by rw [fv]; exact f1 i hi) ⟨by rw [fv]; exact f58, hk⟩ (fun j hj => by rw [v j (by omega) (by omega), w j (by omega), r1 j (by omega)]), ⟨rKw.refl ho, Nat.le_refl _, by omega, by omega, (sm.trans sm2).trans sm3, fun i hi => ?_, fun i hi => ⟨?_, ?_, ?_⟩⟩, ?_, ?_, fun q => ⟨?_, l3 q |> fun z => by rw [v56]; exact z⟩, fun i i1 i2 => ?_⟩
  · unfold f_reads_83 f_reads_186
    rw [if_neg n10, h1, q_mv, p_let, if_pos h6, h2, q_mv, m1, q_mc, ← hs1, if_pos t1', p_let, t2', ← hs2, if_pos t1, p_let, w 60 (by decide), r1 60 (by decide), h60, l1, q_mv, if_pos t3, p_let, show vp_nar .boolean 1 = 1 from rfl, ← hs3, p_let, ec, f_reads_35, if_pos rfl]
    unfold f_reads_189
    rw [if_pos rfl]
  · rw [v56, l4 i (by omega)]
    exact m4 i (by omega)
  · rw [v 60 (by decide) (by decide), w 60 (by decide), r1 60 (by decide)]
  · rw [v 61 (by decide) (by decide), w61, upd_n (by omega), r1 61 (by decide)]
  · rw [v62, upd_n (by omega), w 62 (by decide), r1 62 (by decide)]
  · rw [v 61 (by decide) (by decide), w61, upd_s]
  · rw [v62, upd_s]
  · rw [v56, l4 _ (by omega)]
    exact (m3 q).1
  · rw [v56, l4 i i1]
    exact m4 i (by omega)
end K9s

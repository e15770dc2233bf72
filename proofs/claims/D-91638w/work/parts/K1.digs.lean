/-! PLAIN: the model's rounds over all that may be dug -/
section H3s
variable {al I nT w : Nat} {nx : Nat → Nat → Nat → Nat} {ct : Nat → Nat} {O1 O : Nat → Nat}
/-- within a round: P: what was looked at -/
def gT (al I nT w : Nat) (nx : Nat → Nat → Nat → Nat) (ct : Nat → Nat) (O1 O : Nat → Nat) (fl : Nat) (P : Nat → Nat → Nat → Prop) : Prop := gJ al I nT w nx ct O ∧ (∀ x, x < al → O x ≤ O1 x) ∧ ((fl = 1 ∧ zSum O al < zSum O1 al) ∨ (fl = 0 ∧ ∀ x, x < al → O x = O1 x)) ∧ ∀ s t wl, 0 < s → s < al → t < nT → wl < w → P s t wl → O1 (nx t wl s) < I → O s ≤ O1 (nx t wl s) + ct t
theorem gT.mono {fl : Nat} {P P' : Nat → Nat → Nat → Prop} (h : gT al I nT w nx ct O1 O fl P) (hP : ∀ s t wl, 0 < s → s < al → t < nT → wl < w → P' s t wl → P s t wl) : gT al I nT w nx ct O1 O fl P' := ⟨h.1, h.2.1, h.2.2.1, fun s t wl q1 q2 q3 q4 q5 q6 => h.2.2.2 s t wl q1 q2 q3 q4 (hP s t wl q1 q2 q3 q4 q5) q6⟩
theorem gT.skip {fl s t wl : Nat} {P : Nat → Nat → Nat → Prop} (h : gT al I nT w nx ct O1 O fl P) (hn : nx t wl s < al) (hc : O (nx t wl s) < I → O s ≤ O (nx t wl s) + ct t) : gT al I nT w nx ct O1 O fl (fun s' t' wl' => P s' t' wl' ∨ (s' = s ∧ t' = t ∧ wl' = wl)) := by
  refine ⟨h.1, h.2.1, h.2.2.1, fun s' t' wl' q1 q2 q3 q4 q5 q6 => ?_⟩
  rcases q5 with q | ⟨rfl, rfl, rfl⟩
  · exact h.2.2.2 s' t' wl' q1 q2 q3 q4 q q6
  · have l := h.2.1 (nx t' wl' s') hn
    have := hc (by omega)
    omega
theorem gT.upd {fl s t wl : Nat} {P : Nat → Nat → Nat → Prop} (h : gT al I nT w nx ct O1 O fl P) (hn : nx t wl s < al) (h0 : 0 < s) (hs : s < al) (ht : t < nT) (hwl : wl < w) (hq : O (nx t wl s) < I) (hv : O (nx t wl s) + ct t < O s) : gT al I nT w nx ct O1 (zU O s (O (nx t wl s) + ct t)) 1 (fun s' t' wl' => P s' t' wl' ∨ (s' = s ∧ t' = t ∧ wl' = wl)) := by
  have sm : ∀ x, zU O s (O (nx t wl s) + ct t) x ≤ O x := fun x => by
    by_cases c : x = s
    · subst c
      rw [zU_s]
      omega
    · rw [zU_n c]
      exact Nat.le_refl _
  have sl := gSum_lt (X := zU O s (O (nx t wl s) + ct t)) (Y := O) (i := s) al (fun j _ => sm j) hs (by rw [zU_s]; exact hv)
  have sl2 := gSum_le (X := O) (Y := O1) al (fun j hj => h.2.1 j hj)
  refine ⟨h.1.upd h0 ht hwl hq hv hs, fun x hx => Nat.le_trans (sm x) (h.2.1 x hx), Or.inl ⟨rfl, by omega⟩, fun s' t' wl' q1 q2 q3 q4 q5 q6 => ?_⟩
  rcases q5 with q | ⟨rfl, rfl, rfl⟩
  · have := h.2.2.2 s' t' wl' q1 q2 q3 q4 q q6
    have := sm s'
    omega
  · have l := h.2.1 (nx t' wl' s') hn
    rw [zU_s]
    omega
end H3s
def lxB (s t wl : Nat) : Nat → Nat → Nat → Prop := fun s' t' wl' => s' < s ∨ (s' = s ∧ (t' < t ∨ (t' = t ∧ wl' < wl)))
section H4s
variable {N : Nat} {σ : MS} {w nT : Nat} {ev ov pv : Nat → Int}
def mTr (σ : MS) (w nT : Nat) (ev ov pv : Nat → Int) : Prop := σ.1 24 = iI w ∧ (2 ≤ w ∧ w ≤ 6) ∧ σ.1 23 = iI nT ∧ nT ≤ 6 ∧ ∀ t, t < nT → σ.2.1 30 t = iI (ev t) ∧ σ.2.1 31 t = iI (ov t) ∧ σ.2.1 32 t = iI (pv t) ∧ (-4 ≤ ev t ∧ ev t ≤ 4) ∧ (-4 ≤ ov t ∧ ov t ≤ 4) ∧ 1 ≤ pv t ∧ pv t ≤ 99
def rOk (w : Nat) (r : Nat → Int32) (O : Nat → Nat) : Prop := ∀ x, x < 5 ^ w → r x = iI ((O x : Nat) : Int) ∧ O x ≤ 2000000000
theorem m_dg95 {k67 : MS → Int32 → Int32 → Option MS} {k75 : MS → Int32 → Int32 → Int32 → Option MS} {k83 : MS → Int32 → Int32 → Int32 → Int32 → Option MS} {O1 : Nat → Nat} (hT : mTr σ w nT ev ov pv) (hN : 10 ≤ N) {s t : Nat} (h0 : 0 < s) (hs : s < 5 ^ w) (ht : t < nT) : ∀ (m wl fl : Nat) (O : Nat → Nat) (r : Nat → Int32), wl ≤ w → w < wl + m → rOk w r O → gT (5 ^ w) 2000000000 nT w (nxP ev ov w) (ctM pv) O1 O fl (lxB s t wl) → ∃ (O' : Nat → Nat) (r' : Nat → Int32) (fl' : Nat), rOk w r' O' ∧ gT (5 ^ w) 2000000000 nT w (nxP ev ov w) (ctM pv) O1 O' fl' (lxB s (t + 1) 0) ∧ f_digs_95 N k67 k75 k83 m (mRow σ 68 r) (iI ((5 ^ w : Nat) : Int)) (iI fl) (iI s) (iI t) (iI wl) = k83 (mRow σ 68 r') (iI ((5 ^ w : Nat) : Int)) (iI fl') (iI s) (iI ((t + 1 : Nat) : Int)) := by
  obtain ⟨h24, hw, h23, hnT, hrow⟩ := hT
  obtain ⟨r30, r31, r32, be, bo, bp⟩ := hrow t ht
  have p6 := (p5_le (k := w) (by omega)).2
  intro m
  induction m with
  | zero => intro wl fl O r h1 h2; omega
  | succ m ih =>
    intro wl fl O r h1 h2 hr hg
    rw [f_digs_95, show (mRow σ 68 r).1 24 = iI w from h24]
    by_cases hwl : wl = w
    · subst hwl
      refine ⟨O, r, fl, hr, hg.mono (fun s' t' wl' _ _ _ q4 q => ?_), ?_⟩
      · unfold lxB at q ⊢
        omega
      · rw [p_le (by omega) (by omega) (by omega) (by omega) (by omega), j1, i_add, p_let]
        rfl
    · have ek : iI (wl : Int) + 1 = iI ((wl + 1 : Nat) : Int) := by
        rw [j1, i_add]
        rfl
      have mb := m_behind (N := N) (σ := mRow σ 68 r) (w := w) (s := s) (t := t) (wl := wl) (e := ev t) (o := ov t) h24 (by omega) (by omega) (by omega) r30 r31 be bo hs hN
      have nl := pNx_lt (e := ev t) (o := ov t) (wl := wl) (s := s) (w := w)
      obtain ⟨t1, t2⟩ := t_ix (a := ((pNx (ev t) (ov t) wl s w : Nat) : Int)) (n := mLen 68) (k := pNx (ev t) (ov t) wl s w) rfl (by rw [show mLen 68 = 15625 from rfl]; omega) (by rw [show mLen 68 = 15625 from rfl]; omega)
      obtain ⟨t3, t4⟩ := t_ix (a := (t : Int)) (n := mLen 32) (k := t) rfl (by rw [show mLen 32 = 6 from rfl]; omega) (by rw [show mLen 32 = 6 from rfl]; omega)
      obtain ⟨t5, t6⟩ := t_ix (a := (s : Int)) (n := mLen 68) (k := s) rfl (by rw [show mLen 68 = 15625 from rfl]; omega) (by rw [show mLen 68 = 15625 from rfl]; omega)
      obtain ⟨x1, x2⟩ := hr _ nl
      obtain ⟨x3, x4⟩ := hr _ hs
      have l1 : ∀ P : Nat → Nat → Nat → Prop, (∀ s' t' wl', P s' t' wl' ↔ (lxB s t wl s' t' wl' ∨ (s' = s ∧ t' = t ∧ wl' = wl))) → ∀ s' t' wl', lxB s t (wl + 1) s' t' wl' → P s' t' wl' := fun P hP s' t' wl' q => (hP s' t' wl').mpr (by
        unfold lxB at q ⊢
        omega)
      unfold f_digs_180
      rw [n_le (by omega) (by omega) (by omega) (by omega) (by omega), mb, q_mc, if_pos t1, p_let, t2, show (mRow σ 68 r).2.1 68 (pNx (ev t) (ov t) wl s w) = r (pNx (ev t) (ov t) wl s w) from rfl, x1]
      by_cases ci : O (pNx (ev t) (ov t) wl s w) = 2000000000
      · obtain ⟨O', r', fl', y1, y2, y3⟩ := ih (wl + 1) fl O r (by omega) (by omega) hr ((hg.skip (s := s) (t := t) (wl := wl) nl (fun z => by
          have : O (nxP ev ov w t wl s) = 2000000000 := ci
          omega)).mono (fun s' t' wl' _ _ _ _ q => l1 _ (fun _ _ _ => Iff.rfl) s' t' wl' q))
        refine ⟨O', r', fl', y1, y2, ?_⟩
        rw [if_pos (show iI ((O (pNx (ev t) (ov t) wl s w) : Nat) : Int) = 2000000000 by rw [ci]; rfl), ek, p_let]
        exact y3
      · have e1 : iI ((O (pNx (ev t) (ov t) wl s w) : Nat) : Int) + 10000 * iI (pv t) + 1 = iI (((O (pNx (ev t) (ov t) wl s w) + ctM pv t : Nat) : Int)) := by
          rw [show (10000 : Int32) = iI 10000 from rfl, i_mul, i_add, j1, i_add]
          congr 1
          unfold ctM
          omega
        have cb : ctM pv t ≤ 990001 := by
          unfold ctM
          omega
        rw [if_neg (show ¬ iI ((O (pNx (ev t) (ov t) wl s w) : Nat) : Int) = 2000000000 by rw [show (2000000000 : Int32) = iI 2000000000 from rfl, j_eq (by omega) (by omega) (by omega) (by omega)]; omega), if_pos t3, p_let, t4, show (mRow σ 68 r).2.1 32 t = iI (pv t) from r32, if_pos t5, p_let, t6, show (mRow σ 68 r).2.1 68 s = r s from rfl, x3, e1]
        by_cases cv : O (pNx (ev t) (ov t) wl s w) + ctM pv t < O s
        · obtain ⟨O', r', fl', y1, y2, y3⟩ := ih (wl + 1) 1 (zU O s (O (pNx (ev t) (ov t) wl s w) + ctM pv t)) (upd r s (iI ((O (pNx (ev t) (ov t) wl s w) + ctM pv t : Nat) : Int))) (by omega) (by omega) (fun x hx => by
            by_cases c : x = s
            · subst c
              rw [upd_s, zU_s]
              exact ⟨rfl, by omega⟩
            · rw [upd_n c, zU_n c]
              exact hr x hx) ((hg.upd (s := s) (t := t) (wl := wl) nl h0 hs ht (by omega) (by
              show O (pNx (ev t) (ov t) wl s w) < 2000000000
              omega) cv).mono (fun s' t' wl' _ _ _ _ q => l1 _ (fun _ _ _ => Iff.rfl) s' t' wl' q))
          refine ⟨O', r', fl', y1, y2, ?_⟩
          rw [p_lt (by omega) (by omega) (by omega) (by omega) (by omega), if_pos t3, p_let, if_pos t5, p_let, e1, mRow_a, ek, p_let]
          exact y3
        · obtain ⟨O', r', fl', y1, y2, y3⟩ := ih (wl + 1) fl O r (by omega) (by omega) hr ((hg.skip (s := s) (t := t) (wl := wl) nl (fun z => by
            show O s ≤ O (pNx (ev t) (ov t) wl s w) + ctM pv t
            omega)).mono (fun s' t' wl' _ _ _ _ q => l1 _ (fun _ _ _ => Iff.rfl) s' t' wl' q))
          refine ⟨O', r', fl', y1, y2, ?_⟩
          rw [n_lt (by omega) (by omega) (by omega) (by omega) (by omega), ek, p_let]
          exact y3
theorem m_dg83 {k67 : MS → Int32 → Int32 → Option MS} {k75 : MS → Int32 → Int32 → Int32 → Option MS} {O1 : Nat → Nat} (hT : mTr σ w nT ev ov pv) (hN : 10 ≤ N) {s : Nat} (h0 : 0 < s) (hs : s < 5 ^ w) : ∀ (m t fl : Nat) (O : Nat → Nat) (r : Nat → Int32), t ≤ nT → nT < t + m → rOk w r O → gT (5 ^ w) 2000000000 nT w (nxP ev ov w) (ctM pv) O1 O fl (lxB s t 0) → ∃ (O' : Nat → Nat) (r' : Nat → Int32) (fl' : Nat), rOk w r' O' ∧ gT (5 ^ w) 2000000000 nT w (nxP ev ov w) (ctM pv) O1 O' fl' (lxB (s + 1) 0 0) ∧ f_digs_83 N k67 k75 m (mRow σ 68 r) (iI ((5 ^ w : Nat) : Int)) (iI fl) (iI s) (iI t) = k75 (mRow σ 68 r') (iI ((5 ^ w : Nat) : Int)) (iI fl') (iI ((s + 1 : Nat) : Int)) := by
  have hT' := hT
  obtain ⟨h24, hw, h23, hnT, hrow⟩ := hT'
  have p6 := (p5_le (k := w) (by omega)).2
  intro m
  induction m with
  | zero => intro t fl O r h1 h2; omega
  | succ m ih =>
    intro t fl O r h1 h2 hr hg
    rw [f_digs_83, show (mRow σ 68 r).1 23 = iI nT from h23]
    by_cases ht : t = nT
    · subst ht
      refine ⟨O, r, fl, hr, hg.mono (fun s' t' wl' _ _ q3 q4 q => ?_), ?_⟩
      · unfold lxB at q ⊢
        omega
      · rw [p_le (by omega) (by omega) (by omega) (by omega) (by omega), j1, i_add, p_let]
        rfl
    · obtain ⟨O2, r2, fl2, y1, y2, y3⟩ := m_dg95 (N := N) (k67 := k67) (k75 := k75) (k83 := f_digs_83 N k67 k75 m) hT hN h0 hs (t := t) (by omega) N 0 fl O r (by omega) (by omega) hr hg
      obtain ⟨O', r', fl', z1, z2, z3⟩ := ih (t + 1) fl2 O2 r2 (by omega) (by omega) y1 y2
      refine ⟨O', r', fl', z1, z2, ?_⟩
      rw [n_le (by omega) (by omega) (by omega) (by omega) (by omega)]
      exact y3.trans z3
theorem m_dg75 {k67 : MS → Int32 → Int32 → Option MS} {O1 : Nat → Nat} (hT : mTr σ w nT ev ov pv) (hN : 20000 ≤ N) : ∀ (m s fl : Nat) (O : Nat → Nat) (r : Nat → Int32), 0 < s → s ≤ 5 ^ w → 5 ^ w < s + m → rOk w r O → gT (5 ^ w) 2000000000 nT w (nxP ev ov w) (ctM pv) O1 O fl (lxB s 0 0) → ∃ (O' : Nat → Nat) (r' : Nat → Int32) (fl' : Nat), rOk w r' O' ∧ gT (5 ^ w) 2000000000 nT w (nxP ev ov w) (ctM pv) O1 O' fl' (fun _ _ _ => True) ∧ f_digs_75 N k67 m (mRow σ 68 r) (iI ((5 ^ w : Nat) : Int)) (iI fl) (iI s) = k67 (mRow σ 68 r') (iI ((5 ^ w : Nat) : Int)) (iI fl') := by
  have hT' := hT
  obtain ⟨h24, hw, h23, hnT, hrow⟩ := hT'
  have p6 := (p5_le (k := w) (by omega)).2
  intro m
  induction m with
  | zero => intro s fl O r h0 h1 h2; omega
  | succ m ih =>
    intro s fl O r h0 h1 h2 hr hg
    rw [f_digs_75]
    by_cases hs : s = 5 ^ w
    · refine ⟨O, r, fl, hr, hg.mono (fun s' t' wl' _ q2 _ _ _ => ?_), ?_⟩
      · unfold lxB
        omega
      · rw [hs, p_le (by omega) (by omega) (by omega) (by omega) (by omega)]
    · obtain ⟨O2, r2, fl2, y1, y2, y3⟩ := m_dg83 (N := N) (k67 := k67) (k75 := f_digs_75 N k67 m) hT (by omega) h0 (s := s) (by omega) N 0 fl O r (by omega) (by omega) hr hg
      obtain ⟨O', r', fl', z1, z2, z3⟩ := ih (s + 1) fl2 O2 r2 (by omega) (by omega) (by omega) y1 y2
      refine ⟨O', r', fl', z1, z2, ?_⟩
      rw [n_le (by omega) (by omega) (by omega) (by omega) (by omega)]
      exact y3.trans z3
theorem m_dg67 (hT : mTr σ w nT ev ov pv) (hN : 20000 ≤ N) : ∀ (m : Nat) (O : Nat → Nat) (r : Nat → Int32), zSum O (5 ^ w) + 2 ≤ m → rOk w r O → gJ (5 ^ w) 2000000000 nT w (nxP ev ov w) (ctM pv) O → ∃ (D : Nat → Nat) (r' : Nat → Int32), rOk w r' D ∧ gJ (5 ^ w) 2000000000 nT w (nxP ev ov w) (ctM pv) D ∧ gF (5 ^ w) 2000000000 nT w (nxP ev ov w) (ctM pv) D ∧ f_digs_67 N m (mRow σ 68 r) (iI ((5 ^ w : Nat) : Int)) 1 = some (mRow σ 68 r') := by
  intro m
  induction m with
  | zero => intro O r h1; omega
  | succ m ih =>
    intro O r h1 hr hJ
    rw [f_digs_67, if_neg n10]
    have p1 := (p5_le (k := w) (by have := hT.2.1; omega)).1
    obtain ⟨O', r', fl', y1, y2, y3⟩ := m_dg75 (N := N) (k67 := f_digs_67 N m) (O1 := O) hT hN N 1 0 O r (by omega) p1 (by
      have := (p5_le (k := w) (by have := hT.2.1; omega)).2
      omega) hr ⟨hJ, fun _ _ => Nat.le_refl _, Or.inr ⟨rfl, fun _ _ => rfl⟩, fun s t wl q1 q2 q3 q4 q5 => by
        unfold lxB at q5
        omega⟩
    obtain ⟨a1, a2, a3, a4⟩ := y2
    have y3 : f_digs_75 N (f_digs_67 N m) N (mRow σ 68 r) (iI ((5 ^ w : Nat) : Int)) 0 1 = f_digs_67 N m (mRow σ 68 r') (iI ((5 ^ w : Nat) : Int)) (iI fl') := y3
    rw [y3]
    rcases a3 with ⟨rfl, b2⟩ | ⟨rfl, b2⟩
    · exact ih O' r' (by omega) y1 a1
    · obtain ⟨m', rfl⟩ : ∃ m', m = m' + 1 := ⟨m - 1, by omega⟩
      refine ⟨O', r', y1, a1, fun s t wl q1 q2 q3 q4 q5 => ?_, ?_⟩
      · have nl : nxP ev ov w t wl s < 5 ^ w := pNx_lt
        rw [b2 _ nl] at q5 ⊢
        exact a4 s t wl q1 q2 q3 q4 trivial q5
      · rw [f_digs_67, if_pos (show iI ((0 : Nat) : Int) = 0 from rfl)]
end H4s

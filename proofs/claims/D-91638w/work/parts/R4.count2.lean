/-! PLAIN: the room: doubts, maps, feeds, plans are counted -/
theorem t_cn {k : Nat} (h : k ≤ 2147483646) : (iI (k : Int)).toNatClampNeg = k := (t_ix (a := (k : Int)) (n := k + 1) (k := k) rfl (by omega) (by omega)).2
theorem kM_at {σ : MS} {nd : Nat} (h : σ.1 37 = iI nd) (hn : nd ≤ 5) : kM σ = cNz (σ.2.1 41) 100 + cNz (σ.2.1 42) 100 + cNz (σ.2.1 46) (8 * nd) := by
  unfold kM
  rw [h, t_cn (by omega)]
theorem cNz_uni {f : Nat → Int32} {a : Nat} {y : Int32} : ∀ m, m ≤ 8 → (∀ q, q < m → f (a + q) = (if iI (q : Int) = y then 1 else 0)) → cNz f (a + m) ≤ cNz f a + 1 ∧ ((∀ q : Nat, q < m → iI (q : Int) ≠ y) → cNz f (a + m) = cNz f a) := by
  intro m
  induction m with
  | zero => intro _ _; exact ⟨Nat.le_succ _, fun _ => rfl⟩
  | succ m ih =>
    intro hm h
    obtain ⟨i1, i2⟩ := ih (by omega) (fun q hq => h q (by omega))
    have e : cNz f (a + (m + 1)) = cNz f (a + m) + (if f (a + m) = 0 then 0 else 1) := rfl
    rw [e, h m (by omega)]
    by_cases c : iI (m : Int) = y
    · have i3 := i2 (fun q hq z => by
        have : iI (q : Int) = iI (m : Int) := z.trans c.symm
        rw [j_eq (by omega) (by omega) (by omega) (by omega)] at this
        omega)
      rw [if_pos c, if_neg (by decide)]
      exact ⟨by omega, fun z => absurd c (z m (by omega))⟩
    · rw [if_neg c, if_pos rfl]
      exact ⟨by omega, fun z => by
        have := i2 (fun q hq => z q (by omega))
        omega⟩
section S1s
variable {N : Nat} {σ σ' : MS} {r x1 x2 x3 x4 x5 : Int32}
theorem e_d80 {nd : Nat} (hnd : nd ≤ 4) : ∀ (n i : Nat) (s : MS), i ≤ 8 → s.1 37 = iI nd → f_doubt_80 N n s x1 (iI i) = some (r, σ') → σ'.1 37 = iI ((nd + 1 : Nat) : Int) ∧ (∀ k, k = 2 ∨ k = 12 ∨ k = 22 ∨ k = 34 → σ'.1 k = s.1 k) ∧ (∀ j, j = 41 ∨ j = 42 → σ'.2.1 j = s.2.1 j) ∧ (∀ k, k < 8 * nd + i → σ'.2.1 46 k = s.2.1 46 k) ∧ ∀ q, i ≤ q → q < 8 → σ'.2.1 46 (8 * nd + q) = (if iI (q : Int) = s.2.1 42 x1.toNatClampNeg then 1 else 0) := by
  intro n
  induction n with
  | zero => intro i s _ _ h; cases h
  | succ n ih =>
    intro i s hi h37 h
    unfold f_doubt_80 at h
    by_cases c : (8 : Int32) ≤ iI i
    · have h := mif_t c h
      cases h
      have i8 : i = 8 := by
        rw [show (8 : Int32) = iI 8 from rfl, j_le (by omega) (by omega) (by omega) (by omega)] at c
        omega
      refine ⟨?_, fun k hk => ?_, fun j _ => rfl, fun k _ => rfl, fun q h1 h2 => by omega⟩
      · show upd (upd s.1 37 (s.1 37 + 1)) 51 0 37 = _
        rw [upd_n (by decide), upd_s, h37, j1, i_add]
        rfl
      · show upd (upd s.1 37 (s.1 37 + 1)) 51 0 k = _
        rw [upd_n (by omega), upd_n (by omega)]
    · have h := mif_f c h
      have i8 : i < 8 := by
        rw [show (8 : Int32) = iI 8 from rfl, j_le (by omega) (by omega) (by omega) (by omega)] at c
        omega
      obtain ⟨-, h⟩ := mif_n h
      obtain ⟨y5, ey⟩ : ∃ z, z = s.2.1 42 x1.toNatClampNeg := ⟨_, rfl⟩
      have h := mlet_at ey h
      have ex : (8 * (s.1 37)) + iI (i : Int) = iI ((8 * nd + i : Nat) : Int) := by
        rw [h37, show (8 : Int32) = iI 8 from rfl, i_mul, i_add]
        rfl
      have ei : iI (i : Int) + 1 = iI ((i + 1 : Nat) : Int) := by
        rw [j1, i_add]
        rfl
      have st : ∀ v : Int32, v = (if iI (i : Int) = y5 then 1 else 0) → f_doubt_114 N (f_doubt_80 N n) s x1 (iI i) v ((8 * (s.1 37)) + iI (i : Int)) = some (r, σ') → σ'.1 37 = iI ((nd + 1 : Nat) : Int) ∧ (∀ k, k = 2 ∨ k = 12 ∨ k = 22 ∨ k = 34 → σ'.1 k = s.1 k) ∧ (∀ j, j = 41 ∨ j = 42 → σ'.2.1 j = s.2.1 j) ∧ (∀ k, k < 8 * nd + i → σ'.2.1 46 k = s.2.1 46 k) ∧ ∀ q, i ≤ q → q < 8 → σ'.2.1 46 (8 * nd + q) = (if iI (q : Int) = s.2.1 42 x1.toNatClampNeg then 1 else 0) := fun v hv h => by
        unfold f_doubt_114 at h
        obtain ⟨-, h⟩ := mif_n h
        rw [ex, t_cn (by omega)] at h
        obtain ⟨s2, es⟩ : ∃ z, z = mArr s 46 (8 * nd + i) v := ⟨_, rfl⟩
        have h := mlet_at es h
        have h : f_doubt_80 N n s2 x1 (iI (i : Int) + 1) = some (r, σ') := h
        rw [ei] at h
        obtain ⟨k1, k2, k3, k4, k5⟩ := ih (i + 1) s2 (by omega) (by rw [es]; exact h37) h
        have r46 : s2.2.1 46 = upd (s.2.1 46) (8 * nd + i) v := by
          rw [es]
          exact mArr_s
        have rj : ∀ j, j ≠ 46 → s2.2.1 j = s.2.1 j := fun j hj => by
          rw [es]
          exact mArr_n hj
        refine ⟨k1, fun k hk => (k2 k hk).trans (by rw [es]; rfl), fun j hj => (k3 j hj).trans (rj j (by omega)), fun k hk => ?_, fun q h1 h2 => ?_⟩
        · rw [k4 k (by omega), r46, upd_n (by omega)]
        · by_cases e : q = i
          · subst e
            rw [k4 _ (by omega), r46, upd_s, hv, ey]
          · rw [k5 q (by omega) h2, rj 42 (by decide)]
      by_cases d : iI (i : Int) = y5
      · exact st 1 (by rw [if_pos d]) (mif_t d h)
      · exact st 0 (by rw [if_neg d]) (mif_f d h)
theorem e_doubt {nd : Nat} (h37 : σ.1 37 = iI nd) (hnd : nd ≤ 5) (h : f_doubt N σ x1 = some (r, σ')) : vEff σ σ' 1 := by
  unfold f_doubt at h
  obtain ⟨σ1, c1, h⟩ := mcallv_n h
  have w1 := kp_good N σ _ c1
  obtain ⟨r5, σ3, c2, h⟩ := mcall_n h
  have w2 := w1.t (kp_isCell N σ1 x1 _ _ c2)
  by_cases c : r5 = 0
  · have h := mif_t c h
    obtain ⟨r25, σ23, c3, h⟩ := mcall_n h
    have w3 := w2.t (kp_no N σ3 1 _ _ c3)
    cases h
    exact w3.eff.up (by omega)
  · have h := mif_f c h
    obtain ⟨-, h⟩ := mif_n h
    obtain ⟨y8, ey⟩ : ∃ z, z = σ3.2.1 43 x1.toNatClampNeg := ⟨_, rfl⟩
    have h := mlet_at ey h
    by_cases d : y8 = (-1)
    · have h := mif_t d h
      by_cases e : (σ3.1 37) = 5
      · have h := mif_t e h
        obtain ⟨r19, σ17, c3, h⟩ := mcall_n h
        have w3 := w2.t (kp_no N σ3 3 _ _ c3)
        cases h
        exact w3.eff.up (by omega)
      · have h := mif_f e h
        have g37 : σ3.1 37 = iI nd := (w2.1.1 37 (by omega)).trans h37
        have n4 : nd ≤ 4 := by
          apply Classical.byContradiction
          intro z
          have : nd = 5 := by omega
          rw [g37, this] at e
          exact e rfl
        obtain ⟨-, h⟩ := mif_n h
        obtain ⟨σ12, e12⟩ : ∃ z, z = mArr σ3 43 x1.toNatClampNeg (σ3.1 37) := ⟨_, rfl⟩
        have h := mlet_at e12 h
        obtain ⟨-, h⟩ := mif_n h
        obtain ⟨σ14, e14⟩ : ∃ z, z = mArr σ12 44 (σ12.1 37).toNatClampNeg x1 := ⟨_, rfl⟩
        have h := mlet_at e14 h
        obtain ⟨-, h⟩ := mif_n h
        obtain ⟨σ16, e16⟩ : ∃ z, z = mArr σ14 45 (σ14.1 37).toNatClampNeg (-1) := ⟨_, rfl⟩
        have h := mlet_at e16 h
        have f16 : σ16.1 = σ3.1 := by
          rw [e16, e14, e12]
          rfl
        have r16 : ∀ j, j ≠ 43 → j ≠ 44 → j ≠ 45 → σ16.2.1 j = σ3.2.1 j := fun j a b c => by
          rw [e16, mArr_n c, e14, mArr_n b, e12, mArr_n a]
        have h : f_doubt_80 N N σ16 x1 (iI ((0 : Nat) : Int)) = some (r, σ') := h
        obtain ⟨k1, k2, k3, k4, k5⟩ := e_d80 n4 N 0 σ16 (by omega) (by rw [f16]; exact g37) h
        obtain ⟨v1, v2, v3, v4, v5⟩ := w2.eff
        refine ⟨((k2 2 (by omega)).trans (by rw [f16])).trans v1, ((k2 12 (by omega)).trans (by rw [f16])).trans v2, ((k2 22 (by omega)).trans (by rw [f16])).trans v3, ((k2 34 (by omega)).trans (by rw [f16])).trans v4, ?_⟩
        rw [kM_at k1 (by omega)]
        rw [kM_at g37 hnd] at v5
        have q41 : σ'.2.1 41 = σ3.2.1 41 := (k3 41 (by omega)).trans (r16 41 (by decide) (by decide) (by decide))
        have q42 : σ'.2.1 42 = σ3.2.1 42 := (k3 42 (by omega)).trans (r16 42 (by decide) (by decide) (by decide))
        have q46 : cNz (σ'.2.1 46) (8 * nd) = cNz (σ3.2.1 46) (8 * nd) := cNz_eq _ (fun k hk => by
          rw [k4 k (by omega), r16 46 (by decide) (by decide) (by decide)])
        have uni := (cNz_uni (f := σ'.2.1 46) (a := 8 * nd) (y := σ16.2.1 42 x1.toNatClampNeg) 8 (by omega) (fun q hq => k5 q (by omega) hq)).1
        rw [show 8 * (nd + 1) = 8 * nd + 8 by omega, q41, q42]
        omega
    · have h := mif_f d h
      obtain ⟨r22, σ20, c3, h⟩ := mcall_n h
      have w3 := w2.t (kp_no N σ3 5 _ _ c3)
      cases h
      exact w3.eff.up (by omega)
theorem e_m82 : ∀ (n i : Nat) (s : MS), i ≤ 100 → (∀ k, k < i → s.2.1 41 k = 0 ∧ s.2.1 42 k = 0) → f_map_82 N n s x1 x2 (iI i) = some (r, σ') → σ'.1 = s.1 ∧ ∀ k, k < 100 → σ'.2.1 41 k = 0 ∧ σ'.2.1 42 k = 0 := by
  intro n
  induction n with
  | zero => intro i s _ _ h; cases h
  | succ n ih =>
    intro i s hi hz h
    unfold f_map_82 at h
    by_cases c : (100 : Int32) ≤ iI i
    · have h := mif_t c h
      cases h
      rw [show (100 : Int32) = iI 100 from rfl, j_le (by omega) (by omega) (by omega) (by omega)] at c
      exact ⟨rfl, fun k hk => hz k (by omega)⟩
    · have h := mif_f c h
      rw [show (100 : Int32) = iI 100 from rfl, j_le (by omega) (by omega) (by omega) (by omega)] at c
      obtain ⟨-, h⟩ := mif_n h
      obtain ⟨σ3, e3⟩ : ∃ z, z = mArr s 41 (iI (i : Int)).toNatClampNeg 0 := ⟨_, rfl⟩
      have h := mlet_at e3 h
      obtain ⟨-, h⟩ := mif_n h
      obtain ⟨σ5, e5⟩ : ∃ z, z = mArr σ3 42 (iI (i : Int)).toNatClampNeg 0 := ⟨_, rfl⟩
      have h := mlet_at e5 h
      obtain ⟨-, h⟩ := mif_n h
      obtain ⟨σ7, e7⟩ : ∃ z, z = mArr σ5 43 (iI (i : Int)).toNatClampNeg (-1) := ⟨_, rfl⟩
      have h := mlet_at e7 h
      have h : f_map_82 N n σ7 x1 x2 (iI (i : Int) + 1) = some (r, σ') := h
      rw [j1, i_add] at h
      rw [t_cn (by omega)] at e3 e5 e7
      have a41 : σ7.2.1 41 = upd (s.2.1 41) i 0 := by
        rw [e7, mArr_n (by decide), e5, mArr_n (by decide), e3, mArr_s]
      have a42 : σ7.2.1 42 = upd (s.2.1 42) i 0 := by
        rw [e7, mArr_n (by decide), e5, mArr_s, e3, mArr_n (by decide)]
      obtain ⟨k1, k2⟩ := ih (i + 1) σ7 (by omega) (fun k hk => by
        rw [a41, a42]
        by_cases e : k = i
        · subst e
          rw [upd_s, upd_s]
          exact ⟨rfl, rfl⟩
        · rw [upd_n e, upd_n e]
          exact hz k (by omega)) h
      refine ⟨k1.trans ?_, k2⟩
      rw [e7, e5, e3]
      rfl
theorem e_map (h : f_map N σ x1 x2 = some (r, σ')) : vEff σ σ' 0 ∨ (σ'.1 2 = σ.1 2 ∧ σ'.1 12 = σ.1 12 ∧ σ'.1 22 = σ.1 22 ∧ σ.1 12 ≠ 0 ∧ kM σ' = 0) := by
  unfold f_map at h
  obtain ⟨σ1, c1, h⟩ := mcallv_n h
  have w1 := kp_good N σ _ c1
  by_cases c : (σ1.1 12) = 0
  · exact Or.inl (w1.t (kp_map_18 N σ1 _ _ (mif_t c h))).eff
  · have h := mif_f c h
    by_cases d : (σ1.1 22) = 0
    · exact Or.inl (w1.t (kp_map_18 N σ1 _ _ (mif_t d h))).eff
    · have h := mif_f d h
      obtain ⟨r7, σ5, c2, h⟩ := mcall_n h
      have w2 := w1.t (kp_within N σ1 x1 1 10 _ _ c2)
      by_cases e : r7 = 0
      · exact Or.inl (w2.t (kp_map_44 N σ5 _ _ (mif_t e h))).eff
      · have h := mif_f e h
        obtain ⟨r11, σ9, c3, h⟩ := mcall_n h
        have w3 := w2.t (kp_within N σ5 x2 1 10 _ _ c3)
        by_cases f : r11 = 0
        · exact Or.inl (w3.t (kp_map_44 N σ9 _ _ (mif_t f h))).eff
        · have h := mif_f f h
          obtain ⟨s, es⟩ : ∃ z, z = mSet (mSet (mSet (mSet (mSet (mSet σ9 34 1) 35 x1) 36 x2) 37 0) 40 0) 51 0 := ⟨_, rfl⟩
          have h : f_map_82 N N (mSet (mSet (mSet (mSet (mSet (mSet σ9 34 1) 35 x1) 36 x2) 37 0) 40 0) 51 0) x1 x2 (iI ((0 : Nat) : Int)) = some (r, σ') := h
          rw [← es] at h
          obtain ⟨k1, k2⟩ := e_m82 N 0 s (by omega) (fun k hk => absurd hk (by omega)) h
          have fe : ∀ k, k ≠ 34 → k ≠ 35 → k ≠ 36 → k ≠ 37 → k ≠ 40 → k ≠ 51 → σ'.1 k = σ9.1 k := fun k a1 a2 a3 a4 a5 a6 => by
            rw [k1, es]
            show upd (upd (upd (upd (upd (upd σ9.1 34 1) 35 x1) 36 x2) 37 0) 40 0) 51 0 k = _
            rw [upd_n a6, upd_n a5, upd_n a4, upd_n a3, upd_n a2, upd_n a1]
          have f37 : σ'.1 37 = iI ((0 : Nat) : Int) := by
            rw [k1, es]
            show upd (upd (upd (upd (upd (upd σ9.1 34 1) 35 x1) 36 x2) 37 0) 40 0) 51 0 37 = _
            rw [upd_n (by decide), upd_n (by decide), upd_s]
            rfl
          obtain ⟨v1, v2, v3, v4, v5⟩ := w3.eff
          right
          refine ⟨(fe 2 (by decide) (by decide) (by decide) (by decide) (by decide) (by decide)).trans v1, (fe 12 (by decide) (by decide) (by decide) (by decide) (by decide) (by decide)).trans v2, (fe 22 (by decide) (by decide) (by decide) (by decide) (by decide) (by decide)).trans v3, ?_, ?_⟩
          · have := w1.1.1 12 (by omega)
            rw [this] at c
            exact c
          · rw [kM_at f37 (by omega), cNz_zero 100 (fun k hk => (k2 k hk).1), cNz_zero 100 (fun k hk => (k2 k hk).2)]
            rfl
/-- letters of a feed -/
theorem e_f23 {nt : Nat} : ∀ (n i : Nat) (s : MS), i ≤ 20 → nt + 20 ≤ 500 → s.1 2 = iI ((nt + i : Nat) : Int) → f_feed_23 N n s x1 x2 x3 x4 x5 (iI i) = some (r, σ') → σ'.1 2 = iI ((nt + 20 : Nat) : Int) := by
  intro n
  induction n with
  | zero => intro i s _ _ _ h; cases h
  | succ n ih =>
    intro i s hi hn h2 h
    have st : ∀ v : Int32, i < 20 → f_feed_76 N (f_feed_23 N n) s x1 x2 x3 x4 x5 (iI i) v = some (r, σ') → σ'.1 2 = iI ((nt + 20 : Nat) : Int) := fun v hi h => by
      unfold f_feed_76 at h
      obtain ⟨-, h⟩ := mif_n h
      obtain ⟨s2, e2⟩ : ∃ z, z = mArr s 1 (s.1 2).toNatClampNeg ((v >>> ((24 - (8 * (iI (i : Int) - iI (i : Int) / 4 * 4))) &&& 31)) &&& 255) := ⟨_, rfl⟩
      have h := mlet_at e2 h
      obtain ⟨s3, e3⟩ : ∃ z, z = mSet s2 2 ((s2.1 2) + 1) := ⟨_, rfl⟩
      have h := mlet_at e3 h
      have h : f_feed_23 N n s3 x1 x2 x3 x4 x5 (iI (i : Int) + 1) = some (r, σ') := h
      rw [j1, i_add] at h
      refine ih (i + 1) s3 (by omega) hn ?_ h
      rw [e3]
      show upd s2.1 2 (s2.1 2 + 1) 2 = _
      rw [upd_s, e2]
      show s.1 2 + 1 = _
      rw [h2, j1, i_add]
      rfl
    unfold f_feed_23 at h
    by_cases c : (20 : Int32) ≤ iI i
    · have h := mif_t c h
      cases h
      rw [show (20 : Int32) = iI 20 from rfl, j_le (by omega) (by omega) (by omega) (by omega)] at c
      rw [h2, show i = 20 by omega]
    · have h := mif_f c h
      rw [show (20 : Int32) = iI 20 from rfl, j_le (by omega) (by omega) (by omega) (by omega)] at c
      have i20 : i < 20 := by omega
      by_cases c4 : (4 : Int32) ≤ iI i
      · have h := mif_t c4 h
        by_cases c8 : (8 : Int32) ≤ iI i
        · have h := mif_t c8 h
          by_cases c12 : (12 : Int32) ≤ iI i
          · have h := mif_t c12 h
            by_cases c16 : (16 : Int32) ≤ iI i
            · exact st _ i20 (mif_t c16 h)
            · exact st _ i20 (mif_f c16 h)
          · exact st _ i20 (mif_f c12 h)
        · exact st _ i20 (mif_f c8 h)
      · exact st _ i20 (mif_f c4 h)
theorem vKa.m {σ σ' : MS} (h : vKa σ σ') : σ'.1 12 = σ.1 12 ∧ σ'.1 22 = σ.1 22 ∧ σ'.1 34 = σ.1 34 ∧ kM σ' = kM σ := by
  obtain ⟨h1, h2⟩ := h
  refine ⟨h1 12 (by omega), h1 22 (by omega), h1 34 (by omega), ?_⟩
  unfold kM
  rw [h1 37 (by omega), h2 41 (by omega), h2 42 (by omega), h2 46 (by omega)]
theorem e_feed {nt : Nat} (h2 : σ.1 2 = iI nt) (hn : nt ≤ 500) (h : f_feed N σ x1 x2 x3 x4 x5 = some (r, σ')) : (σ'.1 2 = iI nt ∨ (nt + 20 ≤ 500 ∧ σ'.1 2 = iI ((nt + 20 : Nat) : Int))) ∧ σ'.1 12 = σ.1 12 ∧ σ'.1 22 = σ.1 22 ∧ σ'.1 34 = σ.1 34 ∧ kM σ' = kM σ := by
  refine ⟨?_, (kq_feed N σ x1 x2 x3 x4 x5 _ _ h).m⟩
  unfold f_feed at h
  obtain ⟨s, es⟩ : ∃ z, z = mSet σ 0 0 := ⟨_, rfl⟩
  have h := mlet_at es h
  have s2 : s.1 2 = iI nt := by
    rw [es]
    show upd σ.1 0 0 2 = _
    rw [upd_n (by decide)]
    exact h2
  by_cases c : ((s.1 2) + 20) ≤ 500
  · have h := mif_t c h
    have n5 : nt + 20 ≤ 500 := by
      rw [s2, show (20 : Int32) = iI 20 from rfl, i_add, show (500 : Int32) = iI 500 from rfl, j_le (by omega) (by omega) (by omega) (by omega)] at c
      omega
    exact Or.inr ⟨n5, e_f23 N 0 s (by omega) n5 s2 h⟩
  · have h := mif_f c h
    cases h
    exact Or.inl s2
end S1s

/-! BY gen_room2.py: PLAIN: the room out of one regret, the feeds counted -/
/-- a feeds lie on the tape, e were read into the book; f: the book (1) and the map (2) are counted -/
def rJ (σ : MS) (f k : Nat) : Prop := ∃ a e nt gr : Nat, σ.1 2 = iI nt ∧ nt ≤ 500 ∧ nt ≤ 20 * a ∧ (σ.1 12 ≠ 0 → σ.1 22 = iI gr ∧ 21 * gr ≤ 20 * e ∧ 1 ≤ f) ∧ (σ.1 34 ≠ 0 → σ.1 12 ≠ 0 ∧ f = 2 ∧ a + e + 2 + kM σ ≤ k) ∧ a + e + f ≤ k ∧ f ≤ 2
def rC (f : Nat) : Nat := if f = 0 then 17018 else if f = 1 then 318 else 0
theorem rJ.eff {σ σ' : MS} {f k d : Nat} (h : rJ σ f k) (e : vEff σ σ' d) : rJ σ' f (k + d) := by
  obtain ⟨a, e', nt, gr, h1, h2, h3, h4, h5, h6, h7⟩ := h
  obtain ⟨q1, q2, q3, q4, q5⟩ := e
  refine ⟨a, e', nt, gr, q1.trans h1, h2, h3, ?_, ?_, by omega, h7⟩
  · rw [q2, q3]
    exact h4
  · rw [q4, q2]
    intro z
    obtain ⟨z1, z2, z3⟩ := h5 z
    exact ⟨z1, z2, by omega⟩
theorem rJ.same {σ σ' : MS} {f k : Nat} (h : rJ σ f k) (q1 : σ'.1 2 = σ.1 2 ∨ σ'.1 2 = 0) (q2 : σ'.1 12 = σ.1 12) (q3 : σ'.1 22 = σ.1 22) (q4 : σ'.1 34 = σ.1 34) (q5 : kM σ' = kM σ) : rJ σ' f k := by
  obtain ⟨a, e', nt, gr, h1, h2, h3, h4, h5, h6, h7⟩ := h
  have z : ∃ nt' : Nat, σ'.1 2 = iI nt' ∧ nt' ≤ 500 ∧ nt' ≤ 20 * a := by
    rcases q1 with q1 | q1
    · exact ⟨nt, q1.trans h1, h2, h3⟩
    · exact ⟨0, q1, by omega, by omega⟩
  obtain ⟨nt', z1, z2, z3⟩ := z
  refine ⟨a, e', nt', gr, z1, z2, z3, ?_, ?_, h6, h7⟩
  · rw [q2, q3]
    exact h4
  · rw [q4, q2, q5]
    exact h5
/-- WHAT IS OWED: one regret, by the calls that its map and its book took -/
def ROOM2 : Prop := ∀ (b : Nat) (g : uEnv) (A : pA) (ad sa : Nat → Nat) (u0 : UH) (ou : Nat) (σ : MS) (x y : Int32) (Tf : Nat → Nat) (tm : Nat), (∃ (U : UH) (lab : Nat → Nat), xSt b g A ad sa (qA g (ad 4) b u0 ou) U lab σ) → σ.1 34 ≠ 0 → rgL σ x y Tf tm → ∀ gr e : Nat, σ.1 22 = iI gr → 21 * gr ≤ 20 * e → zSum (fun t => 8 + (lSt 0 (Tf t + 1)).2.1) tm ≤ rB (2 + e + kM σ)
section T1s
variable {N b : Nat} {g : uEnv} {A : pA} {ad sa : Nat → Nat} {u0 : UH} {ou f k : Nat} {σ σ' : MS} {o x1 x2 x3 x4 x5 : Int32} {dc ds : Nat}
def rG (σ' : MS) (f k ds : Nat) : Prop := (∃ f', rJ σ' f' k ∧ ds + rC f' ≤ rB k + rC f) ∨ (∃ f', rJ σ' f' (k + 1) ∧ ds + rC f' ≤ 21 + rC f)
theorem rG_s (h : rJ σ' f k) (d : ds ≤ rB k) : rG σ' f k ds := Or.inl ⟨f, h, by omega⟩
theorem rG_n (h : rJ σ' f (k + 1)) (d : ds ≤ 21) : rG σ' f k ds := Or.inr ⟨f, h, by omega⟩
theorem r2_step (hR : ROOM2) (hN : 200000000000000000 ≤ N) (hW : ∃ (U : UH) (lab : Nat → Nat), xSt b g A ad sa (qA g (ad 4) b u0 ou) U lab σ) (hI : rJ σ f k) (h : lStep N σ o x1 x2 x3 x4 x5 σ' dc ds) : dc ≤ 6100 ∧ rG σ' f k ds := by
  have bm := rB_min (k := k)
  rcases h with ⟨-, ⟨r, e⟩, eb⟩ | ⟨-, ⟨r, e⟩, eb⟩ | ⟨-, ⟨r, e⟩, eb⟩ | ⟨-, ⟨r, e⟩, eb⟩ | ⟨-, ⟨r, e⟩, eb⟩ | ⟨-, ⟨r, e⟩, eb⟩ | ⟨-, ⟨r, e⟩, eb⟩ | ⟨-, ⟨r, e⟩, eb⟩ | ⟨-, ⟨r, e⟩, eb⟩ | ⟨-, ⟨r, e⟩, eb⟩ | ⟨-, ⟨r, e⟩, eb⟩ | ⟨-, ⟨r, e⟩, eb⟩ | ⟨-, ⟨r, e⟩, eb⟩ | ⟨-, ⟨r, e⟩, eb⟩ | ⟨-, ⟨r, e⟩, eb⟩ | ⟨-, ⟨r, e⟩, eb⟩ | ⟨-, ⟨r, e⟩, eb⟩ | ⟨-, ⟨r, e⟩, eb⟩ | ⟨-, ⟨r, e⟩, eb⟩ | ⟨-, ⟨r, e⟩, eb⟩ | ⟨-, ⟨r, e⟩, eb⟩ | ⟨-, ⟨r, e⟩, eb⟩ | ⟨-, ⟨r, e⟩, eb⟩ | ⟨-, ⟨r, e⟩, eb⟩ | ⟨-, ⟨r, e⟩, eb⟩ | ⟨-, ⟨r, e⟩, eb⟩ | ⟨-, ⟨r, e⟩, eb⟩ | ⟨-, ⟨r, e⟩, eb⟩ | ⟨-, ⟨r, e⟩, eb⟩ | ⟨-, ⟨r, e⟩, eb⟩ | ⟨-, ⟨r, e⟩, eb⟩ | ⟨-, ⟨r, e⟩, eb⟩ | ⟨-, ⟨r, e⟩, eb⟩ | ⟨-, ⟨r, e⟩, eb⟩ | ⟨-, ⟨r, e⟩, eb⟩ | ⟨-, ⟨r, e⟩, eb⟩ | ⟨-, rfl, rfl, rfl⟩
  · refine ⟨by omega, rG_n ?_ (by omega)⟩
    obtain ⟨a, e', nt, gr, h1, h2, h3, h4, h5, h6, h7⟩ := hI
    obtain ⟨q1, q2, q3, q4, q5⟩ := e_feed h1 h2 e
    have z : ∃ nt' : Nat, σ'.1 2 = iI nt' ∧ nt' ≤ 500 ∧ nt' ≤ 20 * (a + 1) := by
      rcases q1 with q1 | ⟨q0, q1⟩
      · exact ⟨nt, q1, h2, by omega⟩
      · exact ⟨nt + 20, q1, q0, by omega⟩
    obtain ⟨nt', z1, z2, z3⟩ := z
    refine ⟨a + 1, e', nt', gr, z1, z2, z3, ?_, ?_, by omega, h7⟩
    · rw [q2, q3]
      exact h4
    · rw [q4, q2, q5]
      intro z
      obtain ⟨y1, y2, y3⟩ := h5 z
      exact ⟨y1, y2, by omega⟩
  · obtain ⟨nt0, -, n5, b1, b2⟩ := eb
    refine ⟨by omega, ?_⟩
    have hI' := hI
    obtain ⟨a, e', nt, gr, h1, h2, h3, h4, h5, h6, h7⟩ := hI'
    rcases e_book2 h1 h2 (by omega) e with ee | ⟨q1, q2, q3, q4, q5⟩ | ⟨q1, q2, q4, g', g1, g2⟩
    · exact rG_s (hI.eff ee) (by omega)
    · exact rG_s (hI.same (Or.inr q1) q2 q3 q4 q5) (by omega)
    · by_cases c : f = 0
      · refine Or.inr ⟨1, ⟨0, a, 0, g', q1, by omega, by omega, fun _ => ⟨g2, by omega, by omega⟩, fun z => absurd q4 z, by omega, by omega⟩, ?_⟩
        rw [c]
        show ds + 318 ≤ 21 + 17018
        omega
      · exact rG_s ⟨0, a, 0, g', q1, by omega, by omega, fun _ => ⟨g2, by omega, by omega⟩, fun z => absurd q4 z, by omega, by omega⟩ (by omega)
  · obtain ⟨nt0, -, n5, b1, b2⟩ := eb
    obtain ⟨q1, q2, q3, q4, q5⟩ := e_plan e
    exact ⟨by omega, rG_s (hI.same q1 q2 q3 q4 q5) (by omega)⟩
  · have ee := (kp_fault N σ  _ _ e).eff
    exact ⟨by omega, rG_s (hI.eff ee) (by omega)⟩
  · have ee := (kp_where N σ  _ _ e).eff
    exact ⟨by omega, rG_s (hI.eff ee) (by omega)⟩
  · have ee := (kp_sink N σ x1 x2 _ _ e).eff
    exact ⟨by omega, rG_s (hI.eff ee) (by omega)⟩
  · have ee := (kp_grip N σ x1 x2 _ _ e).eff
    exact ⟨by omega, rG_s (hI.eff ee) (by omega)⟩
  · have ee := (kp_dead N σ x1 _ _ e).eff
    exact ⟨by omega, rG_s (hI.eff ee) (by omega)⟩
  · refine ⟨by omega, ?_⟩
    rcases e_map e with ee | ⟨q1, q2, q3, q4, q5⟩
    · exact rG_s (hI.eff ee) (by omega)
    · obtain ⟨a, e', nt, gr, h1, h2, h3, h4, h5, h6, h7⟩ := hI
      obtain ⟨p1, p2, p3⟩ := h4 q4
      by_cases c : f = 1
      · refine Or.inr ⟨2, ⟨a, e', nt, gr, q1.trans h1, h2, h3, fun _ => ⟨q3.trans p1, p2, by omega⟩, fun _ => ⟨by rw [q2]; exact q4, rfl, by omega⟩, by omega, by omega⟩, ?_⟩
        rw [c]
        show ds + 0 ≤ 21 + 318
        omega
      · exact rG_s ⟨a, e', nt, gr, q1.trans h1, h2, h3, fun _ => ⟨q3.trans p1, p2, by omega⟩, fun _ => ⟨by rw [q2]; exact q4, by omega, by omega⟩, by omega, by omega⟩ (by omega)
  · exact ⟨by omega, rG_n (hI.eff (e_height e)) (by omega)⟩
  · exact ⟨by omega, rG_n (hI.eff (e_ground e)) (by omega)⟩
  · exact ⟨by omega, rG_n (hI.eff (r_doubt hW e)) (by omega)⟩
  · exact ⟨by omega, rG_n (hI.eff (e_weigh e)) (by omega)⟩
  · have ee := (kp_told N σ x1 x2 _ _ e).eff
    exact ⟨by omega, rG_s (hI.eff ee) (by omega)⟩
  · have ee := (kp_forget N σ x1 _ _ e).eff
    exact ⟨by omega, rG_s (hI.eff ee) (by omega)⟩
  · have ee := (kp_of N σ x1 x2 _ _ e).eff
    exact ⟨by omega, rG_s (hI.eff ee) (by omega)⟩
  · have ee := (kp_step N σ x1 x2 x3 x4 _ _ e).eff
    exact ⟨by omega, rG_s (hI.eff ee) (by omega)⟩
  · have ee := (kp_worst N σ x1 x2 _ _ e).eff
    exact ⟨by omega, rG_s (hI.eff ee) (by omega)⟩
  · have ee := (kp_mean N σ x1 x2 (if x3 = 0 then 0 else 1) _ _ e).eff
    exact ⟨by omega, rG_s (hI.eff ee) (by omega)⟩
  · have ee := (kp_way N σ x1 x2 (if x3 = 0 then 0 else 1) _ _ e).eff
    exact ⟨by omega, rG_s (hI.eff ee) (by omega)⟩
  · have ee := (kp_truths N σ  _ _ e).eff
    exact ⟨by omega, rG_s (hI.eff ee) (by omega)⟩
  · have ee := (kp_truth N σ x1 x2 _ _ e).eff
    exact ⟨by omega, rG_s (hI.eff ee) (by omega)⟩
  · have ee := (kp_run N σ x1 x2 (if x3 = 0 then 0 else 1) x4 _ _ e).eff
    exact ⟨by omega, rG_s (hI.eff ee) (by omega)⟩
  · have ee := (kp_led N σ x1 _ _ e).eff
    exact ⟨by omega, rG_s (hI.eff ee) (by omega)⟩
  · have ee := (kp_regret N σ x1 x2 _ _ e).eff
    obtain ⟨eb, e34⟩ := eb
    rcases eb with ⟨b1, b2⟩ | ⟨Tf, tm, b1, b2, b3⟩
    · exact ⟨by omega, rG_s (hI.eff ee) (by omega)⟩
    · obtain ⟨t1, t2⟩ := rg_tm b1
      have dd : zSum (fun t => 2 + (lSt 0 (Tf t + 1)).2.2) tm ≤ tm * 14 := zSum_bd tm (fun t ht => by
        have a1 := lSt_n (m0 := 0) (601 - (Tf t + 1)) (Tf t + 1)
        have a2 := t2 t
        rw [show Tf t + 1 + (601 - (Tf t + 1)) = 601 by omega, lSt_12] at a1
        show 2 + (lSt 0 (Tf t + 1)).2.2 ≤ 14
        omega)
      have dd2 : tm * 14 ≤ 243 * 14 := Nat.mul_le_mul_right _ t1
      refine ⟨by omega, rG_s (hI.eff ee) ?_⟩
      by_cases c : σ.1 34 = 0
      · have := e34 c
        omega
      · obtain ⟨a, e', nt, gr, h1, h2, h3, h4, h5, h6, h7⟩ := hI
        obtain ⟨y1, y2, y3⟩ := h5 c
        obtain ⟨p1, p2, p3⟩ := h4 y1
        have r1 := hR b g A ad sa u0 ou σ x1 x2 Tf tm hW c b1 gr e' p1 p2
        rw [b3]
        exact Nat.le_trans r1 (rB_up (by omega))
  · have ee := (kp_worth N σ x1 x2 x3 (if x4 = 0 then 0 else 1) _ _ e).eff
    exact ⟨by omega, rG_s (hI.eff ee) (by omega)⟩
  · have ee := (kp_spared N σ x1 x2 x3 _ _ e).eff
    exact ⟨by omega, rG_s (hI.eff ee) (by omega)⟩
  · have ee := (kp_failing N σ x1 x2 x3 x4 _ _ e).eff
    exact ⟨by omega, rG_s (hI.eff ee) (by omega)⟩
  · have ee := (kp_first N σ x1 _ _ e).eff
    exact ⟨by omega, rG_s (hI.eff ee) (by omega)⟩
  · have ee := (kp_costs N σ x1 x2 x3 _ _ e).eff
    exact ⟨by omega, rG_s (hI.eff ee) (by omega)⟩
  · have ee := (kp_dig N σ x1 x2 _ _ e).eff
    exact ⟨by omega, rG_s (hI.eff ee) (by omega)⟩
  · have ee := (kp_out N σ  _ _ e).eff
    exact ⟨by omega, rG_s (hI.eff ee) (by omega)⟩
  · have ee := (kp_tryAt N σ x1 _ _ e).eff
    exact ⟨by omega, rG_s (hI.eff ee) (by omega)⟩
  · have ee := (kp_make N σ x1 x2 _ _ e).eff
    exact ⟨by omega, rG_s (hI.eff ee) (by omega)⟩
  · have ee := (kp_count N σ x1 _ _ e).eff
    exact ⟨by omega, rG_s (hI.eff ee) (by omega)⟩
  · have ee := (kp_trouble N σ  _ _ e).eff
    exact ⟨by omega, rG_s (hI.eff ee) (by omega)⟩
  · exact ⟨by omega, rG_s hI (by omega)⟩
theorem r2_run (hR : ROOM2) (hN : 200000000000000000 ≤ N) {sx : Nat → Int32} : ∀ (m k f i : Nat) (σ : MS) (c s : Nat), rJ σ f k → lRun (fun σ => ∃ (U : UH) (lab : Nat → Nat), xSt b g A ad sa (qA g (ad 4) b u0 ou) U lab σ) N sx m i σ c s → c ≤ 6100 * m ∧ s ≤ rM m k + 21 * m + rC f := by
  intro m
  induction m with
  | zero =>
    intro k f i σ c s _ h
    obtain ⟨-, h1, h2⟩ := h
    exact ⟨by omega, by omega⟩
  | succ m ih =>
    intro k f i σ c s hI h
    obtain ⟨hW, σ', dc, ds, c', s', h1, h2, h3, h4⟩ := h
    obtain ⟨d1, d2⟩ := r2_step hR hN hW hI h1
    have m1 : rM m (k + 1) ≤ rM (m + 1) k := Nat.le_max_left _ _
    have m2 : rB k + rM m k ≤ rM (m + 1) k := Nat.le_max_right _ _
    rcases d2 with ⟨f', d2, d3⟩ | ⟨f', d2, d3⟩
    · obtain ⟨i1, i2⟩ := ih k f' (i + 6) σ' c' s' d2 h2
      exact ⟨by omega, by omega⟩
    · obtain ⟨i1, i2⟩ := ih (k + 1) f' (i + 6) σ' c' s' d2 h2
      exact ⟨by omega, by omega⟩
end T1s
theorem room_of2 (hR : ROOM2) : ROOM := by
  intro b g A ad sa u0 ou N m c s sx hm hN h
  obtain ⟨r1, r2⟩ := r2_run hR hN m 0 0 0 mS0 c s ⟨0, 0, 0, 0, rfl, by omega, by omega, fun z => absurd rfl z, fun z => absurd rfl z, by omega, by omega⟩ h
  have a1 := rM_le m 0 (by omega)
  have a2 : rM m 0 * 64 ≤ 7035787 * 64 := Nat.le_trans a1 (Nat.mul_le_mul_left _ hm)
  have a3 : rM m 0 ≤ 7035787 := Nat.le_of_mul_le_mul_right a2 (by decide)
  have a4 : rC 0 = 17018 := rfl
  exact ⟨by omega, by omega⟩
theorem i_vc_room2 (hR : ROOM2) : Claimed_1_1 ∧ Claimed_1_2 := i_vc_room (room_of2 hR)

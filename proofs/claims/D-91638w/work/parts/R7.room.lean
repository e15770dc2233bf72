/-! BY gen_room.py: PLAIN: the room out of one regret -/
/-- so many slots one regret may take where k calls were needed ahead of it -/
def rB (k : Nat) : Nat := 7035787 / (64 - min k 63)
theorem rB_up {i j : Nat} (h : i ≤ j) : rB i ≤ rB j := by
  unfold rB
  exact Nat.div_le_div_left (by omega) (by omega)
theorem rB_min {k : Nat} : 20000 ≤ rB k := Nat.le_trans (show 20000 ≤ rB 0 by decide +kernel) (rB_up (Nat.zero_le k))
theorem rB_mul {k : Nat} (h : k < 64) : rB k * (64 - k) ≤ 7035787 := by
  unfold rB
  rw [show min k 63 = k by omega]
  exact Nat.div_mul_le_self _ _
/-- so many calls to come, so many needed so far -/
def rM : Nat → Nat → Nat
  | 0, _ => 0
  | m + 1, k => max (rM m (k + 1)) (rB k + rM m k)
theorem rM_le : ∀ (m k : Nat), k + m ≤ 64 → rM m k * (64 - k) ≤ 7035787 * m := by
  intro m
  induction m with
  | zero => intro k _; exact Nat.le_of_eq (Nat.zero_mul _)
  | succ m ih =>
    intro k hk
    have a1 := ih (k + 1) (by omega)
    have a2 := ih k (by omega)
    have a3 := rB_mul (k := k) (by omega)
    have c1 : rM m (k + 1) * (64 - k) ≤ 7035787 * (m + 1) := by
      rw [show 64 - k = 64 - (k + 1) + 1 by omega, Nat.mul_succ, Nat.mul_succ]
      by_cases c : m = 0
      · subst c
        show 0 * _ + 0 ≤ _
        omega
      · have b1 : rM m (k + 1) * (64 - (k + 1)) ≤ 7035787 * (64 - (k + 1)) := Nat.le_trans a1 (Nat.mul_le_mul_left _ (by omega))
        have b2 : rM m (k + 1) ≤ 7035787 := Nat.le_of_mul_le_mul_right b1 (by omega)
        omega
    have c2 : (rB k + rM m k) * (64 - k) ≤ 7035787 * (m + 1) := by
      rw [Nat.add_mul, Nat.mul_succ]
      omega
    show max (rM m (k + 1)) (rB k + rM m k) * (64 - k) ≤ _
    rcases Nat.le_total (rM m (k + 1)) (rB k + rM m k) with q | q
    · rw [Nat.max_eq_right q]
      exact c2
    · rw [Nat.max_eq_left q]
      exact c1
def rInv (σ : MS) (k : Nat) : Prop := (σ.1 12 ≠ 0 → 1 ≤ k) ∧ (σ.1 34 ≠ 0 → 2 + kM σ ≤ k)
def rX (k : Nat) : Nat := if k = 0 then 17018 else if k = 1 then 318 else 0
theorem rX_dn {k : Nat} : rX (k + 1) ≤ rX k := by
  unfold rX
  split <;> split <;> (try split) <;> omega
theorem rInv.eff {σ σ' : MS} {k d : Nat} (h : rInv σ k) (e : vEff σ σ' d) : rInv σ' (k + d) := by
  obtain ⟨h1, h2⟩ := h
  obtain ⟨-, e2, -, e4, e5⟩ := e
  refine ⟨fun z => ?_, fun z => ?_⟩
  · rw [e2] at z
    have := h1 z
    omega
  · rw [e4] at z
    have := h2 z
    omega
theorem rInv.same {σ σ' : MS} {k : Nat} (h : rInv σ k) (e2 : σ'.1 12 = σ.1 12) (e4 : σ'.1 34 = σ.1 34) (e5 : kM σ' = kM σ) : rInv σ' k := by
  unfold rInv
  rw [e2, e4, e5]
  exact h
theorem lSt_n {m0 : Nat} : ∀ (d k : Nat), (lSt m0 k).2.2 ≤ (lSt m0 (k + d)).2.2 := by
  intro d
  induction d with
  | zero => intro k; exact Nat.le_refl _
  | succ d ih =>
    intro k
    refine Nat.le_trans (ih k) ?_
    show _ ≤ (lSt m0 (k + d + 1)).2.2
    rw [lSt]
    split
    · exact Nat.le_refl _
    · exact Nat.le_succ _
theorem lSt_12 : (lSt 0 601).2.2 = 12 := by decide +kernel
theorem zSum_bd {f : Nat → Nat} {B : Nat} : ∀ n, (∀ t, t < n → f t ≤ B) → zSum f n ≤ n * B := by
  intro n
  induction n with
  | zero => intro _; exact Nat.zero_le _
  | succ n ih =>
    intro h
    have := ih (fun t ht => h t (by omega))
    have := h n (by omega)
    rw [Nat.succ_mul]
    show zSum f n + f n ≤ _
    omega
/-- WHAT IS OWED: one regret, by the calls that its map took -/
def ROOM1 : Prop := ∀ (b : Nat) (g : uEnv) (A : pA) (ad sa : Nat → Nat) (u0 : UH) (ou : Nat) (σ : MS) (x y : Int32) (Tf : Nat → Nat) (tm : Nat), (∃ (U : UH) (lab : Nat → Nat), xSt b g A ad sa (qA g (ad 4) b u0 ou) U lab σ) → σ.1 34 ≠ 0 → rgL σ x y Tf tm → zSum (fun t => 8 + (lSt 0 (Tf t + 1)).2.1) tm ≤ rB (2 + kM σ)
theorem rg_tm {σ : MS} {x y : Int32} {Tf : Nat → Nat} {tm : Nat} (h : rgL σ x y Tf tm) : tm ≤ 243 ∧ ∀ t, Tf t ≤ 600 := by
  obtain ⟨B, dead, w, h', n, nd, go, fr, hts, fl, dO, kn, dc, wg, Y, h1, h2, h3, h4, h5, h6, h7, h8, h9, h10⟩ := h
  refine ⟨?_, fun t => (h10 t).1⟩
  have hnd := h1.2.2.2.1
  have tb := (zTm_b (kn := kn) (wg := wg) nd (fun e he => (h1.2.2.2.2.2.2 e he).2)).2
  have p3 : 3 ^ nd ≤ 3 ^ 5 := Nat.pow_le_pow_right (by decide) hnd
  omega
section S3s
variable {N b : Nat} {g : uEnv} {A : pA} {ad sa : Nat → Nat} {u0 : UH} {ou k : Nat} {σ σ' : MS} {o x1 x2 x3 x4 x5 : Int32} {dc ds : Nat}
theorem r_doubt {r : Int32} (hW : ∃ (U : UH) (lab : Nat → Nat), xSt b g A ad sa (qA g (ad 4) b u0 ou) U lab σ) (h : f_doubt N σ x1 = some (r, σ')) : vEff σ σ' 1 := by
  obtain ⟨U, lab, hW⟩ := hW
  rcases k_map (N := N) hW with hno | ⟨bkv, ptv, lo, hi, a, al, rv, nm, B, dead, la, da, wa, v8, v9, v10, w, h', n, nd, hts, fl, dO, kn, dc', wg, hx, hI, hbk, vB, h7, h12, k34, hL, hM, -⟩
  · unfold f_doubt at h
    rw [m_good, q_mv, (hno x1).2, q_mc, if_pos rfl, m_no, q_mc] at h
    cases h
    have e1 : vKf σ (mT σ 1) := (vKf_set (σ := σ) (k := 0) (v := 0) (by decide)).t (vKf_set (k := 39) (by decide))
    exact e1.eff.up (by omega)
  · exact e_doubt hM.2.2.1 hM.2.2.2.1 h
theorem r_step (hR : ROOM1) (hN : 200000000000000000 ≤ N) (hW : ∃ (U : UH) (lab : Nat → Nat), xSt b g A ad sa (qA g (ad 4) b u0 ou) U lab σ) (hI : rInv σ k) (h : lStep N σ o x1 x2 x3 x4 x5 σ' dc ds) : dc ≤ 6100 ∧ ((rInv σ' k ∧ ds ≤ rB k) ∨ (rInv σ' (k + 1) ∧ ds + rX (k + 1) ≤ 21 + rX k)) := by
  have bm := rB_min (k := k)
  have xd := rX_dn (k := k)
  rcases h with ⟨-, ⟨r, e⟩, eb⟩ | ⟨-, ⟨r, e⟩, eb⟩ | ⟨-, ⟨r, e⟩, eb⟩ | ⟨-, ⟨r, e⟩, eb⟩ | ⟨-, ⟨r, e⟩, eb⟩ | ⟨-, ⟨r, e⟩, eb⟩ | ⟨-, ⟨r, e⟩, eb⟩ | ⟨-, ⟨r, e⟩, eb⟩ | ⟨-, ⟨r, e⟩, eb⟩ | ⟨-, ⟨r, e⟩, eb⟩ | ⟨-, ⟨r, e⟩, eb⟩ | ⟨-, ⟨r, e⟩, eb⟩ | ⟨-, ⟨r, e⟩, eb⟩ | ⟨-, ⟨r, e⟩, eb⟩ | ⟨-, ⟨r, e⟩, eb⟩ | ⟨-, ⟨r, e⟩, eb⟩ | ⟨-, ⟨r, e⟩, eb⟩ | ⟨-, ⟨r, e⟩, eb⟩ | ⟨-, ⟨r, e⟩, eb⟩ | ⟨-, ⟨r, e⟩, eb⟩ | ⟨-, ⟨r, e⟩, eb⟩ | ⟨-, ⟨r, e⟩, eb⟩ | ⟨-, ⟨r, e⟩, eb⟩ | ⟨-, ⟨r, e⟩, eb⟩ | ⟨-, ⟨r, e⟩, eb⟩ | ⟨-, ⟨r, e⟩, eb⟩ | ⟨-, ⟨r, e⟩, eb⟩ | ⟨-, ⟨r, e⟩, eb⟩ | ⟨-, ⟨r, e⟩, eb⟩ | ⟨-, ⟨r, e⟩, eb⟩ | ⟨-, ⟨r, e⟩, eb⟩ | ⟨-, ⟨r, e⟩, eb⟩ | ⟨-, ⟨r, e⟩, eb⟩ | ⟨-, ⟨r, e⟩, eb⟩ | ⟨-, ⟨r, e⟩, eb⟩ | ⟨-, ⟨r, e⟩, eb⟩ | ⟨-, rfl, rfl, rfl⟩
  · obtain ⟨U, lab, hW⟩ := hW
    obtain ⟨bkv, mpv, ptv, hx, hJ⟩ := hW
    obtain ⟨-, ff, nt, t1, t2, t3, -⟩ := hJ.2.2.2.2.2.1.2.1
    obtain ⟨-, e2, -, e4, e5⟩ := e_feed t2 t3 e
    exact ⟨by omega, Or.inl ⟨hI.same e2 e4 e5, by omega⟩⟩
  · obtain ⟨nt, -, n5, b1, b2⟩ := eb
    refine ⟨by omega, ?_⟩
    rcases e_book (by omega) e with ee | ⟨-, e2, -, e4, e5⟩ | ⟨-, e2, e4⟩
    · exact Or.inl ⟨hI.eff ee, by omega⟩
    · exact Or.inl ⟨hI.same e2 e4 e5, by omega⟩
    · by_cases c : k = 0
      · subst c
        refine Or.inr ⟨⟨fun _ => by omega, fun z => absurd e4 z⟩, ?_⟩
        show ds + 318 ≤ 21 + 17018
        omega
      · exact Or.inl ⟨⟨fun _ => by omega, fun z => absurd e4 z⟩, by omega⟩
  · obtain ⟨nt, -, n5, b1, b2⟩ := eb
    obtain ⟨-, e2, -, e4, e5⟩ := e_plan e
    exact ⟨by omega, Or.inl ⟨hI.same e2 e4 e5, by omega⟩⟩
  · have ee := (kp_fault N σ  _ _ e).eff
    exact ⟨by omega, Or.inl ⟨hI.eff ee, by omega⟩⟩
  · have ee := (kp_where N σ  _ _ e).eff
    exact ⟨by omega, Or.inl ⟨hI.eff ee, by omega⟩⟩
  · have ee := (kp_sink N σ x1 x2 _ _ e).eff
    exact ⟨by omega, Or.inl ⟨hI.eff ee, by omega⟩⟩
  · have ee := (kp_grip N σ x1 x2 _ _ e).eff
    exact ⟨by omega, Or.inl ⟨hI.eff ee, by omega⟩⟩
  · have ee := (kp_dead N σ x1 _ _ e).eff
    exact ⟨by omega, Or.inl ⟨hI.eff ee, by omega⟩⟩
  · refine ⟨by omega, ?_⟩
    rcases e_map e with ee | ⟨-, e2, -, e12, e5⟩
    · exact Or.inl ⟨hI.eff ee, by omega⟩
    · have k1 := hI.1 e12
      by_cases c : k = 1
      · subst c
        refine Or.inr ⟨⟨fun _ => by omega, fun _ => by omega⟩, ?_⟩
        show ds + 0 ≤ 21 + 318
        omega
      · exact Or.inl ⟨⟨fun _ => by omega, fun _ => by omega⟩, by omega⟩
  · exact ⟨by omega, Or.inr ⟨hI.eff (e_height e), by omega⟩⟩
  · exact ⟨by omega, Or.inr ⟨hI.eff (e_ground e), by omega⟩⟩
  · exact ⟨by omega, Or.inr ⟨hI.eff (r_doubt hW e), by omega⟩⟩
  · exact ⟨by omega, Or.inr ⟨hI.eff (e_weigh e), by omega⟩⟩
  · have ee := (kp_told N σ x1 x2 _ _ e).eff
    exact ⟨by omega, Or.inl ⟨hI.eff ee, by omega⟩⟩
  · have ee := (kp_forget N σ x1 _ _ e).eff
    exact ⟨by omega, Or.inl ⟨hI.eff ee, by omega⟩⟩
  · have ee := (kp_of N σ x1 x2 _ _ e).eff
    exact ⟨by omega, Or.inl ⟨hI.eff ee, by omega⟩⟩
  · have ee := (kp_step N σ x1 x2 x3 x4 _ _ e).eff
    exact ⟨by omega, Or.inl ⟨hI.eff ee, by omega⟩⟩
  · have ee := (kp_worst N σ x1 x2 _ _ e).eff
    exact ⟨by omega, Or.inl ⟨hI.eff ee, by omega⟩⟩
  · have ee := (kp_mean N σ x1 x2 (if x3 = 0 then 0 else 1) _ _ e).eff
    exact ⟨by omega, Or.inl ⟨hI.eff ee, by omega⟩⟩
  · have ee := (kp_way N σ x1 x2 (if x3 = 0 then 0 else 1) _ _ e).eff
    exact ⟨by omega, Or.inl ⟨hI.eff ee, by omega⟩⟩
  · have ee := (kp_truths N σ  _ _ e).eff
    exact ⟨by omega, Or.inl ⟨hI.eff ee, by omega⟩⟩
  · have ee := (kp_truth N σ x1 x2 _ _ e).eff
    exact ⟨by omega, Or.inl ⟨hI.eff ee, by omega⟩⟩
  · have ee := (kp_run N σ x1 x2 (if x3 = 0 then 0 else 1) x4 _ _ e).eff
    exact ⟨by omega, Or.inl ⟨hI.eff ee, by omega⟩⟩
  · have ee := (kp_led N σ x1 _ _ e).eff
    exact ⟨by omega, Or.inl ⟨hI.eff ee, by omega⟩⟩
  · have ee := (kp_regret N σ x1 x2 _ _ e).eff
    obtain ⟨eb, e34⟩ := eb
    rcases eb with ⟨b1, b2⟩ | ⟨Tf, tm, b1, b2, b3⟩
    · exact ⟨by omega, Or.inl ⟨hI.eff ee, by omega⟩⟩
    · obtain ⟨t1, t2⟩ := rg_tm b1
      have dd : zSum (fun t => 2 + (lSt 0 (Tf t + 1)).2.2) tm ≤ tm * 14 := zSum_bd tm (fun t ht => by
        have a1 := lSt_n (m0 := 0) (601 - (Tf t + 1)) (Tf t + 1)
        have a2 := t2 t
        rw [show Tf t + 1 + (601 - (Tf t + 1)) = 601 by omega, lSt_12] at a1
        show 2 + (lSt 0 (Tf t + 1)).2.2 ≤ 14
        omega)
      have dd2 : tm * 14 ≤ 243 * 14 := Nat.mul_le_mul_right _ t1
      refine ⟨by omega, Or.inl ⟨hI.eff ee, ?_⟩⟩
      by_cases c : σ.1 34 = 0
      · have := e34 c
        omega
      · have r1 := hR b g A ad sa u0 ou σ x1 x2 Tf tm hW c b1
        rw [b3]
        exact Nat.le_trans r1 (rB_up (hI.2 c))
  · have ee := (kp_worth N σ x1 x2 x3 (if x4 = 0 then 0 else 1) _ _ e).eff
    exact ⟨by omega, Or.inl ⟨hI.eff ee, by omega⟩⟩
  · have ee := (kp_spared N σ x1 x2 x3 _ _ e).eff
    exact ⟨by omega, Or.inl ⟨hI.eff ee, by omega⟩⟩
  · have ee := (kp_failing N σ x1 x2 x3 x4 _ _ e).eff
    exact ⟨by omega, Or.inl ⟨hI.eff ee, by omega⟩⟩
  · have ee := (kp_first N σ x1 _ _ e).eff
    exact ⟨by omega, Or.inl ⟨hI.eff ee, by omega⟩⟩
  · have ee := (kp_costs N σ x1 x2 x3 _ _ e).eff
    exact ⟨by omega, Or.inl ⟨hI.eff ee, by omega⟩⟩
  · have ee := (kp_dig N σ x1 x2 _ _ e).eff
    exact ⟨by omega, Or.inl ⟨hI.eff ee, by omega⟩⟩
  · have ee := (kp_out N σ  _ _ e).eff
    exact ⟨by omega, Or.inl ⟨hI.eff ee, by omega⟩⟩
  · have ee := (kp_tryAt N σ x1 _ _ e).eff
    exact ⟨by omega, Or.inl ⟨hI.eff ee, by omega⟩⟩
  · have ee := (kp_make N σ x1 x2 _ _ e).eff
    exact ⟨by omega, Or.inl ⟨hI.eff ee, by omega⟩⟩
  · have ee := (kp_count N σ x1 _ _ e).eff
    exact ⟨by omega, Or.inl ⟨hI.eff ee, by omega⟩⟩
  · have ee := (kp_trouble N σ  _ _ e).eff
    exact ⟨by omega, Or.inl ⟨hI.eff ee, by omega⟩⟩
  · exact ⟨by omega, Or.inl ⟨hI, by omega⟩⟩
theorem r_run (hR : ROOM1) (hN : 200000000000000000 ≤ N) {sx : Nat → Int32} : ∀ (m k i : Nat) (σ : MS) (c s : Nat), rInv σ k → lRun (fun σ => ∃ (U : UH) (lab : Nat → Nat), xSt b g A ad sa (qA g (ad 4) b u0 ou) U lab σ) N sx m i σ c s → c ≤ 6100 * m ∧ s ≤ rM m k + 21 * m + rX k := by
  intro m
  induction m with
  | zero =>
    intro k i σ c s _ h
    obtain ⟨-, h1, h2⟩ := h
    exact ⟨by omega, by omega⟩
  | succ m ih =>
    intro k i σ c s hI h
    obtain ⟨hW, σ', dc, ds, c', s', h1, h2, h3, h4⟩ := h
    obtain ⟨d1, d2⟩ := r_step hR hN hW hI h1
    have m1 : rM m (k + 1) ≤ rM (m + 1) k := Nat.le_max_left _ _
    have m2 : rB k + rM m k ≤ rM (m + 1) k := Nat.le_max_right _ _
    rcases d2 with ⟨d2, d3⟩ | ⟨d2, d3⟩
    · obtain ⟨i1, i2⟩ := ih k (i + 6) σ' c' s' d2 h2
      exact ⟨by omega, by omega⟩
    · obtain ⟨i1, i2⟩ := ih (k + 1) (i + 6) σ' c' s' d2 h2
      exact ⟨by omega, by omega⟩
end S3s
theorem room_of (hR : ROOM1) : ROOM := by
  intro b g A ad sa u0 ou N m c s sx hm hN h
  obtain ⟨r1, r2⟩ := r_run hR hN m 0 0 mS0 c s ⟨fun z => absurd rfl z, fun z => absurd rfl z⟩ h
  have a1 := rM_le m 0 (by omega)
  have a2 : rM m 0 * 64 ≤ 7035787 * 64 := Nat.le_trans a1 (Nat.mul_le_mul_left _ hm)
  have a3 : rM m 0 ≤ 7035787 := Nat.le_of_mul_le_mul_right a2 (by decide)
  have a4 : rX 0 = 17018 := rfl
  exact ⟨by omega, by omega⟩
theorem i_vc_room1 (hR : ROOM1) : Claimed_1_1 ∧ Claimed_1_2 := i_vc_room (room_of hR)

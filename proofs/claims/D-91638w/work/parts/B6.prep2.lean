/-! PLAIN: the model's prepares, 2: costs by ground -/
theorem bSlip_ok {hold need : Int} {grip : Nat → Int} : ∀ (m s t : Nat), bSlip hold need grip m s = some t → need ≤ hold * grip t := by
  intro m
  induction m with
  | zero => intro s t h; cases h
  | succ m ih =>
    intro s t h
    rw [bSlip] at h
    by_cases c1 : 90 < s
    · rw [if_pos c1] at h; cases h
    · rw [if_neg c1] at h
      by_cases c2 : hold * grip s < need
      · rw [if_pos c2] at h; exact ih _ _ h
      · rw [if_neg c2] at h; cases h; omega
theorem bHold_w {B : bBk} (hB : bOk B) {dead : Int} (hdr : 0 ≤ dead ∧ dead ≤ 5) : bHold B dead ≤ 999 := by
  have lb := bLoad_b hB
  have b0 := hB.1
  have b1 := hB.2.1
  unfold bHold
  have h1 : bLoad B * (B.1 0 - dead) ≤ bLoad B * B.1 0 := Int.mul_le_mul_of_nonneg_left (by omega) lb.1
  have h2 : bLoad B * B.1 0 ≤ B.1 1 := Int.ediv_mul_le _ (by omega)
  omega
theorem bCost_b {B : bBk} {dead : Int} {hts : Nat → Int} {w h c way d : Nat} (hB : bOk B) (hdr : 0 ≤ dead ∧ dead ≤ 5) (hd : d < B.2.1) (h0 : bWhy B dead hts w h c way d = 0) : 1 ≤ bCost B dead hts w h c way d ∧ bCost B dead hts w h c way d ≤ 30071 := by
  obtain ⟨-, -, -, r3⟩ := bWhy_0 h0
  have o2 := (hB.2.2.2.2.2.2 d hd).2
  have nn : 0 ≤ bNeed B dead (bRise hts w h c way) d := by
    unfold bNeed
    split <;> omega
  unfold bCost bCst
  generalize bNeed B dead (bRise hts w h c way) d = nd at nn r3 ⊢
  cases ho : bSlipOf B dead nd d with
  | none =>
    rw [ho] at r3
    exact absurd r3 (by decide)
  | some t =>
    have t90 : t ≤ 90 := bSlip_le _ _ _ ho
    have hk := bSlip_ok _ _ _ ho
    have gb : 0 ≤ bGrip B d t ∧ bGrip B d t ≤ 300 := ln_bd o2 300 (fun k hk => (o2.2.2.1 k hk).2.2.2)
    have hw := bHold_w hB hdr
    have h1 : bHold B dead * bGrip B d t ≤ 999 * bGrip B d t := Int.mul_le_mul_of_nonneg_right hw gb.1
    have h2 : nd ≤ 299700 := by omega
    show 1 ≤ (1000 + nd) / (100 - (t : Int)) + 1 ∧ (1000 + nd) / (100 - (t : Int)) + 1 ≤ 30071
    have a1 : 0 ≤ (1000 + nd) / (100 - (t : Int)) := Int.ediv_nonneg (by omega) (by omega)
    have a2 : (1000 + nd) / (100 - (t : Int)) ≤ 30070 := by
      apply Int.ediv_le_of_le_mul (by omega)
      omega
    omega
def zBG (B : bBk) (dead : Int) (hts : Nat → Int) (w h c y g : Nat) : Nat := if bWhy B dead hts w h c y g = 0 then (bCost B dead hts w h c y g).toNat else 0
theorem m_pr76 {N : Nat} {s1 : Nat → Int32} {s2 : Nat → Nat → Int32} {V : Nat → Int64} {Bn : Nat → Int32} {w h c y : Nat} {B : bBk} {dead : Int} {hts : Nat → Int} {k6 : MS → Int32 → Option MS} {k69 : MS → Int32 → Int32 → Option MS} (hM : mMap (s1, s2, V) B dead w h hts) (hN : 92 ≤ N) (hc : c < w * h) (hy : y < 4) : ∀ (m g : Nat) (A : Nat → Int32), g ≤ B.2.1 → B.2.1 < g + m → ∃ A' : Nat → Int32, f_prepares_76 N k6 k69 m (s1, zRow (zRow s2 71 A) 72 Bn, V) (iI c) (iI y) (iI g) = k69 (s1, zRow (zRow s2 71 A') 72 Bn, V) (iI c) (iI ((y + 1 : Nat) : Int)) ∧ (∀ g', g ≤ g' → g' < B.2.1 → A' (32 * c + 8 * y + g') = iI (zBG B dead hts w h c y g')) ∧ ∀ i, ¬ (32 * c + 8 * y + g ≤ i ∧ i < 32 * c + 8 * y + 8) → A' i = A i := by
  have hM' := hM
  obtain ⟨hB, hm, hde, hdr, e1, e2, hw, hh, hht⟩ := hM
  have b5 := hB.2.2.2.2.2.1
  have m4 : w * h ≤ 10 * 10 := Nat.mul_le_mul hw.2 hh.2
  intro m
  induction m with
  | zero => intro g A h1 h2; omega
  | succ m ih =>
    intro g A h1 h2
    rw [f_prepares_76]
    unfold f_prepares_120
    have e22 : ((s1, zRow (zRow s2 71 A) 72 Bn, V) : MS).1 22 = iI (B.2.1 : Int) := hm.1.2.2.2.2.2
    have ey : iI (y : Int) + 1 = iI ((y + 1 : Nat) : Int) := by
      rw [j1, i_add]
      rfl
    rw [e22]
    by_cases hg : B.2.1 ≤ g
    · refine ⟨A, ?_, fun g' d1 d2 => by omega, fun i _ => rfl⟩
      rw [p_le (by omega) (by omega) (by omega) (by omega) (by omega), p_let, ey]
    · have eg : iI (g : Int) + 1 = iI ((g + 1 : Nat) : Int) := by
        rw [j1, i_add]
        rfl
      have hMA : mMap (s1, zRow (zRow s2 71 A) 72 Bn, V) B dead w h hts := hM'
      have br := b_barred (d := g) (way := y) hMA hN (by omega) hc hy
      have bi := bWhy_in (B := B) (dead := dead) (hts := hts) (w := w) (h := h) (c := c) (way := y) (d := g)
      obtain ⟨i1, i2⟩ := t_ix (a := 32 * (c : Int) + 8 * (y : Int) + (g : Int)) (n := mLen 71) (k := 32 * c + 8 * y + g) (by omega) (by rw [mL71]; omega) (by rw [mL71]; omega)
      have fin : ∀ x : Int32, x = iI (zBG B dead hts w h c y g) → ∃ A' : Nat → Int32, f_prepares_76 N k6 k69 m (s1, zRow (zRow s2 71 (upd A (32 * c + 8 * y + g) x)) 72 Bn, V) (iI c) (iI y) (iI ((g + 1 : Nat) : Int)) = k69 (s1, zRow (zRow s2 71 A') 72 Bn, V) (iI c) (iI ((y + 1 : Nat) : Int)) ∧ (∀ g', g ≤ g' → g' < B.2.1 → A' (32 * c + 8 * y + g') = iI (zBG B dead hts w h c y g')) ∧ ∀ i, ¬ (32 * c + 8 * y + g ≤ i ∧ i < 32 * c + 8 * y + 8) → A' i = A i := fun x hx => by
        obtain ⟨A', a1, a2, a3⟩ := ih (g + 1) (upd A (32 * c + 8 * y + g) x) (by omega) (by omega)
        refine ⟨A', a1, fun g' d1 d2 => ?_, fun i hi => ?_⟩
        · by_cases q : g' = g
          · rw [q, a3 _ (by omega)]
            exact (if_pos rfl).trans hx
          · exact a2 g' (by omega) d2
        · rw [a3 i (by omega)]
          exact if_neg (by omega)
      rw [n_le (by omega) (by omega) (by omega) (by omega) (by omega), br, q_mc, j32, j8, i_mul, i_mul, i_add, i_add, eg]
      by_cases h0 : bWhy B dead hts w h c y g = 0
      · have cb := bCost_b hB hdr (by omega) h0
        have bc := b_cost (d := g) (way := y) hMA hN (by omega) hc hy h0
        rw [if_pos (show iI (bWhy B dead hts w h c y g) = 0 by rw [h0]; rfl), bc, q_mc, if_pos i1, p_let, zRow_arr2 (by decide), i2, p_let]
        refine fin _ ?_
        unfold zBG
        rw [if_pos h0]
        congr 1
        omega
      · rw [if_neg (show ¬ iI (bWhy B dead hts w h c y g) = 0 by rw [j0, j_eq (by omega) (by omega) (by omega) (by omega)]; exact h0), if_pos i1, p_let, zRow_arr2 (by decide), i2, p_let]
        refine fin _ ?_
        unfold zBG
        rw [if_neg h0]
        rfl
theorem m_pr69 {N : Nat} {s1 : Nat → Int32} {s2 : Nat → Nat → Int32} {V : Nat → Int64} {Bn : Nat → Int32} {w h c : Nat} {B : bBk} {dead : Int} {hts : Nat → Int} {k6 : MS → Int32 → Option MS} (hM : mMap (s1, s2, V) B dead w h hts) (hN : 92 ≤ N) (hc : c < w * h) : ∀ (m y : Nat) (A : Nat → Int32), y ≤ 4 → 4 < y + m → ∃ A' : Nat → Int32, f_prepares_69 N k6 m (s1, zRow (zRow s2 71 A) 72 Bn, V) (iI c) (iI y) = k6 (s1, zRow (zRow s2 71 A') 72 Bn, V) (iI ((c + 1 : Nat) : Int)) ∧ (∀ y' g', y ≤ y' → y' < 4 → g' < B.2.1 → A' (32 * c + 8 * y' + g') = iI (zBG B dead hts w h c y' g')) ∧ ∀ i, ¬ (32 * c + 8 * y ≤ i ∧ i < 32 * c + 32) → A' i = A i := by
  have b5 := hM.1.2.2.2.2.2.1
  intro m
  induction m with
  | zero => intro y A h1 h2; omega
  | succ m ih =>
    intro y A h1 h2
    have ec : iI (c : Int) + 1 = iI ((c + 1 : Nat) : Int) := by
      rw [j1, i_add]
      rfl
    rw [f_prepares_69, j4]
    by_cases hy : y = 4
    · subst hy
      refine ⟨A, ?_, fun y' g' d1 d2 => by omega, fun i _ => rfl⟩
      rw [p_le (by omega) (by omega) (by omega) (by omega) (by omega), p_let, ec]
    · obtain ⟨A1, a1, a2, a3⟩ := m_pr76 (Bn := Bn) (k6 := k6) (k69 := f_prepares_69 N k6 m) hM hN hc (by omega : y < 4) N 0 A (by omega) (by omega)
      obtain ⟨A2, b1, b2, b3⟩ := ih (y + 1) A1 (by omega) (by omega)
      refine ⟨A2, ?_, fun y' g' d1 d2 d3 => ?_, fun i hi => ?_⟩
      · rw [n_le (by omega) (by omega) (by omega) (by omega) (by omega), show (0 : Int32) = iI ((0 : Nat) : Int) from rfl, a1]
        exact b1
      · by_cases q : y' = y
        · rw [q, b3 _ (by omega)]
          exact a2 g' (by omega) d3
        · exact b2 y' g' (by omega) d2 d3
      · rw [b3 i (by omega), a3 i (by omega)]
theorem m_pr6 {N : Nat} {s1 : Nat → Int32} {s2 : Nat → Nat → Int32} {V : Nat → Int64} {w h n nd : Nat} {dc : Nat → Nat} {B : bBk} {dead : Int} {hts : Nat → Int} (hM : mMap (s1, s2, V) B dead w h hts) (hn : n = w * h) (e3 : s1 37 = iI nd) (hnd : nd ≤ 5) (h44 : ∀ e, e < nd → s2 44 e = iI (dc e) ∧ dc e < n) (hN : 92 ≤ N) : ∀ (m c : Nat) (A Bn : Nat → Int32), c ≤ n → n < c + m → ∃ A' B' : Nat → Int32, f_prepares_6 N m (s1, zRow (zRow s2 71 A) 72 Bn, V) (iI c) = some (s1, zRow (zRow s2 71 A') 72 B', V) ∧ (∀ c', c ≤ c' → c' < n → B' c' = iI (zNb w h dc c' nd) ∧ ∀ y g, y < 4 → g < B.2.1 → A' (32 * c' + 8 * y + g) = iI (zBG B dead hts w h c' y g)) ∧ (∀ i, i < c → B' i = Bn i) ∧ ∀ i, i < 32 * c → A' i = A i := by
  have hM' := hM
  obtain ⟨hB, hm, hde, hdr, e1, e2, hw, hh, hht⟩ := hM
  have b5 := hB.2.2.2.2.2.1
  have m4 : w * h ≤ 10 * 10 := Nat.mul_le_mul hw.2 hh.2
  have hwh : s1 35 * s1 36 = iI (n : Int) := by
    rw [show s1 35 = iI w from e1, show s1 36 = iI h from e2, i_mul, hn, Int.natCast_mul]
  intro m
  induction m with
  | zero => intro c A Bn h1 h2; omega
  | succ m ih =>
    intro c A Bn h1 h2
    rw [f_prepares_6]
    show ∃ A' B' : Nat → Int32, (if (s1 35 * s1 36) ≤ iI c then _ else _) = _ ∧ _
    rw [hwh]
    by_cases hc : n ≤ c
    · refine ⟨A, Bn, ?_, fun c' d1 d2 => by omega, fun i _ => rfl, fun i _ => rfl⟩
      rw [p_le (by omega) (by omega) (by omega) (by omega) (by omega)]
    · obtain ⟨i1, i2⟩ := t_ix (a := (c : Int)) (n := mLen 72) (k := c) rfl (by rw [mL72]; omega) (by rw [mL72]; omega)
      obtain ⟨B1, a1, a2, a3⟩ := m_pr28 (N := N) (s1 := s1) (V := V) (A := A) (k6 := f_prepares_6 N m) e1 e2 hw hh hn e3 hnd (by omega : c < n) h44 (by omega) N 0 (upd Bn c 0) (by omega) (by omega) (if_pos rfl)
      obtain ⟨A1, b1, b2, b3⟩ := m_pr69 (Bn := B1) (k6 := f_prepares_6 N m) hM' hN (by omega : c < w * h) N 0 A (by omega) (by omega)
      obtain ⟨A2, B2, c1, c2, c3, c4⟩ := ih (c + 1) A1 B1 (by omega) (by omega)
      refine ⟨A2, B2, ?_, fun c' d1 d2 => ?_, fun i hi => ?_, fun i hi => ?_⟩
      · rw [n_le (by omega) (by omega) (by omega) (by omega) (by omega), if_pos i1, p_let, zRow_arr, i2]
        rw [show (0 : Int32) = iI ((0 : Nat) : Int) from rfl] at a1 ⊢
        rw [a1, b1]
        exact c1
      · by_cases q : c' = c
        · subst q
          refine ⟨(c3 c' (by omega)).trans a2, fun y g hy hg => ?_⟩
          rw [c4 _ (by omega)]
          exact b2 y g (by omega) hy hg
        · exact c2 c' (by omega) d2
      · rw [c3 i (by omega), a3 i (by omega)]
        exact if_neg (by omega)
      · rw [c4 i (by omega), b3 i (by omega)]

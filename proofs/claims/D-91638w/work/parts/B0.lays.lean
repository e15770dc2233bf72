/-! PLAIN: the model's lays: what steps cost by what is seen -/
theorem mL42' : mLen 42 = 100 := rfl
theorem mL43' : mLen 43 = 100 := rfl
def zRow (s2 : Nat → Nat → Int32) (j : Nat) (R : Nat → Int32) : Nat → Nat → Int32 := fun k => if k = j then R else s2 k
theorem zRow_arr {s1 : Nat → Int32} {s2 : Nat → Nat → Int32} {V : Nat → Int64} {j i : Nat} {R : Nat → Int32} {x : Int32} : mArr (s1, zRow s2 j R, V) j i x = (s1, zRow s2 j (upd R i x), V) := by
  unfold mArr
  refine Prod.ext rfl (Prod.ext ?_ rfl)
  funext k
  show (if k = j then upd (zRow s2 j R j) i x else zRow s2 j R k) = (if k = j then upd R i x else s2 k)
  have e : zRow s2 j R j = R := if_pos rfl
  rw [e]
  by_cases h : k = j
  · rw [if_pos h, if_pos h]
  · rw [if_neg h, if_neg h]
    exact if_neg h
theorem zRow_id {s2 : Nat → Nat → Int32} {j : Nat} : zRow s2 j (s2 j) = s2 := by
  funext k
  unfold zRow
  by_cases h : k = j
  · rw [if_pos h, h]
  · rw [if_neg h]
theorem zRow_n {s2 : Nat → Nat → Int32} {j k : Nat} {R : Nat → Int32} (h : k ≠ j) : zRow s2 j R k = s2 k := if_neg h
/-- floors, doubts, their kinds, costs by ground -/
def zFl (s1 : Nat → Int32) (s2 : Nat → Nat → Int32) (w h n nd ng : Nat) (fl : Nat → Nat) (dO : Nat → Int) (kd : Nat → Nat → Nat) (mn : Nat → Nat) (BG : Nat → Nat → Nat → Nat) : Prop := s1 35 = iI w ∧ s1 36 = iI h ∧ (1 ≤ w ∧ w ≤ 10) ∧ (1 ≤ h ∧ h ≤ 10) ∧ n = w * h ∧ nd ≤ 5 ∧ ng ≤ 8 ∧ (∀ c, c < n → s2 42 c = iI (fl c) ∧ fl c < ng ∧ s2 43 c = iI (dO c) ∧ -1 ≤ dO c ∧ dO c < nd) ∧ (∀ e k, e < nd → k < mn e → s2 52 (4 * e + k) = iI (kd e k) ∧ kd e k < ng) ∧ (∀ e, e < nd → mn e ≤ 3) ∧ ∀ c y g, c < n → y < 4 → g < ng → s2 71 (32 * c + 8 * y + g) = iI (BG c y g)
/-- the cost of a step by what is seen; 0: none -/
def zK (w h : Nat) (fl : Nat → Nat) (dO : Nat → Int) (kd : Nat → Nat → Nat) (BG : Nat → Nat → Nat → Nat) (cd c y : Nat) : Nat :=
  if besI w h c y < 0 then 0 else if dO (besI w h c y).toNat = -1 then BG c y (fl (besI w h c y).toNat) else if zD cd (dO (besI w h c y).toNat).toNat = 0 then 0 else BG c y (kd (dO (besI w h c y).toNat).toNat (zD cd (dO (besI w h c y).toNat).toNat - 1))
theorem m_ly17 {N : Nat} {s1 : Nat → Int32} {s2 : Nat → Nat → Int32} {V : Nat → Int64} {w h n nd ng cd c : Nat} {fl mn : Nat → Nat} {dO : Nat → Int} {kd : Nat → Nat → Nat} {BG : Nat → Nat → Nat → Nat} {k2 : MS → Int32 → Int32 → Option MS} (hF : zFl s1 s2 w h n nd ng fl dO kd mn BG) (hcd : cd < 1024) (hdg : ∀ e, e < nd → zD cd e ≤ mn e) (hc : c < n) : ∀ (m y : Nat) (R : Nat → Int32), y ≤ 4 → 4 < y + m →
    ∃ R' : Nat → Int32, f_lays_17 N k2 m (s1, zRow s2 70 R, V) (iI cd) (iI c) (iI y) = k2 (s1, zRow s2 70 R', V) (iI cd) (iI ((c + 1 : Nat) : Int)) ∧ (∀ i, ¬ (4 * c + y ≤ i ∧ i < 4 * c + 4) → R' i = R i) ∧ ∀ y', y ≤ y' → y' < 4 → R' (4 * c + y') = iI (zK w h fl dO kd BG cd c y') := by
  obtain ⟨e1, e2, hw, hh, hn, hnd, hng, hfl, hkd, hmn, hBG⟩ := hF
  obtain ⟨t1, t2, t3⟩ := b_sm (d := 0) hw hh (hn ▸ hc)
  have m4 : w * h ≤ 10 * 10 := Nat.mul_le_mul hw.2 hh.2
  intro m
  induction m with
  | zero => intro y R h1 h2; omega
  | succ m ih =>
    intro y R h1 h2
    rw [f_lays_17]
    unfold f_lays_74 f_lays_106
    rw [j4]
    have en : iI (c : Int) + 1 = iI ((c + 1 : Nat) : Int) := by
      rw [j1, i_add]
      rfl
    by_cases hy : y = 4
    · subst hy
      refine ⟨R, ?_, fun i _ => rfl, fun y' d1 d2 => by omega⟩
      rw [p_le (by omega) (by omega) (by omega) (by omega) (by omega), p_let, en]
    · have ey : iI (y : Int) + 1 = iI ((y + 1 : Nat) : Int) := by
        rw [j1, i_add]
        rfl
      obtain ⟨i1, i2⟩ := t_ix (a := 4 * (c : Int) + (y : Int)) (n := mLen 70) (k := 4 * c + y) (by omega) (by rw [mL70]; omega) (by rw [mL70]; omega)
      -- the rest, with what is stored
      have fin : ∀ (R1 : Nat → Int32), (∀ i, i ≠ 4 * c + y → R1 i = R i) → R1 (4 * c + y) = iI (zK w h fl dO kd BG cd c y) → ∃ R' : Nat → Int32, f_lays_17 N k2 m (s1, zRow s2 70 R1, V) (iI cd) (iI c) (iI ((y + 1 : Nat) : Int)) = k2 (s1, zRow s2 70 R', V) (iI cd) (iI ((c + 1 : Nat) : Int)) ∧ (∀ i, ¬ (4 * c + y ≤ i ∧ i < 4 * c + 4) → R' i = R i) ∧ ∀ y', y ≤ y' → y' < 4 → R' (4 * c + y') = iI (zK w h fl dO kd BG cd c y') := fun R1 q1 q2 => by
        obtain ⟨R', a1, a2, a3⟩ := ih (y + 1) R1 (by omega) (by omega)
        refine ⟨R', a1, fun i hi => ?_, fun y' d1 d2 => ?_⟩
        · rw [a2 i (by omega)]
          exact q1 i (by omega)
        · by_cases e : y' = y
          · rw [e, a2 _ (by omega)]
            exact q2
          · exact a3 y' (by omega) d2
      rw [n_le (by omega) (by omega) (by omega) (by omega) (by omega), b_m24 (σ := (s1, zRow s2 70 R, V)) e1 e2 (by omega) hw hh (hn ▸ hc), q_mc, i_mul, i_add, if_pos i1, p_let, zRow_arr, i2, j0]
      have hS : ∀ x : Int32, (∀ i, i ≠ 4 * c + y → upd R (4 * c + y) x i = R i) ∧ upd R (4 * c + y) x (4 * c + y) = x := fun x => ⟨fun i hi => if_neg hi, if_pos rfl⟩
      have hS2 : ∀ x x' : Int32, (∀ i, i ≠ 4 * c + y → upd (upd R (4 * c + y) x) (4 * c + y) x' i = R i) ∧ upd (upd R (4 * c + y) x) (4 * c + y) x' (4 * c + y) = x' := fun x x' => ⟨fun i hi => by show (if i = 4 * c + y then x' else upd R (4 * c + y) x i) = R i; rw [if_neg hi]; exact if_neg hi, if_pos rfl⟩
      rcases bes_b (w := w) (h := h) (c := c) (d := y) hw hh with hb | ⟨hb0, hb1, hb2⟩
      · have hz : zK w h fl dO kd BG cd c y = 0 := if_pos (by omega)
        rw [p_lt (by omega) (by omega) (by omega) (by omega) (by omega), p_let, ey]
        exact fin _ (hS _).1 (by rw [hz]; exact (hS _).2)
      · have ht : (besI w h c y).toNat < n := by omega
        have et : besI w h c y = (((besI w h c y).toNat : Nat) : Int) := by omega
        have hzk : zK w h fl dO kd BG cd c y = if dO (besI w h c y).toNat = -1 then BG c y (fl (besI w h c y).toNat) else if zD cd (dO (besI w h c y).toNat).toNat = 0 then 0 else BG c y (kd (dO (besI w h c y).toNat).toNat (zD cd (dO (besI w h c y).toNat).toNat - 1)) := if_neg (by omega)
        rw [n_lt (by omega) (by omega) (by omega) (by omega) (by omega), et]
        rw [hzk] at fin
        generalize (besI w h c y).toNat = to at ht fin ⊢
        obtain ⟨f1, f2, f3, f4, f5⟩ := hfl to ht
        obtain ⟨i5, i6⟩ := t_ix (a := (to : Int)) (n := mLen 43) (k := to) rfl (by rw [mL43']; omega) (by rw [mL43']; omega)
        obtain ⟨i7, i8⟩ := t_ix (a := (to : Int)) (n := mLen 42) (k := to) rfl (by rw [mL42']; omega) (by rw [mL42']; omega)
        have r43 : ∀ (R2 : Nat → Int32), ((s1, zRow s2 70 R2, V) : MS).2.1 43 to = iI (dO to) := fun R2 => f3
        have r42 : ∀ (R2 : Nat → Int32), ((s1, zRow s2 70 R2, V) : MS).2.1 42 to = iI (fl to) := fun R2 => f1
        rw [if_pos i5, p_let, i6]
        rw [r43, j_m1]
        by_cases hd : dO to = -1
        · rw [if_pos hd] at fin
          obtain ⟨i9, i10⟩ := t_ix (a := 32 * (c : Int) + 8 * (y : Int) + (fl to : Int)) (n := mLen 71) (k := 32 * c + 8 * y + fl to) (by omega) (by rw [mL71]; omega) (by rw [mL71]; omega)
          have r71 : ∀ (R2 : Nat → Int32), ((s1, zRow s2 70 R2, V) : MS).2.1 71 (32 * c + 8 * y + fl to) = iI (BG c y (fl to)) := fun R2 => hBG c y (fl to) hc (by omega) f2
          have ff : f_floorOf N (s1, zRow s2 70 (upd R (4 * c + y) (iI 0)), V) (iI (to : Int)) (iI cd) = some (iI (fl to), (s1, zRow s2 70 (upd R (4 * c + y) (iI 0)), V)) := by
            unfold f_floorOf f_floorOf_37
            rw [if_pos i5, p_let, i6]
            rw [r43, j_m1, p_eq (by omega) (by omega) (by omega) (by omega) (by omega), if_pos i7, p_let]
            rw [r42]
          rw [p_eq (by omega) (by omega) (by omega) (by omega) (by omega), ff, q_mc, j32, j8, i_mul, i_mul, i_add, i_add, if_pos i9, p_let, i10]
          rw [if_pos i1, p_let, r71, zRow_arr, p_let, ey]
          exact fin _ (hS2 _ _).1 (hS2 _ _).2
        · rw [if_neg hd] at fin
          have de : dO to = (((dO to).toNat : Nat) : Int) := by omega
          have dl : (dO to).toNat < nd := by omega
          have zl := zD_lt (cd := cd) (d := (dO to).toNat)
          have dg := hdg _ dl
          have dm := hmn _ dl
          rw [n_eq (by omega) (by omega) (by omega) (by omega) (by omega), if_pos i5, p_let]
          have r43' : ∀ (R2 : Nat → Int32), ((s1, zRow s2 70 R2, V) : MS).2.1 43 to = iI (((dO to).toNat : Nat) : Int) := fun R2 => by rw [← de]; exact f3
          rw [show iI (dO to) = iI (((dO to).toNat : Nat) : Int) from congrArg iI de]
          generalize (dO to).toNat = e at dl fin zl dg dm r43' ⊢
          rw [m_dig hcd (by omega), q_mc]
          by_cases h0 : zD cd e = 0
          · rw [if_pos h0] at fin
            rw [p_eq (by omega) (by omega) (by omega) (by omega) (by omega), p_let, ey]
            exact fin _ (hS _).1 (hS _).2
          · rw [if_neg h0] at fin
            obtain ⟨g1, g2⟩ := hkd e (zD cd e - 1) dl (by omega)
            obtain ⟨i9, i10⟩ := t_ix (a := 32 * (c : Int) + 8 * (y : Int) + (kd e (zD cd e - 1) : Int)) (n := mLen 71) (k := 32 * c + 8 * y + kd e (zD cd e - 1)) (by omega) (by rw [mL71]; omega) (by rw [mL71]; omega)
            obtain ⟨i11, i12⟩ := t_ix (a := 4 * (e : Int) + (zD cd e : Int) - 1) (n := mLen 52) (k := 4 * e + (zD cd e - 1)) (by omega) (by rw [mL52]; omega) (by rw [mL52]; omega)
            have r71 : ∀ (R2 : Nat → Int32), ((s1, zRow s2 70 R2, V) : MS).2.1 71 (32 * c + 8 * y + kd e (zD cd e - 1)) = iI (BG c y (kd e (zD cd e - 1))) := fun R2 => hBG c y _ hc (by omega) g2
            have r52 : ∀ (R2 : Nat → Int32), ((s1, zRow s2 70 R2, V) : MS).2.1 52 (4 * e + (zD cd e - 1)) = iI (kd e (zD cd e - 1)) := fun R2 => g1
            have ff : f_floorOf N (s1, zRow s2 70 (upd R (4 * c + y) (iI 0)), V) (iI (to : Int)) (iI cd) = some (iI (kd e (zD cd e - 1)), (s1, zRow s2 70 (upd R (4 * c + y) (iI 0)), V)) := by
              unfold f_floorOf f_floorOf_37
              rw [if_pos i5, p_let, i6]
              rw [r43', j_m1, n_eq (by omega) (by omega) (by omega) (by omega) (by omega), m_dig hcd (by omega), q_mc, j4, i_mul, i_add, j1, i_sub, if_pos i11, p_let, i12]
              rw [r52]
            rw [n_eq (by omega) (by omega) (by omega) (by omega) (by omega), ff, q_mc, j32, j8, i_mul, i_mul, i_add, i_add, if_pos i9, p_let, i10]
            rw [if_pos i1, p_let, r71, zRow_arr, p_let, ey]
            exact fin _ (hS2 _ _).1 (hS2 _ _).2

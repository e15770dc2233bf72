/-! PLAIN: the model's lays over all cells; which numbers of digits can be -/
theorem m_ly2 {N : Nat} {s1 : Nat → Int32} {s2 : Nat → Nat → Int32} {V : Nat → Int64} {w h n nd ng cd : Nat} {fl mn : Nat → Nat} {dO : Nat → Int} {kd : Nat → Nat → Nat} {BG : Nat → Nat → Nat → Nat} (hF : zFl s1 s2 w h n nd ng fl dO kd mn BG) (hcd : cd < 1024) (hdg : ∀ e, e < nd → zD cd e ≤ mn e) (hN : 5 ≤ N) : ∀ (m c : Nat) (R : Nat → Int32), c ≤ n → n < c + m →
    ∃ R' : Nat → Int32, f_lays_2 N m (s1, zRow s2 70 R, V) (iI cd) (iI c) = some (s1, zRow s2 70 R', V) ∧ (∀ i, i < 4 * c → R' i = R i) ∧ ∀ c' y', c ≤ c' → c' < n → y' < 4 → R' (4 * c' + y') = iI (zK w h fl dO kd BG cd c' y') := by
  have hF' := hF
  obtain ⟨e1, e2, hw, hh, hn, -⟩ := hF
  have m4 : w * h ≤ 10 * 10 := Nat.mul_le_mul hw.2 hh.2
  have hwh : s1 35 * s1 36 = iI (n : Int) := by
    rw [e1, e2, i_mul, hn, Int.natCast_mul]
  intro m
  induction m with
  | zero => intro c R h1 h2; omega
  | succ m ih =>
    intro c R h1 h2
    rw [f_lays_2]
    show ∃ R' : Nat → Int32, (if (s1 35 * s1 36) ≤ iI c then _ else _) = _ ∧ _
    rw [hwh]
    by_cases hc : n ≤ c
    · refine ⟨R, ?_, fun i _ => rfl, fun c' y' d1 d2 => by omega⟩
      rw [p_le (by omega) (by omega) (by omega) (by omega) (by omega)]
    · obtain ⟨R1, a1, a2, a3⟩ := m_ly17 (N := N) (V := V) (k2 := f_lays_2 N m) hF' hcd hdg (by omega : c < n) N 0 R (by omega) (by omega)
      obtain ⟨R2, b1, b2, b3⟩ := ih (c + 1) R1 (by omega) (by omega)
      refine ⟨R2, ?_, fun i hi => ?_, fun c' y' d1 d2 d3 => ?_⟩
      · rw [n_le (by omega) (by omega) (by omega) (by omega) (by omega), show (0 : Int32) = iI ((0 : Nat) : Int) from rfl, a1]
        exact b1
      · rw [b2 i (by omega), a2 i (by omega)]
      · by_cases e : c' = c
        · rw [e, b2 _ (by omega)]
          exact a3 y' (by omega) d3
        · exact b3 c' y' (by omega) d2 d3
theorem m_lays {N : Nat} {s1 : Nat → Int32} {s2 : Nat → Nat → Int32} {V : Nat → Int64} {R : Nat → Int32} {w h n nd ng cd : Nat} {fl mn : Nat → Nat} {dO : Nat → Int} {kd : Nat → Nat → Nat} {BG : Nat → Nat → Nat → Nat} (hF : zFl s1 s2 w h n nd ng fl dO kd mn BG) (hcd : cd < 1024) (hdg : ∀ e, e < nd → zD cd e ≤ mn e) (hN : 101 ≤ N) : ∃ R' : Nat → Int32, f_lays N (s1, zRow s2 70 R, V) (iI cd) = some (s1, zRow s2 70 R', V) ∧ ∀ c y, c < n → y < 4 → R' (4 * c + y) = iI (zK w h fl dO kd BG cd c y) := by
  have hn := hF.2.2.2.2.1
  have m4 : w * h ≤ 10 * 10 := Nat.mul_le_mul hF.2.2.1.2 hF.2.2.2.1.2
  obtain ⟨R', a1, a2, a3⟩ := m_ly2 (N := N) (V := V) hF hcd hdg (by omega) N 0 R (by omega) (by omega)
  refine ⟨R', ?_, fun c y h1 h2 => a3 c y (by omega) h1 h2⟩
  unfold f_lays
  exact a1
/-- a digit can be -/
def zC1 (nd : Nat) (mn : Nat → Nat) (kn : Nat → Int) (kd : Nat → Nat → Nat) (cd e : Nat) : Prop := (nd ≤ e → zD cd e = 0) ∧ (e < nd → zD cd e ≤ mn e ∧ (kn e ≠ -1 → zD cd e ≠ 0 ∧ (kd e (zD cd e - 1) : Int) = kn e))
/-- what is known of doubts -/
def zKn (s1 : Nat → Int32) (s2 : Nat → Nat → Int32) (nd ng : Nat) (mn : Nat → Nat) (kn : Nat → Int) (kd : Nat → Nat → Nat) : Prop := s1 37 = iI nd ∧ nd ≤ 5 ∧ ng ≤ 8 ∧ ∀ e, e < nd → s2 53 e = iI (mn e) ∧ mn e ≤ 3 ∧ s2 45 e = iI (kn e) ∧ -1 ≤ kn e ∧ kn e < ng ∧ ∀ k, k < mn e → s2 52 (4 * e + k) = iI (kd e k) ∧ kd e k < ng
theorem m_can2 {N : Nat} {s1 : Nat → Int32} {s2 : Nat → Nat → Int32} {V : Nat → Int64} {nd ng cd : Nat} {mn : Nat → Nat} {kn : Nat → Int} {kd : Nat → Nat → Nat} (hK : zKn s1 s2 nd ng mn kn kd) (hcd : cd < 1024) : ∀ (m e : Nat), e ≤ 5 → 5 < e + m → ∃ r : Int32, f_canBe_2 N m (s1, s2, V) (iI cd) (iI e) = some (r, (s1, s2, V)) ∧ ((r = 1 ∧ ∀ j, e ≤ j → j < 5 → zC1 nd mn kn kd cd j) ∨ (r = 0 ∧ ∃ j, j < 5 ∧ ¬ zC1 nd mn kn kd cd j)) := by
  obtain ⟨e3, hnd, hng, hk⟩ := hK
  intro m
  induction m with
  | zero => intro e h1 h2; omega
  | succ m ih =>
    intro e h1 h2
    rw [f_canBe_2]
    unfold f_canBe_40 f_canBe_38 f_canBe_83 f_canBe_85
    rw [j5]
    by_cases he : e = 5
    · refine ⟨1, ?_, Or.inl ⟨rfl, fun j d1 d2 => by omega⟩⟩
      rw [p_le (by omega) (by omega) (by omega) (by omega) (by omega)]
    · have en : iI (e : Int) + 1 = iI ((e + 1 : Nat) : Int) := by
        rw [j1, i_add]
        rfl
      have zl := zD_lt (cd := cd) (d := e)
      have go : zC1 nd mn kn kd cd e → ∃ r : Int32, f_canBe_2 N m (s1, s2, V) (iI cd) (iI ((e + 1 : Nat) : Int)) = some (r, (s1, s2, V)) ∧ ((r = 1 ∧ ∀ j, e ≤ j → j < 5 → zC1 nd mn kn kd cd j) ∨ (r = 0 ∧ ∃ j, j < 5 ∧ ¬ zC1 nd mn kn kd cd j)) := fun hz => by
        obtain ⟨r, a1, a2⟩ := ih (e + 1) (by omega) (by omega)
        refine ⟨r, a1, ?_⟩
        rcases a2 with ⟨b1, b2⟩ | b
        · refine Or.inl ⟨b1, fun j d1 d2 => ?_⟩
          by_cases x : j = e
          · rw [x]; exact hz
          · exact b2 j (by omega) d2
        · exact Or.inr b
      have no : ¬ zC1 nd mn kn kd cd e → ∃ r : Int32, some ((0 : Int32), ((s1, s2, V) : MS)) = some (r, (s1, s2, V)) ∧ ((r = 1 ∧ ∀ j, e ≤ j → j < 5 → zC1 nd mn kn kd cd j) ∨ (r = 0 ∧ ∃ j, j < 5 ∧ ¬ zC1 nd mn kn kd cd j)) := fun hz => ⟨0, rfl, Or.inr ⟨rfl, e, by omega, hz⟩⟩
      have e3' : ((s1, s2, V) : MS).1 37 = iI nd := e3
      rw [n_le (by omega) (by omega) (by omega) (by omega) (by omega), m_dig hcd (by omega), q_mc, e3']
      by_cases h : e < nd
      · obtain ⟨k1, k2, k3, k4, k5, k6⟩ := hk e h
        obtain ⟨i1, i2⟩ := t_ix (a := (e : Int)) (n := mLen 53) (k := e) rfl (by rw [mL53]; omega) (by rw [mL53]; omega)
        obtain ⟨i3, -⟩ := t_ix (a := (e : Int)) (n := mLen 45) (k := e) rfl (by rw [mL45]; omega) (by rw [mL45]; omega)
        have r53 : ((s1, s2, V) : MS).2.1 53 e = iI (mn e) := k1
        have r45 : ((s1, s2, V) : MS).2.1 45 e = iI (kn e) := k3
        rw [p_lt (by omega) (by omega) (by omega) (by omega) (by omega), if_pos i1, p_let, i2, r53]
        by_cases hm : zD cd e ≤ mn e
        · rw [p_le (by omega) (by omega) (by omega) (by omega) (by omega), n_le (by omega) (by omega) (by omega) (by omega) (by omega), if_pos i3, p_let, r45, j_m1]
          by_cases hkn : kn e = -1
          · rw [p_eq (by omega) (by omega) (by omega) (by omega) (by omega), p_let, en]
            exact go ⟨fun z => by omega, fun _ => ⟨hm, fun z => absurd hkn z⟩⟩
          · rw [n_eq (by omega) (by omega) (by omega) (by omega) (by omega)]
            by_cases h0 : zD cd e = 0
            · rw [if_pos (show iI (zD cd e : Int) = 0 by rw [h0]; rfl)]
              exact no (fun z => ((z.2 h).2 hkn).1 h0)
            · obtain ⟨g1, g2⟩ := k6 (zD cd e - 1) (by omega)
              obtain ⟨i5, i6⟩ := t_ix (a := 4 * (e : Int) + (zD cd e : Int) - 1) (n := mLen 52) (k := 4 * e + (zD cd e - 1)) (by omega) (by rw [mL52]; omega) (by rw [mL52]; omega)
              have r52 : ((s1, s2, V) : MS).2.1 52 (4 * e + (zD cd e - 1)) = iI (kd e (zD cd e - 1)) := g1
              rw [if_neg (show ¬ iI (zD cd e : Int) = 0 by rw [j0, j_eq (by omega) (by omega) (by omega) (by omega)]; omega), j4, i_mul, i_add, j1, i_sub, if_pos i5, p_let, if_pos i3, p_let, i6, r52]
              rw [← j1, en]
              by_cases hq : (kd e (zD cd e - 1) : Int) = kn e
              · rw [p_eq (by omega) (by omega) (by omega) (by omega) (by omega), p_let]
                exact go ⟨fun z => by omega, fun _ => ⟨hm, fun _ => ⟨h0, hq⟩⟩⟩
              · rw [n_eq (by omega) (by omega) (by omega) (by omega) (by omega)]
                exact no (fun z => hq ((z.2 h).2 hkn).2)
        · rw [n_le (by omega) (by omega) (by omega) (by omega) (by omega)]
          exact no (fun z => hm (z.2 h).1)
      · rw [n_lt (by omega) (by omega) (by omega) (by omega) (by omega)]
        by_cases h0 : zD cd e = 0
        · rw [if_pos (show iI (zD cd e : Int) ≤ 0 by rw [h0]; decide), p_le (by omega) (by omega) (by omega) (by omega) (by omega), p_let, en]
          exact go ⟨fun _ => h0, fun z => by omega⟩
        · rw [if_neg (show ¬ iI (zD cd e : Int) ≤ 0 by rw [j0, j_le (by omega) (by omega) (by omega) (by omega)]; omega)]
          exact no (fun z => h0 (z.1 (by omega)))
theorem m_can {N : Nat} {s1 : Nat → Int32} {s2 : Nat → Nat → Int32} {V : Nat → Int64} {nd ng cd : Nat} {mn : Nat → Nat} {kn : Nat → Int} {kd : Nat → Nat → Nat} (hK : zKn s1 s2 nd ng mn kn kd) (hcd : cd < 1024) (hN : 6 ≤ N) : ∃ r : Int32, f_canBe N (s1, s2, V) (iI cd) = some (r, (s1, s2, V)) ∧ ((r = 1 ∧ ∀ j, j < 5 → zC1 nd mn kn kd cd j) ∨ (r = 0 ∧ ∃ j, j < 5 ∧ ¬ zC1 nd mn kn kd cd j)) := by
  obtain ⟨r, a1, a2⟩ := m_can2 (N := N) (V := V) hK hcd N 0 (by omega) (by omega)
  refine ⟨r, ?_, ?_⟩
  · unfold f_canBe
    exact a1
  · rcases a2 with ⟨b1, b2⟩ | b
    · exact Or.inl ⟨b1, fun j hj => b2 j (by omega) hj⟩
    · exact Or.inr b

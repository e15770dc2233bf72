/-! PLAIN: the class's best way -/
def xSc (mean nd : Nat) (wg : Nat → Nat → Nat) (cd : Nat) : Nat := zSc mean nd (fun e => zCn (wg e) 8) (fun e k => wg e (zKd (wg e) k)) cd
def xEd (w h nd mean : Nat) (fl : Nat → Nat) (dO : Nat → Int) (wg : Nat → Nat → Nat) (BG : Nat → Nat → Nat → Nat) (cd : Nat) : Nat → Nat → Option (Nat × Nat) := zEd w h (xSc mean nd wg cd) (zKc w h fl dO (fun e k => zKd (wg e) k) BG cd)
theorem x_ed0 {w h nd mean cd c y : Nat} {fl : Nat → Nat} {dO : Nat → Int} {wg : Nat → Nat → Nat} {BG : Nat → Nat → Nat → Nat} (hy : y < 4) (h0 : zK w h fl dO (fun e k => zKd (wg e) k) BG cd c y = 0) : xEd w h nd mean fl dO wg BG cd c y = none := by
  unfold xEd zEd
  rw [if_neg (fun z => z.2 ((zKc_at hy).trans h0))]
theorem x_ed1 {w h nd mean cd c y : Nat} {fl : Nat → Nat} {dO : Nat → Int} {wg : Nat → Nat → Nat} {BG : Nat → Nat → Nat → Nat} (hy : y < 4) (h0 : zK w h fl dO (fun e k => zKd (wg e) k) BG cd c y ≠ 0) : xEd w h nd mean fl dO wg BG cd c y = some ((besI w h c y).toNat, xSc mean nd wg cd * zK w h fl dO (fun e k => zKd (wg e) k) BG cd c y) := by
  unfold xEd zEd
  rw [zKc_at hy, if_pos ⟨hy, h0⟩]
theorem x_ed4 {w h nd mean cd c y : Nat} {fl : Nat → Nat} {dO : Nat → Int} {wg : Nat → Nat → Nat} {BG : Nat → Nat → Nat → Nat} {p : Nat × Nat} (he : xEd w h nd mean fl dO wg BG cd c y = some p) : y < 4 := by
  apply Classical.byContradiction
  intro hy
  unfold xEd zEd at he
  rw [if_neg (fun z => hy z.1)] at he
  cases he
theorem c_pts {N b : Nat} {g : uEnv} {u : UH} {ja mean scl sc kk : Nat} (hJ : (mean = 0 ∧ u.2.2 ja = some (.inr (15, []))) ∨ (mean = 1 ∧ u.2.2 ja = some (.inr (14, [])))) (hsc : sc = if mean = 0 then 1 else scl) (hkk : kk ≤ 30071) : (if uIs u ja 14 = true then f_X16_parts N b g u ja (iI (kk : Int)).toInt64 (iL (scl : Int)) else if uIs u ja 15 = true then f_X17_parts N b g u ja (iI (kk : Int)).toInt64 (iL (scl : Int)) else none) = some (iL ((sc * kk : Nat) : Int), u) := by
  rw [e_i2l (by omega) (by omega)]
  rcases hJ with ⟨j1', j2'⟩ | ⟨j1', j2'⟩
  · rw [v_isn j2' (by decide), if_neg (by decide), if_pos (v_is j2')]
    rw [if_pos j1'] at hsc
    rw [hsc, Nat.one_mul]
    rfl
  · rw [if_pos (v_is j2')]
    rw [if_neg (by omega)] at hsc
    unfold f_X16_parts
    rw [e_mul, hsc, Nat.mul_comm, Int.natCast_mul]
theorem z_wy {X : Nat → Nat} {v q d k : Nat} {ed : Nat → Option (Nat × Nat)} (he : ed q = some (d, k)) (hd : X d < 1000000000000000) (hv : X d + k = v) (hf : ∀ y d' k', y < q → ed y = some (d', k') → X d' < 1000000000000000 → X d' + k' ≠ v) : ∀ (m y : Nat), y ≤ q → q < y + m → zWy X v ed m y = q := by
  intro m
  induction m with
  | zero => intro y h1 h2; omega
  | succ m ih =>
    intro y h1 h2
    rw [zWy]
    by_cases e : y = q
    · subst e
      rw [he]
      exact if_pos ⟨hd, hv⟩
    · cases h : ed y with
      | none => exact ih (y + 1) (by omega) (by omega)
      | some p =>
        obtain ⟨d', k'⟩ := p
        show (if X d' < 1000000000000000 ∧ X d' + k' = v then y else zWy X v ed m (y + 1)) = q
        rw [if_neg (fun z => hf y d' k' (by omega) h z.1 z.2)]
        exact ih (y + 1) (by omega) (by omega)
/-- what is found among the first ways -/
def zBi (ed : Nat → Option (Nat × Nat)) (X : Nat → Nat) (wr : Nat → Nat) (y : Nat) (fo : Option Nat) (l : Int64) : Prop := (fo = none ∧ l = iL 9223372036854775807 ∧ ∀ y' d k, y' < y → ed y' = some (d, k) → ¬ X d < 1000000000000000) ∨ ∃ q d k, q < y ∧ fo = some (wr q) ∧ ed q = some (d, k) ∧ X d < 1000000000000000 ∧ l = iL ((X d + k : Nat) : Int) ∧ X d + k ≤ 2 * 1000000000000000 ∧ (∀ y' d' k', y' < y → ed y' = some (d', k') → X d' < 1000000000000000 → X d + k ≤ X d' + k') ∧ ∀ y' d' k', y' < q → ed y' = some (d', k') → X d' < 1000000000000000 → X d + k < X d' + k'
theorem zBi.skip {ed : Nat → Option (Nat × Nat)} {X wr : Nat → Nat} {y : Nat} {fo : Option Nat} {l : Int64} (h : zBi ed X wr y fo l) (hs : ∀ d k, ed y = some (d, k) → ¬ X d < 1000000000000000) : zBi ed X wr (y + 1) fo l := by
  rcases h with ⟨h1, h2, h3⟩ | ⟨q, d, k, h1, h2, h3, h4, h5, h6, h7, h8⟩
  · refine Or.inl ⟨h1, h2, fun y' d k a1 a2 => ?_⟩
    by_cases e : y' = y
    · subst e; exact hs d k a2
    · exact h3 y' d k (by omega) a2
  · refine Or.inr ⟨q, d, k, by omega, h2, h3, h4, h5, h6, fun y' d' k' a1 a2 a3 => ?_, h8⟩
    by_cases e : y' = y
    · subst e; exact absurd a3 (hs d' k' a2)
    · exact h7 y' d' k' (by omega) a2 a3
theorem zBi.last {ed : Nat → Nat → Option (Nat × Nat)} {X wr : Nat → Nat} {c : Nat} {fo : Option Nat} {l : Int64} (h : zBi (ed c) X wr 4 fo l) (hB : zB X ed c) (h4 : ∀ y p, ed c y = some p → y < 4) (hb : ∀ y d k, ed c y = some (d, k) → X d < 1000000000000000 → X d + k < 1000000000000000) : (X c < 1000000000000000 → zWy X (X c) (ed c) 4 0 < 4 ∧ fo = some (wr (zWy X (X c) (ed c) 4 0))) ∧ (¬ X c < 1000000000000000 → fo = none) := by
  obtain ⟨b1, b2, b3⟩ := hB
  rcases h with ⟨h1, h2, h3⟩ | ⟨q, d, k, h1, h2, h3, h4', h5, h6, h7, h8⟩
  · refine ⟨fun hc => ?_, fun _ => h1⟩
    obtain ⟨y, d, k, a1, a2, -⟩ := b3 hc
    exact absurd a2 (h3 y d k (h4 y _ a1) a1)
  · have le := b2 q d k h3 h4'
    have lt := hb q d k h3 h4'
    obtain ⟨y, d', k', a1, a2, a3⟩ := b3 (by omega)
    have := h7 y d' k' (h4 y _ a1) a1 a2
    have e : X d + k = X c := by omega
    have w := z_wy (X := X) (v := X c) (ed := ed c) h3 h4' e (fun y d' k' z1 z2 z3 => by
      have := h8 y d' k' z1 z2 z3
      omega) 4 0 (by omega) (by omega)
    refine ⟨fun _ => ?_, fun z => absurd (by omega : X c < 1000000000000000) z⟩
    rw [w]
    exact ⟨h1, h2⟩
theorem x_kb {w h n nd ng cd c y : Nat} {fl : Nat → Nat} {dO : Nat → Int} {wg : Nat → Nat → Nat} {BG : Nat → Nat → Nat → Nat} (hw : 1 ≤ w ∧ w ≤ 10) (hh : 1 ≤ h ∧ h ≤ 10) (hn : n = w * h) (hdO : ∀ c, c < n → -1 ≤ dO c ∧ dO c < nd) (hfl : ∀ c, c < n → fl c < ng) (hkd : ∀ e k, e < nd → k < zCn (wg e) 8 → zKd (wg e) k < ng) (hBG : ∀ c y q, c < n → y < 4 → q < ng → BG c y q ≤ 30071) (hc : c < n) (hy : y < 4) (hd : ∀ e, e < nd → zD cd e ≤ zCn (wg e) 8) : zK w h fl dO (fun e k => zKd (wg e) k) BG cd c y ≤ 30071 ∧ (zK w h fl dO (fun e k => zKd (wg e) k) BG cd c y ≠ 0 → ∃ d : Nat, d < n ∧ besI w h c y = (d : Int)) := by
  unfold zK
  by_cases q1 : besI w h c y < 0
  · rw [if_pos q1]
    exact ⟨by omega, fun z => absurd rfl z⟩
  · rw [if_neg q1]
    rcases bes_b (w := w) (h := h) (c := c) (d := y) hw hh with hb | ⟨-, hb1, -⟩
    · omega
    · rw [← hn] at hb1
      obtain ⟨o1, o2⟩ := hdO (besI w h c y).toNat (by omega)
      refine ⟨?_, fun _ => ⟨(besI w h c y).toNat, by omega, by omega⟩⟩
      by_cases q2 : dO (besI w h c y).toNat = -1
      · rw [if_pos q2]
        exact hBG c y _ hc hy (hfl _ (by omega))
      · rw [if_neg q2]
        by_cases q3 : zD cd (dO (besI w h c y).toNat).toNat = 0
        · rw [if_pos q3]; omega
        · rw [if_neg q3]
          have dl : (dO (besI w h c y).toNat).toNat < nd := by omega
          have := hd _ dl
          exact hBG c y _ hc hy (hkd _ _ dl (by omega))

/-! PLAIN: the way that is gone ends -/
theorem zUk_mono {a b : Nat} : ∀ d, (∀ e, e < d → zD a e = 0 → zD b e = 0) → zUk a d ≤ zUk b d ∧ ((∃ e, e < d ∧ zD b e = 0 ∧ zD a e ≠ 0) → zUk a d < zUk b d) := by
  intro d
  induction d with
  | zero => intro _; exact ⟨Nat.le_refl _, fun ⟨e, h, _⟩ => by omega⟩
  | succ d ih =>
    intro h
    obtain ⟨i1, i2⟩ := ih (fun e he => h e (by omega))
    rw [zUk, zUk]
    have hd := h d (by omega)
    by_cases ha : zD a d = 0
    · rw [if_pos ha, if_pos (hd ha)]
      refine ⟨by omega, fun ⟨e, q1, q2, q3⟩ => ?_⟩
      have : e ≠ d := fun z => by rw [z] at q3; exact q3 ha
      have := i2 ⟨e, by omega, q2, q3⟩
      omega
    · rw [if_neg ha]
      by_cases hb : zD b d = 0
      · rw [if_pos hb]
        exact ⟨by omega, fun _ => by omega⟩
      · rw [if_neg hb]
        refine ⟨by omega, fun ⟨e, q1, q2, q3⟩ => ?_⟩
        have : e ≠ d := fun z => by rw [z] at q2; exact hb q2
        have := i2 ⟨e, by omega, q2, q3⟩
        omega
theorem zUk_se {nd nb fd cd : Nat} (hcd : cd < 1024) (hnd : nd ≤ 5) : zUk (zSe nb fd cd nd) nd ≤ zUk cd nd ∧ (zSe nb fd cd nd ≠ cd → zUk (zSe nb fd cd nd) nd < zUk cd nd) := by
  obtain ⟨q1, q2⟩ := zSe_d (nb := nb) (fd := fd) hcd nd hnd
  obtain ⟨m1, m2⟩ := zUk_mono (a := zSe nb fd cd nd) (b := cd) nd (fun e he h0 => by
    have q := q2 e (by omega)
    by_cases c : e < nd ∧ zD cd e = 0 ∧ nb / 2 ^ e % 2 = 1
    · exact c.2.1
    · rw [if_neg c] at q
      exact q.symm.trans h0)
  refine ⟨m1, fun hne => m2 ?_⟩
  apply Classical.byContradiction
  intro hno
  refine hne (zD_ext q1 hcd (fun e he => ?_))
  have q := q2 e he
  by_cases c : e < nd ∧ zD cd e = 0 ∧ nb / 2 ^ e % 2 = 1
  · by_cases z : zD (zSe nb fd cd nd) e = 0
    · rw [z, c.2.1]
    · exact absurd ⟨e, c.1, c.2.1, z⟩ hno
  · rw [if_neg c] at q
    exact q
/-- how many cells have less -/
def zLess (X : Nat → Nat) (v d : Nat) : Nat := if X d < v then 1 else 0
theorem zSum_m2 {A B : Nat → Nat} : ∀ n, (∀ d, d < n → A d ≤ B d) → zSum A n ≤ zSum B n ∧ ((∃ d, d < n ∧ A d < B d) → zSum A n < zSum B n) := by
  intro n
  induction n with
  | zero => intro _; exact ⟨Nat.le_refl _, fun ⟨d, h, _⟩ => by omega⟩
  | succ n ih =>
    intro h
    obtain ⟨i1, i2⟩ := ih (fun d hd => h d (by omega))
    have hn := h n (by omega)
    simp only [zSum]
    refine ⟨by omega, fun ⟨d, q1, q2⟩ => ?_⟩
    by_cases e : d = n
    · rw [e] at q2
      omega
    · have := i2 ⟨d, by omega, q2⟩
      omega
theorem zSum_c {n : Nat} : zSum (fun _ => 1) n = n := by
  induction n with
  | zero => rfl
  | succ n ih =>
    simp only [zSum]
    omega
/-- cells that are still ahead, at most -/
def wMu (n nd : Nat) (Y : Nat → Nat → Nat) (s : Nat × Nat × Nat) : Nat := 100 * zUk s.2.1 nd + zSum (zLess (Y s.2.1) (Y s.2.1 s.1)) n
theorem w_mu {w h n nd ng go mean : Nat} {fl nb : Nat → Nat} {dO kn : Nat → Int} {wg : Nat → Nat → Nat} {BG : Nat → Nat → Nat → Nat} {Y : Nat → Nat → Nat} {fd : Nat} {s : Nat × Nat × Nat} (hW : wWd w h n nd ng go mean fl nb dO kn wg BG Y fd) (hs : wOk n nd kn wg Y s) (hg : s.1 ≠ go) : wMu n nd Y (wNx w h nd go mean fl nb dO wg BG Y fd s) < wMu n nd Y s := by
  have hW' := hW
  obtain ⟨-, -, -, -, -, -, d, d1, -, d2, -, d3, -⟩ := w_step hW hs hg
  obtain ⟨-, ⟨hw, hh, hn, hnd⟩, -⟩ := hW'
  have m4 : w * h ≤ 10 * 10 := Nat.mul_le_mul hw.2 hh.2
  rw [d3]
  obtain ⟨u1, u2⟩ := zUk_se (nb := nb s.1) (fd := fd) hs.2.1 hnd
  show 100 * zUk (wCd nd nb fd s) nd + zSum (zLess (Y (wCd nd nb fd s)) (Y (wCd nd nb fd s) d)) n < 100 * zUk s.2.1 nd + zSum (zLess (Y s.2.1) (Y s.2.1 s.1)) n
  by_cases hc : wCd nd nb fd s = s.2.1
  · rw [hc] at d2 ⊢
    have := (zSum_m2 (A := zLess (Y s.2.1) (Y s.2.1 d)) (B := zLess (Y s.2.1) (Y s.2.1 s.1)) n (fun x _ => by
      unfold zLess
      split <;> split <;> omega)).2 ⟨d, d1, by
      unfold zLess
      rw [if_neg (by omega), if_pos d2]
      omega⟩
    omega
  · have u3 : zUk (wCd nd nb fd s) nd < zUk s.2.1 nd := u2 hc
    have := (zSum_m2 (A := zLess (Y (wCd nd nb fd s)) (Y (wCd nd nb fd s) d)) (B := fun _ => 1) n (fun x _ => by
      unfold zLess
      split <;> omega)).2 ⟨d, d1, by
      unfold zLess
      rw [if_neg (by omega)]
      omega⟩
    rw [zSum_c] at this
    omega
theorem w_end {w h n nd ng go mean : Nat} {fl nb : Nat → Nat} {dO kn : Nat → Int} {wg : Nat → Nat → Nat} {BG : Nat → Nat → Nat → Nat} {Y : Nat → Nat → Nat} {fd : Nat} (hW : wWd w h n nd ng go mean fl nb dO kn wg BG Y fd) : ∀ (m : Nat) (s : Nat × Nat × Nat), wOk n nd kn wg Y s → wMu n nd Y s ≤ m → ∃ T, T ≤ m ∧ (wIt w h nd go mean fl nb dO wg BG Y fd s T).1 = go ∧ ∀ i, i < T → (wIt w h nd go mean fl nb dO wg BG Y fd s i).1 ≠ go := by
  intro m
  induction m with
  | zero =>
    intro s hs hm
    by_cases hg : s.1 = go
    · exact ⟨0, Nat.le_refl _, hg, fun i hi => by omega⟩
    · have := w_mu hW hs hg
      omega
  | succ m ih =>
    intro s hs hm
    by_cases hg : s.1 = go
    · exact ⟨0, by omega, hg, fun i hi => by omega⟩
    · have mu := w_mu hW hs hg
      obtain ⟨-, -, -, -, -, -, d, -, -, -, -, d3, d4⟩ := w_step hW hs hg
      obtain ⟨T, t1, t2, t3⟩ := ih (wNx w h nd go mean fl nb dO wg BG Y fd s) (by rw [d3]; exact d4) (by omega)
      refine ⟨T + 1, by omega, by rw [wIt_s]; exact t2, fun i hi => ?_⟩
      cases i with
      | zero => exact hg
      | succ i =>
        rw [wIt_s]
        exact t3 i (by omega)
/-- T: when the goal is reached -/
theorem w_T {w h n nd ng go mean : Nat} {fl nb : Nat → Nat} {dO kn : Nat → Int} {wg : Nat → Nat → Nat} {BG : Nat → Nat → Nat → Nat} {Y : Nat → Nat → Nat} {fd : Nat} {s : Nat × Nat × Nat} (hW : wWd w h n nd ng go mean fl nb dO kn wg BG Y fd) (hs : wOk n nd kn wg Y s) : ∃ T, T ≤ 600 ∧ (wIt w h nd go mean fl nb dO wg BG Y fd s T).1 = go ∧ ∀ i, i < T → (wIt w h nd go mean fl nb dO wg BG Y fd s i).1 ≠ go := by
  have hW' := hW
  obtain ⟨-, ⟨hw, hh, hn, hnd⟩, -⟩ := hW'
  have m4 : w * h ≤ 10 * 10 := Nat.mul_le_mul hw.2 hh.2
  refine w_end hW 600 s hs ?_
  have u := zUk_le (cd := s.2.1) nd
  have := (zSum_m2 (A := zLess (Y s.2.1) (Y s.2.1 s.1)) (B := fun _ => 1) n (fun x _ => by
    unfold zLess
    split <;> omega)).1
  rw [zSum_c] at this
  unfold wMu
  omega
theorem w_ok {w h n nd ng go mean : Nat} {fl nb : Nat → Nat} {dO kn : Nat → Int} {wg : Nat → Nat → Nat} {BG : Nat → Nat → Nat → Nat} {Y : Nat → Nat → Nat} {fd : Nat} {s : Nat × Nat × Nat} (hW : wWd w h n nd ng go mean fl nb dO kn wg BG Y fd) (hs : wOk n nd kn wg Y s) : ∀ i, wOk n nd kn wg Y (wIt w h nd go mean fl nb dO wg BG Y fd s i) ∧ (wIt w h nd go mean fl nb dO wg BG Y fd s i).2.2 ≤ s.2.2 + 30071 * i := by
  intro i
  induction i with
  | zero => exact ⟨hs, Nat.le_refl _⟩
  | succ i ih =>
    obtain ⟨i1, i2⟩ := ih
    rw [wIt]
    by_cases hg : (wIt w h nd go mean fl nb dO wg BG Y fd s i).1 = go
    · have e : wNx w h nd go mean fl nb dO wg BG Y fd (wIt w h nd go mean fl nb dO wg BG Y fd s i) = wIt w h nd go mean fl nb dO wg BG Y fd s i := if_pos hg
      rw [e]
      exact ⟨i1, by omega⟩
    · obtain ⟨-, -, -, -, -, k1, d, -, -, -, -, d3, d4⟩ := w_step hW i1 hg
      rw [d3]
      refine ⟨d4, ?_⟩
      show (wIt w h nd go mean fl nb dO wg BG Y fd s i).2.2 + _ ≤ _
      omega

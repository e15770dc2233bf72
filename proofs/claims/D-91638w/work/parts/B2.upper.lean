/-! PLAIN: bounds of values by what is not seen -/
def zUk (cd : Nat) : Nat → Nat
  | 0 => 0
  | d + 1 => zUk cd d + (if zD cd d = 0 then 1 else 0)
theorem zUk_le {cd : Nat} : ∀ d, zUk cd d ≤ d := by
  intro d
  induction d with
  | zero => exact Nat.le_refl _
  | succ d ih =>
    simp only [zUk]
    split <;> omega
theorem z_upP {al : Nat → Nat} {cd e k : Nat} (hcd : cd < 1024) (he : e < 5) (hk : k < 3) (h0 : zD cd e = 0) : ∀ d, d ≤ 5 → (d ≤ e → zPr al (cd + (k + 1) * 4 ^ e) d = zPr al cd d ∧ zUk (cd + (k + 1) * 4 ^ e) d = zUk cd d) ∧ (e < d → zPr al (cd + (k + 1) * 4 ^ e) d * al e = zPr al cd d ∧ zUk (cd + (k + 1) * 4 ^ e) d + 1 = zUk cd d) := by
  obtain ⟨u1, u2, u3⟩ := zD_up hcd he hk h0
  intro d
  induction d with
  | zero => intro _; exact ⟨fun _ => ⟨rfl, rfl⟩, fun z => by omega⟩
  | succ d ih =>
    intro hd
    obtain ⟨i1, i2⟩ := ih (by omega)
    simp only [zPr, zUk]
    by_cases h : d = e
    · subst h
      obtain ⟨a1, a2⟩ := i1 (by omega)
      refine ⟨fun z => by omega, fun _ => ?_⟩
      rw [a1, a2, u2, if_pos h0, if_neg (by omega), if_neg (by omega), if_pos h0]
      exact ⟨by rw [Nat.mul_one], by omega⟩
    · rw [u3 d (by omega) h]
      refine ⟨fun z => ?_, fun z => ?_⟩
      · obtain ⟨a1, a2⟩ := i1 (by omega)
        rw [a1, a2]
        exact ⟨rfl, rfl⟩
      · obtain ⟨a1, a2⟩ := i2 (by omega)
        rw [← a1, ← a2]
        refine ⟨?_, by omega⟩
        rw [Nat.mul_right_comm]
theorem zOv_b0 {wt val : Nat → Nat} {B : Nat} : ∀ (m k acc : Nat), acc ≤ B → (∀ j, k ≤ j → j < k + m → val j < 1000000000000000 → val j ≤ B) → zOv 0 wt val m k acc = 1000000000000000 ∨ zOv 0 wt val m k acc ≤ B := by
  intro m
  induction m with
  | zero => intro k acc h1 h2; exact Or.inr h1
  | succ m ih =>
    intro k acc h1 h2
    rw [zOv]
    by_cases h : val k < 1000000000000000
    · rw [if_pos h, if_pos rfl]
      have := h2 k (by omega) (by omega) h
      refine ih (k + 1) _ ?_ (fun j d1 d2 d3 => h2 j (by omega) (by omega) d3)
      split <;> omega
    · rw [if_neg h]; exact Or.inl rfl
theorem zOv_b1 {wt val : Nat → Nat} {B : Nat} : ∀ (m k acc : Nat), (∀ j, k ≤ j → j < k + m → val j < 1000000000000000 → val j ≤ B) → zOv 1 wt val m k acc = 1000000000000000 ∨ zOv 1 wt val m k acc + zSum wt k * B ≤ acc + zSum wt (k + m) * B := by
  intro m
  induction m with
  | zero => intro k acc h2; exact Or.inr (Nat.le_refl _)
  | succ m ih =>
    intro k acc h2
    rw [zOv]
    by_cases h : val k < 1000000000000000
    · rw [if_pos h, if_neg (by decide)]
      have h3 := h2 k (by omega) (by omega) h
      rcases ih (k + 1) (acc + wt k * val k) (fun j d1 d2 d3 => h2 j (by omega) (by omega) d3) with h4 | h4
      · exact Or.inl h4
      · right
        have h5 : wt k * val k ≤ wt k * B := Nat.mul_le_mul_left _ h3
        simp only [zSum] at h4
        rw [Nat.add_mul, show k + 1 + m = k + (m + 1) from by omega] at h4
        omega
    · rw [if_neg h]; exact Or.inl rfl
/-- all that the model has at hand for a goal: base of its solving -/
def zBs (s1 : Nat → Int32) (s2 : Nat → Nat → Int32) (w h n nd ng : Nat) (fl nb mn : Nat → Nat) (dO kn : Nat → Int) (kd wt : Nat → Nat → Nat) (BG : Nat → Nat → Nat → Nat) : Prop := zFl s1 s2 w h n nd ng fl dO kd mn BG ∧ zKn s1 s2 nd ng mn kn kd ∧ (∀ c, c < n → s2 72 c = iI (nb c) ∧ nb c < 32) ∧ (∀ e k, e < nd → k < mn e → s2 46 (8 * e + kd e k) = iI (wt e k) ∧ 1 ≤ wt e k ∧ wt e k ≤ 9) ∧ (∀ e, e < nd → 1 ≤ mn e) ∧ ∀ c y g, c < n → y < 4 → g < ng → BG c y g ≤ 30071
def zCan (nd : Nat) (mn : Nat → Nat) (kn : Nat → Int) (kd : Nat → Nat → Nat) (cd : Nat) : Prop := ∀ e, e < 5 → zC1 nd mn kn kd cd e
theorem zCan_up {nd : Nat} {mn : Nat → Nat} {kn : Nat → Int} {kd : Nat → Nat → Nat} {cd e k : Nat} (h : zCan nd mn kn kd cd) (hcd : cd < 1024) (hnd : nd ≤ 5) (he : e < nd) (hm : mn e ≤ 3) (hk : k < mn e) (h0 : zD cd e = 0) : zCan nd mn kn kd (cd + (k + 1) * 4 ^ e) := by
  obtain ⟨u1, u2, u3⟩ := zD_up (k := k) hcd (by omega : e < 5) (by omega) h0
  intro j hj
  by_cases x : j = e
  · subst x
    refine ⟨fun z => by omega, fun _ => ⟨by omega, fun z => ?_⟩⟩
    exact absurd h0 (((h j hj).2 he).2 z).1
  · unfold zC1
    rw [u3 j hj x]
    exact h j hj
def zSc (mean nd : Nat) (mn : Nat → Nat) (wt : Nat → Nat → Nat) (cd : Nat) : Nat := if mean = 0 then 1 else zPr (fun e => zSum (wt e) (mn e)) cd nd
def zBd (mean nd : Nat) (mn : Nat → Nat) (wt : Nat → Nat → Nat) (cd : Nat) : Nat := (zUk cd nd + 1) * (3007100 * zSc mean nd mn wt cd)
theorem zSc_b {mean nd cd : Nat} {mn : Nat → Nat} {wt : Nat → Nat → Nat} (hnd : nd ≤ 5) (hm : ∀ e, e < nd → 1 ≤ mn e ∧ mn e ≤ 3) (hw : ∀ e k, e < nd → k < mn e → 1 ≤ wt e k ∧ wt e k ≤ 9) : 1 ≤ zSc mean nd mn wt cd ∧ zSc mean nd mn wt cd ≤ 14348907 := by
  unfold zSc
  split
  · omega
  · obtain ⟨a1, a2⟩ := zPr_b (al := fun e => zSum (wt e) (mn e)) (cd := cd) nd (fun j hj => zSum_27 (hm j hj) (fun k hk => hw j k hj hk))
    refine ⟨a1, Nat.le_trans a2 ?_⟩
    exact Nat.le_trans (Nat.pow_le_pow_right (by decide) hnd) (by decide)
theorem zBd_b {mean nd cd : Nat} {mn : Nat → Nat} {wt : Nat → Nat → Nat} (hnd : nd ≤ 5) (hm : ∀ e, e < nd → 1 ≤ mn e ∧ mn e ≤ 3) (hw : ∀ e k, e < nd → k < mn e → 1 ≤ wt e k ∧ wt e k ≤ 9) : zBd mean nd mn wt cd < 300000000000000 := by
  have h1 := zSc_b (mean := mean) (cd := cd) hnd hm hw
  have h2 := zUk_le (cd := cd) nd
  have h3 : (zUk cd nd + 1) * (3007100 * zSc mean nd mn wt cd) ≤ 6 * (3007100 * 14348907) := Nat.mul_le_mul (by omega) (Nat.mul_le_mul_left _ h1.2)
  unfold zBd
  omega
/-- the value of a cell where something new is seen -/
theorem z_new {mean nd cd e : Nat} {mn : Nat → Nat} {wt : Nat → Nat → Nat} {val : Nat → Nat} (hcd : cd < 1024) (hnd : nd ≤ 5) (he : e < nd) (hmn : mn e ≤ 3) (hs : 0 < zSum (wt e) (mn e)) (h0 : zD cd e = 0) (hm : mean = 0 ∨ mean = 1) (hv : ∀ k, k < mn e → val k < 1000000000000000 → val k ≤ zBd mean nd mn wt (cd + (k + 1) * 4 ^ e)) : zOv mean (wt e) val (mn e) 0 0 = 1000000000000000 ∨ zOv mean (wt e) val (mn e) 0 0 ≤ zUk cd nd * (3007100 * zSc mean nd mn wt cd) := by
  rcases hm with hm | hm
  · subst hm
    refine zOv_b0 _ _ _ (Nat.zero_le _) (fun j _ hj hf => ?_)
    have h1 := hv j (by omega) hf
    have h2 := ((z_upP (al := fun e => zSum (wt e) (mn e)) (k := j) hcd (by omega : e < 5) (by omega) h0 nd hnd).2 he).2
    unfold zBd at h1
    rw [h2] at h1
    exact h1
  · subst hm
    by_cases hz : mn e = 0
    · right
      rw [hz, zOv]
      exact Nat.zero_le _
    · have hp : ∀ k, k < mn e → zBd 1 nd mn wt (cd + (k + 1) * 4 ^ e) = zBd 1 nd mn wt (cd + (0 + 1) * 4 ^ e) ∧ zSum (wt e) (mn e) * zBd 1 nd mn wt (cd + (k + 1) * 4 ^ e) = zUk cd nd * (3007100 * zSc 1 nd mn wt cd) := fun k hk => by
        obtain ⟨a1, a2⟩ := (z_upP (al := fun e => zSum (wt e) (mn e)) (k := k) hcd (by omega : e < 5) (by omega) h0 nd hnd).2 he
        obtain ⟨b1, b2⟩ := (z_upP (al := fun e => zSum (wt e) (mn e)) (k := 0) hcd (by omega : e < 5) (by omega) h0 nd hnd).2 he
        have key : ∀ c', zPr (fun e => zSum (wt e) (mn e)) c' nd * zSum (wt e) (mn e) = zPr (fun e => zSum (wt e) (mn e)) cd nd → zUk c' nd + 1 = zUk cd nd → zSum (wt e) (mn e) * zBd 1 nd mn wt c' = zUk cd nd * (3007100 * zSc 1 nd mn wt cd) := fun c' q1 q2 => by
          unfold zBd zSc
          rw [if_neg (by decide), if_neg (by decide), q2, ← q1, Nat.mul_left_comm, Nat.mul_left_comm (zSum (wt e) (mn e)) 3007100, Nat.mul_comm (zSum (wt e) (mn e))]
        refine ⟨?_, key _ a1 a2⟩
        have k1 := key _ a1 a2
        have k2 := key _ b1 b2
        exact Nat.eq_of_mul_eq_mul_left hs (k1.trans k2.symm)
      rcases zOv_b1 (wt := wt e) (val := val) (B := zBd 1 nd mn wt (cd + (0 + 1) * 4 ^ e)) (mn e) 0 0 (fun j _ hj hf => by rw [← (hp j (by omega)).1]; exact hv j (by omega) hf) with h | h
      · exact Or.inl h
      · right
        have q := (hp 0 (by omega)).2
        rw [show 0 + mn e = mn e from Nat.zero_add _, q] at h
        omega

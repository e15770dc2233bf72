/-! PLAIN: how great values can be -/
def zI (lo : Nat) (X : Nat → Nat) (d : Nat) : Nat := if lo < X d ∧ X d < 1000000000000000 then 1 else 0
theorem zI_mono {lo hi : Nat} {X : Nat → Nat} (h : lo ≤ hi) (d : Nat) : zI hi X d ≤ zI lo X d := by
  unfold zI
  split
  · rename_i h1
    rw [if_pos ⟨by omega, h1.2⟩]
    exact Nat.le_refl _
  · omega
theorem z_hit {n : Nat} {X : Nat → Nat} {ed : Nat → Nat → Option (Nat × Nat)} {fr : Nat → Prop} {B E lo : Nat} (he : ∀ c y d k, c < n → ed c y = some (d, k) → d < n ∧ 1 ≤ k ∧ k ≤ E) (hX : ∀ c, c < n → fr c → zB X ed c) (hB : ∀ c, c < n → ¬ fr c → X c < 1000000000000000 → X c ≤ B) (hlo : B ≤ lo) : ∀ (m c : Nat), c < n → X c = m → lo + E < m → m < 1000000000000000 → ∃ d, d < n ∧ lo < X d ∧ X d ≤ lo + E ∧ X d < 1000000000000000 := by
  intro m
  induction m using Nat.strongRecOn with
  | ind m ih =>
    intro c hc hm h1 h2
    by_cases h : fr c
    · obtain ⟨-, -, h3⟩ := hX c hc h
      obtain ⟨y, d, k, e, hd, hk⟩ := h3 (by omega)
      obtain ⟨a1, a2, a3⟩ := he c y d k hc e
      by_cases h4 : X d ≤ lo + E
      · exact ⟨d, a1, by omega, h4, hd⟩
      · exact ih (X d) (by omega) d a1 rfl (by omega) hd
    · have := hB c hc h (by omega)
      omega
theorem z_cnt {n : Nat} {X : Nat → Nat} {ed : Nat → Nat → Option (Nat × Nat)} {fr : Nat → Prop} {B E : Nat} (he : ∀ c y d k, c < n → ed c y = some (d, k) → d < n ∧ 1 ≤ k ∧ k ≤ E) (hX : ∀ c, c < n → fr c → zB X ed c) (hB : ∀ c, c < n → ¬ fr c → X c < 1000000000000000 → X c ≤ B) : ∀ j, (∃ c, c < n ∧ B + j * E < X c ∧ X c < 1000000000000000) → zSum (zI (B + j * E) X) n + j ≤ zSum (zI B X) n := by
  intro j
  induction j with
  | zero =>
    intro _
    rw [Nat.zero_mul]
    exact Nat.le_refl _
  | succ j ih =>
    rintro ⟨c, h1, h2, h3⟩
    rw [Nat.succ_mul] at h2 ⊢
    have i1 := ih ⟨c, h1, by omega, h3⟩
    obtain ⟨d, d1, d2, d3, d4⟩ := z_hit (lo := B + j * E) he hX hB (by omega) (X c) c h1 rfl (by omega) h3
    have i2 : zSum (zI (B + (j * E + E)) X) n < zSum (zI (B + j * E) X) n := by
      refine zSum_lt (fun d => zI_mono (by omega) d) (d := d) ?_ n d1
      unfold zI
      rw [if_neg (by omega), if_pos ⟨d2, d4⟩]
      decide
    omega
theorem z_bd {n : Nat} {X : Nat → Nat} {ed : Nat → Nat → Option (Nat × Nat)} {fr : Nat → Prop} {B E : Nat} (he : ∀ c y d k, c < n → ed c y = some (d, k) → d < n ∧ 1 ≤ k ∧ k ≤ E) (hX : ∀ c, c < n → fr c → zB X ed c) (hB : ∀ c, c < n → ¬ fr c → X c < 1000000000000000 → X c ≤ B) (c : Nat) (hc : c < n) (hf : X c < 1000000000000000) : X c ≤ B + n * E := by
  apply Classical.byContradiction
  intro hno
  have h1 := z_cnt he hX hB n ⟨c, hc, by omega, hf⟩
  have h2 : zSum (zI B X) n ≤ n * 1 := zSum_b n (fun d _ => by unfold zI; split <;> omega)
  have h3 : zSum (fun _ => 0) n < zSum (zI (B + n * E) X) n := by
    refine zSum_lt (fun d => Nat.zero_le _) (d := c) ?_ n hc
    unfold zI
    rw [if_pos ⟨by omega, hf⟩]
    decide
  omega

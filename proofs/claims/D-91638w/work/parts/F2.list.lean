/-! PLAIN: the list of cells while the class goes -/
/-- a list that had room for m0 and is filled with k things: its room, slots and cells made -/
def lSt (m0 : Nat) : Nat → Nat × Nat × Nat
  | 0 => (m0, 0, 0)
  | k + 1 => if k < (lSt m0 k).1 then lSt m0 k else (lGr (lSt m0 k).1, (lSt m0 k).2.1 + lGr (lSt m0 k).1, (lSt m0 k).2.2 + 1)
/-- the small Integers -/
def zInt (g : uEnv) (u : UH) : Prop := ∀ k : Nat, k < 256 → u.2.2 (g.2.2 k) = some (.inr (21, [.int (vb_c k)]))
theorem uOld.kH {u : UH} {sa : Nat → Nat} {V : Nat → Int64} {D P : Nat → Int32} (h : uOld u) (hi : kIs u sa) : uOld (kH u sa V D P) := fun x e hx => by
  obtain ⟨⟨z4, i4⟩, ⟨z5, i5⟩, z6, i6⟩ := hi
  show x < u.1
  by_cases e4 : x = sa 4
  · rw [e4]; exact h _ _ i4
  · by_cases e5 : x = sa 5
    · rw [e5]; exact h _ _ i5
    · by_cases e6 : x = sa 6
      · rw [e6]; exact h _ _ i6
      · rw [kH_n e4 e5 e6] at hx
        exact h _ _ hx
/-- k cells p stand in the list cl; of the heap u0 else only the solver's values have changed -/
def gLs (b : Nat) (g : uEnv) (u0 : UH) (sa : Nat → Nat) (cl a0 m0 k : Nat) (p : Nat → Nat) (u : UH) (arr : Nat) : Prop := uOld u ∧ (∃ (mc : Int32) (xs : Nat → Option Nat), vLs u cl arr k (lSt m0 k).1 mc xs ∧ ∀ j, j < k → xs j = some (g.2.2 (p j + 128))) ∧ (∀ x, x ≠ cl → (m0 ≠ 0 → x ≠ a0) → x ≠ sa 4 → x ≠ sa 5 → x ≠ sa 6 → x < u0.1 → u.2.2 x = u0.2.2 x) ∧ u.1 = u0.1 + (lSt m0 k).2.2 ∧ u.2.1 = u0.2.1 + (lSt m0 k).2.1 ∧ ((arr = a0 ∧ (lSt m0 k).1 = m0) ∨ u0.1 ≤ arr) ∧ ((lSt m0 k).1 ≠ 0 → b ≤ arr) ∧ ((lSt m0 k).1 = 0 → g.1 10 = some arr)
theorem gLs.kH {b : Nat} {g : uEnv} {u0 u : UH} {sa : Nat → Nat} {cl a0 m0 k arr : Nat} {p : Nat → Nat} {V : Nat → Int64} {D P : Nat → Int32} (hi : kIs u sa) (h : gLs b g u0 sa cl a0 m0 k p u arr) : gLs b g u0 sa cl a0 m0 k p (kH u sa V D P) arr := by
  obtain ⟨h1, ⟨mc, xs, ⟨x1, x2, x3⟩, x4⟩, h3, h4, h5, h6⟩ := h
  refine ⟨h1.kH hi, ⟨mc, xs, ⟨kH_r hi x1, kH_l hi x2 (by decide) (by decide), x3⟩, x4⟩, fun x a1 a2 a3 a4 a5 a6 => ?_, h4, h5, h6⟩
  rw [kH_n a3 a4 a5]
  exact h3 x a1 a2 a3 a4 a5 a6
theorem g_add {N b : Nat} {g : uEnv} {u0 u : UH} {sa : Nat → Nat} {cl a0 m0 k arr mi : Nat} {p : Nat → Nat} (h : gLs b g u0 sa cl a0 m0 k p u arr) (hz : zInt g u) (hp : ∀ j, j ≤ k → p j < 100) (hb : b ≤ cl) (hbu : b ≤ u0.1) (h20 : g.1 20 = some mi) (hk : k < 1300) : ∃ (u' : UH) (arr' : Nat), f_J2_add N b g u cl (some (g.2.2 (p k + 128))) = some (1, u') ∧ gLs b g u0 sa cl a0 m0 (k + 1) p u' arr' ∧ lKp u u' cl arr (k < (lSt m0 k).1) ∧ u.1 ≤ u'.1 := by
  obtain ⟨h1, ⟨mc, xs, x1, x4⟩, h3, h4, h5, h6, h7, h8⟩ := h
  have ob : ∀ j, j ≤ k → uObj u (g.2.2 (p j + 128)) = true := fun j hj => u_obj (hz _ (by have := hp j hj; omega))
  obtain ⟨u', arr', m', xs', r1, r2, r3, r4, r5, r6, r7, r8⟩ := l_add (N := N) (b := b) (g := g) (v := g.2.2 (p k + 128)) x1 h1 hb (by omega) (fun q => h7 (by omega)) h8 h20 (fun i hi => by
    rw [x4 i hi]
    exact ob i (by omega)) hk (ob k (Nat.le_refl _))
  have km := x1.2.2.1
  refine ⟨u', arr', r1, ⟨r6, ⟨mc + 1, xs', ?_, fun j hj => ?_⟩, fun x a1 a2 a3 a4 a5 a6 => ?_, ?_, ?_, ?_, fun _ => r7, fun q => ?_⟩, fun x e hx a1 a2 => ?_, ?_⟩
  · rw [lSt]
    rcases r8 with ⟨q1, q2, q3, -⟩ | ⟨q1, q2, q3, -⟩
    · rw [if_pos q1, ← q3]
      exact r2
    · rw [if_neg (by omega)]
      show vLs u' cl arr' (k + 1) (lGr (lSt m0 k).1) (mc + 1) xs'
      rw [← q3]
      exact r2
  · by_cases e : j = k
    · rw [e]
      exact r4
    · rw [r3 j (by omega)]
      exact x4 j (by omega)
  · rw [r5 x a1 (fun q => by
      rcases h6 with ⟨q1, q2⟩ | q1
      · rw [q1]
        exact a2 (by omega)
      · omega) (by omega)]
    exact h3 x a1 a2 a3 a4 a5 a6
  · rw [lSt]
    rcases r8 with ⟨q1, -, -, q4, -⟩ | ⟨q1, -, -, q4, -⟩
    · rw [if_pos q1, q4, h4]
    · rw [if_neg (by omega), q4, h4]
      rfl
  · rw [lSt]
    rcases r8 with ⟨q1, -, -, -, q5⟩ | ⟨q1, -, -, -, q5⟩
    · rw [if_pos q1, q5, h5]
    · rw [if_neg (by omega), q5, h5]
      show u0.2.1 + (lSt m0 k).2.1 + lGr (lSt m0 k).1 = u0.2.1 + ((lSt m0 k).2.1 + lGr (lSt m0 k).1)
      omega
  · rcases r8 with ⟨q1, q2, -⟩ | ⟨-, q2, -⟩
    · rw [q2, lSt, if_pos q1]
      exact h6
    · right
      omega
  · have := r2.2.2.1
    rw [lSt] at q
    rcases r8 with ⟨q1, -⟩ | ⟨q1, -⟩
    · rw [if_pos q1] at q
      omega
    · rw [if_neg (by omega)] at q
      have hg := lGr_gt (m := (lSt m0 k).1)
      have q : lGr (lSt m0 k).1 = 0 := q
      omega
  · rw [r5 x a1 a2 (h1 x e hx)]
    exact hx
  · rcases r8 with ⟨-, -, -, q4, -⟩ | ⟨-, -, -, q4, -⟩ <;> omega

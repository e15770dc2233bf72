/-! PLAIN: the class's begin: the heap while costs are told -/
def bF (la : Nat → Nat) (bk w h : Nat) (v8 v9 v10 : Value) : List Value := [.ref bk, .int (iI w), .int (iI h), .ref (la 1), .ref (la 2), .ref (la 3), .ref (la 4), .ref (la 6), v8, v9, v10]
def bH (u : UH) (la sa : Nat → Nat) (F : List Value) (S C : Nat → Int32) : UH := (u.1, u.2.1, fun x => if x = la 0 then some (.inr (12, F)) else if x = sa 7 then some (.inl (0, 100, .inl S)) else if x = sa 8 then some (.inl (0, 3200, .inl C)) else u.2.2 x)
/-- apart: the map, sees, costs; from heights, grounds and the book -/
def bOk2 (b lo hi : Nat) (la sa : Nat → Nat) : Prop := (b ≤ la 0 ∧ b ≤ sa 7 ∧ b ≤ sa 8) ∧ (la 0 ≠ sa 7 ∧ la 0 ≠ sa 8 ∧ sa 7 ≠ sa 8) ∧ (la 1 ≠ sa 7 ∧ la 2 ≠ sa 7) ∧ (la 0 < lo ∨ hi ≤ la 0) ∧ (sa 7 < lo ∨ hi ≤ sa 7) ∧ (sa 8 < lo ∨ hi ≤ sa 8)
def bIs (u : UH) (la sa : Nat → Nat) : Prop := (∃ F, u.2.2 (la 0) = some (.inr (12, F))) ∧ (∃ z, u.2.2 (sa 7) = some (.inl (0, 100, z))) ∧ ∃ z, u.2.2 (sa 8) = some (.inl (0, 3200, z))
theorem bH_0 {u : UH} {la sa : Nat → Nat} {F : List Value} {S C : Nat → Int32} : (bH u la sa F S C).2.2 (la 0) = some (.inr (12, F)) := if_pos rfl
theorem bH_7 {b lo hi : Nat} {u : UH} {la sa : Nat → Nat} {F : List Value} {S C : Nat → Int32} (h : bOk2 b lo hi la sa) : (bH u la sa F S C).2.2 (sa 7) = some (.inl (0, 100, .inl S)) := (if_neg (Ne.symm h.2.1.1)).trans (if_pos rfl)
theorem bH_8 {b lo hi : Nat} {u : UH} {la sa : Nat → Nat} {F : List Value} {S C : Nat → Int32} (h : bOk2 b lo hi la sa) : (bH u la sa F S C).2.2 (sa 8) = some (.inl (0, 3200, .inl C)) := (if_neg (Ne.symm h.2.1.2.1)).trans ((if_neg (Ne.symm h.2.1.2.2)).trans (if_pos rfl))
theorem bH_n {u : UH} {la sa : Nat → Nat} {F : List Value} {S C : Nat → Int32} {x : Nat} (h0 : x ≠ la 0) (h7 : x ≠ sa 7) (h8 : x ≠ sa 8) : (bH u la sa F S C).2.2 x = u.2.2 x := (if_neg h0).trans ((if_neg h7).trans (if_neg h8))
theorem bH_r {u : UH} {la sa : Nat → Nat} {F : List Value} {S C : Nat → Int32} {x c : Nat} {G : List Value} (hi : bIs u la sa) (h : u.2.2 x = some (.inr (c, G))) (hc : c ≠ 12) : (bH u la sa F S C).2.2 x = some (.inr (c, G)) := by
  obtain ⟨⟨z0, i0⟩, ⟨z7, i7⟩, z8, i8⟩ := hi
  rw [bH_n (fun e => by rw [e, i0] at h; cases h; exact hc rfl) (fun e => by rw [e, i7] at h; cases h) (fun e => by rw [e, i8] at h; cases h)]
  exact h
theorem bH_l {u : UH} {la sa : Nat → Nat} {F : List Value} {S C : Nat → Int32} {x t m : Nat} {z : uVs} (hi : bIs u la sa) (h : u.2.2 x = some (.inl (t, m, z))) (h7 : t ≠ 0 ∨ x ≠ sa 7) (h8 : t ≠ 0 ∨ m ≠ 3200) : (bH u la sa F S C).2.2 x = some (.inl (t, m, z)) := by
  obtain ⟨⟨z0, i0⟩, ⟨z7, i7⟩, z8, i8⟩ := hi
  rw [bH_n (fun e => by rw [e, i0] at h; cases h) (fun e => by
    rcases h7 with q | q
    · rw [e, i7] at h; cases h; exact q rfl
    · exact q e) (fun e => by
    rw [e, i8] at h; cases h
    rcases h8 with q | q <;> exact q rfl)]
  exact h
theorem bH_same {b lo hi : Nat} {u : UH} {la sa : Nat → Nat} {F : List Value} {S C : Nat → Int32} (h : bOk2 b lo hi la sa) : uSame b lo hi u (bH u la sa F S C) := fun x hx => by
  obtain ⟨⟨a1, a2, a3⟩, -, -, a4, a5, a6⟩ := h
  unfold vIn at hx
  exact bH_n (by omega) (by omega) (by omega)
theorem vLd.bH {b lo hi : Nat} {u : UH} {la da wa sa : Nat → Nat} {S C : Nat → Int32} {g : uEnv} {bk : Nat} {v8 v9 v10 w8 w9 w10 : Value} {w h n nd : Nat} {hts : Nat → Int} {fl : Nat → Nat} {dO kn : Nat → Int} {wg : Nat → Nat → Nat} (hk : bOk2 b lo hi la sa) (hi' : bIs u la sa) (hL : vLd u g la da wa bk v8 v9 v10 w h n nd hts fl dO kn wg) : vLd (bH u la sa (bF la bk w h w8 w9 w10) S C) g la da wa bk w8 w9 w10 w h n nd hts fl dO kn wg := by
  obtain ⟨l0, hw, hh, hn, hnd, ⟨hf, a1, a2⟩, ⟨gf, g1, g2⟩, ⟨df, f1, f2⟩, ⟨m, mc, xs, ⟨x1, x2, x3⟩, x4⟩, ⟨yf, wr, y1, y2⟩, hdd⟩ := hL
  have m4 : w * h ≤ 10 * 10 := Nat.mul_le_mul hw.2 hh.2
  refine ⟨bH_0, hw, hh, hn, hnd, ⟨hf, bH_l hi' a1 (Or.inr hk.2.2.1.1) (Or.inr (by omega)), a2⟩, ⟨gf, bH_l hi' g1 (Or.inr hk.2.2.1.2) (Or.inr (by omega)), g2⟩, ⟨df, bH_l hi' f1 (Or.inl (by decide)) (Or.inl (by decide)), f2⟩, ⟨m, mc, xs, ⟨bH_r hi' x1 (by decide), bH_l hi' x2 (Or.inl (by decide)) (Or.inl (by decide)), x3⟩, x4⟩, ⟨yf, wr, bH_l hi' y1 (Or.inl (by decide)) (Or.inl (by decide)), y2⟩, fun e he => ?_⟩
  obtain ⟨⟨d1, wf, d2, d3⟩, d4⟩ := hdd e he
  refine ⟨⟨bH_r hi' d1 (by decide), wf, bH_l hi' d2 (Or.inr (fun e7 => ?_)) (Or.inr (by decide)), d3⟩, d4⟩
  obtain ⟨-, ⟨z7, i7⟩, -⟩ := hi'
  rw [e7, i7] at d2
  cases d2
theorem bH_set0 {u : UH} {la sa : Nat → Nat} {F F' : List Value} {S C : Nat → Int32} : uSet (bH u la sa F S C) (la 0) (.inr (12, F')) = bH u la sa F' S C := by
  refine Prod.ext rfl (Prod.ext rfl ?_)
  funext x
  by_cases h : x = la 0
  · rw [h, u_ss, bH_0]
  · rw [u_sn h]
    exact (if_neg h).trans (if_neg h).symm
theorem bH_set7 {b lo hi : Nat} {u : UH} {la sa : Nat → Nat} {F : List Value} {S S' C : Nat → Int32} (hk : bOk2 b lo hi la sa) : uSet (bH u la sa F S C) (sa 7) (.inl (0, 100, .inl S')) = bH u la sa F S' C := by
  refine Prod.ext rfl (Prod.ext rfl ?_)
  funext x
  by_cases h : x = sa 7
  · rw [h, u_ss, bH_7 hk]
  · rw [u_sn h]
    by_cases h0 : x = la 0
    · rw [h0, bH_0, bH_0]
    · exact (if_neg h0).trans ((if_neg h).trans ((if_neg h0).trans (if_neg h)).symm)
theorem bH_set8 {b lo hi : Nat} {u : UH} {la sa : Nat → Nat} {F : List Value} {S C C' : Nat → Int32} (hk : bOk2 b lo hi la sa) : uSet (bH u la sa F S C) (sa 8) (.inl (0, 3200, .inl C')) = bH u la sa F S C' := by
  refine Prod.ext rfl (Prod.ext rfl ?_)
  funext x
  by_cases h : x = sa 8
  · rw [h, u_ss, bH_8 hk]
  · rw [u_sn h]
    by_cases h0 : x = la 0
    · rw [h0, bH_0, bH_0]
    · by_cases h7 : x = sa 7
      · rw [h7, bH_7 hk, bH_7 hk]
      · rw [bH_n h0 h7 h, bH_n h0 h7 h]
/-- Land.why over such a heap -/
theorem b_why {N b lo hi : Nat} {u : UH} {la da wa sa : Nat → Nat} {S C : Nat → Int32} {g : uEnv} {bk al c way r q : Nat} {rv : Int32} {nm : Nat → Nat} {B : bBk} {dead : Int} {v8 v9 v10 w8 w9 w10 : Value} {w h n nd : Nat} {hts : Nat → Int} {fl : Nat → Nat} {dO kn : Nat → Int} {wg : Nat → Nat → Nat} (hk : bOk2 b lo hi la sa) (hi' : bIs u la sa) (hL : vLd u g la da wa bk v8 v9 v10 w h n nd hts fl dO kn wg) (vB : vBk u b lo hi bk al rv nm B) (hB : bOk B) (hr : uWay g r = some way) (hc : c < n) (hq : q < B.2.1) (hdr : 0 ≤ dead ∧ dead ≤ 5) (hN : 92 ≤ N) : f_X14_why N b g (bH u la sa (bF la bk w h w8 w9 w10) S C) (la 0) (iI c) (some r) (iI q) (iI dead) = some (iI (bWhy B dead hts w h c way q), bH u la sa (bF la bk w h (.int (iI (bN3 B dead hts w h c way q).1)) (.int (iI (bN3 B dead hts w h c way q).2.1)) (.int (iI (bN3 B dead hts w h c way q).2.2))) S C) := by
  have hLb := hL.bH (S := S) (C := C) (w8 := w8) (w9 := w9) (w10 := w10) hk hi'
  obtain ⟨l0, hw, hh, hn, hnd, ⟨hf, a1, a2⟩, -⟩ := hLb
  rw [L_why l0 hn a1 a2 hk.1.1 hk.2.2.2.1 (vB.same (bH_same hk)) hB hr hw hh (hn ▸ hc) hq hdr hN]
  rw [bH_set0]
  rfl

/-! PLAIN: a map as σ has it; the model's solve, whole -/
/-- the map: B the book, hts heights, fl grounds, dO doubts by cell, kn what is known of doubts, dc their cells, wg their weights -/
def mLand (σ : MS) (B : bBk) (dead : Int) (w h n nd : Nat) (hts : Nat → Int) (fl : Nat → Nat) (dO kn : Nat → Int) (dc : Nat → Nat) (wg : Nat → Nat → Nat) : Prop := mMap σ B dead w h hts ∧ n = w * h ∧ σ.1 37 = iI nd ∧ nd ≤ 5 ∧ (∀ c, c < n → σ.2.1 42 c = iI (fl c) ∧ fl c < B.2.1 ∧ σ.2.1 43 c = iI (dO c) ∧ -1 ≤ dO c ∧ dO c < nd) ∧ (∀ e, e < nd → σ.2.1 44 e = iI (dc e) ∧ dc e < n ∧ σ.2.1 45 e = iI (kn e) ∧ -1 ≤ kn e ∧ kn e < B.2.1) ∧ ∀ e, e < nd → (∀ g, g < 8 → σ.2.1 46 (8 * e + g) = iI (wg e g) ∧ wg e g ≤ 9 ∧ (wg e g ≠ 0 → g < B.2.1)) ∧ 1 ≤ zCn (wg e) 8 ∧ zCn (wg e) 8 ≤ 3
def yBs (s1 : Nat → Int32) (s2 : Nat → Nat → Int32) (B : bBk) (dead : Int) (w h n nd : Nat) (hts : Nat → Int) (fl : Nat → Nat) (dO kn : Nat → Int) (dc : Nat → Nat) (wg : Nat → Nat → Nat) : Prop := zBs s1 s2 w h n nd B.2.1 fl (fun c => zNb w h dc c nd) (fun e => zCn (wg e) 8) dO kn (fun e k => zKd (wg e) k) (fun e k => wg e (zKd (wg e) k)) (zBG B dead hts w h)
def yCan (nd : Nat) (kn : Nat → Int) (wg : Nat → Nat → Nat) (cd : Nat) : Prop := zCan nd (fun e => zCn (wg e) 8) kn (fun e k => zKd (wg e) k) cd
def ySl (V : Nat → Int64) (B : bBk) (dead : Int) (w h n nd : Nat) (hts : Nat → Int) (fl : Nat → Nat) (dO : Nat → Int) (dc : Nat → Nat) (wg : Nat → Nat → Nat) (go mean cd : Nat) : Prop := zSl V w h n nd fl (fun c => zNb w h dc c nd) (fun e => zCn (wg e) 8) dO (fun e k => zKd (wg e) k) (fun e k => wg e (zKd (wg e) k)) (zBG B dead hts w h) go mean cd
theorem m_prep {N : Nat} {s1 : Nat → Int32} {s2 : Nat → Nat → Int32} {V : Nat → Int64} {B : bBk} {dead : Int} {w h n nd : Nat} {hts : Nat → Int} {fl : Nat → Nat} {dO kn : Nat → Int} {dc : Nat → Nat} {wg : Nat → Nat → Nat} (hL : mLand (s1, s2, V) B dead w h n nd hts fl dO kn dc wg) (hN : 200 ≤ N) : ∃ R2 R3 A A' : Nat → Int32, f_prepares N (s1, s2, V) = some (s1, zRow (zRow (zRow (zRow s2 52 R2) 53 R3) 71 A) 72 A', V) ∧ yBs s1 (zRow (zRow (zRow (zRow s2 52 R2) 53 R3) 71 A) 72 A') B dead w h n nd hts fl dO kn dc wg := by
  obtain ⟨hM, hn, e3, hnd, h4, h5, h6⟩ := hL
  have hM' := hM
  obtain ⟨hB, hm, hde, hdr, e1, e2, hw, hh, hht⟩ := hM
  have b5 := hB.2.2.2.2.2.1
  have m4 : w * h ≤ 10 * 10 := Nat.mul_le_mul hw.2 hh.2
  obtain ⟨R2, R3, a1, a2⟩ := m_lists (N := N) (s1 := s1) (s2 := s2) (V := V) (wg := wg) e3 hnd (fun d g hd hg => ⟨((h6 d hd).1 g hg).1, ((h6 d hd).1 g hg).2.1⟩) (fun d hd => (h6 d hd).2.2) (by omega)
  have hM2 : mMap (s1, zRow (zRow s2 52 R2) 53 R3, V) B dead w h hts := hM'
  obtain ⟨A, A', b1, b2, -, -⟩ := m_pr6 (N := N) (s2 := zRow (zRow s2 52 R2) 53 R3) (dc := dc) hM2 hn e3 hnd (fun e he => ⟨(h5 e he).1, (h5 e he).2.1⟩) (by omega) N 0 (zRow (zRow s2 52 R2) 53 R3 71) (zRow (zRow s2 52 R2) 53 R3 72) (by omega) (by omega)
  have hid : zRow (zRow (zRow (zRow s2 52 R2) 53 R3) 71 (zRow (zRow s2 52 R2) 53 R3 71)) 72 (zRow (zRow s2 52 R2) 53 R3 72) = zRow (zRow s2 52 R2) 53 R3 := by rw [zRow_id, zRow_id]
  rw [hid] at b1
  refine ⟨R2, R3, A, A', ?_, ?_⟩
  · unfold f_prepares
    rw [a1, q_mv]
    exact b1
  · have kk : ∀ e k, e < nd → k < zCn (wg e) 8 → zKd (wg e) k < 8 ∧ wg e (zKd (wg e) k) ≠ 0 ∧ zKd (wg e) k < B.2.1 := fun e k he hk => by
      obtain ⟨q1, q2⟩ := zKd_ok hk
      exact ⟨q1, q2, ((h6 e he).1 _ q1).2.2 q2⟩
    refine ⟨⟨e1, e2, hw, hh, hn, hnd, b5, fun c hc => h4 c hc, fun e k he hk => ⟨(a2 e he).2 k hk, (kk e k he hk).2.2⟩, fun e he => (h6 e he).2.2, fun c y g hc hy hg => (b2 c (by omega) hc).2 y g hy hg⟩, ⟨e3, hnd, b5, fun e he => ⟨(a2 e he).1, (h6 e he).2.2, (h5 e he).2.2.1, (h5 e he).2.2.2.1, (h5 e he).2.2.2.2, fun k hk => ⟨(a2 e he).2 k hk, (kk e k he hk).2.2⟩⟩⟩, fun c hc => ⟨(b2 c (by omega) hc).1, ?_⟩, fun e k he hk => ?_, fun e he => (h6 e he).2.1, fun c y g hc hy hg => ?_⟩
    · exact Nat.lt_of_lt_of_le (zNb_lt nd) (Nat.pow_le_pow_right (by decide) hnd)
    · obtain ⟨q1, q2, q3⟩ := kk e k he hk
      obtain ⟨r1, r2, -⟩ := (h6 e he).1 _ q1
      exact ⟨r1, Nat.pos_of_ne_zero q2, r2⟩
    · unfold zBG
      by_cases h0 : bWhy B dead hts w h c y g = 0
      · rw [if_pos h0]
        have := bCost_b hB hdr hg h0
        omega
      · rw [if_neg h0]
        omega
/-- what is solved stays right -/
def mSol (σ : MS) (B : bBk) (dead : Int) (w h n nd : Nat) (hts : Nat → Int) (fl : Nat → Nat) (dO kn : Nat → Int) (dc : Nat → Nat) (wg : Nat → Nat → Nat) : Prop := ¬ σ.1 51 = 0 → σ.1 51 = 1 ∧ ∃ go mean : Nat, go < n ∧ (mean = 0 ∨ mean = 1) ∧ σ.1 49 = iI go ∧ σ.1 50 = iI mean ∧ yBs σ.1 σ.2.1 B dead w h n nd hts fl dO kn dc wg ∧ ∀ cd, cd < 1024 → yCan nd kn wg cd → ySl σ.2.2 B dead w h n nd hts fl dO dc wg go mean cd
/-- of σ only what solving uses has changed -/
def mKeep (σ σ' : MS) : Prop := (∀ k, k ≠ 49 → k ≠ 50 → k ≠ 51 → σ'.1 k = σ.1 k) ∧ ∀ j, j ≠ 52 → j ≠ 53 → j ≠ 70 → j ≠ 71 → j ≠ 72 → σ'.2.1 j = σ.2.1 j
theorem mKeep.refl {σ : MS} : mKeep σ σ := ⟨fun _ _ _ _ => rfl, fun _ _ _ _ _ _ => rfl⟩
theorem mKeep.land {σ σ' : MS} {B : bBk} {dead : Int} {w h n nd : Nat} {hts : Nat → Int} {fl : Nat → Nat} {dO kn : Nat → Int} {dc : Nat → Nat} {wg : Nat → Nat → Nat} (hk : mKeep σ σ') (hL : mLand σ B dead w h n nd hts fl dO kn dc wg) : mLand σ' B dead w h n nd hts fl dO kn dc wg := by
  obtain ⟨k1, k2⟩ := hk
  unfold mLand mMap mBk mLn at *
  rw [k1 37 (by decide) (by decide) (by decide), k1 38 (by decide) (by decide) (by decide), k1 35 (by decide) (by decide) (by decide), k1 36 (by decide) (by decide) (by decide), k1 24 (by decide) (by decide) (by decide), k1 25 (by decide) (by decide) (by decide), k1 26 (by decide) (by decide) (by decide), k1 27 (by decide) (by decide) (by decide), k1 28 (by decide) (by decide) (by decide), k1 22 (by decide) (by decide) (by decide), k2 41 (by decide) (by decide) (by decide) (by decide) (by decide), k2 42 (by decide) (by decide) (by decide) (by decide) (by decide), k2 43 (by decide) (by decide) (by decide) (by decide) (by decide), k2 44 (by decide) (by decide) (by decide) (by decide) (by decide), k2 45 (by decide) (by decide) (by decide) (by decide) (by decide), k2 46 (by decide) (by decide) (by decide) (by decide) (by decide), k2 18 (by decide) (by decide) (by decide) (by decide) (by decide), k2 19 (by decide) (by decide) (by decide) (by decide) (by decide), k2 20 (by decide) (by decide) (by decide) (by decide) (by decide), k2 21 (by decide) (by decide) (by decide) (by decide) (by decide)]
  exact hL
theorem m_solve {N : Nat} {σ : MS} {B : bBk} {dead : Int} {w h n nd go mean : Nat} {hts : Nat → Int} {fl : Nat → Nat} {dO kn : Nat → Int} {dc : Nat → Nat} {wg : Nat → Nat → Nat} (hL : mLand σ B dead w h n nd hts fl dO kn dc wg) (hS : mSol σ B dead w h n nd hts fl dO kn dc wg) (hgo : go < n) (hm : mean = 0 ∨ mean = 1) (hN : 200000000000000000 ≤ N) : ∃ σ' : MS, f_solve N σ (iI go) (iI mean) = some σ' ∧ mKeep σ σ' ∧ σ'.1 51 = 1 ∧ σ'.1 49 = iI go ∧ σ'.1 50 = iI mean ∧ yBs σ'.1 σ'.2.1 B dead w h n nd hts fl dO kn dc wg ∧ ∀ cd, cd < 1024 → yCan nd kn wg cd → ySl σ'.2.2 B dead w h n nd hts fl dO dc wg go mean cd := by
  have m4 : w * h ≤ 10 * 10 := Nat.mul_le_mul hL.1.2.2.2.2.2.2.1.2 hL.1.2.2.2.2.2.2.2.1.2
  have hn := hL.2.1
  have full : ∃ σ' : MS, f_solve_24 N σ (iI go) (iI mean) = some σ' ∧ mKeep σ σ' ∧ σ'.1 51 = 1 ∧ σ'.1 49 = iI go ∧ σ'.1 50 = iI mean ∧ yBs σ'.1 σ'.2.1 B dead w h n nd hts fl dO kn dc wg ∧ ∀ cd, cd < 1024 → yCan nd kn wg cd → ySl σ'.2.2 B dead w h n nd hts fl dO dc wg go mean cd := by
    have hL2 : mLand (upd (upd (upd σ.1 51 1) 49 (iI go)) 50 (iI mean), σ.2.1, σ.2.2) B dead w h n nd hts fl dO kn dc wg := hL
    obtain ⟨R2, R3, A, A', p1, p2⟩ := m_prep (N := N) hL2 (by omega)
    obtain ⟨R', V', q1, q2⟩ := m_47 (N := N) (go := go) (mean := mean) p2 hgo hm hN N 1024 (zRow (zRow (zRow (zRow σ.2.1 52 R2) 53 R3) 71 A) 72 A' 70) σ.2.2 (by omega) (by omega) (fun cd h1 h2 _ => by omega)
    rw [zRow_id] at q1
    refine ⟨(upd (upd (upd σ.1 51 1) 49 (iI go)) 50 (iI mean), zRow (zRow (zRow (zRow (zRow σ.2.1 52 R2) 53 R3) 71 A) 72 A') 70 R', V'), ?_, ⟨fun k h1 h2 h3 => ?_, fun j h1 h2 h3 h4 h5 => ?_⟩, rfl, rfl, rfl, p2, q2⟩
    · unfold f_solve_24
      rw [p_let, p_let, if_pos (show mBit (iI (mean : Int)) = true by rcases hm with rfl | rfl <;> rfl), p_let]
      show mcallv (f_prepares N (upd (upd (upd σ.1 51 1) 49 (iI go)) 50 (iI mean), σ.2.1, σ.2.2)) _ = _
      rw [p1, q_mv]
      exact q1
    · show upd (upd (upd σ.1 51 1) 49 (iI go)) 50 (iI mean) k = σ.1 k
      unfold upd
      rw [if_neg h2, if_neg h1, if_neg h3]
    · show zRow (zRow (zRow (zRow (zRow σ.2.1 52 R2) 53 R3) 71 A) 72 A') 70 R' j = σ.2.1 j
      rw [zRow_n h3, zRow_n h5, zRow_n h4, zRow_n h2, zRow_n h1]
  unfold f_solve
  by_cases c1 : σ.1 51 = 0
  · rw [if_pos c1]
    exact full
  · rw [if_neg c1]
    by_cases c2 : σ.1 49 = iI go
    · rw [if_pos c2]
      by_cases c3 : σ.1 50 = iI mean
      · rw [if_pos c3]
        obtain ⟨c4, go', mean', g1, g2, g3, g4, g5, g6⟩ := hS c1
        have eg : go' = go := by
          have := (i_eq (a := (go' : Int)) (b := (go : Int)) ⟨by omega, by omega⟩ ⟨by omega, by omega⟩).mp (g3.symm.trans c2)
          omega
        have em : mean' = mean := by
          have := (i_eq (a := (mean' : Int)) (b := (mean : Int)) ⟨by omega, by omega⟩ ⟨by omega, by omega⟩).mp (g4.symm.trans c3)
          omega
        subst eg
        subst em
        exact ⟨σ, rfl, mKeep.refl, c4, c2, c3, g5, g6⟩
      · rw [if_neg c3]
        exact full
    · rw [if_neg c2]
      exact full

/-! PLAIN: goes and from, of the model -/
theorem m_goes {N : Nat} {s1 : Nat → Int32} {s2 : Nat → Nat → Int32} {V : Nat → Int64} {B : bBk} {dead : Int} {w h n nd go mean T t fr : Nat} {hts : Nat → Int} {fl : Nat → Nat} {dO kn : Nat → Int} {dc : Nat → Nat} {wg : Nat → Nat → Nat} (hB : yBs s1 s2 B dead w h n nd hts fl dO kn dc wg) (h49 : s1 49 = iI go) (h50 : s1 50 = iI mean) (hm : mean = 0 ∨ mean = 1) (hgo : go < n) (h44 : ∀ e, e < nd → s2 44 e = iI (dc e) ∧ dc e < n) (hkn : ∀ d, d < nd → kn d ≠ -1 → wg d (kn d).toNat ≠ 0) (hV : ∀ cd, cd < 1024 → yCan nd kn wg cd → zVs V cd n (zY V cd)) (hW : wWd w h n nd B.2.1 go mean fl (fun c => zNb w h dc c nd) dO kn wg (zBG B dead hts w h) (zY V) (zFc nd kn wg t nd)) (hs : wOk n nd kn wg (zY V) (fr, zBa kn wg nd, 0)) (hT1 : (wIt w h nd go mean fl (fun c => zNb w h dc c nd) dO wg (zBG B dead hts w h) (zY V) (zFc nd kn wg t nd) (fr, zBa kn wg nd, 0) T).1 = go) (hT2 : ∀ i, i < T → (wIt w h nd go mean fl (fun c => zNb w h dc c nd) dO wg (zBG B dead hts w h) (zY V) (zFc nd kn wg t nd) (fr, zBa kn wg nd, 0) i).1 ≠ go) (hT : T ≤ 600) (ht : t ≤ 1000) (hN : 1000 ≤ N) : ∃ P' R' : Nat → Int32, f_goes N (s1, s2, V) (iI fr) (iI t) = some (iI (wIt w h nd go mean fl (fun c => zNb w h dc c nd) dO wg (zBG B dead hts w h) (zY V) (zFc nd kn wg t nd) (fr, zBa kn wg nd, 0) T).2.2, (upd s1 55 (iI ((T + 1 : Nat) : Int)), zRow (zRow s2 54 P') 70 R', V)) ∧ ∀ j, j < T + 1 → P' j = iI ((wIt w h nd go mean fl (fun c => zNb w h dc c nd) dO wg (zBG B dead hts w h) (zY V) (zFc nd kn wg t nd) (fr, zBa kn wg nd, 0) j).1 : Int) := by
  have hK : zKn ((s1, s2, V) : MS).1 ((s1, s2, V) : MS).2.1 nd B.2.1 (fun e => zCn (wg e) 8) kn (fun e k => zKd (wg e) k) := hB.2.1
  have al := m_full (N := N) (σ := (s1, s2, V)) (t := t) hK (fun e he => (hW.2.2.1 e he).1) hkn ht (by omega)
  have ba := m_base (N := N) (σ := (s1, s2, V)) hK hkn (by omega)
  obtain ⟨P', R', z1, z2⟩ := m_go26 (N := N) hB h49 h50 hm hgo h44 hV hW hs hT1 hT2 hT (by omega) N 0 (s2 54) (s2 70) (by omega) (by omega) (fun j hj => by omega)
  refine ⟨P', R', ?_, z2⟩
  unfold f_goes
  rw [al, q_mc, ba, q_mc, p_let]
  have e : mSet (s1, s2, V) 55 0 = (upd s1 55 (iI ((0 : Nat) : Int)), zRow (zRow s2 54 (s2 54)) 70 (s2 70), V) := by
    rw [zRow_id, zRow_id]
    rfl
  rw [e]
  exact z1
/-- what is finite, as the model tells it -/
def iW (x : Nat) : Int := if x < 1000000000000000 then (x : Int) else -1
theorem m_from {N : Nat} {σ : MS} {B : bBk} {dead : Int} {w h n nd go mean fr : Nat} {hts : Nat → Int} {fl : Nat → Nat} {dO kn : Nat → Int} {dc : Nat → Nat} {wg : Nat → Nat → Nat} (hL : mLand σ B dead w h n nd hts fl dO kn dc wg) (hS : mSol σ B dead w h n nd hts fl dO kn dc wg) (hkn : ∀ d, d < nd → kn d ≠ -1 → wg d (kn d).toNat ≠ 0) (hgo : go < n) (hfr : fr < n) (hm : mean = 0 ∨ mean = 1) (hN : 200000000000000000 ≤ N) : ∃ σ' : MS, f_from N σ (iI fr) (iI go) (iI mean) = some (iL (iW (zY σ'.2.2 (zBa kn wg nd) fr)), σ') ∧ mKeep σ σ' ∧ σ'.1 51 = 1 ∧ σ'.1 49 = iI go ∧ σ'.1 50 = iI mean ∧ yBs σ'.1 σ'.2.1 B dead w h n nd hts fl dO kn dc wg ∧ (∀ cd, cd < 1024 → yCan nd kn wg cd → ySl σ'.2.2 B dead w h n nd hts fl dO dc wg go mean cd) ∧ (zBa kn wg nd < 1024 ∧ yCan nd kn wg (zBa kn wg nd)) := by
  obtain ⟨σ', r1, r2, r3, r4, r5, r6, r7⟩ := m_solve hL hS hgo hm hN
  obtain ⟨-, hn, -, hnd, -, h5, h6⟩ := hL
  have hw := r6.1.2.2.1
  have hh := r6.1.2.2.2.1
  have b5 := r6.2.1.2.2.1
  have m4 : w * h ≤ 10 * 10 := Nat.mul_le_mul hw.2 hh.2
  have cb := yCan_base hnd (fun e he => (h6 e he).2.2) (fun e he => ⟨(h5 e he).2.2.2.1, by have := (h5 e he).2.2.2.2; omega, hkn e he⟩)
  obtain ⟨X, x1, x2, -, -⟩ := r7 _ cb.1 cb.2
  obtain ⟨v1, v2⟩ := x1 fr hfr
  have yx := zY_v x1 hfr
  have ba := m_base (N := N) (σ := σ') r6.2.1 hkn (by omega)
  obtain ⟨i1, i2⟩ := t_ix (a := 100 * (zBa kn wg nd : Int) + (fr : Int)) (n := 102400) (k := 100 * zBa kn wg nd + fr) (by omega) (by omega) (by omega)
  refine ⟨σ', ?_, r2, r3, r4, r5, r6, r7, cb⟩
  unfold f_from f_from_39
  rw [r1, q_mv, ba, q_mc, j100, i_mul, i_add, if_pos i1, p_let, i2, v1, eLF, yx]
  by_cases hf : X fr < 1000000000000000
  · rw [p_cl (by omega) (by omega) (by omega) (by omega) (by omega)]
    unfold iW
    rw [if_pos hf]
  · rw [n_cl (by omega) (by omega) (by omega) (by omega) (by omega)]
    unfold iW
    rw [if_neg hf]
    rfl

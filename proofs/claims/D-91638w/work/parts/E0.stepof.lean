/-! PLAIN: the model's stepOf -/
theorem m_stepOf {N : Nat} {s1 : Nat → Int32} {s2 : Nat → Nat → Int32} {V : Nat → Int64} {w h n nd ng go mean cd c : Nat} {fl nb mn : Nat → Nat} {dO kn : Nat → Int} {kd wt : Nat → Nat → Nat} {BG : Nat → Nat → Nat → Nat} {X : Nat → Nat} (hB : zBs s1 s2 w h n nd ng fl nb mn dO kn kd wt BG) (h49 : s1 49 = iI go) (h50 : s1 50 = iI mean) (hm : mean = 0 ∨ mean = 1) (hgo : go < n) (hcd : cd < 1024) (hcan : zCan nd mn kn kd cd) (hV : zVs V cd n X) (hc : c < n) (hN : 200 ≤ N) : ∃ R' : Nat → Int32, f_stepOf N (s1, s2, V) (iI c) (iI cd) = some (iI ((if c = go then 4 else zWy X (X c) (zEd w h (zSc mean nd mn wt cd) (zKc w h fl dO kd BG cd) c) 4 0 : Nat) : Int), (s1, zRow s2 70 R', V)) ∧ (c ≠ go → ∀ c y, c < n → y < 4 → R' (4 * c + y) = iI (zK w h fl dO kd BG cd c y)) := by
  obtain ⟨hF, hK, hnb, hwt, hmn1, hBG⟩ := hB
  have hF' := hF
  obtain ⟨e1, e2, hw, hh, hn, hnd, hng, hfl, hkd, hmn3, hBGv⟩ := hF
  obtain ⟨e3, -, -, hkk⟩ := hK
  have m4 : w * h ≤ 10 * 10 := Nat.mul_le_mul hw.2 hh.2
  have hdg : ∀ e, e < nd → zD cd e ≤ mn e := fun e he => ((hcan e (by omega)).2 he).1
  have h49' : ((s1, s2, V) : MS).1 49 = iI go := h49
  unfold f_stepOf
  rw [h49']
  by_cases hg : c = go
  · refine ⟨s2 70, ?_, fun z => absurd hg z⟩
    rw [p_eq (by omega) (by omega) (by omega) (by omega) (by omega), if_pos hg, zRow_id]
    rfl
  · obtain ⟨R', l1, l2⟩ := m_lays (N := N) (V := V) (R := s2 70) hF' hcd hdg (by omega)
    rw [zRow_id] at l1
    refine ⟨R', ?_, fun _ => l2⟩
    have hzK : ∀ c y, c < n → y < 4 → zK w h fl dO kd BG cd c y ≤ 30071 ∧ (zK w h fl dO kd BG cd c y ≠ 0 → 0 ≤ besI w h c y) := fun c y hc hy => by
      unfold zK
      by_cases q1 : besI w h c y < 0
      · rw [if_pos q1]; exact ⟨by omega, fun z => absurd rfl z⟩
      · rw [if_neg q1]
        refine ⟨?_, fun _ => by omega⟩
        rcases bes_b (w := w) (h := h) (c := c) (d := y) hw hh with hb | ⟨-, hb1, -⟩
        · omega
        · rw [← hn] at hb1
          obtain ⟨-, f2, -, f4, f5⟩ := hfl (besI w h c y).toNat (by omega)
          by_cases q2 : dO (besI w h c y).toNat = -1
          · rw [if_pos q2]; exact hBG c y _ hc hy f2
          · rw [if_neg q2]
            by_cases q3 : zD cd (dO (besI w h c y).toNat).toNat = 0
            · rw [if_pos q3]; omega
            · rw [if_neg q3]
              have dl : (dO (besI w h c y).toNat).toNat < nd := by omega
              have := hdg _ dl
              exact hBG c y _ hc hy (hkd _ _ dl (by omega)).2
    have hmw : ∀ e, e < nd → 1 ≤ mn e ∧ mn e ≤ 3 := fun e he => ⟨hmn1 e he, hmn3 e he⟩
    have hw9 : ∀ e k, e < nd → k < mn e → 1 ≤ wt e k ∧ wt e k ≤ 9 := fun e k he hk => (hwt e k he hk).2
    have scb := zSc_b (mean := mean) (cd := cd) hnd hmw hw9
    have st := m_st35 (N := N) (σ := (s1, zRow s2 70 R', V)) (sc := zSc mean nd mn wt cd) (K := zKc w h fl dO kd BG cd) (X := X) e1 e2 hw hh hn hcd hc hV (fun y hy => by
      rw [zKc_at hy]
      have q := hzK c y hc hy
      exact ⟨l2 c y hc hy, by omega, q.2⟩) scb.2 N 0 (by omega) (by omega)
    have h50' : ((s1, zRow s2 70 R', V) : MS).1 50 = iI mean := h50
    rw [n_eq (by omega) (by omega) (by omega) (by omega) (by omega), l1, q_mv, h50', if_neg hg]
    unfold f_stepOf_31
    rcases hm with rfl | rfl
    · rw [if_pos (show iI ((0 : Nat) : Int) = 0 from rfl)]
      exact st
    · have lf := m_left (N := N) (σ := (s1, zRow s2 70 R', V)) (cd := cd) (al := fun e => zSum (wt e) (mn e)) e3 hnd hcd (fun d hd => by
        obtain ⟨k1, k2, -, -, -, k6⟩ := hkk d hd
        refine ⟨m_all (σ := (s1, zRow s2 70 R', V)) k1 k2 (by omega) (fun k hk => ⟨?_, (hw9 d k hd hk).2⟩) (by omega), zSum_27 (hmw d hd) (fun k hk => hw9 d k hd hk)⟩
        obtain ⟨g1, g2⟩ := k6 k hk
        exact m_wt (σ := (s1, zRow s2 70 R', V)) (kd := kd d k) (by omega) (by omega) g1 (by omega) (hwt d k hd hk).1) (by omega)
      rw [if_neg (show ¬ iI ((1 : Nat) : Int) = 0 by decide), lf, q_mc]
      exact st

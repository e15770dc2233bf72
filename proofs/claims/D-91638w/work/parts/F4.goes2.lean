/-! PLAIN: goes, of the class -/
theorem c_goes {N b : Nat} {g : uEnv} {u : UH} {la da wa sa : Nat → Nat} {so ja bk cl a0 m0 ta t11 mi : Nat} {v8 v9 v10 : Value} {w h n nd ng go mean fd T fr : Nat} {hts : Nat → Int} {fl nb : Nat → Nat} {dO kn : Nat → Int} {wg Y : Nat → Nat → Nat} {BG : Nat → Nat → Nat → Nat} {V : Nat → Int64} {D P : Nat → Int32} {mc : Int32} {xs : Nat → Option Nat} (hk : kOk b sa) (hgo : go < n) (hm : mean = 0 ∨ mean = 1) (hW : wWd w h n nd ng go mean fl nb dO kn wg BG Y fd) (hs : wOk n nd kn wg Y (fr, zBa kn wg nd, 0)) (hkn : ∀ e, e < nd → -1 ≤ kn e ∧ kn e < 8 ∧ (kn e ≠ -1 → wg e (kn e).toNat ≠ 0)) (hT1 : (wIt w h nd go mean fl nb dO wg BG Y fd (fr, zBa kn wg nd, 0) T).1 = go) (hT2 : ∀ i, i < T → (wIt w h nd go mean fl nb dO wg BG Y fd (fr, zBa kn wg nd, 0) i).1 ≠ go) (hT : T ≤ 600) (hN : 1000 ≤ N) (h11 : g.1 11 = some t11) (h20 : g.1 20 = some mi) (hb : b ≤ cl) (hbu : b ≤ u.1) (n4 : la 4 ≠ cl) (n5 : m0 ≠ 0 → la 5 ≠ a0) (hX : cCx u g la da wa sa so ja bk v8 v9 v10 w h n nd ng go mean hts fl nb dO kn wg BG) (kid : kH u sa V D P = u) (hI : cInv n Y V D) (ho : uOld u) (hl : vLs u cl a0 0 m0 mc xs) (hm0 : m0 ≠ 0 → b ≤ a0) (hm1 : m0 = 0 → g.1 10 = some a0) (hZ : zInt g u) (hta : ∃ f : Nat → Int32, u.2.2 ta = some (.inl (0, 5, .inl f)) ∧ ∀ e, e < nd → f e = iI (zTg wg fd e)) : ∃ (u' : UH) (V' : Nat → Int64) (D' P' : Nat → Int32) (arr' : Nat), f_X2_goes N b g u so (iI fr) (some ta) (some cl) = some (iI (wIt w h nd go mean fl nb dO wg BG Y fd (fr, zBa kn wg nd, 0) T).2.2, u') ∧ cCx u' g la da wa sa so ja bk v8 v9 v10 w h n nd ng go mean hts fl nb dO kn wg BG ∧ kH u' sa V' D' P' = u' ∧ cInv n Y V' D' ∧ gLs b g u sa cl a0 m0 (T + 1) (fun j => (wIt w h nd go mean fl nb dO wg BG Y fd (fr, zBa kn wg nd, 0) j).1) u' arr' ∧ zInt g u' := by
  have hX' := hX
  obtain ⟨hO, hL, hi, -⟩ := hX'
  have hW' := hW
  obtain ⟨-, ⟨hw, hh, hn, hnd⟩, -⟩ := hW'
  have m4 : w * h ≤ 10 * 10 := Nat.mul_le_mul hw.2 hh.2
  have hp : ∀ j, (wIt w h nd go mean fl nb dO wg BG Y fd (fr, zBa kn wg nd, 0) j).1 < 100 := fun j => by
    have := (w_ok hW hs j).1.1
    omega
  have l5 : la 5 < u.1 := by
    obtain ⟨-, -, -, -, -, -, -, -, ⟨m, mc, xs, x1, -⟩, -⟩ := hL
    exact ho _ _ x1.2.1
  have g0 : gLs b g u sa cl a0 m0 0 (fun j => (wIt w h nd go mean fl nb dO wg BG Y fd (fr, zBa kn wg nd, 0) j).1) u a0 := ⟨ho, ⟨mc, xs, hl, fun j hj => by omega⟩, fun x _ _ _ _ _ _ => rfl, rfl, rfl, Or.inl ⟨rfl, rfl⟩, hm0, hm1⟩
  obtain ⟨u2, arr2, a1, a2, a3, a4⟩ := g_add (N := N) g0 hZ (fun j hj => hp j) hb hbu h20 (by omega)
  have a1 : f_J2_add N b g u cl (some (g.2.2 (fr + 128))) = some (1, u2) := a1
  have hX2 := hX.keep a3 hl.1 hl.2.1 n4 (fun q => n5 (Nat.ne_of_gt q))
  have k4 : u.2.2 (sa 4) = some (.inl (3, 102400, .inr (.inl V))) := by
    rw [← kid]
    exact kH_4
  have k5 : u.2.2 (sa 5) = some (.inl (2, 1024, .inl D)) := by
    rw [← kid]
    exact kH_5 hk
  have k6 : u.2.2 (sa 6) = some (.inl (2, 100, .inl P)) := by
    rw [← kid]
    exact kH_6 hk
  have kid2 : kH u2 sa V D P = u2 := kH_id (a3.l hl.1 hl.2.1 k4 (by decide)) (a3.l hl.1 hl.2.1 k5 (by decide)) (a3.l hl.1 hl.2.1 k6 (by decide))
  obtain ⟨f, f1, f2⟩ := hta
  obtain ⟨u', V', D', P', arr', z1, z2⟩ := c_go24 (N := N) (b := b) (ta := ta) hk hgo hm hW hs rfl hT1 hT2 hT (by omega) h11 h20 hb hbu n4 n5 l5 N 0 u2 V D P arr2 (by omega) (by omega) hX2 kid2 hI a2 (fun k hk => a3.r hl.1 hl.2.1 (hZ k hk) (by decide)) ⟨f, a3.l hl.1 hl.2.1 f1 (by decide), f2⟩
  refine ⟨u', V', D', P', arr', ?_, z2⟩
  have h0 : fr < 100 := hp 0
  unfold f_X2_goes f_X2_goes_23
  rw [if_pos (v_is hO), c_known hO hL hkn (by omega), q_uc, c_vof h11 h0, q_uc, p_bs, if_pos (v_is hl.1), a1, q_uc]
  exact z1

/-! PLAIN: regret of the class: all truths -/
theorem uD3 : uDefs tyJ2 3 = [.int 0, .null, .int 0] := rfl
/-- how long the ways are in all truths, and what they cost -/
def rgT (w h n nd go : Nat) (fl nb : Nat → Nat) (dO kn : Nat → Int) (wg : Nat → Nat → Nat) (BG : Nat → Nat → Nat → Nat) (Y : Nat → Nat → Nat) (fr : Nat) (Tf : Nat → Nat) : Prop := ∀ t, Tf t ≤ 600 ∧ (wIt w h nd go 0 fl nb dO wg BG Y (zFc nd kn wg t nd) (fr, zBa kn wg nd, 0) (Tf t)).1 = go ∧ ∀ i, i < Tf t → (wIt w h nd go 0 fl nb dO wg BG Y (zFc nd kn wg t nd) (fr, zBa kn wg nd, 0) i).1 ≠ go
def rgC (w h nd go : Nat) (fl nb : Nat → Nat) (dO kn : Nat → Int) (wg : Nat → Nat → Nat) (BG : Nat → Nat → Nat → Nat) (Y : Nat → Nat → Nat) (fr : Nat) (Tf : Nat → Nat) (t : Nat) : Nat := (wIt w h nd go 0 fl nb dO wg BG Y (zFc nd kn wg t nd) (fr, zBa kn wg nd, 0) (Tf t)).2.2
theorem c_rg51 {N b : Nat} {g : uEnv} {ad la da wa sa : Nat → Nat} {so ja a fr d10 t11 mi : Nat} {σ : MS} {bkv ptv : Value} {u8 u9 u10 : Value} {w h n nd ng go : Nat} {hts : Nat → Int} {fl nb : Nat → Nat} {dO kn : Nat → Int} {wg : Nat → Nat → Nat} {BG : Nat → Nat → Nat → Nat} {Y : Nat → Nat → Nat} {U : UH} {Tf : Nat → Nat} {fD : Nat → Option Nat} (hk : kOk b sa) (hgo : go < n) (hbU : b ≤ U.1) (h11 : g.1 11 = some t11) (h20 : g.1 20 = some mi) (h10 : g.1 10 = some d10) (h10b : d10 < b) (h10u : U.2.2 d10 = some (.inl (4, 0, .inr (.inr (.inr (.inr fD)))))) (hzi : ∀ k, k < 256 → g.2.2 k < b ∧ U.2.2 (g.2.2 k) = some (.inr (21, [.int (vb_c k)]))) (hnk : ∀ x, x < b → ¬ kFp so la sa x) (hx : U.2.2 (ad 0) = some (xO ad σ bkv (.ref (la 0)) ptv)) (hx0 : ¬ kFp so la sa (ad 0)) (hxU : ad 0 < U.1) (hl4 : la 4 < U.1) (hkn : ∀ e, e < nd → -1 ≤ kn e ∧ kn e < 8 ∧ (kn e ≠ -1 → wg e (kn e).toNat ≠ 0)) (hW : ∀ t, wWd w h n nd ng go 0 fl nb dO kn wg BG Y (zFc nd kn wg t nd)) (hfr : fr < n) (hba : zBa kn wg nd < 1024 ∧ yCan nd kn wg (zBa kn wg nd)) (hfin : Y (zBa kn wg nd) fr < 1000000000000000) (hT : rgT w h n nd go fl nb dO kn wg BG Y fr Tf) (hN : 1000 ≤ N) : ∀ (m t : Nat) (u : UH) (d1 d2 : Nat), t ≤ zTm kn wg nd → zTm kn wg nd < t + m → d1 = 1 + zSum (fun t => 2 + (lSt 0 (Tf t + 1)).2.2) t → d2 = zSum (fun t => 8 + (lSt 0 (Tf t + 1)).2.1) t → sS g la da wa sa so ja a u8 u9 u10 w h n nd ng go 0 hts fl nb dO kn wg BG Y U u d1 d2 → ∃ u', sS g la da wa sa so ja a u8 u9 u10 w h n nd ng go 0 hts fl nb dO kn wg BG Y U u' (1 + zSum (fun t => 2 + (lSt 0 (Tf t + 1)).2.2) (zTm kn wg nd)) (zSum (fun t => 8 + (lSt 0 (Tf t + 1)).2.1) (zTm kn wg nd)) ∧ f_X1_regret_51 N b g (ad 0) m u (iI fr) (some so) (iL (zRg (rgC w h nd go fl nb dO kn wg BG Y fr Tf) (fun t => Y (zFc nd kn wg t nd) fr) t)) (iI t) = if uIs u' (ad 0) 0 = true then ucall (f_X1_done N b g u' (ad 0) ((iL (zRg (rgC w h nd go fl nb dO kn wg BG Y fr Tf) (fun t => Y (zFc nd kn wg t nd) fr) (zTm kn wg nd))).toInt32)) fun r11 u9 => some (r11, u9) else none := by
  have hW0 := hW 0
  obtain ⟨hS, ⟨hw, hh, hn, hnd⟩, h3, hwt, -⟩ := hW0
  have m4 : w * h ≤ 10 * 10 := Nat.mul_le_mul hw.2 hh.2
  have tb := zTm_b (kn := kn) (wg := wg) nd h3
  have p3 : 3 ^ nd ≤ 3 ^ 5 := Nat.pow_le_pow_right (by decide) hnd
  have hs0 : wOk n nd kn wg Y (fr, zBa kn wg nd, 0) := ⟨hfr, hba.1, hba.2, hfin⟩
  have csb : ∀ t, rgC w h nd go fl nb dO kn wg BG Y fr Tf t ≤ 18042600 := fun t => by
    have q := (w_ok (hW t) hs0 (Tf t)).2
    have q2 := (hT t).1
    have q : rgC w h nd go fl nb dO kn wg BG Y fr Tf t ≤ 0 + 30071 * Tf t := q
    omega
  intro m
  induction m with
  | zero => intro t u d1 d2 h1 h2; omega
  | succ m ih =>
    intro t u d1 d2 h1 h2 hd1 hd2 hs
    have hs' := hs
    obtain ⟨hX, ⟨V, D, P, kid, hI⟩, hf, ho, s1, s2⟩ := hs'
    have hX' := hX
    obtain ⟨hO, hL, hi, -⟩ := hX'
    have hxu : u.2.2 (ad 0) = some (xO ad σ bkv (.ref (la 0)) ptv) := (hf _ hx0 hxU).trans hx
    have tr := c_trs (N := N) (b := b) hL (fun e he => ⟨(hkn e he).1, (hkn e he).2.1⟩) (by omega)
    rw [f_X1_regret_51, x_mp hxu, p_bs, p_bs, if_pos (v_is hL.1), tr, q_uc]
    by_cases ht : zTm kn wg nd ≤ t
    · have : t = zTm kn wg nd := by omega
      subst this
      refine ⟨u, ?_, ?_⟩
      · rw [← hd1, ← hd2]
        exact hs
      · rw [p_le (by omega) (by omega) (by omega) (by omega) (by omega)]
    · have bu : b ≤ u.1 := by omega
      obtain ⟨q1, q2, q3⟩ := zFc_can (t := t) (kn := kn) (wg := wg) hnd h3 hkn
      obtain ⟨f, r1, r2⟩ := c_truth (N := N) (b := b) (t := t) hL ho hkn bu (by omega) (by omega)
      -- u1: the truth; u2: the list; u3: the list made ready
      have ho1 : uOld (uNew u 5 (.inl (0, 5, .inl f))) := ho.new
      have ho2 : uOld (uNew (uNew u 5 (.inl (0, 5, .inl f))) 3 (.inr (18, uDefs tyJ2 3))) := ho1.new
      have keep1 : ∀ x e, u.2.2 x = some e → (uNew u 5 (.inl (0, 5, .inl f))).2.2 x = some e := fun x e hxe => u_no ho hxe
      have hX1 := hX.all keep1
      obtain ⟨hO1, hL1, -⟩ := hX1
      have hx1 := keep1 _ _ hxu
      have rg := c_rg80 (N := N) (b := b) (k51 := f_X1_regret_51 N b g (ad 0) m) (x1 := iI fr) (x4 := iL (zRg (rgC w h nd go fl nb dO kn wg BG Y fr Tf) (fun t => Y (zFc nd kn wg t nd) fr) t)) (x6 := iI t) (ta := u.1) hx1 hO1 hL1 q2 q3 u_nn r2 (by omega) N 0 (by omega) (by omega)
      rw [zPd_f hnd q1 q2] at rg
      have cl2 : (uNew (uNew u 5 (.inl (0, 5, .inl f))) 3 (.inr (18, uDefs tyJ2 3))).2.2 (u.1 + 1) = some (.inr (18, [.int 0, .null, .int 0])) := by
        rw [uD3]
        exact u_nn (u := uNew u 5 (.inl (0, 5, .inl f)))
      have keep3 : ∀ x e, u.2.2 x = some e → (uSet (uNew (uNew u 5 (.inl (0, 5, .inl f))) 3 (.inr (18, uDefs tyJ2 3))) (u.1 + 1) (.inr (18, [.int 0, .ref d10, .int 0]))).2.2 x = some e := fun x e hxe => by
        have := ho x e hxe
        rw [u_sn (by omega)]
        exact u_no ho1 (keep1 x e hxe)
      have ho3 : uOld (uSet (uNew (uNew u 5 (.inl (0, 5, .inl f))) 3 (.inr (18, uDefs tyJ2 3))) (u.1 + 1) (.inr (18, [.int 0, .ref d10, .int 0]))) := ho2.set cl2
      have hX3 := hX.all keep3
      have k4 : u.2.2 (sa 4) = some (.inl (3, 102400, .inr (.inl V))) := by
        rw [← kid]
        exact kH_4
      have k5 : u.2.2 (sa 5) = some (.inl (2, 1024, .inl D)) := by
        rw [← kid]
        exact kH_5 hk
      have k6 : u.2.2 (sa 6) = some (.inl (2, 100, .inl P)) := by
        rw [← kid]
        exact kH_6 hk
      have kid3 := kH_id (keep3 _ _ k4) (keep3 _ _ k5) (keep3 _ _ k6)
      have h10u' : u.2.2 d10 = some (.inl (4, 0, .inr (.inr (.inr (.inr fD))))) := (hf _ (hnk _ h10b) (by omega)).trans h10u
      have hl3 : vLs (uSet (uNew (uNew u 5 (.inl (0, 5, .inl f))) 3 (.inr (18, uDefs tyJ2 3))) (u.1 + 1) (.inr (18, [.int 0, .ref d10, .int 0]))) (u.1 + 1) d10 0 0 0 fD := ⟨u_ss, keep3 _ _ h10u', Nat.le_refl _, by omega⟩
      have hzi3 : zInt g (uSet (uNew (uNew u 5 (.inl (0, 5, .inl f))) 3 (.inr (18, uDefs tyJ2 3))) (u.1 + 1) (.inr (18, [.int 0, .ref d10, .int 0]))) := fun k hk => keep3 _ _ ((hf _ (hnk _ (hzi k hk).1) (by have := (hzi k hk).1; omega)).trans (hzi k hk).2)
      have ta3 : (uSet (uNew (uNew u 5 (.inl (0, 5, .inl f))) 3 (.inr (18, uDefs tyJ2 3))) (u.1 + 1) (.inr (18, [.int 0, .ref d10, .int 0]))).2.2 u.1 = some (.inl (0, 5, .inl f)) := (u_sn (by omega)).trans (u_no ho1 u_nn)
      obtain ⟨t1, t2, t3⟩ := hT t
      obtain ⟨u4, V4, D4, P4, arr4, g1, g2, g3, g4, g5, g6⟩ := c_goes (N := N) (b := b) (ta := u.1) hk hgo (Or.inl rfl) (hW t) hs0 hkn t2 t3 t1 hN h11 h20 (show b ≤ u.1 + 1 by omega) (show b ≤ u.1 + 1 + 1 by omega) (by omega) (fun q => absurd rfl q) hX3 kid3 hI ho3 hl3 (fun q => absurd rfl q) (fun _ => h10) hzi3 ⟨f, ta3, r2⟩
      obtain ⟨G1, -, G4, G5, G6, -⟩ := g5
      have hs4 : sS g la da wa sa so ja a u8 u9 u10 w h n nd ng go 0 hts fl nb dO kn wg BG Y U u4 (d1 + (2 + (lSt 0 (Tf t + 1)).2.2)) (d2 + (8 + (lSt 0 (Tf t + 1)).2.1)) := by
        refine ⟨g2, ⟨V4, D4, P4, g3, g4⟩, fun x a1 a2 => ?_, G1, ?_, ?_⟩
        · obtain ⟨n4, n5, n6⟩ := kFp_n a1
          rw [G4 x (by omega) (fun q => absurd rfl q) n4 n5 n6 (by show x < u.1 + 1 + 1; omega), u_sn (by omega)]
          rw [u_nx (show x ≠ (uNew u 5 (.inl (0, 5, .inl f))).1 by show x ≠ u.1 + 1; omega), u_nx (by omega)]
          exact hf x a1 a2
        · rw [G5]
          show u.1 + 1 + 1 + _ = _
          omega
        · rw [G6]
          show u.2.1 + 5 + 3 + _ = _
          omega
      obtain ⟨u5, o1, o2⟩ := hs4.of (N := N) (cd := zFc nd kn wg t nd) hk hgo (Or.inl rfl) hS (by omega) q1 q2 hfr
      have yfin : Y (zFc nd kn wg t nd) fr < 1000000000000000 := z_ful (hW t) (Or.inl rfl) hfr _ (zBa kn wg nd) rfl hba.1 hba.2 (fun e he => by
        by_cases q : kn e = -1
        · exact Or.inl ((zBa_0 (fun e he => (h3 e he).2) hkn he).mpr q)
        · right
          obtain ⟨-, b2, -⟩ := zBa_d (kn := kn) (wg := wg) nd (fun e he => (zBd1_lt (h3 e he).2 (hkn e he)).1)
          obtain ⟨-, -, f3', -⟩ := zFc_d (t := t) hnd h3 hkn nd (Nat.le_refl _)
          rw [b2 e he, f3' e (by omega) he, if_neg q]) hfin
      have yb := ((hS _ q1 q2).1 fr hfr).2 yfin
      have uk := zUk_le (cd := zFc nd kn wg t nd) nd
      have bd : zBd 0 nd (fun e => zCn (wg e) 8) (fun e k => wg e (zKd (wg e) k)) (zFc nd kn wg t nd) ≤ 18042600 := by
        show (zUk (zFc nd kn wg t nd) nd + 1) * (3007100 * 1) ≤ _
        omega
      have cb := csb t
      have rb := zRg_b (yv := fun t => Y (zFc nd kn wg t nd) fr) csb t
      have et : iI (t : Int) + 1 = iI ((t + 1 : Nat) : Int) := by
        rw [j1, i_add]
        rfl
      obtain ⟨u6, v1, v2⟩ := ih (t + 1) u5 (d1 + (2 + (lSt 0 (Tf t + 1)).2.2)) (d2 + (8 + (lSt 0 (Tf t + 1)).2.1)) (by omega) (by omega) (by rw [hd1]; simp only [zSum]; omega) (by rw [hd2]; simp only [zSum]) o2
      refine ⟨u6, v1, ?_⟩
      have mx : f_J9_max_2 N b g u5 (iL (zRg (rgC w h nd go fl nb dO kn wg BG Y fr Tf) (fun t => Y (zFc nd kn wg t nd) fr) t)) (iL ((rgC w h nd go fl nb dO kn wg BG Y fr Tf t : Int) - (Y (zFc nd kn wg t nd) fr : Int))) = some (iL (zRg (rgC w h nd go fl nb dO kn wg BG Y fr Tf) (fun t => Y (zFc nd kn wg t nd) fr) (t + 1)), u5) := by
        unfold f_J9_max_2 f_J9_max_2_11
        rw [zRg]
        by_cases q : (rgC w h nd go fl nb dO kn wg BG Y fr Tf t : Int) - (Y (zFc nd kn wg t nd) fr : Int) ≤ zRg (rgC w h nd go fl nb dO kn wg BG Y fr Tf) (fun t => Y (zFc nd kn wg t nd) fr) t
        · rw [n_cl (by omega) (by omega) (by omega) (by omega) (by omega), if_pos q]
        · rw [p_cl (by omega) (by omega) (by omega) (by omega) (by omega), if_neg q]
      have g1' : f_X2_goes N b g (uSet (uNew (uNew u 5 (.inl (0, 5, .inl f))) 3 (.inr (18, uDefs tyJ2 3))) (u.1 + 1) (.inr (18, [.int 0, .ref d10, .int 0]))) so (iI fr) (some u.1) (some (u.1 + 1)) = some (iI (rgC w h nd go fl nb dO kn wg BG Y fr Tf t), u4) := g1
      have ini : f_J2_init N b g (uNew (uNew u 5 (.inl (0, 5, .inl f))) 3 (.inr (18, uDefs tyJ2 3))) (u.1 + 1) = some (uSet (uNew (uNew u 5 (.inl (0, 5, .inl f))) 3 (.inr (18, uDefs tyJ2 3))) (u.1 + 1) (.inr (18, [.int 0, .ref d10, .int 0]))) := by
        unfold f_J2_init f_J1_init f_J0_init
        rw [p_bs, u_pw cl2 (show b ≤ u.1 + 1 by omega) (Nat.le_of_ble_eq_true rfl), p_bs, p_bs, p_let, h10, u_pw u_ss (show b ≤ u.1 + 1 by omega) (Nat.le_of_ble_eq_true rfl), p_bs, u_s2]
        rfl
      have rg' : f_X1_regret_80 N b g (ad 0) (f_X1_regret_51 N b g (ad 0) m) N (uNew u 5 (.inl (0, 5, .inl f))) (iI fr) (some so) (iL (zRg (rgC w h nd go fl nb dO kn wg BG Y fr Tf) (fun t => Y (zFc nd kn wg t nd) fr) t)) (iI t) (some u.1) 0 0 = f_X1_regret_125 N b g (ad 0) (f_X1_regret_51 N b g (ad 0) m) (uNew (uNew u 5 (.inl (0, 5, .inl f))) 3 (.inr (18, uDefs tyJ2 3))) (iI fr) (some so) (iI t) (iI (zFc nd kn wg t nd)) (some (u.1 + 1)) (some u.1) (iI fr) (some so) (iL (zRg (rgC w h nd go fl nb dO kn wg BG Y fr Tf) (fun t => Y (zFc nd kn wg t nd) fr) t)) := rg
      rw [n_le (by omega) (by omega) (by omega) (by omega) (by omega), x_mp hxu, p_bs, p_bs, if_pos (v_is hL.1), r1, q_uc]
      unfold f_X1_regret_72
      rw [rg']
      unfold f_X1_regret_125 f_X1_regret_132
      rw [p_bs, ini, p_bs, p_bs, if_pos (v_is hX3.1), g1', q_uc, p_bs, if_pos (v_is g2.1), o1, q_uc, iV_f yfin, e_i2l (by omega) (by omega), e_sub, mx, q_uc, p_let, et]
      exact v2

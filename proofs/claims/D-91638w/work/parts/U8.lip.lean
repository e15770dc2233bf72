/-! PLAIN: the room: a step lets the value fall by at most its cost, wherever it is made -/
theorem zOv_le {wt val : Nat → Nat} {M : Nat} : ∀ (m k acc : Nat), (∀ j, k ≤ j → j < k + m → val j < 1000000000000000 ∧ val j ≤ M) → acc ≤ M → zOv 0 wt val m k acc ≤ M := by
  intro m
  induction m with
  | zero => intro k acc _ h; exact h
  | succ m ih =>
    intro k acc h1 h2
    unfold zOv
    obtain ⟨a, b⟩ := h1 k (Nat.le_refl _) (by omega)
    rw [if_pos a, if_pos rfl]
    refine ih (k + 1) _ (fun j j1 j2 => h1 j (by omega) (by omega)) ?_
    split <;> omega
theorem xSc_0 {nd cd : Nat} {wg : Nat → Nat → Nat} : xSc 0 nd wg cd = 1 := by
  unfold xSc zSc
  rw [if_pos rfl]
section U9s
variable {w h n nd ng go : Nat} {fl nb : Nat → Nat} {dO kn : Nat → Int} {wg : Nat → Nat → Nat} {BG : Nat → Nat → Nat → Nat} {Y : Nat → Nat → Nat}
theorem y_lip (hS : xSol w h n nd go 0 fl nb dO kn wg BG Y) (hw : 1 ≤ w ∧ w ≤ 10) (hh : 1 ≤ h ∧ h ≤ 10) (hn : n = w * h) (hnd : nd ≤ 5) (h3 : ∀ e, e < nd → 1 ≤ zCn (wg e) 8 ∧ zCn (wg e) 8 ≤ 3) (hwt : ∀ e k, e < nd → k < zCn (wg e) 8 → 1 ≤ wg e (zKd (wg e) k) ∧ wg e (zKd (wg e) k) ≤ 9) (hdO : ∀ c, c < n → -1 ≤ dO c ∧ dO c < nd) (hfl : ∀ c, c < n → fl c < ng) (hkd : ∀ e k, e < nd → k < zCn (wg e) 8 → zKd (wg e) k < ng) (hBG : ∀ c y q, c < n → y < 4 → q < ng → BG c y q ≤ 30071) : ∀ (u cd : Nat), zUk cd nd = u → cd < 1024 → yCan nd kn wg cd → ∀ c y d : Nat, c < n → y < 4 → d < n → besI w h c y = (d : Int) → zK w h fl dO (fun e k => zKd (wg e) k) BG cd c y ≠ 0 → Y cd d < 1000000000000000 → Y cd c ≤ Y cd d + zK w h fl dO (fun e k => zKd (wg e) k) BG cd c y := by
  intro u
  induction u with
  | zero =>
    intro cd hu hcd hcan c y d hc hy hd hb hz hf
    by_cases hg : c = go
    · rw [(hS cd hcd hcan).2.1 c hc (fun q => q.1 hg)]
      unfold zX0
      rw [if_pos hg]
      omega
    · by_cases hwn : zNw nd (nb c) cd (nd + 1) 0 = -1
      · have hB : zB (Y cd) (xEd w h nd 0 fl dO wg BG cd) c := (hS cd hcd hcan).2.2.1 c hc ⟨hg, hwn⟩
        have e := x_ed1 (nd := nd) (mean := 0) (wg := wg) hy hz
        rw [hb, xSc_0, Nat.one_mul] at e
        exact hB.2.1 y d _ e hf
      · obtain ⟨e1, q1, q2, q3, q4⟩ := zNw_s _ _ hwn
        have := zUk_st (k := 0) hcd hnd q2 (by omega) q3
        omega
  | succ u ih =>
    intro cd hu hcd hcan c y d hc hy hd hb hz hf
    by_cases hg : c = go
    · rw [(hS cd hcd hcan).2.1 c hc (fun q => q.1 hg)]
      unfold zX0
      rw [if_pos hg]
      omega
    · by_cases hwn : zNw nd (nb c) cd (nd + 1) 0 = -1
      · have hB : zB (Y cd) (xEd w h nd 0 fl dO wg BG cd) c := (hS cd hcd hcan).2.2.1 c hc ⟨hg, hwn⟩
        have e := x_ed1 (nd := nd) (mean := 0) (wg := wg) hy hz
        rw [hb, xSc_0, Nat.one_mul] at e
        exact hB.2.1 y d _ e hf
      · obtain ⟨e1, q1, q2, q3, q4⟩ := zNw_s _ _ hwn
        obtain ⟨m1, m3⟩ := h3 e1 q2
        have E : Y cd c = zOv 0 (fun k => wg e1 (zKd (wg e1) k)) (fun k => Y (cd + (k + 1) * 4 ^ e1) c) (zCn (wg e1) 8) 0 0 := by
          rw [(hS cd hcd hcan).2.1 c hc (fun z => by rw [z.2] at q1; omega)]
          unfold zX0
          rw [if_neg hg, if_neg (by rw [q1]; omega), q1]
          rfl
        rw [E]
        refine zOv_le _ _ _ (fun k k1 k2 => ?_) (Nat.zero_le _)
        have hk : k < zCn (wg e1) 8 := by omega
        obtain ⟨u1, u2, u3⟩ := zD_up (k := k) hcd (by omega : e1 < 5) (by omega) q3
        have can : yCan nd kn wg (cd + (k + 1) * 4 ^ e1) := zCan_up hcan hcd hnd q2 m3 hk q3
        have inf := z_inf (mean := 0) hS hw hh hn hnd h3 hwt hdO hfl hkd hBG (Or.inl rfl) q2 (zUk cd nd) cd rfl hcd hcan q3 (Y cd d) d hd rfl hf
        have sameK : zK w h fl dO (fun e k => zKd (wg e) k) BG (cd + (k + 1) * 4 ^ e1) c y = zK w h fl dO (fun e k => zKd (wg e) k) BG cd c y := by
          have hz' := hz
          unfold zK at hz' ⊢
          rw [hb, if_neg (show ¬ (d : Int) < 0 by omega)] at hz' ⊢
          rw [if_neg (show ¬ (d : Int) < 0 by omega)]
          have td : ((d : Int)).toNat = d := rfl
          rw [td] at hz' ⊢
          by_cases p2 : dO d = -1
          · rw [if_pos p2, if_pos p2]
          · rw [if_neg p2] at hz'
            have o := hdO d hd
            have kd : zD cd (dO d).toNat ≠ 0 := fun z => by
              rw [if_pos z] at hz'
              exact hz' rfl
            have ne : (dO d).toNat ≠ e1 := fun z => by
              rw [z] at kd
              exact kd q3
            rw [if_neg p2, if_neg p2, u3 _ (by omega) ne]
        have st := zUk_st (k := k) hcd hnd q2 (by omega) q3
        have i1 := inf.1 k hk
        have i2 := inf.2.1 rfl k hk
        have r := ih (cd + (k + 1) * 4 ^ e1) (by omega) u1 can c y d hc hy hd hb (by rw [sameK]; exact hz) i1
        rw [sameK] at r
        have zb := (x_kb (y := y) (cd := cd) hw hh hn hdO hfl hkd hBG hc hy (fun e he => ((hcan e (by omega)).2 he).1)).1
        have yb := ((hS _ u1 can).1 d hd).2 i1
        have bdb := zBd_b (mean := 0) (cd := cd + (k + 1) * 4 ^ e1) hnd h3 hwt
        exact ⟨by omega, by omega⟩
end U9s
/-- every step costs at least eleven -/
theorem bCost_11 {B : bBk} {dead : Int} {hts : Nat → Int} {w h c way d : Nat} (h0 : bWhy B dead hts w h c way d = 0) : 11 ≤ bCost B dead hts w h c way d := by
  obtain ⟨-, -, -, r3⟩ := bWhy_0 h0
  have nn : 0 ≤ bNeed B dead (bRise hts w h c way) d := by
    unfold bNeed
    split <;> omega
  have sb := bSl_b (B := B) (dead := dead) (need := bNeed B dead (bRise hts w h c way) d) (d := d)
  unfold bCost bCst
  generalize bNeed B dead (bRise hts w h c way) d = nd at nn r3 sb ⊢
  generalize bSl (bSlipOf B dead nd d) = s at r3 sb ⊢
  have : 10 ≤ (1000 + nd) / (100 - s) := (Int.le_ediv_iff_mul_le (by omega)).mpr (by omega)
  omega

/-! PLAIN: to know more is never worth less -/
theorem z_nw1 {nd nb cd e : Nat} (he : e < nd) (h0 : zD cd e = 0 ∧ nb / 2 ^ e % 2 = 1) (hf : ∀ j, j < e → ¬ (zD cd j = 0 ∧ nb / 2 ^ j % 2 = 1)) : ∀ (m d : Nat), d ≤ e → e < d + m → zNw nd nb cd m d = (e : Int) := by
  intro m
  induction m with
  | zero => intro d h1 h2; omega
  | succ m ih =>
    intro d h1 h2
    rw [zNw, if_neg (by omega)]
    by_cases c : d = e
    · rw [c, if_pos h0]
    · rw [if_neg (hf d (by omega))]
      exact ih (d + 1) (by omega) (by omega)
theorem z_nwk {nd nb cd e e1 k : Nat} (hcd : cd < 1024) (hnd : nd ≤ 5) (he : e < nd) (hk : k < 3) (h0 : zD cd e = 0) (hne : e1 ≠ e) (h1 : zNw nd nb cd (nd + 1) 0 = (e1 : Int)) (h2 : e1 < nd) (h3 : zD cd e1 = 0) (h4 : nb / 2 ^ e1 % 2 = 1) : zNw nd nb (cd + (k + 1) * 4 ^ e) (nd + 1) 0 = (e1 : Int) := by
  obtain ⟨u1, u2, u3⟩ := zD_up hcd (by omega : e < 5) hk h0
  refine z_nw1 h2 ⟨(u3 e1 (by omega) hne).trans h3, h4⟩ (fun j hj z => ?_) (nd + 1) 0 (by omega) (by omega)
  by_cases c : j = e
  · rw [c, u2] at z
    omega
  · rw [u3 j (by omega) c] at z
    exact zNw_f _ _ _ h1 j (by omega) hj z
theorem z_nwf {nd nb cd e k : Nat} (hcd : cd < 1024) (hnd : nd ≤ 5) (he : e < nd) (hk : k < 3) (h0 : zD cd e = 0) (h1 : zNw nd nb cd (nd + 1) 0 = -1) : zNw nd nb (cd + (k + 1) * 4 ^ e) (nd + 1) 0 = -1 := by
  obtain ⟨u1, u2, u3⟩ := zD_up hcd (by omega : e < 5) hk h0
  refine (zNw_0 _ _ (by omega)).mpr (fun j q1 q2 z => ?_)
  by_cases c : j = e
  · rw [c, u2] at z
    omega
  · rw [u3 j (by omega) c] at z
    exact (zNw_0 _ _ (by omega)).mp h1 j q1 q2 z
theorem zOv_s {wt val : Nat → Nat} : ∀ (m k acc : Nat), (∀ j, k ≤ j → j < k + m → val j < 1000000000000000) → zOv 1 wt val m k acc + zSum (fun j => wt j * val j) k = acc + zSum (fun j => wt j * val j) (k + m) := by
  intro m
  induction m with
  | zero => intro k acc _; rfl
  | succ m ih =>
    intro k acc h
    have hv := h k (by omega) (by omega)
    have i1 := ih (k + 1) (acc + wt k * val k) (fun j a b => h j (by omega) (by omega))
    rw [zOv, if_pos hv, if_neg (by decide)]
    have e1 : zSum (fun j => wt j * val j) (k + 1) = zSum (fun j => wt j * val j) k + wt k * val k := rfl
    rw [e1, show k + 1 + m = k + (m + 1) from by omega] at i1
    omega
theorem zOv_m {wt val : Nat → Nat} : ∀ (m k acc : Nat), (∀ j, k ≤ j → j < k + m → val j < 1000000000000000) → acc ≤ zOv 0 wt val m k acc ∧ ∀ j, k ≤ j → j < k + m → val j ≤ zOv 0 wt val m k acc := by
  intro m
  induction m with
  | zero => intro k acc _; exact ⟨Nat.le_refl _, fun j a b => by omega⟩
  | succ m ih =>
    intro k acc h
    have hv := h k (by omega) (by omega)
    obtain ⟨i1, i2⟩ := ih (k + 1) (if val k ≤ acc then acc else val k) (fun j a b => h j (by omega) (by omega))
    rw [zOv, if_pos hv, if_pos rfl]
    have q : acc ≤ (if val k ≤ acc then acc else val k) ∧ val k ≤ (if val k ≤ acc then acc else val k) := by split <;> omega
    refine ⟨by omega, fun j a b => ?_⟩
    by_cases c : j = k
    · rw [c]
      omega
    · exact i2 j (by omega) (by omega)
theorem zSum_mul {F : Nat → Nat} {a : Nat} : ∀ n, a * zSum F n = zSum (fun j => a * F j) n := by
  intro n
  induction n with
  | zero => rfl
  | succ n ih =>
    simp only [zSum]
    rw [Nat.mul_add, ih]
theorem zSum_add {F G : Nat → Nat} : ∀ n, zSum (fun j => F j + G j) n = zSum F n + zSum G n := by
  intro n
  induction n with
  | zero => rfl
  | succ n ih =>
    simp only [zSum]
    omega
theorem zSum_swap {F : Nat → Nat → Nat} {m : Nat} : ∀ n, zSum (fun j => zSum (fun k => F j k) m) n = zSum (fun k => zSum (fun j => F j k) n) m := by
  intro n
  induction n with
  | zero =>
    show 0 = zSum (fun _ => 0) m
    rw [zSum_0 m (fun _ _ => rfl)]
  | succ n ih =>
    have e : zSum (fun k => zSum (fun j => F j k) (n + 1)) m = zSum (fun k => zSum (fun j => F j k) n + F n k) m := rfl
    rw [e, zSum_add, ← ih]
    rfl
theorem zSum_lm {F G : Nat → Nat} (n : Nat) (h : ∀ d, d < n → F d ≤ G d) : zSum F n ≤ zSum G n := (zSum_m2 n h).1
theorem zSum_one {F : Nat → Nat} : ∀ (n k : Nat), k < n → F k ≤ zSum F n := by
  intro n
  induction n with
  | zero => intro k h; omega
  | succ n ih =>
    intro k h
    simp only [zSum]
    by_cases e : k = n
    · rw [e]; omega
    · have := ih k (by omega)
      omega
theorem z_inf {w h n nd ng go mean e : Nat} {fl nb : Nat → Nat} {dO kn : Nat → Int} {wg : Nat → Nat → Nat} {BG : Nat → Nat → Nat → Nat} {Y : Nat → Nat → Nat} (hS : xSol w h n nd go mean fl nb dO kn wg BG Y) (hw : 1 ≤ w ∧ w ≤ 10) (hh : 1 ≤ h ∧ h ≤ 10) (hn : n = w * h) (hnd : nd ≤ 5) (h3 : ∀ e, e < nd → 1 ≤ zCn (wg e) 8 ∧ zCn (wg e) 8 ≤ 3) (hwt : ∀ e k, e < nd → k < zCn (wg e) 8 → 1 ≤ wg e (zKd (wg e) k) ∧ wg e (zKd (wg e) k) ≤ 9) (hdO : ∀ c, c < n → -1 ≤ dO c ∧ dO c < nd) (hfl : ∀ c, c < n → fl c < ng) (hkd : ∀ e k, e < nd → k < zCn (wg e) 8 → zKd (wg e) k < ng) (hBG : ∀ c y q, c < n → y < 4 → q < ng → BG c y q ≤ 30071) (hm : mean = 0 ∨ mean = 1) (he : e < nd) : ∀ (u cd : Nat), zUk cd nd = u → cd < 1024 → yCan nd kn wg cd → zD cd e = 0 → ∀ (v c : Nat), c < n → Y cd c = v → v < 1000000000000000 → (∀ k, k < zCn (wg e) 8 → Y (cd + (k + 1) * 4 ^ e) c < 1000000000000000) ∧ (mean = 0 → ∀ k, k < zCn (wg e) 8 → Y (cd + (k + 1) * 4 ^ e) c ≤ Y cd c) ∧ (mean = 1 → zSum (fun k => wg e (zKd (wg e) k) * Y (cd + (k + 1) * 4 ^ e) c) (zCn (wg e) 8) ≤ Y cd c) := by
  intro u
  induction u using Nat.strongRecOn with
  | ind u ihu =>
    intro cd hu hcd hcan h0 v
    obtain ⟨m1, m3⟩ := h3 e he
    have up : ∀ k, k < zCn (wg e) 8 → cd + (k + 1) * 4 ^ e < 1024 ∧ yCan nd kn wg (cd + (k + 1) * 4 ^ e) := fun k hk => ⟨(zD_up hcd (by omega : e < 5) (by omega) h0).1, zCan_up hcan hcd hnd he m3 hk h0⟩
    induction v using Nat.strongRecOn with
    | ind v ihv =>
      intro c hc hv hvf
      by_cases hg : c = go
      · have z : ∀ k, k < zCn (wg e) 8 → Y (cd + (k + 1) * 4 ^ e) c = 0 := fun k hk => by
          rw [(hS _ (up k hk).1 (up k hk).2).2.1 c hc (fun q => q.1 hg)]
          unfold zX0
          rw [if_pos hg]
        refine ⟨fun k hk => by rw [z k hk]; omega, fun _ k hk => by rw [z k hk]; omega, fun _ => ?_⟩
        rw [zSum_0 _ (fun k hk => by rw [z k hk]; rfl)]
        omega
      · by_cases hwn : zNw nd (nb c) cd (nd + 1) 0 = -1
        · -- nothing is seen: the best step
          have hB : zB (Y cd) (xEd w h nd mean fl dO wg BG cd) c := (hS cd hcd hcan).2.2.1 c hc ⟨hg, hwn⟩
          obtain ⟨y, d, k0, b1, b2, b3⟩ := hB.2.2 (by omega)
          have hy := x_ed4 b1
          have dig : ∀ e, e < nd → zD cd e ≤ zCn (wg e) 8 := fun e he => ((hcan e (by omega)).2 he).1
          obtain ⟨kb, kn0⟩ := x_kb (y := y) (cd := cd) hw hh hn hdO hfl hkd hBG hc hy dig
          have hz0 : zK w h fl dO (fun e k => zKd (wg e) k) BG cd c y ≠ 0 := fun z => by
            rw [x_ed0 hy z] at b1
            cases b1
          obtain ⟨d', hd', hb'⟩ := kn0 hz0
          rw [x_ed1 hy hz0, hb'] at b1
          have ed : d' = d := by
            injection b1 with b1
            injection b1 with q1 q2
          have ek : xSc mean nd wg cd * zK w h fl dO (fun e k => zKd (wg e) k) BG cd c y = k0 := by
            injection b1 with b1
            injection b1 with q1 q2
          subst ed
          have scb := (zSc_b (mean := mean) (cd := cd) hnd h3 hwt).1
          have pos : 1 ≤ xSc mean nd wg cd * zK w h fl dO (fun e k => zKd (wg e) k) BG cd c y := Nat.mul_pos scb (Nat.pos_of_ne_zero hz0)
          obtain ⟨i1, i2, i3⟩ := ihv (Y cd d') (by omega) d' hd' rfl b2
          have y4 := (hS cd hcd hcan).2.2.2 c y hc hy ⟨hg, hwn⟩
          have sameK : ∀ k, k < zCn (wg e) 8 → zK w h fl dO (fun e k => zKd (wg e) k) BG (cd + (k + 1) * 4 ^ e) c y = zK w h fl dO (fun e k => zKd (wg e) k) BG cd c y := fun k hk => by
            obtain ⟨u1, u2, u3⟩ := zD_up hcd (by omega : e < 5) (by omega : k < 3) h0
            unfold zK
            rw [hb', if_neg (show ¬ (d' : Int) < 0 by omega), if_neg (show ¬ (d' : Int) < 0 by omega)]
            have td : ((d' : Int)).toNat = d' := rfl
            rw [td]
            rw [hb', td] at y4
            by_cases q2 : dO d' = -1
            · rw [if_pos q2, if_pos q2]
            · have kd := (y4 (by omega) q2).1
              have o := hdO d' hd'
              have ne : (dO d').toNat ≠ e := fun z => by
                rw [z] at kd
                exact kd h0
              rw [if_neg q2, if_neg q2, u3 _ (by omega) ne]
          have step : ∀ k, k < zCn (wg e) 8 → Y (cd + (k + 1) * 4 ^ e) c ≤ Y (cd + (k + 1) * 4 ^ e) d' + xSc mean nd wg (cd + (k + 1) * 4 ^ e) * zK w h fl dO (fun e k => zKd (wg e) k) BG cd c y := fun k hk => by
            have hBk : zB (Y (cd + (k + 1) * 4 ^ e)) (xEd w h nd mean fl dO wg BG (cd + (k + 1) * 4 ^ e)) c := (hS _ (up k hk).1 (up k hk).2).2.2.1 c hc ⟨hg, z_nwf hcd hnd he (by omega) h0 hwn⟩
            refine hBk.2.1 y d' _ ?_ (i1 k hk)
            rw [x_ed1 hy (by rw [sameK k hk]; exact hz0), hb', sameK k hk]
            rfl
          have fin : ∀ k, k < zCn (wg e) 8 → Y (cd + (k + 1) * 4 ^ e) c < 1000000000000000 := fun k hk => by
            have s := step k hk
            have yb := ((hS _ (up k hk).1 (up k hk).2).1 d' hd').2 (i1 k hk)
            have bdb := zBd_b (mean := mean) (cd := cd + (k + 1) * 4 ^ e) hnd h3 hwt
            have scb2 : xSc mean nd wg (cd + (k + 1) * 4 ^ e) ≤ 14348907 := (zSc_b (mean := mean) (cd := cd + (k + 1) * 4 ^ e) hnd h3 hwt).2
            have pb : xSc mean nd wg (cd + (k + 1) * 4 ^ e) * zK w h fl dO (fun e k => zKd (wg e) k) BG cd c y ≤ 14348907 * 30071 := Nat.mul_le_mul scb2 kb
            omega
          refine ⟨fin, fun hm0 k hk => ?_, fun hm1 => ?_⟩
          · have s := step k hk
            have i := i2 hm0 k hk
            have sc0 : ∀ x, xSc mean nd wg x = 1 := fun x => if_pos hm0
            rw [sc0] at s
            rw [sc0] at ek
            omega
          · have i := i3 hm1
            have sc1 : ∀ k, k < zCn (wg e) 8 → xSc mean nd wg (cd + (k + 1) * 4 ^ e) * zSum (fun j => wg e (zKd (wg e) j)) (zCn (wg e) 8) = xSc mean nd wg cd := fun k hk => by
              show (if mean = 0 then 1 else zPr (fun e => zSum (fun j => wg e (zKd (wg e) j)) (zCn (wg e) 8)) (cd + (k + 1) * 4 ^ e) nd) * _ = (if mean = 0 then 1 else zPr (fun e => zSum (fun j => wg e (zKd (wg e) j)) (zCn (wg e) 8)) cd nd)
              rw [if_neg (by omega), if_neg (by omega)]
              exact ((z_upP (al := fun e => zSum (fun j => wg e (zKd (wg e) j)) (zCn (wg e) 8)) hcd (by omega : e < 5) (by omega : k < 3) h0 nd hnd).2 he).1
            -- all scales behind are one number
            have s0 := sc1 0 (by omega)
            have al1 : 1 ≤ zSum (fun j => wg e (zKd (wg e) j)) (zCn (wg e) 8) := (zSum_27 (h3 e he) (fun j hj => hwt e j he hj)).1
            have sck : ∀ k, k < zCn (wg e) 8 → xSc mean nd wg (cd + (k + 1) * 4 ^ e) = xSc mean nd wg (cd + (0 + 1) * 4 ^ e) := fun k hk => Nat.eq_of_mul_eq_mul_right al1 ((sc1 k hk).trans s0.symm)
            have tot : zSum (fun k => wg e (zKd (wg e) k) * Y (cd + (k + 1) * 4 ^ e) c) (zCn (wg e) 8) ≤ zSum (fun k => wg e (zKd (wg e) k) * Y (cd + (k + 1) * 4 ^ e) d' + (xSc mean nd wg (cd + (0 + 1) * 4 ^ e) * zK w h fl dO (fun e k => zKd (wg e) k) BG cd c y) * wg e (zKd (wg e) k)) (zCn (wg e) 8) := zSum_lm _ (fun k hk => by
              have s := step k hk
              rw [sck k hk] at s
              have q := Nat.mul_le_mul_left (wg e (zKd (wg e) k)) s
              rw [Nat.mul_add, Nat.mul_comm (wg e (zKd (wg e) k)) (xSc mean nd wg (cd + (0 + 1) * 4 ^ e) * zK w h fl dO (fun e k => zKd (wg e) k) BG cd c y)] at q
              exact q)
            rw [zSum_add, ← zSum_mul] at tot
            have e5 : xSc mean nd wg (cd + (0 + 1) * 4 ^ e) * zK w h fl dO (fun e k => zKd (wg e) k) BG cd c y * zSum (fun k => wg e (zKd (wg e) k)) (zCn (wg e) 8) = xSc mean nd wg cd * zK w h fl dO (fun e k => zKd (wg e) k) BG cd c y := by
              rw [← s0, Nat.mul_right_comm]
            omega
        · -- something is seen
          obtain ⟨e1, q1, q2, q3, q4⟩ := zNw_s _ _ hwn
          have hyc : ∀ cd', cd' < 1024 → yCan nd kn wg cd' → zNw nd (nb c) cd' (nd + 1) 0 = (e1 : Int) → Y cd' c = zOv mean (fun k => wg e1 (zKd (wg e1) k)) (fun k => Y (cd' + (k + 1) * 4 ^ e1) c) (zCn (wg e1) 8) 0 0 := fun cd' a1 a2 a3 => by
            rw [(hS cd' a1 a2).2.1 c hc (fun z => by rw [z.2] at a3; omega)]
            unfold zX0
            rw [if_neg hg, if_neg (by rw [a3]; omega), a3]
            rfl
          have hfin : ∀ cd', Y cd' c = zOv mean (fun k => wg e1 (zKd (wg e1) k)) (fun k => Y (cd' + (k + 1) * 4 ^ e1) c) (zCn (wg e1) 8) 0 0 → Y cd' c < 1000000000000000 → ∀ j, j < zCn (wg e1) 8 → Y (cd' + (j + 1) * 4 ^ e1) c < 1000000000000000 := fun cd' a1 a2 j hj => by
            rcases zAc_ov (mean := mean) (wt := fun k => wg e1 (zKd (wg e1) k)) (val := fun k => Y (cd' + (k + 1) * 4 ^ e1) c) (zCn (wg e1) 8) 0 0 rfl with ⟨-, z2, -⟩ | ⟨-, z2⟩
            · rw [a1, z2] at a2
              omega
            · exact z2 j (by omega) (by omega)
          have hE := hyc cd hcd hcan q1
          have f1 := hfin cd hE (by omega)
          obtain ⟨n1, n3⟩ := h3 e1 q2
          by_cases ee : e1 = e
          · subst ee
            refine ⟨f1, fun hm0 k hk => ?_, fun hm1 => ?_⟩
            · rw [hE, hm0]
              exact (zOv_m (wt := fun k => wg e1 (zKd (wg e1) k)) (val := fun k => Y (cd + (k + 1) * 4 ^ e1) c) (zCn (wg e1) 8) 0 0 (fun j _ hj => f1 j (by omega))).2 k (by omega) (by omega)
            · have s := zOv_s (wt := fun k => wg e1 (zKd (wg e1) k)) (val := fun k => Y (cd + (k + 1) * 4 ^ e1) c) (zCn (wg e1) 8) 0 0 (fun j _ hj => f1 j (by omega))
              rw [hE, hm1]
              rw [Nat.zero_add, Nat.zero_add] at s
              have z0 : zSum (fun j => wg e1 (zKd (wg e1) j) * Y (cd + (j + 1) * 4 ^ e1) c) 0 = 0 := rfl
              omega
          · -- it is another doubt
            have sub : ∀ j, j < zCn (wg e1) 8 → (∀ k, k < zCn (wg e) 8 → Y (cd + (j + 1) * 4 ^ e1 + (k + 1) * 4 ^ e) c < 1000000000000000) ∧ (mean = 0 → ∀ k, k < zCn (wg e) 8 → Y (cd + (j + 1) * 4 ^ e1 + (k + 1) * 4 ^ e) c ≤ Y (cd + (j + 1) * 4 ^ e1) c) ∧ (mean = 1 → zSum (fun k => wg e (zKd (wg e) k) * Y (cd + (j + 1) * 4 ^ e1 + (k + 1) * 4 ^ e) c) (zCn (wg e) 8) ≤ Y (cd + (j + 1) * 4 ^ e1) c) := fun j hj => by
              have uk := zUk_st (k := j) hcd hnd q2 (by omega) q3
              have up1 := zD_up hcd (by omega : e1 < 5) (by omega : j < 3) q3
              exact ihu (zUk (cd + (j + 1) * 4 ^ e1) nd) (by omega) (cd + (j + 1) * 4 ^ e1) rfl up1.1 (zCan_up hcan hcd hnd q2 n3 hj q3) ((up1.2.2 e (by omega) (fun z => ee z.symm)).trans h0) _ c hc rfl (f1 j hj)
            have swp : ∀ j k, cd + (k + 1) * 4 ^ e + (j + 1) * 4 ^ e1 = cd + (j + 1) * 4 ^ e1 + (k + 1) * 4 ^ e := fun j k => by omega
            have hEk : ∀ k, k < zCn (wg e) 8 → Y (cd + (k + 1) * 4 ^ e) c = zOv mean (fun j => wg e1 (zKd (wg e1) j)) (fun j => Y (cd + (j + 1) * 4 ^ e1 + (k + 1) * 4 ^ e) c) (zCn (wg e1) 8) 0 0 := fun k hk => by
              rw [hyc _ (up k hk).1 (up k hk).2 (z_nwk hcd hnd he (by omega) h0 ee q1 q2 q3 q4)]
              congr 1
              funext j
              rw [swp]
            have fj : ∀ k, k < zCn (wg e) 8 → ∀ j, j < zCn (wg e1) 8 → Y (cd + (j + 1) * 4 ^ e1 + (k + 1) * 4 ^ e) c < 1000000000000000 := fun k hk j hj => (sub j hj).1 k hk
            -- what is finite
            have yk0 : mean = 0 → ∀ k, k < zCn (wg e) 8 → Y (cd + (k + 1) * 4 ^ e) c ≤ Y cd c := fun hm0 k hk => by
              rw [hEk k hk, hm0]
              refine zOv_f0 _ 0 0 (by omega) (fun j _ hj => ⟨fj k hk j (by omega), ?_⟩)
              have a := (sub j (by omega)).2.1 hm0 k hk
              have b := (zOv_m (wt := fun k => wg e1 (zKd (wg e1) k)) (val := fun k => Y (cd + (k + 1) * 4 ^ e1) c) (zCn (wg e1) 8) 0 0 (fun j _ hj => f1 j (by omega))).2 j (by omega) (by omega)
              rw [hm0] at hE
              omega
            have yk1 : mean = 1 → zSum (fun k => wg e (zKd (wg e) k) * Y (cd + (k + 1) * 4 ^ e) c) (zCn (wg e) 8) ≤ Y cd c := fun hm1 => by
              have s := zOv_s (wt := fun k => wg e1 (zKd (wg e1) k)) (val := fun k => Y (cd + (k + 1) * 4 ^ e1) c) (zCn (wg e1) 8) 0 0 (fun j _ hj => f1 j (by omega))
              rw [Nat.zero_add, Nat.zero_add] at s
              have z0 : zSum (fun j => wg e1 (zKd (wg e1) j) * Y (cd + (j + 1) * 4 ^ e1) c) 0 = 0 := rfl
              rw [hm1] at hE
              have lhs : zSum (fun k => wg e (zKd (wg e) k) * Y (cd + (k + 1) * 4 ^ e) c) (zCn (wg e) 8) ≤ zSum (fun k => zSum (fun j => wg e1 (zKd (wg e1) j) * (wg e (zKd (wg e) k) * Y (cd + (j + 1) * 4 ^ e1 + (k + 1) * 4 ^ e) c)) (zCn (wg e1) 8)) (zCn (wg e) 8) := zSum_lm _ (fun k hk => by
                have t := zOv_s (wt := fun j => wg e1 (zKd (wg e1) j)) (val := fun j => Y (cd + (j + 1) * 4 ^ e1 + (k + 1) * 4 ^ e) c) (zCn (wg e1) 8) 0 0 (fun j _ hj => fj k hk j (by omega))
                rw [Nat.zero_add, Nat.zero_add] at t
                have z1 : zSum (fun j => wg e1 (zKd (wg e1) j) * Y (cd + (j + 1) * 4 ^ e1 + (k + 1) * 4 ^ e) c) 0 = 0 := rfl
                have ek := hEk k hk
                rw [hm1] at ek
                have e6 : Y (cd + (k + 1) * 4 ^ e) c = zSum (fun j => wg e1 (zKd (wg e1) j) * Y (cd + (j + 1) * 4 ^ e1 + (k + 1) * 4 ^ e) c) (zCn (wg e1) 8) := by omega
                show wg e (zKd (wg e) k) * Y (cd + (k + 1) * 4 ^ e) c ≤ _
                rw [e6, zSum_mul]
                refine zSum_lm _ (fun j _ => ?_)
                show wg e (zKd (wg e) k) * (wg e1 (zKd (wg e1) j) * Y (cd + (j + 1) * 4 ^ e1 + (k + 1) * 4 ^ e) c) ≤ wg e1 (zKd (wg e1) j) * (wg e (zKd (wg e) k) * Y (cd + (j + 1) * 4 ^ e1 + (k + 1) * 4 ^ e) c)
                rw [Nat.mul_left_comm]
                exact Nat.le_refl _)
              rw [← zSum_swap (F := fun j k => wg e1 (zKd (wg e1) j) * (wg e (zKd (wg e) k) * Y (cd + (j + 1) * 4 ^ e1 + (k + 1) * 4 ^ e) c)) (zCn (wg e1) 8)] at lhs
              have rhs : zSum (fun j => zSum (fun k => wg e1 (zKd (wg e1) j) * (wg e (zKd (wg e) k) * Y (cd + (j + 1) * 4 ^ e1 + (k + 1) * 4 ^ e) c)) (zCn (wg e) 8)) (zCn (wg e1) 8) ≤ zSum (fun j => wg e1 (zKd (wg e1) j) * Y (cd + (j + 1) * 4 ^ e1) c) (zCn (wg e1) 8) := zSum_lm _ (fun j hj => by
                show zSum (fun k => wg e1 (zKd (wg e1) j) * (wg e (zKd (wg e) k) * Y (cd + (j + 1) * 4 ^ e1 + (k + 1) * 4 ^ e) c)) (zCn (wg e) 8) ≤ wg e1 (zKd (wg e1) j) * Y (cd + (j + 1) * 4 ^ e1) c
                rw [← zSum_mul]
                exact Nat.mul_le_mul_left _ ((sub j hj).2.2 hm1))
              omega
            refine ⟨fun k hk => ?_, yk0, yk1⟩
            rcases hm with hm0 | hm1
            · have := yk0 hm0 k hk
              omega
            · have a := yk1 hm1
              have b : wg e (zKd (wg e) k) * Y (cd + (k + 1) * 4 ^ e) c ≤ zSum (fun k => wg e (zKd (wg e) k) * Y (cd + (k + 1) * 4 ^ e) c) (zCn (wg e) 8) := zSum_one (F := fun k => wg e (zKd (wg e) k) * Y (cd + (k + 1) * 4 ^ e) c) _ k hk
              have c1 := (hwt e k he hk).1
              have d1 : 1 * Y (cd + (k + 1) * 4 ^ e) c ≤ wg e (zKd (wg e) k) * Y (cd + (k + 1) * 4 ^ e) c := Nat.mul_le_mul_right _ c1
              omega

/-! PLAIN: the class's solve, of, seen: by what is unknown -/
theorem z_alB {nd cd e k : Nat} {mn : Nat → Nat} {wt : Nat → Nat → Nat} (hcd : cd < 1024) (hnd : nd ≤ 5) (he : e < nd) (hk : k < 3) (h0 : zD cd e = 0) : zSum (wt e) (mn e) * zBd 1 nd mn wt (cd + (k + 1) * 4 ^ e) = zUk cd nd * (3007100 * zSc 1 nd mn wt cd) := by
  obtain ⟨a1, a2⟩ := (z_upP (al := fun e => zSum (wt e) (mn e)) (k := k) hcd (by omega : e < 5) hk h0 nd hnd).2 he
  have a1' : zPr (fun e => zSum (wt e) (mn e)) (cd + (k + 1) * 4 ^ e) nd * zSum (wt e) (mn e) = zPr (fun e => zSum (wt e) (mn e)) cd nd := a1
  unfold zBd zSc
  rw [if_neg (by decide), if_neg (by decide), a2, ← a1', Nat.mul_left_comm, Nat.mul_left_comm (zSum (wt e) (mn e)) 3007100, Nat.mul_comm (zSum (wt e) (mn e))]
/-- where all that may come is there, the value is there -/
theorem z_fin {mean nd cd e : Nat} {mn : Nat → Nat} {wt : Nat → Nat → Nat} {val : Nat → Nat} (hcd : cd < 1024) (hnd : nd ≤ 5) (he : e < nd) (hmn : 1 ≤ mn e ∧ mn e ≤ 3) (hs : 0 < zSum (wt e) (mn e)) (h0 : zD cd e = 0) (hm : mean = 0 ∨ mean = 1) (hb : zUk cd nd * (3007100 * zSc mean nd mn wt cd) < 900000000000000) (hv : ∀ k, k < mn e → val k < 1000000000000000 ∧ val k ≤ zBd mean nd mn wt (cd + (k + 1) * 4 ^ e)) : zOv mean (wt e) val (mn e) 0 0 < 1000000000000000 := by
  rcases hm with rfl | rfl
  · have := zOv_f0 (wt := wt e) (val := val) (B := zUk cd nd * (3007100 * zSc 0 nd mn wt cd)) (mn e) 0 0 (Nat.zero_le _) (fun j _ hj => by
      obtain ⟨a, b⟩ := hv j (by omega)
      have h2 := ((z_upP (al := fun e => zSum (wt e) (mn e)) (k := j) hcd (by omega : e < 5) (by omega) h0 nd hnd).2 he).2
      unfold zBd at b
      rw [h2] at b
      exact ⟨a, b⟩)
    omega
  · have := zOv_f1 (wt := wt e) (val := val) (B := zBd 1 nd mn wt (cd + (0 + 1) * 4 ^ e)) (mn e) 0 0 (fun j _ hj => by
      obtain ⟨a, b⟩ := hv j (by omega)
      have k1 := z_alB (mn := mn) (wt := wt) (k := j) hcd hnd he (by omega) h0
      have k2 := z_alB (mn := mn) (wt := wt) (k := 0) hcd hnd he (by omega) h0
      have := Nat.eq_of_mul_eq_mul_left hs (k1.trans k2.symm)
      rw [← this]
      exact ⟨a, b⟩)
    have q := z_alB (mn := mn) (wt := wt) (k := 0) hcd hnd he (by omega) h0
    rw [show 0 + mn e = mn e from Nat.zero_add _, q] at this
    omega
theorem zSum_0 {A : Nat → Nat} : ∀ n, (∀ d, d < n → A d = 0) → zSum A n = 0 := by
  intro n
  induction n with
  | zero => intro _; rfl
  | succ n ih =>
    intro h
    simp only [zSum]
    rw [ih (fun d hd => h d (by omega)), h n (by omega)]
def xSol (w h n nd go mean : Nat) (fl nb : Nat → Nat) (dO kn : Nat → Int) (wg : Nat → Nat → Nat) (BG : Nat → Nat → Nat → Nat) (Y : Nat → Nat → Nat) : Prop := ∀ cd, cd < 1024 → yCan nd kn wg cd → (∀ c, c < n → Y cd c ≤ 1000000000000000 ∧ (Y cd c < 1000000000000000 → Y cd c ≤ zBd mean nd (fun e => zCn (wg e) 8) (fun e k => wg e (zKd (wg e) k)) cd)) ∧ (∀ c, c < n → ¬ zFr nd nb cd go c → Y cd c = zX0 nd nb cd go mean (fun e => zCn (wg e) 8) (fun e k => wg e (zKd (wg e) k)) Y c) ∧ (∀ c, c < n → zFr nd nb cd go c → zB (Y cd) (zEd w h (zSc mean nd (fun e => zCn (wg e) 8) (fun e k => wg e (zKd (wg e) k)) cd) (zKc w h fl dO (fun e k => zKd (wg e) k) BG cd)) c) ∧ ∀ c y, c < n → y < 4 → zFr nd nb cd go c → 0 ≤ besI w h c y → dO (besI w h c y).toNat ≠ -1 → zD cd (dO (besI w h c y).toNat).toNat ≠ 0 ∧ zD cd (dO (besI w h c y).toNat).toNat ≤ zCn (wg (dO (besI w h c y).toNat).toNat) 8
theorem c_rec {N b : Nat} {g : uEnv} {u : UH} {la da wa sa : Nat → Nat} {so ja bk : Nat} {v8 v9 v10 : Value} {w h n nd ng go mean : Nat} {hts : Nat → Int} {fl nb : Nat → Nat} {dO kn : Nat → Int} {wg Y : Nat → Nat → Nat} {BG : Nat → Nat → Nat → Nat} (hX : cCx u g la da wa sa so ja bk v8 v9 v10 w h n nd ng go mean hts fl nb dO kn wg BG) (hk : kOk b sa) (hgo : go < n) (hm : mean = 0 ∨ mean = 1) (hS : xSol w h n nd go mean fl nb dO kn wg BG Y) (hN : 101 ≤ N) : ∀ (uk cd : Nat), cd < 1024 → yCan nd kn wg cd → zUk cd nd = uk →
    (∀ d, 4 * uk + 1 ≤ d → ∀ (V : Nat → Int64) (D P : Nat → Int32), cInv n Y V D → D cd = 0 → ∃ (V' : Nat → Int64) (D' P' : Nat → Int32), (rec_solve N b g d).2.2 (kH u sa V D P) so (iI cd) = some (kH u sa V' D' P') ∧ cInv n Y V' D' ∧ D' cd = 1 ∧ cFr n nd uk V D V' D') ∧
    (∀ d, 4 * uk + 2 ≤ d → ∀ (c : Nat) (V : Nat → Int64) (D P : Nat → Int32), c < n → cInv n Y V D → ∃ (V' : Nat → Int64) (D' P' : Nat → Int32), (rec_solve N b g d).2.1 (kH u sa V D P) so (iI c) (iI cd) = some (iV (Y cd c), kH u sa V' D' P') ∧ cInv n Y V' D' ∧ cFr n nd uk V D V' D') ∧
    (∀ d, 4 * uk + 3 ≤ d → ∀ (c : Nat) (V : Nat → Int64) (D P : Nat → Int32), c < n → c ≠ go → cInv n Y V D → ∃ (V' : Nat → Int64) (D' P' : Nat → Int32), (rec_solve N b g d).1 (kH u sa V D P) so (iI c) (iI cd) (iI ((nb c &&& zUb cd nd : Nat) : Int)) = some (iV (Y cd c), kH u sa V' D' P') ∧ cInv n Y V' D' ∧ cFr n nd uk V D V' D') := by
  have hX' := hX
  obtain ⟨hO, hL, hi, -, ⟨sf, f1, f2⟩, -, -, -, hBG, -⟩ := hX
  have hL' := hL
  obtain ⟨l0, hw, hh, hn, hnd, -, -, ⟨df, df1, df2⟩, -, -, hdd⟩ := hL
  have m4 : w * h ≤ 10 * 10 := Nat.mul_le_mul hw.2 hh.2
  have hmn : ∀ e, e < nd → 1 ≤ zCn (wg e) 8 ∧ zCn (wg e) 8 ≤ 3 := fun e he => (hdd e he).2
  have hwt : ∀ e k, e < nd → k < zCn (wg e) 8 → 1 ≤ wg e (zKd (wg e) k) ∧ wg e (zKd (wg e) k) ≤ 9 := fun e k he hk => by
    obtain ⟨⟨-, wf, -, q⟩, -⟩ := hdd e he
    obtain ⟨a, b⟩ := zKd_ok hk
    exact ⟨Nat.pos_of_ne_zero b, (q _ a).2⟩
  intro uk
  induction uk using Nat.strongRecOn with
  | ind uk ih =>
    intro cd hcd hcan huk
    obtain ⟨y1, y2, y3, y4⟩ := hS cd hcd hcan
    have scb := zSc_b (mean := mean) (cd := cd) hnd hmn hwt
    have bdb := zBd_b (mean := mean) (cd := cd) hnd hmn hwt
    -- A: something new is seen
    have hA : ∀ d, 4 * uk ≤ d → ∀ (c : Nat) (V : Nat → Int64) (D P : Nat → Int32), c < n → c ≠ go → nb c &&& zUb cd nd ≠ 0 → cInv n Y V D → 1 ≤ uk ∧ ∃ (V' : Nat → Int64) (D' P' : Nat → Int32), (rec_solve N b g d).1 (kH u sa V D P) so (iI c) (iI cd) (iI ((nb c &&& zUb cd nd : Nat) : Int)) = some (iV (Y cd c), kH u sa V' D' P') ∧ cInv n Y V' D' ∧ cFr n nd (uk - 1) V D V' D' := fun d hd c V D P hc hcg hs hI => by
      have hnw : zNw nd (nb c) cd (nd + 1) 0 ≠ -1 := fun z => hs (z_free.mpr z)
      obtain ⟨e, q1, q2, q3, q4⟩ := zNw_s _ _ hnw
      have nbl := (f2 c hc).2
      obtain ⟨z1, z2, z3⟩ := z_first hnd hcd nbl q1 q2 q3 q4
      obtain ⟨m1, m3⟩ := hmn e q2
      have upk : ∀ k, k < 3 → zUk (cd + (k + 1) * 4 ^ e) nd + 1 = uk := fun k hk3 => by
        rw [← huk]
        exact ((z_upP (al := fun _ => 1) (k := k) hcd (by omega : e < 5) hk3 q3 nd hnd).2 q2).2
      have u1 := upk 0 (by omega)
      refine ⟨by omega, ?_⟩
      obtain ⟨d', rfl⟩ : ∃ d', d = d' + 1 := ⟨d - 1, by omega⟩
      have up : ∀ k, k < zCn (wg e) 8 → cd + (k + 1) * 4 ^ e < 1024 ∧ yCan nd kn wg (cd + (k + 1) * 4 ^ e) := fun k hk => ⟨(zD_up hcd (by omega : e < 5) (by omega) q3).1, zCan_up hcan hcd hnd q2 m3 hk q3⟩
      have hYk : ∀ k, k < zCn (wg e) 8 → Y (cd + (k + 1) * 4 ^ e) c ≤ 1000000000000000 ∧ (Y (cd + (k + 1) * 4 ^ e) c < 1000000000000000 → Y (cd + (k + 1) * 4 ^ e) c ≤ zBd mean nd (fun e => zCn (wg e) 8) (fun e k => wg e (zKd (wg e) k)) (cd + (k + 1) * 4 ^ e)) := fun k hk => (hS _ (up k hk).1 (up k hk).2).1 c hc
      have hLk := hL'.kH (V := V) (D := D) (P := P) hi
      have hOk := hO.kH (V := V) (D := D) (P := P) hi
      have sz := c_siz (N := N) (b := b) hLk
      have gt := c_get (N := N) (b := b) hLk q2
      have sl : nb c &&& zUb cd nd < 32 := Nat.lt_of_le_of_lt Nat.and_le_left nbl
      obtain ⟨V', D', P', r1, r2, r3⟩ := c_seen40 (N := N) (b := b) (c := c) (e := e) (U := uk - 1) (Y := Y) (rs := (rec_solve N b g d').1) (ro := (rec_solve N b g d').2.1) (rv := (rec_solve N b g d').2.2) (x3 := iI ((nb c &&& zUb cd nd : Nat) : Int)) (x3' := iI ((nb c &&& zUb (cd + (0 + 1) * 4 ^ e) nd : Nat) : Int)) hX' hcd q2 q3 (z3 0 (by omega)) (fun k hk => (hYk k hk).1) (fun k V D P hk hI => by
        have e3 : iI ((nb c &&& zUb (cd + (0 + 1) * 4 ^ e) nd : Nat) : Int) = iI ((nb c &&& zUb (cd + (k + 1) * 4 ^ e) nd : Nat) : Int) := (z3 0 (by omega)).symm.trans (z3 k (by omega))
        rw [e3]
        have uk' := upk k (by omega)
        have := (ih (uk - 1) (by omega) (cd + (k + 1) * 4 ^ e) (up k hk).1 (up k hk).2 (by omega)).2.2 d' (by omega) c V D P hc hcg hI
        exact this) (by omega) N 0 V D P (by omega) (by omega) hI
      refine ⟨V', D', P', ?_, r2, r3⟩
      show fo_X2_seen N b g (rec_solve N b g d').1 (rec_solve N b g d').2.1 (rec_solve N b g d').2.2 (kH u sa V D P) so (iI c) (iI cd) (iI ((nb c &&& zUb cd nd : Nat) : Int)) = _
      unfold fo_X2_seen
      rw [if_neg (show ¬ iI ((nb c &&& zUb cd nd : Nat) : Int) = 0 by rw [j0, j_eq (by omega) (by omega) (by omega) (by omega)]; omega), c_tz z2 sl, z1, q_uc, v_gr hOk (k := 0) rfl, p_bs, p_bs, v_gr hLk.1 (k := 6) rfl, p_bs, p_bs, if_pos sz.2, gt, q_uc, p_bs, if_pos (v_is (kH_r hi (hdd e q2).1.1))]
      have r1' : f_X2_seen_40 N b g (rec_solve N b g d').1 (rec_solve N b g d').2.1 (rec_solve N b g d').2.2 so N (kH u sa V D P) (iI c) (iI cd) (iI ((nb c &&& zUb cd nd : Nat) : Int)) (iI e) (some (da e)) 0 0 = some (cA (zAc mean (fun k => wg e (zKd (wg e) k)) (fun k => Y (cd + (k + 1) * 4 ^ e) c) (zCn (wg e) 8)), kH u sa V' D' P') := r1
      rw [r1']
      have hyc : Y cd c = zOv mean (fun k => wg e (zKd (wg e) k)) (fun k => Y (cd + (k + 1) * 4 ^ e) c) (zCn (wg e) 8) 0 0 := by
        rw [y2 c hc (fun z => hnw z.2)]
        unfold zX0
        rw [if_neg hcg, if_neg hnw, q1]
        rfl
      rcases zAc_ov (mean := mean) (wt := fun k => wg e (zKd (wg e) k)) (val := fun k => Y (cd + (k + 1) * 4 ^ e) c) (zCn (wg e) 8) 0 0 rfl with ⟨a1, a2, -⟩ | ⟨a1, a2⟩
      · rw [Nat.zero_add] at a1
        rw [a1, hyc, a2]
        rfl
      · rw [Nat.zero_add] at a1
        have hzs := zSum_27 (f := fun k => wg e (zKd (wg e) k)) (hmn e q2) (fun k hk => hwt e k q2 hk)
        have hlt := z_fin (mean := mean) (wt := fun e k => wg e (zKd (wg e) k)) (mn := fun e => zCn (wg e) 8) (val := fun k => Y (cd + (k + 1) * 4 ^ e) c) hcd hnd q2 (hmn e q2) hzs.1 q3 hm (by
          have : zUk cd nd * (3007100 * zSc mean nd (fun e => zCn (wg e) 8) (fun e k => wg e (zKd (wg e) k)) cd) ≤ zBd mean nd (fun e => zCn (wg e) 8) (fun e k => wg e (zKd (wg e) k)) cd := Nat.mul_le_mul_right _ (by omega)
          omega) (fun k hk => ⟨a2 k (by omega) (by omega), (hYk k hk).2 (a2 k (by omega) (by omega))⟩)
        rw [a1, hyc, iV_f hlt]
        rfl
    have e100 : ∀ x : Nat, (100 : Int32) * iI (x : Int) = iI ((100 * x : Nat) : Int) := fun x => by
      rw [j100, i_mul]
      congr 1
    have hal : (fun e => zSum (fun k => wg e (zKd (wg e) k)) (zCn (wg e) 8)) = fun e => zSum (wg e) 8 := funext (fun e => zSum_k 8 (Nat.le_refl _))
    have hB : ∀ d, 4 * uk + 1 ≤ d → ∀ (V : Nat → Int64) (D P : Nat → Int32), cInv n Y V D → D cd = 0 → ∃ (V' : Nat → Int64) (D' P' : Nat → Int32), (rec_solve N b g d).2.2 (kH u sa V D P) so (iI cd) = some (kH u sa V' D' P') ∧ cInv n Y V' D' ∧ D' cd = 1 ∧ cFr n nd uk V D V' D' := fun d hd V D P hI hD => by
      obtain ⟨d', rfl⟩ : ∃ d', d = d' + 1 := ⟨d - 1, by omega⟩
      have hLk := hL'.kH (V := V) (D := D) (P := P) hi
      have hOk := hO.kH (V := V) (D := D) (P := P) hi
      have un := c_unk (N := N) (b := b) (cd := cd) hOk hLk hcd (by omega)
      have hU : uk - 1 < zUk cd nd ∨ ∀ c, c < n → c ≠ go → nb c &&& zUb cd nd = 0 := by
        by_cases hz : uk = 0
        · right
          intro c hc hcg
          apply Classical.byContradiction
          intro hs
          have := (hA (4 * uk) (Nat.le_refl _) c V D P hc hcg hs hI).1
          omega
        · left
          omega
      obtain ⟨V1, D1, P1, i1, i2, i3, i4, i5, i6⟩ := c_14 (N := N) (b := b) (U := uk - 1) (Y := Y) (X0 := fun c => if c = go then 0 else if nb c &&& zUb cd nd = 0 then 1000000000000000 else Y cd c) (rs := (rec_solve N b g d').1) (ro := (rec_solve N b g d').2.1) (rv := (rec_solve N b g d').2.2) hX' hk hcd hgo (if_pos rfl) (fun c hc hg hz => (if_neg hg).trans (if_pos hz)) (fun c hc hg hz => (if_neg hg).trans (if_neg hz)) hU (fun c V D P hc hcg hs hI => (hA d' (by omega) c V D P hc hcg hs hI).2) hN N 0 V D P (by omega) (by omega) hI hD (fun d hd => by omega)
      have hY0 : Y cd go = 0 := by
        rw [y2 go hgo (fun z => z.1 rfl)]
        exact if_pos rfl
      have hsc : zSc mean nd (fun e => zCn (wg e) 8) (fun e k => wg e (zKd (wg e) k)) cd = if mean = 0 then 1 else zPr (fun e => zSum (wg e) 8) cd nd := by
        show (if mean = 0 then 1 else zPr (fun e => zSum (fun k => wg e (zKd (wg e) k)) (zCn (wg e) 8)) cd nd) = _
        rw [hal]
      have hscl : zPr (fun e => zSum (wg e) 8) cd nd ≤ 14348907 := by
        have q := (zSc_b (mean := 1) (cd := cd) hnd hmn hwt).2
        have q2 : zSc 1 nd (fun e => zCn (wg e) 8) (fun e k => wg e (zKd (wg e) k)) cd = zPr (fun e => zSum (wg e) 8) cd nd := by
          show (if (1 : Nat) = 0 then 1 else zPr (fun e => zSum (fun k => wg e (zKd (wg e) k)) (zCn (wg e) 8)) cd nd) = _
          rw [hal]
          exact if_neg (by decide)
        omega
      have he : ∀ c y d k, c < n → zEd w h (zSc mean nd (fun e => zCn (wg e) 8) (fun e k => wg e (zKd (wg e) k)) cd) (zKc w h fl dO (fun e k => zKd (wg e) k) BG cd) c y = some (d, k) → d < n ∧ 1 ≤ k := fun c y d k hc hed => by
        unfold zEd at hed
        by_cases hz : y < 4 ∧ zKc w h fl dO (fun e k => zKd (wg e) k) BG cd (4 * c + y) ≠ 0
        · rw [if_pos hz] at hed
          have a1 : (besI w h c y).toNat = d := congrArg Prod.fst (Option.some.inj hed)
          have a2 : zSc mean nd (fun e => zCn (wg e) 8) (fun e k => wg e (zKd (wg e) k)) cd * zKc w h fl dO (fun e k => zKd (wg e) k) BG cd (4 * c + y) = k := congrArg Prod.snd (Option.some.inj hed)
          have a3 : 0 < zSc mean nd (fun e => zCn (wg e) 8) (fun e k => wg e (zKd (wg e) k)) cd * zKc w h fl dO (fun e k => zKd (wg e) k) BG cd (4 * c + y) := Nat.mul_pos scb.1 (Nat.pos_of_ne_zero hz.2)
          have hkc := hz.2
          rw [zKc_at hz.1] at hkc
          have hb0 : ¬ besI w h c y < 0 := fun z => hkc (if_pos z)
          rcases bes_b (w := w) (h := h) (c := c) (d := y) hw hh with hb | ⟨-, hb1, -⟩
          · omega
          · rw [← hn] at hb1
            omega
        · rw [if_neg hz] at hed
          cases hed
      have hfre : ∀ c, c < n → (zFr nd nb cd go c ↔ (c ≠ go ∧ nb c &&& zUb cd nd = 0)) := fun c _ => ⟨fun z => ⟨z.1, z_free.mpr z.2⟩, fun z => ⟨z.1, z_free.mp z.2⟩⟩
      have hX0 : ∀ c, c < n → (zFr nd nb cd go c → (if c = go then 0 else if nb c &&& zUb cd nd = 0 then 1000000000000000 else Y cd c) = 1000000000000000) ∧ (¬ zFr nd nb cd go c → (if c = go then 0 else if nb c &&& zUb cd nd = 0 then 1000000000000000 else Y cd c) = Y cd c) := fun c hc => by
        refine ⟨fun z => ?_, fun z => ?_⟩
        · obtain ⟨q1, q2⟩ := (hfre c hc).mp z
          rw [if_neg q1, if_pos q2]
        · by_cases q1 : c = go
          · rw [if_pos q1, q1, hY0]
          · by_cases q2 : nb c &&& zUb cd nd = 0
            · exact absurd ((hfre c hc).mpr ⟨q1, q2⟩) z
            · rw [if_neg q1, if_neg q2]
      have hX0b : ∀ c, c < n → (if c = go then 0 else if nb c &&& zUb cd nd = 0 then 1000000000000000 else Y cd c) ≤ 1000000000000000 ∧ Y cd c ≤ (if c = go then 0 else if nb c &&& zUb cd nd = 0 then 1000000000000000 else Y cd c) := fun c hc => by
        have q := (y1 c hc).1
        by_cases z : zFr nd nb cd go c
        · rw [(hX0 c hc).1 z]; omega
        · rw [(hX0 c hc).2 z]; omega
      have p0 : ∀ c, c < n → P1 c = 0 := fun c hc => i5 c (by omega)
      obtain ⟨V2, P2, t1, t2, t3⟩ := c_103 (N := N) (b := b) (D := D1) (Y := Y cd) (sc := zSc mean nd (fun e => zCn (wg e) 8) (fun e k => wg e (zKd (wg e) k)) cd) (rs := (rec_solve N b g d').1) (ro := (rec_solve N b g d').2.1) (rv := (rec_solve N b g d').2.2) hX' hk hcd hgo y4 hscl hsc hN he y3 (fun c hc => ⟨(y1 c hc).1, fun z => by have := (y1 c hc).2 z; omega⟩) N 0 V1 (fun c => if c = go then 0 else if nb c &&& zUb cd nd = 0 then 1000000000000000 else Y cd c) P1 (by omega) (by omega) (fun d hd => ⟨i4 d hd, (hX0b d hd).1⟩) (fun c hc => Or.inl (p0 c hc)) (zSum_0 n (fun d hd => by unfold pIn; rw [if_pos (p0 d hd)])) ⟨hX0b, fun c hc hf => (hX0 c hc).2 hf, fun c hc hp => by
          have hp' : P1 c = 1 := hp
          rw [p0 c hc] at hp'
          exact absurd hp' (by decide), fun c y d k hc hf hed hp hd => by
          have hp' : P1 d = 1 := hp
          rw [p0 d (he c y d k hc hed).1] at hp'
          exact absurd hp' (by decide)⟩
      refine ⟨V2, upd D1 cd 1, P2, ?_, fun x hx => ?_, if_pos rfl, fun x hx hu => ?_⟩
      · show fo_X2_solve N b g (rec_solve N b g d').1 (rec_solve N b g d').2.1 (rec_solve N b g d').2.2 (kH u sa V D P) so (iI cd) = _
        unfold fo_X2_solve
        rw [p_let, if_pos (v_is hOk), un, q_uc, e100]
        exact i1.trans t1
      · by_cases q : x = cd
        · subst q
          exact ⟨Or.inr (if_pos rfl), fun _ d hd => (t2 d hd).1⟩
        · have e1 : upd D1 cd 1 x = D1 x := if_neg q
          rw [e1]
          obtain ⟨z1, z2⟩ := i2 x hx
          refine ⟨z1, fun z d hd => ?_⟩
          rw [t3 _ (fun d' hd' => by omega)]
          exact z2 z d hd
      · have q : x ≠ cd := fun e => by rw [e] at hu; omega
        obtain ⟨z1, z2⟩ := i6 x hx q (by omega)
        refine ⟨(if_neg q).trans z1, fun d hd => ?_⟩
        rw [t3 _ (fun d' hd' => by omega)]
        exact z2 d hd
    have hC : ∀ d, 4 * uk + 2 ≤ d → ∀ (c : Nat) (V : Nat → Int64) (D P : Nat → Int32), c < n → cInv n Y V D → ∃ (V' : Nat → Int64) (D' P' : Nat → Int32), (rec_solve N b g d).2.1 (kH u sa V D P) so (iI c) (iI cd) = some (iV (Y cd c), kH u sa V' D' P') ∧ cInv n Y V' D' ∧ cFr n nd uk V D V' D' := fun d hd c V D P hc hI => by
      obtain ⟨d', rfl⟩ : ∃ d', d = d' + 1 := ⟨d - 1, by omega⟩
      have hOk := hO.kH (V := V) (D := D) (P := P) hi
      have ei : ((100 * cd : Nat) : Int) + (c : Int) = ((100 * cd + c : Nat) : Int) := by omega
      obtain ⟨z1, z2⟩ := hI cd hcd
      rcases z1 with z1 | z1
      · obtain ⟨V1, D1, P1, r1, r2, r3, r4⟩ := hB d' (by omega) V D P hI z1
        have hO1 := hO.kH (V := V1) (D := D1) (P := P1) hi
        refine ⟨V1, D1, P1, ?_, r2, r4⟩
        show fo_X2_of N b g (rec_solve N b g d').1 (rec_solve N b g d').2.1 (rec_solve N b g d').2.2 (kH u sa V D P) so (iI c) (iI cd) = _
        unfold fo_X2_of f_X2_of_14
        rw [v_gr hOk (k := 5) rfl, p_bs, p_bs, k_ldD hk rfl hcd, p_bs, if_pos z1, if_pos (v_is hOk), r1, p_bs, v_gr hO1 (k := 4) rfl, p_bs, p_bs, e100, i_add, k_ldV ei (by omega), p_bs, (r2 cd hcd).2 r3 c hc]
      · refine ⟨V, D, P, ?_, hI, cFr.refl⟩
        show fo_X2_of N b g (rec_solve N b g d').1 (rec_solve N b g d').2.1 (rec_solve N b g d').2.2 (kH u sa V D P) so (iI c) (iI cd) = _
        unfold fo_X2_of f_X2_of_14
        rw [v_gr hOk (k := 5) rfl, p_bs, p_bs, k_ldD hk rfl hcd, p_bs, if_neg (show ¬ D cd = 0 by rw [z1]; decide), v_gr hOk (k := 4) rfl, p_bs, p_bs, e100, i_add, k_ldV ei (by omega), p_bs, z2 z1 c hc]
    refine ⟨hB, hC, fun d hd c V D P hc hcg hI => ?_⟩
    by_cases hs : nb c &&& zUb cd nd = 0
    · obtain ⟨d', rfl⟩ : ∃ d', d = d' + 1 := ⟨d - 1, by omega⟩
      have hOk := hO.kH (V := V) (D := D) (P := P) hi
      obtain ⟨V1, D1, P1, r1, r2, r3⟩ := hC d' (by omega) c V D P hc hI
      refine ⟨V1, D1, P1, ?_, r2, r3⟩
      show fo_X2_seen N b g (rec_solve N b g d').1 (rec_solve N b g d').2.1 (rec_solve N b g d').2.2 (kH u sa V D P) so (iI c) (iI cd) (iI ((nb c &&& zUb cd nd : Nat) : Int)) = _
      unfold fo_X2_seen
      rw [if_pos (show iI ((nb c &&& zUb cd nd : Nat) : Int) = 0 by rw [hs]; rfl), if_pos (v_is hOk), r1, q_uc]
    · obtain ⟨-, V1, D1, P1, r1, r2, r3⟩ := hA d (by omega) c V D P hc hcg hs hI
      exact ⟨V1, D1, P1, r1, r2, r3.mono (by omega)⟩

/-! PLAIN: a plan is walked: one hop -/
def wkC (la : Nat → Nat) (dead : Int) (ta c y : Nat) (q s f : Int32) : uE := .inr (16, [.ref (la 0), .int (iI dead), .ref ta, .int (iI c), .int (iI ((y : Int) - 32)), .int q, .int s, .int f])
/-- what stands fast while a plan is walked -/
def wCx (b : Nat) (Ub : UH) (la : Nat → Nat) (a lo hi al : Nat) (rv : Int32) (nm : Nat → Nat) (B : bBk) (dead : Int) (n nd : Nat) (dO kn : Nat → Int) (dc : Nat → Nat) (wg : Nat → Nat → Nat) (wk ta fd : Nat) : Prop := b ≤ wk ∧ b ≤ la 0 ∧ (la 0 < lo ∨ hi ≤ la 0) ∧ (wk < lo ∨ hi ≤ wk) ∧ vBk Ub b lo hi a al rv nm B ∧ bOk B ∧ (0 ≤ dead ∧ dead ≤ 5) ∧ xGe n nd dO kn dc wg ∧ (ta ≠ wk ∧ ta ≠ la 0 ∧ ∃ tf : Nat → Int32, Ub.2.2 ta = some (.inl (0, 5, .inl tf)) ∧ ∀ e, e < nd → tf e = iI (zTg wg fd e)) ∧ fd < 1024 ∧ ∀ e, e < nd → zD fd e ≠ 0 ∧ zD fd e ≤ zCn (wg e) 8
/-- the walk, as the class has it -/
def wSt (g : uEnv) (Ub : UH) (la da wa : Nat → Nat) (a : Nat) (dead : Int) (w h n nd : Nat) (hts : Nat → Int) (fl : Nat → Nat) (dO kn : Nat → Int) (wg : Nat → Nat → Nat) (wk ta : Nat) (u : UH) (c y : Nat) (q s f : Int32) : Prop := (∃ v8 v9 v10 : Value, vLd u g la da wa a v8 v9 v10 w h n nd hts fl dO kn wg) ∧ u.2.2 wk = some (wkC la dead ta c y q s f) ∧ (∀ x, x ≠ wk → x ≠ la 0 → u.2.2 x = Ub.2.2 x) ∧ u.1 = Ub.1 ∧ u.2.1 = Ub.2.1 ∧ uOld u ∧ y < 32 ∧ c < n
section M0s
variable {N b : Nat} {g : uEnv} {Ub u : UH} {la da wa : Nat → Nat} {a lo hi al : Nat} {rv : Int32} {nm : Nat → Nat} {B : bBk} {dead : Int} {w h n nd : Nat} {hts : Nat → Int} {fl : Nat → Nat} {dO kn : Nat → Int} {dc : Nat → Nat} {wg : Nat → Nat → Nat} {wk ta fd c y : Nat} {q s f : Int32}
theorem wSt.ne (hS : wSt g Ub la da wa a dead w h n nd hts fl dO kn wg wk ta u c y q s f) : wk ≠ la 0 := by
  obtain ⟨⟨v8, v9, v10, hL⟩, hk, -⟩ := hS
  exact u_nrr hk hL.1 (by decide)
theorem wSt.tr (hC : wCx b Ub la a lo hi al rv nm B dead n nd dO kn dc wg wk ta fd) (hS : wSt g Ub la da wa a dead w h n nd hts fl dO kn wg wk ta u c y q s f) : ∃ tf : Nat → Int32, u.2.2 ta = some (.inl (0, 5, .inl tf)) ∧ ∀ e, e < nd → tf e = iI (zTg wg fd e) := by
  obtain ⟨-, -, -, -, -, -, -, -, ⟨c1, c2, tf, t1, t2⟩, -⟩ := hC
  obtain ⟨-, hk, hs, -⟩ := hS
  exact ⟨tf, (hs ta c1 c2).trans t1, t2⟩
/-- the walk's cell is written, all else stays -/
theorem wSt.put {u' : UH} {c' y' : Nat} {q' s' f' : Int32} (hS : wSt g Ub la da wa a dead w h n nd hts fl dO kn wg wk ta u c y q s f) (h1 : u'.2.2 wk = some (wkC la dead ta c' y' q' s' f')) (h2 : ∀ x, x ≠ wk → u'.2.2 x = u.2.2 x) (h3 : u'.1 = u.1) (h4 : u'.2.1 = u.2.1) (h5 : uOld u') (hy : y' < 32) (hc : c' < n) : wSt g Ub la da wa a dead w h n nd hts fl dO kn wg wk ta u' c' y' q' s' f' := by
  have hne := hS.ne
  obtain ⟨⟨v8, v9, v10, hL⟩, hk, hs, e1, e2, ho, -⟩ := hS
  refine ⟨⟨v8, v9, v10, hL.keep (fun x e hx ht => (h2 x (fun z => ?_)).trans hx)⟩, h1, fun x x1 x2 => (h2 x x1).trans (hs x x1 x2), h3.trans e1, h4.trans e2, h5, hy, hc⟩
  rw [z, hk] at hx
  have hx : wkC la dead ta c y q s f = e := by injection hx
  rw [← hx] at ht
  rcases ht with ⟨cc, fs, z1, z2⟩ | ⟨t, m, z, z1, -⟩
  · unfold wkC at z1
    injection z1 with z1
    injection z1 with z1 _
    omega
  · unfold wkC at z1
    cases z1
theorem c_wgo {c' : Nat} (hC : wCx b Ub la a lo hi al rv nm B dead n nd dO kn dc wg wk ta fd) (hS : wSt g Ub la da wa a dead w h n nd hts fl dO kn wg wk ta u c y q s f) (hc' : c' < n) : f_X18_groundOf N b g u wk (iI c') = some (iI (zGr fl dO wg fd c'), u) := by
  obtain ⟨tf, t1, t2⟩ := hS.tr hC
  obtain ⟨⟨v8, v9, v10, hL⟩, hk, -⟩ := hS
  obtain ⟨l0, hw, hh, hn, hnd, -, ⟨gf, g1, g2⟩, ⟨df, f1, f2⟩, -, -, hdd⟩ := hL
  have m4 : w * h ≤ 10 * 10 := Nat.mul_le_mul hw.2 hh.2
  obtain ⟨q1, q2, q3, q4⟩ := f2 c' hc'
  have L : uLdR u (la 3) 6 (iI (c' : Int)) = some (df c') := u_ldR f1 (by omega) (by omega) (by omega)
  unfold f_X18_groundOf f_X18_groundOf_41 zGr
  rw [v_gr hk (k := 0) rfl, p_bs, p_bs, v_gr l0 (k := 5) rfl, p_bs, p_bs, L, p_bs]
  by_cases hd : dO c' = -1
  · rw [q3 hd, q_cn, if_pos hd, p_bs, p_bs, v_gr l0 (k := 4) rfl, p_bs, p_bs, u_ldI g1 (by omega) (by omega) (by omega), p_bs]
    exact congrArg (fun z => some (z, u)) (g2 c' hc')
  · rw [q4 hd, q_cs, if_neg hd]
    have dl : (dO c').toNat < nd := by omega
    obtain ⟨d1, d2, d3⟩ := hdd _ dl
    rw [v_gr hk (k := 2) rfl, p_bs, p_bs, p_bs, v_gr l0 (k := 5) rfl, p_bs, p_bs, L, p_bs, q4 hd, p_bs, v_gi d1.1 (k := 0) rfl, p_bs, p_bs, u_ldI t1 (by omega) (by omega) (by omega), p_bs]
    exact congrArg (fun z => some (z, u)) (t2 _ dl)
/-- what comes of a hop -/
theorem kW_go {wr way : Nat} (hC : wCx b Ub la a lo hi al rv nm B dead n nd dO kn dc wg wk ta fd) (hS : wSt g Ub la da wa a dead w h n nd hts fl dO kn wg wk ta u c y q s 0) (hwr : uWay g wr = some way) (hM : ∀ c', c' < n → zGr fl dO wg fd c' < B.2.1) (hN : 100 ≤ N) : (besI w h c way < 0 ∧ ∃ u', f_X18_goes N b g u wk (some wr) = some u' ∧ wSt g Ub la da wa a dead w h n nd hts fl dO kn wg wk ta u' c y q s 1) ∨ ∃ c' : Nat, besI w h c way = (c' : Int) ∧ c' < n ∧ ((bWhy B dead hts w h c way (zGr fl dO wg fd c') ≠ 0 ∧ ∃ u', f_X18_goes N b g u wk (some wr) = some u' ∧ wSt g Ub la da wa a dead w h n nd hts fl dO kn wg wk ta u' c y q s (iI (bWhy B dead hts w h c way (zGr fl dO wg fd c')))) ∨ (bWhy B dead hts w h c way (zGr fl dO wg fd c') = 0 ∧ ∃ u', f_X18_goes N b g u wk (some wr) = some u' ∧ wSt g Ub la da wa a dead w h n nd hts fl dO kn wg wk ta u' c' (y ||| zNb w h dc c' nd) (q + iI (bCost B dead hts w h c way (zGr fl dO wg fd c'))) (s + 1) 0)) := by
  have hS' := hS
  have hne := hS.ne
  obtain ⟨⟨v8, v9, v10, hL⟩, hk, hs, e1, e2, ho, hy, hc⟩ := hS'
  obtain ⟨C1, C2, C3, C4, vB, oB, C5, hG, -⟩ := id hC
  have hL' := hL
  obtain ⟨l0, hw, hh, hn, hnd, ⟨hf, a1, a2⟩, -⟩ := hL'
  have hk' : u.2.2 wk = some (.inr (16, [.ref (la 0), .int (iI dead), .ref ta, .int (iI c), .int (iI ((y : Int) - 32)), .int q, .int s, .int 0])) := hk
  have vB' : vBk u b lo hi a al rv nm B := vB.same (fun x hx => hs x (by rcases hx with z | z <;> omega) (by rcases hx with z | z <;> omega))
  have nG : 0 < B.2.1 := by
    have := hM c hc
    omega
  have bi : ∀ {d : Nat}, 0 ≤ bWhy B dead hts w h c way d ∧ bWhy B dead hts w h c way d ≤ 4 := fun {d} => bWhy_in
  have bes := b_X14 (N := N) (b := b) (g := g) (w := w) (h := h) (c := c) l0 rfl rfl hwr hw hh (hn ▸ hc)
  -- behind why: the map's three numbers, then the walk's cell
  have st1 : ∀ (d : Nat), d < B.2.1 → ∃ u1, f_X14_why N b g u (la 0) (iI c) (some wr) (iI d) (iI dead) = some (iI (bWhy B dead hts w h c way d), u1) ∧ uGI u1 (la 0) 12 10 = some (iI (bN3 B dead hts w h c way d).2.2) ∧ wSt g Ub la da wa a dead w h n nd hts fl dO kn wg wk ta u1 c y q s 0 := fun d hd => by
    have wy := L_why (N := N) (g := g) l0 hn a1 a2 C2 C3 vB' oB hwr hw hh (hn ▸ hc) hd C5 (by omega)
    refine ⟨_, wy, v_gi u_ss rfl, ⟨_, _, _, hL.n3⟩, (u_sn hne).trans hk, fun x x1 x2 => (u_sn x2).trans (hs x x1 x2), e1, e2, ho.set l0, hy, hc⟩
  unfold f_X18_goes f_X18_goes_37
  rw [v_gr hk' (k := 0) rfl, p_bs, v_gi hk' (k := 3) rfl, p_bs, p_bs, if_pos (v_is l0), bes, q_uc, v_gr hk' (k := 0) rfl, p_bs, v_gi hk' (k := 3) rfl, p_bs]
  rcases bes_b (w := w) (h := h) (c := c) (d := way) hw hh with hb | ⟨hb0, hb1, hb2⟩
  · left
    have b1 : bWhy B dead hts w h c way 0 = 1 := if_pos (by omega)
    obtain ⟨u1, g1, -, g3⟩ := st1 0 nG
    rw [b1] at g1
    have g1 : f_X14_why N b g u (la 0) (iI c) (some wr) 0 (iI dead) = some (iI 1, u1) := g1
    have hk1 : u1.2.2 wk = some (.inr (16, [.ref (la 0), .int (iI dead), .ref ta, .int (iI c), .int (iI ((y : Int) - 32)), .int q, .int s, .int 0])) := g3.2.1
    obtain ⟨p1, x1, x2, x3, x4, x5, x6⟩ := w_put (b := b) (k := 7) (v := .int (iI 1)) hk1 C1 (Nat.le_of_ble_eq_true rfl) g3.2.2.2.2.2.1
    refine ⟨by omega, p1, ?_, g3.put x2 x3 x5 x6 x4 hy hc⟩
    rw [hb, if_pos (show iI (-1) = -1 from rfl), v_gi hk' (k := 1) rfl, p_bs, p_bs, if_pos (v_is l0), g1, q_uc, p_bs, x1, p_bs, v_gi x2 (k := 7) rfl, p_bs, if_neg (show ¬ iI 1 = 0 from n10)]
  · obtain ⟨c', hc'⟩ : ∃ c' : Nat, besI w h c way = (c' : Int) := ⟨(besI w h c way).toNat, by omega⟩
    have hcn : c' < n := by omega
    right
    refine ⟨c', hc', hcn, ?_⟩
    have m4 : w * h ≤ 10 * 10 := Nat.mul_le_mul hw.2 hh.2
    have gr := c_wgo (N := N) (g := g) hC hS hcn
    obtain ⟨u1, g1, g2, g3⟩ := st1 _ (hM c' hcn)
    have hk1 : u1.2.2 wk = some (.inr (16, [.ref (la 0), .int (iI dead), .ref ta, .int (iI c), .int (iI ((y : Int) - 32)), .int q, .int s, .int 0])) := g3.2.1
    obtain ⟨p1, x1, x2, x3, x4, x5, x6⟩ := w_put (b := b) (k := 7) (v := .int (iI (bWhy B dead hts w h c way (zGr fl dO wg fd c')))) hk1 C1 (Nat.le_of_ble_eq_true rfl) g3.2.2.2.2.2.1
    have eH : (if iI (besI w h c way) = -1 then f_X18_goes_37 N b g wk u (iI (besI w h c way)) 0 (some wr) (iI c) (some (la 0)) (some wk) else if uIs u wk 16 = true then ucall (f_X18_groundOf N b g u wk (iI (besI w h c way))) fun r14 u12 => f_X18_goes_37 N b g wk u12 (iI (besI w h c way)) r14 (some wr) (iI c) (some (la 0)) (some wk) else none) = (uGI p1 wk 16 7).bind fun y9 => if y9 = 0 then (uPut b p1 wk 16 3 (.int (iI c'))).bind fun u11 => (uGI u11 wk 16 5).bind fun y12 => (uGR u11 wk 16 0).bind fun o13 => (o13).bind fun a14 => (uGI u11 a14 12 10).bind fun y15 => (uPut b u11 wk 16 5 (.int (y12 + y15))).bind fun u16 => (uGI u16 wk 16 6).bind fun y17 => (uPut b u16 wk 16 6 (.int (y17 + 1))).bind fun u18 => (uGI u18 wk 16 4).bind fun y19 => (uGR u18 wk 16 0).bind fun o20 => (uGI u18 wk 16 3).bind fun y21 => (o20).bind fun a22 => if uIs u18 a22 12 = true then ucall (f_X14_sees N b g u18 a22 y21) fun r26 u24 => (uPut b u24 wk 16 4 (.int (y19 ||| r26))).bind fun u27 => some u27 else none else some p1 := by
      unfold f_X18_goes_37
      rw [hc', if_neg (show ¬ iI (c' : Int) = -1 by rw [j_m1, j_eq (by omega) (by omega) (by omega) (by omega)]; omega), if_pos (v_is hk'), gr, q_uc, v_gi hk' (k := 1) rfl, p_bs, p_bs, if_pos (v_is l0), g1, q_uc, p_bs, x1, p_bs]
    unfold f_X18_goes_37 at eH
    rw [eH, v_gi x2 (k := 7) rfl, p_bs]
    by_cases b0 : bWhy B dead hts w h c way (zGr fl dO wg fd c') = 0
    · right
      refine ⟨b0, ?_⟩
      rw [b0] at x2
      have S1 : wSt g Ub la da wa a dead w h n nd hts fl dO kn wg wk ta p1 c y q s 0 := g3.put x2 x3 x5 x6 x4 hy hc
      obtain ⟨p2, d1, d2, d3, d4, d5, d6⟩ := w_put (b := b) (k := 3) (v := .int (iI c')) x2 C1 (Nat.le_of_ble_eq_true rfl) x4
      have S2 : wSt g Ub la da wa a dead w h n nd hts fl dO kn wg wk ta p2 c' y q s 0 := S1.put d2 d3 d5 d6 d4 hy hcn
      have i10 : uGI p2 (la 0) 12 10 = some (iI (bCost B dead hts w h c way (zGr fl dO wg fd c'))) := by
        rw [show (bN3 B dead hts w h c way (zGr fl dO wg fd c')).2.2 = bCost B dead hts w h c way (zGr fl dO wg fd c') by unfold bN3; rw [if_pos b0]] at g2
        rw [← g2]
        unfold uGI uGet
        rw [d3 _ (Ne.symm hne), x3 _ (Ne.symm hne)]
      obtain ⟨p3, f1, f2, f3, f4, f5, f6⟩ := w_put (b := b) (k := 5) (v := .int (q + iI (bCost B dead hts w h c way (zGr fl dO wg fd c')))) d2 C1 (Nat.le_of_ble_eq_true rfl) d4
      have S3 : wSt g Ub la da wa a dead w h n nd hts fl dO kn wg wk ta p3 c' y (q + iI (bCost B dead hts w h c way (zGr fl dO wg fd c'))) s 0 := S2.put f2 f3 f5 f6 f4 hy hcn
      obtain ⟨p4, k1, k2, k3, k4, k5, k6⟩ := w_put (b := b) (k := 6) (v := .int (s + 1)) f2 C1 (Nat.le_of_ble_eq_true rfl) f4
      have S4 : wSt g Ub la da wa a dead w h n nd hts fl dO kn wg wk ta p4 c' y (q + iI (bCost B dead hts w h c way (zGr fl dO wg fd c'))) (s + 1) 0 := S3.put k2 k3 k5 k6 k4 hy hcn
      obtain ⟨⟨z8, z9, z10, hL4⟩, -⟩ := id S4
      have se := c_sees (N := N) (b := b) (c := c') hL4 hcn hG.1 hG.2.1 (by omega)
      have nb32 : zNb w h dc c' nd < 32 := by
        have h1 := zNb_lt (w := w) (h := h) (dc := dc) (c := c') nd
        have p5 : 2 ^ nd ≤ 2 ^ 5 := Nat.pow_le_pow_right (by decide) hnd
        omega
      obtain ⟨o1, o2⟩ := t_mkO hy nb32
      obtain ⟨p5, l1, l2, l3, l4, l5, l6⟩ := w_put (b := b) (k := 4) (v := .int (iI (((y ||| zNb w h dc c' nd : Nat) : Int) - 32))) k2 C1 (Nat.le_of_ble_eq_true rfl) k4
      refine ⟨p5, ?_, S4.put l2 l3 l5 l6 l4 o2 hcn⟩
      rw [b0, if_pos (show iI 0 = 0 from rfl), d1, p_bs, v_gi d2 (k := 5) rfl, p_bs, v_gr d2 (k := 0) rfl, p_bs, p_bs, i10, p_bs, f1, p_bs, v_gi f2 (k := 6) rfl, p_bs, k1, p_bs, v_gi k2 (k := 4) rfl, p_bs, v_gr k2 (k := 0) rfl, p_bs, v_gi k2 (k := 3) rfl, p_bs, p_bs, if_pos (v_is hL4.1), se, q_uc, o1, l1, p_bs]
    · left
      refine ⟨b0, p1, ?_, g3.put x2 x3 x5 x6 x4 hy hc⟩
      have bi' := bi (d := zGr fl dO wg fd c')
      rw [if_neg (show ¬ iI (bWhy B dead hts w h c way (zGr fl dO wg fd c')) = 0 by rw [j0, j_eq (by omega) (by omega) (by omega) (by omega)]; exact b0)]
end M0s

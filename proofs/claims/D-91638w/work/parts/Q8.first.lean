/-! PLAIN: the first world; PLAIN out of the room -/
def fAd (b i : Nat) : Nat := if i = 0 then b else if i = 1 then b + 1 else if i = 2 then b + 2 else if i = 3 then b + 8 else if i = 4 then b + 9 else b + 10
def fSa (b i : Nat) : Nat := b + i - 1
def fLb (b x : Nat) : Nat := if x < b then 0 else if x = b then 1 else if x = b + 1 then 2 else if x ≤ b + 7 then 3 else if x = b + 8 then 4 else if x = b + 9 then 5 else if x = b + 10 then 6 else if x ≤ b + 46 then 10 else if x = b + 47 then 13 else 11
theorem mIx_ok : ∀ j ∈ mIx, mIx.idxOf j < 35 ∧ mIx.getD (mIx.idxOf j) 0 = j := by decide +kernel
theorem mIx_in : ∀ i ∈ mIx, ∀ j ∈ mIx, mIx.idxOf i = mIx.idxOf j → i = j := by decide +kernel
theorem fLb_lt {b x : Nat} (h : x < b) : fLb b x = 0 := if_pos h
theorem fLb_at {b i : Nat} : fLb b (b + i) = if i = 0 then 1 else if i = 1 then 2 else if i ≤ 7 then 3 else if i = 8 then 4 else if i = 9 then 5 else if i = 10 then 6 else if i ≤ 46 then 10 else if i = 47 then 13 else 11 := by
  unfold fLb
  rw [if_neg (show ¬ b + i < b by omega)]
  by_cases c0 : i = 0
  · rw [if_pos (show b + i = b by omega), if_pos c0]
  rw [if_neg (show ¬ b + i = b by omega), if_neg c0]
  by_cases c1 : i = 1
  · rw [if_pos (show b + i = b + 1 by omega), if_pos c1]
  rw [if_neg (show ¬ b + i = b + 1 by omega), if_neg c1]
  by_cases c7 : i ≤ 7
  · rw [if_pos (show b + i ≤ b + 7 by omega), if_pos c7]
  rw [if_neg (show ¬ b + i ≤ b + 7 by omega), if_neg c7]
  by_cases c8 : i = 8
  · rw [if_pos (show b + i = b + 8 by omega), if_pos c8]
  rw [if_neg (show ¬ b + i = b + 8 by omega), if_neg c8]
  by_cases c9 : i = 9
  · rw [if_pos (show b + i = b + 9 by omega), if_pos c9]
  rw [if_neg (show ¬ b + i = b + 9 by omega), if_neg c9]
  by_cases c10 : i = 10
  · rw [if_pos (show b + i = b + 10 by omega), if_pos c10]
  rw [if_neg (show ¬ b + i = b + 10 by omega), if_neg c10]
  by_cases c46 : i ≤ 46
  · rw [if_pos (show b + i ≤ b + 46 by omega), if_pos c46]
  rw [if_neg (show ¬ b + i ≤ b + 46 by omega), if_neg c46]
  by_cases c47 : i = 47
  · rw [if_pos (show b + i = b + 47 by omega), if_pos c47]
  rw [if_neg (show ¬ b + i = b + 47 by omega), if_neg c47]
theorem fGood {b : Nat} : pGood b (b + 11, mAd (b + 11)) := by
  refine ⟨by show b ≤ b + 11; omega, fun j hj => ⟨?_, ?_⟩, fun i hi j hj h => mIx_in i hi j hj ?_⟩
  · show b ≤ b + 11 + 1 + mIx.idxOf j
    omega
  · show b + 11 + 1 + mIx.idxOf j ≠ b + 11
    omega
  · have h : b + 11 + 1 + mIx.idxOf i = b + 11 + 1 + mIx.idxOf j := h
    omega
/-- the law's beginning -/
theorem lw_begin {N b sc L : Nat} {g : uEnv} {u : UH} {sx : Nat → Int32} (hst : uStart b g u sc L sx) : ∃ u4, f_L_law N b g u (some sc) = f_L_law_23 N b g N u4 (some sc) (some (fAd b 0)) (some (b + 11)) (some (b + 47)) (iI ((0 : Nat) : Int)) ∧ u4.1 = u.1 + 48 ∧ u4.2.1 = u.2.1 + 238885 ∧ lSh b g (b + 11, mAd (b + 11)) (fAd b) (fSa b) (qA g (fAd b 4) b u (b + 47)) u4 mS0 := by
  obtain ⟨ub, us, hsc, hlit, ⟨v9, f9, h9, k9, -⟩, ⟨v, f, h10, hv⟩, hint, hr, hne, ⟨t11, h11⟩, ⟨mi, h20⟩, hlt⟩ := id hst
  have ho : uOld u := fun x e q => by
    rw [ub]
    exact hlt x e q
  have vb : v < b := hlt _ _ hv
  obtain ⟨p2, a2, g2, z2, o2, K2, c0, c1, c2, c3, c8, c9, c10⟩ := c_x1i (N := N) (b := b) h10 hv vb (by omega) ho
  obtain ⟨p3, a3, i3⟩ := c_x3i (N := N) (b := b) (g := g) (u := p2) (by omega) o2
  obtain ⟨g3, z3, o3, m0, K3, m3⟩ := i3
  obtain ⟨p4, a4, b4, K4, o4, g4, z4⟩ := w_new (u := p3) (n := 1) (e := .inl (3, 1, .inr (.inl (fun _ => 0)))) o3
  have e2 : p2.1 = b + 11 := by omega
  have n2 : (uNew p2 75 (.inr (2, uDefs tyX3 75))).1 = b + 12 := by
    show p2.1 + 1 = b + 12
    omega
  have e3 : p3.1 = b + 47 := by omega
  rw [n2] at g3 K3 m3
  have z3 : p3.2.1 = p2.2.1 + 75 + 131448 := z3
  rw [e2] at m0 K3
  rw [ub] at K2 c0 c1 c2 c3 c8 c9 c10
  -- cells of the last heap
  have T3 : ∀ x, x < b + 47 → p4.2.2 x = p3.2.2 x := fun x q => K4 x (by omega)
  have T2 : ∀ x, x < b + 11 → p4.2.2 x = p2.2.2 x := fun x q => by
    rw [T3 x (by omega), K3 x (by omega) (by omega)]
    exact u_nx (by omega)
  have T0 : ∀ x, x < b → p4.2.2 x = u.2.2 x := fun x q => (T2 x (by omega)).trans (K2 x q)
  have M0 : p4.2.2 (b + 11) = some (.inr (2, mF (mAd (b + 11)) mS0)) := (T3 _ (by omega)).trans m0
  have M3 : ∀ i, i < 35 → p4.2.2 (b + 12 + i) = some (eX3 i) := fun i q => (T3 _ (by omega)).trans (m3 i q)
  have hp : pSh (b + 11, mAd (b + 11)) p4 mS0 := by
    refine pUp_eq (fun c => ?_)
    rcases pUp_ix (A := (b + 11, mAd (b + 11))) (c := c) with rfl | ⟨j, hj, rfl⟩ | ⟨h1, h2⟩
    · exact (pUp_obj _ p4 mS0).trans M0.symm
    · obtain ⟨j1, j2⟩ := mIx_ok j hj
      rw [pUp_arr fGood p4 mS0 hj]
      have := M3 (mIx.idxOf j) j1
      unfold eX3 at this
      rw [j2] at this
      exact this.symm
    · exact pUp_else p4 mS0 h1 h2
  have lv : p4.2.2 v = some (.inl (4, 0, .inr (.inr (.inr (.inr f))))) := (T0 v vb).trans hv
  have L8 : vLs p4 (b + 8) v 0 0 0 f := ⟨(T2 _ (by omega)).trans c8.1, lv, c8.2.2⟩
  have L9 : vLs p4 (b + 9) v 0 0 0 f := ⟨(T2 _ (by omega)).trans c9.1, lv, c9.2.2⟩
  have iL : ∀ i, (fLb b (b + i)) = if i = 0 then 1 else if i = 1 then 2 else if i ≤ 7 then 3 else if i = 8 then 4 else if i = 9 then 5 else if i = 10 then 6 else if i ≤ 46 then 10 else if i = 47 then 13 else 11 := fun i => fLb_at
  have l0 : fLb b b = 1 := iL 0
  have l1 : fLb b (b + 1) = 2 := iL 1
  have l2 : fLb b (b + 2) = 3 := iL 2
  have l3 : fLb b (b + 3) = 3 := iL 3
  have l4 : fLb b (b + 4) = 3 := iL 4
  have l5 : fLb b (b + 5) = 3 := iL 5
  have l6 : fLb b (b + 6) = 3 := iL 6
  have l7 : fLb b (b + 7) = 3 := iL 7
  have l8 : fLb b (b + 8) = 4 := iL 8
  have l9 : fLb b (b + 9) = 5 := iL 9
  have l10 : fLb b (b + 10) = 6 := iL 10
  have l11 : fLb b (b + 11) = 10 := iL 11
  have l47 : fLb b (b + 47) = 13 := iL 47
  have lv0 : fLb b v = 0 := fLb_lt vb
  refine ⟨p4, ?_, by omega, by omega, hp, fLb b, .null, .null, .null, (T2 _ (by show b < b + 11; omega)).trans c0, o4, by omega, ⟨fun x q => fLb_lt q, fun x q => ?_⟩, ⟨⟨t11, h11⟩, ⟨mi, h20⟩, ⟨v, f, h10, vb, lv⟩, fun k hk => (T0 _ (hlt _ _ (hint k hk))).trans (hint k hk), fun k hk => hlt _ _ (hint k hk)⟩, ⟨l11, fun j hj => ?_⟩, ⟨l0, ⟨l1, fun _ => 0, 0, (T2 _ (by show b + 1 < b + 11; omega)).trans c1, rfl, by omega, fun k _ => ⟨rfl, by show (0 : Int32) = 0 &&& 255; decide⟩⟩, ⟨⟨l2, l3, l4, l5, l6, l7⟩, ⟨⟨_, (T2 _ (by show b + 3 < b + 11; omega)).trans (c3 0 (by omega))⟩, ⟨_, (T2 _ (by show b + 4 < b + 11; omega)).trans (c3 1 (by omega))⟩, ⟨_, (T2 _ (by show b + 5 < b + 11; omega)).trans (c3 2 (by omega))⟩, ⟨_, (T2 _ (by show b + 6 < b + 11; omega)).trans (c3 3 (by omega))⟩, ⟨_, (T2 _ (by show b + 7 < b + 11; omega)).trans (c3 4 (by omega))⟩⟩, by show b + 4 ≠ b + 5; omega, _, _, _, _, (T2 _ (by show b + 2 < b + 11; omega)).trans c2⟩, ⟨l8, v, 0, 0, 0, f, fun _ => 0, L8, fun _ => ⟨h10, vb⟩, fun z => absurd rfl z, fun j hj => absurd hj (by omega), rfl, by omega, Or.inl ⟨rfl, rfl⟩⟩, ⟨l10, fun _ => 0, fun _ => 0, (T2 _ (by show b + 10 < b + 11; omega)).trans c10, fun k _ => ⟨rfl, rfl, by show (0 : Int) ≤ 0; decide, by show (0 : Int) ≤ 4; decide⟩⟩⟩, Or.inl ⟨rfl, rfl, rfl, rfl, rfl⟩, ⟨Or.inl rfl, ⟨fun _ _ _ => rfl, fun _ _ _ _ _ _ => rfl⟩, ⟨v, 0, 0, 0, f, fun _ => 0, fun _ => 0, ⟨L9, l9, fun _ => ⟨h10, lv0⟩, fun z => absurd rfl z⟩, rfl, by omega, fun z => absurd rfl z, fun i hi => absurd hi (by omega)⟩, ⟨Or.inl rfl, Or.inl rfl⟩, fun x q => ⟨fLb_lt q, T0 x q⟩, ⟨l47, fun _ => 0, ?_⟩⟩⟩
  · have a4 : uNew p3 1 (.inl (3, 1, .inr (.inl (fun _ => 0)))) = p4 := a4
    unfold f_L_law f_L_law_3 f_L_law_7 f_L_law_11 f_L_law_15 f_L_law_19
    rw [p_let, p_let, p_bs, a2, p_bs, p_let, p_let, p_bs, a3, p_bs, if_pos (by decide), p_let, p_let, show (1 : Int32).toNatClampNeg = 1 from by decide, a4, ub, e2, e3]
    rfl
  · obtain ⟨i, rfl⟩ : ∃ i, x = b + i := ⟨x - b, by omega⟩
    rw [iL i, if_neg (by omega), if_neg (by omega), if_neg (by omega), if_neg (by omega), if_neg (by omega), if_neg (by omega), if_neg (by omega), if_neg (by omega)]
  · obtain ⟨j1, j2⟩ := mIx_ok j hj
    show fLb b (b + 11 + 1 + mIx.idxOf j) = 10
    rw [show b + 11 + 1 + mIx.idxOf j = b + (12 + mIx.idxOf j) by omega, iL, if_neg (by omega), if_neg (by omega), if_neg (by omega), if_neg (by omega), if_neg (by omega), if_neg (by omega), if_pos (by omega)]
  · rw [← e3]
    exact b4
/-- what is owed of the room, in the model's words alone -/
def ROOM : Prop := ∀ (b : Nat) (g : uEnv) (A : pA) (ad sa : Nat → Nat) (u0 : UH) (ou N m c s : Nat) (sx : Nat → Int32), m ≤ 64 → 200000000000000000 ≤ N → lRun (fun σ => ∃ (U : UH) (lab : Nat → Nat), xSt b g A ad sa (qA g (ad 4) b u0 ou) U lab σ) N sx m 0 mS0 c s → c ≤ 600976 ∧ s ≤ 7054149
theorem plain_of (hR : ROOM) : PLAIN := by
  intro b g u a L xs hL hst
  have gen : ∀ N, 200000000000000000 ≤ N → ∃ uf : UH, f_L_law N b g u (some a) = some (1, uf) ∧ uf.1 - u.1 ≤ 601024 ∧ uf.2.1 - u.2.1 ≤ 7293034 := fun N hN => by
    obtain ⟨u4, e1, e2, e3, e4⟩ := lw_begin (N := N) hst
    obtain ⟨uf, c, s, f1, f2, f3, f4⟩ := lw_loop (ou := b + 47) fGood hst hL hN (L / 6) 0 N u4 mS0 (by omega) (by omega) (by omega) e4
    obtain ⟨r1, r2⟩ := hR b g (b + 11, mAd (b + 11)) (fAd b) (fSa b) u (b + 47) N (L / 6) c s xs (by omega) hN f2
    exact ⟨uf, e1.trans f1, by omega, by omega⟩
  obtain ⟨uf, h⟩ := gen 200000000000000000 (Nat.le_refl _)
  exact ⟨200000000000000000, uf, h⟩
theorem i_vc_room (hR : ROOM) : Claimed_1_1 ∧ Claimed_1_2 := i_vc_of (plain_of hR)

/-! PLAIN: the class's solver(to, byMean) -/
theorem kAr.new {u : UH} {sa : Nat → Nat} {k : Nat} {e : uE} (ho : uOld u) (h : kAr u sa) : kAr (uNew u k e) sa := by
  obtain ⟨⟨V0, h4⟩, ⟨D0, h5⟩, ⟨P0, h6⟩, ⟨S0, h7⟩, C0, h8⟩ := h
  exact ⟨⟨V0, u_no ho h4⟩, ⟨D0, u_no ho h5⟩, ⟨P0, u_no ho h6⟩, ⟨S0, u_no ho h7⟩, C0, u_no ho h8⟩
theorem x_solver {N b lo hi : Nat} {g : uEnv} {u : UH} {ad la da wa sa : Nat → Nat} {σ : MS} {bkv pt : Value} {bk al go mean : Nat} {f0 f1 f2 f3 : Value} {rv : Int32} {nm : Nat → Nat} {B : bBk} {dead : Int} {v8 v9 v10 : Value} {w h n nd : Nat} {hts : Nat → Int} {fl : Nat → Nat} {dO kn : Nat → Int} {wg : Nat → Nat → Nat} {dc : Nat → Nat} (hx : u.2.2 (ad 0) = some (xO ad σ bkv (.ref (la 0)) pt)) (hde : σ.1 38 = iI dead) (ho : uOld u) (hbu : b ≤ u.1) (hhi : hi ≤ u.1) (hm : mean = 0 ∨ mean = 1) (hso : u.2.2 (ad 2) = some (.inr (1, [f0, f1, f2, f3, .ref (sa 4), .ref (sa 5), .ref (sa 6), .ref (sa 7), .ref (sa 8)]))) (hb : b ≤ ad 2) (hk : kOk b sa) (hk2 : bOk2 b lo hi la sa) (hA : kAr u sa) (hoo : (ad 2 < lo ∨ hi ≤ ad 2) ∧ (sa 5 < lo ∨ hi ≤ sa 5)) (hL : vLd u g la da wa bk v8 v9 v10 w h n nd hts fl dO kn wg) (vB : vBk u b lo hi bk al rv nm B) (hB : bOk B) (hdr : 0 ≤ dead ∧ dead ≤ 5) (hdc : ∀ c, c < n → dO c ≠ -1 → dc (dO c).toNat = c) (hcd : ∀ e, e < nd → dc e < n ∧ dO (dc e) = (e : Int)) (hfl : ∀ c, c < n → fl c < B.2.1) (hwg : ∀ e g, e < nd → g < 8 → wg e g ≠ 0 → g < B.2.1) (hN : 1025 ≤ N) :
    ∃ (ub : UH) (V : Nat → Int64) (D P : Nat → Int32) (u8 u9 u10 : Value), f_X1_solver N b g u (ad 0) (iI go) (iI mean) = some (some (ad 2), ub) ∧ cCx ub g la da wa sa (ad 2) u.1 bk u8 u9 u10 w h n nd B.2.1 go mean hts fl (fun c => zNb w h dc c nd) dO kn wg (zBG B dead hts w h) ∧ (∀ cd, cd < 1024 → D cd = 0) ∧ kH ub sa V D P = ub ∧ (∀ x, ¬ kFp (ad 2) la sa x → x < u.1 → ub.2.2 x = u.2.2 x) ∧ uOld ub ∧ ub.1 = u.1 + 1 ∧ ub.2.1 = u.2.1 := by
  have main : ∀ (cl : Nat), ((mean = 0 ∧ cl = 15) ∨ (mean = 1 ∧ cl = 14)) → ∃ (ub : UH) (V : Nat → Int64) (D P : Nat → Int32) (u8 u9 u10 : Value), f_X2_begin N b g (uNew u 0 (.inr (cl, []))) (ad 2) (some (la 0)) (iI go) (iI dead) (some u.1) = some (some (ad 2), ub) ∧ cCx ub g la da wa sa (ad 2) u.1 bk u8 u9 u10 w h n nd B.2.1 go mean hts fl (fun c => zNb w h dc c nd) dO kn wg (zBG B dead hts w h) ∧ (∀ cd, cd < 1024 → D cd = 0) ∧ kH ub sa V D P = ub ∧ (∀ x, ¬ kFp (ad 2) la sa x → x < u.1 → ub.2.2 x = u.2.2 x) ∧ uOld ub ∧ ub.1 = u.1 + 1 ∧ ub.2.1 = u.2.1 := fun cl hcl => by
    have hJ : (mean = 0 ∧ (uNew u 0 (.inr (cl, []))).2.2 u.1 = some (.inr (15, []))) ∨ (mean = 1 ∧ (uNew u 0 (.inr (cl, []))).2.2 u.1 = some (.inr (14, []))) := by
      rcases hcl with ⟨q1, q2⟩ | ⟨q1, q2⟩
      · subst q2
        exact Or.inl ⟨q1, u_nn⟩
      · subst q2
        exact Or.inr ⟨q1, u_nn⟩
    have on : uOld (uNew u 0 (.inr (cl, []))) := ho.new
    obtain ⟨ub, V, D, P, u8, u9, u10, r1, r2, r3, r4, r5, r6, r7⟩ := c_begin (N := N) (g := g) (go := go) (u_no ho hso) hb hk hk2 (hA.new ho) hoo (hL.keep (fun x e hx _ => u_no ho hx)) (vB.same (uSame.new (n := 0) (e := .inr (cl, [])) hbu hhi)) hB hdr hdc hcd hfl hwg hJ hN
    rw [r4] at r1
    refine ⟨ub, V, D, P, u8, u9, u10, r1, r2, r3, r4, fun x a1 a2 => ?_, fun x e he => ?_, r6, r7⟩
    · rw [r5 x a1, u_nx (Nat.ne_of_lt a2)]
    · rw [r6]
      show x < u.1 + 1
      by_cases q : kFp (ad 2) la sa x
      · obtain ⟨⟨V0, h4⟩, ⟨D0, h5⟩, ⟨P0, h6⟩, ⟨S0, h7⟩, C0, h8⟩ := hA
        rcases q with q | q | q | q | q | q | q
        · rw [q]; have := ho _ _ hso; omega
        · rw [q]; have := ho _ _ hL.1; omega
        · rw [q]; have := ho _ _ h4; omega
        · rw [q]; have := ho _ _ h5; omega
        · rw [q]; have := ho _ _ h6; omega
        · rw [q]; have := ho _ _ h7; omega
        · rw [q]; have := ho _ _ h8; omega
      · rw [r5 x q] at he
        exact on x e he
  have hso1 : ∀ e, (uNew u 0 e).2.2 (ad 2) = some (.inr (1, [f0, f1, f2, f3, .ref (sa 4), .ref (sa 5), .ref (sa 6), .ref (sa 7), .ref (sa 8)])) := fun e => u_no ho hso
  unfold f_X1_solver f_X1_solver_30 f_X1_solver_20 f_X1_solver_34 f_X17_init f_X16_init f_J17_init
  rw [v_gr hx (k := 8) rfl, p_bs, v_gr hx (k := 7) rfl, p_bs, v_gi hx (k := 3) rfl, p_bs, hde]
  rcases hm with rfl | rfl
  · obtain ⟨ub, V, D, P, u8, u9, u10, r1, r2⟩ := main 15 (Or.inl ⟨rfl, rfl⟩)
    refine ⟨ub, V, D, P, u8, u9, u10, ?_, r2⟩
    rw [if_pos (show iI ((0 : Nat) : Int) = 0 from rfl), p_let, p_let, p_bs, p_bs, p_bs, p_bs, if_pos (v_is (hso1 _))]
    show ucall (f_X2_begin N b g (uNew u 0 (.inr (15, []))) (ad 2) (some (la 0)) (iI go) (iI dead) (some u.1)) (fun o5 u3 => some (o5, u3)) = _
    rw [r1, q_uc]
  · obtain ⟨ub, V, D, P, u8, u9, u10, r1, r2⟩ := main 14 (Or.inr ⟨rfl, rfl⟩)
    refine ⟨ub, V, D, P, u8, u9, u10, ?_, r2⟩
    rw [if_neg (show ¬ iI ((1 : Nat) : Int) = 0 by decide), p_let, p_let, p_bs, p_bs, p_bs, p_bs, if_pos (v_is (hso1 _))]
    show ucall (f_X2_begin N b g (uNew u 0 (.inr (14, []))) (ad 2) (some (la 0)) (iI go) (iI dead) (some u.1)) (fun o5 u3 => some (o5, u3)) = _
    rw [r1, q_uc]

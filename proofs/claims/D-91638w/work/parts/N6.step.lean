/-! PLAIN: a step of a plan is read, of both -/
theorem t_wy {b : Nat} {g : uEnv} {U : UH} (h : tEn b g U) {y wr : Nat} (hy : y < 4) (hw : g.1 (5 + y) = some wr) : uWay g wr = some y := by
  have ne : ∀ {i j : Nat}, i < 9 → j < 9 → i ≠ j → g.1 i ≠ g.1 j := fun hi hj hij => h.ne hi hj hij
  unfold uWay
  match y, hy with
  | 0, _ => exact if_pos hw
  | 1, _ => rw [if_neg (fun z => ne (i := 5) (j := 6) (by decide) (by decide) (by decide) (z.trans hw.symm)), if_pos hw]
  | 2, _ => rw [if_neg (fun z => ne (i := 5) (j := 7) (by decide) (by decide) (by decide) (z.trans hw.symm)), if_neg (fun z => ne (i := 6) (j := 7) (by decide) (by decide) (by decide) (z.trans hw.symm)), if_pos hw]
  | 3, _ => rw [if_neg (fun z => ne (i := 5) (j := 8) (by decide) (by decide) (by decide) (z.trans hw.symm)), if_neg (fun z => ne (i := 6) (j := 8) (by decide) (by decide) (by decide) (z.trans hw.symm)), if_neg (fun z => ne (i := 7) (j := 8) (by decide) (by decide) (by decide) (z.trans hw.symm)), if_pos hw]
abbrev roT : Type := UH → Nat → Option ((Nat × UH) ⊕ (Option Nat × UH))
/-- what a planner knows and does not change -/
def pOld (lo : Nat) (U : UH) (σ : MS) (bo mp nD nG : Nat) : Prop := (∃ (gl arr m : Nat) (mc : Int32) (xs : Nat → Option Nat) (ga nm : Nat → Nat) (fs : List Value), bo < lo ∧ gl < lo ∧ arr < lo ∧ U.2.2 bo = some (.inr (3, .ref gl :: fs)) ∧ vLs U gl arr nG m mc xs ∧ nG ≤ 8 ∧ σ.1 22 = iI nG ∧ ∀ d, d < nG → xs d = some (ga d) ∧ ga d < lo ∧ (∃ v1 v2 : Value, U.2.2 (ga d) = some (.inr (5, [.ref (nm d), v1, v2]))) ∧ nm d < lo ∧ ∃ (v q : Nat) (h z : Int32) (f : Nat → Int32), v < lo ∧ U.2.2 (nm d) = some (.inr (20, [.ref v, .int 0, .int h, .int z])) ∧ U.2.2 v = some (.inl (1, q, .inl f)) ∧ q ≤ 8 ∧ σ.2.1 15 d = iI q ∧ ∀ k, k < q → f k = σ.2.1 14 (8 * d + k)) ∧ ∃ (dl darr dm : Nat) (dmc : Int32) (dxs : Nat → Option Nat) (v0 v1 v2 v3 v4 v5 : Value) (fs : List Value), mp < lo ∧ dl < lo ∧ darr < lo ∧ U.2.2 mp = some (.inr (12, v0 :: v1 :: v2 :: v3 :: v4 :: v5 :: .ref dl :: fs)) ∧ vLs U dl darr nD dm dmc dxs ∧ nD ≤ 5 ∧ σ.1 37 = iI nD
theorem pOld.keep {lo bo mp nD nG : Nat} {U U' : UH} {σ σ' : MS} (h : pOld lo U σ bo mp nD nG) (hk : ∀ y, y < lo → U'.2.2 y = U.2.2 y) (h22 : σ'.1 22 = σ.1 22) (h37 : σ'.1 37 = σ.1 37) (h14 : σ'.2.1 14 = σ.2.1 14) (h15 : σ'.2.1 15 = σ.2.1 15) : pOld lo U' σ' bo mp nD nG := by
  obtain ⟨⟨gl, arr, m, mc, xs, ga, nm, fs, a1, a2, a3, a4, ⟨a5, a6, a7⟩, a8, a9, a10⟩, dl, darr, dm, dmc, dxs, v0, v1, v2, v3, v4, v5, fs', b1, b2, b3, b4, ⟨b5, b6, b7⟩, b8, b9⟩ := h
  refine ⟨⟨gl, arr, m, mc, xs, ga, nm, fs, a1, a2, a3, (hk _ a1).trans a4, ⟨(hk _ a2).trans a5, (hk _ a3).trans a6, a7⟩, a8, h22.trans a9, fun d hd => ?_⟩, dl, darr, dm, dmc, dxs, v0, v1, v2, v3, v4, v5, fs', b1, b2, b3, (hk _ b1).trans b4, ⟨(hk _ b2).trans b5, (hk _ b3).trans b6, b7⟩, b8, h37.trans b9⟩
  obtain ⟨e1, e2, ⟨w1, w2, e3⟩, e4, v, q, hh, z, f, e5, e6, e7, e8, e9, e10⟩ := a10 d hd
  refine ⟨e1, e2, ⟨w1, w2, (hk _ e2).trans e3⟩, e4, v, q, hh, z, f, e5, (hk _ e4).trans e6, (hk _ e5).trans e7, e8, ?_, ?_⟩
  · rw [h15]
    exact e9
  · rw [h14]
    exact e10
section K5s
variable {N b : Nat} {g : uEnv} {lo rd tp n pl bo mp : Nat} {T : Nat → Nat} {rp rs ri : roT}
/-- the word of a way -/
theorem k_wyW {U : UH} {σ : MS} {at' : Nat} {v1 v2 v3 v4 : Value} (h : rCx b g lo rd tp n T U σ at') (hp : U.2.2 pl = some (.inr (9, [.ref rd, v1, v2, v3, v4]))) (hN : 2000 ≤ N) : ∃ U1, rCx b g lo rd tp n T U1 σ at' ∧ rKp lo rd U U1 ∧ U1.1 = U.1 ∧ U1.2.1 = U.2.1 ∧ ((∃ y wr : Nat, y < 4 ∧ g.1 (5 + y) = some wr ∧ fo_X11_step N b g rp rs ri U pl = f_X11_step_27 N b g rp rs ri pl U1 (some wr) ∧ f_wayWord N σ = some (iI y, σ) ∧ σ.1 6 = 2 ∧ ¬ isW σ (pTx 35)) ∨ (fo_X11_step N b g rp rs ri U pl = f_X11_step_27 N b g rp rs ri pl U1 none ∧ f_wayWord N σ = some (-1, σ))) := by
  have ho : uOld U := h.2.2.2.2.2.1
  have pl' : ∀ j, j < 52 → (pTx j).length ≤ 100 := by decide +kernel
  obtain ⟨kr, st, va, wv, sg, c1, c2, -, k2, -, -, w, -⟩ := k_kind h
  have kw : ∀ i, i < 4 → _ := fun i (hi : i < 4) => k_word (N := N) (tx := pTx (38 + i)) h (pl' _ (by omega)) (by omega)
  have e38 : pTx 38 = pTx 8 := by decide +kernel
  have e39 : pTx 39 = pTx 9 := by decide +kernel
  have e40 : pTx 40 = pTx 10 := by decide +kernel
  have e41 : pTx 41 = pTx 11 := by decide +kernel
  unfold fo_X11_step f_wayWord f_wayWord_53
  rw [v_gr hp (k := 0) rfl, p_bs, p_bs, v_gr c1 (k := 5) rfl, p_bs, p_let]
  by_cases h6 : σ.1 6 = 2
  · obtain ⟨a, m, f, e1, hl, e3, em, hm, hs, e7⟩ := w h6
    subst e1
    obtain ⟨U1, g1, g2, g3, g4, g5⟩ := c_wayOf (N := N) h hs hm hl hN
    have wI : ∀ {tx : List Int32}, isW σ tx ↔ wEq m f tx := fun {tx} => by
      constructor
      · rintro ⟨-, m', q1, q2, q3⟩
        have e : iI (m' : Int) = iI (m : Int) := q1.symm.trans e3
        rw [j_eq (by omega) (by omega) (by omega) (by omega)] at e
        have e' : m' = m := by omega
        subst e'
        exact ⟨q3.1, fun k hk => (e7 k hk).1.trans (q3.2 k hk)⟩
      · intro q
        exact ⟨h6, m, e3, hm, q.1, fun k hk => (e7 k hk).1.symm.trans (q.2 k hk)⟩
    have un : ∀ {t1 t2 : List Int32}, t1 ≠ t2 → wEq m f t1 → ¬ wEq m f t2 := fun {t1 t2} ht q1 q2 => ht (by
      apply List.ext_getElem
      · rw [← q1.1, ← q2.1]
      · intro i i1 i2
        have z1 := q1.2 i (by rw [q1.1]; exact i1)
        have z2 := q2.2 i (by rw [q2.1]; exact i2)
        rw [List.getD_eq_getElem?_getD, List.getElem?_eq_getElem i1, Option.getD_some] at z1
        rw [List.getD_eq_getElem?_getD, List.getElem?_eq_getElem i2, Option.getD_some] at z2
        rw [← z1, ← z2])
    refine ⟨U1, g1, g2, g3, g4, ?_⟩
    rw [if_pos (k2.mp h6), p_bs, p_bs, v_gr c1 (k := 6) rfl, p_bs]
    rcases g5 with ⟨q, q'⟩ | ⟨q, q'⟩ | ⟨q, q'⟩ | ⟨q, q'⟩ | ⟨⟨q1, q2, q3, q4⟩, q'⟩
    · obtain ⟨wr, hw⟩ := g1.2.2.2.2.1.kd (i := 5) (by decide)
      refine Or.inl ⟨0, wr, by omega, hw, ?_, ?_, h6, fun z => un (by decide +kernel) q (wI.mp z)⟩
      · rw [q', q_uc, hw]
      · rw [(kw 0 (by decide)).1 (wI.mpr (by rw [e38]; exact q)), q_mc, if_neg n10]
        rfl
    · obtain ⟨wr, hw⟩ := g1.2.2.2.2.1.kd (i := 6) (by decide)
      refine Or.inl ⟨1, wr, by omega, hw, ?_, ?_, h6, fun z => un (by decide +kernel) q (wI.mp z)⟩
      · rw [q', q_uc, hw]
      · rw [(kw 0 (by decide)).2 (fun z => un (t1 := pTx 9) (t2 := pTx 38) (by decide +kernel) q (wI.mp z)), q_mc, if_pos rfl, (kw 1 (by decide)).1 (wI.mpr (by rw [e39]; exact q)), q_mc, if_neg n10]
        rfl
    · obtain ⟨wr, hw⟩ := g1.2.2.2.2.1.kd (i := 7) (by decide)
      refine Or.inl ⟨2, wr, by omega, hw, ?_, ?_, h6, fun z => un (by decide +kernel) q (wI.mp z)⟩
      · rw [q', q_uc, hw]
      · rw [(kw 0 (by decide)).2 (fun z => un (t1 := pTx 10) (t2 := pTx 38) (by decide +kernel) q (wI.mp z)), q_mc, if_pos rfl, (kw 1 (by decide)).2 (fun z => un (t1 := pTx 10) (t2 := pTx 39) (by decide +kernel) q (wI.mp z)), q_mc, if_pos rfl, (kw 2 (by decide)).1 (wI.mpr (by rw [e40]; exact q)), q_mc, if_neg n10]
        rfl
    · obtain ⟨wr, hw⟩ := g1.2.2.2.2.1.kd (i := 8) (by decide)
      refine Or.inl ⟨3, wr, by omega, hw, ?_, ?_, h6, fun z => un (by decide +kernel) q (wI.mp z)⟩
      · rw [q', q_uc, hw]
      · rw [(kw 0 (by decide)).2 (fun z => un (t1 := pTx 11) (t2 := pTx 38) (by decide +kernel) q (wI.mp z)), q_mc, if_pos rfl, (kw 1 (by decide)).2 (fun z => un (t1 := pTx 11) (t2 := pTx 39) (by decide +kernel) q (wI.mp z)), q_mc, if_pos rfl, (kw 2 (by decide)).2 (fun z => un (t1 := pTx 11) (t2 := pTx 40) (by decide +kernel) q (wI.mp z)), q_mc, if_pos rfl, (kw 3 (by decide)).1 (wI.mpr (by rw [e41]; exact q)), q_mc, if_neg n10]
        rfl
    · refine Or.inr ⟨?_, ?_⟩
      · rw [q', q_uc]
      · rw [(kw 0 (by decide)).2 (fun z => q1 (by rw [← e38]; exact wI.mp z)), q_mc, if_pos rfl, (kw 1 (by decide)).2 (fun z => q2 (by rw [← e39]; exact wI.mp z)), q_mc, if_pos rfl, (kw 2 (by decide)).2 (fun z => q3 (by rw [← e40]; exact wI.mp z)), q_mc, if_pos rfl, (kw 3 (by decide)).2 (fun z => q4 (by rw [← e41]; exact wI.mp z)), q_mc, if_pos rfl]
  · refine ⟨U, h, rKp.refl ho, rfl, rfl, Or.inr ⟨?_, ?_⟩⟩
    · rw [if_neg (fun y => h6 (k2.mpr y))]
    · rw [(kw 0 (by decide)).2 (fun z => h6 z.1), q_mc, if_pos rfl, (kw 1 (by decide)).2 (fun z => h6 z.1), q_mc, if_pos rfl, (kw 2 (by decide)).2 (fun z => h6 z.1), q_mc, if_pos rfl, (kw 3 (by decide)).2 (fun z => h6 z.1), q_mc, if_pos rfl]
end K5s

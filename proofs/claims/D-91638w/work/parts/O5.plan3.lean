/-! PLAIN: the call plan: what is left behind -/
theorem vPl.mn {g : uEnv} {U : UH} {lab : Nat → Nat} {od : Nat → Int32} {nD nG : Nat} : ∀ (n a k0 k1 : Nat), vPl g U lab od nD nG n a k0 k1 → k0 ≤ k1 := by
  intro n
  induction n with
  | zero => intro a k0 k1 h; exact h.elim
  | succ n ih =>
    intro a k0 k1 h
    obtain ⟨arr, cnt, m, mc, xs, ks, ea, h1, h2, h3, h4⟩ := h
    have st : ∀ i, i < cnt → ks i < ks (i + 1) := fun i hi => by
      obtain ⟨-, -, e⟩ := h4 i hi
      rcases e with ⟨wy, y, t, q1, q2, q3, q4, q5, q6, q7, q8, q9⟩ | ⟨d, gr, th, ot, k2, q1, q2, q3, q4, q5, q6, q8, q9⟩
      · omega
      · have z1 := ih _ _ _ q8
        rcases q9 with ⟨w1, w2, -⟩ | ⟨w1, w2, w3, w4⟩
        · omega
        · have z2 := ih _ _ _ w4
          omega
    have : ∀ i, i ≤ cnt → k0 ≤ ks i := by
      intro i
      induction i with
      | zero => intro _; omega
      | succ i ih2 =>
        intro hi
        have := ih2 (by omega)
        have := st i (by omega)
        omega
    have := this cnt (Nat.le_refl _)
    omega
theorem vPl.od {g : uEnv} {U : UH} {lab : Nat → Nat} {od od' : Nat → Int32} {nD nG : Nat} : ∀ (n a k0 k1 : Nat), vPl g U lab od nD nG n a k0 k1 → (∀ i, 4 * k0 ≤ i → i < 4 * k1 → od' i = od i) → vPl g U lab od' nD nG n a k0 k1 := by
  intro n
  induction n with
  | zero => intro a k0 k1 h _; exact h
  | succ n ih =>
    intro a k0 k1 h ho
    obtain ⟨arr, cnt, m, mc, xs, ks, ea, h1, h2, h3, h4⟩ := h
    have st : ∀ i, i < cnt → ks i < ks (i + 1) := fun i hi => by
      obtain ⟨-, -, e⟩ := h4 i hi
      rcases e with ⟨wy, y, t, q1, q2, q3, q4, q5, q6, q7, q8, q9⟩ | ⟨d, gr, th, ot, k2, q1, q2, q3, q4, q5, q6, q8, q9⟩
      · omega
      · have z1 := vPl.mn _ _ _ _ q8
        rcases q9 with ⟨w1, w2, -⟩ | ⟨w1, w2, w3, w4⟩
        · omega
        · have z2 := vPl.mn _ _ _ _ w4
          omega
    have up : ∀ i, i ≤ cnt → k0 ≤ ks i := by
      intro i
      induction i with
      | zero => intro _; omega
      | succ i ih2 =>
        intro hi
        have := ih2 (by omega)
        have := st i (by omega)
        omega
    have dn : ∀ q i, i + q = cnt → ks i ≤ k1 := by
      intro q
      induction q with
      | zero =>
        intro i hi
        have : i = cnt := by omega
        rw [this]
        omega
      | succ q ih2 =>
        intro i hi
        have := ih2 (i + 1) (by omega)
        have := st i (by omega)
        omega
    refine ⟨arr, cnt, m, mc, xs, ks, ea, h1, h2, h3, fun i hi => ?_⟩
    obtain ⟨e1, e2, e6⟩ := h4 i hi
    have b1 := up i (by omega)
    have b2 := st i hi
    have b3 := dn (cnt - (i + 1)) (i + 1) (by omega)
    have o : ∀ c, c < 4 → od' (4 * ks i + c) = od (4 * ks i + c) := fun c hc => ho _ (by omega) (by omega)
    have o0 : od' (4 * ks i) = od (4 * ks i) := o 0 (by omega)
    refine ⟨e1, e2, ?_⟩
    rcases e6 with ⟨wy, y, t, q1, q2, q3, q4, q5, q6, q7, q8, q9⟩ | ⟨d, gr, th, ot, k2, q1, q2, q3, q4, q5, q6, q8, q9⟩
    · exact Or.inl ⟨wy, y, t, q1, q2, q3, q4, q5, o0.trans q6, (o 1 (by omega)).trans q7, (o 2 (by omega)).trans q8, q9⟩
    · have z1 := vPl.mn _ _ _ _ q8
      have z2 : k2 ≤ ks (i + 1) := by
        rcases q9 with ⟨w1, w2, -⟩ | ⟨w1, w2, w3, w4⟩
        · omega
        · have := vPl.mn _ _ _ _ w4
          omega
      refine Or.inr ⟨d, gr, th, ot, k2, q1, q2, q3, o0.trans q4, (o 1 (by omega)).trans q5, (o 2 (by omega)).trans q6, ih _ _ _ q8 (fun j j1 j2 => ho j (by omega) (by omega)), ?_⟩
      rcases q9 with ⟨w1, w2⟩ | ⟨w1, w2, w3, w4⟩
      · exact Or.inl ⟨(o 3 (by omega)).trans w1, w2⟩
      · have z3 := vPl.mn _ _ _ _ w4
        exact Or.inr ⟨(o 3 (by omega)).trans w1, (ho _ (by omega) (by omega)).trans w2, (ho _ (by omega) (by omega)).trans w3, ih _ _ _ w4 (fun j j1 j2 => ho j (by omega) (by omega))⟩
/-- σ but for what a plan's text leaves -/
def oP (k : Nat) : Prop := k = 0 ∨ (2 ≤ k ∧ k ≤ 10) ∨ k = 13 ∨ k = 39 ∨ k = 40 ∨ k = 58 ∨ k = 59
def mOw (σ τ : MS) : MS := (fun k => if k = 0 then τ.1 0 else if k = 2 then τ.1 2 else if k = 3 then τ.1 3 else if k = 4 then τ.1 4 else if k = 5 then τ.1 5 else if k = 6 then τ.1 6 else if k = 7 then τ.1 7 else if k = 8 then τ.1 8 else if k = 9 then τ.1 9 else if k = 10 then τ.1 10 else if k = 13 then τ.1 13 else if k = 39 then τ.1 39 else if k = 40 then τ.1 40 else if k = 58 then τ.1 58 else if k = 59 then τ.1 59 else σ.1 k, fun j => if j = 11 then τ.2.1 11 else if j = 56 then τ.2.1 56 else if j = 57 then τ.2.1 57 else if j = 60 then τ.2.1 60 else if j = 61 then τ.2.1 61 else if j = 62 then τ.2.1 62 else σ.2.1 j, σ.2.2)
theorem if_ow {α : Type} {k c : Nat} {f : Nat → α} {r : α} (h : k ≠ c → r = f k) : (if k = c then f c else r) = f k := by
  by_cases z : k = c
  · rw [if_pos z, z]
  · rw [if_neg z]
    exact h z
theorem mOw_eq {σ τ : MS} (hf : ∀ k, ¬ oP k → τ.1 k = σ.1 k) (hr : ∀ j, ¬ pRw j → j ≠ 57 → τ.2.1 j = σ.2.1 j) (h2 : τ.2.2 = σ.2.2) : mOw σ τ = τ := by
  refine Prod.ext (funext fun k => ?_) (Prod.ext (funext fun j => ?_) h2.symm)
  · exact if_ow fun c0 => if_ow fun c1 => if_ow fun c2 => if_ow fun c3 => if_ow fun c4 => if_ow fun c5 => if_ow fun c6 => if_ow fun c7 => if_ow fun c8 => if_ow fun c9 => if_ow fun c10 => if_ow fun c11 => if_ow fun c12 => if_ow fun c13 => if_ow fun c14 => (hf k (fun z => by unfold oP at z; omega)).symm
  · exact if_ow fun c0 => if_ow fun c1 => if_ow fun c2 => if_ow fun c3 => if_ow fun c4 => if_ow fun c5 => (hr j (fun z => by unfold pRw at z; omega) c2).symm
section L4s
variable {N b : Nat} {g : uEnv} {A : pA} {ad sa : Nat → Nat} {U V : UH} {lab lb : Nat → Nat} {σ σF : MS} {ou : Nat} {u0 : UH} {bkv mpv ptv : Value}
/-- the plans' rows and cells stay -/
theorem qPl.st {pl : Nat} (h : qPl g U lab σ pl) (hs : qSm (fun k => k = 0 ∨ k = 5 ∨ k = 12) lab lb U V) (h34 : σF.1 34 = σ.1 34) (h37 : σF.1 37 = σ.1 37) (h22 : σF.1 22 = σ.1 22) (h40 : σF.1 40 = σ.1 40) (h57 : σF.2.1 57 = σ.2.1 57) (h56 : ∀ np : Nat, σ.1 40 = iI np → np ≤ 8 → ∀ i, i < 512 * np → σF.2.1 56 i = σ.2.1 56 i) : qPl g V lb σF pl := by
  obtain ⟨arr, np, m, mc, xs, pa, kl, h1, h2, h3, h4, h5⟩ := h
  refine ⟨arr, np, m, mc, xs, pa, kl, h1.hp hs (Or.inl rfl) (Or.inr (Or.inl rfl)), h40.trans h2, h3, fun z => h34.trans (h4 z), fun i hi => ?_⟩
  obtain ⟨e1, e2, e3, e4, nD, nG, ⟨n, e5, e6, e7⟩, e8, e9, e10⟩ := h5 i hi
  refine ⟨e1, (hs.c (Or.inr (Or.inr rfl)) e2).2, ?_, e4, nD, nG, ⟨n, h37.trans e5, e6, e7⟩, h22.trans e8, e9, ?_⟩
  · rw [h57]
    exact e3
  · exact vPl.od _ _ _ _ (vPl.hp hs (Or.inl rfl) (Or.inr (Or.inr rfl)) _ _ _ _ e10) (fun k _ k2 => h56 np h2 h3 _ (by omega))
theorem k_plF (hI : xSi b g A ad sa (qA g (ad 4) b u0 ou) U lab σ bkv mpv ptv) (ho : uOld V) (hU : U.1 ≤ V.1) (hlb : ∀ y, y < U.1 → lb y = lab y) (hfe : ∀ y, V.1 ≤ y → lb y = 11) (hk : ∀ y, y < U.1 → lab y ≠ 1 → lab y ≠ 5 → V.2.2 y = U.2.2 y) (hf : ∀ k, ¬ oP k → σF.1 k = σ.1 k) (hr : ∀ j, ¬ pRw j → j ≠ 57 → σF.2.1 j = σ.2.1 j) (h22 : σF.2.2 = σ.2.2) (h2 : σF.1 2 = 0) (hP : qPl g V lb σF (ad 4)) : xSi b g A ad sa (qA g (ad 4) b u0 ou) V lb σF bkv mpv ptv := by
  have eO := mOw_eq hf hr h22
  have hI' := hI
  obtain ⟨oU, hb, ⟨hl, hfr⟩, hE, hA, ⟨l0, ⟨l2, f0, nt, t1, t2, t3, t4⟩, hS3, hc, hd⟩, hbm, hq1, hq2, hq3, hq4, hq5, hq6⟩ := hI'
  have lt1 := oU _ _ t1
  have ns : ∀ {pr : Nat → Prop}, ¬ pr 1 → ¬ pr 5 → ¬ pr 11 → uLb lab lb U V pr := fun p1 p5 p11 => hI.lb hlb (fun y hy hp => hk y hy (fun z => p1 (by rw [← z]; exact hp)) (fun z => p5 (by rw [← z]; exact hp))) p11
  have sm : qSm (fun k => k ≠ 1 ∧ k ≠ 5 ∧ k ≠ 11) lab lb U V := ns (pr := fun k => k ≠ 1 ∧ k ≠ 5 ∧ k ≠ 11) (by decide) (by decide) (by decide)
  have mr : mQ σ σ := ⟨fun _ _ => rfl, fun _ _ => rfl, Or.inl rfl⟩
  have tpN : xTp V lb (mOw σ σF) (ad 1) := ⟨(hlb _ lt1).trans l2, f0, 0, (hk _ lt1 (by omega) (by omega)).trans t1, h2, by omega, t4⟩
  have clN : xCl b g V lb σ (ad 3) := hc.hp hl (ns (by decide) (by decide) (by decide))
  have dgN : xDg V lb σ (ad 5) := hd.hp (ns (by decide) (by decide) (by decide))
  have bmN : xBM b g V lb σ bkv mpv := hbm.hp hl hU (ns (by decide) (by decide) (by decide))
  have q1 : qBk g V lb σ bkv := hq1.hp sm (by decide) (by decide) mr
  have q4 : qPt V lb σ bkv ptv := hq4.hp sm (by decide) (by decide) mr
  have q3 : qPl g V lb (mOw σ σF) (ad 4) := by
    rw [eO]
    exact hP
  have qN : qA g (ad 4) b u0 ou V lb (mOw σ σF) bkv ptv := ⟨q1, hq2, q3, q4, hq5.hp sm (by decide), hq6.hp sm (by decide)⟩
  have sg : xSi b g A ad sa (qA g (ad 4) b u0 ou) V lb (mOw σ σF) bkv mpv ptv := hI.gen ho hU hlb hfe (fun x hx => hk x (by omega) (by rw [hl x hx]; decide) (by rw [hl x hx]; decide)) tpN (hS3.hp (ns (by decide) (by decide) (by decide))) clN dgN bmN qN
  rw [eO] at sg
  exact sg
end L4s

/-! PLAIN: a plan is walked: what is known, as bits -/
theorem t_mkBF : ∀ y : Fin 32, ∀ d : Fin 5, ((iI ((y.1 : Int) - 32)) >>> ((iI (d.1 : Int)) &&& 31)) &&& 1 = iI ((y.1 / 2 ^ d.1 % 2 : Nat) : Int) := by decide +kernel
theorem t_mkB {y d : Nat} (h1 : y < 32) (h2 : d < 5) : ((iI ((y : Int) - 32)) >>> ((iI (d : Int)) &&& 31)) &&& 1 = iI ((y / 2 ^ d % 2 : Nat) : Int) := t_mkBF ⟨y, h1⟩ ⟨d, h2⟩
theorem t_mkOF : ∀ y : Fin 32, ∀ s : Fin 32, iI ((y.1 : Int) - 32) ||| iI (s.1 : Int) = iI (((y.1 ||| s.1 : Nat) : Int) - 32) ∧ (y.1 ||| s.1) < 32 := by decide +kernel
theorem t_mkO {y s : Nat} (h1 : y < 32) (h2 : s < 32) : iI ((y : Int) - 32) ||| iI (s : Int) = iI (((y ||| s : Nat) : Int) - 32) ∧ (y ||| s) < 32 := t_mkOF ⟨y, h1⟩ ⟨s, h2⟩
theorem t_mkIF : ∀ y : Fin 32, iI (y.1 : Int) ^^^ (-1) = iI (((31 - y.1 : Nat) : Int) - 32) := by decide +kernel
theorem t_mkI {y : Nat} (h1 : y < 32) : iI (y : Int) ^^^ (-1) = iI (((31 - y : Nat) : Int) - 32) := t_mkIF ⟨y, h1⟩
theorem t_mkZF : ∀ y : Fin 32, ∀ s : Fin 32, ∀ d : Fin 5, ((y.1 ||| s.1) / 2 ^ d.1 % 2 = 0 ↔ (y.1 / 2 ^ d.1 % 2 = 0 ∧ s.1 / 2 ^ d.1 % 2 = 0)) := by decide +kernel
theorem t_mkZ {y s d : Nat} (h1 : y < 32) (h2 : s < 32) (h3 : d < 5) : ((y ||| s) / 2 ^ d % 2 = 0 ↔ (y / 2 ^ d % 2 = 0 ∧ s / 2 ^ d % 2 = 0)) := t_mkZF ⟨y, h1⟩ ⟨s, h2⟩ ⟨d, h3⟩
theorem t_mkNF : ∀ y : Fin 32, ∀ d : Fin 5, ((31 - y.1) / 2 ^ d.1 % 2 = 0 ↔ y.1 / 2 ^ d.1 % 2 = 1) := by decide +kernel
theorem t_mkN {y d : Nat} (h1 : y < 32) (h3 : d < 5) : ((31 - y) / 2 ^ d % 2 = 0 ↔ y / 2 ^ d % 2 = 1) := t_mkNF ⟨y, h1⟩ ⟨d, h3⟩
theorem t_mkSF : ∀ d : Fin 5, ∀ o : Fin 32, o.1 < 2 ^ d.1 → iI (o.1 : Int) ||| ((1 : Int32) <<< (iI (d.1 : Int) &&& 31)) = iI ((o.1 + 2 ^ d.1 : Nat) : Int) ∧ o.1 + 2 ^ d.1 < 2 ^ (d.1 + 1) ∧ (o.1 + 2 ^ d.1) / 2 ^ d.1 % 2 = 1 ∧ ∀ e : Fin 5, e.1 < d.1 → (o.1 + 2 ^ d.1) / 2 ^ e.1 % 2 = o.1 / 2 ^ e.1 % 2 := by decide +kernel
def zOq (kn : Nat → Int) : Nat → Nat
  | 0 => 0
  | e + 1 => zOq kn e + (if kn e = -1 then 2 ^ e else 0)
theorem zOq_b {kn : Nat → Int} : ∀ d, d ≤ 5 → zOq kn d < 2 ^ d ∧ ∀ e, e < d → (zOq kn d / 2 ^ e % 2 = 1 ↔ kn e = -1) := by
  intro d
  induction d with
  | zero => intro _; exact ⟨(show 0 < 2 ^ 0 by decide), fun e he => by omega⟩
  | succ d ih =>
    intro hd
    obtain ⟨i1, i2⟩ := ih (by omega)
    have p5 : 2 ^ d ≤ 2 ^ 5 := Nat.pow_le_pow_right (by decide) (by omega)
    have pd : 2 ^ (d + 1) = 2 * 2 ^ d := by rw [Nat.pow_succ]; omega
    show zOq kn d + (if kn d = -1 then 2 ^ d else 0) < 2 ^ (d + 1) ∧ ∀ e, e < d + 1 → ((zOq kn d + (if kn d = -1 then 2 ^ d else 0)) / 2 ^ e % 2 = 1 ↔ kn e = -1)
    by_cases c : kn d = -1
    · obtain ⟨-, s2, s3, s4⟩ := t_mkSF ⟨d, by omega⟩ ⟨zOq kn d, by omega⟩ i1
      rw [if_pos c]
      refine ⟨s2, fun e he => ?_⟩
      by_cases ce : e = d
      · subst ce
        exact ⟨fun _ => c, fun _ => s3⟩
      · rw [s4 ⟨e, by omega⟩ (show e < d by omega)]
        exact i2 e (by omega)
    · rw [if_neg c, Nat.add_zero]
      refine ⟨by omega, fun e he => ?_⟩
      by_cases ce : e = d
      · subst ce
        rw [Nat.div_eq_of_lt i1]
        exact ⟨fun z => by omega, fun z => absurd z c⟩
      · exact i2 e (by omega)
theorem c_open {N b : Nat} {g : uEnv} {u : UH} {la da wa : Nat → Nat} {bk : Nat} {v8 v9 v10 : Value} {w h n nd : Nat} {hts : Nat → Int} {fl : Nat → Nat} {dO kn : Nat → Int} {wg : Nat → Nat → Nat} (hL : vLd u g la da wa bk v8 v9 v10 w h n nd hts fl dO kn wg) (hk : ∀ e, e < nd → -1 ≤ kn e ∧ kn e ≤ 8) (hN : 10 ≤ N) : f_X14_open N b g u (la 0) = some (iI ((zOq kn nd : Nat) : Int), u) := by
  have hnd := hL.2.2.2.2.1
  have sz := c_siz (N := N) (b := b) hL
  have lp : ∀ (m e : Nat), e ≤ nd → nd < e + m → f_X14_open_4 N b g (la 0) m u (iI ((zOq kn e : Nat) : Int)) (iI e) = some (iI ((zOq kn nd : Nat) : Int), u) := by
    intro m
    induction m with
    | zero => intro e h1 h2; omega
    | succ m ih =>
      intro e h1 h2
      rw [f_X14_open_4, v_gr hL.1 (k := 6) rfl, p_bs, p_bs, if_pos sz.2, sz.1, q_uc]
      by_cases he : e = nd
      · subst he
        rw [p_le (by omega) (by omega) (by omega) (by omega) (by omega)]
      · have ek : iI (e : Int) + 1 = iI ((e + 1 : Nat) : Int) := by
          rw [j1, i_add]
          rfl
        have gt := c_get (N := N) (b := b) (e := e) hL (by omega)
        obtain ⟨⟨d1, wf, d2, d3⟩, d4⟩ := hL.2.2.2.2.2.2.2.2.2.2 e (by omega)
        obtain ⟨k1, k2⟩ := hk e (by omega)
        have ihh := ih (e + 1) (by omega) (by omega)
        have q : zOq kn (e + 1) = zOq kn e + (if kn e = -1 then 2 ^ e else 0) := rfl
        have zl := (zOq_b (kn := kn) e (by omega)).1
        have p5 : 2 ^ e ≤ 2 ^ 5 := Nat.pow_le_pow_right (by decide) (by omega)
        unfold f_X14_open_41
        rw [n_le (by omega) (by omega) (by omega) (by omega) (by omega), v_gr hL.1 (k := 6) rfl, p_bs, p_bs, if_pos sz.2, gt, q_uc, p_bs, if_pos (v_is d1), v_gi d1 (k := 2) rfl, p_bs]
        by_cases c : kn e = -1
        · rw [q, if_pos c] at ihh
          rw [if_pos (show iI (kn e) = -1 by rw [c]; rfl), (t_mkSF ⟨e, by omega⟩ ⟨zOq kn e, by omega⟩ zl).1, p_let, ek, p_let]
          exact ihh
        · rw [q, if_neg c, Nat.add_zero] at ihh
          rw [if_neg (show ¬ iI (kn e) = -1 by rw [j_m1, j_eq (by omega) (by omega) (by omega) (by omega)]; exact c), Int32.or_zero, p_let, ek, p_let]
          exact ihh
  exact lp N 0 (by omega) (by omega)
/-- the ground of a cell, in the truth fd, as the model has it -/
theorem m_flo {N : Nat} {σ : MS} {B : bBk} {dead : Int} {w h n nd : Nat} {hts : Nat → Int} {fl : Nat → Nat} {dO kn : Nat → Int} {dc : Nat → Nat} {wg : Nat → Nat → Nat} {fd c : Nat} (hM : mLand σ B dead w h n nd hts fl dO kn dc wg) (hK : zKn σ.1 σ.2.1 nd B.2.1 (fun e => zCn (wg e) 8) kn (fun e k => zKd (wg e) k)) (hfd : fd < 1024) (hF : ∀ e, e < nd → zD fd e ≠ 0 ∧ zD fd e ≤ zCn (wg e) 8) (hc : c < n) (hn : n ≤ 100) : f_floorOf N σ (iI c) (iI fd) = some (iI (zGr fl dO wg fd c), σ) ∧ zGr fl dO wg fd c < B.2.1 := by
  obtain ⟨-, -, -, -, m5, -⟩ := hM
  obtain ⟨k37, hnd, hng, hk⟩ := hK
  obtain ⟨a1, a2, a3, a4, a5⟩ := m5 c hc
  obtain ⟨t1, t2⟩ := t_ix (a := (c : Int)) (n := mLen 43) (k := c) rfl (by rw [show mLen 43 = 100 from rfl]; omega) (by rw [show mLen 43 = 100 from rfl]; omega)
  obtain ⟨t3, t4⟩ := t_ix (a := (c : Int)) (n := mLen 42) (k := c) rfl (by rw [show mLen 42 = 100 from rfl]; omega) (by rw [show mLen 42 = 100 from rfl]; omega)
  unfold f_floorOf f_floorOf_37 zGr
  rw [if_pos t1, p_let, t2, a3]
  by_cases hd : dO c = -1
  · rw [if_pos (show iI (dO c) = -1 by rw [hd]; rfl), if_pos t3, p_let, a1, if_pos hd]
    exact ⟨rfl, a2⟩
  · obtain ⟨e, he⟩ : ∃ e : Nat, dO c = (e : Int) := ⟨(dO c).toNat, by omega⟩
    have el : e < nd := by omega
    obtain ⟨f1, f2⟩ := hF e el
    obtain ⟨b1, b2, b3, b4, b5, b6⟩ := hk e el
    have b2 : zCn (wg e) 8 ≤ 3 := b2
    obtain ⟨b7, b8⟩ := b6 (zD fd e - 1) (show zD fd e - 1 < zCn (wg e) 8 by omega)
    have ex : ((4 * iI (e : Int)) + iI (zD fd e : Int)) - 1 = iI ((4 * e + (zD fd e - 1) : Nat) : Int) := by
      rw [show (4 : Int32) = iI 4 from rfl, i_mul, i_add, j1, i_sub]
      congr 1
      omega
    obtain ⟨t5, t6⟩ := t_ix (a := ((4 * e + (zD fd e - 1) : Nat) : Int)) (n := mLen 52) (k := 4 * e + (zD fd e - 1)) rfl (by rw [show mLen 52 = 20 from rfl]; omega) (by rw [show mLen 52 = 20 from rfl]; omega)
    rw [if_neg (show ¬ iI (dO c) = -1 by rw [j_m1, j_eq (by omega) (by omega) (by omega) (by omega)]; exact hd), if_neg hd, he, m_dig hfd (by omega), q_mc, ex, if_pos t5, p_let, t6, Int.toNat_natCast]
    exact ⟨congrArg (fun z => some (z, σ)) b7, b8⟩

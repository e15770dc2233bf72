/-! PLAIN: a plan is walked, whole -/
abbrev roD : Type := UH → Nat → Option Nat → Option (Option Nat × UH)
abbrev roB : Type := UH → Nat → Option Nat → Option UH
theorem v_ns {u : UH} {a c c' : Nat} {fs : List Value} (h : u.2.2 a = some (.inr (c', fs))) (hc : c' ≠ c) : ¬ uIs u a c = true := by
  unfold uIs
  rw [h]
  intro z
  have z : decide (c' = c) = true := z
  exact hc (of_decide_eq_true z)
section M2s
variable {N b : Nat} {g : uEnv} {Ub : UH} {la da wa : Nat → Nat} {a lo hi al : Nat} {rv : Int32} {nm : Nat → Nat} {B : bBk} {dead : Int} {w h n nd : Nat} {hts : Nat → Int} {fl : Nat → Nat} {dO kn : Nat → Int} {dc : Nat → Nat} {wg : Nat → Nat → Nat} {wk ta fd : Nat} {σb : MS} {rdo : roD} {rby : roB}
/-- an order, as the model reads it -/
theorem m_ord {m p1 k kl c cd : Nat} {x3 s q : Int32} {od : Nat → Int32} (h57 : σb.2.1 57 p1 = iI kl) (hp : p1 < 8) (hkl : kl ≤ 128) (hod : ∀ i, od i = σb.2.1 56 (512 * p1 + i)) (hk : k < kl) (hK : zKn σb.1 σb.2.1 nd B.2.1 (fun e => zCn (wg e) 8) kn (fun e k => zKd (wg e) k)) (hcd : cd < 1024) (hfd : fd < 1024) (hF : ∀ e, e < nd → zD fd e ≠ 0 ∧ zD fd e ≤ zCn (wg e) 8) : (od (4 * k) = 2 → f_acts_38 N (m + 1) (mW σb s q) (iI p1) x3 (iI fd) (iI c) (iI cd) (iI k) = f_acts_38 N m (mW σb s q) (iI p1) x3 (iI fd) (iI c) (iI cd) (od (4 * k + 3))) ∧ (od (4 * k) = 0 → f_acts_38 N (m + 1) (mW σb s q) (iI p1) x3 (iI fd) (iI c) (iI cd) (iI k) = f_acts_175 N (f_acts_38 N m) N (mW σb s q) (iI p1) x3 (iI fd) (iI c) (iI cd) (iI ((k + 1 : Nat) : Int)) (od (4 * k + 1)) (od (4 * k + 2)) 0) ∧ ∀ d gr : Nat, od (4 * k) = 1 → d < nd → gr < 8 → od (4 * k + 1) = iI d → od (4 * k + 2) = iI gr → (zD cd d = 0 → f_acts_38 N (m + 1) (mW σb s q) (iI p1) x3 (iI fd) (iI c) (iI cd) (iI k) = some (5, mW σb s q)) ∧ (zD cd d ≠ 0 → zTg wg fd d = gr → f_acts_38 N (m + 1) (mW σb s q) (iI p1) x3 (iI fd) (iI c) (iI cd) (iI k) = f_acts_38 N m (mW σb s q) (iI p1) x3 (iI fd) (iI c) (iI cd) (iI ((k + 1 : Nat) : Int))) ∧ (zD cd d ≠ 0 → zTg wg fd d ≠ gr → f_acts_38 N (m + 1) (mW σb s q) (iI p1) x3 (iI fd) (iI c) (iI cd) (iI k) = f_acts_38 N m (mW σb s q) (iI p1) x3 (iI fd) (iI c) (iI cd) (od (4 * k + 3))) := by
  obtain ⟨t1, t2⟩ := t_ix (a := (p1 : Int)) (n := mLen 57) (k := p1) rfl (by rw [show mLen 57 = 8 from rfl]; omega) (by rw [show mLen 57 = 8 from rfl]; omega)
  have ey : (512 * iI (p1 : Int)) + (4 * iI (k : Int)) = iI ((512 * p1 + 4 * k : Nat) : Int) := by
    rw [show (512 : Int32) = iI 512 from rfl, i_mul, show (4 : Int32) = iI 4 from rfl, i_mul, i_add]
    rfl
  have ek : iI (k : Int) + 1 = iI ((k + 1 : Nat) : Int) := by
    rw [j1, i_add]
    rfl
  have tt : ∀ c : Nat, c < 4 → mIn (iI ((512 * p1 + 4 * k : Nat) : Int) + iI (c : Int)) (mLen 56) = true ∧ (iI ((512 * p1 + 4 * k : Nat) : Int) + iI (c : Int)).toNatClampNeg = 512 * p1 + (4 * k + c) := fun c hc => by
    rw [i_add]
    exact t_ix (by omega) (by rw [show mLen 56 = 4096 from rfl]; omega) (by rw [show mLen 56 = 4096 from rfl]; omega)
  have u0 : mIn (iI ((512 * p1 + 4 * k : Nat) : Int)) (mLen 56) = true ∧ (iI ((512 * p1 + 4 * k : Nat) : Int)).toNatClampNeg = 512 * p1 + 4 * k := t_ix rfl (by rw [show mLen 56 = 4096 from rfl]; omega) (by rw [show mLen 56 = 4096 from rfl]; omega)
  have u1 : mIn (iI ((512 * p1 + 4 * k : Nat) : Int) + 1) (mLen 56) = true ∧ (iI ((512 * p1 + 4 * k : Nat) : Int) + 1).toNatClampNeg = 512 * p1 + (4 * k + 1) := tt 1 (by omega)
  have u2 : mIn (iI ((512 * p1 + 4 * k : Nat) : Int) + 2) (mLen 56) = true ∧ (iI ((512 * p1 + 4 * k : Nat) : Int) + 2).toNatClampNeg = 512 * p1 + (4 * k + 2) := tt 2 (by omega)
  have u3 : mIn (iI ((512 * p1 + 4 * k : Nat) : Int) + 3) (mLen 56) = true ∧ (iI ((512 * p1 + 4 * k : Nat) : Int) + 3).toNatClampNeg = 512 * p1 + (4 * k + 3) := tt 3 (by omega)
  have od' : ∀ i, (mW σb s q).2.1 56 (512 * p1 + i) = od i := fun i => (hod i).symm
  have h57' : (mW σb s q).2.1 57 p1 = iI kl := h57
  obtain ⟨k37, hnd, hng, hkk⟩ := hK
  rw [f_acts_38]
  unfold f_acts_284
  rw [if_pos t1, p_let, t2, h57', n_le (by omega) (by omega) (by omega) (by omega) (by omega), p_let, ey, if_pos u1.1, p_let, u1.2, od', if_pos u2.1, p_let, u2.2, od', p_let, ek, if_pos u0.1, p_let, u0.2, od']
  refine ⟨fun z => ?_, fun z => ?_, fun d gr z hd hgr z1 z2 => ?_⟩
  · rw [if_pos z, if_pos u3.1, p_let, u3.2, od']
  · rw [z, if_neg (show ¬ (0 : Int32) = 2 by decide), if_pos u0.1, p_let, if_neg (show ¬ (0 : Int32) = 1 by decide)]
  · obtain ⟨f1, f2⟩ := hF d hd
    obtain ⟨b1, b2, b3, b4, b5, b6⟩ := hkk d hd
    have b2 : zCn (wg d) 8 ≤ 3 := b2
    obtain ⟨b7, b8⟩ := b6 (zD fd d - 1) (show zD fd d - 1 < zCn (wg d) 8 by omega)
    have b7 : (mW σb s q).2.1 52 (4 * d + (zD fd d - 1)) = iI (zTg wg fd d) := b7
    have b8 : zTg wg fd d < B.2.1 := b8
    have ex : ((4 * iI (d : Int)) + iI (zD fd d : Int)) - 1 = iI ((4 * d + (zD fd d - 1) : Nat) : Int) := by
      rw [show (4 : Int32) = iI 4 from rfl, i_mul, i_add, j1, i_sub]
      congr 1
      omega
    obtain ⟨t5, t6⟩ := t_ix (a := ((4 * d + (zD fd d - 1) : Nat) : Int)) (n := mLen 52) (k := 4 * d + (zD fd d - 1)) rfl (by rw [show mLen 52 = 20 from rfl]; omega) (by rw [show mLen 52 = 20 from rfl]; omega)
    have zl := zD_lt (cd := cd) (d := d)
    rw [z, if_neg (show ¬ (1 : Int32) = 2 by decide), if_pos u0.1, p_let, if_pos rfl, z1, z2, m_dig hcd (by omega), q_mc, m_dig hfd (by omega), q_mc, ex, if_pos t5, p_let, t6, b7, if_pos u3.1, p_let, u3.2, od']
    refine ⟨fun z => ?_, fun z zz => ?_, fun z zz => ?_⟩
    · rw [if_pos (show iI (zD cd d : Int) = 0 by rw [z]; rfl)]
    · rw [if_neg (show ¬ iI (zD cd d : Int) = 0 by rw [j0, j_eq (by omega) (by omega) (by omega) (by omega)]; omega), if_pos (by rw [zz])]
    · rw [if_neg (show ¬ iI (zD cd d : Int) = 0 by rw [j0, j_eq (by omega) (by omega) (by omega) (by omega)]; omega), if_neg (show ¬ iI (zTg wg fd d : Int) = iI (gr : Int) by rw [j_eq (by omega) (by omega) (by omega) (by omega)]; omega)]
/-- is it that ground -/
theorem kW_is {u : UH} {c y d gr : Nat} {q s : Int32} (hC : wCx b Ub la a lo hi al rv nm B dead n nd dO kn dc wg wk ta fd) (hS : wSt g Ub la da wa a dead w h n nd hts fl dO kn wg wk ta u c y q s 0) (hd : d < nd) (hgr : gr < 8) (hT : zTg wg fd d < 8) : ∃ u', f_X18_is N b g u wk (iI d) (iI gr) = some (iI ((if zTg wg fd d = gr then 1 else 0 : Nat) : Int), u') ∧ ((y / 2 ^ d % 2 = 0 ∧ wSt g Ub la da wa a dead w h n nd hts fl dO kn wg wk ta u' c y q s (iI ((5 : Nat) : Int))) ∨ (y / 2 ^ d % 2 ≠ 0 ∧ u' = u)) := by
  obtain ⟨⟨v8, v9, v10, hL⟩, hk, -, -, -, ho, hy, hc⟩ := id hS
  have hnd := hL.2.2.2.2.1
  obtain ⟨C1, -⟩ := id hC
  have hk' : u.2.2 wk = some (.inr (16, [.ref (la 0), .int (iI dead), .ref ta, .int (iI c), .int (iI ((y : Int) - 32)), .int q, .int s, .int 0])) := hk
  have fin : ∀ {u1 : UH} {f : Int32}, wSt g Ub la da wa a dead w h n nd hts fl dO kn wg wk ta u1 c y q s f → f_X18_is_16 N b g wk u1 (iI d) (iI gr) = some (iI ((if zTg wg fd d = gr then 1 else 0 : Nat) : Int), u1) := fun {u1 f} h1 => by
    obtain ⟨tf, t1, t2⟩ := h1.tr hC
    have hk1 : u1.2.2 wk = some (.inr (16, [.ref (la 0), .int (iI dead), .ref ta, .int (iI c), .int (iI ((y : Int) - 32)), .int q, .int s, .int f])) := h1.2.1
    unfold f_X18_is_16 f_X18_is_31
    rw [v_gr hk1 (k := 2) rfl, p_bs, p_bs, u_ldI t1 (by omega) (by omega) (by omega), p_bs, Int.toNat_natCast, t2 d hd]
    by_cases cg : zTg wg fd d = gr
    · rw [if_pos (by rw [cg]), if_pos (show uFit .boolean 1 = true by decide), if_pos cg]
      rfl
    · rw [if_neg (show ¬ iI (zTg wg fd d : Int) = iI (gr : Int) by rw [j_eq (by omega) (by omega) (by omega) (by omega)]; omega), if_pos (show uFit .boolean 0 = true by decide), if_neg cg]
      rfl
  have bl : y / 2 ^ d % 2 < 2 := Nat.mod_lt _ (by decide)
  unfold f_X18_is
  rw [v_gi hk' (k := 4) rfl, p_bs, t_mkB hy (by omega)]
  by_cases c0 : y / 2 ^ d % 2 = 0
  · obtain ⟨p1, x1, x2, x3, x4, x5, x6⟩ := w_put (b := b) (k := 7) (v := .int (iI ((5 : Nat) : Int))) hk' C1 (Nat.le_of_ble_eq_true rfl) ho
    have S1 : wSt g Ub la da wa a dead w h n nd hts fl dO kn wg wk ta p1 c y q s (iI ((5 : Nat) : Int)) := hS.put x2 x3 x5 x6 x4 hy hc
    have x1 : uPut b u wk 16 7 (.int 5) = some p1 := x1
    refine ⟨p1, ?_, Or.inl ⟨c0, S1⟩⟩
    rw [if_pos (by rw [c0]; rfl), x1, p_bs]
    exact fin S1
  · refine ⟨u, ?_, Or.inr ⟨c0, rfl⟩⟩
    rw [if_neg (show ¬ iI ((y / 2 ^ d % 2 : Nat) : Int) = 0 by rw [j0, j_eq (by omega) (by omega) (by omega) (by omega)]; omega)]
    exact fin hS
/-- nothing is done any more -/
theorem kW_id {u : UH} {pl arr cnt m : Nat} {mc : Int32} {xs : Nat → Option Nat} {c y : Nat} {q s f : Int32} (hS : wSt g Ub la da wa a dead w h n nd hts fl dO kn wg wk ta u c y q s f) (hl : vLs u pl arr cnt m mc xs) (hc : cnt ≤ 1000) : ∀ (k i : Nat), i ≤ cnt → cnt < i + k → f ≠ 0 ∨ i = cnt → f_X18_does_2 N b g rdo rby wk k u (some pl) (iI i) = some (some wk, u) := by
  have hk' : u.2.2 wk = some (.inr (16, [.ref (la 0), .int (iI dead), .ref ta, .int (iI c), .int (iI ((y : Int) - 32)), .int q, .int s, .int f])) := hS.2.1
  intro k
  induction k with
  | zero => intro i h1 h2; omega
  | succ k ih =>
    intro i h1 h2 h3
    rw [f_X18_does_2, p_bs, if_pos (v_is hl.1), l_size hl, q_uc]
    by_cases e : i = cnt
    · rw [p_le (by omega) (by omega) (by omega) (by omega) (by omega)]
    · have ei : iI (i : Int) + 1 = iI ((i + 1 : Nat) : Int) := by
        rw [j1, i_add]
        rfl
      have hf : f ≠ 0 := by
        rcases h3 with z | z
        · exact z
        · exact absurd z e
      unfold f_X18_does_35
      rw [n_le (by omega) (by omega) (by omega) (by omega) (by omega), v_gi hk' (k := 7) rfl, p_bs, if_neg hf, p_let, ei]
      exact ih (i + 1) (by omega) (by omega) (Or.inl hf)
end M2s

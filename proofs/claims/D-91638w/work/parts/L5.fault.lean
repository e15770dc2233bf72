/-! PLAIN: faults; words that are none; numbers -/
def vEx (U : UH) (x : Nat) (k p : Int32) : Prop := ∃ fs : List Value, U.2.2 x = some (.inr (6, fs)) ∧ fs[6]? = some (.int k) ∧ fs[7]? = some (.int p)
theorem c_x8 {N b : Nat} {g : uEnv} {u : UH} {a : Nat} {k p : Int32} (hx : u.2.2 a = some (.inr (6, uDefs tyX8 8))) (hb : b ≤ a) (ho : uOld u) : ∃ u', f_X8_init N b g u a k p = some u' ∧ vEx u' a k p ∧ (∀ x, x ≠ a → u'.2.2 x = u.2.2 x) ∧ uOld u' ∧ u'.1 = u.1 ∧ u'.2.1 = u.2.1 := by
  obtain ⟨u1, d1, c1, k1, o1, s1, z1⟩ := w_put (b := b) (k := 0) (v := va_rf (some a)) hx hb (Nat.le_of_ble_eq_true rfl) ho
  obtain ⟨u2, d2, c2, k2, o2, s2, z2⟩ := w_put (b := b) (k := 1) (v := va_rf (g.1 13)) c1 hb (Nat.le_of_ble_eq_true rfl) o1
  obtain ⟨u3, d3, c3, k3, o3, s3, z3⟩ := w_put (b := b) (k := 2) (v := va_rf (g.1 14)) c2 hb (Nat.le_of_ble_eq_true rfl) o2
  obtain ⟨u4, d4, c4, k4, o4, s4, z4⟩ := w_put (b := b) (k := 1) (v := va_rf none) c3 hb (Nat.le_of_ble_eq_true rfl) o3
  obtain ⟨u5, d5, c5, k5, o5, s5, z5⟩ := w_put (b := b) (k := 3) (v := va_rf none) c4 hb (Nat.le_of_ble_eq_true rfl) o4
  obtain ⟨u6, d6, c6, k6, o6, s6, z6⟩ := w_put (b := b) (k := 0) (v := va_rf none) c5 hb (Nat.le_of_ble_eq_true rfl) o5
  obtain ⟨u7, d7, c7, k7, o7, s7, z7⟩ := w_put (b := b) (k := 2) (v := va_rf none) c6 hb (Nat.le_of_ble_eq_true rfl) o6
  obtain ⟨u8, d8, c8, k8, o8, s8, z8⟩ := w_put (b := b) (k := 6) (v := .int k) c7 hb (Nat.le_of_ble_eq_true rfl) o7
  obtain ⟨u9, d9, c9, k9, o9, s9, z9⟩ := w_put (b := b) (k := 7) (v := .int p) c8 hb (Nat.le_of_ble_eq_true rfl) o8
  refine ⟨u9, ?_, ⟨_, c9, rfl, rfl⟩, fun x hx => ?_, o9, by omega, by omega⟩
  · unfold f_X8_init f_J15_init f_J14_init_2 f_J14_init_2_41 f_J14_init_2_60
    rw [d1, p_bs, p_let, d2, p_bs, p_let, d3, p_bs, if_pos rfl, d4, p_bs, d5, p_bs, d6, p_bs, if_pos rfl, d7, p_bs, p_bs, p_bs, d8, p_bs, d9, p_bs]
  · rw [k9 x hx, k8 x hx, k7 x hx, k6 x hx, k5 x hx, k4 x hx, k3 x hx, k2 x hx, k1 x hx]
def mEr (σ : MS) (k p : Int32) : MS := mSet (mSet (mSet σ 13 1) 9 k) 10 p
theorem m_wrong {N : Nat} {σ : MS} {k p : Int32} (h : σ.1 13 = 0) : f_wrong N σ k p = some (0, mEr σ k p) := by
  unfold f_wrong f_wrong_22
  rw [if_pos h, p_let, p_let, p_let]
  rfl
/-- what a fault leaves -/
def mEk (σ σ' : MS) : Prop := (∀ k, ¬ (4 ≤ k ∧ k ≤ 10) → k ≠ 13 → σ'.1 k = σ.1 k) ∧ (∀ j, j ≠ 11 → σ'.2.1 j = σ.2.1 j) ∧ σ'.2.2 = σ.2.2
theorem mEk.trans {σ σ' σ'' : MS} (h : mEk σ σ') (h' : mEk σ' σ'') : mEk σ σ'' := ⟨fun k q1 q2 => (h'.1 k q1 q2).trans (h.1 k q1 q2), fun j q => (h'.2.1 j q).trans (h.2.1 j q), h'.2.2.trans h.2.2⟩
theorem mEk.tok {σ : MS} {a4 a5 a6 a7 a8 : Int32} {r : Nat → Int32} : mEk σ (mTok σ a4 a5 a6 a7 a8 r) := ⟨fun k q1 q2 => by
    show (if k = 4 then a4 else if k = 5 then a5 else if k = 6 then a6 else if k = 7 then a7 else if k = 8 then a8 else σ.1 k) = σ.1 k
    rw [if_neg (by omega), if_neg (by omega), if_neg (by omega), if_neg (by omega), if_neg (by omega)], fun j q => by
    show (if j = 11 then r else σ.2.1 j) = σ.2.1 j
    rw [if_neg q], rfl⟩
theorem mEk.er {σ : MS} {k p : Int32} : mEk σ (mEr σ k p) := ⟨fun i q1 q2 => by
    show upd (upd (upd σ.1 13 1) 9 k) 10 p i = σ.1 i
    rw [upd_n (by omega), upd_n (by omega), upd_n (by omega)], fun _ _ => rfl, rfl⟩
def rEr (lo rd n : Nat) (U : UH) (σ : MS) (at' x : Nat) (U' : UH) (σ' : MS) : Prop := ∃ k p : Int32, vEx U' x k p ∧ σ'.1 13 = 1 ∧ σ'.1 9 = k ∧ σ'.1 10 = p ∧ mEk σ σ' ∧ rKp lo rd U U' ∧ U'.1 ≤ U.1 + 4 * (n - at') + 1 ∧ U'.2.1 ≤ U.2.1 + 32 * (n - at') + 8
section I9s
variable {N b : Nat} {g : uEnv} {lo rd tp n : Nat} {T : Nat → Nat} {U U' U'' : UH} {σ σ' σ'' : MS} {at' at2 at3 : Nat}
theorem rCx.le (h : rCx b g lo rd tp n T U σ at') : at' ≤ n := by
  obtain ⟨⟨st, va, kr, wv, sg, c1, c2, c3, c4, c5⟩, -⟩ := h
  exact c4
/-- behind steps that went well -/
theorem rEr.aft {x : Nat} (h : rSt b g lo rd tp n T U σ at' U' σ' at2) (h' : rEr lo rd n U' σ' at2 x U'' σ'') : rEr lo rd n U σ at' x U'' σ'' := by
  obtain ⟨a1, a2, a3, a4, a5, x4, x5, x6, x7, x8, r, a6⟩ := h
  obtain ⟨k, p, b1, b2, b3, b4, b5, b6, b7, b8⟩ := h'
  have := a1.le
  refine ⟨k, p, b1, b2, b3, b4, ?_, a2.trans b6, by omega, by omega⟩
  rw [a6] at b5
  exact mEk.tok.trans b5
/-- a new fault with a place -/
theorem c_newX {k p : Int32} (h : rCx b g lo rd tp n T U σ at') : ∃ U', f_X8_init N b g (uNew U 8 (.inr (6, uDefs tyX8 8))) U.1 k p = some U' ∧ vEx U' U.1 k p ∧ rKp lo rd U U' ∧ U'.1 = U.1 + 1 ∧ U'.2.1 = U.2.1 + 8 := by
  obtain ⟨⟨st, va, kr, wv, sg, c1, -⟩, -, -, -, hE, ho, hlo, hrd, hlU, -, -⟩ := h
  have c1' : U.2.2 rd = some (.inr (4, _)) := c1
  obtain ⟨u1, d1, e1, k1, o1, s1, z1⟩ := w_new (u := U) (n := 8) (e := .inr (6, uDefs tyX8 8)) ho
  obtain ⟨u2, d2, e2, k2, o2, s2, z2⟩ := c_x8 (N := N) (b := b) (g := g) (k := k) (p := p) e1 (by omega) o1
  refine ⟨u2, by rw [d1]; exact d2, e2, rKp.all (fun x x1 x2 => ?_) c1' (by decide) ho o2 hrd hlU (by omega) (by omega), by omega, by omega⟩
  rw [k2 x (by omega), k1 x x1]
theorem c_fault {k : Int32} (h : rCx b g lo rd tp n T U σ at') : ∃ U', f_X5_fault N b g U rd k = some (some U.1, U') ∧ rEr lo rd n U σ at' U.1 U' (mEr σ k (σ.1 4)) := by
  obtain ⟨kr, st, va, wv, sg, c1, c2, -⟩ := k_kind h
  obtain ⟨U', e1, e2, e3, e4, e5⟩ := c_newX (N := N) (k := k) (p := iI st) h
  have ho : uOld U := h.2.2.2.2.2.1
  have c1' : (uNew U 8 (.inr (6, uDefs tyX8 8))).2.2 rd = some (.inr (4, [.ref tp, .int (iI n), .int (iI at'), .int (iI st), .int va, .ref kr, wv, .int sg])) := u_no ho c1
  refine ⟨U', ?_, k, σ.1 4, ?_, rfl, rfl, rfl, mEk.er, e3, by omega, by omega⟩
  · unfold f_X5_fault f_X5_fault_3
    rw [p_let, p_let, v_gi c1' (k := 3) rfl, p_bs, p_bs, e1, p_bs]
  · rw [c2]
    exact e2
theorem k_must {j j' : Nat} (h : rCx b g lo rd tp n T U σ at') (hj : j < 52) (he : pTx j' = pTx j) (hl : 2 ≤ (pTx j).length) (hN : 2000 ≤ N) : (∃ U' σ' at2, f_X5_needs N b g U rd (some (g.2.1 j)) = some (.inr U') ∧ f_must N (pTx j') σ = some (1, σ') ∧ rSt b g lo rd tp n T U σ at' U' σ' at2) ∨ ∃ x U' σ', f_X5_needs N b g U rd (some (g.2.1 j)) = some (.inl (x, U')) ∧ f_must N (pTx j') σ = some (0, σ') ∧ rEr lo rd n U σ at' x U' σ' := by
  have pl : ∀ j, j < 52 → (pTx j).length ≤ 100 := by decide +kernel
  have h13 : σ.1 13 = 0 := h.2.2.2.2.2.2.2.2.2.1
  obtain ⟨kr, st, va, wv, sg, c1, c2, -⟩ := k_kind h
  obtain ⟨w1, w2⟩ := k_word (N := N) (tx := pTx j) h (pl j hj) (by omega)
  obtain ⟨s1, s2⟩ := k_skW (N := N) h hj hl hN
  unfold f_X5_needs f_X5_needs_5 f_X5_needs_13 f_must
  rw [he, p_let, if_pos h13, if_pos (v_is c1)]
  by_cases q : isW σ (pTx j)
  · obtain ⟨U', σ', at2, y1, y2, y3⟩ := s1 q
    left
    refine ⟨U', σ', at2, ?_, ?_, y3⟩
    · rw [y1, q_uc, if_neg n10]
    · rw [w1 q, q_mc, if_neg n10, y2, q_mv]
  · obtain ⟨U', y1, y2⟩ := c_fault (N := N) (k := 1) h
    right
    refine ⟨U.1, U', _, ?_, ?_, y2⟩
    · rw [s2 q, q_uc, if_pos rfl, if_pos (v_is c1), y1, q_uc, p_bs]
    · rw [w2 q, q_mc, if_pos rfl, p_let, m_wrong h13, q_mc]
      rfl
theorem k_number {a c : Int} (h : rCx b g lo rd tp n T U σ at') (ha : -100000 ≤ a ∧ a ≤ 100000) (hc : -100000 ≤ c ∧ c ≤ 100000) (hN : 2000 ≤ N) : (∃ (q : Int) (U' : UH) (σ' : MS) (at2 : Nat), a ≤ q ∧ q ≤ c ∧ f_X5_whole N b g U rd (iI a) (iI c) = some (.inr (iI q, U')) ∧ f_number N σ (iI a) (iI c) = some (iI q, σ') ∧ rSt b g lo rd tp n T U σ at' U' σ' at2) ∨ ∃ x U' σ', f_X5_whole N b g U rd (iI a) (iI c) = some (.inl (x, U')) ∧ f_number N σ (iI a) (iI c) = some (iI a, σ') ∧ rEr lo rd n U σ at' x U' σ' := by
  have h13 : σ.1 13 = 0 := h.2.2.2.2.2.2.2.2.2.1
  obtain ⟨kr, st, va, wv, sg, c1, c2, -, -, k3, -, -, v3, -⟩ := k_kind h
  unfold f_X5_whole f_X5_whole_43 f_X5_whole_33 f_X5_whole_15 f_number
  rw [if_pos h13, v_gr c1 (k := 5) rfl, p_bs, p_let]
  by_cases h6 : σ.1 6 = 3
  · obtain ⟨q, z1, z2, z3⟩ := v3 h6
    rw [if_pos h6, if_pos (k3.mp h6), v_gi c1 (k := 4) rfl, p_bs, p_let, z1, z2]
    rcases k_in (N := N) (b := b) (g := g) (lo := a) (hi := c) ⟨by omega, by omega⟩ ⟨by omega, by omega⟩ (iI (q : Int)) U σ with ⟨f1, f2⟩ | ⟨f1, f2, i, f3, f4, f5⟩
    · obtain ⟨U', y1, y2⟩ := c_fault (N := N) (k := 4) h
      right
      refine ⟨U.1, U', _, ?_, ?_, y2⟩
      · rw [f1, q_uc, if_pos rfl, if_pos (v_is c1), y1, q_uc, p_bs]
      · rw [f2, q_mc, if_pos rfl, m_wrong h13, q_mc]
    · obtain ⟨U', σ', at2, y1, y2, y3⟩ := k_go (N := N) h (by rw [h6]; decide) hN
      left
      refine ⟨i, U', σ', at2, f4, f5, ?_, ?_, y3⟩
      · rw [f1, q_uc, if_neg n10, v_gi c1 (k := 4) rfl, p_bs, if_pos (v_is c1), y1, p_bs, z1, f3]
      · rw [f2, q_mc, if_neg n10, y2, q_mv, f3]
  · obtain ⟨U', y1, y2⟩ := c_fault (N := N) (k := 1) h
    right
    refine ⟨U.1, U', _, ?_, ?_, y2⟩
    · rw [if_neg (fun y => h6 (k3.mpr y)), if_pos (v_is c1), y1, q_uc, p_bs]
    · rw [if_neg h6, m_wrong h13, q_mc]
theorem k_eot (h : rCx b g lo rd tp n T U σ at') : (σ.1 6 = 0 → f_X5_needsEnd N b g U rd = some (.inr U)) ∧ (¬ σ.1 6 = 0 → ∃ x U', f_X5_needsEnd N b g U rd = some (.inl (x, U')) ∧ rEr lo rd n U σ at' x U' (mEr σ 1 (σ.1 4))) := by
  obtain ⟨kr, st, va, wv, sg, c1, c2, k1, -⟩ := k_kind h
  unfold f_X5_needsEnd f_X5_needsEnd_15
  rw [v_gr c1 (k := 5) rfl, p_bs, p_let]
  constructor
  · intro q
    rw [if_pos (k1.mp q)]
  · intro q
    obtain ⟨U', y1, y2⟩ := c_fault (N := N) (k := 1) h
    refine ⟨U.1, U', ?_, y2⟩
    rw [if_neg (fun y => q (k1.mpr y)), if_pos (v_is c1), y1, q_uc, p_bs]
/-- a number with its sign: -4 .. 4 -/
theorem k_sg2 (h : rCx b g lo rd tp n T U σ at') (s : Nat) (hs : s = 0 ∨ s = 1) (p : Int32) (hN : 2000 ≤ N) : (∃ (q : Int) (U' : UH) (σ' : MS) (at2 : Nat), -4 ≤ q ∧ q ≤ 4 ∧ f_X5_signed_11 N b g rd U 4 p (iI s) = some (.inr (iI q, U')) ∧ f_signed_39 N σ (-4) 4 p (iI s) = some (iI q, σ') ∧ rSt b g lo rd tp n T U σ at' U' σ' at2) ∨ ∃ x U' σ', f_X5_signed_11 N b g rd U 4 p (iI s) = some (.inl (x, U')) ∧ f_signed_39 N σ (-4) 4 p (iI s) = some (0, σ') ∧ rEr lo rd n U σ at' x U' σ' := by
  have h13 : σ.1 13 = 0 := h.2.2.2.2.2.2.2.2.2.1
  obtain ⟨kr, st, va, wv, sg, c1, c2, -, -, k3, -, -, v3, -⟩ := k_kind h
  unfold f_X5_signed_11 f_signed_39
  rw [v_gr c1 (k := 5) rfl, p_bs, p_let]
  by_cases h6 : σ.1 6 = 3
  · obtain ⟨q, z1, z2, z3⟩ := v3 h6
    rw [if_pos h6, if_pos (k3.mp h6), v_gi c1 (k := 4) rfl, p_bs, z1, z2]
    have en : -iI (q : Int) = iI (-(q : Int)) := by
      have := i_sub 0 (q : Int)
      rw [show iI 0 = (0 : Int32) from rfl, Int32.zero_sub, Int.zero_sub] at this
      exact this
    obtain ⟨V, hV1, hV2⟩ : ∃ V : Int, (V = q ∨ V = -(q : Int)) ∧ (∀ {α : Type} (F : Int32 → α), (if iI (s : Int) = 0 then F (iI (q : Int)) else F (-iI (q : Int))) = F (iI V)) := by
      rcases hs with rfl | rfl
      · exact ⟨q, Or.inl rfl, fun F => if_pos rfl⟩
      · refine ⟨-(q : Int), Or.inr rfl, fun F => ?_⟩
        rw [if_neg (show ¬ iI ((1 : Nat) : Int) = 0 from n10), en]
    have m76 := hV2 (fun v => f_signed_76 N σ (-4) 4 p v)
    have c62 := hV2 (fun v => f_X5_signed_62 N b g rd U v)
    rw [show (4 : Int32) = iI 4 from rfl, p_bs, p_bs] 
    rw [show (iI 4 : Int32) = 4 from rfl] 
    have m76 : (if iI (s : Int) = 0 then f_signed_76 N σ (-4) 4 p (iI (q : Int)) else f_signed_76 N σ (-4) 4 p (-iI (q : Int))) = f_signed_76 N σ (-4) 4 p (iI V) := m76
    have c62 : (if iI (s : Int) = 0 then f_X5_signed_62 N b g rd U (iI (q : Int)) else f_X5_signed_62 N b g rd U (-iI (q : Int))) = f_X5_signed_62 N b g rd U (iI V) := c62
    rw [m76, c62]
    by_cases q4 : q ≤ 4
    · obtain ⟨U', σ', at2, y1, y2, y3⟩ := k_go (N := N) h (by rw [h6]; decide) hN
      left
      refine ⟨V, U', σ', at2, by omega, by omega, ?_, ?_, y3⟩
      · unfold f_X5_signed_62 f_X5_signed_68
        rw [if_pos (show iI (q : Int) ≤ 4 by
          rw [show (4 : Int32) = iI 4 from rfl, j_le (by omega) (by omega) (by omega) (by omega)]
          omega), if_pos (v_is c1), y1, p_bs]
      · unfold f_signed_76
        rcases k_in (N := N) (b := b) (g := g) (lo := -4) (hi := 4) ⟨by omega, by omega⟩ ⟨by omega, by omega⟩ (iI V) U σ with ⟨f1, f2⟩ | ⟨f1, f2, -⟩
        · exfalso
          have f2' : f_within N σ (iI V) (iI (-4)) (iI 4) = some (0, σ) := f2
          unfold f_within f_within_14 f_within_15 at f2'
          rw [n_lt (by omega) (by omega) (by omega) (by omega) (by omega), n_lt (by omega) (by omega) (by omega) (by omega) (by omega)] at f2'
          rw [if_pos (show mBit 1 = true by decide)] at f2'
          injection f2' with f2'
          injection f2' with f2' _
          exact absurd f2' (by decide)
        · have f2' : f_within N σ (iI V) (-4) 4 = some (1, σ) := f2
          rw [f2', q_mc, if_neg n10, y2, q_mv]
    · obtain ⟨U', y1, y2, y3, y4, y5⟩ := c_newX (N := N) (k := 4) (p := p) h
      right
      refine ⟨U.1, U', mEr σ 4 p, ?_, ?_, 4, p, y2, rfl, rfl, rfl, mEk.er, y3, by omega, by omega⟩
      · unfold f_X5_signed_39
        rw [if_neg (show ¬ iI (q : Int) ≤ 4 by
          rw [show (4 : Int32) = iI 4 from rfl, j_le (by omega) (by omega) (by omega) (by omega)]
          omega), p_let, p_let, p_bs, y1, p_bs]
      · unfold f_signed_76
        have f2' : f_within N σ (iI V) (-4) 4 = some (0, σ) := by
          show f_within N σ (iI V) (iI (-4)) (iI 4) = some (0, σ)
          unfold f_within f_within_14 f_within_15
          rcases hV1 with z | z
          · rw [n_lt (by omega) (by omega) (by omega) (by omega) (by omega), p_lt (by omega) (by omega) (by omega) (by omega) (by omega)]
            rfl
          · rw [p_lt (by omega) (by omega) (by omega) (by omega) (by omega)]
            rfl
        rw [f2', q_mc, if_pos rfl, m_wrong h13, q_mc]
  · obtain ⟨U', y1, y2⟩ := c_fault (N := N) (k := 1) h
    right
    refine ⟨U.1, U', _, ?_, ?_, y2⟩
    · unfold f_X5_signed_27
      rw [if_neg (fun y => h6 (k3.mpr y)), if_pos (v_is c1), y1, q_uc, p_bs]
    · rw [if_neg h6, m_wrong h13, q_mc]
theorem k_signed (h : rCx b g lo rd tp n T U σ at') (hN : 2000 ≤ N) : (∃ (q : Int) (U' : UH) (σ' : MS) (at2 : Nat), -4 ≤ q ∧ q ≤ 4 ∧ f_X5_signed N b g U rd 4 = some (.inr (iI q, U')) ∧ f_signed N σ (-4) 4 = some (iI q, σ') ∧ rSt b g lo rd tp n T U σ at' U' σ' at2) ∨ ∃ x U' σ', f_X5_signed N b g U rd 4 = some (.inl (x, U')) ∧ f_signed N σ (-4) 4 = some (0, σ') ∧ rEr lo rd n U σ at' x U' σ' := by
  have h13 : σ.1 13 = 0 := h.2.2.2.2.2.2.2.2.2.1
  obtain ⟨kr, st, va, wv, sg, c1, c2, -⟩ := k_kind h
  obtain ⟨s1, s2⟩ := k_skS (N := N) (j := 23) (c := 45) h (by decide) (by decide +kernel) (by unfold sgn; decide) hN
  unfold f_X5_signed f_signed f_signed_28
  rw [v_gi c1 (k := 3) rfl, p_bs, if_pos (v_is c1), if_pos h13, p_let, c2]
  by_cases q : σ.1 6 = 45
  · obtain ⟨U', σ', at2, y1, y2, y3⟩ := s1 q
    rw [y1, q_uc, if_pos q, if_neg n10, y2, q_mv]
    rcases k_sg2 (N := N) y3.1 1 (Or.inr rfl) (iI st) hN with ⟨v, U2, σ2, a3, v1, v2, v3, v4, v5⟩ | ⟨x, U2, σ2, v1, v2, v3⟩
    · exact Or.inl ⟨v, U2, σ2, a3, v1, v2, v3, v4, y3.trans v5⟩
    · exact Or.inr ⟨x, U2, σ2, v1, v2, v3.aft y3⟩
  · rw [s2 q, q_uc, if_neg q, if_pos rfl]
    exact k_sg2 (N := N) h 0 (Or.inl rfl) (iI st) hN
/-- a string's hash is put in -/
theorem vSt.one {a m m' : Nat} {f f' : Nat → Int32} (h : vSt lo U a m f) (h' : vSt lo U a m' f') : m = m' ∧ f = f' := by
  obtain ⟨v, hh, z, e1, e2, -⟩ := h
  obtain ⟨v', hh', z', e3, e4, -⟩ := h'
  rw [e1] at e3
  injection e3 with e3
  injection e3 with e3
  injection e3 with _ e3
  injection e3 with e3 _
  injection e3 with e3
  subst e3
  rw [e2] at e4
  injection e4 with e4
  injection e4 with e4
  injection e4 with _ e4
  injection e4 with e4 e5
  injection e5 with e5
  exact ⟨e4, e5⟩
theorem rCx.hash {a m : Nat} {f : Nat → Int32} (h : rCx b g lo rd tp n T U σ at') (hs : vSt lo U a m f) (hs' : vSt lo U' a m f) (hk : ∀ x, x ≠ a → U'.2.2 x = U.2.2 x) (ho' : uOld U') (hl : lo ≤ a) (e1 : U'.1 = U.1) (e2 : U'.2.1 = U.2.1) : rCx b g lo rd tp n T U' σ at' ∧ rKp lo rd U U' := by
  obtain ⟨⟨st, va, kr, wv, sg, c1, c2, c3, c4, c5⟩, ⟨ft, t1, t2⟩, h3, hn, hE, ho, hlo, hrd, hlU, h13, htp, h9⟩ := h
  obtain ⟨v, hh, z, s1, s2, s3⟩ := id hs
  have c1' : U.2.2 rd = some (.inr (4, _)) := c1
  have nr : rd ≠ a := u_nrr c1' s1 (by decide)
  have st' : ∀ a' m' f', vSt lo U a' m' f' → vSt lo U' a' m' f' := fun a' m' f' q => by
    by_cases e : a' = a
    · subst e
      obtain ⟨y1, y2⟩ := hs.one q
      rw [← y1, ← y2]
      exact hs'
    · obtain ⟨v', h', z', y1, y2, y3⟩ := q
      exact ⟨v', h', z', (hk _ e).trans y1, (hk _ (u_nlr y2 s1)).trans y2, y3⟩
  refine ⟨⟨⟨st, va, kr, wv, sg, (hk rd nr).trans c1, c2, c3, c4, ?_⟩, ⟨ft, (hk tp (by omega)).trans t1, t2⟩, h3, hn, hE.keep (fun x hx => hk x (by omega)), ho', hlo, hrd, by omega, h13, htp, h9⟩, fun x hx => hk x (by omega), fun x x1 x2 x3 => hk x (fun e => x3 [.ref v, .int 0, .int hh, .int z] (by rw [e]; exact s1)), st', ho', by omega, by omega⟩
  rcases c5 with z | z | ⟨z1, z2, z3, wa, m2, f2, z4, z5, z6, z7, z8, z9, z10⟩ | z | z
  · exact Or.inl z
  · exact Or.inr (Or.inl z)
  · exact Or.inr (Or.inr (Or.inl ⟨z1, z2, z3, wa, m2, f2, z4, z5, z6, z7, z8, st' _ _ _ z9, z10⟩))
  · exact Or.inr (Or.inr (Or.inr (Or.inl z)))
  · exact Or.inr (Or.inr (Or.inr (Or.inr z)))
theorem t_hash : hC (fun k => (pTx 2).getD k 0) (pTx 2).length = -1237460601 ∧ hC (fun k => (pTx 3).getD k 0) (pTx 3).length = 108704838 ∧ hC (fun k => (pTx 4).getD k 0) (pTx 4).length = 115131 ∧ hC (fun k => (pTx 5).getD k 0) (pTx 5).length = 3357 ∧ hC (fun k => (pTx 6).getD k 0) (pTx 6).length = 3370 ∧ hC (fun k => (pTx 7).getD k 0) (pTx 7).length = 3116345 ∧ hC (fun k => (pTx 8).getD k 0) (pTx 8).length = 108511772 ∧ hC (fun k => (pTx 9).getD k 0) (pTx 9).length = 3317767 ∧ hC (fun k => (pTx 10).getD k 0) (pTx 10).length = 3739 ∧ hC (fun k => (pTx 11).getD k 0) (pTx 11).length = 3089570 := by decide +kernel
theorem wEq.hash {m : Nat} {f : Nat → Int32} {tx : List Int32} {H : Int32} (h : wEq m f tx) (ht : hC (fun k => tx.getD k 0) tx.length = H) : hC f m = H := by
  rw [← ht, ← h.1]
  exact hC_c m h.2
/-- the way that a word says -/
theorem c_wayOf {a m : Nat} {f : Nat → Int32} (h : rCx b g lo rd tp n T U σ at') (hs : vSt lo U a m f) (hm : m ≤ 8) (hl : lo ≤ a) (hN : 2000 ≤ N) : ∃ U', rCx b g lo rd tp n T U' σ at' ∧ rKp lo rd U U' ∧ U'.1 = U.1 ∧ U'.2.1 = U.2.1 ∧ ((wEq m f (pTx 8) ∧ f_X7_of N b g U (some a) = some (g.1 5, U')) ∨ (wEq m f (pTx 9) ∧ f_X7_of N b g U (some a) = some (g.1 6, U')) ∨ (wEq m f (pTx 10) ∧ f_X7_of N b g U (some a) = some (g.1 7, U')) ∨ (wEq m f (pTx 11) ∧ f_X7_of N b g U (some a) = some (g.1 8, U')) ∨ ((¬ wEq m f (pTx 8) ∧ ¬ wEq m f (pTx 9) ∧ ¬ wEq m f (pTx 10) ∧ ¬ wEq m f (pTx 11)) ∧ f_X7_of N b g U (some a) = some (none, U'))) := by
  have pl : ∀ j, j < 52 → (pTx j).length ≤ 100 := by decide +kernel
  have ho : uOld U := h.2.2.2.2.2.1
  have hlo : b ≤ lo := h.2.2.2.2.2.2.1
  obtain ⟨U', h1, h2, h3, h4, h5, h6⟩ := c_hash (N := N) (b := b) (g := g) hs (by omega) ho (by omega) (by omega)
  obtain ⟨g1, g2⟩ := h.hash hs h2 h3 h4 hl h5 h6
  have hE : tEn b g U' := g1.2.2.2.2.1
  obtain ⟨v0, hh0, z0, y0, -⟩ := id hs
  obtain ⟨v, hh, z, y1, y2, y3⟩ := id h2
  have q8 := c_eqL (N := N) (b := b) (g := g) h2.g (hE.lit (j := 8) (by decide)) (by omega) (by have := pl 8 (by decide); omega) (by omega)
  have q9 := c_eqL (N := N) (b := b) (g := g) h2.g (hE.lit (j := 9) (by decide)) (by omega) (by have := pl 9 (by decide); omega) (by omega)
  have q10 := c_eqL (N := N) (b := b) (g := g) h2.g (hE.lit (j := 10) (by decide)) (by omega) (by have := pl 10 (by decide); omega) (by omega)
  have q11 := c_eqL (N := N) (b := b) (g := g) h2.g (hE.lit (j := 11) (by decide)) (by omega) (by have := pl 11 (by decide); omega) (by omega)
  refine ⟨U', g1, g2, h5, h6, ?_⟩
  unfold f_X7_of
  rw [p_bs, if_pos (v_is y0), h1, q_uc]
  by_cases w10 : wEq m f (pTx 10)
  · have e10 := w10.hash t_hash.2.2.2.2.2.2.2.2.1
    rw [if_pos e10, if_pos (v_is y1), q10.1 w10, q_uc, if_neg n10]
    exact Or.inr (Or.inr (Or.inl ⟨w10, rfl⟩))
  by_cases w11 : wEq m f (pTx 11)
  · have e11 := w11.hash t_hash.2.2.2.2.2.2.2.2.2
    rw [if_neg (show ¬ hC f m = 3739 by rw [e11]; decide), if_pos e11, if_pos (v_is y1), q11.1 w11, q_uc, if_neg n10]
    exact Or.inr (Or.inr (Or.inr (Or.inl ⟨w11, rfl⟩)))
  by_cases w9 : wEq m f (pTx 9)
  · have e9 := w9.hash t_hash.2.2.2.2.2.2.2.1
    rw [if_neg (show ¬ hC f m = 3739 by rw [e9]; decide), if_neg (show ¬ hC f m = 3089570 by rw [e9]; decide), if_pos e9, if_pos (v_is y1), q9.1 w9, q_uc, if_neg n10]
    exact Or.inr (Or.inl ⟨w9, rfl⟩)
  by_cases w8 : wEq m f (pTx 8)
  · have e8 := w8.hash t_hash.2.2.2.2.2.2.1
    rw [if_neg (show ¬ hC f m = 3739 by rw [e8]; decide), if_neg (show ¬ hC f m = 3089570 by rw [e8]; decide), if_neg (show ¬ hC f m = 3317767 by rw [e8]; decide), if_pos e8, if_pos (v_is y1), q8.1 w8, q_uc, if_neg n10]
    exact Or.inl ⟨w8, rfl⟩
  refine Or.inr (Or.inr (Or.inr (Or.inr ⟨⟨w8, w9, w10, w11⟩, ?_⟩)))
  rw [if_pos (v_is y1), q10.2 w10, q_uc, if_pos rfl, if_pos (v_is y1), q11.2 w11, q_uc, if_pos rfl, if_pos (v_is y1), q9.2 w9, q_uc, if_pos rfl, if_pos (v_is y1), q8.2 w8, q_uc, if_pos rfl]
  have e : f_X7_of_105 N b g U' (-1) = some (none, U') := by
    unfold f_X7_of_105
    rfl
  rw [e]
  split
  · rfl
  · split
    · rfl
    · split
      · rfl
      · split <;> rfl
/-- a name -/
def isN (σ : MS) : Prop := σ.1 6 = 2 ∧ ∀ i, i < 10 → ¬ isW σ (pTx (32 + i))
theorem c_isName (h : rCx b g lo rd tp n T U σ at') (hN : 2000 ≤ N) : ∃ U', rCx b g lo rd tp n T U' σ at' ∧ rKp lo rd U U' ∧ U'.1 = U.1 ∧ U'.2.1 = U.2.1 ∧ ((isN σ ∧ f_X5_isName N b g U rd = some (1, U')) ∨ (¬ isN σ ∧ f_X5_isName N b g U rd = some (0, U'))) := by
  have pl : ∀ j, j < 52 → (pTx j).length ≤ 100 := by decide +kernel
  have pe : ∀ i, i < 10 → pTx (32 + i) = pTx (2 + i) := by decide +kernel
  have ho : uOld U := h.2.2.2.2.2.1
  have hlo : b ≤ lo := h.2.2.2.2.2.2.1
  obtain ⟨kr, st, va, wv, sg, c1, c2, -, k2, -, -, w, -⟩ := k_kind h
  unfold f_X5_isName
  rw [v_gr c1 (k := 5) rfl, p_bs, p_let]
  by_cases h6 : σ.1 6 = 2
  · obtain ⟨a, m, f, e1, hl, e3, em, hm, hs, e7⟩ := w h6
    subst e1
    obtain ⟨U1, h1, h2, h3, h4, h5, h6'⟩ := c_hash (N := N) (b := b) (g := g) hs (by omega) ho (by omega) (by omega)
    obtain ⟨g1, g2⟩ := h.hash hs h2 h3 h4 hl h5 h6'
    have hE : tEn b g U1 := g1.2.2.2.2.1
    obtain ⟨v0, hh0, z0, y0, -⟩ := id hs
    obtain ⟨v, hh, z, y1, y2, y3⟩ := id h2
    have wI : ∀ i, i < 10 → (isW σ (pTx (32 + i)) ↔ wEq m f (pTx (2 + i))) := fun i hi => by
      rw [pe i hi]
      constructor
      · rintro ⟨-, m', q1, q2, q3⟩
        have e : iI (m' : Int) = iI (m : Int) := q1.symm.trans e3
        rw [j_eq (by omega) (by omega) (by omega) (by omega)] at e
        have e' : m' = m := by omega
        subst e'
        exact ⟨q3.1, fun k hk => (e7 k hk).1.trans (q3.2 k hk)⟩
      · intro q
        exact ⟨h6, m, e3, hm, q.1, fun k hk => (e7 k hk).1.symm.trans (q.2 k hk)⟩
    have nt : ∀ i, i < 10 → wEq m f (pTx (2 + i)) → ¬ isN σ := fun i hi q z => z.2 i hi ((wI i hi).mpr q)
    have q2 := c_eqL (N := N) (b := b) (g := g) h2.g (hE.lit (j := 2) (by decide)) (by omega) (by have := pl 2 (by decide); omega) (by omega)
    have q3 := c_eqL (N := N) (b := b) (g := g) h2.g (hE.lit (j := 3) (by decide)) (by omega) (by have := pl 3 (by decide); omega) (by omega)
    have q4 := c_eqL (N := N) (b := b) (g := g) h2.g (hE.lit (j := 4) (by decide)) (by omega) (by have := pl 4 (by decide); omega) (by omega)
    have q5 := c_eqL (N := N) (b := b) (g := g) h2.g (hE.lit (j := 5) (by decide)) (by omega) (by have := pl 5 (by decide); omega) (by omega)
    have q6 := c_eqL (N := N) (b := b) (g := g) h2.g (hE.lit (j := 6) (by decide)) (by omega) (by have := pl 6 (by decide); omega) (by omega)
    have q7 := c_eqL (N := N) (b := b) (g := g) h2.g (hE.lit (j := 7) (by decide)) (by omega) (by have := pl 7 (by decide); omega) (by omega)
    rw [if_pos (k2.mp h6), v_gr c1 (k := 6) rfl, p_bs, p_bs, if_pos (v_is y0), h1, q_uc]
    by_cases w2 : wEq m f (pTx 2)
    · have e2 := w2.hash t_hash.1
      rw [if_pos e2, if_pos (v_is y1), q2.1 w2, q_uc, if_neg n10]
      exact ⟨U1, g1, g2, h5, h6', Or.inr ⟨nt 0 (by decide) w2, rfl⟩⟩
    by_cases w5 : wEq m f (pTx 5)
    · have e5 := w5.hash t_hash.2.2.2.1
      rw [if_neg (show ¬ hC f m = -1237460601 by rw [e5]; decide), if_pos e5, if_pos (v_is y1), q5.1 w5, q_uc, if_neg n10]
      exact ⟨U1, g1, g2, h5, h6', Or.inr ⟨nt 3 (by decide) w5, rfl⟩⟩
    by_cases w6 : wEq m f (pTx 6)
    · have e6 := w6.hash t_hash.2.2.2.2.1
      rw [if_neg (show ¬ hC f m = -1237460601 by rw [e6]; decide), if_neg (show ¬ hC f m = 3357 by rw [e6]; decide), if_pos e6, if_pos (v_is y1), q6.1 w6, q_uc, if_neg n10]
      exact ⟨U1, g1, g2, h5, h6', Or.inr ⟨nt 4 (by decide) w6, rfl⟩⟩
    by_cases w4 : wEq m f (pTx 4)
    · have e4 := w4.hash t_hash.2.2.1
      rw [if_neg (show ¬ hC f m = -1237460601 by rw [e4]; decide), if_neg (show ¬ hC f m = 3357 by rw [e4]; decide), if_neg (show ¬ hC f m = 3370 by rw [e4]; decide), if_pos e4, if_pos (v_is y1), q4.1 w4, q_uc, if_neg n10]
      exact ⟨U1, g1, g2, h5, h6', Or.inr ⟨nt 2 (by decide) w4, rfl⟩⟩
    by_cases w7 : wEq m f (pTx 7)
    · have e7 := w7.hash t_hash.2.2.2.2.2.1
      rw [if_neg (show ¬ hC f m = -1237460601 by rw [e7]; decide), if_neg (show ¬ hC f m = 3357 by rw [e7]; decide), if_neg (show ¬ hC f m = 3370 by rw [e7]; decide), if_neg (show ¬ hC f m = 115131 by rw [e7]; decide), if_pos e7, if_pos (v_is y1), q7.1 w7, q_uc, if_neg n10]
      exact ⟨U1, g1, g2, h5, h6', Or.inr ⟨nt 5 (by decide) w7, rfl⟩⟩
    by_cases w3 : wEq m f (pTx 3)
    · have e3 := w3.hash t_hash.2.1
      rw [if_neg (show ¬ hC f m = -1237460601 by rw [e3]; decide), if_neg (show ¬ hC f m = 3357 by rw [e3]; decide), if_neg (show ¬ hC f m = 3370 by rw [e3]; decide), if_neg (show ¬ hC f m = 115131 by rw [e3]; decide), if_neg (show ¬ hC f m = 3116345 by rw [e3]; decide), if_pos e3, if_pos (v_is y1), q3.1 w3, q_uc, if_neg n10]
      exact ⟨U1, g1, g2, h5, h6', Or.inr ⟨nt 1 (by decide) w3, rfl⟩⟩
    obtain ⟨U2, g3, g4, g5, g6, gw⟩ := c_wayOf (N := N) g1 h2 hm hl hN
    obtain ⟨kr2, st2, va2, wv2, sg2, d1, -⟩ := k_kind g1
    have d6 : uGR U1 rd 4 6 = some (some a) := by
      rw [← v_gr c1 (k := 6) rfl]
      unfold uGR uGet
      rw [h3 rd (u_nrr c1 y0 (by decide))]
    have e : ∀ y, f_X7_of N b g U1 (some a) = some (y, U2) → f_X5_isName_161 N b g rd U1 (-1) = ucase y (some (1, U2)) (fun _ => some (0, U2)) := fun y hy => by
      unfold f_X5_isName_161 f_X5_isName_217
      rw [if_neg (show ¬ (-1 : Int32) = 0 by decide), if_neg (show ¬ (-1 : Int32) = 1 by decide), if_neg (show ¬ (-1 : Int32) = 2 by decide), if_neg (show ¬ (-1 : Int32) = 3 by decide), if_neg (show ¬ (-1 : Int32) = 4 by decide), if_neg (show ¬ (-1 : Int32) = 5 by decide), d6, p_bs, hy, q_uc]
      rfl
    have go : ∀ r : Int32, f_X5_isName_161 N b g rd U1 (-1) = some (r, U2) → (if hC f m = -1237460601 then f_X5_isName_161 N b g rd U1 (-1) else if hC f m = 3357 then f_X5_isName_161 N b g rd U1 (-1) else if hC f m = 3370 then f_X5_isName_161 N b g rd U1 (-1) else if hC f m = 115131 then f_X5_isName_161 N b g rd U1 (-1) else if hC f m = 3116345 then f_X5_isName_161 N b g rd U1 (-1) else if hC f m = 108704838 then f_X5_isName_161 N b g rd U1 (-1) else f_X5_isName_161 N b g rd U1 (-1)) = some (r, U2) := fun r hr => by
      rw [hr]
      split
      · rfl
      · split
        · rfl
        · split
          · rfl
          · split
            · rfl
            · split
              · rfl
              · split <;> rfl
    rw [if_pos (v_is y1), q2.2 w2, q_uc, if_pos rfl, if_pos (v_is y1), q5.2 w5, q_uc, if_pos rfl, if_pos (v_is y1), q6.2 w6, q_uc, if_pos rfl, if_pos (v_is y1), q4.2 w4, q_uc, if_pos rfl, if_pos (v_is y1), q7.2 w7, q_uc, if_pos rfl, if_pos (v_is y1), q3.2 w3, q_uc, if_pos rfl]
    refine ⟨U2, g3, g2.trans g4, by omega, by omega, ?_⟩
    obtain ⟨r5, x5⟩ := hE.kd (i := 5) (by decide)
    obtain ⟨r6, x6⟩ := hE.kd (i := 6) (by decide)
    obtain ⟨r7, x7⟩ := hE.kd (i := 7) (by decide)
    obtain ⟨r8, x8⟩ := hE.kd (i := 8) (by decide)
    rcases gw with ⟨z1, z2⟩ | ⟨z1, z2⟩ | ⟨z1, z2⟩ | ⟨z1, z2⟩ | ⟨⟨z8, z9, z10, z11⟩, z2⟩
    · right
      refine ⟨nt 6 (by decide) z1, go 0 ?_⟩
      rw [e _ z2, x5]
      rfl
    · right
      refine ⟨nt 7 (by decide) z1, go 0 ?_⟩
      rw [e _ z2, x6]
      rfl
    · right
      refine ⟨nt 8 (by decide) z1, go 0 ?_⟩
      rw [e _ z2, x7]
      rfl
    · right
      refine ⟨nt 9 (by decide) z1, go 0 ?_⟩
      rw [e _ z2, x8]
      rfl
    · left
      refine ⟨⟨h6, fun i hi q => ?_⟩, go 1 ?_⟩
      · have q := (wI i hi).mp q
        match i, hi with
        | 0, _ => exact w2 q
        | 1, _ => exact w3 q
        | 2, _ => exact w4 q
        | 3, _ => exact w5 q
        | 4, _ => exact w6 q
        | 5, _ => exact w7 q
        | 6, _ => exact z8 q
        | 7, _ => exact z9 q
        | 8, _ => exact z10 q
        | 9, _ => exact z11 q
      · rw [e _ z2]
        rfl
  · rw [if_neg (fun y => h6 (k2.mpr y))]
    exact ⟨U, h, rKp.refl ho, rfl, rfl, Or.inr ⟨fun z => h6 z.1, rfl⟩⟩
theorem m_isName (h : rCx b g lo rd tp n T U σ at') (hN : 2000 ≤ N) : (isN σ → f_isName N σ = some (1, σ)) ∧ (¬ isN σ → f_isName N σ = some (0, σ)) := by
  have pl : ∀ j, j < 52 → (pTx j).length ≤ 100 := by decide +kernel
  have e90 : f_isName_90 N σ = some (0, σ) := by
    unfold f_isName_90 f_isName_95 f_isName_112 f_isName_113
    rw [p_let]
    split
    · rfl
    · rfl
  have kw : ∀ i, i < 10 → _ := fun i (hi : i < 10) => k_word (N := N) (tx := pTx (32 + i)) h (pl _ (by omega)) (by omega)
  unfold f_isName
  by_cases w0 : isW σ (pTx 32)
  · rw [(kw 0 (by decide)).1 w0, q_mc, if_neg n10]
    exact ⟨fun z => absurd w0 (z.2 0 (by decide)), fun _ => e90⟩
  · rw [(kw 0 (by decide)).2 w0, q_mc, if_pos rfl]
    by_cases w1 : isW σ (pTx 33)
    · rw [(kw 1 (by decide)).1 w1, q_mc, if_neg n10]
      exact ⟨fun z => absurd w1 (z.2 1 (by decide)), fun _ => e90⟩
    · rw [(kw 1 (by decide)).2 w1, q_mc, if_pos rfl]
      by_cases w2 : isW σ (pTx 34)
      · rw [(kw 2 (by decide)).1 w2, q_mc, if_neg n10]
        exact ⟨fun z => absurd w2 (z.2 2 (by decide)), fun _ => e90⟩
      · rw [(kw 2 (by decide)).2 w2, q_mc, if_pos rfl]
        by_cases w3 : isW σ (pTx 35)
        · rw [(kw 3 (by decide)).1 w3, q_mc, if_neg n10]
          exact ⟨fun z => absurd w3 (z.2 3 (by decide)), fun _ => e90⟩
        · rw [(kw 3 (by decide)).2 w3, q_mc, if_pos rfl]
          by_cases w4 : isW σ (pTx 36)
          · rw [(kw 4 (by decide)).1 w4, q_mc, if_neg n10]
            exact ⟨fun z => absurd w4 (z.2 4 (by decide)), fun _ => e90⟩
          · rw [(kw 4 (by decide)).2 w4, q_mc, if_pos rfl]
            by_cases w5 : isW σ (pTx 37)
            · rw [(kw 5 (by decide)).1 w5, q_mc, if_neg n10]
              exact ⟨fun z => absurd w5 (z.2 5 (by decide)), fun _ => e90⟩
            · rw [(kw 5 (by decide)).2 w5, q_mc, if_pos rfl]
              by_cases w6 : isW σ (pTx 38)
              · rw [(kw 6 (by decide)).1 w6, q_mc, if_neg n10]
                exact ⟨fun z => absurd w6 (z.2 6 (by decide)), fun _ => e90⟩
              · rw [(kw 6 (by decide)).2 w6, q_mc, if_pos rfl]
                by_cases w7 : isW σ (pTx 39)
                · rw [(kw 7 (by decide)).1 w7, q_mc, if_neg n10]
                  exact ⟨fun z => absurd w7 (z.2 7 (by decide)), fun _ => e90⟩
                · rw [(kw 7 (by decide)).2 w7, q_mc, if_pos rfl]
                  by_cases w8 : isW σ (pTx 40)
                  · rw [(kw 8 (by decide)).1 w8, q_mc, if_neg n10]
                    exact ⟨fun z => absurd w8 (z.2 8 (by decide)), fun _ => e90⟩
                  · rw [(kw 8 (by decide)).2 w8, q_mc, if_pos rfl]
                    by_cases w9 : isW σ (pTx 41)
                    · rw [(kw 9 (by decide)).1 w9, q_mc, if_neg n10]
                      exact ⟨fun z => absurd w9 (z.2 9 (by decide)), fun _ => e90⟩
                    · rw [(kw 9 (by decide)).2 w9, q_mc, if_pos rfl]
                      unfold f_isName_95 f_isName_112 f_isName_113
                      rw [p_let]
                      by_cases h6 : σ.1 6 = 2
                      · rw [if_pos h6, if_pos rfl]
                        refine ⟨fun _ => rfl, fun z => absurd ⟨h6, fun i hi => ?_⟩ z⟩
                        match i, hi with
                        | 0, _ => exact w0
                        | 1, _ => exact w1
                        | 2, _ => exact w2
                        | 3, _ => exact w3
                        | 4, _ => exact w4
                        | 5, _ => exact w5
                        | 6, _ => exact w6
                        | 7, _ => exact w7
                        | 8, _ => exact w8
                        | 9, _ => exact w9
                      · rw [if_neg h6]
                        exact ⟨fun z => absurd z.1 h6, fun _ => rfl⟩
/-- a name is there, or a fault -/
theorem k_name (h : rCx b g lo rd tp n T U σ at') (hN : 2000 ≤ N) : (isN σ ∧ ∃ (U' : UH) (wa m : Nat) (f : Nat → Int32), f_X5_name N b g U rd = some (.inr (some wa, U')) ∧ rCx b g lo rd tp n T U' σ at' ∧ rKp lo rd U U' ∧ U'.1 = U.1 ∧ U'.2.1 = U.2.1 ∧ lo ≤ wa ∧ σ.1 8 = iI m ∧ 1 ≤ m ∧ m ≤ 8 ∧ vSt lo U' wa m f ∧ ∀ k, k < m → f k = σ.2.1 11 k ∧ ∃ c : Nat, f k = iI c ∧ 97 ≤ c ∧ c ≤ 122) ∨ (¬ isN σ ∧ ∃ x U', f_X5_name N b g U rd = some (.inl (x, U')) ∧ rEr lo rd n U σ at' x U' (mEr σ 1 (σ.1 4))) := by
  obtain ⟨kr, st, va, wv, sg, c1, c2, -⟩ := k_kind h
  obtain ⟨U', g1, g2, g3, g4, g5⟩ := c_isName (N := N) h hN
  obtain ⟨kr', st', va', wv', sg', d1, d2, -, -, -, -, w, -⟩ := k_kind g1
  unfold f_X5_name f_X5_name_12
  rw [if_pos (v_is c1)]
  rcases g5 with ⟨q1, q2⟩ | ⟨q1, q2⟩
  · obtain ⟨wa, m, f, e1, e2, e3, e4, e5, e6, e7⟩ := w q1.1
    subst e1
    left
    refine ⟨q1, U', wa, m, f, ?_, g1, g2, g3, g4, e2, e3, e4, e5, e6, e7⟩
    rw [q2, q_uc, if_neg n10, v_gr d1 (k := 6) rfl, p_bs]
  · obtain ⟨U2, y1, k, p, y2, y3, y4, y5, y6, y7, y8, y9⟩ := c_fault (N := N) (k := 1) g1
    right
    refine ⟨q1, U'.1, U2, ?_, k, p, y2, y3, y4, y5, y6, g2.trans y7, by omega, by omega⟩
    rw [q2, q_uc, if_pos rfl, if_pos (v_is d1), y1, q_uc, p_bs]
end I9s

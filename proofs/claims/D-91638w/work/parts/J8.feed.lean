/-! PLAIN: the call feed -/
theorem t_byt1 (y : Int32) : y.toInt8.toInt32.toInt8 = y.toInt8 := Int8.toInt8_toInt32 _
theorem t_byt2 (y : Int32) : y.toInt8.toInt32 &&& 255 = y &&& 255 := by
  apply Int32.toBitVec_inj.mp
  rw [Int32.toBitVec_and, Int32.toBitVec_and, Int8.toBitVec_toInt32, Int32.toBitVec_toInt8]
  apply BitVec.eq_of_getLsbD_eq
  intro i hi
  rw [BitVec.getLsbD_and, BitVec.getLsbD_and]
  by_cases h : i < 8
  · rw [BitVec.getLsbD_signExtend]
    simp [h, hi, BitVec.getElem_signExtend]
  · have : (Int32.toBitVec 255).getLsbD i = false := by
      have e : (Int32.toBitVec 255) = 255#32 := rfl
      rw [e]
      have : ∀ i : Fin 32, ¬ i.1 < 8 → (255#32).getLsbD i.1 = false := by decide
      exact this ⟨i, hi⟩ h
    rw [this, Bool.and_false, Bool.and_false]
theorem t_byt3 (y : Int32) : vp_nar .byte (y.toInt8.toInt32) = y.toInt8.toInt32 := by
  show (y.toInt8.toInt32).toInt8.toInt32 = _
  rw [t_byt1]
theorem t_shf : ∀ j : Fin 4, iI (24 - 8 * ((j.1 : Nat) : Int)) &&& 31 = iI (24 - 8 * ((j.1 : Nat) : Int)) := by decide
theorem w_stI {b : Nat} {u : UH} {a t n : Nat} {f : Nat → Int32} {i : Int} {x : Int32} (h : u.2.2 a = some (.inl (t, n, .inl f))) (hb : b ≤ a) (h0 : 0 ≤ i) (h1 : i < (n : Int)) (h2 : i ≤ 2147483647) (ho : uOld u) : ∃ u', uStI b u a t (iI i) x = some u' ∧ u'.2.2 a = some (.inl (t, n, .inl (upd f i.toNat x))) ∧ (∀ y, y ≠ a → u'.2.2 y = u.2.2 y) ∧ uOld u' ∧ u'.1 = u.1 ∧ u'.2.1 = u.2.1 := ⟨_, u_stI h hb h0 h1 h2, u_ss, fun y hy => u_sn hy, ho.set h, rfl, rfl⟩
/-- the sign at place q of what is fed -/
def fW (x1 x2 x3 x4 x5 : Int32) (i : Nat) : Int32 := if i = 0 then x1 else if i = 1 then x2 else if i = 2 then x3 else if i = 3 then x4 else x5
def fSh (W : Nat → Int32) (q : Nat) : Int32 := W (q / 4) >>> iI (24 - 8 * ((q % 4 : Nat) : Int))
theorem mRow_s2 {σ : MS} {a c : Int32} {r : Nat → Int32} : mSet (mRow (mSet σ 2 a) 1 r) 2 c = mRow (mSet σ 2 c) 1 r := by
  refine Prod.ext ?_ rfl
  funext k
  show upd (upd σ.1 2 a) 2 c k = upd σ.1 2 c k
  unfold upd
  by_cases h : k = 2
  · rw [if_pos h, if_pos h]
  · rw [if_neg h, if_neg h, if_neg h]
theorem m_feed23 {N : Nat} {σ : MS} {nt : Nat} {x1 x2 x3 x4 x5 : Int32} (hnt : nt + 20 ≤ 500) : ∀ (m q : Nat) (r : Nat → Int32), q ≤ 20 → 20 < q + m → (∀ k, k < 500 → r k = if nt ≤ k ∧ k < nt + q then fSh (fW x1 x2 x3 x4 x5) (k - nt) &&& 255 else σ.2.1 1 k) → ∃ r' : Nat → Int32, (∀ k, k < 500 → r' k = if nt ≤ k ∧ k < nt + 20 then fSh (fW x1 x2 x3 x4 x5) (k - nt) &&& 255 else σ.2.1 1 k) ∧ f_feed_23 N m (mRow (mSet σ 2 (iI ((nt + q : Nat) : Int))) 1 r) x1 x2 x3 x4 x5 (iI q) = some (iI ((nt + 20 : Nat) : Int), mRow (mSet σ 2 (iI ((nt + 20 : Nat) : Int))) 1 r') := by
  intro m
  induction m with
  | zero => intro q r h1 h2; omega
  | succ m ih =>
    intro q r h1 h2 h3
    rw [f_feed_23]
    by_cases hq : q = 20
    · subst hq
      refine ⟨r, h3, ?_⟩
      rw [show (20 : Int32) = iI 20 from rfl, p_le (by omega) (by omega) (by omega) (by omega) (by omega)]
      rfl
    · have eq : iI (q : Int) + 1 = iI ((q + 1 : Nat) : Int) := by
        rw [j1, i_add]
        rfl
      have e2 : iI ((nt + q : Nat) : Int) + 1 = iI ((nt + (q + 1) : Nat) : Int) := by
        rw [j1, i_add]
        congr 1
      have em : (24 : Int32) - 8 * (iI (q : Int) - iI (q : Int) / 4 * 4) = iI (24 - 8 * ((q % 4 : Nat) : Int)) := by
        rw [show (4 : Int32) = iI 4 from rfl, i_div ⟨by omega, by omega⟩ ⟨by decide, by decide⟩ (Or.inl (by decide)), i_mul, i_sub, j8, i_mul, show (24 : Int32) = iI 24 from rfl, i_sub]
        congr 1
        rw [Int.tdiv_eq_ediv_of_nonneg (by omega)]
        omega
      have ts := t_shf ⟨q % 4, by omega⟩
      have ts : iI (24 - 8 * ((q % 4 : Nat) : Int)) &&& 31 = iI (24 - 8 * ((q % 4 : Nat) : Int)) := ts
      obtain ⟨t1, t2⟩ := t_ix (a := ((nt + q : Nat) : Int)) (n := mLen 1) (k := nt + q) rfl (by rw [show mLen 1 = 500 from rfl]; omega) (by rw [show mLen 1 = 500 from rfl]; omega)
      have go : f_feed_76 N (f_feed_23 N m) (mRow (mSet σ 2 (iI ((nt + q : Nat) : Int))) 1 r) x1 x2 x3 x4 x5 (iI q) (fW x1 x2 x3 x4 x5 (q / 4)) = f_feed_23 N m (mRow (mSet σ 2 (iI ((nt + (q + 1) : Nat) : Int))) 1 (upd r (nt + q) (fSh (fW x1 x2 x3 x4 x5) q &&& 255))) x1 x2 x3 x4 x5 (iI ((q + 1 : Nat) : Int)) := by
        unfold f_feed_76
        rw [show (mRow (mSet σ 2 (iI ((nt + q : Nat) : Int))) 1 r).1 2 = iI ((nt + q : Nat) : Int) from rfl, if_pos t1, p_let, t2, em, ts, mRow_a, show (mRow (mSet σ 2 (iI ((nt + q : Nat) : Int))) 1 (upd r (nt + q) ((fW x1 x2 x3 x4 x5 (q / 4) >>> iI (24 - 8 * ((q % 4 : Nat) : Int))) &&& 255))).1 2 = iI ((nt + q : Nat) : Int) from rfl, e2, mRow_s2, p_let, eq, p_let]
        rfl
      obtain ⟨r', w1, w2⟩ := ih (q + 1) (upd r (nt + q) (fSh (fW x1 x2 x3 x4 x5) q &&& 255)) (by omega) (by omega) (fun k hk => by
        by_cases c : k = nt + q
        · subst c
          rw [upd_s, if_pos (by omega)]
          congr 2
          omega
        · rw [upd_n c, h3 k hk]
          by_cases c2 : nt ≤ k ∧ k < nt + q
          · rw [if_pos c2, if_pos (by omega)]
          · rw [if_neg c2, if_neg (by omega)])
      refine ⟨r', w1, ?_⟩
      rw [← w2, ← go, show (20 : Int32) = iI 20 from rfl, n_le (by omega) (by omega) (by omega) (by omega) (by omega)]
      by_cases c4 : 4 ≤ q
      · rw [show (4 : Int32) = iI 4 from rfl, p_le (by omega) (by omega) (by omega) (by omega) (by omega)]
        by_cases c8 : 8 ≤ q
        · rw [j8, p_le (by omega) (by omega) (by omega) (by omega) (by omega)]
          by_cases c12 : 12 ≤ q
          · rw [show (12 : Int32) = iI 12 from rfl, p_le (by omega) (by omega) (by omega) (by omega) (by omega)]
            by_cases c16 : 16 ≤ q
            · rw [show (16 : Int32) = iI 16 from rfl, p_le (by omega) (by omega) (by omega) (by omega) (by omega)]
              have : q / 4 = 4 := by omega
              rw [this]
              rfl
            · rw [show (16 : Int32) = iI 16 from rfl, n_le (by omega) (by omega) (by omega) (by omega) (by omega)]
              have : q / 4 = 3 := by omega
              rw [this]
              rfl
          · rw [show (12 : Int32) = iI 12 from rfl, n_le (by omega) (by omega) (by omega) (by omega) (by omega)]
            have : q / 4 = 2 := by omega
            rw [this]
            rfl
        · rw [j8, n_le (by omega) (by omega) (by omega) (by omega) (by omega)]
          have : q / 4 = 1 := by omega
          rw [this]
          rfl
      · rw [show (4 : Int32) = iI 4 from rfl, n_le (by omega) (by omega) (by omega) (by omega) (by omega)]
        have : q / 4 = 0 := by omega
        rw [this]
        rfl
section G8s
variable {N b : Nat} {g : uEnv} {A : pA} {ad sa : Nat → Nat} {Q : qT} {U : UH} {lab : Nat → Nat} {σ : MS}
/-- the heap while it is fed: q signs are there -/
def fdS (ad : Nat → Nat) (σ : MS) (bkv mpv ptv : Value) (nt : Nat) (f0 : Nat → Int32) (W : Nat → Int32) (U1 u : UH) (q : Nat) : Prop := u.2.2 (ad 0) = some (xO ad (mSet σ 2 (iI ((nt + q : Nat) : Int))) bkv mpv ptv) ∧ (∃ f : Nat → Int32, u.2.2 (ad 1) = some (.inl (1, 500, .inl f)) ∧ ∀ k, k < 500 → f k = if nt ≤ k ∧ k < nt + q then (fSh W (k - nt)).toInt8.toInt32 else f0 k) ∧ (∀ x, x ≠ ad 0 → x ≠ ad 1 → u.2.2 x = U1.2.2 x) ∧ uOld u ∧ u.1 = U1.1 ∧ u.2.1 = U1.2.1
theorem c_fd72 {bkv mpv ptv : Value} {nt : Nat} {f0 W : Nat → Int32} {U1 : UH} {x8 : Int32} {x7 : Option Nat} {k54 : UH → Option Nat → Int32 → Int32 → Option (Int32 × UH)} (hb0 : b ≤ ad 0) (hb1 : b ≤ ad 1) (n01 : ad 0 ≠ ad 1) (hnt : nt + 20 ≤ 500) {i : Nat} (hi : i < 5) : ∀ (m j : Nat) (u : UH), j ≤ 4 → 4 < j + m → fdS ad σ bkv mpv ptv nt f0 W U1 u (4 * i + j) → ∃ u', fdS ad σ bkv mpv ptv nt f0 W U1 u' (4 * (i + 1)) ∧ f_X1_feed_72 N b g (ad 0) k54 m u x7 x8 (iI i) (W i) (iI (24 - 8 * (j : Int))) = k54 u' x7 x8 (iI ((i + 1 : Nat) : Int)) := by
  intro m
  induction m with
  | zero => intro j u h1 h2; omega
  | succ m ih =>
    intro j u h1 h2 h3
    rw [f_X1_feed_72]
    by_cases hj : j = 4
    · subst hj
      refine ⟨u, h3, ?_⟩
      rw [j0, p_lt (by omega) (by omega) (by omega) (by omega) (by omega), j1, i_add, p_let]
      rfl
    · obtain ⟨hx, ⟨f, hf, hfk⟩, hr, ho, s1, s2⟩ := h3
      have e2 : iI ((nt + (4 * i + j) : Nat) : Int) + 1 = iI ((nt + (4 * i + (j + 1)) : Nat) : Int) := by
        rw [j1, i_add]
        congr 1
      have e3 : iI (24 - 8 * (j : Int)) + (-8) = iI (24 - 8 * ((j + 1 : Nat) : Int)) := by
        rw [show (-8 : Int32) = iI (-8) from rfl, i_add]
        congr 1
        omega
      have ts := t_shf ⟨j, by omega⟩
      have ts : iI (24 - 8 * ((j : Nat) : Int)) &&& 31 = iI (24 - 8 * ((j : Nat) : Int)) := ts
      obtain ⟨u2, p1, p2, p3, p4, p5, p6⟩ := w_put (b := b) (k := 5) (v := .int (iI ((nt + (4 * i + (j + 1)) : Nat) : Int))) hx hb0 (Nat.le_of_ble_eq_true rfl) ho
      have hf2 : u2.2.2 (ad 1) = some (.inl (1, 500, .inl f)) := (p3 _ (Ne.symm n01)).trans hf
      obtain ⟨u3, r1, r2, r3, r4, r5, r6⟩ := w_stI (b := b) (i := ((nt + (4 * i + j) : Nat) : Int)) (x := vp_nar .byte ((W i >>> iI (24 - 8 * (j : Int))).toInt8.toInt32)) hf2 hb1 (by omega) (by omega) (by omega) p4
      obtain ⟨u', w1, w2⟩ := ih (j + 1) u3 (by omega) (by omega) ⟨(r3 _ n01).trans p2, ⟨_, r2, fun k hk => by
        show upd f (nt + (4 * i + j)) _ k = _
        by_cases c : k = nt + (4 * i + j)
        · subst c
          rw [upd_s, if_pos (by omega), t_byt3]
          unfold fSh
          have q1 : (nt + (4 * i + j) - nt) / 4 = i := by omega
          have q2 : (nt + (4 * i + j) - nt) % 4 = j := by omega
          rw [q1, q2]
        · rw [upd_n c, hfk k hk]
          by_cases c2 : nt ≤ k ∧ k < nt + (4 * i + j)
          · rw [if_pos c2, if_pos (by omega)]
          · rw [if_neg c2, if_neg (by omega)]⟩, fun x q1 q2 => (r3 x q2).trans ((p3 x q1).trans (hr x q1 q2)), r4, by omega, by omega⟩
      refine ⟨u', w1, ?_⟩
      rw [j0, n_lt (by omega) (by omega) (by omega) (by omega) (by omega), v_gr hx (k := 4) rfl, p_bs, v_gi hx (k := 5) rfl, p_bs]
      show ((uPut b u (ad 0) 0 5 (.int (iI ((nt + (4 * i + j) : Nat) : Int) + 1))).bind fun u5 => _) = _
      rw [e2, p1, p_bs, p_bs, ts]
      show ((uStI b u2 (ad 1) 1 (iI ((nt + (4 * i + j) : Nat) : Int)) _).bind fun u7 => _) = _
      rw [r1, p_bs, e3, p_let]
      exact w2
theorem c_fd54 {bkv mpv ptv : Value} {nt a3 : Nat} {f0 W fa : Nat → Int32} {U1 : UH} (hb0 : b ≤ ad 0) (hb1 : b ≤ ad 1) (n01 : ad 0 ≠ ad 1) (hnt : nt + 20 ≤ 500) (h3 : U1.2.2 a3 = some (.inl (0, 5, .inl fa))) (n30 : a3 ≠ ad 0) (n31 : a3 ≠ ad 1) (hfa : ∀ i, i < 5 → fa i = W i) (hN : 10 ≤ N) : ∀ (m i : Nat) (u : UH), i ≤ 5 → 5 < i + m → fdS ad σ bkv mpv ptv nt f0 W U1 u (4 * i) → ∃ u', fdS ad σ bkv mpv ptv nt f0 W U1 u' 20 ∧ f_X1_feed_54 N b g (ad 0) m u (some a3) (iI ((5 : Nat) : Int)) (iI i) = some (iI ((nt + 20 : Nat) : Int), u') := by
  intro m
  induction m with
  | zero => intro i u h1 h2; omega
  | succ m ih =>
    intro i u h1 h2 hs
    rw [f_X1_feed_54]
    by_cases hi : i = 5
    · subst hi
      refine ⟨u, hs, ?_⟩
      rw [p_le (by omega) (by omega) (by omega) (by omega) (by omega), v_gi hs.1 (k := 5) rfl, p_bs]
      rfl
    · have ha : u.2.2 a3 = some (.inl (0, 5, .inl fa)) := (hs.2.2.1 a3 n30 n31).trans h3
      have Ld : uLdI u a3 0 (iI (i : Int)) = some (fa i) := u_ldI ha (by omega) (by omega) (by omega)
      obtain ⟨u1, w1, w2⟩ := c_fd72 (N := N) (b := b) (g := g) (x8 := iI ((5 : Nat) : Int)) (x7 := some a3) (k54 := f_X1_feed_54 N b g (ad 0) m) hb0 hb1 n01 hnt (i := i) (by omega) N 0 u (by omega) (by omega) hs
      obtain ⟨u', w3, w4⟩ := ih (i + 1) u1 (by omega) (by omega) w1
      refine ⟨u', w3, ?_⟩
      rw [n_le (by omega) (by omega) (by omega) (by omega) (by omega), p_bs, Ld, p_bs, hfa i (by omega)]
      exact w2.trans w4
theorem mSet_id {σ : MS} {k : Nat} {v : Int32} (h : σ.1 k = v) : mSet σ k v = σ := by
  refine Prod.ext ?_ rfl
  funext j
  show upd σ.1 k v j = σ.1 j
  by_cases c : j = k
  · rw [c, upd_s, h]
  · exact upd_n c
theorem k_feed (hQ : qOk Q) (h : xSt b g A ad sa Q U lab σ) (hN : 30 ≤ N) (x1 x2 x3 x4 x5 : Int32) : ∃ r U' σ' dc ds, f_X1_feed N b g U (ad 0) x1 x2 x3 x4 x5 = some (r, U') ∧ f_feed N σ x1 x2 x3 x4 x5 = some (r, σ') ∧ xStep b g A ad sa Q U lab U' σ' dc ds ∧ dc ≤ 1 ∧ ds ≤ 5 := by
  have th := h.th hQ
  obtain ⟨bkv, mpv, ptv, hx, hI⟩ := h
  have hI' := hI
  obtain ⟨oU, hb, ⟨hl, hfr⟩, hE, hA, ⟨l0, ⟨l2, f0, nt, t1, t2, t3, t4⟩, hS3, h2, h3⟩, hbm, hq⟩ := hI'
  have ba0 : b ≤ ad 0 := lab_ge hl (by omega)
  have ba1 : b ≤ ad 1 := lab_ge hl (by omega)
  have e20 : iI (nt : Int) + 20 = iI ((nt + 20 : Nat) : Int) := by
    rw [show (20 : Int32) = iI 20 from rfl, i_add]
    rfl
  have hm : f_feed N σ x1 x2 x3 x4 x5 = if iI ((nt + 20 : Nat) : Int) ≤ 500 then f_feed_23 N N (mSet σ 0 0) x1 x2 x3 x4 x5 0 else some (-1, mSet σ 0 0) := by
    unfold f_feed
    rw [p_let, show (mSet σ 0 0).1 2 = iI nt from t2, e20]
  unfold f_X1_feed
  rw [hm, v_gi hx (k := 5) rfl, p_bs, t2, e20, show (500 : Int32) = iI 500 from rfl]
  by_cases hn : nt + 20 ≤ 500
  · rw [p_le (by omega) (by omega) (by omega) (by omega) (by omega), p_le (by omega) (by omega) (by omega) (by omega) (by omega)]
    have n01 : ad 0 ≠ ad 1 := Ne.symm (u_nlr t1 hx)
    obtain ⟨v0, w0, c0, r0, o0, s0, z0⟩ := w_new (u := U) (n := 5) (e := .inl (0, 5, .inl (fun _ => 0))) oU
    obtain ⟨v1, w1, c1, r1, o1, s1, z1⟩ := w_stI (b := b) (i := 0) (x := x1) c0 hb (by omega) (by omega) (by omega) o0
    obtain ⟨v2, w2, c2, r2, o2, s2, z2⟩ := w_stI (b := b) (i := 1) (x := x2) c1 hb (by omega) (by omega) (by omega) o1
    obtain ⟨v3, w3, c3, r3, o3, s3, z3⟩ := w_stI (b := b) (i := 2) (x := x3) c2 hb (by omega) (by omega) (by omega) o2
    obtain ⟨v4, w4, c4, r4, o4, s4, z4⟩ := w_stI (b := b) (i := 3) (x := x4) c3 hb (by omega) (by omega) (by omega) o3
    obtain ⟨v5, w5, c5, r5, o5, s5, z5⟩ := w_stI (b := b) (i := 4) (x := x5) c4 hb (by omega) (by omega) (by omega) o4
    have lo5 : ∀ x, x < U.1 → v5.2.2 x = U.2.2 x := fun x q => by
      rw [r5 x (by omega), r4 x (by omega), r3 x (by omega), r2 x (by omega), r1 x (by omega), r0 x q]
    have lt0 := oU _ _ hx
    have lt1 := oU _ _ t1
    obtain ⟨u', g1, g2⟩ := c_fd54 (N := N) (b := b) (g := g) (σ := σ) (bkv := bkv) (mpv := mpv) (ptv := ptv) (nt := nt) (a3 := U.1) (f0 := f0) (W := fW x1 x2 x3 x4 x5) (U1 := v5) ba0 ba1 n01 hn c5 (by omega) (by omega) (fun i hi => by
      match i, hi with
      | 0, _ => rfl
      | 1, _ => rfl
      | 2, _ => rfl
      | 3, _ => rfl
      | 4, _ => rfl) (by omega) N 0 v5 (by omega) (by omega) ⟨by
        rw [lo5 _ lt0, hx, show nt + 4 * 0 = nt from rfl, mSet_id t2], ⟨f0, (lo5 _ lt1).trans t1, fun k hk => (if_neg (by omega)).symm⟩, fun _ _ _ => rfl, o5, rfl, rfl⟩
    obtain ⟨r', g3, g4⟩ := m_feed23 (N := N) (σ := mSet σ 0 0) (nt := nt) (x1 := x1) (x2 := x2) (x3 := x3) (x4 := x4) (x5 := x5) hn N 0 (σ.2.1 1) (by omega) (by omega) (fun k hk => (if_neg (by omega)).symm)
    have g4 : f_feed_23 N N (mRow (mSet (mSet σ 0 0) 2 (iI nt)) 1 (σ.2.1 1)) x1 x2 x3 x4 x5 0 = some (iI ((nt + 20 : Nat) : Int), mRow (mSet (mSet σ 0 0) 2 (iI ((nt + 20 : Nat) : Int))) 1 r') := g4
    rw [mSet_id (σ := mSet σ 0 0) (k := 2) t2, show mRow (mSet σ 0 0) 1 (σ.2.1 1) = mSet σ 0 0 from mRow_id] at g4
    obtain ⟨hx', ⟨f', hf1, hf2⟩, hr, ho', s1', s2'⟩ := g1
    have keep : ∀ x, x < U.1 → lab x ≠ 1 → lab x ≠ 2 → u'.2.2 x = U.2.2 x := fun x q1 q2 q3 => (hr x (fun z => q2 (by rw [z]; exact l0)) (fun z => q3 (by rw [z]; exact l2))).trans (lo5 x q1)
    have ns : ∀ {pr : Nat → Prop}, ¬ pr 1 → ¬ pr 2 → ¬ pr 11 → uLb lab lab U u' pr := fun p1 p2 p11 => hI.lb (fun _ _ => rfl) (fun x hx hp => keep x hx (fun z => p1 (by rw [← z]; exact hp)) (fun z => p2 (by rw [← z]; exact hp))) p11
    have u1 : u'.1 = U.1 + 1 := by omega
    have sg : xSi b g A ad sa Q u' lab (mRow (mSet (mSet σ 0 0) 2 (iI ((nt + 20 : Nat) : Int))) 1 r') bkv mpv ptv := hI.gen ho' (by omega) (fun _ _ => rfl) (fun x hx => hfr x (by omega)) (fun x hx => keep x (by omega) (by rw [hl x hx]; decide) (by rw [hl x hx]; decide)) ⟨l2, f', nt + 20, hf1, rfl, hn, fun k hk => by
      show _ ∧ r' k = _
      rw [hf2 k hk, g3 k hk]
      by_cases c : nt ≤ k ∧ k < nt + 20
      · rw [if_pos c, if_pos c]
        exact ⟨t_byt3 _, (t_byt2 _).symm⟩
      · rw [if_neg c, if_neg c]
        exact t4 k hk⟩ (hS3.hp (ns (by decide) (by decide) (by decide))) (h2.hp hl (ns (by decide) (by decide) (by decide))) (h3.hp (ns (by decide) (by decide) (by decide))) (hbm.hp hl (by omega) (ns (by decide) (by decide) (by decide))) (hQ U u' lab lab σ _ bkv ptv (ns (by unfold qLb; decide) (by unfold qLb; decide) (by unfold qLb; decide)) ⟨fun k hk => by rcases hk with rfl | rfl | rfl | rfl | rfl | rfl | rfl <;> rfl, fun j hj => by rcases hj with rfl | rfl | rfl | rfl | rfl | rfl | rfl | rfl | rfl | rfl | rfl <;> rfl, Or.inl rfl⟩ hq)
    refine ⟨iI ((nt + 20 : Nat) : Int), u', mRow (mSet (mSet σ 0 0) 2 (iI ((nt + 20 : Nat) : Int))) 1 r', 1, 5, ?_, g4, ⟨lab, ⟨bkv, mpv, ptv, ?_, sg⟩, fun x q => keep x (hI.lt q (by decide)) (by omega) (by omega), by omega, by omega⟩, by omega, by omega⟩
    · unfold f_X1_feed_18
      rw [if_pos (show ¬ (5 : Int32) < 0 ∧ (5 : Int32).toNatClampNeg ≤ 60000000 by decide), p_let, p_let, p_bs, show (5 : Int32).toNatClampNeg = 5 from rfl, w0]
      show ((uStI b v0 U.1 0 (iI 0) x1).bind fun u2 => _) = _
      rw [w1, p_bs]
      show ((uStI b v1 U.1 0 (iI 1) x2).bind fun u2 => _) = _
      rw [w2, p_bs]
      show ((uStI b v2 U.1 0 (iI 2) x3).bind fun u2 => _) = _
      rw [w3, p_bs]
      show ((uStI b v3 U.1 0 (iI 3) x4).bind fun u2 => _) = _
      rw [w4, p_bs]
      show ((uStI b v4 U.1 0 (iI 4) x5).bind fun u2 => _) = _
      rw [w5, p_bs, u_len c5, p_bs]
      exact g2
    · rw [hx']
      rfl
  · rw [n_le (by omega) (by omega) (by omega) (by omega) (by omega), n_le (by omega) (by omega) (by omega) (by omega) (by omega)]
    exact ⟨-1, U, mSet σ 0 0, 0, 0, rfl, rfl, th, by omega, by omega⟩
end G8s

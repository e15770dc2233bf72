/-! PLAIN: a plan while it is read -/
def pS (k : Nat) : Prop := tS k ∨ k = 58 ∨ k = 59
def pRw (j : Nat) : Prop := j = 11 ∨ j = 56 ∨ j = 60 ∨ j = 61 ∨ j = 62
/-- orders k0 .. k1 and a plan's list, all of it new -/
def vPq (b lo : Nat) (g : uEnv) (U : UH) (od : Nat → Int32) (nD nG : Nat) : Nat → Nat → Nat → Nat → Prop
  | 0, _, _, _ => False
  | n + 1, a, k0, k1 => ∃ (arr cnt m : Nat) (mc : Int32) (xs : Nat → Option Nat) (ks ea : Nat → Nat), bLs b lo g U a arr cnt m mc xs ∧ ks 0 = k0 ∧ ks cnt = k1 ∧ ∀ i, i < cnt → (xs i = some (ea i) ∧ lo ≤ ea i ∧ k0 ≤ ks i ∧ ks i < ks (i + 1) ∧ ks (i + 1) ≤ k1) ∧ ((∃ (wy y t : Nat), U.2.2 (ea i) = some (.inr (10, [.ref wy, .int (iI t)])) ∧ uWay g wy = some y ∧ y < 4 ∧ 1 ≤ t ∧ t ≤ 9 ∧ od (4 * ks i) = 0 ∧ od (4 * ks i + 1) = iI y ∧ od (4 * ks i + 2) = iI t ∧ ks (i + 1) = ks i + 1) ∨ (∃ (d gr th ot k2 : Nat), U.2.2 (ea i) = some (.inr (11, [.int (iI d), .int (iI gr), .ref th, .ref ot])) ∧ d < nD ∧ gr < nG ∧ od (4 * ks i) = 1 ∧ od (4 * ks i + 1) = iI d ∧ od (4 * ks i + 2) = iI gr ∧ (ks i + 1 ≤ k2 ∧ k2 ≤ ks (i + 1)) ∧ vPq b lo g U od nD nG n th (ks i + 1) k2 ∧ ((od (4 * ks i + 3) = iI k2 ∧ ks (i + 1) = k2 ∧ ∃ (arr' m' : Nat) (mc' : Int32) (xs' : Nat → Option Nat), bLs b lo g U ot arr' 0 m' mc' xs') ∨ (od (4 * ks i + 3) = iI ((k2 + 1 : Nat) : Int) ∧ od (4 * k2) = 2 ∧ od (4 * k2 + 3) = iI (ks (i + 1)) ∧ k2 < ks (i + 1) ∧ vPq b lo g U od nD nG n ot (k2 + 1) (ks (i + 1))))))
section K4s
variable {b lo rd : Nat} {g : uEnv} {U U' : UH} {σ : MS} {nD nG : Nat}
theorem vPq.od {od od' : Nat → Int32} : ∀ (n a k0 k1 : Nat), vPq b lo g U od nD nG n a k0 k1 → (∀ i, 4 * k0 ≤ i → i < 4 * k1 → od' i = od i) → vPq b lo g U od' nD nG n a k0 k1 := by
  intro n
  induction n with
  | zero => intro a k0 k1 h; exact h.elim
  | succ n ih =>
    intro a k0 k1 h ho
    obtain ⟨arr, cnt, m, mc, xs, ks, ea, h1, h2, h3, h4⟩ := h
    refine ⟨arr, cnt, m, mc, xs, ks, ea, h1, h2, h3, fun i hi => ?_⟩
    obtain ⟨⟨e1, e2, e3, e4, e5⟩, e6⟩ := h4 i hi
    refine ⟨⟨e1, e2, e3, e4, e5⟩, ?_⟩
    have o : ∀ c, c < 4 → od' (4 * ks i + c) = od (4 * ks i + c) := fun c hc => ho _ (by omega) (by omega)
    have o0 : od' (4 * ks i) = od (4 * ks i) := o 0 (by omega)
    rcases e6 with ⟨wy, y, t, q1, q2, q3, q4, q5, q6, q7, q8, q9⟩ | ⟨d, gr, th, ot, k2, q1, q2, q3, q4, q5, q6, ⟨q7, q7'⟩, q8, q9⟩
    · exact Or.inl ⟨wy, y, t, q1, q2, q3, q4, q5, o0.trans q6, (o 1 (by omega)).trans q7, (o 2 (by omega)).trans q8, q9⟩
    · refine Or.inr ⟨d, gr, th, ot, k2, q1, q2, q3, o0.trans q4, (o 1 (by omega)).trans q5, (o 2 (by omega)).trans q6, ⟨q7, q7'⟩, ih _ _ _ q8 (fun j j1 j2 => ho j (by omega) (by omega)), ?_⟩
      rcases q9 with ⟨w1, w2⟩ | ⟨w1, w2, w3, w3', w4⟩
      · exact Or.inl ⟨(o 3 (by omega)).trans w1, w2⟩
      · refine Or.inr ⟨(o 3 (by omega)).trans w1, (ho _ (by omega) (by omega)).trans w2, (ho _ (by omega) (by omega)).trans w3, w3', ih _ _ _ w4 (fun j j1 j2 => ho j (by omega) (by omega))⟩
/-- cells of plans stay -/
def pK (U U' : UH) : Prop := (∀ x c fs, U.2.2 x = some (.inr (c, fs)) → c = 10 ∨ c = 11 ∨ c = 18 → U'.2.2 x = some (.inr (c, fs))) ∧ ∀ x k z, U.2.2 x = some (.inl (4, k, z)) → U'.2.2 x = some (.inl (4, k, z))
theorem bLs.pk {gl arr n m : Nat} {mc : Int32} {xs : Nat → Option Nat} (h : bLs b lo g U gl arr n m mc xs) (hk : pK U U') : bLs b lo g U' gl arr n m mc xs := by
  obtain ⟨⟨h1, h2, h3⟩, h4⟩ := h
  exact ⟨⟨hk.1 _ _ _ h1 (by decide), hk.2 _ _ _ h2, h3⟩, h4⟩
theorem vPq.pk {od : Nat → Int32} (hk : pK U U') : ∀ (n a k0 k1 : Nat), vPq b lo g U od nD nG n a k0 k1 → vPq b lo g U' od nD nG n a k0 k1 := by
  intro n
  induction n with
  | zero => intro a k0 k1 h; exact h
  | succ n ih =>
    intro a k0 k1 h
    obtain ⟨arr, cnt, m, mc, xs, ks, ea, h1, h2, h3, h4⟩ := h
    refine ⟨arr, cnt, m, mc, xs, ks, ea, h1.pk hk, h2, h3, fun i hi => ?_⟩
    obtain ⟨e1, e6⟩ := h4 i hi
    refine ⟨e1, ?_⟩
    rcases e6 with ⟨wy, y, t, q1, q2⟩ | ⟨d, gr, th, ot, k2, q1, q2, q3, q4, q5, q6, q7, q8, q9⟩
    · exact Or.inl ⟨wy, y, t, hk.1 _ _ _ q1 (by decide), q2⟩
    · refine Or.inr ⟨d, gr, th, ot, k2, hk.1 _ _ _ q1 (by decide), q2, q3, q4, q5, q6, q7, ih _ _ _ q8, ?_⟩
      rcases q9 with ⟨w1, w2, arr', m', mc', xs', w3⟩ | ⟨w1, w2, w3, w3', w4⟩
      · exact Or.inl ⟨w1, w2, arr', m', mc', xs', w3.pk hk⟩
      · exact Or.inr ⟨w1, w2, w3, w3', ih _ _ _ w4⟩
/-- one level more -/
theorem vPq.up {od : Nat → Int32} : ∀ (n a k0 k1 : Nat), vPq b lo g U od nD nG n a k0 k1 → vPq b lo g U od nD nG (n + 1) a k0 k1 := by
  intro n
  induction n with
  | zero => intro a k0 k1 h; exact h.elim
  | succ n ih =>
    intro a k0 k1 h
    obtain ⟨arr, cnt, m, mc, xs, ks, ea, h1, h2, h3, h4⟩ := h
    refine ⟨arr, cnt, m, mc, xs, ks, ea, h1, h2, h3, fun i hi => ?_⟩
    obtain ⟨e1, e6⟩ := h4 i hi
    refine ⟨e1, ?_⟩
    rcases e6 with q | ⟨d, gr, th, ot, k2, q1, q2, q3, q4, q5, q6, q7, q8, q9⟩
    · exact Or.inl q
    · refine Or.inr ⟨d, gr, th, ot, k2, q1, q2, q3, q4, q5, q6, q7, ih _ _ _ q8, ?_⟩
      rcases q9 with w | ⟨w1, w2, w3, w3', w4⟩
      · exact Or.inl w
      · exact Or.inr ⟨w1, w2, w3, w3', ih _ _ _ w4⟩
theorem vPq.vPl {od : Nat → Int32} {lab : Nat → Nat} (hb : ∀ x, x < b → lab x = 0) (hl : ∀ x e, lo ≤ x → U.2.2 x = some e → lab x = 12) : ∀ (n a k0 k1 : Nat), vPq b lo g U od nD nG n a k0 k1 → vPl g U lab od nD nG n a k0 k1 := by
  have ls : ∀ {a arr cnt m : Nat} {mc : Int32} {xs : Nat → Option Nat}, bLs b lo g U a arr cnt m mc xs → qLs g U lab 12 a arr cnt m mc xs := fun h => by
    obtain ⟨⟨h1, h2, h3⟩, h4, h5, h6⟩ := h
    exact ⟨⟨h1, h2, h3⟩, hl _ _ h4 h1, fun z => ⟨(h5 z).1, hb _ (h5 z).2⟩, fun z => hl _ _ (h6 z) h2⟩
  intro n
  induction n with
  | zero => intro a k0 k1 h; exact h
  | succ n ih =>
    intro a k0 k1 h
    obtain ⟨arr, cnt, m, mc, xs, ks, ea, h1, h2, h3, h4⟩ := h
    refine ⟨arr, cnt, m, mc, xs, ks, ea, ls h1, h2, h3, fun i hi => ?_⟩
    obtain ⟨⟨e1, e2, -⟩, e6⟩ := h4 i hi
    rcases e6 with ⟨wy, y, t, q1, q2⟩ | ⟨d, gr, th, ot, k2, q1, q2, q3, q4, q5, q6, q7, q8, q9⟩
    · exact ⟨e1, hl _ _ e2 q1, Or.inl ⟨wy, y, t, q1, q2⟩⟩
    · refine ⟨e1, hl _ _ e2 q1, Or.inr ⟨d, gr, th, ot, k2, q1, q2, q3, q4, q5, q6, ih _ _ _ q8, ?_⟩⟩
      rcases q9 with ⟨w1, w2, arr', m', mc', xs', w3⟩ | ⟨w1, w2, w3, w3', w4⟩
      · exact Or.inl ⟨w1, w2, arr', m', mc', xs', ls w3⟩
      · exact Or.inr ⟨w1, w2, w3, ih _ _ _ w4⟩
end K4s
/-- an order is written, where there is place for a plan -/
theorem m_order {N : Nat} {σ : MS} {np k : Nat} (h40 : σ.1 40 = iI np) (h58 : σ.1 58 = iI k) (hp : np ≤ 8) (hk : k < 128) (x1 x2 x3 x4 : Int32) : ∃ r : Nat → Int32, f_order N σ x1 x2 x3 x4 = some (iI k, mSet (mRow σ 56 r) 58 (iI ((k + 1 : Nat) : Int))) ∧ (np = 8 → r = σ.2.1 56) ∧ (np < 8 → r (512 * np + 4 * k) = x1 ∧ r (512 * np + (4 * k + 1)) = x2 ∧ r (512 * np + (4 * k + 2)) = x3 ∧ r (512 * np + (4 * k + 3)) = x4) ∧ (∀ i, i < 512 * np + 4 * k ∨ 512 * np + 4 * k + 4 ≤ i → r i = σ.2.1 56 i) := by
  have e1 : iI (k : Int) + 1 = iI ((k + 1 : Nat) : Int) := by
    rw [j1, i_add]
    rfl
  have e2 : iI ((k + 1 : Nat) : Int) - 1 = iI (k : Int) := by
    rw [j1, i_sub]
    congr 1
    omega
  have fin : ∀ {s : MS}, s.1 58 = iI k → f_order_75 N s = some (iI k, mSet s 58 (iI ((k + 1 : Nat) : Int))) := fun {s} e => by
    unfold f_order_75
    rw [e, e1, p_let, show (mSet s 58 (iI ((k + 1 : Nat) : Int))).1 58 = iI ((k + 1 : Nat) : Int) from rfl, e2]
  have ey : (512 * iI (np : Int)) + (4 * iI (k : Int)) = iI ((512 * np + 4 * k : Nat) : Int) := by
    rw [show (512 : Int32) = iI 512 from rfl, i_mul, show (4 : Int32) = iI 4 from rfl, i_mul, i_add]
    rfl
  unfold f_order
  rw [h40, h58, ey, p_let]
  by_cases c : np = 8
  · refine ⟨σ.2.1 56, ?_, fun _ => rfl, fun z => by omega, fun i _ => rfl⟩
    rw [j8, p_le (by omega) (by omega) (by omega) (by omega) (by omega), fin h58, mRow_id]
  · have t0 : mIn (iI ((512 * np + 4 * k : Nat) : Int)) (mLen 56) = true ∧ (iI ((512 * np + 4 * k : Nat) : Int)).toNatClampNeg = 512 * np + 4 * k := t_ix rfl (by rw [show mLen 56 = 4096 from rfl]; omega) (by rw [show mLen 56 = 4096 from rfl]; omega)
    have tt : ∀ c : Nat, c < 4 → mIn (iI ((512 * np + 4 * k : Nat) : Int) + iI (c : Int)) (mLen 56) = true ∧ (iI ((512 * np + 4 * k : Nat) : Int) + iI (c : Int)).toNatClampNeg = 512 * np + (4 * k + c) := fun c hc => by
      rw [i_add]
      exact t_ix (by omega) (by rw [show mLen 56 = 4096 from rfl]; omega) (by rw [show mLen 56 = 4096 from rfl]; omega)
    have t1 : mIn (iI ((512 * np + 4 * k : Nat) : Int) + 1) (mLen 56) = true ∧ (iI ((512 * np + 4 * k : Nat) : Int) + 1).toNatClampNeg = 512 * np + (4 * k + 1) := tt 1 (by omega)
    have t2 : mIn (iI ((512 * np + 4 * k : Nat) : Int) + 2) (mLen 56) = true ∧ (iI ((512 * np + 4 * k : Nat) : Int) + 2).toNatClampNeg = 512 * np + (4 * k + 2) := tt 2 (by omega)
    have t3 : mIn (iI ((512 * np + 4 * k : Nat) : Int) + 3) (mLen 56) = true ∧ (iI ((512 * np + 4 * k : Nat) : Int) + 3).toNatClampNeg = 512 * np + (4 * k + 3) := tt 3 (by omega)
    have id56 : mRow σ 56 (σ.2.1 56) = σ := mRow_id
    refine ⟨upd (upd (upd (upd (σ.2.1 56) (512 * np + 4 * k) x1) (512 * np + (4 * k + 1)) x2) (512 * np + (4 * k + 2)) x3) (512 * np + (4 * k + 3)) x4, ?_, fun z => absurd z c, fun _ => ⟨?_, ?_, ?_, ?_⟩, fun i hi => ?_⟩
    · rw [j8, n_le (by omega) (by omega) (by omega) (by omega) (by omega), show (128 : Int32) = iI 128 from rfl, n_le (by omega) (by omega) (by omega) (by omega) (by omega), if_pos t0.1, p_let, t0.2, if_pos t1.1, p_let, t1.2, if_pos t2.1, p_let, t2.2, if_pos t3.1, p_let, t3.2]
      have em : mArr (mArr (mArr (mArr σ 56 (512 * np + 4 * k) x1) 56 (512 * np + (4 * k + 1)) x2) 56 (512 * np + (4 * k + 2)) x3) 56 (512 * np + (4 * k + 3)) x4 = mRow σ 56 (upd (upd (upd (upd (σ.2.1 56) (512 * np + 4 * k) x1) (512 * np + (4 * k + 1)) x2) (512 * np + (4 * k + 2)) x3) (512 * np + (4 * k + 3)) x4) := by
        conv => lhs; rw [← id56]
        rw [mRow_a, mRow_a, mRow_a, mRow_a]
      rw [em]
      exact fin h58
    · rw [upd_n (by omega), upd_n (by omega), upd_n (by omega), upd_s]
    · rw [upd_n (by omega), upd_n (by omega), upd_s]
    · rw [upd_n (by omega), upd_s]
    · rw [upd_s]
    · rw [upd_n (by omega), upd_n (by omega), upd_n (by omega), upd_n (by omega)]
theorem m_lands {N : Nat} {σ : MS} {np k s : Nat} (h40 : σ.1 40 = iI np) (h58 : σ.1 58 = iI k) (hp : np ≤ 8) (hs : s < 128) : ∃ r : Nat → Int32, f_lands N σ (iI s) = some (mRow σ 56 r) ∧ (np = 8 → r = σ.2.1 56) ∧ (np < 8 → r (512 * np + (4 * s + 3)) = iI k) ∧ (∀ i, i ≠ 512 * np + (4 * s + 3) → r i = σ.2.1 56 i) := by
  have ey : ((512 * iI (np : Int)) + (4 * iI (s : Int))) + 3 = iI ((512 * np + (4 * s + 3) : Nat) : Int) := by
    rw [show (512 : Int32) = iI 512 from rfl, i_mul, show (4 : Int32) = iI 4 from rfl, i_mul, i_add, show (3 : Int32) = iI 3 from rfl, i_add]
    congr 1
  have id56 : mRow σ 56 (σ.2.1 56) = σ := mRow_id
  unfold f_lands f_lands_32
  rw [h40, ey, h58]
  by_cases c : np = 8
  · refine ⟨σ.2.1 56, ?_, fun _ => rfl, fun z => by omega, fun i _ => rfl⟩
    rw [j8, p_le (by omega) (by omega) (by omega) (by omega) (by omega), id56]
  · obtain ⟨t1, t2⟩ := t_ix (a := ((512 * np + (4 * s + 3) : Nat) : Int)) (n := mLen 56) (k := 512 * np + (4 * s + 3)) rfl (by rw [show mLen 56 = 4096 from rfl]; omega) (by rw [show mLen 56 = 4096 from rfl]; omega)
    refine ⟨upd (σ.2.1 56) (512 * np + (4 * s + 3)) (iI k), ?_, fun z => absurd z c, fun _ => upd_s, fun i hi => upd_n hi⟩
    rw [j8, n_le (by omega) (by omega) (by omega) (by omega) (by omega), if_pos t1, p_let, t2]
    conv => lhs; rw [← id56]
    rw [mRow_a]

/-! PLAIN: the model's sees, all, truthMany -/
theorem m_sees6 {N : Nat} {σ : MS} {w h n nd c cd fd : Nat} {dc : Nat → Nat} (e1 : σ.1 35 = iI w) (e2 : σ.1 36 = iI h) (hw : 1 ≤ w ∧ w ≤ 10) (hh : 1 ≤ h ∧ h ≤ 10) (hn : n = w * h) (e3 : σ.1 37 = iI nd) (hnd : nd ≤ 5) (hdc : ∀ e, e < nd → σ.2.1 44 e = iI (dc e) ∧ dc e < n) (hc : c < n) (hcd : cd < 1024) (hfd : fd < 1024) (hN : 5 ≤ N) : ∀ (m d : Nat), d ≤ nd → nd < d + m → f_sees_6 N m σ (iI c) (iI fd) (iI (zSe (zNb w h dc c nd) fd cd d)) (iI d) = some (iI (zSe (zNb w h dc c nd) fd cd nd), σ) := by
  intro m
  induction m with
  | zero => intro d h1 h2; omega
  | succ m ih =>
    intro d h1 h2
    rw [f_sees_6]
    unfold f_sees_52
    rw [e3]
    by_cases hd : nd ≤ d
    · have : d = nd := by omega
      subst this
      rw [p_le (by omega) (by omega) (by omega) (by omega) (by omega)]
    · have ed : iI (d : Int) + 1 = iI ((d + 1 : Nat) : Int) := by
        rw [j1, i_add]
        rfl
      obtain ⟨q1, q2⟩ := hdc d (by omega)
      have sb := (zSe_d (nb := zNb w h dc c nd) (fd := fd) hcd d (by omega)).1
      have p4 : 4 ^ d ≤ 4 ^ 4 := Nat.pow_le_pow_right (by decide) (by omega)
      have fl := zD_lt (cd := fd) (d := d)
      have tb : (zNb w h dc c nd / 2 ^ d % 2 = 1) = (zNe w h (dc d) c = true) := by
        have t := zNb_t (w := w) (h := h) (dc := dc) (c := c) nd d
        rw [Nat.testBit_eq_decide_div_mod_eq] at t
        rw [show decide (d < nd) = true from decide_eq_true (by omega), Bool.true_and] at t
        rw [← t]
        exact (decide_eq_true_eq).symm
      have ihh := ih (d + 1) (by omega) (by omega)
      rw [zSe] at ihh
      have dl := zD_lt (cd := zSe (zNb w h dc c nd) fd cd d) (d := d)
      rw [n_le (by omega) (by omega) (by omega) (by omega) (by omega), m_dig sb (by omega), q_mc]
      by_cases h0 : zD (zSe (zNb w h dc c nd) fd cd d) d = 0
      · rw [if_pos (show iI (zD (zSe (zNb w h dc c nd) fd cd d) d : Int) = 0 by rw [h0]; rfl), m_near e1 e2 hw hh hn hc (by omega) q1 q2 hN, q_mc]
        by_cases hz : zNe w h (dc d) c = true
        · rw [if_pos ⟨h0, Eq.mpr tb hz⟩] at ihh
          rw [if_pos hz, if_neg n10, m_dig hfd (by omega), q_mc, m_pow (by omega), q_mc, i_mul, i_add, p_let, p_let, ed]
          exact ihh
        · rw [if_neg (fun z => hz (Eq.mp tb z.2))] at ihh
          rw [if_neg hz, if_pos rfl, p_let, ed]
          exact ihh
      · rw [if_neg (fun z => h0 z.1)] at ihh
        rw [if_neg (show ¬ iI (zD (zSe (zNb w h dc c nd) fd cd d) d : Int) = 0 by rw [j0, j_eq (by omega) (by omega) (by omega) (by omega)]; omega), p_let, ed]
        exact ihh
theorem m_sees {N : Nat} {σ : MS} {w h n nd c cd fd : Nat} {dc : Nat → Nat} (e1 : σ.1 35 = iI w) (e2 : σ.1 36 = iI h) (hw : 1 ≤ w ∧ w ≤ 10) (hh : 1 ≤ h ∧ h ≤ 10) (hn : n = w * h) (e3 : σ.1 37 = iI nd) (hnd : nd ≤ 5) (hdc : ∀ e, e < nd → σ.2.1 44 e = iI (dc e) ∧ dc e < n) (hc : c < n) (hcd : cd < 1024) (hfd : fd < 1024) (hN : 6 ≤ N) : f_sees N σ (iI cd) (iI c) (iI fd) = some (iI (zSe (zNb w h dc c nd) fd cd nd), σ) := m_sees6 (N := N) e1 e2 hw hh hn e3 hnd hdc hc hcd hfd (by omega) N 0 (by omega) (by omega)
theorem zTl_le {nd t : Nat} {kn : Nat → Int} {wg : Nat → Nat → Nat} : ∀ j, zTl nd kn wg t j ≤ t := by
  intro j
  induction j with
  | zero => exact Nat.le_refl _
  | succ j ih =>
    rw [zTl]
    split
    · exact Nat.le_trans (Nat.div_le_self _ _) ih
    · exact ih
theorem m_ful15 {N : Nat} {σ : MS} {nd ng t : Nat} {kn : Nat → Int} {wg : Nat → Nat → Nat} (hK : zKn σ.1 σ.2.1 nd ng (fun e => zCn (wg e) 8) kn (fun e k => zKd (wg e) k)) (h1 : ∀ e, e < nd → 1 ≤ zCn (wg e) 8) (ht : t ≤ 1000) : ∀ (m j : Nat), j ≤ nd → nd < j + m → f_all_15 N m σ (iI (zFc nd kn wg t j)) (iI (zTl nd kn wg t j)) (iI ((nd : Int) - 1 - (j : Int))) = some (iI (zFc nd kn wg t nd), σ) := by
  obtain ⟨e3, hnd, hng, hk⟩ := hK
  intro m
  induction m with
  | zero => intro j h1 h2; omega
  | succ m ih =>
    intro j h1' h2
    rw [f_all_15]
    unfold f_all_64
    by_cases hj : j = nd
    · subst hj
      rw [j0, p_lt (by omega) (by omega) (by omega) (by omega) (by omega)]
    · obtain ⟨e, he⟩ : ∃ e, e = nd - 1 - j := ⟨_, rfl⟩
      have hen : e < nd := by omega
      obtain ⟨k1', k2', k3, k4', k5, -⟩ := hk e hen
      have k1 : σ.2.1 53 e = iI (zCn (wg e) 8) := k1'
      have k2 : zCn (wg e) 8 ≤ 3 := k2'
      have k0 := h1 e hen
      have ee : (nd : Int) - 1 - (j : Int) = (e : Int) := by omega
      have en : iI (e : Int) + (-1) = iI ((nd : Int) - 1 - ((j + 1 : Nat) : Int)) := by
        rw [j_m1, i_add]
        congr 1
        omega
      obtain ⟨i1, i2⟩ := t_ix (a := (e : Int)) (n := mLen 45) (k := e) rfl (by rw [mL45]; omega) (by rw [mL45]; omega)
      obtain ⟨i3, -⟩ := t_ix (a := (e : Int)) (n := mLen 53) (k := e) rfl (by rw [mL53]; omega) (by rw [mL53]; omega)
      have tb := zTl_le (nd := nd) (t := t) (kn := kn) (wg := wg) j
      have ihh := ih (j + 1) (by omega) (by omega)
      rw [zFc, zTl, ← he] at ihh
      rw [ee, j0, n_lt (by omega) (by omega) (by omega) (by omega) (by omega), if_pos i1, p_let, i2, k3]
      by_cases hn1 : kn e = -1
      · rw [if_pos hn1, if_pos hn1] at ihh
        have p4 : 4 ^ e ≤ 4 ^ 4 := Nat.pow_le_pow_right (by decide) (by omega)
        have dv : iI (zTl nd kn wg t j : Int) / iI (zCn (wg e) 8 : Int) = iI ((zTl nd kn wg t j / zCn (wg e) 8 : Nat) : Int) := by
          rw [j_div (by omega) (by omega) (by omega) (by omega)]
          congr 1
        have md : iI (zTl nd kn wg t j : Int) - iI ((zTl nd kn wg t j / zCn (wg e) 8 : Nat) : Int) * iI (zCn (wg e) 8 : Int) = iI ((zTl nd kn wg t j % zCn (wg e) 8 : Nat) : Int) := by
          rw [i_mul, i_sub, ← Int.natCast_mul]
          congr 1
          have := Nat.div_add_mod (zTl nd kn wg t j) (zCn (wg e) 8)
          rw [Nat.mul_comm] at this
          omega
        rw [hn1, if_pos (show iI (-1) = -1 from rfl), if_pos i3, p_let, k1, ← j0, if_pos (show ¬ iI (zCn (wg e) 8 : Int) = 0 by rw [j0, j_eq (by omega) (by omega) (by omega) (by omega)]; omega), m_pow (by omega), q_mc, dv, md, j1, i_add, i_mul, i_add, p_let, if_pos i3, p_let, k1, if_pos (show ¬ iI (zCn (wg e) 8 : Int) = 0 by rw [j0, j_eq (by omega) (by omega) (by omega) (by omega)]; omega), dv, p_let, p_let, ← j1, en]
        exact ihh
      · rw [if_neg hn1, if_neg hn1] at ihh
        rw [j_m1, n_eq (by omega) (by omega) (by omega) (by omega) (by omega), ← j_m1, p_let, en]
        exact ihh
theorem m_full {N : Nat} {σ : MS} {nd ng t : Nat} {kn : Nat → Int} {wg : Nat → Nat → Nat} (hK : zKn σ.1 σ.2.1 nd ng (fun e => zCn (wg e) 8) kn (fun e k => zKd (wg e) k)) (h1 : ∀ e, e < nd → 1 ≤ zCn (wg e) 8) (hkn : ∀ d, d < nd → kn d ≠ -1 → wg d (kn d).toNat ≠ 0) (ht : t ≤ 1000) (hN : 7 ≤ N) : f_all N σ (iI t) = some (iI (zFc nd kn wg t nd), σ) := by
  have h := m_ful15 (N := N) hK h1 ht N 0 (by omega) (by have := hK.2.1; omega)
  rw [show (nd : Int) - 1 - ((0 : Nat) : Int) = (nd : Int) - 1 from by omega] at h
  unfold f_all
  rw [m_base hK hkn (by omega), q_mc, p_let, hK.1, j1, i_sub]
  exact h
/-- how many truths -/
def zTm (kn : Nat → Int) (wg : Nat → Nat → Nat) : Nat → Nat
  | 0 => 1
  | d + 1 => if kn d = -1 then zTm kn wg d * zCn (wg d) 8 else zTm kn wg d
theorem zTm_b {kn : Nat → Int} {wg : Nat → Nat → Nat} : ∀ d, (∀ e, e < d → 1 ≤ zCn (wg e) 8 ∧ zCn (wg e) 8 ≤ 3) → 1 ≤ zTm kn wg d ∧ zTm kn wg d ≤ 3 ^ d := by
  intro d
  induction d with
  | zero => intro _; exact ⟨Nat.le_refl _, Nat.le_refl _⟩
  | succ d ih =>
    intro h
    obtain ⟨i1, i2⟩ := ih (fun e he => h e (by omega))
    obtain ⟨a1, a2⟩ := h d (by omega)
    rw [zTm, Nat.pow_succ]
    split
    · exact ⟨Nat.mul_pos i1 a1, Nat.mul_le_mul i2 a2⟩
    · omega
theorem m_many4 {N : Nat} {σ : MS} {nd ng : Nat} {kn : Nat → Int} {wg : Nat → Nat → Nat} (hK : zKn σ.1 σ.2.1 nd ng (fun e => zCn (wg e) 8) kn (fun e k => zKd (wg e) k)) : ∀ (m d : Nat), d ≤ nd → nd < d + m → f_truthMany_4 N m σ (iI (zTm kn wg d)) (iI d) = some (iI (zTm kn wg nd), σ) := by
  obtain ⟨e3, hnd, hng, hk⟩ := hK
  intro m
  induction m with
  | zero => intro d h1 h2; omega
  | succ m ih =>
    intro d h1 h2
    rw [f_truthMany_4]
    unfold f_truthMany_34
    rw [e3]
    by_cases hd : nd ≤ d
    · have : d = nd := by omega
      subst this
      rw [p_le (by omega) (by omega) (by omega) (by omega) (by omega)]
    · obtain ⟨k1', k2', k3, k4', k5, -⟩ := hk d (by omega)
      have k1 : σ.2.1 53 d = iI (zCn (wg d) 8) := k1'
      have ed : iI (d : Int) + 1 = iI ((d + 1 : Nat) : Int) := by
        rw [j1, i_add]
        rfl
      obtain ⟨i1, i2⟩ := t_ix (a := (d : Int)) (n := mLen 45) (k := d) rfl (by rw [mL45]; omega) (by rw [mL45]; omega)
      obtain ⟨i3, -⟩ := t_ix (a := (d : Int)) (n := mLen 53) (k := d) rfl (by rw [mL53]; omega) (by rw [mL53]; omega)
      have ihh := ih (d + 1) (by omega) (by omega)
      rw [zTm] at ihh
      rw [n_le (by omega) (by omega) (by omega) (by omega) (by omega), if_pos i1, p_let, i2, k3]
      by_cases hn1 : kn d = -1
      · rw [if_pos hn1] at ihh
        rw [hn1, if_pos (show iI (-1) = -1 from rfl), if_pos i3, p_let, k1, i_mul, ← Int.natCast_mul, p_let, ed]
        exact ihh
      · rw [if_neg hn1] at ihh
        rw [j_m1, n_eq (by omega) (by omega) (by omega) (by omega) (by omega), p_let, ed]
        exact ihh
theorem m_many {N : Nat} {σ : MS} {nd ng : Nat} {kn : Nat → Int} {wg : Nat → Nat → Nat} (hK : zKn σ.1 σ.2.1 nd ng (fun e => zCn (wg e) 8) kn (fun e k => zKd (wg e) k)) (hN : 6 ≤ N) : f_truthMany N σ = some (iI (zTm kn wg nd), σ) := m_many4 (N := N) hK N 0 (by omega) (by have := hK.2.1; omega)

/-! PLAIN: the class's object; refused, done; what is a ground, a cell -/
/-- the class's object as σ says it: book, map, pit; ad: 0 itself, 1 the tape, 2 the solver, 3 the cells, 4 the plans, 5 what is dug -/
def xO (ad : Nat → Nat) (σ : MS) (bk mp pt : Value) : uE := .inr (0, [.int (σ.1 39), .int (if σ.1 39 = 4 then σ.1 10 else -1), bk, .int (σ.1 38), .ref (ad 1), .int (σ.1 2), .int (σ.1 9), mp, .ref (ad 2), .ref (ad 3), .ref (ad 4), .int (σ.1 63), .int (σ.1 64), .int (σ.1 65), .ref (ad 5), pt])
/-- nothing is thrown, the trouble is t -/
def mT (σ : MS) (t : Int32) : MS := mSet (mSet σ 0 0) 39 t
theorem mT_2 {σ : MS} {a t : Int32} : mSet (mT σ a) 39 t = mT σ t := by
  unfold mT mSet
  refine Prod.ext ?_ rfl
  funext k
  show upd (upd (upd σ.1 0 0) 39 a) 39 t k = upd (upd σ.1 0 0) 39 t k
  unfold upd
  by_cases h : k = 39
  · rw [if_pos h, if_pos h]
  · rw [if_neg h, if_neg h, if_neg h]
theorem xO_t {ad : Nat → Nat} {σ : MS} {bk mp pt : Value} {t : Int32} (h4 : t ≠ 4) : xO ad (mT σ t) bk mp pt = .inr (0, [.int t, .int (-1), bk, .int (σ.1 38), .ref (ad 1), .int (σ.1 2), .int (σ.1 9), mp, .ref (ad 2), .ref (ad 3), .ref (ad 4), .int (σ.1 63), .int (σ.1 64), .int (σ.1 65), .ref (ad 5), pt]) := by
  unfold xO
  rw [show (mT σ t).1 39 = t from rfl, if_neg h4]
  rfl
theorem m_good {N : Nat} {σ : MS} : f_good N σ = some (mT σ 0) := rfl
theorem m_no {N : Nat} {σ : MS} {a t : Int32} : f_no N (mT σ a) t = some (-1, mT σ t) := by
  unfold f_no
  rw [p_let, mT_2]
theorem m_not {N : Nat} {σ : MS} {a t : Int32} : f_not N (mT σ a) t = some (0, mT σ t) := by
  unfold f_not
  rw [p_let, mT_2]
theorem x_ref {N b : Nat} {g : uEnv} {u : UH} {ad : Nat → Nat} {σ : MS} {bk mp pt : Value} {t : Int32} (h4 : t ≠ 4) (hx : u.2.2 (ad 0) = some (xO ad σ bk mp pt)) (hb : b ≤ ad 0) : f_X1_refused N b g u (ad 0) t = some (-1, uSet u (ad 0) (xO ad (mT σ t) bk mp pt)) := by
  unfold f_X1_refused
  rw [u_pw hx hb (Nat.le_of_ble_eq_true rfl), p_bs, u_pw u_ss hb (Nat.le_of_ble_eq_true rfl), p_bs, u_s2, xO_t h4]
  rfl
theorem x_don {N b : Nat} {g : uEnv} {u : UH} {ad : Nat → Nat} {σ : MS} {bk mp pt : Value} {r : Int32} (hx : u.2.2 (ad 0) = some (xO ad σ bk mp pt)) (hb : b ≤ ad 0) : f_X1_done N b g u (ad 0) r = some (r, uSet u (ad 0) (xO ad (mT σ 0) bk mp pt)) := by
  unfold f_X1_done
  rw [u_pw hx hb (Nat.le_of_ble_eq_true rfl), p_bs, u_pw u_ss hb (Nat.le_of_ble_eq_true rfl), p_bs, u_s2, xO_t (by decide)]
  rfl
theorem x_is {u : UH} {ad : Nat → Nat} {σ : MS} {bk mp pt : Value} (hx : u.2.2 (ad 0) = some (xO ad σ bk mp pt)) : uIs u (ad 0) 0 = true := v_is hx
theorem x_bk {u : UH} {ad : Nat → Nat} {σ : MS} {mp pt : Value} {a : Nat} (hx : u.2.2 (ad 0) = some (xO ad σ (.ref a) mp pt)) : uGR u (ad 0) 0 2 = some (some a) := v_gr hx rfl
theorem x_bkn {u : UH} {ad : Nat → Nat} {σ : MS} {mp pt : Value} (hx : u.2.2 (ad 0) = some (xO ad σ .null mp pt)) : uGR u (ad 0) 0 2 = some none := v_gn hx rfl
theorem x_mp {u : UH} {ad : Nat → Nat} {σ : MS} {bk pt : Value} {a : Nat} (hx : u.2.2 (ad 0) = some (xO ad σ bk (.ref a) pt)) : uGR u (ad 0) 0 7 = some (some a) := v_gr hx rfl
theorem x_mpn {u : UH} {ad : Nat → Nat} {σ : MS} {bk pt : Value} (hx : u.2.2 (ad 0) = some (xO ad σ bk .null pt)) : uGR u (ad 0) 0 7 = some none := v_gn hx rfl
theorem uF0 : uFit .boolean 0 = true := rfl
theorem uF1 : uFit .boolean 1 = true := rfl
theorem mB0 : mBit 0 = true := rfl
theorem mB1 : mBit 1 = true := rfl
theorem x_den {N b : Nat} {g : uEnv} {u : UH} {ad : Nat → Nat} {σ : MS} {bk mp pt : Value} {t : Int32} (h4 : t ≠ 4) (hx : u.2.2 (ad 0) = some (xO ad σ bk mp pt)) (hb : b ≤ ad 0) : f_X1_denied N b g u (ad 0) t = some (0, uSet u (ad 0) (xO ad (mT σ t) bk mp pt)) := by
  unfold f_X1_denied f_X1_denied_14
  rw [if_pos (x_is hx), x_ref h4 hx hb, q_uc, if_pos rfl, if_pos uF0]
theorem x_gra {N b : Nat} {g : uEnv} {u : UH} {ad : Nat → Nat} {σ : MS} {bk mp pt : Value} (hx : u.2.2 (ad 0) = some (xO ad σ bk mp pt)) (hb : b ≤ ad 0) : f_X1_granted N b g u (ad 0) = some (1, uSet u (ad 0) (xO ad (mT σ 0) bk mp pt)) := by
  unfold f_X1_granted f_X1_granted_13
  rw [if_pos (x_is hx), x_don hx hb, q_uc, if_pos rfl, if_pos uF1]
/-- 1 or 0 -/
def iB (p : Prop) [Decidable p] : Int32 := if p then 1 else 0
theorem iB_1 {p : Prop} [Decidable p] (h : p) : iB p = 1 := if_pos h
theorem iB_0 {p : Prop} [Decidable p] (h : ¬ p) : iB p = 0 := if_neg h
theorem x_in {N b : Nat} {g : uEnv} {u : UH} {x l h : Int} (h1 : iS x) (h2 : iS l) (h3 : iS h) : f_X1_in N b g u (iI x) (iI l) (iI h) = some (iB (l ≤ x ∧ x ≤ h), u) := b_in h1 h2 h3
theorem m_in {N : Nat} {σ : MS} {x l h : Int} (h1 : iS x) (h2 : iS l) (h3 : iS h) : f_within N σ (iI x) (iI l) (iI h) = some (iB (l ≤ x ∧ x ≤ h), σ) := b_within h1 h2 h3
theorem n10 : ¬ (1 : Int32) = 0 := by decide
theorem x_gdN {N b : Nat} {g : uEnv} {u : UH} {ad : Nat → Nat} {σ : MS} {mp pt : Value} {x : Int32} (hx : u.2.2 (ad 0) = some (xO ad σ .null mp pt)) : f_X1_isGround N b g u (ad 0) x = some (0, u) := by
  unfold f_X1_isGround f_X1_isGround_31 f_X1_isGround_32
  rw [x_bkn hx, p_bs, q_cn, if_pos uF0]
theorem x_gd {N b : Nat} {g : uEnv} {u : UH} {ad : Nat → Nat} {σ : MS} {mp pt : Value} {a lo hi al : Nat} {rv : Int32} {nm : Nat → Nat} {B : bBk} {x : Int} (hx : u.2.2 (ad 0) = some (xO ad σ (.ref a) mp pt)) (vB : vBk u b lo hi a al rv nm B) (hB : bOk B) (hs : iS x) : f_X1_isGround N b g u (ad 0) (iI x) = some (iB (0 ≤ x ∧ x ≤ (B.2.1 : Int) - 1), u) := by
  obtain ⟨gl, arr, m, mc, ga, xs, a1, a2, a3, h1, h2, h3⟩ := vB
  have b5 := hB.2.2.2.2.2.1
  unfold f_X1_isGround f_X1_isGround_31 f_X1_isGround_32
  rw [x_bk hx, p_bs, q_cs, p_bs, p_bs, v_gr h1 (k := 0) rfl, p_bs, p_bs, if_pos (v_is h2.1), l_size h2, q_uc, j1, i_sub, j0, x_in hs ⟨by decide, by decide⟩ ⟨by omega, by omega⟩, q_uc]
  by_cases c : 0 ≤ x ∧ x ≤ (B.2.1 : Int) - 1
  · rw [iB_1 c, if_neg (show ¬ (1 : Int32) = iI 0 by decide)]
    exact if_pos uF1
  · rw [iB_0 c, if_pos (show (0 : Int32) = iI 0 from rfl)]
    exact if_pos uF0
theorem m_gdN {N : Nat} {σ : MS} {x : Int32} (h0 : σ.1 12 = 0) : f_isGround N σ x = some (0, σ) := by
  unfold f_isGround f_isGround_25 f_isGround_26
  rw [if_pos h0, if_pos mB0]
theorem m_gd {N : Nat} {σ : MS} {B : bBk} {x : Int} (h0 : ¬ σ.1 12 = 0) (hm : mBk σ B) (hB : bOk B) (hs : iS x) : f_isGround N σ (iI x) = some (iB (0 ≤ x ∧ x ≤ (B.2.1 : Int) - 1), σ) := by
  have b5 := hB.2.2.2.2.2.1
  unfold f_isGround f_isGround_25 f_isGround_26
  rw [if_neg h0, hm.1.2.2.2.2.2, j1, i_sub, j0, m_in hs ⟨by decide, by decide⟩ ⟨by omega, by omega⟩, q_mc]
  by_cases c : 0 ≤ x ∧ x ≤ (B.2.1 : Int) - 1
  · rw [iB_1 c, if_neg (show ¬ (1 : Int32) = iI 0 by decide)]
    exact if_pos mB1
  · rw [iB_0 c, if_pos (show (0 : Int32) = iI 0 from rfl)]
    exact if_pos mB0
theorem x_ceN {N b : Nat} {g : uEnv} {u : UH} {ad : Nat → Nat} {σ : MS} {bk pt : Value} {x : Int32} (hx : u.2.2 (ad 0) = some (xO ad σ bk .null pt)) : f_X1_isCell N b g u (ad 0) x = some (0, u) := by
  unfold f_X1_isCell f_X1_isCell_28 f_X1_isCell_29
  rw [x_mpn hx, p_bs, q_cn, if_pos uF0]
theorem x_ce {N b : Nat} {g : uEnv} {u : UH} {ad : Nat → Nat} {σ : MS} {bk pt : Value} {a w h : Nat} {fs : List Value} {x : Int} (hx : u.2.2 (ad 0) = some (xO ad σ bk (.ref a) pt)) (hL : u.2.2 a = some (.inr (12, fs))) (e1 : fs[1]? = some (.int (iI w))) (e2 : fs[2]? = some (.int (iI h))) (hw : 1 ≤ w ∧ w ≤ 10) (hh : 1 ≤ h ∧ h ≤ 10) (hs : iS x) : f_X1_isCell N b g u (ad 0) (iI x) = some (iB (0 ≤ x ∧ x ≤ (w : Int) * (h : Int) - 1), u) := by
  have m4 : (w : Int) * h ≤ 10 * 10 := Int.mul_le_mul (by omega) (by omega) (by omega) (by decide)
  have m5 : 0 ≤ (w : Int) * h := Int.mul_nonneg (by omega) (by omega)
  unfold f_X1_isCell f_X1_isCell_28 f_X1_isCell_29 f_X14_cells
  rw [x_mp hx, p_bs, q_cs, p_bs, p_bs, if_pos (v_is hL), v_gi hL e1, p_bs, v_gi hL e2, p_bs, q_uc, i_mul, j1, i_sub, j0, x_in hs ⟨by decide, by decide⟩ ⟨by omega, by omega⟩, q_uc]
  by_cases c : 0 ≤ x ∧ x ≤ (w : Int) * (h : Int) - 1
  · rw [iB_1 c, if_neg (show ¬ (1 : Int32) = iI 0 by decide)]
    exact if_pos uF1
  · rw [iB_0 c, if_pos (show (0 : Int32) = iI 0 from rfl)]
    exact if_pos uF0
theorem m_ceN {N : Nat} {σ : MS} {x : Int32} (h0 : σ.1 34 = 0) : f_isCell N σ x = some (0, σ) := by
  unfold f_isCell f_isCell_30 f_isCell_31
  rw [if_pos h0, if_pos mB0]
theorem m_ce {N : Nat} {σ : MS} {w h : Nat} {x : Int} (h0 : ¬ σ.1 34 = 0) (e1 : σ.1 35 = iI w) (e2 : σ.1 36 = iI h) (hw : 1 ≤ w ∧ w ≤ 10) (hh : 1 ≤ h ∧ h ≤ 10) (hs : iS x) : f_isCell N σ (iI x) = some (iB (0 ≤ x ∧ x ≤ (w : Int) * (h : Int) - 1), σ) := by
  have m4 : (w : Int) * h ≤ 10 * 10 := Int.mul_le_mul (by omega) (by omega) (by omega) (by decide)
  have m5 : 0 ≤ (w : Int) * h := Int.mul_nonneg (by omega) (by omega)
  unfold f_isCell f_isCell_30 f_isCell_31
  rw [if_neg h0, e1, e2, i_mul, j1, i_sub, j0, m_in hs ⟨by decide, by decide⟩ ⟨by omega, by omega⟩, q_mc]
  by_cases c : 0 ≤ x ∧ x ≤ (w : Int) * (h : Int) - 1
  · rw [iB_1 c, if_neg (show ¬ (1 : Int32) = iI 0 by decide)]
    exact if_pos mB1
  · rw [iB_0 c, if_pos (show (0 : Int32) = iI 0 from rfl)]
    exact if_pos mB0

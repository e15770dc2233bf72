/-! PLAIN: ints of 32 bits as integers -/
def iI (i : Int) : Int32 := Int32.ofInt i
def iS (i : Int) : Prop := -2147483648 ≤ i ∧ i ≤ 2147483647
theorem i_toInt {i : Int} (h : iS i) : (iI i).toInt = i := Int32.toInt_ofInt_of_le (by have := h.1; omega) (by have := h.2; omega)
theorem i_of (x : Int32) : x = iI x.toInt := (Int32.ofInt_toInt x).symm
theorem i_S (x : Int32) : iS x.toInt := ⟨Int32.le_toInt x, Int32.toInt_le x⟩
theorem i_add (a b : Int) : iI a + iI b = iI (a + b) := (Int32.ofInt_add a b).symm
theorem i_sub (a b : Int) : iI a - iI b = iI (a - b) := (Int32.ofInt_sub a b).symm
theorem i_mul (a b : Int) : iI a * iI b = iI (a * b) := (Int32.ofInt_mul a b).symm
theorem i_lt {a b : Int} (ha : iS a) (hb : iS b) : iI a < iI b ↔ a < b := by rw [Int32.lt_iff_toInt_lt, i_toInt ha, i_toInt hb]
theorem i_le {a b : Int} (ha : iS a) (hb : iS b) : iI a ≤ iI b ↔ a ≤ b := by rw [Int32.le_iff_toInt_le, i_toInt ha, i_toInt hb]
theorem i_eq {a b : Int} (ha : iS a) (hb : iS b) : iI a = iI b ↔ a = b := by rw [← Int32.toInt_inj, i_toInt ha, i_toInt hb]
theorem i_div {a b : Int} (ha : iS a) (hb : iS b) (h : b ≠ -1 ∨ a ≠ -2147483648) : iI a / iI b = iI (a.tdiv b) := by
  apply Int32.toInt_inj.mp
  have hr : iS (a.tdiv b) := by
    have h1 := Int.natAbs_tdiv_le_natAbs a b
    have h2 : (a.tdiv b).natAbs ≤ a.natAbs := h1
    unfold iS at ha ⊢
    constructor
    · omega
    · by_cases hm : a = -2147483648
      · have hb1 : b ≠ -1 := h.resolve_right (fun z => z hm)
        by_cases hb0 : b = 0
        · subst hb0; simp
        · by_cases hp : 0 < b
          · have e : (-a).tdiv b = -(a.tdiv b) := Int.neg_tdiv a b
            have h3 : 0 ≤ (-a).tdiv b := Int.tdiv_nonneg (by omega) (by omega)
            omega
          · have hb2 : b ≤ -2 := by omega
            have e : a.tdiv b = (-a).tdiv (-b) := by rw [Int.neg_tdiv, Int.tdiv_neg, Int.neg_neg]
            have h3 : (-a).tdiv (-b) = (-a) / (-b) := Int.tdiv_eq_ediv_of_nonneg (by omega)
            have hx0 : 0 ≤ (-a) / (-b) := Int.ediv_nonneg (by omega) (by omega)
            have h4 := Int.ediv_mul_le (-a) (b := -b) (by omega)
            have h5 : (-a) / (-b) * 2 ≤ (-a) / (-b) * (-b) := Int.mul_le_mul_of_nonneg_left (by omega) hx0
            omega
      · omega
  rw [i_toInt hr]
  rcases h with h | h
  · rw [Int32.toInt_div_of_ne_right _ _ (fun e => h ((i_eq hb ⟨by decide, by decide⟩).mp (e.trans rfl))), i_toInt ha, i_toInt hb]
  · rw [Int32.toInt_div_of_ne_left _ _ (fun e => h ((i_eq ha ⟨by decide, by decide⟩).mp (e.trans rfl))), i_toInt ha, i_toInt hb]
theorem i_nat {a : Int} (ha : iS a) : (iI a).toNatClampNeg = a.toNat := by
  show (iI a).toInt.toNat = _
  rw [i_toInt ha]
theorem i_in {a : Int} {n : Nat} (ha : iS a) : mIn (iI a) n = decide (0 ≤ a ∧ a < n) := by
  unfold mIn
  rw [decide_eq_decide, i_nat ha, show (0 : Int32) = iI 0 from rfl, i_lt ha ⟨by decide, by decide⟩]
  omega
theorem i_ofNat (n : Nat) : Int32.ofNat n = iI n := Int32.ofInt_eq_ofNat.symm
theorem i_xor {a b : Int} (ha : iS a) (hb : iS b) (h : 0 ≤ b) : (0 ≤ iI a ^^^ iI b) ↔ 0 ≤ a := by
  have key : ∀ x : Int32, (0 ≤ x) ↔ x.toBitVec.msb = false := fun x => by
    rw [Int32.le_iff_toInt_le, BitVec.msb_eq_toInt]
    show (0 : Int32).toInt ≤ x.toBitVec.toInt ↔ _
    have : (0 : Int32).toInt = 0 := rfl
    simp [this]
  have e1 := key (iI a)
  have e2 := key (iI b)
  rw [key, Int32.toBitVec_xor, BitVec.msb_xor]
  rw [show (0 : Int32) = iI 0 from rfl, i_le ⟨by decide, by decide⟩ hb] at e2
  rw [show (0 : Int32) = iI 0 from rfl, i_le ⟨by decide, by decide⟩ ha] at e1
  rw [e2.mp h, e1]
  simp
/-- the division that goes down -/
theorem i_fdiv {a b : Int} (hb : 0 < b) : a.fdiv b = if 0 ≤ a ∨ a.tdiv b * b = a then a.tdiv b else a.tdiv b - 1 := by
  rw [Int.fdiv_eq_ediv_of_nonneg _ (by omega)]
  have h := Int.tdiv_eq_ediv (a := a) (b := b)
  split
  · rename_i hc
    rcases hc with hc | hc
    · rw [h]; simp [hc]
    · have : b ∣ a := ⟨a.tdiv b, by rw [Int.mul_comm]; exact hc.symm⟩
      rw [h]; simp [this]
  · rename_i hc
    have h1 : ¬ 0 ≤ a := fun z => hc (Or.inl z)
    have h2 : ¬ b ∣ a := fun ⟨k, hk⟩ => hc (Or.inr (by rw [hk, Int.mul_tdiv_cancel_left _ (by omega), Int.mul_comm]))
    rw [h]
    have hs : b.sign = 1 := Int.sign_eq_one_of_pos hb
    simp [h1, h2, hs]

/-! PLAIN: longs as integers -/
def iL (i : Int) : Int64 := Int64.ofInt i
theorem e_toInt {i : Int} (h1 : -9223372036854775808 ≤ i) (h2 : i ≤ 9223372036854775807) : (iL i).toInt = i := Int64.toInt_ofInt_of_le (by omega) (by omega)
theorem e_of (x : Int64) : x = iL x.toInt := (Int64.ofInt_toInt x).symm
theorem e_add (a b : Int) : iL a + iL b = iL (a + b) := (Int64.ofInt_add a b).symm
theorem e_sub (a b : Int) : iL a - iL b = iL (a - b) := (Int64.ofInt_sub a b).symm
theorem e_mul (a b : Int) : iL a * iL b = iL (a * b) := (Int64.ofInt_mul a b).symm
theorem e_cl {a b : Int} (h1 : -9223372036854775808 ≤ a) (h2 : a ≤ 9223372036854775807) (h3 : -9223372036854775808 ≤ b) (h4 : b ≤ 9223372036854775807) : (lg_cmp (iL a) (iL b) < 0) = (a < b) := by
  apply propext
  rw [lg_cmp_lt, Int64.lt_iff_toInt_lt, e_toInt h1 h2, e_toInt h3 h4]
theorem e_cg {a b : Int} (h1 : -9223372036854775808 ≤ a) (h2 : a ≤ 9223372036854775807) (h3 : -9223372036854775808 ≤ b) (h4 : b ≤ 9223372036854775807) : (0 ≤ lg_cmp (iL a) (iL b)) = (b ≤ a) := by
  apply propext
  rw [lg_cmp_ge, Int64.le_iff_toInt_le, e_toInt h1 h2, e_toInt h3 h4]
theorem e_cle {a b : Int} (h1 : -9223372036854775808 ≤ a) (h2 : a ≤ 9223372036854775807) (h3 : -9223372036854775808 ≤ b) (h4 : b ≤ 9223372036854775807) : (lg_cmp (iL a) (iL b) ≤ 0) = (a ≤ b) := by
  apply propext
  rw [lg_cmp_le, Int64.le_iff_toInt_le, e_toInt h1 h2, e_toInt h3 h4]
theorem e_cgt {a b : Int} (h1 : -9223372036854775808 ≤ a) (h2 : a ≤ 9223372036854775807) (h3 : -9223372036854775808 ≤ b) (h4 : b ≤ 9223372036854775807) : (0 < lg_cmp (iL a) (iL b)) = (b < a) := by
  apply propext
  rw [lg_cmp_gt, Int64.lt_iff_toInt_lt, e_toInt h1 h2, e_toInt h3 h4]
theorem e_c0 {a b : Int} (h1 : -9223372036854775808 ≤ a) (h2 : a ≤ 9223372036854775807) (h3 : -9223372036854775808 ≤ b) (h4 : b ≤ 9223372036854775807) : (lg_cmp (iL a) (iL b) = 0) = (a = b) := by
  apply propext
  have e1 := lg_cmp_ge (iL a) (iL b)
  have e2 := lg_cmp_le (iL a) (iL b)
  rw [Int64.le_iff_toInt_le, e_toInt h1 h2, e_toInt h3 h4] at e1 e2
  constructor
  · intro h
    rw [h] at e1 e2
    have := e1.mp (by decide)
    have := e2.mp (by decide)
    omega
  · intro h
    exact Int32.le_antisymm (e2.mpr (by omega)) (e1.mpr (by omega))
theorem e_i2l {a : Int} (h1 : -2147483648 ≤ a) (h2 : a ≤ 2147483647) : (iI a).toInt64 = iL a := by
  apply Int64.toInt_inj.mp
  rw [Jvm.Kit.i64_of_i32, i_toInt ⟨h1, h2⟩, e_toInt (by omega) (by omega)]
theorem e_l2i {a : Int} (h1 : -2147483648 ≤ a) (h2 : a ≤ 2147483647) : (iL a).toInt32 = iI a := by
  apply Int32.toInt_inj.mp
  rw [Jvm.Kit.i32_of_i64 (by rw [e_toInt (by omega) (by omega)]; omega) (by rw [e_toInt (by omega) (by omega)]; omega), i_toInt ⟨h1, h2⟩, e_toInt (by omega) (by omega)]
theorem e_eq {a b : Int} (h1 : -9223372036854775808 ≤ a) (h2 : a ≤ 9223372036854775807) (h3 : -9223372036854775808 ≤ b) (h4 : b ≤ 9223372036854775807) : (iL a = iL b) = (a = b) := by
  apply propext
  rw [← Int64.toInt_inj, e_toInt h1 h2, e_toInt h3 h4]
theorem eL0 : (0 : Int64) = iL 0 := rfl
theorem eL1 : (1 : Int64) = iL 1 := rfl
theorem eLF : (1000000000000000 : Int64) = iL 1000000000000000 := rfl
theorem eLM : (9223372036854775807 : Int64) = iL 9223372036854775807 := rfl
theorem p_cl {α : Type} {a b : Int} {x y : α} (h1 : -9223372036854775808 ≤ a) (h2 : a ≤ 9223372036854775807) (h3 : -9223372036854775808 ≤ b) (h4 : b ≤ 9223372036854775807) (h : a < b) : (if lg_cmp (iL a) (iL b) < 0 then x else y) = x := if_pos (by rw [e_cl h1 h2 h3 h4]; exact h)
theorem n_cl {α : Type} {a b : Int} {x y : α} (h1 : -9223372036854775808 ≤ a) (h2 : a ≤ 9223372036854775807) (h3 : -9223372036854775808 ≤ b) (h4 : b ≤ 9223372036854775807) (h : b ≤ a) : (if lg_cmp (iL a) (iL b) < 0 then x else y) = y := if_neg (by rw [e_cl h1 h2 h3 h4]; omega)
theorem p_cg {α : Type} {a b : Int} {x y : α} (h1 : -9223372036854775808 ≤ a) (h2 : a ≤ 9223372036854775807) (h3 : -9223372036854775808 ≤ b) (h4 : b ≤ 9223372036854775807) (h : b ≤ a) : (if (0 : Int32) ≤ lg_cmp (iL a) (iL b) then x else y) = x := if_pos (by rw [e_cg h1 h2 h3 h4]; exact h)
theorem n_cg {α : Type} {a b : Int} {x y : α} (h1 : -9223372036854775808 ≤ a) (h2 : a ≤ 9223372036854775807) (h3 : -9223372036854775808 ≤ b) (h4 : b ≤ 9223372036854775807) (h : a < b) : (if (0 : Int32) ≤ lg_cmp (iL a) (iL b) then x else y) = y := if_neg (by rw [e_cg h1 h2 h3 h4]; omega)
theorem p_ce {α : Type} {a b : Int} {x y : α} (h1 : -9223372036854775808 ≤ a) (h2 : a ≤ 9223372036854775807) (h3 : -9223372036854775808 ≤ b) (h4 : b ≤ 9223372036854775807) (h : a ≤ b) : (if lg_cmp (iL a) (iL b) ≤ 0 then x else y) = x := if_pos (by rw [e_cle h1 h2 h3 h4]; exact h)
theorem n_ce {α : Type} {a b : Int} {x y : α} (h1 : -9223372036854775808 ≤ a) (h2 : a ≤ 9223372036854775807) (h3 : -9223372036854775808 ≤ b) (h4 : b ≤ 9223372036854775807) (h : b < a) : (if lg_cmp (iL a) (iL b) ≤ 0 then x else y) = y := if_neg (by rw [e_cle h1 h2 h3 h4]; omega)
theorem p_c0 {α : Type} {a b : Int} {x y : α} (h1 : -9223372036854775808 ≤ a) (h2 : a ≤ 9223372036854775807) (h3 : -9223372036854775808 ≤ b) (h4 : b ≤ 9223372036854775807) (h : a = b) : (if lg_cmp (iL a) (iL b) = 0 then x else y) = x := if_pos (by rw [e_c0 h1 h2 h3 h4]; exact h)
theorem n_c0 {α : Type} {a b : Int} {x y : α} (h1 : -9223372036854775808 ≤ a) (h2 : a ≤ 9223372036854775807) (h3 : -9223372036854775808 ≤ b) (h4 : b ≤ 9223372036854775807) (h : a ≠ b) : (if lg_cmp (iL a) (iL b) = 0 then x else y) = y := if_neg (by rw [e_c0 h1 h2 h3 h4]; omega)

/-! PLAIN: rows that take a way -/
theorem p_le {α : Type} {a b : Int} {x y : α} (h1 : -2147483648 ≤ a) (h2 : a ≤ 2147483647) (h3 : -2147483648 ≤ b) (h4 : b ≤ 2147483647) (h : a ≤ b) : (if iI a ≤ iI b then x else y) = x := if_pos ((i_le ⟨h1, h2⟩ ⟨h3, h4⟩).mpr h)
theorem n_le {α : Type} {a b : Int} {x y : α} (h1 : -2147483648 ≤ a) (h2 : a ≤ 2147483647) (h3 : -2147483648 ≤ b) (h4 : b ≤ 2147483647) (h : b < a) : (if iI a ≤ iI b then x else y) = y := if_neg (fun z => absurd ((i_le ⟨h1, h2⟩ ⟨h3, h4⟩).mp z) (by omega))
theorem p_lt {α : Type} {a b : Int} {x y : α} (h1 : -2147483648 ≤ a) (h2 : a ≤ 2147483647) (h3 : -2147483648 ≤ b) (h4 : b ≤ 2147483647) (h : a < b) : (if iI a < iI b then x else y) = x := if_pos ((i_lt ⟨h1, h2⟩ ⟨h3, h4⟩).mpr h)
theorem n_lt {α : Type} {a b : Int} {x y : α} (h1 : -2147483648 ≤ a) (h2 : a ≤ 2147483647) (h3 : -2147483648 ≤ b) (h4 : b ≤ 2147483647) (h : b ≤ a) : (if iI a < iI b then x else y) = y := if_neg (fun z => absurd ((i_lt ⟨h1, h2⟩ ⟨h3, h4⟩).mp z) (by omega))
theorem p_eq {α : Type} {a b : Int} {x y : α} (h1 : -2147483648 ≤ a) (h2 : a ≤ 2147483647) (h3 : -2147483648 ≤ b) (h4 : b ≤ 2147483647) (h : a = b) : (if iI a = iI b then x else y) = x := if_pos ((i_eq ⟨h1, h2⟩ ⟨h3, h4⟩).mpr h)
theorem n_eq {α : Type} {a b : Int} {x y : α} (h1 : -2147483648 ≤ a) (h2 : a ≤ 2147483647) (h3 : -2147483648 ≤ b) (h4 : b ≤ 2147483647) (h : a ≠ b) : (if iI a = iI b then x else y) = y := if_neg (fun z => h ((i_eq ⟨h1, h2⟩ ⟨h3, h4⟩).mp z))
theorem p_ne {α : Type} {a b : Int} {x y : α} (h1 : -2147483648 ≤ a) (h2 : a ≤ 2147483647) (h3 : -2147483648 ≤ b) (h4 : b ≤ 2147483647) (h : a ≠ b) : (if ¬ iI a = iI b then x else y) = x := if_pos (fun z => h ((i_eq ⟨h1, h2⟩ ⟨h3, h4⟩).mp z))
theorem ki_in {a : Int} {n : Nat} (h1 : 0 ≤ a) (h2 : a < (n : Int)) (h3 : a ≤ 2147483647) : mIn (iI a) n = true := by
  rw [i_in ⟨by omega, h3⟩, decide_eq_true_eq]
  exact ⟨h1, h2⟩

/-! PLAIN: rows that simp uses -/
theorem q_mc {α β : Type} (a : α) (s : MS) (f : α → MS → Option β) : mcall (some (a, s)) f = f a s := congrArg (fun z : α => f z s) (Eq.refl a)
theorem q_mv {β : Type} (s : MS) (f : MS → Option β) : mcallv (some s) f = f s := congrArg (fun z : MS => f z) (Eq.refl s)
theorem q_uc {α β : Type} (a : α) (s : UH) (f : α → UH → Option β) : ucall (some (a, s)) f = f a s := congrArg (fun z : α => f z s) (Eq.refl a)
theorem q_cn {β : Type} (x : β) (f : Nat → β) : ucase none x f = x := congrArg (fun z : β => z) (Eq.refl x)
theorem q_cs {β : Type} (r : Nat) (x : β) (f : Nat → β) : ucase (some r) x f = f r := congrArg (fun z : Nat => f z) (Eq.refl r)
theorem j_lt {a b : Int} (h1 : -2147483648 ≤ a) (h2 : a ≤ 2147483647) (h3 : -2147483648 ≤ b) (h4 : b ≤ 2147483647) : (iI a < iI b) = (a < b) := propext (i_lt ⟨h1, h2⟩ ⟨h3, h4⟩)
theorem j_le {a b : Int} (h1 : -2147483648 ≤ a) (h2 : a ≤ 2147483647) (h3 : -2147483648 ≤ b) (h4 : b ≤ 2147483647) : (iI a ≤ iI b) = (a ≤ b) := propext (i_le ⟨h1, h2⟩ ⟨h3, h4⟩)
theorem j_eq {a b : Int} (h1 : -2147483648 ≤ a) (h2 : a ≤ 2147483647) (h3 : -2147483648 ≤ b) (h4 : b ≤ 2147483647) : (iI a = iI b) = (a = b) := propext (i_eq ⟨h1, h2⟩ ⟨h3, h4⟩)
theorem j_neg (a : Int) : -(iI a) = iI (-a) := (Int32.ofInt_neg a).symm
theorem j_nat {a : Int} (h1 : 0 ≤ a) (h2 : a ≤ 2147483647) : (iI a).toNatClampNeg = a.toNat := i_nat ⟨by omega, h2⟩
theorem j_in {a : Int} {n : Nat} (h1 : -2147483648 ≤ a) (h2 : a ≤ 2147483647) : (mIn (iI a) n = true) = (0 ≤ a ∧ a < (n : Int)) := by
  rw [i_in ⟨h1, h2⟩, decide_eq_true_eq]
theorem j_div {a b : Int} (h1 : 0 ≤ a) (h2 : a ≤ 2147483647) (h3 : 0 < b) (h4 : b ≤ 2147483647) : iI a / iI b = iI (a / b) := by
  rw [i_div ⟨by omega, h2⟩ ⟨by omega, h4⟩ (Or.inl (by omega)), Int.tdiv_eq_ediv_of_nonneg h1]
theorem j0 : (0 : Int32) = iI 0 := rfl
theorem j1 : (1 : Int32) = iI 1 := rfl
theorem j2 : (2 : Int32) = iI 2 := rfl
theorem j3 : (3 : Int32) = iI 3 := rfl
theorem j4 : (4 : Int32) = iI 4 := rfl
theorem j5 : (5 : Int32) = iI 5 := rfl
theorem j6 : (6 : Int32) = iI 6 := rfl
theorem j7 : (7 : Int32) = iI 7 := rfl
theorem j8 : (8 : Int32) = iI 8 := rfl
theorem j9 : (9 : Int32) = iI 9 := rfl
theorem j10 : (10 : Int32) = iI 10 := rfl
theorem j32 : (32 : Int32) = iI 32 := rfl
theorem j90 : (90 : Int32) = iI 90 := rfl
theorem j100 : (100 : Int32) = iI 100 := rfl
theorem j999 : (999 : Int32) = iI 999 := rfl
theorem j1000 : (1000 : Int32) = iI 1000 := rfl
theorem mL18 : mLen 18 = 8 := rfl
theorem mL19 : mLen 19 = 8 := rfl
theorem mL41 : mLen 41 = 100 := rfl
theorem mL42 : mLen 42 = 100 := rfl
theorem mL43 : mLen 43 = 100 := rfl
theorem mL45 : mLen 45 = 5 := rfl

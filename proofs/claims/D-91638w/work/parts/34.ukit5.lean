/-! THE HEAP's KIT, 5: sizes, calls in pure words -/
def ucall {α β : Type} (o : Option (α × UH)) (f : α → UH → Option β) : Option β := o.bind fun z => f z.1 z.2
theorem ucall_n {α β : Type} {o : Option (α × UH)} {f : α → UH → Option β} {r : β} (h : ucall o f = some r) : ∃ a u, o = some (a, u) ∧ f a u = some r := by
  cases o with
  | none => cases h
  | some z => exact ⟨z.1, z.2, rfl, h⟩
theorem uPut_sz {b : Nat} {u u' : UH} {a ci k : Nat} {v : Value} (h : uPut b u a ci k v = some u') : u'.1 = u.1 ∧ u'.2.1 = u.2.1 := by
  obtain ⟨fs, -, -, -, rfl⟩ := uPut_n h
  exact ⟨rfl, rfl⟩
theorem uStI_sz {b : Nat} {u u' : UH} {a t : Nat} {i x : Int32} (h : uStI b u a t i x = some u') : u'.1 = u.1 ∧ u'.2.1 = u.2.1 := by
  obtain ⟨n, f, -, -, -, rfl⟩ := uStI_n h
  exact ⟨rfl, rfl⟩
theorem uStL_sz {b : Nat} {u u' : UH} {a t : Nat} {i : Int32} {x : Int64} (h : uStL b u a t i x = some u') : u'.1 = u.1 ∧ u'.2.1 = u.2.1 := by
  obtain ⟨n, f, -, -, -, rfl⟩ := uStL_n h
  exact ⟨rfl, rfl⟩
theorem uStR_sz {b : Nat} {u u' : UH} {a t : Nat} {i : Int32} {x : Option Nat} (h : uStR b u a t i x = some u') : u'.1 = u.1 ∧ u'.2.1 = u.2.1 := by
  obtain ⟨n, f, -, -, -, rfl⟩ := uStR_n h
  exact ⟨rfl, rfl⟩
/-- an int that a small type keeps -/
def uFit (ty : FieldType) (v : Int32) : Bool := (match narrow ty (.int v) with | .int w => decide (w = v) | _ => false) && fits ty (.int v)
theorem uFit_n {ty : FieldType} {v : Int32} (h : uFit ty v = true) : narrow ty (.int v) = .int v ∧ fits ty (.int v) = true := by
  unfold uFit at h
  rw [Bool.and_eq_true] at h
  refine ⟨?_, h.2⟩
  have h1 := h.1
  split at h1
  · rename_i w hw
    rw [hw, of_decide_eq_true h1]
  · cases h1
theorem uret_n {α β : Type} {a c : α} {b d : β} (h : some (a, b) = some (c, d)) : a = c ∧ b = d := by
  have h1 := Option.some.inj h
  exact ⟨congrArg Prod.fst h1, congrArg Prod.snd h1⟩

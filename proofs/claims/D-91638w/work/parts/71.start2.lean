/-! the start: statics, the mirror, the literals -/
def nfl : List Cond := flatC (Jvm.Cond.and given_1 narrow_1)
/-- a word that says that a static holds a reference -/
def stW (q : String × String × String) : Cond := match q.2.1 with
  | "DEFAULTCAPACITY_EMPTY_ELEMENTDATA" => .isRef (.static q.1 q.2.1 q.2.2)
  | "SIOOBE_FORMATTER" => .isRef (.static q.1 q.2.1 q.2.2)
  | "UNASSIGNED_STACK" => .isRef (.static q.1 q.2.1 q.2.2)
  | "SUPPRESSED_SENTINEL" => .isRef (.static q.1 q.2.1 q.2.2)
  | "$VALUES" => .isRef (.static q.1 q.2.1 q.2.2)
  | "cache" => .isRef (.static q.1 q.2.1 q.2.2)
  | _ => .exactly (.static q.1 q.2.1 q.2.2) q.1
theorem stW_in : ∀ q ∈ gSt, stW q ∈ nfl ∧ Cond.laysStatic q.1 q.2.1 q.2.2 ∈ lw_tbl ∧ Cond.initialized q.1 ∈ lw_tbl := by decide +kernel
theorem st_rf {args : Array Value} {s : State} {q : String × String × String} (h : (stW q).before args s = true) : ∃ r : Option Nat, (Term.static q.1 q.2.1 q.2.2).eval args s none [] s = some (va_rf r) := by
  have hr : ∀ t : Term, (Cond.isRef t).before args s = true → ∃ r : Option Nat, t.eval args s none [] s = some (va_rf r) := by
    intro t h
    obtain ⟨v, h1, h2⟩ := Cond.isRef_spec h
    cases v with
    | null => exact ⟨none, h1⟩
    | ref a => exact ⟨some a, h1⟩
    | _ => cases h2
  unfold stW at h
  split at h
  · exact hr _ h
  · exact hr _ h
  · exact hr _ h
  · exact hr _ h
  · exact hr _ h
  · exact hr _ h
  · obtain ⟨a, c, cell, k, h1, -⟩ := Cond.exactly_spec h
    exact ⟨some a, h1⟩
theorem st_st {args : Array Value} {s : State} (hn : ∀ w ∈ nfl, w.before args s = true) : ∀ k : Nat, ∃ r : Option Nat, ∀ q : String × String × String, gSt[k]? = some q → (Term.static q.1 q.2.1 q.2.2).eval args s none [] s = some (va_rf r) := by
  intro k
  cases hk : gSt[k]? with
  | none => exact ⟨none, fun q h => by cases h⟩
  | some q =>
    obtain ⟨r, hr⟩ := st_rf (hn _ (stW_in q (List.mem_of_getElem? hk)).1)
    exact ⟨r, fun q' h => by cases h; exact hr⟩
/-- literals: where they lie -/
theorem st_lit {args : Array Value} {s : State} (hts : ∀ w ∈ lw_tbl, w.before args s = true) (hn : ∀ w ∈ nfl, w.before args s = true) : ∀ j : Nat, ∃ a : Nat, ∀ q : String × Nat × String, gLit[j]? = some q → vk_R q.1 q.2.1 q.2.2 a s ∧ (Term.string q.1 q.2.1).eval args s none [] s = some (.ref a) := by
  have key : ∀ q ∈ gLit, Cond.stringRef q.1 q.2.1 q.2.2 ∈ lw_tbl ∧ Cond.exactly (.string q.1 q.2.1) "java/lang/String" ∈ nfl := by decide +kernel
  intro j
  cases hj : gLit[j]? with
  | none => exact ⟨0, fun q h => by cases h⟩
  | some q =>
    obtain ⟨k1, k2⟩ := key q (List.mem_of_getElem? hj)
    obtain ⟨a, c, cell, k, h1, -⟩ := Cond.exactly_spec (hn _ k2)
    exact ⟨a, fun q' h => by cases h; exact ⟨vk_R.of (hts _ k1) h1, h1⟩⟩
theorem st_LS {args : Array Value} {s : State} {C n d : String} (h : (Cond.laysStatic C n d).before args s = true) : va_LS C n d (fun q => s.heap.size ≤ q) s s.heap := by
  obtain ⟨c, k, i, f, a, cell, h1, h2, h3, h4, h5, h6, h7, h8, h9⟩ := Cond.laysStatic_spec h
  exact ⟨c, k, i, f, a, cell, h1, h2, h3, h4, h5, h6, h7, h8, h9, Nat.not_le.mpr (Array.getElem?_eq_some_iff.mp h5).1⟩

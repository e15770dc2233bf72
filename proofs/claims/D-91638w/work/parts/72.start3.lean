/-! the start: all that stands outside -/
theorem st_val {args : Array Value} {s : State} (hn : ∀ w ∈ nfl, w.before args s = true) {a : Nat} (ha : (Term.static "SoftWheels$Way" "$VALUES" "[LSoftWheels$Way;").eval args s none [] s = some (.ref a)) : ∃ cell : Cell, s.heap[a]? = some cell ∧ cell.slots.size = 4 := by
  have hl := va_eqt (hn (.eq (.length (.static "SoftWheels$Way" "$VALUES" "[LSoftWheels$Way;")) (.int 4)) (by decide +kernel))
  have hall := hn (.all (.static "SoftWheels$Way" "$VALUES" "[LSoftWheels$Way;") (.le (.index 0) (.int 3))) (by decide +kernel)
  obtain ⟨b, cell, ht, hat, hv⟩ := Term.length_spec hl
  cases ha.symm.trans ht
  obtain ⟨hcell, -, -, -⟩ := State.arrayAt?_spec hat
  have hall' := Cond.all_elim ht hat (by simpa [Cond.before, Cond.holds] using hall)
  have hle : cell.slots.size ≤ 4 := by
    apply Nat.not_lt.mp
    intro h5
    have h6 := hall' 4 h5
    revert h6
    simp [Cond.value, Term.eval]
    try decide
  have e : Int32.ofNat cell.slots.size = 4 := (Value.int.inj hv).symm
  refine ⟨cell, hcell, ?_⟩
  have h1 : (Int32.ofNat cell.slots.size).toNatClampNeg = cell.slots.size := Int32.toNatClampNeg_ofNat_of_lt (by omega)
  rw [e] at h1
  exact h1.symm
theorem st_way {args : Array Value} {s : State} (hn : ∀ w ∈ nfl, w.before args s = true) {i : Nat} {q : String × String × String} (hq : gSt[5 + i]? = some q) (hi : i < 4) {a : Nat} (ha : (Term.static q.1 q.2.1 q.2.2).eval args s none [] s = some (.ref a)) (G : uG) (hb : ub G = s.heap.size) : uWc G i a s s.heap := by
  have hA : ∀ a : Nat, a < s.heap.size → ¬ uA G a := fun a h => by show ¬ ub G ≤ a; rw [hb]; omega
  have key : ∀ i < 4, ∀ q ∈ gSt[5 + i]?, Cond.exactly (.static q.1 q.2.1 q.2.2) "SoftWheels$Way" ∈ nfl ∧ Cond.eq (.field (.static q.1 q.2.1 q.2.2) "java/lang/Enum" "ordinal" "I") (.int (nI i)) ∈ nfl ∧ Cond.eq (.field (.static q.1 q.2.1 q.2.2) "SoftWheels$Way" "x" "I") (.int (uWx i)) ∈ nfl ∧ Cond.eq (.field (.static q.1 q.2.1 q.2.2) "SoftWheels$Way" "y" "I") (.int (uWy i)) ∈ nfl := by decide +kernel
  obtain ⟨k1, k2, k3, k4⟩ := key i hi q hq
  exact ⟨va_Oof (hn _ k1) ha hA, vk_OFof ha (va_eqt (hn _ k2)) hA, vk_OFof ha (va_eqt (hn _ k3)) hA, vk_OFof ha (va_eqt (hn _ k4)) hA⟩
theorem st_Z {args : Array Value} {s : State} (hts : ∀ w ∈ lw_tbl, w.before args s = true) (hn : ∀ w ∈ nfl, w.before args s = true) : ∃ g : uEnv, (∀ (D : va_G) (AC : Nat → ClassId), ArrOfT s (AC 7) .int → uZ (D, AC, s.heap.size, g) s s.heap) ∧ (∀ (k : Nat) (q : String × String × String), gSt[k]? = some q → (Term.static q.1 q.2.1 q.2.2).eval args s none [] s = some (va_rf (g.1 k))) ∧ (∀ (j : Nat) (q : String × Nat × String), gLit[j]? = some q → (Term.string q.1 q.2.1).eval args s none [] s = some (.ref (g.2.1 j))) ∧ vb_C g.2.2 (fun q => s.heap.size ≤ q) s s.heap := by
  obtain ⟨mi, hmi⟩ := va_Mi.of (hn (.isRef (.mirror "[Ljava/lang/Object;")) (by decide +kernel))
  have hA : ∀ a : Nat, a < s.heap.size → ¬ (fun q => s.heap.size ≤ q) a := fun a h => by show ¬ s.heap.size ≤ a; omega
  have hlen := va_eqt (hn (.eq (.length (.static "java/lang/Integer$IntegerCache" "cache" "[Ljava/lang/Integer;")) (.int 256)) (by decide +kernel))
  obtain ⟨ad, hC, hel⟩ := vb_Cof (A := fun q => s.heap.size ≤ q) (st := .static "java/lang/Integer$IntegerCache" "cache" "[Ljava/lang/Integer;") rfl hlen (hn _ (by decide +kernel)) hA
  obtain ⟨ct, hct, hT⟩ := va_Tof (A := fun q => s.heap.size ≤ q) (N := 256) (by decide) (hn (.arrayOf (.static "java/lang/Integer$IntegerCache" "cache" "[Ljava/lang/Integer;") (.object "java/lang/Integer")) (by decide +kernel)) hlen hel hA
  let st := fun k => Classical.choose (st_st (args := args) hn k)
  have hst : ∀ (k : Nat) (q : String × String × String), gSt[k]? = some q → (Term.static q.1 q.2.1 q.2.2).eval args s none [] s = some (va_rf (st k)) := fun k q h => Classical.choose_spec (st_st (args := args) hn k) q h
  let lt := fun j => Classical.choose (st_lit (args := args) hts hn j)
  have hlt : ∀ (j : Nat) (q : String × Nat × String), gLit[j]? = some q → vk_R q.1 q.2.1 q.2.2 (lt j) s ∧ (Term.string q.1 q.2.1).eval args s none [] s = some (.ref (lt j)) := fun j q h => Classical.choose_spec (st_lit (args := args) hts hn j) q h
  have hs : ∀ (k : Nat) (q : String × String × String), gSt[k]? = some q → (if k = 20 then some mi else st k) = st k := fun k q h => if_neg (fun e => by subst e; cases h)
  have rf : ∀ {r : Option Nat} {a : Nat}, va_rf r = .ref a → r = some a := fun {r a} h => by cases r with | none => cases h | some b => cases h; rfl
  refine ⟨(fun k => if k = 20 then some mi else st k, lt, ad), fun D AC h7 => ⟨fun k q hk => ?_, ?_, ?_, fun i hi => ?_, hC, fun j q hj => (hlt j q hj).1, ⟨mi, rfl, hmi⟩, ⟨st_LS (hts _ (by decide +kernel)), st_LS (hts _ (by decide +kernel))⟩, ⟨ct, ?_, hT⟩, ?_⟩, fun k q hk => ?_, fun j q hj => (hlt j q hj).2, hC⟩
  · obtain ⟨-, k2, k3⟩ := stW_in q (List.mem_of_getElem? hk)
    show va_Z _ _ _ (va_rf (if k = 20 then some mi else st k)) _ _ _
    rw [hs k q hk]
    exact va_Zof (hts _ k2) (hts _ k3) (hst k q hk) hA
  · exact va_Zof (hts _ (by decide +kernel)) (hts _ (by decide +kernel)) (va_eqi (hn _ (by decide +kernel))) hA
  · exact va_Zof (hts _ (by decide +kernel)) (hts _ (by decide +kernel)) (va_eqi (hn _ (by decide +kernel))) hA
  · obtain ⟨q, hq⟩ : ∃ q, gSt[5 + i]? = some q := by
      match i, hi with
      | 0, _ => exact ⟨_, rfl⟩
      | 1, _ => exact ⟨_, rfl⟩
      | 2, _ => exact ⟨_, rfl⟩
      | 3, _ => exact ⟨_, rfl⟩
    have key : ∀ i < 4, ∀ q ∈ gSt[5 + i]?, Cond.exactly (.static q.1 q.2.1 q.2.2) "SoftWheels$Way" ∈ nfl := by decide +kernel
    obtain ⟨a, c, cell, kk, h1, -⟩ := Cond.exactly_spec (hn _ (key i hi q hq))
    have h2 := hst _ q hq
    have h3 : st (5 + i) = some a := rf (Option.some.inj (h2.symm.trans h1))
    refine ⟨a, ?_, st_way hn hq hi h1 _ rfl⟩
    show (if 5 + i = 20 then some mi else st (5 + i)) = some a
    rw [if_neg (by omega), h3]
  · show (if (11 : Nat) = 20 then some mi else st 11) = some ct
    rw [if_neg (by decide)]
    exact rf (Option.some.inj ((hst 11 _ rfl).symm.trans hct))
  · obtain ⟨a, c, cell, kk, h1, -⟩ := Cond.exactly_spec (hn (.exactly (.static "SoftWheels$Way" "$VALUES" "[LSoftWheels$Way;") "[LSoftWheels$Way;") (by decide +kernel))
    obtain ⟨cell2, c1, c2⟩ := st_val hn h1
    refine ⟨a, cell2, ?_, hA a (Array.getElem?_eq_some_iff.mp c1).1, c1, c2, h7⟩
    show (if (9 : Nat) = 20 then some mi else st 9) = some a
    rw [if_neg (by decide)]
    exact rf (Option.some.inj ((hst 9 _ rfl).symm.trans h1))
  · show _ = some (va_rf (if k = 20 then some mi else st k))
    rw [hs k q hk]
    exact hst k q hk

/-! THE MODEL's KIT, 2: calls in the pure words, a method out of its walk -/
def mcall {α β : Type} (o : Option (α × MS)) (f : α → MS → Option β) : Option β := o.bind fun z => f z.1 z.2
def mcallv {β : Type} (o : Option MS) (f : MS → Option β) : Option β := o.bind f
theorem mcall_n {α β : Type} {o : Option (α × MS)} {f : α → MS → Option β} {r : β} (h : mcall o f = some r) : ∃ a σ, o = some (a, σ) ∧ f a σ = some r := by
  cases o with
  | none => cases h
  | some z => exact ⟨z.1, z.2, rfl, h⟩
theorem mcallv_n {β : Type} {o : Option MS} {f : MS → Option β} {r : β} (h : mcallv o f = some r) : ∃ σ, o = some σ ∧ f σ = some r := by
  cases o with
  | none => cases h
  | some z => exact ⟨z, rfl, h⟩
theorem m_out (lo hi : Int) {x : Int32} (l : List Int32) (n : Nat) (hn : hi < lo + n) (hl : ∀ k : Nat, k < n → ∃ z ∈ l, z.toInt = lo + (k : Int)) (h : ∀ z ∈ l, ¬ x = z) : x.toInt < lo ∨ hi < x.toInt := by
  rcases Int.lt_or_le x.toInt lo with h1 | h1
  · exact Or.inl h1
  · rcases Int.lt_or_le hi x.toInt with h2 | h2
    · exact Or.inr h2
    · obtain ⟨z, hz, e⟩ := hl (x.toInt - lo).toNat (by omega)
      exact absurd (Int32.toInt_inj.mp (e.trans (by omega))).symm (h z hz)
section MROWS2
variable {p : Program} {l : Launch} {e : Env} {R : Room} {s : State} {m : MethodId} {args : Array Value} {below : List Frame} {meth : Method} {c : Code} {H : Heap} {locs : List Loc} {Q : State → Prop}
variable {cc : ByteArray} {pc nL : Nat} {ls : Array Slot} {rest st : List Value} {E : mE} {σ σ' : MS} {ret : Option FieldType}
theorem m_zst (hC : mC p s m args meth c E cc nL ret) (hP : mP E σ H) (hS : va_S (mA E s.heap.size) s.heap H locs) {i x : Int32} (hx1 : mBit x = true) (hin : mIn i 8 = true) (hdg : decode cc pc = .ok (.bastore, 1))
    (kk : ∀ (H1 : Heap) (locs1 : List Loc), mP E (mArr σ 62 i.toNatClampNeg x) H1 → va_S (mA E s.heap.size) s.heap H1 locs1 → W p l e R s m args below meth c H1 locs1 0 0 Q (F0 m (pc + 1) ls rest)) : W p l e R s m args below meth c H locs 0 0 Q (F0 m pc ls (.int x :: .int i :: .ref (mad E 62) :: rest)) := by
  obtain ⟨⟨hx, hb, hml, hown, hts⟩, hK, hD, -⟩ := hC
  refine va_zast hx hb hK.2 hP (mD_self hD σ) hS 30 1 (cA := E.2.2.2.2.2.2.1) (n := 8) (f := σ.2.1 62) rfl rfl (mIn_vp hin) hdg (fun H1 locs1 h1 _ h3 => kk H1 locs1 ?_ h3)
  have e0 : vp_nar .boolean x = x := by
    simp only [mBit, Bool.or_eq_true, decide_eq_true_eq] at hx1
    rcases hx1 with h | h <;> subst h <;> rfl
  have e := mPic_set (E := E) (σ := σ) (σ' := mArr σ 62 i.toNatClampNeg x) (q := 29) (j := 62) (z := (mad E 62, .inl (E.2.2.2.2.2.2.1, 8, .inl (upd (σ.2.1 62) i.toNatClampNeg x)))) rfl rfl (by simp [mEl, mArr, mLen]) (fun k hk => by simp [mEl, mArr, hk])
  unfold mP
  rw [← e]
  rw [e0] at h1
  exact h1
/-- a method out of its walk -/
theorem m_met {y : MethodName} {sz : Nat} {av : List Value} {rm : Room} {Qc : Nat → Array Value → State → Outcome → State → Prop} (hy : plainName y.cls = true) (hyc : y.cls = RX3) (hlen : (lg_sl av).length ≤ nL)
    (body : ∀ {p : Program} {e : Env} {s : State} {m : MethodId} {args : Array Value} {below : List Frame} {meth : Method} {c : Code}, mC p s m args meth c E cc nL ret → ∀ ls : Array Slot, lv_has ls nL (lv_args 0 av) → mP E σ s.heap → W p l e rm s m args below meth c s.heap [] 0 0 (MQ below (Qc s.heap.size) args s 0 0 (mA E s.heap.size)) (F0 m 0 ls [])) :
    Met l y (ws_ y cc nL ret) rm (mPc E sz σ av) (Qc sz) 0 0 (mA E sz) := by
  refine Met.ofW (cc := cc) (maxL := nL) (ret := ret) hy rfl ?_
  intro p e s m args below meth c s₁ B hml hv
  obtain ⟨rfl, rfl, hP, hK, hD⟩ := hv
  have hts := atoms_spec (ws := ws_ y cc nL ret) B.pre
  have hts : ∀ w ∈ lw_all, w.before _ s = true := fun w h => hts w (List.mem_cons_of_mem _ h)
  rw [lg_entry_eq]
  exact body ⟨⟨B.exec, B.bytes, hml, hyc ▸ findClass_of_methodNamed B.named, hts⟩, hK, hD, B.returns, B.notSynchronized⟩ _ (lv_entry av hlen) hP
end MROWS2

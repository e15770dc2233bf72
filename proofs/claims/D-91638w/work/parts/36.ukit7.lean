/-! THE HEAP's KIT, 7: Enum.ordinal of a way; words for inherited methods and interfaces -/
theorem lw_U {own : String} {idx : Nat} {C owner : String} {x y : MethodName} {b : ByteArray} {L : Nat} {r : Option FieldType} (h1 : Cond.methodLink own idx x ∈ lw_all) (h2 : Cond.sameMethod x.cls owner x.name x.desc ∈ lw_all) (h3 : Cond.selects C x y ∈ lw_all) (h4 : Cond.instanceMethod y ∈ lw_all) (h5 : Cond.initialized y.cls ∈ lw_all) (h6 : Cond.code y b L r ∈ lw_all) : GoodIn lw_all (va_wsU own idx C owner x y (ws_ y b L r)) := by
  refine lw_app (fun w hw => ?_) (lw_meth h6)
  simp only [List.mem_cons, List.not_mem_nil, or_false] at hw
  rcases hw with rfl | rfl | rfl | rfl | rfl
  · exact h1
  · exact h2
  · exact h3
  · exact h4
  · exact h5
theorem lw_F {own : String} {idx : Nat} {C : String} {x y : MethodName} {b : ByteArray} {L : Nat} {r : Option FieldType} (h1 : Cond.methodLink own idx x ∈ lw_all) (h3 : Cond.selects C x y ∈ lw_all) (h4 : Cond.instanceMethod y ∈ lw_all) (h5 : Cond.initialized y.cls ∈ lw_all) (h6 : Cond.code y b L r ∈ lw_all) : GoodIn lw_all (va_wsF own idx C x y (ws_ y b L r)) := by
  refine lw_app (fun w hw => ?_) (lw_meth h6)
  simp only [List.mem_cons, List.not_mem_nil, or_false] at hw
  rcases hw with rfl | rfl | rfl | rfl
  · exact h1
  · exact h3
  · exact h4
  · exact h5
def f_J3_ordinal (_N _b : Nat) (g : uEnv) (u : UH) (a0 : Nat) : Option (Int32 × UH) := (uWay g a0).bind fun i => some (nI i, u)
theorem zz_J3_ordinal (N b : Nat) (g : uEnv) (u : UH) (a0 : Nat) (r : Int32) (uf : UH) (h : f_J3_ordinal N b g u a0 = some (r, uf)) : uf.1 = u.1 ∧ uf.2.1 = u.2.1 := by
  unfold f_J3_ordinal at h
  obtain ⟨i, -, h⟩ := mbind_n h
  obtain ⟨-, hr2⟩ := uret_n h
  subst hr2
  exact ⟨rfl, rfl⟩
theorem met_J3_ordinal (l : Launch) (N : Nat) (G : uG) (u : UH) (a0 : Nat) (r : Int32) (uf : UH) (h : f_J3_ordinal N (ub G) (ug G) u a0 = some (r, uf)) : Met l yJ3_ordinal (ws_ yJ3_ordinal cJ3_ordinal 1 (some .int)) ({ frames := 0, cells := 0, slots := 0, locals := 0 }) (uPc G u [.ref a0]) (uQi G r uf) 0 0 (uA G) := by
  unfold f_J3_ordinal at h
  obtain ⟨i, hw, h⟩ := mbind_n h
  obtain ⟨hr1, hr2⟩ := uret_n h
  subst hr1
  subst hr2
  refine u_met (own := RJ3) (by decide +kernel) rfl (Nat.le_of_ble_eq_true rfl) (fun hC hn hsz ls hl hP => ?_)
  obtain ⟨⟨hx, hb, hml, hown, hts⟩, hKK⟩ := id hC
  refine u_aload_n (r := some a0) hx hb dJ3_ordinal_0 rfl (lv_at hl 0 rfl) ?_
  obtain ⟨cf, k, fi, f, cell, h1, h2, h3, h4, h5, h6⟩ := (u_way hC hw).2.1
  refine W.getf hx hb hown (hts _ q2595) h1 h2 h3 h4 h5 rfl rfl dJ3_ordinal_1 ?_
  exact u_iret hC hP va_S.rf dJ3_ordinal_4
theorem u_rcvW {p : Program} {s : State} {m : MethodId} {args : Array Value} {meth : Method} {c : Code} {H : Heap} {locs : List Loc} {cc : ByteArray} {nL : Nat} {G : uG} {u : UH} {ret : Option FieldType} {own : String} {a N b : Nat} {r : Int32} {uf : UH} (hC : uC p s m args meth c G own cc nL ret) (hS : va_S (uA G) s.heap H locs) (h : f_J3_ordinal N b (ug G) u a = some (r, uf)) : ∃ cell : Cell, H[a]? = some cell ∧ cell.vm.isStatics = false ∧ s.vm.findClass "SoftWheels$Way" = some cell.cls := by
  unfold f_J3_ordinal at h
  obtain ⟨i, hw, -⟩ := mbind_n h
  obtain ⟨cell, h1, h2, h3, -⟩ := (u_way hC hw).1.kept hS.2.1
  exact ⟨cell, h1, h2, h3⟩
theorem u_lkN {x k : Int32} {z : Int} (h : ¬ x = k) (e : k.toInt = z) : ¬ x.toInt = z ∧ ¬ z = x.toInt := ⟨fun q => h (Int32.toInt_inj.mp (q.trans e.symm)), fun q => h (Int32.toInt_inj.mp (e.trans q).symm)⟩
theorem lw_SU {own : String} {idx : Nat} {y : MethodName} {b : ByteArray} {L : Nat} {r : Option FieldType} (h1 : Cond.methodLink own idx y ∈ lw_all) (h2 : Cond.sameMethod y.cls y.cls y.name y.desc ∈ lw_all) (h3 : Cond.superclass own y.cls ∈ lw_all) (h4 : Cond.instanceMethod y ∈ lw_all) (h5 : Cond.initialized y.cls ∈ lw_all) (h6 : Cond.code y b L r ∈ lw_all) : GoodIn lw_all (va_wsSU own idx y (ws_ y b L r)) := by
  refine lw_app (fun w hw => ?_) (lw_meth h6)
  simp only [List.mem_cons, List.not_mem_nil, or_false] at hw
  rcases hw with rfl | rfl | rfl | rfl | rfl
  · exact h1
  · exact h2
  · exact h3
  · exact h4
  · exact h5
theorem u_cwU {R : Room} {s : State} {args : Array Value} {own C owner : String} {index maxL mc ms : Nat} {x y : MethodName} {bytes : ByteArray} {ret : Option FieldType} {rm : Room} (n : Nat) (hts : ∀ w ∈ lw_all, w.before args s = true) (h1 : Cond.methodLink own index x ∈ lw_all) (h2 : Cond.sameMethod x.cls owner x.name x.desc ∈ lw_all) (h3 : (Cond.selects C x y).before args s = true) (h4 : Cond.instanceMethod y ∈ lw_all) (h5 : Cond.initialized y.cls ∈ lw_all) (h6 : Cond.code y bytes maxL ret ∈ lw_all) (hrc : rm.cells = mc) (hrs : rm.slots = ms)
    (hyx : y = ⟨owner, x.name, x.desc⟩) (hd : owner ≠ "java/lang/invoke/MethodHandle" ∧ owner ≠ "java/lang/invoke/VarHandle" ∧ (parseMethodDescriptor x.desc).map (fun d => d.parameters.length) = some n) (hR : rm.frames + 1 ≤ R.frames ∧ 8 + (maxL + 11) + rm.locals ≤ R.locals) : va_CU R s args own C owner index x y bytes maxL ret (ws_ y bytes maxL ret) rm mc ms n := by
  refine ⟨⟨hrc, hrs, hR.1, hR.2, pay_in hts (lw_meth h6), List.mem_cons_self⟩, hts _ h6, hts _ h5, ⟨hd.1, hd.2.1⟩, fun sig h => ?_, hts _ h1, hts _ h2, by rw [← hyx]; exact va_Decl.of (hts _ h4) (hts _ h6), h3, hts _ h4⟩
  have h2 := hd.2.2
  rw [h] at h2
  exact (Option.some.inj h2).symm
theorem lw_O {own : String} {idx : Nat} {C owner : String} {x y : MethodName} {b : ByteArray} {L : Nat} {r : Option FieldType} (h1 : Cond.methodLink own idx x ∈ lw_all) (h2 : Cond.sameMethod x.cls owner x.name x.desc ∈ lw_all) (h0 : Cond.instanceMethod ⟨owner, x.name, x.desc⟩ ∈ lw_all) (h3 : Cond.selects C x y ∈ lw_all) (h4 : Cond.instanceMethod y ∈ lw_all) (h5 : Cond.initialized y.cls ∈ lw_all) (h6 : Cond.code y b L r ∈ lw_all) : GoodIn lw_all (va_wsO own idx C owner x y (ws_ y b L r)) := by
  refine lw_app (fun w hw => ?_) (lw_meth h6)
  simp only [List.mem_cons, List.not_mem_nil, or_false] at hw
  rcases hw with rfl | rfl | rfl | rfl | rfl | rfl
  · exact h1
  · exact h2
  · exact h0
  · exact h3
  · exact h4
  · exact h5

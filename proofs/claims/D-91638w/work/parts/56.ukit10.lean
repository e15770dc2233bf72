/-! THE HEAP's KIT, 10: a literal by ldc_w -/
section UROWS10
variable {p : Program} {l : Launch} {e : Env} {R : Room} {s : State} {m : MethodId} {args : Array Value} {below : List Frame} {meth : Method} {c : Code} {H : Heap} {locs : List Loc} {cells slots : Nat} {Q : State → Prop}
variable {cc : ByteArray} {pc nL : Nat} {ls : Array Slot} {rest : List Value} {G : uG} {ret : Option FieldType} {own : String}
theorem u_ldcw0 {T : State} (X : Stand p l e R s m args below meth c T locs cells slots) (hexec : p.tables.exec = Jvm.exec) {text : String} {index : Nat} {a : Addr} (hown : s.vm.findClass own = some m.cls) (hconst : (Cond.stringRef own index text).before args s = true) (hev : (Term.string own index).eval args s none [] s = some (.ref a)) {g : JFrame} (hg : g.method = m) (hdg : decode c.code g.pc = .ok (.ldc_w index, 3)) :
    ∀ target, Steps p.tables e below (T.setTop { g with pc := g.pc + 3, stack := .ref a :: g.stack }) target → Steps p.tables e below (T.setTop g) target := by
  obtain ⟨k, cf, i, a', hk, hcf, hcp, -, hr, hev'⟩ := Cond.stringRef_spec hown hconst
  cases hev.symm.trans hev'
  obtain ⟨k', hk', he⟩ := X.warmed.alike.2.2 _ _ hk
  have hr' : k'.resolved[index]? = some (some (.string a)) := by
    rcases X.warmed.entry hk hk' index with h | ⟨h, -⟩
    · rw [h]; exact hr
    · rw [hr] at h; cases h
  intro target hrest
  subst hg
  jvm_step X.here [hexec, hdg, ldc_w.wp_string (e := e) (s := T) (f := g) X.here.top hk' (by rw [he]; exact hcf) hcp hr']
  exact hrest
theorem u_ldcSw (hC : uC p s m args meth c G own cc nL ret) {index : Nat} {tx : String} (j : Nat) (hq : gLit[j]? = some (own, index, tx)) (hdg : decode cc pc = .ok (.ldc_w index, 3))
    (kk : W p l e R s m args below meth c H locs cells slots Q (F0 m (pc + 3) ls (.ref ((ug G).2.1 j) :: rest))) : W p l e R s m args below meth c H locs cells slots Q (F0 m pc ls rest) := by
  obtain ⟨-, -, -, -, -, h6, -⟩ := hC.2.2.1.2
  have hZ := h6 j _ hq
  intro T hT X
  obtain ⟨t, a1, b1⟩ := kk T hT X
  exact ⟨t, u_ldcw0 X hC.1.1 hC.1.2.2.2.1 (text := tx) hZ.1 hZ.2 (g := F0 m pc ls rest) rfl (by rw [hC.1.2.1]; exact hdg) t a1, b1⟩
end UROWS10

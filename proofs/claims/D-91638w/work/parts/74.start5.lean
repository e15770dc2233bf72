/-! the start: all of it is there -/
theorem st_ns {s : State} {cell : Cell} {ty : FieldType} (h : s.isArrayOf cell ty) : cell.vm.isStatics = false := by
  have h1 := h.1
  cases hv : cell.vm with
  | statics k => exact absurd hv (h1 k)
  | _ => rfl
theorem st_eqr {args : Array Value} {s : State} {t u : Term} {r : Option Nat} (h : (Cond.eq t u).before args s = true) (hu : u.eval args s none [] s = some (va_rf r)) : t.eval args s none [] s = some (va_rf r) :=
  va_eqI (first := s) (o := none) (idx := []) (by simpa [Cond.before, Cond.holds] using h) hu
def stNe (i j : Nat) : Bool := match gSt[i]?, gSt[j]? with
  | some q, some r => decide (Cond.exactly (.static q.1 q.2.1 q.2.2) q.1 ∈ nfl) && decide (Cond.exactly (.static r.1 r.2.1 r.2.2) r.1 ∈ nfl) && decide (Cond.not (.eq (.static q.1 q.2.1 q.2.2) (.static r.1 r.2.1 r.2.2)) ∈ nfl)
  | _, _ => true
theorem stNe_all : ∀ j < 9, ∀ i < j, stNe i j = true := by decide +kernel
theorem st_ne (j : Nat) (hj : j < 9) (i : Nat) (hij : i < j) (q r : String × String × String) (hq : gSt[i]? = some q) (hr : gSt[j]? = some r) : Cond.exactly (.static q.1 q.2.1 q.2.2) q.1 ∈ nfl ∧ Cond.exactly (.static r.1 r.2.1 r.2.2) r.1 ∈ nfl ∧ Cond.not (.eq (.static q.1 q.2.1 q.2.2) (.static r.1 r.2.1 r.2.2)) ∈ nfl := by
  have h := stNe_all j hj i hij
  unfold stNe at h
  rw [hq, hr] at h
  simp only [Bool.and_eq_true, decide_eq_true_eq] at h
  exact ⟨h.1.1, h.1.2, h.2⟩
theorem st_U {args : Array Value} {s : State} {b L : Nat} {xs : Nat → Int32} (hL : L ≤ 384) (hts : ∀ w ∈ lw_tbl, w.before args s = true) (hn : ∀ w ∈ nfl, w.before args s = true) (hX : va_X b L xs s s.heap) : ∃ (G : uG) (u : UH), ub G = s.heap.size ∧ uK G s ∧ uZ G s s.heap ∧ uP G u s.heap ∧ uStart s.heap.size (ug G) u b L xs := by
  obtain ⟨scr, x1, x2, x3, x4, x5⟩ := hX
  have h7a : ArrOfT s scr.cls .int := by
    obtain ⟨-, k, hk, comp, hkind⟩ := x2
    exact fun n z => ⟨fun k h => (by cases h), k, hk, comp, hkind⟩
  obtain ⟨D, AC, e7, hK⟩ := st_K scr.cls hts
  obtain ⟨g, hZ, hst, hlt, hC⟩ := st_Z hts hn
  have hKG := hK s.heap.size g
  have h7 : ArrOfT s (AC 7) .int := by rw [e7]; exact h7a
  have hZG := hZ D AC h7
  obtain ⟨G, hG⟩ : ∃ z : uG, z = (D, AC, s.heap.size, g) := ⟨_, rfl⟩
  have hA : ∀ a : Nat, a < s.heap.size → ¬ (fun q => s.heap.size ≤ q) a := fun a h => by show ¬ s.heap.size ≤ a; omega
  have k20 : ClassAt s RJ6 (D.1 20) := (hKG.1.1 20 _ rfl).2
  have k21 : ClassAt s RJ19 (D.1 21) := (hKG.1.1 21 _ rfl).2
  have t1 : ArrOfT s (AC 1) .byte ∧ va_RA s (AC 1) .byte := hKG.1.2 1 _ rfl
  have t4 : ArrOfT s (AC 4) (.object "java/lang/Object") ∧ va_RA s (AC 4) (.object "java/lang/Object") := hKG.1.2 4 _ rfl
  have t5 : ArrOfT s (AC 5) (.object "SoftWheels$Way") ∧ va_RA s (AC 5) (.object "SoftWheels$Way") := hKG.1.2 5 _ rfl
  have n2120 : D.1 21 ≠ D.1 20 := kd_oo k21.1 k20.1 (by decide)
  have n720 : AC 7 ≠ D.1 20 := (kd_oa k20 h7).symm
  have n721 : AC 7 ≠ D.1 21 := (kd_oa k21 h7).symm
  have n120 : AC 1 ≠ D.1 20 := (kd_oa k20 t1.1).symm
  have n121 : AC 1 ≠ D.1 21 := (kd_oa k21 t1.1).symm
  have n17 : AC 1 ≠ AC 7 := kd_aa t1.1 h7 (by decide)
  have n420 : AC 4 ≠ D.1 20 := (kd_oa k20 t4.1).symm
  have n421 : AC 4 ≠ D.1 21 := (kd_oa k21 t4.1).symm
  have n47 : AC 4 ≠ AC 7 := kd_aa t4.1 h7 (by decide)
  have n41 : AC 4 ≠ AC 1 := kd_aa t4.1 t1.1 (by decide)
  have n520 : AC 5 ≠ D.1 20 := (kd_oa k20 t5.1).symm
  have n521 : AC 5 ≠ D.1 21 := (kd_oa k21 t5.1).symm
  have n57 : AC 5 ≠ AC 7 := kd_aa t5.1 h7 (by decide)
  have n51 : AC 5 ≠ AC 1 := kd_aa t5.1 t1.1 (by decide)
  have n54 : AC 5 ≠ AC 4 := kd_aa t5.1 t4.1 (by decide)
  have hb : ub G = s.heap.size := by rw [hG]
  refine ⟨G, (s.heap.size, 0, cnU G s.heap), hb, by rw [hG]; exact hKG, by rw [hG]; exact hZG, ⟨rfl, fun a e h => cnU_n h⟩, rfl, rfl, ?_, ?_, ?_, ?_, ?_, ?_, ?_, ?_, ?_, fun c e h => (cnU_n h).lt⟩
  · refine cn_ai (ty := .int) (by omega) hb x1 (by subst hG; show some (AC 7, FieldType.int) = _; rw [e7]) ?_ x3 (st_ns x2) (by omega) (by rw [x4]) x5
    subst hG
    unfold cn
    rw [if_neg (by rw [← e7]; exact n720), if_neg (by rw [← e7]; exact n721), if_pos e7.symm]
  · intro j hj z hz
    obtain ⟨q, hq⟩ : ∃ q, gLit[j]? = some q := ⟨gLit[j]'(Nat.lt_of_lt_of_le hj (by decide)), List.getElem?_eq_getElem _⟩
    have hin := lt_in j hj q hq z hz
    have hlen := lt_len j hj z hz
    have he : (lt_t q).eval args s none [] s = some (.ref (g.2.1 j)) := hlt j q hq
    have w0 := hn (.exactly (lt_t q) "java/lang/String") (hin _ (by simp [lt_W]))
    have w1 := hn (.eq (.field (lt_t q) "java/lang/String" "coder" "B") (.int 0)) (hin _ (by simp [lt_W]))
    have w2 := hn (.arrayOf (lt_v q) .byte) (hin _ (by simp [lt_W]))
    have w3 := hn (.eq (.length (lt_v q)) (.int (Int32.ofNat z.1.length))) (hin _ (by simp [lt_W]))
    have w4 := hn (.eq (.field (lt_t q) "java/lang/String" "hash" "I") (.int z.2)) (hin _ (by simp [lt_W]))
    have w5 := hn (.eq (.field (lt_t q) "java/lang/String" "hashIsZero" "Z") (.int 0)) (hin _ (by simp [lt_W]))
    have w6 := hn (.exactly (lt_v q) "[B") (hin _ (by simp [lt_W]))
    have w7 : ∀ i : Nat, i < z.1.length → (Term.elem (lt_v q) (.int (Int32.ofNat i))).eval args s none [] s = some (.int (z.1.getD i 0)) := fun i hi => va_eqt (hn _ (hin _ (List.mem_cons_of_mem _ (List.mem_append_left _ (List.mem_append_right _ (List.mem_map.mpr ⟨i, List.mem_range.mpr hi, rfl⟩))))))
    obtain ⟨v, hv, cv, a1, a2, a3, a4, a5, a6, -⟩ := va_Tof (f := fun i => .int (z.1.getD i 0)) (A := fun q => s.heap.size ≤ q) (by omega) w2 (va_eqt w3) w7 hA
    obtain ⟨cell, o1, o2, o3, -⟩ := va_Oof (A := fun q => s.heap.size ≤ q) w0 he hA
    obtain ⟨v', c', cv', k', b1, b2, b3, b4, b5, b6, -⟩ := Cond.exactly_spec w6
    cases hv.symm.trans b1
    cases a1.symm.trans b3
    have cvc : cv.cls = AC 1 := Option.some.inj ((by rw [b6]; exact b2 : s.vm.findClass "[B" = some cv.cls).symm.trans (va_nm_byte t1.2))
    have cls : cell.cls = D.1 20 := Option.some.inj (o3.symm.trans k20.1)
    have sl := (hKG.1.1 20 _ rfl).1
    obtain ⟨s0, hkn⟩ := of_slot (vk_OFof (A := fun q => s.heap.size ≤ q) he hv hA) (sl 0 (by decide)) o1
    have s1 := (of_slot (vk_OFof (A := fun q => s.heap.size ≤ q) he (va_eqt w1) hA) (sl 1 (by decide)) o1).1
    have s2 := (of_slot (vk_OFof (A := fun q => s.heap.size ≤ q) he (va_eqt w4) hA) (sl 2 (by decide)) o1).1
    have s3 := (of_slot (vk_OFof (A := fun q => s.heap.size ≤ q) he (va_eqt w5) hA) (sl 3 (by decide)) o1).1
    obtain ⟨f, f1, f2⟩ := cn_ai (G := G) (t := 1) (ty := .byte) (N := z.1.length) (f := fun i => z.1.getD i 0) (by omega) hb a1 (by subst hG; rw [cvc]; rfl) (by subst hG; unfold cn; rw [cvc, if_neg n120, if_neg n121, if_neg n17, if_pos rfl]) a3 (st_ns a2) a4 a5 a6
    refine ⟨v, z.2, f, ?_, f1, f2⟩
    have hf : cnF cell (D.2 20) 4 = [.ref v, .int 0, .int z.2, .int 0] := by
      simp [cnF, List.range, List.range.loop, s0, s1, s2, s3]
    show cnU G s.heap ((ug G).2.1 j) = _
    subst hG
    refine cnU_at o1 (by unfold cn; rw [if_pos cls]; show Sum.inr (20, cnF cell (D.2 20) 4) = _; rw [hf]) ⟨(RJ6, TJ6, 4), cell, rfl, o1, cls, ⟨hkn, o2, fun q => absurd q (hA _ (Array.getElem?_eq_some_iff.mp o1).1)⟩, rfl, fun k hk => ?_⟩
    match k, hk with
    | 0, _ => exact s0
    | 1, _ => exact s1
    | 2, _ => exact s2
    | 3, _ => exact s3
  · have hq : ∀ i : Nat, i < 4 → ∀ q, gSt[5 + i]? = some q → Cond.eq (.elem (.static "SoftWheels$Way" "$VALUES" "[LSoftWheels$Way;") (.int (Int32.ofNat i))) (.static q.1 q.2.1 q.2.2) ∈ nfl := by
      have key : ∀ i < 4, ∀ q ∈ gSt[5 + i]?, Cond.eq (.elem (.static "SoftWheels$Way" "$VALUES" "[LSoftWheels$Way;") (.int (Int32.ofNat i))) (.static q.1 q.2.1 q.2.2) ∈ nfl := by decide +kernel
      exact fun i hi q h => key i hi q h
    have hw : ∀ i : Nat, i < 4 → (Term.elem (.static "SoftWheels$Way" "$VALUES" "[LSoftWheels$Way;") (.int (Int32.ofNat i))).eval args s none [] s = some (va_rf (g.1 (5 + i))) := by
      intro i hi
      obtain ⟨q, hqi⟩ : ∃ q, gSt[5 + i]? = some q := ⟨gSt[5 + i]'(by simp only [gSt, List.length_cons, List.length_nil]; omega), List.getElem?_eq_getElem _⟩
      exact st_eqr (hn _ (hq i hi q hqi)) (hst _ q hqi)
    obtain ⟨v, hv, cv, a1, a2, a3, a4, a5, a6, -⟩ := va_Tof (ty := .object "SoftWheels$Way") (N := 4) (f := fun i => va_rf (g.1 (5 + i))) (A := fun q => s.heap.size ≤ q) (by decide) (hn (.arrayOf (.static "SoftWheels$Way" "$VALUES" "[LSoftWheels$Way;") (.object "SoftWheels$Way")) (by decide +kernel)) (va_eqt (hn (.eq (.length (.static "SoftWheels$Way" "$VALUES" "[LSoftWheels$Way;")) (.int 4)) (by decide +kernel))) hw hA
    obtain ⟨v', c', cv', k', b1, b2, b3, b4, b5, b6, -⟩ := Cond.exactly_spec (hn (.exactly (.static "SoftWheels$Way" "$VALUES" "[LSoftWheels$Way;") "[LSoftWheels$Way;") (by decide +kernel))
    cases hv.symm.trans b1
    cases a1.symm.trans b3
    have cvc : cv.cls = AC 5 := Option.some.inj ((by rw [b6]; exact b2 : s.vm.findClass "[LSoftWheels$Way;" = some cv.cls).symm.trans (va_nmO t5.2 (by decide +kernel)))
    obtain ⟨f, f1, f2⟩ := cn_ar (G := G) (t := 5) (ty := .object "SoftWheels$Way") (N := 4) (f := fun i => g.1 (5 + i)) (by decide) hb a1 (by subst hG; rw [cvc]; rfl) (by subst hG; unfold cn; rw [cvc, if_neg n520, if_neg n521, if_neg n57, if_neg n51, if_neg n54]) a3 (st_ns a2) a4 a5 a6
    subst hG
    have h9 : va_rf (g.1 9) = .ref v := Option.some.inj ((hst 9 _ rfl).symm.trans hv)
    exact ⟨v, f, by cases hr : g.1 9 with | none => (rw [hr] at h9; cases h9) | some r => (rw [hr] at h9; cases h9; rfl), f1, f2⟩
  · obtain ⟨v, hv, cv, a1, a2, a3, a4, a5, a6, -⟩ := va_Tof (ty := .object "java/lang/Object") (N := 0) (f := fun i => .null) (A := fun q => s.heap.size ≤ q) (by decide) (hn (.arrayOf (.static "java/util/ArrayList" "DEFAULTCAPACITY_EMPTY_ELEMENTDATA" "[Ljava/lang/Object;") (.object "java/lang/Object")) (by decide +kernel)) (va_eqt (hn (.eq (.length (.static "java/util/ArrayList" "DEFAULTCAPACITY_EMPTY_ELEMENTDATA" "[Ljava/lang/Object;")) (.int 0)) (by decide +kernel))) (fun j hj => absurd hj (Nat.not_lt_zero j)) hA
    obtain ⟨v', c', cv', k', b1, b2, b3, b4, b5, b6, -⟩ := Cond.exactly_spec (hn (.exactly (.static "java/util/ArrayList" "DEFAULTCAPACITY_EMPTY_ELEMENTDATA" "[Ljava/lang/Object;") "[Ljava/lang/Object;") (by decide +kernel))
    cases hv.symm.trans b1
    cases a1.symm.trans b3
    have cvc : cv.cls = AC 4 := Option.some.inj ((by rw [b6]; exact b2 : s.vm.findClass "[Ljava/lang/Object;" = some cv.cls).symm.trans (va_nmO t4.2 (by decide +kernel)))
    obtain ⟨f, f1, f2⟩ := cn_ar (G := G) (t := 4) (ty := .object "java/lang/Object") (N := 0) (f := fun i => none) (by decide) hb a1 (by subst hG; rw [cvc]; rfl) (by subst hG; unfold cn; rw [cvc, if_neg n420, if_neg n421, if_neg n47, if_neg n41, if_pos rfl]) a3 (st_ns a2) a4 a5 (fun j hj => absurd hj (Nat.not_lt_zero j))
    subst hG
    have h9 : va_rf (g.1 10) = .ref v := Option.some.inj ((hst 10 _ rfl).symm.trans hv)
    exact ⟨v, f, by cases hr : g.1 10 with | none => (rw [hr] at h9; cases h9) | some r => (rw [hr] at h9; cases h9; rfl), f1⟩
  · intro k hk
    obtain ⟨cell, o1, o2, o3, -⟩ := hC.1 k hk
    have cls : cell.cls = D.1 21 := Option.some.inj (o3.symm.trans k21.1)
    obtain ⟨s0, hkn⟩ := of_slot (hC.2 k hk) ((hKG.1.1 21 _ rfl).1 0 (by decide)) o1
    have hf : cnF cell (D.2 21) 1 = [.int (vb_c k)] := by
      simp [cnF, List.range, List.range.loop, s0]
    show cnU G s.heap ((ug G).2.2 k) = _
    subst hG
    refine cnU_at o1 (by unfold cn; rw [if_neg (by rw [cls]; exact n2120), if_pos cls]; show Sum.inr (21, cnF cell (D.2 21) 1) = _; rw [hf]) ⟨(RJ19, TJ19, 1), cell, rfl, o1, cls, ⟨hkn, o2, fun q => absurd q (hA _ (Array.getElem?_eq_some_iff.mp o1).1)⟩, rfl, fun k hk => ?_⟩
    match k, hk with
    | 0, _ => exact s0
  · intro i hi
    have key : ∀ i < 9, ∀ q ∈ gSt[i]?, Cond.exactly (.static q.1 q.2.1 q.2.2) q.1 ∈ nfl := by decide +kernel
    obtain ⟨q, hqi⟩ : ∃ q, gSt[i]? = some q := ⟨gSt[i]'(by simp only [gSt, List.length_cons, List.length_nil]; omega), List.getElem?_eq_getElem _⟩
    obtain ⟨a, c, cell, k, e1, e2, e3, -⟩ := Cond.exactly_spec (hn _ (key i hi q hqi))
    have h9 : va_rf (g.1 i) = .ref a := Option.some.inj ((hst i q hqi).symm.trans e1)
    subst hG
    exact ⟨a, by cases hr : g.1 i with | none => (rw [hr] at h9; cases h9) | some r => (rw [hr] at h9; cases h9; rfl), (Array.getElem?_eq_some_iff.mp e3).1⟩
  · intro i j hij hj
    obtain ⟨q, hqi⟩ : ∃ q, gSt[i]? = some q := ⟨gSt[i]'(by simp only [gSt, List.length_cons, List.length_nil]; omega), List.getElem?_eq_getElem _⟩
    obtain ⟨r, hrj⟩ : ∃ q, gSt[j]? = some q := ⟨gSt[j]'(by simp only [gSt, List.length_cons, List.length_nil]; omega), List.getElem?_eq_getElem _⟩
    obtain ⟨m1, m2, m3⟩ := st_ne j hj i hij q r hqi hrj
    obtain ⟨a, c, cell, k, e1, -⟩ := Cond.exactly_spec (hn _ m1)
    obtain ⟨a', c', cell', k', e1', -⟩ := Cond.exactly_spec (hn _ m2)
    have hne := va_neR (hn _ m3) e1 e1'
    have h1 : va_rf (g.1 i) = .ref a := Option.some.inj ((hst i q hqi).symm.trans e1)
    have h2 : va_rf (g.1 j) = .ref a' := Option.some.inj ((hst j r hrj).symm.trans e1')
    subst hG
    intro he
    have he : g.1 i = g.1 j := he
    rw [he, h2] at h1
    cases h1
    exact hne rfl
  · obtain ⟨t, ht, -⟩ := hZG.2.2.2.2.2.2.2.2.1
    subst hG
    exact ⟨t, ht⟩
  · obtain ⟨mi, hmi, -⟩ := hZG.2.2.2.2.2.2.1
    subst hG
    exact ⟨mi, hmi⟩

/-! the start: classes, arrays, tables -/
theorem st_cl {args : Array Value} {s : State} (hts : ∀ w ∈ lw_all, w.before args s = true) : ∀ (c : Nat), ∃ z : ClassId × (Nat → Nat), ∀ q : vw_C, gCl[c]? = some q → u_Kn s q.1 q.2.1 q.2.2 z.1 z.2 := by
  intro c
  match c with
  | 0 =>
    obtain ⟨cC, iS, h⟩ := u_known (C := RX1) (T := TX1) (N := 16) hts in_X1 (hts _ q143)
    exact ⟨(cC, iS), fun q hq => by cases hq; exact h⟩
  | 1 =>
    obtain ⟨cC, iS, h⟩ := u_known (C := RX2) (T := TX2) (N := 9) hts in_X2 (hts _ q151)
    exact ⟨(cC, iS), fun q hq => by cases hq; exact h⟩
  | 2 =>
    obtain ⟨cC, iS, h⟩ := u_known (C := RX3) (T := TX3) (N := 75) hts in_X3 (hts _ q1887)
    exact ⟨(cC, iS), fun q hq => by cases hq; exact h⟩
  | 3 =>
    obtain ⟨cC, iS, h⟩ := u_known (C := RX4) (T := TX4) (N := 8) hts in_X4 (hts _ q281)
    exact ⟨(cC, iS), fun q hq => by cases hq; exact h⟩
  | 4 =>
    obtain ⟨cC, iS, h⟩ := u_known (C := RX5) (T := TX5) (N := 8) hts in_X5 (hts _ q334)
    exact ⟨(cC, iS), fun q hq => by cases hq; exact h⟩
  | 5 =>
    obtain ⟨cC, iS, h⟩ := u_known (C := RX6) (T := TX6) (N := 3) hts in_X6 (hts _ q699)
    exact ⟨(cC, iS), fun q hq => by cases hq; exact h⟩
  | 6 =>
    obtain ⟨cC, iS, h⟩ := u_known (C := RX8) (T := TX8) (N := 8) hts in_X8 (hts _ q785)
    exact ⟨(cC, iS), fun q hq => by cases hq; exact h⟩
  | 7 =>
    obtain ⟨cC, iS, h⟩ := u_known (C := RX9) (T := TX9) (N := 3) hts in_X9 (hts _ q857)
    exact ⟨(cC, iS), fun q hq => by cases hq; exact h⟩
  | 8 =>
    obtain ⟨cC, iS, h⟩ := u_known (C := RX10) (T := TX10) (N := 4) hts in_X10 (hts _ q1026)
    exact ⟨(cC, iS), fun q hq => by cases hq; exact h⟩
  | 9 =>
    obtain ⟨cC, iS, h⟩ := u_known (C := RX11) (T := TX11) (N := 5) hts in_X11 (hts _ q1540)
    exact ⟨(cC, iS), fun q hq => by cases hq; exact h⟩
  | 10 =>
    obtain ⟨cC, iS, h⟩ := u_known (C := RX12) (T := TX12) (N := 2) hts in_X12 (hts _ q1582)
    exact ⟨(cC, iS), fun q hq => by cases hq; exact h⟩
  | 11 =>
    obtain ⟨cC, iS, h⟩ := u_known (C := RX13) (T := TX13) (N := 4) hts in_X13 (hts _ q1608)
    exact ⟨(cC, iS), fun q hq => by cases hq; exact h⟩
  | 12 =>
    obtain ⟨cC, iS, h⟩ := u_known (C := RX14) (T := TX14) (N := 11) hts in_X14 (hts _ q1114)
    exact ⟨(cC, iS), fun q hq => by cases hq; exact h⟩
  | 13 =>
    obtain ⟨cC, iS, h⟩ := u_known (C := RX15) (T := TX15) (N := 3) hts in_X15 (hts _ q1207)
    exact ⟨(cC, iS), fun q hq => by cases hq; exact h⟩
  | 14 =>
    obtain ⟨cC, iS, h⟩ := u_known (C := RX16) (T := TX15) (N := 0) hts (fun _ h => absurd h List.not_mem_nil) (hts _ q1294)
    exact ⟨(cC, iS), fun q hq => by cases hq; exact h⟩
  | 15 =>
    obtain ⟨cC, iS, h⟩ := u_known (C := RX17) (T := TX15) (N := 0) hts (fun _ h => absurd h List.not_mem_nil) (hts _ q1301)
    exact ⟨(cC, iS), fun q hq => by cases hq; exact h⟩
  | 16 =>
    obtain ⟨cC, iS, h⟩ := u_known (C := RX18) (T := TX18) (N := 8) hts in_X18 (hts _ q1646)
    exact ⟨(cC, iS), fun q hq => by cases hq; exact h⟩
  | 17 =>
    obtain ⟨cC, iS, h⟩ := u_known (C := RX19) (T := TX19) (N := 2) hts in_X19 (hts _ q1759)
    exact ⟨(cC, iS), fun q hq => by cases hq; exact h⟩
  | 18 =>
    obtain ⟨cC, iS, h⟩ := u_known (C := RJ2) (T := TJ2) (N := 3) hts in_J2 (hts _ q190)
    exact ⟨(cC, iS), fun q hq => by cases hq; exact h⟩
  | 19 =>
    obtain ⟨cC, iS, h⟩ := u_known (C := RJ5) (T := TJ5) (N := 4) hts in_J5 (hts _ q359)
    exact ⟨(cC, iS), fun q hq => by cases hq; exact h⟩
  | 20 =>
    obtain ⟨cC, iS, h⟩ := u_known (C := RJ6) (T := TJ6) (N := 4) hts in_J6 (hts _ q489)
    exact ⟨(cC, iS), fun q hq => by cases hq; exact h⟩
  | 21 =>
    obtain ⟨cC, iS, h⟩ := u_known (C := RJ19) (T := TJ19) (N := 1) hts in_J19 (hts _ q1496)
    exact ⟨(cC, iS), fun q hq => by cases hq; exact h⟩
  | 22 =>
    obtain ⟨cC, iS, h⟩ := u_known (C := RJ21) (T := TJ21) (N := 6) hts in_J21 (hts _ q1859)
    exact ⟨(cC, iS), fun q hq => by cases hq; exact h⟩
  | 23 =>
    obtain ⟨cC, iS, h⟩ := u_known (C := RJ21) (T := TX15) (N := 0) hts (fun _ h => absurd h List.not_mem_nil) (hts _ q1859)
    exact ⟨(cC, iS), fun q hq => by cases hq; exact h⟩
  | n + 24 => exact ⟨(0, fun _ => 0), fun q hq => absurd hq (by simp [gCl])⟩
theorem st_D {args : Array Value} {s : State} (hts : ∀ w ∈ lw_all, w.before args s = true) : ∃ D : va_G, ∀ (c : Nat) (q : vw_C), gCl[c]? = some q → u_Kn s q.1 q.2.1 q.2.2 (D.1 c) (D.2 c) :=
  ⟨(fun c => (Classical.choose (st_cl hts c)).1, fun c => (Classical.choose (st_cl hts c)).2), fun c q hq => Classical.choose_spec (st_cl hts c) q hq⟩
theorem st_arr {args : Array Value} {s : State} {ty : FieldType} (hty : ∀ n, ty ≠ .object n) (h : (Cond.arrayClass ty).before args s = true) : ∃ cA : ClassId, ArrOfT s cA ty ∧ va_RA s cA ty := by
  obtain ⟨c, k, comp, h1, h2, h3⟩ := Cond.arrayClass_spec h
  refine ⟨c, fun n z => ⟨fun k h => (by cases h), k, h2, comp, h3⟩, ?_⟩
  cases ty with
  | object C => exact absurd rfl (hty C)
  | _ => exact h1
theorem st_ova {args : Array Value} {s : State} {C : String} (h : (Cond.arrayOver (.object C)).before args s = true) : ∃ cA : ClassId, ArrOfT s cA (.object C) ∧ va_RA s cA (.object C) := by
  obtain ⟨comp, c, k, h1, -, h3, h4, h5⟩ := Cond.arrayOver_spec h
  exact ⟨c, fun n z => ⟨fun k h => (by cases h), k, h3, comp, h4⟩, k, comp, h3, h4, h1, h5⟩
theorem st_T {args : Array Value} {s : State} (hts : ∀ w ∈ lw_tbl, w.before args s = true) : uT s := fun w hw hn => va_Nw.of (uNest_on hn) (hts w hw)
/-- a private method is its own choice, whatever the receiver's class -/
theorem st_priv {args : Array Value} {s : State} {C : String} {y : MethodName} {n : Nat} (hy : y.cls ≠ "java/lang/invoke/MethodHandle" ∧ y.cls ≠ "java/lang/invoke/VarHandle") (hins : (Cond.instantiable C n).before args s = true) (hpriv : (Cond.privateMethod y).before args s = true) (hinst : (Cond.instanceMethod y).before args s = true) {y0 : MethodName} (h0 : y0.cls = y.cls) (hy0 : y0.cls ≠ "java/lang/invoke/MethodHandle" ∧ y0.cls ≠ "java/lang/invoke/VarHandle") (hin0 : (Cond.instanceMethod y0).before args s = true) (hs0 : (Cond.selects C y0 y0).before args s = true) : (Cond.selects C y y).before args s = true := by
  obtain ⟨c, k, hc, hk, -, -⟩ := Cond.instantiable_spec hins
  obtain ⟨mk, methM, hnamed, hmethM, -, -⟩ := Cond.instanceMethod_spec hinst
  obtain ⟨mk0, methM0, hnamed0, hmethM0, -, -⟩ := Cond.instanceMethod_spec hin0
  have hfound : s.methodFound? y.cls y.name y.desc = some mk := State.methodFound?_of_named hnamed hy
  obtain ⟨c2, r2, m2, q1, q2, q3, q4, kP, hkP, hkPi⟩ := Cond.selects_spec hs0
  cases (State.methodFound?_of_named hnamed0 hy0).symm.trans q2
  cases hnamed0.symm.trans q3
  have hcls : mk.cls = mk0.cls := Option.some.inj ((findClass_of_methodNamed hnamed).symm.trans (h0 ▸ findClass_of_methodNamed hnamed0))
  have hsel : selectMethod {} s.vm c mk = .method mk := selectMethod_private hmethM (Cond.privateMethod_at hpriv mk methM hnamed hmethM)
  simp only [Cond.before, Cond.holds, Cond.value, hc, hfound, hnamed, hsel, hcls]
  simp
  have hkP' : s.vm.classes[mk0.cls]? = some kP := hkP
  rw [hkP']
  simp [hkPi]
theorem st_I {args : Array Value} {s : State} (hts : ∀ w ∈ lw_tbl, w.before args s = true) : uI s := by
  refine ⟨?_, va_AO.of (hts _ q988), va_AO.of (hts _ q1133), ?_⟩
  · have key : ∀ q ∈ gFw, Cond.declares q.2.1 ∈ lw_tbl ∧ Cond.interfaceMethod q.2.1.cls q.2.1.cls q.2.1.name q.2.1.desc ∈ lw_tbl ∧ Cond.publicMethod q.2.2 ∈ lw_tbl ∧ Cond.unhidden q.1 q.2.1.name q.2.1.desc ∈ lw_tbl ∧ Cond.castable q.1 q.2.1.cls ∈ lw_tbl := by decide +kernel
    intro q hq
    obtain ⟨k1, k2, k3, k4, k5⟩ := key q hq
    exact va_Fw.of (hts _ k1) (hts _ k2) (hts _ k3) (hts _ k4) (hts _ k5)
  · intro y hy
    simp only [gSB, List.mem_cons, List.not_mem_nil, or_false] at hy
    refine va_Nw.of rfl (A := args) ?_
    rcases hy with rfl | rfl
    · exact st_priv (n := 4) (by decide +kernel) (hts _ (lw_all_tbl q359)) (hts _ q397) (hts _ (lw_all_tbl q398)) (y0 := yJ4_isLatin1) rfl (by decide +kernel) (hts _ (lw_all_tbl q432)) (hts _ (lw_all_tbl q434))
    · exact st_priv (n := 4) (by decide +kernel) (hts _ (lw_all_tbl q359)) (hts _ q401) (hts _ (lw_all_tbl q402)) (y0 := yJ4_isLatin1) rfl (by decide +kernel) (hts _ (lw_all_tbl q432)) (hts _ (lw_all_tbl q434))
/-- what the tables say at the start -/
theorem st_K {args : Array Value} {s : State} (c7 : ClassId) (hts : ∀ w ∈ lw_tbl, w.before args s = true) : ∃ (D : va_G) (AC : Nat → ClassId), AC 7 = c7 ∧ ∀ (b : Nat) (g : uEnv), uK (D, AC, b, g) s := by
  have hta : ∀ w ∈ lw_all, w.before args s = true := fun w h => hts w (lw_all_tbl h)
  obtain ⟨D, hD⟩ := st_D hta
  obtain ⟨c0, a0, r0⟩ := st_arr (ty := .int) (fun n h => by cases h) (hta _ q188)
  obtain ⟨c1, a1, r1⟩ := st_arr (ty := .byte) (fun n h => by cases h) (hta _ q185)
  obtain ⟨c2, a2, r2⟩ := st_arr (ty := .boolean) (fun n h => by cases h) (hta _ q187)
  obtain ⟨c3, a3, r3⟩ := st_arr (ty := .long) (fun n h => by cases h) (hta _ q186)
  obtain ⟨c4, a4, r4⟩ := st_ova (C := "java/lang/Object") (hts _ q988)
  obtain ⟨c5, a5, r5⟩ := st_ova (C := "SoftWheels$Way") (hts _ q1130)
  obtain ⟨c6, a6, r6⟩ := st_ova (C := "SoftWheels$Doubt") (hts _ q1133)
  refine ⟨D, fun k => match k with | 0 => c0 | 1 => c1 | 2 => c2 | 3 => c3 | 4 => c4 | 5 => c5 | 6 => c6 | _ => c7, rfl, fun b g => ⟨⟨hD, fun k q hk => ?_⟩, st_T hts, st_I hts⟩⟩
  match k, hk with
  | 0, hk => cases hk; exact ⟨a0, r0⟩
  | 1, hk => cases hk; exact ⟨a1, r1⟩
  | 2, hk => cases hk; exact ⟨a2, r2⟩
  | 3, hk => cases hk; exact ⟨a3, r3⟩
  | 4, hk => cases hk; exact ⟨a4, r4⟩
  | 5, hk => cases hk; exact ⟨a5, r5⟩
  | 6, hk => cases hk; exact ⟨a6, r6⟩
  | n + 7, hk => cases hk

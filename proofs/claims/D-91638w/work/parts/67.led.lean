/-! BY gen_heap.py: X1_led -/
def f_X1_led (N b : Nat) (g : uEnv) (u : UH) (a0 : Nat) (x1 : Int32) : Option (Int32 × UH) :=
    (uGR u a0 0 9).bind fun o1 =>
    (o1).bind fun a2 =>
    if uIs u a2 18 = true then
    ucall (f_J2_size N b g u a2) fun r6 u4 =>
    ucall (f_X1_in N b g u4 x1 0 (r6 - 1)) fun r9 u7 =>
    if r9 = 0 then
    none
    else
    (uGR u7 a0 0 9).bind fun o11 =>
    (o11).bind fun a12 =>
    if uIs u7 a12 18 = true then
    ucall (f_J2_get N b g u7 a12 x1) fun o16 u14 =>
    (o16).bind fun a17 =>
    if uIs u14 a17 21 = true then
    if uIs u14 a17 21 = true then
    ucall (f_J19_intValue N b g u14 a17) fun r22 u20 =>
    some (r22, u20)
    else none
    else none
    else none
    else none
set_option maxHeartbeats 4000000 in
set_option maxRecDepth 100000 in
theorem zz_X1_led_0 {G : uG} {a0 : Nat} {uf : UH} {r : Int32} (N : Nat) (u : UH) (x1 : Int32) (h : f_X1_led N (ub G) (ug G) u a0 x1 = some (r, uf)) : uf.1 = u.1 ∧ uf.2.1 = u.2.1 := by
  unfold f_X1_led at h
  obtain ⟨o1, ho1, h⟩ := mbind_n h
  obtain ⟨a2, ha2, hha2⟩ := mbind_n h
  subst ha2
  have h := hha2
  obtain ⟨c3, h⟩ := mif_n h
  obtain ⟨r6, u4, c5, h⟩ := ucall_n h
  have zu4 := zz_J2_size N (ub G) (ug G) u a2 r6 u4 c5
  obtain ⟨r9, u7, c8, h⟩ := ucall_n h
  have zu7 := zz_X1_in N (ub G) (ug G) u4 x1 0 (r6 - 1) r9 u7 c8
  by_cases c10 : r9 = 0
  · have h := mif_t c10 h
    cases h
  · have h := mif_f c10 h
    obtain ⟨o11, ho11, h⟩ := mbind_n h
    obtain ⟨a12, ha12, hha12⟩ := mbind_n h
    subst ha12
    have h := hha12
    obtain ⟨c13, h⟩ := mif_n h
    obtain ⟨o16, u14, c15, h⟩ := ucall_n h
    have zu14 := zz_J2_get N (ub G) (ug G) u7 a12 x1 o16 u14 c15
    obtain ⟨a17, ha17, hha17⟩ := mbind_n h
    subst ha17
    have h := hha17
    obtain ⟨c18, h⟩ := mif_n h
    obtain ⟨c19, h⟩ := mif_n h
    obtain ⟨r22, u20, c21, h⟩ := ucall_n h
    have zu20 := zz_J19_intValue N (ub G) (ug G) u14 a17 r22 u20 c21
    obtain ⟨hr1, hr2⟩ := uret_n h
    subst hr2
    exact ⟨by omega, by omega⟩
set_option maxHeartbeats 4000000 in
set_option maxRecDepth 100000 in
theorem w_X1_led_0 {p : Program} {l : Launch} {e : Env} {R : Room} {s : State} {m : MethodId} {args : Array Value} {below : List Frame} {meth : Method} {c : Code} {G : uG} {a0 : Nat} {uf : UH} {r : Int32} (hC : uC p s m args meth c G RX1 cX1_led 2 (some .int)) (hR : 8 ≤ R.frames ∧ 120 ≤ R.locals) (N : Nat) (u : UH) (x1 : Int32) (h : f_X1_led N (ub G) (ug G) u a0 x1 = some (r, uf)) {H : Heap} {locs : List Loc} (hP : uP G u H) (hS : va_S (uA G) s.heap H locs) {ls : Array Slot} (hl : lv_has ls 2 [(0, va_rf (some a0)), (1, .int x1)]) : W p l e R s m args below meth c H locs 0 0 (MQ below (uQi G r uf) args s 0 0 (uA G)) (F0 m 0 ls []) := by
  obtain ⟨⟨hx, hb, hml, hown, hts⟩, hKK⟩ := id hC
  unfold f_X1_led at h
  refine lv_iload_n hx hb dX1_led_0 rfl (lv_at hl 1 rfl) ?_
  refine lv_iconst (v := 0) hx hb dX1_led_1 (by decide) ?_
  refine u_aload_n (r := some a0) hx hb dX1_led_2 rfl (lv_at hl 0 rfl) ?_
  obtain ⟨o1, ho1, h⟩ := mbind_n h
  refine u_get hC hP (uGR_n ho1) rfl in_X1 (by decide) q224 (fun _ h => h) dX1_led_3 ?_
  obtain ⟨a2, ha2, hha2⟩ := mbind_n h
  subst ha2
  have h := hha2
  obtain ⟨c3, h⟩ := mif_n h
  obtain ⟨r6, u4, c5, h⟩ := ucall_n h
  have zu4 := zz_J2_size N (ub G) (ug G) u a2 r6 u4 c5
  refine u_calli (va_runV (As := []) (rest := [.int 0, .int x1]) hC.1 (met_J2_size l N G u a2 r6 u4 c5) (cwV 0 hts (lw_V q1063 q894 q895 q102 q896) rfl rfl rfl (by decide +kernel) ⟨Nat.le_trans (Nat.le_of_ble_eq_true rfl) hR.1, Nat.le_trans (Nat.le_of_ble_eq_true rfl) hR.2⟩) ⟨uPc_blind, u_rcv hC hP c3 rfl, fun U hU hW => u_pre hC hP hS hU hW⟩ rfl rfl hl.1 rfl (lv_room (Nat.le_of_ble_eq_true rfl)) dX1_led_6 ⟨Nat.zero_le _, Nat.zero_le _⟩) hS (fun H locs hP hS => ?_)
  refine lv_iconst (v := 1) hx hb dX1_led_9 (by decide) ?_
  refine lv_isub hx hb dX1_led_10 ?_
  obtain ⟨r9, u7, c8, h⟩ := ucall_n h
  have zu7 := zz_X1_in N (ub G) (ug G) u4 x1 0 (r6 - 1) r9 u7 c8
  refine u_calli (va_runS (As := [.int x1, .int 0, .int (r6 - 1)]) (rest := []) hC.1 (met_X1_in l N G u4 x1 0 (r6 - 1) r9 u7 c8) (va_cwS 3 hts (lw_S q273 q274 q98 q275) rfl rfl rfl (by decide +kernel) ⟨Nat.le_trans (Nat.le_of_ble_eq_true rfl) hR.1, Nat.le_trans (Nat.le_of_ble_eq_true rfl) hR.2⟩) ⟨uPc_blind, fun U hU hW => u_pre hC hP hS hU hW⟩ rfl rfl hl.1 rfl (lv_room (Nat.le_of_ble_eq_true rfl)) dX1_led_11 ⟨Nat.zero_le _, Nat.zero_le _⟩) hS (fun H locs hP hS => ?_)
  refine lv_if_ne (tgt := 25) hx hb dX1_led_14 (by decide) (fun c10 => ?_) (fun c10 => ?_)
  · have h := mif_f c10 h
    refine u_aload_n (r := some a0) hx hb dX1_led_25 rfl (lv_at hl 0 rfl) ?_
    obtain ⟨o11, ho11, h⟩ := mbind_n h
    refine u_get hC hP (uGR_n ho11) rfl in_X1 (by decide) q224 (fun _ h => h) dX1_led_26 ?_
    refine lv_iload_n hx hb dX1_led_29 rfl (lv_at hl 1 rfl) ?_
    obtain ⟨a12, ha12, hha12⟩ := mbind_n h
    subst ha12
    have h := hha12
    obtain ⟨c13, h⟩ := mif_n h
    obtain ⟨o16, u14, c15, h⟩ := ucall_n h
    have zu14 := zz_J2_get N (ub G) (ug G) u7 a12 x1 o16 u14 c15
    refine u_callr (va_runV (As := [.int x1]) (rest := []) hC.1 (met_J2_get l N G u7 a12 x1 o16 u14 c15) (cwV 1 hts (lw_V q1084 q898 q899 q102 q900) rfl rfl rfl (by decide +kernel) ⟨Nat.le_trans (Nat.le_of_ble_eq_true rfl) hR.1, Nat.le_trans (Nat.le_of_ble_eq_true rfl) hR.2⟩) ⟨uPc_blind, u_rcv hC hP c13 rfl, fun U hU hW => u_pre hC hP hS hU hW⟩ rfl rfl hl.1 rfl (lv_room (Nat.le_of_ble_eq_true rfl)) dX1_led_30 ⟨Nat.zero_le _, Nat.zero_le _⟩) hS (fun H locs hP hS => ?_)
    obtain ⟨a17, ha17, hha17⟩ := mbind_n h
    subst ha17
    have h := hha17
    obtain ⟨c18, h⟩ := mif_n h
    refine u_castS hC hP c18 rfl q1881 dX1_led_33 ?_
    obtain ⟨c19, h⟩ := mif_n h
    obtain ⟨r22, u20, c21, h⟩ := ucall_n h
    have zu20 := zz_J19_intValue N (ub G) (ug G) u14 a17 r22 u20 c21
    refine u_calli (va_runV (As := []) (rest := []) hC.1 (met_J19_intValue l N G u14 a17 r22 u20 c21) (cwV 0 hts (lw_V q1882 q1883 q1884 q136 q1885) rfl rfl rfl (by decide +kernel) ⟨Nat.le_trans (Nat.le_of_ble_eq_true rfl) hR.1, Nat.le_trans (Nat.le_of_ble_eq_true rfl) hR.2⟩) ⟨uPc_blind, u_rcv hC hP c19 rfl, fun U hU hW => u_pre hC hP hS hU hW⟩ rfl rfl hl.1 rfl (lv_room (Nat.le_of_ble_eq_true rfl)) dX1_led_36 ⟨Nat.zero_le _, Nat.zero_le _⟩) hS (fun H locs hP hS => ?_)
    obtain ⟨hr1, hr2⟩ := uret_n h
    subst hr1
    subst hr2
    exact u_iret hC hP hS dX1_led_39
  · have h := mif_t c10 h
    cases h
theorem zz_X1_led (N b : Nat) (g : uEnv) (u : UH) (a0 : Nat) (x1 : Int32) (r : Int32) (uf : UH) (h : f_X1_led N b g u a0 x1 = some (r, uf)) : uf.1 = u.1 ∧ uf.2.1 = u.2.1 :=
  zz_X1_led_0 (G := ((fun _ => 0, fun _ _ => 0), fun _ => 0, b, g)) (a0 := a0) N u x1 h
theorem met_X1_led (l : Launch) (N : Nat) (G : uG) (u : UH) (a0 : Nat) (x1 : Int32) (r : Int32) (uf : UH) (h : f_X1_led N (ub G) (ug G) u a0 x1 = some (r, uf)) : Met l yX1_led (ws_ yX1_led cX1_led 2 (some .int)) ({ frames := 8, cells := 0, slots := 0, locals := 120 }) (uPc G u [.ref a0, .int x1]) (uQi G r uf) 0 0 (uA G) := by
  exact u_met (own := RX1) (by decide +kernel) rfl (Nat.le_of_ble_eq_true rfl) (fun hC hn hsz ls hl hP => w_X1_led_0 hC ⟨Nat.le_refl _, Nat.le_refl _⟩ N u x1 h hP va_S.rf hl)
/-! led with its exception: what it throws is pictured as an object of place 23, without fields -/
def f_X1_ledx (N b : Nat) (g : uEnv) (u : UH) (a0 : Nat) (x1 : Int32) : Option ((Nat × UH) ⊕ (Int32 × UH)) :=
  (uGR u a0 0 9).bind fun o1 =>
  (o1).bind fun a2 =>
  if uIs u a2 18 = true then
  (uGI u a2 18 2).bind fun n =>
  if x1 < 0 ∨ n - 1 < x1 then some (.inl (u.1, uNew u 6 (.inr (23, []))))
  else (f_X1_led N b g u a0 x1).bind fun q => some (.inr q)
  else none
theorem f_X1_ledx_r {N b : Nat} {g : uEnv} {u : UH} {a0 : Nat} {x1 r : Int32} {uf : UH} (h : f_X1_ledx N b g u a0 x1 = some (.inr (r, uf))) : f_X1_led N b g u a0 x1 = some (r, uf) := by
  unfold f_X1_ledx at h
  obtain ⟨o1, -, h⟩ := mbind_n h
  obtain ⟨a2, -, h⟩ := mbind_n h
  obtain ⟨-, h⟩ := mif_n h
  obtain ⟨n, -, h⟩ := mbind_n h
  by_cases hc : x1 < 0 ∨ n - 1 < x1
  · have h := mif_t hc h
    cases Option.some.inj h
  · have h := mif_f hc h
    obtain ⟨q, hq, h⟩ := mbind_n h
    have h1 := Option.some.inj h
    have h2 : q = (r, uf) := Sum.inr.inj h1
    rw [hq, h2]
theorem zz_X1_ledx (N b : Nat) (g : uEnv) (u : UH) (a0 : Nat) (x1 : Int32) (z : (Nat × UH) ⊕ (Int32 × UH)) (h : f_X1_ledx N b g u a0 x1 = some z) : u.1 ≤ (uX1 z).1 ∧ u.2.1 ≤ (uX1 z).2.1 := by
  rcases z with ⟨x, uf⟩ | ⟨r, uf⟩
  · unfold f_X1_ledx at h
    obtain ⟨o1, -, h⟩ := mbind_n h
    obtain ⟨a2, -, h⟩ := mbind_n h
    obtain ⟨-, h⟩ := mif_n h
    obtain ⟨n, -, h⟩ := mbind_n h
    by_cases hc : x1 < 0 ∨ n - 1 < x1
    · have h := mif_t hc h
      have h1 : (u.1, uNew u 6 (.inr (23, []))) = (x, uf) := Sum.inl.inj (Option.some.inj h)
      have h2 : uNew u 6 (.inr (23, [])) = uf := congrArg Prod.snd h1
      subst h2
      exact (show u.1 ≤ u.1 + 1 ∧ u.2.1 ≤ u.2.1 + 6 from ⟨by omega, by omega⟩)
    · have h := mif_f hc h
      obtain ⟨q, hq, h⟩ := mbind_n h
      cases Option.some.inj h
  · have h1 := zz_X1_led N b g u a0 x1 r uf (f_X1_ledx_r h)
    exact (show u.1 ≤ uf.1 ∧ u.2.1 ≤ uf.2.1 from ⟨by omega, by omega⟩)
theorem met_X1_ledx (l : Launch) (N : Nat) (G : uG) (u : UH) (a0 : Nat) (x1 : Int32) (r : Int32) (uf : UH) (h : f_X1_ledx N (ub G) (ug G) u a0 x1 = some (.inr (r, uf))) : Met l yX1_led (ws_ yX1_led cX1_led 2 (some .int)) ({ frames := 8, cells := (uf.1 - u.1), slots := (uf.2.1 - u.2.1), locals := 120 }) (uPc G u [.ref a0, .int x1]) (uQi G r uf) (uf.1 - u.1) (uf.2.1 - u.2.1) (uA G) := by
  have h0 := f_X1_ledx_r h
  have h1 := zz_X1_led N _ _ u a0 x1 r uf h0
  have e1 : uf.1 - u.1 = 0 := by omega
  have e2 : uf.2.1 - u.2.1 = 0 := by omega
  rw [e1, e2]
  exact met_X1_led l N G u a0 x1 r uf h0
/-- that led throws as it should: proved from 'no stack traces' -/
def uLedOK (l : Launch) : Prop := ∀ (N : Nat) (G : uG) (u : UH) (a0 : Nat) (x1 : Int32) (x : Nat) (uf : UH), f_X1_ledx N (ub G) (ug G) u a0 x1 = some (.inl (x, uf)) → uMX l yX1_led (ws_ yX1_led cX1_led 2 (some .int)) ({ frames := 8, cells := (uf.1 - u.1), slots := (uf.2.1 - u.2.1), locals := 120 }) G u [.ref a0, .int x1] x uf (uf.1 - u.1) (uf.2.1 - u.2.1)
def f_X0_led_7 (N b : Nat) (g : uEnv) (u : UH) (s0 : Int32) (s1 : Int32) (s2 : Option Nat) : Option (Int32 × UH) :=
    (s2).bind fun a1 =>
    (uStL b u a1 3 s1 (s0.toInt64)).bind fun u2 =>
    some (0, u2)
set_option maxHeartbeats 4000000 in
set_option maxRecDepth 100000 in
theorem zz_X0_led_7 {G : uG} {uf : UH} {r : Int32} (N : Nat) (u : UH) (s0 : Int32) (s1 : Int32) (s2 : Option Nat) (h : f_X0_led_7 N (ub G) (ug G) u s0 s1 s2 = some (r, uf)) : u.1 ≤ uf.1 ∧ u.2.1 ≤ uf.2.1 := by
  unfold f_X0_led_7 at h
  obtain ⟨a1, ha1, hha1⟩ := mbind_n h
  subst ha1
  have h := hha1
  obtain ⟨u2, hu2, h⟩ := mbind_n h
  have zu2 := uStL_sz hu2
  obtain ⟨hr1, hr2⟩ := uret_n h
  subst hr2
  exact ⟨by omega, by omega⟩
set_option maxHeartbeats 4000000 in
set_option maxRecDepth 100000 in
theorem w_X0_led_7 {p : Program} {l : Launch} {e : Env} {R : Room} {s : State} {m : MethodId} {args : Array Value} {below : List Frame} {meth : Method} {c : Code} {G : uG} {u0 : UH} {uf : UH} {r : Int32} (hC : uC p s m args meth c G RX0 cX0_led 4 (some .int)) (hE : c.exceptionTable.toList = [{ startPc := 0, endPc := 9, handlerPc := 12, catchType := 13 }]) (hled : uLedOK l) (hR : 9 ≤ R.frames ∧ 141 ≤ R.locals) (hRm : uf.1 - u0.1 ≤ R.cells ∧ uf.2.1 - u0.2.1 ≤ R.slots) (N : Nat) (u : UH) (s0 : Int32) (s1 : Int32) (s2 : Option Nat) (h : f_X0_led_7 N (ub G) (ug G) u s0 s1 s2 = some (r, uf)) (hz0 : (u0.1 ≤ u.1 ∧ u0.2.1 ≤ u.2.1)) {H : Heap} {locs : List Loc} (hP : uP G u H) (hS : va_S (uA G) s.heap H locs) {ls : Array Slot} (hl : lv_has ls 4 []) : W p l e R s m args below meth c H locs (u.1 - u0.1) (u.2.1 - u0.2.1) (MQ below (uQi G r uf) args s (uf.1 - u0.1) (uf.2.1 - u0.2.1) (uA G)) (F0 m 7 ls [.int s0, .int s1, va_rf s2]) := by
  obtain ⟨⟨hx, hb, hml, hown, hts⟩, hKK⟩ := id hC
  have hzf := zz_X0_led_7 (G := G) N u s0 s1 s2 h
  unfold f_X0_led_7 at h
  refine lv_i2l (v := s0.toInt64) hx hb dX0_led_7 rfl ?_
  obtain ⟨a1, ha1, hha1⟩ := mbind_n h
  subst ha1
  have h := hha1
  obtain ⟨u2, hu2, h⟩ := mbind_n h
  have zu2 := uStL_sz hu2
  refine u_last hC hP hS hu2 rfl dX0_led_8 (fun H locs hP hS => ?_)
  refine W.cs (cells' := u2.1 - u0.1) (slots' := u2.2.1 - u0.2.1) (by omega) (by omega) ?_
  refine lv_goto (tgt := 15) hx hb dX0_led_9 (by decide) ?_
  refine lv_iconst (v := 0) hx hb dX0_led_15 (by decide) ?_
  obtain ⟨hr1, hr2⟩ := uret_n h
  subst hr1
  subst hr2
  exact u_iret hC hP hS dX0_led_16
def f_X0_led_12 (N b : Nat) (g : uEnv) (u : UH) (s0 : Option Nat) : Option (Int32 × UH) :=
    some (1, u)
set_option maxHeartbeats 4000000 in
set_option maxRecDepth 100000 in
theorem zz_X0_led_12 {G : uG} {uf : UH} {r : Int32} (N : Nat) (u : UH) (s0 : Option Nat) (h : f_X0_led_12 N (ub G) (ug G) u s0 = some (r, uf)) : u.1 ≤ uf.1 ∧ u.2.1 ≤ uf.2.1 := by
  unfold f_X0_led_12 at h
  obtain ⟨hr1, hr2⟩ := uret_n h
  subst hr2
  exact ⟨by omega, by omega⟩
set_option maxHeartbeats 4000000 in
set_option maxRecDepth 100000 in
theorem w_X0_led_12 {p : Program} {l : Launch} {e : Env} {R : Room} {s : State} {m : MethodId} {args : Array Value} {below : List Frame} {meth : Method} {c : Code} {G : uG} {u0 : UH} {uf : UH} {r : Int32} (hC : uC p s m args meth c G RX0 cX0_led 4 (some .int)) (hE : c.exceptionTable.toList = [{ startPc := 0, endPc := 9, handlerPc := 12, catchType := 13 }]) (hled : uLedOK l) (hR : 9 ≤ R.frames ∧ 141 ≤ R.locals) (hRm : uf.1 - u0.1 ≤ R.cells ∧ uf.2.1 - u0.2.1 ≤ R.slots) (N : Nat) (u : UH) (s0 : Option Nat) (h : f_X0_led_12 N (ub G) (ug G) u s0 = some (r, uf)) (hz0 : (u0.1 ≤ u.1 ∧ u0.2.1 ≤ u.2.1)) {H : Heap} {locs : List Loc} (hP : uP G u H) (hS : va_S (uA G) s.heap H locs) {ls : Array Slot} (hl : lv_has ls 4 []) : W p l e R s m args below meth c H locs (u.1 - u0.1) (u.2.1 - u0.2.1) (MQ below (uQi G r uf) args s (uf.1 - u0.1) (uf.2.1 - u0.2.1) (uA G)) (F0 m 12 ls [va_rf s0]) := by
  obtain ⟨⟨hx, hb, hml, hown, hts⟩, hKK⟩ := id hC
  have hzf := zz_X0_led_12 (G := G) N u s0 h
  unfold f_X0_led_12 at h
  refine u_astore_n (i := 3) (r := s0) (lv' := [(3, va_rf s0)]) hx hb dX0_led_12 rfl hl (by decide) rfl (fun ls hl => ?_)
  refine lv_iconst (v := 1) hx hb dX0_led_13 (by decide) ?_
  obtain ⟨hr1, hr2⟩ := uret_n h
  subst hr1
  subst hr2
  exact u_iret hC hP hS dX0_led_14
def f_X0_led (N b : Nat) (g : uEnv) (u : UH) (x0 : Option Nat) (x1 : Int32) (x2 : Option Nat) : Option (Int32 × UH) :=
    (x0).bind fun a1 =>
    if uIs u a1 0 = true then
    uxcall (f_X1_ledx N b g u a1 x1) (fun a6 u7 =>
    if uIs u7 a6 23 = true then f_X0_led_12 N b g u7 (some a6) else none) fun r5 u3 =>
    f_X0_led_7 N b g u3 r5 0 x2
    else none
set_option maxHeartbeats 4000000 in
set_option maxRecDepth 100000 in
theorem zz_X0_led_0 {G : uG} {uf : UH} {r : Int32} (N : Nat) (u : UH) (x0 : Option Nat) (x1 : Int32) (x2 : Option Nat) (h : f_X0_led N (ub G) (ug G) u x0 x1 x2 = some (r, uf)) : u.1 ≤ uf.1 ∧ u.2.1 ≤ uf.2.1 := by
  unfold f_X0_led at h
  obtain ⟨a1, ha1, hha1⟩ := mbind_n h
  subst ha1
  have h := hha1
  obtain ⟨c2, h⟩ := mif_n h
  rcases uxcall_n h with ⟨a6, u7, c8, h⟩ | ⟨r5, u3, c4, h⟩
  · have zu7 : u.1 ≤ u7.1 ∧ u.2.1 ≤ u7.2.1 := zz_X1_ledx N (ub G) (ug G) u a1 x1 (.inl (a6, u7)) c8
    obtain ⟨c9, h⟩ := mif_n h
    have hq := zz_X0_led_12 (G := G) N u7 (some a6) h
    exact ⟨by omega, by omega⟩
  · have zu3 : u.1 ≤ u3.1 ∧ u.2.1 ≤ u3.2.1 := zz_X1_ledx N (ub G) (ug G) u a1 x1 (.inr (r5, u3)) c4
    have hq := zz_X0_led_7 (G := G) N u3 r5 0 x2 h
    exact ⟨by omega, by omega⟩
set_option maxHeartbeats 4000000 in
set_option maxRecDepth 100000 in
theorem w_X0_led_0 {p : Program} {l : Launch} {e : Env} {R : Room} {s : State} {m : MethodId} {args : Array Value} {below : List Frame} {meth : Method} {c : Code} {G : uG} {u0 : UH} {uf : UH} {r : Int32} (hC : uC p s m args meth c G RX0 cX0_led 4 (some .int)) (hE : c.exceptionTable.toList = [{ startPc := 0, endPc := 9, handlerPc := 12, catchType := 13 }]) (hled : uLedOK l) (hR : 9 ≤ R.frames ∧ 141 ≤ R.locals) (hRm : uf.1 - u0.1 ≤ R.cells ∧ uf.2.1 - u0.2.1 ≤ R.slots) (N : Nat) (u : UH) (x0 : Option Nat) (x1 : Int32) (x2 : Option Nat) (h : f_X0_led N (ub G) (ug G) u x0 x1 x2 = some (r, uf)) (hz0 : (u0.1 ≤ u.1 ∧ u0.2.1 ≤ u.2.1)) {H : Heap} {locs : List Loc} (hP : uP G u H) (hS : va_S (uA G) s.heap H locs) {ls : Array Slot} (hl : lv_has ls 4 [(0, va_rf x0), (1, .int x1), (2, va_rf x2)]) : W p l e R s m args below meth c H locs (u.1 - u0.1) (u.2.1 - u0.2.1) (MQ below (uQi G r uf) args s (uf.1 - u0.1) (uf.2.1 - u0.2.1) (uA G)) (F0 m 0 ls []) := by
  obtain ⟨⟨hx, hb, hml, hown, hts⟩, hKK⟩ := id hC
  have hzf := zz_X0_led_0 (G := G) N u x0 x1 x2 h
  unfold f_X0_led at h
  refine u_aload_n (r := x2) hx hb dX0_led_0 rfl (lv_at hl 2 rfl) ?_
  refine lv_iconst (v := 0) hx hb dX0_led_1 (by decide) ?_
  refine u_aload_n (r := x0) hx hb dX0_led_2 rfl (lv_at hl 0 rfl) ?_
  refine lv_iload_n hx hb dX0_led_3 rfl (lv_at hl 1 rfl) ?_
  obtain ⟨a1, ha1, hha1⟩ := mbind_n h
  subst ha1
  have h := hha1
  obtain ⟨c2, h⟩ := mif_n h
  rcases uxcall_n h with ⟨a6, u7, c8, h⟩ | ⟨r5, u3, c4, h⟩
  · have zu7 : u.1 ≤ u7.1 ∧ u.2.1 ≤ u7.2.1 := zz_X1_ledx N (ub G) (ug G) u a1 x1 (.inl (a6, u7)) c8
    obtain ⟨c9, h⟩ := mif_n h
    have hq := zz_X0_led_12 (G := G) N u7 (some a6) h
    refine u_callC hC hE (by decide) rfl (by decide) rfl (ci := 23) rfl q1853 c9 (u_runVX (As := [.int x1]) (rest := [.int 0, va_rf x2]) hC.1 (hled N G u a1 x1 a6 u7 c8) (cwV 1 hts (lw_V q1854 q1855 q1856 q98 q1857) rfl rfl rfl (by decide +kernel) ⟨Nat.le_trans (Nat.le_of_ble_eq_true rfl) hR.1, Nat.le_trans (Nat.le_of_ble_eq_true rfl) hR.2⟩) ⟨uPc_blind, u_rcv hC hP c2 rfl, fun U hU hW => u_pre hC hP hS hU hW⟩ rfl rfl hl.1 rfl (lv_room (by simp only [List.map, u_cat]; exact Nat.le_of_ble_eq_true rfl)) dX0_led_4 ⟨by omega, by omega⟩) hS (fun H locs hP hS => ?_)
    refine W.cs (cells' := u7.1 - u0.1) (slots' := u7.2.1 - u0.2.1) (by omega) (by omega) ?_
    exact w_X0_led_12 hC hE hled hR hRm N u7 (some a6) h ⟨by omega, by omega⟩ hP hS (lv_sub hl [] rfl)
  · have zu3 : u.1 ≤ u3.1 ∧ u.2.1 ≤ u3.2.1 := zz_X1_ledx N (ub G) (ug G) u a1 x1 (.inr (r5, u3)) c4
    have hq := zz_X0_led_7 (G := G) N u3 r5 0 x2 h
    refine u_calli (va_runV (As := [.int x1]) (rest := [.int 0, va_rf x2]) hC.1 (met_X1_ledx l N G u a1 x1 r5 u3 c4) (cwV 1 hts (lw_V q1854 q1855 q1856 q98 q1857) rfl rfl rfl (by decide +kernel) ⟨Nat.le_trans (Nat.le_of_ble_eq_true rfl) hR.1, Nat.le_trans (Nat.le_of_ble_eq_true rfl) hR.2⟩) ⟨uPc_blind, u_rcv hC hP c2 rfl, fun U hU hW => u_pre hC hP hS hU hW⟩ rfl rfl hl.1 rfl (lv_room (by simp only [List.map, u_cat]; exact Nat.le_of_ble_eq_true rfl)) dX0_led_4 ⟨by omega, by omega⟩) hS (fun H locs hP hS => ?_)
    refine W.cs (cells' := u3.1 - u0.1) (slots' := u3.2.1 - u0.2.1) (by omega) (by omega) ?_
    exact w_X0_led_7 hC hE hled hR hRm N u3 r5 0 x2 h ⟨by omega, by omega⟩ hP hS (lv_sub hl [] rfl)
theorem zz_X0_led (N b : Nat) (g : uEnv) (u : UH) (x0 : Option Nat) (x1 : Int32) (x2 : Option Nat) (r : Int32) (uf : UH) (h : f_X0_led N b g u x0 x1 x2 = some (r, uf)) : u.1 ≤ uf.1 ∧ u.2.1 ≤ uf.2.1 :=
  zz_X0_led_0 (G := ((fun _ => 0, fun _ _ => 0), fun _ => 0, b, g)) N u x0 x1 x2 h
theorem met_X0_led (l : Launch) (hled : uLedOK l) (N : Nat) (G : uG) (u : UH) (x0 : Option Nat) (x1 : Int32) (x2 : Option Nat) (r : Int32) (uf : UH) (h : f_X0_led N (ub G) (ug G) u x0 x1 x2 = some (r, uf)) : Met l yX0_led (wsW_ yX0_led cX0_led 4 (some .int) [(0, 9, 12, 13)]) ({ frames := 9, cells := (uf.1 - u.1), slots := (uf.2.1 - u.2.1), locals := 141 }) (uPc G u [va_rf x0, .int x1, va_rf x2]) (uQi G r uf) (uf.1 - u.1) (uf.2.1 - u.2.1) (uA G) := by
  rcases x0 with _ | x0 <;> rcases x2 with _ | x2 <;> exact u_metW (own := RX0) (by decide +kernel) rfl (Nat.le_of_ble_eq_true rfl) (fun hC hE hn hsz ls hl hP => W.cs (Nat.sub_self _).symm (Nat.sub_self _).symm (w_X0_led_0 hC hE hled ⟨Nat.le_refl _, Nat.le_refl _⟩ ⟨Nat.le_refl _, Nat.le_refl _⟩ N u _ x1 _ h ⟨Nat.le_refl _, Nat.le_refl _⟩ hP va_S.rf hl))

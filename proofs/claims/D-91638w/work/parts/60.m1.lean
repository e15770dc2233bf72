/-! BY gen_heap.py: X3_power X3_base X3_all X3_digit X3_within X3_beside X3_isNear X3_sees X3_floorOf X3_down X3_between X3_need X3_slip X3_cost X3_barred X3_acts X3_weightOf X3_allOf X3_look X3_isSmall X3_isDigit X3_next X3_begins X3_behind X3_good X3_no -/
def f_X3_power (N b : Nat) (g : uEnv) (u : UH) (x0 : Int32) : Option (Int32 × UH) :=
    some (1 <<< ((2 * x0) &&& 31), u)
set_option maxHeartbeats 4000000 in
set_option maxRecDepth 100000 in
theorem zz_X3_power_0 {G : uG} {uf : UH} {r : Int32} (N : Nat) (u : UH) (x0 : Int32) (h : f_X3_power N (ub G) (ug G) u x0 = some (r, uf)) : uf.1 = u.1 ∧ uf.2.1 = u.2.1 := by
  unfold f_X3_power at h
  obtain ⟨hr1, hr2⟩ := uret_n h
  subst hr2
  exact ⟨by omega, by omega⟩
set_option maxHeartbeats 4000000 in
set_option maxRecDepth 100000 in
theorem w_X3_power_0 {p : Program} {l : Launch} {e : Env} {R : Room} {s : State} {m : MethodId} {args : Array Value} {below : List Frame} {meth : Method} {c : Code} {G : uG} {uf : UH} {r : Int32} (hC : uC p s m args meth c G RX3 cX3_power 1 (some .int)) (hR : 0 ≤ R.frames ∧ 0 ≤ R.locals) (N : Nat) (u : UH) (x0 : Int32) (h : f_X3_power N (ub G) (ug G) u x0 = some (r, uf)) {H : Heap} {locs : List Loc} (hP : uP G u H) (hS : va_S (uA G) s.heap H locs) {ls : Array Slot} (hl : lv_has ls 1 [(0, .int x0)]) : W p l e R s m args below meth c H locs 0 0 (MQ below (uQi G r uf) args s 0 0 (uA G)) (F0 m 0 ls []) := by
  obtain ⟨⟨hx, hb, hml, hown, hts⟩, hKK⟩ := id hC
  unfold f_X3_power at h
  refine lv_iconst (v := 1) hx hb dX3_power_0 (by decide) ?_
  refine lv_iconst (v := 2) hx hb dX3_power_1 (by decide) ?_
  refine lv_iload_n hx hb dX3_power_2 rfl (lv_at hl 0 rfl) ?_
  refine lv_imul hx hb dX3_power_3 ?_
  refine lv_ishl hx hb dX3_power_4 ?_
  obtain ⟨hr1, hr2⟩ := uret_n h
  subst hr1
  subst hr2
  exact u_iret hC hP hS dX3_power_5
theorem zz_X3_power (N b : Nat) (g : uEnv) (u : UH) (x0 : Int32) (r : Int32) (uf : UH) (h : f_X3_power N b g u x0 = some (r, uf)) : uf.1 = u.1 ∧ uf.2.1 = u.2.1 :=
  zz_X3_power_0 (G := ((fun _ => 0, fun _ _ => 0), fun _ => 0, b, g)) N u x0 h
theorem met_X3_power (l : Launch) (N : Nat) (G : uG) (u : UH) (x0 : Int32) (r : Int32) (uf : UH) (h : f_X3_power N (ub G) (ug G) u x0 = some (r, uf)) : Met l yX3_power (ws_ yX3_power cX3_power 1 (some .int)) ({ frames := 0, cells := 0, slots := 0, locals := 0 }) (uPc G u [.int x0]) (uQi G r uf) 0 0 (uA G) := by
  exact u_met (own := RX3) (by decide +kernel) rfl (Nat.le_of_ble_eq_true rfl) (fun hC hn hsz ls hl hP => w_X3_power_0 hC ⟨Nat.le_refl _, Nat.le_refl _⟩ N u x0 h hP va_S.rf hl)
def f_X3_base_54 (N b : Nat) (g : uEnv) (a0 : Nat) (k4 : UH → Int32 → Int32 → Option (Int32 × UH)) (k14 : UH → Int32 → Int32 → Int32 → Option (Int32 × UH)) (u : UH) (x1 : Int32) (x2 : Int32) (x3 : Int32) : Option (Int32 × UH) :=
    mlet (x3 + 1) fun y1 =>
    k14 u x1 x2 y1
set_option maxHeartbeats 4000000 in
set_option maxRecDepth 100000 in
theorem zz_X3_base_54 {G : uG} {a0 : Nat} {uf : UH} {r : Int32} (N : Nat) (k4 : UH → Int32 → Int32 → Option (Int32 × UH)) (hk4 : ∀ (u : UH) (x1 : Int32) (x2 : Int32), k4 u x1 x2 = some (r, uf) → uf.1 = u.1 ∧ uf.2.1 = u.2.1) (k14 : UH → Int32 → Int32 → Int32 → Option (Int32 × UH)) (hk14 : ∀ (u : UH) (x1 : Int32) (x2 : Int32) (x3 : Int32), k14 u x1 x2 x3 = some (r, uf) → uf.1 = u.1 ∧ uf.2.1 = u.2.1) (u : UH) (x1 : Int32) (x2 : Int32) (x3 : Int32) (h : f_X3_base_54 N (ub G) (ug G) a0 k4 k14 u x1 x2 x3 = some (r, uf)) : uf.1 = u.1 ∧ uf.2.1 = u.2.1 := by
  unfold f_X3_base_54 at h
  obtain ⟨y1, ey1⟩ : ∃ z : Int32, z = x3 + 1 := ⟨_, rfl⟩
  have h := mlet_at ey1 h
  have hq := hk14 u x1 x2 y1 h
  exact ⟨by omega, by omega⟩
set_option maxHeartbeats 4000000 in
set_option maxRecDepth 100000 in
theorem w_X3_base_54 {p : Program} {l : Launch} {e : Env} {R : Room} {s : State} {m : MethodId} {args : Array Value} {below : List Frame} {meth : Method} {c : Code} {G : uG} {a0 : Nat} {uf : UH} {r : Int32} (hC : uC p s m args meth c G RX3 cX3_base 4 (some .int)) (hR : 1 ≤ R.frames ∧ 20 ≤ R.locals) (N : Nat) (k4 : UH → Int32 → Int32 → Option (Int32 × UH)) (hk4 : ∀ (u : UH) (x1 : Int32) (x2 : Int32), k4 u x1 x2 = some (r, uf) → ∀ (H : Heap) (locs : List Loc), uP G u H → va_S (uA G) s.heap H locs → ∀ ls : Array Slot, lv_has ls 4 [(0, va_rf (some a0)), (1, .int x1), (2, .int x2)] → W p l e R s m args below meth c H locs 0 0 (MQ below (uQi G r uf) args s 0 0 (uA G)) (F0 m 4 ls [])) (k14 : UH → Int32 → Int32 → Int32 → Option (Int32 × UH)) (hk14 : ∀ (u : UH) (x1 : Int32) (x2 : Int32) (x3 : Int32), k14 u x1 x2 x3 = some (r, uf) → ∀ (H : Heap) (locs : List Loc), uP G u H → va_S (uA G) s.heap H locs → ∀ ls : Array Slot, lv_has ls 4 [(0, va_rf (some a0)), (1, .int x1), (2, .int x2), (3, .int x3)] → W p l e R s m args below meth c H locs 0 0 (MQ below (uQi G r uf) args s 0 0 (uA G)) (F0 m 14 ls [])) (u : UH) (x1 : Int32) (x2 : Int32) (x3 : Int32) (h : f_X3_base_54 N (ub G) (ug G) a0 k4 k14 u x1 x2 x3 = some (r, uf)) {H : Heap} {locs : List Loc} (hP : uP G u H) (hS : va_S (uA G) s.heap H locs) {ls : Array Slot} (hl : lv_has ls 4 [(0, va_rf (some a0)), (1, .int x1), (2, .int x2), (3, .int x3)]) : W p l e R s m args below meth c H locs 0 0 (MQ below (uQi G r uf) args s 0 0 (uA G)) (F0 m 54 ls []) := by
  obtain ⟨⟨hx, hb, hml, hown, hts⟩, hKK⟩ := id hC
  unfold f_X3_base_54 at h
  obtain ⟨y1, ey1⟩ : ∃ z : Int32, z = x3 + 1 := ⟨_, rfl⟩
  have h := mlet_at ey1 h
  refine lv_iinc (v := y1) (lv' := [(3, .int y1), (0, va_rf (some a0)), (1, .int x1), (2, .int x2)]) hx hb dX3_base_54 hl (k := 3) rfl (by rw [ey1]; rfl) (by decide) rfl (fun ls hl => ?_)
  refine lv_goto (tgt := 14) hx hb dX3_base_57 (by decide) ?_
  exact hk14 u x1 x2 y1 h _ _ hP hS _ (lv_sub hl [1, 2, 3, 0] rfl)
def f_X3_base_14 (N b : Nat) (g : uEnv) (a0 : Nat) (k4 : UH → Int32 → Int32 → Option (Int32 × UH)) : Nat → UH → Int32 → Int32 → Int32 → Option (Int32 × UH)
  | 0, _, _, _, _ => none
  | n + 1, u, x1, x2, x3 =>
    (uGR u a0 2 53).bind fun o1 =>
    (o1).bind fun a2 =>
    (uLdI u a2 0 x2).bind fun y3 =>
    if y3 ≤ x3 then
    mlet (x2 + 1) fun y5 =>
    k4 u x1 y5
    else
    (uGR u a0 2 45).bind fun o6 =>
    (o6).bind fun a7 =>
    (uLdI u a7 0 x2).bind fun y8 =>
    (uGR u a0 2 52).bind fun o9 =>
    (o9).bind fun a10 =>
    (uLdI u a10 0 ((4 * x2) + x3)).bind fun y11 =>
    if y8 = y11 then
    ucall (f_X3_power N b g u x2) fun r15 u13 =>
    mlet (x1 + ((x3 + 1) * r15)) fun y16 =>
    f_X3_base_54 N b g a0 k4 (f_X3_base_14 N b g a0 k4 n) u13 y16 x2 x3
    else
    f_X3_base_54 N b g a0 k4 (f_X3_base_14 N b g a0 k4 n) u x1 x2 x3
set_option maxHeartbeats 4000000 in
set_option maxRecDepth 100000 in
theorem zz_X3_base_14 {G : uG} {a0 : Nat} {uf : UH} {r : Int32} (N : Nat) (k4 : UH → Int32 → Int32 → Option (Int32 × UH)) (hk4 : ∀ (u : UH) (x1 : Int32) (x2 : Int32), k4 u x1 x2 = some (r, uf) → uf.1 = u.1 ∧ uf.2.1 = u.2.1) : ∀ (n : Nat) (u : UH) (x1 : Int32) (x2 : Int32) (x3 : Int32), f_X3_base_14 N (ub G) (ug G) a0 k4 n u x1 x2 x3 = some (r, uf) → uf.1 = u.1 ∧ uf.2.1 = u.2.1 := by
  intro n
  induction n with
  | zero =>
    intro u x1 x2 x3 h
    cases h
  | succ n ih =>
    intro u x1 x2 x3 h
    unfold f_X3_base_14 at h
    obtain ⟨o1, ho1, h⟩ := mbind_n h
    obtain ⟨a2, ha2, hha2⟩ := mbind_n h
    subst ha2
    have h := hha2
    obtain ⟨y3, hy3, h⟩ := mbind_n h
    by_cases c4 : y3 ≤ x3
    · have h := mif_t c4 h
      obtain ⟨y5, ey5⟩ : ∃ z : Int32, z = x2 + 1 := ⟨_, rfl⟩
      have h := mlet_at ey5 h
      have hq := hk4 u x1 y5 h
      exact ⟨by omega, by omega⟩
    · have h := mif_f c4 h
      obtain ⟨o6, ho6, h⟩ := mbind_n h
      obtain ⟨a7, ha7, hha7⟩ := mbind_n h
      subst ha7
      have h := hha7
      obtain ⟨y8, hy8, h⟩ := mbind_n h
      obtain ⟨o9, ho9, h⟩ := mbind_n h
      obtain ⟨a10, ha10, hha10⟩ := mbind_n h
      subst ha10
      have h := hha10
      obtain ⟨y11, hy11, h⟩ := mbind_n h
      by_cases c12 : y8 = y11
      · have h := mif_t c12 h
        obtain ⟨r15, u13, c14, h⟩ := ucall_n h
        have zu13 := zz_X3_power N (ub G) (ug G) u x2 r15 u13 c14
        obtain ⟨y16, ey16⟩ : ∃ z, z = x1 + ((x3 + 1) * r15) := ⟨_, rfl⟩
        have h := mlet_at ey16 h
        have hq := zz_X3_base_54 (G := G) (a0 := a0) N k4 hk4 (f_X3_base_14 N (ub G) (ug G) a0 k4 n) ih u13 y16 x2 x3 h
        exact ⟨by omega, by omega⟩
      · have h := mif_f c12 h
        have hq := zz_X3_base_54 (G := G) (a0 := a0) N k4 hk4 (f_X3_base_14 N (ub G) (ug G) a0 k4 n) ih u x1 x2 x3 h
        exact ⟨by omega, by omega⟩
set_option maxHeartbeats 4000000 in
set_option maxRecDepth 100000 in
theorem w_X3_base_14 {p : Program} {l : Launch} {e : Env} {R : Room} {s : State} {m : MethodId} {args : Array Value} {below : List Frame} {meth : Method} {c : Code} {G : uG} {a0 : Nat} {uf : UH} {r : Int32} (hC : uC p s m args meth c G RX3 cX3_base 4 (some .int)) (hR : 1 ≤ R.frames ∧ 20 ≤ R.locals) (N : Nat) (k4 : UH → Int32 → Int32 → Option (Int32 × UH)) (hk4 : ∀ (u : UH) (x1 : Int32) (x2 : Int32), k4 u x1 x2 = some (r, uf) → ∀ (H : Heap) (locs : List Loc), uP G u H → va_S (uA G) s.heap H locs → ∀ ls : Array Slot, lv_has ls 4 [(0, va_rf (some a0)), (1, .int x1), (2, .int x2)] → W p l e R s m args below meth c H locs 0 0 (MQ below (uQi G r uf) args s 0 0 (uA G)) (F0 m 4 ls [])) : ∀ (n : Nat) (u : UH) (x1 : Int32) (x2 : Int32) (x3 : Int32), f_X3_base_14 N (ub G) (ug G) a0 k4 n u x1 x2 x3 = some (r, uf) → ∀ (H : Heap) (locs : List Loc), uP G u H → va_S (uA G) s.heap H locs → ∀ ls : Array Slot, lv_has ls 4 [(0, va_rf (some a0)), (1, .int x1), (2, .int x2), (3, .int x3)] → W p l e R s m args below meth c H locs 0 0 (MQ below (uQi G r uf) args s 0 0 (uA G)) (F0 m 14 ls []) := by
  obtain ⟨⟨hx, hb, hml, hown, hts⟩, hKK⟩ := id hC
  intro n
  induction n with
  | zero =>
    intro u x1 x2 x3 h
    cases h
  | succ n ih =>
    intro u x1 x2 x3 h H locs hP hS ls hl
    unfold f_X3_base_14 at h
    refine lv_iload_n hx hb dX3_base_14 rfl (lv_at hl 3 rfl) ?_
    refine u_aload_n (r := some a0) hx hb dX3_base_15 rfl (lv_at hl 0 rfl) ?_
    obtain ⟨o1, ho1, h⟩ := mbind_n h
    refine u_get hC hP (uGR_n ho1) rfl in_X3 (by decide) q1946 (fun _ h => h) dX3_base_16 ?_
    refine lv_iload_n hx hb dX3_base_19 rfl (lv_at hl 2 rfl) ?_
    obtain ⟨a2, ha2, hha2⟩ := mbind_n h
    subst ha2
    have h := hha2
    obtain ⟨y3, hy3, h⟩ := mbind_n h
    refine u_iald hC hP hy3 rfl dX3_base_20 ?_
    refine lv_icmp_ge (tgt := 60) hx hb dX3_base_21 (by decide) (fun c4 => ?_) (fun c4 => ?_)
    · have h := mif_t c4 h
      obtain ⟨y5, ey5⟩ : ∃ z : Int32, z = x2 + 1 := ⟨_, rfl⟩
      have h := mlet_at ey5 h
      refine lv_iinc (v := y5) (lv' := [(2, .int y5), (0, va_rf (some a0)), (1, .int x1), (3, .int x3)]) hx hb dX3_base_60 hl (k := 2) rfl (by rw [ey5]; rfl) (by decide) rfl (fun ls hl => ?_)
      refine lv_goto (tgt := 4) hx hb dX3_base_63 (by decide) ?_
      exact hk4 u x1 y5 h _ _ hP hS _ (lv_sub hl [1, 2, 0] rfl)
    · have h := mif_f c4 h
      refine u_aload_n (r := some a0) hx hb dX3_base_24 rfl (lv_at hl 0 rfl) ?_
      obtain ⟨o6, ho6, h⟩ := mbind_n h
      refine u_get hC hP (uGR_n ho6) rfl in_X3 (by decide) q1938 (fun _ h => h) dX3_base_25 ?_
      refine lv_iload_n hx hb dX3_base_28 rfl (lv_at hl 2 rfl) ?_
      obtain ⟨a7, ha7, hha7⟩ := mbind_n h
      subst ha7
      have h := hha7
      obtain ⟨y8, hy8, h⟩ := mbind_n h
      refine u_iald hC hP hy8 rfl dX3_base_29 ?_
      refine u_aload_n (r := some a0) hx hb dX3_base_30 rfl (lv_at hl 0 rfl) ?_
      obtain ⟨o9, ho9, h⟩ := mbind_n h
      refine u_get hC hP (uGR_n ho9) rfl in_X3 (by decide) q1945 (fun _ h => h) dX3_base_31 ?_
      refine lv_iconst (v := 4) hx hb dX3_base_34 (by decide) ?_
      refine lv_iload_n hx hb dX3_base_35 rfl (lv_at hl 2 rfl) ?_
      refine lv_imul hx hb dX3_base_36 ?_
      refine lv_iload_n hx hb dX3_base_37 rfl (lv_at hl 3 rfl) ?_
      refine lv_iadd hx hb dX3_base_38 ?_
      obtain ⟨a10, ha10, hha10⟩ := mbind_n h
      subst ha10
      have h := hha10
      obtain ⟨y11, hy11, h⟩ := mbind_n h
      refine u_iald hC hP hy11 rfl dX3_base_39 ?_
      refine lv_icmp_ne (tgt := 54) hx hb dX3_base_40 (by decide) (fun c12 => ?_) (fun c12 => ?_)
      · have h := mif_f c12 h
        exact w_X3_base_54 hC hR N k4 hk4 (f_X3_base_14 N (ub G) (ug G) a0 k4 n) ih u x1 x2 x3 h hP hS (lv_sub hl [0, 1, 2, 3] rfl)
      · have h := mif_t c12 h
        refine lv_iload_n hx hb dX3_base_43 rfl (lv_at hl 1 rfl) ?_
        refine lv_iload_n hx hb dX3_base_44 rfl (lv_at hl 3 rfl) ?_
        refine lv_iconst (v := 1) hx hb dX3_base_45 (by decide) ?_
        refine lv_iadd hx hb dX3_base_46 ?_
        refine lv_iload_n hx hb dX3_base_47 rfl (lv_at hl 2 rfl) ?_
        obtain ⟨r15, u13, c14, h⟩ := ucall_n h
        have zu13 := zz_X3_power N (ub G) (ug G) u x2 r15 u13 c14
        refine u_calli (va_runS (As := [.int x2]) (rest := [.int (x3 + 1), .int x1]) hC.1 (met_X3_power l N G u x2 r15 u13 c14) (va_cwS 1 hts (lw_S q2380 q2381 q103 q2382) rfl rfl rfl (by decide +kernel) ⟨Nat.le_trans (Nat.le_of_ble_eq_true rfl) hR.1, Nat.le_trans (Nat.le_of_ble_eq_true rfl) hR.2⟩) ⟨uPc_blind, fun U hU hW => u_pre hC hP hS hU hW⟩ rfl rfl hl.1 rfl (lv_room (Nat.le_of_ble_eq_true rfl)) dX3_base_48 ⟨Nat.zero_le _, Nat.zero_le _⟩) hS (fun H locs hP hS => ?_)
        refine lv_imul hx hb dX3_base_51 ?_
        refine lv_iadd hx hb dX3_base_52 ?_
        refine lv_topi (fun y16 ey16 => ?_)
        have h := mlet_at ey16 h
        refine lv_istore_n (i := 1) (lv' := [(1, .int y16), (0, va_rf (some a0)), (2, .int x2), (3, .int x3)]) hx hb dX3_base_53 rfl hl (by decide) rfl (fun ls hl => ?_)
        exact w_X3_base_54 hC hR N k4 hk4 (f_X3_base_14 N (ub G) (ug G) a0 k4 n) ih u13 y16 x2 x3 h hP hS (lv_sub hl [1, 0, 2, 3] rfl)
def f_X3_base_4 (N b : Nat) (g : uEnv) (a0 : Nat) : Nat → UH → Int32 → Int32 → Option (Int32 × UH)
  | 0, _, _, _ => none
  | n + 1, u, x1, x2 =>
    (uGI u a0 2 37).bind fun y1 =>
    if y1 ≤ x2 then
    some (x1, u)
    else
    f_X3_base_14 N b g a0 (f_X3_base_4 N b g a0 n) N u x1 x2 0
set_option maxHeartbeats 4000000 in
set_option maxRecDepth 100000 in
theorem zz_X3_base_4 {G : uG} {a0 : Nat} {uf : UH} {r : Int32} (N : Nat) : ∀ (n : Nat) (u : UH) (x1 : Int32) (x2 : Int32), f_X3_base_4 N (ub G) (ug G) a0 n u x1 x2 = some (r, uf) → uf.1 = u.1 ∧ uf.2.1 = u.2.1 := by
  intro n
  induction n with
  | zero =>
    intro u x1 x2 h
    cases h
  | succ n ih =>
    intro u x1 x2 h
    unfold f_X3_base_4 at h
    obtain ⟨y1, hy1, h⟩ := mbind_n h
    by_cases c2 : y1 ≤ x2
    · have h := mif_t c2 h
      obtain ⟨hr1, hr2⟩ := uret_n h
      subst hr2
      exact ⟨by omega, by omega⟩
    · have h := mif_f c2 h
      have hq := zz_X3_base_14 (G := G) (a0 := a0) N (f_X3_base_4 N (ub G) (ug G) a0 n) ih N u x1 x2 0 h
      exact ⟨by omega, by omega⟩
set_option maxHeartbeats 4000000 in
set_option maxRecDepth 100000 in
theorem w_X3_base_4 {p : Program} {l : Launch} {e : Env} {R : Room} {s : State} {m : MethodId} {args : Array Value} {below : List Frame} {meth : Method} {c : Code} {G : uG} {a0 : Nat} {uf : UH} {r : Int32} (hC : uC p s m args meth c G RX3 cX3_base 4 (some .int)) (hR : 1 ≤ R.frames ∧ 20 ≤ R.locals) (N : Nat) : ∀ (n : Nat) (u : UH) (x1 : Int32) (x2 : Int32), f_X3_base_4 N (ub G) (ug G) a0 n u x1 x2 = some (r, uf) → ∀ (H : Heap) (locs : List Loc), uP G u H → va_S (uA G) s.heap H locs → ∀ ls : Array Slot, lv_has ls 4 [(0, va_rf (some a0)), (1, .int x1), (2, .int x2)] → W p l e R s m args below meth c H locs 0 0 (MQ below (uQi G r uf) args s 0 0 (uA G)) (F0 m 4 ls []) := by
  obtain ⟨⟨hx, hb, hml, hown, hts⟩, hKK⟩ := id hC
  intro n
  induction n with
  | zero =>
    intro u x1 x2 h
    cases h
  | succ n ih =>
    intro u x1 x2 h H locs hP hS ls hl
    unfold f_X3_base_4 at h
    refine lv_iload_n hx hb dX3_base_4 rfl (lv_at hl 2 rfl) ?_
    refine u_aload_n (r := some a0) hx hb dX3_base_5 rfl (lv_at hl 0 rfl) ?_
    obtain ⟨y1, hy1, h⟩ := mbind_n h
    refine u_get hC hP (uGI_n hy1) rfl in_X3 (by decide) q1930 (fun _ h => h) dX3_base_6 ?_
    refine lv_icmp_ge (tgt := 66) hx hb dX3_base_9 (by decide) (fun c2 => ?_) (fun c2 => ?_)
    · have h := mif_t c2 h
      refine lv_iload_n hx hb dX3_base_66 rfl (lv_at hl 1 rfl) ?_
      obtain ⟨hr1, hr2⟩ := uret_n h
      subst hr1
      subst hr2
      exact u_iret hC hP hS dX3_base_67
    · have h := mif_f c2 h
      refine lv_iconst (v := 0) hx hb dX3_base_12 (by decide) ?_
      refine lv_istore_n (i := 3) (lv' := [(3, .int 0), (0, va_rf (some a0)), (1, .int x1), (2, .int x2)]) hx hb dX3_base_13 rfl hl (by decide) rfl (fun ls hl => ?_)
      exact w_X3_base_14 hC hR N (f_X3_base_4 N (ub G) (ug G) a0 n) ih N u x1 x2 0 h _ _ hP hS _ (lv_sub hl [1, 2, 3, 0] rfl)
def f_X3_base (N b : Nat) (g : uEnv) (u : UH) (a0 : Nat) : Option (Int32 × UH) :=
    f_X3_base_4 N b g a0 N u 0 0
set_option maxHeartbeats 4000000 in
set_option maxRecDepth 100000 in
theorem zz_X3_base_0 {G : uG} {a0 : Nat} {uf : UH} {r : Int32} (N : Nat) (u : UH) (h : f_X3_base N (ub G) (ug G) u a0 = some (r, uf)) : uf.1 = u.1 ∧ uf.2.1 = u.2.1 := by
  unfold f_X3_base at h
  have hq := zz_X3_base_4 (G := G) (a0 := a0) N N u 0 0 h
  exact ⟨by omega, by omega⟩
set_option maxHeartbeats 4000000 in
set_option maxRecDepth 100000 in
theorem w_X3_base_0 {p : Program} {l : Launch} {e : Env} {R : Room} {s : State} {m : MethodId} {args : Array Value} {below : List Frame} {meth : Method} {c : Code} {G : uG} {a0 : Nat} {uf : UH} {r : Int32} (hC : uC p s m args meth c G RX3 cX3_base 4 (some .int)) (hR : 1 ≤ R.frames ∧ 20 ≤ R.locals) (N : Nat) (u : UH) (h : f_X3_base N (ub G) (ug G) u a0 = some (r, uf)) {H : Heap} {locs : List Loc} (hP : uP G u H) (hS : va_S (uA G) s.heap H locs) {ls : Array Slot} (hl : lv_has ls 4 [(0, va_rf (some a0))]) : W p l e R s m args below meth c H locs 0 0 (MQ below (uQi G r uf) args s 0 0 (uA G)) (F0 m 0 ls []) := by
  obtain ⟨⟨hx, hb, hml, hown, hts⟩, hKK⟩ := id hC
  unfold f_X3_base at h
  refine lv_iconst (v := 0) hx hb dX3_base_0 (by decide) ?_
  refine lv_istore_n (i := 1) (lv' := [(1, .int 0), (0, va_rf (some a0))]) hx hb dX3_base_1 rfl hl (by decide) rfl (fun ls hl => ?_)
  refine lv_iconst (v := 0) hx hb dX3_base_2 (by decide) ?_
  refine lv_istore_n (i := 2) (lv' := [(2, .int 0), (1, .int 0), (0, va_rf (some a0))]) hx hb dX3_base_3 rfl hl (by decide) rfl (fun ls hl => ?_)
  exact w_X3_base_4 hC hR N N u 0 0 h _ _ hP hS _ (lv_sub hl [2, 1, 0] rfl)
theorem zz_X3_base (N b : Nat) (g : uEnv) (u : UH) (a0 : Nat) (r : Int32) (uf : UH) (h : f_X3_base N b g u a0 = some (r, uf)) : uf.1 = u.1 ∧ uf.2.1 = u.2.1 :=
  zz_X3_base_0 (G := ((fun _ => 0, fun _ _ => 0), fun _ => 0, b, g)) (a0 := a0) N u h
theorem met_X3_base (l : Launch) (N : Nat) (G : uG) (u : UH) (a0 : Nat) (r : Int32) (uf : UH) (h : f_X3_base N (ub G) (ug G) u a0 = some (r, uf)) : Met l yX3_base (ws_ yX3_base cX3_base 4 (some .int)) ({ frames := 1, cells := 0, slots := 0, locals := 20 }) (uPc G u [.ref a0]) (uQi G r uf) 0 0 (uA G) := by
  exact u_met (own := RX3) (by decide +kernel) rfl (Nat.le_of_ble_eq_true rfl) (fun hC hn hsz ls hl hP => w_X3_base_0 hC ⟨Nat.le_refl _, Nat.le_refl _⟩ N u h hP va_S.rf hl)
def f_X3_all_64 (N b : Nat) (g : uEnv) (a0 : Nat) (k15 : UH → Int32 → Int32 → Int32 → Option (Int32 × UH)) (u : UH) (x2 : Int32) (x3 : Int32) (x4 : Int32) : Option (Int32 × UH) :=
    mlet (x4 + (-1)) fun y1 =>
    k15 u x2 x3 y1
set_option maxHeartbeats 4000000 in
set_option maxRecDepth 100000 in
theorem zz_X3_all_64 {G : uG} {a0 : Nat} {uf : UH} {r : Int32} (N : Nat) (k15 : UH → Int32 → Int32 → Int32 → Option (Int32 × UH)) (hk15 : ∀ (u : UH) (x2 : Int32) (x3 : Int32) (x4 : Int32), k15 u x2 x3 x4 = some (r, uf) → uf.1 = u.1 ∧ uf.2.1 = u.2.1) (u : UH) (x2 : Int32) (x3 : Int32) (x4 : Int32) (h : f_X3_all_64 N (ub G) (ug G) a0 k15 u x2 x3 x4 = some (r, uf)) : uf.1 = u.1 ∧ uf.2.1 = u.2.1 := by
  unfold f_X3_all_64 at h
  obtain ⟨y1, ey1⟩ : ∃ z : Int32, z = x4 + (-1) := ⟨_, rfl⟩
  have h := mlet_at ey1 h
  have hq := hk15 u x2 x3 y1 h
  exact ⟨by omega, by omega⟩
set_option maxHeartbeats 4000000 in
set_option maxRecDepth 100000 in
theorem w_X3_all_64 {p : Program} {l : Launch} {e : Env} {R : Room} {s : State} {m : MethodId} {args : Array Value} {below : List Frame} {meth : Method} {c : Code} {G : uG} {a0 : Nat} {uf : UH} {r : Int32} (hC : uC p s m args meth c G RX3 cX3_all 5 (some .int)) (hR : 2 ≤ R.frames ∧ 43 ≤ R.locals) (N : Nat) (k15 : UH → Int32 → Int32 → Int32 → Option (Int32 × UH)) (hk15 : ∀ (u : UH) (x2 : Int32) (x3 : Int32) (x4 : Int32), k15 u x2 x3 x4 = some (r, uf) → ∀ (H : Heap) (locs : List Loc), uP G u H → va_S (uA G) s.heap H locs → ∀ ls : Array Slot, lv_has ls 5 [(0, va_rf (some a0)), (2, .int x2), (3, .int x3), (4, .int x4)] → W p l e R s m args below meth c H locs 0 0 (MQ below (uQi G r uf) args s 0 0 (uA G)) (F0 m 15 ls [])) (u : UH) (x2 : Int32) (x3 : Int32) (x4 : Int32) (h : f_X3_all_64 N (ub G) (ug G) a0 k15 u x2 x3 x4 = some (r, uf)) {H : Heap} {locs : List Loc} (hP : uP G u H) (hS : va_S (uA G) s.heap H locs) {ls : Array Slot} (hl : lv_has ls 5 [(0, va_rf (some a0)), (2, .int x2), (3, .int x3), (4, .int x4)]) : W p l e R s m args below meth c H locs 0 0 (MQ below (uQi G r uf) args s 0 0 (uA G)) (F0 m 64 ls []) := by
  obtain ⟨⟨hx, hb, hml, hown, hts⟩, hKK⟩ := id hC
  unfold f_X3_all_64 at h
  obtain ⟨y1, ey1⟩ : ∃ z : Int32, z = x4 + (-1) := ⟨_, rfl⟩
  have h := mlet_at ey1 h
  refine lv_iinc (v := y1) (lv' := [(4, .int y1), (0, va_rf (some a0)), (2, .int x2), (3, .int x3)]) hx hb dX3_all_64 hl (k := 3) rfl (by rw [ey1]; rfl) (by decide) rfl (fun ls hl => ?_)
  refine lv_goto (tgt := 15) hx hb dX3_all_67 (by decide) ?_
  exact hk15 u x2 x3 y1 h _ _ hP hS _ (lv_sub hl [1, 2, 3, 0] rfl)
def f_X3_all_15 (N b : Nat) (g : uEnv) (a0 : Nat) : Nat → UH → Int32 → Int32 → Int32 → Option (Int32 × UH)
  | 0, _, _, _, _ => none
  | n + 1, u, x2, x3, x4 =>
    if x4 < 0 then
    some (x2, u)
    else
    (uGR u a0 2 45).bind fun o2 =>
    (o2).bind fun a3 =>
    (uLdI u a3 0 x4).bind fun y4 =>
    if y4 = (-1) then
    (uGR u a0 2 53).bind fun o6 =>
    (o6).bind fun a7 =>
    (uLdI u a7 0 x4).bind fun y8 =>
    if ¬ y8 = 0 then
    ucall (f_X3_power N b g u x4) fun r12 u10 =>
    mlet (x2 + (((x3 - x3 / y8 * y8) + 1) * r12)) fun y13 =>
    (uGR u10 a0 2 53).bind fun o14 =>
    (o14).bind fun a15 =>
    (uLdI u10 a15 0 x4).bind fun y16 =>
    if ¬ y16 = 0 then
    mlet (x3 / y16) fun y18 =>
    f_X3_all_64 N b g a0 (f_X3_all_15 N b g a0 n) u10 y13 y18 x4
    else none
    else none
    else
    f_X3_all_64 N b g a0 (f_X3_all_15 N b g a0 n) u x2 x3 x4
set_option maxHeartbeats 4000000 in
set_option maxRecDepth 100000 in
theorem zz_X3_all_15 {G : uG} {a0 : Nat} {uf : UH} {r : Int32} (N : Nat) : ∀ (n : Nat) (u : UH) (x2 : Int32) (x3 : Int32) (x4 : Int32), f_X3_all_15 N (ub G) (ug G) a0 n u x2 x3 x4 = some (r, uf) → uf.1 = u.1 ∧ uf.2.1 = u.2.1 := by
  intro n
  induction n with
  | zero =>
    intro u x2 x3 x4 h
    cases h
  | succ n ih =>
    intro u x2 x3 x4 h
    unfold f_X3_all_15 at h
    by_cases c1 : x4 < 0
    · have h := mif_t c1 h
      obtain ⟨hr1, hr2⟩ := uret_n h
      subst hr2
      exact ⟨by omega, by omega⟩
    · have h := mif_f c1 h
      obtain ⟨o2, ho2, h⟩ := mbind_n h
      obtain ⟨a3, ha3, hha3⟩ := mbind_n h
      subst ha3
      have h := hha3
      obtain ⟨y4, hy4, h⟩ := mbind_n h
      by_cases c5 : y4 = (-1)
      · have h := mif_t c5 h
        obtain ⟨o6, ho6, h⟩ := mbind_n h
        obtain ⟨a7, ha7, hha7⟩ := mbind_n h
        subst ha7
        have h := hha7
        obtain ⟨y8, hy8, h⟩ := mbind_n h
        obtain ⟨c9, h⟩ := mif_n h
        obtain ⟨r12, u10, c11, h⟩ := ucall_n h
        have zu10 := zz_X3_power N (ub G) (ug G) u x4 r12 u10 c11
        obtain ⟨y13, ey13⟩ : ∃ z, z = x2 + (((x3 - x3 / y8 * y8) + 1) * r12) := ⟨_, rfl⟩
        have h := mlet_at ey13 h
        obtain ⟨o14, ho14, h⟩ := mbind_n h
        obtain ⟨a15, ha15, hha15⟩ := mbind_n h
        subst ha15
        have h := hha15
        obtain ⟨y16, hy16, h⟩ := mbind_n h
        obtain ⟨c17, h⟩ := mif_n h
        obtain ⟨y18, ey18⟩ : ∃ z, z = x3 / y16 := ⟨_, rfl⟩
        have h := mlet_at ey18 h
        have hq := zz_X3_all_64 (G := G) (a0 := a0) N (f_X3_all_15 N (ub G) (ug G) a0 n) ih u10 y13 y18 x4 h
        exact ⟨by omega, by omega⟩
      · have h := mif_f c5 h
        have hq := zz_X3_all_64 (G := G) (a0 := a0) N (f_X3_all_15 N (ub G) (ug G) a0 n) ih u x2 x3 x4 h
        exact ⟨by omega, by omega⟩
set_option maxHeartbeats 4000000 in
set_option maxRecDepth 100000 in
theorem w_X3_all_15 {p : Program} {l : Launch} {e : Env} {R : Room} {s : State} {m : MethodId} {args : Array Value} {below : List Frame} {meth : Method} {c : Code} {G : uG} {a0 : Nat} {uf : UH} {r : Int32} (hC : uC p s m args meth c G RX3 cX3_all 5 (some .int)) (hR : 2 ≤ R.frames ∧ 43 ≤ R.locals) (N : Nat) : ∀ (n : Nat) (u : UH) (x2 : Int32) (x3 : Int32) (x4 : Int32), f_X3_all_15 N (ub G) (ug G) a0 n u x2 x3 x4 = some (r, uf) → ∀ (H : Heap) (locs : List Loc), uP G u H → va_S (uA G) s.heap H locs → ∀ ls : Array Slot, lv_has ls 5 [(0, va_rf (some a0)), (2, .int x2), (3, .int x3), (4, .int x4)] → W p l e R s m args below meth c H locs 0 0 (MQ below (uQi G r uf) args s 0 0 (uA G)) (F0 m 15 ls []) := by
  obtain ⟨⟨hx, hb, hml, hown, hts⟩, hKK⟩ := id hC
  intro n
  induction n with
  | zero =>
    intro u x2 x3 x4 h
    cases h
  | succ n ih =>
    intro u x2 x3 x4 h H locs hP hS ls hl
    unfold f_X3_all_15 at h
    refine lv_iload hx hb dX3_all_15 (lv_at hl 3 rfl) ?_
    refine lv_if_lt (tgt := 70) hx hb dX3_all_17 (by decide) (fun c1 => ?_) (fun c1 => ?_)
    · have h := mif_t c1 h
      refine lv_iload_n hx hb dX3_all_70 rfl (lv_at hl 1 rfl) ?_
      obtain ⟨hr1, hr2⟩ := uret_n h
      subst hr1
      subst hr2
      exact u_iret hC hP hS dX3_all_71
    · have h := mif_f c1 h
      refine u_aload_n (r := some a0) hx hb dX3_all_20 rfl (lv_at hl 0 rfl) ?_
      obtain ⟨o2, ho2, h⟩ := mbind_n h
      refine u_get hC hP (uGR_n ho2) rfl in_X3 (by decide) q1938 (fun _ h => h) dX3_all_21 ?_
      refine lv_iload hx hb dX3_all_24 (lv_at hl 3 rfl) ?_
      obtain ⟨a3, ha3, hha3⟩ := mbind_n h
      subst ha3
      have h := hha3
      obtain ⟨y4, hy4, h⟩ := mbind_n h
      refine u_iald hC hP hy4 rfl dX3_all_26 ?_
      refine lv_iconst (v := (-1)) hx hb dX3_all_27 (by decide) ?_
      refine lv_icmp_eq (tgt := 34) hx hb dX3_all_28 (by decide) (fun c5 => ?_) (fun c5 => ?_)
      · have h := mif_t c5 h
        refine lv_iload_n hx hb dX3_all_34 rfl (lv_at hl 1 rfl) ?_
        refine lv_iload_n hx hb dX3_all_35 rfl (lv_at hl 2 rfl) ?_
        refine u_aload_n (r := some a0) hx hb dX3_all_36 rfl (lv_at hl 0 rfl) ?_
        obtain ⟨o6, ho6, h⟩ := mbind_n h
        refine u_get hC hP (uGR_n ho6) rfl in_X3 (by decide) q1946 (fun _ h => h) dX3_all_37 ?_
        refine lv_iload hx hb dX3_all_40 (lv_at hl 3 rfl) ?_
        obtain ⟨a7, ha7, hha7⟩ := mbind_n h
        subst ha7
        have h := hha7
        obtain ⟨y8, hy8, h⟩ := mbind_n h
        refine u_iald hC hP hy8 rfl dX3_all_42 ?_
        obtain ⟨c9, h⟩ := mif_n h
        refine lv_irem hx hb dX3_all_43 c9 ?_
        refine lv_iconst (v := 1) hx hb dX3_all_44 (by decide) ?_
        refine lv_iadd hx hb dX3_all_45 ?_
        refine lv_iload hx hb dX3_all_46 (lv_at hl 3 rfl) ?_
        obtain ⟨r12, u10, c11, h⟩ := ucall_n h
        have zu10 := zz_X3_power N (ub G) (ug G) u x4 r12 u10 c11
        refine u_calli (va_runS (As := [.int x4]) (rest := [.int ((x3 - x3 / y8 * y8) + 1), .int x2]) hC.1 (met_X3_power l N G u x4 r12 u10 c11) (va_cwS 1 hts (lw_S q2380 q2381 q103 q2382) rfl rfl rfl (by decide +kernel) ⟨Nat.le_trans (Nat.le_of_ble_eq_true rfl) hR.1, Nat.le_trans (Nat.le_of_ble_eq_true rfl) hR.2⟩) ⟨uPc_blind, fun U hU hW => u_pre hC hP hS hU hW⟩ rfl rfl hl.1 rfl (lv_room (Nat.le_of_ble_eq_true rfl)) dX3_all_48 ⟨Nat.zero_le _, Nat.zero_le _⟩) hS (fun H locs hP hS => ?_)
        refine lv_imul hx hb dX3_all_51 ?_
        refine lv_iadd hx hb dX3_all_52 ?_
        refine lv_topi (fun y13 ey13 => ?_)
        have h := mlet_at ey13 h
        refine lv_istore_n (i := 2) (lv' := [(2, .int y13), (0, va_rf (some a0)), (3, .int x3), (4, .int x4)]) hx hb dX3_all_53 rfl hl (by decide) rfl (fun ls hl => ?_)
        refine lv_iload_n hx hb dX3_all_54 rfl (lv_at hl 2 rfl) ?_
        refine u_aload_n (r := some a0) hx hb dX3_all_55 rfl (lv_at hl 1 rfl) ?_
        obtain ⟨o14, ho14, h⟩ := mbind_n h
        refine u_get hC hP (uGR_n ho14) rfl in_X3 (by decide) q1946 (fun _ h => h) dX3_all_56 ?_
        refine lv_iload hx hb dX3_all_59 (lv_at hl 3 rfl) ?_
        obtain ⟨a15, ha15, hha15⟩ := mbind_n h
        subst ha15
        have h := hha15
        obtain ⟨y16, hy16, h⟩ := mbind_n h
        refine u_iald hC hP hy16 rfl dX3_all_61 ?_
        obtain ⟨c17, h⟩ := mif_n h
        refine lv_idiv hx hb dX3_all_62 c17 ?_
        refine lv_topi (fun y18 ey18 => ?_)
        have h := mlet_at ey18 h
        refine lv_istore_n (i := 3) (lv' := [(3, .int y18), (2, .int y13), (0, va_rf (some a0)), (4, .int x4)]) hx hb dX3_all_63 rfl hl (by decide) rfl (fun ls hl => ?_)
        exact w_X3_all_64 hC hR N (f_X3_all_15 N (ub G) (ug G) a0 n) ih u10 y13 y18 x4 h hP hS (lv_sub hl [2, 1, 0, 3] rfl)
      · have h := mif_f c5 h
        refine lv_goto (tgt := 64) hx hb dX3_all_31 (by decide) ?_
        exact w_X3_all_64 hC hR N (f_X3_all_15 N (ub G) (ug G) a0 n) ih u x2 x3 x4 h hP hS (lv_sub hl [0, 1, 2, 3] rfl)
def f_X3_all (N b : Nat) (g : uEnv) (u : UH) (a0 : Nat) (x1 : Int32) : Option (Int32 × UH) :=
    if uIs u a0 2 = true then
    ucall (f_X3_base N b g u a0) fun r4 u2 =>
    (uGI u2 a0 2 37).bind fun y5 =>
    mlet (y5 - 1) fun y6 =>
    f_X3_all_15 N b g a0 N u2 r4 x1 y6
    else none
set_option maxHeartbeats 4000000 in
set_option maxRecDepth 100000 in
theorem zz_X3_all_0 {G : uG} {a0 : Nat} {uf : UH} {r : Int32} (N : Nat) (u : UH) (x1 : Int32) (h : f_X3_all N (ub G) (ug G) u a0 x1 = some (r, uf)) : uf.1 = u.1 ∧ uf.2.1 = u.2.1 := by
  unfold f_X3_all at h
  obtain ⟨c1, h⟩ := mif_n h
  obtain ⟨r4, u2, c3, h⟩ := ucall_n h
  have zu2 := zz_X3_base N (ub G) (ug G) u a0 r4 u2 c3
  obtain ⟨y5, hy5, h⟩ := mbind_n h
  obtain ⟨y6, ey6⟩ : ∃ z, z = y5 - 1 := ⟨_, rfl⟩
  have h := mlet_at ey6 h
  have hq := zz_X3_all_15 (G := G) (a0 := a0) N N u2 r4 x1 y6 h
  exact ⟨by omega, by omega⟩
set_option maxHeartbeats 4000000 in
set_option maxRecDepth 100000 in
theorem w_X3_all_0 {p : Program} {l : Launch} {e : Env} {R : Room} {s : State} {m : MethodId} {args : Array Value} {below : List Frame} {meth : Method} {c : Code} {G : uG} {a0 : Nat} {uf : UH} {r : Int32} (hC : uC p s m args meth c G RX3 cX3_all 5 (some .int)) (hR : 2 ≤ R.frames ∧ 43 ≤ R.locals) (N : Nat) (u : UH) (x1 : Int32) (h : f_X3_all N (ub G) (ug G) u a0 x1 = some (r, uf)) {H : Heap} {locs : List Loc} (hP : uP G u H) (hS : va_S (uA G) s.heap H locs) {ls : Array Slot} (hl : lv_has ls 5 [(0, va_rf (some a0)), (1, .int x1)]) : W p l e R s m args below meth c H locs 0 0 (MQ below (uQi G r uf) args s 0 0 (uA G)) (F0 m 0 ls []) := by
  obtain ⟨⟨hx, hb, hml, hown, hts⟩, hKK⟩ := id hC
  unfold f_X3_all at h
  refine u_aload_n (r := some a0) hx hb dX3_all_0 rfl (lv_at hl 0 rfl) ?_
  obtain ⟨c1, h⟩ := mif_n h
  obtain ⟨r4, u2, c3, h⟩ := ucall_n h
  have zu2 := zz_X3_base N (ub G) (ug G) u a0 r4 u2 c3
  refine u_calli (va_runV (As := []) (rest := []) hC.1 (met_X3_base l N G u a0 r4 u2 c3) (cwV 0 hts (lw_V q2399 q2401 qs81 q103 q2402) rfl rfl rfl (by decide +kernel) ⟨Nat.le_trans (Nat.le_of_ble_eq_true rfl) hR.1, Nat.le_trans (Nat.le_of_ble_eq_true rfl) hR.2⟩) ⟨uPc_blind, u_rcv hC hP c1 rfl, fun U hU hW => u_pre hC hP hS hU hW⟩ rfl rfl hl.1 rfl (lv_room (Nat.le_of_ble_eq_true rfl)) dX3_all_1 ⟨Nat.zero_le _, Nat.zero_le _⟩) hS (fun H locs hP hS => ?_)
  refine lv_istore_n (i := 2) (lv' := [(2, .int r4), (0, va_rf (some a0)), (1, .int x1)]) hx hb dX3_all_4 rfl hl (by decide) rfl (fun ls hl => ?_)
  refine lv_iload_n hx hb dX3_all_5 rfl (lv_at hl 2 rfl) ?_
  refine lv_istore_n (i := 3) (lv' := [(3, .int x1), (2, .int r4), (0, va_rf (some a0)), (1, .int x1)]) hx hb dX3_all_6 rfl hl (by decide) rfl (fun ls hl => ?_)
  refine u_aload_n (r := some a0) hx hb dX3_all_7 rfl (lv_at hl 2 rfl) ?_
  obtain ⟨y5, hy5, h⟩ := mbind_n h
  refine u_get hC hP (uGI_n hy5) rfl in_X3 (by decide) q1930 (fun _ h => h) dX3_all_8 ?_
  refine lv_iconst (v := 1) hx hb dX3_all_11 (by decide) ?_
  refine lv_isub hx hb dX3_all_12 ?_
  refine lv_topi (fun y6 ey6 => ?_)
  have h := mlet_at ey6 h
  refine lv_istore (lv' := [(4, .int y6), (3, .int x1), (2, .int r4), (0, va_rf (some a0)), (1, .int x1)]) hx hb dX3_all_13 hl (by decide) rfl (fun ls hl => ?_)
  exact w_X3_all_15 hC hR N N u2 r4 x1 y6 h _ _ hP hS _ (lv_sub hl [3, 2, 1, 0] rfl)
theorem zz_X3_all (N b : Nat) (g : uEnv) (u : UH) (a0 : Nat) (x1 : Int32) (r : Int32) (uf : UH) (h : f_X3_all N b g u a0 x1 = some (r, uf)) : uf.1 = u.1 ∧ uf.2.1 = u.2.1 :=
  zz_X3_all_0 (G := ((fun _ => 0, fun _ _ => 0), fun _ => 0, b, g)) (a0 := a0) N u x1 h
theorem met_X3_all (l : Launch) (N : Nat) (G : uG) (u : UH) (a0 : Nat) (x1 : Int32) (r : Int32) (uf : UH) (h : f_X3_all N (ub G) (ug G) u a0 x1 = some (r, uf)) : Met l yX3_all (ws_ yX3_all cX3_all 5 (some .int)) ({ frames := 2, cells := 0, slots := 0, locals := 43 }) (uPc G u [.ref a0, .int x1]) (uQi G r uf) 0 0 (uA G) := by
  exact u_met (own := RX3) (by decide +kernel) rfl (Nat.le_of_ble_eq_true rfl) (fun hC hn hsz ls hl hP => w_X3_all_0 hC ⟨Nat.le_refl _, Nat.le_refl _⟩ N u x1 h hP va_S.rf hl)
def f_X3_digit (N b : Nat) (g : uEnv) (u : UH) (x0 : Int32) (x1 : Int32) : Option (Int32 × UH) :=
    some ((x0 >>> ((2 * x1) &&& 31)) &&& 3, u)
set_option maxHeartbeats 4000000 in
set_option maxRecDepth 100000 in
theorem zz_X3_digit_0 {G : uG} {uf : UH} {r : Int32} (N : Nat) (u : UH) (x0 : Int32) (x1 : Int32) (h : f_X3_digit N (ub G) (ug G) u x0 x1 = some (r, uf)) : uf.1 = u.1 ∧ uf.2.1 = u.2.1 := by
  unfold f_X3_digit at h
  obtain ⟨hr1, hr2⟩ := uret_n h
  subst hr2
  exact ⟨by omega, by omega⟩
set_option maxHeartbeats 4000000 in
set_option maxRecDepth 100000 in
theorem w_X3_digit_0 {p : Program} {l : Launch} {e : Env} {R : Room} {s : State} {m : MethodId} {args : Array Value} {below : List Frame} {meth : Method} {c : Code} {G : uG} {uf : UH} {r : Int32} (hC : uC p s m args meth c G RX3 cX3_digit 2 (some .int)) (hR : 0 ≤ R.frames ∧ 0 ≤ R.locals) (N : Nat) (u : UH) (x0 : Int32) (x1 : Int32) (h : f_X3_digit N (ub G) (ug G) u x0 x1 = some (r, uf)) {H : Heap} {locs : List Loc} (hP : uP G u H) (hS : va_S (uA G) s.heap H locs) {ls : Array Slot} (hl : lv_has ls 2 [(0, .int x0), (1, .int x1)]) : W p l e R s m args below meth c H locs 0 0 (MQ below (uQi G r uf) args s 0 0 (uA G)) (F0 m 0 ls []) := by
  obtain ⟨⟨hx, hb, hml, hown, hts⟩, hKK⟩ := id hC
  unfold f_X3_digit at h
  refine lv_iload_n hx hb dX3_digit_0 rfl (lv_at hl 0 rfl) ?_
  refine lv_iconst (v := 2) hx hb dX3_digit_1 (by decide) ?_
  refine lv_iload_n hx hb dX3_digit_2 rfl (lv_at hl 1 rfl) ?_
  refine lv_imul hx hb dX3_digit_3 ?_
  refine lv_ishr hx hb dX3_digit_4 ?_
  refine lv_iconst (v := 3) hx hb dX3_digit_5 (by decide) ?_
  refine lv_iand hx hb dX3_digit_6 ?_
  obtain ⟨hr1, hr2⟩ := uret_n h
  subst hr1
  subst hr2
  exact u_iret hC hP hS dX3_digit_7
theorem zz_X3_digit (N b : Nat) (g : uEnv) (u : UH) (x0 : Int32) (x1 : Int32) (r : Int32) (uf : UH) (h : f_X3_digit N b g u x0 x1 = some (r, uf)) : uf.1 = u.1 ∧ uf.2.1 = u.2.1 :=
  zz_X3_digit_0 (G := ((fun _ => 0, fun _ _ => 0), fun _ => 0, b, g)) N u x0 x1 h
theorem met_X3_digit (l : Launch) (N : Nat) (G : uG) (u : UH) (x0 : Int32) (x1 : Int32) (r : Int32) (uf : UH) (h : f_X3_digit N (ub G) (ug G) u x0 x1 = some (r, uf)) : Met l yX3_digit (ws_ yX3_digit cX3_digit 2 (some .int)) ({ frames := 0, cells := 0, slots := 0, locals := 0 }) (uPc G u [.int x0, .int x1]) (uQi G r uf) 0 0 (uA G) := by
  exact u_met (own := RX3) (by decide +kernel) rfl (Nat.le_of_ble_eq_true rfl) (fun hC hn hsz ls hl hP => w_X3_digit_0 hC ⟨Nat.le_refl _, Nat.le_refl _⟩ N u x0 x1 h hP va_S.rf hl)
def f_X3_within_15 (N b : Nat) (g : uEnv) (u : UH) (s0 : Int32) : Option (Int32 × UH) :=
    if uFit .boolean s0 = true then
    some (s0, u)
    else none
set_option maxHeartbeats 4000000 in
set_option maxRecDepth 100000 in
theorem zz_X3_within_15 {G : uG} {uf : UH} {r : Int32} (N : Nat) (u : UH) (s0 : Int32) (h : f_X3_within_15 N (ub G) (ug G) u s0 = some (r, uf)) : uf.1 = u.1 ∧ uf.2.1 = u.2.1 := by
  unfold f_X3_within_15 at h
  obtain ⟨c1, h⟩ := mif_n h
  obtain ⟨hr1, hr2⟩ := uret_n h
  subst hr2
  exact ⟨by omega, by omega⟩
set_option maxHeartbeats 4000000 in
set_option maxRecDepth 100000 in
theorem w_X3_within_15 {p : Program} {l : Launch} {e : Env} {R : Room} {s : State} {m : MethodId} {args : Array Value} {below : List Frame} {meth : Method} {c : Code} {G : uG} {uf : UH} {r : Int32} (hC : uC p s m args meth c G RX3 cX3_within 3 (some .boolean)) (hR : 0 ≤ R.frames ∧ 0 ≤ R.locals) (N : Nat) (u : UH) (s0 : Int32) (h : f_X3_within_15 N (ub G) (ug G) u s0 = some (r, uf)) {H : Heap} {locs : List Loc} (hP : uP G u H) (hS : va_S (uA G) s.heap H locs) {ls : Array Slot} (hl : lv_has ls 3 []) : W p l e R s m args below meth c H locs 0 0 (MQ below (uQi G r uf) args s 0 0 (uA G)) (F0 m 15 ls [.int s0]) := by
  obtain ⟨⟨hx, hb, hml, hown, hts⟩, hKK⟩ := id hC
  unfold f_X3_within_15 at h
  obtain ⟨c1, h⟩ := mif_n h
  obtain ⟨hr1, hr2⟩ := uret_n h
  subst hr1
  subst hr2
  exact u_zret hC (uFit_n c1).1 hP hS dX3_within_15
def f_X3_within_14 (N b : Nat) (g : uEnv) (u : UH) : Option (Int32 × UH) :=
    f_X3_within_15 N b g u 0
set_option maxHeartbeats 4000000 in
set_option maxRecDepth 100000 in
theorem zz_X3_within_14 {G : uG} {uf : UH} {r : Int32} (N : Nat) (u : UH) (h : f_X3_within_14 N (ub G) (ug G) u = some (r, uf)) : uf.1 = u.1 ∧ uf.2.1 = u.2.1 := by
  unfold f_X3_within_14 at h
  have hq := zz_X3_within_15 (G := G) N u 0 h
  exact ⟨by omega, by omega⟩
set_option maxHeartbeats 4000000 in
set_option maxRecDepth 100000 in
theorem w_X3_within_14 {p : Program} {l : Launch} {e : Env} {R : Room} {s : State} {m : MethodId} {args : Array Value} {below : List Frame} {meth : Method} {c : Code} {G : uG} {uf : UH} {r : Int32} (hC : uC p s m args meth c G RX3 cX3_within 3 (some .boolean)) (hR : 0 ≤ R.frames ∧ 0 ≤ R.locals) (N : Nat) (u : UH) (h : f_X3_within_14 N (ub G) (ug G) u = some (r, uf)) {H : Heap} {locs : List Loc} (hP : uP G u H) (hS : va_S (uA G) s.heap H locs) {ls : Array Slot} (hl : lv_has ls 3 []) : W p l e R s m args below meth c H locs 0 0 (MQ below (uQi G r uf) args s 0 0 (uA G)) (F0 m 14 ls []) := by
  obtain ⟨⟨hx, hb, hml, hown, hts⟩, hKK⟩ := id hC
  unfold f_X3_within_14 at h
  refine lv_iconst (v := 0) hx hb dX3_within_14 (by decide) ?_
  exact w_X3_within_15 hC hR N u 0 h hP hS (lv_sub hl [] rfl)
def f_X3_within (N b : Nat) (g : uEnv) (u : UH) (x0 : Int32) (x1 : Int32) (x2 : Int32) : Option (Int32 × UH) :=
    if x0 < x1 then
    f_X3_within_14 N b g u
    else
    if x2 < x0 then
    f_X3_within_14 N b g u
    else
    f_X3_within_15 N b g u 1
set_option maxHeartbeats 4000000 in
set_option maxRecDepth 100000 in
theorem zz_X3_within_0 {G : uG} {uf : UH} {r : Int32} (N : Nat) (u : UH) (x0 : Int32) (x1 : Int32) (x2 : Int32) (h : f_X3_within N (ub G) (ug G) u x0 x1 x2 = some (r, uf)) : uf.1 = u.1 ∧ uf.2.1 = u.2.1 := by
  unfold f_X3_within at h
  by_cases c1 : x0 < x1
  · have h := mif_t c1 h
    have hq := zz_X3_within_14 (G := G) N u h
    exact ⟨by omega, by omega⟩
  · have h := mif_f c1 h
    by_cases c2 : x2 < x0
    · have h := mif_t c2 h
      have hq := zz_X3_within_14 (G := G) N u h
      exact ⟨by omega, by omega⟩
    · have h := mif_f c2 h
      have hq := zz_X3_within_15 (G := G) N u 1 h
      exact ⟨by omega, by omega⟩
set_option maxHeartbeats 4000000 in
set_option maxRecDepth 100000 in
theorem w_X3_within_0 {p : Program} {l : Launch} {e : Env} {R : Room} {s : State} {m : MethodId} {args : Array Value} {below : List Frame} {meth : Method} {c : Code} {G : uG} {uf : UH} {r : Int32} (hC : uC p s m args meth c G RX3 cX3_within 3 (some .boolean)) (hR : 0 ≤ R.frames ∧ 0 ≤ R.locals) (N : Nat) (u : UH) (x0 : Int32) (x1 : Int32) (x2 : Int32) (h : f_X3_within N (ub G) (ug G) u x0 x1 x2 = some (r, uf)) {H : Heap} {locs : List Loc} (hP : uP G u H) (hS : va_S (uA G) s.heap H locs) {ls : Array Slot} (hl : lv_has ls 3 [(0, .int x0), (1, .int x1), (2, .int x2)]) : W p l e R s m args below meth c H locs 0 0 (MQ below (uQi G r uf) args s 0 0 (uA G)) (F0 m 0 ls []) := by
  obtain ⟨⟨hx, hb, hml, hown, hts⟩, hKK⟩ := id hC
  unfold f_X3_within at h
  refine lv_iload_n hx hb dX3_within_0 rfl (lv_at hl 0 rfl) ?_
  refine lv_iload_n hx hb dX3_within_1 rfl (lv_at hl 1 rfl) ?_
  refine lv_icmp_lt (tgt := 14) hx hb dX3_within_2 (by decide) (fun c1 => ?_) (fun c1 => ?_)
  · have h := mif_t c1 h
    exact w_X3_within_14 hC hR N u h hP hS (lv_sub hl [] rfl)
  · have h := mif_f c1 h
    refine lv_iload_n hx hb dX3_within_5 rfl (lv_at hl 0 rfl) ?_
    refine lv_iload_n hx hb dX3_within_6 rfl (lv_at hl 2 rfl) ?_
    refine lv_icmp_gt (tgt := 14) hx hb dX3_within_7 (by decide) (fun c2 => ?_) (fun c2 => ?_)
    · have h := mif_t c2 h
      exact w_X3_within_14 hC hR N u h hP hS (lv_sub hl [] rfl)
    · have h := mif_f c2 h
      refine lv_iconst (v := 1) hx hb dX3_within_10 (by decide) ?_
      refine lv_goto (tgt := 15) hx hb dX3_within_11 (by decide) ?_
      exact w_X3_within_15 hC hR N u 1 h hP hS (lv_sub hl [] rfl)
theorem zz_X3_within (N b : Nat) (g : uEnv) (u : UH) (x0 : Int32) (x1 : Int32) (x2 : Int32) (r : Int32) (uf : UH) (h : f_X3_within N b g u x0 x1 x2 = some (r, uf)) : uf.1 = u.1 ∧ uf.2.1 = u.2.1 :=
  zz_X3_within_0 (G := ((fun _ => 0, fun _ _ => 0), fun _ => 0, b, g)) N u x0 x1 x2 h
theorem met_X3_within (l : Launch) (N : Nat) (G : uG) (u : UH) (x0 : Int32) (x1 : Int32) (x2 : Int32) (r : Int32) (uf : UH) (h : f_X3_within N (ub G) (ug G) u x0 x1 x2 = some (r, uf)) : Met l yX3_within (ws_ yX3_within cX3_within 3 (some .boolean)) ({ frames := 0, cells := 0, slots := 0, locals := 0 }) (uPc G u [.int x0, .int x1, .int x2]) (uQi G r uf) 0 0 (uA G) := by
  exact u_met (own := RX3) (by decide +kernel) rfl (Nat.le_of_ble_eq_true rfl) (fun hC hn hsz ls hl hP => w_X3_within_0 hC ⟨Nat.le_refl _, Nat.le_refl _⟩ N u x0 x1 x2 h hP va_S.rf hl)
def f_X3_beside_96 (N b : Nat) (g : uEnv) (a0 : Nat) (u : UH) (s0 : Int32) : Option (Int32 × UH) :=
    some (s0, u)
set_option maxHeartbeats 4000000 in
set_option maxRecDepth 100000 in
theorem zz_X3_beside_96 {G : uG} {a0 : Nat} {uf : UH} {r : Int32} (N : Nat) (u : UH) (s0 : Int32) (h : f_X3_beside_96 N (ub G) (ug G) a0 u s0 = some (r, uf)) : uf.1 = u.1 ∧ uf.2.1 = u.2.1 := by
  unfold f_X3_beside_96 at h
  obtain ⟨hr1, hr2⟩ := uret_n h
  subst hr2
  exact ⟨by omega, by omega⟩
set_option maxHeartbeats 4000000 in
set_option maxRecDepth 100000 in
theorem w_X3_beside_96 {p : Program} {l : Launch} {e : Env} {R : Room} {s : State} {m : MethodId} {args : Array Value} {below : List Frame} {meth : Method} {c : Code} {G : uG} {a0 : Nat} {uf : UH} {r : Int32} (hC : uC p s m args meth c G RX3 cX3_beside 5 (some .int)) (hR : 1 ≤ R.frames ∧ 22 ≤ R.locals) (N : Nat) (u : UH) (s0 : Int32) (h : f_X3_beside_96 N (ub G) (ug G) a0 u s0 = some (r, uf)) {H : Heap} {locs : List Loc} (hP : uP G u H) (hS : va_S (uA G) s.heap H locs) {ls : Array Slot} (hl : lv_has ls 5 []) : W p l e R s m args below meth c H locs 0 0 (MQ below (uQi G r uf) args s 0 0 (uA G)) (F0 m 96 ls [.int s0]) := by
  obtain ⟨⟨hx, hb, hml, hown, hts⟩, hKK⟩ := id hC
  unfold f_X3_beside_96 at h
  obtain ⟨hr1, hr2⟩ := uret_n h
  subst hr1
  subst hr2
  exact u_iret hC hP hS dX3_beside_96
def f_X3_beside_95 (N b : Nat) (g : uEnv) (a0 : Nat) (u : UH) : Option (Int32 × UH) :=
    f_X3_beside_96 N b g a0 u (-1)
set_option maxHeartbeats 4000000 in
set_option maxRecDepth 100000 in
theorem zz_X3_beside_95 {G : uG} {a0 : Nat} {uf : UH} {r : Int32} (N : Nat) (u : UH) (h : f_X3_beside_95 N (ub G) (ug G) a0 u = some (r, uf)) : uf.1 = u.1 ∧ uf.2.1 = u.2.1 := by
  unfold f_X3_beside_95 at h
  have hq := zz_X3_beside_96 (G := G) (a0 := a0) N u (-1) h
  exact ⟨by omega, by omega⟩
set_option maxHeartbeats 4000000 in
set_option maxRecDepth 100000 in
theorem w_X3_beside_95 {p : Program} {l : Launch} {e : Env} {R : Room} {s : State} {m : MethodId} {args : Array Value} {below : List Frame} {meth : Method} {c : Code} {G : uG} {a0 : Nat} {uf : UH} {r : Int32} (hC : uC p s m args meth c G RX3 cX3_beside 5 (some .int)) (hR : 1 ≤ R.frames ∧ 22 ≤ R.locals) (N : Nat) (u : UH) (h : f_X3_beside_95 N (ub G) (ug G) a0 u = some (r, uf)) {H : Heap} {locs : List Loc} (hP : uP G u H) (hS : va_S (uA G) s.heap H locs) {ls : Array Slot} (hl : lv_has ls 5 []) : W p l e R s m args below meth c H locs 0 0 (MQ below (uQi G r uf) args s 0 0 (uA G)) (F0 m 95 ls []) := by
  obtain ⟨⟨hx, hb, hml, hown, hts⟩, hKK⟩ := id hC
  unfold f_X3_beside_95 at h
  refine lv_iconst (v := (-1)) hx hb dX3_beside_95 (by decide) ?_
  exact w_X3_beside_96 hC hR N u (-1) h hP hS (lv_sub hl [] rfl)
def f_X3_beside_51 (N b : Nat) (g : uEnv) (a0 : Nat) (u : UH) (x3 : Int32) (s0 : Int32) (s1 : Int32) : Option (Int32 × UH) :=
    mlet (s1 + s0) fun y1 =>
    (uGI u a0 2 35).bind fun y2 =>
    ucall (f_X3_within N b g u x3 0 (y2 - 1)) fun r5 u3 =>
    if r5 = 0 then
    f_X3_beside_95 N b g a0 u3
    else
    (uGI u3 a0 2 36).bind fun y7 =>
    ucall (f_X3_within N b g u3 y1 0 (y7 - 1)) fun r10 u8 =>
    if r10 = 0 then
    f_X3_beside_95 N b g a0 u8
    else
    (uGI u8 a0 2 35).bind fun y12 =>
    f_X3_beside_96 N b g a0 u8 ((y12 * y1) + x3)
set_option maxHeartbeats 4000000 in
set_option maxRecDepth 100000 in
theorem zz_X3_beside_51 {G : uG} {a0 : Nat} {uf : UH} {r : Int32} (N : Nat) (u : UH) (x3 : Int32) (s0 : Int32) (s1 : Int32) (h : f_X3_beside_51 N (ub G) (ug G) a0 u x3 s0 s1 = some (r, uf)) : uf.1 = u.1 ∧ uf.2.1 = u.2.1 := by
  unfold f_X3_beside_51 at h
  obtain ⟨y1, ey1⟩ : ∃ z, z = s1 + s0 := ⟨_, rfl⟩
  have h := mlet_at ey1 h
  obtain ⟨y2, hy2, h⟩ := mbind_n h
  obtain ⟨r5, u3, c4, h⟩ := ucall_n h
  have zu3 := zz_X3_within N (ub G) (ug G) u x3 0 (y2 - 1) r5 u3 c4
  by_cases c6 : r5 = 0
  · have h := mif_t c6 h
    have hq := zz_X3_beside_95 (G := G) (a0 := a0) N u3 h
    exact ⟨by omega, by omega⟩
  · have h := mif_f c6 h
    obtain ⟨y7, hy7, h⟩ := mbind_n h
    obtain ⟨r10, u8, c9, h⟩ := ucall_n h
    have zu8 := zz_X3_within N (ub G) (ug G) u3 y1 0 (y7 - 1) r10 u8 c9
    by_cases c11 : r10 = 0
    · have h := mif_t c11 h
      have hq := zz_X3_beside_95 (G := G) (a0 := a0) N u8 h
      exact ⟨by omega, by omega⟩
    · have h := mif_f c11 h
      obtain ⟨y12, hy12, h⟩ := mbind_n h
      have hq := zz_X3_beside_96 (G := G) (a0 := a0) N u8 ((y12 * y1) + x3) h
      exact ⟨by omega, by omega⟩
set_option maxHeartbeats 4000000 in
set_option maxRecDepth 100000 in
theorem w_X3_beside_51 {p : Program} {l : Launch} {e : Env} {R : Room} {s : State} {m : MethodId} {args : Array Value} {below : List Frame} {meth : Method} {c : Code} {G : uG} {a0 : Nat} {uf : UH} {r : Int32} (hC : uC p s m args meth c G RX3 cX3_beside 5 (some .int)) (hR : 1 ≤ R.frames ∧ 22 ≤ R.locals) (N : Nat) (u : UH) (x3 : Int32) (s0 : Int32) (s1 : Int32) (h : f_X3_beside_51 N (ub G) (ug G) a0 u x3 s0 s1 = some (r, uf)) {H : Heap} {locs : List Loc} (hP : uP G u H) (hS : va_S (uA G) s.heap H locs) {ls : Array Slot} (hl : lv_has ls 5 [(0, va_rf (some a0)), (3, .int x3)]) : W p l e R s m args below meth c H locs 0 0 (MQ below (uQi G r uf) args s 0 0 (uA G)) (F0 m 51 ls [.int s0, .int s1]) := by
  obtain ⟨⟨hx, hb, hml, hown, hts⟩, hKK⟩ := id hC
  unfold f_X3_beside_51 at h
  refine lv_iadd hx hb dX3_beside_51 ?_
  refine lv_topi (fun y1 ey1 => ?_)
  have h := mlet_at ey1 h
  refine lv_istore (lv' := [(4, .int y1), (0, va_rf (some a0)), (3, .int x3)]) hx hb dX3_beside_52 hl (by decide) rfl (fun ls hl => ?_)
  refine lv_iload_n hx hb dX3_beside_54 rfl (lv_at hl 2 rfl) ?_
  refine lv_iconst (v := 0) hx hb dX3_beside_55 (by decide) ?_
  refine u_aload_n (r := some a0) hx hb dX3_beside_56 rfl (lv_at hl 1 rfl) ?_
  obtain ⟨y2, hy2, h⟩ := mbind_n h
  refine u_get hC hP (uGI_n hy2) rfl in_X3 (by decide) q1928 (fun _ h => h) dX3_beside_57 ?_
  refine lv_iconst (v := 1) hx hb dX3_beside_60 (by decide) ?_
  refine lv_isub hx hb dX3_beside_61 ?_
  obtain ⟨r5, u3, c4, h⟩ := ucall_n h
  have zu3 := zz_X3_within N (ub G) (ug G) u x3 0 (y2 - 1) r5 u3 c4
  refine u_calli (va_runS (As := [.int x3, .int 0, .int (y2 - 1)]) (rest := []) hC.1 (met_X3_within l N G u x3 0 (y2 - 1) r5 u3 c4) (va_cwS 3 hts (lw_S q2135 q2136 q103 q2137) rfl rfl rfl (by decide +kernel) ⟨Nat.le_trans (Nat.le_of_ble_eq_true rfl) hR.1, Nat.le_trans (Nat.le_of_ble_eq_true rfl) hR.2⟩) ⟨uPc_blind, fun U hU hW => u_pre hC hP hS hU hW⟩ rfl rfl hl.1 rfl (lv_room (Nat.le_of_ble_eq_true rfl)) dX3_beside_62 ⟨Nat.zero_le _, Nat.zero_le _⟩) hS (fun H locs hP hS => ?_)
  refine lv_if_eq (tgt := 95) hx hb dX3_beside_65 (by decide) (fun c6 => ?_) (fun c6 => ?_)
  · have h := mif_t c6 h
    exact w_X3_beside_95 hC hR N u3 h hP hS (lv_sub hl [] rfl)
  · have h := mif_f c6 h
    refine lv_iload hx hb dX3_beside_68 (lv_at hl 0 rfl) ?_
    refine lv_iconst (v := 0) hx hb dX3_beside_70 (by decide) ?_
    refine u_aload_n (r := some a0) hx hb dX3_beside_71 rfl (lv_at hl 1 rfl) ?_
    obtain ⟨y7, hy7, h⟩ := mbind_n h
    refine u_get hC hP (uGI_n hy7) rfl in_X3 (by decide) q1929 (fun _ h => h) dX3_beside_72 ?_
    refine lv_iconst (v := 1) hx hb dX3_beside_75 (by decide) ?_
    refine lv_isub hx hb dX3_beside_76 ?_
    obtain ⟨r10, u8, c9, h⟩ := ucall_n h
    have zu8 := zz_X3_within N (ub G) (ug G) u3 y1 0 (y7 - 1) r10 u8 c9
    refine u_calli (va_runS (As := [.int y1, .int 0, .int (y7 - 1)]) (rest := []) hC.1 (met_X3_within l N G u3 y1 0 (y7 - 1) r10 u8 c9) (va_cwS 3 hts (lw_S q2135 q2136 q103 q2137) rfl rfl rfl (by decide +kernel) ⟨Nat.le_trans (Nat.le_of_ble_eq_true rfl) hR.1, Nat.le_trans (Nat.le_of_ble_eq_true rfl) hR.2⟩) ⟨uPc_blind, fun U hU hW => u_pre hC hP hS hU hW⟩ rfl rfl hl.1 rfl (lv_room (Nat.le_of_ble_eq_true rfl)) dX3_beside_77 ⟨Nat.zero_le _, Nat.zero_le _⟩) hS (fun H locs hP hS => ?_)
    refine lv_if_eq (tgt := 95) hx hb dX3_beside_80 (by decide) (fun c11 => ?_) (fun c11 => ?_)
    · have h := mif_t c11 h
      exact w_X3_beside_95 hC hR N u8 h hP hS (lv_sub hl [] rfl)
    · have h := mif_f c11 h
      refine u_aload_n (r := some a0) hx hb dX3_beside_83 rfl (lv_at hl 1 rfl) ?_
      obtain ⟨y12, hy12, h⟩ := mbind_n h
      refine u_get hC hP (uGI_n hy12) rfl in_X3 (by decide) q1928 (fun _ h => h) dX3_beside_84 ?_
      refine lv_iload hx hb dX3_beside_87 (lv_at hl 0 rfl) ?_
      refine lv_imul hx hb dX3_beside_89 ?_
      refine lv_iload_n hx hb dX3_beside_90 rfl (lv_at hl 2 rfl) ?_
      refine lv_iadd hx hb dX3_beside_91 ?_
      refine lv_goto (tgt := 96) hx hb dX3_beside_92 (by decide) ?_
      exact w_X3_beside_96 hC hR N u8 ((y12 * y1) + x3) h hP hS (lv_sub hl [] rfl)
def f_X3_beside_24 (N b : Nat) (g : uEnv) (a0 : Nat) (u : UH) (x1 : Int32) (x2 : Int32) (s0 : Int32) (s1 : Int32) : Option (Int32 × UH) :=
    mlet (s1 + s0) fun y1 =>
    (uGI u a0 2 35).bind fun y2 =>
    if ¬ y2 = 0 then
    if x2 = 2 then
    f_X3_beside_51 N b g a0 u y1 (-1) (x1 / y2)
    else
    if x2 = 3 then
    f_X3_beside_51 N b g a0 u y1 1 (x1 / y2)
    else
    f_X3_beside_51 N b g a0 u y1 0 (x1 / y2)
    else none
set_option maxHeartbeats 4000000 in
set_option maxRecDepth 100000 in
theorem zz_X3_beside_24 {G : uG} {a0 : Nat} {uf : UH} {r : Int32} (N : Nat) (u : UH) (x1 : Int32) (x2 : Int32) (s0 : Int32) (s1 : Int32) (h : f_X3_beside_24 N (ub G) (ug G) a0 u x1 x2 s0 s1 = some (r, uf)) : uf.1 = u.1 ∧ uf.2.1 = u.2.1 := by
  unfold f_X3_beside_24 at h
  obtain ⟨y1, ey1⟩ : ∃ z, z = s1 + s0 := ⟨_, rfl⟩
  have h := mlet_at ey1 h
  obtain ⟨y2, hy2, h⟩ := mbind_n h
  obtain ⟨c3, h⟩ := mif_n h
  by_cases c4 : x2 = 2
  · have h := mif_t c4 h
    have hq := zz_X3_beside_51 (G := G) (a0 := a0) N u y1 (-1) (x1 / y2) h
    exact ⟨by omega, by omega⟩
  · have h := mif_f c4 h
    by_cases c5 : x2 = 3
    · have h := mif_t c5 h
      have hq := zz_X3_beside_51 (G := G) (a0 := a0) N u y1 1 (x1 / y2) h
      exact ⟨by omega, by omega⟩
    · have h := mif_f c5 h
      have hq := zz_X3_beside_51 (G := G) (a0 := a0) N u y1 0 (x1 / y2) h
      exact ⟨by omega, by omega⟩
set_option maxHeartbeats 4000000 in
set_option maxRecDepth 100000 in
theorem w_X3_beside_24 {p : Program} {l : Launch} {e : Env} {R : Room} {s : State} {m : MethodId} {args : Array Value} {below : List Frame} {meth : Method} {c : Code} {G : uG} {a0 : Nat} {uf : UH} {r : Int32} (hC : uC p s m args meth c G RX3 cX3_beside 5 (some .int)) (hR : 1 ≤ R.frames ∧ 22 ≤ R.locals) (N : Nat) (u : UH) (x1 : Int32) (x2 : Int32) (s0 : Int32) (s1 : Int32) (h : f_X3_beside_24 N (ub G) (ug G) a0 u x1 x2 s0 s1 = some (r, uf)) {H : Heap} {locs : List Loc} (hP : uP G u H) (hS : va_S (uA G) s.heap H locs) {ls : Array Slot} (hl : lv_has ls 5 [(0, va_rf (some a0)), (1, .int x1), (2, .int x2)]) : W p l e R s m args below meth c H locs 0 0 (MQ below (uQi G r uf) args s 0 0 (uA G)) (F0 m 24 ls [.int s0, .int s1]) := by
  obtain ⟨⟨hx, hb, hml, hown, hts⟩, hKK⟩ := id hC
  unfold f_X3_beside_24 at h
  refine lv_iadd hx hb dX3_beside_24 ?_
  refine lv_topi (fun y1 ey1 => ?_)
  have h := mlet_at ey1 h
  refine lv_istore_n (i := 3) (lv' := [(3, .int y1), (0, va_rf (some a0)), (1, .int x1), (2, .int x2)]) hx hb dX3_beside_25 rfl hl (by decide) rfl (fun ls hl => ?_)
  refine lv_iload_n hx hb dX3_beside_26 rfl (lv_at hl 2 rfl) ?_
  refine u_aload_n (r := some a0) hx hb dX3_beside_27 rfl (lv_at hl 1 rfl) ?_
  obtain ⟨y2, hy2, h⟩ := mbind_n h
  refine u_get hC hP (uGI_n hy2) rfl in_X3 (by decide) q1928 (fun _ h => h) dX3_beside_28 ?_
  obtain ⟨c3, h⟩ := mif_n h
  refine lv_idiv hx hb dX3_beside_31 c3 ?_
  refine lv_iload_n hx hb dX3_beside_32 rfl (lv_at hl 3 rfl) ?_
  refine lv_iconst (v := 2) hx hb dX3_beside_33 (by decide) ?_
  refine lv_icmp_ne (tgt := 41) hx hb dX3_beside_34 (by decide) (fun c4 => ?_) (fun c4 => ?_)
  · have h := mif_f c4 h
    refine lv_iload_n hx hb dX3_beside_41 rfl (lv_at hl 3 rfl) ?_
    refine lv_iconst (v := 3) hx hb dX3_beside_42 (by decide) ?_
    refine lv_icmp_ne (tgt := 50) hx hb dX3_beside_43 (by decide) (fun c5 => ?_) (fun c5 => ?_)
    · have h := mif_f c5 h
      refine lv_iconst (v := 0) hx hb dX3_beside_50 (by decide) ?_
      exact w_X3_beside_51 hC hR N u y1 0 (x1 / y2) h hP hS (lv_sub hl [1, 0] rfl)
    · have h := mif_t c5 h
      refine lv_iconst (v := 1) hx hb dX3_beside_46 (by decide) ?_
      refine lv_goto (tgt := 51) hx hb dX3_beside_47 (by decide) ?_
      exact w_X3_beside_51 hC hR N u y1 1 (x1 / y2) h hP hS (lv_sub hl [1, 0] rfl)
  · have h := mif_t c4 h
    refine lv_iconst (v := (-1)) hx hb dX3_beside_37 (by decide) ?_
    refine lv_goto (tgt := 51) hx hb dX3_beside_38 (by decide) ?_
    exact w_X3_beside_51 hC hR N u y1 (-1) (x1 / y2) h hP hS (lv_sub hl [1, 0] rfl)
def f_X3_beside (N b : Nat) (g : uEnv) (u : UH) (a0 : Nat) (x1 : Int32) (x2 : Int32) : Option (Int32 × UH) :=
    (uGI u a0 2 35).bind fun y1 =>
    if ¬ y1 = 0 then
    if x2 = 0 then
    f_X3_beside_24 N b g a0 u x1 x2 1 (x1 - x1 / y1 * y1)
    else
    if x2 = 1 then
    f_X3_beside_24 N b g a0 u x1 x2 (-1) (x1 - x1 / y1 * y1)
    else
    f_X3_beside_24 N b g a0 u x1 x2 0 (x1 - x1 / y1 * y1)
    else none
set_option maxHeartbeats 4000000 in
set_option maxRecDepth 100000 in
theorem zz_X3_beside_0 {G : uG} {a0 : Nat} {uf : UH} {r : Int32} (N : Nat) (u : UH) (x1 : Int32) (x2 : Int32) (h : f_X3_beside N (ub G) (ug G) u a0 x1 x2 = some (r, uf)) : uf.1 = u.1 ∧ uf.2.1 = u.2.1 := by
  unfold f_X3_beside at h
  obtain ⟨y1, hy1, h⟩ := mbind_n h
  obtain ⟨c2, h⟩ := mif_n h
  by_cases c3 : x2 = 0
  · have h := mif_t c3 h
    have hq := zz_X3_beside_24 (G := G) (a0 := a0) N u x1 x2 1 (x1 - x1 / y1 * y1) h
    exact ⟨by omega, by omega⟩
  · have h := mif_f c3 h
    by_cases c4 : x2 = 1
    · have h := mif_t c4 h
      have hq := zz_X3_beside_24 (G := G) (a0 := a0) N u x1 x2 (-1) (x1 - x1 / y1 * y1) h
      exact ⟨by omega, by omega⟩
    · have h := mif_f c4 h
      have hq := zz_X3_beside_24 (G := G) (a0 := a0) N u x1 x2 0 (x1 - x1 / y1 * y1) h
      exact ⟨by omega, by omega⟩
set_option maxHeartbeats 4000000 in
set_option maxRecDepth 100000 in
theorem w_X3_beside_0 {p : Program} {l : Launch} {e : Env} {R : Room} {s : State} {m : MethodId} {args : Array Value} {below : List Frame} {meth : Method} {c : Code} {G : uG} {a0 : Nat} {uf : UH} {r : Int32} (hC : uC p s m args meth c G RX3 cX3_beside 5 (some .int)) (hR : 1 ≤ R.frames ∧ 22 ≤ R.locals) (N : Nat) (u : UH) (x1 : Int32) (x2 : Int32) (h : f_X3_beside N (ub G) (ug G) u a0 x1 x2 = some (r, uf)) {H : Heap} {locs : List Loc} (hP : uP G u H) (hS : va_S (uA G) s.heap H locs) {ls : Array Slot} (hl : lv_has ls 5 [(0, va_rf (some a0)), (1, .int x1), (2, .int x2)]) : W p l e R s m args below meth c H locs 0 0 (MQ below (uQi G r uf) args s 0 0 (uA G)) (F0 m 0 ls []) := by
  obtain ⟨⟨hx, hb, hml, hown, hts⟩, hKK⟩ := id hC
  unfold f_X3_beside at h
  refine lv_iload_n hx hb dX3_beside_0 rfl (lv_at hl 1 rfl) ?_
  refine u_aload_n (r := some a0) hx hb dX3_beside_1 rfl (lv_at hl 0 rfl) ?_
  obtain ⟨y1, hy1, h⟩ := mbind_n h
  refine u_get hC hP (uGI_n hy1) rfl in_X3 (by decide) q1928 (fun _ h => h) dX3_beside_2 ?_
  obtain ⟨c2, h⟩ := mif_n h
  refine lv_irem hx hb dX3_beside_5 c2 ?_
  refine lv_iload_n hx hb dX3_beside_6 rfl (lv_at hl 2 rfl) ?_
  refine lv_if_ne (tgt := 14) hx hb dX3_beside_7 (by decide) (fun c3 => ?_) (fun c3 => ?_)
  · have h := mif_f c3 h
    refine lv_iload_n hx hb dX3_beside_14 rfl (lv_at hl 2 rfl) ?_
    refine lv_iconst (v := 1) hx hb dX3_beside_15 (by decide) ?_
    refine lv_icmp_ne (tgt := 23) hx hb dX3_beside_16 (by decide) (fun c4 => ?_) (fun c4 => ?_)
    · have h := mif_f c4 h
      refine lv_iconst (v := 0) hx hb dX3_beside_23 (by decide) ?_
      exact w_X3_beside_24 hC hR N u x1 x2 0 (x1 - x1 / y1 * y1) h hP hS (lv_sub hl [0, 1, 2] rfl)
    · have h := mif_t c4 h
      refine lv_iconst (v := (-1)) hx hb dX3_beside_19 (by decide) ?_
      refine lv_goto (tgt := 24) hx hb dX3_beside_20 (by decide) ?_
      exact w_X3_beside_24 hC hR N u x1 x2 (-1) (x1 - x1 / y1 * y1) h hP hS (lv_sub hl [0, 1, 2] rfl)
  · have h := mif_t c3 h
    refine lv_iconst (v := 1) hx hb dX3_beside_10 (by decide) ?_
    refine lv_goto (tgt := 24) hx hb dX3_beside_11 (by decide) ?_
    exact w_X3_beside_24 hC hR N u x1 x2 1 (x1 - x1 / y1 * y1) h hP hS (lv_sub hl [0, 1, 2] rfl)
theorem zz_X3_beside (N b : Nat) (g : uEnv) (u : UH) (a0 : Nat) (x1 : Int32) (x2 : Int32) (r : Int32) (uf : UH) (h : f_X3_beside N b g u a0 x1 x2 = some (r, uf)) : uf.1 = u.1 ∧ uf.2.1 = u.2.1 :=
  zz_X3_beside_0 (G := ((fun _ => 0, fun _ _ => 0), fun _ => 0, b, g)) (a0 := a0) N u x1 x2 h
theorem met_X3_beside (l : Launch) (N : Nat) (G : uG) (u : UH) (a0 : Nat) (x1 : Int32) (x2 : Int32) (r : Int32) (uf : UH) (h : f_X3_beside N (ub G) (ug G) u a0 x1 x2 = some (r, uf)) : Met l yX3_beside (ws_ yX3_beside cX3_beside 5 (some .int)) ({ frames := 1, cells := 0, slots := 0, locals := 22 }) (uPc G u [.ref a0, .int x1, .int x2]) (uQi G r uf) 0 0 (uA G) := by
  exact u_met (own := RX3) (by decide +kernel) rfl (Nat.le_of_ble_eq_true rfl) (fun hC hn hsz ls hl hP => w_X3_beside_0 hC ⟨Nat.le_refl _, Nat.le_refl _⟩ N u x1 x2 h hP va_S.rf hl)
def f_X3_isNear_48 (N b : Nat) (g : uEnv) (a0 : Nat) (k17 : UH → Int32 → Int32 → Int32 → Int32 → Option (Int32 × UH)) (u : UH) (x1 : Int32) (x2 : Int32) (x4 : Int32) (s0 : Int32) : Option (Int32 × UH) :=
    mlet (x4 + 1) fun y1 =>
    k17 u x1 x2 s0 y1
set_option maxHeartbeats 4000000 in
set_option maxRecDepth 100000 in
theorem zz_X3_isNear_48 {G : uG} {a0 : Nat} {uf : UH} {r : Int32} (N : Nat) (k17 : UH → Int32 → Int32 → Int32 → Int32 → Option (Int32 × UH)) (hk17 : ∀ (u : UH) (x1 : Int32) (x2 : Int32) (x3 : Int32) (x4 : Int32), k17 u x1 x2 x3 x4 = some (r, uf) → uf.1 = u.1 ∧ uf.2.1 = u.2.1) (u : UH) (x1 : Int32) (x2 : Int32) (x4 : Int32) (s0 : Int32) (h : f_X3_isNear_48 N (ub G) (ug G) a0 k17 u x1 x2 x4 s0 = some (r, uf)) : uf.1 = u.1 ∧ uf.2.1 = u.2.1 := by
  unfold f_X3_isNear_48 at h
  obtain ⟨y1, ey1⟩ : ∃ z : Int32, z = x4 + 1 := ⟨_, rfl⟩
  have h := mlet_at ey1 h
  have hq := hk17 u x1 x2 s0 y1 h
  exact ⟨by omega, by omega⟩
set_option maxHeartbeats 4000000 in
set_option maxRecDepth 100000 in
theorem w_X3_isNear_48 {p : Program} {l : Launch} {e : Env} {R : Room} {s : State} {m : MethodId} {args : Array Value} {below : List Frame} {meth : Method} {c : Code} {G : uG} {a0 : Nat} {uf : UH} {r : Int32} (hC : uC p s m args meth c G RX3 cX3_isNear 5 (some .boolean)) (hR : 2 ≤ R.frames ∧ 46 ≤ R.locals) (N : Nat) (k17 : UH → Int32 → Int32 → Int32 → Int32 → Option (Int32 × UH)) (hk17 : ∀ (u : UH) (x1 : Int32) (x2 : Int32) (x3 : Int32) (x4 : Int32), k17 u x1 x2 x3 x4 = some (r, uf) → ∀ (H : Heap) (locs : List Loc), uP G u H → va_S (uA G) s.heap H locs → ∀ ls : Array Slot, lv_has ls 5 [(0, va_rf (some a0)), (1, .int x1), (2, .int x2), (3, .int x3), (4, .int x4)] → W p l e R s m args below meth c H locs 0 0 (MQ below (uQi G r uf) args s 0 0 (uA G)) (F0 m 17 ls [])) (u : UH) (x1 : Int32) (x2 : Int32) (x4 : Int32) (s0 : Int32) (h : f_X3_isNear_48 N (ub G) (ug G) a0 k17 u x1 x2 x4 s0 = some (r, uf)) {H : Heap} {locs : List Loc} (hP : uP G u H) (hS : va_S (uA G) s.heap H locs) {ls : Array Slot} (hl : lv_has ls 5 [(0, va_rf (some a0)), (1, .int x1), (2, .int x2), (4, .int x4)]) : W p l e R s m args below meth c H locs 0 0 (MQ below (uQi G r uf) args s 0 0 (uA G)) (F0 m 48 ls [.int s0]) := by
  obtain ⟨⟨hx, hb, hml, hown, hts⟩, hKK⟩ := id hC
  unfold f_X3_isNear_48 at h
  refine lv_istore_n (i := 3) (lv' := [(3, .int s0), (0, va_rf (some a0)), (1, .int x1), (2, .int x2), (4, .int x4)]) hx hb dX3_isNear_48 rfl hl (by decide) rfl (fun ls hl => ?_)
  obtain ⟨y1, ey1⟩ : ∃ z : Int32, z = x4 + 1 := ⟨_, rfl⟩
  have h := mlet_at ey1 h
  refine lv_iinc (v := y1) (lv' := [(4, .int y1), (3, .int s0), (0, va_rf (some a0)), (1, .int x1), (2, .int x2)]) hx hb dX3_isNear_49 hl (k := 4) rfl (by rw [ey1]; rfl) (by decide) rfl (fun ls hl => ?_)
  refine lv_goto (tgt := 17) hx hb dX3_isNear_52 (by decide) ?_
  exact hk17 u x1 x2 s0 y1 h _ _ hP hS _ (lv_sub hl [2, 3, 4, 1, 0] rfl)
def f_X3_isNear_43 (N b : Nat) (g : uEnv) (a0 : Nat) (k17 : UH → Int32 → Int32 → Int32 → Int32 → Option (Int32 × UH)) (u : UH) (x1 : Int32) (x2 : Int32) (x4 : Int32) : Option (Int32 × UH) :=
    f_X3_isNear_48 N b g a0 k17 u x1 x2 x4 1
set_option maxHeartbeats 4000000 in
set_option maxRecDepth 100000 in
theorem zz_X3_isNear_43 {G : uG} {a0 : Nat} {uf : UH} {r : Int32} (N : Nat) (k17 : UH → Int32 → Int32 → Int32 → Int32 → Option (Int32 × UH)) (hk17 : ∀ (u : UH) (x1 : Int32) (x2 : Int32) (x3 : Int32) (x4 : Int32), k17 u x1 x2 x3 x4 = some (r, uf) → uf.1 = u.1 ∧ uf.2.1 = u.2.1) (u : UH) (x1 : Int32) (x2 : Int32) (x4 : Int32) (h : f_X3_isNear_43 N (ub G) (ug G) a0 k17 u x1 x2 x4 = some (r, uf)) : uf.1 = u.1 ∧ uf.2.1 = u.2.1 := by
  unfold f_X3_isNear_43 at h
  have hq := zz_X3_isNear_48 (G := G) (a0 := a0) N k17 hk17 u x1 x2 x4 1 h
  exact ⟨by omega, by omega⟩
set_option maxHeartbeats 4000000 in
set_option maxRecDepth 100000 in
theorem w_X3_isNear_43 {p : Program} {l : Launch} {e : Env} {R : Room} {s : State} {m : MethodId} {args : Array Value} {below : List Frame} {meth : Method} {c : Code} {G : uG} {a0 : Nat} {uf : UH} {r : Int32} (hC : uC p s m args meth c G RX3 cX3_isNear 5 (some .boolean)) (hR : 2 ≤ R.frames ∧ 46 ≤ R.locals) (N : Nat) (k17 : UH → Int32 → Int32 → Int32 → Int32 → Option (Int32 × UH)) (hk17 : ∀ (u : UH) (x1 : Int32) (x2 : Int32) (x3 : Int32) (x4 : Int32), k17 u x1 x2 x3 x4 = some (r, uf) → ∀ (H : Heap) (locs : List Loc), uP G u H → va_S (uA G) s.heap H locs → ∀ ls : Array Slot, lv_has ls 5 [(0, va_rf (some a0)), (1, .int x1), (2, .int x2), (3, .int x3), (4, .int x4)] → W p l e R s m args below meth c H locs 0 0 (MQ below (uQi G r uf) args s 0 0 (uA G)) (F0 m 17 ls [])) (u : UH) (x1 : Int32) (x2 : Int32) (x4 : Int32) (h : f_X3_isNear_43 N (ub G) (ug G) a0 k17 u x1 x2 x4 = some (r, uf)) {H : Heap} {locs : List Loc} (hP : uP G u H) (hS : va_S (uA G) s.heap H locs) {ls : Array Slot} (hl : lv_has ls 5 [(0, va_rf (some a0)), (1, .int x1), (2, .int x2), (4, .int x4)]) : W p l e R s m args below meth c H locs 0 0 (MQ below (uQi G r uf) args s 0 0 (uA G)) (F0 m 43 ls []) := by
  obtain ⟨⟨hx, hb, hml, hown, hts⟩, hKK⟩ := id hC
  unfold f_X3_isNear_43 at h
  refine lv_iconst (v := 1) hx hb dX3_isNear_43 (by decide) ?_
  refine lv_goto (tgt := 48) hx hb dX3_isNear_44 (by decide) ?_
  exact w_X3_isNear_48 hC hR N k17 hk17 u x1 x2 x4 1 h hP hS (lv_sub hl [0, 1, 2, 3] rfl)
def f_X3_isNear_17 (N b : Nat) (g : uEnv) (a0 : Nat) : Nat → UH → Int32 → Int32 → Int32 → Int32 → Option (Int32 × UH)
  | 0, _, _, _, _, _ => none
  | n + 1, u, x1, x2, x3, x4 =>
    if 4 ≤ x4 then
    if uFit .boolean x3 = true then
    some (x3, u)
    else none
    else
    if x3 = 0 then
    if uIs u a0 2 = true then
    ucall (f_X3_beside N b g u a0 x1 x4) fun r7 u5 =>
    (uGR u5 a0 2 44).bind fun o8 =>
    (o8).bind fun a9 =>
    (uLdI u5 a9 0 x2).bind fun y10 =>
    if r7 = y10 then
    f_X3_isNear_43 N b g a0 (f_X3_isNear_17 N b g a0 n) u5 x1 x2 x4
    else
    f_X3_isNear_48 N b g a0 (f_X3_isNear_17 N b g a0 n) u5 x1 x2 x4 0
    else none
    else
    f_X3_isNear_43 N b g a0 (f_X3_isNear_17 N b g a0 n) u x1 x2 x4
set_option maxHeartbeats 4000000 in
set_option maxRecDepth 100000 in
theorem zz_X3_isNear_17 {G : uG} {a0 : Nat} {uf : UH} {r : Int32} (N : Nat) : ∀ (n : Nat) (u : UH) (x1 : Int32) (x2 : Int32) (x3 : Int32) (x4 : Int32), f_X3_isNear_17 N (ub G) (ug G) a0 n u x1 x2 x3 x4 = some (r, uf) → uf.1 = u.1 ∧ uf.2.1 = u.2.1 := by
  intro n
  induction n with
  | zero =>
    intro u x1 x2 x3 x4 h
    cases h
  | succ n ih =>
    intro u x1 x2 x3 x4 h
    unfold f_X3_isNear_17 at h
    by_cases c1 : 4 ≤ x4
    · have h := mif_t c1 h
      obtain ⟨c2, h⟩ := mif_n h
      obtain ⟨hr1, hr2⟩ := uret_n h
      subst hr2
      exact ⟨by omega, by omega⟩
    · have h := mif_f c1 h
      by_cases c3 : x3 = 0
      · have h := mif_t c3 h
        obtain ⟨c4, h⟩ := mif_n h
        obtain ⟨r7, u5, c6, h⟩ := ucall_n h
        have zu5 := zz_X3_beside N (ub G) (ug G) u a0 x1 x4 r7 u5 c6
        obtain ⟨o8, ho8, h⟩ := mbind_n h
        obtain ⟨a9, ha9, hha9⟩ := mbind_n h
        subst ha9
        have h := hha9
        obtain ⟨y10, hy10, h⟩ := mbind_n h
        by_cases c11 : r7 = y10
        · have h := mif_t c11 h
          have hq := zz_X3_isNear_43 (G := G) (a0 := a0) N (f_X3_isNear_17 N (ub G) (ug G) a0 n) ih u5 x1 x2 x4 h
          exact ⟨by omega, by omega⟩
        · have h := mif_f c11 h
          have hq := zz_X3_isNear_48 (G := G) (a0 := a0) N (f_X3_isNear_17 N (ub G) (ug G) a0 n) ih u5 x1 x2 x4 0 h
          exact ⟨by omega, by omega⟩
      · have h := mif_f c3 h
        have hq := zz_X3_isNear_43 (G := G) (a0 := a0) N (f_X3_isNear_17 N (ub G) (ug G) a0 n) ih u x1 x2 x4 h
        exact ⟨by omega, by omega⟩
set_option maxHeartbeats 4000000 in
set_option maxRecDepth 100000 in
theorem w_X3_isNear_17 {p : Program} {l : Launch} {e : Env} {R : Room} {s : State} {m : MethodId} {args : Array Value} {below : List Frame} {meth : Method} {c : Code} {G : uG} {a0 : Nat} {uf : UH} {r : Int32} (hC : uC p s m args meth c G RX3 cX3_isNear 5 (some .boolean)) (hR : 2 ≤ R.frames ∧ 46 ≤ R.locals) (N : Nat) : ∀ (n : Nat) (u : UH) (x1 : Int32) (x2 : Int32) (x3 : Int32) (x4 : Int32), f_X3_isNear_17 N (ub G) (ug G) a0 n u x1 x2 x3 x4 = some (r, uf) → ∀ (H : Heap) (locs : List Loc), uP G u H → va_S (uA G) s.heap H locs → ∀ ls : Array Slot, lv_has ls 5 [(0, va_rf (some a0)), (1, .int x1), (2, .int x2), (3, .int x3), (4, .int x4)] → W p l e R s m args below meth c H locs 0 0 (MQ below (uQi G r uf) args s 0 0 (uA G)) (F0 m 17 ls []) := by
  obtain ⟨⟨hx, hb, hml, hown, hts⟩, hKK⟩ := id hC
  intro n
  induction n with
  | zero =>
    intro u x1 x2 x3 x4 h
    cases h
  | succ n ih =>
    intro u x1 x2 x3 x4 h H locs hP hS ls hl
    unfold f_X3_isNear_17 at h
    refine lv_iload hx hb dX3_isNear_17 (lv_at hl 4 rfl) ?_
    refine lv_iconst (v := 4) hx hb dX3_isNear_19 (by decide) ?_
    refine lv_icmp_ge (tgt := 55) hx hb dX3_isNear_20 (by decide) (fun c1 => ?_) (fun c1 => ?_)
    · have h := mif_t c1 h
      refine lv_iload_n hx hb dX3_isNear_55 rfl (lv_at hl 3 rfl) ?_
      obtain ⟨c2, h⟩ := mif_n h
      obtain ⟨hr1, hr2⟩ := uret_n h
      subst hr1
      subst hr2
      exact u_zret hC (uFit_n c2).1 hP hS dX3_isNear_56
    · have h := mif_f c1 h
      refine lv_iload_n hx hb dX3_isNear_23 rfl (lv_at hl 3 rfl) ?_
      refine lv_if_ne (tgt := 43) hx hb dX3_isNear_24 (by decide) (fun c3 => ?_) (fun c3 => ?_)
      · have h := mif_f c3 h
        exact w_X3_isNear_43 hC hR N (f_X3_isNear_17 N (ub G) (ug G) a0 n) ih u x1 x2 x4 h hP hS (lv_sub hl [0, 1, 2, 4] rfl)
      · have h := mif_t c3 h
        refine u_aload_n (r := some a0) hx hb dX3_isNear_27 rfl (lv_at hl 0 rfl) ?_
        refine lv_iload_n hx hb dX3_isNear_28 rfl (lv_at hl 1 rfl) ?_
        refine lv_iload hx hb dX3_isNear_29 (lv_at hl 4 rfl) ?_
        obtain ⟨c4, h⟩ := mif_n h
        obtain ⟨r7, u5, c6, h⟩ := ucall_n h
        have zu5 := zz_X3_beside N (ub G) (ug G) u a0 x1 x4 r7 u5 c6
        refine u_calli (va_runV (As := [.int x1, .int x4]) (rest := []) hC.1 (met_X3_beside l N G u a0 x1 x4 r7 u5 c6) (cwV 2 hts (lw_V q2316 q2318 qs63 q103 q2319) rfl rfl rfl (by decide +kernel) ⟨Nat.le_trans (Nat.le_of_ble_eq_true rfl) hR.1, Nat.le_trans (Nat.le_of_ble_eq_true rfl) hR.2⟩) ⟨uPc_blind, u_rcv hC hP c4 rfl, fun U hU hW => u_pre hC hP hS hU hW⟩ rfl rfl hl.1 rfl (lv_room (Nat.le_of_ble_eq_true rfl)) dX3_isNear_31 ⟨Nat.zero_le _, Nat.zero_le _⟩) hS (fun H locs hP hS => ?_)
        refine u_aload_n (r := some a0) hx hb dX3_isNear_34 rfl (lv_at hl 0 rfl) ?_
        obtain ⟨o8, ho8, h⟩ := mbind_n h
        refine u_get hC hP (uGR_n ho8) rfl in_X3 (by decide) q1937 (fun _ h => h) dX3_isNear_35 ?_
        refine lv_iload_n hx hb dX3_isNear_38 rfl (lv_at hl 2 rfl) ?_
        obtain ⟨a9, ha9, hha9⟩ := mbind_n h
        subst ha9
        have h := hha9
        obtain ⟨y10, hy10, h⟩ := mbind_n h
        refine u_iald hC hP hy10 rfl dX3_isNear_39 ?_
        refine lv_icmp_ne (tgt := 47) hx hb dX3_isNear_40 (by decide) (fun c11 => ?_) (fun c11 => ?_)
        · have h := mif_f c11 h
          refine lv_iconst (v := 0) hx hb dX3_isNear_47 (by decide) ?_
          exact w_X3_isNear_48 hC hR N (f_X3_isNear_17 N (ub G) (ug G) a0 n) ih u5 x1 x2 x4 0 h hP hS (lv_sub hl [0, 1, 2, 4] rfl)
        · have h := mif_t c11 h
          exact w_X3_isNear_43 hC hR N (f_X3_isNear_17 N (ub G) (ug G) a0 n) ih u5 x1 x2 x4 h hP hS (lv_sub hl [0, 1, 2, 4] rfl)
def f_X3_isNear (N b : Nat) (g : uEnv) (u : UH) (a0 : Nat) (x1 : Int32) (x2 : Int32) : Option (Int32 × UH) :=
    (uGR u a0 2 44).bind fun o1 =>
    (o1).bind fun a2 =>
    (uLdI u a2 0 x2).bind fun y3 =>
    if y3 = x1 then
    some (1, u)
    else
    f_X3_isNear_17 N b g a0 N u x1 x2 0 0
set_option maxHeartbeats 4000000 in
set_option maxRecDepth 100000 in
theorem zz_X3_isNear_0 {G : uG} {a0 : Nat} {uf : UH} {r : Int32} (N : Nat) (u : UH) (x1 : Int32) (x2 : Int32) (h : f_X3_isNear N (ub G) (ug G) u a0 x1 x2 = some (r, uf)) : uf.1 = u.1 ∧ uf.2.1 = u.2.1 := by
  unfold f_X3_isNear at h
  obtain ⟨o1, ho1, h⟩ := mbind_n h
  obtain ⟨a2, ha2, hha2⟩ := mbind_n h
  subst ha2
  have h := hha2
  obtain ⟨y3, hy3, h⟩ := mbind_n h
  by_cases c4 : y3 = x1
  · have h := mif_t c4 h
    obtain ⟨hr1, hr2⟩ := uret_n h
    subst hr2
    exact ⟨by omega, by omega⟩
  · have h := mif_f c4 h
    have hq := zz_X3_isNear_17 (G := G) (a0 := a0) N N u x1 x2 0 0 h
    exact ⟨by omega, by omega⟩
set_option maxHeartbeats 4000000 in
set_option maxRecDepth 100000 in
theorem w_X3_isNear_0 {p : Program} {l : Launch} {e : Env} {R : Room} {s : State} {m : MethodId} {args : Array Value} {below : List Frame} {meth : Method} {c : Code} {G : uG} {a0 : Nat} {uf : UH} {r : Int32} (hC : uC p s m args meth c G RX3 cX3_isNear 5 (some .boolean)) (hR : 2 ≤ R.frames ∧ 46 ≤ R.locals) (N : Nat) (u : UH) (x1 : Int32) (x2 : Int32) (h : f_X3_isNear N (ub G) (ug G) u a0 x1 x2 = some (r, uf)) {H : Heap} {locs : List Loc} (hP : uP G u H) (hS : va_S (uA G) s.heap H locs) {ls : Array Slot} (hl : lv_has ls 5 [(0, va_rf (some a0)), (1, .int x1), (2, .int x2)]) : W p l e R s m args below meth c H locs 0 0 (MQ below (uQi G r uf) args s 0 0 (uA G)) (F0 m 0 ls []) := by
  obtain ⟨⟨hx, hb, hml, hown, hts⟩, hKK⟩ := id hC
  unfold f_X3_isNear at h
  refine u_aload_n (r := some a0) hx hb dX3_isNear_0 rfl (lv_at hl 0 rfl) ?_
  obtain ⟨o1, ho1, h⟩ := mbind_n h
  refine u_get hC hP (uGR_n ho1) rfl in_X3 (by decide) q1937 (fun _ h => h) dX3_isNear_1 ?_
  refine lv_iload_n hx hb dX3_isNear_4 rfl (lv_at hl 2 rfl) ?_
  obtain ⟨a2, ha2, hha2⟩ := mbind_n h
  subst ha2
  have h := hha2
  obtain ⟨y3, hy3, h⟩ := mbind_n h
  refine u_iald hC hP hy3 rfl dX3_isNear_5 ?_
  refine lv_iload_n hx hb dX3_isNear_6 rfl (lv_at hl 1 rfl) ?_
  refine lv_icmp_ne (tgt := 12) hx hb dX3_isNear_7 (by decide) (fun c4 => ?_) (fun c4 => ?_)
  · have h := mif_f c4 h
    refine lv_iconst (v := 0) hx hb dX3_isNear_12 (by decide) ?_
    refine lv_istore_n (i := 3) (lv' := [(3, .int 0), (0, va_rf (some a0)), (1, .int x1), (2, .int x2)]) hx hb dX3_isNear_13 rfl hl (by decide) rfl (fun ls hl => ?_)
    refine lv_iconst (v := 0) hx hb dX3_isNear_14 (by decide) ?_
    refine lv_istore (lv' := [(4, .int 0), (3, .int 0), (0, va_rf (some a0)), (1, .int x1), (2, .int x2)]) hx hb dX3_isNear_15 hl (by decide) rfl (fun ls hl => ?_)
    exact w_X3_isNear_17 hC hR N N u x1 x2 0 0 h _ _ hP hS _ (lv_sub hl [2, 3, 4, 1, 0] rfl)
  · have h := mif_t c4 h
    refine lv_iconst (v := 1) hx hb dX3_isNear_10 (by decide) ?_
    obtain ⟨hr1, hr2⟩ := uret_n h
    subst hr1
    subst hr2
    exact u_zret hC (uFit_n (ty := .boolean) (v := 1) rfl).1 hP hS dX3_isNear_11
theorem zz_X3_isNear (N b : Nat) (g : uEnv) (u : UH) (a0 : Nat) (x1 : Int32) (x2 : Int32) (r : Int32) (uf : UH) (h : f_X3_isNear N b g u a0 x1 x2 = some (r, uf)) : uf.1 = u.1 ∧ uf.2.1 = u.2.1 :=
  zz_X3_isNear_0 (G := ((fun _ => 0, fun _ _ => 0), fun _ => 0, b, g)) (a0 := a0) N u x1 x2 h
theorem met_X3_isNear (l : Launch) (N : Nat) (G : uG) (u : UH) (a0 : Nat) (x1 : Int32) (x2 : Int32) (r : Int32) (uf : UH) (h : f_X3_isNear N (ub G) (ug G) u a0 x1 x2 = some (r, uf)) : Met l yX3_isNear (ws_ yX3_isNear cX3_isNear 5 (some .boolean)) ({ frames := 2, cells := 0, slots := 0, locals := 46 }) (uPc G u [.ref a0, .int x1, .int x2]) (uQi G r uf) 0 0 (uA G) := by
  exact u_met (own := RX3) (by decide +kernel) rfl (Nat.le_of_ble_eq_true rfl) (fun hC hn hsz ls hl hP => w_X3_isNear_0 hC ⟨Nat.le_refl _, Nat.le_refl _⟩ N u x1 x2 h hP va_S.rf hl)
def f_X3_sees_52 (N b : Nat) (g : uEnv) (a0 : Nat) (k6 : UH → Int32 → Int32 → Int32 → Int32 → Option (Int32 × UH)) (u : UH) (x2 : Int32) (x3 : Int32) (x4 : Int32) (x5 : Int32) : Option (Int32 × UH) :=
    mlet (x5 + 1) fun y1 =>
    k6 u x2 x3 x4 y1
set_option maxHeartbeats 4000000 in
set_option maxRecDepth 100000 in
theorem zz_X3_sees_52 {G : uG} {a0 : Nat} {uf : UH} {r : Int32} (N : Nat) (k6 : UH → Int32 → Int32 → Int32 → Int32 → Option (Int32 × UH)) (hk6 : ∀ (u : UH) (x2 : Int32) (x3 : Int32) (x4 : Int32) (x5 : Int32), k6 u x2 x3 x4 x5 = some (r, uf) → uf.1 = u.1 ∧ uf.2.1 = u.2.1) (u : UH) (x2 : Int32) (x3 : Int32) (x4 : Int32) (x5 : Int32) (h : f_X3_sees_52 N (ub G) (ug G) a0 k6 u x2 x3 x4 x5 = some (r, uf)) : uf.1 = u.1 ∧ uf.2.1 = u.2.1 := by
  unfold f_X3_sees_52 at h
  obtain ⟨y1, ey1⟩ : ∃ z : Int32, z = x5 + 1 := ⟨_, rfl⟩
  have h := mlet_at ey1 h
  have hq := hk6 u x2 x3 x4 y1 h
  exact ⟨by omega, by omega⟩
set_option maxHeartbeats 4000000 in
set_option maxRecDepth 100000 in
theorem w_X3_sees_52 {p : Program} {l : Launch} {e : Env} {R : Room} {s : State} {m : MethodId} {args : Array Value} {below : List Frame} {meth : Method} {c : Code} {G : uG} {a0 : Nat} {uf : UH} {r : Int32} (hC : uC p s m args meth c G RX3 cX3_sees 6 (some .int)) (hR : 3 ≤ R.frames ∧ 70 ≤ R.locals) (N : Nat) (k6 : UH → Int32 → Int32 → Int32 → Int32 → Option (Int32 × UH)) (hk6 : ∀ (u : UH) (x2 : Int32) (x3 : Int32) (x4 : Int32) (x5 : Int32), k6 u x2 x3 x4 x5 = some (r, uf) → ∀ (H : Heap) (locs : List Loc), uP G u H → va_S (uA G) s.heap H locs → ∀ ls : Array Slot, lv_has ls 6 [(0, va_rf (some a0)), (2, .int x2), (3, .int x3), (4, .int x4), (5, .int x5)] → W p l e R s m args below meth c H locs 0 0 (MQ below (uQi G r uf) args s 0 0 (uA G)) (F0 m 6 ls [])) (u : UH) (x2 : Int32) (x3 : Int32) (x4 : Int32) (x5 : Int32) (h : f_X3_sees_52 N (ub G) (ug G) a0 k6 u x2 x3 x4 x5 = some (r, uf)) {H : Heap} {locs : List Loc} (hP : uP G u H) (hS : va_S (uA G) s.heap H locs) {ls : Array Slot} (hl : lv_has ls 6 [(0, va_rf (some a0)), (2, .int x2), (3, .int x3), (4, .int x4), (5, .int x5)]) : W p l e R s m args below meth c H locs 0 0 (MQ below (uQi G r uf) args s 0 0 (uA G)) (F0 m 52 ls []) := by
  obtain ⟨⟨hx, hb, hml, hown, hts⟩, hKK⟩ := id hC
  unfold f_X3_sees_52 at h
  obtain ⟨y1, ey1⟩ : ∃ z : Int32, z = x5 + 1 := ⟨_, rfl⟩
  have h := mlet_at ey1 h
  refine lv_iinc (v := y1) (lv' := [(5, .int y1), (0, va_rf (some a0)), (2, .int x2), (3, .int x3), (4, .int x4)]) hx hb dX3_sees_52 hl (k := 4) rfl (by rw [ey1]; rfl) (by decide) rfl (fun ls hl => ?_)
  refine lv_goto (tgt := 6) hx hb dX3_sees_55 (by decide) ?_
  exact hk6 u x2 x3 x4 y1 h _ _ hP hS _ (lv_sub hl [1, 2, 3, 4, 0] rfl)
def f_X3_sees_6 (N b : Nat) (g : uEnv) (a0 : Nat) : Nat → UH → Int32 → Int32 → Int32 → Int32 → Option (Int32 × UH)
  | 0, _, _, _, _, _ => none
  | n + 1, u, x2, x3, x4, x5 =>
    (uGI u a0 2 37).bind fun y1 =>
    if y1 ≤ x5 then
    some (x4, u)
    else
    ucall (f_X3_digit N b g u x4 x5) fun r5 u3 =>
    if r5 = 0 then
    if uIs u3 a0 2 = true then
    ucall (f_X3_isNear N b g u3 a0 x2 x5) fun r10 u8 =>
    if r10 = 0 then
    f_X3_sees_52 N b g a0 (f_X3_sees_6 N b g a0 n) u8 x2 x3 x4 x5
    else
    ucall (f_X3_digit N b g u8 x3 x5) fun r14 u12 =>
    ucall (f_X3_power N b g u12 x5) fun r17 u15 =>
    mlet (x4 + (r14 * r17)) fun y18 =>
    f_X3_sees_52 N b g a0 (f_X3_sees_6 N b g a0 n) u15 x2 x3 y18 x5
    else none
    else
    f_X3_sees_52 N b g a0 (f_X3_sees_6 N b g a0 n) u3 x2 x3 x4 x5
set_option maxHeartbeats 4000000 in
set_option maxRecDepth 100000 in
theorem zz_X3_sees_6 {G : uG} {a0 : Nat} {uf : UH} {r : Int32} (N : Nat) : ∀ (n : Nat) (u : UH) (x2 : Int32) (x3 : Int32) (x4 : Int32) (x5 : Int32), f_X3_sees_6 N (ub G) (ug G) a0 n u x2 x3 x4 x5 = some (r, uf) → uf.1 = u.1 ∧ uf.2.1 = u.2.1 := by
  intro n
  induction n with
  | zero =>
    intro u x2 x3 x4 x5 h
    cases h
  | succ n ih =>
    intro u x2 x3 x4 x5 h
    unfold f_X3_sees_6 at h
    obtain ⟨y1, hy1, h⟩ := mbind_n h
    by_cases c2 : y1 ≤ x5
    · have h := mif_t c2 h
      obtain ⟨hr1, hr2⟩ := uret_n h
      subst hr2
      exact ⟨by omega, by omega⟩
    · have h := mif_f c2 h
      obtain ⟨r5, u3, c4, h⟩ := ucall_n h
      have zu3 := zz_X3_digit N (ub G) (ug G) u x4 x5 r5 u3 c4
      by_cases c6 : r5 = 0
      · have h := mif_t c6 h
        obtain ⟨c7, h⟩ := mif_n h
        obtain ⟨r10, u8, c9, h⟩ := ucall_n h
        have zu8 := zz_X3_isNear N (ub G) (ug G) u3 a0 x2 x5 r10 u8 c9
        by_cases c11 : r10 = 0
        · have h := mif_t c11 h
          have hq := zz_X3_sees_52 (G := G) (a0 := a0) N (f_X3_sees_6 N (ub G) (ug G) a0 n) ih u8 x2 x3 x4 x5 h
          exact ⟨by omega, by omega⟩
        · have h := mif_f c11 h
          obtain ⟨r14, u12, c13, h⟩ := ucall_n h
          have zu12 := zz_X3_digit N (ub G) (ug G) u8 x3 x5 r14 u12 c13
          obtain ⟨r17, u15, c16, h⟩ := ucall_n h
          have zu15 := zz_X3_power N (ub G) (ug G) u12 x5 r17 u15 c16
          obtain ⟨y18, ey18⟩ : ∃ z, z = x4 + (r14 * r17) := ⟨_, rfl⟩
          have h := mlet_at ey18 h
          have hq := zz_X3_sees_52 (G := G) (a0 := a0) N (f_X3_sees_6 N (ub G) (ug G) a0 n) ih u15 x2 x3 y18 x5 h
          exact ⟨by omega, by omega⟩
      · have h := mif_f c6 h
        have hq := zz_X3_sees_52 (G := G) (a0 := a0) N (f_X3_sees_6 N (ub G) (ug G) a0 n) ih u3 x2 x3 x4 x5 h
        exact ⟨by omega, by omega⟩
set_option maxHeartbeats 4000000 in
set_option maxRecDepth 100000 in
theorem w_X3_sees_6 {p : Program} {l : Launch} {e : Env} {R : Room} {s : State} {m : MethodId} {args : Array Value} {below : List Frame} {meth : Method} {c : Code} {G : uG} {a0 : Nat} {uf : UH} {r : Int32} (hC : uC p s m args meth c G RX3 cX3_sees 6 (some .int)) (hR : 3 ≤ R.frames ∧ 70 ≤ R.locals) (N : Nat) : ∀ (n : Nat) (u : UH) (x2 : Int32) (x3 : Int32) (x4 : Int32) (x5 : Int32), f_X3_sees_6 N (ub G) (ug G) a0 n u x2 x3 x4 x5 = some (r, uf) → ∀ (H : Heap) (locs : List Loc), uP G u H → va_S (uA G) s.heap H locs → ∀ ls : Array Slot, lv_has ls 6 [(0, va_rf (some a0)), (2, .int x2), (3, .int x3), (4, .int x4), (5, .int x5)] → W p l e R s m args below meth c H locs 0 0 (MQ below (uQi G r uf) args s 0 0 (uA G)) (F0 m 6 ls []) := by
  obtain ⟨⟨hx, hb, hml, hown, hts⟩, hKK⟩ := id hC
  intro n
  induction n with
  | zero =>
    intro u x2 x3 x4 x5 h
    cases h
  | succ n ih =>
    intro u x2 x3 x4 x5 h H locs hP hS ls hl
    unfold f_X3_sees_6 at h
    refine lv_iload hx hb dX3_sees_6 (lv_at hl 4 rfl) ?_
    refine u_aload_n (r := some a0) hx hb dX3_sees_8 rfl (lv_at hl 0 rfl) ?_
    obtain ⟨y1, hy1, h⟩ := mbind_n h
    refine u_get hC hP (uGI_n hy1) rfl in_X3 (by decide) q1930 (fun _ h => h) dX3_sees_9 ?_
    refine lv_icmp_ge (tgt := 58) hx hb dX3_sees_12 (by decide) (fun c2 => ?_) (fun c2 => ?_)
    · have h := mif_t c2 h
      refine lv_iload hx hb dX3_sees_58 (lv_at hl 3 rfl) ?_
      obtain ⟨hr1, hr2⟩ := uret_n h
      subst hr1
      subst hr2
      exact u_iret hC hP hS dX3_sees_60
    · have h := mif_f c2 h
      refine lv_iload hx hb dX3_sees_15 (lv_at hl 3 rfl) ?_
      refine lv_iload hx hb dX3_sees_17 (lv_at hl 4 rfl) ?_
      obtain ⟨r5, u3, c4, h⟩ := ucall_n h
      have zu3 := zz_X3_digit N (ub G) (ug G) u x4 x5 r5 u3 c4
      refine u_calli (va_runS (As := [.int x4, .int x5]) (rest := []) hC.1 (met_X3_digit l N G u x4 x5 r5 u3 c4) (va_cwS 2 hts (lw_S q2360 q2361 q103 q2362) rfl rfl rfl (by decide +kernel) ⟨Nat.le_trans (Nat.le_of_ble_eq_true rfl) hR.1, Nat.le_trans (Nat.le_of_ble_eq_true rfl) hR.2⟩) ⟨uPc_blind, fun U hU hW => u_pre hC hP hS hU hW⟩ rfl rfl hl.1 rfl (lv_room (Nat.le_of_ble_eq_true rfl)) dX3_sees_19 ⟨Nat.zero_le _, Nat.zero_le _⟩) hS (fun H locs hP hS => ?_)
      refine lv_if_ne (tgt := 52) hx hb dX3_sees_22 (by decide) (fun c6 => ?_) (fun c6 => ?_)
      · have h := mif_f c6 h
        exact w_X3_sees_52 hC hR N (f_X3_sees_6 N (ub G) (ug G) a0 n) ih u3 x2 x3 x4 x5 h hP hS (lv_sub hl [0, 1, 2, 3, 4] rfl)
      · have h := mif_t c6 h
        refine u_aload_n (r := some a0) hx hb dX3_sees_25 rfl (lv_at hl 0 rfl) ?_
        refine lv_iload_n hx hb dX3_sees_26 rfl (lv_at hl 1 rfl) ?_
        refine lv_iload hx hb dX3_sees_27 (lv_at hl 4 rfl) ?_
        obtain ⟨c7, h⟩ := mif_n h
        obtain ⟨r10, u8, c9, h⟩ := ucall_n h
        have zu8 := zz_X3_isNear N (ub G) (ug G) u3 a0 x2 x5 r10 u8 c9
        refine u_calli (va_runV (As := [.int x2, .int x5]) (rest := []) hC.1 (met_X3_isNear l N G u3 a0 x2 x5 r10 u8 c9) (cwV 2 hts (lw_V q2352 q2354 qs71 q103 q2355) rfl rfl rfl (by decide +kernel) ⟨Nat.le_trans (Nat.le_of_ble_eq_true rfl) hR.1, Nat.le_trans (Nat.le_of_ble_eq_true rfl) hR.2⟩) ⟨uPc_blind, u_rcv hC hP c7 rfl, fun U hU hW => u_pre hC hP hS hU hW⟩ rfl rfl hl.1 rfl (lv_room (Nat.le_of_ble_eq_true rfl)) dX3_sees_29 ⟨Nat.zero_le _, Nat.zero_le _⟩) hS (fun H locs hP hS => ?_)
        refine lv_if_eq (tgt := 52) hx hb dX3_sees_32 (by decide) (fun c11 => ?_) (fun c11 => ?_)
        · have h := mif_t c11 h
          exact w_X3_sees_52 hC hR N (f_X3_sees_6 N (ub G) (ug G) a0 n) ih u8 x2 x3 x4 x5 h hP hS (lv_sub hl [0, 1, 2, 3, 4] rfl)
        · have h := mif_f c11 h
          refine lv_iload hx hb dX3_sees_35 (lv_at hl 3 rfl) ?_
          refine lv_iload_n hx hb dX3_sees_37 rfl (lv_at hl 2 rfl) ?_
          refine lv_iload hx hb dX3_sees_38 (lv_at hl 4 rfl) ?_
          obtain ⟨r14, u12, c13, h⟩ := ucall_n h
          have zu12 := zz_X3_digit N (ub G) (ug G) u8 x3 x5 r14 u12 c13
          refine u_calli (va_runS (As := [.int x3, .int x5]) (rest := [.int x4]) hC.1 (met_X3_digit l N G u8 x3 x5 r14 u12 c13) (va_cwS 2 hts (lw_S q2360 q2361 q103 q2362) rfl rfl rfl (by decide +kernel) ⟨Nat.le_trans (Nat.le_of_ble_eq_true rfl) hR.1, Nat.le_trans (Nat.le_of_ble_eq_true rfl) hR.2⟩) ⟨uPc_blind, fun U hU hW => u_pre hC hP hS hU hW⟩ rfl rfl hl.1 rfl (lv_room (Nat.le_of_ble_eq_true rfl)) dX3_sees_40 ⟨Nat.zero_le _, Nat.zero_le _⟩) hS (fun H locs hP hS => ?_)
          refine lv_iload hx hb dX3_sees_43 (lv_at hl 4 rfl) ?_
          obtain ⟨r17, u15, c16, h⟩ := ucall_n h
          have zu15 := zz_X3_power N (ub G) (ug G) u12 x5 r17 u15 c16
          refine u_calli (va_runS (As := [.int x5]) (rest := [.int r14, .int x4]) hC.1 (met_X3_power l N G u12 x5 r17 u15 c16) (va_cwS 1 hts (lw_S q2380 q2381 q103 q2382) rfl rfl rfl (by decide +kernel) ⟨Nat.le_trans (Nat.le_of_ble_eq_true rfl) hR.1, Nat.le_trans (Nat.le_of_ble_eq_true rfl) hR.2⟩) ⟨uPc_blind, fun U hU hW => u_pre hC hP hS hU hW⟩ rfl rfl hl.1 rfl (lv_room (Nat.le_of_ble_eq_true rfl)) dX3_sees_45 ⟨Nat.zero_le _, Nat.zero_le _⟩) hS (fun H locs hP hS => ?_)
          refine lv_imul hx hb dX3_sees_48 ?_
          refine lv_iadd hx hb dX3_sees_49 ?_
          refine lv_topi (fun y18 ey18 => ?_)
          have h := mlet_at ey18 h
          refine lv_istore (lv' := [(4, .int y18), (0, va_rf (some a0)), (2, .int x2), (3, .int x3), (5, .int x5)]) hx hb dX3_sees_50 hl (by decide) rfl (fun ls hl => ?_)
          exact w_X3_sees_52 hC hR N (f_X3_sees_6 N (ub G) (ug G) a0 n) ih u15 x2 x3 y18 x5 h hP hS (lv_sub hl [1, 2, 3, 0, 4] rfl)
def f_X3_sees (N b : Nat) (g : uEnv) (u : UH) (a0 : Nat) (x1 : Int32) (x2 : Int32) (x3 : Int32) : Option (Int32 × UH) :=
    f_X3_sees_6 N b g a0 N u x2 x3 x1 0
set_option maxHeartbeats 4000000 in
set_option maxRecDepth 100000 in
theorem zz_X3_sees_0 {G : uG} {a0 : Nat} {uf : UH} {r : Int32} (N : Nat) (u : UH) (x1 : Int32) (x2 : Int32) (x3 : Int32) (h : f_X3_sees N (ub G) (ug G) u a0 x1 x2 x3 = some (r, uf)) : uf.1 = u.1 ∧ uf.2.1 = u.2.1 := by
  unfold f_X3_sees at h
  have hq := zz_X3_sees_6 (G := G) (a0 := a0) N N u x2 x3 x1 0 h
  exact ⟨by omega, by omega⟩
set_option maxHeartbeats 4000000 in
set_option maxRecDepth 100000 in
theorem w_X3_sees_0 {p : Program} {l : Launch} {e : Env} {R : Room} {s : State} {m : MethodId} {args : Array Value} {below : List Frame} {meth : Method} {c : Code} {G : uG} {a0 : Nat} {uf : UH} {r : Int32} (hC : uC p s m args meth c G RX3 cX3_sees 6 (some .int)) (hR : 3 ≤ R.frames ∧ 70 ≤ R.locals) (N : Nat) (u : UH) (x1 : Int32) (x2 : Int32) (x3 : Int32) (h : f_X3_sees N (ub G) (ug G) u a0 x1 x2 x3 = some (r, uf)) {H : Heap} {locs : List Loc} (hP : uP G u H) (hS : va_S (uA G) s.heap H locs) {ls : Array Slot} (hl : lv_has ls 6 [(0, va_rf (some a0)), (1, .int x1), (2, .int x2), (3, .int x3)]) : W p l e R s m args below meth c H locs 0 0 (MQ below (uQi G r uf) args s 0 0 (uA G)) (F0 m 0 ls []) := by
  obtain ⟨⟨hx, hb, hml, hown, hts⟩, hKK⟩ := id hC
  unfold f_X3_sees at h
  refine lv_iload_n hx hb dX3_sees_0 rfl (lv_at hl 1 rfl) ?_
  refine lv_istore (lv' := [(4, .int x1), (0, va_rf (some a0)), (1, .int x1), (2, .int x2), (3, .int x3)]) hx hb dX3_sees_1 hl (by decide) rfl (fun ls hl => ?_)
  refine lv_iconst (v := 0) hx hb dX3_sees_3 (by decide) ?_
  refine lv_istore (lv' := [(5, .int 0), (4, .int x1), (0, va_rf (some a0)), (1, .int x1), (2, .int x2), (3, .int x3)]) hx hb dX3_sees_4 hl (by decide) rfl (fun ls hl => ?_)
  exact w_X3_sees_6 hC hR N N u x2 x3 x1 0 h _ _ hP hS _ (lv_sub hl [2, 4, 5, 1, 0] rfl)
theorem zz_X3_sees (N b : Nat) (g : uEnv) (u : UH) (a0 : Nat) (x1 : Int32) (x2 : Int32) (x3 : Int32) (r : Int32) (uf : UH) (h : f_X3_sees N b g u a0 x1 x2 x3 = some (r, uf)) : uf.1 = u.1 ∧ uf.2.1 = u.2.1 :=
  zz_X3_sees_0 (G := ((fun _ => 0, fun _ _ => 0), fun _ => 0, b, g)) (a0 := a0) N u x1 x2 x3 h
theorem met_X3_sees (l : Launch) (N : Nat) (G : uG) (u : UH) (a0 : Nat) (x1 : Int32) (x2 : Int32) (x3 : Int32) (r : Int32) (uf : UH) (h : f_X3_sees N (ub G) (ug G) u a0 x1 x2 x3 = some (r, uf)) : Met l yX3_sees (ws_ yX3_sees cX3_sees 6 (some .int)) ({ frames := 3, cells := 0, slots := 0, locals := 70 }) (uPc G u [.ref a0, .int x1, .int x2, .int x3]) (uQi G r uf) 0 0 (uA G) := by
  exact u_met (own := RX3) (by decide +kernel) rfl (Nat.le_of_ble_eq_true rfl) (fun hC hn hsz ls hl hP => w_X3_sees_0 hC ⟨Nat.le_refl _, Nat.le_refl _⟩ N u x1 x2 x3 h hP va_S.rf hl)
def f_X3_floorOf_37 (N b : Nat) (g : uEnv) (a0 : Nat) (u : UH) (s0 : Int32) : Option (Int32 × UH) :=
    some (s0, u)
set_option maxHeartbeats 4000000 in
set_option maxRecDepth 100000 in
theorem zz_X3_floorOf_37 {G : uG} {a0 : Nat} {uf : UH} {r : Int32} (N : Nat) (u : UH) (s0 : Int32) (h : f_X3_floorOf_37 N (ub G) (ug G) a0 u s0 = some (r, uf)) : uf.1 = u.1 ∧ uf.2.1 = u.2.1 := by
  unfold f_X3_floorOf_37 at h
  obtain ⟨hr1, hr2⟩ := uret_n h
  subst hr2
  exact ⟨by omega, by omega⟩
set_option maxHeartbeats 4000000 in
set_option maxRecDepth 100000 in
theorem w_X3_floorOf_37 {p : Program} {l : Launch} {e : Env} {R : Room} {s : State} {m : MethodId} {args : Array Value} {below : List Frame} {meth : Method} {c : Code} {G : uG} {a0 : Nat} {uf : UH} {r : Int32} (hC : uC p s m args meth c G RX3 cX3_floorOf 4 (some .int)) (hR : 1 ≤ R.frames ∧ 21 ≤ R.locals) (N : Nat) (u : UH) (s0 : Int32) (h : f_X3_floorOf_37 N (ub G) (ug G) a0 u s0 = some (r, uf)) {H : Heap} {locs : List Loc} (hP : uP G u H) (hS : va_S (uA G) s.heap H locs) {ls : Array Slot} (hl : lv_has ls 4 []) : W p l e R s m args below meth c H locs 0 0 (MQ below (uQi G r uf) args s 0 0 (uA G)) (F0 m 37 ls [.int s0]) := by
  obtain ⟨⟨hx, hb, hml, hown, hts⟩, hKK⟩ := id hC
  unfold f_X3_floorOf_37 at h
  obtain ⟨hr1, hr2⟩ := uret_n h
  subst hr1
  subst hr2
  exact u_iret hC hP hS dX3_floorOf_37
def f_X3_floorOf (N b : Nat) (g : uEnv) (u : UH) (a0 : Nat) (x1 : Int32) (x2 : Int32) : Option (Int32 × UH) :=
    (uGR u a0 2 43).bind fun o1 =>
    (o1).bind fun a2 =>
    (uLdI u a2 0 x1).bind fun y3 =>
    if y3 = (-1) then
    (uGR u a0 2 42).bind fun o11 =>
    (o11).bind fun a12 =>
    (uLdI u a12 0 x1).bind fun y13 =>
    f_X3_floorOf_37 N b g a0 u y13
    else
    (uGR u a0 2 52).bind fun o5 =>
    ucall (f_X3_digit N b g u x2 y3) fun r8 u6 =>
    (o5).bind fun a9 =>
    (uLdI u6 a9 0 (((4 * y3) + r8) - 1)).bind fun y10 =>
    f_X3_floorOf_37 N b g a0 u6 y10
set_option maxHeartbeats 4000000 in
set_option maxRecDepth 100000 in
theorem zz_X3_floorOf_0 {G : uG} {a0 : Nat} {uf : UH} {r : Int32} (N : Nat) (u : UH) (x1 : Int32) (x2 : Int32) (h : f_X3_floorOf N (ub G) (ug G) u a0 x1 x2 = some (r, uf)) : uf.1 = u.1 ∧ uf.2.1 = u.2.1 := by
  unfold f_X3_floorOf at h
  obtain ⟨o1, ho1, h⟩ := mbind_n h
  obtain ⟨a2, ha2, hha2⟩ := mbind_n h
  subst ha2
  have h := hha2
  obtain ⟨y3, hy3, h⟩ := mbind_n h
  by_cases c4 : y3 = (-1)
  · have h := mif_t c4 h
    obtain ⟨o11, ho11, h⟩ := mbind_n h
    obtain ⟨a12, ha12, hha12⟩ := mbind_n h
    subst ha12
    have h := hha12
    obtain ⟨y13, hy13, h⟩ := mbind_n h
    have hq := zz_X3_floorOf_37 (G := G) (a0 := a0) N u y13 h
    exact ⟨by omega, by omega⟩
  · have h := mif_f c4 h
    obtain ⟨o5, ho5, h⟩ := mbind_n h
    obtain ⟨r8, u6, c7, h⟩ := ucall_n h
    have zu6 := zz_X3_digit N (ub G) (ug G) u x2 y3 r8 u6 c7
    obtain ⟨a9, ha9, hha9⟩ := mbind_n h
    subst ha9
    have h := hha9
    obtain ⟨y10, hy10, h⟩ := mbind_n h
    have hq := zz_X3_floorOf_37 (G := G) (a0 := a0) N u6 y10 h
    exact ⟨by omega, by omega⟩
set_option maxHeartbeats 4000000 in
set_option maxRecDepth 100000 in
theorem w_X3_floorOf_0 {p : Program} {l : Launch} {e : Env} {R : Room} {s : State} {m : MethodId} {args : Array Value} {below : List Frame} {meth : Method} {c : Code} {G : uG} {a0 : Nat} {uf : UH} {r : Int32} (hC : uC p s m args meth c G RX3 cX3_floorOf 4 (some .int)) (hR : 1 ≤ R.frames ∧ 21 ≤ R.locals) (N : Nat) (u : UH) (x1 : Int32) (x2 : Int32) (h : f_X3_floorOf N (ub G) (ug G) u a0 x1 x2 = some (r, uf)) {H : Heap} {locs : List Loc} (hP : uP G u H) (hS : va_S (uA G) s.heap H locs) {ls : Array Slot} (hl : lv_has ls 4 [(0, va_rf (some a0)), (1, .int x1), (2, .int x2)]) : W p l e R s m args below meth c H locs 0 0 (MQ below (uQi G r uf) args s 0 0 (uA G)) (F0 m 0 ls []) := by
  obtain ⟨⟨hx, hb, hml, hown, hts⟩, hKK⟩ := id hC
  unfold f_X3_floorOf at h
  refine u_aload_n (r := some a0) hx hb dX3_floorOf_0 rfl (lv_at hl 0 rfl) ?_
  obtain ⟨o1, ho1, h⟩ := mbind_n h
  refine u_get hC hP (uGR_n ho1) rfl in_X3 (by decide) q1936 (fun _ h => h) dX3_floorOf_1 ?_
  refine lv_iload_n hx hb dX3_floorOf_4 rfl (lv_at hl 1 rfl) ?_
  obtain ⟨a2, ha2, hha2⟩ := mbind_n h
  subst ha2
  have h := hha2
  obtain ⟨y3, hy3, h⟩ := mbind_n h
  refine u_iald hC hP hy3 rfl dX3_floorOf_5 ?_
  refine lv_istore_n (i := 3) (lv' := [(3, .int y3), (0, va_rf (some a0)), (1, .int x1), (2, .int x2)]) hx hb dX3_floorOf_6 rfl hl (by decide) rfl (fun ls hl => ?_)
  refine lv_iload_n hx hb dX3_floorOf_7 rfl (lv_at hl 0 rfl) ?_
  refine lv_iconst (v := (-1)) hx hb dX3_floorOf_8 (by decide) ?_
  refine lv_icmp_ne (tgt := 21) hx hb dX3_floorOf_9 (by decide) (fun c4 => ?_) (fun c4 => ?_)
  · have h := mif_f c4 h
    refine u_aload_n (r := some a0) hx hb dX3_floorOf_21 rfl (lv_at hl 1 rfl) ?_
    obtain ⟨o5, ho5, h⟩ := mbind_n h
    refine u_get hC hP (uGR_n ho5) rfl in_X3 (by decide) q1945 (fun _ h => h) dX3_floorOf_22 ?_
    refine lv_iconst (v := 4) hx hb dX3_floorOf_25 (by decide) ?_
    refine lv_iload_n hx hb dX3_floorOf_26 rfl (lv_at hl 0 rfl) ?_
    refine lv_imul hx hb dX3_floorOf_27 ?_
    refine lv_iload_n hx hb dX3_floorOf_28 rfl (lv_at hl 3 rfl) ?_
    refine lv_iload_n hx hb dX3_floorOf_29 rfl (lv_at hl 0 rfl) ?_
    obtain ⟨r8, u6, c7, h⟩ := ucall_n h
    have zu6 := zz_X3_digit N (ub G) (ug G) u x2 y3 r8 u6 c7
    refine u_calli (va_runS (As := [.int x2, .int y3]) (rest := [.int (4 * y3), va_rf o5]) hC.1 (met_X3_digit l N G u x2 y3 r8 u6 c7) (va_cwS 2 hts (lw_S q2360 q2361 q103 q2362) rfl rfl rfl (by decide +kernel) ⟨Nat.le_trans (Nat.le_of_ble_eq_true rfl) hR.1, Nat.le_trans (Nat.le_of_ble_eq_true rfl) hR.2⟩) ⟨uPc_blind, fun U hU hW => u_pre hC hP hS hU hW⟩ rfl rfl hl.1 rfl (lv_room (by simp only [List.map, u_cat]; exact Nat.le_of_ble_eq_true rfl)) dX3_floorOf_30 ⟨Nat.zero_le _, Nat.zero_le _⟩) hS (fun H locs hP hS => ?_)
    refine lv_iadd hx hb dX3_floorOf_33 ?_
    refine lv_iconst (v := 1) hx hb dX3_floorOf_34 (by decide) ?_
    refine lv_isub hx hb dX3_floorOf_35 ?_
    obtain ⟨a9, ha9, hha9⟩ := mbind_n h
    subst ha9
    have h := hha9
    obtain ⟨y10, hy10, h⟩ := mbind_n h
    refine u_iald hC hP hy10 rfl dX3_floorOf_36 ?_
    exact w_X3_floorOf_37 hC hR N u6 y10 h hP hS (lv_sub hl [] rfl)
  · have h := mif_t c4 h
    refine u_aload_n (r := some a0) hx hb dX3_floorOf_12 rfl (lv_at hl 1 rfl) ?_
    obtain ⟨o11, ho11, h⟩ := mbind_n h
    refine u_get hC hP (uGR_n ho11) rfl in_X3 (by decide) q1935 (fun _ h => h) dX3_floorOf_13 ?_
    refine lv_iload_n hx hb dX3_floorOf_16 rfl (lv_at hl 2 rfl) ?_
    obtain ⟨a12, ha12, hha12⟩ := mbind_n h
    subst ha12
    have h := hha12
    obtain ⟨y13, hy13, h⟩ := mbind_n h
    refine u_iald hC hP hy13 rfl dX3_floorOf_17 ?_
    refine lv_goto (tgt := 37) hx hb dX3_floorOf_18 (by decide) ?_
    exact w_X3_floorOf_37 hC hR N u y13 h hP hS (lv_sub hl [] rfl)
theorem zz_X3_floorOf (N b : Nat) (g : uEnv) (u : UH) (a0 : Nat) (x1 : Int32) (x2 : Int32) (r : Int32) (uf : UH) (h : f_X3_floorOf N b g u a0 x1 x2 = some (r, uf)) : uf.1 = u.1 ∧ uf.2.1 = u.2.1 :=
  zz_X3_floorOf_0 (G := ((fun _ => 0, fun _ _ => 0), fun _ => 0, b, g)) (a0 := a0) N u x1 x2 h
theorem met_X3_floorOf (l : Launch) (N : Nat) (G : uG) (u : UH) (a0 : Nat) (x1 : Int32) (x2 : Int32) (r : Int32) (uf : UH) (h : f_X3_floorOf N (ub G) (ug G) u a0 x1 x2 = some (r, uf)) : Met l yX3_floorOf (ws_ yX3_floorOf cX3_floorOf 4 (some .int)) ({ frames := 1, cells := 0, slots := 0, locals := 21 }) (uPc G u [.ref a0, .int x1, .int x2]) (uQi G r uf) 0 0 (uA G) := by
  exact u_met (own := RX3) (by decide +kernel) rfl (Nat.le_of_ble_eq_true rfl) (fun hC hn hsz ls hl hP => w_X3_floorOf_0 hC ⟨Nat.le_refl _, Nat.le_refl _⟩ N u x1 x2 h hP va_S.rf hl)
def f_X3_down_21 (N b : Nat) (g : uEnv) (u : UH) (s0 : Int32) : Option (Int32 × UH) :=
    some (s0, u)
set_option maxHeartbeats 4000000 in
set_option maxRecDepth 100000 in
theorem zz_X3_down_21 {G : uG} {uf : UH} {r : Int32} (N : Nat) (u : UH) (s0 : Int32) (h : f_X3_down_21 N (ub G) (ug G) u s0 = some (r, uf)) : uf.1 = u.1 ∧ uf.2.1 = u.2.1 := by
  unfold f_X3_down_21 at h
  obtain ⟨hr1, hr2⟩ := uret_n h
  subst hr2
  exact ⟨by omega, by omega⟩
set_option maxHeartbeats 4000000 in
set_option maxRecDepth 100000 in
theorem w_X3_down_21 {p : Program} {l : Launch} {e : Env} {R : Room} {s : State} {m : MethodId} {args : Array Value} {below : List Frame} {meth : Method} {c : Code} {G : uG} {uf : UH} {r : Int32} (hC : uC p s m args meth c G RX3 cX3_down 3 (some .int)) (hR : 0 ≤ R.frames ∧ 0 ≤ R.locals) (N : Nat) (u : UH) (s0 : Int32) (h : f_X3_down_21 N (ub G) (ug G) u s0 = some (r, uf)) {H : Heap} {locs : List Loc} (hP : uP G u H) (hS : va_S (uA G) s.heap H locs) {ls : Array Slot} (hl : lv_has ls 3 []) : W p l e R s m args below meth c H locs 0 0 (MQ below (uQi G r uf) args s 0 0 (uA G)) (F0 m 21 ls [.int s0]) := by
  obtain ⟨⟨hx, hb, hml, hown, hts⟩, hKK⟩ := id hC
  unfold f_X3_down_21 at h
  obtain ⟨hr1, hr2⟩ := uret_n h
  subst hr1
  subst hr2
  exact u_iret hC hP hS dX3_down_21
def f_X3_down_20 (N b : Nat) (g : uEnv) (u : UH) (x2 : Int32) : Option (Int32 × UH) :=
    f_X3_down_21 N b g u x2
set_option maxHeartbeats 4000000 in
set_option maxRecDepth 100000 in
theorem zz_X3_down_20 {G : uG} {uf : UH} {r : Int32} (N : Nat) (u : UH) (x2 : Int32) (h : f_X3_down_20 N (ub G) (ug G) u x2 = some (r, uf)) : uf.1 = u.1 ∧ uf.2.1 = u.2.1 := by
  unfold f_X3_down_20 at h
  have hq := zz_X3_down_21 (G := G) N u x2 h
  exact ⟨by omega, by omega⟩
set_option maxHeartbeats 4000000 in
set_option maxRecDepth 100000 in
theorem w_X3_down_20 {p : Program} {l : Launch} {e : Env} {R : Room} {s : State} {m : MethodId} {args : Array Value} {below : List Frame} {meth : Method} {c : Code} {G : uG} {uf : UH} {r : Int32} (hC : uC p s m args meth c G RX3 cX3_down 3 (some .int)) (hR : 0 ≤ R.frames ∧ 0 ≤ R.locals) (N : Nat) (u : UH) (x2 : Int32) (h : f_X3_down_20 N (ub G) (ug G) u x2 = some (r, uf)) {H : Heap} {locs : List Loc} (hP : uP G u H) (hS : va_S (uA G) s.heap H locs) {ls : Array Slot} (hl : lv_has ls 3 [(2, .int x2)]) : W p l e R s m args below meth c H locs 0 0 (MQ below (uQi G r uf) args s 0 0 (uA G)) (F0 m 20 ls []) := by
  obtain ⟨⟨hx, hb, hml, hown, hts⟩, hKK⟩ := id hC
  unfold f_X3_down_20 at h
  refine lv_iload_n hx hb dX3_down_20 rfl (lv_at hl 0 rfl) ?_
  exact w_X3_down_21 hC hR N u x2 h hP hS (lv_sub hl [] rfl)
def f_X3_down (N b : Nat) (g : uEnv) (u : UH) (x0 : Int32) (x1 : Int32) : Option (Int32 × UH) :=
    if ¬ x1 = 0 then
    mlet (x0 / x1) fun y2 =>
    if ¬ x1 = 0 then
    if (x0 - x0 / x1 * x1) = 0 then
    f_X3_down_20 N b g u y2
    else
    if 0 ≤ x0 then
    f_X3_down_20 N b g u y2
    else
    f_X3_down_21 N b g u (y2 - 1)
    else none
    else none
set_option maxHeartbeats 4000000 in
set_option maxRecDepth 100000 in
theorem zz_X3_down_0 {G : uG} {uf : UH} {r : Int32} (N : Nat) (u : UH) (x0 : Int32) (x1 : Int32) (h : f_X3_down N (ub G) (ug G) u x0 x1 = some (r, uf)) : uf.1 = u.1 ∧ uf.2.1 = u.2.1 := by
  unfold f_X3_down at h
  obtain ⟨c1, h⟩ := mif_n h
  obtain ⟨y2, ey2⟩ : ∃ z, z = x0 / x1 := ⟨_, rfl⟩
  have h := mlet_at ey2 h
  obtain ⟨c3, h⟩ := mif_n h
  by_cases c4 : (x0 - x0 / x1 * x1) = 0
  · have h := mif_t c4 h
    have hq := zz_X3_down_20 (G := G) N u y2 h
    exact ⟨by omega, by omega⟩
  · have h := mif_f c4 h
    by_cases c5 : 0 ≤ x0
    · have h := mif_t c5 h
      have hq := zz_X3_down_20 (G := G) N u y2 h
      exact ⟨by omega, by omega⟩
    · have h := mif_f c5 h
      have hq := zz_X3_down_21 (G := G) N u (y2 - 1) h
      exact ⟨by omega, by omega⟩
set_option maxHeartbeats 4000000 in
set_option maxRecDepth 100000 in
theorem w_X3_down_0 {p : Program} {l : Launch} {e : Env} {R : Room} {s : State} {m : MethodId} {args : Array Value} {below : List Frame} {meth : Method} {c : Code} {G : uG} {uf : UH} {r : Int32} (hC : uC p s m args meth c G RX3 cX3_down 3 (some .int)) (hR : 0 ≤ R.frames ∧ 0 ≤ R.locals) (N : Nat) (u : UH) (x0 : Int32) (x1 : Int32) (h : f_X3_down N (ub G) (ug G) u x0 x1 = some (r, uf)) {H : Heap} {locs : List Loc} (hP : uP G u H) (hS : va_S (uA G) s.heap H locs) {ls : Array Slot} (hl : lv_has ls 3 [(0, .int x0), (1, .int x1)]) : W p l e R s m args below meth c H locs 0 0 (MQ below (uQi G r uf) args s 0 0 (uA G)) (F0 m 0 ls []) := by
  obtain ⟨⟨hx, hb, hml, hown, hts⟩, hKK⟩ := id hC
  unfold f_X3_down at h
  refine lv_iload_n hx hb dX3_down_0 rfl (lv_at hl 0 rfl) ?_
  refine lv_iload_n hx hb dX3_down_1 rfl (lv_at hl 1 rfl) ?_
  obtain ⟨c1, h⟩ := mif_n h
  refine lv_idiv hx hb dX3_down_2 c1 ?_
  refine lv_topi (fun y2 ey2 => ?_)
  have h := mlet_at ey2 h
  refine lv_istore_n (i := 2) (lv' := [(2, .int y2), (0, .int x0), (1, .int x1)]) hx hb dX3_down_3 rfl hl (by decide) rfl (fun ls hl => ?_)
  refine lv_iload_n hx hb dX3_down_4 rfl (lv_at hl 1 rfl) ?_
  refine lv_iload_n hx hb dX3_down_5 rfl (lv_at hl 2 rfl) ?_
  obtain ⟨c3, h⟩ := mif_n h
  refine lv_irem hx hb dX3_down_6 c3 ?_
  refine lv_if_eq (tgt := 20) hx hb dX3_down_7 (by decide) (fun c4 => ?_) (fun c4 => ?_)
  · have h := mif_t c4 h
    exact w_X3_down_20 hC hR N u y2 h hP hS (lv_sub hl [0] rfl)
  · have h := mif_f c4 h
    refine lv_iload_n hx hb dX3_down_10 rfl (lv_at hl 1 rfl) ?_
    refine lv_if_ge (tgt := 20) hx hb dX3_down_11 (by decide) (fun c5 => ?_) (fun c5 => ?_)
    · have h := mif_t c5 h
      exact w_X3_down_20 hC hR N u y2 h hP hS (lv_sub hl [0] rfl)
    · have h := mif_f c5 h
      refine lv_iload_n hx hb dX3_down_14 rfl (lv_at hl 0 rfl) ?_
      refine lv_iconst (v := 1) hx hb dX3_down_15 (by decide) ?_
      refine lv_isub hx hb dX3_down_16 ?_
      refine lv_goto (tgt := 21) hx hb dX3_down_17 (by decide) ?_
      exact w_X3_down_21 hC hR N u (y2 - 1) h hP hS (lv_sub hl [] rfl)
theorem zz_X3_down (N b : Nat) (g : uEnv) (u : UH) (x0 : Int32) (x1 : Int32) (r : Int32) (uf : UH) (h : f_X3_down N b g u x0 x1 = some (r, uf)) : uf.1 = u.1 ∧ uf.2.1 = u.2.1 :=
  zz_X3_down_0 (G := ((fun _ => 0, fun _ _ => 0), fun _ => 0, b, g)) N u x0 x1 h
theorem met_X3_down (l : Launch) (N : Nat) (G : uG) (u : UH) (x0 : Int32) (x1 : Int32) (r : Int32) (uf : UH) (h : f_X3_down N (ub G) (ug G) u x0 x1 = some (r, uf)) : Met l yX3_down (ws_ yX3_down cX3_down 3 (some .int)) ({ frames := 0, cells := 0, slots := 0, locals := 0 }) (uPc G u [.int x0, .int x1]) (uQi G r uf) 0 0 (uA G) := by
  exact u_met (own := RX3) (by decide +kernel) rfl (Nat.le_of_ble_eq_true rfl) (fun hC hn hsz ls hl hP => w_X3_down_0 hC ⟨Nat.le_refl _, Nat.le_refl _⟩ N u x0 x1 h hP va_S.rf hl)
def f_X3_between_24 (N b : Nat) (g : uEnv) : Nat → UH → Option Nat → Int32 → Int32 → Int32 → Int32 → Option (Int32 × UH)
  | 0, _, _, _, _, _, _ => none
  | n + 1, u, x0, x2, x3, x4, x5 =>
    if x2 ≤ x5 then
    (x0).bind fun a2 =>
    (uLdI u a2 0 ((x4 + (2 * x2)) - 1)).bind fun y3 =>
    some (y3, u)
    else
    (x0).bind fun a4 =>
    (uLdI u a4 0 ((x4 + (2 * x5)) - 2)).bind fun y5 =>
    (uLdI u a4 0 (x4 + (2 * x5))).bind fun y6 =>
    if x3 ≤ y6 then
    (uLdI u a4 0 ((x4 + (2 * x5)) - 1)).bind fun y8 =>
    (uLdI u a4 0 ((x4 + (2 * x5)) + 1)).bind fun y9 =>
    ucall (f_X3_down N b g u ((y9 - y8) * (x3 - y5)) (y6 - y5)) fun r12 u10 =>
    some (y8 + r12, u10)
    else
    mlet (x5 + 1) fun y13 =>
    f_X3_between_24 N b g n u (some a4) x2 x3 x4 y13
set_option maxHeartbeats 4000000 in
set_option maxRecDepth 100000 in
theorem zz_X3_between_24 {G : uG} {uf : UH} {r : Int32} (N : Nat) : ∀ (n : Nat) (u : UH) (x0 : Option Nat) (x2 : Int32) (x3 : Int32) (x4 : Int32) (x5 : Int32), f_X3_between_24 N (ub G) (ug G) n u x0 x2 x3 x4 x5 = some (r, uf) → uf.1 = u.1 ∧ uf.2.1 = u.2.1 := by
  intro n
  induction n with
  | zero =>
    intro u x0 x2 x3 x4 x5 h
    cases h
  | succ n ih =>
    intro u x0 x2 x3 x4 x5 h
    unfold f_X3_between_24 at h
    by_cases c1 : x2 ≤ x5
    · have h := mif_t c1 h
      obtain ⟨a2, ha2, hha2⟩ := mbind_n h
      subst ha2
      have h := hha2
      obtain ⟨y3, hy3, h⟩ := mbind_n h
      obtain ⟨hr1, hr2⟩ := uret_n h
      subst hr2
      exact ⟨by omega, by omega⟩
    · have h := mif_f c1 h
      obtain ⟨a4, ha4, hha4⟩ := mbind_n h
      subst ha4
      have h := hha4
      obtain ⟨y5, hy5, h⟩ := mbind_n h
      obtain ⟨y6, hy6, h⟩ := mbind_n h
      by_cases c7 : x3 ≤ y6
      · have h := mif_t c7 h
        obtain ⟨y8, hy8, h⟩ := mbind_n h
        obtain ⟨y9, hy9, h⟩ := mbind_n h
        obtain ⟨r12, u10, c11, h⟩ := ucall_n h
        have zu10 := zz_X3_down N (ub G) (ug G) u ((y9 - y8) * (x3 - y5)) (y6 - y5) r12 u10 c11
        obtain ⟨hr1, hr2⟩ := uret_n h
        subst hr2
        exact ⟨by omega, by omega⟩
      · have h := mif_f c7 h
        obtain ⟨y13, ey13⟩ : ∃ z : Int32, z = x5 + 1 := ⟨_, rfl⟩
        have h := mlet_at ey13 h
        have hq := ih u (some a4) x2 x3 x4 y13 h
        exact ⟨by omega, by omega⟩
set_option maxHeartbeats 4000000 in
set_option maxRecDepth 100000 in
theorem w_X3_between_24 {p : Program} {l : Launch} {e : Env} {R : Room} {s : State} {m : MethodId} {args : Array Value} {below : List Frame} {meth : Method} {c : Code} {G : uG} {uf : UH} {r : Int32} (hC : uC p s m args meth c G RX3 cX3_between 10 (some .int)) (hR : 1 ≤ R.frames ∧ 22 ≤ R.locals) (N : Nat) : ∀ (n : Nat) (u : UH) (x0 : Option Nat) (x2 : Int32) (x3 : Int32) (x4 : Int32) (x5 : Int32), f_X3_between_24 N (ub G) (ug G) n u x0 x2 x3 x4 x5 = some (r, uf) → ∀ (H : Heap) (locs : List Loc), uP G u H → va_S (uA G) s.heap H locs → ∀ ls : Array Slot, lv_has ls 10 [(0, va_rf x0), (2, .int x2), (3, .int x3), (4, .int x4), (5, .int x5)] → W p l e R s m args below meth c H locs 0 0 (MQ below (uQi G r uf) args s 0 0 (uA G)) (F0 m 24 ls []) := by
  obtain ⟨⟨hx, hb, hml, hown, hts⟩, hKK⟩ := id hC
  intro n
  induction n with
  | zero =>
    intro u x0 x2 x3 x4 x5 h
    cases h
  | succ n ih =>
    intro u x0 x2 x3 x4 x5 h H locs hP hS ls hl
    unfold f_X3_between_24 at h
    refine lv_iload hx hb dX3_between_24 (lv_at hl 4 rfl) ?_
    refine lv_iload_n hx hb dX3_between_26 rfl (lv_at hl 1 rfl) ?_
    refine lv_icmp_ge (tgt := 117) hx hb dX3_between_27 (by decide) (fun c1 => ?_) (fun c1 => ?_)
    · have h := mif_t c1 h
      refine u_aload_n (r := x0) hx hb dX3_between_117 rfl (lv_at hl 0 rfl) ?_
      refine lv_iload hx hb dX3_between_118 (lv_at hl 3 rfl) ?_
      refine lv_iconst (v := 2) hx hb dX3_between_120 (by decide) ?_
      refine lv_iload_n hx hb dX3_between_121 rfl (lv_at hl 1 rfl) ?_
      refine lv_imul hx hb dX3_between_122 ?_
      refine lv_iadd hx hb dX3_between_123 ?_
      refine lv_iconst (v := 1) hx hb dX3_between_124 (by decide) ?_
      refine lv_isub hx hb dX3_between_125 ?_
      obtain ⟨a2, ha2, hha2⟩ := mbind_n h
      subst ha2
      have h := hha2
      obtain ⟨y3, hy3, h⟩ := mbind_n h
      refine u_iald hC hP hy3 rfl dX3_between_126 ?_
      obtain ⟨hr1, hr2⟩ := uret_n h
      subst hr1
      subst hr2
      exact u_iret hC hP hS dX3_between_127
    · have h := mif_f c1 h
      refine u_aload_n (r := x0) hx hb dX3_between_30 rfl (lv_at hl 0 rfl) ?_
      refine lv_iload hx hb dX3_between_31 (lv_at hl 3 rfl) ?_
      refine lv_iconst (v := 2) hx hb dX3_between_33 (by decide) ?_
      refine lv_iload hx hb dX3_between_34 (lv_at hl 4 rfl) ?_
      refine lv_imul hx hb dX3_between_36 ?_
      refine lv_iadd hx hb dX3_between_37 ?_
      refine lv_iconst (v := 2) hx hb dX3_between_38 (by decide) ?_
      refine lv_isub hx hb dX3_between_39 ?_
      obtain ⟨a4, ha4, hha4⟩ := mbind_n h
      subst ha4
      have h := hha4
      obtain ⟨y5, hy5, h⟩ := mbind_n h
      refine u_iald hC hP hy5 rfl dX3_between_40 ?_
      refine lv_istore (lv' := [(6, .int y5), (0, va_rf (some a4)), (2, .int x2), (3, .int x3), (4, .int x4), (5, .int x5)]) hx hb dX3_between_41 hl (by decide) rfl (fun ls hl => ?_)
      refine u_aload_n (r := some a4) hx hb dX3_between_43 rfl (lv_at hl 1 rfl) ?_
      refine lv_iload hx hb dX3_between_44 (lv_at hl 4 rfl) ?_
      refine lv_iconst (v := 2) hx hb dX3_between_46 (by decide) ?_
      refine lv_iload hx hb dX3_between_47 (lv_at hl 5 rfl) ?_
      refine lv_imul hx hb dX3_between_49 ?_
      refine lv_iadd hx hb dX3_between_50 ?_
      obtain ⟨y6, hy6, h⟩ := mbind_n h
      refine u_iald hC hP hy6 rfl dX3_between_51 ?_
      refine lv_istore (lv' := [(7, .int y6), (6, .int y5), (0, va_rf (some a4)), (2, .int x2), (3, .int x3), (4, .int x4), (5, .int x5)]) hx hb dX3_between_52 hl (by decide) rfl (fun ls hl => ?_)
      refine lv_iload_n hx hb dX3_between_54 rfl (lv_at hl 4 rfl) ?_
      refine lv_iload hx hb dX3_between_55 (lv_at hl 0 rfl) ?_
      refine lv_icmp_le (tgt := 63) hx hb dX3_between_57 (by decide) (fun c7 => ?_) (fun c7 => ?_)
      · have h := mif_t c7 h
        refine u_aload_n (r := some a4) hx hb dX3_between_63 rfl (lv_at hl 2 rfl) ?_
        refine lv_iload hx hb dX3_between_64 (lv_at hl 5 rfl) ?_
        refine lv_iconst (v := 2) hx hb dX3_between_66 (by decide) ?_
        refine lv_iload hx hb dX3_between_67 (lv_at hl 6 rfl) ?_
        refine lv_imul hx hb dX3_between_69 ?_
        refine lv_iadd hx hb dX3_between_70 ?_
        refine lv_iconst (v := 1) hx hb dX3_between_71 (by decide) ?_
        refine lv_isub hx hb dX3_between_72 ?_
        obtain ⟨y8, hy8, h⟩ := mbind_n h
        refine u_iald hC hP hy8 rfl dX3_between_73 ?_
        refine lv_istore (lv' := [(8, .int y8), (7, .int y6), (6, .int y5), (0, va_rf (some a4)), (2, .int x2), (3, .int x3), (4, .int x4), (5, .int x5)]) hx hb dX3_between_74 hl (by decide) rfl (fun ls hl => ?_)
        refine u_aload_n (r := some a4) hx hb dX3_between_76 rfl (lv_at hl 3 rfl) ?_
        refine lv_iload hx hb dX3_between_77 (lv_at hl 6 rfl) ?_
        refine lv_iconst (v := 2) hx hb dX3_between_79 (by decide) ?_
        refine lv_iload hx hb dX3_between_80 (lv_at hl 7 rfl) ?_
        refine lv_imul hx hb dX3_between_82 ?_
        refine lv_iadd hx hb dX3_between_83 ?_
        refine lv_iconst (v := 1) hx hb dX3_between_84 (by decide) ?_
        refine lv_iadd hx hb dX3_between_85 ?_
        obtain ⟨y9, hy9, h⟩ := mbind_n h
        refine u_iald hC hP hy9 rfl dX3_between_86 ?_
        refine lv_istore (lv' := [(9, .int y9), (8, .int y8), (7, .int y6), (6, .int y5), (0, va_rf (some a4)), (2, .int x2), (3, .int x3), (4, .int x4), (5, .int x5)]) hx hb dX3_between_87 hl (by decide) rfl (fun ls hl => ?_)
        refine lv_iload hx hb dX3_between_89 (lv_at hl 1 rfl) ?_
        refine lv_iload hx hb dX3_between_91 (lv_at hl 0 rfl) ?_
        refine lv_iload hx hb dX3_between_93 (lv_at hl 1 rfl) ?_
        refine lv_isub hx hb dX3_between_95 ?_
        refine lv_iload_n hx hb dX3_between_96 rfl (lv_at hl 6 rfl) ?_
        refine lv_iload hx hb dX3_between_97 (lv_at hl 3 rfl) ?_
        refine lv_isub hx hb dX3_between_99 ?_
        refine lv_imul hx hb dX3_between_100 ?_
        refine lv_iload hx hb dX3_between_101 (lv_at hl 2 rfl) ?_
        refine lv_iload hx hb dX3_between_103 (lv_at hl 3 rfl) ?_
        refine lv_isub hx hb dX3_between_105 ?_
        obtain ⟨r12, u10, c11, h⟩ := ucall_n h
        have zu10 := zz_X3_down N (ub G) (ug G) u ((y9 - y8) * (x3 - y5)) (y6 - y5) r12 u10 c11
        refine u_calli (va_runS (As := [.int ((y9 - y8) * (x3 - y5)), .int (y6 - y5)]) (rest := [.int y8]) hC.1 (met_X3_down l N G u ((y9 - y8) * (x3 - y5)) (y6 - y5) r12 u10 c11) (va_cwS 2 hts (lw_S q2253 q2254 q103 q2255) rfl rfl rfl (by decide +kernel) ⟨Nat.le_trans (Nat.le_of_ble_eq_true rfl) hR.1, Nat.le_trans (Nat.le_of_ble_eq_true rfl) hR.2⟩) ⟨uPc_blind, fun U hU hW => u_pre hC hP hS hU hW⟩ rfl rfl hl.1 rfl (lv_room (Nat.le_of_ble_eq_true rfl)) dX3_between_106 ⟨Nat.zero_le _, Nat.zero_le _⟩) hS (fun H locs hP hS => ?_)
        refine lv_iadd hx hb dX3_between_109 ?_
        obtain ⟨hr1, hr2⟩ := uret_n h
        subst hr1
        subst hr2
        exact u_iret hC hP hS dX3_between_110
      · have h := mif_f c7 h
        refine lv_goto (tgt := 111) hx hb dX3_between_60 (by decide) ?_
        obtain ⟨y13, ey13⟩ : ∃ z : Int32, z = x5 + 1 := ⟨_, rfl⟩
        have h := mlet_at ey13 h
        refine lv_iinc (v := y13) (lv' := [(5, .int y13), (7, .int y6), (6, .int y5), (0, va_rf (some a4)), (2, .int x2), (3, .int x3), (4, .int x4)]) hx hb dX3_between_111 hl (k := 6) rfl (by rw [ey13]; rfl) (by decide) rfl (fun ls hl => ?_)
        refine lv_goto (tgt := 24) hx hb dX3_between_114 (by decide) ?_
        exact ih u (some a4) x2 x3 x4 y13 h _ _ hP hS _ (lv_sub hl [3, 4, 5, 6, 0] rfl)
def f_X3_between (N b : Nat) (g : uEnv) (u : UH) (x0 : Option Nat) (x1 : Int32) (x2 : Int32) (x3 : Int32) : Option (Int32 × UH) :=
    mlet (8 * x1) fun y1 =>
    (x0).bind fun a2 =>
    (uLdI u a2 0 y1).bind fun y3 =>
    if y3 < x3 then
    f_X3_between_24 N b g N u (some a2) x2 x3 y1 1
    else
    (uLdI u a2 0 (y1 + 1)).bind fun y5 =>
    some (y5, u)
set_option maxHeartbeats 4000000 in
set_option maxRecDepth 100000 in
theorem zz_X3_between_0 {G : uG} {uf : UH} {r : Int32} (N : Nat) (u : UH) (x0 : Option Nat) (x1 : Int32) (x2 : Int32) (x3 : Int32) (h : f_X3_between N (ub G) (ug G) u x0 x1 x2 x3 = some (r, uf)) : uf.1 = u.1 ∧ uf.2.1 = u.2.1 := by
  unfold f_X3_between at h
  obtain ⟨y1, ey1⟩ : ∃ z, z = 8 * x1 := ⟨_, rfl⟩
  have h := mlet_at ey1 h
  obtain ⟨a2, ha2, hha2⟩ := mbind_n h
  subst ha2
  have h := hha2
  obtain ⟨y3, hy3, h⟩ := mbind_n h
  by_cases c4 : y3 < x3
  · have h := mif_t c4 h
    have hq := zz_X3_between_24 (G := G) N N u (some a2) x2 x3 y1 1 h
    exact ⟨by omega, by omega⟩
  · have h := mif_f c4 h
    obtain ⟨y5, hy5, h⟩ := mbind_n h
    obtain ⟨hr1, hr2⟩ := uret_n h
    subst hr2
    exact ⟨by omega, by omega⟩
set_option maxHeartbeats 4000000 in
set_option maxRecDepth 100000 in
theorem w_X3_between_0 {p : Program} {l : Launch} {e : Env} {R : Room} {s : State} {m : MethodId} {args : Array Value} {below : List Frame} {meth : Method} {c : Code} {G : uG} {uf : UH} {r : Int32} (hC : uC p s m args meth c G RX3 cX3_between 10 (some .int)) (hR : 1 ≤ R.frames ∧ 22 ≤ R.locals) (N : Nat) (u : UH) (x0 : Option Nat) (x1 : Int32) (x2 : Int32) (x3 : Int32) (h : f_X3_between N (ub G) (ug G) u x0 x1 x2 x3 = some (r, uf)) {H : Heap} {locs : List Loc} (hP : uP G u H) (hS : va_S (uA G) s.heap H locs) {ls : Array Slot} (hl : lv_has ls 10 [(0, va_rf x0), (1, .int x1), (2, .int x2), (3, .int x3)]) : W p l e R s m args below meth c H locs 0 0 (MQ below (uQi G r uf) args s 0 0 (uA G)) (F0 m 0 ls []) := by
  obtain ⟨⟨hx, hb, hml, hown, hts⟩, hKK⟩ := id hC
  unfold f_X3_between at h
  refine lv_bipush (v := 8) hx hb dX3_between_0 (by decide) ?_
  refine lv_iload_n hx hb dX3_between_2 rfl (lv_at hl 1 rfl) ?_
  refine lv_imul hx hb dX3_between_3 ?_
  refine lv_topi (fun y1 ey1 => ?_)
  have h := mlet_at ey1 h
  refine lv_istore (lv' := [(4, .int y1), (0, va_rf x0), (1, .int x1), (2, .int x2), (3, .int x3)]) hx hb dX3_between_4 hl (by decide) rfl (fun ls hl => ?_)
  refine lv_iload_n hx hb dX3_between_6 rfl (lv_at hl 4 rfl) ?_
  refine u_aload_n (r := x0) hx hb dX3_between_7 rfl (lv_at hl 1 rfl) ?_
  refine lv_iload hx hb dX3_between_8 (lv_at hl 0 rfl) ?_
  obtain ⟨a2, ha2, hha2⟩ := mbind_n h
  subst ha2
  have h := hha2
  obtain ⟨y3, hy3, h⟩ := mbind_n h
  refine u_iald hC hP hy3 rfl dX3_between_10 ?_
  refine lv_icmp_gt (tgt := 21) hx hb dX3_between_11 (by decide) (fun c4 => ?_) (fun c4 => ?_)
  · have h := mif_t c4 h
    refine lv_iconst (v := 1) hx hb dX3_between_21 (by decide) ?_
    refine lv_istore (lv' := [(5, .int 1), (4, .int y1), (0, va_rf (some a2)), (1, .int x1), (2, .int x2), (3, .int x3)]) hx hb dX3_between_22 hl (by decide) rfl (fun ls hl => ?_)
    exact w_X3_between_24 hC hR N N u (some a2) x2 x3 y1 1 h _ _ hP hS _ (lv_sub hl [2, 4, 5, 1, 0] rfl)
  · have h := mif_f c4 h
    refine u_aload_n (r := some a2) hx hb dX3_between_14 rfl (lv_at hl 1 rfl) ?_
    refine lv_iload hx hb dX3_between_15 (lv_at hl 0 rfl) ?_
    refine lv_iconst (v := 1) hx hb dX3_between_17 (by decide) ?_
    refine lv_iadd hx hb dX3_between_18 ?_
    obtain ⟨y5, hy5, h⟩ := mbind_n h
    refine u_iald hC hP hy5 rfl dX3_between_19 ?_
    obtain ⟨hr1, hr2⟩ := uret_n h
    subst hr1
    subst hr2
    exact u_iret hC hP hS dX3_between_20
theorem zz_X3_between (N b : Nat) (g : uEnv) (u : UH) (x0 : Option Nat) (x1 : Int32) (x2 : Int32) (x3 : Int32) (r : Int32) (uf : UH) (h : f_X3_between N b g u x0 x1 x2 x3 = some (r, uf)) : uf.1 = u.1 ∧ uf.2.1 = u.2.1 :=
  zz_X3_between_0 (G := ((fun _ => 0, fun _ _ => 0), fun _ => 0, b, g)) N u x0 x1 x2 x3 h
theorem met_X3_between (l : Launch) (N : Nat) (G : uG) (u : UH) (x0 : Option Nat) (x1 : Int32) (x2 : Int32) (x3 : Int32) (r : Int32) (uf : UH) (h : f_X3_between N (ub G) (ug G) u x0 x1 x2 x3 = some (r, uf)) : Met l yX3_between (ws_ yX3_between cX3_between 10 (some .int)) ({ frames := 1, cells := 0, slots := 0, locals := 22 }) (uPc G u [va_rf x0, .int x1, .int x2, .int x3]) (uQi G r uf) 0 0 (uA G) := by
  rcases x0 with _ | x0 <;> exact u_met (own := RX3) (by decide +kernel) rfl (Nat.le_of_ble_eq_true rfl) (fun hC hn hsz ls hl hP => w_X3_between_0 hC ⟨Nat.le_refl _, Nat.le_refl _⟩ N u _ x1 x2 x3 h hP va_S.rf hl)
def f_X3_need_62 (N b : Nat) (g : uEnv) (a0 : Nat) (u : UH) (s0 : Int32) : Option (Int32 × UH) :=
    some (s0, u)
set_option maxHeartbeats 4000000 in
set_option maxRecDepth 100000 in
theorem zz_X3_need_62 {G : uG} {a0 : Nat} {uf : UH} {r : Int32} (N : Nat) (u : UH) (s0 : Int32) (h : f_X3_need_62 N (ub G) (ug G) a0 u s0 = some (r, uf)) : uf.1 = u.1 ∧ uf.2.1 = u.2.1 := by
  unfold f_X3_need_62 at h
  obtain ⟨hr1, hr2⟩ := uret_n h
  subst hr2
  exact ⟨by omega, by omega⟩
set_option maxHeartbeats 4000000 in
set_option maxRecDepth 100000 in
theorem w_X3_need_62 {p : Program} {l : Launch} {e : Env} {R : Room} {s : State} {m : MethodId} {args : Array Value} {below : List Frame} {meth : Method} {c : Code} {G : uG} {a0 : Nat} {uf : UH} {r : Int32} (hC : uC p s m args meth c G RX3 cX3_need 5 (some .int)) (hR : 2 ≤ R.frames ∧ 51 ≤ R.locals) (N : Nat) (u : UH) (s0 : Int32) (h : f_X3_need_62 N (ub G) (ug G) a0 u s0 = some (r, uf)) {H : Heap} {locs : List Loc} (hP : uP G u H) (hS : va_S (uA G) s.heap H locs) {ls : Array Slot} (hl : lv_has ls 5 []) : W p l e R s m args below meth c H locs 0 0 (MQ below (uQi G r uf) args s 0 0 (uA G)) (F0 m 62 ls [.int s0]) := by
  obtain ⟨⟨hx, hb, hml, hown, hts⟩, hKK⟩ := id hC
  unfold f_X3_need_62 at h
  obtain ⟨hr1, hr2⟩ := uret_n h
  subst hr1
  subst hr2
  exact u_iret hC hP hS dX3_need_62
def f_X3_need (N b : Nat) (g : uEnv) (u : UH) (a0 : Nat) (x1 : Int32) (x2 : Int32) : Option (Int32 × UH) :=
    (uGI u a0 2 25).bind fun y1 =>
    (uGI u a0 2 24).bind fun y2 =>
    if ¬ y2 = 0 then
    mlet (y1 / y2) fun y4 =>
    (uGI u a0 2 25).bind fun y5 =>
    (uGR u a0 2 20).bind fun o6 =>
    (uGR u a0 2 18).bind fun o7 =>
    (o7).bind fun a8 =>
    (uLdI u a8 0 x2).bind fun y9 =>
    ucall (f_X3_between N b g u o6 x2 y9 y4) fun r12 u10 =>
    ucall (f_X3_down N b g u10 (y5 * (x1 + r12)) 10) fun r15 u13 =>
    (uGI u13 a0 2 38).bind fun y16 =>
    (uGI u13 a0 2 28).bind fun y17 =>
    mlet (r15 + ((y16 * y4) * y17)) fun y18 =>
    if 0 ≤ y18 then
    f_X3_need_62 N b g a0 u13 y18
    else
    f_X3_need_62 N b g a0 u13 0
    else none
set_option maxHeartbeats 4000000 in
set_option maxRecDepth 100000 in
theorem zz_X3_need_0 {G : uG} {a0 : Nat} {uf : UH} {r : Int32} (N : Nat) (u : UH) (x1 : Int32) (x2 : Int32) (h : f_X3_need N (ub G) (ug G) u a0 x1 x2 = some (r, uf)) : uf.1 = u.1 ∧ uf.2.1 = u.2.1 := by
  unfold f_X3_need at h
  obtain ⟨y1, hy1, h⟩ := mbind_n h
  obtain ⟨y2, hy2, h⟩ := mbind_n h
  obtain ⟨c3, h⟩ := mif_n h
  obtain ⟨y4, ey4⟩ : ∃ z, z = y1 / y2 := ⟨_, rfl⟩
  have h := mlet_at ey4 h
  obtain ⟨y5, hy5, h⟩ := mbind_n h
  obtain ⟨o6, ho6, h⟩ := mbind_n h
  obtain ⟨o7, ho7, h⟩ := mbind_n h
  obtain ⟨a8, ha8, hha8⟩ := mbind_n h
  subst ha8
  have h := hha8
  obtain ⟨y9, hy9, h⟩ := mbind_n h
  obtain ⟨r12, u10, c11, h⟩ := ucall_n h
  have zu10 := zz_X3_between N (ub G) (ug G) u o6 x2 y9 y4 r12 u10 c11
  obtain ⟨r15, u13, c14, h⟩ := ucall_n h
  have zu13 := zz_X3_down N (ub G) (ug G) u10 (y5 * (x1 + r12)) 10 r15 u13 c14
  obtain ⟨y16, hy16, h⟩ := mbind_n h
  obtain ⟨y17, hy17, h⟩ := mbind_n h
  obtain ⟨y18, ey18⟩ : ∃ z, z = r15 + ((y16 * y4) * y17) := ⟨_, rfl⟩
  have h := mlet_at ey18 h
  by_cases c19 : 0 ≤ y18
  · have h := mif_t c19 h
    have hq := zz_X3_need_62 (G := G) (a0 := a0) N u13 y18 h
    exact ⟨by omega, by omega⟩
  · have h := mif_f c19 h
    have hq := zz_X3_need_62 (G := G) (a0 := a0) N u13 0 h
    exact ⟨by omega, by omega⟩
set_option maxHeartbeats 4000000 in
set_option maxRecDepth 100000 in
theorem w_X3_need_0 {p : Program} {l : Launch} {e : Env} {R : Room} {s : State} {m : MethodId} {args : Array Value} {below : List Frame} {meth : Method} {c : Code} {G : uG} {a0 : Nat} {uf : UH} {r : Int32} (hC : uC p s m args meth c G RX3 cX3_need 5 (some .int)) (hR : 2 ≤ R.frames ∧ 51 ≤ R.locals) (N : Nat) (u : UH) (x1 : Int32) (x2 : Int32) (h : f_X3_need N (ub G) (ug G) u a0 x1 x2 = some (r, uf)) {H : Heap} {locs : List Loc} (hP : uP G u H) (hS : va_S (uA G) s.heap H locs) {ls : Array Slot} (hl : lv_has ls 5 [(0, va_rf (some a0)), (1, .int x1), (2, .int x2)]) : W p l e R s m args below meth c H locs 0 0 (MQ below (uQi G r uf) args s 0 0 (uA G)) (F0 m 0 ls []) := by
  obtain ⟨⟨hx, hb, hml, hown, hts⟩, hKK⟩ := id hC
  unfold f_X3_need at h
  refine u_aload_n (r := some a0) hx hb dX3_need_0 rfl (lv_at hl 0 rfl) ?_
  obtain ⟨y1, hy1, h⟩ := mbind_n h
  refine u_get hC hP (uGI_n hy1) rfl in_X3 (by decide) q1918 (fun _ h => h) dX3_need_1 ?_
  refine u_aload_n (r := some a0) hx hb dX3_need_4 rfl (lv_at hl 0 rfl) ?_
  obtain ⟨y2, hy2, h⟩ := mbind_n h
  refine u_get hC hP (uGI_n hy2) rfl in_X3 (by decide) q1917 (fun _ h => h) dX3_need_5 ?_
  obtain ⟨c3, h⟩ := mif_n h
  refine lv_idiv hx hb dX3_need_8 c3 ?_
  refine lv_topi (fun y4 ey4 => ?_)
  have h := mlet_at ey4 h
  refine lv_istore_n (i := 3) (lv' := [(3, .int y4), (0, va_rf (some a0)), (1, .int x1), (2, .int x2)]) hx hb dX3_need_9 rfl hl (by decide) rfl (fun ls hl => ?_)
  refine u_aload_n (r := some a0) hx hb dX3_need_10 rfl (lv_at hl 1 rfl) ?_
  obtain ⟨y5, hy5, h⟩ := mbind_n h
  refine u_get hC hP (uGI_n hy5) rfl in_X3 (by decide) q1918 (fun _ h => h) dX3_need_11 ?_
  refine lv_iload_n hx hb dX3_need_14 rfl (lv_at hl 2 rfl) ?_
  refine u_aload_n (r := some a0) hx hb dX3_need_15 rfl (lv_at hl 1 rfl) ?_
  obtain ⟨o6, ho6, h⟩ := mbind_n h
  refine u_get hC hP (uGR_n ho6) rfl in_X3 (by decide) q1913 (fun _ h => h) dX3_need_16 ?_
  refine lv_iload_n hx hb dX3_need_19 rfl (lv_at hl 3 rfl) ?_
  refine u_aload_n (r := some a0) hx hb dX3_need_20 rfl (lv_at hl 1 rfl) ?_
  obtain ⟨o7, ho7, h⟩ := mbind_n h
  refine u_get hC hP (uGR_n ho7) rfl in_X3 (by decide) q1911 (fun _ h => h) dX3_need_21 ?_
  refine lv_iload_n hx hb dX3_need_24 rfl (lv_at hl 3 rfl) ?_
  obtain ⟨a8, ha8, hha8⟩ := mbind_n h
  subst ha8
  have h := hha8
  obtain ⟨y9, hy9, h⟩ := mbind_n h
  refine u_iald hC hP hy9 rfl dX3_need_25 ?_
  refine lv_iload_n hx hb dX3_need_26 rfl (lv_at hl 0 rfl) ?_
  obtain ⟨r12, u10, c11, h⟩ := ucall_n h
  have zu10 := zz_X3_between N (ub G) (ug G) u o6 x2 y9 y4 r12 u10 c11
  refine u_calli (va_runS (As := [va_rf o6, .int x2, .int y9, .int y4]) (rest := [.int x1, .int y5]) hC.1 (met_X3_between l N G u o6 x2 y9 y4 r12 u10 c11) (va_cwS 4 hts (lw_S q2250 q2251 q103 q2252) rfl rfl rfl (by decide +kernel) ⟨Nat.le_trans (Nat.le_of_ble_eq_true rfl) hR.1, Nat.le_trans (Nat.le_of_ble_eq_true rfl) hR.2⟩) ⟨uPc_blind, fun U hU hW => u_pre hC hP hS hU hW⟩ rfl rfl hl.1 rfl (lv_room (Nat.le_of_ble_eq_true rfl)) dX3_need_27 ⟨Nat.zero_le _, Nat.zero_le _⟩) hS (fun H locs hP hS => ?_)
  refine lv_iadd hx hb dX3_need_30 ?_
  refine lv_imul hx hb dX3_need_31 ?_
  refine lv_bipush (v := 10) hx hb dX3_need_32 (by decide) ?_
  obtain ⟨r15, u13, c14, h⟩ := ucall_n h
  have zu13 := zz_X3_down N (ub G) (ug G) u10 (y5 * (x1 + r12)) 10 r15 u13 c14
  refine u_calli (va_runS (As := [.int (y5 * (x1 + r12)), .int 10]) (rest := []) hC.1 (met_X3_down l N G u10 (y5 * (x1 + r12)) 10 r15 u13 c14) (va_cwS 2 hts (lw_S q2253 q2254 q103 q2255) rfl rfl rfl (by decide +kernel) ⟨Nat.le_trans (Nat.le_of_ble_eq_true rfl) hR.1, Nat.le_trans (Nat.le_of_ble_eq_true rfl) hR.2⟩) ⟨uPc_blind, fun U hU hW => u_pre hC hP hS hU hW⟩ rfl rfl hl.1 rfl (lv_room (Nat.le_of_ble_eq_true rfl)) dX3_need_34 ⟨Nat.zero_le _, Nat.zero_le _⟩) hS (fun H locs hP hS => ?_)
  refine u_aload_n (r := some a0) hx hb dX3_need_37 rfl (lv_at hl 1 rfl) ?_
  obtain ⟨y16, hy16, h⟩ := mbind_n h
  refine u_get hC hP (uGI_n hy16) rfl in_X3 (by decide) q1931 (fun _ h => h) dX3_need_38 ?_
  refine lv_iload_n hx hb dX3_need_41 rfl (lv_at hl 0 rfl) ?_
  refine lv_imul hx hb dX3_need_42 ?_
  refine u_aload_n (r := some a0) hx hb dX3_need_43 rfl (lv_at hl 1 rfl) ?_
  obtain ⟨y17, hy17, h⟩ := mbind_n h
  refine u_get hC hP (uGI_n hy17) rfl in_X3 (by decide) q1921 (fun _ h => h) dX3_need_44 ?_
  refine lv_imul hx hb dX3_need_47 ?_
  refine lv_iadd hx hb dX3_need_48 ?_
  refine lv_topi (fun y18 ey18 => ?_)
  have h := mlet_at ey18 h
  refine lv_istore (lv' := [(4, .int y18), (3, .int y4), (0, va_rf (some a0)), (1, .int x1), (2, .int x2)]) hx hb dX3_need_49 hl (by decide) rfl (fun ls hl => ?_)
  refine lv_iload hx hb dX3_need_51 (lv_at hl 0 rfl) ?_
  refine lv_if_ge (tgt := 60) hx hb dX3_need_53 (by decide) (fun c19 => ?_) (fun c19 => ?_)
  · have h := mif_t c19 h
    refine lv_iload hx hb dX3_need_60 (lv_at hl 0 rfl) ?_
    exact w_X3_need_62 hC hR N u13 y18 h hP hS (lv_sub hl [] rfl)
  · have h := mif_f c19 h
    refine lv_iconst (v := 0) hx hb dX3_need_56 (by decide) ?_
    refine lv_goto (tgt := 62) hx hb dX3_need_57 (by decide) ?_
    exact w_X3_need_62 hC hR N u13 0 h hP hS (lv_sub hl [] rfl)
theorem zz_X3_need (N b : Nat) (g : uEnv) (u : UH) (a0 : Nat) (x1 : Int32) (x2 : Int32) (r : Int32) (uf : UH) (h : f_X3_need N b g u a0 x1 x2 = some (r, uf)) : uf.1 = u.1 ∧ uf.2.1 = u.2.1 :=
  zz_X3_need_0 (G := ((fun _ => 0, fun _ _ => 0), fun _ => 0, b, g)) (a0 := a0) N u x1 x2 h
theorem met_X3_need (l : Launch) (N : Nat) (G : uG) (u : UH) (a0 : Nat) (x1 : Int32) (x2 : Int32) (r : Int32) (uf : UH) (h : f_X3_need N (ub G) (ug G) u a0 x1 x2 = some (r, uf)) : Met l yX3_need (ws_ yX3_need cX3_need 5 (some .int)) ({ frames := 2, cells := 0, slots := 0, locals := 51 }) (uPc G u [.ref a0, .int x1, .int x2]) (uQi G r uf) 0 0 (uA G) := by
  exact u_met (own := RX3) (by decide +kernel) rfl (Nat.le_of_ble_eq_true rfl) (fun hC hn hsz ls hl hP => w_X3_need_0 hC ⟨Nat.le_refl _, Nat.le_refl _⟩ N u x1 x2 h hP va_S.rf hl)
def f_X3_slip_23 (N b : Nat) (g : uEnv) (a0 : Nat) : Nat → UH → Int32 → Int32 → Int32 → Int32 → Option (Int32 × UH)
  | 0, _, _, _, _, _ => none
  | n + 1, u, x1, x2, x3, x4 =>
    if 90 < x4 then
    some ((-1), u)
    else
    (uGR u a0 2 21).bind fun o2 =>
    (uGR u a0 2 19).bind fun o3 =>
    (o3).bind fun a4 =>
    (uLdI u a4 0 x2).bind fun y5 =>
    ucall (f_X3_between N b g u o2 x2 y5 x4) fun r8 u6 =>
    if (x3 * r8) < x1 then
    mlet (x4 + 1) fun y10 =>
    f_X3_slip_23 N b g a0 n u6 x1 x2 x3 y10
    else
    some (x4, u6)
set_option maxHeartbeats 4000000 in
set_option maxRecDepth 100000 in
theorem zz_X3_slip_23 {G : uG} {a0 : Nat} {uf : UH} {r : Int32} (N : Nat) : ∀ (n : Nat) (u : UH) (x1 : Int32) (x2 : Int32) (x3 : Int32) (x4 : Int32), f_X3_slip_23 N (ub G) (ug G) a0 n u x1 x2 x3 x4 = some (r, uf) → uf.1 = u.1 ∧ uf.2.1 = u.2.1 := by
  intro n
  induction n with
  | zero =>
    intro u x1 x2 x3 x4 h
    cases h
  | succ n ih =>
    intro u x1 x2 x3 x4 h
    unfold f_X3_slip_23 at h
    by_cases c1 : 90 < x4
    · have h := mif_t c1 h
      obtain ⟨hr1, hr2⟩ := uret_n h
      subst hr2
      exact ⟨by omega, by omega⟩
    · have h := mif_f c1 h
      obtain ⟨o2, ho2, h⟩ := mbind_n h
      obtain ⟨o3, ho3, h⟩ := mbind_n h
      obtain ⟨a4, ha4, hha4⟩ := mbind_n h
      subst ha4
      have h := hha4
      obtain ⟨y5, hy5, h⟩ := mbind_n h
      obtain ⟨r8, u6, c7, h⟩ := ucall_n h
      have zu6 := zz_X3_between N (ub G) (ug G) u o2 x2 y5 x4 r8 u6 c7
      by_cases c9 : (x3 * r8) < x1
      · have h := mif_t c9 h
        obtain ⟨y10, ey10⟩ : ∃ z : Int32, z = x4 + 1 := ⟨_, rfl⟩
        have h := mlet_at ey10 h
        have hq := ih u6 x1 x2 x3 y10 h
        exact ⟨by omega, by omega⟩
      · have h := mif_f c9 h
        obtain ⟨hr1, hr2⟩ := uret_n h
        subst hr2
        exact ⟨by omega, by omega⟩
set_option maxHeartbeats 4000000 in
set_option maxRecDepth 100000 in
theorem w_X3_slip_23 {p : Program} {l : Launch} {e : Env} {R : Room} {s : State} {m : MethodId} {args : Array Value} {below : List Frame} {meth : Method} {c : Code} {G : uG} {a0 : Nat} {uf : UH} {r : Int32} (hC : uC p s m args meth c G RX3 cX3_slip 5 (some .int)) (hR : 2 ≤ R.frames ∧ 51 ≤ R.locals) (N : Nat) : ∀ (n : Nat) (u : UH) (x1 : Int32) (x2 : Int32) (x3 : Int32) (x4 : Int32), f_X3_slip_23 N (ub G) (ug G) a0 n u x1 x2 x3 x4 = some (r, uf) → ∀ (H : Heap) (locs : List Loc), uP G u H → va_S (uA G) s.heap H locs → ∀ ls : Array Slot, lv_has ls 5 [(0, va_rf (some a0)), (1, .int x1), (2, .int x2), (3, .int x3), (4, .int x4)] → W p l e R s m args below meth c H locs 0 0 (MQ below (uQi G r uf) args s 0 0 (uA G)) (F0 m 23 ls []) := by
  obtain ⟨⟨hx, hb, hml, hown, hts⟩, hKK⟩ := id hC
  intro n
  induction n with
  | zero =>
    intro u x1 x2 x3 x4 h
    cases h
  | succ n ih =>
    intro u x1 x2 x3 x4 h H locs hP hS ls hl
    unfold f_X3_slip_23 at h
    refine lv_iload hx hb dX3_slip_23 (lv_at hl 4 rfl) ?_
    refine lv_bipush (v := 90) hx hb dX3_slip_25 (by decide) ?_
    refine lv_icmp_gt (tgt := 61) hx hb dX3_slip_27 (by decide) (fun c1 => ?_) (fun c1 => ?_)
    · have h := mif_t c1 h
      refine lv_iconst (v := (-1)) hx hb dX3_slip_61 (by decide) ?_
      obtain ⟨hr1, hr2⟩ := uret_n h
      subst hr1
      subst hr2
      exact u_iret hC hP hS dX3_slip_62
    · have h := mif_f c1 h
      refine lv_iload_n hx hb dX3_slip_30 rfl (lv_at hl 3 rfl) ?_
      refine u_aload_n (r := some a0) hx hb dX3_slip_31 rfl (lv_at hl 0 rfl) ?_
      obtain ⟨o2, ho2, h⟩ := mbind_n h
      refine u_get hC hP (uGR_n ho2) rfl in_X3 (by decide) q1914 (fun _ h => h) dX3_slip_32 ?_
      refine lv_iload_n hx hb dX3_slip_35 rfl (lv_at hl 2 rfl) ?_
      refine u_aload_n (r := some a0) hx hb dX3_slip_36 rfl (lv_at hl 0 rfl) ?_
      obtain ⟨o3, ho3, h⟩ := mbind_n h
      refine u_get hC hP (uGR_n ho3) rfl in_X3 (by decide) q1912 (fun _ h => h) dX3_slip_37 ?_
      refine lv_iload_n hx hb dX3_slip_40 rfl (lv_at hl 2 rfl) ?_
      obtain ⟨a4, ha4, hha4⟩ := mbind_n h
      subst ha4
      have h := hha4
      obtain ⟨y5, hy5, h⟩ := mbind_n h
      refine u_iald hC hP hy5 rfl dX3_slip_41 ?_
      refine lv_iload hx hb dX3_slip_42 (lv_at hl 4 rfl) ?_
      obtain ⟨r8, u6, c7, h⟩ := ucall_n h
      have zu6 := zz_X3_between N (ub G) (ug G) u o2 x2 y5 x4 r8 u6 c7
      refine u_calli (va_runS (As := [va_rf o2, .int x2, .int y5, .int x4]) (rest := [.int x3]) hC.1 (met_X3_between l N G u o2 x2 y5 x4 r8 u6 c7) (va_cwS 4 hts (lw_S q2250 q2251 q103 q2252) rfl rfl rfl (by decide +kernel) ⟨Nat.le_trans (Nat.le_of_ble_eq_true rfl) hR.1, Nat.le_trans (Nat.le_of_ble_eq_true rfl) hR.2⟩) ⟨uPc_blind, fun U hU hW => u_pre hC hP hS hU hW⟩ rfl rfl hl.1 rfl (lv_room (Nat.le_of_ble_eq_true rfl)) dX3_slip_44 ⟨Nat.zero_le _, Nat.zero_le _⟩) hS (fun H locs hP hS => ?_)
      refine lv_imul hx hb dX3_slip_47 ?_
      refine lv_iload_n hx hb dX3_slip_48 rfl (lv_at hl 1 rfl) ?_
      refine lv_icmp_lt (tgt := 55) hx hb dX3_slip_49 (by decide) (fun c9 => ?_) (fun c9 => ?_)
      · have h := mif_t c9 h
        obtain ⟨y10, ey10⟩ : ∃ z : Int32, z = x4 + 1 := ⟨_, rfl⟩
        have h := mlet_at ey10 h
        refine lv_iinc (v := y10) (lv' := [(4, .int y10), (0, va_rf (some a0)), (1, .int x1), (2, .int x2), (3, .int x3)]) hx hb dX3_slip_55 hl (k := 4) rfl (by rw [ey10]; rfl) (by decide) rfl (fun ls hl => ?_)
        refine lv_goto (tgt := 23) hx hb dX3_slip_58 (by decide) ?_
        exact ih u6 x1 x2 x3 y10 h _ _ hP hS _ (lv_sub hl [1, 2, 3, 4, 0] rfl)
      · have h := mif_f c9 h
        refine lv_iload hx hb dX3_slip_52 (lv_at hl 4 rfl) ?_
        obtain ⟨hr1, hr2⟩ := uret_n h
        subst hr1
        subst hr2
        exact u_iret hC hP hS dX3_slip_54
def f_X3_slip (N b : Nat) (g : uEnv) (u : UH) (a0 : Nat) (x1 : Int32) (x2 : Int32) : Option (Int32 × UH) :=
    (uGI u a0 2 25).bind fun y1 =>
    (uGI u a0 2 24).bind fun y2 =>
    if ¬ y2 = 0 then
    (uGI u a0 2 24).bind fun y4 =>
    (uGI u a0 2 38).bind fun y5 =>
    mlet ((y1 / y2) * (y4 - y5)) fun y6 =>
    f_X3_slip_23 N b g a0 N u x1 x2 y6 0
    else none
set_option maxHeartbeats 4000000 in
set_option maxRecDepth 100000 in
theorem zz_X3_slip_0 {G : uG} {a0 : Nat} {uf : UH} {r : Int32} (N : Nat) (u : UH) (x1 : Int32) (x2 : Int32) (h : f_X3_slip N (ub G) (ug G) u a0 x1 x2 = some (r, uf)) : uf.1 = u.1 ∧ uf.2.1 = u.2.1 := by
  unfold f_X3_slip at h
  obtain ⟨y1, hy1, h⟩ := mbind_n h
  obtain ⟨y2, hy2, h⟩ := mbind_n h
  obtain ⟨c3, h⟩ := mif_n h
  obtain ⟨y4, hy4, h⟩ := mbind_n h
  obtain ⟨y5, hy5, h⟩ := mbind_n h
  obtain ⟨y6, ey6⟩ : ∃ z, z = (y1 / y2) * (y4 - y5) := ⟨_, rfl⟩
  have h := mlet_at ey6 h
  have hq := zz_X3_slip_23 (G := G) (a0 := a0) N N u x1 x2 y6 0 h
  exact ⟨by omega, by omega⟩
set_option maxHeartbeats 4000000 in
set_option maxRecDepth 100000 in
theorem w_X3_slip_0 {p : Program} {l : Launch} {e : Env} {R : Room} {s : State} {m : MethodId} {args : Array Value} {below : List Frame} {meth : Method} {c : Code} {G : uG} {a0 : Nat} {uf : UH} {r : Int32} (hC : uC p s m args meth c G RX3 cX3_slip 5 (some .int)) (hR : 2 ≤ R.frames ∧ 51 ≤ R.locals) (N : Nat) (u : UH) (x1 : Int32) (x2 : Int32) (h : f_X3_slip N (ub G) (ug G) u a0 x1 x2 = some (r, uf)) {H : Heap} {locs : List Loc} (hP : uP G u H) (hS : va_S (uA G) s.heap H locs) {ls : Array Slot} (hl : lv_has ls 5 [(0, va_rf (some a0)), (1, .int x1), (2, .int x2)]) : W p l e R s m args below meth c H locs 0 0 (MQ below (uQi G r uf) args s 0 0 (uA G)) (F0 m 0 ls []) := by
  obtain ⟨⟨hx, hb, hml, hown, hts⟩, hKK⟩ := id hC
  unfold f_X3_slip at h
  refine u_aload_n (r := some a0) hx hb dX3_slip_0 rfl (lv_at hl 0 rfl) ?_
  obtain ⟨y1, hy1, h⟩ := mbind_n h
  refine u_get hC hP (uGI_n hy1) rfl in_X3 (by decide) q1918 (fun _ h => h) dX3_slip_1 ?_
  refine u_aload_n (r := some a0) hx hb dX3_slip_4 rfl (lv_at hl 0 rfl) ?_
  obtain ⟨y2, hy2, h⟩ := mbind_n h
  refine u_get hC hP (uGI_n hy2) rfl in_X3 (by decide) q1917 (fun _ h => h) dX3_slip_5 ?_
  obtain ⟨c3, h⟩ := mif_n h
  refine lv_idiv hx hb dX3_slip_8 c3 ?_
  refine u_aload_n (r := some a0) hx hb dX3_slip_9 rfl (lv_at hl 0 rfl) ?_
  obtain ⟨y4, hy4, h⟩ := mbind_n h
  refine u_get hC hP (uGI_n hy4) rfl in_X3 (by decide) q1917 (fun _ h => h) dX3_slip_10 ?_
  refine u_aload_n (r := some a0) hx hb dX3_slip_13 rfl (lv_at hl 0 rfl) ?_
  obtain ⟨y5, hy5, h⟩ := mbind_n h
  refine u_get hC hP (uGI_n hy5) rfl in_X3 (by decide) q1931 (fun _ h => h) dX3_slip_14 ?_
  refine lv_isub hx hb dX3_slip_17 ?_
  refine lv_imul hx hb dX3_slip_18 ?_
  refine lv_topi (fun y6 ey6 => ?_)
  have h := mlet_at ey6 h
  refine lv_istore_n (i := 3) (lv' := [(3, .int y6), (0, va_rf (some a0)), (1, .int x1), (2, .int x2)]) hx hb dX3_slip_19 rfl hl (by decide) rfl (fun ls hl => ?_)
  refine lv_iconst (v := 0) hx hb dX3_slip_20 (by decide) ?_
  refine lv_istore (lv' := [(4, .int 0), (3, .int y6), (0, va_rf (some a0)), (1, .int x1), (2, .int x2)]) hx hb dX3_slip_21 hl (by decide) rfl (fun ls hl => ?_)
  exact w_X3_slip_23 hC hR N N u x1 x2 y6 0 h _ _ hP hS _ (lv_sub hl [2, 3, 4, 1, 0] rfl)
theorem zz_X3_slip (N b : Nat) (g : uEnv) (u : UH) (a0 : Nat) (x1 : Int32) (x2 : Int32) (r : Int32) (uf : UH) (h : f_X3_slip N b g u a0 x1 x2 = some (r, uf)) : uf.1 = u.1 ∧ uf.2.1 = u.2.1 :=
  zz_X3_slip_0 (G := ((fun _ => 0, fun _ _ => 0), fun _ => 0, b, g)) (a0 := a0) N u x1 x2 h
theorem met_X3_slip (l : Launch) (N : Nat) (G : uG) (u : UH) (a0 : Nat) (x1 : Int32) (x2 : Int32) (r : Int32) (uf : UH) (h : f_X3_slip N (ub G) (ug G) u a0 x1 x2 = some (r, uf)) : Met l yX3_slip (ws_ yX3_slip cX3_slip 5 (some .int)) ({ frames := 2, cells := 0, slots := 0, locals := 51 }) (uPc G u [.ref a0, .int x1, .int x2]) (uQi G r uf) 0 0 (uA G) := by
  exact u_met (own := RX3) (by decide +kernel) rfl (Nat.le_of_ble_eq_true rfl) (fun hC hn hsz ls hl hP => w_X3_slip_0 hC ⟨Nat.le_refl _, Nat.le_refl _⟩ N u x1 x2 h hP va_S.rf hl)
def f_X3_cost (N b : Nat) (g : uEnv) (u : UH) (a0 : Nat) (x1 : Int32) (x2 : Int32) (x3 : Int32) : Option (Int32 × UH) :=
    (uGR u a0 2 41).bind fun o1 =>
    if uIs u a0 2 = true then
    ucall (f_X3_beside N b g u a0 x1 x2) fun r5 u3 =>
    (o1).bind fun a6 =>
    (uLdI u3 a6 0 r5).bind fun y7 =>
    (uGR u3 a0 2 41).bind fun o8 =>
    (o8).bind fun a9 =>
    (uLdI u3 a9 0 x1).bind fun y10 =>
    if uIs u3 a0 2 = true then
    ucall (f_X3_need N b g u3 a0 (y7 - y10) x3) fun r14 u12 =>
    if uIs u12 a0 2 = true then
    ucall (f_X3_slip N b g u12 a0 r14 x3) fun r18 u16 =>
    if ¬ (100 - r18) = 0 then
    some (((1000 + r14) / (100 - r18)) + 1, u16)
    else none
    else none
    else none
    else none
set_option maxHeartbeats 4000000 in
set_option maxRecDepth 100000 in
theorem zz_X3_cost_0 {G : uG} {a0 : Nat} {uf : UH} {r : Int32} (N : Nat) (u : UH) (x1 : Int32) (x2 : Int32) (x3 : Int32) (h : f_X3_cost N (ub G) (ug G) u a0 x1 x2 x3 = some (r, uf)) : uf.1 = u.1 ∧ uf.2.1 = u.2.1 := by
  unfold f_X3_cost at h
  obtain ⟨o1, ho1, h⟩ := mbind_n h
  obtain ⟨c2, h⟩ := mif_n h
  obtain ⟨r5, u3, c4, h⟩ := ucall_n h
  have zu3 := zz_X3_beside N (ub G) (ug G) u a0 x1 x2 r5 u3 c4
  obtain ⟨a6, ha6, hha6⟩ := mbind_n h
  subst ha6
  have h := hha6
  obtain ⟨y7, hy7, h⟩ := mbind_n h
  obtain ⟨o8, ho8, h⟩ := mbind_n h
  obtain ⟨a9, ha9, hha9⟩ := mbind_n h
  subst ha9
  have h := hha9
  obtain ⟨y10, hy10, h⟩ := mbind_n h
  obtain ⟨c11, h⟩ := mif_n h
  obtain ⟨r14, u12, c13, h⟩ := ucall_n h
  have zu12 := zz_X3_need N (ub G) (ug G) u3 a0 (y7 - y10) x3 r14 u12 c13
  obtain ⟨c15, h⟩ := mif_n h
  obtain ⟨r18, u16, c17, h⟩ := ucall_n h
  have zu16 := zz_X3_slip N (ub G) (ug G) u12 a0 r14 x3 r18 u16 c17
  obtain ⟨c19, h⟩ := mif_n h
  obtain ⟨hr1, hr2⟩ := uret_n h
  subst hr2
  exact ⟨by omega, by omega⟩
set_option maxHeartbeats 4000000 in
set_option maxRecDepth 100000 in
theorem w_X3_cost_0 {p : Program} {l : Launch} {e : Env} {R : Room} {s : State} {m : MethodId} {args : Array Value} {below : List Frame} {meth : Method} {c : Code} {G : uG} {a0 : Nat} {uf : UH} {r : Int32} (hC : uC p s m args meth c G RX3 cX3_cost 5 (some .int)) (hR : 3 ≤ R.frames ∧ 75 ≤ R.locals) (N : Nat) (u : UH) (x1 : Int32) (x2 : Int32) (x3 : Int32) (h : f_X3_cost N (ub G) (ug G) u a0 x1 x2 x3 = some (r, uf)) {H : Heap} {locs : List Loc} (hP : uP G u H) (hS : va_S (uA G) s.heap H locs) {ls : Array Slot} (hl : lv_has ls 5 [(0, va_rf (some a0)), (1, .int x1), (2, .int x2), (3, .int x3)]) : W p l e R s m args below meth c H locs 0 0 (MQ below (uQi G r uf) args s 0 0 (uA G)) (F0 m 0 ls []) := by
  obtain ⟨⟨hx, hb, hml, hown, hts⟩, hKK⟩ := id hC
  unfold f_X3_cost at h
  refine u_aload_n (r := some a0) hx hb dX3_cost_0 rfl (lv_at hl 0 rfl) ?_
  refine u_aload_n (r := some a0) hx hb dX3_cost_1 rfl (lv_at hl 0 rfl) ?_
  obtain ⟨o1, ho1, h⟩ := mbind_n h
  refine u_get hC hP (uGR_n ho1) rfl in_X3 (by decide) q1934 (fun _ h => h) dX3_cost_2 ?_
  refine u_aload_n (r := some a0) hx hb dX3_cost_5 rfl (lv_at hl 0 rfl) ?_
  refine lv_iload_n hx hb dX3_cost_6 rfl (lv_at hl 1 rfl) ?_
  refine lv_iload_n hx hb dX3_cost_7 rfl (lv_at hl 2 rfl) ?_
  obtain ⟨c2, h⟩ := mif_n h
  obtain ⟨r5, u3, c4, h⟩ := ucall_n h
  have zu3 := zz_X3_beside N (ub G) (ug G) u a0 x1 x2 r5 u3 c4
  refine u_calli (va_runV (As := [.int x1, .int x2]) (rest := [va_rf o1, va_rf (some a0)]) hC.1 (met_X3_beside l N G u a0 x1 x2 r5 u3 c4) (cwV 2 hts (lw_V q2316 q2318 qs63 q103 q2319) rfl rfl rfl (by decide +kernel) ⟨Nat.le_trans (Nat.le_of_ble_eq_true rfl) hR.1, Nat.le_trans (Nat.le_of_ble_eq_true rfl) hR.2⟩) ⟨uPc_blind, u_rcv hC hP c2 rfl, fun U hU hW => u_pre hC hP hS hU hW⟩ rfl rfl hl.1 rfl (lv_room (by simp only [List.map, u_cat]; exact Nat.le_of_ble_eq_true rfl)) dX3_cost_8 ⟨Nat.zero_le _, Nat.zero_le _⟩) hS (fun H locs hP hS => ?_)
  obtain ⟨a6, ha6, hha6⟩ := mbind_n h
  subst ha6
  have h := hha6
  obtain ⟨y7, hy7, h⟩ := mbind_n h
  refine u_iald hC hP hy7 rfl dX3_cost_11 ?_
  refine u_aload_n (r := some a0) hx hb dX3_cost_12 rfl (lv_at hl 0 rfl) ?_
  obtain ⟨o8, ho8, h⟩ := mbind_n h
  refine u_get hC hP (uGR_n ho8) rfl in_X3 (by decide) q1934 (fun _ h => h) dX3_cost_13 ?_
  refine lv_iload_n hx hb dX3_cost_16 rfl (lv_at hl 1 rfl) ?_
  obtain ⟨a9, ha9, hha9⟩ := mbind_n h
  subst ha9
  have h := hha9
  obtain ⟨y10, hy10, h⟩ := mbind_n h
  refine u_iald hC hP hy10 rfl dX3_cost_17 ?_
  refine lv_isub hx hb dX3_cost_18 ?_
  refine lv_iload_n hx hb dX3_cost_19 rfl (lv_at hl 3 rfl) ?_
  obtain ⟨c11, h⟩ := mif_n h
  obtain ⟨r14, u12, c13, h⟩ := ucall_n h
  have zu12 := zz_X3_need N (ub G) (ug G) u3 a0 (y7 - y10) x3 r14 u12 c13
  refine u_calli (va_runV (As := [.int (y7 - y10), .int x3]) (rest := []) hC.1 (met_X3_need l N G u3 a0 (y7 - y10) x3 r14 u12 c13) (cwV 2 hts (lw_V q2320 q2322 qs64 q103 q2323) rfl rfl rfl (by decide +kernel) ⟨Nat.le_trans (Nat.le_of_ble_eq_true rfl) hR.1, Nat.le_trans (Nat.le_of_ble_eq_true rfl) hR.2⟩) ⟨uPc_blind, u_rcv hC hP c11 rfl, fun U hU hW => u_pre hC hP hS hU hW⟩ rfl rfl hl.1 rfl (lv_room (Nat.le_of_ble_eq_true rfl)) dX3_cost_20 ⟨Nat.zero_le _, Nat.zero_le _⟩) hS (fun H locs hP hS => ?_)
  refine lv_istore (lv' := [(4, .int r14), (0, va_rf (some a0)), (1, .int x1), (2, .int x2), (3, .int x3)]) hx hb dX3_cost_23 hl (by decide) rfl (fun ls hl => ?_)
  refine lv_sipush (v := 1000) hx hb dX3_cost_25 (by decide) ?_
  refine lv_iload hx hb dX3_cost_28 (lv_at hl 0 rfl) ?_
  refine lv_iadd hx hb dX3_cost_30 ?_
  refine lv_bipush (v := 100) hx hb dX3_cost_31 (by decide) ?_
  refine u_aload_n (r := some a0) hx hb dX3_cost_33 rfl (lv_at hl 1 rfl) ?_
  refine lv_iload hx hb dX3_cost_34 (lv_at hl 0 rfl) ?_
  refine lv_iload_n hx hb dX3_cost_36 rfl (lv_at hl 4 rfl) ?_
  obtain ⟨c15, h⟩ := mif_n h
  obtain ⟨r18, u16, c17, h⟩ := ucall_n h
  have zu16 := zz_X3_slip N (ub G) (ug G) u12 a0 r14 x3 r18 u16 c17
  refine u_calli (va_runV (As := [.int r14, .int x3]) (rest := [.int 100, .int (1000 + r14)]) hC.1 (met_X3_slip l N G u12 a0 r14 x3 r18 u16 c17) (cwV 2 hts (lw_V q2324 q2326 qs65 q103 q2327) rfl rfl rfl (by decide +kernel) ⟨Nat.le_trans (Nat.le_of_ble_eq_true rfl) hR.1, Nat.le_trans (Nat.le_of_ble_eq_true rfl) hR.2⟩) ⟨uPc_blind, u_rcv hC hP c15 rfl, fun U hU hW => u_pre hC hP hS hU hW⟩ rfl rfl hl.1 rfl (lv_room (Nat.le_of_ble_eq_true rfl)) dX3_cost_37 ⟨Nat.zero_le _, Nat.zero_le _⟩) hS (fun H locs hP hS => ?_)
  refine lv_isub hx hb dX3_cost_40 ?_
  obtain ⟨c19, h⟩ := mif_n h
  refine lv_idiv hx hb dX3_cost_41 c19 ?_
  refine lv_iconst (v := 1) hx hb dX3_cost_42 (by decide) ?_
  refine lv_iadd hx hb dX3_cost_43 ?_
  obtain ⟨hr1, hr2⟩ := uret_n h
  subst hr1
  subst hr2
  exact u_iret hC hP hS dX3_cost_44
theorem zz_X3_cost (N b : Nat) (g : uEnv) (u : UH) (a0 : Nat) (x1 : Int32) (x2 : Int32) (x3 : Int32) (r : Int32) (uf : UH) (h : f_X3_cost N b g u a0 x1 x2 x3 = some (r, uf)) : uf.1 = u.1 ∧ uf.2.1 = u.2.1 :=
  zz_X3_cost_0 (G := ((fun _ => 0, fun _ _ => 0), fun _ => 0, b, g)) (a0 := a0) N u x1 x2 x3 h
theorem met_X3_cost (l : Launch) (N : Nat) (G : uG) (u : UH) (a0 : Nat) (x1 : Int32) (x2 : Int32) (x3 : Int32) (r : Int32) (uf : UH) (h : f_X3_cost N (ub G) (ug G) u a0 x1 x2 x3 = some (r, uf)) : Met l yX3_cost (ws_ yX3_cost cX3_cost 5 (some .int)) ({ frames := 3, cells := 0, slots := 0, locals := 75 }) (uPc G u [.ref a0, .int x1, .int x2, .int x3]) (uQi G r uf) 0 0 (uA G) := by
  exact u_met (own := RX3) (by decide +kernel) rfl (Nat.le_of_ble_eq_true rfl) (fun hC hn hsz ls hl hP => w_X3_cost_0 hC ⟨Nat.le_refl _, Nat.le_refl _⟩ N u x1 x2 x3 h hP va_S.rf hl)
def f_X3_barred_50 (N b : Nat) (g : uEnv) (a0 : Nat) (u : UH) : Option (Int32 × UH) :=
    some (2, u)
set_option maxHeartbeats 4000000 in
set_option maxRecDepth 100000 in
theorem zz_X3_barred_50 {G : uG} {a0 : Nat} {uf : UH} {r : Int32} (N : Nat) (u : UH) (h : f_X3_barred_50 N (ub G) (ug G) a0 u = some (r, uf)) : uf.1 = u.1 ∧ uf.2.1 = u.2.1 := by
  unfold f_X3_barred_50 at h
  obtain ⟨hr1, hr2⟩ := uret_n h
  subst hr2
  exact ⟨by omega, by omega⟩
set_option maxHeartbeats 4000000 in
set_option maxRecDepth 100000 in
theorem w_X3_barred_50 {p : Program} {l : Launch} {e : Env} {R : Room} {s : State} {m : MethodId} {args : Array Value} {below : List Frame} {meth : Method} {c : Code} {G : uG} {a0 : Nat} {uf : UH} {r : Int32} (hC : uC p s m args meth c G RX3 cX3_barred 6 (some .int)) (hR : 3 ≤ R.frames ∧ 75 ≤ R.locals) (N : Nat) (u : UH) (h : f_X3_barred_50 N (ub G) (ug G) a0 u = some (r, uf)) {H : Heap} {locs : List Loc} (hP : uP G u H) (hS : va_S (uA G) s.heap H locs) {ls : Array Slot} (hl : lv_has ls 6 []) : W p l e R s m args below meth c H locs 0 0 (MQ below (uQi G r uf) args s 0 0 (uA G)) (F0 m 50 ls []) := by
  obtain ⟨⟨hx, hb, hml, hown, hts⟩, hKK⟩ := id hC
  unfold f_X3_barred_50 at h
  refine lv_iconst (v := 2) hx hb dX3_barred_50 (by decide) ?_
  obtain ⟨hr1, hr2⟩ := uret_n h
  subst hr1
  subst hr2
  exact u_iret hC hP hS dX3_barred_51
def f_X3_barred_104 (N b : Nat) (g : uEnv) (a0 : Nat) (u : UH) (s0 : Int32) : Option (Int32 × UH) :=
    some (s0, u)
set_option maxHeartbeats 4000000 in
set_option maxRecDepth 100000 in
theorem zz_X3_barred_104 {G : uG} {a0 : Nat} {uf : UH} {r : Int32} (N : Nat) (u : UH) (s0 : Int32) (h : f_X3_barred_104 N (ub G) (ug G) a0 u s0 = some (r, uf)) : uf.1 = u.1 ∧ uf.2.1 = u.2.1 := by
  unfold f_X3_barred_104 at h
  obtain ⟨hr1, hr2⟩ := uret_n h
  subst hr2
  exact ⟨by omega, by omega⟩
set_option maxHeartbeats 4000000 in
set_option maxRecDepth 100000 in
theorem w_X3_barred_104 {p : Program} {l : Launch} {e : Env} {R : Room} {s : State} {m : MethodId} {args : Array Value} {below : List Frame} {meth : Method} {c : Code} {G : uG} {a0 : Nat} {uf : UH} {r : Int32} (hC : uC p s m args meth c G RX3 cX3_barred 6 (some .int)) (hR : 3 ≤ R.frames ∧ 75 ≤ R.locals) (N : Nat) (u : UH) (s0 : Int32) (h : f_X3_barred_104 N (ub G) (ug G) a0 u s0 = some (r, uf)) {H : Heap} {locs : List Loc} (hP : uP G u H) (hS : va_S (uA G) s.heap H locs) {ls : Array Slot} (hl : lv_has ls 6 []) : W p l e R s m args below meth c H locs 0 0 (MQ below (uQi G r uf) args s 0 0 (uA G)) (F0 m 104 ls [.int s0]) := by
  obtain ⟨⟨hx, hb, hml, hown, hts⟩, hKK⟩ := id hC
  unfold f_X3_barred_104 at h
  obtain ⟨hr1, hr2⟩ := uret_n h
  subst hr1
  subst hr2
  exact u_iret hC hP hS dX3_barred_104
def f_X3_barred (N b : Nat) (g : uEnv) (u : UH) (a0 : Nat) (x1 : Int32) (x2 : Int32) (x3 : Int32) : Option (Int32 × UH) :=
    if uIs u a0 2 = true then
    ucall (f_X3_beside N b g u a0 x1 x2) fun r4 u2 =>
    if 0 ≤ r4 then
    (uGR u2 a0 2 41).bind fun o6 =>
    (o6).bind fun a7 =>
    (uLdI u2 a7 0 r4).bind fun y8 =>
    (uGR u2 a0 2 41).bind fun o9 =>
    (o9).bind fun a10 =>
    (uLdI u2 a10 0 x1).bind fun y11 =>
    mlet (y8 - y11) fun y12 =>
    (uGI u2 a0 2 27).bind fun y13 =>
    if y13 < y12 then
    f_X3_barred_50 N b g a0 u2
    else
    (uGI u2 a0 2 27).bind fun y15 =>
    if (-y12) ≤ y15 then
    (uGR u2 a0 2 20).bind fun o17 =>
    (uGR u2 a0 2 18).bind fun o18 =>
    (o18).bind fun a19 =>
    (uLdI u2 a19 0 x3).bind fun y20 =>
    (uGI u2 a0 2 25).bind fun y21 =>
    (uGI u2 a0 2 24).bind fun y22 =>
    if ¬ y22 = 0 then
    ucall (f_X3_between N b g u2 o17 x3 y20 (y21 / y22)) fun r26 u24 =>
    (uGI u24 a0 2 26).bind fun y27 =>
    if r26 ≤ y27 then
    if uIs u24 a0 2 = true then
    ucall (f_X3_need N b g u24 a0 y12 x3) fun r32 u30 =>
    if uIs u30 a0 2 = true then
    ucall (f_X3_slip N b g u30 a0 r32 x3) fun r36 u34 =>
    if 0 ≤ r36 then
    f_X3_barred_104 N b g a0 u34 0
    else
    f_X3_barred_104 N b g a0 u34 4
    else none
    else none
    else
    some (3, u24)
    else none
    else
    f_X3_barred_50 N b g a0 u2
    else
    some (1, u2)
    else none
set_option maxHeartbeats 4000000 in
set_option maxRecDepth 100000 in
theorem zz_X3_barred_0 {G : uG} {a0 : Nat} {uf : UH} {r : Int32} (N : Nat) (u : UH) (x1 : Int32) (x2 : Int32) (x3 : Int32) (h : f_X3_barred N (ub G) (ug G) u a0 x1 x2 x3 = some (r, uf)) : uf.1 = u.1 ∧ uf.2.1 = u.2.1 := by
  unfold f_X3_barred at h
  obtain ⟨c1, h⟩ := mif_n h
  obtain ⟨r4, u2, c3, h⟩ := ucall_n h
  have zu2 := zz_X3_beside N (ub G) (ug G) u a0 x1 x2 r4 u2 c3
  by_cases c5 : 0 ≤ r4
  · have h := mif_t c5 h
    obtain ⟨o6, ho6, h⟩ := mbind_n h
    obtain ⟨a7, ha7, hha7⟩ := mbind_n h
    subst ha7
    have h := hha7
    obtain ⟨y8, hy8, h⟩ := mbind_n h
    obtain ⟨o9, ho9, h⟩ := mbind_n h
    obtain ⟨a10, ha10, hha10⟩ := mbind_n h
    subst ha10
    have h := hha10
    obtain ⟨y11, hy11, h⟩ := mbind_n h
    obtain ⟨y12, ey12⟩ : ∃ z, z = y8 - y11 := ⟨_, rfl⟩
    have h := mlet_at ey12 h
    obtain ⟨y13, hy13, h⟩ := mbind_n h
    by_cases c14 : y13 < y12
    · have h := mif_t c14 h
      have hq := zz_X3_barred_50 (G := G) (a0 := a0) N u2 h
      exact ⟨by omega, by omega⟩
    · have h := mif_f c14 h
      obtain ⟨y15, hy15, h⟩ := mbind_n h
      by_cases c16 : (-y12) ≤ y15
      · have h := mif_t c16 h
        obtain ⟨o17, ho17, h⟩ := mbind_n h
        obtain ⟨o18, ho18, h⟩ := mbind_n h
        obtain ⟨a19, ha19, hha19⟩ := mbind_n h
        subst ha19
        have h := hha19
        obtain ⟨y20, hy20, h⟩ := mbind_n h
        obtain ⟨y21, hy21, h⟩ := mbind_n h
        obtain ⟨y22, hy22, h⟩ := mbind_n h
        obtain ⟨c23, h⟩ := mif_n h
        obtain ⟨r26, u24, c25, h⟩ := ucall_n h
        have zu24 := zz_X3_between N (ub G) (ug G) u2 o17 x3 y20 (y21 / y22) r26 u24 c25
        obtain ⟨y27, hy27, h⟩ := mbind_n h
        by_cases c28 : r26 ≤ y27
        · have h := mif_t c28 h
          obtain ⟨c29, h⟩ := mif_n h
          obtain ⟨r32, u30, c31, h⟩ := ucall_n h
          have zu30 := zz_X3_need N (ub G) (ug G) u24 a0 y12 x3 r32 u30 c31
          obtain ⟨c33, h⟩ := mif_n h
          obtain ⟨r36, u34, c35, h⟩ := ucall_n h
          have zu34 := zz_X3_slip N (ub G) (ug G) u30 a0 r32 x3 r36 u34 c35
          by_cases c37 : 0 ≤ r36
          · have h := mif_t c37 h
            have hq := zz_X3_barred_104 (G := G) (a0 := a0) N u34 0 h
            exact ⟨by omega, by omega⟩
          · have h := mif_f c37 h
            have hq := zz_X3_barred_104 (G := G) (a0 := a0) N u34 4 h
            exact ⟨by omega, by omega⟩
        · have h := mif_f c28 h
          obtain ⟨hr1, hr2⟩ := uret_n h
          subst hr2
          exact ⟨by omega, by omega⟩
      · have h := mif_f c16 h
        have hq := zz_X3_barred_50 (G := G) (a0 := a0) N u2 h
        exact ⟨by omega, by omega⟩
  · have h := mif_f c5 h
    obtain ⟨hr1, hr2⟩ := uret_n h
    subst hr2
    exact ⟨by omega, by omega⟩
set_option maxHeartbeats 4000000 in
set_option maxRecDepth 100000 in
theorem w_X3_barred_0 {p : Program} {l : Launch} {e : Env} {R : Room} {s : State} {m : MethodId} {args : Array Value} {below : List Frame} {meth : Method} {c : Code} {G : uG} {a0 : Nat} {uf : UH} {r : Int32} (hC : uC p s m args meth c G RX3 cX3_barred 6 (some .int)) (hR : 3 ≤ R.frames ∧ 75 ≤ R.locals) (N : Nat) (u : UH) (x1 : Int32) (x2 : Int32) (x3 : Int32) (h : f_X3_barred N (ub G) (ug G) u a0 x1 x2 x3 = some (r, uf)) {H : Heap} {locs : List Loc} (hP : uP G u H) (hS : va_S (uA G) s.heap H locs) {ls : Array Slot} (hl : lv_has ls 6 [(0, va_rf (some a0)), (1, .int x1), (2, .int x2), (3, .int x3)]) : W p l e R s m args below meth c H locs 0 0 (MQ below (uQi G r uf) args s 0 0 (uA G)) (F0 m 0 ls []) := by
  obtain ⟨⟨hx, hb, hml, hown, hts⟩, hKK⟩ := id hC
  unfold f_X3_barred at h
  refine u_aload_n (r := some a0) hx hb dX3_barred_0 rfl (lv_at hl 0 rfl) ?_
  refine lv_iload_n hx hb dX3_barred_1 rfl (lv_at hl 1 rfl) ?_
  refine lv_iload_n hx hb dX3_barred_2 rfl (lv_at hl 2 rfl) ?_
  obtain ⟨c1, h⟩ := mif_n h
  obtain ⟨r4, u2, c3, h⟩ := ucall_n h
  have zu2 := zz_X3_beside N (ub G) (ug G) u a0 x1 x2 r4 u2 c3
  refine u_calli (va_runV (As := [.int x1, .int x2]) (rest := []) hC.1 (met_X3_beside l N G u a0 x1 x2 r4 u2 c3) (cwV 2 hts (lw_V q2316 q2318 qs63 q103 q2319) rfl rfl rfl (by decide +kernel) ⟨Nat.le_trans (Nat.le_of_ble_eq_true rfl) hR.1, Nat.le_trans (Nat.le_of_ble_eq_true rfl) hR.2⟩) ⟨uPc_blind, u_rcv hC hP c1 rfl, fun U hU hW => u_pre hC hP hS hU hW⟩ rfl rfl hl.1 rfl (lv_room (Nat.le_of_ble_eq_true rfl)) dX3_barred_3 ⟨Nat.zero_le _, Nat.zero_le _⟩) hS (fun H locs hP hS => ?_)
  refine lv_istore (lv' := [(4, .int r4), (0, va_rf (some a0)), (1, .int x1), (2, .int x2), (3, .int x3)]) hx hb dX3_barred_6 hl (by decide) rfl (fun ls hl => ?_)
  refine lv_iload hx hb dX3_barred_8 (lv_at hl 0 rfl) ?_
  refine lv_if_ge (tgt := 15) hx hb dX3_barred_10 (by decide) (fun c5 => ?_) (fun c5 => ?_)
  · have h := mif_t c5 h
    refine u_aload_n (r := some a0) hx hb dX3_barred_15 rfl (lv_at hl 1 rfl) ?_
    obtain ⟨o6, ho6, h⟩ := mbind_n h
    refine u_get hC hP (uGR_n ho6) rfl in_X3 (by decide) q1934 (fun _ h => h) dX3_barred_16 ?_
    refine lv_iload hx hb dX3_barred_19 (lv_at hl 0 rfl) ?_
    obtain ⟨a7, ha7, hha7⟩ := mbind_n h
    subst ha7
    have h := hha7
    obtain ⟨y8, hy8, h⟩ := mbind_n h
    refine u_iald hC hP hy8 rfl dX3_barred_21 ?_
    refine u_aload_n (r := some a0) hx hb dX3_barred_22 rfl (lv_at hl 1 rfl) ?_
    obtain ⟨o9, ho9, h⟩ := mbind_n h
    refine u_get hC hP (uGR_n ho9) rfl in_X3 (by decide) q1934 (fun _ h => h) dX3_barred_23 ?_
    refine lv_iload_n hx hb dX3_barred_26 rfl (lv_at hl 2 rfl) ?_
    obtain ⟨a10, ha10, hha10⟩ := mbind_n h
    subst ha10
    have h := hha10
    obtain ⟨y11, hy11, h⟩ := mbind_n h
    refine u_iald hC hP hy11 rfl dX3_barred_27 ?_
    refine lv_isub hx hb dX3_barred_28 ?_
    refine lv_topi (fun y12 ey12 => ?_)
    have h := mlet_at ey12 h
    refine lv_istore (lv' := [(5, .int y12), (4, .int r4), (0, va_rf (some a0)), (1, .int x1), (2, .int x2), (3, .int x3)]) hx hb dX3_barred_29 hl (by decide) rfl (fun ls hl => ?_)
    refine lv_iload hx hb dX3_barred_31 (lv_at hl 0 rfl) ?_
    refine u_aload_n (r := some a0) hx hb dX3_barred_33 rfl (lv_at hl 2 rfl) ?_
    obtain ⟨y13, hy13, h⟩ := mbind_n h
    refine u_get hC hP (uGI_n hy13) rfl in_X3 (by decide) q1920 (fun _ h => h) dX3_barred_34 ?_
    refine lv_icmp_gt (tgt := 50) hx hb dX3_barred_37 (by decide) (fun c14 => ?_) (fun c14 => ?_)
    · have h := mif_t c14 h
      exact w_X3_barred_50 hC hR N u2 h hP hS (lv_sub hl [] rfl)
    · have h := mif_f c14 h
      refine lv_iload hx hb dX3_barred_40 (lv_at hl 0 rfl) ?_
      refine lv_ineg hx hb dX3_barred_42 ?_
      refine u_aload_n (r := some a0) hx hb dX3_barred_43 rfl (lv_at hl 2 rfl) ?_
      obtain ⟨y15, hy15, h⟩ := mbind_n h
      refine u_get hC hP (uGI_n hy15) rfl in_X3 (by decide) q1920 (fun _ h => h) dX3_barred_44 ?_
      refine lv_icmp_le (tgt := 52) hx hb dX3_barred_47 (by decide) (fun c16 => ?_) (fun c16 => ?_)
      · have h := mif_t c16 h
        refine u_aload_n (r := some a0) hx hb dX3_barred_52 rfl (lv_at hl 2 rfl) ?_
        obtain ⟨o17, ho17, h⟩ := mbind_n h
        refine u_get hC hP (uGR_n ho17) rfl in_X3 (by decide) q1913 (fun _ h => h) dX3_barred_53 ?_
        refine lv_iload_n hx hb dX3_barred_56 rfl (lv_at hl 5 rfl) ?_
        refine u_aload_n (r := some a0) hx hb dX3_barred_57 rfl (lv_at hl 2 rfl) ?_
        obtain ⟨o18, ho18, h⟩ := mbind_n h
        refine u_get hC hP (uGR_n ho18) rfl in_X3 (by decide) q1911 (fun _ h => h) dX3_barred_58 ?_
        refine lv_iload_n hx hb dX3_barred_61 rfl (lv_at hl 5 rfl) ?_
        obtain ⟨a19, ha19, hha19⟩ := mbind_n h
        subst ha19
        have h := hha19
        obtain ⟨y20, hy20, h⟩ := mbind_n h
        refine u_iald hC hP hy20 rfl dX3_barred_62 ?_
        refine u_aload_n (r := some a0) hx hb dX3_barred_63 rfl (lv_at hl 2 rfl) ?_
        obtain ⟨y21, hy21, h⟩ := mbind_n h
        refine u_get hC hP (uGI_n hy21) rfl in_X3 (by decide) q1918 (fun _ h => h) dX3_barred_64 ?_
        refine u_aload_n (r := some a0) hx hb dX3_barred_67 rfl (lv_at hl 2 rfl) ?_
        obtain ⟨y22, hy22, h⟩ := mbind_n h
        refine u_get hC hP (uGI_n hy22) rfl in_X3 (by decide) q1917 (fun _ h => h) dX3_barred_68 ?_
        obtain ⟨c23, h⟩ := mif_n h
        refine lv_idiv hx hb dX3_barred_71 c23 ?_
        obtain ⟨r26, u24, c25, h⟩ := ucall_n h
        have zu24 := zz_X3_between N (ub G) (ug G) u2 o17 x3 y20 (y21 / y22) r26 u24 c25
        refine u_calli (va_runS (As := [va_rf o17, .int x3, .int y20, .int (y21 / y22)]) (rest := []) hC.1 (met_X3_between l N G u2 o17 x3 y20 (y21 / y22) r26 u24 c25) (va_cwS 4 hts (lw_S q2250 q2251 q103 q2252) rfl rfl rfl (by decide +kernel) ⟨Nat.le_trans (Nat.le_of_ble_eq_true rfl) hR.1, Nat.le_trans (Nat.le_of_ble_eq_true rfl) hR.2⟩) ⟨uPc_blind, fun U hU hW => u_pre hC hP hS hU hW⟩ rfl rfl hl.1 rfl (lv_room (Nat.le_of_ble_eq_true rfl)) dX3_barred_72 ⟨Nat.zero_le _, Nat.zero_le _⟩) hS (fun H locs hP hS => ?_)
        refine u_aload_n (r := some a0) hx hb dX3_barred_75 rfl (lv_at hl 2 rfl) ?_
        obtain ⟨y27, hy27, h⟩ := mbind_n h
        refine u_get hC hP (uGI_n hy27) rfl in_X3 (by decide) q1919 (fun _ h => h) dX3_barred_76 ?_
        refine lv_icmp_le (tgt := 84) hx hb dX3_barred_79 (by decide) (fun c28 => ?_) (fun c28 => ?_)
        · have h := mif_t c28 h
          refine u_aload_n (r := some a0) hx hb dX3_barred_84 rfl (lv_at hl 2 rfl) ?_
          refine u_aload_n (r := some a0) hx hb dX3_barred_85 rfl (lv_at hl 2 rfl) ?_
          refine lv_iload hx hb dX3_barred_86 (lv_at hl 0 rfl) ?_
          refine lv_iload_n hx hb dX3_barred_88 rfl (lv_at hl 5 rfl) ?_
          obtain ⟨c29, h⟩ := mif_n h
          obtain ⟨r32, u30, c31, h⟩ := ucall_n h
          have zu30 := zz_X3_need N (ub G) (ug G) u24 a0 y12 x3 r32 u30 c31
          refine u_calli (va_runV (As := [.int y12, .int x3]) (rest := [va_rf (some a0)]) hC.1 (met_X3_need l N G u24 a0 y12 x3 r32 u30 c31) (cwV 2 hts (lw_V q2320 q2322 qs64 q103 q2323) rfl rfl rfl (by decide +kernel) ⟨Nat.le_trans (Nat.le_of_ble_eq_true rfl) hR.1, Nat.le_trans (Nat.le_of_ble_eq_true rfl) hR.2⟩) ⟨uPc_blind, u_rcv hC hP c29 rfl, fun U hU hW => u_pre hC hP hS hU hW⟩ rfl rfl hl.1 rfl (lv_room (Nat.le_of_ble_eq_true rfl)) dX3_barred_89 ⟨Nat.zero_le _, Nat.zero_le _⟩) hS (fun H locs hP hS => ?_)
          refine lv_iload_n hx hb dX3_barred_92 rfl (lv_at hl 5 rfl) ?_
          obtain ⟨c33, h⟩ := mif_n h
          obtain ⟨r36, u34, c35, h⟩ := ucall_n h
          have zu34 := zz_X3_slip N (ub G) (ug G) u30 a0 r32 x3 r36 u34 c35
          refine u_calli (va_runV (As := [.int r32, .int x3]) (rest := []) hC.1 (met_X3_slip l N G u30 a0 r32 x3 r36 u34 c35) (cwV 2 hts (lw_V q2324 q2326 qs65 q103 q2327) rfl rfl rfl (by decide +kernel) ⟨Nat.le_trans (Nat.le_of_ble_eq_true rfl) hR.1, Nat.le_trans (Nat.le_of_ble_eq_true rfl) hR.2⟩) ⟨uPc_blind, u_rcv hC hP c33 rfl, fun U hU hW => u_pre hC hP hS hU hW⟩ rfl rfl hl.1 rfl (lv_room (Nat.le_of_ble_eq_true rfl)) dX3_barred_93 ⟨Nat.zero_le _, Nat.zero_le _⟩) hS (fun H locs hP hS => ?_)
          refine lv_if_ge (tgt := 103) hx hb dX3_barred_96 (by decide) (fun c37 => ?_) (fun c37 => ?_)
          · have h := mif_t c37 h
            refine lv_iconst (v := 0) hx hb dX3_barred_103 (by decide) ?_
            exact w_X3_barred_104 hC hR N u34 0 h hP hS (lv_sub hl [] rfl)
          · have h := mif_f c37 h
            refine lv_iconst (v := 4) hx hb dX3_barred_99 (by decide) ?_
            refine lv_goto (tgt := 104) hx hb dX3_barred_100 (by decide) ?_
            exact w_X3_barred_104 hC hR N u34 4 h hP hS (lv_sub hl [] rfl)
        · have h := mif_f c28 h
          refine lv_iconst (v := 3) hx hb dX3_barred_82 (by decide) ?_
          obtain ⟨hr1, hr2⟩ := uret_n h
          subst hr1
          subst hr2
          exact u_iret hC hP hS dX3_barred_83
      · have h := mif_f c16 h
        exact w_X3_barred_50 hC hR N u2 h hP hS (lv_sub hl [] rfl)
  · have h := mif_f c5 h
    refine lv_iconst (v := 1) hx hb dX3_barred_13 (by decide) ?_
    obtain ⟨hr1, hr2⟩ := uret_n h
    subst hr1
    subst hr2
    exact u_iret hC hP hS dX3_barred_14
theorem zz_X3_barred (N b : Nat) (g : uEnv) (u : UH) (a0 : Nat) (x1 : Int32) (x2 : Int32) (x3 : Int32) (r : Int32) (uf : UH) (h : f_X3_barred N b g u a0 x1 x2 x3 = some (r, uf)) : uf.1 = u.1 ∧ uf.2.1 = u.2.1 :=
  zz_X3_barred_0 (G := ((fun _ => 0, fun _ _ => 0), fun _ => 0, b, g)) (a0 := a0) N u x1 x2 x3 h
theorem met_X3_barred (l : Launch) (N : Nat) (G : uG) (u : UH) (a0 : Nat) (x1 : Int32) (x2 : Int32) (x3 : Int32) (r : Int32) (uf : UH) (h : f_X3_barred N (ub G) (ug G) u a0 x1 x2 x3 = some (r, uf)) : Met l yX3_barred (ws_ yX3_barred cX3_barred 6 (some .int)) ({ frames := 3, cells := 0, slots := 0, locals := 75 }) (uPc G u [.ref a0, .int x1, .int x2, .int x3]) (uQi G r uf) 0 0 (uA G) := by
  exact u_met (own := RX3) (by decide +kernel) rfl (Nat.le_of_ble_eq_true rfl) (fun hC hn hsz ls hl hP => w_X3_barred_0 hC ⟨Nat.le_refl _, Nat.le_refl _⟩ N u x1 x2 x3 h hP va_S.rf hl)
def f_X3_acts_299 (N b : Nat) (g : uEnv) (a0 : Nat) (u : UH) (s0 : Int32) : Option (Int32 × UH) :=
    some (s0, u)
set_option maxHeartbeats 4000000 in
set_option maxRecDepth 100000 in
theorem zz_X3_acts_299 {G : uG} {a0 : Nat} {uf : UH} {r : Int32} (N : Nat) (u : UH) (s0 : Int32) (h : f_X3_acts_299 N (ub G) (ug G) a0 u s0 = some (r, uf)) : uf.1 = u.1 ∧ uf.2.1 = u.2.1 := by
  unfold f_X3_acts_299 at h
  obtain ⟨hr1, hr2⟩ := uret_n h
  subst hr2
  exact ⟨by omega, by omega⟩
set_option maxHeartbeats 4000000 in
set_option maxRecDepth 100000 in
theorem w_X3_acts_299 {p : Program} {l : Launch} {e : Env} {R : Room} {s : State} {m : MethodId} {args : Array Value} {below : List Frame} {meth : Method} {c : Code} {G : uG} {a0 : Nat} {uf : UH} {r : Int32} (hC : uC p s m args meth c G RX3 cX3_acts 15 (some .int)) (hR : 4 ≤ R.frames ∧ 100 ≤ R.locals) (N : Nat) (u : UH) (s0 : Int32) (h : f_X3_acts_299 N (ub G) (ug G) a0 u s0 = some (r, uf)) {H : Heap} {locs : List Loc} (hP : uP G u H) (hS : va_S (uA G) s.heap H locs) {ls : Array Slot} (hl : lv_has ls 15 []) : W p l e R s m args below meth c H locs 0 0 (MQ below (uQi G r uf) args s 0 0 (uA G)) (F0 m 299 ls [.int s0]) := by
  obtain ⟨⟨hx, hb, hml, hown, hts⟩, hKK⟩ := id hC
  unfold f_X3_acts_299 at h
  obtain ⟨hr1, hr2⟩ := uret_n h
  subst hr1
  subst hr2
  exact u_iret hC hP hS dX3_acts_299
def f_X3_acts_284 (N b : Nat) (g : uEnv) (a0 : Nat) (k38 : UH → Int32 → Int32 → Int32 → Int32 → Int32 → Int32 → Option (Int32 × UH)) (u : UH) (x1 : Int32) (x3 : Int32) (x5 : Int32) (x6 : Int32) (x7 : Int32) (x8 : Int32) : Option (Int32 × UH) :=
    k38 u x1 x3 x5 x6 x7 x8
set_option maxHeartbeats 4000000 in
set_option maxRecDepth 100000 in
theorem zz_X3_acts_284 {G : uG} {a0 : Nat} {uf : UH} {r : Int32} (N : Nat) (k38 : UH → Int32 → Int32 → Int32 → Int32 → Int32 → Int32 → Option (Int32 × UH)) (hk38 : ∀ (u : UH) (x1 : Int32) (x3 : Int32) (x5 : Int32) (x6 : Int32) (x7 : Int32) (x8 : Int32), k38 u x1 x3 x5 x6 x7 x8 = some (r, uf) → uf.1 = u.1 ∧ uf.2.1 = u.2.1) (u : UH) (x1 : Int32) (x3 : Int32) (x5 : Int32) (x6 : Int32) (x7 : Int32) (x8 : Int32) (h : f_X3_acts_284 N (ub G) (ug G) a0 k38 u x1 x3 x5 x6 x7 x8 = some (r, uf)) : uf.1 = u.1 ∧ uf.2.1 = u.2.1 := by
  unfold f_X3_acts_284 at h
  have hq := hk38 u x1 x3 x5 x6 x7 x8 h
  exact ⟨by omega, by omega⟩
set_option maxHeartbeats 4000000 in
set_option maxRecDepth 100000 in
theorem w_X3_acts_284 {p : Program} {l : Launch} {e : Env} {R : Room} {s : State} {m : MethodId} {args : Array Value} {below : List Frame} {meth : Method} {c : Code} {G : uG} {a0 : Nat} {uf : UH} {r : Int32} (hC : uC p s m args meth c G RX3 cX3_acts 15 (some .int)) (hR : 4 ≤ R.frames ∧ 100 ≤ R.locals) (N : Nat) (k38 : UH → Int32 → Int32 → Int32 → Int32 → Int32 → Int32 → Option (Int32 × UH)) (hk38 : ∀ (u : UH) (x1 : Int32) (x3 : Int32) (x5 : Int32) (x6 : Int32) (x7 : Int32) (x8 : Int32), k38 u x1 x3 x5 x6 x7 x8 = some (r, uf) → ∀ (H : Heap) (locs : List Loc), uP G u H → va_S (uA G) s.heap H locs → ∀ ls : Array Slot, lv_has ls 15 [(0, va_rf (some a0)), (1, .int x1), (3, .int x3), (5, .int x5), (6, .int x6), (7, .int x7), (8, .int x8)] → W p l e R s m args below meth c H locs 0 0 (MQ below (uQi G r uf) args s 0 0 (uA G)) (F0 m 38 ls [])) (u : UH) (x1 : Int32) (x3 : Int32) (x5 : Int32) (x6 : Int32) (x7 : Int32) (x8 : Int32) (h : f_X3_acts_284 N (ub G) (ug G) a0 k38 u x1 x3 x5 x6 x7 x8 = some (r, uf)) {H : Heap} {locs : List Loc} (hP : uP G u H) (hS : va_S (uA G) s.heap H locs) {ls : Array Slot} (hl : lv_has ls 15 [(0, va_rf (some a0)), (1, .int x1), (3, .int x3), (5, .int x5), (6, .int x6), (7, .int x7), (8, .int x8)]) : W p l e R s m args below meth c H locs 0 0 (MQ below (uQi G r uf) args s 0 0 (uA G)) (F0 m 284 ls []) := by
  obtain ⟨⟨hx, hb, hml, hown, hts⟩, hKK⟩ := id hC
  unfold f_X3_acts_284 at h
  refine lv_goto (tgt := 38) hx hb dX3_acts_284 (by decide) ?_
  exact hk38 u x1 x3 x5 x6 x7 x8 h _ _ hP hS _ (lv_sub hl [0, 1, 2, 3, 4, 5, 6] rfl)
def f_X3_acts_217 (N b : Nat) (g : uEnv) (a0 : Nat) (k38 : UH → Int32 → Int32 → Int32 → Int32 → Int32 → Int32 → Option (Int32 × UH)) (k175 : UH → Int32 → Int32 → Int32 → Int32 → Int32 → Int32 → Int32 → Int32 → Int32 → Option (Int32 × UH)) (u : UH) (x1 : Int32) (x3 : Int32) (x5 : Int32) (x6 : Int32) (x7 : Int32) (x8 : Int32) (x10 : Int32) (x11 : Int32) (x12 : Int32) (x13 : Int32) (s0 : Int32) : Option (Int32 × UH) :=
    if s0 ≤ 0 then
    (uGI u a0 2 67).bind fun y2 =>
    if uIs u a0 2 = true then
    ucall (f_X3_floorOf N b g u a0 x13 x5) fun r6 u4 =>
    if uIs u4 a0 2 = true then
    ucall (f_X3_cost N b g u4 a0 x6 x10 r6) fun r10 u8 =>
    (uPut b u8 a0 2 67 (.int (y2 + r10))).bind fun u11 =>
    (uGI u11 a0 2 66).bind fun y12 =>
    (uPut b u11 a0 2 66 (.int (y12 + 1))).bind fun u13 =>
    if uIs u13 a0 2 = true then
    ucall (f_X3_sees N b g u13 a0 x7 x13 x5) fun r17 u15 =>
    mlet (x12 + 1) fun y18 =>
    k175 u15 x1 x3 x5 x13 r17 x8 x10 x11 y18
    else none
    else none
    else none
    else
    some (s0, u)
set_option maxHeartbeats 4000000 in
set_option maxRecDepth 100000 in
theorem zz_X3_acts_217 {G : uG} {a0 : Nat} {uf : UH} {r : Int32} (N : Nat) (k38 : UH → Int32 → Int32 → Int32 → Int32 → Int32 → Int32 → Option (Int32 × UH)) (hk38 : ∀ (u : UH) (x1 : Int32) (x3 : Int32) (x5 : Int32) (x6 : Int32) (x7 : Int32) (x8 : Int32), k38 u x1 x3 x5 x6 x7 x8 = some (r, uf) → uf.1 = u.1 ∧ uf.2.1 = u.2.1) (k175 : UH → Int32 → Int32 → Int32 → Int32 → Int32 → Int32 → Int32 → Int32 → Int32 → Option (Int32 × UH)) (hk175 : ∀ (u : UH) (x1 : Int32) (x3 : Int32) (x5 : Int32) (x6 : Int32) (x7 : Int32) (x8 : Int32) (x10 : Int32) (x11 : Int32) (x12 : Int32), k175 u x1 x3 x5 x6 x7 x8 x10 x11 x12 = some (r, uf) → uf.1 = u.1 ∧ uf.2.1 = u.2.1) (u : UH) (x1 : Int32) (x3 : Int32) (x5 : Int32) (x6 : Int32) (x7 : Int32) (x8 : Int32) (x10 : Int32) (x11 : Int32) (x12 : Int32) (x13 : Int32) (s0 : Int32) (h : f_X3_acts_217 N (ub G) (ug G) a0 k38 k175 u x1 x3 x5 x6 x7 x8 x10 x11 x12 x13 s0 = some (r, uf)) : uf.1 = u.1 ∧ uf.2.1 = u.2.1 := by
  unfold f_X3_acts_217 at h
  by_cases c1 : s0 ≤ 0
  · have h := mif_t c1 h
    obtain ⟨y2, hy2, h⟩ := mbind_n h
    obtain ⟨c3, h⟩ := mif_n h
    obtain ⟨r6, u4, c5, h⟩ := ucall_n h
    have zu4 := zz_X3_floorOf N (ub G) (ug G) u a0 x13 x5 r6 u4 c5
    obtain ⟨c7, h⟩ := mif_n h
    obtain ⟨r10, u8, c9, h⟩ := ucall_n h
    have zu8 := zz_X3_cost N (ub G) (ug G) u4 a0 x6 x10 r6 r10 u8 c9
    obtain ⟨u11, hu11, h⟩ := mbind_n h
    have zu11 := uPut_sz hu11
    obtain ⟨y12, hy12, h⟩ := mbind_n h
    obtain ⟨u13, hu13, h⟩ := mbind_n h
    have zu13 := uPut_sz hu13
    obtain ⟨c14, h⟩ := mif_n h
    obtain ⟨r17, u15, c16, h⟩ := ucall_n h
    have zu15 := zz_X3_sees N (ub G) (ug G) u13 a0 x7 x13 x5 r17 u15 c16
    obtain ⟨y18, ey18⟩ : ∃ z : Int32, z = x12 + 1 := ⟨_, rfl⟩
    have h := mlet_at ey18 h
    have hq := hk175 u15 x1 x3 x5 x13 r17 x8 x10 x11 y18 h
    exact ⟨by omega, by omega⟩
  · have h := mif_f c1 h
    obtain ⟨hr1, hr2⟩ := uret_n h
    subst hr2
    exact ⟨by omega, by omega⟩
set_option maxHeartbeats 4000000 in
set_option maxRecDepth 100000 in
theorem w_X3_acts_217 {p : Program} {l : Launch} {e : Env} {R : Room} {s : State} {m : MethodId} {args : Array Value} {below : List Frame} {meth : Method} {c : Code} {G : uG} {a0 : Nat} {uf : UH} {r : Int32} (hC : uC p s m args meth c G RX3 cX3_acts 15 (some .int)) (hR : 4 ≤ R.frames ∧ 100 ≤ R.locals) (N : Nat) (k38 : UH → Int32 → Int32 → Int32 → Int32 → Int32 → Int32 → Option (Int32 × UH)) (hk38 : ∀ (u : UH) (x1 : Int32) (x3 : Int32) (x5 : Int32) (x6 : Int32) (x7 : Int32) (x8 : Int32), k38 u x1 x3 x5 x6 x7 x8 = some (r, uf) → ∀ (H : Heap) (locs : List Loc), uP G u H → va_S (uA G) s.heap H locs → ∀ ls : Array Slot, lv_has ls 15 [(0, va_rf (some a0)), (1, .int x1), (3, .int x3), (5, .int x5), (6, .int x6), (7, .int x7), (8, .int x8)] → W p l e R s m args below meth c H locs 0 0 (MQ below (uQi G r uf) args s 0 0 (uA G)) (F0 m 38 ls [])) (k175 : UH → Int32 → Int32 → Int32 → Int32 → Int32 → Int32 → Int32 → Int32 → Int32 → Option (Int32 × UH)) (hk175 : ∀ (u : UH) (x1 : Int32) (x3 : Int32) (x5 : Int32) (x6 : Int32) (x7 : Int32) (x8 : Int32) (x10 : Int32) (x11 : Int32) (x12 : Int32), k175 u x1 x3 x5 x6 x7 x8 x10 x11 x12 = some (r, uf) → ∀ (H : Heap) (locs : List Loc), uP G u H → va_S (uA G) s.heap H locs → ∀ ls : Array Slot, lv_has ls 15 [(0, va_rf (some a0)), (1, .int x1), (3, .int x3), (5, .int x5), (6, .int x6), (7, .int x7), (8, .int x8), (10, .int x10), (11, .int x11), (12, .int x12)] → W p l e R s m args below meth c H locs 0 0 (MQ below (uQi G r uf) args s 0 0 (uA G)) (F0 m 175 ls [])) (u : UH) (x1 : Int32) (x3 : Int32) (x5 : Int32) (x6 : Int32) (x7 : Int32) (x8 : Int32) (x10 : Int32) (x11 : Int32) (x12 : Int32) (x13 : Int32) (s0 : Int32) (h : f_X3_acts_217 N (ub G) (ug G) a0 k38 k175 u x1 x3 x5 x6 x7 x8 x10 x11 x12 x13 s0 = some (r, uf)) {H : Heap} {locs : List Loc} (hP : uP G u H) (hS : va_S (uA G) s.heap H locs) {ls : Array Slot} (hl : lv_has ls 15 [(0, va_rf (some a0)), (1, .int x1), (3, .int x3), (5, .int x5), (6, .int x6), (7, .int x7), (8, .int x8), (10, .int x10), (11, .int x11), (12, .int x12), (13, .int x13)]) : W p l e R s m args below meth c H locs 0 0 (MQ below (uQi G r uf) args s 0 0 (uA G)) (F0 m 217 ls [.int s0]) := by
  obtain ⟨⟨hx, hb, hml, hown, hts⟩, hKK⟩ := id hC
  unfold f_X3_acts_217 at h
  refine lv_istore (lv' := [(14, .int s0), (0, va_rf (some a0)), (1, .int x1), (3, .int x3), (5, .int x5), (6, .int x6), (7, .int x7), (8, .int x8), (10, .int x10), (11, .int x11), (12, .int x12), (13, .int x13)]) hx hb dX3_acts_217 hl (by decide) rfl (fun ls hl => ?_)
  refine lv_iload hx hb dX3_acts_219 (lv_at hl 0 rfl) ?_
  refine lv_if_le (tgt := 227) hx hb dX3_acts_221 (by decide) (fun c1 => ?_) (fun c1 => ?_)
  · have h := mif_t c1 h
    refine u_aload_n (r := some a0) hx hb dX3_acts_227 rfl (lv_at hl 1 rfl) ?_
    refine lv_dup hx hb dX3_acts_228 (u_cat _) ?_
    obtain ⟨y2, hy2, h⟩ := mbind_n h
    refine u_get hC hP (uGI_n hy2) rfl in_X3 (by decide) q1960 (fun _ h => h) dX3_acts_229 ?_
    refine u_aload_n (r := some a0) hx hb dX3_acts_232 rfl (lv_at hl 1 rfl) ?_
    refine lv_iload hx hb dX3_acts_233 (lv_at hl 5 rfl) ?_
    refine lv_iload hx hb dX3_acts_235 (lv_at hl 8 rfl) ?_
    refine u_aload_n (r := some a0) hx hb dX3_acts_237 rfl (lv_at hl 1 rfl) ?_
    refine lv_iload hx hb dX3_acts_238 (lv_at hl 11 rfl) ?_
    refine lv_iload hx hb dX3_acts_240 (lv_at hl 4 rfl) ?_
    obtain ⟨c3, h⟩ := mif_n h
    obtain ⟨r6, u4, c5, h⟩ := ucall_n h
    have zu4 := zz_X3_floorOf N (ub G) (ug G) u a0 x13 x5 r6 u4 c5
    refine u_calli (va_runV (As := [.int x13, .int x5]) (rest := [.int x10, .int x6, va_rf (some a0), .int y2, va_rf (some a0)]) hC.1 (met_X3_floorOf l N G u a0 x13 x5 r6 u4 c5) (cwV 2 hts (lw_V q2367 q2369 qs74 q103 q2370) rfl rfl rfl (by decide +kernel) ⟨Nat.le_trans (Nat.le_of_ble_eq_true rfl) hR.1, Nat.le_trans (Nat.le_of_ble_eq_true rfl) hR.2⟩) ⟨uPc_blind, u_rcv hC hP c3 rfl, fun U hU hW => u_pre hC hP hS hU hW⟩ rfl rfl hl.1 rfl (lv_room (Nat.le_of_ble_eq_true rfl)) dX3_acts_242 ⟨Nat.zero_le _, Nat.zero_le _⟩) hS (fun H locs hP hS => ?_)
    obtain ⟨c7, h⟩ := mif_n h
    obtain ⟨r10, u8, c9, h⟩ := ucall_n h
    have zu8 := zz_X3_cost N (ub G) (ug G) u4 a0 x6 x10 r6 r10 u8 c9
    refine u_calli (va_runV (As := [.int x6, .int x10, .int r6]) (rest := [.int y2, va_rf (some a0)]) hC.1 (met_X3_cost l N G u4 a0 x6 x10 r6 r10 u8 c9) (cwV 3 hts (lw_V q2328 q2330 qs66 q103 q2331) rfl rfl rfl (by decide +kernel) ⟨Nat.le_trans (Nat.le_of_ble_eq_true rfl) hR.1, Nat.le_trans (Nat.le_of_ble_eq_true rfl) hR.2⟩) ⟨uPc_blind, u_rcv hC hP c7 rfl, fun U hU hW => u_pre hC hP hS hU hW⟩ rfl rfl hl.1 rfl (lv_room (Nat.le_of_ble_eq_true rfl)) dX3_acts_245 ⟨Nat.zero_le _, Nat.zero_le _⟩) hS (fun H locs hP hS => ?_)
    refine lv_iadd hx hb dX3_acts_248 ?_
    obtain ⟨u11, hu11, h⟩ := mbind_n h
    have zu11 := uPut_sz hu11
    refine u_put hC hP hS hu11 rfl in_X3 tyX3 tyX3_ok nmX3 (by decide) q1960 (fun _ h => h) rfl (ty := .int) (tyX3_ok 67 (by decide)) rfl rfl dX3_acts_249 (fun H locs hP hS => ?_)
    refine u_aload_n (r := some a0) hx hb dX3_acts_252 rfl (lv_at hl 1 rfl) ?_
    refine lv_dup hx hb dX3_acts_253 (u_cat _) ?_
    obtain ⟨y12, hy12, h⟩ := mbind_n h
    refine u_get hC hP (uGI_n hy12) rfl in_X3 (by decide) q1959 (fun _ h => h) dX3_acts_254 ?_
    refine lv_iconst (v := 1) hx hb dX3_acts_257 (by decide) ?_
    refine lv_iadd hx hb dX3_acts_258 ?_
    obtain ⟨u13, hu13, h⟩ := mbind_n h
    have zu13 := uPut_sz hu13
    refine u_put hC hP hS hu13 rfl in_X3 tyX3 tyX3_ok nmX3 (by decide) q1959 (fun _ h => h) rfl (ty := .int) (tyX3_ok 66 (by decide)) rfl rfl dX3_acts_259 (fun H locs hP hS => ?_)
    refine lv_iload hx hb dX3_acts_262 (lv_at hl 11 rfl) ?_
    refine lv_istore (lv' := [(6, .int x13), (14, .int s0), (0, va_rf (some a0)), (1, .int x1), (3, .int x3), (5, .int x5), (7, .int x7), (8, .int x8), (10, .int x10), (11, .int x11), (12, .int x12), (13, .int x13)]) hx hb dX3_acts_264 hl (by decide) rfl (fun ls hl => ?_)
    refine u_aload_n (r := some a0) hx hb dX3_acts_266 rfl (lv_at hl 2 rfl) ?_
    refine lv_iload hx hb dX3_acts_267 (lv_at hl 6 rfl) ?_
    refine lv_iload hx hb dX3_acts_269 (lv_at hl 0 rfl) ?_
    refine lv_iload hx hb dX3_acts_271 (lv_at hl 5 rfl) ?_
    obtain ⟨c14, h⟩ := mif_n h
    obtain ⟨r17, u15, c16, h⟩ := ucall_n h
    have zu15 := zz_X3_sees N (ub G) (ug G) u13 a0 x7 x13 x5 r17 u15 c16
    refine u_calli (va_runV (As := [.int x7, .int x13, .int x5]) (rest := []) hC.1 (met_X3_sees l N G u13 a0 x7 x13 x5 r17 u15 c16) (cwV 3 hts (lw_V q2447 q2449 qs86 q103 q2450) rfl rfl rfl (by decide +kernel) ⟨Nat.le_trans (Nat.le_of_ble_eq_true rfl) hR.1, Nat.le_trans (Nat.le_of_ble_eq_true rfl) hR.2⟩) ⟨uPc_blind, u_rcv hC hP c14 rfl, fun U hU hW => u_pre hC hP hS hU hW⟩ rfl rfl hl.1 rfl (lv_room (Nat.le_of_ble_eq_true rfl)) dX3_acts_273 ⟨Nat.zero_le _, Nat.zero_le _⟩) hS (fun H locs hP hS => ?_)
    refine lv_istore (lv' := [(7, .int r17), (6, .int x13), (14, .int s0), (0, va_rf (some a0)), (1, .int x1), (3, .int x3), (5, .int x5), (8, .int x8), (10, .int x10), (11, .int x11), (12, .int x12), (13, .int x13)]) hx hb dX3_acts_276 hl (by decide) rfl (fun ls hl => ?_)
    obtain ⟨y18, ey18⟩ : ∃ z : Int32, z = x12 + 1 := ⟨_, rfl⟩
    have h := mlet_at ey18 h
    refine lv_iinc (v := y18) (lv' := [(12, .int y18), (7, .int r17), (6, .int x13), (14, .int s0), (0, va_rf (some a0)), (1, .int x1), (3, .int x3), (5, .int x5), (8, .int x8), (10, .int x10), (11, .int x11), (13, .int x13)]) hx hb dX3_acts_278 hl (k := 10) rfl (by rw [ey18]; rfl) (by decide) rfl (fun ls hl => ?_)
    refine lv_goto (tgt := 175) hx hb dX3_acts_281 (by decide) ?_
    exact hk175 u15 x1 x3 x5 x13 r17 x8 x10 x11 y18 h _ _ hP hS _ (lv_sub hl [4, 5, 6, 7, 2, 1, 8, 9, 10, 0] rfl)
  · have h := mif_f c1 h
    refine lv_iload hx hb dX3_acts_224 (lv_at hl 0 rfl) ?_
    obtain ⟨hr1, hr2⟩ := uret_n h
    subst hr1
    subst hr2
    exact u_iret hC hP hS dX3_acts_226
def f_X3_acts_175 (N b : Nat) (g : uEnv) (a0 : Nat) (k38 : UH → Int32 → Int32 → Int32 → Int32 → Int32 → Int32 → Option (Int32 × UH)) : Nat → UH → Int32 → Int32 → Int32 → Int32 → Int32 → Int32 → Int32 → Int32 → Int32 → Option (Int32 × UH)
  | 0, _, _, _, _, _, _, _, _, _, _ => none
  | n + 1, u, x1, x3, x5, x6, x7, x8, x10, x11, x12 =>
    if x11 ≤ x12 then
    f_X3_acts_284 N b g a0 k38 u x1 x3 x5 x6 x7 x8
    else
    if uIs u a0 2 = true then
    ucall (f_X3_beside N b g u a0 x6 x10) fun r5 u3 =>
    if 0 ≤ r5 then
    if uIs u3 a0 2 = true then
    ucall (f_X3_floorOf N b g u3 a0 r5 x5) fun r10 u8 =>
    if uIs u8 a0 2 = true then
    ucall (f_X3_barred N b g u8 a0 x6 x10 r10) fun r14 u12 =>
    f_X3_acts_217 N b g a0 k38 (f_X3_acts_175 N b g a0 k38 n) u12 x1 x3 x5 x6 x7 x8 x10 x11 x12 r5 r14
    else none
    else none
    else
    f_X3_acts_217 N b g a0 k38 (f_X3_acts_175 N b g a0 k38 n) u3 x1 x3 x5 x6 x7 x8 x10 x11 x12 r5 1
    else none
set_option maxHeartbeats 4000000 in
set_option maxRecDepth 100000 in
theorem zz_X3_acts_175 {G : uG} {a0 : Nat} {uf : UH} {r : Int32} (N : Nat) (k38 : UH → Int32 → Int32 → Int32 → Int32 → Int32 → Int32 → Option (Int32 × UH)) (hk38 : ∀ (u : UH) (x1 : Int32) (x3 : Int32) (x5 : Int32) (x6 : Int32) (x7 : Int32) (x8 : Int32), k38 u x1 x3 x5 x6 x7 x8 = some (r, uf) → uf.1 = u.1 ∧ uf.2.1 = u.2.1) : ∀ (n : Nat) (u : UH) (x1 : Int32) (x3 : Int32) (x5 : Int32) (x6 : Int32) (x7 : Int32) (x8 : Int32) (x10 : Int32) (x11 : Int32) (x12 : Int32), f_X3_acts_175 N (ub G) (ug G) a0 k38 n u x1 x3 x5 x6 x7 x8 x10 x11 x12 = some (r, uf) → uf.1 = u.1 ∧ uf.2.1 = u.2.1 := by
  intro n
  induction n with
  | zero =>
    intro u x1 x3 x5 x6 x7 x8 x10 x11 x12 h
    cases h
  | succ n ih =>
    intro u x1 x3 x5 x6 x7 x8 x10 x11 x12 h
    unfold f_X3_acts_175 at h
    by_cases c1 : x11 ≤ x12
    · have h := mif_t c1 h
      have hq := zz_X3_acts_284 (G := G) (a0 := a0) N k38 hk38 u x1 x3 x5 x6 x7 x8 h
      exact ⟨by omega, by omega⟩
    · have h := mif_f c1 h
      obtain ⟨c2, h⟩ := mif_n h
      obtain ⟨r5, u3, c4, h⟩ := ucall_n h
      have zu3 := zz_X3_beside N (ub G) (ug G) u a0 x6 x10 r5 u3 c4
      by_cases c6 : 0 ≤ r5
      · have h := mif_t c6 h
        obtain ⟨c7, h⟩ := mif_n h
        obtain ⟨r10, u8, c9, h⟩ := ucall_n h
        have zu8 := zz_X3_floorOf N (ub G) (ug G) u3 a0 r5 x5 r10 u8 c9
        obtain ⟨c11, h⟩ := mif_n h
        obtain ⟨r14, u12, c13, h⟩ := ucall_n h
        have zu12 := zz_X3_barred N (ub G) (ug G) u8 a0 x6 x10 r10 r14 u12 c13
        have hq := zz_X3_acts_217 (G := G) (a0 := a0) N k38 hk38 (f_X3_acts_175 N (ub G) (ug G) a0 k38 n) ih u12 x1 x3 x5 x6 x7 x8 x10 x11 x12 r5 r14 h
        exact ⟨by omega, by omega⟩
      · have h := mif_f c6 h
        have hq := zz_X3_acts_217 (G := G) (a0 := a0) N k38 hk38 (f_X3_acts_175 N (ub G) (ug G) a0 k38 n) ih u3 x1 x3 x5 x6 x7 x8 x10 x11 x12 r5 1 h
        exact ⟨by omega, by omega⟩
set_option maxHeartbeats 4000000 in
set_option maxRecDepth 100000 in
theorem w_X3_acts_175 {p : Program} {l : Launch} {e : Env} {R : Room} {s : State} {m : MethodId} {args : Array Value} {below : List Frame} {meth : Method} {c : Code} {G : uG} {a0 : Nat} {uf : UH} {r : Int32} (hC : uC p s m args meth c G RX3 cX3_acts 15 (some .int)) (hR : 4 ≤ R.frames ∧ 100 ≤ R.locals) (N : Nat) (k38 : UH → Int32 → Int32 → Int32 → Int32 → Int32 → Int32 → Option (Int32 × UH)) (hk38 : ∀ (u : UH) (x1 : Int32) (x3 : Int32) (x5 : Int32) (x6 : Int32) (x7 : Int32) (x8 : Int32), k38 u x1 x3 x5 x6 x7 x8 = some (r, uf) → ∀ (H : Heap) (locs : List Loc), uP G u H → va_S (uA G) s.heap H locs → ∀ ls : Array Slot, lv_has ls 15 [(0, va_rf (some a0)), (1, .int x1), (3, .int x3), (5, .int x5), (6, .int x6), (7, .int x7), (8, .int x8)] → W p l e R s m args below meth c H locs 0 0 (MQ below (uQi G r uf) args s 0 0 (uA G)) (F0 m 38 ls [])) : ∀ (n : Nat) (u : UH) (x1 : Int32) (x3 : Int32) (x5 : Int32) (x6 : Int32) (x7 : Int32) (x8 : Int32) (x10 : Int32) (x11 : Int32) (x12 : Int32), f_X3_acts_175 N (ub G) (ug G) a0 k38 n u x1 x3 x5 x6 x7 x8 x10 x11 x12 = some (r, uf) → ∀ (H : Heap) (locs : List Loc), uP G u H → va_S (uA G) s.heap H locs → ∀ ls : Array Slot, lv_has ls 15 [(0, va_rf (some a0)), (1, .int x1), (3, .int x3), (5, .int x5), (6, .int x6), (7, .int x7), (8, .int x8), (10, .int x10), (11, .int x11), (12, .int x12)] → W p l e R s m args below meth c H locs 0 0 (MQ below (uQi G r uf) args s 0 0 (uA G)) (F0 m 175 ls []) := by
  obtain ⟨⟨hx, hb, hml, hown, hts⟩, hKK⟩ := id hC
  intro n
  induction n with
  | zero =>
    intro u x1 x3 x5 x6 x7 x8 x10 x11 x12 h
    cases h
  | succ n ih =>
    intro u x1 x3 x5 x6 x7 x8 x10 x11 x12 h H locs hP hS ls hl
    unfold f_X3_acts_175 at h
    refine lv_iload hx hb dX3_acts_175 (lv_at hl 9 rfl) ?_
    refine lv_iload hx hb dX3_acts_177 (lv_at hl 8 rfl) ?_
    refine lv_icmp_ge (tgt := 284) hx hb dX3_acts_179 (by decide) (fun c1 => ?_) (fun c1 => ?_)
    · have h := mif_t c1 h
      exact w_X3_acts_284 hC hR N k38 hk38 u x1 x3 x5 x6 x7 x8 h hP hS (lv_sub hl [0, 1, 2, 3, 4, 5, 6] rfl)
    · have h := mif_f c1 h
      refine u_aload_n (r := some a0) hx hb dX3_acts_182 rfl (lv_at hl 0 rfl) ?_
      refine lv_iload hx hb dX3_acts_183 (lv_at hl 4 rfl) ?_
      refine lv_iload hx hb dX3_acts_185 (lv_at hl 7 rfl) ?_
      obtain ⟨c2, h⟩ := mif_n h
      obtain ⟨r5, u3, c4, h⟩ := ucall_n h
      have zu3 := zz_X3_beside N (ub G) (ug G) u a0 x6 x10 r5 u3 c4
      refine u_calli (va_runV (As := [.int x6, .int x10]) (rest := []) hC.1 (met_X3_beside l N G u a0 x6 x10 r5 u3 c4) (cwV 2 hts (lw_V q2316 q2318 qs63 q103 q2319) rfl rfl rfl (by decide +kernel) ⟨Nat.le_trans (Nat.le_of_ble_eq_true rfl) hR.1, Nat.le_trans (Nat.le_of_ble_eq_true rfl) hR.2⟩) ⟨uPc_blind, u_rcv hC hP c2 rfl, fun U hU hW => u_pre hC hP hS hU hW⟩ rfl rfl hl.1 rfl (lv_room (Nat.le_of_ble_eq_true rfl)) dX3_acts_187 ⟨Nat.zero_le _, Nat.zero_le _⟩) hS (fun H locs hP hS => ?_)
      refine lv_istore (lv' := [(13, .int r5), (0, va_rf (some a0)), (1, .int x1), (3, .int x3), (5, .int x5), (6, .int x6), (7, .int x7), (8, .int x8), (10, .int x10), (11, .int x11), (12, .int x12)]) hx hb dX3_acts_190 hl (by decide) rfl (fun ls hl => ?_)
      refine lv_iload hx hb dX3_acts_192 (lv_at hl 0 rfl) ?_
      refine lv_if_ge (tgt := 201) hx hb dX3_acts_194 (by decide) (fun c6 => ?_) (fun c6 => ?_)
      · have h := mif_t c6 h
        refine u_aload_n (r := some a0) hx hb dX3_acts_201 rfl (lv_at hl 1 rfl) ?_
        refine lv_iload hx hb dX3_acts_202 (lv_at hl 5 rfl) ?_
        refine lv_iload hx hb dX3_acts_204 (lv_at hl 8 rfl) ?_
        refine u_aload_n (r := some a0) hx hb dX3_acts_206 rfl (lv_at hl 1 rfl) ?_
        refine lv_iload hx hb dX3_acts_207 (lv_at hl 0 rfl) ?_
        refine lv_iload hx hb dX3_acts_209 (lv_at hl 4 rfl) ?_
        obtain ⟨c7, h⟩ := mif_n h
        obtain ⟨r10, u8, c9, h⟩ := ucall_n h
        have zu8 := zz_X3_floorOf N (ub G) (ug G) u3 a0 r5 x5 r10 u8 c9
        refine u_calli (va_runV (As := [.int r5, .int x5]) (rest := [.int x10, .int x6, va_rf (some a0)]) hC.1 (met_X3_floorOf l N G u3 a0 r5 x5 r10 u8 c9) (cwV 2 hts (lw_V q2367 q2369 qs74 q103 q2370) rfl rfl rfl (by decide +kernel) ⟨Nat.le_trans (Nat.le_of_ble_eq_true rfl) hR.1, Nat.le_trans (Nat.le_of_ble_eq_true rfl) hR.2⟩) ⟨uPc_blind, u_rcv hC hP c7 rfl, fun U hU hW => u_pre hC hP hS hU hW⟩ rfl rfl hl.1 rfl (lv_room (Nat.le_of_ble_eq_true rfl)) dX3_acts_211 ⟨Nat.zero_le _, Nat.zero_le _⟩) hS (fun H locs hP hS => ?_)
        obtain ⟨c11, h⟩ := mif_n h
        obtain ⟨r14, u12, c13, h⟩ := ucall_n h
        have zu12 := zz_X3_barred N (ub G) (ug G) u8 a0 x6 x10 r10 r14 u12 c13
        refine u_calli (va_runV (As := [.int x6, .int x10, .int r10]) (rest := []) hC.1 (met_X3_barred l N G u8 a0 x6 x10 r10 r14 u12 c13) (cwV 3 hts (lw_V q2312 q2314 qs62 q103 q2315) rfl rfl rfl (by decide +kernel) ⟨Nat.le_trans (Nat.le_of_ble_eq_true rfl) hR.1, Nat.le_trans (Nat.le_of_ble_eq_true rfl) hR.2⟩) ⟨uPc_blind, u_rcv hC hP c11 rfl, fun U hU hW => u_pre hC hP hS hU hW⟩ rfl rfl hl.1 rfl (lv_room (Nat.le_of_ble_eq_true rfl)) dX3_acts_214 ⟨Nat.zero_le _, Nat.zero_le _⟩) hS (fun H locs hP hS => ?_)
        exact w_X3_acts_217 hC hR N k38 hk38 (f_X3_acts_175 N (ub G) (ug G) a0 k38 n) ih u12 x1 x3 x5 x6 x7 x8 x10 x11 x12 r5 r14 h hP hS (lv_sub hl [1, 2, 3, 4, 5, 6, 7, 8, 9, 10, 0] rfl)
      · have h := mif_f c6 h
        refine lv_iconst (v := 1) hx hb dX3_acts_197 (by decide) ?_
        refine lv_goto (tgt := 217) hx hb dX3_acts_198 (by decide) ?_
        exact w_X3_acts_217 hC hR N k38 hk38 (f_X3_acts_175 N (ub G) (ug G) a0 k38 n) ih u3 x1 x3 x5 x6 x7 x8 x10 x11 x12 r5 1 h hP hS (lv_sub hl [1, 2, 3, 4, 5, 6, 7, 8, 9, 10, 0] rfl)
def f_X3_acts_38 (N b : Nat) (g : uEnv) (a0 : Nat) : Nat → UH → Int32 → Int32 → Int32 → Int32 → Int32 → Int32 → Option (Int32 × UH)
  | 0, _, _, _, _, _, _, _ => none
  | n + 1, u, x1, x3, x5, x6, x7, x8 =>
    (uGR u a0 2 57).bind fun o1 =>
    (o1).bind fun a2 =>
    (uLdI u a2 0 x1).bind fun y3 =>
    if y3 ≤ x8 then
    if x6 = x3 then
    f_X3_acts_299 N b g a0 u 0
    else
    f_X3_acts_299 N b g a0 u 6
    else
    mlet ((512 * x1) + (4 * x8)) fun y6 =>
    (uGR u a0 2 56).bind fun o7 =>
    (o7).bind fun a8 =>
    (uLdI u a8 0 (y6 + 1)).bind fun y9 =>
    (uGR u a0 2 56).bind fun o10 =>
    (o10).bind fun a11 =>
    (uLdI u a11 0 (y6 + 2)).bind fun y12 =>
    mlet (x8 + 1) fun y13 =>
    (uGR u a0 2 56).bind fun o14 =>
    (o14).bind fun a15 =>
    (uLdI u a15 0 y6).bind fun y16 =>
    if y16 = 2 then
    (uGR u a0 2 56).bind fun o36 =>
    (o36).bind fun a37 =>
    (uLdI u a37 0 (y6 + 3)).bind fun y38 =>
    f_X3_acts_284 N b g a0 (f_X3_acts_38 N b g a0 n) u x1 x3 x5 x6 x7 y38
    else
    (uGR u a0 2 56).bind fun o18 =>
    (o18).bind fun a19 =>
    (uLdI u a19 0 y6).bind fun y20 =>
    if y20 = 1 then
    ucall (f_X3_digit N b g u x7 y9) fun r24 u22 =>
    if r24 = 0 then
    some (5, u22)
    else
    (uGR u22 a0 2 52).bind fun o26 =>
    ucall (f_X3_digit N b g u22 x5 y9) fun r29 u27 =>
    (o26).bind fun a30 =>
    (uLdI u27 a30 0 (((4 * y9) + r29) - 1)).bind fun y31 =>
    if y31 = y12 then
    f_X3_acts_284 N b g a0 (f_X3_acts_38 N b g a0 n) u27 x1 x3 x5 x6 x7 y13
    else
    (uGR u27 a0 2 56).bind fun o33 =>
    (o33).bind fun a34 =>
    (uLdI u27 a34 0 (y6 + 3)).bind fun y35 =>
    f_X3_acts_284 N b g a0 (f_X3_acts_38 N b g a0 n) u27 x1 x3 x5 x6 x7 y35
    else
    f_X3_acts_175 N b g a0 (f_X3_acts_38 N b g a0 n) N u x1 x3 x5 x6 x7 y13 y9 y12 0
set_option maxHeartbeats 4000000 in
set_option maxRecDepth 100000 in
theorem zz_X3_acts_38 {G : uG} {a0 : Nat} {uf : UH} {r : Int32} (N : Nat) : ∀ (n : Nat) (u : UH) (x1 : Int32) (x3 : Int32) (x5 : Int32) (x6 : Int32) (x7 : Int32) (x8 : Int32), f_X3_acts_38 N (ub G) (ug G) a0 n u x1 x3 x5 x6 x7 x8 = some (r, uf) → uf.1 = u.1 ∧ uf.2.1 = u.2.1 := by
  intro n
  induction n with
  | zero =>
    intro u x1 x3 x5 x6 x7 x8 h
    cases h
  | succ n ih =>
    intro u x1 x3 x5 x6 x7 x8 h
    unfold f_X3_acts_38 at h
    obtain ⟨o1, ho1, h⟩ := mbind_n h
    obtain ⟨a2, ha2, hha2⟩ := mbind_n h
    subst ha2
    have h := hha2
    obtain ⟨y3, hy3, h⟩ := mbind_n h
    by_cases c4 : y3 ≤ x8
    · have h := mif_t c4 h
      by_cases c5 : x6 = x3
      · have h := mif_t c5 h
        have hq := zz_X3_acts_299 (G := G) (a0 := a0) N u 0 h
        exact ⟨by omega, by omega⟩
      · have h := mif_f c5 h
        have hq := zz_X3_acts_299 (G := G) (a0 := a0) N u 6 h
        exact ⟨by omega, by omega⟩
    · have h := mif_f c4 h
      obtain ⟨y6, ey6⟩ : ∃ z, z = (512 * x1) + (4 * x8) := ⟨_, rfl⟩
      have h := mlet_at ey6 h
      obtain ⟨o7, ho7, h⟩ := mbind_n h
      obtain ⟨a8, ha8, hha8⟩ := mbind_n h
      subst ha8
      have h := hha8
      obtain ⟨y9, hy9, h⟩ := mbind_n h
      obtain ⟨o10, ho10, h⟩ := mbind_n h
      obtain ⟨a11, ha11, hha11⟩ := mbind_n h
      subst ha11
      have h := hha11
      obtain ⟨y12, hy12, h⟩ := mbind_n h
      obtain ⟨y13, ey13⟩ : ∃ z : Int32, z = x8 + 1 := ⟨_, rfl⟩
      have h := mlet_at ey13 h
      obtain ⟨o14, ho14, h⟩ := mbind_n h
      obtain ⟨a15, ha15, hha15⟩ := mbind_n h
      subst ha15
      have h := hha15
      obtain ⟨y16, hy16, h⟩ := mbind_n h
      by_cases c17 : y16 = 2
      · have h := mif_t c17 h
        obtain ⟨o36, ho36, h⟩ := mbind_n h
        obtain ⟨a37, ha37, hha37⟩ := mbind_n h
        subst ha37
        have h := hha37
        obtain ⟨y38, hy38, h⟩ := mbind_n h
        have hq := zz_X3_acts_284 (G := G) (a0 := a0) N (f_X3_acts_38 N (ub G) (ug G) a0 n) ih u x1 x3 x5 x6 x7 y38 h
        exact ⟨by omega, by omega⟩
      · have h := mif_f c17 h
        obtain ⟨o18, ho18, h⟩ := mbind_n h
        obtain ⟨a19, ha19, hha19⟩ := mbind_n h
        subst ha19
        have h := hha19
        obtain ⟨y20, hy20, h⟩ := mbind_n h
        by_cases c21 : y20 = 1
        · have h := mif_t c21 h
          obtain ⟨r24, u22, c23, h⟩ := ucall_n h
          have zu22 := zz_X3_digit N (ub G) (ug G) u x7 y9 r24 u22 c23
          by_cases c25 : r24 = 0
          · have h := mif_t c25 h
            obtain ⟨hr1, hr2⟩ := uret_n h
            subst hr2
            exact ⟨by omega, by omega⟩
          · have h := mif_f c25 h
            obtain ⟨o26, ho26, h⟩ := mbind_n h
            obtain ⟨r29, u27, c28, h⟩ := ucall_n h
            have zu27 := zz_X3_digit N (ub G) (ug G) u22 x5 y9 r29 u27 c28
            obtain ⟨a30, ha30, hha30⟩ := mbind_n h
            subst ha30
            have h := hha30
            obtain ⟨y31, hy31, h⟩ := mbind_n h
            by_cases c32 : y31 = y12
            · have h := mif_t c32 h
              have hq := zz_X3_acts_284 (G := G) (a0 := a0) N (f_X3_acts_38 N (ub G) (ug G) a0 n) ih u27 x1 x3 x5 x6 x7 y13 h
              exact ⟨by omega, by omega⟩
            · have h := mif_f c32 h
              obtain ⟨o33, ho33, h⟩ := mbind_n h
              obtain ⟨a34, ha34, hha34⟩ := mbind_n h
              subst ha34
              have h := hha34
              obtain ⟨y35, hy35, h⟩ := mbind_n h
              have hq := zz_X3_acts_284 (G := G) (a0 := a0) N (f_X3_acts_38 N (ub G) (ug G) a0 n) ih u27 x1 x3 x5 x6 x7 y35 h
              exact ⟨by omega, by omega⟩
        · have h := mif_f c21 h
          have hq := zz_X3_acts_175 (G := G) (a0 := a0) N (f_X3_acts_38 N (ub G) (ug G) a0 n) ih N u x1 x3 x5 x6 x7 y13 y9 y12 0 h
          exact ⟨by omega, by omega⟩
set_option maxHeartbeats 4000000 in
set_option maxRecDepth 100000 in
theorem w_X3_acts_38 {p : Program} {l : Launch} {e : Env} {R : Room} {s : State} {m : MethodId} {args : Array Value} {below : List Frame} {meth : Method} {c : Code} {G : uG} {a0 : Nat} {uf : UH} {r : Int32} (hC : uC p s m args meth c G RX3 cX3_acts 15 (some .int)) (hR : 4 ≤ R.frames ∧ 100 ≤ R.locals) (N : Nat) : ∀ (n : Nat) (u : UH) (x1 : Int32) (x3 : Int32) (x5 : Int32) (x6 : Int32) (x7 : Int32) (x8 : Int32), f_X3_acts_38 N (ub G) (ug G) a0 n u x1 x3 x5 x6 x7 x8 = some (r, uf) → ∀ (H : Heap) (locs : List Loc), uP G u H → va_S (uA G) s.heap H locs → ∀ ls : Array Slot, lv_has ls 15 [(0, va_rf (some a0)), (1, .int x1), (3, .int x3), (5, .int x5), (6, .int x6), (7, .int x7), (8, .int x8)] → W p l e R s m args below meth c H locs 0 0 (MQ below (uQi G r uf) args s 0 0 (uA G)) (F0 m 38 ls []) := by
  obtain ⟨⟨hx, hb, hml, hown, hts⟩, hKK⟩ := id hC
  intro n
  induction n with
  | zero =>
    intro u x1 x3 x5 x6 x7 x8 h
    cases h
  | succ n ih =>
    intro u x1 x3 x5 x6 x7 x8 h H locs hP hS ls hl
    unfold f_X3_acts_38 at h
    refine lv_iload hx hb dX3_acts_38 (lv_at hl 6 rfl) ?_
    refine u_aload_n (r := some a0) hx hb dX3_acts_40 rfl (lv_at hl 0 rfl) ?_
    obtain ⟨o1, ho1, h⟩ := mbind_n h
    refine u_get hC hP (uGR_n ho1) rfl in_X3 (by decide) q1950 (fun _ h => h) dX3_acts_41 ?_
    refine lv_iload_n hx hb dX3_acts_44 rfl (lv_at hl 1 rfl) ?_
    obtain ⟨a2, ha2, hha2⟩ := mbind_n h
    subst ha2
    have h := hha2
    obtain ⟨y3, hy3, h⟩ := mbind_n h
    refine u_iald hC hP hy3 rfl dX3_acts_45 ?_
    refine lv_icmp_ge (tgt := 287) hx hb dX3_acts_46 (by decide) (fun c4 => ?_) (fun c4 => ?_)
    · have h := mif_t c4 h
      refine lv_iload hx hb dX3_acts_287 (lv_at hl 4 rfl) ?_
      refine lv_iload_n hx hb dX3_acts_289 rfl (lv_at hl 2 rfl) ?_
      refine lv_icmp_ne (tgt := 297) hx hb dX3_acts_290 (by decide) (fun c5 => ?_) (fun c5 => ?_)
      · have h := mif_f c5 h
        refine lv_bipush (v := 6) hx hb dX3_acts_297 (by decide) ?_
        exact w_X3_acts_299 hC hR N u 6 h hP hS (lv_sub hl [] rfl)
      · have h := mif_t c5 h
        refine lv_iconst (v := 0) hx hb dX3_acts_293 (by decide) ?_
        refine lv_goto (tgt := 299) hx hb dX3_acts_294 (by decide) ?_
        exact w_X3_acts_299 hC hR N u 0 h hP hS (lv_sub hl [] rfl)
    · have h := mif_f c4 h
      refine lv_sipush (v := 512) hx hb dX3_acts_49 (by decide) ?_
      refine lv_iload_n hx hb dX3_acts_52 rfl (lv_at hl 1 rfl) ?_
      refine lv_imul hx hb dX3_acts_53 ?_
      refine lv_iconst (v := 4) hx hb dX3_acts_54 (by decide) ?_
      refine lv_iload hx hb dX3_acts_55 (lv_at hl 6 rfl) ?_
      refine lv_imul hx hb dX3_acts_57 ?_
      refine lv_iadd hx hb dX3_acts_58 ?_
      refine lv_topi (fun y6 ey6 => ?_)
      have h := mlet_at ey6 h
      refine lv_istore (lv' := [(9, .int y6), (0, va_rf (some a0)), (1, .int x1), (3, .int x3), (5, .int x5), (6, .int x6), (7, .int x7), (8, .int x8)]) hx hb dX3_acts_59 hl (by decide) rfl (fun ls hl => ?_)
      refine u_aload_n (r := some a0) hx hb dX3_acts_61 rfl (lv_at hl 1 rfl) ?_
      obtain ⟨o7, ho7, h⟩ := mbind_n h
      refine u_get hC hP (uGR_n ho7) rfl in_X3 (by decide) q1949 (fun _ h => h) dX3_acts_62 ?_
      refine lv_iload hx hb dX3_acts_65 (lv_at hl 0 rfl) ?_
      refine lv_iconst (v := 1) hx hb dX3_acts_67 (by decide) ?_
      refine lv_iadd hx hb dX3_acts_68 ?_
      obtain ⟨a8, ha8, hha8⟩ := mbind_n h
      subst ha8
      have h := hha8
      obtain ⟨y9, hy9, h⟩ := mbind_n h
      refine u_iald hC hP hy9 rfl dX3_acts_69 ?_
      refine lv_istore (lv' := [(10, .int y9), (9, .int y6), (0, va_rf (some a0)), (1, .int x1), (3, .int x3), (5, .int x5), (6, .int x6), (7, .int x7), (8, .int x8)]) hx hb dX3_acts_70 hl (by decide) rfl (fun ls hl => ?_)
      refine u_aload_n (r := some a0) hx hb dX3_acts_72 rfl (lv_at hl 2 rfl) ?_
      obtain ⟨o10, ho10, h⟩ := mbind_n h
      refine u_get hC hP (uGR_n ho10) rfl in_X3 (by decide) q1949 (fun _ h => h) dX3_acts_73 ?_
      refine lv_iload hx hb dX3_acts_76 (lv_at hl 1 rfl) ?_
      refine lv_iconst (v := 2) hx hb dX3_acts_78 (by decide) ?_
      refine lv_iadd hx hb dX3_acts_79 ?_
      obtain ⟨a11, ha11, hha11⟩ := mbind_n h
      subst ha11
      have h := hha11
      obtain ⟨y12, hy12, h⟩ := mbind_n h
      refine u_iald hC hP hy12 rfl dX3_acts_80 ?_
      refine lv_istore (lv' := [(11, .int y12), (10, .int y9), (9, .int y6), (0, va_rf (some a0)), (1, .int x1), (3, .int x3), (5, .int x5), (6, .int x6), (7, .int x7), (8, .int x8)]) hx hb dX3_acts_81 hl (by decide) rfl (fun ls hl => ?_)
      obtain ⟨y13, ey13⟩ : ∃ z : Int32, z = x8 + 1 := ⟨_, rfl⟩
      have h := mlet_at ey13 h
      refine lv_iinc (v := y13) (lv' := [(8, .int y13), (11, .int y12), (10, .int y9), (9, .int y6), (0, va_rf (some a0)), (1, .int x1), (3, .int x3), (5, .int x5), (6, .int x6), (7, .int x7)]) hx hb dX3_acts_83 hl (k := 9) rfl (by rw [ey13]; rfl) (by decide) rfl (fun ls hl => ?_)
      refine u_aload_n (r := some a0) hx hb dX3_acts_86 rfl (lv_at hl 4 rfl) ?_
      obtain ⟨o14, ho14, h⟩ := mbind_n h
      refine u_get hC hP (uGR_n ho14) rfl in_X3 (by decide) q1949 (fun _ h => h) dX3_acts_87 ?_
      refine lv_iload hx hb dX3_acts_90 (lv_at hl 3 rfl) ?_
      obtain ⟨a15, ha15, hha15⟩ := mbind_n h
      subst ha15
      have h := hha15
      obtain ⟨y16, hy16, h⟩ := mbind_n h
      refine u_iald hC hP hy16 rfl dX3_acts_92 ?_
      refine lv_iconst (v := 2) hx hb dX3_acts_93 (by decide) ?_
      refine lv_icmp_ne (tgt := 111) hx hb dX3_acts_94 (by decide) (fun c17 => ?_) (fun c17 => ?_)
      · have h := mif_f c17 h
        refine u_aload_n (r := some a0) hx hb dX3_acts_111 rfl (lv_at hl 4 rfl) ?_
        obtain ⟨o18, ho18, h⟩ := mbind_n h
        refine u_get hC hP (uGR_n ho18) rfl in_X3 (by decide) q1949 (fun _ h => h) dX3_acts_112 ?_
        refine lv_iload hx hb dX3_acts_115 (lv_at hl 3 rfl) ?_
        obtain ⟨a19, ha19, hha19⟩ := mbind_n h
        subst ha19
        have h := hha19
        obtain ⟨y20, hy20, h⟩ := mbind_n h
        refine u_iald hC hP hy20 rfl dX3_acts_117 ?_
        refine lv_iconst (v := 1) hx hb dX3_acts_118 (by decide) ?_
        refine lv_icmp_ne (tgt := 172) hx hb dX3_acts_119 (by decide) (fun c21 => ?_) (fun c21 => ?_)
        · have h := mif_f c21 h
          refine lv_iconst (v := 0) hx hb dX3_acts_172 (by decide) ?_
          refine lv_istore (lv' := [(12, .int 0), (8, .int y13), (11, .int y12), (10, .int y9), (9, .int y6), (0, va_rf (some a0)), (1, .int x1), (3, .int x3), (5, .int x5), (6, .int x6), (7, .int x7)]) hx hb dX3_acts_173 hl (by decide) rfl (fun ls hl => ?_)
          exact w_X3_acts_175 hC hR N (f_X3_acts_38 N (ub G) (ug G) a0 n) ih N u x1 x3 x5 x6 x7 y13 y9 y12 0 h _ _ hP hS _ (lv_sub hl [5, 6, 7, 8, 9, 10, 1, 3, 2, 0] rfl)
        · have h := mif_t c21 h
          refine lv_iload hx hb dX3_acts_122 (lv_at hl 9 rfl) ?_
          refine lv_iload hx hb dX3_acts_124 (lv_at hl 2 rfl) ?_
          obtain ⟨r24, u22, c23, h⟩ := ucall_n h
          have zu22 := zz_X3_digit N (ub G) (ug G) u x7 y9 r24 u22 c23
          refine u_calli (va_runS (As := [.int x7, .int y9]) (rest := []) hC.1 (met_X3_digit l N G u x7 y9 r24 u22 c23) (va_cwS 2 hts (lw_S q2360 q2361 q103 q2362) rfl rfl rfl (by decide +kernel) ⟨Nat.le_trans (Nat.le_of_ble_eq_true rfl) hR.1, Nat.le_trans (Nat.le_of_ble_eq_true rfl) hR.2⟩) ⟨uPc_blind, fun U hU hW => u_pre hC hP hS hU hW⟩ rfl rfl hl.1 rfl (lv_room (Nat.le_of_ble_eq_true rfl)) dX3_acts_126 ⟨Nat.zero_le _, Nat.zero_le _⟩) hS (fun H locs hP hS => ?_)
          refine lv_if_ne (tgt := 134) hx hb dX3_acts_129 (by decide) (fun c25 => ?_) (fun c25 => ?_)
          · have h := mif_f c25 h
            refine u_aload_n (r := some a0) hx hb dX3_acts_134 rfl (lv_at hl 4 rfl) ?_
            obtain ⟨o26, ho26, h⟩ := mbind_n h
            refine u_get hC hP (uGR_n ho26) rfl in_X3 (by decide) q1945 (fun _ h => h) dX3_acts_135 ?_
            refine lv_iconst (v := 4) hx hb dX3_acts_138 (by decide) ?_
            refine lv_iload hx hb dX3_acts_139 (lv_at hl 2 rfl) ?_
            refine lv_imul hx hb dX3_acts_141 ?_
            refine lv_iload hx hb dX3_acts_142 (lv_at hl 7 rfl) ?_
            refine lv_iload hx hb dX3_acts_144 (lv_at hl 2 rfl) ?_
            obtain ⟨r29, u27, c28, h⟩ := ucall_n h
            have zu27 := zz_X3_digit N (ub G) (ug G) u22 x5 y9 r29 u27 c28
            refine u_calli (va_runS (As := [.int x5, .int y9]) (rest := [.int (4 * y9), va_rf o26]) hC.1 (met_X3_digit l N G u22 x5 y9 r29 u27 c28) (va_cwS 2 hts (lw_S q2360 q2361 q103 q2362) rfl rfl rfl (by decide +kernel) ⟨Nat.le_trans (Nat.le_of_ble_eq_true rfl) hR.1, Nat.le_trans (Nat.le_of_ble_eq_true rfl) hR.2⟩) ⟨uPc_blind, fun U hU hW => u_pre hC hP hS hU hW⟩ rfl rfl hl.1 rfl (lv_room (by simp only [List.map, u_cat]; exact Nat.le_of_ble_eq_true rfl)) dX3_acts_146 ⟨Nat.zero_le _, Nat.zero_le _⟩) hS (fun H locs hP hS => ?_)
            refine lv_iadd hx hb dX3_acts_149 ?_
            refine lv_iconst (v := 1) hx hb dX3_acts_150 (by decide) ?_
            refine lv_isub hx hb dX3_acts_151 ?_
            obtain ⟨a30, ha30, hha30⟩ := mbind_n h
            subst ha30
            have h := hha30
            obtain ⟨y31, hy31, h⟩ := mbind_n h
            refine u_iald hC hP hy31 rfl dX3_acts_152 ?_
            refine lv_iload hx hb dX3_acts_153 (lv_at hl 1 rfl) ?_
            refine lv_icmp_eq (tgt := 284) hx hb dX3_acts_155 (by decide) (fun c32 => ?_) (fun c32 => ?_)
            · have h := mif_t c32 h
              exact w_X3_acts_284 hC hR N (f_X3_acts_38 N (ub G) (ug G) a0 n) ih u27 x1 x3 x5 x6 x7 y13 h hP hS (lv_sub hl [4, 5, 6, 7, 8, 9, 0] rfl)
            · have h := mif_f c32 h
              refine u_aload_n (r := some a0) hx hb dX3_acts_158 rfl (lv_at hl 4 rfl) ?_
              obtain ⟨o33, ho33, h⟩ := mbind_n h
              refine u_get hC hP (uGR_n ho33) rfl in_X3 (by decide) q1949 (fun _ h => h) dX3_acts_159 ?_
              refine lv_iload hx hb dX3_acts_162 (lv_at hl 3 rfl) ?_
              refine lv_iconst (v := 3) hx hb dX3_acts_164 (by decide) ?_
              refine lv_iadd hx hb dX3_acts_165 ?_
              obtain ⟨a34, ha34, hha34⟩ := mbind_n h
              subst ha34
              have h := hha34
              obtain ⟨y35, hy35, h⟩ := mbind_n h
              refine u_iald hC hP hy35 rfl dX3_acts_166 ?_
              refine lv_istore (lv' := [(8, .int y35), (11, .int y12), (10, .int y9), (9, .int y6), (0, va_rf (some a0)), (1, .int x1), (3, .int x3), (5, .int x5), (6, .int x6), (7, .int x7)]) hx hb dX3_acts_167 hl (by decide) rfl (fun ls hl => ?_)
              refine lv_goto (tgt := 284) hx hb dX3_acts_169 (by decide) ?_
              exact w_X3_acts_284 hC hR N (f_X3_acts_38 N (ub G) (ug G) a0 n) ih u27 x1 x3 x5 x6 x7 y35 h hP hS (lv_sub hl [4, 5, 6, 7, 8, 9, 0] rfl)
          · have h := mif_t c25 h
            refine lv_iconst (v := 5) hx hb dX3_acts_132 (by decide) ?_
            obtain ⟨hr1, hr2⟩ := uret_n h
            subst hr1
            subst hr2
            exact u_iret hC hP hS dX3_acts_133
      · have h := mif_t c17 h
        refine u_aload_n (r := some a0) hx hb dX3_acts_97 rfl (lv_at hl 4 rfl) ?_
        obtain ⟨o36, ho36, h⟩ := mbind_n h
        refine u_get hC hP (uGR_n ho36) rfl in_X3 (by decide) q1949 (fun _ h => h) dX3_acts_98 ?_
        refine lv_iload hx hb dX3_acts_101 (lv_at hl 3 rfl) ?_
        refine lv_iconst (v := 3) hx hb dX3_acts_103 (by decide) ?_
        refine lv_iadd hx hb dX3_acts_104 ?_
        obtain ⟨a37, ha37, hha37⟩ := mbind_n h
        subst ha37
        have h := hha37
        obtain ⟨y38, hy38, h⟩ := mbind_n h
        refine u_iald hC hP hy38 rfl dX3_acts_105 ?_
        refine lv_istore (lv' := [(8, .int y38), (11, .int y12), (10, .int y9), (9, .int y6), (0, va_rf (some a0)), (1, .int x1), (3, .int x3), (5, .int x5), (6, .int x6), (7, .int x7)]) hx hb dX3_acts_106 hl (by decide) rfl (fun ls hl => ?_)
        refine lv_goto (tgt := 284) hx hb dX3_acts_108 (by decide) ?_
        exact w_X3_acts_284 hC hR N (f_X3_acts_38 N (ub G) (ug G) a0 n) ih u x1 x3 x5 x6 x7 y38 h hP hS (lv_sub hl [4, 5, 6, 7, 8, 9, 0] rfl)
def f_X3_acts (N b : Nat) (g : uEnv) (u : UH) (a0 : Nat) (x1 : Int32) (x2 : Int32) (x3 : Int32) (x4 : Int32) : Option (Int32 × UH) :=
    if uIs u a0 2 = true then
    ucall (f_X3_all N b g u a0 x4) fun r4 u2 =>
    if uIs u2 a0 2 = true then
    ucall (f_X3_base N b g u2 a0) fun r8 u6 =>
    if uIs u6 a0 2 = true then
    ucall (f_X3_sees N b g u6 a0 r8 x2 r4) fun r12 u10 =>
    (uPut b u10 a0 2 66 (.int 0)).bind fun u13 =>
    (uPut b u13 a0 2 67 (.int 0)).bind fun u14 =>
    f_X3_acts_38 N b g a0 N u14 x1 x3 r4 x2 r12 0
    else none
    else none
    else none
set_option maxHeartbeats 4000000 in
set_option maxRecDepth 100000 in
theorem zz_X3_acts_0 {G : uG} {a0 : Nat} {uf : UH} {r : Int32} (N : Nat) (u : UH) (x1 : Int32) (x2 : Int32) (x3 : Int32) (x4 : Int32) (h : f_X3_acts N (ub G) (ug G) u a0 x1 x2 x3 x4 = some (r, uf)) : uf.1 = u.1 ∧ uf.2.1 = u.2.1 := by
  unfold f_X3_acts at h
  obtain ⟨c1, h⟩ := mif_n h
  obtain ⟨r4, u2, c3, h⟩ := ucall_n h
  have zu2 := zz_X3_all N (ub G) (ug G) u a0 x4 r4 u2 c3
  obtain ⟨c5, h⟩ := mif_n h
  obtain ⟨r8, u6, c7, h⟩ := ucall_n h
  have zu6 := zz_X3_base N (ub G) (ug G) u2 a0 r8 u6 c7
  obtain ⟨c9, h⟩ := mif_n h
  obtain ⟨r12, u10, c11, h⟩ := ucall_n h
  have zu10 := zz_X3_sees N (ub G) (ug G) u6 a0 r8 x2 r4 r12 u10 c11
  obtain ⟨u13, hu13, h⟩ := mbind_n h
  have zu13 := uPut_sz hu13
  obtain ⟨u14, hu14, h⟩ := mbind_n h
  have zu14 := uPut_sz hu14
  have hq := zz_X3_acts_38 (G := G) (a0 := a0) N N u14 x1 x3 r4 x2 r12 0 h
  exact ⟨by omega, by omega⟩
set_option maxHeartbeats 4000000 in
set_option maxRecDepth 100000 in
theorem w_X3_acts_0 {p : Program} {l : Launch} {e : Env} {R : Room} {s : State} {m : MethodId} {args : Array Value} {below : List Frame} {meth : Method} {c : Code} {G : uG} {a0 : Nat} {uf : UH} {r : Int32} (hC : uC p s m args meth c G RX3 cX3_acts 15 (some .int)) (hR : 4 ≤ R.frames ∧ 100 ≤ R.locals) (N : Nat) (u : UH) (x1 : Int32) (x2 : Int32) (x3 : Int32) (x4 : Int32) (h : f_X3_acts N (ub G) (ug G) u a0 x1 x2 x3 x4 = some (r, uf)) {H : Heap} {locs : List Loc} (hP : uP G u H) (hS : va_S (uA G) s.heap H locs) {ls : Array Slot} (hl : lv_has ls 15 [(0, va_rf (some a0)), (1, .int x1), (2, .int x2), (3, .int x3), (4, .int x4)]) : W p l e R s m args below meth c H locs 0 0 (MQ below (uQi G r uf) args s 0 0 (uA G)) (F0 m 0 ls []) := by
  obtain ⟨⟨hx, hb, hml, hown, hts⟩, hKK⟩ := id hC
  unfold f_X3_acts at h
  refine u_aload_n (r := some a0) hx hb dX3_acts_0 rfl (lv_at hl 0 rfl) ?_
  refine lv_iload hx hb dX3_acts_1 (lv_at hl 4 rfl) ?_
  obtain ⟨c1, h⟩ := mif_n h
  obtain ⟨r4, u2, c3, h⟩ := ucall_n h
  have zu2 := zz_X3_all N (ub G) (ug G) u a0 x4 r4 u2 c3
  refine u_calli (va_runV (As := [.int x4]) (rest := []) hC.1 (met_X3_all l N G u a0 x4 r4 u2 c3) (cwV 1 hts (lw_V q2435 q2437 qs84 q103 q2438) rfl rfl rfl (by decide +kernel) ⟨Nat.le_trans (Nat.le_of_ble_eq_true rfl) hR.1, Nat.le_trans (Nat.le_of_ble_eq_true rfl) hR.2⟩) ⟨uPc_blind, u_rcv hC hP c1 rfl, fun U hU hW => u_pre hC hP hS hU hW⟩ rfl rfl hl.1 rfl (lv_room (Nat.le_of_ble_eq_true rfl)) dX3_acts_3 ⟨Nat.zero_le _, Nat.zero_le _⟩) hS (fun H locs hP hS => ?_)
  refine lv_istore (lv' := [(5, .int r4), (0, va_rf (some a0)), (1, .int x1), (2, .int x2), (3, .int x3), (4, .int x4)]) hx hb dX3_acts_6 hl (by decide) rfl (fun ls hl => ?_)
  refine lv_iload_n hx hb dX3_acts_8 rfl (lv_at hl 3 rfl) ?_
  refine lv_istore (lv' := [(6, .int x2), (5, .int r4), (0, va_rf (some a0)), (1, .int x1), (2, .int x2), (3, .int x3), (4, .int x4)]) hx hb dX3_acts_9 hl (by decide) rfl (fun ls hl => ?_)
  refine u_aload_n (r := some a0) hx hb dX3_acts_11 rfl (lv_at hl 2 rfl) ?_
  refine u_aload_n (r := some a0) hx hb dX3_acts_12 rfl (lv_at hl 2 rfl) ?_
  obtain ⟨c5, h⟩ := mif_n h
  obtain ⟨r8, u6, c7, h⟩ := ucall_n h
  have zu6 := zz_X3_base N (ub G) (ug G) u2 a0 r8 u6 c7
  refine u_calli (va_runV (As := []) (rest := [va_rf (some a0)]) hC.1 (met_X3_base l N G u2 a0 r8 u6 c7) (cwV 0 hts (lw_V q2399 q2401 qs81 q103 q2402) rfl rfl rfl (by decide +kernel) ⟨Nat.le_trans (Nat.le_of_ble_eq_true rfl) hR.1, Nat.le_trans (Nat.le_of_ble_eq_true rfl) hR.2⟩) ⟨uPc_blind, u_rcv hC hP c5 rfl, fun U hU hW => u_pre hC hP hS hU hW⟩ rfl rfl hl.1 rfl (lv_room (Nat.le_of_ble_eq_true rfl)) dX3_acts_13 ⟨Nat.zero_le _, Nat.zero_le _⟩) hS (fun H locs hP hS => ?_)
  refine lv_iload hx hb dX3_acts_16 (lv_at hl 0 rfl) ?_
  refine lv_iload hx hb dX3_acts_18 (lv_at hl 1 rfl) ?_
  obtain ⟨c9, h⟩ := mif_n h
  obtain ⟨r12, u10, c11, h⟩ := ucall_n h
  have zu10 := zz_X3_sees N (ub G) (ug G) u6 a0 r8 x2 r4 r12 u10 c11
  refine u_calli (va_runV (As := [.int r8, .int x2, .int r4]) (rest := []) hC.1 (met_X3_sees l N G u6 a0 r8 x2 r4 r12 u10 c11) (cwV 3 hts (lw_V q2447 q2449 qs86 q103 q2450) rfl rfl rfl (by decide +kernel) ⟨Nat.le_trans (Nat.le_of_ble_eq_true rfl) hR.1, Nat.le_trans (Nat.le_of_ble_eq_true rfl) hR.2⟩) ⟨uPc_blind, u_rcv hC hP c9 rfl, fun U hU hW => u_pre hC hP hS hU hW⟩ rfl rfl hl.1 rfl (lv_room (Nat.le_of_ble_eq_true rfl)) dX3_acts_20 ⟨Nat.zero_le _, Nat.zero_le _⟩) hS (fun H locs hP hS => ?_)
  refine lv_istore (lv' := [(7, .int r12), (6, .int x2), (5, .int r4), (0, va_rf (some a0)), (1, .int x1), (2, .int x2), (3, .int x3), (4, .int x4)]) hx hb dX3_acts_23 hl (by decide) rfl (fun ls hl => ?_)
  refine u_aload_n (r := some a0) hx hb dX3_acts_25 rfl (lv_at hl 3 rfl) ?_
  refine lv_iconst (v := 0) hx hb dX3_acts_26 (by decide) ?_
  obtain ⟨u13, hu13, h⟩ := mbind_n h
  have zu13 := uPut_sz hu13
  refine u_put hC hP hS hu13 rfl in_X3 tyX3 tyX3_ok nmX3 (by decide) q1959 (fun _ h => h) rfl (ty := .int) (tyX3_ok 66 (by decide)) rfl rfl dX3_acts_27 (fun H locs hP hS => ?_)
  refine u_aload_n (r := some a0) hx hb dX3_acts_30 rfl (lv_at hl 3 rfl) ?_
  refine lv_iconst (v := 0) hx hb dX3_acts_31 (by decide) ?_
  obtain ⟨u14, hu14, h⟩ := mbind_n h
  have zu14 := uPut_sz hu14
  refine u_put hC hP hS hu14 rfl in_X3 tyX3 tyX3_ok nmX3 (by decide) q1960 (fun _ h => h) rfl (ty := .int) (tyX3_ok 67 (by decide)) rfl rfl dX3_acts_32 (fun H locs hP hS => ?_)
  refine lv_iconst (v := 0) hx hb dX3_acts_35 (by decide) ?_
  refine lv_istore (lv' := [(8, .int 0), (7, .int r12), (6, .int x2), (5, .int r4), (0, va_rf (some a0)), (1, .int x1), (2, .int x2), (3, .int x3), (4, .int x4)]) hx hb dX3_acts_36 hl (by decide) rfl (fun ls hl => ?_)
  exact w_X3_acts_38 hC hR N N u14 x1 x3 r4 x2 r12 0 h _ _ hP hS _ (lv_sub hl [4, 5, 7, 3, 2, 1, 0] rfl)
theorem zz_X3_acts (N b : Nat) (g : uEnv) (u : UH) (a0 : Nat) (x1 : Int32) (x2 : Int32) (x3 : Int32) (x4 : Int32) (r : Int32) (uf : UH) (h : f_X3_acts N b g u a0 x1 x2 x3 x4 = some (r, uf)) : uf.1 = u.1 ∧ uf.2.1 = u.2.1 :=
  zz_X3_acts_0 (G := ((fun _ => 0, fun _ _ => 0), fun _ => 0, b, g)) (a0 := a0) N u x1 x2 x3 x4 h
theorem met_X3_acts (l : Launch) (N : Nat) (G : uG) (u : UH) (a0 : Nat) (x1 : Int32) (x2 : Int32) (x3 : Int32) (x4 : Int32) (r : Int32) (uf : UH) (h : f_X3_acts N (ub G) (ug G) u a0 x1 x2 x3 x4 = some (r, uf)) : Met l yX3_acts (ws_ yX3_acts cX3_acts 15 (some .int)) ({ frames := 4, cells := 0, slots := 0, locals := 100 }) (uPc G u [.ref a0, .int x1, .int x2, .int x3, .int x4]) (uQi G r uf) 0 0 (uA G) := by
  exact u_met (own := RX3) (by decide +kernel) rfl (Nat.le_of_ble_eq_true rfl) (fun hC hn hsz ls hl hP => w_X3_acts_0 hC ⟨Nat.le_refl _, Nat.le_refl _⟩ N u x1 x2 x3 x4 h hP va_S.rf hl)
def f_X3_weightOf (N b : Nat) (g : uEnv) (u : UH) (a0 : Nat) (x1 : Int32) (x2 : Int32) : Option (Int32 × UH) :=
    (uGR u a0 2 46).bind fun o1 =>
    (uGR u a0 2 52).bind fun o2 =>
    (o2).bind fun a3 =>
    (uLdI u a3 0 ((4 * x1) + x2)).bind fun y4 =>
    (o1).bind fun a5 =>
    (uLdI u a5 0 ((8 * x1) + y4)).bind fun y6 =>
    some (y6, u)
set_option maxHeartbeats 4000000 in
set_option maxRecDepth 100000 in
theorem zz_X3_weightOf_0 {G : uG} {a0 : Nat} {uf : UH} {r : Int32} (N : Nat) (u : UH) (x1 : Int32) (x2 : Int32) (h : f_X3_weightOf N (ub G) (ug G) u a0 x1 x2 = some (r, uf)) : uf.1 = u.1 ∧ uf.2.1 = u.2.1 := by
  unfold f_X3_weightOf at h
  obtain ⟨o1, ho1, h⟩ := mbind_n h
  obtain ⟨o2, ho2, h⟩ := mbind_n h
  obtain ⟨a3, ha3, hha3⟩ := mbind_n h
  subst ha3
  have h := hha3
  obtain ⟨y4, hy4, h⟩ := mbind_n h
  obtain ⟨a5, ha5, hha5⟩ := mbind_n h
  subst ha5
  have h := hha5
  obtain ⟨y6, hy6, h⟩ := mbind_n h
  obtain ⟨hr1, hr2⟩ := uret_n h
  subst hr2
  exact ⟨by omega, by omega⟩
set_option maxHeartbeats 4000000 in
set_option maxRecDepth 100000 in
theorem w_X3_weightOf_0 {p : Program} {l : Launch} {e : Env} {R : Room} {s : State} {m : MethodId} {args : Array Value} {below : List Frame} {meth : Method} {c : Code} {G : uG} {a0 : Nat} {uf : UH} {r : Int32} (hC : uC p s m args meth c G RX3 cX3_weightOf 3 (some .int)) (hR : 0 ≤ R.frames ∧ 0 ≤ R.locals) (N : Nat) (u : UH) (x1 : Int32) (x2 : Int32) (h : f_X3_weightOf N (ub G) (ug G) u a0 x1 x2 = some (r, uf)) {H : Heap} {locs : List Loc} (hP : uP G u H) (hS : va_S (uA G) s.heap H locs) {ls : Array Slot} (hl : lv_has ls 3 [(0, va_rf (some a0)), (1, .int x1), (2, .int x2)]) : W p l e R s m args below meth c H locs 0 0 (MQ below (uQi G r uf) args s 0 0 (uA G)) (F0 m 0 ls []) := by
  obtain ⟨⟨hx, hb, hml, hown, hts⟩, hKK⟩ := id hC
  unfold f_X3_weightOf at h
  refine u_aload_n (r := some a0) hx hb dX3_weightOf_0 rfl (lv_at hl 0 rfl) ?_
  obtain ⟨o1, ho1, h⟩ := mbind_n h
  refine u_get hC hP (uGR_n ho1) rfl in_X3 (by decide) q1939 (fun _ h => h) dX3_weightOf_1 ?_
  refine lv_bipush (v := 8) hx hb dX3_weightOf_4 (by decide) ?_
  refine lv_iload_n hx hb dX3_weightOf_6 rfl (lv_at hl 1 rfl) ?_
  refine lv_imul hx hb dX3_weightOf_7 ?_
  refine u_aload_n (r := some a0) hx hb dX3_weightOf_8 rfl (lv_at hl 0 rfl) ?_
  obtain ⟨o2, ho2, h⟩ := mbind_n h
  refine u_get hC hP (uGR_n ho2) rfl in_X3 (by decide) q1945 (fun _ h => h) dX3_weightOf_9 ?_
  refine lv_iconst (v := 4) hx hb dX3_weightOf_12 (by decide) ?_
  refine lv_iload_n hx hb dX3_weightOf_13 rfl (lv_at hl 1 rfl) ?_
  refine lv_imul hx hb dX3_weightOf_14 ?_
  refine lv_iload_n hx hb dX3_weightOf_15 rfl (lv_at hl 2 rfl) ?_
  refine lv_iadd hx hb dX3_weightOf_16 ?_
  obtain ⟨a3, ha3, hha3⟩ := mbind_n h
  subst ha3
  have h := hha3
  obtain ⟨y4, hy4, h⟩ := mbind_n h
  refine u_iald hC hP hy4 rfl dX3_weightOf_17 ?_
  refine lv_iadd hx hb dX3_weightOf_18 ?_
  obtain ⟨a5, ha5, hha5⟩ := mbind_n h
  subst ha5
  have h := hha5
  obtain ⟨y6, hy6, h⟩ := mbind_n h
  refine u_iald hC hP hy6 rfl dX3_weightOf_19 ?_
  obtain ⟨hr1, hr2⟩ := uret_n h
  subst hr1
  subst hr2
  exact u_iret hC hP hS dX3_weightOf_20
theorem zz_X3_weightOf (N b : Nat) (g : uEnv) (u : UH) (a0 : Nat) (x1 : Int32) (x2 : Int32) (r : Int32) (uf : UH) (h : f_X3_weightOf N b g u a0 x1 x2 = some (r, uf)) : uf.1 = u.1 ∧ uf.2.1 = u.2.1 :=
  zz_X3_weightOf_0 (G := ((fun _ => 0, fun _ _ => 0), fun _ => 0, b, g)) (a0 := a0) N u x1 x2 h
theorem met_X3_weightOf (l : Launch) (N : Nat) (G : uG) (u : UH) (a0 : Nat) (x1 : Int32) (x2 : Int32) (r : Int32) (uf : UH) (h : f_X3_weightOf N (ub G) (ug G) u a0 x1 x2 = some (r, uf)) : Met l yX3_weightOf (ws_ yX3_weightOf cX3_weightOf 3 (some .int)) ({ frames := 0, cells := 0, slots := 0, locals := 0 }) (uPc G u [.ref a0, .int x1, .int x2]) (uQi G r uf) 0 0 (uA G) := by
  exact u_met (own := RX3) (by decide +kernel) rfl (Nat.le_of_ble_eq_true rfl) (fun hC hn hsz ls hl hP => w_X3_weightOf_0 hC ⟨Nat.le_refl _, Nat.le_refl _⟩ N u x1 x2 h hP va_S.rf hl)
def f_X3_allOf_5 (N b : Nat) (g : uEnv) (a0 : Nat) : Nat → UH → Int32 → Int64 → Int32 → Option (Int64 × UH)
  | 0, _, _, _, _ => none
  | n + 1, u, x1, x2, x4 =>
    (uGR u a0 2 53).bind fun o1 =>
    (o1).bind fun a2 =>
    (uLdI u a2 0 x1).bind fun y3 =>
    if y3 ≤ x4 then
    some (x2, u)
    else
    if uIs u a0 2 = true then
    ucall (f_X3_weightOf N b g u a0 x1 x4) fun r8 u6 =>
    mlet (x2 + (r8.toInt64)) fun y9 =>
    mlet (x4 + 1) fun y10 =>
    f_X3_allOf_5 N b g a0 n u6 x1 y9 y10
    else none
set_option maxHeartbeats 4000000 in
set_option maxRecDepth 100000 in
theorem zz_X3_allOf_5 {G : uG} {a0 : Nat} {uf : UH} {r : Int64} (N : Nat) : ∀ (n : Nat) (u : UH) (x1 : Int32) (x2 : Int64) (x4 : Int32), f_X3_allOf_5 N (ub G) (ug G) a0 n u x1 x2 x4 = some (r, uf) → uf.1 = u.1 ∧ uf.2.1 = u.2.1 := by
  intro n
  induction n with
  | zero =>
    intro u x1 x2 x4 h
    cases h
  | succ n ih =>
    intro u x1 x2 x4 h
    unfold f_X3_allOf_5 at h
    obtain ⟨o1, ho1, h⟩ := mbind_n h
    obtain ⟨a2, ha2, hha2⟩ := mbind_n h
    subst ha2
    have h := hha2
    obtain ⟨y3, hy3, h⟩ := mbind_n h
    by_cases c4 : y3 ≤ x4
    · have h := mif_t c4 h
      obtain ⟨hr1, hr2⟩ := uret_n h
      subst hr2
      exact ⟨by omega, by omega⟩
    · have h := mif_f c4 h
      obtain ⟨c5, h⟩ := mif_n h
      obtain ⟨r8, u6, c7, h⟩ := ucall_n h
      have zu6 := zz_X3_weightOf N (ub G) (ug G) u a0 x1 x4 r8 u6 c7
      obtain ⟨y9, ey9⟩ : ∃ z, z = x2 + (r8.toInt64) := ⟨_, rfl⟩
      have h := mlet_at ey9 h
      obtain ⟨y10, ey10⟩ : ∃ z : Int32, z = x4 + 1 := ⟨_, rfl⟩
      have h := mlet_at ey10 h
      have hq := ih u6 x1 y9 y10 h
      exact ⟨by omega, by omega⟩
set_option maxHeartbeats 4000000 in
set_option maxRecDepth 100000 in
theorem w_X3_allOf_5 {p : Program} {l : Launch} {e : Env} {R : Room} {s : State} {m : MethodId} {args : Array Value} {below : List Frame} {meth : Method} {c : Code} {G : uG} {a0 : Nat} {uf : UH} {r : Int64} (hC : uC p s m args meth c G RX3 cX3_allOf 5 (some .long)) (hR : 1 ≤ R.frames ∧ 22 ≤ R.locals) (N : Nat) : ∀ (n : Nat) (u : UH) (x1 : Int32) (x2 : Int64) (x4 : Int32), f_X3_allOf_5 N (ub G) (ug G) a0 n u x1 x2 x4 = some (r, uf) → ∀ (H : Heap) (locs : List Loc), uP G u H → va_S (uA G) s.heap H locs → ∀ ls : Array Slot, lv_has ls 5 [(0, va_rf (some a0)), (1, .int x1), (2, .long x2), (4, .int x4)] → W p l e R s m args below meth c H locs 0 0 (MQ below (uQl G r uf) args s 0 0 (uA G)) (F0 m 5 ls []) := by
  obtain ⟨⟨hx, hb, hml, hown, hts⟩, hKK⟩ := id hC
  intro n
  induction n with
  | zero =>
    intro u x1 x2 x4 h
    cases h
  | succ n ih =>
    intro u x1 x2 x4 h H locs hP hS ls hl
    unfold f_X3_allOf_5 at h
    refine lv_iload hx hb dX3_allOf_5 (lv_at hl 3 rfl) ?_
    refine u_aload_n (r := some a0) hx hb dX3_allOf_7 rfl (lv_at hl 0 rfl) ?_
    obtain ⟨o1, ho1, h⟩ := mbind_n h
    refine u_get hC hP (uGR_n ho1) rfl in_X3 (by decide) q1946 (fun _ h => h) dX3_allOf_8 ?_
    refine lv_iload_n hx hb dX3_allOf_11 rfl (lv_at hl 1 rfl) ?_
    obtain ⟨a2, ha2, hha2⟩ := mbind_n h
    subst ha2
    have h := hha2
    obtain ⟨y3, hy3, h⟩ := mbind_n h
    refine u_iald hC hP hy3 rfl dX3_allOf_12 ?_
    refine lv_icmp_ge (tgt := 33) hx hb dX3_allOf_13 (by decide) (fun c4 => ?_) (fun c4 => ?_)
    · have h := mif_t c4 h
      refine lv_lload_n hx hb dX3_allOf_33 rfl (lv_at hl 2 rfl) ?_
      obtain ⟨hr1, hr2⟩ := uret_n h
      subst hr1
      subst hr2
      exact u_lret hC hP hS dX3_allOf_34
    · have h := mif_f c4 h
      refine lv_lload_n hx hb dX3_allOf_16 rfl (lv_at hl 2 rfl) ?_
      refine u_aload_n (r := some a0) hx hb dX3_allOf_17 rfl (lv_at hl 0 rfl) ?_
      refine lv_iload_n hx hb dX3_allOf_18 rfl (lv_at hl 1 rfl) ?_
      refine lv_iload hx hb dX3_allOf_19 (lv_at hl 3 rfl) ?_
      obtain ⟨c5, h⟩ := mif_n h
      obtain ⟨r8, u6, c7, h⟩ := ucall_n h
      have zu6 := zz_X3_weightOf N (ub G) (ug G) u a0 x1 x4 r8 u6 c7
      refine u_calli (va_runV (As := [.int x1, .int x4]) (rest := [.long x2]) hC.1 (met_X3_weightOf l N G u a0 x1 x4 r8 u6 c7) (cwV 2 hts (lw_V q2383 q2385 qs77 q103 q2386) rfl rfl rfl (by decide +kernel) ⟨Nat.le_trans (Nat.le_of_ble_eq_true rfl) hR.1, Nat.le_trans (Nat.le_of_ble_eq_true rfl) hR.2⟩) ⟨uPc_blind, u_rcv hC hP c5 rfl, fun U hU hW => u_pre hC hP hS hU hW⟩ rfl rfl hl.1 rfl (lv_room (Nat.le_of_ble_eq_true rfl)) dX3_allOf_21 ⟨Nat.zero_le _, Nat.zero_le _⟩) hS (fun H locs hP hS => ?_)
      refine lv_i2l (v := r8.toInt64) hx hb dX3_allOf_24 rfl ?_
      refine lv_ladd hx hb dX3_allOf_25 ?_
      refine lv_topl (fun y9 ey9 => ?_)
      have h := mlet_at ey9 h
      refine lv_lstore_n (i := 2) (lv' := [(2, .long y9), (0, va_rf (some a0)), (1, .int x1), (4, .int x4)]) hx hb dX3_allOf_26 rfl hl (by decide) rfl (fun ls hl => ?_)
      obtain ⟨y10, ey10⟩ : ∃ z : Int32, z = x4 + 1 := ⟨_, rfl⟩
      have h := mlet_at ey10 h
      refine lv_iinc (v := y10) (lv' := [(4, .int y10), (2, .long y9), (0, va_rf (some a0)), (1, .int x1)]) hx hb dX3_allOf_27 hl (k := 3) rfl (by rw [ey10]; rfl) (by decide) rfl (fun ls hl => ?_)
      refine lv_goto (tgt := 5) hx hb dX3_allOf_30 (by decide) ?_
      exact ih u6 x1 y9 y10 h _ _ hP hS _ (lv_sub hl [2, 3, 1, 0] rfl)
def f_X3_allOf (N b : Nat) (g : uEnv) (u : UH) (a0 : Nat) (x1 : Int32) : Option (Int64 × UH) :=
    f_X3_allOf_5 N b g a0 N u x1 0 0
set_option maxHeartbeats 4000000 in
set_option maxRecDepth 100000 in
theorem zz_X3_allOf_0 {G : uG} {a0 : Nat} {uf : UH} {r : Int64} (N : Nat) (u : UH) (x1 : Int32) (h : f_X3_allOf N (ub G) (ug G) u a0 x1 = some (r, uf)) : uf.1 = u.1 ∧ uf.2.1 = u.2.1 := by
  unfold f_X3_allOf at h
  have hq := zz_X3_allOf_5 (G := G) (a0 := a0) N N u x1 0 0 h
  exact ⟨by omega, by omega⟩
set_option maxHeartbeats 4000000 in
set_option maxRecDepth 100000 in
theorem w_X3_allOf_0 {p : Program} {l : Launch} {e : Env} {R : Room} {s : State} {m : MethodId} {args : Array Value} {below : List Frame} {meth : Method} {c : Code} {G : uG} {a0 : Nat} {uf : UH} {r : Int64} (hC : uC p s m args meth c G RX3 cX3_allOf 5 (some .long)) (hR : 1 ≤ R.frames ∧ 22 ≤ R.locals) (N : Nat) (u : UH) (x1 : Int32) (h : f_X3_allOf N (ub G) (ug G) u a0 x1 = some (r, uf)) {H : Heap} {locs : List Loc} (hP : uP G u H) (hS : va_S (uA G) s.heap H locs) {ls : Array Slot} (hl : lv_has ls 5 [(0, va_rf (some a0)), (1, .int x1)]) : W p l e R s m args below meth c H locs 0 0 (MQ below (uQl G r uf) args s 0 0 (uA G)) (F0 m 0 ls []) := by
  obtain ⟨⟨hx, hb, hml, hown, hts⟩, hKK⟩ := id hC
  unfold f_X3_allOf at h
  refine lv_lconst (v := 0) hx hb dX3_allOf_0 (by decide) ?_
  refine lv_lstore_n (i := 2) (lv' := [(2, .long 0), (0, va_rf (some a0)), (1, .int x1)]) hx hb dX3_allOf_1 rfl hl (by decide) rfl (fun ls hl => ?_)
  refine lv_iconst (v := 0) hx hb dX3_allOf_2 (by decide) ?_
  refine lv_istore (lv' := [(4, .int 0), (2, .long 0), (0, va_rf (some a0)), (1, .int x1)]) hx hb dX3_allOf_3 hl (by decide) rfl (fun ls hl => ?_)
  exact w_X3_allOf_5 hC hR N N u x1 0 0 h _ _ hP hS _ (lv_sub hl [2, 3, 1, 0] rfl)
theorem zz_X3_allOf (N b : Nat) (g : uEnv) (u : UH) (a0 : Nat) (x1 : Int32) (r : Int64) (uf : UH) (h : f_X3_allOf N b g u a0 x1 = some (r, uf)) : uf.1 = u.1 ∧ uf.2.1 = u.2.1 :=
  zz_X3_allOf_0 (G := ((fun _ => 0, fun _ _ => 0), fun _ => 0, b, g)) (a0 := a0) N u x1 h
theorem met_X3_allOf (l : Launch) (N : Nat) (G : uG) (u : UH) (a0 : Nat) (x1 : Int32) (r : Int64) (uf : UH) (h : f_X3_allOf N (ub G) (ug G) u a0 x1 = some (r, uf)) : Met l yX3_allOf (ws_ yX3_allOf cX3_allOf 5 (some .long)) ({ frames := 1, cells := 0, slots := 0, locals := 22 }) (uPc G u [.ref a0, .int x1]) (uQl G r uf) 0 0 (uA G) := by
  exact u_met (own := RX3) (by decide +kernel) rfl (Nat.le_of_ble_eq_true rfl) (fun hC hn hsz ls hl hP => w_X3_allOf_0 hC ⟨Nat.le_refl _, Nat.le_refl _⟩ N u x1 h hP va_S.rf hl)
def f_X3_look_18 (N b : Nat) (g : uEnv) (a0 : Nat) (u : UH) (s0 : Int32) : Option (Int32 × UH) :=
    some (s0, u)
set_option maxHeartbeats 4000000 in
set_option maxRecDepth 100000 in
theorem zz_X3_look_18 {G : uG} {a0 : Nat} {uf : UH} {r : Int32} (N : Nat) (u : UH) (s0 : Int32) (h : f_X3_look_18 N (ub G) (ug G) a0 u s0 = some (r, uf)) : uf.1 = u.1 ∧ uf.2.1 = u.2.1 := by
  unfold f_X3_look_18 at h
  obtain ⟨hr1, hr2⟩ := uret_n h
  subst hr2
  exact ⟨by omega, by omega⟩
set_option maxHeartbeats 4000000 in
set_option maxRecDepth 100000 in
theorem w_X3_look_18 {p : Program} {l : Launch} {e : Env} {R : Room} {s : State} {m : MethodId} {args : Array Value} {below : List Frame} {meth : Method} {c : Code} {G : uG} {a0 : Nat} {uf : UH} {r : Int32} (hC : uC p s m args meth c G RX3 cX3_look 2 (some .int)) (hR : 0 ≤ R.frames ∧ 0 ≤ R.locals) (N : Nat) (u : UH) (s0 : Int32) (h : f_X3_look_18 N (ub G) (ug G) a0 u s0 = some (r, uf)) {H : Heap} {locs : List Loc} (hP : uP G u H) (hS : va_S (uA G) s.heap H locs) {ls : Array Slot} (hl : lv_has ls 2 []) : W p l e R s m args below meth c H locs 0 0 (MQ below (uQi G r uf) args s 0 0 (uA G)) (F0 m 18 ls [.int s0]) := by
  obtain ⟨⟨hx, hb, hml, hown, hts⟩, hKK⟩ := id hC
  unfold f_X3_look_18 at h
  obtain ⟨hr1, hr2⟩ := uret_n h
  subst hr1
  subst hr2
  exact u_iret hC hP hS dX3_look_18
def f_X3_look (N b : Nat) (g : uEnv) (u : UH) (a0 : Nat) (x1 : Int32) : Option (Int32 × UH) :=
    (uGI u a0 2 3).bind fun y1 =>
    if y1 ≤ x1 then
    f_X3_look_18 N b g a0 u (-1)
    else
    (uGR u a0 2 1).bind fun o3 =>
    (o3).bind fun a4 =>
    (uLdI u a4 0 x1).bind fun y5 =>
    f_X3_look_18 N b g a0 u y5
set_option maxHeartbeats 4000000 in
set_option maxRecDepth 100000 in
theorem zz_X3_look_0 {G : uG} {a0 : Nat} {uf : UH} {r : Int32} (N : Nat) (u : UH) (x1 : Int32) (h : f_X3_look N (ub G) (ug G) u a0 x1 = some (r, uf)) : uf.1 = u.1 ∧ uf.2.1 = u.2.1 := by
  unfold f_X3_look at h
  obtain ⟨y1, hy1, h⟩ := mbind_n h
  by_cases c2 : y1 ≤ x1
  · have h := mif_t c2 h
    have hq := zz_X3_look_18 (G := G) (a0 := a0) N u (-1) h
    exact ⟨by omega, by omega⟩
  · have h := mif_f c2 h
    obtain ⟨o3, ho3, h⟩ := mbind_n h
    obtain ⟨a4, ha4, hha4⟩ := mbind_n h
    subst ha4
    have h := hha4
    obtain ⟨y5, hy5, h⟩ := mbind_n h
    have hq := zz_X3_look_18 (G := G) (a0 := a0) N u y5 h
    exact ⟨by omega, by omega⟩
set_option maxHeartbeats 4000000 in
set_option maxRecDepth 100000 in
theorem w_X3_look_0 {p : Program} {l : Launch} {e : Env} {R : Room} {s : State} {m : MethodId} {args : Array Value} {below : List Frame} {meth : Method} {c : Code} {G : uG} {a0 : Nat} {uf : UH} {r : Int32} (hC : uC p s m args meth c G RX3 cX3_look 2 (some .int)) (hR : 0 ≤ R.frames ∧ 0 ≤ R.locals) (N : Nat) (u : UH) (x1 : Int32) (h : f_X3_look N (ub G) (ug G) u a0 x1 = some (r, uf)) {H : Heap} {locs : List Loc} (hP : uP G u H) (hS : va_S (uA G) s.heap H locs) {ls : Array Slot} (hl : lv_has ls 2 [(0, va_rf (some a0)), (1, .int x1)]) : W p l e R s m args below meth c H locs 0 0 (MQ below (uQi G r uf) args s 0 0 (uA G)) (F0 m 0 ls []) := by
  obtain ⟨⟨hx, hb, hml, hown, hts⟩, hKK⟩ := id hC
  unfold f_X3_look at h
  refine lv_iload_n hx hb dX3_look_0 rfl (lv_at hl 1 rfl) ?_
  refine u_aload_n (r := some a0) hx hb dX3_look_1 rfl (lv_at hl 0 rfl) ?_
  obtain ⟨y1, hy1, h⟩ := mbind_n h
  refine u_get hC hP (uGI_n hy1) rfl in_X3 (by decide) q1896 (fun _ h => h) dX3_look_2 ?_
  refine lv_icmp_ge (tgt := 17) hx hb dX3_look_5 (by decide) (fun c2 => ?_) (fun c2 => ?_)
  · have h := mif_t c2 h
    refine lv_iconst (v := (-1)) hx hb dX3_look_17 (by decide) ?_
    exact w_X3_look_18 hC hR N u (-1) h hP hS (lv_sub hl [] rfl)
  · have h := mif_f c2 h
    refine u_aload_n (r := some a0) hx hb dX3_look_8 rfl (lv_at hl 0 rfl) ?_
    obtain ⟨o3, ho3, h⟩ := mbind_n h
    refine u_get hC hP (uGR_n ho3) rfl in_X3 (by decide) q1894 (fun _ h => h) dX3_look_9 ?_
    refine lv_iload_n hx hb dX3_look_12 rfl (lv_at hl 1 rfl) ?_
    obtain ⟨a4, ha4, hha4⟩ := mbind_n h
    subst ha4
    have h := hha4
    obtain ⟨y5, hy5, h⟩ := mbind_n h
    refine u_iald hC hP hy5 rfl dX3_look_13 ?_
    refine lv_goto (tgt := 18) hx hb dX3_look_14 (by decide) ?_
    exact w_X3_look_18 hC hR N u y5 h hP hS (lv_sub hl [] rfl)
theorem zz_X3_look (N b : Nat) (g : uEnv) (u : UH) (a0 : Nat) (x1 : Int32) (r : Int32) (uf : UH) (h : f_X3_look N b g u a0 x1 = some (r, uf)) : uf.1 = u.1 ∧ uf.2.1 = u.2.1 :=
  zz_X3_look_0 (G := ((fun _ => 0, fun _ _ => 0), fun _ => 0, b, g)) (a0 := a0) N u x1 h
theorem met_X3_look (l : Launch) (N : Nat) (G : uG) (u : UH) (a0 : Nat) (x1 : Int32) (r : Int32) (uf : UH) (h : f_X3_look N (ub G) (ug G) u a0 x1 = some (r, uf)) : Met l yX3_look (ws_ yX3_look cX3_look 2 (some .int)) ({ frames := 0, cells := 0, slots := 0, locals := 0 }) (uPc G u [.ref a0, .int x1]) (uQi G r uf) 0 0 (uA G) := by
  exact u_met (own := RX3) (by decide +kernel) rfl (Nat.le_of_ble_eq_true rfl) (fun hC hn hsz ls hl hP => w_X3_look_0 hC ⟨Nat.le_refl _, Nat.le_refl _⟩ N u x1 h hP va_S.rf hl)
def f_X3_isSmall_17 (N b : Nat) (g : uEnv) (u : UH) (s0 : Int32) : Option (Int32 × UH) :=
    if uFit .boolean s0 = true then
    some (s0, u)
    else none
set_option maxHeartbeats 4000000 in
set_option maxRecDepth 100000 in
theorem zz_X3_isSmall_17 {G : uG} {uf : UH} {r : Int32} (N : Nat) (u : UH) (s0 : Int32) (h : f_X3_isSmall_17 N (ub G) (ug G) u s0 = some (r, uf)) : uf.1 = u.1 ∧ uf.2.1 = u.2.1 := by
  unfold f_X3_isSmall_17 at h
  obtain ⟨c1, h⟩ := mif_n h
  obtain ⟨hr1, hr2⟩ := uret_n h
  subst hr2
  exact ⟨by omega, by omega⟩
set_option maxHeartbeats 4000000 in
set_option maxRecDepth 100000 in
theorem w_X3_isSmall_17 {p : Program} {l : Launch} {e : Env} {R : Room} {s : State} {m : MethodId} {args : Array Value} {below : List Frame} {meth : Method} {c : Code} {G : uG} {uf : UH} {r : Int32} (hC : uC p s m args meth c G RX3 cX3_isSmall 1 (some .boolean)) (hR : 0 ≤ R.frames ∧ 0 ≤ R.locals) (N : Nat) (u : UH) (s0 : Int32) (h : f_X3_isSmall_17 N (ub G) (ug G) u s0 = some (r, uf)) {H : Heap} {locs : List Loc} (hP : uP G u H) (hS : va_S (uA G) s.heap H locs) {ls : Array Slot} (hl : lv_has ls 1 []) : W p l e R s m args below meth c H locs 0 0 (MQ below (uQi G r uf) args s 0 0 (uA G)) (F0 m 17 ls [.int s0]) := by
  obtain ⟨⟨hx, hb, hml, hown, hts⟩, hKK⟩ := id hC
  unfold f_X3_isSmall_17 at h
  obtain ⟨c1, h⟩ := mif_n h
  obtain ⟨hr1, hr2⟩ := uret_n h
  subst hr1
  subst hr2
  exact u_zret hC (uFit_n c1).1 hP hS dX3_isSmall_17
def f_X3_isSmall_16 (N b : Nat) (g : uEnv) (u : UH) : Option (Int32 × UH) :=
    f_X3_isSmall_17 N b g u 0
set_option maxHeartbeats 4000000 in
set_option maxRecDepth 100000 in
theorem zz_X3_isSmall_16 {G : uG} {uf : UH} {r : Int32} (N : Nat) (u : UH) (h : f_X3_isSmall_16 N (ub G) (ug G) u = some (r, uf)) : uf.1 = u.1 ∧ uf.2.1 = u.2.1 := by
  unfold f_X3_isSmall_16 at h
  have hq := zz_X3_isSmall_17 (G := G) N u 0 h
  exact ⟨by omega, by omega⟩
set_option maxHeartbeats 4000000 in
set_option maxRecDepth 100000 in
theorem w_X3_isSmall_16 {p : Program} {l : Launch} {e : Env} {R : Room} {s : State} {m : MethodId} {args : Array Value} {below : List Frame} {meth : Method} {c : Code} {G : uG} {uf : UH} {r : Int32} (hC : uC p s m args meth c G RX3 cX3_isSmall 1 (some .boolean)) (hR : 0 ≤ R.frames ∧ 0 ≤ R.locals) (N : Nat) (u : UH) (h : f_X3_isSmall_16 N (ub G) (ug G) u = some (r, uf)) {H : Heap} {locs : List Loc} (hP : uP G u H) (hS : va_S (uA G) s.heap H locs) {ls : Array Slot} (hl : lv_has ls 1 []) : W p l e R s m args below meth c H locs 0 0 (MQ below (uQi G r uf) args s 0 0 (uA G)) (F0 m 16 ls []) := by
  obtain ⟨⟨hx, hb, hml, hown, hts⟩, hKK⟩ := id hC
  unfold f_X3_isSmall_16 at h
  refine lv_iconst (v := 0) hx hb dX3_isSmall_16 (by decide) ?_
  exact w_X3_isSmall_17 hC hR N u 0 h hP hS (lv_sub hl [] rfl)
def f_X3_isSmall (N b : Nat) (g : uEnv) (u : UH) (x0 : Int32) : Option (Int32 × UH) :=
    if x0 < 97 then
    f_X3_isSmall_16 N b g u
    else
    if 122 < x0 then
    f_X3_isSmall_16 N b g u
    else
    f_X3_isSmall_17 N b g u 1
set_option maxHeartbeats 4000000 in
set_option maxRecDepth 100000 in
theorem zz_X3_isSmall_0 {G : uG} {uf : UH} {r : Int32} (N : Nat) (u : UH) (x0 : Int32) (h : f_X3_isSmall N (ub G) (ug G) u x0 = some (r, uf)) : uf.1 = u.1 ∧ uf.2.1 = u.2.1 := by
  unfold f_X3_isSmall at h
  by_cases c1 : x0 < 97
  · have h := mif_t c1 h
    have hq := zz_X3_isSmall_16 (G := G) N u h
    exact ⟨by omega, by omega⟩
  · have h := mif_f c1 h
    by_cases c2 : 122 < x0
    · have h := mif_t c2 h
      have hq := zz_X3_isSmall_16 (G := G) N u h
      exact ⟨by omega, by omega⟩
    · have h := mif_f c2 h
      have hq := zz_X3_isSmall_17 (G := G) N u 1 h
      exact ⟨by omega, by omega⟩
set_option maxHeartbeats 4000000 in
set_option maxRecDepth 100000 in
theorem w_X3_isSmall_0 {p : Program} {l : Launch} {e : Env} {R : Room} {s : State} {m : MethodId} {args : Array Value} {below : List Frame} {meth : Method} {c : Code} {G : uG} {uf : UH} {r : Int32} (hC : uC p s m args meth c G RX3 cX3_isSmall 1 (some .boolean)) (hR : 0 ≤ R.frames ∧ 0 ≤ R.locals) (N : Nat) (u : UH) (x0 : Int32) (h : f_X3_isSmall N (ub G) (ug G) u x0 = some (r, uf)) {H : Heap} {locs : List Loc} (hP : uP G u H) (hS : va_S (uA G) s.heap H locs) {ls : Array Slot} (hl : lv_has ls 1 [(0, .int x0)]) : W p l e R s m args below meth c H locs 0 0 (MQ below (uQi G r uf) args s 0 0 (uA G)) (F0 m 0 ls []) := by
  obtain ⟨⟨hx, hb, hml, hown, hts⟩, hKK⟩ := id hC
  unfold f_X3_isSmall at h
  refine lv_iload_n hx hb dX3_isSmall_0 rfl (lv_at hl 0 rfl) ?_
  refine lv_bipush (v := 97) hx hb dX3_isSmall_1 (by decide) ?_
  refine lv_icmp_lt (tgt := 16) hx hb dX3_isSmall_3 (by decide) (fun c1 => ?_) (fun c1 => ?_)
  · have h := mif_t c1 h
    exact w_X3_isSmall_16 hC hR N u h hP hS (lv_sub hl [] rfl)
  · have h := mif_f c1 h
    refine lv_iload_n hx hb dX3_isSmall_6 rfl (lv_at hl 0 rfl) ?_
    refine lv_bipush (v := 122) hx hb dX3_isSmall_7 (by decide) ?_
    refine lv_icmp_gt (tgt := 16) hx hb dX3_isSmall_9 (by decide) (fun c2 => ?_) (fun c2 => ?_)
    · have h := mif_t c2 h
      exact w_X3_isSmall_16 hC hR N u h hP hS (lv_sub hl [] rfl)
    · have h := mif_f c2 h
      refine lv_iconst (v := 1) hx hb dX3_isSmall_12 (by decide) ?_
      refine lv_goto (tgt := 17) hx hb dX3_isSmall_13 (by decide) ?_
      exact w_X3_isSmall_17 hC hR N u 1 h hP hS (lv_sub hl [] rfl)
theorem zz_X3_isSmall (N b : Nat) (g : uEnv) (u : UH) (x0 : Int32) (r : Int32) (uf : UH) (h : f_X3_isSmall N b g u x0 = some (r, uf)) : uf.1 = u.1 ∧ uf.2.1 = u.2.1 :=
  zz_X3_isSmall_0 (G := ((fun _ => 0, fun _ _ => 0), fun _ => 0, b, g)) N u x0 h
theorem met_X3_isSmall (l : Launch) (N : Nat) (G : uG) (u : UH) (x0 : Int32) (r : Int32) (uf : UH) (h : f_X3_isSmall N (ub G) (ug G) u x0 = some (r, uf)) : Met l yX3_isSmall (ws_ yX3_isSmall cX3_isSmall 1 (some .boolean)) ({ frames := 0, cells := 0, slots := 0, locals := 0 }) (uPc G u [.int x0]) (uQi G r uf) 0 0 (uA G) := by
  exact u_met (own := RX3) (by decide +kernel) rfl (Nat.le_of_ble_eq_true rfl) (fun hC hn hsz ls hl hP => w_X3_isSmall_0 hC ⟨Nat.le_refl _, Nat.le_refl _⟩ N u x0 h hP va_S.rf hl)
def f_X3_isDigit_17 (N b : Nat) (g : uEnv) (u : UH) (s0 : Int32) : Option (Int32 × UH) :=
    if uFit .boolean s0 = true then
    some (s0, u)
    else none
set_option maxHeartbeats 4000000 in
set_option maxRecDepth 100000 in
theorem zz_X3_isDigit_17 {G : uG} {uf : UH} {r : Int32} (N : Nat) (u : UH) (s0 : Int32) (h : f_X3_isDigit_17 N (ub G) (ug G) u s0 = some (r, uf)) : uf.1 = u.1 ∧ uf.2.1 = u.2.1 := by
  unfold f_X3_isDigit_17 at h
  obtain ⟨c1, h⟩ := mif_n h
  obtain ⟨hr1, hr2⟩ := uret_n h
  subst hr2
  exact ⟨by omega, by omega⟩
set_option maxHeartbeats 4000000 in
set_option maxRecDepth 100000 in
theorem w_X3_isDigit_17 {p : Program} {l : Launch} {e : Env} {R : Room} {s : State} {m : MethodId} {args : Array Value} {below : List Frame} {meth : Method} {c : Code} {G : uG} {uf : UH} {r : Int32} (hC : uC p s m args meth c G RX3 cX3_isDigit 1 (some .boolean)) (hR : 0 ≤ R.frames ∧ 0 ≤ R.locals) (N : Nat) (u : UH) (s0 : Int32) (h : f_X3_isDigit_17 N (ub G) (ug G) u s0 = some (r, uf)) {H : Heap} {locs : List Loc} (hP : uP G u H) (hS : va_S (uA G) s.heap H locs) {ls : Array Slot} (hl : lv_has ls 1 []) : W p l e R s m args below meth c H locs 0 0 (MQ below (uQi G r uf) args s 0 0 (uA G)) (F0 m 17 ls [.int s0]) := by
  obtain ⟨⟨hx, hb, hml, hown, hts⟩, hKK⟩ := id hC
  unfold f_X3_isDigit_17 at h
  obtain ⟨c1, h⟩ := mif_n h
  obtain ⟨hr1, hr2⟩ := uret_n h
  subst hr1
  subst hr2
  exact u_zret hC (uFit_n c1).1 hP hS dX3_isDigit_17
def f_X3_isDigit_16 (N b : Nat) (g : uEnv) (u : UH) : Option (Int32 × UH) :=
    f_X3_isDigit_17 N b g u 0
set_option maxHeartbeats 4000000 in
set_option maxRecDepth 100000 in
theorem zz_X3_isDigit_16 {G : uG} {uf : UH} {r : Int32} (N : Nat) (u : UH) (h : f_X3_isDigit_16 N (ub G) (ug G) u = some (r, uf)) : uf.1 = u.1 ∧ uf.2.1 = u.2.1 := by
  unfold f_X3_isDigit_16 at h
  have hq := zz_X3_isDigit_17 (G := G) N u 0 h
  exact ⟨by omega, by omega⟩
set_option maxHeartbeats 4000000 in
set_option maxRecDepth 100000 in
theorem w_X3_isDigit_16 {p : Program} {l : Launch} {e : Env} {R : Room} {s : State} {m : MethodId} {args : Array Value} {below : List Frame} {meth : Method} {c : Code} {G : uG} {uf : UH} {r : Int32} (hC : uC p s m args meth c G RX3 cX3_isDigit 1 (some .boolean)) (hR : 0 ≤ R.frames ∧ 0 ≤ R.locals) (N : Nat) (u : UH) (h : f_X3_isDigit_16 N (ub G) (ug G) u = some (r, uf)) {H : Heap} {locs : List Loc} (hP : uP G u H) (hS : va_S (uA G) s.heap H locs) {ls : Array Slot} (hl : lv_has ls 1 []) : W p l e R s m args below meth c H locs 0 0 (MQ below (uQi G r uf) args s 0 0 (uA G)) (F0 m 16 ls []) := by
  obtain ⟨⟨hx, hb, hml, hown, hts⟩, hKK⟩ := id hC
  unfold f_X3_isDigit_16 at h
  refine lv_iconst (v := 0) hx hb dX3_isDigit_16 (by decide) ?_
  exact w_X3_isDigit_17 hC hR N u 0 h hP hS (lv_sub hl [] rfl)
def f_X3_isDigit (N b : Nat) (g : uEnv) (u : UH) (x0 : Int32) : Option (Int32 × UH) :=
    if x0 < 48 then
    f_X3_isDigit_16 N b g u
    else
    if 57 < x0 then
    f_X3_isDigit_16 N b g u
    else
    f_X3_isDigit_17 N b g u 1
set_option maxHeartbeats 4000000 in
set_option maxRecDepth 100000 in
theorem zz_X3_isDigit_0 {G : uG} {uf : UH} {r : Int32} (N : Nat) (u : UH) (x0 : Int32) (h : f_X3_isDigit N (ub G) (ug G) u x0 = some (r, uf)) : uf.1 = u.1 ∧ uf.2.1 = u.2.1 := by
  unfold f_X3_isDigit at h
  by_cases c1 : x0 < 48
  · have h := mif_t c1 h
    have hq := zz_X3_isDigit_16 (G := G) N u h
    exact ⟨by omega, by omega⟩
  · have h := mif_f c1 h
    by_cases c2 : 57 < x0
    · have h := mif_t c2 h
      have hq := zz_X3_isDigit_16 (G := G) N u h
      exact ⟨by omega, by omega⟩
    · have h := mif_f c2 h
      have hq := zz_X3_isDigit_17 (G := G) N u 1 h
      exact ⟨by omega, by omega⟩
set_option maxHeartbeats 4000000 in
set_option maxRecDepth 100000 in
theorem w_X3_isDigit_0 {p : Program} {l : Launch} {e : Env} {R : Room} {s : State} {m : MethodId} {args : Array Value} {below : List Frame} {meth : Method} {c : Code} {G : uG} {uf : UH} {r : Int32} (hC : uC p s m args meth c G RX3 cX3_isDigit 1 (some .boolean)) (hR : 0 ≤ R.frames ∧ 0 ≤ R.locals) (N : Nat) (u : UH) (x0 : Int32) (h : f_X3_isDigit N (ub G) (ug G) u x0 = some (r, uf)) {H : Heap} {locs : List Loc} (hP : uP G u H) (hS : va_S (uA G) s.heap H locs) {ls : Array Slot} (hl : lv_has ls 1 [(0, .int x0)]) : W p l e R s m args below meth c H locs 0 0 (MQ below (uQi G r uf) args s 0 0 (uA G)) (F0 m 0 ls []) := by
  obtain ⟨⟨hx, hb, hml, hown, hts⟩, hKK⟩ := id hC
  unfold f_X3_isDigit at h
  refine lv_iload_n hx hb dX3_isDigit_0 rfl (lv_at hl 0 rfl) ?_
  refine lv_bipush (v := 48) hx hb dX3_isDigit_1 (by decide) ?_
  refine lv_icmp_lt (tgt := 16) hx hb dX3_isDigit_3 (by decide) (fun c1 => ?_) (fun c1 => ?_)
  · have h := mif_t c1 h
    exact w_X3_isDigit_16 hC hR N u h hP hS (lv_sub hl [] rfl)
  · have h := mif_f c1 h
    refine lv_iload_n hx hb dX3_isDigit_6 rfl (lv_at hl 0 rfl) ?_
    refine lv_bipush (v := 57) hx hb dX3_isDigit_7 (by decide) ?_
    refine lv_icmp_gt (tgt := 16) hx hb dX3_isDigit_9 (by decide) (fun c2 => ?_) (fun c2 => ?_)
    · have h := mif_t c2 h
      exact w_X3_isDigit_16 hC hR N u h hP hS (lv_sub hl [] rfl)
    · have h := mif_f c2 h
      refine lv_iconst (v := 1) hx hb dX3_isDigit_12 (by decide) ?_
      refine lv_goto (tgt := 17) hx hb dX3_isDigit_13 (by decide) ?_
      exact w_X3_isDigit_17 hC hR N u 1 h hP hS (lv_sub hl [] rfl)
theorem zz_X3_isDigit (N b : Nat) (g : uEnv) (u : UH) (x0 : Int32) (r : Int32) (uf : UH) (h : f_X3_isDigit N b g u x0 = some (r, uf)) : uf.1 = u.1 ∧ uf.2.1 = u.2.1 :=
  zz_X3_isDigit_0 (G := ((fun _ => 0, fun _ _ => 0), fun _ => 0, b, g)) N u x0 h
theorem met_X3_isDigit (l : Launch) (N : Nat) (G : uG) (u : UH) (x0 : Int32) (r : Int32) (uf : UH) (h : f_X3_isDigit N (ub G) (ug G) u x0 = some (r, uf)) : Met l yX3_isDigit (ws_ yX3_isDigit cX3_isDigit 1 (some .boolean)) ({ frames := 0, cells := 0, slots := 0, locals := 0 }) (uPc G u [.int x0]) (uQi G r uf) 0 0 (uA G) := by
  exact u_met (own := RX3) (by decide +kernel) rfl (Nat.le_of_ble_eq_true rfl) (fun hC hn hsz ls hl hP => w_X3_isDigit_0 hC ⟨Nat.le_refl _, Nat.le_refl _⟩ N u x0 h hP va_S.rf hl)
def f_X3_next_265 (N b : Nat) (g : uEnv) (a0 : Nat) (u : UH) : Option (UH) :=
    some u
set_option maxHeartbeats 4000000 in
set_option maxRecDepth 100000 in
theorem zz_X3_next_265 {G : uG} {a0 : Nat} {uf : UH} (N : Nat) (u : UH) (h : f_X3_next_265 N (ub G) (ug G) a0 u = some uf) : uf.1 = u.1 ∧ uf.2.1 = u.2.1 := by
  unfold f_X3_next_265 at h
  cases h
  exact ⟨by omega, by omega⟩
set_option maxHeartbeats 4000000 in
set_option maxRecDepth 100000 in
theorem w_X3_next_265 {p : Program} {l : Launch} {e : Env} {R : Room} {s : State} {m : MethodId} {args : Array Value} {below : List Frame} {meth : Method} {c : Code} {G : uG} {a0 : Nat} {uf : UH} (hC : uC p s m args meth c G RX3 cX3_next 4 none) (hR : 1 ≤ R.frames ∧ 21 ≤ R.locals) (N : Nat) (u : UH) (h : f_X3_next_265 N (ub G) (ug G) a0 u = some uf) {H : Heap} {locs : List Loc} (hP : uP G u H) (hS : va_S (uA G) s.heap H locs) {ls : Array Slot} (hl : lv_has ls 4 []) : W p l e R s m args below meth c H locs 0 0 (MQ below (uQv G uf) args s 0 0 (uA G)) (F0 m 265 ls []) := by
  obtain ⟨⟨hx, hb, hml, hown, hts⟩, hKK⟩ := id hC
  unfold f_X3_next_265 at h
  cases h
  exact u_vret hC hP hS dX3_next_265
def f_X3_next_262 (N b : Nat) (g : uEnv) (a0 : Nat) (u : UH) (s0 : Int32) (s1 : Option Nat) : Option (UH) :=
    (s1).bind fun a1 =>
    (uPut b u a1 2 6 (.int s0)).bind fun u2 =>
    f_X3_next_265 N b g a0 u2
set_option maxHeartbeats 4000000 in
set_option maxRecDepth 100000 in
theorem zz_X3_next_262 {G : uG} {a0 : Nat} {uf : UH} (N : Nat) (u : UH) (s0 : Int32) (s1 : Option Nat) (h : f_X3_next_262 N (ub G) (ug G) a0 u s0 s1 = some uf) : uf.1 = u.1 ∧ uf.2.1 = u.2.1 := by
  unfold f_X3_next_262 at h
  obtain ⟨a1, ha1, hha1⟩ := mbind_n h
  subst ha1
  have h := hha1
  obtain ⟨u2, hu2, h⟩ := mbind_n h
  have zu2 := uPut_sz hu2
  have hq := zz_X3_next_265 (G := G) (a0 := a0) N u2 h
  exact ⟨by omega, by omega⟩
set_option maxHeartbeats 4000000 in
set_option maxRecDepth 100000 in
theorem w_X3_next_262 {p : Program} {l : Launch} {e : Env} {R : Room} {s : State} {m : MethodId} {args : Array Value} {below : List Frame} {meth : Method} {c : Code} {G : uG} {a0 : Nat} {uf : UH} (hC : uC p s m args meth c G RX3 cX3_next 4 none) (hR : 1 ≤ R.frames ∧ 21 ≤ R.locals) (N : Nat) (u : UH) (s0 : Int32) (s1 : Option Nat) (h : f_X3_next_262 N (ub G) (ug G) a0 u s0 s1 = some uf) {H : Heap} {locs : List Loc} (hP : uP G u H) (hS : va_S (uA G) s.heap H locs) {ls : Array Slot} (hl : lv_has ls 4 []) : W p l e R s m args below meth c H locs 0 0 (MQ below (uQv G uf) args s 0 0 (uA G)) (F0 m 262 ls [.int s0, va_rf s1]) := by
  obtain ⟨⟨hx, hb, hml, hown, hts⟩, hKK⟩ := id hC
  unfold f_X3_next_262 at h
  obtain ⟨a1, ha1, hha1⟩ := mbind_n h
  subst ha1
  have h := hha1
  obtain ⟨u2, hu2, h⟩ := mbind_n h
  have zu2 := uPut_sz hu2
  refine u_put hC hP hS hu2 rfl in_X3 tyX3 tyX3_ok nmX3 (by decide) q1899 (fun _ h => h) rfl (ty := .int) (tyX3_ok 6 (by decide)) rfl rfl dX3_next_262 (fun H locs hP hS => ?_)
  exact w_X3_next_265 hC hR N u2 h hP hS (lv_sub hl [] rfl)
def f_X3_next_257 (N b : Nat) (g : uEnv) (a0 : Nat) (u : UH) (x2 : Int32) (s0 : Option Nat) : Option (UH) :=
    f_X3_next_262 N b g a0 u x2 s0
set_option maxHeartbeats 4000000 in
set_option maxRecDepth 100000 in
theorem zz_X3_next_257 {G : uG} {a0 : Nat} {uf : UH} (N : Nat) (u : UH) (x2 : Int32) (s0 : Option Nat) (h : f_X3_next_257 N (ub G) (ug G) a0 u x2 s0 = some uf) : uf.1 = u.1 ∧ uf.2.1 = u.2.1 := by
  unfold f_X3_next_257 at h
  have hq := zz_X3_next_262 (G := G) (a0 := a0) N u x2 s0 h
  exact ⟨by omega, by omega⟩
set_option maxHeartbeats 4000000 in
set_option maxRecDepth 100000 in
theorem w_X3_next_257 {p : Program} {l : Launch} {e : Env} {R : Room} {s : State} {m : MethodId} {args : Array Value} {below : List Frame} {meth : Method} {c : Code} {G : uG} {a0 : Nat} {uf : UH} (hC : uC p s m args meth c G RX3 cX3_next 4 none) (hR : 1 ≤ R.frames ∧ 21 ≤ R.locals) (N : Nat) (u : UH) (x2 : Int32) (s0 : Option Nat) (h : f_X3_next_257 N (ub G) (ug G) a0 u x2 s0 = some uf) {H : Heap} {locs : List Loc} (hP : uP G u H) (hS : va_S (uA G) s.heap H locs) {ls : Array Slot} (hl : lv_has ls 4 [(2, .int x2)]) : W p l e R s m args below meth c H locs 0 0 (MQ below (uQv G uf) args s 0 0 (uA G)) (F0 m 257 ls [va_rf s0]) := by
  obtain ⟨⟨hx, hb, hml, hown, hts⟩, hKK⟩ := id hC
  unfold f_X3_next_257 at h
  refine lv_iload_n hx hb dX3_next_257 rfl (lv_at hl 0 rfl) ?_
  refine lv_goto (tgt := 262) hx hb dX3_next_258 (by decide) ?_
  exact w_X3_next_262 hC hR N u x2 s0 h hP hS (lv_sub hl [] rfl)
def f_X3_next_213 (N b : Nat) (g : uEnv) (a0 : Nat) (u : UH) (s0 : Int32) (s1 : Option Nat) : Option (UH) :=
    (s1).bind fun a1 =>
    (uPut b u a1 2 6 (.int s0)).bind fun u2 =>
    f_X3_next_265 N b g a0 u2
set_option maxHeartbeats 4000000 in
set_option maxRecDepth 100000 in
theorem zz_X3_next_213 {G : uG} {a0 : Nat} {uf : UH} (N : Nat) (u : UH) (s0 : Int32) (s1 : Option Nat) (h : f_X3_next_213 N (ub G) (ug G) a0 u s0 s1 = some uf) : uf.1 = u.1 ∧ uf.2.1 = u.2.1 := by
  unfold f_X3_next_213 at h
  obtain ⟨a1, ha1, hha1⟩ := mbind_n h
  subst ha1
  have h := hha1
  obtain ⟨u2, hu2, h⟩ := mbind_n h
  have zu2 := uPut_sz hu2
  have hq := zz_X3_next_265 (G := G) (a0 := a0) N u2 h
  exact ⟨by omega, by omega⟩
set_option maxHeartbeats 4000000 in
set_option maxRecDepth 100000 in
theorem w_X3_next_213 {p : Program} {l : Launch} {e : Env} {R : Room} {s : State} {m : MethodId} {args : Array Value} {below : List Frame} {meth : Method} {c : Code} {G : uG} {a0 : Nat} {uf : UH} (hC : uC p s m args meth c G RX3 cX3_next 4 none) (hR : 1 ≤ R.frames ∧ 21 ≤ R.locals) (N : Nat) (u : UH) (s0 : Int32) (s1 : Option Nat) (h : f_X3_next_213 N (ub G) (ug G) a0 u s0 s1 = some uf) {H : Heap} {locs : List Loc} (hP : uP G u H) (hS : va_S (uA G) s.heap H locs) {ls : Array Slot} (hl : lv_has ls 4 []) : W p l e R s m args below meth c H locs 0 0 (MQ below (uQv G uf) args s 0 0 (uA G)) (F0 m 213 ls [.int s0, va_rf s1]) := by
  obtain ⟨⟨hx, hb, hml, hown, hts⟩, hKK⟩ := id hC
  unfold f_X3_next_213 at h
  obtain ⟨a1, ha1, hha1⟩ := mbind_n h
  subst ha1
  have h := hha1
  obtain ⟨u2, hu2, h⟩ := mbind_n h
  have zu2 := uPut_sz hu2
  refine u_put hC hP hS hu2 rfl in_X3 tyX3 tyX3_ok nmX3 (by decide) q1899 (fun _ h => h) rfl (ty := .int) (tyX3_ok 6 (by decide)) rfl rfl dX3_next_213 (fun H locs hP hS => ?_)
  refine lv_goto (tgt := 265) hx hb dX3_next_216 (by decide) ?_
  exact w_X3_next_265 hC hR N u2 h hP hS (lv_sub hl [] rfl)
def f_X3_next_188 (N b : Nat) (g : uEnv) (a0 : Nat) (k152 : UH → Int32 → Int32 → Option (UH)) (u : UH) (x1 : Int32) (x3 : Int32) : Option (UH) :=
    mlet (x3 + 1) fun y1 =>
    mlet (x1 + 1) fun y2 =>
    k152 u y2 y1
set_option maxHeartbeats 4000000 in
set_option maxRecDepth 100000 in
theorem zz_X3_next_188 {G : uG} {a0 : Nat} {uf : UH} (N : Nat) (k152 : UH → Int32 → Int32 → Option (UH)) (hk152 : ∀ (u : UH) (x1 : Int32) (x3 : Int32), k152 u x1 x3 = some uf → uf.1 = u.1 ∧ uf.2.1 = u.2.1) (u : UH) (x1 : Int32) (x3 : Int32) (h : f_X3_next_188 N (ub G) (ug G) a0 k152 u x1 x3 = some uf) : uf.1 = u.1 ∧ uf.2.1 = u.2.1 := by
  unfold f_X3_next_188 at h
  obtain ⟨y1, ey1⟩ : ∃ z : Int32, z = x3 + 1 := ⟨_, rfl⟩
  have h := mlet_at ey1 h
  obtain ⟨y2, ey2⟩ : ∃ z : Int32, z = x1 + 1 := ⟨_, rfl⟩
  have h := mlet_at ey2 h
  have hq := hk152 u y2 y1 h
  exact ⟨by omega, by omega⟩
set_option maxHeartbeats 4000000 in
set_option maxRecDepth 100000 in
theorem w_X3_next_188 {p : Program} {l : Launch} {e : Env} {R : Room} {s : State} {m : MethodId} {args : Array Value} {below : List Frame} {meth : Method} {c : Code} {G : uG} {a0 : Nat} {uf : UH} (hC : uC p s m args meth c G RX3 cX3_next 4 none) (hR : 1 ≤ R.frames ∧ 21 ≤ R.locals) (N : Nat) (k152 : UH → Int32 → Int32 → Option (UH)) (hk152 : ∀ (u : UH) (x1 : Int32) (x3 : Int32), k152 u x1 x3 = some uf → ∀ (H : Heap) (locs : List Loc), uP G u H → va_S (uA G) s.heap H locs → ∀ ls : Array Slot, lv_has ls 4 [(0, va_rf (some a0)), (1, .int x1), (3, .int x3)] → W p l e R s m args below meth c H locs 0 0 (MQ below (uQv G uf) args s 0 0 (uA G)) (F0 m 152 ls [])) (u : UH) (x1 : Int32) (x3 : Int32) (h : f_X3_next_188 N (ub G) (ug G) a0 k152 u x1 x3 = some uf) {H : Heap} {locs : List Loc} (hP : uP G u H) (hS : va_S (uA G) s.heap H locs) {ls : Array Slot} (hl : lv_has ls 4 [(0, va_rf (some a0)), (1, .int x1), (3, .int x3)]) : W p l e R s m args below meth c H locs 0 0 (MQ below (uQv G uf) args s 0 0 (uA G)) (F0 m 188 ls []) := by
  obtain ⟨⟨hx, hb, hml, hown, hts⟩, hKK⟩ := id hC
  unfold f_X3_next_188 at h
  obtain ⟨y1, ey1⟩ : ∃ z : Int32, z = x3 + 1 := ⟨_, rfl⟩
  have h := mlet_at ey1 h
  refine lv_iinc (v := y1) (lv' := [(3, .int y1), (0, va_rf (some a0)), (1, .int x1)]) hx hb dX3_next_188 hl (k := 2) rfl (by rw [ey1]; rfl) (by decide) rfl (fun ls hl => ?_)
  obtain ⟨y2, ey2⟩ : ∃ z : Int32, z = x1 + 1 := ⟨_, rfl⟩
  have h := mlet_at ey2 h
  refine lv_iinc (v := y2) (lv' := [(1, .int y2), (3, .int y1), (0, va_rf (some a0))]) hx hb dX3_next_191 hl (k := 2) rfl (by rw [ey2]; rfl) (by decide) rfl (fun ls hl => ?_)
  refine lv_goto (tgt := 152) hx hb dX3_next_194 (by decide) ?_
  exact hk152 u y2 y1 h _ _ hP hS _ (lv_sub hl [2, 0, 1] rfl)
def f_X3_next_152 (N b : Nat) (g : uEnv) (a0 : Nat) : Nat → UH → Int32 → Int32 → Option (UH)
  | 0, _, _, _ => none
  | n + 1, u, x1, x3 =>
    if uIs u a0 2 = true then
    ucall (f_X3_look N b g u a0 x1) fun r4 u2 =>
    ucall (f_X3_isDigit N b g u2 r4) fun r7 u5 =>
    if r7 = 0 then
    (uPut b u5 a0 2 5 (.int x1)).bind fun u9 =>
    if x3 ≤ 4 then
    f_X3_next_213 N b g a0 u9 3 (some a0)
    else
    f_X3_next_213 N b g a0 u9 1 (some a0)
    else
    if 4 ≤ x3 then
    f_X3_next_188 N b g a0 (f_X3_next_152 N b g a0 n) u5 x1 x3
    else
    (uGI u5 a0 2 7).bind fun y12 =>
    if uIs u5 a0 2 = true then
    ucall (f_X3_look N b g u5 a0 x1) fun r16 u14 =>
    (uPut b u14 a0 2 7 (.int (((10 * y12) + r16) - 48))).bind fun u17 =>
    f_X3_next_188 N b g a0 (f_X3_next_152 N b g a0 n) u17 x1 x3
    else none
    else none
set_option maxHeartbeats 4000000 in
set_option maxRecDepth 100000 in
theorem zz_X3_next_152 {G : uG} {a0 : Nat} {uf : UH} (N : Nat) : ∀ (n : Nat) (u : UH) (x1 : Int32) (x3 : Int32), f_X3_next_152 N (ub G) (ug G) a0 n u x1 x3 = some uf → uf.1 = u.1 ∧ uf.2.1 = u.2.1 := by
  intro n
  induction n with
  | zero =>
    intro u x1 x3 h
    cases h
  | succ n ih =>
    intro u x1 x3 h
    unfold f_X3_next_152 at h
    obtain ⟨c1, h⟩ := mif_n h
    obtain ⟨r4, u2, c3, h⟩ := ucall_n h
    have zu2 := zz_X3_look N (ub G) (ug G) u a0 x1 r4 u2 c3
    obtain ⟨r7, u5, c6, h⟩ := ucall_n h
    have zu5 := zz_X3_isDigit N (ub G) (ug G) u2 r4 r7 u5 c6
    by_cases c8 : r7 = 0
    · have h := mif_t c8 h
      obtain ⟨u9, hu9, h⟩ := mbind_n h
      have zu9 := uPut_sz hu9
      by_cases c10 : x3 ≤ 4
      · have h := mif_t c10 h
        have hq := zz_X3_next_213 (G := G) (a0 := a0) N u9 3 (some a0) h
        exact ⟨by omega, by omega⟩
      · have h := mif_f c10 h
        have hq := zz_X3_next_213 (G := G) (a0 := a0) N u9 1 (some a0) h
        exact ⟨by omega, by omega⟩
    · have h := mif_f c8 h
      by_cases c11 : 4 ≤ x3
      · have h := mif_t c11 h
        have hq := zz_X3_next_188 (G := G) (a0 := a0) N (f_X3_next_152 N (ub G) (ug G) a0 n) ih u5 x1 x3 h
        exact ⟨by omega, by omega⟩
      · have h := mif_f c11 h
        obtain ⟨y12, hy12, h⟩ := mbind_n h
        obtain ⟨c13, h⟩ := mif_n h
        obtain ⟨r16, u14, c15, h⟩ := ucall_n h
        have zu14 := zz_X3_look N (ub G) (ug G) u5 a0 x1 r16 u14 c15
        obtain ⟨u17, hu17, h⟩ := mbind_n h
        have zu17 := uPut_sz hu17
        have hq := zz_X3_next_188 (G := G) (a0 := a0) N (f_X3_next_152 N (ub G) (ug G) a0 n) ih u17 x1 x3 h
        exact ⟨by omega, by omega⟩
set_option maxHeartbeats 4000000 in
set_option maxRecDepth 100000 in
theorem w_X3_next_152 {p : Program} {l : Launch} {e : Env} {R : Room} {s : State} {m : MethodId} {args : Array Value} {below : List Frame} {meth : Method} {c : Code} {G : uG} {a0 : Nat} {uf : UH} (hC : uC p s m args meth c G RX3 cX3_next 4 none) (hR : 1 ≤ R.frames ∧ 21 ≤ R.locals) (N : Nat) : ∀ (n : Nat) (u : UH) (x1 : Int32) (x3 : Int32), f_X3_next_152 N (ub G) (ug G) a0 n u x1 x3 = some uf → ∀ (H : Heap) (locs : List Loc), uP G u H → va_S (uA G) s.heap H locs → ∀ ls : Array Slot, lv_has ls 4 [(0, va_rf (some a0)), (1, .int x1), (3, .int x3)] → W p l e R s m args below meth c H locs 0 0 (MQ below (uQv G uf) args s 0 0 (uA G)) (F0 m 152 ls []) := by
  obtain ⟨⟨hx, hb, hml, hown, hts⟩, hKK⟩ := id hC
  intro n
  induction n with
  | zero =>
    intro u x1 x3 h
    cases h
  | succ n ih =>
    intro u x1 x3 h H locs hP hS ls hl
    unfold f_X3_next_152 at h
    refine u_aload_n (r := some a0) hx hb dX3_next_152 rfl (lv_at hl 0 rfl) ?_
    refine lv_iload_n hx hb dX3_next_153 rfl (lv_at hl 1 rfl) ?_
    obtain ⟨c1, h⟩ := mif_n h
    obtain ⟨r4, u2, c3, h⟩ := ucall_n h
    have zu2 := zz_X3_look N (ub G) (ug G) u a0 x1 r4 u2 c3
    refine u_calli (va_runV (As := [.int x1]) (rest := []) hC.1 (met_X3_look l N G u a0 x1 r4 u2 c3) (cwV 1 hts (lw_V q2158 q2160 qs46 q103 q2161) rfl rfl rfl (by decide +kernel) ⟨Nat.le_trans (Nat.le_of_ble_eq_true rfl) hR.1, Nat.le_trans (Nat.le_of_ble_eq_true rfl) hR.2⟩) ⟨uPc_blind, u_rcv hC hP c1 rfl, fun U hU hW => u_pre hC hP hS hU hW⟩ rfl rfl hl.1 rfl (lv_room (Nat.le_of_ble_eq_true rfl)) dX3_next_154 ⟨Nat.zero_le _, Nat.zero_le _⟩) hS (fun H locs hP hS => ?_)
    obtain ⟨r7, u5, c6, h⟩ := ucall_n h
    have zu5 := zz_X3_isDigit N (ub G) (ug G) u2 r4 r7 u5 c6
    refine u_calli (va_runS (As := [.int r4]) (rest := []) hC.1 (met_X3_isDigit l N G u2 r4 r7 u5 c6) (va_cwS 1 hts (lw_S q2165 q2166 q103 q2167) rfl rfl rfl (by decide +kernel) ⟨Nat.le_trans (Nat.le_of_ble_eq_true rfl) hR.1, Nat.le_trans (Nat.le_of_ble_eq_true rfl) hR.2⟩) ⟨uPc_blind, fun U hU hW => u_pre hC hP hS hU hW⟩ rfl rfl hl.1 rfl (lv_room (Nat.le_of_ble_eq_true rfl)) dX3_next_157 ⟨Nat.zero_le _, Nat.zero_le _⟩) hS (fun H locs hP hS => ?_)
    refine lv_if_eq (tgt := 197) hx hb dX3_next_160 (by decide) (fun c8 => ?_) (fun c8 => ?_)
    · have h := mif_t c8 h
      refine u_aload_n (r := some a0) hx hb dX3_next_197 rfl (lv_at hl 0 rfl) ?_
      refine lv_iload_n hx hb dX3_next_198 rfl (lv_at hl 1 rfl) ?_
      obtain ⟨u9, hu9, h⟩ := mbind_n h
      have zu9 := uPut_sz hu9
      refine u_put hC hP hS hu9 rfl in_X3 tyX3 tyX3_ok nmX3 (by decide) q1898 (fun _ h => h) rfl (ty := .int) (tyX3_ok 5 (by decide)) rfl rfl dX3_next_199 (fun H locs hP hS => ?_)
      refine u_aload_n (r := some a0) hx hb dX3_next_202 rfl (lv_at hl 0 rfl) ?_
      refine lv_iload_n hx hb dX3_next_203 rfl (lv_at hl 2 rfl) ?_
      refine lv_iconst (v := 4) hx hb dX3_next_204 (by decide) ?_
      refine lv_icmp_le (tgt := 212) hx hb dX3_next_205 (by decide) (fun c10 => ?_) (fun c10 => ?_)
      · have h := mif_t c10 h
        refine lv_iconst (v := 3) hx hb dX3_next_212 (by decide) ?_
        exact w_X3_next_213 hC hR N u9 3 (some a0) h hP hS (lv_sub hl [] rfl)
      · have h := mif_f c10 h
        refine lv_iconst (v := 1) hx hb dX3_next_208 (by decide) ?_
        refine lv_goto (tgt := 213) hx hb dX3_next_209 (by decide) ?_
        exact w_X3_next_213 hC hR N u9 1 (some a0) h hP hS (lv_sub hl [] rfl)
    · have h := mif_f c8 h
      refine lv_iload_n hx hb dX3_next_163 rfl (lv_at hl 2 rfl) ?_
      refine lv_iconst (v := 4) hx hb dX3_next_164 (by decide) ?_
      refine lv_icmp_ge (tgt := 188) hx hb dX3_next_165 (by decide) (fun c11 => ?_) (fun c11 => ?_)
      · have h := mif_t c11 h
        exact w_X3_next_188 hC hR N (f_X3_next_152 N (ub G) (ug G) a0 n) ih u5 x1 x3 h hP hS (lv_sub hl [0, 1, 2] rfl)
      · have h := mif_f c11 h
        refine u_aload_n (r := some a0) hx hb dX3_next_168 rfl (lv_at hl 0 rfl) ?_
        refine lv_bipush (v := 10) hx hb dX3_next_169 (by decide) ?_
        refine u_aload_n (r := some a0) hx hb dX3_next_171 rfl (lv_at hl 0 rfl) ?_
        obtain ⟨y12, hy12, h⟩ := mbind_n h
        refine u_get hC hP (uGI_n hy12) rfl in_X3 (by decide) q1900 (fun _ h => h) dX3_next_172 ?_
        refine lv_imul hx hb dX3_next_175 ?_
        refine u_aload_n (r := some a0) hx hb dX3_next_176 rfl (lv_at hl 0 rfl) ?_
        refine lv_iload_n hx hb dX3_next_177 rfl (lv_at hl 1 rfl) ?_
        obtain ⟨c13, h⟩ := mif_n h
        obtain ⟨r16, u14, c15, h⟩ := ucall_n h
        have zu14 := zz_X3_look N (ub G) (ug G) u5 a0 x1 r16 u14 c15
        refine u_calli (va_runV (As := [.int x1]) (rest := [.int (10 * y12), va_rf (some a0)]) hC.1 (met_X3_look l N G u5 a0 x1 r16 u14 c15) (cwV 1 hts (lw_V q2158 q2160 qs46 q103 q2161) rfl rfl rfl (by decide +kernel) ⟨Nat.le_trans (Nat.le_of_ble_eq_true rfl) hR.1, Nat.le_trans (Nat.le_of_ble_eq_true rfl) hR.2⟩) ⟨uPc_blind, u_rcv hC hP c13 rfl, fun U hU hW => u_pre hC hP hS hU hW⟩ rfl rfl hl.1 rfl (lv_room (Nat.le_of_ble_eq_true rfl)) dX3_next_178 ⟨Nat.zero_le _, Nat.zero_le _⟩) hS (fun H locs hP hS => ?_)
        refine lv_iadd hx hb dX3_next_181 ?_
        refine lv_bipush (v := 48) hx hb dX3_next_182 (by decide) ?_
        refine lv_isub hx hb dX3_next_184 ?_
        obtain ⟨u17, hu17, h⟩ := mbind_n h
        have zu17 := uPut_sz hu17
        refine u_put hC hP hS hu17 rfl in_X3 tyX3 tyX3_ok nmX3 (by decide) q1900 (fun _ h => h) rfl (ty := .int) (tyX3_ok 7 (by decide)) rfl rfl dX3_next_185 (fun H locs hP hS => ?_)
        exact w_X3_next_188 hC hR N (f_X3_next_152 N (ub G) (ug G) a0 n) ih u17 x1 x3 h hP hS (lv_sub hl [0, 1, 2] rfl)
def f_X3_next_137 (N b : Nat) (g : uEnv) (a0 : Nat) (u : UH) (s0 : Int32) (s1 : Option Nat) : Option (UH) :=
    (s1).bind fun a1 =>
    (uPut b u a1 2 6 (.int s0)).bind fun u2 =>
    f_X3_next_265 N b g a0 u2
set_option maxHeartbeats 4000000 in
set_option maxRecDepth 100000 in
theorem zz_X3_next_137 {G : uG} {a0 : Nat} {uf : UH} (N : Nat) (u : UH) (s0 : Int32) (s1 : Option Nat) (h : f_X3_next_137 N (ub G) (ug G) a0 u s0 s1 = some uf) : uf.1 = u.1 ∧ uf.2.1 = u.2.1 := by
  unfold f_X3_next_137 at h
  obtain ⟨a1, ha1, hha1⟩ := mbind_n h
  subst ha1
  have h := hha1
  obtain ⟨u2, hu2, h⟩ := mbind_n h
  have zu2 := uPut_sz hu2
  have hq := zz_X3_next_265 (G := G) (a0 := a0) N u2 h
  exact ⟨by omega, by omega⟩
set_option maxHeartbeats 4000000 in
set_option maxRecDepth 100000 in
theorem w_X3_next_137 {p : Program} {l : Launch} {e : Env} {R : Room} {s : State} {m : MethodId} {args : Array Value} {below : List Frame} {meth : Method} {c : Code} {G : uG} {a0 : Nat} {uf : UH} (hC : uC p s m args meth c G RX3 cX3_next 4 none) (hR : 1 ≤ R.frames ∧ 21 ≤ R.locals) (N : Nat) (u : UH) (s0 : Int32) (s1 : Option Nat) (h : f_X3_next_137 N (ub G) (ug G) a0 u s0 s1 = some uf) {H : Heap} {locs : List Loc} (hP : uP G u H) (hS : va_S (uA G) s.heap H locs) {ls : Array Slot} (hl : lv_has ls 4 []) : W p l e R s m args below meth c H locs 0 0 (MQ below (uQv G uf) args s 0 0 (uA G)) (F0 m 137 ls [.int s0, va_rf s1]) := by
  obtain ⟨⟨hx, hb, hml, hown, hts⟩, hKK⟩ := id hC
  unfold f_X3_next_137 at h
  obtain ⟨a1, ha1, hha1⟩ := mbind_n h
  subst ha1
  have h := hha1
  obtain ⟨u2, hu2, h⟩ := mbind_n h
  have zu2 := uPut_sz hu2
  refine u_put hC hP hS hu2 rfl in_X3 tyX3 tyX3_ok nmX3 (by decide) q1899 (fun _ h => h) rfl (ty := .int) (tyX3_ok 6 (by decide)) rfl rfl dX3_next_137 (fun H locs hP hS => ?_)
  refine lv_goto (tgt := 265) hx hb dX3_next_140 (by decide) ?_
  exact w_X3_next_265 hC hR N u2 h hP hS (lv_sub hl [] rfl)
def f_X3_next_101 (N b : Nat) (g : uEnv) (a0 : Nat) (k67 : UH → Int32 → Option (UH)) (u : UH) (x1 : Int32) : Option (UH) :=
    (uGI u a0 2 8).bind fun y1 =>
    (uPut b u a0 2 8 (.int (y1 + 1))).bind fun u2 =>
    mlet (x1 + 1) fun y3 =>
    k67 u2 y3
set_option maxHeartbeats 4000000 in
set_option maxRecDepth 100000 in
theorem zz_X3_next_101 {G : uG} {a0 : Nat} {uf : UH} (N : Nat) (k67 : UH → Int32 → Option (UH)) (hk67 : ∀ (u : UH) (x1 : Int32), k67 u x1 = some uf → uf.1 = u.1 ∧ uf.2.1 = u.2.1) (u : UH) (x1 : Int32) (h : f_X3_next_101 N (ub G) (ug G) a0 k67 u x1 = some uf) : uf.1 = u.1 ∧ uf.2.1 = u.2.1 := by
  unfold f_X3_next_101 at h
  obtain ⟨y1, hy1, h⟩ := mbind_n h
  obtain ⟨u2, hu2, h⟩ := mbind_n h
  have zu2 := uPut_sz hu2
  obtain ⟨y3, ey3⟩ : ∃ z : Int32, z = x1 + 1 := ⟨_, rfl⟩
  have h := mlet_at ey3 h
  have hq := hk67 u2 y3 h
  exact ⟨by omega, by omega⟩
set_option maxHeartbeats 4000000 in
set_option maxRecDepth 100000 in
theorem w_X3_next_101 {p : Program} {l : Launch} {e : Env} {R : Room} {s : State} {m : MethodId} {args : Array Value} {below : List Frame} {meth : Method} {c : Code} {G : uG} {a0 : Nat} {uf : UH} (hC : uC p s m args meth c G RX3 cX3_next 4 none) (hR : 1 ≤ R.frames ∧ 21 ≤ R.locals) (N : Nat) (k67 : UH → Int32 → Option (UH)) (hk67 : ∀ (u : UH) (x1 : Int32), k67 u x1 = some uf → ∀ (H : Heap) (locs : List Loc), uP G u H → va_S (uA G) s.heap H locs → ∀ ls : Array Slot, lv_has ls 4 [(0, va_rf (some a0)), (1, .int x1)] → W p l e R s m args below meth c H locs 0 0 (MQ below (uQv G uf) args s 0 0 (uA G)) (F0 m 67 ls [])) (u : UH) (x1 : Int32) (h : f_X3_next_101 N (ub G) (ug G) a0 k67 u x1 = some uf) {H : Heap} {locs : List Loc} (hP : uP G u H) (hS : va_S (uA G) s.heap H locs) {ls : Array Slot} (hl : lv_has ls 4 [(0, va_rf (some a0)), (1, .int x1)]) : W p l e R s m args below meth c H locs 0 0 (MQ below (uQv G uf) args s 0 0 (uA G)) (F0 m 101 ls []) := by
  obtain ⟨⟨hx, hb, hml, hown, hts⟩, hKK⟩ := id hC
  unfold f_X3_next_101 at h
  refine u_aload_n (r := some a0) hx hb dX3_next_101 rfl (lv_at hl 0 rfl) ?_
  refine lv_dup hx hb dX3_next_102 (u_cat _) ?_
  obtain ⟨y1, hy1, h⟩ := mbind_n h
  refine u_get hC hP (uGI_n hy1) rfl in_X3 (by decide) q1901 (fun _ h => h) dX3_next_103 ?_
  refine lv_iconst (v := 1) hx hb dX3_next_106 (by decide) ?_
  refine lv_iadd hx hb dX3_next_107 ?_
  obtain ⟨u2, hu2, h⟩ := mbind_n h
  have zu2 := uPut_sz hu2
  refine u_put hC hP hS hu2 rfl in_X3 tyX3 tyX3_ok nmX3 (by decide) q1901 (fun _ h => h) rfl (ty := .int) (tyX3_ok 8 (by decide)) rfl rfl dX3_next_108 (fun H locs hP hS => ?_)
  obtain ⟨y3, ey3⟩ : ∃ z : Int32, z = x1 + 1 := ⟨_, rfl⟩
  have h := mlet_at ey3 h
  refine lv_iinc (v := y3) (lv' := [(1, .int y3), (0, va_rf (some a0))]) hx hb dX3_next_111 hl (k := 1) rfl (by rw [ey3]; rfl) (by decide) rfl (fun ls hl => ?_)
  refine lv_goto (tgt := 67) hx hb dX3_next_114 (by decide) ?_
  exact hk67 u2 y3 h _ _ hP hS _ (lv_sub hl [1, 0] rfl)
def f_X3_next_67 (N b : Nat) (g : uEnv) (a0 : Nat) : Nat → UH → Int32 → Option (UH)
  | 0, _, _ => none
  | n + 1, u, x1 =>
    if uIs u a0 2 = true then
    ucall (f_X3_look N b g u a0 x1) fun r4 u2 =>
    ucall (f_X3_isSmall N b g u2 r4) fun r7 u5 =>
    if r7 = 0 then
    (uPut b u5 a0 2 5 (.int x1)).bind fun u9 =>
    (uGI u9 a0 2 8).bind fun y10 =>
    if y10 ≤ 8 then
    f_X3_next_137 N b g a0 u9 2 (some a0)
    else
    f_X3_next_137 N b g a0 u9 1 (some a0)
    else
    (uGI u5 a0 2 8).bind fun y12 =>
    if 8 ≤ y12 then
    f_X3_next_101 N b g a0 (f_X3_next_67 N b g a0 n) u5 x1
    else
    (uGR u5 a0 2 11).bind fun o14 =>
    (uGI u5 a0 2 8).bind fun y15 =>
    if uIs u5 a0 2 = true then
    ucall (f_X3_look N b g u5 a0 x1) fun r19 u17 =>
    (o14).bind fun a20 =>
    (uStI b u17 a20 0 y15 r19).bind fun u21 =>
    f_X3_next_101 N b g a0 (f_X3_next_67 N b g a0 n) u21 x1
    else none
    else none
set_option maxHeartbeats 4000000 in
set_option maxRecDepth 100000 in
theorem zz_X3_next_67 {G : uG} {a0 : Nat} {uf : UH} (N : Nat) : ∀ (n : Nat) (u : UH) (x1 : Int32), f_X3_next_67 N (ub G) (ug G) a0 n u x1 = some uf → uf.1 = u.1 ∧ uf.2.1 = u.2.1 := by
  intro n
  induction n with
  | zero =>
    intro u x1 h
    cases h
  | succ n ih =>
    intro u x1 h
    unfold f_X3_next_67 at h
    obtain ⟨c1, h⟩ := mif_n h
    obtain ⟨r4, u2, c3, h⟩ := ucall_n h
    have zu2 := zz_X3_look N (ub G) (ug G) u a0 x1 r4 u2 c3
    obtain ⟨r7, u5, c6, h⟩ := ucall_n h
    have zu5 := zz_X3_isSmall N (ub G) (ug G) u2 r4 r7 u5 c6
    by_cases c8 : r7 = 0
    · have h := mif_t c8 h
      obtain ⟨u9, hu9, h⟩ := mbind_n h
      have zu9 := uPut_sz hu9
      obtain ⟨y10, hy10, h⟩ := mbind_n h
      by_cases c11 : y10 ≤ 8
      · have h := mif_t c11 h
        have hq := zz_X3_next_137 (G := G) (a0 := a0) N u9 2 (some a0) h
        exact ⟨by omega, by omega⟩
      · have h := mif_f c11 h
        have hq := zz_X3_next_137 (G := G) (a0 := a0) N u9 1 (some a0) h
        exact ⟨by omega, by omega⟩
    · have h := mif_f c8 h
      obtain ⟨y12, hy12, h⟩ := mbind_n h
      by_cases c13 : 8 ≤ y12
      · have h := mif_t c13 h
        have hq := zz_X3_next_101 (G := G) (a0 := a0) N (f_X3_next_67 N (ub G) (ug G) a0 n) ih u5 x1 h
        exact ⟨by omega, by omega⟩
      · have h := mif_f c13 h
        obtain ⟨o14, ho14, h⟩ := mbind_n h
        obtain ⟨y15, hy15, h⟩ := mbind_n h
        obtain ⟨c16, h⟩ := mif_n h
        obtain ⟨r19, u17, c18, h⟩ := ucall_n h
        have zu17 := zz_X3_look N (ub G) (ug G) u5 a0 x1 r19 u17 c18
        obtain ⟨a20, ha20, hha20⟩ := mbind_n h
        subst ha20
        have h := hha20
        obtain ⟨u21, hu21, h⟩ := mbind_n h
        have zu21 := uStI_sz hu21
        have hq := zz_X3_next_101 (G := G) (a0 := a0) N (f_X3_next_67 N (ub G) (ug G) a0 n) ih u21 x1 h
        exact ⟨by omega, by omega⟩
set_option maxHeartbeats 4000000 in
set_option maxRecDepth 100000 in
theorem w_X3_next_67 {p : Program} {l : Launch} {e : Env} {R : Room} {s : State} {m : MethodId} {args : Array Value} {below : List Frame} {meth : Method} {c : Code} {G : uG} {a0 : Nat} {uf : UH} (hC : uC p s m args meth c G RX3 cX3_next 4 none) (hR : 1 ≤ R.frames ∧ 21 ≤ R.locals) (N : Nat) : ∀ (n : Nat) (u : UH) (x1 : Int32), f_X3_next_67 N (ub G) (ug G) a0 n u x1 = some uf → ∀ (H : Heap) (locs : List Loc), uP G u H → va_S (uA G) s.heap H locs → ∀ ls : Array Slot, lv_has ls 4 [(0, va_rf (some a0)), (1, .int x1)] → W p l e R s m args below meth c H locs 0 0 (MQ below (uQv G uf) args s 0 0 (uA G)) (F0 m 67 ls []) := by
  obtain ⟨⟨hx, hb, hml, hown, hts⟩, hKK⟩ := id hC
  intro n
  induction n with
  | zero =>
    intro u x1 h
    cases h
  | succ n ih =>
    intro u x1 h H locs hP hS ls hl
    unfold f_X3_next_67 at h
    refine u_aload_n (r := some a0) hx hb dX3_next_67 rfl (lv_at hl 0 rfl) ?_
    refine lv_iload_n hx hb dX3_next_68 rfl (lv_at hl 1 rfl) ?_
    obtain ⟨c1, h⟩ := mif_n h
    obtain ⟨r4, u2, c3, h⟩ := ucall_n h
    have zu2 := zz_X3_look N (ub G) (ug G) u a0 x1 r4 u2 c3
    refine u_calli (va_runV (As := [.int x1]) (rest := []) hC.1 (met_X3_look l N G u a0 x1 r4 u2 c3) (cwV 1 hts (lw_V q2158 q2160 qs46 q103 q2161) rfl rfl rfl (by decide +kernel) ⟨Nat.le_trans (Nat.le_of_ble_eq_true rfl) hR.1, Nat.le_trans (Nat.le_of_ble_eq_true rfl) hR.2⟩) ⟨uPc_blind, u_rcv hC hP c1 rfl, fun U hU hW => u_pre hC hP hS hU hW⟩ rfl rfl hl.1 rfl (lv_room (Nat.le_of_ble_eq_true rfl)) dX3_next_69 ⟨Nat.zero_le _, Nat.zero_le _⟩) hS (fun H locs hP hS => ?_)
    obtain ⟨r7, u5, c6, h⟩ := ucall_n h
    have zu5 := zz_X3_isSmall N (ub G) (ug G) u2 r4 r7 u5 c6
    refine u_calli (va_runS (As := [.int r4]) (rest := []) hC.1 (met_X3_isSmall l N G u2 r4 r7 u5 c6) (va_cwS 1 hts (lw_S q2162 q2163 q103 q2164) rfl rfl rfl (by decide +kernel) ⟨Nat.le_trans (Nat.le_of_ble_eq_true rfl) hR.1, Nat.le_trans (Nat.le_of_ble_eq_true rfl) hR.2⟩) ⟨uPc_blind, fun U hU hW => u_pre hC hP hS hU hW⟩ rfl rfl hl.1 rfl (lv_room (Nat.le_of_ble_eq_true rfl)) dX3_next_72 ⟨Nat.zero_le _, Nat.zero_le _⟩) hS (fun H locs hP hS => ?_)
    refine lv_if_eq (tgt := 117) hx hb dX3_next_75 (by decide) (fun c8 => ?_) (fun c8 => ?_)
    · have h := mif_t c8 h
      refine u_aload_n (r := some a0) hx hb dX3_next_117 rfl (lv_at hl 0 rfl) ?_
      refine lv_iload_n hx hb dX3_next_118 rfl (lv_at hl 1 rfl) ?_
      obtain ⟨u9, hu9, h⟩ := mbind_n h
      have zu9 := uPut_sz hu9
      refine u_put hC hP hS hu9 rfl in_X3 tyX3 tyX3_ok nmX3 (by decide) q1898 (fun _ h => h) rfl (ty := .int) (tyX3_ok 5 (by decide)) rfl rfl dX3_next_119 (fun H locs hP hS => ?_)
      refine u_aload_n (r := some a0) hx hb dX3_next_122 rfl (lv_at hl 0 rfl) ?_
      refine u_aload_n (r := some a0) hx hb dX3_next_123 rfl (lv_at hl 0 rfl) ?_
      obtain ⟨y10, hy10, h⟩ := mbind_n h
      refine u_get hC hP (uGI_n hy10) rfl in_X3 (by decide) q1901 (fun _ h => h) dX3_next_124 ?_
      refine lv_bipush (v := 8) hx hb dX3_next_127 (by decide) ?_
      refine lv_icmp_le (tgt := 136) hx hb dX3_next_129 (by decide) (fun c11 => ?_) (fun c11 => ?_)
      · have h := mif_t c11 h
        refine lv_iconst (v := 2) hx hb dX3_next_136 (by decide) ?_
        exact w_X3_next_137 hC hR N u9 2 (some a0) h hP hS (lv_sub hl [] rfl)
      · have h := mif_f c11 h
        refine lv_iconst (v := 1) hx hb dX3_next_132 (by decide) ?_
        refine lv_goto (tgt := 137) hx hb dX3_next_133 (by decide) ?_
        exact w_X3_next_137 hC hR N u9 1 (some a0) h hP hS (lv_sub hl [] rfl)
    · have h := mif_f c8 h
      refine u_aload_n (r := some a0) hx hb dX3_next_78 rfl (lv_at hl 0 rfl) ?_
      obtain ⟨y12, hy12, h⟩ := mbind_n h
      refine u_get hC hP (uGI_n hy12) rfl in_X3 (by decide) q1901 (fun _ h => h) dX3_next_79 ?_
      refine lv_bipush (v := 8) hx hb dX3_next_82 (by decide) ?_
      refine lv_icmp_ge (tgt := 101) hx hb dX3_next_84 (by decide) (fun c13 => ?_) (fun c13 => ?_)
      · have h := mif_t c13 h
        exact w_X3_next_101 hC hR N (f_X3_next_67 N (ub G) (ug G) a0 n) ih u5 x1 h hP hS (lv_sub hl [0, 1] rfl)
      · have h := mif_f c13 h
        refine u_aload_n (r := some a0) hx hb dX3_next_87 rfl (lv_at hl 0 rfl) ?_
        obtain ⟨o14, ho14, h⟩ := mbind_n h
        refine u_get hC hP (uGR_n ho14) rfl in_X3 (by decide) q1904 (fun _ h => h) dX3_next_88 ?_
        refine u_aload_n (r := some a0) hx hb dX3_next_91 rfl (lv_at hl 0 rfl) ?_
        obtain ⟨y15, hy15, h⟩ := mbind_n h
        refine u_get hC hP (uGI_n hy15) rfl in_X3 (by decide) q1901 (fun _ h => h) dX3_next_92 ?_
        refine u_aload_n (r := some a0) hx hb dX3_next_95 rfl (lv_at hl 0 rfl) ?_
        refine lv_iload_n hx hb dX3_next_96 rfl (lv_at hl 1 rfl) ?_
        obtain ⟨c16, h⟩ := mif_n h
        obtain ⟨r19, u17, c18, h⟩ := ucall_n h
        have zu17 := zz_X3_look N (ub G) (ug G) u5 a0 x1 r19 u17 c18
        refine u_calli (va_runV (As := [.int x1]) (rest := [.int y15, va_rf o14]) hC.1 (met_X3_look l N G u5 a0 x1 r19 u17 c18) (cwV 1 hts (lw_V q2158 q2160 qs46 q103 q2161) rfl rfl rfl (by decide +kernel) ⟨Nat.le_trans (Nat.le_of_ble_eq_true rfl) hR.1, Nat.le_trans (Nat.le_of_ble_eq_true rfl) hR.2⟩) ⟨uPc_blind, u_rcv hC hP c16 rfl, fun U hU hW => u_pre hC hP hS hU hW⟩ rfl rfl hl.1 rfl (lv_room (by simp only [List.map, u_cat]; exact Nat.le_of_ble_eq_true rfl)) dX3_next_97 ⟨Nat.zero_le _, Nat.zero_le _⟩) hS (fun H locs hP hS => ?_)
        obtain ⟨a20, ha20, hha20⟩ := mbind_n h
        subst ha20
        have h := hha20
        obtain ⟨u21, hu21, h⟩ := mbind_n h
        have zu21 := uStI_sz hu21
        refine u_iast hC hP hS hu21 rfl dX3_next_100 (fun H locs hP hS => ?_)
        exact w_X3_next_101 hC hR N (f_X3_next_67 N (ub G) (ug G) a0 n) ih u21 x1 h hP hS (lv_sub hl [0, 1] rfl)
def f_X3_next_5 (N b : Nat) (g : uEnv) (a0 : Nat) : Nat → UH → Int32 → Option (UH)
  | 0, _, _ => none
  | n + 1, u, x1 =>
    if uIs u a0 2 = true then
    ucall (f_X3_look N b g u a0 x1) fun r4 u2 =>
    if r4 = 32 then
    mlet (x1 + 1) fun y30 =>
    f_X3_next_5 N b g a0 n u2 y30
    else
    (uPut b u2 a0 2 4 (.int x1)).bind fun u6 =>
    if uIs u6 a0 2 = true then
    ucall (f_X3_look N b g u6 a0 x1) fun r10 u8 =>
    (uPut b u8 a0 2 8 (.int 0)).bind fun u11 =>
    (uPut b u11 a0 2 7 (.int 0)).bind fun u12 =>
    if r10 = (-1) then
    (uPut b u12 a0 2 6 (.int 0)).bind fun u28 =>
    (uPut b u28 a0 2 5 (.int x1)).bind fun u29 =>
    f_X3_next_265 N b g a0 u29
    else
    ucall (f_X3_isSmall N b g u12 r10) fun r16 u14 =>
    if r16 = 0 then
    ucall (f_X3_isDigit N b g u14 r10) fun r20 u18 =>
    if r20 = 0 then
    (uPut b u18 a0 2 5 (.int (x1 + 1))).bind fun u22 =>
    if r10 = 59 then
    f_X3_next_257 N b g a0 u22 r10 (some a0)
    else
    if r10 = 44 then
    f_X3_next_257 N b g a0 u22 r10 (some a0)
    else
    if r10 = 45 then
    f_X3_next_257 N b g a0 u22 r10 (some a0)
    else
    if r10 = 40 then
    f_X3_next_257 N b g a0 u22 r10 (some a0)
    else
    if r10 = 41 then
    f_X3_next_257 N b g a0 u22 r10 (some a0)
    else
    f_X3_next_262 N b g a0 u22 1 (some a0)
    else
    f_X3_next_152 N b g a0 N u18 x1 0
    else
    f_X3_next_67 N b g a0 N u14 x1
    else none
    else none
set_option maxHeartbeats 4000000 in
set_option maxRecDepth 100000 in
theorem zz_X3_next_5 {G : uG} {a0 : Nat} {uf : UH} (N : Nat) : ∀ (n : Nat) (u : UH) (x1 : Int32), f_X3_next_5 N (ub G) (ug G) a0 n u x1 = some uf → uf.1 = u.1 ∧ uf.2.1 = u.2.1 := by
  intro n
  induction n with
  | zero =>
    intro u x1 h
    cases h
  | succ n ih =>
    intro u x1 h
    unfold f_X3_next_5 at h
    obtain ⟨c1, h⟩ := mif_n h
    obtain ⟨r4, u2, c3, h⟩ := ucall_n h
    have zu2 := zz_X3_look N (ub G) (ug G) u a0 x1 r4 u2 c3
    by_cases c5 : r4 = 32
    · have h := mif_t c5 h
      obtain ⟨y30, ey30⟩ : ∃ z : Int32, z = x1 + 1 := ⟨_, rfl⟩
      have h := mlet_at ey30 h
      have hq := ih u2 y30 h
      exact ⟨by omega, by omega⟩
    · have h := mif_f c5 h
      obtain ⟨u6, hu6, h⟩ := mbind_n h
      have zu6 := uPut_sz hu6
      obtain ⟨c7, h⟩ := mif_n h
      obtain ⟨r10, u8, c9, h⟩ := ucall_n h
      have zu8 := zz_X3_look N (ub G) (ug G) u6 a0 x1 r10 u8 c9
      obtain ⟨u11, hu11, h⟩ := mbind_n h
      have zu11 := uPut_sz hu11
      obtain ⟨u12, hu12, h⟩ := mbind_n h
      have zu12 := uPut_sz hu12
      by_cases c13 : r10 = (-1)
      · have h := mif_t c13 h
        obtain ⟨u28, hu28, h⟩ := mbind_n h
        have zu28 := uPut_sz hu28
        obtain ⟨u29, hu29, h⟩ := mbind_n h
        have zu29 := uPut_sz hu29
        have hq := zz_X3_next_265 (G := G) (a0 := a0) N u29 h
        exact ⟨by omega, by omega⟩
      · have h := mif_f c13 h
        obtain ⟨r16, u14, c15, h⟩ := ucall_n h
        have zu14 := zz_X3_isSmall N (ub G) (ug G) u12 r10 r16 u14 c15
        by_cases c17 : r16 = 0
        · have h := mif_t c17 h
          obtain ⟨r20, u18, c19, h⟩ := ucall_n h
          have zu18 := zz_X3_isDigit N (ub G) (ug G) u14 r10 r20 u18 c19
          by_cases c21 : r20 = 0
          · have h := mif_t c21 h
            obtain ⟨u22, hu22, h⟩ := mbind_n h
            have zu22 := uPut_sz hu22
            by_cases c23 : r10 = 59
            · have h := mif_t c23 h
              have hq := zz_X3_next_257 (G := G) (a0 := a0) N u22 r10 (some a0) h
              exact ⟨by omega, by omega⟩
            · have h := mif_f c23 h
              by_cases c24 : r10 = 44
              · have h := mif_t c24 h
                have hq := zz_X3_next_257 (G := G) (a0 := a0) N u22 r10 (some a0) h
                exact ⟨by omega, by omega⟩
              · have h := mif_f c24 h
                by_cases c25 : r10 = 45
                · have h := mif_t c25 h
                  have hq := zz_X3_next_257 (G := G) (a0 := a0) N u22 r10 (some a0) h
                  exact ⟨by omega, by omega⟩
                · have h := mif_f c25 h
                  by_cases c26 : r10 = 40
                  · have h := mif_t c26 h
                    have hq := zz_X3_next_257 (G := G) (a0 := a0) N u22 r10 (some a0) h
                    exact ⟨by omega, by omega⟩
                  · have h := mif_f c26 h
                    by_cases c27 : r10 = 41
                    · have h := mif_t c27 h
                      have hq := zz_X3_next_257 (G := G) (a0 := a0) N u22 r10 (some a0) h
                      exact ⟨by omega, by omega⟩
                    · have h := mif_f c27 h
                      have hq := zz_X3_next_262 (G := G) (a0 := a0) N u22 1 (some a0) h
                      exact ⟨by omega, by omega⟩
          · have h := mif_f c21 h
            have hq := zz_X3_next_152 (G := G) (a0 := a0) N N u18 x1 0 h
            exact ⟨by omega, by omega⟩
        · have h := mif_f c17 h
          have hq := zz_X3_next_67 (G := G) (a0 := a0) N N u14 x1 h
          exact ⟨by omega, by omega⟩
set_option maxHeartbeats 4000000 in
set_option maxRecDepth 100000 in
theorem w_X3_next_5 {p : Program} {l : Launch} {e : Env} {R : Room} {s : State} {m : MethodId} {args : Array Value} {below : List Frame} {meth : Method} {c : Code} {G : uG} {a0 : Nat} {uf : UH} (hC : uC p s m args meth c G RX3 cX3_next 4 none) (hR : 1 ≤ R.frames ∧ 21 ≤ R.locals) (N : Nat) : ∀ (n : Nat) (u : UH) (x1 : Int32), f_X3_next_5 N (ub G) (ug G) a0 n u x1 = some uf → ∀ (H : Heap) (locs : List Loc), uP G u H → va_S (uA G) s.heap H locs → ∀ ls : Array Slot, lv_has ls 4 [(0, va_rf (some a0)), (1, .int x1)] → W p l e R s m args below meth c H locs 0 0 (MQ below (uQv G uf) args s 0 0 (uA G)) (F0 m 5 ls []) := by
  obtain ⟨⟨hx, hb, hml, hown, hts⟩, hKK⟩ := id hC
  intro n
  induction n with
  | zero =>
    intro u x1 h
    cases h
  | succ n ih =>
    intro u x1 h H locs hP hS ls hl
    unfold f_X3_next_5 at h
    refine u_aload_n (r := some a0) hx hb dX3_next_5 rfl (lv_at hl 0 rfl) ?_
    refine lv_iload_n hx hb dX3_next_6 rfl (lv_at hl 1 rfl) ?_
    obtain ⟨c1, h⟩ := mif_n h
    obtain ⟨r4, u2, c3, h⟩ := ucall_n h
    have zu2 := zz_X3_look N (ub G) (ug G) u a0 x1 r4 u2 c3
    refine u_calli (va_runV (As := [.int x1]) (rest := []) hC.1 (met_X3_look l N G u a0 x1 r4 u2 c3) (cwV 1 hts (lw_V q2158 q2160 qs46 q103 q2161) rfl rfl rfl (by decide +kernel) ⟨Nat.le_trans (Nat.le_of_ble_eq_true rfl) hR.1, Nat.le_trans (Nat.le_of_ble_eq_true rfl) hR.2⟩) ⟨uPc_blind, u_rcv hC hP c1 rfl, fun U hU hW => u_pre hC hP hS hU hW⟩ rfl rfl hl.1 rfl (lv_room (Nat.le_of_ble_eq_true rfl)) dX3_next_7 ⟨Nat.zero_le _, Nat.zero_le _⟩) hS (fun H locs hP hS => ?_)
    refine lv_bipush (v := 32) hx hb dX3_next_10 (by decide) ?_
    refine lv_icmp_ne (tgt := 21) hx hb dX3_next_12 (by decide) (fun c5 => ?_) (fun c5 => ?_)
    · have h := mif_f c5 h
      refine u_aload_n (r := some a0) hx hb dX3_next_21 rfl (lv_at hl 0 rfl) ?_
      refine lv_iload_n hx hb dX3_next_22 rfl (lv_at hl 1 rfl) ?_
      obtain ⟨u6, hu6, h⟩ := mbind_n h
      have zu6 := uPut_sz hu6
      refine u_put hC hP hS hu6 rfl in_X3 tyX3 tyX3_ok nmX3 (by decide) q1897 (fun _ h => h) rfl (ty := .int) (tyX3_ok 4 (by decide)) rfl rfl dX3_next_23 (fun H locs hP hS => ?_)
      refine u_aload_n (r := some a0) hx hb dX3_next_26 rfl (lv_at hl 0 rfl) ?_
      refine lv_iload_n hx hb dX3_next_27 rfl (lv_at hl 1 rfl) ?_
      obtain ⟨c7, h⟩ := mif_n h
      obtain ⟨r10, u8, c9, h⟩ := ucall_n h
      have zu8 := zz_X3_look N (ub G) (ug G) u6 a0 x1 r10 u8 c9
      refine u_calli (va_runV (As := [.int x1]) (rest := []) hC.1 (met_X3_look l N G u6 a0 x1 r10 u8 c9) (cwV 1 hts (lw_V q2158 q2160 qs46 q103 q2161) rfl rfl rfl (by decide +kernel) ⟨Nat.le_trans (Nat.le_of_ble_eq_true rfl) hR.1, Nat.le_trans (Nat.le_of_ble_eq_true rfl) hR.2⟩) ⟨uPc_blind, u_rcv hC hP c7 rfl, fun U hU hW => u_pre hC hP hS hU hW⟩ rfl rfl hl.1 rfl (lv_room (Nat.le_of_ble_eq_true rfl)) dX3_next_28 ⟨Nat.zero_le _, Nat.zero_le _⟩) hS (fun H locs hP hS => ?_)
      refine lv_istore_n (i := 2) (lv' := [(2, .int r10), (0, va_rf (some a0)), (1, .int x1)]) hx hb dX3_next_31 rfl hl (by decide) rfl (fun ls hl => ?_)
      refine u_aload_n (r := some a0) hx hb dX3_next_32 rfl (lv_at hl 1 rfl) ?_
      refine lv_iconst (v := 0) hx hb dX3_next_33 (by decide) ?_
      obtain ⟨u11, hu11, h⟩ := mbind_n h
      have zu11 := uPut_sz hu11
      refine u_put hC hP hS hu11 rfl in_X3 tyX3 tyX3_ok nmX3 (by decide) q1901 (fun _ h => h) rfl (ty := .int) (tyX3_ok 8 (by decide)) rfl rfl dX3_next_34 (fun H locs hP hS => ?_)
      refine u_aload_n (r := some a0) hx hb dX3_next_37 rfl (lv_at hl 1 rfl) ?_
      refine lv_iconst (v := 0) hx hb dX3_next_38 (by decide) ?_
      obtain ⟨u12, hu12, h⟩ := mbind_n h
      have zu12 := uPut_sz hu12
      refine u_put hC hP hS hu12 rfl in_X3 tyX3 tyX3_ok nmX3 (by decide) q1900 (fun _ h => h) rfl (ty := .int) (tyX3_ok 7 (by decide)) rfl rfl dX3_next_39 (fun H locs hP hS => ?_)
      refine lv_iload_n hx hb dX3_next_42 rfl (lv_at hl 0 rfl) ?_
      refine lv_iconst (v := (-1)) hx hb dX3_next_43 (by decide) ?_
      refine lv_icmp_ne (tgt := 60) hx hb dX3_next_44 (by decide) (fun c13 => ?_) (fun c13 => ?_)
      · have h := mif_f c13 h
        refine lv_iload_n hx hb dX3_next_60 rfl (lv_at hl 0 rfl) ?_
        obtain ⟨r16, u14, c15, h⟩ := ucall_n h
        have zu14 := zz_X3_isSmall N (ub G) (ug G) u12 r10 r16 u14 c15
        refine u_calli (va_runS (As := [.int r10]) (rest := []) hC.1 (met_X3_isSmall l N G u12 r10 r16 u14 c15) (va_cwS 1 hts (lw_S q2162 q2163 q103 q2164) rfl rfl rfl (by decide +kernel) ⟨Nat.le_trans (Nat.le_of_ble_eq_true rfl) hR.1, Nat.le_trans (Nat.le_of_ble_eq_true rfl) hR.2⟩) ⟨uPc_blind, fun U hU hW => u_pre hC hP hS hU hW⟩ rfl rfl hl.1 rfl (lv_room (Nat.le_of_ble_eq_true rfl)) dX3_next_61 ⟨Nat.zero_le _, Nat.zero_le _⟩) hS (fun H locs hP hS => ?_)
        refine lv_if_eq (tgt := 143) hx hb dX3_next_64 (by decide) (fun c17 => ?_) (fun c17 => ?_)
        · have h := mif_t c17 h
          refine lv_iload_n hx hb dX3_next_143 rfl (lv_at hl 0 rfl) ?_
          obtain ⟨r20, u18, c19, h⟩ := ucall_n h
          have zu18 := zz_X3_isDigit N (ub G) (ug G) u14 r10 r20 u18 c19
          refine u_calli (va_runS (As := [.int r10]) (rest := []) hC.1 (met_X3_isDigit l N G u14 r10 r20 u18 c19) (va_cwS 1 hts (lw_S q2165 q2166 q103 q2167) rfl rfl rfl (by decide +kernel) ⟨Nat.le_trans (Nat.le_of_ble_eq_true rfl) hR.1, Nat.le_trans (Nat.le_of_ble_eq_true rfl) hR.2⟩) ⟨uPc_blind, fun U hU hW => u_pre hC hP hS hU hW⟩ rfl rfl hl.1 rfl (lv_room (Nat.le_of_ble_eq_true rfl)) dX3_next_144 ⟨Nat.zero_le _, Nat.zero_le _⟩) hS (fun H locs hP hS => ?_)
          refine lv_if_eq (tgt := 219) hx hb dX3_next_147 (by decide) (fun c21 => ?_) (fun c21 => ?_)
          · have h := mif_t c21 h
            refine u_aload_n (r := some a0) hx hb dX3_next_219 rfl (lv_at hl 1 rfl) ?_
            refine lv_iload_n hx hb dX3_next_220 rfl (lv_at hl 2 rfl) ?_
            refine lv_iconst (v := 1) hx hb dX3_next_221 (by decide) ?_
            refine lv_iadd hx hb dX3_next_222 ?_
            obtain ⟨u22, hu22, h⟩ := mbind_n h
            have zu22 := uPut_sz hu22
            refine u_put hC hP hS hu22 rfl in_X3 tyX3 tyX3_ok nmX3 (by decide) q1898 (fun _ h => h) rfl (ty := .int) (tyX3_ok 5 (by decide)) rfl rfl dX3_next_223 (fun H locs hP hS => ?_)
            refine u_aload_n (r := some a0) hx hb dX3_next_226 rfl (lv_at hl 1 rfl) ?_
            refine lv_iload_n hx hb dX3_next_227 rfl (lv_at hl 0 rfl) ?_
            refine lv_bipush (v := 59) hx hb dX3_next_228 (by decide) ?_
            refine lv_icmp_eq (tgt := 257) hx hb dX3_next_230 (by decide) (fun c23 => ?_) (fun c23 => ?_)
            · have h := mif_t c23 h
              exact w_X3_next_257 hC hR N u22 r10 (some a0) h hP hS (lv_sub hl [0] rfl)
            · have h := mif_f c23 h
              refine lv_iload_n hx hb dX3_next_233 rfl (lv_at hl 0 rfl) ?_
              refine lv_bipush (v := 44) hx hb dX3_next_234 (by decide) ?_
              refine lv_icmp_eq (tgt := 257) hx hb dX3_next_236 (by decide) (fun c24 => ?_) (fun c24 => ?_)
              · have h := mif_t c24 h
                exact w_X3_next_257 hC hR N u22 r10 (some a0) h hP hS (lv_sub hl [0] rfl)
              · have h := mif_f c24 h
                refine lv_iload_n hx hb dX3_next_239 rfl (lv_at hl 0 rfl) ?_
                refine lv_bipush (v := 45) hx hb dX3_next_240 (by decide) ?_
                refine lv_icmp_eq (tgt := 257) hx hb dX3_next_242 (by decide) (fun c25 => ?_) (fun c25 => ?_)
                · have h := mif_t c25 h
                  exact w_X3_next_257 hC hR N u22 r10 (some a0) h hP hS (lv_sub hl [0] rfl)
                · have h := mif_f c25 h
                  refine lv_iload_n hx hb dX3_next_245 rfl (lv_at hl 0 rfl) ?_
                  refine lv_bipush (v := 40) hx hb dX3_next_246 (by decide) ?_
                  refine lv_icmp_eq (tgt := 257) hx hb dX3_next_248 (by decide) (fun c26 => ?_) (fun c26 => ?_)
                  · have h := mif_t c26 h
                    exact w_X3_next_257 hC hR N u22 r10 (some a0) h hP hS (lv_sub hl [0] rfl)
                  · have h := mif_f c26 h
                    refine lv_iload_n hx hb dX3_next_251 rfl (lv_at hl 0 rfl) ?_
                    refine lv_bipush (v := 41) hx hb dX3_next_252 (by decide) ?_
                    refine lv_icmp_ne (tgt := 261) hx hb dX3_next_254 (by decide) (fun c27 => ?_) (fun c27 => ?_)
                    · have h := mif_f c27 h
                      refine lv_iconst (v := 1) hx hb dX3_next_261 (by decide) ?_
                      exact w_X3_next_262 hC hR N u22 1 (some a0) h hP hS (lv_sub hl [] rfl)
                    · have h := mif_t c27 h
                      exact w_X3_next_257 hC hR N u22 r10 (some a0) h hP hS (lv_sub hl [0] rfl)
          · have h := mif_f c21 h
            refine lv_iconst (v := 0) hx hb dX3_next_150 (by decide) ?_
            refine lv_istore_n (i := 3) (lv' := [(3, .int 0), (2, .int r10), (0, va_rf (some a0)), (1, .int x1)]) hx hb dX3_next_151 rfl hl (by decide) rfl (fun ls hl => ?_)
            exact w_X3_next_152 hC hR N N u18 x1 0 h _ _ hP hS _ (lv_sub hl [2, 3, 0] rfl)
        · have h := mif_f c17 h
          exact w_X3_next_67 hC hR N N u14 x1 h _ _ hP hS _ (lv_sub hl [1, 2] rfl)
      · have h := mif_t c13 h
        refine u_aload_n (r := some a0) hx hb dX3_next_47 rfl (lv_at hl 1 rfl) ?_
        refine lv_iconst (v := 0) hx hb dX3_next_48 (by decide) ?_
        obtain ⟨u28, hu28, h⟩ := mbind_n h
        have zu28 := uPut_sz hu28
        refine u_put hC hP hS hu28 rfl in_X3 tyX3 tyX3_ok nmX3 (by decide) q1899 (fun _ h => h) rfl (ty := .int) (tyX3_ok 6 (by decide)) rfl rfl dX3_next_49 (fun H locs hP hS => ?_)
        refine u_aload_n (r := some a0) hx hb dX3_next_52 rfl (lv_at hl 1 rfl) ?_
        refine lv_iload_n hx hb dX3_next_53 rfl (lv_at hl 2 rfl) ?_
        obtain ⟨u29, hu29, h⟩ := mbind_n h
        have zu29 := uPut_sz hu29
        refine u_put hC hP hS hu29 rfl in_X3 tyX3 tyX3_ok nmX3 (by decide) q1898 (fun _ h => h) rfl (ty := .int) (tyX3_ok 5 (by decide)) rfl rfl dX3_next_54 (fun H locs hP hS => ?_)
        refine lv_goto (tgt := 265) hx hb dX3_next_57 (by decide) ?_
        exact w_X3_next_265 hC hR N u29 h hP hS (lv_sub hl [] rfl)
    · have h := mif_t c5 h
      obtain ⟨y30, ey30⟩ : ∃ z : Int32, z = x1 + 1 := ⟨_, rfl⟩
      have h := mlet_at ey30 h
      refine lv_iinc (v := y30) (lv' := [(1, .int y30), (0, va_rf (some a0))]) hx hb dX3_next_15 hl (k := 1) rfl (by rw [ey30]; rfl) (by decide) rfl (fun ls hl => ?_)
      refine lv_goto (tgt := 5) hx hb dX3_next_18 (by decide) ?_
      exact ih u2 y30 h _ _ hP hS _ (lv_sub hl [1, 0] rfl)
def f_X3_next (N b : Nat) (g : uEnv) (u : UH) (a0 : Nat) : Option (UH) :=
    (uGI u a0 2 5).bind fun y1 =>
    f_X3_next_5 N b g a0 N u y1
set_option maxHeartbeats 4000000 in
set_option maxRecDepth 100000 in
theorem zz_X3_next_0 {G : uG} {a0 : Nat} {uf : UH} (N : Nat) (u : UH) (h : f_X3_next N (ub G) (ug G) u a0 = some uf) : uf.1 = u.1 ∧ uf.2.1 = u.2.1 := by
  unfold f_X3_next at h
  obtain ⟨y1, hy1, h⟩ := mbind_n h
  have hq := zz_X3_next_5 (G := G) (a0 := a0) N N u y1 h
  exact ⟨by omega, by omega⟩
set_option maxHeartbeats 4000000 in
set_option maxRecDepth 100000 in
theorem w_X3_next_0 {p : Program} {l : Launch} {e : Env} {R : Room} {s : State} {m : MethodId} {args : Array Value} {below : List Frame} {meth : Method} {c : Code} {G : uG} {a0 : Nat} {uf : UH} (hC : uC p s m args meth c G RX3 cX3_next 4 none) (hR : 1 ≤ R.frames ∧ 21 ≤ R.locals) (N : Nat) (u : UH) (h : f_X3_next N (ub G) (ug G) u a0 = some uf) {H : Heap} {locs : List Loc} (hP : uP G u H) (hS : va_S (uA G) s.heap H locs) {ls : Array Slot} (hl : lv_has ls 4 [(0, va_rf (some a0))]) : W p l e R s m args below meth c H locs 0 0 (MQ below (uQv G uf) args s 0 0 (uA G)) (F0 m 0 ls []) := by
  obtain ⟨⟨hx, hb, hml, hown, hts⟩, hKK⟩ := id hC
  unfold f_X3_next at h
  refine u_aload_n (r := some a0) hx hb dX3_next_0 rfl (lv_at hl 0 rfl) ?_
  obtain ⟨y1, hy1, h⟩ := mbind_n h
  refine u_get hC hP (uGI_n hy1) rfl in_X3 (by decide) q1898 (fun _ h => h) dX3_next_1 ?_
  refine lv_istore_n (i := 1) (lv' := [(1, .int y1), (0, va_rf (some a0))]) hx hb dX3_next_4 rfl hl (by decide) rfl (fun ls hl => ?_)
  exact w_X3_next_5 hC hR N N u y1 h _ _ hP hS _ (lv_sub hl [1, 0] rfl)
theorem zz_X3_next (N b : Nat) (g : uEnv) (u : UH) (a0 : Nat) (uf : UH) (h : f_X3_next N b g u a0 = some uf) : uf.1 = u.1 ∧ uf.2.1 = u.2.1 :=
  zz_X3_next_0 (G := ((fun _ => 0, fun _ _ => 0), fun _ => 0, b, g)) (a0 := a0) N u h
theorem met_X3_next (l : Launch) (N : Nat) (G : uG) (u : UH) (a0 : Nat) (uf : UH) (h : f_X3_next N (ub G) (ug G) u a0 = some uf) : Met l yX3_next (ws_ yX3_next cX3_next 4 none) ({ frames := 1, cells := 0, slots := 0, locals := 21 }) (uPc G u [.ref a0]) (uQv G uf) 0 0 (uA G) := by
  exact u_met (own := RX3) (by decide +kernel) rfl (Nat.le_of_ble_eq_true rfl) (fun hC hn hsz ls hl hP => w_X3_next_0 hC ⟨Nat.le_refl _, Nat.le_refl _⟩ N u h hP va_S.rf hl)
def f_X3_begins (N b : Nat) (g : uEnv) (u : UH) (a0 : Nat) (x1 : Int32) : Option (UH) :=
    (uPut b u a0 2 3 (.int x1)).bind fun u1 =>
    (uPut b u1 a0 2 5 (.int 0)).bind fun u2 =>
    (uPut b u2 a0 2 13 (.int 0)).bind fun u3 =>
    if uIs u3 a0 2 = true then
    (f_X3_next N b g u3 a0).bind fun u5 =>
    some u5
    else none
set_option maxHeartbeats 4000000 in
set_option maxRecDepth 100000 in
theorem zz_X3_begins_0 {G : uG} {a0 : Nat} {uf : UH} (N : Nat) (u : UH) (x1 : Int32) (h : f_X3_begins N (ub G) (ug G) u a0 x1 = some uf) : uf.1 = u.1 ∧ uf.2.1 = u.2.1 := by
  unfold f_X3_begins at h
  obtain ⟨u1, hu1, h⟩ := mbind_n h
  have zu1 := uPut_sz hu1
  obtain ⟨u2, hu2, h⟩ := mbind_n h
  have zu2 := uPut_sz hu2
  obtain ⟨u3, hu3, h⟩ := mbind_n h
  have zu3 := uPut_sz hu3
  obtain ⟨c4, h⟩ := mif_n h
  obtain ⟨u5, c6, h⟩ := mbind_n h
  have zu5 := zz_X3_next N (ub G) (ug G) u3 a0 u5 c6
  cases h
  exact ⟨by omega, by omega⟩
set_option maxHeartbeats 4000000 in
set_option maxRecDepth 100000 in
theorem w_X3_begins_0 {p : Program} {l : Launch} {e : Env} {R : Room} {s : State} {m : MethodId} {args : Array Value} {below : List Frame} {meth : Method} {c : Code} {G : uG} {a0 : Nat} {uf : UH} (hC : uC p s m args meth c G RX3 cX3_begins 2 none) (hR : 2 ≤ R.frames ∧ 44 ≤ R.locals) (N : Nat) (u : UH) (x1 : Int32) (h : f_X3_begins N (ub G) (ug G) u a0 x1 = some uf) {H : Heap} {locs : List Loc} (hP : uP G u H) (hS : va_S (uA G) s.heap H locs) {ls : Array Slot} (hl : lv_has ls 2 [(0, va_rf (some a0)), (1, .int x1)]) : W p l e R s m args below meth c H locs 0 0 (MQ below (uQv G uf) args s 0 0 (uA G)) (F0 m 0 ls []) := by
  obtain ⟨⟨hx, hb, hml, hown, hts⟩, hKK⟩ := id hC
  unfold f_X3_begins at h
  refine u_aload_n (r := some a0) hx hb dX3_begins_0 rfl (lv_at hl 0 rfl) ?_
  refine lv_iload_n hx hb dX3_begins_1 rfl (lv_at hl 1 rfl) ?_
  obtain ⟨u1, hu1, h⟩ := mbind_n h
  have zu1 := uPut_sz hu1
  refine u_put hC hP hS hu1 rfl in_X3 tyX3 tyX3_ok nmX3 (by decide) q1896 (fun _ h => h) rfl (ty := .int) (tyX3_ok 3 (by decide)) rfl rfl dX3_begins_2 (fun H locs hP hS => ?_)
  refine u_aload_n (r := some a0) hx hb dX3_begins_5 rfl (lv_at hl 0 rfl) ?_
  refine lv_iconst (v := 0) hx hb dX3_begins_6 (by decide) ?_
  obtain ⟨u2, hu2, h⟩ := mbind_n h
  have zu2 := uPut_sz hu2
  refine u_put hC hP hS hu2 rfl in_X3 tyX3 tyX3_ok nmX3 (by decide) q1898 (fun _ h => h) rfl (ty := .int) (tyX3_ok 5 (by decide)) rfl rfl dX3_begins_7 (fun H locs hP hS => ?_)
  refine u_aload_n (r := some a0) hx hb dX3_begins_10 rfl (lv_at hl 0 rfl) ?_
  refine lv_iconst (v := 0) hx hb dX3_begins_11 (by decide) ?_
  obtain ⟨u3, hu3, h⟩ := mbind_n h
  have zu3 := uPut_sz hu3
  refine u_put hC hP hS hu3 rfl in_X3 tyX3 tyX3_ok nmX3 (by decide) q1906 (fun _ h => h) rfl (ty := .boolean) (tyX3_ok 13 (by decide)) (uFit_n (ty := .boolean) (v := 0) rfl).1 (uFit_n (ty := .boolean) (v := 0) rfl).2 dX3_begins_12 (fun H locs hP hS => ?_)
  refine u_aload_n (r := some a0) hx hb dX3_begins_15 rfl (lv_at hl 0 rfl) ?_
  obtain ⟨c4, h⟩ := mif_n h
  obtain ⟨u5, c6, h⟩ := mbind_n h
  have zu5 := zz_X3_next N (ub G) (ug G) u3 a0 u5 c6
  refine u_callv (va_runV (As := []) (rest := []) hC.1 (met_X3_next l N G u3 a0 u5 c6) (cwV 0 hts (lw_V q2154 q2156 qs45 q103 q2157) rfl rfl rfl (by decide +kernel) ⟨Nat.le_trans (Nat.le_of_ble_eq_true rfl) hR.1, Nat.le_trans (Nat.le_of_ble_eq_true rfl) hR.2⟩) ⟨uPc_blind, u_rcv hC hP c4 rfl, fun U hU hW => u_pre hC hP hS hU hW⟩ rfl rfl hl.1 rfl (lv_room (Nat.le_of_ble_eq_true rfl)) dX3_begins_16 ⟨Nat.zero_le _, Nat.zero_le _⟩) hS (fun H locs hP hS => ?_)
  cases h
  exact u_vret hC hP hS dX3_begins_19
theorem zz_X3_begins (N b : Nat) (g : uEnv) (u : UH) (a0 : Nat) (x1 : Int32) (uf : UH) (h : f_X3_begins N b g u a0 x1 = some uf) : uf.1 = u.1 ∧ uf.2.1 = u.2.1 :=
  zz_X3_begins_0 (G := ((fun _ => 0, fun _ _ => 0), fun _ => 0, b, g)) (a0 := a0) N u x1 h
theorem met_X3_begins (l : Launch) (N : Nat) (G : uG) (u : UH) (a0 : Nat) (x1 : Int32) (uf : UH) (h : f_X3_begins N (ub G) (ug G) u a0 x1 = some uf) : Met l yX3_begins (ws_ yX3_begins cX3_begins 2 none) ({ frames := 2, cells := 0, slots := 0, locals := 44 }) (uPc G u [.ref a0, .int x1]) (uQv G uf) 0 0 (uA G) := by
  exact u_met (own := RX3) (by decide +kernel) rfl (Nat.le_of_ble_eq_true rfl) (fun hC hn hsz ls hl hP => w_X3_begins_0 hC ⟨Nat.le_refl _, Nat.le_refl _⟩ N u x1 h hP va_S.rf hl)
def f_X3_behind_74 (N b : Nat) (g : uEnv) (a0 : Nat) (k12 : UH → Int32 → Int32 → Int32 → Int32 → Int32 → Int32 → Option (Int32 × UH)) (u : UH) (x2 : Int32) (x3 : Int32) (x4 : Int32) (x5 : Int32) (x7 : Int32) (s0 : Int32) (s1 : Int32) (s2 : Int32) : Option (Int32 × UH) :=
    mlet (s2 + (s1 * s0)) fun y1 =>
    mlet (x4 / 5) fun y2 =>
    mlet (x5 * 5) fun y3 =>
    mlet (x7 + 1) fun y4 =>
    k12 u x2 x3 y2 y3 y1 y4
set_option maxHeartbeats 4000000 in
set_option maxRecDepth 100000 in
theorem zz_X3_behind_74 {G : uG} {a0 : Nat} {uf : UH} {r : Int32} (N : Nat) (k12 : UH → Int32 → Int32 → Int32 → Int32 → Int32 → Int32 → Option (Int32 × UH)) (hk12 : ∀ (u : UH) (x2 : Int32) (x3 : Int32) (x4 : Int32) (x5 : Int32) (x6 : Int32) (x7 : Int32), k12 u x2 x3 x4 x5 x6 x7 = some (r, uf) → uf.1 = u.1 ∧ uf.2.1 = u.2.1) (u : UH) (x2 : Int32) (x3 : Int32) (x4 : Int32) (x5 : Int32) (x7 : Int32) (s0 : Int32) (s1 : Int32) (s2 : Int32) (h : f_X3_behind_74 N (ub G) (ug G) a0 k12 u x2 x3 x4 x5 x7 s0 s1 s2 = some (r, uf)) : uf.1 = u.1 ∧ uf.2.1 = u.2.1 := by
  unfold f_X3_behind_74 at h
  obtain ⟨y1, ey1⟩ : ∃ z, z = s2 + (s1 * s0) := ⟨_, rfl⟩
  have h := mlet_at ey1 h
  obtain ⟨y2, ey2⟩ : ∃ z, z = x4 / 5 := ⟨_, rfl⟩
  have h := mlet_at ey2 h
  obtain ⟨y3, ey3⟩ : ∃ z, z = x5 * 5 := ⟨_, rfl⟩
  have h := mlet_at ey3 h
  obtain ⟨y4, ey4⟩ : ∃ z : Int32, z = x7 + 1 := ⟨_, rfl⟩
  have h := mlet_at ey4 h
  have hq := hk12 u x2 x3 y2 y3 y1 y4 h
  exact ⟨by omega, by omega⟩
set_option maxHeartbeats 4000000 in
set_option maxRecDepth 100000 in
theorem w_X3_behind_74 {p : Program} {l : Launch} {e : Env} {R : Room} {s : State} {m : MethodId} {args : Array Value} {below : List Frame} {meth : Method} {c : Code} {G : uG} {a0 : Nat} {uf : UH} {r : Int32} (hC : uC p s m args meth c G RX3 cX3_behind 9 (some .int)) (hR : 0 ≤ R.frames ∧ 0 ≤ R.locals) (N : Nat) (k12 : UH → Int32 → Int32 → Int32 → Int32 → Int32 → Int32 → Option (Int32 × UH)) (hk12 : ∀ (u : UH) (x2 : Int32) (x3 : Int32) (x4 : Int32) (x5 : Int32) (x6 : Int32) (x7 : Int32), k12 u x2 x3 x4 x5 x6 x7 = some (r, uf) → ∀ (H : Heap) (locs : List Loc), uP G u H → va_S (uA G) s.heap H locs → ∀ ls : Array Slot, lv_has ls 9 [(0, va_rf (some a0)), (2, .int x2), (3, .int x3), (4, .int x4), (5, .int x5), (6, .int x6), (7, .int x7)] → W p l e R s m args below meth c H locs 0 0 (MQ below (uQi G r uf) args s 0 0 (uA G)) (F0 m 12 ls [])) (u : UH) (x2 : Int32) (x3 : Int32) (x4 : Int32) (x5 : Int32) (x7 : Int32) (s0 : Int32) (s1 : Int32) (s2 : Int32) (h : f_X3_behind_74 N (ub G) (ug G) a0 k12 u x2 x3 x4 x5 x7 s0 s1 s2 = some (r, uf)) {H : Heap} {locs : List Loc} (hP : uP G u H) (hS : va_S (uA G) s.heap H locs) {ls : Array Slot} (hl : lv_has ls 9 [(0, va_rf (some a0)), (2, .int x2), (3, .int x3), (4, .int x4), (5, .int x5), (7, .int x7)]) : W p l e R s m args below meth c H locs 0 0 (MQ below (uQi G r uf) args s 0 0 (uA G)) (F0 m 74 ls [.int s0, .int s1, .int s2]) := by
  obtain ⟨⟨hx, hb, hml, hown, hts⟩, hKK⟩ := id hC
  unfold f_X3_behind_74 at h
  refine lv_imul hx hb dX3_behind_74 ?_
  refine lv_iadd hx hb dX3_behind_75 ?_
  refine lv_topi (fun y1 ey1 => ?_)
  have h := mlet_at ey1 h
  refine lv_istore (lv' := [(6, .int y1), (0, va_rf (some a0)), (2, .int x2), (3, .int x3), (4, .int x4), (5, .int x5), (7, .int x7)]) hx hb dX3_behind_76 hl (by decide) rfl (fun ls hl => ?_)
  refine lv_iload hx hb dX3_behind_78 (lv_at hl 4 rfl) ?_
  refine lv_iconst (v := 5) hx hb dX3_behind_80 (by decide) ?_
  refine lv_idiv hx hb dX3_behind_81 (by decide) ?_
  refine lv_topi (fun y2 ey2 => ?_)
  have h := mlet_at ey2 h
  refine lv_istore (lv' := [(4, .int y2), (6, .int y1), (0, va_rf (some a0)), (2, .int x2), (3, .int x3), (5, .int x5), (7, .int x7)]) hx hb dX3_behind_82 hl (by decide) rfl (fun ls hl => ?_)
  refine lv_iload hx hb dX3_behind_84 (lv_at hl 5 rfl) ?_
  refine lv_iconst (v := 5) hx hb dX3_behind_86 (by decide) ?_
  refine lv_imul hx hb dX3_behind_87 ?_
  refine lv_topi (fun y3 ey3 => ?_)
  have h := mlet_at ey3 h
  refine lv_istore (lv' := [(5, .int y3), (4, .int y2), (6, .int y1), (0, va_rf (some a0)), (2, .int x2), (3, .int x3), (7, .int x7)]) hx hb dX3_behind_88 hl (by decide) rfl (fun ls hl => ?_)
  obtain ⟨y4, ey4⟩ : ∃ z : Int32, z = x7 + 1 := ⟨_, rfl⟩
  have h := mlet_at ey4 h
  refine lv_iinc (v := y4) (lv' := [(7, .int y4), (5, .int y3), (4, .int y2), (6, .int y1), (0, va_rf (some a0)), (2, .int x2), (3, .int x3)]) hx hb dX3_behind_90 hl (k := 6) rfl (by rw [ey4]; rfl) (by decide) rfl (fun ls hl => ?_)
  refine lv_goto (tgt := 12) hx hb dX3_behind_93 (by decide) ?_
  exact hk12 u x2 x3 y2 y3 y1 y4 h _ _ hP hS _ (lv_sub hl [4, 5, 6, 2, 1, 3, 0] rfl)
def f_X3_behind_46 (N b : Nat) (g : uEnv) (a0 : Nat) (k12 : UH → Int32 → Int32 → Int32 → Int32 → Int32 → Int32 → Option (Int32 × UH)) (u : UH) (x2 : Int32) (x3 : Int32) (x4 : Int32) (x5 : Int32) (x6 : Int32) (x7 : Int32) (s0 : Int32) (s1 : Int32) : Option (Int32 × UH) :=
    mlet (s1 + s0) fun y1 =>
    if 0 ≤ y1 then
    if y1 ≤ 4 then
    f_X3_behind_74 N b g a0 k12 u x2 x3 x4 x5 x7 y1 x5 x6
    else
    f_X3_behind_74 N b g a0 k12 u x2 x3 x4 x5 x7 4 x5 x6
    else
    f_X3_behind_74 N b g a0 k12 u x2 x3 x4 x5 x7 0 x5 x6
set_option maxHeartbeats 4000000 in
set_option maxRecDepth 100000 in
theorem zz_X3_behind_46 {G : uG} {a0 : Nat} {uf : UH} {r : Int32} (N : Nat) (k12 : UH → Int32 → Int32 → Int32 → Int32 → Int32 → Int32 → Option (Int32 × UH)) (hk12 : ∀ (u : UH) (x2 : Int32) (x3 : Int32) (x4 : Int32) (x5 : Int32) (x6 : Int32) (x7 : Int32), k12 u x2 x3 x4 x5 x6 x7 = some (r, uf) → uf.1 = u.1 ∧ uf.2.1 = u.2.1) (u : UH) (x2 : Int32) (x3 : Int32) (x4 : Int32) (x5 : Int32) (x6 : Int32) (x7 : Int32) (s0 : Int32) (s1 : Int32) (h : f_X3_behind_46 N (ub G) (ug G) a0 k12 u x2 x3 x4 x5 x6 x7 s0 s1 = some (r, uf)) : uf.1 = u.1 ∧ uf.2.1 = u.2.1 := by
  unfold f_X3_behind_46 at h
  obtain ⟨y1, ey1⟩ : ∃ z, z = s1 + s0 := ⟨_, rfl⟩
  have h := mlet_at ey1 h
  by_cases c2 : 0 ≤ y1
  · have h := mif_t c2 h
    by_cases c3 : y1 ≤ 4
    · have h := mif_t c3 h
      have hq := zz_X3_behind_74 (G := G) (a0 := a0) N k12 hk12 u x2 x3 x4 x5 x7 y1 x5 x6 h
      exact ⟨by omega, by omega⟩
    · have h := mif_f c3 h
      have hq := zz_X3_behind_74 (G := G) (a0 := a0) N k12 hk12 u x2 x3 x4 x5 x7 4 x5 x6 h
      exact ⟨by omega, by omega⟩
  · have h := mif_f c2 h
    have hq := zz_X3_behind_74 (G := G) (a0 := a0) N k12 hk12 u x2 x3 x4 x5 x7 0 x5 x6 h
    exact ⟨by omega, by omega⟩
set_option maxHeartbeats 4000000 in
set_option maxRecDepth 100000 in
theorem w_X3_behind_46 {p : Program} {l : Launch} {e : Env} {R : Room} {s : State} {m : MethodId} {args : Array Value} {below : List Frame} {meth : Method} {c : Code} {G : uG} {a0 : Nat} {uf : UH} {r : Int32} (hC : uC p s m args meth c G RX3 cX3_behind 9 (some .int)) (hR : 0 ≤ R.frames ∧ 0 ≤ R.locals) (N : Nat) (k12 : UH → Int32 → Int32 → Int32 → Int32 → Int32 → Int32 → Option (Int32 × UH)) (hk12 : ∀ (u : UH) (x2 : Int32) (x3 : Int32) (x4 : Int32) (x5 : Int32) (x6 : Int32) (x7 : Int32), k12 u x2 x3 x4 x5 x6 x7 = some (r, uf) → ∀ (H : Heap) (locs : List Loc), uP G u H → va_S (uA G) s.heap H locs → ∀ ls : Array Slot, lv_has ls 9 [(0, va_rf (some a0)), (2, .int x2), (3, .int x3), (4, .int x4), (5, .int x5), (6, .int x6), (7, .int x7)] → W p l e R s m args below meth c H locs 0 0 (MQ below (uQi G r uf) args s 0 0 (uA G)) (F0 m 12 ls [])) (u : UH) (x2 : Int32) (x3 : Int32) (x4 : Int32) (x5 : Int32) (x6 : Int32) (x7 : Int32) (s0 : Int32) (s1 : Int32) (h : f_X3_behind_46 N (ub G) (ug G) a0 k12 u x2 x3 x4 x5 x6 x7 s0 s1 = some (r, uf)) {H : Heap} {locs : List Loc} (hP : uP G u H) (hS : va_S (uA G) s.heap H locs) {ls : Array Slot} (hl : lv_has ls 9 [(0, va_rf (some a0)), (2, .int x2), (3, .int x3), (4, .int x4), (5, .int x5), (6, .int x6), (7, .int x7)]) : W p l e R s m args below meth c H locs 0 0 (MQ below (uQi G r uf) args s 0 0 (uA G)) (F0 m 46 ls [.int s0, .int s1]) := by
  obtain ⟨⟨hx, hb, hml, hown, hts⟩, hKK⟩ := id hC
  unfold f_X3_behind_46 at h
  refine lv_iadd hx hb dX3_behind_46 ?_
  refine lv_topi (fun y1 ey1 => ?_)
  have h := mlet_at ey1 h
  refine lv_istore (lv' := [(8, .int y1), (0, va_rf (some a0)), (2, .int x2), (3, .int x3), (4, .int x4), (5, .int x5), (6, .int x6), (7, .int x7)]) hx hb dX3_behind_47 hl (by decide) rfl (fun ls hl => ?_)
  refine lv_iload hx hb dX3_behind_49 (lv_at hl 6 rfl) ?_
  refine lv_iload hx hb dX3_behind_51 (lv_at hl 5 rfl) ?_
  refine lv_iload hx hb dX3_behind_53 (lv_at hl 0 rfl) ?_
  refine lv_if_ge (tgt := 62) hx hb dX3_behind_55 (by decide) (fun c2 => ?_) (fun c2 => ?_)
  · have h := mif_t c2 h
    refine lv_iload hx hb dX3_behind_62 (lv_at hl 0 rfl) ?_
    refine lv_iconst (v := 4) hx hb dX3_behind_64 (by decide) ?_
    refine lv_icmp_le (tgt := 72) hx hb dX3_behind_65 (by decide) (fun c3 => ?_) (fun c3 => ?_)
    · have h := mif_t c3 h
      refine lv_iload hx hb dX3_behind_72 (lv_at hl 0 rfl) ?_
      exact w_X3_behind_74 hC hR N k12 hk12 u x2 x3 x4 x5 x7 y1 x5 x6 h hP hS (lv_sub hl [1, 2, 3, 4, 5, 7] rfl)
    · have h := mif_f c3 h
      refine lv_iconst (v := 4) hx hb dX3_behind_68 (by decide) ?_
      refine lv_goto (tgt := 74) hx hb dX3_behind_69 (by decide) ?_
      exact w_X3_behind_74 hC hR N k12 hk12 u x2 x3 x4 x5 x7 4 x5 x6 h hP hS (lv_sub hl [1, 2, 3, 4, 5, 7] rfl)
  · have h := mif_f c2 h
    refine lv_iconst (v := 0) hx hb dX3_behind_58 (by decide) ?_
    refine lv_goto (tgt := 74) hx hb dX3_behind_59 (by decide) ?_
    exact w_X3_behind_74 hC hR N k12 hk12 u x2 x3 x4 x5 x7 0 x5 x6 h hP hS (lv_sub hl [1, 2, 3, 4, 5, 7] rfl)
def f_X3_behind_12 (N b : Nat) (g : uEnv) (a0 : Nat) : Nat → UH → Int32 → Int32 → Int32 → Int32 → Int32 → Int32 → Option (Int32 × UH)
  | 0, _, _, _, _, _, _, _ => none
  | n + 1, u, x2, x3, x4, x5, x6, x7 =>
    (uGI u a0 2 24).bind fun y1 =>
    if y1 ≤ x7 then
    some (x6, u)
    else
    if x7 = x3 then
    (uGR u a0 2 31).bind fun o7 =>
    (o7).bind fun a8 =>
    (uLdI u a8 0 x2).bind fun y9 =>
    f_X3_behind_46 N b g a0 (f_X3_behind_12 N b g a0 n) u x2 x3 x4 x5 x6 x7 y9 (x4 - x4 / 5 * 5)
    else
    (uGR u a0 2 30).bind fun o4 =>
    (o4).bind fun a5 =>
    (uLdI u a5 0 x2).bind fun y6 =>
    f_X3_behind_46 N b g a0 (f_X3_behind_12 N b g a0 n) u x2 x3 x4 x5 x6 x7 y6 (x4 - x4 / 5 * 5)
set_option maxHeartbeats 4000000 in
set_option maxRecDepth 100000 in
theorem zz_X3_behind_12 {G : uG} {a0 : Nat} {uf : UH} {r : Int32} (N : Nat) : ∀ (n : Nat) (u : UH) (x2 : Int32) (x3 : Int32) (x4 : Int32) (x5 : Int32) (x6 : Int32) (x7 : Int32), f_X3_behind_12 N (ub G) (ug G) a0 n u x2 x3 x4 x5 x6 x7 = some (r, uf) → uf.1 = u.1 ∧ uf.2.1 = u.2.1 := by
  intro n
  induction n with
  | zero =>
    intro u x2 x3 x4 x5 x6 x7 h
    cases h
  | succ n ih =>
    intro u x2 x3 x4 x5 x6 x7 h
    unfold f_X3_behind_12 at h
    obtain ⟨y1, hy1, h⟩ := mbind_n h
    by_cases c2 : y1 ≤ x7
    · have h := mif_t c2 h
      obtain ⟨hr1, hr2⟩ := uret_n h
      subst hr2
      exact ⟨by omega, by omega⟩
    · have h := mif_f c2 h
      by_cases c3 : x7 = x3
      · have h := mif_t c3 h
        obtain ⟨o7, ho7, h⟩ := mbind_n h
        obtain ⟨a8, ha8, hha8⟩ := mbind_n h
        subst ha8
        have h := hha8
        obtain ⟨y9, hy9, h⟩ := mbind_n h
        have hq := zz_X3_behind_46 (G := G) (a0 := a0) N (f_X3_behind_12 N (ub G) (ug G) a0 n) ih u x2 x3 x4 x5 x6 x7 y9 (x4 - x4 / 5 * 5) h
        exact ⟨by omega, by omega⟩
      · have h := mif_f c3 h
        obtain ⟨o4, ho4, h⟩ := mbind_n h
        obtain ⟨a5, ha5, hha5⟩ := mbind_n h
        subst ha5
        have h := hha5
        obtain ⟨y6, hy6, h⟩ := mbind_n h
        have hq := zz_X3_behind_46 (G := G) (a0 := a0) N (f_X3_behind_12 N (ub G) (ug G) a0 n) ih u x2 x3 x4 x5 x6 x7 y6 (x4 - x4 / 5 * 5) h
        exact ⟨by omega, by omega⟩
set_option maxHeartbeats 4000000 in
set_option maxRecDepth 100000 in
theorem w_X3_behind_12 {p : Program} {l : Launch} {e : Env} {R : Room} {s : State} {m : MethodId} {args : Array Value} {below : List Frame} {meth : Method} {c : Code} {G : uG} {a0 : Nat} {uf : UH} {r : Int32} (hC : uC p s m args meth c G RX3 cX3_behind 9 (some .int)) (hR : 0 ≤ R.frames ∧ 0 ≤ R.locals) (N : Nat) : ∀ (n : Nat) (u : UH) (x2 : Int32) (x3 : Int32) (x4 : Int32) (x5 : Int32) (x6 : Int32) (x7 : Int32), f_X3_behind_12 N (ub G) (ug G) a0 n u x2 x3 x4 x5 x6 x7 = some (r, uf) → ∀ (H : Heap) (locs : List Loc), uP G u H → va_S (uA G) s.heap H locs → ∀ ls : Array Slot, lv_has ls 9 [(0, va_rf (some a0)), (2, .int x2), (3, .int x3), (4, .int x4), (5, .int x5), (6, .int x6), (7, .int x7)] → W p l e R s m args below meth c H locs 0 0 (MQ below (uQi G r uf) args s 0 0 (uA G)) (F0 m 12 ls []) := by
  obtain ⟨⟨hx, hb, hml, hown, hts⟩, hKK⟩ := id hC
  intro n
  induction n with
  | zero =>
    intro u x2 x3 x4 x5 x6 x7 h
    cases h
  | succ n ih =>
    intro u x2 x3 x4 x5 x6 x7 h H locs hP hS ls hl
    unfold f_X3_behind_12 at h
    refine lv_iload hx hb dX3_behind_12 (lv_at hl 6 rfl) ?_
    refine u_aload_n (r := some a0) hx hb dX3_behind_14 rfl (lv_at hl 0 rfl) ?_
    obtain ⟨y1, hy1, h⟩ := mbind_n h
    refine u_get hC hP (uGI_n hy1) rfl in_X3 (by decide) q1917 (fun _ h => h) dX3_behind_15 ?_
    refine lv_icmp_ge (tgt := 96) hx hb dX3_behind_18 (by decide) (fun c2 => ?_) (fun c2 => ?_)
    · have h := mif_t c2 h
      refine lv_iload hx hb dX3_behind_96 (lv_at hl 5 rfl) ?_
      obtain ⟨hr1, hr2⟩ := uret_n h
      subst hr1
      subst hr2
      exact u_iret hC hP hS dX3_behind_98
    · have h := mif_f c2 h
      refine lv_iload hx hb dX3_behind_21 (lv_at hl 3 rfl) ?_
      refine lv_iconst (v := 5) hx hb dX3_behind_23 (by decide) ?_
      refine lv_irem hx hb dX3_behind_24 (by decide) ?_
      refine lv_iload hx hb dX3_behind_25 (lv_at hl 6 rfl) ?_
      refine lv_iload_n hx hb dX3_behind_27 rfl (lv_at hl 2 rfl) ?_
      refine lv_icmp_ne (tgt := 40) hx hb dX3_behind_28 (by decide) (fun c3 => ?_) (fun c3 => ?_)
      · have h := mif_f c3 h
        refine u_aload_n (r := some a0) hx hb dX3_behind_40 rfl (lv_at hl 0 rfl) ?_
        obtain ⟨o4, ho4, h⟩ := mbind_n h
        refine u_get hC hP (uGR_n ho4) rfl in_X3 (by decide) q1923 (fun _ h => h) dX3_behind_41 ?_
        refine lv_iload_n hx hb dX3_behind_44 rfl (lv_at hl 1 rfl) ?_
        obtain ⟨a5, ha5, hha5⟩ := mbind_n h
        subst ha5
        have h := hha5
        obtain ⟨y6, hy6, h⟩ := mbind_n h
        refine u_iald hC hP hy6 rfl dX3_behind_45 ?_
        exact w_X3_behind_46 hC hR N (f_X3_behind_12 N (ub G) (ug G) a0 n) ih u x2 x3 x4 x5 x6 x7 y6 (x4 - x4 / 5 * 5) h hP hS (lv_sub hl [0, 1, 2, 3, 4, 5, 6] rfl)
      · have h := mif_t c3 h
        refine u_aload_n (r := some a0) hx hb dX3_behind_31 rfl (lv_at hl 0 rfl) ?_
        obtain ⟨o7, ho7, h⟩ := mbind_n h
        refine u_get hC hP (uGR_n ho7) rfl in_X3 (by decide) q1924 (fun _ h => h) dX3_behind_32 ?_
        refine lv_iload_n hx hb dX3_behind_35 rfl (lv_at hl 1 rfl) ?_
        obtain ⟨a8, ha8, hha8⟩ := mbind_n h
        subst ha8
        have h := hha8
        obtain ⟨y9, hy9, h⟩ := mbind_n h
        refine u_iald hC hP hy9 rfl dX3_behind_36 ?_
        refine lv_goto (tgt := 46) hx hb dX3_behind_37 (by decide) ?_
        exact w_X3_behind_46 hC hR N (f_X3_behind_12 N (ub G) (ug G) a0 n) ih u x2 x3 x4 x5 x6 x7 y9 (x4 - x4 / 5 * 5) h hP hS (lv_sub hl [0, 1, 2, 3, 4, 5, 6] rfl)
def f_X3_behind (N b : Nat) (g : uEnv) (u : UH) (a0 : Nat) (x1 : Int32) (x2 : Int32) (x3 : Int32) : Option (Int32 × UH) :=
    f_X3_behind_12 N b g a0 N u x2 x3 x1 1 0 0
set_option maxHeartbeats 4000000 in
set_option maxRecDepth 100000 in
theorem zz_X3_behind_0 {G : uG} {a0 : Nat} {uf : UH} {r : Int32} (N : Nat) (u : UH) (x1 : Int32) (x2 : Int32) (x3 : Int32) (h : f_X3_behind N (ub G) (ug G) u a0 x1 x2 x3 = some (r, uf)) : uf.1 = u.1 ∧ uf.2.1 = u.2.1 := by
  unfold f_X3_behind at h
  have hq := zz_X3_behind_12 (G := G) (a0 := a0) N N u x2 x3 x1 1 0 0 h
  exact ⟨by omega, by omega⟩
set_option maxHeartbeats 4000000 in
set_option maxRecDepth 100000 in
theorem w_X3_behind_0 {p : Program} {l : Launch} {e : Env} {R : Room} {s : State} {m : MethodId} {args : Array Value} {below : List Frame} {meth : Method} {c : Code} {G : uG} {a0 : Nat} {uf : UH} {r : Int32} (hC : uC p s m args meth c G RX3 cX3_behind 9 (some .int)) (hR : 0 ≤ R.frames ∧ 0 ≤ R.locals) (N : Nat) (u : UH) (x1 : Int32) (x2 : Int32) (x3 : Int32) (h : f_X3_behind N (ub G) (ug G) u a0 x1 x2 x3 = some (r, uf)) {H : Heap} {locs : List Loc} (hP : uP G u H) (hS : va_S (uA G) s.heap H locs) {ls : Array Slot} (hl : lv_has ls 9 [(0, va_rf (some a0)), (1, .int x1), (2, .int x2), (3, .int x3)]) : W p l e R s m args below meth c H locs 0 0 (MQ below (uQi G r uf) args s 0 0 (uA G)) (F0 m 0 ls []) := by
  obtain ⟨⟨hx, hb, hml, hown, hts⟩, hKK⟩ := id hC
  unfold f_X3_behind at h
  refine lv_iload_n hx hb dX3_behind_0 rfl (lv_at hl 1 rfl) ?_
  refine lv_istore (lv' := [(4, .int x1), (0, va_rf (some a0)), (1, .int x1), (2, .int x2), (3, .int x3)]) hx hb dX3_behind_1 hl (by decide) rfl (fun ls hl => ?_)
  refine lv_iconst (v := 1) hx hb dX3_behind_3 (by decide) ?_
  refine lv_istore (lv' := [(5, .int 1), (4, .int x1), (0, va_rf (some a0)), (1, .int x1), (2, .int x2), (3, .int x3)]) hx hb dX3_behind_4 hl (by decide) rfl (fun ls hl => ?_)
  refine lv_iconst (v := 0) hx hb dX3_behind_6 (by decide) ?_
  refine lv_istore (lv' := [(6, .int 0), (5, .int 1), (4, .int x1), (0, va_rf (some a0)), (1, .int x1), (2, .int x2), (3, .int x3)]) hx hb dX3_behind_7 hl (by decide) rfl (fun ls hl => ?_)
  refine lv_iconst (v := 0) hx hb dX3_behind_9 (by decide) ?_
  refine lv_istore (lv' := [(7, .int 0), (6, .int 0), (5, .int 1), (4, .int x1), (0, va_rf (some a0)), (1, .int x1), (2, .int x2), (3, .int x3)]) hx hb dX3_behind_10 hl (by decide) rfl (fun ls hl => ?_)
  exact w_X3_behind_12 hC hR N N u x2 x3 x1 1 0 0 h _ _ hP hS _ (lv_sub hl [4, 6, 7, 3, 2, 1, 0] rfl)
theorem zz_X3_behind (N b : Nat) (g : uEnv) (u : UH) (a0 : Nat) (x1 : Int32) (x2 : Int32) (x3 : Int32) (r : Int32) (uf : UH) (h : f_X3_behind N b g u a0 x1 x2 x3 = some (r, uf)) : uf.1 = u.1 ∧ uf.2.1 = u.2.1 :=
  zz_X3_behind_0 (G := ((fun _ => 0, fun _ _ => 0), fun _ => 0, b, g)) (a0 := a0) N u x1 x2 x3 h
theorem met_X3_behind (l : Launch) (N : Nat) (G : uG) (u : UH) (a0 : Nat) (x1 : Int32) (x2 : Int32) (x3 : Int32) (r : Int32) (uf : UH) (h : f_X3_behind N (ub G) (ug G) u a0 x1 x2 x3 = some (r, uf)) : Met l yX3_behind (ws_ yX3_behind cX3_behind 9 (some .int)) ({ frames := 0, cells := 0, slots := 0, locals := 0 }) (uPc G u [.ref a0, .int x1, .int x2, .int x3]) (uQi G r uf) 0 0 (uA G) := by
  exact u_met (own := RX3) (by decide +kernel) rfl (Nat.le_of_ble_eq_true rfl) (fun hC hn hsz ls hl hP => w_X3_behind_0 hC ⟨Nat.le_refl _, Nat.le_refl _⟩ N u x1 x2 x3 h hP va_S.rf hl)
def f_X3_good (N b : Nat) (g : uEnv) (u : UH) (a0 : Nat) : Option (UH) :=
    (uPut b u a0 2 0 (.int 0)).bind fun u1 =>
    (uPut b u1 a0 2 39 (.int 0)).bind fun u2 =>
    some u2
set_option maxHeartbeats 4000000 in
set_option maxRecDepth 100000 in
theorem zz_X3_good_0 {G : uG} {a0 : Nat} {uf : UH} (N : Nat) (u : UH) (h : f_X3_good N (ub G) (ug G) u a0 = some uf) : uf.1 = u.1 ∧ uf.2.1 = u.2.1 := by
  unfold f_X3_good at h
  obtain ⟨u1, hu1, h⟩ := mbind_n h
  have zu1 := uPut_sz hu1
  obtain ⟨u2, hu2, h⟩ := mbind_n h
  have zu2 := uPut_sz hu2
  cases h
  exact ⟨by omega, by omega⟩
set_option maxHeartbeats 4000000 in
set_option maxRecDepth 100000 in
theorem w_X3_good_0 {p : Program} {l : Launch} {e : Env} {R : Room} {s : State} {m : MethodId} {args : Array Value} {below : List Frame} {meth : Method} {c : Code} {G : uG} {a0 : Nat} {uf : UH} (hC : uC p s m args meth c G RX3 cX3_good 1 none) (hR : 0 ≤ R.frames ∧ 0 ≤ R.locals) (N : Nat) (u : UH) (h : f_X3_good N (ub G) (ug G) u a0 = some uf) {H : Heap} {locs : List Loc} (hP : uP G u H) (hS : va_S (uA G) s.heap H locs) {ls : Array Slot} (hl : lv_has ls 1 [(0, va_rf (some a0))]) : W p l e R s m args below meth c H locs 0 0 (MQ below (uQv G uf) args s 0 0 (uA G)) (F0 m 0 ls []) := by
  obtain ⟨⟨hx, hb, hml, hown, hts⟩, hKK⟩ := id hC
  unfold f_X3_good at h
  refine u_aload_n (r := some a0) hx hb dX3_good_0 rfl (lv_at hl 0 rfl) ?_
  refine lv_iconst (v := 0) hx hb dX3_good_1 (by decide) ?_
  obtain ⟨u1, hu1, h⟩ := mbind_n h
  have zu1 := uPut_sz hu1
  refine u_put hC hP hS hu1 rfl in_X3 tyX3 tyX3_ok nmX3 (by decide) q1893 (fun _ h => h) rfl (ty := .int) (tyX3_ok 0 (by decide)) rfl rfl dX3_good_2 (fun H locs hP hS => ?_)
  refine u_aload_n (r := some a0) hx hb dX3_good_5 rfl (lv_at hl 0 rfl) ?_
  refine lv_iconst (v := 0) hx hb dX3_good_6 (by decide) ?_
  obtain ⟨u2, hu2, h⟩ := mbind_n h
  have zu2 := uPut_sz hu2
  refine u_put hC hP hS hu2 rfl in_X3 tyX3 tyX3_ok nmX3 (by decide) q1932 (fun _ h => h) rfl (ty := .int) (tyX3_ok 39 (by decide)) rfl rfl dX3_good_7 (fun H locs hP hS => ?_)
  cases h
  exact u_vret hC hP hS dX3_good_10
theorem zz_X3_good (N b : Nat) (g : uEnv) (u : UH) (a0 : Nat) (uf : UH) (h : f_X3_good N b g u a0 = some uf) : uf.1 = u.1 ∧ uf.2.1 = u.2.1 :=
  zz_X3_good_0 (G := ((fun _ => 0, fun _ _ => 0), fun _ => 0, b, g)) (a0 := a0) N u h
theorem met_X3_good (l : Launch) (N : Nat) (G : uG) (u : UH) (a0 : Nat) (uf : UH) (h : f_X3_good N (ub G) (ug G) u a0 = some uf) : Met l yX3_good (ws_ yX3_good cX3_good 1 none) ({ frames := 0, cells := 0, slots := 0, locals := 0 }) (uPc G u [.ref a0]) (uQv G uf) 0 0 (uA G) := by
  exact u_met (own := RX3) (by decide +kernel) rfl (Nat.le_of_ble_eq_true rfl) (fun hC hn hsz ls hl hP => w_X3_good_0 hC ⟨Nat.le_refl _, Nat.le_refl _⟩ N u h hP va_S.rf hl)
def f_X3_no (N b : Nat) (g : uEnv) (u : UH) (a0 : Nat) (x1 : Int32) : Option (Int32 × UH) :=
    (uPut b u a0 2 39 (.int x1)).bind fun u1 =>
    some ((-1), u1)
set_option maxHeartbeats 4000000 in
set_option maxRecDepth 100000 in
theorem zz_X3_no_0 {G : uG} {a0 : Nat} {uf : UH} {r : Int32} (N : Nat) (u : UH) (x1 : Int32) (h : f_X3_no N (ub G) (ug G) u a0 x1 = some (r, uf)) : uf.1 = u.1 ∧ uf.2.1 = u.2.1 := by
  unfold f_X3_no at h
  obtain ⟨u1, hu1, h⟩ := mbind_n h
  have zu1 := uPut_sz hu1
  obtain ⟨hr1, hr2⟩ := uret_n h
  subst hr2
  exact ⟨by omega, by omega⟩
set_option maxHeartbeats 4000000 in
set_option maxRecDepth 100000 in
theorem w_X3_no_0 {p : Program} {l : Launch} {e : Env} {R : Room} {s : State} {m : MethodId} {args : Array Value} {below : List Frame} {meth : Method} {c : Code} {G : uG} {a0 : Nat} {uf : UH} {r : Int32} (hC : uC p s m args meth c G RX3 cX3_no 2 (some .int)) (hR : 0 ≤ R.frames ∧ 0 ≤ R.locals) (N : Nat) (u : UH) (x1 : Int32) (h : f_X3_no N (ub G) (ug G) u a0 x1 = some (r, uf)) {H : Heap} {locs : List Loc} (hP : uP G u H) (hS : va_S (uA G) s.heap H locs) {ls : Array Slot} (hl : lv_has ls 2 [(0, va_rf (some a0)), (1, .int x1)]) : W p l e R s m args below meth c H locs 0 0 (MQ below (uQi G r uf) args s 0 0 (uA G)) (F0 m 0 ls []) := by
  obtain ⟨⟨hx, hb, hml, hown, hts⟩, hKK⟩ := id hC
  unfold f_X3_no at h
  refine u_aload_n (r := some a0) hx hb dX3_no_0 rfl (lv_at hl 0 rfl) ?_
  refine lv_iload_n hx hb dX3_no_1 rfl (lv_at hl 1 rfl) ?_
  obtain ⟨u1, hu1, h⟩ := mbind_n h
  have zu1 := uPut_sz hu1
  refine u_put hC hP hS hu1 rfl in_X3 tyX3 tyX3_ok nmX3 (by decide) q1932 (fun _ h => h) rfl (ty := .int) (tyX3_ok 39 (by decide)) rfl rfl dX3_no_2 (fun H locs hP hS => ?_)
  refine lv_iconst (v := (-1)) hx hb dX3_no_5 (by decide) ?_
  obtain ⟨hr1, hr2⟩ := uret_n h
  subst hr1
  subst hr2
  exact u_iret hC hP hS dX3_no_6
theorem zz_X3_no (N b : Nat) (g : uEnv) (u : UH) (a0 : Nat) (x1 : Int32) (r : Int32) (uf : UH) (h : f_X3_no N b g u a0 x1 = some (r, uf)) : uf.1 = u.1 ∧ uf.2.1 = u.2.1 :=
  zz_X3_no_0 (G := ((fun _ => 0, fun _ _ => 0), fun _ => 0, b, g)) (a0 := a0) N u x1 h
theorem met_X3_no (l : Launch) (N : Nat) (G : uG) (u : UH) (a0 : Nat) (x1 : Int32) (r : Int32) (uf : UH) (h : f_X3_no N (ub G) (ug G) u a0 x1 = some (r, uf)) : Met l yX3_no (ws_ yX3_no cX3_no 2 (some .int)) ({ frames := 0, cells := 0, slots := 0, locals := 0 }) (uPc G u [.ref a0, .int x1]) (uQi G r uf) 0 0 (uA G) := by
  exact u_met (own := RX3) (by decide +kernel) rfl (Nat.le_of_ble_eq_true rfl) (fun hC hn hsz ls hl hP => w_X3_no_0 hC ⟨Nat.le_refl _, Nat.le_refl _⟩ N u x1 h hP va_S.rf hl)

/-! BY gen_heap.py: X5_nextWhole X5_is_2 X10_init X1_isPlan X14_truths X14_open X14_beside X14_sees X18_init X4_load X9_value X14_why X18_groundOf -/
def f_X5_nextWhole_47 (N b : Nat) (g : uEnv) (a0 : Nat) : Nat → UH → Int32 → Option (UH)
  | 0, _, _ => none
  | n + 1, u, x1 =>
    (uGI u a0 4 2).bind fun y1 =>
    if y1 ≤ x1 then
    mlet (g.1 3) fun o3 =>
    (uPut b u a0 4 5 (va_rf o3)).bind fun u4 =>
    some u4
    else
    (uGI u a0 4 4).bind fun y5 =>
    (uGR u a0 4 0).bind fun o6 =>
    (o6).bind fun a7 =>
    (uLdI u a7 1 x1).bind fun y8 =>
    (uPut b u a0 4 4 (.int (((10 * y5) + y8) - 48))).bind fun u9 =>
    mlet (x1 + 1) fun y10 =>
    f_X5_nextWhole_47 N b g a0 n u9 y10
set_option maxHeartbeats 4000000 in
set_option maxRecDepth 100000 in
theorem zz_X5_nextWhole_47 {G : uG} {a0 : Nat} {uf : UH} (N : Nat) : ∀ (n : Nat) (u : UH) (x1 : Int32), f_X5_nextWhole_47 N (ub G) (ug G) a0 n u x1 = some uf → uf.1 = u.1 ∧ uf.2.1 = u.2.1 := by
  intro n
  induction n with
  | zero =>
    intro u x1 h
    cases h
  | succ n ih =>
    intro u x1 h
    unfold f_X5_nextWhole_47 at h
    obtain ⟨y1, hy1, h⟩ := mbind_n h
    by_cases c2 : y1 ≤ x1
    · have h := mif_t c2 h
      obtain ⟨o3, eo3⟩ : ∃ z, z = (ug G).1 3 := ⟨_, rfl⟩
      have h := mlet_at eo3 h
      obtain ⟨u4, hu4, h⟩ := mbind_n h
      have zu4 := uPut_sz hu4
      cases h
      exact ⟨by omega, by omega⟩
    · have h := mif_f c2 h
      obtain ⟨y5, hy5, h⟩ := mbind_n h
      obtain ⟨o6, ho6, h⟩ := mbind_n h
      obtain ⟨a7, ha7, hha7⟩ := mbind_n h
      subst ha7
      have h := hha7
      obtain ⟨y8, hy8, h⟩ := mbind_n h
      obtain ⟨u9, hu9, h⟩ := mbind_n h
      have zu9 := uPut_sz hu9
      obtain ⟨y10, ey10⟩ : ∃ z : Int32, z = x1 + 1 := ⟨_, rfl⟩
      have h := mlet_at ey10 h
      have hq := ih u9 y10 h
      exact ⟨by omega, by omega⟩
set_option maxHeartbeats 4000000 in
set_option maxRecDepth 100000 in
theorem w_X5_nextWhole_47 {p : Program} {l : Launch} {e : Env} {R : Room} {s : State} {m : MethodId} {args : Array Value} {below : List Frame} {meth : Method} {c : Code} {G : uG} {a0 : Nat} {uf : UH} (hC : uC p s m args meth c G RX5 cX5_nextWhole 2 none) (hR : 1 ≤ R.frames ∧ 20 ≤ R.locals) (N : Nat) : ∀ (n : Nat) (u : UH) (x1 : Int32), f_X5_nextWhole_47 N (ub G) (ug G) a0 n u x1 = some uf → ∀ (H : Heap) (locs : List Loc), uP G u H → va_S (uA G) s.heap H locs → ∀ ls : Array Slot, lv_has ls 2 [(0, va_rf (some a0)), (1, .int x1)] → W p l e R s m args below meth c H locs 0 0 (MQ below (uQv G uf) args s 0 0 (uA G)) (F0 m 47 ls []) := by
  obtain ⟨⟨hx, hb, hml, hown, hts⟩, hKK⟩ := id hC
  intro n
  induction n with
  | zero =>
    intro u x1 h
    cases h
  | succ n ih =>
    intro u x1 h H locs hP hS ls hl
    unfold f_X5_nextWhole_47 at h
    refine lv_iload_n hx hb dX5_nextWhole_47 rfl (lv_at hl 1 rfl) ?_
    refine u_aload_n (r := some a0) hx hb dX5_nextWhole_48 rfl (lv_at hl 0 rfl) ?_
    obtain ⟨y1, hy1, h⟩ := mbind_n h
    refine u_get hC hP (uGI_n hy1) rfl in_X5 (by decide) q629 (fun _ h => h) dX5_nextWhole_49 ?_
    refine lv_icmp_ge (tgt := 82) hx hb dX5_nextWhole_52 (by decide) (fun c2 => ?_) (fun c2 => ?_)
    · have h := mif_t c2 h
      refine u_aload_n (r := some a0) hx hb dX5_nextWhole_82 rfl (lv_at hl 0 rfl) ?_
      refine u_gets hC hS 3 rfl q556 (fun _ h => h) dX5_nextWhole_83 ?_
      obtain ⟨o3, eo3⟩ : ∃ z, z = (ug G).1 3 := ⟨_, rfl⟩
      have h := mlet_at eo3 h
      rw [← eo3]
      obtain ⟨u4, hu4, h⟩ := mbind_n h
      have zu4 := uPut_sz hu4
      refine u_put hC hP hS hu4 rfl in_X5 tyX5 tyX5_ok nmX5 (by decide) q636 (fun _ h => h) rfl (ty := (.object "SoftWheels$Sort")) (tyX5_ok 5 (by decide)) (uNarR _ _).1 (uNarR _ _).2 dX5_nextWhole_86 (fun H locs hP hS => ?_)
      cases h
      exact u_vret hC hP hS dX5_nextWhole_89
    · have h := mif_f c2 h
      refine u_aload_n (r := some a0) hx hb dX5_nextWhole_55 rfl (lv_at hl 0 rfl) ?_
      refine lv_bipush (v := 10) hx hb dX5_nextWhole_56 (by decide) ?_
      refine u_aload_n (r := some a0) hx hb dX5_nextWhole_58 rfl (lv_at hl 0 rfl) ?_
      obtain ⟨y5, hy5, h⟩ := mbind_n h
      refine u_get hC hP (uGI_n hy5) rfl in_X5 (by decide) q633 (fun _ h => h) dX5_nextWhole_59 ?_
      refine lv_imul hx hb dX5_nextWhole_62 ?_
      refine u_aload_n (r := some a0) hx hb dX5_nextWhole_63 rfl (lv_at hl 0 rfl) ?_
      obtain ⟨o6, ho6, h⟩ := mbind_n h
      refine u_get hC hP (uGR_n ho6) rfl in_X5 (by decide) q627 (fun _ h => h) dX5_nextWhole_64 ?_
      refine lv_iload_n hx hb dX5_nextWhole_67 rfl (lv_at hl 1 rfl) ?_
      obtain ⟨a7, ha7, hha7⟩ := mbind_n h
      subst ha7
      have h := hha7
      obtain ⟨y8, hy8, h⟩ := mbind_n h
      refine u_bald hC hP hy8 rfl dX5_nextWhole_68 ?_
      refine lv_iadd hx hb dX5_nextWhole_69 ?_
      refine lv_bipush (v := 48) hx hb dX5_nextWhole_70 (by decide) ?_
      refine lv_isub hx hb dX5_nextWhole_72 ?_
      obtain ⟨u9, hu9, h⟩ := mbind_n h
      have zu9 := uPut_sz hu9
      refine u_put hC hP hS hu9 rfl in_X5 tyX5 tyX5_ok nmX5 (by decide) q633 (fun _ h => h) rfl (ty := .int) (tyX5_ok 4 (by decide)) rfl rfl dX5_nextWhole_73 (fun H locs hP hS => ?_)
      obtain ⟨y10, ey10⟩ : ∃ z : Int32, z = x1 + 1 := ⟨_, rfl⟩
      have h := mlet_at ey10 h
      refine lv_iinc (v := y10) (lv' := [(1, .int y10), (0, va_rf (some a0))]) hx hb dX5_nextWhole_76 hl (k := 1) rfl (by rw [ey10]; rfl) (by decide) rfl (fun ls hl => ?_)
      refine lv_goto (tgt := 47) hx hb dX5_nextWhole_79 (by decide) ?_
      exact ih u9 y10 h _ _ hP hS _ (lv_sub hl [1, 0] rfl)
def f_X5_nextWhole_0 (N b : Nat) (g : uEnv) (a0 : Nat) : Nat → UH → Option (UH)
  | 0, _ => none
  | n + 1, u =>
    if uIs u a0 4 = true then
    ucall (f_X5_here N b g u a0) fun r4 u2 =>
    ucall (f_X5_isDigit N b g u2 r4) fun r7 u5 =>
    if r7 = 0 then
    (uGI u5 a0 4 2).bind fun y9 =>
    (uGI u5 a0 4 3).bind fun y10 =>
    if (y9 - y10) ≤ 4 then
    (uPut b u5 a0 4 4 (.int 0)).bind fun u12 =>
    (uGI u12 a0 4 3).bind fun y13 =>
    f_X5_nextWhole_47 N b g a0 N u12 y13
    else
    some u5
    else
    (uGI u5 a0 4 2).bind fun y14 =>
    (uPut b u5 a0 4 2 (.int (y14 + 1))).bind fun u15 =>
    f_X5_nextWhole_0 N b g a0 n u15
    else none
set_option maxHeartbeats 4000000 in
set_option maxRecDepth 100000 in
theorem zz_X5_nextWhole_0 {G : uG} {a0 : Nat} {uf : UH} (N : Nat) : ∀ (n : Nat) (u : UH), f_X5_nextWhole_0 N (ub G) (ug G) a0 n u = some uf → uf.1 = u.1 ∧ uf.2.1 = u.2.1 := by
  intro n
  induction n with
  | zero =>
    intro u h
    cases h
  | succ n ih =>
    intro u h
    unfold f_X5_nextWhole_0 at h
    obtain ⟨c1, h⟩ := mif_n h
    obtain ⟨r4, u2, c3, h⟩ := ucall_n h
    have zu2 := zz_X5_here N (ub G) (ug G) u a0 r4 u2 c3
    obtain ⟨r7, u5, c6, h⟩ := ucall_n h
    have zu5 := zz_X5_isDigit N (ub G) (ug G) u2 r4 r7 u5 c6
    by_cases c8 : r7 = 0
    · have h := mif_t c8 h
      obtain ⟨y9, hy9, h⟩ := mbind_n h
      obtain ⟨y10, hy10, h⟩ := mbind_n h
      by_cases c11 : (y9 - y10) ≤ 4
      · have h := mif_t c11 h
        obtain ⟨u12, hu12, h⟩ := mbind_n h
        have zu12 := uPut_sz hu12
        obtain ⟨y13, hy13, h⟩ := mbind_n h
        have hq := zz_X5_nextWhole_47 (G := G) (a0 := a0) N N u12 y13 h
        exact ⟨by omega, by omega⟩
      · have h := mif_f c11 h
        cases h
        exact ⟨by omega, by omega⟩
    · have h := mif_f c8 h
      obtain ⟨y14, hy14, h⟩ := mbind_n h
      obtain ⟨u15, hu15, h⟩ := mbind_n h
      have zu15 := uPut_sz hu15
      have hq := ih u15 h
      exact ⟨by omega, by omega⟩
set_option maxHeartbeats 4000000 in
set_option maxRecDepth 100000 in
theorem w_X5_nextWhole_0 {p : Program} {l : Launch} {e : Env} {R : Room} {s : State} {m : MethodId} {args : Array Value} {below : List Frame} {meth : Method} {c : Code} {G : uG} {a0 : Nat} {uf : UH} (hC : uC p s m args meth c G RX5 cX5_nextWhole 2 none) (hR : 1 ≤ R.frames ∧ 20 ≤ R.locals) (N : Nat) : ∀ (n : Nat) (u : UH), f_X5_nextWhole_0 N (ub G) (ug G) a0 n u = some uf → ∀ (H : Heap) (locs : List Loc), uP G u H → va_S (uA G) s.heap H locs → ∀ ls : Array Slot, lv_has ls 2 [(0, va_rf (some a0))] → W p l e R s m args below meth c H locs 0 0 (MQ below (uQv G uf) args s 0 0 (uA G)) (F0 m 0 ls []) := by
  obtain ⟨⟨hx, hb, hml, hown, hts⟩, hKK⟩ := id hC
  intro n
  induction n with
  | zero =>
    intro u h
    cases h
  | succ n ih =>
    intro u h H locs hP hS ls hl
    unfold f_X5_nextWhole_0 at h
    refine u_aload_n (r := some a0) hx hb dX5_nextWhole_0 rfl (lv_at hl 0 rfl) ?_
    obtain ⟨c1, h⟩ := mif_n h
    obtain ⟨r4, u2, c3, h⟩ := ucall_n h
    have zu2 := zz_X5_here N (ub G) (ug G) u a0 r4 u2 c3
    refine u_calli (va_runV (As := []) (rest := []) hC.1 (met_X5_here l N G u a0 r4 u2 c3) (cwV 0 hts (lw_V q343 q345 qs2 q105 q346) rfl rfl rfl (by decide +kernel) ⟨Nat.le_trans (Nat.le_of_ble_eq_true rfl) hR.1, Nat.le_trans (Nat.le_of_ble_eq_true rfl) hR.2⟩) ⟨uPc_blind, u_rcv hC hP c1 rfl, fun U hU hW => u_pre hC hP hS hU hW⟩ rfl rfl hl.1 rfl (lv_room (Nat.le_of_ble_eq_true rfl)) dX5_nextWhole_1 ⟨Nat.zero_le _, Nat.zero_le _⟩) hS (fun H locs hP hS => ?_)
    obtain ⟨r7, u5, c6, h⟩ := ucall_n h
    have zu5 := zz_X5_isDigit N (ub G) (ug G) u2 r4 r7 u5 c6
    refine u_calli (va_runS (As := [.int r4]) (rest := []) hC.1 (met_X5_isDigit l N G u2 r4 r7 u5 c6) (va_cwS 1 hts (lw_S q549 q550 q105 q551) rfl rfl rfl (by decide +kernel) ⟨Nat.le_trans (Nat.le_of_ble_eq_true rfl) hR.1, Nat.le_trans (Nat.le_of_ble_eq_true rfl) hR.2⟩) ⟨uPc_blind, fun U hU hW => u_pre hC hP hS hU hW⟩ rfl rfl hl.1 rfl (lv_room (Nat.le_of_ble_eq_true rfl)) dX5_nextWhole_4 ⟨Nat.zero_le _, Nat.zero_le _⟩) hS (fun H locs hP hS => ?_)
    refine lv_if_eq (tgt := 23) hx hb dX5_nextWhole_7 (by decide) (fun c8 => ?_) (fun c8 => ?_)
    · have h := mif_t c8 h
      refine u_aload_n (r := some a0) hx hb dX5_nextWhole_23 rfl (lv_at hl 0 rfl) ?_
      obtain ⟨y9, hy9, h⟩ := mbind_n h
      refine u_get hC hP (uGI_n hy9) rfl in_X5 (by decide) q629 (fun _ h => h) dX5_nextWhole_24 ?_
      refine u_aload_n (r := some a0) hx hb dX5_nextWhole_27 rfl (lv_at hl 0 rfl) ?_
      obtain ⟨y10, hy10, h⟩ := mbind_n h
      refine u_get hC hP (uGI_n hy10) rfl in_X5 (by decide) q630 (fun _ h => h) dX5_nextWhole_28 ?_
      refine lv_isub hx hb dX5_nextWhole_31 ?_
      refine lv_iconst (v := 4) hx hb dX5_nextWhole_32 (by decide) ?_
      refine lv_icmp_le (tgt := 37) hx hb dX5_nextWhole_33 (by decide) (fun c11 => ?_) (fun c11 => ?_)
      · have h := mif_t c11 h
        refine u_aload_n (r := some a0) hx hb dX5_nextWhole_37 rfl (lv_at hl 0 rfl) ?_
        refine lv_iconst (v := 0) hx hb dX5_nextWhole_38 (by decide) ?_
        obtain ⟨u12, hu12, h⟩ := mbind_n h
        have zu12 := uPut_sz hu12
        refine u_put hC hP hS hu12 rfl in_X5 tyX5 tyX5_ok nmX5 (by decide) q633 (fun _ h => h) rfl (ty := .int) (tyX5_ok 4 (by decide)) rfl rfl dX5_nextWhole_39 (fun H locs hP hS => ?_)
        refine u_aload_n (r := some a0) hx hb dX5_nextWhole_42 rfl (lv_at hl 0 rfl) ?_
        obtain ⟨y13, hy13, h⟩ := mbind_n h
        refine u_get hC hP (uGI_n hy13) rfl in_X5 (by decide) q630 (fun _ h => h) dX5_nextWhole_43 ?_
        refine lv_istore_n (lv' := [(1, .int y13), (0, va_rf (some a0))]) hx hb dX5_nextWhole_46 rfl hl (by decide) rfl (fun ls hl => ?_)
        exact w_X5_nextWhole_47 hC hR N N u12 y13 h _ _ hP hS _ (lv_sub hl [1, 0] rfl)
      · have h := mif_f c11 h
        cases h
        exact u_vret hC hP hS dX5_nextWhole_36
    · have h := mif_f c8 h
      refine u_aload_n (r := some a0) hx hb dX5_nextWhole_10 rfl (lv_at hl 0 rfl) ?_
      refine lv_dup hx hb dX5_nextWhole_11 (u_cat _) ?_
      obtain ⟨y14, hy14, h⟩ := mbind_n h
      refine u_get hC hP (uGI_n hy14) rfl in_X5 (by decide) q629 (fun _ h => h) dX5_nextWhole_12 ?_
      refine lv_iconst (v := 1) hx hb dX5_nextWhole_15 (by decide) ?_
      refine lv_iadd hx hb dX5_nextWhole_16 ?_
      obtain ⟨u15, hu15, h⟩ := mbind_n h
      have zu15 := uPut_sz hu15
      refine u_put hC hP hS hu15 rfl in_X5 tyX5 tyX5_ok nmX5 (by decide) q629 (fun _ h => h) rfl (ty := .int) (tyX5_ok 2 (by decide)) rfl rfl dX5_nextWhole_17 (fun H locs hP hS => ?_)
      refine lv_goto (tgt := 0) hx hb dX5_nextWhole_20 (by decide) ?_
      exact ih u15 h _ _ hP hS _ (lv_sub hl [0] rfl)
def f_X5_nextWhole (N b : Nat) (g : uEnv) (u : UH) (a0 : Nat) : Option (UH) := f_X5_nextWhole_0 N b g a0 N u
theorem zz_X5_nextWhole (N b : Nat) (g : uEnv) (u : UH) (a0 : Nat) (uf : UH) (h : f_X5_nextWhole N b g u a0 = some uf) : uf.1 = u.1 ∧ uf.2.1 = u.2.1 :=
  zz_X5_nextWhole_0 (G := ((fun _ => 0, fun _ _ => 0), fun _ => 0, b, g)) (a0 := a0) N N u h
theorem met_X5_nextWhole (l : Launch) (N : Nat) (G : uG) (u : UH) (a0 : Nat) (uf : UH) (h : f_X5_nextWhole N (ub G) (ug G) u a0 = some uf) : Met l yX5_nextWhole (ws_ yX5_nextWhole cX5_nextWhole 2 none) ({ frames := 1, cells := 0, slots := 0, locals := 20 }) (uPc G u [.ref a0]) (uQv G uf) 0 0 (uA G) := by
  exact u_met (own := RX5) (by decide +kernel) rfl (Nat.le_of_ble_eq_true rfl) (fun hC hn hsz ls hl hP => w_X5_nextWhole_0 hC ⟨Nat.le_refl _, Nat.le_refl _⟩ N N u h _ _ hP va_S.rf _ (lv_sub hl [0] rfl))
def f_X5_is_2_23 (N b : Nat) (g : uEnv) (a0 : Nat) (u : UH) (s0 : Int32) : Option (Int32 × UH) :=
    if uFit .boolean s0 = true then
    some (s0, u)
    else none
set_option maxHeartbeats 4000000 in
set_option maxRecDepth 100000 in
theorem zz_X5_is_2_23 {G : uG} {a0 : Nat} {uf : UH} {r : Int32} (N : Nat) (u : UH) (s0 : Int32) (h : f_X5_is_2_23 N (ub G) (ug G) a0 u s0 = some (r, uf)) : uf.1 = u.1 ∧ uf.2.1 = u.2.1 := by
  unfold f_X5_is_2_23 at h
  obtain ⟨c1, h⟩ := mif_n h
  obtain ⟨hr1, hr2⟩ := uret_n h
  subst hr2
  exact ⟨by omega, by omega⟩
set_option maxHeartbeats 4000000 in
set_option maxRecDepth 100000 in
theorem w_X5_is_2_23 {p : Program} {l : Launch} {e : Env} {R : Room} {s : State} {m : MethodId} {args : Array Value} {below : List Frame} {meth : Method} {c : Code} {G : uG} {a0 : Nat} {uf : UH} {r : Int32} (hC : uC p s m args meth c G RX5 cX5_is_2 2 (some .boolean)) (hR : 0 ≤ R.frames ∧ 0 ≤ R.locals) (N : Nat) (u : UH) (s0 : Int32) (h : f_X5_is_2_23 N (ub G) (ug G) a0 u s0 = some (r, uf)) {H : Heap} {locs : List Loc} (hP : uP G u H) (hS : va_S (uA G) s.heap H locs) {ls : Array Slot} (hl : lv_has ls 2 []) : W p l e R s m args below meth c H locs 0 0 (MQ below (uQi G r uf) args s 0 0 (uA G)) (F0 m 23 ls [.int s0]) := by
  obtain ⟨⟨hx, hb, hml, hown, hts⟩, hKK⟩ := id hC
  unfold f_X5_is_2_23 at h
  obtain ⟨c1, h⟩ := mif_n h
  obtain ⟨hr1, hr2⟩ := uret_n h
  subst hr1
  subst hr2
  exact u_zret hC (uFit_n c1).1 hP hS dX5_is_2_23
def f_X5_is_2_22 (N b : Nat) (g : uEnv) (a0 : Nat) (u : UH) : Option (Int32 × UH) :=
    f_X5_is_2_23 N b g a0 u 0
set_option maxHeartbeats 4000000 in
set_option maxRecDepth 100000 in
theorem zz_X5_is_2_22 {G : uG} {a0 : Nat} {uf : UH} {r : Int32} (N : Nat) (u : UH) (h : f_X5_is_2_22 N (ub G) (ug G) a0 u = some (r, uf)) : uf.1 = u.1 ∧ uf.2.1 = u.2.1 := by
  unfold f_X5_is_2_22 at h
  have hq := zz_X5_is_2_23 (G := G) (a0 := a0) N u 0 h
  exact ⟨by omega, by omega⟩
set_option maxHeartbeats 4000000 in
set_option maxRecDepth 100000 in
theorem w_X5_is_2_22 {p : Program} {l : Launch} {e : Env} {R : Room} {s : State} {m : MethodId} {args : Array Value} {below : List Frame} {meth : Method} {c : Code} {G : uG} {a0 : Nat} {uf : UH} {r : Int32} (hC : uC p s m args meth c G RX5 cX5_is_2 2 (some .boolean)) (hR : 0 ≤ R.frames ∧ 0 ≤ R.locals) (N : Nat) (u : UH) (h : f_X5_is_2_22 N (ub G) (ug G) a0 u = some (r, uf)) {H : Heap} {locs : List Loc} (hP : uP G u H) (hS : va_S (uA G) s.heap H locs) {ls : Array Slot} (hl : lv_has ls 2 []) : W p l e R s m args below meth c H locs 0 0 (MQ below (uQi G r uf) args s 0 0 (uA G)) (F0 m 22 ls []) := by
  obtain ⟨⟨hx, hb, hml, hown, hts⟩, hKK⟩ := id hC
  unfold f_X5_is_2_22 at h
  refine lv_iconst (v := 0) hx hb dX5_is_2_22 (by decide) ?_
  exact w_X5_is_2_23 hC hR N u 0 h hP hS (lv_sub hl [] rfl)
def f_X5_is_2 (N b : Nat) (g : uEnv) (u : UH) (a0 : Nat) (x1 : Int32) : Option (Int32 × UH) :=
    (uGR u a0 4 5).bind fun o1 =>
    mlet (g.1 4) fun o2 =>
    if o1 = o2 then
    (uGI u a0 4 7).bind fun y4 =>
    if y4 = x1 then
    f_X5_is_2_23 N b g a0 u 1
    else
    f_X5_is_2_22 N b g a0 u
    else
    f_X5_is_2_22 N b g a0 u
set_option maxHeartbeats 4000000 in
set_option maxRecDepth 100000 in
theorem zz_X5_is_2_0 {G : uG} {a0 : Nat} {uf : UH} {r : Int32} (N : Nat) (u : UH) (x1 : Int32) (h : f_X5_is_2 N (ub G) (ug G) u a0 x1 = some (r, uf)) : uf.1 = u.1 ∧ uf.2.1 = u.2.1 := by
  unfold f_X5_is_2 at h
  obtain ⟨o1, ho1, h⟩ := mbind_n h
  obtain ⟨o2, eo2⟩ : ∃ z, z = (ug G).1 4 := ⟨_, rfl⟩
  have h := mlet_at eo2 h
  by_cases c3 : o1 = o2
  · have h := mif_t c3 h
    obtain ⟨y4, hy4, h⟩ := mbind_n h
    by_cases c5 : y4 = x1
    · have h := mif_t c5 h
      have hq := zz_X5_is_2_23 (G := G) (a0 := a0) N u 1 h
      exact ⟨by omega, by omega⟩
    · have h := mif_f c5 h
      have hq := zz_X5_is_2_22 (G := G) (a0 := a0) N u h
      exact ⟨by omega, by omega⟩
  · have h := mif_f c3 h
    have hq := zz_X5_is_2_22 (G := G) (a0 := a0) N u h
    exact ⟨by omega, by omega⟩
set_option maxHeartbeats 4000000 in
set_option maxRecDepth 100000 in
theorem w_X5_is_2_0 {p : Program} {l : Launch} {e : Env} {R : Room} {s : State} {m : MethodId} {args : Array Value} {below : List Frame} {meth : Method} {c : Code} {G : uG} {a0 : Nat} {uf : UH} {r : Int32} (hC : uC p s m args meth c G RX5 cX5_is_2 2 (some .boolean)) (hR : 0 ≤ R.frames ∧ 0 ≤ R.locals) (N : Nat) (u : UH) (x1 : Int32) (h : f_X5_is_2 N (ub G) (ug G) u a0 x1 = some (r, uf)) {H : Heap} {locs : List Loc} (hP : uP G u H) (hS : va_S (uA G) s.heap H locs) {ls : Array Slot} (hl : lv_has ls 2 [(0, va_rf (some a0)), (1, .int x1)]) : W p l e R s m args below meth c H locs 0 0 (MQ below (uQi G r uf) args s 0 0 (uA G)) (F0 m 0 ls []) := by
  obtain ⟨⟨hx, hb, hml, hown, hts⟩, hKK⟩ := id hC
  unfold f_X5_is_2 at h
  refine u_aload_n (r := some a0) hx hb dX5_is_2_0 rfl (lv_at hl 0 rfl) ?_
  obtain ⟨o1, ho1, h⟩ := mbind_n h
  refine u_get hC hP (uGR_n ho1) rfl in_X5 (by decide) q636 (fun _ h => h) dX5_is_2_1 ?_
  refine u_gets hC hS 4 rfl q625 (fun _ h => h) dX5_is_2_4 ?_
  obtain ⟨o2, eo2⟩ : ∃ z, z = (ug G).1 4 := ⟨_, rfl⟩
  have h := mlet_at eo2 h
  rw [← eo2]
  refine lv_acmp_ne (rx := o1) (ry := o2) (tgt := 22) hx hb dX5_is_2_7 (by decide) (fun c3 => ?_) (fun c3 => ?_)
  · have h := mif_f c3 h
    exact w_X5_is_2_22 hC hR N u h hP hS (lv_sub hl [] rfl)
  · have h := mif_t c3 h
    refine u_aload_n (r := some a0) hx hb dX5_is_2_10 rfl (lv_at hl 0 rfl) ?_
    obtain ⟨y4, hy4, h⟩ := mbind_n h
    refine u_get hC hP (uGI_n hy4) rfl in_X5 (by decide) q639 (fun _ h => h) dX5_is_2_11 ?_
    refine lv_iload_n hx hb dX5_is_2_14 rfl (lv_at hl 1 rfl) ?_
    refine lv_icmp_ne (tgt := 22) hx hb dX5_is_2_15 (by decide) (fun c5 => ?_) (fun c5 => ?_)
    · have h := mif_f c5 h
      exact w_X5_is_2_22 hC hR N u h hP hS (lv_sub hl [] rfl)
    · have h := mif_t c5 h
      refine lv_iconst (v := 1) hx hb dX5_is_2_18 (by decide) ?_
      refine lv_goto (tgt := 23) hx hb dX5_is_2_19 (by decide) ?_
      exact w_X5_is_2_23 hC hR N u 1 h hP hS (lv_sub hl [] rfl)
theorem zz_X5_is_2 (N b : Nat) (g : uEnv) (u : UH) (a0 : Nat) (x1 : Int32) (r : Int32) (uf : UH) (h : f_X5_is_2 N b g u a0 x1 = some (r, uf)) : uf.1 = u.1 ∧ uf.2.1 = u.2.1 :=
  zz_X5_is_2_0 (G := ((fun _ => 0, fun _ _ => 0), fun _ => 0, b, g)) (a0 := a0) N u x1 h
theorem met_X5_is_2 (l : Launch) (N : Nat) (G : uG) (u : UH) (a0 : Nat) (x1 : Int32) (r : Int32) (uf : UH) (h : f_X5_is_2 N (ub G) (ug G) u a0 x1 = some (r, uf)) : Met l yX5_is_2 (ws_ yX5_is_2 cX5_is_2 2 (some .boolean)) ({ frames := 0, cells := 0, slots := 0, locals := 0 }) (uPc G u [.ref a0, .int x1]) (uQi G r uf) 0 0 (uA G) := by
  exact u_met (own := RX5) (by decide +kernel) rfl (Nat.le_of_ble_eq_true rfl) (fun hC hn hsz ls hl hP => w_X5_is_2_0 hC ⟨Nat.le_refl _, Nat.le_refl _⟩ N u x1 h hP va_S.rf hl)
def f_X10_init (N b : Nat) (g : uEnv) (u : UH) (a0 : Nat) (x1 : Option Nat) (x2 : Int32) (x3 : Int32) (x4 : Int32) : Option (UH) :=
    (f_J17_init N b g u a0).bind fun u1 =>
    (uPut b u1 a0 8 0 (va_rf x1)).bind fun u3 =>
    (uPut b u3 a0 8 1 (.int x2)).bind fun u4 =>
    (uPut b u4 a0 8 2 (.int x3)).bind fun u5 =>
    (uPut b u5 a0 8 3 (.int x4)).bind fun u6 =>
    some u6
set_option maxHeartbeats 4000000 in
set_option maxRecDepth 100000 in
theorem zz_X10_init_0 {G : uG} {a0 : Nat} {uf : UH} (N : Nat) (u : UH) (x1 : Option Nat) (x2 : Int32) (x3 : Int32) (x4 : Int32) (h : f_X10_init N (ub G) (ug G) u a0 x1 x2 x3 x4 = some uf) : uf.1 = u.1 ∧ uf.2.1 = u.2.1 := by
  unfold f_X10_init at h
  obtain ⟨u1, c2, h⟩ := mbind_n h
  have zu1 := zz_J17_init N (ub G) (ug G) u a0 u1 c2
  obtain ⟨u3, hu3, h⟩ := mbind_n h
  have zu3 := uPut_sz hu3
  obtain ⟨u4, hu4, h⟩ := mbind_n h
  have zu4 := uPut_sz hu4
  obtain ⟨u5, hu5, h⟩ := mbind_n h
  have zu5 := uPut_sz hu5
  obtain ⟨u6, hu6, h⟩ := mbind_n h
  have zu6 := uPut_sz hu6
  cases h
  exact ⟨by omega, by omega⟩
set_option maxHeartbeats 4000000 in
set_option maxRecDepth 100000 in
theorem w_X10_init_0 {p : Program} {l : Launch} {e : Env} {R : Room} {s : State} {m : MethodId} {args : Array Value} {below : List Frame} {meth : Method} {c : Code} {G : uG} {a0 : Nat} {uf : UH} (hC : uC p s m args meth c G RX10 cX10_init 5 none) (hI : meth.name = "<init>") (hR : 2 ≤ R.frames ∧ 40 ≤ R.locals) (N : Nat) (u : UH) (x1 : Option Nat) (x2 : Int32) (x3 : Int32) (x4 : Int32) (h : f_X10_init N (ub G) (ug G) u a0 x1 x2 x3 x4 = some uf) {H : Heap} {locs : List Loc} (hP : uP G u H) (hS : va_S (uA G) s.heap H locs) {ls : Array Slot} (hl : lv_has ls 5 [(0, va_rf (some a0)), (1, va_rf x1), (2, .int x2), (3, .int x3), (4, .int x4)]) : W p l e R s m args below meth c H locs 0 0 (MQ below (uQv G uf) args s 0 0 (uA G)) (F0 m 0 ls []) := by
  obtain ⟨⟨hx, hb, hml, hown, hts⟩, hKK⟩ := id hC
  unfold f_X10_init at h
  refine u_aload_n (r := some a0) hx hb dX10_init_0 rfl (lv_at hl 0 rfl) ?_
  obtain ⟨u1, c2, h⟩ := mbind_n h
  have zu1 := zz_J17_init N (ub G) (ug G) u a0 u1 c2
  refine u_callv (va_runI (As := []) (rest := []) hC.1 (met_J17_init l N G u a0 u1 c2) (cwI 0 hts (lw_meth q1032) rfl rfl rfl (hts _ q126) (hts _ q1030) (hts _ q1031) rfl (by decide +kernel) ⟨Nat.le_trans (Nat.le_of_ble_eq_true rfl) hR.1, Nat.le_trans (Nat.le_of_ble_eq_true rfl) hR.2⟩) ⟨uPc_blind, fun U hU hW => u_pre hC hP hS hU hW⟩ rfl rfl hl.1 rfl (lv_room (Nat.le_of_ble_eq_true rfl)) dX10_init_1 ⟨Nat.zero_le _, Nat.zero_le _⟩) hS (fun H locs hP hS => ?_)
  refine u_aload_n (r := some a0) hx hb dX10_init_4 rfl (lv_at hl 0 rfl) ?_
  refine u_aload_n (r := x1) hx hb dX10_init_5 rfl (lv_at hl 1 rfl) ?_
  obtain ⟨u3, hu3, h⟩ := mbind_n h
  have zu3 := uPut_sz hu3
  refine u_putF hC hI hP hS hu3 rfl in_X10 tyX10 tyX10_ok nmX10 (by decide) q1034 (fun _ h => h) rfl rfl (ty := (.object "java/lang/String")) (tyX10_ok 0 (by decide)) (uNarR _ _).1 (uNarR _ _).2 dX10_init_6 (fun H locs hP hS => ?_)
  refine u_aload_n (r := some a0) hx hb dX10_init_9 rfl (lv_at hl 0 rfl) ?_
  refine lv_iload_n hx hb dX10_init_10 rfl (lv_at hl 2 rfl) ?_
  obtain ⟨u4, hu4, h⟩ := mbind_n h
  have zu4 := uPut_sz hu4
  refine u_putF hC hI hP hS hu4 rfl in_X10 tyX10 tyX10_ok nmX10 (by decide) q1035 (fun _ h => h) rfl rfl (ty := .int) (tyX10_ok 1 (by decide)) rfl rfl dX10_init_11 (fun H locs hP hS => ?_)
  refine u_aload_n (r := some a0) hx hb dX10_init_14 rfl (lv_at hl 0 rfl) ?_
  refine lv_iload_n hx hb dX10_init_15 rfl (lv_at hl 3 rfl) ?_
  obtain ⟨u5, hu5, h⟩ := mbind_n h
  have zu5 := uPut_sz hu5
  refine u_putF hC hI hP hS hu5 rfl in_X10 tyX10 tyX10_ok nmX10 (by decide) q1036 (fun _ h => h) rfl rfl (ty := .int) (tyX10_ok 2 (by decide)) rfl rfl dX10_init_16 (fun H locs hP hS => ?_)
  refine u_aload_n (r := some a0) hx hb dX10_init_19 rfl (lv_at hl 0 rfl) ?_
  refine lv_iload hx hb dX10_init_20 (lv_at hl 4 rfl) ?_
  obtain ⟨u6, hu6, h⟩ := mbind_n h
  have zu6 := uPut_sz hu6
  refine u_putF hC hI hP hS hu6 rfl in_X10 tyX10 tyX10_ok nmX10 (by decide) q1037 (fun _ h => h) rfl rfl (ty := .int) (tyX10_ok 3 (by decide)) rfl rfl dX10_init_22 (fun H locs hP hS => ?_)
  cases h
  exact u_vret hC hP hS dX10_init_25
theorem zz_X10_init (N b : Nat) (g : uEnv) (u : UH) (a0 : Nat) (x1 : Option Nat) (x2 : Int32) (x3 : Int32) (x4 : Int32) (uf : UH) (h : f_X10_init N b g u a0 x1 x2 x3 x4 = some uf) : uf.1 = u.1 ∧ uf.2.1 = u.2.1 :=
  zz_X10_init_0 (G := ((fun _ => 0, fun _ _ => 0), fun _ => 0, b, g)) (a0 := a0) N u x1 x2 x3 x4 h
theorem met_X10_init (l : Launch) (N : Nat) (G : uG) (u : UH) (a0 : Nat) (x1 : Option Nat) (x2 : Int32) (x3 : Int32) (x4 : Int32) (uf : UH) (h : f_X10_init N (ub G) (ug G) u a0 x1 x2 x3 x4 = some uf) : Met l yX10_init (ws_ yX10_init cX10_init 5 none) ({ frames := 2, cells := 0, slots := 0, locals := 40 }) (uPc G u [.ref a0, va_rf x1, .int x2, .int x3, .int x4]) (uQv G uf) 0 0 (uA G) := by
  rcases x1 with _ | x1 <;> exact u_met (own := RX10) (by decide +kernel) rfl (Nat.le_of_ble_eq_true rfl) (fun hC hn hsz ls hl hP => w_X10_init_0 hC hn ⟨Nat.le_refl _, Nat.le_refl _⟩ N u _ x2 x3 x4 h hP va_S.rf hl)
def f_X1_isPlan (N b : Nat) (g : uEnv) (u : UH) (a0 : Nat) (x1 : Int32) : Option (Int32 × UH) :=
    (uGR u a0 0 10).bind fun o1 =>
    (o1).bind fun a2 =>
    if uIs u a2 18 = true then
    ucall (f_J2_size N b g u a2) fun r6 u4 =>
    ucall (f_X1_in N b g u4 x1 0 (r6 - 1)) fun r9 u7 =>
    if uFit .boolean r9 = true then
    some (r9, u7)
    else none
    else none
set_option maxHeartbeats 4000000 in
set_option maxRecDepth 100000 in
theorem zz_X1_isPlan_0 {G : uG} {a0 : Nat} {uf : UH} {r : Int32} (N : Nat) (u : UH) (x1 : Int32) (h : f_X1_isPlan N (ub G) (ug G) u a0 x1 = some (r, uf)) : uf.1 = u.1 ∧ uf.2.1 = u.2.1 := by
  unfold f_X1_isPlan at h
  obtain ⟨o1, ho1, h⟩ := mbind_n h
  obtain ⟨a2, ha2, hha2⟩ := mbind_n h
  subst ha2
  have h := hha2
  obtain ⟨c3, h⟩ := mif_n h
  obtain ⟨r6, u4, c5, h⟩ := ucall_n h
  have zu4 := zz_J2_size N (ub G) (ug G) u a2 r6 u4 c5
  obtain ⟨r9, u7, c8, h⟩ := ucall_n h
  have zu7 := zz_X1_in N (ub G) (ug G) u4 x1 0 (r6 - 1) r9 u7 c8
  obtain ⟨c10, h⟩ := mif_n h
  obtain ⟨hr1, hr2⟩ := uret_n h
  subst hr2
  exact ⟨by omega, by omega⟩
set_option maxHeartbeats 4000000 in
set_option maxRecDepth 100000 in
theorem w_X1_isPlan_0 {p : Program} {l : Launch} {e : Env} {R : Room} {s : State} {m : MethodId} {args : Array Value} {below : List Frame} {meth : Method} {c : Code} {G : uG} {a0 : Nat} {uf : UH} {r : Int32} (hC : uC p s m args meth c G RX1 cX1_isPlan 2 (some .boolean)) (hR : 1 ≤ R.frames ∧ 22 ≤ R.locals) (N : Nat) (u : UH) (x1 : Int32) (h : f_X1_isPlan N (ub G) (ug G) u a0 x1 = some (r, uf)) {H : Heap} {locs : List Loc} (hP : uP G u H) (hS : va_S (uA G) s.heap H locs) {ls : Array Slot} (hl : lv_has ls 2 [(0, va_rf (some a0)), (1, .int x1)]) : W p l e R s m args below meth c H locs 0 0 (MQ below (uQi G r uf) args s 0 0 (uA G)) (F0 m 0 ls []) := by
  obtain ⟨⟨hx, hb, hml, hown, hts⟩, hKK⟩ := id hC
  unfold f_X1_isPlan at h
  refine lv_iload_n hx hb dX1_isPlan_0 rfl (lv_at hl 1 rfl) ?_
  refine lv_iconst (v := 0) hx hb dX1_isPlan_1 (by decide) ?_
  refine u_aload_n (r := some a0) hx hb dX1_isPlan_2 rfl (lv_at hl 0 rfl) ?_
  obtain ⟨o1, ho1, h⟩ := mbind_n h
  refine u_get hC hP (uGR_n ho1) rfl in_X1 (by decide) q225 (fun _ h => h) dX1_isPlan_3 ?_
  obtain ⟨a2, ha2, hha2⟩ := mbind_n h
  subst ha2
  have h := hha2
  obtain ⟨c3, h⟩ := mif_n h
  obtain ⟨r6, u4, c5, h⟩ := ucall_n h
  have zu4 := zz_J2_size N (ub G) (ug G) u a2 r6 u4 c5
  refine u_calli (va_runV (As := []) (rest := [.int 0, .int x1]) hC.1 (met_J2_size l N G u a2 r6 u4 c5) (cwV 0 hts (lw_V q1063 q894 q895 q102 q896) rfl rfl rfl (by decide +kernel) ⟨Nat.le_trans (Nat.le_of_ble_eq_true rfl) hR.1, Nat.le_trans (Nat.le_of_ble_eq_true rfl) hR.2⟩) ⟨uPc_blind, u_rcv hC hP c3 rfl, fun U hU hW => u_pre hC hP hS hU hW⟩ rfl rfl hl.1 rfl (lv_room (Nat.le_of_ble_eq_true rfl)) dX1_isPlan_6 ⟨Nat.zero_le _, Nat.zero_le _⟩) hS (fun H locs hP hS => ?_)
  refine lv_iconst (v := 1) hx hb dX1_isPlan_9 (by decide) ?_
  refine lv_isub hx hb dX1_isPlan_10 ?_
  obtain ⟨r9, u7, c8, h⟩ := ucall_n h
  have zu7 := zz_X1_in N (ub G) (ug G) u4 x1 0 (r6 - 1) r9 u7 c8
  refine u_calli (va_runS (As := [.int x1, .int 0, .int (r6 - 1)]) (rest := []) hC.1 (met_X1_in l N G u4 x1 0 (r6 - 1) r9 u7 c8) (va_cwS 3 hts (lw_S q273 q274 q98 q275) rfl rfl rfl (by decide +kernel) ⟨Nat.le_trans (Nat.le_of_ble_eq_true rfl) hR.1, Nat.le_trans (Nat.le_of_ble_eq_true rfl) hR.2⟩) ⟨uPc_blind, fun U hU hW => u_pre hC hP hS hU hW⟩ rfl rfl hl.1 rfl (lv_room (Nat.le_of_ble_eq_true rfl)) dX1_isPlan_11 ⟨Nat.zero_le _, Nat.zero_le _⟩) hS (fun H locs hP hS => ?_)
  obtain ⟨c10, h⟩ := mif_n h
  obtain ⟨hr1, hr2⟩ := uret_n h
  subst hr1
  subst hr2
  exact u_zret hC (uFit_n c10).1 hP hS dX1_isPlan_14
theorem zz_X1_isPlan (N b : Nat) (g : uEnv) (u : UH) (a0 : Nat) (x1 : Int32) (r : Int32) (uf : UH) (h : f_X1_isPlan N b g u a0 x1 = some (r, uf)) : uf.1 = u.1 ∧ uf.2.1 = u.2.1 :=
  zz_X1_isPlan_0 (G := ((fun _ => 0, fun _ _ => 0), fun _ => 0, b, g)) (a0 := a0) N u x1 h
theorem met_X1_isPlan (l : Launch) (N : Nat) (G : uG) (u : UH) (a0 : Nat) (x1 : Int32) (r : Int32) (uf : UH) (h : f_X1_isPlan N (ub G) (ug G) u a0 x1 = some (r, uf)) : Met l yX1_isPlan (ws_ yX1_isPlan cX1_isPlan 2 (some .boolean)) ({ frames := 1, cells := 0, slots := 0, locals := 22 }) (uPc G u [.ref a0, .int x1]) (uQi G r uf) 0 0 (uA G) := by
  exact u_met (own := RX1) (by decide +kernel) rfl (Nat.le_of_ble_eq_true rfl) (fun hC hn hsz ls hl hP => w_X1_isPlan_0 hC ⟨Nat.le_refl _, Nat.le_refl _⟩ N u x1 h hP va_S.rf hl)
def f_X14_truths_52 (N b : Nat) (g : uEnv) (a0 : Nat) (k4 : UH → Int32 → Int32 → Option (Int32 × UH)) (u : UH) (x2 : Int32) (s0 : Int32) (s1 : Int32) : Option (Int32 × UH) :=
    mlet (s1 * s0) fun y1 =>
    mlet (x2 + 1) fun y2 =>
    k4 u y1 y2
set_option maxHeartbeats 4000000 in
set_option maxRecDepth 100000 in
theorem zz_X14_truths_52 {G : uG} {a0 : Nat} {uf : UH} {r : Int32} (N : Nat) (k4 : UH → Int32 → Int32 → Option (Int32 × UH)) (hk4 : ∀ (u : UH) (x1 : Int32) (x2 : Int32), k4 u x1 x2 = some (r, uf) → uf.1 = u.1 ∧ uf.2.1 = u.2.1) (u : UH) (x2 : Int32) (s0 : Int32) (s1 : Int32) (h : f_X14_truths_52 N (ub G) (ug G) a0 k4 u x2 s0 s1 = some (r, uf)) : uf.1 = u.1 ∧ uf.2.1 = u.2.1 := by
  unfold f_X14_truths_52 at h
  obtain ⟨y1, ey1⟩ : ∃ z, z = s1 * s0 := ⟨_, rfl⟩
  have h := mlet_at ey1 h
  obtain ⟨y2, ey2⟩ : ∃ z : Int32, z = x2 + 1 := ⟨_, rfl⟩
  have h := mlet_at ey2 h
  have hq := hk4 u y1 y2 h
  exact ⟨by omega, by omega⟩
set_option maxHeartbeats 4000000 in
set_option maxRecDepth 100000 in
theorem w_X14_truths_52 {p : Program} {l : Launch} {e : Env} {R : Room} {s : State} {m : MethodId} {args : Array Value} {below : List Frame} {meth : Method} {c : Code} {G : uG} {a0 : Nat} {uf : UH} {r : Int32} (hC : uC p s m args meth c G RX14 cX14_truths 3 (some .int)) (hR : 3 ≤ R.frames ∧ 64 ≤ R.locals) (N : Nat) (k4 : UH → Int32 → Int32 → Option (Int32 × UH)) (hk4 : ∀ (u : UH) (x1 : Int32) (x2 : Int32), k4 u x1 x2 = some (r, uf) → ∀ (H : Heap) (locs : List Loc), uP G u H → va_S (uA G) s.heap H locs → ∀ ls : Array Slot, lv_has ls 3 [(0, va_rf (some a0)), (1, .int x1), (2, .int x2)] → W p l e R s m args below meth c H locs 0 0 (MQ below (uQi G r uf) args s 0 0 (uA G)) (F0 m 4 ls [])) (u : UH) (x2 : Int32) (s0 : Int32) (s1 : Int32) (h : f_X14_truths_52 N (ub G) (ug G) a0 k4 u x2 s0 s1 = some (r, uf)) {H : Heap} {locs : List Loc} (hP : uP G u H) (hS : va_S (uA G) s.heap H locs) {ls : Array Slot} (hl : lv_has ls 3 [(0, va_rf (some a0)), (2, .int x2)]) : W p l e R s m args below meth c H locs 0 0 (MQ below (uQi G r uf) args s 0 0 (uA G)) (F0 m 52 ls [.int s0, .int s1]) := by
  obtain ⟨⟨hx, hb, hml, hown, hts⟩, hKK⟩ := id hC
  unfold f_X14_truths_52 at h
  refine lv_imul hx hb dX14_truths_52 ?_
  refine lv_topi (fun y1 ey1 => ?_)
  have h := mlet_at ey1 h
  refine lv_istore_n (lv' := [(1, .int y1), (0, va_rf (some a0)), (2, .int x2)]) hx hb dX14_truths_53 rfl hl (by decide) rfl (fun ls hl => ?_)
  obtain ⟨y2, ey2⟩ : ∃ z : Int32, z = x2 + 1 := ⟨_, rfl⟩
  have h := mlet_at ey2 h
  refine lv_iinc (v := y2) (lv' := [(2, .int y2), (1, .int y1), (0, va_rf (some a0))]) hx hb dX14_truths_54 hl (k := 2) rfl (by rw [ey2]; rfl) (by decide) rfl (fun ls hl => ?_)
  refine lv_goto (tgt := 4) hx hb dX14_truths_57 (by decide) ?_
  exact hk4 u y1 y2 h _ _ hP hS _ (lv_sub hl [2, 1, 0] rfl)
def f_X14_truths_4 (N b : Nat) (g : uEnv) (a0 : Nat) : Nat → UH → Int32 → Int32 → Option (Int32 × UH)
  | 0, _, _, _ => none
  | n + 1, u, x1, x2 =>
    (uGR u a0 12 6).bind fun o1 =>
    (o1).bind fun a2 =>
    if uIs u a2 18 = true then
    ucall (f_J2_size N b g u a2) fun r6 u4 =>
    if r6 ≤ x2 then
    some (x1, u4)
    else
    (uGR u4 a0 12 6).bind fun o8 =>
    (o8).bind fun a9 =>
    if uIs u4 a9 18 = true then
    ucall (f_J2_get N b g u4 a9 x2) fun o13 u11 =>
    (o13).bind fun a14 =>
    if uIs u11 a14 13 = true then
    (uGI u11 a14 13 2).bind fun y16 =>
    if y16 = (-1) then
    (uGR u11 a0 12 6).bind fun o18 =>
    (o18).bind fun a19 =>
    if uIs u11 a19 18 = true then
    ucall (f_J2_get N b g u11 a19 x2) fun o23 u21 =>
    (o23).bind fun a24 =>
    if uIs u21 a24 13 = true then
    if uIs u21 a24 13 = true then
    ucall (f_X15_kinds N b g u21 a24) fun r29 u27 =>
    f_X14_truths_52 N b g a0 (f_X14_truths_4 N b g a0 n) u27 x2 r29 x1
    else none
    else none
    else none
    else
    f_X14_truths_52 N b g a0 (f_X14_truths_4 N b g a0 n) u11 x2 1 x1
    else none
    else none
    else none
set_option maxHeartbeats 4000000 in
set_option maxRecDepth 100000 in
theorem zz_X14_truths_4 {G : uG} {a0 : Nat} {uf : UH} {r : Int32} (N : Nat) : ∀ (n : Nat) (u : UH) (x1 : Int32) (x2 : Int32), f_X14_truths_4 N (ub G) (ug G) a0 n u x1 x2 = some (r, uf) → uf.1 = u.1 ∧ uf.2.1 = u.2.1 := by
  intro n
  induction n with
  | zero =>
    intro u x1 x2 h
    cases h
  | succ n ih =>
    intro u x1 x2 h
    unfold f_X14_truths_4 at h
    obtain ⟨o1, ho1, h⟩ := mbind_n h
    obtain ⟨a2, ha2, hha2⟩ := mbind_n h
    subst ha2
    have h := hha2
    obtain ⟨c3, h⟩ := mif_n h
    obtain ⟨r6, u4, c5, h⟩ := ucall_n h
    have zu4 := zz_J2_size N (ub G) (ug G) u a2 r6 u4 c5
    by_cases c7 : r6 ≤ x2
    · have h := mif_t c7 h
      obtain ⟨hr1, hr2⟩ := uret_n h
      subst hr2
      exact ⟨by omega, by omega⟩
    · have h := mif_f c7 h
      obtain ⟨o8, ho8, h⟩ := mbind_n h
      obtain ⟨a9, ha9, hha9⟩ := mbind_n h
      subst ha9
      have h := hha9
      obtain ⟨c10, h⟩ := mif_n h
      obtain ⟨o13, u11, c12, h⟩ := ucall_n h
      have zu11 := zz_J2_get N (ub G) (ug G) u4 a9 x2 o13 u11 c12
      obtain ⟨a14, ha14, hha14⟩ := mbind_n h
      subst ha14
      have h := hha14
      obtain ⟨c15, h⟩ := mif_n h
      obtain ⟨y16, hy16, h⟩ := mbind_n h
      by_cases c17 : y16 = (-1)
      · have h := mif_t c17 h
        obtain ⟨o18, ho18, h⟩ := mbind_n h
        obtain ⟨a19, ha19, hha19⟩ := mbind_n h
        subst ha19
        have h := hha19
        obtain ⟨c20, h⟩ := mif_n h
        obtain ⟨o23, u21, c22, h⟩ := ucall_n h
        have zu21 := zz_J2_get N (ub G) (ug G) u11 a19 x2 o23 u21 c22
        obtain ⟨a24, ha24, hha24⟩ := mbind_n h
        subst ha24
        have h := hha24
        obtain ⟨c25, h⟩ := mif_n h
        obtain ⟨c26, h⟩ := mif_n h
        obtain ⟨r29, u27, c28, h⟩ := ucall_n h
        have zu27 := zz_X15_kinds N (ub G) (ug G) u21 a24 r29 u27 c28
        have hq := zz_X14_truths_52 (G := G) (a0 := a0) N (f_X14_truths_4 N (ub G) (ug G) a0 n) ih u27 x2 r29 x1 h
        exact ⟨by omega, by omega⟩
      · have h := mif_f c17 h
        have hq := zz_X14_truths_52 (G := G) (a0 := a0) N (f_X14_truths_4 N (ub G) (ug G) a0 n) ih u11 x2 1 x1 h
        exact ⟨by omega, by omega⟩
set_option maxHeartbeats 4000000 in
set_option maxRecDepth 100000 in
theorem w_X14_truths_4 {p : Program} {l : Launch} {e : Env} {R : Room} {s : State} {m : MethodId} {args : Array Value} {below : List Frame} {meth : Method} {c : Code} {G : uG} {a0 : Nat} {uf : UH} {r : Int32} (hC : uC p s m args meth c G RX14 cX14_truths 3 (some .int)) (hR : 3 ≤ R.frames ∧ 64 ≤ R.locals) (N : Nat) : ∀ (n : Nat) (u : UH) (x1 : Int32) (x2 : Int32), f_X14_truths_4 N (ub G) (ug G) a0 n u x1 x2 = some (r, uf) → ∀ (H : Heap) (locs : List Loc), uP G u H → va_S (uA G) s.heap H locs → ∀ ls : Array Slot, lv_has ls 3 [(0, va_rf (some a0)), (1, .int x1), (2, .int x2)] → W p l e R s m args below meth c H locs 0 0 (MQ below (uQi G r uf) args s 0 0 (uA G)) (F0 m 4 ls []) := by
  obtain ⟨⟨hx, hb, hml, hown, hts⟩, hKK⟩ := id hC
  intro n
  induction n with
  | zero =>
    intro u x1 x2 h
    cases h
  | succ n ih =>
    intro u x1 x2 h H locs hP hS ls hl
    unfold f_X14_truths_4 at h
    refine lv_iload_n hx hb dX14_truths_4 rfl (lv_at hl 2 rfl) ?_
    refine u_aload_n (r := some a0) hx hb dX14_truths_5 rfl (lv_at hl 0 rfl) ?_
    obtain ⟨o1, ho1, h⟩ := mbind_n h
    refine u_get hC hP (uGR_n ho1) rfl in_X14 (by decide) q1148 (fun _ h => h) dX14_truths_6 ?_
    obtain ⟨a2, ha2, hha2⟩ := mbind_n h
    subst ha2
    have h := hha2
    obtain ⟨c3, h⟩ := mif_n h
    obtain ⟨r6, u4, c5, h⟩ := ucall_n h
    have zu4 := zz_J2_size N (ub G) (ug G) u a2 r6 u4 c5
    refine u_calli (va_runV (As := []) (rest := [.int x2]) hC.1 (met_J2_size l N G u a2 r6 u4 c5) (cwV 0 hts (lw_V q1455 q894 q895 q102 q896) rfl rfl rfl (by decide +kernel) ⟨Nat.le_trans (Nat.le_of_ble_eq_true rfl) hR.1, Nat.le_trans (Nat.le_of_ble_eq_true rfl) hR.2⟩) ⟨uPc_blind, u_rcv hC hP c3 rfl, fun U hU hW => u_pre hC hP hS hU hW⟩ rfl rfl hl.1 rfl (lv_room (Nat.le_of_ble_eq_true rfl)) dX14_truths_9 ⟨Nat.zero_le _, Nat.zero_le _⟩) hS (fun H locs hP hS => ?_)
    refine lv_icmp_ge (tgt := 60) hx hb dX14_truths_12 (by decide) (fun c7 => ?_) (fun c7 => ?_)
    · have h := mif_t c7 h
      refine lv_iload_n hx hb dX14_truths_60 rfl (lv_at hl 1 rfl) ?_
      obtain ⟨hr1, hr2⟩ := uret_n h
      subst hr1
      subst hr2
      exact u_iret hC hP hS dX14_truths_61
    · have h := mif_f c7 h
      refine lv_iload_n hx hb dX14_truths_15 rfl (lv_at hl 1 rfl) ?_
      refine u_aload_n (r := some a0) hx hb dX14_truths_16 rfl (lv_at hl 0 rfl) ?_
      obtain ⟨o8, ho8, h⟩ := mbind_n h
      refine u_get hC hP (uGR_n ho8) rfl in_X14 (by decide) q1148 (fun _ h => h) dX14_truths_17 ?_
      refine lv_iload_n hx hb dX14_truths_20 rfl (lv_at hl 2 rfl) ?_
      obtain ⟨a9, ha9, hha9⟩ := mbind_n h
      subst ha9
      have h := hha9
      obtain ⟨c10, h⟩ := mif_n h
      obtain ⟨o13, u11, c12, h⟩ := ucall_n h
      have zu11 := zz_J2_get N (ub G) (ug G) u4 a9 x2 o13 u11 c12
      refine u_callr (va_runV (As := [.int x2]) (rest := [.int x1]) hC.1 (met_J2_get l N G u4 a9 x2 o13 u11 c12) (cwV 1 hts (lw_V q1272 q898 q899 q102 q900) rfl rfl rfl (by decide +kernel) ⟨Nat.le_trans (Nat.le_of_ble_eq_true rfl) hR.1, Nat.le_trans (Nat.le_of_ble_eq_true rfl) hR.2⟩) ⟨uPc_blind, u_rcv hC hP c10 rfl, fun U hU hW => u_pre hC hP hS hU hW⟩ rfl rfl hl.1 rfl (lv_room (Nat.le_of_ble_eq_true rfl)) dX14_truths_21 ⟨Nat.zero_le _, Nat.zero_le _⟩) hS (fun H locs hP hS => ?_)
      obtain ⟨a14, ha14, hha14⟩ := mbind_n h
      subst ha14
      have h := hha14
      obtain ⟨c15, h⟩ := mif_n h
      refine u_castS hC hP c15 rfl q1132 dX14_truths_24 ?_
      obtain ⟨y16, hy16, h⟩ := mbind_n h
      refine u_getN hC hP (uGI_n hy16) rfl in_X15 (by decide) q1221 (fun _ h => h) dX14_truths_27 ?_
      refine lv_iconst (v := (-1)) hx hb dX14_truths_30 (by decide) ?_
      refine lv_icmp_ne (tgt := 51) hx hb dX14_truths_31 (by decide) (fun c17 => ?_) (fun c17 => ?_)
      · have h := mif_f c17 h
        refine lv_iconst (v := 1) hx hb dX14_truths_51 (by decide) ?_
        exact w_X14_truths_52 hC hR N (f_X14_truths_4 N (ub G) (ug G) a0 n) ih u11 x2 1 x1 h hP hS (lv_sub hl [0, 2] rfl)
      · have h := mif_t c17 h
        refine u_aload_n (r := some a0) hx hb dX14_truths_34 rfl (lv_at hl 0 rfl) ?_
        obtain ⟨o18, ho18, h⟩ := mbind_n h
        refine u_get hC hP (uGR_n ho18) rfl in_X14 (by decide) q1148 (fun _ h => h) dX14_truths_35 ?_
        refine lv_iload_n hx hb dX14_truths_38 rfl (lv_at hl 2 rfl) ?_
        obtain ⟨a19, ha19, hha19⟩ := mbind_n h
        subst ha19
        have h := hha19
        obtain ⟨c20, h⟩ := mif_n h
        obtain ⟨o23, u21, c22, h⟩ := ucall_n h
        have zu21 := zz_J2_get N (ub G) (ug G) u11 a19 x2 o23 u21 c22
        refine u_callr (va_runV (As := [.int x2]) (rest := [.int x1]) hC.1 (met_J2_get l N G u11 a19 x2 o23 u21 c22) (cwV 1 hts (lw_V q1272 q898 q899 q102 q900) rfl rfl rfl (by decide +kernel) ⟨Nat.le_trans (Nat.le_of_ble_eq_true rfl) hR.1, Nat.le_trans (Nat.le_of_ble_eq_true rfl) hR.2⟩) ⟨uPc_blind, u_rcv hC hP c20 rfl, fun U hU hW => u_pre hC hP hS hU hW⟩ rfl rfl hl.1 rfl (lv_room (Nat.le_of_ble_eq_true rfl)) dX14_truths_39 ⟨Nat.zero_le _, Nat.zero_le _⟩) hS (fun H locs hP hS => ?_)
        obtain ⟨a24, ha24, hha24⟩ := mbind_n h
        subst ha24
        have h := hha24
        obtain ⟨c25, h⟩ := mif_n h
        refine u_castS hC hP c25 rfl q1132 dX14_truths_42 ?_
        obtain ⟨c26, h⟩ := mif_n h
        obtain ⟨r29, u27, c28, h⟩ := ucall_n h
        have zu27 := zz_X15_kinds N (ub G) (ug G) u21 a24 r29 u27 c28
        refine u_calli (va_runV (As := []) (rest := [.int x1]) hC.1 (met_X15_kinds l N G u21 a24 r29 u27 c28) (cwV 0 hts (lw_V q1469 q1241 q1242 q132 q1243) rfl rfl rfl (by decide +kernel) ⟨Nat.le_trans (Nat.le_of_ble_eq_true rfl) hR.1, Nat.le_trans (Nat.le_of_ble_eq_true rfl) hR.2⟩) ⟨uPc_blind, u_rcv hC hP c26 rfl, fun U hU hW => u_pre hC hP hS hU hW⟩ rfl rfl hl.1 rfl (lv_room (Nat.le_of_ble_eq_true rfl)) dX14_truths_45 ⟨Nat.zero_le _, Nat.zero_le _⟩) hS (fun H locs hP hS => ?_)
        refine lv_goto (tgt := 52) hx hb dX14_truths_48 (by decide) ?_
        exact w_X14_truths_52 hC hR N (f_X14_truths_4 N (ub G) (ug G) a0 n) ih u27 x2 r29 x1 h hP hS (lv_sub hl [0, 2] rfl)
def f_X14_truths (N b : Nat) (g : uEnv) (u : UH) (a0 : Nat) : Option (Int32 × UH) :=
    f_X14_truths_4 N b g a0 N u 1 0
set_option maxHeartbeats 4000000 in
set_option maxRecDepth 100000 in
theorem zz_X14_truths_0 {G : uG} {a0 : Nat} {uf : UH} {r : Int32} (N : Nat) (u : UH) (h : f_X14_truths N (ub G) (ug G) u a0 = some (r, uf)) : uf.1 = u.1 ∧ uf.2.1 = u.2.1 := by
  unfold f_X14_truths at h
  have hq := zz_X14_truths_4 (G := G) (a0 := a0) N N u 1 0 h
  exact ⟨by omega, by omega⟩
set_option maxHeartbeats 4000000 in
set_option maxRecDepth 100000 in
theorem w_X14_truths_0 {p : Program} {l : Launch} {e : Env} {R : Room} {s : State} {m : MethodId} {args : Array Value} {below : List Frame} {meth : Method} {c : Code} {G : uG} {a0 : Nat} {uf : UH} {r : Int32} (hC : uC p s m args meth c G RX14 cX14_truths 3 (some .int)) (hR : 3 ≤ R.frames ∧ 64 ≤ R.locals) (N : Nat) (u : UH) (h : f_X14_truths N (ub G) (ug G) u a0 = some (r, uf)) {H : Heap} {locs : List Loc} (hP : uP G u H) (hS : va_S (uA G) s.heap H locs) {ls : Array Slot} (hl : lv_has ls 3 [(0, va_rf (some a0))]) : W p l e R s m args below meth c H locs 0 0 (MQ below (uQi G r uf) args s 0 0 (uA G)) (F0 m 0 ls []) := by
  obtain ⟨⟨hx, hb, hml, hown, hts⟩, hKK⟩ := id hC
  unfold f_X14_truths at h
  refine lv_iconst (v := 1) hx hb dX14_truths_0 (by decide) ?_
  refine lv_istore_n (lv' := [(1, .int 1), (0, va_rf (some a0))]) hx hb dX14_truths_1 rfl hl (by decide) rfl (fun ls hl => ?_)
  refine lv_iconst (v := 0) hx hb dX14_truths_2 (by decide) ?_
  refine lv_istore_n (lv' := [(2, .int 0), (1, .int 1), (0, va_rf (some a0))]) hx hb dX14_truths_3 rfl hl (by decide) rfl (fun ls hl => ?_)
  exact w_X14_truths_4 hC hR N N u 1 0 h _ _ hP hS _ (lv_sub hl [2, 1, 0] rfl)
theorem zz_X14_truths (N b : Nat) (g : uEnv) (u : UH) (a0 : Nat) (r : Int32) (uf : UH) (h : f_X14_truths N b g u a0 = some (r, uf)) : uf.1 = u.1 ∧ uf.2.1 = u.2.1 :=
  zz_X14_truths_0 (G := ((fun _ => 0, fun _ _ => 0), fun _ => 0, b, g)) (a0 := a0) N u h
theorem met_X14_truths (l : Launch) (N : Nat) (G : uG) (u : UH) (a0 : Nat) (r : Int32) (uf : UH) (h : f_X14_truths N (ub G) (ug G) u a0 = some (r, uf)) : Met l yX14_truths (ws_ yX14_truths cX14_truths 3 (some .int)) ({ frames := 3, cells := 0, slots := 0, locals := 64 }) (uPc G u [.ref a0]) (uQi G r uf) 0 0 (uA G) := by
  exact u_met (own := RX14) (by decide +kernel) rfl (Nat.le_of_ble_eq_true rfl) (fun hC hn hsz ls hl hP => w_X14_truths_0 hC ⟨Nat.le_refl _, Nat.le_refl _⟩ N u h hP va_S.rf hl)
def f_X14_open_41 (N b : Nat) (g : uEnv) (a0 : Nat) (k4 : UH → Int32 → Int32 → Option (Int32 × UH)) (u : UH) (x2 : Int32) (s0 : Int32) (s1 : Int32) : Option (Int32 × UH) :=
    mlet (s1 ||| s0) fun y1 =>
    mlet (x2 + 1) fun y2 =>
    k4 u y1 y2
set_option maxHeartbeats 4000000 in
set_option maxRecDepth 100000 in
theorem zz_X14_open_41 {G : uG} {a0 : Nat} {uf : UH} {r : Int32} (N : Nat) (k4 : UH → Int32 → Int32 → Option (Int32 × UH)) (hk4 : ∀ (u : UH) (x1 : Int32) (x2 : Int32), k4 u x1 x2 = some (r, uf) → uf.1 = u.1 ∧ uf.2.1 = u.2.1) (u : UH) (x2 : Int32) (s0 : Int32) (s1 : Int32) (h : f_X14_open_41 N (ub G) (ug G) a0 k4 u x2 s0 s1 = some (r, uf)) : uf.1 = u.1 ∧ uf.2.1 = u.2.1 := by
  unfold f_X14_open_41 at h
  obtain ⟨y1, ey1⟩ : ∃ z, z = s1 ||| s0 := ⟨_, rfl⟩
  have h := mlet_at ey1 h
  obtain ⟨y2, ey2⟩ : ∃ z : Int32, z = x2 + 1 := ⟨_, rfl⟩
  have h := mlet_at ey2 h
  have hq := hk4 u y1 y2 h
  exact ⟨by omega, by omega⟩
set_option maxHeartbeats 4000000 in
set_option maxRecDepth 100000 in
theorem w_X14_open_41 {p : Program} {l : Launch} {e : Env} {R : Room} {s : State} {m : MethodId} {args : Array Value} {below : List Frame} {meth : Method} {c : Code} {G : uG} {a0 : Nat} {uf : UH} {r : Int32} (hC : uC p s m args meth c G RX14 cX14_open 3 (some .int)) (hR : 3 ≤ R.frames ∧ 64 ≤ R.locals) (N : Nat) (k4 : UH → Int32 → Int32 → Option (Int32 × UH)) (hk4 : ∀ (u : UH) (x1 : Int32) (x2 : Int32), k4 u x1 x2 = some (r, uf) → ∀ (H : Heap) (locs : List Loc), uP G u H → va_S (uA G) s.heap H locs → ∀ ls : Array Slot, lv_has ls 3 [(0, va_rf (some a0)), (1, .int x1), (2, .int x2)] → W p l e R s m args below meth c H locs 0 0 (MQ below (uQi G r uf) args s 0 0 (uA G)) (F0 m 4 ls [])) (u : UH) (x2 : Int32) (s0 : Int32) (s1 : Int32) (h : f_X14_open_41 N (ub G) (ug G) a0 k4 u x2 s0 s1 = some (r, uf)) {H : Heap} {locs : List Loc} (hP : uP G u H) (hS : va_S (uA G) s.heap H locs) {ls : Array Slot} (hl : lv_has ls 3 [(0, va_rf (some a0)), (2, .int x2)]) : W p l e R s m args below meth c H locs 0 0 (MQ below (uQi G r uf) args s 0 0 (uA G)) (F0 m 41 ls [.int s0, .int s1]) := by
  obtain ⟨⟨hx, hb, hml, hown, hts⟩, hKK⟩ := id hC
  unfold f_X14_open_41 at h
  refine lv_ior hx hb dX14_open_41 ?_
  refine lv_topi (fun y1 ey1 => ?_)
  have h := mlet_at ey1 h
  refine lv_istore_n (lv' := [(1, .int y1), (0, va_rf (some a0)), (2, .int x2)]) hx hb dX14_open_42 rfl hl (by decide) rfl (fun ls hl => ?_)
  obtain ⟨y2, ey2⟩ : ∃ z : Int32, z = x2 + 1 := ⟨_, rfl⟩
  have h := mlet_at ey2 h
  refine lv_iinc (v := y2) (lv' := [(2, .int y2), (1, .int y1), (0, va_rf (some a0))]) hx hb dX14_open_43 hl (k := 2) rfl (by rw [ey2]; rfl) (by decide) rfl (fun ls hl => ?_)
  refine lv_goto (tgt := 4) hx hb dX14_open_46 (by decide) ?_
  exact hk4 u y1 y2 h _ _ hP hS _ (lv_sub hl [2, 1, 0] rfl)
def f_X14_open_4 (N b : Nat) (g : uEnv) (a0 : Nat) : Nat → UH → Int32 → Int32 → Option (Int32 × UH)
  | 0, _, _, _ => none
  | n + 1, u, x1, x2 =>
    (uGR u a0 12 6).bind fun o1 =>
    (o1).bind fun a2 =>
    if uIs u a2 18 = true then
    ucall (f_J2_size N b g u a2) fun r6 u4 =>
    if r6 ≤ x2 then
    some (x1, u4)
    else
    (uGR u4 a0 12 6).bind fun o8 =>
    (o8).bind fun a9 =>
    if uIs u4 a9 18 = true then
    ucall (f_J2_get N b g u4 a9 x2) fun o13 u11 =>
    (o13).bind fun a14 =>
    if uIs u11 a14 13 = true then
    (uGI u11 a14 13 2).bind fun y16 =>
    if y16 = (-1) then
    f_X14_open_41 N b g a0 (f_X14_open_4 N b g a0 n) u11 x2 (1 <<< (x2 &&& 31)) x1
    else
    f_X14_open_41 N b g a0 (f_X14_open_4 N b g a0 n) u11 x2 0 x1
    else none
    else none
    else none
set_option maxHeartbeats 4000000 in
set_option maxRecDepth 100000 in
theorem zz_X14_open_4 {G : uG} {a0 : Nat} {uf : UH} {r : Int32} (N : Nat) : ∀ (n : Nat) (u : UH) (x1 : Int32) (x2 : Int32), f_X14_open_4 N (ub G) (ug G) a0 n u x1 x2 = some (r, uf) → uf.1 = u.1 ∧ uf.2.1 = u.2.1 := by
  intro n
  induction n with
  | zero =>
    intro u x1 x2 h
    cases h
  | succ n ih =>
    intro u x1 x2 h
    unfold f_X14_open_4 at h
    obtain ⟨o1, ho1, h⟩ := mbind_n h
    obtain ⟨a2, ha2, hha2⟩ := mbind_n h
    subst ha2
    have h := hha2
    obtain ⟨c3, h⟩ := mif_n h
    obtain ⟨r6, u4, c5, h⟩ := ucall_n h
    have zu4 := zz_J2_size N (ub G) (ug G) u a2 r6 u4 c5
    by_cases c7 : r6 ≤ x2
    · have h := mif_t c7 h
      obtain ⟨hr1, hr2⟩ := uret_n h
      subst hr2
      exact ⟨by omega, by omega⟩
    · have h := mif_f c7 h
      obtain ⟨o8, ho8, h⟩ := mbind_n h
      obtain ⟨a9, ha9, hha9⟩ := mbind_n h
      subst ha9
      have h := hha9
      obtain ⟨c10, h⟩ := mif_n h
      obtain ⟨o13, u11, c12, h⟩ := ucall_n h
      have zu11 := zz_J2_get N (ub G) (ug G) u4 a9 x2 o13 u11 c12
      obtain ⟨a14, ha14, hha14⟩ := mbind_n h
      subst ha14
      have h := hha14
      obtain ⟨c15, h⟩ := mif_n h
      obtain ⟨y16, hy16, h⟩ := mbind_n h
      by_cases c17 : y16 = (-1)
      · have h := mif_t c17 h
        have hq := zz_X14_open_41 (G := G) (a0 := a0) N (f_X14_open_4 N (ub G) (ug G) a0 n) ih u11 x2 (1 <<< (x2 &&& 31)) x1 h
        exact ⟨by omega, by omega⟩
      · have h := mif_f c17 h
        have hq := zz_X14_open_41 (G := G) (a0 := a0) N (f_X14_open_4 N (ub G) (ug G) a0 n) ih u11 x2 0 x1 h
        exact ⟨by omega, by omega⟩
set_option maxHeartbeats 4000000 in
set_option maxRecDepth 100000 in
theorem w_X14_open_4 {p : Program} {l : Launch} {e : Env} {R : Room} {s : State} {m : MethodId} {args : Array Value} {below : List Frame} {meth : Method} {c : Code} {G : uG} {a0 : Nat} {uf : UH} {r : Int32} (hC : uC p s m args meth c G RX14 cX14_open 3 (some .int)) (hR : 3 ≤ R.frames ∧ 64 ≤ R.locals) (N : Nat) : ∀ (n : Nat) (u : UH) (x1 : Int32) (x2 : Int32), f_X14_open_4 N (ub G) (ug G) a0 n u x1 x2 = some (r, uf) → ∀ (H : Heap) (locs : List Loc), uP G u H → va_S (uA G) s.heap H locs → ∀ ls : Array Slot, lv_has ls 3 [(0, va_rf (some a0)), (1, .int x1), (2, .int x2)] → W p l e R s m args below meth c H locs 0 0 (MQ below (uQi G r uf) args s 0 0 (uA G)) (F0 m 4 ls []) := by
  obtain ⟨⟨hx, hb, hml, hown, hts⟩, hKK⟩ := id hC
  intro n
  induction n with
  | zero =>
    intro u x1 x2 h
    cases h
  | succ n ih =>
    intro u x1 x2 h H locs hP hS ls hl
    unfold f_X14_open_4 at h
    refine lv_iload_n hx hb dX14_open_4 rfl (lv_at hl 2 rfl) ?_
    refine u_aload_n (r := some a0) hx hb dX14_open_5 rfl (lv_at hl 0 rfl) ?_
    obtain ⟨o1, ho1, h⟩ := mbind_n h
    refine u_get hC hP (uGR_n ho1) rfl in_X14 (by decide) q1148 (fun _ h => h) dX14_open_6 ?_
    obtain ⟨a2, ha2, hha2⟩ := mbind_n h
    subst ha2
    have h := hha2
    obtain ⟨c3, h⟩ := mif_n h
    obtain ⟨r6, u4, c5, h⟩ := ucall_n h
    have zu4 := zz_J2_size N (ub G) (ug G) u a2 r6 u4 c5
    refine u_calli (va_runV (As := []) (rest := [.int x2]) hC.1 (met_J2_size l N G u a2 r6 u4 c5) (cwV 0 hts (lw_V q1455 q894 q895 q102 q896) rfl rfl rfl (by decide +kernel) ⟨Nat.le_trans (Nat.le_of_ble_eq_true rfl) hR.1, Nat.le_trans (Nat.le_of_ble_eq_true rfl) hR.2⟩) ⟨uPc_blind, u_rcv hC hP c3 rfl, fun U hU hW => u_pre hC hP hS hU hW⟩ rfl rfl hl.1 rfl (lv_room (Nat.le_of_ble_eq_true rfl)) dX14_open_9 ⟨Nat.zero_le _, Nat.zero_le _⟩) hS (fun H locs hP hS => ?_)
    refine lv_icmp_ge (tgt := 49) hx hb dX14_open_12 (by decide) (fun c7 => ?_) (fun c7 => ?_)
    · have h := mif_t c7 h
      refine lv_iload_n hx hb dX14_open_49 rfl (lv_at hl 1 rfl) ?_
      obtain ⟨hr1, hr2⟩ := uret_n h
      subst hr1
      subst hr2
      exact u_iret hC hP hS dX14_open_50
    · have h := mif_f c7 h
      refine lv_iload_n hx hb dX14_open_15 rfl (lv_at hl 1 rfl) ?_
      refine u_aload_n (r := some a0) hx hb dX14_open_16 rfl (lv_at hl 0 rfl) ?_
      obtain ⟨o8, ho8, h⟩ := mbind_n h
      refine u_get hC hP (uGR_n ho8) rfl in_X14 (by decide) q1148 (fun _ h => h) dX14_open_17 ?_
      refine lv_iload_n hx hb dX14_open_20 rfl (lv_at hl 2 rfl) ?_
      obtain ⟨a9, ha9, hha9⟩ := mbind_n h
      subst ha9
      have h := hha9
      obtain ⟨c10, h⟩ := mif_n h
      obtain ⟨o13, u11, c12, h⟩ := ucall_n h
      have zu11 := zz_J2_get N (ub G) (ug G) u4 a9 x2 o13 u11 c12
      refine u_callr (va_runV (As := [.int x2]) (rest := [.int x1]) hC.1 (met_J2_get l N G u4 a9 x2 o13 u11 c12) (cwV 1 hts (lw_V q1272 q898 q899 q102 q900) rfl rfl rfl (by decide +kernel) ⟨Nat.le_trans (Nat.le_of_ble_eq_true rfl) hR.1, Nat.le_trans (Nat.le_of_ble_eq_true rfl) hR.2⟩) ⟨uPc_blind, u_rcv hC hP c10 rfl, fun U hU hW => u_pre hC hP hS hU hW⟩ rfl rfl hl.1 rfl (lv_room (Nat.le_of_ble_eq_true rfl)) dX14_open_21 ⟨Nat.zero_le _, Nat.zero_le _⟩) hS (fun H locs hP hS => ?_)
      obtain ⟨a14, ha14, hha14⟩ := mbind_n h
      subst ha14
      have h := hha14
      obtain ⟨c15, h⟩ := mif_n h
      refine u_castS hC hP c15 rfl q1132 dX14_open_24 ?_
      obtain ⟨y16, hy16, h⟩ := mbind_n h
      refine u_getN hC hP (uGI_n hy16) rfl in_X15 (by decide) q1221 (fun _ h => h) dX14_open_27 ?_
      refine lv_iconst (v := (-1)) hx hb dX14_open_30 (by decide) ?_
      refine lv_icmp_ne (tgt := 40) hx hb dX14_open_31 (by decide) (fun c17 => ?_) (fun c17 => ?_)
      · have h := mif_f c17 h
        refine lv_iconst (v := 0) hx hb dX14_open_40 (by decide) ?_
        exact w_X14_open_41 hC hR N (f_X14_open_4 N (ub G) (ug G) a0 n) ih u11 x2 0 x1 h hP hS (lv_sub hl [0, 2] rfl)
      · have h := mif_t c17 h
        refine lv_iconst (v := 1) hx hb dX14_open_34 (by decide) ?_
        refine lv_iload_n hx hb dX14_open_35 rfl (lv_at hl 2 rfl) ?_
        refine lv_ishl hx hb dX14_open_36 ?_
        refine lv_goto (tgt := 41) hx hb dX14_open_37 (by decide) ?_
        exact w_X14_open_41 hC hR N (f_X14_open_4 N (ub G) (ug G) a0 n) ih u11 x2 (1 <<< (x2 &&& 31)) x1 h hP hS (lv_sub hl [0, 2] rfl)
def f_X14_open (N b : Nat) (g : uEnv) (u : UH) (a0 : Nat) : Option (Int32 × UH) :=
    f_X14_open_4 N b g a0 N u 0 0
set_option maxHeartbeats 4000000 in
set_option maxRecDepth 100000 in
theorem zz_X14_open_0 {G : uG} {a0 : Nat} {uf : UH} {r : Int32} (N : Nat) (u : UH) (h : f_X14_open N (ub G) (ug G) u a0 = some (r, uf)) : uf.1 = u.1 ∧ uf.2.1 = u.2.1 := by
  unfold f_X14_open at h
  have hq := zz_X14_open_4 (G := G) (a0 := a0) N N u 0 0 h
  exact ⟨by omega, by omega⟩
set_option maxHeartbeats 4000000 in
set_option maxRecDepth 100000 in
theorem w_X14_open_0 {p : Program} {l : Launch} {e : Env} {R : Room} {s : State} {m : MethodId} {args : Array Value} {below : List Frame} {meth : Method} {c : Code} {G : uG} {a0 : Nat} {uf : UH} {r : Int32} (hC : uC p s m args meth c G RX14 cX14_open 3 (some .int)) (hR : 3 ≤ R.frames ∧ 64 ≤ R.locals) (N : Nat) (u : UH) (h : f_X14_open N (ub G) (ug G) u a0 = some (r, uf)) {H : Heap} {locs : List Loc} (hP : uP G u H) (hS : va_S (uA G) s.heap H locs) {ls : Array Slot} (hl : lv_has ls 3 [(0, va_rf (some a0))]) : W p l e R s m args below meth c H locs 0 0 (MQ below (uQi G r uf) args s 0 0 (uA G)) (F0 m 0 ls []) := by
  obtain ⟨⟨hx, hb, hml, hown, hts⟩, hKK⟩ := id hC
  unfold f_X14_open at h
  refine lv_iconst (v := 0) hx hb dX14_open_0 (by decide) ?_
  refine lv_istore_n (lv' := [(1, .int 0), (0, va_rf (some a0))]) hx hb dX14_open_1 rfl hl (by decide) rfl (fun ls hl => ?_)
  refine lv_iconst (v := 0) hx hb dX14_open_2 (by decide) ?_
  refine lv_istore_n (lv' := [(2, .int 0), (1, .int 0), (0, va_rf (some a0))]) hx hb dX14_open_3 rfl hl (by decide) rfl (fun ls hl => ?_)
  exact w_X14_open_4 hC hR N N u 0 0 h _ _ hP hS _ (lv_sub hl [2, 1, 0] rfl)
theorem zz_X14_open (N b : Nat) (g : uEnv) (u : UH) (a0 : Nat) (r : Int32) (uf : UH) (h : f_X14_open N b g u a0 = some (r, uf)) : uf.1 = u.1 ∧ uf.2.1 = u.2.1 :=
  zz_X14_open_0 (G := ((fun _ => 0, fun _ _ => 0), fun _ => 0, b, g)) (a0 := a0) N u h
theorem met_X14_open (l : Launch) (N : Nat) (G : uG) (u : UH) (a0 : Nat) (r : Int32) (uf : UH) (h : f_X14_open N (ub G) (ug G) u a0 = some (r, uf)) : Met l yX14_open (ws_ yX14_open cX14_open 3 (some .int)) ({ frames := 3, cells := 0, slots := 0, locals := 64 }) (uPc G u [.ref a0]) (uQi G r uf) 0 0 (uA G) := by
  exact u_met (own := RX14) (by decide +kernel) rfl (Nat.le_of_ble_eq_true rfl) (fun hC hn hsz ls hl hP => w_X14_open_0 hC ⟨Nat.le_refl _, Nat.le_refl _⟩ N u h hP va_S.rf hl)
def f_X14_beside_67 (N b : Nat) (g : uEnv) (a0 : Nat) (u : UH) (s0 : Int32) : Option (Int32 × UH) :=
    some (s0, u)
set_option maxHeartbeats 4000000 in
set_option maxRecDepth 100000 in
theorem zz_X14_beside_67 {G : uG} {a0 : Nat} {uf : UH} {r : Int32} (N : Nat) (u : UH) (s0 : Int32) (h : f_X14_beside_67 N (ub G) (ug G) a0 u s0 = some (r, uf)) : uf.1 = u.1 ∧ uf.2.1 = u.2.1 := by
  unfold f_X14_beside_67 at h
  obtain ⟨hr1, hr2⟩ := uret_n h
  subst hr2
  exact ⟨by omega, by omega⟩
set_option maxHeartbeats 4000000 in
set_option maxRecDepth 100000 in
theorem w_X14_beside_67 {p : Program} {l : Launch} {e : Env} {R : Room} {s : State} {m : MethodId} {args : Array Value} {below : List Frame} {meth : Method} {c : Code} {G : uG} {a0 : Nat} {uf : UH} {r : Int32} (hC : uC p s m args meth c G RX14 cX14_beside 5 (some .int)) (hR : 1 ≤ R.frames ∧ 22 ≤ R.locals) (N : Nat) (u : UH) (s0 : Int32) (h : f_X14_beside_67 N (ub G) (ug G) a0 u s0 = some (r, uf)) {H : Heap} {locs : List Loc} (hP : uP G u H) (hS : va_S (uA G) s.heap H locs) {ls : Array Slot} (hl : lv_has ls 5 []) : W p l e R s m args below meth c H locs 0 0 (MQ below (uQi G r uf) args s 0 0 (uA G)) (F0 m 67 ls [.int s0]) := by
  obtain ⟨⟨hx, hb, hml, hown, hts⟩, hKK⟩ := id hC
  unfold f_X14_beside_67 at h
  obtain ⟨hr1, hr2⟩ := uret_n h
  subst hr1
  subst hr2
  exact u_iret hC hP hS dX14_beside_67
def f_X14_beside_66 (N b : Nat) (g : uEnv) (a0 : Nat) (u : UH) : Option (Int32 × UH) :=
    f_X14_beside_67 N b g a0 u (-1)
set_option maxHeartbeats 4000000 in
set_option maxRecDepth 100000 in
theorem zz_X14_beside_66 {G : uG} {a0 : Nat} {uf : UH} {r : Int32} (N : Nat) (u : UH) (h : f_X14_beside_66 N (ub G) (ug G) a0 u = some (r, uf)) : uf.1 = u.1 ∧ uf.2.1 = u.2.1 := by
  unfold f_X14_beside_66 at h
  have hq := zz_X14_beside_67 (G := G) (a0 := a0) N u (-1) h
  exact ⟨by omega, by omega⟩
set_option maxHeartbeats 4000000 in
set_option maxRecDepth 100000 in
theorem w_X14_beside_66 {p : Program} {l : Launch} {e : Env} {R : Room} {s : State} {m : MethodId} {args : Array Value} {below : List Frame} {meth : Method} {c : Code} {G : uG} {a0 : Nat} {uf : UH} {r : Int32} (hC : uC p s m args meth c G RX14 cX14_beside 5 (some .int)) (hR : 1 ≤ R.frames ∧ 22 ≤ R.locals) (N : Nat) (u : UH) (h : f_X14_beside_66 N (ub G) (ug G) a0 u = some (r, uf)) {H : Heap} {locs : List Loc} (hP : uP G u H) (hS : va_S (uA G) s.heap H locs) {ls : Array Slot} (hl : lv_has ls 5 []) : W p l e R s m args below meth c H locs 0 0 (MQ below (uQi G r uf) args s 0 0 (uA G)) (F0 m 66 ls []) := by
  obtain ⟨⟨hx, hb, hml, hown, hts⟩, hKK⟩ := id hC
  unfold f_X14_beside_66 at h
  refine lv_iconst (v := (-1)) hx hb dX14_beside_66 (by decide) ?_
  exact w_X14_beside_67 hC hR N u (-1) h hP hS (lv_sub hl [] rfl)
def f_X14_beside (N b : Nat) (g : uEnv) (u : UH) (a0 : Nat) (x1 : Int32) (x2 : Option Nat) : Option (Int32 × UH) :=
    (uGI u a0 12 1).bind fun y1 =>
    if ¬ y1 = 0 then
    (x2).bind fun a3 =>
    (uWay g a3).bind fun w4 =>
    mlet ((x1 - x1 / y1 * y1) + (uWx w4)) fun y5 =>
    (uGI u a0 12 1).bind fun y6 =>
    if ¬ y6 = 0 then
    (uWay g a3).bind fun w8 =>
    mlet ((x1 / y6) + (uWy w8)) fun y9 =>
    (uGI u a0 12 1).bind fun y10 =>
    ucall (f_X1_in N b g u y5 0 (y10 - 1)) fun r13 u11 =>
    if r13 = 0 then
    f_X14_beside_66 N b g a0 u11
    else
    (uGI u11 a0 12 2).bind fun y15 =>
    ucall (f_X1_in N b g u11 y9 0 (y15 - 1)) fun r18 u16 =>
    if r18 = 0 then
    f_X14_beside_66 N b g a0 u16
    else
    (uGI u16 a0 12 1).bind fun y20 =>
    f_X14_beside_67 N b g a0 u16 ((y9 * y20) + y5)
    else none
    else none
set_option maxHeartbeats 4000000 in
set_option maxRecDepth 100000 in
theorem zz_X14_beside_0 {G : uG} {a0 : Nat} {uf : UH} {r : Int32} (N : Nat) (u : UH) (x1 : Int32) (x2 : Option Nat) (h : f_X14_beside N (ub G) (ug G) u a0 x1 x2 = some (r, uf)) : uf.1 = u.1 ∧ uf.2.1 = u.2.1 := by
  unfold f_X14_beside at h
  obtain ⟨y1, hy1, h⟩ := mbind_n h
  obtain ⟨c2, h⟩ := mif_n h
  obtain ⟨a3, ha3, hha3⟩ := mbind_n h
  subst ha3
  have h := hha3
  obtain ⟨w4, hw4, h⟩ := mbind_n h
  obtain ⟨y5, ey5⟩ : ∃ z, z = (x1 - x1 / y1 * y1) + (uWx w4) := ⟨_, rfl⟩
  have h := mlet_at ey5 h
  obtain ⟨y6, hy6, h⟩ := mbind_n h
  obtain ⟨c7, h⟩ := mif_n h
  obtain ⟨w8, hw8, h⟩ := mbind_n h
  obtain ⟨y9, ey9⟩ : ∃ z, z = (x1 / y6) + (uWy w8) := ⟨_, rfl⟩
  have h := mlet_at ey9 h
  obtain ⟨y10, hy10, h⟩ := mbind_n h
  obtain ⟨r13, u11, c12, h⟩ := ucall_n h
  have zu11 := zz_X1_in N (ub G) (ug G) u y5 0 (y10 - 1) r13 u11 c12
  by_cases c14 : r13 = 0
  · have h := mif_t c14 h
    have hq := zz_X14_beside_66 (G := G) (a0 := a0) N u11 h
    exact ⟨by omega, by omega⟩
  · have h := mif_f c14 h
    obtain ⟨y15, hy15, h⟩ := mbind_n h
    obtain ⟨r18, u16, c17, h⟩ := ucall_n h
    have zu16 := zz_X1_in N (ub G) (ug G) u11 y9 0 (y15 - 1) r18 u16 c17
    by_cases c19 : r18 = 0
    · have h := mif_t c19 h
      have hq := zz_X14_beside_66 (G := G) (a0 := a0) N u16 h
      exact ⟨by omega, by omega⟩
    · have h := mif_f c19 h
      obtain ⟨y20, hy20, h⟩ := mbind_n h
      have hq := zz_X14_beside_67 (G := G) (a0 := a0) N u16 ((y9 * y20) + y5) h
      exact ⟨by omega, by omega⟩
set_option maxHeartbeats 4000000 in
set_option maxRecDepth 100000 in
theorem w_X14_beside_0 {p : Program} {l : Launch} {e : Env} {R : Room} {s : State} {m : MethodId} {args : Array Value} {below : List Frame} {meth : Method} {c : Code} {G : uG} {a0 : Nat} {uf : UH} {r : Int32} (hC : uC p s m args meth c G RX14 cX14_beside 5 (some .int)) (hR : 1 ≤ R.frames ∧ 22 ≤ R.locals) (N : Nat) (u : UH) (x1 : Int32) (x2 : Option Nat) (h : f_X14_beside N (ub G) (ug G) u a0 x1 x2 = some (r, uf)) {H : Heap} {locs : List Loc} (hP : uP G u H) (hS : va_S (uA G) s.heap H locs) {ls : Array Slot} (hl : lv_has ls 5 [(0, va_rf (some a0)), (1, .int x1), (2, va_rf x2)]) : W p l e R s m args below meth c H locs 0 0 (MQ below (uQi G r uf) args s 0 0 (uA G)) (F0 m 0 ls []) := by
  obtain ⟨⟨hx, hb, hml, hown, hts⟩, hKK⟩ := id hC
  unfold f_X14_beside at h
  refine lv_iload_n hx hb dX14_beside_0 rfl (lv_at hl 1 rfl) ?_
  refine u_aload_n (r := some a0) hx hb dX14_beside_1 rfl (lv_at hl 0 rfl) ?_
  obtain ⟨y1, hy1, h⟩ := mbind_n h
  refine u_get hC hP (uGI_n hy1) rfl in_X14 (by decide) q1136 (fun _ h => h) dX14_beside_2 ?_
  obtain ⟨c2, h⟩ := mif_n h
  refine lv_irem hx hb dX14_beside_5 c2 ?_
  refine u_aload_n (r := x2) hx hb dX14_beside_6 rfl (lv_at hl 2 rfl) ?_
  obtain ⟨a3, ha3, hha3⟩ := mbind_n h
  subst ha3
  have h := hha3
  obtain ⟨w4, hw4, h⟩ := mbind_n h
  refine u_getWx hC hS hw4 q2593 dX14_beside_7 ?_
  refine lv_iadd hx hb dX14_beside_10 ?_
  refine lv_topi (fun y5 ey5 => ?_)
  have h := mlet_at ey5 h
  refine lv_istore_n (lv' := [(3, .int y5), (0, va_rf (some a0)), (1, .int x1), (2, va_rf (some a3))]) hx hb dX14_beside_11 rfl hl (by decide) rfl (fun ls hl => ?_)
  refine lv_iload_n hx hb dX14_beside_12 rfl (lv_at hl 2 rfl) ?_
  refine u_aload_n (r := some a0) hx hb dX14_beside_13 rfl (lv_at hl 1 rfl) ?_
  obtain ⟨y6, hy6, h⟩ := mbind_n h
  refine u_get hC hP (uGI_n hy6) rfl in_X14 (by decide) q1136 (fun _ h => h) dX14_beside_14 ?_
  obtain ⟨c7, h⟩ := mif_n h
  refine lv_idiv hx hb dX14_beside_17 c7 ?_
  refine u_aload_n (r := some a3) hx hb dX14_beside_18 rfl (lv_at hl 3 rfl) ?_
  obtain ⟨w8, hw8, h⟩ := mbind_n h
  refine u_getWy hC hS hw8 q2594 dX14_beside_19 ?_
  refine lv_iadd hx hb dX14_beside_22 ?_
  refine lv_topi (fun y9 ey9 => ?_)
  have h := mlet_at ey9 h
  refine lv_istore (lv' := [(4, .int y9), (3, .int y5), (0, va_rf (some a0)), (1, .int x1), (2, va_rf (some a3))]) hx hb dX14_beside_23 hl (by decide) rfl (fun ls hl => ?_)
  refine lv_iload_n hx hb dX14_beside_25 rfl (lv_at hl 1 rfl) ?_
  refine lv_iconst (v := 0) hx hb dX14_beside_26 (by decide) ?_
  refine u_aload_n (r := some a0) hx hb dX14_beside_27 rfl (lv_at hl 2 rfl) ?_
  obtain ⟨y10, hy10, h⟩ := mbind_n h
  refine u_get hC hP (uGI_n hy10) rfl in_X14 (by decide) q1136 (fun _ h => h) dX14_beside_28 ?_
  refine lv_iconst (v := 1) hx hb dX14_beside_31 (by decide) ?_
  refine lv_isub hx hb dX14_beside_32 ?_
  obtain ⟨r13, u11, c12, h⟩ := ucall_n h
  have zu11 := zz_X1_in N (ub G) (ug G) u y5 0 (y10 - 1) r13 u11 c12
  refine u_calli (va_runSN (As := [.int y5, .int 0, .int (y10 - 1)]) (rest := []) hC.1 (met_X1_in l N G u y5 0 (y10 - 1) r13 u11 c12) ⟨va_cnB 3 hts (lw_meth q275) rfl rfl rfl (hC.2.1.2.1 _ q1268 rfl) (hts _ q98) (by decide +kernel) ⟨Nat.le_trans (Nat.le_of_ble_eq_true rfl) hR.1, Nat.le_trans (Nat.le_of_ble_eq_true rfl) hR.2⟩, hts _ q274, trivial⟩ ⟨uPc_blind, fun U hU hW => u_pre hC hP hS hU hW⟩ rfl rfl hl.1 rfl (lv_room (Nat.le_of_ble_eq_true rfl)) dX14_beside_33 ⟨Nat.zero_le _, Nat.zero_le _⟩) hS (fun H locs hP hS => ?_)
  refine lv_if_eq (tgt := 66) hx hb dX14_beside_36 (by decide) (fun c14 => ?_) (fun c14 => ?_)
  · have h := mif_t c14 h
    exact w_X14_beside_66 hC hR N u11 h hP hS (lv_sub hl [] rfl)
  · have h := mif_f c14 h
    refine lv_iload hx hb dX14_beside_39 (lv_at hl 0 rfl) ?_
    refine lv_iconst (v := 0) hx hb dX14_beside_41 (by decide) ?_
    refine u_aload_n (r := some a0) hx hb dX14_beside_42 rfl (lv_at hl 2 rfl) ?_
    obtain ⟨y15, hy15, h⟩ := mbind_n h
    refine u_get hC hP (uGI_n hy15) rfl in_X14 (by decide) q1137 (fun _ h => h) dX14_beside_43 ?_
    refine lv_iconst (v := 1) hx hb dX14_beside_46 (by decide) ?_
    refine lv_isub hx hb dX14_beside_47 ?_
    obtain ⟨r18, u16, c17, h⟩ := ucall_n h
    have zu16 := zz_X1_in N (ub G) (ug G) u11 y9 0 (y15 - 1) r18 u16 c17
    refine u_calli (va_runSN (As := [.int y9, .int 0, .int (y15 - 1)]) (rest := []) hC.1 (met_X1_in l N G u11 y9 0 (y15 - 1) r18 u16 c17) ⟨va_cnB 3 hts (lw_meth q275) rfl rfl rfl (hC.2.1.2.1 _ q1268 rfl) (hts _ q98) (by decide +kernel) ⟨Nat.le_trans (Nat.le_of_ble_eq_true rfl) hR.1, Nat.le_trans (Nat.le_of_ble_eq_true rfl) hR.2⟩, hts _ q274, trivial⟩ ⟨uPc_blind, fun U hU hW => u_pre hC hP hS hU hW⟩ rfl rfl hl.1 rfl (lv_room (Nat.le_of_ble_eq_true rfl)) dX14_beside_48 ⟨Nat.zero_le _, Nat.zero_le _⟩) hS (fun H locs hP hS => ?_)
    refine lv_if_eq (tgt := 66) hx hb dX14_beside_51 (by decide) (fun c19 => ?_) (fun c19 => ?_)
    · have h := mif_t c19 h
      exact w_X14_beside_66 hC hR N u16 h hP hS (lv_sub hl [] rfl)
    · have h := mif_f c19 h
      refine lv_iload hx hb dX14_beside_54 (lv_at hl 0 rfl) ?_
      refine u_aload_n (r := some a0) hx hb dX14_beside_56 rfl (lv_at hl 2 rfl) ?_
      obtain ⟨y20, hy20, h⟩ := mbind_n h
      refine u_get hC hP (uGI_n hy20) rfl in_X14 (by decide) q1136 (fun _ h => h) dX14_beside_57 ?_
      refine lv_imul hx hb dX14_beside_60 ?_
      refine lv_iload_n hx hb dX14_beside_61 rfl (lv_at hl 1 rfl) ?_
      refine lv_iadd hx hb dX14_beside_62 ?_
      refine lv_goto (tgt := 67) hx hb dX14_beside_63 (by decide) ?_
      exact w_X14_beside_67 hC hR N u16 ((y9 * y20) + y5) h hP hS (lv_sub hl [] rfl)
theorem zz_X14_beside (N b : Nat) (g : uEnv) (u : UH) (a0 : Nat) (x1 : Int32) (x2 : Option Nat) (r : Int32) (uf : UH) (h : f_X14_beside N b g u a0 x1 x2 = some (r, uf)) : uf.1 = u.1 ∧ uf.2.1 = u.2.1 :=
  zz_X14_beside_0 (G := ((fun _ => 0, fun _ _ => 0), fun _ => 0, b, g)) (a0 := a0) N u x1 x2 h
theorem met_X14_beside (l : Launch) (N : Nat) (G : uG) (u : UH) (a0 : Nat) (x1 : Int32) (x2 : Option Nat) (r : Int32) (uf : UH) (h : f_X14_beside N (ub G) (ug G) u a0 x1 x2 = some (r, uf)) : Met l yX14_beside (ws_ yX14_beside cX14_beside 5 (some .int)) ({ frames := 1, cells := 0, slots := 0, locals := 22 }) (uPc G u [.ref a0, .int x1, va_rf x2]) (uQi G r uf) 0 0 (uA G) := by
  rcases x2 with _ | x2 <;> exact u_met (own := RX14) (by decide +kernel) rfl (Nat.le_of_ble_eq_true rfl) (fun hC hn hsz ls hl hP => w_X14_beside_0 hC ⟨Nat.le_refl _, Nat.le_refl _⟩ N u x1 _ h hP va_S.rf hl)
def f_X14_sees_90 (N b : Nat) (g : uEnv) (a0 : Nat) (k37 : UH → Int32 → Int32 → Option Nat → Int32 → Int32 → Option (Int32 × UH)) (u : UH) (x1 : Int32) (x2 : Int32) (x3 : Option Nat) (x4 : Int32) (x5 : Int32) : Option (Int32 × UH) :=
    mlet (x5 + 1) fun y1 =>
    k37 u x1 x2 x3 x4 y1
set_option maxHeartbeats 4000000 in
set_option maxRecDepth 100000 in
theorem zz_X14_sees_90 {G : uG} {a0 : Nat} {uf : UH} {r : Int32} (N : Nat) (k37 : UH → Int32 → Int32 → Option Nat → Int32 → Int32 → Option (Int32 × UH)) (hk37 : ∀ (u : UH) (x1 : Int32) (x2 : Int32) (x3 : Option Nat) (x4 : Int32) (x5 : Int32), k37 u x1 x2 x3 x4 x5 = some (r, uf) → uf.1 = u.1 ∧ uf.2.1 = u.2.1) (u : UH) (x1 : Int32) (x2 : Int32) (x3 : Option Nat) (x4 : Int32) (x5 : Int32) (h : f_X14_sees_90 N (ub G) (ug G) a0 k37 u x1 x2 x3 x4 x5 = some (r, uf)) : uf.1 = u.1 ∧ uf.2.1 = u.2.1 := by
  unfold f_X14_sees_90 at h
  obtain ⟨y1, ey1⟩ : ∃ z : Int32, z = x5 + 1 := ⟨_, rfl⟩
  have h := mlet_at ey1 h
  have hq := hk37 u x1 x2 x3 x4 y1 h
  exact ⟨by omega, by omega⟩
set_option maxHeartbeats 4000000 in
set_option maxRecDepth 100000 in
theorem w_X14_sees_90 {p : Program} {l : Launch} {e : Env} {R : Room} {s : State} {m : MethodId} {args : Array Value} {below : List Frame} {meth : Method} {c : Code} {G : uG} {a0 : Nat} {uf : UH} {r : Int32} (hC : uC p s m args meth c G RX14 cX14_sees 8 (some .int)) (hR : 2 ≤ R.frames ∧ 46 ≤ R.locals) (N : Nat) (k37 : UH → Int32 → Int32 → Option Nat → Int32 → Int32 → Option (Int32 × UH)) (hk37 : ∀ (u : UH) (x1 : Int32) (x2 : Int32) (x3 : Option Nat) (x4 : Int32) (x5 : Int32), k37 u x1 x2 x3 x4 x5 = some (r, uf) → ∀ (H : Heap) (locs : List Loc), uP G u H → va_S (uA G) s.heap H locs → ∀ ls : Array Slot, lv_has ls 8 [(0, va_rf (some a0)), (1, .int x1), (2, .int x2), (3, va_rf x3), (4, .int x4), (5, .int x5)] → W p l e R s m args below meth c H locs 0 0 (MQ below (uQi G r uf) args s 0 0 (uA G)) (F0 m 37 ls [])) (u : UH) (x1 : Int32) (x2 : Int32) (x3 : Option Nat) (x4 : Int32) (x5 : Int32) (h : f_X14_sees_90 N (ub G) (ug G) a0 k37 u x1 x2 x3 x4 x5 = some (r, uf)) {H : Heap} {locs : List Loc} (hP : uP G u H) (hS : va_S (uA G) s.heap H locs) {ls : Array Slot} (hl : lv_has ls 8 [(0, va_rf (some a0)), (1, .int x1), (2, .int x2), (3, va_rf x3), (4, .int x4), (5, .int x5)]) : W p l e R s m args below meth c H locs 0 0 (MQ below (uQi G r uf) args s 0 0 (uA G)) (F0 m 90 ls []) := by
  obtain ⟨⟨hx, hb, hml, hown, hts⟩, hKK⟩ := id hC
  unfold f_X14_sees_90 at h
  obtain ⟨y1, ey1⟩ : ∃ z : Int32, z = x5 + 1 := ⟨_, rfl⟩
  have h := mlet_at ey1 h
  refine lv_iinc (v := y1) (lv' := [(5, .int y1), (0, va_rf (some a0)), (1, .int x1), (2, .int x2), (3, va_rf x3), (4, .int x4)]) hx hb dX14_sees_90 hl (k := 5) rfl (by rw [ey1]; rfl) (by decide) rfl (fun ls hl => ?_)
  refine lv_goto (tgt := 37) hx hb dX14_sees_93 (by decide) ?_
  exact hk37 u x1 x2 x3 x4 y1 h _ _ hP hS _ (lv_sub hl [1, 2, 3, 4, 5, 0] rfl)
def f_X14_sees_37 (N b : Nat) (g : uEnv) (a0 : Nat) : Nat → UH → Int32 → Int32 → Option Nat → Int32 → Int32 → Option (Int32 × UH)
  | 0, _, _, _, _, _, _ => none
  | n + 1, u, x1, x2, x3, x4, x5 =>
    if x4 ≤ x5 then
    some (x2, u)
    else
    (x3).bind fun a2 =>
    (uLdR u a2 5 x5).bind fun o3 =>
    if uIs u a0 12 = true then
    ucall (f_X14_beside N b g u a0 x1 o3) fun r7 u5 =>
    if r7 = (-1) then
    f_X14_sees_90 N b g a0 (f_X14_sees_37 N b g a0 n) u5 x1 x2 (some a2) x4 x5
    else
    (uGR u5 a0 12 5).bind fun o9 =>
    (o9).bind fun a10 =>
    (uLdR u5 a10 6 r7).bind fun o11 =>
    ucase o11 (
    f_X14_sees_90 N b g a0 (f_X14_sees_37 N b g a0 n) u5 x1 x2 (some a2) x4 x5) fun a12 =>
    (uGR u5 a0 12 5).bind fun o13 =>
    (o13).bind fun a14 =>
    (uLdR u5 a14 6 r7).bind fun o15 =>
    (o15).bind fun a16 =>
    (uGI u5 a16 13 0).bind fun y17 =>
    mlet (x2 ||| (1 <<< (y17 &&& 31))) fun y18 =>
    f_X14_sees_90 N b g a0 (f_X14_sees_37 N b g a0 n) u5 x1 y18 (some a2) x4 x5
    else none
set_option maxHeartbeats 4000000 in
set_option maxRecDepth 100000 in
theorem zz_X14_sees_37 {G : uG} {a0 : Nat} {uf : UH} {r : Int32} (N : Nat) : ∀ (n : Nat) (u : UH) (x1 : Int32) (x2 : Int32) (x3 : Option Nat) (x4 : Int32) (x5 : Int32), f_X14_sees_37 N (ub G) (ug G) a0 n u x1 x2 x3 x4 x5 = some (r, uf) → uf.1 = u.1 ∧ uf.2.1 = u.2.1 := by
  intro n
  induction n with
  | zero =>
    intro u x1 x2 x3 x4 x5 h
    cases h
  | succ n ih =>
    intro u x1 x2 x3 x4 x5 h
    unfold f_X14_sees_37 at h
    by_cases c1 : x4 ≤ x5
    · have h := mif_t c1 h
      obtain ⟨hr1, hr2⟩ := uret_n h
      subst hr2
      exact ⟨by omega, by omega⟩
    · have h := mif_f c1 h
      obtain ⟨a2, ha2, hha2⟩ := mbind_n h
      subst ha2
      have h := hha2
      obtain ⟨o3, ho3, h⟩ := mbind_n h
      obtain ⟨c4, h⟩ := mif_n h
      obtain ⟨r7, u5, c6, h⟩ := ucall_n h
      have zu5 := zz_X14_beside N (ub G) (ug G) u a0 x1 o3 r7 u5 c6
      by_cases c8 : r7 = (-1)
      · have h := mif_t c8 h
        have hq := zz_X14_sees_90 (G := G) (a0 := a0) N (f_X14_sees_37 N (ub G) (ug G) a0 n) ih u5 x1 x2 (some a2) x4 x5 h
        exact ⟨by omega, by omega⟩
      · have h := mif_f c8 h
        obtain ⟨o9, ho9, h⟩ := mbind_n h
        obtain ⟨a10, ha10, hha10⟩ := mbind_n h
        subst ha10
        have h := hha10
        obtain ⟨o11, ho11, h⟩ := mbind_n h
        rcases o11 with _ | a12
        · have h := ucase_n h
          have hq := zz_X14_sees_90 (G := G) (a0 := a0) N (f_X14_sees_37 N (ub G) (ug G) a0 n) ih u5 x1 x2 (some a2) x4 x5 h
          exact ⟨by omega, by omega⟩
        · have h := ucase_s h
          obtain ⟨o13, ho13, h⟩ := mbind_n h
          obtain ⟨a14, ha14, hha14⟩ := mbind_n h
          subst ha14
          have h := hha14
          obtain ⟨o15, ho15, h⟩ := mbind_n h
          obtain ⟨a16, ha16, hha16⟩ := mbind_n h
          subst ha16
          have h := hha16
          obtain ⟨y17, hy17, h⟩ := mbind_n h
          obtain ⟨y18, ey18⟩ : ∃ z, z = x2 ||| (1 <<< (y17 &&& 31)) := ⟨_, rfl⟩
          have h := mlet_at ey18 h
          have hq := zz_X14_sees_90 (G := G) (a0 := a0) N (f_X14_sees_37 N (ub G) (ug G) a0 n) ih u5 x1 y18 (some a2) x4 x5 h
          exact ⟨by omega, by omega⟩
set_option maxHeartbeats 4000000 in
set_option maxRecDepth 100000 in
theorem w_X14_sees_37 {p : Program} {l : Launch} {e : Env} {R : Room} {s : State} {m : MethodId} {args : Array Value} {below : List Frame} {meth : Method} {c : Code} {G : uG} {a0 : Nat} {uf : UH} {r : Int32} (hC : uC p s m args meth c G RX14 cX14_sees 8 (some .int)) (hR : 2 ≤ R.frames ∧ 46 ≤ R.locals) (N : Nat) : ∀ (n : Nat) (u : UH) (x1 : Int32) (x2 : Int32) (x3 : Option Nat) (x4 : Int32) (x5 : Int32), f_X14_sees_37 N (ub G) (ug G) a0 n u x1 x2 x3 x4 x5 = some (r, uf) → ∀ (H : Heap) (locs : List Loc), uP G u H → va_S (uA G) s.heap H locs → ∀ ls : Array Slot, lv_has ls 8 [(0, va_rf (some a0)), (1, .int x1), (2, .int x2), (3, va_rf x3), (4, .int x4), (5, .int x5)] → W p l e R s m args below meth c H locs 0 0 (MQ below (uQi G r uf) args s 0 0 (uA G)) (F0 m 37 ls []) := by
  obtain ⟨⟨hx, hb, hml, hown, hts⟩, hKK⟩ := id hC
  intro n
  induction n with
  | zero =>
    intro u x1 x2 x3 x4 x5 h
    cases h
  | succ n ih =>
    intro u x1 x2 x3 x4 x5 h H locs hP hS ls hl
    unfold f_X14_sees_37 at h
    refine lv_iload hx hb dX14_sees_37 (lv_at hl 5 rfl) ?_
    refine lv_iload hx hb dX14_sees_39 (lv_at hl 4 rfl) ?_
    refine lv_icmp_ge (tgt := 96) hx hb dX14_sees_41 (by decide) (fun c1 => ?_) (fun c1 => ?_)
    · have h := mif_t c1 h
      refine lv_iload_n hx hb dX14_sees_96 rfl (lv_at hl 2 rfl) ?_
      obtain ⟨hr1, hr2⟩ := uret_n h
      subst hr1
      subst hr2
      exact u_iret hC hP hS dX14_sees_97
    · have h := mif_f c1 h
      refine u_aload_n (r := x3) hx hb dX14_sees_44 rfl (lv_at hl 3 rfl) ?_
      refine lv_iload hx hb dX14_sees_45 (lv_at hl 5 rfl) ?_
      obtain ⟨a2, ha2, hha2⟩ := mbind_n h
      subst ha2
      have h := hha2
      obtain ⟨o3, ho3, h⟩ := mbind_n h
      refine u_aald hC hP ho3 rfl dX14_sees_47 ?_
      refine u_astore (r := o3) (lv' := [(6, va_rf o3), (0, va_rf (some a0)), (1, .int x1), (2, .int x2), (3, va_rf (some a2)), (4, .int x4), (5, .int x5)]) hx hb dX14_sees_48 hl (by decide) rfl (fun ls hl => ?_)
      refine u_aload_n (r := some a0) hx hb dX14_sees_50 rfl (lv_at hl 1 rfl) ?_
      refine lv_iload_n hx hb dX14_sees_51 rfl (lv_at hl 2 rfl) ?_
      refine u_aload (r := o3) hx hb dX14_sees_52 (lv_at hl 0 rfl) ?_
      obtain ⟨c4, h⟩ := mif_n h
      obtain ⟨r7, u5, c6, h⟩ := ucall_n h
      have zu5 := zz_X14_beside N (ub G) (ug G) u a0 x1 o3 r7 u5 c6
      refine u_calli (va_runV (As := [.int x1, va_rf o3]) (rest := []) hC.1 (met_X14_beside l N G u a0 x1 o3 r7 u5 c6) (cwV 2 hts (lw_V q1264 q1265 q1266 q131 q1267) rfl rfl rfl (by decide +kernel) ⟨Nat.le_trans (Nat.le_of_ble_eq_true rfl) hR.1, Nat.le_trans (Nat.le_of_ble_eq_true rfl) hR.2⟩) ⟨uPc_blind, u_rcv hC hP c4 rfl, fun U hU hW => u_pre hC hP hS hU hW⟩ rfl rfl hl.1 rfl (lv_room (Nat.le_of_ble_eq_true rfl)) dX14_sees_54 ⟨Nat.zero_le _, Nat.zero_le _⟩) hS (fun H locs hP hS => ?_)
      refine lv_istore (lv' := [(7, .int r7), (6, va_rf o3), (0, va_rf (some a0)), (1, .int x1), (2, .int x2), (3, va_rf (some a2)), (4, .int x4), (5, .int x5)]) hx hb dX14_sees_57 hl (by decide) (by simp [List.filter_cons, u_cat]) (fun ls hl => ?_)
      refine lv_iload hx hb dX14_sees_59 (lv_at hl 0 rfl) ?_
      refine lv_iconst (v := (-1)) hx hb dX14_sees_61 (by decide) ?_
      refine lv_icmp_eq (tgt := 90) hx hb dX14_sees_62 (by decide) (fun c8 => ?_) (fun c8 => ?_)
      · have h := mif_t c8 h
        exact w_X14_sees_90 hC hR N (f_X14_sees_37 N (ub G) (ug G) a0 n) ih u5 x1 x2 (some a2) x4 x5 h hP hS (lv_sub hl [2, 3, 4, 5, 6, 7] rfl)
      · have h := mif_f c8 h
        refine u_aload_n (r := some a0) hx hb dX14_sees_65 rfl (lv_at hl 2 rfl) ?_
        obtain ⟨o9, ho9, h⟩ := mbind_n h
        refine u_get hC hP (uGR_n ho9) rfl in_X14 (by decide) q1144 (fun _ h => h) dX14_sees_66 ?_
        refine lv_iload hx hb dX14_sees_69 (lv_at hl 0 rfl) ?_
        obtain ⟨a10, ha10, hha10⟩ := mbind_n h
        subst ha10
        have h := hha10
        obtain ⟨o11, ho11, h⟩ := mbind_n h
        refine u_aald hC hP ho11 rfl dX14_sees_71 ?_
        rcases o11 with _ | a12
        · have h := ucase_n h
          refine lv_ifnullN (tgt := 90) hx hb dX14_sees_72 (by decide) ?_
          exact w_X14_sees_90 hC hR N (f_X14_sees_37 N (ub G) (ug G) a0 n) ih u5 x1 x2 (some a2) x4 x5 h hP hS (lv_sub hl [2, 3, 4, 5, 6, 7] rfl)
        · have h := ucase_s h
          refine lv_ifnull hx hb dX14_sees_72 ?_
          refine lv_iload_n hx hb dX14_sees_75 rfl (lv_at hl 4 rfl) ?_
          refine lv_iconst (v := 1) hx hb dX14_sees_76 (by decide) ?_
          refine u_aload_n (r := some a0) hx hb dX14_sees_77 rfl (lv_at hl 2 rfl) ?_
          obtain ⟨o13, ho13, h⟩ := mbind_n h
          refine u_get hC hP (uGR_n ho13) rfl in_X14 (by decide) q1144 (fun _ h => h) dX14_sees_78 ?_
          refine lv_iload hx hb dX14_sees_81 (lv_at hl 0 rfl) ?_
          obtain ⟨a14, ha14, hha14⟩ := mbind_n h
          subst ha14
          have h := hha14
          obtain ⟨o15, ho15, h⟩ := mbind_n h
          refine u_aald hC hP ho15 rfl dX14_sees_83 ?_
          obtain ⟨a16, ha16, hha16⟩ := mbind_n h
          subst ha16
          have h := hha16
          obtain ⟨y17, hy17, h⟩ := mbind_n h
          refine u_getN hC hP (uGI_n hy17) rfl in_X15 (by decide) q1214 (fun _ h => h) dX14_sees_84 ?_
          refine lv_ishl hx hb dX14_sees_87 ?_
          refine lv_ior hx hb dX14_sees_88 ?_
          refine lv_topi (fun y18 ey18 => ?_)
          have h := mlet_at ey18 h
          refine lv_istore_n (lv' := [(2, .int y18), (7, .int r7), (6, va_rf o3), (0, va_rf (some a0)), (1, .int x1), (3, va_rf (some a2)), (4, .int x4), (5, .int x5)]) hx hb dX14_sees_89 rfl hl (by decide) rfl (fun ls hl => ?_)
          exact w_X14_sees_90 hC hR N (f_X14_sees_37 N (ub G) (ug G) a0 n) ih u5 x1 y18 (some a2) x4 x5 h hP hS (lv_sub hl [3, 4, 0, 5, 6, 7] rfl)
def f_X14_sees_24 (N b : Nat) (g : uEnv) (a0 : Nat) (u : UH) (x1 : Int32) (s0 : Int32) : Option (Int32 × UH) :=
    (uGR u a0 12 7).bind fun o1 =>
    (o1).bind fun a2 =>
    (uLen u a2 5).bind fun y3 =>
    f_X14_sees_37 N b g a0 N u x1 s0 (some a2) y3 0
set_option maxHeartbeats 4000000 in
set_option maxRecDepth 100000 in
theorem zz_X14_sees_24 {G : uG} {a0 : Nat} {uf : UH} {r : Int32} (N : Nat) (u : UH) (x1 : Int32) (s0 : Int32) (h : f_X14_sees_24 N (ub G) (ug G) a0 u x1 s0 = some (r, uf)) : uf.1 = u.1 ∧ uf.2.1 = u.2.1 := by
  unfold f_X14_sees_24 at h
  obtain ⟨o1, ho1, h⟩ := mbind_n h
  obtain ⟨a2, ha2, hha2⟩ := mbind_n h
  subst ha2
  have h := hha2
  obtain ⟨y3, hy3, h⟩ := mbind_n h
  have hq := zz_X14_sees_37 (G := G) (a0 := a0) N N u x1 s0 (some a2) y3 0 h
  exact ⟨by omega, by omega⟩
set_option maxHeartbeats 4000000 in
set_option maxRecDepth 100000 in
theorem w_X14_sees_24 {p : Program} {l : Launch} {e : Env} {R : Room} {s : State} {m : MethodId} {args : Array Value} {below : List Frame} {meth : Method} {c : Code} {G : uG} {a0 : Nat} {uf : UH} {r : Int32} (hC : uC p s m args meth c G RX14 cX14_sees 8 (some .int)) (hR : 2 ≤ R.frames ∧ 46 ≤ R.locals) (N : Nat) (u : UH) (x1 : Int32) (s0 : Int32) (h : f_X14_sees_24 N (ub G) (ug G) a0 u x1 s0 = some (r, uf)) {H : Heap} {locs : List Loc} (hP : uP G u H) (hS : va_S (uA G) s.heap H locs) {ls : Array Slot} (hl : lv_has ls 8 [(0, va_rf (some a0)), (1, .int x1)]) : W p l e R s m args below meth c H locs 0 0 (MQ below (uQi G r uf) args s 0 0 (uA G)) (F0 m 24 ls [.int s0]) := by
  obtain ⟨⟨hx, hb, hml, hown, hts⟩, hKK⟩ := id hC
  unfold f_X14_sees_24 at h
  refine lv_istore_n (lv' := [(2, .int s0), (0, va_rf (some a0)), (1, .int x1)]) hx hb dX14_sees_24 rfl hl (by decide) rfl (fun ls hl => ?_)
  refine u_aload_n (r := some a0) hx hb dX14_sees_25 rfl (lv_at hl 1 rfl) ?_
  obtain ⟨o1, ho1, h⟩ := mbind_n h
  refine u_get hC hP (uGR_n ho1) rfl in_X14 (by decide) q1152 (fun _ h => h) dX14_sees_26 ?_
  refine u_astore_n (r := o1) (lv' := [(3, va_rf o1), (2, .int s0), (0, va_rf (some a0)), (1, .int x1)]) hx hb dX14_sees_29 rfl hl (by decide) rfl (fun ls hl => ?_)
  refine u_aload_n (r := o1) hx hb dX14_sees_30 rfl (lv_at hl 0 rfl) ?_
  obtain ⟨a2, ha2, hha2⟩ := mbind_n h
  subst ha2
  have h := hha2
  obtain ⟨y3, hy3, h⟩ := mbind_n h
  refine u_alen hC hP hy3 dX14_sees_31 ?_
  refine lv_istore (lv' := [(4, .int y3), (3, va_rf (some a2)), (2, .int s0), (0, va_rf (some a0)), (1, .int x1)]) hx hb dX14_sees_32 hl (by decide) rfl (fun ls hl => ?_)
  refine lv_iconst (v := 0) hx hb dX14_sees_34 (by decide) ?_
  refine lv_istore (lv' := [(5, .int 0), (4, .int y3), (3, va_rf (some a2)), (2, .int s0), (0, va_rf (some a0)), (1, .int x1)]) hx hb dX14_sees_35 hl (by decide) rfl (fun ls hl => ?_)
  exact w_X14_sees_37 hC hR N N u x1 s0 (some a2) y3 0 h _ _ hP hS _ (lv_sub hl [4, 5, 3, 2, 1, 0] rfl)
def f_X14_sees (N b : Nat) (g : uEnv) (u : UH) (a0 : Nat) (x1 : Int32) : Option (Int32 × UH) :=
    (uGR u a0 12 5).bind fun o1 =>
    (o1).bind fun a2 =>
    (uLdR u a2 6 x1).bind fun o3 =>
    ucase o3 (
    f_X14_sees_24 N b g a0 u x1 0) fun a4 =>
    (uGR u a0 12 5).bind fun o5 =>
    (o5).bind fun a6 =>
    (uLdR u a6 6 x1).bind fun o7 =>
    (o7).bind fun a8 =>
    (uGI u a8 13 0).bind fun y9 =>
    f_X14_sees_24 N b g a0 u x1 (1 <<< (y9 &&& 31))
set_option maxHeartbeats 4000000 in
set_option maxRecDepth 100000 in
theorem zz_X14_sees_0 {G : uG} {a0 : Nat} {uf : UH} {r : Int32} (N : Nat) (u : UH) (x1 : Int32) (h : f_X14_sees N (ub G) (ug G) u a0 x1 = some (r, uf)) : uf.1 = u.1 ∧ uf.2.1 = u.2.1 := by
  unfold f_X14_sees at h
  obtain ⟨o1, ho1, h⟩ := mbind_n h
  obtain ⟨a2, ha2, hha2⟩ := mbind_n h
  subst ha2
  have h := hha2
  obtain ⟨o3, ho3, h⟩ := mbind_n h
  rcases o3 with _ | a4
  · have h := ucase_n h
    have hq := zz_X14_sees_24 (G := G) (a0 := a0) N u x1 0 h
    exact ⟨by omega, by omega⟩
  · have h := ucase_s h
    obtain ⟨o5, ho5, h⟩ := mbind_n h
    obtain ⟨a6, ha6, hha6⟩ := mbind_n h
    subst ha6
    have h := hha6
    obtain ⟨o7, ho7, h⟩ := mbind_n h
    obtain ⟨a8, ha8, hha8⟩ := mbind_n h
    subst ha8
    have h := hha8
    obtain ⟨y9, hy9, h⟩ := mbind_n h
    have hq := zz_X14_sees_24 (G := G) (a0 := a0) N u x1 (1 <<< (y9 &&& 31)) h
    exact ⟨by omega, by omega⟩
set_option maxHeartbeats 4000000 in
set_option maxRecDepth 100000 in
theorem w_X14_sees_0 {p : Program} {l : Launch} {e : Env} {R : Room} {s : State} {m : MethodId} {args : Array Value} {below : List Frame} {meth : Method} {c : Code} {G : uG} {a0 : Nat} {uf : UH} {r : Int32} (hC : uC p s m args meth c G RX14 cX14_sees 8 (some .int)) (hR : 2 ≤ R.frames ∧ 46 ≤ R.locals) (N : Nat) (u : UH) (x1 : Int32) (h : f_X14_sees N (ub G) (ug G) u a0 x1 = some (r, uf)) {H : Heap} {locs : List Loc} (hP : uP G u H) (hS : va_S (uA G) s.heap H locs) {ls : Array Slot} (hl : lv_has ls 8 [(0, va_rf (some a0)), (1, .int x1)]) : W p l e R s m args below meth c H locs 0 0 (MQ below (uQi G r uf) args s 0 0 (uA G)) (F0 m 0 ls []) := by
  obtain ⟨⟨hx, hb, hml, hown, hts⟩, hKK⟩ := id hC
  unfold f_X14_sees at h
  refine u_aload_n (r := some a0) hx hb dX14_sees_0 rfl (lv_at hl 0 rfl) ?_
  obtain ⟨o1, ho1, h⟩ := mbind_n h
  refine u_get hC hP (uGR_n ho1) rfl in_X14 (by decide) q1144 (fun _ h => h) dX14_sees_1 ?_
  refine lv_iload_n hx hb dX14_sees_4 rfl (lv_at hl 1 rfl) ?_
  obtain ⟨a2, ha2, hha2⟩ := mbind_n h
  subst ha2
  have h := hha2
  obtain ⟨o3, ho3, h⟩ := mbind_n h
  refine u_aald hC hP ho3 rfl dX14_sees_5 ?_
  rcases o3 with _ | a4
  · have h := ucase_n h
    refine lv_ifnonnullN hx hb dX14_sees_6 ?_
    refine lv_iconst (v := 0) hx hb dX14_sees_9 (by decide) ?_
    refine lv_goto (tgt := 24) hx hb dX14_sees_10 (by decide) ?_
    exact w_X14_sees_24 hC hR N u x1 0 h hP hS (lv_sub hl [0, 1] rfl)
  · have h := ucase_s h
    refine lv_ifnonnull (tgt := 13) hx hb dX14_sees_6 (by decide) ?_
    refine lv_iconst (v := 1) hx hb dX14_sees_13 (by decide) ?_
    refine u_aload_n (r := some a0) hx hb dX14_sees_14 rfl (lv_at hl 0 rfl) ?_
    obtain ⟨o5, ho5, h⟩ := mbind_n h
    refine u_get hC hP (uGR_n ho5) rfl in_X14 (by decide) q1144 (fun _ h => h) dX14_sees_15 ?_
    refine lv_iload_n hx hb dX14_sees_18 rfl (lv_at hl 1 rfl) ?_
    obtain ⟨a6, ha6, hha6⟩ := mbind_n h
    subst ha6
    have h := hha6
    obtain ⟨o7, ho7, h⟩ := mbind_n h
    refine u_aald hC hP ho7 rfl dX14_sees_19 ?_
    obtain ⟨a8, ha8, hha8⟩ := mbind_n h
    subst ha8
    have h := hha8
    obtain ⟨y9, hy9, h⟩ := mbind_n h
    refine u_getN hC hP (uGI_n hy9) rfl in_X15 (by decide) q1214 (fun _ h => h) dX14_sees_20 ?_
    refine lv_ishl hx hb dX14_sees_23 ?_
    exact w_X14_sees_24 hC hR N u x1 (1 <<< (y9 &&& 31)) h hP hS (lv_sub hl [0, 1] rfl)
theorem zz_X14_sees (N b : Nat) (g : uEnv) (u : UH) (a0 : Nat) (x1 : Int32) (r : Int32) (uf : UH) (h : f_X14_sees N b g u a0 x1 = some (r, uf)) : uf.1 = u.1 ∧ uf.2.1 = u.2.1 :=
  zz_X14_sees_0 (G := ((fun _ => 0, fun _ _ => 0), fun _ => 0, b, g)) (a0 := a0) N u x1 h
theorem met_X14_sees (l : Launch) (N : Nat) (G : uG) (u : UH) (a0 : Nat) (x1 : Int32) (r : Int32) (uf : UH) (h : f_X14_sees N (ub G) (ug G) u a0 x1 = some (r, uf)) : Met l yX14_sees (ws_ yX14_sees cX14_sees 8 (some .int)) ({ frames := 2, cells := 0, slots := 0, locals := 46 }) (uPc G u [.ref a0, .int x1]) (uQi G r uf) 0 0 (uA G) := by
  exact u_met (own := RX14) (by decide +kernel) rfl (Nat.le_of_ble_eq_true rfl) (fun hC hn hsz ls hl hP => w_X14_sees_0 hC ⟨Nat.le_refl _, Nat.le_refl _⟩ N u x1 h hP va_S.rf hl)
def f_X18_init (N b : Nat) (g : uEnv) (u : UH) (a0 : Nat) (x1 : Option Nat) (x2 : Int32) (x3 : Int32) (x4 : Option Nat) : Option (UH) :=
    (uPut b u a0 16 0 (va_rf x1)).bind fun u1 =>
    (uPut b u1 a0 16 1 (.int x2)).bind fun u2 =>
    (uPut b u2 a0 16 2 (va_rf x4)).bind fun u3 =>
    (uPut b u3 a0 16 3 (.int x3)).bind fun u4 =>
    (x1).bind fun a5 =>
    if uIs u4 a5 12 = true then
    ucall (f_X14_open N b g u4 a5) fun r9 u7 =>
    if uIs u7 a5 12 = true then
    ucall (f_X14_sees N b g u7 a5 x3) fun r13 u11 =>
    (uPut b u11 a0 16 4 (.int ((r9 ^^^ (-1)) ||| r13))).bind fun u14 =>
    some u14
    else none
    else none
set_option maxHeartbeats 4000000 in
set_option maxRecDepth 100000 in
theorem zz_X18_init_0 {G : uG} {a0 : Nat} {uf : UH} (N : Nat) (u : UH) (x1 : Option Nat) (x2 : Int32) (x3 : Int32) (x4 : Option Nat) (h : f_X18_init N (ub G) (ug G) u a0 x1 x2 x3 x4 = some uf) : uf.1 = u.1 ∧ uf.2.1 = u.2.1 := by
  unfold f_X18_init at h
  obtain ⟨u1, hu1, h⟩ := mbind_n h
  have zu1 := uPut_sz hu1
  obtain ⟨u2, hu2, h⟩ := mbind_n h
  have zu2 := uPut_sz hu2
  obtain ⟨u3, hu3, h⟩ := mbind_n h
  have zu3 := uPut_sz hu3
  obtain ⟨u4, hu4, h⟩ := mbind_n h
  have zu4 := uPut_sz hu4
  obtain ⟨a5, ha5, hha5⟩ := mbind_n h
  subst ha5
  have h := hha5
  obtain ⟨c6, h⟩ := mif_n h
  obtain ⟨r9, u7, c8, h⟩ := ucall_n h
  have zu7 := zz_X14_open N (ub G) (ug G) u4 a5 r9 u7 c8
  obtain ⟨c10, h⟩ := mif_n h
  obtain ⟨r13, u11, c12, h⟩ := ucall_n h
  have zu11 := zz_X14_sees N (ub G) (ug G) u7 a5 x3 r13 u11 c12
  obtain ⟨u14, hu14, h⟩ := mbind_n h
  have zu14 := uPut_sz hu14
  cases h
  exact ⟨by omega, by omega⟩
set_option maxHeartbeats 4000000 in
set_option maxRecDepth 100000 in
theorem w_X18_init_0 {p : Program} {l : Launch} {e : Env} {R : Room} {s : State} {m : MethodId} {args : Array Value} {below : List Frame} {meth : Method} {c : Code} {G : uG} {a0 : Nat} {uf : UH} (hC : uC p s m args meth c G RX18 cX18_init 5 none) (hI : meth.name = "<init>") (hR : 4 ≤ R.frames ∧ 86 ≤ R.locals) (N : Nat) (u : UH) (x1 : Option Nat) (x2 : Int32) (x3 : Int32) (x4 : Option Nat) (h : f_X18_init N (ub G) (ug G) u a0 x1 x2 x3 x4 = some uf) {H : Heap} {locs : List Loc} (hP : uP G u H) (hS : va_S (uA G) s.heap H locs) {ls : Array Slot} (hl : lv_has ls 5 [(0, va_rf (some a0)), (1, va_rf x1), (2, .int x2), (3, .int x3), (4, va_rf x4)]) : W p l e R s m args below meth c H locs 0 0 (MQ below (uQv G uf) args s 0 0 (uA G)) (F0 m 0 ls []) := by
  obtain ⟨⟨hx, hb, hml, hown, hts⟩, hKK⟩ := id hC
  unfold f_X18_init at h
  refine u_aload_n (r := some a0) hx hb dX18_init_0 rfl (lv_at hl 0 rfl) ?_
  refine W.objInit hx hb hown (hts _ q1650) (hts _ q148) (hts _ q149) rfl (by rw [hml]; exact hl.1) rfl dX18_init_1 (Nat.le_trans (Nat.le_of_ble_eq_true rfl) hR.1) (Nat.le_trans (Nat.le_of_ble_eq_true rfl) hR.2) ?_
  refine W.eq (g2 := F0 m 4 ls []) rfl ?_
  refine u_aload_n (r := some a0) hx hb dX18_init_4 rfl (lv_at hl 0 rfl) ?_
  refine u_aload_n (r := x1) hx hb dX18_init_5 rfl (lv_at hl 1 rfl) ?_
  obtain ⟨u1, hu1, h⟩ := mbind_n h
  have zu1 := uPut_sz hu1
  refine u_putF hC hI hP hS hu1 rfl in_X18 tyX18 tyX18_ok nmX18 (by decide) q1653 (fun _ h => h) rfl rfl (ty := (.object "SoftWheels$Land")) (tyX18_ok 0 (by decide)) (uNarR _ _).1 (uNarR _ _).2 dX18_init_6 (fun H locs hP hS => ?_)
  refine u_aload_n (r := some a0) hx hb dX18_init_9 rfl (lv_at hl 0 rfl) ?_
  refine lv_iload_n hx hb dX18_init_10 rfl (lv_at hl 2 rfl) ?_
  obtain ⟨u2, hu2, h⟩ := mbind_n h
  have zu2 := uPut_sz hu2
  refine u_putF hC hI hP hS hu2 rfl in_X18 tyX18 tyX18_ok nmX18 (by decide) q1654 (fun _ h => h) rfl rfl (ty := .int) (tyX18_ok 1 (by decide)) rfl rfl dX18_init_11 (fun H locs hP hS => ?_)
  refine u_aload_n (r := some a0) hx hb dX18_init_14 rfl (lv_at hl 0 rfl) ?_
  refine u_aload (r := x4) hx hb dX18_init_15 (lv_at hl 4 rfl) ?_
  obtain ⟨u3, hu3, h⟩ := mbind_n h
  have zu3 := uPut_sz hu3
  refine u_putF hC hI hP hS hu3 rfl in_X18 tyX18 tyX18_ok nmX18 (by decide) q1655 (fun _ h => h) rfl rfl (ty := (.array .int)) (tyX18_ok 2 (by decide)) (uNarA _ _).1 (uNarA _ _).2 dX18_init_17 (fun H locs hP hS => ?_)
  refine u_aload_n (r := some a0) hx hb dX18_init_20 rfl (lv_at hl 0 rfl) ?_
  refine lv_iload_n hx hb dX18_init_21 rfl (lv_at hl 3 rfl) ?_
  obtain ⟨u4, hu4, h⟩ := mbind_n h
  have zu4 := uPut_sz hu4
  refine u_put hC hP hS hu4 rfl in_X18 tyX18 tyX18_ok nmX18 (by decide) q1656 (fun _ h => h) rfl (ty := .int) (tyX18_ok 3 (by decide)) rfl rfl dX18_init_22 (fun H locs hP hS => ?_)
  refine u_aload_n (r := some a0) hx hb dX18_init_25 rfl (lv_at hl 0 rfl) ?_
  refine u_aload_n (r := x1) hx hb dX18_init_26 rfl (lv_at hl 1 rfl) ?_
  obtain ⟨a5, ha5, hha5⟩ := mbind_n h
  subst ha5
  have h := hha5
  obtain ⟨c6, h⟩ := mif_n h
  obtain ⟨r9, u7, c8, h⟩ := ucall_n h
  have zu7 := zz_X14_open N (ub G) (ug G) u4 a5 r9 u7 c8
  refine u_calli (va_runV (As := []) (rest := [va_rf (some a0)]) hC.1 (met_X14_open l N G u4 a5 r9 u7 c8) (cwV 0 hts (lw_V q1651 q1452 q1453 q131 q1454) rfl rfl rfl (by decide +kernel) ⟨Nat.le_trans (Nat.le_of_ble_eq_true rfl) hR.1, Nat.le_trans (Nat.le_of_ble_eq_true rfl) hR.2⟩) ⟨uPc_blind, u_rcv hC hP c6 rfl, fun U hU hW => u_pre hC hP hS hU hW⟩ rfl rfl hl.1 rfl (lv_room (Nat.le_of_ble_eq_true rfl)) dX18_init_27 ⟨Nat.zero_le _, Nat.zero_le _⟩) hS (fun H locs hP hS => ?_)
  refine lv_iconst (v := (-1)) hx hb dX18_init_30 (by decide) ?_
  refine lv_ixor hx hb dX18_init_31 ?_
  refine u_aload_n (r := some a5) hx hb dX18_init_32 rfl (lv_at hl 1 rfl) ?_
  refine lv_iload_n hx hb dX18_init_33 rfl (lv_at hl 3 rfl) ?_
  obtain ⟨c10, h⟩ := mif_n h
  obtain ⟨r13, u11, c12, h⟩ := ucall_n h
  have zu11 := zz_X14_sees N (ub G) (ug G) u7 a5 x3 r13 u11 c12
  refine u_calli (va_runV (As := [.int x3]) (rest := [.int (r9 ^^^ (-1)), va_rf (some a0)]) hC.1 (met_X14_sees l N G u7 a5 x3 r13 u11 c12) (cwV 1 hts (lw_V q1652 q1316 q1317 q131 q1318) rfl rfl rfl (by decide +kernel) ⟨Nat.le_trans (Nat.le_of_ble_eq_true rfl) hR.1, Nat.le_trans (Nat.le_of_ble_eq_true rfl) hR.2⟩) ⟨uPc_blind, u_rcv hC hP c10 rfl, fun U hU hW => u_pre hC hP hS hU hW⟩ rfl rfl hl.1 rfl (lv_room (Nat.le_of_ble_eq_true rfl)) dX18_init_34 ⟨Nat.zero_le _, Nat.zero_le _⟩) hS (fun H locs hP hS => ?_)
  refine lv_ior hx hb dX18_init_37 ?_
  obtain ⟨u14, hu14, h⟩ := mbind_n h
  have zu14 := uPut_sz hu14
  refine u_put hC hP hS hu14 rfl in_X18 tyX18 tyX18_ok nmX18 (by decide) q1657 (fun _ h => h) rfl (ty := .int) (tyX18_ok 4 (by decide)) rfl rfl dX18_init_38 (fun H locs hP hS => ?_)
  cases h
  exact u_vret hC hP hS dX18_init_41
theorem zz_X18_init (N b : Nat) (g : uEnv) (u : UH) (a0 : Nat) (x1 : Option Nat) (x2 : Int32) (x3 : Int32) (x4 : Option Nat) (uf : UH) (h : f_X18_init N b g u a0 x1 x2 x3 x4 = some uf) : uf.1 = u.1 ∧ uf.2.1 = u.2.1 :=
  zz_X18_init_0 (G := ((fun _ => 0, fun _ _ => 0), fun _ => 0, b, g)) (a0 := a0) N u x1 x2 x3 x4 h
theorem met_X18_init (l : Launch) (N : Nat) (G : uG) (u : UH) (a0 : Nat) (x1 : Option Nat) (x2 : Int32) (x3 : Int32) (x4 : Option Nat) (uf : UH) (h : f_X18_init N (ub G) (ug G) u a0 x1 x2 x3 x4 = some uf) : Met l yX18_init (ws_ yX18_init cX18_init 5 none) ({ frames := 4, cells := 0, slots := 0, locals := 86 }) (uPc G u [.ref a0, va_rf x1, .int x2, .int x3, va_rf x4]) (uQv G uf) 0 0 (uA G) := by
  rcases x1 with _ | x1 <;> rcases x4 with _ | x4 <;> exact u_met (own := RX18) (by decide +kernel) rfl (Nat.le_of_ble_eq_true rfl) (fun hC hn hsz ls hl hP => w_X18_init_0 hC hn ⟨Nat.le_refl _, Nat.le_refl _⟩ N u _ x2 x3 _ h hP va_S.rf hl)
def f_X4_load (N b : Nat) (g : uEnv) (u : UH) (a0 : Nat) : Option (Int32 × UH) :=
    (uGI u a0 3 4).bind fun y1 =>
    (uGI u a0 3 3).bind fun y2 =>
    if ¬ y2 = 0 then
    some (y1 / y2, u)
    else none
set_option maxHeartbeats 4000000 in
set_option maxRecDepth 100000 in
theorem zz_X4_load_0 {G : uG} {a0 : Nat} {uf : UH} {r : Int32} (N : Nat) (u : UH) (h : f_X4_load N (ub G) (ug G) u a0 = some (r, uf)) : uf.1 = u.1 ∧ uf.2.1 = u.2.1 := by
  unfold f_X4_load at h
  obtain ⟨y1, hy1, h⟩ := mbind_n h
  obtain ⟨y2, hy2, h⟩ := mbind_n h
  obtain ⟨c3, h⟩ := mif_n h
  obtain ⟨hr1, hr2⟩ := uret_n h
  subst hr2
  exact ⟨by omega, by omega⟩
set_option maxHeartbeats 4000000 in
set_option maxRecDepth 100000 in
theorem w_X4_load_0 {p : Program} {l : Launch} {e : Env} {R : Room} {s : State} {m : MethodId} {args : Array Value} {below : List Frame} {meth : Method} {c : Code} {G : uG} {a0 : Nat} {uf : UH} {r : Int32} (hC : uC p s m args meth c G RX4 cX4_load 1 (some .int)) (hR : 0 ≤ R.frames ∧ 0 ≤ R.locals) (N : Nat) (u : UH) (h : f_X4_load N (ub G) (ug G) u a0 = some (r, uf)) {H : Heap} {locs : List Loc} (hP : uP G u H) (hS : va_S (uA G) s.heap H locs) {ls : Array Slot} (hl : lv_has ls 1 [(0, va_rf (some a0))]) : W p l e R s m args below meth c H locs 0 0 (MQ below (uQi G r uf) args s 0 0 (uA G)) (F0 m 0 ls []) := by
  obtain ⟨⟨hx, hb, hml, hown, hts⟩, hKK⟩ := id hC
  unfold f_X4_load at h
  refine u_aload_n (r := some a0) hx hb dX4_load_0 rfl (lv_at hl 0 rfl) ?_
  obtain ⟨y1, hy1, h⟩ := mbind_n h
  refine u_get hC hP (uGI_n hy1) rfl in_X4 (by decide) q300 (fun _ h => h) dX4_load_1 ?_
  refine u_aload_n (r := some a0) hx hb dX4_load_4 rfl (lv_at hl 0 rfl) ?_
  obtain ⟨y2, hy2, h⟩ := mbind_n h
  refine u_get hC hP (uGI_n hy2) rfl in_X4 (by decide) q297 (fun _ h => h) dX4_load_5 ?_
  obtain ⟨c3, h⟩ := mif_n h
  refine lv_idiv hx hb dX4_load_8 c3 ?_
  obtain ⟨hr1, hr2⟩ := uret_n h
  subst hr1
  subst hr2
  exact u_iret hC hP hS dX4_load_9
theorem zz_X4_load (N b : Nat) (g : uEnv) (u : UH) (a0 : Nat) (r : Int32) (uf : UH) (h : f_X4_load N b g u a0 = some (r, uf)) : uf.1 = u.1 ∧ uf.2.1 = u.2.1 :=
  zz_X4_load_0 (G := ((fun _ => 0, fun _ _ => 0), fun _ => 0, b, g)) (a0 := a0) N u h
theorem met_X4_load (l : Launch) (N : Nat) (G : uG) (u : UH) (a0 : Nat) (r : Int32) (uf : UH) (h : f_X4_load N (ub G) (ug G) u a0 = some (r, uf)) : Met l yX4_load (ws_ yX4_load cX4_load 1 (some .int)) ({ frames := 0, cells := 0, slots := 0, locals := 0 }) (uPc G u [.ref a0]) (uQi G r uf) 0 0 (uA G) := by
  exact u_met (own := RX4) (by decide +kernel) rfl (Nat.le_of_ble_eq_true rfl) (fun hC hn hsz ls hl hP => w_X4_load_0 hC ⟨Nat.le_refl _, Nat.le_refl _⟩ N u h hP va_S.rf hl)
def f_X9_value_26 (N b : Nat) (g : uEnv) (a0 : Nat) (u : UH) (x1 : Int32) (x2 : Int32) : Option (Int32 × UH) :=
    if x2 = 0 then
    (uGR u a0 7 1).bind fun o29 =>
    (o29).bind fun a30 =>
    (uLdI u a30 0 0).bind fun y31 =>
    some (y31, u)
    else
    (uGI u a0 7 2).bind fun y2 =>
    if x2 = y2 then
    (uGR u a0 7 1).bind fun o25 =>
    (uGI u a0 7 2).bind fun y26 =>
    (o25).bind fun a27 =>
    (uLdI u a27 0 (y26 - 1)).bind fun y28 =>
    some (y28, u)
    else
    (uGR u a0 7 1).bind fun o4 =>
    (o4).bind fun a5 =>
    (uLdI u a5 0 (x2 - 1)).bind fun y6 =>
    (uGR u a0 7 1).bind fun o7 =>
    (o7).bind fun a8 =>
    (uLdI u a8 0 x2).bind fun y9 =>
    (uGR u a0 7 1).bind fun o10 =>
    (o10).bind fun a11 =>
    (uLdI u a11 0 (x2 - 1)).bind fun y12 =>
    (uGR u a0 7 0).bind fun o13 =>
    (o13).bind fun a14 =>
    (uLdI u a14 0 (x2 - 1)).bind fun y15 =>
    (uGR u a0 7 0).bind fun o16 =>
    (o16).bind fun a17 =>
    (uLdI u a17 0 x2).bind fun y18 =>
    (uGR u a0 7 0).bind fun o19 =>
    (o19).bind fun a20 =>
    (uLdI u a20 0 (x2 - 1)).bind fun y21 =>
    ucall (f_J9_floorDiv N b g u ((y9 - y12) * (x1 - y15)) (y18 - y21)) fun r24 u22 =>
    some (y6 + r24, u22)
set_option maxHeartbeats 4000000 in
set_option maxRecDepth 100000 in
theorem zz_X9_value_26 {G : uG} {a0 : Nat} {uf : UH} {r : Int32} (N : Nat) (u : UH) (x1 : Int32) (x2 : Int32) (h : f_X9_value_26 N (ub G) (ug G) a0 u x1 x2 = some (r, uf)) : uf.1 = u.1 ∧ uf.2.1 = u.2.1 := by
  unfold f_X9_value_26 at h
  by_cases c1 : x2 = 0
  · have h := mif_t c1 h
    obtain ⟨o29, ho29, h⟩ := mbind_n h
    obtain ⟨a30, ha30, hha30⟩ := mbind_n h
    subst ha30
    have h := hha30
    obtain ⟨y31, hy31, h⟩ := mbind_n h
    obtain ⟨hr1, hr2⟩ := uret_n h
    subst hr2
    exact ⟨by omega, by omega⟩
  · have h := mif_f c1 h
    obtain ⟨y2, hy2, h⟩ := mbind_n h
    by_cases c3 : x2 = y2
    · have h := mif_t c3 h
      obtain ⟨o25, ho25, h⟩ := mbind_n h
      obtain ⟨y26, hy26, h⟩ := mbind_n h
      obtain ⟨a27, ha27, hha27⟩ := mbind_n h
      subst ha27
      have h := hha27
      obtain ⟨y28, hy28, h⟩ := mbind_n h
      obtain ⟨hr1, hr2⟩ := uret_n h
      subst hr2
      exact ⟨by omega, by omega⟩
    · have h := mif_f c3 h
      obtain ⟨o4, ho4, h⟩ := mbind_n h
      obtain ⟨a5, ha5, hha5⟩ := mbind_n h
      subst ha5
      have h := hha5
      obtain ⟨y6, hy6, h⟩ := mbind_n h
      obtain ⟨o7, ho7, h⟩ := mbind_n h
      obtain ⟨a8, ha8, hha8⟩ := mbind_n h
      subst ha8
      have h := hha8
      obtain ⟨y9, hy9, h⟩ := mbind_n h
      obtain ⟨o10, ho10, h⟩ := mbind_n h
      obtain ⟨a11, ha11, hha11⟩ := mbind_n h
      subst ha11
      have h := hha11
      obtain ⟨y12, hy12, h⟩ := mbind_n h
      obtain ⟨o13, ho13, h⟩ := mbind_n h
      obtain ⟨a14, ha14, hha14⟩ := mbind_n h
      subst ha14
      have h := hha14
      obtain ⟨y15, hy15, h⟩ := mbind_n h
      obtain ⟨o16, ho16, h⟩ := mbind_n h
      obtain ⟨a17, ha17, hha17⟩ := mbind_n h
      subst ha17
      have h := hha17
      obtain ⟨y18, hy18, h⟩ := mbind_n h
      obtain ⟨o19, ho19, h⟩ := mbind_n h
      obtain ⟨a20, ha20, hha20⟩ := mbind_n h
      subst ha20
      have h := hha20
      obtain ⟨y21, hy21, h⟩ := mbind_n h
      obtain ⟨r24, u22, c23, h⟩ := ucall_n h
      have zu22 := zz_J9_floorDiv N (ub G) (ug G) u ((y9 - y12) * (x1 - y15)) (y18 - y21) r24 u22 c23
      obtain ⟨hr1, hr2⟩ := uret_n h
      subst hr2
      exact ⟨by omega, by omega⟩
set_option maxHeartbeats 4000000 in
set_option maxRecDepth 100000 in
theorem w_X9_value_26 {p : Program} {l : Launch} {e : Env} {R : Room} {s : State} {m : MethodId} {args : Array Value} {below : List Frame} {meth : Method} {c : Code} {G : uG} {a0 : Nat} {uf : UH} {r : Int32} (hC : uC p s m args meth c G RX9 cX9_value 3 (some .int)) (hR : 1 ≤ R.frames ∧ 22 ≤ R.locals) (N : Nat) (u : UH) (x1 : Int32) (x2 : Int32) (h : f_X9_value_26 N (ub G) (ug G) a0 u x1 x2 = some (r, uf)) {H : Heap} {locs : List Loc} (hP : uP G u H) (hS : va_S (uA G) s.heap H locs) {ls : Array Slot} (hl : lv_has ls 3 [(0, va_rf (some a0)), (1, .int x1), (2, .int x2)]) : W p l e R s m args below meth c H locs 0 0 (MQ below (uQi G r uf) args s 0 0 (uA G)) (F0 m 26 ls []) := by
  obtain ⟨⟨hx, hb, hml, hown, hts⟩, hKK⟩ := id hC
  unfold f_X9_value_26 at h
  refine lv_iload_n hx hb dX9_value_26 rfl (lv_at hl 2 rfl) ?_
  refine lv_if_ne (tgt := 37) hx hb dX9_value_27 (by decide) (fun c1 => ?_) (fun c1 => ?_)
  · have h := mif_f c1 h
    refine lv_iload_n hx hb dX9_value_37 rfl (lv_at hl 2 rfl) ?_
    refine u_aload_n (r := some a0) hx hb dX9_value_38 rfl (lv_at hl 0 rfl) ?_
    obtain ⟨y2, hy2, h⟩ := mbind_n h
    refine u_get hC hP (uGI_n hy2) rfl in_X9 (by decide) q864 (fun _ h => h) dX9_value_39 ?_
    refine lv_icmp_ne (tgt := 57) hx hb dX9_value_42 (by decide) (fun c3 => ?_) (fun c3 => ?_)
    · have h := mif_f c3 h
      refine u_aload_n (r := some a0) hx hb dX9_value_57 rfl (lv_at hl 0 rfl) ?_
      obtain ⟨o4, ho4, h⟩ := mbind_n h
      refine u_get hC hP (uGR_n ho4) rfl in_X9 (by decide) q863 (fun _ h => h) dX9_value_58 ?_
      refine lv_iload_n hx hb dX9_value_61 rfl (lv_at hl 2 rfl) ?_
      refine lv_iconst (v := 1) hx hb dX9_value_62 (by decide) ?_
      refine lv_isub hx hb dX9_value_63 ?_
      obtain ⟨a5, ha5, hha5⟩ := mbind_n h
      subst ha5
      have h := hha5
      obtain ⟨y6, hy6, h⟩ := mbind_n h
      refine u_iald hC hP hy6 rfl dX9_value_64 ?_
      refine u_aload_n (r := some a0) hx hb dX9_value_65 rfl (lv_at hl 0 rfl) ?_
      obtain ⟨o7, ho7, h⟩ := mbind_n h
      refine u_get hC hP (uGR_n ho7) rfl in_X9 (by decide) q863 (fun _ h => h) dX9_value_66 ?_
      refine lv_iload_n hx hb dX9_value_69 rfl (lv_at hl 2 rfl) ?_
      obtain ⟨a8, ha8, hha8⟩ := mbind_n h
      subst ha8
      have h := hha8
      obtain ⟨y9, hy9, h⟩ := mbind_n h
      refine u_iald hC hP hy9 rfl dX9_value_70 ?_
      refine u_aload_n (r := some a0) hx hb dX9_value_71 rfl (lv_at hl 0 rfl) ?_
      obtain ⟨o10, ho10, h⟩ := mbind_n h
      refine u_get hC hP (uGR_n ho10) rfl in_X9 (by decide) q863 (fun _ h => h) dX9_value_72 ?_
      refine lv_iload_n hx hb dX9_value_75 rfl (lv_at hl 2 rfl) ?_
      refine lv_iconst (v := 1) hx hb dX9_value_76 (by decide) ?_
      refine lv_isub hx hb dX9_value_77 ?_
      obtain ⟨a11, ha11, hha11⟩ := mbind_n h
      subst ha11
      have h := hha11
      obtain ⟨y12, hy12, h⟩ := mbind_n h
      refine u_iald hC hP hy12 rfl dX9_value_78 ?_
      refine lv_isub hx hb dX9_value_79 ?_
      refine lv_iload_n hx hb dX9_value_80 rfl (lv_at hl 1 rfl) ?_
      refine u_aload_n (r := some a0) hx hb dX9_value_81 rfl (lv_at hl 0 rfl) ?_
      obtain ⟨o13, ho13, h⟩ := mbind_n h
      refine u_get hC hP (uGR_n ho13) rfl in_X9 (by decide) q862 (fun _ h => h) dX9_value_82 ?_
      refine lv_iload_n hx hb dX9_value_85 rfl (lv_at hl 2 rfl) ?_
      refine lv_iconst (v := 1) hx hb dX9_value_86 (by decide) ?_
      refine lv_isub hx hb dX9_value_87 ?_
      obtain ⟨a14, ha14, hha14⟩ := mbind_n h
      subst ha14
      have h := hha14
      obtain ⟨y15, hy15, h⟩ := mbind_n h
      refine u_iald hC hP hy15 rfl dX9_value_88 ?_
      refine lv_isub hx hb dX9_value_89 ?_
      refine lv_imul hx hb dX9_value_90 ?_
      refine u_aload_n (r := some a0) hx hb dX9_value_91 rfl (lv_at hl 0 rfl) ?_
      obtain ⟨o16, ho16, h⟩ := mbind_n h
      refine u_get hC hP (uGR_n ho16) rfl in_X9 (by decide) q862 (fun _ h => h) dX9_value_92 ?_
      refine lv_iload_n hx hb dX9_value_95 rfl (lv_at hl 2 rfl) ?_
      obtain ⟨a17, ha17, hha17⟩ := mbind_n h
      subst ha17
      have h := hha17
      obtain ⟨y18, hy18, h⟩ := mbind_n h
      refine u_iald hC hP hy18 rfl dX9_value_96 ?_
      refine u_aload_n (r := some a0) hx hb dX9_value_97 rfl (lv_at hl 0 rfl) ?_
      obtain ⟨o19, ho19, h⟩ := mbind_n h
      refine u_get hC hP (uGR_n ho19) rfl in_X9 (by decide) q862 (fun _ h => h) dX9_value_98 ?_
      refine lv_iload_n hx hb dX9_value_101 rfl (lv_at hl 2 rfl) ?_
      refine lv_iconst (v := 1) hx hb dX9_value_102 (by decide) ?_
      refine lv_isub hx hb dX9_value_103 ?_
      obtain ⟨a20, ha20, hha20⟩ := mbind_n h
      subst ha20
      have h := hha20
      obtain ⟨y21, hy21, h⟩ := mbind_n h
      refine u_iald hC hP hy21 rfl dX9_value_104 ?_
      refine lv_isub hx hb dX9_value_105 ?_
      obtain ⟨r24, u22, c23, h⟩ := ucall_n h
      have zu22 := zz_J9_floorDiv N (ub G) (ug G) u ((y9 - y12) * (x1 - y15)) (y18 - y21) r24 u22 c23
      refine u_calli (va_runS (As := [.int ((y9 - y12) * (x1 - y15)), .int (y18 - y21)]) (rest := [.int y6]) hC.1 (met_J9_floorDiv l N G u ((y9 - y12) * (x1 - y15)) (y18 - y21) r24 u22 c23) (va_cwS 2 hts (lw_S q1090 q1091 q113 q1092) rfl rfl rfl (by decide +kernel) ⟨Nat.le_trans (Nat.le_of_ble_eq_true rfl) hR.1, Nat.le_trans (Nat.le_of_ble_eq_true rfl) hR.2⟩) ⟨uPc_blind, fun U hU hW => u_pre hC hP hS hU hW⟩ rfl rfl hl.1 rfl (lv_room (Nat.le_of_ble_eq_true rfl)) dX9_value_106 ⟨Nat.zero_le _, Nat.zero_le _⟩) hS (fun H locs hP hS => ?_)
      refine lv_iadd hx hb dX9_value_109 ?_
      obtain ⟨hr1, hr2⟩ := uret_n h
      subst hr1
      subst hr2
      exact u_iret hC hP hS dX9_value_110
    · have h := mif_t c3 h
      refine u_aload_n (r := some a0) hx hb dX9_value_45 rfl (lv_at hl 0 rfl) ?_
      obtain ⟨o25, ho25, h⟩ := mbind_n h
      refine u_get hC hP (uGR_n ho25) rfl in_X9 (by decide) q863 (fun _ h => h) dX9_value_46 ?_
      refine u_aload_n (r := some a0) hx hb dX9_value_49 rfl (lv_at hl 0 rfl) ?_
      obtain ⟨y26, hy26, h⟩ := mbind_n h
      refine u_get hC hP (uGI_n hy26) rfl in_X9 (by decide) q864 (fun _ h => h) dX9_value_50 ?_
      refine lv_iconst (v := 1) hx hb dX9_value_53 (by decide) ?_
      refine lv_isub hx hb dX9_value_54 ?_
      obtain ⟨a27, ha27, hha27⟩ := mbind_n h
      subst ha27
      have h := hha27
      obtain ⟨y28, hy28, h⟩ := mbind_n h
      refine u_iald hC hP hy28 rfl dX9_value_55 ?_
      obtain ⟨hr1, hr2⟩ := uret_n h
      subst hr1
      subst hr2
      exact u_iret hC hP hS dX9_value_56
  · have h := mif_t c1 h
    refine u_aload_n (r := some a0) hx hb dX9_value_30 rfl (lv_at hl 0 rfl) ?_
    obtain ⟨o29, ho29, h⟩ := mbind_n h
    refine u_get hC hP (uGR_n ho29) rfl in_X9 (by decide) q863 (fun _ h => h) dX9_value_31 ?_
    refine lv_iconst (v := 0) hx hb dX9_value_34 (by decide) ?_
    obtain ⟨a30, ha30, hha30⟩ := mbind_n h
    subst ha30
    have h := hha30
    obtain ⟨y31, hy31, h⟩ := mbind_n h
    refine u_iald hC hP hy31 rfl dX9_value_35 ?_
    obtain ⟨hr1, hr2⟩ := uret_n h
    subst hr1
    subst hr2
    exact u_iret hC hP hS dX9_value_36
def f_X9_value_2 (N b : Nat) (g : uEnv) (a0 : Nat) : Nat → UH → Int32 → Int32 → Option (Int32 × UH)
  | 0, _, _, _ => none
  | n + 1, u, x1, x2 =>
    (uGI u a0 7 2).bind fun y1 =>
    if y1 ≤ x2 then
    f_X9_value_26 N b g a0 u x1 x2
    else
    (uGR u a0 7 0).bind fun o3 =>
    (o3).bind fun a4 =>
    (uLdI u a4 0 x2).bind fun y5 =>
    if x1 < y5 then
    f_X9_value_26 N b g a0 u x1 x2
    else
    mlet (x2 + 1) fun y7 =>
    f_X9_value_2 N b g a0 n u x1 y7
set_option maxHeartbeats 4000000 in
set_option maxRecDepth 100000 in
theorem zz_X9_value_2 {G : uG} {a0 : Nat} {uf : UH} {r : Int32} (N : Nat) : ∀ (n : Nat) (u : UH) (x1 : Int32) (x2 : Int32), f_X9_value_2 N (ub G) (ug G) a0 n u x1 x2 = some (r, uf) → uf.1 = u.1 ∧ uf.2.1 = u.2.1 := by
  intro n
  induction n with
  | zero =>
    intro u x1 x2 h
    cases h
  | succ n ih =>
    intro u x1 x2 h
    unfold f_X9_value_2 at h
    obtain ⟨y1, hy1, h⟩ := mbind_n h
    by_cases c2 : y1 ≤ x2
    · have h := mif_t c2 h
      have hq := zz_X9_value_26 (G := G) (a0 := a0) N u x1 x2 h
      exact ⟨by omega, by omega⟩
    · have h := mif_f c2 h
      obtain ⟨o3, ho3, h⟩ := mbind_n h
      obtain ⟨a4, ha4, hha4⟩ := mbind_n h
      subst ha4
      have h := hha4
      obtain ⟨y5, hy5, h⟩ := mbind_n h
      by_cases c6 : x1 < y5
      · have h := mif_t c6 h
        have hq := zz_X9_value_26 (G := G) (a0 := a0) N u x1 x2 h
        exact ⟨by omega, by omega⟩
      · have h := mif_f c6 h
        obtain ⟨y7, ey7⟩ : ∃ z : Int32, z = x2 + 1 := ⟨_, rfl⟩
        have h := mlet_at ey7 h
        have hq := ih u x1 y7 h
        exact ⟨by omega, by omega⟩
set_option maxHeartbeats 4000000 in
set_option maxRecDepth 100000 in
theorem w_X9_value_2 {p : Program} {l : Launch} {e : Env} {R : Room} {s : State} {m : MethodId} {args : Array Value} {below : List Frame} {meth : Method} {c : Code} {G : uG} {a0 : Nat} {uf : UH} {r : Int32} (hC : uC p s m args meth c G RX9 cX9_value 3 (some .int)) (hR : 1 ≤ R.frames ∧ 22 ≤ R.locals) (N : Nat) : ∀ (n : Nat) (u : UH) (x1 : Int32) (x2 : Int32), f_X9_value_2 N (ub G) (ug G) a0 n u x1 x2 = some (r, uf) → ∀ (H : Heap) (locs : List Loc), uP G u H → va_S (uA G) s.heap H locs → ∀ ls : Array Slot, lv_has ls 3 [(0, va_rf (some a0)), (1, .int x1), (2, .int x2)] → W p l e R s m args below meth c H locs 0 0 (MQ below (uQi G r uf) args s 0 0 (uA G)) (F0 m 2 ls []) := by
  obtain ⟨⟨hx, hb, hml, hown, hts⟩, hKK⟩ := id hC
  intro n
  induction n with
  | zero =>
    intro u x1 x2 h
    cases h
  | succ n ih =>
    intro u x1 x2 h H locs hP hS ls hl
    unfold f_X9_value_2 at h
    refine lv_iload_n hx hb dX9_value_2 rfl (lv_at hl 2 rfl) ?_
    refine u_aload_n (r := some a0) hx hb dX9_value_3 rfl (lv_at hl 0 rfl) ?_
    obtain ⟨y1, hy1, h⟩ := mbind_n h
    refine u_get hC hP (uGI_n hy1) rfl in_X9 (by decide) q864 (fun _ h => h) dX9_value_4 ?_
    refine lv_icmp_ge (tgt := 26) hx hb dX9_value_7 (by decide) (fun c2 => ?_) (fun c2 => ?_)
    · have h := mif_t c2 h
      exact w_X9_value_26 hC hR N u x1 x2 h hP hS (lv_sub hl [0, 1, 2] rfl)
    · have h := mif_f c2 h
      refine u_aload_n (r := some a0) hx hb dX9_value_10 rfl (lv_at hl 0 rfl) ?_
      obtain ⟨o3, ho3, h⟩ := mbind_n h
      refine u_get hC hP (uGR_n ho3) rfl in_X9 (by decide) q862 (fun _ h => h) dX9_value_11 ?_
      refine lv_iload_n hx hb dX9_value_14 rfl (lv_at hl 2 rfl) ?_
      obtain ⟨a4, ha4, hha4⟩ := mbind_n h
      subst ha4
      have h := hha4
      obtain ⟨y5, hy5, h⟩ := mbind_n h
      refine u_iald hC hP hy5 rfl dX9_value_15 ?_
      refine lv_iload_n hx hb dX9_value_16 rfl (lv_at hl 1 rfl) ?_
      refine lv_icmp_gt (tgt := 26) hx hb dX9_value_17 (by decide) (fun c6 => ?_) (fun c6 => ?_)
      · have h := mif_t c6 h
        exact w_X9_value_26 hC hR N u x1 x2 h hP hS (lv_sub hl [0, 1, 2] rfl)
      · have h := mif_f c6 h
        obtain ⟨y7, ey7⟩ : ∃ z : Int32, z = x2 + 1 := ⟨_, rfl⟩
        have h := mlet_at ey7 h
        refine lv_iinc (v := y7) (lv' := [(2, .int y7), (0, va_rf (some a0)), (1, .int x1)]) hx hb dX9_value_20 hl (k := 2) rfl (by rw [ey7]; rfl) (by decide) rfl (fun ls hl => ?_)
        refine lv_goto (tgt := 2) hx hb dX9_value_23 (by decide) ?_
        exact ih u x1 y7 h _ _ hP hS _ (lv_sub hl [1, 2, 0] rfl)
def f_X9_value (N b : Nat) (g : uEnv) (u : UH) (a0 : Nat) (x1 : Int32) : Option (Int32 × UH) :=
    f_X9_value_2 N b g a0 N u x1 0
set_option maxHeartbeats 4000000 in
set_option maxRecDepth 100000 in
theorem zz_X9_value_0 {G : uG} {a0 : Nat} {uf : UH} {r : Int32} (N : Nat) (u : UH) (x1 : Int32) (h : f_X9_value N (ub G) (ug G) u a0 x1 = some (r, uf)) : uf.1 = u.1 ∧ uf.2.1 = u.2.1 := by
  unfold f_X9_value at h
  have hq := zz_X9_value_2 (G := G) (a0 := a0) N N u x1 0 h
  exact ⟨by omega, by omega⟩
set_option maxHeartbeats 4000000 in
set_option maxRecDepth 100000 in
theorem w_X9_value_0 {p : Program} {l : Launch} {e : Env} {R : Room} {s : State} {m : MethodId} {args : Array Value} {below : List Frame} {meth : Method} {c : Code} {G : uG} {a0 : Nat} {uf : UH} {r : Int32} (hC : uC p s m args meth c G RX9 cX9_value 3 (some .int)) (hR : 1 ≤ R.frames ∧ 22 ≤ R.locals) (N : Nat) (u : UH) (x1 : Int32) (h : f_X9_value N (ub G) (ug G) u a0 x1 = some (r, uf)) {H : Heap} {locs : List Loc} (hP : uP G u H) (hS : va_S (uA G) s.heap H locs) {ls : Array Slot} (hl : lv_has ls 3 [(0, va_rf (some a0)), (1, .int x1)]) : W p l e R s m args below meth c H locs 0 0 (MQ below (uQi G r uf) args s 0 0 (uA G)) (F0 m 0 ls []) := by
  obtain ⟨⟨hx, hb, hml, hown, hts⟩, hKK⟩ := id hC
  unfold f_X9_value at h
  refine lv_iconst (v := 0) hx hb dX9_value_0 (by decide) ?_
  refine lv_istore_n (lv' := [(2, .int 0), (0, va_rf (some a0)), (1, .int x1)]) hx hb dX9_value_1 rfl hl (by decide) rfl (fun ls hl => ?_)
  exact w_X9_value_2 hC hR N N u x1 0 h _ _ hP hS _ (lv_sub hl [1, 2, 0] rfl)
theorem zz_X9_value (N b : Nat) (g : uEnv) (u : UH) (a0 : Nat) (x1 : Int32) (r : Int32) (uf : UH) (h : f_X9_value N b g u a0 x1 = some (r, uf)) : uf.1 = u.1 ∧ uf.2.1 = u.2.1 :=
  zz_X9_value_0 (G := ((fun _ => 0, fun _ _ => 0), fun _ => 0, b, g)) (a0 := a0) N u x1 h
theorem met_X9_value (l : Launch) (N : Nat) (G : uG) (u : UH) (a0 : Nat) (x1 : Int32) (r : Int32) (uf : UH) (h : f_X9_value N (ub G) (ug G) u a0 x1 = some (r, uf)) : Met l yX9_value (ws_ yX9_value cX9_value 3 (some .int)) ({ frames := 1, cells := 0, slots := 0, locals := 22 }) (uPc G u [.ref a0, .int x1]) (uQi G r uf) 0 0 (uA G) := by
  exact u_met (own := RX9) (by decide +kernel) rfl (Nat.le_of_ble_eq_true rfl) (fun hC hn hsz ls hl hP => w_X9_value_0 hC ⟨Nat.le_refl _, Nat.le_refl _⟩ N u x1 h hP va_S.rf hl)
def f_X14_why_159 (N b : Nat) (g : uEnv) (a0 : Nat) : Nat → UH → Int32 → Option Nat → Int32 → Int32 → Int32 → Option (Int32 × UH)
  | 0, _, _, _, _, _, _ => none
  | n + 1, u, x4, x7, x8, x10, x11 =>
    if 90 < x11 then
    some (4, u)
    else
    (uGR u a0 12 0).bind fun o2 =>
    (o2).bind fun a3 =>
    (uGI u a3 3 3).bind fun y4 =>
    (x7).bind fun a5 =>
    (uGR u a5 5 2).bind fun o6 =>
    (o6).bind fun a7 =>
    if uIs u a7 7 = true then
    ucall (f_X9_value N b g u a7 x11) fun r11 u9 =>
    if x10 ≤ ((x8 * (y4 - x4)) * r11) then
    (uPut b u9 a0 12 8 (.int x10)).bind fun u13 =>
    (uPut b u13 a0 12 9 (.int x11)).bind fun u14 =>
    if ¬ (100 - x11) = 0 then
    (uPut b u14 a0 12 10 (.int (((1000 + x10) / (100 - x11)) + 1))).bind fun u16 =>
    some (0, u16)
    else none
    else
    mlet (x11 + 1) fun y17 =>
    f_X14_why_159 N b g a0 n u9 x4 (some a5) x8 x10 y17
    else none
set_option maxHeartbeats 4000000 in
set_option maxRecDepth 100000 in
theorem zz_X14_why_159 {G : uG} {a0 : Nat} {uf : UH} {r : Int32} (N : Nat) : ∀ (n : Nat) (u : UH) (x4 : Int32) (x7 : Option Nat) (x8 : Int32) (x10 : Int32) (x11 : Int32), f_X14_why_159 N (ub G) (ug G) a0 n u x4 x7 x8 x10 x11 = some (r, uf) → uf.1 = u.1 ∧ uf.2.1 = u.2.1 := by
  intro n
  induction n with
  | zero =>
    intro u x4 x7 x8 x10 x11 h
    cases h
  | succ n ih =>
    intro u x4 x7 x8 x10 x11 h
    unfold f_X14_why_159 at h
    by_cases c1 : 90 < x11
    · have h := mif_t c1 h
      obtain ⟨hr1, hr2⟩ := uret_n h
      subst hr2
      exact ⟨by omega, by omega⟩
    · have h := mif_f c1 h
      obtain ⟨o2, ho2, h⟩ := mbind_n h
      obtain ⟨a3, ha3, hha3⟩ := mbind_n h
      subst ha3
      have h := hha3
      obtain ⟨y4, hy4, h⟩ := mbind_n h
      obtain ⟨a5, ha5, hha5⟩ := mbind_n h
      subst ha5
      have h := hha5
      obtain ⟨o6, ho6, h⟩ := mbind_n h
      obtain ⟨a7, ha7, hha7⟩ := mbind_n h
      subst ha7
      have h := hha7
      obtain ⟨c8, h⟩ := mif_n h
      obtain ⟨r11, u9, c10, h⟩ := ucall_n h
      have zu9 := zz_X9_value N (ub G) (ug G) u a7 x11 r11 u9 c10
      by_cases c12 : x10 ≤ ((x8 * (y4 - x4)) * r11)
      · have h := mif_t c12 h
        obtain ⟨u13, hu13, h⟩ := mbind_n h
        have zu13 := uPut_sz hu13
        obtain ⟨u14, hu14, h⟩ := mbind_n h
        have zu14 := uPut_sz hu14
        obtain ⟨c15, h⟩ := mif_n h
        obtain ⟨u16, hu16, h⟩ := mbind_n h
        have zu16 := uPut_sz hu16
        obtain ⟨hr1, hr2⟩ := uret_n h
        subst hr2
        exact ⟨by omega, by omega⟩
      · have h := mif_f c12 h
        obtain ⟨y17, ey17⟩ : ∃ z : Int32, z = x11 + 1 := ⟨_, rfl⟩
        have h := mlet_at ey17 h
        have hq := ih u9 x4 (some a5) x8 x10 y17 h
        exact ⟨by omega, by omega⟩
set_option maxHeartbeats 4000000 in
set_option maxRecDepth 100000 in
theorem w_X14_why_159 {p : Program} {l : Launch} {e : Env} {R : Room} {s : State} {m : MethodId} {args : Array Value} {below : List Frame} {meth : Method} {c : Code} {G : uG} {a0 : Nat} {uf : UH} {r : Int32} (hC : uC p s m args meth c G RX14 cX14_why 12 (some .int)) (hR : 3 ≤ R.frames ∧ 64 ≤ R.locals) (N : Nat) : ∀ (n : Nat) (u : UH) (x4 : Int32) (x7 : Option Nat) (x8 : Int32) (x10 : Int32) (x11 : Int32), f_X14_why_159 N (ub G) (ug G) a0 n u x4 x7 x8 x10 x11 = some (r, uf) → ∀ (H : Heap) (locs : List Loc), uP G u H → va_S (uA G) s.heap H locs → ∀ ls : Array Slot, lv_has ls 12 [(0, va_rf (some a0)), (4, .int x4), (7, va_rf x7), (8, .int x8), (10, .int x10), (11, .int x11)] → W p l e R s m args below meth c H locs 0 0 (MQ below (uQi G r uf) args s 0 0 (uA G)) (F0 m 159 ls []) := by
  obtain ⟨⟨hx, hb, hml, hown, hts⟩, hKK⟩ := id hC
  intro n
  induction n with
  | zero =>
    intro u x4 x7 x8 x10 x11 h
    cases h
  | succ n ih =>
    intro u x4 x7 x8 x10 x11 h H locs hP hS ls hl
    unfold f_X14_why_159 at h
    refine lv_iload hx hb dX14_why_159 (lv_at hl 5 rfl) ?_
    refine lv_bipush (v := 90) hx hb dX14_why_161 (by decide) ?_
    refine lv_icmp_gt (tgt := 236) hx hb dX14_why_163 (by decide) (fun c1 => ?_) (fun c1 => ?_)
    · have h := mif_t c1 h
      refine lv_iconst (v := 4) hx hb dX14_why_236 (by decide) ?_
      obtain ⟨hr1, hr2⟩ := uret_n h
      subst hr1
      subst hr2
      exact u_iret hC hP hS dX14_why_237
    · have h := mif_f c1 h
      refine lv_iload hx hb dX14_why_166 (lv_at hl 3 rfl) ?_
      refine u_aload_n (r := some a0) hx hb dX14_why_168 rfl (lv_at hl 0 rfl) ?_
      obtain ⟨o2, ho2, h⟩ := mbind_n h
      refine u_get hC hP (uGR_n ho2) rfl in_X14 (by decide) q1134 (fun _ h => h) dX14_why_169 ?_
      obtain ⟨a3, ha3, hha3⟩ := mbind_n h
      subst ha3
      have h := hha3
      obtain ⟨y4, hy4, h⟩ := mbind_n h
      refine u_getN hC hP (uGI_n hy4) rfl in_X4 (by decide) q298 (fun _ h => h) dX14_why_172 ?_
      refine lv_iload hx hb dX14_why_175 (lv_at hl 1 rfl) ?_
      refine lv_isub hx hb dX14_why_177 ?_
      refine lv_imul hx hb dX14_why_178 ?_
      refine u_aload (r := x7) hx hb dX14_why_179 (lv_at hl 2 rfl) ?_
      obtain ⟨a5, ha5, hha5⟩ := mbind_n h
      subst ha5
      have h := hha5
      obtain ⟨o6, ho6, h⟩ := mbind_n h
      refine u_getN hC hP (uGR_n ho6) rfl in_X6 (by decide) q880 (fun _ h => h) dX14_why_181 ?_
      refine lv_iload hx hb dX14_why_184 (lv_at hl 5 rfl) ?_
      obtain ⟨a7, ha7, hha7⟩ := mbind_n h
      subst ha7
      have h := hha7
      obtain ⟨c8, h⟩ := mif_n h
      obtain ⟨r11, u9, c10, h⟩ := ucall_n h
      have zu9 := zz_X9_value N (ub G) (ug G) u a7 x11 r11 u9 c10
      refine u_calli (va_runV (As := [.int x11]) (rest := [.int (x8 * (y4 - x4))]) hC.1 (met_X9_value l N G u a7 x11 r11 u9 c10) (cwV 1 hts (lw_V q1278 q1087 q1088 q124 q1089) rfl rfl rfl (by decide +kernel) ⟨Nat.le_trans (Nat.le_of_ble_eq_true rfl) hR.1, Nat.le_trans (Nat.le_of_ble_eq_true rfl) hR.2⟩) ⟨uPc_blind, u_rcv hC hP c8 rfl, fun U hU hW => u_pre hC hP hS hU hW⟩ rfl rfl hl.1 rfl (lv_room (Nat.le_of_ble_eq_true rfl)) dX14_why_186 ⟨Nat.zero_le _, Nat.zero_le _⟩) hS (fun H locs hP hS => ?_)
      refine lv_imul hx hb dX14_why_189 ?_
      refine lv_iload hx hb dX14_why_190 (lv_at hl 4 rfl) ?_
      refine lv_icmp_ge (tgt := 198) hx hb dX14_why_192 (by decide) (fun c12 => ?_) (fun c12 => ?_)
      · have h := mif_t c12 h
        refine u_aload_n (r := some a0) hx hb dX14_why_198 rfl (lv_at hl 0 rfl) ?_
        refine lv_iload hx hb dX14_why_199 (lv_at hl 4 rfl) ?_
        obtain ⟨u13, hu13, h⟩ := mbind_n h
        have zu13 := uPut_sz hu13
        refine u_put hC hP hS hu13 rfl in_X14 tyX14 tyX14_ok nmX14 (by decide) q1155 (fun _ h => h) rfl (ty := .int) (tyX14_ok 8 (by decide)) rfl rfl dX14_why_201 (fun H locs hP hS => ?_)
        refine u_aload_n (r := some a0) hx hb dX14_why_204 rfl (lv_at hl 0 rfl) ?_
        refine lv_iload hx hb dX14_why_205 (lv_at hl 5 rfl) ?_
        obtain ⟨u14, hu14, h⟩ := mbind_n h
        have zu14 := uPut_sz hu14
        refine u_put hC hP hS hu14 rfl in_X14 tyX14 tyX14_ok nmX14 (by decide) q1157 (fun _ h => h) rfl (ty := .int) (tyX14_ok 9 (by decide)) rfl rfl dX14_why_207 (fun H locs hP hS => ?_)
        refine u_aload_n (r := some a0) hx hb dX14_why_210 rfl (lv_at hl 0 rfl) ?_
        refine lv_sipush (v := 1000) hx hb dX14_why_211 (by decide) ?_
        refine lv_iload hx hb dX14_why_214 (lv_at hl 4 rfl) ?_
        refine lv_iadd hx hb dX14_why_216 ?_
        refine lv_bipush (v := 100) hx hb dX14_why_217 (by decide) ?_
        refine lv_iload hx hb dX14_why_219 (lv_at hl 5 rfl) ?_
        refine lv_isub hx hb dX14_why_221 ?_
        obtain ⟨c15, h⟩ := mif_n h
        refine lv_idiv hx hb dX14_why_222 c15 ?_
        refine lv_iconst (v := 1) hx hb dX14_why_223 (by decide) ?_
        refine lv_iadd hx hb dX14_why_224 ?_
        obtain ⟨u16, hu16, h⟩ := mbind_n h
        have zu16 := uPut_sz hu16
        refine u_put hC hP hS hu16 rfl in_X14 tyX14 tyX14_ok nmX14 (by decide) q1161 (fun _ h => h) rfl (ty := .int) (tyX14_ok 10 (by decide)) rfl rfl dX14_why_225 (fun H locs hP hS => ?_)
        refine lv_iconst (v := 0) hx hb dX14_why_228 (by decide) ?_
        obtain ⟨hr1, hr2⟩ := uret_n h
        subst hr1
        subst hr2
        exact u_iret hC hP hS dX14_why_229
      · have h := mif_f c12 h
        refine lv_goto (tgt := 230) hx hb dX14_why_195 (by decide) ?_
        obtain ⟨y17, ey17⟩ : ∃ z : Int32, z = x11 + 1 := ⟨_, rfl⟩
        have h := mlet_at ey17 h
        refine lv_iinc (v := y17) (lv' := [(11, .int y17), (0, va_rf (some a0)), (4, .int x4), (7, va_rf (some a5)), (8, .int x8), (10, .int x10)]) hx hb dX14_why_230 hl (k := 5) rfl (by rw [ey17]; rfl) (by decide) rfl (fun ls hl => ?_)
        refine lv_goto (tgt := 159) hx hb dX14_why_233 (by decide) ?_
        exact ih u9 x4 (some a5) x8 x10 y17 h _ _ hP hS _ (lv_sub hl [1, 2, 3, 4, 5, 0] rfl)
def f_X14_why (N b : Nat) (g : uEnv) (u : UH) (a0 : Nat) (x1 : Int32) (x2 : Option Nat) (x3 : Int32) (x4 : Int32) : Option (Int32 × UH) :=
    (uPut b u a0 12 8 (.int (-2))).bind fun u1 =>
    (uPut b u1 a0 12 9 (.int (-2))).bind fun u2 =>
    (uPut b u2 a0 12 10 (.int (-2))).bind fun u3 =>
    if uIs u3 a0 12 = true then
    ucall (f_X14_beside N b g u3 a0 x1 x2) fun r7 u5 =>
    if r7 = (-1) then
    some (1, u5)
    else
    (uGR u5 a0 12 3).bind fun o9 =>
    (o9).bind fun a10 =>
    (uLdI u5 a10 0 r7).bind fun y11 =>
    (uGR u5 a0 12 3).bind fun o12 =>
    (o12).bind fun a13 =>
    (uLdI u5 a13 0 x1).bind fun y14 =>
    mlet (y11 - y14) fun y15 =>
    ucall (f_J9_abs N b g u5 y15) fun r18 u16 =>
    (uGR u16 a0 12 0).bind fun o19 =>
    (o19).bind fun a20 =>
    (uGI u16 a20 3 6).bind fun y21 =>
    if r18 ≤ y21 then
    (uGR u16 a0 12 0).bind fun o23 =>
    (o23).bind fun a24 =>
    (uGR u16 a24 3 0).bind fun o25 =>
    (o25).bind fun a26 =>
    if uIs u16 a26 18 = true then
    ucall (f_J2_get N b g u16 a26 x3) fun o30 u28 =>
    (o30).bind fun a31 =>
    if uIs u28 a31 5 = true then
    (uGR u28 a0 12 0).bind fun o33 =>
    (o33).bind fun a34 =>
    if uIs u28 a34 3 = true then
    ucall (f_X4_load N b g u28 a34) fun r38 u36 =>
    (uGR u36 a31 5 1).bind fun o39 =>
    (o39).bind fun a40 =>
    if uIs u36 a40 7 = true then
    ucall (f_X9_value N b g u36 a40 r38) fun r44 u42 =>
    (uGR u42 a0 12 0).bind fun o45 =>
    (o45).bind fun a46 =>
    (uGI u42 a46 3 5).bind fun y47 =>
    if r44 ≤ y47 then
    (uGR u42 a0 12 0).bind fun o49 =>
    (o49).bind fun a50 =>
    (uGI u42 a50 3 4).bind fun y51 =>
    ucall (f_J9_floorDiv N b g u42 (y51 * (y15 + r44)) 10) fun r54 u52 =>
    (uGR u52 a0 12 0).bind fun o55 =>
    (o55).bind fun a56 =>
    (uGI u52 a56 3 7).bind fun y57 =>
    ucall (f_J9_max N b g u52 0 (r54 + ((x4 * r38) * y57))) fun r60 u58 =>
    f_X14_why_159 N b g a0 N u58 x4 (some a31) r38 r60 0
    else
    some (3, u42)
    else none
    else none
    else none
    else none
    else
    some (2, u16)
    else none
set_option maxHeartbeats 4000000 in
set_option maxRecDepth 100000 in
theorem zz_X14_why_0 {G : uG} {a0 : Nat} {uf : UH} {r : Int32} (N : Nat) (u : UH) (x1 : Int32) (x2 : Option Nat) (x3 : Int32) (x4 : Int32) (h : f_X14_why N (ub G) (ug G) u a0 x1 x2 x3 x4 = some (r, uf)) : uf.1 = u.1 ∧ uf.2.1 = u.2.1 := by
  unfold f_X14_why at h
  obtain ⟨u1, hu1, h⟩ := mbind_n h
  have zu1 := uPut_sz hu1
  obtain ⟨u2, hu2, h⟩ := mbind_n h
  have zu2 := uPut_sz hu2
  obtain ⟨u3, hu3, h⟩ := mbind_n h
  have zu3 := uPut_sz hu3
  obtain ⟨c4, h⟩ := mif_n h
  obtain ⟨r7, u5, c6, h⟩ := ucall_n h
  have zu5 := zz_X14_beside N (ub G) (ug G) u3 a0 x1 x2 r7 u5 c6
  by_cases c8 : r7 = (-1)
  · have h := mif_t c8 h
    obtain ⟨hr1, hr2⟩ := uret_n h
    subst hr2
    exact ⟨by omega, by omega⟩
  · have h := mif_f c8 h
    obtain ⟨o9, ho9, h⟩ := mbind_n h
    obtain ⟨a10, ha10, hha10⟩ := mbind_n h
    subst ha10
    have h := hha10
    obtain ⟨y11, hy11, h⟩ := mbind_n h
    obtain ⟨o12, ho12, h⟩ := mbind_n h
    obtain ⟨a13, ha13, hha13⟩ := mbind_n h
    subst ha13
    have h := hha13
    obtain ⟨y14, hy14, h⟩ := mbind_n h
    obtain ⟨y15, ey15⟩ : ∃ z, z = y11 - y14 := ⟨_, rfl⟩
    have h := mlet_at ey15 h
    obtain ⟨r18, u16, c17, h⟩ := ucall_n h
    have zu16 := zz_J9_abs N (ub G) (ug G) u5 y15 r18 u16 c17
    obtain ⟨o19, ho19, h⟩ := mbind_n h
    obtain ⟨a20, ha20, hha20⟩ := mbind_n h
    subst ha20
    have h := hha20
    obtain ⟨y21, hy21, h⟩ := mbind_n h
    by_cases c22 : r18 ≤ y21
    · have h := mif_t c22 h
      obtain ⟨o23, ho23, h⟩ := mbind_n h
      obtain ⟨a24, ha24, hha24⟩ := mbind_n h
      subst ha24
      have h := hha24
      obtain ⟨o25, ho25, h⟩ := mbind_n h
      obtain ⟨a26, ha26, hha26⟩ := mbind_n h
      subst ha26
      have h := hha26
      obtain ⟨c27, h⟩ := mif_n h
      obtain ⟨o30, u28, c29, h⟩ := ucall_n h
      have zu28 := zz_J2_get N (ub G) (ug G) u16 a26 x3 o30 u28 c29
      obtain ⟨a31, ha31, hha31⟩ := mbind_n h
      subst ha31
      have h := hha31
      obtain ⟨c32, h⟩ := mif_n h
      obtain ⟨o33, ho33, h⟩ := mbind_n h
      obtain ⟨a34, ha34, hha34⟩ := mbind_n h
      subst ha34
      have h := hha34
      obtain ⟨c35, h⟩ := mif_n h
      obtain ⟨r38, u36, c37, h⟩ := ucall_n h
      have zu36 := zz_X4_load N (ub G) (ug G) u28 a34 r38 u36 c37
      obtain ⟨o39, ho39, h⟩ := mbind_n h
      obtain ⟨a40, ha40, hha40⟩ := mbind_n h
      subst ha40
      have h := hha40
      obtain ⟨c41, h⟩ := mif_n h
      obtain ⟨r44, u42, c43, h⟩ := ucall_n h
      have zu42 := zz_X9_value N (ub G) (ug G) u36 a40 r38 r44 u42 c43
      obtain ⟨o45, ho45, h⟩ := mbind_n h
      obtain ⟨a46, ha46, hha46⟩ := mbind_n h
      subst ha46
      have h := hha46
      obtain ⟨y47, hy47, h⟩ := mbind_n h
      by_cases c48 : r44 ≤ y47
      · have h := mif_t c48 h
        obtain ⟨o49, ho49, h⟩ := mbind_n h
        obtain ⟨a50, ha50, hha50⟩ := mbind_n h
        subst ha50
        have h := hha50
        obtain ⟨y51, hy51, h⟩ := mbind_n h
        obtain ⟨r54, u52, c53, h⟩ := ucall_n h
        have zu52 := zz_J9_floorDiv N (ub G) (ug G) u42 (y51 * (y15 + r44)) 10 r54 u52 c53
        obtain ⟨o55, ho55, h⟩ := mbind_n h
        obtain ⟨a56, ha56, hha56⟩ := mbind_n h
        subst ha56
        have h := hha56
        obtain ⟨y57, hy57, h⟩ := mbind_n h
        obtain ⟨r60, u58, c59, h⟩ := ucall_n h
        have zu58 := zz_J9_max N (ub G) (ug G) u52 0 (r54 + ((x4 * r38) * y57)) r60 u58 c59
        have hq := zz_X14_why_159 (G := G) (a0 := a0) N N u58 x4 (some a31) r38 r60 0 h
        exact ⟨by omega, by omega⟩
      · have h := mif_f c48 h
        obtain ⟨hr1, hr2⟩ := uret_n h
        subst hr2
        exact ⟨by omega, by omega⟩
    · have h := mif_f c22 h
      obtain ⟨hr1, hr2⟩ := uret_n h
      subst hr2
      exact ⟨by omega, by omega⟩
set_option maxHeartbeats 4000000 in
set_option maxRecDepth 100000 in
theorem w_X14_why_0 {p : Program} {l : Launch} {e : Env} {R : Room} {s : State} {m : MethodId} {args : Array Value} {below : List Frame} {meth : Method} {c : Code} {G : uG} {a0 : Nat} {uf : UH} {r : Int32} (hC : uC p s m args meth c G RX14 cX14_why 12 (some .int)) (hR : 3 ≤ R.frames ∧ 64 ≤ R.locals) (N : Nat) (u : UH) (x1 : Int32) (x2 : Option Nat) (x3 : Int32) (x4 : Int32) (h : f_X14_why N (ub G) (ug G) u a0 x1 x2 x3 x4 = some (r, uf)) {H : Heap} {locs : List Loc} (hP : uP G u H) (hS : va_S (uA G) s.heap H locs) {ls : Array Slot} (hl : lv_has ls 12 [(0, va_rf (some a0)), (1, .int x1), (2, va_rf x2), (3, .int x3), (4, .int x4)]) : W p l e R s m args below meth c H locs 0 0 (MQ below (uQi G r uf) args s 0 0 (uA G)) (F0 m 0 ls []) := by
  obtain ⟨⟨hx, hb, hml, hown, hts⟩, hKK⟩ := id hC
  unfold f_X14_why at h
  refine u_aload_n (r := some a0) hx hb dX14_why_0 rfl (lv_at hl 0 rfl) ?_
  refine lv_bipush (v := (-2)) hx hb dX14_why_1 (by decide) ?_
  obtain ⟨u1, hu1, h⟩ := mbind_n h
  have zu1 := uPut_sz hu1
  refine u_put hC hP hS hu1 rfl in_X14 tyX14 tyX14_ok nmX14 (by decide) q1155 (fun _ h => h) rfl (ty := .int) (tyX14_ok 8 (by decide)) rfl rfl dX14_why_3 (fun H locs hP hS => ?_)
  refine u_aload_n (r := some a0) hx hb dX14_why_6 rfl (lv_at hl 0 rfl) ?_
  refine lv_bipush (v := (-2)) hx hb dX14_why_7 (by decide) ?_
  obtain ⟨u2, hu2, h⟩ := mbind_n h
  have zu2 := uPut_sz hu2
  refine u_put hC hP hS hu2 rfl in_X14 tyX14 tyX14_ok nmX14 (by decide) q1157 (fun _ h => h) rfl (ty := .int) (tyX14_ok 9 (by decide)) rfl rfl dX14_why_9 (fun H locs hP hS => ?_)
  refine u_aload_n (r := some a0) hx hb dX14_why_12 rfl (lv_at hl 0 rfl) ?_
  refine lv_bipush (v := (-2)) hx hb dX14_why_13 (by decide) ?_
  obtain ⟨u3, hu3, h⟩ := mbind_n h
  have zu3 := uPut_sz hu3
  refine u_put hC hP hS hu3 rfl in_X14 tyX14 tyX14_ok nmX14 (by decide) q1161 (fun _ h => h) rfl (ty := .int) (tyX14_ok 10 (by decide)) rfl rfl dX14_why_15 (fun H locs hP hS => ?_)
  refine u_aload_n (r := some a0) hx hb dX14_why_18 rfl (lv_at hl 0 rfl) ?_
  refine lv_iload_n hx hb dX14_why_19 rfl (lv_at hl 1 rfl) ?_
  refine u_aload_n (r := x2) hx hb dX14_why_20 rfl (lv_at hl 2 rfl) ?_
  obtain ⟨c4, h⟩ := mif_n h
  obtain ⟨r7, u5, c6, h⟩ := ucall_n h
  have zu5 := zz_X14_beside N (ub G) (ug G) u3 a0 x1 x2 r7 u5 c6
  refine u_calli (va_runV (As := [.int x1, va_rf x2]) (rest := []) hC.1 (met_X14_beside l N G u3 a0 x1 x2 r7 u5 c6) (cwV 2 hts (lw_V q1264 q1265 q1266 q131 q1267) rfl rfl rfl (by decide +kernel) ⟨Nat.le_trans (Nat.le_of_ble_eq_true rfl) hR.1, Nat.le_trans (Nat.le_of_ble_eq_true rfl) hR.2⟩) ⟨uPc_blind, u_rcv hC hP c4 rfl, fun U hU hW => u_pre hC hP hS hU hW⟩ rfl rfl hl.1 rfl (lv_room (Nat.le_of_ble_eq_true rfl)) dX14_why_21 ⟨Nat.zero_le _, Nat.zero_le _⟩) hS (fun H locs hP hS => ?_)
  refine lv_istore (lv' := [(5, .int r7), (0, va_rf (some a0)), (1, .int x1), (2, va_rf x2), (3, .int x3), (4, .int x4)]) hx hb dX14_why_24 hl (by decide) rfl (fun ls hl => ?_)
  refine lv_iload hx hb dX14_why_26 (lv_at hl 0 rfl) ?_
  refine lv_iconst (v := (-1)) hx hb dX14_why_28 (by decide) ?_
  refine lv_icmp_ne (tgt := 34) hx hb dX14_why_29 (by decide) (fun c8 => ?_) (fun c8 => ?_)
  · have h := mif_f c8 h
    refine u_aload_n (r := some a0) hx hb dX14_why_34 rfl (lv_at hl 1 rfl) ?_
    obtain ⟨o9, ho9, h⟩ := mbind_n h
    refine u_get hC hP (uGR_n ho9) rfl in_X14 (by decide) q1138 (fun _ h => h) dX14_why_35 ?_
    refine lv_iload hx hb dX14_why_38 (lv_at hl 0 rfl) ?_
    obtain ⟨a10, ha10, hha10⟩ := mbind_n h
    subst ha10
    have h := hha10
    obtain ⟨y11, hy11, h⟩ := mbind_n h
    refine u_iald hC hP hy11 rfl dX14_why_40 ?_
    refine u_aload_n (r := some a0) hx hb dX14_why_41 rfl (lv_at hl 1 rfl) ?_
    obtain ⟨o12, ho12, h⟩ := mbind_n h
    refine u_get hC hP (uGR_n ho12) rfl in_X14 (by decide) q1138 (fun _ h => h) dX14_why_42 ?_
    refine lv_iload_n hx hb dX14_why_45 rfl (lv_at hl 2 rfl) ?_
    obtain ⟨a13, ha13, hha13⟩ := mbind_n h
    subst ha13
    have h := hha13
    obtain ⟨y14, hy14, h⟩ := mbind_n h
    refine u_iald hC hP hy14 rfl dX14_why_46 ?_
    refine lv_isub hx hb dX14_why_47 ?_
    refine lv_topi (fun y15 ey15 => ?_)
    have h := mlet_at ey15 h
    refine lv_istore (lv' := [(6, .int y15), (5, .int r7), (0, va_rf (some a0)), (1, .int x1), (2, va_rf x2), (3, .int x3), (4, .int x4)]) hx hb dX14_why_48 hl (by decide) rfl (fun ls hl => ?_)
    refine lv_iload hx hb dX14_why_50 (lv_at hl 0 rfl) ?_
    obtain ⟨r18, u16, c17, h⟩ := ucall_n h
    have zu16 := zz_J9_abs N (ub G) (ug G) u5 y15 r18 u16 c17
    refine u_calli (va_runS (As := [.int y15]) (rest := []) hC.1 (met_J9_abs l N G u5 y15 r18 u16 c17) (va_cwS 1 hts (lw_S q1269 q1270 q113 q1271) rfl rfl rfl (by decide +kernel) ⟨Nat.le_trans (Nat.le_of_ble_eq_true rfl) hR.1, Nat.le_trans (Nat.le_of_ble_eq_true rfl) hR.2⟩) ⟨uPc_blind, fun U hU hW => u_pre hC hP hS hU hW⟩ rfl rfl hl.1 rfl (lv_room (Nat.le_of_ble_eq_true rfl)) dX14_why_52 ⟨Nat.zero_le _, Nat.zero_le _⟩) hS (fun H locs hP hS => ?_)
    refine u_aload_n (r := some a0) hx hb dX14_why_55 rfl (lv_at hl 2 rfl) ?_
    obtain ⟨o19, ho19, h⟩ := mbind_n h
    refine u_get hC hP (uGR_n ho19) rfl in_X14 (by decide) q1134 (fun _ h => h) dX14_why_56 ?_
    obtain ⟨a20, ha20, hha20⟩ := mbind_n h
    subst ha20
    have h := hha20
    obtain ⟨y21, hy21, h⟩ := mbind_n h
    refine u_getN hC hP (uGI_n hy21) rfl in_X4 (by decide) q307 (fun _ h => h) dX14_why_59 ?_
    refine lv_icmp_le (tgt := 67) hx hb dX14_why_62 (by decide) (fun c22 => ?_) (fun c22 => ?_)
    · have h := mif_t c22 h
      refine u_aload_n (r := some a0) hx hb dX14_why_67 rfl (lv_at hl 2 rfl) ?_
      obtain ⟨o23, ho23, h⟩ := mbind_n h
      refine u_get hC hP (uGR_n ho23) rfl in_X14 (by decide) q1134 (fun _ h => h) dX14_why_68 ?_
      obtain ⟨a24, ha24, hha24⟩ := mbind_n h
      subst ha24
      have h := hha24
      obtain ⟨o25, ho25, h⟩ := mbind_n h
      refine u_getN hC hP (uGR_n ho25) rfl in_X4 (by decide) q290 (fun _ h => h) dX14_why_71 ?_
      refine lv_iload_n hx hb dX14_why_74 rfl (lv_at hl 5 rfl) ?_
      obtain ⟨a26, ha26, hha26⟩ := mbind_n h
      subst ha26
      have h := hha26
      obtain ⟨c27, h⟩ := mif_n h
      obtain ⟨o30, u28, c29, h⟩ := ucall_n h
      have zu28 := zz_J2_get N (ub G) (ug G) u16 a26 x3 o30 u28 c29
      refine u_callr (va_runV (As := [.int x3]) (rest := []) hC.1 (met_J2_get l N G u16 a26 x3 o30 u28 c29) (cwV 1 hts (lw_V q1272 q898 q899 q102 q900) rfl rfl rfl (by decide +kernel) ⟨Nat.le_trans (Nat.le_of_ble_eq_true rfl) hR.1, Nat.le_trans (Nat.le_of_ble_eq_true rfl) hR.2⟩) ⟨uPc_blind, u_rcv hC hP c27 rfl, fun U hU hW => u_pre hC hP hS hU hW⟩ rfl rfl hl.1 rfl (lv_room (Nat.le_of_ble_eq_true rfl)) dX14_why_75 ⟨Nat.zero_le _, Nat.zero_le _⟩) hS (fun H locs hP hS => ?_)
      obtain ⟨a31, ha31, hha31⟩ := mbind_n h
      subst ha31
      have h := hha31
      obtain ⟨c32, h⟩ := mif_n h
      refine u_castS hC hP c32 rfl q1273 dX14_why_78 ?_
      refine u_astore (r := some a31) (lv' := [(7, va_rf (some a31)), (6, .int y15), (5, .int r7), (0, va_rf (some a0)), (1, .int x1), (2, va_rf x2), (3, .int x3), (4, .int x4)]) hx hb dX14_why_81 hl (by decide) rfl (fun ls hl => ?_)
      refine u_aload_n (r := some a0) hx hb dX14_why_83 rfl (lv_at hl 3 rfl) ?_
      obtain ⟨o33, ho33, h⟩ := mbind_n h
      refine u_get hC hP (uGR_n ho33) rfl in_X14 (by decide) q1134 (fun _ h => h) dX14_why_84 ?_
      obtain ⟨a34, ha34, hha34⟩ := mbind_n h
      subst ha34
      have h := hha34
      obtain ⟨c35, h⟩ := mif_n h
      obtain ⟨r38, u36, c37, h⟩ := ucall_n h
      have zu36 := zz_X4_load N (ub G) (ug G) u28 a34 r38 u36 c37
      refine u_calli (va_runV (As := []) (rest := []) hC.1 (met_X4_load l N G u28 a34 r38 u36 c37) (cwV 0 hts (lw_V q1274 q1275 q1276 q104 q1277) rfl rfl rfl (by decide +kernel) ⟨Nat.le_trans (Nat.le_of_ble_eq_true rfl) hR.1, Nat.le_trans (Nat.le_of_ble_eq_true rfl) hR.2⟩) ⟨uPc_blind, u_rcv hC hP c35 rfl, fun U hU hW => u_pre hC hP hS hU hW⟩ rfl rfl hl.1 rfl (lv_room (Nat.le_of_ble_eq_true rfl)) dX14_why_87 ⟨Nat.zero_le _, Nat.zero_le _⟩) hS (fun H locs hP hS => ?_)
      refine lv_istore (lv' := [(8, .int r38), (7, va_rf (some a31)), (6, .int y15), (5, .int r7), (0, va_rf (some a0)), (1, .int x1), (2, va_rf x2), (3, .int x3), (4, .int x4)]) hx hb dX14_why_90 hl (by decide) rfl (fun ls hl => ?_)
      refine u_aload (r := some a31) hx hb dX14_why_92 (lv_at hl 1 rfl) ?_
      obtain ⟨o39, ho39, h⟩ := mbind_n h
      refine u_getN hC hP (uGR_n ho39) rfl in_X6 (by decide) q876 (fun _ h => h) dX14_why_94 ?_
      refine lv_iload hx hb dX14_why_97 (lv_at hl 0 rfl) ?_
      obtain ⟨a40, ha40, hha40⟩ := mbind_n h
      subst ha40
      have h := hha40
      obtain ⟨c41, h⟩ := mif_n h
      obtain ⟨r44, u42, c43, h⟩ := ucall_n h
      have zu42 := zz_X9_value N (ub G) (ug G) u36 a40 r38 r44 u42 c43
      refine u_calli (va_runV (As := [.int r38]) (rest := []) hC.1 (met_X9_value l N G u36 a40 r38 r44 u42 c43) (cwV 1 hts (lw_V q1278 q1087 q1088 q124 q1089) rfl rfl rfl (by decide +kernel) ⟨Nat.le_trans (Nat.le_of_ble_eq_true rfl) hR.1, Nat.le_trans (Nat.le_of_ble_eq_true rfl) hR.2⟩) ⟨uPc_blind, u_rcv hC hP c41 rfl, fun U hU hW => u_pre hC hP hS hU hW⟩ rfl rfl hl.1 rfl (lv_room (Nat.le_of_ble_eq_true rfl)) dX14_why_99 ⟨Nat.zero_le _, Nat.zero_le _⟩) hS (fun H locs hP hS => ?_)
      refine lv_istore (lv' := [(9, .int r44), (8, .int r38), (7, va_rf (some a31)), (6, .int y15), (5, .int r7), (0, va_rf (some a0)), (1, .int x1), (2, va_rf x2), (3, .int x3), (4, .int x4)]) hx hb dX14_why_102 hl (by decide) rfl (fun ls hl => ?_)
      refine lv_iload hx hb dX14_why_104 (lv_at hl 0 rfl) ?_
      refine u_aload_n (r := some a0) hx hb dX14_why_106 rfl (lv_at hl 5 rfl) ?_
      obtain ⟨o45, ho45, h⟩ := mbind_n h
      refine u_get hC hP (uGR_n ho45) rfl in_X14 (by decide) q1134 (fun _ h => h) dX14_why_107 ?_
      obtain ⟨a46, ha46, hha46⟩ := mbind_n h
      subst ha46
      have h := hha46
      obtain ⟨y47, hy47, h⟩ := mbind_n h
      refine u_getN hC hP (uGI_n hy47) rfl in_X4 (by decide) q304 (fun _ h => h) dX14_why_110 ?_
      refine lv_icmp_le (tgt := 118) hx hb dX14_why_113 (by decide) (fun c48 => ?_) (fun c48 => ?_)
      · have h := mif_t c48 h
        refine lv_iconst (v := 0) hx hb dX14_why_118 (by decide) ?_
        refine u_aload_n (r := some a0) hx hb dX14_why_119 rfl (lv_at hl 5 rfl) ?_
        obtain ⟨o49, ho49, h⟩ := mbind_n h
        refine u_get hC hP (uGR_n ho49) rfl in_X14 (by decide) q1134 (fun _ h => h) dX14_why_120 ?_
        obtain ⟨a50, ha50, hha50⟩ := mbind_n h
        subst ha50
        have h := hha50
        obtain ⟨y51, hy51, h⟩ := mbind_n h
        refine u_getN hC hP (uGI_n hy51) rfl in_X4 (by decide) q301 (fun _ h => h) dX14_why_123 ?_
        refine lv_iload hx hb dX14_why_126 (lv_at hl 3 rfl) ?_
        refine lv_iload hx hb dX14_why_128 (lv_at hl 0 rfl) ?_
        refine lv_iadd hx hb dX14_why_130 ?_
        refine lv_imul hx hb dX14_why_131 ?_
        refine lv_bipush (v := 10) hx hb dX14_why_132 (by decide) ?_
        obtain ⟨r54, u52, c53, h⟩ := ucall_n h
        have zu52 := zz_J9_floorDiv N (ub G) (ug G) u42 (y51 * (y15 + r44)) 10 r54 u52 c53
        refine u_calli (va_runS (As := [.int (y51 * (y15 + r44)), .int 10]) (rest := [.int 0]) hC.1 (met_J9_floorDiv l N G u42 (y51 * (y15 + r44)) 10 r54 u52 c53) (va_cwS 2 hts (lw_S q1279 q1091 q113 q1092) rfl rfl rfl (by decide +kernel) ⟨Nat.le_trans (Nat.le_of_ble_eq_true rfl) hR.1, Nat.le_trans (Nat.le_of_ble_eq_true rfl) hR.2⟩) ⟨uPc_blind, fun U hU hW => u_pre hC hP hS hU hW⟩ rfl rfl hl.1 rfl (lv_room (Nat.le_of_ble_eq_true rfl)) dX14_why_134 ⟨Nat.zero_le _, Nat.zero_le _⟩) hS (fun H locs hP hS => ?_)
        refine lv_iload hx hb dX14_why_137 (lv_at hl 9 rfl) ?_
        refine lv_iload hx hb dX14_why_139 (lv_at hl 1 rfl) ?_
        refine lv_imul hx hb dX14_why_141 ?_
        refine u_aload_n (r := some a0) hx hb dX14_why_142 rfl (lv_at hl 5 rfl) ?_
        obtain ⟨o55, ho55, h⟩ := mbind_n h
        refine u_get hC hP (uGR_n ho55) rfl in_X14 (by decide) q1134 (fun _ h => h) dX14_why_143 ?_
        obtain ⟨a56, ha56, hha56⟩ := mbind_n h
        subst ha56
        have h := hha56
        obtain ⟨y57, hy57, h⟩ := mbind_n h
        refine u_getN hC hP (uGI_n hy57) rfl in_X4 (by decide) q310 (fun _ h => h) dX14_why_146 ?_
        refine lv_imul hx hb dX14_why_149 ?_
        refine lv_iadd hx hb dX14_why_150 ?_
        obtain ⟨r60, u58, c59, h⟩ := ucall_n h
        have zu58 := zz_J9_max N (ub G) (ug G) u52 0 (r54 + ((x4 * r38) * y57)) r60 u58 c59
        refine u_calli (va_runS (As := [.int 0, .int (r54 + ((x4 * r38) * y57))]) (rest := []) hC.1 (met_J9_max l N G u52 0 (r54 + ((x4 * r38) * y57)) r60 u58 c59) (va_cwS 2 hts (lw_S q1280 q408 q113 q409) rfl rfl rfl (by decide +kernel) ⟨Nat.le_trans (Nat.le_of_ble_eq_true rfl) hR.1, Nat.le_trans (Nat.le_of_ble_eq_true rfl) hR.2⟩) ⟨uPc_blind, fun U hU hW => u_pre hC hP hS hU hW⟩ rfl rfl hl.1 rfl (lv_room (Nat.le_of_ble_eq_true rfl)) dX14_why_151 ⟨Nat.zero_le _, Nat.zero_le _⟩) hS (fun H locs hP hS => ?_)
        refine lv_istore (lv' := [(10, .int r60), (9, .int r44), (8, .int r38), (7, va_rf (some a31)), (6, .int y15), (5, .int r7), (0, va_rf (some a0)), (1, .int x1), (2, va_rf x2), (3, .int x3), (4, .int x4)]) hx hb dX14_why_154 hl (by decide) rfl (fun ls hl => ?_)
        refine lv_iconst (v := 0) hx hb dX14_why_156 (by decide) ?_
        refine lv_istore (lv' := [(11, .int 0), (10, .int r60), (9, .int r44), (8, .int r38), (7, va_rf (some a31)), (6, .int y15), (5, .int r7), (0, va_rf (some a0)), (1, .int x1), (2, va_rf x2), (3, .int x3), (4, .int x4)]) hx hb dX14_why_157 hl (by decide) rfl (fun ls hl => ?_)
        exact w_X14_why_159 hC hR N N u58 x4 (some a31) r38 r60 0 h _ _ hP hS _ (lv_sub hl [7, 11, 4, 3, 1, 0] rfl)
      · have h := mif_f c48 h
        refine lv_iconst (v := 3) hx hb dX14_why_116 (by decide) ?_
        obtain ⟨hr1, hr2⟩ := uret_n h
        subst hr1
        subst hr2
        exact u_iret hC hP hS dX14_why_117
    · have h := mif_f c22 h
      refine lv_iconst (v := 2) hx hb dX14_why_65 (by decide) ?_
      obtain ⟨hr1, hr2⟩ := uret_n h
      subst hr1
      subst hr2
      exact u_iret hC hP hS dX14_why_66
  · have h := mif_t c8 h
    refine lv_iconst (v := 1) hx hb dX14_why_32 (by decide) ?_
    obtain ⟨hr1, hr2⟩ := uret_n h
    subst hr1
    subst hr2
    exact u_iret hC hP hS dX14_why_33
theorem zz_X14_why (N b : Nat) (g : uEnv) (u : UH) (a0 : Nat) (x1 : Int32) (x2 : Option Nat) (x3 : Int32) (x4 : Int32) (r : Int32) (uf : UH) (h : f_X14_why N b g u a0 x1 x2 x3 x4 = some (r, uf)) : uf.1 = u.1 ∧ uf.2.1 = u.2.1 :=
  zz_X14_why_0 (G := ((fun _ => 0, fun _ _ => 0), fun _ => 0, b, g)) (a0 := a0) N u x1 x2 x3 x4 h
theorem met_X14_why (l : Launch) (N : Nat) (G : uG) (u : UH) (a0 : Nat) (x1 : Int32) (x2 : Option Nat) (x3 : Int32) (x4 : Int32) (r : Int32) (uf : UH) (h : f_X14_why N (ub G) (ug G) u a0 x1 x2 x3 x4 = some (r, uf)) : Met l yX14_why (ws_ yX14_why cX14_why 12 (some .int)) ({ frames := 3, cells := 0, slots := 0, locals := 64 }) (uPc G u [.ref a0, .int x1, va_rf x2, .int x3, .int x4]) (uQi G r uf) 0 0 (uA G) := by
  rcases x2 with _ | x2 <;> exact u_met (own := RX14) (by decide +kernel) rfl (Nat.le_of_ble_eq_true rfl) (fun hC hn hsz ls hl hP => w_X14_why_0 hC ⟨Nat.le_refl _, Nat.le_refl _⟩ N u x1 _ x3 x4 h hP va_S.rf hl)
def f_X18_groundOf_41 (N b : Nat) (g : uEnv) (a0 : Nat) (u : UH) (s0 : Int32) : Option (Int32 × UH) :=
    some (s0, u)
set_option maxHeartbeats 4000000 in
set_option maxRecDepth 100000 in
theorem zz_X18_groundOf_41 {G : uG} {a0 : Nat} {uf : UH} {r : Int32} (N : Nat) (u : UH) (s0 : Int32) (h : f_X18_groundOf_41 N (ub G) (ug G) a0 u s0 = some (r, uf)) : uf.1 = u.1 ∧ uf.2.1 = u.2.1 := by
  unfold f_X18_groundOf_41 at h
  obtain ⟨hr1, hr2⟩ := uret_n h
  subst hr2
  exact ⟨by omega, by omega⟩
set_option maxHeartbeats 4000000 in
set_option maxRecDepth 100000 in
theorem w_X18_groundOf_41 {p : Program} {l : Launch} {e : Env} {R : Room} {s : State} {m : MethodId} {args : Array Value} {below : List Frame} {meth : Method} {c : Code} {G : uG} {a0 : Nat} {uf : UH} {r : Int32} (hC : uC p s m args meth c G RX18 cX18_groundOf 2 (some .int)) (hR : 0 ≤ R.frames ∧ 0 ≤ R.locals) (N : Nat) (u : UH) (s0 : Int32) (h : f_X18_groundOf_41 N (ub G) (ug G) a0 u s0 = some (r, uf)) {H : Heap} {locs : List Loc} (hP : uP G u H) (hS : va_S (uA G) s.heap H locs) {ls : Array Slot} (hl : lv_has ls 2 []) : W p l e R s m args below meth c H locs 0 0 (MQ below (uQi G r uf) args s 0 0 (uA G)) (F0 m 41 ls [.int s0]) := by
  obtain ⟨⟨hx, hb, hml, hown, hts⟩, hKK⟩ := id hC
  unfold f_X18_groundOf_41 at h
  obtain ⟨hr1, hr2⟩ := uret_n h
  subst hr1
  subst hr2
  exact u_iret hC hP hS dX18_groundOf_41
def f_X18_groundOf (N b : Nat) (g : uEnv) (u : UH) (a0 : Nat) (x1 : Int32) : Option (Int32 × UH) :=
    (uGR u a0 16 0).bind fun o1 =>
    (o1).bind fun a2 =>
    (uGR u a2 12 5).bind fun o3 =>
    (o3).bind fun a4 =>
    (uLdR u a4 6 x1).bind fun o5 =>
    ucase o5 (
    (uGR u a0 16 0).bind fun o7 =>
    (o7).bind fun a8 =>
    (uGR u a8 12 4).bind fun o9 =>
    (o9).bind fun a10 =>
    (uLdI u a10 0 x1).bind fun y11 =>
    f_X18_groundOf_41 N b g a0 u y11) fun a6 =>
    (uGR u a0 16 2).bind fun o12 =>
    (uGR u a0 16 0).bind fun o13 =>
    (o13).bind fun a14 =>
    (uGR u a14 12 5).bind fun o15 =>
    (o15).bind fun a16 =>
    (uLdR u a16 6 x1).bind fun o17 =>
    (o17).bind fun a18 =>
    (uGI u a18 13 0).bind fun y19 =>
    (o12).bind fun a20 =>
    (uLdI u a20 0 y19).bind fun y21 =>
    f_X18_groundOf_41 N b g a0 u y21
set_option maxHeartbeats 4000000 in
set_option maxRecDepth 100000 in
theorem zz_X18_groundOf_0 {G : uG} {a0 : Nat} {uf : UH} {r : Int32} (N : Nat) (u : UH) (x1 : Int32) (h : f_X18_groundOf N (ub G) (ug G) u a0 x1 = some (r, uf)) : uf.1 = u.1 ∧ uf.2.1 = u.2.1 := by
  unfold f_X18_groundOf at h
  obtain ⟨o1, ho1, h⟩ := mbind_n h
  obtain ⟨a2, ha2, hha2⟩ := mbind_n h
  subst ha2
  have h := hha2
  obtain ⟨o3, ho3, h⟩ := mbind_n h
  obtain ⟨a4, ha4, hha4⟩ := mbind_n h
  subst ha4
  have h := hha4
  obtain ⟨o5, ho5, h⟩ := mbind_n h
  rcases o5 with _ | a6
  · have h := ucase_n h
    obtain ⟨o7, ho7, h⟩ := mbind_n h
    obtain ⟨a8, ha8, hha8⟩ := mbind_n h
    subst ha8
    have h := hha8
    obtain ⟨o9, ho9, h⟩ := mbind_n h
    obtain ⟨a10, ha10, hha10⟩ := mbind_n h
    subst ha10
    have h := hha10
    obtain ⟨y11, hy11, h⟩ := mbind_n h
    have hq := zz_X18_groundOf_41 (G := G) (a0 := a0) N u y11 h
    exact ⟨by omega, by omega⟩
  · have h := ucase_s h
    obtain ⟨o12, ho12, h⟩ := mbind_n h
    obtain ⟨o13, ho13, h⟩ := mbind_n h
    obtain ⟨a14, ha14, hha14⟩ := mbind_n h
    subst ha14
    have h := hha14
    obtain ⟨o15, ho15, h⟩ := mbind_n h
    obtain ⟨a16, ha16, hha16⟩ := mbind_n h
    subst ha16
    have h := hha16
    obtain ⟨o17, ho17, h⟩ := mbind_n h
    obtain ⟨a18, ha18, hha18⟩ := mbind_n h
    subst ha18
    have h := hha18
    obtain ⟨y19, hy19, h⟩ := mbind_n h
    obtain ⟨a20, ha20, hha20⟩ := mbind_n h
    subst ha20
    have h := hha20
    obtain ⟨y21, hy21, h⟩ := mbind_n h
    have hq := zz_X18_groundOf_41 (G := G) (a0 := a0) N u y21 h
    exact ⟨by omega, by omega⟩
set_option maxHeartbeats 4000000 in
set_option maxRecDepth 100000 in
theorem w_X18_groundOf_0 {p : Program} {l : Launch} {e : Env} {R : Room} {s : State} {m : MethodId} {args : Array Value} {below : List Frame} {meth : Method} {c : Code} {G : uG} {a0 : Nat} {uf : UH} {r : Int32} (hC : uC p s m args meth c G RX18 cX18_groundOf 2 (some .int)) (hR : 0 ≤ R.frames ∧ 0 ≤ R.locals) (N : Nat) (u : UH) (x1 : Int32) (h : f_X18_groundOf N (ub G) (ug G) u a0 x1 = some (r, uf)) {H : Heap} {locs : List Loc} (hP : uP G u H) (hS : va_S (uA G) s.heap H locs) {ls : Array Slot} (hl : lv_has ls 2 [(0, va_rf (some a0)), (1, .int x1)]) : W p l e R s m args below meth c H locs 0 0 (MQ below (uQi G r uf) args s 0 0 (uA G)) (F0 m 0 ls []) := by
  obtain ⟨⟨hx, hb, hml, hown, hts⟩, hKK⟩ := id hC
  unfold f_X18_groundOf at h
  refine u_aload_n (r := some a0) hx hb dX18_groundOf_0 rfl (lv_at hl 0 rfl) ?_
  obtain ⟨o1, ho1, h⟩ := mbind_n h
  refine u_get hC hP (uGR_n ho1) rfl in_X18 (by decide) q1653 (fun _ h => h) dX18_groundOf_1 ?_
  obtain ⟨a2, ha2, hha2⟩ := mbind_n h
  subst ha2
  have h := hha2
  obtain ⟨o3, ho3, h⟩ := mbind_n h
  refine u_getN hC hP (uGR_n ho3) rfl in_X14 (by decide) q1145 (fun _ h => h) dX18_groundOf_4 ?_
  refine lv_iload_n hx hb dX18_groundOf_7 rfl (lv_at hl 1 rfl) ?_
  obtain ⟨a4, ha4, hha4⟩ := mbind_n h
  subst ha4
  have h := hha4
  obtain ⟨o5, ho5, h⟩ := mbind_n h
  refine u_aald hC hP ho5 rfl dX18_groundOf_8 ?_
  rcases o5 with _ | a6
  · have h := ucase_n h
    refine lv_ifnonnullN hx hb dX18_groundOf_9 ?_
    refine u_aload_n (r := some a0) hx hb dX18_groundOf_12 rfl (lv_at hl 0 rfl) ?_
    obtain ⟨o7, ho7, h⟩ := mbind_n h
    refine u_get hC hP (uGR_n ho7) rfl in_X18 (by decide) q1653 (fun _ h => h) dX18_groundOf_13 ?_
    obtain ⟨a8, ha8, hha8⟩ := mbind_n h
    subst ha8
    have h := hha8
    obtain ⟨o9, ho9, h⟩ := mbind_n h
    refine u_getN hC hP (uGR_n ho9) rfl in_X14 (by decide) q1141 (fun _ h => h) dX18_groundOf_16 ?_
    refine lv_iload_n hx hb dX18_groundOf_19 rfl (lv_at hl 1 rfl) ?_
    obtain ⟨a10, ha10, hha10⟩ := mbind_n h
    subst ha10
    have h := hha10
    obtain ⟨y11, hy11, h⟩ := mbind_n h
    refine u_iald hC hP hy11 rfl dX18_groundOf_20 ?_
    refine lv_goto (tgt := 41) hx hb dX18_groundOf_21 (by decide) ?_
    exact w_X18_groundOf_41 hC hR N u y11 h hP hS (lv_sub hl [] rfl)
  · have h := ucase_s h
    refine lv_ifnonnull (tgt := 24) hx hb dX18_groundOf_9 (by decide) ?_
    refine u_aload_n (r := some a0) hx hb dX18_groundOf_24 rfl (lv_at hl 0 rfl) ?_
    obtain ⟨o12, ho12, h⟩ := mbind_n h
    refine u_get hC hP (uGR_n ho12) rfl in_X18 (by decide) q1655 (fun _ h => h) dX18_groundOf_25 ?_
    refine u_aload_n (r := some a0) hx hb dX18_groundOf_28 rfl (lv_at hl 0 rfl) ?_
    obtain ⟨o13, ho13, h⟩ := mbind_n h
    refine u_get hC hP (uGR_n ho13) rfl in_X18 (by decide) q1653 (fun _ h => h) dX18_groundOf_29 ?_
    obtain ⟨a14, ha14, hha14⟩ := mbind_n h
    subst ha14
    have h := hha14
    obtain ⟨o15, ho15, h⟩ := mbind_n h
    refine u_getN hC hP (uGR_n ho15) rfl in_X14 (by decide) q1145 (fun _ h => h) dX18_groundOf_32 ?_
    refine lv_iload_n hx hb dX18_groundOf_35 rfl (lv_at hl 1 rfl) ?_
    obtain ⟨a16, ha16, hha16⟩ := mbind_n h
    subst ha16
    have h := hha16
    obtain ⟨o17, ho17, h⟩ := mbind_n h
    refine u_aald hC hP ho17 rfl dX18_groundOf_36 ?_
    obtain ⟨a18, ha18, hha18⟩ := mbind_n h
    subst ha18
    have h := hha18
    obtain ⟨y19, hy19, h⟩ := mbind_n h
    refine u_getN hC hP (uGI_n hy19) rfl in_X15 (by decide) q1213 (fun _ h => h) dX18_groundOf_37 ?_
    obtain ⟨a20, ha20, hha20⟩ := mbind_n h
    subst ha20
    have h := hha20
    obtain ⟨y21, hy21, h⟩ := mbind_n h
    refine u_iald hC hP hy21 rfl dX18_groundOf_40 ?_
    exact w_X18_groundOf_41 hC hR N u y21 h hP hS (lv_sub hl [] rfl)
theorem zz_X18_groundOf (N b : Nat) (g : uEnv) (u : UH) (a0 : Nat) (x1 : Int32) (r : Int32) (uf : UH) (h : f_X18_groundOf N b g u a0 x1 = some (r, uf)) : uf.1 = u.1 ∧ uf.2.1 = u.2.1 :=
  zz_X18_groundOf_0 (G := ((fun _ => 0, fun _ _ => 0), fun _ => 0, b, g)) (a0 := a0) N u x1 h
theorem met_X18_groundOf (l : Launch) (N : Nat) (G : uG) (u : UH) (a0 : Nat) (x1 : Int32) (r : Int32) (uf : UH) (h : f_X18_groundOf N (ub G) (ug G) u a0 x1 = some (r, uf)) : Met l yX18_groundOf (ws_ yX18_groundOf cX18_groundOf 2 (some .int)) ({ frames := 0, cells := 0, slots := 0, locals := 0 }) (uPc G u [.ref a0, .int x1]) (uQi G r uf) 0 0 (uA G) := by
  exact u_met (own := RX18) (by decide +kernel) rfl (Nat.le_of_ble_eq_true rfl) (fun hC hn hsz ls hl hP => w_X18_groundOf_0 hC ⟨Nat.le_refl _, Nat.le_refl _⟩ N u x1 h hP va_S.rf hl)

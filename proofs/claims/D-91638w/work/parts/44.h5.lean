/-! BY gen_heap.py: X1_isDoubt X1_forget X1_isGround X1_grip X1_ground X1_height X1_lost X1_make X16_init X17_init X2_knows X2_known X2_unknown -/
def f_X1_isDoubt_32 (N b : Nat) (g : uEnv) (a0 : Nat) (u : UH) (s0 : Int32) : Option (Int32 × UH) :=
    if uFit .boolean s0 = true then
    some (s0, u)
    else none
set_option maxHeartbeats 4000000 in
set_option maxRecDepth 100000 in
theorem zz_X1_isDoubt_32 {G : uG} {a0 : Nat} {uf : UH} {r : Int32} (N : Nat) (u : UH) (s0 : Int32) (h : f_X1_isDoubt_32 N (ub G) (ug G) a0 u s0 = some (r, uf)) : uf.1 = u.1 ∧ uf.2.1 = u.2.1 := by
  unfold f_X1_isDoubt_32 at h
  obtain ⟨c1, h⟩ := mif_n h
  obtain ⟨hr1, hr2⟩ := uret_n h
  subst hr2
  exact ⟨by omega, by omega⟩
set_option maxHeartbeats 4000000 in
set_option maxRecDepth 100000 in
theorem w_X1_isDoubt_32 {p : Program} {l : Launch} {e : Env} {R : Room} {s : State} {m : MethodId} {args : Array Value} {below : List Frame} {meth : Method} {c : Code} {G : uG} {a0 : Nat} {uf : UH} {r : Int32} (hC : uC p s m args meth c G RX1 cX1_isDoubt 2 (some .boolean)) (hR : 1 ≤ R.frames ∧ 22 ≤ R.locals) (N : Nat) (u : UH) (s0 : Int32) (h : f_X1_isDoubt_32 N (ub G) (ug G) a0 u s0 = some (r, uf)) {H : Heap} {locs : List Loc} (hP : uP G u H) (hS : va_S (uA G) s.heap H locs) {ls : Array Slot} (hl : lv_has ls 2 []) : W p l e R s m args below meth c H locs 0 0 (MQ below (uQi G r uf) args s 0 0 (uA G)) (F0 m 32 ls [.int s0]) := by
  obtain ⟨⟨hx, hb, hml, hown, hts⟩, hKK⟩ := id hC
  unfold f_X1_isDoubt_32 at h
  obtain ⟨c1, h⟩ := mif_n h
  obtain ⟨hr1, hr2⟩ := uret_n h
  subst hr1
  subst hr2
  exact u_zret hC (uFit_n c1).1 hP hS dX1_isDoubt_32
def f_X1_isDoubt_31 (N b : Nat) (g : uEnv) (a0 : Nat) (u : UH) : Option (Int32 × UH) :=
    f_X1_isDoubt_32 N b g a0 u 0
set_option maxHeartbeats 4000000 in
set_option maxRecDepth 100000 in
theorem zz_X1_isDoubt_31 {G : uG} {a0 : Nat} {uf : UH} {r : Int32} (N : Nat) (u : UH) (h : f_X1_isDoubt_31 N (ub G) (ug G) a0 u = some (r, uf)) : uf.1 = u.1 ∧ uf.2.1 = u.2.1 := by
  unfold f_X1_isDoubt_31 at h
  have hq := zz_X1_isDoubt_32 (G := G) (a0 := a0) N u 0 h
  exact ⟨by omega, by omega⟩
set_option maxHeartbeats 4000000 in
set_option maxRecDepth 100000 in
theorem w_X1_isDoubt_31 {p : Program} {l : Launch} {e : Env} {R : Room} {s : State} {m : MethodId} {args : Array Value} {below : List Frame} {meth : Method} {c : Code} {G : uG} {a0 : Nat} {uf : UH} {r : Int32} (hC : uC p s m args meth c G RX1 cX1_isDoubt 2 (some .boolean)) (hR : 1 ≤ R.frames ∧ 22 ≤ R.locals) (N : Nat) (u : UH) (h : f_X1_isDoubt_31 N (ub G) (ug G) a0 u = some (r, uf)) {H : Heap} {locs : List Loc} (hP : uP G u H) (hS : va_S (uA G) s.heap H locs) {ls : Array Slot} (hl : lv_has ls 2 []) : W p l e R s m args below meth c H locs 0 0 (MQ below (uQi G r uf) args s 0 0 (uA G)) (F0 m 31 ls []) := by
  obtain ⟨⟨hx, hb, hml, hown, hts⟩, hKK⟩ := id hC
  unfold f_X1_isDoubt_31 at h
  refine lv_iconst (v := 0) hx hb dX1_isDoubt_31 (by decide) ?_
  exact w_X1_isDoubt_32 hC hR N u 0 h hP hS (lv_sub hl [] rfl)
def f_X1_isDoubt (N b : Nat) (g : uEnv) (u : UH) (a0 : Nat) (x1 : Int32) : Option (Int32 × UH) :=
    (uGR u a0 0 7).bind fun o1 =>
    ucase o1 (
    f_X1_isDoubt_31 N b g a0 u) fun a2 =>
    (uGR u a0 0 7).bind fun o3 =>
    (o3).bind fun a4 =>
    (uGR u a4 12 6).bind fun o5 =>
    (o5).bind fun a6 =>
    if uIs u a6 18 = true then
    ucall (f_J2_size N b g u a6) fun r10 u8 =>
    ucall (f_X1_in N b g u8 x1 0 (r10 - 1)) fun r13 u11 =>
    if r13 = 0 then
    f_X1_isDoubt_31 N b g a0 u11
    else
    f_X1_isDoubt_32 N b g a0 u11 1
    else none
set_option maxHeartbeats 4000000 in
set_option maxRecDepth 100000 in
theorem zz_X1_isDoubt_0 {G : uG} {a0 : Nat} {uf : UH} {r : Int32} (N : Nat) (u : UH) (x1 : Int32) (h : f_X1_isDoubt N (ub G) (ug G) u a0 x1 = some (r, uf)) : uf.1 = u.1 ∧ uf.2.1 = u.2.1 := by
  unfold f_X1_isDoubt at h
  obtain ⟨o1, ho1, h⟩ := mbind_n h
  rcases o1 with _ | a2
  · have h := ucase_n h
    have hq := zz_X1_isDoubt_31 (G := G) (a0 := a0) N u h
    exact ⟨by omega, by omega⟩
  · have h := ucase_s h
    obtain ⟨o3, ho3, h⟩ := mbind_n h
    obtain ⟨a4, ha4, hha4⟩ := mbind_n h
    subst ha4
    have h := hha4
    obtain ⟨o5, ho5, h⟩ := mbind_n h
    obtain ⟨a6, ha6, hha6⟩ := mbind_n h
    subst ha6
    have h := hha6
    obtain ⟨c7, h⟩ := mif_n h
    obtain ⟨r10, u8, c9, h⟩ := ucall_n h
    have zu8 := zz_J2_size N (ub G) (ug G) u a6 r10 u8 c9
    obtain ⟨r13, u11, c12, h⟩ := ucall_n h
    have zu11 := zz_X1_in N (ub G) (ug G) u8 x1 0 (r10 - 1) r13 u11 c12
    by_cases c14 : r13 = 0
    · have h := mif_t c14 h
      have hq := zz_X1_isDoubt_31 (G := G) (a0 := a0) N u11 h
      exact ⟨by omega, by omega⟩
    · have h := mif_f c14 h
      have hq := zz_X1_isDoubt_32 (G := G) (a0 := a0) N u11 1 h
      exact ⟨by omega, by omega⟩
set_option maxHeartbeats 4000000 in
set_option maxRecDepth 100000 in
theorem w_X1_isDoubt_0 {p : Program} {l : Launch} {e : Env} {R : Room} {s : State} {m : MethodId} {args : Array Value} {below : List Frame} {meth : Method} {c : Code} {G : uG} {a0 : Nat} {uf : UH} {r : Int32} (hC : uC p s m args meth c G RX1 cX1_isDoubt 2 (some .boolean)) (hR : 1 ≤ R.frames ∧ 22 ≤ R.locals) (N : Nat) (u : UH) (x1 : Int32) (h : f_X1_isDoubt N (ub G) (ug G) u a0 x1 = some (r, uf)) {H : Heap} {locs : List Loc} (hP : uP G u H) (hS : va_S (uA G) s.heap H locs) {ls : Array Slot} (hl : lv_has ls 2 [(0, va_rf (some a0)), (1, .int x1)]) : W p l e R s m args below meth c H locs 0 0 (MQ below (uQi G r uf) args s 0 0 (uA G)) (F0 m 0 ls []) := by
  obtain ⟨⟨hx, hb, hml, hown, hts⟩, hKK⟩ := id hC
  unfold f_X1_isDoubt at h
  refine u_aload_n (r := some a0) hx hb dX1_isDoubt_0 rfl (lv_at hl 0 rfl) ?_
  obtain ⟨o1, ho1, h⟩ := mbind_n h
  refine u_get hC hP (uGR_n ho1) rfl in_X1 (by decide) q222 (fun _ h => h) dX1_isDoubt_1 ?_
  rcases o1 with _ | a2
  · have h := ucase_n h
    refine lv_ifnullN (tgt := 31) hx hb dX1_isDoubt_4 (by decide) ?_
    exact w_X1_isDoubt_31 hC hR N u h hP hS (lv_sub hl [] rfl)
  · have h := ucase_s h
    refine lv_ifnull hx hb dX1_isDoubt_4 ?_
    refine lv_iload_n hx hb dX1_isDoubt_7 rfl (lv_at hl 1 rfl) ?_
    refine lv_iconst (v := 0) hx hb dX1_isDoubt_8 (by decide) ?_
    refine u_aload_n (r := some a0) hx hb dX1_isDoubt_9 rfl (lv_at hl 0 rfl) ?_
    obtain ⟨o3, ho3, h⟩ := mbind_n h
    refine u_get hC hP (uGR_n ho3) rfl in_X1 (by decide) q222 (fun _ h => h) dX1_isDoubt_10 ?_
    obtain ⟨a4, ha4, hha4⟩ := mbind_n h
    subst ha4
    have h := hha4
    obtain ⟨o5, ho5, h⟩ := mbind_n h
    refine u_getN hC hP (uGR_n ho5) rfl in_X14 (by decide) q1151 (fun _ h => h) dX1_isDoubt_13 ?_
    obtain ⟨a6, ha6, hha6⟩ := mbind_n h
    subst ha6
    have h := hha6
    obtain ⟨c7, h⟩ := mif_n h
    obtain ⟨r10, u8, c9, h⟩ := ucall_n h
    have zu8 := zz_J2_size N (ub G) (ug G) u a6 r10 u8 c9
    refine u_calli (va_runV (As := []) (rest := [.int 0, .int x1]) hC.1 (met_J2_size l N G u a6 r10 u8 c9) (cwV 0 hts (lw_V q1063 q894 q895 q102 q896) rfl rfl rfl (by decide +kernel) ⟨Nat.le_trans (Nat.le_of_ble_eq_true rfl) hR.1, Nat.le_trans (Nat.le_of_ble_eq_true rfl) hR.2⟩) ⟨uPc_blind, u_rcv hC hP c7 rfl, fun U hU hW => u_pre hC hP hS hU hW⟩ rfl rfl hl.1 rfl (lv_room (Nat.le_of_ble_eq_true rfl)) dX1_isDoubt_16 ⟨Nat.zero_le _, Nat.zero_le _⟩) hS (fun H locs hP hS => ?_)
    refine lv_iconst (v := 1) hx hb dX1_isDoubt_19 (by decide) ?_
    refine lv_isub hx hb dX1_isDoubt_20 ?_
    obtain ⟨r13, u11, c12, h⟩ := ucall_n h
    have zu11 := zz_X1_in N (ub G) (ug G) u8 x1 0 (r10 - 1) r13 u11 c12
    refine u_calli (va_runS (As := [.int x1, .int 0, .int (r10 - 1)]) (rest := []) hC.1 (met_X1_in l N G u8 x1 0 (r10 - 1) r13 u11 c12) (va_cwS 3 hts (lw_S q273 q274 q98 q275) rfl rfl rfl (by decide +kernel) ⟨Nat.le_trans (Nat.le_of_ble_eq_true rfl) hR.1, Nat.le_trans (Nat.le_of_ble_eq_true rfl) hR.2⟩) ⟨uPc_blind, fun U hU hW => u_pre hC hP hS hU hW⟩ rfl rfl hl.1 rfl (lv_room (Nat.le_of_ble_eq_true rfl)) dX1_isDoubt_21 ⟨Nat.zero_le _, Nat.zero_le _⟩) hS (fun H locs hP hS => ?_)
    refine lv_if_eq (tgt := 31) hx hb dX1_isDoubt_24 (by decide) (fun c14 => ?_) (fun c14 => ?_)
    · have h := mif_t c14 h
      exact w_X1_isDoubt_31 hC hR N u11 h hP hS (lv_sub hl [] rfl)
    · have h := mif_f c14 h
      refine lv_iconst (v := 1) hx hb dX1_isDoubt_27 (by decide) ?_
      refine lv_goto (tgt := 32) hx hb dX1_isDoubt_28 (by decide) ?_
      exact w_X1_isDoubt_32 hC hR N u11 1 h hP hS (lv_sub hl [] rfl)
theorem zz_X1_isDoubt (N b : Nat) (g : uEnv) (u : UH) (a0 : Nat) (x1 : Int32) (r : Int32) (uf : UH) (h : f_X1_isDoubt N b g u a0 x1 = some (r, uf)) : uf.1 = u.1 ∧ uf.2.1 = u.2.1 :=
  zz_X1_isDoubt_0 (G := ((fun _ => 0, fun _ _ => 0), fun _ => 0, b, g)) (a0 := a0) N u x1 h
theorem met_X1_isDoubt (l : Launch) (N : Nat) (G : uG) (u : UH) (a0 : Nat) (x1 : Int32) (r : Int32) (uf : UH) (h : f_X1_isDoubt N (ub G) (ug G) u a0 x1 = some (r, uf)) : Met l yX1_isDoubt (ws_ yX1_isDoubt cX1_isDoubt 2 (some .boolean)) ({ frames := 1, cells := 0, slots := 0, locals := 22 }) (uPc G u [.ref a0, .int x1]) (uQi G r uf) 0 0 (uA G) := by
  exact u_met (own := RX1) (by decide +kernel) rfl (Nat.le_of_ble_eq_true rfl) (fun hC hn hsz ls hl hP => w_X1_isDoubt_0 hC ⟨Nat.le_refl _, Nat.le_refl _⟩ N u x1 h hP va_S.rf hl)
def f_X1_forget (N b : Nat) (g : uEnv) (u : UH) (a0 : Nat) (x1 : Int32) : Option (Int32 × UH) :=
    if uIs u a0 0 = true then
    ucall (f_X1_isDoubt N b g u a0 x1) fun r4 u2 =>
    if r4 = 0 then
    if uIs u2 a0 0 = true then
    ucall (f_X1_denied N b g u2 a0 1) fun r32 u30 =>
    if uFit .boolean r32 = true then
    some (r32, u30)
    else none
    else none
    else
    (uGR u2 a0 0 7).bind fun o6 =>
    (o6).bind fun a7 =>
    (uGR u2 a7 12 6).bind fun o8 =>
    (o8).bind fun a9 =>
    if uIs u2 a9 18 = true then
    ucall (f_J2_get N b g u2 a9 x1) fun o13 u11 =>
    (o13).bind fun a14 =>
    if uIs u11 a14 13 = true then
    (uGI u11 a14 13 2).bind fun y16 =>
    if y16 = (-1) then
    if uIs u11 a0 0 = true then
    ucall (f_X1_denied N b g u11 a0 5) fun r27 u25 =>
    if uFit .boolean r27 = true then
    some (r27, u25)
    else none
    else none
    else
    (uPut b u11 a14 13 2 (.int (-1))).bind fun u18 =>
    if uIs u18 a0 0 = true then
    ucall (f_X1_granted N b g u18 a0) fun r22 u20 =>
    if uFit .boolean r22 = true then
    some (r22, u20)
    else none
    else none
    else none
    else none
    else none
set_option maxHeartbeats 4000000 in
set_option maxRecDepth 100000 in
theorem zz_X1_forget_0 {G : uG} {a0 : Nat} {uf : UH} {r : Int32} (N : Nat) (u : UH) (x1 : Int32) (h : f_X1_forget N (ub G) (ug G) u a0 x1 = some (r, uf)) : uf.1 = u.1 ∧ uf.2.1 = u.2.1 := by
  unfold f_X1_forget at h
  obtain ⟨c1, h⟩ := mif_n h
  obtain ⟨r4, u2, c3, h⟩ := ucall_n h
  have zu2 := zz_X1_isDoubt N (ub G) (ug G) u a0 x1 r4 u2 c3
  by_cases c5 : r4 = 0
  · have h := mif_t c5 h
    obtain ⟨c29, h⟩ := mif_n h
    obtain ⟨r32, u30, c31, h⟩ := ucall_n h
    have zu30 := zz_X1_denied N (ub G) (ug G) u2 a0 1 r32 u30 c31
    obtain ⟨c33, h⟩ := mif_n h
    obtain ⟨hr1, hr2⟩ := uret_n h
    subst hr2
    exact ⟨by omega, by omega⟩
  · have h := mif_f c5 h
    obtain ⟨o6, ho6, h⟩ := mbind_n h
    obtain ⟨a7, ha7, hha7⟩ := mbind_n h
    subst ha7
    have h := hha7
    obtain ⟨o8, ho8, h⟩ := mbind_n h
    obtain ⟨a9, ha9, hha9⟩ := mbind_n h
    subst ha9
    have h := hha9
    obtain ⟨c10, h⟩ := mif_n h
    obtain ⟨o13, u11, c12, h⟩ := ucall_n h
    have zu11 := zz_J2_get N (ub G) (ug G) u2 a9 x1 o13 u11 c12
    obtain ⟨a14, ha14, hha14⟩ := mbind_n h
    subst ha14
    have h := hha14
    obtain ⟨c15, h⟩ := mif_n h
    obtain ⟨y16, hy16, h⟩ := mbind_n h
    by_cases c17 : y16 = (-1)
    · have h := mif_t c17 h
      obtain ⟨c24, h⟩ := mif_n h
      obtain ⟨r27, u25, c26, h⟩ := ucall_n h
      have zu25 := zz_X1_denied N (ub G) (ug G) u11 a0 5 r27 u25 c26
      obtain ⟨c28, h⟩ := mif_n h
      obtain ⟨hr1, hr2⟩ := uret_n h
      subst hr2
      exact ⟨by omega, by omega⟩
    · have h := mif_f c17 h
      obtain ⟨u18, hu18, h⟩ := mbind_n h
      have zu18 := uPut_sz hu18
      obtain ⟨c19, h⟩ := mif_n h
      obtain ⟨r22, u20, c21, h⟩ := ucall_n h
      have zu20 := zz_X1_granted N (ub G) (ug G) u18 a0 r22 u20 c21
      obtain ⟨c23, h⟩ := mif_n h
      obtain ⟨hr1, hr2⟩ := uret_n h
      subst hr2
      exact ⟨by omega, by omega⟩
set_option maxHeartbeats 4000000 in
set_option maxRecDepth 100000 in
theorem w_X1_forget_0 {p : Program} {l : Launch} {e : Env} {R : Room} {s : State} {m : MethodId} {args : Array Value} {below : List Frame} {meth : Method} {c : Code} {G : uG} {a0 : Nat} {uf : UH} {r : Int32} (hC : uC p s m args meth c G RX1 cX1_forget 3 (some .boolean)) (hR : 3 ≤ R.frames ∧ 64 ≤ R.locals) (N : Nat) (u : UH) (x1 : Int32) (h : f_X1_forget N (ub G) (ug G) u a0 x1 = some (r, uf)) {H : Heap} {locs : List Loc} (hP : uP G u H) (hS : va_S (uA G) s.heap H locs) {ls : Array Slot} (hl : lv_has ls 3 [(0, va_rf (some a0)), (1, .int x1)]) : W p l e R s m args below meth c H locs 0 0 (MQ below (uQi G r uf) args s 0 0 (uA G)) (F0 m 0 ls []) := by
  obtain ⟨⟨hx, hb, hml, hown, hts⟩, hKK⟩ := id hC
  unfold f_X1_forget at h
  refine u_aload_n (r := some a0) hx hb dX1_forget_0 rfl (lv_at hl 0 rfl) ?_
  refine lv_iload_n hx hb dX1_forget_1 rfl (lv_at hl 1 rfl) ?_
  obtain ⟨c1, h⟩ := mif_n h
  obtain ⟨r4, u2, c3, h⟩ := ucall_n h
  have zu2 := zz_X1_isDoubt N (ub G) (ug G) u a0 x1 r4 u2 c3
  refine u_calli (va_runV (As := [.int x1]) (rest := []) hC.1 (met_X1_isDoubt l N G u a0 x1 r4 u2 c3) (cwV 1 hts (lw_V q1236 q1238 qs19 q98 q1239) rfl rfl rfl (by decide +kernel) ⟨Nat.le_trans (Nat.le_of_ble_eq_true rfl) hR.1, Nat.le_trans (Nat.le_of_ble_eq_true rfl) hR.2⟩) ⟨uPc_blind, u_rcv hC hP c1 rfl, fun U hU hW => u_pre hC hP hS hU hW⟩ rfl rfl hl.1 rfl (lv_room (Nat.le_of_ble_eq_true rfl)) dX1_forget_2 ⟨Nat.zero_le _, Nat.zero_le _⟩) hS (fun H locs hP hS => ?_)
  refine lv_if_ne (tgt := 14) hx hb dX1_forget_5 (by decide) (fun c5 => ?_) (fun c5 => ?_)
  · have h := mif_f c5 h
    refine u_aload_n (r := some a0) hx hb dX1_forget_14 rfl (lv_at hl 0 rfl) ?_
    obtain ⟨o6, ho6, h⟩ := mbind_n h
    refine u_get hC hP (uGR_n ho6) rfl in_X1 (by decide) q222 (fun _ h => h) dX1_forget_15 ?_
    obtain ⟨a7, ha7, hha7⟩ := mbind_n h
    subst ha7
    have h := hha7
    obtain ⟨o8, ho8, h⟩ := mbind_n h
    refine u_getN hC hP (uGR_n ho8) rfl in_X14 (by decide) q1151 (fun _ h => h) dX1_forget_18 ?_
    refine lv_iload_n hx hb dX1_forget_21 rfl (lv_at hl 1 rfl) ?_
    obtain ⟨a9, ha9, hha9⟩ := mbind_n h
    subst ha9
    have h := hha9
    obtain ⟨c10, h⟩ := mif_n h
    obtain ⟨o13, u11, c12, h⟩ := ucall_n h
    have zu11 := zz_J2_get N (ub G) (ug G) u2 a9 x1 o13 u11 c12
    refine u_callr (va_runV (As := [.int x1]) (rest := []) hC.1 (met_J2_get l N G u2 a9 x1 o13 u11 c12) (cwV 1 hts (lw_V q1084 q898 q899 q102 q900) rfl rfl rfl (by decide +kernel) ⟨Nat.le_trans (Nat.le_of_ble_eq_true rfl) hR.1, Nat.le_trans (Nat.le_of_ble_eq_true rfl) hR.2⟩) ⟨uPc_blind, u_rcv hC hP c10 rfl, fun U hU hW => u_pre hC hP hS hU hW⟩ rfl rfl hl.1 rfl (lv_room (Nat.le_of_ble_eq_true rfl)) dX1_forget_22 ⟨Nat.zero_le _, Nat.zero_le _⟩) hS (fun H locs hP hS => ?_)
    obtain ⟨a14, ha14, hha14⟩ := mbind_n h
    subst ha14
    have h := hha14
    obtain ⟨c15, h⟩ := mif_n h
    refine u_castS hC hP c15 rfl q1206 dX1_forget_25 ?_
    refine u_astore_n (r := some a14) (lv' := [(2, va_rf (some a14)), (0, va_rf (some a0)), (1, .int x1)]) hx hb dX1_forget_28 rfl hl (by decide) rfl (fun ls hl => ?_)
    refine u_aload_n (r := some a14) hx hb dX1_forget_29 rfl (lv_at hl 0 rfl) ?_
    obtain ⟨y16, hy16, h⟩ := mbind_n h
    refine u_getN hC hP (uGI_n hy16) rfl in_X15 (by decide) q1223 (fun _ h => h) dX1_forget_30 ?_
    refine lv_iconst (v := (-1)) hx hb dX1_forget_33 (by decide) ?_
    refine lv_icmp_ne (tgt := 43) hx hb dX1_forget_34 (by decide) (fun c17 => ?_) (fun c17 => ?_)
    · have h := mif_f c17 h
      refine u_aload_n (r := some a14) hx hb dX1_forget_43 rfl (lv_at hl 0 rfl) ?_
      refine lv_iconst (v := (-1)) hx hb dX1_forget_44 (by decide) ?_
      obtain ⟨u18, hu18, h⟩ := mbind_n h
      have zu18 := uPut_sz hu18
      refine u_putN hC hP hS hu18 rfl in_X15 tyX15 tyX15_ok nmX15 (by decide) q1223 (fun _ h => h) rfl (ty := .int) (tyX15_ok 2 (by decide)) rfl rfl dX1_forget_45 (fun H locs hP hS => ?_)
      refine u_aload_n (r := some a0) hx hb dX1_forget_48 rfl (lv_at hl 1 rfl) ?_
      obtain ⟨c19, h⟩ := mif_n h
      obtain ⟨r22, u20, c21, h⟩ := ucall_n h
      have zu20 := zz_X1_granted N (ub G) (ug G) u18 a0 r22 u20 c21
      refine u_calli (va_runV (As := []) (rest := []) hC.1 (met_X1_granted l N G u18 a0 r22 u20 c21) (cwV 0 hts (lw_V q1105 q1107 qs17 q98 q1108) rfl rfl rfl (by decide +kernel) ⟨Nat.le_trans (Nat.le_of_ble_eq_true rfl) hR.1, Nat.le_trans (Nat.le_of_ble_eq_true rfl) hR.2⟩) ⟨uPc_blind, u_rcv hC hP c19 rfl, fun U hU hW => u_pre hC hP hS hU hW⟩ rfl rfl hl.1 rfl (lv_room (Nat.le_of_ble_eq_true rfl)) dX1_forget_49 ⟨Nat.zero_le _, Nat.zero_le _⟩) hS (fun H locs hP hS => ?_)
      obtain ⟨c23, h⟩ := mif_n h
      obtain ⟨hr1, hr2⟩ := uret_n h
      subst hr1
      subst hr2
      exact u_zret hC (uFit_n c23).1 hP hS dX1_forget_52
    · have h := mif_t c17 h
      refine u_aload_n (r := some a0) hx hb dX1_forget_37 rfl (lv_at hl 1 rfl) ?_
      refine lv_iconst (v := 5) hx hb dX1_forget_38 (by decide) ?_
      obtain ⟨c24, h⟩ := mif_n h
      obtain ⟨r27, u25, c26, h⟩ := ucall_n h
      have zu25 := zz_X1_denied N (ub G) (ug G) u11 a0 5 r27 u25 c26
      refine u_calli (va_runV (As := [.int 5]) (rest := []) hC.1 (met_X1_denied l N G u11 a0 5 r27 u25 c26) (cwV 1 hts (lw_V q1101 q1103 qs16 q98 q1104) rfl rfl rfl (by decide +kernel) ⟨Nat.le_trans (Nat.le_of_ble_eq_true rfl) hR.1, Nat.le_trans (Nat.le_of_ble_eq_true rfl) hR.2⟩) ⟨uPc_blind, u_rcv hC hP c24 rfl, fun U hU hW => u_pre hC hP hS hU hW⟩ rfl rfl hl.1 rfl (lv_room (Nat.le_of_ble_eq_true rfl)) dX1_forget_39 ⟨Nat.zero_le _, Nat.zero_le _⟩) hS (fun H locs hP hS => ?_)
      obtain ⟨c28, h⟩ := mif_n h
      obtain ⟨hr1, hr2⟩ := uret_n h
      subst hr1
      subst hr2
      exact u_zret hC (uFit_n c28).1 hP hS dX1_forget_42
  · have h := mif_t c5 h
    refine u_aload_n (r := some a0) hx hb dX1_forget_8 rfl (lv_at hl 0 rfl) ?_
    refine lv_iconst (v := 1) hx hb dX1_forget_9 (by decide) ?_
    obtain ⟨c29, h⟩ := mif_n h
    obtain ⟨r32, u30, c31, h⟩ := ucall_n h
    have zu30 := zz_X1_denied N (ub G) (ug G) u2 a0 1 r32 u30 c31
    refine u_calli (va_runV (As := [.int 1]) (rest := []) hC.1 (met_X1_denied l N G u2 a0 1 r32 u30 c31) (cwV 1 hts (lw_V q1101 q1103 qs16 q98 q1104) rfl rfl rfl (by decide +kernel) ⟨Nat.le_trans (Nat.le_of_ble_eq_true rfl) hR.1, Nat.le_trans (Nat.le_of_ble_eq_true rfl) hR.2⟩) ⟨uPc_blind, u_rcv hC hP c29 rfl, fun U hU hW => u_pre hC hP hS hU hW⟩ rfl rfl hl.1 rfl (lv_room (Nat.le_of_ble_eq_true rfl)) dX1_forget_10 ⟨Nat.zero_le _, Nat.zero_le _⟩) hS (fun H locs hP hS => ?_)
    obtain ⟨c33, h⟩ := mif_n h
    obtain ⟨hr1, hr2⟩ := uret_n h
    subst hr1
    subst hr2
    exact u_zret hC (uFit_n c33).1 hP hS dX1_forget_13
theorem zz_X1_forget (N b : Nat) (g : uEnv) (u : UH) (a0 : Nat) (x1 : Int32) (r : Int32) (uf : UH) (h : f_X1_forget N b g u a0 x1 = some (r, uf)) : uf.1 = u.1 ∧ uf.2.1 = u.2.1 :=
  zz_X1_forget_0 (G := ((fun _ => 0, fun _ _ => 0), fun _ => 0, b, g)) (a0 := a0) N u x1 h
theorem met_X1_forget (l : Launch) (N : Nat) (G : uG) (u : UH) (a0 : Nat) (x1 : Int32) (r : Int32) (uf : UH) (h : f_X1_forget N (ub G) (ug G) u a0 x1 = some (r, uf)) : Met l yX1_forget (ws_ yX1_forget cX1_forget 3 (some .boolean)) ({ frames := 3, cells := 0, slots := 0, locals := 64 }) (uPc G u [.ref a0, .int x1]) (uQi G r uf) 0 0 (uA G) := by
  exact u_met (own := RX1) (by decide +kernel) rfl (Nat.le_of_ble_eq_true rfl) (fun hC hn hsz ls hl hP => w_X1_forget_0 hC ⟨Nat.le_refl _, Nat.le_refl _⟩ N u x1 h hP va_S.rf hl)
def f_X1_isGround_32 (N b : Nat) (g : uEnv) (a0 : Nat) (u : UH) (s0 : Int32) : Option (Int32 × UH) :=
    if uFit .boolean s0 = true then
    some (s0, u)
    else none
set_option maxHeartbeats 4000000 in
set_option maxRecDepth 100000 in
theorem zz_X1_isGround_32 {G : uG} {a0 : Nat} {uf : UH} {r : Int32} (N : Nat) (u : UH) (s0 : Int32) (h : f_X1_isGround_32 N (ub G) (ug G) a0 u s0 = some (r, uf)) : uf.1 = u.1 ∧ uf.2.1 = u.2.1 := by
  unfold f_X1_isGround_32 at h
  obtain ⟨c1, h⟩ := mif_n h
  obtain ⟨hr1, hr2⟩ := uret_n h
  subst hr2
  exact ⟨by omega, by omega⟩
set_option maxHeartbeats 4000000 in
set_option maxRecDepth 100000 in
theorem w_X1_isGround_32 {p : Program} {l : Launch} {e : Env} {R : Room} {s : State} {m : MethodId} {args : Array Value} {below : List Frame} {meth : Method} {c : Code} {G : uG} {a0 : Nat} {uf : UH} {r : Int32} (hC : uC p s m args meth c G RX1 cX1_isGround 2 (some .boolean)) (hR : 1 ≤ R.frames ∧ 22 ≤ R.locals) (N : Nat) (u : UH) (s0 : Int32) (h : f_X1_isGround_32 N (ub G) (ug G) a0 u s0 = some (r, uf)) {H : Heap} {locs : List Loc} (hP : uP G u H) (hS : va_S (uA G) s.heap H locs) {ls : Array Slot} (hl : lv_has ls 2 []) : W p l e R s m args below meth c H locs 0 0 (MQ below (uQi G r uf) args s 0 0 (uA G)) (F0 m 32 ls [.int s0]) := by
  obtain ⟨⟨hx, hb, hml, hown, hts⟩, hKK⟩ := id hC
  unfold f_X1_isGround_32 at h
  obtain ⟨c1, h⟩ := mif_n h
  obtain ⟨hr1, hr2⟩ := uret_n h
  subst hr1
  subst hr2
  exact u_zret hC (uFit_n c1).1 hP hS dX1_isGround_32
def f_X1_isGround_31 (N b : Nat) (g : uEnv) (a0 : Nat) (u : UH) : Option (Int32 × UH) :=
    f_X1_isGround_32 N b g a0 u 0
set_option maxHeartbeats 4000000 in
set_option maxRecDepth 100000 in
theorem zz_X1_isGround_31 {G : uG} {a0 : Nat} {uf : UH} {r : Int32} (N : Nat) (u : UH) (h : f_X1_isGround_31 N (ub G) (ug G) a0 u = some (r, uf)) : uf.1 = u.1 ∧ uf.2.1 = u.2.1 := by
  unfold f_X1_isGround_31 at h
  have hq := zz_X1_isGround_32 (G := G) (a0 := a0) N u 0 h
  exact ⟨by omega, by omega⟩
set_option maxHeartbeats 4000000 in
set_option maxRecDepth 100000 in
theorem w_X1_isGround_31 {p : Program} {l : Launch} {e : Env} {R : Room} {s : State} {m : MethodId} {args : Array Value} {below : List Frame} {meth : Method} {c : Code} {G : uG} {a0 : Nat} {uf : UH} {r : Int32} (hC : uC p s m args meth c G RX1 cX1_isGround 2 (some .boolean)) (hR : 1 ≤ R.frames ∧ 22 ≤ R.locals) (N : Nat) (u : UH) (h : f_X1_isGround_31 N (ub G) (ug G) a0 u = some (r, uf)) {H : Heap} {locs : List Loc} (hP : uP G u H) (hS : va_S (uA G) s.heap H locs) {ls : Array Slot} (hl : lv_has ls 2 []) : W p l e R s m args below meth c H locs 0 0 (MQ below (uQi G r uf) args s 0 0 (uA G)) (F0 m 31 ls []) := by
  obtain ⟨⟨hx, hb, hml, hown, hts⟩, hKK⟩ := id hC
  unfold f_X1_isGround_31 at h
  refine lv_iconst (v := 0) hx hb dX1_isGround_31 (by decide) ?_
  exact w_X1_isGround_32 hC hR N u 0 h hP hS (lv_sub hl [] rfl)
def f_X1_isGround (N b : Nat) (g : uEnv) (u : UH) (a0 : Nat) (x1 : Int32) : Option (Int32 × UH) :=
    (uGR u a0 0 2).bind fun o1 =>
    ucase o1 (
    f_X1_isGround_31 N b g a0 u) fun a2 =>
    (uGR u a0 0 2).bind fun o3 =>
    (o3).bind fun a4 =>
    (uGR u a4 3 0).bind fun o5 =>
    (o5).bind fun a6 =>
    if uIs u a6 18 = true then
    ucall (f_J2_size N b g u a6) fun r10 u8 =>
    ucall (f_X1_in N b g u8 x1 0 (r10 - 1)) fun r13 u11 =>
    if r13 = 0 then
    f_X1_isGround_31 N b g a0 u11
    else
    f_X1_isGround_32 N b g a0 u11 1
    else none
set_option maxHeartbeats 4000000 in
set_option maxRecDepth 100000 in
theorem zz_X1_isGround_0 {G : uG} {a0 : Nat} {uf : UH} {r : Int32} (N : Nat) (u : UH) (x1 : Int32) (h : f_X1_isGround N (ub G) (ug G) u a0 x1 = some (r, uf)) : uf.1 = u.1 ∧ uf.2.1 = u.2.1 := by
  unfold f_X1_isGround at h
  obtain ⟨o1, ho1, h⟩ := mbind_n h
  rcases o1 with _ | a2
  · have h := ucase_n h
    have hq := zz_X1_isGround_31 (G := G) (a0 := a0) N u h
    exact ⟨by omega, by omega⟩
  · have h := ucase_s h
    obtain ⟨o3, ho3, h⟩ := mbind_n h
    obtain ⟨a4, ha4, hha4⟩ := mbind_n h
    subst ha4
    have h := hha4
    obtain ⟨o5, ho5, h⟩ := mbind_n h
    obtain ⟨a6, ha6, hha6⟩ := mbind_n h
    subst ha6
    have h := hha6
    obtain ⟨c7, h⟩ := mif_n h
    obtain ⟨r10, u8, c9, h⟩ := ucall_n h
    have zu8 := zz_J2_size N (ub G) (ug G) u a6 r10 u8 c9
    obtain ⟨r13, u11, c12, h⟩ := ucall_n h
    have zu11 := zz_X1_in N (ub G) (ug G) u8 x1 0 (r10 - 1) r13 u11 c12
    by_cases c14 : r13 = 0
    · have h := mif_t c14 h
      have hq := zz_X1_isGround_31 (G := G) (a0 := a0) N u11 h
      exact ⟨by omega, by omega⟩
    · have h := mif_f c14 h
      have hq := zz_X1_isGround_32 (G := G) (a0 := a0) N u11 1 h
      exact ⟨by omega, by omega⟩
set_option maxHeartbeats 4000000 in
set_option maxRecDepth 100000 in
theorem w_X1_isGround_0 {p : Program} {l : Launch} {e : Env} {R : Room} {s : State} {m : MethodId} {args : Array Value} {below : List Frame} {meth : Method} {c : Code} {G : uG} {a0 : Nat} {uf : UH} {r : Int32} (hC : uC p s m args meth c G RX1 cX1_isGround 2 (some .boolean)) (hR : 1 ≤ R.frames ∧ 22 ≤ R.locals) (N : Nat) (u : UH) (x1 : Int32) (h : f_X1_isGround N (ub G) (ug G) u a0 x1 = some (r, uf)) {H : Heap} {locs : List Loc} (hP : uP G u H) (hS : va_S (uA G) s.heap H locs) {ls : Array Slot} (hl : lv_has ls 2 [(0, va_rf (some a0)), (1, .int x1)]) : W p l e R s m args below meth c H locs 0 0 (MQ below (uQi G r uf) args s 0 0 (uA G)) (F0 m 0 ls []) := by
  obtain ⟨⟨hx, hb, hml, hown, hts⟩, hKK⟩ := id hC
  unfold f_X1_isGround at h
  refine u_aload_n (r := some a0) hx hb dX1_isGround_0 rfl (lv_at hl 0 rfl) ?_
  obtain ⟨o1, ho1, h⟩ := mbind_n h
  refine u_get hC hP (uGR_n ho1) rfl in_X1 (by decide) q217 (fun _ h => h) dX1_isGround_1 ?_
  rcases o1 with _ | a2
  · have h := ucase_n h
    refine lv_ifnullN (tgt := 31) hx hb dX1_isGround_4 (by decide) ?_
    exact w_X1_isGround_31 hC hR N u h hP hS (lv_sub hl [] rfl)
  · have h := ucase_s h
    refine lv_ifnull hx hb dX1_isGround_4 ?_
    refine lv_iload_n hx hb dX1_isGround_7 rfl (lv_at hl 1 rfl) ?_
    refine lv_iconst (v := 0) hx hb dX1_isGround_8 (by decide) ?_
    refine u_aload_n (r := some a0) hx hb dX1_isGround_9 rfl (lv_at hl 0 rfl) ?_
    obtain ⟨o3, ho3, h⟩ := mbind_n h
    refine u_get hC hP (uGR_n ho3) rfl in_X1 (by decide) q217 (fun _ h => h) dX1_isGround_10 ?_
    obtain ⟨a4, ha4, hha4⟩ := mbind_n h
    subst ha4
    have h := hha4
    obtain ⟨o5, ho5, h⟩ := mbind_n h
    refine u_getN hC hP (uGR_n ho5) rfl in_X4 (by decide) q291 (fun _ h => h) dX1_isGround_13 ?_
    obtain ⟨a6, ha6, hha6⟩ := mbind_n h
    subst ha6
    have h := hha6
    obtain ⟨c7, h⟩ := mif_n h
    obtain ⟨r10, u8, c9, h⟩ := ucall_n h
    have zu8 := zz_J2_size N (ub G) (ug G) u a6 r10 u8 c9
    refine u_calli (va_runV (As := []) (rest := [.int 0, .int x1]) hC.1 (met_J2_size l N G u a6 r10 u8 c9) (cwV 0 hts (lw_V q1063 q894 q895 q102 q896) rfl rfl rfl (by decide +kernel) ⟨Nat.le_trans (Nat.le_of_ble_eq_true rfl) hR.1, Nat.le_trans (Nat.le_of_ble_eq_true rfl) hR.2⟩) ⟨uPc_blind, u_rcv hC hP c7 rfl, fun U hU hW => u_pre hC hP hS hU hW⟩ rfl rfl hl.1 rfl (lv_room (Nat.le_of_ble_eq_true rfl)) dX1_isGround_16 ⟨Nat.zero_le _, Nat.zero_le _⟩) hS (fun H locs hP hS => ?_)
    refine lv_iconst (v := 1) hx hb dX1_isGround_19 (by decide) ?_
    refine lv_isub hx hb dX1_isGround_20 ?_
    obtain ⟨r13, u11, c12, h⟩ := ucall_n h
    have zu11 := zz_X1_in N (ub G) (ug G) u8 x1 0 (r10 - 1) r13 u11 c12
    refine u_calli (va_runS (As := [.int x1, .int 0, .int (r10 - 1)]) (rest := []) hC.1 (met_X1_in l N G u8 x1 0 (r10 - 1) r13 u11 c12) (va_cwS 3 hts (lw_S q273 q274 q98 q275) rfl rfl rfl (by decide +kernel) ⟨Nat.le_trans (Nat.le_of_ble_eq_true rfl) hR.1, Nat.le_trans (Nat.le_of_ble_eq_true rfl) hR.2⟩) ⟨uPc_blind, fun U hU hW => u_pre hC hP hS hU hW⟩ rfl rfl hl.1 rfl (lv_room (Nat.le_of_ble_eq_true rfl)) dX1_isGround_21 ⟨Nat.zero_le _, Nat.zero_le _⟩) hS (fun H locs hP hS => ?_)
    refine lv_if_eq (tgt := 31) hx hb dX1_isGround_24 (by decide) (fun c14 => ?_) (fun c14 => ?_)
    · have h := mif_t c14 h
      exact w_X1_isGround_31 hC hR N u11 h hP hS (lv_sub hl [] rfl)
    · have h := mif_f c14 h
      refine lv_iconst (v := 1) hx hb dX1_isGround_27 (by decide) ?_
      refine lv_goto (tgt := 32) hx hb dX1_isGround_28 (by decide) ?_
      exact w_X1_isGround_32 hC hR N u11 1 h hP hS (lv_sub hl [] rfl)
theorem zz_X1_isGround (N b : Nat) (g : uEnv) (u : UH) (a0 : Nat) (x1 : Int32) (r : Int32) (uf : UH) (h : f_X1_isGround N b g u a0 x1 = some (r, uf)) : uf.1 = u.1 ∧ uf.2.1 = u.2.1 :=
  zz_X1_isGround_0 (G := ((fun _ => 0, fun _ _ => 0), fun _ => 0, b, g)) (a0 := a0) N u x1 h
theorem met_X1_isGround (l : Launch) (N : Nat) (G : uG) (u : UH) (a0 : Nat) (x1 : Int32) (r : Int32) (uf : UH) (h : f_X1_isGround N (ub G) (ug G) u a0 x1 = some (r, uf)) : Met l yX1_isGround (ws_ yX1_isGround cX1_isGround 2 (some .boolean)) ({ frames := 1, cells := 0, slots := 0, locals := 22 }) (uPc G u [.ref a0, .int x1]) (uQi G r uf) 0 0 (uA G) := by
  exact u_met (own := RX1) (by decide +kernel) rfl (Nat.le_of_ble_eq_true rfl) (fun hC hn hsz ls hl hP => w_X1_isGround_0 hC ⟨Nat.le_refl _, Nat.le_refl _⟩ N u x1 h hP va_S.rf hl)
def f_X1_grip_57 (N b : Nat) (g : uEnv) (a0 : Nat) (u : UH) (s0 : Int32) : Option (Int32 × UH) :=
    some (s0, u)
set_option maxHeartbeats 4000000 in
set_option maxRecDepth 100000 in
theorem zz_X1_grip_57 {G : uG} {a0 : Nat} {uf : UH} {r : Int32} (N : Nat) (u : UH) (s0 : Int32) (h : f_X1_grip_57 N (ub G) (ug G) a0 u s0 = some (r, uf)) : uf.1 = u.1 ∧ uf.2.1 = u.2.1 := by
  unfold f_X1_grip_57 at h
  obtain ⟨hr1, hr2⟩ := uret_n h
  subst hr2
  exact ⟨by omega, by omega⟩
set_option maxHeartbeats 4000000 in
set_option maxRecDepth 100000 in
theorem w_X1_grip_57 {p : Program} {l : Launch} {e : Env} {R : Room} {s : State} {m : MethodId} {args : Array Value} {below : List Frame} {meth : Method} {c : Code} {G : uG} {a0 : Nat} {uf : UH} {r : Int32} (hC : uC p s m args meth c G RX1 cX1_grip 3 (some .int)) (hR : 3 ≤ R.frames ∧ 64 ≤ R.locals) (N : Nat) (u : UH) (s0 : Int32) (h : f_X1_grip_57 N (ub G) (ug G) a0 u s0 = some (r, uf)) {H : Heap} {locs : List Loc} (hP : uP G u H) (hS : va_S (uA G) s.heap H locs) {ls : Array Slot} (hl : lv_has ls 3 []) : W p l e R s m args below meth c H locs 0 0 (MQ below (uQi G r uf) args s 0 0 (uA G)) (F0 m 57 ls [.int s0]) := by
  obtain ⟨⟨hx, hb, hml, hown, hts⟩, hKK⟩ := id hC
  unfold f_X1_grip_57 at h
  obtain ⟨hr1, hr2⟩ := uret_n h
  subst hr1
  subst hr2
  exact u_iret hC hP hS dX1_grip_57
def f_X1_grip (N b : Nat) (g : uEnv) (u : UH) (a0 : Nat) (x1 : Int32) (x2 : Int32) : Option (Int32 × UH) :=
    if uIs u a0 0 = true then
    ucall (f_X1_isGround N b g u a0 x1) fun r4 u2 =>
    if r4 = 0 then
    if uIs u2 a0 0 = true then
    ucall (f_X1_refused N b g u2 a0 1) fun r37 u35 =>
    some (r37, u35)
    else none
    else
    ucall (f_X1_in N b g u2 x2 0 90) fun r8 u6 =>
    if r8 = 0 then
    if uIs u6 a0 0 = true then
    ucall (f_X1_refused N b g u6 a0 2) fun r13 u11 =>
    f_X1_grip_57 N b g a0 u11 r13
    else none
    else
    (uGR u6 a0 0 2).bind fun o14 =>
    (o14).bind fun a15 =>
    (uGR u6 a15 3 0).bind fun o16 =>
    (o16).bind fun a17 =>
    if uIs u6 a17 18 = true then
    ucall (f_J2_get N b g u6 a17 x1) fun o21 u19 =>
    (o21).bind fun a22 =>
    if uIs u19 a22 5 = true then
    (uGR u19 a22 5 2).bind fun o24 =>
    (o24).bind fun a25 =>
    if uIs u19 a25 7 = true then
    ucall (f_X9_value N b g u19 a25 x2) fun r29 u27 =>
    if uIs u27 a0 0 = true then
    ucall (f_X1_done N b g u27 a0 r29) fun r33 u31 =>
    f_X1_grip_57 N b g a0 u31 r33
    else none
    else none
    else none
    else none
    else none
set_option maxHeartbeats 4000000 in
set_option maxRecDepth 100000 in
theorem zz_X1_grip_0 {G : uG} {a0 : Nat} {uf : UH} {r : Int32} (N : Nat) (u : UH) (x1 : Int32) (x2 : Int32) (h : f_X1_grip N (ub G) (ug G) u a0 x1 x2 = some (r, uf)) : uf.1 = u.1 ∧ uf.2.1 = u.2.1 := by
  unfold f_X1_grip at h
  obtain ⟨c1, h⟩ := mif_n h
  obtain ⟨r4, u2, c3, h⟩ := ucall_n h
  have zu2 := zz_X1_isGround N (ub G) (ug G) u a0 x1 r4 u2 c3
  by_cases c5 : r4 = 0
  · have h := mif_t c5 h
    obtain ⟨c34, h⟩ := mif_n h
    obtain ⟨r37, u35, c36, h⟩ := ucall_n h
    have zu35 := zz_X1_refused N (ub G) (ug G) u2 a0 1 r37 u35 c36
    obtain ⟨hr1, hr2⟩ := uret_n h
    subst hr2
    exact ⟨by omega, by omega⟩
  · have h := mif_f c5 h
    obtain ⟨r8, u6, c7, h⟩ := ucall_n h
    have zu6 := zz_X1_in N (ub G) (ug G) u2 x2 0 90 r8 u6 c7
    by_cases c9 : r8 = 0
    · have h := mif_t c9 h
      obtain ⟨c10, h⟩ := mif_n h
      obtain ⟨r13, u11, c12, h⟩ := ucall_n h
      have zu11 := zz_X1_refused N (ub G) (ug G) u6 a0 2 r13 u11 c12
      have hq := zz_X1_grip_57 (G := G) (a0 := a0) N u11 r13 h
      exact ⟨by omega, by omega⟩
    · have h := mif_f c9 h
      obtain ⟨o14, ho14, h⟩ := mbind_n h
      obtain ⟨a15, ha15, hha15⟩ := mbind_n h
      subst ha15
      have h := hha15
      obtain ⟨o16, ho16, h⟩ := mbind_n h
      obtain ⟨a17, ha17, hha17⟩ := mbind_n h
      subst ha17
      have h := hha17
      obtain ⟨c18, h⟩ := mif_n h
      obtain ⟨o21, u19, c20, h⟩ := ucall_n h
      have zu19 := zz_J2_get N (ub G) (ug G) u6 a17 x1 o21 u19 c20
      obtain ⟨a22, ha22, hha22⟩ := mbind_n h
      subst ha22
      have h := hha22
      obtain ⟨c23, h⟩ := mif_n h
      obtain ⟨o24, ho24, h⟩ := mbind_n h
      obtain ⟨a25, ha25, hha25⟩ := mbind_n h
      subst ha25
      have h := hha25
      obtain ⟨c26, h⟩ := mif_n h
      obtain ⟨r29, u27, c28, h⟩ := ucall_n h
      have zu27 := zz_X9_value N (ub G) (ug G) u19 a25 x2 r29 u27 c28
      obtain ⟨c30, h⟩ := mif_n h
      obtain ⟨r33, u31, c32, h⟩ := ucall_n h
      have zu31 := zz_X1_done N (ub G) (ug G) u27 a0 r29 r33 u31 c32
      have hq := zz_X1_grip_57 (G := G) (a0 := a0) N u31 r33 h
      exact ⟨by omega, by omega⟩
set_option maxHeartbeats 4000000 in
set_option maxRecDepth 100000 in
theorem w_X1_grip_0 {p : Program} {l : Launch} {e : Env} {R : Room} {s : State} {m : MethodId} {args : Array Value} {below : List Frame} {meth : Method} {c : Code} {G : uG} {a0 : Nat} {uf : UH} {r : Int32} (hC : uC p s m args meth c G RX1 cX1_grip 3 (some .int)) (hR : 3 ≤ R.frames ∧ 64 ≤ R.locals) (N : Nat) (u : UH) (x1 : Int32) (x2 : Int32) (h : f_X1_grip N (ub G) (ug G) u a0 x1 x2 = some (r, uf)) {H : Heap} {locs : List Loc} (hP : uP G u H) (hS : va_S (uA G) s.heap H locs) {ls : Array Slot} (hl : lv_has ls 3 [(0, va_rf (some a0)), (1, .int x1), (2, .int x2)]) : W p l e R s m args below meth c H locs 0 0 (MQ below (uQi G r uf) args s 0 0 (uA G)) (F0 m 0 ls []) := by
  obtain ⟨⟨hx, hb, hml, hown, hts⟩, hKK⟩ := id hC
  unfold f_X1_grip at h
  refine u_aload_n (r := some a0) hx hb dX1_grip_0 rfl (lv_at hl 0 rfl) ?_
  refine lv_iload_n hx hb dX1_grip_1 rfl (lv_at hl 1 rfl) ?_
  obtain ⟨c1, h⟩ := mif_n h
  obtain ⟨r4, u2, c3, h⟩ := ucall_n h
  have zu2 := zz_X1_isGround N (ub G) (ug G) u a0 x1 r4 u2 c3
  refine u_calli (va_runV (As := [.int x1]) (rest := []) hC.1 (met_X1_isGround l N G u a0 x1 r4 u2 c3) (cwV 1 hts (lw_V q1080 q1082 qs15 q98 q1083) rfl rfl rfl (by decide +kernel) ⟨Nat.le_trans (Nat.le_of_ble_eq_true rfl) hR.1, Nat.le_trans (Nat.le_of_ble_eq_true rfl) hR.2⟩) ⟨uPc_blind, u_rcv hC hP c1 rfl, fun U hU hW => u_pre hC hP hS hU hW⟩ rfl rfl hl.1 rfl (lv_room (Nat.le_of_ble_eq_true rfl)) dX1_grip_2 ⟨Nat.zero_le _, Nat.zero_le _⟩) hS (fun H locs hP hS => ?_)
  refine lv_if_ne (tgt := 14) hx hb dX1_grip_5 (by decide) (fun c5 => ?_) (fun c5 => ?_)
  · have h := mif_f c5 h
    refine lv_iload_n hx hb dX1_grip_14 rfl (lv_at hl 2 rfl) ?_
    refine lv_iconst (v := 0) hx hb dX1_grip_15 (by decide) ?_
    refine lv_bipush (v := 90) hx hb dX1_grip_16 (by decide) ?_
    obtain ⟨r8, u6, c7, h⟩ := ucall_n h
    have zu6 := zz_X1_in N (ub G) (ug G) u2 x2 0 90 r8 u6 c7
    refine u_calli (va_runS (As := [.int x2, .int 0, .int 90]) (rest := []) hC.1 (met_X1_in l N G u2 x2 0 90 r8 u6 c7) (va_cwS 3 hts (lw_S q273 q274 q98 q275) rfl rfl rfl (by decide +kernel) ⟨Nat.le_trans (Nat.le_of_ble_eq_true rfl) hR.1, Nat.le_trans (Nat.le_of_ble_eq_true rfl) hR.2⟩) ⟨uPc_blind, fun U hU hW => u_pre hC hP hS hU hW⟩ rfl rfl hl.1 rfl (lv_room (Nat.le_of_ble_eq_true rfl)) dX1_grip_18 ⟨Nat.zero_le _, Nat.zero_le _⟩) hS (fun H locs hP hS => ?_)
    refine lv_if_eq (tgt := 52) hx hb dX1_grip_21 (by decide) (fun c9 => ?_) (fun c9 => ?_)
    · have h := mif_t c9 h
      refine u_aload_n (r := some a0) hx hb dX1_grip_52 rfl (lv_at hl 0 rfl) ?_
      refine lv_iconst (v := 2) hx hb dX1_grip_53 (by decide) ?_
      obtain ⟨c10, h⟩ := mif_n h
      obtain ⟨r13, u11, c12, h⟩ := ucall_n h
      have zu11 := zz_X1_refused N (ub G) (ug G) u6 a0 2 r13 u11 c12
      refine u_calli (va_runV (As := [.int 2]) (rest := []) hC.1 (met_X1_refused l N G u6 a0 2 r13 u11 c12) (cwV 1 hts (lw_V q276 q278 qs0 q98 q279) rfl rfl rfl (by decide +kernel) ⟨Nat.le_trans (Nat.le_of_ble_eq_true rfl) hR.1, Nat.le_trans (Nat.le_of_ble_eq_true rfl) hR.2⟩) ⟨uPc_blind, u_rcv hC hP c10 rfl, fun U hU hW => u_pre hC hP hS hU hW⟩ rfl rfl hl.1 rfl (lv_room (Nat.le_of_ble_eq_true rfl)) dX1_grip_54 ⟨Nat.zero_le _, Nat.zero_le _⟩) hS (fun H locs hP hS => ?_)
      exact w_X1_grip_57 hC hR N u11 r13 h hP hS (lv_sub hl [] rfl)
    · have h := mif_f c9 h
      refine u_aload_n (r := some a0) hx hb dX1_grip_24 rfl (lv_at hl 0 rfl) ?_
      refine u_aload_n (r := some a0) hx hb dX1_grip_25 rfl (lv_at hl 0 rfl) ?_
      obtain ⟨o14, ho14, h⟩ := mbind_n h
      refine u_get hC hP (uGR_n ho14) rfl in_X1 (by decide) q217 (fun _ h => h) dX1_grip_26 ?_
      obtain ⟨a15, ha15, hha15⟩ := mbind_n h
      subst ha15
      have h := hha15
      obtain ⟨o16, ho16, h⟩ := mbind_n h
      refine u_getN hC hP (uGR_n ho16) rfl in_X4 (by decide) q291 (fun _ h => h) dX1_grip_29 ?_
      refine lv_iload_n hx hb dX1_grip_32 rfl (lv_at hl 1 rfl) ?_
      obtain ⟨a17, ha17, hha17⟩ := mbind_n h
      subst ha17
      have h := hha17
      obtain ⟨c18, h⟩ := mif_n h
      obtain ⟨o21, u19, c20, h⟩ := ucall_n h
      have zu19 := zz_J2_get N (ub G) (ug G) u6 a17 x1 o21 u19 c20
      refine u_callr (va_runV (As := [.int x1]) (rest := [va_rf (some a0)]) hC.1 (met_J2_get l N G u6 a17 x1 o21 u19 c20) (cwV 1 hts (lw_V q1084 q898 q899 q102 q900) rfl rfl rfl (by decide +kernel) ⟨Nat.le_trans (Nat.le_of_ble_eq_true rfl) hR.1, Nat.le_trans (Nat.le_of_ble_eq_true rfl) hR.2⟩) ⟨uPc_blind, u_rcv hC hP c18 rfl, fun U hU hW => u_pre hC hP hS hU hW⟩ rfl rfl hl.1 rfl (lv_room (Nat.le_of_ble_eq_true rfl)) dX1_grip_33 ⟨Nat.zero_le _, Nat.zero_le _⟩) hS (fun H locs hP hS => ?_)
      obtain ⟨a22, ha22, hha22⟩ := mbind_n h
      subst ha22
      have h := hha22
      obtain ⟨c23, h⟩ := mif_n h
      refine u_castS hC hP c23 rfl q1085 dX1_grip_36 ?_
      obtain ⟨o24, ho24, h⟩ := mbind_n h
      refine u_getN hC hP (uGR_n ho24) rfl in_X6 (by decide) q881 (fun _ h => h) dX1_grip_39 ?_
      refine lv_iload_n hx hb dX1_grip_42 rfl (lv_at hl 2 rfl) ?_
      obtain ⟨a25, ha25, hha25⟩ := mbind_n h
      subst ha25
      have h := hha25
      obtain ⟨c26, h⟩ := mif_n h
      obtain ⟨r29, u27, c28, h⟩ := ucall_n h
      have zu27 := zz_X9_value N (ub G) (ug G) u19 a25 x2 r29 u27 c28
      refine u_calli (va_runV (As := [.int x2]) (rest := [va_rf (some a0)]) hC.1 (met_X9_value l N G u19 a25 x2 r29 u27 c28) (cwV 1 hts (lw_V q1086 q1087 q1088 q124 q1089) rfl rfl rfl (by decide +kernel) ⟨Nat.le_trans (Nat.le_of_ble_eq_true rfl) hR.1, Nat.le_trans (Nat.le_of_ble_eq_true rfl) hR.2⟩) ⟨uPc_blind, u_rcv hC hP c26 rfl, fun U hU hW => u_pre hC hP hS hU hW⟩ rfl rfl hl.1 rfl (lv_room (Nat.le_of_ble_eq_true rfl)) dX1_grip_43 ⟨Nat.zero_le _, Nat.zero_le _⟩) hS (fun H locs hP hS => ?_)
      obtain ⟨c30, h⟩ := mif_n h
      obtain ⟨r33, u31, c32, h⟩ := ucall_n h
      have zu31 := zz_X1_done N (ub G) (ug G) u27 a0 r29 r33 u31 c32
      refine u_calli (va_runV (As := [.int r29]) (rest := []) hC.1 (met_X1_done l N G u27 a0 r29 r33 u31 c32) (cwV 1 hts (lw_V q1064 q1066 qs14 q98 q1067) rfl rfl rfl (by decide +kernel) ⟨Nat.le_trans (Nat.le_of_ble_eq_true rfl) hR.1, Nat.le_trans (Nat.le_of_ble_eq_true rfl) hR.2⟩) ⟨uPc_blind, u_rcv hC hP c30 rfl, fun U hU hW => u_pre hC hP hS hU hW⟩ rfl rfl hl.1 rfl (lv_room (Nat.le_of_ble_eq_true rfl)) dX1_grip_46 ⟨Nat.zero_le _, Nat.zero_le _⟩) hS (fun H locs hP hS => ?_)
      refine lv_goto (tgt := 57) hx hb dX1_grip_49 (by decide) ?_
      exact w_X1_grip_57 hC hR N u31 r33 h hP hS (lv_sub hl [] rfl)
  · have h := mif_t c5 h
    refine u_aload_n (r := some a0) hx hb dX1_grip_8 rfl (lv_at hl 0 rfl) ?_
    refine lv_iconst (v := 1) hx hb dX1_grip_9 (by decide) ?_
    obtain ⟨c34, h⟩ := mif_n h
    obtain ⟨r37, u35, c36, h⟩ := ucall_n h
    have zu35 := zz_X1_refused N (ub G) (ug G) u2 a0 1 r37 u35 c36
    refine u_calli (va_runV (As := [.int 1]) (rest := []) hC.1 (met_X1_refused l N G u2 a0 1 r37 u35 c36) (cwV 1 hts (lw_V q276 q278 qs0 q98 q279) rfl rfl rfl (by decide +kernel) ⟨Nat.le_trans (Nat.le_of_ble_eq_true rfl) hR.1, Nat.le_trans (Nat.le_of_ble_eq_true rfl) hR.2⟩) ⟨uPc_blind, u_rcv hC hP c34 rfl, fun U hU hW => u_pre hC hP hS hU hW⟩ rfl rfl hl.1 rfl (lv_room (Nat.le_of_ble_eq_true rfl)) dX1_grip_10 ⟨Nat.zero_le _, Nat.zero_le _⟩) hS (fun H locs hP hS => ?_)
    obtain ⟨hr1, hr2⟩ := uret_n h
    subst hr1
    subst hr2
    exact u_iret hC hP hS dX1_grip_13
theorem zz_X1_grip (N b : Nat) (g : uEnv) (u : UH) (a0 : Nat) (x1 : Int32) (x2 : Int32) (r : Int32) (uf : UH) (h : f_X1_grip N b g u a0 x1 x2 = some (r, uf)) : uf.1 = u.1 ∧ uf.2.1 = u.2.1 :=
  zz_X1_grip_0 (G := ((fun _ => 0, fun _ _ => 0), fun _ => 0, b, g)) (a0 := a0) N u x1 x2 h
theorem met_X1_grip (l : Launch) (N : Nat) (G : uG) (u : UH) (a0 : Nat) (x1 : Int32) (x2 : Int32) (r : Int32) (uf : UH) (h : f_X1_grip N (ub G) (ug G) u a0 x1 x2 = some (r, uf)) : Met l yX1_grip (ws_ yX1_grip cX1_grip 3 (some .int)) ({ frames := 3, cells := 0, slots := 0, locals := 64 }) (uPc G u [.ref a0, .int x1, .int x2]) (uQi G r uf) 0 0 (uA G) := by
  exact u_met (own := RX1) (by decide +kernel) rfl (Nat.le_of_ble_eq_true rfl) (fun hC hn hsz ls hl hP => w_X1_grip_0 hC ⟨Nat.le_refl _, Nat.le_refl _⟩ N u x1 x2 h hP va_S.rf hl)
def f_X1_ground_16 (N b : Nat) (g : uEnv) (a0 : Nat) (u : UH) : Option (Int32 × UH) :=
    if uIs u a0 0 = true then
    ucall (f_X1_denied N b g u a0 1) fun r4 u2 =>
    if uFit .boolean r4 = true then
    some (r4, u2)
    else none
    else none
set_option maxHeartbeats 4000000 in
set_option maxRecDepth 100000 in
theorem zz_X1_ground_16 {G : uG} {a0 : Nat} {uf : UH} {r : Int32} (N : Nat) (u : UH) (h : f_X1_ground_16 N (ub G) (ug G) a0 u = some (r, uf)) : uf.1 = u.1 ∧ uf.2.1 = u.2.1 := by
  unfold f_X1_ground_16 at h
  obtain ⟨c1, h⟩ := mif_n h
  obtain ⟨r4, u2, c3, h⟩ := ucall_n h
  have zu2 := zz_X1_denied N (ub G) (ug G) u a0 1 r4 u2 c3
  obtain ⟨c5, h⟩ := mif_n h
  obtain ⟨hr1, hr2⟩ := uret_n h
  subst hr2
  exact ⟨by omega, by omega⟩
set_option maxHeartbeats 4000000 in
set_option maxRecDepth 100000 in
theorem w_X1_ground_16 {p : Program} {l : Launch} {e : Env} {R : Room} {s : State} {m : MethodId} {args : Array Value} {below : List Frame} {meth : Method} {c : Code} {G : uG} {a0 : Nat} {uf : UH} {r : Int32} (hC : uC p s m args meth c G RX1 cX1_ground 3 (some .boolean)) (hR : 2 ≤ R.frames ∧ 43 ≤ R.locals) (N : Nat) (u : UH) (h : f_X1_ground_16 N (ub G) (ug G) a0 u = some (r, uf)) {H : Heap} {locs : List Loc} (hP : uP G u H) (hS : va_S (uA G) s.heap H locs) {ls : Array Slot} (hl : lv_has ls 3 [(0, va_rf (some a0))]) : W p l e R s m args below meth c H locs 0 0 (MQ below (uQi G r uf) args s 0 0 (uA G)) (F0 m 16 ls []) := by
  obtain ⟨⟨hx, hb, hml, hown, hts⟩, hKK⟩ := id hC
  unfold f_X1_ground_16 at h
  refine u_aload_n (r := some a0) hx hb dX1_ground_16 rfl (lv_at hl 0 rfl) ?_
  refine lv_iconst (v := 1) hx hb dX1_ground_17 (by decide) ?_
  obtain ⟨c1, h⟩ := mif_n h
  obtain ⟨r4, u2, c3, h⟩ := ucall_n h
  have zu2 := zz_X1_denied N (ub G) (ug G) u a0 1 r4 u2 c3
  refine u_calli (va_runV (As := [.int 1]) (rest := []) hC.1 (met_X1_denied l N G u a0 1 r4 u2 c3) (cwV 1 hts (lw_V q1101 q1103 qs16 q98 q1104) rfl rfl rfl (by decide +kernel) ⟨Nat.le_trans (Nat.le_of_ble_eq_true rfl) hR.1, Nat.le_trans (Nat.le_of_ble_eq_true rfl) hR.2⟩) ⟨uPc_blind, u_rcv hC hP c1 rfl, fun U hU hW => u_pre hC hP hS hU hW⟩ rfl rfl hl.1 rfl (lv_room (Nat.le_of_ble_eq_true rfl)) dX1_ground_18 ⟨Nat.zero_le _, Nat.zero_le _⟩) hS (fun H locs hP hS => ?_)
  obtain ⟨c5, h⟩ := mif_n h
  obtain ⟨hr1, hr2⟩ := uret_n h
  subst hr1
  subst hr2
  exact u_zret hC (uFit_n c5).1 hP hS dX1_ground_21
def f_X1_ground (N b : Nat) (g : uEnv) (u : UH) (a0 : Nat) (x1 : Int32) (x2 : Int32) : Option (Int32 × UH) :=
    if uIs u a0 0 = true then
    ucall (f_X1_isCell N b g u a0 x1) fun r4 u2 =>
    if r4 = 0 then
    f_X1_ground_16 N b g a0 u2
    else
    if uIs u2 a0 0 = true then
    ucall (f_X1_isGround N b g u2 a0 x2) fun r9 u7 =>
    if r9 = 0 then
    f_X1_ground_16 N b g a0 u7
    else
    (uGR u7 a0 0 7).bind fun o11 =>
    (o11).bind fun a12 =>
    (uGR u7 a12 12 5).bind fun o13 =>
    (o13).bind fun a14 =>
    (uLdR u7 a14 6 x1).bind fun o15 =>
    ucase o15 (
    (uGR u7 a0 0 7).bind fun o17 =>
    (o17).bind fun a18 =>
    (uGR u7 a18 12 4).bind fun o19 =>
    (o19).bind fun a20 =>
    (uStI b u7 a20 0 x1 x2).bind fun u21 =>
    if uIs u21 a0 0 = true then
    ucall (f_X1_granted N b g u21 a0) fun r25 u23 =>
    if uFit .boolean r25 = true then
    some (r25, u23)
    else none
    else none) fun a16 =>
    if uIs u7 a0 0 = true then
    ucall (f_X1_denied N b g u7 a0 5) fun r30 u28 =>
    if uFit .boolean r30 = true then
    some (r30, u28)
    else none
    else none
    else none
    else none
set_option maxHeartbeats 4000000 in
set_option maxRecDepth 100000 in
theorem zz_X1_ground_0 {G : uG} {a0 : Nat} {uf : UH} {r : Int32} (N : Nat) (u : UH) (x1 : Int32) (x2 : Int32) (h : f_X1_ground N (ub G) (ug G) u a0 x1 x2 = some (r, uf)) : uf.1 = u.1 ∧ uf.2.1 = u.2.1 := by
  unfold f_X1_ground at h
  obtain ⟨c1, h⟩ := mif_n h
  obtain ⟨r4, u2, c3, h⟩ := ucall_n h
  have zu2 := zz_X1_isCell N (ub G) (ug G) u a0 x1 r4 u2 c3
  by_cases c5 : r4 = 0
  · have h := mif_t c5 h
    have hq := zz_X1_ground_16 (G := G) (a0 := a0) N u2 h
    exact ⟨by omega, by omega⟩
  · have h := mif_f c5 h
    obtain ⟨c6, h⟩ := mif_n h
    obtain ⟨r9, u7, c8, h⟩ := ucall_n h
    have zu7 := zz_X1_isGround N (ub G) (ug G) u2 a0 x2 r9 u7 c8
    by_cases c10 : r9 = 0
    · have h := mif_t c10 h
      have hq := zz_X1_ground_16 (G := G) (a0 := a0) N u7 h
      exact ⟨by omega, by omega⟩
    · have h := mif_f c10 h
      obtain ⟨o11, ho11, h⟩ := mbind_n h
      obtain ⟨a12, ha12, hha12⟩ := mbind_n h
      subst ha12
      have h := hha12
      obtain ⟨o13, ho13, h⟩ := mbind_n h
      obtain ⟨a14, ha14, hha14⟩ := mbind_n h
      subst ha14
      have h := hha14
      obtain ⟨o15, ho15, h⟩ := mbind_n h
      rcases o15 with _ | a16
      · have h := ucase_n h
        obtain ⟨o17, ho17, h⟩ := mbind_n h
        obtain ⟨a18, ha18, hha18⟩ := mbind_n h
        subst ha18
        have h := hha18
        obtain ⟨o19, ho19, h⟩ := mbind_n h
        obtain ⟨a20, ha20, hha20⟩ := mbind_n h
        subst ha20
        have h := hha20
        obtain ⟨u21, hu21, h⟩ := mbind_n h
        have zu21 := uStI_sz hu21
        obtain ⟨c22, h⟩ := mif_n h
        obtain ⟨r25, u23, c24, h⟩ := ucall_n h
        have zu23 := zz_X1_granted N (ub G) (ug G) u21 a0 r25 u23 c24
        obtain ⟨c26, h⟩ := mif_n h
        obtain ⟨hr1, hr2⟩ := uret_n h
        subst hr2
        exact ⟨by omega, by omega⟩
      · have h := ucase_s h
        obtain ⟨c27, h⟩ := mif_n h
        obtain ⟨r30, u28, c29, h⟩ := ucall_n h
        have zu28 := zz_X1_denied N (ub G) (ug G) u7 a0 5 r30 u28 c29
        obtain ⟨c31, h⟩ := mif_n h
        obtain ⟨hr1, hr2⟩ := uret_n h
        subst hr2
        exact ⟨by omega, by omega⟩
set_option maxHeartbeats 4000000 in
set_option maxRecDepth 100000 in
theorem w_X1_ground_0 {p : Program} {l : Launch} {e : Env} {R : Room} {s : State} {m : MethodId} {args : Array Value} {below : List Frame} {meth : Method} {c : Code} {G : uG} {a0 : Nat} {uf : UH} {r : Int32} (hC : uC p s m args meth c G RX1 cX1_ground 3 (some .boolean)) (hR : 2 ≤ R.frames ∧ 43 ≤ R.locals) (N : Nat) (u : UH) (x1 : Int32) (x2 : Int32) (h : f_X1_ground N (ub G) (ug G) u a0 x1 x2 = some (r, uf)) {H : Heap} {locs : List Loc} (hP : uP G u H) (hS : va_S (uA G) s.heap H locs) {ls : Array Slot} (hl : lv_has ls 3 [(0, va_rf (some a0)), (1, .int x1), (2, .int x2)]) : W p l e R s m args below meth c H locs 0 0 (MQ below (uQi G r uf) args s 0 0 (uA G)) (F0 m 0 ls []) := by
  obtain ⟨⟨hx, hb, hml, hown, hts⟩, hKK⟩ := id hC
  unfold f_X1_ground at h
  refine u_aload_n (r := some a0) hx hb dX1_ground_0 rfl (lv_at hl 0 rfl) ?_
  refine lv_iload_n hx hb dX1_ground_1 rfl (lv_at hl 1 rfl) ?_
  obtain ⟨c1, h⟩ := mif_n h
  obtain ⟨r4, u2, c3, h⟩ := ucall_n h
  have zu2 := zz_X1_isCell N (ub G) (ug G) u a0 x1 r4 u2 c3
  refine u_calli (va_runV (As := [.int x1]) (rest := []) hC.1 (met_X1_isCell l N G u a0 x1 r4 u2 c3) (cwV 1 hts (lw_V q1194 q1196 qs18 q98 q1197) rfl rfl rfl (by decide +kernel) ⟨Nat.le_trans (Nat.le_of_ble_eq_true rfl) hR.1, Nat.le_trans (Nat.le_of_ble_eq_true rfl) hR.2⟩) ⟨uPc_blind, u_rcv hC hP c1 rfl, fun U hU hW => u_pre hC hP hS hU hW⟩ rfl rfl hl.1 rfl (lv_room (Nat.le_of_ble_eq_true rfl)) dX1_ground_2 ⟨Nat.zero_le _, Nat.zero_le _⟩) hS (fun H locs hP hS => ?_)
  refine lv_if_eq (tgt := 16) hx hb dX1_ground_5 (by decide) (fun c5 => ?_) (fun c5 => ?_)
  · have h := mif_t c5 h
    exact w_X1_ground_16 hC hR N u2 h hP hS (lv_sub hl [0] rfl)
  · have h := mif_f c5 h
    refine u_aload_n (r := some a0) hx hb dX1_ground_8 rfl (lv_at hl 0 rfl) ?_
    refine lv_iload_n hx hb dX1_ground_9 rfl (lv_at hl 2 rfl) ?_
    obtain ⟨c6, h⟩ := mif_n h
    obtain ⟨r9, u7, c8, h⟩ := ucall_n h
    have zu7 := zz_X1_isGround N (ub G) (ug G) u2 a0 x2 r9 u7 c8
    refine u_calli (va_runV (As := [.int x2]) (rest := []) hC.1 (met_X1_isGround l N G u2 a0 x2 r9 u7 c8) (cwV 1 hts (lw_V q1080 q1082 qs15 q98 q1083) rfl rfl rfl (by decide +kernel) ⟨Nat.le_trans (Nat.le_of_ble_eq_true rfl) hR.1, Nat.le_trans (Nat.le_of_ble_eq_true rfl) hR.2⟩) ⟨uPc_blind, u_rcv hC hP c6 rfl, fun U hU hW => u_pre hC hP hS hU hW⟩ rfl rfl hl.1 rfl (lv_room (Nat.le_of_ble_eq_true rfl)) dX1_ground_10 ⟨Nat.zero_le _, Nat.zero_le _⟩) hS (fun H locs hP hS => ?_)
    refine lv_if_ne (tgt := 22) hx hb dX1_ground_13 (by decide) (fun c10 => ?_) (fun c10 => ?_)
    · have h := mif_f c10 h
      refine u_aload_n (r := some a0) hx hb dX1_ground_22 rfl (lv_at hl 0 rfl) ?_
      obtain ⟨o11, ho11, h⟩ := mbind_n h
      refine u_get hC hP (uGR_n ho11) rfl in_X1 (by decide) q222 (fun _ h => h) dX1_ground_23 ?_
      obtain ⟨a12, ha12, hha12⟩ := mbind_n h
      subst ha12
      have h := hha12
      obtain ⟨o13, ho13, h⟩ := mbind_n h
      refine u_getN hC hP (uGR_n ho13) rfl in_X14 (by decide) q1147 (fun _ h => h) dX1_ground_26 ?_
      refine lv_iload_n hx hb dX1_ground_29 rfl (lv_at hl 1 rfl) ?_
      obtain ⟨a14, ha14, hha14⟩ := mbind_n h
      subst ha14
      have h := hha14
      obtain ⟨o15, ho15, h⟩ := mbind_n h
      refine u_aald hC hP ho15 rfl dX1_ground_30 ?_
      rcases o15 with _ | a16
      · have h := ucase_n h
        refine lv_ifnullN (tgt := 40) hx hb dX1_ground_31 (by decide) ?_
        refine u_aload_n (r := some a0) hx hb dX1_ground_40 rfl (lv_at hl 0 rfl) ?_
        obtain ⟨o17, ho17, h⟩ := mbind_n h
        refine u_get hC hP (uGR_n ho17) rfl in_X1 (by decide) q222 (fun _ h => h) dX1_ground_41 ?_
        obtain ⟨a18, ha18, hha18⟩ := mbind_n h
        subst ha18
        have h := hha18
        obtain ⟨o19, ho19, h⟩ := mbind_n h
        refine u_getN hC hP (uGR_n ho19) rfl in_X14 (by decide) q1143 (fun _ h => h) dX1_ground_44 ?_
        refine lv_iload_n hx hb dX1_ground_47 rfl (lv_at hl 1 rfl) ?_
        refine lv_iload_n hx hb dX1_ground_48 rfl (lv_at hl 2 rfl) ?_
        obtain ⟨a20, ha20, hha20⟩ := mbind_n h
        subst ha20
        have h := hha20
        obtain ⟨u21, hu21, h⟩ := mbind_n h
        have zu21 := uStI_sz hu21
        refine u_iast hC hP hS hu21 rfl dX1_ground_49 (fun H locs hP hS => ?_)
        refine u_aload_n (r := some a0) hx hb dX1_ground_50 rfl (lv_at hl 0 rfl) ?_
        obtain ⟨c22, h⟩ := mif_n h
        obtain ⟨r25, u23, c24, h⟩ := ucall_n h
        have zu23 := zz_X1_granted N (ub G) (ug G) u21 a0 r25 u23 c24
        refine u_calli (va_runV (As := []) (rest := []) hC.1 (met_X1_granted l N G u21 a0 r25 u23 c24) (cwV 0 hts (lw_V q1105 q1107 qs17 q98 q1108) rfl rfl rfl (by decide +kernel) ⟨Nat.le_trans (Nat.le_of_ble_eq_true rfl) hR.1, Nat.le_trans (Nat.le_of_ble_eq_true rfl) hR.2⟩) ⟨uPc_blind, u_rcv hC hP c22 rfl, fun U hU hW => u_pre hC hP hS hU hW⟩ rfl rfl hl.1 rfl (lv_room (Nat.le_of_ble_eq_true rfl)) dX1_ground_51 ⟨Nat.zero_le _, Nat.zero_le _⟩) hS (fun H locs hP hS => ?_)
        obtain ⟨c26, h⟩ := mif_n h
        obtain ⟨hr1, hr2⟩ := uret_n h
        subst hr1
        subst hr2
        exact u_zret hC (uFit_n c26).1 hP hS dX1_ground_54
      · have h := ucase_s h
        refine lv_ifnull hx hb dX1_ground_31 ?_
        refine u_aload_n (r := some a0) hx hb dX1_ground_34 rfl (lv_at hl 0 rfl) ?_
        refine lv_iconst (v := 5) hx hb dX1_ground_35 (by decide) ?_
        obtain ⟨c27, h⟩ := mif_n h
        obtain ⟨r30, u28, c29, h⟩ := ucall_n h
        have zu28 := zz_X1_denied N (ub G) (ug G) u7 a0 5 r30 u28 c29
        refine u_calli (va_runV (As := [.int 5]) (rest := []) hC.1 (met_X1_denied l N G u7 a0 5 r30 u28 c29) (cwV 1 hts (lw_V q1101 q1103 qs16 q98 q1104) rfl rfl rfl (by decide +kernel) ⟨Nat.le_trans (Nat.le_of_ble_eq_true rfl) hR.1, Nat.le_trans (Nat.le_of_ble_eq_true rfl) hR.2⟩) ⟨uPc_blind, u_rcv hC hP c27 rfl, fun U hU hW => u_pre hC hP hS hU hW⟩ rfl rfl hl.1 rfl (lv_room (Nat.le_of_ble_eq_true rfl)) dX1_ground_36 ⟨Nat.zero_le _, Nat.zero_le _⟩) hS (fun H locs hP hS => ?_)
        obtain ⟨c31, h⟩ := mif_n h
        obtain ⟨hr1, hr2⟩ := uret_n h
        subst hr1
        subst hr2
        exact u_zret hC (uFit_n c31).1 hP hS dX1_ground_39
    · have h := mif_t c10 h
      exact w_X1_ground_16 hC hR N u7 h hP hS (lv_sub hl [0] rfl)
theorem zz_X1_ground (N b : Nat) (g : uEnv) (u : UH) (a0 : Nat) (x1 : Int32) (x2 : Int32) (r : Int32) (uf : UH) (h : f_X1_ground N b g u a0 x1 x2 = some (r, uf)) : uf.1 = u.1 ∧ uf.2.1 = u.2.1 :=
  zz_X1_ground_0 (G := ((fun _ => 0, fun _ _ => 0), fun _ => 0, b, g)) (a0 := a0) N u x1 x2 h
theorem met_X1_ground (l : Launch) (N : Nat) (G : uG) (u : UH) (a0 : Nat) (x1 : Int32) (x2 : Int32) (r : Int32) (uf : UH) (h : f_X1_ground N (ub G) (ug G) u a0 x1 x2 = some (r, uf)) : Met l yX1_ground (ws_ yX1_ground cX1_ground 3 (some .boolean)) ({ frames := 2, cells := 0, slots := 0, locals := 43 }) (uPc G u [.ref a0, .int x1, .int x2]) (uQi G r uf) 0 0 (uA G) := by
  exact u_met (own := RX1) (by decide +kernel) rfl (Nat.le_of_ble_eq_true rfl) (fun hC hn hsz ls hl hP => w_X1_ground_0 hC ⟨Nat.le_refl _, Nat.le_refl _⟩ N u x1 x2 h hP va_S.rf hl)
def f_X1_height (N b : Nat) (g : uEnv) (u : UH) (a0 : Nat) (x1 : Int32) (x2 : Int32) : Option (Int32 × UH) :=
    if uIs u a0 0 = true then
    ucall (f_X1_isCell N b g u a0 x1) fun r4 u2 =>
    if r4 = 0 then
    if uIs u2 a0 0 = true then
    ucall (f_X1_denied N b g u2 a0 1) fun r28 u26 =>
    if uFit .boolean r28 = true then
    some (r28, u26)
    else none
    else none
    else
    ucall (f_X1_in N b g u2 x2 0 999) fun r8 u6 =>
    if r8 = 0 then
    if uIs u6 a0 0 = true then
    ucall (f_X1_denied N b g u6 a0 2) fun r23 u21 =>
    if uFit .boolean r23 = true then
    some (r23, u21)
    else none
    else none
    else
    (uGR u6 a0 0 7).bind fun o10 =>
    (o10).bind fun a11 =>
    (uGR u6 a11 12 3).bind fun o12 =>
    (o12).bind fun a13 =>
    (uStI b u6 a13 0 x1 x2).bind fun u14 =>
    if uIs u14 a0 0 = true then
    ucall (f_X1_granted N b g u14 a0) fun r18 u16 =>
    if uFit .boolean r18 = true then
    some (r18, u16)
    else none
    else none
    else none
set_option maxHeartbeats 4000000 in
set_option maxRecDepth 100000 in
theorem zz_X1_height_0 {G : uG} {a0 : Nat} {uf : UH} {r : Int32} (N : Nat) (u : UH) (x1 : Int32) (x2 : Int32) (h : f_X1_height N (ub G) (ug G) u a0 x1 x2 = some (r, uf)) : uf.1 = u.1 ∧ uf.2.1 = u.2.1 := by
  unfold f_X1_height at h
  obtain ⟨c1, h⟩ := mif_n h
  obtain ⟨r4, u2, c3, h⟩ := ucall_n h
  have zu2 := zz_X1_isCell N (ub G) (ug G) u a0 x1 r4 u2 c3
  by_cases c5 : r4 = 0
  · have h := mif_t c5 h
    obtain ⟨c25, h⟩ := mif_n h
    obtain ⟨r28, u26, c27, h⟩ := ucall_n h
    have zu26 := zz_X1_denied N (ub G) (ug G) u2 a0 1 r28 u26 c27
    obtain ⟨c29, h⟩ := mif_n h
    obtain ⟨hr1, hr2⟩ := uret_n h
    subst hr2
    exact ⟨by omega, by omega⟩
  · have h := mif_f c5 h
    obtain ⟨r8, u6, c7, h⟩ := ucall_n h
    have zu6 := zz_X1_in N (ub G) (ug G) u2 x2 0 999 r8 u6 c7
    by_cases c9 : r8 = 0
    · have h := mif_t c9 h
      obtain ⟨c20, h⟩ := mif_n h
      obtain ⟨r23, u21, c22, h⟩ := ucall_n h
      have zu21 := zz_X1_denied N (ub G) (ug G) u6 a0 2 r23 u21 c22
      obtain ⟨c24, h⟩ := mif_n h
      obtain ⟨hr1, hr2⟩ := uret_n h
      subst hr2
      exact ⟨by omega, by omega⟩
    · have h := mif_f c9 h
      obtain ⟨o10, ho10, h⟩ := mbind_n h
      obtain ⟨a11, ha11, hha11⟩ := mbind_n h
      subst ha11
      have h := hha11
      obtain ⟨o12, ho12, h⟩ := mbind_n h
      obtain ⟨a13, ha13, hha13⟩ := mbind_n h
      subst ha13
      have h := hha13
      obtain ⟨u14, hu14, h⟩ := mbind_n h
      have zu14 := uStI_sz hu14
      obtain ⟨c15, h⟩ := mif_n h
      obtain ⟨r18, u16, c17, h⟩ := ucall_n h
      have zu16 := zz_X1_granted N (ub G) (ug G) u14 a0 r18 u16 c17
      obtain ⟨c19, h⟩ := mif_n h
      obtain ⟨hr1, hr2⟩ := uret_n h
      subst hr2
      exact ⟨by omega, by omega⟩
set_option maxHeartbeats 4000000 in
set_option maxRecDepth 100000 in
theorem w_X1_height_0 {p : Program} {l : Launch} {e : Env} {R : Room} {s : State} {m : MethodId} {args : Array Value} {below : List Frame} {meth : Method} {c : Code} {G : uG} {a0 : Nat} {uf : UH} {r : Int32} (hC : uC p s m args meth c G RX1 cX1_height 3 (some .boolean)) (hR : 2 ≤ R.frames ∧ 43 ≤ R.locals) (N : Nat) (u : UH) (x1 : Int32) (x2 : Int32) (h : f_X1_height N (ub G) (ug G) u a0 x1 x2 = some (r, uf)) {H : Heap} {locs : List Loc} (hP : uP G u H) (hS : va_S (uA G) s.heap H locs) {ls : Array Slot} (hl : lv_has ls 3 [(0, va_rf (some a0)), (1, .int x1), (2, .int x2)]) : W p l e R s m args below meth c H locs 0 0 (MQ below (uQi G r uf) args s 0 0 (uA G)) (F0 m 0 ls []) := by
  obtain ⟨⟨hx, hb, hml, hown, hts⟩, hKK⟩ := id hC
  unfold f_X1_height at h
  refine u_aload_n (r := some a0) hx hb dX1_height_0 rfl (lv_at hl 0 rfl) ?_
  refine lv_iload_n hx hb dX1_height_1 rfl (lv_at hl 1 rfl) ?_
  obtain ⟨c1, h⟩ := mif_n h
  obtain ⟨r4, u2, c3, h⟩ := ucall_n h
  have zu2 := zz_X1_isCell N (ub G) (ug G) u a0 x1 r4 u2 c3
  refine u_calli (va_runV (As := [.int x1]) (rest := []) hC.1 (met_X1_isCell l N G u a0 x1 r4 u2 c3) (cwV 1 hts (lw_V q1194 q1196 qs18 q98 q1197) rfl rfl rfl (by decide +kernel) ⟨Nat.le_trans (Nat.le_of_ble_eq_true rfl) hR.1, Nat.le_trans (Nat.le_of_ble_eq_true rfl) hR.2⟩) ⟨uPc_blind, u_rcv hC hP c1 rfl, fun U hU hW => u_pre hC hP hS hU hW⟩ rfl rfl hl.1 rfl (lv_room (Nat.le_of_ble_eq_true rfl)) dX1_height_2 ⟨Nat.zero_le _, Nat.zero_le _⟩) hS (fun H locs hP hS => ?_)
  refine lv_if_ne (tgt := 14) hx hb dX1_height_5 (by decide) (fun c5 => ?_) (fun c5 => ?_)
  · have h := mif_f c5 h
    refine lv_iload_n hx hb dX1_height_14 rfl (lv_at hl 2 rfl) ?_
    refine lv_iconst (v := 0) hx hb dX1_height_15 (by decide) ?_
    refine lv_sipush (v := 999) hx hb dX1_height_16 (by decide) ?_
    obtain ⟨r8, u6, c7, h⟩ := ucall_n h
    have zu6 := zz_X1_in N (ub G) (ug G) u2 x2 0 999 r8 u6 c7
    refine u_calli (va_runS (As := [.int x2, .int 0, .int 999]) (rest := []) hC.1 (met_X1_in l N G u2 x2 0 999 r8 u6 c7) (va_cwS 3 hts (lw_S q273 q274 q98 q275) rfl rfl rfl (by decide +kernel) ⟨Nat.le_trans (Nat.le_of_ble_eq_true rfl) hR.1, Nat.le_trans (Nat.le_of_ble_eq_true rfl) hR.2⟩) ⟨uPc_blind, fun U hU hW => u_pre hC hP hS hU hW⟩ rfl rfl hl.1 rfl (lv_room (Nat.le_of_ble_eq_true rfl)) dX1_height_19 ⟨Nat.zero_le _, Nat.zero_le _⟩) hS (fun H locs hP hS => ?_)
    refine lv_if_ne (tgt := 31) hx hb dX1_height_22 (by decide) (fun c9 => ?_) (fun c9 => ?_)
    · have h := mif_f c9 h
      refine u_aload_n (r := some a0) hx hb dX1_height_31 rfl (lv_at hl 0 rfl) ?_
      obtain ⟨o10, ho10, h⟩ := mbind_n h
      refine u_get hC hP (uGR_n ho10) rfl in_X1 (by decide) q222 (fun _ h => h) dX1_height_32 ?_
      obtain ⟨a11, ha11, hha11⟩ := mbind_n h
      subst ha11
      have h := hha11
      obtain ⟨o12, ho12, h⟩ := mbind_n h
      refine u_getN hC hP (uGR_n ho12) rfl in_X14 (by decide) q1139 (fun _ h => h) dX1_height_35 ?_
      refine lv_iload_n hx hb dX1_height_38 rfl (lv_at hl 1 rfl) ?_
      refine lv_iload_n hx hb dX1_height_39 rfl (lv_at hl 2 rfl) ?_
      obtain ⟨a13, ha13, hha13⟩ := mbind_n h
      subst ha13
      have h := hha13
      obtain ⟨u14, hu14, h⟩ := mbind_n h
      have zu14 := uStI_sz hu14
      refine u_iast hC hP hS hu14 rfl dX1_height_40 (fun H locs hP hS => ?_)
      refine u_aload_n (r := some a0) hx hb dX1_height_41 rfl (lv_at hl 0 rfl) ?_
      obtain ⟨c15, h⟩ := mif_n h
      obtain ⟨r18, u16, c17, h⟩ := ucall_n h
      have zu16 := zz_X1_granted N (ub G) (ug G) u14 a0 r18 u16 c17
      refine u_calli (va_runV (As := []) (rest := []) hC.1 (met_X1_granted l N G u14 a0 r18 u16 c17) (cwV 0 hts (lw_V q1105 q1107 qs17 q98 q1108) rfl rfl rfl (by decide +kernel) ⟨Nat.le_trans (Nat.le_of_ble_eq_true rfl) hR.1, Nat.le_trans (Nat.le_of_ble_eq_true rfl) hR.2⟩) ⟨uPc_blind, u_rcv hC hP c15 rfl, fun U hU hW => u_pre hC hP hS hU hW⟩ rfl rfl hl.1 rfl (lv_room (Nat.le_of_ble_eq_true rfl)) dX1_height_42 ⟨Nat.zero_le _, Nat.zero_le _⟩) hS (fun H locs hP hS => ?_)
      obtain ⟨c19, h⟩ := mif_n h
      obtain ⟨hr1, hr2⟩ := uret_n h
      subst hr1
      subst hr2
      exact u_zret hC (uFit_n c19).1 hP hS dX1_height_45
    · have h := mif_t c9 h
      refine u_aload_n (r := some a0) hx hb dX1_height_25 rfl (lv_at hl 0 rfl) ?_
      refine lv_iconst (v := 2) hx hb dX1_height_26 (by decide) ?_
      obtain ⟨c20, h⟩ := mif_n h
      obtain ⟨r23, u21, c22, h⟩ := ucall_n h
      have zu21 := zz_X1_denied N (ub G) (ug G) u6 a0 2 r23 u21 c22
      refine u_calli (va_runV (As := [.int 2]) (rest := []) hC.1 (met_X1_denied l N G u6 a0 2 r23 u21 c22) (cwV 1 hts (lw_V q1101 q1103 qs16 q98 q1104) rfl rfl rfl (by decide +kernel) ⟨Nat.le_trans (Nat.le_of_ble_eq_true rfl) hR.1, Nat.le_trans (Nat.le_of_ble_eq_true rfl) hR.2⟩) ⟨uPc_blind, u_rcv hC hP c20 rfl, fun U hU hW => u_pre hC hP hS hU hW⟩ rfl rfl hl.1 rfl (lv_room (Nat.le_of_ble_eq_true rfl)) dX1_height_27 ⟨Nat.zero_le _, Nat.zero_le _⟩) hS (fun H locs hP hS => ?_)
      obtain ⟨c24, h⟩ := mif_n h
      obtain ⟨hr1, hr2⟩ := uret_n h
      subst hr1
      subst hr2
      exact u_zret hC (uFit_n c24).1 hP hS dX1_height_30
  · have h := mif_t c5 h
    refine u_aload_n (r := some a0) hx hb dX1_height_8 rfl (lv_at hl 0 rfl) ?_
    refine lv_iconst (v := 1) hx hb dX1_height_9 (by decide) ?_
    obtain ⟨c25, h⟩ := mif_n h
    obtain ⟨r28, u26, c27, h⟩ := ucall_n h
    have zu26 := zz_X1_denied N (ub G) (ug G) u2 a0 1 r28 u26 c27
    refine u_calli (va_runV (As := [.int 1]) (rest := []) hC.1 (met_X1_denied l N G u2 a0 1 r28 u26 c27) (cwV 1 hts (lw_V q1101 q1103 qs16 q98 q1104) rfl rfl rfl (by decide +kernel) ⟨Nat.le_trans (Nat.le_of_ble_eq_true rfl) hR.1, Nat.le_trans (Nat.le_of_ble_eq_true rfl) hR.2⟩) ⟨uPc_blind, u_rcv hC hP c25 rfl, fun U hU hW => u_pre hC hP hS hU hW⟩ rfl rfl hl.1 rfl (lv_room (Nat.le_of_ble_eq_true rfl)) dX1_height_10 ⟨Nat.zero_le _, Nat.zero_le _⟩) hS (fun H locs hP hS => ?_)
    obtain ⟨c29, h⟩ := mif_n h
    obtain ⟨hr1, hr2⟩ := uret_n h
    subst hr1
    subst hr2
    exact u_zret hC (uFit_n c29).1 hP hS dX1_height_13
theorem zz_X1_height (N b : Nat) (g : uEnv) (u : UH) (a0 : Nat) (x1 : Int32) (x2 : Int32) (r : Int32) (uf : UH) (h : f_X1_height N b g u a0 x1 x2 = some (r, uf)) : uf.1 = u.1 ∧ uf.2.1 = u.2.1 :=
  zz_X1_height_0 (G := ((fun _ => 0, fun _ _ => 0), fun _ => 0, b, g)) (a0 := a0) N u x1 x2 h
theorem met_X1_height (l : Launch) (N : Nat) (G : uG) (u : UH) (a0 : Nat) (x1 : Int32) (x2 : Int32) (r : Int32) (uf : UH) (h : f_X1_height N (ub G) (ug G) u a0 x1 x2 = some (r, uf)) : Met l yX1_height (ws_ yX1_height cX1_height 3 (some .boolean)) ({ frames := 2, cells := 0, slots := 0, locals := 43 }) (uPc G u [.ref a0, .int x1, .int x2]) (uQi G r uf) 0 0 (uA G) := by
  exact u_met (own := RX1) (by decide +kernel) rfl (Nat.le_of_ble_eq_true rfl) (fun hC hn hsz ls hl hP => w_X1_height_0 hC ⟨Nat.le_refl _, Nat.le_refl _⟩ N u x1 x2 h hP va_S.rf hl)
def f_X1_lost (N b : Nat) (g : uEnv) (u : UH) (a0 : Nat) (x1 : Int32) : Option (Int64 × UH) :=
    if uIs u a0 0 = true then
    ucall (f_X1_refused N b g u a0 x1) fun r4 u2 =>
    some (((r4.toInt64) + (-9223372036854775808)) + 1, u2)
    else none
set_option maxHeartbeats 4000000 in
set_option maxRecDepth 100000 in
theorem zz_X1_lost_0 {G : uG} {a0 : Nat} {uf : UH} {r : Int64} (N : Nat) (u : UH) (x1 : Int32) (h : f_X1_lost N (ub G) (ug G) u a0 x1 = some (r, uf)) : uf.1 = u.1 ∧ uf.2.1 = u.2.1 := by
  unfold f_X1_lost at h
  obtain ⟨c1, h⟩ := mif_n h
  obtain ⟨r4, u2, c3, h⟩ := ucall_n h
  have zu2 := zz_X1_refused N (ub G) (ug G) u a0 x1 r4 u2 c3
  obtain ⟨hr1, hr2⟩ := uret_n h
  subst hr2
  exact ⟨by omega, by omega⟩
set_option maxHeartbeats 4000000 in
set_option maxRecDepth 100000 in
theorem w_X1_lost_0 {p : Program} {l : Launch} {e : Env} {R : Room} {s : State} {m : MethodId} {args : Array Value} {below : List Frame} {meth : Method} {c : Code} {G : uG} {a0 : Nat} {uf : UH} {r : Int64} (hC : uC p s m args meth c G RX1 cX1_lost 2 (some .long)) (hR : 1 ≤ R.frames ∧ 21 ≤ R.locals) (N : Nat) (u : UH) (x1 : Int32) (h : f_X1_lost N (ub G) (ug G) u a0 x1 = some (r, uf)) {H : Heap} {locs : List Loc} (hP : uP G u H) (hS : va_S (uA G) s.heap H locs) {ls : Array Slot} (hl : lv_has ls 2 [(0, va_rf (some a0)), (1, .int x1)]) : W p l e R s m args below meth c H locs 0 0 (MQ below (uQl G r uf) args s 0 0 (uA G)) (F0 m 0 ls []) := by
  obtain ⟨⟨hx, hb, hml, hown, hts⟩, hKK⟩ := id hC
  unfold f_X1_lost at h
  refine u_aload_n (r := some a0) hx hb dX1_lost_0 rfl (lv_at hl 0 rfl) ?_
  refine lv_iload_n hx hb dX1_lost_1 rfl (lv_at hl 1 rfl) ?_
  obtain ⟨c1, h⟩ := mif_n h
  obtain ⟨r4, u2, c3, h⟩ := ucall_n h
  have zu2 := zz_X1_refused N (ub G) (ug G) u a0 x1 r4 u2 c3
  refine u_calli (va_runV (As := [.int x1]) (rest := []) hC.1 (met_X1_refused l N G u a0 x1 r4 u2 c3) (cwV 1 hts (lw_V q276 q278 qs0 q98 q279) rfl rfl rfl (by decide +kernel) ⟨Nat.le_trans (Nat.le_of_ble_eq_true rfl) hR.1, Nat.le_trans (Nat.le_of_ble_eq_true rfl) hR.2⟩) ⟨uPc_blind, u_rcv hC hP c1 rfl, fun U hU hW => u_pre hC hP hS hU hW⟩ rfl rfl hl.1 rfl (lv_room (Nat.le_of_ble_eq_true rfl)) dX1_lost_2 ⟨Nat.zero_le _, Nat.zero_le _⟩) hS (fun H locs hP hS => ?_)
  refine lv_i2l (v := r4.toInt64) hx hb dX1_lost_5 rfl ?_
  refine lv_ldc2 hx hb hown (hts _ q1433) dX1_lost_6 ?_
  refine lv_ladd hx hb dX1_lost_9 ?_
  refine lv_lconst (v := 1) hx hb dX1_lost_10 (by decide) ?_
  refine lv_ladd hx hb dX1_lost_11 ?_
  obtain ⟨hr1, hr2⟩ := uret_n h
  subst hr1
  subst hr2
  exact u_lret hC hP hS dX1_lost_12
theorem zz_X1_lost (N b : Nat) (g : uEnv) (u : UH) (a0 : Nat) (x1 : Int32) (r : Int64) (uf : UH) (h : f_X1_lost N b g u a0 x1 = some (r, uf)) : uf.1 = u.1 ∧ uf.2.1 = u.2.1 :=
  zz_X1_lost_0 (G := ((fun _ => 0, fun _ _ => 0), fun _ => 0, b, g)) (a0 := a0) N u x1 h
theorem met_X1_lost (l : Launch) (N : Nat) (G : uG) (u : UH) (a0 : Nat) (x1 : Int32) (r : Int64) (uf : UH) (h : f_X1_lost N (ub G) (ug G) u a0 x1 = some (r, uf)) : Met l yX1_lost (ws_ yX1_lost cX1_lost 2 (some .long)) ({ frames := 1, cells := 0, slots := 0, locals := 21 }) (uPc G u [.ref a0, .int x1]) (uQl G r uf) 0 0 (uA G) := by
  exact u_met (own := RX1) (by decide +kernel) rfl (Nat.le_of_ble_eq_true rfl) (fun hC hn hsz ls hl hP => w_X1_lost_0 hC ⟨Nat.le_refl _, Nat.le_refl _⟩ N u x1 h hP va_S.rf hl)
def f_X1_make_44 (N b : Nat) (g : uEnv) (a0 : Nat) (u : UH) : Option (Int32 × UH) :=
    if uIs u a0 0 = true then
    ucall (f_X1_refused N b g u a0 1) fun r4 u2 =>
    some (r4, u2)
    else none
set_option maxHeartbeats 4000000 in
set_option maxRecDepth 100000 in
theorem zz_X1_make_44 {G : uG} {a0 : Nat} {uf : UH} {r : Int32} (N : Nat) (u : UH) (h : f_X1_make_44 N (ub G) (ug G) a0 u = some (r, uf)) : uf.1 = u.1 ∧ uf.2.1 = u.2.1 := by
  unfold f_X1_make_44 at h
  obtain ⟨c1, h⟩ := mif_n h
  obtain ⟨r4, u2, c3, h⟩ := ucall_n h
  have zu2 := zz_X1_refused N (ub G) (ug G) u a0 1 r4 u2 c3
  obtain ⟨hr1, hr2⟩ := uret_n h
  subst hr2
  exact ⟨by omega, by omega⟩
set_option maxHeartbeats 4000000 in
set_option maxRecDepth 100000 in
theorem w_X1_make_44 {p : Program} {l : Launch} {e : Env} {R : Room} {s : State} {m : MethodId} {args : Array Value} {below : List Frame} {meth : Method} {c : Code} {G : uG} {a0 : Nat} {uf : UH} {r : Int32} (hC : uC p s m args meth c G RX1 cX1_make 5 (some .int)) (hR : 3 ≤ R.frames ∧ 64 ≤ R.locals) (N : Nat) (u : UH) (h : f_X1_make_44 N (ub G) (ug G) a0 u = some (r, uf)) {H : Heap} {locs : List Loc} (hP : uP G u H) (hS : va_S (uA G) s.heap H locs) {ls : Array Slot} (hl : lv_has ls 5 [(0, va_rf (some a0))]) : W p l e R s m args below meth c H locs 0 0 (MQ below (uQi G r uf) args s 0 0 (uA G)) (F0 m 44 ls []) := by
  obtain ⟨⟨hx, hb, hml, hown, hts⟩, hKK⟩ := id hC
  unfold f_X1_make_44 at h
  refine u_aload_n (r := some a0) hx hb dX1_make_44 rfl (lv_at hl 0 rfl) ?_
  refine lv_iconst (v := 1) hx hb dX1_make_45 (by decide) ?_
  obtain ⟨c1, h⟩ := mif_n h
  obtain ⟨r4, u2, c3, h⟩ := ucall_n h
  have zu2 := zz_X1_refused N (ub G) (ug G) u a0 1 r4 u2 c3
  refine u_calli (va_runV (As := [.int 1]) (rest := []) hC.1 (met_X1_refused l N G u a0 1 r4 u2 c3) (cwV 1 hts (lw_V q276 q278 qs0 q98 q279) rfl rfl rfl (by decide +kernel) ⟨Nat.le_trans (Nat.le_of_ble_eq_true rfl) hR.1, Nat.le_trans (Nat.le_of_ble_eq_true rfl) hR.2⟩) ⟨uPc_blind, u_rcv hC hP c1 rfl, fun U hU hW => u_pre hC hP hS hU hW⟩ rfl rfl hl.1 rfl (lv_room (Nat.le_of_ble_eq_true rfl)) dX1_make_46 ⟨Nat.zero_le _, Nat.zero_le _⟩) hS (fun H locs hP hS => ?_)
  obtain ⟨hr1, hr2⟩ := uret_n h
  subst hr1
  subst hr2
  exact u_iret hC hP hS dX1_make_49
def f_X1_make_112 (N b : Nat) (g : uEnv) (a0 : Nat) (k68 : UH → Int32 → Option Nat → Int32 → Option (Int32 × UH)) (u : UH) (x2 : Int32) (x3 : Option Nat) (x4 : Int32) (s0 : Int32) (s1 : Int32) (s2 : Int32) (s3 : Int32) (s4 : Int32) (s5 : Option Nat) : Option (Int32 × UH) :=
    ucall (f_J9_min N b g u s2 (s1 + s0)) fun r3 u1 =>
    ucall (f_J9_max N b g u1 s3 r3) fun r6 u4 =>
    (s5).bind fun a7 =>
    (uStI b u4 a7 0 s4 r6).bind fun u8 =>
    mlet (x4 + 1) fun y9 =>
    k68 u8 x2 x3 y9
set_option maxHeartbeats 4000000 in
set_option maxRecDepth 100000 in
theorem zz_X1_make_112 {G : uG} {a0 : Nat} {uf : UH} {r : Int32} (N : Nat) (k68 : UH → Int32 → Option Nat → Int32 → Option (Int32 × UH)) (hk68 : ∀ (u : UH) (x2 : Int32) (x3 : Option Nat) (x4 : Int32), k68 u x2 x3 x4 = some (r, uf) → uf.1 = u.1 ∧ uf.2.1 = u.2.1) (u : UH) (x2 : Int32) (x3 : Option Nat) (x4 : Int32) (s0 : Int32) (s1 : Int32) (s2 : Int32) (s3 : Int32) (s4 : Int32) (s5 : Option Nat) (h : f_X1_make_112 N (ub G) (ug G) a0 k68 u x2 x3 x4 s0 s1 s2 s3 s4 s5 = some (r, uf)) : uf.1 = u.1 ∧ uf.2.1 = u.2.1 := by
  unfold f_X1_make_112 at h
  obtain ⟨r3, u1, c2, h⟩ := ucall_n h
  have zu1 := zz_J9_min N (ub G) (ug G) u s2 (s1 + s0) r3 u1 c2
  obtain ⟨r6, u4, c5, h⟩ := ucall_n h
  have zu4 := zz_J9_max N (ub G) (ug G) u1 s3 r3 r6 u4 c5
  obtain ⟨a7, ha7, hha7⟩ := mbind_n h
  subst ha7
  have h := hha7
  obtain ⟨u8, hu8, h⟩ := mbind_n h
  have zu8 := uStI_sz hu8
  obtain ⟨y9, ey9⟩ : ∃ z : Int32, z = x4 + 1 := ⟨_, rfl⟩
  have h := mlet_at ey9 h
  have hq := hk68 u8 x2 x3 y9 h
  exact ⟨by omega, by omega⟩
set_option maxHeartbeats 4000000 in
set_option maxRecDepth 100000 in
theorem w_X1_make_112 {p : Program} {l : Launch} {e : Env} {R : Room} {s : State} {m : MethodId} {args : Array Value} {below : List Frame} {meth : Method} {c : Code} {G : uG} {a0 : Nat} {uf : UH} {r : Int32} (hC : uC p s m args meth c G RX1 cX1_make 5 (some .int)) (hR : 3 ≤ R.frames ∧ 64 ≤ R.locals) (N : Nat) (k68 : UH → Int32 → Option Nat → Int32 → Option (Int32 × UH)) (hk68 : ∀ (u : UH) (x2 : Int32) (x3 : Option Nat) (x4 : Int32), k68 u x2 x3 x4 = some (r, uf) → ∀ (H : Heap) (locs : List Loc), uP G u H → va_S (uA G) s.heap H locs → ∀ ls : Array Slot, lv_has ls 5 [(0, va_rf (some a0)), (2, .int x2), (3, va_rf x3), (4, .int x4)] → W p l e R s m args below meth c H locs 0 0 (MQ below (uQi G r uf) args s 0 0 (uA G)) (F0 m 68 ls [])) (u : UH) (x2 : Int32) (x3 : Option Nat) (x4 : Int32) (s0 : Int32) (s1 : Int32) (s2 : Int32) (s3 : Int32) (s4 : Int32) (s5 : Option Nat) (h : f_X1_make_112 N (ub G) (ug G) a0 k68 u x2 x3 x4 s0 s1 s2 s3 s4 s5 = some (r, uf)) {H : Heap} {locs : List Loc} (hP : uP G u H) (hS : va_S (uA G) s.heap H locs) {ls : Array Slot} (hl : lv_has ls 5 [(0, va_rf (some a0)), (2, .int x2), (3, va_rf x3), (4, .int x4)]) : W p l e R s m args below meth c H locs 0 0 (MQ below (uQi G r uf) args s 0 0 (uA G)) (F0 m 112 ls [.int s0, .int s1, .int s2, .int s3, .int s4, va_rf s5]) := by
  obtain ⟨⟨hx, hb, hml, hown, hts⟩, hKK⟩ := id hC
  unfold f_X1_make_112 at h
  refine lv_iadd hx hb dX1_make_112 ?_
  obtain ⟨r3, u1, c2, h⟩ := ucall_n h
  have zu1 := zz_J9_min N (ub G) (ug G) u s2 (s1 + s0) r3 u1 c2
  refine u_calli (va_runS (As := [.int s2, .int (s1 + s0)]) (rest := [.int s3, .int s4, va_rf s5]) hC.1 (met_J9_min l N G u s2 (s1 + s0) r3 u1 c2) (va_cwS 2 hts (lw_S q1833 q426 q113 q427) rfl rfl rfl (by decide +kernel) ⟨Nat.le_trans (Nat.le_of_ble_eq_true rfl) hR.1, Nat.le_trans (Nat.le_of_ble_eq_true rfl) hR.2⟩) ⟨uPc_blind, fun U hU hW => u_pre hC hP hS hU hW⟩ rfl rfl hl.1 rfl (lv_room (by simp only [List.map, u_cat]; exact Nat.le_of_ble_eq_true rfl)) dX1_make_113 ⟨Nat.zero_le _, Nat.zero_le _⟩) hS (fun H locs hP hS => ?_)
  obtain ⟨r6, u4, c5, h⟩ := ucall_n h
  have zu4 := zz_J9_max N (ub G) (ug G) u1 s3 r3 r6 u4 c5
  refine u_calli (va_runS (As := [.int s3, .int r3]) (rest := [.int s4, va_rf s5]) hC.1 (met_J9_max l N G u1 s3 r3 r6 u4 c5) (va_cwS 2 hts (lw_S q1745 q408 q113 q409) rfl rfl rfl (by decide +kernel) ⟨Nat.le_trans (Nat.le_of_ble_eq_true rfl) hR.1, Nat.le_trans (Nat.le_of_ble_eq_true rfl) hR.2⟩) ⟨uPc_blind, fun U hU hW => u_pre hC hP hS hU hW⟩ rfl rfl hl.1 rfl (lv_room (by simp only [List.map, u_cat]; exact Nat.le_of_ble_eq_true rfl)) dX1_make_116 ⟨Nat.zero_le _, Nat.zero_le _⟩) hS (fun H locs hP hS => ?_)
  obtain ⟨a7, ha7, hha7⟩ := mbind_n h
  subst ha7
  have h := hha7
  obtain ⟨u8, hu8, h⟩ := mbind_n h
  have zu8 := uStI_sz hu8
  refine u_iast hC hP hS hu8 rfl dX1_make_119 (fun H locs hP hS => ?_)
  obtain ⟨y9, ey9⟩ : ∃ z : Int32, z = x4 + 1 := ⟨_, rfl⟩
  have h := mlet_at ey9 h
  refine lv_iinc (v := y9) (lv' := [(4, .int y9), (0, va_rf (some a0)), (2, .int x2), (3, va_rf x3)]) hx hb dX1_make_120 hl (k := 3) rfl (by rw [ey9]; rfl) (by decide) (by simp [List.filter_cons, u_cat]) (fun ls hl => ?_)
  refine lv_goto (tgt := 68) hx hb dX1_make_123 (by decide) ?_
  exact hk68 u8 x2 x3 y9 h _ _ hP hS _ (lv_sub hl [1, 2, 3, 0] rfl)
def f_X1_make_68 (N b : Nat) (g : uEnv) (a0 : Nat) : Nat → UH → Int32 → Option Nat → Int32 → Option (Int32 × UH)
  | 0, _, _, _, _ => none
  | n + 1, u, x2, x3, x4 =>
    (uGR u a0 0 2).bind fun o1 =>
    (o1).bind fun a2 =>
    (uGI u a2 3 3).bind fun y3 =>
    if y3 ≤ x4 then
    if uIs u a0 0 = true then
    ucall (f_X1_deepest N b g u a0) fun r8 u6 =>
    if uIs u6 a0 0 = true then
    ucall (f_X1_done N b g u6 a0 r8) fun r12 u10 =>
    some (r12, u10)
    else none
    else none
    else
    (uGR u a0 0 14).bind fun o13 =>
    (uGR u a0 0 14).bind fun o14 =>
    (o14).bind fun a15 =>
    (uLdI u a15 0 x4).bind fun y16 =>
    if x4 = x2 then
    (x3).bind fun a23 =>
    if uIs u a23 8 = true then
    ucall (f_X10_one N b g u a23) fun r27 u25 =>
    f_X1_make_112 N b g a0 (f_X1_make_68 N b g a0 n) u25 x2 (some a23) x4 r27 y16 4 0 x4 o13
    else none
    else
    (x3).bind fun a18 =>
    if uIs u a18 8 = true then
    ucall (f_X10_each N b g u a18) fun r22 u20 =>
    f_X1_make_112 N b g a0 (f_X1_make_68 N b g a0 n) u20 x2 (some a18) x4 r22 y16 4 0 x4 o13
    else none
set_option maxHeartbeats 4000000 in
set_option maxRecDepth 100000 in
theorem zz_X1_make_68 {G : uG} {a0 : Nat} {uf : UH} {r : Int32} (N : Nat) : ∀ (n : Nat) (u : UH) (x2 : Int32) (x3 : Option Nat) (x4 : Int32), f_X1_make_68 N (ub G) (ug G) a0 n u x2 x3 x4 = some (r, uf) → uf.1 = u.1 ∧ uf.2.1 = u.2.1 := by
  intro n
  induction n with
  | zero =>
    intro u x2 x3 x4 h
    cases h
  | succ n ih =>
    intro u x2 x3 x4 h
    unfold f_X1_make_68 at h
    obtain ⟨o1, ho1, h⟩ := mbind_n h
    obtain ⟨a2, ha2, hha2⟩ := mbind_n h
    subst ha2
    have h := hha2
    obtain ⟨y3, hy3, h⟩ := mbind_n h
    by_cases c4 : y3 ≤ x4
    · have h := mif_t c4 h
      obtain ⟨c5, h⟩ := mif_n h
      obtain ⟨r8, u6, c7, h⟩ := ucall_n h
      have zu6 := zz_X1_deepest N (ub G) (ug G) u a0 r8 u6 c7
      obtain ⟨c9, h⟩ := mif_n h
      obtain ⟨r12, u10, c11, h⟩ := ucall_n h
      have zu10 := zz_X1_done N (ub G) (ug G) u6 a0 r8 r12 u10 c11
      obtain ⟨hr1, hr2⟩ := uret_n h
      subst hr2
      exact ⟨by omega, by omega⟩
    · have h := mif_f c4 h
      obtain ⟨o13, ho13, h⟩ := mbind_n h
      obtain ⟨o14, ho14, h⟩ := mbind_n h
      obtain ⟨a15, ha15, hha15⟩ := mbind_n h
      subst ha15
      have h := hha15
      obtain ⟨y16, hy16, h⟩ := mbind_n h
      by_cases c17 : x4 = x2
      · have h := mif_t c17 h
        obtain ⟨a23, ha23, hha23⟩ := mbind_n h
        subst ha23
        have h := hha23
        obtain ⟨c24, h⟩ := mif_n h
        obtain ⟨r27, u25, c26, h⟩ := ucall_n h
        have zu25 := zz_X10_one N (ub G) (ug G) u a23 r27 u25 c26
        have hq := zz_X1_make_112 (G := G) (a0 := a0) N (f_X1_make_68 N (ub G) (ug G) a0 n) ih u25 x2 (some a23) x4 r27 y16 4 0 x4 o13 h
        exact ⟨by omega, by omega⟩
      · have h := mif_f c17 h
        obtain ⟨a18, ha18, hha18⟩ := mbind_n h
        subst ha18
        have h := hha18
        obtain ⟨c19, h⟩ := mif_n h
        obtain ⟨r22, u20, c21, h⟩ := ucall_n h
        have zu20 := zz_X10_each N (ub G) (ug G) u a18 r22 u20 c21
        have hq := zz_X1_make_112 (G := G) (a0 := a0) N (f_X1_make_68 N (ub G) (ug G) a0 n) ih u20 x2 (some a18) x4 r22 y16 4 0 x4 o13 h
        exact ⟨by omega, by omega⟩
set_option maxHeartbeats 4000000 in
set_option maxRecDepth 100000 in
theorem w_X1_make_68 {p : Program} {l : Launch} {e : Env} {R : Room} {s : State} {m : MethodId} {args : Array Value} {below : List Frame} {meth : Method} {c : Code} {G : uG} {a0 : Nat} {uf : UH} {r : Int32} (hC : uC p s m args meth c G RX1 cX1_make 5 (some .int)) (hR : 3 ≤ R.frames ∧ 64 ≤ R.locals) (N : Nat) : ∀ (n : Nat) (u : UH) (x2 : Int32) (x3 : Option Nat) (x4 : Int32), f_X1_make_68 N (ub G) (ug G) a0 n u x2 x3 x4 = some (r, uf) → ∀ (H : Heap) (locs : List Loc), uP G u H → va_S (uA G) s.heap H locs → ∀ ls : Array Slot, lv_has ls 5 [(0, va_rf (some a0)), (2, .int x2), (3, va_rf x3), (4, .int x4)] → W p l e R s m args below meth c H locs 0 0 (MQ below (uQi G r uf) args s 0 0 (uA G)) (F0 m 68 ls []) := by
  obtain ⟨⟨hx, hb, hml, hown, hts⟩, hKK⟩ := id hC
  intro n
  induction n with
  | zero =>
    intro u x2 x3 x4 h
    cases h
  | succ n ih =>
    intro u x2 x3 x4 h H locs hP hS ls hl
    unfold f_X1_make_68 at h
    refine lv_iload hx hb dX1_make_68 (lv_at hl 3 rfl) ?_
    refine u_aload_n (r := some a0) hx hb dX1_make_70 rfl (lv_at hl 0 rfl) ?_
    obtain ⟨o1, ho1, h⟩ := mbind_n h
    refine u_get hC hP (uGR_n ho1) rfl in_X1 (by decide) q217 (fun _ h => h) dX1_make_71 ?_
    obtain ⟨a2, ha2, hha2⟩ := mbind_n h
    subst ha2
    have h := hha2
    obtain ⟨y3, hy3, h⟩ := mbind_n h
    refine u_getN hC hP (uGI_n hy3) rfl in_X4 (by decide) q299 (fun _ h => h) dX1_make_74 ?_
    refine lv_icmp_ge (tgt := 126) hx hb dX1_make_77 (by decide) (fun c4 => ?_) (fun c4 => ?_)
    · have h := mif_t c4 h
      refine u_aload_n (r := some a0) hx hb dX1_make_126 rfl (lv_at hl 0 rfl) ?_
      refine u_aload_n (r := some a0) hx hb dX1_make_127 rfl (lv_at hl 0 rfl) ?_
      obtain ⟨c5, h⟩ := mif_n h
      obtain ⟨r8, u6, c7, h⟩ := ucall_n h
      have zu6 := zz_X1_deepest N (ub G) (ug G) u a0 r8 u6 c7
      refine u_calli (va_runV (As := []) (rest := [va_rf (some a0)]) hC.1 (met_X1_deepest l N G u a0 r8 u6 c7) (cwV 0 hts (lw_V q1834 q1836 qs39 q98 q1837) rfl rfl rfl (by decide +kernel) ⟨Nat.le_trans (Nat.le_of_ble_eq_true rfl) hR.1, Nat.le_trans (Nat.le_of_ble_eq_true rfl) hR.2⟩) ⟨uPc_blind, u_rcv hC hP c5 rfl, fun U hU hW => u_pre hC hP hS hU hW⟩ rfl rfl hl.1 rfl (lv_room (Nat.le_of_ble_eq_true rfl)) dX1_make_128 ⟨Nat.zero_le _, Nat.zero_le _⟩) hS (fun H locs hP hS => ?_)
      obtain ⟨c9, h⟩ := mif_n h
      obtain ⟨r12, u10, c11, h⟩ := ucall_n h
      have zu10 := zz_X1_done N (ub G) (ug G) u6 a0 r8 r12 u10 c11
      refine u_calli (va_runV (As := [.int r8]) (rest := []) hC.1 (met_X1_done l N G u6 a0 r8 r12 u10 c11) (cwV 1 hts (lw_V q1064 q1066 qs14 q98 q1067) rfl rfl rfl (by decide +kernel) ⟨Nat.le_trans (Nat.le_of_ble_eq_true rfl) hR.1, Nat.le_trans (Nat.le_of_ble_eq_true rfl) hR.2⟩) ⟨uPc_blind, u_rcv hC hP c9 rfl, fun U hU hW => u_pre hC hP hS hU hW⟩ rfl rfl hl.1 rfl (lv_room (Nat.le_of_ble_eq_true rfl)) dX1_make_131 ⟨Nat.zero_le _, Nat.zero_le _⟩) hS (fun H locs hP hS => ?_)
      obtain ⟨hr1, hr2⟩ := uret_n h
      subst hr1
      subst hr2
      exact u_iret hC hP hS dX1_make_134
    · have h := mif_f c4 h
      refine u_aload_n (r := some a0) hx hb dX1_make_80 rfl (lv_at hl 0 rfl) ?_
      obtain ⟨o13, ho13, h⟩ := mbind_n h
      refine u_get hC hP (uGR_n ho13) rfl in_X1 (by decide) q229 (fun _ h => h) dX1_make_81 ?_
      refine lv_iload hx hb dX1_make_84 (lv_at hl 3 rfl) ?_
      refine lv_iconst (v := 0) hx hb dX1_make_86 (by decide) ?_
      refine lv_iconst (v := 4) hx hb dX1_make_87 (by decide) ?_
      refine u_aload_n (r := some a0) hx hb dX1_make_88 rfl (lv_at hl 0 rfl) ?_
      obtain ⟨o14, ho14, h⟩ := mbind_n h
      refine u_get hC hP (uGR_n ho14) rfl in_X1 (by decide) q229 (fun _ h => h) dX1_make_89 ?_
      refine lv_iload hx hb dX1_make_92 (lv_at hl 3 rfl) ?_
      obtain ⟨a15, ha15, hha15⟩ := mbind_n h
      subst ha15
      have h := hha15
      obtain ⟨y16, hy16, h⟩ := mbind_n h
      refine u_iald hC hP hy16 rfl dX1_make_94 ?_
      refine lv_iload hx hb dX1_make_95 (lv_at hl 3 rfl) ?_
      refine lv_iload_n hx hb dX1_make_97 rfl (lv_at hl 1 rfl) ?_
      refine lv_icmp_ne (tgt := 108) hx hb dX1_make_98 (by decide) (fun c17 => ?_) (fun c17 => ?_)
      · have h := mif_f c17 h
        refine u_aload_n (r := x3) hx hb dX1_make_108 rfl (lv_at hl 2 rfl) ?_
        obtain ⟨a18, ha18, hha18⟩ := mbind_n h
        subst ha18
        have h := hha18
        obtain ⟨c19, h⟩ := mif_n h
        obtain ⟨r22, u20, c21, h⟩ := ucall_n h
        have zu20 := zz_X10_each N (ub G) (ug G) u a18 r22 u20 c21
        refine u_calli (va_runV (As := []) (rest := [.int y16, .int 4, .int 0, .int x4, va_rf o13]) hC.1 (met_X10_each l N G u a18 r22 u20 c21) (cwV 0 hts (lw_V q1832 q1799 q1800 q127 q1801) rfl rfl rfl (by decide +kernel) ⟨Nat.le_trans (Nat.le_of_ble_eq_true rfl) hR.1, Nat.le_trans (Nat.le_of_ble_eq_true rfl) hR.2⟩) ⟨uPc_blind, u_rcv hC hP c19 rfl, fun U hU hW => u_pre hC hP hS hU hW⟩ rfl rfl hl.1 rfl (lv_room (by simp only [List.map, u_cat]; exact Nat.le_of_ble_eq_true rfl)) dX1_make_109 ⟨Nat.zero_le _, Nat.zero_le _⟩) hS (fun H locs hP hS => ?_)
        exact w_X1_make_112 hC hR N (f_X1_make_68 N (ub G) (ug G) a0 n) ih u20 x2 (some a18) x4 r22 y16 4 0 x4 o13 h hP hS (lv_sub hl [0, 1, 2, 3] rfl)
      · have h := mif_t c17 h
        refine u_aload_n (r := x3) hx hb dX1_make_101 rfl (lv_at hl 2 rfl) ?_
        obtain ⟨a23, ha23, hha23⟩ := mbind_n h
        subst ha23
        have h := hha23
        obtain ⟨c24, h⟩ := mif_n h
        obtain ⟨r27, u25, c26, h⟩ := ucall_n h
        have zu25 := zz_X10_one N (ub G) (ug G) u a23 r27 u25 c26
        refine u_calli (va_runV (As := []) (rest := [.int y16, .int 4, .int 0, .int x4, va_rf o13]) hC.1 (met_X10_one l N G u a23 r27 u25 c26) (cwV 0 hts (lw_V q1831 q1795 q1796 q127 q1797) rfl rfl rfl (by decide +kernel) ⟨Nat.le_trans (Nat.le_of_ble_eq_true rfl) hR.1, Nat.le_trans (Nat.le_of_ble_eq_true rfl) hR.2⟩) ⟨uPc_blind, u_rcv hC hP c24 rfl, fun U hU hW => u_pre hC hP hS hU hW⟩ rfl rfl hl.1 rfl (lv_room (by simp only [List.map, u_cat]; exact Nat.le_of_ble_eq_true rfl)) dX1_make_102 ⟨Nat.zero_le _, Nat.zero_le _⟩) hS (fun H locs hP hS => ?_)
        refine lv_goto (tgt := 112) hx hb dX1_make_105 (by decide) ?_
        exact w_X1_make_112 hC hR N (f_X1_make_68 N (ub G) (ug G) a0 n) ih u25 x2 (some a23) x4 r27 y16 4 0 x4 o13 h hP hS (lv_sub hl [0, 1, 2, 3] rfl)
def f_X1_make (N b : Nat) (g : uEnv) (u : UH) (a0 : Nat) (x1 : Int32) (x2 : Int32) : Option (Int32 × UH) :=
    (uGR u a0 0 2).bind fun o1 =>
    ucase o1 (
    f_X1_make_44 N b g a0 u) fun a2 =>
    (uGR u a0 0 2).bind fun o3 =>
    (o3).bind fun a4 =>
    (uGR u a4 3 1).bind fun o5 =>
    (o5).bind fun a6 =>
    if uIs u a6 18 = true then
    ucall (f_J2_size N b g u a6) fun r10 u8 =>
    ucall (f_X1_in N b g u8 x1 0 (r10 - 1)) fun r13 u11 =>
    if r13 = 0 then
    f_X1_make_44 N b g a0 u11
    else
    (uGR u11 a0 0 2).bind fun o15 =>
    (o15).bind fun a16 =>
    (uGI u11 a16 3 3).bind fun y17 =>
    ucall (f_X1_in N b g u11 x2 0 (y17 - 1)) fun r20 u18 =>
    if r20 = 0 then
    f_X1_make_44 N b g a0 u18
    else
    (uGR u18 a0 0 2).bind fun o22 =>
    (o22).bind fun a23 =>
    (uGR u18 a23 3 1).bind fun o24 =>
    (o24).bind fun a25 =>
    if uIs u18 a25 18 = true then
    ucall (f_J2_get N b g u18 a25 x1) fun o29 u27 =>
    (o29).bind fun a30 =>
    if uIs u27 a30 8 = true then
    f_X1_make_68 N b g a0 N u27 x2 (some a30) 0
    else none
    else none
    else none
set_option maxHeartbeats 4000000 in
set_option maxRecDepth 100000 in
theorem zz_X1_make_0 {G : uG} {a0 : Nat} {uf : UH} {r : Int32} (N : Nat) (u : UH) (x1 : Int32) (x2 : Int32) (h : f_X1_make N (ub G) (ug G) u a0 x1 x2 = some (r, uf)) : uf.1 = u.1 ∧ uf.2.1 = u.2.1 := by
  unfold f_X1_make at h
  obtain ⟨o1, ho1, h⟩ := mbind_n h
  rcases o1 with _ | a2
  · have h := ucase_n h
    have hq := zz_X1_make_44 (G := G) (a0 := a0) N u h
    exact ⟨by omega, by omega⟩
  · have h := ucase_s h
    obtain ⟨o3, ho3, h⟩ := mbind_n h
    obtain ⟨a4, ha4, hha4⟩ := mbind_n h
    subst ha4
    have h := hha4
    obtain ⟨o5, ho5, h⟩ := mbind_n h
    obtain ⟨a6, ha6, hha6⟩ := mbind_n h
    subst ha6
    have h := hha6
    obtain ⟨c7, h⟩ := mif_n h
    obtain ⟨r10, u8, c9, h⟩ := ucall_n h
    have zu8 := zz_J2_size N (ub G) (ug G) u a6 r10 u8 c9
    obtain ⟨r13, u11, c12, h⟩ := ucall_n h
    have zu11 := zz_X1_in N (ub G) (ug G) u8 x1 0 (r10 - 1) r13 u11 c12
    by_cases c14 : r13 = 0
    · have h := mif_t c14 h
      have hq := zz_X1_make_44 (G := G) (a0 := a0) N u11 h
      exact ⟨by omega, by omega⟩
    · have h := mif_f c14 h
      obtain ⟨o15, ho15, h⟩ := mbind_n h
      obtain ⟨a16, ha16, hha16⟩ := mbind_n h
      subst ha16
      have h := hha16
      obtain ⟨y17, hy17, h⟩ := mbind_n h
      obtain ⟨r20, u18, c19, h⟩ := ucall_n h
      have zu18 := zz_X1_in N (ub G) (ug G) u11 x2 0 (y17 - 1) r20 u18 c19
      by_cases c21 : r20 = 0
      · have h := mif_t c21 h
        have hq := zz_X1_make_44 (G := G) (a0 := a0) N u18 h
        exact ⟨by omega, by omega⟩
      · have h := mif_f c21 h
        obtain ⟨o22, ho22, h⟩ := mbind_n h
        obtain ⟨a23, ha23, hha23⟩ := mbind_n h
        subst ha23
        have h := hha23
        obtain ⟨o24, ho24, h⟩ := mbind_n h
        obtain ⟨a25, ha25, hha25⟩ := mbind_n h
        subst ha25
        have h := hha25
        obtain ⟨c26, h⟩ := mif_n h
        obtain ⟨o29, u27, c28, h⟩ := ucall_n h
        have zu27 := zz_J2_get N (ub G) (ug G) u18 a25 x1 o29 u27 c28
        obtain ⟨a30, ha30, hha30⟩ := mbind_n h
        subst ha30
        have h := hha30
        obtain ⟨c31, h⟩ := mif_n h
        have hq := zz_X1_make_68 (G := G) (a0 := a0) N N u27 x2 (some a30) 0 h
        exact ⟨by omega, by omega⟩
set_option maxHeartbeats 4000000 in
set_option maxRecDepth 100000 in
theorem w_X1_make_0 {p : Program} {l : Launch} {e : Env} {R : Room} {s : State} {m : MethodId} {args : Array Value} {below : List Frame} {meth : Method} {c : Code} {G : uG} {a0 : Nat} {uf : UH} {r : Int32} (hC : uC p s m args meth c G RX1 cX1_make 5 (some .int)) (hR : 3 ≤ R.frames ∧ 64 ≤ R.locals) (N : Nat) (u : UH) (x1 : Int32) (x2 : Int32) (h : f_X1_make N (ub G) (ug G) u a0 x1 x2 = some (r, uf)) {H : Heap} {locs : List Loc} (hP : uP G u H) (hS : va_S (uA G) s.heap H locs) {ls : Array Slot} (hl : lv_has ls 5 [(0, va_rf (some a0)), (1, .int x1), (2, .int x2)]) : W p l e R s m args below meth c H locs 0 0 (MQ below (uQi G r uf) args s 0 0 (uA G)) (F0 m 0 ls []) := by
  obtain ⟨⟨hx, hb, hml, hown, hts⟩, hKK⟩ := id hC
  unfold f_X1_make at h
  refine u_aload_n (r := some a0) hx hb dX1_make_0 rfl (lv_at hl 0 rfl) ?_
  obtain ⟨o1, ho1, h⟩ := mbind_n h
  refine u_get hC hP (uGR_n ho1) rfl in_X1 (by decide) q217 (fun _ h => h) dX1_make_1 ?_
  rcases o1 with _ | a2
  · have h := ucase_n h
    refine lv_ifnullN (tgt := 44) hx hb dX1_make_4 (by decide) ?_
    exact w_X1_make_44 hC hR N u h hP hS (lv_sub hl [0] rfl)
  · have h := ucase_s h
    refine lv_ifnull hx hb dX1_make_4 ?_
    refine lv_iload_n hx hb dX1_make_7 rfl (lv_at hl 1 rfl) ?_
    refine lv_iconst (v := 0) hx hb dX1_make_8 (by decide) ?_
    refine u_aload_n (r := some a0) hx hb dX1_make_9 rfl (lv_at hl 0 rfl) ?_
    obtain ⟨o3, ho3, h⟩ := mbind_n h
    refine u_get hC hP (uGR_n ho3) rfl in_X1 (by decide) q217 (fun _ h => h) dX1_make_10 ?_
    obtain ⟨a4, ha4, hha4⟩ := mbind_n h
    subst ha4
    have h := hha4
    obtain ⟨o5, ho5, h⟩ := mbind_n h
    refine u_getN hC hP (uGR_n ho5) rfl in_X4 (by decide) q294 (fun _ h => h) dX1_make_13 ?_
    obtain ⟨a6, ha6, hha6⟩ := mbind_n h
    subst ha6
    have h := hha6
    obtain ⟨c7, h⟩ := mif_n h
    obtain ⟨r10, u8, c9, h⟩ := ucall_n h
    have zu8 := zz_J2_size N (ub G) (ug G) u a6 r10 u8 c9
    refine u_calli (va_runV (As := []) (rest := [.int 0, .int x1]) hC.1 (met_J2_size l N G u a6 r10 u8 c9) (cwV 0 hts (lw_V q1063 q894 q895 q102 q896) rfl rfl rfl (by decide +kernel) ⟨Nat.le_trans (Nat.le_of_ble_eq_true rfl) hR.1, Nat.le_trans (Nat.le_of_ble_eq_true rfl) hR.2⟩) ⟨uPc_blind, u_rcv hC hP c7 rfl, fun U hU hW => u_pre hC hP hS hU hW⟩ rfl rfl hl.1 rfl (lv_room (Nat.le_of_ble_eq_true rfl)) dX1_make_16 ⟨Nat.zero_le _, Nat.zero_le _⟩) hS (fun H locs hP hS => ?_)
    refine lv_iconst (v := 1) hx hb dX1_make_19 (by decide) ?_
    refine lv_isub hx hb dX1_make_20 ?_
    obtain ⟨r13, u11, c12, h⟩ := ucall_n h
    have zu11 := zz_X1_in N (ub G) (ug G) u8 x1 0 (r10 - 1) r13 u11 c12
    refine u_calli (va_runS (As := [.int x1, .int 0, .int (r10 - 1)]) (rest := []) hC.1 (met_X1_in l N G u8 x1 0 (r10 - 1) r13 u11 c12) (va_cwS 3 hts (lw_S q273 q274 q98 q275) rfl rfl rfl (by decide +kernel) ⟨Nat.le_trans (Nat.le_of_ble_eq_true rfl) hR.1, Nat.le_trans (Nat.le_of_ble_eq_true rfl) hR.2⟩) ⟨uPc_blind, fun U hU hW => u_pre hC hP hS hU hW⟩ rfl rfl hl.1 rfl (lv_room (Nat.le_of_ble_eq_true rfl)) dX1_make_21 ⟨Nat.zero_le _, Nat.zero_le _⟩) hS (fun H locs hP hS => ?_)
    refine lv_if_eq (tgt := 44) hx hb dX1_make_24 (by decide) (fun c14 => ?_) (fun c14 => ?_)
    · have h := mif_t c14 h
      exact w_X1_make_44 hC hR N u11 h hP hS (lv_sub hl [0] rfl)
    · have h := mif_f c14 h
      refine lv_iload_n hx hb dX1_make_27 rfl (lv_at hl 2 rfl) ?_
      refine lv_iconst (v := 0) hx hb dX1_make_28 (by decide) ?_
      refine u_aload_n (r := some a0) hx hb dX1_make_29 rfl (lv_at hl 0 rfl) ?_
      obtain ⟨o15, ho15, h⟩ := mbind_n h
      refine u_get hC hP (uGR_n ho15) rfl in_X1 (by decide) q217 (fun _ h => h) dX1_make_30 ?_
      obtain ⟨a16, ha16, hha16⟩ := mbind_n h
      subst ha16
      have h := hha16
      obtain ⟨y17, hy17, h⟩ := mbind_n h
      refine u_getN hC hP (uGI_n hy17) rfl in_X4 (by decide) q299 (fun _ h => h) dX1_make_33 ?_
      refine lv_iconst (v := 1) hx hb dX1_make_36 (by decide) ?_
      refine lv_isub hx hb dX1_make_37 ?_
      obtain ⟨r20, u18, c19, h⟩ := ucall_n h
      have zu18 := zz_X1_in N (ub G) (ug G) u11 x2 0 (y17 - 1) r20 u18 c19
      refine u_calli (va_runS (As := [.int x2, .int 0, .int (y17 - 1)]) (rest := []) hC.1 (met_X1_in l N G u11 x2 0 (y17 - 1) r20 u18 c19) (va_cwS 3 hts (lw_S q273 q274 q98 q275) rfl rfl rfl (by decide +kernel) ⟨Nat.le_trans (Nat.le_of_ble_eq_true rfl) hR.1, Nat.le_trans (Nat.le_of_ble_eq_true rfl) hR.2⟩) ⟨uPc_blind, fun U hU hW => u_pre hC hP hS hU hW⟩ rfl rfl hl.1 rfl (lv_room (Nat.le_of_ble_eq_true rfl)) dX1_make_38 ⟨Nat.zero_le _, Nat.zero_le _⟩) hS (fun H locs hP hS => ?_)
      refine lv_if_ne (tgt := 50) hx hb dX1_make_41 (by decide) (fun c21 => ?_) (fun c21 => ?_)
      · have h := mif_f c21 h
        refine u_aload_n (r := some a0) hx hb dX1_make_50 rfl (lv_at hl 0 rfl) ?_
        obtain ⟨o22, ho22, h⟩ := mbind_n h
        refine u_get hC hP (uGR_n ho22) rfl in_X1 (by decide) q217 (fun _ h => h) dX1_make_51 ?_
        obtain ⟨a23, ha23, hha23⟩ := mbind_n h
        subst ha23
        have h := hha23
        obtain ⟨o24, ho24, h⟩ := mbind_n h
        refine u_getN hC hP (uGR_n ho24) rfl in_X4 (by decide) q294 (fun _ h => h) dX1_make_54 ?_
        refine lv_iload_n hx hb dX1_make_57 rfl (lv_at hl 1 rfl) ?_
        obtain ⟨a25, ha25, hha25⟩ := mbind_n h
        subst ha25
        have h := hha25
        obtain ⟨c26, h⟩ := mif_n h
        obtain ⟨o29, u27, c28, h⟩ := ucall_n h
        have zu27 := zz_J2_get N (ub G) (ug G) u18 a25 x1 o29 u27 c28
        refine u_callr (va_runV (As := [.int x1]) (rest := []) hC.1 (met_J2_get l N G u18 a25 x1 o29 u27 c28) (cwV 1 hts (lw_V q1084 q898 q899 q102 q900) rfl rfl rfl (by decide +kernel) ⟨Nat.le_trans (Nat.le_of_ble_eq_true rfl) hR.1, Nat.le_trans (Nat.le_of_ble_eq_true rfl) hR.2⟩) ⟨uPc_blind, u_rcv hC hP c26 rfl, fun U hU hW => u_pre hC hP hS hU hW⟩ rfl rfl hl.1 rfl (lv_room (Nat.le_of_ble_eq_true rfl)) dX1_make_58 ⟨Nat.zero_le _, Nat.zero_le _⟩) hS (fun H locs hP hS => ?_)
        obtain ⟨a30, ha30, hha30⟩ := mbind_n h
        subst ha30
        have h := hha30
        obtain ⟨c31, h⟩ := mif_n h
        refine u_castS hC hP c31 rfl q1830 dX1_make_61 ?_
        refine u_astore_n (r := some a30) (lv' := [(3, va_rf (some a30)), (0, va_rf (some a0)), (1, .int x1), (2, .int x2)]) hx hb dX1_make_64 rfl hl (by decide) rfl (fun ls hl => ?_)
        refine lv_iconst (v := 0) hx hb dX1_make_65 (by decide) ?_
        refine lv_istore (lv' := [(4, .int 0), (3, va_rf (some a30)), (0, va_rf (some a0)), (1, .int x1), (2, .int x2)]) hx hb dX1_make_66 hl (by decide) rfl (fun ls hl => ?_)
        exact w_X1_make_68 hC hR N N u27 x2 (some a30) 0 h _ _ hP hS _ (lv_sub hl [2, 4, 1, 0] rfl)
      · have h := mif_t c21 h
        exact w_X1_make_44 hC hR N u18 h hP hS (lv_sub hl [0] rfl)
theorem zz_X1_make (N b : Nat) (g : uEnv) (u : UH) (a0 : Nat) (x1 : Int32) (x2 : Int32) (r : Int32) (uf : UH) (h : f_X1_make N b g u a0 x1 x2 = some (r, uf)) : uf.1 = u.1 ∧ uf.2.1 = u.2.1 :=
  zz_X1_make_0 (G := ((fun _ => 0, fun _ _ => 0), fun _ => 0, b, g)) (a0 := a0) N u x1 x2 h
theorem met_X1_make (l : Launch) (N : Nat) (G : uG) (u : UH) (a0 : Nat) (x1 : Int32) (x2 : Int32) (r : Int32) (uf : UH) (h : f_X1_make N (ub G) (ug G) u a0 x1 x2 = some (r, uf)) : Met l yX1_make (ws_ yX1_make cX1_make 5 (some .int)) ({ frames := 3, cells := 0, slots := 0, locals := 64 }) (uPc G u [.ref a0, .int x1, .int x2]) (uQi G r uf) 0 0 (uA G) := by
  exact u_met (own := RX1) (by decide +kernel) rfl (Nat.le_of_ble_eq_true rfl) (fun hC hn hsz ls hl hP => w_X1_make_0 hC ⟨Nat.le_refl _, Nat.le_refl _⟩ N u x1 x2 h hP va_S.rf hl)
def f_X16_init (N b : Nat) (g : uEnv) (u : UH) (a0 : Nat) : Option (UH) :=
    (f_J17_init N b g u a0).bind fun u1 =>
    some u1
set_option maxHeartbeats 4000000 in
set_option maxRecDepth 100000 in
theorem zz_X16_init_0 {G : uG} {a0 : Nat} {uf : UH} (N : Nat) (u : UH) (h : f_X16_init N (ub G) (ug G) u a0 = some uf) : uf.1 = u.1 ∧ uf.2.1 = u.2.1 := by
  unfold f_X16_init at h
  obtain ⟨u1, c2, h⟩ := mbind_n h
  have zu1 := zz_J17_init N (ub G) (ug G) u a0 u1 c2
  cases h
  exact ⟨by omega, by omega⟩
set_option maxHeartbeats 4000000 in
set_option maxRecDepth 100000 in
theorem w_X16_init_0 {p : Program} {l : Launch} {e : Env} {R : Room} {s : State} {m : MethodId} {args : Array Value} {below : List Frame} {meth : Method} {c : Code} {G : uG} {a0 : Nat} {uf : UH} (hC : uC p s m args meth c G RX16 cX16_init 1 none) (hI : meth.name = "<init>") (hR : 2 ≤ R.frames ∧ 40 ≤ R.locals) (N : Nat) (u : UH) (h : f_X16_init N (ub G) (ug G) u a0 = some uf) {H : Heap} {locs : List Loc} (hP : uP G u H) (hS : va_S (uA G) s.heap H locs) {ls : Array Slot} (hl : lv_has ls 1 [(0, va_rf (some a0))]) : W p l e R s m args below meth c H locs 0 0 (MQ below (uQv G uf) args s 0 0 (uA G)) (F0 m 0 ls []) := by
  obtain ⟨⟨hx, hb, hml, hown, hts⟩, hKK⟩ := id hC
  unfold f_X16_init at h
  refine u_aload_n (r := some a0) hx hb dX16_init_0 rfl (lv_at hl 0 rfl) ?_
  obtain ⟨u1, c2, h⟩ := mbind_n h
  have zu1 := zz_J17_init N (ub G) (ug G) u a0 u1 c2
  refine u_callv (va_runI (As := []) (rest := []) hC.1 (met_J17_init l N G u a0 u1 c2) (cwI 0 hts (lw_meth q1032) rfl rfl rfl (hts _ q126) (hts _ q1298) (hts _ q1031) rfl (by decide +kernel) ⟨Nat.le_trans (Nat.le_of_ble_eq_true rfl) hR.1, Nat.le_trans (Nat.le_of_ble_eq_true rfl) hR.2⟩) ⟨uPc_blind, fun U hU hW => u_pre hC hP hS hU hW⟩ rfl rfl hl.1 rfl (lv_room (Nat.le_of_ble_eq_true rfl)) dX16_init_1 ⟨Nat.zero_le _, Nat.zero_le _⟩) hS (fun H locs hP hS => ?_)
  cases h
  exact u_vret hC hP hS dX16_init_4
theorem zz_X16_init (N b : Nat) (g : uEnv) (u : UH) (a0 : Nat) (uf : UH) (h : f_X16_init N b g u a0 = some uf) : uf.1 = u.1 ∧ uf.2.1 = u.2.1 :=
  zz_X16_init_0 (G := ((fun _ => 0, fun _ _ => 0), fun _ => 0, b, g)) (a0 := a0) N u h
theorem met_X16_init (l : Launch) (N : Nat) (G : uG) (u : UH) (a0 : Nat) (uf : UH) (h : f_X16_init N (ub G) (ug G) u a0 = some uf) : Met l yX16_init (ws_ yX16_init cX16_init 1 none) ({ frames := 2, cells := 0, slots := 0, locals := 40 }) (uPc G u [.ref a0]) (uQv G uf) 0 0 (uA G) := by
  exact u_met (own := RX16) (by decide +kernel) rfl (Nat.le_of_ble_eq_true rfl) (fun hC hn hsz ls hl hP => w_X16_init_0 hC hn ⟨Nat.le_refl _, Nat.le_refl _⟩ N u h hP va_S.rf hl)
def f_X17_init (N b : Nat) (g : uEnv) (u : UH) (a0 : Nat) : Option (UH) :=
    (f_J17_init N b g u a0).bind fun u1 =>
    some u1
set_option maxHeartbeats 4000000 in
set_option maxRecDepth 100000 in
theorem zz_X17_init_0 {G : uG} {a0 : Nat} {uf : UH} (N : Nat) (u : UH) (h : f_X17_init N (ub G) (ug G) u a0 = some uf) : uf.1 = u.1 ∧ uf.2.1 = u.2.1 := by
  unfold f_X17_init at h
  obtain ⟨u1, c2, h⟩ := mbind_n h
  have zu1 := zz_J17_init N (ub G) (ug G) u a0 u1 c2
  cases h
  exact ⟨by omega, by omega⟩
set_option maxHeartbeats 4000000 in
set_option maxRecDepth 100000 in
theorem w_X17_init_0 {p : Program} {l : Launch} {e : Env} {R : Room} {s : State} {m : MethodId} {args : Array Value} {below : List Frame} {meth : Method} {c : Code} {G : uG} {a0 : Nat} {uf : UH} (hC : uC p s m args meth c G RX17 cX17_init 1 none) (hI : meth.name = "<init>") (hR : 2 ≤ R.frames ∧ 40 ≤ R.locals) (N : Nat) (u : UH) (h : f_X17_init N (ub G) (ug G) u a0 = some uf) {H : Heap} {locs : List Loc} (hP : uP G u H) (hS : va_S (uA G) s.heap H locs) {ls : Array Slot} (hl : lv_has ls 1 [(0, va_rf (some a0))]) : W p l e R s m args below meth c H locs 0 0 (MQ below (uQv G uf) args s 0 0 (uA G)) (F0 m 0 ls []) := by
  obtain ⟨⟨hx, hb, hml, hown, hts⟩, hKK⟩ := id hC
  unfold f_X17_init at h
  refine u_aload_n (r := some a0) hx hb dX17_init_0 rfl (lv_at hl 0 rfl) ?_
  obtain ⟨u1, c2, h⟩ := mbind_n h
  have zu1 := zz_J17_init N (ub G) (ug G) u a0 u1 c2
  refine u_callv (va_runI (As := []) (rest := []) hC.1 (met_J17_init l N G u a0 u1 c2) (cwI 0 hts (lw_meth q1032) rfl rfl rfl (hts _ q126) (hts _ q1305) (hts _ q1031) rfl (by decide +kernel) ⟨Nat.le_trans (Nat.le_of_ble_eq_true rfl) hR.1, Nat.le_trans (Nat.le_of_ble_eq_true rfl) hR.2⟩) ⟨uPc_blind, fun U hU hW => u_pre hC hP hS hU hW⟩ rfl rfl hl.1 rfl (lv_room (Nat.le_of_ble_eq_true rfl)) dX17_init_1 ⟨Nat.zero_le _, Nat.zero_le _⟩) hS (fun H locs hP hS => ?_)
  cases h
  exact u_vret hC hP hS dX17_init_4
theorem zz_X17_init (N b : Nat) (g : uEnv) (u : UH) (a0 : Nat) (uf : UH) (h : f_X17_init N b g u a0 = some uf) : uf.1 = u.1 ∧ uf.2.1 = u.2.1 :=
  zz_X17_init_0 (G := ((fun _ => 0, fun _ _ => 0), fun _ => 0, b, g)) (a0 := a0) N u h
theorem met_X17_init (l : Launch) (N : Nat) (G : uG) (u : UH) (a0 : Nat) (uf : UH) (h : f_X17_init N (ub G) (ug G) u a0 = some uf) : Met l yX17_init (ws_ yX17_init cX17_init 1 none) ({ frames := 2, cells := 0, slots := 0, locals := 40 }) (uPc G u [.ref a0]) (uQv G uf) 0 0 (uA G) := by
  exact u_met (own := RX17) (by decide +kernel) rfl (Nat.le_of_ble_eq_true rfl) (fun hC hn hsz ls hl hP => w_X17_init_0 hC hn ⟨Nat.le_refl _, Nat.le_refl _⟩ N u h hP va_S.rf hl)
def f_X2_knows_19 (N b : Nat) (g : uEnv) (a0 : Nat) : Nat → UH → Int32 → Int32 → Int32 → Option Nat → Int32 → Option (Int32 × UH)
  | 0, _, _, _, _, _, _ => none
  | n + 1, u, x1, x2, x3, x4, x5 =>
    (x4).bind fun a1 =>
    if uIs u a1 13 = true then
    ucall (f_X15_kind N b g u a1 x5) fun r5 u3 =>
    if r5 = x3 then
    some ((x1 &&& ((3 <<< ((2 * x2) &&& 31)) ^^^ (-1))) ||| ((x5 + 1) <<< ((2 * x2) &&& 31)), u3)
    else
    mlet (x5 + 1) fun y7 =>
    f_X2_knows_19 N b g a0 n u3 x1 x2 x3 (some a1) y7
    else none
set_option maxHeartbeats 4000000 in
set_option maxRecDepth 100000 in
theorem zz_X2_knows_19 {G : uG} {a0 : Nat} {uf : UH} {r : Int32} (N : Nat) : ∀ (n : Nat) (u : UH) (x1 : Int32) (x2 : Int32) (x3 : Int32) (x4 : Option Nat) (x5 : Int32), f_X2_knows_19 N (ub G) (ug G) a0 n u x1 x2 x3 x4 x5 = some (r, uf) → uf.1 = u.1 ∧ uf.2.1 = u.2.1 := by
  intro n
  induction n with
  | zero =>
    intro u x1 x2 x3 x4 x5 h
    cases h
  | succ n ih =>
    intro u x1 x2 x3 x4 x5 h
    unfold f_X2_knows_19 at h
    obtain ⟨a1, ha1, hha1⟩ := mbind_n h
    subst ha1
    have h := hha1
    obtain ⟨c2, h⟩ := mif_n h
    obtain ⟨r5, u3, c4, h⟩ := ucall_n h
    have zu3 := zz_X15_kind N (ub G) (ug G) u a1 x5 r5 u3 c4
    by_cases c6 : r5 = x3
    · have h := mif_t c6 h
      obtain ⟨hr1, hr2⟩ := uret_n h
      subst hr2
      exact ⟨by omega, by omega⟩
    · have h := mif_f c6 h
      obtain ⟨y7, ey7⟩ : ∃ z : Int32, z = x5 + 1 := ⟨_, rfl⟩
      have h := mlet_at ey7 h
      have hq := ih u3 x1 x2 x3 (some a1) y7 h
      exact ⟨by omega, by omega⟩
set_option maxHeartbeats 4000000 in
set_option maxRecDepth 100000 in
theorem w_X2_knows_19 {p : Program} {l : Launch} {e : Env} {R : Room} {s : State} {m : MethodId} {args : Array Value} {below : List Frame} {meth : Method} {c : Code} {G : uG} {a0 : Nat} {uf : UH} {r : Int32} (hC : uC p s m args meth c G RX2 cX2_knows 6 (some .int)) (hR : 3 ≤ R.frames ∧ 64 ≤ R.locals) (N : Nat) : ∀ (n : Nat) (u : UH) (x1 : Int32) (x2 : Int32) (x3 : Int32) (x4 : Option Nat) (x5 : Int32), f_X2_knows_19 N (ub G) (ug G) a0 n u x1 x2 x3 x4 x5 = some (r, uf) → ∀ (H : Heap) (locs : List Loc), uP G u H → va_S (uA G) s.heap H locs → ∀ ls : Array Slot, lv_has ls 6 [(1, .int x1), (2, .int x2), (3, .int x3), (4, va_rf x4), (5, .int x5)] → W p l e R s m args below meth c H locs 0 0 (MQ below (uQi G r uf) args s 0 0 (uA G)) (F0 m 19 ls []) := by
  obtain ⟨⟨hx, hb, hml, hown, hts⟩, hKK⟩ := id hC
  intro n
  induction n with
  | zero =>
    intro u x1 x2 x3 x4 x5 h
    cases h
  | succ n ih =>
    intro u x1 x2 x3 x4 x5 h H locs hP hS ls hl
    unfold f_X2_knows_19 at h
    refine u_aload (r := x4) hx hb dX2_knows_19 (lv_at hl 3 rfl) ?_
    refine lv_iload hx hb dX2_knows_21 (lv_at hl 4 rfl) ?_
    obtain ⟨a1, ha1, hha1⟩ := mbind_n h
    subst ha1
    have h := hha1
    obtain ⟨c2, h⟩ := mif_n h
    obtain ⟨r5, u3, c4, h⟩ := ucall_n h
    have zu3 := zz_X15_kind N (ub G) (ug G) u a1 x5 r5 u3 c4
    refine u_calli (va_runV (As := [.int x5]) (rest := []) hC.1 (met_X15_kind l N G u a1 x5 r5 u3 c4) (cwV 1 hts (lw_V q1340 q1341 q1342 q132 q1343) rfl rfl rfl (by decide +kernel) ⟨Nat.le_trans (Nat.le_of_ble_eq_true rfl) hR.1, Nat.le_trans (Nat.le_of_ble_eq_true rfl) hR.2⟩) ⟨uPc_blind, u_rcv hC hP c2 rfl, fun U hU hW => u_pre hC hP hS hU hW⟩ rfl rfl hl.1 rfl (lv_room (Nat.le_of_ble_eq_true rfl)) dX2_knows_23 ⟨Nat.zero_le _, Nat.zero_le _⟩) hS (fun H locs hP hS => ?_)
    refine lv_iload_n hx hb dX2_knows_26 rfl (lv_at hl 2 rfl) ?_
    refine lv_icmp_eq (tgt := 36) hx hb dX2_knows_27 (by decide) (fun c6 => ?_) (fun c6 => ?_)
    · have h := mif_t c6 h
      refine lv_iload_n hx hb dX2_knows_36 rfl (lv_at hl 0 rfl) ?_
      refine lv_iconst (v := 3) hx hb dX2_knows_37 (by decide) ?_
      refine lv_iconst (v := 2) hx hb dX2_knows_38 (by decide) ?_
      refine lv_iload_n hx hb dX2_knows_39 rfl (lv_at hl 1 rfl) ?_
      refine lv_imul hx hb dX2_knows_40 ?_
      refine lv_ishl hx hb dX2_knows_41 ?_
      refine lv_iconst (v := (-1)) hx hb dX2_knows_42 (by decide) ?_
      refine lv_ixor hx hb dX2_knows_43 ?_
      refine lv_iand hx hb dX2_knows_44 ?_
      refine lv_iload hx hb dX2_knows_45 (lv_at hl 4 rfl) ?_
      refine lv_iconst (v := 1) hx hb dX2_knows_47 (by decide) ?_
      refine lv_iadd hx hb dX2_knows_48 ?_
      refine lv_iconst (v := 2) hx hb dX2_knows_49 (by decide) ?_
      refine lv_iload_n hx hb dX2_knows_50 rfl (lv_at hl 1 rfl) ?_
      refine lv_imul hx hb dX2_knows_51 ?_
      refine lv_ishl hx hb dX2_knows_52 ?_
      refine lv_ior hx hb dX2_knows_53 ?_
      obtain ⟨hr1, hr2⟩ := uret_n h
      subst hr1
      subst hr2
      exact u_iret hC hP hS dX2_knows_54
    · have h := mif_f c6 h
      obtain ⟨y7, ey7⟩ : ∃ z : Int32, z = x5 + 1 := ⟨_, rfl⟩
      have h := mlet_at ey7 h
      refine lv_iinc (v := y7) (lv' := [(5, .int y7), (1, .int x1), (2, .int x2), (3, .int x3), (4, va_rf (some a1))]) hx hb dX2_knows_30 hl (k := 4) rfl (by rw [ey7]; rfl) (by decide) rfl (fun ls hl => ?_)
      refine lv_goto (tgt := 19) hx hb dX2_knows_33 (by decide) ?_
      exact ih u3 x1 x2 x3 (some a1) y7 h _ _ hP hS _ (lv_sub hl [1, 2, 3, 4, 0] rfl)
def f_X2_knows (N b : Nat) (g : uEnv) (u : UH) (a0 : Nat) (x1 : Int32) (x2 : Int32) (x3 : Int32) : Option (Int32 × UH) :=
    (uGR u a0 1 0).bind fun o1 =>
    (o1).bind fun a2 =>
    (uGR u a2 12 6).bind fun o3 =>
    (o3).bind fun a4 =>
    if uIs u a4 18 = true then
    ucall (f_J2_get N b g u a4 x2) fun o8 u6 =>
    (o8).bind fun a9 =>
    if uIs u6 a9 13 = true then
    f_X2_knows_19 N b g a0 N u6 x1 x2 x3 (some a9) 0
    else none
    else none
set_option maxHeartbeats 4000000 in
set_option maxRecDepth 100000 in
theorem zz_X2_knows_0 {G : uG} {a0 : Nat} {uf : UH} {r : Int32} (N : Nat) (u : UH) (x1 : Int32) (x2 : Int32) (x3 : Int32) (h : f_X2_knows N (ub G) (ug G) u a0 x1 x2 x3 = some (r, uf)) : uf.1 = u.1 ∧ uf.2.1 = u.2.1 := by
  unfold f_X2_knows at h
  obtain ⟨o1, ho1, h⟩ := mbind_n h
  obtain ⟨a2, ha2, hha2⟩ := mbind_n h
  subst ha2
  have h := hha2
  obtain ⟨o3, ho3, h⟩ := mbind_n h
  obtain ⟨a4, ha4, hha4⟩ := mbind_n h
  subst ha4
  have h := hha4
  obtain ⟨c5, h⟩ := mif_n h
  obtain ⟨o8, u6, c7, h⟩ := ucall_n h
  have zu6 := zz_J2_get N (ub G) (ug G) u a4 x2 o8 u6 c7
  obtain ⟨a9, ha9, hha9⟩ := mbind_n h
  subst ha9
  have h := hha9
  obtain ⟨c10, h⟩ := mif_n h
  have hq := zz_X2_knows_19 (G := G) (a0 := a0) N N u6 x1 x2 x3 (some a9) 0 h
  exact ⟨by omega, by omega⟩
set_option maxHeartbeats 4000000 in
set_option maxRecDepth 100000 in
theorem w_X2_knows_0 {p : Program} {l : Launch} {e : Env} {R : Room} {s : State} {m : MethodId} {args : Array Value} {below : List Frame} {meth : Method} {c : Code} {G : uG} {a0 : Nat} {uf : UH} {r : Int32} (hC : uC p s m args meth c G RX2 cX2_knows 6 (some .int)) (hR : 3 ≤ R.frames ∧ 64 ≤ R.locals) (N : Nat) (u : UH) (x1 : Int32) (x2 : Int32) (x3 : Int32) (h : f_X2_knows N (ub G) (ug G) u a0 x1 x2 x3 = some (r, uf)) {H : Heap} {locs : List Loc} (hP : uP G u H) (hS : va_S (uA G) s.heap H locs) {ls : Array Slot} (hl : lv_has ls 6 [(0, va_rf (some a0)), (1, .int x1), (2, .int x2), (3, .int x3)]) : W p l e R s m args below meth c H locs 0 0 (MQ below (uQi G r uf) args s 0 0 (uA G)) (F0 m 0 ls []) := by
  obtain ⟨⟨hx, hb, hml, hown, hts⟩, hKK⟩ := id hC
  unfold f_X2_knows at h
  refine u_aload_n (r := some a0) hx hb dX2_knows_0 rfl (lv_at hl 0 rfl) ?_
  obtain ⟨o1, ho1, h⟩ := mbind_n h
  refine u_get hC hP (uGR_n ho1) rfl in_X2 (by decide) q157 (fun _ h => h) dX2_knows_1 ?_
  obtain ⟨a2, ha2, hha2⟩ := mbind_n h
  subst ha2
  have h := hha2
  obtain ⟨o3, ho3, h⟩ := mbind_n h
  refine u_getN hC hP (uGR_n ho3) rfl in_X14 (by decide) q1150 (fun _ h => h) dX2_knows_4 ?_
  refine lv_iload_n hx hb dX2_knows_7 rfl (lv_at hl 2 rfl) ?_
  obtain ⟨a4, ha4, hha4⟩ := mbind_n h
  subst ha4
  have h := hha4
  obtain ⟨c5, h⟩ := mif_n h
  obtain ⟨o8, u6, c7, h⟩ := ucall_n h
  have zu6 := zz_J2_get N (ub G) (ug G) u a4 x2 o8 u6 c7
  refine u_callr (va_runV (As := [.int x2]) (rest := []) hC.1 (met_J2_get l N G u a4 x2 o8 u6 c7) (cwV 1 hts (lw_V q1334 q898 q899 q102 q900) rfl rfl rfl (by decide +kernel) ⟨Nat.le_trans (Nat.le_of_ble_eq_true rfl) hR.1, Nat.le_trans (Nat.le_of_ble_eq_true rfl) hR.2⟩) ⟨uPc_blind, u_rcv hC hP c5 rfl, fun U hU hW => u_pre hC hP hS hU hW⟩ rfl rfl hl.1 rfl (lv_room (Nat.le_of_ble_eq_true rfl)) dX2_knows_8 ⟨Nat.zero_le _, Nat.zero_le _⟩) hS (fun H locs hP hS => ?_)
  obtain ⟨a9, ha9, hha9⟩ := mbind_n h
  subst ha9
  have h := hha9
  obtain ⟨c10, h⟩ := mif_n h
  refine u_castS hC hP c10 rfl q1335 dX2_knows_11 ?_
  refine u_astore (r := some a9) (lv' := [(4, va_rf (some a9)), (0, va_rf (some a0)), (1, .int x1), (2, .int x2), (3, .int x3)]) hx hb dX2_knows_14 hl (by decide) rfl (fun ls hl => ?_)
  refine lv_iconst (v := 0) hx hb dX2_knows_16 (by decide) ?_
  refine lv_istore (lv' := [(5, .int 0), (4, va_rf (some a9)), (0, va_rf (some a0)), (1, .int x1), (2, .int x2), (3, .int x3)]) hx hb dX2_knows_17 hl (by decide) rfl (fun ls hl => ?_)
  exact w_X2_knows_19 hC hR N N u6 x1 x2 x3 (some a9) 0 h _ _ hP hS _ (lv_sub hl [3, 4, 5, 1, 0] rfl)
theorem zz_X2_knows (N b : Nat) (g : uEnv) (u : UH) (a0 : Nat) (x1 : Int32) (x2 : Int32) (x3 : Int32) (r : Int32) (uf : UH) (h : f_X2_knows N b g u a0 x1 x2 x3 = some (r, uf)) : uf.1 = u.1 ∧ uf.2.1 = u.2.1 :=
  zz_X2_knows_0 (G := ((fun _ => 0, fun _ _ => 0), fun _ => 0, b, g)) (a0 := a0) N u x1 x2 x3 h
theorem met_X2_knows (l : Launch) (N : Nat) (G : uG) (u : UH) (a0 : Nat) (x1 : Int32) (x2 : Int32) (x3 : Int32) (r : Int32) (uf : UH) (h : f_X2_knows N (ub G) (ug G) u a0 x1 x2 x3 = some (r, uf)) : Met l yX2_knows (ws_ yX2_knows cX2_knows 6 (some .int)) ({ frames := 3, cells := 0, slots := 0, locals := 64 }) (uPc G u [.ref a0, .int x1, .int x2, .int x3]) (uQi G r uf) 0 0 (uA G) := by
  exact u_met (own := RX2) (by decide +kernel) rfl (Nat.le_of_ble_eq_true rfl) (fun hC hn hsz ls hl hP => w_X2_knows_0 hC ⟨Nat.le_refl _, Nat.le_refl _⟩ N u x1 x2 x3 h hP va_S.rf hl)
def f_X2_known_79 (N b : Nat) (g : uEnv) (a0 : Nat) (k4 : UH → Int32 → Int32 → Option (Int32 × UH)) (u : UH) (x1 : Int32) (x2 : Int32) : Option (Int32 × UH) :=
    mlet (x2 + 1) fun y1 =>
    k4 u x1 y1
set_option maxHeartbeats 4000000 in
set_option maxRecDepth 100000 in
theorem zz_X2_known_79 {G : uG} {a0 : Nat} {uf : UH} {r : Int32} (N : Nat) (k4 : UH → Int32 → Int32 → Option (Int32 × UH)) (hk4 : ∀ (u : UH) (x1 : Int32) (x2 : Int32), k4 u x1 x2 = some (r, uf) → uf.1 = u.1 ∧ uf.2.1 = u.2.1) (u : UH) (x1 : Int32) (x2 : Int32) (h : f_X2_known_79 N (ub G) (ug G) a0 k4 u x1 x2 = some (r, uf)) : uf.1 = u.1 ∧ uf.2.1 = u.2.1 := by
  unfold f_X2_known_79 at h
  obtain ⟨y1, ey1⟩ : ∃ z : Int32, z = x2 + 1 := ⟨_, rfl⟩
  have h := mlet_at ey1 h
  have hq := hk4 u x1 y1 h
  exact ⟨by omega, by omega⟩
set_option maxHeartbeats 4000000 in
set_option maxRecDepth 100000 in
theorem w_X2_known_79 {p : Program} {l : Launch} {e : Env} {R : Room} {s : State} {m : MethodId} {args : Array Value} {below : List Frame} {meth : Method} {c : Code} {G : uG} {a0 : Nat} {uf : UH} {r : Int32} (hC : uC p s m args meth c G RX2 cX2_known 3 (some .int)) (hR : 4 ≤ R.frames ∧ 89 ≤ R.locals) (N : Nat) (k4 : UH → Int32 → Int32 → Option (Int32 × UH)) (hk4 : ∀ (u : UH) (x1 : Int32) (x2 : Int32), k4 u x1 x2 = some (r, uf) → ∀ (H : Heap) (locs : List Loc), uP G u H → va_S (uA G) s.heap H locs → ∀ ls : Array Slot, lv_has ls 3 [(0, va_rf (some a0)), (1, .int x1), (2, .int x2)] → W p l e R s m args below meth c H locs 0 0 (MQ below (uQi G r uf) args s 0 0 (uA G)) (F0 m 4 ls [])) (u : UH) (x1 : Int32) (x2 : Int32) (h : f_X2_known_79 N (ub G) (ug G) a0 k4 u x1 x2 = some (r, uf)) {H : Heap} {locs : List Loc} (hP : uP G u H) (hS : va_S (uA G) s.heap H locs) {ls : Array Slot} (hl : lv_has ls 3 [(0, va_rf (some a0)), (1, .int x1), (2, .int x2)]) : W p l e R s m args below meth c H locs 0 0 (MQ below (uQi G r uf) args s 0 0 (uA G)) (F0 m 79 ls []) := by
  obtain ⟨⟨hx, hb, hml, hown, hts⟩, hKK⟩ := id hC
  unfold f_X2_known_79 at h
  obtain ⟨y1, ey1⟩ : ∃ z : Int32, z = x2 + 1 := ⟨_, rfl⟩
  have h := mlet_at ey1 h
  refine lv_iinc (v := y1) (lv' := [(2, .int y1), (0, va_rf (some a0)), (1, .int x1)]) hx hb dX2_known_79 hl (k := 2) rfl (by rw [ey1]; rfl) (by decide) rfl (fun ls hl => ?_)
  refine lv_goto (tgt := 4) hx hb dX2_known_82 (by decide) ?_
  exact hk4 u x1 y1 h _ _ hP hS _ (lv_sub hl [1, 2, 0] rfl)
def f_X2_known_4 (N b : Nat) (g : uEnv) (a0 : Nat) : Nat → UH → Int32 → Int32 → Option (Int32 × UH)
  | 0, _, _, _ => none
  | n + 1, u, x1, x2 =>
    (uGR u a0 1 0).bind fun o1 =>
    (o1).bind fun a2 =>
    (uGR u a2 12 6).bind fun o3 =>
    (o3).bind fun a4 =>
    if uIs u a4 18 = true then
    ucall (f_J2_size N b g u a4) fun r8 u6 =>
    if r8 ≤ x2 then
    some (x1, u6)
    else
    (uGR u6 a0 1 0).bind fun o10 =>
    (o10).bind fun a11 =>
    (uGR u6 a11 12 6).bind fun o12 =>
    (o12).bind fun a13 =>
    if uIs u6 a13 18 = true then
    ucall (f_J2_get N b g u6 a13 x2) fun o17 u15 =>
    (o17).bind fun a18 =>
    if uIs u15 a18 13 = true then
    (uGI u15 a18 13 2).bind fun y20 =>
    if y20 = (-1) then
    f_X2_known_79 N b g a0 (f_X2_known_4 N b g a0 n) u15 x1 x2
    else
    (uGR u15 a0 1 0).bind fun o22 =>
    (o22).bind fun a23 =>
    (uGR u15 a23 12 6).bind fun o24 =>
    (o24).bind fun a25 =>
    if uIs u15 a25 18 = true then
    ucall (f_J2_get N b g u15 a25 x2) fun o29 u27 =>
    (o29).bind fun a30 =>
    if uIs u27 a30 13 = true then
    (uGI u27 a30 13 0).bind fun y32 =>
    (uGR u27 a0 1 0).bind fun o33 =>
    (o33).bind fun a34 =>
    (uGR u27 a34 12 6).bind fun o35 =>
    (o35).bind fun a36 =>
    if uIs u27 a36 18 = true then
    ucall (f_J2_get N b g u27 a36 x2) fun o40 u38 =>
    (o40).bind fun a41 =>
    if uIs u38 a41 13 = true then
    (uGI u38 a41 13 2).bind fun y43 =>
    if uIs u38 a0 1 = true then
    ucall (f_X2_knows N b g u38 a0 x1 y32 y43) fun r47 u45 =>
    f_X2_known_79 N b g a0 (f_X2_known_4 N b g a0 n) u45 r47 x2
    else none
    else none
    else none
    else none
    else none
    else none
    else none
    else none
set_option maxHeartbeats 4000000 in
set_option maxRecDepth 100000 in
theorem zz_X2_known_4 {G : uG} {a0 : Nat} {uf : UH} {r : Int32} (N : Nat) : ∀ (n : Nat) (u : UH) (x1 : Int32) (x2 : Int32), f_X2_known_4 N (ub G) (ug G) a0 n u x1 x2 = some (r, uf) → uf.1 = u.1 ∧ uf.2.1 = u.2.1 := by
  intro n
  induction n with
  | zero =>
    intro u x1 x2 h
    cases h
  | succ n ih =>
    intro u x1 x2 h
    unfold f_X2_known_4 at h
    obtain ⟨o1, ho1, h⟩ := mbind_n h
    obtain ⟨a2, ha2, hha2⟩ := mbind_n h
    subst ha2
    have h := hha2
    obtain ⟨o3, ho3, h⟩ := mbind_n h
    obtain ⟨a4, ha4, hha4⟩ := mbind_n h
    subst ha4
    have h := hha4
    obtain ⟨c5, h⟩ := mif_n h
    obtain ⟨r8, u6, c7, h⟩ := ucall_n h
    have zu6 := zz_J2_size N (ub G) (ug G) u a4 r8 u6 c7
    by_cases c9 : r8 ≤ x2
    · have h := mif_t c9 h
      obtain ⟨hr1, hr2⟩ := uret_n h
      subst hr2
      exact ⟨by omega, by omega⟩
    · have h := mif_f c9 h
      obtain ⟨o10, ho10, h⟩ := mbind_n h
      obtain ⟨a11, ha11, hha11⟩ := mbind_n h
      subst ha11
      have h := hha11
      obtain ⟨o12, ho12, h⟩ := mbind_n h
      obtain ⟨a13, ha13, hha13⟩ := mbind_n h
      subst ha13
      have h := hha13
      obtain ⟨c14, h⟩ := mif_n h
      obtain ⟨o17, u15, c16, h⟩ := ucall_n h
      have zu15 := zz_J2_get N (ub G) (ug G) u6 a13 x2 o17 u15 c16
      obtain ⟨a18, ha18, hha18⟩ := mbind_n h
      subst ha18
      have h := hha18
      obtain ⟨c19, h⟩ := mif_n h
      obtain ⟨y20, hy20, h⟩ := mbind_n h
      by_cases c21 : y20 = (-1)
      · have h := mif_t c21 h
        have hq := zz_X2_known_79 (G := G) (a0 := a0) N (f_X2_known_4 N (ub G) (ug G) a0 n) ih u15 x1 x2 h
        exact ⟨by omega, by omega⟩
      · have h := mif_f c21 h
        obtain ⟨o22, ho22, h⟩ := mbind_n h
        obtain ⟨a23, ha23, hha23⟩ := mbind_n h
        subst ha23
        have h := hha23
        obtain ⟨o24, ho24, h⟩ := mbind_n h
        obtain ⟨a25, ha25, hha25⟩ := mbind_n h
        subst ha25
        have h := hha25
        obtain ⟨c26, h⟩ := mif_n h
        obtain ⟨o29, u27, c28, h⟩ := ucall_n h
        have zu27 := zz_J2_get N (ub G) (ug G) u15 a25 x2 o29 u27 c28
        obtain ⟨a30, ha30, hha30⟩ := mbind_n h
        subst ha30
        have h := hha30
        obtain ⟨c31, h⟩ := mif_n h
        obtain ⟨y32, hy32, h⟩ := mbind_n h
        obtain ⟨o33, ho33, h⟩ := mbind_n h
        obtain ⟨a34, ha34, hha34⟩ := mbind_n h
        subst ha34
        have h := hha34
        obtain ⟨o35, ho35, h⟩ := mbind_n h
        obtain ⟨a36, ha36, hha36⟩ := mbind_n h
        subst ha36
        have h := hha36
        obtain ⟨c37, h⟩ := mif_n h
        obtain ⟨o40, u38, c39, h⟩ := ucall_n h
        have zu38 := zz_J2_get N (ub G) (ug G) u27 a36 x2 o40 u38 c39
        obtain ⟨a41, ha41, hha41⟩ := mbind_n h
        subst ha41
        have h := hha41
        obtain ⟨c42, h⟩ := mif_n h
        obtain ⟨y43, hy43, h⟩ := mbind_n h
        obtain ⟨c44, h⟩ := mif_n h
        obtain ⟨r47, u45, c46, h⟩ := ucall_n h
        have zu45 := zz_X2_knows N (ub G) (ug G) u38 a0 x1 y32 y43 r47 u45 c46
        have hq := zz_X2_known_79 (G := G) (a0 := a0) N (f_X2_known_4 N (ub G) (ug G) a0 n) ih u45 r47 x2 h
        exact ⟨by omega, by omega⟩
set_option maxHeartbeats 4000000 in
set_option maxRecDepth 100000 in
theorem w_X2_known_4 {p : Program} {l : Launch} {e : Env} {R : Room} {s : State} {m : MethodId} {args : Array Value} {below : List Frame} {meth : Method} {c : Code} {G : uG} {a0 : Nat} {uf : UH} {r : Int32} (hC : uC p s m args meth c G RX2 cX2_known 3 (some .int)) (hR : 4 ≤ R.frames ∧ 89 ≤ R.locals) (N : Nat) : ∀ (n : Nat) (u : UH) (x1 : Int32) (x2 : Int32), f_X2_known_4 N (ub G) (ug G) a0 n u x1 x2 = some (r, uf) → ∀ (H : Heap) (locs : List Loc), uP G u H → va_S (uA G) s.heap H locs → ∀ ls : Array Slot, lv_has ls 3 [(0, va_rf (some a0)), (1, .int x1), (2, .int x2)] → W p l e R s m args below meth c H locs 0 0 (MQ below (uQi G r uf) args s 0 0 (uA G)) (F0 m 4 ls []) := by
  obtain ⟨⟨hx, hb, hml, hown, hts⟩, hKK⟩ := id hC
  intro n
  induction n with
  | zero =>
    intro u x1 x2 h
    cases h
  | succ n ih =>
    intro u x1 x2 h H locs hP hS ls hl
    unfold f_X2_known_4 at h
    refine lv_iload_n hx hb dX2_known_4 rfl (lv_at hl 2 rfl) ?_
    refine u_aload_n (r := some a0) hx hb dX2_known_5 rfl (lv_at hl 0 rfl) ?_
    obtain ⟨o1, ho1, h⟩ := mbind_n h
    refine u_get hC hP (uGR_n ho1) rfl in_X2 (by decide) q157 (fun _ h => h) dX2_known_6 ?_
    obtain ⟨a2, ha2, hha2⟩ := mbind_n h
    subst ha2
    have h := hha2
    obtain ⟨o3, ho3, h⟩ := mbind_n h
    refine u_getN hC hP (uGR_n ho3) rfl in_X14 (by decide) q1150 (fun _ h => h) dX2_known_9 ?_
    obtain ⟨a4, ha4, hha4⟩ := mbind_n h
    subst ha4
    have h := hha4
    obtain ⟨c5, h⟩ := mif_n h
    obtain ⟨r8, u6, c7, h⟩ := ucall_n h
    have zu6 := zz_J2_size N (ub G) (ug G) u a4 r8 u6 c7
    refine u_calli (va_runV (As := []) (rest := [.int x2]) hC.1 (met_J2_size l N G u a4 r8 u6 c7) (cwV 0 hts (lw_V q1319 q894 q895 q102 q896) rfl rfl rfl (by decide +kernel) ⟨Nat.le_trans (Nat.le_of_ble_eq_true rfl) hR.1, Nat.le_trans (Nat.le_of_ble_eq_true rfl) hR.2⟩) ⟨uPc_blind, u_rcv hC hP c5 rfl, fun U hU hW => u_pre hC hP hS hU hW⟩ rfl rfl hl.1 rfl (lv_room (Nat.le_of_ble_eq_true rfl)) dX2_known_12 ⟨Nat.zero_le _, Nat.zero_le _⟩) hS (fun H locs hP hS => ?_)
    refine lv_icmp_ge (tgt := 85) hx hb dX2_known_15 (by decide) (fun c9 => ?_) (fun c9 => ?_)
    · have h := mif_t c9 h
      refine lv_iload_n hx hb dX2_known_85 rfl (lv_at hl 1 rfl) ?_
      obtain ⟨hr1, hr2⟩ := uret_n h
      subst hr1
      subst hr2
      exact u_iret hC hP hS dX2_known_86
    · have h := mif_f c9 h
      refine u_aload_n (r := some a0) hx hb dX2_known_18 rfl (lv_at hl 0 rfl) ?_
      obtain ⟨o10, ho10, h⟩ := mbind_n h
      refine u_get hC hP (uGR_n ho10) rfl in_X2 (by decide) q157 (fun _ h => h) dX2_known_19 ?_
      obtain ⟨a11, ha11, hha11⟩ := mbind_n h
      subst ha11
      have h := hha11
      obtain ⟨o12, ho12, h⟩ := mbind_n h
      refine u_getN hC hP (uGR_n ho12) rfl in_X14 (by decide) q1150 (fun _ h => h) dX2_known_22 ?_
      refine lv_iload_n hx hb dX2_known_25 rfl (lv_at hl 2 rfl) ?_
      obtain ⟨a13, ha13, hha13⟩ := mbind_n h
      subst ha13
      have h := hha13
      obtain ⟨c14, h⟩ := mif_n h
      obtain ⟨o17, u15, c16, h⟩ := ucall_n h
      have zu15 := zz_J2_get N (ub G) (ug G) u6 a13 x2 o17 u15 c16
      refine u_callr (va_runV (As := [.int x2]) (rest := []) hC.1 (met_J2_get l N G u6 a13 x2 o17 u15 c16) (cwV 1 hts (lw_V q1334 q898 q899 q102 q900) rfl rfl rfl (by decide +kernel) ⟨Nat.le_trans (Nat.le_of_ble_eq_true rfl) hR.1, Nat.le_trans (Nat.le_of_ble_eq_true rfl) hR.2⟩) ⟨uPc_blind, u_rcv hC hP c14 rfl, fun U hU hW => u_pre hC hP hS hU hW⟩ rfl rfl hl.1 rfl (lv_room (Nat.le_of_ble_eq_true rfl)) dX2_known_26 ⟨Nat.zero_le _, Nat.zero_le _⟩) hS (fun H locs hP hS => ?_)
      obtain ⟨a18, ha18, hha18⟩ := mbind_n h
      subst ha18
      have h := hha18
      obtain ⟨c19, h⟩ := mif_n h
      refine u_castS hC hP c19 rfl q1335 dX2_known_29 ?_
      obtain ⟨y20, hy20, h⟩ := mbind_n h
      refine u_getN hC hP (uGI_n hy20) rfl in_X15 (by decide) q1222 (fun _ h => h) dX2_known_32 ?_
      refine lv_iconst (v := (-1)) hx hb dX2_known_35 (by decide) ?_
      refine lv_icmp_eq (tgt := 79) hx hb dX2_known_36 (by decide) (fun c21 => ?_) (fun c21 => ?_)
      · have h := mif_t c21 h
        exact w_X2_known_79 hC hR N (f_X2_known_4 N (ub G) (ug G) a0 n) ih u15 x1 x2 h hP hS (lv_sub hl [0, 1, 2] rfl)
      · have h := mif_f c21 h
        refine u_aload_n (r := some a0) hx hb dX2_known_39 rfl (lv_at hl 0 rfl) ?_
        refine lv_iload_n hx hb dX2_known_40 rfl (lv_at hl 1 rfl) ?_
        refine u_aload_n (r := some a0) hx hb dX2_known_41 rfl (lv_at hl 0 rfl) ?_
        obtain ⟨o22, ho22, h⟩ := mbind_n h
        refine u_get hC hP (uGR_n ho22) rfl in_X2 (by decide) q157 (fun _ h => h) dX2_known_42 ?_
        obtain ⟨a23, ha23, hha23⟩ := mbind_n h
        subst ha23
        have h := hha23
        obtain ⟨o24, ho24, h⟩ := mbind_n h
        refine u_getN hC hP (uGR_n ho24) rfl in_X14 (by decide) q1150 (fun _ h => h) dX2_known_45 ?_
        refine lv_iload_n hx hb dX2_known_48 rfl (lv_at hl 2 rfl) ?_
        obtain ⟨a25, ha25, hha25⟩ := mbind_n h
        subst ha25
        have h := hha25
        obtain ⟨c26, h⟩ := mif_n h
        obtain ⟨o29, u27, c28, h⟩ := ucall_n h
        have zu27 := zz_J2_get N (ub G) (ug G) u15 a25 x2 o29 u27 c28
        refine u_callr (va_runV (As := [.int x2]) (rest := [.int x1, va_rf (some a0)]) hC.1 (met_J2_get l N G u15 a25 x2 o29 u27 c28) (cwV 1 hts (lw_V q1334 q898 q899 q102 q900) rfl rfl rfl (by decide +kernel) ⟨Nat.le_trans (Nat.le_of_ble_eq_true rfl) hR.1, Nat.le_trans (Nat.le_of_ble_eq_true rfl) hR.2⟩) ⟨uPc_blind, u_rcv hC hP c26 rfl, fun U hU hW => u_pre hC hP hS hU hW⟩ rfl rfl hl.1 rfl (lv_room (Nat.le_of_ble_eq_true rfl)) dX2_known_49 ⟨Nat.zero_le _, Nat.zero_le _⟩) hS (fun H locs hP hS => ?_)
        obtain ⟨a30, ha30, hha30⟩ := mbind_n h
        subst ha30
        have h := hha30
        obtain ⟨c31, h⟩ := mif_n h
        refine u_castS hC hP c31 rfl q1335 dX2_known_52 ?_
        obtain ⟨y32, hy32, h⟩ := mbind_n h
        refine u_getN hC hP (uGI_n hy32) rfl in_X15 (by decide) q1215 (fun _ h => h) dX2_known_55 ?_
        refine u_aload_n (r := some a0) hx hb dX2_known_58 rfl (lv_at hl 0 rfl) ?_
        obtain ⟨o33, ho33, h⟩ := mbind_n h
        refine u_get hC hP (uGR_n ho33) rfl in_X2 (by decide) q157 (fun _ h => h) dX2_known_59 ?_
        obtain ⟨a34, ha34, hha34⟩ := mbind_n h
        subst ha34
        have h := hha34
        obtain ⟨o35, ho35, h⟩ := mbind_n h
        refine u_getN hC hP (uGR_n ho35) rfl in_X14 (by decide) q1150 (fun _ h => h) dX2_known_62 ?_
        refine lv_iload_n hx hb dX2_known_65 rfl (lv_at hl 2 rfl) ?_
        obtain ⟨a36, ha36, hha36⟩ := mbind_n h
        subst ha36
        have h := hha36
        obtain ⟨c37, h⟩ := mif_n h
        obtain ⟨o40, u38, c39, h⟩ := ucall_n h
        have zu38 := zz_J2_get N (ub G) (ug G) u27 a36 x2 o40 u38 c39
        refine u_callr (va_runV (As := [.int x2]) (rest := [.int y32, .int x1, va_rf (some a0)]) hC.1 (met_J2_get l N G u27 a36 x2 o40 u38 c39) (cwV 1 hts (lw_V q1334 q898 q899 q102 q900) rfl rfl rfl (by decide +kernel) ⟨Nat.le_trans (Nat.le_of_ble_eq_true rfl) hR.1, Nat.le_trans (Nat.le_of_ble_eq_true rfl) hR.2⟩) ⟨uPc_blind, u_rcv hC hP c37 rfl, fun U hU hW => u_pre hC hP hS hU hW⟩ rfl rfl hl.1 rfl (lv_room (Nat.le_of_ble_eq_true rfl)) dX2_known_66 ⟨Nat.zero_le _, Nat.zero_le _⟩) hS (fun H locs hP hS => ?_)
        obtain ⟨a41, ha41, hha41⟩ := mbind_n h
        subst ha41
        have h := hha41
        obtain ⟨c42, h⟩ := mif_n h
        refine u_castS hC hP c42 rfl q1335 dX2_known_69 ?_
        obtain ⟨y43, hy43, h⟩ := mbind_n h
        refine u_getN hC hP (uGI_n hy43) rfl in_X15 (by decide) q1222 (fun _ h => h) dX2_known_72 ?_
        obtain ⟨c44, h⟩ := mif_n h
        obtain ⟨r47, u45, c46, h⟩ := ucall_n h
        have zu45 := zz_X2_knows N (ub G) (ug G) u38 a0 x1 y32 y43 r47 u45 c46
        refine u_calli (va_runV (As := [.int x1, .int y32, .int y43]) (rest := []) hC.1 (met_X2_knows l N G u38 a0 x1 y32 y43 r47 u45 c46) (cwV 3 hts (lw_V q1336 q1337 q1338 q99 q1339) rfl rfl rfl (by decide +kernel) ⟨Nat.le_trans (Nat.le_of_ble_eq_true rfl) hR.1, Nat.le_trans (Nat.le_of_ble_eq_true rfl) hR.2⟩) ⟨uPc_blind, u_rcv hC hP c44 rfl, fun U hU hW => u_pre hC hP hS hU hW⟩ rfl rfl hl.1 rfl (lv_room (Nat.le_of_ble_eq_true rfl)) dX2_known_75 ⟨Nat.zero_le _, Nat.zero_le _⟩) hS (fun H locs hP hS => ?_)
        refine lv_istore_n (lv' := [(1, .int r47), (0, va_rf (some a0)), (2, .int x2)]) hx hb dX2_known_78 rfl hl (by decide) rfl (fun ls hl => ?_)
        exact w_X2_known_79 hC hR N (f_X2_known_4 N (ub G) (ug G) a0 n) ih u45 r47 x2 h hP hS (lv_sub hl [1, 0, 2] rfl)
def f_X2_known (N b : Nat) (g : uEnv) (u : UH) (a0 : Nat) : Option (Int32 × UH) :=
    f_X2_known_4 N b g a0 N u 0 0
set_option maxHeartbeats 4000000 in
set_option maxRecDepth 100000 in
theorem zz_X2_known_0 {G : uG} {a0 : Nat} {uf : UH} {r : Int32} (N : Nat) (u : UH) (h : f_X2_known N (ub G) (ug G) u a0 = some (r, uf)) : uf.1 = u.1 ∧ uf.2.1 = u.2.1 := by
  unfold f_X2_known at h
  have hq := zz_X2_known_4 (G := G) (a0 := a0) N N u 0 0 h
  exact ⟨by omega, by omega⟩
set_option maxHeartbeats 4000000 in
set_option maxRecDepth 100000 in
theorem w_X2_known_0 {p : Program} {l : Launch} {e : Env} {R : Room} {s : State} {m : MethodId} {args : Array Value} {below : List Frame} {meth : Method} {c : Code} {G : uG} {a0 : Nat} {uf : UH} {r : Int32} (hC : uC p s m args meth c G RX2 cX2_known 3 (some .int)) (hR : 4 ≤ R.frames ∧ 89 ≤ R.locals) (N : Nat) (u : UH) (h : f_X2_known N (ub G) (ug G) u a0 = some (r, uf)) {H : Heap} {locs : List Loc} (hP : uP G u H) (hS : va_S (uA G) s.heap H locs) {ls : Array Slot} (hl : lv_has ls 3 [(0, va_rf (some a0))]) : W p l e R s m args below meth c H locs 0 0 (MQ below (uQi G r uf) args s 0 0 (uA G)) (F0 m 0 ls []) := by
  obtain ⟨⟨hx, hb, hml, hown, hts⟩, hKK⟩ := id hC
  unfold f_X2_known at h
  refine lv_iconst (v := 0) hx hb dX2_known_0 (by decide) ?_
  refine lv_istore_n (lv' := [(1, .int 0), (0, va_rf (some a0))]) hx hb dX2_known_1 rfl hl (by decide) rfl (fun ls hl => ?_)
  refine lv_iconst (v := 0) hx hb dX2_known_2 (by decide) ?_
  refine lv_istore_n (lv' := [(2, .int 0), (1, .int 0), (0, va_rf (some a0))]) hx hb dX2_known_3 rfl hl (by decide) rfl (fun ls hl => ?_)
  exact w_X2_known_4 hC hR N N u 0 0 h _ _ hP hS _ (lv_sub hl [2, 1, 0] rfl)
theorem zz_X2_known (N b : Nat) (g : uEnv) (u : UH) (a0 : Nat) (r : Int32) (uf : UH) (h : f_X2_known N b g u a0 = some (r, uf)) : uf.1 = u.1 ∧ uf.2.1 = u.2.1 :=
  zz_X2_known_0 (G := ((fun _ => 0, fun _ _ => 0), fun _ => 0, b, g)) (a0 := a0) N u h
theorem met_X2_known (l : Launch) (N : Nat) (G : uG) (u : UH) (a0 : Nat) (r : Int32) (uf : UH) (h : f_X2_known N (ub G) (ug G) u a0 = some (r, uf)) : Met l yX2_known (ws_ yX2_known cX2_known 3 (some .int)) ({ frames := 4, cells := 0, slots := 0, locals := 89 }) (uPc G u [.ref a0]) (uQi G r uf) 0 0 (uA G) := by
  exact u_met (own := RX2) (by decide +kernel) rfl (Nat.le_of_ble_eq_true rfl) (fun hC hn hsz ls hl hP => w_X2_known_0 hC ⟨Nat.le_refl _, Nat.le_refl _⟩ N u h hP va_S.rf hl)
def f_X2_unknown_34 (N b : Nat) (g : uEnv) (a0 : Nat) (k4 : UH → Int32 → Int32 → Int32 → Option (Int32 × UH)) (u : UH) (x1 : Int32) (x3 : Int32) (s0 : Int32) (s1 : Int32) : Option (Int32 × UH) :=
    mlet (s1 ||| s0) fun y1 =>
    mlet (x3 + 1) fun y2 =>
    k4 u x1 y1 y2
set_option maxHeartbeats 4000000 in
set_option maxRecDepth 100000 in
theorem zz_X2_unknown_34 {G : uG} {a0 : Nat} {uf : UH} {r : Int32} (N : Nat) (k4 : UH → Int32 → Int32 → Int32 → Option (Int32 × UH)) (hk4 : ∀ (u : UH) (x1 : Int32) (x2 : Int32) (x3 : Int32), k4 u x1 x2 x3 = some (r, uf) → uf.1 = u.1 ∧ uf.2.1 = u.2.1) (u : UH) (x1 : Int32) (x3 : Int32) (s0 : Int32) (s1 : Int32) (h : f_X2_unknown_34 N (ub G) (ug G) a0 k4 u x1 x3 s0 s1 = some (r, uf)) : uf.1 = u.1 ∧ uf.2.1 = u.2.1 := by
  unfold f_X2_unknown_34 at h
  obtain ⟨y1, ey1⟩ : ∃ z, z = s1 ||| s0 := ⟨_, rfl⟩
  have h := mlet_at ey1 h
  obtain ⟨y2, ey2⟩ : ∃ z : Int32, z = x3 + 1 := ⟨_, rfl⟩
  have h := mlet_at ey2 h
  have hq := hk4 u x1 y1 y2 h
  exact ⟨by omega, by omega⟩
set_option maxHeartbeats 4000000 in
set_option maxRecDepth 100000 in
theorem w_X2_unknown_34 {p : Program} {l : Launch} {e : Env} {R : Room} {s : State} {m : MethodId} {args : Array Value} {below : List Frame} {meth : Method} {c : Code} {G : uG} {a0 : Nat} {uf : UH} {r : Int32} (hC : uC p s m args meth c G RX2 cX2_unknown 4 (some .int)) (hR : 1 ≤ R.frames ∧ 21 ≤ R.locals) (N : Nat) (k4 : UH → Int32 → Int32 → Int32 → Option (Int32 × UH)) (hk4 : ∀ (u : UH) (x1 : Int32) (x2 : Int32) (x3 : Int32), k4 u x1 x2 x3 = some (r, uf) → ∀ (H : Heap) (locs : List Loc), uP G u H → va_S (uA G) s.heap H locs → ∀ ls : Array Slot, lv_has ls 4 [(0, va_rf (some a0)), (1, .int x1), (2, .int x2), (3, .int x3)] → W p l e R s m args below meth c H locs 0 0 (MQ below (uQi G r uf) args s 0 0 (uA G)) (F0 m 4 ls [])) (u : UH) (x1 : Int32) (x3 : Int32) (s0 : Int32) (s1 : Int32) (h : f_X2_unknown_34 N (ub G) (ug G) a0 k4 u x1 x3 s0 s1 = some (r, uf)) {H : Heap} {locs : List Loc} (hP : uP G u H) (hS : va_S (uA G) s.heap H locs) {ls : Array Slot} (hl : lv_has ls 4 [(0, va_rf (some a0)), (1, .int x1), (3, .int x3)]) : W p l e R s m args below meth c H locs 0 0 (MQ below (uQi G r uf) args s 0 0 (uA G)) (F0 m 34 ls [.int s0, .int s1]) := by
  obtain ⟨⟨hx, hb, hml, hown, hts⟩, hKK⟩ := id hC
  unfold f_X2_unknown_34 at h
  refine lv_ior hx hb dX2_unknown_34 ?_
  refine lv_topi (fun y1 ey1 => ?_)
  have h := mlet_at ey1 h
  refine lv_istore_n (lv' := [(2, .int y1), (0, va_rf (some a0)), (1, .int x1), (3, .int x3)]) hx hb dX2_unknown_35 rfl hl (by decide) rfl (fun ls hl => ?_)
  obtain ⟨y2, ey2⟩ : ∃ z : Int32, z = x3 + 1 := ⟨_, rfl⟩
  have h := mlet_at ey2 h
  refine lv_iinc (v := y2) (lv' := [(3, .int y2), (2, .int y1), (0, va_rf (some a0)), (1, .int x1)]) hx hb dX2_unknown_36 hl (k := 3) rfl (by rw [ey2]; rfl) (by decide) rfl (fun ls hl => ?_)
  refine lv_goto (tgt := 4) hx hb dX2_unknown_39 (by decide) ?_
  exact hk4 u x1 y1 y2 h _ _ hP hS _ (lv_sub hl [2, 3, 1, 0] rfl)
def f_X2_unknown_4 (N b : Nat) (g : uEnv) (a0 : Nat) : Nat → UH → Int32 → Int32 → Int32 → Option (Int32 × UH)
  | 0, _, _, _, _ => none
  | n + 1, u, x1, x2, x3 =>
    (uGR u a0 1 0).bind fun o1 =>
    (o1).bind fun a2 =>
    (uGR u a2 12 6).bind fun o3 =>
    (o3).bind fun a4 =>
    if uIs u a4 18 = true then
    ucall (f_J2_size N b g u a4) fun r8 u6 =>
    if r8 ≤ x3 then
    some (x2, u6)
    else
    ucall (f_X2_sign N b g u6 x1 x3) fun r12 u10 =>
    if r12 = 0 then
    f_X2_unknown_34 N b g a0 (f_X2_unknown_4 N b g a0 n) u10 x1 x3 (1 <<< (x3 &&& 31)) x2
    else
    f_X2_unknown_34 N b g a0 (f_X2_unknown_4 N b g a0 n) u10 x1 x3 0 x2
    else none
set_option maxHeartbeats 4000000 in
set_option maxRecDepth 100000 in
theorem zz_X2_unknown_4 {G : uG} {a0 : Nat} {uf : UH} {r : Int32} (N : Nat) : ∀ (n : Nat) (u : UH) (x1 : Int32) (x2 : Int32) (x3 : Int32), f_X2_unknown_4 N (ub G) (ug G) a0 n u x1 x2 x3 = some (r, uf) → uf.1 = u.1 ∧ uf.2.1 = u.2.1 := by
  intro n
  induction n with
  | zero =>
    intro u x1 x2 x3 h
    cases h
  | succ n ih =>
    intro u x1 x2 x3 h
    unfold f_X2_unknown_4 at h
    obtain ⟨o1, ho1, h⟩ := mbind_n h
    obtain ⟨a2, ha2, hha2⟩ := mbind_n h
    subst ha2
    have h := hha2
    obtain ⟨o3, ho3, h⟩ := mbind_n h
    obtain ⟨a4, ha4, hha4⟩ := mbind_n h
    subst ha4
    have h := hha4
    obtain ⟨c5, h⟩ := mif_n h
    obtain ⟨r8, u6, c7, h⟩ := ucall_n h
    have zu6 := zz_J2_size N (ub G) (ug G) u a4 r8 u6 c7
    by_cases c9 : r8 ≤ x3
    · have h := mif_t c9 h
      obtain ⟨hr1, hr2⟩ := uret_n h
      subst hr2
      exact ⟨by omega, by omega⟩
    · have h := mif_f c9 h
      obtain ⟨r12, u10, c11, h⟩ := ucall_n h
      have zu10 := zz_X2_sign N (ub G) (ug G) u6 x1 x3 r12 u10 c11
      by_cases c13 : r12 = 0
      · have h := mif_t c13 h
        have hq := zz_X2_unknown_34 (G := G) (a0 := a0) N (f_X2_unknown_4 N (ub G) (ug G) a0 n) ih u10 x1 x3 (1 <<< (x3 &&& 31)) x2 h
        exact ⟨by omega, by omega⟩
      · have h := mif_f c13 h
        have hq := zz_X2_unknown_34 (G := G) (a0 := a0) N (f_X2_unknown_4 N (ub G) (ug G) a0 n) ih u10 x1 x3 0 x2 h
        exact ⟨by omega, by omega⟩
set_option maxHeartbeats 4000000 in
set_option maxRecDepth 100000 in
theorem w_X2_unknown_4 {p : Program} {l : Launch} {e : Env} {R : Room} {s : State} {m : MethodId} {args : Array Value} {below : List Frame} {meth : Method} {c : Code} {G : uG} {a0 : Nat} {uf : UH} {r : Int32} (hC : uC p s m args meth c G RX2 cX2_unknown 4 (some .int)) (hR : 1 ≤ R.frames ∧ 21 ≤ R.locals) (N : Nat) : ∀ (n : Nat) (u : UH) (x1 : Int32) (x2 : Int32) (x3 : Int32), f_X2_unknown_4 N (ub G) (ug G) a0 n u x1 x2 x3 = some (r, uf) → ∀ (H : Heap) (locs : List Loc), uP G u H → va_S (uA G) s.heap H locs → ∀ ls : Array Slot, lv_has ls 4 [(0, va_rf (some a0)), (1, .int x1), (2, .int x2), (3, .int x3)] → W p l e R s m args below meth c H locs 0 0 (MQ below (uQi G r uf) args s 0 0 (uA G)) (F0 m 4 ls []) := by
  obtain ⟨⟨hx, hb, hml, hown, hts⟩, hKK⟩ := id hC
  intro n
  induction n with
  | zero =>
    intro u x1 x2 x3 h
    cases h
  | succ n ih =>
    intro u x1 x2 x3 h H locs hP hS ls hl
    unfold f_X2_unknown_4 at h
    refine lv_iload_n hx hb dX2_unknown_4 rfl (lv_at hl 3 rfl) ?_
    refine u_aload_n (r := some a0) hx hb dX2_unknown_5 rfl (lv_at hl 0 rfl) ?_
    obtain ⟨o1, ho1, h⟩ := mbind_n h
    refine u_get hC hP (uGR_n ho1) rfl in_X2 (by decide) q157 (fun _ h => h) dX2_unknown_6 ?_
    obtain ⟨a2, ha2, hha2⟩ := mbind_n h
    subst ha2
    have h := hha2
    obtain ⟨o3, ho3, h⟩ := mbind_n h
    refine u_getN hC hP (uGR_n ho3) rfl in_X14 (by decide) q1150 (fun _ h => h) dX2_unknown_9 ?_
    obtain ⟨a4, ha4, hha4⟩ := mbind_n h
    subst ha4
    have h := hha4
    obtain ⟨c5, h⟩ := mif_n h
    obtain ⟨r8, u6, c7, h⟩ := ucall_n h
    have zu6 := zz_J2_size N (ub G) (ug G) u a4 r8 u6 c7
    refine u_calli (va_runV (As := []) (rest := [.int x3]) hC.1 (met_J2_size l N G u a4 r8 u6 c7) (cwV 0 hts (lw_V q1319 q894 q895 q102 q896) rfl rfl rfl (by decide +kernel) ⟨Nat.le_trans (Nat.le_of_ble_eq_true rfl) hR.1, Nat.le_trans (Nat.le_of_ble_eq_true rfl) hR.2⟩) ⟨uPc_blind, u_rcv hC hP c5 rfl, fun U hU hW => u_pre hC hP hS hU hW⟩ rfl rfl hl.1 rfl (lv_room (Nat.le_of_ble_eq_true rfl)) dX2_unknown_12 ⟨Nat.zero_le _, Nat.zero_le _⟩) hS (fun H locs hP hS => ?_)
    refine lv_icmp_ge (tgt := 42) hx hb dX2_unknown_15 (by decide) (fun c9 => ?_) (fun c9 => ?_)
    · have h := mif_t c9 h
      refine lv_iload_n hx hb dX2_unknown_42 rfl (lv_at hl 2 rfl) ?_
      obtain ⟨hr1, hr2⟩ := uret_n h
      subst hr1
      subst hr2
      exact u_iret hC hP hS dX2_unknown_43
    · have h := mif_f c9 h
      refine lv_iload_n hx hb dX2_unknown_18 rfl (lv_at hl 2 rfl) ?_
      refine lv_iload_n hx hb dX2_unknown_19 rfl (lv_at hl 1 rfl) ?_
      refine lv_iload_n hx hb dX2_unknown_20 rfl (lv_at hl 3 rfl) ?_
      obtain ⟨r12, u10, c11, h⟩ := ucall_n h
      have zu10 := zz_X2_sign N (ub G) (ug G) u6 x1 x3 r12 u10 c11
      refine u_calli (va_runS (As := [.int x1, .int x3]) (rest := [.int x2]) hC.1 (met_X2_sign l N G u6 x1 x3 r12 u10 c11) (va_cwS 2 hts (lw_S q1356 q1357 q99 q1358) rfl rfl rfl (by decide +kernel) ⟨Nat.le_trans (Nat.le_of_ble_eq_true rfl) hR.1, Nat.le_trans (Nat.le_of_ble_eq_true rfl) hR.2⟩) ⟨uPc_blind, fun U hU hW => u_pre hC hP hS hU hW⟩ rfl rfl hl.1 rfl (lv_room (Nat.le_of_ble_eq_true rfl)) dX2_unknown_21 ⟨Nat.zero_le _, Nat.zero_le _⟩) hS (fun H locs hP hS => ?_)
      refine lv_if_ne (tgt := 33) hx hb dX2_unknown_24 (by decide) (fun c13 => ?_) (fun c13 => ?_)
      · have h := mif_f c13 h
        refine lv_iconst (v := 0) hx hb dX2_unknown_33 (by decide) ?_
        exact w_X2_unknown_34 hC hR N (f_X2_unknown_4 N (ub G) (ug G) a0 n) ih u10 x1 x3 0 x2 h hP hS (lv_sub hl [0, 1, 3] rfl)
      · have h := mif_t c13 h
        refine lv_iconst (v := 1) hx hb dX2_unknown_27 (by decide) ?_
        refine lv_iload_n hx hb dX2_unknown_28 rfl (lv_at hl 3 rfl) ?_
        refine lv_ishl hx hb dX2_unknown_29 ?_
        refine lv_goto (tgt := 34) hx hb dX2_unknown_30 (by decide) ?_
        exact w_X2_unknown_34 hC hR N (f_X2_unknown_4 N (ub G) (ug G) a0 n) ih u10 x1 x3 (1 <<< (x3 &&& 31)) x2 h hP hS (lv_sub hl [0, 1, 3] rfl)
def f_X2_unknown (N b : Nat) (g : uEnv) (u : UH) (a0 : Nat) (x1 : Int32) : Option (Int32 × UH) :=
    f_X2_unknown_4 N b g a0 N u x1 0 0
set_option maxHeartbeats 4000000 in
set_option maxRecDepth 100000 in
theorem zz_X2_unknown_0 {G : uG} {a0 : Nat} {uf : UH} {r : Int32} (N : Nat) (u : UH) (x1 : Int32) (h : f_X2_unknown N (ub G) (ug G) u a0 x1 = some (r, uf)) : uf.1 = u.1 ∧ uf.2.1 = u.2.1 := by
  unfold f_X2_unknown at h
  have hq := zz_X2_unknown_4 (G := G) (a0 := a0) N N u x1 0 0 h
  exact ⟨by omega, by omega⟩
set_option maxHeartbeats 4000000 in
set_option maxRecDepth 100000 in
theorem w_X2_unknown_0 {p : Program} {l : Launch} {e : Env} {R : Room} {s : State} {m : MethodId} {args : Array Value} {below : List Frame} {meth : Method} {c : Code} {G : uG} {a0 : Nat} {uf : UH} {r : Int32} (hC : uC p s m args meth c G RX2 cX2_unknown 4 (some .int)) (hR : 1 ≤ R.frames ∧ 21 ≤ R.locals) (N : Nat) (u : UH) (x1 : Int32) (h : f_X2_unknown N (ub G) (ug G) u a0 x1 = some (r, uf)) {H : Heap} {locs : List Loc} (hP : uP G u H) (hS : va_S (uA G) s.heap H locs) {ls : Array Slot} (hl : lv_has ls 4 [(0, va_rf (some a0)), (1, .int x1)]) : W p l e R s m args below meth c H locs 0 0 (MQ below (uQi G r uf) args s 0 0 (uA G)) (F0 m 0 ls []) := by
  obtain ⟨⟨hx, hb, hml, hown, hts⟩, hKK⟩ := id hC
  unfold f_X2_unknown at h
  refine lv_iconst (v := 0) hx hb dX2_unknown_0 (by decide) ?_
  refine lv_istore_n (lv' := [(2, .int 0), (0, va_rf (some a0)), (1, .int x1)]) hx hb dX2_unknown_1 rfl hl (by decide) rfl (fun ls hl => ?_)
  refine lv_iconst (v := 0) hx hb dX2_unknown_2 (by decide) ?_
  refine lv_istore_n (lv' := [(3, .int 0), (2, .int 0), (0, va_rf (some a0)), (1, .int x1)]) hx hb dX2_unknown_3 rfl hl (by decide) rfl (fun ls hl => ?_)
  exact w_X2_unknown_4 hC hR N N u x1 0 0 h _ _ hP hS _ (lv_sub hl [2, 3, 1, 0] rfl)
theorem zz_X2_unknown (N b : Nat) (g : uEnv) (u : UH) (a0 : Nat) (x1 : Int32) (r : Int32) (uf : UH) (h : f_X2_unknown N b g u a0 x1 = some (r, uf)) : uf.1 = u.1 ∧ uf.2.1 = u.2.1 :=
  zz_X2_unknown_0 (G := ((fun _ => 0, fun _ _ => 0), fun _ => 0, b, g)) (a0 := a0) N u x1 h
theorem met_X2_unknown (l : Launch) (N : Nat) (G : uG) (u : UH) (a0 : Nat) (x1 : Int32) (r : Int32) (uf : UH) (h : f_X2_unknown N (ub G) (ug G) u a0 x1 = some (r, uf)) : Met l yX2_unknown (ws_ yX2_unknown cX2_unknown 4 (some .int)) ({ frames := 1, cells := 0, slots := 0, locals := 21 }) (uPc G u [.ref a0, .int x1]) (uQi G r uf) 0 0 (uA G) := by
  exact u_met (own := RX2) (by decide +kernel) rfl (Nat.le_of_ble_eq_true rfl) (fun hC hn hsz ls hl hP => w_X2_unknown_0 hC ⟨Nat.le_refl _, Nat.le_refl _⟩ N u x1 h hP va_S.rf hl)

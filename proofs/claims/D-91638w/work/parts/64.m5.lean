/-! BY gen_heap.py: X3_height X3_init X3_lands X3_led X3_make X3_map X3_part X3_mean X3_of X3_wayWord X3_order X3_opens -/
def f_X3_height (N b : Nat) (g : uEnv) (u : UH) (a0 : Nat) (x1 : Int32) (x2 : Int32) : Option (Int32 × UH) :=
    if uIs u a0 2 = true then
    (f_X3_good N b g u a0).bind fun u2 =>
    if uIs u2 a0 2 = true then
    ucall (f_X3_isCell N b g u2 a0 x1) fun r7 u5 =>
    if r7 = 0 then
    if uIs u5 a0 2 = true then
    ucall (f_X3_not N b g u5 a0 1) fun r25 u23 =>
    if uFit .boolean r25 = true then
    some (r25, u23)
    else none
    else none
    else
    ucall (f_X3_within N b g u5 x2 0 999) fun r11 u9 =>
    if r11 = 0 then
    if uIs u9 a0 2 = true then
    ucall (f_X3_not N b g u9 a0 2) fun r20 u18 =>
    if uFit .boolean r20 = true then
    some (r20, u18)
    else none
    else none
    else
    (uGR u9 a0 2 41).bind fun o13 =>
    (o13).bind fun a14 =>
    (uStI b u9 a14 0 x1 x2).bind fun u15 =>
    (uPut b u15 a0 2 51 (.int 0)).bind fun u16 =>
    some (1, u16)
    else none
    else none
set_option maxHeartbeats 4000000 in
set_option maxRecDepth 100000 in
theorem zz_X3_height_0 {G : uG} {a0 : Nat} {uf : UH} {r : Int32} (N : Nat) (u : UH) (x1 : Int32) (x2 : Int32) (h : f_X3_height N (ub G) (ug G) u a0 x1 x2 = some (r, uf)) : uf.1 = u.1 ∧ uf.2.1 = u.2.1 := by
  unfold f_X3_height at h
  obtain ⟨c1, h⟩ := mif_n h
  obtain ⟨u2, c3, h⟩ := mbind_n h
  have zu2 := zz_X3_good N (ub G) (ug G) u a0 u2 c3
  obtain ⟨c4, h⟩ := mif_n h
  obtain ⟨r7, u5, c6, h⟩ := ucall_n h
  have zu5 := zz_X3_isCell N (ub G) (ug G) u2 a0 x1 r7 u5 c6
  by_cases c8 : r7 = 0
  · have h := mif_t c8 h
    obtain ⟨c22, h⟩ := mif_n h
    obtain ⟨r25, u23, c24, h⟩ := ucall_n h
    have zu23 := zz_X3_not N (ub G) (ug G) u5 a0 1 r25 u23 c24
    obtain ⟨c26, h⟩ := mif_n h
    obtain ⟨hr1, hr2⟩ := uret_n h
    subst hr2
    exact ⟨by omega, by omega⟩
  · have h := mif_f c8 h
    obtain ⟨r11, u9, c10, h⟩ := ucall_n h
    have zu9 := zz_X3_within N (ub G) (ug G) u5 x2 0 999 r11 u9 c10
    by_cases c12 : r11 = 0
    · have h := mif_t c12 h
      obtain ⟨c17, h⟩ := mif_n h
      obtain ⟨r20, u18, c19, h⟩ := ucall_n h
      have zu18 := zz_X3_not N (ub G) (ug G) u9 a0 2 r20 u18 c19
      obtain ⟨c21, h⟩ := mif_n h
      obtain ⟨hr1, hr2⟩ := uret_n h
      subst hr2
      exact ⟨by omega, by omega⟩
    · have h := mif_f c12 h
      obtain ⟨o13, ho13, h⟩ := mbind_n h
      obtain ⟨a14, ha14, hha14⟩ := mbind_n h
      subst ha14
      have h := hha14
      obtain ⟨u15, hu15, h⟩ := mbind_n h
      have zu15 := uStI_sz hu15
      obtain ⟨u16, hu16, h⟩ := mbind_n h
      have zu16 := uPut_sz hu16
      obtain ⟨hr1, hr2⟩ := uret_n h
      subst hr2
      exact ⟨by omega, by omega⟩
set_option maxHeartbeats 4000000 in
set_option maxRecDepth 100000 in
theorem w_X3_height_0 {p : Program} {l : Launch} {e : Env} {R : Room} {s : State} {m : MethodId} {args : Array Value} {below : List Frame} {meth : Method} {c : Code} {G : uG} {a0 : Nat} {uf : UH} {r : Int32} (hC : uC p s m args meth c G RX3 cX3_height 3 (some .boolean)) (hR : 2 ≤ R.frames ∧ 43 ≤ R.locals) (N : Nat) (u : UH) (x1 : Int32) (x2 : Int32) (h : f_X3_height N (ub G) (ug G) u a0 x1 x2 = some (r, uf)) {H : Heap} {locs : List Loc} (hP : uP G u H) (hS : va_S (uA G) s.heap H locs) {ls : Array Slot} (hl : lv_has ls 3 [(0, va_rf (some a0)), (1, .int x1), (2, .int x2)]) : W p l e R s m args below meth c H locs 0 0 (MQ below (uQi G r uf) args s 0 0 (uA G)) (F0 m 0 ls []) := by
  obtain ⟨⟨hx, hb, hml, hown, hts⟩, hKK⟩ := id hC
  unfold f_X3_height at h
  refine u_aload_n (r := some a0) hx hb dX3_height_0 rfl (lv_at hl 0 rfl) ?_
  obtain ⟨c1, h⟩ := mif_n h
  obtain ⟨u2, c3, h⟩ := mbind_n h
  have zu2 := zz_X3_good N (ub G) (ug G) u a0 u2 c3
  refine u_callv (va_runV (As := []) (rest := []) hC.1 (met_X3_good l N G u a0 u2 c3) (cwV 0 hts (lw_V q2131 q2133 qs40 q103 q2134) rfl rfl rfl (by decide +kernel) ⟨Nat.le_trans (Nat.le_of_ble_eq_true rfl) hR.1, Nat.le_trans (Nat.le_of_ble_eq_true rfl) hR.2⟩) ⟨uPc_blind, u_rcv hC hP c1 rfl, fun U hU hW => u_pre hC hP hS hU hW⟩ rfl rfl hl.1 rfl (lv_room (Nat.le_of_ble_eq_true rfl)) dX3_height_1 ⟨Nat.zero_le _, Nat.zero_le _⟩) hS (fun H locs hP hS => ?_)
  refine u_aload_n (r := some a0) hx hb dX3_height_4 rfl (lv_at hl 0 rfl) ?_
  refine lv_iload_n hx hb dX3_height_5 rfl (lv_at hl 1 rfl) ?_
  obtain ⟨c4, h⟩ := mif_n h
  obtain ⟨r7, u5, c6, h⟩ := ucall_n h
  have zu5 := zz_X3_isCell N (ub G) (ug G) u2 a0 x1 r7 u5 c6
  refine u_calli (va_runV (As := [.int x1]) (rest := []) hC.1 (met_X3_isCell l N G u2 a0 x1 r7 u5 c6) (cwV 1 hts (lw_V q2276 q2278 qs60 q103 q2279) rfl rfl rfl (by decide +kernel) ⟨Nat.le_trans (Nat.le_of_ble_eq_true rfl) hR.1, Nat.le_trans (Nat.le_of_ble_eq_true rfl) hR.2⟩) ⟨uPc_blind, u_rcv hC hP c4 rfl, fun U hU hW => u_pre hC hP hS hU hW⟩ rfl rfl hl.1 rfl (lv_room (Nat.le_of_ble_eq_true rfl)) dX3_height_6 ⟨Nat.zero_le _, Nat.zero_le _⟩) hS (fun H locs hP hS => ?_)
  refine lv_if_ne (tgt := 18) hx hb dX3_height_9 (by decide) (fun c8 => ?_) (fun c8 => ?_)
  · have h := mif_f c8 h
    refine lv_iload_n hx hb dX3_height_18 rfl (lv_at hl 2 rfl) ?_
    refine lv_iconst (v := 0) hx hb dX3_height_19 (by decide) ?_
    refine lv_sipush (v := 999) hx hb dX3_height_20 (by decide) ?_
    obtain ⟨r11, u9, c10, h⟩ := ucall_n h
    have zu9 := zz_X3_within N (ub G) (ug G) u5 x2 0 999 r11 u9 c10
    refine u_calli (va_runS (As := [.int x2, .int 0, .int 999]) (rest := []) hC.1 (met_X3_within l N G u5 x2 0 999 r11 u9 c10) (va_cwS 3 hts (lw_S q2135 q2136 q103 q2137) rfl rfl rfl (by decide +kernel) ⟨Nat.le_trans (Nat.le_of_ble_eq_true rfl) hR.1, Nat.le_trans (Nat.le_of_ble_eq_true rfl) hR.2⟩) ⟨uPc_blind, fun U hU hW => u_pre hC hP hS hU hW⟩ rfl rfl hl.1 rfl (lv_room (Nat.le_of_ble_eq_true rfl)) dX3_height_23 ⟨Nat.zero_le _, Nat.zero_le _⟩) hS (fun H locs hP hS => ?_)
    refine lv_if_ne (tgt := 35) hx hb dX3_height_26 (by decide) (fun c12 => ?_) (fun c12 => ?_)
    · have h := mif_f c12 h
      refine u_aload_n (r := some a0) hx hb dX3_height_35 rfl (lv_at hl 0 rfl) ?_
      obtain ⟨o13, ho13, h⟩ := mbind_n h
      refine u_get hC hP (uGR_n ho13) rfl in_X3 (by decide) q1934 (fun _ h => h) dX3_height_36 ?_
      refine lv_iload_n hx hb dX3_height_39 rfl (lv_at hl 1 rfl) ?_
      refine lv_iload_n hx hb dX3_height_40 rfl (lv_at hl 2 rfl) ?_
      obtain ⟨a14, ha14, hha14⟩ := mbind_n h
      subst ha14
      have h := hha14
      obtain ⟨u15, hu15, h⟩ := mbind_n h
      have zu15 := uStI_sz hu15
      refine u_iast hC hP hS hu15 rfl dX3_height_41 (fun H locs hP hS => ?_)
      refine u_aload_n (r := some a0) hx hb dX3_height_42 rfl (lv_at hl 0 rfl) ?_
      refine lv_iconst (v := 0) hx hb dX3_height_43 (by decide) ?_
      obtain ⟨u16, hu16, h⟩ := mbind_n h
      have zu16 := uPut_sz hu16
      refine u_put hC hP hS hu16 rfl in_X3 tyX3 tyX3_ok nmX3 (by decide) q1944 (fun _ h => h) rfl (ty := .boolean) (tyX3_ok 51 (by decide)) (uFit_n (ty := .boolean) (v := 0) rfl).1 (uFit_n (ty := .boolean) (v := 0) rfl).2 dX3_height_44 (fun H locs hP hS => ?_)
      refine lv_iconst (v := 1) hx hb dX3_height_47 (by decide) ?_
      obtain ⟨hr1, hr2⟩ := uret_n h
      subst hr1
      subst hr2
      exact u_zret hC (uFit_n (ty := .boolean) (v := 1) rfl).1 hP hS dX3_height_48
    · have h := mif_t c12 h
      refine u_aload_n (r := some a0) hx hb dX3_height_29 rfl (lv_at hl 0 rfl) ?_
      refine lv_iconst (v := 2) hx hb dX3_height_30 (by decide) ?_
      obtain ⟨c17, h⟩ := mif_n h
      obtain ⟨r20, u18, c19, h⟩ := ucall_n h
      have zu18 := zz_X3_not N (ub G) (ug G) u9 a0 2 r20 u18 c19
      refine u_calli (va_runV (As := [.int 2]) (rest := []) hC.1 (met_X3_not l N G u9 a0 2 r20 u18 c19) (cwV 1 hts (lw_V q2264 q2266 qs59 q103 q2267) rfl rfl rfl (by decide +kernel) ⟨Nat.le_trans (Nat.le_of_ble_eq_true rfl) hR.1, Nat.le_trans (Nat.le_of_ble_eq_true rfl) hR.2⟩) ⟨uPc_blind, u_rcv hC hP c17 rfl, fun U hU hW => u_pre hC hP hS hU hW⟩ rfl rfl hl.1 rfl (lv_room (Nat.le_of_ble_eq_true rfl)) dX3_height_31 ⟨Nat.zero_le _, Nat.zero_le _⟩) hS (fun H locs hP hS => ?_)
      obtain ⟨c21, h⟩ := mif_n h
      obtain ⟨hr1, hr2⟩ := uret_n h
      subst hr1
      subst hr2
      exact u_zret hC (uFit_n c21).1 hP hS dX3_height_34
  · have h := mif_t c8 h
    refine u_aload_n (r := some a0) hx hb dX3_height_12 rfl (lv_at hl 0 rfl) ?_
    refine lv_iconst (v := 1) hx hb dX3_height_13 (by decide) ?_
    obtain ⟨c22, h⟩ := mif_n h
    obtain ⟨r25, u23, c24, h⟩ := ucall_n h
    have zu23 := zz_X3_not N (ub G) (ug G) u5 a0 1 r25 u23 c24
    refine u_calli (va_runV (As := [.int 1]) (rest := []) hC.1 (met_X3_not l N G u5 a0 1 r25 u23 c24) (cwV 1 hts (lw_V q2264 q2266 qs59 q103 q2267) rfl rfl rfl (by decide +kernel) ⟨Nat.le_trans (Nat.le_of_ble_eq_true rfl) hR.1, Nat.le_trans (Nat.le_of_ble_eq_true rfl) hR.2⟩) ⟨uPc_blind, u_rcv hC hP c22 rfl, fun U hU hW => u_pre hC hP hS hU hW⟩ rfl rfl hl.1 rfl (lv_room (Nat.le_of_ble_eq_true rfl)) dX3_height_14 ⟨Nat.zero_le _, Nat.zero_le _⟩) hS (fun H locs hP hS => ?_)
    obtain ⟨c26, h⟩ := mif_n h
    obtain ⟨hr1, hr2⟩ := uret_n h
    subst hr1
    subst hr2
    exact u_zret hC (uFit_n c26).1 hP hS dX3_height_17
theorem zz_X3_height (N b : Nat) (g : uEnv) (u : UH) (a0 : Nat) (x1 : Int32) (x2 : Int32) (r : Int32) (uf : UH) (h : f_X3_height N b g u a0 x1 x2 = some (r, uf)) : uf.1 = u.1 ∧ uf.2.1 = u.2.1 :=
  zz_X3_height_0 (G := ((fun _ => 0, fun _ _ => 0), fun _ => 0, b, g)) (a0 := a0) N u x1 x2 h
theorem met_X3_height (l : Launch) (N : Nat) (G : uG) (u : UH) (a0 : Nat) (x1 : Int32) (x2 : Int32) (r : Int32) (uf : UH) (h : f_X3_height N (ub G) (ug G) u a0 x1 x2 = some (r, uf)) : Met l yX3_height (ws_ yX3_height cX3_height 3 (some .boolean)) ({ frames := 2, cells := 0, slots := 0, locals := 43 }) (uPc G u [.ref a0, .int x1, .int x2]) (uQi G r uf) 0 0 (uA G) := by
  exact u_met (own := RX3) (by decide +kernel) rfl (Nat.le_of_ble_eq_true rfl) (fun hC hn hsz ls hl hP => w_X3_height_0 hC ⟨Nat.le_refl _, Nat.le_refl _⟩ N u x1 x2 h hP va_S.rf hl)
def f_X3_init_306 (N b : Nat) (g : uEnv) (a0 : Nat) (u : UH) (s0 : Option Nat) (s1 : Option Nat) : Option (UH) :=
    (s1).bind fun a1 =>
    (uPut b u a1 2 74 (va_rf s0)).bind fun u2 =>
    some u2
set_option maxHeartbeats 4000000 in
set_option maxRecDepth 100000 in
theorem zz_X3_init_306 {G : uG} {a0 : Nat} {uf : UH} (N : Nat) (u : UH) (s0 : Option Nat) (s1 : Option Nat) (h : f_X3_init_306 N (ub G) (ug G) a0 u s0 s1 = some uf) : u.1 ≤ uf.1 ∧ u.2.1 ≤ uf.2.1 := by
  unfold f_X3_init_306 at h
  obtain ⟨a1, ha1, hha1⟩ := mbind_n h
  subst ha1
  have h := hha1
  obtain ⟨u2, hu2, h⟩ := mbind_n h
  have zu2 := uPut_sz hu2
  cases h
  exact ⟨by omega, by omega⟩
set_option maxHeartbeats 4000000 in
set_option maxRecDepth 100000 in
theorem w_X3_init_306 {p : Program} {l : Launch} {e : Env} {R : Room} {s : State} {m : MethodId} {args : Array Value} {below : List Frame} {meth : Method} {c : Code} {G : uG} {a0 : Nat} {u0 : UH} {uf : UH} (hC : uC p s m args meth c G RX3 cX3_init 1 none) (hI : meth.name = "<init>") (hR : 1 ≤ R.frames ∧ 20 ≤ R.locals) (hRm : uf.1 - u0.1 ≤ R.cells ∧ uf.2.1 - u0.2.1 ≤ R.slots) (N : Nat) (u : UH) (s0 : Option Nat) (s1 : Option Nat) (h : f_X3_init_306 N (ub G) (ug G) a0 u s0 s1 = some uf) (hz0 : (u0.1 ≤ u.1 ∧ u0.2.1 ≤ u.2.1)) {H : Heap} {locs : List Loc} (hP : uP G u H) (hS : va_S (uA G) s.heap H locs) {ls : Array Slot} (hl : lv_has ls 1 []) : W p l e R s m args below meth c H locs (u.1 - u0.1) (u.2.1 - u0.2.1) (MQ below (uQv G uf) args s (uf.1 - u0.1) (uf.2.1 - u0.2.1) (uA G)) (F0 m 306 ls [va_rf s0, va_rf s1]) := by
  obtain ⟨⟨hx, hb, hml, hown, hts⟩, hKK⟩ := id hC
  have hzf := zz_X3_init_306 (G := G) (a0 := a0) N u s0 s1 h
  unfold f_X3_init_306 at h
  obtain ⟨a1, ha1, hha1⟩ := mbind_n h
  subst ha1
  have h := hha1
  obtain ⟨u2, hu2, h⟩ := mbind_n h
  have zu2 := uPut_sz hu2
  refine u_putF hC hI hP hS hu2 rfl in_X3 tyX3 tyX3_ok nmX3 (by decide) q1967 (fun _ h => h) rfl rfl (ty := (.array .int)) (tyX3_ok 74 (by decide)) (uNarA _ s0).1 (uNarA _ s0).2 dX3_init_306 (fun H locs hP hS => ?_)
  refine W.cs (cells' := u2.1 - u0.1) (slots' := u2.2.1 - u0.2.1) (by omega) (by omega) ?_
  cases h
  exact u_vret hC hP hS dX3_init_309
def f_X3_init_297 (N b : Nat) (g : uEnv) (a0 : Nat) (u : UH) (s0 : Option Nat) (s1 : Option Nat) : Option (UH) :=
    (s1).bind fun a1 =>
    (uPut b u a1 2 72 (va_rf s0)).bind fun u2 =>
    if ¬ (2000 : Int32) < 0 ∧ (2000 : Int32).toNatClampNeg ≤ 60000000 then
    mlet (u2.1) fun a5 =>
    mlet (uNew u2 (2000 : Int32).toNatClampNeg (.inl (0, (2000 : Int32).toNatClampNeg, .inl (fun _ => 0)))) fun u3 =>
    f_X3_init_306 N b g a0 u3 (some a5) (some a0)
    else none
set_option maxHeartbeats 4000000 in
set_option maxRecDepth 100000 in
theorem zz_X3_init_297 {G : uG} {a0 : Nat} {uf : UH} (N : Nat) (u : UH) (s0 : Option Nat) (s1 : Option Nat) (h : f_X3_init_297 N (ub G) (ug G) a0 u s0 s1 = some uf) : u.1 ≤ uf.1 ∧ u.2.1 ≤ uf.2.1 := by
  unfold f_X3_init_297 at h
  obtain ⟨a1, ha1, hha1⟩ := mbind_n h
  subst ha1
  have h := hha1
  obtain ⟨u2, hu2, h⟩ := mbind_n h
  have zu2 := uPut_sz hu2
  obtain ⟨c4, h⟩ := mif_n h
  obtain ⟨a5, ea5⟩ : ∃ z : Nat, z = u2.1 := ⟨_, rfl⟩
  have h := mlet_at ea5 h
  obtain ⟨u3, eu3⟩ : ∃ z : UH, z = uNew u2 (2000 : Int32).toNatClampNeg (.inl (0, (2000 : Int32).toNatClampNeg, .inl (fun _ => 0))) := ⟨_, rfl⟩
  have h := mlet_at eu3 h
  have zu3 : u3.1 = u2.1 + 1 ∧ u3.2.1 = u2.2.1 + (2000 : Int32).toNatClampNeg := by rw [eu3]; exact ⟨rfl, rfl⟩
  have hq := zz_X3_init_306 (G := G) (a0 := a0) N u3 (some a5) (some a0) h
  exact ⟨by omega, by omega⟩
set_option maxHeartbeats 4000000 in
set_option maxRecDepth 100000 in
theorem w_X3_init_297 {p : Program} {l : Launch} {e : Env} {R : Room} {s : State} {m : MethodId} {args : Array Value} {below : List Frame} {meth : Method} {c : Code} {G : uG} {a0 : Nat} {u0 : UH} {uf : UH} (hC : uC p s m args meth c G RX3 cX3_init 1 none) (hI : meth.name = "<init>") (hR : 1 ≤ R.frames ∧ 20 ≤ R.locals) (hRm : uf.1 - u0.1 ≤ R.cells ∧ uf.2.1 - u0.2.1 ≤ R.slots) (N : Nat) (u : UH) (s0 : Option Nat) (s1 : Option Nat) (h : f_X3_init_297 N (ub G) (ug G) a0 u s0 s1 = some uf) (hz0 : (u0.1 ≤ u.1 ∧ u0.2.1 ≤ u.2.1)) {H : Heap} {locs : List Loc} (hP : uP G u H) (hS : va_S (uA G) s.heap H locs) {ls : Array Slot} (hl : lv_has ls 1 [(0, va_rf (some a0))]) : W p l e R s m args below meth c H locs (u.1 - u0.1) (u.2.1 - u0.2.1) (MQ below (uQv G uf) args s (uf.1 - u0.1) (uf.2.1 - u0.2.1) (uA G)) (F0 m 297 ls [va_rf s0, va_rf s1]) := by
  obtain ⟨⟨hx, hb, hml, hown, hts⟩, hKK⟩ := id hC
  have hzf := zz_X3_init_297 (G := G) (a0 := a0) N u s0 s1 h
  unfold f_X3_init_297 at h
  obtain ⟨a1, ha1, hha1⟩ := mbind_n h
  subst ha1
  have h := hha1
  obtain ⟨u2, hu2, h⟩ := mbind_n h
  have zu2 := uPut_sz hu2
  refine u_putF hC hI hP hS hu2 rfl in_X3 tyX3 tyX3_ok nmX3 (by decide) q1965 (fun _ h => h) rfl rfl (ty := (.array .int)) (tyX3_ok 72 (by decide)) (uNarA _ s0).1 (uNarA _ s0).2 dX3_init_297 (fun H locs hP hS => ?_)
  refine W.cs (cells' := u2.1 - u0.1) (slots' := u2.2.1 - u0.2.1) (by omega) (by omega) ?_
  refine u_aload_n (r := some a0) hx hb dX3_init_300 rfl (lv_at hl 0 rfl) ?_
  refine lv_sipush (v := 2000) hx hb dX3_init_301 (by decide) ?_
  obtain ⟨c4, h⟩ := mif_n h
  obtain ⟨a5, ea5⟩ : ∃ z : Nat, z = u2.1 := ⟨_, rfl⟩
  have h := mlet_at ea5 h
  obtain ⟨u3, eu3⟩ : ∃ z : UH, z = uNew u2 (2000 : Int32).toNatClampNeg (.inl (0, (2000 : Int32).toNatClampNeg, .inl (fun _ => 0))) := ⟨_, rfl⟩
  have h := mlet_at eu3 h
  have zu3 : u3.1 = u2.1 + 1 ∧ u3.2.1 = u2.2.1 + (2000 : Int32).toNatClampNeg := by rw [eu3]; exact ⟨rfl, rfl⟩
  have hq := zz_X3_init_306 (G := G) (a0 := a0) N u3 (some a5) (some a0) h
  refine u_newa (atype := .int) hC hP hS (t := 0) q188 rfl (N := (2000 : Int32).toNatClampNeg) (x := .inl (fun _ => 0)) (fun _ => rfl) c4.1 rfl (by have := c4.2; show _ * 4 ≤ _; omega) (by omega) (by omega) dX3_init_304 (fun H hP hS => ?_)
  rw [← eu3] at hP
  rw [← ea5]
  refine W.cs (cells' := u3.1 - u0.1) (slots' := u3.2.1 - u0.2.1) (by omega) (by omega) ?_
  refine W.cs (cells' := u3.1 - u0.1) (slots' := u3.2.1 - u0.2.1) (by omega) (by omega) ?_
  exact w_X3_init_306 hC hI hR hRm N u3 (some a5) (some a0) h ⟨by omega, by omega⟩ hP hS (lv_sub hl [] rfl)
def f_X3_init_289 (N b : Nat) (g : uEnv) (a0 : Nat) (u : UH) (s0 : Option Nat) (s1 : Option Nat) : Option (UH) :=
    (s1).bind fun a1 =>
    (uPut b u a1 2 71 (va_rf s0)).bind fun u2 =>
    if ¬ (100 : Int32) < 0 ∧ (100 : Int32).toNatClampNeg ≤ 60000000 then
    mlet (u2.1) fun a5 =>
    mlet (uNew u2 (100 : Int32).toNatClampNeg (.inl (0, (100 : Int32).toNatClampNeg, .inl (fun _ => 0)))) fun u3 =>
    f_X3_init_297 N b g a0 u3 (some a5) (some a0)
    else none
set_option maxHeartbeats 4000000 in
set_option maxRecDepth 100000 in
theorem zz_X3_init_289 {G : uG} {a0 : Nat} {uf : UH} (N : Nat) (u : UH) (s0 : Option Nat) (s1 : Option Nat) (h : f_X3_init_289 N (ub G) (ug G) a0 u s0 s1 = some uf) : u.1 ≤ uf.1 ∧ u.2.1 ≤ uf.2.1 := by
  unfold f_X3_init_289 at h
  obtain ⟨a1, ha1, hha1⟩ := mbind_n h
  subst ha1
  have h := hha1
  obtain ⟨u2, hu2, h⟩ := mbind_n h
  have zu2 := uPut_sz hu2
  obtain ⟨c4, h⟩ := mif_n h
  obtain ⟨a5, ea5⟩ : ∃ z : Nat, z = u2.1 := ⟨_, rfl⟩
  have h := mlet_at ea5 h
  obtain ⟨u3, eu3⟩ : ∃ z : UH, z = uNew u2 (100 : Int32).toNatClampNeg (.inl (0, (100 : Int32).toNatClampNeg, .inl (fun _ => 0))) := ⟨_, rfl⟩
  have h := mlet_at eu3 h
  have zu3 : u3.1 = u2.1 + 1 ∧ u3.2.1 = u2.2.1 + (100 : Int32).toNatClampNeg := by rw [eu3]; exact ⟨rfl, rfl⟩
  have hq := zz_X3_init_297 (G := G) (a0 := a0) N u3 (some a5) (some a0) h
  exact ⟨by omega, by omega⟩
set_option maxHeartbeats 4000000 in
set_option maxRecDepth 100000 in
theorem w_X3_init_289 {p : Program} {l : Launch} {e : Env} {R : Room} {s : State} {m : MethodId} {args : Array Value} {below : List Frame} {meth : Method} {c : Code} {G : uG} {a0 : Nat} {u0 : UH} {uf : UH} (hC : uC p s m args meth c G RX3 cX3_init 1 none) (hI : meth.name = "<init>") (hR : 1 ≤ R.frames ∧ 20 ≤ R.locals) (hRm : uf.1 - u0.1 ≤ R.cells ∧ uf.2.1 - u0.2.1 ≤ R.slots) (N : Nat) (u : UH) (s0 : Option Nat) (s1 : Option Nat) (h : f_X3_init_289 N (ub G) (ug G) a0 u s0 s1 = some uf) (hz0 : (u0.1 ≤ u.1 ∧ u0.2.1 ≤ u.2.1)) {H : Heap} {locs : List Loc} (hP : uP G u H) (hS : va_S (uA G) s.heap H locs) {ls : Array Slot} (hl : lv_has ls 1 [(0, va_rf (some a0))]) : W p l e R s m args below meth c H locs (u.1 - u0.1) (u.2.1 - u0.2.1) (MQ below (uQv G uf) args s (uf.1 - u0.1) (uf.2.1 - u0.2.1) (uA G)) (F0 m 289 ls [va_rf s0, va_rf s1]) := by
  obtain ⟨⟨hx, hb, hml, hown, hts⟩, hKK⟩ := id hC
  have hzf := zz_X3_init_289 (G := G) (a0 := a0) N u s0 s1 h
  unfold f_X3_init_289 at h
  obtain ⟨a1, ha1, hha1⟩ := mbind_n h
  subst ha1
  have h := hha1
  obtain ⟨u2, hu2, h⟩ := mbind_n h
  have zu2 := uPut_sz hu2
  refine u_putF hC hI hP hS hu2 rfl in_X3 tyX3 tyX3_ok nmX3 (by decide) q1964 (fun _ h => h) rfl rfl (ty := (.array .int)) (tyX3_ok 71 (by decide)) (uNarA _ s0).1 (uNarA _ s0).2 dX3_init_289 (fun H locs hP hS => ?_)
  refine W.cs (cells' := u2.1 - u0.1) (slots' := u2.2.1 - u0.2.1) (by omega) (by omega) ?_
  refine u_aload_n (r := some a0) hx hb dX3_init_292 rfl (lv_at hl 0 rfl) ?_
  refine lv_bipush (v := 100) hx hb dX3_init_293 (by decide) ?_
  obtain ⟨c4, h⟩ := mif_n h
  obtain ⟨a5, ea5⟩ : ∃ z : Nat, z = u2.1 := ⟨_, rfl⟩
  have h := mlet_at ea5 h
  obtain ⟨u3, eu3⟩ : ∃ z : UH, z = uNew u2 (100 : Int32).toNatClampNeg (.inl (0, (100 : Int32).toNatClampNeg, .inl (fun _ => 0))) := ⟨_, rfl⟩
  have h := mlet_at eu3 h
  have zu3 : u3.1 = u2.1 + 1 ∧ u3.2.1 = u2.2.1 + (100 : Int32).toNatClampNeg := by rw [eu3]; exact ⟨rfl, rfl⟩
  have hq := zz_X3_init_297 (G := G) (a0 := a0) N u3 (some a5) (some a0) h
  refine u_newa (atype := .int) hC hP hS (t := 0) q188 rfl (N := (100 : Int32).toNatClampNeg) (x := .inl (fun _ => 0)) (fun _ => rfl) c4.1 rfl (by have := c4.2; show _ * 4 ≤ _; omega) (by omega) (by omega) dX3_init_295 (fun H hP hS => ?_)
  rw [← eu3] at hP
  rw [← ea5]
  refine W.cs (cells' := u3.1 - u0.1) (slots' := u3.2.1 - u0.2.1) (by omega) (by omega) ?_
  refine W.cs (cells' := u3.1 - u0.1) (slots' := u3.2.1 - u0.2.1) (by omega) (by omega) ?_
  exact w_X3_init_297 hC hI hR hRm N u3 (some a5) (some a0) h ⟨by omega, by omega⟩ hP hS (lv_sub hl [0] rfl)
def f_X3_init_280 (N b : Nat) (g : uEnv) (a0 : Nat) (u : UH) (s0 : Option Nat) (s1 : Option Nat) : Option (UH) :=
    (s1).bind fun a1 =>
    (uPut b u a1 2 70 (va_rf s0)).bind fun u2 =>
    if ¬ (3200 : Int32) < 0 ∧ (3200 : Int32).toNatClampNeg ≤ 60000000 then
    mlet (u2.1) fun a5 =>
    mlet (uNew u2 (3200 : Int32).toNatClampNeg (.inl (0, (3200 : Int32).toNatClampNeg, .inl (fun _ => 0)))) fun u3 =>
    f_X3_init_289 N b g a0 u3 (some a5) (some a0)
    else none
set_option maxHeartbeats 4000000 in
set_option maxRecDepth 100000 in
theorem zz_X3_init_280 {G : uG} {a0 : Nat} {uf : UH} (N : Nat) (u : UH) (s0 : Option Nat) (s1 : Option Nat) (h : f_X3_init_280 N (ub G) (ug G) a0 u s0 s1 = some uf) : u.1 ≤ uf.1 ∧ u.2.1 ≤ uf.2.1 := by
  unfold f_X3_init_280 at h
  obtain ⟨a1, ha1, hha1⟩ := mbind_n h
  subst ha1
  have h := hha1
  obtain ⟨u2, hu2, h⟩ := mbind_n h
  have zu2 := uPut_sz hu2
  obtain ⟨c4, h⟩ := mif_n h
  obtain ⟨a5, ea5⟩ : ∃ z : Nat, z = u2.1 := ⟨_, rfl⟩
  have h := mlet_at ea5 h
  obtain ⟨u3, eu3⟩ : ∃ z : UH, z = uNew u2 (3200 : Int32).toNatClampNeg (.inl (0, (3200 : Int32).toNatClampNeg, .inl (fun _ => 0))) := ⟨_, rfl⟩
  have h := mlet_at eu3 h
  have zu3 : u3.1 = u2.1 + 1 ∧ u3.2.1 = u2.2.1 + (3200 : Int32).toNatClampNeg := by rw [eu3]; exact ⟨rfl, rfl⟩
  have hq := zz_X3_init_289 (G := G) (a0 := a0) N u3 (some a5) (some a0) h
  exact ⟨by omega, by omega⟩
set_option maxHeartbeats 4000000 in
set_option maxRecDepth 100000 in
theorem w_X3_init_280 {p : Program} {l : Launch} {e : Env} {R : Room} {s : State} {m : MethodId} {args : Array Value} {below : List Frame} {meth : Method} {c : Code} {G : uG} {a0 : Nat} {u0 : UH} {uf : UH} (hC : uC p s m args meth c G RX3 cX3_init 1 none) (hI : meth.name = "<init>") (hR : 1 ≤ R.frames ∧ 20 ≤ R.locals) (hRm : uf.1 - u0.1 ≤ R.cells ∧ uf.2.1 - u0.2.1 ≤ R.slots) (N : Nat) (u : UH) (s0 : Option Nat) (s1 : Option Nat) (h : f_X3_init_280 N (ub G) (ug G) a0 u s0 s1 = some uf) (hz0 : (u0.1 ≤ u.1 ∧ u0.2.1 ≤ u.2.1)) {H : Heap} {locs : List Loc} (hP : uP G u H) (hS : va_S (uA G) s.heap H locs) {ls : Array Slot} (hl : lv_has ls 1 [(0, va_rf (some a0))]) : W p l e R s m args below meth c H locs (u.1 - u0.1) (u.2.1 - u0.2.1) (MQ below (uQv G uf) args s (uf.1 - u0.1) (uf.2.1 - u0.2.1) (uA G)) (F0 m 280 ls [va_rf s0, va_rf s1]) := by
  obtain ⟨⟨hx, hb, hml, hown, hts⟩, hKK⟩ := id hC
  have hzf := zz_X3_init_280 (G := G) (a0 := a0) N u s0 s1 h
  unfold f_X3_init_280 at h
  obtain ⟨a1, ha1, hha1⟩ := mbind_n h
  subst ha1
  have h := hha1
  obtain ⟨u2, hu2, h⟩ := mbind_n h
  have zu2 := uPut_sz hu2
  refine u_putF hC hI hP hS hu2 rfl in_X3 tyX3 tyX3_ok nmX3 (by decide) q1963 (fun _ h => h) rfl rfl (ty := (.array .int)) (tyX3_ok 70 (by decide)) (uNarA _ s0).1 (uNarA _ s0).2 dX3_init_280 (fun H locs hP hS => ?_)
  refine W.cs (cells' := u2.1 - u0.1) (slots' := u2.2.1 - u0.2.1) (by omega) (by omega) ?_
  refine u_aload_n (r := some a0) hx hb dX3_init_283 rfl (lv_at hl 0 rfl) ?_
  refine lv_sipush (v := 3200) hx hb dX3_init_284 (by decide) ?_
  obtain ⟨c4, h⟩ := mif_n h
  obtain ⟨a5, ea5⟩ : ∃ z : Nat, z = u2.1 := ⟨_, rfl⟩
  have h := mlet_at ea5 h
  obtain ⟨u3, eu3⟩ : ∃ z : UH, z = uNew u2 (3200 : Int32).toNatClampNeg (.inl (0, (3200 : Int32).toNatClampNeg, .inl (fun _ => 0))) := ⟨_, rfl⟩
  have h := mlet_at eu3 h
  have zu3 : u3.1 = u2.1 + 1 ∧ u3.2.1 = u2.2.1 + (3200 : Int32).toNatClampNeg := by rw [eu3]; exact ⟨rfl, rfl⟩
  have hq := zz_X3_init_289 (G := G) (a0 := a0) N u3 (some a5) (some a0) h
  refine u_newa (atype := .int) hC hP hS (t := 0) q188 rfl (N := (3200 : Int32).toNatClampNeg) (x := .inl (fun _ => 0)) (fun _ => rfl) c4.1 rfl (by have := c4.2; show _ * 4 ≤ _; omega) (by omega) (by omega) dX3_init_287 (fun H hP hS => ?_)
  rw [← eu3] at hP
  rw [← ea5]
  refine W.cs (cells' := u3.1 - u0.1) (slots' := u3.2.1 - u0.2.1) (by omega) (by omega) ?_
  refine W.cs (cells' := u3.1 - u0.1) (slots' := u3.2.1 - u0.2.1) (by omega) (by omega) ?_
  exact w_X3_init_289 hC hI hR hRm N u3 (some a5) (some a0) h ⟨by omega, by omega⟩ hP hS (lv_sub hl [0] rfl)
def f_X3_init_271 (N b : Nat) (g : uEnv) (a0 : Nat) (u : UH) (s0 : Option Nat) (s1 : Option Nat) : Option (UH) :=
    (s1).bind fun a1 =>
    (uPut b u a1 2 68 (va_rf s0)).bind fun u2 =>
    if ¬ (400 : Int32) < 0 ∧ (400 : Int32).toNatClampNeg ≤ 60000000 then
    mlet (u2.1) fun a5 =>
    mlet (uNew u2 (400 : Int32).toNatClampNeg (.inl (0, (400 : Int32).toNatClampNeg, .inl (fun _ => 0)))) fun u3 =>
    f_X3_init_280 N b g a0 u3 (some a5) (some a0)
    else none
set_option maxHeartbeats 4000000 in
set_option maxRecDepth 100000 in
theorem zz_X3_init_271 {G : uG} {a0 : Nat} {uf : UH} (N : Nat) (u : UH) (s0 : Option Nat) (s1 : Option Nat) (h : f_X3_init_271 N (ub G) (ug G) a0 u s0 s1 = some uf) : u.1 ≤ uf.1 ∧ u.2.1 ≤ uf.2.1 := by
  unfold f_X3_init_271 at h
  obtain ⟨a1, ha1, hha1⟩ := mbind_n h
  subst ha1
  have h := hha1
  obtain ⟨u2, hu2, h⟩ := mbind_n h
  have zu2 := uPut_sz hu2
  obtain ⟨c4, h⟩ := mif_n h
  obtain ⟨a5, ea5⟩ : ∃ z : Nat, z = u2.1 := ⟨_, rfl⟩
  have h := mlet_at ea5 h
  obtain ⟨u3, eu3⟩ : ∃ z : UH, z = uNew u2 (400 : Int32).toNatClampNeg (.inl (0, (400 : Int32).toNatClampNeg, .inl (fun _ => 0))) := ⟨_, rfl⟩
  have h := mlet_at eu3 h
  have zu3 : u3.1 = u2.1 + 1 ∧ u3.2.1 = u2.2.1 + (400 : Int32).toNatClampNeg := by rw [eu3]; exact ⟨rfl, rfl⟩
  have hq := zz_X3_init_280 (G := G) (a0 := a0) N u3 (some a5) (some a0) h
  exact ⟨by omega, by omega⟩
set_option maxHeartbeats 4000000 in
set_option maxRecDepth 100000 in
theorem w_X3_init_271 {p : Program} {l : Launch} {e : Env} {R : Room} {s : State} {m : MethodId} {args : Array Value} {below : List Frame} {meth : Method} {c : Code} {G : uG} {a0 : Nat} {u0 : UH} {uf : UH} (hC : uC p s m args meth c G RX3 cX3_init 1 none) (hI : meth.name = "<init>") (hR : 1 ≤ R.frames ∧ 20 ≤ R.locals) (hRm : uf.1 - u0.1 ≤ R.cells ∧ uf.2.1 - u0.2.1 ≤ R.slots) (N : Nat) (u : UH) (s0 : Option Nat) (s1 : Option Nat) (h : f_X3_init_271 N (ub G) (ug G) a0 u s0 s1 = some uf) (hz0 : (u0.1 ≤ u.1 ∧ u0.2.1 ≤ u.2.1)) {H : Heap} {locs : List Loc} (hP : uP G u H) (hS : va_S (uA G) s.heap H locs) {ls : Array Slot} (hl : lv_has ls 1 [(0, va_rf (some a0))]) : W p l e R s m args below meth c H locs (u.1 - u0.1) (u.2.1 - u0.2.1) (MQ below (uQv G uf) args s (uf.1 - u0.1) (uf.2.1 - u0.2.1) (uA G)) (F0 m 271 ls [va_rf s0, va_rf s1]) := by
  obtain ⟨⟨hx, hb, hml, hown, hts⟩, hKK⟩ := id hC
  have hzf := zz_X3_init_271 (G := G) (a0 := a0) N u s0 s1 h
  unfold f_X3_init_271 at h
  obtain ⟨a1, ha1, hha1⟩ := mbind_n h
  subst ha1
  have h := hha1
  obtain ⟨u2, hu2, h⟩ := mbind_n h
  have zu2 := uPut_sz hu2
  refine u_putF hC hI hP hS hu2 rfl in_X3 tyX3 tyX3_ok nmX3 (by decide) q1961 (fun _ h => h) rfl rfl (ty := (.array .int)) (tyX3_ok 68 (by decide)) (uNarA _ s0).1 (uNarA _ s0).2 dX3_init_271 (fun H locs hP hS => ?_)
  refine W.cs (cells' := u2.1 - u0.1) (slots' := u2.2.1 - u0.2.1) (by omega) (by omega) ?_
  refine u_aload_n (r := some a0) hx hb dX3_init_274 rfl (lv_at hl 0 rfl) ?_
  refine lv_sipush (v := 400) hx hb dX3_init_275 (by decide) ?_
  obtain ⟨c4, h⟩ := mif_n h
  obtain ⟨a5, ea5⟩ : ∃ z : Nat, z = u2.1 := ⟨_, rfl⟩
  have h := mlet_at ea5 h
  obtain ⟨u3, eu3⟩ : ∃ z : UH, z = uNew u2 (400 : Int32).toNatClampNeg (.inl (0, (400 : Int32).toNatClampNeg, .inl (fun _ => 0))) := ⟨_, rfl⟩
  have h := mlet_at eu3 h
  have zu3 : u3.1 = u2.1 + 1 ∧ u3.2.1 = u2.2.1 + (400 : Int32).toNatClampNeg := by rw [eu3]; exact ⟨rfl, rfl⟩
  have hq := zz_X3_init_280 (G := G) (a0 := a0) N u3 (some a5) (some a0) h
  refine u_newa (atype := .int) hC hP hS (t := 0) q188 rfl (N := (400 : Int32).toNatClampNeg) (x := .inl (fun _ => 0)) (fun _ => rfl) c4.1 rfl (by have := c4.2; show _ * 4 ≤ _; omega) (by omega) (by omega) dX3_init_278 (fun H hP hS => ?_)
  rw [← eu3] at hP
  rw [← ea5]
  refine W.cs (cells' := u3.1 - u0.1) (slots' := u3.2.1 - u0.2.1) (by omega) (by omega) ?_
  refine W.cs (cells' := u3.1 - u0.1) (slots' := u3.2.1 - u0.2.1) (by omega) (by omega) ?_
  exact w_X3_init_280 hC hI hR hRm N u3 (some a5) (some a0) h ⟨by omega, by omega⟩ hP hS (lv_sub hl [0] rfl)
def f_X3_init_247 (N b : Nat) (g : uEnv) (a0 : Nat) (u : UH) (s0 : Option Nat) (s1 : Option Nat) : Option (UH) :=
    (s1).bind fun a1 =>
    (uPut b u a1 2 62 (va_rf s0)).bind fun u2 =>
    (uPut b u2 a0 2 63 (.int (-1))).bind fun u3 =>
    (uPut b u3 a0 2 64 (.int (-1))).bind fun u4 =>
    (uPut b u4 a0 2 65 (.int (-1))).bind fun u5 =>
    if ¬ (15625 : Int32) < 0 ∧ (15625 : Int32).toNatClampNeg ≤ 60000000 then
    mlet (u5.1) fun a8 =>
    mlet (uNew u5 (15625 : Int32).toNatClampNeg (.inl (0, (15625 : Int32).toNatClampNeg, .inl (fun _ => 0)))) fun u6 =>
    f_X3_init_271 N b g a0 u6 (some a8) (some a0)
    else none
set_option maxHeartbeats 4000000 in
set_option maxRecDepth 100000 in
theorem zz_X3_init_247 {G : uG} {a0 : Nat} {uf : UH} (N : Nat) (u : UH) (s0 : Option Nat) (s1 : Option Nat) (h : f_X3_init_247 N (ub G) (ug G) a0 u s0 s1 = some uf) : u.1 ≤ uf.1 ∧ u.2.1 ≤ uf.2.1 := by
  unfold f_X3_init_247 at h
  obtain ⟨a1, ha1, hha1⟩ := mbind_n h
  subst ha1
  have h := hha1
  obtain ⟨u2, hu2, h⟩ := mbind_n h
  have zu2 := uPut_sz hu2
  obtain ⟨u3, hu3, h⟩ := mbind_n h
  have zu3 := uPut_sz hu3
  obtain ⟨u4, hu4, h⟩ := mbind_n h
  have zu4 := uPut_sz hu4
  obtain ⟨u5, hu5, h⟩ := mbind_n h
  have zu5 := uPut_sz hu5
  obtain ⟨c7, h⟩ := mif_n h
  obtain ⟨a8, ea8⟩ : ∃ z : Nat, z = u5.1 := ⟨_, rfl⟩
  have h := mlet_at ea8 h
  obtain ⟨u6, eu6⟩ : ∃ z : UH, z = uNew u5 (15625 : Int32).toNatClampNeg (.inl (0, (15625 : Int32).toNatClampNeg, .inl (fun _ => 0))) := ⟨_, rfl⟩
  have h := mlet_at eu6 h
  have zu6 : u6.1 = u5.1 + 1 ∧ u6.2.1 = u5.2.1 + (15625 : Int32).toNatClampNeg := by rw [eu6]; exact ⟨rfl, rfl⟩
  have hq := zz_X3_init_271 (G := G) (a0 := a0) N u6 (some a8) (some a0) h
  exact ⟨by omega, by omega⟩
set_option maxHeartbeats 4000000 in
set_option maxRecDepth 100000 in
theorem w_X3_init_247 {p : Program} {l : Launch} {e : Env} {R : Room} {s : State} {m : MethodId} {args : Array Value} {below : List Frame} {meth : Method} {c : Code} {G : uG} {a0 : Nat} {u0 : UH} {uf : UH} (hC : uC p s m args meth c G RX3 cX3_init 1 none) (hI : meth.name = "<init>") (hR : 1 ≤ R.frames ∧ 20 ≤ R.locals) (hRm : uf.1 - u0.1 ≤ R.cells ∧ uf.2.1 - u0.2.1 ≤ R.slots) (N : Nat) (u : UH) (s0 : Option Nat) (s1 : Option Nat) (h : f_X3_init_247 N (ub G) (ug G) a0 u s0 s1 = some uf) (hz0 : (u0.1 ≤ u.1 ∧ u0.2.1 ≤ u.2.1)) {H : Heap} {locs : List Loc} (hP : uP G u H) (hS : va_S (uA G) s.heap H locs) {ls : Array Slot} (hl : lv_has ls 1 [(0, va_rf (some a0))]) : W p l e R s m args below meth c H locs (u.1 - u0.1) (u.2.1 - u0.2.1) (MQ below (uQv G uf) args s (uf.1 - u0.1) (uf.2.1 - u0.2.1) (uA G)) (F0 m 247 ls [va_rf s0, va_rf s1]) := by
  obtain ⟨⟨hx, hb, hml, hown, hts⟩, hKK⟩ := id hC
  have hzf := zz_X3_init_247 (G := G) (a0 := a0) N u s0 s1 h
  unfold f_X3_init_247 at h
  obtain ⟨a1, ha1, hha1⟩ := mbind_n h
  subst ha1
  have h := hha1
  obtain ⟨u2, hu2, h⟩ := mbind_n h
  have zu2 := uPut_sz hu2
  refine u_putF hC hI hP hS hu2 rfl in_X3 tyX3 tyX3_ok nmX3 (by decide) q1955 (fun _ h => h) rfl rfl (ty := (.array .boolean)) (tyX3_ok 62 (by decide)) (uNarA _ s0).1 (uNarA _ s0).2 dX3_init_247 (fun H locs hP hS => ?_)
  refine W.cs (cells' := u2.1 - u0.1) (slots' := u2.2.1 - u0.2.1) (by omega) (by omega) ?_
  refine u_aload_n (r := some a0) hx hb dX3_init_250 rfl (lv_at hl 0 rfl) ?_
  refine lv_iconst (v := (-1)) hx hb dX3_init_251 (by decide) ?_
  obtain ⟨u3, hu3, h⟩ := mbind_n h
  have zu3 := uPut_sz hu3
  refine u_put hC hP hS hu3 rfl in_X3 tyX3 tyX3_ok nmX3 (by decide) q1956 (fun _ h => h) rfl (ty := .int) (tyX3_ok 63 (by decide)) rfl rfl dX3_init_252 (fun H locs hP hS => ?_)
  refine W.cs (cells' := u3.1 - u0.1) (slots' := u3.2.1 - u0.2.1) (by omega) (by omega) ?_
  refine u_aload_n (r := some a0) hx hb dX3_init_255 rfl (lv_at hl 0 rfl) ?_
  refine lv_iconst (v := (-1)) hx hb dX3_init_256 (by decide) ?_
  obtain ⟨u4, hu4, h⟩ := mbind_n h
  have zu4 := uPut_sz hu4
  refine u_put hC hP hS hu4 rfl in_X3 tyX3 tyX3_ok nmX3 (by decide) q1957 (fun _ h => h) rfl (ty := .int) (tyX3_ok 64 (by decide)) rfl rfl dX3_init_257 (fun H locs hP hS => ?_)
  refine W.cs (cells' := u4.1 - u0.1) (slots' := u4.2.1 - u0.2.1) (by omega) (by omega) ?_
  refine u_aload_n (r := some a0) hx hb dX3_init_260 rfl (lv_at hl 0 rfl) ?_
  refine lv_iconst (v := (-1)) hx hb dX3_init_261 (by decide) ?_
  obtain ⟨u5, hu5, h⟩ := mbind_n h
  have zu5 := uPut_sz hu5
  refine u_put hC hP hS hu5 rfl in_X3 tyX3 tyX3_ok nmX3 (by decide) q1958 (fun _ h => h) rfl (ty := .int) (tyX3_ok 65 (by decide)) rfl rfl dX3_init_262 (fun H locs hP hS => ?_)
  refine W.cs (cells' := u5.1 - u0.1) (slots' := u5.2.1 - u0.2.1) (by omega) (by omega) ?_
  refine u_aload_n (r := some a0) hx hb dX3_init_265 rfl (lv_at hl 0 rfl) ?_
  refine lv_sipush (v := 15625) hx hb dX3_init_266 (by decide) ?_
  obtain ⟨c7, h⟩ := mif_n h
  obtain ⟨a8, ea8⟩ : ∃ z : Nat, z = u5.1 := ⟨_, rfl⟩
  have h := mlet_at ea8 h
  obtain ⟨u6, eu6⟩ : ∃ z : UH, z = uNew u5 (15625 : Int32).toNatClampNeg (.inl (0, (15625 : Int32).toNatClampNeg, .inl (fun _ => 0))) := ⟨_, rfl⟩
  have h := mlet_at eu6 h
  have zu6 : u6.1 = u5.1 + 1 ∧ u6.2.1 = u5.2.1 + (15625 : Int32).toNatClampNeg := by rw [eu6]; exact ⟨rfl, rfl⟩
  have hq := zz_X3_init_271 (G := G) (a0 := a0) N u6 (some a8) (some a0) h
  refine u_newa (atype := .int) hC hP hS (t := 0) q188 rfl (N := (15625 : Int32).toNatClampNeg) (x := .inl (fun _ => 0)) (fun _ => rfl) c7.1 rfl (by have := c7.2; show _ * 4 ≤ _; omega) (by omega) (by omega) dX3_init_269 (fun H hP hS => ?_)
  rw [← eu6] at hP
  rw [← ea8]
  refine W.cs (cells' := u6.1 - u0.1) (slots' := u6.2.1 - u0.2.1) (by omega) (by omega) ?_
  refine W.cs (cells' := u6.1 - u0.1) (slots' := u6.2.1 - u0.2.1) (by omega) (by omega) ?_
  exact w_X3_init_271 hC hI hR hRm N u6 (some a8) (some a0) h ⟨by omega, by omega⟩ hP hS (lv_sub hl [0] rfl)
def f_X3_init_239 (N b : Nat) (g : uEnv) (a0 : Nat) (u : UH) (s0 : Option Nat) (s1 : Option Nat) : Option (UH) :=
    (s1).bind fun a1 =>
    (uPut b u a1 2 61 (va_rf s0)).bind fun u2 =>
    if ¬ (8 : Int32) < 0 ∧ (8 : Int32).toNatClampNeg ≤ 60000000 then
    mlet (u2.1) fun a5 =>
    mlet (uNew u2 (8 : Int32).toNatClampNeg (.inl (2, (8 : Int32).toNatClampNeg, .inl (fun _ => 0)))) fun u3 =>
    f_X3_init_247 N b g a0 u3 (some a5) (some a0)
    else none
set_option maxHeartbeats 4000000 in
set_option maxRecDepth 100000 in
theorem zz_X3_init_239 {G : uG} {a0 : Nat} {uf : UH} (N : Nat) (u : UH) (s0 : Option Nat) (s1 : Option Nat) (h : f_X3_init_239 N (ub G) (ug G) a0 u s0 s1 = some uf) : u.1 ≤ uf.1 ∧ u.2.1 ≤ uf.2.1 := by
  unfold f_X3_init_239 at h
  obtain ⟨a1, ha1, hha1⟩ := mbind_n h
  subst ha1
  have h := hha1
  obtain ⟨u2, hu2, h⟩ := mbind_n h
  have zu2 := uPut_sz hu2
  obtain ⟨c4, h⟩ := mif_n h
  obtain ⟨a5, ea5⟩ : ∃ z : Nat, z = u2.1 := ⟨_, rfl⟩
  have h := mlet_at ea5 h
  obtain ⟨u3, eu3⟩ : ∃ z : UH, z = uNew u2 (8 : Int32).toNatClampNeg (.inl (2, (8 : Int32).toNatClampNeg, .inl (fun _ => 0))) := ⟨_, rfl⟩
  have h := mlet_at eu3 h
  have zu3 : u3.1 = u2.1 + 1 ∧ u3.2.1 = u2.2.1 + (8 : Int32).toNatClampNeg := by rw [eu3]; exact ⟨rfl, rfl⟩
  have hq := zz_X3_init_247 (G := G) (a0 := a0) N u3 (some a5) (some a0) h
  exact ⟨by omega, by omega⟩
set_option maxHeartbeats 4000000 in
set_option maxRecDepth 100000 in
theorem w_X3_init_239 {p : Program} {l : Launch} {e : Env} {R : Room} {s : State} {m : MethodId} {args : Array Value} {below : List Frame} {meth : Method} {c : Code} {G : uG} {a0 : Nat} {u0 : UH} {uf : UH} (hC : uC p s m args meth c G RX3 cX3_init 1 none) (hI : meth.name = "<init>") (hR : 1 ≤ R.frames ∧ 20 ≤ R.locals) (hRm : uf.1 - u0.1 ≤ R.cells ∧ uf.2.1 - u0.2.1 ≤ R.slots) (N : Nat) (u : UH) (s0 : Option Nat) (s1 : Option Nat) (h : f_X3_init_239 N (ub G) (ug G) a0 u s0 s1 = some uf) (hz0 : (u0.1 ≤ u.1 ∧ u0.2.1 ≤ u.2.1)) {H : Heap} {locs : List Loc} (hP : uP G u H) (hS : va_S (uA G) s.heap H locs) {ls : Array Slot} (hl : lv_has ls 1 [(0, va_rf (some a0))]) : W p l e R s m args below meth c H locs (u.1 - u0.1) (u.2.1 - u0.2.1) (MQ below (uQv G uf) args s (uf.1 - u0.1) (uf.2.1 - u0.2.1) (uA G)) (F0 m 239 ls [va_rf s0, va_rf s1]) := by
  obtain ⟨⟨hx, hb, hml, hown, hts⟩, hKK⟩ := id hC
  have hzf := zz_X3_init_239 (G := G) (a0 := a0) N u s0 s1 h
  unfold f_X3_init_239 at h
  obtain ⟨a1, ha1, hha1⟩ := mbind_n h
  subst ha1
  have h := hha1
  obtain ⟨u2, hu2, h⟩ := mbind_n h
  have zu2 := uPut_sz hu2
  refine u_putF hC hI hP hS hu2 rfl in_X3 tyX3 tyX3_ok nmX3 (by decide) q1954 (fun _ h => h) rfl rfl (ty := (.array .int)) (tyX3_ok 61 (by decide)) (uNarA _ s0).1 (uNarA _ s0).2 dX3_init_239 (fun H locs hP hS => ?_)
  refine W.cs (cells' := u2.1 - u0.1) (slots' := u2.2.1 - u0.2.1) (by omega) (by omega) ?_
  refine u_aload_n (r := some a0) hx hb dX3_init_242 rfl (lv_at hl 0 rfl) ?_
  refine lv_bipush (v := 8) hx hb dX3_init_243 (by decide) ?_
  obtain ⟨c4, h⟩ := mif_n h
  obtain ⟨a5, ea5⟩ : ∃ z : Nat, z = u2.1 := ⟨_, rfl⟩
  have h := mlet_at ea5 h
  obtain ⟨u3, eu3⟩ : ∃ z : UH, z = uNew u2 (8 : Int32).toNatClampNeg (.inl (2, (8 : Int32).toNatClampNeg, .inl (fun _ => 0))) := ⟨_, rfl⟩
  have h := mlet_at eu3 h
  have zu3 : u3.1 = u2.1 + 1 ∧ u3.2.1 = u2.2.1 + (8 : Int32).toNatClampNeg := by rw [eu3]; exact ⟨rfl, rfl⟩
  have hq := zz_X3_init_247 (G := G) (a0 := a0) N u3 (some a5) (some a0) h
  refine u_newa (atype := .boolean) hC hP hS (t := 2) q187 rfl (N := (8 : Int32).toNatClampNeg) (x := .inl (fun _ => 0)) (fun _ => rfl) c4.1 rfl (by have := c4.2; show _ * 1 ≤ _; omega) (by omega) (by omega) dX3_init_245 (fun H hP hS => ?_)
  rw [← eu3] at hP
  rw [← ea5]
  refine W.cs (cells' := u3.1 - u0.1) (slots' := u3.2.1 - u0.2.1) (by omega) (by omega) ?_
  refine W.cs (cells' := u3.1 - u0.1) (slots' := u3.2.1 - u0.2.1) (by omega) (by omega) ?_
  exact w_X3_init_247 hC hI hR hRm N u3 (some a5) (some a0) h ⟨by omega, by omega⟩ hP hS (lv_sub hl [0] rfl)
def f_X3_init_231 (N b : Nat) (g : uEnv) (a0 : Nat) (u : UH) (s0 : Option Nat) (s1 : Option Nat) : Option (UH) :=
    (s1).bind fun a1 =>
    (uPut b u a1 2 60 (va_rf s0)).bind fun u2 =>
    if ¬ (8 : Int32) < 0 ∧ (8 : Int32).toNatClampNeg ≤ 60000000 then
    mlet (u2.1) fun a5 =>
    mlet (uNew u2 (8 : Int32).toNatClampNeg (.inl (0, (8 : Int32).toNatClampNeg, .inl (fun _ => 0)))) fun u3 =>
    f_X3_init_239 N b g a0 u3 (some a5) (some a0)
    else none
set_option maxHeartbeats 4000000 in
set_option maxRecDepth 100000 in
theorem zz_X3_init_231 {G : uG} {a0 : Nat} {uf : UH} (N : Nat) (u : UH) (s0 : Option Nat) (s1 : Option Nat) (h : f_X3_init_231 N (ub G) (ug G) a0 u s0 s1 = some uf) : u.1 ≤ uf.1 ∧ u.2.1 ≤ uf.2.1 := by
  unfold f_X3_init_231 at h
  obtain ⟨a1, ha1, hha1⟩ := mbind_n h
  subst ha1
  have h := hha1
  obtain ⟨u2, hu2, h⟩ := mbind_n h
  have zu2 := uPut_sz hu2
  obtain ⟨c4, h⟩ := mif_n h
  obtain ⟨a5, ea5⟩ : ∃ z : Nat, z = u2.1 := ⟨_, rfl⟩
  have h := mlet_at ea5 h
  obtain ⟨u3, eu3⟩ : ∃ z : UH, z = uNew u2 (8 : Int32).toNatClampNeg (.inl (0, (8 : Int32).toNatClampNeg, .inl (fun _ => 0))) := ⟨_, rfl⟩
  have h := mlet_at eu3 h
  have zu3 : u3.1 = u2.1 + 1 ∧ u3.2.1 = u2.2.1 + (8 : Int32).toNatClampNeg := by rw [eu3]; exact ⟨rfl, rfl⟩
  have hq := zz_X3_init_239 (G := G) (a0 := a0) N u3 (some a5) (some a0) h
  exact ⟨by omega, by omega⟩
set_option maxHeartbeats 4000000 in
set_option maxRecDepth 100000 in
theorem w_X3_init_231 {p : Program} {l : Launch} {e : Env} {R : Room} {s : State} {m : MethodId} {args : Array Value} {below : List Frame} {meth : Method} {c : Code} {G : uG} {a0 : Nat} {u0 : UH} {uf : UH} (hC : uC p s m args meth c G RX3 cX3_init 1 none) (hI : meth.name = "<init>") (hR : 1 ≤ R.frames ∧ 20 ≤ R.locals) (hRm : uf.1 - u0.1 ≤ R.cells ∧ uf.2.1 - u0.2.1 ≤ R.slots) (N : Nat) (u : UH) (s0 : Option Nat) (s1 : Option Nat) (h : f_X3_init_231 N (ub G) (ug G) a0 u s0 s1 = some uf) (hz0 : (u0.1 ≤ u.1 ∧ u0.2.1 ≤ u.2.1)) {H : Heap} {locs : List Loc} (hP : uP G u H) (hS : va_S (uA G) s.heap H locs) {ls : Array Slot} (hl : lv_has ls 1 [(0, va_rf (some a0))]) : W p l e R s m args below meth c H locs (u.1 - u0.1) (u.2.1 - u0.2.1) (MQ below (uQv G uf) args s (uf.1 - u0.1) (uf.2.1 - u0.2.1) (uA G)) (F0 m 231 ls [va_rf s0, va_rf s1]) := by
  obtain ⟨⟨hx, hb, hml, hown, hts⟩, hKK⟩ := id hC
  have hzf := zz_X3_init_231 (G := G) (a0 := a0) N u s0 s1 h
  unfold f_X3_init_231 at h
  obtain ⟨a1, ha1, hha1⟩ := mbind_n h
  subst ha1
  have h := hha1
  obtain ⟨u2, hu2, h⟩ := mbind_n h
  have zu2 := uPut_sz hu2
  refine u_putF hC hI hP hS hu2 rfl in_X3 tyX3 tyX3_ok nmX3 (by decide) q1953 (fun _ h => h) rfl rfl (ty := (.array .int)) (tyX3_ok 60 (by decide)) (uNarA _ s0).1 (uNarA _ s0).2 dX3_init_231 (fun H locs hP hS => ?_)
  refine W.cs (cells' := u2.1 - u0.1) (slots' := u2.2.1 - u0.2.1) (by omega) (by omega) ?_
  refine u_aload_n (r := some a0) hx hb dX3_init_234 rfl (lv_at hl 0 rfl) ?_
  refine lv_bipush (v := 8) hx hb dX3_init_235 (by decide) ?_
  obtain ⟨c4, h⟩ := mif_n h
  obtain ⟨a5, ea5⟩ : ∃ z : Nat, z = u2.1 := ⟨_, rfl⟩
  have h := mlet_at ea5 h
  obtain ⟨u3, eu3⟩ : ∃ z : UH, z = uNew u2 (8 : Int32).toNatClampNeg (.inl (0, (8 : Int32).toNatClampNeg, .inl (fun _ => 0))) := ⟨_, rfl⟩
  have h := mlet_at eu3 h
  have zu3 : u3.1 = u2.1 + 1 ∧ u3.2.1 = u2.2.1 + (8 : Int32).toNatClampNeg := by rw [eu3]; exact ⟨rfl, rfl⟩
  have hq := zz_X3_init_239 (G := G) (a0 := a0) N u3 (some a5) (some a0) h
  refine u_newa (atype := .int) hC hP hS (t := 0) q188 rfl (N := (8 : Int32).toNatClampNeg) (x := .inl (fun _ => 0)) (fun _ => rfl) c4.1 rfl (by have := c4.2; show _ * 4 ≤ _; omega) (by omega) (by omega) dX3_init_237 (fun H hP hS => ?_)
  rw [← eu3] at hP
  rw [← ea5]
  refine W.cs (cells' := u3.1 - u0.1) (slots' := u3.2.1 - u0.2.1) (by omega) (by omega) ?_
  refine W.cs (cells' := u3.1 - u0.1) (slots' := u3.2.1 - u0.2.1) (by omega) (by omega) ?_
  exact w_X3_init_239 hC hI hR hRm N u3 (some a5) (some a0) h ⟨by omega, by omega⟩ hP hS (lv_sub hl [0] rfl)
def f_X3_init_223 (N b : Nat) (g : uEnv) (a0 : Nat) (u : UH) (s0 : Option Nat) (s1 : Option Nat) : Option (UH) :=
    (s1).bind fun a1 =>
    (uPut b u a1 2 57 (va_rf s0)).bind fun u2 =>
    if ¬ (8 : Int32) < 0 ∧ (8 : Int32).toNatClampNeg ≤ 60000000 then
    mlet (u2.1) fun a5 =>
    mlet (uNew u2 (8 : Int32).toNatClampNeg (.inl (0, (8 : Int32).toNatClampNeg, .inl (fun _ => 0)))) fun u3 =>
    f_X3_init_231 N b g a0 u3 (some a5) (some a0)
    else none
set_option maxHeartbeats 4000000 in
set_option maxRecDepth 100000 in
theorem zz_X3_init_223 {G : uG} {a0 : Nat} {uf : UH} (N : Nat) (u : UH) (s0 : Option Nat) (s1 : Option Nat) (h : f_X3_init_223 N (ub G) (ug G) a0 u s0 s1 = some uf) : u.1 ≤ uf.1 ∧ u.2.1 ≤ uf.2.1 := by
  unfold f_X3_init_223 at h
  obtain ⟨a1, ha1, hha1⟩ := mbind_n h
  subst ha1
  have h := hha1
  obtain ⟨u2, hu2, h⟩ := mbind_n h
  have zu2 := uPut_sz hu2
  obtain ⟨c4, h⟩ := mif_n h
  obtain ⟨a5, ea5⟩ : ∃ z : Nat, z = u2.1 := ⟨_, rfl⟩
  have h := mlet_at ea5 h
  obtain ⟨u3, eu3⟩ : ∃ z : UH, z = uNew u2 (8 : Int32).toNatClampNeg (.inl (0, (8 : Int32).toNatClampNeg, .inl (fun _ => 0))) := ⟨_, rfl⟩
  have h := mlet_at eu3 h
  have zu3 : u3.1 = u2.1 + 1 ∧ u3.2.1 = u2.2.1 + (8 : Int32).toNatClampNeg := by rw [eu3]; exact ⟨rfl, rfl⟩
  have hq := zz_X3_init_231 (G := G) (a0 := a0) N u3 (some a5) (some a0) h
  exact ⟨by omega, by omega⟩
set_option maxHeartbeats 4000000 in
set_option maxRecDepth 100000 in
theorem w_X3_init_223 {p : Program} {l : Launch} {e : Env} {R : Room} {s : State} {m : MethodId} {args : Array Value} {below : List Frame} {meth : Method} {c : Code} {G : uG} {a0 : Nat} {u0 : UH} {uf : UH} (hC : uC p s m args meth c G RX3 cX3_init 1 none) (hI : meth.name = "<init>") (hR : 1 ≤ R.frames ∧ 20 ≤ R.locals) (hRm : uf.1 - u0.1 ≤ R.cells ∧ uf.2.1 - u0.2.1 ≤ R.slots) (N : Nat) (u : UH) (s0 : Option Nat) (s1 : Option Nat) (h : f_X3_init_223 N (ub G) (ug G) a0 u s0 s1 = some uf) (hz0 : (u0.1 ≤ u.1 ∧ u0.2.1 ≤ u.2.1)) {H : Heap} {locs : List Loc} (hP : uP G u H) (hS : va_S (uA G) s.heap H locs) {ls : Array Slot} (hl : lv_has ls 1 [(0, va_rf (some a0))]) : W p l e R s m args below meth c H locs (u.1 - u0.1) (u.2.1 - u0.2.1) (MQ below (uQv G uf) args s (uf.1 - u0.1) (uf.2.1 - u0.2.1) (uA G)) (F0 m 223 ls [va_rf s0, va_rf s1]) := by
  obtain ⟨⟨hx, hb, hml, hown, hts⟩, hKK⟩ := id hC
  have hzf := zz_X3_init_223 (G := G) (a0 := a0) N u s0 s1 h
  unfold f_X3_init_223 at h
  obtain ⟨a1, ha1, hha1⟩ := mbind_n h
  subst ha1
  have h := hha1
  obtain ⟨u2, hu2, h⟩ := mbind_n h
  have zu2 := uPut_sz hu2
  refine u_putF hC hI hP hS hu2 rfl in_X3 tyX3 tyX3_ok nmX3 (by decide) q1950 (fun _ h => h) rfl rfl (ty := (.array .int)) (tyX3_ok 57 (by decide)) (uNarA _ s0).1 (uNarA _ s0).2 dX3_init_223 (fun H locs hP hS => ?_)
  refine W.cs (cells' := u2.1 - u0.1) (slots' := u2.2.1 - u0.2.1) (by omega) (by omega) ?_
  refine u_aload_n (r := some a0) hx hb dX3_init_226 rfl (lv_at hl 0 rfl) ?_
  refine lv_bipush (v := 8) hx hb dX3_init_227 (by decide) ?_
  obtain ⟨c4, h⟩ := mif_n h
  obtain ⟨a5, ea5⟩ : ∃ z : Nat, z = u2.1 := ⟨_, rfl⟩
  have h := mlet_at ea5 h
  obtain ⟨u3, eu3⟩ : ∃ z : UH, z = uNew u2 (8 : Int32).toNatClampNeg (.inl (0, (8 : Int32).toNatClampNeg, .inl (fun _ => 0))) := ⟨_, rfl⟩
  have h := mlet_at eu3 h
  have zu3 : u3.1 = u2.1 + 1 ∧ u3.2.1 = u2.2.1 + (8 : Int32).toNatClampNeg := by rw [eu3]; exact ⟨rfl, rfl⟩
  have hq := zz_X3_init_231 (G := G) (a0 := a0) N u3 (some a5) (some a0) h
  refine u_newa (atype := .int) hC hP hS (t := 0) q188 rfl (N := (8 : Int32).toNatClampNeg) (x := .inl (fun _ => 0)) (fun _ => rfl) c4.1 rfl (by have := c4.2; show _ * 4 ≤ _; omega) (by omega) (by omega) dX3_init_229 (fun H hP hS => ?_)
  rw [← eu3] at hP
  rw [← ea5]
  refine W.cs (cells' := u3.1 - u0.1) (slots' := u3.2.1 - u0.2.1) (by omega) (by omega) ?_
  refine W.cs (cells' := u3.1 - u0.1) (slots' := u3.2.1 - u0.2.1) (by omega) (by omega) ?_
  exact w_X3_init_231 hC hI hR hRm N u3 (some a5) (some a0) h ⟨by omega, by omega⟩ hP hS (lv_sub hl [0] rfl)
def f_X3_init_215 (N b : Nat) (g : uEnv) (a0 : Nat) (u : UH) (s0 : Option Nat) (s1 : Option Nat) : Option (UH) :=
    (s1).bind fun a1 =>
    (uPut b u a1 2 56 (va_rf s0)).bind fun u2 =>
    if ¬ (8 : Int32) < 0 ∧ (8 : Int32).toNatClampNeg ≤ 60000000 then
    mlet (u2.1) fun a5 =>
    mlet (uNew u2 (8 : Int32).toNatClampNeg (.inl (0, (8 : Int32).toNatClampNeg, .inl (fun _ => 0)))) fun u3 =>
    f_X3_init_223 N b g a0 u3 (some a5) (some a0)
    else none
set_option maxHeartbeats 4000000 in
set_option maxRecDepth 100000 in
theorem zz_X3_init_215 {G : uG} {a0 : Nat} {uf : UH} (N : Nat) (u : UH) (s0 : Option Nat) (s1 : Option Nat) (h : f_X3_init_215 N (ub G) (ug G) a0 u s0 s1 = some uf) : u.1 ≤ uf.1 ∧ u.2.1 ≤ uf.2.1 := by
  unfold f_X3_init_215 at h
  obtain ⟨a1, ha1, hha1⟩ := mbind_n h
  subst ha1
  have h := hha1
  obtain ⟨u2, hu2, h⟩ := mbind_n h
  have zu2 := uPut_sz hu2
  obtain ⟨c4, h⟩ := mif_n h
  obtain ⟨a5, ea5⟩ : ∃ z : Nat, z = u2.1 := ⟨_, rfl⟩
  have h := mlet_at ea5 h
  obtain ⟨u3, eu3⟩ : ∃ z : UH, z = uNew u2 (8 : Int32).toNatClampNeg (.inl (0, (8 : Int32).toNatClampNeg, .inl (fun _ => 0))) := ⟨_, rfl⟩
  have h := mlet_at eu3 h
  have zu3 : u3.1 = u2.1 + 1 ∧ u3.2.1 = u2.2.1 + (8 : Int32).toNatClampNeg := by rw [eu3]; exact ⟨rfl, rfl⟩
  have hq := zz_X3_init_223 (G := G) (a0 := a0) N u3 (some a5) (some a0) h
  exact ⟨by omega, by omega⟩
set_option maxHeartbeats 4000000 in
set_option maxRecDepth 100000 in
theorem w_X3_init_215 {p : Program} {l : Launch} {e : Env} {R : Room} {s : State} {m : MethodId} {args : Array Value} {below : List Frame} {meth : Method} {c : Code} {G : uG} {a0 : Nat} {u0 : UH} {uf : UH} (hC : uC p s m args meth c G RX3 cX3_init 1 none) (hI : meth.name = "<init>") (hR : 1 ≤ R.frames ∧ 20 ≤ R.locals) (hRm : uf.1 - u0.1 ≤ R.cells ∧ uf.2.1 - u0.2.1 ≤ R.slots) (N : Nat) (u : UH) (s0 : Option Nat) (s1 : Option Nat) (h : f_X3_init_215 N (ub G) (ug G) a0 u s0 s1 = some uf) (hz0 : (u0.1 ≤ u.1 ∧ u0.2.1 ≤ u.2.1)) {H : Heap} {locs : List Loc} (hP : uP G u H) (hS : va_S (uA G) s.heap H locs) {ls : Array Slot} (hl : lv_has ls 1 [(0, va_rf (some a0))]) : W p l e R s m args below meth c H locs (u.1 - u0.1) (u.2.1 - u0.2.1) (MQ below (uQv G uf) args s (uf.1 - u0.1) (uf.2.1 - u0.2.1) (uA G)) (F0 m 215 ls [va_rf s0, va_rf s1]) := by
  obtain ⟨⟨hx, hb, hml, hown, hts⟩, hKK⟩ := id hC
  have hzf := zz_X3_init_215 (G := G) (a0 := a0) N u s0 s1 h
  unfold f_X3_init_215 at h
  obtain ⟨a1, ha1, hha1⟩ := mbind_n h
  subst ha1
  have h := hha1
  obtain ⟨u2, hu2, h⟩ := mbind_n h
  have zu2 := uPut_sz hu2
  refine u_putF hC hI hP hS hu2 rfl in_X3 tyX3 tyX3_ok nmX3 (by decide) q1949 (fun _ h => h) rfl rfl (ty := (.array .int)) (tyX3_ok 56 (by decide)) (uNarA _ s0).1 (uNarA _ s0).2 dX3_init_215 (fun H locs hP hS => ?_)
  refine W.cs (cells' := u2.1 - u0.1) (slots' := u2.2.1 - u0.2.1) (by omega) (by omega) ?_
  refine u_aload_n (r := some a0) hx hb dX3_init_218 rfl (lv_at hl 0 rfl) ?_
  refine lv_bipush (v := 8) hx hb dX3_init_219 (by decide) ?_
  obtain ⟨c4, h⟩ := mif_n h
  obtain ⟨a5, ea5⟩ : ∃ z : Nat, z = u2.1 := ⟨_, rfl⟩
  have h := mlet_at ea5 h
  obtain ⟨u3, eu3⟩ : ∃ z : UH, z = uNew u2 (8 : Int32).toNatClampNeg (.inl (0, (8 : Int32).toNatClampNeg, .inl (fun _ => 0))) := ⟨_, rfl⟩
  have h := mlet_at eu3 h
  have zu3 : u3.1 = u2.1 + 1 ∧ u3.2.1 = u2.2.1 + (8 : Int32).toNatClampNeg := by rw [eu3]; exact ⟨rfl, rfl⟩
  have hq := zz_X3_init_223 (G := G) (a0 := a0) N u3 (some a5) (some a0) h
  refine u_newa (atype := .int) hC hP hS (t := 0) q188 rfl (N := (8 : Int32).toNatClampNeg) (x := .inl (fun _ => 0)) (fun _ => rfl) c4.1 rfl (by have := c4.2; show _ * 4 ≤ _; omega) (by omega) (by omega) dX3_init_221 (fun H hP hS => ?_)
  rw [← eu3] at hP
  rw [← ea5]
  refine W.cs (cells' := u3.1 - u0.1) (slots' := u3.2.1 - u0.2.1) (by omega) (by omega) ?_
  refine W.cs (cells' := u3.1 - u0.1) (slots' := u3.2.1 - u0.2.1) (by omega) (by omega) ?_
  exact w_X3_init_223 hC hI hR hRm N u3 (some a5) (some a0) h ⟨by omega, by omega⟩ hP hS (lv_sub hl [0] rfl)
def f_X3_init_206 (N b : Nat) (g : uEnv) (a0 : Nat) (u : UH) (s0 : Option Nat) (s1 : Option Nat) : Option (UH) :=
    (s1).bind fun a1 =>
    (uPut b u a1 2 54 (va_rf s0)).bind fun u2 =>
    if ¬ (4096 : Int32) < 0 ∧ (4096 : Int32).toNatClampNeg ≤ 60000000 then
    mlet (u2.1) fun a5 =>
    mlet (uNew u2 (4096 : Int32).toNatClampNeg (.inl (0, (4096 : Int32).toNatClampNeg, .inl (fun _ => 0)))) fun u3 =>
    f_X3_init_215 N b g a0 u3 (some a5) (some a0)
    else none
set_option maxHeartbeats 4000000 in
set_option maxRecDepth 100000 in
theorem zz_X3_init_206 {G : uG} {a0 : Nat} {uf : UH} (N : Nat) (u : UH) (s0 : Option Nat) (s1 : Option Nat) (h : f_X3_init_206 N (ub G) (ug G) a0 u s0 s1 = some uf) : u.1 ≤ uf.1 ∧ u.2.1 ≤ uf.2.1 := by
  unfold f_X3_init_206 at h
  obtain ⟨a1, ha1, hha1⟩ := mbind_n h
  subst ha1
  have h := hha1
  obtain ⟨u2, hu2, h⟩ := mbind_n h
  have zu2 := uPut_sz hu2
  obtain ⟨c4, h⟩ := mif_n h
  obtain ⟨a5, ea5⟩ : ∃ z : Nat, z = u2.1 := ⟨_, rfl⟩
  have h := mlet_at ea5 h
  obtain ⟨u3, eu3⟩ : ∃ z : UH, z = uNew u2 (4096 : Int32).toNatClampNeg (.inl (0, (4096 : Int32).toNatClampNeg, .inl (fun _ => 0))) := ⟨_, rfl⟩
  have h := mlet_at eu3 h
  have zu3 : u3.1 = u2.1 + 1 ∧ u3.2.1 = u2.2.1 + (4096 : Int32).toNatClampNeg := by rw [eu3]; exact ⟨rfl, rfl⟩
  have hq := zz_X3_init_215 (G := G) (a0 := a0) N u3 (some a5) (some a0) h
  exact ⟨by omega, by omega⟩
set_option maxHeartbeats 4000000 in
set_option maxRecDepth 100000 in
theorem w_X3_init_206 {p : Program} {l : Launch} {e : Env} {R : Room} {s : State} {m : MethodId} {args : Array Value} {below : List Frame} {meth : Method} {c : Code} {G : uG} {a0 : Nat} {u0 : UH} {uf : UH} (hC : uC p s m args meth c G RX3 cX3_init 1 none) (hI : meth.name = "<init>") (hR : 1 ≤ R.frames ∧ 20 ≤ R.locals) (hRm : uf.1 - u0.1 ≤ R.cells ∧ uf.2.1 - u0.2.1 ≤ R.slots) (N : Nat) (u : UH) (s0 : Option Nat) (s1 : Option Nat) (h : f_X3_init_206 N (ub G) (ug G) a0 u s0 s1 = some uf) (hz0 : (u0.1 ≤ u.1 ∧ u0.2.1 ≤ u.2.1)) {H : Heap} {locs : List Loc} (hP : uP G u H) (hS : va_S (uA G) s.heap H locs) {ls : Array Slot} (hl : lv_has ls 1 [(0, va_rf (some a0))]) : W p l e R s m args below meth c H locs (u.1 - u0.1) (u.2.1 - u0.2.1) (MQ below (uQv G uf) args s (uf.1 - u0.1) (uf.2.1 - u0.2.1) (uA G)) (F0 m 206 ls [va_rf s0, va_rf s1]) := by
  obtain ⟨⟨hx, hb, hml, hown, hts⟩, hKK⟩ := id hC
  have hzf := zz_X3_init_206 (G := G) (a0 := a0) N u s0 s1 h
  unfold f_X3_init_206 at h
  obtain ⟨a1, ha1, hha1⟩ := mbind_n h
  subst ha1
  have h := hha1
  obtain ⟨u2, hu2, h⟩ := mbind_n h
  have zu2 := uPut_sz hu2
  refine u_putF hC hI hP hS hu2 rfl in_X3 tyX3 tyX3_ok nmX3 (by decide) q1947 (fun _ h => h) rfl rfl (ty := (.array .int)) (tyX3_ok 54 (by decide)) (uNarA _ s0).1 (uNarA _ s0).2 dX3_init_206 (fun H locs hP hS => ?_)
  refine W.cs (cells' := u2.1 - u0.1) (slots' := u2.2.1 - u0.2.1) (by omega) (by omega) ?_
  refine u_aload_n (r := some a0) hx hb dX3_init_209 rfl (lv_at hl 0 rfl) ?_
  refine lv_sipush (v := 4096) hx hb dX3_init_210 (by decide) ?_
  obtain ⟨c4, h⟩ := mif_n h
  obtain ⟨a5, ea5⟩ : ∃ z : Nat, z = u2.1 := ⟨_, rfl⟩
  have h := mlet_at ea5 h
  obtain ⟨u3, eu3⟩ : ∃ z : UH, z = uNew u2 (4096 : Int32).toNatClampNeg (.inl (0, (4096 : Int32).toNatClampNeg, .inl (fun _ => 0))) := ⟨_, rfl⟩
  have h := mlet_at eu3 h
  have zu3 : u3.1 = u2.1 + 1 ∧ u3.2.1 = u2.2.1 + (4096 : Int32).toNatClampNeg := by rw [eu3]; exact ⟨rfl, rfl⟩
  have hq := zz_X3_init_215 (G := G) (a0 := a0) N u3 (some a5) (some a0) h
  refine u_newa (atype := .int) hC hP hS (t := 0) q188 rfl (N := (4096 : Int32).toNatClampNeg) (x := .inl (fun _ => 0)) (fun _ => rfl) c4.1 rfl (by have := c4.2; show _ * 4 ≤ _; omega) (by omega) (by omega) dX3_init_213 (fun H hP hS => ?_)
  rw [← eu3] at hP
  rw [← ea5]
  refine W.cs (cells' := u3.1 - u0.1) (slots' := u3.2.1 - u0.2.1) (by omega) (by omega) ?_
  refine W.cs (cells' := u3.1 - u0.1) (slots' := u3.2.1 - u0.2.1) (by omega) (by omega) ?_
  exact w_X3_init_215 hC hI hR hRm N u3 (some a5) (some a0) h ⟨by omega, by omega⟩ hP hS (lv_sub hl [0] rfl)
def f_X3_init_197 (N b : Nat) (g : uEnv) (a0 : Nat) (u : UH) (s0 : Option Nat) (s1 : Option Nat) : Option (UH) :=
    (s1).bind fun a1 =>
    (uPut b u a1 2 53 (va_rf s0)).bind fun u2 =>
    if ¬ (2000 : Int32) < 0 ∧ (2000 : Int32).toNatClampNeg ≤ 60000000 then
    mlet (u2.1) fun a5 =>
    mlet (uNew u2 (2000 : Int32).toNatClampNeg (.inl (0, (2000 : Int32).toNatClampNeg, .inl (fun _ => 0)))) fun u3 =>
    f_X3_init_206 N b g a0 u3 (some a5) (some a0)
    else none
set_option maxHeartbeats 4000000 in
set_option maxRecDepth 100000 in
theorem zz_X3_init_197 {G : uG} {a0 : Nat} {uf : UH} (N : Nat) (u : UH) (s0 : Option Nat) (s1 : Option Nat) (h : f_X3_init_197 N (ub G) (ug G) a0 u s0 s1 = some uf) : u.1 ≤ uf.1 ∧ u.2.1 ≤ uf.2.1 := by
  unfold f_X3_init_197 at h
  obtain ⟨a1, ha1, hha1⟩ := mbind_n h
  subst ha1
  have h := hha1
  obtain ⟨u2, hu2, h⟩ := mbind_n h
  have zu2 := uPut_sz hu2
  obtain ⟨c4, h⟩ := mif_n h
  obtain ⟨a5, ea5⟩ : ∃ z : Nat, z = u2.1 := ⟨_, rfl⟩
  have h := mlet_at ea5 h
  obtain ⟨u3, eu3⟩ : ∃ z : UH, z = uNew u2 (2000 : Int32).toNatClampNeg (.inl (0, (2000 : Int32).toNatClampNeg, .inl (fun _ => 0))) := ⟨_, rfl⟩
  have h := mlet_at eu3 h
  have zu3 : u3.1 = u2.1 + 1 ∧ u3.2.1 = u2.2.1 + (2000 : Int32).toNatClampNeg := by rw [eu3]; exact ⟨rfl, rfl⟩
  have hq := zz_X3_init_206 (G := G) (a0 := a0) N u3 (some a5) (some a0) h
  exact ⟨by omega, by omega⟩
set_option maxHeartbeats 4000000 in
set_option maxRecDepth 100000 in
theorem w_X3_init_197 {p : Program} {l : Launch} {e : Env} {R : Room} {s : State} {m : MethodId} {args : Array Value} {below : List Frame} {meth : Method} {c : Code} {G : uG} {a0 : Nat} {u0 : UH} {uf : UH} (hC : uC p s m args meth c G RX3 cX3_init 1 none) (hI : meth.name = "<init>") (hR : 1 ≤ R.frames ∧ 20 ≤ R.locals) (hRm : uf.1 - u0.1 ≤ R.cells ∧ uf.2.1 - u0.2.1 ≤ R.slots) (N : Nat) (u : UH) (s0 : Option Nat) (s1 : Option Nat) (h : f_X3_init_197 N (ub G) (ug G) a0 u s0 s1 = some uf) (hz0 : (u0.1 ≤ u.1 ∧ u0.2.1 ≤ u.2.1)) {H : Heap} {locs : List Loc} (hP : uP G u H) (hS : va_S (uA G) s.heap H locs) {ls : Array Slot} (hl : lv_has ls 1 [(0, va_rf (some a0))]) : W p l e R s m args below meth c H locs (u.1 - u0.1) (u.2.1 - u0.2.1) (MQ below (uQv G uf) args s (uf.1 - u0.1) (uf.2.1 - u0.2.1) (uA G)) (F0 m 197 ls [va_rf s0, va_rf s1]) := by
  obtain ⟨⟨hx, hb, hml, hown, hts⟩, hKK⟩ := id hC
  have hzf := zz_X3_init_197 (G := G) (a0 := a0) N u s0 s1 h
  unfold f_X3_init_197 at h
  obtain ⟨a1, ha1, hha1⟩ := mbind_n h
  subst ha1
  have h := hha1
  obtain ⟨u2, hu2, h⟩ := mbind_n h
  have zu2 := uPut_sz hu2
  refine u_putF hC hI hP hS hu2 rfl in_X3 tyX3 tyX3_ok nmX3 (by decide) q1946 (fun _ h => h) rfl rfl (ty := (.array .int)) (tyX3_ok 53 (by decide)) (uNarA _ s0).1 (uNarA _ s0).2 dX3_init_197 (fun H locs hP hS => ?_)
  refine W.cs (cells' := u2.1 - u0.1) (slots' := u2.2.1 - u0.2.1) (by omega) (by omega) ?_
  refine u_aload_n (r := some a0) hx hb dX3_init_200 rfl (lv_at hl 0 rfl) ?_
  refine lv_sipush (v := 2000) hx hb dX3_init_201 (by decide) ?_
  obtain ⟨c4, h⟩ := mif_n h
  obtain ⟨a5, ea5⟩ : ∃ z : Nat, z = u2.1 := ⟨_, rfl⟩
  have h := mlet_at ea5 h
  obtain ⟨u3, eu3⟩ : ∃ z : UH, z = uNew u2 (2000 : Int32).toNatClampNeg (.inl (0, (2000 : Int32).toNatClampNeg, .inl (fun _ => 0))) := ⟨_, rfl⟩
  have h := mlet_at eu3 h
  have zu3 : u3.1 = u2.1 + 1 ∧ u3.2.1 = u2.2.1 + (2000 : Int32).toNatClampNeg := by rw [eu3]; exact ⟨rfl, rfl⟩
  have hq := zz_X3_init_206 (G := G) (a0 := a0) N u3 (some a5) (some a0) h
  refine u_newa (atype := .int) hC hP hS (t := 0) q188 rfl (N := (2000 : Int32).toNatClampNeg) (x := .inl (fun _ => 0)) (fun _ => rfl) c4.1 rfl (by have := c4.2; show _ * 4 ≤ _; omega) (by omega) (by omega) dX3_init_204 (fun H hP hS => ?_)
  rw [← eu3] at hP
  rw [← ea5]
  refine W.cs (cells' := u3.1 - u0.1) (slots' := u3.2.1 - u0.2.1) (by omega) (by omega) ?_
  refine W.cs (cells' := u3.1 - u0.1) (slots' := u3.2.1 - u0.2.1) (by omega) (by omega) ?_
  exact w_X3_init_206 hC hI hR hRm N u3 (some a5) (some a0) h ⟨by omega, by omega⟩ hP hS (lv_sub hl [0] rfl)
def f_X3_init_190 (N b : Nat) (g : uEnv) (a0 : Nat) (u : UH) (s0 : Option Nat) (s1 : Option Nat) : Option (UH) :=
    (s1).bind fun a1 =>
    (uPut b u a1 2 52 (va_rf s0)).bind fun u2 =>
    if ¬ (5 : Int32) < 0 ∧ (5 : Int32).toNatClampNeg ≤ 60000000 then
    mlet (u2.1) fun a5 =>
    mlet (uNew u2 (5 : Int32).toNatClampNeg (.inl (0, (5 : Int32).toNatClampNeg, .inl (fun _ => 0)))) fun u3 =>
    f_X3_init_197 N b g a0 u3 (some a5) (some a0)
    else none
set_option maxHeartbeats 4000000 in
set_option maxRecDepth 100000 in
theorem zz_X3_init_190 {G : uG} {a0 : Nat} {uf : UH} (N : Nat) (u : UH) (s0 : Option Nat) (s1 : Option Nat) (h : f_X3_init_190 N (ub G) (ug G) a0 u s0 s1 = some uf) : u.1 ≤ uf.1 ∧ u.2.1 ≤ uf.2.1 := by
  unfold f_X3_init_190 at h
  obtain ⟨a1, ha1, hha1⟩ := mbind_n h
  subst ha1
  have h := hha1
  obtain ⟨u2, hu2, h⟩ := mbind_n h
  have zu2 := uPut_sz hu2
  obtain ⟨c4, h⟩ := mif_n h
  obtain ⟨a5, ea5⟩ : ∃ z : Nat, z = u2.1 := ⟨_, rfl⟩
  have h := mlet_at ea5 h
  obtain ⟨u3, eu3⟩ : ∃ z : UH, z = uNew u2 (5 : Int32).toNatClampNeg (.inl (0, (5 : Int32).toNatClampNeg, .inl (fun _ => 0))) := ⟨_, rfl⟩
  have h := mlet_at eu3 h
  have zu3 : u3.1 = u2.1 + 1 ∧ u3.2.1 = u2.2.1 + (5 : Int32).toNatClampNeg := by rw [eu3]; exact ⟨rfl, rfl⟩
  have hq := zz_X3_init_197 (G := G) (a0 := a0) N u3 (some a5) (some a0) h
  exact ⟨by omega, by omega⟩
set_option maxHeartbeats 4000000 in
set_option maxRecDepth 100000 in
theorem w_X3_init_190 {p : Program} {l : Launch} {e : Env} {R : Room} {s : State} {m : MethodId} {args : Array Value} {below : List Frame} {meth : Method} {c : Code} {G : uG} {a0 : Nat} {u0 : UH} {uf : UH} (hC : uC p s m args meth c G RX3 cX3_init 1 none) (hI : meth.name = "<init>") (hR : 1 ≤ R.frames ∧ 20 ≤ R.locals) (hRm : uf.1 - u0.1 ≤ R.cells ∧ uf.2.1 - u0.2.1 ≤ R.slots) (N : Nat) (u : UH) (s0 : Option Nat) (s1 : Option Nat) (h : f_X3_init_190 N (ub G) (ug G) a0 u s0 s1 = some uf) (hz0 : (u0.1 ≤ u.1 ∧ u0.2.1 ≤ u.2.1)) {H : Heap} {locs : List Loc} (hP : uP G u H) (hS : va_S (uA G) s.heap H locs) {ls : Array Slot} (hl : lv_has ls 1 [(0, va_rf (some a0))]) : W p l e R s m args below meth c H locs (u.1 - u0.1) (u.2.1 - u0.2.1) (MQ below (uQv G uf) args s (uf.1 - u0.1) (uf.2.1 - u0.2.1) (uA G)) (F0 m 190 ls [va_rf s0, va_rf s1]) := by
  obtain ⟨⟨hx, hb, hml, hown, hts⟩, hKK⟩ := id hC
  have hzf := zz_X3_init_190 (G := G) (a0 := a0) N u s0 s1 h
  unfold f_X3_init_190 at h
  obtain ⟨a1, ha1, hha1⟩ := mbind_n h
  subst ha1
  have h := hha1
  obtain ⟨u2, hu2, h⟩ := mbind_n h
  have zu2 := uPut_sz hu2
  refine u_putF hC hI hP hS hu2 rfl in_X3 tyX3 tyX3_ok nmX3 (by decide) q1945 (fun _ h => h) rfl rfl (ty := (.array .int)) (tyX3_ok 52 (by decide)) (uNarA _ s0).1 (uNarA _ s0).2 dX3_init_190 (fun H locs hP hS => ?_)
  refine W.cs (cells' := u2.1 - u0.1) (slots' := u2.2.1 - u0.2.1) (by omega) (by omega) ?_
  refine u_aload_n (r := some a0) hx hb dX3_init_193 rfl (lv_at hl 0 rfl) ?_
  refine lv_iconst (v := 5) hx hb dX3_init_194 (by decide) ?_
  obtain ⟨c4, h⟩ := mif_n h
  obtain ⟨a5, ea5⟩ : ∃ z : Nat, z = u2.1 := ⟨_, rfl⟩
  have h := mlet_at ea5 h
  obtain ⟨u3, eu3⟩ : ∃ z : UH, z = uNew u2 (5 : Int32).toNatClampNeg (.inl (0, (5 : Int32).toNatClampNeg, .inl (fun _ => 0))) := ⟨_, rfl⟩
  have h := mlet_at eu3 h
  have zu3 : u3.1 = u2.1 + 1 ∧ u3.2.1 = u2.2.1 + (5 : Int32).toNatClampNeg := by rw [eu3]; exact ⟨rfl, rfl⟩
  have hq := zz_X3_init_197 (G := G) (a0 := a0) N u3 (some a5) (some a0) h
  refine u_newa (atype := .int) hC hP hS (t := 0) q188 rfl (N := (5 : Int32).toNatClampNeg) (x := .inl (fun _ => 0)) (fun _ => rfl) c4.1 rfl (by have := c4.2; show _ * 4 ≤ _; omega) (by omega) (by omega) dX3_init_195 (fun H hP hS => ?_)
  rw [← eu3] at hP
  rw [← ea5]
  refine W.cs (cells' := u3.1 - u0.1) (slots' := u3.2.1 - u0.2.1) (by omega) (by omega) ?_
  refine W.cs (cells' := u3.1 - u0.1) (slots' := u3.2.1 - u0.2.1) (by omega) (by omega) ?_
  exact w_X3_init_197 hC hI hR hRm N u3 (some a5) (some a0) h ⟨by omega, by omega⟩ hP hS (lv_sub hl [0] rfl)
def f_X3_init_177 (N b : Nat) (g : uEnv) (a0 : Nat) (u : UH) (s0 : Option Nat) (s1 : Option Nat) : Option (UH) :=
    (s1).bind fun a1 =>
    (uPut b u a1 2 48 (va_rf s0)).bind fun u2 =>
    (uPut b u2 a0 2 49 (.int (-1))).bind fun u3 =>
    if ¬ (20 : Int32) < 0 ∧ (20 : Int32).toNatClampNeg ≤ 60000000 then
    mlet (u3.1) fun a6 =>
    mlet (uNew u3 (20 : Int32).toNatClampNeg (.inl (0, (20 : Int32).toNatClampNeg, .inl (fun _ => 0)))) fun u4 =>
    f_X3_init_190 N b g a0 u4 (some a6) (some a0)
    else none
set_option maxHeartbeats 4000000 in
set_option maxRecDepth 100000 in
theorem zz_X3_init_177 {G : uG} {a0 : Nat} {uf : UH} (N : Nat) (u : UH) (s0 : Option Nat) (s1 : Option Nat) (h : f_X3_init_177 N (ub G) (ug G) a0 u s0 s1 = some uf) : u.1 ≤ uf.1 ∧ u.2.1 ≤ uf.2.1 := by
  unfold f_X3_init_177 at h
  obtain ⟨a1, ha1, hha1⟩ := mbind_n h
  subst ha1
  have h := hha1
  obtain ⟨u2, hu2, h⟩ := mbind_n h
  have zu2 := uPut_sz hu2
  obtain ⟨u3, hu3, h⟩ := mbind_n h
  have zu3 := uPut_sz hu3
  obtain ⟨c5, h⟩ := mif_n h
  obtain ⟨a6, ea6⟩ : ∃ z : Nat, z = u3.1 := ⟨_, rfl⟩
  have h := mlet_at ea6 h
  obtain ⟨u4, eu4⟩ : ∃ z : UH, z = uNew u3 (20 : Int32).toNatClampNeg (.inl (0, (20 : Int32).toNatClampNeg, .inl (fun _ => 0))) := ⟨_, rfl⟩
  have h := mlet_at eu4 h
  have zu4 : u4.1 = u3.1 + 1 ∧ u4.2.1 = u3.2.1 + (20 : Int32).toNatClampNeg := by rw [eu4]; exact ⟨rfl, rfl⟩
  have hq := zz_X3_init_190 (G := G) (a0 := a0) N u4 (some a6) (some a0) h
  exact ⟨by omega, by omega⟩
set_option maxHeartbeats 4000000 in
set_option maxRecDepth 100000 in
theorem w_X3_init_177 {p : Program} {l : Launch} {e : Env} {R : Room} {s : State} {m : MethodId} {args : Array Value} {below : List Frame} {meth : Method} {c : Code} {G : uG} {a0 : Nat} {u0 : UH} {uf : UH} (hC : uC p s m args meth c G RX3 cX3_init 1 none) (hI : meth.name = "<init>") (hR : 1 ≤ R.frames ∧ 20 ≤ R.locals) (hRm : uf.1 - u0.1 ≤ R.cells ∧ uf.2.1 - u0.2.1 ≤ R.slots) (N : Nat) (u : UH) (s0 : Option Nat) (s1 : Option Nat) (h : f_X3_init_177 N (ub G) (ug G) a0 u s0 s1 = some uf) (hz0 : (u0.1 ≤ u.1 ∧ u0.2.1 ≤ u.2.1)) {H : Heap} {locs : List Loc} (hP : uP G u H) (hS : va_S (uA G) s.heap H locs) {ls : Array Slot} (hl : lv_has ls 1 [(0, va_rf (some a0))]) : W p l e R s m args below meth c H locs (u.1 - u0.1) (u.2.1 - u0.2.1) (MQ below (uQv G uf) args s (uf.1 - u0.1) (uf.2.1 - u0.2.1) (uA G)) (F0 m 177 ls [va_rf s0, va_rf s1]) := by
  obtain ⟨⟨hx, hb, hml, hown, hts⟩, hKK⟩ := id hC
  have hzf := zz_X3_init_177 (G := G) (a0 := a0) N u s0 s1 h
  unfold f_X3_init_177 at h
  obtain ⟨a1, ha1, hha1⟩ := mbind_n h
  subst ha1
  have h := hha1
  obtain ⟨u2, hu2, h⟩ := mbind_n h
  have zu2 := uPut_sz hu2
  refine u_putF hC hI hP hS hu2 rfl in_X3 tyX3 tyX3_ok nmX3 (by decide) q1941 (fun _ h => h) rfl rfl (ty := (.array .long)) (tyX3_ok 48 (by decide)) (uNarA _ s0).1 (uNarA _ s0).2 dX3_init_177 (fun H locs hP hS => ?_)
  refine W.cs (cells' := u2.1 - u0.1) (slots' := u2.2.1 - u0.2.1) (by omega) (by omega) ?_
  refine u_aload_n (r := some a0) hx hb dX3_init_180 rfl (lv_at hl 0 rfl) ?_
  refine lv_iconst (v := (-1)) hx hb dX3_init_181 (by decide) ?_
  obtain ⟨u3, hu3, h⟩ := mbind_n h
  have zu3 := uPut_sz hu3
  refine u_put hC hP hS hu3 rfl in_X3 tyX3 tyX3_ok nmX3 (by decide) q1942 (fun _ h => h) rfl (ty := .int) (tyX3_ok 49 (by decide)) rfl rfl dX3_init_182 (fun H locs hP hS => ?_)
  refine W.cs (cells' := u3.1 - u0.1) (slots' := u3.2.1 - u0.2.1) (by omega) (by omega) ?_
  refine u_aload_n (r := some a0) hx hb dX3_init_185 rfl (lv_at hl 0 rfl) ?_
  refine lv_bipush (v := 20) hx hb dX3_init_186 (by decide) ?_
  obtain ⟨c5, h⟩ := mif_n h
  obtain ⟨a6, ea6⟩ : ∃ z : Nat, z = u3.1 := ⟨_, rfl⟩
  have h := mlet_at ea6 h
  obtain ⟨u4, eu4⟩ : ∃ z : UH, z = uNew u3 (20 : Int32).toNatClampNeg (.inl (0, (20 : Int32).toNatClampNeg, .inl (fun _ => 0))) := ⟨_, rfl⟩
  have h := mlet_at eu4 h
  have zu4 : u4.1 = u3.1 + 1 ∧ u4.2.1 = u3.2.1 + (20 : Int32).toNatClampNeg := by rw [eu4]; exact ⟨rfl, rfl⟩
  have hq := zz_X3_init_190 (G := G) (a0 := a0) N u4 (some a6) (some a0) h
  refine u_newa (atype := .int) hC hP hS (t := 0) q188 rfl (N := (20 : Int32).toNatClampNeg) (x := .inl (fun _ => 0)) (fun _ => rfl) c5.1 rfl (by have := c5.2; show _ * 4 ≤ _; omega) (by omega) (by omega) dX3_init_188 (fun H hP hS => ?_)
  rw [← eu4] at hP
  rw [← ea6]
  refine W.cs (cells' := u4.1 - u0.1) (slots' := u4.2.1 - u0.2.1) (by omega) (by omega) ?_
  refine W.cs (cells' := u4.1 - u0.1) (slots' := u4.2.1 - u0.2.1) (by omega) (by omega) ?_
  exact w_X3_init_190 hC hI hR hRm N u4 (some a6) (some a0) h ⟨by omega, by omega⟩ hP hS (lv_sub hl [0] rfl)
def f_X3_init_169 (N b : Nat) (g : uEnv) (a0 : Nat) (u : UH) (s0 : Option Nat) (s1 : Option Nat) : Option (UH) :=
    (s1).bind fun a1 =>
    (uPut b u a1 2 47 (va_rf s0)).bind fun u2 =>
    if ¬ (102400 : Int32) < 0 ∧ (102400 : Int32).toNatClampNeg ≤ 60000000 then
    mlet (u2.1) fun a5 =>
    mlet (uNew u2 (102400 : Int32).toNatClampNeg (.inl (3, (102400 : Int32).toNatClampNeg, .inr (.inl (fun _ => 0))))) fun u3 =>
    f_X3_init_177 N b g a0 u3 (some a5) (some a0)
    else none
set_option maxHeartbeats 4000000 in
set_option maxRecDepth 100000 in
theorem zz_X3_init_169 {G : uG} {a0 : Nat} {uf : UH} (N : Nat) (u : UH) (s0 : Option Nat) (s1 : Option Nat) (h : f_X3_init_169 N (ub G) (ug G) a0 u s0 s1 = some uf) : u.1 ≤ uf.1 ∧ u.2.1 ≤ uf.2.1 := by
  unfold f_X3_init_169 at h
  obtain ⟨a1, ha1, hha1⟩ := mbind_n h
  subst ha1
  have h := hha1
  obtain ⟨u2, hu2, h⟩ := mbind_n h
  have zu2 := uPut_sz hu2
  obtain ⟨c4, h⟩ := mif_n h
  obtain ⟨a5, ea5⟩ : ∃ z : Nat, z = u2.1 := ⟨_, rfl⟩
  have h := mlet_at ea5 h
  obtain ⟨u3, eu3⟩ : ∃ z : UH, z = uNew u2 (102400 : Int32).toNatClampNeg (.inl (3, (102400 : Int32).toNatClampNeg, .inr (.inl (fun _ => 0)))) := ⟨_, rfl⟩
  have h := mlet_at eu3 h
  have zu3 : u3.1 = u2.1 + 1 ∧ u3.2.1 = u2.2.1 + (102400 : Int32).toNatClampNeg := by rw [eu3]; exact ⟨rfl, rfl⟩
  have hq := zz_X3_init_177 (G := G) (a0 := a0) N u3 (some a5) (some a0) h
  exact ⟨by omega, by omega⟩
set_option maxHeartbeats 4000000 in
set_option maxRecDepth 100000 in
theorem w_X3_init_169 {p : Program} {l : Launch} {e : Env} {R : Room} {s : State} {m : MethodId} {args : Array Value} {below : List Frame} {meth : Method} {c : Code} {G : uG} {a0 : Nat} {u0 : UH} {uf : UH} (hC : uC p s m args meth c G RX3 cX3_init 1 none) (hI : meth.name = "<init>") (hR : 1 ≤ R.frames ∧ 20 ≤ R.locals) (hRm : uf.1 - u0.1 ≤ R.cells ∧ uf.2.1 - u0.2.1 ≤ R.slots) (N : Nat) (u : UH) (s0 : Option Nat) (s1 : Option Nat) (h : f_X3_init_169 N (ub G) (ug G) a0 u s0 s1 = some uf) (hz0 : (u0.1 ≤ u.1 ∧ u0.2.1 ≤ u.2.1)) {H : Heap} {locs : List Loc} (hP : uP G u H) (hS : va_S (uA G) s.heap H locs) {ls : Array Slot} (hl : lv_has ls 1 [(0, va_rf (some a0))]) : W p l e R s m args below meth c H locs (u.1 - u0.1) (u.2.1 - u0.2.1) (MQ below (uQv G uf) args s (uf.1 - u0.1) (uf.2.1 - u0.2.1) (uA G)) (F0 m 169 ls [va_rf s0, va_rf s1]) := by
  obtain ⟨⟨hx, hb, hml, hown, hts⟩, hKK⟩ := id hC
  have hzf := zz_X3_init_169 (G := G) (a0 := a0) N u s0 s1 h
  unfold f_X3_init_169 at h
  obtain ⟨a1, ha1, hha1⟩ := mbind_n h
  subst ha1
  have h := hha1
  obtain ⟨u2, hu2, h⟩ := mbind_n h
  have zu2 := uPut_sz hu2
  refine u_putF hC hI hP hS hu2 rfl in_X3 tyX3 tyX3_ok nmX3 (by decide) q1940 (fun _ h => h) rfl rfl (ty := (.array .int)) (tyX3_ok 47 (by decide)) (uNarA _ s0).1 (uNarA _ s0).2 dX3_init_169 (fun H locs hP hS => ?_)
  refine W.cs (cells' := u2.1 - u0.1) (slots' := u2.2.1 - u0.2.1) (by omega) (by omega) ?_
  refine u_aload_n (r := some a0) hx hb dX3_init_172 rfl (lv_at hl 0 rfl) ?_
  refine lv_ldc hx hb hown (hts _ q1892) dX3_init_173 ?_
  obtain ⟨c4, h⟩ := mif_n h
  obtain ⟨a5, ea5⟩ : ∃ z : Nat, z = u2.1 := ⟨_, rfl⟩
  have h := mlet_at ea5 h
  obtain ⟨u3, eu3⟩ : ∃ z : UH, z = uNew u2 (102400 : Int32).toNatClampNeg (.inl (3, (102400 : Int32).toNatClampNeg, .inr (.inl (fun _ => 0)))) := ⟨_, rfl⟩
  have h := mlet_at eu3 h
  have zu3 : u3.1 = u2.1 + 1 ∧ u3.2.1 = u2.2.1 + (102400 : Int32).toNatClampNeg := by rw [eu3]; exact ⟨rfl, rfl⟩
  have hq := zz_X3_init_177 (G := G) (a0 := a0) N u3 (some a5) (some a0) h
  refine u_newa (atype := .long) hC hP hS (t := 3) q186 rfl (N := (102400 : Int32).toNatClampNeg) (x := .inr (.inl (fun _ => 0))) (fun _ => rfl) c4.1 rfl (by have := c4.2; show _ * 8 ≤ _; omega) (by omega) (by omega) dX3_init_175 (fun H hP hS => ?_)
  rw [← eu3] at hP
  rw [← ea5]
  refine W.cs (cells' := u3.1 - u0.1) (slots' := u3.2.1 - u0.2.1) (by omega) (by omega) ?_
  refine W.cs (cells' := u3.1 - u0.1) (slots' := u3.2.1 - u0.2.1) (by omega) (by omega) ?_
  exact w_X3_init_177 hC hI hR hRm N u3 (some a5) (some a0) h ⟨by omega, by omega⟩ hP hS (lv_sub hl [0] rfl)
def f_X3_init_161 (N b : Nat) (g : uEnv) (a0 : Nat) (u : UH) (s0 : Option Nat) (s1 : Option Nat) : Option (UH) :=
    (s1).bind fun a1 =>
    (uPut b u a1 2 46 (va_rf s0)).bind fun u2 =>
    if ¬ (6 : Int32) < 0 ∧ (6 : Int32).toNatClampNeg ≤ 60000000 then
    mlet (u2.1) fun a5 =>
    mlet (uNew u2 (6 : Int32).toNatClampNeg (.inl (0, (6 : Int32).toNatClampNeg, .inl (fun _ => 0)))) fun u3 =>
    f_X3_init_169 N b g a0 u3 (some a5) (some a0)
    else none
set_option maxHeartbeats 4000000 in
set_option maxRecDepth 100000 in
theorem zz_X3_init_161 {G : uG} {a0 : Nat} {uf : UH} (N : Nat) (u : UH) (s0 : Option Nat) (s1 : Option Nat) (h : f_X3_init_161 N (ub G) (ug G) a0 u s0 s1 = some uf) : u.1 ≤ uf.1 ∧ u.2.1 ≤ uf.2.1 := by
  unfold f_X3_init_161 at h
  obtain ⟨a1, ha1, hha1⟩ := mbind_n h
  subst ha1
  have h := hha1
  obtain ⟨u2, hu2, h⟩ := mbind_n h
  have zu2 := uPut_sz hu2
  obtain ⟨c4, h⟩ := mif_n h
  obtain ⟨a5, ea5⟩ : ∃ z : Nat, z = u2.1 := ⟨_, rfl⟩
  have h := mlet_at ea5 h
  obtain ⟨u3, eu3⟩ : ∃ z : UH, z = uNew u2 (6 : Int32).toNatClampNeg (.inl (0, (6 : Int32).toNatClampNeg, .inl (fun _ => 0))) := ⟨_, rfl⟩
  have h := mlet_at eu3 h
  have zu3 : u3.1 = u2.1 + 1 ∧ u3.2.1 = u2.2.1 + (6 : Int32).toNatClampNeg := by rw [eu3]; exact ⟨rfl, rfl⟩
  have hq := zz_X3_init_169 (G := G) (a0 := a0) N u3 (some a5) (some a0) h
  exact ⟨by omega, by omega⟩
set_option maxHeartbeats 4000000 in
set_option maxRecDepth 100000 in
theorem w_X3_init_161 {p : Program} {l : Launch} {e : Env} {R : Room} {s : State} {m : MethodId} {args : Array Value} {below : List Frame} {meth : Method} {c : Code} {G : uG} {a0 : Nat} {u0 : UH} {uf : UH} (hC : uC p s m args meth c G RX3 cX3_init 1 none) (hI : meth.name = "<init>") (hR : 1 ≤ R.frames ∧ 20 ≤ R.locals) (hRm : uf.1 - u0.1 ≤ R.cells ∧ uf.2.1 - u0.2.1 ≤ R.slots) (N : Nat) (u : UH) (s0 : Option Nat) (s1 : Option Nat) (h : f_X3_init_161 N (ub G) (ug G) a0 u s0 s1 = some uf) (hz0 : (u0.1 ≤ u.1 ∧ u0.2.1 ≤ u.2.1)) {H : Heap} {locs : List Loc} (hP : uP G u H) (hS : va_S (uA G) s.heap H locs) {ls : Array Slot} (hl : lv_has ls 1 [(0, va_rf (some a0))]) : W p l e R s m args below meth c H locs (u.1 - u0.1) (u.2.1 - u0.2.1) (MQ below (uQv G uf) args s (uf.1 - u0.1) (uf.2.1 - u0.2.1) (uA G)) (F0 m 161 ls [va_rf s0, va_rf s1]) := by
  obtain ⟨⟨hx, hb, hml, hown, hts⟩, hKK⟩ := id hC
  have hzf := zz_X3_init_161 (G := G) (a0 := a0) N u s0 s1 h
  unfold f_X3_init_161 at h
  obtain ⟨a1, ha1, hha1⟩ := mbind_n h
  subst ha1
  have h := hha1
  obtain ⟨u2, hu2, h⟩ := mbind_n h
  have zu2 := uPut_sz hu2
  refine u_putF hC hI hP hS hu2 rfl in_X3 tyX3 tyX3_ok nmX3 (by decide) q1939 (fun _ h => h) rfl rfl (ty := (.array .int)) (tyX3_ok 46 (by decide)) (uNarA _ s0).1 (uNarA _ s0).2 dX3_init_161 (fun H locs hP hS => ?_)
  refine W.cs (cells' := u2.1 - u0.1) (slots' := u2.2.1 - u0.2.1) (by omega) (by omega) ?_
  refine u_aload_n (r := some a0) hx hb dX3_init_164 rfl (lv_at hl 0 rfl) ?_
  refine lv_bipush (v := 6) hx hb dX3_init_165 (by decide) ?_
  obtain ⟨c4, h⟩ := mif_n h
  obtain ⟨a5, ea5⟩ : ∃ z : Nat, z = u2.1 := ⟨_, rfl⟩
  have h := mlet_at ea5 h
  obtain ⟨u3, eu3⟩ : ∃ z : UH, z = uNew u2 (6 : Int32).toNatClampNeg (.inl (0, (6 : Int32).toNatClampNeg, .inl (fun _ => 0))) := ⟨_, rfl⟩
  have h := mlet_at eu3 h
  have zu3 : u3.1 = u2.1 + 1 ∧ u3.2.1 = u2.2.1 + (6 : Int32).toNatClampNeg := by rw [eu3]; exact ⟨rfl, rfl⟩
  have hq := zz_X3_init_169 (G := G) (a0 := a0) N u3 (some a5) (some a0) h
  refine u_newa (atype := .int) hC hP hS (t := 0) q188 rfl (N := (6 : Int32).toNatClampNeg) (x := .inl (fun _ => 0)) (fun _ => rfl) c4.1 rfl (by have := c4.2; show _ * 4 ≤ _; omega) (by omega) (by omega) dX3_init_167 (fun H hP hS => ?_)
  rw [← eu3] at hP
  rw [← ea5]
  refine W.cs (cells' := u3.1 - u0.1) (slots' := u3.2.1 - u0.2.1) (by omega) (by omega) ?_
  refine W.cs (cells' := u3.1 - u0.1) (slots' := u3.2.1 - u0.2.1) (by omega) (by omega) ?_
  exact w_X3_init_169 hC hI hR hRm N u3 (some a5) (some a0) h ⟨by omega, by omega⟩ hP hS (lv_sub hl [0] rfl)
def f_X3_init_153 (N b : Nat) (g : uEnv) (a0 : Nat) (u : UH) (s0 : Option Nat) (s1 : Option Nat) : Option (UH) :=
    (s1).bind fun a1 =>
    (uPut b u a1 2 45 (va_rf s0)).bind fun u2 =>
    if ¬ (40 : Int32) < 0 ∧ (40 : Int32).toNatClampNeg ≤ 60000000 then
    mlet (u2.1) fun a5 =>
    mlet (uNew u2 (40 : Int32).toNatClampNeg (.inl (0, (40 : Int32).toNatClampNeg, .inl (fun _ => 0)))) fun u3 =>
    f_X3_init_161 N b g a0 u3 (some a5) (some a0)
    else none
set_option maxHeartbeats 4000000 in
set_option maxRecDepth 100000 in
theorem zz_X3_init_153 {G : uG} {a0 : Nat} {uf : UH} (N : Nat) (u : UH) (s0 : Option Nat) (s1 : Option Nat) (h : f_X3_init_153 N (ub G) (ug G) a0 u s0 s1 = some uf) : u.1 ≤ uf.1 ∧ u.2.1 ≤ uf.2.1 := by
  unfold f_X3_init_153 at h
  obtain ⟨a1, ha1, hha1⟩ := mbind_n h
  subst ha1
  have h := hha1
  obtain ⟨u2, hu2, h⟩ := mbind_n h
  have zu2 := uPut_sz hu2
  obtain ⟨c4, h⟩ := mif_n h
  obtain ⟨a5, ea5⟩ : ∃ z : Nat, z = u2.1 := ⟨_, rfl⟩
  have h := mlet_at ea5 h
  obtain ⟨u3, eu3⟩ : ∃ z : UH, z = uNew u2 (40 : Int32).toNatClampNeg (.inl (0, (40 : Int32).toNatClampNeg, .inl (fun _ => 0))) := ⟨_, rfl⟩
  have h := mlet_at eu3 h
  have zu3 : u3.1 = u2.1 + 1 ∧ u3.2.1 = u2.2.1 + (40 : Int32).toNatClampNeg := by rw [eu3]; exact ⟨rfl, rfl⟩
  have hq := zz_X3_init_161 (G := G) (a0 := a0) N u3 (some a5) (some a0) h
  exact ⟨by omega, by omega⟩
set_option maxHeartbeats 4000000 in
set_option maxRecDepth 100000 in
theorem w_X3_init_153 {p : Program} {l : Launch} {e : Env} {R : Room} {s : State} {m : MethodId} {args : Array Value} {below : List Frame} {meth : Method} {c : Code} {G : uG} {a0 : Nat} {u0 : UH} {uf : UH} (hC : uC p s m args meth c G RX3 cX3_init 1 none) (hI : meth.name = "<init>") (hR : 1 ≤ R.frames ∧ 20 ≤ R.locals) (hRm : uf.1 - u0.1 ≤ R.cells ∧ uf.2.1 - u0.2.1 ≤ R.slots) (N : Nat) (u : UH) (s0 : Option Nat) (s1 : Option Nat) (h : f_X3_init_153 N (ub G) (ug G) a0 u s0 s1 = some uf) (hz0 : (u0.1 ≤ u.1 ∧ u0.2.1 ≤ u.2.1)) {H : Heap} {locs : List Loc} (hP : uP G u H) (hS : va_S (uA G) s.heap H locs) {ls : Array Slot} (hl : lv_has ls 1 [(0, va_rf (some a0))]) : W p l e R s m args below meth c H locs (u.1 - u0.1) (u.2.1 - u0.2.1) (MQ below (uQv G uf) args s (uf.1 - u0.1) (uf.2.1 - u0.2.1) (uA G)) (F0 m 153 ls [va_rf s0, va_rf s1]) := by
  obtain ⟨⟨hx, hb, hml, hown, hts⟩, hKK⟩ := id hC
  have hzf := zz_X3_init_153 (G := G) (a0 := a0) N u s0 s1 h
  unfold f_X3_init_153 at h
  obtain ⟨a1, ha1, hha1⟩ := mbind_n h
  subst ha1
  have h := hha1
  obtain ⟨u2, hu2, h⟩ := mbind_n h
  have zu2 := uPut_sz hu2
  refine u_putF hC hI hP hS hu2 rfl in_X3 tyX3 tyX3_ok nmX3 (by decide) q1938 (fun _ h => h) rfl rfl (ty := (.array .int)) (tyX3_ok 45 (by decide)) (uNarA _ s0).1 (uNarA _ s0).2 dX3_init_153 (fun H locs hP hS => ?_)
  refine W.cs (cells' := u2.1 - u0.1) (slots' := u2.2.1 - u0.2.1) (by omega) (by omega) ?_
  refine u_aload_n (r := some a0) hx hb dX3_init_156 rfl (lv_at hl 0 rfl) ?_
  refine lv_bipush (v := 40) hx hb dX3_init_157 (by decide) ?_
  obtain ⟨c4, h⟩ := mif_n h
  obtain ⟨a5, ea5⟩ : ∃ z : Nat, z = u2.1 := ⟨_, rfl⟩
  have h := mlet_at ea5 h
  obtain ⟨u3, eu3⟩ : ∃ z : UH, z = uNew u2 (40 : Int32).toNatClampNeg (.inl (0, (40 : Int32).toNatClampNeg, .inl (fun _ => 0))) := ⟨_, rfl⟩
  have h := mlet_at eu3 h
  have zu3 : u3.1 = u2.1 + 1 ∧ u3.2.1 = u2.2.1 + (40 : Int32).toNatClampNeg := by rw [eu3]; exact ⟨rfl, rfl⟩
  have hq := zz_X3_init_161 (G := G) (a0 := a0) N u3 (some a5) (some a0) h
  refine u_newa (atype := .int) hC hP hS (t := 0) q188 rfl (N := (40 : Int32).toNatClampNeg) (x := .inl (fun _ => 0)) (fun _ => rfl) c4.1 rfl (by have := c4.2; show _ * 4 ≤ _; omega) (by omega) (by omega) dX3_init_159 (fun H hP hS => ?_)
  rw [← eu3] at hP
  rw [← ea5]
  refine W.cs (cells' := u3.1 - u0.1) (slots' := u3.2.1 - u0.2.1) (by omega) (by omega) ?_
  refine W.cs (cells' := u3.1 - u0.1) (slots' := u3.2.1 - u0.2.1) (by omega) (by omega) ?_
  exact w_X3_init_161 hC hI hR hRm N u3 (some a5) (some a0) h ⟨by omega, by omega⟩ hP hS (lv_sub hl [0] rfl)
def f_X3_init_146 (N b : Nat) (g : uEnv) (a0 : Nat) (u : UH) (s0 : Option Nat) (s1 : Option Nat) : Option (UH) :=
    (s1).bind fun a1 =>
    (uPut b u a1 2 44 (va_rf s0)).bind fun u2 =>
    if ¬ (5 : Int32) < 0 ∧ (5 : Int32).toNatClampNeg ≤ 60000000 then
    mlet (u2.1) fun a5 =>
    mlet (uNew u2 (5 : Int32).toNatClampNeg (.inl (0, (5 : Int32).toNatClampNeg, .inl (fun _ => 0)))) fun u3 =>
    f_X3_init_153 N b g a0 u3 (some a5) (some a0)
    else none
set_option maxHeartbeats 4000000 in
set_option maxRecDepth 100000 in
theorem zz_X3_init_146 {G : uG} {a0 : Nat} {uf : UH} (N : Nat) (u : UH) (s0 : Option Nat) (s1 : Option Nat) (h : f_X3_init_146 N (ub G) (ug G) a0 u s0 s1 = some uf) : u.1 ≤ uf.1 ∧ u.2.1 ≤ uf.2.1 := by
  unfold f_X3_init_146 at h
  obtain ⟨a1, ha1, hha1⟩ := mbind_n h
  subst ha1
  have h := hha1
  obtain ⟨u2, hu2, h⟩ := mbind_n h
  have zu2 := uPut_sz hu2
  obtain ⟨c4, h⟩ := mif_n h
  obtain ⟨a5, ea5⟩ : ∃ z : Nat, z = u2.1 := ⟨_, rfl⟩
  have h := mlet_at ea5 h
  obtain ⟨u3, eu3⟩ : ∃ z : UH, z = uNew u2 (5 : Int32).toNatClampNeg (.inl (0, (5 : Int32).toNatClampNeg, .inl (fun _ => 0))) := ⟨_, rfl⟩
  have h := mlet_at eu3 h
  have zu3 : u3.1 = u2.1 + 1 ∧ u3.2.1 = u2.2.1 + (5 : Int32).toNatClampNeg := by rw [eu3]; exact ⟨rfl, rfl⟩
  have hq := zz_X3_init_153 (G := G) (a0 := a0) N u3 (some a5) (some a0) h
  exact ⟨by omega, by omega⟩
set_option maxHeartbeats 4000000 in
set_option maxRecDepth 100000 in
theorem w_X3_init_146 {p : Program} {l : Launch} {e : Env} {R : Room} {s : State} {m : MethodId} {args : Array Value} {below : List Frame} {meth : Method} {c : Code} {G : uG} {a0 : Nat} {u0 : UH} {uf : UH} (hC : uC p s m args meth c G RX3 cX3_init 1 none) (hI : meth.name = "<init>") (hR : 1 ≤ R.frames ∧ 20 ≤ R.locals) (hRm : uf.1 - u0.1 ≤ R.cells ∧ uf.2.1 - u0.2.1 ≤ R.slots) (N : Nat) (u : UH) (s0 : Option Nat) (s1 : Option Nat) (h : f_X3_init_146 N (ub G) (ug G) a0 u s0 s1 = some uf) (hz0 : (u0.1 ≤ u.1 ∧ u0.2.1 ≤ u.2.1)) {H : Heap} {locs : List Loc} (hP : uP G u H) (hS : va_S (uA G) s.heap H locs) {ls : Array Slot} (hl : lv_has ls 1 [(0, va_rf (some a0))]) : W p l e R s m args below meth c H locs (u.1 - u0.1) (u.2.1 - u0.2.1) (MQ below (uQv G uf) args s (uf.1 - u0.1) (uf.2.1 - u0.2.1) (uA G)) (F0 m 146 ls [va_rf s0, va_rf s1]) := by
  obtain ⟨⟨hx, hb, hml, hown, hts⟩, hKK⟩ := id hC
  have hzf := zz_X3_init_146 (G := G) (a0 := a0) N u s0 s1 h
  unfold f_X3_init_146 at h
  obtain ⟨a1, ha1, hha1⟩ := mbind_n h
  subst ha1
  have h := hha1
  obtain ⟨u2, hu2, h⟩ := mbind_n h
  have zu2 := uPut_sz hu2
  refine u_putF hC hI hP hS hu2 rfl in_X3 tyX3 tyX3_ok nmX3 (by decide) q1937 (fun _ h => h) rfl rfl (ty := (.array .int)) (tyX3_ok 44 (by decide)) (uNarA _ s0).1 (uNarA _ s0).2 dX3_init_146 (fun H locs hP hS => ?_)
  refine W.cs (cells' := u2.1 - u0.1) (slots' := u2.2.1 - u0.2.1) (by omega) (by omega) ?_
  refine u_aload_n (r := some a0) hx hb dX3_init_149 rfl (lv_at hl 0 rfl) ?_
  refine lv_iconst (v := 5) hx hb dX3_init_150 (by decide) ?_
  obtain ⟨c4, h⟩ := mif_n h
  obtain ⟨a5, ea5⟩ : ∃ z : Nat, z = u2.1 := ⟨_, rfl⟩
  have h := mlet_at ea5 h
  obtain ⟨u3, eu3⟩ : ∃ z : UH, z = uNew u2 (5 : Int32).toNatClampNeg (.inl (0, (5 : Int32).toNatClampNeg, .inl (fun _ => 0))) := ⟨_, rfl⟩
  have h := mlet_at eu3 h
  have zu3 : u3.1 = u2.1 + 1 ∧ u3.2.1 = u2.2.1 + (5 : Int32).toNatClampNeg := by rw [eu3]; exact ⟨rfl, rfl⟩
  have hq := zz_X3_init_153 (G := G) (a0 := a0) N u3 (some a5) (some a0) h
  refine u_newa (atype := .int) hC hP hS (t := 0) q188 rfl (N := (5 : Int32).toNatClampNeg) (x := .inl (fun _ => 0)) (fun _ => rfl) c4.1 rfl (by have := c4.2; show _ * 4 ≤ _; omega) (by omega) (by omega) dX3_init_151 (fun H hP hS => ?_)
  rw [← eu3] at hP
  rw [← ea5]
  refine W.cs (cells' := u3.1 - u0.1) (slots' := u3.2.1 - u0.2.1) (by omega) (by omega) ?_
  refine W.cs (cells' := u3.1 - u0.1) (slots' := u3.2.1 - u0.2.1) (by omega) (by omega) ?_
  exact w_X3_init_153 hC hI hR hRm N u3 (some a5) (some a0) h ⟨by omega, by omega⟩ hP hS (lv_sub hl [0] rfl)
def f_X3_init_139 (N b : Nat) (g : uEnv) (a0 : Nat) (u : UH) (s0 : Option Nat) (s1 : Option Nat) : Option (UH) :=
    (s1).bind fun a1 =>
    (uPut b u a1 2 43 (va_rf s0)).bind fun u2 =>
    if ¬ (5 : Int32) < 0 ∧ (5 : Int32).toNatClampNeg ≤ 60000000 then
    mlet (u2.1) fun a5 =>
    mlet (uNew u2 (5 : Int32).toNatClampNeg (.inl (0, (5 : Int32).toNatClampNeg, .inl (fun _ => 0)))) fun u3 =>
    f_X3_init_146 N b g a0 u3 (some a5) (some a0)
    else none
set_option maxHeartbeats 4000000 in
set_option maxRecDepth 100000 in
theorem zz_X3_init_139 {G : uG} {a0 : Nat} {uf : UH} (N : Nat) (u : UH) (s0 : Option Nat) (s1 : Option Nat) (h : f_X3_init_139 N (ub G) (ug G) a0 u s0 s1 = some uf) : u.1 ≤ uf.1 ∧ u.2.1 ≤ uf.2.1 := by
  unfold f_X3_init_139 at h
  obtain ⟨a1, ha1, hha1⟩ := mbind_n h
  subst ha1
  have h := hha1
  obtain ⟨u2, hu2, h⟩ := mbind_n h
  have zu2 := uPut_sz hu2
  obtain ⟨c4, h⟩ := mif_n h
  obtain ⟨a5, ea5⟩ : ∃ z : Nat, z = u2.1 := ⟨_, rfl⟩
  have h := mlet_at ea5 h
  obtain ⟨u3, eu3⟩ : ∃ z : UH, z = uNew u2 (5 : Int32).toNatClampNeg (.inl (0, (5 : Int32).toNatClampNeg, .inl (fun _ => 0))) := ⟨_, rfl⟩
  have h := mlet_at eu3 h
  have zu3 : u3.1 = u2.1 + 1 ∧ u3.2.1 = u2.2.1 + (5 : Int32).toNatClampNeg := by rw [eu3]; exact ⟨rfl, rfl⟩
  have hq := zz_X3_init_146 (G := G) (a0 := a0) N u3 (some a5) (some a0) h
  exact ⟨by omega, by omega⟩
set_option maxHeartbeats 4000000 in
set_option maxRecDepth 100000 in
theorem w_X3_init_139 {p : Program} {l : Launch} {e : Env} {R : Room} {s : State} {m : MethodId} {args : Array Value} {below : List Frame} {meth : Method} {c : Code} {G : uG} {a0 : Nat} {u0 : UH} {uf : UH} (hC : uC p s m args meth c G RX3 cX3_init 1 none) (hI : meth.name = "<init>") (hR : 1 ≤ R.frames ∧ 20 ≤ R.locals) (hRm : uf.1 - u0.1 ≤ R.cells ∧ uf.2.1 - u0.2.1 ≤ R.slots) (N : Nat) (u : UH) (s0 : Option Nat) (s1 : Option Nat) (h : f_X3_init_139 N (ub G) (ug G) a0 u s0 s1 = some uf) (hz0 : (u0.1 ≤ u.1 ∧ u0.2.1 ≤ u.2.1)) {H : Heap} {locs : List Loc} (hP : uP G u H) (hS : va_S (uA G) s.heap H locs) {ls : Array Slot} (hl : lv_has ls 1 [(0, va_rf (some a0))]) : W p l e R s m args below meth c H locs (u.1 - u0.1) (u.2.1 - u0.2.1) (MQ below (uQv G uf) args s (uf.1 - u0.1) (uf.2.1 - u0.2.1) (uA G)) (F0 m 139 ls [va_rf s0, va_rf s1]) := by
  obtain ⟨⟨hx, hb, hml, hown, hts⟩, hKK⟩ := id hC
  have hzf := zz_X3_init_139 (G := G) (a0 := a0) N u s0 s1 h
  unfold f_X3_init_139 at h
  obtain ⟨a1, ha1, hha1⟩ := mbind_n h
  subst ha1
  have h := hha1
  obtain ⟨u2, hu2, h⟩ := mbind_n h
  have zu2 := uPut_sz hu2
  refine u_putF hC hI hP hS hu2 rfl in_X3 tyX3 tyX3_ok nmX3 (by decide) q1936 (fun _ h => h) rfl rfl (ty := (.array .int)) (tyX3_ok 43 (by decide)) (uNarA _ s0).1 (uNarA _ s0).2 dX3_init_139 (fun H locs hP hS => ?_)
  refine W.cs (cells' := u2.1 - u0.1) (slots' := u2.2.1 - u0.2.1) (by omega) (by omega) ?_
  refine u_aload_n (r := some a0) hx hb dX3_init_142 rfl (lv_at hl 0 rfl) ?_
  refine lv_iconst (v := 5) hx hb dX3_init_143 (by decide) ?_
  obtain ⟨c4, h⟩ := mif_n h
  obtain ⟨a5, ea5⟩ : ∃ z : Nat, z = u2.1 := ⟨_, rfl⟩
  have h := mlet_at ea5 h
  obtain ⟨u3, eu3⟩ : ∃ z : UH, z = uNew u2 (5 : Int32).toNatClampNeg (.inl (0, (5 : Int32).toNatClampNeg, .inl (fun _ => 0))) := ⟨_, rfl⟩
  have h := mlet_at eu3 h
  have zu3 : u3.1 = u2.1 + 1 ∧ u3.2.1 = u2.2.1 + (5 : Int32).toNatClampNeg := by rw [eu3]; exact ⟨rfl, rfl⟩
  have hq := zz_X3_init_146 (G := G) (a0 := a0) N u3 (some a5) (some a0) h
  refine u_newa (atype := .int) hC hP hS (t := 0) q188 rfl (N := (5 : Int32).toNatClampNeg) (x := .inl (fun _ => 0)) (fun _ => rfl) c4.1 rfl (by have := c4.2; show _ * 4 ≤ _; omega) (by omega) (by omega) dX3_init_144 (fun H hP hS => ?_)
  rw [← eu3] at hP
  rw [← ea5]
  refine W.cs (cells' := u3.1 - u0.1) (slots' := u3.2.1 - u0.2.1) (by omega) (by omega) ?_
  refine W.cs (cells' := u3.1 - u0.1) (slots' := u3.2.1 - u0.2.1) (by omega) (by omega) ?_
  exact w_X3_init_146 hC hI hR hRm N u3 (some a5) (some a0) h ⟨by omega, by omega⟩ hP hS (lv_sub hl [0] rfl)
def f_X3_init_131 (N b : Nat) (g : uEnv) (a0 : Nat) (u : UH) (s0 : Option Nat) (s1 : Option Nat) : Option (UH) :=
    (s1).bind fun a1 =>
    (uPut b u a1 2 42 (va_rf s0)).bind fun u2 =>
    if ¬ (100 : Int32) < 0 ∧ (100 : Int32).toNatClampNeg ≤ 60000000 then
    mlet (u2.1) fun a5 =>
    mlet (uNew u2 (100 : Int32).toNatClampNeg (.inl (0, (100 : Int32).toNatClampNeg, .inl (fun _ => 0)))) fun u3 =>
    f_X3_init_139 N b g a0 u3 (some a5) (some a0)
    else none
set_option maxHeartbeats 4000000 in
set_option maxRecDepth 100000 in
theorem zz_X3_init_131 {G : uG} {a0 : Nat} {uf : UH} (N : Nat) (u : UH) (s0 : Option Nat) (s1 : Option Nat) (h : f_X3_init_131 N (ub G) (ug G) a0 u s0 s1 = some uf) : u.1 ≤ uf.1 ∧ u.2.1 ≤ uf.2.1 := by
  unfold f_X3_init_131 at h
  obtain ⟨a1, ha1, hha1⟩ := mbind_n h
  subst ha1
  have h := hha1
  obtain ⟨u2, hu2, h⟩ := mbind_n h
  have zu2 := uPut_sz hu2
  obtain ⟨c4, h⟩ := mif_n h
  obtain ⟨a5, ea5⟩ : ∃ z : Nat, z = u2.1 := ⟨_, rfl⟩
  have h := mlet_at ea5 h
  obtain ⟨u3, eu3⟩ : ∃ z : UH, z = uNew u2 (100 : Int32).toNatClampNeg (.inl (0, (100 : Int32).toNatClampNeg, .inl (fun _ => 0))) := ⟨_, rfl⟩
  have h := mlet_at eu3 h
  have zu3 : u3.1 = u2.1 + 1 ∧ u3.2.1 = u2.2.1 + (100 : Int32).toNatClampNeg := by rw [eu3]; exact ⟨rfl, rfl⟩
  have hq := zz_X3_init_139 (G := G) (a0 := a0) N u3 (some a5) (some a0) h
  exact ⟨by omega, by omega⟩
set_option maxHeartbeats 4000000 in
set_option maxRecDepth 100000 in
theorem w_X3_init_131 {p : Program} {l : Launch} {e : Env} {R : Room} {s : State} {m : MethodId} {args : Array Value} {below : List Frame} {meth : Method} {c : Code} {G : uG} {a0 : Nat} {u0 : UH} {uf : UH} (hC : uC p s m args meth c G RX3 cX3_init 1 none) (hI : meth.name = "<init>") (hR : 1 ≤ R.frames ∧ 20 ≤ R.locals) (hRm : uf.1 - u0.1 ≤ R.cells ∧ uf.2.1 - u0.2.1 ≤ R.slots) (N : Nat) (u : UH) (s0 : Option Nat) (s1 : Option Nat) (h : f_X3_init_131 N (ub G) (ug G) a0 u s0 s1 = some uf) (hz0 : (u0.1 ≤ u.1 ∧ u0.2.1 ≤ u.2.1)) {H : Heap} {locs : List Loc} (hP : uP G u H) (hS : va_S (uA G) s.heap H locs) {ls : Array Slot} (hl : lv_has ls 1 [(0, va_rf (some a0))]) : W p l e R s m args below meth c H locs (u.1 - u0.1) (u.2.1 - u0.2.1) (MQ below (uQv G uf) args s (uf.1 - u0.1) (uf.2.1 - u0.2.1) (uA G)) (F0 m 131 ls [va_rf s0, va_rf s1]) := by
  obtain ⟨⟨hx, hb, hml, hown, hts⟩, hKK⟩ := id hC
  have hzf := zz_X3_init_131 (G := G) (a0 := a0) N u s0 s1 h
  unfold f_X3_init_131 at h
  obtain ⟨a1, ha1, hha1⟩ := mbind_n h
  subst ha1
  have h := hha1
  obtain ⟨u2, hu2, h⟩ := mbind_n h
  have zu2 := uPut_sz hu2
  refine u_putF hC hI hP hS hu2 rfl in_X3 tyX3 tyX3_ok nmX3 (by decide) q1935 (fun _ h => h) rfl rfl (ty := (.array .int)) (tyX3_ok 42 (by decide)) (uNarA _ s0).1 (uNarA _ s0).2 dX3_init_131 (fun H locs hP hS => ?_)
  refine W.cs (cells' := u2.1 - u0.1) (slots' := u2.2.1 - u0.2.1) (by omega) (by omega) ?_
  refine u_aload_n (r := some a0) hx hb dX3_init_134 rfl (lv_at hl 0 rfl) ?_
  refine lv_bipush (v := 100) hx hb dX3_init_135 (by decide) ?_
  obtain ⟨c4, h⟩ := mif_n h
  obtain ⟨a5, ea5⟩ : ∃ z : Nat, z = u2.1 := ⟨_, rfl⟩
  have h := mlet_at ea5 h
  obtain ⟨u3, eu3⟩ : ∃ z : UH, z = uNew u2 (100 : Int32).toNatClampNeg (.inl (0, (100 : Int32).toNatClampNeg, .inl (fun _ => 0))) := ⟨_, rfl⟩
  have h := mlet_at eu3 h
  have zu3 : u3.1 = u2.1 + 1 ∧ u3.2.1 = u2.2.1 + (100 : Int32).toNatClampNeg := by rw [eu3]; exact ⟨rfl, rfl⟩
  have hq := zz_X3_init_139 (G := G) (a0 := a0) N u3 (some a5) (some a0) h
  refine u_newa (atype := .int) hC hP hS (t := 0) q188 rfl (N := (100 : Int32).toNatClampNeg) (x := .inl (fun _ => 0)) (fun _ => rfl) c4.1 rfl (by have := c4.2; show _ * 4 ≤ _; omega) (by omega) (by omega) dX3_init_137 (fun H hP hS => ?_)
  rw [← eu3] at hP
  rw [← ea5]
  refine W.cs (cells' := u3.1 - u0.1) (slots' := u3.2.1 - u0.2.1) (by omega) (by omega) ?_
  refine W.cs (cells' := u3.1 - u0.1) (slots' := u3.2.1 - u0.2.1) (by omega) (by omega) ?_
  exact w_X3_init_139 hC hI hR hRm N u3 (some a5) (some a0) h ⟨by omega, by omega⟩ hP hS (lv_sub hl [0] rfl)
def f_X3_init_123 (N b : Nat) (g : uEnv) (a0 : Nat) (u : UH) (s0 : Option Nat) (s1 : Option Nat) : Option (UH) :=
    (s1).bind fun a1 =>
    (uPut b u a1 2 41 (va_rf s0)).bind fun u2 =>
    if ¬ (100 : Int32) < 0 ∧ (100 : Int32).toNatClampNeg ≤ 60000000 then
    mlet (u2.1) fun a5 =>
    mlet (uNew u2 (100 : Int32).toNatClampNeg (.inl (0, (100 : Int32).toNatClampNeg, .inl (fun _ => 0)))) fun u3 =>
    f_X3_init_131 N b g a0 u3 (some a5) (some a0)
    else none
set_option maxHeartbeats 4000000 in
set_option maxRecDepth 100000 in
theorem zz_X3_init_123 {G : uG} {a0 : Nat} {uf : UH} (N : Nat) (u : UH) (s0 : Option Nat) (s1 : Option Nat) (h : f_X3_init_123 N (ub G) (ug G) a0 u s0 s1 = some uf) : u.1 ≤ uf.1 ∧ u.2.1 ≤ uf.2.1 := by
  unfold f_X3_init_123 at h
  obtain ⟨a1, ha1, hha1⟩ := mbind_n h
  subst ha1
  have h := hha1
  obtain ⟨u2, hu2, h⟩ := mbind_n h
  have zu2 := uPut_sz hu2
  obtain ⟨c4, h⟩ := mif_n h
  obtain ⟨a5, ea5⟩ : ∃ z : Nat, z = u2.1 := ⟨_, rfl⟩
  have h := mlet_at ea5 h
  obtain ⟨u3, eu3⟩ : ∃ z : UH, z = uNew u2 (100 : Int32).toNatClampNeg (.inl (0, (100 : Int32).toNatClampNeg, .inl (fun _ => 0))) := ⟨_, rfl⟩
  have h := mlet_at eu3 h
  have zu3 : u3.1 = u2.1 + 1 ∧ u3.2.1 = u2.2.1 + (100 : Int32).toNatClampNeg := by rw [eu3]; exact ⟨rfl, rfl⟩
  have hq := zz_X3_init_131 (G := G) (a0 := a0) N u3 (some a5) (some a0) h
  exact ⟨by omega, by omega⟩
set_option maxHeartbeats 4000000 in
set_option maxRecDepth 100000 in
theorem w_X3_init_123 {p : Program} {l : Launch} {e : Env} {R : Room} {s : State} {m : MethodId} {args : Array Value} {below : List Frame} {meth : Method} {c : Code} {G : uG} {a0 : Nat} {u0 : UH} {uf : UH} (hC : uC p s m args meth c G RX3 cX3_init 1 none) (hI : meth.name = "<init>") (hR : 1 ≤ R.frames ∧ 20 ≤ R.locals) (hRm : uf.1 - u0.1 ≤ R.cells ∧ uf.2.1 - u0.2.1 ≤ R.slots) (N : Nat) (u : UH) (s0 : Option Nat) (s1 : Option Nat) (h : f_X3_init_123 N (ub G) (ug G) a0 u s0 s1 = some uf) (hz0 : (u0.1 ≤ u.1 ∧ u0.2.1 ≤ u.2.1)) {H : Heap} {locs : List Loc} (hP : uP G u H) (hS : va_S (uA G) s.heap H locs) {ls : Array Slot} (hl : lv_has ls 1 [(0, va_rf (some a0))]) : W p l e R s m args below meth c H locs (u.1 - u0.1) (u.2.1 - u0.2.1) (MQ below (uQv G uf) args s (uf.1 - u0.1) (uf.2.1 - u0.2.1) (uA G)) (F0 m 123 ls [va_rf s0, va_rf s1]) := by
  obtain ⟨⟨hx, hb, hml, hown, hts⟩, hKK⟩ := id hC
  have hzf := zz_X3_init_123 (G := G) (a0 := a0) N u s0 s1 h
  unfold f_X3_init_123 at h
  obtain ⟨a1, ha1, hha1⟩ := mbind_n h
  subst ha1
  have h := hha1
  obtain ⟨u2, hu2, h⟩ := mbind_n h
  have zu2 := uPut_sz hu2
  refine u_putF hC hI hP hS hu2 rfl in_X3 tyX3 tyX3_ok nmX3 (by decide) q1934 (fun _ h => h) rfl rfl (ty := (.array .int)) (tyX3_ok 41 (by decide)) (uNarA _ s0).1 (uNarA _ s0).2 dX3_init_123 (fun H locs hP hS => ?_)
  refine W.cs (cells' := u2.1 - u0.1) (slots' := u2.2.1 - u0.2.1) (by omega) (by omega) ?_
  refine u_aload_n (r := some a0) hx hb dX3_init_126 rfl (lv_at hl 0 rfl) ?_
  refine lv_bipush (v := 100) hx hb dX3_init_127 (by decide) ?_
  obtain ⟨c4, h⟩ := mif_n h
  obtain ⟨a5, ea5⟩ : ∃ z : Nat, z = u2.1 := ⟨_, rfl⟩
  have h := mlet_at ea5 h
  obtain ⟨u3, eu3⟩ : ∃ z : UH, z = uNew u2 (100 : Int32).toNatClampNeg (.inl (0, (100 : Int32).toNatClampNeg, .inl (fun _ => 0))) := ⟨_, rfl⟩
  have h := mlet_at eu3 h
  have zu3 : u3.1 = u2.1 + 1 ∧ u3.2.1 = u2.2.1 + (100 : Int32).toNatClampNeg := by rw [eu3]; exact ⟨rfl, rfl⟩
  have hq := zz_X3_init_131 (G := G) (a0 := a0) N u3 (some a5) (some a0) h
  refine u_newa (atype := .int) hC hP hS (t := 0) q188 rfl (N := (100 : Int32).toNatClampNeg) (x := .inl (fun _ => 0)) (fun _ => rfl) c4.1 rfl (by have := c4.2; show _ * 4 ≤ _; omega) (by omega) (by omega) dX3_init_129 (fun H hP hS => ?_)
  rw [← eu3] at hP
  rw [← ea5]
  refine W.cs (cells' := u3.1 - u0.1) (slots' := u3.2.1 - u0.2.1) (by omega) (by omega) ?_
  refine W.cs (cells' := u3.1 - u0.1) (slots' := u3.2.1 - u0.2.1) (by omega) (by omega) ?_
  exact w_X3_init_131 hC hI hR hRm N u3 (some a5) (some a0) h ⟨by omega, by omega⟩ hP hS (lv_sub hl [0] rfl)
def f_X3_init_115 (N b : Nat) (g : uEnv) (a0 : Nat) (u : UH) (s0 : Option Nat) (s1 : Option Nat) : Option (UH) :=
    (s1).bind fun a1 =>
    (uPut b u a1 2 33 (va_rf s0)).bind fun u2 =>
    if ¬ (100 : Int32) < 0 ∧ (100 : Int32).toNatClampNeg ≤ 60000000 then
    mlet (u2.1) fun a5 =>
    mlet (uNew u2 (100 : Int32).toNatClampNeg (.inl (0, (100 : Int32).toNatClampNeg, .inl (fun _ => 0)))) fun u3 =>
    f_X3_init_123 N b g a0 u3 (some a5) (some a0)
    else none
set_option maxHeartbeats 4000000 in
set_option maxRecDepth 100000 in
theorem zz_X3_init_115 {G : uG} {a0 : Nat} {uf : UH} (N : Nat) (u : UH) (s0 : Option Nat) (s1 : Option Nat) (h : f_X3_init_115 N (ub G) (ug G) a0 u s0 s1 = some uf) : u.1 ≤ uf.1 ∧ u.2.1 ≤ uf.2.1 := by
  unfold f_X3_init_115 at h
  obtain ⟨a1, ha1, hha1⟩ := mbind_n h
  subst ha1
  have h := hha1
  obtain ⟨u2, hu2, h⟩ := mbind_n h
  have zu2 := uPut_sz hu2
  obtain ⟨c4, h⟩ := mif_n h
  obtain ⟨a5, ea5⟩ : ∃ z : Nat, z = u2.1 := ⟨_, rfl⟩
  have h := mlet_at ea5 h
  obtain ⟨u3, eu3⟩ : ∃ z : UH, z = uNew u2 (100 : Int32).toNatClampNeg (.inl (0, (100 : Int32).toNatClampNeg, .inl (fun _ => 0))) := ⟨_, rfl⟩
  have h := mlet_at eu3 h
  have zu3 : u3.1 = u2.1 + 1 ∧ u3.2.1 = u2.2.1 + (100 : Int32).toNatClampNeg := by rw [eu3]; exact ⟨rfl, rfl⟩
  have hq := zz_X3_init_123 (G := G) (a0 := a0) N u3 (some a5) (some a0) h
  exact ⟨by omega, by omega⟩
set_option maxHeartbeats 4000000 in
set_option maxRecDepth 100000 in
theorem w_X3_init_115 {p : Program} {l : Launch} {e : Env} {R : Room} {s : State} {m : MethodId} {args : Array Value} {below : List Frame} {meth : Method} {c : Code} {G : uG} {a0 : Nat} {u0 : UH} {uf : UH} (hC : uC p s m args meth c G RX3 cX3_init 1 none) (hI : meth.name = "<init>") (hR : 1 ≤ R.frames ∧ 20 ≤ R.locals) (hRm : uf.1 - u0.1 ≤ R.cells ∧ uf.2.1 - u0.2.1 ≤ R.slots) (N : Nat) (u : UH) (s0 : Option Nat) (s1 : Option Nat) (h : f_X3_init_115 N (ub G) (ug G) a0 u s0 s1 = some uf) (hz0 : (u0.1 ≤ u.1 ∧ u0.2.1 ≤ u.2.1)) {H : Heap} {locs : List Loc} (hP : uP G u H) (hS : va_S (uA G) s.heap H locs) {ls : Array Slot} (hl : lv_has ls 1 [(0, va_rf (some a0))]) : W p l e R s m args below meth c H locs (u.1 - u0.1) (u.2.1 - u0.2.1) (MQ below (uQv G uf) args s (uf.1 - u0.1) (uf.2.1 - u0.2.1) (uA G)) (F0 m 115 ls [va_rf s0, va_rf s1]) := by
  obtain ⟨⟨hx, hb, hml, hown, hts⟩, hKK⟩ := id hC
  have hzf := zz_X3_init_115 (G := G) (a0 := a0) N u s0 s1 h
  unfold f_X3_init_115 at h
  obtain ⟨a1, ha1, hha1⟩ := mbind_n h
  subst ha1
  have h := hha1
  obtain ⟨u2, hu2, h⟩ := mbind_n h
  have zu2 := uPut_sz hu2
  refine u_putF hC hI hP hS hu2 rfl in_X3 tyX3 tyX3_ok nmX3 (by decide) q1926 (fun _ h => h) rfl rfl (ty := (.array .int)) (tyX3_ok 33 (by decide)) (uNarA _ s0).1 (uNarA _ s0).2 dX3_init_115 (fun H locs hP hS => ?_)
  refine W.cs (cells' := u2.1 - u0.1) (slots' := u2.2.1 - u0.2.1) (by omega) (by omega) ?_
  refine u_aload_n (r := some a0) hx hb dX3_init_118 rfl (lv_at hl 0 rfl) ?_
  refine lv_bipush (v := 100) hx hb dX3_init_119 (by decide) ?_
  obtain ⟨c4, h⟩ := mif_n h
  obtain ⟨a5, ea5⟩ : ∃ z : Nat, z = u2.1 := ⟨_, rfl⟩
  have h := mlet_at ea5 h
  obtain ⟨u3, eu3⟩ : ∃ z : UH, z = uNew u2 (100 : Int32).toNatClampNeg (.inl (0, (100 : Int32).toNatClampNeg, .inl (fun _ => 0))) := ⟨_, rfl⟩
  have h := mlet_at eu3 h
  have zu3 : u3.1 = u2.1 + 1 ∧ u3.2.1 = u2.2.1 + (100 : Int32).toNatClampNeg := by rw [eu3]; exact ⟨rfl, rfl⟩
  have hq := zz_X3_init_123 (G := G) (a0 := a0) N u3 (some a5) (some a0) h
  refine u_newa (atype := .int) hC hP hS (t := 0) q188 rfl (N := (100 : Int32).toNatClampNeg) (x := .inl (fun _ => 0)) (fun _ => rfl) c4.1 rfl (by have := c4.2; show _ * 4 ≤ _; omega) (by omega) (by omega) dX3_init_121 (fun H hP hS => ?_)
  rw [← eu3] at hP
  rw [← ea5]
  refine W.cs (cells' := u3.1 - u0.1) (slots' := u3.2.1 - u0.2.1) (by omega) (by omega) ?_
  refine W.cs (cells' := u3.1 - u0.1) (slots' := u3.2.1 - u0.2.1) (by omega) (by omega) ?_
  exact w_X3_init_123 hC hI hR hRm N u3 (some a5) (some a0) h ⟨by omega, by omega⟩ hP hS (lv_sub hl [0] rfl)
def f_X3_init_106 (N b : Nat) (g : uEnv) (a0 : Nat) (u : UH) (s0 : Option Nat) (s1 : Option Nat) : Option (UH) :=
    (s1).bind fun a1 =>
    (uPut b u a1 2 32 (va_rf s0)).bind fun u2 =>
    if ¬ (400 : Int32) < 0 ∧ (400 : Int32).toNatClampNeg ≤ 60000000 then
    mlet (u2.1) fun a5 =>
    mlet (uNew u2 (400 : Int32).toNatClampNeg (.inl (0, (400 : Int32).toNatClampNeg, .inl (fun _ => 0)))) fun u3 =>
    f_X3_init_115 N b g a0 u3 (some a5) (some a0)
    else none
set_option maxHeartbeats 4000000 in
set_option maxRecDepth 100000 in
theorem zz_X3_init_106 {G : uG} {a0 : Nat} {uf : UH} (N : Nat) (u : UH) (s0 : Option Nat) (s1 : Option Nat) (h : f_X3_init_106 N (ub G) (ug G) a0 u s0 s1 = some uf) : u.1 ≤ uf.1 ∧ u.2.1 ≤ uf.2.1 := by
  unfold f_X3_init_106 at h
  obtain ⟨a1, ha1, hha1⟩ := mbind_n h
  subst ha1
  have h := hha1
  obtain ⟨u2, hu2, h⟩ := mbind_n h
  have zu2 := uPut_sz hu2
  obtain ⟨c4, h⟩ := mif_n h
  obtain ⟨a5, ea5⟩ : ∃ z : Nat, z = u2.1 := ⟨_, rfl⟩
  have h := mlet_at ea5 h
  obtain ⟨u3, eu3⟩ : ∃ z : UH, z = uNew u2 (400 : Int32).toNatClampNeg (.inl (0, (400 : Int32).toNatClampNeg, .inl (fun _ => 0))) := ⟨_, rfl⟩
  have h := mlet_at eu3 h
  have zu3 : u3.1 = u2.1 + 1 ∧ u3.2.1 = u2.2.1 + (400 : Int32).toNatClampNeg := by rw [eu3]; exact ⟨rfl, rfl⟩
  have hq := zz_X3_init_115 (G := G) (a0 := a0) N u3 (some a5) (some a0) h
  exact ⟨by omega, by omega⟩
set_option maxHeartbeats 4000000 in
set_option maxRecDepth 100000 in
theorem w_X3_init_106 {p : Program} {l : Launch} {e : Env} {R : Room} {s : State} {m : MethodId} {args : Array Value} {below : List Frame} {meth : Method} {c : Code} {G : uG} {a0 : Nat} {u0 : UH} {uf : UH} (hC : uC p s m args meth c G RX3 cX3_init 1 none) (hI : meth.name = "<init>") (hR : 1 ≤ R.frames ∧ 20 ≤ R.locals) (hRm : uf.1 - u0.1 ≤ R.cells ∧ uf.2.1 - u0.2.1 ≤ R.slots) (N : Nat) (u : UH) (s0 : Option Nat) (s1 : Option Nat) (h : f_X3_init_106 N (ub G) (ug G) a0 u s0 s1 = some uf) (hz0 : (u0.1 ≤ u.1 ∧ u0.2.1 ≤ u.2.1)) {H : Heap} {locs : List Loc} (hP : uP G u H) (hS : va_S (uA G) s.heap H locs) {ls : Array Slot} (hl : lv_has ls 1 [(0, va_rf (some a0))]) : W p l e R s m args below meth c H locs (u.1 - u0.1) (u.2.1 - u0.2.1) (MQ below (uQv G uf) args s (uf.1 - u0.1) (uf.2.1 - u0.2.1) (uA G)) (F0 m 106 ls [va_rf s0, va_rf s1]) := by
  obtain ⟨⟨hx, hb, hml, hown, hts⟩, hKK⟩ := id hC
  have hzf := zz_X3_init_106 (G := G) (a0 := a0) N u s0 s1 h
  unfold f_X3_init_106 at h
  obtain ⟨a1, ha1, hha1⟩ := mbind_n h
  subst ha1
  have h := hha1
  obtain ⟨u2, hu2, h⟩ := mbind_n h
  have zu2 := uPut_sz hu2
  refine u_putF hC hI hP hS hu2 rfl in_X3 tyX3 tyX3_ok nmX3 (by decide) q1925 (fun _ h => h) rfl rfl (ty := (.array .int)) (tyX3_ok 32 (by decide)) (uNarA _ s0).1 (uNarA _ s0).2 dX3_init_106 (fun H locs hP hS => ?_)
  refine W.cs (cells' := u2.1 - u0.1) (slots' := u2.2.1 - u0.2.1) (by omega) (by omega) ?_
  refine u_aload_n (r := some a0) hx hb dX3_init_109 rfl (lv_at hl 0 rfl) ?_
  refine lv_sipush (v := 400) hx hb dX3_init_110 (by decide) ?_
  obtain ⟨c4, h⟩ := mif_n h
  obtain ⟨a5, ea5⟩ : ∃ z : Nat, z = u2.1 := ⟨_, rfl⟩
  have h := mlet_at ea5 h
  obtain ⟨u3, eu3⟩ : ∃ z : UH, z = uNew u2 (400 : Int32).toNatClampNeg (.inl (0, (400 : Int32).toNatClampNeg, .inl (fun _ => 0))) := ⟨_, rfl⟩
  have h := mlet_at eu3 h
  have zu3 : u3.1 = u2.1 + 1 ∧ u3.2.1 = u2.2.1 + (400 : Int32).toNatClampNeg := by rw [eu3]; exact ⟨rfl, rfl⟩
  have hq := zz_X3_init_115 (G := G) (a0 := a0) N u3 (some a5) (some a0) h
  refine u_newa (atype := .int) hC hP hS (t := 0) q188 rfl (N := (400 : Int32).toNatClampNeg) (x := .inl (fun _ => 0)) (fun _ => rfl) c4.1 rfl (by have := c4.2; show _ * 4 ≤ _; omega) (by omega) (by omega) dX3_init_113 (fun H hP hS => ?_)
  rw [← eu3] at hP
  rw [← ea5]
  refine W.cs (cells' := u3.1 - u0.1) (slots' := u3.2.1 - u0.2.1) (by omega) (by omega) ?_
  refine W.cs (cells' := u3.1 - u0.1) (slots' := u3.2.1 - u0.2.1) (by omega) (by omega) ?_
  exact w_X3_init_115 hC hI hR hRm N u3 (some a5) (some a0) h ⟨by omega, by omega⟩ hP hS (lv_sub hl [0] rfl)
def f_X3_init_98 (N b : Nat) (g : uEnv) (a0 : Nat) (u : UH) (s0 : Option Nat) (s1 : Option Nat) : Option (UH) :=
    (s1).bind fun a1 =>
    (uPut b u a1 2 31 (va_rf s0)).bind fun u2 =>
    if ¬ (6 : Int32) < 0 ∧ (6 : Int32).toNatClampNeg ≤ 60000000 then
    mlet (u2.1) fun a5 =>
    mlet (uNew u2 (6 : Int32).toNatClampNeg (.inl (0, (6 : Int32).toNatClampNeg, .inl (fun _ => 0)))) fun u3 =>
    f_X3_init_106 N b g a0 u3 (some a5) (some a0)
    else none
set_option maxHeartbeats 4000000 in
set_option maxRecDepth 100000 in
theorem zz_X3_init_98 {G : uG} {a0 : Nat} {uf : UH} (N : Nat) (u : UH) (s0 : Option Nat) (s1 : Option Nat) (h : f_X3_init_98 N (ub G) (ug G) a0 u s0 s1 = some uf) : u.1 ≤ uf.1 ∧ u.2.1 ≤ uf.2.1 := by
  unfold f_X3_init_98 at h
  obtain ⟨a1, ha1, hha1⟩ := mbind_n h
  subst ha1
  have h := hha1
  obtain ⟨u2, hu2, h⟩ := mbind_n h
  have zu2 := uPut_sz hu2
  obtain ⟨c4, h⟩ := mif_n h
  obtain ⟨a5, ea5⟩ : ∃ z : Nat, z = u2.1 := ⟨_, rfl⟩
  have h := mlet_at ea5 h
  obtain ⟨u3, eu3⟩ : ∃ z : UH, z = uNew u2 (6 : Int32).toNatClampNeg (.inl (0, (6 : Int32).toNatClampNeg, .inl (fun _ => 0))) := ⟨_, rfl⟩
  have h := mlet_at eu3 h
  have zu3 : u3.1 = u2.1 + 1 ∧ u3.2.1 = u2.2.1 + (6 : Int32).toNatClampNeg := by rw [eu3]; exact ⟨rfl, rfl⟩
  have hq := zz_X3_init_106 (G := G) (a0 := a0) N u3 (some a5) (some a0) h
  exact ⟨by omega, by omega⟩
set_option maxHeartbeats 4000000 in
set_option maxRecDepth 100000 in
theorem w_X3_init_98 {p : Program} {l : Launch} {e : Env} {R : Room} {s : State} {m : MethodId} {args : Array Value} {below : List Frame} {meth : Method} {c : Code} {G : uG} {a0 : Nat} {u0 : UH} {uf : UH} (hC : uC p s m args meth c G RX3 cX3_init 1 none) (hI : meth.name = "<init>") (hR : 1 ≤ R.frames ∧ 20 ≤ R.locals) (hRm : uf.1 - u0.1 ≤ R.cells ∧ uf.2.1 - u0.2.1 ≤ R.slots) (N : Nat) (u : UH) (s0 : Option Nat) (s1 : Option Nat) (h : f_X3_init_98 N (ub G) (ug G) a0 u s0 s1 = some uf) (hz0 : (u0.1 ≤ u.1 ∧ u0.2.1 ≤ u.2.1)) {H : Heap} {locs : List Loc} (hP : uP G u H) (hS : va_S (uA G) s.heap H locs) {ls : Array Slot} (hl : lv_has ls 1 [(0, va_rf (some a0))]) : W p l e R s m args below meth c H locs (u.1 - u0.1) (u.2.1 - u0.2.1) (MQ below (uQv G uf) args s (uf.1 - u0.1) (uf.2.1 - u0.2.1) (uA G)) (F0 m 98 ls [va_rf s0, va_rf s1]) := by
  obtain ⟨⟨hx, hb, hml, hown, hts⟩, hKK⟩ := id hC
  have hzf := zz_X3_init_98 (G := G) (a0 := a0) N u s0 s1 h
  unfold f_X3_init_98 at h
  obtain ⟨a1, ha1, hha1⟩ := mbind_n h
  subst ha1
  have h := hha1
  obtain ⟨u2, hu2, h⟩ := mbind_n h
  have zu2 := uPut_sz hu2
  refine u_putF hC hI hP hS hu2 rfl in_X3 tyX3 tyX3_ok nmX3 (by decide) q1924 (fun _ h => h) rfl rfl (ty := (.array .int)) (tyX3_ok 31 (by decide)) (uNarA _ s0).1 (uNarA _ s0).2 dX3_init_98 (fun H locs hP hS => ?_)
  refine W.cs (cells' := u2.1 - u0.1) (slots' := u2.2.1 - u0.2.1) (by omega) (by omega) ?_
  refine u_aload_n (r := some a0) hx hb dX3_init_101 rfl (lv_at hl 0 rfl) ?_
  refine lv_bipush (v := 6) hx hb dX3_init_102 (by decide) ?_
  obtain ⟨c4, h⟩ := mif_n h
  obtain ⟨a5, ea5⟩ : ∃ z : Nat, z = u2.1 := ⟨_, rfl⟩
  have h := mlet_at ea5 h
  obtain ⟨u3, eu3⟩ : ∃ z : UH, z = uNew u2 (6 : Int32).toNatClampNeg (.inl (0, (6 : Int32).toNatClampNeg, .inl (fun _ => 0))) := ⟨_, rfl⟩
  have h := mlet_at eu3 h
  have zu3 : u3.1 = u2.1 + 1 ∧ u3.2.1 = u2.2.1 + (6 : Int32).toNatClampNeg := by rw [eu3]; exact ⟨rfl, rfl⟩
  have hq := zz_X3_init_106 (G := G) (a0 := a0) N u3 (some a5) (some a0) h
  refine u_newa (atype := .int) hC hP hS (t := 0) q188 rfl (N := (6 : Int32).toNatClampNeg) (x := .inl (fun _ => 0)) (fun _ => rfl) c4.1 rfl (by have := c4.2; show _ * 4 ≤ _; omega) (by omega) (by omega) dX3_init_104 (fun H hP hS => ?_)
  rw [← eu3] at hP
  rw [← ea5]
  refine W.cs (cells' := u3.1 - u0.1) (slots' := u3.2.1 - u0.2.1) (by omega) (by omega) ?_
  refine W.cs (cells' := u3.1 - u0.1) (slots' := u3.2.1 - u0.2.1) (by omega) (by omega) ?_
  exact w_X3_init_106 hC hI hR hRm N u3 (some a5) (some a0) h ⟨by omega, by omega⟩ hP hS (lv_sub hl [0] rfl)
def f_X3_init_90 (N b : Nat) (g : uEnv) (a0 : Nat) (u : UH) (s0 : Option Nat) (s1 : Option Nat) : Option (UH) :=
    (s1).bind fun a1 =>
    (uPut b u a1 2 30 (va_rf s0)).bind fun u2 =>
    if ¬ (6 : Int32) < 0 ∧ (6 : Int32).toNatClampNeg ≤ 60000000 then
    mlet (u2.1) fun a5 =>
    mlet (uNew u2 (6 : Int32).toNatClampNeg (.inl (0, (6 : Int32).toNatClampNeg, .inl (fun _ => 0)))) fun u3 =>
    f_X3_init_98 N b g a0 u3 (some a5) (some a0)
    else none
set_option maxHeartbeats 4000000 in
set_option maxRecDepth 100000 in
theorem zz_X3_init_90 {G : uG} {a0 : Nat} {uf : UH} (N : Nat) (u : UH) (s0 : Option Nat) (s1 : Option Nat) (h : f_X3_init_90 N (ub G) (ug G) a0 u s0 s1 = some uf) : u.1 ≤ uf.1 ∧ u.2.1 ≤ uf.2.1 := by
  unfold f_X3_init_90 at h
  obtain ⟨a1, ha1, hha1⟩ := mbind_n h
  subst ha1
  have h := hha1
  obtain ⟨u2, hu2, h⟩ := mbind_n h
  have zu2 := uPut_sz hu2
  obtain ⟨c4, h⟩ := mif_n h
  obtain ⟨a5, ea5⟩ : ∃ z : Nat, z = u2.1 := ⟨_, rfl⟩
  have h := mlet_at ea5 h
  obtain ⟨u3, eu3⟩ : ∃ z : UH, z = uNew u2 (6 : Int32).toNatClampNeg (.inl (0, (6 : Int32).toNatClampNeg, .inl (fun _ => 0))) := ⟨_, rfl⟩
  have h := mlet_at eu3 h
  have zu3 : u3.1 = u2.1 + 1 ∧ u3.2.1 = u2.2.1 + (6 : Int32).toNatClampNeg := by rw [eu3]; exact ⟨rfl, rfl⟩
  have hq := zz_X3_init_98 (G := G) (a0 := a0) N u3 (some a5) (some a0) h
  exact ⟨by omega, by omega⟩
set_option maxHeartbeats 4000000 in
set_option maxRecDepth 100000 in
theorem w_X3_init_90 {p : Program} {l : Launch} {e : Env} {R : Room} {s : State} {m : MethodId} {args : Array Value} {below : List Frame} {meth : Method} {c : Code} {G : uG} {a0 : Nat} {u0 : UH} {uf : UH} (hC : uC p s m args meth c G RX3 cX3_init 1 none) (hI : meth.name = "<init>") (hR : 1 ≤ R.frames ∧ 20 ≤ R.locals) (hRm : uf.1 - u0.1 ≤ R.cells ∧ uf.2.1 - u0.2.1 ≤ R.slots) (N : Nat) (u : UH) (s0 : Option Nat) (s1 : Option Nat) (h : f_X3_init_90 N (ub G) (ug G) a0 u s0 s1 = some uf) (hz0 : (u0.1 ≤ u.1 ∧ u0.2.1 ≤ u.2.1)) {H : Heap} {locs : List Loc} (hP : uP G u H) (hS : va_S (uA G) s.heap H locs) {ls : Array Slot} (hl : lv_has ls 1 [(0, va_rf (some a0))]) : W p l e R s m args below meth c H locs (u.1 - u0.1) (u.2.1 - u0.2.1) (MQ below (uQv G uf) args s (uf.1 - u0.1) (uf.2.1 - u0.2.1) (uA G)) (F0 m 90 ls [va_rf s0, va_rf s1]) := by
  obtain ⟨⟨hx, hb, hml, hown, hts⟩, hKK⟩ := id hC
  have hzf := zz_X3_init_90 (G := G) (a0 := a0) N u s0 s1 h
  unfold f_X3_init_90 at h
  obtain ⟨a1, ha1, hha1⟩ := mbind_n h
  subst ha1
  have h := hha1
  obtain ⟨u2, hu2, h⟩ := mbind_n h
  have zu2 := uPut_sz hu2
  refine u_putF hC hI hP hS hu2 rfl in_X3 tyX3 tyX3_ok nmX3 (by decide) q1923 (fun _ h => h) rfl rfl (ty := (.array .int)) (tyX3_ok 30 (by decide)) (uNarA _ s0).1 (uNarA _ s0).2 dX3_init_90 (fun H locs hP hS => ?_)
  refine W.cs (cells' := u2.1 - u0.1) (slots' := u2.2.1 - u0.2.1) (by omega) (by omega) ?_
  refine u_aload_n (r := some a0) hx hb dX3_init_93 rfl (lv_at hl 0 rfl) ?_
  refine lv_bipush (v := 6) hx hb dX3_init_94 (by decide) ?_
  obtain ⟨c4, h⟩ := mif_n h
  obtain ⟨a5, ea5⟩ : ∃ z : Nat, z = u2.1 := ⟨_, rfl⟩
  have h := mlet_at ea5 h
  obtain ⟨u3, eu3⟩ : ∃ z : UH, z = uNew u2 (6 : Int32).toNatClampNeg (.inl (0, (6 : Int32).toNatClampNeg, .inl (fun _ => 0))) := ⟨_, rfl⟩
  have h := mlet_at eu3 h
  have zu3 : u3.1 = u2.1 + 1 ∧ u3.2.1 = u2.2.1 + (6 : Int32).toNatClampNeg := by rw [eu3]; exact ⟨rfl, rfl⟩
  have hq := zz_X3_init_98 (G := G) (a0 := a0) N u3 (some a5) (some a0) h
  refine u_newa (atype := .int) hC hP hS (t := 0) q188 rfl (N := (6 : Int32).toNatClampNeg) (x := .inl (fun _ => 0)) (fun _ => rfl) c4.1 rfl (by have := c4.2; show _ * 4 ≤ _; omega) (by omega) (by omega) dX3_init_96 (fun H hP hS => ?_)
  rw [← eu3] at hP
  rw [← ea5]
  refine W.cs (cells' := u3.1 - u0.1) (slots' := u3.2.1 - u0.2.1) (by omega) (by omega) ?_
  refine W.cs (cells' := u3.1 - u0.1) (slots' := u3.2.1 - u0.2.1) (by omega) (by omega) ?_
  exact w_X3_init_98 hC hI hR hRm N u3 (some a5) (some a0) h ⟨by omega, by omega⟩ hP hS (lv_sub hl [0] rfl)
def f_X3_init_82 (N b : Nat) (g : uEnv) (a0 : Nat) (u : UH) (s0 : Option Nat) (s1 : Option Nat) : Option (UH) :=
    (s1).bind fun a1 =>
    (uPut b u a1 2 21 (va_rf s0)).bind fun u2 =>
    if ¬ (6 : Int32) < 0 ∧ (6 : Int32).toNatClampNeg ≤ 60000000 then
    mlet (u2.1) fun a5 =>
    mlet (uNew u2 (6 : Int32).toNatClampNeg (.inl (0, (6 : Int32).toNatClampNeg, .inl (fun _ => 0)))) fun u3 =>
    f_X3_init_90 N b g a0 u3 (some a5) (some a0)
    else none
set_option maxHeartbeats 4000000 in
set_option maxRecDepth 100000 in
theorem zz_X3_init_82 {G : uG} {a0 : Nat} {uf : UH} (N : Nat) (u : UH) (s0 : Option Nat) (s1 : Option Nat) (h : f_X3_init_82 N (ub G) (ug G) a0 u s0 s1 = some uf) : u.1 ≤ uf.1 ∧ u.2.1 ≤ uf.2.1 := by
  unfold f_X3_init_82 at h
  obtain ⟨a1, ha1, hha1⟩ := mbind_n h
  subst ha1
  have h := hha1
  obtain ⟨u2, hu2, h⟩ := mbind_n h
  have zu2 := uPut_sz hu2
  obtain ⟨c4, h⟩ := mif_n h
  obtain ⟨a5, ea5⟩ : ∃ z : Nat, z = u2.1 := ⟨_, rfl⟩
  have h := mlet_at ea5 h
  obtain ⟨u3, eu3⟩ : ∃ z : UH, z = uNew u2 (6 : Int32).toNatClampNeg (.inl (0, (6 : Int32).toNatClampNeg, .inl (fun _ => 0))) := ⟨_, rfl⟩
  have h := mlet_at eu3 h
  have zu3 : u3.1 = u2.1 + 1 ∧ u3.2.1 = u2.2.1 + (6 : Int32).toNatClampNeg := by rw [eu3]; exact ⟨rfl, rfl⟩
  have hq := zz_X3_init_90 (G := G) (a0 := a0) N u3 (some a5) (some a0) h
  exact ⟨by omega, by omega⟩
set_option maxHeartbeats 4000000 in
set_option maxRecDepth 100000 in
theorem w_X3_init_82 {p : Program} {l : Launch} {e : Env} {R : Room} {s : State} {m : MethodId} {args : Array Value} {below : List Frame} {meth : Method} {c : Code} {G : uG} {a0 : Nat} {u0 : UH} {uf : UH} (hC : uC p s m args meth c G RX3 cX3_init 1 none) (hI : meth.name = "<init>") (hR : 1 ≤ R.frames ∧ 20 ≤ R.locals) (hRm : uf.1 - u0.1 ≤ R.cells ∧ uf.2.1 - u0.2.1 ≤ R.slots) (N : Nat) (u : UH) (s0 : Option Nat) (s1 : Option Nat) (h : f_X3_init_82 N (ub G) (ug G) a0 u s0 s1 = some uf) (hz0 : (u0.1 ≤ u.1 ∧ u0.2.1 ≤ u.2.1)) {H : Heap} {locs : List Loc} (hP : uP G u H) (hS : va_S (uA G) s.heap H locs) {ls : Array Slot} (hl : lv_has ls 1 [(0, va_rf (some a0))]) : W p l e R s m args below meth c H locs (u.1 - u0.1) (u.2.1 - u0.2.1) (MQ below (uQv G uf) args s (uf.1 - u0.1) (uf.2.1 - u0.2.1) (uA G)) (F0 m 82 ls [va_rf s0, va_rf s1]) := by
  obtain ⟨⟨hx, hb, hml, hown, hts⟩, hKK⟩ := id hC
  have hzf := zz_X3_init_82 (G := G) (a0 := a0) N u s0 s1 h
  unfold f_X3_init_82 at h
  obtain ⟨a1, ha1, hha1⟩ := mbind_n h
  subst ha1
  have h := hha1
  obtain ⟨u2, hu2, h⟩ := mbind_n h
  have zu2 := uPut_sz hu2
  refine u_putF hC hI hP hS hu2 rfl in_X3 tyX3 tyX3_ok nmX3 (by decide) q1914 (fun _ h => h) rfl rfl (ty := (.array .int)) (tyX3_ok 21 (by decide)) (uNarA _ s0).1 (uNarA _ s0).2 dX3_init_82 (fun H locs hP hS => ?_)
  refine W.cs (cells' := u2.1 - u0.1) (slots' := u2.2.1 - u0.2.1) (by omega) (by omega) ?_
  refine u_aload_n (r := some a0) hx hb dX3_init_85 rfl (lv_at hl 0 rfl) ?_
  refine lv_bipush (v := 6) hx hb dX3_init_86 (by decide) ?_
  obtain ⟨c4, h⟩ := mif_n h
  obtain ⟨a5, ea5⟩ : ∃ z : Nat, z = u2.1 := ⟨_, rfl⟩
  have h := mlet_at ea5 h
  obtain ⟨u3, eu3⟩ : ∃ z : UH, z = uNew u2 (6 : Int32).toNatClampNeg (.inl (0, (6 : Int32).toNatClampNeg, .inl (fun _ => 0))) := ⟨_, rfl⟩
  have h := mlet_at eu3 h
  have zu3 : u3.1 = u2.1 + 1 ∧ u3.2.1 = u2.2.1 + (6 : Int32).toNatClampNeg := by rw [eu3]; exact ⟨rfl, rfl⟩
  have hq := zz_X3_init_90 (G := G) (a0 := a0) N u3 (some a5) (some a0) h
  refine u_newa (atype := .int) hC hP hS (t := 0) q188 rfl (N := (6 : Int32).toNatClampNeg) (x := .inl (fun _ => 0)) (fun _ => rfl) c4.1 rfl (by have := c4.2; show _ * 4 ≤ _; omega) (by omega) (by omega) dX3_init_88 (fun H hP hS => ?_)
  rw [← eu3] at hP
  rw [← ea5]
  refine W.cs (cells' := u3.1 - u0.1) (slots' := u3.2.1 - u0.2.1) (by omega) (by omega) ?_
  refine W.cs (cells' := u3.1 - u0.1) (slots' := u3.2.1 - u0.2.1) (by omega) (by omega) ?_
  exact w_X3_init_90 hC hI hR hRm N u3 (some a5) (some a0) h ⟨by omega, by omega⟩ hP hS (lv_sub hl [0] rfl)
def f_X3_init_74 (N b : Nat) (g : uEnv) (a0 : Nat) (u : UH) (s0 : Option Nat) (s1 : Option Nat) : Option (UH) :=
    (s1).bind fun a1 =>
    (uPut b u a1 2 20 (va_rf s0)).bind fun u2 =>
    if ¬ (64 : Int32) < 0 ∧ (64 : Int32).toNatClampNeg ≤ 60000000 then
    mlet (u2.1) fun a5 =>
    mlet (uNew u2 (64 : Int32).toNatClampNeg (.inl (0, (64 : Int32).toNatClampNeg, .inl (fun _ => 0)))) fun u3 =>
    f_X3_init_82 N b g a0 u3 (some a5) (some a0)
    else none
set_option maxHeartbeats 4000000 in
set_option maxRecDepth 100000 in
theorem zz_X3_init_74 {G : uG} {a0 : Nat} {uf : UH} (N : Nat) (u : UH) (s0 : Option Nat) (s1 : Option Nat) (h : f_X3_init_74 N (ub G) (ug G) a0 u s0 s1 = some uf) : u.1 ≤ uf.1 ∧ u.2.1 ≤ uf.2.1 := by
  unfold f_X3_init_74 at h
  obtain ⟨a1, ha1, hha1⟩ := mbind_n h
  subst ha1
  have h := hha1
  obtain ⟨u2, hu2, h⟩ := mbind_n h
  have zu2 := uPut_sz hu2
  obtain ⟨c4, h⟩ := mif_n h
  obtain ⟨a5, ea5⟩ : ∃ z : Nat, z = u2.1 := ⟨_, rfl⟩
  have h := mlet_at ea5 h
  obtain ⟨u3, eu3⟩ : ∃ z : UH, z = uNew u2 (64 : Int32).toNatClampNeg (.inl (0, (64 : Int32).toNatClampNeg, .inl (fun _ => 0))) := ⟨_, rfl⟩
  have h := mlet_at eu3 h
  have zu3 : u3.1 = u2.1 + 1 ∧ u3.2.1 = u2.2.1 + (64 : Int32).toNatClampNeg := by rw [eu3]; exact ⟨rfl, rfl⟩
  have hq := zz_X3_init_82 (G := G) (a0 := a0) N u3 (some a5) (some a0) h
  exact ⟨by omega, by omega⟩
set_option maxHeartbeats 4000000 in
set_option maxRecDepth 100000 in
theorem w_X3_init_74 {p : Program} {l : Launch} {e : Env} {R : Room} {s : State} {m : MethodId} {args : Array Value} {below : List Frame} {meth : Method} {c : Code} {G : uG} {a0 : Nat} {u0 : UH} {uf : UH} (hC : uC p s m args meth c G RX3 cX3_init 1 none) (hI : meth.name = "<init>") (hR : 1 ≤ R.frames ∧ 20 ≤ R.locals) (hRm : uf.1 - u0.1 ≤ R.cells ∧ uf.2.1 - u0.2.1 ≤ R.slots) (N : Nat) (u : UH) (s0 : Option Nat) (s1 : Option Nat) (h : f_X3_init_74 N (ub G) (ug G) a0 u s0 s1 = some uf) (hz0 : (u0.1 ≤ u.1 ∧ u0.2.1 ≤ u.2.1)) {H : Heap} {locs : List Loc} (hP : uP G u H) (hS : va_S (uA G) s.heap H locs) {ls : Array Slot} (hl : lv_has ls 1 [(0, va_rf (some a0))]) : W p l e R s m args below meth c H locs (u.1 - u0.1) (u.2.1 - u0.2.1) (MQ below (uQv G uf) args s (uf.1 - u0.1) (uf.2.1 - u0.2.1) (uA G)) (F0 m 74 ls [va_rf s0, va_rf s1]) := by
  obtain ⟨⟨hx, hb, hml, hown, hts⟩, hKK⟩ := id hC
  have hzf := zz_X3_init_74 (G := G) (a0 := a0) N u s0 s1 h
  unfold f_X3_init_74 at h
  obtain ⟨a1, ha1, hha1⟩ := mbind_n h
  subst ha1
  have h := hha1
  obtain ⟨u2, hu2, h⟩ := mbind_n h
  have zu2 := uPut_sz hu2
  refine u_putF hC hI hP hS hu2 rfl in_X3 tyX3 tyX3_ok nmX3 (by decide) q1913 (fun _ h => h) rfl rfl (ty := (.array .int)) (tyX3_ok 20 (by decide)) (uNarA _ s0).1 (uNarA _ s0).2 dX3_init_74 (fun H locs hP hS => ?_)
  refine W.cs (cells' := u2.1 - u0.1) (slots' := u2.2.1 - u0.2.1) (by omega) (by omega) ?_
  refine u_aload_n (r := some a0) hx hb dX3_init_77 rfl (lv_at hl 0 rfl) ?_
  refine lv_bipush (v := 64) hx hb dX3_init_78 (by decide) ?_
  obtain ⟨c4, h⟩ := mif_n h
  obtain ⟨a5, ea5⟩ : ∃ z : Nat, z = u2.1 := ⟨_, rfl⟩
  have h := mlet_at ea5 h
  obtain ⟨u3, eu3⟩ : ∃ z : UH, z = uNew u2 (64 : Int32).toNatClampNeg (.inl (0, (64 : Int32).toNatClampNeg, .inl (fun _ => 0))) := ⟨_, rfl⟩
  have h := mlet_at eu3 h
  have zu3 : u3.1 = u2.1 + 1 ∧ u3.2.1 = u2.2.1 + (64 : Int32).toNatClampNeg := by rw [eu3]; exact ⟨rfl, rfl⟩
  have hq := zz_X3_init_82 (G := G) (a0 := a0) N u3 (some a5) (some a0) h
  refine u_newa (atype := .int) hC hP hS (t := 0) q188 rfl (N := (64 : Int32).toNatClampNeg) (x := .inl (fun _ => 0)) (fun _ => rfl) c4.1 rfl (by have := c4.2; show _ * 4 ≤ _; omega) (by omega) (by omega) dX3_init_80 (fun H hP hS => ?_)
  rw [← eu3] at hP
  rw [← ea5]
  refine W.cs (cells' := u3.1 - u0.1) (slots' := u3.2.1 - u0.2.1) (by omega) (by omega) ?_
  refine W.cs (cells' := u3.1 - u0.1) (slots' := u3.2.1 - u0.2.1) (by omega) (by omega) ?_
  exact w_X3_init_82 hC hI hR hRm N u3 (some a5) (some a0) h ⟨by omega, by omega⟩ hP hS (lv_sub hl [0] rfl)
def f_X3_init_66 (N b : Nat) (g : uEnv) (a0 : Nat) (u : UH) (s0 : Option Nat) (s1 : Option Nat) : Option (UH) :=
    (s1).bind fun a1 =>
    (uPut b u a1 2 19 (va_rf s0)).bind fun u2 =>
    if ¬ (64 : Int32) < 0 ∧ (64 : Int32).toNatClampNeg ≤ 60000000 then
    mlet (u2.1) fun a5 =>
    mlet (uNew u2 (64 : Int32).toNatClampNeg (.inl (0, (64 : Int32).toNatClampNeg, .inl (fun _ => 0)))) fun u3 =>
    f_X3_init_74 N b g a0 u3 (some a5) (some a0)
    else none
set_option maxHeartbeats 4000000 in
set_option maxRecDepth 100000 in
theorem zz_X3_init_66 {G : uG} {a0 : Nat} {uf : UH} (N : Nat) (u : UH) (s0 : Option Nat) (s1 : Option Nat) (h : f_X3_init_66 N (ub G) (ug G) a0 u s0 s1 = some uf) : u.1 ≤ uf.1 ∧ u.2.1 ≤ uf.2.1 := by
  unfold f_X3_init_66 at h
  obtain ⟨a1, ha1, hha1⟩ := mbind_n h
  subst ha1
  have h := hha1
  obtain ⟨u2, hu2, h⟩ := mbind_n h
  have zu2 := uPut_sz hu2
  obtain ⟨c4, h⟩ := mif_n h
  obtain ⟨a5, ea5⟩ : ∃ z : Nat, z = u2.1 := ⟨_, rfl⟩
  have h := mlet_at ea5 h
  obtain ⟨u3, eu3⟩ : ∃ z : UH, z = uNew u2 (64 : Int32).toNatClampNeg (.inl (0, (64 : Int32).toNatClampNeg, .inl (fun _ => 0))) := ⟨_, rfl⟩
  have h := mlet_at eu3 h
  have zu3 : u3.1 = u2.1 + 1 ∧ u3.2.1 = u2.2.1 + (64 : Int32).toNatClampNeg := by rw [eu3]; exact ⟨rfl, rfl⟩
  have hq := zz_X3_init_74 (G := G) (a0 := a0) N u3 (some a5) (some a0) h
  exact ⟨by omega, by omega⟩
set_option maxHeartbeats 4000000 in
set_option maxRecDepth 100000 in
theorem w_X3_init_66 {p : Program} {l : Launch} {e : Env} {R : Room} {s : State} {m : MethodId} {args : Array Value} {below : List Frame} {meth : Method} {c : Code} {G : uG} {a0 : Nat} {u0 : UH} {uf : UH} (hC : uC p s m args meth c G RX3 cX3_init 1 none) (hI : meth.name = "<init>") (hR : 1 ≤ R.frames ∧ 20 ≤ R.locals) (hRm : uf.1 - u0.1 ≤ R.cells ∧ uf.2.1 - u0.2.1 ≤ R.slots) (N : Nat) (u : UH) (s0 : Option Nat) (s1 : Option Nat) (h : f_X3_init_66 N (ub G) (ug G) a0 u s0 s1 = some uf) (hz0 : (u0.1 ≤ u.1 ∧ u0.2.1 ≤ u.2.1)) {H : Heap} {locs : List Loc} (hP : uP G u H) (hS : va_S (uA G) s.heap H locs) {ls : Array Slot} (hl : lv_has ls 1 [(0, va_rf (some a0))]) : W p l e R s m args below meth c H locs (u.1 - u0.1) (u.2.1 - u0.2.1) (MQ below (uQv G uf) args s (uf.1 - u0.1) (uf.2.1 - u0.2.1) (uA G)) (F0 m 66 ls [va_rf s0, va_rf s1]) := by
  obtain ⟨⟨hx, hb, hml, hown, hts⟩, hKK⟩ := id hC
  have hzf := zz_X3_init_66 (G := G) (a0 := a0) N u s0 s1 h
  unfold f_X3_init_66 at h
  obtain ⟨a1, ha1, hha1⟩ := mbind_n h
  subst ha1
  have h := hha1
  obtain ⟨u2, hu2, h⟩ := mbind_n h
  have zu2 := uPut_sz hu2
  refine u_putF hC hI hP hS hu2 rfl in_X3 tyX3 tyX3_ok nmX3 (by decide) q1912 (fun _ h => h) rfl rfl (ty := (.array .int)) (tyX3_ok 19 (by decide)) (uNarA _ s0).1 (uNarA _ s0).2 dX3_init_66 (fun H locs hP hS => ?_)
  refine W.cs (cells' := u2.1 - u0.1) (slots' := u2.2.1 - u0.2.1) (by omega) (by omega) ?_
  refine u_aload_n (r := some a0) hx hb dX3_init_69 rfl (lv_at hl 0 rfl) ?_
  refine lv_bipush (v := 64) hx hb dX3_init_70 (by decide) ?_
  obtain ⟨c4, h⟩ := mif_n h
  obtain ⟨a5, ea5⟩ : ∃ z : Nat, z = u2.1 := ⟨_, rfl⟩
  have h := mlet_at ea5 h
  obtain ⟨u3, eu3⟩ : ∃ z : UH, z = uNew u2 (64 : Int32).toNatClampNeg (.inl (0, (64 : Int32).toNatClampNeg, .inl (fun _ => 0))) := ⟨_, rfl⟩
  have h := mlet_at eu3 h
  have zu3 : u3.1 = u2.1 + 1 ∧ u3.2.1 = u2.2.1 + (64 : Int32).toNatClampNeg := by rw [eu3]; exact ⟨rfl, rfl⟩
  have hq := zz_X3_init_74 (G := G) (a0 := a0) N u3 (some a5) (some a0) h
  refine u_newa (atype := .int) hC hP hS (t := 0) q188 rfl (N := (64 : Int32).toNatClampNeg) (x := .inl (fun _ => 0)) (fun _ => rfl) c4.1 rfl (by have := c4.2; show _ * 4 ≤ _; omega) (by omega) (by omega) dX3_init_72 (fun H hP hS => ?_)
  rw [← eu3] at hP
  rw [← ea5]
  refine W.cs (cells' := u3.1 - u0.1) (slots' := u3.2.1 - u0.2.1) (by omega) (by omega) ?_
  refine W.cs (cells' := u3.1 - u0.1) (slots' := u3.2.1 - u0.2.1) (by omega) (by omega) ?_
  exact w_X3_init_74 hC hI hR hRm N u3 (some a5) (some a0) h ⟨by omega, by omega⟩ hP hS (lv_sub hl [0] rfl)
def f_X3_init_58 (N b : Nat) (g : uEnv) (a0 : Nat) (u : UH) (s0 : Option Nat) (s1 : Option Nat) : Option (UH) :=
    (s1).bind fun a1 =>
    (uPut b u a1 2 18 (va_rf s0)).bind fun u2 =>
    if ¬ (8 : Int32) < 0 ∧ (8 : Int32).toNatClampNeg ≤ 60000000 then
    mlet (u2.1) fun a5 =>
    mlet (uNew u2 (8 : Int32).toNatClampNeg (.inl (0, (8 : Int32).toNatClampNeg, .inl (fun _ => 0)))) fun u3 =>
    f_X3_init_66 N b g a0 u3 (some a5) (some a0)
    else none
set_option maxHeartbeats 4000000 in
set_option maxRecDepth 100000 in
theorem zz_X3_init_58 {G : uG} {a0 : Nat} {uf : UH} (N : Nat) (u : UH) (s0 : Option Nat) (s1 : Option Nat) (h : f_X3_init_58 N (ub G) (ug G) a0 u s0 s1 = some uf) : u.1 ≤ uf.1 ∧ u.2.1 ≤ uf.2.1 := by
  unfold f_X3_init_58 at h
  obtain ⟨a1, ha1, hha1⟩ := mbind_n h
  subst ha1
  have h := hha1
  obtain ⟨u2, hu2, h⟩ := mbind_n h
  have zu2 := uPut_sz hu2
  obtain ⟨c4, h⟩ := mif_n h
  obtain ⟨a5, ea5⟩ : ∃ z : Nat, z = u2.1 := ⟨_, rfl⟩
  have h := mlet_at ea5 h
  obtain ⟨u3, eu3⟩ : ∃ z : UH, z = uNew u2 (8 : Int32).toNatClampNeg (.inl (0, (8 : Int32).toNatClampNeg, .inl (fun _ => 0))) := ⟨_, rfl⟩
  have h := mlet_at eu3 h
  have zu3 : u3.1 = u2.1 + 1 ∧ u3.2.1 = u2.2.1 + (8 : Int32).toNatClampNeg := by rw [eu3]; exact ⟨rfl, rfl⟩
  have hq := zz_X3_init_66 (G := G) (a0 := a0) N u3 (some a5) (some a0) h
  exact ⟨by omega, by omega⟩
set_option maxHeartbeats 4000000 in
set_option maxRecDepth 100000 in
theorem w_X3_init_58 {p : Program} {l : Launch} {e : Env} {R : Room} {s : State} {m : MethodId} {args : Array Value} {below : List Frame} {meth : Method} {c : Code} {G : uG} {a0 : Nat} {u0 : UH} {uf : UH} (hC : uC p s m args meth c G RX3 cX3_init 1 none) (hI : meth.name = "<init>") (hR : 1 ≤ R.frames ∧ 20 ≤ R.locals) (hRm : uf.1 - u0.1 ≤ R.cells ∧ uf.2.1 - u0.2.1 ≤ R.slots) (N : Nat) (u : UH) (s0 : Option Nat) (s1 : Option Nat) (h : f_X3_init_58 N (ub G) (ug G) a0 u s0 s1 = some uf) (hz0 : (u0.1 ≤ u.1 ∧ u0.2.1 ≤ u.2.1)) {H : Heap} {locs : List Loc} (hP : uP G u H) (hS : va_S (uA G) s.heap H locs) {ls : Array Slot} (hl : lv_has ls 1 [(0, va_rf (some a0))]) : W p l e R s m args below meth c H locs (u.1 - u0.1) (u.2.1 - u0.2.1) (MQ below (uQv G uf) args s (uf.1 - u0.1) (uf.2.1 - u0.2.1) (uA G)) (F0 m 58 ls [va_rf s0, va_rf s1]) := by
  obtain ⟨⟨hx, hb, hml, hown, hts⟩, hKK⟩ := id hC
  have hzf := zz_X3_init_58 (G := G) (a0 := a0) N u s0 s1 h
  unfold f_X3_init_58 at h
  obtain ⟨a1, ha1, hha1⟩ := mbind_n h
  subst ha1
  have h := hha1
  obtain ⟨u2, hu2, h⟩ := mbind_n h
  have zu2 := uPut_sz hu2
  refine u_putF hC hI hP hS hu2 rfl in_X3 tyX3 tyX3_ok nmX3 (by decide) q1911 (fun _ h => h) rfl rfl (ty := (.array .int)) (tyX3_ok 18 (by decide)) (uNarA _ s0).1 (uNarA _ s0).2 dX3_init_58 (fun H locs hP hS => ?_)
  refine W.cs (cells' := u2.1 - u0.1) (slots' := u2.2.1 - u0.2.1) (by omega) (by omega) ?_
  refine u_aload_n (r := some a0) hx hb dX3_init_61 rfl (lv_at hl 0 rfl) ?_
  refine lv_bipush (v := 8) hx hb dX3_init_62 (by decide) ?_
  obtain ⟨c4, h⟩ := mif_n h
  obtain ⟨a5, ea5⟩ : ∃ z : Nat, z = u2.1 := ⟨_, rfl⟩
  have h := mlet_at ea5 h
  obtain ⟨u3, eu3⟩ : ∃ z : UH, z = uNew u2 (8 : Int32).toNatClampNeg (.inl (0, (8 : Int32).toNatClampNeg, .inl (fun _ => 0))) := ⟨_, rfl⟩
  have h := mlet_at eu3 h
  have zu3 : u3.1 = u2.1 + 1 ∧ u3.2.1 = u2.2.1 + (8 : Int32).toNatClampNeg := by rw [eu3]; exact ⟨rfl, rfl⟩
  have hq := zz_X3_init_66 (G := G) (a0 := a0) N u3 (some a5) (some a0) h
  refine u_newa (atype := .int) hC hP hS (t := 0) q188 rfl (N := (8 : Int32).toNatClampNeg) (x := .inl (fun _ => 0)) (fun _ => rfl) c4.1 rfl (by have := c4.2; show _ * 4 ≤ _; omega) (by omega) (by omega) dX3_init_64 (fun H hP hS => ?_)
  rw [← eu3] at hP
  rw [← ea5]
  refine W.cs (cells' := u3.1 - u0.1) (slots' := u3.2.1 - u0.2.1) (by omega) (by omega) ?_
  refine W.cs (cells' := u3.1 - u0.1) (slots' := u3.2.1 - u0.2.1) (by omega) (by omega) ?_
  exact w_X3_init_66 hC hI hR hRm N u3 (some a5) (some a0) h ⟨by omega, by omega⟩ hP hS (lv_sub hl [0] rfl)
def f_X3_init_50 (N b : Nat) (g : uEnv) (a0 : Nat) (u : UH) (s0 : Option Nat) (s1 : Option Nat) : Option (UH) :=
    (s1).bind fun a1 =>
    (uPut b u a1 2 17 (va_rf s0)).bind fun u2 =>
    if ¬ (8 : Int32) < 0 ∧ (8 : Int32).toNatClampNeg ≤ 60000000 then
    mlet (u2.1) fun a5 =>
    mlet (uNew u2 (8 : Int32).toNatClampNeg (.inl (0, (8 : Int32).toNatClampNeg, .inl (fun _ => 0)))) fun u3 =>
    f_X3_init_58 N b g a0 u3 (some a5) (some a0)
    else none
set_option maxHeartbeats 4000000 in
set_option maxRecDepth 100000 in
theorem zz_X3_init_50 {G : uG} {a0 : Nat} {uf : UH} (N : Nat) (u : UH) (s0 : Option Nat) (s1 : Option Nat) (h : f_X3_init_50 N (ub G) (ug G) a0 u s0 s1 = some uf) : u.1 ≤ uf.1 ∧ u.2.1 ≤ uf.2.1 := by
  unfold f_X3_init_50 at h
  obtain ⟨a1, ha1, hha1⟩ := mbind_n h
  subst ha1
  have h := hha1
  obtain ⟨u2, hu2, h⟩ := mbind_n h
  have zu2 := uPut_sz hu2
  obtain ⟨c4, h⟩ := mif_n h
  obtain ⟨a5, ea5⟩ : ∃ z : Nat, z = u2.1 := ⟨_, rfl⟩
  have h := mlet_at ea5 h
  obtain ⟨u3, eu3⟩ : ∃ z : UH, z = uNew u2 (8 : Int32).toNatClampNeg (.inl (0, (8 : Int32).toNatClampNeg, .inl (fun _ => 0))) := ⟨_, rfl⟩
  have h := mlet_at eu3 h
  have zu3 : u3.1 = u2.1 + 1 ∧ u3.2.1 = u2.2.1 + (8 : Int32).toNatClampNeg := by rw [eu3]; exact ⟨rfl, rfl⟩
  have hq := zz_X3_init_58 (G := G) (a0 := a0) N u3 (some a5) (some a0) h
  exact ⟨by omega, by omega⟩
set_option maxHeartbeats 4000000 in
set_option maxRecDepth 100000 in
theorem w_X3_init_50 {p : Program} {l : Launch} {e : Env} {R : Room} {s : State} {m : MethodId} {args : Array Value} {below : List Frame} {meth : Method} {c : Code} {G : uG} {a0 : Nat} {u0 : UH} {uf : UH} (hC : uC p s m args meth c G RX3 cX3_init 1 none) (hI : meth.name = "<init>") (hR : 1 ≤ R.frames ∧ 20 ≤ R.locals) (hRm : uf.1 - u0.1 ≤ R.cells ∧ uf.2.1 - u0.2.1 ≤ R.slots) (N : Nat) (u : UH) (s0 : Option Nat) (s1 : Option Nat) (h : f_X3_init_50 N (ub G) (ug G) a0 u s0 s1 = some uf) (hz0 : (u0.1 ≤ u.1 ∧ u0.2.1 ≤ u.2.1)) {H : Heap} {locs : List Loc} (hP : uP G u H) (hS : va_S (uA G) s.heap H locs) {ls : Array Slot} (hl : lv_has ls 1 [(0, va_rf (some a0))]) : W p l e R s m args below meth c H locs (u.1 - u0.1) (u.2.1 - u0.2.1) (MQ below (uQv G uf) args s (uf.1 - u0.1) (uf.2.1 - u0.2.1) (uA G)) (F0 m 50 ls [va_rf s0, va_rf s1]) := by
  obtain ⟨⟨hx, hb, hml, hown, hts⟩, hKK⟩ := id hC
  have hzf := zz_X3_init_50 (G := G) (a0 := a0) N u s0 s1 h
  unfold f_X3_init_50 at h
  obtain ⟨a1, ha1, hha1⟩ := mbind_n h
  subst ha1
  have h := hha1
  obtain ⟨u2, hu2, h⟩ := mbind_n h
  have zu2 := uPut_sz hu2
  refine u_putF hC hI hP hS hu2 rfl in_X3 tyX3 tyX3_ok nmX3 (by decide) q1910 (fun _ h => h) rfl rfl (ty := (.array .int)) (tyX3_ok 17 (by decide)) (uNarA _ s0).1 (uNarA _ s0).2 dX3_init_50 (fun H locs hP hS => ?_)
  refine W.cs (cells' := u2.1 - u0.1) (slots' := u2.2.1 - u0.2.1) (by omega) (by omega) ?_
  refine u_aload_n (r := some a0) hx hb dX3_init_53 rfl (lv_at hl 0 rfl) ?_
  refine lv_bipush (v := 8) hx hb dX3_init_54 (by decide) ?_
  obtain ⟨c4, h⟩ := mif_n h
  obtain ⟨a5, ea5⟩ : ∃ z : Nat, z = u2.1 := ⟨_, rfl⟩
  have h := mlet_at ea5 h
  obtain ⟨u3, eu3⟩ : ∃ z : UH, z = uNew u2 (8 : Int32).toNatClampNeg (.inl (0, (8 : Int32).toNatClampNeg, .inl (fun _ => 0))) := ⟨_, rfl⟩
  have h := mlet_at eu3 h
  have zu3 : u3.1 = u2.1 + 1 ∧ u3.2.1 = u2.2.1 + (8 : Int32).toNatClampNeg := by rw [eu3]; exact ⟨rfl, rfl⟩
  have hq := zz_X3_init_58 (G := G) (a0 := a0) N u3 (some a5) (some a0) h
  refine u_newa (atype := .int) hC hP hS (t := 0) q188 rfl (N := (8 : Int32).toNatClampNeg) (x := .inl (fun _ => 0)) (fun _ => rfl) c4.1 rfl (by have := c4.2; show _ * 4 ≤ _; omega) (by omega) (by omega) dX3_init_56 (fun H hP hS => ?_)
  rw [← eu3] at hP
  rw [← ea5]
  refine W.cs (cells' := u3.1 - u0.1) (slots' := u3.2.1 - u0.2.1) (by omega) (by omega) ?_
  refine W.cs (cells' := u3.1 - u0.1) (slots' := u3.2.1 - u0.2.1) (by omega) (by omega) ?_
  exact w_X3_init_58 hC hI hR hRm N u3 (some a5) (some a0) h ⟨by omega, by omega⟩ hP hS (lv_sub hl [0] rfl)
def f_X3_init_42 (N b : Nat) (g : uEnv) (a0 : Nat) (u : UH) (s0 : Option Nat) (s1 : Option Nat) : Option (UH) :=
    (s1).bind fun a1 =>
    (uPut b u a1 2 16 (va_rf s0)).bind fun u2 =>
    if ¬ (8 : Int32) < 0 ∧ (8 : Int32).toNatClampNeg ≤ 60000000 then
    mlet (u2.1) fun a5 =>
    mlet (uNew u2 (8 : Int32).toNatClampNeg (.inl (0, (8 : Int32).toNatClampNeg, .inl (fun _ => 0)))) fun u3 =>
    f_X3_init_50 N b g a0 u3 (some a5) (some a0)
    else none
set_option maxHeartbeats 4000000 in
set_option maxRecDepth 100000 in
theorem zz_X3_init_42 {G : uG} {a0 : Nat} {uf : UH} (N : Nat) (u : UH) (s0 : Option Nat) (s1 : Option Nat) (h : f_X3_init_42 N (ub G) (ug G) a0 u s0 s1 = some uf) : u.1 ≤ uf.1 ∧ u.2.1 ≤ uf.2.1 := by
  unfold f_X3_init_42 at h
  obtain ⟨a1, ha1, hha1⟩ := mbind_n h
  subst ha1
  have h := hha1
  obtain ⟨u2, hu2, h⟩ := mbind_n h
  have zu2 := uPut_sz hu2
  obtain ⟨c4, h⟩ := mif_n h
  obtain ⟨a5, ea5⟩ : ∃ z : Nat, z = u2.1 := ⟨_, rfl⟩
  have h := mlet_at ea5 h
  obtain ⟨u3, eu3⟩ : ∃ z : UH, z = uNew u2 (8 : Int32).toNatClampNeg (.inl (0, (8 : Int32).toNatClampNeg, .inl (fun _ => 0))) := ⟨_, rfl⟩
  have h := mlet_at eu3 h
  have zu3 : u3.1 = u2.1 + 1 ∧ u3.2.1 = u2.2.1 + (8 : Int32).toNatClampNeg := by rw [eu3]; exact ⟨rfl, rfl⟩
  have hq := zz_X3_init_50 (G := G) (a0 := a0) N u3 (some a5) (some a0) h
  exact ⟨by omega, by omega⟩
set_option maxHeartbeats 4000000 in
set_option maxRecDepth 100000 in
theorem w_X3_init_42 {p : Program} {l : Launch} {e : Env} {R : Room} {s : State} {m : MethodId} {args : Array Value} {below : List Frame} {meth : Method} {c : Code} {G : uG} {a0 : Nat} {u0 : UH} {uf : UH} (hC : uC p s m args meth c G RX3 cX3_init 1 none) (hI : meth.name = "<init>") (hR : 1 ≤ R.frames ∧ 20 ≤ R.locals) (hRm : uf.1 - u0.1 ≤ R.cells ∧ uf.2.1 - u0.2.1 ≤ R.slots) (N : Nat) (u : UH) (s0 : Option Nat) (s1 : Option Nat) (h : f_X3_init_42 N (ub G) (ug G) a0 u s0 s1 = some uf) (hz0 : (u0.1 ≤ u.1 ∧ u0.2.1 ≤ u.2.1)) {H : Heap} {locs : List Loc} (hP : uP G u H) (hS : va_S (uA G) s.heap H locs) {ls : Array Slot} (hl : lv_has ls 1 [(0, va_rf (some a0))]) : W p l e R s m args below meth c H locs (u.1 - u0.1) (u.2.1 - u0.2.1) (MQ below (uQv G uf) args s (uf.1 - u0.1) (uf.2.1 - u0.2.1) (uA G)) (F0 m 42 ls [va_rf s0, va_rf s1]) := by
  obtain ⟨⟨hx, hb, hml, hown, hts⟩, hKK⟩ := id hC
  have hzf := zz_X3_init_42 (G := G) (a0 := a0) N u s0 s1 h
  unfold f_X3_init_42 at h
  obtain ⟨a1, ha1, hha1⟩ := mbind_n h
  subst ha1
  have h := hha1
  obtain ⟨u2, hu2, h⟩ := mbind_n h
  have zu2 := uPut_sz hu2
  refine u_putF hC hI hP hS hu2 rfl in_X3 tyX3 tyX3_ok nmX3 (by decide) q1909 (fun _ h => h) rfl rfl (ty := (.array .int)) (tyX3_ok 16 (by decide)) (uNarA _ s0).1 (uNarA _ s0).2 dX3_init_42 (fun H locs hP hS => ?_)
  refine W.cs (cells' := u2.1 - u0.1) (slots' := u2.2.1 - u0.2.1) (by omega) (by omega) ?_
  refine u_aload_n (r := some a0) hx hb dX3_init_45 rfl (lv_at hl 0 rfl) ?_
  refine lv_bipush (v := 8) hx hb dX3_init_46 (by decide) ?_
  obtain ⟨c4, h⟩ := mif_n h
  obtain ⟨a5, ea5⟩ : ∃ z : Nat, z = u2.1 := ⟨_, rfl⟩
  have h := mlet_at ea5 h
  obtain ⟨u3, eu3⟩ : ∃ z : UH, z = uNew u2 (8 : Int32).toNatClampNeg (.inl (0, (8 : Int32).toNatClampNeg, .inl (fun _ => 0))) := ⟨_, rfl⟩
  have h := mlet_at eu3 h
  have zu3 : u3.1 = u2.1 + 1 ∧ u3.2.1 = u2.2.1 + (8 : Int32).toNatClampNeg := by rw [eu3]; exact ⟨rfl, rfl⟩
  have hq := zz_X3_init_50 (G := G) (a0 := a0) N u3 (some a5) (some a0) h
  refine u_newa (atype := .int) hC hP hS (t := 0) q188 rfl (N := (8 : Int32).toNatClampNeg) (x := .inl (fun _ => 0)) (fun _ => rfl) c4.1 rfl (by have := c4.2; show _ * 4 ≤ _; omega) (by omega) (by omega) dX3_init_48 (fun H hP hS => ?_)
  rw [← eu3] at hP
  rw [← ea5]
  refine W.cs (cells' := u3.1 - u0.1) (slots' := u3.2.1 - u0.2.1) (by omega) (by omega) ?_
  refine W.cs (cells' := u3.1 - u0.1) (slots' := u3.2.1 - u0.2.1) (by omega) (by omega) ?_
  exact w_X3_init_50 hC hI hR hRm N u3 (some a5) (some a0) h ⟨by omega, by omega⟩ hP hS (lv_sub hl [0] rfl)
def f_X3_init_34 (N b : Nat) (g : uEnv) (a0 : Nat) (u : UH) (s0 : Option Nat) (s1 : Option Nat) : Option (UH) :=
    (s1).bind fun a1 =>
    (uPut b u a1 2 15 (va_rf s0)).bind fun u2 =>
    if ¬ (64 : Int32) < 0 ∧ (64 : Int32).toNatClampNeg ≤ 60000000 then
    mlet (u2.1) fun a5 =>
    mlet (uNew u2 (64 : Int32).toNatClampNeg (.inl (0, (64 : Int32).toNatClampNeg, .inl (fun _ => 0)))) fun u3 =>
    f_X3_init_42 N b g a0 u3 (some a5) (some a0)
    else none
set_option maxHeartbeats 4000000 in
set_option maxRecDepth 100000 in
theorem zz_X3_init_34 {G : uG} {a0 : Nat} {uf : UH} (N : Nat) (u : UH) (s0 : Option Nat) (s1 : Option Nat) (h : f_X3_init_34 N (ub G) (ug G) a0 u s0 s1 = some uf) : u.1 ≤ uf.1 ∧ u.2.1 ≤ uf.2.1 := by
  unfold f_X3_init_34 at h
  obtain ⟨a1, ha1, hha1⟩ := mbind_n h
  subst ha1
  have h := hha1
  obtain ⟨u2, hu2, h⟩ := mbind_n h
  have zu2 := uPut_sz hu2
  obtain ⟨c4, h⟩ := mif_n h
  obtain ⟨a5, ea5⟩ : ∃ z : Nat, z = u2.1 := ⟨_, rfl⟩
  have h := mlet_at ea5 h
  obtain ⟨u3, eu3⟩ : ∃ z : UH, z = uNew u2 (64 : Int32).toNatClampNeg (.inl (0, (64 : Int32).toNatClampNeg, .inl (fun _ => 0))) := ⟨_, rfl⟩
  have h := mlet_at eu3 h
  have zu3 : u3.1 = u2.1 + 1 ∧ u3.2.1 = u2.2.1 + (64 : Int32).toNatClampNeg := by rw [eu3]; exact ⟨rfl, rfl⟩
  have hq := zz_X3_init_42 (G := G) (a0 := a0) N u3 (some a5) (some a0) h
  exact ⟨by omega, by omega⟩
set_option maxHeartbeats 4000000 in
set_option maxRecDepth 100000 in
theorem w_X3_init_34 {p : Program} {l : Launch} {e : Env} {R : Room} {s : State} {m : MethodId} {args : Array Value} {below : List Frame} {meth : Method} {c : Code} {G : uG} {a0 : Nat} {u0 : UH} {uf : UH} (hC : uC p s m args meth c G RX3 cX3_init 1 none) (hI : meth.name = "<init>") (hR : 1 ≤ R.frames ∧ 20 ≤ R.locals) (hRm : uf.1 - u0.1 ≤ R.cells ∧ uf.2.1 - u0.2.1 ≤ R.slots) (N : Nat) (u : UH) (s0 : Option Nat) (s1 : Option Nat) (h : f_X3_init_34 N (ub G) (ug G) a0 u s0 s1 = some uf) (hz0 : (u0.1 ≤ u.1 ∧ u0.2.1 ≤ u.2.1)) {H : Heap} {locs : List Loc} (hP : uP G u H) (hS : va_S (uA G) s.heap H locs) {ls : Array Slot} (hl : lv_has ls 1 [(0, va_rf (some a0))]) : W p l e R s m args below meth c H locs (u.1 - u0.1) (u.2.1 - u0.2.1) (MQ below (uQv G uf) args s (uf.1 - u0.1) (uf.2.1 - u0.2.1) (uA G)) (F0 m 34 ls [va_rf s0, va_rf s1]) := by
  obtain ⟨⟨hx, hb, hml, hown, hts⟩, hKK⟩ := id hC
  have hzf := zz_X3_init_34 (G := G) (a0 := a0) N u s0 s1 h
  unfold f_X3_init_34 at h
  obtain ⟨a1, ha1, hha1⟩ := mbind_n h
  subst ha1
  have h := hha1
  obtain ⟨u2, hu2, h⟩ := mbind_n h
  have zu2 := uPut_sz hu2
  refine u_putF hC hI hP hS hu2 rfl in_X3 tyX3 tyX3_ok nmX3 (by decide) q1908 (fun _ h => h) rfl rfl (ty := (.array .int)) (tyX3_ok 15 (by decide)) (uNarA _ s0).1 (uNarA _ s0).2 dX3_init_34 (fun H locs hP hS => ?_)
  refine W.cs (cells' := u2.1 - u0.1) (slots' := u2.2.1 - u0.2.1) (by omega) (by omega) ?_
  refine u_aload_n (r := some a0) hx hb dX3_init_37 rfl (lv_at hl 0 rfl) ?_
  refine lv_bipush (v := 64) hx hb dX3_init_38 (by decide) ?_
  obtain ⟨c4, h⟩ := mif_n h
  obtain ⟨a5, ea5⟩ : ∃ z : Nat, z = u2.1 := ⟨_, rfl⟩
  have h := mlet_at ea5 h
  obtain ⟨u3, eu3⟩ : ∃ z : UH, z = uNew u2 (64 : Int32).toNatClampNeg (.inl (0, (64 : Int32).toNatClampNeg, .inl (fun _ => 0))) := ⟨_, rfl⟩
  have h := mlet_at eu3 h
  have zu3 : u3.1 = u2.1 + 1 ∧ u3.2.1 = u2.2.1 + (64 : Int32).toNatClampNeg := by rw [eu3]; exact ⟨rfl, rfl⟩
  have hq := zz_X3_init_42 (G := G) (a0 := a0) N u3 (some a5) (some a0) h
  refine u_newa (atype := .int) hC hP hS (t := 0) q188 rfl (N := (64 : Int32).toNatClampNeg) (x := .inl (fun _ => 0)) (fun _ => rfl) c4.1 rfl (by have := c4.2; show _ * 4 ≤ _; omega) (by omega) (by omega) dX3_init_40 (fun H hP hS => ?_)
  rw [← eu3] at hP
  rw [← ea5]
  refine W.cs (cells' := u3.1 - u0.1) (slots' := u3.2.1 - u0.2.1) (by omega) (by omega) ?_
  refine W.cs (cells' := u3.1 - u0.1) (slots' := u3.2.1 - u0.2.1) (by omega) (by omega) ?_
  exact w_X3_init_42 hC hI hR hRm N u3 (some a5) (some a0) h ⟨by omega, by omega⟩ hP hS (lv_sub hl [0] rfl)
def f_X3_init_26 (N b : Nat) (g : uEnv) (a0 : Nat) (u : UH) (s0 : Option Nat) (s1 : Option Nat) : Option (UH) :=
    (s1).bind fun a1 =>
    (uPut b u a1 2 14 (va_rf s0)).bind fun u2 =>
    if ¬ (8 : Int32) < 0 ∧ (8 : Int32).toNatClampNeg ≤ 60000000 then
    mlet (u2.1) fun a5 =>
    mlet (uNew u2 (8 : Int32).toNatClampNeg (.inl (0, (8 : Int32).toNatClampNeg, .inl (fun _ => 0)))) fun u3 =>
    f_X3_init_34 N b g a0 u3 (some a5) (some a0)
    else none
set_option maxHeartbeats 4000000 in
set_option maxRecDepth 100000 in
theorem zz_X3_init_26 {G : uG} {a0 : Nat} {uf : UH} (N : Nat) (u : UH) (s0 : Option Nat) (s1 : Option Nat) (h : f_X3_init_26 N (ub G) (ug G) a0 u s0 s1 = some uf) : u.1 ≤ uf.1 ∧ u.2.1 ≤ uf.2.1 := by
  unfold f_X3_init_26 at h
  obtain ⟨a1, ha1, hha1⟩ := mbind_n h
  subst ha1
  have h := hha1
  obtain ⟨u2, hu2, h⟩ := mbind_n h
  have zu2 := uPut_sz hu2
  obtain ⟨c4, h⟩ := mif_n h
  obtain ⟨a5, ea5⟩ : ∃ z : Nat, z = u2.1 := ⟨_, rfl⟩
  have h := mlet_at ea5 h
  obtain ⟨u3, eu3⟩ : ∃ z : UH, z = uNew u2 (8 : Int32).toNatClampNeg (.inl (0, (8 : Int32).toNatClampNeg, .inl (fun _ => 0))) := ⟨_, rfl⟩
  have h := mlet_at eu3 h
  have zu3 : u3.1 = u2.1 + 1 ∧ u3.2.1 = u2.2.1 + (8 : Int32).toNatClampNeg := by rw [eu3]; exact ⟨rfl, rfl⟩
  have hq := zz_X3_init_34 (G := G) (a0 := a0) N u3 (some a5) (some a0) h
  exact ⟨by omega, by omega⟩
set_option maxHeartbeats 4000000 in
set_option maxRecDepth 100000 in
theorem w_X3_init_26 {p : Program} {l : Launch} {e : Env} {R : Room} {s : State} {m : MethodId} {args : Array Value} {below : List Frame} {meth : Method} {c : Code} {G : uG} {a0 : Nat} {u0 : UH} {uf : UH} (hC : uC p s m args meth c G RX3 cX3_init 1 none) (hI : meth.name = "<init>") (hR : 1 ≤ R.frames ∧ 20 ≤ R.locals) (hRm : uf.1 - u0.1 ≤ R.cells ∧ uf.2.1 - u0.2.1 ≤ R.slots) (N : Nat) (u : UH) (s0 : Option Nat) (s1 : Option Nat) (h : f_X3_init_26 N (ub G) (ug G) a0 u s0 s1 = some uf) (hz0 : (u0.1 ≤ u.1 ∧ u0.2.1 ≤ u.2.1)) {H : Heap} {locs : List Loc} (hP : uP G u H) (hS : va_S (uA G) s.heap H locs) {ls : Array Slot} (hl : lv_has ls 1 [(0, va_rf (some a0))]) : W p l e R s m args below meth c H locs (u.1 - u0.1) (u.2.1 - u0.2.1) (MQ below (uQv G uf) args s (uf.1 - u0.1) (uf.2.1 - u0.2.1) (uA G)) (F0 m 26 ls [va_rf s0, va_rf s1]) := by
  obtain ⟨⟨hx, hb, hml, hown, hts⟩, hKK⟩ := id hC
  have hzf := zz_X3_init_26 (G := G) (a0 := a0) N u s0 s1 h
  unfold f_X3_init_26 at h
  obtain ⟨a1, ha1, hha1⟩ := mbind_n h
  subst ha1
  have h := hha1
  obtain ⟨u2, hu2, h⟩ := mbind_n h
  have zu2 := uPut_sz hu2
  refine u_putF hC hI hP hS hu2 rfl in_X3 tyX3 tyX3_ok nmX3 (by decide) q1907 (fun _ h => h) rfl rfl (ty := (.array .int)) (tyX3_ok 14 (by decide)) (uNarA _ s0).1 (uNarA _ s0).2 dX3_init_26 (fun H locs hP hS => ?_)
  refine W.cs (cells' := u2.1 - u0.1) (slots' := u2.2.1 - u0.2.1) (by omega) (by omega) ?_
  refine u_aload_n (r := some a0) hx hb dX3_init_29 rfl (lv_at hl 0 rfl) ?_
  refine lv_bipush (v := 8) hx hb dX3_init_30 (by decide) ?_
  obtain ⟨c4, h⟩ := mif_n h
  obtain ⟨a5, ea5⟩ : ∃ z : Nat, z = u2.1 := ⟨_, rfl⟩
  have h := mlet_at ea5 h
  obtain ⟨u3, eu3⟩ : ∃ z : UH, z = uNew u2 (8 : Int32).toNatClampNeg (.inl (0, (8 : Int32).toNatClampNeg, .inl (fun _ => 0))) := ⟨_, rfl⟩
  have h := mlet_at eu3 h
  have zu3 : u3.1 = u2.1 + 1 ∧ u3.2.1 = u2.2.1 + (8 : Int32).toNatClampNeg := by rw [eu3]; exact ⟨rfl, rfl⟩
  have hq := zz_X3_init_34 (G := G) (a0 := a0) N u3 (some a5) (some a0) h
  refine u_newa (atype := .int) hC hP hS (t := 0) q188 rfl (N := (8 : Int32).toNatClampNeg) (x := .inl (fun _ => 0)) (fun _ => rfl) c4.1 rfl (by have := c4.2; show _ * 4 ≤ _; omega) (by omega) (by omega) dX3_init_32 (fun H hP hS => ?_)
  rw [← eu3] at hP
  rw [← ea5]
  refine W.cs (cells' := u3.1 - u0.1) (slots' := u3.2.1 - u0.2.1) (by omega) (by omega) ?_
  refine W.cs (cells' := u3.1 - u0.1) (slots' := u3.2.1 - u0.2.1) (by omega) (by omega) ?_
  exact w_X3_init_34 hC hI hR hRm N u3 (some a5) (some a0) h ⟨by omega, by omega⟩ hP hS (lv_sub hl [0] rfl)
def f_X3_init_18 (N b : Nat) (g : uEnv) (a0 : Nat) (u : UH) (s0 : Option Nat) (s1 : Option Nat) : Option (UH) :=
    (s1).bind fun a1 =>
    (uPut b u a1 2 11 (va_rf s0)).bind fun u2 =>
    if ¬ (64 : Int32) < 0 ∧ (64 : Int32).toNatClampNeg ≤ 60000000 then
    mlet (u2.1) fun a5 =>
    mlet (uNew u2 (64 : Int32).toNatClampNeg (.inl (0, (64 : Int32).toNatClampNeg, .inl (fun _ => 0)))) fun u3 =>
    f_X3_init_26 N b g a0 u3 (some a5) (some a0)
    else none
set_option maxHeartbeats 4000000 in
set_option maxRecDepth 100000 in
theorem zz_X3_init_18 {G : uG} {a0 : Nat} {uf : UH} (N : Nat) (u : UH) (s0 : Option Nat) (s1 : Option Nat) (h : f_X3_init_18 N (ub G) (ug G) a0 u s0 s1 = some uf) : u.1 ≤ uf.1 ∧ u.2.1 ≤ uf.2.1 := by
  unfold f_X3_init_18 at h
  obtain ⟨a1, ha1, hha1⟩ := mbind_n h
  subst ha1
  have h := hha1
  obtain ⟨u2, hu2, h⟩ := mbind_n h
  have zu2 := uPut_sz hu2
  obtain ⟨c4, h⟩ := mif_n h
  obtain ⟨a5, ea5⟩ : ∃ z : Nat, z = u2.1 := ⟨_, rfl⟩
  have h := mlet_at ea5 h
  obtain ⟨u3, eu3⟩ : ∃ z : UH, z = uNew u2 (64 : Int32).toNatClampNeg (.inl (0, (64 : Int32).toNatClampNeg, .inl (fun _ => 0))) := ⟨_, rfl⟩
  have h := mlet_at eu3 h
  have zu3 : u3.1 = u2.1 + 1 ∧ u3.2.1 = u2.2.1 + (64 : Int32).toNatClampNeg := by rw [eu3]; exact ⟨rfl, rfl⟩
  have hq := zz_X3_init_26 (G := G) (a0 := a0) N u3 (some a5) (some a0) h
  exact ⟨by omega, by omega⟩
set_option maxHeartbeats 4000000 in
set_option maxRecDepth 100000 in
theorem w_X3_init_18 {p : Program} {l : Launch} {e : Env} {R : Room} {s : State} {m : MethodId} {args : Array Value} {below : List Frame} {meth : Method} {c : Code} {G : uG} {a0 : Nat} {u0 : UH} {uf : UH} (hC : uC p s m args meth c G RX3 cX3_init 1 none) (hI : meth.name = "<init>") (hR : 1 ≤ R.frames ∧ 20 ≤ R.locals) (hRm : uf.1 - u0.1 ≤ R.cells ∧ uf.2.1 - u0.2.1 ≤ R.slots) (N : Nat) (u : UH) (s0 : Option Nat) (s1 : Option Nat) (h : f_X3_init_18 N (ub G) (ug G) a0 u s0 s1 = some uf) (hz0 : (u0.1 ≤ u.1 ∧ u0.2.1 ≤ u.2.1)) {H : Heap} {locs : List Loc} (hP : uP G u H) (hS : va_S (uA G) s.heap H locs) {ls : Array Slot} (hl : lv_has ls 1 [(0, va_rf (some a0))]) : W p l e R s m args below meth c H locs (u.1 - u0.1) (u.2.1 - u0.2.1) (MQ below (uQv G uf) args s (uf.1 - u0.1) (uf.2.1 - u0.2.1) (uA G)) (F0 m 18 ls [va_rf s0, va_rf s1]) := by
  obtain ⟨⟨hx, hb, hml, hown, hts⟩, hKK⟩ := id hC
  have hzf := zz_X3_init_18 (G := G) (a0 := a0) N u s0 s1 h
  unfold f_X3_init_18 at h
  obtain ⟨a1, ha1, hha1⟩ := mbind_n h
  subst ha1
  have h := hha1
  obtain ⟨u2, hu2, h⟩ := mbind_n h
  have zu2 := uPut_sz hu2
  refine u_putF hC hI hP hS hu2 rfl in_X3 tyX3 tyX3_ok nmX3 (by decide) q1904 (fun _ h => h) rfl rfl (ty := (.array .int)) (tyX3_ok 11 (by decide)) (uNarA _ s0).1 (uNarA _ s0).2 dX3_init_18 (fun H locs hP hS => ?_)
  refine W.cs (cells' := u2.1 - u0.1) (slots' := u2.2.1 - u0.2.1) (by omega) (by omega) ?_
  refine u_aload_n (r := some a0) hx hb dX3_init_21 rfl (lv_at hl 0 rfl) ?_
  refine lv_bipush (v := 64) hx hb dX3_init_22 (by decide) ?_
  obtain ⟨c4, h⟩ := mif_n h
  obtain ⟨a5, ea5⟩ : ∃ z : Nat, z = u2.1 := ⟨_, rfl⟩
  have h := mlet_at ea5 h
  obtain ⟨u3, eu3⟩ : ∃ z : UH, z = uNew u2 (64 : Int32).toNatClampNeg (.inl (0, (64 : Int32).toNatClampNeg, .inl (fun _ => 0))) := ⟨_, rfl⟩
  have h := mlet_at eu3 h
  have zu3 : u3.1 = u2.1 + 1 ∧ u3.2.1 = u2.2.1 + (64 : Int32).toNatClampNeg := by rw [eu3]; exact ⟨rfl, rfl⟩
  have hq := zz_X3_init_26 (G := G) (a0 := a0) N u3 (some a5) (some a0) h
  refine u_newa (atype := .int) hC hP hS (t := 0) q188 rfl (N := (64 : Int32).toNatClampNeg) (x := .inl (fun _ => 0)) (fun _ => rfl) c4.1 rfl (by have := c4.2; show _ * 4 ≤ _; omega) (by omega) (by omega) dX3_init_24 (fun H hP hS => ?_)
  rw [← eu3] at hP
  rw [← ea5]
  refine W.cs (cells' := u3.1 - u0.1) (slots' := u3.2.1 - u0.2.1) (by omega) (by omega) ?_
  refine W.cs (cells' := u3.1 - u0.1) (slots' := u3.2.1 - u0.2.1) (by omega) (by omega) ?_
  exact w_X3_init_26 hC hI hR hRm N u3 (some a5) (some a0) h ⟨by omega, by omega⟩ hP hS (lv_sub hl [0] rfl)
def f_X3_init_10 (N b : Nat) (g : uEnv) (a0 : Nat) (u : UH) (s0 : Option Nat) (s1 : Option Nat) : Option (UH) :=
    (s1).bind fun a1 =>
    (uPut b u a1 2 1 (va_rf s0)).bind fun u2 =>
    if ¬ (8 : Int32) < 0 ∧ (8 : Int32).toNatClampNeg ≤ 60000000 then
    mlet (u2.1) fun a5 =>
    mlet (uNew u2 (8 : Int32).toNatClampNeg (.inl (0, (8 : Int32).toNatClampNeg, .inl (fun _ => 0)))) fun u3 =>
    f_X3_init_18 N b g a0 u3 (some a5) (some a0)
    else none
set_option maxHeartbeats 4000000 in
set_option maxRecDepth 100000 in
theorem zz_X3_init_10 {G : uG} {a0 : Nat} {uf : UH} (N : Nat) (u : UH) (s0 : Option Nat) (s1 : Option Nat) (h : f_X3_init_10 N (ub G) (ug G) a0 u s0 s1 = some uf) : u.1 ≤ uf.1 ∧ u.2.1 ≤ uf.2.1 := by
  unfold f_X3_init_10 at h
  obtain ⟨a1, ha1, hha1⟩ := mbind_n h
  subst ha1
  have h := hha1
  obtain ⟨u2, hu2, h⟩ := mbind_n h
  have zu2 := uPut_sz hu2
  obtain ⟨c4, h⟩ := mif_n h
  obtain ⟨a5, ea5⟩ : ∃ z : Nat, z = u2.1 := ⟨_, rfl⟩
  have h := mlet_at ea5 h
  obtain ⟨u3, eu3⟩ : ∃ z : UH, z = uNew u2 (8 : Int32).toNatClampNeg (.inl (0, (8 : Int32).toNatClampNeg, .inl (fun _ => 0))) := ⟨_, rfl⟩
  have h := mlet_at eu3 h
  have zu3 : u3.1 = u2.1 + 1 ∧ u3.2.1 = u2.2.1 + (8 : Int32).toNatClampNeg := by rw [eu3]; exact ⟨rfl, rfl⟩
  have hq := zz_X3_init_18 (G := G) (a0 := a0) N u3 (some a5) (some a0) h
  exact ⟨by omega, by omega⟩
set_option maxHeartbeats 4000000 in
set_option maxRecDepth 100000 in
theorem w_X3_init_10 {p : Program} {l : Launch} {e : Env} {R : Room} {s : State} {m : MethodId} {args : Array Value} {below : List Frame} {meth : Method} {c : Code} {G : uG} {a0 : Nat} {u0 : UH} {uf : UH} (hC : uC p s m args meth c G RX3 cX3_init 1 none) (hI : meth.name = "<init>") (hR : 1 ≤ R.frames ∧ 20 ≤ R.locals) (hRm : uf.1 - u0.1 ≤ R.cells ∧ uf.2.1 - u0.2.1 ≤ R.slots) (N : Nat) (u : UH) (s0 : Option Nat) (s1 : Option Nat) (h : f_X3_init_10 N (ub G) (ug G) a0 u s0 s1 = some uf) (hz0 : (u0.1 ≤ u.1 ∧ u0.2.1 ≤ u.2.1)) {H : Heap} {locs : List Loc} (hP : uP G u H) (hS : va_S (uA G) s.heap H locs) {ls : Array Slot} (hl : lv_has ls 1 [(0, va_rf (some a0))]) : W p l e R s m args below meth c H locs (u.1 - u0.1) (u.2.1 - u0.2.1) (MQ below (uQv G uf) args s (uf.1 - u0.1) (uf.2.1 - u0.2.1) (uA G)) (F0 m 10 ls [va_rf s0, va_rf s1]) := by
  obtain ⟨⟨hx, hb, hml, hown, hts⟩, hKK⟩ := id hC
  have hzf := zz_X3_init_10 (G := G) (a0 := a0) N u s0 s1 h
  unfold f_X3_init_10 at h
  obtain ⟨a1, ha1, hha1⟩ := mbind_n h
  subst ha1
  have h := hha1
  obtain ⟨u2, hu2, h⟩ := mbind_n h
  have zu2 := uPut_sz hu2
  refine u_putF hC hI hP hS hu2 rfl in_X3 tyX3 tyX3_ok nmX3 (by decide) q1894 (fun _ h => h) rfl rfl (ty := (.array .int)) (tyX3_ok 1 (by decide)) (uNarA _ s0).1 (uNarA _ s0).2 dX3_init_10 (fun H locs hP hS => ?_)
  refine W.cs (cells' := u2.1 - u0.1) (slots' := u2.2.1 - u0.2.1) (by omega) (by omega) ?_
  refine u_aload_n (r := some a0) hx hb dX3_init_13 rfl (lv_at hl 0 rfl) ?_
  refine lv_bipush (v := 8) hx hb dX3_init_14 (by decide) ?_
  obtain ⟨c4, h⟩ := mif_n h
  obtain ⟨a5, ea5⟩ : ∃ z : Nat, z = u2.1 := ⟨_, rfl⟩
  have h := mlet_at ea5 h
  obtain ⟨u3, eu3⟩ : ∃ z : UH, z = uNew u2 (8 : Int32).toNatClampNeg (.inl (0, (8 : Int32).toNatClampNeg, .inl (fun _ => 0))) := ⟨_, rfl⟩
  have h := mlet_at eu3 h
  have zu3 : u3.1 = u2.1 + 1 ∧ u3.2.1 = u2.2.1 + (8 : Int32).toNatClampNeg := by rw [eu3]; exact ⟨rfl, rfl⟩
  have hq := zz_X3_init_18 (G := G) (a0 := a0) N u3 (some a5) (some a0) h
  refine u_newa (atype := .int) hC hP hS (t := 0) q188 rfl (N := (8 : Int32).toNatClampNeg) (x := .inl (fun _ => 0)) (fun _ => rfl) c4.1 rfl (by have := c4.2; show _ * 4 ≤ _; omega) (by omega) (by omega) dX3_init_16 (fun H hP hS => ?_)
  rw [← eu3] at hP
  rw [← ea5]
  refine W.cs (cells' := u3.1 - u0.1) (slots' := u3.2.1 - u0.2.1) (by omega) (by omega) ?_
  refine W.cs (cells' := u3.1 - u0.1) (slots' := u3.2.1 - u0.2.1) (by omega) (by omega) ?_
  exact w_X3_init_18 hC hI hR hRm N u3 (some a5) (some a0) h ⟨by omega, by omega⟩ hP hS (lv_sub hl [0] rfl)
def f_X3_init (N b : Nat) (g : uEnv) (u : UH) (a0 : Nat) : Option (UH) :=
    if ¬ (500 : Int32) < 0 ∧ (500 : Int32).toNatClampNeg ≤ 60000000 then
    mlet (u.1) fun a3 =>
    mlet (uNew u (500 : Int32).toNatClampNeg (.inl (0, (500 : Int32).toNatClampNeg, .inl (fun _ => 0)))) fun u1 =>
    f_X3_init_10 N b g a0 u1 (some a3) (some a0)
    else none
set_option maxHeartbeats 4000000 in
set_option maxRecDepth 100000 in
theorem zz_X3_init_0 {G : uG} {a0 : Nat} {uf : UH} (N : Nat) (u : UH) (h : f_X3_init N (ub G) (ug G) u a0 = some uf) : u.1 ≤ uf.1 ∧ u.2.1 ≤ uf.2.1 := by
  unfold f_X3_init at h
  obtain ⟨c2, h⟩ := mif_n h
  obtain ⟨a3, ea3⟩ : ∃ z : Nat, z = u.1 := ⟨_, rfl⟩
  have h := mlet_at ea3 h
  obtain ⟨u1, eu1⟩ : ∃ z : UH, z = uNew u (500 : Int32).toNatClampNeg (.inl (0, (500 : Int32).toNatClampNeg, .inl (fun _ => 0))) := ⟨_, rfl⟩
  have h := mlet_at eu1 h
  have zu1 : u1.1 = u.1 + 1 ∧ u1.2.1 = u.2.1 + (500 : Int32).toNatClampNeg := by rw [eu1]; exact ⟨rfl, rfl⟩
  have hq := zz_X3_init_10 (G := G) (a0 := a0) N u1 (some a3) (some a0) h
  exact ⟨by omega, by omega⟩
set_option maxHeartbeats 4000000 in
set_option maxRecDepth 100000 in
theorem w_X3_init_0 {p : Program} {l : Launch} {e : Env} {R : Room} {s : State} {m : MethodId} {args : Array Value} {below : List Frame} {meth : Method} {c : Code} {G : uG} {a0 : Nat} {u0 : UH} {uf : UH} (hC : uC p s m args meth c G RX3 cX3_init 1 none) (hI : meth.name = "<init>") (hR : 1 ≤ R.frames ∧ 20 ≤ R.locals) (hRm : uf.1 - u0.1 ≤ R.cells ∧ uf.2.1 - u0.2.1 ≤ R.slots) (N : Nat) (u : UH) (h : f_X3_init N (ub G) (ug G) u a0 = some uf) (hz0 : (u0.1 ≤ u.1 ∧ u0.2.1 ≤ u.2.1)) {H : Heap} {locs : List Loc} (hP : uP G u H) (hS : va_S (uA G) s.heap H locs) {ls : Array Slot} (hl : lv_has ls 1 [(0, va_rf (some a0))]) : W p l e R s m args below meth c H locs (u.1 - u0.1) (u.2.1 - u0.2.1) (MQ below (uQv G uf) args s (uf.1 - u0.1) (uf.2.1 - u0.2.1) (uA G)) (F0 m 0 ls []) := by
  obtain ⟨⟨hx, hb, hml, hown, hts⟩, hKK⟩ := id hC
  have hzf := zz_X3_init_0 (G := G) (a0 := a0) N u h
  unfold f_X3_init at h
  refine u_aload_n (r := some a0) hx hb dX3_init_0 rfl (lv_at hl 0 rfl) ?_
  refine W.objInit hx hb hown (hts _ q1891) (hts _ q148) (hts _ q149) rfl (by rw [hml]; exact hl.1) rfl dX3_init_1 (Nat.le_trans (Nat.le_of_ble_eq_true rfl) hR.1) (Nat.le_trans (Nat.le_of_ble_eq_true rfl) hR.2) ?_
  refine W.eq (g2 := F0 m 4 ls []) rfl ?_
  refine u_aload_n (r := some a0) hx hb dX3_init_4 rfl (lv_at hl 0 rfl) ?_
  refine lv_sipush (v := 500) hx hb dX3_init_5 (by decide) ?_
  obtain ⟨c2, h⟩ := mif_n h
  obtain ⟨a3, ea3⟩ : ∃ z : Nat, z = u.1 := ⟨_, rfl⟩
  have h := mlet_at ea3 h
  obtain ⟨u1, eu1⟩ : ∃ z : UH, z = uNew u (500 : Int32).toNatClampNeg (.inl (0, (500 : Int32).toNatClampNeg, .inl (fun _ => 0))) := ⟨_, rfl⟩
  have h := mlet_at eu1 h
  have zu1 : u1.1 = u.1 + 1 ∧ u1.2.1 = u.2.1 + (500 : Int32).toNatClampNeg := by rw [eu1]; exact ⟨rfl, rfl⟩
  have hq := zz_X3_init_10 (G := G) (a0 := a0) N u1 (some a3) (some a0) h
  refine u_newa (atype := .int) hC hP hS (t := 0) q188 rfl (N := (500 : Int32).toNatClampNeg) (x := .inl (fun _ => 0)) (fun _ => rfl) c2.1 rfl (by have := c2.2; show _ * 4 ≤ _; omega) (by omega) (by omega) dX3_init_8 (fun H hP hS => ?_)
  rw [← eu1] at hP
  rw [← ea3]
  refine W.cs (cells' := u1.1 - u0.1) (slots' := u1.2.1 - u0.2.1) (by omega) (by omega) ?_
  refine W.cs (cells' := u1.1 - u0.1) (slots' := u1.2.1 - u0.2.1) (by omega) (by omega) ?_
  exact w_X3_init_10 hC hI hR hRm N u1 (some a3) (some a0) h ⟨by omega, by omega⟩ hP hS (lv_sub hl [0] rfl)
theorem zz_X3_init (N b : Nat) (g : uEnv) (u : UH) (a0 : Nat) (uf : UH) (h : f_X3_init N b g u a0 = some uf) : u.1 ≤ uf.1 ∧ u.2.1 ≤ uf.2.1 :=
  zz_X3_init_0 (G := ((fun _ => 0, fun _ _ => 0), fun _ => 0, b, g)) (a0 := a0) N u h
theorem met_X3_init (l : Launch) (N : Nat) (G : uG) (u : UH) (a0 : Nat) (uf : UH) (h : f_X3_init N (ub G) (ug G) u a0 = some uf) : Met l yX3_init (ws_ yX3_init cX3_init 1 none) ({ frames := 1, cells := (uf.1 - u.1), slots := (uf.2.1 - u.2.1), locals := 20 }) (uPc G u [.ref a0]) (uQv G uf) (uf.1 - u.1) (uf.2.1 - u.2.1) (uA G) := by
  exact u_met (own := RX3) (by decide +kernel) rfl (Nat.le_of_ble_eq_true rfl) (fun hC hn hsz ls hl hP => W.cs (Nat.sub_self _).symm (Nat.sub_self _).symm (w_X3_init_0 hC hn ⟨Nat.le_refl _, Nat.le_refl _⟩ ⟨Nat.le_refl _, Nat.le_refl _⟩ N u h ⟨Nat.le_refl _, Nat.le_refl _⟩ hP va_S.rf hl))
def f_X3_lands_32 (N b : Nat) (g : uEnv) (a0 : Nat) (u : UH) : Option (UH) :=
    some u
set_option maxHeartbeats 4000000 in
set_option maxRecDepth 100000 in
theorem zz_X3_lands_32 {G : uG} {a0 : Nat} {uf : UH} (N : Nat) (u : UH) (h : f_X3_lands_32 N (ub G) (ug G) a0 u = some uf) : uf.1 = u.1 ∧ uf.2.1 = u.2.1 := by
  unfold f_X3_lands_32 at h
  cases h
  exact ⟨by omega, by omega⟩
set_option maxHeartbeats 4000000 in
set_option maxRecDepth 100000 in
theorem w_X3_lands_32 {p : Program} {l : Launch} {e : Env} {R : Room} {s : State} {m : MethodId} {args : Array Value} {below : List Frame} {meth : Method} {c : Code} {G : uG} {a0 : Nat} {uf : UH} (hC : uC p s m args meth c G RX3 cX3_lands 2 none) (hR : 0 ≤ R.frames ∧ 0 ≤ R.locals) (N : Nat) (u : UH) (h : f_X3_lands_32 N (ub G) (ug G) a0 u = some uf) {H : Heap} {locs : List Loc} (hP : uP G u H) (hS : va_S (uA G) s.heap H locs) {ls : Array Slot} (hl : lv_has ls 2 []) : W p l e R s m args below meth c H locs 0 0 (MQ below (uQv G uf) args s 0 0 (uA G)) (F0 m 32 ls []) := by
  obtain ⟨⟨hx, hb, hml, hown, hts⟩, hKK⟩ := id hC
  unfold f_X3_lands_32 at h
  cases h
  exact u_vret hC hP hS dX3_lands_32
def f_X3_lands (N b : Nat) (g : uEnv) (u : UH) (a0 : Nat) (x1 : Int32) : Option (UH) :=
    (uGI u a0 2 40).bind fun y1 =>
    if 8 ≤ y1 then
    f_X3_lands_32 N b g a0 u
    else
    (uGR u a0 2 56).bind fun o3 =>
    (uGI u a0 2 40).bind fun y4 =>
    (uGI u a0 2 58).bind fun y5 =>
    (o3).bind fun a6 =>
    (uStI b u a6 0 (((512 * y4) + (4 * x1)) + 3) y5).bind fun u7 =>
    f_X3_lands_32 N b g a0 u7
set_option maxHeartbeats 4000000 in
set_option maxRecDepth 100000 in
theorem zz_X3_lands_0 {G : uG} {a0 : Nat} {uf : UH} (N : Nat) (u : UH) (x1 : Int32) (h : f_X3_lands N (ub G) (ug G) u a0 x1 = some uf) : uf.1 = u.1 ∧ uf.2.1 = u.2.1 := by
  unfold f_X3_lands at h
  obtain ⟨y1, hy1, h⟩ := mbind_n h
  by_cases c2 : 8 ≤ y1
  · have h := mif_t c2 h
    have hq := zz_X3_lands_32 (G := G) (a0 := a0) N u h
    exact ⟨by omega, by omega⟩
  · have h := mif_f c2 h
    obtain ⟨o3, ho3, h⟩ := mbind_n h
    obtain ⟨y4, hy4, h⟩ := mbind_n h
    obtain ⟨y5, hy5, h⟩ := mbind_n h
    obtain ⟨a6, ha6, hha6⟩ := mbind_n h
    subst ha6
    have h := hha6
    obtain ⟨u7, hu7, h⟩ := mbind_n h
    have zu7 := uStI_sz hu7
    have hq := zz_X3_lands_32 (G := G) (a0 := a0) N u7 h
    exact ⟨by omega, by omega⟩
set_option maxHeartbeats 4000000 in
set_option maxRecDepth 100000 in
theorem w_X3_lands_0 {p : Program} {l : Launch} {e : Env} {R : Room} {s : State} {m : MethodId} {args : Array Value} {below : List Frame} {meth : Method} {c : Code} {G : uG} {a0 : Nat} {uf : UH} (hC : uC p s m args meth c G RX3 cX3_lands 2 none) (hR : 0 ≤ R.frames ∧ 0 ≤ R.locals) (N : Nat) (u : UH) (x1 : Int32) (h : f_X3_lands N (ub G) (ug G) u a0 x1 = some uf) {H : Heap} {locs : List Loc} (hP : uP G u H) (hS : va_S (uA G) s.heap H locs) {ls : Array Slot} (hl : lv_has ls 2 [(0, va_rf (some a0)), (1, .int x1)]) : W p l e R s m args below meth c H locs 0 0 (MQ below (uQv G uf) args s 0 0 (uA G)) (F0 m 0 ls []) := by
  obtain ⟨⟨hx, hb, hml, hown, hts⟩, hKK⟩ := id hC
  unfold f_X3_lands at h
  refine u_aload_n (r := some a0) hx hb dX3_lands_0 rfl (lv_at hl 0 rfl) ?_
  obtain ⟨y1, hy1, h⟩ := mbind_n h
  refine u_get hC hP (uGI_n hy1) rfl in_X3 (by decide) q1933 (fun _ h => h) dX3_lands_1 ?_
  refine lv_bipush (v := 8) hx hb dX3_lands_4 (by decide) ?_
  refine lv_icmp_ge (tgt := 32) hx hb dX3_lands_6 (by decide) (fun c2 => ?_) (fun c2 => ?_)
  · have h := mif_t c2 h
    exact w_X3_lands_32 hC hR N u h hP hS (lv_sub hl [] rfl)
  · have h := mif_f c2 h
    refine u_aload_n (r := some a0) hx hb dX3_lands_9 rfl (lv_at hl 0 rfl) ?_
    obtain ⟨o3, ho3, h⟩ := mbind_n h
    refine u_get hC hP (uGR_n ho3) rfl in_X3 (by decide) q1949 (fun _ h => h) dX3_lands_10 ?_
    refine lv_sipush (v := 512) hx hb dX3_lands_13 (by decide) ?_
    refine u_aload_n (r := some a0) hx hb dX3_lands_16 rfl (lv_at hl 0 rfl) ?_
    obtain ⟨y4, hy4, h⟩ := mbind_n h
    refine u_get hC hP (uGI_n hy4) rfl in_X3 (by decide) q1933 (fun _ h => h) dX3_lands_17 ?_
    refine lv_imul hx hb dX3_lands_20 ?_
    refine lv_iconst (v := 4) hx hb dX3_lands_21 (by decide) ?_
    refine lv_iload_n hx hb dX3_lands_22 rfl (lv_at hl 1 rfl) ?_
    refine lv_imul hx hb dX3_lands_23 ?_
    refine lv_iadd hx hb dX3_lands_24 ?_
    refine lv_iconst (v := 3) hx hb dX3_lands_25 (by decide) ?_
    refine lv_iadd hx hb dX3_lands_26 ?_
    refine u_aload_n (r := some a0) hx hb dX3_lands_27 rfl (lv_at hl 0 rfl) ?_
    obtain ⟨y5, hy5, h⟩ := mbind_n h
    refine u_get hC hP (uGI_n hy5) rfl in_X3 (by decide) q1951 (fun _ h => h) dX3_lands_28 ?_
    obtain ⟨a6, ha6, hha6⟩ := mbind_n h
    subst ha6
    have h := hha6
    obtain ⟨u7, hu7, h⟩ := mbind_n h
    have zu7 := uStI_sz hu7
    refine u_iast hC hP hS hu7 rfl dX3_lands_31 (fun H locs hP hS => ?_)
    exact w_X3_lands_32 hC hR N u7 h hP hS (lv_sub hl [] rfl)
theorem zz_X3_lands (N b : Nat) (g : uEnv) (u : UH) (a0 : Nat) (x1 : Int32) (uf : UH) (h : f_X3_lands N b g u a0 x1 = some uf) : uf.1 = u.1 ∧ uf.2.1 = u.2.1 :=
  zz_X3_lands_0 (G := ((fun _ => 0, fun _ _ => 0), fun _ => 0, b, g)) (a0 := a0) N u x1 h
theorem met_X3_lands (l : Launch) (N : Nat) (G : uG) (u : UH) (a0 : Nat) (x1 : Int32) (uf : UH) (h : f_X3_lands N (ub G) (ug G) u a0 x1 = some uf) : Met l yX3_lands (ws_ yX3_lands cX3_lands 2 none) ({ frames := 0, cells := 0, slots := 0, locals := 0 }) (uPc G u [.ref a0, .int x1]) (uQv G uf) 0 0 (uA G) := by
  exact u_met (own := RX3) (by decide +kernel) rfl (Nat.le_of_ble_eq_true rfl) (fun hC hn hsz ls hl hP => w_X3_lands_0 hC ⟨Nat.le_refl _, Nat.le_refl _⟩ N u x1 h hP va_S.rf hl)
def f_X3_led_47 (N b : Nat) (g : uEnv) (a0 : Nat) (u : UH) (s0 : Int32) : Option (Int32 × UH) :=
    some (s0, u)
set_option maxHeartbeats 4000000 in
set_option maxRecDepth 100000 in
theorem zz_X3_led_47 {G : uG} {a0 : Nat} {uf : UH} {r : Int32} (N : Nat) (u : UH) (s0 : Int32) (h : f_X3_led_47 N (ub G) (ug G) a0 u s0 = some (r, uf)) : uf.1 = u.1 ∧ uf.2.1 = u.2.1 := by
  unfold f_X3_led_47 at h
  obtain ⟨hr1, hr2⟩ := uret_n h
  subst hr2
  exact ⟨by omega, by omega⟩
set_option maxHeartbeats 4000000 in
set_option maxRecDepth 100000 in
theorem w_X3_led_47 {p : Program} {l : Launch} {e : Env} {R : Room} {s : State} {m : MethodId} {args : Array Value} {below : List Frame} {meth : Method} {c : Code} {G : uG} {a0 : Nat} {uf : UH} {r : Int32} (hC : uC p s m args meth c G RX3 cX3_led 2 (some .int)) (hR : 1 ≤ R.frames ∧ 22 ≤ R.locals) (N : Nat) (u : UH) (s0 : Int32) (h : f_X3_led_47 N (ub G) (ug G) a0 u s0 = some (r, uf)) {H : Heap} {locs : List Loc} (hP : uP G u H) (hS : va_S (uA G) s.heap H locs) {ls : Array Slot} (hl : lv_has ls 2 []) : W p l e R s m args below meth c H locs 0 0 (MQ below (uQi G r uf) args s 0 0 (uA G)) (F0 m 47 ls [.int s0]) := by
  obtain ⟨⟨hx, hb, hml, hown, hts⟩, hKK⟩ := id hC
  unfold f_X3_led_47 at h
  obtain ⟨hr1, hr2⟩ := uret_n h
  subst hr1
  subst hr2
  exact u_iret hC hP hS dX3_led_47
def f_X3_led_27 (N b : Nat) (g : uEnv) (a0 : Nat) (u : UH) (x1 : Int32) (s0 : Int32) (s1 : Option Nat) : Option (Int32 × UH) :=
    (s1).bind fun a1 =>
    (uPut b u a1 2 0 (.int s0)).bind fun u2 =>
    (uGI u2 a0 2 0).bind fun y3 =>
    if y3 ≤ 0 then
    (uGR u2 a0 2 54).bind fun o5 =>
    (o5).bind fun a6 =>
    (uLdI u2 a6 0 x1).bind fun y7 =>
    f_X3_led_47 N b g a0 u2 y7
    else
    f_X3_led_47 N b g a0 u2 0
set_option maxHeartbeats 4000000 in
set_option maxRecDepth 100000 in
theorem zz_X3_led_27 {G : uG} {a0 : Nat} {uf : UH} {r : Int32} (N : Nat) (u : UH) (x1 : Int32) (s0 : Int32) (s1 : Option Nat) (h : f_X3_led_27 N (ub G) (ug G) a0 u x1 s0 s1 = some (r, uf)) : uf.1 = u.1 ∧ uf.2.1 = u.2.1 := by
  unfold f_X3_led_27 at h
  obtain ⟨a1, ha1, hha1⟩ := mbind_n h
  subst ha1
  have h := hha1
  obtain ⟨u2, hu2, h⟩ := mbind_n h
  have zu2 := uPut_sz hu2
  obtain ⟨y3, hy3, h⟩ := mbind_n h
  by_cases c4 : y3 ≤ 0
  · have h := mif_t c4 h
    obtain ⟨o5, ho5, h⟩ := mbind_n h
    obtain ⟨a6, ha6, hha6⟩ := mbind_n h
    subst ha6
    have h := hha6
    obtain ⟨y7, hy7, h⟩ := mbind_n h
    have hq := zz_X3_led_47 (G := G) (a0 := a0) N u2 y7 h
    exact ⟨by omega, by omega⟩
  · have h := mif_f c4 h
    have hq := zz_X3_led_47 (G := G) (a0 := a0) N u2 0 h
    exact ⟨by omega, by omega⟩
set_option maxHeartbeats 4000000 in
set_option maxRecDepth 100000 in
theorem w_X3_led_27 {p : Program} {l : Launch} {e : Env} {R : Room} {s : State} {m : MethodId} {args : Array Value} {below : List Frame} {meth : Method} {c : Code} {G : uG} {a0 : Nat} {uf : UH} {r : Int32} (hC : uC p s m args meth c G RX3 cX3_led 2 (some .int)) (hR : 1 ≤ R.frames ∧ 22 ≤ R.locals) (N : Nat) (u : UH) (x1 : Int32) (s0 : Int32) (s1 : Option Nat) (h : f_X3_led_27 N (ub G) (ug G) a0 u x1 s0 s1 = some (r, uf)) {H : Heap} {locs : List Loc} (hP : uP G u H) (hS : va_S (uA G) s.heap H locs) {ls : Array Slot} (hl : lv_has ls 2 [(0, va_rf (some a0)), (1, .int x1)]) : W p l e R s m args below meth c H locs 0 0 (MQ below (uQi G r uf) args s 0 0 (uA G)) (F0 m 27 ls [.int s0, va_rf s1]) := by
  obtain ⟨⟨hx, hb, hml, hown, hts⟩, hKK⟩ := id hC
  unfold f_X3_led_27 at h
  obtain ⟨a1, ha1, hha1⟩ := mbind_n h
  subst ha1
  have h := hha1
  obtain ⟨u2, hu2, h⟩ := mbind_n h
  have zu2 := uPut_sz hu2
  refine u_put hC hP hS hu2 rfl in_X3 tyX3 tyX3_ok nmX3 (by decide) q1893 (fun _ h => h) rfl (ty := .int) (tyX3_ok 0 (by decide)) rfl rfl dX3_led_27 (fun H locs hP hS => ?_)
  refine u_aload_n (r := some a0) hx hb dX3_led_30 rfl (lv_at hl 0 rfl) ?_
  obtain ⟨y3, hy3, h⟩ := mbind_n h
  refine u_get hC hP (uGI_n hy3) rfl in_X3 (by decide) q1893 (fun _ h => h) dX3_led_31 ?_
  refine lv_if_le (tgt := 41) hx hb dX3_led_34 (by decide) (fun c4 => ?_) (fun c4 => ?_)
  · have h := mif_t c4 h
    refine u_aload_n (r := some a0) hx hb dX3_led_41 rfl (lv_at hl 0 rfl) ?_
    obtain ⟨o5, ho5, h⟩ := mbind_n h
    refine u_get hC hP (uGR_n ho5) rfl in_X3 (by decide) q1947 (fun _ h => h) dX3_led_42 ?_
    refine lv_iload_n hx hb dX3_led_45 rfl (lv_at hl 1 rfl) ?_
    obtain ⟨a6, ha6, hha6⟩ := mbind_n h
    subst ha6
    have h := hha6
    obtain ⟨y7, hy7, h⟩ := mbind_n h
    refine u_iald hC hP hy7 rfl dX3_led_46 ?_
    exact w_X3_led_47 hC hR N u2 y7 h hP hS (lv_sub hl [] rfl)
  · have h := mif_f c4 h
    refine lv_iconst (v := 0) hx hb dX3_led_37 (by decide) ?_
    refine lv_goto (tgt := 47) hx hb dX3_led_38 (by decide) ?_
    exact w_X3_led_47 hC hR N u2 0 h hP hS (lv_sub hl [] rfl)
def f_X3_led_26 (N b : Nat) (g : uEnv) (a0 : Nat) (u : UH) (x1 : Int32) (s0 : Option Nat) : Option (Int32 × UH) :=
    f_X3_led_27 N b g a0 u x1 1 s0
set_option maxHeartbeats 4000000 in
set_option maxRecDepth 100000 in
theorem zz_X3_led_26 {G : uG} {a0 : Nat} {uf : UH} {r : Int32} (N : Nat) (u : UH) (x1 : Int32) (s0 : Option Nat) (h : f_X3_led_26 N (ub G) (ug G) a0 u x1 s0 = some (r, uf)) : uf.1 = u.1 ∧ uf.2.1 = u.2.1 := by
  unfold f_X3_led_26 at h
  have hq := zz_X3_led_27 (G := G) (a0 := a0) N u x1 1 s0 h
  exact ⟨by omega, by omega⟩
set_option maxHeartbeats 4000000 in
set_option maxRecDepth 100000 in
theorem w_X3_led_26 {p : Program} {l : Launch} {e : Env} {R : Room} {s : State} {m : MethodId} {args : Array Value} {below : List Frame} {meth : Method} {c : Code} {G : uG} {a0 : Nat} {uf : UH} {r : Int32} (hC : uC p s m args meth c G RX3 cX3_led 2 (some .int)) (hR : 1 ≤ R.frames ∧ 22 ≤ R.locals) (N : Nat) (u : UH) (x1 : Int32) (s0 : Option Nat) (h : f_X3_led_26 N (ub G) (ug G) a0 u x1 s0 = some (r, uf)) {H : Heap} {locs : List Loc} (hP : uP G u H) (hS : va_S (uA G) s.heap H locs) {ls : Array Slot} (hl : lv_has ls 2 [(0, va_rf (some a0)), (1, .int x1)]) : W p l e R s m args below meth c H locs 0 0 (MQ below (uQi G r uf) args s 0 0 (uA G)) (F0 m 26 ls [va_rf s0]) := by
  obtain ⟨⟨hx, hb, hml, hown, hts⟩, hKK⟩ := id hC
  unfold f_X3_led_26 at h
  refine lv_iconst (v := 1) hx hb dX3_led_26 (by decide) ?_
  exact w_X3_led_27 hC hR N u x1 1 s0 h hP hS (lv_sub hl [0, 1] rfl)
def f_X3_led (N b : Nat) (g : uEnv) (u : UH) (a0 : Nat) (x1 : Int32) : Option (Int32 × UH) :=
    (uGI u a0 2 73).bind fun y1 =>
    if y1 = 0 then
    f_X3_led_26 N b g a0 u x1 (some a0)
    else
    (uGI u a0 2 55).bind fun y3 =>
    ucall (f_X3_within N b g u x1 0 (y3 - 1)) fun r6 u4 =>
    if r6 = 0 then
    f_X3_led_26 N b g a0 u4 x1 (some a0)
    else
    f_X3_led_27 N b g a0 u4 x1 0 (some a0)
set_option maxHeartbeats 4000000 in
set_option maxRecDepth 100000 in
theorem zz_X3_led_0 {G : uG} {a0 : Nat} {uf : UH} {r : Int32} (N : Nat) (u : UH) (x1 : Int32) (h : f_X3_led N (ub G) (ug G) u a0 x1 = some (r, uf)) : uf.1 = u.1 ∧ uf.2.1 = u.2.1 := by
  unfold f_X3_led at h
  obtain ⟨y1, hy1, h⟩ := mbind_n h
  by_cases c2 : y1 = 0
  · have h := mif_t c2 h
    have hq := zz_X3_led_26 (G := G) (a0 := a0) N u x1 (some a0) h
    exact ⟨by omega, by omega⟩
  · have h := mif_f c2 h
    obtain ⟨y3, hy3, h⟩ := mbind_n h
    obtain ⟨r6, u4, c5, h⟩ := ucall_n h
    have zu4 := zz_X3_within N (ub G) (ug G) u x1 0 (y3 - 1) r6 u4 c5
    by_cases c7 : r6 = 0
    · have h := mif_t c7 h
      have hq := zz_X3_led_26 (G := G) (a0 := a0) N u4 x1 (some a0) h
      exact ⟨by omega, by omega⟩
    · have h := mif_f c7 h
      have hq := zz_X3_led_27 (G := G) (a0 := a0) N u4 x1 0 (some a0) h
      exact ⟨by omega, by omega⟩
set_option maxHeartbeats 4000000 in
set_option maxRecDepth 100000 in
theorem w_X3_led_0 {p : Program} {l : Launch} {e : Env} {R : Room} {s : State} {m : MethodId} {args : Array Value} {below : List Frame} {meth : Method} {c : Code} {G : uG} {a0 : Nat} {uf : UH} {r : Int32} (hC : uC p s m args meth c G RX3 cX3_led 2 (some .int)) (hR : 1 ≤ R.frames ∧ 22 ≤ R.locals) (N : Nat) (u : UH) (x1 : Int32) (h : f_X3_led N (ub G) (ug G) u a0 x1 = some (r, uf)) {H : Heap} {locs : List Loc} (hP : uP G u H) (hS : va_S (uA G) s.heap H locs) {ls : Array Slot} (hl : lv_has ls 2 [(0, va_rf (some a0)), (1, .int x1)]) : W p l e R s m args below meth c H locs 0 0 (MQ below (uQi G r uf) args s 0 0 (uA G)) (F0 m 0 ls []) := by
  obtain ⟨⟨hx, hb, hml, hown, hts⟩, hKK⟩ := id hC
  unfold f_X3_led at h
  refine u_aload_n (r := some a0) hx hb dX3_led_0 rfl (lv_at hl 0 rfl) ?_
  refine u_aload_n (r := some a0) hx hb dX3_led_1 rfl (lv_at hl 0 rfl) ?_
  obtain ⟨y1, hy1, h⟩ := mbind_n h
  refine u_get hC hP (uGI_n hy1) rfl in_X3 (by decide) q1966 (fun _ h => h) dX3_led_2 ?_
  refine lv_if_eq (tgt := 26) hx hb dX3_led_5 (by decide) (fun c2 => ?_) (fun c2 => ?_)
  · have h := mif_t c2 h
    exact w_X3_led_26 hC hR N u x1 (some a0) h hP hS (lv_sub hl [0, 1] rfl)
  · have h := mif_f c2 h
    refine lv_iload_n hx hb dX3_led_8 rfl (lv_at hl 1 rfl) ?_
    refine lv_iconst (v := 0) hx hb dX3_led_9 (by decide) ?_
    refine u_aload_n (r := some a0) hx hb dX3_led_10 rfl (lv_at hl 0 rfl) ?_
    obtain ⟨y3, hy3, h⟩ := mbind_n h
    refine u_get hC hP (uGI_n hy3) rfl in_X3 (by decide) q1948 (fun _ h => h) dX3_led_11 ?_
    refine lv_iconst (v := 1) hx hb dX3_led_14 (by decide) ?_
    refine lv_isub hx hb dX3_led_15 ?_
    obtain ⟨r6, u4, c5, h⟩ := ucall_n h
    have zu4 := zz_X3_within N (ub G) (ug G) u x1 0 (y3 - 1) r6 u4 c5
    refine u_calli (va_runS (As := [.int x1, .int 0, .int (y3 - 1)]) (rest := [va_rf (some a0)]) hC.1 (met_X3_within l N G u x1 0 (y3 - 1) r6 u4 c5) (va_cwS 3 hts (lw_S q2135 q2136 q103 q2137) rfl rfl rfl (by decide +kernel) ⟨Nat.le_trans (Nat.le_of_ble_eq_true rfl) hR.1, Nat.le_trans (Nat.le_of_ble_eq_true rfl) hR.2⟩) ⟨uPc_blind, fun U hU hW => u_pre hC hP hS hU hW⟩ rfl rfl hl.1 rfl (lv_room (Nat.le_of_ble_eq_true rfl)) dX3_led_16 ⟨Nat.zero_le _, Nat.zero_le _⟩) hS (fun H locs hP hS => ?_)
    refine lv_if_eq (tgt := 26) hx hb dX3_led_19 (by decide) (fun c7 => ?_) (fun c7 => ?_)
    · have h := mif_t c7 h
      exact w_X3_led_26 hC hR N u4 x1 (some a0) h hP hS (lv_sub hl [0, 1] rfl)
    · have h := mif_f c7 h
      refine lv_iconst (v := 0) hx hb dX3_led_22 (by decide) ?_
      refine lv_goto (tgt := 27) hx hb dX3_led_23 (by decide) ?_
      exact w_X3_led_27 hC hR N u4 x1 0 (some a0) h hP hS (lv_sub hl [0, 1] rfl)
theorem zz_X3_led (N b : Nat) (g : uEnv) (u : UH) (a0 : Nat) (x1 : Int32) (r : Int32) (uf : UH) (h : f_X3_led N b g u a0 x1 = some (r, uf)) : uf.1 = u.1 ∧ uf.2.1 = u.2.1 :=
  zz_X3_led_0 (G := ((fun _ => 0, fun _ _ => 0), fun _ => 0, b, g)) (a0 := a0) N u x1 h
theorem met_X3_led (l : Launch) (N : Nat) (G : uG) (u : UH) (a0 : Nat) (x1 : Int32) (r : Int32) (uf : UH) (h : f_X3_led N (ub G) (ug G) u a0 x1 = some (r, uf)) : Met l yX3_led (ws_ yX3_led cX3_led 2 (some .int)) ({ frames := 1, cells := 0, slots := 0, locals := 22 }) (uPc G u [.ref a0, .int x1]) (uQi G r uf) 0 0 (uA G) := by
  exact u_met (own := RX3) (by decide +kernel) rfl (Nat.le_of_ble_eq_true rfl) (fun hC hn hsz ls hl hP => w_X3_led_0 hC ⟨Nat.le_refl _, Nat.le_refl _⟩ N u x1 h hP va_S.rf hl)
def f_X3_make_39 (N b : Nat) (g : uEnv) (a0 : Nat) (u : UH) : Option (Int32 × UH) :=
    if uIs u a0 2 = true then
    ucall (f_X3_no N b g u a0 1) fun r4 u2 =>
    some (r4, u2)
    else none
set_option maxHeartbeats 4000000 in
set_option maxRecDepth 100000 in
theorem zz_X3_make_39 {G : uG} {a0 : Nat} {uf : UH} {r : Int32} (N : Nat) (u : UH) (h : f_X3_make_39 N (ub G) (ug G) a0 u = some (r, uf)) : uf.1 = u.1 ∧ uf.2.1 = u.2.1 := by
  unfold f_X3_make_39 at h
  obtain ⟨c1, h⟩ := mif_n h
  obtain ⟨r4, u2, c3, h⟩ := ucall_n h
  have zu2 := zz_X3_no N (ub G) (ug G) u a0 1 r4 u2 c3
  obtain ⟨hr1, hr2⟩ := uret_n h
  subst hr2
  exact ⟨by omega, by omega⟩
set_option maxHeartbeats 4000000 in
set_option maxRecDepth 100000 in
theorem w_X3_make_39 {p : Program} {l : Launch} {e : Env} {R : Room} {s : State} {m : MethodId} {args : Array Value} {below : List Frame} {meth : Method} {c : Code} {G : uG} {a0 : Nat} {uf : UH} {r : Int32} (hC : uC p s m args meth c G RX3 cX3_make 5 (some .int)) (hR : 1 ≤ R.frames ∧ 28 ≤ R.locals) (N : Nat) (u : UH) (h : f_X3_make_39 N (ub G) (ug G) a0 u = some (r, uf)) {H : Heap} {locs : List Loc} (hP : uP G u H) (hS : va_S (uA G) s.heap H locs) {ls : Array Slot} (hl : lv_has ls 5 [(0, va_rf (some a0))]) : W p l e R s m args below meth c H locs 0 0 (MQ below (uQi G r uf) args s 0 0 (uA G)) (F0 m 39 ls []) := by
  obtain ⟨⟨hx, hb, hml, hown, hts⟩, hKK⟩ := id hC
  unfold f_X3_make_39 at h
  refine u_aload_n (r := some a0) hx hb dX3_make_39 rfl (lv_at hl 0 rfl) ?_
  refine lv_iconst (v := 1) hx hb dX3_make_40 (by decide) ?_
  obtain ⟨c1, h⟩ := mif_n h
  obtain ⟨r4, u2, c3, h⟩ := ucall_n h
  have zu2 := zz_X3_no N (ub G) (ug G) u a0 1 r4 u2 c3
  refine u_calli (va_runV (As := [.int 1]) (rest := []) hC.1 (met_X3_no l N G u a0 1 r4 u2 c3) (cwV 1 hts (lw_V q2138 q2140 qs41 q103 q2141) rfl rfl rfl (by decide +kernel) ⟨Nat.le_trans (Nat.le_of_ble_eq_true rfl) hR.1, Nat.le_trans (Nat.le_of_ble_eq_true rfl) hR.2⟩) ⟨uPc_blind, u_rcv hC hP c1 rfl, fun U hU hW => u_pre hC hP hS hU hW⟩ rfl rfl hl.1 rfl (lv_room (Nat.le_of_ble_eq_true rfl)) dX3_make_41 ⟨Nat.zero_le _, Nat.zero_le _⟩) hS (fun H locs hP hS => ?_)
  obtain ⟨hr1, hr2⟩ := uret_n h
  subst hr1
  subst hr2
  exact u_iret hC hP hS dX3_make_44
def f_X3_make_59 (N b : Nat) (g : uEnv) (a0 : Nat) : Nat → UH → Int32 → Int32 → Option (Int32 × UH)
  | 0, _, _, _ => none
  | n + 1, u, x3, x4 =>
    (uGI u a0 2 24).bind fun y1 =>
    if y1 ≤ x4 then
    if uIs u a0 2 = true then
    ucall (f_X3_mostDug N b g u a0) fun r6 u4 =>
    some (r6, u4)
    else none
    else
    (uGR u a0 2 47).bind fun o7 =>
    (o7).bind fun a8 =>
    (uStI b u a8 0 x4 (x3 - x3 / 5 * 5)).bind fun u9 =>
    mlet (x3 / 5) fun y10 =>
    mlet (x4 + 1) fun y11 =>
    f_X3_make_59 N b g a0 n u9 y10 y11
set_option maxHeartbeats 4000000 in
set_option maxRecDepth 100000 in
theorem zz_X3_make_59 {G : uG} {a0 : Nat} {uf : UH} {r : Int32} (N : Nat) : ∀ (n : Nat) (u : UH) (x3 : Int32) (x4 : Int32), f_X3_make_59 N (ub G) (ug G) a0 n u x3 x4 = some (r, uf) → uf.1 = u.1 ∧ uf.2.1 = u.2.1 := by
  intro n
  induction n with
  | zero =>
    intro u x3 x4 h
    cases h
  | succ n ih =>
    intro u x3 x4 h
    unfold f_X3_make_59 at h
    obtain ⟨y1, hy1, h⟩ := mbind_n h
    by_cases c2 : y1 ≤ x4
    · have h := mif_t c2 h
      obtain ⟨c3, h⟩ := mif_n h
      obtain ⟨r6, u4, c5, h⟩ := ucall_n h
      have zu4 := zz_X3_mostDug N (ub G) (ug G) u a0 r6 u4 c5
      obtain ⟨hr1, hr2⟩ := uret_n h
      subst hr2
      exact ⟨by omega, by omega⟩
    · have h := mif_f c2 h
      obtain ⟨o7, ho7, h⟩ := mbind_n h
      obtain ⟨a8, ha8, hha8⟩ := mbind_n h
      subst ha8
      have h := hha8
      obtain ⟨u9, hu9, h⟩ := mbind_n h
      have zu9 := uStI_sz hu9
      obtain ⟨y10, ey10⟩ : ∃ z, z = x3 / 5 := ⟨_, rfl⟩
      have h := mlet_at ey10 h
      obtain ⟨y11, ey11⟩ : ∃ z : Int32, z = x4 + 1 := ⟨_, rfl⟩
      have h := mlet_at ey11 h
      have hq := ih u9 y10 y11 h
      exact ⟨by omega, by omega⟩
set_option maxHeartbeats 4000000 in
set_option maxRecDepth 100000 in
theorem w_X3_make_59 {p : Program} {l : Launch} {e : Env} {R : Room} {s : State} {m : MethodId} {args : Array Value} {below : List Frame} {meth : Method} {c : Code} {G : uG} {a0 : Nat} {uf : UH} {r : Int32} (hC : uC p s m args meth c G RX3 cX3_make 5 (some .int)) (hR : 1 ≤ R.frames ∧ 28 ≤ R.locals) (N : Nat) : ∀ (n : Nat) (u : UH) (x3 : Int32) (x4 : Int32), f_X3_make_59 N (ub G) (ug G) a0 n u x3 x4 = some (r, uf) → ∀ (H : Heap) (locs : List Loc), uP G u H → va_S (uA G) s.heap H locs → ∀ ls : Array Slot, lv_has ls 5 [(0, va_rf (some a0)), (3, .int x3), (4, .int x4)] → W p l e R s m args below meth c H locs 0 0 (MQ below (uQi G r uf) args s 0 0 (uA G)) (F0 m 59 ls []) := by
  obtain ⟨⟨hx, hb, hml, hown, hts⟩, hKK⟩ := id hC
  intro n
  induction n with
  | zero =>
    intro u x3 x4 h
    cases h
  | succ n ih =>
    intro u x3 x4 h H locs hP hS ls hl
    unfold f_X3_make_59 at h
    refine lv_iload hx hb dX3_make_59 (lv_at hl 2 rfl) ?_
    refine u_aload_n (r := some a0) hx hb dX3_make_61 rfl (lv_at hl 0 rfl) ?_
    obtain ⟨y1, hy1, h⟩ := mbind_n h
    refine u_get hC hP (uGI_n hy1) rfl in_X3 (by decide) q1917 (fun _ h => h) dX3_make_62 ?_
    refine lv_icmp_ge (tgt := 88) hx hb dX3_make_65 (by decide) (fun c2 => ?_) (fun c2 => ?_)
    · have h := mif_t c2 h
      refine u_aload_n (r := some a0) hx hb dX3_make_88 rfl (lv_at hl 0 rfl) ?_
      obtain ⟨c3, h⟩ := mif_n h
      obtain ⟨r6, u4, c5, h⟩ := ucall_n h
      have zu4 := zz_X3_mostDug N (ub G) (ug G) u a0 r6 u4 c5
      refine u_calli (va_runV (As := []) (rest := []) hC.1 (met_X3_mostDug l N G u a0 r6 u4 c5) (cwV 0 hts (lw_V q2537 q2539 qs96 q103 q2540) rfl rfl rfl (by decide +kernel) ⟨Nat.le_trans (Nat.le_of_ble_eq_true rfl) hR.1, Nat.le_trans (Nat.le_of_ble_eq_true rfl) hR.2⟩) ⟨uPc_blind, u_rcv hC hP c3 rfl, fun U hU hW => u_pre hC hP hS hU hW⟩ rfl rfl hl.1 rfl (lv_room (Nat.le_of_ble_eq_true rfl)) dX3_make_89 ⟨Nat.zero_le _, Nat.zero_le _⟩) hS (fun H locs hP hS => ?_)
      obtain ⟨hr1, hr2⟩ := uret_n h
      subst hr1
      subst hr2
      exact u_iret hC hP hS dX3_make_92
    · have h := mif_f c2 h
      refine u_aload_n (r := some a0) hx hb dX3_make_68 rfl (lv_at hl 0 rfl) ?_
      obtain ⟨o7, ho7, h⟩ := mbind_n h
      refine u_get hC hP (uGR_n ho7) rfl in_X3 (by decide) q1940 (fun _ h => h) dX3_make_69 ?_
      refine lv_iload hx hb dX3_make_72 (lv_at hl 2 rfl) ?_
      refine lv_iload_n hx hb dX3_make_74 rfl (lv_at hl 1 rfl) ?_
      refine lv_iconst (v := 5) hx hb dX3_make_75 (by decide) ?_
      refine lv_irem hx hb dX3_make_76 (by decide) ?_
      obtain ⟨a8, ha8, hha8⟩ := mbind_n h
      subst ha8
      have h := hha8
      obtain ⟨u9, hu9, h⟩ := mbind_n h
      have zu9 := uStI_sz hu9
      refine u_iast hC hP hS hu9 rfl dX3_make_77 (fun H locs hP hS => ?_)
      refine lv_iload_n hx hb dX3_make_78 rfl (lv_at hl 1 rfl) ?_
      refine lv_iconst (v := 5) hx hb dX3_make_79 (by decide) ?_
      refine lv_idiv hx hb dX3_make_80 (by decide) ?_
      refine lv_topi (fun y10 ey10 => ?_)
      have h := mlet_at ey10 h
      refine lv_istore_n (i := 3) (lv' := [(3, .int y10), (0, va_rf (some a0)), (4, .int x4)]) hx hb dX3_make_81 rfl hl (by decide) rfl (fun ls hl => ?_)
      obtain ⟨y11, ey11⟩ : ∃ z : Int32, z = x4 + 1 := ⟨_, rfl⟩
      have h := mlet_at ey11 h
      refine lv_iinc (v := y11) (lv' := [(4, .int y11), (3, .int y10), (0, va_rf (some a0))]) hx hb dX3_make_82 hl (k := 2) rfl (by rw [ey11]; rfl) (by decide) rfl (fun ls hl => ?_)
      refine lv_goto (tgt := 59) hx hb dX3_make_85 (by decide) ?_
      exact ih u9 y10 y11 h _ _ hP hS _ (lv_sub hl [2, 1, 0] rfl)
def f_X3_make (N b : Nat) (g : uEnv) (u : UH) (a0 : Nat) (x1 : Int32) (x2 : Int32) : Option (Int32 × UH) :=
    if uIs u a0 2 = true then
    (f_X3_good N b g u a0).bind fun u2 =>
    (uGI u2 a0 2 12).bind fun y4 =>
    if y4 = 0 then
    f_X3_make_39 N b g a0 u2
    else
    (uGI u2 a0 2 23).bind fun y6 =>
    ucall (f_X3_within N b g u2 x1 0 (y6 - 1)) fun r9 u7 =>
    if r9 = 0 then
    f_X3_make_39 N b g a0 u7
    else
    (uGI u7 a0 2 24).bind fun y11 =>
    ucall (f_X3_within N b g u7 x2 0 (y11 - 1)) fun r14 u12 =>
    if r14 = 0 then
    f_X3_make_39 N b g a0 u12
    else
    if uIs u12 a0 2 = true then
    ucall (f_X3_digState N b g u12 a0) fun r19 u17 =>
    if uIs u17 a0 2 = true then
    ucall (f_X3_behind N b g u17 a0 r19 x1 x2) fun r23 u21 =>
    f_X3_make_59 N b g a0 N u21 r23 0
    else none
    else none
    else none
set_option maxHeartbeats 4000000 in
set_option maxRecDepth 100000 in
theorem zz_X3_make_0 {G : uG} {a0 : Nat} {uf : UH} {r : Int32} (N : Nat) (u : UH) (x1 : Int32) (x2 : Int32) (h : f_X3_make N (ub G) (ug G) u a0 x1 x2 = some (r, uf)) : uf.1 = u.1 ∧ uf.2.1 = u.2.1 := by
  unfold f_X3_make at h
  obtain ⟨c1, h⟩ := mif_n h
  obtain ⟨u2, c3, h⟩ := mbind_n h
  have zu2 := zz_X3_good N (ub G) (ug G) u a0 u2 c3
  obtain ⟨y4, hy4, h⟩ := mbind_n h
  by_cases c5 : y4 = 0
  · have h := mif_t c5 h
    have hq := zz_X3_make_39 (G := G) (a0 := a0) N u2 h
    exact ⟨by omega, by omega⟩
  · have h := mif_f c5 h
    obtain ⟨y6, hy6, h⟩ := mbind_n h
    obtain ⟨r9, u7, c8, h⟩ := ucall_n h
    have zu7 := zz_X3_within N (ub G) (ug G) u2 x1 0 (y6 - 1) r9 u7 c8
    by_cases c10 : r9 = 0
    · have h := mif_t c10 h
      have hq := zz_X3_make_39 (G := G) (a0 := a0) N u7 h
      exact ⟨by omega, by omega⟩
    · have h := mif_f c10 h
      obtain ⟨y11, hy11, h⟩ := mbind_n h
      obtain ⟨r14, u12, c13, h⟩ := ucall_n h
      have zu12 := zz_X3_within N (ub G) (ug G) u7 x2 0 (y11 - 1) r14 u12 c13
      by_cases c15 : r14 = 0
      · have h := mif_t c15 h
        have hq := zz_X3_make_39 (G := G) (a0 := a0) N u12 h
        exact ⟨by omega, by omega⟩
      · have h := mif_f c15 h
        obtain ⟨c16, h⟩ := mif_n h
        obtain ⟨r19, u17, c18, h⟩ := ucall_n h
        have zu17 := zz_X3_digState N (ub G) (ug G) u12 a0 r19 u17 c18
        obtain ⟨c20, h⟩ := mif_n h
        obtain ⟨r23, u21, c22, h⟩ := ucall_n h
        have zu21 := zz_X3_behind N (ub G) (ug G) u17 a0 r19 x1 x2 r23 u21 c22
        have hq := zz_X3_make_59 (G := G) (a0 := a0) N N u21 r23 0 h
        exact ⟨by omega, by omega⟩
set_option maxHeartbeats 4000000 in
set_option maxRecDepth 100000 in
theorem w_X3_make_0 {p : Program} {l : Launch} {e : Env} {R : Room} {s : State} {m : MethodId} {args : Array Value} {below : List Frame} {meth : Method} {c : Code} {G : uG} {a0 : Nat} {uf : UH} {r : Int32} (hC : uC p s m args meth c G RX3 cX3_make 5 (some .int)) (hR : 1 ≤ R.frames ∧ 28 ≤ R.locals) (N : Nat) (u : UH) (x1 : Int32) (x2 : Int32) (h : f_X3_make N (ub G) (ug G) u a0 x1 x2 = some (r, uf)) {H : Heap} {locs : List Loc} (hP : uP G u H) (hS : va_S (uA G) s.heap H locs) {ls : Array Slot} (hl : lv_has ls 5 [(0, va_rf (some a0)), (1, .int x1), (2, .int x2)]) : W p l e R s m args below meth c H locs 0 0 (MQ below (uQi G r uf) args s 0 0 (uA G)) (F0 m 0 ls []) := by
  obtain ⟨⟨hx, hb, hml, hown, hts⟩, hKK⟩ := id hC
  unfold f_X3_make at h
  refine u_aload_n (r := some a0) hx hb dX3_make_0 rfl (lv_at hl 0 rfl) ?_
  obtain ⟨c1, h⟩ := mif_n h
  obtain ⟨u2, c3, h⟩ := mbind_n h
  have zu2 := zz_X3_good N (ub G) (ug G) u a0 u2 c3
  refine u_callv (va_runV (As := []) (rest := []) hC.1 (met_X3_good l N G u a0 u2 c3) (cwV 0 hts (lw_V q2131 q2133 qs40 q103 q2134) rfl rfl rfl (by decide +kernel) ⟨Nat.le_trans (Nat.le_of_ble_eq_true rfl) hR.1, Nat.le_trans (Nat.le_of_ble_eq_true rfl) hR.2⟩) ⟨uPc_blind, u_rcv hC hP c1 rfl, fun U hU hW => u_pre hC hP hS hU hW⟩ rfl rfl hl.1 rfl (lv_room (Nat.le_of_ble_eq_true rfl)) dX3_make_1 ⟨Nat.zero_le _, Nat.zero_le _⟩) hS (fun H locs hP hS => ?_)
  refine u_aload_n (r := some a0) hx hb dX3_make_4 rfl (lv_at hl 0 rfl) ?_
  obtain ⟨y4, hy4, h⟩ := mbind_n h
  refine u_get hC hP (uGI_n hy4) rfl in_X3 (by decide) q1905 (fun _ h => h) dX3_make_5 ?_
  refine lv_if_eq (tgt := 39) hx hb dX3_make_8 (by decide) (fun c5 => ?_) (fun c5 => ?_)
  · have h := mif_t c5 h
    exact w_X3_make_39 hC hR N u2 h hP hS (lv_sub hl [0] rfl)
  · have h := mif_f c5 h
    refine lv_iload_n hx hb dX3_make_11 rfl (lv_at hl 1 rfl) ?_
    refine lv_iconst (v := 0) hx hb dX3_make_12 (by decide) ?_
    refine u_aload_n (r := some a0) hx hb dX3_make_13 rfl (lv_at hl 0 rfl) ?_
    obtain ⟨y6, hy6, h⟩ := mbind_n h
    refine u_get hC hP (uGI_n hy6) rfl in_X3 (by decide) q1916 (fun _ h => h) dX3_make_14 ?_
    refine lv_iconst (v := 1) hx hb dX3_make_17 (by decide) ?_
    refine lv_isub hx hb dX3_make_18 ?_
    obtain ⟨r9, u7, c8, h⟩ := ucall_n h
    have zu7 := zz_X3_within N (ub G) (ug G) u2 x1 0 (y6 - 1) r9 u7 c8
    refine u_calli (va_runS (As := [.int x1, .int 0, .int (y6 - 1)]) (rest := []) hC.1 (met_X3_within l N G u2 x1 0 (y6 - 1) r9 u7 c8) (va_cwS 3 hts (lw_S q2135 q2136 q103 q2137) rfl rfl rfl (by decide +kernel) ⟨Nat.le_trans (Nat.le_of_ble_eq_true rfl) hR.1, Nat.le_trans (Nat.le_of_ble_eq_true rfl) hR.2⟩) ⟨uPc_blind, fun U hU hW => u_pre hC hP hS hU hW⟩ rfl rfl hl.1 rfl (lv_room (Nat.le_of_ble_eq_true rfl)) dX3_make_19 ⟨Nat.zero_le _, Nat.zero_le _⟩) hS (fun H locs hP hS => ?_)
    refine lv_if_eq (tgt := 39) hx hb dX3_make_22 (by decide) (fun c10 => ?_) (fun c10 => ?_)
    · have h := mif_t c10 h
      exact w_X3_make_39 hC hR N u7 h hP hS (lv_sub hl [0] rfl)
    · have h := mif_f c10 h
      refine lv_iload_n hx hb dX3_make_25 rfl (lv_at hl 2 rfl) ?_
      refine lv_iconst (v := 0) hx hb dX3_make_26 (by decide) ?_
      refine u_aload_n (r := some a0) hx hb dX3_make_27 rfl (lv_at hl 0 rfl) ?_
      obtain ⟨y11, hy11, h⟩ := mbind_n h
      refine u_get hC hP (uGI_n hy11) rfl in_X3 (by decide) q1917 (fun _ h => h) dX3_make_28 ?_
      refine lv_iconst (v := 1) hx hb dX3_make_31 (by decide) ?_
      refine lv_isub hx hb dX3_make_32 ?_
      obtain ⟨r14, u12, c13, h⟩ := ucall_n h
      have zu12 := zz_X3_within N (ub G) (ug G) u7 x2 0 (y11 - 1) r14 u12 c13
      refine u_calli (va_runS (As := [.int x2, .int 0, .int (y11 - 1)]) (rest := []) hC.1 (met_X3_within l N G u7 x2 0 (y11 - 1) r14 u12 c13) (va_cwS 3 hts (lw_S q2135 q2136 q103 q2137) rfl rfl rfl (by decide +kernel) ⟨Nat.le_trans (Nat.le_of_ble_eq_true rfl) hR.1, Nat.le_trans (Nat.le_of_ble_eq_true rfl) hR.2⟩) ⟨uPc_blind, fun U hU hW => u_pre hC hP hS hU hW⟩ rfl rfl hl.1 rfl (lv_room (Nat.le_of_ble_eq_true rfl)) dX3_make_33 ⟨Nat.zero_le _, Nat.zero_le _⟩) hS (fun H locs hP hS => ?_)
      refine lv_if_ne (tgt := 45) hx hb dX3_make_36 (by decide) (fun c15 => ?_) (fun c15 => ?_)
      · have h := mif_f c15 h
        refine u_aload_n (r := some a0) hx hb dX3_make_45 rfl (lv_at hl 0 rfl) ?_
        refine u_aload_n (r := some a0) hx hb dX3_make_46 rfl (lv_at hl 0 rfl) ?_
        obtain ⟨c16, h⟩ := mif_n h
        obtain ⟨r19, u17, c18, h⟩ := ucall_n h
        have zu17 := zz_X3_digState N (ub G) (ug G) u12 a0 r19 u17 c18
        refine u_calli (va_runV (As := []) (rest := [va_rf (some a0)]) hC.1 (met_X3_digState l N G u12 a0 r19 u17 c18) (cwV 0 hts (lw_V q2525 q2527 qs95 q103 q2528) rfl rfl rfl (by decide +kernel) ⟨Nat.le_trans (Nat.le_of_ble_eq_true rfl) hR.1, Nat.le_trans (Nat.le_of_ble_eq_true rfl) hR.2⟩) ⟨uPc_blind, u_rcv hC hP c16 rfl, fun U hU hW => u_pre hC hP hS hU hW⟩ rfl rfl hl.1 rfl (lv_room (Nat.le_of_ble_eq_true rfl)) dX3_make_47 ⟨Nat.zero_le _, Nat.zero_le _⟩) hS (fun H locs hP hS => ?_)
        refine lv_iload_n hx hb dX3_make_50 rfl (lv_at hl 1 rfl) ?_
        refine lv_iload_n hx hb dX3_make_51 rfl (lv_at hl 2 rfl) ?_
        obtain ⟨c20, h⟩ := mif_n h
        obtain ⟨r23, u21, c22, h⟩ := ucall_n h
        have zu21 := zz_X3_behind N (ub G) (ug G) u17 a0 r19 x1 x2 r23 u21 c22
        refine u_calli (va_runV (As := [.int r19, .int x1, .int x2]) (rest := []) hC.1 (met_X3_behind l N G u17 a0 r19 x1 x2 r23 u21 c22) (cwV 3 hts (lw_V q2521 q2523 qs94 q103 q2524) rfl rfl rfl (by decide +kernel) ⟨Nat.le_trans (Nat.le_of_ble_eq_true rfl) hR.1, Nat.le_trans (Nat.le_of_ble_eq_true rfl) hR.2⟩) ⟨uPc_blind, u_rcv hC hP c20 rfl, fun U hU hW => u_pre hC hP hS hU hW⟩ rfl rfl hl.1 rfl (lv_room (Nat.le_of_ble_eq_true rfl)) dX3_make_52 ⟨Nat.zero_le _, Nat.zero_le _⟩) hS (fun H locs hP hS => ?_)
        refine lv_istore_n (i := 3) (lv' := [(3, .int r23), (0, va_rf (some a0)), (1, .int x1), (2, .int x2)]) hx hb dX3_make_55 rfl hl (by decide) rfl (fun ls hl => ?_)
        refine lv_iconst (v := 0) hx hb dX3_make_56 (by decide) ?_
        refine lv_istore (lv' := [(4, .int 0), (3, .int r23), (0, va_rf (some a0)), (1, .int x1), (2, .int x2)]) hx hb dX3_make_57 hl (by decide) rfl (fun ls hl => ?_)
        exact w_X3_make_59 hC hR N N u21 r23 0 h _ _ hP hS _ (lv_sub hl [2, 1, 0] rfl)
      · have h := mif_t c15 h
        exact w_X3_make_39 hC hR N u12 h hP hS (lv_sub hl [0] rfl)
theorem zz_X3_make (N b : Nat) (g : uEnv) (u : UH) (a0 : Nat) (x1 : Int32) (x2 : Int32) (r : Int32) (uf : UH) (h : f_X3_make N b g u a0 x1 x2 = some (r, uf)) : uf.1 = u.1 ∧ uf.2.1 = u.2.1 :=
  zz_X3_make_0 (G := ((fun _ => 0, fun _ _ => 0), fun _ => 0, b, g)) (a0 := a0) N u x1 x2 h
theorem met_X3_make (l : Launch) (N : Nat) (G : uG) (u : UH) (a0 : Nat) (x1 : Int32) (x2 : Int32) (r : Int32) (uf : UH) (h : f_X3_make N (ub G) (ug G) u a0 x1 x2 = some (r, uf)) : Met l yX3_make (ws_ yX3_make cX3_make 5 (some .int)) ({ frames := 1, cells := 0, slots := 0, locals := 28 }) (uPc G u [.ref a0, .int x1, .int x2]) (uQi G r uf) 0 0 (uA G) := by
  exact u_met (own := RX3) (by decide +kernel) rfl (Nat.le_of_ble_eq_true rfl) (fun hC hn hsz ls hl hP => w_X3_make_0 hC ⟨Nat.le_refl _, Nat.le_refl _⟩ N u x1 x2 h hP va_S.rf hl)
def f_X3_map_18 (N b : Nat) (g : uEnv) (a0 : Nat) (u : UH) : Option (Int32 × UH) :=
    if uIs u a0 2 = true then
    ucall (f_X3_no N b g u a0 1) fun r4 u2 =>
    some (r4, u2)
    else none
set_option maxHeartbeats 4000000 in
set_option maxRecDepth 100000 in
theorem zz_X3_map_18 {G : uG} {a0 : Nat} {uf : UH} {r : Int32} (N : Nat) (u : UH) (h : f_X3_map_18 N (ub G) (ug G) a0 u = some (r, uf)) : uf.1 = u.1 ∧ uf.2.1 = u.2.1 := by
  unfold f_X3_map_18 at h
  obtain ⟨c1, h⟩ := mif_n h
  obtain ⟨r4, u2, c3, h⟩ := ucall_n h
  have zu2 := zz_X3_no N (ub G) (ug G) u a0 1 r4 u2 c3
  obtain ⟨hr1, hr2⟩ := uret_n h
  subst hr2
  exact ⟨by omega, by omega⟩
set_option maxHeartbeats 4000000 in
set_option maxRecDepth 100000 in
theorem w_X3_map_18 {p : Program} {l : Launch} {e : Env} {R : Room} {s : State} {m : MethodId} {args : Array Value} {below : List Frame} {meth : Method} {c : Code} {G : uG} {a0 : Nat} {uf : UH} {r : Int32} (hC : uC p s m args meth c G RX3 cX3_map 4 (some .int)) (hR : 1 ≤ R.frames ∧ 22 ≤ R.locals) (N : Nat) (u : UH) (h : f_X3_map_18 N (ub G) (ug G) a0 u = some (r, uf)) {H : Heap} {locs : List Loc} (hP : uP G u H) (hS : va_S (uA G) s.heap H locs) {ls : Array Slot} (hl : lv_has ls 4 [(0, va_rf (some a0))]) : W p l e R s m args below meth c H locs 0 0 (MQ below (uQi G r uf) args s 0 0 (uA G)) (F0 m 18 ls []) := by
  obtain ⟨⟨hx, hb, hml, hown, hts⟩, hKK⟩ := id hC
  unfold f_X3_map_18 at h
  refine u_aload_n (r := some a0) hx hb dX3_map_18 rfl (lv_at hl 0 rfl) ?_
  refine lv_iconst (v := 1) hx hb dX3_map_19 (by decide) ?_
  obtain ⟨c1, h⟩ := mif_n h
  obtain ⟨r4, u2, c3, h⟩ := ucall_n h
  have zu2 := zz_X3_no N (ub G) (ug G) u a0 1 r4 u2 c3
  refine u_calli (va_runV (As := [.int 1]) (rest := []) hC.1 (met_X3_no l N G u a0 1 r4 u2 c3) (cwV 1 hts (lw_V q2138 q2140 qs41 q103 q2141) rfl rfl rfl (by decide +kernel) ⟨Nat.le_trans (Nat.le_of_ble_eq_true rfl) hR.1, Nat.le_trans (Nat.le_of_ble_eq_true rfl) hR.2⟩) ⟨uPc_blind, u_rcv hC hP c1 rfl, fun U hU hW => u_pre hC hP hS hU hW⟩ rfl rfl hl.1 rfl (lv_room (Nat.le_of_ble_eq_true rfl)) dX3_map_20 ⟨Nat.zero_le _, Nat.zero_le _⟩) hS (fun H locs hP hS => ?_)
  obtain ⟨hr1, hr2⟩ := uret_n h
  subst hr1
  subst hr2
  exact u_iret hC hP hS dX3_map_23
def f_X3_map_44 (N b : Nat) (g : uEnv) (a0 : Nat) (u : UH) : Option (Int32 × UH) :=
    if uIs u a0 2 = true then
    ucall (f_X3_no N b g u a0 2) fun r4 u2 =>
    some (r4, u2)
    else none
set_option maxHeartbeats 4000000 in
set_option maxRecDepth 100000 in
theorem zz_X3_map_44 {G : uG} {a0 : Nat} {uf : UH} {r : Int32} (N : Nat) (u : UH) (h : f_X3_map_44 N (ub G) (ug G) a0 u = some (r, uf)) : uf.1 = u.1 ∧ uf.2.1 = u.2.1 := by
  unfold f_X3_map_44 at h
  obtain ⟨c1, h⟩ := mif_n h
  obtain ⟨r4, u2, c3, h⟩ := ucall_n h
  have zu2 := zz_X3_no N (ub G) (ug G) u a0 2 r4 u2 c3
  obtain ⟨hr1, hr2⟩ := uret_n h
  subst hr2
  exact ⟨by omega, by omega⟩
set_option maxHeartbeats 4000000 in
set_option maxRecDepth 100000 in
theorem w_X3_map_44 {p : Program} {l : Launch} {e : Env} {R : Room} {s : State} {m : MethodId} {args : Array Value} {below : List Frame} {meth : Method} {c : Code} {G : uG} {a0 : Nat} {uf : UH} {r : Int32} (hC : uC p s m args meth c G RX3 cX3_map 4 (some .int)) (hR : 1 ≤ R.frames ∧ 22 ≤ R.locals) (N : Nat) (u : UH) (h : f_X3_map_44 N (ub G) (ug G) a0 u = some (r, uf)) {H : Heap} {locs : List Loc} (hP : uP G u H) (hS : va_S (uA G) s.heap H locs) {ls : Array Slot} (hl : lv_has ls 4 [(0, va_rf (some a0))]) : W p l e R s m args below meth c H locs 0 0 (MQ below (uQi G r uf) args s 0 0 (uA G)) (F0 m 44 ls []) := by
  obtain ⟨⟨hx, hb, hml, hown, hts⟩, hKK⟩ := id hC
  unfold f_X3_map_44 at h
  refine u_aload_n (r := some a0) hx hb dX3_map_44 rfl (lv_at hl 0 rfl) ?_
  refine lv_iconst (v := 2) hx hb dX3_map_45 (by decide) ?_
  obtain ⟨c1, h⟩ := mif_n h
  obtain ⟨r4, u2, c3, h⟩ := ucall_n h
  have zu2 := zz_X3_no N (ub G) (ug G) u a0 2 r4 u2 c3
  refine u_calli (va_runV (As := [.int 2]) (rest := []) hC.1 (met_X3_no l N G u a0 2 r4 u2 c3) (cwV 1 hts (lw_V q2138 q2140 qs41 q103 q2141) rfl rfl rfl (by decide +kernel) ⟨Nat.le_trans (Nat.le_of_ble_eq_true rfl) hR.1, Nat.le_trans (Nat.le_of_ble_eq_true rfl) hR.2⟩) ⟨uPc_blind, u_rcv hC hP c1 rfl, fun U hU hW => u_pre hC hP hS hU hW⟩ rfl rfl hl.1 rfl (lv_room (Nat.le_of_ble_eq_true rfl)) dX3_map_46 ⟨Nat.zero_le _, Nat.zero_le _⟩) hS (fun H locs hP hS => ?_)
  obtain ⟨hr1, hr2⟩ := uret_n h
  subst hr1
  subst hr2
  exact u_iret hC hP hS dX3_map_49
def f_X3_map_82 (N b : Nat) (g : uEnv) (a0 : Nat) : Nat → UH → Int32 → Int32 → Int32 → Option (Int32 × UH)
  | 0, _, _, _, _ => none
  | n + 1, u, x1, x2, x3 =>
    if 100 ≤ x3 then
    some (x1 * x2, u)
    else
    (uGR u a0 2 41).bind fun o2 =>
    (o2).bind fun a3 =>
    (uStI b u a3 0 x3 0).bind fun u4 =>
    (uGR u4 a0 2 42).bind fun o5 =>
    (o5).bind fun a6 =>
    (uStI b u4 a6 0 x3 0).bind fun u7 =>
    (uGR u7 a0 2 43).bind fun o8 =>
    (o8).bind fun a9 =>
    (uStI b u7 a9 0 x3 (-1)).bind fun u10 =>
    mlet (x3 + 1) fun y11 =>
    f_X3_map_82 N b g a0 n u10 x1 x2 y11
set_option maxHeartbeats 4000000 in
set_option maxRecDepth 100000 in
theorem zz_X3_map_82 {G : uG} {a0 : Nat} {uf : UH} {r : Int32} (N : Nat) : ∀ (n : Nat) (u : UH) (x1 : Int32) (x2 : Int32) (x3 : Int32), f_X3_map_82 N (ub G) (ug G) a0 n u x1 x2 x3 = some (r, uf) → uf.1 = u.1 ∧ uf.2.1 = u.2.1 := by
  intro n
  induction n with
  | zero =>
    intro u x1 x2 x3 h
    cases h
  | succ n ih =>
    intro u x1 x2 x3 h
    unfold f_X3_map_82 at h
    by_cases c1 : 100 ≤ x3
    · have h := mif_t c1 h
      obtain ⟨hr1, hr2⟩ := uret_n h
      subst hr2
      exact ⟨by omega, by omega⟩
    · have h := mif_f c1 h
      obtain ⟨o2, ho2, h⟩ := mbind_n h
      obtain ⟨a3, ha3, hha3⟩ := mbind_n h
      subst ha3
      have h := hha3
      obtain ⟨u4, hu4, h⟩ := mbind_n h
      have zu4 := uStI_sz hu4
      obtain ⟨o5, ho5, h⟩ := mbind_n h
      obtain ⟨a6, ha6, hha6⟩ := mbind_n h
      subst ha6
      have h := hha6
      obtain ⟨u7, hu7, h⟩ := mbind_n h
      have zu7 := uStI_sz hu7
      obtain ⟨o8, ho8, h⟩ := mbind_n h
      obtain ⟨a9, ha9, hha9⟩ := mbind_n h
      subst ha9
      have h := hha9
      obtain ⟨u10, hu10, h⟩ := mbind_n h
      have zu10 := uStI_sz hu10
      obtain ⟨y11, ey11⟩ : ∃ z : Int32, z = x3 + 1 := ⟨_, rfl⟩
      have h := mlet_at ey11 h
      have hq := ih u10 x1 x2 y11 h
      exact ⟨by omega, by omega⟩
set_option maxHeartbeats 4000000 in
set_option maxRecDepth 100000 in
theorem w_X3_map_82 {p : Program} {l : Launch} {e : Env} {R : Room} {s : State} {m : MethodId} {args : Array Value} {below : List Frame} {meth : Method} {c : Code} {G : uG} {a0 : Nat} {uf : UH} {r : Int32} (hC : uC p s m args meth c G RX3 cX3_map 4 (some .int)) (hR : 1 ≤ R.frames ∧ 22 ≤ R.locals) (N : Nat) : ∀ (n : Nat) (u : UH) (x1 : Int32) (x2 : Int32) (x3 : Int32), f_X3_map_82 N (ub G) (ug G) a0 n u x1 x2 x3 = some (r, uf) → ∀ (H : Heap) (locs : List Loc), uP G u H → va_S (uA G) s.heap H locs → ∀ ls : Array Slot, lv_has ls 4 [(0, va_rf (some a0)), (1, .int x1), (2, .int x2), (3, .int x3)] → W p l e R s m args below meth c H locs 0 0 (MQ below (uQi G r uf) args s 0 0 (uA G)) (F0 m 82 ls []) := by
  obtain ⟨⟨hx, hb, hml, hown, hts⟩, hKK⟩ := id hC
  intro n
  induction n with
  | zero =>
    intro u x1 x2 x3 h
    cases h
  | succ n ih =>
    intro u x1 x2 x3 h H locs hP hS ls hl
    unfold f_X3_map_82 at h
    refine lv_iload_n hx hb dX3_map_82 rfl (lv_at hl 3 rfl) ?_
    refine lv_bipush (v := 100) hx hb dX3_map_83 (by decide) ?_
    refine lv_icmp_ge (tgt := 115) hx hb dX3_map_85 (by decide) (fun c1 => ?_) (fun c1 => ?_)
    · have h := mif_t c1 h
      refine lv_iload_n hx hb dX3_map_115 rfl (lv_at hl 1 rfl) ?_
      refine lv_iload_n hx hb dX3_map_116 rfl (lv_at hl 2 rfl) ?_
      refine lv_imul hx hb dX3_map_117 ?_
      obtain ⟨hr1, hr2⟩ := uret_n h
      subst hr1
      subst hr2
      exact u_iret hC hP hS dX3_map_118
    · have h := mif_f c1 h
      refine u_aload_n (r := some a0) hx hb dX3_map_88 rfl (lv_at hl 0 rfl) ?_
      obtain ⟨o2, ho2, h⟩ := mbind_n h
      refine u_get hC hP (uGR_n ho2) rfl in_X3 (by decide) q1934 (fun _ h => h) dX3_map_89 ?_
      refine lv_iload_n hx hb dX3_map_92 rfl (lv_at hl 3 rfl) ?_
      refine lv_iconst (v := 0) hx hb dX3_map_93 (by decide) ?_
      obtain ⟨a3, ha3, hha3⟩ := mbind_n h
      subst ha3
      have h := hha3
      obtain ⟨u4, hu4, h⟩ := mbind_n h
      have zu4 := uStI_sz hu4
      refine u_iast hC hP hS hu4 rfl dX3_map_94 (fun H locs hP hS => ?_)
      refine u_aload_n (r := some a0) hx hb dX3_map_95 rfl (lv_at hl 0 rfl) ?_
      obtain ⟨o5, ho5, h⟩ := mbind_n h
      refine u_get hC hP (uGR_n ho5) rfl in_X3 (by decide) q1935 (fun _ h => h) dX3_map_96 ?_
      refine lv_iload_n hx hb dX3_map_99 rfl (lv_at hl 3 rfl) ?_
      refine lv_iconst (v := 0) hx hb dX3_map_100 (by decide) ?_
      obtain ⟨a6, ha6, hha6⟩ := mbind_n h
      subst ha6
      have h := hha6
      obtain ⟨u7, hu7, h⟩ := mbind_n h
      have zu7 := uStI_sz hu7
      refine u_iast hC hP hS hu7 rfl dX3_map_101 (fun H locs hP hS => ?_)
      refine u_aload_n (r := some a0) hx hb dX3_map_102 rfl (lv_at hl 0 rfl) ?_
      obtain ⟨o8, ho8, h⟩ := mbind_n h
      refine u_get hC hP (uGR_n ho8) rfl in_X3 (by decide) q1936 (fun _ h => h) dX3_map_103 ?_
      refine lv_iload_n hx hb dX3_map_106 rfl (lv_at hl 3 rfl) ?_
      refine lv_iconst (v := (-1)) hx hb dX3_map_107 (by decide) ?_
      obtain ⟨a9, ha9, hha9⟩ := mbind_n h
      subst ha9
      have h := hha9
      obtain ⟨u10, hu10, h⟩ := mbind_n h
      have zu10 := uStI_sz hu10
      refine u_iast hC hP hS hu10 rfl dX3_map_108 (fun H locs hP hS => ?_)
      obtain ⟨y11, ey11⟩ : ∃ z : Int32, z = x3 + 1 := ⟨_, rfl⟩
      have h := mlet_at ey11 h
      refine lv_iinc (v := y11) (lv' := [(3, .int y11), (0, va_rf (some a0)), (1, .int x1), (2, .int x2)]) hx hb dX3_map_109 hl (k := 3) rfl (by rw [ey11]; rfl) (by decide) rfl (fun ls hl => ?_)
      refine lv_goto (tgt := 82) hx hb dX3_map_112 (by decide) ?_
      exact ih u10 x1 x2 y11 h _ _ hP hS _ (lv_sub hl [1, 2, 3, 0] rfl)
def f_X3_map (N b : Nat) (g : uEnv) (u : UH) (a0 : Nat) (x1 : Int32) (x2 : Int32) : Option (Int32 × UH) :=
    if uIs u a0 2 = true then
    (f_X3_good N b g u a0).bind fun u2 =>
    (uGI u2 a0 2 12).bind fun y4 =>
    if y4 = 0 then
    f_X3_map_18 N b g a0 u2
    else
    (uGI u2 a0 2 22).bind fun y6 =>
    if y6 = 0 then
    f_X3_map_18 N b g a0 u2
    else
    ucall (f_X3_within N b g u2 x1 1 10) fun r10 u8 =>
    if r10 = 0 then
    f_X3_map_44 N b g a0 u8
    else
    ucall (f_X3_within N b g u8 x2 1 10) fun r14 u12 =>
    if r14 = 0 then
    f_X3_map_44 N b g a0 u12
    else
    (uPut b u12 a0 2 34 (.int 1)).bind fun u16 =>
    (uPut b u16 a0 2 35 (.int x1)).bind fun u17 =>
    (uPut b u17 a0 2 36 (.int x2)).bind fun u18 =>
    (uPut b u18 a0 2 37 (.int 0)).bind fun u19 =>
    (uPut b u19 a0 2 40 (.int 0)).bind fun u20 =>
    (uPut b u20 a0 2 51 (.int 0)).bind fun u21 =>
    f_X3_map_82 N b g a0 N u21 x1 x2 0
    else none
set_option maxHeartbeats 4000000 in
set_option maxRecDepth 100000 in
theorem zz_X3_map_0 {G : uG} {a0 : Nat} {uf : UH} {r : Int32} (N : Nat) (u : UH) (x1 : Int32) (x2 : Int32) (h : f_X3_map N (ub G) (ug G) u a0 x1 x2 = some (r, uf)) : uf.1 = u.1 ∧ uf.2.1 = u.2.1 := by
  unfold f_X3_map at h
  obtain ⟨c1, h⟩ := mif_n h
  obtain ⟨u2, c3, h⟩ := mbind_n h
  have zu2 := zz_X3_good N (ub G) (ug G) u a0 u2 c3
  obtain ⟨y4, hy4, h⟩ := mbind_n h
  by_cases c5 : y4 = 0
  · have h := mif_t c5 h
    have hq := zz_X3_map_18 (G := G) (a0 := a0) N u2 h
    exact ⟨by omega, by omega⟩
  · have h := mif_f c5 h
    obtain ⟨y6, hy6, h⟩ := mbind_n h
    by_cases c7 : y6 = 0
    · have h := mif_t c7 h
      have hq := zz_X3_map_18 (G := G) (a0 := a0) N u2 h
      exact ⟨by omega, by omega⟩
    · have h := mif_f c7 h
      obtain ⟨r10, u8, c9, h⟩ := ucall_n h
      have zu8 := zz_X3_within N (ub G) (ug G) u2 x1 1 10 r10 u8 c9
      by_cases c11 : r10 = 0
      · have h := mif_t c11 h
        have hq := zz_X3_map_44 (G := G) (a0 := a0) N u8 h
        exact ⟨by omega, by omega⟩
      · have h := mif_f c11 h
        obtain ⟨r14, u12, c13, h⟩ := ucall_n h
        have zu12 := zz_X3_within N (ub G) (ug G) u8 x2 1 10 r14 u12 c13
        by_cases c15 : r14 = 0
        · have h := mif_t c15 h
          have hq := zz_X3_map_44 (G := G) (a0 := a0) N u12 h
          exact ⟨by omega, by omega⟩
        · have h := mif_f c15 h
          obtain ⟨u16, hu16, h⟩ := mbind_n h
          have zu16 := uPut_sz hu16
          obtain ⟨u17, hu17, h⟩ := mbind_n h
          have zu17 := uPut_sz hu17
          obtain ⟨u18, hu18, h⟩ := mbind_n h
          have zu18 := uPut_sz hu18
          obtain ⟨u19, hu19, h⟩ := mbind_n h
          have zu19 := uPut_sz hu19
          obtain ⟨u20, hu20, h⟩ := mbind_n h
          have zu20 := uPut_sz hu20
          obtain ⟨u21, hu21, h⟩ := mbind_n h
          have zu21 := uPut_sz hu21
          have hq := zz_X3_map_82 (G := G) (a0 := a0) N N u21 x1 x2 0 h
          exact ⟨by omega, by omega⟩
set_option maxHeartbeats 4000000 in
set_option maxRecDepth 100000 in
theorem w_X3_map_0 {p : Program} {l : Launch} {e : Env} {R : Room} {s : State} {m : MethodId} {args : Array Value} {below : List Frame} {meth : Method} {c : Code} {G : uG} {a0 : Nat} {uf : UH} {r : Int32} (hC : uC p s m args meth c G RX3 cX3_map 4 (some .int)) (hR : 1 ≤ R.frames ∧ 22 ≤ R.locals) (N : Nat) (u : UH) (x1 : Int32) (x2 : Int32) (h : f_X3_map N (ub G) (ug G) u a0 x1 x2 = some (r, uf)) {H : Heap} {locs : List Loc} (hP : uP G u H) (hS : va_S (uA G) s.heap H locs) {ls : Array Slot} (hl : lv_has ls 4 [(0, va_rf (some a0)), (1, .int x1), (2, .int x2)]) : W p l e R s m args below meth c H locs 0 0 (MQ below (uQi G r uf) args s 0 0 (uA G)) (F0 m 0 ls []) := by
  obtain ⟨⟨hx, hb, hml, hown, hts⟩, hKK⟩ := id hC
  unfold f_X3_map at h
  refine u_aload_n (r := some a0) hx hb dX3_map_0 rfl (lv_at hl 0 rfl) ?_
  obtain ⟨c1, h⟩ := mif_n h
  obtain ⟨u2, c3, h⟩ := mbind_n h
  have zu2 := zz_X3_good N (ub G) (ug G) u a0 u2 c3
  refine u_callv (va_runV (As := []) (rest := []) hC.1 (met_X3_good l N G u a0 u2 c3) (cwV 0 hts (lw_V q2131 q2133 qs40 q103 q2134) rfl rfl rfl (by decide +kernel) ⟨Nat.le_trans (Nat.le_of_ble_eq_true rfl) hR.1, Nat.le_trans (Nat.le_of_ble_eq_true rfl) hR.2⟩) ⟨uPc_blind, u_rcv hC hP c1 rfl, fun U hU hW => u_pre hC hP hS hU hW⟩ rfl rfl hl.1 rfl (lv_room (Nat.le_of_ble_eq_true rfl)) dX3_map_1 ⟨Nat.zero_le _, Nat.zero_le _⟩) hS (fun H locs hP hS => ?_)
  refine u_aload_n (r := some a0) hx hb dX3_map_4 rfl (lv_at hl 0 rfl) ?_
  obtain ⟨y4, hy4, h⟩ := mbind_n h
  refine u_get hC hP (uGI_n hy4) rfl in_X3 (by decide) q1905 (fun _ h => h) dX3_map_5 ?_
  refine lv_if_eq (tgt := 18) hx hb dX3_map_8 (by decide) (fun c5 => ?_) (fun c5 => ?_)
  · have h := mif_t c5 h
    exact w_X3_map_18 hC hR N u2 h hP hS (lv_sub hl [0] rfl)
  · have h := mif_f c5 h
    refine u_aload_n (r := some a0) hx hb dX3_map_11 rfl (lv_at hl 0 rfl) ?_
    obtain ⟨y6, hy6, h⟩ := mbind_n h
    refine u_get hC hP (uGI_n hy6) rfl in_X3 (by decide) q1915 (fun _ h => h) dX3_map_12 ?_
    refine lv_if_ne (tgt := 24) hx hb dX3_map_15 (by decide) (fun c7 => ?_) (fun c7 => ?_)
    · have h := mif_f c7 h
      refine lv_iload_n hx hb dX3_map_24 rfl (lv_at hl 1 rfl) ?_
      refine lv_iconst (v := 1) hx hb dX3_map_25 (by decide) ?_
      refine lv_bipush (v := 10) hx hb dX3_map_26 (by decide) ?_
      obtain ⟨r10, u8, c9, h⟩ := ucall_n h
      have zu8 := zz_X3_within N (ub G) (ug G) u2 x1 1 10 r10 u8 c9
      refine u_calli (va_runS (As := [.int x1, .int 1, .int 10]) (rest := []) hC.1 (met_X3_within l N G u2 x1 1 10 r10 u8 c9) (va_cwS 3 hts (lw_S q2135 q2136 q103 q2137) rfl rfl rfl (by decide +kernel) ⟨Nat.le_trans (Nat.le_of_ble_eq_true rfl) hR.1, Nat.le_trans (Nat.le_of_ble_eq_true rfl) hR.2⟩) ⟨uPc_blind, fun U hU hW => u_pre hC hP hS hU hW⟩ rfl rfl hl.1 rfl (lv_room (Nat.le_of_ble_eq_true rfl)) dX3_map_28 ⟨Nat.zero_le _, Nat.zero_le _⟩) hS (fun H locs hP hS => ?_)
      refine lv_if_eq (tgt := 44) hx hb dX3_map_31 (by decide) (fun c11 => ?_) (fun c11 => ?_)
      · have h := mif_t c11 h
        exact w_X3_map_44 hC hR N u8 h hP hS (lv_sub hl [0] rfl)
      · have h := mif_f c11 h
        refine lv_iload_n hx hb dX3_map_34 rfl (lv_at hl 2 rfl) ?_
        refine lv_iconst (v := 1) hx hb dX3_map_35 (by decide) ?_
        refine lv_bipush (v := 10) hx hb dX3_map_36 (by decide) ?_
        obtain ⟨r14, u12, c13, h⟩ := ucall_n h
        have zu12 := zz_X3_within N (ub G) (ug G) u8 x2 1 10 r14 u12 c13
        refine u_calli (va_runS (As := [.int x2, .int 1, .int 10]) (rest := []) hC.1 (met_X3_within l N G u8 x2 1 10 r14 u12 c13) (va_cwS 3 hts (lw_S q2135 q2136 q103 q2137) rfl rfl rfl (by decide +kernel) ⟨Nat.le_trans (Nat.le_of_ble_eq_true rfl) hR.1, Nat.le_trans (Nat.le_of_ble_eq_true rfl) hR.2⟩) ⟨uPc_blind, fun U hU hW => u_pre hC hP hS hU hW⟩ rfl rfl hl.1 rfl (lv_room (Nat.le_of_ble_eq_true rfl)) dX3_map_38 ⟨Nat.zero_le _, Nat.zero_le _⟩) hS (fun H locs hP hS => ?_)
        refine lv_if_ne (tgt := 50) hx hb dX3_map_41 (by decide) (fun c15 => ?_) (fun c15 => ?_)
        · have h := mif_f c15 h
          refine u_aload_n (r := some a0) hx hb dX3_map_50 rfl (lv_at hl 0 rfl) ?_
          refine lv_iconst (v := 1) hx hb dX3_map_51 (by decide) ?_
          obtain ⟨u16, hu16, h⟩ := mbind_n h
          have zu16 := uPut_sz hu16
          refine u_put hC hP hS hu16 rfl in_X3 tyX3 tyX3_ok nmX3 (by decide) q1927 (fun _ h => h) rfl (ty := .boolean) (tyX3_ok 34 (by decide)) (uFit_n (ty := .boolean) (v := 1) rfl).1 (uFit_n (ty := .boolean) (v := 1) rfl).2 dX3_map_52 (fun H locs hP hS => ?_)
          refine u_aload_n (r := some a0) hx hb dX3_map_55 rfl (lv_at hl 0 rfl) ?_
          refine lv_iload_n hx hb dX3_map_56 rfl (lv_at hl 1 rfl) ?_
          obtain ⟨u17, hu17, h⟩ := mbind_n h
          have zu17 := uPut_sz hu17
          refine u_put hC hP hS hu17 rfl in_X3 tyX3 tyX3_ok nmX3 (by decide) q1928 (fun _ h => h) rfl (ty := .int) (tyX3_ok 35 (by decide)) rfl rfl dX3_map_57 (fun H locs hP hS => ?_)
          refine u_aload_n (r := some a0) hx hb dX3_map_60 rfl (lv_at hl 0 rfl) ?_
          refine lv_iload_n hx hb dX3_map_61 rfl (lv_at hl 2 rfl) ?_
          obtain ⟨u18, hu18, h⟩ := mbind_n h
          have zu18 := uPut_sz hu18
          refine u_put hC hP hS hu18 rfl in_X3 tyX3 tyX3_ok nmX3 (by decide) q1929 (fun _ h => h) rfl (ty := .int) (tyX3_ok 36 (by decide)) rfl rfl dX3_map_62 (fun H locs hP hS => ?_)
          refine u_aload_n (r := some a0) hx hb dX3_map_65 rfl (lv_at hl 0 rfl) ?_
          refine lv_iconst (v := 0) hx hb dX3_map_66 (by decide) ?_
          obtain ⟨u19, hu19, h⟩ := mbind_n h
          have zu19 := uPut_sz hu19
          refine u_put hC hP hS hu19 rfl in_X3 tyX3 tyX3_ok nmX3 (by decide) q1930 (fun _ h => h) rfl (ty := .int) (tyX3_ok 37 (by decide)) rfl rfl dX3_map_67 (fun H locs hP hS => ?_)
          refine u_aload_n (r := some a0) hx hb dX3_map_70 rfl (lv_at hl 0 rfl) ?_
          refine lv_iconst (v := 0) hx hb dX3_map_71 (by decide) ?_
          obtain ⟨u20, hu20, h⟩ := mbind_n h
          have zu20 := uPut_sz hu20
          refine u_put hC hP hS hu20 rfl in_X3 tyX3 tyX3_ok nmX3 (by decide) q1933 (fun _ h => h) rfl (ty := .int) (tyX3_ok 40 (by decide)) rfl rfl dX3_map_72 (fun H locs hP hS => ?_)
          refine u_aload_n (r := some a0) hx hb dX3_map_75 rfl (lv_at hl 0 rfl) ?_
          refine lv_iconst (v := 0) hx hb dX3_map_76 (by decide) ?_
          obtain ⟨u21, hu21, h⟩ := mbind_n h
          have zu21 := uPut_sz hu21
          refine u_put hC hP hS hu21 rfl in_X3 tyX3 tyX3_ok nmX3 (by decide) q1944 (fun _ h => h) rfl (ty := .boolean) (tyX3_ok 51 (by decide)) (uFit_n (ty := .boolean) (v := 0) rfl).1 (uFit_n (ty := .boolean) (v := 0) rfl).2 dX3_map_77 (fun H locs hP hS => ?_)
          refine lv_iconst (v := 0) hx hb dX3_map_80 (by decide) ?_
          refine lv_istore_n (i := 3) (lv' := [(3, .int 0), (0, va_rf (some a0)), (1, .int x1), (2, .int x2)]) hx hb dX3_map_81 rfl hl (by decide) rfl (fun ls hl => ?_)
          exact w_X3_map_82 hC hR N N u21 x1 x2 0 h _ _ hP hS _ (lv_sub hl [1, 2, 3, 0] rfl)
        · have h := mif_t c15 h
          exact w_X3_map_44 hC hR N u12 h hP hS (lv_sub hl [0] rfl)
    · have h := mif_t c7 h
      exact w_X3_map_18 hC hR N u2 h hP hS (lv_sub hl [0] rfl)
theorem zz_X3_map (N b : Nat) (g : uEnv) (u : UH) (a0 : Nat) (x1 : Int32) (x2 : Int32) (r : Int32) (uf : UH) (h : f_X3_map N b g u a0 x1 x2 = some (r, uf)) : uf.1 = u.1 ∧ uf.2.1 = u.2.1 :=
  zz_X3_map_0 (G := ((fun _ => 0, fun _ _ => 0), fun _ => 0, b, g)) (a0 := a0) N u x1 x2 h
theorem met_X3_map (l : Launch) (N : Nat) (G : uG) (u : UH) (a0 : Nat) (x1 : Int32) (x2 : Int32) (r : Int32) (uf : UH) (h : f_X3_map N (ub G) (ug G) u a0 x1 x2 = some (r, uf)) : Met l yX3_map (ws_ yX3_map cX3_map 4 (some .int)) ({ frames := 1, cells := 0, slots := 0, locals := 22 }) (uPc G u [.ref a0, .int x1, .int x2]) (uQi G r uf) 0 0 (uA G) := by
  exact u_met (own := RX3) (by decide +kernel) rfl (Nat.le_of_ble_eq_true rfl) (fun hC hn hsz ls hl hP => w_X3_map_0 hC ⟨Nat.le_refl _, Nat.le_refl _⟩ N u x1 x2 h hP va_S.rf hl)
def f_X3_part_23 (N b : Nat) (g : uEnv) (u : UH) (s0 : Int64) : Option (Int64 × UH) :=
    some (s0, u)
set_option maxHeartbeats 4000000 in
set_option maxRecDepth 100000 in
theorem zz_X3_part_23 {G : uG} {uf : UH} {r : Int64} (N : Nat) (u : UH) (s0 : Int64) (h : f_X3_part_23 N (ub G) (ug G) u s0 = some (r, uf)) : uf.1 = u.1 ∧ uf.2.1 = u.2.1 := by
  unfold f_X3_part_23 at h
  obtain ⟨hr1, hr2⟩ := uret_n h
  subst hr2
  exact ⟨by omega, by omega⟩
set_option maxHeartbeats 4000000 in
set_option maxRecDepth 100000 in
theorem w_X3_part_23 {p : Program} {l : Launch} {e : Env} {R : Room} {s : State} {m : MethodId} {args : Array Value} {below : List Frame} {meth : Method} {c : Code} {G : uG} {uf : UH} {r : Int64} (hC : uC p s m args meth c G RX3 cX3_part 7 (some .long)) (hR : 1 ≤ R.frames ∧ 29 ≤ R.locals) (N : Nat) (u : UH) (s0 : Int64) (h : f_X3_part_23 N (ub G) (ug G) u s0 = some (r, uf)) {H : Heap} {locs : List Loc} (hP : uP G u H) (hS : va_S (uA G) s.heap H locs) {ls : Array Slot} (hl : lv_has ls 7 []) : W p l e R s m args below meth c H locs 0 0 (MQ below (uQl G r uf) args s 0 0 (uA G)) (F0 m 23 ls [.long s0]) := by
  obtain ⟨⟨hx, hb, hml, hown, hts⟩, hKK⟩ := id hC
  unfold f_X3_part_23 at h
  obtain ⟨hr1, hr2⟩ := uret_n h
  subst hr1
  subst hr2
  exact u_lret hC hP hS dX3_part_23
def f_X3_part (N b : Nat) (g : uEnv) (u : UH) (x0 : Int64) (x2 : Int64) (x4 : Int32) : Option (Int64 × UH) :=
    ucall (f_X3_common N b g u x0 x2) fun r3 u1 =>
    if x4 = 0 then
    if ¬ r3 = 0 then
    f_X3_part_23 N b g u1 (x0 / r3)
    else none
    else
    if ¬ r3 = 0 then
    f_X3_part_23 N b g u1 (x2 / r3)
    else none
set_option maxHeartbeats 4000000 in
set_option maxRecDepth 100000 in
theorem zz_X3_part_0 {G : uG} {uf : UH} {r : Int64} (N : Nat) (u : UH) (x0 : Int64) (x2 : Int64) (x4 : Int32) (h : f_X3_part N (ub G) (ug G) u x0 x2 x4 = some (r, uf)) : uf.1 = u.1 ∧ uf.2.1 = u.2.1 := by
  unfold f_X3_part at h
  obtain ⟨r3, u1, c2, h⟩ := ucall_n h
  have zu1 := zz_X3_common N (ub G) (ug G) u x0 x2 r3 u1 c2
  by_cases c4 : x4 = 0
  · have h := mif_t c4 h
    obtain ⟨c5, h⟩ := mif_n h
    have hq := zz_X3_part_23 (G := G) N u1 (x0 / r3) h
    exact ⟨by omega, by omega⟩
  · have h := mif_f c4 h
    obtain ⟨c6, h⟩ := mif_n h
    have hq := zz_X3_part_23 (G := G) N u1 (x2 / r3) h
    exact ⟨by omega, by omega⟩
set_option maxHeartbeats 4000000 in
set_option maxRecDepth 100000 in
theorem w_X3_part_0 {p : Program} {l : Launch} {e : Env} {R : Room} {s : State} {m : MethodId} {args : Array Value} {below : List Frame} {meth : Method} {c : Code} {G : uG} {uf : UH} {r : Int64} (hC : uC p s m args meth c G RX3 cX3_part 7 (some .long)) (hR : 1 ≤ R.frames ∧ 29 ≤ R.locals) (N : Nat) (u : UH) (x0 : Int64) (x2 : Int64) (x4 : Int32) (h : f_X3_part N (ub G) (ug G) u x0 x2 x4 = some (r, uf)) {H : Heap} {locs : List Loc} (hP : uP G u H) (hS : va_S (uA G) s.heap H locs) {ls : Array Slot} (hl : lv_has ls 7 [(0, .long x0), (2, .long x2), (4, .int x4)]) : W p l e R s m args below meth c H locs 0 0 (MQ below (uQl G r uf) args s 0 0 (uA G)) (F0 m 0 ls []) := by
  obtain ⟨⟨hx, hb, hml, hown, hts⟩, hKK⟩ := id hC
  unfold f_X3_part at h
  refine lv_lload_n hx hb dX3_part_0 rfl (lv_at hl 0 rfl) ?_
  refine lv_lload_n hx hb dX3_part_1 rfl (lv_at hl 1 rfl) ?_
  obtain ⟨r3, u1, c2, h⟩ := ucall_n h
  have zu1 := zz_X3_common N (ub G) (ug G) u x0 x2 r3 u1 c2
  refine u_calll (va_runS (As := [.long x0, .long x2]) (rest := []) hC.1 (met_X3_common l N G u x0 x2 r3 u1 c2) (va_cwS 2 hts (lw_S q2412 q2413 q103 q2414) rfl rfl rfl (by decide +kernel) ⟨Nat.le_trans (Nat.le_of_ble_eq_true rfl) hR.1, Nat.le_trans (Nat.le_of_ble_eq_true rfl) hR.2⟩) ⟨uPc_blind, fun U hU hW => u_pre hC hP hS hU hW⟩ rfl rfl hl.1 rfl (lv_room (Nat.le_of_ble_eq_true rfl)) dX3_part_2 ⟨Nat.zero_le _, Nat.zero_le _⟩) hS (fun H locs hP hS => ?_)
  refine lv_lstore (lv' := [(5, .long r3), (0, .long x0), (2, .long x2), (4, .int x4)]) hx hb dX3_part_5 hl (by decide) rfl (fun ls hl => ?_)
  refine lv_iload hx hb dX3_part_7 (lv_at hl 3 rfl) ?_
  refine lv_if_eq (tgt := 19) hx hb dX3_part_9 (by decide) (fun c4 => ?_) (fun c4 => ?_)
  · have h := mif_t c4 h
    refine lv_lload_n hx hb dX3_part_19 rfl (lv_at hl 1 rfl) ?_
    refine lv_lload hx hb dX3_part_20 (lv_at hl 0 rfl) ?_
    obtain ⟨c5, h⟩ := mif_n h
    refine lv_ldiv hx hb dX3_part_22 c5 ?_
    exact w_X3_part_23 hC hR N u1 (x0 / r3) h hP hS (lv_sub hl [] rfl)
  · have h := mif_f c4 h
    refine lv_lload_n hx hb dX3_part_12 rfl (lv_at hl 2 rfl) ?_
    refine lv_lload hx hb dX3_part_13 (lv_at hl 0 rfl) ?_
    obtain ⟨c6, h⟩ := mif_n h
    refine lv_ldiv hx hb dX3_part_15 c6 ?_
    refine lv_goto (tgt := 23) hx hb dX3_part_16 (by decide) ?_
    exact w_X3_part_23 hC hR N u1 (x2 / r3) h hP hS (lv_sub hl [] rfl)
theorem zz_X3_part (N b : Nat) (g : uEnv) (u : UH) (x0 : Int64) (x2 : Int64) (x4 : Int32) (r : Int64) (uf : UH) (h : f_X3_part N b g u x0 x2 x4 = some (r, uf)) : uf.1 = u.1 ∧ uf.2.1 = u.2.1 :=
  zz_X3_part_0 (G := ((fun _ => 0, fun _ _ => 0), fun _ => 0, b, g)) N u x0 x2 x4 h
theorem met_X3_part (l : Launch) (N : Nat) (G : uG) (u : UH) (x0 : Int64) (x2 : Int64) (x4 : Int32) (r : Int64) (uf : UH) (h : f_X3_part N (ub G) (ug G) u x0 x2 x4 = some (r, uf)) : Met l yX3_part (ws_ yX3_part cX3_part 7 (some .long)) ({ frames := 1, cells := 0, slots := 0, locals := 29 }) (uPc G u [.long x0, .long x2, .int x4]) (uQl G r uf) 0 0 (uA G) := by
  exact u_met (own := RX3) (by decide +kernel) rfl (Nat.le_of_ble_eq_true rfl) (fun hC hn hsz ls hl hP => w_X3_part_0 hC ⟨Nat.le_refl _, Nat.le_refl _⟩ N u x0 x2 x4 h hP va_S.rf hl)
def f_X3_mean_20 (N b : Nat) (g : uEnv) (a0 : Nat) (u : UH) : Option (Int64 × UH) :=
    (uPut b u a0 2 39 (.int 1)).bind fun u1 =>
    some ((-9223372036854775808), u1)
set_option maxHeartbeats 4000000 in
set_option maxRecDepth 100000 in
theorem zz_X3_mean_20 {G : uG} {a0 : Nat} {uf : UH} {r : Int64} (N : Nat) (u : UH) (h : f_X3_mean_20 N (ub G) (ug G) a0 u = some (r, uf)) : uf.1 = u.1 ∧ uf.2.1 = u.2.1 := by
  unfold f_X3_mean_20 at h
  obtain ⟨u1, hu1, h⟩ := mbind_n h
  have zu1 := uPut_sz hu1
  obtain ⟨hr1, hr2⟩ := uret_n h
  subst hr2
  exact ⟨by omega, by omega⟩
set_option maxHeartbeats 4000000 in
set_option maxRecDepth 100000 in
theorem w_X3_mean_20 {p : Program} {l : Launch} {e : Env} {R : Room} {s : State} {m : MethodId} {args : Array Value} {below : List Frame} {meth : Method} {c : Code} {G : uG} {a0 : Nat} {uf : UH} {r : Int64} (hC : uC p s m args meth c G RX3 cX3_mean 6 (some .long)) (hR : 7 ≤ R.frames ∧ 177 ≤ R.locals) (N : Nat) (u : UH) (h : f_X3_mean_20 N (ub G) (ug G) a0 u = some (r, uf)) {H : Heap} {locs : List Loc} (hP : uP G u H) (hS : va_S (uA G) s.heap H locs) {ls : Array Slot} (hl : lv_has ls 6 [(0, va_rf (some a0))]) : W p l e R s m args below meth c H locs 0 0 (MQ below (uQl G r uf) args s 0 0 (uA G)) (F0 m 20 ls []) := by
  obtain ⟨⟨hx, hb, hml, hown, hts⟩, hKK⟩ := id hC
  unfold f_X3_mean_20 at h
  refine u_aload_n (r := some a0) hx hb dX3_mean_20 rfl (lv_at hl 0 rfl) ?_
  refine lv_iconst (v := 1) hx hb dX3_mean_21 (by decide) ?_
  obtain ⟨u1, hu1, h⟩ := mbind_n h
  have zu1 := uPut_sz hu1
  refine u_put hC hP hS hu1 rfl in_X3 tyX3 tyX3_ok nmX3 (by decide) q1932 (fun _ h => h) rfl (ty := .int) (tyX3_ok 39 (by decide)) rfl rfl dX3_mean_22 (fun H locs hP hS => ?_)
  refine lv_ldc2 hx hb hown (hts _ q2408) dX3_mean_25 ?_
  obtain ⟨hr1, hr2⟩ := uret_n h
  subst hr1
  subst hr2
  exact u_lret hC hP hS dX3_mean_28
def f_X3_mean (N b : Nat) (g : uEnv) (u : UH) (a0 : Nat) (x1 : Int32) (x2 : Int32) (x3 : Int32) : Option (Int64 × UH) :=
    if uIs u a0 2 = true then
    (f_X3_good N b g u a0).bind fun u2 =>
    if uIs u2 a0 2 = true then
    ucall (f_X3_isCell N b g u2 a0 x1) fun r7 u5 =>
    if r7 = 0 then
    f_X3_mean_20 N b g a0 u5
    else
    if uIs u5 a0 2 = true then
    ucall (f_X3_isCell N b g u5 a0 x2) fun r12 u10 =>
    if r12 = 0 then
    f_X3_mean_20 N b g a0 u10
    else
    if uIs u10 a0 2 = true then
    ucall (f_X3_from N b g u10 a0 x1 x2 1) fun r17 u15 =>
    if 0 ≤ (lg_cmp r17 0) then
    if uIs u15 a0 2 = true then
    ucall (f_X3_base N b g u15 a0) fun r22 u20 =>
    if uIs u20 a0 2 = true then
    ucall (f_X3_left N b g u20 a0 r22) fun r26 u24 =>
    ucall (f_X3_part N b g u24 r17 r26 x3) fun r29 u27 =>
    some (r29, u27)
    else none
    else none
    else
    (uPut b u15 a0 2 39 (.int 6)).bind fun u30 =>
    some ((-9223372036854775808), u30)
    else none
    else none
    else none
    else none
set_option maxHeartbeats 4000000 in
set_option maxRecDepth 100000 in
theorem zz_X3_mean_0 {G : uG} {a0 : Nat} {uf : UH} {r : Int64} (N : Nat) (u : UH) (x1 : Int32) (x2 : Int32) (x3 : Int32) (h : f_X3_mean N (ub G) (ug G) u a0 x1 x2 x3 = some (r, uf)) : uf.1 = u.1 ∧ uf.2.1 = u.2.1 := by
  unfold f_X3_mean at h
  obtain ⟨c1, h⟩ := mif_n h
  obtain ⟨u2, c3, h⟩ := mbind_n h
  have zu2 := zz_X3_good N (ub G) (ug G) u a0 u2 c3
  obtain ⟨c4, h⟩ := mif_n h
  obtain ⟨r7, u5, c6, h⟩ := ucall_n h
  have zu5 := zz_X3_isCell N (ub G) (ug G) u2 a0 x1 r7 u5 c6
  by_cases c8 : r7 = 0
  · have h := mif_t c8 h
    have hq := zz_X3_mean_20 (G := G) (a0 := a0) N u5 h
    exact ⟨by omega, by omega⟩
  · have h := mif_f c8 h
    obtain ⟨c9, h⟩ := mif_n h
    obtain ⟨r12, u10, c11, h⟩ := ucall_n h
    have zu10 := zz_X3_isCell N (ub G) (ug G) u5 a0 x2 r12 u10 c11
    by_cases c13 : r12 = 0
    · have h := mif_t c13 h
      have hq := zz_X3_mean_20 (G := G) (a0 := a0) N u10 h
      exact ⟨by omega, by omega⟩
    · have h := mif_f c13 h
      obtain ⟨c14, h⟩ := mif_n h
      obtain ⟨r17, u15, c16, h⟩ := ucall_n h
      have zu15 := zz_X3_from N (ub G) (ug G) u10 a0 x1 x2 1 r17 u15 c16
      by_cases c18 : 0 ≤ (lg_cmp r17 0)
      · have h := mif_t c18 h
        obtain ⟨c19, h⟩ := mif_n h
        obtain ⟨r22, u20, c21, h⟩ := ucall_n h
        have zu20 := zz_X3_base N (ub G) (ug G) u15 a0 r22 u20 c21
        obtain ⟨c23, h⟩ := mif_n h
        obtain ⟨r26, u24, c25, h⟩ := ucall_n h
        have zu24 := zz_X3_left N (ub G) (ug G) u20 a0 r22 r26 u24 c25
        obtain ⟨r29, u27, c28, h⟩ := ucall_n h
        have zu27 := zz_X3_part N (ub G) (ug G) u24 r17 r26 x3 r29 u27 c28
        obtain ⟨hr1, hr2⟩ := uret_n h
        subst hr2
        exact ⟨by omega, by omega⟩
      · have h := mif_f c18 h
        obtain ⟨u30, hu30, h⟩ := mbind_n h
        have zu30 := uPut_sz hu30
        obtain ⟨hr1, hr2⟩ := uret_n h
        subst hr2
        exact ⟨by omega, by omega⟩
set_option maxHeartbeats 4000000 in
set_option maxRecDepth 100000 in
theorem w_X3_mean_0 {p : Program} {l : Launch} {e : Env} {R : Room} {s : State} {m : MethodId} {args : Array Value} {below : List Frame} {meth : Method} {c : Code} {G : uG} {a0 : Nat} {uf : UH} {r : Int64} (hC : uC p s m args meth c G RX3 cX3_mean 6 (some .long)) (hR : 7 ≤ R.frames ∧ 177 ≤ R.locals) (N : Nat) (u : UH) (x1 : Int32) (x2 : Int32) (x3 : Int32) (h : f_X3_mean N (ub G) (ug G) u a0 x1 x2 x3 = some (r, uf)) {H : Heap} {locs : List Loc} (hP : uP G u H) (hS : va_S (uA G) s.heap H locs) {ls : Array Slot} (hl : lv_has ls 6 [(0, va_rf (some a0)), (1, .int x1), (2, .int x2), (3, .int x3)]) : W p l e R s m args below meth c H locs 0 0 (MQ below (uQl G r uf) args s 0 0 (uA G)) (F0 m 0 ls []) := by
  obtain ⟨⟨hx, hb, hml, hown, hts⟩, hKK⟩ := id hC
  unfold f_X3_mean at h
  refine u_aload_n (r := some a0) hx hb dX3_mean_0 rfl (lv_at hl 0 rfl) ?_
  obtain ⟨c1, h⟩ := mif_n h
  obtain ⟨u2, c3, h⟩ := mbind_n h
  have zu2 := zz_X3_good N (ub G) (ug G) u a0 u2 c3
  refine u_callv (va_runV (As := []) (rest := []) hC.1 (met_X3_good l N G u a0 u2 c3) (cwV 0 hts (lw_V q2131 q2133 qs40 q103 q2134) rfl rfl rfl (by decide +kernel) ⟨Nat.le_trans (Nat.le_of_ble_eq_true rfl) hR.1, Nat.le_trans (Nat.le_of_ble_eq_true rfl) hR.2⟩) ⟨uPc_blind, u_rcv hC hP c1 rfl, fun U hU hW => u_pre hC hP hS hU hW⟩ rfl rfl hl.1 rfl (lv_room (Nat.le_of_ble_eq_true rfl)) dX3_mean_1 ⟨Nat.zero_le _, Nat.zero_le _⟩) hS (fun H locs hP hS => ?_)
  refine u_aload_n (r := some a0) hx hb dX3_mean_4 rfl (lv_at hl 0 rfl) ?_
  refine lv_iload_n hx hb dX3_mean_5 rfl (lv_at hl 1 rfl) ?_
  obtain ⟨c4, h⟩ := mif_n h
  obtain ⟨r7, u5, c6, h⟩ := ucall_n h
  have zu5 := zz_X3_isCell N (ub G) (ug G) u2 a0 x1 r7 u5 c6
  refine u_calli (va_runV (As := [.int x1]) (rest := []) hC.1 (met_X3_isCell l N G u2 a0 x1 r7 u5 c6) (cwV 1 hts (lw_V q2276 q2278 qs60 q103 q2279) rfl rfl rfl (by decide +kernel) ⟨Nat.le_trans (Nat.le_of_ble_eq_true rfl) hR.1, Nat.le_trans (Nat.le_of_ble_eq_true rfl) hR.2⟩) ⟨uPc_blind, u_rcv hC hP c4 rfl, fun U hU hW => u_pre hC hP hS hU hW⟩ rfl rfl hl.1 rfl (lv_room (Nat.le_of_ble_eq_true rfl)) dX3_mean_6 ⟨Nat.zero_le _, Nat.zero_le _⟩) hS (fun H locs hP hS => ?_)
  refine lv_if_eq (tgt := 20) hx hb dX3_mean_9 (by decide) (fun c8 => ?_) (fun c8 => ?_)
  · have h := mif_t c8 h
    exact w_X3_mean_20 hC hR N u5 h hP hS (lv_sub hl [0] rfl)
  · have h := mif_f c8 h
    refine u_aload_n (r := some a0) hx hb dX3_mean_12 rfl (lv_at hl 0 rfl) ?_
    refine lv_iload_n hx hb dX3_mean_13 rfl (lv_at hl 2 rfl) ?_
    obtain ⟨c9, h⟩ := mif_n h
    obtain ⟨r12, u10, c11, h⟩ := ucall_n h
    have zu10 := zz_X3_isCell N (ub G) (ug G) u5 a0 x2 r12 u10 c11
    refine u_calli (va_runV (As := [.int x2]) (rest := []) hC.1 (met_X3_isCell l N G u5 a0 x2 r12 u10 c11) (cwV 1 hts (lw_V q2276 q2278 qs60 q103 q2279) rfl rfl rfl (by decide +kernel) ⟨Nat.le_trans (Nat.le_of_ble_eq_true rfl) hR.1, Nat.le_trans (Nat.le_of_ble_eq_true rfl) hR.2⟩) ⟨uPc_blind, u_rcv hC hP c9 rfl, fun U hU hW => u_pre hC hP hS hU hW⟩ rfl rfl hl.1 rfl (lv_room (Nat.le_of_ble_eq_true rfl)) dX3_mean_14 ⟨Nat.zero_le _, Nat.zero_le _⟩) hS (fun H locs hP hS => ?_)
    refine lv_if_ne (tgt := 29) hx hb dX3_mean_17 (by decide) (fun c13 => ?_) (fun c13 => ?_)
    · have h := mif_f c13 h
      refine u_aload_n (r := some a0) hx hb dX3_mean_29 rfl (lv_at hl 0 rfl) ?_
      refine lv_iload_n hx hb dX3_mean_30 rfl (lv_at hl 1 rfl) ?_
      refine lv_iload_n hx hb dX3_mean_31 rfl (lv_at hl 2 rfl) ?_
      refine lv_iconst (v := 1) hx hb dX3_mean_32 (by decide) ?_
      obtain ⟨c14, h⟩ := mif_n h
      obtain ⟨r17, u15, c16, h⟩ := ucall_n h
      have zu15 := zz_X3_from N (ub G) (ug G) u10 a0 x1 x2 1 r17 u15 c16
      refine u_calll (va_runV (As := [.int x1, .int x2, .int 1]) (rest := []) hC.1 (met_X3_from l N G u10 a0 x1 x2 1 r17 u15 c16) (cwV 3 hts (lw_V q2336 q2338 qs67 q103 q2339) rfl rfl rfl (by decide +kernel) ⟨Nat.le_trans (Nat.le_of_ble_eq_true rfl) hR.1, Nat.le_trans (Nat.le_of_ble_eq_true rfl) hR.2⟩) ⟨uPc_blind, u_rcv hC hP c14 rfl, fun U hU hW => u_pre hC hP hS hU hW⟩ rfl rfl hl.1 rfl (lv_room (Nat.le_of_ble_eq_true rfl)) dX3_mean_33 ⟨Nat.zero_le _, Nat.zero_le _⟩) hS (fun H locs hP hS => ?_)
      refine lv_lstore (lv' := [(4, .long r17), (0, va_rf (some a0)), (1, .int x1), (2, .int x2), (3, .int x3)]) hx hb dX3_mean_36 hl (by decide) rfl (fun ls hl => ?_)
      refine lv_lload hx hb dX3_mean_38 (lv_at hl 0 rfl) ?_
      refine lv_lconst (v := 0) hx hb dX3_mean_40 (by decide) ?_
      refine W.lcmp hx hb dX3_mean_41 ?_
      refine lv_if_ge (tgt := 55) hx hb dX3_mean_42 (by decide) (fun c18 => ?_) (fun c18 => ?_)
      · have h := mif_t c18 h
        refine lv_lload hx hb dX3_mean_55 (lv_at hl 0 rfl) ?_
        refine u_aload_n (r := some a0) hx hb dX3_mean_57 rfl (lv_at hl 1 rfl) ?_
        refine u_aload_n (r := some a0) hx hb dX3_mean_58 rfl (lv_at hl 1 rfl) ?_
        obtain ⟨c19, h⟩ := mif_n h
        obtain ⟨r22, u20, c21, h⟩ := ucall_n h
        have zu20 := zz_X3_base N (ub G) (ug G) u15 a0 r22 u20 c21
        refine u_calli (va_runV (As := []) (rest := [va_rf (some a0), .long r17]) hC.1 (met_X3_base l N G u15 a0 r22 u20 c21) (cwV 0 hts (lw_V q2399 q2401 qs81 q103 q2402) rfl rfl rfl (by decide +kernel) ⟨Nat.le_trans (Nat.le_of_ble_eq_true rfl) hR.1, Nat.le_trans (Nat.le_of_ble_eq_true rfl) hR.2⟩) ⟨uPc_blind, u_rcv hC hP c19 rfl, fun U hU hW => u_pre hC hP hS hU hW⟩ rfl rfl hl.1 rfl (lv_room (Nat.le_of_ble_eq_true rfl)) dX3_mean_59 ⟨Nat.zero_le _, Nat.zero_le _⟩) hS (fun H locs hP hS => ?_)
        obtain ⟨c23, h⟩ := mif_n h
        obtain ⟨r26, u24, c25, h⟩ := ucall_n h
        have zu24 := zz_X3_left N (ub G) (ug G) u20 a0 r22 r26 u24 c25
        refine u_calll (va_runV (As := [.int r22]) (rest := [.long r17]) hC.1 (met_X3_left l N G u20 a0 r22 r26 u24 c25) (cwV 1 hts (lw_V q2387 q2389 qs78 q103 q2390) rfl rfl rfl (by decide +kernel) ⟨Nat.le_trans (Nat.le_of_ble_eq_true rfl) hR.1, Nat.le_trans (Nat.le_of_ble_eq_true rfl) hR.2⟩) ⟨uPc_blind, u_rcv hC hP c23 rfl, fun U hU hW => u_pre hC hP hS hU hW⟩ rfl rfl hl.1 rfl (lv_room (Nat.le_of_ble_eq_true rfl)) dX3_mean_62 ⟨Nat.zero_le _, Nat.zero_le _⟩) hS (fun H locs hP hS => ?_)
        refine lv_iload_n hx hb dX3_mean_65 rfl (lv_at hl 4 rfl) ?_
        obtain ⟨r29, u27, c28, h⟩ := ucall_n h
        have zu27 := zz_X3_part N (ub G) (ug G) u24 r17 r26 x3 r29 u27 c28
        refine u_calll (va_runS (As := [.long r17, .long r26, .int x3]) (rest := []) hC.1 (met_X3_part l N G u24 r17 r26 x3 r29 u27 c28) (va_cwS 3 hts (lw_S q2409 q2410 q103 q2411) rfl rfl rfl (by decide +kernel) ⟨Nat.le_trans (Nat.le_of_ble_eq_true rfl) hR.1, Nat.le_trans (Nat.le_of_ble_eq_true rfl) hR.2⟩) ⟨uPc_blind, fun U hU hW => u_pre hC hP hS hU hW⟩ rfl rfl hl.1 rfl (lv_room (Nat.le_of_ble_eq_true rfl)) dX3_mean_66 ⟨Nat.zero_le _, Nat.zero_le _⟩) hS (fun H locs hP hS => ?_)
        obtain ⟨hr1, hr2⟩ := uret_n h
        subst hr1
        subst hr2
        exact u_lret hC hP hS dX3_mean_69
      · have h := mif_f c18 h
        refine u_aload_n (r := some a0) hx hb dX3_mean_45 rfl (lv_at hl 1 rfl) ?_
        refine lv_bipush (v := 6) hx hb dX3_mean_46 (by decide) ?_
        obtain ⟨u30, hu30, h⟩ := mbind_n h
        have zu30 := uPut_sz hu30
        refine u_put hC hP hS hu30 rfl in_X3 tyX3 tyX3_ok nmX3 (by decide) q1932 (fun _ h => h) rfl (ty := .int) (tyX3_ok 39 (by decide)) rfl rfl dX3_mean_48 (fun H locs hP hS => ?_)
        refine lv_ldc2 hx hb hown (hts _ q2408) dX3_mean_51 ?_
        obtain ⟨hr1, hr2⟩ := uret_n h
        subst hr1
        subst hr2
        exact u_lret hC hP hS dX3_mean_54
    · have h := mif_t c13 h
      exact w_X3_mean_20 hC hR N u10 h hP hS (lv_sub hl [0] rfl)
theorem zz_X3_mean (N b : Nat) (g : uEnv) (u : UH) (a0 : Nat) (x1 : Int32) (x2 : Int32) (x3 : Int32) (r : Int64) (uf : UH) (h : f_X3_mean N b g u a0 x1 x2 x3 = some (r, uf)) : uf.1 = u.1 ∧ uf.2.1 = u.2.1 :=
  zz_X3_mean_0 (G := ((fun _ => 0, fun _ _ => 0), fun _ => 0, b, g)) (a0 := a0) N u x1 x2 x3 h
theorem met_X3_mean (l : Launch) (N : Nat) (G : uG) (u : UH) (a0 : Nat) (x1 : Int32) (x2 : Int32) (x3 : Int32) (r : Int64) (uf : UH) (h : f_X3_mean N (ub G) (ug G) u a0 x1 x2 x3 = some (r, uf)) : Met l yX3_mean (ws_ yX3_mean cX3_mean 6 (some .long)) ({ frames := 7, cells := 0, slots := 0, locals := 177 }) (uPc G u [.ref a0, .int x1, .int x2, .int x3]) (uQl G r uf) 0 0 (uA G) := by
  exact u_met (own := RX3) (by decide +kernel) rfl (Nat.le_of_ble_eq_true rfl) (fun hC hn hsz ls hl hP => w_X3_mean_0 hC ⟨Nat.le_refl _, Nat.le_refl _⟩ N u x1 x2 x3 h hP va_S.rf hl)
def f_X3_of_94 (N b : Nat) (g : uEnv) (a0 : Nat) (u : UH) (s0 : Int32) : Option (Int32 × UH) :=
    some (s0, u)
set_option maxHeartbeats 4000000 in
set_option maxRecDepth 100000 in
theorem zz_X3_of_94 {G : uG} {a0 : Nat} {uf : UH} {r : Int32} (N : Nat) (u : UH) (s0 : Int32) (h : f_X3_of_94 N (ub G) (ug G) a0 u s0 = some (r, uf)) : uf.1 = u.1 ∧ uf.2.1 = u.2.1 := by
  unfold f_X3_of_94 at h
  obtain ⟨hr1, hr2⟩ := uret_n h
  subst hr2
  exact ⟨by omega, by omega⟩
set_option maxHeartbeats 4000000 in
set_option maxRecDepth 100000 in
theorem w_X3_of_94 {p : Program} {l : Launch} {e : Env} {R : Room} {s : State} {m : MethodId} {args : Array Value} {below : List Frame} {meth : Method} {c : Code} {G : uG} {a0 : Nat} {uf : UH} {r : Int32} (hC : uC p s m args meth c G RX3 cX3_of 4 (some .int)) (hR : 2 ≤ R.frames ∧ 43 ≤ R.locals) (N : Nat) (u : UH) (s0 : Int32) (h : f_X3_of_94 N (ub G) (ug G) a0 u s0 = some (r, uf)) {H : Heap} {locs : List Loc} (hP : uP G u H) (hS : va_S (uA G) s.heap H locs) {ls : Array Slot} (hl : lv_has ls 4 []) : W p l e R s m args below meth c H locs 0 0 (MQ below (uQi G r uf) args s 0 0 (uA G)) (F0 m 94 ls [.int s0]) := by
  obtain ⟨⟨hx, hb, hml, hown, hts⟩, hKK⟩ := id hC
  unfold f_X3_of_94 at h
  obtain ⟨hr1, hr2⟩ := uret_n h
  subst hr1
  subst hr2
  exact u_iret hC hP hS dX3_of_94
def f_X3_of_73 (N b : Nat) (g : uEnv) (a0 : Nat) (u : UH) (s0 : Int32) : Option (Int32 × UH) :=
    some (s0, u)
set_option maxHeartbeats 4000000 in
set_option maxRecDepth 100000 in
theorem zz_X3_of_73 {G : uG} {a0 : Nat} {uf : UH} {r : Int32} (N : Nat) (u : UH) (s0 : Int32) (h : f_X3_of_73 N (ub G) (ug G) a0 u s0 = some (r, uf)) : uf.1 = u.1 ∧ uf.2.1 = u.2.1 := by
  unfold f_X3_of_73 at h
  obtain ⟨hr1, hr2⟩ := uret_n h
  subst hr2
  exact ⟨by omega, by omega⟩
set_option maxHeartbeats 4000000 in
set_option maxRecDepth 100000 in
theorem w_X3_of_73 {p : Program} {l : Launch} {e : Env} {R : Room} {s : State} {m : MethodId} {args : Array Value} {below : List Frame} {meth : Method} {c : Code} {G : uG} {a0 : Nat} {uf : UH} {r : Int32} (hC : uC p s m args meth c G RX3 cX3_of 4 (some .int)) (hR : 2 ≤ R.frames ∧ 43 ≤ R.locals) (N : Nat) (u : UH) (s0 : Int32) (h : f_X3_of_73 N (ub G) (ug G) a0 u s0 = some (r, uf)) {H : Heap} {locs : List Loc} (hP : uP G u H) (hS : va_S (uA G) s.heap H locs) {ls : Array Slot} (hl : lv_has ls 4 []) : W p l e R s m args below meth c H locs 0 0 (MQ below (uQi G r uf) args s 0 0 (uA G)) (F0 m 73 ls [.int s0]) := by
  obtain ⟨⟨hx, hb, hml, hown, hts⟩, hKK⟩ := id hC
  unfold f_X3_of_73 at h
  obtain ⟨hr1, hr2⟩ := uret_n h
  subst hr1
  subst hr2
  exact u_iret hC hP hS dX3_of_73
def f_X3_of (N b : Nat) (g : uEnv) (u : UH) (a0 : Nat) (x1 : Int32) (x2 : Int32) : Option (Int32 × UH) :=
    (uPut b u a0 2 0 (.int 0)).bind fun u1 =>
    if uIs u1 a0 2 = true then
    ucall (f_X3_isCell N b g u1 a0 x1) fun r5 u3 =>
    if r5 = 0 then
    some ((-1), u3)
    else
    (uGR u3 a0 2 43).bind fun o7 =>
    (o7).bind fun a8 =>
    (uLdI u3 a8 0 x1).bind fun y9 =>
    if x2 = 0 then
    (uGR u3 a0 2 41).bind fun o25 =>
    (o25).bind fun a26 =>
    (uLdI u3 a26 0 x1).bind fun y27 =>
    some (y27, u3)
    else
    if x2 = 1 then
    if y9 = (-1) then
    (uGR u3 a0 2 42).bind fun o22 =>
    (o22).bind fun a23 =>
    (uLdI u3 a23 0 x1).bind fun y24 =>
    f_X3_of_73 N b g a0 u3 y24
    else
    (uGR u3 a0 2 45).bind fun o15 =>
    (o15).bind fun a16 =>
    (uLdI u3 a16 0 y9).bind fun y17 =>
    if y17 = (-1) then
    f_X3_of_73 N b g a0 u3 (-2)
    else
    (uGR u3 a0 2 45).bind fun o19 =>
    (o19).bind fun a20 =>
    (uLdI u3 a20 0 y9).bind fun y21 =>
    f_X3_of_73 N b g a0 u3 y21
    else
    if x2 = 2 then
    if y9 = (-1) then
    f_X3_of_94 N b g a0 u3 (-2)
    else
    f_X3_of_94 N b g a0 u3 y9
    else
    f_X3_of_94 N b g a0 u3 (-1)
    else none
set_option maxHeartbeats 4000000 in
set_option maxRecDepth 100000 in
theorem zz_X3_of_0 {G : uG} {a0 : Nat} {uf : UH} {r : Int32} (N : Nat) (u : UH) (x1 : Int32) (x2 : Int32) (h : f_X3_of N (ub G) (ug G) u a0 x1 x2 = some (r, uf)) : uf.1 = u.1 ∧ uf.2.1 = u.2.1 := by
  unfold f_X3_of at h
  obtain ⟨u1, hu1, h⟩ := mbind_n h
  have zu1 := uPut_sz hu1
  obtain ⟨c2, h⟩ := mif_n h
  obtain ⟨r5, u3, c4, h⟩ := ucall_n h
  have zu3 := zz_X3_isCell N (ub G) (ug G) u1 a0 x1 r5 u3 c4
  by_cases c6 : r5 = 0
  · have h := mif_t c6 h
    obtain ⟨hr1, hr2⟩ := uret_n h
    subst hr2
    exact ⟨by omega, by omega⟩
  · have h := mif_f c6 h
    obtain ⟨o7, ho7, h⟩ := mbind_n h
    obtain ⟨a8, ha8, hha8⟩ := mbind_n h
    subst ha8
    have h := hha8
    obtain ⟨y9, hy9, h⟩ := mbind_n h
    by_cases c10 : x2 = 0
    · have h := mif_t c10 h
      obtain ⟨o25, ho25, h⟩ := mbind_n h
      obtain ⟨a26, ha26, hha26⟩ := mbind_n h
      subst ha26
      have h := hha26
      obtain ⟨y27, hy27, h⟩ := mbind_n h
      obtain ⟨hr1, hr2⟩ := uret_n h
      subst hr2
      exact ⟨by omega, by omega⟩
    · have h := mif_f c10 h
      by_cases c11 : x2 = 1
      · have h := mif_t c11 h
        by_cases c14 : y9 = (-1)
        · have h := mif_t c14 h
          obtain ⟨o22, ho22, h⟩ := mbind_n h
          obtain ⟨a23, ha23, hha23⟩ := mbind_n h
          subst ha23
          have h := hha23
          obtain ⟨y24, hy24, h⟩ := mbind_n h
          have hq := zz_X3_of_73 (G := G) (a0 := a0) N u3 y24 h
          exact ⟨by omega, by omega⟩
        · have h := mif_f c14 h
          obtain ⟨o15, ho15, h⟩ := mbind_n h
          obtain ⟨a16, ha16, hha16⟩ := mbind_n h
          subst ha16
          have h := hha16
          obtain ⟨y17, hy17, h⟩ := mbind_n h
          by_cases c18 : y17 = (-1)
          · have h := mif_t c18 h
            have hq := zz_X3_of_73 (G := G) (a0 := a0) N u3 (-2) h
            exact ⟨by omega, by omega⟩
          · have h := mif_f c18 h
            obtain ⟨o19, ho19, h⟩ := mbind_n h
            obtain ⟨a20, ha20, hha20⟩ := mbind_n h
            subst ha20
            have h := hha20
            obtain ⟨y21, hy21, h⟩ := mbind_n h
            have hq := zz_X3_of_73 (G := G) (a0 := a0) N u3 y21 h
            exact ⟨by omega, by omega⟩
      · have h := mif_f c11 h
        by_cases c12 : x2 = 2
        · have h := mif_t c12 h
          by_cases c13 : y9 = (-1)
          · have h := mif_t c13 h
            have hq := zz_X3_of_94 (G := G) (a0 := a0) N u3 (-2) h
            exact ⟨by omega, by omega⟩
          · have h := mif_f c13 h
            have hq := zz_X3_of_94 (G := G) (a0 := a0) N u3 y9 h
            exact ⟨by omega, by omega⟩
        · have h := mif_f c12 h
          have hq := zz_X3_of_94 (G := G) (a0 := a0) N u3 (-1) h
          exact ⟨by omega, by omega⟩
set_option maxHeartbeats 4000000 in
set_option maxRecDepth 100000 in
theorem w_X3_of_0 {p : Program} {l : Launch} {e : Env} {R : Room} {s : State} {m : MethodId} {args : Array Value} {below : List Frame} {meth : Method} {c : Code} {G : uG} {a0 : Nat} {uf : UH} {r : Int32} (hC : uC p s m args meth c G RX3 cX3_of 4 (some .int)) (hR : 2 ≤ R.frames ∧ 43 ≤ R.locals) (N : Nat) (u : UH) (x1 : Int32) (x2 : Int32) (h : f_X3_of N (ub G) (ug G) u a0 x1 x2 = some (r, uf)) {H : Heap} {locs : List Loc} (hP : uP G u H) (hS : va_S (uA G) s.heap H locs) {ls : Array Slot} (hl : lv_has ls 4 [(0, va_rf (some a0)), (1, .int x1), (2, .int x2)]) : W p l e R s m args below meth c H locs 0 0 (MQ below (uQi G r uf) args s 0 0 (uA G)) (F0 m 0 ls []) := by
  obtain ⟨⟨hx, hb, hml, hown, hts⟩, hKK⟩ := id hC
  unfold f_X3_of at h
  refine u_aload_n (r := some a0) hx hb dX3_of_0 rfl (lv_at hl 0 rfl) ?_
  refine lv_iconst (v := 0) hx hb dX3_of_1 (by decide) ?_
  obtain ⟨u1, hu1, h⟩ := mbind_n h
  have zu1 := uPut_sz hu1
  refine u_put hC hP hS hu1 rfl in_X3 tyX3 tyX3_ok nmX3 (by decide) q1893 (fun _ h => h) rfl (ty := .int) (tyX3_ok 0 (by decide)) rfl rfl dX3_of_2 (fun H locs hP hS => ?_)
  refine u_aload_n (r := some a0) hx hb dX3_of_5 rfl (lv_at hl 0 rfl) ?_
  refine lv_iload_n hx hb dX3_of_6 rfl (lv_at hl 1 rfl) ?_
  obtain ⟨c2, h⟩ := mif_n h
  obtain ⟨r5, u3, c4, h⟩ := ucall_n h
  have zu3 := zz_X3_isCell N (ub G) (ug G) u1 a0 x1 r5 u3 c4
  refine u_calli (va_runV (As := [.int x1]) (rest := []) hC.1 (met_X3_isCell l N G u1 a0 x1 r5 u3 c4) (cwV 1 hts (lw_V q2276 q2278 qs60 q103 q2279) rfl rfl rfl (by decide +kernel) ⟨Nat.le_trans (Nat.le_of_ble_eq_true rfl) hR.1, Nat.le_trans (Nat.le_of_ble_eq_true rfl) hR.2⟩) ⟨uPc_blind, u_rcv hC hP c2 rfl, fun U hU hW => u_pre hC hP hS hU hW⟩ rfl rfl hl.1 rfl (lv_room (Nat.le_of_ble_eq_true rfl)) dX3_of_7 ⟨Nat.zero_le _, Nat.zero_le _⟩) hS (fun H locs hP hS => ?_)
  refine lv_if_ne (tgt := 15) hx hb dX3_of_10 (by decide) (fun c6 => ?_) (fun c6 => ?_)
  · have h := mif_f c6 h
    refine u_aload_n (r := some a0) hx hb dX3_of_15 rfl (lv_at hl 0 rfl) ?_
    obtain ⟨o7, ho7, h⟩ := mbind_n h
    refine u_get hC hP (uGR_n ho7) rfl in_X3 (by decide) q1936 (fun _ h => h) dX3_of_16 ?_
    refine lv_iload_n hx hb dX3_of_19 rfl (lv_at hl 1 rfl) ?_
    obtain ⟨a8, ha8, hha8⟩ := mbind_n h
    subst ha8
    have h := hha8
    obtain ⟨y9, hy9, h⟩ := mbind_n h
    refine u_iald hC hP hy9 rfl dX3_of_20 ?_
    refine lv_istore_n (i := 3) (lv' := [(3, .int y9), (0, va_rf (some a0)), (1, .int x1), (2, .int x2)]) hx hb dX3_of_21 rfl hl (by decide) rfl (fun ls hl => ?_)
    refine lv_iload_n hx hb dX3_of_22 rfl (lv_at hl 3 rfl) ?_
    refine lv_if_ne (tgt := 33) hx hb dX3_of_23 (by decide) (fun c10 => ?_) (fun c10 => ?_)
    · have h := mif_f c10 h
      refine lv_iload_n hx hb dX3_of_33 rfl (lv_at hl 3 rfl) ?_
      refine lv_iconst (v := 1) hx hb dX3_of_34 (by decide) ?_
      refine lv_icmp_ne (tgt := 74) hx hb dX3_of_35 (by decide) (fun c11 => ?_) (fun c11 => ?_)
      · have h := mif_f c11 h
        refine lv_iload_n hx hb dX3_of_74 rfl (lv_at hl 3 rfl) ?_
        refine lv_iconst (v := 2) hx hb dX3_of_75 (by decide) ?_
        refine lv_icmp_ne (tgt := 93) hx hb dX3_of_76 (by decide) (fun c12 => ?_) (fun c12 => ?_)
        · have h := mif_f c12 h
          refine lv_iconst (v := (-1)) hx hb dX3_of_93 (by decide) ?_
          exact w_X3_of_94 hC hR N u3 (-1) h hP hS (lv_sub hl [] rfl)
        · have h := mif_t c12 h
          refine lv_iload_n hx hb dX3_of_79 rfl (lv_at hl 0 rfl) ?_
          refine lv_iconst (v := (-1)) hx hb dX3_of_80 (by decide) ?_
          refine lv_icmp_ne (tgt := 89) hx hb dX3_of_81 (by decide) (fun c13 => ?_) (fun c13 => ?_)
          · have h := mif_f c13 h
            refine lv_iload_n hx hb dX3_of_89 rfl (lv_at hl 0 rfl) ?_
            refine lv_goto (tgt := 94) hx hb dX3_of_90 (by decide) ?_
            exact w_X3_of_94 hC hR N u3 y9 h hP hS (lv_sub hl [] rfl)
          · have h := mif_t c13 h
            refine lv_bipush (v := (-2)) hx hb dX3_of_84 (by decide) ?_
            refine lv_goto (tgt := 94) hx hb dX3_of_86 (by decide) ?_
            exact w_X3_of_94 hC hR N u3 (-2) h hP hS (lv_sub hl [] rfl)
      · have h := mif_t c11 h
        refine lv_iload_n hx hb dX3_of_38 rfl (lv_at hl 0 rfl) ?_
        refine lv_iconst (v := (-1)) hx hb dX3_of_39 (by decide) ?_
        refine lv_icmp_ne (tgt := 52) hx hb dX3_of_40 (by decide) (fun c14 => ?_) (fun c14 => ?_)
        · have h := mif_f c14 h
          refine u_aload_n (r := some a0) hx hb dX3_of_52 rfl (lv_at hl 1 rfl) ?_
          obtain ⟨o15, ho15, h⟩ := mbind_n h
          refine u_get hC hP (uGR_n ho15) rfl in_X3 (by decide) q1938 (fun _ h => h) dX3_of_53 ?_
          refine lv_iload_n hx hb dX3_of_56 rfl (lv_at hl 0 rfl) ?_
          obtain ⟨a16, ha16, hha16⟩ := mbind_n h
          subst ha16
          have h := hha16
          obtain ⟨y17, hy17, h⟩ := mbind_n h
          refine u_iald hC hP hy17 rfl dX3_of_57 ?_
          refine lv_iconst (v := (-1)) hx hb dX3_of_58 (by decide) ?_
          refine lv_icmp_ne (tgt := 67) hx hb dX3_of_59 (by decide) (fun c18 => ?_) (fun c18 => ?_)
          · have h := mif_f c18 h
            refine u_aload_n (r := some a0) hx hb dX3_of_67 rfl (lv_at hl 1 rfl) ?_
            obtain ⟨o19, ho19, h⟩ := mbind_n h
            refine u_get hC hP (uGR_n ho19) rfl in_X3 (by decide) q1938 (fun _ h => h) dX3_of_68 ?_
            refine lv_iload_n hx hb dX3_of_71 rfl (lv_at hl 0 rfl) ?_
            obtain ⟨a20, ha20, hha20⟩ := mbind_n h
            subst ha20
            have h := hha20
            obtain ⟨y21, hy21, h⟩ := mbind_n h
            refine u_iald hC hP hy21 rfl dX3_of_72 ?_
            exact w_X3_of_73 hC hR N u3 y21 h hP hS (lv_sub hl [] rfl)
          · have h := mif_t c18 h
            refine lv_bipush (v := (-2)) hx hb dX3_of_62 (by decide) ?_
            refine lv_goto (tgt := 73) hx hb dX3_of_64 (by decide) ?_
            exact w_X3_of_73 hC hR N u3 (-2) h hP hS (lv_sub hl [] rfl)
        · have h := mif_t c14 h
          refine u_aload_n (r := some a0) hx hb dX3_of_43 rfl (lv_at hl 1 rfl) ?_
          obtain ⟨o22, ho22, h⟩ := mbind_n h
          refine u_get hC hP (uGR_n ho22) rfl in_X3 (by decide) q1935 (fun _ h => h) dX3_of_44 ?_
          refine lv_iload_n hx hb dX3_of_47 rfl (lv_at hl 2 rfl) ?_
          obtain ⟨a23, ha23, hha23⟩ := mbind_n h
          subst ha23
          have h := hha23
          obtain ⟨y24, hy24, h⟩ := mbind_n h
          refine u_iald hC hP hy24 rfl dX3_of_48 ?_
          refine lv_goto (tgt := 73) hx hb dX3_of_49 (by decide) ?_
          exact w_X3_of_73 hC hR N u3 y24 h hP hS (lv_sub hl [] rfl)
    · have h := mif_t c10 h
      refine u_aload_n (r := some a0) hx hb dX3_of_26 rfl (lv_at hl 1 rfl) ?_
      obtain ⟨o25, ho25, h⟩ := mbind_n h
      refine u_get hC hP (uGR_n ho25) rfl in_X3 (by decide) q1934 (fun _ h => h) dX3_of_27 ?_
      refine lv_iload_n hx hb dX3_of_30 rfl (lv_at hl 2 rfl) ?_
      obtain ⟨a26, ha26, hha26⟩ := mbind_n h
      subst ha26
      have h := hha26
      obtain ⟨y27, hy27, h⟩ := mbind_n h
      refine u_iald hC hP hy27 rfl dX3_of_31 ?_
      obtain ⟨hr1, hr2⟩ := uret_n h
      subst hr1
      subst hr2
      exact u_iret hC hP hS dX3_of_32
  · have h := mif_t c6 h
    refine lv_iconst (v := (-1)) hx hb dX3_of_13 (by decide) ?_
    obtain ⟨hr1, hr2⟩ := uret_n h
    subst hr1
    subst hr2
    exact u_iret hC hP hS dX3_of_14
theorem zz_X3_of (N b : Nat) (g : uEnv) (u : UH) (a0 : Nat) (x1 : Int32) (x2 : Int32) (r : Int32) (uf : UH) (h : f_X3_of N b g u a0 x1 x2 = some (r, uf)) : uf.1 = u.1 ∧ uf.2.1 = u.2.1 :=
  zz_X3_of_0 (G := ((fun _ => 0, fun _ _ => 0), fun _ => 0, b, g)) (a0 := a0) N u x1 x2 h
theorem met_X3_of (l : Launch) (N : Nat) (G : uG) (u : UH) (a0 : Nat) (x1 : Int32) (x2 : Int32) (r : Int32) (uf : UH) (h : f_X3_of N (ub G) (ug G) u a0 x1 x2 = some (r, uf)) : Met l yX3_of (ws_ yX3_of cX3_of 4 (some .int)) ({ frames := 2, cells := 0, slots := 0, locals := 43 }) (uPc G u [.ref a0, .int x1, .int x2]) (uQi G r uf) 0 0 (uA G) := by
  exact u_met (own := RX3) (by decide +kernel) rfl (Nat.le_of_ble_eq_true rfl) (fun hC hn hsz ls hl hP => w_X3_of_0 hC ⟨Nat.le_refl _, Nat.le_refl _⟩ N u x1 x2 h hP va_S.rf hl)
def f_X3_wayWord_53 (N b : Nat) (g : uEnv) (a0 : Nat) (u : UH) (s0 : Int32) : Option (Int32 × UH) :=
    some (s0, u)
set_option maxHeartbeats 4000000 in
set_option maxRecDepth 100000 in
theorem zz_X3_wayWord_53 {G : uG} {a0 : Nat} {uf : UH} {r : Int32} (N : Nat) (u : UH) (s0 : Int32) (h : f_X3_wayWord_53 N (ub G) (ug G) a0 u s0 = some (r, uf)) : uf.1 = u.1 ∧ uf.2.1 = u.2.1 := by
  unfold f_X3_wayWord_53 at h
  obtain ⟨hr1, hr2⟩ := uret_n h
  subst hr2
  exact ⟨by omega, by omega⟩
set_option maxHeartbeats 4000000 in
set_option maxRecDepth 100000 in
theorem w_X3_wayWord_53 {p : Program} {l : Launch} {e : Env} {R : Room} {s : State} {m : MethodId} {args : Array Value} {below : List Frame} {meth : Method} {c : Code} {G : uG} {a0 : Nat} {uf : UH} {r : Int32} (hC : uC p s m args meth c G RX3 cX3_wayWord 1 (some .int)) (hR : 5 ≤ R.frames ∧ 108 ≤ R.locals) (N : Nat) (u : UH) (s0 : Int32) (h : f_X3_wayWord_53 N (ub G) (ug G) a0 u s0 = some (r, uf)) {H : Heap} {locs : List Loc} (hP : uP G u H) (hS : va_S (uA G) s.heap H locs) {ls : Array Slot} (hl : lv_has ls 1 []) : W p l e R s m args below meth c H locs 0 0 (MQ below (uQi G r uf) args s 0 0 (uA G)) (F0 m 53 ls [.int s0]) := by
  obtain ⟨⟨hx, hb, hml, hown, hts⟩, hKK⟩ := id hC
  unfold f_X3_wayWord_53 at h
  obtain ⟨hr1, hr2⟩ := uret_n h
  subst hr1
  subst hr2
  exact u_iret hC hP hS dX3_wayWord_53
def f_X3_wayWord (N b : Nat) (g : uEnv) (u : UH) (a0 : Nat) : Option (Int32 × UH) :=
    if uIs u a0 2 = true then
    ucall (f_X3_word N b g u a0 (some (g.2.1 38))) fun r4 u2 =>
    if r4 = 0 then
    if uIs u2 a0 2 = true then
    ucall (f_X3_word N b g u2 a0 (some (g.2.1 39))) fun r9 u7 =>
    if r9 = 0 then
    if uIs u7 a0 2 = true then
    ucall (f_X3_word N b g u7 a0 (some (g.2.1 40))) fun r14 u12 =>
    if r14 = 0 then
    if uIs u12 a0 2 = true then
    ucall (f_X3_word N b g u12 a0 (some (g.2.1 41))) fun r19 u17 =>
    if r19 = 0 then
    f_X3_wayWord_53 N b g a0 u17 (-1)
    else
    f_X3_wayWord_53 N b g a0 u17 3
    else none
    else
    f_X3_wayWord_53 N b g a0 u12 2
    else none
    else
    f_X3_wayWord_53 N b g a0 u7 1
    else none
    else
    f_X3_wayWord_53 N b g a0 u2 0
    else none
set_option maxHeartbeats 4000000 in
set_option maxRecDepth 100000 in
theorem zz_X3_wayWord_0 {G : uG} {a0 : Nat} {uf : UH} {r : Int32} (N : Nat) (u : UH) (h : f_X3_wayWord N (ub G) (ug G) u a0 = some (r, uf)) : uf.1 = u.1 ∧ uf.2.1 = u.2.1 := by
  unfold f_X3_wayWord at h
  obtain ⟨c1, h⟩ := mif_n h
  obtain ⟨r4, u2, c3, h⟩ := ucall_n h
  have zu2 := zz_X3_word N (ub G) (ug G) u a0 (some ((ug G).2.1 38)) r4 u2 c3
  by_cases c5 : r4 = 0
  · have h := mif_t c5 h
    obtain ⟨c6, h⟩ := mif_n h
    obtain ⟨r9, u7, c8, h⟩ := ucall_n h
    have zu7 := zz_X3_word N (ub G) (ug G) u2 a0 (some ((ug G).2.1 39)) r9 u7 c8
    by_cases c10 : r9 = 0
    · have h := mif_t c10 h
      obtain ⟨c11, h⟩ := mif_n h
      obtain ⟨r14, u12, c13, h⟩ := ucall_n h
      have zu12 := zz_X3_word N (ub G) (ug G) u7 a0 (some ((ug G).2.1 40)) r14 u12 c13
      by_cases c15 : r14 = 0
      · have h := mif_t c15 h
        obtain ⟨c16, h⟩ := mif_n h
        obtain ⟨r19, u17, c18, h⟩ := ucall_n h
        have zu17 := zz_X3_word N (ub G) (ug G) u12 a0 (some ((ug G).2.1 41)) r19 u17 c18
        by_cases c20 : r19 = 0
        · have h := mif_t c20 h
          have hq := zz_X3_wayWord_53 (G := G) (a0 := a0) N u17 (-1) h
          exact ⟨by omega, by omega⟩
        · have h := mif_f c20 h
          have hq := zz_X3_wayWord_53 (G := G) (a0 := a0) N u17 3 h
          exact ⟨by omega, by omega⟩
      · have h := mif_f c15 h
        have hq := zz_X3_wayWord_53 (G := G) (a0 := a0) N u12 2 h
        exact ⟨by omega, by omega⟩
    · have h := mif_f c10 h
      have hq := zz_X3_wayWord_53 (G := G) (a0 := a0) N u7 1 h
      exact ⟨by omega, by omega⟩
  · have h := mif_f c5 h
    have hq := zz_X3_wayWord_53 (G := G) (a0 := a0) N u2 0 h
    exact ⟨by omega, by omega⟩
set_option maxHeartbeats 4000000 in
set_option maxRecDepth 100000 in
theorem w_X3_wayWord_0 {p : Program} {l : Launch} {e : Env} {R : Room} {s : State} {m : MethodId} {args : Array Value} {below : List Frame} {meth : Method} {c : Code} {G : uG} {a0 : Nat} {uf : UH} {r : Int32} (hC : uC p s m args meth c G RX3 cX3_wayWord 1 (some .int)) (hR : 5 ≤ R.frames ∧ 108 ≤ R.locals) (N : Nat) (u : UH) (h : f_X3_wayWord N (ub G) (ug G) u a0 = some (r, uf)) {H : Heap} {locs : List Loc} (hP : uP G u H) (hS : va_S (uA G) s.heap H locs) {ls : Array Slot} (hl : lv_has ls 1 [(0, va_rf (some a0))]) : W p l e R s m args below meth c H locs 0 0 (MQ below (uQi G r uf) args s 0 0 (uA G)) (F0 m 0 ls []) := by
  obtain ⟨⟨hx, hb, hml, hown, hts⟩, hKK⟩ := id hC
  unfold f_X3_wayWord at h
  refine u_aload_n (r := some a0) hx hb dX3_wayWord_0 rfl (lv_at hl 0 rfl) ?_
  refine u_ldcS hC 38 rfl dX3_wayWord_1 ?_
  obtain ⟨c1, h⟩ := mif_n h
  obtain ⟨r4, u2, c3, h⟩ := ucall_n h
  have zu2 := zz_X3_word N (ub G) (ug G) u a0 (some ((ug G).2.1 38)) r4 u2 c3
  refine u_calli (va_runV (As := [va_rf (some ((ug G).2.1 38))]) (rest := []) hC.1 (met_X3_word l N G u a0 (some ((ug G).2.1 38)) r4 u2 c3) (cwV 1 hts (lw_V q2173 q2175 qs48 q103 q2176) rfl rfl rfl (by decide +kernel) ⟨Nat.le_trans (Nat.le_of_ble_eq_true rfl) hR.1, Nat.le_trans (Nat.le_of_ble_eq_true rfl) hR.2⟩) ⟨uPc_blind, u_rcv hC hP c1 rfl, fun U hU hW => u_pre hC hP hS hU hW⟩ rfl rfl hl.1 rfl (lv_room (Nat.le_of_ble_eq_true rfl)) dX3_wayWord_3 ⟨Nat.zero_le _, Nat.zero_le _⟩) hS (fun H locs hP hS => ?_)
  refine lv_if_eq (tgt := 13) hx hb dX3_wayWord_6 (by decide) (fun c5 => ?_) (fun c5 => ?_)
  · have h := mif_t c5 h
    refine u_aload_n (r := some a0) hx hb dX3_wayWord_13 rfl (lv_at hl 0 rfl) ?_
    refine u_ldcS hC 39 rfl dX3_wayWord_14 ?_
    obtain ⟨c6, h⟩ := mif_n h
    obtain ⟨r9, u7, c8, h⟩ := ucall_n h
    have zu7 := zz_X3_word N (ub G) (ug G) u2 a0 (some ((ug G).2.1 39)) r9 u7 c8
    refine u_calli (va_runV (As := [va_rf (some ((ug G).2.1 39))]) (rest := []) hC.1 (met_X3_word l N G u2 a0 (some ((ug G).2.1 39)) r9 u7 c8) (cwV 1 hts (lw_V q2173 q2175 qs48 q103 q2176) rfl rfl rfl (by decide +kernel) ⟨Nat.le_trans (Nat.le_of_ble_eq_true rfl) hR.1, Nat.le_trans (Nat.le_of_ble_eq_true rfl) hR.2⟩) ⟨uPc_blind, u_rcv hC hP c6 rfl, fun U hU hW => u_pre hC hP hS hU hW⟩ rfl rfl hl.1 rfl (lv_room (Nat.le_of_ble_eq_true rfl)) dX3_wayWord_16 ⟨Nat.zero_le _, Nat.zero_le _⟩) hS (fun H locs hP hS => ?_)
    refine lv_if_eq (tgt := 26) hx hb dX3_wayWord_19 (by decide) (fun c10 => ?_) (fun c10 => ?_)
    · have h := mif_t c10 h
      refine u_aload_n (r := some a0) hx hb dX3_wayWord_26 rfl (lv_at hl 0 rfl) ?_
      refine u_ldcS hC 40 rfl dX3_wayWord_27 ?_
      obtain ⟨c11, h⟩ := mif_n h
      obtain ⟨r14, u12, c13, h⟩ := ucall_n h
      have zu12 := zz_X3_word N (ub G) (ug G) u7 a0 (some ((ug G).2.1 40)) r14 u12 c13
      refine u_calli (va_runV (As := [va_rf (some ((ug G).2.1 40))]) (rest := []) hC.1 (met_X3_word l N G u7 a0 (some ((ug G).2.1 40)) r14 u12 c13) (cwV 1 hts (lw_V q2173 q2175 qs48 q103 q2176) rfl rfl rfl (by decide +kernel) ⟨Nat.le_trans (Nat.le_of_ble_eq_true rfl) hR.1, Nat.le_trans (Nat.le_of_ble_eq_true rfl) hR.2⟩) ⟨uPc_blind, u_rcv hC hP c11 rfl, fun U hU hW => u_pre hC hP hS hU hW⟩ rfl rfl hl.1 rfl (lv_room (Nat.le_of_ble_eq_true rfl)) dX3_wayWord_29 ⟨Nat.zero_le _, Nat.zero_le _⟩) hS (fun H locs hP hS => ?_)
      refine lv_if_eq (tgt := 39) hx hb dX3_wayWord_32 (by decide) (fun c15 => ?_) (fun c15 => ?_)
      · have h := mif_t c15 h
        refine u_aload_n (r := some a0) hx hb dX3_wayWord_39 rfl (lv_at hl 0 rfl) ?_
        refine u_ldcS hC 41 rfl dX3_wayWord_40 ?_
        obtain ⟨c16, h⟩ := mif_n h
        obtain ⟨r19, u17, c18, h⟩ := ucall_n h
        have zu17 := zz_X3_word N (ub G) (ug G) u12 a0 (some ((ug G).2.1 41)) r19 u17 c18
        refine u_calli (va_runV (As := [va_rf (some ((ug G).2.1 41))]) (rest := []) hC.1 (met_X3_word l N G u12 a0 (some ((ug G).2.1 41)) r19 u17 c18) (cwV 1 hts (lw_V q2173 q2175 qs48 q103 q2176) rfl rfl rfl (by decide +kernel) ⟨Nat.le_trans (Nat.le_of_ble_eq_true rfl) hR.1, Nat.le_trans (Nat.le_of_ble_eq_true rfl) hR.2⟩) ⟨uPc_blind, u_rcv hC hP c16 rfl, fun U hU hW => u_pre hC hP hS hU hW⟩ rfl rfl hl.1 rfl (lv_room (Nat.le_of_ble_eq_true rfl)) dX3_wayWord_42 ⟨Nat.zero_le _, Nat.zero_le _⟩) hS (fun H locs hP hS => ?_)
        refine lv_if_eq (tgt := 52) hx hb dX3_wayWord_45 (by decide) (fun c20 => ?_) (fun c20 => ?_)
        · have h := mif_t c20 h
          refine lv_iconst (v := (-1)) hx hb dX3_wayWord_52 (by decide) ?_
          exact w_X3_wayWord_53 hC hR N u17 (-1) h hP hS (lv_sub hl [] rfl)
        · have h := mif_f c20 h
          refine lv_iconst (v := 3) hx hb dX3_wayWord_48 (by decide) ?_
          refine lv_goto (tgt := 53) hx hb dX3_wayWord_49 (by decide) ?_
          exact w_X3_wayWord_53 hC hR N u17 3 h hP hS (lv_sub hl [] rfl)
      · have h := mif_f c15 h
        refine lv_iconst (v := 2) hx hb dX3_wayWord_35 (by decide) ?_
        refine lv_goto (tgt := 53) hx hb dX3_wayWord_36 (by decide) ?_
        exact w_X3_wayWord_53 hC hR N u12 2 h hP hS (lv_sub hl [] rfl)
    · have h := mif_f c10 h
      refine lv_iconst (v := 1) hx hb dX3_wayWord_22 (by decide) ?_
      refine lv_goto (tgt := 53) hx hb dX3_wayWord_23 (by decide) ?_
      exact w_X3_wayWord_53 hC hR N u7 1 h hP hS (lv_sub hl [] rfl)
  · have h := mif_f c5 h
    refine lv_iconst (v := 0) hx hb dX3_wayWord_9 (by decide) ?_
    refine lv_goto (tgt := 53) hx hb dX3_wayWord_10 (by decide) ?_
    exact w_X3_wayWord_53 hC hR N u2 0 h hP hS (lv_sub hl [] rfl)
theorem zz_X3_wayWord (N b : Nat) (g : uEnv) (u : UH) (a0 : Nat) (r : Int32) (uf : UH) (h : f_X3_wayWord N b g u a0 = some (r, uf)) : uf.1 = u.1 ∧ uf.2.1 = u.2.1 :=
  zz_X3_wayWord_0 (G := ((fun _ => 0, fun _ _ => 0), fun _ => 0, b, g)) (a0 := a0) N u h
theorem met_X3_wayWord (l : Launch) (N : Nat) (G : uG) (u : UH) (a0 : Nat) (r : Int32) (uf : UH) (h : f_X3_wayWord N (ub G) (ug G) u a0 = some (r, uf)) : Met l yX3_wayWord (ws_ yX3_wayWord cX3_wayWord 1 (some .int)) ({ frames := 5, cells := 0, slots := 0, locals := 108 }) (uPc G u [.ref a0]) (uQi G r uf) 0 0 (uA G) := by
  exact u_met (own := RX3) (by decide +kernel) rfl (Nat.le_of_ble_eq_true rfl) (fun hC hn hsz ls hl hP => w_X3_wayWord_0 hC ⟨Nat.le_refl _, Nat.le_refl _⟩ N u h hP va_S.rf hl)
def f_X3_order_75 (N b : Nat) (g : uEnv) (a0 : Nat) (u : UH) : Option (Int32 × UH) :=
    (uGI u a0 2 58).bind fun y1 =>
    (uPut b u a0 2 58 (.int (y1 + 1))).bind fun u2 =>
    (uGI u2 a0 2 58).bind fun y3 =>
    some (y3 - 1, u2)
set_option maxHeartbeats 4000000 in
set_option maxRecDepth 100000 in
theorem zz_X3_order_75 {G : uG} {a0 : Nat} {uf : UH} {r : Int32} (N : Nat) (u : UH) (h : f_X3_order_75 N (ub G) (ug G) a0 u = some (r, uf)) : uf.1 = u.1 ∧ uf.2.1 = u.2.1 := by
  unfold f_X3_order_75 at h
  obtain ⟨y1, hy1, h⟩ := mbind_n h
  obtain ⟨u2, hu2, h⟩ := mbind_n h
  have zu2 := uPut_sz hu2
  obtain ⟨y3, hy3, h⟩ := mbind_n h
  obtain ⟨hr1, hr2⟩ := uret_n h
  subst hr2
  exact ⟨by omega, by omega⟩
set_option maxHeartbeats 4000000 in
set_option maxRecDepth 100000 in
theorem w_X3_order_75 {p : Program} {l : Launch} {e : Env} {R : Room} {s : State} {m : MethodId} {args : Array Value} {below : List Frame} {meth : Method} {c : Code} {G : uG} {a0 : Nat} {uf : UH} {r : Int32} (hC : uC p s m args meth c G RX3 cX3_order 6 (some .int)) (hR : 0 ≤ R.frames ∧ 0 ≤ R.locals) (N : Nat) (u : UH) (h : f_X3_order_75 N (ub G) (ug G) a0 u = some (r, uf)) {H : Heap} {locs : List Loc} (hP : uP G u H) (hS : va_S (uA G) s.heap H locs) {ls : Array Slot} (hl : lv_has ls 6 [(0, va_rf (some a0))]) : W p l e R s m args below meth c H locs 0 0 (MQ below (uQi G r uf) args s 0 0 (uA G)) (F0 m 75 ls []) := by
  obtain ⟨⟨hx, hb, hml, hown, hts⟩, hKK⟩ := id hC
  unfold f_X3_order_75 at h
  refine u_aload_n (r := some a0) hx hb dX3_order_75 rfl (lv_at hl 0 rfl) ?_
  refine lv_dup hx hb dX3_order_76 (u_cat _) ?_
  obtain ⟨y1, hy1, h⟩ := mbind_n h
  refine u_get hC hP (uGI_n hy1) rfl in_X3 (by decide) q1951 (fun _ h => h) dX3_order_77 ?_
  refine lv_iconst (v := 1) hx hb dX3_order_80 (by decide) ?_
  refine lv_iadd hx hb dX3_order_81 ?_
  obtain ⟨u2, hu2, h⟩ := mbind_n h
  have zu2 := uPut_sz hu2
  refine u_put hC hP hS hu2 rfl in_X3 tyX3 tyX3_ok nmX3 (by decide) q1951 (fun _ h => h) rfl (ty := .int) (tyX3_ok 58 (by decide)) rfl rfl dX3_order_82 (fun H locs hP hS => ?_)
  refine u_aload_n (r := some a0) hx hb dX3_order_85 rfl (lv_at hl 0 rfl) ?_
  obtain ⟨y3, hy3, h⟩ := mbind_n h
  refine u_get hC hP (uGI_n hy3) rfl in_X3 (by decide) q1951 (fun _ h => h) dX3_order_86 ?_
  refine lv_iconst (v := 1) hx hb dX3_order_89 (by decide) ?_
  refine lv_isub hx hb dX3_order_90 ?_
  obtain ⟨hr1, hr2⟩ := uret_n h
  subst hr1
  subst hr2
  exact u_iret hC hP hS dX3_order_91
def f_X3_order (N b : Nat) (g : uEnv) (u : UH) (a0 : Nat) (x1 : Int32) (x2 : Int32) (x3 : Int32) (x4 : Int32) : Option (Int32 × UH) :=
    (uGI u a0 2 40).bind fun y1 =>
    (uGI u a0 2 58).bind fun y2 =>
    mlet ((512 * y1) + (4 * y2)) fun y3 =>
    (uGI u a0 2 40).bind fun y4 =>
    if 8 ≤ y4 then
    f_X3_order_75 N b g a0 u
    else
    (uGI u a0 2 58).bind fun y6 =>
    if 128 ≤ y6 then
    f_X3_order_75 N b g a0 u
    else
    (uGR u a0 2 56).bind fun o8 =>
    (o8).bind fun a9 =>
    (uStI b u a9 0 y3 x1).bind fun u10 =>
    (uGR u10 a0 2 56).bind fun o11 =>
    (o11).bind fun a12 =>
    (uStI b u10 a12 0 (y3 + 1) x2).bind fun u13 =>
    (uGR u13 a0 2 56).bind fun o14 =>
    (o14).bind fun a15 =>
    (uStI b u13 a15 0 (y3 + 2) x3).bind fun u16 =>
    (uGR u16 a0 2 56).bind fun o17 =>
    (o17).bind fun a18 =>
    (uStI b u16 a18 0 (y3 + 3) x4).bind fun u19 =>
    f_X3_order_75 N b g a0 u19
set_option maxHeartbeats 4000000 in
set_option maxRecDepth 100000 in
theorem zz_X3_order_0 {G : uG} {a0 : Nat} {uf : UH} {r : Int32} (N : Nat) (u : UH) (x1 : Int32) (x2 : Int32) (x3 : Int32) (x4 : Int32) (h : f_X3_order N (ub G) (ug G) u a0 x1 x2 x3 x4 = some (r, uf)) : uf.1 = u.1 ∧ uf.2.1 = u.2.1 := by
  unfold f_X3_order at h
  obtain ⟨y1, hy1, h⟩ := mbind_n h
  obtain ⟨y2, hy2, h⟩ := mbind_n h
  obtain ⟨y3, ey3⟩ : ∃ z, z = (512 * y1) + (4 * y2) := ⟨_, rfl⟩
  have h := mlet_at ey3 h
  obtain ⟨y4, hy4, h⟩ := mbind_n h
  by_cases c5 : 8 ≤ y4
  · have h := mif_t c5 h
    have hq := zz_X3_order_75 (G := G) (a0 := a0) N u h
    exact ⟨by omega, by omega⟩
  · have h := mif_f c5 h
    obtain ⟨y6, hy6, h⟩ := mbind_n h
    by_cases c7 : 128 ≤ y6
    · have h := mif_t c7 h
      have hq := zz_X3_order_75 (G := G) (a0 := a0) N u h
      exact ⟨by omega, by omega⟩
    · have h := mif_f c7 h
      obtain ⟨o8, ho8, h⟩ := mbind_n h
      obtain ⟨a9, ha9, hha9⟩ := mbind_n h
      subst ha9
      have h := hha9
      obtain ⟨u10, hu10, h⟩ := mbind_n h
      have zu10 := uStI_sz hu10
      obtain ⟨o11, ho11, h⟩ := mbind_n h
      obtain ⟨a12, ha12, hha12⟩ := mbind_n h
      subst ha12
      have h := hha12
      obtain ⟨u13, hu13, h⟩ := mbind_n h
      have zu13 := uStI_sz hu13
      obtain ⟨o14, ho14, h⟩ := mbind_n h
      obtain ⟨a15, ha15, hha15⟩ := mbind_n h
      subst ha15
      have h := hha15
      obtain ⟨u16, hu16, h⟩ := mbind_n h
      have zu16 := uStI_sz hu16
      obtain ⟨o17, ho17, h⟩ := mbind_n h
      obtain ⟨a18, ha18, hha18⟩ := mbind_n h
      subst ha18
      have h := hha18
      obtain ⟨u19, hu19, h⟩ := mbind_n h
      have zu19 := uStI_sz hu19
      have hq := zz_X3_order_75 (G := G) (a0 := a0) N u19 h
      exact ⟨by omega, by omega⟩
set_option maxHeartbeats 4000000 in
set_option maxRecDepth 100000 in
theorem w_X3_order_0 {p : Program} {l : Launch} {e : Env} {R : Room} {s : State} {m : MethodId} {args : Array Value} {below : List Frame} {meth : Method} {c : Code} {G : uG} {a0 : Nat} {uf : UH} {r : Int32} (hC : uC p s m args meth c G RX3 cX3_order 6 (some .int)) (hR : 0 ≤ R.frames ∧ 0 ≤ R.locals) (N : Nat) (u : UH) (x1 : Int32) (x2 : Int32) (x3 : Int32) (x4 : Int32) (h : f_X3_order N (ub G) (ug G) u a0 x1 x2 x3 x4 = some (r, uf)) {H : Heap} {locs : List Loc} (hP : uP G u H) (hS : va_S (uA G) s.heap H locs) {ls : Array Slot} (hl : lv_has ls 6 [(0, va_rf (some a0)), (1, .int x1), (2, .int x2), (3, .int x3), (4, .int x4)]) : W p l e R s m args below meth c H locs 0 0 (MQ below (uQi G r uf) args s 0 0 (uA G)) (F0 m 0 ls []) := by
  obtain ⟨⟨hx, hb, hml, hown, hts⟩, hKK⟩ := id hC
  unfold f_X3_order at h
  refine lv_sipush (v := 512) hx hb dX3_order_0 (by decide) ?_
  refine u_aload_n (r := some a0) hx hb dX3_order_3 rfl (lv_at hl 0 rfl) ?_
  obtain ⟨y1, hy1, h⟩ := mbind_n h
  refine u_get hC hP (uGI_n hy1) rfl in_X3 (by decide) q1933 (fun _ h => h) dX3_order_4 ?_
  refine lv_imul hx hb dX3_order_7 ?_
  refine lv_iconst (v := 4) hx hb dX3_order_8 (by decide) ?_
  refine u_aload_n (r := some a0) hx hb dX3_order_9 rfl (lv_at hl 0 rfl) ?_
  obtain ⟨y2, hy2, h⟩ := mbind_n h
  refine u_get hC hP (uGI_n hy2) rfl in_X3 (by decide) q1951 (fun _ h => h) dX3_order_10 ?_
  refine lv_imul hx hb dX3_order_13 ?_
  refine lv_iadd hx hb dX3_order_14 ?_
  refine lv_topi (fun y3 ey3 => ?_)
  have h := mlet_at ey3 h
  refine lv_istore (lv' := [(5, .int y3), (0, va_rf (some a0)), (1, .int x1), (2, .int x2), (3, .int x3), (4, .int x4)]) hx hb dX3_order_15 hl (by decide) rfl (fun ls hl => ?_)
  refine u_aload_n (r := some a0) hx hb dX3_order_17 rfl (lv_at hl 1 rfl) ?_
  obtain ⟨y4, hy4, h⟩ := mbind_n h
  refine u_get hC hP (uGI_n hy4) rfl in_X3 (by decide) q1933 (fun _ h => h) dX3_order_18 ?_
  refine lv_bipush (v := 8) hx hb dX3_order_21 (by decide) ?_
  refine lv_icmp_ge (tgt := 75) hx hb dX3_order_23 (by decide) (fun c5 => ?_) (fun c5 => ?_)
  · have h := mif_t c5 h
    exact w_X3_order_75 hC hR N u h hP hS (lv_sub hl [1] rfl)
  · have h := mif_f c5 h
    refine u_aload_n (r := some a0) hx hb dX3_order_26 rfl (lv_at hl 1 rfl) ?_
    obtain ⟨y6, hy6, h⟩ := mbind_n h
    refine u_get hC hP (uGI_n hy6) rfl in_X3 (by decide) q1951 (fun _ h => h) dX3_order_27 ?_
    refine lv_sipush (v := 128) hx hb dX3_order_30 (by decide) ?_
    refine lv_icmp_ge (tgt := 75) hx hb dX3_order_33 (by decide) (fun c7 => ?_) (fun c7 => ?_)
    · have h := mif_t c7 h
      exact w_X3_order_75 hC hR N u h hP hS (lv_sub hl [1] rfl)
    · have h := mif_f c7 h
      refine u_aload_n (r := some a0) hx hb dX3_order_36 rfl (lv_at hl 1 rfl) ?_
      obtain ⟨o8, ho8, h⟩ := mbind_n h
      refine u_get hC hP (uGR_n ho8) rfl in_X3 (by decide) q1949 (fun _ h => h) dX3_order_37 ?_
      refine lv_iload hx hb dX3_order_40 (lv_at hl 0 rfl) ?_
      refine lv_iload_n hx hb dX3_order_42 rfl (lv_at hl 2 rfl) ?_
      obtain ⟨a9, ha9, hha9⟩ := mbind_n h
      subst ha9
      have h := hha9
      obtain ⟨u10, hu10, h⟩ := mbind_n h
      have zu10 := uStI_sz hu10
      refine u_iast hC hP hS hu10 rfl dX3_order_43 (fun H locs hP hS => ?_)
      refine u_aload_n (r := some a0) hx hb dX3_order_44 rfl (lv_at hl 1 rfl) ?_
      obtain ⟨o11, ho11, h⟩ := mbind_n h
      refine u_get hC hP (uGR_n ho11) rfl in_X3 (by decide) q1949 (fun _ h => h) dX3_order_45 ?_
      refine lv_iload hx hb dX3_order_48 (lv_at hl 0 rfl) ?_
      refine lv_iconst (v := 1) hx hb dX3_order_50 (by decide) ?_
      refine lv_iadd hx hb dX3_order_51 ?_
      refine lv_iload_n hx hb dX3_order_52 rfl (lv_at hl 3 rfl) ?_
      obtain ⟨a12, ha12, hha12⟩ := mbind_n h
      subst ha12
      have h := hha12
      obtain ⟨u13, hu13, h⟩ := mbind_n h
      have zu13 := uStI_sz hu13
      refine u_iast hC hP hS hu13 rfl dX3_order_53 (fun H locs hP hS => ?_)
      refine u_aload_n (r := some a0) hx hb dX3_order_54 rfl (lv_at hl 1 rfl) ?_
      obtain ⟨o14, ho14, h⟩ := mbind_n h
      refine u_get hC hP (uGR_n ho14) rfl in_X3 (by decide) q1949 (fun _ h => h) dX3_order_55 ?_
      refine lv_iload hx hb dX3_order_58 (lv_at hl 0 rfl) ?_
      refine lv_iconst (v := 2) hx hb dX3_order_60 (by decide) ?_
      refine lv_iadd hx hb dX3_order_61 ?_
      refine lv_iload_n hx hb dX3_order_62 rfl (lv_at hl 4 rfl) ?_
      obtain ⟨a15, ha15, hha15⟩ := mbind_n h
      subst ha15
      have h := hha15
      obtain ⟨u16, hu16, h⟩ := mbind_n h
      have zu16 := uStI_sz hu16
      refine u_iast hC hP hS hu16 rfl dX3_order_63 (fun H locs hP hS => ?_)
      refine u_aload_n (r := some a0) hx hb dX3_order_64 rfl (lv_at hl 1 rfl) ?_
      obtain ⟨o17, ho17, h⟩ := mbind_n h
      refine u_get hC hP (uGR_n ho17) rfl in_X3 (by decide) q1949 (fun _ h => h) dX3_order_65 ?_
      refine lv_iload hx hb dX3_order_68 (lv_at hl 0 rfl) ?_
      refine lv_iconst (v := 3) hx hb dX3_order_70 (by decide) ?_
      refine lv_iadd hx hb dX3_order_71 ?_
      refine lv_iload hx hb dX3_order_72 (lv_at hl 5 rfl) ?_
      obtain ⟨a18, ha18, hha18⟩ := mbind_n h
      subst ha18
      have h := hha18
      obtain ⟨u19, hu19, h⟩ := mbind_n h
      have zu19 := uStI_sz hu19
      refine u_iast hC hP hS hu19 rfl dX3_order_74 (fun H locs hP hS => ?_)
      exact w_X3_order_75 hC hR N u19 h hP hS (lv_sub hl [1] rfl)
theorem zz_X3_order (N b : Nat) (g : uEnv) (u : UH) (a0 : Nat) (x1 : Int32) (x2 : Int32) (x3 : Int32) (x4 : Int32) (r : Int32) (uf : UH) (h : f_X3_order N b g u a0 x1 x2 x3 x4 = some (r, uf)) : uf.1 = u.1 ∧ uf.2.1 = u.2.1 :=
  zz_X3_order_0 (G := ((fun _ => 0, fun _ _ => 0), fun _ => 0, b, g)) (a0 := a0) N u x1 x2 x3 x4 h
theorem met_X3_order (l : Launch) (N : Nat) (G : uG) (u : UH) (a0 : Nat) (x1 : Int32) (x2 : Int32) (x3 : Int32) (x4 : Int32) (r : Int32) (uf : UH) (h : f_X3_order N (ub G) (ug G) u a0 x1 x2 x3 x4 = some (r, uf)) : Met l yX3_order (ws_ yX3_order cX3_order 6 (some .int)) ({ frames := 0, cells := 0, slots := 0, locals := 0 }) (uPc G u [.ref a0, .int x1, .int x2, .int x3, .int x4]) (uQi G r uf) 0 0 (uA G) := by
  exact u_met (own := RX3) (by decide +kernel) rfl (Nat.le_of_ble_eq_true rfl) (fun hC hn hsz ls hl hP => w_X3_order_0 hC ⟨Nat.le_refl _, Nat.le_refl _⟩ N u x1 x2 x3 x4 h hP va_S.rf hl)
def f_X3_opens_87 (N b : Nat) (g : uEnv) (a0 : Nat) (u : UH) (x2 : Int32) (x4 : Int32) : Option (Int32 × UH) :=
    if uIs u a0 2 = true then
    ucall (f_X3_order N b g u a0 0 x2 x4 0) fun r4 u2 =>
    some (0, u2)
    else none
set_option maxHeartbeats 4000000 in
set_option maxRecDepth 100000 in
theorem zz_X3_opens_87 {G : uG} {a0 : Nat} {uf : UH} {r : Int32} (N : Nat) (u : UH) (x2 : Int32) (x4 : Int32) (h : f_X3_opens_87 N (ub G) (ug G) a0 u x2 x4 = some (r, uf)) : uf.1 = u.1 ∧ uf.2.1 = u.2.1 := by
  unfold f_X3_opens_87 at h
  obtain ⟨c1, h⟩ := mif_n h
  obtain ⟨r4, u2, c3, h⟩ := ucall_n h
  have zu2 := zz_X3_order N (ub G) (ug G) u a0 0 x2 x4 0 r4 u2 c3
  obtain ⟨hr1, hr2⟩ := uret_n h
  subst hr2
  exact ⟨by omega, by omega⟩
set_option maxHeartbeats 4000000 in
set_option maxRecDepth 100000 in
theorem w_X3_opens_87 {p : Program} {l : Launch} {e : Env} {R : Room} {s : State} {m : MethodId} {args : Array Value} {below : List Frame} {meth : Method} {c : Code} {G : uG} {a0 : Nat} {uf : UH} {r : Int32} (hC : uC p s m args meth c G RX3 cX3_opens 6 (some .boolean)) (hR : 6 ≤ R.frames ∧ 129 ≤ R.locals) (N : Nat) (u : UH) (x2 : Int32) (x4 : Int32) (h : f_X3_opens_87 N (ub G) (ug G) a0 u x2 x4 = some (r, uf)) {H : Heap} {locs : List Loc} (hP : uP G u H) (hS : va_S (uA G) s.heap H locs) {ls : Array Slot} (hl : lv_has ls 6 [(0, va_rf (some a0)), (2, .int x2), (4, .int x4)]) : W p l e R s m args below meth c H locs 0 0 (MQ below (uQi G r uf) args s 0 0 (uA G)) (F0 m 87 ls []) := by
  obtain ⟨⟨hx, hb, hml, hown, hts⟩, hKK⟩ := id hC
  unfold f_X3_opens_87 at h
  refine u_aload_n (r := some a0) hx hb dX3_opens_87 rfl (lv_at hl 0 rfl) ?_
  refine lv_iconst (v := 0) hx hb dX3_opens_88 (by decide) ?_
  refine lv_iload_n hx hb dX3_opens_89 rfl (lv_at hl 1 rfl) ?_
  refine lv_iload hx hb dX3_opens_90 (lv_at hl 2 rfl) ?_
  refine lv_iconst (v := 0) hx hb dX3_opens_92 (by decide) ?_
  obtain ⟨c1, h⟩ := mif_n h
  obtain ⟨r4, u2, c3, h⟩ := ucall_n h
  have zu2 := zz_X3_order N (ub G) (ug G) u a0 0 x2 x4 0 r4 u2 c3
  refine u_calli (va_runV (As := [.int 0, .int x2, .int x4, .int 0]) (rest := []) hC.1 (met_X3_order l N G u a0 0 x2 x4 0 r4 u2 c3) (cwV 4 hts (lw_V q2483 q2485 qs90 q103 q2486) rfl rfl rfl (by decide +kernel) ⟨Nat.le_trans (Nat.le_of_ble_eq_true rfl) hR.1, Nat.le_trans (Nat.le_of_ble_eq_true rfl) hR.2⟩) ⟨uPc_blind, u_rcv hC hP c1 rfl, fun U hU hW => u_pre hC hP hS hU hW⟩ rfl rfl hl.1 rfl (lv_room (Nat.le_of_ble_eq_true rfl)) dX3_opens_93 ⟨Nat.zero_le _, Nat.zero_le _⟩) hS (fun H locs hP hS => ?_)
  refine lv_pop hx hb dX3_opens_96 rfl ?_
  refine lv_iconst (v := 0) hx hb dX3_opens_97 (by decide) ?_
  obtain ⟨hr1, hr2⟩ := uret_n h
  subst hr1
  subst hr2
  exact u_zret hC (uFit_n (ty := .boolean) (v := 0) rfl).1 hP hS dX3_opens_98
def f_X3_opens_30 (N b : Nat) (g : uEnv) (a0 : Nat) (u : UH) (x1 : Int32) (x2 : Int32) (x3 : Int32) : Option (Int32 × UH) :=
    (uGI u a0 2 59).bind fun y1 =>
    if y1 = 40 then
    (uGI u a0 2 4).bind fun y97 =>
    if uIs u a0 2 = true then
    ucall (f_X3_wrong N b g u a0 5 y97) fun r101 u99 =>
    if uFit .boolean r101 = true then
    some (r101, u99)
    else none
    else none
    else
    (uGI u a0 2 59).bind fun y3 =>
    (uPut b u a0 2 59 (.int (y3 + 1))).bind fun u4 =>
    if uIs u4 a0 2 = true then
    (f_X3_next N b g u4 a0).bind fun u6 =>
    if x3 = 0 then
    (uGI u6 a0 2 6).bind fun y91 =>
    if y91 = 3 then
    if uIs u6 a0 2 = true then
    ucall (f_X3_number N b g u6 a0 1 9) fun r96 u94 =>
    f_X3_opens_87 N b g a0 u94 x2 r96
    else none
    else
    f_X3_opens_87 N b g a0 u6 x2 1
    else
    (uGI u6 a0 2 6).bind fun y9 =>
    if y9 = 3 then
    (uGI u6 a0 2 7).bind fun y11 =>
    (uGI u6 a0 2 37).bind fun y12 =>
    if y11 < y12 then
    if uIs u6 a0 2 = true then
    (f_X3_next N b g u6 a0).bind fun u15 =>
    if uIs u15 a0 2 = true then
    ucall (f_X3_must N b g u15 a0 (some (g.2.1 36))) fun r20 u18 =>
    (uGI u18 a0 2 13).bind fun y21 =>
    if y21 = 0 then
    if uIs u18 a0 2 = true then
    ucall (f_X3_isName N b g u18 a0) fun r26 u24 =>
    if r26 = 0 then
    (uGI u24 a0 2 4).bind fun y73 =>
    if uIs u24 a0 2 = true then
    ucall (f_X3_wrong N b g u24 a0 1 y73) fun r77 u75 =>
    if uFit .boolean r77 = true then
    some (r77, u75)
    else none
    else none
    else
    (uGR u24 a0 2 14).bind fun o28 =>
    (uGR u24 a0 2 15).bind fun o29 =>
    (uGI u24 a0 2 22).bind fun y30 =>
    if uIs u24 a0 2 = true then
    ucall (f_X3_find N b g u24 a0 o28 o29 y30) fun r34 u32 =>
    if 0 ≤ r34 then
    if uIs u32 a0 2 = true then
    (f_X3_next N b g u32 a0).bind fun u37 =>
    (uGI u37 a0 2 6).bind fun y39 =>
    if y39 = 40 then
    if x1 = 6 then
    (uGI u37 a0 2 4).bind fun y55 =>
    if uIs u37 a0 2 = true then
    ucall (f_X3_wrong N b g u37 a0 5 y55) fun r59 u57 =>
    if uFit .boolean r59 = true then
    some (r59, u57)
    else none
    else none
    else
    if uIs u37 a0 2 = true then
    (f_X3_next N b g u37 a0).bind fun u43 =>
    (uGR u43 a0 2 60).bind fun o45 =>
    if uIs u43 a0 2 = true then
    ucall (f_X3_order N b g u43 a0 1 y11 r34 0) fun r49 u47 =>
    (o45).bind fun a50 =>
    (uStI b u47 a50 0 x1 r49).bind fun u51 =>
    (uGR u51 a0 2 62).bind fun o52 =>
    (o52).bind fun a53 =>
    (uStI b u51 a53 2 x1 (vp_nar .boolean 0)).bind fun u54 =>
    some (1, u54)
    else none
    else none
    else
    (uGI u37 a0 2 4).bind fun y61 =>
    if uIs u37 a0 2 = true then
    ucall (f_X3_wrong N b g u37 a0 1 y61) fun r65 u63 =>
    if uFit .boolean r65 = true then
    some (r65, u63)
    else none
    else none
    else none
    else
    (uGI u32 a0 2 4).bind fun y67 =>
    if uIs u32 a0 2 = true then
    ucall (f_X3_wrong N b g u32 a0 2 y67) fun r71 u69 =>
    if uFit .boolean r71 = true then
    some (r71, u69)
    else none
    else none
    else none
    else none
    else
    some (0, u18)
    else none
    else none
    else
    (uGI u6 a0 2 4).bind fun y79 =>
    if uIs u6 a0 2 = true then
    ucall (f_X3_wrong N b g u6 a0 2 y79) fun r83 u81 =>
    if uFit .boolean r83 = true then
    some (r83, u81)
    else none
    else none
    else
    (uGI u6 a0 2 4).bind fun y85 =>
    if uIs u6 a0 2 = true then
    ucall (f_X3_wrong N b g u6 a0 1 y85) fun r89 u87 =>
    if uFit .boolean r89 = true then
    some (r89, u87)
    else none
    else none
    else none
set_option maxHeartbeats 4000000 in
set_option maxRecDepth 100000 in
theorem zz_X3_opens_30 {G : uG} {a0 : Nat} {uf : UH} {r : Int32} (N : Nat) (u : UH) (x1 : Int32) (x2 : Int32) (x3 : Int32) (h : f_X3_opens_30 N (ub G) (ug G) a0 u x1 x2 x3 = some (r, uf)) : uf.1 = u.1 ∧ uf.2.1 = u.2.1 := by
  unfold f_X3_opens_30 at h
  obtain ⟨y1, hy1, h⟩ := mbind_n h
  by_cases c2 : y1 = 40
  · have h := mif_t c2 h
    obtain ⟨y97, hy97, h⟩ := mbind_n h
    obtain ⟨c98, h⟩ := mif_n h
    obtain ⟨r101, u99, c100, h⟩ := ucall_n h
    have zu99 := zz_X3_wrong N (ub G) (ug G) u a0 5 y97 r101 u99 c100
    obtain ⟨c102, h⟩ := mif_n h
    obtain ⟨hr1, hr2⟩ := uret_n h
    subst hr2
    exact ⟨by omega, by omega⟩
  · have h := mif_f c2 h
    obtain ⟨y3, hy3, h⟩ := mbind_n h
    obtain ⟨u4, hu4, h⟩ := mbind_n h
    have zu4 := uPut_sz hu4
    obtain ⟨c5, h⟩ := mif_n h
    obtain ⟨u6, c7, h⟩ := mbind_n h
    have zu6 := zz_X3_next N (ub G) (ug G) u4 a0 u6 c7
    by_cases c8 : x3 = 0
    · have h := mif_t c8 h
      obtain ⟨y91, hy91, h⟩ := mbind_n h
      by_cases c92 : y91 = 3
      · have h := mif_t c92 h
        obtain ⟨c93, h⟩ := mif_n h
        obtain ⟨r96, u94, c95, h⟩ := ucall_n h
        have zu94 := zz_X3_number N (ub G) (ug G) u6 a0 1 9 r96 u94 c95
        have hq := zz_X3_opens_87 (G := G) (a0 := a0) N u94 x2 r96 h
        exact ⟨by omega, by omega⟩
      · have h := mif_f c92 h
        have hq := zz_X3_opens_87 (G := G) (a0 := a0) N u6 x2 1 h
        exact ⟨by omega, by omega⟩
    · have h := mif_f c8 h
      obtain ⟨y9, hy9, h⟩ := mbind_n h
      by_cases c10 : y9 = 3
      · have h := mif_t c10 h
        obtain ⟨y11, hy11, h⟩ := mbind_n h
        obtain ⟨y12, hy12, h⟩ := mbind_n h
        by_cases c13 : y11 < y12
        · have h := mif_t c13 h
          obtain ⟨c14, h⟩ := mif_n h
          obtain ⟨u15, c16, h⟩ := mbind_n h
          have zu15 := zz_X3_next N (ub G) (ug G) u6 a0 u15 c16
          obtain ⟨c17, h⟩ := mif_n h
          obtain ⟨r20, u18, c19, h⟩ := ucall_n h
          have zu18 := zz_X3_must N (ub G) (ug G) u15 a0 (some ((ug G).2.1 36)) r20 u18 c19
          obtain ⟨y21, hy21, h⟩ := mbind_n h
          by_cases c22 : y21 = 0
          · have h := mif_t c22 h
            obtain ⟨c23, h⟩ := mif_n h
            obtain ⟨r26, u24, c25, h⟩ := ucall_n h
            have zu24 := zz_X3_isName N (ub G) (ug G) u18 a0 r26 u24 c25
            by_cases c27 : r26 = 0
            · have h := mif_t c27 h
              obtain ⟨y73, hy73, h⟩ := mbind_n h
              obtain ⟨c74, h⟩ := mif_n h
              obtain ⟨r77, u75, c76, h⟩ := ucall_n h
              have zu75 := zz_X3_wrong N (ub G) (ug G) u24 a0 1 y73 r77 u75 c76
              obtain ⟨c78, h⟩ := mif_n h
              obtain ⟨hr1, hr2⟩ := uret_n h
              subst hr2
              exact ⟨by omega, by omega⟩
            · have h := mif_f c27 h
              obtain ⟨o28, ho28, h⟩ := mbind_n h
              obtain ⟨o29, ho29, h⟩ := mbind_n h
              obtain ⟨y30, hy30, h⟩ := mbind_n h
              obtain ⟨c31, h⟩ := mif_n h
              obtain ⟨r34, u32, c33, h⟩ := ucall_n h
              have zu32 := zz_X3_find N (ub G) (ug G) u24 a0 o28 o29 y30 r34 u32 c33
              by_cases c35 : 0 ≤ r34
              · have h := mif_t c35 h
                obtain ⟨c36, h⟩ := mif_n h
                obtain ⟨u37, c38, h⟩ := mbind_n h
                have zu37 := zz_X3_next N (ub G) (ug G) u32 a0 u37 c38
                obtain ⟨y39, hy39, h⟩ := mbind_n h
                by_cases c40 : y39 = 40
                · have h := mif_t c40 h
                  by_cases c41 : x1 = 6
                  · have h := mif_t c41 h
                    obtain ⟨y55, hy55, h⟩ := mbind_n h
                    obtain ⟨c56, h⟩ := mif_n h
                    obtain ⟨r59, u57, c58, h⟩ := ucall_n h
                    have zu57 := zz_X3_wrong N (ub G) (ug G) u37 a0 5 y55 r59 u57 c58
                    obtain ⟨c60, h⟩ := mif_n h
                    obtain ⟨hr1, hr2⟩ := uret_n h
                    subst hr2
                    exact ⟨by omega, by omega⟩
                  · have h := mif_f c41 h
                    obtain ⟨c42, h⟩ := mif_n h
                    obtain ⟨u43, c44, h⟩ := mbind_n h
                    have zu43 := zz_X3_next N (ub G) (ug G) u37 a0 u43 c44
                    obtain ⟨o45, ho45, h⟩ := mbind_n h
                    obtain ⟨c46, h⟩ := mif_n h
                    obtain ⟨r49, u47, c48, h⟩ := ucall_n h
                    have zu47 := zz_X3_order N (ub G) (ug G) u43 a0 1 y11 r34 0 r49 u47 c48
                    obtain ⟨a50, ha50, hha50⟩ := mbind_n h
                    subst ha50
                    have h := hha50
                    obtain ⟨u51, hu51, h⟩ := mbind_n h
                    have zu51 := uStI_sz hu51
                    obtain ⟨o52, ho52, h⟩ := mbind_n h
                    obtain ⟨a53, ha53, hha53⟩ := mbind_n h
                    subst ha53
                    have h := hha53
                    obtain ⟨u54, hu54, h⟩ := mbind_n h
                    have zu54 := uStI_sz hu54
                    obtain ⟨hr1, hr2⟩ := uret_n h
                    subst hr2
                    exact ⟨by omega, by omega⟩
                · have h := mif_f c40 h
                  obtain ⟨y61, hy61, h⟩ := mbind_n h
                  obtain ⟨c62, h⟩ := mif_n h
                  obtain ⟨r65, u63, c64, h⟩ := ucall_n h
                  have zu63 := zz_X3_wrong N (ub G) (ug G) u37 a0 1 y61 r65 u63 c64
                  obtain ⟨c66, h⟩ := mif_n h
                  obtain ⟨hr1, hr2⟩ := uret_n h
                  subst hr2
                  exact ⟨by omega, by omega⟩
              · have h := mif_f c35 h
                obtain ⟨y67, hy67, h⟩ := mbind_n h
                obtain ⟨c68, h⟩ := mif_n h
                obtain ⟨r71, u69, c70, h⟩ := ucall_n h
                have zu69 := zz_X3_wrong N (ub G) (ug G) u32 a0 2 y67 r71 u69 c70
                obtain ⟨c72, h⟩ := mif_n h
                obtain ⟨hr1, hr2⟩ := uret_n h
                subst hr2
                exact ⟨by omega, by omega⟩
          · have h := mif_f c22 h
            obtain ⟨hr1, hr2⟩ := uret_n h
            subst hr2
            exact ⟨by omega, by omega⟩
        · have h := mif_f c13 h
          obtain ⟨y79, hy79, h⟩ := mbind_n h
          obtain ⟨c80, h⟩ := mif_n h
          obtain ⟨r83, u81, c82, h⟩ := ucall_n h
          have zu81 := zz_X3_wrong N (ub G) (ug G) u6 a0 2 y79 r83 u81 c82
          obtain ⟨c84, h⟩ := mif_n h
          obtain ⟨hr1, hr2⟩ := uret_n h
          subst hr2
          exact ⟨by omega, by omega⟩
      · have h := mif_f c10 h
        obtain ⟨y85, hy85, h⟩ := mbind_n h
        obtain ⟨c86, h⟩ := mif_n h
        obtain ⟨r89, u87, c88, h⟩ := ucall_n h
        have zu87 := zz_X3_wrong N (ub G) (ug G) u6 a0 1 y85 r89 u87 c88
        obtain ⟨c90, h⟩ := mif_n h
        obtain ⟨hr1, hr2⟩ := uret_n h
        subst hr2
        exact ⟨by omega, by omega⟩
set_option maxHeartbeats 4000000 in
set_option maxRecDepth 100000 in
theorem w_X3_opens_30 {p : Program} {l : Launch} {e : Env} {R : Room} {s : State} {m : MethodId} {args : Array Value} {below : List Frame} {meth : Method} {c : Code} {G : uG} {a0 : Nat} {uf : UH} {r : Int32} (hC : uC p s m args meth c G RX3 cX3_opens 6 (some .boolean)) (hR : 6 ≤ R.frames ∧ 129 ≤ R.locals) (N : Nat) (u : UH) (x1 : Int32) (x2 : Int32) (x3 : Int32) (h : f_X3_opens_30 N (ub G) (ug G) a0 u x1 x2 x3 = some (r, uf)) {H : Heap} {locs : List Loc} (hP : uP G u H) (hS : va_S (uA G) s.heap H locs) {ls : Array Slot} (hl : lv_has ls 6 [(0, va_rf (some a0)), (1, .int x1), (2, .int x2), (3, .int x3)]) : W p l e R s m args below meth c H locs 0 0 (MQ below (uQi G r uf) args s 0 0 (uA G)) (F0 m 30 ls []) := by
  obtain ⟨⟨hx, hb, hml, hown, hts⟩, hKK⟩ := id hC
  unfold f_X3_opens_30 at h
  refine u_aload_n (r := some a0) hx hb dX3_opens_30 rfl (lv_at hl 0 rfl) ?_
  obtain ⟨y1, hy1, h⟩ := mbind_n h
  refine u_get hC hP (uGI_n hy1) rfl in_X3 (by decide) q1952 (fun _ h => h) dX3_opens_31 ?_
  refine lv_bipush (v := 40) hx hb dX3_opens_34 (by decide) ?_
  refine lv_icmp_ne (tgt := 49) hx hb dX3_opens_36 (by decide) (fun c2 => ?_) (fun c2 => ?_)
  · have h := mif_f c2 h
    refine u_aload_n (r := some a0) hx hb dX3_opens_49 rfl (lv_at hl 0 rfl) ?_
    refine lv_dup hx hb dX3_opens_50 (u_cat _) ?_
    obtain ⟨y3, hy3, h⟩ := mbind_n h
    refine u_get hC hP (uGI_n hy3) rfl in_X3 (by decide) q1952 (fun _ h => h) dX3_opens_51 ?_
    refine lv_iconst (v := 1) hx hb dX3_opens_54 (by decide) ?_
    refine lv_iadd hx hb dX3_opens_55 ?_
    obtain ⟨u4, hu4, h⟩ := mbind_n h
    have zu4 := uPut_sz hu4
    refine u_put hC hP hS hu4 rfl in_X3 tyX3 tyX3_ok nmX3 (by decide) q1952 (fun _ h => h) rfl (ty := .int) (tyX3_ok 59 (by decide)) rfl rfl dX3_opens_56 (fun H locs hP hS => ?_)
    refine u_aload_n (r := some a0) hx hb dX3_opens_59 rfl (lv_at hl 0 rfl) ?_
    obtain ⟨c5, h⟩ := mif_n h
    obtain ⟨u6, c7, h⟩ := mbind_n h
    have zu6 := zz_X3_next N (ub G) (ug G) u4 a0 u6 c7
    refine u_callv (va_runV (As := []) (rest := []) hC.1 (met_X3_next l N G u4 a0 u6 c7) (cwV 0 hts (lw_V q2154 q2156 qs45 q103 q2157) rfl rfl rfl (by decide +kernel) ⟨Nat.le_trans (Nat.le_of_ble_eq_true rfl) hR.1, Nat.le_trans (Nat.le_of_ble_eq_true rfl) hR.2⟩) ⟨uPc_blind, u_rcv hC hP c5 rfl, fun U hU hW => u_pre hC hP hS hU hW⟩ rfl rfl hl.1 rfl (lv_room (Nat.le_of_ble_eq_true rfl)) dX3_opens_60 ⟨Nat.zero_le _, Nat.zero_le _⟩) hS (fun H locs hP hS => ?_)
    refine lv_iload_n hx hb dX3_opens_63 rfl (lv_at hl 3 rfl) ?_
    refine lv_if_ne (tgt := 99) hx hb dX3_opens_64 (by decide) (fun c8 => ?_) (fun c8 => ?_)
    · have h := mif_f c8 h
      refine u_aload_n (r := some a0) hx hb dX3_opens_99 rfl (lv_at hl 0 rfl) ?_
      obtain ⟨y9, hy9, h⟩ := mbind_n h
      refine u_get hC hP (uGI_n hy9) rfl in_X3 (by decide) q1899 (fun _ h => h) dX3_opens_100 ?_
      refine lv_iconst (v := 3) hx hb dX3_opens_103 (by decide) ?_
      refine lv_icmp_eq (tgt := 117) hx hb dX3_opens_104 (by decide) (fun c10 => ?_) (fun c10 => ?_)
      · have h := mif_t c10 h
        refine u_aload_n (r := some a0) hx hb dX3_opens_117 rfl (lv_at hl 0 rfl) ?_
        obtain ⟨y11, hy11, h⟩ := mbind_n h
        refine u_get hC hP (uGI_n hy11) rfl in_X3 (by decide) q1900 (fun _ h => h) dX3_opens_118 ?_
        refine lv_istore (lv' := [(4, .int y11), (0, va_rf (some a0)), (1, .int x1), (2, .int x2), (3, .int x3)]) hx hb dX3_opens_121 hl (by decide) rfl (fun ls hl => ?_)
        refine lv_iload hx hb dX3_opens_123 (lv_at hl 0 rfl) ?_
        refine u_aload_n (r := some a0) hx hb dX3_opens_125 rfl (lv_at hl 1 rfl) ?_
        obtain ⟨y12, hy12, h⟩ := mbind_n h
        refine u_get hC hP (uGI_n hy12) rfl in_X3 (by decide) q1930 (fun _ h => h) dX3_opens_126 ?_
        refine lv_icmp_lt (tgt := 142) hx hb dX3_opens_129 (by decide) (fun c13 => ?_) (fun c13 => ?_)
        · have h := mif_t c13 h
          refine u_aload_n (r := some a0) hx hb dX3_opens_142 rfl (lv_at hl 1 rfl) ?_
          obtain ⟨c14, h⟩ := mif_n h
          obtain ⟨u15, c16, h⟩ := mbind_n h
          have zu15 := zz_X3_next N (ub G) (ug G) u6 a0 u15 c16
          refine u_callv (va_runV (As := []) (rest := []) hC.1 (met_X3_next l N G u6 a0 u15 c16) (cwV 0 hts (lw_V q2154 q2156 qs45 q103 q2157) rfl rfl rfl (by decide +kernel) ⟨Nat.le_trans (Nat.le_of_ble_eq_true rfl) hR.1, Nat.le_trans (Nat.le_of_ble_eq_true rfl) hR.2⟩) ⟨uPc_blind, u_rcv hC hP c14 rfl, fun U hU hW => u_pre hC hP hS hU hW⟩ rfl rfl hl.1 rfl (lv_room (Nat.le_of_ble_eq_true rfl)) dX3_opens_143 ⟨Nat.zero_le _, Nat.zero_le _⟩) hS (fun H locs hP hS => ?_)
          refine u_aload_n (r := some a0) hx hb dX3_opens_146 rfl (lv_at hl 1 rfl) ?_
          refine u_ldcS hC 36 rfl dX3_opens_147 ?_
          obtain ⟨c17, h⟩ := mif_n h
          obtain ⟨r20, u18, c19, h⟩ := ucall_n h
          have zu18 := zz_X3_must N (ub G) (ug G) u15 a0 (some ((ug G).2.1 36)) r20 u18 c19
          refine u_calli (va_runV (As := [va_rf (some ((ug G).2.1 36))]) (rest := []) hC.1 (met_X3_must l N G u15 a0 (some ((ug G).2.1 36)) r20 u18 c19) (cwV 1 hts (lw_V q2205 q2207 qs53 q103 q2208) rfl rfl rfl (by decide +kernel) ⟨Nat.le_trans (Nat.le_of_ble_eq_true rfl) hR.1, Nat.le_trans (Nat.le_of_ble_eq_true rfl) hR.2⟩) ⟨uPc_blind, u_rcv hC hP c17 rfl, fun U hU hW => u_pre hC hP hS hU hW⟩ rfl rfl hl.1 rfl (lv_room (Nat.le_of_ble_eq_true rfl)) dX3_opens_149 ⟨Nat.zero_le _, Nat.zero_le _⟩) hS (fun H locs hP hS => ?_)
          refine lv_pop hx hb dX3_opens_152 rfl ?_
          refine u_aload_n (r := some a0) hx hb dX3_opens_153 rfl (lv_at hl 1 rfl) ?_
          obtain ⟨y21, hy21, h⟩ := mbind_n h
          refine u_get hC hP (uGI_n hy21) rfl in_X3 (by decide) q1906 (fun _ h => h) dX3_opens_154 ?_
          refine lv_if_eq (tgt := 162) hx hb dX3_opens_157 (by decide) (fun c22 => ?_) (fun c22 => ?_)
          · have h := mif_t c22 h
            refine u_aload_n (r := some a0) hx hb dX3_opens_162 rfl (lv_at hl 1 rfl) ?_
            obtain ⟨c23, h⟩ := mif_n h
            obtain ⟨r26, u24, c25, h⟩ := ucall_n h
            have zu24 := zz_X3_isName N (ub G) (ug G) u18 a0 r26 u24 c25
            refine u_calli (va_runV (As := []) (rest := []) hC.1 (met_X3_isName l N G u18 a0 r26 u24 c25) (cwV 0 hts (lw_V q2183 q2185 qs50 q103 q2186) rfl rfl rfl (by decide +kernel) ⟨Nat.le_trans (Nat.le_of_ble_eq_true rfl) hR.1, Nat.le_trans (Nat.le_of_ble_eq_true rfl) hR.2⟩) ⟨uPc_blind, u_rcv hC hP c23 rfl, fun U hU hW => u_pre hC hP hS hU hW⟩ rfl rfl hl.1 rfl (lv_room (Nat.le_of_ble_eq_true rfl)) dX3_opens_163 ⟨Nat.zero_le _, Nat.zero_le _⟩) hS (fun H locs hP hS => ?_)
            refine lv_if_ne (tgt := 179) hx hb dX3_opens_166 (by decide) (fun c27 => ?_) (fun c27 => ?_)
            · have h := mif_f c27 h
              refine u_aload_n (r := some a0) hx hb dX3_opens_179 rfl (lv_at hl 1 rfl) ?_
              refine u_aload_n (r := some a0) hx hb dX3_opens_180 rfl (lv_at hl 1 rfl) ?_
              obtain ⟨o28, ho28, h⟩ := mbind_n h
              refine u_get hC hP (uGR_n ho28) rfl in_X3 (by decide) q1907 (fun _ h => h) dX3_opens_181 ?_
              refine u_aload_n (r := some a0) hx hb dX3_opens_184 rfl (lv_at hl 1 rfl) ?_
              obtain ⟨o29, ho29, h⟩ := mbind_n h
              refine u_get hC hP (uGR_n ho29) rfl in_X3 (by decide) q1908 (fun _ h => h) dX3_opens_185 ?_
              refine u_aload_n (r := some a0) hx hb dX3_opens_188 rfl (lv_at hl 1 rfl) ?_
              obtain ⟨y30, hy30, h⟩ := mbind_n h
              refine u_get hC hP (uGI_n hy30) rfl in_X3 (by decide) q1915 (fun _ h => h) dX3_opens_189 ?_
              obtain ⟨c31, h⟩ := mif_n h
              obtain ⟨r34, u32, c33, h⟩ := ucall_n h
              have zu32 := zz_X3_find N (ub G) (ug G) u24 a0 o28 o29 y30 r34 u32 c33
              refine u_calli (va_runV (As := [va_rf o28, va_rf o29, .int y30]) (rest := []) hC.1 (met_X3_find l N G u24 a0 o28 o29 y30 r34 u32 c33) (cwV 3 hts (lw_V q2200 q2202 qs52 q103 q2203) rfl rfl rfl (by decide +kernel) ⟨Nat.le_trans (Nat.le_of_ble_eq_true rfl) hR.1, Nat.le_trans (Nat.le_of_ble_eq_true rfl) hR.2⟩) ⟨uPc_blind, u_rcv hC hP c31 rfl, fun U hU hW => u_pre hC hP hS hU hW⟩ rfl rfl hl.1 rfl (lv_room (Nat.le_of_ble_eq_true rfl)) dX3_opens_192 ⟨Nat.zero_le _, Nat.zero_le _⟩) hS (fun H locs hP hS => ?_)
              refine lv_istore (lv' := [(5, .int r34), (4, .int y11), (0, va_rf (some a0)), (1, .int x1), (2, .int x2), (3, .int x3)]) hx hb dX3_opens_195 hl (by decide) rfl (fun ls hl => ?_)
              refine lv_iload hx hb dX3_opens_197 (lv_at hl 0 rfl) ?_
              refine lv_if_ge (tgt := 212) hx hb dX3_opens_199 (by decide) (fun c35 => ?_) (fun c35 => ?_)
              · have h := mif_t c35 h
                refine u_aload_n (r := some a0) hx hb dX3_opens_212 rfl (lv_at hl 2 rfl) ?_
                obtain ⟨c36, h⟩ := mif_n h
                obtain ⟨u37, c38, h⟩ := mbind_n h
                have zu37 := zz_X3_next N (ub G) (ug G) u32 a0 u37 c38
                refine u_callv (va_runV (As := []) (rest := []) hC.1 (met_X3_next l N G u32 a0 u37 c38) (cwV 0 hts (lw_V q2154 q2156 qs45 q103 q2157) rfl rfl rfl (by decide +kernel) ⟨Nat.le_trans (Nat.le_of_ble_eq_true rfl) hR.1, Nat.le_trans (Nat.le_of_ble_eq_true rfl) hR.2⟩) ⟨uPc_blind, u_rcv hC hP c36 rfl, fun U hU hW => u_pre hC hP hS hU hW⟩ rfl rfl hl.1 rfl (lv_room (Nat.le_of_ble_eq_true rfl)) dX3_opens_213 ⟨Nat.zero_le _, Nat.zero_le _⟩) hS (fun H locs hP hS => ?_)
                refine u_aload_n (r := some a0) hx hb dX3_opens_216 rfl (lv_at hl 2 rfl) ?_
                obtain ⟨y39, hy39, h⟩ := mbind_n h
                refine u_get hC hP (uGI_n hy39) rfl in_X3 (by decide) q1899 (fun _ h => h) dX3_opens_217 ?_
                refine lv_bipush (v := 40) hx hb dX3_opens_220 (by decide) ?_
                refine lv_icmp_eq (tgt := 235) hx hb dX3_opens_222 (by decide) (fun c40 => ?_) (fun c40 => ?_)
                · have h := mif_t c40 h
                  refine lv_iload_n hx hb dX3_opens_235 rfl (lv_at hl 3 rfl) ?_
                  refine lv_bipush (v := 6) hx hb dX3_opens_236 (by decide) ?_
                  refine lv_icmp_ne (tgt := 251) hx hb dX3_opens_238 (by decide) (fun c41 => ?_) (fun c41 => ?_)
                  · have h := mif_f c41 h
                    refine u_aload_n (r := some a0) hx hb dX3_opens_251 rfl (lv_at hl 2 rfl) ?_
                    obtain ⟨c42, h⟩ := mif_n h
                    obtain ⟨u43, c44, h⟩ := mbind_n h
                    have zu43 := zz_X3_next N (ub G) (ug G) u37 a0 u43 c44
                    refine u_callv (va_runV (As := []) (rest := []) hC.1 (met_X3_next l N G u37 a0 u43 c44) (cwV 0 hts (lw_V q2154 q2156 qs45 q103 q2157) rfl rfl rfl (by decide +kernel) ⟨Nat.le_trans (Nat.le_of_ble_eq_true rfl) hR.1, Nat.le_trans (Nat.le_of_ble_eq_true rfl) hR.2⟩) ⟨uPc_blind, u_rcv hC hP c42 rfl, fun U hU hW => u_pre hC hP hS hU hW⟩ rfl rfl hl.1 rfl (lv_room (Nat.le_of_ble_eq_true rfl)) dX3_opens_252 ⟨Nat.zero_le _, Nat.zero_le _⟩) hS (fun H locs hP hS => ?_)
                    refine u_aload_n (r := some a0) hx hb dX3_opens_255 rfl (lv_at hl 2 rfl) ?_
                    obtain ⟨o45, ho45, h⟩ := mbind_n h
                    refine u_get hC hP (uGR_n ho45) rfl in_X3 (by decide) q1953 (fun _ h => h) dX3_opens_256 ?_
                    refine lv_iload_n hx hb dX3_opens_259 rfl (lv_at hl 3 rfl) ?_
                    refine u_aload_n (r := some a0) hx hb dX3_opens_260 rfl (lv_at hl 2 rfl) ?_
                    refine lv_iconst (v := 1) hx hb dX3_opens_261 (by decide) ?_
                    refine lv_iload hx hb dX3_opens_262 (lv_at hl 1 rfl) ?_
                    refine lv_iload hx hb dX3_opens_264 (lv_at hl 0 rfl) ?_
                    refine lv_iconst (v := 0) hx hb dX3_opens_266 (by decide) ?_
                    obtain ⟨c46, h⟩ := mif_n h
                    obtain ⟨r49, u47, c48, h⟩ := ucall_n h
                    have zu47 := zz_X3_order N (ub G) (ug G) u43 a0 1 y11 r34 0 r49 u47 c48
                    refine u_calli (va_runV (As := [.int 1, .int y11, .int r34, .int 0]) (rest := [.int x1, va_rf o45]) hC.1 (met_X3_order l N G u43 a0 1 y11 r34 0 r49 u47 c48) (cwV 4 hts (lw_V q2483 q2485 qs90 q103 q2486) rfl rfl rfl (by decide +kernel) ⟨Nat.le_trans (Nat.le_of_ble_eq_true rfl) hR.1, Nat.le_trans (Nat.le_of_ble_eq_true rfl) hR.2⟩) ⟨uPc_blind, u_rcv hC hP c46 rfl, fun U hU hW => u_pre hC hP hS hU hW⟩ rfl rfl hl.1 rfl (lv_room (by simp only [List.map, u_cat]; exact Nat.le_of_ble_eq_true rfl)) dX3_opens_267 ⟨Nat.zero_le _, Nat.zero_le _⟩) hS (fun H locs hP hS => ?_)
                    obtain ⟨a50, ha50, hha50⟩ := mbind_n h
                    subst ha50
                    have h := hha50
                    obtain ⟨u51, hu51, h⟩ := mbind_n h
                    have zu51 := uStI_sz hu51
                    refine u_iast hC hP hS hu51 rfl dX3_opens_270 (fun H locs hP hS => ?_)
                    refine u_aload_n (r := some a0) hx hb dX3_opens_271 rfl (lv_at hl 2 rfl) ?_
                    obtain ⟨o52, ho52, h⟩ := mbind_n h
                    refine u_get hC hP (uGR_n ho52) rfl in_X3 (by decide) q1955 (fun _ h => h) dX3_opens_272 ?_
                    refine lv_iload_n hx hb dX3_opens_275 rfl (lv_at hl 3 rfl) ?_
                    refine lv_iconst (v := 0) hx hb dX3_opens_276 (by decide) ?_
                    obtain ⟨a53, ha53, hha53⟩ := mbind_n h
                    subst ha53
                    have h := hha53
                    obtain ⟨u54, hu54, h⟩ := mbind_n h
                    have zu54 := uStI_sz hu54
                    refine u_zast hC hP hS hu54 rfl dX3_opens_277 (fun H locs hP hS => ?_)
                    refine lv_iconst (v := 1) hx hb dX3_opens_278 (by decide) ?_
                    obtain ⟨hr1, hr2⟩ := uret_n h
                    subst hr1
                    subst hr2
                    exact u_zret hC (uFit_n (ty := .boolean) (v := 1) rfl).1 hP hS dX3_opens_279
                  · have h := mif_t c41 h
                    refine u_aload_n (r := some a0) hx hb dX3_opens_241 rfl (lv_at hl 2 rfl) ?_
                    refine lv_iconst (v := 5) hx hb dX3_opens_242 (by decide) ?_
                    refine u_aload_n (r := some a0) hx hb dX3_opens_243 rfl (lv_at hl 2 rfl) ?_
                    obtain ⟨y55, hy55, h⟩ := mbind_n h
                    refine u_get hC hP (uGI_n hy55) rfl in_X3 (by decide) q1897 (fun _ h => h) dX3_opens_244 ?_
                    obtain ⟨c56, h⟩ := mif_n h
                    obtain ⟨r59, u57, c58, h⟩ := ucall_n h
                    have zu57 := zz_X3_wrong N (ub G) (ug G) u37 a0 5 y55 r59 u57 c58
                    refine u_calli (va_runV (As := [.int 5, .int y55]) (rest := []) hC.1 (met_X3_wrong l N G u37 a0 5 y55 r59 u57 c58) (cwV 2 hts (lw_V q2196 q2198 qs51 q103 q2199) rfl rfl rfl (by decide +kernel) ⟨Nat.le_trans (Nat.le_of_ble_eq_true rfl) hR.1, Nat.le_trans (Nat.le_of_ble_eq_true rfl) hR.2⟩) ⟨uPc_blind, u_rcv hC hP c56 rfl, fun U hU hW => u_pre hC hP hS hU hW⟩ rfl rfl hl.1 rfl (lv_room (Nat.le_of_ble_eq_true rfl)) dX3_opens_247 ⟨Nat.zero_le _, Nat.zero_le _⟩) hS (fun H locs hP hS => ?_)
                    obtain ⟨c60, h⟩ := mif_n h
                    obtain ⟨hr1, hr2⟩ := uret_n h
                    subst hr1
                    subst hr2
                    exact u_zret hC (uFit_n c60).1 hP hS dX3_opens_250
                · have h := mif_f c40 h
                  refine u_aload_n (r := some a0) hx hb dX3_opens_225 rfl (lv_at hl 2 rfl) ?_
                  refine lv_iconst (v := 1) hx hb dX3_opens_226 (by decide) ?_
                  refine u_aload_n (r := some a0) hx hb dX3_opens_227 rfl (lv_at hl 2 rfl) ?_
                  obtain ⟨y61, hy61, h⟩ := mbind_n h
                  refine u_get hC hP (uGI_n hy61) rfl in_X3 (by decide) q1897 (fun _ h => h) dX3_opens_228 ?_
                  obtain ⟨c62, h⟩ := mif_n h
                  obtain ⟨r65, u63, c64, h⟩ := ucall_n h
                  have zu63 := zz_X3_wrong N (ub G) (ug G) u37 a0 1 y61 r65 u63 c64
                  refine u_calli (va_runV (As := [.int 1, .int y61]) (rest := []) hC.1 (met_X3_wrong l N G u37 a0 1 y61 r65 u63 c64) (cwV 2 hts (lw_V q2196 q2198 qs51 q103 q2199) rfl rfl rfl (by decide +kernel) ⟨Nat.le_trans (Nat.le_of_ble_eq_true rfl) hR.1, Nat.le_trans (Nat.le_of_ble_eq_true rfl) hR.2⟩) ⟨uPc_blind, u_rcv hC hP c62 rfl, fun U hU hW => u_pre hC hP hS hU hW⟩ rfl rfl hl.1 rfl (lv_room (Nat.le_of_ble_eq_true rfl)) dX3_opens_231 ⟨Nat.zero_le _, Nat.zero_le _⟩) hS (fun H locs hP hS => ?_)
                  obtain ⟨c66, h⟩ := mif_n h
                  obtain ⟨hr1, hr2⟩ := uret_n h
                  subst hr1
                  subst hr2
                  exact u_zret hC (uFit_n c66).1 hP hS dX3_opens_234
              · have h := mif_f c35 h
                refine u_aload_n (r := some a0) hx hb dX3_opens_202 rfl (lv_at hl 2 rfl) ?_
                refine lv_iconst (v := 2) hx hb dX3_opens_203 (by decide) ?_
                refine u_aload_n (r := some a0) hx hb dX3_opens_204 rfl (lv_at hl 2 rfl) ?_
                obtain ⟨y67, hy67, h⟩ := mbind_n h
                refine u_get hC hP (uGI_n hy67) rfl in_X3 (by decide) q1897 (fun _ h => h) dX3_opens_205 ?_
                obtain ⟨c68, h⟩ := mif_n h
                obtain ⟨r71, u69, c70, h⟩ := ucall_n h
                have zu69 := zz_X3_wrong N (ub G) (ug G) u32 a0 2 y67 r71 u69 c70
                refine u_calli (va_runV (As := [.int 2, .int y67]) (rest := []) hC.1 (met_X3_wrong l N G u32 a0 2 y67 r71 u69 c70) (cwV 2 hts (lw_V q2196 q2198 qs51 q103 q2199) rfl rfl rfl (by decide +kernel) ⟨Nat.le_trans (Nat.le_of_ble_eq_true rfl) hR.1, Nat.le_trans (Nat.le_of_ble_eq_true rfl) hR.2⟩) ⟨uPc_blind, u_rcv hC hP c68 rfl, fun U hU hW => u_pre hC hP hS hU hW⟩ rfl rfl hl.1 rfl (lv_room (Nat.le_of_ble_eq_true rfl)) dX3_opens_208 ⟨Nat.zero_le _, Nat.zero_le _⟩) hS (fun H locs hP hS => ?_)
                obtain ⟨c72, h⟩ := mif_n h
                obtain ⟨hr1, hr2⟩ := uret_n h
                subst hr1
                subst hr2
                exact u_zret hC (uFit_n c72).1 hP hS dX3_opens_211
            · have h := mif_t c27 h
              refine u_aload_n (r := some a0) hx hb dX3_opens_169 rfl (lv_at hl 1 rfl) ?_
              refine lv_iconst (v := 1) hx hb dX3_opens_170 (by decide) ?_
              refine u_aload_n (r := some a0) hx hb dX3_opens_171 rfl (lv_at hl 1 rfl) ?_
              obtain ⟨y73, hy73, h⟩ := mbind_n h
              refine u_get hC hP (uGI_n hy73) rfl in_X3 (by decide) q1897 (fun _ h => h) dX3_opens_172 ?_
              obtain ⟨c74, h⟩ := mif_n h
              obtain ⟨r77, u75, c76, h⟩ := ucall_n h
              have zu75 := zz_X3_wrong N (ub G) (ug G) u24 a0 1 y73 r77 u75 c76
              refine u_calli (va_runV (As := [.int 1, .int y73]) (rest := []) hC.1 (met_X3_wrong l N G u24 a0 1 y73 r77 u75 c76) (cwV 2 hts (lw_V q2196 q2198 qs51 q103 q2199) rfl rfl rfl (by decide +kernel) ⟨Nat.le_trans (Nat.le_of_ble_eq_true rfl) hR.1, Nat.le_trans (Nat.le_of_ble_eq_true rfl) hR.2⟩) ⟨uPc_blind, u_rcv hC hP c74 rfl, fun U hU hW => u_pre hC hP hS hU hW⟩ rfl rfl hl.1 rfl (lv_room (Nat.le_of_ble_eq_true rfl)) dX3_opens_175 ⟨Nat.zero_le _, Nat.zero_le _⟩) hS (fun H locs hP hS => ?_)
              obtain ⟨c78, h⟩ := mif_n h
              obtain ⟨hr1, hr2⟩ := uret_n h
              subst hr1
              subst hr2
              exact u_zret hC (uFit_n c78).1 hP hS dX3_opens_178
          · have h := mif_f c22 h
            refine lv_iconst (v := 0) hx hb dX3_opens_160 (by decide) ?_
            obtain ⟨hr1, hr2⟩ := uret_n h
            subst hr1
            subst hr2
            exact u_zret hC (uFit_n (ty := .boolean) (v := 0) rfl).1 hP hS dX3_opens_161
        · have h := mif_f c13 h
          refine u_aload_n (r := some a0) hx hb dX3_opens_132 rfl (lv_at hl 1 rfl) ?_
          refine lv_iconst (v := 2) hx hb dX3_opens_133 (by decide) ?_
          refine u_aload_n (r := some a0) hx hb dX3_opens_134 rfl (lv_at hl 1 rfl) ?_
          obtain ⟨y79, hy79, h⟩ := mbind_n h
          refine u_get hC hP (uGI_n hy79) rfl in_X3 (by decide) q1897 (fun _ h => h) dX3_opens_135 ?_
          obtain ⟨c80, h⟩ := mif_n h
          obtain ⟨r83, u81, c82, h⟩ := ucall_n h
          have zu81 := zz_X3_wrong N (ub G) (ug G) u6 a0 2 y79 r83 u81 c82
          refine u_calli (va_runV (As := [.int 2, .int y79]) (rest := []) hC.1 (met_X3_wrong l N G u6 a0 2 y79 r83 u81 c82) (cwV 2 hts (lw_V q2196 q2198 qs51 q103 q2199) rfl rfl rfl (by decide +kernel) ⟨Nat.le_trans (Nat.le_of_ble_eq_true rfl) hR.1, Nat.le_trans (Nat.le_of_ble_eq_true rfl) hR.2⟩) ⟨uPc_blind, u_rcv hC hP c80 rfl, fun U hU hW => u_pre hC hP hS hU hW⟩ rfl rfl hl.1 rfl (lv_room (Nat.le_of_ble_eq_true rfl)) dX3_opens_138 ⟨Nat.zero_le _, Nat.zero_le _⟩) hS (fun H locs hP hS => ?_)
          obtain ⟨c84, h⟩ := mif_n h
          obtain ⟨hr1, hr2⟩ := uret_n h
          subst hr1
          subst hr2
          exact u_zret hC (uFit_n c84).1 hP hS dX3_opens_141
      · have h := mif_f c10 h
        refine u_aload_n (r := some a0) hx hb dX3_opens_107 rfl (lv_at hl 0 rfl) ?_
        refine lv_iconst (v := 1) hx hb dX3_opens_108 (by decide) ?_
        refine u_aload_n (r := some a0) hx hb dX3_opens_109 rfl (lv_at hl 0 rfl) ?_
        obtain ⟨y85, hy85, h⟩ := mbind_n h
        refine u_get hC hP (uGI_n hy85) rfl in_X3 (by decide) q1897 (fun _ h => h) dX3_opens_110 ?_
        obtain ⟨c86, h⟩ := mif_n h
        obtain ⟨r89, u87, c88, h⟩ := ucall_n h
        have zu87 := zz_X3_wrong N (ub G) (ug G) u6 a0 1 y85 r89 u87 c88
        refine u_calli (va_runV (As := [.int 1, .int y85]) (rest := []) hC.1 (met_X3_wrong l N G u6 a0 1 y85 r89 u87 c88) (cwV 2 hts (lw_V q2196 q2198 qs51 q103 q2199) rfl rfl rfl (by decide +kernel) ⟨Nat.le_trans (Nat.le_of_ble_eq_true rfl) hR.1, Nat.le_trans (Nat.le_of_ble_eq_true rfl) hR.2⟩) ⟨uPc_blind, u_rcv hC hP c86 rfl, fun U hU hW => u_pre hC hP hS hU hW⟩ rfl rfl hl.1 rfl (lv_room (Nat.le_of_ble_eq_true rfl)) dX3_opens_113 ⟨Nat.zero_le _, Nat.zero_le _⟩) hS (fun H locs hP hS => ?_)
        obtain ⟨c90, h⟩ := mif_n h
        obtain ⟨hr1, hr2⟩ := uret_n h
        subst hr1
        subst hr2
        exact u_zret hC (uFit_n c90).1 hP hS dX3_opens_116
    · have h := mif_t c8 h
      refine lv_iconst (v := 1) hx hb dX3_opens_67 (by decide) ?_
      refine lv_istore (lv' := [(4, .int 1), (0, va_rf (some a0)), (1, .int x1), (2, .int x2), (3, .int x3)]) hx hb dX3_opens_68 hl (by decide) rfl (fun ls hl => ?_)
      refine u_aload_n (r := some a0) hx hb dX3_opens_70 rfl (lv_at hl 1 rfl) ?_
      obtain ⟨y91, hy91, h⟩ := mbind_n h
      refine u_get hC hP (uGI_n hy91) rfl in_X3 (by decide) q1899 (fun _ h => h) dX3_opens_71 ?_
      refine lv_iconst (v := 3) hx hb dX3_opens_74 (by decide) ?_
      refine lv_icmp_ne (tgt := 87) hx hb dX3_opens_75 (by decide) (fun c92 => ?_) (fun c92 => ?_)
      · have h := mif_f c92 h
        exact w_X3_opens_87 hC hR N u6 x2 1 h hP hS (lv_sub hl [1, 3, 0] rfl)
      · have h := mif_t c92 h
        refine u_aload_n (r := some a0) hx hb dX3_opens_78 rfl (lv_at hl 1 rfl) ?_
        refine lv_iconst (v := 1) hx hb dX3_opens_79 (by decide) ?_
        refine lv_bipush (v := 9) hx hb dX3_opens_80 (by decide) ?_
        obtain ⟨c93, h⟩ := mif_n h
        obtain ⟨r96, u94, c95, h⟩ := ucall_n h
        have zu94 := zz_X3_number N (ub G) (ug G) u6 a0 1 9 r96 u94 c95
        refine u_calli (va_runV (As := [.int 1, .int 9]) (rest := []) hC.1 (met_X3_number l N G u6 a0 1 9 r96 u94 c95) (cwV 2 hts (lw_V q2213 q2215 qs55 q103 q2216) rfl rfl rfl (by decide +kernel) ⟨Nat.le_trans (Nat.le_of_ble_eq_true rfl) hR.1, Nat.le_trans (Nat.le_of_ble_eq_true rfl) hR.2⟩) ⟨uPc_blind, u_rcv hC hP c93 rfl, fun U hU hW => u_pre hC hP hS hU hW⟩ rfl rfl hl.1 rfl (lv_room (Nat.le_of_ble_eq_true rfl)) dX3_opens_82 ⟨Nat.zero_le _, Nat.zero_le _⟩) hS (fun H locs hP hS => ?_)
        refine lv_istore (lv' := [(4, .int r96), (0, va_rf (some a0)), (1, .int x1), (2, .int x2), (3, .int x3)]) hx hb dX3_opens_85 hl (by decide) rfl (fun ls hl => ?_)
        exact w_X3_opens_87 hC hR N u94 x2 r96 h hP hS (lv_sub hl [1, 3, 0] rfl)
  · have h := mif_t c2 h
    refine u_aload_n (r := some a0) hx hb dX3_opens_39 rfl (lv_at hl 0 rfl) ?_
    refine lv_iconst (v := 5) hx hb dX3_opens_40 (by decide) ?_
    refine u_aload_n (r := some a0) hx hb dX3_opens_41 rfl (lv_at hl 0 rfl) ?_
    obtain ⟨y97, hy97, h⟩ := mbind_n h
    refine u_get hC hP (uGI_n hy97) rfl in_X3 (by decide) q1897 (fun _ h => h) dX3_opens_42 ?_
    obtain ⟨c98, h⟩ := mif_n h
    obtain ⟨r101, u99, c100, h⟩ := ucall_n h
    have zu99 := zz_X3_wrong N (ub G) (ug G) u a0 5 y97 r101 u99 c100
    refine u_calli (va_runV (As := [.int 5, .int y97]) (rest := []) hC.1 (met_X3_wrong l N G u a0 5 y97 r101 u99 c100) (cwV 2 hts (lw_V q2196 q2198 qs51 q103 q2199) rfl rfl rfl (by decide +kernel) ⟨Nat.le_trans (Nat.le_of_ble_eq_true rfl) hR.1, Nat.le_trans (Nat.le_of_ble_eq_true rfl) hR.2⟩) ⟨uPc_blind, u_rcv hC hP c98 rfl, fun U hU hW => u_pre hC hP hS hU hW⟩ rfl rfl hl.1 rfl (lv_room (Nat.le_of_ble_eq_true rfl)) dX3_opens_45 ⟨Nat.zero_le _, Nat.zero_le _⟩) hS (fun H locs hP hS => ?_)
    obtain ⟨c102, h⟩ := mif_n h
    obtain ⟨hr1, hr2⟩ := uret_n h
    subst hr1
    subst hr2
    exact u_zret hC (uFit_n c102).1 hP hS dX3_opens_48
def f_X3_opens (N b : Nat) (g : uEnv) (u : UH) (a0 : Nat) (x1 : Int32) : Option (Int32 × UH) :=
    if uIs u a0 2 = true then
    ucall (f_X3_wayWord N b g u a0) fun r4 u2 =>
    if uIs u2 a0 2 = true then
    ucall (f_X3_word N b g u2 a0 (some (g.2.1 35))) fun r8 u6 =>
    if 0 ≤ r4 then
    f_X3_opens_30 N b g a0 u6 x1 r4 r8
    else
    if r8 = 0 then
    (uGI u6 a0 2 4).bind fun y11 =>
    if uIs u6 a0 2 = true then
    ucall (f_X3_wrong N b g u6 a0 1 y11) fun r15 u13 =>
    if uFit .boolean r15 = true then
    some (r15, u13)
    else none
    else none
    else
    f_X3_opens_30 N b g a0 u6 x1 r4 r8
    else none
    else none
set_option maxHeartbeats 4000000 in
set_option maxRecDepth 100000 in
theorem zz_X3_opens_0 {G : uG} {a0 : Nat} {uf : UH} {r : Int32} (N : Nat) (u : UH) (x1 : Int32) (h : f_X3_opens N (ub G) (ug G) u a0 x1 = some (r, uf)) : uf.1 = u.1 ∧ uf.2.1 = u.2.1 := by
  unfold f_X3_opens at h
  obtain ⟨c1, h⟩ := mif_n h
  obtain ⟨r4, u2, c3, h⟩ := ucall_n h
  have zu2 := zz_X3_wayWord N (ub G) (ug G) u a0 r4 u2 c3
  obtain ⟨c5, h⟩ := mif_n h
  obtain ⟨r8, u6, c7, h⟩ := ucall_n h
  have zu6 := zz_X3_word N (ub G) (ug G) u2 a0 (some ((ug G).2.1 35)) r8 u6 c7
  by_cases c9 : 0 ≤ r4
  · have h := mif_t c9 h
    have hq := zz_X3_opens_30 (G := G) (a0 := a0) N u6 x1 r4 r8 h
    exact ⟨by omega, by omega⟩
  · have h := mif_f c9 h
    by_cases c10 : r8 = 0
    · have h := mif_t c10 h
      obtain ⟨y11, hy11, h⟩ := mbind_n h
      obtain ⟨c12, h⟩ := mif_n h
      obtain ⟨r15, u13, c14, h⟩ := ucall_n h
      have zu13 := zz_X3_wrong N (ub G) (ug G) u6 a0 1 y11 r15 u13 c14
      obtain ⟨c16, h⟩ := mif_n h
      obtain ⟨hr1, hr2⟩ := uret_n h
      subst hr2
      exact ⟨by omega, by omega⟩
    · have h := mif_f c10 h
      have hq := zz_X3_opens_30 (G := G) (a0 := a0) N u6 x1 r4 r8 h
      exact ⟨by omega, by omega⟩
set_option maxHeartbeats 4000000 in
set_option maxRecDepth 100000 in
theorem w_X3_opens_0 {p : Program} {l : Launch} {e : Env} {R : Room} {s : State} {m : MethodId} {args : Array Value} {below : List Frame} {meth : Method} {c : Code} {G : uG} {a0 : Nat} {uf : UH} {r : Int32} (hC : uC p s m args meth c G RX3 cX3_opens 6 (some .boolean)) (hR : 6 ≤ R.frames ∧ 129 ≤ R.locals) (N : Nat) (u : UH) (x1 : Int32) (h : f_X3_opens N (ub G) (ug G) u a0 x1 = some (r, uf)) {H : Heap} {locs : List Loc} (hP : uP G u H) (hS : va_S (uA G) s.heap H locs) {ls : Array Slot} (hl : lv_has ls 6 [(0, va_rf (some a0)), (1, .int x1)]) : W p l e R s m args below meth c H locs 0 0 (MQ below (uQi G r uf) args s 0 0 (uA G)) (F0 m 0 ls []) := by
  obtain ⟨⟨hx, hb, hml, hown, hts⟩, hKK⟩ := id hC
  unfold f_X3_opens at h
  refine u_aload_n (r := some a0) hx hb dX3_opens_0 rfl (lv_at hl 0 rfl) ?_
  obtain ⟨c1, h⟩ := mif_n h
  obtain ⟨r4, u2, c3, h⟩ := ucall_n h
  have zu2 := zz_X3_wayWord N (ub G) (ug G) u a0 r4 u2 c3
  refine u_calli (va_runV (As := []) (rest := []) hC.1 (met_X3_wayWord l N G u a0 r4 u2 c3) (cwV 0 hts (lw_V q2479 q2481 qs89 q103 q2482) rfl rfl rfl (by decide +kernel) ⟨Nat.le_trans (Nat.le_of_ble_eq_true rfl) hR.1, Nat.le_trans (Nat.le_of_ble_eq_true rfl) hR.2⟩) ⟨uPc_blind, u_rcv hC hP c1 rfl, fun U hU hW => u_pre hC hP hS hU hW⟩ rfl rfl hl.1 rfl (lv_room (Nat.le_of_ble_eq_true rfl)) dX3_opens_1 ⟨Nat.zero_le _, Nat.zero_le _⟩) hS (fun H locs hP hS => ?_)
  refine lv_istore_n (i := 2) (lv' := [(2, .int r4), (0, va_rf (some a0)), (1, .int x1)]) hx hb dX3_opens_4 rfl hl (by decide) rfl (fun ls hl => ?_)
  refine u_aload_n (r := some a0) hx hb dX3_opens_5 rfl (lv_at hl 1 rfl) ?_
  refine u_ldcS hC 35 rfl dX3_opens_6 ?_
  obtain ⟨c5, h⟩ := mif_n h
  obtain ⟨r8, u6, c7, h⟩ := ucall_n h
  have zu6 := zz_X3_word N (ub G) (ug G) u2 a0 (some ((ug G).2.1 35)) r8 u6 c7
  refine u_calli (va_runV (As := [va_rf (some ((ug G).2.1 35))]) (rest := []) hC.1 (met_X3_word l N G u2 a0 (some ((ug G).2.1 35)) r8 u6 c7) (cwV 1 hts (lw_V q2173 q2175 qs48 q103 q2176) rfl rfl rfl (by decide +kernel) ⟨Nat.le_trans (Nat.le_of_ble_eq_true rfl) hR.1, Nat.le_trans (Nat.le_of_ble_eq_true rfl) hR.2⟩) ⟨uPc_blind, u_rcv hC hP c5 rfl, fun U hU hW => u_pre hC hP hS hU hW⟩ rfl rfl hl.1 rfl (lv_room (Nat.le_of_ble_eq_true rfl)) dX3_opens_8 ⟨Nat.zero_le _, Nat.zero_le _⟩) hS (fun H locs hP hS => ?_)
  refine lv_istore_n (i := 3) (lv' := [(3, .int r8), (2, .int r4), (0, va_rf (some a0)), (1, .int x1)]) hx hb dX3_opens_11 rfl hl (by decide) rfl (fun ls hl => ?_)
  refine lv_iload_n hx hb dX3_opens_12 rfl (lv_at hl 1 rfl) ?_
  refine lv_if_ge (tgt := 30) hx hb dX3_opens_13 (by decide) (fun c9 => ?_) (fun c9 => ?_)
  · have h := mif_t c9 h
    exact w_X3_opens_30 hC hR N u6 x1 r4 r8 h hP hS (lv_sub hl [2, 3, 1, 0] rfl)
  · have h := mif_f c9 h
    refine lv_iload_n hx hb dX3_opens_16 rfl (lv_at hl 0 rfl) ?_
    refine lv_if_ne (tgt := 30) hx hb dX3_opens_17 (by decide) (fun c10 => ?_) (fun c10 => ?_)
    · have h := mif_f c10 h
      exact w_X3_opens_30 hC hR N u6 x1 r4 r8 h hP hS (lv_sub hl [2, 3, 1, 0] rfl)
    · have h := mif_t c10 h
      refine u_aload_n (r := some a0) hx hb dX3_opens_20 rfl (lv_at hl 2 rfl) ?_
      refine lv_iconst (v := 1) hx hb dX3_opens_21 (by decide) ?_
      refine u_aload_n (r := some a0) hx hb dX3_opens_22 rfl (lv_at hl 2 rfl) ?_
      obtain ⟨y11, hy11, h⟩ := mbind_n h
      refine u_get hC hP (uGI_n hy11) rfl in_X3 (by decide) q1897 (fun _ h => h) dX3_opens_23 ?_
      obtain ⟨c12, h⟩ := mif_n h
      obtain ⟨r15, u13, c14, h⟩ := ucall_n h
      have zu13 := zz_X3_wrong N (ub G) (ug G) u6 a0 1 y11 r15 u13 c14
      refine u_calli (va_runV (As := [.int 1, .int y11]) (rest := []) hC.1 (met_X3_wrong l N G u6 a0 1 y11 r15 u13 c14) (cwV 2 hts (lw_V q2196 q2198 qs51 q103 q2199) rfl rfl rfl (by decide +kernel) ⟨Nat.le_trans (Nat.le_of_ble_eq_true rfl) hR.1, Nat.le_trans (Nat.le_of_ble_eq_true rfl) hR.2⟩) ⟨uPc_blind, u_rcv hC hP c12 rfl, fun U hU hW => u_pre hC hP hS hU hW⟩ rfl rfl hl.1 rfl (lv_room (Nat.le_of_ble_eq_true rfl)) dX3_opens_26 ⟨Nat.zero_le _, Nat.zero_le _⟩) hS (fun H locs hP hS => ?_)
      obtain ⟨c16, h⟩ := mif_n h
      obtain ⟨hr1, hr2⟩ := uret_n h
      subst hr1
      subst hr2
      exact u_zret hC (uFit_n c16).1 hP hS dX3_opens_29
theorem zz_X3_opens (N b : Nat) (g : uEnv) (u : UH) (a0 : Nat) (x1 : Int32) (r : Int32) (uf : UH) (h : f_X3_opens N b g u a0 x1 = some (r, uf)) : uf.1 = u.1 ∧ uf.2.1 = u.2.1 :=
  zz_X3_opens_0 (G := ((fun _ => 0, fun _ _ => 0), fun _ => 0, b, g)) (a0 := a0) N u x1 h
theorem met_X3_opens (l : Launch) (N : Nat) (G : uG) (u : UH) (a0 : Nat) (x1 : Int32) (r : Int32) (uf : UH) (h : f_X3_opens N (ub G) (ug G) u a0 x1 = some (r, uf)) : Met l yX3_opens (ws_ yX3_opens cX3_opens 6 (some .boolean)) ({ frames := 6, cells := 0, slots := 0, locals := 129 }) (uPc G u [.ref a0, .int x1]) (uQi G r uf) 0 0 (uA G) := by
  exact u_met (own := RX3) (by decide +kernel) rfl (Nat.le_of_ble_eq_true rfl) (fun hC hn hsz ls hl hP => w_X3_opens_0 hC ⟨Nat.le_refl _, Nat.le_refl _⟩ N u x1 h hP va_S.rf hl)

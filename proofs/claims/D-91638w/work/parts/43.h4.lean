/-! BY gen_heap.py: X18_goes X12_by X18_is X18_fails X1_deepest X14_openOnes X1_count X1_denied X1_granted X1_dead X1_dig X1_failed X1_first -/
def f_X18_goes_37 (N b : Nat) (g : uEnv) (a0 : Nat) (u : UH) (x2 : Int32) (s0 : Int32) (s1 : Option Nat) (s2 : Int32) (s3 : Option Nat) (s4 : Option Nat) : Option (UH) :=
    (uGI u a0 16 1).bind fun y1 =>
    (s3).bind fun a2 =>
    if uIs u a2 12 = true then
    ucall (f_X14_why N b g u a2 s2 s1 s0 y1) fun r6 u4 =>
    (s4).bind fun a7 =>
    (uPut b u4 a7 16 7 (.int r6)).bind fun u8 =>
    (uGI u8 a0 16 7).bind fun y9 =>
    if y9 = 0 then
    (uPut b u8 a0 16 3 (.int x2)).bind fun u11 =>
    (uGI u11 a0 16 5).bind fun y12 =>
    (uGR u11 a0 16 0).bind fun o13 =>
    (o13).bind fun a14 =>
    (uGI u11 a14 12 10).bind fun y15 =>
    (uPut b u11 a0 16 5 (.int (y12 + y15))).bind fun u16 =>
    (uGI u16 a0 16 6).bind fun y17 =>
    (uPut b u16 a0 16 6 (.int (y17 + 1))).bind fun u18 =>
    (uGI u18 a0 16 4).bind fun y19 =>
    (uGR u18 a0 16 0).bind fun o20 =>
    (uGI u18 a0 16 3).bind fun y21 =>
    (o20).bind fun a22 =>
    if uIs u18 a22 12 = true then
    ucall (f_X14_sees N b g u18 a22 y21) fun r26 u24 =>
    (uPut b u24 a0 16 4 (.int (y19 ||| r26))).bind fun u27 =>
    some u27
    else none
    else
    some u8
    else none
set_option maxHeartbeats 4000000 in
set_option maxRecDepth 100000 in
theorem zz_X18_goes_37 {G : uG} {a0 : Nat} {uf : UH} (N : Nat) (u : UH) (x2 : Int32) (s0 : Int32) (s1 : Option Nat) (s2 : Int32) (s3 : Option Nat) (s4 : Option Nat) (h : f_X18_goes_37 N (ub G) (ug G) a0 u x2 s0 s1 s2 s3 s4 = some uf) : uf.1 = u.1 ∧ uf.2.1 = u.2.1 := by
  unfold f_X18_goes_37 at h
  obtain ⟨y1, hy1, h⟩ := mbind_n h
  obtain ⟨a2, ha2, hha2⟩ := mbind_n h
  subst ha2
  have h := hha2
  obtain ⟨c3, h⟩ := mif_n h
  obtain ⟨r6, u4, c5, h⟩ := ucall_n h
  have zu4 := zz_X14_why N (ub G) (ug G) u a2 s2 s1 s0 y1 r6 u4 c5
  obtain ⟨a7, ha7, hha7⟩ := mbind_n h
  subst ha7
  have h := hha7
  obtain ⟨u8, hu8, h⟩ := mbind_n h
  have zu8 := uPut_sz hu8
  obtain ⟨y9, hy9, h⟩ := mbind_n h
  by_cases c10 : y9 = 0
  · have h := mif_t c10 h
    obtain ⟨u11, hu11, h⟩ := mbind_n h
    have zu11 := uPut_sz hu11
    obtain ⟨y12, hy12, h⟩ := mbind_n h
    obtain ⟨o13, ho13, h⟩ := mbind_n h
    obtain ⟨a14, ha14, hha14⟩ := mbind_n h
    subst ha14
    have h := hha14
    obtain ⟨y15, hy15, h⟩ := mbind_n h
    obtain ⟨u16, hu16, h⟩ := mbind_n h
    have zu16 := uPut_sz hu16
    obtain ⟨y17, hy17, h⟩ := mbind_n h
    obtain ⟨u18, hu18, h⟩ := mbind_n h
    have zu18 := uPut_sz hu18
    obtain ⟨y19, hy19, h⟩ := mbind_n h
    obtain ⟨o20, ho20, h⟩ := mbind_n h
    obtain ⟨y21, hy21, h⟩ := mbind_n h
    obtain ⟨a22, ha22, hha22⟩ := mbind_n h
    subst ha22
    have h := hha22
    obtain ⟨c23, h⟩ := mif_n h
    obtain ⟨r26, u24, c25, h⟩ := ucall_n h
    have zu24 := zz_X14_sees N (ub G) (ug G) u18 a22 y21 r26 u24 c25
    obtain ⟨u27, hu27, h⟩ := mbind_n h
    have zu27 := uPut_sz hu27
    cases h
    exact ⟨by omega, by omega⟩
  · have h := mif_f c10 h
    cases h
    exact ⟨by omega, by omega⟩
set_option maxHeartbeats 4000000 in
set_option maxRecDepth 100000 in
theorem w_X18_goes_37 {p : Program} {l : Launch} {e : Env} {R : Room} {s : State} {m : MethodId} {args : Array Value} {below : List Frame} {meth : Method} {c : Code} {G : uG} {a0 : Nat} {uf : UH} (hC : uC p s m args meth c G RX18 cX18_goes 3 none) (hR : 4 ≤ R.frames ∧ 95 ≤ R.locals) (N : Nat) (u : UH) (x2 : Int32) (s0 : Int32) (s1 : Option Nat) (s2 : Int32) (s3 : Option Nat) (s4 : Option Nat) (h : f_X18_goes_37 N (ub G) (ug G) a0 u x2 s0 s1 s2 s3 s4 = some uf) {H : Heap} {locs : List Loc} (hP : uP G u H) (hS : va_S (uA G) s.heap H locs) {ls : Array Slot} (hl : lv_has ls 3 [(0, va_rf (some a0)), (2, .int x2)]) : W p l e R s m args below meth c H locs 0 0 (MQ below (uQv G uf) args s 0 0 (uA G)) (F0 m 37 ls [.int s0, va_rf s1, .int s2, va_rf s3, va_rf s4]) := by
  obtain ⟨⟨hx, hb, hml, hown, hts⟩, hKK⟩ := id hC
  unfold f_X18_goes_37 at h
  refine u_aload_n (r := some a0) hx hb dX18_goes_37 rfl (lv_at hl 0 rfl) ?_
  obtain ⟨y1, hy1, h⟩ := mbind_n h
  refine u_get hC hP (uGI_n hy1) rfl in_X18 (by decide) q1654 (fun _ h => h) dX18_goes_38 ?_
  obtain ⟨a2, ha2, hha2⟩ := mbind_n h
  subst ha2
  have h := hha2
  obtain ⟨c3, h⟩ := mif_n h
  obtain ⟨r6, u4, c5, h⟩ := ucall_n h
  have zu4 := zz_X14_why N (ub G) (ug G) u a2 s2 s1 s0 y1 r6 u4 c5
  refine u_calli (va_runV (As := [.int s2, va_rf s1, .int s0, .int y1]) (rest := [va_rf s4]) hC.1 (met_X14_why l N G u a2 s2 s1 s0 y1 r6 u4 c5) (cwV 4 hts (lw_V q1720 q1261 q1262 q131 q1263) rfl rfl rfl (by decide +kernel) ⟨Nat.le_trans (Nat.le_of_ble_eq_true rfl) hR.1, Nat.le_trans (Nat.le_of_ble_eq_true rfl) hR.2⟩) ⟨uPc_blind, u_rcv hC hP c3 rfl, fun U hU hW => u_pre hC hP hS hU hW⟩ rfl rfl hl.1 rfl (lv_room (by simp only [List.map, u_cat]; exact Nat.le_of_ble_eq_true rfl)) dX18_goes_41 ⟨Nat.zero_le _, Nat.zero_le _⟩) hS (fun H locs hP hS => ?_)
  obtain ⟨a7, ha7, hha7⟩ := mbind_n h
  subst ha7
  have h := hha7
  obtain ⟨u8, hu8, h⟩ := mbind_n h
  have zu8 := uPut_sz hu8
  refine u_put hC hP hS hu8 rfl in_X18 tyX18 tyX18_ok nmX18 (by decide) q1663 (fun _ h => h) rfl (ty := .int) (tyX18_ok 7 (by decide)) rfl rfl dX18_goes_44 (fun H locs hP hS => ?_)
  refine u_aload_n (r := some a0) hx hb dX18_goes_47 rfl (lv_at hl 0 rfl) ?_
  obtain ⟨y9, hy9, h⟩ := mbind_n h
  refine u_get hC hP (uGI_n hy9) rfl in_X18 (by decide) q1663 (fun _ h => h) dX18_goes_48 ?_
  refine lv_if_eq (tgt := 55) hx hb dX18_goes_51 (by decide) (fun c10 => ?_) (fun c10 => ?_)
  · have h := mif_t c10 h
    refine u_aload_n (r := some a0) hx hb dX18_goes_55 rfl (lv_at hl 0 rfl) ?_
    refine lv_iload_n hx hb dX18_goes_56 rfl (lv_at hl 1 rfl) ?_
    obtain ⟨u11, hu11, h⟩ := mbind_n h
    have zu11 := uPut_sz hu11
    refine u_put hC hP hS hu11 rfl in_X18 tyX18 tyX18_ok nmX18 (by decide) q1656 (fun _ h => h) rfl (ty := .int) (tyX18_ok 3 (by decide)) rfl rfl dX18_goes_57 (fun H locs hP hS => ?_)
    refine u_aload_n (r := some a0) hx hb dX18_goes_60 rfl (lv_at hl 0 rfl) ?_
    refine lv_dup hx hb dX18_goes_61 (u_cat _) ?_
    obtain ⟨y12, hy12, h⟩ := mbind_n h
    refine u_get hC hP (uGI_n hy12) rfl in_X18 (by decide) q1658 (fun _ h => h) dX18_goes_62 ?_
    refine u_aload_n (r := some a0) hx hb dX18_goes_65 rfl (lv_at hl 0 rfl) ?_
    obtain ⟨o13, ho13, h⟩ := mbind_n h
    refine u_get hC hP (uGR_n ho13) rfl in_X18 (by decide) q1653 (fun _ h => h) dX18_goes_66 ?_
    obtain ⟨a14, ha14, hha14⟩ := mbind_n h
    subst ha14
    have h := hha14
    obtain ⟨y15, hy15, h⟩ := mbind_n h
    refine u_getN hC hP (uGI_n hy15) rfl in_X14 (by decide) q1160 (fun _ h => h) dX18_goes_69 ?_
    refine lv_iadd hx hb dX18_goes_72 ?_
    obtain ⟨u16, hu16, h⟩ := mbind_n h
    have zu16 := uPut_sz hu16
    refine u_put hC hP hS hu16 rfl in_X18 tyX18 tyX18_ok nmX18 (by decide) q1658 (fun _ h => h) rfl (ty := .int) (tyX18_ok 5 (by decide)) rfl rfl dX18_goes_73 (fun H locs hP hS => ?_)
    refine u_aload_n (r := some a0) hx hb dX18_goes_76 rfl (lv_at hl 0 rfl) ?_
    refine lv_dup hx hb dX18_goes_77 (u_cat _) ?_
    obtain ⟨y17, hy17, h⟩ := mbind_n h
    refine u_get hC hP (uGI_n hy17) rfl in_X18 (by decide) q1660 (fun _ h => h) dX18_goes_78 ?_
    refine lv_iconst (v := 1) hx hb dX18_goes_81 (by decide) ?_
    refine lv_iadd hx hb dX18_goes_82 ?_
    obtain ⟨u18, hu18, h⟩ := mbind_n h
    have zu18 := uPut_sz hu18
    refine u_put hC hP hS hu18 rfl in_X18 tyX18 tyX18_ok nmX18 (by decide) q1660 (fun _ h => h) rfl (ty := .int) (tyX18_ok 6 (by decide)) rfl rfl dX18_goes_83 (fun H locs hP hS => ?_)
    refine u_aload_n (r := some a0) hx hb dX18_goes_86 rfl (lv_at hl 0 rfl) ?_
    refine lv_dup hx hb dX18_goes_87 (u_cat _) ?_
    obtain ⟨y19, hy19, h⟩ := mbind_n h
    refine u_get hC hP (uGI_n hy19) rfl in_X18 (by decide) q1657 (fun _ h => h) dX18_goes_88 ?_
    refine u_aload_n (r := some a0) hx hb dX18_goes_91 rfl (lv_at hl 0 rfl) ?_
    obtain ⟨o20, ho20, h⟩ := mbind_n h
    refine u_get hC hP (uGR_n ho20) rfl in_X18 (by decide) q1653 (fun _ h => h) dX18_goes_92 ?_
    refine u_aload_n (r := some a0) hx hb dX18_goes_95 rfl (lv_at hl 0 rfl) ?_
    obtain ⟨y21, hy21, h⟩ := mbind_n h
    refine u_get hC hP (uGI_n hy21) rfl in_X18 (by decide) q1656 (fun _ h => h) dX18_goes_96 ?_
    obtain ⟨a22, ha22, hha22⟩ := mbind_n h
    subst ha22
    have h := hha22
    obtain ⟨c23, h⟩ := mif_n h
    obtain ⟨r26, u24, c25, h⟩ := ucall_n h
    have zu24 := zz_X14_sees N (ub G) (ug G) u18 a22 y21 r26 u24 c25
    refine u_calli (va_runV (As := [.int y21]) (rest := [.int y19, va_rf (some a0)]) hC.1 (met_X14_sees l N G u18 a22 y21 r26 u24 c25) (cwV 1 hts (lw_V q1652 q1316 q1317 q131 q1318) rfl rfl rfl (by decide +kernel) ⟨Nat.le_trans (Nat.le_of_ble_eq_true rfl) hR.1, Nat.le_trans (Nat.le_of_ble_eq_true rfl) hR.2⟩) ⟨uPc_blind, u_rcv hC hP c23 rfl, fun U hU hW => u_pre hC hP hS hU hW⟩ rfl rfl hl.1 rfl (lv_room (Nat.le_of_ble_eq_true rfl)) dX18_goes_99 ⟨Nat.zero_le _, Nat.zero_le _⟩) hS (fun H locs hP hS => ?_)
    refine lv_ior hx hb dX18_goes_102 ?_
    obtain ⟨u27, hu27, h⟩ := mbind_n h
    have zu27 := uPut_sz hu27
    refine u_put hC hP hS hu27 rfl in_X18 tyX18 tyX18_ok nmX18 (by decide) q1657 (fun _ h => h) rfl (ty := .int) (tyX18_ok 4 (by decide)) rfl rfl dX18_goes_103 (fun H locs hP hS => ?_)
    cases h
    exact u_vret hC hP hS dX18_goes_106
  · have h := mif_f c10 h
    cases h
    exact u_vret hC hP hS dX18_goes_54
def f_X18_goes (N b : Nat) (g : uEnv) (u : UH) (a0 : Nat) (x1 : Option Nat) : Option (UH) :=
    (uGR u a0 16 0).bind fun o1 =>
    (uGI u a0 16 3).bind fun y2 =>
    (o1).bind fun a3 =>
    if uIs u a3 12 = true then
    ucall (f_X14_beside N b g u a3 y2 x1) fun r7 u5 =>
    (uGR u5 a0 16 0).bind fun o8 =>
    (uGI u5 a0 16 3).bind fun y9 =>
    if r7 = (-1) then
    f_X18_goes_37 N b g a0 u5 r7 0 x1 y9 o8 (some a0)
    else
    if uIs u5 a0 16 = true then
    ucall (f_X18_groundOf N b g u5 a0 r7) fun r14 u12 =>
    f_X18_goes_37 N b g a0 u12 r7 r14 x1 y9 o8 (some a0)
    else none
    else none
set_option maxHeartbeats 4000000 in
set_option maxRecDepth 100000 in
theorem zz_X18_goes_0 {G : uG} {a0 : Nat} {uf : UH} (N : Nat) (u : UH) (x1 : Option Nat) (h : f_X18_goes N (ub G) (ug G) u a0 x1 = some uf) : uf.1 = u.1 ∧ uf.2.1 = u.2.1 := by
  unfold f_X18_goes at h
  obtain ⟨o1, ho1, h⟩ := mbind_n h
  obtain ⟨y2, hy2, h⟩ := mbind_n h
  obtain ⟨a3, ha3, hha3⟩ := mbind_n h
  subst ha3
  have h := hha3
  obtain ⟨c4, h⟩ := mif_n h
  obtain ⟨r7, u5, c6, h⟩ := ucall_n h
  have zu5 := zz_X14_beside N (ub G) (ug G) u a3 y2 x1 r7 u5 c6
  obtain ⟨o8, ho8, h⟩ := mbind_n h
  obtain ⟨y9, hy9, h⟩ := mbind_n h
  by_cases c10 : r7 = (-1)
  · have h := mif_t c10 h
    have hq := zz_X18_goes_37 (G := G) (a0 := a0) N u5 r7 0 x1 y9 o8 (some a0) h
    exact ⟨by omega, by omega⟩
  · have h := mif_f c10 h
    obtain ⟨c11, h⟩ := mif_n h
    obtain ⟨r14, u12, c13, h⟩ := ucall_n h
    have zu12 := zz_X18_groundOf N (ub G) (ug G) u5 a0 r7 r14 u12 c13
    have hq := zz_X18_goes_37 (G := G) (a0 := a0) N u12 r7 r14 x1 y9 o8 (some a0) h
    exact ⟨by omega, by omega⟩
set_option maxHeartbeats 4000000 in
set_option maxRecDepth 100000 in
theorem w_X18_goes_0 {p : Program} {l : Launch} {e : Env} {R : Room} {s : State} {m : MethodId} {args : Array Value} {below : List Frame} {meth : Method} {c : Code} {G : uG} {a0 : Nat} {uf : UH} (hC : uC p s m args meth c G RX18 cX18_goes 3 none) (hR : 4 ≤ R.frames ∧ 95 ≤ R.locals) (N : Nat) (u : UH) (x1 : Option Nat) (h : f_X18_goes N (ub G) (ug G) u a0 x1 = some uf) {H : Heap} {locs : List Loc} (hP : uP G u H) (hS : va_S (uA G) s.heap H locs) {ls : Array Slot} (hl : lv_has ls 3 [(0, va_rf (some a0)), (1, va_rf x1)]) : W p l e R s m args below meth c H locs 0 0 (MQ below (uQv G uf) args s 0 0 (uA G)) (F0 m 0 ls []) := by
  obtain ⟨⟨hx, hb, hml, hown, hts⟩, hKK⟩ := id hC
  unfold f_X18_goes at h
  refine u_aload_n (r := some a0) hx hb dX18_goes_0 rfl (lv_at hl 0 rfl) ?_
  obtain ⟨o1, ho1, h⟩ := mbind_n h
  refine u_get hC hP (uGR_n ho1) rfl in_X18 (by decide) q1653 (fun _ h => h) dX18_goes_1 ?_
  refine u_aload_n (r := some a0) hx hb dX18_goes_4 rfl (lv_at hl 0 rfl) ?_
  obtain ⟨y2, hy2, h⟩ := mbind_n h
  refine u_get hC hP (uGI_n hy2) rfl in_X18 (by decide) q1656 (fun _ h => h) dX18_goes_5 ?_
  refine u_aload_n (r := x1) hx hb dX18_goes_8 rfl (lv_at hl 1 rfl) ?_
  obtain ⟨a3, ha3, hha3⟩ := mbind_n h
  subst ha3
  have h := hha3
  obtain ⟨c4, h⟩ := mif_n h
  obtain ⟨r7, u5, c6, h⟩ := ucall_n h
  have zu5 := zz_X14_beside N (ub G) (ug G) u a3 y2 x1 r7 u5 c6
  refine u_calli (va_runV (As := [.int y2, va_rf x1]) (rest := []) hC.1 (met_X14_beside l N G u a3 y2 x1 r7 u5 c6) (cwV 2 hts (lw_V q1715 q1265 q1266 q131 q1267) rfl rfl rfl (by decide +kernel) ⟨Nat.le_trans (Nat.le_of_ble_eq_true rfl) hR.1, Nat.le_trans (Nat.le_of_ble_eq_true rfl) hR.2⟩) ⟨uPc_blind, u_rcv hC hP c4 rfl, fun U hU hW => u_pre hC hP hS hU hW⟩ rfl rfl hl.1 rfl (lv_room (Nat.le_of_ble_eq_true rfl)) dX18_goes_9 ⟨Nat.zero_le _, Nat.zero_le _⟩) hS (fun H locs hP hS => ?_)
  refine lv_istore_n (lv' := [(2, .int r7), (0, va_rf (some a0)), (1, va_rf x1)]) hx hb dX18_goes_12 rfl hl (by decide) (by simp [List.filter_cons, u_cat]) (fun ls hl => ?_)
  refine u_aload_n (r := some a0) hx hb dX18_goes_13 rfl (lv_at hl 1 rfl) ?_
  refine u_aload_n (r := some a0) hx hb dX18_goes_14 rfl (lv_at hl 1 rfl) ?_
  obtain ⟨o8, ho8, h⟩ := mbind_n h
  refine u_get hC hP (uGR_n ho8) rfl in_X18 (by decide) q1653 (fun _ h => h) dX18_goes_15 ?_
  refine u_aload_n (r := some a0) hx hb dX18_goes_18 rfl (lv_at hl 1 rfl) ?_
  obtain ⟨y9, hy9, h⟩ := mbind_n h
  refine u_get hC hP (uGI_n hy9) rfl in_X18 (by decide) q1656 (fun _ h => h) dX18_goes_19 ?_
  refine u_aload_n (r := x1) hx hb dX18_goes_22 rfl (lv_at hl 2 rfl) ?_
  refine lv_iload_n hx hb dX18_goes_23 rfl (lv_at hl 0 rfl) ?_
  refine lv_iconst (v := (-1)) hx hb dX18_goes_24 (by decide) ?_
  refine lv_icmp_ne (tgt := 32) hx hb dX18_goes_25 (by decide) (fun c10 => ?_) (fun c10 => ?_)
  · have h := mif_f c10 h
    refine u_aload_n (r := some a0) hx hb dX18_goes_32 rfl (lv_at hl 1 rfl) ?_
    refine lv_iload_n hx hb dX18_goes_33 rfl (lv_at hl 0 rfl) ?_
    obtain ⟨c11, h⟩ := mif_n h
    obtain ⟨r14, u12, c13, h⟩ := ucall_n h
    have zu12 := zz_X18_groundOf N (ub G) (ug G) u5 a0 r7 r14 u12 c13
    refine u_calli (va_runV (As := [.int r7]) (rest := [va_rf x1, .int y9, va_rf o8, va_rf (some a0)]) hC.1 (met_X18_groundOf l N G u5 a0 r7 r14 u12 c13) (cwV 1 hts (lw_V q1716 q1718 qs35 q140 q1719) rfl rfl rfl (by decide +kernel) ⟨Nat.le_trans (Nat.le_of_ble_eq_true rfl) hR.1, Nat.le_trans (Nat.le_of_ble_eq_true rfl) hR.2⟩) ⟨uPc_blind, u_rcv hC hP c11 rfl, fun U hU hW => u_pre hC hP hS hU hW⟩ rfl rfl hl.1 rfl (lv_room (by simp only [List.map, u_cat]; exact Nat.le_of_ble_eq_true rfl)) dX18_goes_34 ⟨Nat.zero_le _, Nat.zero_le _⟩) hS (fun H locs hP hS => ?_)
    exact w_X18_goes_37 hC hR N u12 r7 r14 x1 y9 o8 (some a0) h hP hS (lv_sub hl [1, 0] rfl)
  · have h := mif_t c10 h
    refine lv_iconst (v := 0) hx hb dX18_goes_28 (by decide) ?_
    refine lv_goto (tgt := 37) hx hb dX18_goes_29 (by decide) ?_
    exact w_X18_goes_37 hC hR N u5 r7 0 x1 y9 o8 (some a0) h hP hS (lv_sub hl [1, 0] rfl)
theorem zz_X18_goes (N b : Nat) (g : uEnv) (u : UH) (a0 : Nat) (x1 : Option Nat) (uf : UH) (h : f_X18_goes N b g u a0 x1 = some uf) : uf.1 = u.1 ∧ uf.2.1 = u.2.1 :=
  zz_X18_goes_0 (G := ((fun _ => 0, fun _ _ => 0), fun _ => 0, b, g)) (a0 := a0) N u x1 h
theorem met_X18_goes (l : Launch) (N : Nat) (G : uG) (u : UH) (a0 : Nat) (x1 : Option Nat) (uf : UH) (h : f_X18_goes N (ub G) (ug G) u a0 x1 = some uf) : Met l yX18_goes (ws_ yX18_goes cX18_goes 3 none) ({ frames := 4, cells := 0, slots := 0, locals := 95 }) (uPc G u [.ref a0, va_rf x1]) (uQv G uf) 0 0 (uA G) := by
  rcases x1 with _ | x1 <;> exact u_met (own := RX18) (by decide +kernel) rfl (Nat.le_of_ble_eq_true rfl) (fun hC hn hsz ls hl hP => w_X18_goes_0 hC ⟨Nat.le_refl _, Nat.le_refl _⟩ N u _ h hP va_S.rf hl)
def f_X12_by_31 (N b : Nat) (g : uEnv) (a0 : Nat) (u : UH) : Option (UH) :=
    some u
set_option maxHeartbeats 4000000 in
set_option maxRecDepth 100000 in
theorem zz_X12_by_31 {G : uG} {a0 : Nat} {uf : UH} (N : Nat) (u : UH) (h : f_X12_by_31 N (ub G) (ug G) a0 u = some uf) : uf.1 = u.1 ∧ uf.2.1 = u.2.1 := by
  unfold f_X12_by_31 at h
  cases h
  exact ⟨by omega, by omega⟩
set_option maxHeartbeats 4000000 in
set_option maxRecDepth 100000 in
theorem w_X12_by_31 {p : Program} {l : Launch} {e : Env} {R : Room} {s : State} {m : MethodId} {args : Array Value} {below : List Frame} {meth : Method} {c : Code} {G : uG} {a0 : Nat} {uf : UH} (hC : uC p s m args meth c G RX12 cX12_by 3 none) (hR : 5 ≤ R.frames ∧ 117 ≤ R.locals) (N : Nat) (u : UH) (h : f_X12_by_31 N (ub G) (ug G) a0 u = some uf) {H : Heap} {locs : List Loc} (hP : uP G u H) (hS : va_S (uA G) s.heap H locs) {ls : Array Slot} (hl : lv_has ls 3 []) : W p l e R s m args below meth c H locs 0 0 (MQ below (uQv G uf) args s 0 0 (uA G)) (F0 m 31 ls []) := by
  obtain ⟨⟨hx, hb, hml, hown, hts⟩, hKK⟩ := id hC
  unfold f_X12_by_31 at h
  cases h
  exact u_vret hC hP hS dX12_by_31
def f_X12_by_2 (N b : Nat) (g : uEnv) (a0 : Nat) : Nat → UH → Option Nat → Int32 → Option (UH)
  | 0, _, _, _ => none
  | n + 1, u, x1, x2 =>
    (uGI u a0 10 1).bind fun y1 =>
    if y1 ≤ x2 then
    f_X12_by_31 N b g a0 u
    else
    (x1).bind fun a3 =>
    (uGI u a3 16 7).bind fun y4 =>
    if y4 = 0 then
    (uGR u a0 10 0).bind fun o6 =>
    if uIs u a3 16 = true then
    (f_X18_goes N b g u a3 o6).bind fun u8 =>
    mlet (x2 + 1) fun y10 =>
    f_X12_by_2 N b g a0 n u8 (some a3) y10
    else none
    else
    f_X12_by_31 N b g a0 u
set_option maxHeartbeats 4000000 in
set_option maxRecDepth 100000 in
theorem zz_X12_by_2 {G : uG} {a0 : Nat} {uf : UH} (N : Nat) : ∀ (n : Nat) (u : UH) (x1 : Option Nat) (x2 : Int32), f_X12_by_2 N (ub G) (ug G) a0 n u x1 x2 = some uf → uf.1 = u.1 ∧ uf.2.1 = u.2.1 := by
  intro n
  induction n with
  | zero =>
    intro u x1 x2 h
    cases h
  | succ n ih =>
    intro u x1 x2 h
    unfold f_X12_by_2 at h
    obtain ⟨y1, hy1, h⟩ := mbind_n h
    by_cases c2 : y1 ≤ x2
    · have h := mif_t c2 h
      have hq := zz_X12_by_31 (G := G) (a0 := a0) N u h
      exact ⟨by omega, by omega⟩
    · have h := mif_f c2 h
      obtain ⟨a3, ha3, hha3⟩ := mbind_n h
      subst ha3
      have h := hha3
      obtain ⟨y4, hy4, h⟩ := mbind_n h
      by_cases c5 : y4 = 0
      · have h := mif_t c5 h
        obtain ⟨o6, ho6, h⟩ := mbind_n h
        obtain ⟨c7, h⟩ := mif_n h
        obtain ⟨u8, c9, h⟩ := mbind_n h
        have zu8 := zz_X18_goes N (ub G) (ug G) u a3 o6 u8 c9
        obtain ⟨y10, ey10⟩ : ∃ z : Int32, z = x2 + 1 := ⟨_, rfl⟩
        have h := mlet_at ey10 h
        have hq := ih u8 (some a3) y10 h
        exact ⟨by omega, by omega⟩
      · have h := mif_f c5 h
        have hq := zz_X12_by_31 (G := G) (a0 := a0) N u h
        exact ⟨by omega, by omega⟩
set_option maxHeartbeats 4000000 in
set_option maxRecDepth 100000 in
theorem w_X12_by_2 {p : Program} {l : Launch} {e : Env} {R : Room} {s : State} {m : MethodId} {args : Array Value} {below : List Frame} {meth : Method} {c : Code} {G : uG} {a0 : Nat} {uf : UH} (hC : uC p s m args meth c G RX12 cX12_by 3 none) (hR : 5 ≤ R.frames ∧ 117 ≤ R.locals) (N : Nat) : ∀ (n : Nat) (u : UH) (x1 : Option Nat) (x2 : Int32), f_X12_by_2 N (ub G) (ug G) a0 n u x1 x2 = some uf → ∀ (H : Heap) (locs : List Loc), uP G u H → va_S (uA G) s.heap H locs → ∀ ls : Array Slot, lv_has ls 3 [(0, va_rf (some a0)), (1, va_rf x1), (2, .int x2)] → W p l e R s m args below meth c H locs 0 0 (MQ below (uQv G uf) args s 0 0 (uA G)) (F0 m 2 ls []) := by
  obtain ⟨⟨hx, hb, hml, hown, hts⟩, hKK⟩ := id hC
  intro n
  induction n with
  | zero =>
    intro u x1 x2 h
    cases h
  | succ n ih =>
    intro u x1 x2 h H locs hP hS ls hl
    unfold f_X12_by_2 at h
    refine lv_iload_n hx hb dX12_by_2 rfl (lv_at hl 2 rfl) ?_
    refine u_aload_n (r := some a0) hx hb dX12_by_3 rfl (lv_at hl 0 rfl) ?_
    obtain ⟨y1, hy1, h⟩ := mbind_n h
    refine u_get hC hP (uGI_n hy1) rfl in_X12 (by decide) q1590 (fun _ h => h) dX12_by_4 ?_
    refine lv_icmp_ge (tgt := 31) hx hb dX12_by_7 (by decide) (fun c2 => ?_) (fun c2 => ?_)
    · have h := mif_t c2 h
      exact w_X12_by_31 hC hR N u h hP hS (lv_sub hl [] rfl)
    · have h := mif_f c2 h
      refine u_aload_n (r := x1) hx hb dX12_by_10 rfl (lv_at hl 1 rfl) ?_
      obtain ⟨a3, ha3, hha3⟩ := mbind_n h
      subst ha3
      have h := hha3
      obtain ⟨y4, hy4, h⟩ := mbind_n h
      refine u_getN hC hP (uGI_n hy4) rfl in_X18 (by decide) q1662 (fun _ h => h) dX12_by_11 ?_
      refine lv_if_ne (tgt := 31) hx hb dX12_by_14 (by decide) (fun c5 => ?_) (fun c5 => ?_)
      · have h := mif_f c5 h
        exact w_X12_by_31 hC hR N u h hP hS (lv_sub hl [] rfl)
      · have h := mif_t c5 h
        refine u_aload_n (r := some a3) hx hb dX12_by_17 rfl (lv_at hl 1 rfl) ?_
        refine u_aload_n (r := some a0) hx hb dX12_by_18 rfl (lv_at hl 0 rfl) ?_
        obtain ⟨o6, ho6, h⟩ := mbind_n h
        refine u_get hC hP (uGR_n ho6) rfl in_X12 (by decide) q1589 (fun _ h => h) dX12_by_19 ?_
        obtain ⟨c7, h⟩ := mif_n h
        obtain ⟨u8, c9, h⟩ := mbind_n h
        have zu8 := zz_X18_goes N (ub G) (ug G) u a3 o6 u8 c9
        refine u_callv (va_runV (As := [va_rf o6]) (rest := []) hC.1 (met_X18_goes l N G u a3 o6 u8 c9) (cwV 1 hts (lw_V q1711 q1712 q1713 q140 q1714) rfl rfl rfl (by decide +kernel) ⟨Nat.le_trans (Nat.le_of_ble_eq_true rfl) hR.1, Nat.le_trans (Nat.le_of_ble_eq_true rfl) hR.2⟩) ⟨uPc_blind, u_rcv hC hP c7 rfl, fun U hU hW => u_pre hC hP hS hU hW⟩ rfl rfl hl.1 rfl (lv_room (Nat.le_of_ble_eq_true rfl)) dX12_by_22 ⟨Nat.zero_le _, Nat.zero_le _⟩) hS (fun H locs hP hS => ?_)
        obtain ⟨y10, ey10⟩ : ∃ z : Int32, z = x2 + 1 := ⟨_, rfl⟩
        have h := mlet_at ey10 h
        refine lv_iinc (v := y10) (lv' := [(2, .int y10), (0, va_rf (some a0)), (1, va_rf (some a3))]) hx hb dX12_by_25 hl (k := 2) rfl (by rw [ey10]; rfl) (by decide) rfl (fun ls hl => ?_)
        refine lv_goto (tgt := 2) hx hb dX12_by_28 (by decide) ?_
        exact ih u8 (some a3) y10 h _ _ hP hS _ (lv_sub hl [1, 2, 0] rfl)
def f_X12_by (N b : Nat) (g : uEnv) (u : UH) (a0 : Nat) (x1 : Option Nat) : Option (UH) :=
    f_X12_by_2 N b g a0 N u x1 0
set_option maxHeartbeats 4000000 in
set_option maxRecDepth 100000 in
theorem zz_X12_by_0 {G : uG} {a0 : Nat} {uf : UH} (N : Nat) (u : UH) (x1 : Option Nat) (h : f_X12_by N (ub G) (ug G) u a0 x1 = some uf) : uf.1 = u.1 ∧ uf.2.1 = u.2.1 := by
  unfold f_X12_by at h
  have hq := zz_X12_by_2 (G := G) (a0 := a0) N N u x1 0 h
  exact ⟨by omega, by omega⟩
set_option maxHeartbeats 4000000 in
set_option maxRecDepth 100000 in
theorem w_X12_by_0 {p : Program} {l : Launch} {e : Env} {R : Room} {s : State} {m : MethodId} {args : Array Value} {below : List Frame} {meth : Method} {c : Code} {G : uG} {a0 : Nat} {uf : UH} (hC : uC p s m args meth c G RX12 cX12_by 3 none) (hR : 5 ≤ R.frames ∧ 117 ≤ R.locals) (N : Nat) (u : UH) (x1 : Option Nat) (h : f_X12_by N (ub G) (ug G) u a0 x1 = some uf) {H : Heap} {locs : List Loc} (hP : uP G u H) (hS : va_S (uA G) s.heap H locs) {ls : Array Slot} (hl : lv_has ls 3 [(0, va_rf (some a0)), (1, va_rf x1)]) : W p l e R s m args below meth c H locs 0 0 (MQ below (uQv G uf) args s 0 0 (uA G)) (F0 m 0 ls []) := by
  obtain ⟨⟨hx, hb, hml, hown, hts⟩, hKK⟩ := id hC
  unfold f_X12_by at h
  refine lv_iconst (v := 0) hx hb dX12_by_0 (by decide) ?_
  refine lv_istore_n (lv' := [(2, .int 0), (0, va_rf (some a0)), (1, va_rf x1)]) hx hb dX12_by_1 rfl hl (by decide) (by simp [List.filter_cons, u_cat]) (fun ls hl => ?_)
  exact w_X12_by_2 hC hR N N u x1 0 h _ _ hP hS _ (lv_sub hl [1, 2, 0] rfl)
theorem zz_X12_by (N b : Nat) (g : uEnv) (u : UH) (a0 : Nat) (x1 : Option Nat) (uf : UH) (h : f_X12_by N b g u a0 x1 = some uf) : uf.1 = u.1 ∧ uf.2.1 = u.2.1 :=
  zz_X12_by_0 (G := ((fun _ => 0, fun _ _ => 0), fun _ => 0, b, g)) (a0 := a0) N u x1 h
theorem met_X12_by (l : Launch) (N : Nat) (G : uG) (u : UH) (a0 : Nat) (x1 : Option Nat) (uf : UH) (h : f_X12_by N (ub G) (ug G) u a0 x1 = some uf) : Met l yX12_by (ws_ yX12_by cX12_by 3 none) ({ frames := 5, cells := 0, slots := 0, locals := 117 }) (uPc G u [.ref a0, va_rf x1]) (uQv G uf) 0 0 (uA G) := by
  rcases x1 with _ | x1 <;> exact u_met (own := RX12) (by decide +kernel) rfl (Nat.le_of_ble_eq_true rfl) (fun hC hn hsz ls hl hP => w_X12_by_0 hC ⟨Nat.le_refl _, Nat.le_refl _⟩ N u _ h hP va_S.rf hl)
def f_X18_is_31 (N b : Nat) (g : uEnv) (a0 : Nat) (u : UH) (s0 : Int32) : Option (Int32 × UH) :=
    if uFit .boolean s0 = true then
    some (s0, u)
    else none
set_option maxHeartbeats 4000000 in
set_option maxRecDepth 100000 in
theorem zz_X18_is_31 {G : uG} {a0 : Nat} {uf : UH} {r : Int32} (N : Nat) (u : UH) (s0 : Int32) (h : f_X18_is_31 N (ub G) (ug G) a0 u s0 = some (r, uf)) : uf.1 = u.1 ∧ uf.2.1 = u.2.1 := by
  unfold f_X18_is_31 at h
  obtain ⟨c1, h⟩ := mif_n h
  obtain ⟨hr1, hr2⟩ := uret_n h
  subst hr2
  exact ⟨by omega, by omega⟩
set_option maxHeartbeats 4000000 in
set_option maxRecDepth 100000 in
theorem w_X18_is_31 {p : Program} {l : Launch} {e : Env} {R : Room} {s : State} {m : MethodId} {args : Array Value} {below : List Frame} {meth : Method} {c : Code} {G : uG} {a0 : Nat} {uf : UH} {r : Int32} (hC : uC p s m args meth c G RX18 cX18_is 3 (some .boolean)) (hR : 0 ≤ R.frames ∧ 0 ≤ R.locals) (N : Nat) (u : UH) (s0 : Int32) (h : f_X18_is_31 N (ub G) (ug G) a0 u s0 = some (r, uf)) {H : Heap} {locs : List Loc} (hP : uP G u H) (hS : va_S (uA G) s.heap H locs) {ls : Array Slot} (hl : lv_has ls 3 []) : W p l e R s m args below meth c H locs 0 0 (MQ below (uQi G r uf) args s 0 0 (uA G)) (F0 m 31 ls [.int s0]) := by
  obtain ⟨⟨hx, hb, hml, hown, hts⟩, hKK⟩ := id hC
  unfold f_X18_is_31 at h
  obtain ⟨c1, h⟩ := mif_n h
  obtain ⟨hr1, hr2⟩ := uret_n h
  subst hr1
  subst hr2
  exact u_zret hC (uFit_n c1).1 hP hS dX18_is_31
def f_X18_is_16 (N b : Nat) (g : uEnv) (a0 : Nat) (u : UH) (x1 : Int32) (x2 : Int32) : Option (Int32 × UH) :=
    (uGR u a0 16 2).bind fun o1 =>
    (o1).bind fun a2 =>
    (uLdI u a2 0 x1).bind fun y3 =>
    if y3 = x2 then
    f_X18_is_31 N b g a0 u 1
    else
    f_X18_is_31 N b g a0 u 0
set_option maxHeartbeats 4000000 in
set_option maxRecDepth 100000 in
theorem zz_X18_is_16 {G : uG} {a0 : Nat} {uf : UH} {r : Int32} (N : Nat) (u : UH) (x1 : Int32) (x2 : Int32) (h : f_X18_is_16 N (ub G) (ug G) a0 u x1 x2 = some (r, uf)) : uf.1 = u.1 ∧ uf.2.1 = u.2.1 := by
  unfold f_X18_is_16 at h
  obtain ⟨o1, ho1, h⟩ := mbind_n h
  obtain ⟨a2, ha2, hha2⟩ := mbind_n h
  subst ha2
  have h := hha2
  obtain ⟨y3, hy3, h⟩ := mbind_n h
  by_cases c4 : y3 = x2
  · have h := mif_t c4 h
    have hq := zz_X18_is_31 (G := G) (a0 := a0) N u 1 h
    exact ⟨by omega, by omega⟩
  · have h := mif_f c4 h
    have hq := zz_X18_is_31 (G := G) (a0 := a0) N u 0 h
    exact ⟨by omega, by omega⟩
set_option maxHeartbeats 4000000 in
set_option maxRecDepth 100000 in
theorem w_X18_is_16 {p : Program} {l : Launch} {e : Env} {R : Room} {s : State} {m : MethodId} {args : Array Value} {below : List Frame} {meth : Method} {c : Code} {G : uG} {a0 : Nat} {uf : UH} {r : Int32} (hC : uC p s m args meth c G RX18 cX18_is 3 (some .boolean)) (hR : 0 ≤ R.frames ∧ 0 ≤ R.locals) (N : Nat) (u : UH) (x1 : Int32) (x2 : Int32) (h : f_X18_is_16 N (ub G) (ug G) a0 u x1 x2 = some (r, uf)) {H : Heap} {locs : List Loc} (hP : uP G u H) (hS : va_S (uA G) s.heap H locs) {ls : Array Slot} (hl : lv_has ls 3 [(0, va_rf (some a0)), (1, .int x1), (2, .int x2)]) : W p l e R s m args below meth c H locs 0 0 (MQ below (uQi G r uf) args s 0 0 (uA G)) (F0 m 16 ls []) := by
  obtain ⟨⟨hx, hb, hml, hown, hts⟩, hKK⟩ := id hC
  unfold f_X18_is_16 at h
  refine u_aload_n (r := some a0) hx hb dX18_is_16 rfl (lv_at hl 0 rfl) ?_
  obtain ⟨o1, ho1, h⟩ := mbind_n h
  refine u_get hC hP (uGR_n ho1) rfl in_X18 (by decide) q1655 (fun _ h => h) dX18_is_17 ?_
  refine lv_iload_n hx hb dX18_is_20 rfl (lv_at hl 1 rfl) ?_
  obtain ⟨a2, ha2, hha2⟩ := mbind_n h
  subst ha2
  have h := hha2
  obtain ⟨y3, hy3, h⟩ := mbind_n h
  refine u_iald hC hP hy3 rfl dX18_is_21 ?_
  refine lv_iload_n hx hb dX18_is_22 rfl (lv_at hl 2 rfl) ?_
  refine lv_icmp_ne (tgt := 30) hx hb dX18_is_23 (by decide) (fun c4 => ?_) (fun c4 => ?_)
  · have h := mif_f c4 h
    refine lv_iconst (v := 0) hx hb dX18_is_30 (by decide) ?_
    exact w_X18_is_31 hC hR N u 0 h hP hS (lv_sub hl [] rfl)
  · have h := mif_t c4 h
    refine lv_iconst (v := 1) hx hb dX18_is_26 (by decide) ?_
    refine lv_goto (tgt := 31) hx hb dX18_is_27 (by decide) ?_
    exact w_X18_is_31 hC hR N u 1 h hP hS (lv_sub hl [] rfl)
def f_X18_is (N b : Nat) (g : uEnv) (u : UH) (a0 : Nat) (x1 : Int32) (x2 : Int32) : Option (Int32 × UH) :=
    (uGI u a0 16 4).bind fun y1 =>
    if ((y1 >>> (x1 &&& 31)) &&& 1) = 0 then
    (uPut b u a0 16 7 (.int 5)).bind fun u3 =>
    f_X18_is_16 N b g a0 u3 x1 x2
    else
    f_X18_is_16 N b g a0 u x1 x2
set_option maxHeartbeats 4000000 in
set_option maxRecDepth 100000 in
theorem zz_X18_is_0 {G : uG} {a0 : Nat} {uf : UH} {r : Int32} (N : Nat) (u : UH) (x1 : Int32) (x2 : Int32) (h : f_X18_is N (ub G) (ug G) u a0 x1 x2 = some (r, uf)) : uf.1 = u.1 ∧ uf.2.1 = u.2.1 := by
  unfold f_X18_is at h
  obtain ⟨y1, hy1, h⟩ := mbind_n h
  by_cases c2 : ((y1 >>> (x1 &&& 31)) &&& 1) = 0
  · have h := mif_t c2 h
    obtain ⟨u3, hu3, h⟩ := mbind_n h
    have zu3 := uPut_sz hu3
    have hq := zz_X18_is_16 (G := G) (a0 := a0) N u3 x1 x2 h
    exact ⟨by omega, by omega⟩
  · have h := mif_f c2 h
    have hq := zz_X18_is_16 (G := G) (a0 := a0) N u x1 x2 h
    exact ⟨by omega, by omega⟩
set_option maxHeartbeats 4000000 in
set_option maxRecDepth 100000 in
theorem w_X18_is_0 {p : Program} {l : Launch} {e : Env} {R : Room} {s : State} {m : MethodId} {args : Array Value} {below : List Frame} {meth : Method} {c : Code} {G : uG} {a0 : Nat} {uf : UH} {r : Int32} (hC : uC p s m args meth c G RX18 cX18_is 3 (some .boolean)) (hR : 0 ≤ R.frames ∧ 0 ≤ R.locals) (N : Nat) (u : UH) (x1 : Int32) (x2 : Int32) (h : f_X18_is N (ub G) (ug G) u a0 x1 x2 = some (r, uf)) {H : Heap} {locs : List Loc} (hP : uP G u H) (hS : va_S (uA G) s.heap H locs) {ls : Array Slot} (hl : lv_has ls 3 [(0, va_rf (some a0)), (1, .int x1), (2, .int x2)]) : W p l e R s m args below meth c H locs 0 0 (MQ below (uQi G r uf) args s 0 0 (uA G)) (F0 m 0 ls []) := by
  obtain ⟨⟨hx, hb, hml, hown, hts⟩, hKK⟩ := id hC
  unfold f_X18_is at h
  refine u_aload_n (r := some a0) hx hb dX18_is_0 rfl (lv_at hl 0 rfl) ?_
  obtain ⟨y1, hy1, h⟩ := mbind_n h
  refine u_get hC hP (uGI_n hy1) rfl in_X18 (by decide) q1657 (fun _ h => h) dX18_is_1 ?_
  refine lv_iload_n hx hb dX18_is_4 rfl (lv_at hl 1 rfl) ?_
  refine lv_ishr hx hb dX18_is_5 ?_
  refine lv_iconst (v := 1) hx hb dX18_is_6 (by decide) ?_
  refine lv_iand hx hb dX18_is_7 ?_
  refine lv_if_ne (tgt := 16) hx hb dX18_is_8 (by decide) (fun c2 => ?_) (fun c2 => ?_)
  · have h := mif_f c2 h
    exact w_X18_is_16 hC hR N u x1 x2 h hP hS (lv_sub hl [0, 1, 2] rfl)
  · have h := mif_t c2 h
    refine u_aload_n (r := some a0) hx hb dX18_is_11 rfl (lv_at hl 0 rfl) ?_
    refine lv_iconst (v := 5) hx hb dX18_is_12 (by decide) ?_
    obtain ⟨u3, hu3, h⟩ := mbind_n h
    have zu3 := uPut_sz hu3
    refine u_put hC hP hS hu3 rfl in_X18 tyX18 tyX18_ok nmX18 (by decide) q1663 (fun _ h => h) rfl (ty := .int) (tyX18_ok 7 (by decide)) rfl rfl dX18_is_13 (fun H locs hP hS => ?_)
    exact w_X18_is_16 hC hR N u3 x1 x2 h hP hS (lv_sub hl [0, 1, 2] rfl)
theorem zz_X18_is (N b : Nat) (g : uEnv) (u : UH) (a0 : Nat) (x1 : Int32) (x2 : Int32) (r : Int32) (uf : UH) (h : f_X18_is N b g u a0 x1 x2 = some (r, uf)) : uf.1 = u.1 ∧ uf.2.1 = u.2.1 :=
  zz_X18_is_0 (G := ((fun _ => 0, fun _ _ => 0), fun _ => 0, b, g)) (a0 := a0) N u x1 x2 h
theorem met_X18_is (l : Launch) (N : Nat) (G : uG) (u : UH) (a0 : Nat) (x1 : Int32) (x2 : Int32) (r : Int32) (uf : UH) (h : f_X18_is N (ub G) (ug G) u a0 x1 x2 = some (r, uf)) : Met l yX18_is (ws_ yX18_is cX18_is 3 (some .boolean)) ({ frames := 0, cells := 0, slots := 0, locals := 0 }) (uPc G u [.ref a0, .int x1, .int x2]) (uQi G r uf) 0 0 (uA G) := by
  exact u_met (own := RX18) (by decide +kernel) rfl (Nat.le_of_ble_eq_true rfl) (fun hC hn hsz ls hl hP => w_X18_is_0 hC ⟨Nat.le_refl _, Nat.le_refl _⟩ N u x1 x2 h hP va_S.rf hl)
def f_X18_fails_41 (N b : Nat) (g : uEnv) (a0 : Nat) (u : UH) (s0 : Int32) : Option (Int32 × UH) :=
    some (s0, u)
set_option maxHeartbeats 4000000 in
set_option maxRecDepth 100000 in
theorem zz_X18_fails_41 {G : uG} {a0 : Nat} {uf : UH} {r : Int32} (N : Nat) (u : UH) (s0 : Int32) (h : f_X18_fails_41 N (ub G) (ug G) a0 u s0 = some (r, uf)) : uf.1 = u.1 ∧ uf.2.1 = u.2.1 := by
  unfold f_X18_fails_41 at h
  obtain ⟨hr1, hr2⟩ := uret_n h
  subst hr2
  exact ⟨by omega, by omega⟩
set_option maxHeartbeats 4000000 in
set_option maxRecDepth 100000 in
theorem w_X18_fails_41 {p : Program} {l : Launch} {e : Env} {R : Room} {s : State} {m : MethodId} {args : Array Value} {below : List Frame} {meth : Method} {c : Code} {G : uG} {a0 : Nat} {uf : UH} {r : Int32} (hC : uC p s m args meth c G RX18 cX18_fails 3 (some .int)) (hR : 0 ≤ R.frames ∧ 0 ≤ R.locals) (N : Nat) (u : UH) (s0 : Int32) (h : f_X18_fails_41 N (ub G) (ug G) a0 u s0 = some (r, uf)) {H : Heap} {locs : List Loc} (hP : uP G u H) (hS : va_S (uA G) s.heap H locs) {ls : Array Slot} (hl : lv_has ls 3 []) : W p l e R s m args below meth c H locs 0 0 (MQ below (uQi G r uf) args s 0 0 (uA G)) (F0 m 41 ls [.int s0]) := by
  obtain ⟨⟨hx, hb, hml, hown, hts⟩, hKK⟩ := id hC
  unfold f_X18_fails_41 at h
  obtain ⟨hr1, hr2⟩ := uret_n h
  subst hr1
  subst hr2
  exact u_iret hC hP hS dX18_fails_41
def f_X18_fails (N b : Nat) (g : uEnv) (u : UH) (a0 : Nat) (x1 : Int32) (x2 : Int32) : Option (Int32 × UH) :=
    (uGI u a0 16 7).bind fun y1 =>
    if y1 = 0 then
    (uGI u a0 16 3).bind fun y3 =>
    if y3 = x1 then
    (uGI u a0 16 5).bind fun y5 =>
    if y5 ≤ x2 then
    f_X18_fails_41 N b g a0 u 0
    else
    f_X18_fails_41 N b g a0 u 7
    else
    f_X18_fails_41 N b g a0 u 6
    else
    (uGI u a0 16 7).bind fun y7 =>
    f_X18_fails_41 N b g a0 u y7
set_option maxHeartbeats 4000000 in
set_option maxRecDepth 100000 in
theorem zz_X18_fails_0 {G : uG} {a0 : Nat} {uf : UH} {r : Int32} (N : Nat) (u : UH) (x1 : Int32) (x2 : Int32) (h : f_X18_fails N (ub G) (ug G) u a0 x1 x2 = some (r, uf)) : uf.1 = u.1 ∧ uf.2.1 = u.2.1 := by
  unfold f_X18_fails at h
  obtain ⟨y1, hy1, h⟩ := mbind_n h
  by_cases c2 : y1 = 0
  · have h := mif_t c2 h
    obtain ⟨y3, hy3, h⟩ := mbind_n h
    by_cases c4 : y3 = x1
    · have h := mif_t c4 h
      obtain ⟨y5, hy5, h⟩ := mbind_n h
      by_cases c6 : y5 ≤ x2
      · have h := mif_t c6 h
        have hq := zz_X18_fails_41 (G := G) (a0 := a0) N u 0 h
        exact ⟨by omega, by omega⟩
      · have h := mif_f c6 h
        have hq := zz_X18_fails_41 (G := G) (a0 := a0) N u 7 h
        exact ⟨by omega, by omega⟩
    · have h := mif_f c4 h
      have hq := zz_X18_fails_41 (G := G) (a0 := a0) N u 6 h
      exact ⟨by omega, by omega⟩
  · have h := mif_f c2 h
    obtain ⟨y7, hy7, h⟩ := mbind_n h
    have hq := zz_X18_fails_41 (G := G) (a0 := a0) N u y7 h
    exact ⟨by omega, by omega⟩
set_option maxHeartbeats 4000000 in
set_option maxRecDepth 100000 in
theorem w_X18_fails_0 {p : Program} {l : Launch} {e : Env} {R : Room} {s : State} {m : MethodId} {args : Array Value} {below : List Frame} {meth : Method} {c : Code} {G : uG} {a0 : Nat} {uf : UH} {r : Int32} (hC : uC p s m args meth c G RX18 cX18_fails 3 (some .int)) (hR : 0 ≤ R.frames ∧ 0 ≤ R.locals) (N : Nat) (u : UH) (x1 : Int32) (x2 : Int32) (h : f_X18_fails N (ub G) (ug G) u a0 x1 x2 = some (r, uf)) {H : Heap} {locs : List Loc} (hP : uP G u H) (hS : va_S (uA G) s.heap H locs) {ls : Array Slot} (hl : lv_has ls 3 [(0, va_rf (some a0)), (1, .int x1), (2, .int x2)]) : W p l e R s m args below meth c H locs 0 0 (MQ below (uQi G r uf) args s 0 0 (uA G)) (F0 m 0 ls []) := by
  obtain ⟨⟨hx, hb, hml, hown, hts⟩, hKK⟩ := id hC
  unfold f_X18_fails at h
  refine u_aload_n (r := some a0) hx hb dX18_fails_0 rfl (lv_at hl 0 rfl) ?_
  obtain ⟨y1, hy1, h⟩ := mbind_n h
  refine u_get hC hP (uGI_n hy1) rfl in_X18 (by decide) q1663 (fun _ h => h) dX18_fails_1 ?_
  refine lv_if_eq (tgt := 14) hx hb dX18_fails_4 (by decide) (fun c2 => ?_) (fun c2 => ?_)
  · have h := mif_t c2 h
    refine u_aload_n (r := some a0) hx hb dX18_fails_14 rfl (lv_at hl 0 rfl) ?_
    obtain ⟨y3, hy3, h⟩ := mbind_n h
    refine u_get hC hP (uGI_n hy3) rfl in_X18 (by decide) q1656 (fun _ h => h) dX18_fails_15 ?_
    refine lv_iload_n hx hb dX18_fails_18 rfl (lv_at hl 1 rfl) ?_
    refine lv_icmp_eq (tgt := 27) hx hb dX18_fails_19 (by decide) (fun c4 => ?_) (fun c4 => ?_)
    · have h := mif_t c4 h
      refine u_aload_n (r := some a0) hx hb dX18_fails_27 rfl (lv_at hl 0 rfl) ?_
      obtain ⟨y5, hy5, h⟩ := mbind_n h
      refine u_get hC hP (uGI_n hy5) rfl in_X18 (by decide) q1658 (fun _ h => h) dX18_fails_28 ?_
      refine lv_iload_n hx hb dX18_fails_31 rfl (lv_at hl 2 rfl) ?_
      refine lv_icmp_le (tgt := 40) hx hb dX18_fails_32 (by decide) (fun c6 => ?_) (fun c6 => ?_)
      · have h := mif_t c6 h
        refine lv_iconst (v := 0) hx hb dX18_fails_40 (by decide) ?_
        exact w_X18_fails_41 hC hR N u 0 h hP hS (lv_sub hl [] rfl)
      · have h := mif_f c6 h
        refine lv_bipush (v := 7) hx hb dX18_fails_35 (by decide) ?_
        refine lv_goto (tgt := 41) hx hb dX18_fails_37 (by decide) ?_
        exact w_X18_fails_41 hC hR N u 7 h hP hS (lv_sub hl [] rfl)
    · have h := mif_f c4 h
      refine lv_bipush (v := 6) hx hb dX18_fails_22 (by decide) ?_
      refine lv_goto (tgt := 41) hx hb dX18_fails_24 (by decide) ?_
      exact w_X18_fails_41 hC hR N u 6 h hP hS (lv_sub hl [] rfl)
  · have h := mif_f c2 h
    refine u_aload_n (r := some a0) hx hb dX18_fails_7 rfl (lv_at hl 0 rfl) ?_
    obtain ⟨y7, hy7, h⟩ := mbind_n h
    refine u_get hC hP (uGI_n hy7) rfl in_X18 (by decide) q1663 (fun _ h => h) dX18_fails_8 ?_
    refine lv_goto (tgt := 41) hx hb dX18_fails_11 (by decide) ?_
    exact w_X18_fails_41 hC hR N u y7 h hP hS (lv_sub hl [] rfl)
theorem zz_X18_fails (N b : Nat) (g : uEnv) (u : UH) (a0 : Nat) (x1 : Int32) (x2 : Int32) (r : Int32) (uf : UH) (h : f_X18_fails N b g u a0 x1 x2 = some (r, uf)) : uf.1 = u.1 ∧ uf.2.1 = u.2.1 :=
  zz_X18_fails_0 (G := ((fun _ => 0, fun _ _ => 0), fun _ => 0, b, g)) (a0 := a0) N u x1 x2 h
theorem met_X18_fails (l : Launch) (N : Nat) (G : uG) (u : UH) (a0 : Nat) (x1 : Int32) (x2 : Int32) (r : Int32) (uf : UH) (h : f_X18_fails N (ub G) (ug G) u a0 x1 x2 = some (r, uf)) : Met l yX18_fails (ws_ yX18_fails cX18_fails 3 (some .int)) ({ frames := 0, cells := 0, slots := 0, locals := 0 }) (uPc G u [.ref a0, .int x1, .int x2]) (uQi G r uf) 0 0 (uA G) := by
  exact u_met (own := RX18) (by decide +kernel) rfl (Nat.le_of_ble_eq_true rfl) (fun hC hn hsz ls hl hP => w_X18_fails_0 hC ⟨Nat.le_refl _, Nat.le_refl _⟩ N u x1 x2 h hP va_S.rf hl)
def f_X1_deepest_13 (N b : Nat) (g : uEnv) (a0 : Nat) : Nat → UH → Int32 → Option Nat → Int32 → Int32 → Option (Int32 × UH)
  | 0, _, _, _, _, _ => none
  | n + 1, u, x1, x2, x3, x4 =>
    if x3 ≤ x4 then
    some (x1, u)
    else
    (x2).bind fun a2 =>
    (uLdI u a2 0 x4).bind fun y3 =>
    ucall (f_J9_max N b g u x1 y3) fun r6 u4 =>
    mlet (x4 + 1) fun y7 =>
    f_X1_deepest_13 N b g a0 n u4 r6 (some a2) x3 y7
set_option maxHeartbeats 4000000 in
set_option maxRecDepth 100000 in
theorem zz_X1_deepest_13 {G : uG} {a0 : Nat} {uf : UH} {r : Int32} (N : Nat) : ∀ (n : Nat) (u : UH) (x1 : Int32) (x2 : Option Nat) (x3 : Int32) (x4 : Int32), f_X1_deepest_13 N (ub G) (ug G) a0 n u x1 x2 x3 x4 = some (r, uf) → uf.1 = u.1 ∧ uf.2.1 = u.2.1 := by
  intro n
  induction n with
  | zero =>
    intro u x1 x2 x3 x4 h
    cases h
  | succ n ih =>
    intro u x1 x2 x3 x4 h
    unfold f_X1_deepest_13 at h
    by_cases c1 : x3 ≤ x4
    · have h := mif_t c1 h
      obtain ⟨hr1, hr2⟩ := uret_n h
      subst hr2
      exact ⟨by omega, by omega⟩
    · have h := mif_f c1 h
      obtain ⟨a2, ha2, hha2⟩ := mbind_n h
      subst ha2
      have h := hha2
      obtain ⟨y3, hy3, h⟩ := mbind_n h
      obtain ⟨r6, u4, c5, h⟩ := ucall_n h
      have zu4 := zz_J9_max N (ub G) (ug G) u x1 y3 r6 u4 c5
      obtain ⟨y7, ey7⟩ : ∃ z : Int32, z = x4 + 1 := ⟨_, rfl⟩
      have h := mlet_at ey7 h
      have hq := ih u4 r6 (some a2) x3 y7 h
      exact ⟨by omega, by omega⟩
set_option maxHeartbeats 4000000 in
set_option maxRecDepth 100000 in
theorem w_X1_deepest_13 {p : Program} {l : Launch} {e : Env} {R : Room} {s : State} {m : MethodId} {args : Array Value} {below : List Frame} {meth : Method} {c : Code} {G : uG} {a0 : Nat} {uf : UH} {r : Int32} (hC : uC p s m args meth c G RX1 cX1_deepest 6 (some .int)) (hR : 1 ≤ R.frames ∧ 21 ≤ R.locals) (N : Nat) : ∀ (n : Nat) (u : UH) (x1 : Int32) (x2 : Option Nat) (x3 : Int32) (x4 : Int32), f_X1_deepest_13 N (ub G) (ug G) a0 n u x1 x2 x3 x4 = some (r, uf) → ∀ (H : Heap) (locs : List Loc), uP G u H → va_S (uA G) s.heap H locs → ∀ ls : Array Slot, lv_has ls 6 [(1, .int x1), (2, va_rf x2), (3, .int x3), (4, .int x4)] → W p l e R s m args below meth c H locs 0 0 (MQ below (uQi G r uf) args s 0 0 (uA G)) (F0 m 13 ls []) := by
  obtain ⟨⟨hx, hb, hml, hown, hts⟩, hKK⟩ := id hC
  intro n
  induction n with
  | zero =>
    intro u x1 x2 x3 x4 h
    cases h
  | succ n ih =>
    intro u x1 x2 x3 x4 h H locs hP hS ls hl
    unfold f_X1_deepest_13 at h
    refine lv_iload hx hb dX1_deepest_13 (lv_at hl 3 rfl) ?_
    refine lv_iload_n hx hb dX1_deepest_15 rfl (lv_at hl 2 rfl) ?_
    refine lv_icmp_ge (tgt := 38) hx hb dX1_deepest_16 (by decide) (fun c1 => ?_) (fun c1 => ?_)
    · have h := mif_t c1 h
      refine lv_iload_n hx hb dX1_deepest_38 rfl (lv_at hl 0 rfl) ?_
      obtain ⟨hr1, hr2⟩ := uret_n h
      subst hr1
      subst hr2
      exact u_iret hC hP hS dX1_deepest_39
    · have h := mif_f c1 h
      refine u_aload_n (r := x2) hx hb dX1_deepest_19 rfl (lv_at hl 1 rfl) ?_
      refine lv_iload hx hb dX1_deepest_20 (lv_at hl 3 rfl) ?_
      obtain ⟨a2, ha2, hha2⟩ := mbind_n h
      subst ha2
      have h := hha2
      obtain ⟨y3, hy3, h⟩ := mbind_n h
      refine u_iald hC hP hy3 rfl dX1_deepest_22 ?_
      refine lv_istore (lv' := [(5, .int y3), (1, .int x1), (2, va_rf (some a2)), (3, .int x3), (4, .int x4)]) hx hb dX1_deepest_23 hl (by decide) rfl (fun ls hl => ?_)
      refine lv_iload_n hx hb dX1_deepest_25 rfl (lv_at hl 1 rfl) ?_
      refine lv_iload hx hb dX1_deepest_26 (lv_at hl 0 rfl) ?_
      obtain ⟨r6, u4, c5, h⟩ := ucall_n h
      have zu4 := zz_J9_max N (ub G) (ug G) u x1 y3 r6 u4 c5
      refine u_calli (va_runS (As := [.int x1, .int y3]) (rest := []) hC.1 (met_J9_max l N G u x1 y3 r6 u4 c5) (va_cwS 2 hts (lw_S q1745 q408 q113 q409) rfl rfl rfl (by decide +kernel) ⟨Nat.le_trans (Nat.le_of_ble_eq_true rfl) hR.1, Nat.le_trans (Nat.le_of_ble_eq_true rfl) hR.2⟩) ⟨uPc_blind, fun U hU hW => u_pre hC hP hS hU hW⟩ rfl rfl hl.1 rfl (lv_room (Nat.le_of_ble_eq_true rfl)) dX1_deepest_28 ⟨Nat.zero_le _, Nat.zero_le _⟩) hS (fun H locs hP hS => ?_)
      refine lv_istore_n (lv' := [(1, .int r6), (5, .int y3), (2, va_rf (some a2)), (3, .int x3), (4, .int x4)]) hx hb dX1_deepest_31 rfl hl (by decide) rfl (fun ls hl => ?_)
      obtain ⟨y7, ey7⟩ : ∃ z : Int32, z = x4 + 1 := ⟨_, rfl⟩
      have h := mlet_at ey7 h
      refine lv_iinc (v := y7) (lv' := [(4, .int y7), (1, .int r6), (5, .int y3), (2, va_rf (some a2)), (3, .int x3)]) hx hb dX1_deepest_32 hl (k := 4) rfl (by rw [ey7]; rfl) (by decide) rfl (fun ls hl => ?_)
      refine lv_goto (tgt := 13) hx hb dX1_deepest_35 (by decide) ?_
      exact ih u4 r6 (some a2) x3 y7 h _ _ hP hS _ (lv_sub hl [1, 3, 4, 0] rfl)
def f_X1_deepest (N b : Nat) (g : uEnv) (u : UH) (a0 : Nat) : Option (Int32 × UH) :=
    (uGR u a0 0 14).bind fun o1 =>
    (o1).bind fun a2 =>
    (uLen u a2 0).bind fun y3 =>
    f_X1_deepest_13 N b g a0 N u 0 (some a2) y3 0
set_option maxHeartbeats 4000000 in
set_option maxRecDepth 100000 in
theorem zz_X1_deepest_0 {G : uG} {a0 : Nat} {uf : UH} {r : Int32} (N : Nat) (u : UH) (h : f_X1_deepest N (ub G) (ug G) u a0 = some (r, uf)) : uf.1 = u.1 ∧ uf.2.1 = u.2.1 := by
  unfold f_X1_deepest at h
  obtain ⟨o1, ho1, h⟩ := mbind_n h
  obtain ⟨a2, ha2, hha2⟩ := mbind_n h
  subst ha2
  have h := hha2
  obtain ⟨y3, hy3, h⟩ := mbind_n h
  have hq := zz_X1_deepest_13 (G := G) (a0 := a0) N N u 0 (some a2) y3 0 h
  exact ⟨by omega, by omega⟩
set_option maxHeartbeats 4000000 in
set_option maxRecDepth 100000 in
theorem w_X1_deepest_0 {p : Program} {l : Launch} {e : Env} {R : Room} {s : State} {m : MethodId} {args : Array Value} {below : List Frame} {meth : Method} {c : Code} {G : uG} {a0 : Nat} {uf : UH} {r : Int32} (hC : uC p s m args meth c G RX1 cX1_deepest 6 (some .int)) (hR : 1 ≤ R.frames ∧ 21 ≤ R.locals) (N : Nat) (u : UH) (h : f_X1_deepest N (ub G) (ug G) u a0 = some (r, uf)) {H : Heap} {locs : List Loc} (hP : uP G u H) (hS : va_S (uA G) s.heap H locs) {ls : Array Slot} (hl : lv_has ls 6 [(0, va_rf (some a0))]) : W p l e R s m args below meth c H locs 0 0 (MQ below (uQi G r uf) args s 0 0 (uA G)) (F0 m 0 ls []) := by
  obtain ⟨⟨hx, hb, hml, hown, hts⟩, hKK⟩ := id hC
  unfold f_X1_deepest at h
  refine lv_iconst (v := 0) hx hb dX1_deepest_0 (by decide) ?_
  refine lv_istore_n (lv' := [(1, .int 0), (0, va_rf (some a0))]) hx hb dX1_deepest_1 rfl hl (by decide) rfl (fun ls hl => ?_)
  refine u_aload_n (r := some a0) hx hb dX1_deepest_2 rfl (lv_at hl 1 rfl) ?_
  obtain ⟨o1, ho1, h⟩ := mbind_n h
  refine u_get hC hP (uGR_n ho1) rfl in_X1 (by decide) q229 (fun _ h => h) dX1_deepest_3 ?_
  refine u_astore_n (r := o1) (lv' := [(2, va_rf o1), (1, .int 0), (0, va_rf (some a0))]) hx hb dX1_deepest_6 rfl hl (by decide) rfl (fun ls hl => ?_)
  refine u_aload_n (r := o1) hx hb dX1_deepest_7 rfl (lv_at hl 0 rfl) ?_
  obtain ⟨a2, ha2, hha2⟩ := mbind_n h
  subst ha2
  have h := hha2
  obtain ⟨y3, hy3, h⟩ := mbind_n h
  refine u_alen hC hP hy3 dX1_deepest_8 ?_
  refine lv_istore_n (lv' := [(3, .int y3), (2, va_rf (some a2)), (1, .int 0), (0, va_rf (some a0))]) hx hb dX1_deepest_9 rfl hl (by decide) rfl (fun ls hl => ?_)
  refine lv_iconst (v := 0) hx hb dX1_deepest_10 (by decide) ?_
  refine lv_istore (lv' := [(4, .int 0), (3, .int y3), (2, va_rf (some a2)), (1, .int 0), (0, va_rf (some a0))]) hx hb dX1_deepest_11 hl (by decide) rfl (fun ls hl => ?_)
  exact w_X1_deepest_13 hC hR N N u 0 (some a2) y3 0 h _ _ hP hS _ (lv_sub hl [3, 2, 1, 0] rfl)
theorem zz_X1_deepest (N b : Nat) (g : uEnv) (u : UH) (a0 : Nat) (r : Int32) (uf : UH) (h : f_X1_deepest N b g u a0 = some (r, uf)) : uf.1 = u.1 ∧ uf.2.1 = u.2.1 :=
  zz_X1_deepest_0 (G := ((fun _ => 0, fun _ _ => 0), fun _ => 0, b, g)) (a0 := a0) N u h
theorem met_X1_deepest (l : Launch) (N : Nat) (G : uG) (u : UH) (a0 : Nat) (r : Int32) (uf : UH) (h : f_X1_deepest N (ub G) (ug G) u a0 = some (r, uf)) : Met l yX1_deepest (ws_ yX1_deepest cX1_deepest 6 (some .int)) ({ frames := 1, cells := 0, slots := 0, locals := 21 }) (uPc G u [.ref a0]) (uQi G r uf) 0 0 (uA G) := by
  exact u_met (own := RX1) (by decide +kernel) rfl (Nat.le_of_ble_eq_true rfl) (fun hC hn hsz ls hl hP => w_X1_deepest_0 hC ⟨Nat.le_refl _, Nat.le_refl _⟩ N u h hP va_S.rf hl)
def f_X14_openOnes_39 (N b : Nat) (g : uEnv) (a0 : Nat) (k4 : UH → Int32 → Int32 → Option (Int32 × UH)) (u : UH) (x2 : Int32) (s0 : Int32) (s1 : Int32) : Option (Int32 × UH) :=
    mlet (s1 + s0) fun y1 =>
    mlet (x2 + 1) fun y2 =>
    k4 u y1 y2
set_option maxHeartbeats 4000000 in
set_option maxRecDepth 100000 in
theorem zz_X14_openOnes_39 {G : uG} {a0 : Nat} {uf : UH} {r : Int32} (N : Nat) (k4 : UH → Int32 → Int32 → Option (Int32 × UH)) (hk4 : ∀ (u : UH) (x1 : Int32) (x2 : Int32), k4 u x1 x2 = some (r, uf) → uf.1 = u.1 ∧ uf.2.1 = u.2.1) (u : UH) (x2 : Int32) (s0 : Int32) (s1 : Int32) (h : f_X14_openOnes_39 N (ub G) (ug G) a0 k4 u x2 s0 s1 = some (r, uf)) : uf.1 = u.1 ∧ uf.2.1 = u.2.1 := by
  unfold f_X14_openOnes_39 at h
  obtain ⟨y1, ey1⟩ : ∃ z, z = s1 + s0 := ⟨_, rfl⟩
  have h := mlet_at ey1 h
  obtain ⟨y2, ey2⟩ : ∃ z : Int32, z = x2 + 1 := ⟨_, rfl⟩
  have h := mlet_at ey2 h
  have hq := hk4 u y1 y2 h
  exact ⟨by omega, by omega⟩
set_option maxHeartbeats 4000000 in
set_option maxRecDepth 100000 in
theorem w_X14_openOnes_39 {p : Program} {l : Launch} {e : Env} {R : Room} {s : State} {m : MethodId} {args : Array Value} {below : List Frame} {meth : Method} {c : Code} {G : uG} {a0 : Nat} {uf : UH} {r : Int32} (hC : uC p s m args meth c G RX14 cX14_openOnes 3 (some .int)) (hR : 3 ≤ R.frames ∧ 64 ≤ R.locals) (N : Nat) (k4 : UH → Int32 → Int32 → Option (Int32 × UH)) (hk4 : ∀ (u : UH) (x1 : Int32) (x2 : Int32), k4 u x1 x2 = some (r, uf) → ∀ (H : Heap) (locs : List Loc), uP G u H → va_S (uA G) s.heap H locs → ∀ ls : Array Slot, lv_has ls 3 [(0, va_rf (some a0)), (1, .int x1), (2, .int x2)] → W p l e R s m args below meth c H locs 0 0 (MQ below (uQi G r uf) args s 0 0 (uA G)) (F0 m 4 ls [])) (u : UH) (x2 : Int32) (s0 : Int32) (s1 : Int32) (h : f_X14_openOnes_39 N (ub G) (ug G) a0 k4 u x2 s0 s1 = some (r, uf)) {H : Heap} {locs : List Loc} (hP : uP G u H) (hS : va_S (uA G) s.heap H locs) {ls : Array Slot} (hl : lv_has ls 3 [(0, va_rf (some a0)), (2, .int x2)]) : W p l e R s m args below meth c H locs 0 0 (MQ below (uQi G r uf) args s 0 0 (uA G)) (F0 m 39 ls [.int s0, .int s1]) := by
  obtain ⟨⟨hx, hb, hml, hown, hts⟩, hKK⟩ := id hC
  unfold f_X14_openOnes_39 at h
  refine lv_iadd hx hb dX14_openOnes_39 ?_
  refine lv_topi (fun y1 ey1 => ?_)
  have h := mlet_at ey1 h
  refine lv_istore_n (lv' := [(1, .int y1), (0, va_rf (some a0)), (2, .int x2)]) hx hb dX14_openOnes_40 rfl hl (by decide) rfl (fun ls hl => ?_)
  obtain ⟨y2, ey2⟩ : ∃ z : Int32, z = x2 + 1 := ⟨_, rfl⟩
  have h := mlet_at ey2 h
  refine lv_iinc (v := y2) (lv' := [(2, .int y2), (1, .int y1), (0, va_rf (some a0))]) hx hb dX14_openOnes_41 hl (k := 2) rfl (by rw [ey2]; rfl) (by decide) rfl (fun ls hl => ?_)
  refine lv_goto (tgt := 4) hx hb dX14_openOnes_44 (by decide) ?_
  exact hk4 u y1 y2 h _ _ hP hS _ (lv_sub hl [2, 1, 0] rfl)
def f_X14_openOnes_4 (N b : Nat) (g : uEnv) (a0 : Nat) : Nat → UH → Int32 → Int32 → Option (Int32 × UH)
  | 0, _, _, _ => none
  | n + 1, u, x1, x2 =>
    (uGR u a0 12 6).bind fun o1 =>
    (o1).bind fun a2 =>
    if uIs u a2 18 = true then
    ucall (f_J2_size N b g u a2) fun r6 u4 =>
    if r6 ≤ x2 then
    some (x1, u4)
    else
    (uGR u4 a0 12 6).bind fun o8 =>
    (o8).bind fun a9 =>
    if uIs u4 a9 18 = true then
    ucall (f_J2_get N b g u4 a9 x2) fun o13 u11 =>
    (o13).bind fun a14 =>
    if uIs u11 a14 13 = true then
    (uGI u11 a14 13 2).bind fun y16 =>
    if y16 = (-1) then
    f_X14_openOnes_39 N b g a0 (f_X14_openOnes_4 N b g a0 n) u11 x2 1 x1
    else
    f_X14_openOnes_39 N b g a0 (f_X14_openOnes_4 N b g a0 n) u11 x2 0 x1
    else none
    else none
    else none
set_option maxHeartbeats 4000000 in
set_option maxRecDepth 100000 in
theorem zz_X14_openOnes_4 {G : uG} {a0 : Nat} {uf : UH} {r : Int32} (N : Nat) : ∀ (n : Nat) (u : UH) (x1 : Int32) (x2 : Int32), f_X14_openOnes_4 N (ub G) (ug G) a0 n u x1 x2 = some (r, uf) → uf.1 = u.1 ∧ uf.2.1 = u.2.1 := by
  intro n
  induction n with
  | zero =>
    intro u x1 x2 h
    cases h
  | succ n ih =>
    intro u x1 x2 h
    unfold f_X14_openOnes_4 at h
    obtain ⟨o1, ho1, h⟩ := mbind_n h
    obtain ⟨a2, ha2, hha2⟩ := mbind_n h
    subst ha2
    have h := hha2
    obtain ⟨c3, h⟩ := mif_n h
    obtain ⟨r6, u4, c5, h⟩ := ucall_n h
    have zu4 := zz_J2_size N (ub G) (ug G) u a2 r6 u4 c5
    by_cases c7 : r6 ≤ x2
    · have h := mif_t c7 h
      obtain ⟨hr1, hr2⟩ := uret_n h
      subst hr2
      exact ⟨by omega, by omega⟩
    · have h := mif_f c7 h
      obtain ⟨o8, ho8, h⟩ := mbind_n h
      obtain ⟨a9, ha9, hha9⟩ := mbind_n h
      subst ha9
      have h := hha9
      obtain ⟨c10, h⟩ := mif_n h
      obtain ⟨o13, u11, c12, h⟩ := ucall_n h
      have zu11 := zz_J2_get N (ub G) (ug G) u4 a9 x2 o13 u11 c12
      obtain ⟨a14, ha14, hha14⟩ := mbind_n h
      subst ha14
      have h := hha14
      obtain ⟨c15, h⟩ := mif_n h
      obtain ⟨y16, hy16, h⟩ := mbind_n h
      by_cases c17 : y16 = (-1)
      · have h := mif_t c17 h
        have hq := zz_X14_openOnes_39 (G := G) (a0 := a0) N (f_X14_openOnes_4 N (ub G) (ug G) a0 n) ih u11 x2 1 x1 h
        exact ⟨by omega, by omega⟩
      · have h := mif_f c17 h
        have hq := zz_X14_openOnes_39 (G := G) (a0 := a0) N (f_X14_openOnes_4 N (ub G) (ug G) a0 n) ih u11 x2 0 x1 h
        exact ⟨by omega, by omega⟩
set_option maxHeartbeats 4000000 in
set_option maxRecDepth 100000 in
theorem w_X14_openOnes_4 {p : Program} {l : Launch} {e : Env} {R : Room} {s : State} {m : MethodId} {args : Array Value} {below : List Frame} {meth : Method} {c : Code} {G : uG} {a0 : Nat} {uf : UH} {r : Int32} (hC : uC p s m args meth c G RX14 cX14_openOnes 3 (some .int)) (hR : 3 ≤ R.frames ∧ 64 ≤ R.locals) (N : Nat) : ∀ (n : Nat) (u : UH) (x1 : Int32) (x2 : Int32), f_X14_openOnes_4 N (ub G) (ug G) a0 n u x1 x2 = some (r, uf) → ∀ (H : Heap) (locs : List Loc), uP G u H → va_S (uA G) s.heap H locs → ∀ ls : Array Slot, lv_has ls 3 [(0, va_rf (some a0)), (1, .int x1), (2, .int x2)] → W p l e R s m args below meth c H locs 0 0 (MQ below (uQi G r uf) args s 0 0 (uA G)) (F0 m 4 ls []) := by
  obtain ⟨⟨hx, hb, hml, hown, hts⟩, hKK⟩ := id hC
  intro n
  induction n with
  | zero =>
    intro u x1 x2 h
    cases h
  | succ n ih =>
    intro u x1 x2 h H locs hP hS ls hl
    unfold f_X14_openOnes_4 at h
    refine lv_iload_n hx hb dX14_openOnes_4 rfl (lv_at hl 2 rfl) ?_
    refine u_aload_n (r := some a0) hx hb dX14_openOnes_5 rfl (lv_at hl 0 rfl) ?_
    obtain ⟨o1, ho1, h⟩ := mbind_n h
    refine u_get hC hP (uGR_n ho1) rfl in_X14 (by decide) q1148 (fun _ h => h) dX14_openOnes_6 ?_
    obtain ⟨a2, ha2, hha2⟩ := mbind_n h
    subst ha2
    have h := hha2
    obtain ⟨c3, h⟩ := mif_n h
    obtain ⟨r6, u4, c5, h⟩ := ucall_n h
    have zu4 := zz_J2_size N (ub G) (ug G) u a2 r6 u4 c5
    refine u_calli (va_runV (As := []) (rest := [.int x2]) hC.1 (met_J2_size l N G u a2 r6 u4 c5) (cwV 0 hts (lw_V q1455 q894 q895 q102 q896) rfl rfl rfl (by decide +kernel) ⟨Nat.le_trans (Nat.le_of_ble_eq_true rfl) hR.1, Nat.le_trans (Nat.le_of_ble_eq_true rfl) hR.2⟩) ⟨uPc_blind, u_rcv hC hP c3 rfl, fun U hU hW => u_pre hC hP hS hU hW⟩ rfl rfl hl.1 rfl (lv_room (Nat.le_of_ble_eq_true rfl)) dX14_openOnes_9 ⟨Nat.zero_le _, Nat.zero_le _⟩) hS (fun H locs hP hS => ?_)
    refine lv_icmp_ge (tgt := 47) hx hb dX14_openOnes_12 (by decide) (fun c7 => ?_) (fun c7 => ?_)
    · have h := mif_t c7 h
      refine lv_iload_n hx hb dX14_openOnes_47 rfl (lv_at hl 1 rfl) ?_
      obtain ⟨hr1, hr2⟩ := uret_n h
      subst hr1
      subst hr2
      exact u_iret hC hP hS dX14_openOnes_48
    · have h := mif_f c7 h
      refine lv_iload_n hx hb dX14_openOnes_15 rfl (lv_at hl 1 rfl) ?_
      refine u_aload_n (r := some a0) hx hb dX14_openOnes_16 rfl (lv_at hl 0 rfl) ?_
      obtain ⟨o8, ho8, h⟩ := mbind_n h
      refine u_get hC hP (uGR_n ho8) rfl in_X14 (by decide) q1148 (fun _ h => h) dX14_openOnes_17 ?_
      refine lv_iload_n hx hb dX14_openOnes_20 rfl (lv_at hl 2 rfl) ?_
      obtain ⟨a9, ha9, hha9⟩ := mbind_n h
      subst ha9
      have h := hha9
      obtain ⟨c10, h⟩ := mif_n h
      obtain ⟨o13, u11, c12, h⟩ := ucall_n h
      have zu11 := zz_J2_get N (ub G) (ug G) u4 a9 x2 o13 u11 c12
      refine u_callr (va_runV (As := [.int x2]) (rest := [.int x1]) hC.1 (met_J2_get l N G u4 a9 x2 o13 u11 c12) (cwV 1 hts (lw_V q1272 q898 q899 q102 q900) rfl rfl rfl (by decide +kernel) ⟨Nat.le_trans (Nat.le_of_ble_eq_true rfl) hR.1, Nat.le_trans (Nat.le_of_ble_eq_true rfl) hR.2⟩) ⟨uPc_blind, u_rcv hC hP c10 rfl, fun U hU hW => u_pre hC hP hS hU hW⟩ rfl rfl hl.1 rfl (lv_room (Nat.le_of_ble_eq_true rfl)) dX14_openOnes_21 ⟨Nat.zero_le _, Nat.zero_le _⟩) hS (fun H locs hP hS => ?_)
      obtain ⟨a14, ha14, hha14⟩ := mbind_n h
      subst ha14
      have h := hha14
      obtain ⟨c15, h⟩ := mif_n h
      refine u_castS hC hP c15 rfl q1132 dX14_openOnes_24 ?_
      obtain ⟨y16, hy16, h⟩ := mbind_n h
      refine u_getN hC hP (uGI_n hy16) rfl in_X15 (by decide) q1221 (fun _ h => h) dX14_openOnes_27 ?_
      refine lv_iconst (v := (-1)) hx hb dX14_openOnes_30 (by decide) ?_
      refine lv_icmp_ne (tgt := 38) hx hb dX14_openOnes_31 (by decide) (fun c17 => ?_) (fun c17 => ?_)
      · have h := mif_f c17 h
        refine lv_iconst (v := 0) hx hb dX14_openOnes_38 (by decide) ?_
        exact w_X14_openOnes_39 hC hR N (f_X14_openOnes_4 N (ub G) (ug G) a0 n) ih u11 x2 0 x1 h hP hS (lv_sub hl [0, 2] rfl)
      · have h := mif_t c17 h
        refine lv_iconst (v := 1) hx hb dX14_openOnes_34 (by decide) ?_
        refine lv_goto (tgt := 39) hx hb dX14_openOnes_35 (by decide) ?_
        exact w_X14_openOnes_39 hC hR N (f_X14_openOnes_4 N (ub G) (ug G) a0 n) ih u11 x2 1 x1 h hP hS (lv_sub hl [0, 2] rfl)
def f_X14_openOnes (N b : Nat) (g : uEnv) (u : UH) (a0 : Nat) : Option (Int32 × UH) :=
    f_X14_openOnes_4 N b g a0 N u 0 0
set_option maxHeartbeats 4000000 in
set_option maxRecDepth 100000 in
theorem zz_X14_openOnes_0 {G : uG} {a0 : Nat} {uf : UH} {r : Int32} (N : Nat) (u : UH) (h : f_X14_openOnes N (ub G) (ug G) u a0 = some (r, uf)) : uf.1 = u.1 ∧ uf.2.1 = u.2.1 := by
  unfold f_X14_openOnes at h
  have hq := zz_X14_openOnes_4 (G := G) (a0 := a0) N N u 0 0 h
  exact ⟨by omega, by omega⟩
set_option maxHeartbeats 4000000 in
set_option maxRecDepth 100000 in
theorem w_X14_openOnes_0 {p : Program} {l : Launch} {e : Env} {R : Room} {s : State} {m : MethodId} {args : Array Value} {below : List Frame} {meth : Method} {c : Code} {G : uG} {a0 : Nat} {uf : UH} {r : Int32} (hC : uC p s m args meth c G RX14 cX14_openOnes 3 (some .int)) (hR : 3 ≤ R.frames ∧ 64 ≤ R.locals) (N : Nat) (u : UH) (h : f_X14_openOnes N (ub G) (ug G) u a0 = some (r, uf)) {H : Heap} {locs : List Loc} (hP : uP G u H) (hS : va_S (uA G) s.heap H locs) {ls : Array Slot} (hl : lv_has ls 3 [(0, va_rf (some a0))]) : W p l e R s m args below meth c H locs 0 0 (MQ below (uQi G r uf) args s 0 0 (uA G)) (F0 m 0 ls []) := by
  obtain ⟨⟨hx, hb, hml, hown, hts⟩, hKK⟩ := id hC
  unfold f_X14_openOnes at h
  refine lv_iconst (v := 0) hx hb dX14_openOnes_0 (by decide) ?_
  refine lv_istore_n (lv' := [(1, .int 0), (0, va_rf (some a0))]) hx hb dX14_openOnes_1 rfl hl (by decide) rfl (fun ls hl => ?_)
  refine lv_iconst (v := 0) hx hb dX14_openOnes_2 (by decide) ?_
  refine lv_istore_n (lv' := [(2, .int 0), (1, .int 0), (0, va_rf (some a0))]) hx hb dX14_openOnes_3 rfl hl (by decide) rfl (fun ls hl => ?_)
  exact w_X14_openOnes_4 hC hR N N u 0 0 h _ _ hP hS _ (lv_sub hl [2, 1, 0] rfl)
theorem zz_X14_openOnes (N b : Nat) (g : uEnv) (u : UH) (a0 : Nat) (r : Int32) (uf : UH) (h : f_X14_openOnes N b g u a0 = some (r, uf)) : uf.1 = u.1 ∧ uf.2.1 = u.2.1 :=
  zz_X14_openOnes_0 (G := ((fun _ => 0, fun _ _ => 0), fun _ => 0, b, g)) (a0 := a0) N u h
theorem met_X14_openOnes (l : Launch) (N : Nat) (G : uG) (u : UH) (a0 : Nat) (r : Int32) (uf : UH) (h : f_X14_openOnes N (ub G) (ug G) u a0 = some (r, uf)) : Met l yX14_openOnes (ws_ yX14_openOnes cX14_openOnes 3 (some .int)) ({ frames := 3, cells := 0, slots := 0, locals := 64 }) (uPc G u [.ref a0]) (uQi G r uf) 0 0 (uA G) := by
  exact u_met (own := RX14) (by decide +kernel) rfl (Nat.le_of_ble_eq_true rfl) (fun hC hn hsz ls hl hP => w_X14_openOnes_0 hC ⟨Nat.le_refl _, Nat.le_refl _⟩ N u h hP va_S.rf hl)
def f_X1_count_93 (N b : Nat) (g : uEnv) (a0 : Nat) (u : UH) (s0 : Int32) : Option (Int32 × UH) :=
    some (s0, u)
set_option maxHeartbeats 4000000 in
set_option maxRecDepth 100000 in
theorem zz_X1_count_93 {G : uG} {a0 : Nat} {uf : UH} {r : Int32} (N : Nat) (u : UH) (s0 : Int32) (h : f_X1_count_93 N (ub G) (ug G) a0 u s0 = some (r, uf)) : uf.1 = u.1 ∧ uf.2.1 = u.2.1 := by
  unfold f_X1_count_93 at h
  obtain ⟨hr1, hr2⟩ := uret_n h
  subst hr2
  exact ⟨by omega, by omega⟩
set_option maxHeartbeats 4000000 in
set_option maxRecDepth 100000 in
theorem w_X1_count_93 {p : Program} {l : Launch} {e : Env} {R : Room} {s : State} {m : MethodId} {args : Array Value} {below : List Frame} {meth : Method} {c : Code} {G : uG} {a0 : Nat} {uf : UH} {r : Int32} (hC : uC p s m args meth c G RX1 cX1_count 2 (some .int)) (hR : 4 ≤ R.frames ∧ 86 ≤ R.locals) (N : Nat) (u : UH) (s0 : Int32) (h : f_X1_count_93 N (ub G) (ug G) a0 u s0 = some (r, uf)) {H : Heap} {locs : List Loc} (hP : uP G u H) (hS : va_S (uA G) s.heap H locs) {ls : Array Slot} (hl : lv_has ls 2 []) : W p l e R s m args below meth c H locs 0 0 (MQ below (uQi G r uf) args s 0 0 (uA G)) (F0 m 93 ls [.int s0]) := by
  obtain ⟨⟨hx, hb, hml, hown, hts⟩, hKK⟩ := id hC
  unfold f_X1_count_93 at h
  obtain ⟨hr1, hr2⟩ := uret_n h
  subst hr1
  subst hr2
  exact u_iret hC hP hS dX1_count_93
def f_X1_count_115 (N b : Nat) (g : uEnv) (a0 : Nat) (u : UH) (s0 : Int32) : Option (Int32 × UH) :=
    some (s0, u)
set_option maxHeartbeats 4000000 in
set_option maxRecDepth 100000 in
theorem zz_X1_count_115 {G : uG} {a0 : Nat} {uf : UH} {r : Int32} (N : Nat) (u : UH) (s0 : Int32) (h : f_X1_count_115 N (ub G) (ug G) a0 u s0 = some (r, uf)) : uf.1 = u.1 ∧ uf.2.1 = u.2.1 := by
  unfold f_X1_count_115 at h
  obtain ⟨hr1, hr2⟩ := uret_n h
  subst hr2
  exact ⟨by omega, by omega⟩
set_option maxHeartbeats 4000000 in
set_option maxRecDepth 100000 in
theorem w_X1_count_115 {p : Program} {l : Launch} {e : Env} {R : Room} {s : State} {m : MethodId} {args : Array Value} {below : List Frame} {meth : Method} {c : Code} {G : uG} {a0 : Nat} {uf : UH} {r : Int32} (hC : uC p s m args meth c G RX1 cX1_count 2 (some .int)) (hR : 4 ≤ R.frames ∧ 86 ≤ R.locals) (N : Nat) (u : UH) (s0 : Int32) (h : f_X1_count_115 N (ub G) (ug G) a0 u s0 = some (r, uf)) {H : Heap} {locs : List Loc} (hP : uP G u H) (hS : va_S (uA G) s.heap H locs) {ls : Array Slot} (hl : lv_has ls 2 []) : W p l e R s m args below meth c H locs 0 0 (MQ below (uQi G r uf) args s 0 0 (uA G)) (F0 m 115 ls [.int s0]) := by
  obtain ⟨⟨hx, hb, hml, hown, hts⟩, hKK⟩ := id hC
  unfold f_X1_count_115 at h
  obtain ⟨hr1, hr2⟩ := uret_n h
  subst hr1
  subst hr2
  exact u_iret hC hP hS dX1_count_115
def f_X1_count_134 (N b : Nat) (g : uEnv) (a0 : Nat) (u : UH) (s0 : Int32) : Option (Int32 × UH) :=
    some (s0, u)
set_option maxHeartbeats 4000000 in
set_option maxRecDepth 100000 in
theorem zz_X1_count_134 {G : uG} {a0 : Nat} {uf : UH} {r : Int32} (N : Nat) (u : UH) (s0 : Int32) (h : f_X1_count_134 N (ub G) (ug G) a0 u s0 = some (r, uf)) : uf.1 = u.1 ∧ uf.2.1 = u.2.1 := by
  unfold f_X1_count_134 at h
  obtain ⟨hr1, hr2⟩ := uret_n h
  subst hr2
  exact ⟨by omega, by omega⟩
set_option maxHeartbeats 4000000 in
set_option maxRecDepth 100000 in
theorem w_X1_count_134 {p : Program} {l : Launch} {e : Env} {R : Room} {s : State} {m : MethodId} {args : Array Value} {below : List Frame} {meth : Method} {c : Code} {G : uG} {a0 : Nat} {uf : UH} {r : Int32} (hC : uC p s m args meth c G RX1 cX1_count 2 (some .int)) (hR : 4 ≤ R.frames ∧ 86 ≤ R.locals) (N : Nat) (u : UH) (s0 : Int32) (h : f_X1_count_134 N (ub G) (ug G) a0 u s0 = some (r, uf)) {H : Heap} {locs : List Loc} (hP : uP G u H) (hS : va_S (uA G) s.heap H locs) {ls : Array Slot} (hl : lv_has ls 2 []) : W p l e R s m args below meth c H locs 0 0 (MQ below (uQi G r uf) args s 0 0 (uA G)) (F0 m 134 ls [.int s0]) := by
  obtain ⟨⟨hx, hb, hml, hown, hts⟩, hKK⟩ := id hC
  unfold f_X1_count_134 at h
  obtain ⟨hr1, hr2⟩ := uret_n h
  subst hr1
  subst hr2
  exact u_iret hC hP hS dX1_count_134
def f_X1_count_153 (N b : Nat) (g : uEnv) (a0 : Nat) (u : UH) (s0 : Int32) : Option (Int32 × UH) :=
    some (s0, u)
set_option maxHeartbeats 4000000 in
set_option maxRecDepth 100000 in
theorem zz_X1_count_153 {G : uG} {a0 : Nat} {uf : UH} {r : Int32} (N : Nat) (u : UH) (s0 : Int32) (h : f_X1_count_153 N (ub G) (ug G) a0 u s0 = some (r, uf)) : uf.1 = u.1 ∧ uf.2.1 = u.2.1 := by
  unfold f_X1_count_153 at h
  obtain ⟨hr1, hr2⟩ := uret_n h
  subst hr2
  exact ⟨by omega, by omega⟩
set_option maxHeartbeats 4000000 in
set_option maxRecDepth 100000 in
theorem w_X1_count_153 {p : Program} {l : Launch} {e : Env} {R : Room} {s : State} {m : MethodId} {args : Array Value} {below : List Frame} {meth : Method} {c : Code} {G : uG} {a0 : Nat} {uf : UH} {r : Int32} (hC : uC p s m args meth c G RX1 cX1_count 2 (some .int)) (hR : 4 ≤ R.frames ∧ 86 ≤ R.locals) (N : Nat) (u : UH) (s0 : Int32) (h : f_X1_count_153 N (ub G) (ug G) a0 u s0 = some (r, uf)) {H : Heap} {locs : List Loc} (hP : uP G u H) (hS : va_S (uA G) s.heap H locs) {ls : Array Slot} (hl : lv_has ls 2 []) : W p l e R s m args below meth c H locs 0 0 (MQ below (uQi G r uf) args s 0 0 (uA G)) (F0 m 153 ls [.int s0]) := by
  obtain ⟨⟨hx, hb, hml, hown, hts⟩, hKK⟩ := id hC
  unfold f_X1_count_153 at h
  obtain ⟨hr1, hr2⟩ := uret_n h
  subst hr1
  subst hr2
  exact u_iret hC hP hS dX1_count_153
def f_X1_count_172 (N b : Nat) (g : uEnv) (a0 : Nat) (u : UH) (s0 : Int32) : Option (Int32 × UH) :=
    some (s0, u)
set_option maxHeartbeats 4000000 in
set_option maxRecDepth 100000 in
theorem zz_X1_count_172 {G : uG} {a0 : Nat} {uf : UH} {r : Int32} (N : Nat) (u : UH) (s0 : Int32) (h : f_X1_count_172 N (ub G) (ug G) a0 u s0 = some (r, uf)) : uf.1 = u.1 ∧ uf.2.1 = u.2.1 := by
  unfold f_X1_count_172 at h
  obtain ⟨hr1, hr2⟩ := uret_n h
  subst hr2
  exact ⟨by omega, by omega⟩
set_option maxHeartbeats 4000000 in
set_option maxRecDepth 100000 in
theorem w_X1_count_172 {p : Program} {l : Launch} {e : Env} {R : Room} {s : State} {m : MethodId} {args : Array Value} {below : List Frame} {meth : Method} {c : Code} {G : uG} {a0 : Nat} {uf : UH} {r : Int32} (hC : uC p s m args meth c G RX1 cX1_count 2 (some .int)) (hR : 4 ≤ R.frames ∧ 86 ≤ R.locals) (N : Nat) (u : UH) (s0 : Int32) (h : f_X1_count_172 N (ub G) (ug G) a0 u s0 = some (r, uf)) {H : Heap} {locs : List Loc} (hP : uP G u H) (hS : va_S (uA G) s.heap H locs) {ls : Array Slot} (hl : lv_has ls 2 []) : W p l e R s m args below meth c H locs 0 0 (MQ below (uQi G r uf) args s 0 0 (uA G)) (F0 m 172 ls [.int s0]) := by
  obtain ⟨⟨hx, hb, hml, hown, hts⟩, hKK⟩ := id hC
  unfold f_X1_count_172 at h
  obtain ⟨hr1, hr2⟩ := uret_n h
  subst hr1
  subst hr2
  exact u_iret hC hP hS dX1_count_172
def f_X1_count_191 (N b : Nat) (g : uEnv) (a0 : Nat) (u : UH) (s0 : Int32) : Option (Int32 × UH) :=
    some (s0, u)
set_option maxHeartbeats 4000000 in
set_option maxRecDepth 100000 in
theorem zz_X1_count_191 {G : uG} {a0 : Nat} {uf : UH} {r : Int32} (N : Nat) (u : UH) (s0 : Int32) (h : f_X1_count_191 N (ub G) (ug G) a0 u s0 = some (r, uf)) : uf.1 = u.1 ∧ uf.2.1 = u.2.1 := by
  unfold f_X1_count_191 at h
  obtain ⟨hr1, hr2⟩ := uret_n h
  subst hr2
  exact ⟨by omega, by omega⟩
set_option maxHeartbeats 4000000 in
set_option maxRecDepth 100000 in
theorem w_X1_count_191 {p : Program} {l : Launch} {e : Env} {R : Room} {s : State} {m : MethodId} {args : Array Value} {below : List Frame} {meth : Method} {c : Code} {G : uG} {a0 : Nat} {uf : UH} {r : Int32} (hC : uC p s m args meth c G RX1 cX1_count 2 (some .int)) (hR : 4 ≤ R.frames ∧ 86 ≤ R.locals) (N : Nat) (u : UH) (s0 : Int32) (h : f_X1_count_191 N (ub G) (ug G) a0 u s0 = some (r, uf)) {H : Heap} {locs : List Loc} (hP : uP G u H) (hS : va_S (uA G) s.heap H locs) {ls : Array Slot} (hl : lv_has ls 2 []) : W p l e R s m args below meth c H locs 0 0 (MQ below (uQi G r uf) args s 0 0 (uA G)) (F0 m 191 ls [.int s0]) := by
  obtain ⟨⟨hx, hb, hml, hown, hts⟩, hKK⟩ := id hC
  unfold f_X1_count_191 at h
  obtain ⟨hr1, hr2⟩ := uret_n h
  subst hr1
  subst hr2
  exact u_iret hC hP hS dX1_count_191
def f_X1_count_210 (N b : Nat) (g : uEnv) (a0 : Nat) (u : UH) (s0 : Int32) : Option (Int32 × UH) :=
    some (s0, u)
set_option maxHeartbeats 4000000 in
set_option maxRecDepth 100000 in
theorem zz_X1_count_210 {G : uG} {a0 : Nat} {uf : UH} {r : Int32} (N : Nat) (u : UH) (s0 : Int32) (h : f_X1_count_210 N (ub G) (ug G) a0 u s0 = some (r, uf)) : uf.1 = u.1 ∧ uf.2.1 = u.2.1 := by
  unfold f_X1_count_210 at h
  obtain ⟨hr1, hr2⟩ := uret_n h
  subst hr2
  exact ⟨by omega, by omega⟩
set_option maxHeartbeats 4000000 in
set_option maxRecDepth 100000 in
theorem w_X1_count_210 {p : Program} {l : Launch} {e : Env} {R : Room} {s : State} {m : MethodId} {args : Array Value} {below : List Frame} {meth : Method} {c : Code} {G : uG} {a0 : Nat} {uf : UH} {r : Int32} (hC : uC p s m args meth c G RX1 cX1_count 2 (some .int)) (hR : 4 ≤ R.frames ∧ 86 ≤ R.locals) (N : Nat) (u : UH) (s0 : Int32) (h : f_X1_count_210 N (ub G) (ug G) a0 u s0 = some (r, uf)) {H : Heap} {locs : List Loc} (hP : uP G u H) (hS : va_S (uA G) s.heap H locs) {ls : Array Slot} (hl : lv_has ls 2 []) : W p l e R s m args below meth c H locs 0 0 (MQ below (uQi G r uf) args s 0 0 (uA G)) (F0 m 210 ls [.int s0]) := by
  obtain ⟨⟨hx, hb, hml, hown, hts⟩, hKK⟩ := id hC
  unfold f_X1_count_210 at h
  obtain ⟨hr1, hr2⟩ := uret_n h
  subst hr1
  subst hr2
  exact u_iret hC hP hS dX1_count_210
def f_X1_count_234 (N b : Nat) (g : uEnv) (a0 : Nat) (u : UH) (s0 : Int32) : Option (Int32 × UH) :=
    some (s0, u)
set_option maxHeartbeats 4000000 in
set_option maxRecDepth 100000 in
theorem zz_X1_count_234 {G : uG} {a0 : Nat} {uf : UH} {r : Int32} (N : Nat) (u : UH) (s0 : Int32) (h : f_X1_count_234 N (ub G) (ug G) a0 u s0 = some (r, uf)) : uf.1 = u.1 ∧ uf.2.1 = u.2.1 := by
  unfold f_X1_count_234 at h
  obtain ⟨hr1, hr2⟩ := uret_n h
  subst hr2
  exact ⟨by omega, by omega⟩
set_option maxHeartbeats 4000000 in
set_option maxRecDepth 100000 in
theorem w_X1_count_234 {p : Program} {l : Launch} {e : Env} {R : Room} {s : State} {m : MethodId} {args : Array Value} {below : List Frame} {meth : Method} {c : Code} {G : uG} {a0 : Nat} {uf : UH} {r : Int32} (hC : uC p s m args meth c G RX1 cX1_count 2 (some .int)) (hR : 4 ≤ R.frames ∧ 86 ≤ R.locals) (N : Nat) (u : UH) (s0 : Int32) (h : f_X1_count_234 N (ub G) (ug G) a0 u s0 = some (r, uf)) {H : Heap} {locs : List Loc} (hP : uP G u H) (hS : va_S (uA G) s.heap H locs) {ls : Array Slot} (hl : lv_has ls 2 []) : W p l e R s m args below meth c H locs 0 0 (MQ below (uQi G r uf) args s 0 0 (uA G)) (F0 m 234 ls [.int s0]) := by
  obtain ⟨⟨hx, hb, hml, hown, hts⟩, hKK⟩ := id hC
  unfold f_X1_count_234 at h
  obtain ⟨hr1, hr2⟩ := uret_n h
  subst hr1
  subst hr2
  exact u_iret hC hP hS dX1_count_234
def f_X1_count_256 (N b : Nat) (g : uEnv) (a0 : Nat) (u : UH) (s0 : Int32) : Option (Int32 × UH) :=
    some (s0, u)
set_option maxHeartbeats 4000000 in
set_option maxRecDepth 100000 in
theorem zz_X1_count_256 {G : uG} {a0 : Nat} {uf : UH} {r : Int32} (N : Nat) (u : UH) (s0 : Int32) (h : f_X1_count_256 N (ub G) (ug G) a0 u s0 = some (r, uf)) : uf.1 = u.1 ∧ uf.2.1 = u.2.1 := by
  unfold f_X1_count_256 at h
  obtain ⟨hr1, hr2⟩ := uret_n h
  subst hr2
  exact ⟨by omega, by omega⟩
set_option maxHeartbeats 4000000 in
set_option maxRecDepth 100000 in
theorem w_X1_count_256 {p : Program} {l : Launch} {e : Env} {R : Room} {s : State} {m : MethodId} {args : Array Value} {below : List Frame} {meth : Method} {c : Code} {G : uG} {a0 : Nat} {uf : UH} {r : Int32} (hC : uC p s m args meth c G RX1 cX1_count 2 (some .int)) (hR : 4 ≤ R.frames ∧ 86 ≤ R.locals) (N : Nat) (u : UH) (s0 : Int32) (h : f_X1_count_256 N (ub G) (ug G) a0 u s0 = some (r, uf)) {H : Heap} {locs : List Loc} (hP : uP G u H) (hS : va_S (uA G) s.heap H locs) {ls : Array Slot} (hl : lv_has ls 2 []) : W p l e R s m args below meth c H locs 0 0 (MQ below (uQi G r uf) args s 0 0 (uA G)) (F0 m 256 ls [.int s0]) := by
  obtain ⟨⟨hx, hb, hml, hown, hts⟩, hKK⟩ := id hC
  unfold f_X1_count_256 at h
  obtain ⟨hr1, hr2⟩ := uret_n h
  subst hr1
  subst hr2
  exact u_iret hC hP hS dX1_count_256
def f_X1_count_275 (N b : Nat) (g : uEnv) (a0 : Nat) (u : UH) (s0 : Int32) : Option (Int32 × UH) :=
    some (s0, u)
set_option maxHeartbeats 4000000 in
set_option maxRecDepth 100000 in
theorem zz_X1_count_275 {G : uG} {a0 : Nat} {uf : UH} {r : Int32} (N : Nat) (u : UH) (s0 : Int32) (h : f_X1_count_275 N (ub G) (ug G) a0 u s0 = some (r, uf)) : uf.1 = u.1 ∧ uf.2.1 = u.2.1 := by
  unfold f_X1_count_275 at h
  obtain ⟨hr1, hr2⟩ := uret_n h
  subst hr2
  exact ⟨by omega, by omega⟩
set_option maxHeartbeats 4000000 in
set_option maxRecDepth 100000 in
theorem w_X1_count_275 {p : Program} {l : Launch} {e : Env} {R : Room} {s : State} {m : MethodId} {args : Array Value} {below : List Frame} {meth : Method} {c : Code} {G : uG} {a0 : Nat} {uf : UH} {r : Int32} (hC : uC p s m args meth c G RX1 cX1_count 2 (some .int)) (hR : 4 ≤ R.frames ∧ 86 ≤ R.locals) (N : Nat) (u : UH) (s0 : Int32) (h : f_X1_count_275 N (ub G) (ug G) a0 u s0 = some (r, uf)) {H : Heap} {locs : List Loc} (hP : uP G u H) (hS : va_S (uA G) s.heap H locs) {ls : Array Slot} (hl : lv_has ls 2 []) : W p l e R s m args below meth c H locs 0 0 (MQ below (uQi G r uf) args s 0 0 (uA G)) (F0 m 275 ls [.int s0]) := by
  obtain ⟨⟨hx, hb, hml, hown, hts⟩, hKK⟩ := id hC
  unfold f_X1_count_275 at h
  obtain ⟨hr1, hr2⟩ := uret_n h
  subst hr1
  subst hr2
  exact u_iret hC hP hS dX1_count_275
def f_X1_count (N b : Nat) (g : uEnv) (u : UH) (a0 : Nat) (x1 : Int32) : Option (Int32 × UH) :=
    if x1 = 0 then
    (uGR u a0 0 2).bind fun o2 =>
    ucase o2 (
    f_X1_count_93 N b g a0 u 0) fun a3 =>
    (uGR u a0 0 2).bind fun o4 =>
    (o4).bind fun a5 =>
    (uGR u a5 3 0).bind fun o6 =>
    (o6).bind fun a7 =>
    if uIs u a7 18 = true then
    ucall (f_J2_size N b g u a7) fun r11 u9 =>
    f_X1_count_93 N b g a0 u9 r11
    else none
    else
    if x1 = 1 then
    (uGR u a0 0 2).bind fun o13 =>
    ucase o13 (
    f_X1_count_115 N b g a0 u 0) fun a14 =>
    (uGR u a0 0 2).bind fun o15 =>
    (o15).bind fun a16 =>
    (uGR u a16 3 1).bind fun o17 =>
    (o17).bind fun a18 =>
    if uIs u a18 18 = true then
    ucall (f_J2_size N b g u a18) fun r22 u20 =>
    f_X1_count_115 N b g a0 u20 r22
    else none
    else
    if x1 = 2 then
    (uGR u a0 0 2).bind fun o24 =>
    ucase o24 (
    f_X1_count_134 N b g a0 u 0) fun a25 =>
    (uGR u a0 0 2).bind fun o26 =>
    (o26).bind fun a27 =>
    (uGI u a27 3 3).bind fun y28 =>
    f_X1_count_134 N b g a0 u y28
    else
    if x1 = 3 then
    (uGR u a0 0 2).bind fun o30 =>
    ucase o30 (
    f_X1_count_153 N b g a0 u 0) fun a31 =>
    (uGR u a0 0 2).bind fun o32 =>
    (o32).bind fun a33 =>
    (uGI u a33 3 4).bind fun y34 =>
    f_X1_count_153 N b g a0 u y34
    else
    if x1 = 4 then
    (uGR u a0 0 2).bind fun o36 =>
    ucase o36 (
    f_X1_count_172 N b g a0 u 0) fun a37 =>
    (uGR u a0 0 2).bind fun o38 =>
    (o38).bind fun a39 =>
    (uGI u a39 3 5).bind fun y40 =>
    f_X1_count_172 N b g a0 u y40
    else
    if x1 = 5 then
    (uGR u a0 0 2).bind fun o42 =>
    ucase o42 (
    f_X1_count_191 N b g a0 u 0) fun a43 =>
    (uGR u a0 0 2).bind fun o44 =>
    (o44).bind fun a45 =>
    (uGI u a45 3 6).bind fun y46 =>
    f_X1_count_191 N b g a0 u y46
    else
    if x1 = 6 then
    (uGR u a0 0 2).bind fun o48 =>
    ucase o48 (
    f_X1_count_210 N b g a0 u 0) fun a49 =>
    (uGR u a0 0 2).bind fun o50 =>
    (o50).bind fun a51 =>
    (uGI u a51 3 7).bind fun y52 =>
    f_X1_count_210 N b g a0 u y52
    else
    if x1 = 7 then
    (uGI u a0 0 3).bind fun y54 =>
    some (y54, u)
    else
    if x1 = 8 then
    (uGR u a0 0 7).bind fun o56 =>
    ucase o56 (
    f_X1_count_234 N b g a0 u 0) fun a57 =>
    (uGR u a0 0 7).bind fun o58 =>
    (o58).bind fun a59 =>
    if uIs u a59 12 = true then
    ucall (f_X14_cells N b g u a59) fun r63 u61 =>
    f_X1_count_234 N b g a0 u61 r63
    else none
    else
    if x1 = 9 then
    (uGR u a0 0 7).bind fun o65 =>
    ucase o65 (
    f_X1_count_256 N b g a0 u 0) fun a66 =>
    (uGR u a0 0 7).bind fun o67 =>
    (o67).bind fun a68 =>
    (uGR u a68 12 6).bind fun o69 =>
    (o69).bind fun a70 =>
    if uIs u a70 18 = true then
    ucall (f_J2_size N b g u a70) fun r74 u72 =>
    f_X1_count_256 N b g a0 u72 r74
    else none
    else
    if x1 = 10 then
    (uGR u a0 0 7).bind fun o76 =>
    ucase o76 (
    f_X1_count_275 N b g a0 u 0) fun a77 =>
    (uGR u a0 0 7).bind fun o78 =>
    (o78).bind fun a79 =>
    if uIs u a79 12 = true then
    ucall (f_X14_openOnes N b g u a79) fun r83 u81 =>
    f_X1_count_275 N b g a0 u81 r83
    else none
    else
    if x1 = 11 then
    (uGR u a0 0 10).bind fun o85 =>
    (o85).bind fun a86 =>
    if uIs u a86 18 = true then
    ucall (f_J2_size N b g u a86) fun r90 u88 =>
    some (r90, u88)
    else none
    else
    if x1 = 12 then
    if uIs u a0 0 = true then
    ucall (f_X1_deepest N b g u a0) fun r95 u93 =>
    some (r95, u93)
    else none
    else
    if x1 = 13 then
    (uGI u a0 0 5).bind fun y97 =>
    some (y97, u)
    else
    some ((-1), u)
set_option maxHeartbeats 4000000 in
set_option maxRecDepth 100000 in
theorem zz_X1_count_0 {G : uG} {a0 : Nat} {uf : UH} {r : Int32} (N : Nat) (u : UH) (x1 : Int32) (h : f_X1_count N (ub G) (ug G) u a0 x1 = some (r, uf)) : uf.1 = u.1 ∧ uf.2.1 = u.2.1 := by
  unfold f_X1_count at h
  by_cases c1 : x1 = 0
  · have h := mif_t c1 h
    obtain ⟨o2, ho2, h⟩ := mbind_n h
    rcases o2 with _ | a3
    · have h := ucase_n h
      have hq := zz_X1_count_93 (G := G) (a0 := a0) N u 0 h
      exact ⟨by omega, by omega⟩
    · have h := ucase_s h
      obtain ⟨o4, ho4, h⟩ := mbind_n h
      obtain ⟨a5, ha5, hha5⟩ := mbind_n h
      subst ha5
      have h := hha5
      obtain ⟨o6, ho6, h⟩ := mbind_n h
      obtain ⟨a7, ha7, hha7⟩ := mbind_n h
      subst ha7
      have h := hha7
      obtain ⟨c8, h⟩ := mif_n h
      obtain ⟨r11, u9, c10, h⟩ := ucall_n h
      have zu9 := zz_J2_size N (ub G) (ug G) u a7 r11 u9 c10
      have hq := zz_X1_count_93 (G := G) (a0 := a0) N u9 r11 h
      exact ⟨by omega, by omega⟩
  have h := mif_f c1 h
  by_cases c12 : x1 = 1
  · have h := mif_t c12 h
    obtain ⟨o13, ho13, h⟩ := mbind_n h
    rcases o13 with _ | a14
    · have h := ucase_n h
      have hq := zz_X1_count_115 (G := G) (a0 := a0) N u 0 h
      exact ⟨by omega, by omega⟩
    · have h := ucase_s h
      obtain ⟨o15, ho15, h⟩ := mbind_n h
      obtain ⟨a16, ha16, hha16⟩ := mbind_n h
      subst ha16
      have h := hha16
      obtain ⟨o17, ho17, h⟩ := mbind_n h
      obtain ⟨a18, ha18, hha18⟩ := mbind_n h
      subst ha18
      have h := hha18
      obtain ⟨c19, h⟩ := mif_n h
      obtain ⟨r22, u20, c21, h⟩ := ucall_n h
      have zu20 := zz_J2_size N (ub G) (ug G) u a18 r22 u20 c21
      have hq := zz_X1_count_115 (G := G) (a0 := a0) N u20 r22 h
      exact ⟨by omega, by omega⟩
  have h := mif_f c12 h
  by_cases c23 : x1 = 2
  · have h := mif_t c23 h
    obtain ⟨o24, ho24, h⟩ := mbind_n h
    rcases o24 with _ | a25
    · have h := ucase_n h
      have hq := zz_X1_count_134 (G := G) (a0 := a0) N u 0 h
      exact ⟨by omega, by omega⟩
    · have h := ucase_s h
      obtain ⟨o26, ho26, h⟩ := mbind_n h
      obtain ⟨a27, ha27, hha27⟩ := mbind_n h
      subst ha27
      have h := hha27
      obtain ⟨y28, hy28, h⟩ := mbind_n h
      have hq := zz_X1_count_134 (G := G) (a0 := a0) N u y28 h
      exact ⟨by omega, by omega⟩
  have h := mif_f c23 h
  by_cases c29 : x1 = 3
  · have h := mif_t c29 h
    obtain ⟨o30, ho30, h⟩ := mbind_n h
    rcases o30 with _ | a31
    · have h := ucase_n h
      have hq := zz_X1_count_153 (G := G) (a0 := a0) N u 0 h
      exact ⟨by omega, by omega⟩
    · have h := ucase_s h
      obtain ⟨o32, ho32, h⟩ := mbind_n h
      obtain ⟨a33, ha33, hha33⟩ := mbind_n h
      subst ha33
      have h := hha33
      obtain ⟨y34, hy34, h⟩ := mbind_n h
      have hq := zz_X1_count_153 (G := G) (a0 := a0) N u y34 h
      exact ⟨by omega, by omega⟩
  have h := mif_f c29 h
  by_cases c35 : x1 = 4
  · have h := mif_t c35 h
    obtain ⟨o36, ho36, h⟩ := mbind_n h
    rcases o36 with _ | a37
    · have h := ucase_n h
      have hq := zz_X1_count_172 (G := G) (a0 := a0) N u 0 h
      exact ⟨by omega, by omega⟩
    · have h := ucase_s h
      obtain ⟨o38, ho38, h⟩ := mbind_n h
      obtain ⟨a39, ha39, hha39⟩ := mbind_n h
      subst ha39
      have h := hha39
      obtain ⟨y40, hy40, h⟩ := mbind_n h
      have hq := zz_X1_count_172 (G := G) (a0 := a0) N u y40 h
      exact ⟨by omega, by omega⟩
  have h := mif_f c35 h
  by_cases c41 : x1 = 5
  · have h := mif_t c41 h
    obtain ⟨o42, ho42, h⟩ := mbind_n h
    rcases o42 with _ | a43
    · have h := ucase_n h
      have hq := zz_X1_count_191 (G := G) (a0 := a0) N u 0 h
      exact ⟨by omega, by omega⟩
    · have h := ucase_s h
      obtain ⟨o44, ho44, h⟩ := mbind_n h
      obtain ⟨a45, ha45, hha45⟩ := mbind_n h
      subst ha45
      have h := hha45
      obtain ⟨y46, hy46, h⟩ := mbind_n h
      have hq := zz_X1_count_191 (G := G) (a0 := a0) N u y46 h
      exact ⟨by omega, by omega⟩
  have h := mif_f c41 h
  by_cases c47 : x1 = 6
  · have h := mif_t c47 h
    obtain ⟨o48, ho48, h⟩ := mbind_n h
    rcases o48 with _ | a49
    · have h := ucase_n h
      have hq := zz_X1_count_210 (G := G) (a0 := a0) N u 0 h
      exact ⟨by omega, by omega⟩
    · have h := ucase_s h
      obtain ⟨o50, ho50, h⟩ := mbind_n h
      obtain ⟨a51, ha51, hha51⟩ := mbind_n h
      subst ha51
      have h := hha51
      obtain ⟨y52, hy52, h⟩ := mbind_n h
      have hq := zz_X1_count_210 (G := G) (a0 := a0) N u y52 h
      exact ⟨by omega, by omega⟩
  have h := mif_f c47 h
  by_cases c53 : x1 = 7
  · have h := mif_t c53 h
    obtain ⟨y54, hy54, h⟩ := mbind_n h
    obtain ⟨hr1, hr2⟩ := uret_n h
    subst hr2
    exact ⟨by omega, by omega⟩
  have h := mif_f c53 h
  by_cases c55 : x1 = 8
  · have h := mif_t c55 h
    obtain ⟨o56, ho56, h⟩ := mbind_n h
    rcases o56 with _ | a57
    · have h := ucase_n h
      have hq := zz_X1_count_234 (G := G) (a0 := a0) N u 0 h
      exact ⟨by omega, by omega⟩
    · have h := ucase_s h
      obtain ⟨o58, ho58, h⟩ := mbind_n h
      obtain ⟨a59, ha59, hha59⟩ := mbind_n h
      subst ha59
      have h := hha59
      obtain ⟨c60, h⟩ := mif_n h
      obtain ⟨r63, u61, c62, h⟩ := ucall_n h
      have zu61 := zz_X14_cells N (ub G) (ug G) u a59 r63 u61 c62
      have hq := zz_X1_count_234 (G := G) (a0 := a0) N u61 r63 h
      exact ⟨by omega, by omega⟩
  have h := mif_f c55 h
  by_cases c64 : x1 = 9
  · have h := mif_t c64 h
    obtain ⟨o65, ho65, h⟩ := mbind_n h
    rcases o65 with _ | a66
    · have h := ucase_n h
      have hq := zz_X1_count_256 (G := G) (a0 := a0) N u 0 h
      exact ⟨by omega, by omega⟩
    · have h := ucase_s h
      obtain ⟨o67, ho67, h⟩ := mbind_n h
      obtain ⟨a68, ha68, hha68⟩ := mbind_n h
      subst ha68
      have h := hha68
      obtain ⟨o69, ho69, h⟩ := mbind_n h
      obtain ⟨a70, ha70, hha70⟩ := mbind_n h
      subst ha70
      have h := hha70
      obtain ⟨c71, h⟩ := mif_n h
      obtain ⟨r74, u72, c73, h⟩ := ucall_n h
      have zu72 := zz_J2_size N (ub G) (ug G) u a70 r74 u72 c73
      have hq := zz_X1_count_256 (G := G) (a0 := a0) N u72 r74 h
      exact ⟨by omega, by omega⟩
  have h := mif_f c64 h
  by_cases c75 : x1 = 10
  · have h := mif_t c75 h
    obtain ⟨o76, ho76, h⟩ := mbind_n h
    rcases o76 with _ | a77
    · have h := ucase_n h
      have hq := zz_X1_count_275 (G := G) (a0 := a0) N u 0 h
      exact ⟨by omega, by omega⟩
    · have h := ucase_s h
      obtain ⟨o78, ho78, h⟩ := mbind_n h
      obtain ⟨a79, ha79, hha79⟩ := mbind_n h
      subst ha79
      have h := hha79
      obtain ⟨c80, h⟩ := mif_n h
      obtain ⟨r83, u81, c82, h⟩ := ucall_n h
      have zu81 := zz_X14_openOnes N (ub G) (ug G) u a79 r83 u81 c82
      have hq := zz_X1_count_275 (G := G) (a0 := a0) N u81 r83 h
      exact ⟨by omega, by omega⟩
  have h := mif_f c75 h
  by_cases c84 : x1 = 11
  · have h := mif_t c84 h
    obtain ⟨o85, ho85, h⟩ := mbind_n h
    obtain ⟨a86, ha86, hha86⟩ := mbind_n h
    subst ha86
    have h := hha86
    obtain ⟨c87, h⟩ := mif_n h
    obtain ⟨r90, u88, c89, h⟩ := ucall_n h
    have zu88 := zz_J2_size N (ub G) (ug G) u a86 r90 u88 c89
    obtain ⟨hr1, hr2⟩ := uret_n h
    subst hr2
    exact ⟨by omega, by omega⟩
  have h := mif_f c84 h
  by_cases c91 : x1 = 12
  · have h := mif_t c91 h
    obtain ⟨c92, h⟩ := mif_n h
    obtain ⟨r95, u93, c94, h⟩ := ucall_n h
    have zu93 := zz_X1_deepest N (ub G) (ug G) u a0 r95 u93 c94
    obtain ⟨hr1, hr2⟩ := uret_n h
    subst hr2
    exact ⟨by omega, by omega⟩
  have h := mif_f c91 h
  by_cases c96 : x1 = 13
  · have h := mif_t c96 h
    obtain ⟨y97, hy97, h⟩ := mbind_n h
    obtain ⟨hr1, hr2⟩ := uret_n h
    subst hr2
    exact ⟨by omega, by omega⟩
  have h := mif_f c96 h
  obtain ⟨hr1, hr2⟩ := uret_n h
  subst hr2
  exact ⟨by omega, by omega⟩
set_option maxHeartbeats 4000000 in
set_option maxRecDepth 100000 in
theorem w_X1_count_0 {p : Program} {l : Launch} {e : Env} {R : Room} {s : State} {m : MethodId} {args : Array Value} {below : List Frame} {meth : Method} {c : Code} {G : uG} {a0 : Nat} {uf : UH} {r : Int32} (hC : uC p s m args meth c G RX1 cX1_count 2 (some .int)) (hR : 4 ≤ R.frames ∧ 86 ≤ R.locals) (N : Nat) (u : UH) (x1 : Int32) (h : f_X1_count N (ub G) (ug G) u a0 x1 = some (r, uf)) {H : Heap} {locs : List Loc} (hP : uP G u H) (hS : va_S (uA G) s.heap H locs) {ls : Array Slot} (hl : lv_has ls 2 [(0, va_rf (some a0)), (1, .int x1)]) : W p l e R s m args below meth c H locs 0 0 (MQ below (uQi G r uf) args s 0 0 (uA G)) (F0 m 0 ls []) := by
  obtain ⟨⟨hx, hb, hml, hown, hts⟩, hKK⟩ := id hC
  unfold f_X1_count at h
  refine lv_iload_n hx hb dX1_count_0 rfl (lv_at hl 1 rfl) ?_
  by_cases c1 : x1 = 0
  · have h := mif_t c1 h
    refine lv_tableIn (tgt := 72) hx hb dX1_count_1 (by rw [c1]; decide) (by rw [c1]; decide) (by rw [c1]; rfl) (by decide) ?_
    refine u_aload_n (r := some a0) hx hb dX1_count_72 rfl (lv_at hl 0 rfl) ?_
    obtain ⟨o2, ho2, h⟩ := mbind_n h
    refine u_get hC hP (uGR_n ho2) rfl in_X1 (by decide) q217 (fun _ h => h) dX1_count_73 ?_
    rcases o2 with _ | a3
    · have h := ucase_n h
      refine lv_ifnonnullN hx hb dX1_count_76 ?_
      refine lv_iconst (v := 0) hx hb dX1_count_79 (by decide) ?_
      refine lv_goto (tgt := 93) hx hb dX1_count_80 (by decide) ?_
      exact w_X1_count_93 hC hR N u 0 h hP hS (lv_sub hl [] rfl)
    · have h := ucase_s h
      refine lv_ifnonnull (tgt := 83) hx hb dX1_count_76 (by decide) ?_
      refine u_aload_n (r := some a0) hx hb dX1_count_83 rfl (lv_at hl 0 rfl) ?_
      obtain ⟨o4, ho4, h⟩ := mbind_n h
      refine u_get hC hP (uGR_n ho4) rfl in_X1 (by decide) q217 (fun _ h => h) dX1_count_84 ?_
      obtain ⟨a5, ha5, hha5⟩ := mbind_n h
      subst ha5
      have h := hha5
      obtain ⟨o6, ho6, h⟩ := mbind_n h
      refine u_getN hC hP (uGR_n ho6) rfl in_X4 (by decide) q291 (fun _ h => h) dX1_count_87 ?_
      obtain ⟨a7, ha7, hha7⟩ := mbind_n h
      subst ha7
      have h := hha7
      obtain ⟨c8, h⟩ := mif_n h
      obtain ⟨r11, u9, c10, h⟩ := ucall_n h
      have zu9 := zz_J2_size N (ub G) (ug G) u a7 r11 u9 c10
      refine u_calli (va_runV (As := []) (rest := []) hC.1 (met_J2_size l N G u a7 r11 u9 c10) (cwV 0 hts (lw_V q1063 q894 q895 q102 q896) rfl rfl rfl (by decide +kernel) ⟨Nat.le_trans (Nat.le_of_ble_eq_true rfl) hR.1, Nat.le_trans (Nat.le_of_ble_eq_true rfl) hR.2⟩) ⟨uPc_blind, u_rcv hC hP c8 rfl, fun U hU hW => u_pre hC hP hS hU hW⟩ rfl rfl hl.1 rfl (lv_room (Nat.le_of_ble_eq_true rfl)) dX1_count_90 ⟨Nat.zero_le _, Nat.zero_le _⟩) hS (fun H locs hP hS => ?_)
      exact w_X1_count_93 hC hR N u9 r11 h hP hS (lv_sub hl [] rfl)
  have h := mif_f c1 h
  by_cases c12 : x1 = 1
  · have h := mif_t c12 h
    refine lv_tableIn (tgt := 94) hx hb dX1_count_1 (by rw [c12]; decide) (by rw [c12]; decide) (by rw [c12]; rfl) (by decide) ?_
    refine u_aload_n (r := some a0) hx hb dX1_count_94 rfl (lv_at hl 0 rfl) ?_
    obtain ⟨o13, ho13, h⟩ := mbind_n h
    refine u_get hC hP (uGR_n ho13) rfl in_X1 (by decide) q217 (fun _ h => h) dX1_count_95 ?_
    rcases o13 with _ | a14
    · have h := ucase_n h
      refine lv_ifnonnullN hx hb dX1_count_98 ?_
      refine lv_iconst (v := 0) hx hb dX1_count_101 (by decide) ?_
      refine lv_goto (tgt := 115) hx hb dX1_count_102 (by decide) ?_
      exact w_X1_count_115 hC hR N u 0 h hP hS (lv_sub hl [] rfl)
    · have h := ucase_s h
      refine lv_ifnonnull (tgt := 105) hx hb dX1_count_98 (by decide) ?_
      refine u_aload_n (r := some a0) hx hb dX1_count_105 rfl (lv_at hl 0 rfl) ?_
      obtain ⟨o15, ho15, h⟩ := mbind_n h
      refine u_get hC hP (uGR_n ho15) rfl in_X1 (by decide) q217 (fun _ h => h) dX1_count_106 ?_
      obtain ⟨a16, ha16, hha16⟩ := mbind_n h
      subst ha16
      have h := hha16
      obtain ⟨o17, ho17, h⟩ := mbind_n h
      refine u_getN hC hP (uGR_n ho17) rfl in_X4 (by decide) q294 (fun _ h => h) dX1_count_109 ?_
      obtain ⟨a18, ha18, hha18⟩ := mbind_n h
      subst ha18
      have h := hha18
      obtain ⟨c19, h⟩ := mif_n h
      obtain ⟨r22, u20, c21, h⟩ := ucall_n h
      have zu20 := zz_J2_size N (ub G) (ug G) u a18 r22 u20 c21
      refine u_calli (va_runV (As := []) (rest := []) hC.1 (met_J2_size l N G u a18 r22 u20 c21) (cwV 0 hts (lw_V q1063 q894 q895 q102 q896) rfl rfl rfl (by decide +kernel) ⟨Nat.le_trans (Nat.le_of_ble_eq_true rfl) hR.1, Nat.le_trans (Nat.le_of_ble_eq_true rfl) hR.2⟩) ⟨uPc_blind, u_rcv hC hP c19 rfl, fun U hU hW => u_pre hC hP hS hU hW⟩ rfl rfl hl.1 rfl (lv_room (Nat.le_of_ble_eq_true rfl)) dX1_count_112 ⟨Nat.zero_le _, Nat.zero_le _⟩) hS (fun H locs hP hS => ?_)
      exact w_X1_count_115 hC hR N u20 r22 h hP hS (lv_sub hl [] rfl)
  have h := mif_f c12 h
  by_cases c23 : x1 = 2
  · have h := mif_t c23 h
    refine lv_tableIn (tgt := 116) hx hb dX1_count_1 (by rw [c23]; decide) (by rw [c23]; decide) (by rw [c23]; rfl) (by decide) ?_
    refine u_aload_n (r := some a0) hx hb dX1_count_116 rfl (lv_at hl 0 rfl) ?_
    obtain ⟨o24, ho24, h⟩ := mbind_n h
    refine u_get hC hP (uGR_n ho24) rfl in_X1 (by decide) q217 (fun _ h => h) dX1_count_117 ?_
    rcases o24 with _ | a25
    · have h := ucase_n h
      refine lv_ifnonnullN hx hb dX1_count_120 ?_
      refine lv_iconst (v := 0) hx hb dX1_count_123 (by decide) ?_
      refine lv_goto (tgt := 134) hx hb dX1_count_124 (by decide) ?_
      exact w_X1_count_134 hC hR N u 0 h hP hS (lv_sub hl [] rfl)
    · have h := ucase_s h
      refine lv_ifnonnull (tgt := 127) hx hb dX1_count_120 (by decide) ?_
      refine u_aload_n (r := some a0) hx hb dX1_count_127 rfl (lv_at hl 0 rfl) ?_
      obtain ⟨o26, ho26, h⟩ := mbind_n h
      refine u_get hC hP (uGR_n ho26) rfl in_X1 (by decide) q217 (fun _ h => h) dX1_count_128 ?_
      obtain ⟨a27, ha27, hha27⟩ := mbind_n h
      subst ha27
      have h := hha27
      obtain ⟨y28, hy28, h⟩ := mbind_n h
      refine u_getN hC hP (uGI_n hy28) rfl in_X4 (by decide) q299 (fun _ h => h) dX1_count_131 ?_
      exact w_X1_count_134 hC hR N u y28 h hP hS (lv_sub hl [] rfl)
  have h := mif_f c23 h
  by_cases c29 : x1 = 3
  · have h := mif_t c29 h
    refine lv_tableIn (tgt := 135) hx hb dX1_count_1 (by rw [c29]; decide) (by rw [c29]; decide) (by rw [c29]; rfl) (by decide) ?_
    refine u_aload_n (r := some a0) hx hb dX1_count_135 rfl (lv_at hl 0 rfl) ?_
    obtain ⟨o30, ho30, h⟩ := mbind_n h
    refine u_get hC hP (uGR_n ho30) rfl in_X1 (by decide) q217 (fun _ h => h) dX1_count_136 ?_
    rcases o30 with _ | a31
    · have h := ucase_n h
      refine lv_ifnonnullN hx hb dX1_count_139 ?_
      refine lv_iconst (v := 0) hx hb dX1_count_142 (by decide) ?_
      refine lv_goto (tgt := 153) hx hb dX1_count_143 (by decide) ?_
      exact w_X1_count_153 hC hR N u 0 h hP hS (lv_sub hl [] rfl)
    · have h := ucase_s h
      refine lv_ifnonnull (tgt := 146) hx hb dX1_count_139 (by decide) ?_
      refine u_aload_n (r := some a0) hx hb dX1_count_146 rfl (lv_at hl 0 rfl) ?_
      obtain ⟨o32, ho32, h⟩ := mbind_n h
      refine u_get hC hP (uGR_n ho32) rfl in_X1 (by decide) q217 (fun _ h => h) dX1_count_147 ?_
      obtain ⟨a33, ha33, hha33⟩ := mbind_n h
      subst ha33
      have h := hha33
      obtain ⟨y34, hy34, h⟩ := mbind_n h
      refine u_getN hC hP (uGI_n hy34) rfl in_X4 (by decide) q302 (fun _ h => h) dX1_count_150 ?_
      exact w_X1_count_153 hC hR N u y34 h hP hS (lv_sub hl [] rfl)
  have h := mif_f c29 h
  by_cases c35 : x1 = 4
  · have h := mif_t c35 h
    refine lv_tableIn (tgt := 154) hx hb dX1_count_1 (by rw [c35]; decide) (by rw [c35]; decide) (by rw [c35]; rfl) (by decide) ?_
    refine u_aload_n (r := some a0) hx hb dX1_count_154 rfl (lv_at hl 0 rfl) ?_
    obtain ⟨o36, ho36, h⟩ := mbind_n h
    refine u_get hC hP (uGR_n ho36) rfl in_X1 (by decide) q217 (fun _ h => h) dX1_count_155 ?_
    rcases o36 with _ | a37
    · have h := ucase_n h
      refine lv_ifnonnullN hx hb dX1_count_158 ?_
      refine lv_iconst (v := 0) hx hb dX1_count_161 (by decide) ?_
      refine lv_goto (tgt := 172) hx hb dX1_count_162 (by decide) ?_
      exact w_X1_count_172 hC hR N u 0 h hP hS (lv_sub hl [] rfl)
    · have h := ucase_s h
      refine lv_ifnonnull (tgt := 165) hx hb dX1_count_158 (by decide) ?_
      refine u_aload_n (r := some a0) hx hb dX1_count_165 rfl (lv_at hl 0 rfl) ?_
      obtain ⟨o38, ho38, h⟩ := mbind_n h
      refine u_get hC hP (uGR_n ho38) rfl in_X1 (by decide) q217 (fun _ h => h) dX1_count_166 ?_
      obtain ⟨a39, ha39, hha39⟩ := mbind_n h
      subst ha39
      have h := hha39
      obtain ⟨y40, hy40, h⟩ := mbind_n h
      refine u_getN hC hP (uGI_n hy40) rfl in_X4 (by decide) q305 (fun _ h => h) dX1_count_169 ?_
      exact w_X1_count_172 hC hR N u y40 h hP hS (lv_sub hl [] rfl)
  have h := mif_f c35 h
  by_cases c41 : x1 = 5
  · have h := mif_t c41 h
    refine lv_tableIn (tgt := 173) hx hb dX1_count_1 (by rw [c41]; decide) (by rw [c41]; decide) (by rw [c41]; rfl) (by decide) ?_
    refine u_aload_n (r := some a0) hx hb dX1_count_173 rfl (lv_at hl 0 rfl) ?_
    obtain ⟨o42, ho42, h⟩ := mbind_n h
    refine u_get hC hP (uGR_n ho42) rfl in_X1 (by decide) q217 (fun _ h => h) dX1_count_174 ?_
    rcases o42 with _ | a43
    · have h := ucase_n h
      refine lv_ifnonnullN hx hb dX1_count_177 ?_
      refine lv_iconst (v := 0) hx hb dX1_count_180 (by decide) ?_
      refine lv_goto (tgt := 191) hx hb dX1_count_181 (by decide) ?_
      exact w_X1_count_191 hC hR N u 0 h hP hS (lv_sub hl [] rfl)
    · have h := ucase_s h
      refine lv_ifnonnull (tgt := 184) hx hb dX1_count_177 (by decide) ?_
      refine u_aload_n (r := some a0) hx hb dX1_count_184 rfl (lv_at hl 0 rfl) ?_
      obtain ⟨o44, ho44, h⟩ := mbind_n h
      refine u_get hC hP (uGR_n ho44) rfl in_X1 (by decide) q217 (fun _ h => h) dX1_count_185 ?_
      obtain ⟨a45, ha45, hha45⟩ := mbind_n h
      subst ha45
      have h := hha45
      obtain ⟨y46, hy46, h⟩ := mbind_n h
      refine u_getN hC hP (uGI_n hy46) rfl in_X4 (by decide) q308 (fun _ h => h) dX1_count_188 ?_
      exact w_X1_count_191 hC hR N u y46 h hP hS (lv_sub hl [] rfl)
  have h := mif_f c41 h
  by_cases c47 : x1 = 6
  · have h := mif_t c47 h
    refine lv_tableIn (tgt := 192) hx hb dX1_count_1 (by rw [c47]; decide) (by rw [c47]; decide) (by rw [c47]; rfl) (by decide) ?_
    refine u_aload_n (r := some a0) hx hb dX1_count_192 rfl (lv_at hl 0 rfl) ?_
    obtain ⟨o48, ho48, h⟩ := mbind_n h
    refine u_get hC hP (uGR_n ho48) rfl in_X1 (by decide) q217 (fun _ h => h) dX1_count_193 ?_
    rcases o48 with _ | a49
    · have h := ucase_n h
      refine lv_ifnonnullN hx hb dX1_count_196 ?_
      refine lv_iconst (v := 0) hx hb dX1_count_199 (by decide) ?_
      refine lv_goto (tgt := 210) hx hb dX1_count_200 (by decide) ?_
      exact w_X1_count_210 hC hR N u 0 h hP hS (lv_sub hl [] rfl)
    · have h := ucase_s h
      refine lv_ifnonnull (tgt := 203) hx hb dX1_count_196 (by decide) ?_
      refine u_aload_n (r := some a0) hx hb dX1_count_203 rfl (lv_at hl 0 rfl) ?_
      obtain ⟨o50, ho50, h⟩ := mbind_n h
      refine u_get hC hP (uGR_n ho50) rfl in_X1 (by decide) q217 (fun _ h => h) dX1_count_204 ?_
      obtain ⟨a51, ha51, hha51⟩ := mbind_n h
      subst ha51
      have h := hha51
      obtain ⟨y52, hy52, h⟩ := mbind_n h
      refine u_getN hC hP (uGI_n hy52) rfl in_X4 (by decide) q311 (fun _ h => h) dX1_count_207 ?_
      exact w_X1_count_210 hC hR N u y52 h hP hS (lv_sub hl [] rfl)
  have h := mif_f c47 h
  by_cases c53 : x1 = 7
  · have h := mif_t c53 h
    refine lv_tableIn (tgt := 211) hx hb dX1_count_1 (by rw [c53]; decide) (by rw [c53]; decide) (by rw [c53]; rfl) (by decide) ?_
    refine u_aload_n (r := some a0) hx hb dX1_count_211 rfl (lv_at hl 0 rfl) ?_
    obtain ⟨y54, hy54, h⟩ := mbind_n h
    refine u_get hC hP (uGI_n hy54) rfl in_X1 (by decide) q218 (fun _ h => h) dX1_count_212 ?_
    obtain ⟨hr1, hr2⟩ := uret_n h
    subst hr1
    subst hr2
    exact u_iret hC hP hS dX1_count_215
  have h := mif_f c53 h
  by_cases c55 : x1 = 8
  · have h := mif_t c55 h
    refine lv_tableIn (tgt := 216) hx hb dX1_count_1 (by rw [c55]; decide) (by rw [c55]; decide) (by rw [c55]; rfl) (by decide) ?_
    refine u_aload_n (r := some a0) hx hb dX1_count_216 rfl (lv_at hl 0 rfl) ?_
    obtain ⟨o56, ho56, h⟩ := mbind_n h
    refine u_get hC hP (uGR_n ho56) rfl in_X1 (by decide) q222 (fun _ h => h) dX1_count_217 ?_
    rcases o56 with _ | a57
    · have h := ucase_n h
      refine lv_ifnonnullN hx hb dX1_count_220 ?_
      refine lv_iconst (v := 0) hx hb dX1_count_223 (by decide) ?_
      refine lv_goto (tgt := 234) hx hb dX1_count_224 (by decide) ?_
      exact w_X1_count_234 hC hR N u 0 h hP hS (lv_sub hl [] rfl)
    · have h := ucase_s h
      refine lv_ifnonnull (tgt := 227) hx hb dX1_count_220 (by decide) ?_
      refine u_aload_n (r := some a0) hx hb dX1_count_227 rfl (lv_at hl 0 rfl) ?_
      obtain ⟨o58, ho58, h⟩ := mbind_n h
      refine u_get hC hP (uGR_n ho58) rfl in_X1 (by decide) q222 (fun _ h => h) dX1_count_228 ?_
      obtain ⟨a59, ha59, hha59⟩ := mbind_n h
      subst ha59
      have h := hha59
      obtain ⟨c60, h⟩ := mif_n h
      obtain ⟨r63, u61, c62, h⟩ := ucall_n h
      have zu61 := zz_X14_cells N (ub G) (ug G) u a59 r63 u61 c62
      refine u_calli (va_runV (As := []) (rest := []) hC.1 (met_X14_cells l N G u a59 r63 u61 c62) (cwV 0 hts (lw_V q1186 q1187 q1188 q131 q1189) rfl rfl rfl (by decide +kernel) ⟨Nat.le_trans (Nat.le_of_ble_eq_true rfl) hR.1, Nat.le_trans (Nat.le_of_ble_eq_true rfl) hR.2⟩) ⟨uPc_blind, u_rcv hC hP c60 rfl, fun U hU hW => u_pre hC hP hS hU hW⟩ rfl rfl hl.1 rfl (lv_room (Nat.le_of_ble_eq_true rfl)) dX1_count_231 ⟨Nat.zero_le _, Nat.zero_le _⟩) hS (fun H locs hP hS => ?_)
      exact w_X1_count_234 hC hR N u61 r63 h hP hS (lv_sub hl [] rfl)
  have h := mif_f c55 h
  by_cases c64 : x1 = 9
  · have h := mif_t c64 h
    refine lv_tableIn (tgt := 235) hx hb dX1_count_1 (by rw [c64]; decide) (by rw [c64]; decide) (by rw [c64]; rfl) (by decide) ?_
    refine u_aload_n (r := some a0) hx hb dX1_count_235 rfl (lv_at hl 0 rfl) ?_
    obtain ⟨o65, ho65, h⟩ := mbind_n h
    refine u_get hC hP (uGR_n ho65) rfl in_X1 (by decide) q222 (fun _ h => h) dX1_count_236 ?_
    rcases o65 with _ | a66
    · have h := ucase_n h
      refine lv_ifnonnullN hx hb dX1_count_239 ?_
      refine lv_iconst (v := 0) hx hb dX1_count_242 (by decide) ?_
      refine lv_goto (tgt := 256) hx hb dX1_count_243 (by decide) ?_
      exact w_X1_count_256 hC hR N u 0 h hP hS (lv_sub hl [] rfl)
    · have h := ucase_s h
      refine lv_ifnonnull (tgt := 246) hx hb dX1_count_239 (by decide) ?_
      refine u_aload_n (r := some a0) hx hb dX1_count_246 rfl (lv_at hl 0 rfl) ?_
      obtain ⟨o67, ho67, h⟩ := mbind_n h
      refine u_get hC hP (uGR_n ho67) rfl in_X1 (by decide) q222 (fun _ h => h) dX1_count_247 ?_
      obtain ⟨a68, ha68, hha68⟩ := mbind_n h
      subst ha68
      have h := hha68
      obtain ⟨o69, ho69, h⟩ := mbind_n h
      refine u_getN hC hP (uGR_n ho69) rfl in_X14 (by decide) q1151 (fun _ h => h) dX1_count_250 ?_
      obtain ⟨a70, ha70, hha70⟩ := mbind_n h
      subst ha70
      have h := hha70
      obtain ⟨c71, h⟩ := mif_n h
      obtain ⟨r74, u72, c73, h⟩ := ucall_n h
      have zu72 := zz_J2_size N (ub G) (ug G) u a70 r74 u72 c73
      refine u_calli (va_runV (As := []) (rest := []) hC.1 (met_J2_size l N G u a70 r74 u72 c73) (cwV 0 hts (lw_V q1063 q894 q895 q102 q896) rfl rfl rfl (by decide +kernel) ⟨Nat.le_trans (Nat.le_of_ble_eq_true rfl) hR.1, Nat.le_trans (Nat.le_of_ble_eq_true rfl) hR.2⟩) ⟨uPc_blind, u_rcv hC hP c71 rfl, fun U hU hW => u_pre hC hP hS hU hW⟩ rfl rfl hl.1 rfl (lv_room (Nat.le_of_ble_eq_true rfl)) dX1_count_253 ⟨Nat.zero_le _, Nat.zero_le _⟩) hS (fun H locs hP hS => ?_)
      exact w_X1_count_256 hC hR N u72 r74 h hP hS (lv_sub hl [] rfl)
  have h := mif_f c64 h
  by_cases c75 : x1 = 10
  · have h := mif_t c75 h
    refine lv_tableIn (tgt := 257) hx hb dX1_count_1 (by rw [c75]; decide) (by rw [c75]; decide) (by rw [c75]; rfl) (by decide) ?_
    refine u_aload_n (r := some a0) hx hb dX1_count_257 rfl (lv_at hl 0 rfl) ?_
    obtain ⟨o76, ho76, h⟩ := mbind_n h
    refine u_get hC hP (uGR_n ho76) rfl in_X1 (by decide) q222 (fun _ h => h) dX1_count_258 ?_
    rcases o76 with _ | a77
    · have h := ucase_n h
      refine lv_ifnonnullN hx hb dX1_count_261 ?_
      refine lv_iconst (v := 0) hx hb dX1_count_264 (by decide) ?_
      refine lv_goto (tgt := 275) hx hb dX1_count_265 (by decide) ?_
      exact w_X1_count_275 hC hR N u 0 h hP hS (lv_sub hl [] rfl)
    · have h := ucase_s h
      refine lv_ifnonnull (tgt := 268) hx hb dX1_count_261 (by decide) ?_
      refine u_aload_n (r := some a0) hx hb dX1_count_268 rfl (lv_at hl 0 rfl) ?_
      obtain ⟨o78, ho78, h⟩ := mbind_n h
      refine u_get hC hP (uGR_n ho78) rfl in_X1 (by decide) q222 (fun _ h => h) dX1_count_269 ?_
      obtain ⟨a79, ha79, hha79⟩ := mbind_n h
      subst ha79
      have h := hha79
      obtain ⟨c80, h⟩ := mif_n h
      obtain ⟨r83, u81, c82, h⟩ := ucall_n h
      have zu81 := zz_X14_openOnes N (ub G) (ug G) u a79 r83 u81 c82
      refine u_calli (va_runV (As := []) (rest := []) hC.1 (met_X14_openOnes l N G u a79 r83 u81 c82) (cwV 0 hts (lw_V q1842 q1843 q1844 q131 q1845) rfl rfl rfl (by decide +kernel) ⟨Nat.le_trans (Nat.le_of_ble_eq_true rfl) hR.1, Nat.le_trans (Nat.le_of_ble_eq_true rfl) hR.2⟩) ⟨uPc_blind, u_rcv hC hP c80 rfl, fun U hU hW => u_pre hC hP hS hU hW⟩ rfl rfl hl.1 rfl (lv_room (Nat.le_of_ble_eq_true rfl)) dX1_count_272 ⟨Nat.zero_le _, Nat.zero_le _⟩) hS (fun H locs hP hS => ?_)
      exact w_X1_count_275 hC hR N u81 r83 h hP hS (lv_sub hl [] rfl)
  have h := mif_f c75 h
  by_cases c84 : x1 = 11
  · have h := mif_t c84 h
    refine lv_tableIn (tgt := 276) hx hb dX1_count_1 (by rw [c84]; decide) (by rw [c84]; decide) (by rw [c84]; rfl) (by decide) ?_
    refine u_aload_n (r := some a0) hx hb dX1_count_276 rfl (lv_at hl 0 rfl) ?_
    obtain ⟨o85, ho85, h⟩ := mbind_n h
    refine u_get hC hP (uGR_n ho85) rfl in_X1 (by decide) q225 (fun _ h => h) dX1_count_277 ?_
    obtain ⟨a86, ha86, hha86⟩ := mbind_n h
    subst ha86
    have h := hha86
    obtain ⟨c87, h⟩ := mif_n h
    obtain ⟨r90, u88, c89, h⟩ := ucall_n h
    have zu88 := zz_J2_size N (ub G) (ug G) u a86 r90 u88 c89
    refine u_calli (va_runV (As := []) (rest := []) hC.1 (met_J2_size l N G u a86 r90 u88 c89) (cwV 0 hts (lw_V q1063 q894 q895 q102 q896) rfl rfl rfl (by decide +kernel) ⟨Nat.le_trans (Nat.le_of_ble_eq_true rfl) hR.1, Nat.le_trans (Nat.le_of_ble_eq_true rfl) hR.2⟩) ⟨uPc_blind, u_rcv hC hP c87 rfl, fun U hU hW => u_pre hC hP hS hU hW⟩ rfl rfl hl.1 rfl (lv_room (Nat.le_of_ble_eq_true rfl)) dX1_count_280 ⟨Nat.zero_le _, Nat.zero_le _⟩) hS (fun H locs hP hS => ?_)
    obtain ⟨hr1, hr2⟩ := uret_n h
    subst hr1
    subst hr2
    exact u_iret hC hP hS dX1_count_283
  have h := mif_f c84 h
  by_cases c91 : x1 = 12
  · have h := mif_t c91 h
    refine lv_tableIn (tgt := 284) hx hb dX1_count_1 (by rw [c91]; decide) (by rw [c91]; decide) (by rw [c91]; rfl) (by decide) ?_
    refine u_aload_n (r := some a0) hx hb dX1_count_284 rfl (lv_at hl 0 rfl) ?_
    obtain ⟨c92, h⟩ := mif_n h
    obtain ⟨r95, u93, c94, h⟩ := ucall_n h
    have zu93 := zz_X1_deepest N (ub G) (ug G) u a0 r95 u93 c94
    refine u_calli (va_runV (As := []) (rest := []) hC.1 (met_X1_deepest l N G u a0 r95 u93 c94) (cwV 0 hts (lw_V q1834 q1836 qs39 q98 q1837) rfl rfl rfl (by decide +kernel) ⟨Nat.le_trans (Nat.le_of_ble_eq_true rfl) hR.1, Nat.le_trans (Nat.le_of_ble_eq_true rfl) hR.2⟩) ⟨uPc_blind, u_rcv hC hP c92 rfl, fun U hU hW => u_pre hC hP hS hU hW⟩ rfl rfl hl.1 rfl (lv_room (Nat.le_of_ble_eq_true rfl)) dX1_count_285 ⟨Nat.zero_le _, Nat.zero_le _⟩) hS (fun H locs hP hS => ?_)
    obtain ⟨hr1, hr2⟩ := uret_n h
    subst hr1
    subst hr2
    exact u_iret hC hP hS dX1_count_288
  have h := mif_f c91 h
  by_cases c96 : x1 = 13
  · have h := mif_t c96 h
    refine lv_tableIn (tgt := 289) hx hb dX1_count_1 (by rw [c96]; decide) (by rw [c96]; decide) (by rw [c96]; rfl) (by decide) ?_
    refine u_aload_n (r := some a0) hx hb dX1_count_289 rfl (lv_at hl 0 rfl) ?_
    obtain ⟨y97, hy97, h⟩ := mbind_n h
    refine u_get hC hP (uGI_n hy97) rfl in_X1 (by decide) q220 (fun _ h => h) dX1_count_290 ?_
    obtain ⟨hr1, hr2⟩ := uret_n h
    subst hr1
    subst hr2
    exact u_iret hC hP hS dX1_count_293
  have h := mif_f c96 h
  refine lv_tableOut (tgt := 294) hx hb dX1_count_1 (m_out 0 13 [0, 1, 2, 3, 4, 5, 6, 7, 8, 9, 10, 11, 12, 13] 14 (by decide) (by decide) (fun z hz => ?_)) (by decide) ?_
  · simp only [List.mem_cons, List.not_mem_nil, or_false] at hz
    rcases hz with rfl | rfl | rfl | rfl | rfl | rfl | rfl | rfl | rfl | rfl | rfl | rfl | rfl | rfl
    · exact c1
    · exact c12
    · exact c23
    · exact c29
    · exact c35
    · exact c41
    · exact c47
    · exact c53
    · exact c55
    · exact c64
    · exact c75
    · exact c84
    · exact c91
    · exact c96
  · refine lv_iconst (v := (-1)) hx hb dX1_count_294 (by decide) ?_
    obtain ⟨hr1, hr2⟩ := uret_n h
    subst hr1
    subst hr2
    exact u_iret hC hP hS dX1_count_295
theorem zz_X1_count (N b : Nat) (g : uEnv) (u : UH) (a0 : Nat) (x1 : Int32) (r : Int32) (uf : UH) (h : f_X1_count N b g u a0 x1 = some (r, uf)) : uf.1 = u.1 ∧ uf.2.1 = u.2.1 :=
  zz_X1_count_0 (G := ((fun _ => 0, fun _ _ => 0), fun _ => 0, b, g)) (a0 := a0) N u x1 h
theorem met_X1_count (l : Launch) (N : Nat) (G : uG) (u : UH) (a0 : Nat) (x1 : Int32) (r : Int32) (uf : UH) (h : f_X1_count N (ub G) (ug G) u a0 x1 = some (r, uf)) : Met l yX1_count (ws_ yX1_count cX1_count 2 (some .int)) ({ frames := 4, cells := 0, slots := 0, locals := 86 }) (uPc G u [.ref a0, .int x1]) (uQi G r uf) 0 0 (uA G) := by
  exact u_met (own := RX1) (by decide +kernel) rfl (Nat.le_of_ble_eq_true rfl) (fun hC hn hsz ls hl hP => w_X1_count_0 hC ⟨Nat.le_refl _, Nat.le_refl _⟩ N u x1 h hP va_S.rf hl)
def f_X1_denied_14 (N b : Nat) (g : uEnv) (a0 : Nat) (u : UH) (s0 : Int32) : Option (Int32 × UH) :=
    if uFit .boolean s0 = true then
    some (s0, u)
    else none
set_option maxHeartbeats 4000000 in
set_option maxRecDepth 100000 in
theorem zz_X1_denied_14 {G : uG} {a0 : Nat} {uf : UH} {r : Int32} (N : Nat) (u : UH) (s0 : Int32) (h : f_X1_denied_14 N (ub G) (ug G) a0 u s0 = some (r, uf)) : uf.1 = u.1 ∧ uf.2.1 = u.2.1 := by
  unfold f_X1_denied_14 at h
  obtain ⟨c1, h⟩ := mif_n h
  obtain ⟨hr1, hr2⟩ := uret_n h
  subst hr2
  exact ⟨by omega, by omega⟩
set_option maxHeartbeats 4000000 in
set_option maxRecDepth 100000 in
theorem w_X1_denied_14 {p : Program} {l : Launch} {e : Env} {R : Room} {s : State} {m : MethodId} {args : Array Value} {below : List Frame} {meth : Method} {c : Code} {G : uG} {a0 : Nat} {uf : UH} {r : Int32} (hC : uC p s m args meth c G RX1 cX1_denied 2 (some .boolean)) (hR : 1 ≤ R.frames ∧ 21 ≤ R.locals) (N : Nat) (u : UH) (s0 : Int32) (h : f_X1_denied_14 N (ub G) (ug G) a0 u s0 = some (r, uf)) {H : Heap} {locs : List Loc} (hP : uP G u H) (hS : va_S (uA G) s.heap H locs) {ls : Array Slot} (hl : lv_has ls 2 []) : W p l e R s m args below meth c H locs 0 0 (MQ below (uQi G r uf) args s 0 0 (uA G)) (F0 m 14 ls [.int s0]) := by
  obtain ⟨⟨hx, hb, hml, hown, hts⟩, hKK⟩ := id hC
  unfold f_X1_denied_14 at h
  obtain ⟨c1, h⟩ := mif_n h
  obtain ⟨hr1, hr2⟩ := uret_n h
  subst hr1
  subst hr2
  exact u_zret hC (uFit_n c1).1 hP hS dX1_denied_14
def f_X1_denied (N b : Nat) (g : uEnv) (u : UH) (a0 : Nat) (x1 : Int32) : Option (Int32 × UH) :=
    if uIs u a0 0 = true then
    ucall (f_X1_refused N b g u a0 x1) fun r4 u2 =>
    if r4 = (-1) then
    f_X1_denied_14 N b g a0 u2 0
    else
    f_X1_denied_14 N b g a0 u2 1
    else none
set_option maxHeartbeats 4000000 in
set_option maxRecDepth 100000 in
theorem zz_X1_denied_0 {G : uG} {a0 : Nat} {uf : UH} {r : Int32} (N : Nat) (u : UH) (x1 : Int32) (h : f_X1_denied N (ub G) (ug G) u a0 x1 = some (r, uf)) : uf.1 = u.1 ∧ uf.2.1 = u.2.1 := by
  unfold f_X1_denied at h
  obtain ⟨c1, h⟩ := mif_n h
  obtain ⟨r4, u2, c3, h⟩ := ucall_n h
  have zu2 := zz_X1_refused N (ub G) (ug G) u a0 x1 r4 u2 c3
  by_cases c5 : r4 = (-1)
  · have h := mif_t c5 h
    have hq := zz_X1_denied_14 (G := G) (a0 := a0) N u2 0 h
    exact ⟨by omega, by omega⟩
  · have h := mif_f c5 h
    have hq := zz_X1_denied_14 (G := G) (a0 := a0) N u2 1 h
    exact ⟨by omega, by omega⟩
set_option maxHeartbeats 4000000 in
set_option maxRecDepth 100000 in
theorem w_X1_denied_0 {p : Program} {l : Launch} {e : Env} {R : Room} {s : State} {m : MethodId} {args : Array Value} {below : List Frame} {meth : Method} {c : Code} {G : uG} {a0 : Nat} {uf : UH} {r : Int32} (hC : uC p s m args meth c G RX1 cX1_denied 2 (some .boolean)) (hR : 1 ≤ R.frames ∧ 21 ≤ R.locals) (N : Nat) (u : UH) (x1 : Int32) (h : f_X1_denied N (ub G) (ug G) u a0 x1 = some (r, uf)) {H : Heap} {locs : List Loc} (hP : uP G u H) (hS : va_S (uA G) s.heap H locs) {ls : Array Slot} (hl : lv_has ls 2 [(0, va_rf (some a0)), (1, .int x1)]) : W p l e R s m args below meth c H locs 0 0 (MQ below (uQi G r uf) args s 0 0 (uA G)) (F0 m 0 ls []) := by
  obtain ⟨⟨hx, hb, hml, hown, hts⟩, hKK⟩ := id hC
  unfold f_X1_denied at h
  refine u_aload_n (r := some a0) hx hb dX1_denied_0 rfl (lv_at hl 0 rfl) ?_
  refine lv_iload_n hx hb dX1_denied_1 rfl (lv_at hl 1 rfl) ?_
  obtain ⟨c1, h⟩ := mif_n h
  obtain ⟨r4, u2, c3, h⟩ := ucall_n h
  have zu2 := zz_X1_refused N (ub G) (ug G) u a0 x1 r4 u2 c3
  refine u_calli (va_runV (As := [.int x1]) (rest := []) hC.1 (met_X1_refused l N G u a0 x1 r4 u2 c3) (cwV 1 hts (lw_V q276 q278 qs0 q98 q279) rfl rfl rfl (by decide +kernel) ⟨Nat.le_trans (Nat.le_of_ble_eq_true rfl) hR.1, Nat.le_trans (Nat.le_of_ble_eq_true rfl) hR.2⟩) ⟨uPc_blind, u_rcv hC hP c1 rfl, fun U hU hW => u_pre hC hP hS hU hW⟩ rfl rfl hl.1 rfl (lv_room (Nat.le_of_ble_eq_true rfl)) dX1_denied_2 ⟨Nat.zero_le _, Nat.zero_le _⟩) hS (fun H locs hP hS => ?_)
  refine lv_iconst (v := (-1)) hx hb dX1_denied_5 (by decide) ?_
  refine lv_icmp_eq (tgt := 13) hx hb dX1_denied_6 (by decide) (fun c5 => ?_) (fun c5 => ?_)
  · have h := mif_t c5 h
    refine lv_iconst (v := 0) hx hb dX1_denied_13 (by decide) ?_
    exact w_X1_denied_14 hC hR N u2 0 h hP hS (lv_sub hl [] rfl)
  · have h := mif_f c5 h
    refine lv_iconst (v := 1) hx hb dX1_denied_9 (by decide) ?_
    refine lv_goto (tgt := 14) hx hb dX1_denied_10 (by decide) ?_
    exact w_X1_denied_14 hC hR N u2 1 h hP hS (lv_sub hl [] rfl)
theorem zz_X1_denied (N b : Nat) (g : uEnv) (u : UH) (a0 : Nat) (x1 : Int32) (r : Int32) (uf : UH) (h : f_X1_denied N b g u a0 x1 = some (r, uf)) : uf.1 = u.1 ∧ uf.2.1 = u.2.1 :=
  zz_X1_denied_0 (G := ((fun _ => 0, fun _ _ => 0), fun _ => 0, b, g)) (a0 := a0) N u x1 h
theorem met_X1_denied (l : Launch) (N : Nat) (G : uG) (u : UH) (a0 : Nat) (x1 : Int32) (r : Int32) (uf : UH) (h : f_X1_denied N (ub G) (ug G) u a0 x1 = some (r, uf)) : Met l yX1_denied (ws_ yX1_denied cX1_denied 2 (some .boolean)) ({ frames := 1, cells := 0, slots := 0, locals := 21 }) (uPc G u [.ref a0, .int x1]) (uQi G r uf) 0 0 (uA G) := by
  exact u_met (own := RX1) (by decide +kernel) rfl (Nat.le_of_ble_eq_true rfl) (fun hC hn hsz ls hl hP => w_X1_denied_0 hC ⟨Nat.le_refl _, Nat.le_refl _⟩ N u x1 h hP va_S.rf hl)
def f_X1_granted_13 (N b : Nat) (g : uEnv) (a0 : Nat) (u : UH) (s0 : Int32) : Option (Int32 × UH) :=
    if uFit .boolean s0 = true then
    some (s0, u)
    else none
set_option maxHeartbeats 4000000 in
set_option maxRecDepth 100000 in
theorem zz_X1_granted_13 {G : uG} {a0 : Nat} {uf : UH} {r : Int32} (N : Nat) (u : UH) (s0 : Int32) (h : f_X1_granted_13 N (ub G) (ug G) a0 u s0 = some (r, uf)) : uf.1 = u.1 ∧ uf.2.1 = u.2.1 := by
  unfold f_X1_granted_13 at h
  obtain ⟨c1, h⟩ := mif_n h
  obtain ⟨hr1, hr2⟩ := uret_n h
  subst hr2
  exact ⟨by omega, by omega⟩
set_option maxHeartbeats 4000000 in
set_option maxRecDepth 100000 in
theorem w_X1_granted_13 {p : Program} {l : Launch} {e : Env} {R : Room} {s : State} {m : MethodId} {args : Array Value} {below : List Frame} {meth : Method} {c : Code} {G : uG} {a0 : Nat} {uf : UH} {r : Int32} (hC : uC p s m args meth c G RX1 cX1_granted 1 (some .boolean)) (hR : 1 ≤ R.frames ∧ 21 ≤ R.locals) (N : Nat) (u : UH) (s0 : Int32) (h : f_X1_granted_13 N (ub G) (ug G) a0 u s0 = some (r, uf)) {H : Heap} {locs : List Loc} (hP : uP G u H) (hS : va_S (uA G) s.heap H locs) {ls : Array Slot} (hl : lv_has ls 1 []) : W p l e R s m args below meth c H locs 0 0 (MQ below (uQi G r uf) args s 0 0 (uA G)) (F0 m 13 ls [.int s0]) := by
  obtain ⟨⟨hx, hb, hml, hown, hts⟩, hKK⟩ := id hC
  unfold f_X1_granted_13 at h
  obtain ⟨c1, h⟩ := mif_n h
  obtain ⟨hr1, hr2⟩ := uret_n h
  subst hr1
  subst hr2
  exact u_zret hC (uFit_n c1).1 hP hS dX1_granted_13
def f_X1_granted (N b : Nat) (g : uEnv) (u : UH) (a0 : Nat) : Option (Int32 × UH) :=
    if uIs u a0 0 = true then
    ucall (f_X1_done N b g u a0 0) fun r4 u2 =>
    if r4 = 0 then
    f_X1_granted_13 N b g a0 u2 1
    else
    f_X1_granted_13 N b g a0 u2 0
    else none
set_option maxHeartbeats 4000000 in
set_option maxRecDepth 100000 in
theorem zz_X1_granted_0 {G : uG} {a0 : Nat} {uf : UH} {r : Int32} (N : Nat) (u : UH) (h : f_X1_granted N (ub G) (ug G) u a0 = some (r, uf)) : uf.1 = u.1 ∧ uf.2.1 = u.2.1 := by
  unfold f_X1_granted at h
  obtain ⟨c1, h⟩ := mif_n h
  obtain ⟨r4, u2, c3, h⟩ := ucall_n h
  have zu2 := zz_X1_done N (ub G) (ug G) u a0 0 r4 u2 c3
  by_cases c5 : r4 = 0
  · have h := mif_t c5 h
    have hq := zz_X1_granted_13 (G := G) (a0 := a0) N u2 1 h
    exact ⟨by omega, by omega⟩
  · have h := mif_f c5 h
    have hq := zz_X1_granted_13 (G := G) (a0 := a0) N u2 0 h
    exact ⟨by omega, by omega⟩
set_option maxHeartbeats 4000000 in
set_option maxRecDepth 100000 in
theorem w_X1_granted_0 {p : Program} {l : Launch} {e : Env} {R : Room} {s : State} {m : MethodId} {args : Array Value} {below : List Frame} {meth : Method} {c : Code} {G : uG} {a0 : Nat} {uf : UH} {r : Int32} (hC : uC p s m args meth c G RX1 cX1_granted 1 (some .boolean)) (hR : 1 ≤ R.frames ∧ 21 ≤ R.locals) (N : Nat) (u : UH) (h : f_X1_granted N (ub G) (ug G) u a0 = some (r, uf)) {H : Heap} {locs : List Loc} (hP : uP G u H) (hS : va_S (uA G) s.heap H locs) {ls : Array Slot} (hl : lv_has ls 1 [(0, va_rf (some a0))]) : W p l e R s m args below meth c H locs 0 0 (MQ below (uQi G r uf) args s 0 0 (uA G)) (F0 m 0 ls []) := by
  obtain ⟨⟨hx, hb, hml, hown, hts⟩, hKK⟩ := id hC
  unfold f_X1_granted at h
  refine u_aload_n (r := some a0) hx hb dX1_granted_0 rfl (lv_at hl 0 rfl) ?_
  refine lv_iconst (v := 0) hx hb dX1_granted_1 (by decide) ?_
  obtain ⟨c1, h⟩ := mif_n h
  obtain ⟨r4, u2, c3, h⟩ := ucall_n h
  have zu2 := zz_X1_done N (ub G) (ug G) u a0 0 r4 u2 c3
  refine u_calli (va_runV (As := [.int 0]) (rest := []) hC.1 (met_X1_done l N G u a0 0 r4 u2 c3) (cwV 1 hts (lw_V q1064 q1066 qs14 q98 q1067) rfl rfl rfl (by decide +kernel) ⟨Nat.le_trans (Nat.le_of_ble_eq_true rfl) hR.1, Nat.le_trans (Nat.le_of_ble_eq_true rfl) hR.2⟩) ⟨uPc_blind, u_rcv hC hP c1 rfl, fun U hU hW => u_pre hC hP hS hU hW⟩ rfl rfl hl.1 rfl (lv_room (Nat.le_of_ble_eq_true rfl)) dX1_granted_2 ⟨Nat.zero_le _, Nat.zero_le _⟩) hS (fun H locs hP hS => ?_)
  refine lv_if_ne (tgt := 12) hx hb dX1_granted_5 (by decide) (fun c5 => ?_) (fun c5 => ?_)
  · have h := mif_f c5 h
    refine lv_iconst (v := 0) hx hb dX1_granted_12 (by decide) ?_
    exact w_X1_granted_13 hC hR N u2 0 h hP hS (lv_sub hl [] rfl)
  · have h := mif_t c5 h
    refine lv_iconst (v := 1) hx hb dX1_granted_8 (by decide) ?_
    refine lv_goto (tgt := 13) hx hb dX1_granted_9 (by decide) ?_
    exact w_X1_granted_13 hC hR N u2 1 h hP hS (lv_sub hl [] rfl)
theorem zz_X1_granted (N b : Nat) (g : uEnv) (u : UH) (a0 : Nat) (r : Int32) (uf : UH) (h : f_X1_granted N b g u a0 = some (r, uf)) : uf.1 = u.1 ∧ uf.2.1 = u.2.1 :=
  zz_X1_granted_0 (G := ((fun _ => 0, fun _ _ => 0), fun _ => 0, b, g)) (a0 := a0) N u h
theorem met_X1_granted (l : Launch) (N : Nat) (G : uG) (u : UH) (a0 : Nat) (r : Int32) (uf : UH) (h : f_X1_granted N (ub G) (ug G) u a0 = some (r, uf)) : Met l yX1_granted (ws_ yX1_granted cX1_granted 1 (some .boolean)) ({ frames := 1, cells := 0, slots := 0, locals := 21 }) (uPc G u [.ref a0]) (uQi G r uf) 0 0 (uA G) := by
  exact u_met (own := RX1) (by decide +kernel) rfl (Nat.le_of_ble_eq_true rfl) (fun hC hn hsz ls hl hP => w_X1_granted_0 hC ⟨Nat.le_refl _, Nat.le_refl _⟩ N u h hP va_S.rf hl)
def f_X1_dead (N b : Nat) (g : uEnv) (u : UH) (a0 : Nat) (x1 : Int32) : Option (Int32 × UH) :=
    (uGR u a0 0 2).bind fun o1 =>
    ucase o1 (
    if uIs u a0 0 = true then
    ucall (f_X1_denied N b g u a0 1) fun r6 u4 =>
    if uFit .boolean r6 = true then
    some (r6, u4)
    else none
    else none) fun a2 =>
    (uGR u a0 0 2).bind fun o8 =>
    (o8).bind fun a9 =>
    (uGI u a9 3 3).bind fun y10 =>
    ucall (f_X1_in N b g u x1 0 (y10 - 1)) fun r13 u11 =>
    if r13 = 0 then
    if uIs u11 a0 0 = true then
    ucall (f_X1_denied N b g u11 a0 2) fun r24 u22 =>
    if uFit .boolean r24 = true then
    some (r24, u22)
    else none
    else none
    else
    (uPut b u11 a0 0 3 (.int x1)).bind fun u15 =>
    if uIs u15 a0 0 = true then
    ucall (f_X1_granted N b g u15 a0) fun r19 u17 =>
    if uFit .boolean r19 = true then
    some (r19, u17)
    else none
    else none
set_option maxHeartbeats 4000000 in
set_option maxRecDepth 100000 in
theorem zz_X1_dead_0 {G : uG} {a0 : Nat} {uf : UH} {r : Int32} (N : Nat) (u : UH) (x1 : Int32) (h : f_X1_dead N (ub G) (ug G) u a0 x1 = some (r, uf)) : uf.1 = u.1 ∧ uf.2.1 = u.2.1 := by
  unfold f_X1_dead at h
  obtain ⟨o1, ho1, h⟩ := mbind_n h
  rcases o1 with _ | a2
  · have h := ucase_n h
    obtain ⟨c3, h⟩ := mif_n h
    obtain ⟨r6, u4, c5, h⟩ := ucall_n h
    have zu4 := zz_X1_denied N (ub G) (ug G) u a0 1 r6 u4 c5
    obtain ⟨c7, h⟩ := mif_n h
    obtain ⟨hr1, hr2⟩ := uret_n h
    subst hr2
    exact ⟨by omega, by omega⟩
  · have h := ucase_s h
    obtain ⟨o8, ho8, h⟩ := mbind_n h
    obtain ⟨a9, ha9, hha9⟩ := mbind_n h
    subst ha9
    have h := hha9
    obtain ⟨y10, hy10, h⟩ := mbind_n h
    obtain ⟨r13, u11, c12, h⟩ := ucall_n h
    have zu11 := zz_X1_in N (ub G) (ug G) u x1 0 (y10 - 1) r13 u11 c12
    by_cases c14 : r13 = 0
    · have h := mif_t c14 h
      obtain ⟨c21, h⟩ := mif_n h
      obtain ⟨r24, u22, c23, h⟩ := ucall_n h
      have zu22 := zz_X1_denied N (ub G) (ug G) u11 a0 2 r24 u22 c23
      obtain ⟨c25, h⟩ := mif_n h
      obtain ⟨hr1, hr2⟩ := uret_n h
      subst hr2
      exact ⟨by omega, by omega⟩
    · have h := mif_f c14 h
      obtain ⟨u15, hu15, h⟩ := mbind_n h
      have zu15 := uPut_sz hu15
      obtain ⟨c16, h⟩ := mif_n h
      obtain ⟨r19, u17, c18, h⟩ := ucall_n h
      have zu17 := zz_X1_granted N (ub G) (ug G) u15 a0 r19 u17 c18
      obtain ⟨c20, h⟩ := mif_n h
      obtain ⟨hr1, hr2⟩ := uret_n h
      subst hr2
      exact ⟨by omega, by omega⟩
set_option maxHeartbeats 4000000 in
set_option maxRecDepth 100000 in
theorem w_X1_dead_0 {p : Program} {l : Launch} {e : Env} {R : Room} {s : State} {m : MethodId} {args : Array Value} {below : List Frame} {meth : Method} {c : Code} {G : uG} {a0 : Nat} {uf : UH} {r : Int32} (hC : uC p s m args meth c G RX1 cX1_dead 2 (some .boolean)) (hR : 2 ≤ R.frames ∧ 42 ≤ R.locals) (N : Nat) (u : UH) (x1 : Int32) (h : f_X1_dead N (ub G) (ug G) u a0 x1 = some (r, uf)) {H : Heap} {locs : List Loc} (hP : uP G u H) (hS : va_S (uA G) s.heap H locs) {ls : Array Slot} (hl : lv_has ls 2 [(0, va_rf (some a0)), (1, .int x1)]) : W p l e R s m args below meth c H locs 0 0 (MQ below (uQi G r uf) args s 0 0 (uA G)) (F0 m 0 ls []) := by
  obtain ⟨⟨hx, hb, hml, hown, hts⟩, hKK⟩ := id hC
  unfold f_X1_dead at h
  refine u_aload_n (r := some a0) hx hb dX1_dead_0 rfl (lv_at hl 0 rfl) ?_
  obtain ⟨o1, ho1, h⟩ := mbind_n h
  refine u_get hC hP (uGR_n ho1) rfl in_X1 (by decide) q217 (fun _ h => h) dX1_dead_1 ?_
  rcases o1 with _ | a2
  · have h := ucase_n h
    refine lv_ifnonnullN hx hb dX1_dead_4 ?_
    refine u_aload_n (r := some a0) hx hb dX1_dead_7 rfl (lv_at hl 0 rfl) ?_
    refine lv_iconst (v := 1) hx hb dX1_dead_8 (by decide) ?_
    obtain ⟨c3, h⟩ := mif_n h
    obtain ⟨r6, u4, c5, h⟩ := ucall_n h
    have zu4 := zz_X1_denied N (ub G) (ug G) u a0 1 r6 u4 c5
    refine u_calli (va_runV (As := [.int 1]) (rest := []) hC.1 (met_X1_denied l N G u a0 1 r6 u4 c5) (cwV 1 hts (lw_V q1101 q1103 qs16 q98 q1104) rfl rfl rfl (by decide +kernel) ⟨Nat.le_trans (Nat.le_of_ble_eq_true rfl) hR.1, Nat.le_trans (Nat.le_of_ble_eq_true rfl) hR.2⟩) ⟨uPc_blind, u_rcv hC hP c3 rfl, fun U hU hW => u_pre hC hP hS hU hW⟩ rfl rfl hl.1 rfl (lv_room (Nat.le_of_ble_eq_true rfl)) dX1_dead_9 ⟨Nat.zero_le _, Nat.zero_le _⟩) hS (fun H locs hP hS => ?_)
    obtain ⟨c7, h⟩ := mif_n h
    obtain ⟨hr1, hr2⟩ := uret_n h
    subst hr1
    subst hr2
    exact u_zret hC (uFit_n c7).1 hP hS dX1_dead_12
  · have h := ucase_s h
    refine lv_ifnonnull (tgt := 13) hx hb dX1_dead_4 (by decide) ?_
    refine lv_iload_n hx hb dX1_dead_13 rfl (lv_at hl 1 rfl) ?_
    refine lv_iconst (v := 0) hx hb dX1_dead_14 (by decide) ?_
    refine u_aload_n (r := some a0) hx hb dX1_dead_15 rfl (lv_at hl 0 rfl) ?_
    obtain ⟨o8, ho8, h⟩ := mbind_n h
    refine u_get hC hP (uGR_n ho8) rfl in_X1 (by decide) q217 (fun _ h => h) dX1_dead_16 ?_
    obtain ⟨a9, ha9, hha9⟩ := mbind_n h
    subst ha9
    have h := hha9
    obtain ⟨y10, hy10, h⟩ := mbind_n h
    refine u_getN hC hP (uGI_n hy10) rfl in_X4 (by decide) q299 (fun _ h => h) dX1_dead_19 ?_
    refine lv_iconst (v := 1) hx hb dX1_dead_22 (by decide) ?_
    refine lv_isub hx hb dX1_dead_23 ?_
    obtain ⟨r13, u11, c12, h⟩ := ucall_n h
    have zu11 := zz_X1_in N (ub G) (ug G) u x1 0 (y10 - 1) r13 u11 c12
    refine u_calli (va_runS (As := [.int x1, .int 0, .int (y10 - 1)]) (rest := []) hC.1 (met_X1_in l N G u x1 0 (y10 - 1) r13 u11 c12) (va_cwS 3 hts (lw_S q273 q274 q98 q275) rfl rfl rfl (by decide +kernel) ⟨Nat.le_trans (Nat.le_of_ble_eq_true rfl) hR.1, Nat.le_trans (Nat.le_of_ble_eq_true rfl) hR.2⟩) ⟨uPc_blind, fun U hU hW => u_pre hC hP hS hU hW⟩ rfl rfl hl.1 rfl (lv_room (Nat.le_of_ble_eq_true rfl)) dX1_dead_24 ⟨Nat.zero_le _, Nat.zero_le _⟩) hS (fun H locs hP hS => ?_)
    refine lv_if_ne (tgt := 36) hx hb dX1_dead_27 (by decide) (fun c14 => ?_) (fun c14 => ?_)
    · have h := mif_f c14 h
      refine u_aload_n (r := some a0) hx hb dX1_dead_36 rfl (lv_at hl 0 rfl) ?_
      refine lv_iload_n hx hb dX1_dead_37 rfl (lv_at hl 1 rfl) ?_
      obtain ⟨u15, hu15, h⟩ := mbind_n h
      have zu15 := uPut_sz hu15
      refine u_put hC hP hS hu15 rfl in_X1 tyX1 tyX1_ok nmX1 (by decide) q218 (fun _ h => h) rfl (ty := .int) (tyX1_ok 3 (by decide)) rfl rfl dX1_dead_38 (fun H locs hP hS => ?_)
      refine u_aload_n (r := some a0) hx hb dX1_dead_41 rfl (lv_at hl 0 rfl) ?_
      obtain ⟨c16, h⟩ := mif_n h
      obtain ⟨r19, u17, c18, h⟩ := ucall_n h
      have zu17 := zz_X1_granted N (ub G) (ug G) u15 a0 r19 u17 c18
      refine u_calli (va_runV (As := []) (rest := []) hC.1 (met_X1_granted l N G u15 a0 r19 u17 c18) (cwV 0 hts (lw_V q1105 q1107 qs17 q98 q1108) rfl rfl rfl (by decide +kernel) ⟨Nat.le_trans (Nat.le_of_ble_eq_true rfl) hR.1, Nat.le_trans (Nat.le_of_ble_eq_true rfl) hR.2⟩) ⟨uPc_blind, u_rcv hC hP c16 rfl, fun U hU hW => u_pre hC hP hS hU hW⟩ rfl rfl hl.1 rfl (lv_room (Nat.le_of_ble_eq_true rfl)) dX1_dead_42 ⟨Nat.zero_le _, Nat.zero_le _⟩) hS (fun H locs hP hS => ?_)
      obtain ⟨c20, h⟩ := mif_n h
      obtain ⟨hr1, hr2⟩ := uret_n h
      subst hr1
      subst hr2
      exact u_zret hC (uFit_n c20).1 hP hS dX1_dead_45
    · have h := mif_t c14 h
      refine u_aload_n (r := some a0) hx hb dX1_dead_30 rfl (lv_at hl 0 rfl) ?_
      refine lv_iconst (v := 2) hx hb dX1_dead_31 (by decide) ?_
      obtain ⟨c21, h⟩ := mif_n h
      obtain ⟨r24, u22, c23, h⟩ := ucall_n h
      have zu22 := zz_X1_denied N (ub G) (ug G) u11 a0 2 r24 u22 c23
      refine u_calli (va_runV (As := [.int 2]) (rest := []) hC.1 (met_X1_denied l N G u11 a0 2 r24 u22 c23) (cwV 1 hts (lw_V q1101 q1103 qs16 q98 q1104) rfl rfl rfl (by decide +kernel) ⟨Nat.le_trans (Nat.le_of_ble_eq_true rfl) hR.1, Nat.le_trans (Nat.le_of_ble_eq_true rfl) hR.2⟩) ⟨uPc_blind, u_rcv hC hP c21 rfl, fun U hU hW => u_pre hC hP hS hU hW⟩ rfl rfl hl.1 rfl (lv_room (Nat.le_of_ble_eq_true rfl)) dX1_dead_32 ⟨Nat.zero_le _, Nat.zero_le _⟩) hS (fun H locs hP hS => ?_)
      obtain ⟨c25, h⟩ := mif_n h
      obtain ⟨hr1, hr2⟩ := uret_n h
      subst hr1
      subst hr2
      exact u_zret hC (uFit_n c25).1 hP hS dX1_dead_35
theorem zz_X1_dead (N b : Nat) (g : uEnv) (u : UH) (a0 : Nat) (x1 : Int32) (r : Int32) (uf : UH) (h : f_X1_dead N b g u a0 x1 = some (r, uf)) : uf.1 = u.1 ∧ uf.2.1 = u.2.1 :=
  zz_X1_dead_0 (G := ((fun _ => 0, fun _ _ => 0), fun _ => 0, b, g)) (a0 := a0) N u x1 h
theorem met_X1_dead (l : Launch) (N : Nat) (G : uG) (u : UH) (a0 : Nat) (x1 : Int32) (r : Int32) (uf : UH) (h : f_X1_dead N (ub G) (ug G) u a0 x1 = some (r, uf)) : Met l yX1_dead (ws_ yX1_dead cX1_dead 2 (some .boolean)) ({ frames := 2, cells := 0, slots := 0, locals := 42 }) (uPc G u [.ref a0, .int x1]) (uQi G r uf) 0 0 (uA G) := by
  exact u_met (own := RX1) (by decide +kernel) rfl (Nat.le_of_ble_eq_true rfl) (fun hC hn hsz ls hl hP => w_X1_dead_0 hC ⟨Nat.le_refl _, Nat.le_refl _⟩ N u x1 h hP va_S.rf hl)
def f_X1_dig_24 (N b : Nat) (g : uEnv) (a0 : Nat) (u : UH) : Option (Int32 × UH) :=
    if uIs u a0 0 = true then
    ucall (f_X1_denied N b g u a0 1) fun r4 u2 =>
    if uFit .boolean r4 = true then
    some (r4, u2)
    else none
    else none
set_option maxHeartbeats 4000000 in
set_option maxRecDepth 100000 in
theorem zz_X1_dig_24 {G : uG} {a0 : Nat} {uf : UH} {r : Int32} (N : Nat) (u : UH) (h : f_X1_dig_24 N (ub G) (ug G) a0 u = some (r, uf)) : uf.1 = u.1 ∧ uf.2.1 = u.2.1 := by
  unfold f_X1_dig_24 at h
  obtain ⟨c1, h⟩ := mif_n h
  obtain ⟨r4, u2, c3, h⟩ := ucall_n h
  have zu2 := zz_X1_denied N (ub G) (ug G) u a0 1 r4 u2 c3
  obtain ⟨c5, h⟩ := mif_n h
  obtain ⟨hr1, hr2⟩ := uret_n h
  subst hr2
  exact ⟨by omega, by omega⟩
set_option maxHeartbeats 4000000 in
set_option maxRecDepth 100000 in
theorem w_X1_dig_24 {p : Program} {l : Launch} {e : Env} {R : Room} {s : State} {m : MethodId} {args : Array Value} {below : List Frame} {meth : Method} {c : Code} {G : uG} {a0 : Nat} {uf : UH} {r : Int32} (hC : uC p s m args meth c G RX1 cX1_dig 3 (some .boolean)) (hR : 2 ≤ R.frames ∧ 42 ≤ R.locals) (N : Nat) (u : UH) (h : f_X1_dig_24 N (ub G) (ug G) a0 u = some (r, uf)) {H : Heap} {locs : List Loc} (hP : uP G u H) (hS : va_S (uA G) s.heap H locs) {ls : Array Slot} (hl : lv_has ls 3 [(0, va_rf (some a0))]) : W p l e R s m args below meth c H locs 0 0 (MQ below (uQi G r uf) args s 0 0 (uA G)) (F0 m 24 ls []) := by
  obtain ⟨⟨hx, hb, hml, hown, hts⟩, hKK⟩ := id hC
  unfold f_X1_dig_24 at h
  refine u_aload_n (r := some a0) hx hb dX1_dig_24 rfl (lv_at hl 0 rfl) ?_
  refine lv_iconst (v := 1) hx hb dX1_dig_25 (by decide) ?_
  obtain ⟨c1, h⟩ := mif_n h
  obtain ⟨r4, u2, c3, h⟩ := ucall_n h
  have zu2 := zz_X1_denied N (ub G) (ug G) u a0 1 r4 u2 c3
  refine u_calli (va_runV (As := [.int 1]) (rest := []) hC.1 (met_X1_denied l N G u a0 1 r4 u2 c3) (cwV 1 hts (lw_V q1101 q1103 qs16 q98 q1104) rfl rfl rfl (by decide +kernel) ⟨Nat.le_trans (Nat.le_of_ble_eq_true rfl) hR.1, Nat.le_trans (Nat.le_of_ble_eq_true rfl) hR.2⟩) ⟨uPc_blind, u_rcv hC hP c1 rfl, fun U hU hW => u_pre hC hP hS hU hW⟩ rfl rfl hl.1 rfl (lv_room (Nat.le_of_ble_eq_true rfl)) dX1_dig_26 ⟨Nat.zero_le _, Nat.zero_le _⟩) hS (fun H locs hP hS => ?_)
  obtain ⟨c5, h⟩ := mif_n h
  obtain ⟨hr1, hr2⟩ := uret_n h
  subst hr1
  subst hr2
  exact u_zret hC (uFit_n c5).1 hP hS dX1_dig_29
def f_X1_dig (N b : Nat) (g : uEnv) (u : UH) (a0 : Nat) (x1 : Int32) (x2 : Int32) : Option (Int32 × UH) :=
    (uGR u a0 0 2).bind fun o1 =>
    ucase o1 (
    f_X1_dig_24 N b g a0 u) fun a2 =>
    (uGR u a0 0 2).bind fun o3 =>
    (o3).bind fun a4 =>
    (uGI u a4 3 3).bind fun y5 =>
    ucall (f_X1_in N b g u x1 0 (y5 - 1)) fun r8 u6 =>
    if r8 = 0 then
    f_X1_dig_24 N b g a0 u6
    else
    ucall (f_X1_in N b g u6 x2 0 4) fun r12 u10 =>
    if r12 = 0 then
    if uIs u10 a0 0 = true then
    ucall (f_X1_denied N b g u10 a0 2) fun r25 u23 =>
    if uFit .boolean r25 = true then
    some (r25, u23)
    else none
    else none
    else
    (uGR u10 a0 0 14).bind fun o14 =>
    (o14).bind fun a15 =>
    (uStI b u10 a15 0 x1 x2).bind fun u16 =>
    if uIs u16 a0 0 = true then
    ucall (f_X1_granted N b g u16 a0) fun r20 u18 =>
    if uFit .boolean r20 = true then
    some (r20, u18)
    else none
    else none
set_option maxHeartbeats 4000000 in
set_option maxRecDepth 100000 in
theorem zz_X1_dig_0 {G : uG} {a0 : Nat} {uf : UH} {r : Int32} (N : Nat) (u : UH) (x1 : Int32) (x2 : Int32) (h : f_X1_dig N (ub G) (ug G) u a0 x1 x2 = some (r, uf)) : uf.1 = u.1 ∧ uf.2.1 = u.2.1 := by
  unfold f_X1_dig at h
  obtain ⟨o1, ho1, h⟩ := mbind_n h
  rcases o1 with _ | a2
  · have h := ucase_n h
    have hq := zz_X1_dig_24 (G := G) (a0 := a0) N u h
    exact ⟨by omega, by omega⟩
  · have h := ucase_s h
    obtain ⟨o3, ho3, h⟩ := mbind_n h
    obtain ⟨a4, ha4, hha4⟩ := mbind_n h
    subst ha4
    have h := hha4
    obtain ⟨y5, hy5, h⟩ := mbind_n h
    obtain ⟨r8, u6, c7, h⟩ := ucall_n h
    have zu6 := zz_X1_in N (ub G) (ug G) u x1 0 (y5 - 1) r8 u6 c7
    by_cases c9 : r8 = 0
    · have h := mif_t c9 h
      have hq := zz_X1_dig_24 (G := G) (a0 := a0) N u6 h
      exact ⟨by omega, by omega⟩
    · have h := mif_f c9 h
      obtain ⟨r12, u10, c11, h⟩ := ucall_n h
      have zu10 := zz_X1_in N (ub G) (ug G) u6 x2 0 4 r12 u10 c11
      by_cases c13 : r12 = 0
      · have h := mif_t c13 h
        obtain ⟨c22, h⟩ := mif_n h
        obtain ⟨r25, u23, c24, h⟩ := ucall_n h
        have zu23 := zz_X1_denied N (ub G) (ug G) u10 a0 2 r25 u23 c24
        obtain ⟨c26, h⟩ := mif_n h
        obtain ⟨hr1, hr2⟩ := uret_n h
        subst hr2
        exact ⟨by omega, by omega⟩
      · have h := mif_f c13 h
        obtain ⟨o14, ho14, h⟩ := mbind_n h
        obtain ⟨a15, ha15, hha15⟩ := mbind_n h
        subst ha15
        have h := hha15
        obtain ⟨u16, hu16, h⟩ := mbind_n h
        have zu16 := uStI_sz hu16
        obtain ⟨c17, h⟩ := mif_n h
        obtain ⟨r20, u18, c19, h⟩ := ucall_n h
        have zu18 := zz_X1_granted N (ub G) (ug G) u16 a0 r20 u18 c19
        obtain ⟨c21, h⟩ := mif_n h
        obtain ⟨hr1, hr2⟩ := uret_n h
        subst hr2
        exact ⟨by omega, by omega⟩
set_option maxHeartbeats 4000000 in
set_option maxRecDepth 100000 in
theorem w_X1_dig_0 {p : Program} {l : Launch} {e : Env} {R : Room} {s : State} {m : MethodId} {args : Array Value} {below : List Frame} {meth : Method} {c : Code} {G : uG} {a0 : Nat} {uf : UH} {r : Int32} (hC : uC p s m args meth c G RX1 cX1_dig 3 (some .boolean)) (hR : 2 ≤ R.frames ∧ 42 ≤ R.locals) (N : Nat) (u : UH) (x1 : Int32) (x2 : Int32) (h : f_X1_dig N (ub G) (ug G) u a0 x1 x2 = some (r, uf)) {H : Heap} {locs : List Loc} (hP : uP G u H) (hS : va_S (uA G) s.heap H locs) {ls : Array Slot} (hl : lv_has ls 3 [(0, va_rf (some a0)), (1, .int x1), (2, .int x2)]) : W p l e R s m args below meth c H locs 0 0 (MQ below (uQi G r uf) args s 0 0 (uA G)) (F0 m 0 ls []) := by
  obtain ⟨⟨hx, hb, hml, hown, hts⟩, hKK⟩ := id hC
  unfold f_X1_dig at h
  refine u_aload_n (r := some a0) hx hb dX1_dig_0 rfl (lv_at hl 0 rfl) ?_
  obtain ⟨o1, ho1, h⟩ := mbind_n h
  refine u_get hC hP (uGR_n ho1) rfl in_X1 (by decide) q217 (fun _ h => h) dX1_dig_1 ?_
  rcases o1 with _ | a2
  · have h := ucase_n h
    refine lv_ifnullN (tgt := 24) hx hb dX1_dig_4 (by decide) ?_
    exact w_X1_dig_24 hC hR N u h hP hS (lv_sub hl [0] rfl)
  · have h := ucase_s h
    refine lv_ifnull hx hb dX1_dig_4 ?_
    refine lv_iload_n hx hb dX1_dig_7 rfl (lv_at hl 1 rfl) ?_
    refine lv_iconst (v := 0) hx hb dX1_dig_8 (by decide) ?_
    refine u_aload_n (r := some a0) hx hb dX1_dig_9 rfl (lv_at hl 0 rfl) ?_
    obtain ⟨o3, ho3, h⟩ := mbind_n h
    refine u_get hC hP (uGR_n ho3) rfl in_X1 (by decide) q217 (fun _ h => h) dX1_dig_10 ?_
    obtain ⟨a4, ha4, hha4⟩ := mbind_n h
    subst ha4
    have h := hha4
    obtain ⟨y5, hy5, h⟩ := mbind_n h
    refine u_getN hC hP (uGI_n hy5) rfl in_X4 (by decide) q299 (fun _ h => h) dX1_dig_13 ?_
    refine lv_iconst (v := 1) hx hb dX1_dig_16 (by decide) ?_
    refine lv_isub hx hb dX1_dig_17 ?_
    obtain ⟨r8, u6, c7, h⟩ := ucall_n h
    have zu6 := zz_X1_in N (ub G) (ug G) u x1 0 (y5 - 1) r8 u6 c7
    refine u_calli (va_runS (As := [.int x1, .int 0, .int (y5 - 1)]) (rest := []) hC.1 (met_X1_in l N G u x1 0 (y5 - 1) r8 u6 c7) (va_cwS 3 hts (lw_S q273 q274 q98 q275) rfl rfl rfl (by decide +kernel) ⟨Nat.le_trans (Nat.le_of_ble_eq_true rfl) hR.1, Nat.le_trans (Nat.le_of_ble_eq_true rfl) hR.2⟩) ⟨uPc_blind, fun U hU hW => u_pre hC hP hS hU hW⟩ rfl rfl hl.1 rfl (lv_room (Nat.le_of_ble_eq_true rfl)) dX1_dig_18 ⟨Nat.zero_le _, Nat.zero_le _⟩) hS (fun H locs hP hS => ?_)
    refine lv_if_ne (tgt := 30) hx hb dX1_dig_21 (by decide) (fun c9 => ?_) (fun c9 => ?_)
    · have h := mif_f c9 h
      refine lv_iload_n hx hb dX1_dig_30 rfl (lv_at hl 2 rfl) ?_
      refine lv_iconst (v := 0) hx hb dX1_dig_31 (by decide) ?_
      refine lv_iconst (v := 4) hx hb dX1_dig_32 (by decide) ?_
      obtain ⟨r12, u10, c11, h⟩ := ucall_n h
      have zu10 := zz_X1_in N (ub G) (ug G) u6 x2 0 4 r12 u10 c11
      refine u_calli (va_runS (As := [.int x2, .int 0, .int 4]) (rest := []) hC.1 (met_X1_in l N G u6 x2 0 4 r12 u10 c11) (va_cwS 3 hts (lw_S q273 q274 q98 q275) rfl rfl rfl (by decide +kernel) ⟨Nat.le_trans (Nat.le_of_ble_eq_true rfl) hR.1, Nat.le_trans (Nat.le_of_ble_eq_true rfl) hR.2⟩) ⟨uPc_blind, fun U hU hW => u_pre hC hP hS hU hW⟩ rfl rfl hl.1 rfl (lv_room (Nat.le_of_ble_eq_true rfl)) dX1_dig_33 ⟨Nat.zero_le _, Nat.zero_le _⟩) hS (fun H locs hP hS => ?_)
      refine lv_if_ne (tgt := 45) hx hb dX1_dig_36 (by decide) (fun c13 => ?_) (fun c13 => ?_)
      · have h := mif_f c13 h
        refine u_aload_n (r := some a0) hx hb dX1_dig_45 rfl (lv_at hl 0 rfl) ?_
        obtain ⟨o14, ho14, h⟩ := mbind_n h
        refine u_get hC hP (uGR_n ho14) rfl in_X1 (by decide) q229 (fun _ h => h) dX1_dig_46 ?_
        refine lv_iload_n hx hb dX1_dig_49 rfl (lv_at hl 1 rfl) ?_
        refine lv_iload_n hx hb dX1_dig_50 rfl (lv_at hl 2 rfl) ?_
        obtain ⟨a15, ha15, hha15⟩ := mbind_n h
        subst ha15
        have h := hha15
        obtain ⟨u16, hu16, h⟩ := mbind_n h
        have zu16 := uStI_sz hu16
        refine u_iast hC hP hS hu16 rfl dX1_dig_51 (fun H locs hP hS => ?_)
        refine u_aload_n (r := some a0) hx hb dX1_dig_52 rfl (lv_at hl 0 rfl) ?_
        obtain ⟨c17, h⟩ := mif_n h
        obtain ⟨r20, u18, c19, h⟩ := ucall_n h
        have zu18 := zz_X1_granted N (ub G) (ug G) u16 a0 r20 u18 c19
        refine u_calli (va_runV (As := []) (rest := []) hC.1 (met_X1_granted l N G u16 a0 r20 u18 c19) (cwV 0 hts (lw_V q1105 q1107 qs17 q98 q1108) rfl rfl rfl (by decide +kernel) ⟨Nat.le_trans (Nat.le_of_ble_eq_true rfl) hR.1, Nat.le_trans (Nat.le_of_ble_eq_true rfl) hR.2⟩) ⟨uPc_blind, u_rcv hC hP c17 rfl, fun U hU hW => u_pre hC hP hS hU hW⟩ rfl rfl hl.1 rfl (lv_room (Nat.le_of_ble_eq_true rfl)) dX1_dig_53 ⟨Nat.zero_le _, Nat.zero_le _⟩) hS (fun H locs hP hS => ?_)
        obtain ⟨c21, h⟩ := mif_n h
        obtain ⟨hr1, hr2⟩ := uret_n h
        subst hr1
        subst hr2
        exact u_zret hC (uFit_n c21).1 hP hS dX1_dig_56
      · have h := mif_t c13 h
        refine u_aload_n (r := some a0) hx hb dX1_dig_39 rfl (lv_at hl 0 rfl) ?_
        refine lv_iconst (v := 2) hx hb dX1_dig_40 (by decide) ?_
        obtain ⟨c22, h⟩ := mif_n h
        obtain ⟨r25, u23, c24, h⟩ := ucall_n h
        have zu23 := zz_X1_denied N (ub G) (ug G) u10 a0 2 r25 u23 c24
        refine u_calli (va_runV (As := [.int 2]) (rest := []) hC.1 (met_X1_denied l N G u10 a0 2 r25 u23 c24) (cwV 1 hts (lw_V q1101 q1103 qs16 q98 q1104) rfl rfl rfl (by decide +kernel) ⟨Nat.le_trans (Nat.le_of_ble_eq_true rfl) hR.1, Nat.le_trans (Nat.le_of_ble_eq_true rfl) hR.2⟩) ⟨uPc_blind, u_rcv hC hP c22 rfl, fun U hU hW => u_pre hC hP hS hU hW⟩ rfl rfl hl.1 rfl (lv_room (Nat.le_of_ble_eq_true rfl)) dX1_dig_41 ⟨Nat.zero_le _, Nat.zero_le _⟩) hS (fun H locs hP hS => ?_)
        obtain ⟨c26, h⟩ := mif_n h
        obtain ⟨hr1, hr2⟩ := uret_n h
        subst hr1
        subst hr2
        exact u_zret hC (uFit_n c26).1 hP hS dX1_dig_44
    · have h := mif_t c9 h
      exact w_X1_dig_24 hC hR N u6 h hP hS (lv_sub hl [0] rfl)
theorem zz_X1_dig (N b : Nat) (g : uEnv) (u : UH) (a0 : Nat) (x1 : Int32) (x2 : Int32) (r : Int32) (uf : UH) (h : f_X1_dig N b g u a0 x1 x2 = some (r, uf)) : uf.1 = u.1 ∧ uf.2.1 = u.2.1 :=
  zz_X1_dig_0 (G := ((fun _ => 0, fun _ _ => 0), fun _ => 0, b, g)) (a0 := a0) N u x1 x2 h
theorem met_X1_dig (l : Launch) (N : Nat) (G : uG) (u : UH) (a0 : Nat) (x1 : Int32) (x2 : Int32) (r : Int32) (uf : UH) (h : f_X1_dig N (ub G) (ug G) u a0 x1 x2 = some (r, uf)) : Met l yX1_dig (ws_ yX1_dig cX1_dig 3 (some .boolean)) ({ frames := 2, cells := 0, slots := 0, locals := 42 }) (uPc G u [.ref a0, .int x1, .int x2]) (uQi G r uf) 0 0 (uA G) := by
  exact u_met (own := RX1) (by decide +kernel) rfl (Nat.le_of_ble_eq_true rfl) (fun hC hn hsz ls hl hP => w_X1_dig_0 hC ⟨Nat.le_refl _, Nat.le_refl _⟩ N u x1 x2 h hP va_S.rf hl)
def f_X1_failed (N b : Nat) (g : uEnv) (u : UH) (a0 : Nat) (x1 : Option Nat) : Option (Int32 × UH) :=
    (x1).bind fun a1 =>
    (uGI u a1 6 6).bind fun y2 =>
    (uPut b u a0 0 6 (.int y2)).bind fun u3 =>
    (uPut b u3 a0 0 0 (.int 4)).bind fun u4 =>
    (uGI u4 a1 6 7).bind fun y5 =>
    (uPut b u4 a0 0 1 (.int y5)).bind fun u6 =>
    some ((-1), u6)
set_option maxHeartbeats 4000000 in
set_option maxRecDepth 100000 in
theorem zz_X1_failed_0 {G : uG} {a0 : Nat} {uf : UH} {r : Int32} (N : Nat) (u : UH) (x1 : Option Nat) (h : f_X1_failed N (ub G) (ug G) u a0 x1 = some (r, uf)) : uf.1 = u.1 ∧ uf.2.1 = u.2.1 := by
  unfold f_X1_failed at h
  obtain ⟨a1, ha1, hha1⟩ := mbind_n h
  subst ha1
  have h := hha1
  obtain ⟨y2, hy2, h⟩ := mbind_n h
  obtain ⟨u3, hu3, h⟩ := mbind_n h
  have zu3 := uPut_sz hu3
  obtain ⟨u4, hu4, h⟩ := mbind_n h
  have zu4 := uPut_sz hu4
  obtain ⟨y5, hy5, h⟩ := mbind_n h
  obtain ⟨u6, hu6, h⟩ := mbind_n h
  have zu6 := uPut_sz hu6
  obtain ⟨hr1, hr2⟩ := uret_n h
  subst hr2
  exact ⟨by omega, by omega⟩
set_option maxHeartbeats 4000000 in
set_option maxRecDepth 100000 in
theorem w_X1_failed_0 {p : Program} {l : Launch} {e : Env} {R : Room} {s : State} {m : MethodId} {args : Array Value} {below : List Frame} {meth : Method} {c : Code} {G : uG} {a0 : Nat} {uf : UH} {r : Int32} (hC : uC p s m args meth c G RX1 cX1_failed 2 (some .int)) (hR : 0 ≤ R.frames ∧ 0 ≤ R.locals) (N : Nat) (u : UH) (x1 : Option Nat) (h : f_X1_failed N (ub G) (ug G) u a0 x1 = some (r, uf)) {H : Heap} {locs : List Loc} (hP : uP G u H) (hS : va_S (uA G) s.heap H locs) {ls : Array Slot} (hl : lv_has ls 2 [(0, va_rf (some a0)), (1, va_rf x1)]) : W p l e R s m args below meth c H locs 0 0 (MQ below (uQi G r uf) args s 0 0 (uA G)) (F0 m 0 ls []) := by
  obtain ⟨⟨hx, hb, hml, hown, hts⟩, hKK⟩ := id hC
  unfold f_X1_failed at h
  refine u_aload_n (r := some a0) hx hb dX1_failed_0 rfl (lv_at hl 0 rfl) ?_
  refine u_aload_n (r := x1) hx hb dX1_failed_1 rfl (lv_at hl 1 rfl) ?_
  obtain ⟨a1, ha1, hha1⟩ := mbind_n h
  subst ha1
  have h := hha1
  obtain ⟨y2, hy2, h⟩ := mbind_n h
  refine u_getN hC hP (uGI_n hy2) rfl in_X8 (by decide) q832 (fun _ h => h) dX1_failed_2 ?_
  obtain ⟨u3, hu3, h⟩ := mbind_n h
  have zu3 := uPut_sz hu3
  refine u_put hC hP hS hu3 rfl in_X1 tyX1 tyX1_ok nmX1 (by decide) q221 (fun _ h => h) rfl (ty := .int) (tyX1_ok 6 (by decide)) rfl rfl dX1_failed_5 (fun H locs hP hS => ?_)
  refine u_aload_n (r := some a0) hx hb dX1_failed_8 rfl (lv_at hl 0 rfl) ?_
  refine lv_iconst (v := 4) hx hb dX1_failed_9 (by decide) ?_
  obtain ⟨u4, hu4, h⟩ := mbind_n h
  have zu4 := uPut_sz hu4
  refine u_put hC hP hS hu4 rfl in_X1 tyX1 tyX1_ok nmX1 (by decide) q215 (fun _ h => h) rfl (ty := .int) (tyX1_ok 0 (by decide)) rfl rfl dX1_failed_10 (fun H locs hP hS => ?_)
  refine u_aload_n (r := some a0) hx hb dX1_failed_13 rfl (lv_at hl 0 rfl) ?_
  refine u_aload_n (r := some a1) hx hb dX1_failed_14 rfl (lv_at hl 1 rfl) ?_
  obtain ⟨y5, hy5, h⟩ := mbind_n h
  refine u_getN hC hP (uGI_n hy5) rfl in_X8 (by decide) q834 (fun _ h => h) dX1_failed_15 ?_
  obtain ⟨u6, hu6, h⟩ := mbind_n h
  have zu6 := uPut_sz hu6
  refine u_put hC hP hS hu6 rfl in_X1 tyX1 tyX1_ok nmX1 (by decide) q216 (fun _ h => h) rfl (ty := .int) (tyX1_ok 1 (by decide)) rfl rfl dX1_failed_18 (fun H locs hP hS => ?_)
  refine lv_iconst (v := (-1)) hx hb dX1_failed_21 (by decide) ?_
  obtain ⟨hr1, hr2⟩ := uret_n h
  subst hr1
  subst hr2
  exact u_iret hC hP hS dX1_failed_22
theorem zz_X1_failed (N b : Nat) (g : uEnv) (u : UH) (a0 : Nat) (x1 : Option Nat) (r : Int32) (uf : UH) (h : f_X1_failed N b g u a0 x1 = some (r, uf)) : uf.1 = u.1 ∧ uf.2.1 = u.2.1 :=
  zz_X1_failed_0 (G := ((fun _ => 0, fun _ _ => 0), fun _ => 0, b, g)) (a0 := a0) N u x1 h
theorem met_X1_failed (l : Launch) (N : Nat) (G : uG) (u : UH) (a0 : Nat) (x1 : Option Nat) (r : Int32) (uf : UH) (h : f_X1_failed N (ub G) (ug G) u a0 x1 = some (r, uf)) : Met l yX1_failed (ws_ yX1_failed cX1_failed 2 (some .int)) ({ frames := 0, cells := 0, slots := 0, locals := 0 }) (uPc G u [.ref a0, va_rf x1]) (uQi G r uf) 0 0 (uA G) := by
  rcases x1 with _ | x1 <;> exact u_met (own := RX1) (by decide +kernel) rfl (Nat.le_of_ble_eq_true rfl) (fun hC hn hsz ls hl hP => w_X1_failed_0 hC ⟨Nat.le_refl _, Nat.le_refl _⟩ N u _ h hP va_S.rf hl)
def f_X1_first_36 (N b : Nat) (g : uEnv) (a0 : Nat) (u : UH) (s0 : Int32) : Option (Int32 × UH) :=
    some (s0, u)
set_option maxHeartbeats 4000000 in
set_option maxRecDepth 100000 in
theorem zz_X1_first_36 {G : uG} {a0 : Nat} {uf : UH} {r : Int32} (N : Nat) (u : UH) (s0 : Int32) (h : f_X1_first_36 N (ub G) (ug G) a0 u s0 = some (r, uf)) : uf.1 = u.1 ∧ uf.2.1 = u.2.1 := by
  unfold f_X1_first_36 at h
  obtain ⟨hr1, hr2⟩ := uret_n h
  subst hr2
  exact ⟨by omega, by omega⟩
set_option maxHeartbeats 4000000 in
set_option maxRecDepth 100000 in
theorem w_X1_first_36 {p : Program} {l : Launch} {e : Env} {R : Room} {s : State} {m : MethodId} {args : Array Value} {below : List Frame} {meth : Method} {c : Code} {G : uG} {a0 : Nat} {uf : UH} {r : Int32} (hC : uC p s m args meth c G RX1 cX1_first 2 (some .int)) (hR : 0 ≤ R.frames ∧ 0 ≤ R.locals) (N : Nat) (u : UH) (s0 : Int32) (h : f_X1_first_36 N (ub G) (ug G) a0 u s0 = some (r, uf)) {H : Heap} {locs : List Loc} (hP : uP G u H) (hS : va_S (uA G) s.heap H locs) {ls : Array Slot} (hl : lv_has ls 2 []) : W p l e R s m args below meth c H locs 0 0 (MQ below (uQi G r uf) args s 0 0 (uA G)) (F0 m 36 ls [.int s0]) := by
  obtain ⟨⟨hx, hb, hml, hown, hts⟩, hKK⟩ := id hC
  unfold f_X1_first_36 at h
  obtain ⟨hr1, hr2⟩ := uret_n h
  subst hr1
  subst hr2
  exact u_iret hC hP hS dX1_first_36
def f_X1_first (N b : Nat) (g : uEnv) (u : UH) (a0 : Nat) (x1 : Int32) : Option (Int32 × UH) :=
    if x1 = 0 then
    (uGI u a0 0 11).bind fun y6 =>
    f_X1_first_36 N b g a0 u y6
    else
    if x1 = 1 then
    (uGI u a0 0 12).bind fun y5 =>
    f_X1_first_36 N b g a0 u y5
    else
    if x1 = 2 then
    (uGI u a0 0 13).bind fun y4 =>
    f_X1_first_36 N b g a0 u y4
    else
    f_X1_first_36 N b g a0 u (-1)
set_option maxHeartbeats 4000000 in
set_option maxRecDepth 100000 in
theorem zz_X1_first_0 {G : uG} {a0 : Nat} {uf : UH} {r : Int32} (N : Nat) (u : UH) (x1 : Int32) (h : f_X1_first N (ub G) (ug G) u a0 x1 = some (r, uf)) : uf.1 = u.1 ∧ uf.2.1 = u.2.1 := by
  unfold f_X1_first at h
  by_cases c1 : x1 = 0
  · have h := mif_t c1 h
    obtain ⟨y6, hy6, h⟩ := mbind_n h
    have hq := zz_X1_first_36 (G := G) (a0 := a0) N u y6 h
    exact ⟨by omega, by omega⟩
  · have h := mif_f c1 h
    by_cases c2 : x1 = 1
    · have h := mif_t c2 h
      obtain ⟨y5, hy5, h⟩ := mbind_n h
      have hq := zz_X1_first_36 (G := G) (a0 := a0) N u y5 h
      exact ⟨by omega, by omega⟩
    · have h := mif_f c2 h
      by_cases c3 : x1 = 2
      · have h := mif_t c3 h
        obtain ⟨y4, hy4, h⟩ := mbind_n h
        have hq := zz_X1_first_36 (G := G) (a0 := a0) N u y4 h
        exact ⟨by omega, by omega⟩
      · have h := mif_f c3 h
        have hq := zz_X1_first_36 (G := G) (a0 := a0) N u (-1) h
        exact ⟨by omega, by omega⟩
set_option maxHeartbeats 4000000 in
set_option maxRecDepth 100000 in
theorem w_X1_first_0 {p : Program} {l : Launch} {e : Env} {R : Room} {s : State} {m : MethodId} {args : Array Value} {below : List Frame} {meth : Method} {c : Code} {G : uG} {a0 : Nat} {uf : UH} {r : Int32} (hC : uC p s m args meth c G RX1 cX1_first 2 (some .int)) (hR : 0 ≤ R.frames ∧ 0 ≤ R.locals) (N : Nat) (u : UH) (x1 : Int32) (h : f_X1_first N (ub G) (ug G) u a0 x1 = some (r, uf)) {H : Heap} {locs : List Loc} (hP : uP G u H) (hS : va_S (uA G) s.heap H locs) {ls : Array Slot} (hl : lv_has ls 2 [(0, va_rf (some a0)), (1, .int x1)]) : W p l e R s m args below meth c H locs 0 0 (MQ below (uQi G r uf) args s 0 0 (uA G)) (F0 m 0 ls []) := by
  obtain ⟨⟨hx, hb, hml, hown, hts⟩, hKK⟩ := id hC
  unfold f_X1_first at h
  refine lv_iload_n hx hb dX1_first_0 rfl (lv_at hl 1 rfl) ?_
  refine lv_if_ne (tgt := 11) hx hb dX1_first_1 (by decide) (fun c1 => ?_) (fun c1 => ?_)
  · have h := mif_f c1 h
    refine lv_iload_n hx hb dX1_first_11 rfl (lv_at hl 1 rfl) ?_
    refine lv_iconst (v := 1) hx hb dX1_first_12 (by decide) ?_
    refine lv_icmp_ne (tgt := 23) hx hb dX1_first_13 (by decide) (fun c2 => ?_) (fun c2 => ?_)
    · have h := mif_f c2 h
      refine lv_iload_n hx hb dX1_first_23 rfl (lv_at hl 1 rfl) ?_
      refine lv_iconst (v := 2) hx hb dX1_first_24 (by decide) ?_
      refine lv_icmp_ne (tgt := 35) hx hb dX1_first_25 (by decide) (fun c3 => ?_) (fun c3 => ?_)
      · have h := mif_f c3 h
        refine lv_iconst (v := (-1)) hx hb dX1_first_35 (by decide) ?_
        exact w_X1_first_36 hC hR N u (-1) h hP hS (lv_sub hl [] rfl)
      · have h := mif_t c3 h
        refine u_aload_n (r := some a0) hx hb dX1_first_28 rfl (lv_at hl 0 rfl) ?_
        obtain ⟨y4, hy4, h⟩ := mbind_n h
        refine u_get hC hP (uGI_n hy4) rfl in_X1 (by decide) q228 (fun _ h => h) dX1_first_29 ?_
        refine lv_goto (tgt := 36) hx hb dX1_first_32 (by decide) ?_
        exact w_X1_first_36 hC hR N u y4 h hP hS (lv_sub hl [] rfl)
    · have h := mif_t c2 h
      refine u_aload_n (r := some a0) hx hb dX1_first_16 rfl (lv_at hl 0 rfl) ?_
      obtain ⟨y5, hy5, h⟩ := mbind_n h
      refine u_get hC hP (uGI_n hy5) rfl in_X1 (by decide) q227 (fun _ h => h) dX1_first_17 ?_
      refine lv_goto (tgt := 36) hx hb dX1_first_20 (by decide) ?_
      exact w_X1_first_36 hC hR N u y5 h hP hS (lv_sub hl [] rfl)
  · have h := mif_t c1 h
    refine u_aload_n (r := some a0) hx hb dX1_first_4 rfl (lv_at hl 0 rfl) ?_
    obtain ⟨y6, hy6, h⟩ := mbind_n h
    refine u_get hC hP (uGI_n hy6) rfl in_X1 (by decide) q226 (fun _ h => h) dX1_first_5 ?_
    refine lv_goto (tgt := 36) hx hb dX1_first_8 (by decide) ?_
    exact w_X1_first_36 hC hR N u y6 h hP hS (lv_sub hl [] rfl)
theorem zz_X1_first (N b : Nat) (g : uEnv) (u : UH) (a0 : Nat) (x1 : Int32) (r : Int32) (uf : UH) (h : f_X1_first N b g u a0 x1 = some (r, uf)) : uf.1 = u.1 ∧ uf.2.1 = u.2.1 :=
  zz_X1_first_0 (G := ((fun _ => 0, fun _ _ => 0), fun _ => 0, b, g)) (a0 := a0) N u x1 h
theorem met_X1_first (l : Launch) (N : Nat) (G : uG) (u : UH) (a0 : Nat) (x1 : Int32) (r : Int32) (uf : UH) (h : f_X1_first N (ub G) (ug G) u a0 x1 = some (r, uf)) : Met l yX1_first (ws_ yX1_first cX1_first 2 (some .int)) ({ frames := 0, cells := 0, slots := 0, locals := 0 }) (uPc G u [.ref a0, .int x1]) (uQi G r uf) 0 0 (uA G) := by
  exact u_met (own := RX1) (by decide +kernel) rfl (Nat.le_of_ble_eq_true rfl) (fun hC hn hsz ls hl hP => w_X1_first_0 hC ⟨Nat.le_refl _, Nat.le_refl _⟩ N u x1 h hP va_S.rf hl)

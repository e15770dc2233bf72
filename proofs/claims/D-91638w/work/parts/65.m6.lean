/-! BY gen_heap.py: X3_out X3_reads X3_plan X3_regret X3_run X3_sink X3_spared X3_step X3_thrown X3_told X3_trouble X3_truth X3_truths X3_tryAt X3_way -/
def f_X3_out_52 (N b : Nat) (g : uEnv) (a0 : Nat) (u : UH) (s0 : Int32) : Option (Int32 × UH) :=
    some (s0, u)
set_option maxHeartbeats 4000000 in
set_option maxRecDepth 100000 in
theorem zz_X3_out_52 {G : uG} {a0 : Nat} {uf : UH} {r : Int32} (N : Nat) (u : UH) (s0 : Int32) (h : f_X3_out_52 N (ub G) (ug G) a0 u s0 = some (r, uf)) : uf.1 = u.1 ∧ uf.2.1 = u.2.1 := by
  unfold f_X3_out_52 at h
  obtain ⟨hr1, hr2⟩ := uret_n h
  subst hr2
  exact ⟨by omega, by omega⟩
set_option maxHeartbeats 4000000 in
set_option maxRecDepth 100000 in
theorem w_X3_out_52 {p : Program} {l : Launch} {e : Env} {R : Room} {s : State} {m : MethodId} {args : Array Value} {below : List Frame} {meth : Method} {c : Code} {G : uG} {a0 : Nat} {uf : UH} {r : Int32} (hC : uC p s m args meth c G RX3 cX3_out 2 (some .int)) (hR : 2 ≤ R.frames ∧ 54 ≤ R.locals) (N : Nat) (u : UH) (s0 : Int32) (h : f_X3_out_52 N (ub G) (ug G) a0 u s0 = some (r, uf)) {H : Heap} {locs : List Loc} (hP : uP G u H) (hS : va_S (uA G) s.heap H locs) {ls : Array Slot} (hl : lv_has ls 2 []) : W p l e R s m args below meth c H locs 0 0 (MQ below (uQi G r uf) args s 0 0 (uA G)) (F0 m 52 ls [.int s0]) := by
  obtain ⟨⟨hx, hb, hml, hown, hts⟩, hKK⟩ := id hC
  unfold f_X3_out_52 at h
  obtain ⟨hr1, hr2⟩ := uret_n h
  subst hr1
  subst hr2
  exact u_iret hC hP hS dX3_out_52
def f_X3_out (N b : Nat) (g : uEnv) (u : UH) (a0 : Nat) : Option (Int32 × UH) :=
    if uIs u a0 2 = true then
    (f_X3_good N b g u a0).bind fun u2 =>
    (uGI u2 a0 2 12).bind fun y4 =>
    if y4 = 0 then
    if uIs u2 a0 2 = true then
    ucall (f_X3_no N b g u2 a0 1) fun r24 u22 =>
    some (r24, u22)
    else none
    else
    if uIs u2 a0 2 = true then
    (f_X3_digs N b g u2 a0).bind fun u7 =>
    (uGR u7 a0 2 68).bind fun o9 =>
    if uIs u7 a0 2 = true then
    ucall (f_X3_digState N b g u7 a0) fun r13 u11 =>
    (o9).bind fun a14 =>
    (uLdI u11 a14 0 r13).bind fun y15 =>
    if y15 = 2000000000 then
    if uIs u11 a0 2 = true then
    ucall (f_X3_no N b g u11 a0 6) fun r20 u18 =>
    f_X3_out_52 N b g a0 u18 r20
    else none
    else
    f_X3_out_52 N b g a0 u11 (y15 / 10000)
    else none
    else none
    else none
set_option maxHeartbeats 4000000 in
set_option maxRecDepth 100000 in
theorem zz_X3_out_0 {G : uG} {a0 : Nat} {uf : UH} {r : Int32} (N : Nat) (u : UH) (h : f_X3_out N (ub G) (ug G) u a0 = some (r, uf)) : uf.1 = u.1 ∧ uf.2.1 = u.2.1 := by
  unfold f_X3_out at h
  obtain ⟨c1, h⟩ := mif_n h
  obtain ⟨u2, c3, h⟩ := mbind_n h
  have zu2 := zz_X3_good N (ub G) (ug G) u a0 u2 c3
  obtain ⟨y4, hy4, h⟩ := mbind_n h
  by_cases c5 : y4 = 0
  · have h := mif_t c5 h
    obtain ⟨c21, h⟩ := mif_n h
    obtain ⟨r24, u22, c23, h⟩ := ucall_n h
    have zu22 := zz_X3_no N (ub G) (ug G) u2 a0 1 r24 u22 c23
    obtain ⟨hr1, hr2⟩ := uret_n h
    subst hr2
    exact ⟨by omega, by omega⟩
  · have h := mif_f c5 h
    obtain ⟨c6, h⟩ := mif_n h
    obtain ⟨u7, c8, h⟩ := mbind_n h
    have zu7 := zz_X3_digs N (ub G) (ug G) u2 a0 u7 c8
    obtain ⟨o9, ho9, h⟩ := mbind_n h
    obtain ⟨c10, h⟩ := mif_n h
    obtain ⟨r13, u11, c12, h⟩ := ucall_n h
    have zu11 := zz_X3_digState N (ub G) (ug G) u7 a0 r13 u11 c12
    obtain ⟨a14, ha14, hha14⟩ := mbind_n h
    subst ha14
    have h := hha14
    obtain ⟨y15, hy15, h⟩ := mbind_n h
    by_cases c16 : y15 = 2000000000
    · have h := mif_t c16 h
      obtain ⟨c17, h⟩ := mif_n h
      obtain ⟨r20, u18, c19, h⟩ := ucall_n h
      have zu18 := zz_X3_no N (ub G) (ug G) u11 a0 6 r20 u18 c19
      have hq := zz_X3_out_52 (G := G) (a0 := a0) N u18 r20 h
      exact ⟨by omega, by omega⟩
    · have h := mif_f c16 h
      have hq := zz_X3_out_52 (G := G) (a0 := a0) N u11 (y15 / 10000) h
      exact ⟨by omega, by omega⟩
set_option maxHeartbeats 4000000 in
set_option maxRecDepth 100000 in
theorem w_X3_out_0 {p : Program} {l : Launch} {e : Env} {R : Room} {s : State} {m : MethodId} {args : Array Value} {below : List Frame} {meth : Method} {c : Code} {G : uG} {a0 : Nat} {uf : UH} {r : Int32} (hC : uC p s m args meth c G RX3 cX3_out 2 (some .int)) (hR : 2 ≤ R.frames ∧ 54 ≤ R.locals) (N : Nat) (u : UH) (h : f_X3_out N (ub G) (ug G) u a0 = some (r, uf)) {H : Heap} {locs : List Loc} (hP : uP G u H) (hS : va_S (uA G) s.heap H locs) {ls : Array Slot} (hl : lv_has ls 2 [(0, va_rf (some a0))]) : W p l e R s m args below meth c H locs 0 0 (MQ below (uQi G r uf) args s 0 0 (uA G)) (F0 m 0 ls []) := by
  obtain ⟨⟨hx, hb, hml, hown, hts⟩, hKK⟩ := id hC
  unfold f_X3_out at h
  refine u_aload_n (r := some a0) hx hb dX3_out_0 rfl (lv_at hl 0 rfl) ?_
  obtain ⟨c1, h⟩ := mif_n h
  obtain ⟨u2, c3, h⟩ := mbind_n h
  have zu2 := zz_X3_good N (ub G) (ug G) u a0 u2 c3
  refine u_callv (va_runV (As := []) (rest := []) hC.1 (met_X3_good l N G u a0 u2 c3) (cwV 0 hts (lw_V q2131 q2133 qs40 q103 q2134) rfl rfl rfl (by decide +kernel) ⟨Nat.le_trans (Nat.le_of_ble_eq_true rfl) hR.1, Nat.le_trans (Nat.le_of_ble_eq_true rfl) hR.2⟩) ⟨uPc_blind, u_rcv hC hP c1 rfl, fun U hU hW => u_pre hC hP hS hU hW⟩ rfl rfl hl.1 rfl (lv_room (Nat.le_of_ble_eq_true rfl)) dX3_out_1 ⟨Nat.zero_le _, Nat.zero_le _⟩) hS (fun H locs hP hS => ?_)
  refine u_aload_n (r := some a0) hx hb dX3_out_4 rfl (lv_at hl 0 rfl) ?_
  obtain ⟨y4, hy4, h⟩ := mbind_n h
  refine u_get hC hP (uGI_n hy4) rfl in_X3 (by decide) q1905 (fun _ h => h) dX3_out_5 ?_
  refine lv_if_ne (tgt := 17) hx hb dX3_out_8 (by decide) (fun c5 => ?_) (fun c5 => ?_)
  · have h := mif_f c5 h
    refine u_aload_n (r := some a0) hx hb dX3_out_17 rfl (lv_at hl 0 rfl) ?_
    obtain ⟨c6, h⟩ := mif_n h
    obtain ⟨u7, c8, h⟩ := mbind_n h
    have zu7 := zz_X3_digs N (ub G) (ug G) u2 a0 u7 c8
    refine u_callv (va_runV (As := []) (rest := []) hC.1 (met_X3_digs l N G u2 a0 u7 c8) (cwV 0 hts (lw_V q2516 q2518 qs93 q103 q2519) rfl rfl rfl (by decide +kernel) ⟨Nat.le_trans (Nat.le_of_ble_eq_true rfl) hR.1, Nat.le_trans (Nat.le_of_ble_eq_true rfl) hR.2⟩) ⟨uPc_blind, u_rcv hC hP c6 rfl, fun U hU hW => u_pre hC hP hS hU hW⟩ rfl rfl hl.1 rfl (lv_room (Nat.le_of_ble_eq_true rfl)) dX3_out_18 ⟨Nat.zero_le _, Nat.zero_le _⟩) hS (fun H locs hP hS => ?_)
    refine u_aload_n (r := some a0) hx hb dX3_out_21 rfl (lv_at hl 0 rfl) ?_
    obtain ⟨o9, ho9, h⟩ := mbind_n h
    refine u_get hC hP (uGR_n ho9) rfl in_X3 (by decide) q1961 (fun _ h => h) dX3_out_22 ?_
    refine u_aload_n (r := some a0) hx hb dX3_out_25 rfl (lv_at hl 0 rfl) ?_
    obtain ⟨c10, h⟩ := mif_n h
    obtain ⟨r13, u11, c12, h⟩ := ucall_n h
    have zu11 := zz_X3_digState N (ub G) (ug G) u7 a0 r13 u11 c12
    refine u_calli (va_runV (As := []) (rest := [va_rf o9]) hC.1 (met_X3_digState l N G u7 a0 r13 u11 c12) (cwV 0 hts (lw_V q2525 q2527 qs95 q103 q2528) rfl rfl rfl (by decide +kernel) ⟨Nat.le_trans (Nat.le_of_ble_eq_true rfl) hR.1, Nat.le_trans (Nat.le_of_ble_eq_true rfl) hR.2⟩) ⟨uPc_blind, u_rcv hC hP c10 rfl, fun U hU hW => u_pre hC hP hS hU hW⟩ rfl rfl hl.1 rfl (lv_room (by simp only [List.map, u_cat]; exact Nat.le_of_ble_eq_true rfl)) dX3_out_26 ⟨Nat.zero_le _, Nat.zero_le _⟩) hS (fun H locs hP hS => ?_)
    obtain ⟨a14, ha14, hha14⟩ := mbind_n h
    subst ha14
    have h := hha14
    obtain ⟨y15, hy15, h⟩ := mbind_n h
    refine u_iald hC hP hy15 rfl dX3_out_29 ?_
    refine lv_istore_n (i := 1) (lv' := [(1, .int y15), (0, va_rf (some a0))]) hx hb dX3_out_30 rfl hl (by decide) rfl (fun ls hl => ?_)
    refine lv_iload_n hx hb dX3_out_31 rfl (lv_at hl 0 rfl) ?_
    refine lv_ldcw hx hb hown (hts _ q2520) dX3_out_32 ?_
    refine lv_icmp_ne (tgt := 47) hx hb dX3_out_35 (by decide) (fun c16 => ?_) (fun c16 => ?_)
    · have h := mif_f c16 h
      refine lv_iload_n hx hb dX3_out_47 rfl (lv_at hl 0 rfl) ?_
      refine lv_sipush (v := 10000) hx hb dX3_out_48 (by decide) ?_
      refine lv_idiv hx hb dX3_out_51 (by decide) ?_
      exact w_X3_out_52 hC hR N u11 (y15 / 10000) h hP hS (lv_sub hl [] rfl)
    · have h := mif_t c16 h
      refine u_aload_n (r := some a0) hx hb dX3_out_38 rfl (lv_at hl 1 rfl) ?_
      refine lv_bipush (v := 6) hx hb dX3_out_39 (by decide) ?_
      obtain ⟨c17, h⟩ := mif_n h
      obtain ⟨r20, u18, c19, h⟩ := ucall_n h
      have zu18 := zz_X3_no N (ub G) (ug G) u11 a0 6 r20 u18 c19
      refine u_calli (va_runV (As := [.int 6]) (rest := []) hC.1 (met_X3_no l N G u11 a0 6 r20 u18 c19) (cwV 1 hts (lw_V q2138 q2140 qs41 q103 q2141) rfl rfl rfl (by decide +kernel) ⟨Nat.le_trans (Nat.le_of_ble_eq_true rfl) hR.1, Nat.le_trans (Nat.le_of_ble_eq_true rfl) hR.2⟩) ⟨uPc_blind, u_rcv hC hP c17 rfl, fun U hU hW => u_pre hC hP hS hU hW⟩ rfl rfl hl.1 rfl (lv_room (Nat.le_of_ble_eq_true rfl)) dX3_out_41 ⟨Nat.zero_le _, Nat.zero_le _⟩) hS (fun H locs hP hS => ?_)
      refine lv_goto (tgt := 52) hx hb dX3_out_44 (by decide) ?_
      exact w_X3_out_52 hC hR N u18 r20 h hP hS (lv_sub hl [] rfl)
  · have h := mif_t c5 h
    refine u_aload_n (r := some a0) hx hb dX3_out_11 rfl (lv_at hl 0 rfl) ?_
    refine lv_iconst (v := 1) hx hb dX3_out_12 (by decide) ?_
    obtain ⟨c21, h⟩ := mif_n h
    obtain ⟨r24, u22, c23, h⟩ := ucall_n h
    have zu22 := zz_X3_no N (ub G) (ug G) u2 a0 1 r24 u22 c23
    refine u_calli (va_runV (As := [.int 1]) (rest := []) hC.1 (met_X3_no l N G u2 a0 1 r24 u22 c23) (cwV 1 hts (lw_V q2138 q2140 qs41 q103 q2141) rfl rfl rfl (by decide +kernel) ⟨Nat.le_trans (Nat.le_of_ble_eq_true rfl) hR.1, Nat.le_trans (Nat.le_of_ble_eq_true rfl) hR.2⟩) ⟨uPc_blind, u_rcv hC hP c21 rfl, fun U hU hW => u_pre hC hP hS hU hW⟩ rfl rfl hl.1 rfl (lv_room (Nat.le_of_ble_eq_true rfl)) dX3_out_13 ⟨Nat.zero_le _, Nat.zero_le _⟩) hS (fun H locs hP hS => ?_)
    obtain ⟨hr1, hr2⟩ := uret_n h
    subst hr1
    subst hr2
    exact u_iret hC hP hS dX3_out_16
theorem zz_X3_out (N b : Nat) (g : uEnv) (u : UH) (a0 : Nat) (r : Int32) (uf : UH) (h : f_X3_out N b g u a0 = some (r, uf)) : uf.1 = u.1 ∧ uf.2.1 = u.2.1 :=
  zz_X3_out_0 (G := ((fun _ => 0, fun _ _ => 0), fun _ => 0, b, g)) (a0 := a0) N u h
theorem met_X3_out (l : Launch) (N : Nat) (G : uG) (u : UH) (a0 : Nat) (r : Int32) (uf : UH) (h : f_X3_out N (ub G) (ug G) u a0 = some (r, uf)) : Met l yX3_out (ws_ yX3_out cX3_out 2 (some .int)) ({ frames := 2, cells := 0, slots := 0, locals := 54 }) (uPc G u [.ref a0]) (uQi G r uf) 0 0 (uA G) := by
  exact u_met (own := RX3) (by decide +kernel) rfl (Nat.le_of_ble_eq_true rfl) (fun hC hn hsz ls hl hP => w_X3_out_0 hC ⟨Nat.le_refl _, Nat.le_refl _⟩ N u h hP va_S.rf hl)
def f_X3_reads_244 (N b : Nat) (g : uEnv) (a0 : Nat) (u : UH) : Option (UH) :=
    some u
set_option maxHeartbeats 4000000 in
set_option maxRecDepth 100000 in
theorem zz_X3_reads_244 {G : uG} {a0 : Nat} {uf : UH} (N : Nat) (u : UH) (h : f_X3_reads_244 N (ub G) (ug G) a0 u = some uf) : uf.1 = u.1 ∧ uf.2.1 = u.2.1 := by
  unfold f_X3_reads_244 at h
  cases h
  exact ⟨by omega, by omega⟩
set_option maxHeartbeats 4000000 in
set_option maxRecDepth 100000 in
theorem w_X3_reads_244 {p : Program} {l : Launch} {e : Env} {R : Room} {s : State} {m : MethodId} {args : Array Value} {below : List Frame} {meth : Method} {c : Code} {G : uG} {a0 : Nat} {uf : UH} (hC : uC p s m args meth c G RX3 cX3_reads 6 none) (hR : 7 ≤ R.frames ∧ 154 ≤ R.locals) (N : Nat) (u : UH) (h : f_X3_reads_244 N (ub G) (ug G) a0 u = some uf) {H : Heap} {locs : List Loc} (hP : uP G u H) (hS : va_S (uA G) s.heap H locs) {ls : Array Slot} (hl : lv_has ls 6 []) : W p l e R s m args below meth c H locs 0 0 (MQ below (uQv G uf) args s 0 0 (uA G)) (F0 m 244 ls []) := by
  obtain ⟨⟨hx, hb, hml, hown, hts⟩, hKK⟩ := id hC
  unfold f_X3_reads_244 at h
  cases h
  exact u_vret hC hP hS dX3_reads_244
def f_X3_reads_234 (N b : Nat) (g : uEnv) (a0 : Nat) (u : UH) : Option (UH) :=
    (uGI u a0 2 4).bind fun y1 =>
    if uIs u a0 2 = true then
    ucall (f_X3_wrong N b g u a0 1 y1) fun r5 u3 =>
    f_X3_reads_244 N b g a0 u3
    else none
set_option maxHeartbeats 4000000 in
set_option maxRecDepth 100000 in
theorem zz_X3_reads_234 {G : uG} {a0 : Nat} {uf : UH} (N : Nat) (u : UH) (h : f_X3_reads_234 N (ub G) (ug G) a0 u = some uf) : uf.1 = u.1 ∧ uf.2.1 = u.2.1 := by
  unfold f_X3_reads_234 at h
  obtain ⟨y1, hy1, h⟩ := mbind_n h
  obtain ⟨c2, h⟩ := mif_n h
  obtain ⟨r5, u3, c4, h⟩ := ucall_n h
  have zu3 := zz_X3_wrong N (ub G) (ug G) u a0 1 y1 r5 u3 c4
  have hq := zz_X3_reads_244 (G := G) (a0 := a0) N u3 h
  exact ⟨by omega, by omega⟩
set_option maxHeartbeats 4000000 in
set_option maxRecDepth 100000 in
theorem w_X3_reads_234 {p : Program} {l : Launch} {e : Env} {R : Room} {s : State} {m : MethodId} {args : Array Value} {below : List Frame} {meth : Method} {c : Code} {G : uG} {a0 : Nat} {uf : UH} (hC : uC p s m args meth c G RX3 cX3_reads 6 none) (hR : 7 ≤ R.frames ∧ 154 ≤ R.locals) (N : Nat) (u : UH) (h : f_X3_reads_234 N (ub G) (ug G) a0 u = some uf) {H : Heap} {locs : List Loc} (hP : uP G u H) (hS : va_S (uA G) s.heap H locs) {ls : Array Slot} (hl : lv_has ls 6 [(0, va_rf (some a0))]) : W p l e R s m args below meth c H locs 0 0 (MQ below (uQv G uf) args s 0 0 (uA G)) (F0 m 234 ls []) := by
  obtain ⟨⟨hx, hb, hml, hown, hts⟩, hKK⟩ := id hC
  unfold f_X3_reads_234 at h
  refine u_aload_n (r := some a0) hx hb dX3_reads_234 rfl (lv_at hl 0 rfl) ?_
  refine lv_iconst (v := 1) hx hb dX3_reads_235 (by decide) ?_
  refine u_aload_n (r := some a0) hx hb dX3_reads_236 rfl (lv_at hl 0 rfl) ?_
  obtain ⟨y1, hy1, h⟩ := mbind_n h
  refine u_get hC hP (uGI_n hy1) rfl in_X3 (by decide) q1897 (fun _ h => h) dX3_reads_237 ?_
  obtain ⟨c2, h⟩ := mif_n h
  obtain ⟨r5, u3, c4, h⟩ := ucall_n h
  have zu3 := zz_X3_wrong N (ub G) (ug G) u a0 1 y1 r5 u3 c4
  refine u_calli (va_runV (As := [.int 1, .int y1]) (rest := []) hC.1 (met_X3_wrong l N G u a0 1 y1 r5 u3 c4) (cwV 2 hts (lw_V q2196 q2198 qs51 q103 q2199) rfl rfl rfl (by decide +kernel) ⟨Nat.le_trans (Nat.le_of_ble_eq_true rfl) hR.1, Nat.le_trans (Nat.le_of_ble_eq_true rfl) hR.2⟩) ⟨uPc_blind, u_rcv hC hP c2 rfl, fun U hU hW => u_pre hC hP hS hU hW⟩ rfl rfl hl.1 rfl (lv_room (Nat.le_of_ble_eq_true rfl)) dX3_reads_240 ⟨Nat.zero_le _, Nat.zero_le _⟩) hS (fun H locs hP hS => ?_)
  refine lv_pop hx hb dX3_reads_243 rfl ?_
  exact w_X3_reads_244 hC hR N u3 h hP hS (lv_sub hl [] rfl)
def f_X3_reads_220 (N b : Nat) (g : uEnv) (a0 : Nat) (k4 : UH → Int32 → Int32 → Option (UH)) (u : UH) (x1 : Int32) (x2 : Int32) : Option (UH) :=
    k4 u x1 x2
set_option maxHeartbeats 4000000 in
set_option maxRecDepth 100000 in
theorem zz_X3_reads_220 {G : uG} {a0 : Nat} {uf : UH} (N : Nat) (k4 : UH → Int32 → Int32 → Option (UH)) (hk4 : ∀ (u : UH) (x1 : Int32) (x2 : Int32), k4 u x1 x2 = some uf → uf.1 = u.1 ∧ uf.2.1 = u.2.1) (u : UH) (x1 : Int32) (x2 : Int32) (h : f_X3_reads_220 N (ub G) (ug G) a0 k4 u x1 x2 = some uf) : uf.1 = u.1 ∧ uf.2.1 = u.2.1 := by
  unfold f_X3_reads_220 at h
  have hq := hk4 u x1 x2 h
  exact ⟨by omega, by omega⟩
set_option maxHeartbeats 4000000 in
set_option maxRecDepth 100000 in
theorem w_X3_reads_220 {p : Program} {l : Launch} {e : Env} {R : Room} {s : State} {m : MethodId} {args : Array Value} {below : List Frame} {meth : Method} {c : Code} {G : uG} {a0 : Nat} {uf : UH} (hC : uC p s m args meth c G RX3 cX3_reads 6 none) (hR : 7 ≤ R.frames ∧ 154 ≤ R.locals) (N : Nat) (k4 : UH → Int32 → Int32 → Option (UH)) (hk4 : ∀ (u : UH) (x1 : Int32) (x2 : Int32), k4 u x1 x2 = some uf → ∀ (H : Heap) (locs : List Loc), uP G u H → va_S (uA G) s.heap H locs → ∀ ls : Array Slot, lv_has ls 6 [(0, va_rf (some a0)), (1, .int x1), (2, .int x2)] → W p l e R s m args below meth c H locs 0 0 (MQ below (uQv G uf) args s 0 0 (uA G)) (F0 m 4 ls [])) (u : UH) (x1 : Int32) (x2 : Int32) (h : f_X3_reads_220 N (ub G) (ug G) a0 k4 u x1 x2 = some uf) {H : Heap} {locs : List Loc} (hP : uP G u H) (hS : va_S (uA G) s.heap H locs) {ls : Array Slot} (hl : lv_has ls 6 [(0, va_rf (some a0)), (1, .int x1), (2, .int x2)]) : W p l e R s m args below meth c H locs 0 0 (MQ below (uQv G uf) args s 0 0 (uA G)) (F0 m 220 ls []) := by
  obtain ⟨⟨hx, hb, hml, hown, hts⟩, hKK⟩ := id hC
  unfold f_X3_reads_220 at h
  refine lv_goto (tgt := 4) hx hb dX3_reads_220 (by decide) ?_
  exact hk4 u x1 x2 h _ _ hP hS _ (lv_sub hl [0, 1, 2] rfl)
def f_X3_reads_211 (N b : Nat) (g : uEnv) (a0 : Nat) (k4 : UH → Int32 → Int32 → Option (UH)) (u : UH) (x1 : Int32) (s0 : Int32) : Option (UH) :=
    if s0 = 0 then
    f_X3_reads_220 N b g a0 k4 u x1 s0
    else
    if uIs u a0 2 = true then
    (f_X3_next N b g u a0).bind fun u3 =>
    f_X3_reads_220 N b g a0 k4 u3 x1 s0
    else none
set_option maxHeartbeats 4000000 in
set_option maxRecDepth 100000 in
theorem zz_X3_reads_211 {G : uG} {a0 : Nat} {uf : UH} (N : Nat) (k4 : UH → Int32 → Int32 → Option (UH)) (hk4 : ∀ (u : UH) (x1 : Int32) (x2 : Int32), k4 u x1 x2 = some uf → uf.1 = u.1 ∧ uf.2.1 = u.2.1) (u : UH) (x1 : Int32) (s0 : Int32) (h : f_X3_reads_211 N (ub G) (ug G) a0 k4 u x1 s0 = some uf) : uf.1 = u.1 ∧ uf.2.1 = u.2.1 := by
  unfold f_X3_reads_211 at h
  by_cases c1 : s0 = 0
  · have h := mif_t c1 h
    have hq := zz_X3_reads_220 (G := G) (a0 := a0) N k4 hk4 u x1 s0 h
    exact ⟨by omega, by omega⟩
  · have h := mif_f c1 h
    obtain ⟨c2, h⟩ := mif_n h
    obtain ⟨u3, c4, h⟩ := mbind_n h
    have zu3 := zz_X3_next N (ub G) (ug G) u a0 u3 c4
    have hq := zz_X3_reads_220 (G := G) (a0 := a0) N k4 hk4 u3 x1 s0 h
    exact ⟨by omega, by omega⟩
set_option maxHeartbeats 4000000 in
set_option maxRecDepth 100000 in
theorem w_X3_reads_211 {p : Program} {l : Launch} {e : Env} {R : Room} {s : State} {m : MethodId} {args : Array Value} {below : List Frame} {meth : Method} {c : Code} {G : uG} {a0 : Nat} {uf : UH} (hC : uC p s m args meth c G RX3 cX3_reads 6 none) (hR : 7 ≤ R.frames ∧ 154 ≤ R.locals) (N : Nat) (k4 : UH → Int32 → Int32 → Option (UH)) (hk4 : ∀ (u : UH) (x1 : Int32) (x2 : Int32), k4 u x1 x2 = some uf → ∀ (H : Heap) (locs : List Loc), uP G u H → va_S (uA G) s.heap H locs → ∀ ls : Array Slot, lv_has ls 6 [(0, va_rf (some a0)), (1, .int x1), (2, .int x2)] → W p l e R s m args below meth c H locs 0 0 (MQ below (uQv G uf) args s 0 0 (uA G)) (F0 m 4 ls [])) (u : UH) (x1 : Int32) (s0 : Int32) (h : f_X3_reads_211 N (ub G) (ug G) a0 k4 u x1 s0 = some uf) {H : Heap} {locs : List Loc} (hP : uP G u H) (hS : va_S (uA G) s.heap H locs) {ls : Array Slot} (hl : lv_has ls 6 [(0, va_rf (some a0)), (1, .int x1)]) : W p l e R s m args below meth c H locs 0 0 (MQ below (uQv G uf) args s 0 0 (uA G)) (F0 m 211 ls [.int s0]) := by
  obtain ⟨⟨hx, hb, hml, hown, hts⟩, hKK⟩ := id hC
  unfold f_X3_reads_211 at h
  refine lv_istore_n (i := 2) (lv' := [(2, .int s0), (0, va_rf (some a0)), (1, .int x1)]) hx hb dX3_reads_211 rfl hl (by decide) rfl (fun ls hl => ?_)
  refine lv_iload_n hx hb dX3_reads_212 rfl (lv_at hl 0 rfl) ?_
  refine lv_if_eq (tgt := 220) hx hb dX3_reads_213 (by decide) (fun c1 => ?_) (fun c1 => ?_)
  · have h := mif_t c1 h
    exact w_X3_reads_220 hC hR N k4 hk4 u x1 s0 h hP hS (lv_sub hl [1, 2, 0] rfl)
  · have h := mif_f c1 h
    refine u_aload_n (r := some a0) hx hb dX3_reads_216 rfl (lv_at hl 1 rfl) ?_
    obtain ⟨c2, h⟩ := mif_n h
    obtain ⟨u3, c4, h⟩ := mbind_n h
    have zu3 := zz_X3_next N (ub G) (ug G) u a0 u3 c4
    refine u_callv (va_runV (As := []) (rest := []) hC.1 (met_X3_next l N G u a0 u3 c4) (cwV 0 hts (lw_V q2154 q2156 qs45 q103 q2157) rfl rfl rfl (by decide +kernel) ⟨Nat.le_trans (Nat.le_of_ble_eq_true rfl) hR.1, Nat.le_trans (Nat.le_of_ble_eq_true rfl) hR.2⟩) ⟨uPc_blind, u_rcv hC hP c2 rfl, fun U hU hW => u_pre hC hP hS hU hW⟩ rfl rfl hl.1 rfl (lv_room (Nat.le_of_ble_eq_true rfl)) dX3_reads_217 ⟨Nat.zero_le _, Nat.zero_le _⟩) hS (fun H locs hP hS => ?_)
    exact w_X3_reads_220 hC hR N k4 hk4 u3 x1 s0 h hP hS (lv_sub hl [1, 2, 0] rfl)
def f_X3_reads_189 (N b : Nat) (g : uEnv) (a0 : Nat) (k4 : UH → Int32 → Int32 → Option (UH)) (u : UH) (x1 : Int32) (x2 : Int32) (x4 : Int32) : Option (UH) :=
    if x4 = 0 then
    k4 u x1 x2
    else
    (uGI u a0 2 6).bind fun y2 =>
    if y2 = 59 then
    f_X3_reads_211 N b g a0 k4 u x1 1
    else
    f_X3_reads_211 N b g a0 k4 u x1 0
set_option maxHeartbeats 4000000 in
set_option maxRecDepth 100000 in
theorem zz_X3_reads_189 {G : uG} {a0 : Nat} {uf : UH} (N : Nat) (k4 : UH → Int32 → Int32 → Option (UH)) (hk4 : ∀ (u : UH) (x1 : Int32) (x2 : Int32), k4 u x1 x2 = some uf → uf.1 = u.1 ∧ uf.2.1 = u.2.1) (u : UH) (x1 : Int32) (x2 : Int32) (x4 : Int32) (h : f_X3_reads_189 N (ub G) (ug G) a0 k4 u x1 x2 x4 = some uf) : uf.1 = u.1 ∧ uf.2.1 = u.2.1 := by
  unfold f_X3_reads_189 at h
  by_cases c1 : x4 = 0
  · have h := mif_t c1 h
    have hq := hk4 u x1 x2 h
    exact ⟨by omega, by omega⟩
  · have h := mif_f c1 h
    obtain ⟨y2, hy2, h⟩ := mbind_n h
    by_cases c3 : y2 = 59
    · have h := mif_t c3 h
      have hq := zz_X3_reads_211 (G := G) (a0 := a0) N k4 hk4 u x1 1 h
      exact ⟨by omega, by omega⟩
    · have h := mif_f c3 h
      have hq := zz_X3_reads_211 (G := G) (a0 := a0) N k4 hk4 u x1 0 h
      exact ⟨by omega, by omega⟩
set_option maxHeartbeats 4000000 in
set_option maxRecDepth 100000 in
theorem w_X3_reads_189 {p : Program} {l : Launch} {e : Env} {R : Room} {s : State} {m : MethodId} {args : Array Value} {below : List Frame} {meth : Method} {c : Code} {G : uG} {a0 : Nat} {uf : UH} (hC : uC p s m args meth c G RX3 cX3_reads 6 none) (hR : 7 ≤ R.frames ∧ 154 ≤ R.locals) (N : Nat) (k4 : UH → Int32 → Int32 → Option (UH)) (hk4 : ∀ (u : UH) (x1 : Int32) (x2 : Int32), k4 u x1 x2 = some uf → ∀ (H : Heap) (locs : List Loc), uP G u H → va_S (uA G) s.heap H locs → ∀ ls : Array Slot, lv_has ls 6 [(0, va_rf (some a0)), (1, .int x1), (2, .int x2)] → W p l e R s m args below meth c H locs 0 0 (MQ below (uQv G uf) args s 0 0 (uA G)) (F0 m 4 ls [])) (u : UH) (x1 : Int32) (x2 : Int32) (x4 : Int32) (h : f_X3_reads_189 N (ub G) (ug G) a0 k4 u x1 x2 x4 = some uf) {H : Heap} {locs : List Loc} (hP : uP G u H) (hS : va_S (uA G) s.heap H locs) {ls : Array Slot} (hl : lv_has ls 6 [(0, va_rf (some a0)), (1, .int x1), (2, .int x2), (4, .int x4)]) : W p l e R s m args below meth c H locs 0 0 (MQ below (uQv G uf) args s 0 0 (uA G)) (F0 m 189 ls []) := by
  obtain ⟨⟨hx, hb, hml, hown, hts⟩, hKK⟩ := id hC
  unfold f_X3_reads_189 at h
  refine lv_iload hx hb dX3_reads_189 (lv_at hl 3 rfl) ?_
  refine lv_if_ne (tgt := 197) hx hb dX3_reads_191 (by decide) (fun c1 => ?_) (fun c1 => ?_)
  · have h := mif_f c1 h
    refine u_aload_n (r := some a0) hx hb dX3_reads_197 rfl (lv_at hl 0 rfl) ?_
    obtain ⟨y2, hy2, h⟩ := mbind_n h
    refine u_get hC hP (uGI_n hy2) rfl in_X3 (by decide) q1899 (fun _ h => h) dX3_reads_198 ?_
    refine lv_bipush (v := 59) hx hb dX3_reads_201 (by decide) ?_
    refine lv_icmp_ne (tgt := 210) hx hb dX3_reads_203 (by decide) (fun c3 => ?_) (fun c3 => ?_)
    · have h := mif_f c3 h
      refine lv_iconst (v := 0) hx hb dX3_reads_210 (by decide) ?_
      exact w_X3_reads_211 hC hR N k4 hk4 u x1 0 h hP hS (lv_sub hl [0, 1] rfl)
    · have h := mif_t c3 h
      refine lv_iconst (v := 1) hx hb dX3_reads_206 (by decide) ?_
      refine lv_goto (tgt := 211) hx hb dX3_reads_207 (by decide) ?_
      exact w_X3_reads_211 hC hR N k4 hk4 u x1 1 h hP hS (lv_sub hl [0, 1] rfl)
  · have h := mif_t c1 h
    refine lv_goto (tgt := 4) hx hb dX3_reads_194 (by decide) ?_
    exact hk4 u x1 x2 h _ _ hP hS _ (lv_sub hl [0, 1, 2] rfl)
def f_X3_reads_186 (N b : Nat) (g : uEnv) (a0 : Nat) (k4 : UH → Int32 → Int32 → Option (UH)) (k35 : UH → Int32 → Int32 → Int32 → Option (UH)) (u : UH) (x1 : Int32) (x2 : Int32) (x4 : Int32) : Option (UH) :=
    k35 u x1 x2 x4
set_option maxHeartbeats 4000000 in
set_option maxRecDepth 100000 in
theorem zz_X3_reads_186 {G : uG} {a0 : Nat} {uf : UH} (N : Nat) (k4 : UH → Int32 → Int32 → Option (UH)) (hk4 : ∀ (u : UH) (x1 : Int32) (x2 : Int32), k4 u x1 x2 = some uf → uf.1 = u.1 ∧ uf.2.1 = u.2.1) (k35 : UH → Int32 → Int32 → Int32 → Option (UH)) (hk35 : ∀ (u : UH) (x1 : Int32) (x2 : Int32) (x4 : Int32), k35 u x1 x2 x4 = some uf → uf.1 = u.1 ∧ uf.2.1 = u.2.1) (u : UH) (x1 : Int32) (x2 : Int32) (x4 : Int32) (h : f_X3_reads_186 N (ub G) (ug G) a0 k4 k35 u x1 x2 x4 = some uf) : uf.1 = u.1 ∧ uf.2.1 = u.2.1 := by
  unfold f_X3_reads_186 at h
  have hq := hk35 u x1 x2 x4 h
  exact ⟨by omega, by omega⟩
set_option maxHeartbeats 4000000 in
set_option maxRecDepth 100000 in
theorem w_X3_reads_186 {p : Program} {l : Launch} {e : Env} {R : Room} {s : State} {m : MethodId} {args : Array Value} {below : List Frame} {meth : Method} {c : Code} {G : uG} {a0 : Nat} {uf : UH} (hC : uC p s m args meth c G RX3 cX3_reads 6 none) (hR : 7 ≤ R.frames ∧ 154 ≤ R.locals) (N : Nat) (k4 : UH → Int32 → Int32 → Option (UH)) (hk4 : ∀ (u : UH) (x1 : Int32) (x2 : Int32), k4 u x1 x2 = some uf → ∀ (H : Heap) (locs : List Loc), uP G u H → va_S (uA G) s.heap H locs → ∀ ls : Array Slot, lv_has ls 6 [(0, va_rf (some a0)), (1, .int x1), (2, .int x2)] → W p l e R s m args below meth c H locs 0 0 (MQ below (uQv G uf) args s 0 0 (uA G)) (F0 m 4 ls [])) (k35 : UH → Int32 → Int32 → Int32 → Option (UH)) (hk35 : ∀ (u : UH) (x1 : Int32) (x2 : Int32) (x4 : Int32), k35 u x1 x2 x4 = some uf → ∀ (H : Heap) (locs : List Loc), uP G u H → va_S (uA G) s.heap H locs → ∀ ls : Array Slot, lv_has ls 6 [(0, va_rf (some a0)), (1, .int x1), (2, .int x2), (4, .int x4)] → W p l e R s m args below meth c H locs 0 0 (MQ below (uQv G uf) args s 0 0 (uA G)) (F0 m 35 ls [])) (u : UH) (x1 : Int32) (x2 : Int32) (x4 : Int32) (h : f_X3_reads_186 N (ub G) (ug G) a0 k4 k35 u x1 x2 x4 = some uf) {H : Heap} {locs : List Loc} (hP : uP G u H) (hS : va_S (uA G) s.heap H locs) {ls : Array Slot} (hl : lv_has ls 6 [(0, va_rf (some a0)), (1, .int x1), (2, .int x2), (4, .int x4)]) : W p l e R s m args below meth c H locs 0 0 (MQ below (uQv G uf) args s 0 0 (uA G)) (F0 m 186 ls []) := by
  obtain ⟨⟨hx, hb, hml, hown, hts⟩, hKK⟩ := id hC
  unfold f_X3_reads_186 at h
  refine lv_goto (tgt := 35) hx hb dX3_reads_186 (by decide) ?_
  exact hk35 u x1 x2 x4 h _ _ hP hS _ (lv_sub hl [0, 1, 2, 3] rfl)
def f_X3_reads_183 (N b : Nat) (g : uEnv) (a0 : Nat) (k4 : UH → Int32 → Int32 → Option (UH)) (k35 : UH → Int32 → Int32 → Int32 → Option (UH)) (u : UH) (x1 : Int32) (x2 : Int32) (x4 : Int32) (s0 : Int32) (s1 : Option Nat) : Option (UH) :=
    (s1).bind fun a1 =>
    if uIs u a1 2 = true then
    (f_X3_lands N b g u a1 s0).bind fun u3 =>
    f_X3_reads_186 N b g a0 k4 k35 u3 x1 x2 x4
    else none
set_option maxHeartbeats 4000000 in
set_option maxRecDepth 100000 in
theorem zz_X3_reads_183 {G : uG} {a0 : Nat} {uf : UH} (N : Nat) (k4 : UH → Int32 → Int32 → Option (UH)) (hk4 : ∀ (u : UH) (x1 : Int32) (x2 : Int32), k4 u x1 x2 = some uf → uf.1 = u.1 ∧ uf.2.1 = u.2.1) (k35 : UH → Int32 → Int32 → Int32 → Option (UH)) (hk35 : ∀ (u : UH) (x1 : Int32) (x2 : Int32) (x4 : Int32), k35 u x1 x2 x4 = some uf → uf.1 = u.1 ∧ uf.2.1 = u.2.1) (u : UH) (x1 : Int32) (x2 : Int32) (x4 : Int32) (s0 : Int32) (s1 : Option Nat) (h : f_X3_reads_183 N (ub G) (ug G) a0 k4 k35 u x1 x2 x4 s0 s1 = some uf) : uf.1 = u.1 ∧ uf.2.1 = u.2.1 := by
  unfold f_X3_reads_183 at h
  obtain ⟨a1, ha1, hha1⟩ := mbind_n h
  subst ha1
  have h := hha1
  obtain ⟨c2, h⟩ := mif_n h
  obtain ⟨u3, c4, h⟩ := mbind_n h
  have zu3 := zz_X3_lands N (ub G) (ug G) u a1 s0 u3 c4
  have hq := zz_X3_reads_186 (G := G) (a0 := a0) N k4 hk4 k35 hk35 u3 x1 x2 x4 h
  exact ⟨by omega, by omega⟩
set_option maxHeartbeats 4000000 in
set_option maxRecDepth 100000 in
theorem w_X3_reads_183 {p : Program} {l : Launch} {e : Env} {R : Room} {s : State} {m : MethodId} {args : Array Value} {below : List Frame} {meth : Method} {c : Code} {G : uG} {a0 : Nat} {uf : UH} (hC : uC p s m args meth c G RX3 cX3_reads 6 none) (hR : 7 ≤ R.frames ∧ 154 ≤ R.locals) (N : Nat) (k4 : UH → Int32 → Int32 → Option (UH)) (hk4 : ∀ (u : UH) (x1 : Int32) (x2 : Int32), k4 u x1 x2 = some uf → ∀ (H : Heap) (locs : List Loc), uP G u H → va_S (uA G) s.heap H locs → ∀ ls : Array Slot, lv_has ls 6 [(0, va_rf (some a0)), (1, .int x1), (2, .int x2)] → W p l e R s m args below meth c H locs 0 0 (MQ below (uQv G uf) args s 0 0 (uA G)) (F0 m 4 ls [])) (k35 : UH → Int32 → Int32 → Int32 → Option (UH)) (hk35 : ∀ (u : UH) (x1 : Int32) (x2 : Int32) (x4 : Int32), k35 u x1 x2 x4 = some uf → ∀ (H : Heap) (locs : List Loc), uP G u H → va_S (uA G) s.heap H locs → ∀ ls : Array Slot, lv_has ls 6 [(0, va_rf (some a0)), (1, .int x1), (2, .int x2), (4, .int x4)] → W p l e R s m args below meth c H locs 0 0 (MQ below (uQv G uf) args s 0 0 (uA G)) (F0 m 35 ls [])) (u : UH) (x1 : Int32) (x2 : Int32) (x4 : Int32) (s0 : Int32) (s1 : Option Nat) (h : f_X3_reads_183 N (ub G) (ug G) a0 k4 k35 u x1 x2 x4 s0 s1 = some uf) {H : Heap} {locs : List Loc} (hP : uP G u H) (hS : va_S (uA G) s.heap H locs) {ls : Array Slot} (hl : lv_has ls 6 [(0, va_rf (some a0)), (1, .int x1), (2, .int x2), (4, .int x4)]) : W p l e R s m args below meth c H locs 0 0 (MQ below (uQv G uf) args s 0 0 (uA G)) (F0 m 183 ls [.int s0, va_rf s1]) := by
  obtain ⟨⟨hx, hb, hml, hown, hts⟩, hKK⟩ := id hC
  unfold f_X3_reads_183 at h
  obtain ⟨a1, ha1, hha1⟩ := mbind_n h
  subst ha1
  have h := hha1
  obtain ⟨c2, h⟩ := mif_n h
  obtain ⟨u3, c4, h⟩ := mbind_n h
  have zu3 := zz_X3_lands N (ub G) (ug G) u a1 s0 u3 c4
  refine u_callv (va_runV (As := [.int s0]) (rest := []) hC.1 (met_X3_lands l N G u a1 s0 u3 c4) (cwV 1 hts (lw_V q2487 q2489 qs91 q103 q2490) rfl rfl rfl (by decide +kernel) ⟨Nat.le_trans (Nat.le_of_ble_eq_true rfl) hR.1, Nat.le_trans (Nat.le_of_ble_eq_true rfl) hR.2⟩) ⟨uPc_blind, u_rcv hC hP c2 rfl, fun U hU hW => u_pre hC hP hS hU hW⟩ rfl rfl hl.1 rfl (lv_room (Nat.le_of_ble_eq_true rfl)) dX3_reads_183 ⟨Nat.zero_le _, Nat.zero_le _⟩) hS (fun H locs hP hS => ?_)
  exact w_X3_reads_186 hC hR N k4 hk4 k35 hk35 u3 x1 x2 x4 h hP hS (lv_sub hl [0, 1, 2, 3] rfl)
def f_X3_reads_83 (N b : Nat) (g : uEnv) (a0 : Nat) (k4 : UH → Int32 → Int32 → Option (UH)) (k35 : UH → Int32 → Int32 → Int32 → Option (UH)) (u : UH) (x1 : Int32) (x2 : Int32) (x4 : Int32) (s0 : Int32) : Option (UH) :=
    if s0 = 0 then
    (uGR u a0 2 62).bind fun o2 =>
    (o2).bind fun a3 =>
    (uLdI u a3 2 x1).bind fun y4 =>
    if y4 = 0 then
    (uGR u a0 2 60).bind fun o6 =>
    (o6).bind fun a7 =>
    (uLdI u a7 0 x1).bind fun y8 =>
    f_X3_reads_183 N b g a0 k4 k35 u x1 x2 x4 y8 (some a0)
    else
    (uGR u a0 2 61).bind fun o9 =>
    (o9).bind fun a10 =>
    (uLdI u a10 0 x1).bind fun y11 =>
    f_X3_reads_183 N b g a0 k4 k35 u x1 x2 x4 y11 (some a0)
    else
    if uIs u a0 2 = true then
    (f_X3_next N b g u a0).bind fun u13 =>
    (uGI u13 a0 2 6).bind fun y15 =>
    if y15 = 40 then
    if uIs u13 a0 2 = true then
    (f_X3_next N b g u13 a0).bind fun u18 =>
    (uGR u18 a0 2 61).bind fun o20 =>
    if uIs u18 a0 2 = true then
    ucall (f_X3_order N b g u18 a0 2 0 0 0) fun r24 u22 =>
    (o20).bind fun a25 =>
    (uStI b u22 a25 0 x1 r24).bind fun u26 =>
    (uGR u26 a0 2 60).bind fun o27 =>
    (o27).bind fun a28 =>
    (uLdI u26 a28 0 x1).bind fun y29 =>
    if uIs u26 a0 2 = true then
    (f_X3_lands N b g u26 a0 y29).bind fun u31 =>
    (uGR u31 a0 2 62).bind fun o33 =>
    (o33).bind fun a34 =>
    (uStI b u31 a34 2 x1 (vp_nar .boolean 1)).bind fun u35 =>
    mlet (x1 + 1) fun y36 =>
    f_X3_reads_186 N b g a0 k4 k35 u35 y36 x2 0
    else none
    else none
    else none
    else
    (uGI u13 a0 2 4).bind fun y37 =>
    if uIs u13 a0 2 = true then
    ucall (f_X3_wrong N b g u13 a0 1 y37) fun r41 u39 =>
    some u39
    else none
    else none
set_option maxHeartbeats 4000000 in
set_option maxRecDepth 100000 in
theorem zz_X3_reads_83 {G : uG} {a0 : Nat} {uf : UH} (N : Nat) (k4 : UH → Int32 → Int32 → Option (UH)) (hk4 : ∀ (u : UH) (x1 : Int32) (x2 : Int32), k4 u x1 x2 = some uf → uf.1 = u.1 ∧ uf.2.1 = u.2.1) (k35 : UH → Int32 → Int32 → Int32 → Option (UH)) (hk35 : ∀ (u : UH) (x1 : Int32) (x2 : Int32) (x4 : Int32), k35 u x1 x2 x4 = some uf → uf.1 = u.1 ∧ uf.2.1 = u.2.1) (u : UH) (x1 : Int32) (x2 : Int32) (x4 : Int32) (s0 : Int32) (h : f_X3_reads_83 N (ub G) (ug G) a0 k4 k35 u x1 x2 x4 s0 = some uf) : uf.1 = u.1 ∧ uf.2.1 = u.2.1 := by
  unfold f_X3_reads_83 at h
  by_cases c1 : s0 = 0
  · have h := mif_t c1 h
    obtain ⟨o2, ho2, h⟩ := mbind_n h
    obtain ⟨a3, ha3, hha3⟩ := mbind_n h
    subst ha3
    have h := hha3
    obtain ⟨y4, hy4, h⟩ := mbind_n h
    by_cases c5 : y4 = 0
    · have h := mif_t c5 h
      obtain ⟨o6, ho6, h⟩ := mbind_n h
      obtain ⟨a7, ha7, hha7⟩ := mbind_n h
      subst ha7
      have h := hha7
      obtain ⟨y8, hy8, h⟩ := mbind_n h
      have hq := zz_X3_reads_183 (G := G) (a0 := a0) N k4 hk4 k35 hk35 u x1 x2 x4 y8 (some a0) h
      exact ⟨by omega, by omega⟩
    · have h := mif_f c5 h
      obtain ⟨o9, ho9, h⟩ := mbind_n h
      obtain ⟨a10, ha10, hha10⟩ := mbind_n h
      subst ha10
      have h := hha10
      obtain ⟨y11, hy11, h⟩ := mbind_n h
      have hq := zz_X3_reads_183 (G := G) (a0 := a0) N k4 hk4 k35 hk35 u x1 x2 x4 y11 (some a0) h
      exact ⟨by omega, by omega⟩
  · have h := mif_f c1 h
    obtain ⟨c12, h⟩ := mif_n h
    obtain ⟨u13, c14, h⟩ := mbind_n h
    have zu13 := zz_X3_next N (ub G) (ug G) u a0 u13 c14
    obtain ⟨y15, hy15, h⟩ := mbind_n h
    by_cases c16 : y15 = 40
    · have h := mif_t c16 h
      obtain ⟨c17, h⟩ := mif_n h
      obtain ⟨u18, c19, h⟩ := mbind_n h
      have zu18 := zz_X3_next N (ub G) (ug G) u13 a0 u18 c19
      obtain ⟨o20, ho20, h⟩ := mbind_n h
      obtain ⟨c21, h⟩ := mif_n h
      obtain ⟨r24, u22, c23, h⟩ := ucall_n h
      have zu22 := zz_X3_order N (ub G) (ug G) u18 a0 2 0 0 0 r24 u22 c23
      obtain ⟨a25, ha25, hha25⟩ := mbind_n h
      subst ha25
      have h := hha25
      obtain ⟨u26, hu26, h⟩ := mbind_n h
      have zu26 := uStI_sz hu26
      obtain ⟨o27, ho27, h⟩ := mbind_n h
      obtain ⟨a28, ha28, hha28⟩ := mbind_n h
      subst ha28
      have h := hha28
      obtain ⟨y29, hy29, h⟩ := mbind_n h
      obtain ⟨c30, h⟩ := mif_n h
      obtain ⟨u31, c32, h⟩ := mbind_n h
      have zu31 := zz_X3_lands N (ub G) (ug G) u26 a0 y29 u31 c32
      obtain ⟨o33, ho33, h⟩ := mbind_n h
      obtain ⟨a34, ha34, hha34⟩ := mbind_n h
      subst ha34
      have h := hha34
      obtain ⟨u35, hu35, h⟩ := mbind_n h
      have zu35 := uStI_sz hu35
      obtain ⟨y36, ey36⟩ : ∃ z : Int32, z = x1 + 1 := ⟨_, rfl⟩
      have h := mlet_at ey36 h
      have hq := zz_X3_reads_186 (G := G) (a0 := a0) N k4 hk4 k35 hk35 u35 y36 x2 0 h
      exact ⟨by omega, by omega⟩
    · have h := mif_f c16 h
      obtain ⟨y37, hy37, h⟩ := mbind_n h
      obtain ⟨c38, h⟩ := mif_n h
      obtain ⟨r41, u39, c40, h⟩ := ucall_n h
      have zu39 := zz_X3_wrong N (ub G) (ug G) u13 a0 1 y37 r41 u39 c40
      cases h
      exact ⟨by omega, by omega⟩
set_option maxHeartbeats 4000000 in
set_option maxRecDepth 100000 in
theorem w_X3_reads_83 {p : Program} {l : Launch} {e : Env} {R : Room} {s : State} {m : MethodId} {args : Array Value} {below : List Frame} {meth : Method} {c : Code} {G : uG} {a0 : Nat} {uf : UH} (hC : uC p s m args meth c G RX3 cX3_reads 6 none) (hR : 7 ≤ R.frames ∧ 154 ≤ R.locals) (N : Nat) (k4 : UH → Int32 → Int32 → Option (UH)) (hk4 : ∀ (u : UH) (x1 : Int32) (x2 : Int32), k4 u x1 x2 = some uf → ∀ (H : Heap) (locs : List Loc), uP G u H → va_S (uA G) s.heap H locs → ∀ ls : Array Slot, lv_has ls 6 [(0, va_rf (some a0)), (1, .int x1), (2, .int x2)] → W p l e R s m args below meth c H locs 0 0 (MQ below (uQv G uf) args s 0 0 (uA G)) (F0 m 4 ls [])) (k35 : UH → Int32 → Int32 → Int32 → Option (UH)) (hk35 : ∀ (u : UH) (x1 : Int32) (x2 : Int32) (x4 : Int32), k35 u x1 x2 x4 = some uf → ∀ (H : Heap) (locs : List Loc), uP G u H → va_S (uA G) s.heap H locs → ∀ ls : Array Slot, lv_has ls 6 [(0, va_rf (some a0)), (1, .int x1), (2, .int x2), (4, .int x4)] → W p l e R s m args below meth c H locs 0 0 (MQ below (uQv G uf) args s 0 0 (uA G)) (F0 m 35 ls [])) (u : UH) (x1 : Int32) (x2 : Int32) (x4 : Int32) (s0 : Int32) (h : f_X3_reads_83 N (ub G) (ug G) a0 k4 k35 u x1 x2 x4 s0 = some uf) {H : Heap} {locs : List Loc} (hP : uP G u H) (hS : va_S (uA G) s.heap H locs) {ls : Array Slot} (hl : lv_has ls 6 [(0, va_rf (some a0)), (1, .int x1), (2, .int x2), (4, .int x4)]) : W p l e R s m args below meth c H locs 0 0 (MQ below (uQv G uf) args s 0 0 (uA G)) (F0 m 83 ls [.int s0]) := by
  obtain ⟨⟨hx, hb, hml, hown, hts⟩, hKK⟩ := id hC
  unfold f_X3_reads_83 at h
  refine lv_istore (lv' := [(5, .int s0), (0, va_rf (some a0)), (1, .int x1), (2, .int x2), (4, .int x4)]) hx hb dX3_reads_83 hl (by decide) rfl (fun ls hl => ?_)
  refine lv_iload hx hb dX3_reads_85 (lv_at hl 0 rfl) ?_
  refine lv_if_eq (tgt := 158) hx hb dX3_reads_87 (by decide) (fun c1 => ?_) (fun c1 => ?_)
  · have h := mif_t c1 h
    refine u_aload_n (r := some a0) hx hb dX3_reads_158 rfl (lv_at hl 1 rfl) ?_
    refine u_aload_n (r := some a0) hx hb dX3_reads_159 rfl (lv_at hl 1 rfl) ?_
    obtain ⟨o2, ho2, h⟩ := mbind_n h
    refine u_get hC hP (uGR_n ho2) rfl in_X3 (by decide) q1955 (fun _ h => h) dX3_reads_160 ?_
    refine lv_iload_n hx hb dX3_reads_163 rfl (lv_at hl 2 rfl) ?_
    obtain ⟨a3, ha3, hha3⟩ := mbind_n h
    subst ha3
    have h := hha3
    obtain ⟨y4, hy4, h⟩ := mbind_n h
    refine u_zald hC hP hy4 rfl dX3_reads_164 ?_
    refine lv_if_eq (tgt := 177) hx hb dX3_reads_165 (by decide) (fun c5 => ?_) (fun c5 => ?_)
    · have h := mif_t c5 h
      refine u_aload_n (r := some a0) hx hb dX3_reads_177 rfl (lv_at hl 1 rfl) ?_
      obtain ⟨o6, ho6, h⟩ := mbind_n h
      refine u_get hC hP (uGR_n ho6) rfl in_X3 (by decide) q1953 (fun _ h => h) dX3_reads_178 ?_
      refine lv_iload_n hx hb dX3_reads_181 rfl (lv_at hl 2 rfl) ?_
      obtain ⟨a7, ha7, hha7⟩ := mbind_n h
      subst ha7
      have h := hha7
      obtain ⟨y8, hy8, h⟩ := mbind_n h
      refine u_iald hC hP hy8 rfl dX3_reads_182 ?_
      exact w_X3_reads_183 hC hR N k4 hk4 k35 hk35 u x1 x2 x4 y8 (some a0) h hP hS (lv_sub hl [1, 2, 3, 4] rfl)
    · have h := mif_f c5 h
      refine u_aload_n (r := some a0) hx hb dX3_reads_168 rfl (lv_at hl 1 rfl) ?_
      obtain ⟨o9, ho9, h⟩ := mbind_n h
      refine u_get hC hP (uGR_n ho9) rfl in_X3 (by decide) q1954 (fun _ h => h) dX3_reads_169 ?_
      refine lv_iload_n hx hb dX3_reads_172 rfl (lv_at hl 2 rfl) ?_
      obtain ⟨a10, ha10, hha10⟩ := mbind_n h
      subst ha10
      have h := hha10
      obtain ⟨y11, hy11, h⟩ := mbind_n h
      refine u_iald hC hP hy11 rfl dX3_reads_173 ?_
      refine lv_goto (tgt := 183) hx hb dX3_reads_174 (by decide) ?_
      exact w_X3_reads_183 hC hR N k4 hk4 k35 hk35 u x1 x2 x4 y11 (some a0) h hP hS (lv_sub hl [1, 2, 3, 4] rfl)
  · have h := mif_f c1 h
    refine u_aload_n (r := some a0) hx hb dX3_reads_90 rfl (lv_at hl 1 rfl) ?_
    obtain ⟨c12, h⟩ := mif_n h
    obtain ⟨u13, c14, h⟩ := mbind_n h
    have zu13 := zz_X3_next N (ub G) (ug G) u a0 u13 c14
    refine u_callv (va_runV (As := []) (rest := []) hC.1 (met_X3_next l N G u a0 u13 c14) (cwV 0 hts (lw_V q2154 q2156 qs45 q103 q2157) rfl rfl rfl (by decide +kernel) ⟨Nat.le_trans (Nat.le_of_ble_eq_true rfl) hR.1, Nat.le_trans (Nat.le_of_ble_eq_true rfl) hR.2⟩) ⟨uPc_blind, u_rcv hC hP c12 rfl, fun U hU hW => u_pre hC hP hS hU hW⟩ rfl rfl hl.1 rfl (lv_room (Nat.le_of_ble_eq_true rfl)) dX3_reads_91 ⟨Nat.zero_le _, Nat.zero_le _⟩) hS (fun H locs hP hS => ?_)
    refine u_aload_n (r := some a0) hx hb dX3_reads_94 rfl (lv_at hl 1 rfl) ?_
    obtain ⟨y15, hy15, h⟩ := mbind_n h
    refine u_get hC hP (uGI_n hy15) rfl in_X3 (by decide) q1899 (fun _ h => h) dX3_reads_95 ?_
    refine lv_bipush (v := 40) hx hb dX3_reads_98 (by decide) ?_
    refine lv_icmp_eq (tgt := 114) hx hb dX3_reads_100 (by decide) (fun c16 => ?_) (fun c16 => ?_)
    · have h := mif_t c16 h
      refine u_aload_n (r := some a0) hx hb dX3_reads_114 rfl (lv_at hl 1 rfl) ?_
      obtain ⟨c17, h⟩ := mif_n h
      obtain ⟨u18, c19, h⟩ := mbind_n h
      have zu18 := zz_X3_next N (ub G) (ug G) u13 a0 u18 c19
      refine u_callv (va_runV (As := []) (rest := []) hC.1 (met_X3_next l N G u13 a0 u18 c19) (cwV 0 hts (lw_V q2154 q2156 qs45 q103 q2157) rfl rfl rfl (by decide +kernel) ⟨Nat.le_trans (Nat.le_of_ble_eq_true rfl) hR.1, Nat.le_trans (Nat.le_of_ble_eq_true rfl) hR.2⟩) ⟨uPc_blind, u_rcv hC hP c17 rfl, fun U hU hW => u_pre hC hP hS hU hW⟩ rfl rfl hl.1 rfl (lv_room (Nat.le_of_ble_eq_true rfl)) dX3_reads_115 ⟨Nat.zero_le _, Nat.zero_le _⟩) hS (fun H locs hP hS => ?_)
      refine u_aload_n (r := some a0) hx hb dX3_reads_118 rfl (lv_at hl 1 rfl) ?_
      obtain ⟨o20, ho20, h⟩ := mbind_n h
      refine u_get hC hP (uGR_n ho20) rfl in_X3 (by decide) q1954 (fun _ h => h) dX3_reads_119 ?_
      refine lv_iload_n hx hb dX3_reads_122 rfl (lv_at hl 2 rfl) ?_
      refine u_aload_n (r := some a0) hx hb dX3_reads_123 rfl (lv_at hl 1 rfl) ?_
      refine lv_iconst (v := 2) hx hb dX3_reads_124 (by decide) ?_
      refine lv_iconst (v := 0) hx hb dX3_reads_125 (by decide) ?_
      refine lv_iconst (v := 0) hx hb dX3_reads_126 (by decide) ?_
      refine lv_iconst (v := 0) hx hb dX3_reads_127 (by decide) ?_
      obtain ⟨c21, h⟩ := mif_n h
      obtain ⟨r24, u22, c23, h⟩ := ucall_n h
      have zu22 := zz_X3_order N (ub G) (ug G) u18 a0 2 0 0 0 r24 u22 c23
      refine u_calli (va_runV (As := [.int 2, .int 0, .int 0, .int 0]) (rest := [.int x1, va_rf o20]) hC.1 (met_X3_order l N G u18 a0 2 0 0 0 r24 u22 c23) (cwV 4 hts (lw_V q2483 q2485 qs90 q103 q2486) rfl rfl rfl (by decide +kernel) ⟨Nat.le_trans (Nat.le_of_ble_eq_true rfl) hR.1, Nat.le_trans (Nat.le_of_ble_eq_true rfl) hR.2⟩) ⟨uPc_blind, u_rcv hC hP c21 rfl, fun U hU hW => u_pre hC hP hS hU hW⟩ rfl rfl hl.1 rfl (lv_room (by simp only [List.map, u_cat]; exact Nat.le_of_ble_eq_true rfl)) dX3_reads_128 ⟨Nat.zero_le _, Nat.zero_le _⟩) hS (fun H locs hP hS => ?_)
      obtain ⟨a25, ha25, hha25⟩ := mbind_n h
      subst ha25
      have h := hha25
      obtain ⟨u26, hu26, h⟩ := mbind_n h
      have zu26 := uStI_sz hu26
      refine u_iast hC hP hS hu26 rfl dX3_reads_131 (fun H locs hP hS => ?_)
      refine u_aload_n (r := some a0) hx hb dX3_reads_132 rfl (lv_at hl 1 rfl) ?_
      refine u_aload_n (r := some a0) hx hb dX3_reads_133 rfl (lv_at hl 1 rfl) ?_
      obtain ⟨o27, ho27, h⟩ := mbind_n h
      refine u_get hC hP (uGR_n ho27) rfl in_X3 (by decide) q1953 (fun _ h => h) dX3_reads_134 ?_
      refine lv_iload_n hx hb dX3_reads_137 rfl (lv_at hl 2 rfl) ?_
      obtain ⟨a28, ha28, hha28⟩ := mbind_n h
      subst ha28
      have h := hha28
      obtain ⟨y29, hy29, h⟩ := mbind_n h
      refine u_iald hC hP hy29 rfl dX3_reads_138 ?_
      obtain ⟨c30, h⟩ := mif_n h
      obtain ⟨u31, c32, h⟩ := mbind_n h
      have zu31 := zz_X3_lands N (ub G) (ug G) u26 a0 y29 u31 c32
      refine u_callv (va_runV (As := [.int y29]) (rest := []) hC.1 (met_X3_lands l N G u26 a0 y29 u31 c32) (cwV 1 hts (lw_V q2487 q2489 qs91 q103 q2490) rfl rfl rfl (by decide +kernel) ⟨Nat.le_trans (Nat.le_of_ble_eq_true rfl) hR.1, Nat.le_trans (Nat.le_of_ble_eq_true rfl) hR.2⟩) ⟨uPc_blind, u_rcv hC hP c30 rfl, fun U hU hW => u_pre hC hP hS hU hW⟩ rfl rfl hl.1 rfl (lv_room (Nat.le_of_ble_eq_true rfl)) dX3_reads_139 ⟨Nat.zero_le _, Nat.zero_le _⟩) hS (fun H locs hP hS => ?_)
      refine u_aload_n (r := some a0) hx hb dX3_reads_142 rfl (lv_at hl 1 rfl) ?_
      obtain ⟨o33, ho33, h⟩ := mbind_n h
      refine u_get hC hP (uGR_n ho33) rfl in_X3 (by decide) q1955 (fun _ h => h) dX3_reads_143 ?_
      refine lv_iload_n hx hb dX3_reads_146 rfl (lv_at hl 2 rfl) ?_
      refine lv_iconst (v := 1) hx hb dX3_reads_147 (by decide) ?_
      obtain ⟨a34, ha34, hha34⟩ := mbind_n h
      subst ha34
      have h := hha34
      obtain ⟨u35, hu35, h⟩ := mbind_n h
      have zu35 := uStI_sz hu35
      refine u_zast hC hP hS hu35 rfl dX3_reads_148 (fun H locs hP hS => ?_)
      obtain ⟨y36, ey36⟩ : ∃ z : Int32, z = x1 + 1 := ⟨_, rfl⟩
      have h := mlet_at ey36 h
      refine lv_iinc (v := y36) (lv' := [(1, .int y36), (5, .int s0), (0, va_rf (some a0)), (2, .int x2), (4, .int x4)]) hx hb dX3_reads_149 hl (k := 2) rfl (by rw [ey36]; rfl) (by decide) rfl (fun ls hl => ?_)
      refine lv_iconst (v := 0) hx hb dX3_reads_152 (by decide) ?_
      refine lv_istore (lv' := [(4, .int 0), (1, .int y36), (5, .int s0), (0, va_rf (some a0)), (2, .int x2)]) hx hb dX3_reads_153 hl (by decide) rfl (fun ls hl => ?_)
      refine lv_goto (tgt := 186) hx hb dX3_reads_155 (by decide) ?_
      exact w_X3_reads_186 hC hR N k4 hk4 k35 hk35 u35 y36 x2 0 h hP hS (lv_sub hl [3, 1, 4, 0] rfl)
    · have h := mif_f c16 h
      refine u_aload_n (r := some a0) hx hb dX3_reads_103 rfl (lv_at hl 1 rfl) ?_
      refine lv_iconst (v := 1) hx hb dX3_reads_104 (by decide) ?_
      refine u_aload_n (r := some a0) hx hb dX3_reads_105 rfl (lv_at hl 1 rfl) ?_
      obtain ⟨y37, hy37, h⟩ := mbind_n h
      refine u_get hC hP (uGI_n hy37) rfl in_X3 (by decide) q1897 (fun _ h => h) dX3_reads_106 ?_
      obtain ⟨c38, h⟩ := mif_n h
      obtain ⟨r41, u39, c40, h⟩ := ucall_n h
      have zu39 := zz_X3_wrong N (ub G) (ug G) u13 a0 1 y37 r41 u39 c40
      refine u_calli (va_runV (As := [.int 1, .int y37]) (rest := []) hC.1 (met_X3_wrong l N G u13 a0 1 y37 r41 u39 c40) (cwV 2 hts (lw_V q2196 q2198 qs51 q103 q2199) rfl rfl rfl (by decide +kernel) ⟨Nat.le_trans (Nat.le_of_ble_eq_true rfl) hR.1, Nat.le_trans (Nat.le_of_ble_eq_true rfl) hR.2⟩) ⟨uPc_blind, u_rcv hC hP c38 rfl, fun U hU hW => u_pre hC hP hS hU hW⟩ rfl rfl hl.1 rfl (lv_room (Nat.le_of_ble_eq_true rfl)) dX3_reads_109 ⟨Nat.zero_le _, Nat.zero_le _⟩) hS (fun H locs hP hS => ?_)
      refine lv_pop hx hb dX3_reads_112 rfl ?_
      cases h
      exact u_vret hC hP hS dX3_reads_113
def f_X3_reads_82 (N b : Nat) (g : uEnv) (a0 : Nat) (k4 : UH → Int32 → Int32 → Option (UH)) (k35 : UH → Int32 → Int32 → Int32 → Option (UH)) (u : UH) (x1 : Int32) (x2 : Int32) (x4 : Int32) : Option (UH) :=
    f_X3_reads_83 N b g a0 k4 k35 u x1 x2 x4 0
set_option maxHeartbeats 4000000 in
set_option maxRecDepth 100000 in
theorem zz_X3_reads_82 {G : uG} {a0 : Nat} {uf : UH} (N : Nat) (k4 : UH → Int32 → Int32 → Option (UH)) (hk4 : ∀ (u : UH) (x1 : Int32) (x2 : Int32), k4 u x1 x2 = some uf → uf.1 = u.1 ∧ uf.2.1 = u.2.1) (k35 : UH → Int32 → Int32 → Int32 → Option (UH)) (hk35 : ∀ (u : UH) (x1 : Int32) (x2 : Int32) (x4 : Int32), k35 u x1 x2 x4 = some uf → uf.1 = u.1 ∧ uf.2.1 = u.2.1) (u : UH) (x1 : Int32) (x2 : Int32) (x4 : Int32) (h : f_X3_reads_82 N (ub G) (ug G) a0 k4 k35 u x1 x2 x4 = some uf) : uf.1 = u.1 ∧ uf.2.1 = u.2.1 := by
  unfold f_X3_reads_82 at h
  have hq := zz_X3_reads_83 (G := G) (a0 := a0) N k4 hk4 k35 hk35 u x1 x2 x4 0 h
  exact ⟨by omega, by omega⟩
set_option maxHeartbeats 4000000 in
set_option maxRecDepth 100000 in
theorem w_X3_reads_82 {p : Program} {l : Launch} {e : Env} {R : Room} {s : State} {m : MethodId} {args : Array Value} {below : List Frame} {meth : Method} {c : Code} {G : uG} {a0 : Nat} {uf : UH} (hC : uC p s m args meth c G RX3 cX3_reads 6 none) (hR : 7 ≤ R.frames ∧ 154 ≤ R.locals) (N : Nat) (k4 : UH → Int32 → Int32 → Option (UH)) (hk4 : ∀ (u : UH) (x1 : Int32) (x2 : Int32), k4 u x1 x2 = some uf → ∀ (H : Heap) (locs : List Loc), uP G u H → va_S (uA G) s.heap H locs → ∀ ls : Array Slot, lv_has ls 6 [(0, va_rf (some a0)), (1, .int x1), (2, .int x2)] → W p l e R s m args below meth c H locs 0 0 (MQ below (uQv G uf) args s 0 0 (uA G)) (F0 m 4 ls [])) (k35 : UH → Int32 → Int32 → Int32 → Option (UH)) (hk35 : ∀ (u : UH) (x1 : Int32) (x2 : Int32) (x4 : Int32), k35 u x1 x2 x4 = some uf → ∀ (H : Heap) (locs : List Loc), uP G u H → va_S (uA G) s.heap H locs → ∀ ls : Array Slot, lv_has ls 6 [(0, va_rf (some a0)), (1, .int x1), (2, .int x2), (4, .int x4)] → W p l e R s m args below meth c H locs 0 0 (MQ below (uQv G uf) args s 0 0 (uA G)) (F0 m 35 ls [])) (u : UH) (x1 : Int32) (x2 : Int32) (x4 : Int32) (h : f_X3_reads_82 N (ub G) (ug G) a0 k4 k35 u x1 x2 x4 = some uf) {H : Heap} {locs : List Loc} (hP : uP G u H) (hS : va_S (uA G) s.heap H locs) {ls : Array Slot} (hl : lv_has ls 6 [(0, va_rf (some a0)), (1, .int x1), (2, .int x2), (4, .int x4)]) : W p l e R s m args below meth c H locs 0 0 (MQ below (uQv G uf) args s 0 0 (uA G)) (F0 m 82 ls []) := by
  obtain ⟨⟨hx, hb, hml, hown, hts⟩, hKK⟩ := id hC
  unfold f_X3_reads_82 at h
  refine lv_iconst (v := 0) hx hb dX3_reads_82 (by decide) ?_
  exact w_X3_reads_83 hC hR N k4 hk4 k35 hk35 u x1 x2 x4 0 h hP hS (lv_sub hl [0, 1, 2, 3] rfl)
def f_X3_reads_35 (N b : Nat) (g : uEnv) (a0 : Nat) (k4 : UH → Int32 → Int32 → Option (UH)) : Nat → UH → Int32 → Int32 → Int32 → Option (UH)
  | 0, _, _, _, _ => none
  | n + 1, u, x1, x2, x4 =>
    if x4 = 0 then
    f_X3_reads_189 N b g a0 k4 u x1 x2 x4
    else
    if x1 ≤ 0 then
    f_X3_reads_189 N b g a0 k4 u x1 x2 x4
    else
    (uGI u a0 2 6).bind fun y3 =>
    if y3 = 41 then
    if uIs u a0 2 = true then
    (f_X3_next N b g u a0).bind fun u6 =>
    mlet (x1 + (-1)) fun y8 =>
    (uGR u6 a0 2 62).bind fun o9 =>
    (o9).bind fun a10 =>
    (uLdI u6 a10 2 y8).bind fun y11 =>
    if y11 = 0 then
    if uIs u6 a0 2 = true then
    ucall (f_X3_word N b g u6 a0 (some (g.2.1 37))) fun r16 u14 =>
    if r16 = 0 then
    f_X3_reads_82 N b g a0 k4 (f_X3_reads_35 N b g a0 k4 n) u14 y8 x2 x4
    else
    f_X3_reads_83 N b g a0 k4 (f_X3_reads_35 N b g a0 k4 n) u14 y8 x2 x4 1
    else none
    else
    f_X3_reads_82 N b g a0 k4 (f_X3_reads_35 N b g a0 k4 n) u6 y8 x2 x4
    else none
    else
    f_X3_reads_189 N b g a0 k4 u x1 x2 x4
set_option maxHeartbeats 4000000 in
set_option maxRecDepth 100000 in
theorem zz_X3_reads_35 {G : uG} {a0 : Nat} {uf : UH} (N : Nat) (k4 : UH → Int32 → Int32 → Option (UH)) (hk4 : ∀ (u : UH) (x1 : Int32) (x2 : Int32), k4 u x1 x2 = some uf → uf.1 = u.1 ∧ uf.2.1 = u.2.1) : ∀ (n : Nat) (u : UH) (x1 : Int32) (x2 : Int32) (x4 : Int32), f_X3_reads_35 N (ub G) (ug G) a0 k4 n u x1 x2 x4 = some uf → uf.1 = u.1 ∧ uf.2.1 = u.2.1 := by
  intro n
  induction n with
  | zero =>
    intro u x1 x2 x4 h
    cases h
  | succ n ih =>
    intro u x1 x2 x4 h
    unfold f_X3_reads_35 at h
    by_cases c1 : x4 = 0
    · have h := mif_t c1 h
      have hq := zz_X3_reads_189 (G := G) (a0 := a0) N k4 hk4 u x1 x2 x4 h
      exact ⟨by omega, by omega⟩
    · have h := mif_f c1 h
      by_cases c2 : x1 ≤ 0
      · have h := mif_t c2 h
        have hq := zz_X3_reads_189 (G := G) (a0 := a0) N k4 hk4 u x1 x2 x4 h
        exact ⟨by omega, by omega⟩
      · have h := mif_f c2 h
        obtain ⟨y3, hy3, h⟩ := mbind_n h
        by_cases c4 : y3 = 41
        · have h := mif_t c4 h
          obtain ⟨c5, h⟩ := mif_n h
          obtain ⟨u6, c7, h⟩ := mbind_n h
          have zu6 := zz_X3_next N (ub G) (ug G) u a0 u6 c7
          obtain ⟨y8, ey8⟩ : ∃ z : Int32, z = x1 + (-1) := ⟨_, rfl⟩
          have h := mlet_at ey8 h
          obtain ⟨o9, ho9, h⟩ := mbind_n h
          obtain ⟨a10, ha10, hha10⟩ := mbind_n h
          subst ha10
          have h := hha10
          obtain ⟨y11, hy11, h⟩ := mbind_n h
          by_cases c12 : y11 = 0
          · have h := mif_t c12 h
            obtain ⟨c13, h⟩ := mif_n h
            obtain ⟨r16, u14, c15, h⟩ := ucall_n h
            have zu14 := zz_X3_word N (ub G) (ug G) u6 a0 (some ((ug G).2.1 37)) r16 u14 c15
            by_cases c17 : r16 = 0
            · have h := mif_t c17 h
              have hq := zz_X3_reads_82 (G := G) (a0 := a0) N k4 hk4 (f_X3_reads_35 N (ub G) (ug G) a0 k4 n) ih u14 y8 x2 x4 h
              exact ⟨by omega, by omega⟩
            · have h := mif_f c17 h
              have hq := zz_X3_reads_83 (G := G) (a0 := a0) N k4 hk4 (f_X3_reads_35 N (ub G) (ug G) a0 k4 n) ih u14 y8 x2 x4 1 h
              exact ⟨by omega, by omega⟩
          · have h := mif_f c12 h
            have hq := zz_X3_reads_82 (G := G) (a0 := a0) N k4 hk4 (f_X3_reads_35 N (ub G) (ug G) a0 k4 n) ih u6 y8 x2 x4 h
            exact ⟨by omega, by omega⟩
        · have h := mif_f c4 h
          have hq := zz_X3_reads_189 (G := G) (a0 := a0) N k4 hk4 u x1 x2 x4 h
          exact ⟨by omega, by omega⟩
set_option maxHeartbeats 4000000 in
set_option maxRecDepth 100000 in
theorem w_X3_reads_35 {p : Program} {l : Launch} {e : Env} {R : Room} {s : State} {m : MethodId} {args : Array Value} {below : List Frame} {meth : Method} {c : Code} {G : uG} {a0 : Nat} {uf : UH} (hC : uC p s m args meth c G RX3 cX3_reads 6 none) (hR : 7 ≤ R.frames ∧ 154 ≤ R.locals) (N : Nat) (k4 : UH → Int32 → Int32 → Option (UH)) (hk4 : ∀ (u : UH) (x1 : Int32) (x2 : Int32), k4 u x1 x2 = some uf → ∀ (H : Heap) (locs : List Loc), uP G u H → va_S (uA G) s.heap H locs → ∀ ls : Array Slot, lv_has ls 6 [(0, va_rf (some a0)), (1, .int x1), (2, .int x2)] → W p l e R s m args below meth c H locs 0 0 (MQ below (uQv G uf) args s 0 0 (uA G)) (F0 m 4 ls [])) : ∀ (n : Nat) (u : UH) (x1 : Int32) (x2 : Int32) (x4 : Int32), f_X3_reads_35 N (ub G) (ug G) a0 k4 n u x1 x2 x4 = some uf → ∀ (H : Heap) (locs : List Loc), uP G u H → va_S (uA G) s.heap H locs → ∀ ls : Array Slot, lv_has ls 6 [(0, va_rf (some a0)), (1, .int x1), (2, .int x2), (4, .int x4)] → W p l e R s m args below meth c H locs 0 0 (MQ below (uQv G uf) args s 0 0 (uA G)) (F0 m 35 ls []) := by
  obtain ⟨⟨hx, hb, hml, hown, hts⟩, hKK⟩ := id hC
  intro n
  induction n with
  | zero =>
    intro u x1 x2 x4 h
    cases h
  | succ n ih =>
    intro u x1 x2 x4 h H locs hP hS ls hl
    unfold f_X3_reads_35 at h
    refine lv_iload hx hb dX3_reads_35 (lv_at hl 3 rfl) ?_
    refine lv_if_eq (tgt := 189) hx hb dX3_reads_37 (by decide) (fun c1 => ?_) (fun c1 => ?_)
    · have h := mif_t c1 h
      exact w_X3_reads_189 hC hR N k4 hk4 u x1 x2 x4 h hP hS (lv_sub hl [0, 1, 2, 3] rfl)
    · have h := mif_f c1 h
      refine lv_iload_n hx hb dX3_reads_40 rfl (lv_at hl 1 rfl) ?_
      refine lv_if_le (tgt := 189) hx hb dX3_reads_41 (by decide) (fun c2 => ?_) (fun c2 => ?_)
      · have h := mif_t c2 h
        exact w_X3_reads_189 hC hR N k4 hk4 u x1 x2 x4 h hP hS (lv_sub hl [0, 1, 2, 3] rfl)
      · have h := mif_f c2 h
        refine u_aload_n (r := some a0) hx hb dX3_reads_44 rfl (lv_at hl 0 rfl) ?_
        obtain ⟨y3, hy3, h⟩ := mbind_n h
        refine u_get hC hP (uGI_n hy3) rfl in_X3 (by decide) q1899 (fun _ h => h) dX3_reads_45 ?_
        refine lv_bipush (v := 41) hx hb dX3_reads_48 (by decide) ?_
        refine lv_icmp_ne (tgt := 189) hx hb dX3_reads_50 (by decide) (fun c4 => ?_) (fun c4 => ?_)
        · have h := mif_f c4 h
          exact w_X3_reads_189 hC hR N k4 hk4 u x1 x2 x4 h hP hS (lv_sub hl [0, 1, 2, 3] rfl)
        · have h := mif_t c4 h
          refine u_aload_n (r := some a0) hx hb dX3_reads_53 rfl (lv_at hl 0 rfl) ?_
          obtain ⟨c5, h⟩ := mif_n h
          obtain ⟨u6, c7, h⟩ := mbind_n h
          have zu6 := zz_X3_next N (ub G) (ug G) u a0 u6 c7
          refine u_callv (va_runV (As := []) (rest := []) hC.1 (met_X3_next l N G u a0 u6 c7) (cwV 0 hts (lw_V q2154 q2156 qs45 q103 q2157) rfl rfl rfl (by decide +kernel) ⟨Nat.le_trans (Nat.le_of_ble_eq_true rfl) hR.1, Nat.le_trans (Nat.le_of_ble_eq_true rfl) hR.2⟩) ⟨uPc_blind, u_rcv hC hP c5 rfl, fun U hU hW => u_pre hC hP hS hU hW⟩ rfl rfl hl.1 rfl (lv_room (Nat.le_of_ble_eq_true rfl)) dX3_reads_54 ⟨Nat.zero_le _, Nat.zero_le _⟩) hS (fun H locs hP hS => ?_)
          obtain ⟨y8, ey8⟩ : ∃ z : Int32, z = x1 + (-1) := ⟨_, rfl⟩
          have h := mlet_at ey8 h
          refine lv_iinc (v := y8) (lv' := [(1, .int y8), (0, va_rf (some a0)), (2, .int x2), (4, .int x4)]) hx hb dX3_reads_57 hl (k := 1) rfl (by rw [ey8]; rfl) (by decide) rfl (fun ls hl => ?_)
          refine u_aload_n (r := some a0) hx hb dX3_reads_60 rfl (lv_at hl 1 rfl) ?_
          obtain ⟨o9, ho9, h⟩ := mbind_n h
          refine u_get hC hP (uGR_n ho9) rfl in_X3 (by decide) q1955 (fun _ h => h) dX3_reads_61 ?_
          refine lv_iload_n hx hb dX3_reads_64 rfl (lv_at hl 0 rfl) ?_
          obtain ⟨a10, ha10, hha10⟩ := mbind_n h
          subst ha10
          have h := hha10
          obtain ⟨y11, hy11, h⟩ := mbind_n h
          refine u_zald hC hP hy11 rfl dX3_reads_65 ?_
          refine lv_if_ne (tgt := 82) hx hb dX3_reads_66 (by decide) (fun c12 => ?_) (fun c12 => ?_)
          · have h := mif_f c12 h
            exact w_X3_reads_82 hC hR N k4 hk4 (f_X3_reads_35 N (ub G) (ug G) a0 k4 n) ih u6 y8 x2 x4 h hP hS (lv_sub hl [1, 0, 2, 3] rfl)
          · have h := mif_t c12 h
            refine u_aload_n (r := some a0) hx hb dX3_reads_69 rfl (lv_at hl 1 rfl) ?_
            refine u_ldcS hC 37 rfl dX3_reads_70 ?_
            obtain ⟨c13, h⟩ := mif_n h
            obtain ⟨r16, u14, c15, h⟩ := ucall_n h
            have zu14 := zz_X3_word N (ub G) (ug G) u6 a0 (some ((ug G).2.1 37)) r16 u14 c15
            refine u_calli (va_runV (As := [va_rf (some ((ug G).2.1 37))]) (rest := []) hC.1 (met_X3_word l N G u6 a0 (some ((ug G).2.1 37)) r16 u14 c15) (cwV 1 hts (lw_V q2173 q2175 qs48 q103 q2176) rfl rfl rfl (by decide +kernel) ⟨Nat.le_trans (Nat.le_of_ble_eq_true rfl) hR.1, Nat.le_trans (Nat.le_of_ble_eq_true rfl) hR.2⟩) ⟨uPc_blind, u_rcv hC hP c13 rfl, fun U hU hW => u_pre hC hP hS hU hW⟩ rfl rfl hl.1 rfl (lv_room (Nat.le_of_ble_eq_true rfl)) dX3_reads_72 ⟨Nat.zero_le _, Nat.zero_le _⟩) hS (fun H locs hP hS => ?_)
            refine lv_if_eq (tgt := 82) hx hb dX3_reads_75 (by decide) (fun c17 => ?_) (fun c17 => ?_)
            · have h := mif_t c17 h
              exact w_X3_reads_82 hC hR N k4 hk4 (f_X3_reads_35 N (ub G) (ug G) a0 k4 n) ih u14 y8 x2 x4 h hP hS (lv_sub hl [1, 0, 2, 3] rfl)
            · have h := mif_f c17 h
              refine lv_iconst (v := 1) hx hb dX3_reads_78 (by decide) ?_
              refine lv_goto (tgt := 83) hx hb dX3_reads_79 (by decide) ?_
              exact w_X3_reads_83 hC hR N k4 hk4 (f_X3_reads_35 N (ub G) (ug G) a0 k4 n) ih u14 y8 x2 x4 1 h hP hS (lv_sub hl [1, 0, 2, 3] rfl)
def f_X3_reads_4 (N b : Nat) (g : uEnv) (a0 : Nat) : Nat → UH → Int32 → Int32 → Option (UH)
  | 0, _, _, _ => none
  | n + 1, u, x1, x2 =>
    if x2 = 0 then
    if 0 < x1 then
    f_X3_reads_234 N b g a0 u
    else
    (uGI u a0 2 6).bind fun y3 =>
    if y3 = 0 then
    f_X3_reads_244 N b g a0 u
    else
    f_X3_reads_234 N b g a0 u
    else
    if uIs u a0 2 = true then
    ucall (f_X3_opens N b g u a0 x1) fun r8 u6 =>
    (uGI u6 a0 2 13).bind fun y9 =>
    if y9 = 0 then
    if r8 = 0 then
    f_X3_reads_35 N b g a0 (f_X3_reads_4 N b g a0 n) N u6 x1 x2 1
    else
    mlet (x1 + 1) fun y12 =>
    f_X3_reads_4 N b g a0 n u6 y12 x2
    else
    some u6
    else none
set_option maxHeartbeats 4000000 in
set_option maxRecDepth 100000 in
theorem zz_X3_reads_4 {G : uG} {a0 : Nat} {uf : UH} (N : Nat) : ∀ (n : Nat) (u : UH) (x1 : Int32) (x2 : Int32), f_X3_reads_4 N (ub G) (ug G) a0 n u x1 x2 = some uf → uf.1 = u.1 ∧ uf.2.1 = u.2.1 := by
  intro n
  induction n with
  | zero =>
    intro u x1 x2 h
    cases h
  | succ n ih =>
    intro u x1 x2 h
    unfold f_X3_reads_4 at h
    by_cases c1 : x2 = 0
    · have h := mif_t c1 h
      by_cases c2 : 0 < x1
      · have h := mif_t c2 h
        have hq := zz_X3_reads_234 (G := G) (a0 := a0) N u h
        exact ⟨by omega, by omega⟩
      · have h := mif_f c2 h
        obtain ⟨y3, hy3, h⟩ := mbind_n h
        by_cases c4 : y3 = 0
        · have h := mif_t c4 h
          have hq := zz_X3_reads_244 (G := G) (a0 := a0) N u h
          exact ⟨by omega, by omega⟩
        · have h := mif_f c4 h
          have hq := zz_X3_reads_234 (G := G) (a0 := a0) N u h
          exact ⟨by omega, by omega⟩
    · have h := mif_f c1 h
      obtain ⟨c5, h⟩ := mif_n h
      obtain ⟨r8, u6, c7, h⟩ := ucall_n h
      have zu6 := zz_X3_opens N (ub G) (ug G) u a0 x1 r8 u6 c7
      obtain ⟨y9, hy9, h⟩ := mbind_n h
      by_cases c10 : y9 = 0
      · have h := mif_t c10 h
        by_cases c11 : r8 = 0
        · have h := mif_t c11 h
          have hq := zz_X3_reads_35 (G := G) (a0 := a0) N (f_X3_reads_4 N (ub G) (ug G) a0 n) ih N u6 x1 x2 1 h
          exact ⟨by omega, by omega⟩
        · have h := mif_f c11 h
          obtain ⟨y12, ey12⟩ : ∃ z : Int32, z = x1 + 1 := ⟨_, rfl⟩
          have h := mlet_at ey12 h
          have hq := ih u6 y12 x2 h
          exact ⟨by omega, by omega⟩
      · have h := mif_f c10 h
        cases h
        exact ⟨by omega, by omega⟩
set_option maxHeartbeats 4000000 in
set_option maxRecDepth 100000 in
theorem w_X3_reads_4 {p : Program} {l : Launch} {e : Env} {R : Room} {s : State} {m : MethodId} {args : Array Value} {below : List Frame} {meth : Method} {c : Code} {G : uG} {a0 : Nat} {uf : UH} (hC : uC p s m args meth c G RX3 cX3_reads 6 none) (hR : 7 ≤ R.frames ∧ 154 ≤ R.locals) (N : Nat) : ∀ (n : Nat) (u : UH) (x1 : Int32) (x2 : Int32), f_X3_reads_4 N (ub G) (ug G) a0 n u x1 x2 = some uf → ∀ (H : Heap) (locs : List Loc), uP G u H → va_S (uA G) s.heap H locs → ∀ ls : Array Slot, lv_has ls 6 [(0, va_rf (some a0)), (1, .int x1), (2, .int x2)] → W p l e R s m args below meth c H locs 0 0 (MQ below (uQv G uf) args s 0 0 (uA G)) (F0 m 4 ls []) := by
  obtain ⟨⟨hx, hb, hml, hown, hts⟩, hKK⟩ := id hC
  intro n
  induction n with
  | zero =>
    intro u x1 x2 h
    cases h
  | succ n ih =>
    intro u x1 x2 h H locs hP hS ls hl
    unfold f_X3_reads_4 at h
    refine lv_iload_n hx hb dX3_reads_4 rfl (lv_at hl 2 rfl) ?_
    refine lv_if_eq (tgt := 223) hx hb dX3_reads_5 (by decide) (fun c1 => ?_) (fun c1 => ?_)
    · have h := mif_t c1 h
      refine lv_iload_n hx hb dX3_reads_223 rfl (lv_at hl 1 rfl) ?_
      refine lv_if_gt (tgt := 234) hx hb dX3_reads_224 (by decide) (fun c2 => ?_) (fun c2 => ?_)
      · have h := mif_t c2 h
        exact w_X3_reads_234 hC hR N u h hP hS (lv_sub hl [0] rfl)
      · have h := mif_f c2 h
        refine u_aload_n (r := some a0) hx hb dX3_reads_227 rfl (lv_at hl 0 rfl) ?_
        obtain ⟨y3, hy3, h⟩ := mbind_n h
        refine u_get hC hP (uGI_n hy3) rfl in_X3 (by decide) q1899 (fun _ h => h) dX3_reads_228 ?_
        refine lv_if_eq (tgt := 244) hx hb dX3_reads_231 (by decide) (fun c4 => ?_) (fun c4 => ?_)
        · have h := mif_t c4 h
          exact w_X3_reads_244 hC hR N u h hP hS (lv_sub hl [] rfl)
        · have h := mif_f c4 h
          exact w_X3_reads_234 hC hR N u h hP hS (lv_sub hl [0] rfl)
    · have h := mif_f c1 h
      refine u_aload_n (r := some a0) hx hb dX3_reads_8 rfl (lv_at hl 0 rfl) ?_
      refine lv_iload_n hx hb dX3_reads_9 rfl (lv_at hl 1 rfl) ?_
      obtain ⟨c5, h⟩ := mif_n h
      obtain ⟨r8, u6, c7, h⟩ := ucall_n h
      have zu6 := zz_X3_opens N (ub G) (ug G) u a0 x1 r8 u6 c7
      refine u_calli (va_runV (As := [.int x1]) (rest := []) hC.1 (met_X3_opens l N G u a0 x1 r8 u6 c7) (cwV 1 hts (lw_V q2475 q2477 qs88 q103 q2478) rfl rfl rfl (by decide +kernel) ⟨Nat.le_trans (Nat.le_of_ble_eq_true rfl) hR.1, Nat.le_trans (Nat.le_of_ble_eq_true rfl) hR.2⟩) ⟨uPc_blind, u_rcv hC hP c5 rfl, fun U hU hW => u_pre hC hP hS hU hW⟩ rfl rfl hl.1 rfl (lv_room (Nat.le_of_ble_eq_true rfl)) dX3_reads_10 ⟨Nat.zero_le _, Nat.zero_le _⟩) hS (fun H locs hP hS => ?_)
      refine lv_istore_n (i := 3) (lv' := [(3, .int r8), (0, va_rf (some a0)), (1, .int x1), (2, .int x2)]) hx hb dX3_reads_13 rfl hl (by decide) rfl (fun ls hl => ?_)
      refine u_aload_n (r := some a0) hx hb dX3_reads_14 rfl (lv_at hl 1 rfl) ?_
      obtain ⟨y9, hy9, h⟩ := mbind_n h
      refine u_get hC hP (uGI_n hy9) rfl in_X3 (by decide) q1906 (fun _ h => h) dX3_reads_15 ?_
      refine lv_if_eq (tgt := 22) hx hb dX3_reads_18 (by decide) (fun c10 => ?_) (fun c10 => ?_)
      · have h := mif_t c10 h
        refine lv_iload_n hx hb dX3_reads_22 rfl (lv_at hl 0 rfl) ?_
        refine lv_if_eq (tgt := 32) hx hb dX3_reads_23 (by decide) (fun c11 => ?_) (fun c11 => ?_)
        · have h := mif_t c11 h
          refine lv_iconst (v := 1) hx hb dX3_reads_32 (by decide) ?_
          refine lv_istore (lv' := [(4, .int 1), (3, .int r8), (0, va_rf (some a0)), (1, .int x1), (2, .int x2)]) hx hb dX3_reads_33 hl (by decide) rfl (fun ls hl => ?_)
          exact w_X3_reads_35 hC hR N (f_X3_reads_4 N (ub G) (ug G) a0 n) ih N u6 x1 x2 1 h _ _ hP hS _ (lv_sub hl [2, 3, 4, 0] rfl)
        · have h := mif_f c11 h
          obtain ⟨y12, ey12⟩ : ∃ z : Int32, z = x1 + 1 := ⟨_, rfl⟩
          have h := mlet_at ey12 h
          refine lv_iinc (v := y12) (lv' := [(1, .int y12), (3, .int r8), (0, va_rf (some a0)), (2, .int x2)]) hx hb dX3_reads_26 hl (k := 2) rfl (by rw [ey12]; rfl) (by decide) rfl (fun ls hl => ?_)
          refine lv_goto (tgt := 4) hx hb dX3_reads_29 (by decide) ?_
          exact ih u6 y12 x2 h _ _ hP hS _ (lv_sub hl [2, 0, 3] rfl)
      · have h := mif_f c10 h
        cases h
        exact u_vret hC hP hS dX3_reads_21
def f_X3_reads (N b : Nat) (g : uEnv) (u : UH) (a0 : Nat) : Option (UH) :=
    f_X3_reads_4 N b g a0 N u 0 1
set_option maxHeartbeats 4000000 in
set_option maxRecDepth 100000 in
theorem zz_X3_reads_0 {G : uG} {a0 : Nat} {uf : UH} (N : Nat) (u : UH) (h : f_X3_reads N (ub G) (ug G) u a0 = some uf) : uf.1 = u.1 ∧ uf.2.1 = u.2.1 := by
  unfold f_X3_reads at h
  have hq := zz_X3_reads_4 (G := G) (a0 := a0) N N u 0 1 h
  exact ⟨by omega, by omega⟩
set_option maxHeartbeats 4000000 in
set_option maxRecDepth 100000 in
theorem w_X3_reads_0 {p : Program} {l : Launch} {e : Env} {R : Room} {s : State} {m : MethodId} {args : Array Value} {below : List Frame} {meth : Method} {c : Code} {G : uG} {a0 : Nat} {uf : UH} (hC : uC p s m args meth c G RX3 cX3_reads 6 none) (hR : 7 ≤ R.frames ∧ 154 ≤ R.locals) (N : Nat) (u : UH) (h : f_X3_reads N (ub G) (ug G) u a0 = some uf) {H : Heap} {locs : List Loc} (hP : uP G u H) (hS : va_S (uA G) s.heap H locs) {ls : Array Slot} (hl : lv_has ls 6 [(0, va_rf (some a0))]) : W p l e R s m args below meth c H locs 0 0 (MQ below (uQv G uf) args s 0 0 (uA G)) (F0 m 0 ls []) := by
  obtain ⟨⟨hx, hb, hml, hown, hts⟩, hKK⟩ := id hC
  unfold f_X3_reads at h
  refine lv_iconst (v := 0) hx hb dX3_reads_0 (by decide) ?_
  refine lv_istore_n (i := 1) (lv' := [(1, .int 0), (0, va_rf (some a0))]) hx hb dX3_reads_1 rfl hl (by decide) rfl (fun ls hl => ?_)
  refine lv_iconst (v := 1) hx hb dX3_reads_2 (by decide) ?_
  refine lv_istore_n (i := 2) (lv' := [(2, .int 1), (1, .int 0), (0, va_rf (some a0))]) hx hb dX3_reads_3 rfl hl (by decide) rfl (fun ls hl => ?_)
  exact w_X3_reads_4 hC hR N N u 0 1 h _ _ hP hS _ (lv_sub hl [2, 1, 0] rfl)
theorem zz_X3_reads (N b : Nat) (g : uEnv) (u : UH) (a0 : Nat) (uf : UH) (h : f_X3_reads N b g u a0 = some uf) : uf.1 = u.1 ∧ uf.2.1 = u.2.1 :=
  zz_X3_reads_0 (G := ((fun _ => 0, fun _ _ => 0), fun _ => 0, b, g)) (a0 := a0) N u h
theorem met_X3_reads (l : Launch) (N : Nat) (G : uG) (u : UH) (a0 : Nat) (uf : UH) (h : f_X3_reads N (ub G) (ug G) u a0 = some uf) : Met l yX3_reads (ws_ yX3_reads cX3_reads 6 none) ({ frames := 7, cells := 0, slots := 0, locals := 154 }) (uPc G u [.ref a0]) (uQv G uf) 0 0 (uA G) := by
  exact u_met (own := RX3) (by decide +kernel) rfl (Nat.le_of_ble_eq_true rfl) (fun hC hn hsz ls hl hP => w_X3_reads_0 hC ⟨Nat.le_refl _, Nat.le_refl _⟩ N u h hP va_S.rf hl)
def f_X3_plan (N b : Nat) (g : uEnv) (u : UH) (a0 : Nat) (x1 : Int32) : Option (Int32 × UH) :=
    if uIs u a0 2 = true then
    (f_X3_good N b g u a0).bind fun u2 =>
    (uGI u2 a0 2 34).bind fun y4 =>
    if y4 = 0 then
    if uIs u2 a0 2 = true then
    ucall (f_X3_no N b g u2 a0 1) fun r48 u46 =>
    some (r48, u46)
    else none
    else
    (uGI u2 a0 2 2).bind fun y6 =>
    ucall (f_X3_within N b g u2 x1 0 y6) fun r9 u7 =>
    if r9 = 0 then
    if uIs u7 a0 2 = true then
    ucall (f_X3_no N b g u7 a0 2) fun r44 u42 =>
    some (r44, u42)
    else none
    else
    (uPut b u7 a0 2 2 (.int 0)).bind fun u11 =>
    (uPut b u11 a0 2 9 (.int 0)).bind fun u12 =>
    (uPut b u12 a0 2 58 (.int 0)).bind fun u13 =>
    (uPut b u13 a0 2 59 (.int 0)).bind fun u14 =>
    if uIs u14 a0 2 = true then
    (f_X3_begins N b g u14 a0 x1).bind fun u16 =>
    if uIs u16 a0 2 = true then
    (f_X3_reads N b g u16 a0).bind fun u19 =>
    (uGI u19 a0 2 13).bind fun y21 =>
    if y21 = 0 then
    (uGI u19 a0 2 40).bind fun y23 =>
    if y23 = 8 then
    if uIs u19 a0 2 = true then
    ucall (f_X3_no N b g u19 a0 3) fun r36 u34 =>
    some (r36, u34)
    else none
    else
    (uGR u19 a0 2 57).bind fun o25 =>
    (uGI u19 a0 2 40).bind fun y26 =>
    (uGI u19 a0 2 58).bind fun y27 =>
    (o25).bind fun a28 =>
    (uStI b u19 a28 0 y26 y27).bind fun u29 =>
    (uGI u29 a0 2 40).bind fun y30 =>
    (uPut b u29 a0 2 40 (.int (y30 + 1))).bind fun u31 =>
    (uGI u31 a0 2 40).bind fun y32 =>
    some (y32 - 1, u31)
    else
    if uIs u19 a0 2 = true then
    ucall (f_X3_no N b g u19 a0 4) fun r40 u38 =>
    some (r40, u38)
    else none
    else none
    else none
    else none
set_option maxHeartbeats 4000000 in
set_option maxRecDepth 100000 in
theorem zz_X3_plan_0 {G : uG} {a0 : Nat} {uf : UH} {r : Int32} (N : Nat) (u : UH) (x1 : Int32) (h : f_X3_plan N (ub G) (ug G) u a0 x1 = some (r, uf)) : uf.1 = u.1 ∧ uf.2.1 = u.2.1 := by
  unfold f_X3_plan at h
  obtain ⟨c1, h⟩ := mif_n h
  obtain ⟨u2, c3, h⟩ := mbind_n h
  have zu2 := zz_X3_good N (ub G) (ug G) u a0 u2 c3
  obtain ⟨y4, hy4, h⟩ := mbind_n h
  by_cases c5 : y4 = 0
  · have h := mif_t c5 h
    obtain ⟨c45, h⟩ := mif_n h
    obtain ⟨r48, u46, c47, h⟩ := ucall_n h
    have zu46 := zz_X3_no N (ub G) (ug G) u2 a0 1 r48 u46 c47
    obtain ⟨hr1, hr2⟩ := uret_n h
    subst hr2
    exact ⟨by omega, by omega⟩
  · have h := mif_f c5 h
    obtain ⟨y6, hy6, h⟩ := mbind_n h
    obtain ⟨r9, u7, c8, h⟩ := ucall_n h
    have zu7 := zz_X3_within N (ub G) (ug G) u2 x1 0 y6 r9 u7 c8
    by_cases c10 : r9 = 0
    · have h := mif_t c10 h
      obtain ⟨c41, h⟩ := mif_n h
      obtain ⟨r44, u42, c43, h⟩ := ucall_n h
      have zu42 := zz_X3_no N (ub G) (ug G) u7 a0 2 r44 u42 c43
      obtain ⟨hr1, hr2⟩ := uret_n h
      subst hr2
      exact ⟨by omega, by omega⟩
    · have h := mif_f c10 h
      obtain ⟨u11, hu11, h⟩ := mbind_n h
      have zu11 := uPut_sz hu11
      obtain ⟨u12, hu12, h⟩ := mbind_n h
      have zu12 := uPut_sz hu12
      obtain ⟨u13, hu13, h⟩ := mbind_n h
      have zu13 := uPut_sz hu13
      obtain ⟨u14, hu14, h⟩ := mbind_n h
      have zu14 := uPut_sz hu14
      obtain ⟨c15, h⟩ := mif_n h
      obtain ⟨u16, c17, h⟩ := mbind_n h
      have zu16 := zz_X3_begins N (ub G) (ug G) u14 a0 x1 u16 c17
      obtain ⟨c18, h⟩ := mif_n h
      obtain ⟨u19, c20, h⟩ := mbind_n h
      have zu19 := zz_X3_reads N (ub G) (ug G) u16 a0 u19 c20
      obtain ⟨y21, hy21, h⟩ := mbind_n h
      by_cases c22 : y21 = 0
      · have h := mif_t c22 h
        obtain ⟨y23, hy23, h⟩ := mbind_n h
        by_cases c24 : y23 = 8
        · have h := mif_t c24 h
          obtain ⟨c33, h⟩ := mif_n h
          obtain ⟨r36, u34, c35, h⟩ := ucall_n h
          have zu34 := zz_X3_no N (ub G) (ug G) u19 a0 3 r36 u34 c35
          obtain ⟨hr1, hr2⟩ := uret_n h
          subst hr2
          exact ⟨by omega, by omega⟩
        · have h := mif_f c24 h
          obtain ⟨o25, ho25, h⟩ := mbind_n h
          obtain ⟨y26, hy26, h⟩ := mbind_n h
          obtain ⟨y27, hy27, h⟩ := mbind_n h
          obtain ⟨a28, ha28, hha28⟩ := mbind_n h
          subst ha28
          have h := hha28
          obtain ⟨u29, hu29, h⟩ := mbind_n h
          have zu29 := uStI_sz hu29
          obtain ⟨y30, hy30, h⟩ := mbind_n h
          obtain ⟨u31, hu31, h⟩ := mbind_n h
          have zu31 := uPut_sz hu31
          obtain ⟨y32, hy32, h⟩ := mbind_n h
          obtain ⟨hr1, hr2⟩ := uret_n h
          subst hr2
          exact ⟨by omega, by omega⟩
      · have h := mif_f c22 h
        obtain ⟨c37, h⟩ := mif_n h
        obtain ⟨r40, u38, c39, h⟩ := ucall_n h
        have zu38 := zz_X3_no N (ub G) (ug G) u19 a0 4 r40 u38 c39
        obtain ⟨hr1, hr2⟩ := uret_n h
        subst hr2
        exact ⟨by omega, by omega⟩
set_option maxHeartbeats 4000000 in
set_option maxRecDepth 100000 in
theorem w_X3_plan_0 {p : Program} {l : Launch} {e : Env} {R : Room} {s : State} {m : MethodId} {args : Array Value} {below : List Frame} {meth : Method} {c : Code} {G : uG} {a0 : Nat} {uf : UH} {r : Int32} (hC : uC p s m args meth c G RX3 cX3_plan 2 (some .int)) (hR : 8 ≤ R.frames ∧ 179 ≤ R.locals) (N : Nat) (u : UH) (x1 : Int32) (h : f_X3_plan N (ub G) (ug G) u a0 x1 = some (r, uf)) {H : Heap} {locs : List Loc} (hP : uP G u H) (hS : va_S (uA G) s.heap H locs) {ls : Array Slot} (hl : lv_has ls 2 [(0, va_rf (some a0)), (1, .int x1)]) : W p l e R s m args below meth c H locs 0 0 (MQ below (uQi G r uf) args s 0 0 (uA G)) (F0 m 0 ls []) := by
  obtain ⟨⟨hx, hb, hml, hown, hts⟩, hKK⟩ := id hC
  unfold f_X3_plan at h
  refine u_aload_n (r := some a0) hx hb dX3_plan_0 rfl (lv_at hl 0 rfl) ?_
  obtain ⟨c1, h⟩ := mif_n h
  obtain ⟨u2, c3, h⟩ := mbind_n h
  have zu2 := zz_X3_good N (ub G) (ug G) u a0 u2 c3
  refine u_callv (va_runV (As := []) (rest := []) hC.1 (met_X3_good l N G u a0 u2 c3) (cwV 0 hts (lw_V q2131 q2133 qs40 q103 q2134) rfl rfl rfl (by decide +kernel) ⟨Nat.le_trans (Nat.le_of_ble_eq_true rfl) hR.1, Nat.le_trans (Nat.le_of_ble_eq_true rfl) hR.2⟩) ⟨uPc_blind, u_rcv hC hP c1 rfl, fun U hU hW => u_pre hC hP hS hU hW⟩ rfl rfl hl.1 rfl (lv_room (Nat.le_of_ble_eq_true rfl)) dX3_plan_1 ⟨Nat.zero_le _, Nat.zero_le _⟩) hS (fun H locs hP hS => ?_)
  refine u_aload_n (r := some a0) hx hb dX3_plan_4 rfl (lv_at hl 0 rfl) ?_
  obtain ⟨y4, hy4, h⟩ := mbind_n h
  refine u_get hC hP (uGI_n hy4) rfl in_X3 (by decide) q1927 (fun _ h => h) dX3_plan_5 ?_
  refine lv_if_ne (tgt := 17) hx hb dX3_plan_8 (by decide) (fun c5 => ?_) (fun c5 => ?_)
  · have h := mif_f c5 h
    refine lv_iload_n hx hb dX3_plan_17 rfl (lv_at hl 1 rfl) ?_
    refine lv_iconst (v := 0) hx hb dX3_plan_18 (by decide) ?_
    refine u_aload_n (r := some a0) hx hb dX3_plan_19 rfl (lv_at hl 0 rfl) ?_
    obtain ⟨y6, hy6, h⟩ := mbind_n h
    refine u_get hC hP (uGI_n hy6) rfl in_X3 (by decide) q1895 (fun _ h => h) dX3_plan_20 ?_
    obtain ⟨r9, u7, c8, h⟩ := ucall_n h
    have zu7 := zz_X3_within N (ub G) (ug G) u2 x1 0 y6 r9 u7 c8
    refine u_calli (va_runS (As := [.int x1, .int 0, .int y6]) (rest := []) hC.1 (met_X3_within l N G u2 x1 0 y6 r9 u7 c8) (va_cwS 3 hts (lw_S q2135 q2136 q103 q2137) rfl rfl rfl (by decide +kernel) ⟨Nat.le_trans (Nat.le_of_ble_eq_true rfl) hR.1, Nat.le_trans (Nat.le_of_ble_eq_true rfl) hR.2⟩) ⟨uPc_blind, fun U hU hW => u_pre hC hP hS hU hW⟩ rfl rfl hl.1 rfl (lv_room (Nat.le_of_ble_eq_true rfl)) dX3_plan_23 ⟨Nat.zero_le _, Nat.zero_le _⟩) hS (fun H locs hP hS => ?_)
    refine lv_if_ne (tgt := 35) hx hb dX3_plan_26 (by decide) (fun c10 => ?_) (fun c10 => ?_)
    · have h := mif_f c10 h
      refine u_aload_n (r := some a0) hx hb dX3_plan_35 rfl (lv_at hl 0 rfl) ?_
      refine lv_iconst (v := 0) hx hb dX3_plan_36 (by decide) ?_
      obtain ⟨u11, hu11, h⟩ := mbind_n h
      have zu11 := uPut_sz hu11
      refine u_put hC hP hS hu11 rfl in_X3 tyX3 tyX3_ok nmX3 (by decide) q1895 (fun _ h => h) rfl (ty := .int) (tyX3_ok 2 (by decide)) rfl rfl dX3_plan_37 (fun H locs hP hS => ?_)
      refine u_aload_n (r := some a0) hx hb dX3_plan_40 rfl (lv_at hl 0 rfl) ?_
      refine lv_iconst (v := 0) hx hb dX3_plan_41 (by decide) ?_
      obtain ⟨u12, hu12, h⟩ := mbind_n h
      have zu12 := uPut_sz hu12
      refine u_put hC hP hS hu12 rfl in_X3 tyX3 tyX3_ok nmX3 (by decide) q1902 (fun _ h => h) rfl (ty := .int) (tyX3_ok 9 (by decide)) rfl rfl dX3_plan_42 (fun H locs hP hS => ?_)
      refine u_aload_n (r := some a0) hx hb dX3_plan_45 rfl (lv_at hl 0 rfl) ?_
      refine lv_iconst (v := 0) hx hb dX3_plan_46 (by decide) ?_
      obtain ⟨u13, hu13, h⟩ := mbind_n h
      have zu13 := uPut_sz hu13
      refine u_put hC hP hS hu13 rfl in_X3 tyX3 tyX3_ok nmX3 (by decide) q1951 (fun _ h => h) rfl (ty := .int) (tyX3_ok 58 (by decide)) rfl rfl dX3_plan_47 (fun H locs hP hS => ?_)
      refine u_aload_n (r := some a0) hx hb dX3_plan_50 rfl (lv_at hl 0 rfl) ?_
      refine lv_iconst (v := 0) hx hb dX3_plan_51 (by decide) ?_
      obtain ⟨u14, hu14, h⟩ := mbind_n h
      have zu14 := uPut_sz hu14
      refine u_put hC hP hS hu14 rfl in_X3 tyX3 tyX3_ok nmX3 (by decide) q1952 (fun _ h => h) rfl (ty := .int) (tyX3_ok 59 (by decide)) rfl rfl dX3_plan_52 (fun H locs hP hS => ?_)
      refine u_aload_n (r := some a0) hx hb dX3_plan_55 rfl (lv_at hl 0 rfl) ?_
      refine lv_iload_n hx hb dX3_plan_56 rfl (lv_at hl 1 rfl) ?_
      obtain ⟨c15, h⟩ := mif_n h
      obtain ⟨u16, c17, h⟩ := mbind_n h
      have zu16 := zz_X3_begins N (ub G) (ug G) u14 a0 x1 u16 c17
      refine u_callv (va_runV (As := [.int x1]) (rest := []) hC.1 (met_X3_begins l N G u14 a0 x1 u16 c17) (cwV 1 hts (lw_V q2150 q2152 qs44 q103 q2153) rfl rfl rfl (by decide +kernel) ⟨Nat.le_trans (Nat.le_of_ble_eq_true rfl) hR.1, Nat.le_trans (Nat.le_of_ble_eq_true rfl) hR.2⟩) ⟨uPc_blind, u_rcv hC hP c15 rfl, fun U hU hW => u_pre hC hP hS hU hW⟩ rfl rfl hl.1 rfl (lv_room (Nat.le_of_ble_eq_true rfl)) dX3_plan_57 ⟨Nat.zero_le _, Nat.zero_le _⟩) hS (fun H locs hP hS => ?_)
      refine u_aload_n (r := some a0) hx hb dX3_plan_60 rfl (lv_at hl 0 rfl) ?_
      obtain ⟨c18, h⟩ := mif_n h
      obtain ⟨u19, c20, h⟩ := mbind_n h
      have zu19 := zz_X3_reads N (ub G) (ug G) u16 a0 u19 c20
      refine u_callv (va_runV (As := []) (rest := []) hC.1 (met_X3_reads l N G u16 a0 u19 c20) (cwV 0 hts (lw_V q2471 q2473 qs87 q103 q2474) rfl rfl rfl (by decide +kernel) ⟨Nat.le_trans (Nat.le_of_ble_eq_true rfl) hR.1, Nat.le_trans (Nat.le_of_ble_eq_true rfl) hR.2⟩) ⟨uPc_blind, u_rcv hC hP c18 rfl, fun U hU hW => u_pre hC hP hS hU hW⟩ rfl rfl hl.1 rfl (lv_room (Nat.le_of_ble_eq_true rfl)) dX3_plan_61 ⟨Nat.zero_le _, Nat.zero_le _⟩) hS (fun H locs hP hS => ?_)
      refine u_aload_n (r := some a0) hx hb dX3_plan_64 rfl (lv_at hl 0 rfl) ?_
      obtain ⟨y21, hy21, h⟩ := mbind_n h
      refine u_get hC hP (uGI_n hy21) rfl in_X3 (by decide) q1906 (fun _ h => h) dX3_plan_65 ?_
      refine lv_if_eq (tgt := 77) hx hb dX3_plan_68 (by decide) (fun c22 => ?_) (fun c22 => ?_)
      · have h := mif_t c22 h
        refine u_aload_n (r := some a0) hx hb dX3_plan_77 rfl (lv_at hl 0 rfl) ?_
        obtain ⟨y23, hy23, h⟩ := mbind_n h
        refine u_get hC hP (uGI_n hy23) rfl in_X3 (by decide) q1933 (fun _ h => h) dX3_plan_78 ?_
        refine lv_bipush (v := 8) hx hb dX3_plan_81 (by decide) ?_
        refine lv_icmp_ne (tgt := 92) hx hb dX3_plan_83 (by decide) (fun c24 => ?_) (fun c24 => ?_)
        · have h := mif_f c24 h
          refine u_aload_n (r := some a0) hx hb dX3_plan_92 rfl (lv_at hl 0 rfl) ?_
          obtain ⟨o25, ho25, h⟩ := mbind_n h
          refine u_get hC hP (uGR_n ho25) rfl in_X3 (by decide) q1950 (fun _ h => h) dX3_plan_93 ?_
          refine u_aload_n (r := some a0) hx hb dX3_plan_96 rfl (lv_at hl 0 rfl) ?_
          obtain ⟨y26, hy26, h⟩ := mbind_n h
          refine u_get hC hP (uGI_n hy26) rfl in_X3 (by decide) q1933 (fun _ h => h) dX3_plan_97 ?_
          refine u_aload_n (r := some a0) hx hb dX3_plan_100 rfl (lv_at hl 0 rfl) ?_
          obtain ⟨y27, hy27, h⟩ := mbind_n h
          refine u_get hC hP (uGI_n hy27) rfl in_X3 (by decide) q1951 (fun _ h => h) dX3_plan_101 ?_
          obtain ⟨a28, ha28, hha28⟩ := mbind_n h
          subst ha28
          have h := hha28
          obtain ⟨u29, hu29, h⟩ := mbind_n h
          have zu29 := uStI_sz hu29
          refine u_iast hC hP hS hu29 rfl dX3_plan_104 (fun H locs hP hS => ?_)
          refine u_aload_n (r := some a0) hx hb dX3_plan_105 rfl (lv_at hl 0 rfl) ?_
          refine lv_dup hx hb dX3_plan_106 (u_cat _) ?_
          obtain ⟨y30, hy30, h⟩ := mbind_n h
          refine u_get hC hP (uGI_n hy30) rfl in_X3 (by decide) q1933 (fun _ h => h) dX3_plan_107 ?_
          refine lv_iconst (v := 1) hx hb dX3_plan_110 (by decide) ?_
          refine lv_iadd hx hb dX3_plan_111 ?_
          obtain ⟨u31, hu31, h⟩ := mbind_n h
          have zu31 := uPut_sz hu31
          refine u_put hC hP hS hu31 rfl in_X3 tyX3 tyX3_ok nmX3 (by decide) q1933 (fun _ h => h) rfl (ty := .int) (tyX3_ok 40 (by decide)) rfl rfl dX3_plan_112 (fun H locs hP hS => ?_)
          refine u_aload_n (r := some a0) hx hb dX3_plan_115 rfl (lv_at hl 0 rfl) ?_
          obtain ⟨y32, hy32, h⟩ := mbind_n h
          refine u_get hC hP (uGI_n hy32) rfl in_X3 (by decide) q1933 (fun _ h => h) dX3_plan_116 ?_
          refine lv_iconst (v := 1) hx hb dX3_plan_119 (by decide) ?_
          refine lv_isub hx hb dX3_plan_120 ?_
          obtain ⟨hr1, hr2⟩ := uret_n h
          subst hr1
          subst hr2
          exact u_iret hC hP hS dX3_plan_121
        · have h := mif_t c24 h
          refine u_aload_n (r := some a0) hx hb dX3_plan_86 rfl (lv_at hl 0 rfl) ?_
          refine lv_iconst (v := 3) hx hb dX3_plan_87 (by decide) ?_
          obtain ⟨c33, h⟩ := mif_n h
          obtain ⟨r36, u34, c35, h⟩ := ucall_n h
          have zu34 := zz_X3_no N (ub G) (ug G) u19 a0 3 r36 u34 c35
          refine u_calli (va_runV (As := [.int 3]) (rest := []) hC.1 (met_X3_no l N G u19 a0 3 r36 u34 c35) (cwV 1 hts (lw_V q2138 q2140 qs41 q103 q2141) rfl rfl rfl (by decide +kernel) ⟨Nat.le_trans (Nat.le_of_ble_eq_true rfl) hR.1, Nat.le_trans (Nat.le_of_ble_eq_true rfl) hR.2⟩) ⟨uPc_blind, u_rcv hC hP c33 rfl, fun U hU hW => u_pre hC hP hS hU hW⟩ rfl rfl hl.1 rfl (lv_room (Nat.le_of_ble_eq_true rfl)) dX3_plan_88 ⟨Nat.zero_le _, Nat.zero_le _⟩) hS (fun H locs hP hS => ?_)
          obtain ⟨hr1, hr2⟩ := uret_n h
          subst hr1
          subst hr2
          exact u_iret hC hP hS dX3_plan_91
      · have h := mif_f c22 h
        refine u_aload_n (r := some a0) hx hb dX3_plan_71 rfl (lv_at hl 0 rfl) ?_
        refine lv_iconst (v := 4) hx hb dX3_plan_72 (by decide) ?_
        obtain ⟨c37, h⟩ := mif_n h
        obtain ⟨r40, u38, c39, h⟩ := ucall_n h
        have zu38 := zz_X3_no N (ub G) (ug G) u19 a0 4 r40 u38 c39
        refine u_calli (va_runV (As := [.int 4]) (rest := []) hC.1 (met_X3_no l N G u19 a0 4 r40 u38 c39) (cwV 1 hts (lw_V q2138 q2140 qs41 q103 q2141) rfl rfl rfl (by decide +kernel) ⟨Nat.le_trans (Nat.le_of_ble_eq_true rfl) hR.1, Nat.le_trans (Nat.le_of_ble_eq_true rfl) hR.2⟩) ⟨uPc_blind, u_rcv hC hP c37 rfl, fun U hU hW => u_pre hC hP hS hU hW⟩ rfl rfl hl.1 rfl (lv_room (Nat.le_of_ble_eq_true rfl)) dX3_plan_73 ⟨Nat.zero_le _, Nat.zero_le _⟩) hS (fun H locs hP hS => ?_)
        obtain ⟨hr1, hr2⟩ := uret_n h
        subst hr1
        subst hr2
        exact u_iret hC hP hS dX3_plan_76
    · have h := mif_t c10 h
      refine u_aload_n (r := some a0) hx hb dX3_plan_29 rfl (lv_at hl 0 rfl) ?_
      refine lv_iconst (v := 2) hx hb dX3_plan_30 (by decide) ?_
      obtain ⟨c41, h⟩ := mif_n h
      obtain ⟨r44, u42, c43, h⟩ := ucall_n h
      have zu42 := zz_X3_no N (ub G) (ug G) u7 a0 2 r44 u42 c43
      refine u_calli (va_runV (As := [.int 2]) (rest := []) hC.1 (met_X3_no l N G u7 a0 2 r44 u42 c43) (cwV 1 hts (lw_V q2138 q2140 qs41 q103 q2141) rfl rfl rfl (by decide +kernel) ⟨Nat.le_trans (Nat.le_of_ble_eq_true rfl) hR.1, Nat.le_trans (Nat.le_of_ble_eq_true rfl) hR.2⟩) ⟨uPc_blind, u_rcv hC hP c41 rfl, fun U hU hW => u_pre hC hP hS hU hW⟩ rfl rfl hl.1 rfl (lv_room (Nat.le_of_ble_eq_true rfl)) dX3_plan_31 ⟨Nat.zero_le _, Nat.zero_le _⟩) hS (fun H locs hP hS => ?_)
      obtain ⟨hr1, hr2⟩ := uret_n h
      subst hr1
      subst hr2
      exact u_iret hC hP hS dX3_plan_34
  · have h := mif_t c5 h
    refine u_aload_n (r := some a0) hx hb dX3_plan_11 rfl (lv_at hl 0 rfl) ?_
    refine lv_iconst (v := 1) hx hb dX3_plan_12 (by decide) ?_
    obtain ⟨c45, h⟩ := mif_n h
    obtain ⟨r48, u46, c47, h⟩ := ucall_n h
    have zu46 := zz_X3_no N (ub G) (ug G) u2 a0 1 r48 u46 c47
    refine u_calli (va_runV (As := [.int 1]) (rest := []) hC.1 (met_X3_no l N G u2 a0 1 r48 u46 c47) (cwV 1 hts (lw_V q2138 q2140 qs41 q103 q2141) rfl rfl rfl (by decide +kernel) ⟨Nat.le_trans (Nat.le_of_ble_eq_true rfl) hR.1, Nat.le_trans (Nat.le_of_ble_eq_true rfl) hR.2⟩) ⟨uPc_blind, u_rcv hC hP c45 rfl, fun U hU hW => u_pre hC hP hS hU hW⟩ rfl rfl hl.1 rfl (lv_room (Nat.le_of_ble_eq_true rfl)) dX3_plan_13 ⟨Nat.zero_le _, Nat.zero_le _⟩) hS (fun H locs hP hS => ?_)
    obtain ⟨hr1, hr2⟩ := uret_n h
    subst hr1
    subst hr2
    exact u_iret hC hP hS dX3_plan_16
theorem zz_X3_plan (N b : Nat) (g : uEnv) (u : UH) (a0 : Nat) (x1 : Int32) (r : Int32) (uf : UH) (h : f_X3_plan N b g u a0 x1 = some (r, uf)) : uf.1 = u.1 ∧ uf.2.1 = u.2.1 :=
  zz_X3_plan_0 (G := ((fun _ => 0, fun _ _ => 0), fun _ => 0, b, g)) (a0 := a0) N u x1 h
theorem met_X3_plan (l : Launch) (N : Nat) (G : uG) (u : UH) (a0 : Nat) (x1 : Int32) (r : Int32) (uf : UH) (h : f_X3_plan N (ub G) (ug G) u a0 x1 = some (r, uf)) : Met l yX3_plan (ws_ yX3_plan cX3_plan 2 (some .int)) ({ frames := 8, cells := 0, slots := 0, locals := 179 }) (uPc G u [.ref a0, .int x1]) (uQi G r uf) 0 0 (uA G) := by
  exact u_met (own := RX3) (by decide +kernel) rfl (Nat.le_of_ble_eq_true rfl) (fun hC hn hsz ls hl hP => w_X3_plan_0 hC ⟨Nat.le_refl _, Nat.le_refl _⟩ N u x1 h hP va_S.rf hl)
def f_X3_regret_20 (N b : Nat) (g : uEnv) (a0 : Nat) (u : UH) : Option (Int32 × UH) :=
    if uIs u a0 2 = true then
    ucall (f_X3_no N b g u a0 1) fun r4 u2 =>
    some (r4, u2)
    else none
set_option maxHeartbeats 4000000 in
set_option maxRecDepth 100000 in
theorem zz_X3_regret_20 {G : uG} {a0 : Nat} {uf : UH} {r : Int32} (N : Nat) (u : UH) (h : f_X3_regret_20 N (ub G) (ug G) a0 u = some (r, uf)) : uf.1 = u.1 ∧ uf.2.1 = u.2.1 := by
  unfold f_X3_regret_20 at h
  obtain ⟨c1, h⟩ := mif_n h
  obtain ⟨r4, u2, c3, h⟩ := ucall_n h
  have zu2 := zz_X3_no N (ub G) (ug G) u a0 1 r4 u2 c3
  obtain ⟨hr1, hr2⟩ := uret_n h
  subst hr2
  exact ⟨by omega, by omega⟩
set_option maxHeartbeats 4000000 in
set_option maxRecDepth 100000 in
theorem w_X3_regret_20 {p : Program} {l : Launch} {e : Env} {R : Room} {s : State} {m : MethodId} {args : Array Value} {below : List Frame} {meth : Method} {c : Code} {G : uG} {a0 : Nat} {uf : UH} {r : Int32} (hC : uC p s m args meth c G RX3 cX3_regret 7 (some .int)) (hR : 7 ≤ R.frames ∧ 177 ≤ R.locals) (N : Nat) (u : UH) (h : f_X3_regret_20 N (ub G) (ug G) a0 u = some (r, uf)) {H : Heap} {locs : List Loc} (hP : uP G u H) (hS : va_S (uA G) s.heap H locs) {ls : Array Slot} (hl : lv_has ls 7 [(0, va_rf (some a0))]) : W p l e R s m args below meth c H locs 0 0 (MQ below (uQi G r uf) args s 0 0 (uA G)) (F0 m 20 ls []) := by
  obtain ⟨⟨hx, hb, hml, hown, hts⟩, hKK⟩ := id hC
  unfold f_X3_regret_20 at h
  refine u_aload_n (r := some a0) hx hb dX3_regret_20 rfl (lv_at hl 0 rfl) ?_
  refine lv_iconst (v := 1) hx hb dX3_regret_21 (by decide) ?_
  obtain ⟨c1, h⟩ := mif_n h
  obtain ⟨r4, u2, c3, h⟩ := ucall_n h
  have zu2 := zz_X3_no N (ub G) (ug G) u a0 1 r4 u2 c3
  refine u_calli (va_runV (As := [.int 1]) (rest := []) hC.1 (met_X3_no l N G u a0 1 r4 u2 c3) (cwV 1 hts (lw_V q2138 q2140 qs41 q103 q2141) rfl rfl rfl (by decide +kernel) ⟨Nat.le_trans (Nat.le_of_ble_eq_true rfl) hR.1, Nat.le_trans (Nat.le_of_ble_eq_true rfl) hR.2⟩) ⟨uPc_blind, u_rcv hC hP c1 rfl, fun U hU hW => u_pre hC hP hS hU hW⟩ rfl rfl hl.1 rfl (lv_room (Nat.le_of_ble_eq_true rfl)) dX3_regret_22 ⟨Nat.zero_le _, Nat.zero_le _⟩) hS (fun H locs hP hS => ?_)
  obtain ⟨hr1, hr2⟩ := uret_n h
  subst hr1
  subst hr2
  exact u_iret hC hP hS dX3_regret_25
def f_X3_regret_151 (N b : Nat) (g : uEnv) (a0 : Nat) : Nat → UH → Int32 → Int32 → Int32 → Option (Int32 × UH)
  | 0, _, _, _, _ => none
  | n + 1, u, x3, x4, x5 =>
    if x3 ≤ x5 then
    some (x4, u)
    else
    (uGR u a0 2 54).bind fun o2 =>
    (uGR u a0 2 74).bind fun o3 =>
    (o3).bind fun a4 =>
    (uLdI u a4 0 x5).bind fun y5 =>
    (o2).bind fun a6 =>
    (uStI b u a6 0 x5 y5).bind fun u7 =>
    mlet (x5 + 1) fun y8 =>
    f_X3_regret_151 N b g a0 n u7 x3 x4 y8
set_option maxHeartbeats 4000000 in
set_option maxRecDepth 100000 in
theorem zz_X3_regret_151 {G : uG} {a0 : Nat} {uf : UH} {r : Int32} (N : Nat) : ∀ (n : Nat) (u : UH) (x3 : Int32) (x4 : Int32) (x5 : Int32), f_X3_regret_151 N (ub G) (ug G) a0 n u x3 x4 x5 = some (r, uf) → uf.1 = u.1 ∧ uf.2.1 = u.2.1 := by
  intro n
  induction n with
  | zero =>
    intro u x3 x4 x5 h
    cases h
  | succ n ih =>
    intro u x3 x4 x5 h
    unfold f_X3_regret_151 at h
    by_cases c1 : x3 ≤ x5
    · have h := mif_t c1 h
      obtain ⟨hr1, hr2⟩ := uret_n h
      subst hr2
      exact ⟨by omega, by omega⟩
    · have h := mif_f c1 h
      obtain ⟨o2, ho2, h⟩ := mbind_n h
      obtain ⟨o3, ho3, h⟩ := mbind_n h
      obtain ⟨a4, ha4, hha4⟩ := mbind_n h
      subst ha4
      have h := hha4
      obtain ⟨y5, hy5, h⟩ := mbind_n h
      obtain ⟨a6, ha6, hha6⟩ := mbind_n h
      subst ha6
      have h := hha6
      obtain ⟨u7, hu7, h⟩ := mbind_n h
      have zu7 := uStI_sz hu7
      obtain ⟨y8, ey8⟩ : ∃ z : Int32, z = x5 + 1 := ⟨_, rfl⟩
      have h := mlet_at ey8 h
      have hq := ih u7 x3 x4 y8 h
      exact ⟨by omega, by omega⟩
set_option maxHeartbeats 4000000 in
set_option maxRecDepth 100000 in
theorem w_X3_regret_151 {p : Program} {l : Launch} {e : Env} {R : Room} {s : State} {m : MethodId} {args : Array Value} {below : List Frame} {meth : Method} {c : Code} {G : uG} {a0 : Nat} {uf : UH} {r : Int32} (hC : uC p s m args meth c G RX3 cX3_regret 7 (some .int)) (hR : 7 ≤ R.frames ∧ 177 ≤ R.locals) (N : Nat) : ∀ (n : Nat) (u : UH) (x3 : Int32) (x4 : Int32) (x5 : Int32), f_X3_regret_151 N (ub G) (ug G) a0 n u x3 x4 x5 = some (r, uf) → ∀ (H : Heap) (locs : List Loc), uP G u H → va_S (uA G) s.heap H locs → ∀ ls : Array Slot, lv_has ls 7 [(0, va_rf (some a0)), (3, .int x3), (4, .int x4), (5, .int x5)] → W p l e R s m args below meth c H locs 0 0 (MQ below (uQi G r uf) args s 0 0 (uA G)) (F0 m 151 ls []) := by
  obtain ⟨⟨hx, hb, hml, hown, hts⟩, hKK⟩ := id hC
  intro n
  induction n with
  | zero =>
    intro u x3 x4 x5 h
    cases h
  | succ n ih =>
    intro u x3 x4 x5 h H locs hP hS ls hl
    unfold f_X3_regret_151 at h
    refine lv_iload hx hb dX3_regret_151 (lv_at hl 3 rfl) ?_
    refine lv_iload_n hx hb dX3_regret_153 rfl (lv_at hl 1 rfl) ?_
    refine lv_icmp_ge (tgt := 177) hx hb dX3_regret_154 (by decide) (fun c1 => ?_) (fun c1 => ?_)
    · have h := mif_t c1 h
      refine lv_iload hx hb dX3_regret_177 (lv_at hl 2 rfl) ?_
      obtain ⟨hr1, hr2⟩ := uret_n h
      subst hr1
      subst hr2
      exact u_iret hC hP hS dX3_regret_179
    · have h := mif_f c1 h
      refine u_aload_n (r := some a0) hx hb dX3_regret_157 rfl (lv_at hl 0 rfl) ?_
      obtain ⟨o2, ho2, h⟩ := mbind_n h
      refine u_get hC hP (uGR_n ho2) rfl in_X3 (by decide) q1947 (fun _ h => h) dX3_regret_158 ?_
      refine lv_iload hx hb dX3_regret_161 (lv_at hl 3 rfl) ?_
      refine u_aload_n (r := some a0) hx hb dX3_regret_163 rfl (lv_at hl 0 rfl) ?_
      obtain ⟨o3, ho3, h⟩ := mbind_n h
      refine u_get hC hP (uGR_n ho3) rfl in_X3 (by decide) q1967 (fun _ h => h) dX3_regret_164 ?_
      refine lv_iload hx hb dX3_regret_167 (lv_at hl 3 rfl) ?_
      obtain ⟨a4, ha4, hha4⟩ := mbind_n h
      subst ha4
      have h := hha4
      obtain ⟨y5, hy5, h⟩ := mbind_n h
      refine u_iald hC hP hy5 rfl dX3_regret_169 ?_
      obtain ⟨a6, ha6, hha6⟩ := mbind_n h
      subst ha6
      have h := hha6
      obtain ⟨u7, hu7, h⟩ := mbind_n h
      have zu7 := uStI_sz hu7
      refine u_iast hC hP hS hu7 rfl dX3_regret_170 (fun H locs hP hS => ?_)
      obtain ⟨y8, ey8⟩ : ∃ z : Int32, z = x5 + 1 := ⟨_, rfl⟩
      have h := mlet_at ey8 h
      refine lv_iinc (v := y8) (lv' := [(5, .int y8), (0, va_rf (some a0)), (3, .int x3), (4, .int x4)]) hx hb dX3_regret_171 hl (k := 3) rfl (by rw [ey8]; rfl) (by decide) rfl (fun ls hl => ?_)
      refine lv_goto (tgt := 151) hx hb dX3_regret_174 (by decide) ?_
      exact ih u7 x3 x4 y8 h _ _ hP hS _ (lv_sub hl [1, 2, 3, 0] rfl)
def f_X3_regret_135 (N b : Nat) (g : uEnv) (a0 : Nat) (k85 : UH → Int32 → Int32 → Int32 → Int32 → Option (Int32 × UH)) (u : UH) (x1 : Int32) (x3 : Int32) (x5 : Int32) (s0 : Int32) : Option (Int32 × UH) :=
    mlet (x5 + 1) fun y1 =>
    k85 u x1 x3 s0 y1
set_option maxHeartbeats 4000000 in
set_option maxRecDepth 100000 in
theorem zz_X3_regret_135 {G : uG} {a0 : Nat} {uf : UH} {r : Int32} (N : Nat) (k85 : UH → Int32 → Int32 → Int32 → Int32 → Option (Int32 × UH)) (hk85 : ∀ (u : UH) (x1 : Int32) (x3 : Int32) (x4 : Int32) (x5 : Int32), k85 u x1 x3 x4 x5 = some (r, uf) → uf.1 = u.1 ∧ uf.2.1 = u.2.1) (u : UH) (x1 : Int32) (x3 : Int32) (x5 : Int32) (s0 : Int32) (h : f_X3_regret_135 N (ub G) (ug G) a0 k85 u x1 x3 x5 s0 = some (r, uf)) : uf.1 = u.1 ∧ uf.2.1 = u.2.1 := by
  unfold f_X3_regret_135 at h
  obtain ⟨y1, ey1⟩ : ∃ z : Int32, z = x5 + 1 := ⟨_, rfl⟩
  have h := mlet_at ey1 h
  have hq := hk85 u x1 x3 s0 y1 h
  exact ⟨by omega, by omega⟩
set_option maxHeartbeats 4000000 in
set_option maxRecDepth 100000 in
theorem w_X3_regret_135 {p : Program} {l : Launch} {e : Env} {R : Room} {s : State} {m : MethodId} {args : Array Value} {below : List Frame} {meth : Method} {c : Code} {G : uG} {a0 : Nat} {uf : UH} {r : Int32} (hC : uC p s m args meth c G RX3 cX3_regret 7 (some .int)) (hR : 7 ≤ R.frames ∧ 177 ≤ R.locals) (N : Nat) (k85 : UH → Int32 → Int32 → Int32 → Int32 → Option (Int32 × UH)) (hk85 : ∀ (u : UH) (x1 : Int32) (x3 : Int32) (x4 : Int32) (x5 : Int32), k85 u x1 x3 x4 x5 = some (r, uf) → ∀ (H : Heap) (locs : List Loc), uP G u H → va_S (uA G) s.heap H locs → ∀ ls : Array Slot, lv_has ls 7 [(0, va_rf (some a0)), (1, .int x1), (3, .int x3), (4, .int x4), (5, .int x5)] → W p l e R s m args below meth c H locs 0 0 (MQ below (uQi G r uf) args s 0 0 (uA G)) (F0 m 85 ls [])) (u : UH) (x1 : Int32) (x3 : Int32) (x5 : Int32) (s0 : Int32) (h : f_X3_regret_135 N (ub G) (ug G) a0 k85 u x1 x3 x5 s0 = some (r, uf)) {H : Heap} {locs : List Loc} (hP : uP G u H) (hS : va_S (uA G) s.heap H locs) {ls : Array Slot} (hl : lv_has ls 7 [(0, va_rf (some a0)), (1, .int x1), (3, .int x3), (5, .int x5)]) : W p l e R s m args below meth c H locs 0 0 (MQ below (uQi G r uf) args s 0 0 (uA G)) (F0 m 135 ls [.int s0]) := by
  obtain ⟨⟨hx, hb, hml, hown, hts⟩, hKK⟩ := id hC
  unfold f_X3_regret_135 at h
  refine lv_istore (lv' := [(4, .int s0), (0, va_rf (some a0)), (1, .int x1), (3, .int x3), (5, .int x5)]) hx hb dX3_regret_135 hl (by decide) rfl (fun ls hl => ?_)
  obtain ⟨y1, ey1⟩ : ∃ z : Int32, z = x5 + 1 := ⟨_, rfl⟩
  have h := mlet_at ey1 h
  refine lv_iinc (v := y1) (lv' := [(5, .int y1), (4, .int s0), (0, va_rf (some a0)), (1, .int x1), (3, .int x3)]) hx hb dX3_regret_137 hl (k := 4) rfl (by rw [ey1]; rfl) (by decide) rfl (fun ls hl => ?_)
  refine lv_goto (tgt := 85) hx hb dX3_regret_140 (by decide) ?_
  exact hk85 u x1 x3 s0 y1 h _ _ hP hS _ (lv_sub hl [2, 3, 4, 1, 0] rfl)
def f_X3_regret_85 (N b : Nat) (g : uEnv) (a0 : Nat) : Nat → UH → Int32 → Int32 → Int32 → Int32 → Option (Int32 × UH)
  | 0, _, _, _, _, _ => none
  | n + 1, u, x1, x3, x4, x5 =>
    if uIs u a0 2 = true then
    ucall (f_X3_truthMany N b g u a0) fun r4 u2 =>
    if r4 ≤ x5 then
    (uPut b u2 a0 2 55 (.int x3)).bind fun u6 =>
    f_X3_regret_151 N b g a0 N u6 x3 x4 0
    else
    if uIs u2 a0 2 = true then
    ucall (f_X3_goes N b g u2 a0 x1 x5) fun r10 u8 =>
    (uGR u8 a0 2 48).bind fun o11 =>
    if uIs u8 a0 2 = true then
    ucall (f_X3_all N b g u8 a0 x5) fun r15 u13 =>
    (o11).bind fun a16 =>
    (uLdL u13 a16 3 ((100 * r15) + x1)).bind fun y17 =>
    mlet (r10 - (y17.toInt32)) fun y18 =>
    if y18 ≤ x4 then
    f_X3_regret_135 N b g a0 (f_X3_regret_85 N b g a0 n) u13 x1 x3 x5 x4
    else
    f_X3_regret_135 N b g a0 (f_X3_regret_85 N b g a0 n) u13 x1 x3 x5 y18
    else none
    else none
    else none
set_option maxHeartbeats 4000000 in
set_option maxRecDepth 100000 in
theorem zz_X3_regret_85 {G : uG} {a0 : Nat} {uf : UH} {r : Int32} (N : Nat) : ∀ (n : Nat) (u : UH) (x1 : Int32) (x3 : Int32) (x4 : Int32) (x5 : Int32), f_X3_regret_85 N (ub G) (ug G) a0 n u x1 x3 x4 x5 = some (r, uf) → uf.1 = u.1 ∧ uf.2.1 = u.2.1 := by
  intro n
  induction n with
  | zero =>
    intro u x1 x3 x4 x5 h
    cases h
  | succ n ih =>
    intro u x1 x3 x4 x5 h
    unfold f_X3_regret_85 at h
    obtain ⟨c1, h⟩ := mif_n h
    obtain ⟨r4, u2, c3, h⟩ := ucall_n h
    have zu2 := zz_X3_truthMany N (ub G) (ug G) u a0 r4 u2 c3
    by_cases c5 : r4 ≤ x5
    · have h := mif_t c5 h
      obtain ⟨u6, hu6, h⟩ := mbind_n h
      have zu6 := uPut_sz hu6
      have hq := zz_X3_regret_151 (G := G) (a0 := a0) N N u6 x3 x4 0 h
      exact ⟨by omega, by omega⟩
    · have h := mif_f c5 h
      obtain ⟨c7, h⟩ := mif_n h
      obtain ⟨r10, u8, c9, h⟩ := ucall_n h
      have zu8 := zz_X3_goes N (ub G) (ug G) u2 a0 x1 x5 r10 u8 c9
      obtain ⟨o11, ho11, h⟩ := mbind_n h
      obtain ⟨c12, h⟩ := mif_n h
      obtain ⟨r15, u13, c14, h⟩ := ucall_n h
      have zu13 := zz_X3_all N (ub G) (ug G) u8 a0 x5 r15 u13 c14
      obtain ⟨a16, ha16, hha16⟩ := mbind_n h
      subst ha16
      have h := hha16
      obtain ⟨y17, hy17, h⟩ := mbind_n h
      obtain ⟨y18, ey18⟩ : ∃ z, z = r10 - (y17.toInt32) := ⟨_, rfl⟩
      have h := mlet_at ey18 h
      by_cases c19 : y18 ≤ x4
      · have h := mif_t c19 h
        have hq := zz_X3_regret_135 (G := G) (a0 := a0) N (f_X3_regret_85 N (ub G) (ug G) a0 n) ih u13 x1 x3 x5 x4 h
        exact ⟨by omega, by omega⟩
      · have h := mif_f c19 h
        have hq := zz_X3_regret_135 (G := G) (a0 := a0) N (f_X3_regret_85 N (ub G) (ug G) a0 n) ih u13 x1 x3 x5 y18 h
        exact ⟨by omega, by omega⟩
set_option maxHeartbeats 4000000 in
set_option maxRecDepth 100000 in
theorem w_X3_regret_85 {p : Program} {l : Launch} {e : Env} {R : Room} {s : State} {m : MethodId} {args : Array Value} {below : List Frame} {meth : Method} {c : Code} {G : uG} {a0 : Nat} {uf : UH} {r : Int32} (hC : uC p s m args meth c G RX3 cX3_regret 7 (some .int)) (hR : 7 ≤ R.frames ∧ 177 ≤ R.locals) (N : Nat) : ∀ (n : Nat) (u : UH) (x1 : Int32) (x3 : Int32) (x4 : Int32) (x5 : Int32), f_X3_regret_85 N (ub G) (ug G) a0 n u x1 x3 x4 x5 = some (r, uf) → ∀ (H : Heap) (locs : List Loc), uP G u H → va_S (uA G) s.heap H locs → ∀ ls : Array Slot, lv_has ls 7 [(0, va_rf (some a0)), (1, .int x1), (3, .int x3), (4, .int x4), (5, .int x5)] → W p l e R s m args below meth c H locs 0 0 (MQ below (uQi G r uf) args s 0 0 (uA G)) (F0 m 85 ls []) := by
  obtain ⟨⟨hx, hb, hml, hown, hts⟩, hKK⟩ := id hC
  intro n
  induction n with
  | zero =>
    intro u x1 x3 x4 x5 h
    cases h
  | succ n ih =>
    intro u x1 x3 x4 x5 h H locs hP hS ls hl
    unfold f_X3_regret_85 at h
    refine lv_iload hx hb dX3_regret_85 (lv_at hl 4 rfl) ?_
    refine u_aload_n (r := some a0) hx hb dX3_regret_87 rfl (lv_at hl 0 rfl) ?_
    obtain ⟨c1, h⟩ := mif_n h
    obtain ⟨r4, u2, c3, h⟩ := ucall_n h
    have zu2 := zz_X3_truthMany N (ub G) (ug G) u a0 r4 u2 c3
    refine u_calli (va_runV (As := []) (rest := [.int x5]) hC.1 (met_X3_truthMany l N G u a0 r4 u2 c3) (cwV 0 hts (lw_V q2427 q2429 qs83 q103 q2430) rfl rfl rfl (by decide +kernel) ⟨Nat.le_trans (Nat.le_of_ble_eq_true rfl) hR.1, Nat.le_trans (Nat.le_of_ble_eq_true rfl) hR.2⟩) ⟨uPc_blind, u_rcv hC hP c1 rfl, fun U hU hW => u_pre hC hP hS hU hW⟩ rfl rfl hl.1 rfl (lv_room (Nat.le_of_ble_eq_true rfl)) dX3_regret_88 ⟨Nat.zero_le _, Nat.zero_le _⟩) hS (fun H locs hP hS => ?_)
    refine lv_icmp_ge (tgt := 143) hx hb dX3_regret_91 (by decide) (fun c5 => ?_) (fun c5 => ?_)
    · have h := mif_t c5 h
      refine u_aload_n (r := some a0) hx hb dX3_regret_143 rfl (lv_at hl 0 rfl) ?_
      refine lv_iload_n hx hb dX3_regret_144 rfl (lv_at hl 2 rfl) ?_
      obtain ⟨u6, hu6, h⟩ := mbind_n h
      have zu6 := uPut_sz hu6
      refine u_put hC hP hS hu6 rfl in_X3 tyX3 tyX3_ok nmX3 (by decide) q1948 (fun _ h => h) rfl (ty := .int) (tyX3_ok 55 (by decide)) rfl rfl dX3_regret_145 (fun H locs hP hS => ?_)
      refine lv_iconst (v := 0) hx hb dX3_regret_148 (by decide) ?_
      refine lv_istore (lv' := [(5, .int 0), (0, va_rf (some a0)), (1, .int x1), (3, .int x3), (4, .int x4)]) hx hb dX3_regret_149 hl (by decide) rfl (fun ls hl => ?_)
      exact w_X3_regret_151 hC hR N N u6 x3 x4 0 h _ _ hP hS _ (lv_sub hl [1, 3, 4, 0] rfl)
    · have h := mif_f c5 h
      refine u_aload_n (r := some a0) hx hb dX3_regret_94 rfl (lv_at hl 0 rfl) ?_
      refine lv_iload_n hx hb dX3_regret_95 rfl (lv_at hl 1 rfl) ?_
      refine lv_iload hx hb dX3_regret_96 (lv_at hl 4 rfl) ?_
      obtain ⟨c7, h⟩ := mif_n h
      obtain ⟨r10, u8, c9, h⟩ := ucall_n h
      have zu8 := zz_X3_goes N (ub G) (ug G) u2 a0 x1 x5 r10 u8 c9
      refine u_calli (va_runV (As := [.int x1, .int x5]) (rest := []) hC.1 (met_X3_goes l N G u2 a0 x1 x5 r10 u8 c9) (cwV 2 hts (lw_V q2443 q2445 qs85 q103 q2446) rfl rfl rfl (by decide +kernel) ⟨Nat.le_trans (Nat.le_of_ble_eq_true rfl) hR.1, Nat.le_trans (Nat.le_of_ble_eq_true rfl) hR.2⟩) ⟨uPc_blind, u_rcv hC hP c7 rfl, fun U hU hW => u_pre hC hP hS hU hW⟩ rfl rfl hl.1 rfl (lv_room (Nat.le_of_ble_eq_true rfl)) dX3_regret_98 ⟨Nat.zero_le _, Nat.zero_le _⟩) hS (fun H locs hP hS => ?_)
      refine u_aload_n (r := some a0) hx hb dX3_regret_101 rfl (lv_at hl 0 rfl) ?_
      obtain ⟨o11, ho11, h⟩ := mbind_n h
      refine u_get hC hP (uGR_n ho11) rfl in_X3 (by decide) q1941 (fun _ h => h) dX3_regret_102 ?_
      refine lv_bipush (v := 100) hx hb dX3_regret_105 (by decide) ?_
      refine u_aload_n (r := some a0) hx hb dX3_regret_107 rfl (lv_at hl 0 rfl) ?_
      refine lv_iload hx hb dX3_regret_108 (lv_at hl 4 rfl) ?_
      obtain ⟨c12, h⟩ := mif_n h
      obtain ⟨r15, u13, c14, h⟩ := ucall_n h
      have zu13 := zz_X3_all N (ub G) (ug G) u8 a0 x5 r15 u13 c14
      refine u_calli (va_runV (As := [.int x5]) (rest := [.int 100, va_rf o11, .int r10]) hC.1 (met_X3_all l N G u8 a0 x5 r15 u13 c14) (cwV 1 hts (lw_V q2435 q2437 qs84 q103 q2438) rfl rfl rfl (by decide +kernel) ⟨Nat.le_trans (Nat.le_of_ble_eq_true rfl) hR.1, Nat.le_trans (Nat.le_of_ble_eq_true rfl) hR.2⟩) ⟨uPc_blind, u_rcv hC hP c12 rfl, fun U hU hW => u_pre hC hP hS hU hW⟩ rfl rfl hl.1 rfl (lv_room (by simp only [List.map, u_cat]; exact Nat.le_of_ble_eq_true rfl)) dX3_regret_110 ⟨Nat.zero_le _, Nat.zero_le _⟩) hS (fun H locs hP hS => ?_)
      refine lv_imul hx hb dX3_regret_113 ?_
      refine lv_iload_n hx hb dX3_regret_114 rfl (lv_at hl 1 rfl) ?_
      refine lv_iadd hx hb dX3_regret_115 ?_
      obtain ⟨a16, ha16, hha16⟩ := mbind_n h
      subst ha16
      have h := hha16
      obtain ⟨y17, hy17, h⟩ := mbind_n h
      refine u_lald hC hP hy17 rfl dX3_regret_116 ?_
      refine lv_l2i (v := y17.toInt32) hx hb dX3_regret_117 rfl ?_
      refine lv_isub hx hb dX3_regret_118 ?_
      refine lv_topi (fun y18 ey18 => ?_)
      have h := mlet_at ey18 h
      refine lv_istore (lv' := [(6, .int y18), (0, va_rf (some a0)), (1, .int x1), (3, .int x3), (4, .int x4), (5, .int x5)]) hx hb dX3_regret_119 hl (by decide) rfl (fun ls hl => ?_)
      refine lv_iload hx hb dX3_regret_121 (lv_at hl 0 rfl) ?_
      refine lv_iload hx hb dX3_regret_123 (lv_at hl 4 rfl) ?_
      refine lv_icmp_le (tgt := 133) hx hb dX3_regret_125 (by decide) (fun c19 => ?_) (fun c19 => ?_)
      · have h := mif_t c19 h
        refine lv_iload hx hb dX3_regret_133 (lv_at hl 4 rfl) ?_
        exact w_X3_regret_135 hC hR N (f_X3_regret_85 N (ub G) (ug G) a0 n) ih u13 x1 x3 x5 x4 h hP hS (lv_sub hl [1, 2, 3, 5] rfl)
      · have h := mif_f c19 h
        refine lv_iload hx hb dX3_regret_128 (lv_at hl 0 rfl) ?_
        refine lv_goto (tgt := 135) hx hb dX3_regret_130 (by decide) ?_
        exact w_X3_regret_135 hC hR N (f_X3_regret_85 N (ub G) (ug G) a0 n) ih u13 x1 x3 x5 y18 h hP hS (lv_sub hl [1, 2, 3, 5] rfl)
def f_X3_regret_53 (N b : Nat) (g : uEnv) (a0 : Nat) : Nat → UH → Int32 → Int32 → Int32 → Option (Int32 × UH)
  | 0, _, _, _, _ => none
  | n + 1, u, x1, x3, x4 =>
    if x3 ≤ x4 then
    f_X3_regret_85 N b g a0 N u x1 x3 0 0
    else
    (uGR u a0 2 74).bind fun o2 =>
    (uGR u a0 2 54).bind fun o3 =>
    (o3).bind fun a4 =>
    (uLdI u a4 0 x4).bind fun y5 =>
    (o2).bind fun a6 =>
    (uStI b u a6 0 x4 y5).bind fun u7 =>
    mlet (x4 + 1) fun y8 =>
    f_X3_regret_53 N b g a0 n u7 x1 x3 y8
set_option maxHeartbeats 4000000 in
set_option maxRecDepth 100000 in
theorem zz_X3_regret_53 {G : uG} {a0 : Nat} {uf : UH} {r : Int32} (N : Nat) : ∀ (n : Nat) (u : UH) (x1 : Int32) (x3 : Int32) (x4 : Int32), f_X3_regret_53 N (ub G) (ug G) a0 n u x1 x3 x4 = some (r, uf) → uf.1 = u.1 ∧ uf.2.1 = u.2.1 := by
  intro n
  induction n with
  | zero =>
    intro u x1 x3 x4 h
    cases h
  | succ n ih =>
    intro u x1 x3 x4 h
    unfold f_X3_regret_53 at h
    by_cases c1 : x3 ≤ x4
    · have h := mif_t c1 h
      have hq := zz_X3_regret_85 (G := G) (a0 := a0) N N u x1 x3 0 0 h
      exact ⟨by omega, by omega⟩
    · have h := mif_f c1 h
      obtain ⟨o2, ho2, h⟩ := mbind_n h
      obtain ⟨o3, ho3, h⟩ := mbind_n h
      obtain ⟨a4, ha4, hha4⟩ := mbind_n h
      subst ha4
      have h := hha4
      obtain ⟨y5, hy5, h⟩ := mbind_n h
      obtain ⟨a6, ha6, hha6⟩ := mbind_n h
      subst ha6
      have h := hha6
      obtain ⟨u7, hu7, h⟩ := mbind_n h
      have zu7 := uStI_sz hu7
      obtain ⟨y8, ey8⟩ : ∃ z : Int32, z = x4 + 1 := ⟨_, rfl⟩
      have h := mlet_at ey8 h
      have hq := ih u7 x1 x3 y8 h
      exact ⟨by omega, by omega⟩
set_option maxHeartbeats 4000000 in
set_option maxRecDepth 100000 in
theorem w_X3_regret_53 {p : Program} {l : Launch} {e : Env} {R : Room} {s : State} {m : MethodId} {args : Array Value} {below : List Frame} {meth : Method} {c : Code} {G : uG} {a0 : Nat} {uf : UH} {r : Int32} (hC : uC p s m args meth c G RX3 cX3_regret 7 (some .int)) (hR : 7 ≤ R.frames ∧ 177 ≤ R.locals) (N : Nat) : ∀ (n : Nat) (u : UH) (x1 : Int32) (x3 : Int32) (x4 : Int32), f_X3_regret_53 N (ub G) (ug G) a0 n u x1 x3 x4 = some (r, uf) → ∀ (H : Heap) (locs : List Loc), uP G u H → va_S (uA G) s.heap H locs → ∀ ls : Array Slot, lv_has ls 7 [(0, va_rf (some a0)), (1, .int x1), (3, .int x3), (4, .int x4)] → W p l e R s m args below meth c H locs 0 0 (MQ below (uQi G r uf) args s 0 0 (uA G)) (F0 m 53 ls []) := by
  obtain ⟨⟨hx, hb, hml, hown, hts⟩, hKK⟩ := id hC
  intro n
  induction n with
  | zero =>
    intro u x1 x3 x4 h
    cases h
  | succ n ih =>
    intro u x1 x3 x4 h H locs hP hS ls hl
    unfold f_X3_regret_53 at h
    refine lv_iload hx hb dX3_regret_53 (lv_at hl 3 rfl) ?_
    refine lv_iload_n hx hb dX3_regret_55 rfl (lv_at hl 2 rfl) ?_
    refine lv_icmp_ge (tgt := 79) hx hb dX3_regret_56 (by decide) (fun c1 => ?_) (fun c1 => ?_)
    · have h := mif_t c1 h
      refine lv_iconst (v := 0) hx hb dX3_regret_79 (by decide) ?_
      refine lv_istore (lv' := [(4, .int 0), (0, va_rf (some a0)), (1, .int x1), (3, .int x3)]) hx hb dX3_regret_80 hl (by decide) rfl (fun ls hl => ?_)
      refine lv_iconst (v := 0) hx hb dX3_regret_82 (by decide) ?_
      refine lv_istore (lv' := [(5, .int 0), (4, .int 0), (0, va_rf (some a0)), (1, .int x1), (3, .int x3)]) hx hb dX3_regret_83 hl (by decide) rfl (fun ls hl => ?_)
      exact w_X3_regret_85 hC hR N N u x1 x3 0 0 h _ _ hP hS _ (lv_sub hl [2, 3, 4, 1, 0] rfl)
    · have h := mif_f c1 h
      refine u_aload_n (r := some a0) hx hb dX3_regret_59 rfl (lv_at hl 0 rfl) ?_
      obtain ⟨o2, ho2, h⟩ := mbind_n h
      refine u_get hC hP (uGR_n ho2) rfl in_X3 (by decide) q1967 (fun _ h => h) dX3_regret_60 ?_
      refine lv_iload hx hb dX3_regret_63 (lv_at hl 3 rfl) ?_
      refine u_aload_n (r := some a0) hx hb dX3_regret_65 rfl (lv_at hl 0 rfl) ?_
      obtain ⟨o3, ho3, h⟩ := mbind_n h
      refine u_get hC hP (uGR_n ho3) rfl in_X3 (by decide) q1947 (fun _ h => h) dX3_regret_66 ?_
      refine lv_iload hx hb dX3_regret_69 (lv_at hl 3 rfl) ?_
      obtain ⟨a4, ha4, hha4⟩ := mbind_n h
      subst ha4
      have h := hha4
      obtain ⟨y5, hy5, h⟩ := mbind_n h
      refine u_iald hC hP hy5 rfl dX3_regret_71 ?_
      obtain ⟨a6, ha6, hha6⟩ := mbind_n h
      subst ha6
      have h := hha6
      obtain ⟨u7, hu7, h⟩ := mbind_n h
      have zu7 := uStI_sz hu7
      refine u_iast hC hP hS hu7 rfl dX3_regret_72 (fun H locs hP hS => ?_)
      obtain ⟨y8, ey8⟩ : ∃ z : Int32, z = x4 + 1 := ⟨_, rfl⟩
      have h := mlet_at ey8 h
      refine lv_iinc (v := y8) (lv' := [(4, .int y8), (0, va_rf (some a0)), (1, .int x1), (3, .int x3)]) hx hb dX3_regret_73 hl (k := 3) rfl (by rw [ey8]; rfl) (by decide) rfl (fun ls hl => ?_)
      refine lv_goto (tgt := 53) hx hb dX3_regret_76 (by decide) ?_
      exact ih u7 x1 x3 y8 h _ _ hP hS _ (lv_sub hl [1, 2, 3, 0] rfl)
def f_X3_regret (N b : Nat) (g : uEnv) (u : UH) (a0 : Nat) (x1 : Int32) (x2 : Int32) : Option (Int32 × UH) :=
    if uIs u a0 2 = true then
    (f_X3_good N b g u a0).bind fun u2 =>
    if uIs u2 a0 2 = true then
    ucall (f_X3_isCell N b g u2 a0 x1) fun r7 u5 =>
    if r7 = 0 then
    f_X3_regret_20 N b g a0 u5
    else
    if uIs u5 a0 2 = true then
    ucall (f_X3_isCell N b g u5 a0 x2) fun r12 u10 =>
    if r12 = 0 then
    f_X3_regret_20 N b g a0 u10
    else
    if uIs u10 a0 2 = true then
    ucall (f_X3_from N b g u10 a0 x1 x2 0) fun r17 u15 =>
    if 0 ≤ (lg_cmp r17 0) then
    (uGI u15 a0 2 55).bind fun y19 =>
    f_X3_regret_53 N b g a0 N u15 x1 y19 0
    else
    if uIs u15 a0 2 = true then
    ucall (f_X3_no N b g u15 a0 6) fun r23 u21 =>
    some (r23, u21)
    else none
    else none
    else none
    else none
    else none
set_option maxHeartbeats 4000000 in
set_option maxRecDepth 100000 in
theorem zz_X3_regret_0 {G : uG} {a0 : Nat} {uf : UH} {r : Int32} (N : Nat) (u : UH) (x1 : Int32) (x2 : Int32) (h : f_X3_regret N (ub G) (ug G) u a0 x1 x2 = some (r, uf)) : uf.1 = u.1 ∧ uf.2.1 = u.2.1 := by
  unfold f_X3_regret at h
  obtain ⟨c1, h⟩ := mif_n h
  obtain ⟨u2, c3, h⟩ := mbind_n h
  have zu2 := zz_X3_good N (ub G) (ug G) u a0 u2 c3
  obtain ⟨c4, h⟩ := mif_n h
  obtain ⟨r7, u5, c6, h⟩ := ucall_n h
  have zu5 := zz_X3_isCell N (ub G) (ug G) u2 a0 x1 r7 u5 c6
  by_cases c8 : r7 = 0
  · have h := mif_t c8 h
    have hq := zz_X3_regret_20 (G := G) (a0 := a0) N u5 h
    exact ⟨by omega, by omega⟩
  · have h := mif_f c8 h
    obtain ⟨c9, h⟩ := mif_n h
    obtain ⟨r12, u10, c11, h⟩ := ucall_n h
    have zu10 := zz_X3_isCell N (ub G) (ug G) u5 a0 x2 r12 u10 c11
    by_cases c13 : r12 = 0
    · have h := mif_t c13 h
      have hq := zz_X3_regret_20 (G := G) (a0 := a0) N u10 h
      exact ⟨by omega, by omega⟩
    · have h := mif_f c13 h
      obtain ⟨c14, h⟩ := mif_n h
      obtain ⟨r17, u15, c16, h⟩ := ucall_n h
      have zu15 := zz_X3_from N (ub G) (ug G) u10 a0 x1 x2 0 r17 u15 c16
      by_cases c18 : 0 ≤ (lg_cmp r17 0)
      · have h := mif_t c18 h
        obtain ⟨y19, hy19, h⟩ := mbind_n h
        have hq := zz_X3_regret_53 (G := G) (a0 := a0) N N u15 x1 y19 0 h
        exact ⟨by omega, by omega⟩
      · have h := mif_f c18 h
        obtain ⟨c20, h⟩ := mif_n h
        obtain ⟨r23, u21, c22, h⟩ := ucall_n h
        have zu21 := zz_X3_no N (ub G) (ug G) u15 a0 6 r23 u21 c22
        obtain ⟨hr1, hr2⟩ := uret_n h
        subst hr2
        exact ⟨by omega, by omega⟩
set_option maxHeartbeats 4000000 in
set_option maxRecDepth 100000 in
theorem w_X3_regret_0 {p : Program} {l : Launch} {e : Env} {R : Room} {s : State} {m : MethodId} {args : Array Value} {below : List Frame} {meth : Method} {c : Code} {G : uG} {a0 : Nat} {uf : UH} {r : Int32} (hC : uC p s m args meth c G RX3 cX3_regret 7 (some .int)) (hR : 7 ≤ R.frames ∧ 177 ≤ R.locals) (N : Nat) (u : UH) (x1 : Int32) (x2 : Int32) (h : f_X3_regret N (ub G) (ug G) u a0 x1 x2 = some (r, uf)) {H : Heap} {locs : List Loc} (hP : uP G u H) (hS : va_S (uA G) s.heap H locs) {ls : Array Slot} (hl : lv_has ls 7 [(0, va_rf (some a0)), (1, .int x1), (2, .int x2)]) : W p l e R s m args below meth c H locs 0 0 (MQ below (uQi G r uf) args s 0 0 (uA G)) (F0 m 0 ls []) := by
  obtain ⟨⟨hx, hb, hml, hown, hts⟩, hKK⟩ := id hC
  unfold f_X3_regret at h
  refine u_aload_n (r := some a0) hx hb dX3_regret_0 rfl (lv_at hl 0 rfl) ?_
  obtain ⟨c1, h⟩ := mif_n h
  obtain ⟨u2, c3, h⟩ := mbind_n h
  have zu2 := zz_X3_good N (ub G) (ug G) u a0 u2 c3
  refine u_callv (va_runV (As := []) (rest := []) hC.1 (met_X3_good l N G u a0 u2 c3) (cwV 0 hts (lw_V q2131 q2133 qs40 q103 q2134) rfl rfl rfl (by decide +kernel) ⟨Nat.le_trans (Nat.le_of_ble_eq_true rfl) hR.1, Nat.le_trans (Nat.le_of_ble_eq_true rfl) hR.2⟩) ⟨uPc_blind, u_rcv hC hP c1 rfl, fun U hU hW => u_pre hC hP hS hU hW⟩ rfl rfl hl.1 rfl (lv_room (Nat.le_of_ble_eq_true rfl)) dX3_regret_1 ⟨Nat.zero_le _, Nat.zero_le _⟩) hS (fun H locs hP hS => ?_)
  refine u_aload_n (r := some a0) hx hb dX3_regret_4 rfl (lv_at hl 0 rfl) ?_
  refine lv_iload_n hx hb dX3_regret_5 rfl (lv_at hl 1 rfl) ?_
  obtain ⟨c4, h⟩ := mif_n h
  obtain ⟨r7, u5, c6, h⟩ := ucall_n h
  have zu5 := zz_X3_isCell N (ub G) (ug G) u2 a0 x1 r7 u5 c6
  refine u_calli (va_runV (As := [.int x1]) (rest := []) hC.1 (met_X3_isCell l N G u2 a0 x1 r7 u5 c6) (cwV 1 hts (lw_V q2276 q2278 qs60 q103 q2279) rfl rfl rfl (by decide +kernel) ⟨Nat.le_trans (Nat.le_of_ble_eq_true rfl) hR.1, Nat.le_trans (Nat.le_of_ble_eq_true rfl) hR.2⟩) ⟨uPc_blind, u_rcv hC hP c4 rfl, fun U hU hW => u_pre hC hP hS hU hW⟩ rfl rfl hl.1 rfl (lv_room (Nat.le_of_ble_eq_true rfl)) dX3_regret_6 ⟨Nat.zero_le _, Nat.zero_le _⟩) hS (fun H locs hP hS => ?_)
  refine lv_if_eq (tgt := 20) hx hb dX3_regret_9 (by decide) (fun c8 => ?_) (fun c8 => ?_)
  · have h := mif_t c8 h
    exact w_X3_regret_20 hC hR N u5 h hP hS (lv_sub hl [0] rfl)
  · have h := mif_f c8 h
    refine u_aload_n (r := some a0) hx hb dX3_regret_12 rfl (lv_at hl 0 rfl) ?_
    refine lv_iload_n hx hb dX3_regret_13 rfl (lv_at hl 2 rfl) ?_
    obtain ⟨c9, h⟩ := mif_n h
    obtain ⟨r12, u10, c11, h⟩ := ucall_n h
    have zu10 := zz_X3_isCell N (ub G) (ug G) u5 a0 x2 r12 u10 c11
    refine u_calli (va_runV (As := [.int x2]) (rest := []) hC.1 (met_X3_isCell l N G u5 a0 x2 r12 u10 c11) (cwV 1 hts (lw_V q2276 q2278 qs60 q103 q2279) rfl rfl rfl (by decide +kernel) ⟨Nat.le_trans (Nat.le_of_ble_eq_true rfl) hR.1, Nat.le_trans (Nat.le_of_ble_eq_true rfl) hR.2⟩) ⟨uPc_blind, u_rcv hC hP c9 rfl, fun U hU hW => u_pre hC hP hS hU hW⟩ rfl rfl hl.1 rfl (lv_room (Nat.le_of_ble_eq_true rfl)) dX3_regret_14 ⟨Nat.zero_le _, Nat.zero_le _⟩) hS (fun H locs hP hS => ?_)
    refine lv_if_ne (tgt := 26) hx hb dX3_regret_17 (by decide) (fun c13 => ?_) (fun c13 => ?_)
    · have h := mif_f c13 h
      refine u_aload_n (r := some a0) hx hb dX3_regret_26 rfl (lv_at hl 0 rfl) ?_
      refine lv_iload_n hx hb dX3_regret_27 rfl (lv_at hl 1 rfl) ?_
      refine lv_iload_n hx hb dX3_regret_28 rfl (lv_at hl 2 rfl) ?_
      refine lv_iconst (v := 0) hx hb dX3_regret_29 (by decide) ?_
      obtain ⟨c14, h⟩ := mif_n h
      obtain ⟨r17, u15, c16, h⟩ := ucall_n h
      have zu15 := zz_X3_from N (ub G) (ug G) u10 a0 x1 x2 0 r17 u15 c16
      refine u_calll (va_runV (As := [.int x1, .int x2, .int 0]) (rest := []) hC.1 (met_X3_from l N G u10 a0 x1 x2 0 r17 u15 c16) (cwV 3 hts (lw_V q2336 q2338 qs67 q103 q2339) rfl rfl rfl (by decide +kernel) ⟨Nat.le_trans (Nat.le_of_ble_eq_true rfl) hR.1, Nat.le_trans (Nat.le_of_ble_eq_true rfl) hR.2⟩) ⟨uPc_blind, u_rcv hC hP c14 rfl, fun U hU hW => u_pre hC hP hS hU hW⟩ rfl rfl hl.1 rfl (lv_room (Nat.le_of_ble_eq_true rfl)) dX3_regret_30 ⟨Nat.zero_le _, Nat.zero_le _⟩) hS (fun H locs hP hS => ?_)
      refine lv_lconst (v := 0) hx hb dX3_regret_33 (by decide) ?_
      refine W.lcmp hx hb dX3_regret_34 ?_
      refine lv_if_ge (tgt := 45) hx hb dX3_regret_35 (by decide) (fun c18 => ?_) (fun c18 => ?_)
      · have h := mif_t c18 h
        refine u_aload_n (r := some a0) hx hb dX3_regret_45 rfl (lv_at hl 0 rfl) ?_
        obtain ⟨y19, hy19, h⟩ := mbind_n h
        refine u_get hC hP (uGI_n hy19) rfl in_X3 (by decide) q1948 (fun _ h => h) dX3_regret_46 ?_
        refine lv_istore_n (i := 3) (lv' := [(3, .int y19), (0, va_rf (some a0)), (1, .int x1), (2, .int x2)]) hx hb dX3_regret_49 rfl hl (by decide) rfl (fun ls hl => ?_)
        refine lv_iconst (v := 0) hx hb dX3_regret_50 (by decide) ?_
        refine lv_istore (lv' := [(4, .int 0), (3, .int y19), (0, va_rf (some a0)), (1, .int x1), (2, .int x2)]) hx hb dX3_regret_51 hl (by decide) rfl (fun ls hl => ?_)
        exact w_X3_regret_53 hC hR N N u15 x1 y19 0 h _ _ hP hS _ (lv_sub hl [2, 3, 1, 0] rfl)
      · have h := mif_f c18 h
        refine u_aload_n (r := some a0) hx hb dX3_regret_38 rfl (lv_at hl 0 rfl) ?_
        refine lv_bipush (v := 6) hx hb dX3_regret_39 (by decide) ?_
        obtain ⟨c20, h⟩ := mif_n h
        obtain ⟨r23, u21, c22, h⟩ := ucall_n h
        have zu21 := zz_X3_no N (ub G) (ug G) u15 a0 6 r23 u21 c22
        refine u_calli (va_runV (As := [.int 6]) (rest := []) hC.1 (met_X3_no l N G u15 a0 6 r23 u21 c22) (cwV 1 hts (lw_V q2138 q2140 qs41 q103 q2141) rfl rfl rfl (by decide +kernel) ⟨Nat.le_trans (Nat.le_of_ble_eq_true rfl) hR.1, Nat.le_trans (Nat.le_of_ble_eq_true rfl) hR.2⟩) ⟨uPc_blind, u_rcv hC hP c20 rfl, fun U hU hW => u_pre hC hP hS hU hW⟩ rfl rfl hl.1 rfl (lv_room (Nat.le_of_ble_eq_true rfl)) dX3_regret_41 ⟨Nat.zero_le _, Nat.zero_le _⟩) hS (fun H locs hP hS => ?_)
        obtain ⟨hr1, hr2⟩ := uret_n h
        subst hr1
        subst hr2
        exact u_iret hC hP hS dX3_regret_44
    · have h := mif_t c13 h
      exact w_X3_regret_20 hC hR N u10 h hP hS (lv_sub hl [0] rfl)
theorem zz_X3_regret (N b : Nat) (g : uEnv) (u : UH) (a0 : Nat) (x1 : Int32) (x2 : Int32) (r : Int32) (uf : UH) (h : f_X3_regret N b g u a0 x1 x2 = some (r, uf)) : uf.1 = u.1 ∧ uf.2.1 = u.2.1 :=
  zz_X3_regret_0 (G := ((fun _ => 0, fun _ _ => 0), fun _ => 0, b, g)) (a0 := a0) N u x1 x2 h
theorem met_X3_regret (l : Launch) (N : Nat) (G : uG) (u : UH) (a0 : Nat) (x1 : Int32) (x2 : Int32) (r : Int32) (uf : UH) (h : f_X3_regret N (ub G) (ug G) u a0 x1 x2 = some (r, uf)) : Met l yX3_regret (ws_ yX3_regret cX3_regret 7 (some .int)) ({ frames := 7, cells := 0, slots := 0, locals := 177 }) (uPc G u [.ref a0, .int x1, .int x2]) (uQi G r uf) 0 0 (uA G) := by
  exact u_met (own := RX3) (by decide +kernel) rfl (Nat.le_of_ble_eq_true rfl) (fun hC hn hsz ls hl hP => w_X3_regret_0 hC ⟨Nat.le_refl _, Nat.le_refl _⟩ N u x1 x2 h hP va_S.rf hl)
def f_X3_run_20 (N b : Nat) (g : uEnv) (a0 : Nat) (u : UH) : Option (Int32 × UH) :=
    if uIs u a0 2 = true then
    ucall (f_X3_no N b g u a0 1) fun r4 u2 =>
    some (r4, u2)
    else none
set_option maxHeartbeats 4000000 in
set_option maxRecDepth 100000 in
theorem zz_X3_run_20 {G : uG} {a0 : Nat} {uf : UH} {r : Int32} (N : Nat) (u : UH) (h : f_X3_run_20 N (ub G) (ug G) a0 u = some (r, uf)) : uf.1 = u.1 ∧ uf.2.1 = u.2.1 := by
  unfold f_X3_run_20 at h
  obtain ⟨c1, h⟩ := mif_n h
  obtain ⟨r4, u2, c3, h⟩ := ucall_n h
  have zu2 := zz_X3_no N (ub G) (ug G) u a0 1 r4 u2 c3
  obtain ⟨hr1, hr2⟩ := uret_n h
  subst hr2
  exact ⟨by omega, by omega⟩
set_option maxHeartbeats 4000000 in
set_option maxRecDepth 100000 in
theorem w_X3_run_20 {p : Program} {l : Launch} {e : Env} {R : Room} {s : State} {m : MethodId} {args : Array Value} {below : List Frame} {meth : Method} {c : Code} {G : uG} {a0 : Nat} {uf : UH} {r : Int32} (hC : uC p s m args meth c G RX3 cX3_run 5 (some .int)) (hR : 7 ≤ R.frames ∧ 177 ≤ R.locals) (N : Nat) (u : UH) (h : f_X3_run_20 N (ub G) (ug G) a0 u = some (r, uf)) {H : Heap} {locs : List Loc} (hP : uP G u H) (hS : va_S (uA G) s.heap H locs) {ls : Array Slot} (hl : lv_has ls 5 [(0, va_rf (some a0))]) : W p l e R s m args below meth c H locs 0 0 (MQ below (uQi G r uf) args s 0 0 (uA G)) (F0 m 20 ls []) := by
  obtain ⟨⟨hx, hb, hml, hown, hts⟩, hKK⟩ := id hC
  unfold f_X3_run_20 at h
  refine u_aload_n (r := some a0) hx hb dX3_run_20 rfl (lv_at hl 0 rfl) ?_
  refine lv_iconst (v := 1) hx hb dX3_run_21 (by decide) ?_
  obtain ⟨c1, h⟩ := mif_n h
  obtain ⟨r4, u2, c3, h⟩ := ucall_n h
  have zu2 := zz_X3_no N (ub G) (ug G) u a0 1 r4 u2 c3
  refine u_calli (va_runV (As := [.int 1]) (rest := []) hC.1 (met_X3_no l N G u a0 1 r4 u2 c3) (cwV 1 hts (lw_V q2138 q2140 qs41 q103 q2141) rfl rfl rfl (by decide +kernel) ⟨Nat.le_trans (Nat.le_of_ble_eq_true rfl) hR.1, Nat.le_trans (Nat.le_of_ble_eq_true rfl) hR.2⟩) ⟨uPc_blind, u_rcv hC hP c1 rfl, fun U hU hW => u_pre hC hP hS hU hW⟩ rfl rfl hl.1 rfl (lv_room (Nat.le_of_ble_eq_true rfl)) dX3_run_22 ⟨Nat.zero_le _, Nat.zero_le _⟩) hS (fun H locs hP hS => ?_)
  obtain ⟨hr1, hr2⟩ := uret_n h
  subst hr1
  subst hr2
  exact u_iret hC hP hS dX3_run_25
def f_X3_run (N b : Nat) (g : uEnv) (u : UH) (a0 : Nat) (x1 : Int32) (x2 : Int32) (x3 : Int32) (x4 : Int32) : Option (Int32 × UH) :=
    if uIs u a0 2 = true then
    (f_X3_good N b g u a0).bind fun u2 =>
    if uIs u2 a0 2 = true then
    ucall (f_X3_isCell N b g u2 a0 x1) fun r7 u5 =>
    if r7 = 0 then
    f_X3_run_20 N b g a0 u5
    else
    if uIs u5 a0 2 = true then
    ucall (f_X3_isCell N b g u5 a0 x2) fun r12 u10 =>
    if r12 = 0 then
    f_X3_run_20 N b g a0 u10
    else
    if uIs u10 a0 2 = true then
    (f_X3_lists N b g u10 a0).bind fun u15 =>
    if uIs u15 a0 2 = true then
    ucall (f_X3_truthMany N b g u15 a0) fun r20 u18 =>
    ucall (f_X3_within N b g u18 x4 0 (r20 - 1)) fun r23 u21 =>
    if r23 = 0 then
    if uIs u21 a0 2 = true then
    ucall (f_X3_no N b g u21 a0 1) fun r42 u40 =>
    some (r42, u40)
    else none
    else
    if uIs u21 a0 2 = true then
    ucall (f_X3_from N b g u21 a0 x1 x2 x3) fun r28 u26 =>
    if 0 ≤ (lg_cmp r28 0) then
    (uPut b u26 a0 2 73 (.int 1)).bind fun u30 =>
    if uIs u30 a0 2 = true then
    ucall (f_X3_goes N b g u30 a0 x1 x4) fun r34 u32 =>
    some (r34, u32)
    else none
    else
    if uIs u26 a0 2 = true then
    ucall (f_X3_no N b g u26 a0 6) fun r38 u36 =>
    some (r38, u36)
    else none
    else none
    else none
    else none
    else none
    else none
    else none
set_option maxHeartbeats 4000000 in
set_option maxRecDepth 100000 in
theorem zz_X3_run_0 {G : uG} {a0 : Nat} {uf : UH} {r : Int32} (N : Nat) (u : UH) (x1 : Int32) (x2 : Int32) (x3 : Int32) (x4 : Int32) (h : f_X3_run N (ub G) (ug G) u a0 x1 x2 x3 x4 = some (r, uf)) : uf.1 = u.1 ∧ uf.2.1 = u.2.1 := by
  unfold f_X3_run at h
  obtain ⟨c1, h⟩ := mif_n h
  obtain ⟨u2, c3, h⟩ := mbind_n h
  have zu2 := zz_X3_good N (ub G) (ug G) u a0 u2 c3
  obtain ⟨c4, h⟩ := mif_n h
  obtain ⟨r7, u5, c6, h⟩ := ucall_n h
  have zu5 := zz_X3_isCell N (ub G) (ug G) u2 a0 x1 r7 u5 c6
  by_cases c8 : r7 = 0
  · have h := mif_t c8 h
    have hq := zz_X3_run_20 (G := G) (a0 := a0) N u5 h
    exact ⟨by omega, by omega⟩
  · have h := mif_f c8 h
    obtain ⟨c9, h⟩ := mif_n h
    obtain ⟨r12, u10, c11, h⟩ := ucall_n h
    have zu10 := zz_X3_isCell N (ub G) (ug G) u5 a0 x2 r12 u10 c11
    by_cases c13 : r12 = 0
    · have h := mif_t c13 h
      have hq := zz_X3_run_20 (G := G) (a0 := a0) N u10 h
      exact ⟨by omega, by omega⟩
    · have h := mif_f c13 h
      obtain ⟨c14, h⟩ := mif_n h
      obtain ⟨u15, c16, h⟩ := mbind_n h
      have zu15 := zz_X3_lists N (ub G) (ug G) u10 a0 u15 c16
      obtain ⟨c17, h⟩ := mif_n h
      obtain ⟨r20, u18, c19, h⟩ := ucall_n h
      have zu18 := zz_X3_truthMany N (ub G) (ug G) u15 a0 r20 u18 c19
      obtain ⟨r23, u21, c22, h⟩ := ucall_n h
      have zu21 := zz_X3_within N (ub G) (ug G) u18 x4 0 (r20 - 1) r23 u21 c22
      by_cases c24 : r23 = 0
      · have h := mif_t c24 h
        obtain ⟨c39, h⟩ := mif_n h
        obtain ⟨r42, u40, c41, h⟩ := ucall_n h
        have zu40 := zz_X3_no N (ub G) (ug G) u21 a0 1 r42 u40 c41
        obtain ⟨hr1, hr2⟩ := uret_n h
        subst hr2
        exact ⟨by omega, by omega⟩
      · have h := mif_f c24 h
        obtain ⟨c25, h⟩ := mif_n h
        obtain ⟨r28, u26, c27, h⟩ := ucall_n h
        have zu26 := zz_X3_from N (ub G) (ug G) u21 a0 x1 x2 x3 r28 u26 c27
        by_cases c29 : 0 ≤ (lg_cmp r28 0)
        · have h := mif_t c29 h
          obtain ⟨u30, hu30, h⟩ := mbind_n h
          have zu30 := uPut_sz hu30
          obtain ⟨c31, h⟩ := mif_n h
          obtain ⟨r34, u32, c33, h⟩ := ucall_n h
          have zu32 := zz_X3_goes N (ub G) (ug G) u30 a0 x1 x4 r34 u32 c33
          obtain ⟨hr1, hr2⟩ := uret_n h
          subst hr2
          exact ⟨by omega, by omega⟩
        · have h := mif_f c29 h
          obtain ⟨c35, h⟩ := mif_n h
          obtain ⟨r38, u36, c37, h⟩ := ucall_n h
          have zu36 := zz_X3_no N (ub G) (ug G) u26 a0 6 r38 u36 c37
          obtain ⟨hr1, hr2⟩ := uret_n h
          subst hr2
          exact ⟨by omega, by omega⟩
set_option maxHeartbeats 4000000 in
set_option maxRecDepth 100000 in
theorem w_X3_run_0 {p : Program} {l : Launch} {e : Env} {R : Room} {s : State} {m : MethodId} {args : Array Value} {below : List Frame} {meth : Method} {c : Code} {G : uG} {a0 : Nat} {uf : UH} {r : Int32} (hC : uC p s m args meth c G RX3 cX3_run 5 (some .int)) (hR : 7 ≤ R.frames ∧ 177 ≤ R.locals) (N : Nat) (u : UH) (x1 : Int32) (x2 : Int32) (x3 : Int32) (x4 : Int32) (h : f_X3_run N (ub G) (ug G) u a0 x1 x2 x3 x4 = some (r, uf)) {H : Heap} {locs : List Loc} (hP : uP G u H) (hS : va_S (uA G) s.heap H locs) {ls : Array Slot} (hl : lv_has ls 5 [(0, va_rf (some a0)), (1, .int x1), (2, .int x2), (3, .int x3), (4, .int x4)]) : W p l e R s m args below meth c H locs 0 0 (MQ below (uQi G r uf) args s 0 0 (uA G)) (F0 m 0 ls []) := by
  obtain ⟨⟨hx, hb, hml, hown, hts⟩, hKK⟩ := id hC
  unfold f_X3_run at h
  refine u_aload_n (r := some a0) hx hb dX3_run_0 rfl (lv_at hl 0 rfl) ?_
  obtain ⟨c1, h⟩ := mif_n h
  obtain ⟨u2, c3, h⟩ := mbind_n h
  have zu2 := zz_X3_good N (ub G) (ug G) u a0 u2 c3
  refine u_callv (va_runV (As := []) (rest := []) hC.1 (met_X3_good l N G u a0 u2 c3) (cwV 0 hts (lw_V q2131 q2133 qs40 q103 q2134) rfl rfl rfl (by decide +kernel) ⟨Nat.le_trans (Nat.le_of_ble_eq_true rfl) hR.1, Nat.le_trans (Nat.le_of_ble_eq_true rfl) hR.2⟩) ⟨uPc_blind, u_rcv hC hP c1 rfl, fun U hU hW => u_pre hC hP hS hU hW⟩ rfl rfl hl.1 rfl (lv_room (Nat.le_of_ble_eq_true rfl)) dX3_run_1 ⟨Nat.zero_le _, Nat.zero_le _⟩) hS (fun H locs hP hS => ?_)
  refine u_aload_n (r := some a0) hx hb dX3_run_4 rfl (lv_at hl 0 rfl) ?_
  refine lv_iload_n hx hb dX3_run_5 rfl (lv_at hl 1 rfl) ?_
  obtain ⟨c4, h⟩ := mif_n h
  obtain ⟨r7, u5, c6, h⟩ := ucall_n h
  have zu5 := zz_X3_isCell N (ub G) (ug G) u2 a0 x1 r7 u5 c6
  refine u_calli (va_runV (As := [.int x1]) (rest := []) hC.1 (met_X3_isCell l N G u2 a0 x1 r7 u5 c6) (cwV 1 hts (lw_V q2276 q2278 qs60 q103 q2279) rfl rfl rfl (by decide +kernel) ⟨Nat.le_trans (Nat.le_of_ble_eq_true rfl) hR.1, Nat.le_trans (Nat.le_of_ble_eq_true rfl) hR.2⟩) ⟨uPc_blind, u_rcv hC hP c4 rfl, fun U hU hW => u_pre hC hP hS hU hW⟩ rfl rfl hl.1 rfl (lv_room (Nat.le_of_ble_eq_true rfl)) dX3_run_6 ⟨Nat.zero_le _, Nat.zero_le _⟩) hS (fun H locs hP hS => ?_)
  refine lv_if_eq (tgt := 20) hx hb dX3_run_9 (by decide) (fun c8 => ?_) (fun c8 => ?_)
  · have h := mif_t c8 h
    exact w_X3_run_20 hC hR N u5 h hP hS (lv_sub hl [0] rfl)
  · have h := mif_f c8 h
    refine u_aload_n (r := some a0) hx hb dX3_run_12 rfl (lv_at hl 0 rfl) ?_
    refine lv_iload_n hx hb dX3_run_13 rfl (lv_at hl 2 rfl) ?_
    obtain ⟨c9, h⟩ := mif_n h
    obtain ⟨r12, u10, c11, h⟩ := ucall_n h
    have zu10 := zz_X3_isCell N (ub G) (ug G) u5 a0 x2 r12 u10 c11
    refine u_calli (va_runV (As := [.int x2]) (rest := []) hC.1 (met_X3_isCell l N G u5 a0 x2 r12 u10 c11) (cwV 1 hts (lw_V q2276 q2278 qs60 q103 q2279) rfl rfl rfl (by decide +kernel) ⟨Nat.le_trans (Nat.le_of_ble_eq_true rfl) hR.1, Nat.le_trans (Nat.le_of_ble_eq_true rfl) hR.2⟩) ⟨uPc_blind, u_rcv hC hP c9 rfl, fun U hU hW => u_pre hC hP hS hU hW⟩ rfl rfl hl.1 rfl (lv_room (Nat.le_of_ble_eq_true rfl)) dX3_run_14 ⟨Nat.zero_le _, Nat.zero_le _⟩) hS (fun H locs hP hS => ?_)
    refine lv_if_ne (tgt := 26) hx hb dX3_run_17 (by decide) (fun c13 => ?_) (fun c13 => ?_)
    · have h := mif_f c13 h
      refine u_aload_n (r := some a0) hx hb dX3_run_26 rfl (lv_at hl 0 rfl) ?_
      obtain ⟨c14, h⟩ := mif_n h
      obtain ⟨u15, c16, h⟩ := mbind_n h
      have zu15 := zz_X3_lists N (ub G) (ug G) u10 a0 u15 c16
      refine u_callv (va_runV (As := []) (rest := []) hC.1 (met_X3_lists l N G u10 a0 u15 c16) (cwV 0 hts (lw_V q2348 q2350 qs70 q103 q2351) rfl rfl rfl (by decide +kernel) ⟨Nat.le_trans (Nat.le_of_ble_eq_true rfl) hR.1, Nat.le_trans (Nat.le_of_ble_eq_true rfl) hR.2⟩) ⟨uPc_blind, u_rcv hC hP c14 rfl, fun U hU hW => u_pre hC hP hS hU hW⟩ rfl rfl hl.1 rfl (lv_room (Nat.le_of_ble_eq_true rfl)) dX3_run_27 ⟨Nat.zero_le _, Nat.zero_le _⟩) hS (fun H locs hP hS => ?_)
      refine lv_iload hx hb dX3_run_30 (lv_at hl 4 rfl) ?_
      refine lv_iconst (v := 0) hx hb dX3_run_32 (by decide) ?_
      refine u_aload_n (r := some a0) hx hb dX3_run_33 rfl (lv_at hl 0 rfl) ?_
      obtain ⟨c17, h⟩ := mif_n h
      obtain ⟨r20, u18, c19, h⟩ := ucall_n h
      have zu18 := zz_X3_truthMany N (ub G) (ug G) u15 a0 r20 u18 c19
      refine u_calli (va_runV (As := []) (rest := [.int 0, .int x4]) hC.1 (met_X3_truthMany l N G u15 a0 r20 u18 c19) (cwV 0 hts (lw_V q2427 q2429 qs83 q103 q2430) rfl rfl rfl (by decide +kernel) ⟨Nat.le_trans (Nat.le_of_ble_eq_true rfl) hR.1, Nat.le_trans (Nat.le_of_ble_eq_true rfl) hR.2⟩) ⟨uPc_blind, u_rcv hC hP c17 rfl, fun U hU hW => u_pre hC hP hS hU hW⟩ rfl rfl hl.1 rfl (lv_room (Nat.le_of_ble_eq_true rfl)) dX3_run_34 ⟨Nat.zero_le _, Nat.zero_le _⟩) hS (fun H locs hP hS => ?_)
      refine lv_iconst (v := 1) hx hb dX3_run_37 (by decide) ?_
      refine lv_isub hx hb dX3_run_38 ?_
      obtain ⟨r23, u21, c22, h⟩ := ucall_n h
      have zu21 := zz_X3_within N (ub G) (ug G) u18 x4 0 (r20 - 1) r23 u21 c22
      refine u_calli (va_runS (As := [.int x4, .int 0, .int (r20 - 1)]) (rest := []) hC.1 (met_X3_within l N G u18 x4 0 (r20 - 1) r23 u21 c22) (va_cwS 3 hts (lw_S q2135 q2136 q103 q2137) rfl rfl rfl (by decide +kernel) ⟨Nat.le_trans (Nat.le_of_ble_eq_true rfl) hR.1, Nat.le_trans (Nat.le_of_ble_eq_true rfl) hR.2⟩) ⟨uPc_blind, fun U hU hW => u_pre hC hP hS hU hW⟩ rfl rfl hl.1 rfl (lv_room (Nat.le_of_ble_eq_true rfl)) dX3_run_39 ⟨Nat.zero_le _, Nat.zero_le _⟩) hS (fun H locs hP hS => ?_)
      refine lv_if_ne (tgt := 51) hx hb dX3_run_42 (by decide) (fun c24 => ?_) (fun c24 => ?_)
      · have h := mif_f c24 h
        refine u_aload_n (r := some a0) hx hb dX3_run_51 rfl (lv_at hl 0 rfl) ?_
        refine lv_iload_n hx hb dX3_run_52 rfl (lv_at hl 1 rfl) ?_
        refine lv_iload_n hx hb dX3_run_53 rfl (lv_at hl 2 rfl) ?_
        refine lv_iload_n hx hb dX3_run_54 rfl (lv_at hl 3 rfl) ?_
        obtain ⟨c25, h⟩ := mif_n h
        obtain ⟨r28, u26, c27, h⟩ := ucall_n h
        have zu26 := zz_X3_from N (ub G) (ug G) u21 a0 x1 x2 x3 r28 u26 c27
        refine u_calll (va_runV (As := [.int x1, .int x2, .int x3]) (rest := []) hC.1 (met_X3_from l N G u21 a0 x1 x2 x3 r28 u26 c27) (cwV 3 hts (lw_V q2336 q2338 qs67 q103 q2339) rfl rfl rfl (by decide +kernel) ⟨Nat.le_trans (Nat.le_of_ble_eq_true rfl) hR.1, Nat.le_trans (Nat.le_of_ble_eq_true rfl) hR.2⟩) ⟨uPc_blind, u_rcv hC hP c25 rfl, fun U hU hW => u_pre hC hP hS hU hW⟩ rfl rfl hl.1 rfl (lv_room (Nat.le_of_ble_eq_true rfl)) dX3_run_55 ⟨Nat.zero_le _, Nat.zero_le _⟩) hS (fun H locs hP hS => ?_)
        refine lv_lconst (v := 0) hx hb dX3_run_58 (by decide) ?_
        refine W.lcmp hx hb dX3_run_59 ?_
        refine lv_if_ge (tgt := 70) hx hb dX3_run_60 (by decide) (fun c29 => ?_) (fun c29 => ?_)
        · have h := mif_t c29 h
          refine u_aload_n (r := some a0) hx hb dX3_run_70 rfl (lv_at hl 0 rfl) ?_
          refine lv_iconst (v := 1) hx hb dX3_run_71 (by decide) ?_
          obtain ⟨u30, hu30, h⟩ := mbind_n h
          have zu30 := uPut_sz hu30
          refine u_put hC hP hS hu30 rfl in_X3 tyX3 tyX3_ok nmX3 (by decide) q1966 (fun _ h => h) rfl (ty := .boolean) (tyX3_ok 73 (by decide)) (uFit_n (ty := .boolean) (v := 1) rfl).1 (uFit_n (ty := .boolean) (v := 1) rfl).2 dX3_run_72 (fun H locs hP hS => ?_)
          refine u_aload_n (r := some a0) hx hb dX3_run_75 rfl (lv_at hl 0 rfl) ?_
          refine lv_iload_n hx hb dX3_run_76 rfl (lv_at hl 1 rfl) ?_
          refine lv_iload hx hb dX3_run_77 (lv_at hl 4 rfl) ?_
          obtain ⟨c31, h⟩ := mif_n h
          obtain ⟨r34, u32, c33, h⟩ := ucall_n h
          have zu32 := zz_X3_goes N (ub G) (ug G) u30 a0 x1 x4 r34 u32 c33
          refine u_calli (va_runV (As := [.int x1, .int x4]) (rest := []) hC.1 (met_X3_goes l N G u30 a0 x1 x4 r34 u32 c33) (cwV 2 hts (lw_V q2443 q2445 qs85 q103 q2446) rfl rfl rfl (by decide +kernel) ⟨Nat.le_trans (Nat.le_of_ble_eq_true rfl) hR.1, Nat.le_trans (Nat.le_of_ble_eq_true rfl) hR.2⟩) ⟨uPc_blind, u_rcv hC hP c31 rfl, fun U hU hW => u_pre hC hP hS hU hW⟩ rfl rfl hl.1 rfl (lv_room (Nat.le_of_ble_eq_true rfl)) dX3_run_79 ⟨Nat.zero_le _, Nat.zero_le _⟩) hS (fun H locs hP hS => ?_)
          obtain ⟨hr1, hr2⟩ := uret_n h
          subst hr1
          subst hr2
          exact u_iret hC hP hS dX3_run_82
        · have h := mif_f c29 h
          refine u_aload_n (r := some a0) hx hb dX3_run_63 rfl (lv_at hl 0 rfl) ?_
          refine lv_bipush (v := 6) hx hb dX3_run_64 (by decide) ?_
          obtain ⟨c35, h⟩ := mif_n h
          obtain ⟨r38, u36, c37, h⟩ := ucall_n h
          have zu36 := zz_X3_no N (ub G) (ug G) u26 a0 6 r38 u36 c37
          refine u_calli (va_runV (As := [.int 6]) (rest := []) hC.1 (met_X3_no l N G u26 a0 6 r38 u36 c37) (cwV 1 hts (lw_V q2138 q2140 qs41 q103 q2141) rfl rfl rfl (by decide +kernel) ⟨Nat.le_trans (Nat.le_of_ble_eq_true rfl) hR.1, Nat.le_trans (Nat.le_of_ble_eq_true rfl) hR.2⟩) ⟨uPc_blind, u_rcv hC hP c35 rfl, fun U hU hW => u_pre hC hP hS hU hW⟩ rfl rfl hl.1 rfl (lv_room (Nat.le_of_ble_eq_true rfl)) dX3_run_66 ⟨Nat.zero_le _, Nat.zero_le _⟩) hS (fun H locs hP hS => ?_)
          obtain ⟨hr1, hr2⟩ := uret_n h
          subst hr1
          subst hr2
          exact u_iret hC hP hS dX3_run_69
      · have h := mif_t c24 h
        refine u_aload_n (r := some a0) hx hb dX3_run_45 rfl (lv_at hl 0 rfl) ?_
        refine lv_iconst (v := 1) hx hb dX3_run_46 (by decide) ?_
        obtain ⟨c39, h⟩ := mif_n h
        obtain ⟨r42, u40, c41, h⟩ := ucall_n h
        have zu40 := zz_X3_no N (ub G) (ug G) u21 a0 1 r42 u40 c41
        refine u_calli (va_runV (As := [.int 1]) (rest := []) hC.1 (met_X3_no l N G u21 a0 1 r42 u40 c41) (cwV 1 hts (lw_V q2138 q2140 qs41 q103 q2141) rfl rfl rfl (by decide +kernel) ⟨Nat.le_trans (Nat.le_of_ble_eq_true rfl) hR.1, Nat.le_trans (Nat.le_of_ble_eq_true rfl) hR.2⟩) ⟨uPc_blind, u_rcv hC hP c39 rfl, fun U hU hW => u_pre hC hP hS hU hW⟩ rfl rfl hl.1 rfl (lv_room (Nat.le_of_ble_eq_true rfl)) dX3_run_47 ⟨Nat.zero_le _, Nat.zero_le _⟩) hS (fun H locs hP hS => ?_)
        obtain ⟨hr1, hr2⟩ := uret_n h
        subst hr1
        subst hr2
        exact u_iret hC hP hS dX3_run_50
    · have h := mif_t c13 h
      exact w_X3_run_20 hC hR N u10 h hP hS (lv_sub hl [0] rfl)
theorem zz_X3_run (N b : Nat) (g : uEnv) (u : UH) (a0 : Nat) (x1 : Int32) (x2 : Int32) (x3 : Int32) (x4 : Int32) (r : Int32) (uf : UH) (h : f_X3_run N b g u a0 x1 x2 x3 x4 = some (r, uf)) : uf.1 = u.1 ∧ uf.2.1 = u.2.1 :=
  zz_X3_run_0 (G := ((fun _ => 0, fun _ _ => 0), fun _ => 0, b, g)) (a0 := a0) N u x1 x2 x3 x4 h
theorem met_X3_run (l : Launch) (N : Nat) (G : uG) (u : UH) (a0 : Nat) (x1 : Int32) (x2 : Int32) (x3 : Int32) (x4 : Int32) (r : Int32) (uf : UH) (h : f_X3_run N (ub G) (ug G) u a0 x1 x2 x3 x4 = some (r, uf)) : Met l yX3_run (ws_ yX3_run cX3_run 5 (some .int)) ({ frames := 7, cells := 0, slots := 0, locals := 177 }) (uPc G u [.ref a0, .int x1, .int x2, .int x3, .int x4]) (uQi G r uf) 0 0 (uA G) := by
  exact u_met (own := RX3) (by decide +kernel) rfl (Nat.le_of_ble_eq_true rfl) (fun hC hn hsz ls hl hP => w_X3_run_0 hC ⟨Nat.le_refl _, Nat.le_refl _⟩ N u x1 x2 x3 x4 h hP va_S.rf hl)
def f_X3_sink_52 (N b : Nat) (g : uEnv) (a0 : Nat) (u : UH) (s0 : Int32) : Option (Int32 × UH) :=
    some (s0, u)
set_option maxHeartbeats 4000000 in
set_option maxRecDepth 100000 in
theorem zz_X3_sink_52 {G : uG} {a0 : Nat} {uf : UH} {r : Int32} (N : Nat) (u : UH) (s0 : Int32) (h : f_X3_sink_52 N (ub G) (ug G) a0 u s0 = some (r, uf)) : uf.1 = u.1 ∧ uf.2.1 = u.2.1 := by
  unfold f_X3_sink_52 at h
  obtain ⟨hr1, hr2⟩ := uret_n h
  subst hr2
  exact ⟨by omega, by omega⟩
set_option maxHeartbeats 4000000 in
set_option maxRecDepth 100000 in
theorem w_X3_sink_52 {p : Program} {l : Launch} {e : Env} {R : Room} {s : State} {m : MethodId} {args : Array Value} {below : List Frame} {meth : Method} {c : Code} {G : uG} {a0 : Nat} {uf : UH} {r : Int32} (hC : uC p s m args meth c G RX3 cX3_sink 3 (some .int)) (hR : 2 ≤ R.frames ∧ 51 ≤ R.locals) (N : Nat) (u : UH) (s0 : Int32) (h : f_X3_sink_52 N (ub G) (ug G) a0 u s0 = some (r, uf)) {H : Heap} {locs : List Loc} (hP : uP G u H) (hS : va_S (uA G) s.heap H locs) {ls : Array Slot} (hl : lv_has ls 3 []) : W p l e R s m args below meth c H locs 0 0 (MQ below (uQi G r uf) args s 0 0 (uA G)) (F0 m 52 ls [.int s0]) := by
  obtain ⟨⟨hx, hb, hml, hown, hts⟩, hKK⟩ := id hC
  unfold f_X3_sink_52 at h
  obtain ⟨hr1, hr2⟩ := uret_n h
  subst hr1
  subst hr2
  exact u_iret hC hP hS dX3_sink_52
def f_X3_sink (N b : Nat) (g : uEnv) (u : UH) (a0 : Nat) (x1 : Int32) (x2 : Int32) : Option (Int32 × UH) :=
    if uIs u a0 2 = true then
    (f_X3_good N b g u a0).bind fun u2 =>
    if uIs u2 a0 2 = true then
    ucall (f_X3_isGround N b g u2 a0 x1) fun r7 u5 =>
    if r7 = 0 then
    if uIs u5 a0 2 = true then
    ucall (f_X3_no N b g u5 a0 1) fun r27 u25 =>
    some (r27, u25)
    else none
    else
    ucall (f_X3_within N b g u5 x2 0 999) fun r11 u9 =>
    if r11 = 0 then
    if uIs u9 a0 2 = true then
    ucall (f_X3_no N b g u9 a0 2) fun r16 u14 =>
    f_X3_sink_52 N b g a0 u14 r16
    else none
    else
    (uGR u9 a0 2 20).bind fun o17 =>
    (uGR u9 a0 2 18).bind fun o18 =>
    (o18).bind fun a19 =>
    (uLdI u9 a19 0 x1).bind fun y20 =>
    ucall (f_X3_between N b g u9 o17 x1 y20 x2) fun r23 u21 =>
    f_X3_sink_52 N b g a0 u21 r23
    else none
    else none
set_option maxHeartbeats 4000000 in
set_option maxRecDepth 100000 in
theorem zz_X3_sink_0 {G : uG} {a0 : Nat} {uf : UH} {r : Int32} (N : Nat) (u : UH) (x1 : Int32) (x2 : Int32) (h : f_X3_sink N (ub G) (ug G) u a0 x1 x2 = some (r, uf)) : uf.1 = u.1 ∧ uf.2.1 = u.2.1 := by
  unfold f_X3_sink at h
  obtain ⟨c1, h⟩ := mif_n h
  obtain ⟨u2, c3, h⟩ := mbind_n h
  have zu2 := zz_X3_good N (ub G) (ug G) u a0 u2 c3
  obtain ⟨c4, h⟩ := mif_n h
  obtain ⟨r7, u5, c6, h⟩ := ucall_n h
  have zu5 := zz_X3_isGround N (ub G) (ug G) u2 a0 x1 r7 u5 c6
  by_cases c8 : r7 = 0
  · have h := mif_t c8 h
    obtain ⟨c24, h⟩ := mif_n h
    obtain ⟨r27, u25, c26, h⟩ := ucall_n h
    have zu25 := zz_X3_no N (ub G) (ug G) u5 a0 1 r27 u25 c26
    obtain ⟨hr1, hr2⟩ := uret_n h
    subst hr2
    exact ⟨by omega, by omega⟩
  · have h := mif_f c8 h
    obtain ⟨r11, u9, c10, h⟩ := ucall_n h
    have zu9 := zz_X3_within N (ub G) (ug G) u5 x2 0 999 r11 u9 c10
    by_cases c12 : r11 = 0
    · have h := mif_t c12 h
      obtain ⟨c13, h⟩ := mif_n h
      obtain ⟨r16, u14, c15, h⟩ := ucall_n h
      have zu14 := zz_X3_no N (ub G) (ug G) u9 a0 2 r16 u14 c15
      have hq := zz_X3_sink_52 (G := G) (a0 := a0) N u14 r16 h
      exact ⟨by omega, by omega⟩
    · have h := mif_f c12 h
      obtain ⟨o17, ho17, h⟩ := mbind_n h
      obtain ⟨o18, ho18, h⟩ := mbind_n h
      obtain ⟨a19, ha19, hha19⟩ := mbind_n h
      subst ha19
      have h := hha19
      obtain ⟨y20, hy20, h⟩ := mbind_n h
      obtain ⟨r23, u21, c22, h⟩ := ucall_n h
      have zu21 := zz_X3_between N (ub G) (ug G) u9 o17 x1 y20 x2 r23 u21 c22
      have hq := zz_X3_sink_52 (G := G) (a0 := a0) N u21 r23 h
      exact ⟨by omega, by omega⟩
set_option maxHeartbeats 4000000 in
set_option maxRecDepth 100000 in
theorem w_X3_sink_0 {p : Program} {l : Launch} {e : Env} {R : Room} {s : State} {m : MethodId} {args : Array Value} {below : List Frame} {meth : Method} {c : Code} {G : uG} {a0 : Nat} {uf : UH} {r : Int32} (hC : uC p s m args meth c G RX3 cX3_sink 3 (some .int)) (hR : 2 ≤ R.frames ∧ 51 ≤ R.locals) (N : Nat) (u : UH) (x1 : Int32) (x2 : Int32) (h : f_X3_sink N (ub G) (ug G) u a0 x1 x2 = some (r, uf)) {H : Heap} {locs : List Loc} (hP : uP G u H) (hS : va_S (uA G) s.heap H locs) {ls : Array Slot} (hl : lv_has ls 3 [(0, va_rf (some a0)), (1, .int x1), (2, .int x2)]) : W p l e R s m args below meth c H locs 0 0 (MQ below (uQi G r uf) args s 0 0 (uA G)) (F0 m 0 ls []) := by
  obtain ⟨⟨hx, hb, hml, hown, hts⟩, hKK⟩ := id hC
  unfold f_X3_sink at h
  refine u_aload_n (r := some a0) hx hb dX3_sink_0 rfl (lv_at hl 0 rfl) ?_
  obtain ⟨c1, h⟩ := mif_n h
  obtain ⟨u2, c3, h⟩ := mbind_n h
  have zu2 := zz_X3_good N (ub G) (ug G) u a0 u2 c3
  refine u_callv (va_runV (As := []) (rest := []) hC.1 (met_X3_good l N G u a0 u2 c3) (cwV 0 hts (lw_V q2131 q2133 qs40 q103 q2134) rfl rfl rfl (by decide +kernel) ⟨Nat.le_trans (Nat.le_of_ble_eq_true rfl) hR.1, Nat.le_trans (Nat.le_of_ble_eq_true rfl) hR.2⟩) ⟨uPc_blind, u_rcv hC hP c1 rfl, fun U hU hW => u_pre hC hP hS hU hW⟩ rfl rfl hl.1 rfl (lv_room (Nat.le_of_ble_eq_true rfl)) dX3_sink_1 ⟨Nat.zero_le _, Nat.zero_le _⟩) hS (fun H locs hP hS => ?_)
  refine u_aload_n (r := some a0) hx hb dX3_sink_4 rfl (lv_at hl 0 rfl) ?_
  refine lv_iload_n hx hb dX3_sink_5 rfl (lv_at hl 1 rfl) ?_
  obtain ⟨c4, h⟩ := mif_n h
  obtain ⟨r7, u5, c6, h⟩ := ucall_n h
  have zu5 := zz_X3_isGround N (ub G) (ug G) u2 a0 x1 r7 u5 c6
  refine u_calli (va_runV (As := [.int x1]) (rest := []) hC.1 (met_X3_isGround l N G u2 a0 x1 r7 u5 c6) (cwV 1 hts (lw_V q2246 q2248 qs58 q103 q2249) rfl rfl rfl (by decide +kernel) ⟨Nat.le_trans (Nat.le_of_ble_eq_true rfl) hR.1, Nat.le_trans (Nat.le_of_ble_eq_true rfl) hR.2⟩) ⟨uPc_blind, u_rcv hC hP c4 rfl, fun U hU hW => u_pre hC hP hS hU hW⟩ rfl rfl hl.1 rfl (lv_room (Nat.le_of_ble_eq_true rfl)) dX3_sink_6 ⟨Nat.zero_le _, Nat.zero_le _⟩) hS (fun H locs hP hS => ?_)
  refine lv_if_ne (tgt := 18) hx hb dX3_sink_9 (by decide) (fun c8 => ?_) (fun c8 => ?_)
  · have h := mif_f c8 h
    refine lv_iload_n hx hb dX3_sink_18 rfl (lv_at hl 2 rfl) ?_
    refine lv_iconst (v := 0) hx hb dX3_sink_19 (by decide) ?_
    refine lv_sipush (v := 999) hx hb dX3_sink_20 (by decide) ?_
    obtain ⟨r11, u9, c10, h⟩ := ucall_n h
    have zu9 := zz_X3_within N (ub G) (ug G) u5 x2 0 999 r11 u9 c10
    refine u_calli (va_runS (As := [.int x2, .int 0, .int 999]) (rest := []) hC.1 (met_X3_within l N G u5 x2 0 999 r11 u9 c10) (va_cwS 3 hts (lw_S q2135 q2136 q103 q2137) rfl rfl rfl (by decide +kernel) ⟨Nat.le_trans (Nat.le_of_ble_eq_true rfl) hR.1, Nat.le_trans (Nat.le_of_ble_eq_true rfl) hR.2⟩) ⟨uPc_blind, fun U hU hW => u_pre hC hP hS hU hW⟩ rfl rfl hl.1 rfl (lv_room (Nat.le_of_ble_eq_true rfl)) dX3_sink_23 ⟨Nat.zero_le _, Nat.zero_le _⟩) hS (fun H locs hP hS => ?_)
    refine lv_if_eq (tgt := 47) hx hb dX3_sink_26 (by decide) (fun c12 => ?_) (fun c12 => ?_)
    · have h := mif_t c12 h
      refine u_aload_n (r := some a0) hx hb dX3_sink_47 rfl (lv_at hl 0 rfl) ?_
      refine lv_iconst (v := 2) hx hb dX3_sink_48 (by decide) ?_
      obtain ⟨c13, h⟩ := mif_n h
      obtain ⟨r16, u14, c15, h⟩ := ucall_n h
      have zu14 := zz_X3_no N (ub G) (ug G) u9 a0 2 r16 u14 c15
      refine u_calli (va_runV (As := [.int 2]) (rest := []) hC.1 (met_X3_no l N G u9 a0 2 r16 u14 c15) (cwV 1 hts (lw_V q2138 q2140 qs41 q103 q2141) rfl rfl rfl (by decide +kernel) ⟨Nat.le_trans (Nat.le_of_ble_eq_true rfl) hR.1, Nat.le_trans (Nat.le_of_ble_eq_true rfl) hR.2⟩) ⟨uPc_blind, u_rcv hC hP c13 rfl, fun U hU hW => u_pre hC hP hS hU hW⟩ rfl rfl hl.1 rfl (lv_room (Nat.le_of_ble_eq_true rfl)) dX3_sink_49 ⟨Nat.zero_le _, Nat.zero_le _⟩) hS (fun H locs hP hS => ?_)
      exact w_X3_sink_52 hC hR N u14 r16 h hP hS (lv_sub hl [] rfl)
    · have h := mif_f c12 h
      refine u_aload_n (r := some a0) hx hb dX3_sink_29 rfl (lv_at hl 0 rfl) ?_
      obtain ⟨o17, ho17, h⟩ := mbind_n h
      refine u_get hC hP (uGR_n ho17) rfl in_X3 (by decide) q1913 (fun _ h => h) dX3_sink_30 ?_
      refine lv_iload_n hx hb dX3_sink_33 rfl (lv_at hl 1 rfl) ?_
      refine u_aload_n (r := some a0) hx hb dX3_sink_34 rfl (lv_at hl 0 rfl) ?_
      obtain ⟨o18, ho18, h⟩ := mbind_n h
      refine u_get hC hP (uGR_n ho18) rfl in_X3 (by decide) q1911 (fun _ h => h) dX3_sink_35 ?_
      refine lv_iload_n hx hb dX3_sink_38 rfl (lv_at hl 1 rfl) ?_
      obtain ⟨a19, ha19, hha19⟩ := mbind_n h
      subst ha19
      have h := hha19
      obtain ⟨y20, hy20, h⟩ := mbind_n h
      refine u_iald hC hP hy20 rfl dX3_sink_39 ?_
      refine lv_iload_n hx hb dX3_sink_40 rfl (lv_at hl 2 rfl) ?_
      obtain ⟨r23, u21, c22, h⟩ := ucall_n h
      have zu21 := zz_X3_between N (ub G) (ug G) u9 o17 x1 y20 x2 r23 u21 c22
      refine u_calli (va_runS (As := [va_rf o17, .int x1, .int y20, .int x2]) (rest := []) hC.1 (met_X3_between l N G u9 o17 x1 y20 x2 r23 u21 c22) (va_cwS 4 hts (lw_S q2250 q2251 q103 q2252) rfl rfl rfl (by decide +kernel) ⟨Nat.le_trans (Nat.le_of_ble_eq_true rfl) hR.1, Nat.le_trans (Nat.le_of_ble_eq_true rfl) hR.2⟩) ⟨uPc_blind, fun U hU hW => u_pre hC hP hS hU hW⟩ rfl rfl hl.1 rfl (lv_room (Nat.le_of_ble_eq_true rfl)) dX3_sink_41 ⟨Nat.zero_le _, Nat.zero_le _⟩) hS (fun H locs hP hS => ?_)
      refine lv_goto (tgt := 52) hx hb dX3_sink_44 (by decide) ?_
      exact w_X3_sink_52 hC hR N u21 r23 h hP hS (lv_sub hl [] rfl)
  · have h := mif_t c8 h
    refine u_aload_n (r := some a0) hx hb dX3_sink_12 rfl (lv_at hl 0 rfl) ?_
    refine lv_iconst (v := 1) hx hb dX3_sink_13 (by decide) ?_
    obtain ⟨c24, h⟩ := mif_n h
    obtain ⟨r27, u25, c26, h⟩ := ucall_n h
    have zu25 := zz_X3_no N (ub G) (ug G) u5 a0 1 r27 u25 c26
    refine u_calli (va_runV (As := [.int 1]) (rest := []) hC.1 (met_X3_no l N G u5 a0 1 r27 u25 c26) (cwV 1 hts (lw_V q2138 q2140 qs41 q103 q2141) rfl rfl rfl (by decide +kernel) ⟨Nat.le_trans (Nat.le_of_ble_eq_true rfl) hR.1, Nat.le_trans (Nat.le_of_ble_eq_true rfl) hR.2⟩) ⟨uPc_blind, u_rcv hC hP c24 rfl, fun U hU hW => u_pre hC hP hS hU hW⟩ rfl rfl hl.1 rfl (lv_room (Nat.le_of_ble_eq_true rfl)) dX3_sink_14 ⟨Nat.zero_le _, Nat.zero_le _⟩) hS (fun H locs hP hS => ?_)
    obtain ⟨hr1, hr2⟩ := uret_n h
    subst hr1
    subst hr2
    exact u_iret hC hP hS dX3_sink_17
theorem zz_X3_sink (N b : Nat) (g : uEnv) (u : UH) (a0 : Nat) (x1 : Int32) (x2 : Int32) (r : Int32) (uf : UH) (h : f_X3_sink N b g u a0 x1 x2 = some (r, uf)) : uf.1 = u.1 ∧ uf.2.1 = u.2.1 :=
  zz_X3_sink_0 (G := ((fun _ => 0, fun _ _ => 0), fun _ => 0, b, g)) (a0 := a0) N u x1 x2 h
theorem met_X3_sink (l : Launch) (N : Nat) (G : uG) (u : UH) (a0 : Nat) (x1 : Int32) (x2 : Int32) (r : Int32) (uf : UH) (h : f_X3_sink N (ub G) (ug G) u a0 x1 x2 = some (r, uf)) : Met l yX3_sink (ws_ yX3_sink cX3_sink 3 (some .int)) ({ frames := 2, cells := 0, slots := 0, locals := 51 }) (uPc G u [.ref a0, .int x1, .int x2]) (uQi G r uf) 0 0 (uA G) := by
  exact u_met (own := RX3) (by decide +kernel) rfl (Nat.le_of_ble_eq_true rfl) (fun hC hn hsz ls hl hP => w_X3_sink_0 hC ⟨Nat.le_refl _, Nat.le_refl _⟩ N u x1 x2 h hP va_S.rf hl)
def f_X3_spared_142 (N b : Nat) (g : uEnv) (a0 : Nat) (k90 : UH → Int32 → Int32 → Int64 → Int64 → Int32 → Option (Int32 × UH)) (u : UH) (x1 : Int32) (x2 : Int32) (x5 : Int64) (x9 : Int32) (s0 : Int64) : Option (Int32 × UH) :=
    mlet (x9 + 1) fun y1 =>
    k90 u x1 x2 x5 s0 y1
set_option maxHeartbeats 4000000 in
set_option maxRecDepth 100000 in
theorem zz_X3_spared_142 {G : uG} {a0 : Nat} {uf : UH} {r : Int32} (N : Nat) (k90 : UH → Int32 → Int32 → Int64 → Int64 → Int32 → Option (Int32 × UH)) (hk90 : ∀ (u : UH) (x1 : Int32) (x2 : Int32) (x5 : Int64) (x7 : Int64) (x9 : Int32), k90 u x1 x2 x5 x7 x9 = some (r, uf) → uf.1 = u.1 ∧ uf.2.1 = u.2.1) (u : UH) (x1 : Int32) (x2 : Int32) (x5 : Int64) (x9 : Int32) (s0 : Int64) (h : f_X3_spared_142 N (ub G) (ug G) a0 k90 u x1 x2 x5 x9 s0 = some (r, uf)) : uf.1 = u.1 ∧ uf.2.1 = u.2.1 := by
  unfold f_X3_spared_142 at h
  obtain ⟨y1, ey1⟩ : ∃ z : Int32, z = x9 + 1 := ⟨_, rfl⟩
  have h := mlet_at ey1 h
  have hq := hk90 u x1 x2 x5 s0 y1 h
  exact ⟨by omega, by omega⟩
set_option maxHeartbeats 4000000 in
set_option maxRecDepth 100000 in
theorem w_X3_spared_142 {p : Program} {l : Launch} {e : Env} {R : Room} {s : State} {m : MethodId} {args : Array Value} {below : List Frame} {meth : Method} {c : Code} {G : uG} {a0 : Nat} {uf : UH} {r : Int32} (hC : uC p s m args meth c G RX3 cX3_spared 12 (some .int)) (hR : 7 ≤ R.frames ∧ 177 ≤ R.locals) (N : Nat) (k90 : UH → Int32 → Int32 → Int64 → Int64 → Int32 → Option (Int32 × UH)) (hk90 : ∀ (u : UH) (x1 : Int32) (x2 : Int32) (x5 : Int64) (x7 : Int64) (x9 : Int32), k90 u x1 x2 x5 x7 x9 = some (r, uf) → ∀ (H : Heap) (locs : List Loc), uP G u H → va_S (uA G) s.heap H locs → ∀ ls : Array Slot, lv_has ls 12 [(0, va_rf (some a0)), (1, .int x1), (2, .int x2), (5, .long x5), (7, .long x7), (9, .int x9)] → W p l e R s m args below meth c H locs 0 0 (MQ below (uQi G r uf) args s 0 0 (uA G)) (F0 m 90 ls [])) (u : UH) (x1 : Int32) (x2 : Int32) (x5 : Int64) (x9 : Int32) (s0 : Int64) (h : f_X3_spared_142 N (ub G) (ug G) a0 k90 u x1 x2 x5 x9 s0 = some (r, uf)) {H : Heap} {locs : List Loc} (hP : uP G u H) (hS : va_S (uA G) s.heap H locs) {ls : Array Slot} (hl : lv_has ls 12 [(0, va_rf (some a0)), (1, .int x1), (2, .int x2), (5, .long x5), (9, .int x9)]) : W p l e R s m args below meth c H locs 0 0 (MQ below (uQi G r uf) args s 0 0 (uA G)) (F0 m 142 ls [.long s0]) := by
  obtain ⟨⟨hx, hb, hml, hown, hts⟩, hKK⟩ := id hC
  unfold f_X3_spared_142 at h
  refine lv_lstore (lv' := [(7, .long s0), (0, va_rf (some a0)), (1, .int x1), (2, .int x2), (5, .long x5), (9, .int x9)]) hx hb dX3_spared_142 hl (by decide) rfl (fun ls hl => ?_)
  obtain ⟨y1, ey1⟩ : ∃ z : Int32, z = x9 + 1 := ⟨_, rfl⟩
  have h := mlet_at ey1 h
  refine lv_iinc (v := y1) (lv' := [(9, .int y1), (7, .long s0), (0, va_rf (some a0)), (1, .int x1), (2, .int x2), (5, .long x5)]) hx hb dX3_spared_144 hl (k := 5) rfl (by rw [ey1]; rfl) (by decide) rfl (fun ls hl => ?_)
  refine lv_goto (tgt := 90) hx hb dX3_spared_147 (by decide) ?_
  exact hk90 u x1 x2 x5 s0 y1 h _ _ hP hS _ (lv_sub hl [2, 3, 4, 5, 1, 0] rfl)
def f_X3_spared_90 (N b : Nat) (g : uEnv) (a0 : Nat) : Nat → UH → Int32 → Int32 → Int64 → Int64 → Int32 → Option (Int32 × UH)
  | 0, _, _, _, _, _, _ => none
  | n + 1, u, x1, x2, x5, x7, x9 =>
    (uGR u a0 2 53).bind fun o1 =>
    (o1).bind fun a2 =>
    (uLdI u a2 0 x1).bind fun y3 =>
    if y3 ≤ x9 then
    some ((x5 - x7).toInt32, u)
    else
    (uGR u a0 2 48).bind fun o5 =>
    if uIs u a0 2 = true then
    ucall (f_X3_base N b g u a0) fun r9 u7 =>
    ucall (f_X3_power N b g u7 x1) fun r12 u10 =>
    (o5).bind fun a13 =>
    (uLdL u10 a13 3 ((100 * (r9 + ((x9 + 1) * r12))) + x2)).bind fun y14 =>
    if (lg_cmp y14 x7) ≤ 0 then
    f_X3_spared_142 N b g a0 (f_X3_spared_90 N b g a0 n) u10 x1 x2 x5 x9 x7
    else
    f_X3_spared_142 N b g a0 (f_X3_spared_90 N b g a0 n) u10 x1 x2 x5 x9 y14
    else none
set_option maxHeartbeats 4000000 in
set_option maxRecDepth 100000 in
theorem zz_X3_spared_90 {G : uG} {a0 : Nat} {uf : UH} {r : Int32} (N : Nat) : ∀ (n : Nat) (u : UH) (x1 : Int32) (x2 : Int32) (x5 : Int64) (x7 : Int64) (x9 : Int32), f_X3_spared_90 N (ub G) (ug G) a0 n u x1 x2 x5 x7 x9 = some (r, uf) → uf.1 = u.1 ∧ uf.2.1 = u.2.1 := by
  intro n
  induction n with
  | zero =>
    intro u x1 x2 x5 x7 x9 h
    cases h
  | succ n ih =>
    intro u x1 x2 x5 x7 x9 h
    unfold f_X3_spared_90 at h
    obtain ⟨o1, ho1, h⟩ := mbind_n h
    obtain ⟨a2, ha2, hha2⟩ := mbind_n h
    subst ha2
    have h := hha2
    obtain ⟨y3, hy3, h⟩ := mbind_n h
    by_cases c4 : y3 ≤ x9
    · have h := mif_t c4 h
      obtain ⟨hr1, hr2⟩ := uret_n h
      subst hr2
      exact ⟨by omega, by omega⟩
    · have h := mif_f c4 h
      obtain ⟨o5, ho5, h⟩ := mbind_n h
      obtain ⟨c6, h⟩ := mif_n h
      obtain ⟨r9, u7, c8, h⟩ := ucall_n h
      have zu7 := zz_X3_base N (ub G) (ug G) u a0 r9 u7 c8
      obtain ⟨r12, u10, c11, h⟩ := ucall_n h
      have zu10 := zz_X3_power N (ub G) (ug G) u7 x1 r12 u10 c11
      obtain ⟨a13, ha13, hha13⟩ := mbind_n h
      subst ha13
      have h := hha13
      obtain ⟨y14, hy14, h⟩ := mbind_n h
      by_cases c15 : (lg_cmp y14 x7) ≤ 0
      · have h := mif_t c15 h
        have hq := zz_X3_spared_142 (G := G) (a0 := a0) N (f_X3_spared_90 N (ub G) (ug G) a0 n) ih u10 x1 x2 x5 x9 x7 h
        exact ⟨by omega, by omega⟩
      · have h := mif_f c15 h
        have hq := zz_X3_spared_142 (G := G) (a0 := a0) N (f_X3_spared_90 N (ub G) (ug G) a0 n) ih u10 x1 x2 x5 x9 y14 h
        exact ⟨by omega, by omega⟩
set_option maxHeartbeats 4000000 in
set_option maxRecDepth 100000 in
theorem w_X3_spared_90 {p : Program} {l : Launch} {e : Env} {R : Room} {s : State} {m : MethodId} {args : Array Value} {below : List Frame} {meth : Method} {c : Code} {G : uG} {a0 : Nat} {uf : UH} {r : Int32} (hC : uC p s m args meth c G RX3 cX3_spared 12 (some .int)) (hR : 7 ≤ R.frames ∧ 177 ≤ R.locals) (N : Nat) : ∀ (n : Nat) (u : UH) (x1 : Int32) (x2 : Int32) (x5 : Int64) (x7 : Int64) (x9 : Int32), f_X3_spared_90 N (ub G) (ug G) a0 n u x1 x2 x5 x7 x9 = some (r, uf) → ∀ (H : Heap) (locs : List Loc), uP G u H → va_S (uA G) s.heap H locs → ∀ ls : Array Slot, lv_has ls 12 [(0, va_rf (some a0)), (1, .int x1), (2, .int x2), (5, .long x5), (7, .long x7), (9, .int x9)] → W p l e R s m args below meth c H locs 0 0 (MQ below (uQi G r uf) args s 0 0 (uA G)) (F0 m 90 ls []) := by
  obtain ⟨⟨hx, hb, hml, hown, hts⟩, hKK⟩ := id hC
  intro n
  induction n with
  | zero =>
    intro u x1 x2 x5 x7 x9 h
    cases h
  | succ n ih =>
    intro u x1 x2 x5 x7 x9 h H locs hP hS ls hl
    unfold f_X3_spared_90 at h
    refine lv_iload hx hb dX3_spared_90 (lv_at hl 5 rfl) ?_
    refine u_aload_n (r := some a0) hx hb dX3_spared_92 rfl (lv_at hl 0 rfl) ?_
    obtain ⟨o1, ho1, h⟩ := mbind_n h
    refine u_get hC hP (uGR_n ho1) rfl in_X3 (by decide) q1946 (fun _ h => h) dX3_spared_93 ?_
    refine lv_iload_n hx hb dX3_spared_96 rfl (lv_at hl 1 rfl) ?_
    obtain ⟨a2, ha2, hha2⟩ := mbind_n h
    subst ha2
    have h := hha2
    obtain ⟨y3, hy3, h⟩ := mbind_n h
    refine u_iald hC hP hy3 rfl dX3_spared_97 ?_
    refine lv_icmp_ge (tgt := 150) hx hb dX3_spared_98 (by decide) (fun c4 => ?_) (fun c4 => ?_)
    · have h := mif_t c4 h
      refine lv_lload hx hb dX3_spared_150 (lv_at hl 3 rfl) ?_
      refine lv_lload hx hb dX3_spared_152 (lv_at hl 4 rfl) ?_
      refine lv_lsub hx hb dX3_spared_154 ?_
      refine lv_l2i (v := (x5 - x7).toInt32) hx hb dX3_spared_155 rfl ?_
      obtain ⟨hr1, hr2⟩ := uret_n h
      subst hr1
      subst hr2
      exact u_iret hC hP hS dX3_spared_156
    · have h := mif_f c4 h
      refine u_aload_n (r := some a0) hx hb dX3_spared_101 rfl (lv_at hl 0 rfl) ?_
      obtain ⟨o5, ho5, h⟩ := mbind_n h
      refine u_get hC hP (uGR_n ho5) rfl in_X3 (by decide) q1941 (fun _ h => h) dX3_spared_102 ?_
      refine lv_bipush (v := 100) hx hb dX3_spared_105 (by decide) ?_
      refine u_aload_n (r := some a0) hx hb dX3_spared_107 rfl (lv_at hl 0 rfl) ?_
      obtain ⟨c6, h⟩ := mif_n h
      obtain ⟨r9, u7, c8, h⟩ := ucall_n h
      have zu7 := zz_X3_base N (ub G) (ug G) u a0 r9 u7 c8
      refine u_calli (va_runV (As := []) (rest := [.int 100, va_rf o5]) hC.1 (met_X3_base l N G u a0 r9 u7 c8) (cwV 0 hts (lw_V q2399 q2401 qs81 q103 q2402) rfl rfl rfl (by decide +kernel) ⟨Nat.le_trans (Nat.le_of_ble_eq_true rfl) hR.1, Nat.le_trans (Nat.le_of_ble_eq_true rfl) hR.2⟩) ⟨uPc_blind, u_rcv hC hP c6 rfl, fun U hU hW => u_pre hC hP hS hU hW⟩ rfl rfl hl.1 rfl (lv_room (by simp only [List.map, u_cat]; exact Nat.le_of_ble_eq_true rfl)) dX3_spared_108 ⟨Nat.zero_le _, Nat.zero_le _⟩) hS (fun H locs hP hS => ?_)
      refine lv_iload hx hb dX3_spared_111 (lv_at hl 5 rfl) ?_
      refine lv_iconst (v := 1) hx hb dX3_spared_113 (by decide) ?_
      refine lv_iadd hx hb dX3_spared_114 ?_
      refine lv_iload_n hx hb dX3_spared_115 rfl (lv_at hl 1 rfl) ?_
      obtain ⟨r12, u10, c11, h⟩ := ucall_n h
      have zu10 := zz_X3_power N (ub G) (ug G) u7 x1 r12 u10 c11
      refine u_calli (va_runS (As := [.int x1]) (rest := [.int (x9 + 1), .int r9, .int 100, va_rf o5]) hC.1 (met_X3_power l N G u7 x1 r12 u10 c11) (va_cwS 1 hts (lw_S q2380 q2381 q103 q2382) rfl rfl rfl (by decide +kernel) ⟨Nat.le_trans (Nat.le_of_ble_eq_true rfl) hR.1, Nat.le_trans (Nat.le_of_ble_eq_true rfl) hR.2⟩) ⟨uPc_blind, fun U hU hW => u_pre hC hP hS hU hW⟩ rfl rfl hl.1 rfl (lv_room (by simp only [List.map, u_cat]; exact Nat.le_of_ble_eq_true rfl)) dX3_spared_116 ⟨Nat.zero_le _, Nat.zero_le _⟩) hS (fun H locs hP hS => ?_)
      refine lv_imul hx hb dX3_spared_119 ?_
      refine lv_iadd hx hb dX3_spared_120 ?_
      refine lv_imul hx hb dX3_spared_121 ?_
      refine lv_iload_n hx hb dX3_spared_122 rfl (lv_at hl 2 rfl) ?_
      refine lv_iadd hx hb dX3_spared_123 ?_
      obtain ⟨a13, ha13, hha13⟩ := mbind_n h
      subst ha13
      have h := hha13
      obtain ⟨y14, hy14, h⟩ := mbind_n h
      refine u_lald hC hP hy14 rfl dX3_spared_124 ?_
      refine lv_lstore (lv' := [(10, .long y14), (0, va_rf (some a0)), (1, .int x1), (2, .int x2), (5, .long x5), (7, .long x7), (9, .int x9)]) hx hb dX3_spared_125 hl (by decide) rfl (fun ls hl => ?_)
      refine lv_lload hx hb dX3_spared_127 (lv_at hl 0 rfl) ?_
      refine lv_lload hx hb dX3_spared_129 (lv_at hl 5 rfl) ?_
      refine W.lcmp hx hb dX3_spared_131 ?_
      refine lv_if_le (tgt := 140) hx hb dX3_spared_132 (by decide) (fun c15 => ?_) (fun c15 => ?_)
      · have h := mif_t c15 h
        refine lv_lload hx hb dX3_spared_140 (lv_at hl 5 rfl) ?_
        exact w_X3_spared_142 hC hR N (f_X3_spared_90 N (ub G) (ug G) a0 n) ih u10 x1 x2 x5 x9 x7 h hP hS (lv_sub hl [1, 2, 3, 4, 6] rfl)
      · have h := mif_f c15 h
        refine lv_lload hx hb dX3_spared_135 (lv_at hl 0 rfl) ?_
        refine lv_goto (tgt := 142) hx hb dX3_spared_137 (by decide) ?_
        exact w_X3_spared_142 hC hR N (f_X3_spared_90 N (ub G) (ug G) a0 n) ih u10 x1 x2 x5 x9 y14 h hP hS (lv_sub hl [1, 2, 3, 4, 6] rfl)
def f_X3_spared_47 (N b : Nat) (g : uEnv) (a0 : Nat) (u : UH) (x1 : Int32) (x2 : Int32) (x3 : Int32) (s0 : Int32) : Option (Int32 × UH) :=
    if s0 ≤ 0 then
    if uIs u a0 2 = true then
    ucall (f_X3_from N b g u a0 x2 x3 0) fun r5 u3 =>
    if 0 ≤ (lg_cmp r5 0) then
    f_X3_spared_90 N b g a0 N u3 x1 x2 r5 0 0
    else
    if uIs u3 a0 2 = true then
    ucall (f_X3_no N b g u3 a0 6) fun r10 u8 =>
    some (r10, u8)
    else none
    else none
    else
    if uIs u a0 2 = true then
    ucall (f_X3_no N b g u a0 s0) fun r14 u12 =>
    some (r14, u12)
    else none
set_option maxHeartbeats 4000000 in
set_option maxRecDepth 100000 in
theorem zz_X3_spared_47 {G : uG} {a0 : Nat} {uf : UH} {r : Int32} (N : Nat) (u : UH) (x1 : Int32) (x2 : Int32) (x3 : Int32) (s0 : Int32) (h : f_X3_spared_47 N (ub G) (ug G) a0 u x1 x2 x3 s0 = some (r, uf)) : uf.1 = u.1 ∧ uf.2.1 = u.2.1 := by
  unfold f_X3_spared_47 at h
  by_cases c1 : s0 ≤ 0
  · have h := mif_t c1 h
    obtain ⟨c2, h⟩ := mif_n h
    obtain ⟨r5, u3, c4, h⟩ := ucall_n h
    have zu3 := zz_X3_from N (ub G) (ug G) u a0 x2 x3 0 r5 u3 c4
    by_cases c6 : 0 ≤ (lg_cmp r5 0)
    · have h := mif_t c6 h
      have hq := zz_X3_spared_90 (G := G) (a0 := a0) N N u3 x1 x2 r5 0 0 h
      exact ⟨by omega, by omega⟩
    · have h := mif_f c6 h
      obtain ⟨c7, h⟩ := mif_n h
      obtain ⟨r10, u8, c9, h⟩ := ucall_n h
      have zu8 := zz_X3_no N (ub G) (ug G) u3 a0 6 r10 u8 c9
      obtain ⟨hr1, hr2⟩ := uret_n h
      subst hr2
      exact ⟨by omega, by omega⟩
  · have h := mif_f c1 h
    obtain ⟨c11, h⟩ := mif_n h
    obtain ⟨r14, u12, c13, h⟩ := ucall_n h
    have zu12 := zz_X3_no N (ub G) (ug G) u a0 s0 r14 u12 c13
    obtain ⟨hr1, hr2⟩ := uret_n h
    subst hr2
    exact ⟨by omega, by omega⟩
set_option maxHeartbeats 4000000 in
set_option maxRecDepth 100000 in
theorem w_X3_spared_47 {p : Program} {l : Launch} {e : Env} {R : Room} {s : State} {m : MethodId} {args : Array Value} {below : List Frame} {meth : Method} {c : Code} {G : uG} {a0 : Nat} {uf : UH} {r : Int32} (hC : uC p s m args meth c G RX3 cX3_spared 12 (some .int)) (hR : 7 ≤ R.frames ∧ 177 ≤ R.locals) (N : Nat) (u : UH) (x1 : Int32) (x2 : Int32) (x3 : Int32) (s0 : Int32) (h : f_X3_spared_47 N (ub G) (ug G) a0 u x1 x2 x3 s0 = some (r, uf)) {H : Heap} {locs : List Loc} (hP : uP G u H) (hS : va_S (uA G) s.heap H locs) {ls : Array Slot} (hl : lv_has ls 12 [(0, va_rf (some a0)), (1, .int x1), (2, .int x2), (3, .int x3)]) : W p l e R s m args below meth c H locs 0 0 (MQ below (uQi G r uf) args s 0 0 (uA G)) (F0 m 47 ls [.int s0]) := by
  obtain ⟨⟨hx, hb, hml, hown, hts⟩, hKK⟩ := id hC
  unfold f_X3_spared_47 at h
  refine lv_istore (lv' := [(4, .int s0), (0, va_rf (some a0)), (1, .int x1), (2, .int x2), (3, .int x3)]) hx hb dX3_spared_47 hl (by decide) rfl (fun ls hl => ?_)
  refine lv_iload hx hb dX3_spared_49 (lv_at hl 0 rfl) ?_
  refine lv_if_le (tgt := 61) hx hb dX3_spared_51 (by decide) (fun c1 => ?_) (fun c1 => ?_)
  · have h := mif_t c1 h
    refine u_aload_n (r := some a0) hx hb dX3_spared_61 rfl (lv_at hl 1 rfl) ?_
    refine lv_iload_n hx hb dX3_spared_62 rfl (lv_at hl 3 rfl) ?_
    refine lv_iload_n hx hb dX3_spared_63 rfl (lv_at hl 4 rfl) ?_
    refine lv_iconst (v := 0) hx hb dX3_spared_64 (by decide) ?_
    obtain ⟨c2, h⟩ := mif_n h
    obtain ⟨r5, u3, c4, h⟩ := ucall_n h
    have zu3 := zz_X3_from N (ub G) (ug G) u a0 x2 x3 0 r5 u3 c4
    refine u_calll (va_runV (As := [.int x2, .int x3, .int 0]) (rest := []) hC.1 (met_X3_from l N G u a0 x2 x3 0 r5 u3 c4) (cwV 3 hts (lw_V q2336 q2338 qs67 q103 q2339) rfl rfl rfl (by decide +kernel) ⟨Nat.le_trans (Nat.le_of_ble_eq_true rfl) hR.1, Nat.le_trans (Nat.le_of_ble_eq_true rfl) hR.2⟩) ⟨uPc_blind, u_rcv hC hP c2 rfl, fun U hU hW => u_pre hC hP hS hU hW⟩ rfl rfl hl.1 rfl (lv_room (Nat.le_of_ble_eq_true rfl)) dX3_spared_65 ⟨Nat.zero_le _, Nat.zero_le _⟩) hS (fun H locs hP hS => ?_)
    refine lv_lstore (lv' := [(5, .long r5), (4, .int s0), (0, va_rf (some a0)), (1, .int x1), (2, .int x2), (3, .int x3)]) hx hb dX3_spared_68 hl (by decide) rfl (fun ls hl => ?_)
    refine lv_lload hx hb dX3_spared_70 (lv_at hl 0 rfl) ?_
    refine lv_lconst (v := 0) hx hb dX3_spared_72 (by decide) ?_
    refine W.lcmp hx hb dX3_spared_73 ?_
    refine lv_if_ge (tgt := 84) hx hb dX3_spared_74 (by decide) (fun c6 => ?_) (fun c6 => ?_)
    · have h := mif_t c6 h
      refine lv_lconst (v := 0) hx hb dX3_spared_84 (by decide) ?_
      refine lv_lstore (lv' := [(7, .long 0), (5, .long r5), (4, .int s0), (0, va_rf (some a0)), (1, .int x1), (2, .int x2), (3, .int x3)]) hx hb dX3_spared_85 hl (by decide) rfl (fun ls hl => ?_)
      refine lv_iconst (v := 0) hx hb dX3_spared_87 (by decide) ?_
      refine lv_istore (lv' := [(9, .int 0), (7, .long 0), (5, .long r5), (4, .int s0), (0, va_rf (some a0)), (1, .int x1), (2, .int x2), (3, .int x3)]) hx hb dX3_spared_88 hl (by decide) rfl (fun ls hl => ?_)
      exact w_X3_spared_90 hC hR N N u3 x1 x2 r5 0 0 h _ _ hP hS _ (lv_sub hl [4, 5, 6, 2, 1, 0] rfl)
    · have h := mif_f c6 h
      refine u_aload_n (r := some a0) hx hb dX3_spared_77 rfl (lv_at hl 2 rfl) ?_
      refine lv_bipush (v := 6) hx hb dX3_spared_78 (by decide) ?_
      obtain ⟨c7, h⟩ := mif_n h
      obtain ⟨r10, u8, c9, h⟩ := ucall_n h
      have zu8 := zz_X3_no N (ub G) (ug G) u3 a0 6 r10 u8 c9
      refine u_calli (va_runV (As := [.int 6]) (rest := []) hC.1 (met_X3_no l N G u3 a0 6 r10 u8 c9) (cwV 1 hts (lw_V q2138 q2140 qs41 q103 q2141) rfl rfl rfl (by decide +kernel) ⟨Nat.le_trans (Nat.le_of_ble_eq_true rfl) hR.1, Nat.le_trans (Nat.le_of_ble_eq_true rfl) hR.2⟩) ⟨uPc_blind, u_rcv hC hP c7 rfl, fun U hU hW => u_pre hC hP hS hU hW⟩ rfl rfl hl.1 rfl (lv_room (Nat.le_of_ble_eq_true rfl)) dX3_spared_80 ⟨Nat.zero_le _, Nat.zero_le _⟩) hS (fun H locs hP hS => ?_)
      obtain ⟨hr1, hr2⟩ := uret_n h
      subst hr1
      subst hr2
      exact u_iret hC hP hS dX3_spared_83
  · have h := mif_f c1 h
    refine u_aload_n (r := some a0) hx hb dX3_spared_54 rfl (lv_at hl 1 rfl) ?_
    refine lv_iload hx hb dX3_spared_55 (lv_at hl 0 rfl) ?_
    obtain ⟨c11, h⟩ := mif_n h
    obtain ⟨r14, u12, c13, h⟩ := ucall_n h
    have zu12 := zz_X3_no N (ub G) (ug G) u a0 s0 r14 u12 c13
    refine u_calli (va_runV (As := [.int s0]) (rest := []) hC.1 (met_X3_no l N G u a0 s0 r14 u12 c13) (cwV 1 hts (lw_V q2138 q2140 qs41 q103 q2141) rfl rfl rfl (by decide +kernel) ⟨Nat.le_trans (Nat.le_of_ble_eq_true rfl) hR.1, Nat.le_trans (Nat.le_of_ble_eq_true rfl) hR.2⟩) ⟨uPc_blind, u_rcv hC hP c11 rfl, fun U hU hW => u_pre hC hP hS hU hW⟩ rfl rfl hl.1 rfl (lv_room (Nat.le_of_ble_eq_true rfl)) dX3_spared_57 ⟨Nat.zero_le _, Nat.zero_le _⟩) hS (fun H locs hP hS => ?_)
    obtain ⟨hr1, hr2⟩ := uret_n h
    subst hr1
    subst hr2
    exact u_iret hC hP hS dX3_spared_60
def f_X3_spared_28 (N b : Nat) (g : uEnv) (a0 : Nat) (u : UH) (x1 : Int32) (x2 : Int32) (x3 : Int32) : Option (Int32 × UH) :=
    f_X3_spared_47 N b g a0 u x1 x2 x3 1
set_option maxHeartbeats 4000000 in
set_option maxRecDepth 100000 in
theorem zz_X3_spared_28 {G : uG} {a0 : Nat} {uf : UH} {r : Int32} (N : Nat) (u : UH) (x1 : Int32) (x2 : Int32) (x3 : Int32) (h : f_X3_spared_28 N (ub G) (ug G) a0 u x1 x2 x3 = some (r, uf)) : uf.1 = u.1 ∧ uf.2.1 = u.2.1 := by
  unfold f_X3_spared_28 at h
  have hq := zz_X3_spared_47 (G := G) (a0 := a0) N u x1 x2 x3 1 h
  exact ⟨by omega, by omega⟩
set_option maxHeartbeats 4000000 in
set_option maxRecDepth 100000 in
theorem w_X3_spared_28 {p : Program} {l : Launch} {e : Env} {R : Room} {s : State} {m : MethodId} {args : Array Value} {below : List Frame} {meth : Method} {c : Code} {G : uG} {a0 : Nat} {uf : UH} {r : Int32} (hC : uC p s m args meth c G RX3 cX3_spared 12 (some .int)) (hR : 7 ≤ R.frames ∧ 177 ≤ R.locals) (N : Nat) (u : UH) (x1 : Int32) (x2 : Int32) (x3 : Int32) (h : f_X3_spared_28 N (ub G) (ug G) a0 u x1 x2 x3 = some (r, uf)) {H : Heap} {locs : List Loc} (hP : uP G u H) (hS : va_S (uA G) s.heap H locs) {ls : Array Slot} (hl : lv_has ls 12 [(0, va_rf (some a0)), (1, .int x1), (2, .int x2), (3, .int x3)]) : W p l e R s m args below meth c H locs 0 0 (MQ below (uQi G r uf) args s 0 0 (uA G)) (F0 m 28 ls []) := by
  obtain ⟨⟨hx, hb, hml, hown, hts⟩, hKK⟩ := id hC
  unfold f_X3_spared_28 at h
  refine lv_iconst (v := 1) hx hb dX3_spared_28 (by decide) ?_
  refine lv_goto (tgt := 47) hx hb dX3_spared_29 (by decide) ?_
  exact w_X3_spared_47 hC hR N u x1 x2 x3 1 h hP hS (lv_sub hl [0, 1, 2, 3] rfl)
def f_X3_spared (N b : Nat) (g : uEnv) (u : UH) (a0 : Nat) (x1 : Int32) (x2 : Int32) (x3 : Int32) : Option (Int32 × UH) :=
    if uIs u a0 2 = true then
    (f_X3_good N b g u a0).bind fun u2 =>
    if uIs u2 a0 2 = true then
    ucall (f_X3_isDoubt N b g u2 a0 x1) fun r7 u5 =>
    if r7 = 0 then
    f_X3_spared_28 N b g a0 u5 x1 x2 x3
    else
    if uIs u5 a0 2 = true then
    ucall (f_X3_isCell N b g u5 a0 x2) fun r12 u10 =>
    if r12 = 0 then
    f_X3_spared_28 N b g a0 u10 x1 x2 x3
    else
    if uIs u10 a0 2 = true then
    ucall (f_X3_isCell N b g u10 a0 x3) fun r17 u15 =>
    if r17 = 0 then
    f_X3_spared_28 N b g a0 u15 x1 x2 x3
    else
    (uGR u15 a0 2 45).bind fun o19 =>
    (o19).bind fun a20 =>
    (uLdI u15 a20 0 x1).bind fun y21 =>
    if y21 = (-1) then
    f_X3_spared_47 N b g a0 u15 x1 x2 x3 0
    else
    f_X3_spared_47 N b g a0 u15 x1 x2 x3 5
    else none
    else none
    else none
    else none
set_option maxHeartbeats 4000000 in
set_option maxRecDepth 100000 in
theorem zz_X3_spared_0 {G : uG} {a0 : Nat} {uf : UH} {r : Int32} (N : Nat) (u : UH) (x1 : Int32) (x2 : Int32) (x3 : Int32) (h : f_X3_spared N (ub G) (ug G) u a0 x1 x2 x3 = some (r, uf)) : uf.1 = u.1 ∧ uf.2.1 = u.2.1 := by
  unfold f_X3_spared at h
  obtain ⟨c1, h⟩ := mif_n h
  obtain ⟨u2, c3, h⟩ := mbind_n h
  have zu2 := zz_X3_good N (ub G) (ug G) u a0 u2 c3
  obtain ⟨c4, h⟩ := mif_n h
  obtain ⟨r7, u5, c6, h⟩ := ucall_n h
  have zu5 := zz_X3_isDoubt N (ub G) (ug G) u2 a0 x1 r7 u5 c6
  by_cases c8 : r7 = 0
  · have h := mif_t c8 h
    have hq := zz_X3_spared_28 (G := G) (a0 := a0) N u5 x1 x2 x3 h
    exact ⟨by omega, by omega⟩
  · have h := mif_f c8 h
    obtain ⟨c9, h⟩ := mif_n h
    obtain ⟨r12, u10, c11, h⟩ := ucall_n h
    have zu10 := zz_X3_isCell N (ub G) (ug G) u5 a0 x2 r12 u10 c11
    by_cases c13 : r12 = 0
    · have h := mif_t c13 h
      have hq := zz_X3_spared_28 (G := G) (a0 := a0) N u10 x1 x2 x3 h
      exact ⟨by omega, by omega⟩
    · have h := mif_f c13 h
      obtain ⟨c14, h⟩ := mif_n h
      obtain ⟨r17, u15, c16, h⟩ := ucall_n h
      have zu15 := zz_X3_isCell N (ub G) (ug G) u10 a0 x3 r17 u15 c16
      by_cases c18 : r17 = 0
      · have h := mif_t c18 h
        have hq := zz_X3_spared_28 (G := G) (a0 := a0) N u15 x1 x2 x3 h
        exact ⟨by omega, by omega⟩
      · have h := mif_f c18 h
        obtain ⟨o19, ho19, h⟩ := mbind_n h
        obtain ⟨a20, ha20, hha20⟩ := mbind_n h
        subst ha20
        have h := hha20
        obtain ⟨y21, hy21, h⟩ := mbind_n h
        by_cases c22 : y21 = (-1)
        · have h := mif_t c22 h
          have hq := zz_X3_spared_47 (G := G) (a0 := a0) N u15 x1 x2 x3 0 h
          exact ⟨by omega, by omega⟩
        · have h := mif_f c22 h
          have hq := zz_X3_spared_47 (G := G) (a0 := a0) N u15 x1 x2 x3 5 h
          exact ⟨by omega, by omega⟩
set_option maxHeartbeats 4000000 in
set_option maxRecDepth 100000 in
theorem w_X3_spared_0 {p : Program} {l : Launch} {e : Env} {R : Room} {s : State} {m : MethodId} {args : Array Value} {below : List Frame} {meth : Method} {c : Code} {G : uG} {a0 : Nat} {uf : UH} {r : Int32} (hC : uC p s m args meth c G RX3 cX3_spared 12 (some .int)) (hR : 7 ≤ R.frames ∧ 177 ≤ R.locals) (N : Nat) (u : UH) (x1 : Int32) (x2 : Int32) (x3 : Int32) (h : f_X3_spared N (ub G) (ug G) u a0 x1 x2 x3 = some (r, uf)) {H : Heap} {locs : List Loc} (hP : uP G u H) (hS : va_S (uA G) s.heap H locs) {ls : Array Slot} (hl : lv_has ls 12 [(0, va_rf (some a0)), (1, .int x1), (2, .int x2), (3, .int x3)]) : W p l e R s m args below meth c H locs 0 0 (MQ below (uQi G r uf) args s 0 0 (uA G)) (F0 m 0 ls []) := by
  obtain ⟨⟨hx, hb, hml, hown, hts⟩, hKK⟩ := id hC
  unfold f_X3_spared at h
  refine u_aload_n (r := some a0) hx hb dX3_spared_0 rfl (lv_at hl 0 rfl) ?_
  obtain ⟨c1, h⟩ := mif_n h
  obtain ⟨u2, c3, h⟩ := mbind_n h
  have zu2 := zz_X3_good N (ub G) (ug G) u a0 u2 c3
  refine u_callv (va_runV (As := []) (rest := []) hC.1 (met_X3_good l N G u a0 u2 c3) (cwV 0 hts (lw_V q2131 q2133 qs40 q103 q2134) rfl rfl rfl (by decide +kernel) ⟨Nat.le_trans (Nat.le_of_ble_eq_true rfl) hR.1, Nat.le_trans (Nat.le_of_ble_eq_true rfl) hR.2⟩) ⟨uPc_blind, u_rcv hC hP c1 rfl, fun U hU hW => u_pre hC hP hS hU hW⟩ rfl rfl hl.1 rfl (lv_room (Nat.le_of_ble_eq_true rfl)) dX3_spared_1 ⟨Nat.zero_le _, Nat.zero_le _⟩) hS (fun H locs hP hS => ?_)
  refine u_aload_n (r := some a0) hx hb dX3_spared_4 rfl (lv_at hl 0 rfl) ?_
  refine lv_iload_n hx hb dX3_spared_5 rfl (lv_at hl 1 rfl) ?_
  obtain ⟨c4, h⟩ := mif_n h
  obtain ⟨r7, u5, c6, h⟩ := ucall_n h
  have zu5 := zz_X3_isDoubt N (ub G) (ug G) u2 a0 x1 r7 u5 c6
  refine u_calli (va_runV (As := [.int x1]) (rest := []) hC.1 (met_X3_isDoubt l N G u2 a0 x1 r7 u5 c6) (cwV 1 hts (lw_V q2292 q2294 qs61 q103 q2295) rfl rfl rfl (by decide +kernel) ⟨Nat.le_trans (Nat.le_of_ble_eq_true rfl) hR.1, Nat.le_trans (Nat.le_of_ble_eq_true rfl) hR.2⟩) ⟨uPc_blind, u_rcv hC hP c4 rfl, fun U hU hW => u_pre hC hP hS hU hW⟩ rfl rfl hl.1 rfl (lv_room (Nat.le_of_ble_eq_true rfl)) dX3_spared_6 ⟨Nat.zero_le _, Nat.zero_le _⟩) hS (fun H locs hP hS => ?_)
  refine lv_if_eq (tgt := 28) hx hb dX3_spared_9 (by decide) (fun c8 => ?_) (fun c8 => ?_)
  · have h := mif_t c8 h
    exact w_X3_spared_28 hC hR N u5 x1 x2 x3 h hP hS (lv_sub hl [0, 1, 2, 3] rfl)
  · have h := mif_f c8 h
    refine u_aload_n (r := some a0) hx hb dX3_spared_12 rfl (lv_at hl 0 rfl) ?_
    refine lv_iload_n hx hb dX3_spared_13 rfl (lv_at hl 2 rfl) ?_
    obtain ⟨c9, h⟩ := mif_n h
    obtain ⟨r12, u10, c11, h⟩ := ucall_n h
    have zu10 := zz_X3_isCell N (ub G) (ug G) u5 a0 x2 r12 u10 c11
    refine u_calli (va_runV (As := [.int x2]) (rest := []) hC.1 (met_X3_isCell l N G u5 a0 x2 r12 u10 c11) (cwV 1 hts (lw_V q2276 q2278 qs60 q103 q2279) rfl rfl rfl (by decide +kernel) ⟨Nat.le_trans (Nat.le_of_ble_eq_true rfl) hR.1, Nat.le_trans (Nat.le_of_ble_eq_true rfl) hR.2⟩) ⟨uPc_blind, u_rcv hC hP c9 rfl, fun U hU hW => u_pre hC hP hS hU hW⟩ rfl rfl hl.1 rfl (lv_room (Nat.le_of_ble_eq_true rfl)) dX3_spared_14 ⟨Nat.zero_le _, Nat.zero_le _⟩) hS (fun H locs hP hS => ?_)
    refine lv_if_eq (tgt := 28) hx hb dX3_spared_17 (by decide) (fun c13 => ?_) (fun c13 => ?_)
    · have h := mif_t c13 h
      exact w_X3_spared_28 hC hR N u10 x1 x2 x3 h hP hS (lv_sub hl [0, 1, 2, 3] rfl)
    · have h := mif_f c13 h
      refine u_aload_n (r := some a0) hx hb dX3_spared_20 rfl (lv_at hl 0 rfl) ?_
      refine lv_iload_n hx hb dX3_spared_21 rfl (lv_at hl 3 rfl) ?_
      obtain ⟨c14, h⟩ := mif_n h
      obtain ⟨r17, u15, c16, h⟩ := ucall_n h
      have zu15 := zz_X3_isCell N (ub G) (ug G) u10 a0 x3 r17 u15 c16
      refine u_calli (va_runV (As := [.int x3]) (rest := []) hC.1 (met_X3_isCell l N G u10 a0 x3 r17 u15 c16) (cwV 1 hts (lw_V q2276 q2278 qs60 q103 q2279) rfl rfl rfl (by decide +kernel) ⟨Nat.le_trans (Nat.le_of_ble_eq_true rfl) hR.1, Nat.le_trans (Nat.le_of_ble_eq_true rfl) hR.2⟩) ⟨uPc_blind, u_rcv hC hP c14 rfl, fun U hU hW => u_pre hC hP hS hU hW⟩ rfl rfl hl.1 rfl (lv_room (Nat.le_of_ble_eq_true rfl)) dX3_spared_22 ⟨Nat.zero_le _, Nat.zero_le _⟩) hS (fun H locs hP hS => ?_)
      refine lv_if_ne (tgt := 32) hx hb dX3_spared_25 (by decide) (fun c18 => ?_) (fun c18 => ?_)
      · have h := mif_f c18 h
        refine u_aload_n (r := some a0) hx hb dX3_spared_32 rfl (lv_at hl 0 rfl) ?_
        obtain ⟨o19, ho19, h⟩ := mbind_n h
        refine u_get hC hP (uGR_n ho19) rfl in_X3 (by decide) q1938 (fun _ h => h) dX3_spared_33 ?_
        refine lv_iload_n hx hb dX3_spared_36 rfl (lv_at hl 1 rfl) ?_
        obtain ⟨a20, ha20, hha20⟩ := mbind_n h
        subst ha20
        have h := hha20
        obtain ⟨y21, hy21, h⟩ := mbind_n h
        refine u_iald hC hP hy21 rfl dX3_spared_37 ?_
        refine lv_iconst (v := (-1)) hx hb dX3_spared_38 (by decide) ?_
        refine lv_icmp_eq (tgt := 46) hx hb dX3_spared_39 (by decide) (fun c22 => ?_) (fun c22 => ?_)
        · have h := mif_t c22 h
          refine lv_iconst (v := 0) hx hb dX3_spared_46 (by decide) ?_
          exact w_X3_spared_47 hC hR N u15 x1 x2 x3 0 h hP hS (lv_sub hl [0, 1, 2, 3] rfl)
        · have h := mif_f c22 h
          refine lv_iconst (v := 5) hx hb dX3_spared_42 (by decide) ?_
          refine lv_goto (tgt := 47) hx hb dX3_spared_43 (by decide) ?_
          exact w_X3_spared_47 hC hR N u15 x1 x2 x3 5 h hP hS (lv_sub hl [0, 1, 2, 3] rfl)
      · have h := mif_t c18 h
        exact w_X3_spared_28 hC hR N u15 x1 x2 x3 h hP hS (lv_sub hl [0, 1, 2, 3] rfl)
theorem zz_X3_spared (N b : Nat) (g : uEnv) (u : UH) (a0 : Nat) (x1 : Int32) (x2 : Int32) (x3 : Int32) (r : Int32) (uf : UH) (h : f_X3_spared N b g u a0 x1 x2 x3 = some (r, uf)) : uf.1 = u.1 ∧ uf.2.1 = u.2.1 :=
  zz_X3_spared_0 (G := ((fun _ => 0, fun _ _ => 0), fun _ => 0, b, g)) (a0 := a0) N u x1 x2 x3 h
theorem met_X3_spared (l : Launch) (N : Nat) (G : uG) (u : UH) (a0 : Nat) (x1 : Int32) (x2 : Int32) (x3 : Int32) (r : Int32) (uf : UH) (h : f_X3_spared N (ub G) (ug G) u a0 x1 x2 x3 = some (r, uf)) : Met l yX3_spared (ws_ yX3_spared cX3_spared 12 (some .int)) ({ frames := 7, cells := 0, slots := 0, locals := 177 }) (uPc G u [.ref a0, .int x1, .int x2, .int x3]) (uQi G r uf) 0 0 (uA G) := by
  exact u_met (own := RX3) (by decide +kernel) rfl (Nat.le_of_ble_eq_true rfl) (fun hC hn hsz ls hl hP => w_X3_spared_0 hC ⟨Nat.le_refl _, Nat.le_refl _⟩ N u x1 x2 x3 h hP va_S.rf hl)
def f_X3_step_39 (N b : Nat) (g : uEnv) (a0 : Nat) (u : UH) : Option (Int32 × UH) :=
    if uIs u a0 2 = true then
    ucall (f_X3_no N b g u a0 1) fun r4 u2 =>
    some (r4, u2)
    else none
set_option maxHeartbeats 4000000 in
set_option maxRecDepth 100000 in
theorem zz_X3_step_39 {G : uG} {a0 : Nat} {uf : UH} {r : Int32} (N : Nat) (u : UH) (h : f_X3_step_39 N (ub G) (ug G) a0 u = some (r, uf)) : uf.1 = u.1 ∧ uf.2.1 = u.2.1 := by
  unfold f_X3_step_39 at h
  obtain ⟨c1, h⟩ := mif_n h
  obtain ⟨r4, u2, c3, h⟩ := ucall_n h
  have zu2 := zz_X3_no N (ub G) (ug G) u a0 1 r4 u2 c3
  obtain ⟨hr1, hr2⟩ := uret_n h
  subst hr2
  exact ⟨by omega, by omega⟩
set_option maxHeartbeats 4000000 in
set_option maxRecDepth 100000 in
theorem w_X3_step_39 {p : Program} {l : Launch} {e : Env} {R : Room} {s : State} {m : MethodId} {args : Array Value} {below : List Frame} {meth : Method} {c : Code} {G : uG} {a0 : Nat} {uf : UH} {r : Int32} (hC : uC p s m args meth c G RX3 cX3_step 7 (some .int)) (hR : 4 ≤ R.frames ∧ 100 ≤ R.locals) (N : Nat) (u : UH) (h : f_X3_step_39 N (ub G) (ug G) a0 u = some (r, uf)) {H : Heap} {locs : List Loc} (hP : uP G u H) (hS : va_S (uA G) s.heap H locs) {ls : Array Slot} (hl : lv_has ls 7 [(0, va_rf (some a0))]) : W p l e R s m args below meth c H locs 0 0 (MQ below (uQi G r uf) args s 0 0 (uA G)) (F0 m 39 ls []) := by
  obtain ⟨⟨hx, hb, hml, hown, hts⟩, hKK⟩ := id hC
  unfold f_X3_step_39 at h
  refine u_aload_n (r := some a0) hx hb dX3_step_39 rfl (lv_at hl 0 rfl) ?_
  refine lv_iconst (v := 1) hx hb dX3_step_40 (by decide) ?_
  obtain ⟨c1, h⟩ := mif_n h
  obtain ⟨r4, u2, c3, h⟩ := ucall_n h
  have zu2 := zz_X3_no N (ub G) (ug G) u a0 1 r4 u2 c3
  refine u_calli (va_runV (As := [.int 1]) (rest := []) hC.1 (met_X3_no l N G u a0 1 r4 u2 c3) (cwV 1 hts (lw_V q2138 q2140 qs41 q103 q2141) rfl rfl rfl (by decide +kernel) ⟨Nat.le_trans (Nat.le_of_ble_eq_true rfl) hR.1, Nat.le_trans (Nat.le_of_ble_eq_true rfl) hR.2⟩) ⟨uPc_blind, u_rcv hC hP c1 rfl, fun U hU hW => u_pre hC hP hS hU hW⟩ rfl rfl hl.1 rfl (lv_room (Nat.le_of_ble_eq_true rfl)) dX3_step_41 ⟨Nat.zero_le _, Nat.zero_le _⟩) hS (fun H locs hP hS => ?_)
  obtain ⟨hr1, hr2⟩ := uret_n h
  subst hr1
  subst hr2
  exact u_iret hC hP hS dX3_step_44
def f_X3_step_129 (N b : Nat) (g : uEnv) (a0 : Nat) (u : UH) (s0 : Int32) : Option (Int32 × UH) :=
    some (s0, u)
set_option maxHeartbeats 4000000 in
set_option maxRecDepth 100000 in
theorem zz_X3_step_129 {G : uG} {a0 : Nat} {uf : UH} {r : Int32} (N : Nat) (u : UH) (s0 : Int32) (h : f_X3_step_129 N (ub G) (ug G) a0 u s0 = some (r, uf)) : uf.1 = u.1 ∧ uf.2.1 = u.2.1 := by
  unfold f_X3_step_129 at h
  obtain ⟨hr1, hr2⟩ := uret_n h
  subst hr2
  exact ⟨by omega, by omega⟩
set_option maxHeartbeats 4000000 in
set_option maxRecDepth 100000 in
theorem w_X3_step_129 {p : Program} {l : Launch} {e : Env} {R : Room} {s : State} {m : MethodId} {args : Array Value} {below : List Frame} {meth : Method} {c : Code} {G : uG} {a0 : Nat} {uf : UH} {r : Int32} (hC : uC p s m args meth c G RX3 cX3_step 7 (some .int)) (hR : 4 ≤ R.frames ∧ 100 ≤ R.locals) (N : Nat) (u : UH) (s0 : Int32) (h : f_X3_step_129 N (ub G) (ug G) a0 u s0 = some (r, uf)) {H : Heap} {locs : List Loc} (hP : uP G u H) (hS : va_S (uA G) s.heap H locs) {ls : Array Slot} (hl : lv_has ls 7 []) : W p l e R s m args below meth c H locs 0 0 (MQ below (uQi G r uf) args s 0 0 (uA G)) (F0 m 129 ls [.int s0]) := by
  obtain ⟨⟨hx, hb, hml, hown, hts⟩, hKK⟩ := id hC
  unfold f_X3_step_129 at h
  obtain ⟨hr1, hr2⟩ := uret_n h
  subst hr1
  subst hr2
  exact u_iret hC hP hS dX3_step_129
def f_X3_step (N b : Nat) (g : uEnv) (u : UH) (a0 : Nat) (x1 : Int32) (x2 : Int32) (x3 : Int32) (x4 : Int32) : Option (Int32 × UH) :=
    if uIs u a0 2 = true then
    (f_X3_good N b g u a0).bind fun u2 =>
    if uIs u2 a0 2 = true then
    ucall (f_X3_isCell N b g u2 a0 x1) fun r7 u5 =>
    if r7 = 0 then
    f_X3_step_39 N b g a0 u5
    else
    ucall (f_X3_within N b g u5 x2 0 3) fun r11 u9 =>
    if r11 = 0 then
    f_X3_step_39 N b g a0 u9
    else
    if uIs u9 a0 2 = true then
    ucall (f_X3_isGround N b g u9 a0 x3) fun r16 u14 =>
    if r16 = 0 then
    f_X3_step_39 N b g a0 u14
    else
    ucall (f_X3_within N b g u14 x4 0 3) fun r20 u18 =>
    if r20 = 0 then
    f_X3_step_39 N b g a0 u18
    else
    if uIs u18 a0 2 = true then
    ucall (f_X3_barred N b g u18 a0 x1 x2 x3) fun r25 u23 =>
    if x4 = 0 then
    some (r25, u23)
    else
    if r25 ≤ 0 then
    (uGR u23 a0 2 41).bind fun o28 =>
    if uIs u23 a0 2 = true then
    ucall (f_X3_beside N b g u23 a0 x1 x2) fun r32 u30 =>
    (o28).bind fun a33 =>
    (uLdI u30 a33 0 r32).bind fun y34 =>
    (uGR u30 a0 2 41).bind fun o35 =>
    (o35).bind fun a36 =>
    (uLdI u30 a36 0 x1).bind fun y37 =>
    if uIs u30 a0 2 = true then
    ucall (f_X3_need N b g u30 a0 (y34 - y37) x3) fun r41 u39 =>
    if x4 = 1 then
    f_X3_step_129 N b g a0 u39 r41
    else
    if x4 = 2 then
    if uIs u39 a0 2 = true then
    ucall (f_X3_slip N b g u39 a0 r41 x3) fun r51 u49 =>
    f_X3_step_129 N b g a0 u49 r51
    else none
    else
    if uIs u39 a0 2 = true then
    ucall (f_X3_cost N b g u39 a0 x1 x2 x3) fun r47 u45 =>
    f_X3_step_129 N b g a0 u45 r47
    else none
    else none
    else none
    else
    some ((-2), u23)
    else none
    else none
    else none
    else none
set_option maxHeartbeats 4000000 in
set_option maxRecDepth 100000 in
theorem zz_X3_step_0 {G : uG} {a0 : Nat} {uf : UH} {r : Int32} (N : Nat) (u : UH) (x1 : Int32) (x2 : Int32) (x3 : Int32) (x4 : Int32) (h : f_X3_step N (ub G) (ug G) u a0 x1 x2 x3 x4 = some (r, uf)) : uf.1 = u.1 ∧ uf.2.1 = u.2.1 := by
  unfold f_X3_step at h
  obtain ⟨c1, h⟩ := mif_n h
  obtain ⟨u2, c3, h⟩ := mbind_n h
  have zu2 := zz_X3_good N (ub G) (ug G) u a0 u2 c3
  obtain ⟨c4, h⟩ := mif_n h
  obtain ⟨r7, u5, c6, h⟩ := ucall_n h
  have zu5 := zz_X3_isCell N (ub G) (ug G) u2 a0 x1 r7 u5 c6
  by_cases c8 : r7 = 0
  · have h := mif_t c8 h
    have hq := zz_X3_step_39 (G := G) (a0 := a0) N u5 h
    exact ⟨by omega, by omega⟩
  · have h := mif_f c8 h
    obtain ⟨r11, u9, c10, h⟩ := ucall_n h
    have zu9 := zz_X3_within N (ub G) (ug G) u5 x2 0 3 r11 u9 c10
    by_cases c12 : r11 = 0
    · have h := mif_t c12 h
      have hq := zz_X3_step_39 (G := G) (a0 := a0) N u9 h
      exact ⟨by omega, by omega⟩
    · have h := mif_f c12 h
      obtain ⟨c13, h⟩ := mif_n h
      obtain ⟨r16, u14, c15, h⟩ := ucall_n h
      have zu14 := zz_X3_isGround N (ub G) (ug G) u9 a0 x3 r16 u14 c15
      by_cases c17 : r16 = 0
      · have h := mif_t c17 h
        have hq := zz_X3_step_39 (G := G) (a0 := a0) N u14 h
        exact ⟨by omega, by omega⟩
      · have h := mif_f c17 h
        obtain ⟨r20, u18, c19, h⟩ := ucall_n h
        have zu18 := zz_X3_within N (ub G) (ug G) u14 x4 0 3 r20 u18 c19
        by_cases c21 : r20 = 0
        · have h := mif_t c21 h
          have hq := zz_X3_step_39 (G := G) (a0 := a0) N u18 h
          exact ⟨by omega, by omega⟩
        · have h := mif_f c21 h
          obtain ⟨c22, h⟩ := mif_n h
          obtain ⟨r25, u23, c24, h⟩ := ucall_n h
          have zu23 := zz_X3_barred N (ub G) (ug G) u18 a0 x1 x2 x3 r25 u23 c24
          by_cases c26 : x4 = 0
          · have h := mif_t c26 h
            obtain ⟨hr1, hr2⟩ := uret_n h
            subst hr2
            exact ⟨by omega, by omega⟩
          · have h := mif_f c26 h
            by_cases c27 : r25 ≤ 0
            · have h := mif_t c27 h
              obtain ⟨o28, ho28, h⟩ := mbind_n h
              obtain ⟨c29, h⟩ := mif_n h
              obtain ⟨r32, u30, c31, h⟩ := ucall_n h
              have zu30 := zz_X3_beside N (ub G) (ug G) u23 a0 x1 x2 r32 u30 c31
              obtain ⟨a33, ha33, hha33⟩ := mbind_n h
              subst ha33
              have h := hha33
              obtain ⟨y34, hy34, h⟩ := mbind_n h
              obtain ⟨o35, ho35, h⟩ := mbind_n h
              obtain ⟨a36, ha36, hha36⟩ := mbind_n h
              subst ha36
              have h := hha36
              obtain ⟨y37, hy37, h⟩ := mbind_n h
              obtain ⟨c38, h⟩ := mif_n h
              obtain ⟨r41, u39, c40, h⟩ := ucall_n h
              have zu39 := zz_X3_need N (ub G) (ug G) u30 a0 (y34 - y37) x3 r41 u39 c40
              by_cases c42 : x4 = 1
              · have h := mif_t c42 h
                have hq := zz_X3_step_129 (G := G) (a0 := a0) N u39 r41 h
                exact ⟨by omega, by omega⟩
              · have h := mif_f c42 h
                by_cases c43 : x4 = 2
                · have h := mif_t c43 h
                  obtain ⟨c48, h⟩ := mif_n h
                  obtain ⟨r51, u49, c50, h⟩ := ucall_n h
                  have zu49 := zz_X3_slip N (ub G) (ug G) u39 a0 r41 x3 r51 u49 c50
                  have hq := zz_X3_step_129 (G := G) (a0 := a0) N u49 r51 h
                  exact ⟨by omega, by omega⟩
                · have h := mif_f c43 h
                  obtain ⟨c44, h⟩ := mif_n h
                  obtain ⟨r47, u45, c46, h⟩ := ucall_n h
                  have zu45 := zz_X3_cost N (ub G) (ug G) u39 a0 x1 x2 x3 r47 u45 c46
                  have hq := zz_X3_step_129 (G := G) (a0 := a0) N u45 r47 h
                  exact ⟨by omega, by omega⟩
            · have h := mif_f c27 h
              obtain ⟨hr1, hr2⟩ := uret_n h
              subst hr2
              exact ⟨by omega, by omega⟩
set_option maxHeartbeats 4000000 in
set_option maxRecDepth 100000 in
theorem w_X3_step_0 {p : Program} {l : Launch} {e : Env} {R : Room} {s : State} {m : MethodId} {args : Array Value} {below : List Frame} {meth : Method} {c : Code} {G : uG} {a0 : Nat} {uf : UH} {r : Int32} (hC : uC p s m args meth c G RX3 cX3_step 7 (some .int)) (hR : 4 ≤ R.frames ∧ 100 ≤ R.locals) (N : Nat) (u : UH) (x1 : Int32) (x2 : Int32) (x3 : Int32) (x4 : Int32) (h : f_X3_step N (ub G) (ug G) u a0 x1 x2 x3 x4 = some (r, uf)) {H : Heap} {locs : List Loc} (hP : uP G u H) (hS : va_S (uA G) s.heap H locs) {ls : Array Slot} (hl : lv_has ls 7 [(0, va_rf (some a0)), (1, .int x1), (2, .int x2), (3, .int x3), (4, .int x4)]) : W p l e R s m args below meth c H locs 0 0 (MQ below (uQi G r uf) args s 0 0 (uA G)) (F0 m 0 ls []) := by
  obtain ⟨⟨hx, hb, hml, hown, hts⟩, hKK⟩ := id hC
  unfold f_X3_step at h
  refine u_aload_n (r := some a0) hx hb dX3_step_0 rfl (lv_at hl 0 rfl) ?_
  obtain ⟨c1, h⟩ := mif_n h
  obtain ⟨u2, c3, h⟩ := mbind_n h
  have zu2 := zz_X3_good N (ub G) (ug G) u a0 u2 c3
  refine u_callv (va_runV (As := []) (rest := []) hC.1 (met_X3_good l N G u a0 u2 c3) (cwV 0 hts (lw_V q2131 q2133 qs40 q103 q2134) rfl rfl rfl (by decide +kernel) ⟨Nat.le_trans (Nat.le_of_ble_eq_true rfl) hR.1, Nat.le_trans (Nat.le_of_ble_eq_true rfl) hR.2⟩) ⟨uPc_blind, u_rcv hC hP c1 rfl, fun U hU hW => u_pre hC hP hS hU hW⟩ rfl rfl hl.1 rfl (lv_room (Nat.le_of_ble_eq_true rfl)) dX3_step_1 ⟨Nat.zero_le _, Nat.zero_le _⟩) hS (fun H locs hP hS => ?_)
  refine u_aload_n (r := some a0) hx hb dX3_step_4 rfl (lv_at hl 0 rfl) ?_
  refine lv_iload_n hx hb dX3_step_5 rfl (lv_at hl 1 rfl) ?_
  obtain ⟨c4, h⟩ := mif_n h
  obtain ⟨r7, u5, c6, h⟩ := ucall_n h
  have zu5 := zz_X3_isCell N (ub G) (ug G) u2 a0 x1 r7 u5 c6
  refine u_calli (va_runV (As := [.int x1]) (rest := []) hC.1 (met_X3_isCell l N G u2 a0 x1 r7 u5 c6) (cwV 1 hts (lw_V q2276 q2278 qs60 q103 q2279) rfl rfl rfl (by decide +kernel) ⟨Nat.le_trans (Nat.le_of_ble_eq_true rfl) hR.1, Nat.le_trans (Nat.le_of_ble_eq_true rfl) hR.2⟩) ⟨uPc_blind, u_rcv hC hP c4 rfl, fun U hU hW => u_pre hC hP hS hU hW⟩ rfl rfl hl.1 rfl (lv_room (Nat.le_of_ble_eq_true rfl)) dX3_step_6 ⟨Nat.zero_le _, Nat.zero_le _⟩) hS (fun H locs hP hS => ?_)
  refine lv_if_eq (tgt := 39) hx hb dX3_step_9 (by decide) (fun c8 => ?_) (fun c8 => ?_)
  · have h := mif_t c8 h
    exact w_X3_step_39 hC hR N u5 h hP hS (lv_sub hl [0] rfl)
  · have h := mif_f c8 h
    refine lv_iload_n hx hb dX3_step_12 rfl (lv_at hl 2 rfl) ?_
    refine lv_iconst (v := 0) hx hb dX3_step_13 (by decide) ?_
    refine lv_iconst (v := 3) hx hb dX3_step_14 (by decide) ?_
    obtain ⟨r11, u9, c10, h⟩ := ucall_n h
    have zu9 := zz_X3_within N (ub G) (ug G) u5 x2 0 3 r11 u9 c10
    refine u_calli (va_runS (As := [.int x2, .int 0, .int 3]) (rest := []) hC.1 (met_X3_within l N G u5 x2 0 3 r11 u9 c10) (va_cwS 3 hts (lw_S q2135 q2136 q103 q2137) rfl rfl rfl (by decide +kernel) ⟨Nat.le_trans (Nat.le_of_ble_eq_true rfl) hR.1, Nat.le_trans (Nat.le_of_ble_eq_true rfl) hR.2⟩) ⟨uPc_blind, fun U hU hW => u_pre hC hP hS hU hW⟩ rfl rfl hl.1 rfl (lv_room (Nat.le_of_ble_eq_true rfl)) dX3_step_15 ⟨Nat.zero_le _, Nat.zero_le _⟩) hS (fun H locs hP hS => ?_)
    refine lv_if_eq (tgt := 39) hx hb dX3_step_18 (by decide) (fun c12 => ?_) (fun c12 => ?_)
    · have h := mif_t c12 h
      exact w_X3_step_39 hC hR N u9 h hP hS (lv_sub hl [0] rfl)
    · have h := mif_f c12 h
      refine u_aload_n (r := some a0) hx hb dX3_step_21 rfl (lv_at hl 0 rfl) ?_
      refine lv_iload_n hx hb dX3_step_22 rfl (lv_at hl 3 rfl) ?_
      obtain ⟨c13, h⟩ := mif_n h
      obtain ⟨r16, u14, c15, h⟩ := ucall_n h
      have zu14 := zz_X3_isGround N (ub G) (ug G) u9 a0 x3 r16 u14 c15
      refine u_calli (va_runV (As := [.int x3]) (rest := []) hC.1 (met_X3_isGround l N G u9 a0 x3 r16 u14 c15) (cwV 1 hts (lw_V q2246 q2248 qs58 q103 q2249) rfl rfl rfl (by decide +kernel) ⟨Nat.le_trans (Nat.le_of_ble_eq_true rfl) hR.1, Nat.le_trans (Nat.le_of_ble_eq_true rfl) hR.2⟩) ⟨uPc_blind, u_rcv hC hP c13 rfl, fun U hU hW => u_pre hC hP hS hU hW⟩ rfl rfl hl.1 rfl (lv_room (Nat.le_of_ble_eq_true rfl)) dX3_step_23 ⟨Nat.zero_le _, Nat.zero_le _⟩) hS (fun H locs hP hS => ?_)
      refine lv_if_eq (tgt := 39) hx hb dX3_step_26 (by decide) (fun c17 => ?_) (fun c17 => ?_)
      · have h := mif_t c17 h
        exact w_X3_step_39 hC hR N u14 h hP hS (lv_sub hl [0] rfl)
      · have h := mif_f c17 h
        refine lv_iload hx hb dX3_step_29 (lv_at hl 4 rfl) ?_
        refine lv_iconst (v := 0) hx hb dX3_step_31 (by decide) ?_
        refine lv_iconst (v := 3) hx hb dX3_step_32 (by decide) ?_
        obtain ⟨r20, u18, c19, h⟩ := ucall_n h
        have zu18 := zz_X3_within N (ub G) (ug G) u14 x4 0 3 r20 u18 c19
        refine u_calli (va_runS (As := [.int x4, .int 0, .int 3]) (rest := []) hC.1 (met_X3_within l N G u14 x4 0 3 r20 u18 c19) (va_cwS 3 hts (lw_S q2135 q2136 q103 q2137) rfl rfl rfl (by decide +kernel) ⟨Nat.le_trans (Nat.le_of_ble_eq_true rfl) hR.1, Nat.le_trans (Nat.le_of_ble_eq_true rfl) hR.2⟩) ⟨uPc_blind, fun U hU hW => u_pre hC hP hS hU hW⟩ rfl rfl hl.1 rfl (lv_room (Nat.le_of_ble_eq_true rfl)) dX3_step_33 ⟨Nat.zero_le _, Nat.zero_le _⟩) hS (fun H locs hP hS => ?_)
        refine lv_if_ne (tgt := 45) hx hb dX3_step_36 (by decide) (fun c21 => ?_) (fun c21 => ?_)
        · have h := mif_f c21 h
          refine u_aload_n (r := some a0) hx hb dX3_step_45 rfl (lv_at hl 0 rfl) ?_
          refine lv_iload_n hx hb dX3_step_46 rfl (lv_at hl 1 rfl) ?_
          refine lv_iload_n hx hb dX3_step_47 rfl (lv_at hl 2 rfl) ?_
          refine lv_iload_n hx hb dX3_step_48 rfl (lv_at hl 3 rfl) ?_
          obtain ⟨c22, h⟩ := mif_n h
          obtain ⟨r25, u23, c24, h⟩ := ucall_n h
          have zu23 := zz_X3_barred N (ub G) (ug G) u18 a0 x1 x2 x3 r25 u23 c24
          refine u_calli (va_runV (As := [.int x1, .int x2, .int x3]) (rest := []) hC.1 (met_X3_barred l N G u18 a0 x1 x2 x3 r25 u23 c24) (cwV 3 hts (lw_V q2312 q2314 qs62 q103 q2315) rfl rfl rfl (by decide +kernel) ⟨Nat.le_trans (Nat.le_of_ble_eq_true rfl) hR.1, Nat.le_trans (Nat.le_of_ble_eq_true rfl) hR.2⟩) ⟨uPc_blind, u_rcv hC hP c22 rfl, fun U hU hW => u_pre hC hP hS hU hW⟩ rfl rfl hl.1 rfl (lv_room (Nat.le_of_ble_eq_true rfl)) dX3_step_49 ⟨Nat.zero_le _, Nat.zero_le _⟩) hS (fun H locs hP hS => ?_)
          refine lv_istore (lv' := [(5, .int r25), (0, va_rf (some a0)), (1, .int x1), (2, .int x2), (3, .int x3), (4, .int x4)]) hx hb dX3_step_52 hl (by decide) rfl (fun ls hl => ?_)
          refine lv_iload hx hb dX3_step_54 (lv_at hl 5 rfl) ?_
          refine lv_if_ne (tgt := 62) hx hb dX3_step_56 (by decide) (fun c26 => ?_) (fun c26 => ?_)
          · have h := mif_f c26 h
            refine lv_iload hx hb dX3_step_62 (lv_at hl 0 rfl) ?_
            refine lv_if_le (tgt := 70) hx hb dX3_step_64 (by decide) (fun c27 => ?_) (fun c27 => ?_)
            · have h := mif_t c27 h
              refine u_aload_n (r := some a0) hx hb dX3_step_70 rfl (lv_at hl 1 rfl) ?_
              refine u_aload_n (r := some a0) hx hb dX3_step_71 rfl (lv_at hl 1 rfl) ?_
              obtain ⟨o28, ho28, h⟩ := mbind_n h
              refine u_get hC hP (uGR_n ho28) rfl in_X3 (by decide) q1934 (fun _ h => h) dX3_step_72 ?_
              refine u_aload_n (r := some a0) hx hb dX3_step_75 rfl (lv_at hl 1 rfl) ?_
              refine lv_iload_n hx hb dX3_step_76 rfl (lv_at hl 2 rfl) ?_
              refine lv_iload_n hx hb dX3_step_77 rfl (lv_at hl 3 rfl) ?_
              obtain ⟨c29, h⟩ := mif_n h
              obtain ⟨r32, u30, c31, h⟩ := ucall_n h
              have zu30 := zz_X3_beside N (ub G) (ug G) u23 a0 x1 x2 r32 u30 c31
              refine u_calli (va_runV (As := [.int x1, .int x2]) (rest := [va_rf o28, va_rf (some a0)]) hC.1 (met_X3_beside l N G u23 a0 x1 x2 r32 u30 c31) (cwV 2 hts (lw_V q2316 q2318 qs63 q103 q2319) rfl rfl rfl (by decide +kernel) ⟨Nat.le_trans (Nat.le_of_ble_eq_true rfl) hR.1, Nat.le_trans (Nat.le_of_ble_eq_true rfl) hR.2⟩) ⟨uPc_blind, u_rcv hC hP c29 rfl, fun U hU hW => u_pre hC hP hS hU hW⟩ rfl rfl hl.1 rfl (lv_room (by simp only [List.map, u_cat]; exact Nat.le_of_ble_eq_true rfl)) dX3_step_78 ⟨Nat.zero_le _, Nat.zero_le _⟩) hS (fun H locs hP hS => ?_)
              obtain ⟨a33, ha33, hha33⟩ := mbind_n h
              subst ha33
              have h := hha33
              obtain ⟨y34, hy34, h⟩ := mbind_n h
              refine u_iald hC hP hy34 rfl dX3_step_81 ?_
              refine u_aload_n (r := some a0) hx hb dX3_step_82 rfl (lv_at hl 1 rfl) ?_
              obtain ⟨o35, ho35, h⟩ := mbind_n h
              refine u_get hC hP (uGR_n ho35) rfl in_X3 (by decide) q1934 (fun _ h => h) dX3_step_83 ?_
              refine lv_iload_n hx hb dX3_step_86 rfl (lv_at hl 2 rfl) ?_
              obtain ⟨a36, ha36, hha36⟩ := mbind_n h
              subst ha36
              have h := hha36
              obtain ⟨y37, hy37, h⟩ := mbind_n h
              refine u_iald hC hP hy37 rfl dX3_step_87 ?_
              refine lv_isub hx hb dX3_step_88 ?_
              refine lv_iload_n hx hb dX3_step_89 rfl (lv_at hl 4 rfl) ?_
              obtain ⟨c38, h⟩ := mif_n h
              obtain ⟨r41, u39, c40, h⟩ := ucall_n h
              have zu39 := zz_X3_need N (ub G) (ug G) u30 a0 (y34 - y37) x3 r41 u39 c40
              refine u_calli (va_runV (As := [.int (y34 - y37), .int x3]) (rest := []) hC.1 (met_X3_need l N G u30 a0 (y34 - y37) x3 r41 u39 c40) (cwV 2 hts (lw_V q2320 q2322 qs64 q103 q2323) rfl rfl rfl (by decide +kernel) ⟨Nat.le_trans (Nat.le_of_ble_eq_true rfl) hR.1, Nat.le_trans (Nat.le_of_ble_eq_true rfl) hR.2⟩) ⟨uPc_blind, u_rcv hC hP c38 rfl, fun U hU hW => u_pre hC hP hS hU hW⟩ rfl rfl hl.1 rfl (lv_room (Nat.le_of_ble_eq_true rfl)) dX3_step_90 ⟨Nat.zero_le _, Nat.zero_le _⟩) hS (fun H locs hP hS => ?_)
              refine lv_istore (lv' := [(6, .int r41), (5, .int r25), (0, va_rf (some a0)), (1, .int x1), (2, .int x2), (3, .int x3), (4, .int x4)]) hx hb dX3_step_93 hl (by decide) rfl (fun ls hl => ?_)
              refine lv_iload hx hb dX3_step_95 (lv_at hl 6 rfl) ?_
              refine lv_iconst (v := 1) hx hb dX3_step_97 (by decide) ?_
              refine lv_icmp_ne (tgt := 106) hx hb dX3_step_98 (by decide) (fun c42 => ?_) (fun c42 => ?_)
              · have h := mif_f c42 h
                refine lv_iload hx hb dX3_step_106 (lv_at hl 6 rfl) ?_
                refine lv_iconst (v := 2) hx hb dX3_step_108 (by decide) ?_
                refine lv_icmp_ne (tgt := 122) hx hb dX3_step_109 (by decide) (fun c43 => ?_) (fun c43 => ?_)
                · have h := mif_f c43 h
                  refine u_aload_n (r := some a0) hx hb dX3_step_122 rfl (lv_at hl 2 rfl) ?_
                  refine lv_iload_n hx hb dX3_step_123 rfl (lv_at hl 3 rfl) ?_
                  refine lv_iload_n hx hb dX3_step_124 rfl (lv_at hl 4 rfl) ?_
                  refine lv_iload_n hx hb dX3_step_125 rfl (lv_at hl 5 rfl) ?_
                  obtain ⟨c44, h⟩ := mif_n h
                  obtain ⟨r47, u45, c46, h⟩ := ucall_n h
                  have zu45 := zz_X3_cost N (ub G) (ug G) u39 a0 x1 x2 x3 r47 u45 c46
                  refine u_calli (va_runV (As := [.int x1, .int x2, .int x3]) (rest := []) hC.1 (met_X3_cost l N G u39 a0 x1 x2 x3 r47 u45 c46) (cwV 3 hts (lw_V q2328 q2330 qs66 q103 q2331) rfl rfl rfl (by decide +kernel) ⟨Nat.le_trans (Nat.le_of_ble_eq_true rfl) hR.1, Nat.le_trans (Nat.le_of_ble_eq_true rfl) hR.2⟩) ⟨uPc_blind, u_rcv hC hP c44 rfl, fun U hU hW => u_pre hC hP hS hU hW⟩ rfl rfl hl.1 rfl (lv_room (Nat.le_of_ble_eq_true rfl)) dX3_step_126 ⟨Nat.zero_le _, Nat.zero_le _⟩) hS (fun H locs hP hS => ?_)
                  exact w_X3_step_129 hC hR N u45 r47 h hP hS (lv_sub hl [] rfl)
                · have h := mif_t c43 h
                  refine u_aload_n (r := some a0) hx hb dX3_step_112 rfl (lv_at hl 2 rfl) ?_
                  refine lv_iload hx hb dX3_step_113 (lv_at hl 0 rfl) ?_
                  refine lv_iload_n hx hb dX3_step_115 rfl (lv_at hl 5 rfl) ?_
                  obtain ⟨c48, h⟩ := mif_n h
                  obtain ⟨r51, u49, c50, h⟩ := ucall_n h
                  have zu49 := zz_X3_slip N (ub G) (ug G) u39 a0 r41 x3 r51 u49 c50
                  refine u_calli (va_runV (As := [.int r41, .int x3]) (rest := []) hC.1 (met_X3_slip l N G u39 a0 r41 x3 r51 u49 c50) (cwV 2 hts (lw_V q2324 q2326 qs65 q103 q2327) rfl rfl rfl (by decide +kernel) ⟨Nat.le_trans (Nat.le_of_ble_eq_true rfl) hR.1, Nat.le_trans (Nat.le_of_ble_eq_true rfl) hR.2⟩) ⟨uPc_blind, u_rcv hC hP c48 rfl, fun U hU hW => u_pre hC hP hS hU hW⟩ rfl rfl hl.1 rfl (lv_room (Nat.le_of_ble_eq_true rfl)) dX3_step_116 ⟨Nat.zero_le _, Nat.zero_le _⟩) hS (fun H locs hP hS => ?_)
                  refine lv_goto (tgt := 129) hx hb dX3_step_119 (by decide) ?_
                  exact w_X3_step_129 hC hR N u49 r51 h hP hS (lv_sub hl [] rfl)
              · have h := mif_t c42 h
                refine lv_iload hx hb dX3_step_101 (lv_at hl 0 rfl) ?_
                refine lv_goto (tgt := 129) hx hb dX3_step_103 (by decide) ?_
                exact w_X3_step_129 hC hR N u39 r41 h hP hS (lv_sub hl [] rfl)
            · have h := mif_f c27 h
              refine lv_bipush (v := (-2)) hx hb dX3_step_67 (by decide) ?_
              obtain ⟨hr1, hr2⟩ := uret_n h
              subst hr1
              subst hr2
              exact u_iret hC hP hS dX3_step_69
          · have h := mif_t c26 h
            refine lv_iload hx hb dX3_step_59 (lv_at hl 0 rfl) ?_
            obtain ⟨hr1, hr2⟩ := uret_n h
            subst hr1
            subst hr2
            exact u_iret hC hP hS dX3_step_61
        · have h := mif_t c21 h
          exact w_X3_step_39 hC hR N u18 h hP hS (lv_sub hl [0] rfl)
theorem zz_X3_step (N b : Nat) (g : uEnv) (u : UH) (a0 : Nat) (x1 : Int32) (x2 : Int32) (x3 : Int32) (x4 : Int32) (r : Int32) (uf : UH) (h : f_X3_step N b g u a0 x1 x2 x3 x4 = some (r, uf)) : uf.1 = u.1 ∧ uf.2.1 = u.2.1 :=
  zz_X3_step_0 (G := ((fun _ => 0, fun _ _ => 0), fun _ => 0, b, g)) (a0 := a0) N u x1 x2 x3 x4 h
theorem met_X3_step (l : Launch) (N : Nat) (G : uG) (u : UH) (a0 : Nat) (x1 : Int32) (x2 : Int32) (x3 : Int32) (x4 : Int32) (r : Int32) (uf : UH) (h : f_X3_step N (ub G) (ug G) u a0 x1 x2 x3 x4 = some (r, uf)) : Met l yX3_step (ws_ yX3_step cX3_step 7 (some .int)) ({ frames := 4, cells := 0, slots := 0, locals := 100 }) (uPc G u [.ref a0, .int x1, .int x2, .int x3, .int x4]) (uQi G r uf) 0 0 (uA G) := by
  exact u_met (own := RX3) (by decide +kernel) rfl (Nat.le_of_ble_eq_true rfl) (fun hC hn hsz ls hl hP => w_X3_step_0 hC ⟨Nat.le_refl _, Nat.le_refl _⟩ N u x1 x2 x3 x4 h hP va_S.rf hl)
def f_X3_thrown (N b : Nat) (g : uEnv) (u : UH) (a0 : Nat) : Option (Int32 × UH) :=
    (uGI u a0 2 0).bind fun y1 =>
    some (y1, u)
set_option maxHeartbeats 4000000 in
set_option maxRecDepth 100000 in
theorem zz_X3_thrown_0 {G : uG} {a0 : Nat} {uf : UH} {r : Int32} (N : Nat) (u : UH) (h : f_X3_thrown N (ub G) (ug G) u a0 = some (r, uf)) : uf.1 = u.1 ∧ uf.2.1 = u.2.1 := by
  unfold f_X3_thrown at h
  obtain ⟨y1, hy1, h⟩ := mbind_n h
  obtain ⟨hr1, hr2⟩ := uret_n h
  subst hr2
  exact ⟨by omega, by omega⟩
set_option maxHeartbeats 4000000 in
set_option maxRecDepth 100000 in
theorem w_X3_thrown_0 {p : Program} {l : Launch} {e : Env} {R : Room} {s : State} {m : MethodId} {args : Array Value} {below : List Frame} {meth : Method} {c : Code} {G : uG} {a0 : Nat} {uf : UH} {r : Int32} (hC : uC p s m args meth c G RX3 cX3_thrown 1 (some .int)) (hR : 0 ≤ R.frames ∧ 0 ≤ R.locals) (N : Nat) (u : UH) (h : f_X3_thrown N (ub G) (ug G) u a0 = some (r, uf)) {H : Heap} {locs : List Loc} (hP : uP G u H) (hS : va_S (uA G) s.heap H locs) {ls : Array Slot} (hl : lv_has ls 1 [(0, va_rf (some a0))]) : W p l e R s m args below meth c H locs 0 0 (MQ below (uQi G r uf) args s 0 0 (uA G)) (F0 m 0 ls []) := by
  obtain ⟨⟨hx, hb, hml, hown, hts⟩, hKK⟩ := id hC
  unfold f_X3_thrown at h
  refine u_aload_n (r := some a0) hx hb dX3_thrown_0 rfl (lv_at hl 0 rfl) ?_
  obtain ⟨y1, hy1, h⟩ := mbind_n h
  refine u_get hC hP (uGI_n hy1) rfl in_X3 (by decide) q1893 (fun _ h => h) dX3_thrown_1 ?_
  obtain ⟨hr1, hr2⟩ := uret_n h
  subst hr1
  subst hr2
  exact u_iret hC hP hS dX3_thrown_4
theorem zz_X3_thrown (N b : Nat) (g : uEnv) (u : UH) (a0 : Nat) (r : Int32) (uf : UH) (h : f_X3_thrown N b g u a0 = some (r, uf)) : uf.1 = u.1 ∧ uf.2.1 = u.2.1 :=
  zz_X3_thrown_0 (G := ((fun _ => 0, fun _ _ => 0), fun _ => 0, b, g)) (a0 := a0) N u h
theorem met_X3_thrown (l : Launch) (N : Nat) (G : uG) (u : UH) (a0 : Nat) (r : Int32) (uf : UH) (h : f_X3_thrown N (ub G) (ug G) u a0 = some (r, uf)) : Met l yX3_thrown (ws_ yX3_thrown cX3_thrown 1 (some .int)) ({ frames := 0, cells := 0, slots := 0, locals := 0 }) (uPc G u [.ref a0]) (uQi G r uf) 0 0 (uA G) := by
  exact u_met (own := RX3) (by decide +kernel) rfl (Nat.le_of_ble_eq_true rfl) (fun hC hn hsz ls hl hP => w_X3_thrown_0 hC ⟨Nat.le_refl _, Nat.le_refl _⟩ N u h hP va_S.rf hl)
def f_X3_told_20 (N b : Nat) (g : uEnv) (a0 : Nat) (u : UH) : Option (Int32 × UH) :=
    if uIs u a0 2 = true then
    ucall (f_X3_not N b g u a0 1) fun r4 u2 =>
    if uFit .boolean r4 = true then
    some (r4, u2)
    else none
    else none
set_option maxHeartbeats 4000000 in
set_option maxRecDepth 100000 in
theorem zz_X3_told_20 {G : uG} {a0 : Nat} {uf : UH} {r : Int32} (N : Nat) (u : UH) (h : f_X3_told_20 N (ub G) (ug G) a0 u = some (r, uf)) : uf.1 = u.1 ∧ uf.2.1 = u.2.1 := by
  unfold f_X3_told_20 at h
  obtain ⟨c1, h⟩ := mif_n h
  obtain ⟨r4, u2, c3, h⟩ := ucall_n h
  have zu2 := zz_X3_not N (ub G) (ug G) u a0 1 r4 u2 c3
  obtain ⟨c5, h⟩ := mif_n h
  obtain ⟨hr1, hr2⟩ := uret_n h
  subst hr2
  exact ⟨by omega, by omega⟩
set_option maxHeartbeats 4000000 in
set_option maxRecDepth 100000 in
theorem w_X3_told_20 {p : Program} {l : Launch} {e : Env} {R : Room} {s : State} {m : MethodId} {args : Array Value} {below : List Frame} {meth : Method} {c : Code} {G : uG} {a0 : Nat} {uf : UH} {r : Int32} (hC : uC p s m args meth c G RX3 cX3_told 3 (some .boolean)) (hR : 2 ≤ R.frames ∧ 43 ≤ R.locals) (N : Nat) (u : UH) (h : f_X3_told_20 N (ub G) (ug G) a0 u = some (r, uf)) {H : Heap} {locs : List Loc} (hP : uP G u H) (hS : va_S (uA G) s.heap H locs) {ls : Array Slot} (hl : lv_has ls 3 [(0, va_rf (some a0))]) : W p l e R s m args below meth c H locs 0 0 (MQ below (uQi G r uf) args s 0 0 (uA G)) (F0 m 20 ls []) := by
  obtain ⟨⟨hx, hb, hml, hown, hts⟩, hKK⟩ := id hC
  unfold f_X3_told_20 at h
  refine u_aload_n (r := some a0) hx hb dX3_told_20 rfl (lv_at hl 0 rfl) ?_
  refine lv_iconst (v := 1) hx hb dX3_told_21 (by decide) ?_
  obtain ⟨c1, h⟩ := mif_n h
  obtain ⟨r4, u2, c3, h⟩ := ucall_n h
  have zu2 := zz_X3_not N (ub G) (ug G) u a0 1 r4 u2 c3
  refine u_calli (va_runV (As := [.int 1]) (rest := []) hC.1 (met_X3_not l N G u a0 1 r4 u2 c3) (cwV 1 hts (lw_V q2264 q2266 qs59 q103 q2267) rfl rfl rfl (by decide +kernel) ⟨Nat.le_trans (Nat.le_of_ble_eq_true rfl) hR.1, Nat.le_trans (Nat.le_of_ble_eq_true rfl) hR.2⟩) ⟨uPc_blind, u_rcv hC hP c1 rfl, fun U hU hW => u_pre hC hP hS hU hW⟩ rfl rfl hl.1 rfl (lv_room (Nat.le_of_ble_eq_true rfl)) dX3_told_22 ⟨Nat.zero_le _, Nat.zero_le _⟩) hS (fun H locs hP hS => ?_)
  obtain ⟨c5, h⟩ := mif_n h
  obtain ⟨hr1, hr2⟩ := uret_n h
  subst hr1
  subst hr2
  exact u_zret hC (uFit_n c5).1 hP hS dX3_told_25
def f_X3_told (N b : Nat) (g : uEnv) (u : UH) (a0 : Nat) (x1 : Int32) (x2 : Int32) : Option (Int32 × UH) :=
    if uIs u a0 2 = true then
    (f_X3_good N b g u a0).bind fun u2 =>
    if uIs u2 a0 2 = true then
    ucall (f_X3_isDoubt N b g u2 a0 x1) fun r7 u5 =>
    if r7 = 0 then
    f_X3_told_20 N b g a0 u5
    else
    if uIs u5 a0 2 = true then
    ucall (f_X3_isGround N b g u5 a0 x2) fun r12 u10 =>
    if r12 = 0 then
    f_X3_told_20 N b g a0 u10
    else
    (uGR u10 a0 2 46).bind fun o14 =>
    (o14).bind fun a15 =>
    (uLdI u10 a15 0 ((8 * x1) + x2)).bind fun y16 =>
    if y16 = 0 then
    if uIs u10 a0 2 = true then
    ucall (f_X3_not N b g u10 a0 5) fun r25 u23 =>
    if uFit .boolean r25 = true then
    some (r25, u23)
    else none
    else none
    else
    (uGR u10 a0 2 45).bind fun o18 =>
    (o18).bind fun a19 =>
    (uStI b u10 a19 0 x1 x2).bind fun u20 =>
    (uPut b u20 a0 2 51 (.int 0)).bind fun u21 =>
    some (1, u21)
    else none
    else none
    else none
set_option maxHeartbeats 4000000 in
set_option maxRecDepth 100000 in
theorem zz_X3_told_0 {G : uG} {a0 : Nat} {uf : UH} {r : Int32} (N : Nat) (u : UH) (x1 : Int32) (x2 : Int32) (h : f_X3_told N (ub G) (ug G) u a0 x1 x2 = some (r, uf)) : uf.1 = u.1 ∧ uf.2.1 = u.2.1 := by
  unfold f_X3_told at h
  obtain ⟨c1, h⟩ := mif_n h
  obtain ⟨u2, c3, h⟩ := mbind_n h
  have zu2 := zz_X3_good N (ub G) (ug G) u a0 u2 c3
  obtain ⟨c4, h⟩ := mif_n h
  obtain ⟨r7, u5, c6, h⟩ := ucall_n h
  have zu5 := zz_X3_isDoubt N (ub G) (ug G) u2 a0 x1 r7 u5 c6
  by_cases c8 : r7 = 0
  · have h := mif_t c8 h
    have hq := zz_X3_told_20 (G := G) (a0 := a0) N u5 h
    exact ⟨by omega, by omega⟩
  · have h := mif_f c8 h
    obtain ⟨c9, h⟩ := mif_n h
    obtain ⟨r12, u10, c11, h⟩ := ucall_n h
    have zu10 := zz_X3_isGround N (ub G) (ug G) u5 a0 x2 r12 u10 c11
    by_cases c13 : r12 = 0
    · have h := mif_t c13 h
      have hq := zz_X3_told_20 (G := G) (a0 := a0) N u10 h
      exact ⟨by omega, by omega⟩
    · have h := mif_f c13 h
      obtain ⟨o14, ho14, h⟩ := mbind_n h
      obtain ⟨a15, ha15, hha15⟩ := mbind_n h
      subst ha15
      have h := hha15
      obtain ⟨y16, hy16, h⟩ := mbind_n h
      by_cases c17 : y16 = 0
      · have h := mif_t c17 h
        obtain ⟨c22, h⟩ := mif_n h
        obtain ⟨r25, u23, c24, h⟩ := ucall_n h
        have zu23 := zz_X3_not N (ub G) (ug G) u10 a0 5 r25 u23 c24
        obtain ⟨c26, h⟩ := mif_n h
        obtain ⟨hr1, hr2⟩ := uret_n h
        subst hr2
        exact ⟨by omega, by omega⟩
      · have h := mif_f c17 h
        obtain ⟨o18, ho18, h⟩ := mbind_n h
        obtain ⟨a19, ha19, hha19⟩ := mbind_n h
        subst ha19
        have h := hha19
        obtain ⟨u20, hu20, h⟩ := mbind_n h
        have zu20 := uStI_sz hu20
        obtain ⟨u21, hu21, h⟩ := mbind_n h
        have zu21 := uPut_sz hu21
        obtain ⟨hr1, hr2⟩ := uret_n h
        subst hr2
        exact ⟨by omega, by omega⟩
set_option maxHeartbeats 4000000 in
set_option maxRecDepth 100000 in
theorem w_X3_told_0 {p : Program} {l : Launch} {e : Env} {R : Room} {s : State} {m : MethodId} {args : Array Value} {below : List Frame} {meth : Method} {c : Code} {G : uG} {a0 : Nat} {uf : UH} {r : Int32} (hC : uC p s m args meth c G RX3 cX3_told 3 (some .boolean)) (hR : 2 ≤ R.frames ∧ 43 ≤ R.locals) (N : Nat) (u : UH) (x1 : Int32) (x2 : Int32) (h : f_X3_told N (ub G) (ug G) u a0 x1 x2 = some (r, uf)) {H : Heap} {locs : List Loc} (hP : uP G u H) (hS : va_S (uA G) s.heap H locs) {ls : Array Slot} (hl : lv_has ls 3 [(0, va_rf (some a0)), (1, .int x1), (2, .int x2)]) : W p l e R s m args below meth c H locs 0 0 (MQ below (uQi G r uf) args s 0 0 (uA G)) (F0 m 0 ls []) := by
  obtain ⟨⟨hx, hb, hml, hown, hts⟩, hKK⟩ := id hC
  unfold f_X3_told at h
  refine u_aload_n (r := some a0) hx hb dX3_told_0 rfl (lv_at hl 0 rfl) ?_
  obtain ⟨c1, h⟩ := mif_n h
  obtain ⟨u2, c3, h⟩ := mbind_n h
  have zu2 := zz_X3_good N (ub G) (ug G) u a0 u2 c3
  refine u_callv (va_runV (As := []) (rest := []) hC.1 (met_X3_good l N G u a0 u2 c3) (cwV 0 hts (lw_V q2131 q2133 qs40 q103 q2134) rfl rfl rfl (by decide +kernel) ⟨Nat.le_trans (Nat.le_of_ble_eq_true rfl) hR.1, Nat.le_trans (Nat.le_of_ble_eq_true rfl) hR.2⟩) ⟨uPc_blind, u_rcv hC hP c1 rfl, fun U hU hW => u_pre hC hP hS hU hW⟩ rfl rfl hl.1 rfl (lv_room (Nat.le_of_ble_eq_true rfl)) dX3_told_1 ⟨Nat.zero_le _, Nat.zero_le _⟩) hS (fun H locs hP hS => ?_)
  refine u_aload_n (r := some a0) hx hb dX3_told_4 rfl (lv_at hl 0 rfl) ?_
  refine lv_iload_n hx hb dX3_told_5 rfl (lv_at hl 1 rfl) ?_
  obtain ⟨c4, h⟩ := mif_n h
  obtain ⟨r7, u5, c6, h⟩ := ucall_n h
  have zu5 := zz_X3_isDoubt N (ub G) (ug G) u2 a0 x1 r7 u5 c6
  refine u_calli (va_runV (As := [.int x1]) (rest := []) hC.1 (met_X3_isDoubt l N G u2 a0 x1 r7 u5 c6) (cwV 1 hts (lw_V q2292 q2294 qs61 q103 q2295) rfl rfl rfl (by decide +kernel) ⟨Nat.le_trans (Nat.le_of_ble_eq_true rfl) hR.1, Nat.le_trans (Nat.le_of_ble_eq_true rfl) hR.2⟩) ⟨uPc_blind, u_rcv hC hP c4 rfl, fun U hU hW => u_pre hC hP hS hU hW⟩ rfl rfl hl.1 rfl (lv_room (Nat.le_of_ble_eq_true rfl)) dX3_told_6 ⟨Nat.zero_le _, Nat.zero_le _⟩) hS (fun H locs hP hS => ?_)
  refine lv_if_eq (tgt := 20) hx hb dX3_told_9 (by decide) (fun c8 => ?_) (fun c8 => ?_)
  · have h := mif_t c8 h
    exact w_X3_told_20 hC hR N u5 h hP hS (lv_sub hl [0] rfl)
  · have h := mif_f c8 h
    refine u_aload_n (r := some a0) hx hb dX3_told_12 rfl (lv_at hl 0 rfl) ?_
    refine lv_iload_n hx hb dX3_told_13 rfl (lv_at hl 2 rfl) ?_
    obtain ⟨c9, h⟩ := mif_n h
    obtain ⟨r12, u10, c11, h⟩ := ucall_n h
    have zu10 := zz_X3_isGround N (ub G) (ug G) u5 a0 x2 r12 u10 c11
    refine u_calli (va_runV (As := [.int x2]) (rest := []) hC.1 (met_X3_isGround l N G u5 a0 x2 r12 u10 c11) (cwV 1 hts (lw_V q2246 q2248 qs58 q103 q2249) rfl rfl rfl (by decide +kernel) ⟨Nat.le_trans (Nat.le_of_ble_eq_true rfl) hR.1, Nat.le_trans (Nat.le_of_ble_eq_true rfl) hR.2⟩) ⟨uPc_blind, u_rcv hC hP c9 rfl, fun U hU hW => u_pre hC hP hS hU hW⟩ rfl rfl hl.1 rfl (lv_room (Nat.le_of_ble_eq_true rfl)) dX3_told_14 ⟨Nat.zero_le _, Nat.zero_le _⟩) hS (fun H locs hP hS => ?_)
    refine lv_if_ne (tgt := 26) hx hb dX3_told_17 (by decide) (fun c13 => ?_) (fun c13 => ?_)
    · have h := mif_f c13 h
      refine u_aload_n (r := some a0) hx hb dX3_told_26 rfl (lv_at hl 0 rfl) ?_
      obtain ⟨o14, ho14, h⟩ := mbind_n h
      refine u_get hC hP (uGR_n ho14) rfl in_X3 (by decide) q1939 (fun _ h => h) dX3_told_27 ?_
      refine lv_bipush (v := 8) hx hb dX3_told_30 (by decide) ?_
      refine lv_iload_n hx hb dX3_told_32 rfl (lv_at hl 1 rfl) ?_
      refine lv_imul hx hb dX3_told_33 ?_
      refine lv_iload_n hx hb dX3_told_34 rfl (lv_at hl 2 rfl) ?_
      refine lv_iadd hx hb dX3_told_35 ?_
      obtain ⟨a15, ha15, hha15⟩ := mbind_n h
      subst ha15
      have h := hha15
      obtain ⟨y16, hy16, h⟩ := mbind_n h
      refine u_iald hC hP hy16 rfl dX3_told_36 ?_
      refine lv_if_ne (tgt := 46) hx hb dX3_told_37 (by decide) (fun c17 => ?_) (fun c17 => ?_)
      · have h := mif_f c17 h
        refine u_aload_n (r := some a0) hx hb dX3_told_46 rfl (lv_at hl 0 rfl) ?_
        obtain ⟨o18, ho18, h⟩ := mbind_n h
        refine u_get hC hP (uGR_n ho18) rfl in_X3 (by decide) q1938 (fun _ h => h) dX3_told_47 ?_
        refine lv_iload_n hx hb dX3_told_50 rfl (lv_at hl 1 rfl) ?_
        refine lv_iload_n hx hb dX3_told_51 rfl (lv_at hl 2 rfl) ?_
        obtain ⟨a19, ha19, hha19⟩ := mbind_n h
        subst ha19
        have h := hha19
        obtain ⟨u20, hu20, h⟩ := mbind_n h
        have zu20 := uStI_sz hu20
        refine u_iast hC hP hS hu20 rfl dX3_told_52 (fun H locs hP hS => ?_)
        refine u_aload_n (r := some a0) hx hb dX3_told_53 rfl (lv_at hl 0 rfl) ?_
        refine lv_iconst (v := 0) hx hb dX3_told_54 (by decide) ?_
        obtain ⟨u21, hu21, h⟩ := mbind_n h
        have zu21 := uPut_sz hu21
        refine u_put hC hP hS hu21 rfl in_X3 tyX3 tyX3_ok nmX3 (by decide) q1944 (fun _ h => h) rfl (ty := .boolean) (tyX3_ok 51 (by decide)) (uFit_n (ty := .boolean) (v := 0) rfl).1 (uFit_n (ty := .boolean) (v := 0) rfl).2 dX3_told_55 (fun H locs hP hS => ?_)
        refine lv_iconst (v := 1) hx hb dX3_told_58 (by decide) ?_
        obtain ⟨hr1, hr2⟩ := uret_n h
        subst hr1
        subst hr2
        exact u_zret hC (uFit_n (ty := .boolean) (v := 1) rfl).1 hP hS dX3_told_59
      · have h := mif_t c17 h
        refine u_aload_n (r := some a0) hx hb dX3_told_40 rfl (lv_at hl 0 rfl) ?_
        refine lv_iconst (v := 5) hx hb dX3_told_41 (by decide) ?_
        obtain ⟨c22, h⟩ := mif_n h
        obtain ⟨r25, u23, c24, h⟩ := ucall_n h
        have zu23 := zz_X3_not N (ub G) (ug G) u10 a0 5 r25 u23 c24
        refine u_calli (va_runV (As := [.int 5]) (rest := []) hC.1 (met_X3_not l N G u10 a0 5 r25 u23 c24) (cwV 1 hts (lw_V q2264 q2266 qs59 q103 q2267) rfl rfl rfl (by decide +kernel) ⟨Nat.le_trans (Nat.le_of_ble_eq_true rfl) hR.1, Nat.le_trans (Nat.le_of_ble_eq_true rfl) hR.2⟩) ⟨uPc_blind, u_rcv hC hP c22 rfl, fun U hU hW => u_pre hC hP hS hU hW⟩ rfl rfl hl.1 rfl (lv_room (Nat.le_of_ble_eq_true rfl)) dX3_told_42 ⟨Nat.zero_le _, Nat.zero_le _⟩) hS (fun H locs hP hS => ?_)
        obtain ⟨c26, h⟩ := mif_n h
        obtain ⟨hr1, hr2⟩ := uret_n h
        subst hr1
        subst hr2
        exact u_zret hC (uFit_n c26).1 hP hS dX3_told_45
    · have h := mif_t c13 h
      exact w_X3_told_20 hC hR N u10 h hP hS (lv_sub hl [0] rfl)
theorem zz_X3_told (N b : Nat) (g : uEnv) (u : UH) (a0 : Nat) (x1 : Int32) (x2 : Int32) (r : Int32) (uf : UH) (h : f_X3_told N b g u a0 x1 x2 = some (r, uf)) : uf.1 = u.1 ∧ uf.2.1 = u.2.1 :=
  zz_X3_told_0 (G := ((fun _ => 0, fun _ _ => 0), fun _ => 0, b, g)) (a0 := a0) N u x1 x2 h
theorem met_X3_told (l : Launch) (N : Nat) (G : uG) (u : UH) (a0 : Nat) (x1 : Int32) (x2 : Int32) (r : Int32) (uf : UH) (h : f_X3_told N (ub G) (ug G) u a0 x1 x2 = some (r, uf)) : Met l yX3_told (ws_ yX3_told cX3_told 3 (some .boolean)) ({ frames := 2, cells := 0, slots := 0, locals := 43 }) (uPc G u [.ref a0, .int x1, .int x2]) (uQi G r uf) 0 0 (uA G) := by
  exact u_met (own := RX3) (by decide +kernel) rfl (Nat.le_of_ble_eq_true rfl) (fun hC hn hsz ls hl hP => w_X3_told_0 hC ⟨Nat.le_refl _, Nat.le_refl _⟩ N u x1 x2 h hP va_S.rf hl)
def f_X3_trouble (N b : Nat) (g : uEnv) (u : UH) (a0 : Nat) : Option (Int32 × UH) :=
    (uPut b u a0 2 0 (.int 0)).bind fun u1 =>
    (uGI u1 a0 2 39).bind fun y2 =>
    some (y2, u1)
set_option maxHeartbeats 4000000 in
set_option maxRecDepth 100000 in
theorem zz_X3_trouble_0 {G : uG} {a0 : Nat} {uf : UH} {r : Int32} (N : Nat) (u : UH) (h : f_X3_trouble N (ub G) (ug G) u a0 = some (r, uf)) : uf.1 = u.1 ∧ uf.2.1 = u.2.1 := by
  unfold f_X3_trouble at h
  obtain ⟨u1, hu1, h⟩ := mbind_n h
  have zu1 := uPut_sz hu1
  obtain ⟨y2, hy2, h⟩ := mbind_n h
  obtain ⟨hr1, hr2⟩ := uret_n h
  subst hr2
  exact ⟨by omega, by omega⟩
set_option maxHeartbeats 4000000 in
set_option maxRecDepth 100000 in
theorem w_X3_trouble_0 {p : Program} {l : Launch} {e : Env} {R : Room} {s : State} {m : MethodId} {args : Array Value} {below : List Frame} {meth : Method} {c : Code} {G : uG} {a0 : Nat} {uf : UH} {r : Int32} (hC : uC p s m args meth c G RX3 cX3_trouble 1 (some .int)) (hR : 0 ≤ R.frames ∧ 0 ≤ R.locals) (N : Nat) (u : UH) (h : f_X3_trouble N (ub G) (ug G) u a0 = some (r, uf)) {H : Heap} {locs : List Loc} (hP : uP G u H) (hS : va_S (uA G) s.heap H locs) {ls : Array Slot} (hl : lv_has ls 1 [(0, va_rf (some a0))]) : W p l e R s m args below meth c H locs 0 0 (MQ below (uQi G r uf) args s 0 0 (uA G)) (F0 m 0 ls []) := by
  obtain ⟨⟨hx, hb, hml, hown, hts⟩, hKK⟩ := id hC
  unfold f_X3_trouble at h
  refine u_aload_n (r := some a0) hx hb dX3_trouble_0 rfl (lv_at hl 0 rfl) ?_
  refine lv_iconst (v := 0) hx hb dX3_trouble_1 (by decide) ?_
  obtain ⟨u1, hu1, h⟩ := mbind_n h
  have zu1 := uPut_sz hu1
  refine u_put hC hP hS hu1 rfl in_X3 tyX3 tyX3_ok nmX3 (by decide) q1893 (fun _ h => h) rfl (ty := .int) (tyX3_ok 0 (by decide)) rfl rfl dX3_trouble_2 (fun H locs hP hS => ?_)
  refine u_aload_n (r := some a0) hx hb dX3_trouble_5 rfl (lv_at hl 0 rfl) ?_
  obtain ⟨y2, hy2, h⟩ := mbind_n h
  refine u_get hC hP (uGI_n hy2) rfl in_X3 (by decide) q1932 (fun _ h => h) dX3_trouble_6 ?_
  obtain ⟨hr1, hr2⟩ := uret_n h
  subst hr1
  subst hr2
  exact u_iret hC hP hS dX3_trouble_9
theorem zz_X3_trouble (N b : Nat) (g : uEnv) (u : UH) (a0 : Nat) (r : Int32) (uf : UH) (h : f_X3_trouble N b g u a0 = some (r, uf)) : uf.1 = u.1 ∧ uf.2.1 = u.2.1 :=
  zz_X3_trouble_0 (G := ((fun _ => 0, fun _ _ => 0), fun _ => 0, b, g)) (a0 := a0) N u h
theorem met_X3_trouble (l : Launch) (N : Nat) (G : uG) (u : UH) (a0 : Nat) (r : Int32) (uf : UH) (h : f_X3_trouble N (ub G) (ug G) u a0 = some (r, uf)) : Met l yX3_trouble (ws_ yX3_trouble cX3_trouble 1 (some .int)) ({ frames := 0, cells := 0, slots := 0, locals := 0 }) (uPc G u [.ref a0]) (uQi G r uf) 0 0 (uA G) := by
  exact u_met (own := RX3) (by decide +kernel) rfl (Nat.le_of_ble_eq_true rfl) (fun hC hn hsz ls hl hP => w_X3_trouble_0 hC ⟨Nat.le_refl _, Nat.le_refl _⟩ N u h hP va_S.rf hl)
def f_X3_truth (N b : Nat) (g : uEnv) (u : UH) (a0 : Nat) (x1 : Int32) (x2 : Int32) : Option (Int32 × UH) :=
    (uPut b u a0 2 0 (.int 0)).bind fun u1 =>
    if uIs u1 a0 2 = true then
    ucall (f_X3_isDoubt N b g u1 a0 x2) fun r5 u3 =>
    if r5 = 0 then
    some ((-1), u3)
    else
    if uIs u3 a0 2 = true then
    (f_X3_lists N b g u3 a0).bind fun u8 =>
    if uIs u8 a0 2 = true then
    ucall (f_X3_truthMany N b g u8 a0) fun r13 u11 =>
    ucall (f_X3_within N b g u11 x1 0 (r13 - 1)) fun r16 u14 =>
    if r16 = 0 then
    some ((-1), u14)
    else
    (uGR u14 a0 2 52).bind fun o18 =>
    if uIs u14 a0 2 = true then
    ucall (f_X3_all N b g u14 a0 x1) fun r22 u20 =>
    ucall (f_X3_digit N b g u20 r22 x2) fun r25 u23 =>
    (o18).bind fun a26 =>
    (uLdI u23 a26 0 (((4 * x2) + r25) - 1)).bind fun y27 =>
    some (y27, u23)
    else none
    else none
    else none
    else none
set_option maxHeartbeats 4000000 in
set_option maxRecDepth 100000 in
theorem zz_X3_truth_0 {G : uG} {a0 : Nat} {uf : UH} {r : Int32} (N : Nat) (u : UH) (x1 : Int32) (x2 : Int32) (h : f_X3_truth N (ub G) (ug G) u a0 x1 x2 = some (r, uf)) : uf.1 = u.1 ∧ uf.2.1 = u.2.1 := by
  unfold f_X3_truth at h
  obtain ⟨u1, hu1, h⟩ := mbind_n h
  have zu1 := uPut_sz hu1
  obtain ⟨c2, h⟩ := mif_n h
  obtain ⟨r5, u3, c4, h⟩ := ucall_n h
  have zu3 := zz_X3_isDoubt N (ub G) (ug G) u1 a0 x2 r5 u3 c4
  by_cases c6 : r5 = 0
  · have h := mif_t c6 h
    obtain ⟨hr1, hr2⟩ := uret_n h
    subst hr2
    exact ⟨by omega, by omega⟩
  · have h := mif_f c6 h
    obtain ⟨c7, h⟩ := mif_n h
    obtain ⟨u8, c9, h⟩ := mbind_n h
    have zu8 := zz_X3_lists N (ub G) (ug G) u3 a0 u8 c9
    obtain ⟨c10, h⟩ := mif_n h
    obtain ⟨r13, u11, c12, h⟩ := ucall_n h
    have zu11 := zz_X3_truthMany N (ub G) (ug G) u8 a0 r13 u11 c12
    obtain ⟨r16, u14, c15, h⟩ := ucall_n h
    have zu14 := zz_X3_within N (ub G) (ug G) u11 x1 0 (r13 - 1) r16 u14 c15
    by_cases c17 : r16 = 0
    · have h := mif_t c17 h
      obtain ⟨hr1, hr2⟩ := uret_n h
      subst hr2
      exact ⟨by omega, by omega⟩
    · have h := mif_f c17 h
      obtain ⟨o18, ho18, h⟩ := mbind_n h
      obtain ⟨c19, h⟩ := mif_n h
      obtain ⟨r22, u20, c21, h⟩ := ucall_n h
      have zu20 := zz_X3_all N (ub G) (ug G) u14 a0 x1 r22 u20 c21
      obtain ⟨r25, u23, c24, h⟩ := ucall_n h
      have zu23 := zz_X3_digit N (ub G) (ug G) u20 r22 x2 r25 u23 c24
      obtain ⟨a26, ha26, hha26⟩ := mbind_n h
      subst ha26
      have h := hha26
      obtain ⟨y27, hy27, h⟩ := mbind_n h
      obtain ⟨hr1, hr2⟩ := uret_n h
      subst hr2
      exact ⟨by omega, by omega⟩
set_option maxHeartbeats 4000000 in
set_option maxRecDepth 100000 in
theorem w_X3_truth_0 {p : Program} {l : Launch} {e : Env} {R : Room} {s : State} {m : MethodId} {args : Array Value} {below : List Frame} {meth : Method} {c : Code} {G : uG} {a0 : Nat} {uf : UH} {r : Int32} (hC : uC p s m args meth c G RX3 cX3_truth 3 (some .int)) (hR : 3 ≤ R.frames ∧ 67 ≤ R.locals) (N : Nat) (u : UH) (x1 : Int32) (x2 : Int32) (h : f_X3_truth N (ub G) (ug G) u a0 x1 x2 = some (r, uf)) {H : Heap} {locs : List Loc} (hP : uP G u H) (hS : va_S (uA G) s.heap H locs) {ls : Array Slot} (hl : lv_has ls 3 [(0, va_rf (some a0)), (1, .int x1), (2, .int x2)]) : W p l e R s m args below meth c H locs 0 0 (MQ below (uQi G r uf) args s 0 0 (uA G)) (F0 m 0 ls []) := by
  obtain ⟨⟨hx, hb, hml, hown, hts⟩, hKK⟩ := id hC
  unfold f_X3_truth at h
  refine u_aload_n (r := some a0) hx hb dX3_truth_0 rfl (lv_at hl 0 rfl) ?_
  refine lv_iconst (v := 0) hx hb dX3_truth_1 (by decide) ?_
  obtain ⟨u1, hu1, h⟩ := mbind_n h
  have zu1 := uPut_sz hu1
  refine u_put hC hP hS hu1 rfl in_X3 tyX3 tyX3_ok nmX3 (by decide) q1893 (fun _ h => h) rfl (ty := .int) (tyX3_ok 0 (by decide)) rfl rfl dX3_truth_2 (fun H locs hP hS => ?_)
  refine u_aload_n (r := some a0) hx hb dX3_truth_5 rfl (lv_at hl 0 rfl) ?_
  refine lv_iload_n hx hb dX3_truth_6 rfl (lv_at hl 2 rfl) ?_
  obtain ⟨c2, h⟩ := mif_n h
  obtain ⟨r5, u3, c4, h⟩ := ucall_n h
  have zu3 := zz_X3_isDoubt N (ub G) (ug G) u1 a0 x2 r5 u3 c4
  refine u_calli (va_runV (As := [.int x2]) (rest := []) hC.1 (met_X3_isDoubt l N G u1 a0 x2 r5 u3 c4) (cwV 1 hts (lw_V q2292 q2294 qs61 q103 q2295) rfl rfl rfl (by decide +kernel) ⟨Nat.le_trans (Nat.le_of_ble_eq_true rfl) hR.1, Nat.le_trans (Nat.le_of_ble_eq_true rfl) hR.2⟩) ⟨uPc_blind, u_rcv hC hP c2 rfl, fun U hU hW => u_pre hC hP hS hU hW⟩ rfl rfl hl.1 rfl (lv_room (Nat.le_of_ble_eq_true rfl)) dX3_truth_7 ⟨Nat.zero_le _, Nat.zero_le _⟩) hS (fun H locs hP hS => ?_)
  refine lv_if_ne (tgt := 15) hx hb dX3_truth_10 (by decide) (fun c6 => ?_) (fun c6 => ?_)
  · have h := mif_f c6 h
    refine u_aload_n (r := some a0) hx hb dX3_truth_15 rfl (lv_at hl 0 rfl) ?_
    obtain ⟨c7, h⟩ := mif_n h
    obtain ⟨u8, c9, h⟩ := mbind_n h
    have zu8 := zz_X3_lists N (ub G) (ug G) u3 a0 u8 c9
    refine u_callv (va_runV (As := []) (rest := []) hC.1 (met_X3_lists l N G u3 a0 u8 c9) (cwV 0 hts (lw_V q2348 q2350 qs70 q103 q2351) rfl rfl rfl (by decide +kernel) ⟨Nat.le_trans (Nat.le_of_ble_eq_true rfl) hR.1, Nat.le_trans (Nat.le_of_ble_eq_true rfl) hR.2⟩) ⟨uPc_blind, u_rcv hC hP c7 rfl, fun U hU hW => u_pre hC hP hS hU hW⟩ rfl rfl hl.1 rfl (lv_room (Nat.le_of_ble_eq_true rfl)) dX3_truth_16 ⟨Nat.zero_le _, Nat.zero_le _⟩) hS (fun H locs hP hS => ?_)
    refine lv_iload_n hx hb dX3_truth_19 rfl (lv_at hl 1 rfl) ?_
    refine lv_iconst (v := 0) hx hb dX3_truth_20 (by decide) ?_
    refine u_aload_n (r := some a0) hx hb dX3_truth_21 rfl (lv_at hl 0 rfl) ?_
    obtain ⟨c10, h⟩ := mif_n h
    obtain ⟨r13, u11, c12, h⟩ := ucall_n h
    have zu11 := zz_X3_truthMany N (ub G) (ug G) u8 a0 r13 u11 c12
    refine u_calli (va_runV (As := []) (rest := [.int 0, .int x1]) hC.1 (met_X3_truthMany l N G u8 a0 r13 u11 c12) (cwV 0 hts (lw_V q2427 q2429 qs83 q103 q2430) rfl rfl rfl (by decide +kernel) ⟨Nat.le_trans (Nat.le_of_ble_eq_true rfl) hR.1, Nat.le_trans (Nat.le_of_ble_eq_true rfl) hR.2⟩) ⟨uPc_blind, u_rcv hC hP c10 rfl, fun U hU hW => u_pre hC hP hS hU hW⟩ rfl rfl hl.1 rfl (lv_room (Nat.le_of_ble_eq_true rfl)) dX3_truth_22 ⟨Nat.zero_le _, Nat.zero_le _⟩) hS (fun H locs hP hS => ?_)
    refine lv_iconst (v := 1) hx hb dX3_truth_25 (by decide) ?_
    refine lv_isub hx hb dX3_truth_26 ?_
    obtain ⟨r16, u14, c15, h⟩ := ucall_n h
    have zu14 := zz_X3_within N (ub G) (ug G) u11 x1 0 (r13 - 1) r16 u14 c15
    refine u_calli (va_runS (As := [.int x1, .int 0, .int (r13 - 1)]) (rest := []) hC.1 (met_X3_within l N G u11 x1 0 (r13 - 1) r16 u14 c15) (va_cwS 3 hts (lw_S q2135 q2136 q103 q2137) rfl rfl rfl (by decide +kernel) ⟨Nat.le_trans (Nat.le_of_ble_eq_true rfl) hR.1, Nat.le_trans (Nat.le_of_ble_eq_true rfl) hR.2⟩) ⟨uPc_blind, fun U hU hW => u_pre hC hP hS hU hW⟩ rfl rfl hl.1 rfl (lv_room (Nat.le_of_ble_eq_true rfl)) dX3_truth_27 ⟨Nat.zero_le _, Nat.zero_le _⟩) hS (fun H locs hP hS => ?_)
    refine lv_if_ne (tgt := 35) hx hb dX3_truth_30 (by decide) (fun c17 => ?_) (fun c17 => ?_)
    · have h := mif_f c17 h
      refine u_aload_n (r := some a0) hx hb dX3_truth_35 rfl (lv_at hl 0 rfl) ?_
      obtain ⟨o18, ho18, h⟩ := mbind_n h
      refine u_get hC hP (uGR_n ho18) rfl in_X3 (by decide) q1945 (fun _ h => h) dX3_truth_36 ?_
      refine lv_iconst (v := 4) hx hb dX3_truth_39 (by decide) ?_
      refine lv_iload_n hx hb dX3_truth_40 rfl (lv_at hl 2 rfl) ?_
      refine lv_imul hx hb dX3_truth_41 ?_
      refine u_aload_n (r := some a0) hx hb dX3_truth_42 rfl (lv_at hl 0 rfl) ?_
      refine lv_iload_n hx hb dX3_truth_43 rfl (lv_at hl 1 rfl) ?_
      obtain ⟨c19, h⟩ := mif_n h
      obtain ⟨r22, u20, c21, h⟩ := ucall_n h
      have zu20 := zz_X3_all N (ub G) (ug G) u14 a0 x1 r22 u20 c21
      refine u_calli (va_runV (As := [.int x1]) (rest := [.int (4 * x2), va_rf o18]) hC.1 (met_X3_all l N G u14 a0 x1 r22 u20 c21) (cwV 1 hts (lw_V q2435 q2437 qs84 q103 q2438) rfl rfl rfl (by decide +kernel) ⟨Nat.le_trans (Nat.le_of_ble_eq_true rfl) hR.1, Nat.le_trans (Nat.le_of_ble_eq_true rfl) hR.2⟩) ⟨uPc_blind, u_rcv hC hP c19 rfl, fun U hU hW => u_pre hC hP hS hU hW⟩ rfl rfl hl.1 rfl (lv_room (by simp only [List.map, u_cat]; exact Nat.le_of_ble_eq_true rfl)) dX3_truth_44 ⟨Nat.zero_le _, Nat.zero_le _⟩) hS (fun H locs hP hS => ?_)
      refine lv_iload_n hx hb dX3_truth_47 rfl (lv_at hl 2 rfl) ?_
      obtain ⟨r25, u23, c24, h⟩ := ucall_n h
      have zu23 := zz_X3_digit N (ub G) (ug G) u20 r22 x2 r25 u23 c24
      refine u_calli (va_runS (As := [.int r22, .int x2]) (rest := [.int (4 * x2), va_rf o18]) hC.1 (met_X3_digit l N G u20 r22 x2 r25 u23 c24) (va_cwS 2 hts (lw_S q2360 q2361 q103 q2362) rfl rfl rfl (by decide +kernel) ⟨Nat.le_trans (Nat.le_of_ble_eq_true rfl) hR.1, Nat.le_trans (Nat.le_of_ble_eq_true rfl) hR.2⟩) ⟨uPc_blind, fun U hU hW => u_pre hC hP hS hU hW⟩ rfl rfl hl.1 rfl (lv_room (by simp only [List.map, u_cat]; exact Nat.le_of_ble_eq_true rfl)) dX3_truth_48 ⟨Nat.zero_le _, Nat.zero_le _⟩) hS (fun H locs hP hS => ?_)
      refine lv_iadd hx hb dX3_truth_51 ?_
      refine lv_iconst (v := 1) hx hb dX3_truth_52 (by decide) ?_
      refine lv_isub hx hb dX3_truth_53 ?_
      obtain ⟨a26, ha26, hha26⟩ := mbind_n h
      subst ha26
      have h := hha26
      obtain ⟨y27, hy27, h⟩ := mbind_n h
      refine u_iald hC hP hy27 rfl dX3_truth_54 ?_
      obtain ⟨hr1, hr2⟩ := uret_n h
      subst hr1
      subst hr2
      exact u_iret hC hP hS dX3_truth_55
    · have h := mif_t c17 h
      refine lv_iconst (v := (-1)) hx hb dX3_truth_33 (by decide) ?_
      obtain ⟨hr1, hr2⟩ := uret_n h
      subst hr1
      subst hr2
      exact u_iret hC hP hS dX3_truth_34
  · have h := mif_t c6 h
    refine lv_iconst (v := (-1)) hx hb dX3_truth_13 (by decide) ?_
    obtain ⟨hr1, hr2⟩ := uret_n h
    subst hr1
    subst hr2
    exact u_iret hC hP hS dX3_truth_14
theorem zz_X3_truth (N b : Nat) (g : uEnv) (u : UH) (a0 : Nat) (x1 : Int32) (x2 : Int32) (r : Int32) (uf : UH) (h : f_X3_truth N b g u a0 x1 x2 = some (r, uf)) : uf.1 = u.1 ∧ uf.2.1 = u.2.1 :=
  zz_X3_truth_0 (G := ((fun _ => 0, fun _ _ => 0), fun _ => 0, b, g)) (a0 := a0) N u x1 x2 h
theorem met_X3_truth (l : Launch) (N : Nat) (G : uG) (u : UH) (a0 : Nat) (x1 : Int32) (x2 : Int32) (r : Int32) (uf : UH) (h : f_X3_truth N (ub G) (ug G) u a0 x1 x2 = some (r, uf)) : Met l yX3_truth (ws_ yX3_truth cX3_truth 3 (some .int)) ({ frames := 3, cells := 0, slots := 0, locals := 67 }) (uPc G u [.ref a0, .int x1, .int x2]) (uQi G r uf) 0 0 (uA G) := by
  exact u_met (own := RX3) (by decide +kernel) rfl (Nat.le_of_ble_eq_true rfl) (fun hC hn hsz ls hl hP => w_X3_truth_0 hC ⟨Nat.le_refl _, Nat.le_refl _⟩ N u x1 x2 h hP va_S.rf hl)
def f_X3_truths (N b : Nat) (g : uEnv) (u : UH) (a0 : Nat) : Option (Int32 × UH) :=
    (uPut b u a0 2 0 (.int 0)).bind fun u1 =>
    (uGI u1 a0 2 34).bind fun y2 =>
    if y2 = 0 then
    some (0, u1)
    else
    if uIs u1 a0 2 = true then
    (f_X3_lists N b g u1 a0).bind fun u5 =>
    if uIs u5 a0 2 = true then
    ucall (f_X3_truthMany N b g u5 a0) fun r10 u8 =>
    some (r10, u8)
    else none
    else none
set_option maxHeartbeats 4000000 in
set_option maxRecDepth 100000 in
theorem zz_X3_truths_0 {G : uG} {a0 : Nat} {uf : UH} {r : Int32} (N : Nat) (u : UH) (h : f_X3_truths N (ub G) (ug G) u a0 = some (r, uf)) : uf.1 = u.1 ∧ uf.2.1 = u.2.1 := by
  unfold f_X3_truths at h
  obtain ⟨u1, hu1, h⟩ := mbind_n h
  have zu1 := uPut_sz hu1
  obtain ⟨y2, hy2, h⟩ := mbind_n h
  by_cases c3 : y2 = 0
  · have h := mif_t c3 h
    obtain ⟨hr1, hr2⟩ := uret_n h
    subst hr2
    exact ⟨by omega, by omega⟩
  · have h := mif_f c3 h
    obtain ⟨c4, h⟩ := mif_n h
    obtain ⟨u5, c6, h⟩ := mbind_n h
    have zu5 := zz_X3_lists N (ub G) (ug G) u1 a0 u5 c6
    obtain ⟨c7, h⟩ := mif_n h
    obtain ⟨r10, u8, c9, h⟩ := ucall_n h
    have zu8 := zz_X3_truthMany N (ub G) (ug G) u5 a0 r10 u8 c9
    obtain ⟨hr1, hr2⟩ := uret_n h
    subst hr2
    exact ⟨by omega, by omega⟩
set_option maxHeartbeats 4000000 in
set_option maxRecDepth 100000 in
theorem w_X3_truths_0 {p : Program} {l : Launch} {e : Env} {R : Room} {s : State} {m : MethodId} {args : Array Value} {below : List Frame} {meth : Method} {c : Code} {G : uG} {a0 : Nat} {uf : UH} {r : Int32} (hC : uC p s m args meth c G RX3 cX3_truths 1 (some .int)) (hR : 1 ≤ R.frames ∧ 22 ≤ R.locals) (N : Nat) (u : UH) (h : f_X3_truths N (ub G) (ug G) u a0 = some (r, uf)) {H : Heap} {locs : List Loc} (hP : uP G u H) (hS : va_S (uA G) s.heap H locs) {ls : Array Slot} (hl : lv_has ls 1 [(0, va_rf (some a0))]) : W p l e R s m args below meth c H locs 0 0 (MQ below (uQi G r uf) args s 0 0 (uA G)) (F0 m 0 ls []) := by
  obtain ⟨⟨hx, hb, hml, hown, hts⟩, hKK⟩ := id hC
  unfold f_X3_truths at h
  refine u_aload_n (r := some a0) hx hb dX3_truths_0 rfl (lv_at hl 0 rfl) ?_
  refine lv_iconst (v := 0) hx hb dX3_truths_1 (by decide) ?_
  obtain ⟨u1, hu1, h⟩ := mbind_n h
  have zu1 := uPut_sz hu1
  refine u_put hC hP hS hu1 rfl in_X3 tyX3 tyX3_ok nmX3 (by decide) q1893 (fun _ h => h) rfl (ty := .int) (tyX3_ok 0 (by decide)) rfl rfl dX3_truths_2 (fun H locs hP hS => ?_)
  refine u_aload_n (r := some a0) hx hb dX3_truths_5 rfl (lv_at hl 0 rfl) ?_
  obtain ⟨y2, hy2, h⟩ := mbind_n h
  refine u_get hC hP (uGI_n hy2) rfl in_X3 (by decide) q1927 (fun _ h => h) dX3_truths_6 ?_
  refine lv_if_ne (tgt := 14) hx hb dX3_truths_9 (by decide) (fun c3 => ?_) (fun c3 => ?_)
  · have h := mif_f c3 h
    refine u_aload_n (r := some a0) hx hb dX3_truths_14 rfl (lv_at hl 0 rfl) ?_
    obtain ⟨c4, h⟩ := mif_n h
    obtain ⟨u5, c6, h⟩ := mbind_n h
    have zu5 := zz_X3_lists N (ub G) (ug G) u1 a0 u5 c6
    refine u_callv (va_runV (As := []) (rest := []) hC.1 (met_X3_lists l N G u1 a0 u5 c6) (cwV 0 hts (lw_V q2348 q2350 qs70 q103 q2351) rfl rfl rfl (by decide +kernel) ⟨Nat.le_trans (Nat.le_of_ble_eq_true rfl) hR.1, Nat.le_trans (Nat.le_of_ble_eq_true rfl) hR.2⟩) ⟨uPc_blind, u_rcv hC hP c4 rfl, fun U hU hW => u_pre hC hP hS hU hW⟩ rfl rfl hl.1 rfl (lv_room (Nat.le_of_ble_eq_true rfl)) dX3_truths_15 ⟨Nat.zero_le _, Nat.zero_le _⟩) hS (fun H locs hP hS => ?_)
    refine u_aload_n (r := some a0) hx hb dX3_truths_18 rfl (lv_at hl 0 rfl) ?_
    obtain ⟨c7, h⟩ := mif_n h
    obtain ⟨r10, u8, c9, h⟩ := ucall_n h
    have zu8 := zz_X3_truthMany N (ub G) (ug G) u5 a0 r10 u8 c9
    refine u_calli (va_runV (As := []) (rest := []) hC.1 (met_X3_truthMany l N G u5 a0 r10 u8 c9) (cwV 0 hts (lw_V q2427 q2429 qs83 q103 q2430) rfl rfl rfl (by decide +kernel) ⟨Nat.le_trans (Nat.le_of_ble_eq_true rfl) hR.1, Nat.le_trans (Nat.le_of_ble_eq_true rfl) hR.2⟩) ⟨uPc_blind, u_rcv hC hP c7 rfl, fun U hU hW => u_pre hC hP hS hU hW⟩ rfl rfl hl.1 rfl (lv_room (Nat.le_of_ble_eq_true rfl)) dX3_truths_19 ⟨Nat.zero_le _, Nat.zero_le _⟩) hS (fun H locs hP hS => ?_)
    obtain ⟨hr1, hr2⟩ := uret_n h
    subst hr1
    subst hr2
    exact u_iret hC hP hS dX3_truths_22
  · have h := mif_t c3 h
    refine lv_iconst (v := 0) hx hb dX3_truths_12 (by decide) ?_
    obtain ⟨hr1, hr2⟩ := uret_n h
    subst hr1
    subst hr2
    exact u_iret hC hP hS dX3_truths_13
theorem zz_X3_truths (N b : Nat) (g : uEnv) (u : UH) (a0 : Nat) (r : Int32) (uf : UH) (h : f_X3_truths N b g u a0 = some (r, uf)) : uf.1 = u.1 ∧ uf.2.1 = u.2.1 :=
  zz_X3_truths_0 (G := ((fun _ => 0, fun _ _ => 0), fun _ => 0, b, g)) (a0 := a0) N u h
theorem met_X3_truths (l : Launch) (N : Nat) (G : uG) (u : UH) (a0 : Nat) (r : Int32) (uf : UH) (h : f_X3_truths N (ub G) (ug G) u a0 = some (r, uf)) : Met l yX3_truths (ws_ yX3_truths cX3_truths 1 (some .int)) ({ frames := 1, cells := 0, slots := 0, locals := 22 }) (uPc G u [.ref a0]) (uQi G r uf) 0 0 (uA G) := by
  exact u_met (own := RX3) (by decide +kernel) rfl (Nat.le_of_ble_eq_true rfl) (fun hC hn hsz ls hl hP => w_X3_truths_0 hC ⟨Nat.le_refl _, Nat.le_refl _⟩ N u h hP va_S.rf hl)
def f_X3_tryAt_15 (N b : Nat) (g : uEnv) (a0 : Nat) (u : UH) : Option (Int32 × UH) :=
    if uIs u a0 2 = true then
    ucall (f_X3_no N b g u a0 1) fun r4 u2 =>
    some (r4, u2)
    else none
set_option maxHeartbeats 4000000 in
set_option maxRecDepth 100000 in
theorem zz_X3_tryAt_15 {G : uG} {a0 : Nat} {uf : UH} {r : Int32} (N : Nat) (u : UH) (h : f_X3_tryAt_15 N (ub G) (ug G) a0 u = some (r, uf)) : uf.1 = u.1 ∧ uf.2.1 = u.2.1 := by
  unfold f_X3_tryAt_15 at h
  obtain ⟨c1, h⟩ := mif_n h
  obtain ⟨r4, u2, c3, h⟩ := ucall_n h
  have zu2 := zz_X3_no N (ub G) (ug G) u a0 1 r4 u2 c3
  obtain ⟨hr1, hr2⟩ := uret_n h
  subst hr2
  exact ⟨by omega, by omega⟩
set_option maxHeartbeats 4000000 in
set_option maxRecDepth 100000 in
theorem w_X3_tryAt_15 {p : Program} {l : Launch} {e : Env} {R : Room} {s : State} {m : MethodId} {args : Array Value} {below : List Frame} {meth : Method} {c : Code} {G : uG} {a0 : Nat} {uf : UH} {r : Int32} (hC : uC p s m args meth c G RX3 cX3_tryAt 8 (some .int)) (hR : 2 ≤ R.frames ∧ 54 ≤ R.locals) (N : Nat) (u : UH) (h : f_X3_tryAt_15 N (ub G) (ug G) a0 u = some (r, uf)) {H : Heap} {locs : List Loc} (hP : uP G u H) (hS : va_S (uA G) s.heap H locs) {ls : Array Slot} (hl : lv_has ls 8 [(0, va_rf (some a0))]) : W p l e R s m args below meth c H locs 0 0 (MQ below (uQi G r uf) args s 0 0 (uA G)) (F0 m 15 ls []) := by
  obtain ⟨⟨hx, hb, hml, hown, hts⟩, hKK⟩ := id hC
  unfold f_X3_tryAt_15 at h
  refine u_aload_n (r := some a0) hx hb dX3_tryAt_15 rfl (lv_at hl 0 rfl) ?_
  refine lv_iconst (v := 1) hx hb dX3_tryAt_16 (by decide) ?_
  obtain ⟨c1, h⟩ := mif_n h
  obtain ⟨r4, u2, c3, h⟩ := ucall_n h
  have zu2 := zz_X3_no N (ub G) (ug G) u a0 1 r4 u2 c3
  refine u_calli (va_runV (As := [.int 1]) (rest := []) hC.1 (met_X3_no l N G u a0 1 r4 u2 c3) (cwV 1 hts (lw_V q2138 q2140 qs41 q103 q2141) rfl rfl rfl (by decide +kernel) ⟨Nat.le_trans (Nat.le_of_ble_eq_true rfl) hR.1, Nat.le_trans (Nat.le_of_ble_eq_true rfl) hR.2⟩) ⟨uPc_blind, u_rcv hC hP c1 rfl, fun U hU hW => u_pre hC hP hS hU hW⟩ rfl rfl hl.1 rfl (lv_room (Nat.le_of_ble_eq_true rfl)) dX3_tryAt_17 ⟨Nat.zero_le _, Nat.zero_le _⟩) hS (fun H locs hP hS => ?_)
  obtain ⟨hr1, hr2⟩ := uret_n h
  subst hr1
  subst hr2
  exact u_iret hC hP hS dX3_tryAt_20
def f_X3_tryAt_159 (N b : Nat) (g : uEnv) (a0 : Nat) (k47 : UH → Int32 → Int32 → Int32 → Option (Int32 × UH)) (u : UH) (x1 : Int32) (x2 : Int32) (x3 : Int32) (x4 : Int32) : Option (Int32 × UH) :=
    if x3 = x1 then
    some (x4, u)
    else
    if uIs u a0 2 = true then
    ucall (f_X3_behind N b g u a0 x2 (x4 / 10) (x4 - x4 / 10 * 10)) fun r5 u3 =>
    mlet (x3 + 1) fun y6 =>
    k47 u3 x1 r5 y6
    else none
set_option maxHeartbeats 4000000 in
set_option maxRecDepth 100000 in
theorem zz_X3_tryAt_159 {G : uG} {a0 : Nat} {uf : UH} {r : Int32} (N : Nat) (k47 : UH → Int32 → Int32 → Int32 → Option (Int32 × UH)) (hk47 : ∀ (u : UH) (x1 : Int32) (x2 : Int32) (x3 : Int32), k47 u x1 x2 x3 = some (r, uf) → uf.1 = u.1 ∧ uf.2.1 = u.2.1) (u : UH) (x1 : Int32) (x2 : Int32) (x3 : Int32) (x4 : Int32) (h : f_X3_tryAt_159 N (ub G) (ug G) a0 k47 u x1 x2 x3 x4 = some (r, uf)) : uf.1 = u.1 ∧ uf.2.1 = u.2.1 := by
  unfold f_X3_tryAt_159 at h
  by_cases c1 : x3 = x1
  · have h := mif_t c1 h
    obtain ⟨hr1, hr2⟩ := uret_n h
    subst hr2
    exact ⟨by omega, by omega⟩
  · have h := mif_f c1 h
    obtain ⟨c2, h⟩ := mif_n h
    obtain ⟨r5, u3, c4, h⟩ := ucall_n h
    have zu3 := zz_X3_behind N (ub G) (ug G) u a0 x2 (x4 / 10) (x4 - x4 / 10 * 10) r5 u3 c4
    obtain ⟨y6, ey6⟩ : ∃ z : Int32, z = x3 + 1 := ⟨_, rfl⟩
    have h := mlet_at ey6 h
    have hq := hk47 u3 x1 r5 y6 h
    exact ⟨by omega, by omega⟩
set_option maxHeartbeats 4000000 in
set_option maxRecDepth 100000 in
theorem w_X3_tryAt_159 {p : Program} {l : Launch} {e : Env} {R : Room} {s : State} {m : MethodId} {args : Array Value} {below : List Frame} {meth : Method} {c : Code} {G : uG} {a0 : Nat} {uf : UH} {r : Int32} (hC : uC p s m args meth c G RX3 cX3_tryAt 8 (some .int)) (hR : 2 ≤ R.frames ∧ 54 ≤ R.locals) (N : Nat) (k47 : UH → Int32 → Int32 → Int32 → Option (Int32 × UH)) (hk47 : ∀ (u : UH) (x1 : Int32) (x2 : Int32) (x3 : Int32), k47 u x1 x2 x3 = some (r, uf) → ∀ (H : Heap) (locs : List Loc), uP G u H → va_S (uA G) s.heap H locs → ∀ ls : Array Slot, lv_has ls 8 [(0, va_rf (some a0)), (1, .int x1), (2, .int x2), (3, .int x3)] → W p l e R s m args below meth c H locs 0 0 (MQ below (uQi G r uf) args s 0 0 (uA G)) (F0 m 47 ls [])) (u : UH) (x1 : Int32) (x2 : Int32) (x3 : Int32) (x4 : Int32) (h : f_X3_tryAt_159 N (ub G) (ug G) a0 k47 u x1 x2 x3 x4 = some (r, uf)) {H : Heap} {locs : List Loc} (hP : uP G u H) (hS : va_S (uA G) s.heap H locs) {ls : Array Slot} (hl : lv_has ls 8 [(0, va_rf (some a0)), (1, .int x1), (2, .int x2), (3, .int x3), (4, .int x4)]) : W p l e R s m args below meth c H locs 0 0 (MQ below (uQi G r uf) args s 0 0 (uA G)) (F0 m 159 ls []) := by
  obtain ⟨⟨hx, hb, hml, hown, hts⟩, hKK⟩ := id hC
  unfold f_X3_tryAt_159 at h
  refine lv_iload_n hx hb dX3_tryAt_159 rfl (lv_at hl 3 rfl) ?_
  refine lv_iload_n hx hb dX3_tryAt_160 rfl (lv_at hl 1 rfl) ?_
  refine lv_icmp_ne (tgt := 167) hx hb dX3_tryAt_161 (by decide) (fun c1 => ?_) (fun c1 => ?_)
  · have h := mif_f c1 h
    refine u_aload_n (r := some a0) hx hb dX3_tryAt_167 rfl (lv_at hl 0 rfl) ?_
    refine lv_iload_n hx hb dX3_tryAt_168 rfl (lv_at hl 2 rfl) ?_
    refine lv_iload hx hb dX3_tryAt_169 (lv_at hl 4 rfl) ?_
    refine lv_bipush (v := 10) hx hb dX3_tryAt_171 (by decide) ?_
    refine lv_idiv hx hb dX3_tryAt_173 (by decide) ?_
    refine lv_iload hx hb dX3_tryAt_174 (lv_at hl 4 rfl) ?_
    refine lv_bipush (v := 10) hx hb dX3_tryAt_176 (by decide) ?_
    refine lv_irem hx hb dX3_tryAt_178 (by decide) ?_
    obtain ⟨c2, h⟩ := mif_n h
    obtain ⟨r5, u3, c4, h⟩ := ucall_n h
    have zu3 := zz_X3_behind N (ub G) (ug G) u a0 x2 (x4 / 10) (x4 - x4 / 10 * 10) r5 u3 c4
    refine u_calli (va_runV (As := [.int x2, .int (x4 / 10), .int (x4 - x4 / 10 * 10)]) (rest := []) hC.1 (met_X3_behind l N G u a0 x2 (x4 / 10) (x4 - x4 / 10 * 10) r5 u3 c4) (cwV 3 hts (lw_V q2521 q2523 qs94 q103 q2524) rfl rfl rfl (by decide +kernel) ⟨Nat.le_trans (Nat.le_of_ble_eq_true rfl) hR.1, Nat.le_trans (Nat.le_of_ble_eq_true rfl) hR.2⟩) ⟨uPc_blind, u_rcv hC hP c2 rfl, fun U hU hW => u_pre hC hP hS hU hW⟩ rfl rfl hl.1 rfl (lv_room (Nat.le_of_ble_eq_true rfl)) dX3_tryAt_179 ⟨Nat.zero_le _, Nat.zero_le _⟩) hS (fun H locs hP hS => ?_)
    refine lv_istore_n (i := 2) (lv' := [(2, .int r5), (0, va_rf (some a0)), (1, .int x1), (3, .int x3), (4, .int x4)]) hx hb dX3_tryAt_182 rfl hl (by decide) rfl (fun ls hl => ?_)
    obtain ⟨y6, ey6⟩ : ∃ z : Int32, z = x3 + 1 := ⟨_, rfl⟩
    have h := mlet_at ey6 h
    refine lv_iinc (v := y6) (lv' := [(3, .int y6), (2, .int r5), (0, va_rf (some a0)), (1, .int x1), (4, .int x4)]) hx hb dX3_tryAt_183 hl (k := 3) rfl (by rw [ey6]; rfl) (by decide) rfl (fun ls hl => ?_)
    refine lv_goto (tgt := 47) hx hb dX3_tryAt_186 (by decide) ?_
    exact hk47 u3 x1 r5 y6 h _ _ hP hS _ (lv_sub hl [2, 3, 1, 0] rfl)
  · have h := mif_t c1 h
    refine lv_iload hx hb dX3_tryAt_164 (lv_at hl 4 rfl) ?_
    obtain ⟨hr1, hr2⟩ := uret_n h
    subst hr1
    subst hr2
    exact u_iret hC hP hS dX3_tryAt_166
def f_X3_tryAt_153 (N b : Nat) (g : uEnv) (a0 : Nat) (k47 : UH → Int32 → Int32 → Int32 → Option (Int32 × UH)) (k57 : UH → Int32 → Int32 → Int32 → Int32 → Int32 → Option (Int32 × UH)) (u : UH) (x1 : Int32) (x2 : Int32) (x3 : Int32) (x4 : Int32) (x5 : Int32) : Option (Int32 × UH) :=
    mlet (x5 + 1) fun y1 =>
    k57 u x1 x2 x3 x4 y1
set_option maxHeartbeats 4000000 in
set_option maxRecDepth 100000 in
theorem zz_X3_tryAt_153 {G : uG} {a0 : Nat} {uf : UH} {r : Int32} (N : Nat) (k47 : UH → Int32 → Int32 → Int32 → Option (Int32 × UH)) (hk47 : ∀ (u : UH) (x1 : Int32) (x2 : Int32) (x3 : Int32), k47 u x1 x2 x3 = some (r, uf) → uf.1 = u.1 ∧ uf.2.1 = u.2.1) (k57 : UH → Int32 → Int32 → Int32 → Int32 → Int32 → Option (Int32 × UH)) (hk57 : ∀ (u : UH) (x1 : Int32) (x2 : Int32) (x3 : Int32) (x4 : Int32) (x5 : Int32), k57 u x1 x2 x3 x4 x5 = some (r, uf) → uf.1 = u.1 ∧ uf.2.1 = u.2.1) (u : UH) (x1 : Int32) (x2 : Int32) (x3 : Int32) (x4 : Int32) (x5 : Int32) (h : f_X3_tryAt_153 N (ub G) (ug G) a0 k47 k57 u x1 x2 x3 x4 x5 = some (r, uf)) : uf.1 = u.1 ∧ uf.2.1 = u.2.1 := by
  unfold f_X3_tryAt_153 at h
  obtain ⟨y1, ey1⟩ : ∃ z : Int32, z = x5 + 1 := ⟨_, rfl⟩
  have h := mlet_at ey1 h
  have hq := hk57 u x1 x2 x3 x4 y1 h
  exact ⟨by omega, by omega⟩
set_option maxHeartbeats 4000000 in
set_option maxRecDepth 100000 in
theorem w_X3_tryAt_153 {p : Program} {l : Launch} {e : Env} {R : Room} {s : State} {m : MethodId} {args : Array Value} {below : List Frame} {meth : Method} {c : Code} {G : uG} {a0 : Nat} {uf : UH} {r : Int32} (hC : uC p s m args meth c G RX3 cX3_tryAt 8 (some .int)) (hR : 2 ≤ R.frames ∧ 54 ≤ R.locals) (N : Nat) (k47 : UH → Int32 → Int32 → Int32 → Option (Int32 × UH)) (hk47 : ∀ (u : UH) (x1 : Int32) (x2 : Int32) (x3 : Int32), k47 u x1 x2 x3 = some (r, uf) → ∀ (H : Heap) (locs : List Loc), uP G u H → va_S (uA G) s.heap H locs → ∀ ls : Array Slot, lv_has ls 8 [(0, va_rf (some a0)), (1, .int x1), (2, .int x2), (3, .int x3)] → W p l e R s m args below meth c H locs 0 0 (MQ below (uQi G r uf) args s 0 0 (uA G)) (F0 m 47 ls [])) (k57 : UH → Int32 → Int32 → Int32 → Int32 → Int32 → Option (Int32 × UH)) (hk57 : ∀ (u : UH) (x1 : Int32) (x2 : Int32) (x3 : Int32) (x4 : Int32) (x5 : Int32), k57 u x1 x2 x3 x4 x5 = some (r, uf) → ∀ (H : Heap) (locs : List Loc), uP G u H → va_S (uA G) s.heap H locs → ∀ ls : Array Slot, lv_has ls 8 [(0, va_rf (some a0)), (1, .int x1), (2, .int x2), (3, .int x3), (4, .int x4), (5, .int x5)] → W p l e R s m args below meth c H locs 0 0 (MQ below (uQi G r uf) args s 0 0 (uA G)) (F0 m 57 ls [])) (u : UH) (x1 : Int32) (x2 : Int32) (x3 : Int32) (x4 : Int32) (x5 : Int32) (h : f_X3_tryAt_153 N (ub G) (ug G) a0 k47 k57 u x1 x2 x3 x4 x5 = some (r, uf)) {H : Heap} {locs : List Loc} (hP : uP G u H) (hS : va_S (uA G) s.heap H locs) {ls : Array Slot} (hl : lv_has ls 8 [(0, va_rf (some a0)), (1, .int x1), (2, .int x2), (3, .int x3), (4, .int x4), (5, .int x5)]) : W p l e R s m args below meth c H locs 0 0 (MQ below (uQi G r uf) args s 0 0 (uA G)) (F0 m 153 ls []) := by
  obtain ⟨⟨hx, hb, hml, hown, hts⟩, hKK⟩ := id hC
  unfold f_X3_tryAt_153 at h
  obtain ⟨y1, ey1⟩ : ∃ z : Int32, z = x5 + 1 := ⟨_, rfl⟩
  have h := mlet_at ey1 h
  refine lv_iinc (v := y1) (lv' := [(5, .int y1), (0, va_rf (some a0)), (1, .int x1), (2, .int x2), (3, .int x3), (4, .int x4)]) hx hb dX3_tryAt_153 hl (k := 5) rfl (by rw [ey1]; rfl) (by decide) rfl (fun ls hl => ?_)
  refine lv_goto (tgt := 57) hx hb dX3_tryAt_156 (by decide) ?_
  exact hk57 u x1 x2 x3 x4 y1 h _ _ hP hS _ (lv_sub hl [1, 2, 3, 4, 5, 0] rfl)
def f_X3_tryAt_147 (N b : Nat) (g : uEnv) (a0 : Nat) (k47 : UH → Int32 → Int32 → Int32 → Option (Int32 × UH)) (k57 : UH → Int32 → Int32 → Int32 → Int32 → Int32 → Option (Int32 × UH)) (k74 : UH → Int32 → Int32 → Int32 → Int32 → Int32 → Int32 → Option (Int32 × UH)) (u : UH) (x1 : Int32) (x2 : Int32) (x3 : Int32) (x4 : Int32) (x5 : Int32) (x6 : Int32) : Option (Int32 × UH) :=
    mlet (x6 + 1) fun y1 =>
    k74 u x1 x2 x3 x4 x5 y1
set_option maxHeartbeats 4000000 in
set_option maxRecDepth 100000 in
theorem zz_X3_tryAt_147 {G : uG} {a0 : Nat} {uf : UH} {r : Int32} (N : Nat) (k47 : UH → Int32 → Int32 → Int32 → Option (Int32 × UH)) (hk47 : ∀ (u : UH) (x1 : Int32) (x2 : Int32) (x3 : Int32), k47 u x1 x2 x3 = some (r, uf) → uf.1 = u.1 ∧ uf.2.1 = u.2.1) (k57 : UH → Int32 → Int32 → Int32 → Int32 → Int32 → Option (Int32 × UH)) (hk57 : ∀ (u : UH) (x1 : Int32) (x2 : Int32) (x3 : Int32) (x4 : Int32) (x5 : Int32), k57 u x1 x2 x3 x4 x5 = some (r, uf) → uf.1 = u.1 ∧ uf.2.1 = u.2.1) (k74 : UH → Int32 → Int32 → Int32 → Int32 → Int32 → Int32 → Option (Int32 × UH)) (hk74 : ∀ (u : UH) (x1 : Int32) (x2 : Int32) (x3 : Int32) (x4 : Int32) (x5 : Int32) (x6 : Int32), k74 u x1 x2 x3 x4 x5 x6 = some (r, uf) → uf.1 = u.1 ∧ uf.2.1 = u.2.1) (u : UH) (x1 : Int32) (x2 : Int32) (x3 : Int32) (x4 : Int32) (x5 : Int32) (x6 : Int32) (h : f_X3_tryAt_147 N (ub G) (ug G) a0 k47 k57 k74 u x1 x2 x3 x4 x5 x6 = some (r, uf)) : uf.1 = u.1 ∧ uf.2.1 = u.2.1 := by
  unfold f_X3_tryAt_147 at h
  obtain ⟨y1, ey1⟩ : ∃ z : Int32, z = x6 + 1 := ⟨_, rfl⟩
  have h := mlet_at ey1 h
  have hq := hk74 u x1 x2 x3 x4 x5 y1 h
  exact ⟨by omega, by omega⟩
set_option maxHeartbeats 4000000 in
set_option maxRecDepth 100000 in
theorem w_X3_tryAt_147 {p : Program} {l : Launch} {e : Env} {R : Room} {s : State} {m : MethodId} {args : Array Value} {below : List Frame} {meth : Method} {c : Code} {G : uG} {a0 : Nat} {uf : UH} {r : Int32} (hC : uC p s m args meth c G RX3 cX3_tryAt 8 (some .int)) (hR : 2 ≤ R.frames ∧ 54 ≤ R.locals) (N : Nat) (k47 : UH → Int32 → Int32 → Int32 → Option (Int32 × UH)) (hk47 : ∀ (u : UH) (x1 : Int32) (x2 : Int32) (x3 : Int32), k47 u x1 x2 x3 = some (r, uf) → ∀ (H : Heap) (locs : List Loc), uP G u H → va_S (uA G) s.heap H locs → ∀ ls : Array Slot, lv_has ls 8 [(0, va_rf (some a0)), (1, .int x1), (2, .int x2), (3, .int x3)] → W p l e R s m args below meth c H locs 0 0 (MQ below (uQi G r uf) args s 0 0 (uA G)) (F0 m 47 ls [])) (k57 : UH → Int32 → Int32 → Int32 → Int32 → Int32 → Option (Int32 × UH)) (hk57 : ∀ (u : UH) (x1 : Int32) (x2 : Int32) (x3 : Int32) (x4 : Int32) (x5 : Int32), k57 u x1 x2 x3 x4 x5 = some (r, uf) → ∀ (H : Heap) (locs : List Loc), uP G u H → va_S (uA G) s.heap H locs → ∀ ls : Array Slot, lv_has ls 8 [(0, va_rf (some a0)), (1, .int x1), (2, .int x2), (3, .int x3), (4, .int x4), (5, .int x5)] → W p l e R s m args below meth c H locs 0 0 (MQ below (uQi G r uf) args s 0 0 (uA G)) (F0 m 57 ls [])) (k74 : UH → Int32 → Int32 → Int32 → Int32 → Int32 → Int32 → Option (Int32 × UH)) (hk74 : ∀ (u : UH) (x1 : Int32) (x2 : Int32) (x3 : Int32) (x4 : Int32) (x5 : Int32) (x6 : Int32), k74 u x1 x2 x3 x4 x5 x6 = some (r, uf) → ∀ (H : Heap) (locs : List Loc), uP G u H → va_S (uA G) s.heap H locs → ∀ ls : Array Slot, lv_has ls 8 [(0, va_rf (some a0)), (1, .int x1), (2, .int x2), (3, .int x3), (4, .int x4), (5, .int x5), (6, .int x6)] → W p l e R s m args below meth c H locs 0 0 (MQ below (uQi G r uf) args s 0 0 (uA G)) (F0 m 74 ls [])) (u : UH) (x1 : Int32) (x2 : Int32) (x3 : Int32) (x4 : Int32) (x5 : Int32) (x6 : Int32) (h : f_X3_tryAt_147 N (ub G) (ug G) a0 k47 k57 k74 u x1 x2 x3 x4 x5 x6 = some (r, uf)) {H : Heap} {locs : List Loc} (hP : uP G u H) (hS : va_S (uA G) s.heap H locs) {ls : Array Slot} (hl : lv_has ls 8 [(0, va_rf (some a0)), (1, .int x1), (2, .int x2), (3, .int x3), (4, .int x4), (5, .int x5), (6, .int x6)]) : W p l e R s m args below meth c H locs 0 0 (MQ below (uQi G r uf) args s 0 0 (uA G)) (F0 m 147 ls []) := by
  obtain ⟨⟨hx, hb, hml, hown, hts⟩, hKK⟩ := id hC
  unfold f_X3_tryAt_147 at h
  obtain ⟨y1, ey1⟩ : ∃ z : Int32, z = x6 + 1 := ⟨_, rfl⟩
  have h := mlet_at ey1 h
  refine lv_iinc (v := y1) (lv' := [(6, .int y1), (0, va_rf (some a0)), (1, .int x1), (2, .int x2), (3, .int x3), (4, .int x4), (5, .int x5)]) hx hb dX3_tryAt_147 hl (k := 6) rfl (by rw [ey1]; rfl) (by decide) rfl (fun ls hl => ?_)
  refine lv_goto (tgt := 74) hx hb dX3_tryAt_150 (by decide) ?_
  exact hk74 u x1 x2 x3 x4 x5 y1 h _ _ hP hS _ (lv_sub hl [1, 2, 3, 4, 5, 6, 0] rfl)
def f_X3_tryAt_74 (N b : Nat) (g : uEnv) (a0 : Nat) (k47 : UH → Int32 → Int32 → Int32 → Option (Int32 × UH)) (k57 : UH → Int32 → Int32 → Int32 → Int32 → Int32 → Option (Int32 × UH)) : Nat → UH → Int32 → Int32 → Int32 → Int32 → Int32 → Int32 → Option (Int32 × UH)
  | 0, _, _, _, _, _, _, _ => none
  | n + 1, u, x1, x2, x3, x4, x5, x6 =>
    (uGI u a0 2 24).bind fun y1 =>
    if y1 ≤ x6 then
    f_X3_tryAt_153 N b g a0 k47 k57 u x1 x2 x3 x4 x5
    else
    if 0 ≤ x4 then
    f_X3_tryAt_153 N b g a0 k47 k57 u x1 x2 x3 x4 x5
    else
    (uGR u a0 2 68).bind fun o4 =>
    if uIs u a0 2 = true then
    ucall (f_X3_behind N b g u a0 x2 x5 x6) fun r8 u6 =>
    (o4).bind fun a9 =>
    (uLdI u6 a9 0 r8).bind fun y10 =>
    if 2000000000 ≤ y10 then
    f_X3_tryAt_147 N b g a0 k47 k57 (f_X3_tryAt_74 N b g a0 k47 k57 n) u6 x1 x2 x3 x4 x5 x6
    else
    (uGR u6 a0 2 32).bind fun o12 =>
    (o12).bind fun a13 =>
    (uLdI u6 a13 0 x5).bind fun y14 =>
    (uGR u6 a0 2 68).bind fun o15 =>
    (o15).bind fun a16 =>
    (uLdI u6 a16 0 x2).bind fun y17 =>
    if ((y10 + (10000 * y14)) + 1) = y17 then
    mlet ((10 * x5) + x6) fun y19 =>
    f_X3_tryAt_147 N b g a0 k47 k57 (f_X3_tryAt_74 N b g a0 k47 k57 n) u6 x1 x2 x3 y19 x5 x6
    else
    f_X3_tryAt_147 N b g a0 k47 k57 (f_X3_tryAt_74 N b g a0 k47 k57 n) u6 x1 x2 x3 x4 x5 x6
    else none
set_option maxHeartbeats 4000000 in
set_option maxRecDepth 100000 in
theorem zz_X3_tryAt_74 {G : uG} {a0 : Nat} {uf : UH} {r : Int32} (N : Nat) (k47 : UH → Int32 → Int32 → Int32 → Option (Int32 × UH)) (hk47 : ∀ (u : UH) (x1 : Int32) (x2 : Int32) (x3 : Int32), k47 u x1 x2 x3 = some (r, uf) → uf.1 = u.1 ∧ uf.2.1 = u.2.1) (k57 : UH → Int32 → Int32 → Int32 → Int32 → Int32 → Option (Int32 × UH)) (hk57 : ∀ (u : UH) (x1 : Int32) (x2 : Int32) (x3 : Int32) (x4 : Int32) (x5 : Int32), k57 u x1 x2 x3 x4 x5 = some (r, uf) → uf.1 = u.1 ∧ uf.2.1 = u.2.1) : ∀ (n : Nat) (u : UH) (x1 : Int32) (x2 : Int32) (x3 : Int32) (x4 : Int32) (x5 : Int32) (x6 : Int32), f_X3_tryAt_74 N (ub G) (ug G) a0 k47 k57 n u x1 x2 x3 x4 x5 x6 = some (r, uf) → uf.1 = u.1 ∧ uf.2.1 = u.2.1 := by
  intro n
  induction n with
  | zero =>
    intro u x1 x2 x3 x4 x5 x6 h
    cases h
  | succ n ih =>
    intro u x1 x2 x3 x4 x5 x6 h
    unfold f_X3_tryAt_74 at h
    obtain ⟨y1, hy1, h⟩ := mbind_n h
    by_cases c2 : y1 ≤ x6
    · have h := mif_t c2 h
      have hq := zz_X3_tryAt_153 (G := G) (a0 := a0) N k47 hk47 k57 hk57 u x1 x2 x3 x4 x5 h
      exact ⟨by omega, by omega⟩
    · have h := mif_f c2 h
      by_cases c3 : 0 ≤ x4
      · have h := mif_t c3 h
        have hq := zz_X3_tryAt_153 (G := G) (a0 := a0) N k47 hk47 k57 hk57 u x1 x2 x3 x4 x5 h
        exact ⟨by omega, by omega⟩
      · have h := mif_f c3 h
        obtain ⟨o4, ho4, h⟩ := mbind_n h
        obtain ⟨c5, h⟩ := mif_n h
        obtain ⟨r8, u6, c7, h⟩ := ucall_n h
        have zu6 := zz_X3_behind N (ub G) (ug G) u a0 x2 x5 x6 r8 u6 c7
        obtain ⟨a9, ha9, hha9⟩ := mbind_n h
        subst ha9
        have h := hha9
        obtain ⟨y10, hy10, h⟩ := mbind_n h
        by_cases c11 : 2000000000 ≤ y10
        · have h := mif_t c11 h
          have hq := zz_X3_tryAt_147 (G := G) (a0 := a0) N k47 hk47 k57 hk57 (f_X3_tryAt_74 N (ub G) (ug G) a0 k47 k57 n) ih u6 x1 x2 x3 x4 x5 x6 h
          exact ⟨by omega, by omega⟩
        · have h := mif_f c11 h
          obtain ⟨o12, ho12, h⟩ := mbind_n h
          obtain ⟨a13, ha13, hha13⟩ := mbind_n h
          subst ha13
          have h := hha13
          obtain ⟨y14, hy14, h⟩ := mbind_n h
          obtain ⟨o15, ho15, h⟩ := mbind_n h
          obtain ⟨a16, ha16, hha16⟩ := mbind_n h
          subst ha16
          have h := hha16
          obtain ⟨y17, hy17, h⟩ := mbind_n h
          by_cases c18 : ((y10 + (10000 * y14)) + 1) = y17
          · have h := mif_t c18 h
            obtain ⟨y19, ey19⟩ : ∃ z, z = (10 * x5) + x6 := ⟨_, rfl⟩
            have h := mlet_at ey19 h
            have hq := zz_X3_tryAt_147 (G := G) (a0 := a0) N k47 hk47 k57 hk57 (f_X3_tryAt_74 N (ub G) (ug G) a0 k47 k57 n) ih u6 x1 x2 x3 y19 x5 x6 h
            exact ⟨by omega, by omega⟩
          · have h := mif_f c18 h
            have hq := zz_X3_tryAt_147 (G := G) (a0 := a0) N k47 hk47 k57 hk57 (f_X3_tryAt_74 N (ub G) (ug G) a0 k47 k57 n) ih u6 x1 x2 x3 x4 x5 x6 h
            exact ⟨by omega, by omega⟩
set_option maxHeartbeats 4000000 in
set_option maxRecDepth 100000 in
theorem w_X3_tryAt_74 {p : Program} {l : Launch} {e : Env} {R : Room} {s : State} {m : MethodId} {args : Array Value} {below : List Frame} {meth : Method} {c : Code} {G : uG} {a0 : Nat} {uf : UH} {r : Int32} (hC : uC p s m args meth c G RX3 cX3_tryAt 8 (some .int)) (hR : 2 ≤ R.frames ∧ 54 ≤ R.locals) (N : Nat) (k47 : UH → Int32 → Int32 → Int32 → Option (Int32 × UH)) (hk47 : ∀ (u : UH) (x1 : Int32) (x2 : Int32) (x3 : Int32), k47 u x1 x2 x3 = some (r, uf) → ∀ (H : Heap) (locs : List Loc), uP G u H → va_S (uA G) s.heap H locs → ∀ ls : Array Slot, lv_has ls 8 [(0, va_rf (some a0)), (1, .int x1), (2, .int x2), (3, .int x3)] → W p l e R s m args below meth c H locs 0 0 (MQ below (uQi G r uf) args s 0 0 (uA G)) (F0 m 47 ls [])) (k57 : UH → Int32 → Int32 → Int32 → Int32 → Int32 → Option (Int32 × UH)) (hk57 : ∀ (u : UH) (x1 : Int32) (x2 : Int32) (x3 : Int32) (x4 : Int32) (x5 : Int32), k57 u x1 x2 x3 x4 x5 = some (r, uf) → ∀ (H : Heap) (locs : List Loc), uP G u H → va_S (uA G) s.heap H locs → ∀ ls : Array Slot, lv_has ls 8 [(0, va_rf (some a0)), (1, .int x1), (2, .int x2), (3, .int x3), (4, .int x4), (5, .int x5)] → W p l e R s m args below meth c H locs 0 0 (MQ below (uQi G r uf) args s 0 0 (uA G)) (F0 m 57 ls [])) : ∀ (n : Nat) (u : UH) (x1 : Int32) (x2 : Int32) (x3 : Int32) (x4 : Int32) (x5 : Int32) (x6 : Int32), f_X3_tryAt_74 N (ub G) (ug G) a0 k47 k57 n u x1 x2 x3 x4 x5 x6 = some (r, uf) → ∀ (H : Heap) (locs : List Loc), uP G u H → va_S (uA G) s.heap H locs → ∀ ls : Array Slot, lv_has ls 8 [(0, va_rf (some a0)), (1, .int x1), (2, .int x2), (3, .int x3), (4, .int x4), (5, .int x5), (6, .int x6)] → W p l e R s m args below meth c H locs 0 0 (MQ below (uQi G r uf) args s 0 0 (uA G)) (F0 m 74 ls []) := by
  obtain ⟨⟨hx, hb, hml, hown, hts⟩, hKK⟩ := id hC
  intro n
  induction n with
  | zero =>
    intro u x1 x2 x3 x4 x5 x6 h
    cases h
  | succ n ih =>
    intro u x1 x2 x3 x4 x5 x6 h H locs hP hS ls hl
    unfold f_X3_tryAt_74 at h
    refine lv_iload hx hb dX3_tryAt_74 (lv_at hl 6 rfl) ?_
    refine u_aload_n (r := some a0) hx hb dX3_tryAt_76 rfl (lv_at hl 0 rfl) ?_
    obtain ⟨y1, hy1, h⟩ := mbind_n h
    refine u_get hC hP (uGI_n hy1) rfl in_X3 (by decide) q1917 (fun _ h => h) dX3_tryAt_77 ?_
    refine lv_icmp_ge (tgt := 153) hx hb dX3_tryAt_80 (by decide) (fun c2 => ?_) (fun c2 => ?_)
    · have h := mif_t c2 h
      exact w_X3_tryAt_153 hC hR N k47 hk47 k57 hk57 u x1 x2 x3 x4 x5 h hP hS (lv_sub hl [0, 1, 2, 3, 4, 5] rfl)
    · have h := mif_f c2 h
      refine lv_iload hx hb dX3_tryAt_83 (lv_at hl 4 rfl) ?_
      refine lv_if_ge (tgt := 153) hx hb dX3_tryAt_85 (by decide) (fun c3 => ?_) (fun c3 => ?_)
      · have h := mif_t c3 h
        exact w_X3_tryAt_153 hC hR N k47 hk47 k57 hk57 u x1 x2 x3 x4 x5 h hP hS (lv_sub hl [0, 1, 2, 3, 4, 5] rfl)
      · have h := mif_f c3 h
        refine u_aload_n (r := some a0) hx hb dX3_tryAt_88 rfl (lv_at hl 0 rfl) ?_
        obtain ⟨o4, ho4, h⟩ := mbind_n h
        refine u_get hC hP (uGR_n ho4) rfl in_X3 (by decide) q1961 (fun _ h => h) dX3_tryAt_89 ?_
        refine u_aload_n (r := some a0) hx hb dX3_tryAt_92 rfl (lv_at hl 0 rfl) ?_
        refine lv_iload_n hx hb dX3_tryAt_93 rfl (lv_at hl 2 rfl) ?_
        refine lv_iload hx hb dX3_tryAt_94 (lv_at hl 5 rfl) ?_
        refine lv_iload hx hb dX3_tryAt_96 (lv_at hl 6 rfl) ?_
        obtain ⟨c5, h⟩ := mif_n h
        obtain ⟨r8, u6, c7, h⟩ := ucall_n h
        have zu6 := zz_X3_behind N (ub G) (ug G) u a0 x2 x5 x6 r8 u6 c7
        refine u_calli (va_runV (As := [.int x2, .int x5, .int x6]) (rest := [va_rf o4]) hC.1 (met_X3_behind l N G u a0 x2 x5 x6 r8 u6 c7) (cwV 3 hts (lw_V q2521 q2523 qs94 q103 q2524) rfl rfl rfl (by decide +kernel) ⟨Nat.le_trans (Nat.le_of_ble_eq_true rfl) hR.1, Nat.le_trans (Nat.le_of_ble_eq_true rfl) hR.2⟩) ⟨uPc_blind, u_rcv hC hP c5 rfl, fun U hU hW => u_pre hC hP hS hU hW⟩ rfl rfl hl.1 rfl (lv_room (by simp only [List.map, u_cat]; exact Nat.le_of_ble_eq_true rfl)) dX3_tryAt_98 ⟨Nat.zero_le _, Nat.zero_le _⟩) hS (fun H locs hP hS => ?_)
        obtain ⟨a9, ha9, hha9⟩ := mbind_n h
        subst ha9
        have h := hha9
        obtain ⟨y10, hy10, h⟩ := mbind_n h
        refine u_iald hC hP hy10 rfl dX3_tryAt_101 ?_
        refine lv_istore (lv' := [(7, .int y10), (0, va_rf (some a0)), (1, .int x1), (2, .int x2), (3, .int x3), (4, .int x4), (5, .int x5), (6, .int x6)]) hx hb dX3_tryAt_102 hl (by decide) rfl (fun ls hl => ?_)
        refine lv_iload hx hb dX3_tryAt_104 (lv_at hl 0 rfl) ?_
        refine lv_ldcw hx hb hown (hts _ q2520) dX3_tryAt_106 ?_
        refine lv_icmp_ge (tgt := 147) hx hb dX3_tryAt_109 (by decide) (fun c11 => ?_) (fun c11 => ?_)
        · have h := mif_t c11 h
          exact w_X3_tryAt_147 hC hR N k47 hk47 k57 hk57 (f_X3_tryAt_74 N (ub G) (ug G) a0 k47 k57 n) ih u6 x1 x2 x3 x4 x5 x6 h hP hS (lv_sub hl [1, 2, 3, 4, 5, 6, 7] rfl)
        · have h := mif_f c11 h
          refine lv_iload hx hb dX3_tryAt_112 (lv_at hl 0 rfl) ?_
          refine lv_sipush (v := 10000) hx hb dX3_tryAt_114 (by decide) ?_
          refine u_aload_n (r := some a0) hx hb dX3_tryAt_117 rfl (lv_at hl 1 rfl) ?_
          obtain ⟨o12, ho12, h⟩ := mbind_n h
          refine u_get hC hP (uGR_n ho12) rfl in_X3 (by decide) q1925 (fun _ h => h) dX3_tryAt_118 ?_
          refine lv_iload hx hb dX3_tryAt_121 (lv_at hl 6 rfl) ?_
          obtain ⟨a13, ha13, hha13⟩ := mbind_n h
          subst ha13
          have h := hha13
          obtain ⟨y14, hy14, h⟩ := mbind_n h
          refine u_iald hC hP hy14 rfl dX3_tryAt_123 ?_
          refine lv_imul hx hb dX3_tryAt_124 ?_
          refine lv_iadd hx hb dX3_tryAt_125 ?_
          refine lv_iconst (v := 1) hx hb dX3_tryAt_126 (by decide) ?_
          refine lv_iadd hx hb dX3_tryAt_127 ?_
          refine u_aload_n (r := some a0) hx hb dX3_tryAt_128 rfl (lv_at hl 1 rfl) ?_
          obtain ⟨o15, ho15, h⟩ := mbind_n h
          refine u_get hC hP (uGR_n ho15) rfl in_X3 (by decide) q1961 (fun _ h => h) dX3_tryAt_129 ?_
          refine lv_iload_n hx hb dX3_tryAt_132 rfl (lv_at hl 3 rfl) ?_
          obtain ⟨a16, ha16, hha16⟩ := mbind_n h
          subst ha16
          have h := hha16
          obtain ⟨y17, hy17, h⟩ := mbind_n h
          refine u_iald hC hP hy17 rfl dX3_tryAt_133 ?_
          refine lv_icmp_ne (tgt := 147) hx hb dX3_tryAt_134 (by decide) (fun c18 => ?_) (fun c18 => ?_)
          · have h := mif_f c18 h
            exact w_X3_tryAt_147 hC hR N k47 hk47 k57 hk57 (f_X3_tryAt_74 N (ub G) (ug G) a0 k47 k57 n) ih u6 x1 x2 x3 x4 x5 x6 h hP hS (lv_sub hl [1, 2, 3, 4, 5, 6, 7] rfl)
          · have h := mif_t c18 h
            refine lv_bipush (v := 10) hx hb dX3_tryAt_137 (by decide) ?_
            refine lv_iload hx hb dX3_tryAt_139 (lv_at hl 6 rfl) ?_
            refine lv_imul hx hb dX3_tryAt_141 ?_
            refine lv_iload hx hb dX3_tryAt_142 (lv_at hl 7 rfl) ?_
            refine lv_iadd hx hb dX3_tryAt_144 ?_
            refine lv_topi (fun y19 ey19 => ?_)
            have h := mlet_at ey19 h
            refine lv_istore (lv' := [(4, .int y19), (7, .int y10), (0, va_rf (some a0)), (1, .int x1), (2, .int x2), (3, .int x3), (5, .int x5), (6, .int x6)]) hx hb dX3_tryAt_145 hl (by decide) rfl (fun ls hl => ?_)
            exact w_X3_tryAt_147 hC hR N k47 hk47 k57 hk57 (f_X3_tryAt_74 N (ub G) (ug G) a0 k47 k57 n) ih u6 x1 x2 x3 y19 x5 x6 h hP hS (lv_sub hl [2, 3, 4, 5, 0, 6, 7] rfl)
def f_X3_tryAt_57 (N b : Nat) (g : uEnv) (a0 : Nat) (k47 : UH → Int32 → Int32 → Int32 → Option (Int32 × UH)) : Nat → UH → Int32 → Int32 → Int32 → Int32 → Int32 → Option (Int32 × UH)
  | 0, _, _, _, _, _, _ => none
  | n + 1, u, x1, x2, x3, x4, x5 =>
    (uGI u a0 2 23).bind fun y1 =>
    if y1 ≤ x5 then
    f_X3_tryAt_159 N b g a0 k47 u x1 x2 x3 x4
    else
    if 0 ≤ x4 then
    f_X3_tryAt_159 N b g a0 k47 u x1 x2 x3 x4
    else
    f_X3_tryAt_74 N b g a0 k47 (f_X3_tryAt_57 N b g a0 k47 n) N u x1 x2 x3 x4 x5 0
set_option maxHeartbeats 4000000 in
set_option maxRecDepth 100000 in
theorem zz_X3_tryAt_57 {G : uG} {a0 : Nat} {uf : UH} {r : Int32} (N : Nat) (k47 : UH → Int32 → Int32 → Int32 → Option (Int32 × UH)) (hk47 : ∀ (u : UH) (x1 : Int32) (x2 : Int32) (x3 : Int32), k47 u x1 x2 x3 = some (r, uf) → uf.1 = u.1 ∧ uf.2.1 = u.2.1) : ∀ (n : Nat) (u : UH) (x1 : Int32) (x2 : Int32) (x3 : Int32) (x4 : Int32) (x5 : Int32), f_X3_tryAt_57 N (ub G) (ug G) a0 k47 n u x1 x2 x3 x4 x5 = some (r, uf) → uf.1 = u.1 ∧ uf.2.1 = u.2.1 := by
  intro n
  induction n with
  | zero =>
    intro u x1 x2 x3 x4 x5 h
    cases h
  | succ n ih =>
    intro u x1 x2 x3 x4 x5 h
    unfold f_X3_tryAt_57 at h
    obtain ⟨y1, hy1, h⟩ := mbind_n h
    by_cases c2 : y1 ≤ x5
    · have h := mif_t c2 h
      have hq := zz_X3_tryAt_159 (G := G) (a0 := a0) N k47 hk47 u x1 x2 x3 x4 h
      exact ⟨by omega, by omega⟩
    · have h := mif_f c2 h
      by_cases c3 : 0 ≤ x4
      · have h := mif_t c3 h
        have hq := zz_X3_tryAt_159 (G := G) (a0 := a0) N k47 hk47 u x1 x2 x3 x4 h
        exact ⟨by omega, by omega⟩
      · have h := mif_f c3 h
        have hq := zz_X3_tryAt_74 (G := G) (a0 := a0) N k47 hk47 (f_X3_tryAt_57 N (ub G) (ug G) a0 k47 n) ih N u x1 x2 x3 x4 x5 0 h
        exact ⟨by omega, by omega⟩
set_option maxHeartbeats 4000000 in
set_option maxRecDepth 100000 in
theorem w_X3_tryAt_57 {p : Program} {l : Launch} {e : Env} {R : Room} {s : State} {m : MethodId} {args : Array Value} {below : List Frame} {meth : Method} {c : Code} {G : uG} {a0 : Nat} {uf : UH} {r : Int32} (hC : uC p s m args meth c G RX3 cX3_tryAt 8 (some .int)) (hR : 2 ≤ R.frames ∧ 54 ≤ R.locals) (N : Nat) (k47 : UH → Int32 → Int32 → Int32 → Option (Int32 × UH)) (hk47 : ∀ (u : UH) (x1 : Int32) (x2 : Int32) (x3 : Int32), k47 u x1 x2 x3 = some (r, uf) → ∀ (H : Heap) (locs : List Loc), uP G u H → va_S (uA G) s.heap H locs → ∀ ls : Array Slot, lv_has ls 8 [(0, va_rf (some a0)), (1, .int x1), (2, .int x2), (3, .int x3)] → W p l e R s m args below meth c H locs 0 0 (MQ below (uQi G r uf) args s 0 0 (uA G)) (F0 m 47 ls [])) : ∀ (n : Nat) (u : UH) (x1 : Int32) (x2 : Int32) (x3 : Int32) (x4 : Int32) (x5 : Int32), f_X3_tryAt_57 N (ub G) (ug G) a0 k47 n u x1 x2 x3 x4 x5 = some (r, uf) → ∀ (H : Heap) (locs : List Loc), uP G u H → va_S (uA G) s.heap H locs → ∀ ls : Array Slot, lv_has ls 8 [(0, va_rf (some a0)), (1, .int x1), (2, .int x2), (3, .int x3), (4, .int x4), (5, .int x5)] → W p l e R s m args below meth c H locs 0 0 (MQ below (uQi G r uf) args s 0 0 (uA G)) (F0 m 57 ls []) := by
  obtain ⟨⟨hx, hb, hml, hown, hts⟩, hKK⟩ := id hC
  intro n
  induction n with
  | zero =>
    intro u x1 x2 x3 x4 x5 h
    cases h
  | succ n ih =>
    intro u x1 x2 x3 x4 x5 h H locs hP hS ls hl
    unfold f_X3_tryAt_57 at h
    refine lv_iload hx hb dX3_tryAt_57 (lv_at hl 5 rfl) ?_
    refine u_aload_n (r := some a0) hx hb dX3_tryAt_59 rfl (lv_at hl 0 rfl) ?_
    obtain ⟨y1, hy1, h⟩ := mbind_n h
    refine u_get hC hP (uGI_n hy1) rfl in_X3 (by decide) q1916 (fun _ h => h) dX3_tryAt_60 ?_
    refine lv_icmp_ge (tgt := 159) hx hb dX3_tryAt_63 (by decide) (fun c2 => ?_) (fun c2 => ?_)
    · have h := mif_t c2 h
      exact w_X3_tryAt_159 hC hR N k47 hk47 u x1 x2 x3 x4 h hP hS (lv_sub hl [0, 1, 2, 3, 4] rfl)
    · have h := mif_f c2 h
      refine lv_iload hx hb dX3_tryAt_66 (lv_at hl 4 rfl) ?_
      refine lv_if_ge (tgt := 159) hx hb dX3_tryAt_68 (by decide) (fun c3 => ?_) (fun c3 => ?_)
      · have h := mif_t c3 h
        exact w_X3_tryAt_159 hC hR N k47 hk47 u x1 x2 x3 x4 h hP hS (lv_sub hl [0, 1, 2, 3, 4] rfl)
      · have h := mif_f c3 h
        refine lv_iconst (v := 0) hx hb dX3_tryAt_71 (by decide) ?_
        refine lv_istore (lv' := [(6, .int 0), (0, va_rf (some a0)), (1, .int x1), (2, .int x2), (3, .int x3), (4, .int x4), (5, .int x5)]) hx hb dX3_tryAt_72 hl (by decide) rfl (fun ls hl => ?_)
        exact w_X3_tryAt_74 hC hR N k47 hk47 (f_X3_tryAt_57 N (ub G) (ug G) a0 k47 n) ih N u x1 x2 x3 x4 x5 0 h _ _ hP hS _ (lv_sub hl [1, 2, 3, 4, 5, 6, 0] rfl)
def f_X3_tryAt_47 (N b : Nat) (g : uEnv) (a0 : Nat) : Nat → UH → Int32 → Int32 → Int32 → Option (Int32 × UH)
  | 0, _, _, _, _ => none
  | n + 1, u, x1, x2, x3 =>
    if x2 ≤ 0 then
    some ((-2), u)
    else
    f_X3_tryAt_57 N b g a0 (f_X3_tryAt_47 N b g a0 n) N u x1 x2 x3 (-1) 0
set_option maxHeartbeats 4000000 in
set_option maxRecDepth 100000 in
theorem zz_X3_tryAt_47 {G : uG} {a0 : Nat} {uf : UH} {r : Int32} (N : Nat) : ∀ (n : Nat) (u : UH) (x1 : Int32) (x2 : Int32) (x3 : Int32), f_X3_tryAt_47 N (ub G) (ug G) a0 n u x1 x2 x3 = some (r, uf) → uf.1 = u.1 ∧ uf.2.1 = u.2.1 := by
  intro n
  induction n with
  | zero =>
    intro u x1 x2 x3 h
    cases h
  | succ n ih =>
    intro u x1 x2 x3 h
    unfold f_X3_tryAt_47 at h
    by_cases c1 : x2 ≤ 0
    · have h := mif_t c1 h
      obtain ⟨hr1, hr2⟩ := uret_n h
      subst hr2
      exact ⟨by omega, by omega⟩
    · have h := mif_f c1 h
      have hq := zz_X3_tryAt_57 (G := G) (a0 := a0) N (f_X3_tryAt_47 N (ub G) (ug G) a0 n) ih N u x1 x2 x3 (-1) 0 h
      exact ⟨by omega, by omega⟩
set_option maxHeartbeats 4000000 in
set_option maxRecDepth 100000 in
theorem w_X3_tryAt_47 {p : Program} {l : Launch} {e : Env} {R : Room} {s : State} {m : MethodId} {args : Array Value} {below : List Frame} {meth : Method} {c : Code} {G : uG} {a0 : Nat} {uf : UH} {r : Int32} (hC : uC p s m args meth c G RX3 cX3_tryAt 8 (some .int)) (hR : 2 ≤ R.frames ∧ 54 ≤ R.locals) (N : Nat) : ∀ (n : Nat) (u : UH) (x1 : Int32) (x2 : Int32) (x3 : Int32), f_X3_tryAt_47 N (ub G) (ug G) a0 n u x1 x2 x3 = some (r, uf) → ∀ (H : Heap) (locs : List Loc), uP G u H → va_S (uA G) s.heap H locs → ∀ ls : Array Slot, lv_has ls 8 [(0, va_rf (some a0)), (1, .int x1), (2, .int x2), (3, .int x3)] → W p l e R s m args below meth c H locs 0 0 (MQ below (uQi G r uf) args s 0 0 (uA G)) (F0 m 47 ls []) := by
  obtain ⟨⟨hx, hb, hml, hown, hts⟩, hKK⟩ := id hC
  intro n
  induction n with
  | zero =>
    intro u x1 x2 x3 h
    cases h
  | succ n ih =>
    intro u x1 x2 x3 h H locs hP hS ls hl
    unfold f_X3_tryAt_47 at h
    refine lv_iload_n hx hb dX3_tryAt_47 rfl (lv_at hl 2 rfl) ?_
    refine lv_if_le (tgt := 189) hx hb dX3_tryAt_48 (by decide) (fun c1 => ?_) (fun c1 => ?_)
    · have h := mif_t c1 h
      refine lv_bipush (v := (-2)) hx hb dX3_tryAt_189 (by decide) ?_
      obtain ⟨hr1, hr2⟩ := uret_n h
      subst hr1
      subst hr2
      exact u_iret hC hP hS dX3_tryAt_191
    · have h := mif_f c1 h
      refine lv_iconst (v := (-1)) hx hb dX3_tryAt_51 (by decide) ?_
      refine lv_istore (lv' := [(4, .int (-1)), (0, va_rf (some a0)), (1, .int x1), (2, .int x2), (3, .int x3)]) hx hb dX3_tryAt_52 hl (by decide) rfl (fun ls hl => ?_)
      refine lv_iconst (v := 0) hx hb dX3_tryAt_54 (by decide) ?_
      refine lv_istore (lv' := [(5, .int 0), (4, .int (-1)), (0, va_rf (some a0)), (1, .int x1), (2, .int x2), (3, .int x3)]) hx hb dX3_tryAt_55 hl (by decide) rfl (fun ls hl => ?_)
      exact w_X3_tryAt_57 hC hR N (f_X3_tryAt_47 N (ub G) (ug G) a0 n) ih N u x1 x2 x3 (-1) 0 h _ _ hP hS _ (lv_sub hl [2, 3, 4, 5, 1, 0] rfl)
def f_X3_tryAt (N b : Nat) (g : uEnv) (u : UH) (a0 : Nat) (x1 : Int32) : Option (Int32 × UH) :=
    if uIs u a0 2 = true then
    (f_X3_good N b g u a0).bind fun u2 =>
    (uGI u2 a0 2 12).bind fun y4 =>
    if y4 = 0 then
    f_X3_tryAt_15 N b g a0 u2
    else
    if 0 ≤ x1 then
    if uIs u2 a0 2 = true then
    (f_X3_digs N b g u2 a0).bind fun u8 =>
    if uIs u8 a0 2 = true then
    ucall (f_X3_digState N b g u8 a0) fun r13 u11 =>
    (uGR u11 a0 2 68).bind fun o14 =>
    (o14).bind fun a15 =>
    (uLdI u11 a15 0 r13).bind fun y16 =>
    if y16 = 2000000000 then
    some ((-2), u11)
    else
    f_X3_tryAt_47 N b g a0 N u11 x1 r13 0
    else none
    else none
    else
    f_X3_tryAt_15 N b g a0 u2
    else none
set_option maxHeartbeats 4000000 in
set_option maxRecDepth 100000 in
theorem zz_X3_tryAt_0 {G : uG} {a0 : Nat} {uf : UH} {r : Int32} (N : Nat) (u : UH) (x1 : Int32) (h : f_X3_tryAt N (ub G) (ug G) u a0 x1 = some (r, uf)) : uf.1 = u.1 ∧ uf.2.1 = u.2.1 := by
  unfold f_X3_tryAt at h
  obtain ⟨c1, h⟩ := mif_n h
  obtain ⟨u2, c3, h⟩ := mbind_n h
  have zu2 := zz_X3_good N (ub G) (ug G) u a0 u2 c3
  obtain ⟨y4, hy4, h⟩ := mbind_n h
  by_cases c5 : y4 = 0
  · have h := mif_t c5 h
    have hq := zz_X3_tryAt_15 (G := G) (a0 := a0) N u2 h
    exact ⟨by omega, by omega⟩
  · have h := mif_f c5 h
    by_cases c6 : 0 ≤ x1
    · have h := mif_t c6 h
      obtain ⟨c7, h⟩ := mif_n h
      obtain ⟨u8, c9, h⟩ := mbind_n h
      have zu8 := zz_X3_digs N (ub G) (ug G) u2 a0 u8 c9
      obtain ⟨c10, h⟩ := mif_n h
      obtain ⟨r13, u11, c12, h⟩ := ucall_n h
      have zu11 := zz_X3_digState N (ub G) (ug G) u8 a0 r13 u11 c12
      obtain ⟨o14, ho14, h⟩ := mbind_n h
      obtain ⟨a15, ha15, hha15⟩ := mbind_n h
      subst ha15
      have h := hha15
      obtain ⟨y16, hy16, h⟩ := mbind_n h
      by_cases c17 : y16 = 2000000000
      · have h := mif_t c17 h
        obtain ⟨hr1, hr2⟩ := uret_n h
        subst hr2
        exact ⟨by omega, by omega⟩
      · have h := mif_f c17 h
        have hq := zz_X3_tryAt_47 (G := G) (a0 := a0) N N u11 x1 r13 0 h
        exact ⟨by omega, by omega⟩
    · have h := mif_f c6 h
      have hq := zz_X3_tryAt_15 (G := G) (a0 := a0) N u2 h
      exact ⟨by omega, by omega⟩
set_option maxHeartbeats 4000000 in
set_option maxRecDepth 100000 in
theorem w_X3_tryAt_0 {p : Program} {l : Launch} {e : Env} {R : Room} {s : State} {m : MethodId} {args : Array Value} {below : List Frame} {meth : Method} {c : Code} {G : uG} {a0 : Nat} {uf : UH} {r : Int32} (hC : uC p s m args meth c G RX3 cX3_tryAt 8 (some .int)) (hR : 2 ≤ R.frames ∧ 54 ≤ R.locals) (N : Nat) (u : UH) (x1 : Int32) (h : f_X3_tryAt N (ub G) (ug G) u a0 x1 = some (r, uf)) {H : Heap} {locs : List Loc} (hP : uP G u H) (hS : va_S (uA G) s.heap H locs) {ls : Array Slot} (hl : lv_has ls 8 [(0, va_rf (some a0)), (1, .int x1)]) : W p l e R s m args below meth c H locs 0 0 (MQ below (uQi G r uf) args s 0 0 (uA G)) (F0 m 0 ls []) := by
  obtain ⟨⟨hx, hb, hml, hown, hts⟩, hKK⟩ := id hC
  unfold f_X3_tryAt at h
  refine u_aload_n (r := some a0) hx hb dX3_tryAt_0 rfl (lv_at hl 0 rfl) ?_
  obtain ⟨c1, h⟩ := mif_n h
  obtain ⟨u2, c3, h⟩ := mbind_n h
  have zu2 := zz_X3_good N (ub G) (ug G) u a0 u2 c3
  refine u_callv (va_runV (As := []) (rest := []) hC.1 (met_X3_good l N G u a0 u2 c3) (cwV 0 hts (lw_V q2131 q2133 qs40 q103 q2134) rfl rfl rfl (by decide +kernel) ⟨Nat.le_trans (Nat.le_of_ble_eq_true rfl) hR.1, Nat.le_trans (Nat.le_of_ble_eq_true rfl) hR.2⟩) ⟨uPc_blind, u_rcv hC hP c1 rfl, fun U hU hW => u_pre hC hP hS hU hW⟩ rfl rfl hl.1 rfl (lv_room (Nat.le_of_ble_eq_true rfl)) dX3_tryAt_1 ⟨Nat.zero_le _, Nat.zero_le _⟩) hS (fun H locs hP hS => ?_)
  refine u_aload_n (r := some a0) hx hb dX3_tryAt_4 rfl (lv_at hl 0 rfl) ?_
  obtain ⟨y4, hy4, h⟩ := mbind_n h
  refine u_get hC hP (uGI_n hy4) rfl in_X3 (by decide) q1905 (fun _ h => h) dX3_tryAt_5 ?_
  refine lv_if_eq (tgt := 15) hx hb dX3_tryAt_8 (by decide) (fun c5 => ?_) (fun c5 => ?_)
  · have h := mif_t c5 h
    exact w_X3_tryAt_15 hC hR N u2 h hP hS (lv_sub hl [0] rfl)
  · have h := mif_f c5 h
    refine lv_iload_n hx hb dX3_tryAt_11 rfl (lv_at hl 1 rfl) ?_
    refine lv_if_ge (tgt := 21) hx hb dX3_tryAt_12 (by decide) (fun c6 => ?_) (fun c6 => ?_)
    · have h := mif_t c6 h
      refine u_aload_n (r := some a0) hx hb dX3_tryAt_21 rfl (lv_at hl 0 rfl) ?_
      obtain ⟨c7, h⟩ := mif_n h
      obtain ⟨u8, c9, h⟩ := mbind_n h
      have zu8 := zz_X3_digs N (ub G) (ug G) u2 a0 u8 c9
      refine u_callv (va_runV (As := []) (rest := []) hC.1 (met_X3_digs l N G u2 a0 u8 c9) (cwV 0 hts (lw_V q2516 q2518 qs93 q103 q2519) rfl rfl rfl (by decide +kernel) ⟨Nat.le_trans (Nat.le_of_ble_eq_true rfl) hR.1, Nat.le_trans (Nat.le_of_ble_eq_true rfl) hR.2⟩) ⟨uPc_blind, u_rcv hC hP c7 rfl, fun U hU hW => u_pre hC hP hS hU hW⟩ rfl rfl hl.1 rfl (lv_room (Nat.le_of_ble_eq_true rfl)) dX3_tryAt_22 ⟨Nat.zero_le _, Nat.zero_le _⟩) hS (fun H locs hP hS => ?_)
      refine u_aload_n (r := some a0) hx hb dX3_tryAt_25 rfl (lv_at hl 0 rfl) ?_
      obtain ⟨c10, h⟩ := mif_n h
      obtain ⟨r13, u11, c12, h⟩ := ucall_n h
      have zu11 := zz_X3_digState N (ub G) (ug G) u8 a0 r13 u11 c12
      refine u_calli (va_runV (As := []) (rest := []) hC.1 (met_X3_digState l N G u8 a0 r13 u11 c12) (cwV 0 hts (lw_V q2525 q2527 qs95 q103 q2528) rfl rfl rfl (by decide +kernel) ⟨Nat.le_trans (Nat.le_of_ble_eq_true rfl) hR.1, Nat.le_trans (Nat.le_of_ble_eq_true rfl) hR.2⟩) ⟨uPc_blind, u_rcv hC hP c10 rfl, fun U hU hW => u_pre hC hP hS hU hW⟩ rfl rfl hl.1 rfl (lv_room (Nat.le_of_ble_eq_true rfl)) dX3_tryAt_26 ⟨Nat.zero_le _, Nat.zero_le _⟩) hS (fun H locs hP hS => ?_)
      refine lv_istore_n (i := 2) (lv' := [(2, .int r13), (0, va_rf (some a0)), (1, .int x1)]) hx hb dX3_tryAt_29 rfl hl (by decide) rfl (fun ls hl => ?_)
      refine u_aload_n (r := some a0) hx hb dX3_tryAt_30 rfl (lv_at hl 1 rfl) ?_
      obtain ⟨o14, ho14, h⟩ := mbind_n h
      refine u_get hC hP (uGR_n ho14) rfl in_X3 (by decide) q1961 (fun _ h => h) dX3_tryAt_31 ?_
      refine lv_iload_n hx hb dX3_tryAt_34 rfl (lv_at hl 0 rfl) ?_
      obtain ⟨a15, ha15, hha15⟩ := mbind_n h
      subst ha15
      have h := hha15
      obtain ⟨y16, hy16, h⟩ := mbind_n h
      refine u_iald hC hP hy16 rfl dX3_tryAt_35 ?_
      refine lv_ldcw hx hb hown (hts _ q2520) dX3_tryAt_36 ?_
      refine lv_icmp_ne (tgt := 45) hx hb dX3_tryAt_39 (by decide) (fun c17 => ?_) (fun c17 => ?_)
      · have h := mif_f c17 h
        refine lv_iconst (v := 0) hx hb dX3_tryAt_45 (by decide) ?_
        refine lv_istore_n (i := 3) (lv' := [(3, .int 0), (2, .int r13), (0, va_rf (some a0)), (1, .int x1)]) hx hb dX3_tryAt_46 rfl hl (by decide) rfl (fun ls hl => ?_)
        exact w_X3_tryAt_47 hC hR N N u11 x1 r13 0 h _ _ hP hS _ (lv_sub hl [2, 3, 1, 0] rfl)
      · have h := mif_t c17 h
        refine lv_bipush (v := (-2)) hx hb dX3_tryAt_42 (by decide) ?_
        obtain ⟨hr1, hr2⟩ := uret_n h
        subst hr1
        subst hr2
        exact u_iret hC hP hS dX3_tryAt_44
    · have h := mif_f c6 h
      exact w_X3_tryAt_15 hC hR N u2 h hP hS (lv_sub hl [0] rfl)
theorem zz_X3_tryAt (N b : Nat) (g : uEnv) (u : UH) (a0 : Nat) (x1 : Int32) (r : Int32) (uf : UH) (h : f_X3_tryAt N b g u a0 x1 = some (r, uf)) : uf.1 = u.1 ∧ uf.2.1 = u.2.1 :=
  zz_X3_tryAt_0 (G := ((fun _ => 0, fun _ _ => 0), fun _ => 0, b, g)) (a0 := a0) N u x1 h
theorem met_X3_tryAt (l : Launch) (N : Nat) (G : uG) (u : UH) (a0 : Nat) (x1 : Int32) (r : Int32) (uf : UH) (h : f_X3_tryAt N (ub G) (ug G) u a0 x1 = some (r, uf)) : Met l yX3_tryAt (ws_ yX3_tryAt cX3_tryAt 8 (some .int)) ({ frames := 2, cells := 0, slots := 0, locals := 54 }) (uPc G u [.ref a0, .int x1]) (uQi G r uf) 0 0 (uA G) := by
  exact u_met (own := RX3) (by decide +kernel) rfl (Nat.le_of_ble_eq_true rfl) (fun hC hn hsz ls hl hP => w_X3_tryAt_0 hC ⟨Nat.le_refl _, Nat.le_refl _⟩ N u x1 h hP va_S.rf hl)
def f_X3_way_20 (N b : Nat) (g : uEnv) (a0 : Nat) (u : UH) : Option (Int32 × UH) :=
    if uIs u a0 2 = true then
    ucall (f_X3_no N b g u a0 1) fun r4 u2 =>
    some (r4, u2)
    else none
set_option maxHeartbeats 4000000 in
set_option maxRecDepth 100000 in
theorem zz_X3_way_20 {G : uG} {a0 : Nat} {uf : UH} {r : Int32} (N : Nat) (u : UH) (h : f_X3_way_20 N (ub G) (ug G) a0 u = some (r, uf)) : uf.1 = u.1 ∧ uf.2.1 = u.2.1 := by
  unfold f_X3_way_20 at h
  obtain ⟨c1, h⟩ := mif_n h
  obtain ⟨r4, u2, c3, h⟩ := ucall_n h
  have zu2 := zz_X3_no N (ub G) (ug G) u a0 1 r4 u2 c3
  obtain ⟨hr1, hr2⟩ := uret_n h
  subst hr2
  exact ⟨by omega, by omega⟩
set_option maxHeartbeats 4000000 in
set_option maxRecDepth 100000 in
theorem w_X3_way_20 {p : Program} {l : Launch} {e : Env} {R : Room} {s : State} {m : MethodId} {args : Array Value} {below : List Frame} {meth : Method} {c : Code} {G : uG} {a0 : Nat} {uf : UH} {r : Int32} (hC : uC p s m args meth c G RX3 cX3_way 5 (some .int)) (hR : 7 ≤ R.frames ∧ 177 ≤ R.locals) (N : Nat) (u : UH) (h : f_X3_way_20 N (ub G) (ug G) a0 u = some (r, uf)) {H : Heap} {locs : List Loc} (hP : uP G u H) (hS : va_S (uA G) s.heap H locs) {ls : Array Slot} (hl : lv_has ls 5 [(0, va_rf (some a0))]) : W p l e R s m args below meth c H locs 0 0 (MQ below (uQi G r uf) args s 0 0 (uA G)) (F0 m 20 ls []) := by
  obtain ⟨⟨hx, hb, hml, hown, hts⟩, hKK⟩ := id hC
  unfold f_X3_way_20 at h
  refine u_aload_n (r := some a0) hx hb dX3_way_20 rfl (lv_at hl 0 rfl) ?_
  refine lv_iconst (v := 1) hx hb dX3_way_21 (by decide) ?_
  obtain ⟨c1, h⟩ := mif_n h
  obtain ⟨r4, u2, c3, h⟩ := ucall_n h
  have zu2 := zz_X3_no N (ub G) (ug G) u a0 1 r4 u2 c3
  refine u_calli (va_runV (As := [.int 1]) (rest := []) hC.1 (met_X3_no l N G u a0 1 r4 u2 c3) (cwV 1 hts (lw_V q2138 q2140 qs41 q103 q2141) rfl rfl rfl (by decide +kernel) ⟨Nat.le_trans (Nat.le_of_ble_eq_true rfl) hR.1, Nat.le_trans (Nat.le_of_ble_eq_true rfl) hR.2⟩) ⟨uPc_blind, u_rcv hC hP c1 rfl, fun U hU hW => u_pre hC hP hS hU hW⟩ rfl rfl hl.1 rfl (lv_room (Nat.le_of_ble_eq_true rfl)) dX3_way_22 ⟨Nat.zero_le _, Nat.zero_le _⟩) hS (fun H locs hP hS => ?_)
  obtain ⟨hr1, hr2⟩ := uret_n h
  subst hr1
  subst hr2
  exact u_iret hC hP hS dX3_way_25
def f_X3_way_65 (N b : Nat) (g : uEnv) (a0 : Nat) (k29 : UH → Int32 → Int32 → Int32 → Int32 → Option (Int32 × UH)) (u : UH) (x1 : Int32) (x2 : Int32) (x3 : Int32) (x4 : Int32) : Option (Int32 × UH) :=
    mlet (x4 + 1) fun y1 =>
    k29 u x1 x2 x3 y1
set_option maxHeartbeats 4000000 in
set_option maxRecDepth 100000 in
theorem zz_X3_way_65 {G : uG} {a0 : Nat} {uf : UH} {r : Int32} (N : Nat) (k29 : UH → Int32 → Int32 → Int32 → Int32 → Option (Int32 × UH)) (hk29 : ∀ (u : UH) (x1 : Int32) (x2 : Int32) (x3 : Int32) (x4 : Int32), k29 u x1 x2 x3 x4 = some (r, uf) → uf.1 = u.1 ∧ uf.2.1 = u.2.1) (u : UH) (x1 : Int32) (x2 : Int32) (x3 : Int32) (x4 : Int32) (h : f_X3_way_65 N (ub G) (ug G) a0 k29 u x1 x2 x3 x4 = some (r, uf)) : uf.1 = u.1 ∧ uf.2.1 = u.2.1 := by
  unfold f_X3_way_65 at h
  obtain ⟨y1, ey1⟩ : ∃ z : Int32, z = x4 + 1 := ⟨_, rfl⟩
  have h := mlet_at ey1 h
  have hq := hk29 u x1 x2 x3 y1 h
  exact ⟨by omega, by omega⟩
set_option maxHeartbeats 4000000 in
set_option maxRecDepth 100000 in
theorem w_X3_way_65 {p : Program} {l : Launch} {e : Env} {R : Room} {s : State} {m : MethodId} {args : Array Value} {below : List Frame} {meth : Method} {c : Code} {G : uG} {a0 : Nat} {uf : UH} {r : Int32} (hC : uC p s m args meth c G RX3 cX3_way 5 (some .int)) (hR : 7 ≤ R.frames ∧ 177 ≤ R.locals) (N : Nat) (k29 : UH → Int32 → Int32 → Int32 → Int32 → Option (Int32 × UH)) (hk29 : ∀ (u : UH) (x1 : Int32) (x2 : Int32) (x3 : Int32) (x4 : Int32), k29 u x1 x2 x3 x4 = some (r, uf) → ∀ (H : Heap) (locs : List Loc), uP G u H → va_S (uA G) s.heap H locs → ∀ ls : Array Slot, lv_has ls 5 [(0, va_rf (some a0)), (1, .int x1), (2, .int x2), (3, .int x3), (4, .int x4)] → W p l e R s m args below meth c H locs 0 0 (MQ below (uQi G r uf) args s 0 0 (uA G)) (F0 m 29 ls [])) (u : UH) (x1 : Int32) (x2 : Int32) (x3 : Int32) (x4 : Int32) (h : f_X3_way_65 N (ub G) (ug G) a0 k29 u x1 x2 x3 x4 = some (r, uf)) {H : Heap} {locs : List Loc} (hP : uP G u H) (hS : va_S (uA G) s.heap H locs) {ls : Array Slot} (hl : lv_has ls 5 [(0, va_rf (some a0)), (1, .int x1), (2, .int x2), (3, .int x3), (4, .int x4)]) : W p l e R s m args below meth c H locs 0 0 (MQ below (uQi G r uf) args s 0 0 (uA G)) (F0 m 65 ls []) := by
  obtain ⟨⟨hx, hb, hml, hown, hts⟩, hKK⟩ := id hC
  unfold f_X3_way_65 at h
  obtain ⟨y1, ey1⟩ : ∃ z : Int32, z = x4 + 1 := ⟨_, rfl⟩
  have h := mlet_at ey1 h
  refine lv_iinc (v := y1) (lv' := [(4, .int y1), (0, va_rf (some a0)), (1, .int x1), (2, .int x2), (3, .int x3)]) hx hb dX3_way_65 hl (k := 4) rfl (by rw [ey1]; rfl) (by decide) rfl (fun ls hl => ?_)
  refine lv_goto (tgt := 29) hx hb dX3_way_68 (by decide) ?_
  exact hk29 u x1 x2 x3 y1 h _ _ hP hS _ (lv_sub hl [1, 2, 3, 4, 0] rfl)
def f_X3_way_29 (N b : Nat) (g : uEnv) (a0 : Nat) : Nat → UH → Int32 → Int32 → Int32 → Int32 → Option (Int32 × UH)
  | 0, _, _, _, _, _ => none
  | n + 1, u, x1, x2, x3, x4 =>
    (uGI u a0 2 37).bind fun y1 =>
    if y1 ≤ x4 then
    if uIs u a0 2 = true then
    ucall (f_X3_from N b g u a0 x1 x2 x3) fun r6 u4 =>
    if 0 ≤ (lg_cmp r6 0) then
    if uIs u4 a0 2 = true then
    ucall (f_X3_base N b g u4 a0) fun r11 u9 =>
    if uIs u9 a0 2 = true then
    ucall (f_X3_stepOf N b g u9 a0 x1 r11) fun r15 u13 =>
    some (r15, u13)
    else none
    else none
    else
    if uIs u4 a0 2 = true then
    ucall (f_X3_no N b g u4 a0 6) fun r19 u17 =>
    some (r19, u17)
    else none
    else none
    else
    (uGR u a0 2 45).bind fun o20 =>
    (o20).bind fun a21 =>
    (uLdI u a21 0 x4).bind fun y22 =>
    if y22 = (-1) then
    if uIs u a0 2 = true then
    ucall (f_X3_isNear N b g u a0 x1 x4) fun r27 u25 =>
    if r27 = 0 then
    f_X3_way_65 N b g a0 (f_X3_way_29 N b g a0 n) u25 x1 x2 x3 x4
    else
    if uIs u25 a0 2 = true then
    ucall (f_X3_no N b g u25 a0 5) fun r32 u30 =>
    some (r32, u30)
    else none
    else none
    else
    f_X3_way_65 N b g a0 (f_X3_way_29 N b g a0 n) u x1 x2 x3 x4
set_option maxHeartbeats 4000000 in
set_option maxRecDepth 100000 in
theorem zz_X3_way_29 {G : uG} {a0 : Nat} {uf : UH} {r : Int32} (N : Nat) : ∀ (n : Nat) (u : UH) (x1 : Int32) (x2 : Int32) (x3 : Int32) (x4 : Int32), f_X3_way_29 N (ub G) (ug G) a0 n u x1 x2 x3 x4 = some (r, uf) → uf.1 = u.1 ∧ uf.2.1 = u.2.1 := by
  intro n
  induction n with
  | zero =>
    intro u x1 x2 x3 x4 h
    cases h
  | succ n ih =>
    intro u x1 x2 x3 x4 h
    unfold f_X3_way_29 at h
    obtain ⟨y1, hy1, h⟩ := mbind_n h
    by_cases c2 : y1 ≤ x4
    · have h := mif_t c2 h
      obtain ⟨c3, h⟩ := mif_n h
      obtain ⟨r6, u4, c5, h⟩ := ucall_n h
      have zu4 := zz_X3_from N (ub G) (ug G) u a0 x1 x2 x3 r6 u4 c5
      by_cases c7 : 0 ≤ (lg_cmp r6 0)
      · have h := mif_t c7 h
        obtain ⟨c8, h⟩ := mif_n h
        obtain ⟨r11, u9, c10, h⟩ := ucall_n h
        have zu9 := zz_X3_base N (ub G) (ug G) u4 a0 r11 u9 c10
        obtain ⟨c12, h⟩ := mif_n h
        obtain ⟨r15, u13, c14, h⟩ := ucall_n h
        have zu13 := zz_X3_stepOf N (ub G) (ug G) u9 a0 x1 r11 r15 u13 c14
        obtain ⟨hr1, hr2⟩ := uret_n h
        subst hr2
        exact ⟨by omega, by omega⟩
      · have h := mif_f c7 h
        obtain ⟨c16, h⟩ := mif_n h
        obtain ⟨r19, u17, c18, h⟩ := ucall_n h
        have zu17 := zz_X3_no N (ub G) (ug G) u4 a0 6 r19 u17 c18
        obtain ⟨hr1, hr2⟩ := uret_n h
        subst hr2
        exact ⟨by omega, by omega⟩
    · have h := mif_f c2 h
      obtain ⟨o20, ho20, h⟩ := mbind_n h
      obtain ⟨a21, ha21, hha21⟩ := mbind_n h
      subst ha21
      have h := hha21
      obtain ⟨y22, hy22, h⟩ := mbind_n h
      by_cases c23 : y22 = (-1)
      · have h := mif_t c23 h
        obtain ⟨c24, h⟩ := mif_n h
        obtain ⟨r27, u25, c26, h⟩ := ucall_n h
        have zu25 := zz_X3_isNear N (ub G) (ug G) u a0 x1 x4 r27 u25 c26
        by_cases c28 : r27 = 0
        · have h := mif_t c28 h
          have hq := zz_X3_way_65 (G := G) (a0 := a0) N (f_X3_way_29 N (ub G) (ug G) a0 n) ih u25 x1 x2 x3 x4 h
          exact ⟨by omega, by omega⟩
        · have h := mif_f c28 h
          obtain ⟨c29, h⟩ := mif_n h
          obtain ⟨r32, u30, c31, h⟩ := ucall_n h
          have zu30 := zz_X3_no N (ub G) (ug G) u25 a0 5 r32 u30 c31
          obtain ⟨hr1, hr2⟩ := uret_n h
          subst hr2
          exact ⟨by omega, by omega⟩
      · have h := mif_f c23 h
        have hq := zz_X3_way_65 (G := G) (a0 := a0) N (f_X3_way_29 N (ub G) (ug G) a0 n) ih u x1 x2 x3 x4 h
        exact ⟨by omega, by omega⟩
set_option maxHeartbeats 4000000 in
set_option maxRecDepth 100000 in
theorem w_X3_way_29 {p : Program} {l : Launch} {e : Env} {R : Room} {s : State} {m : MethodId} {args : Array Value} {below : List Frame} {meth : Method} {c : Code} {G : uG} {a0 : Nat} {uf : UH} {r : Int32} (hC : uC p s m args meth c G RX3 cX3_way 5 (some .int)) (hR : 7 ≤ R.frames ∧ 177 ≤ R.locals) (N : Nat) : ∀ (n : Nat) (u : UH) (x1 : Int32) (x2 : Int32) (x3 : Int32) (x4 : Int32), f_X3_way_29 N (ub G) (ug G) a0 n u x1 x2 x3 x4 = some (r, uf) → ∀ (H : Heap) (locs : List Loc), uP G u H → va_S (uA G) s.heap H locs → ∀ ls : Array Slot, lv_has ls 5 [(0, va_rf (some a0)), (1, .int x1), (2, .int x2), (3, .int x3), (4, .int x4)] → W p l e R s m args below meth c H locs 0 0 (MQ below (uQi G r uf) args s 0 0 (uA G)) (F0 m 29 ls []) := by
  obtain ⟨⟨hx, hb, hml, hown, hts⟩, hKK⟩ := id hC
  intro n
  induction n with
  | zero =>
    intro u x1 x2 x3 x4 h
    cases h
  | succ n ih =>
    intro u x1 x2 x3 x4 h H locs hP hS ls hl
    unfold f_X3_way_29 at h
    refine lv_iload hx hb dX3_way_29 (lv_at hl 4 rfl) ?_
    refine u_aload_n (r := some a0) hx hb dX3_way_31 rfl (lv_at hl 0 rfl) ?_
    obtain ⟨y1, hy1, h⟩ := mbind_n h
    refine u_get hC hP (uGI_n hy1) rfl in_X3 (by decide) q1930 (fun _ h => h) dX3_way_32 ?_
    refine lv_icmp_ge (tgt := 71) hx hb dX3_way_35 (by decide) (fun c2 => ?_) (fun c2 => ?_)
    · have h := mif_t c2 h
      refine u_aload_n (r := some a0) hx hb dX3_way_71 rfl (lv_at hl 0 rfl) ?_
      refine lv_iload_n hx hb dX3_way_72 rfl (lv_at hl 1 rfl) ?_
      refine lv_iload_n hx hb dX3_way_73 rfl (lv_at hl 2 rfl) ?_
      refine lv_iload_n hx hb dX3_way_74 rfl (lv_at hl 3 rfl) ?_
      obtain ⟨c3, h⟩ := mif_n h
      obtain ⟨r6, u4, c5, h⟩ := ucall_n h
      have zu4 := zz_X3_from N (ub G) (ug G) u a0 x1 x2 x3 r6 u4 c5
      refine u_calll (va_runV (As := [.int x1, .int x2, .int x3]) (rest := []) hC.1 (met_X3_from l N G u a0 x1 x2 x3 r6 u4 c5) (cwV 3 hts (lw_V q2336 q2338 qs67 q103 q2339) rfl rfl rfl (by decide +kernel) ⟨Nat.le_trans (Nat.le_of_ble_eq_true rfl) hR.1, Nat.le_trans (Nat.le_of_ble_eq_true rfl) hR.2⟩) ⟨uPc_blind, u_rcv hC hP c3 rfl, fun U hU hW => u_pre hC hP hS hU hW⟩ rfl rfl hl.1 rfl (lv_room (Nat.le_of_ble_eq_true rfl)) dX3_way_75 ⟨Nat.zero_le _, Nat.zero_le _⟩) hS (fun H locs hP hS => ?_)
      refine lv_lconst (v := 0) hx hb dX3_way_78 (by decide) ?_
      refine W.lcmp hx hb dX3_way_79 ?_
      refine lv_if_ge (tgt := 90) hx hb dX3_way_80 (by decide) (fun c7 => ?_) (fun c7 => ?_)
      · have h := mif_t c7 h
        refine u_aload_n (r := some a0) hx hb dX3_way_90 rfl (lv_at hl 0 rfl) ?_
        refine lv_iload_n hx hb dX3_way_91 rfl (lv_at hl 1 rfl) ?_
        refine u_aload_n (r := some a0) hx hb dX3_way_92 rfl (lv_at hl 0 rfl) ?_
        obtain ⟨c8, h⟩ := mif_n h
        obtain ⟨r11, u9, c10, h⟩ := ucall_n h
        have zu9 := zz_X3_base N (ub G) (ug G) u4 a0 r11 u9 c10
        refine u_calli (va_runV (As := []) (rest := [.int x1, va_rf (some a0)]) hC.1 (met_X3_base l N G u4 a0 r11 u9 c10) (cwV 0 hts (lw_V q2399 q2401 qs81 q103 q2402) rfl rfl rfl (by decide +kernel) ⟨Nat.le_trans (Nat.le_of_ble_eq_true rfl) hR.1, Nat.le_trans (Nat.le_of_ble_eq_true rfl) hR.2⟩) ⟨uPc_blind, u_rcv hC hP c8 rfl, fun U hU hW => u_pre hC hP hS hU hW⟩ rfl rfl hl.1 rfl (lv_room (Nat.le_of_ble_eq_true rfl)) dX3_way_93 ⟨Nat.zero_le _, Nat.zero_le _⟩) hS (fun H locs hP hS => ?_)
        obtain ⟨c12, h⟩ := mif_n h
        obtain ⟨r15, u13, c14, h⟩ := ucall_n h
        have zu13 := zz_X3_stepOf N (ub G) (ug G) u9 a0 x1 r11 r15 u13 c14
        refine u_calli (va_runV (As := [.int x1, .int r11]) (rest := []) hC.1 (met_X3_stepOf l N G u9 a0 x1 r11 r15 u13 c14) (cwV 2 hts (lw_V q2419 q2421 qs82 q103 q2422) rfl rfl rfl (by decide +kernel) ⟨Nat.le_trans (Nat.le_of_ble_eq_true rfl) hR.1, Nat.le_trans (Nat.le_of_ble_eq_true rfl) hR.2⟩) ⟨uPc_blind, u_rcv hC hP c12 rfl, fun U hU hW => u_pre hC hP hS hU hW⟩ rfl rfl hl.1 rfl (lv_room (Nat.le_of_ble_eq_true rfl)) dX3_way_96 ⟨Nat.zero_le _, Nat.zero_le _⟩) hS (fun H locs hP hS => ?_)
        obtain ⟨hr1, hr2⟩ := uret_n h
        subst hr1
        subst hr2
        exact u_iret hC hP hS dX3_way_99
      · have h := mif_f c7 h
        refine u_aload_n (r := some a0) hx hb dX3_way_83 rfl (lv_at hl 0 rfl) ?_
        refine lv_bipush (v := 6) hx hb dX3_way_84 (by decide) ?_
        obtain ⟨c16, h⟩ := mif_n h
        obtain ⟨r19, u17, c18, h⟩ := ucall_n h
        have zu17 := zz_X3_no N (ub G) (ug G) u4 a0 6 r19 u17 c18
        refine u_calli (va_runV (As := [.int 6]) (rest := []) hC.1 (met_X3_no l N G u4 a0 6 r19 u17 c18) (cwV 1 hts (lw_V q2138 q2140 qs41 q103 q2141) rfl rfl rfl (by decide +kernel) ⟨Nat.le_trans (Nat.le_of_ble_eq_true rfl) hR.1, Nat.le_trans (Nat.le_of_ble_eq_true rfl) hR.2⟩) ⟨uPc_blind, u_rcv hC hP c16 rfl, fun U hU hW => u_pre hC hP hS hU hW⟩ rfl rfl hl.1 rfl (lv_room (Nat.le_of_ble_eq_true rfl)) dX3_way_86 ⟨Nat.zero_le _, Nat.zero_le _⟩) hS (fun H locs hP hS => ?_)
        obtain ⟨hr1, hr2⟩ := uret_n h
        subst hr1
        subst hr2
        exact u_iret hC hP hS dX3_way_89
    · have h := mif_f c2 h
      refine u_aload_n (r := some a0) hx hb dX3_way_38 rfl (lv_at hl 0 rfl) ?_
      obtain ⟨o20, ho20, h⟩ := mbind_n h
      refine u_get hC hP (uGR_n ho20) rfl in_X3 (by decide) q1938 (fun _ h => h) dX3_way_39 ?_
      refine lv_iload hx hb dX3_way_42 (lv_at hl 4 rfl) ?_
      obtain ⟨a21, ha21, hha21⟩ := mbind_n h
      subst ha21
      have h := hha21
      obtain ⟨y22, hy22, h⟩ := mbind_n h
      refine u_iald hC hP hy22 rfl dX3_way_44 ?_
      refine lv_iconst (v := (-1)) hx hb dX3_way_45 (by decide) ?_
      refine lv_icmp_ne (tgt := 65) hx hb dX3_way_46 (by decide) (fun c23 => ?_) (fun c23 => ?_)
      · have h := mif_f c23 h
        exact w_X3_way_65 hC hR N (f_X3_way_29 N (ub G) (ug G) a0 n) ih u x1 x2 x3 x4 h hP hS (lv_sub hl [0, 1, 2, 3, 4] rfl)
      · have h := mif_t c23 h
        refine u_aload_n (r := some a0) hx hb dX3_way_49 rfl (lv_at hl 0 rfl) ?_
        refine lv_iload_n hx hb dX3_way_50 rfl (lv_at hl 1 rfl) ?_
        refine lv_iload hx hb dX3_way_51 (lv_at hl 4 rfl) ?_
        obtain ⟨c24, h⟩ := mif_n h
        obtain ⟨r27, u25, c26, h⟩ := ucall_n h
        have zu25 := zz_X3_isNear N (ub G) (ug G) u a0 x1 x4 r27 u25 c26
        refine u_calli (va_runV (As := [.int x1, .int x4]) (rest := []) hC.1 (met_X3_isNear l N G u a0 x1 x4 r27 u25 c26) (cwV 2 hts (lw_V q2352 q2354 qs71 q103 q2355) rfl rfl rfl (by decide +kernel) ⟨Nat.le_trans (Nat.le_of_ble_eq_true rfl) hR.1, Nat.le_trans (Nat.le_of_ble_eq_true rfl) hR.2⟩) ⟨uPc_blind, u_rcv hC hP c24 rfl, fun U hU hW => u_pre hC hP hS hU hW⟩ rfl rfl hl.1 rfl (lv_room (Nat.le_of_ble_eq_true rfl)) dX3_way_53 ⟨Nat.zero_le _, Nat.zero_le _⟩) hS (fun H locs hP hS => ?_)
        refine lv_if_eq (tgt := 65) hx hb dX3_way_56 (by decide) (fun c28 => ?_) (fun c28 => ?_)
        · have h := mif_t c28 h
          exact w_X3_way_65 hC hR N (f_X3_way_29 N (ub G) (ug G) a0 n) ih u25 x1 x2 x3 x4 h hP hS (lv_sub hl [0, 1, 2, 3, 4] rfl)
        · have h := mif_f c28 h
          refine u_aload_n (r := some a0) hx hb dX3_way_59 rfl (lv_at hl 0 rfl) ?_
          refine lv_iconst (v := 5) hx hb dX3_way_60 (by decide) ?_
          obtain ⟨c29, h⟩ := mif_n h
          obtain ⟨r32, u30, c31, h⟩ := ucall_n h
          have zu30 := zz_X3_no N (ub G) (ug G) u25 a0 5 r32 u30 c31
          refine u_calli (va_runV (As := [.int 5]) (rest := []) hC.1 (met_X3_no l N G u25 a0 5 r32 u30 c31) (cwV 1 hts (lw_V q2138 q2140 qs41 q103 q2141) rfl rfl rfl (by decide +kernel) ⟨Nat.le_trans (Nat.le_of_ble_eq_true rfl) hR.1, Nat.le_trans (Nat.le_of_ble_eq_true rfl) hR.2⟩) ⟨uPc_blind, u_rcv hC hP c29 rfl, fun U hU hW => u_pre hC hP hS hU hW⟩ rfl rfl hl.1 rfl (lv_room (Nat.le_of_ble_eq_true rfl)) dX3_way_61 ⟨Nat.zero_le _, Nat.zero_le _⟩) hS (fun H locs hP hS => ?_)
          obtain ⟨hr1, hr2⟩ := uret_n h
          subst hr1
          subst hr2
          exact u_iret hC hP hS dX3_way_64
def f_X3_way (N b : Nat) (g : uEnv) (u : UH) (a0 : Nat) (x1 : Int32) (x2 : Int32) (x3 : Int32) : Option (Int32 × UH) :=
    if uIs u a0 2 = true then
    (f_X3_good N b g u a0).bind fun u2 =>
    if uIs u2 a0 2 = true then
    ucall (f_X3_isCell N b g u2 a0 x1) fun r7 u5 =>
    if r7 = 0 then
    f_X3_way_20 N b g a0 u5
    else
    if uIs u5 a0 2 = true then
    ucall (f_X3_isCell N b g u5 a0 x2) fun r12 u10 =>
    if r12 = 0 then
    f_X3_way_20 N b g a0 u10
    else
    f_X3_way_29 N b g a0 N u10 x1 x2 x3 0
    else none
    else none
    else none
set_option maxHeartbeats 4000000 in
set_option maxRecDepth 100000 in
theorem zz_X3_way_0 {G : uG} {a0 : Nat} {uf : UH} {r : Int32} (N : Nat) (u : UH) (x1 : Int32) (x2 : Int32) (x3 : Int32) (h : f_X3_way N (ub G) (ug G) u a0 x1 x2 x3 = some (r, uf)) : uf.1 = u.1 ∧ uf.2.1 = u.2.1 := by
  unfold f_X3_way at h
  obtain ⟨c1, h⟩ := mif_n h
  obtain ⟨u2, c3, h⟩ := mbind_n h
  have zu2 := zz_X3_good N (ub G) (ug G) u a0 u2 c3
  obtain ⟨c4, h⟩ := mif_n h
  obtain ⟨r7, u5, c6, h⟩ := ucall_n h
  have zu5 := zz_X3_isCell N (ub G) (ug G) u2 a0 x1 r7 u5 c6
  by_cases c8 : r7 = 0
  · have h := mif_t c8 h
    have hq := zz_X3_way_20 (G := G) (a0 := a0) N u5 h
    exact ⟨by omega, by omega⟩
  · have h := mif_f c8 h
    obtain ⟨c9, h⟩ := mif_n h
    obtain ⟨r12, u10, c11, h⟩ := ucall_n h
    have zu10 := zz_X3_isCell N (ub G) (ug G) u5 a0 x2 r12 u10 c11
    by_cases c13 : r12 = 0
    · have h := mif_t c13 h
      have hq := zz_X3_way_20 (G := G) (a0 := a0) N u10 h
      exact ⟨by omega, by omega⟩
    · have h := mif_f c13 h
      have hq := zz_X3_way_29 (G := G) (a0 := a0) N N u10 x1 x2 x3 0 h
      exact ⟨by omega, by omega⟩
set_option maxHeartbeats 4000000 in
set_option maxRecDepth 100000 in
theorem w_X3_way_0 {p : Program} {l : Launch} {e : Env} {R : Room} {s : State} {m : MethodId} {args : Array Value} {below : List Frame} {meth : Method} {c : Code} {G : uG} {a0 : Nat} {uf : UH} {r : Int32} (hC : uC p s m args meth c G RX3 cX3_way 5 (some .int)) (hR : 7 ≤ R.frames ∧ 177 ≤ R.locals) (N : Nat) (u : UH) (x1 : Int32) (x2 : Int32) (x3 : Int32) (h : f_X3_way N (ub G) (ug G) u a0 x1 x2 x3 = some (r, uf)) {H : Heap} {locs : List Loc} (hP : uP G u H) (hS : va_S (uA G) s.heap H locs) {ls : Array Slot} (hl : lv_has ls 5 [(0, va_rf (some a0)), (1, .int x1), (2, .int x2), (3, .int x3)]) : W p l e R s m args below meth c H locs 0 0 (MQ below (uQi G r uf) args s 0 0 (uA G)) (F0 m 0 ls []) := by
  obtain ⟨⟨hx, hb, hml, hown, hts⟩, hKK⟩ := id hC
  unfold f_X3_way at h
  refine u_aload_n (r := some a0) hx hb dX3_way_0 rfl (lv_at hl 0 rfl) ?_
  obtain ⟨c1, h⟩ := mif_n h
  obtain ⟨u2, c3, h⟩ := mbind_n h
  have zu2 := zz_X3_good N (ub G) (ug G) u a0 u2 c3
  refine u_callv (va_runV (As := []) (rest := []) hC.1 (met_X3_good l N G u a0 u2 c3) (cwV 0 hts (lw_V q2131 q2133 qs40 q103 q2134) rfl rfl rfl (by decide +kernel) ⟨Nat.le_trans (Nat.le_of_ble_eq_true rfl) hR.1, Nat.le_trans (Nat.le_of_ble_eq_true rfl) hR.2⟩) ⟨uPc_blind, u_rcv hC hP c1 rfl, fun U hU hW => u_pre hC hP hS hU hW⟩ rfl rfl hl.1 rfl (lv_room (Nat.le_of_ble_eq_true rfl)) dX3_way_1 ⟨Nat.zero_le _, Nat.zero_le _⟩) hS (fun H locs hP hS => ?_)
  refine u_aload_n (r := some a0) hx hb dX3_way_4 rfl (lv_at hl 0 rfl) ?_
  refine lv_iload_n hx hb dX3_way_5 rfl (lv_at hl 1 rfl) ?_
  obtain ⟨c4, h⟩ := mif_n h
  obtain ⟨r7, u5, c6, h⟩ := ucall_n h
  have zu5 := zz_X3_isCell N (ub G) (ug G) u2 a0 x1 r7 u5 c6
  refine u_calli (va_runV (As := [.int x1]) (rest := []) hC.1 (met_X3_isCell l N G u2 a0 x1 r7 u5 c6) (cwV 1 hts (lw_V q2276 q2278 qs60 q103 q2279) rfl rfl rfl (by decide +kernel) ⟨Nat.le_trans (Nat.le_of_ble_eq_true rfl) hR.1, Nat.le_trans (Nat.le_of_ble_eq_true rfl) hR.2⟩) ⟨uPc_blind, u_rcv hC hP c4 rfl, fun U hU hW => u_pre hC hP hS hU hW⟩ rfl rfl hl.1 rfl (lv_room (Nat.le_of_ble_eq_true rfl)) dX3_way_6 ⟨Nat.zero_le _, Nat.zero_le _⟩) hS (fun H locs hP hS => ?_)
  refine lv_if_eq (tgt := 20) hx hb dX3_way_9 (by decide) (fun c8 => ?_) (fun c8 => ?_)
  · have h := mif_t c8 h
    exact w_X3_way_20 hC hR N u5 h hP hS (lv_sub hl [0] rfl)
  · have h := mif_f c8 h
    refine u_aload_n (r := some a0) hx hb dX3_way_12 rfl (lv_at hl 0 rfl) ?_
    refine lv_iload_n hx hb dX3_way_13 rfl (lv_at hl 2 rfl) ?_
    obtain ⟨c9, h⟩ := mif_n h
    obtain ⟨r12, u10, c11, h⟩ := ucall_n h
    have zu10 := zz_X3_isCell N (ub G) (ug G) u5 a0 x2 r12 u10 c11
    refine u_calli (va_runV (As := [.int x2]) (rest := []) hC.1 (met_X3_isCell l N G u5 a0 x2 r12 u10 c11) (cwV 1 hts (lw_V q2276 q2278 qs60 q103 q2279) rfl rfl rfl (by decide +kernel) ⟨Nat.le_trans (Nat.le_of_ble_eq_true rfl) hR.1, Nat.le_trans (Nat.le_of_ble_eq_true rfl) hR.2⟩) ⟨uPc_blind, u_rcv hC hP c9 rfl, fun U hU hW => u_pre hC hP hS hU hW⟩ rfl rfl hl.1 rfl (lv_room (Nat.le_of_ble_eq_true rfl)) dX3_way_14 ⟨Nat.zero_le _, Nat.zero_le _⟩) hS (fun H locs hP hS => ?_)
    refine lv_if_ne (tgt := 26) hx hb dX3_way_17 (by decide) (fun c13 => ?_) (fun c13 => ?_)
    · have h := mif_f c13 h
      refine lv_iconst (v := 0) hx hb dX3_way_26 (by decide) ?_
      refine lv_istore (lv' := [(4, .int 0), (0, va_rf (some a0)), (1, .int x1), (2, .int x2), (3, .int x3)]) hx hb dX3_way_27 hl (by decide) rfl (fun ls hl => ?_)
      exact w_X3_way_29 hC hR N N u10 x1 x2 x3 0 h _ _ hP hS _ (lv_sub hl [1, 2, 3, 4, 0] rfl)
    · have h := mif_t c13 h
      exact w_X3_way_20 hC hR N u10 h hP hS (lv_sub hl [0] rfl)
theorem zz_X3_way (N b : Nat) (g : uEnv) (u : UH) (a0 : Nat) (x1 : Int32) (x2 : Int32) (x3 : Int32) (r : Int32) (uf : UH) (h : f_X3_way N b g u a0 x1 x2 x3 = some (r, uf)) : uf.1 = u.1 ∧ uf.2.1 = u.2.1 :=
  zz_X3_way_0 (G := ((fun _ => 0, fun _ _ => 0), fun _ => 0, b, g)) (a0 := a0) N u x1 x2 x3 h
theorem met_X3_way (l : Launch) (N : Nat) (G : uG) (u : UH) (a0 : Nat) (x1 : Int32) (x2 : Int32) (x3 : Int32) (r : Int32) (uf : UH) (h : f_X3_way N (ub G) (ug G) u a0 x1 x2 x3 = some (r, uf)) : Met l yX3_way (ws_ yX3_way cX3_way 5 (some .int)) ({ frames := 7, cells := 0, slots := 0, locals := 177 }) (uPc G u [.ref a0, .int x1, .int x2, .int x3]) (uQi G r uf) 0 0 (uA G) := by
  exact u_met (own := RX3) (by decide +kernel) rfl (Nat.le_of_ble_eq_true rfl) (fun hC hn hsz ls hl hP => w_X3_way_0 hC ⟨Nat.le_refl _, Nat.le_refl _⟩ N u x1 x2 x3 h hP va_S.rf hl)

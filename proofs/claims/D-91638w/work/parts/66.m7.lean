/-! BY gen_heap.py: X3_weigh X3_where X3_worst X3_worth -/
def f_X3_weigh_20 (N b : Nat) (g : uEnv) (a0 : Nat) (u : UH) : Option (Int32 × UH) :=
    if uIs u a0 2 = true then
    ucall (f_X3_not N b g u a0 1) fun r4 u2 =>
    if uFit .boolean r4 = true then
    some (r4, u2)
    else none
    else none
set_option maxHeartbeats 4000000 in
set_option maxRecDepth 100000 in
theorem zz_X3_weigh_20 {G : uG} {a0 : Nat} {uf : UH} {r : Int32} (N : Nat) (u : UH) (h : f_X3_weigh_20 N (ub G) (ug G) a0 u = some (r, uf)) : uf.1 = u.1 ∧ uf.2.1 = u.2.1 := by
  unfold f_X3_weigh_20 at h
  obtain ⟨c1, h⟩ := mif_n h
  obtain ⟨r4, u2, c3, h⟩ := ucall_n h
  have zu2 := zz_X3_not N (ub G) (ug G) u a0 1 r4 u2 c3
  obtain ⟨c5, h⟩ := mif_n h
  obtain ⟨hr1, hr2⟩ := uret_n h
  subst hr2
  exact ⟨by omega, by omega⟩
set_option maxHeartbeats 4000000 in
set_option maxRecDepth 100000 in
theorem w_X3_weigh_20 {p : Program} {l : Launch} {e : Env} {R : Room} {s : State} {m : MethodId} {args : Array Value} {below : List Frame} {meth : Method} {c : Code} {G : uG} {a0 : Nat} {uf : UH} {r : Int32} (hC : uC p s m args meth c G RX3 cX3_weigh 6 (some .boolean)) (hR : 2 ≤ R.frames ∧ 43 ≤ R.locals) (N : Nat) (u : UH) (h : f_X3_weigh_20 N (ub G) (ug G) a0 u = some (r, uf)) {H : Heap} {locs : List Loc} (hP : uP G u H) (hS : va_S (uA G) s.heap H locs) {ls : Array Slot} (hl : lv_has ls 6 [(0, va_rf (some a0))]) : W p l e R s m args below meth c H locs 0 0 (MQ below (uQi G r uf) args s 0 0 (uA G)) (F0 m 20 ls []) := by
  obtain ⟨⟨hx, hb, hml, hown, hts⟩, hKK⟩ := id hC
  unfold f_X3_weigh_20 at h
  refine u_aload_n (r := some a0) hx hb dX3_weigh_20 rfl (lv_at hl 0 rfl) ?_
  refine lv_iconst (v := 1) hx hb dX3_weigh_21 (by decide) ?_
  obtain ⟨c1, h⟩ := mif_n h
  obtain ⟨r4, u2, c3, h⟩ := ucall_n h
  have zu2 := zz_X3_not N (ub G) (ug G) u a0 1 r4 u2 c3
  refine u_calli (va_runV (As := [.int 1]) (rest := []) hC.1 (met_X3_not l N G u a0 1 r4 u2 c3) (cwV 1 hts (lw_V q2264 q2266 qs59 q103 q2267) rfl rfl rfl (by decide +kernel) ⟨Nat.le_trans (Nat.le_of_ble_eq_true rfl) hR.1, Nat.le_trans (Nat.le_of_ble_eq_true rfl) hR.2⟩) ⟨uPc_blind, u_rcv hC hP c1 rfl, fun U hU hW => u_pre hC hP hS hU hW⟩ rfl rfl hl.1 rfl (lv_room (Nat.le_of_ble_eq_true rfl)) dX3_weigh_22 ⟨Nat.zero_le _, Nat.zero_le _⟩) hS (fun H locs hP hS => ?_)
  obtain ⟨c5, h⟩ := mif_n h
  obtain ⟨hr1, hr2⟩ := uret_n h
  subst hr1
  subst hr2
  exact u_zret hC (uFit_n c5).1 hP hS dX3_weigh_25
def f_X3_weigh_126 (N b : Nat) (g : uEnv) (a0 : Nat) (u : UH) : Option (Int32 × UH) :=
    if uIs u a0 2 = true then
    ucall (f_X3_not N b g u a0 5) fun r4 u2 =>
    if uFit .boolean r4 = true then
    some (r4, u2)
    else none
    else none
set_option maxHeartbeats 4000000 in
set_option maxRecDepth 100000 in
theorem zz_X3_weigh_126 {G : uG} {a0 : Nat} {uf : UH} {r : Int32} (N : Nat) (u : UH) (h : f_X3_weigh_126 N (ub G) (ug G) a0 u = some (r, uf)) : uf.1 = u.1 ∧ uf.2.1 = u.2.1 := by
  unfold f_X3_weigh_126 at h
  obtain ⟨c1, h⟩ := mif_n h
  obtain ⟨r4, u2, c3, h⟩ := ucall_n h
  have zu2 := zz_X3_not N (ub G) (ug G) u a0 5 r4 u2 c3
  obtain ⟨c5, h⟩ := mif_n h
  obtain ⟨hr1, hr2⟩ := uret_n h
  subst hr2
  exact ⟨by omega, by omega⟩
set_option maxHeartbeats 4000000 in
set_option maxRecDepth 100000 in
theorem w_X3_weigh_126 {p : Program} {l : Launch} {e : Env} {R : Room} {s : State} {m : MethodId} {args : Array Value} {below : List Frame} {meth : Method} {c : Code} {G : uG} {a0 : Nat} {uf : UH} {r : Int32} (hC : uC p s m args meth c G RX3 cX3_weigh 6 (some .boolean)) (hR : 2 ≤ R.frames ∧ 43 ≤ R.locals) (N : Nat) (u : UH) (h : f_X3_weigh_126 N (ub G) (ug G) a0 u = some (r, uf)) {H : Heap} {locs : List Loc} (hP : uP G u H) (hS : va_S (uA G) s.heap H locs) {ls : Array Slot} (hl : lv_has ls 6 [(0, va_rf (some a0))]) : W p l e R s m args below meth c H locs 0 0 (MQ below (uQi G r uf) args s 0 0 (uA G)) (F0 m 126 ls []) := by
  obtain ⟨⟨hx, hb, hml, hown, hts⟩, hKK⟩ := id hC
  unfold f_X3_weigh_126 at h
  refine u_aload_n (r := some a0) hx hb dX3_weigh_126 rfl (lv_at hl 0 rfl) ?_
  refine lv_iconst (v := 5) hx hb dX3_weigh_127 (by decide) ?_
  obtain ⟨c1, h⟩ := mif_n h
  obtain ⟨r4, u2, c3, h⟩ := ucall_n h
  have zu2 := zz_X3_not N (ub G) (ug G) u a0 5 r4 u2 c3
  refine u_calli (va_runV (As := [.int 5]) (rest := []) hC.1 (met_X3_not l N G u a0 5 r4 u2 c3) (cwV 1 hts (lw_V q2264 q2266 qs59 q103 q2267) rfl rfl rfl (by decide +kernel) ⟨Nat.le_trans (Nat.le_of_ble_eq_true rfl) hR.1, Nat.le_trans (Nat.le_of_ble_eq_true rfl) hR.2⟩) ⟨uPc_blind, u_rcv hC hP c1 rfl, fun U hU hW => u_pre hC hP hS hU hW⟩ rfl rfl hl.1 rfl (lv_room (Nat.le_of_ble_eq_true rfl)) dX3_weigh_128 ⟨Nat.zero_le _, Nat.zero_le _⟩) hS (fun H locs hP hS => ?_)
  obtain ⟨c5, h⟩ := mif_n h
  obtain ⟨hr1, hr2⟩ := uret_n h
  subst hr1
  subst hr2
  exact u_zret hC (uFit_n c5).1 hP hS dX3_weigh_131
def f_X3_weigh_132 (N b : Nat) (g : uEnv) (a0 : Nat) (u : UH) (x1 : Int32) (x2 : Int32) (x3 : Int32) : Option (Int32 × UH) :=
    (uGR u a0 2 46).bind fun o1 =>
    (o1).bind fun a2 =>
    (uStI b u a2 0 ((8 * x1) + x2) x3).bind fun u3 =>
    (uPut b u3 a0 2 51 (.int 0)).bind fun u4 =>
    some (1, u4)
set_option maxHeartbeats 4000000 in
set_option maxRecDepth 100000 in
theorem zz_X3_weigh_132 {G : uG} {a0 : Nat} {uf : UH} {r : Int32} (N : Nat) (u : UH) (x1 : Int32) (x2 : Int32) (x3 : Int32) (h : f_X3_weigh_132 N (ub G) (ug G) a0 u x1 x2 x3 = some (r, uf)) : uf.1 = u.1 ∧ uf.2.1 = u.2.1 := by
  unfold f_X3_weigh_132 at h
  obtain ⟨o1, ho1, h⟩ := mbind_n h
  obtain ⟨a2, ha2, hha2⟩ := mbind_n h
  subst ha2
  have h := hha2
  obtain ⟨u3, hu3, h⟩ := mbind_n h
  have zu3 := uStI_sz hu3
  obtain ⟨u4, hu4, h⟩ := mbind_n h
  have zu4 := uPut_sz hu4
  obtain ⟨hr1, hr2⟩ := uret_n h
  subst hr2
  exact ⟨by omega, by omega⟩
set_option maxHeartbeats 4000000 in
set_option maxRecDepth 100000 in
theorem w_X3_weigh_132 {p : Program} {l : Launch} {e : Env} {R : Room} {s : State} {m : MethodId} {args : Array Value} {below : List Frame} {meth : Method} {c : Code} {G : uG} {a0 : Nat} {uf : UH} {r : Int32} (hC : uC p s m args meth c G RX3 cX3_weigh 6 (some .boolean)) (hR : 2 ≤ R.frames ∧ 43 ≤ R.locals) (N : Nat) (u : UH) (x1 : Int32) (x2 : Int32) (x3 : Int32) (h : f_X3_weigh_132 N (ub G) (ug G) a0 u x1 x2 x3 = some (r, uf)) {H : Heap} {locs : List Loc} (hP : uP G u H) (hS : va_S (uA G) s.heap H locs) {ls : Array Slot} (hl : lv_has ls 6 [(0, va_rf (some a0)), (1, .int x1), (2, .int x2), (3, .int x3)]) : W p l e R s m args below meth c H locs 0 0 (MQ below (uQi G r uf) args s 0 0 (uA G)) (F0 m 132 ls []) := by
  obtain ⟨⟨hx, hb, hml, hown, hts⟩, hKK⟩ := id hC
  unfold f_X3_weigh_132 at h
  refine u_aload_n (r := some a0) hx hb dX3_weigh_132 rfl (lv_at hl 0 rfl) ?_
  obtain ⟨o1, ho1, h⟩ := mbind_n h
  refine u_get hC hP (uGR_n ho1) rfl in_X3 (by decide) q1939 (fun _ h => h) dX3_weigh_133 ?_
  refine lv_bipush (v := 8) hx hb dX3_weigh_136 (by decide) ?_
  refine lv_iload_n hx hb dX3_weigh_138 rfl (lv_at hl 1 rfl) ?_
  refine lv_imul hx hb dX3_weigh_139 ?_
  refine lv_iload_n hx hb dX3_weigh_140 rfl (lv_at hl 2 rfl) ?_
  refine lv_iadd hx hb dX3_weigh_141 ?_
  refine lv_iload_n hx hb dX3_weigh_142 rfl (lv_at hl 3 rfl) ?_
  obtain ⟨a2, ha2, hha2⟩ := mbind_n h
  subst ha2
  have h := hha2
  obtain ⟨u3, hu3, h⟩ := mbind_n h
  have zu3 := uStI_sz hu3
  refine u_iast hC hP hS hu3 rfl dX3_weigh_143 (fun H locs hP hS => ?_)
  refine u_aload_n (r := some a0) hx hb dX3_weigh_144 rfl (lv_at hl 0 rfl) ?_
  refine lv_iconst (v := 0) hx hb dX3_weigh_145 (by decide) ?_
  obtain ⟨u4, hu4, h⟩ := mbind_n h
  have zu4 := uPut_sz hu4
  refine u_put hC hP hS hu4 rfl in_X3 tyX3 tyX3_ok nmX3 (by decide) q1944 (fun _ h => h) rfl (ty := .boolean) (tyX3_ok 51 (by decide)) (uFit_n (ty := .boolean) (v := 0) rfl).1 (uFit_n (ty := .boolean) (v := 0) rfl).2 dX3_weigh_146 (fun H locs hP hS => ?_)
  refine lv_iconst (v := 1) hx hb dX3_weigh_149 (by decide) ?_
  obtain ⟨hr1, hr2⟩ := uret_n h
  subst hr1
  subst hr2
  exact u_zret hC (uFit_n (ty := .boolean) (v := 1) rfl).1 hP hS dX3_weigh_150
def f_X3_weigh_91 (N b : Nat) (g : uEnv) (a0 : Nat) (k56 : UH → Int32 → Int32 → Int32 → Int32 → Int32 → Option (Int32 × UH)) (u : UH) (x1 : Int32) (x2 : Int32) (x3 : Int32) (x5 : Int32) (s0 : Int32) (s1 : Int32) : Option (Int32 × UH) :=
    mlet (s1 + s0) fun y1 =>
    mlet (x5 + 1) fun y2 =>
    k56 u x1 x2 x3 y1 y2
set_option maxHeartbeats 4000000 in
set_option maxRecDepth 100000 in
theorem zz_X3_weigh_91 {G : uG} {a0 : Nat} {uf : UH} {r : Int32} (N : Nat) (k56 : UH → Int32 → Int32 → Int32 → Int32 → Int32 → Option (Int32 × UH)) (hk56 : ∀ (u : UH) (x1 : Int32) (x2 : Int32) (x3 : Int32) (x4 : Int32) (x5 : Int32), k56 u x1 x2 x3 x4 x5 = some (r, uf) → uf.1 = u.1 ∧ uf.2.1 = u.2.1) (u : UH) (x1 : Int32) (x2 : Int32) (x3 : Int32) (x5 : Int32) (s0 : Int32) (s1 : Int32) (h : f_X3_weigh_91 N (ub G) (ug G) a0 k56 u x1 x2 x3 x5 s0 s1 = some (r, uf)) : uf.1 = u.1 ∧ uf.2.1 = u.2.1 := by
  unfold f_X3_weigh_91 at h
  obtain ⟨y1, ey1⟩ : ∃ z, z = s1 + s0 := ⟨_, rfl⟩
  have h := mlet_at ey1 h
  obtain ⟨y2, ey2⟩ : ∃ z : Int32, z = x5 + 1 := ⟨_, rfl⟩
  have h := mlet_at ey2 h
  have hq := hk56 u x1 x2 x3 y1 y2 h
  exact ⟨by omega, by omega⟩
set_option maxHeartbeats 4000000 in
set_option maxRecDepth 100000 in
theorem w_X3_weigh_91 {p : Program} {l : Launch} {e : Env} {R : Room} {s : State} {m : MethodId} {args : Array Value} {below : List Frame} {meth : Method} {c : Code} {G : uG} {a0 : Nat} {uf : UH} {r : Int32} (hC : uC p s m args meth c G RX3 cX3_weigh 6 (some .boolean)) (hR : 2 ≤ R.frames ∧ 43 ≤ R.locals) (N : Nat) (k56 : UH → Int32 → Int32 → Int32 → Int32 → Int32 → Option (Int32 × UH)) (hk56 : ∀ (u : UH) (x1 : Int32) (x2 : Int32) (x3 : Int32) (x4 : Int32) (x5 : Int32), k56 u x1 x2 x3 x4 x5 = some (r, uf) → ∀ (H : Heap) (locs : List Loc), uP G u H → va_S (uA G) s.heap H locs → ∀ ls : Array Slot, lv_has ls 6 [(0, va_rf (some a0)), (1, .int x1), (2, .int x2), (3, .int x3), (4, .int x4), (5, .int x5)] → W p l e R s m args below meth c H locs 0 0 (MQ below (uQi G r uf) args s 0 0 (uA G)) (F0 m 56 ls [])) (u : UH) (x1 : Int32) (x2 : Int32) (x3 : Int32) (x5 : Int32) (s0 : Int32) (s1 : Int32) (h : f_X3_weigh_91 N (ub G) (ug G) a0 k56 u x1 x2 x3 x5 s0 s1 = some (r, uf)) {H : Heap} {locs : List Loc} (hP : uP G u H) (hS : va_S (uA G) s.heap H locs) {ls : Array Slot} (hl : lv_has ls 6 [(0, va_rf (some a0)), (1, .int x1), (2, .int x2), (3, .int x3), (5, .int x5)]) : W p l e R s m args below meth c H locs 0 0 (MQ below (uQi G r uf) args s 0 0 (uA G)) (F0 m 91 ls [.int s0, .int s1]) := by
  obtain ⟨⟨hx, hb, hml, hown, hts⟩, hKK⟩ := id hC
  unfold f_X3_weigh_91 at h
  refine lv_iadd hx hb dX3_weigh_91 ?_
  refine lv_topi (fun y1 ey1 => ?_)
  have h := mlet_at ey1 h
  refine lv_istore (lv' := [(4, .int y1), (0, va_rf (some a0)), (1, .int x1), (2, .int x2), (3, .int x3), (5, .int x5)]) hx hb dX3_weigh_92 hl (by decide) rfl (fun ls hl => ?_)
  obtain ⟨y2, ey2⟩ : ∃ z : Int32, z = x5 + 1 := ⟨_, rfl⟩
  have h := mlet_at ey2 h
  refine lv_iinc (v := y2) (lv' := [(5, .int y2), (4, .int y1), (0, va_rf (some a0)), (1, .int x1), (2, .int x2), (3, .int x3)]) hx hb dX3_weigh_94 hl (k := 5) rfl (by rw [ey2]; rfl) (by decide) rfl (fun ls hl => ?_)
  refine lv_goto (tgt := 56) hx hb dX3_weigh_97 (by decide) ?_
  exact hk56 u x1 x2 x3 y1 y2 h _ _ hP hS _ (lv_sub hl [2, 3, 4, 5, 1, 0] rfl)
def f_X3_weigh_90 (N b : Nat) (g : uEnv) (a0 : Nat) (k56 : UH → Int32 → Int32 → Int32 → Int32 → Int32 → Option (Int32 × UH)) (u : UH) (x1 : Int32) (x2 : Int32) (x3 : Int32) (x5 : Int32) (s0 : Int32) : Option (Int32 × UH) :=
    f_X3_weigh_91 N b g a0 k56 u x1 x2 x3 x5 0 s0
set_option maxHeartbeats 4000000 in
set_option maxRecDepth 100000 in
theorem zz_X3_weigh_90 {G : uG} {a0 : Nat} {uf : UH} {r : Int32} (N : Nat) (k56 : UH → Int32 → Int32 → Int32 → Int32 → Int32 → Option (Int32 × UH)) (hk56 : ∀ (u : UH) (x1 : Int32) (x2 : Int32) (x3 : Int32) (x4 : Int32) (x5 : Int32), k56 u x1 x2 x3 x4 x5 = some (r, uf) → uf.1 = u.1 ∧ uf.2.1 = u.2.1) (u : UH) (x1 : Int32) (x2 : Int32) (x3 : Int32) (x5 : Int32) (s0 : Int32) (h : f_X3_weigh_90 N (ub G) (ug G) a0 k56 u x1 x2 x3 x5 s0 = some (r, uf)) : uf.1 = u.1 ∧ uf.2.1 = u.2.1 := by
  unfold f_X3_weigh_90 at h
  have hq := zz_X3_weigh_91 (G := G) (a0 := a0) N k56 hk56 u x1 x2 x3 x5 0 s0 h
  exact ⟨by omega, by omega⟩
set_option maxHeartbeats 4000000 in
set_option maxRecDepth 100000 in
theorem w_X3_weigh_90 {p : Program} {l : Launch} {e : Env} {R : Room} {s : State} {m : MethodId} {args : Array Value} {below : List Frame} {meth : Method} {c : Code} {G : uG} {a0 : Nat} {uf : UH} {r : Int32} (hC : uC p s m args meth c G RX3 cX3_weigh 6 (some .boolean)) (hR : 2 ≤ R.frames ∧ 43 ≤ R.locals) (N : Nat) (k56 : UH → Int32 → Int32 → Int32 → Int32 → Int32 → Option (Int32 × UH)) (hk56 : ∀ (u : UH) (x1 : Int32) (x2 : Int32) (x3 : Int32) (x4 : Int32) (x5 : Int32), k56 u x1 x2 x3 x4 x5 = some (r, uf) → ∀ (H : Heap) (locs : List Loc), uP G u H → va_S (uA G) s.heap H locs → ∀ ls : Array Slot, lv_has ls 6 [(0, va_rf (some a0)), (1, .int x1), (2, .int x2), (3, .int x3), (4, .int x4), (5, .int x5)] → W p l e R s m args below meth c H locs 0 0 (MQ below (uQi G r uf) args s 0 0 (uA G)) (F0 m 56 ls [])) (u : UH) (x1 : Int32) (x2 : Int32) (x3 : Int32) (x5 : Int32) (s0 : Int32) (h : f_X3_weigh_90 N (ub G) (ug G) a0 k56 u x1 x2 x3 x5 s0 = some (r, uf)) {H : Heap} {locs : List Loc} (hP : uP G u H) (hS : va_S (uA G) s.heap H locs) {ls : Array Slot} (hl : lv_has ls 6 [(0, va_rf (some a0)), (1, .int x1), (2, .int x2), (3, .int x3), (5, .int x5)]) : W p l e R s m args below meth c H locs 0 0 (MQ below (uQi G r uf) args s 0 0 (uA G)) (F0 m 90 ls [.int s0]) := by
  obtain ⟨⟨hx, hb, hml, hown, hts⟩, hKK⟩ := id hC
  unfold f_X3_weigh_90 at h
  refine lv_iconst (v := 0) hx hb dX3_weigh_90 (by decide) ?_
  exact w_X3_weigh_91 hC hR N k56 hk56 u x1 x2 x3 x5 0 s0 h hP hS (lv_sub hl [0, 1, 2, 3, 4] rfl)
def f_X3_weigh_56 (N b : Nat) (g : uEnv) (a0 : Nat) : Nat → UH → Int32 → Int32 → Int32 → Int32 → Int32 → Option (Int32 × UH)
  | 0, _, _, _, _, _, _ => none
  | n + 1, u, x1, x2, x3, x4, x5 =>
    if 8 ≤ x5 then
    if x4 < 1 then
    f_X3_weigh_126 N b g a0 u
    else
    if 3 < x4 then
    f_X3_weigh_126 N b g a0 u
    else
    if x3 = 0 then
    (uGR u a0 2 45).bind fun o5 =>
    (o5).bind fun a6 =>
    (uLdI u a6 0 x1).bind fun y7 =>
    if y7 = x2 then
    f_X3_weigh_126 N b g a0 u
    else
    f_X3_weigh_132 N b g a0 u x1 x2 x3
    else
    f_X3_weigh_132 N b g a0 u x1 x2 x3
    else
    if x5 = x2 then
    f_X3_weigh_90 N b g a0 (f_X3_weigh_56 N b g a0 n) u x1 x2 x3 x5 x4
    else
    (uGR u a0 2 46).bind fun o10 =>
    (o10).bind fun a11 =>
    (uLdI u a11 0 ((8 * x1) + x5)).bind fun y12 =>
    if y12 ≤ 0 then
    f_X3_weigh_90 N b g a0 (f_X3_weigh_56 N b g a0 n) u x1 x2 x3 x5 x4
    else
    f_X3_weigh_91 N b g a0 (f_X3_weigh_56 N b g a0 n) u x1 x2 x3 x5 1 x4
set_option maxHeartbeats 4000000 in
set_option maxRecDepth 100000 in
theorem zz_X3_weigh_56 {G : uG} {a0 : Nat} {uf : UH} {r : Int32} (N : Nat) : ∀ (n : Nat) (u : UH) (x1 : Int32) (x2 : Int32) (x3 : Int32) (x4 : Int32) (x5 : Int32), f_X3_weigh_56 N (ub G) (ug G) a0 n u x1 x2 x3 x4 x5 = some (r, uf) → uf.1 = u.1 ∧ uf.2.1 = u.2.1 := by
  intro n
  induction n with
  | zero =>
    intro u x1 x2 x3 x4 x5 h
    cases h
  | succ n ih =>
    intro u x1 x2 x3 x4 x5 h
    unfold f_X3_weigh_56 at h
    by_cases c1 : 8 ≤ x5
    · have h := mif_t c1 h
      by_cases c2 : x4 < 1
      · have h := mif_t c2 h
        have hq := zz_X3_weigh_126 (G := G) (a0 := a0) N u h
        exact ⟨by omega, by omega⟩
      · have h := mif_f c2 h
        by_cases c3 : 3 < x4
        · have h := mif_t c3 h
          have hq := zz_X3_weigh_126 (G := G) (a0 := a0) N u h
          exact ⟨by omega, by omega⟩
        · have h := mif_f c3 h
          by_cases c4 : x3 = 0
          · have h := mif_t c4 h
            obtain ⟨o5, ho5, h⟩ := mbind_n h
            obtain ⟨a6, ha6, hha6⟩ := mbind_n h
            subst ha6
            have h := hha6
            obtain ⟨y7, hy7, h⟩ := mbind_n h
            by_cases c8 : y7 = x2
            · have h := mif_t c8 h
              have hq := zz_X3_weigh_126 (G := G) (a0 := a0) N u h
              exact ⟨by omega, by omega⟩
            · have h := mif_f c8 h
              have hq := zz_X3_weigh_132 (G := G) (a0 := a0) N u x1 x2 x3 h
              exact ⟨by omega, by omega⟩
          · have h := mif_f c4 h
            have hq := zz_X3_weigh_132 (G := G) (a0 := a0) N u x1 x2 x3 h
            exact ⟨by omega, by omega⟩
    · have h := mif_f c1 h
      by_cases c9 : x5 = x2
      · have h := mif_t c9 h
        have hq := zz_X3_weigh_90 (G := G) (a0 := a0) N (f_X3_weigh_56 N (ub G) (ug G) a0 n) ih u x1 x2 x3 x5 x4 h
        exact ⟨by omega, by omega⟩
      · have h := mif_f c9 h
        obtain ⟨o10, ho10, h⟩ := mbind_n h
        obtain ⟨a11, ha11, hha11⟩ := mbind_n h
        subst ha11
        have h := hha11
        obtain ⟨y12, hy12, h⟩ := mbind_n h
        by_cases c13 : y12 ≤ 0
        · have h := mif_t c13 h
          have hq := zz_X3_weigh_90 (G := G) (a0 := a0) N (f_X3_weigh_56 N (ub G) (ug G) a0 n) ih u x1 x2 x3 x5 x4 h
          exact ⟨by omega, by omega⟩
        · have h := mif_f c13 h
          have hq := zz_X3_weigh_91 (G := G) (a0 := a0) N (f_X3_weigh_56 N (ub G) (ug G) a0 n) ih u x1 x2 x3 x5 1 x4 h
          exact ⟨by omega, by omega⟩
set_option maxHeartbeats 4000000 in
set_option maxRecDepth 100000 in
theorem w_X3_weigh_56 {p : Program} {l : Launch} {e : Env} {R : Room} {s : State} {m : MethodId} {args : Array Value} {below : List Frame} {meth : Method} {c : Code} {G : uG} {a0 : Nat} {uf : UH} {r : Int32} (hC : uC p s m args meth c G RX3 cX3_weigh 6 (some .boolean)) (hR : 2 ≤ R.frames ∧ 43 ≤ R.locals) (N : Nat) : ∀ (n : Nat) (u : UH) (x1 : Int32) (x2 : Int32) (x3 : Int32) (x4 : Int32) (x5 : Int32), f_X3_weigh_56 N (ub G) (ug G) a0 n u x1 x2 x3 x4 x5 = some (r, uf) → ∀ (H : Heap) (locs : List Loc), uP G u H → va_S (uA G) s.heap H locs → ∀ ls : Array Slot, lv_has ls 6 [(0, va_rf (some a0)), (1, .int x1), (2, .int x2), (3, .int x3), (4, .int x4), (5, .int x5)] → W p l e R s m args below meth c H locs 0 0 (MQ below (uQi G r uf) args s 0 0 (uA G)) (F0 m 56 ls []) := by
  obtain ⟨⟨hx, hb, hml, hown, hts⟩, hKK⟩ := id hC
  intro n
  induction n with
  | zero =>
    intro u x1 x2 x3 x4 x5 h
    cases h
  | succ n ih =>
    intro u x1 x2 x3 x4 x5 h H locs hP hS ls hl
    unfold f_X3_weigh_56 at h
    refine lv_iload hx hb dX3_weigh_56 (lv_at hl 5 rfl) ?_
    refine lv_bipush (v := 8) hx hb dX3_weigh_58 (by decide) ?_
    refine lv_icmp_ge (tgt := 100) hx hb dX3_weigh_60 (by decide) (fun c1 => ?_) (fun c1 => ?_)
    · have h := mif_t c1 h
      refine lv_iload hx hb dX3_weigh_100 (lv_at hl 4 rfl) ?_
      refine lv_iconst (v := 1) hx hb dX3_weigh_102 (by decide) ?_
      refine lv_icmp_lt (tgt := 126) hx hb dX3_weigh_103 (by decide) (fun c2 => ?_) (fun c2 => ?_)
      · have h := mif_t c2 h
        exact w_X3_weigh_126 hC hR N u h hP hS (lv_sub hl [0] rfl)
      · have h := mif_f c2 h
        refine lv_iload hx hb dX3_weigh_106 (lv_at hl 4 rfl) ?_
        refine lv_iconst (v := 3) hx hb dX3_weigh_108 (by decide) ?_
        refine lv_icmp_gt (tgt := 126) hx hb dX3_weigh_109 (by decide) (fun c3 => ?_) (fun c3 => ?_)
        · have h := mif_t c3 h
          exact w_X3_weigh_126 hC hR N u h hP hS (lv_sub hl [0] rfl)
        · have h := mif_f c3 h
          refine lv_iload_n hx hb dX3_weigh_112 rfl (lv_at hl 3 rfl) ?_
          refine lv_if_ne (tgt := 132) hx hb dX3_weigh_113 (by decide) (fun c4 => ?_) (fun c4 => ?_)
          · have h := mif_f c4 h
            exact w_X3_weigh_132 hC hR N u x1 x2 x3 h hP hS (lv_sub hl [0, 1, 2, 3] rfl)
          · have h := mif_t c4 h
            refine u_aload_n (r := some a0) hx hb dX3_weigh_116 rfl (lv_at hl 0 rfl) ?_
            obtain ⟨o5, ho5, h⟩ := mbind_n h
            refine u_get hC hP (uGR_n ho5) rfl in_X3 (by decide) q1938 (fun _ h => h) dX3_weigh_117 ?_
            refine lv_iload_n hx hb dX3_weigh_120 rfl (lv_at hl 1 rfl) ?_
            obtain ⟨a6, ha6, hha6⟩ := mbind_n h
            subst ha6
            have h := hha6
            obtain ⟨y7, hy7, h⟩ := mbind_n h
            refine u_iald hC hP hy7 rfl dX3_weigh_121 ?_
            refine lv_iload_n hx hb dX3_weigh_122 rfl (lv_at hl 2 rfl) ?_
            refine lv_icmp_ne (tgt := 132) hx hb dX3_weigh_123 (by decide) (fun c8 => ?_) (fun c8 => ?_)
            · have h := mif_f c8 h
              exact w_X3_weigh_132 hC hR N u x1 x2 x3 h hP hS (lv_sub hl [0, 1, 2, 3] rfl)
            · have h := mif_t c8 h
              exact w_X3_weigh_126 hC hR N u h hP hS (lv_sub hl [0] rfl)
    · have h := mif_f c1 h
      refine lv_iload hx hb dX3_weigh_63 (lv_at hl 4 rfl) ?_
      refine lv_iload hx hb dX3_weigh_65 (lv_at hl 5 rfl) ?_
      refine lv_iload_n hx hb dX3_weigh_67 rfl (lv_at hl 2 rfl) ?_
      refine lv_icmp_eq (tgt := 90) hx hb dX3_weigh_68 (by decide) (fun c9 => ?_) (fun c9 => ?_)
      · have h := mif_t c9 h
        exact w_X3_weigh_90 hC hR N (f_X3_weigh_56 N (ub G) (ug G) a0 n) ih u x1 x2 x3 x5 x4 h hP hS (lv_sub hl [0, 1, 2, 3, 5] rfl)
      · have h := mif_f c9 h
        refine u_aload_n (r := some a0) hx hb dX3_weigh_71 rfl (lv_at hl 0 rfl) ?_
        obtain ⟨o10, ho10, h⟩ := mbind_n h
        refine u_get hC hP (uGR_n ho10) rfl in_X3 (by decide) q1939 (fun _ h => h) dX3_weigh_72 ?_
        refine lv_bipush (v := 8) hx hb dX3_weigh_75 (by decide) ?_
        refine lv_iload_n hx hb dX3_weigh_77 rfl (lv_at hl 1 rfl) ?_
        refine lv_imul hx hb dX3_weigh_78 ?_
        refine lv_iload hx hb dX3_weigh_79 (lv_at hl 5 rfl) ?_
        refine lv_iadd hx hb dX3_weigh_81 ?_
        obtain ⟨a11, ha11, hha11⟩ := mbind_n h
        subst ha11
        have h := hha11
        obtain ⟨y12, hy12, h⟩ := mbind_n h
        refine u_iald hC hP hy12 rfl dX3_weigh_82 ?_
        refine lv_if_le (tgt := 90) hx hb dX3_weigh_83 (by decide) (fun c13 => ?_) (fun c13 => ?_)
        · have h := mif_t c13 h
          exact w_X3_weigh_90 hC hR N (f_X3_weigh_56 N (ub G) (ug G) a0 n) ih u x1 x2 x3 x5 x4 h hP hS (lv_sub hl [0, 1, 2, 3, 5] rfl)
        · have h := mif_f c13 h
          refine lv_iconst (v := 1) hx hb dX3_weigh_86 (by decide) ?_
          refine lv_goto (tgt := 91) hx hb dX3_weigh_87 (by decide) ?_
          exact w_X3_weigh_91 hC hR N (f_X3_weigh_56 N (ub G) (ug G) a0 n) ih u x1 x2 x3 x5 1 x4 h hP hS (lv_sub hl [0, 1, 2, 3, 5] rfl)
def f_X3_weigh_51 (N b : Nat) (g : uEnv) (a0 : Nat) (u : UH) (x1 : Int32) (x2 : Int32) (x3 : Int32) (s0 : Int32) : Option (Int32 × UH) :=
    f_X3_weigh_56 N b g a0 N u x1 x2 x3 s0 0
set_option maxHeartbeats 4000000 in
set_option maxRecDepth 100000 in
theorem zz_X3_weigh_51 {G : uG} {a0 : Nat} {uf : UH} {r : Int32} (N : Nat) (u : UH) (x1 : Int32) (x2 : Int32) (x3 : Int32) (s0 : Int32) (h : f_X3_weigh_51 N (ub G) (ug G) a0 u x1 x2 x3 s0 = some (r, uf)) : uf.1 = u.1 ∧ uf.2.1 = u.2.1 := by
  unfold f_X3_weigh_51 at h
  have hq := zz_X3_weigh_56 (G := G) (a0 := a0) N N u x1 x2 x3 s0 0 h
  exact ⟨by omega, by omega⟩
set_option maxHeartbeats 4000000 in
set_option maxRecDepth 100000 in
theorem w_X3_weigh_51 {p : Program} {l : Launch} {e : Env} {R : Room} {s : State} {m : MethodId} {args : Array Value} {below : List Frame} {meth : Method} {c : Code} {G : uG} {a0 : Nat} {uf : UH} {r : Int32} (hC : uC p s m args meth c G RX3 cX3_weigh 6 (some .boolean)) (hR : 2 ≤ R.frames ∧ 43 ≤ R.locals) (N : Nat) (u : UH) (x1 : Int32) (x2 : Int32) (x3 : Int32) (s0 : Int32) (h : f_X3_weigh_51 N (ub G) (ug G) a0 u x1 x2 x3 s0 = some (r, uf)) {H : Heap} {locs : List Loc} (hP : uP G u H) (hS : va_S (uA G) s.heap H locs) {ls : Array Slot} (hl : lv_has ls 6 [(0, va_rf (some a0)), (1, .int x1), (2, .int x2), (3, .int x3)]) : W p l e R s m args below meth c H locs 0 0 (MQ below (uQi G r uf) args s 0 0 (uA G)) (F0 m 51 ls [.int s0]) := by
  obtain ⟨⟨hx, hb, hml, hown, hts⟩, hKK⟩ := id hC
  unfold f_X3_weigh_51 at h
  refine lv_istore (lv' := [(4, .int s0), (0, va_rf (some a0)), (1, .int x1), (2, .int x2), (3, .int x3)]) hx hb dX3_weigh_51 hl (by decide) rfl (fun ls hl => ?_)
  refine lv_iconst (v := 0) hx hb dX3_weigh_53 (by decide) ?_
  refine lv_istore (lv' := [(5, .int 0), (4, .int s0), (0, va_rf (some a0)), (1, .int x1), (2, .int x2), (3, .int x3)]) hx hb dX3_weigh_54 hl (by decide) rfl (fun ls hl => ?_)
  exact w_X3_weigh_56 hC hR N N u x1 x2 x3 s0 0 h _ _ hP hS _ (lv_sub hl [2, 3, 4, 5, 1, 0] rfl)
def f_X3_weigh (N b : Nat) (g : uEnv) (u : UH) (a0 : Nat) (x1 : Int32) (x2 : Int32) (x3 : Int32) : Option (Int32 × UH) :=
    if uIs u a0 2 = true then
    (f_X3_good N b g u a0).bind fun u2 =>
    if uIs u2 a0 2 = true then
    ucall (f_X3_isDoubt N b g u2 a0 x1) fun r7 u5 =>
    if r7 = 0 then
    f_X3_weigh_20 N b g a0 u5
    else
    if uIs u5 a0 2 = true then
    ucall (f_X3_isGround N b g u5 a0 x2) fun r12 u10 =>
    if r12 = 0 then
    f_X3_weigh_20 N b g a0 u10
    else
    ucall (f_X3_within N b g u10 x3 0 9) fun r16 u14 =>
    if r16 = 0 then
    if uIs u14 a0 2 = true then
    ucall (f_X3_not N b g u14 a0 2) fun r22 u20 =>
    if uFit .boolean r22 = true then
    some (r22, u20)
    else none
    else none
    else
    if x3 ≤ 0 then
    f_X3_weigh_51 N b g a0 u14 x1 x2 x3 0
    else
    f_X3_weigh_51 N b g a0 u14 x1 x2 x3 1
    else none
    else none
    else none
set_option maxHeartbeats 4000000 in
set_option maxRecDepth 100000 in
theorem zz_X3_weigh_0 {G : uG} {a0 : Nat} {uf : UH} {r : Int32} (N : Nat) (u : UH) (x1 : Int32) (x2 : Int32) (x3 : Int32) (h : f_X3_weigh N (ub G) (ug G) u a0 x1 x2 x3 = some (r, uf)) : uf.1 = u.1 ∧ uf.2.1 = u.2.1 := by
  unfold f_X3_weigh at h
  obtain ⟨c1, h⟩ := mif_n h
  obtain ⟨u2, c3, h⟩ := mbind_n h
  have zu2 := zz_X3_good N (ub G) (ug G) u a0 u2 c3
  obtain ⟨c4, h⟩ := mif_n h
  obtain ⟨r7, u5, c6, h⟩ := ucall_n h
  have zu5 := zz_X3_isDoubt N (ub G) (ug G) u2 a0 x1 r7 u5 c6
  by_cases c8 : r7 = 0
  · have h := mif_t c8 h
    have hq := zz_X3_weigh_20 (G := G) (a0 := a0) N u5 h
    exact ⟨by omega, by omega⟩
  · have h := mif_f c8 h
    obtain ⟨c9, h⟩ := mif_n h
    obtain ⟨r12, u10, c11, h⟩ := ucall_n h
    have zu10 := zz_X3_isGround N (ub G) (ug G) u5 a0 x2 r12 u10 c11
    by_cases c13 : r12 = 0
    · have h := mif_t c13 h
      have hq := zz_X3_weigh_20 (G := G) (a0 := a0) N u10 h
      exact ⟨by omega, by omega⟩
    · have h := mif_f c13 h
      obtain ⟨r16, u14, c15, h⟩ := ucall_n h
      have zu14 := zz_X3_within N (ub G) (ug G) u10 x3 0 9 r16 u14 c15
      by_cases c17 : r16 = 0
      · have h := mif_t c17 h
        obtain ⟨c19, h⟩ := mif_n h
        obtain ⟨r22, u20, c21, h⟩ := ucall_n h
        have zu20 := zz_X3_not N (ub G) (ug G) u14 a0 2 r22 u20 c21
        obtain ⟨c23, h⟩ := mif_n h
        obtain ⟨hr1, hr2⟩ := uret_n h
        subst hr2
        exact ⟨by omega, by omega⟩
      · have h := mif_f c17 h
        by_cases c18 : x3 ≤ 0
        · have h := mif_t c18 h
          have hq := zz_X3_weigh_51 (G := G) (a0 := a0) N u14 x1 x2 x3 0 h
          exact ⟨by omega, by omega⟩
        · have h := mif_f c18 h
          have hq := zz_X3_weigh_51 (G := G) (a0 := a0) N u14 x1 x2 x3 1 h
          exact ⟨by omega, by omega⟩
set_option maxHeartbeats 4000000 in
set_option maxRecDepth 100000 in
theorem w_X3_weigh_0 {p : Program} {l : Launch} {e : Env} {R : Room} {s : State} {m : MethodId} {args : Array Value} {below : List Frame} {meth : Method} {c : Code} {G : uG} {a0 : Nat} {uf : UH} {r : Int32} (hC : uC p s m args meth c G RX3 cX3_weigh 6 (some .boolean)) (hR : 2 ≤ R.frames ∧ 43 ≤ R.locals) (N : Nat) (u : UH) (x1 : Int32) (x2 : Int32) (x3 : Int32) (h : f_X3_weigh N (ub G) (ug G) u a0 x1 x2 x3 = some (r, uf)) {H : Heap} {locs : List Loc} (hP : uP G u H) (hS : va_S (uA G) s.heap H locs) {ls : Array Slot} (hl : lv_has ls 6 [(0, va_rf (some a0)), (1, .int x1), (2, .int x2), (3, .int x3)]) : W p l e R s m args below meth c H locs 0 0 (MQ below (uQi G r uf) args s 0 0 (uA G)) (F0 m 0 ls []) := by
  obtain ⟨⟨hx, hb, hml, hown, hts⟩, hKK⟩ := id hC
  unfold f_X3_weigh at h
  refine u_aload_n (r := some a0) hx hb dX3_weigh_0 rfl (lv_at hl 0 rfl) ?_
  obtain ⟨c1, h⟩ := mif_n h
  obtain ⟨u2, c3, h⟩ := mbind_n h
  have zu2 := zz_X3_good N (ub G) (ug G) u a0 u2 c3
  refine u_callv (va_runV (As := []) (rest := []) hC.1 (met_X3_good l N G u a0 u2 c3) (cwV 0 hts (lw_V q2131 q2133 qs40 q103 q2134) rfl rfl rfl (by decide +kernel) ⟨Nat.le_trans (Nat.le_of_ble_eq_true rfl) hR.1, Nat.le_trans (Nat.le_of_ble_eq_true rfl) hR.2⟩) ⟨uPc_blind, u_rcv hC hP c1 rfl, fun U hU hW => u_pre hC hP hS hU hW⟩ rfl rfl hl.1 rfl (lv_room (Nat.le_of_ble_eq_true rfl)) dX3_weigh_1 ⟨Nat.zero_le _, Nat.zero_le _⟩) hS (fun H locs hP hS => ?_)
  refine u_aload_n (r := some a0) hx hb dX3_weigh_4 rfl (lv_at hl 0 rfl) ?_
  refine lv_iload_n hx hb dX3_weigh_5 rfl (lv_at hl 1 rfl) ?_
  obtain ⟨c4, h⟩ := mif_n h
  obtain ⟨r7, u5, c6, h⟩ := ucall_n h
  have zu5 := zz_X3_isDoubt N (ub G) (ug G) u2 a0 x1 r7 u5 c6
  refine u_calli (va_runV (As := [.int x1]) (rest := []) hC.1 (met_X3_isDoubt l N G u2 a0 x1 r7 u5 c6) (cwV 1 hts (lw_V q2292 q2294 qs61 q103 q2295) rfl rfl rfl (by decide +kernel) ⟨Nat.le_trans (Nat.le_of_ble_eq_true rfl) hR.1, Nat.le_trans (Nat.le_of_ble_eq_true rfl) hR.2⟩) ⟨uPc_blind, u_rcv hC hP c4 rfl, fun U hU hW => u_pre hC hP hS hU hW⟩ rfl rfl hl.1 rfl (lv_room (Nat.le_of_ble_eq_true rfl)) dX3_weigh_6 ⟨Nat.zero_le _, Nat.zero_le _⟩) hS (fun H locs hP hS => ?_)
  refine lv_if_eq (tgt := 20) hx hb dX3_weigh_9 (by decide) (fun c8 => ?_) (fun c8 => ?_)
  · have h := mif_t c8 h
    exact w_X3_weigh_20 hC hR N u5 h hP hS (lv_sub hl [0] rfl)
  · have h := mif_f c8 h
    refine u_aload_n (r := some a0) hx hb dX3_weigh_12 rfl (lv_at hl 0 rfl) ?_
    refine lv_iload_n hx hb dX3_weigh_13 rfl (lv_at hl 2 rfl) ?_
    obtain ⟨c9, h⟩ := mif_n h
    obtain ⟨r12, u10, c11, h⟩ := ucall_n h
    have zu10 := zz_X3_isGround N (ub G) (ug G) u5 a0 x2 r12 u10 c11
    refine u_calli (va_runV (As := [.int x2]) (rest := []) hC.1 (met_X3_isGround l N G u5 a0 x2 r12 u10 c11) (cwV 1 hts (lw_V q2246 q2248 qs58 q103 q2249) rfl rfl rfl (by decide +kernel) ⟨Nat.le_trans (Nat.le_of_ble_eq_true rfl) hR.1, Nat.le_trans (Nat.le_of_ble_eq_true rfl) hR.2⟩) ⟨uPc_blind, u_rcv hC hP c9 rfl, fun U hU hW => u_pre hC hP hS hU hW⟩ rfl rfl hl.1 rfl (lv_room (Nat.le_of_ble_eq_true rfl)) dX3_weigh_14 ⟨Nat.zero_le _, Nat.zero_le _⟩) hS (fun H locs hP hS => ?_)
    refine lv_if_ne (tgt := 26) hx hb dX3_weigh_17 (by decide) (fun c13 => ?_) (fun c13 => ?_)
    · have h := mif_f c13 h
      refine lv_iload_n hx hb dX3_weigh_26 rfl (lv_at hl 3 rfl) ?_
      refine lv_iconst (v := 0) hx hb dX3_weigh_27 (by decide) ?_
      refine lv_bipush (v := 9) hx hb dX3_weigh_28 (by decide) ?_
      obtain ⟨r16, u14, c15, h⟩ := ucall_n h
      have zu14 := zz_X3_within N (ub G) (ug G) u10 x3 0 9 r16 u14 c15
      refine u_calli (va_runS (As := [.int x3, .int 0, .int 9]) (rest := []) hC.1 (met_X3_within l N G u10 x3 0 9 r16 u14 c15) (va_cwS 3 hts (lw_S q2135 q2136 q103 q2137) rfl rfl rfl (by decide +kernel) ⟨Nat.le_trans (Nat.le_of_ble_eq_true rfl) hR.1, Nat.le_trans (Nat.le_of_ble_eq_true rfl) hR.2⟩) ⟨uPc_blind, fun U hU hW => u_pre hC hP hS hU hW⟩ rfl rfl hl.1 rfl (lv_room (Nat.le_of_ble_eq_true rfl)) dX3_weigh_30 ⟨Nat.zero_le _, Nat.zero_le _⟩) hS (fun H locs hP hS => ?_)
      refine lv_if_ne (tgt := 42) hx hb dX3_weigh_33 (by decide) (fun c17 => ?_) (fun c17 => ?_)
      · have h := mif_f c17 h
        refine lv_iload_n hx hb dX3_weigh_42 rfl (lv_at hl 3 rfl) ?_
        refine lv_if_le (tgt := 50) hx hb dX3_weigh_43 (by decide) (fun c18 => ?_) (fun c18 => ?_)
        · have h := mif_t c18 h
          refine lv_iconst (v := 0) hx hb dX3_weigh_50 (by decide) ?_
          exact w_X3_weigh_51 hC hR N u14 x1 x2 x3 0 h hP hS (lv_sub hl [0, 1, 2, 3] rfl)
        · have h := mif_f c18 h
          refine lv_iconst (v := 1) hx hb dX3_weigh_46 (by decide) ?_
          refine lv_goto (tgt := 51) hx hb dX3_weigh_47 (by decide) ?_
          exact w_X3_weigh_51 hC hR N u14 x1 x2 x3 1 h hP hS (lv_sub hl [0, 1, 2, 3] rfl)
      · have h := mif_t c17 h
        refine u_aload_n (r := some a0) hx hb dX3_weigh_36 rfl (lv_at hl 0 rfl) ?_
        refine lv_iconst (v := 2) hx hb dX3_weigh_37 (by decide) ?_
        obtain ⟨c19, h⟩ := mif_n h
        obtain ⟨r22, u20, c21, h⟩ := ucall_n h
        have zu20 := zz_X3_not N (ub G) (ug G) u14 a0 2 r22 u20 c21
        refine u_calli (va_runV (As := [.int 2]) (rest := []) hC.1 (met_X3_not l N G u14 a0 2 r22 u20 c21) (cwV 1 hts (lw_V q2264 q2266 qs59 q103 q2267) rfl rfl rfl (by decide +kernel) ⟨Nat.le_trans (Nat.le_of_ble_eq_true rfl) hR.1, Nat.le_trans (Nat.le_of_ble_eq_true rfl) hR.2⟩) ⟨uPc_blind, u_rcv hC hP c19 rfl, fun U hU hW => u_pre hC hP hS hU hW⟩ rfl rfl hl.1 rfl (lv_room (Nat.le_of_ble_eq_true rfl)) dX3_weigh_38 ⟨Nat.zero_le _, Nat.zero_le _⟩) hS (fun H locs hP hS => ?_)
        obtain ⟨c23, h⟩ := mif_n h
        obtain ⟨hr1, hr2⟩ := uret_n h
        subst hr1
        subst hr2
        exact u_zret hC (uFit_n c23).1 hP hS dX3_weigh_41
    · have h := mif_t c13 h
      exact w_X3_weigh_20 hC hR N u10 h hP hS (lv_sub hl [0] rfl)
theorem zz_X3_weigh (N b : Nat) (g : uEnv) (u : UH) (a0 : Nat) (x1 : Int32) (x2 : Int32) (x3 : Int32) (r : Int32) (uf : UH) (h : f_X3_weigh N b g u a0 x1 x2 x3 = some (r, uf)) : uf.1 = u.1 ∧ uf.2.1 = u.2.1 :=
  zz_X3_weigh_0 (G := ((fun _ => 0, fun _ _ => 0), fun _ => 0, b, g)) (a0 := a0) N u x1 x2 x3 h
theorem met_X3_weigh (l : Launch) (N : Nat) (G : uG) (u : UH) (a0 : Nat) (x1 : Int32) (x2 : Int32) (x3 : Int32) (r : Int32) (uf : UH) (h : f_X3_weigh N (ub G) (ug G) u a0 x1 x2 x3 = some (r, uf)) : Met l yX3_weigh (ws_ yX3_weigh cX3_weigh 6 (some .boolean)) ({ frames := 2, cells := 0, slots := 0, locals := 43 }) (uPc G u [.ref a0, .int x1, .int x2, .int x3]) (uQi G r uf) 0 0 (uA G) := by
  exact u_met (own := RX3) (by decide +kernel) rfl (Nat.le_of_ble_eq_true rfl) (fun hC hn hsz ls hl hP => w_X3_weigh_0 hC ⟨Nat.le_refl _, Nat.le_refl _⟩ N u x1 x2 x3 h hP va_S.rf hl)
def f_X3_where_21 (N b : Nat) (g : uEnv) (a0 : Nat) (u : UH) (s0 : Int32) : Option (Int32 × UH) :=
    some (s0, u)
set_option maxHeartbeats 4000000 in
set_option maxRecDepth 100000 in
theorem zz_X3_where_21 {G : uG} {a0 : Nat} {uf : UH} {r : Int32} (N : Nat) (u : UH) (s0 : Int32) (h : f_X3_where_21 N (ub G) (ug G) a0 u s0 = some (r, uf)) : uf.1 = u.1 ∧ uf.2.1 = u.2.1 := by
  unfold f_X3_where_21 at h
  obtain ⟨hr1, hr2⟩ := uret_n h
  subst hr2
  exact ⟨by omega, by omega⟩
set_option maxHeartbeats 4000000 in
set_option maxRecDepth 100000 in
theorem w_X3_where_21 {p : Program} {l : Launch} {e : Env} {R : Room} {s : State} {m : MethodId} {args : Array Value} {below : List Frame} {meth : Method} {c : Code} {G : uG} {a0 : Nat} {uf : UH} {r : Int32} (hC : uC p s m args meth c G RX3 cX3_where 1 (some .int)) (hR : 0 ≤ R.frames ∧ 0 ≤ R.locals) (N : Nat) (u : UH) (s0 : Int32) (h : f_X3_where_21 N (ub G) (ug G) a0 u s0 = some (r, uf)) {H : Heap} {locs : List Loc} (hP : uP G u H) (hS : va_S (uA G) s.heap H locs) {ls : Array Slot} (hl : lv_has ls 1 []) : W p l e R s m args below meth c H locs 0 0 (MQ below (uQi G r uf) args s 0 0 (uA G)) (F0 m 21 ls [.int s0]) := by
  obtain ⟨⟨hx, hb, hml, hown, hts⟩, hKK⟩ := id hC
  unfold f_X3_where_21 at h
  obtain ⟨hr1, hr2⟩ := uret_n h
  subst hr1
  subst hr2
  exact u_iret hC hP hS dX3_where_21
def f_X3_where (N b : Nat) (g : uEnv) (u : UH) (a0 : Nat) : Option (Int32 × UH) :=
    (uPut b u a0 2 0 (.int 0)).bind fun u1 =>
    (uGI u1 a0 2 39).bind fun y2 =>
    if y2 = 4 then
    (uGI u1 a0 2 10).bind fun y4 =>
    f_X3_where_21 N b g a0 u1 y4
    else
    f_X3_where_21 N b g a0 u1 (-1)
set_option maxHeartbeats 4000000 in
set_option maxRecDepth 100000 in
theorem zz_X3_where_0 {G : uG} {a0 : Nat} {uf : UH} {r : Int32} (N : Nat) (u : UH) (h : f_X3_where N (ub G) (ug G) u a0 = some (r, uf)) : uf.1 = u.1 ∧ uf.2.1 = u.2.1 := by
  unfold f_X3_where at h
  obtain ⟨u1, hu1, h⟩ := mbind_n h
  have zu1 := uPut_sz hu1
  obtain ⟨y2, hy2, h⟩ := mbind_n h
  by_cases c3 : y2 = 4
  · have h := mif_t c3 h
    obtain ⟨y4, hy4, h⟩ := mbind_n h
    have hq := zz_X3_where_21 (G := G) (a0 := a0) N u1 y4 h
    exact ⟨by omega, by omega⟩
  · have h := mif_f c3 h
    have hq := zz_X3_where_21 (G := G) (a0 := a0) N u1 (-1) h
    exact ⟨by omega, by omega⟩
set_option maxHeartbeats 4000000 in
set_option maxRecDepth 100000 in
theorem w_X3_where_0 {p : Program} {l : Launch} {e : Env} {R : Room} {s : State} {m : MethodId} {args : Array Value} {below : List Frame} {meth : Method} {c : Code} {G : uG} {a0 : Nat} {uf : UH} {r : Int32} (hC : uC p s m args meth c G RX3 cX3_where 1 (some .int)) (hR : 0 ≤ R.frames ∧ 0 ≤ R.locals) (N : Nat) (u : UH) (h : f_X3_where N (ub G) (ug G) u a0 = some (r, uf)) {H : Heap} {locs : List Loc} (hP : uP G u H) (hS : va_S (uA G) s.heap H locs) {ls : Array Slot} (hl : lv_has ls 1 [(0, va_rf (some a0))]) : W p l e R s m args below meth c H locs 0 0 (MQ below (uQi G r uf) args s 0 0 (uA G)) (F0 m 0 ls []) := by
  obtain ⟨⟨hx, hb, hml, hown, hts⟩, hKK⟩ := id hC
  unfold f_X3_where at h
  refine u_aload_n (r := some a0) hx hb dX3_where_0 rfl (lv_at hl 0 rfl) ?_
  refine lv_iconst (v := 0) hx hb dX3_where_1 (by decide) ?_
  obtain ⟨u1, hu1, h⟩ := mbind_n h
  have zu1 := uPut_sz hu1
  refine u_put hC hP hS hu1 rfl in_X3 tyX3 tyX3_ok nmX3 (by decide) q1893 (fun _ h => h) rfl (ty := .int) (tyX3_ok 0 (by decide)) rfl rfl dX3_where_2 (fun H locs hP hS => ?_)
  refine u_aload_n (r := some a0) hx hb dX3_where_5 rfl (lv_at hl 0 rfl) ?_
  obtain ⟨y2, hy2, h⟩ := mbind_n h
  refine u_get hC hP (uGI_n hy2) rfl in_X3 (by decide) q1932 (fun _ h => h) dX3_where_6 ?_
  refine lv_iconst (v := 4) hx hb dX3_where_9 (by decide) ?_
  refine lv_icmp_ne (tgt := 20) hx hb dX3_where_10 (by decide) (fun c3 => ?_) (fun c3 => ?_)
  · have h := mif_f c3 h
    refine lv_iconst (v := (-1)) hx hb dX3_where_20 (by decide) ?_
    exact w_X3_where_21 hC hR N u1 (-1) h hP hS (lv_sub hl [] rfl)
  · have h := mif_t c3 h
    refine u_aload_n (r := some a0) hx hb dX3_where_13 rfl (lv_at hl 0 rfl) ?_
    obtain ⟨y4, hy4, h⟩ := mbind_n h
    refine u_get hC hP (uGI_n hy4) rfl in_X3 (by decide) q1903 (fun _ h => h) dX3_where_14 ?_
    refine lv_goto (tgt := 21) hx hb dX3_where_17 (by decide) ?_
    exact w_X3_where_21 hC hR N u1 y4 h hP hS (lv_sub hl [] rfl)
theorem zz_X3_where (N b : Nat) (g : uEnv) (u : UH) (a0 : Nat) (r : Int32) (uf : UH) (h : f_X3_where N b g u a0 = some (r, uf)) : uf.1 = u.1 ∧ uf.2.1 = u.2.1 :=
  zz_X3_where_0 (G := ((fun _ => 0, fun _ _ => 0), fun _ => 0, b, g)) (a0 := a0) N u h
theorem met_X3_where (l : Launch) (N : Nat) (G : uG) (u : UH) (a0 : Nat) (r : Int32) (uf : UH) (h : f_X3_where N (ub G) (ug G) u a0 = some (r, uf)) : Met l yX3_where (ws_ yX3_where cX3_where 1 (some .int)) ({ frames := 0, cells := 0, slots := 0, locals := 0 }) (uPc G u [.ref a0]) (uQi G r uf) 0 0 (uA G) := by
  exact u_met (own := RX3) (by decide +kernel) rfl (Nat.le_of_ble_eq_true rfl) (fun hC hn hsz ls hl hP => w_X3_where_0 hC ⟨Nat.le_refl _, Nat.le_refl _⟩ N u h hP va_S.rf hl)
def f_X3_worst_20 (N b : Nat) (g : uEnv) (a0 : Nat) (u : UH) : Option (Int32 × UH) :=
    if uIs u a0 2 = true then
    ucall (f_X3_no N b g u a0 1) fun r4 u2 =>
    some (r4, u2)
    else none
set_option maxHeartbeats 4000000 in
set_option maxRecDepth 100000 in
theorem zz_X3_worst_20 {G : uG} {a0 : Nat} {uf : UH} {r : Int32} (N : Nat) (u : UH) (h : f_X3_worst_20 N (ub G) (ug G) a0 u = some (r, uf)) : uf.1 = u.1 ∧ uf.2.1 = u.2.1 := by
  unfold f_X3_worst_20 at h
  obtain ⟨c1, h⟩ := mif_n h
  obtain ⟨r4, u2, c3, h⟩ := ucall_n h
  have zu2 := zz_X3_no N (ub G) (ug G) u a0 1 r4 u2 c3
  obtain ⟨hr1, hr2⟩ := uret_n h
  subst hr2
  exact ⟨by omega, by omega⟩
set_option maxHeartbeats 4000000 in
set_option maxRecDepth 100000 in
theorem w_X3_worst_20 {p : Program} {l : Launch} {e : Env} {R : Room} {s : State} {m : MethodId} {args : Array Value} {below : List Frame} {meth : Method} {c : Code} {G : uG} {a0 : Nat} {uf : UH} {r : Int32} (hC : uC p s m args meth c G RX3 cX3_worst 5 (some .int)) (hR : 7 ≤ R.frames ∧ 177 ≤ R.locals) (N : Nat) (u : UH) (h : f_X3_worst_20 N (ub G) (ug G) a0 u = some (r, uf)) {H : Heap} {locs : List Loc} (hP : uP G u H) (hS : va_S (uA G) s.heap H locs) {ls : Array Slot} (hl : lv_has ls 5 [(0, va_rf (some a0))]) : W p l e R s m args below meth c H locs 0 0 (MQ below (uQi G r uf) args s 0 0 (uA G)) (F0 m 20 ls []) := by
  obtain ⟨⟨hx, hb, hml, hown, hts⟩, hKK⟩ := id hC
  unfold f_X3_worst_20 at h
  refine u_aload_n (r := some a0) hx hb dX3_worst_20 rfl (lv_at hl 0 rfl) ?_
  refine lv_iconst (v := 1) hx hb dX3_worst_21 (by decide) ?_
  obtain ⟨c1, h⟩ := mif_n h
  obtain ⟨r4, u2, c3, h⟩ := ucall_n h
  have zu2 := zz_X3_no N (ub G) (ug G) u a0 1 r4 u2 c3
  refine u_calli (va_runV (As := [.int 1]) (rest := []) hC.1 (met_X3_no l N G u a0 1 r4 u2 c3) (cwV 1 hts (lw_V q2138 q2140 qs41 q103 q2141) rfl rfl rfl (by decide +kernel) ⟨Nat.le_trans (Nat.le_of_ble_eq_true rfl) hR.1, Nat.le_trans (Nat.le_of_ble_eq_true rfl) hR.2⟩) ⟨uPc_blind, u_rcv hC hP c1 rfl, fun U hU hW => u_pre hC hP hS hU hW⟩ rfl rfl hl.1 rfl (lv_room (Nat.le_of_ble_eq_true rfl)) dX3_worst_22 ⟨Nat.zero_le _, Nat.zero_le _⟩) hS (fun H locs hP hS => ?_)
  obtain ⟨hr1, hr2⟩ := uret_n h
  subst hr1
  subst hr2
  exact u_iret hC hP hS dX3_worst_25
def f_X3_worst_51 (N b : Nat) (g : uEnv) (a0 : Nat) (u : UH) (s0 : Int32) : Option (Int32 × UH) :=
    some (s0, u)
set_option maxHeartbeats 4000000 in
set_option maxRecDepth 100000 in
theorem zz_X3_worst_51 {G : uG} {a0 : Nat} {uf : UH} {r : Int32} (N : Nat) (u : UH) (s0 : Int32) (h : f_X3_worst_51 N (ub G) (ug G) a0 u s0 = some (r, uf)) : uf.1 = u.1 ∧ uf.2.1 = u.2.1 := by
  unfold f_X3_worst_51 at h
  obtain ⟨hr1, hr2⟩ := uret_n h
  subst hr2
  exact ⟨by omega, by omega⟩
set_option maxHeartbeats 4000000 in
set_option maxRecDepth 100000 in
theorem w_X3_worst_51 {p : Program} {l : Launch} {e : Env} {R : Room} {s : State} {m : MethodId} {args : Array Value} {below : List Frame} {meth : Method} {c : Code} {G : uG} {a0 : Nat} {uf : UH} {r : Int32} (hC : uC p s m args meth c G RX3 cX3_worst 5 (some .int)) (hR : 7 ≤ R.frames ∧ 177 ≤ R.locals) (N : Nat) (u : UH) (s0 : Int32) (h : f_X3_worst_51 N (ub G) (ug G) a0 u s0 = some (r, uf)) {H : Heap} {locs : List Loc} (hP : uP G u H) (hS : va_S (uA G) s.heap H locs) {ls : Array Slot} (hl : lv_has ls 5 []) : W p l e R s m args below meth c H locs 0 0 (MQ below (uQi G r uf) args s 0 0 (uA G)) (F0 m 51 ls [.int s0]) := by
  obtain ⟨⟨hx, hb, hml, hown, hts⟩, hKK⟩ := id hC
  unfold f_X3_worst_51 at h
  obtain ⟨hr1, hr2⟩ := uret_n h
  subst hr1
  subst hr2
  exact u_iret hC hP hS dX3_worst_51
def f_X3_worst (N b : Nat) (g : uEnv) (u : UH) (a0 : Nat) (x1 : Int32) (x2 : Int32) : Option (Int32 × UH) :=
    if uIs u a0 2 = true then
    (f_X3_good N b g u a0).bind fun u2 =>
    if uIs u2 a0 2 = true then
    ucall (f_X3_isCell N b g u2 a0 x1) fun r7 u5 =>
    if r7 = 0 then
    f_X3_worst_20 N b g a0 u5
    else
    if uIs u5 a0 2 = true then
    ucall (f_X3_isCell N b g u5 a0 x2) fun r12 u10 =>
    if r12 = 0 then
    f_X3_worst_20 N b g a0 u10
    else
    if uIs u10 a0 2 = true then
    ucall (f_X3_from N b g u10 a0 x1 x2 0) fun r17 u15 =>
    if 0 ≤ (lg_cmp r17 0) then
    f_X3_worst_51 N b g a0 u15 (r17.toInt32)
    else
    if uIs u15 a0 2 = true then
    ucall (f_X3_no N b g u15 a0 6) fun r22 u20 =>
    f_X3_worst_51 N b g a0 u20 r22
    else none
    else none
    else none
    else none
    else none
set_option maxHeartbeats 4000000 in
set_option maxRecDepth 100000 in
theorem zz_X3_worst_0 {G : uG} {a0 : Nat} {uf : UH} {r : Int32} (N : Nat) (u : UH) (x1 : Int32) (x2 : Int32) (h : f_X3_worst N (ub G) (ug G) u a0 x1 x2 = some (r, uf)) : uf.1 = u.1 ∧ uf.2.1 = u.2.1 := by
  unfold f_X3_worst at h
  obtain ⟨c1, h⟩ := mif_n h
  obtain ⟨u2, c3, h⟩ := mbind_n h
  have zu2 := zz_X3_good N (ub G) (ug G) u a0 u2 c3
  obtain ⟨c4, h⟩ := mif_n h
  obtain ⟨r7, u5, c6, h⟩ := ucall_n h
  have zu5 := zz_X3_isCell N (ub G) (ug G) u2 a0 x1 r7 u5 c6
  by_cases c8 : r7 = 0
  · have h := mif_t c8 h
    have hq := zz_X3_worst_20 (G := G) (a0 := a0) N u5 h
    exact ⟨by omega, by omega⟩
  · have h := mif_f c8 h
    obtain ⟨c9, h⟩ := mif_n h
    obtain ⟨r12, u10, c11, h⟩ := ucall_n h
    have zu10 := zz_X3_isCell N (ub G) (ug G) u5 a0 x2 r12 u10 c11
    by_cases c13 : r12 = 0
    · have h := mif_t c13 h
      have hq := zz_X3_worst_20 (G := G) (a0 := a0) N u10 h
      exact ⟨by omega, by omega⟩
    · have h := mif_f c13 h
      obtain ⟨c14, h⟩ := mif_n h
      obtain ⟨r17, u15, c16, h⟩ := ucall_n h
      have zu15 := zz_X3_from N (ub G) (ug G) u10 a0 x1 x2 0 r17 u15 c16
      by_cases c18 : 0 ≤ (lg_cmp r17 0)
      · have h := mif_t c18 h
        have hq := zz_X3_worst_51 (G := G) (a0 := a0) N u15 (r17.toInt32) h
        exact ⟨by omega, by omega⟩
      · have h := mif_f c18 h
        obtain ⟨c19, h⟩ := mif_n h
        obtain ⟨r22, u20, c21, h⟩ := ucall_n h
        have zu20 := zz_X3_no N (ub G) (ug G) u15 a0 6 r22 u20 c21
        have hq := zz_X3_worst_51 (G := G) (a0 := a0) N u20 r22 h
        exact ⟨by omega, by omega⟩
set_option maxHeartbeats 4000000 in
set_option maxRecDepth 100000 in
theorem w_X3_worst_0 {p : Program} {l : Launch} {e : Env} {R : Room} {s : State} {m : MethodId} {args : Array Value} {below : List Frame} {meth : Method} {c : Code} {G : uG} {a0 : Nat} {uf : UH} {r : Int32} (hC : uC p s m args meth c G RX3 cX3_worst 5 (some .int)) (hR : 7 ≤ R.frames ∧ 177 ≤ R.locals) (N : Nat) (u : UH) (x1 : Int32) (x2 : Int32) (h : f_X3_worst N (ub G) (ug G) u a0 x1 x2 = some (r, uf)) {H : Heap} {locs : List Loc} (hP : uP G u H) (hS : va_S (uA G) s.heap H locs) {ls : Array Slot} (hl : lv_has ls 5 [(0, va_rf (some a0)), (1, .int x1), (2, .int x2)]) : W p l e R s m args below meth c H locs 0 0 (MQ below (uQi G r uf) args s 0 0 (uA G)) (F0 m 0 ls []) := by
  obtain ⟨⟨hx, hb, hml, hown, hts⟩, hKK⟩ := id hC
  unfold f_X3_worst at h
  refine u_aload_n (r := some a0) hx hb dX3_worst_0 rfl (lv_at hl 0 rfl) ?_
  obtain ⟨c1, h⟩ := mif_n h
  obtain ⟨u2, c3, h⟩ := mbind_n h
  have zu2 := zz_X3_good N (ub G) (ug G) u a0 u2 c3
  refine u_callv (va_runV (As := []) (rest := []) hC.1 (met_X3_good l N G u a0 u2 c3) (cwV 0 hts (lw_V q2131 q2133 qs40 q103 q2134) rfl rfl rfl (by decide +kernel) ⟨Nat.le_trans (Nat.le_of_ble_eq_true rfl) hR.1, Nat.le_trans (Nat.le_of_ble_eq_true rfl) hR.2⟩) ⟨uPc_blind, u_rcv hC hP c1 rfl, fun U hU hW => u_pre hC hP hS hU hW⟩ rfl rfl hl.1 rfl (lv_room (Nat.le_of_ble_eq_true rfl)) dX3_worst_1 ⟨Nat.zero_le _, Nat.zero_le _⟩) hS (fun H locs hP hS => ?_)
  refine u_aload_n (r := some a0) hx hb dX3_worst_4 rfl (lv_at hl 0 rfl) ?_
  refine lv_iload_n hx hb dX3_worst_5 rfl (lv_at hl 1 rfl) ?_
  obtain ⟨c4, h⟩ := mif_n h
  obtain ⟨r7, u5, c6, h⟩ := ucall_n h
  have zu5 := zz_X3_isCell N (ub G) (ug G) u2 a0 x1 r7 u5 c6
  refine u_calli (va_runV (As := [.int x1]) (rest := []) hC.1 (met_X3_isCell l N G u2 a0 x1 r7 u5 c6) (cwV 1 hts (lw_V q2276 q2278 qs60 q103 q2279) rfl rfl rfl (by decide +kernel) ⟨Nat.le_trans (Nat.le_of_ble_eq_true rfl) hR.1, Nat.le_trans (Nat.le_of_ble_eq_true rfl) hR.2⟩) ⟨uPc_blind, u_rcv hC hP c4 rfl, fun U hU hW => u_pre hC hP hS hU hW⟩ rfl rfl hl.1 rfl (lv_room (Nat.le_of_ble_eq_true rfl)) dX3_worst_6 ⟨Nat.zero_le _, Nat.zero_le _⟩) hS (fun H locs hP hS => ?_)
  refine lv_if_eq (tgt := 20) hx hb dX3_worst_9 (by decide) (fun c8 => ?_) (fun c8 => ?_)
  · have h := mif_t c8 h
    exact w_X3_worst_20 hC hR N u5 h hP hS (lv_sub hl [0] rfl)
  · have h := mif_f c8 h
    refine u_aload_n (r := some a0) hx hb dX3_worst_12 rfl (lv_at hl 0 rfl) ?_
    refine lv_iload_n hx hb dX3_worst_13 rfl (lv_at hl 2 rfl) ?_
    obtain ⟨c9, h⟩ := mif_n h
    obtain ⟨r12, u10, c11, h⟩ := ucall_n h
    have zu10 := zz_X3_isCell N (ub G) (ug G) u5 a0 x2 r12 u10 c11
    refine u_calli (va_runV (As := [.int x2]) (rest := []) hC.1 (met_X3_isCell l N G u5 a0 x2 r12 u10 c11) (cwV 1 hts (lw_V q2276 q2278 qs60 q103 q2279) rfl rfl rfl (by decide +kernel) ⟨Nat.le_trans (Nat.le_of_ble_eq_true rfl) hR.1, Nat.le_trans (Nat.le_of_ble_eq_true rfl) hR.2⟩) ⟨uPc_blind, u_rcv hC hP c9 rfl, fun U hU hW => u_pre hC hP hS hU hW⟩ rfl rfl hl.1 rfl (lv_room (Nat.le_of_ble_eq_true rfl)) dX3_worst_14 ⟨Nat.zero_le _, Nat.zero_le _⟩) hS (fun H locs hP hS => ?_)
    refine lv_if_ne (tgt := 26) hx hb dX3_worst_17 (by decide) (fun c13 => ?_) (fun c13 => ?_)
    · have h := mif_f c13 h
      refine u_aload_n (r := some a0) hx hb dX3_worst_26 rfl (lv_at hl 0 rfl) ?_
      refine lv_iload_n hx hb dX3_worst_27 rfl (lv_at hl 1 rfl) ?_
      refine lv_iload_n hx hb dX3_worst_28 rfl (lv_at hl 2 rfl) ?_
      refine lv_iconst (v := 0) hx hb dX3_worst_29 (by decide) ?_
      obtain ⟨c14, h⟩ := mif_n h
      obtain ⟨r17, u15, c16, h⟩ := ucall_n h
      have zu15 := zz_X3_from N (ub G) (ug G) u10 a0 x1 x2 0 r17 u15 c16
      refine u_calll (va_runV (As := [.int x1, .int x2, .int 0]) (rest := []) hC.1 (met_X3_from l N G u10 a0 x1 x2 0 r17 u15 c16) (cwV 3 hts (lw_V q2336 q2338 qs67 q103 q2339) rfl rfl rfl (by decide +kernel) ⟨Nat.le_trans (Nat.le_of_ble_eq_true rfl) hR.1, Nat.le_trans (Nat.le_of_ble_eq_true rfl) hR.2⟩) ⟨uPc_blind, u_rcv hC hP c14 rfl, fun U hU hW => u_pre hC hP hS hU hW⟩ rfl rfl hl.1 rfl (lv_room (Nat.le_of_ble_eq_true rfl)) dX3_worst_30 ⟨Nat.zero_le _, Nat.zero_le _⟩) hS (fun H locs hP hS => ?_)
      refine lv_lstore_n (i := 3) (lv' := [(3, .long r17), (0, va_rf (some a0)), (1, .int x1), (2, .int x2)]) hx hb dX3_worst_33 rfl hl (by decide) rfl (fun ls hl => ?_)
      refine lv_lload_n hx hb dX3_worst_34 rfl (lv_at hl 0 rfl) ?_
      refine lv_lconst (v := 0) hx hb dX3_worst_35 (by decide) ?_
      refine W.lcmp hx hb dX3_worst_36 ?_
      refine lv_if_ge (tgt := 49) hx hb dX3_worst_37 (by decide) (fun c18 => ?_) (fun c18 => ?_)
      · have h := mif_t c18 h
        refine lv_lload_n hx hb dX3_worst_49 rfl (lv_at hl 0 rfl) ?_
        refine lv_l2i (v := r17.toInt32) hx hb dX3_worst_50 rfl ?_
        exact w_X3_worst_51 hC hR N u15 (r17.toInt32) h hP hS (lv_sub hl [] rfl)
      · have h := mif_f c18 h
        refine u_aload_n (r := some a0) hx hb dX3_worst_40 rfl (lv_at hl 1 rfl) ?_
        refine lv_bipush (v := 6) hx hb dX3_worst_41 (by decide) ?_
        obtain ⟨c19, h⟩ := mif_n h
        obtain ⟨r22, u20, c21, h⟩ := ucall_n h
        have zu20 := zz_X3_no N (ub G) (ug G) u15 a0 6 r22 u20 c21
        refine u_calli (va_runV (As := [.int 6]) (rest := []) hC.1 (met_X3_no l N G u15 a0 6 r22 u20 c21) (cwV 1 hts (lw_V q2138 q2140 qs41 q103 q2141) rfl rfl rfl (by decide +kernel) ⟨Nat.le_trans (Nat.le_of_ble_eq_true rfl) hR.1, Nat.le_trans (Nat.le_of_ble_eq_true rfl) hR.2⟩) ⟨uPc_blind, u_rcv hC hP c19 rfl, fun U hU hW => u_pre hC hP hS hU hW⟩ rfl rfl hl.1 rfl (lv_room (Nat.le_of_ble_eq_true rfl)) dX3_worst_43 ⟨Nat.zero_le _, Nat.zero_le _⟩) hS (fun H locs hP hS => ?_)
        refine lv_goto (tgt := 51) hx hb dX3_worst_46 (by decide) ?_
        exact w_X3_worst_51 hC hR N u20 r22 h hP hS (lv_sub hl [] rfl)
    · have h := mif_t c13 h
      exact w_X3_worst_20 hC hR N u10 h hP hS (lv_sub hl [0] rfl)
theorem zz_X3_worst (N b : Nat) (g : uEnv) (u : UH) (a0 : Nat) (x1 : Int32) (x2 : Int32) (r : Int32) (uf : UH) (h : f_X3_worst N b g u a0 x1 x2 = some (r, uf)) : uf.1 = u.1 ∧ uf.2.1 = u.2.1 :=
  zz_X3_worst_0 (G := ((fun _ => 0, fun _ _ => 0), fun _ => 0, b, g)) (a0 := a0) N u x1 x2 h
theorem met_X3_worst (l : Launch) (N : Nat) (G : uG) (u : UH) (a0 : Nat) (x1 : Int32) (x2 : Int32) (r : Int32) (uf : UH) (h : f_X3_worst N (ub G) (ug G) u a0 x1 x2 = some (r, uf)) : Met l yX3_worst (ws_ yX3_worst cX3_worst 5 (some .int)) ({ frames := 7, cells := 0, slots := 0, locals := 177 }) (uPc G u [.ref a0, .int x1, .int x2]) (uQi G r uf) 0 0 (uA G) := by
  exact u_met (own := RX3) (by decide +kernel) rfl (Nat.le_of_ble_eq_true rfl) (fun hC hn hsz ls hl hP => w_X3_worst_0 hC ⟨Nat.le_refl _, Nat.le_refl _⟩ N u x1 x2 h hP va_S.rf hl)
def f_X3_worth_105 (N b : Nat) (g : uEnv) (a0 : Nat) : Nat → UH → Int32 → Int32 → Int32 → Int64 → Int32 → Int64 → Int32 → Option (Int64 × UH)
  | 0, _, _, _, _, _, _, _, _ => none
  | n + 1, u, x1, x2, x4, x5, x7, x8, x10 =>
    (uGR u a0 2 53).bind fun o1 =>
    (o1).bind fun a2 =>
    (uLdI u a2 0 x1).bind fun y3 =>
    if y3 ≤ x10 then
    ucall (f_X3_part N b g u x5 x8 x4) fun r7 u5 =>
    some (r7, u5)
    else
    if uIs u a0 2 = true then
    ucall (f_X3_weightOf N b g u a0 x1 x10) fun r11 u9 =>
    (uGR u9 a0 2 48).bind fun o12 =>
    ucall (f_X3_power N b g u9 x1) fun r15 u13 =>
    (o12).bind fun a16 =>
    (uLdL u13 a16 3 ((100 * (x7 + ((x10 + 1) * r15))) + x2)).bind fun y17 =>
    mlet (x5 - ((r11.toInt64) * y17)) fun y18 =>
    mlet (x10 + 1) fun y19 =>
    f_X3_worth_105 N b g a0 n u13 x1 x2 x4 y18 x7 x8 y19
    else none
set_option maxHeartbeats 4000000 in
set_option maxRecDepth 100000 in
theorem zz_X3_worth_105 {G : uG} {a0 : Nat} {uf : UH} {r : Int64} (N : Nat) : ∀ (n : Nat) (u : UH) (x1 : Int32) (x2 : Int32) (x4 : Int32) (x5 : Int64) (x7 : Int32) (x8 : Int64) (x10 : Int32), f_X3_worth_105 N (ub G) (ug G) a0 n u x1 x2 x4 x5 x7 x8 x10 = some (r, uf) → uf.1 = u.1 ∧ uf.2.1 = u.2.1 := by
  intro n
  induction n with
  | zero =>
    intro u x1 x2 x4 x5 x7 x8 x10 h
    cases h
  | succ n ih =>
    intro u x1 x2 x4 x5 x7 x8 x10 h
    unfold f_X3_worth_105 at h
    obtain ⟨o1, ho1, h⟩ := mbind_n h
    obtain ⟨a2, ha2, hha2⟩ := mbind_n h
    subst ha2
    have h := hha2
    obtain ⟨y3, hy3, h⟩ := mbind_n h
    by_cases c4 : y3 ≤ x10
    · have h := mif_t c4 h
      obtain ⟨r7, u5, c6, h⟩ := ucall_n h
      have zu5 := zz_X3_part N (ub G) (ug G) u x5 x8 x4 r7 u5 c6
      obtain ⟨hr1, hr2⟩ := uret_n h
      subst hr2
      exact ⟨by omega, by omega⟩
    · have h := mif_f c4 h
      obtain ⟨c8, h⟩ := mif_n h
      obtain ⟨r11, u9, c10, h⟩ := ucall_n h
      have zu9 := zz_X3_weightOf N (ub G) (ug G) u a0 x1 x10 r11 u9 c10
      obtain ⟨o12, ho12, h⟩ := mbind_n h
      obtain ⟨r15, u13, c14, h⟩ := ucall_n h
      have zu13 := zz_X3_power N (ub G) (ug G) u9 x1 r15 u13 c14
      obtain ⟨a16, ha16, hha16⟩ := mbind_n h
      subst ha16
      have h := hha16
      obtain ⟨y17, hy17, h⟩ := mbind_n h
      obtain ⟨y18, ey18⟩ : ∃ z, z = x5 - ((r11.toInt64) * y17) := ⟨_, rfl⟩
      have h := mlet_at ey18 h
      obtain ⟨y19, ey19⟩ : ∃ z : Int32, z = x10 + 1 := ⟨_, rfl⟩
      have h := mlet_at ey19 h
      have hq := ih u13 x1 x2 x4 y18 x7 x8 y19 h
      exact ⟨by omega, by omega⟩
set_option maxHeartbeats 4000000 in
set_option maxRecDepth 100000 in
theorem w_X3_worth_105 {p : Program} {l : Launch} {e : Env} {R : Room} {s : State} {m : MethodId} {args : Array Value} {below : List Frame} {meth : Method} {c : Code} {G : uG} {a0 : Nat} {uf : UH} {r : Int64} (hC : uC p s m args meth c G RX3 cX3_worth 11 (some .long)) (hR : 7 ≤ R.frames ∧ 177 ≤ R.locals) (N : Nat) : ∀ (n : Nat) (u : UH) (x1 : Int32) (x2 : Int32) (x4 : Int32) (x5 : Int64) (x7 : Int32) (x8 : Int64) (x10 : Int32), f_X3_worth_105 N (ub G) (ug G) a0 n u x1 x2 x4 x5 x7 x8 x10 = some (r, uf) → ∀ (H : Heap) (locs : List Loc), uP G u H → va_S (uA G) s.heap H locs → ∀ ls : Array Slot, lv_has ls 11 [(0, va_rf (some a0)), (1, .int x1), (2, .int x2), (4, .int x4), (5, .long x5), (7, .int x7), (8, .long x8), (10, .int x10)] → W p l e R s m args below meth c H locs 0 0 (MQ below (uQl G r uf) args s 0 0 (uA G)) (F0 m 105 ls []) := by
  obtain ⟨⟨hx, hb, hml, hown, hts⟩, hKK⟩ := id hC
  intro n
  induction n with
  | zero =>
    intro u x1 x2 x4 x5 x7 x8 x10 h
    cases h
  | succ n ih =>
    intro u x1 x2 x4 x5 x7 x8 x10 h H locs hP hS ls hl
    unfold f_X3_worth_105 at h
    refine lv_iload hx hb dX3_worth_105 (lv_at hl 7 rfl) ?_
    refine u_aload_n (r := some a0) hx hb dX3_worth_107 rfl (lv_at hl 0 rfl) ?_
    obtain ⟨o1, ho1, h⟩ := mbind_n h
    refine u_get hC hP (uGR_n ho1) rfl in_X3 (by decide) q1946 (fun _ h => h) dX3_worth_108 ?_
    refine lv_iload_n hx hb dX3_worth_111 rfl (lv_at hl 1 rfl) ?_
    obtain ⟨a2, ha2, hha2⟩ := mbind_n h
    subst ha2
    have h := hha2
    obtain ⟨y3, hy3, h⟩ := mbind_n h
    refine u_iald hC hP hy3 rfl dX3_worth_112 ?_
    refine lv_icmp_ge (tgt := 158) hx hb dX3_worth_113 (by decide) (fun c4 => ?_) (fun c4 => ?_)
    · have h := mif_t c4 h
      refine lv_lload hx hb dX3_worth_158 (lv_at hl 4 rfl) ?_
      refine lv_lload hx hb dX3_worth_160 (lv_at hl 6 rfl) ?_
      refine lv_iload hx hb dX3_worth_162 (lv_at hl 3 rfl) ?_
      obtain ⟨r7, u5, c6, h⟩ := ucall_n h
      have zu5 := zz_X3_part N (ub G) (ug G) u x5 x8 x4 r7 u5 c6
      refine u_calll (va_runS (As := [.long x5, .long x8, .int x4]) (rest := []) hC.1 (met_X3_part l N G u x5 x8 x4 r7 u5 c6) (va_cwS 3 hts (lw_S q2409 q2410 q103 q2411) rfl rfl rfl (by decide +kernel) ⟨Nat.le_trans (Nat.le_of_ble_eq_true rfl) hR.1, Nat.le_trans (Nat.le_of_ble_eq_true rfl) hR.2⟩) ⟨uPc_blind, fun U hU hW => u_pre hC hP hS hU hW⟩ rfl rfl hl.1 rfl (lv_room (Nat.le_of_ble_eq_true rfl)) dX3_worth_164 ⟨Nat.zero_le _, Nat.zero_le _⟩) hS (fun H locs hP hS => ?_)
      obtain ⟨hr1, hr2⟩ := uret_n h
      subst hr1
      subst hr2
      exact u_lret hC hP hS dX3_worth_167
    · have h := mif_f c4 h
      refine lv_lload hx hb dX3_worth_116 (lv_at hl 4 rfl) ?_
      refine u_aload_n (r := some a0) hx hb dX3_worth_118 rfl (lv_at hl 0 rfl) ?_
      refine lv_iload_n hx hb dX3_worth_119 rfl (lv_at hl 1 rfl) ?_
      refine lv_iload hx hb dX3_worth_120 (lv_at hl 7 rfl) ?_
      obtain ⟨c8, h⟩ := mif_n h
      obtain ⟨r11, u9, c10, h⟩ := ucall_n h
      have zu9 := zz_X3_weightOf N (ub G) (ug G) u a0 x1 x10 r11 u9 c10
      refine u_calli (va_runV (As := [.int x1, .int x10]) (rest := [.long x5]) hC.1 (met_X3_weightOf l N G u a0 x1 x10 r11 u9 c10) (cwV 2 hts (lw_V q2383 q2385 qs77 q103 q2386) rfl rfl rfl (by decide +kernel) ⟨Nat.le_trans (Nat.le_of_ble_eq_true rfl) hR.1, Nat.le_trans (Nat.le_of_ble_eq_true rfl) hR.2⟩) ⟨uPc_blind, u_rcv hC hP c8 rfl, fun U hU hW => u_pre hC hP hS hU hW⟩ rfl rfl hl.1 rfl (lv_room (Nat.le_of_ble_eq_true rfl)) dX3_worth_122 ⟨Nat.zero_le _, Nat.zero_le _⟩) hS (fun H locs hP hS => ?_)
      refine lv_i2l (v := r11.toInt64) hx hb dX3_worth_125 rfl ?_
      refine u_aload_n (r := some a0) hx hb dX3_worth_126 rfl (lv_at hl 0 rfl) ?_
      obtain ⟨o12, ho12, h⟩ := mbind_n h
      refine u_get hC hP (uGR_n ho12) rfl in_X3 (by decide) q1941 (fun _ h => h) dX3_worth_127 ?_
      refine lv_bipush (v := 100) hx hb dX3_worth_130 (by decide) ?_
      refine lv_iload hx hb dX3_worth_132 (lv_at hl 5 rfl) ?_
      refine lv_iload hx hb dX3_worth_134 (lv_at hl 7 rfl) ?_
      refine lv_iconst (v := 1) hx hb dX3_worth_136 (by decide) ?_
      refine lv_iadd hx hb dX3_worth_137 ?_
      refine lv_iload_n hx hb dX3_worth_138 rfl (lv_at hl 1 rfl) ?_
      obtain ⟨r15, u13, c14, h⟩ := ucall_n h
      have zu13 := zz_X3_power N (ub G) (ug G) u9 x1 r15 u13 c14
      refine u_calli (va_runS (As := [.int x1]) (rest := [.int (x10 + 1), .int x7, .int 100, va_rf o12, .long (r11.toInt64), .long x5]) hC.1 (met_X3_power l N G u9 x1 r15 u13 c14) (va_cwS 1 hts (lw_S q2380 q2381 q103 q2382) rfl rfl rfl (by decide +kernel) ⟨Nat.le_trans (Nat.le_of_ble_eq_true rfl) hR.1, Nat.le_trans (Nat.le_of_ble_eq_true rfl) hR.2⟩) ⟨uPc_blind, fun U hU hW => u_pre hC hP hS hU hW⟩ rfl rfl hl.1 rfl (lv_room (by simp only [List.map, u_cat]; exact Nat.le_of_ble_eq_true rfl)) dX3_worth_139 ⟨Nat.zero_le _, Nat.zero_le _⟩) hS (fun H locs hP hS => ?_)
      refine lv_imul hx hb dX3_worth_142 ?_
      refine lv_iadd hx hb dX3_worth_143 ?_
      refine lv_imul hx hb dX3_worth_144 ?_
      refine lv_iload_n hx hb dX3_worth_145 rfl (lv_at hl 2 rfl) ?_
      refine lv_iadd hx hb dX3_worth_146 ?_
      obtain ⟨a16, ha16, hha16⟩ := mbind_n h
      subst ha16
      have h := hha16
      obtain ⟨y17, hy17, h⟩ := mbind_n h
      refine u_lald hC hP hy17 rfl dX3_worth_147 ?_
      refine lv_lmul hx hb dX3_worth_148 ?_
      refine lv_lsub hx hb dX3_worth_149 ?_
      refine lv_topl (fun y18 ey18 => ?_)
      have h := mlet_at ey18 h
      refine lv_lstore (lv' := [(5, .long y18), (0, va_rf (some a0)), (1, .int x1), (2, .int x2), (4, .int x4), (7, .int x7), (8, .long x8), (10, .int x10)]) hx hb dX3_worth_150 hl (by decide) rfl (fun ls hl => ?_)
      obtain ⟨y19, ey19⟩ : ∃ z : Int32, z = x10 + 1 := ⟨_, rfl⟩
      have h := mlet_at ey19 h
      refine lv_iinc (v := y19) (lv' := [(10, .int y19), (5, .long y18), (0, va_rf (some a0)), (1, .int x1), (2, .int x2), (4, .int x4), (7, .int x7), (8, .long x8)]) hx hb dX3_worth_152 hl (k := 7) rfl (by rw [ey19]; rfl) (by decide) rfl (fun ls hl => ?_)
      refine lv_goto (tgt := 105) hx hb dX3_worth_155 (by decide) ?_
      exact ih u13 x1 x2 x4 y18 x7 x8 y19 h _ _ hP hS _ (lv_sub hl [2, 3, 4, 5, 1, 6, 7, 0] rfl)
def f_X3_worth_48 (N b : Nat) (g : uEnv) (a0 : Nat) (u : UH) (x1 : Int32) (x2 : Int32) (x3 : Int32) (x4 : Int32) (s0 : Int32) (s1 : Option Nat) : Option (Int64 × UH) :=
    (s1).bind fun a1 =>
    (uPut b u a1 2 39 (.int s0)).bind fun u2 =>
    (uGI u2 a0 2 39).bind fun y3 =>
    if y3 ≤ 0 then
    if uIs u2 a0 2 = true then
    ucall (f_X3_from N b g u2 a0 x2 x3 1) fun r8 u6 =>
    if 0 ≤ (lg_cmp r8 0) then
    if uIs u6 a0 2 = true then
    ucall (f_X3_base N b g u6 a0) fun r13 u11 =>
    if uIs u11 a0 2 = true then
    ucall (f_X3_left N b g u11 a0 r13) fun r17 u15 =>
    f_X3_worth_105 N b g a0 N u15 x1 x2 x4 r8 r13 r17 0
    else none
    else none
    else
    (uPut b u6 a0 2 39 (.int 6)).bind fun u18 =>
    some ((-9223372036854775808), u18)
    else none
    else
    some ((-9223372036854775808), u2)
set_option maxHeartbeats 4000000 in
set_option maxRecDepth 100000 in
theorem zz_X3_worth_48 {G : uG} {a0 : Nat} {uf : UH} {r : Int64} (N : Nat) (u : UH) (x1 : Int32) (x2 : Int32) (x3 : Int32) (x4 : Int32) (s0 : Int32) (s1 : Option Nat) (h : f_X3_worth_48 N (ub G) (ug G) a0 u x1 x2 x3 x4 s0 s1 = some (r, uf)) : uf.1 = u.1 ∧ uf.2.1 = u.2.1 := by
  unfold f_X3_worth_48 at h
  obtain ⟨a1, ha1, hha1⟩ := mbind_n h
  subst ha1
  have h := hha1
  obtain ⟨u2, hu2, h⟩ := mbind_n h
  have zu2 := uPut_sz hu2
  obtain ⟨y3, hy3, h⟩ := mbind_n h
  by_cases c4 : y3 ≤ 0
  · have h := mif_t c4 h
    obtain ⟨c5, h⟩ := mif_n h
    obtain ⟨r8, u6, c7, h⟩ := ucall_n h
    have zu6 := zz_X3_from N (ub G) (ug G) u2 a0 x2 x3 1 r8 u6 c7
    by_cases c9 : 0 ≤ (lg_cmp r8 0)
    · have h := mif_t c9 h
      obtain ⟨c10, h⟩ := mif_n h
      obtain ⟨r13, u11, c12, h⟩ := ucall_n h
      have zu11 := zz_X3_base N (ub G) (ug G) u6 a0 r13 u11 c12
      obtain ⟨c14, h⟩ := mif_n h
      obtain ⟨r17, u15, c16, h⟩ := ucall_n h
      have zu15 := zz_X3_left N (ub G) (ug G) u11 a0 r13 r17 u15 c16
      have hq := zz_X3_worth_105 (G := G) (a0 := a0) N N u15 x1 x2 x4 r8 r13 r17 0 h
      exact ⟨by omega, by omega⟩
    · have h := mif_f c9 h
      obtain ⟨u18, hu18, h⟩ := mbind_n h
      have zu18 := uPut_sz hu18
      obtain ⟨hr1, hr2⟩ := uret_n h
      subst hr2
      exact ⟨by omega, by omega⟩
  · have h := mif_f c4 h
    obtain ⟨hr1, hr2⟩ := uret_n h
    subst hr2
    exact ⟨by omega, by omega⟩
set_option maxHeartbeats 4000000 in
set_option maxRecDepth 100000 in
theorem w_X3_worth_48 {p : Program} {l : Launch} {e : Env} {R : Room} {s : State} {m : MethodId} {args : Array Value} {below : List Frame} {meth : Method} {c : Code} {G : uG} {a0 : Nat} {uf : UH} {r : Int64} (hC : uC p s m args meth c G RX3 cX3_worth 11 (some .long)) (hR : 7 ≤ R.frames ∧ 177 ≤ R.locals) (N : Nat) (u : UH) (x1 : Int32) (x2 : Int32) (x3 : Int32) (x4 : Int32) (s0 : Int32) (s1 : Option Nat) (h : f_X3_worth_48 N (ub G) (ug G) a0 u x1 x2 x3 x4 s0 s1 = some (r, uf)) {H : Heap} {locs : List Loc} (hP : uP G u H) (hS : va_S (uA G) s.heap H locs) {ls : Array Slot} (hl : lv_has ls 11 [(0, va_rf (some a0)), (1, .int x1), (2, .int x2), (3, .int x3), (4, .int x4)]) : W p l e R s m args below meth c H locs 0 0 (MQ below (uQl G r uf) args s 0 0 (uA G)) (F0 m 48 ls [.int s0, va_rf s1]) := by
  obtain ⟨⟨hx, hb, hml, hown, hts⟩, hKK⟩ := id hC
  unfold f_X3_worth_48 at h
  obtain ⟨a1, ha1, hha1⟩ := mbind_n h
  subst ha1
  have h := hha1
  obtain ⟨u2, hu2, h⟩ := mbind_n h
  have zu2 := uPut_sz hu2
  refine u_put hC hP hS hu2 rfl in_X3 tyX3 tyX3_ok nmX3 (by decide) q1932 (fun _ h => h) rfl (ty := .int) (tyX3_ok 39 (by decide)) rfl rfl dX3_worth_48 (fun H locs hP hS => ?_)
  refine u_aload_n (r := some a0) hx hb dX3_worth_51 rfl (lv_at hl 0 rfl) ?_
  obtain ⟨y3, hy3, h⟩ := mbind_n h
  refine u_get hC hP (uGI_n hy3) rfl in_X3 (by decide) q1932 (fun _ h => h) dX3_worth_52 ?_
  refine lv_if_le (tgt := 62) hx hb dX3_worth_55 (by decide) (fun c4 => ?_) (fun c4 => ?_)
  · have h := mif_t c4 h
    refine u_aload_n (r := some a0) hx hb dX3_worth_62 rfl (lv_at hl 0 rfl) ?_
    refine lv_iload_n hx hb dX3_worth_63 rfl (lv_at hl 2 rfl) ?_
    refine lv_iload_n hx hb dX3_worth_64 rfl (lv_at hl 3 rfl) ?_
    refine lv_iconst (v := 1) hx hb dX3_worth_65 (by decide) ?_
    obtain ⟨c5, h⟩ := mif_n h
    obtain ⟨r8, u6, c7, h⟩ := ucall_n h
    have zu6 := zz_X3_from N (ub G) (ug G) u2 a0 x2 x3 1 r8 u6 c7
    refine u_calll (va_runV (As := [.int x2, .int x3, .int 1]) (rest := []) hC.1 (met_X3_from l N G u2 a0 x2 x3 1 r8 u6 c7) (cwV 3 hts (lw_V q2336 q2338 qs67 q103 q2339) rfl rfl rfl (by decide +kernel) ⟨Nat.le_trans (Nat.le_of_ble_eq_true rfl) hR.1, Nat.le_trans (Nat.le_of_ble_eq_true rfl) hR.2⟩) ⟨uPc_blind, u_rcv hC hP c5 rfl, fun U hU hW => u_pre hC hP hS hU hW⟩ rfl rfl hl.1 rfl (lv_room (Nat.le_of_ble_eq_true rfl)) dX3_worth_66 ⟨Nat.zero_le _, Nat.zero_le _⟩) hS (fun H locs hP hS => ?_)
    refine lv_lstore (lv' := [(5, .long r8), (0, va_rf (some a0)), (1, .int x1), (2, .int x2), (3, .int x3), (4, .int x4)]) hx hb dX3_worth_69 hl (by decide) rfl (fun ls hl => ?_)
    refine lv_lload hx hb dX3_worth_71 (lv_at hl 0 rfl) ?_
    refine lv_lconst (v := 0) hx hb dX3_worth_73 (by decide) ?_
    refine W.lcmp hx hb dX3_worth_74 ?_
    refine lv_if_ge (tgt := 88) hx hb dX3_worth_75 (by decide) (fun c9 => ?_) (fun c9 => ?_)
    · have h := mif_t c9 h
      refine u_aload_n (r := some a0) hx hb dX3_worth_88 rfl (lv_at hl 1 rfl) ?_
      obtain ⟨c10, h⟩ := mif_n h
      obtain ⟨r13, u11, c12, h⟩ := ucall_n h
      have zu11 := zz_X3_base N (ub G) (ug G) u6 a0 r13 u11 c12
      refine u_calli (va_runV (As := []) (rest := []) hC.1 (met_X3_base l N G u6 a0 r13 u11 c12) (cwV 0 hts (lw_V q2399 q2401 qs81 q103 q2402) rfl rfl rfl (by decide +kernel) ⟨Nat.le_trans (Nat.le_of_ble_eq_true rfl) hR.1, Nat.le_trans (Nat.le_of_ble_eq_true rfl) hR.2⟩) ⟨uPc_blind, u_rcv hC hP c10 rfl, fun U hU hW => u_pre hC hP hS hU hW⟩ rfl rfl hl.1 rfl (lv_room (Nat.le_of_ble_eq_true rfl)) dX3_worth_89 ⟨Nat.zero_le _, Nat.zero_le _⟩) hS (fun H locs hP hS => ?_)
      refine lv_istore (lv' := [(7, .int r13), (5, .long r8), (0, va_rf (some a0)), (1, .int x1), (2, .int x2), (3, .int x3), (4, .int x4)]) hx hb dX3_worth_92 hl (by decide) rfl (fun ls hl => ?_)
      refine u_aload_n (r := some a0) hx hb dX3_worth_94 rfl (lv_at hl 2 rfl) ?_
      refine lv_iload hx hb dX3_worth_95 (lv_at hl 0 rfl) ?_
      obtain ⟨c14, h⟩ := mif_n h
      obtain ⟨r17, u15, c16, h⟩ := ucall_n h
      have zu15 := zz_X3_left N (ub G) (ug G) u11 a0 r13 r17 u15 c16
      refine u_calll (va_runV (As := [.int r13]) (rest := []) hC.1 (met_X3_left l N G u11 a0 r13 r17 u15 c16) (cwV 1 hts (lw_V q2387 q2389 qs78 q103 q2390) rfl rfl rfl (by decide +kernel) ⟨Nat.le_trans (Nat.le_of_ble_eq_true rfl) hR.1, Nat.le_trans (Nat.le_of_ble_eq_true rfl) hR.2⟩) ⟨uPc_blind, u_rcv hC hP c14 rfl, fun U hU hW => u_pre hC hP hS hU hW⟩ rfl rfl hl.1 rfl (lv_room (Nat.le_of_ble_eq_true rfl)) dX3_worth_97 ⟨Nat.zero_le _, Nat.zero_le _⟩) hS (fun H locs hP hS => ?_)
      refine lv_lstore (lv' := [(8, .long r17), (7, .int r13), (5, .long r8), (0, va_rf (some a0)), (1, .int x1), (2, .int x2), (3, .int x3), (4, .int x4)]) hx hb dX3_worth_100 hl (by decide) rfl (fun ls hl => ?_)
      refine lv_iconst (v := 0) hx hb dX3_worth_102 (by decide) ?_
      refine lv_istore (lv' := [(10, .int 0), (8, .long r17), (7, .int r13), (5, .long r8), (0, va_rf (some a0)), (1, .int x1), (2, .int x2), (3, .int x3), (4, .int x4)]) hx hb dX3_worth_103 hl (by decide) rfl (fun ls hl => ?_)
      exact w_X3_worth_105 hC hR N N u15 x1 x2 x4 r8 r13 r17 0 h _ _ hP hS _ (lv_sub hl [4, 5, 6, 8, 3, 2, 1, 0] rfl)
    · have h := mif_f c9 h
      refine u_aload_n (r := some a0) hx hb dX3_worth_78 rfl (lv_at hl 1 rfl) ?_
      refine lv_bipush (v := 6) hx hb dX3_worth_79 (by decide) ?_
      obtain ⟨u18, hu18, h⟩ := mbind_n h
      have zu18 := uPut_sz hu18
      refine u_put hC hP hS hu18 rfl in_X3 tyX3 tyX3_ok nmX3 (by decide) q1932 (fun _ h => h) rfl (ty := .int) (tyX3_ok 39 (by decide)) rfl rfl dX3_worth_81 (fun H locs hP hS => ?_)
      refine lv_ldc2 hx hb hown (hts _ q2408) dX3_worth_84 ?_
      obtain ⟨hr1, hr2⟩ := uret_n h
      subst hr1
      subst hr2
      exact u_lret hC hP hS dX3_worth_87
  · have h := mif_f c4 h
    refine lv_ldc2 hx hb hown (hts _ q2408) dX3_worth_58 ?_
    obtain ⟨hr1, hr2⟩ := uret_n h
    subst hr1
    subst hr2
    exact u_lret hC hP hS dX3_worth_61
def f_X3_worth_29 (N b : Nat) (g : uEnv) (a0 : Nat) (u : UH) (x1 : Int32) (x2 : Int32) (x3 : Int32) (x4 : Int32) (s0 : Option Nat) : Option (Int64 × UH) :=
    f_X3_worth_48 N b g a0 u x1 x2 x3 x4 1 s0
set_option maxHeartbeats 4000000 in
set_option maxRecDepth 100000 in
theorem zz_X3_worth_29 {G : uG} {a0 : Nat} {uf : UH} {r : Int64} (N : Nat) (u : UH) (x1 : Int32) (x2 : Int32) (x3 : Int32) (x4 : Int32) (s0 : Option Nat) (h : f_X3_worth_29 N (ub G) (ug G) a0 u x1 x2 x3 x4 s0 = some (r, uf)) : uf.1 = u.1 ∧ uf.2.1 = u.2.1 := by
  unfold f_X3_worth_29 at h
  have hq := zz_X3_worth_48 (G := G) (a0 := a0) N u x1 x2 x3 x4 1 s0 h
  exact ⟨by omega, by omega⟩
set_option maxHeartbeats 4000000 in
set_option maxRecDepth 100000 in
theorem w_X3_worth_29 {p : Program} {l : Launch} {e : Env} {R : Room} {s : State} {m : MethodId} {args : Array Value} {below : List Frame} {meth : Method} {c : Code} {G : uG} {a0 : Nat} {uf : UH} {r : Int64} (hC : uC p s m args meth c G RX3 cX3_worth 11 (some .long)) (hR : 7 ≤ R.frames ∧ 177 ≤ R.locals) (N : Nat) (u : UH) (x1 : Int32) (x2 : Int32) (x3 : Int32) (x4 : Int32) (s0 : Option Nat) (h : f_X3_worth_29 N (ub G) (ug G) a0 u x1 x2 x3 x4 s0 = some (r, uf)) {H : Heap} {locs : List Loc} (hP : uP G u H) (hS : va_S (uA G) s.heap H locs) {ls : Array Slot} (hl : lv_has ls 11 [(0, va_rf (some a0)), (1, .int x1), (2, .int x2), (3, .int x3), (4, .int x4)]) : W p l e R s m args below meth c H locs 0 0 (MQ below (uQl G r uf) args s 0 0 (uA G)) (F0 m 29 ls [va_rf s0]) := by
  obtain ⟨⟨hx, hb, hml, hown, hts⟩, hKK⟩ := id hC
  unfold f_X3_worth_29 at h
  refine lv_iconst (v := 1) hx hb dX3_worth_29 (by decide) ?_
  refine lv_goto (tgt := 48) hx hb dX3_worth_30 (by decide) ?_
  exact w_X3_worth_48 hC hR N u x1 x2 x3 x4 1 s0 h hP hS (lv_sub hl [0, 1, 2, 3, 4] rfl)
def f_X3_worth (N b : Nat) (g : uEnv) (u : UH) (a0 : Nat) (x1 : Int32) (x2 : Int32) (x3 : Int32) (x4 : Int32) : Option (Int64 × UH) :=
    if uIs u a0 2 = true then
    (f_X3_good N b g u a0).bind fun u2 =>
    if uIs u2 a0 2 = true then
    ucall (f_X3_isDoubt N b g u2 a0 x1) fun r7 u5 =>
    if r7 = 0 then
    f_X3_worth_29 N b g a0 u5 x1 x2 x3 x4 (some a0)
    else
    if uIs u5 a0 2 = true then
    ucall (f_X3_isCell N b g u5 a0 x2) fun r12 u10 =>
    if r12 = 0 then
    f_X3_worth_29 N b g a0 u10 x1 x2 x3 x4 (some a0)
    else
    if uIs u10 a0 2 = true then
    ucall (f_X3_isCell N b g u10 a0 x3) fun r17 u15 =>
    if r17 = 0 then
    f_X3_worth_29 N b g a0 u15 x1 x2 x3 x4 (some a0)
    else
    (uGR u15 a0 2 45).bind fun o19 =>
    (o19).bind fun a20 =>
    (uLdI u15 a20 0 x1).bind fun y21 =>
    if y21 = (-1) then
    f_X3_worth_48 N b g a0 u15 x1 x2 x3 x4 0 (some a0)
    else
    f_X3_worth_48 N b g a0 u15 x1 x2 x3 x4 5 (some a0)
    else none
    else none
    else none
    else none
set_option maxHeartbeats 4000000 in
set_option maxRecDepth 100000 in
theorem zz_X3_worth_0 {G : uG} {a0 : Nat} {uf : UH} {r : Int64} (N : Nat) (u : UH) (x1 : Int32) (x2 : Int32) (x3 : Int32) (x4 : Int32) (h : f_X3_worth N (ub G) (ug G) u a0 x1 x2 x3 x4 = some (r, uf)) : uf.1 = u.1 ∧ uf.2.1 = u.2.1 := by
  unfold f_X3_worth at h
  obtain ⟨c1, h⟩ := mif_n h
  obtain ⟨u2, c3, h⟩ := mbind_n h
  have zu2 := zz_X3_good N (ub G) (ug G) u a0 u2 c3
  obtain ⟨c4, h⟩ := mif_n h
  obtain ⟨r7, u5, c6, h⟩ := ucall_n h
  have zu5 := zz_X3_isDoubt N (ub G) (ug G) u2 a0 x1 r7 u5 c6
  by_cases c8 : r7 = 0
  · have h := mif_t c8 h
    have hq := zz_X3_worth_29 (G := G) (a0 := a0) N u5 x1 x2 x3 x4 (some a0) h
    exact ⟨by omega, by omega⟩
  · have h := mif_f c8 h
    obtain ⟨c9, h⟩ := mif_n h
    obtain ⟨r12, u10, c11, h⟩ := ucall_n h
    have zu10 := zz_X3_isCell N (ub G) (ug G) u5 a0 x2 r12 u10 c11
    by_cases c13 : r12 = 0
    · have h := mif_t c13 h
      have hq := zz_X3_worth_29 (G := G) (a0 := a0) N u10 x1 x2 x3 x4 (some a0) h
      exact ⟨by omega, by omega⟩
    · have h := mif_f c13 h
      obtain ⟨c14, h⟩ := mif_n h
      obtain ⟨r17, u15, c16, h⟩ := ucall_n h
      have zu15 := zz_X3_isCell N (ub G) (ug G) u10 a0 x3 r17 u15 c16
      by_cases c18 : r17 = 0
      · have h := mif_t c18 h
        have hq := zz_X3_worth_29 (G := G) (a0 := a0) N u15 x1 x2 x3 x4 (some a0) h
        exact ⟨by omega, by omega⟩
      · have h := mif_f c18 h
        obtain ⟨o19, ho19, h⟩ := mbind_n h
        obtain ⟨a20, ha20, hha20⟩ := mbind_n h
        subst ha20
        have h := hha20
        obtain ⟨y21, hy21, h⟩ := mbind_n h
        by_cases c22 : y21 = (-1)
        · have h := mif_t c22 h
          have hq := zz_X3_worth_48 (G := G) (a0 := a0) N u15 x1 x2 x3 x4 0 (some a0) h
          exact ⟨by omega, by omega⟩
        · have h := mif_f c22 h
          have hq := zz_X3_worth_48 (G := G) (a0 := a0) N u15 x1 x2 x3 x4 5 (some a0) h
          exact ⟨by omega, by omega⟩
set_option maxHeartbeats 4000000 in
set_option maxRecDepth 100000 in
theorem w_X3_worth_0 {p : Program} {l : Launch} {e : Env} {R : Room} {s : State} {m : MethodId} {args : Array Value} {below : List Frame} {meth : Method} {c : Code} {G : uG} {a0 : Nat} {uf : UH} {r : Int64} (hC : uC p s m args meth c G RX3 cX3_worth 11 (some .long)) (hR : 7 ≤ R.frames ∧ 177 ≤ R.locals) (N : Nat) (u : UH) (x1 : Int32) (x2 : Int32) (x3 : Int32) (x4 : Int32) (h : f_X3_worth N (ub G) (ug G) u a0 x1 x2 x3 x4 = some (r, uf)) {H : Heap} {locs : List Loc} (hP : uP G u H) (hS : va_S (uA G) s.heap H locs) {ls : Array Slot} (hl : lv_has ls 11 [(0, va_rf (some a0)), (1, .int x1), (2, .int x2), (3, .int x3), (4, .int x4)]) : W p l e R s m args below meth c H locs 0 0 (MQ below (uQl G r uf) args s 0 0 (uA G)) (F0 m 0 ls []) := by
  obtain ⟨⟨hx, hb, hml, hown, hts⟩, hKK⟩ := id hC
  unfold f_X3_worth at h
  refine u_aload_n (r := some a0) hx hb dX3_worth_0 rfl (lv_at hl 0 rfl) ?_
  obtain ⟨c1, h⟩ := mif_n h
  obtain ⟨u2, c3, h⟩ := mbind_n h
  have zu2 := zz_X3_good N (ub G) (ug G) u a0 u2 c3
  refine u_callv (va_runV (As := []) (rest := []) hC.1 (met_X3_good l N G u a0 u2 c3) (cwV 0 hts (lw_V q2131 q2133 qs40 q103 q2134) rfl rfl rfl (by decide +kernel) ⟨Nat.le_trans (Nat.le_of_ble_eq_true rfl) hR.1, Nat.le_trans (Nat.le_of_ble_eq_true rfl) hR.2⟩) ⟨uPc_blind, u_rcv hC hP c1 rfl, fun U hU hW => u_pre hC hP hS hU hW⟩ rfl rfl hl.1 rfl (lv_room (Nat.le_of_ble_eq_true rfl)) dX3_worth_1 ⟨Nat.zero_le _, Nat.zero_le _⟩) hS (fun H locs hP hS => ?_)
  refine u_aload_n (r := some a0) hx hb dX3_worth_4 rfl (lv_at hl 0 rfl) ?_
  refine u_aload_n (r := some a0) hx hb dX3_worth_5 rfl (lv_at hl 0 rfl) ?_
  refine lv_iload_n hx hb dX3_worth_6 rfl (lv_at hl 1 rfl) ?_
  obtain ⟨c4, h⟩ := mif_n h
  obtain ⟨r7, u5, c6, h⟩ := ucall_n h
  have zu5 := zz_X3_isDoubt N (ub G) (ug G) u2 a0 x1 r7 u5 c6
  refine u_calli (va_runV (As := [.int x1]) (rest := [va_rf (some a0)]) hC.1 (met_X3_isDoubt l N G u2 a0 x1 r7 u5 c6) (cwV 1 hts (lw_V q2292 q2294 qs61 q103 q2295) rfl rfl rfl (by decide +kernel) ⟨Nat.le_trans (Nat.le_of_ble_eq_true rfl) hR.1, Nat.le_trans (Nat.le_of_ble_eq_true rfl) hR.2⟩) ⟨uPc_blind, u_rcv hC hP c4 rfl, fun U hU hW => u_pre hC hP hS hU hW⟩ rfl rfl hl.1 rfl (lv_room (Nat.le_of_ble_eq_true rfl)) dX3_worth_7 ⟨Nat.zero_le _, Nat.zero_le _⟩) hS (fun H locs hP hS => ?_)
  refine lv_if_eq (tgt := 29) hx hb dX3_worth_10 (by decide) (fun c8 => ?_) (fun c8 => ?_)
  · have h := mif_t c8 h
    exact w_X3_worth_29 hC hR N u5 x1 x2 x3 x4 (some a0) h hP hS (lv_sub hl [0, 1, 2, 3, 4] rfl)
  · have h := mif_f c8 h
    refine u_aload_n (r := some a0) hx hb dX3_worth_13 rfl (lv_at hl 0 rfl) ?_
    refine lv_iload_n hx hb dX3_worth_14 rfl (lv_at hl 2 rfl) ?_
    obtain ⟨c9, h⟩ := mif_n h
    obtain ⟨r12, u10, c11, h⟩ := ucall_n h
    have zu10 := zz_X3_isCell N (ub G) (ug G) u5 a0 x2 r12 u10 c11
    refine u_calli (va_runV (As := [.int x2]) (rest := [va_rf (some a0)]) hC.1 (met_X3_isCell l N G u5 a0 x2 r12 u10 c11) (cwV 1 hts (lw_V q2276 q2278 qs60 q103 q2279) rfl rfl rfl (by decide +kernel) ⟨Nat.le_trans (Nat.le_of_ble_eq_true rfl) hR.1, Nat.le_trans (Nat.le_of_ble_eq_true rfl) hR.2⟩) ⟨uPc_blind, u_rcv hC hP c9 rfl, fun U hU hW => u_pre hC hP hS hU hW⟩ rfl rfl hl.1 rfl (lv_room (Nat.le_of_ble_eq_true rfl)) dX3_worth_15 ⟨Nat.zero_le _, Nat.zero_le _⟩) hS (fun H locs hP hS => ?_)
    refine lv_if_eq (tgt := 29) hx hb dX3_worth_18 (by decide) (fun c13 => ?_) (fun c13 => ?_)
    · have h := mif_t c13 h
      exact w_X3_worth_29 hC hR N u10 x1 x2 x3 x4 (some a0) h hP hS (lv_sub hl [0, 1, 2, 3, 4] rfl)
    · have h := mif_f c13 h
      refine u_aload_n (r := some a0) hx hb dX3_worth_21 rfl (lv_at hl 0 rfl) ?_
      refine lv_iload_n hx hb dX3_worth_22 rfl (lv_at hl 3 rfl) ?_
      obtain ⟨c14, h⟩ := mif_n h
      obtain ⟨r17, u15, c16, h⟩ := ucall_n h
      have zu15 := zz_X3_isCell N (ub G) (ug G) u10 a0 x3 r17 u15 c16
      refine u_calli (va_runV (As := [.int x3]) (rest := [va_rf (some a0)]) hC.1 (met_X3_isCell l N G u10 a0 x3 r17 u15 c16) (cwV 1 hts (lw_V q2276 q2278 qs60 q103 q2279) rfl rfl rfl (by decide +kernel) ⟨Nat.le_trans (Nat.le_of_ble_eq_true rfl) hR.1, Nat.le_trans (Nat.le_of_ble_eq_true rfl) hR.2⟩) ⟨uPc_blind, u_rcv hC hP c14 rfl, fun U hU hW => u_pre hC hP hS hU hW⟩ rfl rfl hl.1 rfl (lv_room (Nat.le_of_ble_eq_true rfl)) dX3_worth_23 ⟨Nat.zero_le _, Nat.zero_le _⟩) hS (fun H locs hP hS => ?_)
      refine lv_if_ne (tgt := 33) hx hb dX3_worth_26 (by decide) (fun c18 => ?_) (fun c18 => ?_)
      · have h := mif_f c18 h
        refine u_aload_n (r := some a0) hx hb dX3_worth_33 rfl (lv_at hl 0 rfl) ?_
        obtain ⟨o19, ho19, h⟩ := mbind_n h
        refine u_get hC hP (uGR_n ho19) rfl in_X3 (by decide) q1938 (fun _ h => h) dX3_worth_34 ?_
        refine lv_iload_n hx hb dX3_worth_37 rfl (lv_at hl 1 rfl) ?_
        obtain ⟨a20, ha20, hha20⟩ := mbind_n h
        subst ha20
        have h := hha20
        obtain ⟨y21, hy21, h⟩ := mbind_n h
        refine u_iald hC hP hy21 rfl dX3_worth_38 ?_
        refine lv_iconst (v := (-1)) hx hb dX3_worth_39 (by decide) ?_
        refine lv_icmp_eq (tgt := 47) hx hb dX3_worth_40 (by decide) (fun c22 => ?_) (fun c22 => ?_)
        · have h := mif_t c22 h
          refine lv_iconst (v := 0) hx hb dX3_worth_47 (by decide) ?_
          exact w_X3_worth_48 hC hR N u15 x1 x2 x3 x4 0 (some a0) h hP hS (lv_sub hl [0, 1, 2, 3, 4] rfl)
        · have h := mif_f c22 h
          refine lv_iconst (v := 5) hx hb dX3_worth_43 (by decide) ?_
          refine lv_goto (tgt := 48) hx hb dX3_worth_44 (by decide) ?_
          exact w_X3_worth_48 hC hR N u15 x1 x2 x3 x4 5 (some a0) h hP hS (lv_sub hl [0, 1, 2, 3, 4] rfl)
      · have h := mif_t c18 h
        exact w_X3_worth_29 hC hR N u15 x1 x2 x3 x4 (some a0) h hP hS (lv_sub hl [0, 1, 2, 3, 4] rfl)
theorem zz_X3_worth (N b : Nat) (g : uEnv) (u : UH) (a0 : Nat) (x1 : Int32) (x2 : Int32) (x3 : Int32) (x4 : Int32) (r : Int64) (uf : UH) (h : f_X3_worth N b g u a0 x1 x2 x3 x4 = some (r, uf)) : uf.1 = u.1 ∧ uf.2.1 = u.2.1 :=
  zz_X3_worth_0 (G := ((fun _ => 0, fun _ _ => 0), fun _ => 0, b, g)) (a0 := a0) N u x1 x2 x3 x4 h
theorem met_X3_worth (l : Launch) (N : Nat) (G : uG) (u : UH) (a0 : Nat) (x1 : Int32) (x2 : Int32) (x3 : Int32) (x4 : Int32) (r : Int64) (uf : UH) (h : f_X3_worth N (ub G) (ug G) u a0 x1 x2 x3 x4 = some (r, uf)) : Met l yX3_worth (ws_ yX3_worth cX3_worth 11 (some .long)) ({ frames := 7, cells := 0, slots := 0, locals := 177 }) (uPc G u [.ref a0, .int x1, .int x2, .int x3, .int x4]) (uQl G r uf) 0 0 (uA G) := by
  exact u_met (own := RX3) (by decide +kernel) rfl (Nat.le_of_ble_eq_true rfl) (fun hC hn hsz ls hl hP => w_X3_worth_0 hC ⟨Nat.le_refl _, Nat.le_refl _⟩ N u x1 x2 x3 x4 h hP va_S.rf hl)

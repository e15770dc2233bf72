/-! BY gen_heap.py: X3_failing X3_fault X3_feed X3_first X3_isDoubt X3_forget X3_prepares X3_lays X3_news X3_over X3_left X3_lower X3_solve X3_from X3_stepOf X3_goes X3_isGround X3_grip X3_ground -/
def f_X3_failing_41 (N b : Nat) (g : uEnv) (a0 : Nat) (u : UH) : Option (Int32 × UH) :=
    if uIs u a0 2 = true then
    ucall (f_X3_no N b g u a0 1) fun r4 u2 =>
    some (r4, u2)
    else none
set_option maxHeartbeats 4000000 in
set_option maxRecDepth 100000 in
theorem zz_X3_failing_41 {G : uG} {a0 : Nat} {uf : UH} {r : Int32} (N : Nat) (u : UH) (h : f_X3_failing_41 N (ub G) (ug G) a0 u = some (r, uf)) : uf.1 = u.1 ∧ uf.2.1 = u.2.1 := by
  unfold f_X3_failing_41 at h
  obtain ⟨c1, h⟩ := mif_n h
  obtain ⟨r4, u2, c3, h⟩ := ucall_n h
  have zu2 := zz_X3_no N (ub G) (ug G) u a0 1 r4 u2 c3
  obtain ⟨hr1, hr2⟩ := uret_n h
  subst hr2
  exact ⟨by omega, by omega⟩
set_option maxHeartbeats 4000000 in
set_option maxRecDepth 100000 in
theorem w_X3_failing_41 {p : Program} {l : Launch} {e : Env} {R : Room} {s : State} {m : MethodId} {args : Array Value} {below : List Frame} {meth : Method} {c : Code} {G : uG} {a0 : Nat} {uf : UH} {r : Int32} (hC : uC p s m args meth c G RX3 cX3_failing 8 (some .int)) (hR : 5 ≤ R.frames ∧ 134 ≤ R.locals) (N : Nat) (u : UH) (h : f_X3_failing_41 N (ub G) (ug G) a0 u = some (r, uf)) {H : Heap} {locs : List Loc} (hP : uP G u H) (hS : va_S (uA G) s.heap H locs) {ls : Array Slot} (hl : lv_has ls 8 [(0, va_rf (some a0))]) : W p l e R s m args below meth c H locs 0 0 (MQ below (uQi G r uf) args s 0 0 (uA G)) (F0 m 41 ls []) := by
  obtain ⟨⟨hx, hb, hml, hown, hts⟩, hKK⟩ := id hC
  unfold f_X3_failing_41 at h
  refine u_aload_n (r := some a0) hx hb dX3_failing_41 rfl (lv_at hl 0 rfl) ?_
  refine lv_iconst (v := 1) hx hb dX3_failing_42 (by decide) ?_
  obtain ⟨c1, h⟩ := mif_n h
  obtain ⟨r4, u2, c3, h⟩ := ucall_n h
  have zu2 := zz_X3_no N (ub G) (ug G) u a0 1 r4 u2 c3
  refine u_calli (va_runV (As := [.int 1]) (rest := []) hC.1 (met_X3_no l N G u a0 1 r4 u2 c3) (cwV 1 hts (lw_V q2138 q2140 qs41 q103 q2141) rfl rfl rfl (by decide +kernel) ⟨Nat.le_trans (Nat.le_of_ble_eq_true rfl) hR.1, Nat.le_trans (Nat.le_of_ble_eq_true rfl) hR.2⟩) ⟨uPc_blind, u_rcv hC hP c1 rfl, fun U hU hW => u_pre hC hP hS hU hW⟩ rfl rfl hl.1 rfl (lv_room (Nat.le_of_ble_eq_true rfl)) dX3_failing_43 ⟨Nat.zero_le _, Nat.zero_le _⟩) hS (fun H locs hP hS => ?_)
  obtain ⟨hr1, hr2⟩ := uret_n h
  subst hr1
  subst hr2
  exact u_iret hC hP hS dX3_failing_46
def f_X3_failing_172 (N b : Nat) (g : uEnv) (a0 : Nat) (k93 : UH → Int32 → Int32 → Int32 → Int32 → Int32 → Int32 → Option (Int32 × UH)) (u : UH) (x1 : Int32) (x2 : Int32) (x3 : Int32) (x4 : Int32) (x5 : Int32) (x6 : Int32) : Option (Int32 × UH) :=
    mlet (x6 + 1) fun y1 =>
    k93 u x1 x2 x3 x4 x5 y1
set_option maxHeartbeats 4000000 in
set_option maxRecDepth 100000 in
theorem zz_X3_failing_172 {G : uG} {a0 : Nat} {uf : UH} {r : Int32} (N : Nat) (k93 : UH → Int32 → Int32 → Int32 → Int32 → Int32 → Int32 → Option (Int32 × UH)) (hk93 : ∀ (u : UH) (x1 : Int32) (x2 : Int32) (x3 : Int32) (x4 : Int32) (x5 : Int32) (x6 : Int32), k93 u x1 x2 x3 x4 x5 x6 = some (r, uf) → uf.1 = u.1 ∧ uf.2.1 = u.2.1) (u : UH) (x1 : Int32) (x2 : Int32) (x3 : Int32) (x4 : Int32) (x5 : Int32) (x6 : Int32) (h : f_X3_failing_172 N (ub G) (ug G) a0 k93 u x1 x2 x3 x4 x5 x6 = some (r, uf)) : uf.1 = u.1 ∧ uf.2.1 = u.2.1 := by
  unfold f_X3_failing_172 at h
  obtain ⟨y1, ey1⟩ : ∃ z : Int32, z = x6 + 1 := ⟨_, rfl⟩
  have h := mlet_at ey1 h
  have hq := hk93 u x1 x2 x3 x4 x5 y1 h
  exact ⟨by omega, by omega⟩
set_option maxHeartbeats 4000000 in
set_option maxRecDepth 100000 in
theorem w_X3_failing_172 {p : Program} {l : Launch} {e : Env} {R : Room} {s : State} {m : MethodId} {args : Array Value} {below : List Frame} {meth : Method} {c : Code} {G : uG} {a0 : Nat} {uf : UH} {r : Int32} (hC : uC p s m args meth c G RX3 cX3_failing 8 (some .int)) (hR : 5 ≤ R.frames ∧ 134 ≤ R.locals) (N : Nat) (k93 : UH → Int32 → Int32 → Int32 → Int32 → Int32 → Int32 → Option (Int32 × UH)) (hk93 : ∀ (u : UH) (x1 : Int32) (x2 : Int32) (x3 : Int32) (x4 : Int32) (x5 : Int32) (x6 : Int32), k93 u x1 x2 x3 x4 x5 x6 = some (r, uf) → ∀ (H : Heap) (locs : List Loc), uP G u H → va_S (uA G) s.heap H locs → ∀ ls : Array Slot, lv_has ls 8 [(0, va_rf (some a0)), (1, .int x1), (2, .int x2), (3, .int x3), (4, .int x4), (5, .int x5), (6, .int x6)] → W p l e R s m args below meth c H locs 0 0 (MQ below (uQi G r uf) args s 0 0 (uA G)) (F0 m 93 ls [])) (u : UH) (x1 : Int32) (x2 : Int32) (x3 : Int32) (x4 : Int32) (x5 : Int32) (x6 : Int32) (h : f_X3_failing_172 N (ub G) (ug G) a0 k93 u x1 x2 x3 x4 x5 x6 = some (r, uf)) {H : Heap} {locs : List Loc} (hP : uP G u H) (hS : va_S (uA G) s.heap H locs) {ls : Array Slot} (hl : lv_has ls 8 [(0, va_rf (some a0)), (1, .int x1), (2, .int x2), (3, .int x3), (4, .int x4), (5, .int x5), (6, .int x6)]) : W p l e R s m args below meth c H locs 0 0 (MQ below (uQi G r uf) args s 0 0 (uA G)) (F0 m 172 ls []) := by
  obtain ⟨⟨hx, hb, hml, hown, hts⟩, hKK⟩ := id hC
  unfold f_X3_failing_172 at h
  obtain ⟨y1, ey1⟩ : ∃ z : Int32, z = x6 + 1 := ⟨_, rfl⟩
  have h := mlet_at ey1 h
  refine lv_iinc (v := y1) (lv' := [(6, .int y1), (0, va_rf (some a0)), (1, .int x1), (2, .int x2), (3, .int x3), (4, .int x4), (5, .int x5)]) hx hb dX3_failing_172 hl (k := 6) rfl (by rw [ey1]; rfl) (by decide) rfl (fun ls hl => ?_)
  refine lv_goto (tgt := 93) hx hb dX3_failing_175 (by decide) ?_
  exact hk93 u x1 x2 x3 x4 x5 y1 h _ _ hP hS _ (lv_sub hl [1, 2, 3, 4, 5, 6, 0] rfl)
def f_X3_failing_169 (N b : Nat) (g : uEnv) (a0 : Nat) (k93 : UH → Int32 → Int32 → Int32 → Int32 → Int32 → Int32 → Option (Int32 × UH)) (u : UH) (x1 : Int32) (x2 : Int32) (x3 : Int32) (x4 : Int32) (x5 : Int32) (x6 : Int32) : Option (Int32 × UH) :=
    mlet (x5 + 1) fun y1 =>
    f_X3_failing_172 N b g a0 k93 u x1 x2 x3 x4 y1 x6
set_option maxHeartbeats 4000000 in
set_option maxRecDepth 100000 in
theorem zz_X3_failing_169 {G : uG} {a0 : Nat} {uf : UH} {r : Int32} (N : Nat) (k93 : UH → Int32 → Int32 → Int32 → Int32 → Int32 → Int32 → Option (Int32 × UH)) (hk93 : ∀ (u : UH) (x1 : Int32) (x2 : Int32) (x3 : Int32) (x4 : Int32) (x5 : Int32) (x6 : Int32), k93 u x1 x2 x3 x4 x5 x6 = some (r, uf) → uf.1 = u.1 ∧ uf.2.1 = u.2.1) (u : UH) (x1 : Int32) (x2 : Int32) (x3 : Int32) (x4 : Int32) (x5 : Int32) (x6 : Int32) (h : f_X3_failing_169 N (ub G) (ug G) a0 k93 u x1 x2 x3 x4 x5 x6 = some (r, uf)) : uf.1 = u.1 ∧ uf.2.1 = u.2.1 := by
  unfold f_X3_failing_169 at h
  obtain ⟨y1, ey1⟩ : ∃ z : Int32, z = x5 + 1 := ⟨_, rfl⟩
  have h := mlet_at ey1 h
  have hq := zz_X3_failing_172 (G := G) (a0 := a0) N k93 hk93 u x1 x2 x3 x4 y1 x6 h
  exact ⟨by omega, by omega⟩
set_option maxHeartbeats 4000000 in
set_option maxRecDepth 100000 in
theorem w_X3_failing_169 {p : Program} {l : Launch} {e : Env} {R : Room} {s : State} {m : MethodId} {args : Array Value} {below : List Frame} {meth : Method} {c : Code} {G : uG} {a0 : Nat} {uf : UH} {r : Int32} (hC : uC p s m args meth c G RX3 cX3_failing 8 (some .int)) (hR : 5 ≤ R.frames ∧ 134 ≤ R.locals) (N : Nat) (k93 : UH → Int32 → Int32 → Int32 → Int32 → Int32 → Int32 → Option (Int32 × UH)) (hk93 : ∀ (u : UH) (x1 : Int32) (x2 : Int32) (x3 : Int32) (x4 : Int32) (x5 : Int32) (x6 : Int32), k93 u x1 x2 x3 x4 x5 x6 = some (r, uf) → ∀ (H : Heap) (locs : List Loc), uP G u H → va_S (uA G) s.heap H locs → ∀ ls : Array Slot, lv_has ls 8 [(0, va_rf (some a0)), (1, .int x1), (2, .int x2), (3, .int x3), (4, .int x4), (5, .int x5), (6, .int x6)] → W p l e R s m args below meth c H locs 0 0 (MQ below (uQi G r uf) args s 0 0 (uA G)) (F0 m 93 ls [])) (u : UH) (x1 : Int32) (x2 : Int32) (x3 : Int32) (x4 : Int32) (x5 : Int32) (x6 : Int32) (h : f_X3_failing_169 N (ub G) (ug G) a0 k93 u x1 x2 x3 x4 x5 x6 = some (r, uf)) {H : Heap} {locs : List Loc} (hP : uP G u H) (hS : va_S (uA G) s.heap H locs) {ls : Array Slot} (hl : lv_has ls 8 [(0, va_rf (some a0)), (1, .int x1), (2, .int x2), (3, .int x3), (4, .int x4), (5, .int x5), (6, .int x6)]) : W p l e R s m args below meth c H locs 0 0 (MQ below (uQi G r uf) args s 0 0 (uA G)) (F0 m 169 ls []) := by
  obtain ⟨⟨hx, hb, hml, hown, hts⟩, hKK⟩ := id hC
  unfold f_X3_failing_169 at h
  obtain ⟨y1, ey1⟩ : ∃ z : Int32, z = x5 + 1 := ⟨_, rfl⟩
  have h := mlet_at ey1 h
  refine lv_iinc (v := y1) (lv' := [(5, .int y1), (0, va_rf (some a0)), (1, .int x1), (2, .int x2), (3, .int x3), (4, .int x4), (6, .int x6)]) hx hb dX3_failing_169 hl (k := 5) rfl (by rw [ey1]; rfl) (by decide) rfl (fun ls hl => ?_)
  exact w_X3_failing_172 hC hR N k93 hk93 u x1 x2 x3 x4 y1 x6 h hP hS (lv_sub hl [1, 2, 3, 4, 5, 0, 6] rfl)
def f_X3_failing_134 (N b : Nat) (g : uEnv) (a0 : Nat) (k93 : UH → Int32 → Int32 → Int32 → Int32 → Int32 → Int32 → Option (Int32 × UH)) (u : UH) (x1 : Int32) (x2 : Int32) (x3 : Int32) (x4 : Int32) (x5 : Int32) (x6 : Int32) (s0 : Int32) : Option (Int32 × UH) :=
    if s0 = 0 then
    f_X3_failing_172 N b g a0 k93 u x1 x2 x3 x4 x5 x6
    else
    if x5 = 0 then
    (uPut b u a0 2 63 (.int x6)).bind fun u3 =>
    (uPut b u3 a0 2 64 (.int s0)).bind fun u4 =>
    (uGI u4 a0 2 66).bind fun y5 =>
    (uPut b u4 a0 2 65 (.int y5)).bind fun u6 =>
    f_X3_failing_169 N b g a0 k93 u6 x1 x2 x3 x4 x5 x6
    else
    f_X3_failing_169 N b g a0 k93 u x1 x2 x3 x4 x5 x6
set_option maxHeartbeats 4000000 in
set_option maxRecDepth 100000 in
theorem zz_X3_failing_134 {G : uG} {a0 : Nat} {uf : UH} {r : Int32} (N : Nat) (k93 : UH → Int32 → Int32 → Int32 → Int32 → Int32 → Int32 → Option (Int32 × UH)) (hk93 : ∀ (u : UH) (x1 : Int32) (x2 : Int32) (x3 : Int32) (x4 : Int32) (x5 : Int32) (x6 : Int32), k93 u x1 x2 x3 x4 x5 x6 = some (r, uf) → uf.1 = u.1 ∧ uf.2.1 = u.2.1) (u : UH) (x1 : Int32) (x2 : Int32) (x3 : Int32) (x4 : Int32) (x5 : Int32) (x6 : Int32) (s0 : Int32) (h : f_X3_failing_134 N (ub G) (ug G) a0 k93 u x1 x2 x3 x4 x5 x6 s0 = some (r, uf)) : uf.1 = u.1 ∧ uf.2.1 = u.2.1 := by
  unfold f_X3_failing_134 at h
  by_cases c1 : s0 = 0
  · have h := mif_t c1 h
    have hq := zz_X3_failing_172 (G := G) (a0 := a0) N k93 hk93 u x1 x2 x3 x4 x5 x6 h
    exact ⟨by omega, by omega⟩
  · have h := mif_f c1 h
    by_cases c2 : x5 = 0
    · have h := mif_t c2 h
      obtain ⟨u3, hu3, h⟩ := mbind_n h
      have zu3 := uPut_sz hu3
      obtain ⟨u4, hu4, h⟩ := mbind_n h
      have zu4 := uPut_sz hu4
      obtain ⟨y5, hy5, h⟩ := mbind_n h
      obtain ⟨u6, hu6, h⟩ := mbind_n h
      have zu6 := uPut_sz hu6
      have hq := zz_X3_failing_169 (G := G) (a0 := a0) N k93 hk93 u6 x1 x2 x3 x4 x5 x6 h
      exact ⟨by omega, by omega⟩
    · have h := mif_f c2 h
      have hq := zz_X3_failing_169 (G := G) (a0 := a0) N k93 hk93 u x1 x2 x3 x4 x5 x6 h
      exact ⟨by omega, by omega⟩
set_option maxHeartbeats 4000000 in
set_option maxRecDepth 100000 in
theorem w_X3_failing_134 {p : Program} {l : Launch} {e : Env} {R : Room} {s : State} {m : MethodId} {args : Array Value} {below : List Frame} {meth : Method} {c : Code} {G : uG} {a0 : Nat} {uf : UH} {r : Int32} (hC : uC p s m args meth c G RX3 cX3_failing 8 (some .int)) (hR : 5 ≤ R.frames ∧ 134 ≤ R.locals) (N : Nat) (k93 : UH → Int32 → Int32 → Int32 → Int32 → Int32 → Int32 → Option (Int32 × UH)) (hk93 : ∀ (u : UH) (x1 : Int32) (x2 : Int32) (x3 : Int32) (x4 : Int32) (x5 : Int32) (x6 : Int32), k93 u x1 x2 x3 x4 x5 x6 = some (r, uf) → ∀ (H : Heap) (locs : List Loc), uP G u H → va_S (uA G) s.heap H locs → ∀ ls : Array Slot, lv_has ls 8 [(0, va_rf (some a0)), (1, .int x1), (2, .int x2), (3, .int x3), (4, .int x4), (5, .int x5), (6, .int x6)] → W p l e R s m args below meth c H locs 0 0 (MQ below (uQi G r uf) args s 0 0 (uA G)) (F0 m 93 ls [])) (u : UH) (x1 : Int32) (x2 : Int32) (x3 : Int32) (x4 : Int32) (x5 : Int32) (x6 : Int32) (s0 : Int32) (h : f_X3_failing_134 N (ub G) (ug G) a0 k93 u x1 x2 x3 x4 x5 x6 s0 = some (r, uf)) {H : Heap} {locs : List Loc} (hP : uP G u H) (hS : va_S (uA G) s.heap H locs) {ls : Array Slot} (hl : lv_has ls 8 [(0, va_rf (some a0)), (1, .int x1), (2, .int x2), (3, .int x3), (4, .int x4), (5, .int x5), (6, .int x6)]) : W p l e R s m args below meth c H locs 0 0 (MQ below (uQi G r uf) args s 0 0 (uA G)) (F0 m 134 ls [.int s0]) := by
  obtain ⟨⟨hx, hb, hml, hown, hts⟩, hKK⟩ := id hC
  unfold f_X3_failing_134 at h
  refine lv_istore (lv' := [(7, .int s0), (0, va_rf (some a0)), (1, .int x1), (2, .int x2), (3, .int x3), (4, .int x4), (5, .int x5), (6, .int x6)]) hx hb dX3_failing_134 hl (by decide) rfl (fun ls hl => ?_)
  refine lv_iload hx hb dX3_failing_136 (lv_at hl 0 rfl) ?_
  refine lv_if_ne (tgt := 144) hx hb dX3_failing_138 (by decide) (fun c1 => ?_) (fun c1 => ?_)
  · have h := mif_f c1 h
    refine lv_iload hx hb dX3_failing_144 (lv_at hl 6 rfl) ?_
    refine lv_if_ne (tgt := 169) hx hb dX3_failing_146 (by decide) (fun c2 => ?_) (fun c2 => ?_)
    · have h := mif_f c2 h
      exact w_X3_failing_169 hC hR N k93 hk93 u x1 x2 x3 x4 x5 x6 h hP hS (lv_sub hl [1, 2, 3, 4, 5, 6, 7] rfl)
    · have h := mif_t c2 h
      refine u_aload_n (r := some a0) hx hb dX3_failing_149 rfl (lv_at hl 1 rfl) ?_
      refine lv_iload hx hb dX3_failing_150 (lv_at hl 7 rfl) ?_
      obtain ⟨u3, hu3, h⟩ := mbind_n h
      have zu3 := uPut_sz hu3
      refine u_put hC hP hS hu3 rfl in_X3 tyX3 tyX3_ok nmX3 (by decide) q1956 (fun _ h => h) rfl (ty := .int) (tyX3_ok 63 (by decide)) rfl rfl dX3_failing_152 (fun H locs hP hS => ?_)
      refine u_aload_n (r := some a0) hx hb dX3_failing_155 rfl (lv_at hl 1 rfl) ?_
      refine lv_iload hx hb dX3_failing_156 (lv_at hl 0 rfl) ?_
      obtain ⟨u4, hu4, h⟩ := mbind_n h
      have zu4 := uPut_sz hu4
      refine u_put hC hP hS hu4 rfl in_X3 tyX3 tyX3_ok nmX3 (by decide) q1957 (fun _ h => h) rfl (ty := .int) (tyX3_ok 64 (by decide)) rfl rfl dX3_failing_158 (fun H locs hP hS => ?_)
      refine u_aload_n (r := some a0) hx hb dX3_failing_161 rfl (lv_at hl 1 rfl) ?_
      refine u_aload_n (r := some a0) hx hb dX3_failing_162 rfl (lv_at hl 1 rfl) ?_
      obtain ⟨y5, hy5, h⟩ := mbind_n h
      refine u_get hC hP (uGI_n hy5) rfl in_X3 (by decide) q1959 (fun _ h => h) dX3_failing_163 ?_
      obtain ⟨u6, hu6, h⟩ := mbind_n h
      have zu6 := uPut_sz hu6
      refine u_put hC hP hS hu6 rfl in_X3 tyX3 tyX3_ok nmX3 (by decide) q1958 (fun _ h => h) rfl (ty := .int) (tyX3_ok 65 (by decide)) rfl rfl dX3_failing_166 (fun H locs hP hS => ?_)
      exact w_X3_failing_169 hC hR N k93 hk93 u6 x1 x2 x3 x4 x5 x6 h hP hS (lv_sub hl [1, 2, 3, 4, 5, 6, 7] rfl)
  · have h := mif_t c1 h
    refine lv_goto (tgt := 172) hx hb dX3_failing_141 (by decide) ?_
    exact w_X3_failing_172 hC hR N k93 hk93 u x1 x2 x3 x4 x5 x6 h hP hS (lv_sub hl [1, 2, 3, 4, 5, 6, 7] rfl)
def f_X3_failing_132 (N b : Nat) (g : uEnv) (a0 : Nat) (k93 : UH → Int32 → Int32 → Int32 → Int32 → Int32 → Int32 → Option (Int32 × UH)) (u : UH) (x1 : Int32) (x2 : Int32) (x3 : Int32) (x4 : Int32) (x5 : Int32) (x6 : Int32) (x7 : Int32) : Option (Int32 × UH) :=
    f_X3_failing_134 N b g a0 k93 u x1 x2 x3 x4 x5 x6 x7
set_option maxHeartbeats 4000000 in
set_option maxRecDepth 100000 in
theorem zz_X3_failing_132 {G : uG} {a0 : Nat} {uf : UH} {r : Int32} (N : Nat) (k93 : UH → Int32 → Int32 → Int32 → Int32 → Int32 → Int32 → Option (Int32 × UH)) (hk93 : ∀ (u : UH) (x1 : Int32) (x2 : Int32) (x3 : Int32) (x4 : Int32) (x5 : Int32) (x6 : Int32), k93 u x1 x2 x3 x4 x5 x6 = some (r, uf) → uf.1 = u.1 ∧ uf.2.1 = u.2.1) (u : UH) (x1 : Int32) (x2 : Int32) (x3 : Int32) (x4 : Int32) (x5 : Int32) (x6 : Int32) (x7 : Int32) (h : f_X3_failing_132 N (ub G) (ug G) a0 k93 u x1 x2 x3 x4 x5 x6 x7 = some (r, uf)) : uf.1 = u.1 ∧ uf.2.1 = u.2.1 := by
  unfold f_X3_failing_132 at h
  have hq := zz_X3_failing_134 (G := G) (a0 := a0) N k93 hk93 u x1 x2 x3 x4 x5 x6 x7 h
  exact ⟨by omega, by omega⟩
set_option maxHeartbeats 4000000 in
set_option maxRecDepth 100000 in
theorem w_X3_failing_132 {p : Program} {l : Launch} {e : Env} {R : Room} {s : State} {m : MethodId} {args : Array Value} {below : List Frame} {meth : Method} {c : Code} {G : uG} {a0 : Nat} {uf : UH} {r : Int32} (hC : uC p s m args meth c G RX3 cX3_failing 8 (some .int)) (hR : 5 ≤ R.frames ∧ 134 ≤ R.locals) (N : Nat) (k93 : UH → Int32 → Int32 → Int32 → Int32 → Int32 → Int32 → Option (Int32 × UH)) (hk93 : ∀ (u : UH) (x1 : Int32) (x2 : Int32) (x3 : Int32) (x4 : Int32) (x5 : Int32) (x6 : Int32), k93 u x1 x2 x3 x4 x5 x6 = some (r, uf) → ∀ (H : Heap) (locs : List Loc), uP G u H → va_S (uA G) s.heap H locs → ∀ ls : Array Slot, lv_has ls 8 [(0, va_rf (some a0)), (1, .int x1), (2, .int x2), (3, .int x3), (4, .int x4), (5, .int x5), (6, .int x6)] → W p l e R s m args below meth c H locs 0 0 (MQ below (uQi G r uf) args s 0 0 (uA G)) (F0 m 93 ls [])) (u : UH) (x1 : Int32) (x2 : Int32) (x3 : Int32) (x4 : Int32) (x5 : Int32) (x6 : Int32) (x7 : Int32) (h : f_X3_failing_132 N (ub G) (ug G) a0 k93 u x1 x2 x3 x4 x5 x6 x7 = some (r, uf)) {H : Heap} {locs : List Loc} (hP : uP G u H) (hS : va_S (uA G) s.heap H locs) {ls : Array Slot} (hl : lv_has ls 8 [(0, va_rf (some a0)), (1, .int x1), (2, .int x2), (3, .int x3), (4, .int x4), (5, .int x5), (6, .int x6), (7, .int x7)]) : W p l e R s m args below meth c H locs 0 0 (MQ below (uQi G r uf) args s 0 0 (uA G)) (F0 m 132 ls []) := by
  obtain ⟨⟨hx, hb, hml, hown, hts⟩, hKK⟩ := id hC
  unfold f_X3_failing_132 at h
  refine lv_iload hx hb dX3_failing_132 (lv_at hl 7 rfl) ?_
  exact w_X3_failing_134 hC hR N k93 hk93 u x1 x2 x3 x4 x5 x6 x7 h hP hS (lv_sub hl [0, 1, 2, 3, 4, 5, 6] rfl)
def f_X3_failing_93 (N b : Nat) (g : uEnv) (a0 : Nat) : Nat → UH → Int32 → Int32 → Int32 → Int32 → Int32 → Int32 → Option (Int32 × UH)
  | 0, _, _, _, _, _, _, _ => none
  | n + 1, u, x1, x2, x3, x4, x5, x6 =>
    if uIs u a0 2 = true then
    ucall (f_X3_truthMany N b g u a0) fun r4 u2 =>
    if r4 ≤ x6 then
    some (x5, u2)
    else
    if uIs u2 a0 2 = true then
    ucall (f_X3_acts N b g u2 a0 x1 x2 x3 x6) fun r9 u7 =>
    if r9 = 0 then
    (uGI u7 a0 2 67).bind fun y11 =>
    if y11 ≤ x4 then
    f_X3_failing_132 N b g a0 (f_X3_failing_93 N b g a0 n) u7 x1 x2 x3 x4 x5 x6 r9
    else
    f_X3_failing_134 N b g a0 (f_X3_failing_93 N b g a0 n) u7 x1 x2 x3 x4 x5 x6 7
    else
    f_X3_failing_132 N b g a0 (f_X3_failing_93 N b g a0 n) u7 x1 x2 x3 x4 x5 x6 r9
    else none
    else none
set_option maxHeartbeats 4000000 in
set_option maxRecDepth 100000 in
theorem zz_X3_failing_93 {G : uG} {a0 : Nat} {uf : UH} {r : Int32} (N : Nat) : ∀ (n : Nat) (u : UH) (x1 : Int32) (x2 : Int32) (x3 : Int32) (x4 : Int32) (x5 : Int32) (x6 : Int32), f_X3_failing_93 N (ub G) (ug G) a0 n u x1 x2 x3 x4 x5 x6 = some (r, uf) → uf.1 = u.1 ∧ uf.2.1 = u.2.1 := by
  intro n
  induction n with
  | zero =>
    intro u x1 x2 x3 x4 x5 x6 h
    cases h
  | succ n ih =>
    intro u x1 x2 x3 x4 x5 x6 h
    unfold f_X3_failing_93 at h
    obtain ⟨c1, h⟩ := mif_n h
    obtain ⟨r4, u2, c3, h⟩ := ucall_n h
    have zu2 := zz_X3_truthMany N (ub G) (ug G) u a0 r4 u2 c3
    by_cases c5 : r4 ≤ x6
    · have h := mif_t c5 h
      obtain ⟨hr1, hr2⟩ := uret_n h
      subst hr2
      exact ⟨by omega, by omega⟩
    · have h := mif_f c5 h
      obtain ⟨c6, h⟩ := mif_n h
      obtain ⟨r9, u7, c8, h⟩ := ucall_n h
      have zu7 := zz_X3_acts N (ub G) (ug G) u2 a0 x1 x2 x3 x6 r9 u7 c8
      by_cases c10 : r9 = 0
      · have h := mif_t c10 h
        obtain ⟨y11, hy11, h⟩ := mbind_n h
        by_cases c12 : y11 ≤ x4
        · have h := mif_t c12 h
          have hq := zz_X3_failing_132 (G := G) (a0 := a0) N (f_X3_failing_93 N (ub G) (ug G) a0 n) ih u7 x1 x2 x3 x4 x5 x6 r9 h
          exact ⟨by omega, by omega⟩
        · have h := mif_f c12 h
          have hq := zz_X3_failing_134 (G := G) (a0 := a0) N (f_X3_failing_93 N (ub G) (ug G) a0 n) ih u7 x1 x2 x3 x4 x5 x6 7 h
          exact ⟨by omega, by omega⟩
      · have h := mif_f c10 h
        have hq := zz_X3_failing_132 (G := G) (a0 := a0) N (f_X3_failing_93 N (ub G) (ug G) a0 n) ih u7 x1 x2 x3 x4 x5 x6 r9 h
        exact ⟨by omega, by omega⟩
set_option maxHeartbeats 4000000 in
set_option maxRecDepth 100000 in
theorem w_X3_failing_93 {p : Program} {l : Launch} {e : Env} {R : Room} {s : State} {m : MethodId} {args : Array Value} {below : List Frame} {meth : Method} {c : Code} {G : uG} {a0 : Nat} {uf : UH} {r : Int32} (hC : uC p s m args meth c G RX3 cX3_failing 8 (some .int)) (hR : 5 ≤ R.frames ∧ 134 ≤ R.locals) (N : Nat) : ∀ (n : Nat) (u : UH) (x1 : Int32) (x2 : Int32) (x3 : Int32) (x4 : Int32) (x5 : Int32) (x6 : Int32), f_X3_failing_93 N (ub G) (ug G) a0 n u x1 x2 x3 x4 x5 x6 = some (r, uf) → ∀ (H : Heap) (locs : List Loc), uP G u H → va_S (uA G) s.heap H locs → ∀ ls : Array Slot, lv_has ls 8 [(0, va_rf (some a0)), (1, .int x1), (2, .int x2), (3, .int x3), (4, .int x4), (5, .int x5), (6, .int x6)] → W p l e R s m args below meth c H locs 0 0 (MQ below (uQi G r uf) args s 0 0 (uA G)) (F0 m 93 ls []) := by
  obtain ⟨⟨hx, hb, hml, hown, hts⟩, hKK⟩ := id hC
  intro n
  induction n with
  | zero =>
    intro u x1 x2 x3 x4 x5 x6 h
    cases h
  | succ n ih =>
    intro u x1 x2 x3 x4 x5 x6 h H locs hP hS ls hl
    unfold f_X3_failing_93 at h
    refine lv_iload hx hb dX3_failing_93 (lv_at hl 6 rfl) ?_
    refine u_aload_n (r := some a0) hx hb dX3_failing_95 rfl (lv_at hl 0 rfl) ?_
    obtain ⟨c1, h⟩ := mif_n h
    obtain ⟨r4, u2, c3, h⟩ := ucall_n h
    have zu2 := zz_X3_truthMany N (ub G) (ug G) u a0 r4 u2 c3
    refine u_calli (va_runV (As := []) (rest := [.int x6]) hC.1 (met_X3_truthMany l N G u a0 r4 u2 c3) (cwV 0 hts (lw_V q2427 q2429 qs83 q103 q2430) rfl rfl rfl (by decide +kernel) ⟨Nat.le_trans (Nat.le_of_ble_eq_true rfl) hR.1, Nat.le_trans (Nat.le_of_ble_eq_true rfl) hR.2⟩) ⟨uPc_blind, u_rcv hC hP c1 rfl, fun U hU hW => u_pre hC hP hS hU hW⟩ rfl rfl hl.1 rfl (lv_room (Nat.le_of_ble_eq_true rfl)) dX3_failing_96 ⟨Nat.zero_le _, Nat.zero_le _⟩) hS (fun H locs hP hS => ?_)
    refine lv_icmp_ge (tgt := 178) hx hb dX3_failing_99 (by decide) (fun c5 => ?_) (fun c5 => ?_)
    · have h := mif_t c5 h
      refine lv_iload hx hb dX3_failing_178 (lv_at hl 5 rfl) ?_
      obtain ⟨hr1, hr2⟩ := uret_n h
      subst hr1
      subst hr2
      exact u_iret hC hP hS dX3_failing_180
    · have h := mif_f c5 h
      refine u_aload_n (r := some a0) hx hb dX3_failing_102 rfl (lv_at hl 0 rfl) ?_
      refine lv_iload_n hx hb dX3_failing_103 rfl (lv_at hl 1 rfl) ?_
      refine lv_iload_n hx hb dX3_failing_104 rfl (lv_at hl 2 rfl) ?_
      refine lv_iload_n hx hb dX3_failing_105 rfl (lv_at hl 3 rfl) ?_
      refine lv_iload hx hb dX3_failing_106 (lv_at hl 6 rfl) ?_
      obtain ⟨c6, h⟩ := mif_n h
      obtain ⟨r9, u7, c8, h⟩ := ucall_n h
      have zu7 := zz_X3_acts N (ub G) (ug G) u2 a0 x1 x2 x3 x6 r9 u7 c8
      refine u_calli (va_runV (As := [.int x1, .int x2, .int x3, .int x6]) (rest := []) hC.1 (met_X3_acts l N G u2 a0 x1 x2 x3 x6 r9 u7 c8) (cwV 4 hts (lw_V q2496 q2498 qs92 q103 q2499) rfl rfl rfl (by decide +kernel) ⟨Nat.le_trans (Nat.le_of_ble_eq_true rfl) hR.1, Nat.le_trans (Nat.le_of_ble_eq_true rfl) hR.2⟩) ⟨uPc_blind, u_rcv hC hP c6 rfl, fun U hU hW => u_pre hC hP hS hU hW⟩ rfl rfl hl.1 rfl (lv_room (Nat.le_of_ble_eq_true rfl)) dX3_failing_108 ⟨Nat.zero_le _, Nat.zero_le _⟩) hS (fun H locs hP hS => ?_)
      refine lv_istore (lv' := [(7, .int r9), (0, va_rf (some a0)), (1, .int x1), (2, .int x2), (3, .int x3), (4, .int x4), (5, .int x5), (6, .int x6)]) hx hb dX3_failing_111 hl (by decide) rfl (fun ls hl => ?_)
      refine lv_iload hx hb dX3_failing_113 (lv_at hl 0 rfl) ?_
      refine lv_if_ne (tgt := 132) hx hb dX3_failing_115 (by decide) (fun c10 => ?_) (fun c10 => ?_)
      · have h := mif_f c10 h
        exact w_X3_failing_132 hC hR N (f_X3_failing_93 N (ub G) (ug G) a0 n) ih u7 x1 x2 x3 x4 x5 x6 r9 h hP hS (lv_sub hl [1, 2, 3, 4, 5, 6, 7, 0] rfl)
      · have h := mif_t c10 h
        refine u_aload_n (r := some a0) hx hb dX3_failing_118 rfl (lv_at hl 1 rfl) ?_
        obtain ⟨y11, hy11, h⟩ := mbind_n h
        refine u_get hC hP (uGI_n hy11) rfl in_X3 (by decide) q1960 (fun _ h => h) dX3_failing_119 ?_
        refine lv_iload hx hb dX3_failing_122 (lv_at hl 5 rfl) ?_
        refine lv_icmp_le (tgt := 132) hx hb dX3_failing_124 (by decide) (fun c12 => ?_) (fun c12 => ?_)
        · have h := mif_t c12 h
          exact w_X3_failing_132 hC hR N (f_X3_failing_93 N (ub G) (ug G) a0 n) ih u7 x1 x2 x3 x4 x5 x6 r9 h hP hS (lv_sub hl [1, 2, 3, 4, 5, 6, 7, 0] rfl)
        · have h := mif_f c12 h
          refine lv_bipush (v := 7) hx hb dX3_failing_127 (by decide) ?_
          refine lv_goto (tgt := 134) hx hb dX3_failing_129 (by decide) ?_
          exact w_X3_failing_134 hC hR N (f_X3_failing_93 N (ub G) (ug G) a0 n) ih u7 x1 x2 x3 x4 x5 x6 7 h hP hS (lv_sub hl [1, 2, 3, 4, 5, 6, 7] rfl)
def f_X3_failing (N b : Nat) (g : uEnv) (u : UH) (a0 : Nat) (x1 : Int32) (x2 : Int32) (x3 : Int32) (x4 : Int32) : Option (Int32 × UH) :=
    if uIs u a0 2 = true then
    (f_X3_good N b g u a0).bind fun u2 =>
    (uGI u2 a0 2 34).bind fun y4 =>
    if y4 = 0 then
    f_X3_failing_41 N b g a0 u2
    else
    (uGI u2 a0 2 40).bind fun y6 =>
    ucall (f_X3_within N b g u2 x1 0 (y6 - 1)) fun r9 u7 =>
    if r9 = 0 then
    f_X3_failing_41 N b g a0 u7
    else
    if uIs u7 a0 2 = true then
    ucall (f_X3_isCell N b g u7 a0 x2) fun r14 u12 =>
    if r14 = 0 then
    f_X3_failing_41 N b g a0 u12
    else
    if uIs u12 a0 2 = true then
    ucall (f_X3_isCell N b g u12 a0 x3) fun r19 u17 =>
    if r19 = 0 then
    f_X3_failing_41 N b g a0 u17
    else
    ucall (f_X3_within N b g u17 x4 0 9999999) fun r23 u21 =>
    if r23 = 0 then
    if uIs u21 a0 2 = true then
    ucall (f_X3_no N b g u21 a0 2) fun r34 u32 =>
    some (r34, u32)
    else none
    else
    if uIs u21 a0 2 = true then
    (f_X3_lists N b g u21 a0).bind fun u26 =>
    (uPut b u26 a0 2 63 (.int (-2))).bind fun u28 =>
    (uPut b u28 a0 2 64 (.int (-2))).bind fun u29 =>
    (uPut b u29 a0 2 65 (.int (-2))).bind fun u30 =>
    f_X3_failing_93 N b g a0 N u30 x1 x2 x3 x4 0 0
    else none
    else none
    else none
    else none
set_option maxHeartbeats 4000000 in
set_option maxRecDepth 100000 in
theorem zz_X3_failing_0 {G : uG} {a0 : Nat} {uf : UH} {r : Int32} (N : Nat) (u : UH) (x1 : Int32) (x2 : Int32) (x3 : Int32) (x4 : Int32) (h : f_X3_failing N (ub G) (ug G) u a0 x1 x2 x3 x4 = some (r, uf)) : uf.1 = u.1 ∧ uf.2.1 = u.2.1 := by
  unfold f_X3_failing at h
  obtain ⟨c1, h⟩ := mif_n h
  obtain ⟨u2, c3, h⟩ := mbind_n h
  have zu2 := zz_X3_good N (ub G) (ug G) u a0 u2 c3
  obtain ⟨y4, hy4, h⟩ := mbind_n h
  by_cases c5 : y4 = 0
  · have h := mif_t c5 h
    have hq := zz_X3_failing_41 (G := G) (a0 := a0) N u2 h
    exact ⟨by omega, by omega⟩
  · have h := mif_f c5 h
    obtain ⟨y6, hy6, h⟩ := mbind_n h
    obtain ⟨r9, u7, c8, h⟩ := ucall_n h
    have zu7 := zz_X3_within N (ub G) (ug G) u2 x1 0 (y6 - 1) r9 u7 c8
    by_cases c10 : r9 = 0
    · have h := mif_t c10 h
      have hq := zz_X3_failing_41 (G := G) (a0 := a0) N u7 h
      exact ⟨by omega, by omega⟩
    · have h := mif_f c10 h
      obtain ⟨c11, h⟩ := mif_n h
      obtain ⟨r14, u12, c13, h⟩ := ucall_n h
      have zu12 := zz_X3_isCell N (ub G) (ug G) u7 a0 x2 r14 u12 c13
      by_cases c15 : r14 = 0
      · have h := mif_t c15 h
        have hq := zz_X3_failing_41 (G := G) (a0 := a0) N u12 h
        exact ⟨by omega, by omega⟩
      · have h := mif_f c15 h
        obtain ⟨c16, h⟩ := mif_n h
        obtain ⟨r19, u17, c18, h⟩ := ucall_n h
        have zu17 := zz_X3_isCell N (ub G) (ug G) u12 a0 x3 r19 u17 c18
        by_cases c20 : r19 = 0
        · have h := mif_t c20 h
          have hq := zz_X3_failing_41 (G := G) (a0 := a0) N u17 h
          exact ⟨by omega, by omega⟩
        · have h := mif_f c20 h
          obtain ⟨r23, u21, c22, h⟩ := ucall_n h
          have zu21 := zz_X3_within N (ub G) (ug G) u17 x4 0 9999999 r23 u21 c22
          by_cases c24 : r23 = 0
          · have h := mif_t c24 h
            obtain ⟨c31, h⟩ := mif_n h
            obtain ⟨r34, u32, c33, h⟩ := ucall_n h
            have zu32 := zz_X3_no N (ub G) (ug G) u21 a0 2 r34 u32 c33
            obtain ⟨hr1, hr2⟩ := uret_n h
            subst hr2
            exact ⟨by omega, by omega⟩
          · have h := mif_f c24 h
            obtain ⟨c25, h⟩ := mif_n h
            obtain ⟨u26, c27, h⟩ := mbind_n h
            have zu26 := zz_X3_lists N (ub G) (ug G) u21 a0 u26 c27
            obtain ⟨u28, hu28, h⟩ := mbind_n h
            have zu28 := uPut_sz hu28
            obtain ⟨u29, hu29, h⟩ := mbind_n h
            have zu29 := uPut_sz hu29
            obtain ⟨u30, hu30, h⟩ := mbind_n h
            have zu30 := uPut_sz hu30
            have hq := zz_X3_failing_93 (G := G) (a0 := a0) N N u30 x1 x2 x3 x4 0 0 h
            exact ⟨by omega, by omega⟩
set_option maxHeartbeats 4000000 in
set_option maxRecDepth 100000 in
theorem w_X3_failing_0 {p : Program} {l : Launch} {e : Env} {R : Room} {s : State} {m : MethodId} {args : Array Value} {below : List Frame} {meth : Method} {c : Code} {G : uG} {a0 : Nat} {uf : UH} {r : Int32} (hC : uC p s m args meth c G RX3 cX3_failing 8 (some .int)) (hR : 5 ≤ R.frames ∧ 134 ≤ R.locals) (N : Nat) (u : UH) (x1 : Int32) (x2 : Int32) (x3 : Int32) (x4 : Int32) (h : f_X3_failing N (ub G) (ug G) u a0 x1 x2 x3 x4 = some (r, uf)) {H : Heap} {locs : List Loc} (hP : uP G u H) (hS : va_S (uA G) s.heap H locs) {ls : Array Slot} (hl : lv_has ls 8 [(0, va_rf (some a0)), (1, .int x1), (2, .int x2), (3, .int x3), (4, .int x4)]) : W p l e R s m args below meth c H locs 0 0 (MQ below (uQi G r uf) args s 0 0 (uA G)) (F0 m 0 ls []) := by
  obtain ⟨⟨hx, hb, hml, hown, hts⟩, hKK⟩ := id hC
  unfold f_X3_failing at h
  refine u_aload_n (r := some a0) hx hb dX3_failing_0 rfl (lv_at hl 0 rfl) ?_
  obtain ⟨c1, h⟩ := mif_n h
  obtain ⟨u2, c3, h⟩ := mbind_n h
  have zu2 := zz_X3_good N (ub G) (ug G) u a0 u2 c3
  refine u_callv (va_runV (As := []) (rest := []) hC.1 (met_X3_good l N G u a0 u2 c3) (cwV 0 hts (lw_V q2131 q2133 qs40 q103 q2134) rfl rfl rfl (by decide +kernel) ⟨Nat.le_trans (Nat.le_of_ble_eq_true rfl) hR.1, Nat.le_trans (Nat.le_of_ble_eq_true rfl) hR.2⟩) ⟨uPc_blind, u_rcv hC hP c1 rfl, fun U hU hW => u_pre hC hP hS hU hW⟩ rfl rfl hl.1 rfl (lv_room (Nat.le_of_ble_eq_true rfl)) dX3_failing_1 ⟨Nat.zero_le _, Nat.zero_le _⟩) hS (fun H locs hP hS => ?_)
  refine u_aload_n (r := some a0) hx hb dX3_failing_4 rfl (lv_at hl 0 rfl) ?_
  obtain ⟨y4, hy4, h⟩ := mbind_n h
  refine u_get hC hP (uGI_n hy4) rfl in_X3 (by decide) q1927 (fun _ h => h) dX3_failing_5 ?_
  refine lv_if_eq (tgt := 41) hx hb dX3_failing_8 (by decide) (fun c5 => ?_) (fun c5 => ?_)
  · have h := mif_t c5 h
    exact w_X3_failing_41 hC hR N u2 h hP hS (lv_sub hl [0] rfl)
  · have h := mif_f c5 h
    refine lv_iload_n hx hb dX3_failing_11 rfl (lv_at hl 1 rfl) ?_
    refine lv_iconst (v := 0) hx hb dX3_failing_12 (by decide) ?_
    refine u_aload_n (r := some a0) hx hb dX3_failing_13 rfl (lv_at hl 0 rfl) ?_
    obtain ⟨y6, hy6, h⟩ := mbind_n h
    refine u_get hC hP (uGI_n hy6) rfl in_X3 (by decide) q1933 (fun _ h => h) dX3_failing_14 ?_
    refine lv_iconst (v := 1) hx hb dX3_failing_17 (by decide) ?_
    refine lv_isub hx hb dX3_failing_18 ?_
    obtain ⟨r9, u7, c8, h⟩ := ucall_n h
    have zu7 := zz_X3_within N (ub G) (ug G) u2 x1 0 (y6 - 1) r9 u7 c8
    refine u_calli (va_runS (As := [.int x1, .int 0, .int (y6 - 1)]) (rest := []) hC.1 (met_X3_within l N G u2 x1 0 (y6 - 1) r9 u7 c8) (va_cwS 3 hts (lw_S q2135 q2136 q103 q2137) rfl rfl rfl (by decide +kernel) ⟨Nat.le_trans (Nat.le_of_ble_eq_true rfl) hR.1, Nat.le_trans (Nat.le_of_ble_eq_true rfl) hR.2⟩) ⟨uPc_blind, fun U hU hW => u_pre hC hP hS hU hW⟩ rfl rfl hl.1 rfl (lv_room (Nat.le_of_ble_eq_true rfl)) dX3_failing_19 ⟨Nat.zero_le _, Nat.zero_le _⟩) hS (fun H locs hP hS => ?_)
    refine lv_if_eq (tgt := 41) hx hb dX3_failing_22 (by decide) (fun c10 => ?_) (fun c10 => ?_)
    · have h := mif_t c10 h
      exact w_X3_failing_41 hC hR N u7 h hP hS (lv_sub hl [0] rfl)
    · have h := mif_f c10 h
      refine u_aload_n (r := some a0) hx hb dX3_failing_25 rfl (lv_at hl 0 rfl) ?_
      refine lv_iload_n hx hb dX3_failing_26 rfl (lv_at hl 2 rfl) ?_
      obtain ⟨c11, h⟩ := mif_n h
      obtain ⟨r14, u12, c13, h⟩ := ucall_n h
      have zu12 := zz_X3_isCell N (ub G) (ug G) u7 a0 x2 r14 u12 c13
      refine u_calli (va_runV (As := [.int x2]) (rest := []) hC.1 (met_X3_isCell l N G u7 a0 x2 r14 u12 c13) (cwV 1 hts (lw_V q2276 q2278 qs60 q103 q2279) rfl rfl rfl (by decide +kernel) ⟨Nat.le_trans (Nat.le_of_ble_eq_true rfl) hR.1, Nat.le_trans (Nat.le_of_ble_eq_true rfl) hR.2⟩) ⟨uPc_blind, u_rcv hC hP c11 rfl, fun U hU hW => u_pre hC hP hS hU hW⟩ rfl rfl hl.1 rfl (lv_room (Nat.le_of_ble_eq_true rfl)) dX3_failing_27 ⟨Nat.zero_le _, Nat.zero_le _⟩) hS (fun H locs hP hS => ?_)
      refine lv_if_eq (tgt := 41) hx hb dX3_failing_30 (by decide) (fun c15 => ?_) (fun c15 => ?_)
      · have h := mif_t c15 h
        exact w_X3_failing_41 hC hR N u12 h hP hS (lv_sub hl [0] rfl)
      · have h := mif_f c15 h
        refine u_aload_n (r := some a0) hx hb dX3_failing_33 rfl (lv_at hl 0 rfl) ?_
        refine lv_iload_n hx hb dX3_failing_34 rfl (lv_at hl 3 rfl) ?_
        obtain ⟨c16, h⟩ := mif_n h
        obtain ⟨r19, u17, c18, h⟩ := ucall_n h
        have zu17 := zz_X3_isCell N (ub G) (ug G) u12 a0 x3 r19 u17 c18
        refine u_calli (va_runV (As := [.int x3]) (rest := []) hC.1 (met_X3_isCell l N G u12 a0 x3 r19 u17 c18) (cwV 1 hts (lw_V q2276 q2278 qs60 q103 q2279) rfl rfl rfl (by decide +kernel) ⟨Nat.le_trans (Nat.le_of_ble_eq_true rfl) hR.1, Nat.le_trans (Nat.le_of_ble_eq_true rfl) hR.2⟩) ⟨uPc_blind, u_rcv hC hP c16 rfl, fun U hU hW => u_pre hC hP hS hU hW⟩ rfl rfl hl.1 rfl (lv_room (Nat.le_of_ble_eq_true rfl)) dX3_failing_35 ⟨Nat.zero_le _, Nat.zero_le _⟩) hS (fun H locs hP hS => ?_)
        refine lv_if_ne (tgt := 47) hx hb dX3_failing_38 (by decide) (fun c20 => ?_) (fun c20 => ?_)
        · have h := mif_f c20 h
          refine lv_iload hx hb dX3_failing_47 (lv_at hl 4 rfl) ?_
          refine lv_iconst (v := 0) hx hb dX3_failing_49 (by decide) ?_
          refine lv_ldcw hx hb hown (hts _ q2495) dX3_failing_50 ?_
          obtain ⟨r23, u21, c22, h⟩ := ucall_n h
          have zu21 := zz_X3_within N (ub G) (ug G) u17 x4 0 9999999 r23 u21 c22
          refine u_calli (va_runS (As := [.int x4, .int 0, .int 9999999]) (rest := []) hC.1 (met_X3_within l N G u17 x4 0 9999999 r23 u21 c22) (va_cwS 3 hts (lw_S q2135 q2136 q103 q2137) rfl rfl rfl (by decide +kernel) ⟨Nat.le_trans (Nat.le_of_ble_eq_true rfl) hR.1, Nat.le_trans (Nat.le_of_ble_eq_true rfl) hR.2⟩) ⟨uPc_blind, fun U hU hW => u_pre hC hP hS hU hW⟩ rfl rfl hl.1 rfl (lv_room (Nat.le_of_ble_eq_true rfl)) dX3_failing_53 ⟨Nat.zero_le _, Nat.zero_le _⟩) hS (fun H locs hP hS => ?_)
          refine lv_if_ne (tgt := 65) hx hb dX3_failing_56 (by decide) (fun c24 => ?_) (fun c24 => ?_)
          · have h := mif_f c24 h
            refine u_aload_n (r := some a0) hx hb dX3_failing_65 rfl (lv_at hl 0 rfl) ?_
            obtain ⟨c25, h⟩ := mif_n h
            obtain ⟨u26, c27, h⟩ := mbind_n h
            have zu26 := zz_X3_lists N (ub G) (ug G) u21 a0 u26 c27
            refine u_callv (va_runV (As := []) (rest := []) hC.1 (met_X3_lists l N G u21 a0 u26 c27) (cwV 0 hts (lw_V q2348 q2350 qs70 q103 q2351) rfl rfl rfl (by decide +kernel) ⟨Nat.le_trans (Nat.le_of_ble_eq_true rfl) hR.1, Nat.le_trans (Nat.le_of_ble_eq_true rfl) hR.2⟩) ⟨uPc_blind, u_rcv hC hP c25 rfl, fun U hU hW => u_pre hC hP hS hU hW⟩ rfl rfl hl.1 rfl (lv_room (Nat.le_of_ble_eq_true rfl)) dX3_failing_66 ⟨Nat.zero_le _, Nat.zero_le _⟩) hS (fun H locs hP hS => ?_)
            refine lv_iconst (v := 0) hx hb dX3_failing_69 (by decide) ?_
            refine lv_istore (lv' := [(5, .int 0), (0, va_rf (some a0)), (1, .int x1), (2, .int x2), (3, .int x3), (4, .int x4)]) hx hb dX3_failing_70 hl (by decide) rfl (fun ls hl => ?_)
            refine u_aload_n (r := some a0) hx hb dX3_failing_72 rfl (lv_at hl 1 rfl) ?_
            refine lv_bipush (v := (-2)) hx hb dX3_failing_73 (by decide) ?_
            obtain ⟨u28, hu28, h⟩ := mbind_n h
            have zu28 := uPut_sz hu28
            refine u_put hC hP hS hu28 rfl in_X3 tyX3 tyX3_ok nmX3 (by decide) q1956 (fun _ h => h) rfl (ty := .int) (tyX3_ok 63 (by decide)) rfl rfl dX3_failing_75 (fun H locs hP hS => ?_)
            refine u_aload_n (r := some a0) hx hb dX3_failing_78 rfl (lv_at hl 1 rfl) ?_
            refine lv_bipush (v := (-2)) hx hb dX3_failing_79 (by decide) ?_
            obtain ⟨u29, hu29, h⟩ := mbind_n h
            have zu29 := uPut_sz hu29
            refine u_put hC hP hS hu29 rfl in_X3 tyX3 tyX3_ok nmX3 (by decide) q1957 (fun _ h => h) rfl (ty := .int) (tyX3_ok 64 (by decide)) rfl rfl dX3_failing_81 (fun H locs hP hS => ?_)
            refine u_aload_n (r := some a0) hx hb dX3_failing_84 rfl (lv_at hl 1 rfl) ?_
            refine lv_bipush (v := (-2)) hx hb dX3_failing_85 (by decide) ?_
            obtain ⟨u30, hu30, h⟩ := mbind_n h
            have zu30 := uPut_sz hu30
            refine u_put hC hP hS hu30 rfl in_X3 tyX3 tyX3_ok nmX3 (by decide) q1958 (fun _ h => h) rfl (ty := .int) (tyX3_ok 65 (by decide)) rfl rfl dX3_failing_87 (fun H locs hP hS => ?_)
            refine lv_iconst (v := 0) hx hb dX3_failing_90 (by decide) ?_
            refine lv_istore (lv' := [(6, .int 0), (5, .int 0), (0, va_rf (some a0)), (1, .int x1), (2, .int x2), (3, .int x3), (4, .int x4)]) hx hb dX3_failing_91 hl (by decide) rfl (fun ls hl => ?_)
            exact w_X3_failing_93 hC hR N N u30 x1 x2 x3 x4 0 0 h _ _ hP hS _ (lv_sub hl [2, 3, 4, 5, 6, 1, 0] rfl)
          · have h := mif_t c24 h
            refine u_aload_n (r := some a0) hx hb dX3_failing_59 rfl (lv_at hl 0 rfl) ?_
            refine lv_iconst (v := 2) hx hb dX3_failing_60 (by decide) ?_
            obtain ⟨c31, h⟩ := mif_n h
            obtain ⟨r34, u32, c33, h⟩ := ucall_n h
            have zu32 := zz_X3_no N (ub G) (ug G) u21 a0 2 r34 u32 c33
            refine u_calli (va_runV (As := [.int 2]) (rest := []) hC.1 (met_X3_no l N G u21 a0 2 r34 u32 c33) (cwV 1 hts (lw_V q2138 q2140 qs41 q103 q2141) rfl rfl rfl (by decide +kernel) ⟨Nat.le_trans (Nat.le_of_ble_eq_true rfl) hR.1, Nat.le_trans (Nat.le_of_ble_eq_true rfl) hR.2⟩) ⟨uPc_blind, u_rcv hC hP c31 rfl, fun U hU hW => u_pre hC hP hS hU hW⟩ rfl rfl hl.1 rfl (lv_room (Nat.le_of_ble_eq_true rfl)) dX3_failing_61 ⟨Nat.zero_le _, Nat.zero_le _⟩) hS (fun H locs hP hS => ?_)
            obtain ⟨hr1, hr2⟩ := uret_n h
            subst hr1
            subst hr2
            exact u_iret hC hP hS dX3_failing_64
        · have h := mif_t c20 h
          exact w_X3_failing_41 hC hR N u17 h hP hS (lv_sub hl [0] rfl)
theorem zz_X3_failing (N b : Nat) (g : uEnv) (u : UH) (a0 : Nat) (x1 : Int32) (x2 : Int32) (x3 : Int32) (x4 : Int32) (r : Int32) (uf : UH) (h : f_X3_failing N b g u a0 x1 x2 x3 x4 = some (r, uf)) : uf.1 = u.1 ∧ uf.2.1 = u.2.1 :=
  zz_X3_failing_0 (G := ((fun _ => 0, fun _ _ => 0), fun _ => 0, b, g)) (a0 := a0) N u x1 x2 x3 x4 h
theorem met_X3_failing (l : Launch) (N : Nat) (G : uG) (u : UH) (a0 : Nat) (x1 : Int32) (x2 : Int32) (x3 : Int32) (x4 : Int32) (r : Int32) (uf : UH) (h : f_X3_failing N (ub G) (ug G) u a0 x1 x2 x3 x4 = some (r, uf)) : Met l yX3_failing (ws_ yX3_failing cX3_failing 8 (some .int)) ({ frames := 5, cells := 0, slots := 0, locals := 134 }) (uPc G u [.ref a0, .int x1, .int x2, .int x3, .int x4]) (uQi G r uf) 0 0 (uA G) := by
  exact u_met (own := RX3) (by decide +kernel) rfl (Nat.le_of_ble_eq_true rfl) (fun hC hn hsz ls hl hP => w_X3_failing_0 hC ⟨Nat.le_refl _, Nat.le_refl _⟩ N u x1 x2 x3 x4 h hP va_S.rf hl)
def f_X3_fault (N b : Nat) (g : uEnv) (u : UH) (a0 : Nat) : Option (Int32 × UH) :=
    (uPut b u a0 2 0 (.int 0)).bind fun u1 =>
    (uGI u1 a0 2 9).bind fun y2 =>
    some (y2, u1)
set_option maxHeartbeats 4000000 in
set_option maxRecDepth 100000 in
theorem zz_X3_fault_0 {G : uG} {a0 : Nat} {uf : UH} {r : Int32} (N : Nat) (u : UH) (h : f_X3_fault N (ub G) (ug G) u a0 = some (r, uf)) : uf.1 = u.1 ∧ uf.2.1 = u.2.1 := by
  unfold f_X3_fault at h
  obtain ⟨u1, hu1, h⟩ := mbind_n h
  have zu1 := uPut_sz hu1
  obtain ⟨y2, hy2, h⟩ := mbind_n h
  obtain ⟨hr1, hr2⟩ := uret_n h
  subst hr2
  exact ⟨by omega, by omega⟩
set_option maxHeartbeats 4000000 in
set_option maxRecDepth 100000 in
theorem w_X3_fault_0 {p : Program} {l : Launch} {e : Env} {R : Room} {s : State} {m : MethodId} {args : Array Value} {below : List Frame} {meth : Method} {c : Code} {G : uG} {a0 : Nat} {uf : UH} {r : Int32} (hC : uC p s m args meth c G RX3 cX3_fault 1 (some .int)) (hR : 0 ≤ R.frames ∧ 0 ≤ R.locals) (N : Nat) (u : UH) (h : f_X3_fault N (ub G) (ug G) u a0 = some (r, uf)) {H : Heap} {locs : List Loc} (hP : uP G u H) (hS : va_S (uA G) s.heap H locs) {ls : Array Slot} (hl : lv_has ls 1 [(0, va_rf (some a0))]) : W p l e R s m args below meth c H locs 0 0 (MQ below (uQi G r uf) args s 0 0 (uA G)) (F0 m 0 ls []) := by
  obtain ⟨⟨hx, hb, hml, hown, hts⟩, hKK⟩ := id hC
  unfold f_X3_fault at h
  refine u_aload_n (r := some a0) hx hb dX3_fault_0 rfl (lv_at hl 0 rfl) ?_
  refine lv_iconst (v := 0) hx hb dX3_fault_1 (by decide) ?_
  obtain ⟨u1, hu1, h⟩ := mbind_n h
  have zu1 := uPut_sz hu1
  refine u_put hC hP hS hu1 rfl in_X3 tyX3 tyX3_ok nmX3 (by decide) q1893 (fun _ h => h) rfl (ty := .int) (tyX3_ok 0 (by decide)) rfl rfl dX3_fault_2 (fun H locs hP hS => ?_)
  refine u_aload_n (r := some a0) hx hb dX3_fault_5 rfl (lv_at hl 0 rfl) ?_
  obtain ⟨y2, hy2, h⟩ := mbind_n h
  refine u_get hC hP (uGI_n hy2) rfl in_X3 (by decide) q1902 (fun _ h => h) dX3_fault_6 ?_
  obtain ⟨hr1, hr2⟩ := uret_n h
  subst hr1
  subst hr2
  exact u_iret hC hP hS dX3_fault_9
theorem zz_X3_fault (N b : Nat) (g : uEnv) (u : UH) (a0 : Nat) (r : Int32) (uf : UH) (h : f_X3_fault N b g u a0 = some (r, uf)) : uf.1 = u.1 ∧ uf.2.1 = u.2.1 :=
  zz_X3_fault_0 (G := ((fun _ => 0, fun _ _ => 0), fun _ => 0, b, g)) (a0 := a0) N u h
theorem met_X3_fault (l : Launch) (N : Nat) (G : uG) (u : UH) (a0 : Nat) (r : Int32) (uf : UH) (h : f_X3_fault N (ub G) (ug G) u a0 = some (r, uf)) : Met l yX3_fault (ws_ yX3_fault cX3_fault 1 (some .int)) ({ frames := 0, cells := 0, slots := 0, locals := 0 }) (uPc G u [.ref a0]) (uQi G r uf) 0 0 (uA G) := by
  exact u_met (own := RX3) (by decide +kernel) rfl (Nat.le_of_ble_eq_true rfl) (fun hC hn hsz ls hl hP => w_X3_fault_0 hC ⟨Nat.le_refl _, Nat.le_refl _⟩ N u h hP va_S.rf hl)
def f_X3_feed_76 (N b : Nat) (g : uEnv) (a0 : Nat) (k23 : UH → Int32 → Int32 → Int32 → Int32 → Int32 → Int32 → Option (Int32 × UH)) (u : UH) (x1 : Int32) (x2 : Int32) (x3 : Int32) (x4 : Int32) (x5 : Int32) (x6 : Int32) (s0 : Int32) : Option (Int32 × UH) :=
    (uGR u a0 2 1).bind fun o1 =>
    (uGI u a0 2 2).bind fun y2 =>
    (o1).bind fun a3 =>
    (uStI b u a3 0 y2 ((s0 >>> ((24 - (8 * (x6 - x6 / 4 * 4))) &&& 31)) &&& 255)).bind fun u4 =>
    (uGI u4 a0 2 2).bind fun y5 =>
    (uPut b u4 a0 2 2 (.int (y5 + 1))).bind fun u6 =>
    mlet (x6 + 1) fun y7 =>
    k23 u6 x1 x2 x3 x4 x5 y7
set_option maxHeartbeats 4000000 in
set_option maxRecDepth 100000 in
theorem zz_X3_feed_76 {G : uG} {a0 : Nat} {uf : UH} {r : Int32} (N : Nat) (k23 : UH → Int32 → Int32 → Int32 → Int32 → Int32 → Int32 → Option (Int32 × UH)) (hk23 : ∀ (u : UH) (x1 : Int32) (x2 : Int32) (x3 : Int32) (x4 : Int32) (x5 : Int32) (x6 : Int32), k23 u x1 x2 x3 x4 x5 x6 = some (r, uf) → uf.1 = u.1 ∧ uf.2.1 = u.2.1) (u : UH) (x1 : Int32) (x2 : Int32) (x3 : Int32) (x4 : Int32) (x5 : Int32) (x6 : Int32) (s0 : Int32) (h : f_X3_feed_76 N (ub G) (ug G) a0 k23 u x1 x2 x3 x4 x5 x6 s0 = some (r, uf)) : uf.1 = u.1 ∧ uf.2.1 = u.2.1 := by
  unfold f_X3_feed_76 at h
  obtain ⟨o1, ho1, h⟩ := mbind_n h
  obtain ⟨y2, hy2, h⟩ := mbind_n h
  obtain ⟨a3, ha3, hha3⟩ := mbind_n h
  subst ha3
  have h := hha3
  obtain ⟨u4, hu4, h⟩ := mbind_n h
  have zu4 := uStI_sz hu4
  obtain ⟨y5, hy5, h⟩ := mbind_n h
  obtain ⟨u6, hu6, h⟩ := mbind_n h
  have zu6 := uPut_sz hu6
  obtain ⟨y7, ey7⟩ : ∃ z : Int32, z = x6 + 1 := ⟨_, rfl⟩
  have h := mlet_at ey7 h
  have hq := hk23 u6 x1 x2 x3 x4 x5 y7 h
  exact ⟨by omega, by omega⟩
set_option maxHeartbeats 4000000 in
set_option maxRecDepth 100000 in
theorem w_X3_feed_76 {p : Program} {l : Launch} {e : Env} {R : Room} {s : State} {m : MethodId} {args : Array Value} {below : List Frame} {meth : Method} {c : Code} {G : uG} {a0 : Nat} {uf : UH} {r : Int32} (hC : uC p s m args meth c G RX3 cX3_feed 8 (some .int)) (hR : 0 ≤ R.frames ∧ 0 ≤ R.locals) (N : Nat) (k23 : UH → Int32 → Int32 → Int32 → Int32 → Int32 → Int32 → Option (Int32 × UH)) (hk23 : ∀ (u : UH) (x1 : Int32) (x2 : Int32) (x3 : Int32) (x4 : Int32) (x5 : Int32) (x6 : Int32), k23 u x1 x2 x3 x4 x5 x6 = some (r, uf) → ∀ (H : Heap) (locs : List Loc), uP G u H → va_S (uA G) s.heap H locs → ∀ ls : Array Slot, lv_has ls 8 [(0, va_rf (some a0)), (1, .int x1), (2, .int x2), (3, .int x3), (4, .int x4), (5, .int x5), (6, .int x6)] → W p l e R s m args below meth c H locs 0 0 (MQ below (uQi G r uf) args s 0 0 (uA G)) (F0 m 23 ls [])) (u : UH) (x1 : Int32) (x2 : Int32) (x3 : Int32) (x4 : Int32) (x5 : Int32) (x6 : Int32) (s0 : Int32) (h : f_X3_feed_76 N (ub G) (ug G) a0 k23 u x1 x2 x3 x4 x5 x6 s0 = some (r, uf)) {H : Heap} {locs : List Loc} (hP : uP G u H) (hS : va_S (uA G) s.heap H locs) {ls : Array Slot} (hl : lv_has ls 8 [(0, va_rf (some a0)), (1, .int x1), (2, .int x2), (3, .int x3), (4, .int x4), (5, .int x5), (6, .int x6)]) : W p l e R s m args below meth c H locs 0 0 (MQ below (uQi G r uf) args s 0 0 (uA G)) (F0 m 76 ls [.int s0]) := by
  obtain ⟨⟨hx, hb, hml, hown, hts⟩, hKK⟩ := id hC
  unfold f_X3_feed_76 at h
  refine lv_istore (lv' := [(7, .int s0), (0, va_rf (some a0)), (1, .int x1), (2, .int x2), (3, .int x3), (4, .int x4), (5, .int x5), (6, .int x6)]) hx hb dX3_feed_76 hl (by decide) rfl (fun ls hl => ?_)
  refine u_aload_n (r := some a0) hx hb dX3_feed_78 rfl (lv_at hl 1 rfl) ?_
  obtain ⟨o1, ho1, h⟩ := mbind_n h
  refine u_get hC hP (uGR_n ho1) rfl in_X3 (by decide) q1894 (fun _ h => h) dX3_feed_79 ?_
  refine u_aload_n (r := some a0) hx hb dX3_feed_82 rfl (lv_at hl 1 rfl) ?_
  obtain ⟨y2, hy2, h⟩ := mbind_n h
  refine u_get hC hP (uGI_n hy2) rfl in_X3 (by decide) q1895 (fun _ h => h) dX3_feed_83 ?_
  refine lv_iload hx hb dX3_feed_86 (lv_at hl 0 rfl) ?_
  refine lv_bipush (v := 24) hx hb dX3_feed_88 (by decide) ?_
  refine lv_bipush (v := 8) hx hb dX3_feed_90 (by decide) ?_
  refine lv_iload hx hb dX3_feed_92 (lv_at hl 7 rfl) ?_
  refine lv_iconst (v := 4) hx hb dX3_feed_94 (by decide) ?_
  refine lv_irem hx hb dX3_feed_95 (by decide) ?_
  refine lv_imul hx hb dX3_feed_96 ?_
  refine lv_isub hx hb dX3_feed_97 ?_
  refine lv_ishr hx hb dX3_feed_98 ?_
  refine lv_sipush (v := 255) hx hb dX3_feed_99 (by decide) ?_
  refine lv_iand hx hb dX3_feed_102 ?_
  obtain ⟨a3, ha3, hha3⟩ := mbind_n h
  subst ha3
  have h := hha3
  obtain ⟨u4, hu4, h⟩ := mbind_n h
  have zu4 := uStI_sz hu4
  refine u_iast hC hP hS hu4 rfl dX3_feed_103 (fun H locs hP hS => ?_)
  refine u_aload_n (r := some a0) hx hb dX3_feed_104 rfl (lv_at hl 1 rfl) ?_
  refine lv_dup hx hb dX3_feed_105 (u_cat _) ?_
  obtain ⟨y5, hy5, h⟩ := mbind_n h
  refine u_get hC hP (uGI_n hy5) rfl in_X3 (by decide) q1895 (fun _ h => h) dX3_feed_106 ?_
  refine lv_iconst (v := 1) hx hb dX3_feed_109 (by decide) ?_
  refine lv_iadd hx hb dX3_feed_110 ?_
  obtain ⟨u6, hu6, h⟩ := mbind_n h
  have zu6 := uPut_sz hu6
  refine u_put hC hP hS hu6 rfl in_X3 tyX3 tyX3_ok nmX3 (by decide) q1895 (fun _ h => h) rfl (ty := .int) (tyX3_ok 2 (by decide)) rfl rfl dX3_feed_111 (fun H locs hP hS => ?_)
  obtain ⟨y7, ey7⟩ : ∃ z : Int32, z = x6 + 1 := ⟨_, rfl⟩
  have h := mlet_at ey7 h
  refine lv_iinc (v := y7) (lv' := [(6, .int y7), (7, .int s0), (0, va_rf (some a0)), (1, .int x1), (2, .int x2), (3, .int x3), (4, .int x4), (5, .int x5)]) hx hb dX3_feed_114 hl (k := 7) rfl (by rw [ey7]; rfl) (by decide) rfl (fun ls hl => ?_)
  refine lv_goto (tgt := 23) hx hb dX3_feed_117 (by decide) ?_
  exact hk23 u6 x1 x2 x3 x4 x5 y7 h _ _ hP hS _ (lv_sub hl [2, 3, 4, 5, 6, 7, 0] rfl)
def f_X3_feed_23 (N b : Nat) (g : uEnv) (a0 : Nat) : Nat → UH → Int32 → Int32 → Int32 → Int32 → Int32 → Int32 → Option (Int32 × UH)
  | 0, _, _, _, _, _, _, _ => none
  | n + 1, u, x1, x2, x3, x4, x5, x6 =>
    if 20 ≤ x6 then
    (uGI u a0 2 2).bind fun y2 =>
    some (y2, u)
    else
    if 4 ≤ x6 then
    if 8 ≤ x6 then
    if 12 ≤ x6 then
    if 16 ≤ x6 then
    f_X3_feed_76 N b g a0 (f_X3_feed_23 N b g a0 n) u x1 x2 x3 x4 x5 x6 x5
    else
    f_X3_feed_76 N b g a0 (f_X3_feed_23 N b g a0 n) u x1 x2 x3 x4 x5 x6 x4
    else
    f_X3_feed_76 N b g a0 (f_X3_feed_23 N b g a0 n) u x1 x2 x3 x4 x5 x6 x3
    else
    f_X3_feed_76 N b g a0 (f_X3_feed_23 N b g a0 n) u x1 x2 x3 x4 x5 x6 x2
    else
    f_X3_feed_76 N b g a0 (f_X3_feed_23 N b g a0 n) u x1 x2 x3 x4 x5 x6 x1
set_option maxHeartbeats 4000000 in
set_option maxRecDepth 100000 in
theorem zz_X3_feed_23 {G : uG} {a0 : Nat} {uf : UH} {r : Int32} (N : Nat) : ∀ (n : Nat) (u : UH) (x1 : Int32) (x2 : Int32) (x3 : Int32) (x4 : Int32) (x5 : Int32) (x6 : Int32), f_X3_feed_23 N (ub G) (ug G) a0 n u x1 x2 x3 x4 x5 x6 = some (r, uf) → uf.1 = u.1 ∧ uf.2.1 = u.2.1 := by
  intro n
  induction n with
  | zero =>
    intro u x1 x2 x3 x4 x5 x6 h
    cases h
  | succ n ih =>
    intro u x1 x2 x3 x4 x5 x6 h
    unfold f_X3_feed_23 at h
    by_cases c1 : 20 ≤ x6
    · have h := mif_t c1 h
      obtain ⟨y2, hy2, h⟩ := mbind_n h
      obtain ⟨hr1, hr2⟩ := uret_n h
      subst hr2
      exact ⟨by omega, by omega⟩
    · have h := mif_f c1 h
      by_cases c3 : 4 ≤ x6
      · have h := mif_t c3 h
        by_cases c4 : 8 ≤ x6
        · have h := mif_t c4 h
          by_cases c5 : 12 ≤ x6
          · have h := mif_t c5 h
            by_cases c6 : 16 ≤ x6
            · have h := mif_t c6 h
              have hq := zz_X3_feed_76 (G := G) (a0 := a0) N (f_X3_feed_23 N (ub G) (ug G) a0 n) ih u x1 x2 x3 x4 x5 x6 x5 h
              exact ⟨by omega, by omega⟩
            · have h := mif_f c6 h
              have hq := zz_X3_feed_76 (G := G) (a0 := a0) N (f_X3_feed_23 N (ub G) (ug G) a0 n) ih u x1 x2 x3 x4 x5 x6 x4 h
              exact ⟨by omega, by omega⟩
          · have h := mif_f c5 h
            have hq := zz_X3_feed_76 (G := G) (a0 := a0) N (f_X3_feed_23 N (ub G) (ug G) a0 n) ih u x1 x2 x3 x4 x5 x6 x3 h
            exact ⟨by omega, by omega⟩
        · have h := mif_f c4 h
          have hq := zz_X3_feed_76 (G := G) (a0 := a0) N (f_X3_feed_23 N (ub G) (ug G) a0 n) ih u x1 x2 x3 x4 x5 x6 x2 h
          exact ⟨by omega, by omega⟩
      · have h := mif_f c3 h
        have hq := zz_X3_feed_76 (G := G) (a0 := a0) N (f_X3_feed_23 N (ub G) (ug G) a0 n) ih u x1 x2 x3 x4 x5 x6 x1 h
        exact ⟨by omega, by omega⟩
set_option maxHeartbeats 4000000 in
set_option maxRecDepth 100000 in
theorem w_X3_feed_23 {p : Program} {l : Launch} {e : Env} {R : Room} {s : State} {m : MethodId} {args : Array Value} {below : List Frame} {meth : Method} {c : Code} {G : uG} {a0 : Nat} {uf : UH} {r : Int32} (hC : uC p s m args meth c G RX3 cX3_feed 8 (some .int)) (hR : 0 ≤ R.frames ∧ 0 ≤ R.locals) (N : Nat) : ∀ (n : Nat) (u : UH) (x1 : Int32) (x2 : Int32) (x3 : Int32) (x4 : Int32) (x5 : Int32) (x6 : Int32), f_X3_feed_23 N (ub G) (ug G) a0 n u x1 x2 x3 x4 x5 x6 = some (r, uf) → ∀ (H : Heap) (locs : List Loc), uP G u H → va_S (uA G) s.heap H locs → ∀ ls : Array Slot, lv_has ls 8 [(0, va_rf (some a0)), (1, .int x1), (2, .int x2), (3, .int x3), (4, .int x4), (5, .int x5), (6, .int x6)] → W p l e R s m args below meth c H locs 0 0 (MQ below (uQi G r uf) args s 0 0 (uA G)) (F0 m 23 ls []) := by
  obtain ⟨⟨hx, hb, hml, hown, hts⟩, hKK⟩ := id hC
  intro n
  induction n with
  | zero =>
    intro u x1 x2 x3 x4 x5 x6 h
    cases h
  | succ n ih =>
    intro u x1 x2 x3 x4 x5 x6 h H locs hP hS ls hl
    unfold f_X3_feed_23 at h
    refine lv_iload hx hb dX3_feed_23 (lv_at hl 6 rfl) ?_
    refine lv_bipush (v := 20) hx hb dX3_feed_25 (by decide) ?_
    refine lv_icmp_ge (tgt := 120) hx hb dX3_feed_27 (by decide) (fun c1 => ?_) (fun c1 => ?_)
    · have h := mif_t c1 h
      refine u_aload_n (r := some a0) hx hb dX3_feed_120 rfl (lv_at hl 0 rfl) ?_
      obtain ⟨y2, hy2, h⟩ := mbind_n h
      refine u_get hC hP (uGI_n hy2) rfl in_X3 (by decide) q1895 (fun _ h => h) dX3_feed_121 ?_
      obtain ⟨hr1, hr2⟩ := uret_n h
      subst hr1
      subst hr2
      exact u_iret hC hP hS dX3_feed_124
    · have h := mif_f c1 h
      refine lv_iload hx hb dX3_feed_30 (lv_at hl 6 rfl) ?_
      refine lv_iconst (v := 4) hx hb dX3_feed_32 (by decide) ?_
      refine lv_icmp_ge (tgt := 40) hx hb dX3_feed_33 (by decide) (fun c3 => ?_) (fun c3 => ?_)
      · have h := mif_t c3 h
        refine lv_iload hx hb dX3_feed_40 (lv_at hl 6 rfl) ?_
        refine lv_bipush (v := 8) hx hb dX3_feed_42 (by decide) ?_
        refine lv_icmp_ge (tgt := 51) hx hb dX3_feed_44 (by decide) (fun c4 => ?_) (fun c4 => ?_)
        · have h := mif_t c4 h
          refine lv_iload hx hb dX3_feed_51 (lv_at hl 6 rfl) ?_
          refine lv_bipush (v := 12) hx hb dX3_feed_53 (by decide) ?_
          refine lv_icmp_ge (tgt := 62) hx hb dX3_feed_55 (by decide) (fun c5 => ?_) (fun c5 => ?_)
          · have h := mif_t c5 h
            refine lv_iload hx hb dX3_feed_62 (lv_at hl 6 rfl) ?_
            refine lv_bipush (v := 16) hx hb dX3_feed_64 (by decide) ?_
            refine lv_icmp_ge (tgt := 74) hx hb dX3_feed_66 (by decide) (fun c6 => ?_) (fun c6 => ?_)
            · have h := mif_t c6 h
              refine lv_iload hx hb dX3_feed_74 (lv_at hl 5 rfl) ?_
              exact w_X3_feed_76 hC hR N (f_X3_feed_23 N (ub G) (ug G) a0 n) ih u x1 x2 x3 x4 x5 x6 x5 h hP hS (lv_sub hl [0, 1, 2, 3, 4, 5, 6] rfl)
            · have h := mif_f c6 h
              refine lv_iload hx hb dX3_feed_69 (lv_at hl 4 rfl) ?_
              refine lv_goto (tgt := 76) hx hb dX3_feed_71 (by decide) ?_
              exact w_X3_feed_76 hC hR N (f_X3_feed_23 N (ub G) (ug G) a0 n) ih u x1 x2 x3 x4 x5 x6 x4 h hP hS (lv_sub hl [0, 1, 2, 3, 4, 5, 6] rfl)
          · have h := mif_f c5 h
            refine lv_iload_n hx hb dX3_feed_58 rfl (lv_at hl 3 rfl) ?_
            refine lv_goto (tgt := 76) hx hb dX3_feed_59 (by decide) ?_
            exact w_X3_feed_76 hC hR N (f_X3_feed_23 N (ub G) (ug G) a0 n) ih u x1 x2 x3 x4 x5 x6 x3 h hP hS (lv_sub hl [0, 1, 2, 3, 4, 5, 6] rfl)
        · have h := mif_f c4 h
          refine lv_iload_n hx hb dX3_feed_47 rfl (lv_at hl 2 rfl) ?_
          refine lv_goto (tgt := 76) hx hb dX3_feed_48 (by decide) ?_
          exact w_X3_feed_76 hC hR N (f_X3_feed_23 N (ub G) (ug G) a0 n) ih u x1 x2 x3 x4 x5 x6 x2 h hP hS (lv_sub hl [0, 1, 2, 3, 4, 5, 6] rfl)
      · have h := mif_f c3 h
        refine lv_iload_n hx hb dX3_feed_36 rfl (lv_at hl 1 rfl) ?_
        refine lv_goto (tgt := 76) hx hb dX3_feed_37 (by decide) ?_
        exact w_X3_feed_76 hC hR N (f_X3_feed_23 N (ub G) (ug G) a0 n) ih u x1 x2 x3 x4 x5 x6 x1 h hP hS (lv_sub hl [0, 1, 2, 3, 4, 5, 6] rfl)
def f_X3_feed (N b : Nat) (g : uEnv) (u : UH) (a0 : Nat) (x1 : Int32) (x2 : Int32) (x3 : Int32) (x4 : Int32) (x5 : Int32) : Option (Int32 × UH) :=
    (uPut b u a0 2 0 (.int 0)).bind fun u1 =>
    (uGI u1 a0 2 2).bind fun y2 =>
    if (y2 + 20) ≤ 500 then
    f_X3_feed_23 N b g a0 N u1 x1 x2 x3 x4 x5 0
    else
    some ((-1), u1)
set_option maxHeartbeats 4000000 in
set_option maxRecDepth 100000 in
theorem zz_X3_feed_0 {G : uG} {a0 : Nat} {uf : UH} {r : Int32} (N : Nat) (u : UH) (x1 : Int32) (x2 : Int32) (x3 : Int32) (x4 : Int32) (x5 : Int32) (h : f_X3_feed N (ub G) (ug G) u a0 x1 x2 x3 x4 x5 = some (r, uf)) : uf.1 = u.1 ∧ uf.2.1 = u.2.1 := by
  unfold f_X3_feed at h
  obtain ⟨u1, hu1, h⟩ := mbind_n h
  have zu1 := uPut_sz hu1
  obtain ⟨y2, hy2, h⟩ := mbind_n h
  by_cases c3 : (y2 + 20) ≤ 500
  · have h := mif_t c3 h
    have hq := zz_X3_feed_23 (G := G) (a0 := a0) N N u1 x1 x2 x3 x4 x5 0 h
    exact ⟨by omega, by omega⟩
  · have h := mif_f c3 h
    obtain ⟨hr1, hr2⟩ := uret_n h
    subst hr2
    exact ⟨by omega, by omega⟩
set_option maxHeartbeats 4000000 in
set_option maxRecDepth 100000 in
theorem w_X3_feed_0 {p : Program} {l : Launch} {e : Env} {R : Room} {s : State} {m : MethodId} {args : Array Value} {below : List Frame} {meth : Method} {c : Code} {G : uG} {a0 : Nat} {uf : UH} {r : Int32} (hC : uC p s m args meth c G RX3 cX3_feed 8 (some .int)) (hR : 0 ≤ R.frames ∧ 0 ≤ R.locals) (N : Nat) (u : UH) (x1 : Int32) (x2 : Int32) (x3 : Int32) (x4 : Int32) (x5 : Int32) (h : f_X3_feed N (ub G) (ug G) u a0 x1 x2 x3 x4 x5 = some (r, uf)) {H : Heap} {locs : List Loc} (hP : uP G u H) (hS : va_S (uA G) s.heap H locs) {ls : Array Slot} (hl : lv_has ls 8 [(0, va_rf (some a0)), (1, .int x1), (2, .int x2), (3, .int x3), (4, .int x4), (5, .int x5)]) : W p l e R s m args below meth c H locs 0 0 (MQ below (uQi G r uf) args s 0 0 (uA G)) (F0 m 0 ls []) := by
  obtain ⟨⟨hx, hb, hml, hown, hts⟩, hKK⟩ := id hC
  unfold f_X3_feed at h
  refine u_aload_n (r := some a0) hx hb dX3_feed_0 rfl (lv_at hl 0 rfl) ?_
  refine lv_iconst (v := 0) hx hb dX3_feed_1 (by decide) ?_
  obtain ⟨u1, hu1, h⟩ := mbind_n h
  have zu1 := uPut_sz hu1
  refine u_put hC hP hS hu1 rfl in_X3 tyX3 tyX3_ok nmX3 (by decide) q1893 (fun _ h => h) rfl (ty := .int) (tyX3_ok 0 (by decide)) rfl rfl dX3_feed_2 (fun H locs hP hS => ?_)
  refine u_aload_n (r := some a0) hx hb dX3_feed_5 rfl (lv_at hl 0 rfl) ?_
  obtain ⟨y2, hy2, h⟩ := mbind_n h
  refine u_get hC hP (uGI_n hy2) rfl in_X3 (by decide) q1895 (fun _ h => h) dX3_feed_6 ?_
  refine lv_bipush (v := 20) hx hb dX3_feed_9 (by decide) ?_
  refine lv_iadd hx hb dX3_feed_11 ?_
  refine lv_sipush (v := 500) hx hb dX3_feed_12 (by decide) ?_
  refine lv_icmp_le (tgt := 20) hx hb dX3_feed_15 (by decide) (fun c3 => ?_) (fun c3 => ?_)
  · have h := mif_t c3 h
    refine lv_iconst (v := 0) hx hb dX3_feed_20 (by decide) ?_
    refine lv_istore (lv' := [(6, .int 0), (0, va_rf (some a0)), (1, .int x1), (2, .int x2), (3, .int x3), (4, .int x4), (5, .int x5)]) hx hb dX3_feed_21 hl (by decide) rfl (fun ls hl => ?_)
    exact w_X3_feed_23 hC hR N N u1 x1 x2 x3 x4 x5 0 h _ _ hP hS _ (lv_sub hl [1, 2, 3, 4, 5, 6, 0] rfl)
  · have h := mif_f c3 h
    refine lv_iconst (v := (-1)) hx hb dX3_feed_18 (by decide) ?_
    obtain ⟨hr1, hr2⟩ := uret_n h
    subst hr1
    subst hr2
    exact u_iret hC hP hS dX3_feed_19
theorem zz_X3_feed (N b : Nat) (g : uEnv) (u : UH) (a0 : Nat) (x1 : Int32) (x2 : Int32) (x3 : Int32) (x4 : Int32) (x5 : Int32) (r : Int32) (uf : UH) (h : f_X3_feed N b g u a0 x1 x2 x3 x4 x5 = some (r, uf)) : uf.1 = u.1 ∧ uf.2.1 = u.2.1 :=
  zz_X3_feed_0 (G := ((fun _ => 0, fun _ _ => 0), fun _ => 0, b, g)) (a0 := a0) N u x1 x2 x3 x4 x5 h
theorem met_X3_feed (l : Launch) (N : Nat) (G : uG) (u : UH) (a0 : Nat) (x1 : Int32) (x2 : Int32) (x3 : Int32) (x4 : Int32) (x5 : Int32) (r : Int32) (uf : UH) (h : f_X3_feed N (ub G) (ug G) u a0 x1 x2 x3 x4 x5 = some (r, uf)) : Met l yX3_feed (ws_ yX3_feed cX3_feed 8 (some .int)) ({ frames := 0, cells := 0, slots := 0, locals := 0 }) (uPc G u [.ref a0, .int x1, .int x2, .int x3, .int x4, .int x5]) (uQi G r uf) 0 0 (uA G) := by
  exact u_met (own := RX3) (by decide +kernel) rfl (Nat.le_of_ble_eq_true rfl) (fun hC hn hsz ls hl hP => w_X3_feed_0 hC ⟨Nat.le_refl _, Nat.le_refl _⟩ N u x1 x2 x3 x4 x5 h hP va_S.rf hl)
def f_X3_first_41 (N b : Nat) (g : uEnv) (a0 : Nat) (u : UH) (s0 : Int32) : Option (Int32 × UH) :=
    some (s0, u)
set_option maxHeartbeats 4000000 in
set_option maxRecDepth 100000 in
theorem zz_X3_first_41 {G : uG} {a0 : Nat} {uf : UH} {r : Int32} (N : Nat) (u : UH) (s0 : Int32) (h : f_X3_first_41 N (ub G) (ug G) a0 u s0 = some (r, uf)) : uf.1 = u.1 ∧ uf.2.1 = u.2.1 := by
  unfold f_X3_first_41 at h
  obtain ⟨hr1, hr2⟩ := uret_n h
  subst hr2
  exact ⟨by omega, by omega⟩
set_option maxHeartbeats 4000000 in
set_option maxRecDepth 100000 in
theorem w_X3_first_41 {p : Program} {l : Launch} {e : Env} {R : Room} {s : State} {m : MethodId} {args : Array Value} {below : List Frame} {meth : Method} {c : Code} {G : uG} {a0 : Nat} {uf : UH} {r : Int32} (hC : uC p s m args meth c G RX3 cX3_first 2 (some .int)) (hR : 0 ≤ R.frames ∧ 0 ≤ R.locals) (N : Nat) (u : UH) (s0 : Int32) (h : f_X3_first_41 N (ub G) (ug G) a0 u s0 = some (r, uf)) {H : Heap} {locs : List Loc} (hP : uP G u H) (hS : va_S (uA G) s.heap H locs) {ls : Array Slot} (hl : lv_has ls 2 []) : W p l e R s m args below meth c H locs 0 0 (MQ below (uQi G r uf) args s 0 0 (uA G)) (F0 m 41 ls [.int s0]) := by
  obtain ⟨⟨hx, hb, hml, hown, hts⟩, hKK⟩ := id hC
  unfold f_X3_first_41 at h
  obtain ⟨hr1, hr2⟩ := uret_n h
  subst hr1
  subst hr2
  exact u_iret hC hP hS dX3_first_41
def f_X3_first (N b : Nat) (g : uEnv) (u : UH) (a0 : Nat) (x1 : Int32) : Option (Int32 × UH) :=
    (uPut b u a0 2 0 (.int 0)).bind fun u1 =>
    if x1 = 0 then
    (uGI u1 a0 2 63).bind fun y7 =>
    f_X3_first_41 N b g a0 u1 y7
    else
    if x1 = 1 then
    (uGI u1 a0 2 64).bind fun y6 =>
    f_X3_first_41 N b g a0 u1 y6
    else
    if x1 = 2 then
    (uGI u1 a0 2 65).bind fun y5 =>
    f_X3_first_41 N b g a0 u1 y5
    else
    f_X3_first_41 N b g a0 u1 (-1)
set_option maxHeartbeats 4000000 in
set_option maxRecDepth 100000 in
theorem zz_X3_first_0 {G : uG} {a0 : Nat} {uf : UH} {r : Int32} (N : Nat) (u : UH) (x1 : Int32) (h : f_X3_first N (ub G) (ug G) u a0 x1 = some (r, uf)) : uf.1 = u.1 ∧ uf.2.1 = u.2.1 := by
  unfold f_X3_first at h
  obtain ⟨u1, hu1, h⟩ := mbind_n h
  have zu1 := uPut_sz hu1
  by_cases c2 : x1 = 0
  · have h := mif_t c2 h
    obtain ⟨y7, hy7, h⟩ := mbind_n h
    have hq := zz_X3_first_41 (G := G) (a0 := a0) N u1 y7 h
    exact ⟨by omega, by omega⟩
  · have h := mif_f c2 h
    by_cases c3 : x1 = 1
    · have h := mif_t c3 h
      obtain ⟨y6, hy6, h⟩ := mbind_n h
      have hq := zz_X3_first_41 (G := G) (a0 := a0) N u1 y6 h
      exact ⟨by omega, by omega⟩
    · have h := mif_f c3 h
      by_cases c4 : x1 = 2
      · have h := mif_t c4 h
        obtain ⟨y5, hy5, h⟩ := mbind_n h
        have hq := zz_X3_first_41 (G := G) (a0 := a0) N u1 y5 h
        exact ⟨by omega, by omega⟩
      · have h := mif_f c4 h
        have hq := zz_X3_first_41 (G := G) (a0 := a0) N u1 (-1) h
        exact ⟨by omega, by omega⟩
set_option maxHeartbeats 4000000 in
set_option maxRecDepth 100000 in
theorem w_X3_first_0 {p : Program} {l : Launch} {e : Env} {R : Room} {s : State} {m : MethodId} {args : Array Value} {below : List Frame} {meth : Method} {c : Code} {G : uG} {a0 : Nat} {uf : UH} {r : Int32} (hC : uC p s m args meth c G RX3 cX3_first 2 (some .int)) (hR : 0 ≤ R.frames ∧ 0 ≤ R.locals) (N : Nat) (u : UH) (x1 : Int32) (h : f_X3_first N (ub G) (ug G) u a0 x1 = some (r, uf)) {H : Heap} {locs : List Loc} (hP : uP G u H) (hS : va_S (uA G) s.heap H locs) {ls : Array Slot} (hl : lv_has ls 2 [(0, va_rf (some a0)), (1, .int x1)]) : W p l e R s m args below meth c H locs 0 0 (MQ below (uQi G r uf) args s 0 0 (uA G)) (F0 m 0 ls []) := by
  obtain ⟨⟨hx, hb, hml, hown, hts⟩, hKK⟩ := id hC
  unfold f_X3_first at h
  refine u_aload_n (r := some a0) hx hb dX3_first_0 rfl (lv_at hl 0 rfl) ?_
  refine lv_iconst (v := 0) hx hb dX3_first_1 (by decide) ?_
  obtain ⟨u1, hu1, h⟩ := mbind_n h
  have zu1 := uPut_sz hu1
  refine u_put hC hP hS hu1 rfl in_X3 tyX3 tyX3_ok nmX3 (by decide) q1893 (fun _ h => h) rfl (ty := .int) (tyX3_ok 0 (by decide)) rfl rfl dX3_first_2 (fun H locs hP hS => ?_)
  refine lv_iload_n hx hb dX3_first_5 rfl (lv_at hl 1 rfl) ?_
  refine lv_if_ne (tgt := 16) hx hb dX3_first_6 (by decide) (fun c2 => ?_) (fun c2 => ?_)
  · have h := mif_f c2 h
    refine lv_iload_n hx hb dX3_first_16 rfl (lv_at hl 1 rfl) ?_
    refine lv_iconst (v := 1) hx hb dX3_first_17 (by decide) ?_
    refine lv_icmp_ne (tgt := 28) hx hb dX3_first_18 (by decide) (fun c3 => ?_) (fun c3 => ?_)
    · have h := mif_f c3 h
      refine lv_iload_n hx hb dX3_first_28 rfl (lv_at hl 1 rfl) ?_
      refine lv_iconst (v := 2) hx hb dX3_first_29 (by decide) ?_
      refine lv_icmp_ne (tgt := 40) hx hb dX3_first_30 (by decide) (fun c4 => ?_) (fun c4 => ?_)
      · have h := mif_f c4 h
        refine lv_iconst (v := (-1)) hx hb dX3_first_40 (by decide) ?_
        exact w_X3_first_41 hC hR N u1 (-1) h hP hS (lv_sub hl [] rfl)
      · have h := mif_t c4 h
        refine u_aload_n (r := some a0) hx hb dX3_first_33 rfl (lv_at hl 0 rfl) ?_
        obtain ⟨y5, hy5, h⟩ := mbind_n h
        refine u_get hC hP (uGI_n hy5) rfl in_X3 (by decide) q1958 (fun _ h => h) dX3_first_34 ?_
        refine lv_goto (tgt := 41) hx hb dX3_first_37 (by decide) ?_
        exact w_X3_first_41 hC hR N u1 y5 h hP hS (lv_sub hl [] rfl)
    · have h := mif_t c3 h
      refine u_aload_n (r := some a0) hx hb dX3_first_21 rfl (lv_at hl 0 rfl) ?_
      obtain ⟨y6, hy6, h⟩ := mbind_n h
      refine u_get hC hP (uGI_n hy6) rfl in_X3 (by decide) q1957 (fun _ h => h) dX3_first_22 ?_
      refine lv_goto (tgt := 41) hx hb dX3_first_25 (by decide) ?_
      exact w_X3_first_41 hC hR N u1 y6 h hP hS (lv_sub hl [] rfl)
  · have h := mif_t c2 h
    refine u_aload_n (r := some a0) hx hb dX3_first_9 rfl (lv_at hl 0 rfl) ?_
    obtain ⟨y7, hy7, h⟩ := mbind_n h
    refine u_get hC hP (uGI_n hy7) rfl in_X3 (by decide) q1956 (fun _ h => h) dX3_first_10 ?_
    refine lv_goto (tgt := 41) hx hb dX3_first_13 (by decide) ?_
    exact w_X3_first_41 hC hR N u1 y7 h hP hS (lv_sub hl [] rfl)
theorem zz_X3_first (N b : Nat) (g : uEnv) (u : UH) (a0 : Nat) (x1 : Int32) (r : Int32) (uf : UH) (h : f_X3_first N b g u a0 x1 = some (r, uf)) : uf.1 = u.1 ∧ uf.2.1 = u.2.1 :=
  zz_X3_first_0 (G := ((fun _ => 0, fun _ _ => 0), fun _ => 0, b, g)) (a0 := a0) N u x1 h
theorem met_X3_first (l : Launch) (N : Nat) (G : uG) (u : UH) (a0 : Nat) (x1 : Int32) (r : Int32) (uf : UH) (h : f_X3_first N (ub G) (ug G) u a0 x1 = some (r, uf)) : Met l yX3_first (ws_ yX3_first cX3_first 2 (some .int)) ({ frames := 0, cells := 0, slots := 0, locals := 0 }) (uPc G u [.ref a0, .int x1]) (uQi G r uf) 0 0 (uA G) := by
  exact u_met (own := RX3) (by decide +kernel) rfl (Nat.le_of_ble_eq_true rfl) (fun hC hn hsz ls hl hP => w_X3_first_0 hC ⟨Nat.le_refl _, Nat.le_refl _⟩ N u x1 h hP va_S.rf hl)
def f_X3_isDoubt_26 (N b : Nat) (g : uEnv) (a0 : Nat) (u : UH) (s0 : Int32) : Option (Int32 × UH) :=
    if uFit .boolean s0 = true then
    some (s0, u)
    else none
set_option maxHeartbeats 4000000 in
set_option maxRecDepth 100000 in
theorem zz_X3_isDoubt_26 {G : uG} {a0 : Nat} {uf : UH} {r : Int32} (N : Nat) (u : UH) (s0 : Int32) (h : f_X3_isDoubt_26 N (ub G) (ug G) a0 u s0 = some (r, uf)) : uf.1 = u.1 ∧ uf.2.1 = u.2.1 := by
  unfold f_X3_isDoubt_26 at h
  obtain ⟨c1, h⟩ := mif_n h
  obtain ⟨hr1, hr2⟩ := uret_n h
  subst hr2
  exact ⟨by omega, by omega⟩
set_option maxHeartbeats 4000000 in
set_option maxRecDepth 100000 in
theorem w_X3_isDoubt_26 {p : Program} {l : Launch} {e : Env} {R : Room} {s : State} {m : MethodId} {args : Array Value} {below : List Frame} {meth : Method} {c : Code} {G : uG} {a0 : Nat} {uf : UH} {r : Int32} (hC : uC p s m args meth c G RX3 cX3_isDoubt 2 (some .boolean)) (hR : 1 ≤ R.frames ∧ 22 ≤ R.locals) (N : Nat) (u : UH) (s0 : Int32) (h : f_X3_isDoubt_26 N (ub G) (ug G) a0 u s0 = some (r, uf)) {H : Heap} {locs : List Loc} (hP : uP G u H) (hS : va_S (uA G) s.heap H locs) {ls : Array Slot} (hl : lv_has ls 2 []) : W p l e R s m args below meth c H locs 0 0 (MQ below (uQi G r uf) args s 0 0 (uA G)) (F0 m 26 ls [.int s0]) := by
  obtain ⟨⟨hx, hb, hml, hown, hts⟩, hKK⟩ := id hC
  unfold f_X3_isDoubt_26 at h
  obtain ⟨c1, h⟩ := mif_n h
  obtain ⟨hr1, hr2⟩ := uret_n h
  subst hr1
  subst hr2
  exact u_zret hC (uFit_n c1).1 hP hS dX3_isDoubt_26
def f_X3_isDoubt_25 (N b : Nat) (g : uEnv) (a0 : Nat) (u : UH) : Option (Int32 × UH) :=
    f_X3_isDoubt_26 N b g a0 u 0
set_option maxHeartbeats 4000000 in
set_option maxRecDepth 100000 in
theorem zz_X3_isDoubt_25 {G : uG} {a0 : Nat} {uf : UH} {r : Int32} (N : Nat) (u : UH) (h : f_X3_isDoubt_25 N (ub G) (ug G) a0 u = some (r, uf)) : uf.1 = u.1 ∧ uf.2.1 = u.2.1 := by
  unfold f_X3_isDoubt_25 at h
  have hq := zz_X3_isDoubt_26 (G := G) (a0 := a0) N u 0 h
  exact ⟨by omega, by omega⟩
set_option maxHeartbeats 4000000 in
set_option maxRecDepth 100000 in
theorem w_X3_isDoubt_25 {p : Program} {l : Launch} {e : Env} {R : Room} {s : State} {m : MethodId} {args : Array Value} {below : List Frame} {meth : Method} {c : Code} {G : uG} {a0 : Nat} {uf : UH} {r : Int32} (hC : uC p s m args meth c G RX3 cX3_isDoubt 2 (some .boolean)) (hR : 1 ≤ R.frames ∧ 22 ≤ R.locals) (N : Nat) (u : UH) (h : f_X3_isDoubt_25 N (ub G) (ug G) a0 u = some (r, uf)) {H : Heap} {locs : List Loc} (hP : uP G u H) (hS : va_S (uA G) s.heap H locs) {ls : Array Slot} (hl : lv_has ls 2 []) : W p l e R s m args below meth c H locs 0 0 (MQ below (uQi G r uf) args s 0 0 (uA G)) (F0 m 25 ls []) := by
  obtain ⟨⟨hx, hb, hml, hown, hts⟩, hKK⟩ := id hC
  unfold f_X3_isDoubt_25 at h
  refine lv_iconst (v := 0) hx hb dX3_isDoubt_25 (by decide) ?_
  exact w_X3_isDoubt_26 hC hR N u 0 h hP hS (lv_sub hl [] rfl)
def f_X3_isDoubt (N b : Nat) (g : uEnv) (u : UH) (a0 : Nat) (x1 : Int32) : Option (Int32 × UH) :=
    (uGI u a0 2 34).bind fun y1 =>
    if y1 = 0 then
    f_X3_isDoubt_25 N b g a0 u
    else
    (uGI u a0 2 37).bind fun y3 =>
    ucall (f_X3_within N b g u x1 0 (y3 - 1)) fun r6 u4 =>
    if r6 = 0 then
    f_X3_isDoubt_25 N b g a0 u4
    else
    f_X3_isDoubt_26 N b g a0 u4 1
set_option maxHeartbeats 4000000 in
set_option maxRecDepth 100000 in
theorem zz_X3_isDoubt_0 {G : uG} {a0 : Nat} {uf : UH} {r : Int32} (N : Nat) (u : UH) (x1 : Int32) (h : f_X3_isDoubt N (ub G) (ug G) u a0 x1 = some (r, uf)) : uf.1 = u.1 ∧ uf.2.1 = u.2.1 := by
  unfold f_X3_isDoubt at h
  obtain ⟨y1, hy1, h⟩ := mbind_n h
  by_cases c2 : y1 = 0
  · have h := mif_t c2 h
    have hq := zz_X3_isDoubt_25 (G := G) (a0 := a0) N u h
    exact ⟨by omega, by omega⟩
  · have h := mif_f c2 h
    obtain ⟨y3, hy3, h⟩ := mbind_n h
    obtain ⟨r6, u4, c5, h⟩ := ucall_n h
    have zu4 := zz_X3_within N (ub G) (ug G) u x1 0 (y3 - 1) r6 u4 c5
    by_cases c7 : r6 = 0
    · have h := mif_t c7 h
      have hq := zz_X3_isDoubt_25 (G := G) (a0 := a0) N u4 h
      exact ⟨by omega, by omega⟩
    · have h := mif_f c7 h
      have hq := zz_X3_isDoubt_26 (G := G) (a0 := a0) N u4 1 h
      exact ⟨by omega, by omega⟩
set_option maxHeartbeats 4000000 in
set_option maxRecDepth 100000 in
theorem w_X3_isDoubt_0 {p : Program} {l : Launch} {e : Env} {R : Room} {s : State} {m : MethodId} {args : Array Value} {below : List Frame} {meth : Method} {c : Code} {G : uG} {a0 : Nat} {uf : UH} {r : Int32} (hC : uC p s m args meth c G RX3 cX3_isDoubt 2 (some .boolean)) (hR : 1 ≤ R.frames ∧ 22 ≤ R.locals) (N : Nat) (u : UH) (x1 : Int32) (h : f_X3_isDoubt N (ub G) (ug G) u a0 x1 = some (r, uf)) {H : Heap} {locs : List Loc} (hP : uP G u H) (hS : va_S (uA G) s.heap H locs) {ls : Array Slot} (hl : lv_has ls 2 [(0, va_rf (some a0)), (1, .int x1)]) : W p l e R s m args below meth c H locs 0 0 (MQ below (uQi G r uf) args s 0 0 (uA G)) (F0 m 0 ls []) := by
  obtain ⟨⟨hx, hb, hml, hown, hts⟩, hKK⟩ := id hC
  unfold f_X3_isDoubt at h
  refine u_aload_n (r := some a0) hx hb dX3_isDoubt_0 rfl (lv_at hl 0 rfl) ?_
  obtain ⟨y1, hy1, h⟩ := mbind_n h
  refine u_get hC hP (uGI_n hy1) rfl in_X3 (by decide) q1927 (fun _ h => h) dX3_isDoubt_1 ?_
  refine lv_if_eq (tgt := 25) hx hb dX3_isDoubt_4 (by decide) (fun c2 => ?_) (fun c2 => ?_)
  · have h := mif_t c2 h
    exact w_X3_isDoubt_25 hC hR N u h hP hS (lv_sub hl [] rfl)
  · have h := mif_f c2 h
    refine lv_iload_n hx hb dX3_isDoubt_7 rfl (lv_at hl 1 rfl) ?_
    refine lv_iconst (v := 0) hx hb dX3_isDoubt_8 (by decide) ?_
    refine u_aload_n (r := some a0) hx hb dX3_isDoubt_9 rfl (lv_at hl 0 rfl) ?_
    obtain ⟨y3, hy3, h⟩ := mbind_n h
    refine u_get hC hP (uGI_n hy3) rfl in_X3 (by decide) q1930 (fun _ h => h) dX3_isDoubt_10 ?_
    refine lv_iconst (v := 1) hx hb dX3_isDoubt_13 (by decide) ?_
    refine lv_isub hx hb dX3_isDoubt_14 ?_
    obtain ⟨r6, u4, c5, h⟩ := ucall_n h
    have zu4 := zz_X3_within N (ub G) (ug G) u x1 0 (y3 - 1) r6 u4 c5
    refine u_calli (va_runS (As := [.int x1, .int 0, .int (y3 - 1)]) (rest := []) hC.1 (met_X3_within l N G u x1 0 (y3 - 1) r6 u4 c5) (va_cwS 3 hts (lw_S q2135 q2136 q103 q2137) rfl rfl rfl (by decide +kernel) ⟨Nat.le_trans (Nat.le_of_ble_eq_true rfl) hR.1, Nat.le_trans (Nat.le_of_ble_eq_true rfl) hR.2⟩) ⟨uPc_blind, fun U hU hW => u_pre hC hP hS hU hW⟩ rfl rfl hl.1 rfl (lv_room (Nat.le_of_ble_eq_true rfl)) dX3_isDoubt_15 ⟨Nat.zero_le _, Nat.zero_le _⟩) hS (fun H locs hP hS => ?_)
    refine lv_if_eq (tgt := 25) hx hb dX3_isDoubt_18 (by decide) (fun c7 => ?_) (fun c7 => ?_)
    · have h := mif_t c7 h
      exact w_X3_isDoubt_25 hC hR N u4 h hP hS (lv_sub hl [] rfl)
    · have h := mif_f c7 h
      refine lv_iconst (v := 1) hx hb dX3_isDoubt_21 (by decide) ?_
      refine lv_goto (tgt := 26) hx hb dX3_isDoubt_22 (by decide) ?_
      exact w_X3_isDoubt_26 hC hR N u4 1 h hP hS (lv_sub hl [] rfl)
theorem zz_X3_isDoubt (N b : Nat) (g : uEnv) (u : UH) (a0 : Nat) (x1 : Int32) (r : Int32) (uf : UH) (h : f_X3_isDoubt N b g u a0 x1 = some (r, uf)) : uf.1 = u.1 ∧ uf.2.1 = u.2.1 :=
  zz_X3_isDoubt_0 (G := ((fun _ => 0, fun _ _ => 0), fun _ => 0, b, g)) (a0 := a0) N u x1 h
theorem met_X3_isDoubt (l : Launch) (N : Nat) (G : uG) (u : UH) (a0 : Nat) (x1 : Int32) (r : Int32) (uf : UH) (h : f_X3_isDoubt N (ub G) (ug G) u a0 x1 = some (r, uf)) : Met l yX3_isDoubt (ws_ yX3_isDoubt cX3_isDoubt 2 (some .boolean)) ({ frames := 1, cells := 0, slots := 0, locals := 22 }) (uPc G u [.ref a0, .int x1]) (uQi G r uf) 0 0 (uA G) := by
  exact u_met (own := RX3) (by decide +kernel) rfl (Nat.le_of_ble_eq_true rfl) (fun hC hn hsz ls hl hP => w_X3_isDoubt_0 hC ⟨Nat.le_refl _, Nat.le_refl _⟩ N u x1 h hP va_S.rf hl)
def f_X3_forget (N b : Nat) (g : uEnv) (u : UH) (a0 : Nat) (x1 : Int32) : Option (Int32 × UH) :=
    if uIs u a0 2 = true then
    (f_X3_good N b g u a0).bind fun u2 =>
    if uIs u2 a0 2 = true then
    ucall (f_X3_isDoubt N b g u2 a0 x1) fun r7 u5 =>
    if r7 = 0 then
    if uIs u5 a0 2 = true then
    ucall (f_X3_not N b g u5 a0 1) fun r25 u23 =>
    if uFit .boolean r25 = true then
    some (r25, u23)
    else none
    else none
    else
    (uGR u5 a0 2 45).bind fun o9 =>
    (o9).bind fun a10 =>
    (uLdI u5 a10 0 x1).bind fun y11 =>
    if y11 = (-1) then
    if uIs u5 a0 2 = true then
    ucall (f_X3_not N b g u5 a0 5) fun r20 u18 =>
    if uFit .boolean r20 = true then
    some (r20, u18)
    else none
    else none
    else
    (uGR u5 a0 2 45).bind fun o13 =>
    (o13).bind fun a14 =>
    (uStI b u5 a14 0 x1 (-1)).bind fun u15 =>
    (uPut b u15 a0 2 51 (.int 0)).bind fun u16 =>
    some (1, u16)
    else none
    else none
set_option maxHeartbeats 4000000 in
set_option maxRecDepth 100000 in
theorem zz_X3_forget_0 {G : uG} {a0 : Nat} {uf : UH} {r : Int32} (N : Nat) (u : UH) (x1 : Int32) (h : f_X3_forget N (ub G) (ug G) u a0 x1 = some (r, uf)) : uf.1 = u.1 ∧ uf.2.1 = u.2.1 := by
  unfold f_X3_forget at h
  obtain ⟨c1, h⟩ := mif_n h
  obtain ⟨u2, c3, h⟩ := mbind_n h
  have zu2 := zz_X3_good N (ub G) (ug G) u a0 u2 c3
  obtain ⟨c4, h⟩ := mif_n h
  obtain ⟨r7, u5, c6, h⟩ := ucall_n h
  have zu5 := zz_X3_isDoubt N (ub G) (ug G) u2 a0 x1 r7 u5 c6
  by_cases c8 : r7 = 0
  · have h := mif_t c8 h
    obtain ⟨c22, h⟩ := mif_n h
    obtain ⟨r25, u23, c24, h⟩ := ucall_n h
    have zu23 := zz_X3_not N (ub G) (ug G) u5 a0 1 r25 u23 c24
    obtain ⟨c26, h⟩ := mif_n h
    obtain ⟨hr1, hr2⟩ := uret_n h
    subst hr2
    exact ⟨by omega, by omega⟩
  · have h := mif_f c8 h
    obtain ⟨o9, ho9, h⟩ := mbind_n h
    obtain ⟨a10, ha10, hha10⟩ := mbind_n h
    subst ha10
    have h := hha10
    obtain ⟨y11, hy11, h⟩ := mbind_n h
    by_cases c12 : y11 = (-1)
    · have h := mif_t c12 h
      obtain ⟨c17, h⟩ := mif_n h
      obtain ⟨r20, u18, c19, h⟩ := ucall_n h
      have zu18 := zz_X3_not N (ub G) (ug G) u5 a0 5 r20 u18 c19
      obtain ⟨c21, h⟩ := mif_n h
      obtain ⟨hr1, hr2⟩ := uret_n h
      subst hr2
      exact ⟨by omega, by omega⟩
    · have h := mif_f c12 h
      obtain ⟨o13, ho13, h⟩ := mbind_n h
      obtain ⟨a14, ha14, hha14⟩ := mbind_n h
      subst ha14
      have h := hha14
      obtain ⟨u15, hu15, h⟩ := mbind_n h
      have zu15 := uStI_sz hu15
      obtain ⟨u16, hu16, h⟩ := mbind_n h
      have zu16 := uPut_sz hu16
      obtain ⟨hr1, hr2⟩ := uret_n h
      subst hr2
      exact ⟨by omega, by omega⟩
set_option maxHeartbeats 4000000 in
set_option maxRecDepth 100000 in
theorem w_X3_forget_0 {p : Program} {l : Launch} {e : Env} {R : Room} {s : State} {m : MethodId} {args : Array Value} {below : List Frame} {meth : Method} {c : Code} {G : uG} {a0 : Nat} {uf : UH} {r : Int32} (hC : uC p s m args meth c G RX3 cX3_forget 2 (some .boolean)) (hR : 2 ≤ R.frames ∧ 43 ≤ R.locals) (N : Nat) (u : UH) (x1 : Int32) (h : f_X3_forget N (ub G) (ug G) u a0 x1 = some (r, uf)) {H : Heap} {locs : List Loc} (hP : uP G u H) (hS : va_S (uA G) s.heap H locs) {ls : Array Slot} (hl : lv_has ls 2 [(0, va_rf (some a0)), (1, .int x1)]) : W p l e R s m args below meth c H locs 0 0 (MQ below (uQi G r uf) args s 0 0 (uA G)) (F0 m 0 ls []) := by
  obtain ⟨⟨hx, hb, hml, hown, hts⟩, hKK⟩ := id hC
  unfold f_X3_forget at h
  refine u_aload_n (r := some a0) hx hb dX3_forget_0 rfl (lv_at hl 0 rfl) ?_
  obtain ⟨c1, h⟩ := mif_n h
  obtain ⟨u2, c3, h⟩ := mbind_n h
  have zu2 := zz_X3_good N (ub G) (ug G) u a0 u2 c3
  refine u_callv (va_runV (As := []) (rest := []) hC.1 (met_X3_good l N G u a0 u2 c3) (cwV 0 hts (lw_V q2131 q2133 qs40 q103 q2134) rfl rfl rfl (by decide +kernel) ⟨Nat.le_trans (Nat.le_of_ble_eq_true rfl) hR.1, Nat.le_trans (Nat.le_of_ble_eq_true rfl) hR.2⟩) ⟨uPc_blind, u_rcv hC hP c1 rfl, fun U hU hW => u_pre hC hP hS hU hW⟩ rfl rfl hl.1 rfl (lv_room (Nat.le_of_ble_eq_true rfl)) dX3_forget_1 ⟨Nat.zero_le _, Nat.zero_le _⟩) hS (fun H locs hP hS => ?_)
  refine u_aload_n (r := some a0) hx hb dX3_forget_4 rfl (lv_at hl 0 rfl) ?_
  refine lv_iload_n hx hb dX3_forget_5 rfl (lv_at hl 1 rfl) ?_
  obtain ⟨c4, h⟩ := mif_n h
  obtain ⟨r7, u5, c6, h⟩ := ucall_n h
  have zu5 := zz_X3_isDoubt N (ub G) (ug G) u2 a0 x1 r7 u5 c6
  refine u_calli (va_runV (As := [.int x1]) (rest := []) hC.1 (met_X3_isDoubt l N G u2 a0 x1 r7 u5 c6) (cwV 1 hts (lw_V q2292 q2294 qs61 q103 q2295) rfl rfl rfl (by decide +kernel) ⟨Nat.le_trans (Nat.le_of_ble_eq_true rfl) hR.1, Nat.le_trans (Nat.le_of_ble_eq_true rfl) hR.2⟩) ⟨uPc_blind, u_rcv hC hP c4 rfl, fun U hU hW => u_pre hC hP hS hU hW⟩ rfl rfl hl.1 rfl (lv_room (Nat.le_of_ble_eq_true rfl)) dX3_forget_6 ⟨Nat.zero_le _, Nat.zero_le _⟩) hS (fun H locs hP hS => ?_)
  refine lv_if_ne (tgt := 18) hx hb dX3_forget_9 (by decide) (fun c8 => ?_) (fun c8 => ?_)
  · have h := mif_f c8 h
    refine u_aload_n (r := some a0) hx hb dX3_forget_18 rfl (lv_at hl 0 rfl) ?_
    obtain ⟨o9, ho9, h⟩ := mbind_n h
    refine u_get hC hP (uGR_n ho9) rfl in_X3 (by decide) q1938 (fun _ h => h) dX3_forget_19 ?_
    refine lv_iload_n hx hb dX3_forget_22 rfl (lv_at hl 1 rfl) ?_
    obtain ⟨a10, ha10, hha10⟩ := mbind_n h
    subst ha10
    have h := hha10
    obtain ⟨y11, hy11, h⟩ := mbind_n h
    refine u_iald hC hP hy11 rfl dX3_forget_23 ?_
    refine lv_iconst (v := (-1)) hx hb dX3_forget_24 (by decide) ?_
    refine lv_icmp_ne (tgt := 34) hx hb dX3_forget_25 (by decide) (fun c12 => ?_) (fun c12 => ?_)
    · have h := mif_f c12 h
      refine u_aload_n (r := some a0) hx hb dX3_forget_34 rfl (lv_at hl 0 rfl) ?_
      obtain ⟨o13, ho13, h⟩ := mbind_n h
      refine u_get hC hP (uGR_n ho13) rfl in_X3 (by decide) q1938 (fun _ h => h) dX3_forget_35 ?_
      refine lv_iload_n hx hb dX3_forget_38 rfl (lv_at hl 1 rfl) ?_
      refine lv_iconst (v := (-1)) hx hb dX3_forget_39 (by decide) ?_
      obtain ⟨a14, ha14, hha14⟩ := mbind_n h
      subst ha14
      have h := hha14
      obtain ⟨u15, hu15, h⟩ := mbind_n h
      have zu15 := uStI_sz hu15
      refine u_iast hC hP hS hu15 rfl dX3_forget_40 (fun H locs hP hS => ?_)
      refine u_aload_n (r := some a0) hx hb dX3_forget_41 rfl (lv_at hl 0 rfl) ?_
      refine lv_iconst (v := 0) hx hb dX3_forget_42 (by decide) ?_
      obtain ⟨u16, hu16, h⟩ := mbind_n h
      have zu16 := uPut_sz hu16
      refine u_put hC hP hS hu16 rfl in_X3 tyX3 tyX3_ok nmX3 (by decide) q1944 (fun _ h => h) rfl (ty := .boolean) (tyX3_ok 51 (by decide)) (uFit_n (ty := .boolean) (v := 0) rfl).1 (uFit_n (ty := .boolean) (v := 0) rfl).2 dX3_forget_43 (fun H locs hP hS => ?_)
      refine lv_iconst (v := 1) hx hb dX3_forget_46 (by decide) ?_
      obtain ⟨hr1, hr2⟩ := uret_n h
      subst hr1
      subst hr2
      exact u_zret hC (uFit_n (ty := .boolean) (v := 1) rfl).1 hP hS dX3_forget_47
    · have h := mif_t c12 h
      refine u_aload_n (r := some a0) hx hb dX3_forget_28 rfl (lv_at hl 0 rfl) ?_
      refine lv_iconst (v := 5) hx hb dX3_forget_29 (by decide) ?_
      obtain ⟨c17, h⟩ := mif_n h
      obtain ⟨r20, u18, c19, h⟩ := ucall_n h
      have zu18 := zz_X3_not N (ub G) (ug G) u5 a0 5 r20 u18 c19
      refine u_calli (va_runV (As := [.int 5]) (rest := []) hC.1 (met_X3_not l N G u5 a0 5 r20 u18 c19) (cwV 1 hts (lw_V q2264 q2266 qs59 q103 q2267) rfl rfl rfl (by decide +kernel) ⟨Nat.le_trans (Nat.le_of_ble_eq_true rfl) hR.1, Nat.le_trans (Nat.le_of_ble_eq_true rfl) hR.2⟩) ⟨uPc_blind, u_rcv hC hP c17 rfl, fun U hU hW => u_pre hC hP hS hU hW⟩ rfl rfl hl.1 rfl (lv_room (Nat.le_of_ble_eq_true rfl)) dX3_forget_30 ⟨Nat.zero_le _, Nat.zero_le _⟩) hS (fun H locs hP hS => ?_)
      obtain ⟨c21, h⟩ := mif_n h
      obtain ⟨hr1, hr2⟩ := uret_n h
      subst hr1
      subst hr2
      exact u_zret hC (uFit_n c21).1 hP hS dX3_forget_33
  · have h := mif_t c8 h
    refine u_aload_n (r := some a0) hx hb dX3_forget_12 rfl (lv_at hl 0 rfl) ?_
    refine lv_iconst (v := 1) hx hb dX3_forget_13 (by decide) ?_
    obtain ⟨c22, h⟩ := mif_n h
    obtain ⟨r25, u23, c24, h⟩ := ucall_n h
    have zu23 := zz_X3_not N (ub G) (ug G) u5 a0 1 r25 u23 c24
    refine u_calli (va_runV (As := [.int 1]) (rest := []) hC.1 (met_X3_not l N G u5 a0 1 r25 u23 c24) (cwV 1 hts (lw_V q2264 q2266 qs59 q103 q2267) rfl rfl rfl (by decide +kernel) ⟨Nat.le_trans (Nat.le_of_ble_eq_true rfl) hR.1, Nat.le_trans (Nat.le_of_ble_eq_true rfl) hR.2⟩) ⟨uPc_blind, u_rcv hC hP c22 rfl, fun U hU hW => u_pre hC hP hS hU hW⟩ rfl rfl hl.1 rfl (lv_room (Nat.le_of_ble_eq_true rfl)) dX3_forget_14 ⟨Nat.zero_le _, Nat.zero_le _⟩) hS (fun H locs hP hS => ?_)
    obtain ⟨c26, h⟩ := mif_n h
    obtain ⟨hr1, hr2⟩ := uret_n h
    subst hr1
    subst hr2
    exact u_zret hC (uFit_n c26).1 hP hS dX3_forget_17
theorem zz_X3_forget (N b : Nat) (g : uEnv) (u : UH) (a0 : Nat) (x1 : Int32) (r : Int32) (uf : UH) (h : f_X3_forget N b g u a0 x1 = some (r, uf)) : uf.1 = u.1 ∧ uf.2.1 = u.2.1 :=
  zz_X3_forget_0 (G := ((fun _ => 0, fun _ _ => 0), fun _ => 0, b, g)) (a0 := a0) N u x1 h
theorem met_X3_forget (l : Launch) (N : Nat) (G : uG) (u : UH) (a0 : Nat) (x1 : Int32) (r : Int32) (uf : UH) (h : f_X3_forget N (ub G) (ug G) u a0 x1 = some (r, uf)) : Met l yX3_forget (ws_ yX3_forget cX3_forget 2 (some .boolean)) ({ frames := 2, cells := 0, slots := 0, locals := 43 }) (uPc G u [.ref a0, .int x1]) (uQi G r uf) 0 0 (uA G) := by
  exact u_met (own := RX3) (by decide +kernel) rfl (Nat.le_of_ble_eq_true rfl) (fun hC hn hsz ls hl hP => w_X3_forget_0 hC ⟨Nat.le_refl _, Nat.le_refl _⟩ N u x1 h hP va_S.rf hl)
def f_X3_prepares_120 (N b : Nat) (g : uEnv) (a0 : Nat) (k6 : UH → Int32 → Option (UH)) (k69 : UH → Int32 → Int32 → Option (UH)) (k76 : UH → Int32 → Int32 → Int32 → Option (UH)) (u : UH) (x1 : Int32) (x2 : Int32) (x3 : Int32) (s0 : Int32) (s1 : Int32) (s2 : Option Nat) : Option (UH) :=
    (s2).bind fun a1 =>
    (uStI b u a1 0 s1 s0).bind fun u2 =>
    mlet (x3 + 1) fun y3 =>
    k76 u2 x1 x2 y3
set_option maxHeartbeats 4000000 in
set_option maxRecDepth 100000 in
theorem zz_X3_prepares_120 {G : uG} {a0 : Nat} {uf : UH} (N : Nat) (k6 : UH → Int32 → Option (UH)) (hk6 : ∀ (u : UH) (x1 : Int32), k6 u x1 = some uf → uf.1 = u.1 ∧ uf.2.1 = u.2.1) (k69 : UH → Int32 → Int32 → Option (UH)) (hk69 : ∀ (u : UH) (x1 : Int32) (x2 : Int32), k69 u x1 x2 = some uf → uf.1 = u.1 ∧ uf.2.1 = u.2.1) (k76 : UH → Int32 → Int32 → Int32 → Option (UH)) (hk76 : ∀ (u : UH) (x1 : Int32) (x2 : Int32) (x3 : Int32), k76 u x1 x2 x3 = some uf → uf.1 = u.1 ∧ uf.2.1 = u.2.1) (u : UH) (x1 : Int32) (x2 : Int32) (x3 : Int32) (s0 : Int32) (s1 : Int32) (s2 : Option Nat) (h : f_X3_prepares_120 N (ub G) (ug G) a0 k6 k69 k76 u x1 x2 x3 s0 s1 s2 = some uf) : uf.1 = u.1 ∧ uf.2.1 = u.2.1 := by
  unfold f_X3_prepares_120 at h
  obtain ⟨a1, ha1, hha1⟩ := mbind_n h
  subst ha1
  have h := hha1
  obtain ⟨u2, hu2, h⟩ := mbind_n h
  have zu2 := uStI_sz hu2
  obtain ⟨y3, ey3⟩ : ∃ z : Int32, z = x3 + 1 := ⟨_, rfl⟩
  have h := mlet_at ey3 h
  have hq := hk76 u2 x1 x2 y3 h
  exact ⟨by omega, by omega⟩
set_option maxHeartbeats 4000000 in
set_option maxRecDepth 100000 in
theorem w_X3_prepares_120 {p : Program} {l : Launch} {e : Env} {R : Room} {s : State} {m : MethodId} {args : Array Value} {below : List Frame} {meth : Method} {c : Code} {G : uG} {a0 : Nat} {uf : UH} (hC : uC p s m args meth c G RX3 cX3_prepares 4 none) (hR : 4 ≤ R.frames ∧ 100 ≤ R.locals) (N : Nat) (k6 : UH → Int32 → Option (UH)) (hk6 : ∀ (u : UH) (x1 : Int32), k6 u x1 = some uf → ∀ (H : Heap) (locs : List Loc), uP G u H → va_S (uA G) s.heap H locs → ∀ ls : Array Slot, lv_has ls 4 [(0, va_rf (some a0)), (1, .int x1)] → W p l e R s m args below meth c H locs 0 0 (MQ below (uQv G uf) args s 0 0 (uA G)) (F0 m 6 ls [])) (k69 : UH → Int32 → Int32 → Option (UH)) (hk69 : ∀ (u : UH) (x1 : Int32) (x2 : Int32), k69 u x1 x2 = some uf → ∀ (H : Heap) (locs : List Loc), uP G u H → va_S (uA G) s.heap H locs → ∀ ls : Array Slot, lv_has ls 4 [(0, va_rf (some a0)), (1, .int x1), (2, .int x2)] → W p l e R s m args below meth c H locs 0 0 (MQ below (uQv G uf) args s 0 0 (uA G)) (F0 m 69 ls [])) (k76 : UH → Int32 → Int32 → Int32 → Option (UH)) (hk76 : ∀ (u : UH) (x1 : Int32) (x2 : Int32) (x3 : Int32), k76 u x1 x2 x3 = some uf → ∀ (H : Heap) (locs : List Loc), uP G u H → va_S (uA G) s.heap H locs → ∀ ls : Array Slot, lv_has ls 4 [(0, va_rf (some a0)), (1, .int x1), (2, .int x2), (3, .int x3)] → W p l e R s m args below meth c H locs 0 0 (MQ below (uQv G uf) args s 0 0 (uA G)) (F0 m 76 ls [])) (u : UH) (x1 : Int32) (x2 : Int32) (x3 : Int32) (s0 : Int32) (s1 : Int32) (s2 : Option Nat) (h : f_X3_prepares_120 N (ub G) (ug G) a0 k6 k69 k76 u x1 x2 x3 s0 s1 s2 = some uf) {H : Heap} {locs : List Loc} (hP : uP G u H) (hS : va_S (uA G) s.heap H locs) {ls : Array Slot} (hl : lv_has ls 4 [(0, va_rf (some a0)), (1, .int x1), (2, .int x2), (3, .int x3)]) : W p l e R s m args below meth c H locs 0 0 (MQ below (uQv G uf) args s 0 0 (uA G)) (F0 m 120 ls [.int s0, .int s1, va_rf s2]) := by
  obtain ⟨⟨hx, hb, hml, hown, hts⟩, hKK⟩ := id hC
  unfold f_X3_prepares_120 at h
  obtain ⟨a1, ha1, hha1⟩ := mbind_n h
  subst ha1
  have h := hha1
  obtain ⟨u2, hu2, h⟩ := mbind_n h
  have zu2 := uStI_sz hu2
  refine u_iast hC hP hS hu2 rfl dX3_prepares_120 (fun H locs hP hS => ?_)
  obtain ⟨y3, ey3⟩ : ∃ z : Int32, z = x3 + 1 := ⟨_, rfl⟩
  have h := mlet_at ey3 h
  refine lv_iinc (v := y3) (lv' := [(3, .int y3), (0, va_rf (some a0)), (1, .int x1), (2, .int x2)]) hx hb dX3_prepares_121 hl (k := 3) rfl (by rw [ey3]; rfl) (by decide) rfl (fun ls hl => ?_)
  refine lv_goto (tgt := 76) hx hb dX3_prepares_124 (by decide) ?_
  exact hk76 u2 x1 x2 y3 h _ _ hP hS _ (lv_sub hl [1, 2, 3, 0] rfl)
def f_X3_prepares_76 (N b : Nat) (g : uEnv) (a0 : Nat) (k6 : UH → Int32 → Option (UH)) (k69 : UH → Int32 → Int32 → Option (UH)) : Nat → UH → Int32 → Int32 → Int32 → Option (UH)
  | 0, _, _, _, _ => none
  | n + 1, u, x1, x2, x3 =>
    (uGI u a0 2 22).bind fun y1 =>
    if y1 ≤ x3 then
    mlet (x2 + 1) fun y3 =>
    k69 u x1 y3
    else
    (uGR u a0 2 71).bind fun o4 =>
    if uIs u a0 2 = true then
    ucall (f_X3_barred N b g u a0 x1 x2 x3) fun r8 u6 =>
    if r8 = 0 then
    if uIs u6 a0 2 = true then
    ucall (f_X3_cost N b g u6 a0 x1 x2 x3) fun r13 u11 =>
    f_X3_prepares_120 N b g a0 k6 k69 (f_X3_prepares_76 N b g a0 k6 k69 n) u11 x1 x2 x3 r13 (((32 * x1) + (8 * x2)) + x3) o4
    else none
    else
    f_X3_prepares_120 N b g a0 k6 k69 (f_X3_prepares_76 N b g a0 k6 k69 n) u6 x1 x2 x3 0 (((32 * x1) + (8 * x2)) + x3) o4
    else none
set_option maxHeartbeats 4000000 in
set_option maxRecDepth 100000 in
theorem zz_X3_prepares_76 {G : uG} {a0 : Nat} {uf : UH} (N : Nat) (k6 : UH → Int32 → Option (UH)) (hk6 : ∀ (u : UH) (x1 : Int32), k6 u x1 = some uf → uf.1 = u.1 ∧ uf.2.1 = u.2.1) (k69 : UH → Int32 → Int32 → Option (UH)) (hk69 : ∀ (u : UH) (x1 : Int32) (x2 : Int32), k69 u x1 x2 = some uf → uf.1 = u.1 ∧ uf.2.1 = u.2.1) : ∀ (n : Nat) (u : UH) (x1 : Int32) (x2 : Int32) (x3 : Int32), f_X3_prepares_76 N (ub G) (ug G) a0 k6 k69 n u x1 x2 x3 = some uf → uf.1 = u.1 ∧ uf.2.1 = u.2.1 := by
  intro n
  induction n with
  | zero =>
    intro u x1 x2 x3 h
    cases h
  | succ n ih =>
    intro u x1 x2 x3 h
    unfold f_X3_prepares_76 at h
    obtain ⟨y1, hy1, h⟩ := mbind_n h
    by_cases c2 : y1 ≤ x3
    · have h := mif_t c2 h
      obtain ⟨y3, ey3⟩ : ∃ z : Int32, z = x2 + 1 := ⟨_, rfl⟩
      have h := mlet_at ey3 h
      have hq := hk69 u x1 y3 h
      exact ⟨by omega, by omega⟩
    · have h := mif_f c2 h
      obtain ⟨o4, ho4, h⟩ := mbind_n h
      obtain ⟨c5, h⟩ := mif_n h
      obtain ⟨r8, u6, c7, h⟩ := ucall_n h
      have zu6 := zz_X3_barred N (ub G) (ug G) u a0 x1 x2 x3 r8 u6 c7
      by_cases c9 : r8 = 0
      · have h := mif_t c9 h
        obtain ⟨c10, h⟩ := mif_n h
        obtain ⟨r13, u11, c12, h⟩ := ucall_n h
        have zu11 := zz_X3_cost N (ub G) (ug G) u6 a0 x1 x2 x3 r13 u11 c12
        have hq := zz_X3_prepares_120 (G := G) (a0 := a0) N k6 hk6 k69 hk69 (f_X3_prepares_76 N (ub G) (ug G) a0 k6 k69 n) ih u11 x1 x2 x3 r13 (((32 * x1) + (8 * x2)) + x3) o4 h
        exact ⟨by omega, by omega⟩
      · have h := mif_f c9 h
        have hq := zz_X3_prepares_120 (G := G) (a0 := a0) N k6 hk6 k69 hk69 (f_X3_prepares_76 N (ub G) (ug G) a0 k6 k69 n) ih u6 x1 x2 x3 0 (((32 * x1) + (8 * x2)) + x3) o4 h
        exact ⟨by omega, by omega⟩
set_option maxHeartbeats 4000000 in
set_option maxRecDepth 100000 in
theorem w_X3_prepares_76 {p : Program} {l : Launch} {e : Env} {R : Room} {s : State} {m : MethodId} {args : Array Value} {below : List Frame} {meth : Method} {c : Code} {G : uG} {a0 : Nat} {uf : UH} (hC : uC p s m args meth c G RX3 cX3_prepares 4 none) (hR : 4 ≤ R.frames ∧ 100 ≤ R.locals) (N : Nat) (k6 : UH → Int32 → Option (UH)) (hk6 : ∀ (u : UH) (x1 : Int32), k6 u x1 = some uf → ∀ (H : Heap) (locs : List Loc), uP G u H → va_S (uA G) s.heap H locs → ∀ ls : Array Slot, lv_has ls 4 [(0, va_rf (some a0)), (1, .int x1)] → W p l e R s m args below meth c H locs 0 0 (MQ below (uQv G uf) args s 0 0 (uA G)) (F0 m 6 ls [])) (k69 : UH → Int32 → Int32 → Option (UH)) (hk69 : ∀ (u : UH) (x1 : Int32) (x2 : Int32), k69 u x1 x2 = some uf → ∀ (H : Heap) (locs : List Loc), uP G u H → va_S (uA G) s.heap H locs → ∀ ls : Array Slot, lv_has ls 4 [(0, va_rf (some a0)), (1, .int x1), (2, .int x2)] → W p l e R s m args below meth c H locs 0 0 (MQ below (uQv G uf) args s 0 0 (uA G)) (F0 m 69 ls [])) : ∀ (n : Nat) (u : UH) (x1 : Int32) (x2 : Int32) (x3 : Int32), f_X3_prepares_76 N (ub G) (ug G) a0 k6 k69 n u x1 x2 x3 = some uf → ∀ (H : Heap) (locs : List Loc), uP G u H → va_S (uA G) s.heap H locs → ∀ ls : Array Slot, lv_has ls 4 [(0, va_rf (some a0)), (1, .int x1), (2, .int x2), (3, .int x3)] → W p l e R s m args below meth c H locs 0 0 (MQ below (uQv G uf) args s 0 0 (uA G)) (F0 m 76 ls []) := by
  obtain ⟨⟨hx, hb, hml, hown, hts⟩, hKK⟩ := id hC
  intro n
  induction n with
  | zero =>
    intro u x1 x2 x3 h
    cases h
  | succ n ih =>
    intro u x1 x2 x3 h H locs hP hS ls hl
    unfold f_X3_prepares_76 at h
    refine lv_iload_n hx hb dX3_prepares_76 rfl (lv_at hl 3 rfl) ?_
    refine u_aload_n (r := some a0) hx hb dX3_prepares_77 rfl (lv_at hl 0 rfl) ?_
    obtain ⟨y1, hy1, h⟩ := mbind_n h
    refine u_get hC hP (uGI_n hy1) rfl in_X3 (by decide) q1915 (fun _ h => h) dX3_prepares_78 ?_
    refine lv_icmp_ge (tgt := 127) hx hb dX3_prepares_81 (by decide) (fun c2 => ?_) (fun c2 => ?_)
    · have h := mif_t c2 h
      obtain ⟨y3, ey3⟩ : ∃ z : Int32, z = x2 + 1 := ⟨_, rfl⟩
      have h := mlet_at ey3 h
      refine lv_iinc (v := y3) (lv' := [(2, .int y3), (0, va_rf (some a0)), (1, .int x1), (3, .int x3)]) hx hb dX3_prepares_127 hl (k := 2) rfl (by rw [ey3]; rfl) (by decide) rfl (fun ls hl => ?_)
      refine lv_goto (tgt := 69) hx hb dX3_prepares_130 (by decide) ?_
      exact hk69 u x1 y3 h _ _ hP hS _ (lv_sub hl [1, 2, 0] rfl)
    · have h := mif_f c2 h
      refine u_aload_n (r := some a0) hx hb dX3_prepares_84 rfl (lv_at hl 0 rfl) ?_
      obtain ⟨o4, ho4, h⟩ := mbind_n h
      refine u_get hC hP (uGR_n ho4) rfl in_X3 (by decide) q1964 (fun _ h => h) dX3_prepares_85 ?_
      refine lv_bipush (v := 32) hx hb dX3_prepares_88 (by decide) ?_
      refine lv_iload_n hx hb dX3_prepares_90 rfl (lv_at hl 1 rfl) ?_
      refine lv_imul hx hb dX3_prepares_91 ?_
      refine lv_bipush (v := 8) hx hb dX3_prepares_92 (by decide) ?_
      refine lv_iload_n hx hb dX3_prepares_94 rfl (lv_at hl 2 rfl) ?_
      refine lv_imul hx hb dX3_prepares_95 ?_
      refine lv_iadd hx hb dX3_prepares_96 ?_
      refine lv_iload_n hx hb dX3_prepares_97 rfl (lv_at hl 3 rfl) ?_
      refine lv_iadd hx hb dX3_prepares_98 ?_
      refine u_aload_n (r := some a0) hx hb dX3_prepares_99 rfl (lv_at hl 0 rfl) ?_
      refine lv_iload_n hx hb dX3_prepares_100 rfl (lv_at hl 1 rfl) ?_
      refine lv_iload_n hx hb dX3_prepares_101 rfl (lv_at hl 2 rfl) ?_
      refine lv_iload_n hx hb dX3_prepares_102 rfl (lv_at hl 3 rfl) ?_
      obtain ⟨c5, h⟩ := mif_n h
      obtain ⟨r8, u6, c7, h⟩ := ucall_n h
      have zu6 := zz_X3_barred N (ub G) (ug G) u a0 x1 x2 x3 r8 u6 c7
      refine u_calli (va_runV (As := [.int x1, .int x2, .int x3]) (rest := [.int (((32 * x1) + (8 * x2)) + x3), va_rf o4]) hC.1 (met_X3_barred l N G u a0 x1 x2 x3 r8 u6 c7) (cwV 3 hts (lw_V q2312 q2314 qs62 q103 q2315) rfl rfl rfl (by decide +kernel) ⟨Nat.le_trans (Nat.le_of_ble_eq_true rfl) hR.1, Nat.le_trans (Nat.le_of_ble_eq_true rfl) hR.2⟩) ⟨uPc_blind, u_rcv hC hP c5 rfl, fun U hU hW => u_pre hC hP hS hU hW⟩ rfl rfl hl.1 rfl (lv_room (by simp only [List.map, u_cat]; exact Nat.le_of_ble_eq_true rfl)) dX3_prepares_103 ⟨Nat.zero_le _, Nat.zero_le _⟩) hS (fun H locs hP hS => ?_)
      refine lv_if_ne (tgt := 119) hx hb dX3_prepares_106 (by decide) (fun c9 => ?_) (fun c9 => ?_)
      · have h := mif_f c9 h
        refine lv_iconst (v := 0) hx hb dX3_prepares_119 (by decide) ?_
        exact w_X3_prepares_120 hC hR N k6 hk6 k69 hk69 (f_X3_prepares_76 N (ub G) (ug G) a0 k6 k69 n) ih u6 x1 x2 x3 0 (((32 * x1) + (8 * x2)) + x3) o4 h hP hS (lv_sub hl [0, 1, 2, 3] rfl)
      · have h := mif_t c9 h
        refine u_aload_n (r := some a0) hx hb dX3_prepares_109 rfl (lv_at hl 0 rfl) ?_
        refine lv_iload_n hx hb dX3_prepares_110 rfl (lv_at hl 1 rfl) ?_
        refine lv_iload_n hx hb dX3_prepares_111 rfl (lv_at hl 2 rfl) ?_
        refine lv_iload_n hx hb dX3_prepares_112 rfl (lv_at hl 3 rfl) ?_
        obtain ⟨c10, h⟩ := mif_n h
        obtain ⟨r13, u11, c12, h⟩ := ucall_n h
        have zu11 := zz_X3_cost N (ub G) (ug G) u6 a0 x1 x2 x3 r13 u11 c12
        refine u_calli (va_runV (As := [.int x1, .int x2, .int x3]) (rest := [.int (((32 * x1) + (8 * x2)) + x3), va_rf o4]) hC.1 (met_X3_cost l N G u6 a0 x1 x2 x3 r13 u11 c12) (cwV 3 hts (lw_V q2328 q2330 qs66 q103 q2331) rfl rfl rfl (by decide +kernel) ⟨Nat.le_trans (Nat.le_of_ble_eq_true rfl) hR.1, Nat.le_trans (Nat.le_of_ble_eq_true rfl) hR.2⟩) ⟨uPc_blind, u_rcv hC hP c10 rfl, fun U hU hW => u_pre hC hP hS hU hW⟩ rfl rfl hl.1 rfl (lv_room (by simp only [List.map, u_cat]; exact Nat.le_of_ble_eq_true rfl)) dX3_prepares_113 ⟨Nat.zero_le _, Nat.zero_le _⟩) hS (fun H locs hP hS => ?_)
        refine lv_goto (tgt := 120) hx hb dX3_prepares_116 (by decide) ?_
        exact w_X3_prepares_120 hC hR N k6 hk6 k69 hk69 (f_X3_prepares_76 N (ub G) (ug G) a0 k6 k69 n) ih u11 x1 x2 x3 r13 (((32 * x1) + (8 * x2)) + x3) o4 h hP hS (lv_sub hl [0, 1, 2, 3] rfl)
def f_X3_prepares_69 (N b : Nat) (g : uEnv) (a0 : Nat) (k6 : UH → Int32 → Option (UH)) : Nat → UH → Int32 → Int32 → Option (UH)
  | 0, _, _, _ => none
  | n + 1, u, x1, x2 =>
    if 4 ≤ x2 then
    mlet (x1 + 1) fun y2 =>
    k6 u y2
    else
    f_X3_prepares_76 N b g a0 k6 (f_X3_prepares_69 N b g a0 k6 n) N u x1 x2 0
set_option maxHeartbeats 4000000 in
set_option maxRecDepth 100000 in
theorem zz_X3_prepares_69 {G : uG} {a0 : Nat} {uf : UH} (N : Nat) (k6 : UH → Int32 → Option (UH)) (hk6 : ∀ (u : UH) (x1 : Int32), k6 u x1 = some uf → uf.1 = u.1 ∧ uf.2.1 = u.2.1) : ∀ (n : Nat) (u : UH) (x1 : Int32) (x2 : Int32), f_X3_prepares_69 N (ub G) (ug G) a0 k6 n u x1 x2 = some uf → uf.1 = u.1 ∧ uf.2.1 = u.2.1 := by
  intro n
  induction n with
  | zero =>
    intro u x1 x2 h
    cases h
  | succ n ih =>
    intro u x1 x2 h
    unfold f_X3_prepares_69 at h
    by_cases c1 : 4 ≤ x2
    · have h := mif_t c1 h
      obtain ⟨y2, ey2⟩ : ∃ z : Int32, z = x1 + 1 := ⟨_, rfl⟩
      have h := mlet_at ey2 h
      have hq := hk6 u y2 h
      exact ⟨by omega, by omega⟩
    · have h := mif_f c1 h
      have hq := zz_X3_prepares_76 (G := G) (a0 := a0) N k6 hk6 (f_X3_prepares_69 N (ub G) (ug G) a0 k6 n) ih N u x1 x2 0 h
      exact ⟨by omega, by omega⟩
set_option maxHeartbeats 4000000 in
set_option maxRecDepth 100000 in
theorem w_X3_prepares_69 {p : Program} {l : Launch} {e : Env} {R : Room} {s : State} {m : MethodId} {args : Array Value} {below : List Frame} {meth : Method} {c : Code} {G : uG} {a0 : Nat} {uf : UH} (hC : uC p s m args meth c G RX3 cX3_prepares 4 none) (hR : 4 ≤ R.frames ∧ 100 ≤ R.locals) (N : Nat) (k6 : UH → Int32 → Option (UH)) (hk6 : ∀ (u : UH) (x1 : Int32), k6 u x1 = some uf → ∀ (H : Heap) (locs : List Loc), uP G u H → va_S (uA G) s.heap H locs → ∀ ls : Array Slot, lv_has ls 4 [(0, va_rf (some a0)), (1, .int x1)] → W p l e R s m args below meth c H locs 0 0 (MQ below (uQv G uf) args s 0 0 (uA G)) (F0 m 6 ls [])) : ∀ (n : Nat) (u : UH) (x1 : Int32) (x2 : Int32), f_X3_prepares_69 N (ub G) (ug G) a0 k6 n u x1 x2 = some uf → ∀ (H : Heap) (locs : List Loc), uP G u H → va_S (uA G) s.heap H locs → ∀ ls : Array Slot, lv_has ls 4 [(0, va_rf (some a0)), (1, .int x1), (2, .int x2)] → W p l e R s m args below meth c H locs 0 0 (MQ below (uQv G uf) args s 0 0 (uA G)) (F0 m 69 ls []) := by
  obtain ⟨⟨hx, hb, hml, hown, hts⟩, hKK⟩ := id hC
  intro n
  induction n with
  | zero =>
    intro u x1 x2 h
    cases h
  | succ n ih =>
    intro u x1 x2 h H locs hP hS ls hl
    unfold f_X3_prepares_69 at h
    refine lv_iload_n hx hb dX3_prepares_69 rfl (lv_at hl 2 rfl) ?_
    refine lv_iconst (v := 4) hx hb dX3_prepares_70 (by decide) ?_
    refine lv_icmp_ge (tgt := 133) hx hb dX3_prepares_71 (by decide) (fun c1 => ?_) (fun c1 => ?_)
    · have h := mif_t c1 h
      obtain ⟨y2, ey2⟩ : ∃ z : Int32, z = x1 + 1 := ⟨_, rfl⟩
      have h := mlet_at ey2 h
      refine lv_iinc (v := y2) (lv' := [(1, .int y2), (0, va_rf (some a0)), (2, .int x2)]) hx hb dX3_prepares_133 hl (k := 1) rfl (by rw [ey2]; rfl) (by decide) rfl (fun ls hl => ?_)
      refine lv_goto (tgt := 6) hx hb dX3_prepares_136 (by decide) ?_
      exact hk6 u y2 h _ _ hP hS _ (lv_sub hl [1, 0] rfl)
    · have h := mif_f c1 h
      refine lv_iconst (v := 0) hx hb dX3_prepares_74 (by decide) ?_
      refine lv_istore_n (i := 3) (lv' := [(3, .int 0), (0, va_rf (some a0)), (1, .int x1), (2, .int x2)]) hx hb dX3_prepares_75 rfl hl (by decide) rfl (fun ls hl => ?_)
      exact w_X3_prepares_76 hC hR N k6 hk6 (f_X3_prepares_69 N (ub G) (ug G) a0 k6 n) ih N u x1 x2 0 h _ _ hP hS _ (lv_sub hl [1, 2, 3, 0] rfl)
def f_X3_prepares_59 (N b : Nat) (g : uEnv) (a0 : Nat) (k6 : UH → Int32 → Option (UH)) (k28 : UH → Int32 → Int32 → Option (UH)) (u : UH) (x1 : Int32) (x2 : Int32) (s0 : Int32) (s1 : Int32) (s2 : Int32) (s3 : Option Nat) : Option (UH) :=
    (s3).bind fun a1 =>
    (uStI b u a1 0 s2 (s1 ||| s0)).bind fun u2 =>
    mlet (x2 + 1) fun y3 =>
    k28 u2 x1 y3
set_option maxHeartbeats 4000000 in
set_option maxRecDepth 100000 in
theorem zz_X3_prepares_59 {G : uG} {a0 : Nat} {uf : UH} (N : Nat) (k6 : UH → Int32 → Option (UH)) (hk6 : ∀ (u : UH) (x1 : Int32), k6 u x1 = some uf → uf.1 = u.1 ∧ uf.2.1 = u.2.1) (k28 : UH → Int32 → Int32 → Option (UH)) (hk28 : ∀ (u : UH) (x1 : Int32) (x2 : Int32), k28 u x1 x2 = some uf → uf.1 = u.1 ∧ uf.2.1 = u.2.1) (u : UH) (x1 : Int32) (x2 : Int32) (s0 : Int32) (s1 : Int32) (s2 : Int32) (s3 : Option Nat) (h : f_X3_prepares_59 N (ub G) (ug G) a0 k6 k28 u x1 x2 s0 s1 s2 s3 = some uf) : uf.1 = u.1 ∧ uf.2.1 = u.2.1 := by
  unfold f_X3_prepares_59 at h
  obtain ⟨a1, ha1, hha1⟩ := mbind_n h
  subst ha1
  have h := hha1
  obtain ⟨u2, hu2, h⟩ := mbind_n h
  have zu2 := uStI_sz hu2
  obtain ⟨y3, ey3⟩ : ∃ z : Int32, z = x2 + 1 := ⟨_, rfl⟩
  have h := mlet_at ey3 h
  have hq := hk28 u2 x1 y3 h
  exact ⟨by omega, by omega⟩
set_option maxHeartbeats 4000000 in
set_option maxRecDepth 100000 in
theorem w_X3_prepares_59 {p : Program} {l : Launch} {e : Env} {R : Room} {s : State} {m : MethodId} {args : Array Value} {below : List Frame} {meth : Method} {c : Code} {G : uG} {a0 : Nat} {uf : UH} (hC : uC p s m args meth c G RX3 cX3_prepares 4 none) (hR : 4 ≤ R.frames ∧ 100 ≤ R.locals) (N : Nat) (k6 : UH → Int32 → Option (UH)) (hk6 : ∀ (u : UH) (x1 : Int32), k6 u x1 = some uf → ∀ (H : Heap) (locs : List Loc), uP G u H → va_S (uA G) s.heap H locs → ∀ ls : Array Slot, lv_has ls 4 [(0, va_rf (some a0)), (1, .int x1)] → W p l e R s m args below meth c H locs 0 0 (MQ below (uQv G uf) args s 0 0 (uA G)) (F0 m 6 ls [])) (k28 : UH → Int32 → Int32 → Option (UH)) (hk28 : ∀ (u : UH) (x1 : Int32) (x2 : Int32), k28 u x1 x2 = some uf → ∀ (H : Heap) (locs : List Loc), uP G u H → va_S (uA G) s.heap H locs → ∀ ls : Array Slot, lv_has ls 4 [(0, va_rf (some a0)), (1, .int x1), (2, .int x2)] → W p l e R s m args below meth c H locs 0 0 (MQ below (uQv G uf) args s 0 0 (uA G)) (F0 m 28 ls [])) (u : UH) (x1 : Int32) (x2 : Int32) (s0 : Int32) (s1 : Int32) (s2 : Int32) (s3 : Option Nat) (h : f_X3_prepares_59 N (ub G) (ug G) a0 k6 k28 u x1 x2 s0 s1 s2 s3 = some uf) {H : Heap} {locs : List Loc} (hP : uP G u H) (hS : va_S (uA G) s.heap H locs) {ls : Array Slot} (hl : lv_has ls 4 [(0, va_rf (some a0)), (1, .int x1), (2, .int x2)]) : W p l e R s m args below meth c H locs 0 0 (MQ below (uQv G uf) args s 0 0 (uA G)) (F0 m 59 ls [.int s0, .int s1, .int s2, va_rf s3]) := by
  obtain ⟨⟨hx, hb, hml, hown, hts⟩, hKK⟩ := id hC
  unfold f_X3_prepares_59 at h
  refine lv_ior hx hb dX3_prepares_59 ?_
  obtain ⟨a1, ha1, hha1⟩ := mbind_n h
  subst ha1
  have h := hha1
  obtain ⟨u2, hu2, h⟩ := mbind_n h
  have zu2 := uStI_sz hu2
  refine u_iast hC hP hS hu2 rfl dX3_prepares_60 (fun H locs hP hS => ?_)
  obtain ⟨y3, ey3⟩ : ∃ z : Int32, z = x2 + 1 := ⟨_, rfl⟩
  have h := mlet_at ey3 h
  refine lv_iinc (v := y3) (lv' := [(2, .int y3), (0, va_rf (some a0)), (1, .int x1)]) hx hb dX3_prepares_61 hl (k := 2) rfl (by rw [ey3]; rfl) (by decide) rfl (fun ls hl => ?_)
  refine lv_goto (tgt := 28) hx hb dX3_prepares_64 (by decide) ?_
  exact hk28 u2 x1 y3 h _ _ hP hS _ (lv_sub hl [1, 2, 0] rfl)
def f_X3_prepares_28 (N b : Nat) (g : uEnv) (a0 : Nat) (k6 : UH → Int32 → Option (UH)) : Nat → UH → Int32 → Int32 → Option (UH)
  | 0, _, _, _ => none
  | n + 1, u, x1, x2 =>
    (uGI u a0 2 37).bind fun y1 =>
    if y1 ≤ x2 then
    f_X3_prepares_69 N b g a0 k6 N u x1 0
    else
    (uGR u a0 2 72).bind fun o3 =>
    (o3).bind fun a4 =>
    (uLdI u a4 0 x1).bind fun y5 =>
    if uIs u a0 2 = true then
    ucall (f_X3_isNear N b g u a0 x1 x2) fun r9 u7 =>
    if r9 = 0 then
    f_X3_prepares_59 N b g a0 k6 (f_X3_prepares_28 N b g a0 k6 n) u7 x1 x2 0 y5 x1 (some a4)
    else
    f_X3_prepares_59 N b g a0 k6 (f_X3_prepares_28 N b g a0 k6 n) u7 x1 x2 (1 <<< (x2 &&& 31)) y5 x1 (some a4)
    else none
set_option maxHeartbeats 4000000 in
set_option maxRecDepth 100000 in
theorem zz_X3_prepares_28 {G : uG} {a0 : Nat} {uf : UH} (N : Nat) (k6 : UH → Int32 → Option (UH)) (hk6 : ∀ (u : UH) (x1 : Int32), k6 u x1 = some uf → uf.1 = u.1 ∧ uf.2.1 = u.2.1) : ∀ (n : Nat) (u : UH) (x1 : Int32) (x2 : Int32), f_X3_prepares_28 N (ub G) (ug G) a0 k6 n u x1 x2 = some uf → uf.1 = u.1 ∧ uf.2.1 = u.2.1 := by
  intro n
  induction n with
  | zero =>
    intro u x1 x2 h
    cases h
  | succ n ih =>
    intro u x1 x2 h
    unfold f_X3_prepares_28 at h
    obtain ⟨y1, hy1, h⟩ := mbind_n h
    by_cases c2 : y1 ≤ x2
    · have h := mif_t c2 h
      have hq := zz_X3_prepares_69 (G := G) (a0 := a0) N k6 hk6 N u x1 0 h
      exact ⟨by omega, by omega⟩
    · have h := mif_f c2 h
      obtain ⟨o3, ho3, h⟩ := mbind_n h
      obtain ⟨a4, ha4, hha4⟩ := mbind_n h
      subst ha4
      have h := hha4
      obtain ⟨y5, hy5, h⟩ := mbind_n h
      obtain ⟨c6, h⟩ := mif_n h
      obtain ⟨r9, u7, c8, h⟩ := ucall_n h
      have zu7 := zz_X3_isNear N (ub G) (ug G) u a0 x1 x2 r9 u7 c8
      by_cases c10 : r9 = 0
      · have h := mif_t c10 h
        have hq := zz_X3_prepares_59 (G := G) (a0 := a0) N k6 hk6 (f_X3_prepares_28 N (ub G) (ug G) a0 k6 n) ih u7 x1 x2 0 y5 x1 (some a4) h
        exact ⟨by omega, by omega⟩
      · have h := mif_f c10 h
        have hq := zz_X3_prepares_59 (G := G) (a0 := a0) N k6 hk6 (f_X3_prepares_28 N (ub G) (ug G) a0 k6 n) ih u7 x1 x2 (1 <<< (x2 &&& 31)) y5 x1 (some a4) h
        exact ⟨by omega, by omega⟩
set_option maxHeartbeats 4000000 in
set_option maxRecDepth 100000 in
theorem w_X3_prepares_28 {p : Program} {l : Launch} {e : Env} {R : Room} {s : State} {m : MethodId} {args : Array Value} {below : List Frame} {meth : Method} {c : Code} {G : uG} {a0 : Nat} {uf : UH} (hC : uC p s m args meth c G RX3 cX3_prepares 4 none) (hR : 4 ≤ R.frames ∧ 100 ≤ R.locals) (N : Nat) (k6 : UH → Int32 → Option (UH)) (hk6 : ∀ (u : UH) (x1 : Int32), k6 u x1 = some uf → ∀ (H : Heap) (locs : List Loc), uP G u H → va_S (uA G) s.heap H locs → ∀ ls : Array Slot, lv_has ls 4 [(0, va_rf (some a0)), (1, .int x1)] → W p l e R s m args below meth c H locs 0 0 (MQ below (uQv G uf) args s 0 0 (uA G)) (F0 m 6 ls [])) : ∀ (n : Nat) (u : UH) (x1 : Int32) (x2 : Int32), f_X3_prepares_28 N (ub G) (ug G) a0 k6 n u x1 x2 = some uf → ∀ (H : Heap) (locs : List Loc), uP G u H → va_S (uA G) s.heap H locs → ∀ ls : Array Slot, lv_has ls 4 [(0, va_rf (some a0)), (1, .int x1), (2, .int x2)] → W p l e R s m args below meth c H locs 0 0 (MQ below (uQv G uf) args s 0 0 (uA G)) (F0 m 28 ls []) := by
  obtain ⟨⟨hx, hb, hml, hown, hts⟩, hKK⟩ := id hC
  intro n
  induction n with
  | zero =>
    intro u x1 x2 h
    cases h
  | succ n ih =>
    intro u x1 x2 h H locs hP hS ls hl
    unfold f_X3_prepares_28 at h
    refine lv_iload_n hx hb dX3_prepares_28 rfl (lv_at hl 2 rfl) ?_
    refine u_aload_n (r := some a0) hx hb dX3_prepares_29 rfl (lv_at hl 0 rfl) ?_
    obtain ⟨y1, hy1, h⟩ := mbind_n h
    refine u_get hC hP (uGI_n hy1) rfl in_X3 (by decide) q1930 (fun _ h => h) dX3_prepares_30 ?_
    refine lv_icmp_ge (tgt := 67) hx hb dX3_prepares_33 (by decide) (fun c2 => ?_) (fun c2 => ?_)
    · have h := mif_t c2 h
      refine lv_iconst (v := 0) hx hb dX3_prepares_67 (by decide) ?_
      refine lv_istore_n (i := 2) (lv' := [(2, .int 0), (0, va_rf (some a0)), (1, .int x1)]) hx hb dX3_prepares_68 rfl hl (by decide) rfl (fun ls hl => ?_)
      exact w_X3_prepares_69 hC hR N k6 hk6 N u x1 0 h _ _ hP hS _ (lv_sub hl [1, 2, 0] rfl)
    · have h := mif_f c2 h
      refine u_aload_n (r := some a0) hx hb dX3_prepares_36 rfl (lv_at hl 0 rfl) ?_
      obtain ⟨o3, ho3, h⟩ := mbind_n h
      refine u_get hC hP (uGR_n ho3) rfl in_X3 (by decide) q1965 (fun _ h => h) dX3_prepares_37 ?_
      refine lv_iload_n hx hb dX3_prepares_40 rfl (lv_at hl 1 rfl) ?_
      refine lv_dup2_11 hx hb dX3_prepares_41 rfl (u_cat _) ?_
      obtain ⟨a4, ha4, hha4⟩ := mbind_n h
      subst ha4
      have h := hha4
      obtain ⟨y5, hy5, h⟩ := mbind_n h
      refine u_iald hC hP hy5 rfl dX3_prepares_42 ?_
      refine u_aload_n (r := some a0) hx hb dX3_prepares_43 rfl (lv_at hl 0 rfl) ?_
      refine lv_iload_n hx hb dX3_prepares_44 rfl (lv_at hl 1 rfl) ?_
      refine lv_iload_n hx hb dX3_prepares_45 rfl (lv_at hl 2 rfl) ?_
      obtain ⟨c6, h⟩ := mif_n h
      obtain ⟨r9, u7, c8, h⟩ := ucall_n h
      have zu7 := zz_X3_isNear N (ub G) (ug G) u a0 x1 x2 r9 u7 c8
      refine u_calli (va_runV (As := [.int x1, .int x2]) (rest := [.int y5, .int x1, va_rf (some a4)]) hC.1 (met_X3_isNear l N G u a0 x1 x2 r9 u7 c8) (cwV 2 hts (lw_V q2352 q2354 qs71 q103 q2355) rfl rfl rfl (by decide +kernel) ⟨Nat.le_trans (Nat.le_of_ble_eq_true rfl) hR.1, Nat.le_trans (Nat.le_of_ble_eq_true rfl) hR.2⟩) ⟨uPc_blind, u_rcv hC hP c6 rfl, fun U hU hW => u_pre hC hP hS hU hW⟩ rfl rfl hl.1 rfl (lv_room (Nat.le_of_ble_eq_true rfl)) dX3_prepares_46 ⟨Nat.zero_le _, Nat.zero_le _⟩) hS (fun H locs hP hS => ?_)
      refine lv_if_eq (tgt := 58) hx hb dX3_prepares_49 (by decide) (fun c10 => ?_) (fun c10 => ?_)
      · have h := mif_t c10 h
        refine lv_iconst (v := 0) hx hb dX3_prepares_58 (by decide) ?_
        exact w_X3_prepares_59 hC hR N k6 hk6 (f_X3_prepares_28 N (ub G) (ug G) a0 k6 n) ih u7 x1 x2 0 y5 x1 (some a4) h hP hS (lv_sub hl [0, 1, 2] rfl)
      · have h := mif_f c10 h
        refine lv_iconst (v := 1) hx hb dX3_prepares_52 (by decide) ?_
        refine lv_iload_n hx hb dX3_prepares_53 rfl (lv_at hl 2 rfl) ?_
        refine lv_ishl hx hb dX3_prepares_54 ?_
        refine lv_goto (tgt := 59) hx hb dX3_prepares_55 (by decide) ?_
        exact w_X3_prepares_59 hC hR N k6 hk6 (f_X3_prepares_28 N (ub G) (ug G) a0 k6 n) ih u7 x1 x2 (1 <<< (x2 &&& 31)) y5 x1 (some a4) h hP hS (lv_sub hl [0, 1, 2] rfl)
def f_X3_prepares_6 (N b : Nat) (g : uEnv) (a0 : Nat) : Nat → UH → Int32 → Option (UH)
  | 0, _, _ => none
  | n + 1, u, x1 =>
    (uGI u a0 2 35).bind fun y1 =>
    (uGI u a0 2 36).bind fun y2 =>
    if (y1 * y2) ≤ x1 then
    some u
    else
    (uGR u a0 2 72).bind fun o4 =>
    (o4).bind fun a5 =>
    (uStI b u a5 0 x1 0).bind fun u6 =>
    f_X3_prepares_28 N b g a0 (f_X3_prepares_6 N b g a0 n) N u6 x1 0
set_option maxHeartbeats 4000000 in
set_option maxRecDepth 100000 in
theorem zz_X3_prepares_6 {G : uG} {a0 : Nat} {uf : UH} (N : Nat) : ∀ (n : Nat) (u : UH) (x1 : Int32), f_X3_prepares_6 N (ub G) (ug G) a0 n u x1 = some uf → uf.1 = u.1 ∧ uf.2.1 = u.2.1 := by
  intro n
  induction n with
  | zero =>
    intro u x1 h
    cases h
  | succ n ih =>
    intro u x1 h
    unfold f_X3_prepares_6 at h
    obtain ⟨y1, hy1, h⟩ := mbind_n h
    obtain ⟨y2, hy2, h⟩ := mbind_n h
    by_cases c3 : (y1 * y2) ≤ x1
    · have h := mif_t c3 h
      cases h
      exact ⟨by omega, by omega⟩
    · have h := mif_f c3 h
      obtain ⟨o4, ho4, h⟩ := mbind_n h
      obtain ⟨a5, ha5, hha5⟩ := mbind_n h
      subst ha5
      have h := hha5
      obtain ⟨u6, hu6, h⟩ := mbind_n h
      have zu6 := uStI_sz hu6
      have hq := zz_X3_prepares_28 (G := G) (a0 := a0) N (f_X3_prepares_6 N (ub G) (ug G) a0 n) ih N u6 x1 0 h
      exact ⟨by omega, by omega⟩
set_option maxHeartbeats 4000000 in
set_option maxRecDepth 100000 in
theorem w_X3_prepares_6 {p : Program} {l : Launch} {e : Env} {R : Room} {s : State} {m : MethodId} {args : Array Value} {below : List Frame} {meth : Method} {c : Code} {G : uG} {a0 : Nat} {uf : UH} (hC : uC p s m args meth c G RX3 cX3_prepares 4 none) (hR : 4 ≤ R.frames ∧ 100 ≤ R.locals) (N : Nat) : ∀ (n : Nat) (u : UH) (x1 : Int32), f_X3_prepares_6 N (ub G) (ug G) a0 n u x1 = some uf → ∀ (H : Heap) (locs : List Loc), uP G u H → va_S (uA G) s.heap H locs → ∀ ls : Array Slot, lv_has ls 4 [(0, va_rf (some a0)), (1, .int x1)] → W p l e R s m args below meth c H locs 0 0 (MQ below (uQv G uf) args s 0 0 (uA G)) (F0 m 6 ls []) := by
  obtain ⟨⟨hx, hb, hml, hown, hts⟩, hKK⟩ := id hC
  intro n
  induction n with
  | zero =>
    intro u x1 h
    cases h
  | succ n ih =>
    intro u x1 h H locs hP hS ls hl
    unfold f_X3_prepares_6 at h
    refine lv_iload_n hx hb dX3_prepares_6 rfl (lv_at hl 1 rfl) ?_
    refine u_aload_n (r := some a0) hx hb dX3_prepares_7 rfl (lv_at hl 0 rfl) ?_
    obtain ⟨y1, hy1, h⟩ := mbind_n h
    refine u_get hC hP (uGI_n hy1) rfl in_X3 (by decide) q1928 (fun _ h => h) dX3_prepares_8 ?_
    refine u_aload_n (r := some a0) hx hb dX3_prepares_11 rfl (lv_at hl 0 rfl) ?_
    obtain ⟨y2, hy2, h⟩ := mbind_n h
    refine u_get hC hP (uGI_n hy2) rfl in_X3 (by decide) q1929 (fun _ h => h) dX3_prepares_12 ?_
    refine lv_imul hx hb dX3_prepares_15 ?_
    refine lv_icmp_ge (tgt := 139) hx hb dX3_prepares_16 (by decide) (fun c3 => ?_) (fun c3 => ?_)
    · have h := mif_t c3 h
      cases h
      exact u_vret hC hP hS dX3_prepares_139
    · have h := mif_f c3 h
      refine u_aload_n (r := some a0) hx hb dX3_prepares_19 rfl (lv_at hl 0 rfl) ?_
      obtain ⟨o4, ho4, h⟩ := mbind_n h
      refine u_get hC hP (uGR_n ho4) rfl in_X3 (by decide) q1965 (fun _ h => h) dX3_prepares_20 ?_
      refine lv_iload_n hx hb dX3_prepares_23 rfl (lv_at hl 1 rfl) ?_
      refine lv_iconst (v := 0) hx hb dX3_prepares_24 (by decide) ?_
      obtain ⟨a5, ha5, hha5⟩ := mbind_n h
      subst ha5
      have h := hha5
      obtain ⟨u6, hu6, h⟩ := mbind_n h
      have zu6 := uStI_sz hu6
      refine u_iast hC hP hS hu6 rfl dX3_prepares_25 (fun H locs hP hS => ?_)
      refine lv_iconst (v := 0) hx hb dX3_prepares_26 (by decide) ?_
      refine lv_istore_n (i := 2) (lv' := [(2, .int 0), (0, va_rf (some a0)), (1, .int x1)]) hx hb dX3_prepares_27 rfl hl (by decide) rfl (fun ls hl => ?_)
      exact w_X3_prepares_28 hC hR N (f_X3_prepares_6 N (ub G) (ug G) a0 n) ih N u6 x1 0 h _ _ hP hS _ (lv_sub hl [1, 2, 0] rfl)
def f_X3_prepares (N b : Nat) (g : uEnv) (u : UH) (a0 : Nat) : Option (UH) :=
    if uIs u a0 2 = true then
    (f_X3_lists N b g u a0).bind fun u2 =>
    f_X3_prepares_6 N b g a0 N u2 0
    else none
set_option maxHeartbeats 4000000 in
set_option maxRecDepth 100000 in
theorem zz_X3_prepares_0 {G : uG} {a0 : Nat} {uf : UH} (N : Nat) (u : UH) (h : f_X3_prepares N (ub G) (ug G) u a0 = some uf) : uf.1 = u.1 ∧ uf.2.1 = u.2.1 := by
  unfold f_X3_prepares at h
  obtain ⟨c1, h⟩ := mif_n h
  obtain ⟨u2, c3, h⟩ := mbind_n h
  have zu2 := zz_X3_lists N (ub G) (ug G) u a0 u2 c3
  have hq := zz_X3_prepares_6 (G := G) (a0 := a0) N N u2 0 h
  exact ⟨by omega, by omega⟩
set_option maxHeartbeats 4000000 in
set_option maxRecDepth 100000 in
theorem w_X3_prepares_0 {p : Program} {l : Launch} {e : Env} {R : Room} {s : State} {m : MethodId} {args : Array Value} {below : List Frame} {meth : Method} {c : Code} {G : uG} {a0 : Nat} {uf : UH} (hC : uC p s m args meth c G RX3 cX3_prepares 4 none) (hR : 4 ≤ R.frames ∧ 100 ≤ R.locals) (N : Nat) (u : UH) (h : f_X3_prepares N (ub G) (ug G) u a0 = some uf) {H : Heap} {locs : List Loc} (hP : uP G u H) (hS : va_S (uA G) s.heap H locs) {ls : Array Slot} (hl : lv_has ls 4 [(0, va_rf (some a0))]) : W p l e R s m args below meth c H locs 0 0 (MQ below (uQv G uf) args s 0 0 (uA G)) (F0 m 0 ls []) := by
  obtain ⟨⟨hx, hb, hml, hown, hts⟩, hKK⟩ := id hC
  unfold f_X3_prepares at h
  refine u_aload_n (r := some a0) hx hb dX3_prepares_0 rfl (lv_at hl 0 rfl) ?_
  obtain ⟨c1, h⟩ := mif_n h
  obtain ⟨u2, c3, h⟩ := mbind_n h
  have zu2 := zz_X3_lists N (ub G) (ug G) u a0 u2 c3
  refine u_callv (va_runV (As := []) (rest := []) hC.1 (met_X3_lists l N G u a0 u2 c3) (cwV 0 hts (lw_V q2348 q2350 qs70 q103 q2351) rfl rfl rfl (by decide +kernel) ⟨Nat.le_trans (Nat.le_of_ble_eq_true rfl) hR.1, Nat.le_trans (Nat.le_of_ble_eq_true rfl) hR.2⟩) ⟨uPc_blind, u_rcv hC hP c1 rfl, fun U hU hW => u_pre hC hP hS hU hW⟩ rfl rfl hl.1 rfl (lv_room (Nat.le_of_ble_eq_true rfl)) dX3_prepares_1 ⟨Nat.zero_le _, Nat.zero_le _⟩) hS (fun H locs hP hS => ?_)
  refine lv_iconst (v := 0) hx hb dX3_prepares_4 (by decide) ?_
  refine lv_istore_n (i := 1) (lv' := [(1, .int 0), (0, va_rf (some a0))]) hx hb dX3_prepares_5 rfl hl (by decide) rfl (fun ls hl => ?_)
  exact w_X3_prepares_6 hC hR N N u2 0 h _ _ hP hS _ (lv_sub hl [1, 0] rfl)
theorem zz_X3_prepares (N b : Nat) (g : uEnv) (u : UH) (a0 : Nat) (uf : UH) (h : f_X3_prepares N b g u a0 = some uf) : uf.1 = u.1 ∧ uf.2.1 = u.2.1 :=
  zz_X3_prepares_0 (G := ((fun _ => 0, fun _ _ => 0), fun _ => 0, b, g)) (a0 := a0) N u h
theorem met_X3_prepares (l : Launch) (N : Nat) (G : uG) (u : UH) (a0 : Nat) (uf : UH) (h : f_X3_prepares N (ub G) (ug G) u a0 = some uf) : Met l yX3_prepares (ws_ yX3_prepares cX3_prepares 4 none) ({ frames := 4, cells := 0, slots := 0, locals := 100 }) (uPc G u [.ref a0]) (uQv G uf) 0 0 (uA G) := by
  exact u_met (own := RX3) (by decide +kernel) rfl (Nat.le_of_ble_eq_true rfl) (fun hC hn hsz ls hl hP => w_X3_prepares_0 hC ⟨Nat.le_refl _, Nat.le_refl _⟩ N u h hP va_S.rf hl)
def f_X3_lays_106 (N b : Nat) (g : uEnv) (a0 : Nat) (k2 : UH → Int32 → Int32 → Option (UH)) (k17 : UH → Int32 → Int32 → Int32 → Option (UH)) (u : UH) (x1 : Int32) (x2 : Int32) (x3 : Int32) : Option (UH) :=
    mlet (x3 + 1) fun y1 =>
    k17 u x1 x2 y1
set_option maxHeartbeats 4000000 in
set_option maxRecDepth 100000 in
theorem zz_X3_lays_106 {G : uG} {a0 : Nat} {uf : UH} (N : Nat) (k2 : UH → Int32 → Int32 → Option (UH)) (hk2 : ∀ (u : UH) (x1 : Int32) (x2 : Int32), k2 u x1 x2 = some uf → uf.1 = u.1 ∧ uf.2.1 = u.2.1) (k17 : UH → Int32 → Int32 → Int32 → Option (UH)) (hk17 : ∀ (u : UH) (x1 : Int32) (x2 : Int32) (x3 : Int32), k17 u x1 x2 x3 = some uf → uf.1 = u.1 ∧ uf.2.1 = u.2.1) (u : UH) (x1 : Int32) (x2 : Int32) (x3 : Int32) (h : f_X3_lays_106 N (ub G) (ug G) a0 k2 k17 u x1 x2 x3 = some uf) : uf.1 = u.1 ∧ uf.2.1 = u.2.1 := by
  unfold f_X3_lays_106 at h
  obtain ⟨y1, ey1⟩ : ∃ z : Int32, z = x3 + 1 := ⟨_, rfl⟩
  have h := mlet_at ey1 h
  have hq := hk17 u x1 x2 y1 h
  exact ⟨by omega, by omega⟩
set_option maxHeartbeats 4000000 in
set_option maxRecDepth 100000 in
theorem w_X3_lays_106 {p : Program} {l : Launch} {e : Env} {R : Room} {s : State} {m : MethodId} {args : Array Value} {below : List Frame} {meth : Method} {c : Code} {G : uG} {a0 : Nat} {uf : UH} (hC : uC p s m args meth c G RX3 cX3_lays 5 none) (hR : 2 ≤ R.frames ∧ 46 ≤ R.locals) (N : Nat) (k2 : UH → Int32 → Int32 → Option (UH)) (hk2 : ∀ (u : UH) (x1 : Int32) (x2 : Int32), k2 u x1 x2 = some uf → ∀ (H : Heap) (locs : List Loc), uP G u H → va_S (uA G) s.heap H locs → ∀ ls : Array Slot, lv_has ls 5 [(0, va_rf (some a0)), (1, .int x1), (2, .int x2)] → W p l e R s m args below meth c H locs 0 0 (MQ below (uQv G uf) args s 0 0 (uA G)) (F0 m 2 ls [])) (k17 : UH → Int32 → Int32 → Int32 → Option (UH)) (hk17 : ∀ (u : UH) (x1 : Int32) (x2 : Int32) (x3 : Int32), k17 u x1 x2 x3 = some uf → ∀ (H : Heap) (locs : List Loc), uP G u H → va_S (uA G) s.heap H locs → ∀ ls : Array Slot, lv_has ls 5 [(0, va_rf (some a0)), (1, .int x1), (2, .int x2), (3, .int x3)] → W p l e R s m args below meth c H locs 0 0 (MQ below (uQv G uf) args s 0 0 (uA G)) (F0 m 17 ls [])) (u : UH) (x1 : Int32) (x2 : Int32) (x3 : Int32) (h : f_X3_lays_106 N (ub G) (ug G) a0 k2 k17 u x1 x2 x3 = some uf) {H : Heap} {locs : List Loc} (hP : uP G u H) (hS : va_S (uA G) s.heap H locs) {ls : Array Slot} (hl : lv_has ls 5 [(0, va_rf (some a0)), (1, .int x1), (2, .int x2), (3, .int x3)]) : W p l e R s m args below meth c H locs 0 0 (MQ below (uQv G uf) args s 0 0 (uA G)) (F0 m 106 ls []) := by
  obtain ⟨⟨hx, hb, hml, hown, hts⟩, hKK⟩ := id hC
  unfold f_X3_lays_106 at h
  obtain ⟨y1, ey1⟩ : ∃ z : Int32, z = x3 + 1 := ⟨_, rfl⟩
  have h := mlet_at ey1 h
  refine lv_iinc (v := y1) (lv' := [(3, .int y1), (0, va_rf (some a0)), (1, .int x1), (2, .int x2)]) hx hb dX3_lays_106 hl (k := 3) rfl (by rw [ey1]; rfl) (by decide) rfl (fun ls hl => ?_)
  refine lv_goto (tgt := 17) hx hb dX3_lays_109 (by decide) ?_
  exact hk17 u x1 x2 y1 h _ _ hP hS _ (lv_sub hl [1, 2, 3, 0] rfl)
def f_X3_lays_74 (N b : Nat) (g : uEnv) (a0 : Nat) (k2 : UH → Int32 → Int32 → Option (UH)) (k17 : UH → Int32 → Int32 → Int32 → Option (UH)) (u : UH) (x1 : Int32) (x2 : Int32) (x3 : Int32) (x4 : Int32) : Option (UH) :=
    (uGR u a0 2 70).bind fun o1 =>
    (uGR u a0 2 71).bind fun o2 =>
    if uIs u a0 2 = true then
    ucall (f_X3_floorOf N b g u a0 x4 x1) fun r6 u4 =>
    (o2).bind fun a7 =>
    (uLdI u4 a7 0 (((32 * x2) + (8 * x3)) + r6)).bind fun y8 =>
    (o1).bind fun a9 =>
    (uStI b u4 a9 0 ((4 * x2) + x3) y8).bind fun u10 =>
    f_X3_lays_106 N b g a0 k2 k17 u10 x1 x2 x3
    else none
set_option maxHeartbeats 4000000 in
set_option maxRecDepth 100000 in
theorem zz_X3_lays_74 {G : uG} {a0 : Nat} {uf : UH} (N : Nat) (k2 : UH → Int32 → Int32 → Option (UH)) (hk2 : ∀ (u : UH) (x1 : Int32) (x2 : Int32), k2 u x1 x2 = some uf → uf.1 = u.1 ∧ uf.2.1 = u.2.1) (k17 : UH → Int32 → Int32 → Int32 → Option (UH)) (hk17 : ∀ (u : UH) (x1 : Int32) (x2 : Int32) (x3 : Int32), k17 u x1 x2 x3 = some uf → uf.1 = u.1 ∧ uf.2.1 = u.2.1) (u : UH) (x1 : Int32) (x2 : Int32) (x3 : Int32) (x4 : Int32) (h : f_X3_lays_74 N (ub G) (ug G) a0 k2 k17 u x1 x2 x3 x4 = some uf) : uf.1 = u.1 ∧ uf.2.1 = u.2.1 := by
  unfold f_X3_lays_74 at h
  obtain ⟨o1, ho1, h⟩ := mbind_n h
  obtain ⟨o2, ho2, h⟩ := mbind_n h
  obtain ⟨c3, h⟩ := mif_n h
  obtain ⟨r6, u4, c5, h⟩ := ucall_n h
  have zu4 := zz_X3_floorOf N (ub G) (ug G) u a0 x4 x1 r6 u4 c5
  obtain ⟨a7, ha7, hha7⟩ := mbind_n h
  subst ha7
  have h := hha7
  obtain ⟨y8, hy8, h⟩ := mbind_n h
  obtain ⟨a9, ha9, hha9⟩ := mbind_n h
  subst ha9
  have h := hha9
  obtain ⟨u10, hu10, h⟩ := mbind_n h
  have zu10 := uStI_sz hu10
  have hq := zz_X3_lays_106 (G := G) (a0 := a0) N k2 hk2 k17 hk17 u10 x1 x2 x3 h
  exact ⟨by omega, by omega⟩
set_option maxHeartbeats 4000000 in
set_option maxRecDepth 100000 in
theorem w_X3_lays_74 {p : Program} {l : Launch} {e : Env} {R : Room} {s : State} {m : MethodId} {args : Array Value} {below : List Frame} {meth : Method} {c : Code} {G : uG} {a0 : Nat} {uf : UH} (hC : uC p s m args meth c G RX3 cX3_lays 5 none) (hR : 2 ≤ R.frames ∧ 46 ≤ R.locals) (N : Nat) (k2 : UH → Int32 → Int32 → Option (UH)) (hk2 : ∀ (u : UH) (x1 : Int32) (x2 : Int32), k2 u x1 x2 = some uf → ∀ (H : Heap) (locs : List Loc), uP G u H → va_S (uA G) s.heap H locs → ∀ ls : Array Slot, lv_has ls 5 [(0, va_rf (some a0)), (1, .int x1), (2, .int x2)] → W p l e R s m args below meth c H locs 0 0 (MQ below (uQv G uf) args s 0 0 (uA G)) (F0 m 2 ls [])) (k17 : UH → Int32 → Int32 → Int32 → Option (UH)) (hk17 : ∀ (u : UH) (x1 : Int32) (x2 : Int32) (x3 : Int32), k17 u x1 x2 x3 = some uf → ∀ (H : Heap) (locs : List Loc), uP G u H → va_S (uA G) s.heap H locs → ∀ ls : Array Slot, lv_has ls 5 [(0, va_rf (some a0)), (1, .int x1), (2, .int x2), (3, .int x3)] → W p l e R s m args below meth c H locs 0 0 (MQ below (uQv G uf) args s 0 0 (uA G)) (F0 m 17 ls [])) (u : UH) (x1 : Int32) (x2 : Int32) (x3 : Int32) (x4 : Int32) (h : f_X3_lays_74 N (ub G) (ug G) a0 k2 k17 u x1 x2 x3 x4 = some uf) {H : Heap} {locs : List Loc} (hP : uP G u H) (hS : va_S (uA G) s.heap H locs) {ls : Array Slot} (hl : lv_has ls 5 [(0, va_rf (some a0)), (1, .int x1), (2, .int x2), (3, .int x3), (4, .int x4)]) : W p l e R s m args below meth c H locs 0 0 (MQ below (uQv G uf) args s 0 0 (uA G)) (F0 m 74 ls []) := by
  obtain ⟨⟨hx, hb, hml, hown, hts⟩, hKK⟩ := id hC
  unfold f_X3_lays_74 at h
  refine u_aload_n (r := some a0) hx hb dX3_lays_74 rfl (lv_at hl 0 rfl) ?_
  obtain ⟨o1, ho1, h⟩ := mbind_n h
  refine u_get hC hP (uGR_n ho1) rfl in_X3 (by decide) q1963 (fun _ h => h) dX3_lays_75 ?_
  refine lv_iconst (v := 4) hx hb dX3_lays_78 (by decide) ?_
  refine lv_iload_n hx hb dX3_lays_79 rfl (lv_at hl 2 rfl) ?_
  refine lv_imul hx hb dX3_lays_80 ?_
  refine lv_iload_n hx hb dX3_lays_81 rfl (lv_at hl 3 rfl) ?_
  refine lv_iadd hx hb dX3_lays_82 ?_
  refine u_aload_n (r := some a0) hx hb dX3_lays_83 rfl (lv_at hl 0 rfl) ?_
  obtain ⟨o2, ho2, h⟩ := mbind_n h
  refine u_get hC hP (uGR_n ho2) rfl in_X3 (by decide) q1964 (fun _ h => h) dX3_lays_84 ?_
  refine lv_bipush (v := 32) hx hb dX3_lays_87 (by decide) ?_
  refine lv_iload_n hx hb dX3_lays_89 rfl (lv_at hl 2 rfl) ?_
  refine lv_imul hx hb dX3_lays_90 ?_
  refine lv_bipush (v := 8) hx hb dX3_lays_91 (by decide) ?_
  refine lv_iload_n hx hb dX3_lays_93 rfl (lv_at hl 3 rfl) ?_
  refine lv_imul hx hb dX3_lays_94 ?_
  refine lv_iadd hx hb dX3_lays_95 ?_
  refine u_aload_n (r := some a0) hx hb dX3_lays_96 rfl (lv_at hl 0 rfl) ?_
  refine lv_iload hx hb dX3_lays_97 (lv_at hl 4 rfl) ?_
  refine lv_iload_n hx hb dX3_lays_99 rfl (lv_at hl 1 rfl) ?_
  obtain ⟨c3, h⟩ := mif_n h
  obtain ⟨r6, u4, c5, h⟩ := ucall_n h
  have zu4 := zz_X3_floorOf N (ub G) (ug G) u a0 x4 x1 r6 u4 c5
  refine u_calli (va_runV (As := [.int x4, .int x1]) (rest := [.int ((32 * x2) + (8 * x3)), va_rf o2, .int ((4 * x2) + x3), va_rf o1]) hC.1 (met_X3_floorOf l N G u a0 x4 x1 r6 u4 c5) (cwV 2 hts (lw_V q2367 q2369 qs74 q103 q2370) rfl rfl rfl (by decide +kernel) ⟨Nat.le_trans (Nat.le_of_ble_eq_true rfl) hR.1, Nat.le_trans (Nat.le_of_ble_eq_true rfl) hR.2⟩) ⟨uPc_blind, u_rcv hC hP c3 rfl, fun U hU hW => u_pre hC hP hS hU hW⟩ rfl rfl hl.1 rfl (lv_room (by simp only [List.map, u_cat]; exact Nat.le_of_ble_eq_true rfl)) dX3_lays_100 ⟨Nat.zero_le _, Nat.zero_le _⟩) hS (fun H locs hP hS => ?_)
  refine lv_iadd hx hb dX3_lays_103 ?_
  obtain ⟨a7, ha7, hha7⟩ := mbind_n h
  subst ha7
  have h := hha7
  obtain ⟨y8, hy8, h⟩ := mbind_n h
  refine u_iald hC hP hy8 rfl dX3_lays_104 ?_
  obtain ⟨a9, ha9, hha9⟩ := mbind_n h
  subst ha9
  have h := hha9
  obtain ⟨u10, hu10, h⟩ := mbind_n h
  have zu10 := uStI_sz hu10
  refine u_iast hC hP hS hu10 rfl dX3_lays_105 (fun H locs hP hS => ?_)
  exact w_X3_lays_106 hC hR N k2 hk2 k17 hk17 u10 x1 x2 x3 h hP hS (lv_sub hl [0, 1, 2, 3] rfl)
def f_X3_lays_17 (N b : Nat) (g : uEnv) (a0 : Nat) (k2 : UH → Int32 → Int32 → Option (UH)) : Nat → UH → Int32 → Int32 → Int32 → Option (UH)
  | 0, _, _, _, _ => none
  | n + 1, u, x1, x2, x3 =>
    if 4 ≤ x3 then
    mlet (x2 + 1) fun y2 =>
    k2 u x1 y2
    else
    if uIs u a0 2 = true then
    ucall (f_X3_beside N b g u a0 x2 x3) fun r6 u4 =>
    (uGR u4 a0 2 70).bind fun o7 =>
    (o7).bind fun a8 =>
    (uStI b u4 a8 0 ((4 * x2) + x3) 0).bind fun u9 =>
    if r6 < 0 then
    f_X3_lays_106 N b g a0 k2 (f_X3_lays_17 N b g a0 k2 n) u9 x1 x2 x3
    else
    (uGR u9 a0 2 43).bind fun o11 =>
    (o11).bind fun a12 =>
    (uLdI u9 a12 0 r6).bind fun y13 =>
    if y13 = (-1) then
    f_X3_lays_74 N b g a0 k2 (f_X3_lays_17 N b g a0 k2 n) u9 x1 x2 x3 r6
    else
    (uGR u9 a0 2 43).bind fun o15 =>
    (o15).bind fun a16 =>
    (uLdI u9 a16 0 r6).bind fun y17 =>
    ucall (f_X3_digit N b g u9 x1 y17) fun r20 u18 =>
    if r20 = 0 then
    f_X3_lays_106 N b g a0 k2 (f_X3_lays_17 N b g a0 k2 n) u18 x1 x2 x3
    else
    f_X3_lays_74 N b g a0 k2 (f_X3_lays_17 N b g a0 k2 n) u18 x1 x2 x3 r6
    else none
set_option maxHeartbeats 4000000 in
set_option maxRecDepth 100000 in
theorem zz_X3_lays_17 {G : uG} {a0 : Nat} {uf : UH} (N : Nat) (k2 : UH → Int32 → Int32 → Option (UH)) (hk2 : ∀ (u : UH) (x1 : Int32) (x2 : Int32), k2 u x1 x2 = some uf → uf.1 = u.1 ∧ uf.2.1 = u.2.1) : ∀ (n : Nat) (u : UH) (x1 : Int32) (x2 : Int32) (x3 : Int32), f_X3_lays_17 N (ub G) (ug G) a0 k2 n u x1 x2 x3 = some uf → uf.1 = u.1 ∧ uf.2.1 = u.2.1 := by
  intro n
  induction n with
  | zero =>
    intro u x1 x2 x3 h
    cases h
  | succ n ih =>
    intro u x1 x2 x3 h
    unfold f_X3_lays_17 at h
    by_cases c1 : 4 ≤ x3
    · have h := mif_t c1 h
      obtain ⟨y2, ey2⟩ : ∃ z : Int32, z = x2 + 1 := ⟨_, rfl⟩
      have h := mlet_at ey2 h
      have hq := hk2 u x1 y2 h
      exact ⟨by omega, by omega⟩
    · have h := mif_f c1 h
      obtain ⟨c3, h⟩ := mif_n h
      obtain ⟨r6, u4, c5, h⟩ := ucall_n h
      have zu4 := zz_X3_beside N (ub G) (ug G) u a0 x2 x3 r6 u4 c5
      obtain ⟨o7, ho7, h⟩ := mbind_n h
      obtain ⟨a8, ha8, hha8⟩ := mbind_n h
      subst ha8
      have h := hha8
      obtain ⟨u9, hu9, h⟩ := mbind_n h
      have zu9 := uStI_sz hu9
      by_cases c10 : r6 < 0
      · have h := mif_t c10 h
        have hq := zz_X3_lays_106 (G := G) (a0 := a0) N k2 hk2 (f_X3_lays_17 N (ub G) (ug G) a0 k2 n) ih u9 x1 x2 x3 h
        exact ⟨by omega, by omega⟩
      · have h := mif_f c10 h
        obtain ⟨o11, ho11, h⟩ := mbind_n h
        obtain ⟨a12, ha12, hha12⟩ := mbind_n h
        subst ha12
        have h := hha12
        obtain ⟨y13, hy13, h⟩ := mbind_n h
        by_cases c14 : y13 = (-1)
        · have h := mif_t c14 h
          have hq := zz_X3_lays_74 (G := G) (a0 := a0) N k2 hk2 (f_X3_lays_17 N (ub G) (ug G) a0 k2 n) ih u9 x1 x2 x3 r6 h
          exact ⟨by omega, by omega⟩
        · have h := mif_f c14 h
          obtain ⟨o15, ho15, h⟩ := mbind_n h
          obtain ⟨a16, ha16, hha16⟩ := mbind_n h
          subst ha16
          have h := hha16
          obtain ⟨y17, hy17, h⟩ := mbind_n h
          obtain ⟨r20, u18, c19, h⟩ := ucall_n h
          have zu18 := zz_X3_digit N (ub G) (ug G) u9 x1 y17 r20 u18 c19
          by_cases c21 : r20 = 0
          · have h := mif_t c21 h
            have hq := zz_X3_lays_106 (G := G) (a0 := a0) N k2 hk2 (f_X3_lays_17 N (ub G) (ug G) a0 k2 n) ih u18 x1 x2 x3 h
            exact ⟨by omega, by omega⟩
          · have h := mif_f c21 h
            have hq := zz_X3_lays_74 (G := G) (a0 := a0) N k2 hk2 (f_X3_lays_17 N (ub G) (ug G) a0 k2 n) ih u18 x1 x2 x3 r6 h
            exact ⟨by omega, by omega⟩
set_option maxHeartbeats 4000000 in
set_option maxRecDepth 100000 in
theorem w_X3_lays_17 {p : Program} {l : Launch} {e : Env} {R : Room} {s : State} {m : MethodId} {args : Array Value} {below : List Frame} {meth : Method} {c : Code} {G : uG} {a0 : Nat} {uf : UH} (hC : uC p s m args meth c G RX3 cX3_lays 5 none) (hR : 2 ≤ R.frames ∧ 46 ≤ R.locals) (N : Nat) (k2 : UH → Int32 → Int32 → Option (UH)) (hk2 : ∀ (u : UH) (x1 : Int32) (x2 : Int32), k2 u x1 x2 = some uf → ∀ (H : Heap) (locs : List Loc), uP G u H → va_S (uA G) s.heap H locs → ∀ ls : Array Slot, lv_has ls 5 [(0, va_rf (some a0)), (1, .int x1), (2, .int x2)] → W p l e R s m args below meth c H locs 0 0 (MQ below (uQv G uf) args s 0 0 (uA G)) (F0 m 2 ls [])) : ∀ (n : Nat) (u : UH) (x1 : Int32) (x2 : Int32) (x3 : Int32), f_X3_lays_17 N (ub G) (ug G) a0 k2 n u x1 x2 x3 = some uf → ∀ (H : Heap) (locs : List Loc), uP G u H → va_S (uA G) s.heap H locs → ∀ ls : Array Slot, lv_has ls 5 [(0, va_rf (some a0)), (1, .int x1), (2, .int x2), (3, .int x3)] → W p l e R s m args below meth c H locs 0 0 (MQ below (uQv G uf) args s 0 0 (uA G)) (F0 m 17 ls []) := by
  obtain ⟨⟨hx, hb, hml, hown, hts⟩, hKK⟩ := id hC
  intro n
  induction n with
  | zero =>
    intro u x1 x2 x3 h
    cases h
  | succ n ih =>
    intro u x1 x2 x3 h H locs hP hS ls hl
    unfold f_X3_lays_17 at h
    refine lv_iload_n hx hb dX3_lays_17 rfl (lv_at hl 3 rfl) ?_
    refine lv_iconst (v := 4) hx hb dX3_lays_18 (by decide) ?_
    refine lv_icmp_ge (tgt := 112) hx hb dX3_lays_19 (by decide) (fun c1 => ?_) (fun c1 => ?_)
    · have h := mif_t c1 h
      obtain ⟨y2, ey2⟩ : ∃ z : Int32, z = x2 + 1 := ⟨_, rfl⟩
      have h := mlet_at ey2 h
      refine lv_iinc (v := y2) (lv' := [(2, .int y2), (0, va_rf (some a0)), (1, .int x1), (3, .int x3)]) hx hb dX3_lays_112 hl (k := 2) rfl (by rw [ey2]; rfl) (by decide) rfl (fun ls hl => ?_)
      refine lv_goto (tgt := 2) hx hb dX3_lays_115 (by decide) ?_
      exact hk2 u x1 y2 h _ _ hP hS _ (lv_sub hl [1, 2, 0] rfl)
    · have h := mif_f c1 h
      refine u_aload_n (r := some a0) hx hb dX3_lays_22 rfl (lv_at hl 0 rfl) ?_
      refine lv_iload_n hx hb dX3_lays_23 rfl (lv_at hl 2 rfl) ?_
      refine lv_iload_n hx hb dX3_lays_24 rfl (lv_at hl 3 rfl) ?_
      obtain ⟨c3, h⟩ := mif_n h
      obtain ⟨r6, u4, c5, h⟩ := ucall_n h
      have zu4 := zz_X3_beside N (ub G) (ug G) u a0 x2 x3 r6 u4 c5
      refine u_calli (va_runV (As := [.int x2, .int x3]) (rest := []) hC.1 (met_X3_beside l N G u a0 x2 x3 r6 u4 c5) (cwV 2 hts (lw_V q2316 q2318 qs63 q103 q2319) rfl rfl rfl (by decide +kernel) ⟨Nat.le_trans (Nat.le_of_ble_eq_true rfl) hR.1, Nat.le_trans (Nat.le_of_ble_eq_true rfl) hR.2⟩) ⟨uPc_blind, u_rcv hC hP c3 rfl, fun U hU hW => u_pre hC hP hS hU hW⟩ rfl rfl hl.1 rfl (lv_room (Nat.le_of_ble_eq_true rfl)) dX3_lays_25 ⟨Nat.zero_le _, Nat.zero_le _⟩) hS (fun H locs hP hS => ?_)
      refine lv_istore (lv' := [(4, .int r6), (0, va_rf (some a0)), (1, .int x1), (2, .int x2), (3, .int x3)]) hx hb dX3_lays_28 hl (by decide) rfl (fun ls hl => ?_)
      refine u_aload_n (r := some a0) hx hb dX3_lays_30 rfl (lv_at hl 1 rfl) ?_
      obtain ⟨o7, ho7, h⟩ := mbind_n h
      refine u_get hC hP (uGR_n ho7) rfl in_X3 (by decide) q1963 (fun _ h => h) dX3_lays_31 ?_
      refine lv_iconst (v := 4) hx hb dX3_lays_34 (by decide) ?_
      refine lv_iload_n hx hb dX3_lays_35 rfl (lv_at hl 3 rfl) ?_
      refine lv_imul hx hb dX3_lays_36 ?_
      refine lv_iload_n hx hb dX3_lays_37 rfl (lv_at hl 4 rfl) ?_
      refine lv_iadd hx hb dX3_lays_38 ?_
      refine lv_iconst (v := 0) hx hb dX3_lays_39 (by decide) ?_
      obtain ⟨a8, ha8, hha8⟩ := mbind_n h
      subst ha8
      have h := hha8
      obtain ⟨u9, hu9, h⟩ := mbind_n h
      have zu9 := uStI_sz hu9
      refine u_iast hC hP hS hu9 rfl dX3_lays_40 (fun H locs hP hS => ?_)
      refine lv_iload hx hb dX3_lays_41 (lv_at hl 0 rfl) ?_
      refine lv_if_lt (tgt := 106) hx hb dX3_lays_43 (by decide) (fun c10 => ?_) (fun c10 => ?_)
      · have h := mif_t c10 h
        exact w_X3_lays_106 hC hR N k2 hk2 (f_X3_lays_17 N (ub G) (ug G) a0 k2 n) ih u9 x1 x2 x3 h hP hS (lv_sub hl [1, 2, 3, 4] rfl)
      · have h := mif_f c10 h
        refine u_aload_n (r := some a0) hx hb dX3_lays_46 rfl (lv_at hl 1 rfl) ?_
        obtain ⟨o11, ho11, h⟩ := mbind_n h
        refine u_get hC hP (uGR_n ho11) rfl in_X3 (by decide) q1936 (fun _ h => h) dX3_lays_47 ?_
        refine lv_iload hx hb dX3_lays_50 (lv_at hl 0 rfl) ?_
        obtain ⟨a12, ha12, hha12⟩ := mbind_n h
        subst ha12
        have h := hha12
        obtain ⟨y13, hy13, h⟩ := mbind_n h
        refine u_iald hC hP hy13 rfl dX3_lays_52 ?_
        refine lv_iconst (v := (-1)) hx hb dX3_lays_53 (by decide) ?_
        refine lv_icmp_eq (tgt := 74) hx hb dX3_lays_54 (by decide) (fun c14 => ?_) (fun c14 => ?_)
        · have h := mif_t c14 h
          exact w_X3_lays_74 hC hR N k2 hk2 (f_X3_lays_17 N (ub G) (ug G) a0 k2 n) ih u9 x1 x2 x3 r6 h hP hS (lv_sub hl [1, 2, 3, 4, 0] rfl)
        · have h := mif_f c14 h
          refine lv_iload_n hx hb dX3_lays_57 rfl (lv_at hl 2 rfl) ?_
          refine u_aload_n (r := some a0) hx hb dX3_lays_58 rfl (lv_at hl 1 rfl) ?_
          obtain ⟨o15, ho15, h⟩ := mbind_n h
          refine u_get hC hP (uGR_n ho15) rfl in_X3 (by decide) q1936 (fun _ h => h) dX3_lays_59 ?_
          refine lv_iload hx hb dX3_lays_62 (lv_at hl 0 rfl) ?_
          obtain ⟨a16, ha16, hha16⟩ := mbind_n h
          subst ha16
          have h := hha16
          obtain ⟨y17, hy17, h⟩ := mbind_n h
          refine u_iald hC hP hy17 rfl dX3_lays_64 ?_
          obtain ⟨r20, u18, c19, h⟩ := ucall_n h
          have zu18 := zz_X3_digit N (ub G) (ug G) u9 x1 y17 r20 u18 c19
          refine u_calli (va_runS (As := [.int x1, .int y17]) (rest := []) hC.1 (met_X3_digit l N G u9 x1 y17 r20 u18 c19) (va_cwS 2 hts (lw_S q2360 q2361 q103 q2362) rfl rfl rfl (by decide +kernel) ⟨Nat.le_trans (Nat.le_of_ble_eq_true rfl) hR.1, Nat.le_trans (Nat.le_of_ble_eq_true rfl) hR.2⟩) ⟨uPc_blind, fun U hU hW => u_pre hC hP hS hU hW⟩ rfl rfl hl.1 rfl (lv_room (Nat.le_of_ble_eq_true rfl)) dX3_lays_65 ⟨Nat.zero_le _, Nat.zero_le _⟩) hS (fun H locs hP hS => ?_)
          refine lv_if_ne (tgt := 74) hx hb dX3_lays_68 (by decide) (fun c21 => ?_) (fun c21 => ?_)
          · have h := mif_f c21 h
            exact w_X3_lays_74 hC hR N k2 hk2 (f_X3_lays_17 N (ub G) (ug G) a0 k2 n) ih u18 x1 x2 x3 r6 h hP hS (lv_sub hl [1, 2, 3, 4, 0] rfl)
          · have h := mif_t c21 h
            refine lv_goto (tgt := 106) hx hb dX3_lays_71 (by decide) ?_
            exact w_X3_lays_106 hC hR N k2 hk2 (f_X3_lays_17 N (ub G) (ug G) a0 k2 n) ih u18 x1 x2 x3 h hP hS (lv_sub hl [1, 2, 3, 4] rfl)
def f_X3_lays_2 (N b : Nat) (g : uEnv) (a0 : Nat) : Nat → UH → Int32 → Int32 → Option (UH)
  | 0, _, _, _ => none
  | n + 1, u, x1, x2 =>
    (uGI u a0 2 35).bind fun y1 =>
    (uGI u a0 2 36).bind fun y2 =>
    if (y1 * y2) ≤ x2 then
    some u
    else
    f_X3_lays_17 N b g a0 (f_X3_lays_2 N b g a0 n) N u x1 x2 0
set_option maxHeartbeats 4000000 in
set_option maxRecDepth 100000 in
theorem zz_X3_lays_2 {G : uG} {a0 : Nat} {uf : UH} (N : Nat) : ∀ (n : Nat) (u : UH) (x1 : Int32) (x2 : Int32), f_X3_lays_2 N (ub G) (ug G) a0 n u x1 x2 = some uf → uf.1 = u.1 ∧ uf.2.1 = u.2.1 := by
  intro n
  induction n with
  | zero =>
    intro u x1 x2 h
    cases h
  | succ n ih =>
    intro u x1 x2 h
    unfold f_X3_lays_2 at h
    obtain ⟨y1, hy1, h⟩ := mbind_n h
    obtain ⟨y2, hy2, h⟩ := mbind_n h
    by_cases c3 : (y1 * y2) ≤ x2
    · have h := mif_t c3 h
      cases h
      exact ⟨by omega, by omega⟩
    · have h := mif_f c3 h
      have hq := zz_X3_lays_17 (G := G) (a0 := a0) N (f_X3_lays_2 N (ub G) (ug G) a0 n) ih N u x1 x2 0 h
      exact ⟨by omega, by omega⟩
set_option maxHeartbeats 4000000 in
set_option maxRecDepth 100000 in
theorem w_X3_lays_2 {p : Program} {l : Launch} {e : Env} {R : Room} {s : State} {m : MethodId} {args : Array Value} {below : List Frame} {meth : Method} {c : Code} {G : uG} {a0 : Nat} {uf : UH} (hC : uC p s m args meth c G RX3 cX3_lays 5 none) (hR : 2 ≤ R.frames ∧ 46 ≤ R.locals) (N : Nat) : ∀ (n : Nat) (u : UH) (x1 : Int32) (x2 : Int32), f_X3_lays_2 N (ub G) (ug G) a0 n u x1 x2 = some uf → ∀ (H : Heap) (locs : List Loc), uP G u H → va_S (uA G) s.heap H locs → ∀ ls : Array Slot, lv_has ls 5 [(0, va_rf (some a0)), (1, .int x1), (2, .int x2)] → W p l e R s m args below meth c H locs 0 0 (MQ below (uQv G uf) args s 0 0 (uA G)) (F0 m 2 ls []) := by
  obtain ⟨⟨hx, hb, hml, hown, hts⟩, hKK⟩ := id hC
  intro n
  induction n with
  | zero =>
    intro u x1 x2 h
    cases h
  | succ n ih =>
    intro u x1 x2 h H locs hP hS ls hl
    unfold f_X3_lays_2 at h
    refine lv_iload_n hx hb dX3_lays_2 rfl (lv_at hl 2 rfl) ?_
    refine u_aload_n (r := some a0) hx hb dX3_lays_3 rfl (lv_at hl 0 rfl) ?_
    obtain ⟨y1, hy1, h⟩ := mbind_n h
    refine u_get hC hP (uGI_n hy1) rfl in_X3 (by decide) q1928 (fun _ h => h) dX3_lays_4 ?_
    refine u_aload_n (r := some a0) hx hb dX3_lays_7 rfl (lv_at hl 0 rfl) ?_
    obtain ⟨y2, hy2, h⟩ := mbind_n h
    refine u_get hC hP (uGI_n hy2) rfl in_X3 (by decide) q1929 (fun _ h => h) dX3_lays_8 ?_
    refine lv_imul hx hb dX3_lays_11 ?_
    refine lv_icmp_ge (tgt := 118) hx hb dX3_lays_12 (by decide) (fun c3 => ?_) (fun c3 => ?_)
    · have h := mif_t c3 h
      cases h
      exact u_vret hC hP hS dX3_lays_118
    · have h := mif_f c3 h
      refine lv_iconst (v := 0) hx hb dX3_lays_15 (by decide) ?_
      refine lv_istore_n (i := 3) (lv' := [(3, .int 0), (0, va_rf (some a0)), (1, .int x1), (2, .int x2)]) hx hb dX3_lays_16 rfl hl (by decide) rfl (fun ls hl => ?_)
      exact w_X3_lays_17 hC hR N (f_X3_lays_2 N (ub G) (ug G) a0 n) ih N u x1 x2 0 h _ _ hP hS _ (lv_sub hl [1, 2, 3, 0] rfl)
def f_X3_lays (N b : Nat) (g : uEnv) (u : UH) (a0 : Nat) (x1 : Int32) : Option (UH) :=
    f_X3_lays_2 N b g a0 N u x1 0
set_option maxHeartbeats 4000000 in
set_option maxRecDepth 100000 in
theorem zz_X3_lays_0 {G : uG} {a0 : Nat} {uf : UH} (N : Nat) (u : UH) (x1 : Int32) (h : f_X3_lays N (ub G) (ug G) u a0 x1 = some uf) : uf.1 = u.1 ∧ uf.2.1 = u.2.1 := by
  unfold f_X3_lays at h
  have hq := zz_X3_lays_2 (G := G) (a0 := a0) N N u x1 0 h
  exact ⟨by omega, by omega⟩
set_option maxHeartbeats 4000000 in
set_option maxRecDepth 100000 in
theorem w_X3_lays_0 {p : Program} {l : Launch} {e : Env} {R : Room} {s : State} {m : MethodId} {args : Array Value} {below : List Frame} {meth : Method} {c : Code} {G : uG} {a0 : Nat} {uf : UH} (hC : uC p s m args meth c G RX3 cX3_lays 5 none) (hR : 2 ≤ R.frames ∧ 46 ≤ R.locals) (N : Nat) (u : UH) (x1 : Int32) (h : f_X3_lays N (ub G) (ug G) u a0 x1 = some uf) {H : Heap} {locs : List Loc} (hP : uP G u H) (hS : va_S (uA G) s.heap H locs) {ls : Array Slot} (hl : lv_has ls 5 [(0, va_rf (some a0)), (1, .int x1)]) : W p l e R s m args below meth c H locs 0 0 (MQ below (uQv G uf) args s 0 0 (uA G)) (F0 m 0 ls []) := by
  obtain ⟨⟨hx, hb, hml, hown, hts⟩, hKK⟩ := id hC
  unfold f_X3_lays at h
  refine lv_iconst (v := 0) hx hb dX3_lays_0 (by decide) ?_
  refine lv_istore_n (i := 2) (lv' := [(2, .int 0), (0, va_rf (some a0)), (1, .int x1)]) hx hb dX3_lays_1 rfl hl (by decide) rfl (fun ls hl => ?_)
  exact w_X3_lays_2 hC hR N N u x1 0 h _ _ hP hS _ (lv_sub hl [1, 2, 0] rfl)
theorem zz_X3_lays (N b : Nat) (g : uEnv) (u : UH) (a0 : Nat) (x1 : Int32) (uf : UH) (h : f_X3_lays N b g u a0 x1 = some uf) : uf.1 = u.1 ∧ uf.2.1 = u.2.1 :=
  zz_X3_lays_0 (G := ((fun _ => 0, fun _ _ => 0), fun _ => 0, b, g)) (a0 := a0) N u x1 h
theorem met_X3_lays (l : Launch) (N : Nat) (G : uG) (u : UH) (a0 : Nat) (x1 : Int32) (uf : UH) (h : f_X3_lays N (ub G) (ug G) u a0 x1 = some uf) : Met l yX3_lays (ws_ yX3_lays cX3_lays 5 none) ({ frames := 2, cells := 0, slots := 0, locals := 46 }) (uPc G u [.ref a0, .int x1]) (uQv G uf) 0 0 (uA G) := by
  exact u_met (own := RX3) (by decide +kernel) rfl (Nat.le_of_ble_eq_true rfl) (fun hC hn hsz ls hl hP => w_X3_lays_0 hC ⟨Nat.le_refl _, Nat.le_refl _⟩ N u x1 h hP va_S.rf hl)
def f_X3_news_34 (N b : Nat) (g : uEnv) (a0 : Nat) (k2 : UH → Int32 → Int32 → Int32 → Option (Int32 × UH)) (u : UH) (x1 : Int32) (x2 : Int32) (x3 : Int32) : Option (Int32 × UH) :=
    mlet (x3 + 1) fun y1 =>
    k2 u x1 x2 y1
set_option maxHeartbeats 4000000 in
set_option maxRecDepth 100000 in
theorem zz_X3_news_34 {G : uG} {a0 : Nat} {uf : UH} {r : Int32} (N : Nat) (k2 : UH → Int32 → Int32 → Int32 → Option (Int32 × UH)) (hk2 : ∀ (u : UH) (x1 : Int32) (x2 : Int32) (x3 : Int32), k2 u x1 x2 x3 = some (r, uf) → uf.1 = u.1 ∧ uf.2.1 = u.2.1) (u : UH) (x1 : Int32) (x2 : Int32) (x3 : Int32) (h : f_X3_news_34 N (ub G) (ug G) a0 k2 u x1 x2 x3 = some (r, uf)) : uf.1 = u.1 ∧ uf.2.1 = u.2.1 := by
  unfold f_X3_news_34 at h
  obtain ⟨y1, ey1⟩ : ∃ z : Int32, z = x3 + 1 := ⟨_, rfl⟩
  have h := mlet_at ey1 h
  have hq := hk2 u x1 x2 y1 h
  exact ⟨by omega, by omega⟩
set_option maxHeartbeats 4000000 in
set_option maxRecDepth 100000 in
theorem w_X3_news_34 {p : Program} {l : Launch} {e : Env} {R : Room} {s : State} {m : MethodId} {args : Array Value} {below : List Frame} {meth : Method} {c : Code} {G : uG} {a0 : Nat} {uf : UH} {r : Int32} (hC : uC p s m args meth c G RX3 cX3_news 4 (some .int)) (hR : 1 ≤ R.frames ∧ 21 ≤ R.locals) (N : Nat) (k2 : UH → Int32 → Int32 → Int32 → Option (Int32 × UH)) (hk2 : ∀ (u : UH) (x1 : Int32) (x2 : Int32) (x3 : Int32), k2 u x1 x2 x3 = some (r, uf) → ∀ (H : Heap) (locs : List Loc), uP G u H → va_S (uA G) s.heap H locs → ∀ ls : Array Slot, lv_has ls 4 [(0, va_rf (some a0)), (1, .int x1), (2, .int x2), (3, .int x3)] → W p l e R s m args below meth c H locs 0 0 (MQ below (uQi G r uf) args s 0 0 (uA G)) (F0 m 2 ls [])) (u : UH) (x1 : Int32) (x2 : Int32) (x3 : Int32) (h : f_X3_news_34 N (ub G) (ug G) a0 k2 u x1 x2 x3 = some (r, uf)) {H : Heap} {locs : List Loc} (hP : uP G u H) (hS : va_S (uA G) s.heap H locs) {ls : Array Slot} (hl : lv_has ls 4 [(0, va_rf (some a0)), (1, .int x1), (2, .int x2), (3, .int x3)]) : W p l e R s m args below meth c H locs 0 0 (MQ below (uQi G r uf) args s 0 0 (uA G)) (F0 m 34 ls []) := by
  obtain ⟨⟨hx, hb, hml, hown, hts⟩, hKK⟩ := id hC
  unfold f_X3_news_34 at h
  obtain ⟨y1, ey1⟩ : ∃ z : Int32, z = x3 + 1 := ⟨_, rfl⟩
  have h := mlet_at ey1 h
  refine lv_iinc (v := y1) (lv' := [(3, .int y1), (0, va_rf (some a0)), (1, .int x1), (2, .int x2)]) hx hb dX3_news_34 hl (k := 3) rfl (by rw [ey1]; rfl) (by decide) rfl (fun ls hl => ?_)
  refine lv_goto (tgt := 2) hx hb dX3_news_37 (by decide) ?_
  exact hk2 u x1 x2 y1 h _ _ hP hS _ (lv_sub hl [1, 2, 3, 0] rfl)
def f_X3_news_2 (N b : Nat) (g : uEnv) (a0 : Nat) : Nat → UH → Int32 → Int32 → Int32 → Option (Int32 × UH)
  | 0, _, _, _, _ => none
  | n + 1, u, x1, x2, x3 =>
    (uGI u a0 2 37).bind fun y1 =>
    if y1 ≤ x3 then
    some ((-1), u)
    else
    ucall (f_X3_digit N b g u x2 x3) fun r5 u3 =>
    if r5 = 0 then
    (uGR u3 a0 2 72).bind fun o7 =>
    (o7).bind fun a8 =>
    (uLdI u3 a8 0 x1).bind fun y9 =>
    if ((y9 >>> (x3 &&& 31)) &&& 1) = 1 then
    some (x3, u3)
    else
    f_X3_news_34 N b g a0 (f_X3_news_2 N b g a0 n) u3 x1 x2 x3
    else
    f_X3_news_34 N b g a0 (f_X3_news_2 N b g a0 n) u3 x1 x2 x3
set_option maxHeartbeats 4000000 in
set_option maxRecDepth 100000 in
theorem zz_X3_news_2 {G : uG} {a0 : Nat} {uf : UH} {r : Int32} (N : Nat) : ∀ (n : Nat) (u : UH) (x1 : Int32) (x2 : Int32) (x3 : Int32), f_X3_news_2 N (ub G) (ug G) a0 n u x1 x2 x3 = some (r, uf) → uf.1 = u.1 ∧ uf.2.1 = u.2.1 := by
  intro n
  induction n with
  | zero =>
    intro u x1 x2 x3 h
    cases h
  | succ n ih =>
    intro u x1 x2 x3 h
    unfold f_X3_news_2 at h
    obtain ⟨y1, hy1, h⟩ := mbind_n h
    by_cases c2 : y1 ≤ x3
    · have h := mif_t c2 h
      obtain ⟨hr1, hr2⟩ := uret_n h
      subst hr2
      exact ⟨by omega, by omega⟩
    · have h := mif_f c2 h
      obtain ⟨r5, u3, c4, h⟩ := ucall_n h
      have zu3 := zz_X3_digit N (ub G) (ug G) u x2 x3 r5 u3 c4
      by_cases c6 : r5 = 0
      · have h := mif_t c6 h
        obtain ⟨o7, ho7, h⟩ := mbind_n h
        obtain ⟨a8, ha8, hha8⟩ := mbind_n h
        subst ha8
        have h := hha8
        obtain ⟨y9, hy9, h⟩ := mbind_n h
        by_cases c10 : ((y9 >>> (x3 &&& 31)) &&& 1) = 1
        · have h := mif_t c10 h
          obtain ⟨hr1, hr2⟩ := uret_n h
          subst hr2
          exact ⟨by omega, by omega⟩
        · have h := mif_f c10 h
          have hq := zz_X3_news_34 (G := G) (a0 := a0) N (f_X3_news_2 N (ub G) (ug G) a0 n) ih u3 x1 x2 x3 h
          exact ⟨by omega, by omega⟩
      · have h := mif_f c6 h
        have hq := zz_X3_news_34 (G := G) (a0 := a0) N (f_X3_news_2 N (ub G) (ug G) a0 n) ih u3 x1 x2 x3 h
        exact ⟨by omega, by omega⟩
set_option maxHeartbeats 4000000 in
set_option maxRecDepth 100000 in
theorem w_X3_news_2 {p : Program} {l : Launch} {e : Env} {R : Room} {s : State} {m : MethodId} {args : Array Value} {below : List Frame} {meth : Method} {c : Code} {G : uG} {a0 : Nat} {uf : UH} {r : Int32} (hC : uC p s m args meth c G RX3 cX3_news 4 (some .int)) (hR : 1 ≤ R.frames ∧ 21 ≤ R.locals) (N : Nat) : ∀ (n : Nat) (u : UH) (x1 : Int32) (x2 : Int32) (x3 : Int32), f_X3_news_2 N (ub G) (ug G) a0 n u x1 x2 x3 = some (r, uf) → ∀ (H : Heap) (locs : List Loc), uP G u H → va_S (uA G) s.heap H locs → ∀ ls : Array Slot, lv_has ls 4 [(0, va_rf (some a0)), (1, .int x1), (2, .int x2), (3, .int x3)] → W p l e R s m args below meth c H locs 0 0 (MQ below (uQi G r uf) args s 0 0 (uA G)) (F0 m 2 ls []) := by
  obtain ⟨⟨hx, hb, hml, hown, hts⟩, hKK⟩ := id hC
  intro n
  induction n with
  | zero =>
    intro u x1 x2 x3 h
    cases h
  | succ n ih =>
    intro u x1 x2 x3 h H locs hP hS ls hl
    unfold f_X3_news_2 at h
    refine lv_iload_n hx hb dX3_news_2 rfl (lv_at hl 3 rfl) ?_
    refine u_aload_n (r := some a0) hx hb dX3_news_3 rfl (lv_at hl 0 rfl) ?_
    obtain ⟨y1, hy1, h⟩ := mbind_n h
    refine u_get hC hP (uGI_n hy1) rfl in_X3 (by decide) q1930 (fun _ h => h) dX3_news_4 ?_
    refine lv_icmp_ge (tgt := 40) hx hb dX3_news_7 (by decide) (fun c2 => ?_) (fun c2 => ?_)
    · have h := mif_t c2 h
      refine lv_iconst (v := (-1)) hx hb dX3_news_40 (by decide) ?_
      obtain ⟨hr1, hr2⟩ := uret_n h
      subst hr1
      subst hr2
      exact u_iret hC hP hS dX3_news_41
    · have h := mif_f c2 h
      refine lv_iload_n hx hb dX3_news_10 rfl (lv_at hl 2 rfl) ?_
      refine lv_iload_n hx hb dX3_news_11 rfl (lv_at hl 3 rfl) ?_
      obtain ⟨r5, u3, c4, h⟩ := ucall_n h
      have zu3 := zz_X3_digit N (ub G) (ug G) u x2 x3 r5 u3 c4
      refine u_calli (va_runS (As := [.int x2, .int x3]) (rest := []) hC.1 (met_X3_digit l N G u x2 x3 r5 u3 c4) (va_cwS 2 hts (lw_S q2360 q2361 q103 q2362) rfl rfl rfl (by decide +kernel) ⟨Nat.le_trans (Nat.le_of_ble_eq_true rfl) hR.1, Nat.le_trans (Nat.le_of_ble_eq_true rfl) hR.2⟩) ⟨uPc_blind, fun U hU hW => u_pre hC hP hS hU hW⟩ rfl rfl hl.1 rfl (lv_room (Nat.le_of_ble_eq_true rfl)) dX3_news_12 ⟨Nat.zero_le _, Nat.zero_le _⟩) hS (fun H locs hP hS => ?_)
      refine lv_if_ne (tgt := 34) hx hb dX3_news_15 (by decide) (fun c6 => ?_) (fun c6 => ?_)
      · have h := mif_f c6 h
        exact w_X3_news_34 hC hR N (f_X3_news_2 N (ub G) (ug G) a0 n) ih u3 x1 x2 x3 h hP hS (lv_sub hl [0, 1, 2, 3] rfl)
      · have h := mif_t c6 h
        refine u_aload_n (r := some a0) hx hb dX3_news_18 rfl (lv_at hl 0 rfl) ?_
        obtain ⟨o7, ho7, h⟩ := mbind_n h
        refine u_get hC hP (uGR_n ho7) rfl in_X3 (by decide) q1965 (fun _ h => h) dX3_news_19 ?_
        refine lv_iload_n hx hb dX3_news_22 rfl (lv_at hl 1 rfl) ?_
        obtain ⟨a8, ha8, hha8⟩ := mbind_n h
        subst ha8
        have h := hha8
        obtain ⟨y9, hy9, h⟩ := mbind_n h
        refine u_iald hC hP hy9 rfl dX3_news_23 ?_
        refine lv_iload_n hx hb dX3_news_24 rfl (lv_at hl 3 rfl) ?_
        refine lv_ishr hx hb dX3_news_25 ?_
        refine lv_iconst (v := 1) hx hb dX3_news_26 (by decide) ?_
        refine lv_iand hx hb dX3_news_27 ?_
        refine lv_iconst (v := 1) hx hb dX3_news_28 (by decide) ?_
        refine lv_icmp_ne (tgt := 34) hx hb dX3_news_29 (by decide) (fun c10 => ?_) (fun c10 => ?_)
        · have h := mif_f c10 h
          exact w_X3_news_34 hC hR N (f_X3_news_2 N (ub G) (ug G) a0 n) ih u3 x1 x2 x3 h hP hS (lv_sub hl [0, 1, 2, 3] rfl)
        · have h := mif_t c10 h
          refine lv_iload_n hx hb dX3_news_32 rfl (lv_at hl 3 rfl) ?_
          obtain ⟨hr1, hr2⟩ := uret_n h
          subst hr1
          subst hr2
          exact u_iret hC hP hS dX3_news_33
def f_X3_news (N b : Nat) (g : uEnv) (u : UH) (a0 : Nat) (x1 : Int32) (x2 : Int32) : Option (Int32 × UH) :=
    f_X3_news_2 N b g a0 N u x1 x2 0
set_option maxHeartbeats 4000000 in
set_option maxRecDepth 100000 in
theorem zz_X3_news_0 {G : uG} {a0 : Nat} {uf : UH} {r : Int32} (N : Nat) (u : UH) (x1 : Int32) (x2 : Int32) (h : f_X3_news N (ub G) (ug G) u a0 x1 x2 = some (r, uf)) : uf.1 = u.1 ∧ uf.2.1 = u.2.1 := by
  unfold f_X3_news at h
  have hq := zz_X3_news_2 (G := G) (a0 := a0) N N u x1 x2 0 h
  exact ⟨by omega, by omega⟩
set_option maxHeartbeats 4000000 in
set_option maxRecDepth 100000 in
theorem w_X3_news_0 {p : Program} {l : Launch} {e : Env} {R : Room} {s : State} {m : MethodId} {args : Array Value} {below : List Frame} {meth : Method} {c : Code} {G : uG} {a0 : Nat} {uf : UH} {r : Int32} (hC : uC p s m args meth c G RX3 cX3_news 4 (some .int)) (hR : 1 ≤ R.frames ∧ 21 ≤ R.locals) (N : Nat) (u : UH) (x1 : Int32) (x2 : Int32) (h : f_X3_news N (ub G) (ug G) u a0 x1 x2 = some (r, uf)) {H : Heap} {locs : List Loc} (hP : uP G u H) (hS : va_S (uA G) s.heap H locs) {ls : Array Slot} (hl : lv_has ls 4 [(0, va_rf (some a0)), (1, .int x1), (2, .int x2)]) : W p l e R s m args below meth c H locs 0 0 (MQ below (uQi G r uf) args s 0 0 (uA G)) (F0 m 0 ls []) := by
  obtain ⟨⟨hx, hb, hml, hown, hts⟩, hKK⟩ := id hC
  unfold f_X3_news at h
  refine lv_iconst (v := 0) hx hb dX3_news_0 (by decide) ?_
  refine lv_istore_n (i := 3) (lv' := [(3, .int 0), (0, va_rf (some a0)), (1, .int x1), (2, .int x2)]) hx hb dX3_news_1 rfl hl (by decide) rfl (fun ls hl => ?_)
  exact w_X3_news_2 hC hR N N u x1 x2 0 h _ _ hP hS _ (lv_sub hl [1, 2, 3, 0] rfl)
theorem zz_X3_news (N b : Nat) (g : uEnv) (u : UH) (a0 : Nat) (x1 : Int32) (x2 : Int32) (r : Int32) (uf : UH) (h : f_X3_news N b g u a0 x1 x2 = some (r, uf)) : uf.1 = u.1 ∧ uf.2.1 = u.2.1 :=
  zz_X3_news_0 (G := ((fun _ => 0, fun _ _ => 0), fun _ => 0, b, g)) (a0 := a0) N u x1 x2 h
theorem met_X3_news (l : Launch) (N : Nat) (G : uG) (u : UH) (a0 : Nat) (x1 : Int32) (x2 : Int32) (r : Int32) (uf : UH) (h : f_X3_news N (ub G) (ug G) u a0 x1 x2 = some (r, uf)) : Met l yX3_news (ws_ yX3_news cX3_news 4 (some .int)) ({ frames := 1, cells := 0, slots := 0, locals := 21 }) (uPc G u [.ref a0, .int x1, .int x2]) (uQi G r uf) 0 0 (uA G) := by
  exact u_met (own := RX3) (by decide +kernel) rfl (Nat.le_of_ble_eq_true rfl) (fun hC hn hsz ls hl hP => w_X3_news_0 hC ⟨Nat.le_refl _, Nat.le_refl _⟩ N u x1 x2 h hP va_S.rf hl)
def f_X3_over_90 (N b : Nat) (g : uEnv) (a0 : Nat) (k6 : UH → Int32 → Int32 → Int32 → Int32 → Int64 → Int32 → Option (Int64 × UH)) (u : UH) (x1 : Int32) (x2 : Int32) (x3 : Int32) (x4 : Int32) (x7 : Int32) (s0 : Int64) : Option (Int64 × UH) :=
    mlet (x7 + 1) fun y1 =>
    k6 u x1 x2 x3 x4 s0 y1
set_option maxHeartbeats 4000000 in
set_option maxRecDepth 100000 in
theorem zz_X3_over_90 {G : uG} {a0 : Nat} {uf : UH} {r : Int64} (N : Nat) (k6 : UH → Int32 → Int32 → Int32 → Int32 → Int64 → Int32 → Option (Int64 × UH)) (hk6 : ∀ (u : UH) (x1 : Int32) (x2 : Int32) (x3 : Int32) (x4 : Int32) (x5 : Int64) (x7 : Int32), k6 u x1 x2 x3 x4 x5 x7 = some (r, uf) → uf.1 = u.1 ∧ uf.2.1 = u.2.1) (u : UH) (x1 : Int32) (x2 : Int32) (x3 : Int32) (x4 : Int32) (x7 : Int32) (s0 : Int64) (h : f_X3_over_90 N (ub G) (ug G) a0 k6 u x1 x2 x3 x4 x7 s0 = some (r, uf)) : uf.1 = u.1 ∧ uf.2.1 = u.2.1 := by
  unfold f_X3_over_90 at h
  obtain ⟨y1, ey1⟩ : ∃ z : Int32, z = x7 + 1 := ⟨_, rfl⟩
  have h := mlet_at ey1 h
  have hq := hk6 u x1 x2 x3 x4 s0 y1 h
  exact ⟨by omega, by omega⟩
set_option maxHeartbeats 4000000 in
set_option maxRecDepth 100000 in
theorem w_X3_over_90 {p : Program} {l : Launch} {e : Env} {R : Room} {s : State} {m : MethodId} {args : Array Value} {below : List Frame} {meth : Method} {c : Code} {G : uG} {a0 : Nat} {uf : UH} {r : Int64} (hC : uC p s m args meth c G RX3 cX3_over 10 (some .long)) (hR : 1 ≤ R.frames ∧ 22 ≤ R.locals) (N : Nat) (k6 : UH → Int32 → Int32 → Int32 → Int32 → Int64 → Int32 → Option (Int64 × UH)) (hk6 : ∀ (u : UH) (x1 : Int32) (x2 : Int32) (x3 : Int32) (x4 : Int32) (x5 : Int64) (x7 : Int32), k6 u x1 x2 x3 x4 x5 x7 = some (r, uf) → ∀ (H : Heap) (locs : List Loc), uP G u H → va_S (uA G) s.heap H locs → ∀ ls : Array Slot, lv_has ls 10 [(0, va_rf (some a0)), (1, .int x1), (2, .int x2), (3, .int x3), (4, .int x4), (5, .long x5), (7, .int x7)] → W p l e R s m args below meth c H locs 0 0 (MQ below (uQl G r uf) args s 0 0 (uA G)) (F0 m 6 ls [])) (u : UH) (x1 : Int32) (x2 : Int32) (x3 : Int32) (x4 : Int32) (x7 : Int32) (s0 : Int64) (h : f_X3_over_90 N (ub G) (ug G) a0 k6 u x1 x2 x3 x4 x7 s0 = some (r, uf)) {H : Heap} {locs : List Loc} (hP : uP G u H) (hS : va_S (uA G) s.heap H locs) {ls : Array Slot} (hl : lv_has ls 10 [(0, va_rf (some a0)), (1, .int x1), (2, .int x2), (3, .int x3), (4, .int x4), (7, .int x7)]) : W p l e R s m args below meth c H locs 0 0 (MQ below (uQl G r uf) args s 0 0 (uA G)) (F0 m 90 ls [.long s0]) := by
  obtain ⟨⟨hx, hb, hml, hown, hts⟩, hKK⟩ := id hC
  unfold f_X3_over_90 at h
  refine lv_lstore (lv' := [(5, .long s0), (0, va_rf (some a0)), (1, .int x1), (2, .int x2), (3, .int x3), (4, .int x4), (7, .int x7)]) hx hb dX3_over_90 hl (by decide) rfl (fun ls hl => ?_)
  obtain ⟨y1, ey1⟩ : ∃ z : Int32, z = x7 + 1 := ⟨_, rfl⟩
  have h := mlet_at ey1 h
  refine lv_iinc (v := y1) (lv' := [(7, .int y1), (5, .long s0), (0, va_rf (some a0)), (1, .int x1), (2, .int x2), (3, .int x3), (4, .int x4)]) hx hb dX3_over_92 hl (k := 6) rfl (by rw [ey1]; rfl) (by decide) rfl (fun ls hl => ?_)
  refine lv_goto (tgt := 6) hx hb dX3_over_95 (by decide) ?_
  exact hk6 u x1 x2 x3 x4 s0 y1 h _ _ hP hS _ (lv_sub hl [2, 3, 4, 5, 6, 1, 0] rfl)
def f_X3_over_6 (N b : Nat) (g : uEnv) (a0 : Nat) : Nat → UH → Int32 → Int32 → Int32 → Int32 → Int64 → Int32 → Option (Int64 × UH)
  | 0, _, _, _, _, _, _, _ => none
  | n + 1, u, x1, x2, x3, x4, x5, x7 =>
    (uGR u a0 2 53).bind fun o1 =>
    (o1).bind fun a2 =>
    (uLdI u a2 0 x3).bind fun y3 =>
    if y3 ≤ x7 then
    some (x5, u)
    else
    (uGR u a0 2 48).bind fun o5 =>
    ucall (f_X3_power N b g u x3) fun r8 u6 =>
    (o5).bind fun a9 =>
    (uLdL u6 a9 3 ((100 * (x1 + ((x7 + 1) * r8))) + x2)).bind fun y10 =>
    if (lg_cmp y10 1000000000000000) < 0 then
    if x4 = 0 then
    if (lg_cmp y10 x5) ≤ 0 then
    f_X3_over_90 N b g a0 (f_X3_over_6 N b g a0 n) u6 x1 x2 x3 x4 x7 x5
    else
    f_X3_over_90 N b g a0 (f_X3_over_6 N b g a0 n) u6 x1 x2 x3 x4 x7 y10
    else
    if uIs u6 a0 2 = true then
    ucall (f_X3_weightOf N b g u6 a0 x3 x7) fun r17 u15 =>
    f_X3_over_90 N b g a0 (f_X3_over_6 N b g a0 n) u15 x1 x2 x3 x4 x7 (x5 + ((r17.toInt64) * y10))
    else none
    else
    some (1000000000000000, u6)
set_option maxHeartbeats 4000000 in
set_option maxRecDepth 100000 in
theorem zz_X3_over_6 {G : uG} {a0 : Nat} {uf : UH} {r : Int64} (N : Nat) : ∀ (n : Nat) (u : UH) (x1 : Int32) (x2 : Int32) (x3 : Int32) (x4 : Int32) (x5 : Int64) (x7 : Int32), f_X3_over_6 N (ub G) (ug G) a0 n u x1 x2 x3 x4 x5 x7 = some (r, uf) → uf.1 = u.1 ∧ uf.2.1 = u.2.1 := by
  intro n
  induction n with
  | zero =>
    intro u x1 x2 x3 x4 x5 x7 h
    cases h
  | succ n ih =>
    intro u x1 x2 x3 x4 x5 x7 h
    unfold f_X3_over_6 at h
    obtain ⟨o1, ho1, h⟩ := mbind_n h
    obtain ⟨a2, ha2, hha2⟩ := mbind_n h
    subst ha2
    have h := hha2
    obtain ⟨y3, hy3, h⟩ := mbind_n h
    by_cases c4 : y3 ≤ x7
    · have h := mif_t c4 h
      obtain ⟨hr1, hr2⟩ := uret_n h
      subst hr2
      exact ⟨by omega, by omega⟩
    · have h := mif_f c4 h
      obtain ⟨o5, ho5, h⟩ := mbind_n h
      obtain ⟨r8, u6, c7, h⟩ := ucall_n h
      have zu6 := zz_X3_power N (ub G) (ug G) u x3 r8 u6 c7
      obtain ⟨a9, ha9, hha9⟩ := mbind_n h
      subst ha9
      have h := hha9
      obtain ⟨y10, hy10, h⟩ := mbind_n h
      by_cases c11 : (lg_cmp y10 1000000000000000) < 0
      · have h := mif_t c11 h
        by_cases c12 : x4 = 0
        · have h := mif_t c12 h
          by_cases c13 : (lg_cmp y10 x5) ≤ 0
          · have h := mif_t c13 h
            have hq := zz_X3_over_90 (G := G) (a0 := a0) N (f_X3_over_6 N (ub G) (ug G) a0 n) ih u6 x1 x2 x3 x4 x7 x5 h
            exact ⟨by omega, by omega⟩
          · have h := mif_f c13 h
            have hq := zz_X3_over_90 (G := G) (a0 := a0) N (f_X3_over_6 N (ub G) (ug G) a0 n) ih u6 x1 x2 x3 x4 x7 y10 h
            exact ⟨by omega, by omega⟩
        · have h := mif_f c12 h
          obtain ⟨c14, h⟩ := mif_n h
          obtain ⟨r17, u15, c16, h⟩ := ucall_n h
          have zu15 := zz_X3_weightOf N (ub G) (ug G) u6 a0 x3 x7 r17 u15 c16
          have hq := zz_X3_over_90 (G := G) (a0 := a0) N (f_X3_over_6 N (ub G) (ug G) a0 n) ih u15 x1 x2 x3 x4 x7 (x5 + ((r17.toInt64) * y10)) h
          exact ⟨by omega, by omega⟩
      · have h := mif_f c11 h
        obtain ⟨hr1, hr2⟩ := uret_n h
        subst hr2
        exact ⟨by omega, by omega⟩
set_option maxHeartbeats 4000000 in
set_option maxRecDepth 100000 in
theorem w_X3_over_6 {p : Program} {l : Launch} {e : Env} {R : Room} {s : State} {m : MethodId} {args : Array Value} {below : List Frame} {meth : Method} {c : Code} {G : uG} {a0 : Nat} {uf : UH} {r : Int64} (hC : uC p s m args meth c G RX3 cX3_over 10 (some .long)) (hR : 1 ≤ R.frames ∧ 22 ≤ R.locals) (N : Nat) : ∀ (n : Nat) (u : UH) (x1 : Int32) (x2 : Int32) (x3 : Int32) (x4 : Int32) (x5 : Int64) (x7 : Int32), f_X3_over_6 N (ub G) (ug G) a0 n u x1 x2 x3 x4 x5 x7 = some (r, uf) → ∀ (H : Heap) (locs : List Loc), uP G u H → va_S (uA G) s.heap H locs → ∀ ls : Array Slot, lv_has ls 10 [(0, va_rf (some a0)), (1, .int x1), (2, .int x2), (3, .int x3), (4, .int x4), (5, .long x5), (7, .int x7)] → W p l e R s m args below meth c H locs 0 0 (MQ below (uQl G r uf) args s 0 0 (uA G)) (F0 m 6 ls []) := by
  obtain ⟨⟨hx, hb, hml, hown, hts⟩, hKK⟩ := id hC
  intro n
  induction n with
  | zero =>
    intro u x1 x2 x3 x4 x5 x7 h
    cases h
  | succ n ih =>
    intro u x1 x2 x3 x4 x5 x7 h H locs hP hS ls hl
    unfold f_X3_over_6 at h
    refine lv_iload hx hb dX3_over_6 (lv_at hl 6 rfl) ?_
    refine u_aload_n (r := some a0) hx hb dX3_over_8 rfl (lv_at hl 0 rfl) ?_
    obtain ⟨o1, ho1, h⟩ := mbind_n h
    refine u_get hC hP (uGR_n ho1) rfl in_X3 (by decide) q1946 (fun _ h => h) dX3_over_9 ?_
    refine lv_iload_n hx hb dX3_over_12 rfl (lv_at hl 3 rfl) ?_
    obtain ⟨a2, ha2, hha2⟩ := mbind_n h
    subst ha2
    have h := hha2
    obtain ⟨y3, hy3, h⟩ := mbind_n h
    refine u_iald hC hP hy3 rfl dX3_over_13 ?_
    refine lv_icmp_ge (tgt := 98) hx hb dX3_over_14 (by decide) (fun c4 => ?_) (fun c4 => ?_)
    · have h := mif_t c4 h
      refine lv_lload hx hb dX3_over_98 (lv_at hl 5 rfl) ?_
      obtain ⟨hr1, hr2⟩ := uret_n h
      subst hr1
      subst hr2
      exact u_lret hC hP hS dX3_over_100
    · have h := mif_f c4 h
      refine u_aload_n (r := some a0) hx hb dX3_over_17 rfl (lv_at hl 0 rfl) ?_
      obtain ⟨o5, ho5, h⟩ := mbind_n h
      refine u_get hC hP (uGR_n ho5) rfl in_X3 (by decide) q1941 (fun _ h => h) dX3_over_18 ?_
      refine lv_bipush (v := 100) hx hb dX3_over_21 (by decide) ?_
      refine lv_iload_n hx hb dX3_over_23 rfl (lv_at hl 1 rfl) ?_
      refine lv_iload hx hb dX3_over_24 (lv_at hl 6 rfl) ?_
      refine lv_iconst (v := 1) hx hb dX3_over_26 (by decide) ?_
      refine lv_iadd hx hb dX3_over_27 ?_
      refine lv_iload_n hx hb dX3_over_28 rfl (lv_at hl 3 rfl) ?_
      obtain ⟨r8, u6, c7, h⟩ := ucall_n h
      have zu6 := zz_X3_power N (ub G) (ug G) u x3 r8 u6 c7
      refine u_calli (va_runS (As := [.int x3]) (rest := [.int (x7 + 1), .int x1, .int 100, va_rf o5]) hC.1 (met_X3_power l N G u x3 r8 u6 c7) (va_cwS 1 hts (lw_S q2380 q2381 q103 q2382) rfl rfl rfl (by decide +kernel) ⟨Nat.le_trans (Nat.le_of_ble_eq_true rfl) hR.1, Nat.le_trans (Nat.le_of_ble_eq_true rfl) hR.2⟩) ⟨uPc_blind, fun U hU hW => u_pre hC hP hS hU hW⟩ rfl rfl hl.1 rfl (lv_room (by simp only [List.map, u_cat]; exact Nat.le_of_ble_eq_true rfl)) dX3_over_29 ⟨Nat.zero_le _, Nat.zero_le _⟩) hS (fun H locs hP hS => ?_)
      refine lv_imul hx hb dX3_over_32 ?_
      refine lv_iadd hx hb dX3_over_33 ?_
      refine lv_imul hx hb dX3_over_34 ?_
      refine lv_iload_n hx hb dX3_over_35 rfl (lv_at hl 2 rfl) ?_
      refine lv_iadd hx hb dX3_over_36 ?_
      obtain ⟨a9, ha9, hha9⟩ := mbind_n h
      subst ha9
      have h := hha9
      obtain ⟨y10, hy10, h⟩ := mbind_n h
      refine u_lald hC hP hy10 rfl dX3_over_37 ?_
      refine lv_lstore (lv' := [(8, .long y10), (0, va_rf (some a0)), (1, .int x1), (2, .int x2), (3, .int x3), (4, .int x4), (5, .long x5), (7, .int x7)]) hx hb dX3_over_38 hl (by decide) rfl (fun ls hl => ?_)
      refine lv_lload hx hb dX3_over_40 (lv_at hl 0 rfl) ?_
      refine lv_ldc2 hx hb hown (hts _ q2375) dX3_over_42 ?_
      refine W.lcmp hx hb dX3_over_45 ?_
      refine lv_if_lt (tgt := 53) hx hb dX3_over_46 (by decide) (fun c11 => ?_) (fun c11 => ?_)
      · have h := mif_t c11 h
        refine lv_iload hx hb dX3_over_53 (lv_at hl 5 rfl) ?_
        refine lv_if_eq (tgt := 75) hx hb dX3_over_55 (by decide) (fun c12 => ?_) (fun c12 => ?_)
        · have h := mif_t c12 h
          refine lv_lload hx hb dX3_over_75 (lv_at hl 0 rfl) ?_
          refine lv_lload hx hb dX3_over_77 (lv_at hl 6 rfl) ?_
          refine W.lcmp hx hb dX3_over_79 ?_
          refine lv_if_le (tgt := 88) hx hb dX3_over_80 (by decide) (fun c13 => ?_) (fun c13 => ?_)
          · have h := mif_t c13 h
            refine lv_lload hx hb dX3_over_88 (lv_at hl 6 rfl) ?_
            exact w_X3_over_90 hC hR N (f_X3_over_6 N (ub G) (ug G) a0 n) ih u6 x1 x2 x3 x4 x7 x5 h hP hS (lv_sub hl [1, 2, 3, 4, 5, 7] rfl)
          · have h := mif_f c13 h
            refine lv_lload hx hb dX3_over_83 (lv_at hl 0 rfl) ?_
            refine lv_goto (tgt := 90) hx hb dX3_over_85 (by decide) ?_
            exact w_X3_over_90 hC hR N (f_X3_over_6 N (ub G) (ug G) a0 n) ih u6 x1 x2 x3 x4 x7 y10 h hP hS (lv_sub hl [1, 2, 3, 4, 5, 7] rfl)
        · have h := mif_f c12 h
          refine lv_lload hx hb dX3_over_58 (lv_at hl 6 rfl) ?_
          refine u_aload_n (r := some a0) hx hb dX3_over_60 rfl (lv_at hl 1 rfl) ?_
          refine lv_iload_n hx hb dX3_over_61 rfl (lv_at hl 4 rfl) ?_
          refine lv_iload hx hb dX3_over_62 (lv_at hl 7 rfl) ?_
          obtain ⟨c14, h⟩ := mif_n h
          obtain ⟨r17, u15, c16, h⟩ := ucall_n h
          have zu15 := zz_X3_weightOf N (ub G) (ug G) u6 a0 x3 x7 r17 u15 c16
          refine u_calli (va_runV (As := [.int x3, .int x7]) (rest := [.long x5]) hC.1 (met_X3_weightOf l N G u6 a0 x3 x7 r17 u15 c16) (cwV 2 hts (lw_V q2383 q2385 qs77 q103 q2386) rfl rfl rfl (by decide +kernel) ⟨Nat.le_trans (Nat.le_of_ble_eq_true rfl) hR.1, Nat.le_trans (Nat.le_of_ble_eq_true rfl) hR.2⟩) ⟨uPc_blind, u_rcv hC hP c14 rfl, fun U hU hW => u_pre hC hP hS hU hW⟩ rfl rfl hl.1 rfl (lv_room (Nat.le_of_ble_eq_true rfl)) dX3_over_64 ⟨Nat.zero_le _, Nat.zero_le _⟩) hS (fun H locs hP hS => ?_)
          refine lv_i2l (v := r17.toInt64) hx hb dX3_over_67 rfl ?_
          refine lv_lload hx hb dX3_over_68 (lv_at hl 0 rfl) ?_
          refine lv_lmul hx hb dX3_over_70 ?_
          refine lv_ladd hx hb dX3_over_71 ?_
          refine lv_goto (tgt := 90) hx hb dX3_over_72 (by decide) ?_
          exact w_X3_over_90 hC hR N (f_X3_over_6 N (ub G) (ug G) a0 n) ih u15 x1 x2 x3 x4 x7 (x5 + ((r17.toInt64) * y10)) h hP hS (lv_sub hl [1, 2, 3, 4, 5, 7] rfl)
      · have h := mif_f c11 h
        refine lv_ldc2 hx hb hown (hts _ q2375) dX3_over_49 ?_
        obtain ⟨hr1, hr2⟩ := uret_n h
        subst hr1
        subst hr2
        exact u_lret hC hP hS dX3_over_52
def f_X3_over (N b : Nat) (g : uEnv) (u : UH) (a0 : Nat) (x1 : Int32) (x2 : Int32) (x3 : Int32) (x4 : Int32) : Option (Int64 × UH) :=
    f_X3_over_6 N b g a0 N u x1 x2 x3 x4 0 0
set_option maxHeartbeats 4000000 in
set_option maxRecDepth 100000 in
theorem zz_X3_over_0 {G : uG} {a0 : Nat} {uf : UH} {r : Int64} (N : Nat) (u : UH) (x1 : Int32) (x2 : Int32) (x3 : Int32) (x4 : Int32) (h : f_X3_over N (ub G) (ug G) u a0 x1 x2 x3 x4 = some (r, uf)) : uf.1 = u.1 ∧ uf.2.1 = u.2.1 := by
  unfold f_X3_over at h
  have hq := zz_X3_over_6 (G := G) (a0 := a0) N N u x1 x2 x3 x4 0 0 h
  exact ⟨by omega, by omega⟩
set_option maxHeartbeats 4000000 in
set_option maxRecDepth 100000 in
theorem w_X3_over_0 {p : Program} {l : Launch} {e : Env} {R : Room} {s : State} {m : MethodId} {args : Array Value} {below : List Frame} {meth : Method} {c : Code} {G : uG} {a0 : Nat} {uf : UH} {r : Int64} (hC : uC p s m args meth c G RX3 cX3_over 10 (some .long)) (hR : 1 ≤ R.frames ∧ 22 ≤ R.locals) (N : Nat) (u : UH) (x1 : Int32) (x2 : Int32) (x3 : Int32) (x4 : Int32) (h : f_X3_over N (ub G) (ug G) u a0 x1 x2 x3 x4 = some (r, uf)) {H : Heap} {locs : List Loc} (hP : uP G u H) (hS : va_S (uA G) s.heap H locs) {ls : Array Slot} (hl : lv_has ls 10 [(0, va_rf (some a0)), (1, .int x1), (2, .int x2), (3, .int x3), (4, .int x4)]) : W p l e R s m args below meth c H locs 0 0 (MQ below (uQl G r uf) args s 0 0 (uA G)) (F0 m 0 ls []) := by
  obtain ⟨⟨hx, hb, hml, hown, hts⟩, hKK⟩ := id hC
  unfold f_X3_over at h
  refine lv_lconst (v := 0) hx hb dX3_over_0 (by decide) ?_
  refine lv_lstore (lv' := [(5, .long 0), (0, va_rf (some a0)), (1, .int x1), (2, .int x2), (3, .int x3), (4, .int x4)]) hx hb dX3_over_1 hl (by decide) rfl (fun ls hl => ?_)
  refine lv_iconst (v := 0) hx hb dX3_over_3 (by decide) ?_
  refine lv_istore (lv' := [(7, .int 0), (5, .long 0), (0, va_rf (some a0)), (1, .int x1), (2, .int x2), (3, .int x3), (4, .int x4)]) hx hb dX3_over_4 hl (by decide) rfl (fun ls hl => ?_)
  exact w_X3_over_6 hC hR N N u x1 x2 x3 x4 0 0 h _ _ hP hS _ (lv_sub hl [2, 3, 4, 5, 6, 1, 0] rfl)
theorem zz_X3_over (N b : Nat) (g : uEnv) (u : UH) (a0 : Nat) (x1 : Int32) (x2 : Int32) (x3 : Int32) (x4 : Int32) (r : Int64) (uf : UH) (h : f_X3_over N b g u a0 x1 x2 x3 x4 = some (r, uf)) : uf.1 = u.1 ∧ uf.2.1 = u.2.1 :=
  zz_X3_over_0 (G := ((fun _ => 0, fun _ _ => 0), fun _ => 0, b, g)) (a0 := a0) N u x1 x2 x3 x4 h
theorem met_X3_over (l : Launch) (N : Nat) (G : uG) (u : UH) (a0 : Nat) (x1 : Int32) (x2 : Int32) (x3 : Int32) (x4 : Int32) (r : Int64) (uf : UH) (h : f_X3_over N (ub G) (ug G) u a0 x1 x2 x3 x4 = some (r, uf)) : Met l yX3_over (ws_ yX3_over cX3_over 10 (some .long)) ({ frames := 1, cells := 0, slots := 0, locals := 22 }) (uPc G u [.ref a0, .int x1, .int x2, .int x3, .int x4]) (uQl G r uf) 0 0 (uA G) := by
  exact u_met (own := RX3) (by decide +kernel) rfl (Nat.le_of_ble_eq_true rfl) (fun hC hn hsz ls hl hP => w_X3_over_0 hC ⟨Nat.le_refl _, Nat.le_refl _⟩ N u x1 x2 x3 x4 h hP va_S.rf hl)
def f_X3_left_35 (N b : Nat) (g : uEnv) (a0 : Nat) (k5 : UH → Int32 → Int64 → Int32 → Option (Int64 × UH)) (u : UH) (x1 : Int32) (x4 : Int32) (s0 : Int64) : Option (Int64 × UH) :=
    mlet (x4 + 1) fun y1 =>
    k5 u x1 s0 y1
set_option maxHeartbeats 4000000 in
set_option maxRecDepth 100000 in
theorem zz_X3_left_35 {G : uG} {a0 : Nat} {uf : UH} {r : Int64} (N : Nat) (k5 : UH → Int32 → Int64 → Int32 → Option (Int64 × UH)) (hk5 : ∀ (u : UH) (x1 : Int32) (x2 : Int64) (x4 : Int32), k5 u x1 x2 x4 = some (r, uf) → uf.1 = u.1 ∧ uf.2.1 = u.2.1) (u : UH) (x1 : Int32) (x4 : Int32) (s0 : Int64) (h : f_X3_left_35 N (ub G) (ug G) a0 k5 u x1 x4 s0 = some (r, uf)) : uf.1 = u.1 ∧ uf.2.1 = u.2.1 := by
  unfold f_X3_left_35 at h
  obtain ⟨y1, ey1⟩ : ∃ z : Int32, z = x4 + 1 := ⟨_, rfl⟩
  have h := mlet_at ey1 h
  have hq := hk5 u x1 s0 y1 h
  exact ⟨by omega, by omega⟩
set_option maxHeartbeats 4000000 in
set_option maxRecDepth 100000 in
theorem w_X3_left_35 {p : Program} {l : Launch} {e : Env} {R : Room} {s : State} {m : MethodId} {args : Array Value} {below : List Frame} {meth : Method} {c : Code} {G : uG} {a0 : Nat} {uf : UH} {r : Int64} (hC : uC p s m args meth c G RX3 cX3_left 5 (some .long)) (hR : 2 ≤ R.frames ∧ 46 ≤ R.locals) (N : Nat) (k5 : UH → Int32 → Int64 → Int32 → Option (Int64 × UH)) (hk5 : ∀ (u : UH) (x1 : Int32) (x2 : Int64) (x4 : Int32), k5 u x1 x2 x4 = some (r, uf) → ∀ (H : Heap) (locs : List Loc), uP G u H → va_S (uA G) s.heap H locs → ∀ ls : Array Slot, lv_has ls 5 [(0, va_rf (some a0)), (1, .int x1), (2, .long x2), (4, .int x4)] → W p l e R s m args below meth c H locs 0 0 (MQ below (uQl G r uf) args s 0 0 (uA G)) (F0 m 5 ls [])) (u : UH) (x1 : Int32) (x4 : Int32) (s0 : Int64) (h : f_X3_left_35 N (ub G) (ug G) a0 k5 u x1 x4 s0 = some (r, uf)) {H : Heap} {locs : List Loc} (hP : uP G u H) (hS : va_S (uA G) s.heap H locs) {ls : Array Slot} (hl : lv_has ls 5 [(0, va_rf (some a0)), (1, .int x1), (4, .int x4)]) : W p l e R s m args below meth c H locs 0 0 (MQ below (uQl G r uf) args s 0 0 (uA G)) (F0 m 35 ls [.long s0]) := by
  obtain ⟨⟨hx, hb, hml, hown, hts⟩, hKK⟩ := id hC
  unfold f_X3_left_35 at h
  refine lv_lstore_n (i := 2) (lv' := [(2, .long s0), (0, va_rf (some a0)), (1, .int x1), (4, .int x4)]) hx hb dX3_left_35 rfl hl (by decide) rfl (fun ls hl => ?_)
  obtain ⟨y1, ey1⟩ : ∃ z : Int32, z = x4 + 1 := ⟨_, rfl⟩
  have h := mlet_at ey1 h
  refine lv_iinc (v := y1) (lv' := [(4, .int y1), (2, .long s0), (0, va_rf (some a0)), (1, .int x1)]) hx hb dX3_left_36 hl (k := 3) rfl (by rw [ey1]; rfl) (by decide) rfl (fun ls hl => ?_)
  refine lv_goto (tgt := 5) hx hb dX3_left_39 (by decide) ?_
  exact hk5 u x1 s0 y1 h _ _ hP hS _ (lv_sub hl [2, 3, 1, 0] rfl)
def f_X3_left_5 (N b : Nat) (g : uEnv) (a0 : Nat) : Nat → UH → Int32 → Int64 → Int32 → Option (Int64 × UH)
  | 0, _, _, _, _ => none
  | n + 1, u, x1, x2, x4 =>
    (uGI u a0 2 37).bind fun y1 =>
    if y1 ≤ x4 then
    some (x2, u)
    else
    ucall (f_X3_digit N b g u x1 x4) fun r5 u3 =>
    if r5 = 0 then
    if uIs u3 a0 2 = true then
    ucall (f_X3_allOf N b g u3 a0 x4) fun r10 u8 =>
    f_X3_left_35 N b g a0 (f_X3_left_5 N b g a0 n) u8 x1 x4 (x2 * r10)
    else none
    else
    f_X3_left_35 N b g a0 (f_X3_left_5 N b g a0 n) u3 x1 x4 x2
set_option maxHeartbeats 4000000 in
set_option maxRecDepth 100000 in
theorem zz_X3_left_5 {G : uG} {a0 : Nat} {uf : UH} {r : Int64} (N : Nat) : ∀ (n : Nat) (u : UH) (x1 : Int32) (x2 : Int64) (x4 : Int32), f_X3_left_5 N (ub G) (ug G) a0 n u x1 x2 x4 = some (r, uf) → uf.1 = u.1 ∧ uf.2.1 = u.2.1 := by
  intro n
  induction n with
  | zero =>
    intro u x1 x2 x4 h
    cases h
  | succ n ih =>
    intro u x1 x2 x4 h
    unfold f_X3_left_5 at h
    obtain ⟨y1, hy1, h⟩ := mbind_n h
    by_cases c2 : y1 ≤ x4
    · have h := mif_t c2 h
      obtain ⟨hr1, hr2⟩ := uret_n h
      subst hr2
      exact ⟨by omega, by omega⟩
    · have h := mif_f c2 h
      obtain ⟨r5, u3, c4, h⟩ := ucall_n h
      have zu3 := zz_X3_digit N (ub G) (ug G) u x1 x4 r5 u3 c4
      by_cases c6 : r5 = 0
      · have h := mif_t c6 h
        obtain ⟨c7, h⟩ := mif_n h
        obtain ⟨r10, u8, c9, h⟩ := ucall_n h
        have zu8 := zz_X3_allOf N (ub G) (ug G) u3 a0 x4 r10 u8 c9
        have hq := zz_X3_left_35 (G := G) (a0 := a0) N (f_X3_left_5 N (ub G) (ug G) a0 n) ih u8 x1 x4 (x2 * r10) h
        exact ⟨by omega, by omega⟩
      · have h := mif_f c6 h
        have hq := zz_X3_left_35 (G := G) (a0 := a0) N (f_X3_left_5 N (ub G) (ug G) a0 n) ih u3 x1 x4 x2 h
        exact ⟨by omega, by omega⟩
set_option maxHeartbeats 4000000 in
set_option maxRecDepth 100000 in
theorem w_X3_left_5 {p : Program} {l : Launch} {e : Env} {R : Room} {s : State} {m : MethodId} {args : Array Value} {below : List Frame} {meth : Method} {c : Code} {G : uG} {a0 : Nat} {uf : UH} {r : Int64} (hC : uC p s m args meth c G RX3 cX3_left 5 (some .long)) (hR : 2 ≤ R.frames ∧ 46 ≤ R.locals) (N : Nat) : ∀ (n : Nat) (u : UH) (x1 : Int32) (x2 : Int64) (x4 : Int32), f_X3_left_5 N (ub G) (ug G) a0 n u x1 x2 x4 = some (r, uf) → ∀ (H : Heap) (locs : List Loc), uP G u H → va_S (uA G) s.heap H locs → ∀ ls : Array Slot, lv_has ls 5 [(0, va_rf (some a0)), (1, .int x1), (2, .long x2), (4, .int x4)] → W p l e R s m args below meth c H locs 0 0 (MQ below (uQl G r uf) args s 0 0 (uA G)) (F0 m 5 ls []) := by
  obtain ⟨⟨hx, hb, hml, hown, hts⟩, hKK⟩ := id hC
  intro n
  induction n with
  | zero =>
    intro u x1 x2 x4 h
    cases h
  | succ n ih =>
    intro u x1 x2 x4 h H locs hP hS ls hl
    unfold f_X3_left_5 at h
    refine lv_iload hx hb dX3_left_5 (lv_at hl 3 rfl) ?_
    refine u_aload_n (r := some a0) hx hb dX3_left_7 rfl (lv_at hl 0 rfl) ?_
    obtain ⟨y1, hy1, h⟩ := mbind_n h
    refine u_get hC hP (uGI_n hy1) rfl in_X3 (by decide) q1930 (fun _ h => h) dX3_left_8 ?_
    refine lv_icmp_ge (tgt := 42) hx hb dX3_left_11 (by decide) (fun c2 => ?_) (fun c2 => ?_)
    · have h := mif_t c2 h
      refine lv_lload_n hx hb dX3_left_42 rfl (lv_at hl 2 rfl) ?_
      obtain ⟨hr1, hr2⟩ := uret_n h
      subst hr1
      subst hr2
      exact u_lret hC hP hS dX3_left_43
    · have h := mif_f c2 h
      refine lv_iload_n hx hb dX3_left_14 rfl (lv_at hl 1 rfl) ?_
      refine lv_iload hx hb dX3_left_15 (lv_at hl 3 rfl) ?_
      obtain ⟨r5, u3, c4, h⟩ := ucall_n h
      have zu3 := zz_X3_digit N (ub G) (ug G) u x1 x4 r5 u3 c4
      refine u_calli (va_runS (As := [.int x1, .int x4]) (rest := []) hC.1 (met_X3_digit l N G u x1 x4 r5 u3 c4) (va_cwS 2 hts (lw_S q2360 q2361 q103 q2362) rfl rfl rfl (by decide +kernel) ⟨Nat.le_trans (Nat.le_of_ble_eq_true rfl) hR.1, Nat.le_trans (Nat.le_of_ble_eq_true rfl) hR.2⟩) ⟨uPc_blind, fun U hU hW => u_pre hC hP hS hU hW⟩ rfl rfl hl.1 rfl (lv_room (Nat.le_of_ble_eq_true rfl)) dX3_left_17 ⟨Nat.zero_le _, Nat.zero_le _⟩) hS (fun H locs hP hS => ?_)
      refine lv_if_ne (tgt := 34) hx hb dX3_left_20 (by decide) (fun c6 => ?_) (fun c6 => ?_)
      · have h := mif_f c6 h
        refine lv_lload_n hx hb dX3_left_34 rfl (lv_at hl 2 rfl) ?_
        exact w_X3_left_35 hC hR N (f_X3_left_5 N (ub G) (ug G) a0 n) ih u3 x1 x4 x2 h hP hS (lv_sub hl [0, 1, 3] rfl)
      · have h := mif_t c6 h
        refine lv_lload_n hx hb dX3_left_23 rfl (lv_at hl 2 rfl) ?_
        refine u_aload_n (r := some a0) hx hb dX3_left_24 rfl (lv_at hl 0 rfl) ?_
        refine lv_iload hx hb dX3_left_25 (lv_at hl 3 rfl) ?_
        obtain ⟨c7, h⟩ := mif_n h
        obtain ⟨r10, u8, c9, h⟩ := ucall_n h
        have zu8 := zz_X3_allOf N (ub G) (ug G) u3 a0 x4 r10 u8 c9
        refine u_calll (va_runV (As := [.int x4]) (rest := [.long x2]) hC.1 (met_X3_allOf l N G u3 a0 x4 r10 u8 c9) (cwV 1 hts (lw_V q2391 q2393 qs79 q103 q2394) rfl rfl rfl (by decide +kernel) ⟨Nat.le_trans (Nat.le_of_ble_eq_true rfl) hR.1, Nat.le_trans (Nat.le_of_ble_eq_true rfl) hR.2⟩) ⟨uPc_blind, u_rcv hC hP c7 rfl, fun U hU hW => u_pre hC hP hS hU hW⟩ rfl rfl hl.1 rfl (lv_room (Nat.le_of_ble_eq_true rfl)) dX3_left_27 ⟨Nat.zero_le _, Nat.zero_le _⟩) hS (fun H locs hP hS => ?_)
        refine lv_lmul hx hb dX3_left_30 ?_
        refine lv_goto (tgt := 35) hx hb dX3_left_31 (by decide) ?_
        exact w_X3_left_35 hC hR N (f_X3_left_5 N (ub G) (ug G) a0 n) ih u8 x1 x4 (x2 * r10) h hP hS (lv_sub hl [0, 1, 3] rfl)
def f_X3_left (N b : Nat) (g : uEnv) (u : UH) (a0 : Nat) (x1 : Int32) : Option (Int64 × UH) :=
    f_X3_left_5 N b g a0 N u x1 1 0
set_option maxHeartbeats 4000000 in
set_option maxRecDepth 100000 in
theorem zz_X3_left_0 {G : uG} {a0 : Nat} {uf : UH} {r : Int64} (N : Nat) (u : UH) (x1 : Int32) (h : f_X3_left N (ub G) (ug G) u a0 x1 = some (r, uf)) : uf.1 = u.1 ∧ uf.2.1 = u.2.1 := by
  unfold f_X3_left at h
  have hq := zz_X3_left_5 (G := G) (a0 := a0) N N u x1 1 0 h
  exact ⟨by omega, by omega⟩
set_option maxHeartbeats 4000000 in
set_option maxRecDepth 100000 in
theorem w_X3_left_0 {p : Program} {l : Launch} {e : Env} {R : Room} {s : State} {m : MethodId} {args : Array Value} {below : List Frame} {meth : Method} {c : Code} {G : uG} {a0 : Nat} {uf : UH} {r : Int64} (hC : uC p s m args meth c G RX3 cX3_left 5 (some .long)) (hR : 2 ≤ R.frames ∧ 46 ≤ R.locals) (N : Nat) (u : UH) (x1 : Int32) (h : f_X3_left N (ub G) (ug G) u a0 x1 = some (r, uf)) {H : Heap} {locs : List Loc} (hP : uP G u H) (hS : va_S (uA G) s.heap H locs) {ls : Array Slot} (hl : lv_has ls 5 [(0, va_rf (some a0)), (1, .int x1)]) : W p l e R s m args below meth c H locs 0 0 (MQ below (uQl G r uf) args s 0 0 (uA G)) (F0 m 0 ls []) := by
  obtain ⟨⟨hx, hb, hml, hown, hts⟩, hKK⟩ := id hC
  unfold f_X3_left at h
  refine lv_lconst (v := 1) hx hb dX3_left_0 (by decide) ?_
  refine lv_lstore_n (i := 2) (lv' := [(2, .long 1), (0, va_rf (some a0)), (1, .int x1)]) hx hb dX3_left_1 rfl hl (by decide) rfl (fun ls hl => ?_)
  refine lv_iconst (v := 0) hx hb dX3_left_2 (by decide) ?_
  refine lv_istore (lv' := [(4, .int 0), (2, .long 1), (0, va_rf (some a0)), (1, .int x1)]) hx hb dX3_left_3 hl (by decide) rfl (fun ls hl => ?_)
  exact w_X3_left_5 hC hR N N u x1 1 0 h _ _ hP hS _ (lv_sub hl [2, 3, 1, 0] rfl)
theorem zz_X3_left (N b : Nat) (g : uEnv) (u : UH) (a0 : Nat) (x1 : Int32) (r : Int64) (uf : UH) (h : f_X3_left N b g u a0 x1 = some (r, uf)) : uf.1 = u.1 ∧ uf.2.1 = u.2.1 :=
  zz_X3_left_0 (G := ((fun _ => 0, fun _ _ => 0), fun _ => 0, b, g)) (a0 := a0) N u x1 h
theorem met_X3_left (l : Launch) (N : Nat) (G : uG) (u : UH) (a0 : Nat) (x1 : Int32) (r : Int64) (uf : UH) (h : f_X3_left N (ub G) (ug G) u a0 x1 = some (r, uf)) : Met l yX3_left (ws_ yX3_left cX3_left 5 (some .long)) ({ frames := 2, cells := 0, slots := 0, locals := 46 }) (uPc G u [.ref a0, .int x1]) (uQl G r uf) 0 0 (uA G) := by
  exact u_met (own := RX3) (by decide +kernel) rfl (Nat.le_of_ble_eq_true rfl) (fun hC hn hsz ls hl hP => w_X3_left_0 hC ⟨Nat.le_refl _, Nat.le_refl _⟩ N u x1 h hP va_S.rf hl)
def f_X3_lower_109 (N b : Nat) (g : uEnv) (a0 : Nat) (k16 : UH → Int32 → Int32 → Int64 → Int64 → Int32 → Option (Int64 × UH)) (u : UH) (x1 : Int32) (x2 : Int32) (x3 : Int64) (x5 : Int64) (x7 : Int32) : Option (Int64 × UH) :=
    mlet (x7 + 1) fun y1 =>
    k16 u x1 x2 x3 x5 y1
set_option maxHeartbeats 4000000 in
set_option maxRecDepth 100000 in
theorem zz_X3_lower_109 {G : uG} {a0 : Nat} {uf : UH} {r : Int64} (N : Nat) (k16 : UH → Int32 → Int32 → Int64 → Int64 → Int32 → Option (Int64 × UH)) (hk16 : ∀ (u : UH) (x1 : Int32) (x2 : Int32) (x3 : Int64) (x5 : Int64) (x7 : Int32), k16 u x1 x2 x3 x5 x7 = some (r, uf) → uf.1 = u.1 ∧ uf.2.1 = u.2.1) (u : UH) (x1 : Int32) (x2 : Int32) (x3 : Int64) (x5 : Int64) (x7 : Int32) (h : f_X3_lower_109 N (ub G) (ug G) a0 k16 u x1 x2 x3 x5 x7 = some (r, uf)) : uf.1 = u.1 ∧ uf.2.1 = u.2.1 := by
  unfold f_X3_lower_109 at h
  obtain ⟨y1, ey1⟩ : ∃ z : Int32, z = x7 + 1 := ⟨_, rfl⟩
  have h := mlet_at ey1 h
  have hq := hk16 u x1 x2 x3 x5 y1 h
  exact ⟨by omega, by omega⟩
set_option maxHeartbeats 4000000 in
set_option maxRecDepth 100000 in
theorem w_X3_lower_109 {p : Program} {l : Launch} {e : Env} {R : Room} {s : State} {m : MethodId} {args : Array Value} {below : List Frame} {meth : Method} {c : Code} {G : uG} {a0 : Nat} {uf : UH} {r : Int64} (hC : uC p s m args meth c G RX3 cX3_lower 10 (some .long)) (hR : 2 ≤ R.frames ∧ 46 ≤ R.locals) (N : Nat) (k16 : UH → Int32 → Int32 → Int64 → Int64 → Int32 → Option (Int64 × UH)) (hk16 : ∀ (u : UH) (x1 : Int32) (x2 : Int32) (x3 : Int64) (x5 : Int64) (x7 : Int32), k16 u x1 x2 x3 x5 x7 = some (r, uf) → ∀ (H : Heap) (locs : List Loc), uP G u H → va_S (uA G) s.heap H locs → ∀ ls : Array Slot, lv_has ls 10 [(0, va_rf (some a0)), (1, .int x1), (2, .int x2), (3, .long x3), (5, .long x5), (7, .int x7)] → W p l e R s m args below meth c H locs 0 0 (MQ below (uQl G r uf) args s 0 0 (uA G)) (F0 m 16 ls [])) (u : UH) (x1 : Int32) (x2 : Int32) (x3 : Int64) (x5 : Int64) (x7 : Int32) (h : f_X3_lower_109 N (ub G) (ug G) a0 k16 u x1 x2 x3 x5 x7 = some (r, uf)) {H : Heap} {locs : List Loc} (hP : uP G u H) (hS : va_S (uA G) s.heap H locs) {ls : Array Slot} (hl : lv_has ls 10 [(0, va_rf (some a0)), (1, .int x1), (2, .int x2), (3, .long x3), (5, .long x5), (7, .int x7)]) : W p l e R s m args below meth c H locs 0 0 (MQ below (uQl G r uf) args s 0 0 (uA G)) (F0 m 109 ls []) := by
  obtain ⟨⟨hx, hb, hml, hown, hts⟩, hKK⟩ := id hC
  unfold f_X3_lower_109 at h
  obtain ⟨y1, ey1⟩ : ∃ z : Int32, z = x7 + 1 := ⟨_, rfl⟩
  have h := mlet_at ey1 h
  refine lv_iinc (v := y1) (lv' := [(7, .int y1), (0, va_rf (some a0)), (1, .int x1), (2, .int x2), (3, .long x3), (5, .long x5)]) hx hb dX3_lower_109 hl (k := 5) rfl (by rw [ey1]; rfl) (by decide) rfl (fun ls hl => ?_)
  refine lv_goto (tgt := 16) hx hb dX3_lower_112 (by decide) ?_
  exact hk16 u x1 x2 x3 x5 y1 h _ _ hP hS _ (lv_sub hl [1, 2, 3, 4, 5, 0] rfl)
def f_X3_lower_16 (N b : Nat) (g : uEnv) (a0 : Nat) : Nat → UH → Int32 → Int32 → Int64 → Int64 → Int32 → Option (Int64 × UH)
  | 0, _, _, _, _, _, _ => none
  | n + 1, u, x1, x2, x3, x5, x7 =>
    if 4 ≤ x7 then
    some (x5, u)
    else
    (uGR u a0 2 70).bind fun o2 =>
    (o2).bind fun a3 =>
    (uLdI u a3 0 ((4 * x2) + x7)).bind fun y4 =>
    if y4 = 0 then
    f_X3_lower_109 N b g a0 (f_X3_lower_16 N b g a0 n) u x1 x2 x3 x5 x7
    else
    (uGR u a0 2 48).bind fun o6 =>
    if uIs u a0 2 = true then
    ucall (f_X3_beside N b g u a0 x2 x7) fun r10 u8 =>
    (o6).bind fun a11 =>
    (uLdL u8 a11 3 ((100 * x1) + r10)).bind fun y12 =>
    if 0 ≤ (lg_cmp y12 1000000000000000) then
    f_X3_lower_109 N b g a0 (f_X3_lower_16 N b g a0 n) u8 x1 x2 x3 x5 x7
    else
    (uGR u8 a0 2 70).bind fun o14 =>
    (o14).bind fun a15 =>
    (uLdI u8 a15 0 ((4 * x2) + x7)).bind fun y16 =>
    if 0 ≤ (lg_cmp (y12 + (x3 * (y16.toInt64))) x5) then
    f_X3_lower_109 N b g a0 (f_X3_lower_16 N b g a0 n) u8 x1 x2 x3 x5 x7
    else
    (uGR u8 a0 2 70).bind fun o18 =>
    (o18).bind fun a19 =>
    (uLdI u8 a19 0 ((4 * x2) + x7)).bind fun y20 =>
    mlet (y12 + (x3 * (y20.toInt64))) fun y21 =>
    f_X3_lower_109 N b g a0 (f_X3_lower_16 N b g a0 n) u8 x1 x2 x3 y21 x7
    else none
set_option maxHeartbeats 4000000 in
set_option maxRecDepth 100000 in
theorem zz_X3_lower_16 {G : uG} {a0 : Nat} {uf : UH} {r : Int64} (N : Nat) : ∀ (n : Nat) (u : UH) (x1 : Int32) (x2 : Int32) (x3 : Int64) (x5 : Int64) (x7 : Int32), f_X3_lower_16 N (ub G) (ug G) a0 n u x1 x2 x3 x5 x7 = some (r, uf) → uf.1 = u.1 ∧ uf.2.1 = u.2.1 := by
  intro n
  induction n with
  | zero =>
    intro u x1 x2 x3 x5 x7 h
    cases h
  | succ n ih =>
    intro u x1 x2 x3 x5 x7 h
    unfold f_X3_lower_16 at h
    by_cases c1 : 4 ≤ x7
    · have h := mif_t c1 h
      obtain ⟨hr1, hr2⟩ := uret_n h
      subst hr2
      exact ⟨by omega, by omega⟩
    · have h := mif_f c1 h
      obtain ⟨o2, ho2, h⟩ := mbind_n h
      obtain ⟨a3, ha3, hha3⟩ := mbind_n h
      subst ha3
      have h := hha3
      obtain ⟨y4, hy4, h⟩ := mbind_n h
      by_cases c5 : y4 = 0
      · have h := mif_t c5 h
        have hq := zz_X3_lower_109 (G := G) (a0 := a0) N (f_X3_lower_16 N (ub G) (ug G) a0 n) ih u x1 x2 x3 x5 x7 h
        exact ⟨by omega, by omega⟩
      · have h := mif_f c5 h
        obtain ⟨o6, ho6, h⟩ := mbind_n h
        obtain ⟨c7, h⟩ := mif_n h
        obtain ⟨r10, u8, c9, h⟩ := ucall_n h
        have zu8 := zz_X3_beside N (ub G) (ug G) u a0 x2 x7 r10 u8 c9
        obtain ⟨a11, ha11, hha11⟩ := mbind_n h
        subst ha11
        have h := hha11
        obtain ⟨y12, hy12, h⟩ := mbind_n h
        by_cases c13 : 0 ≤ (lg_cmp y12 1000000000000000)
        · have h := mif_t c13 h
          have hq := zz_X3_lower_109 (G := G) (a0 := a0) N (f_X3_lower_16 N (ub G) (ug G) a0 n) ih u8 x1 x2 x3 x5 x7 h
          exact ⟨by omega, by omega⟩
        · have h := mif_f c13 h
          obtain ⟨o14, ho14, h⟩ := mbind_n h
          obtain ⟨a15, ha15, hha15⟩ := mbind_n h
          subst ha15
          have h := hha15
          obtain ⟨y16, hy16, h⟩ := mbind_n h
          by_cases c17 : 0 ≤ (lg_cmp (y12 + (x3 * (y16.toInt64))) x5)
          · have h := mif_t c17 h
            have hq := zz_X3_lower_109 (G := G) (a0 := a0) N (f_X3_lower_16 N (ub G) (ug G) a0 n) ih u8 x1 x2 x3 x5 x7 h
            exact ⟨by omega, by omega⟩
          · have h := mif_f c17 h
            obtain ⟨o18, ho18, h⟩ := mbind_n h
            obtain ⟨a19, ha19, hha19⟩ := mbind_n h
            subst ha19
            have h := hha19
            obtain ⟨y20, hy20, h⟩ := mbind_n h
            obtain ⟨y21, ey21⟩ : ∃ z, z = y12 + (x3 * (y20.toInt64)) := ⟨_, rfl⟩
            have h := mlet_at ey21 h
            have hq := zz_X3_lower_109 (G := G) (a0 := a0) N (f_X3_lower_16 N (ub G) (ug G) a0 n) ih u8 x1 x2 x3 y21 x7 h
            exact ⟨by omega, by omega⟩
set_option maxHeartbeats 4000000 in
set_option maxRecDepth 100000 in
theorem w_X3_lower_16 {p : Program} {l : Launch} {e : Env} {R : Room} {s : State} {m : MethodId} {args : Array Value} {below : List Frame} {meth : Method} {c : Code} {G : uG} {a0 : Nat} {uf : UH} {r : Int64} (hC : uC p s m args meth c G RX3 cX3_lower 10 (some .long)) (hR : 2 ≤ R.frames ∧ 46 ≤ R.locals) (N : Nat) : ∀ (n : Nat) (u : UH) (x1 : Int32) (x2 : Int32) (x3 : Int64) (x5 : Int64) (x7 : Int32), f_X3_lower_16 N (ub G) (ug G) a0 n u x1 x2 x3 x5 x7 = some (r, uf) → ∀ (H : Heap) (locs : List Loc), uP G u H → va_S (uA G) s.heap H locs → ∀ ls : Array Slot, lv_has ls 10 [(0, va_rf (some a0)), (1, .int x1), (2, .int x2), (3, .long x3), (5, .long x5), (7, .int x7)] → W p l e R s m args below meth c H locs 0 0 (MQ below (uQl G r uf) args s 0 0 (uA G)) (F0 m 16 ls []) := by
  obtain ⟨⟨hx, hb, hml, hown, hts⟩, hKK⟩ := id hC
  intro n
  induction n with
  | zero =>
    intro u x1 x2 x3 x5 x7 h
    cases h
  | succ n ih =>
    intro u x1 x2 x3 x5 x7 h H locs hP hS ls hl
    unfold f_X3_lower_16 at h
    refine lv_iload hx hb dX3_lower_16 (lv_at hl 5 rfl) ?_
    refine lv_iconst (v := 4) hx hb dX3_lower_18 (by decide) ?_
    refine lv_icmp_ge (tgt := 115) hx hb dX3_lower_19 (by decide) (fun c1 => ?_) (fun c1 => ?_)
    · have h := mif_t c1 h
      refine lv_lload hx hb dX3_lower_115 (lv_at hl 4 rfl) ?_
      obtain ⟨hr1, hr2⟩ := uret_n h
      subst hr1
      subst hr2
      exact u_lret hC hP hS dX3_lower_117
    · have h := mif_f c1 h
      refine u_aload_n (r := some a0) hx hb dX3_lower_22 rfl (lv_at hl 0 rfl) ?_
      obtain ⟨o2, ho2, h⟩ := mbind_n h
      refine u_get hC hP (uGR_n ho2) rfl in_X3 (by decide) q1963 (fun _ h => h) dX3_lower_23 ?_
      refine lv_iconst (v := 4) hx hb dX3_lower_26 (by decide) ?_
      refine lv_iload_n hx hb dX3_lower_27 rfl (lv_at hl 2 rfl) ?_
      refine lv_imul hx hb dX3_lower_28 ?_
      refine lv_iload hx hb dX3_lower_29 (lv_at hl 5 rfl) ?_
      refine lv_iadd hx hb dX3_lower_31 ?_
      obtain ⟨a3, ha3, hha3⟩ := mbind_n h
      subst ha3
      have h := hha3
      obtain ⟨y4, hy4, h⟩ := mbind_n h
      refine u_iald hC hP hy4 rfl dX3_lower_32 ?_
      refine lv_if_ne (tgt := 39) hx hb dX3_lower_33 (by decide) (fun c5 => ?_) (fun c5 => ?_)
      · have h := mif_f c5 h
        refine u_aload_n (r := some a0) hx hb dX3_lower_39 rfl (lv_at hl 0 rfl) ?_
        obtain ⟨o6, ho6, h⟩ := mbind_n h
        refine u_get hC hP (uGR_n ho6) rfl in_X3 (by decide) q1941 (fun _ h => h) dX3_lower_40 ?_
        refine lv_bipush (v := 100) hx hb dX3_lower_43 (by decide) ?_
        refine lv_iload_n hx hb dX3_lower_45 rfl (lv_at hl 1 rfl) ?_
        refine lv_imul hx hb dX3_lower_46 ?_
        refine u_aload_n (r := some a0) hx hb dX3_lower_47 rfl (lv_at hl 0 rfl) ?_
        refine lv_iload_n hx hb dX3_lower_48 rfl (lv_at hl 2 rfl) ?_
        refine lv_iload hx hb dX3_lower_49 (lv_at hl 5 rfl) ?_
        obtain ⟨c7, h⟩ := mif_n h
        obtain ⟨r10, u8, c9, h⟩ := ucall_n h
        have zu8 := zz_X3_beside N (ub G) (ug G) u a0 x2 x7 r10 u8 c9
        refine u_calli (va_runV (As := [.int x2, .int x7]) (rest := [.int (100 * x1), va_rf o6]) hC.1 (met_X3_beside l N G u a0 x2 x7 r10 u8 c9) (cwV 2 hts (lw_V q2316 q2318 qs63 q103 q2319) rfl rfl rfl (by decide +kernel) ⟨Nat.le_trans (Nat.le_of_ble_eq_true rfl) hR.1, Nat.le_trans (Nat.le_of_ble_eq_true rfl) hR.2⟩) ⟨uPc_blind, u_rcv hC hP c7 rfl, fun U hU hW => u_pre hC hP hS hU hW⟩ rfl rfl hl.1 rfl (lv_room (by simp only [List.map, u_cat]; exact Nat.le_of_ble_eq_true rfl)) dX3_lower_51 ⟨Nat.zero_le _, Nat.zero_le _⟩) hS (fun H locs hP hS => ?_)
        refine lv_iadd hx hb dX3_lower_54 ?_
        obtain ⟨a11, ha11, hha11⟩ := mbind_n h
        subst ha11
        have h := hha11
        obtain ⟨y12, hy12, h⟩ := mbind_n h
        refine u_lald hC hP hy12 rfl dX3_lower_55 ?_
        refine lv_lstore (lv' := [(8, .long y12), (0, va_rf (some a0)), (1, .int x1), (2, .int x2), (3, .long x3), (5, .long x5), (7, .int x7)]) hx hb dX3_lower_56 hl (by decide) rfl (fun ls hl => ?_)
        refine lv_lload hx hb dX3_lower_58 (lv_at hl 0 rfl) ?_
        refine lv_ldc2 hx hb hown (hts _ q2375) dX3_lower_60 ?_
        refine W.lcmp hx hb dX3_lower_63 ?_
        refine lv_if_ge (tgt := 109) hx hb dX3_lower_64 (by decide) (fun c13 => ?_) (fun c13 => ?_)
        · have h := mif_t c13 h
          exact w_X3_lower_109 hC hR N (f_X3_lower_16 N (ub G) (ug G) a0 n) ih u8 x1 x2 x3 x5 x7 h hP hS (lv_sub hl [1, 2, 3, 4, 5, 6] rfl)
        · have h := mif_f c13 h
          refine lv_lload hx hb dX3_lower_67 (lv_at hl 0 rfl) ?_
          refine lv_lload_n hx hb dX3_lower_69 rfl (lv_at hl 4 rfl) ?_
          refine u_aload_n (r := some a0) hx hb dX3_lower_70 rfl (lv_at hl 1 rfl) ?_
          obtain ⟨o14, ho14, h⟩ := mbind_n h
          refine u_get hC hP (uGR_n ho14) rfl in_X3 (by decide) q1963 (fun _ h => h) dX3_lower_71 ?_
          refine lv_iconst (v := 4) hx hb dX3_lower_74 (by decide) ?_
          refine lv_iload_n hx hb dX3_lower_75 rfl (lv_at hl 3 rfl) ?_
          refine lv_imul hx hb dX3_lower_76 ?_
          refine lv_iload hx hb dX3_lower_77 (lv_at hl 6 rfl) ?_
          refine lv_iadd hx hb dX3_lower_79 ?_
          obtain ⟨a15, ha15, hha15⟩ := mbind_n h
          subst ha15
          have h := hha15
          obtain ⟨y16, hy16, h⟩ := mbind_n h
          refine u_iald hC hP hy16 rfl dX3_lower_80 ?_
          refine lv_i2l (v := y16.toInt64) hx hb dX3_lower_81 rfl ?_
          refine lv_lmul hx hb dX3_lower_82 ?_
          refine lv_ladd hx hb dX3_lower_83 ?_
          refine lv_lload hx hb dX3_lower_84 (lv_at hl 5 rfl) ?_
          refine W.lcmp hx hb dX3_lower_86 ?_
          refine lv_if_ge (tgt := 109) hx hb dX3_lower_87 (by decide) (fun c17 => ?_) (fun c17 => ?_)
          · have h := mif_t c17 h
            exact w_X3_lower_109 hC hR N (f_X3_lower_16 N (ub G) (ug G) a0 n) ih u8 x1 x2 x3 x5 x7 h hP hS (lv_sub hl [1, 2, 3, 4, 5, 6] rfl)
          · have h := mif_f c17 h
            refine lv_lload hx hb dX3_lower_90 (lv_at hl 0 rfl) ?_
            refine lv_lload_n hx hb dX3_lower_92 rfl (lv_at hl 4 rfl) ?_
            refine u_aload_n (r := some a0) hx hb dX3_lower_93 rfl (lv_at hl 1 rfl) ?_
            obtain ⟨o18, ho18, h⟩ := mbind_n h
            refine u_get hC hP (uGR_n ho18) rfl in_X3 (by decide) q1963 (fun _ h => h) dX3_lower_94 ?_
            refine lv_iconst (v := 4) hx hb dX3_lower_97 (by decide) ?_
            refine lv_iload_n hx hb dX3_lower_98 rfl (lv_at hl 3 rfl) ?_
            refine lv_imul hx hb dX3_lower_99 ?_
            refine lv_iload hx hb dX3_lower_100 (lv_at hl 6 rfl) ?_
            refine lv_iadd hx hb dX3_lower_102 ?_
            obtain ⟨a19, ha19, hha19⟩ := mbind_n h
            subst ha19
            have h := hha19
            obtain ⟨y20, hy20, h⟩ := mbind_n h
            refine u_iald hC hP hy20 rfl dX3_lower_103 ?_
            refine lv_i2l (v := y20.toInt64) hx hb dX3_lower_104 rfl ?_
            refine lv_lmul hx hb dX3_lower_105 ?_
            refine lv_ladd hx hb dX3_lower_106 ?_
            refine lv_topl (fun y21 ey21 => ?_)
            have h := mlet_at ey21 h
            refine lv_lstore (lv' := [(5, .long y21), (8, .long y12), (0, va_rf (some a0)), (1, .int x1), (2, .int x2), (3, .long x3), (7, .int x7)]) hx hb dX3_lower_107 hl (by decide) rfl (fun ls hl => ?_)
            exact w_X3_lower_109 hC hR N (f_X3_lower_16 N (ub G) (ug G) a0 n) ih u8 x1 x2 x3 y21 x7 h hP hS (lv_sub hl [2, 3, 4, 5, 0, 6] rfl)
      · have h := mif_t c5 h
        refine lv_goto (tgt := 109) hx hb dX3_lower_36 (by decide) ?_
        exact w_X3_lower_109 hC hR N (f_X3_lower_16 N (ub G) (ug G) a0 n) ih u x1 x2 x3 x5 x7 h hP hS (lv_sub hl [0, 1, 2, 3, 4, 5] rfl)
def f_X3_lower (N b : Nat) (g : uEnv) (u : UH) (a0 : Nat) (x1 : Int32) (x2 : Int32) (x3 : Int64) : Option (Int64 × UH) :=
    (uGR u a0 2 48).bind fun o1 =>
    (o1).bind fun a2 =>
    (uLdL u a2 3 ((100 * x1) + x2)).bind fun y3 =>
    f_X3_lower_16 N b g a0 N u x1 x2 x3 y3 0
set_option maxHeartbeats 4000000 in
set_option maxRecDepth 100000 in
theorem zz_X3_lower_0 {G : uG} {a0 : Nat} {uf : UH} {r : Int64} (N : Nat) (u : UH) (x1 : Int32) (x2 : Int32) (x3 : Int64) (h : f_X3_lower N (ub G) (ug G) u a0 x1 x2 x3 = some (r, uf)) : uf.1 = u.1 ∧ uf.2.1 = u.2.1 := by
  unfold f_X3_lower at h
  obtain ⟨o1, ho1, h⟩ := mbind_n h
  obtain ⟨a2, ha2, hha2⟩ := mbind_n h
  subst ha2
  have h := hha2
  obtain ⟨y3, hy3, h⟩ := mbind_n h
  have hq := zz_X3_lower_16 (G := G) (a0 := a0) N N u x1 x2 x3 y3 0 h
  exact ⟨by omega, by omega⟩
set_option maxHeartbeats 4000000 in
set_option maxRecDepth 100000 in
theorem w_X3_lower_0 {p : Program} {l : Launch} {e : Env} {R : Room} {s : State} {m : MethodId} {args : Array Value} {below : List Frame} {meth : Method} {c : Code} {G : uG} {a0 : Nat} {uf : UH} {r : Int64} (hC : uC p s m args meth c G RX3 cX3_lower 10 (some .long)) (hR : 2 ≤ R.frames ∧ 46 ≤ R.locals) (N : Nat) (u : UH) (x1 : Int32) (x2 : Int32) (x3 : Int64) (h : f_X3_lower N (ub G) (ug G) u a0 x1 x2 x3 = some (r, uf)) {H : Heap} {locs : List Loc} (hP : uP G u H) (hS : va_S (uA G) s.heap H locs) {ls : Array Slot} (hl : lv_has ls 10 [(0, va_rf (some a0)), (1, .int x1), (2, .int x2), (3, .long x3)]) : W p l e R s m args below meth c H locs 0 0 (MQ below (uQl G r uf) args s 0 0 (uA G)) (F0 m 0 ls []) := by
  obtain ⟨⟨hx, hb, hml, hown, hts⟩, hKK⟩ := id hC
  unfold f_X3_lower at h
  refine u_aload_n (r := some a0) hx hb dX3_lower_0 rfl (lv_at hl 0 rfl) ?_
  obtain ⟨o1, ho1, h⟩ := mbind_n h
  refine u_get hC hP (uGR_n ho1) rfl in_X3 (by decide) q1941 (fun _ h => h) dX3_lower_1 ?_
  refine lv_bipush (v := 100) hx hb dX3_lower_4 (by decide) ?_
  refine lv_iload_n hx hb dX3_lower_6 rfl (lv_at hl 1 rfl) ?_
  refine lv_imul hx hb dX3_lower_7 ?_
  refine lv_iload_n hx hb dX3_lower_8 rfl (lv_at hl 2 rfl) ?_
  refine lv_iadd hx hb dX3_lower_9 ?_
  obtain ⟨a2, ha2, hha2⟩ := mbind_n h
  subst ha2
  have h := hha2
  obtain ⟨y3, hy3, h⟩ := mbind_n h
  refine u_lald hC hP hy3 rfl dX3_lower_10 ?_
  refine lv_lstore (lv' := [(5, .long y3), (0, va_rf (some a0)), (1, .int x1), (2, .int x2), (3, .long x3)]) hx hb dX3_lower_11 hl (by decide) rfl (fun ls hl => ?_)
  refine lv_iconst (v := 0) hx hb dX3_lower_13 (by decide) ?_
  refine lv_istore (lv' := [(7, .int 0), (5, .long y3), (0, va_rf (some a0)), (1, .int x1), (2, .int x2), (3, .long x3)]) hx hb dX3_lower_14 hl (by decide) rfl (fun ls hl => ?_)
  exact w_X3_lower_16 hC hR N N u x1 x2 x3 y3 0 h _ _ hP hS _ (lv_sub hl [2, 3, 4, 5, 1, 0] rfl)
theorem zz_X3_lower (N b : Nat) (g : uEnv) (u : UH) (a0 : Nat) (x1 : Int32) (x2 : Int32) (x3 : Int64) (r : Int64) (uf : UH) (h : f_X3_lower N b g u a0 x1 x2 x3 = some (r, uf)) : uf.1 = u.1 ∧ uf.2.1 = u.2.1 :=
  zz_X3_lower_0 (G := ((fun _ => 0, fun _ _ => 0), fun _ => 0, b, g)) (a0 := a0) N u x1 x2 x3 h
theorem met_X3_lower (l : Launch) (N : Nat) (G : uG) (u : UH) (a0 : Nat) (x1 : Int32) (x2 : Int32) (x3 : Int64) (r : Int64) (uf : UH) (h : f_X3_lower N (ub G) (ug G) u a0 x1 x2 x3 = some (r, uf)) : Met l yX3_lower (ws_ yX3_lower cX3_lower 10 (some .long)) ({ frames := 2, cells := 0, slots := 0, locals := 46 }) (uPc G u [.ref a0, .int x1, .int x2, .long x3]) (uQl G r uf) 0 0 (uA G) := by
  exact u_met (own := RX3) (by decide +kernel) rfl (Nat.le_of_ble_eq_true rfl) (fun hC hn hsz ls hl hP => w_X3_lower_0 hC ⟨Nat.le_refl _, Nat.le_refl _⟩ N u x1 x2 x3 h hP va_S.rf hl)
def f_X3_solve_270 (N b : Nat) (g : uEnv) (a0 : Nat) (k47 : UH → Int32 → Int32 → Int32 → Option (UH)) (u : UH) (x1 : Int32) (x2 : Int32) (x3 : Int32) : Option (UH) :=
    mlet (x3 + (-1)) fun y1 =>
    k47 u x1 x2 y1
set_option maxHeartbeats 4000000 in
set_option maxRecDepth 100000 in
theorem zz_X3_solve_270 {G : uG} {a0 : Nat} {uf : UH} (N : Nat) (k47 : UH → Int32 → Int32 → Int32 → Option (UH)) (hk47 : ∀ (u : UH) (x1 : Int32) (x2 : Int32) (x3 : Int32), k47 u x1 x2 x3 = some uf → uf.1 = u.1 ∧ uf.2.1 = u.2.1) (u : UH) (x1 : Int32) (x2 : Int32) (x3 : Int32) (h : f_X3_solve_270 N (ub G) (ug G) a0 k47 u x1 x2 x3 = some uf) : uf.1 = u.1 ∧ uf.2.1 = u.2.1 := by
  unfold f_X3_solve_270 at h
  obtain ⟨y1, ey1⟩ : ∃ z : Int32, z = x3 + (-1) := ⟨_, rfl⟩
  have h := mlet_at ey1 h
  have hq := hk47 u x1 x2 y1 h
  exact ⟨by omega, by omega⟩
set_option maxHeartbeats 4000000 in
set_option maxRecDepth 100000 in
theorem w_X3_solve_270 {p : Program} {l : Launch} {e : Env} {R : Room} {s : State} {m : MethodId} {args : Array Value} {below : List Frame} {meth : Method} {c : Code} {G : uG} {a0 : Nat} {uf : UH} (hC : uC p s m args meth c G RX3 cX3_solve 10 none) (hR : 5 ≤ R.frames ∧ 123 ≤ R.locals) (N : Nat) (k47 : UH → Int32 → Int32 → Int32 → Option (UH)) (hk47 : ∀ (u : UH) (x1 : Int32) (x2 : Int32) (x3 : Int32), k47 u x1 x2 x3 = some uf → ∀ (H : Heap) (locs : List Loc), uP G u H → va_S (uA G) s.heap H locs → ∀ ls : Array Slot, lv_has ls 10 [(0, va_rf (some a0)), (1, .int x1), (2, .int x2), (3, .int x3)] → W p l e R s m args below meth c H locs 0 0 (MQ below (uQv G uf) args s 0 0 (uA G)) (F0 m 47 ls [])) (u : UH) (x1 : Int32) (x2 : Int32) (x3 : Int32) (h : f_X3_solve_270 N (ub G) (ug G) a0 k47 u x1 x2 x3 = some uf) {H : Heap} {locs : List Loc} (hP : uP G u H) (hS : va_S (uA G) s.heap H locs) {ls : Array Slot} (hl : lv_has ls 10 [(0, va_rf (some a0)), (1, .int x1), (2, .int x2), (3, .int x3)]) : W p l e R s m args below meth c H locs 0 0 (MQ below (uQv G uf) args s 0 0 (uA G)) (F0 m 270 ls []) := by
  obtain ⟨⟨hx, hb, hml, hown, hts⟩, hKK⟩ := id hC
  unfold f_X3_solve_270 at h
  obtain ⟨y1, ey1⟩ : ∃ z : Int32, z = x3 + (-1) := ⟨_, rfl⟩
  have h := mlet_at ey1 h
  refine lv_iinc (v := y1) (lv' := [(3, .int y1), (0, va_rf (some a0)), (1, .int x1), (2, .int x2)]) hx hb dX3_solve_270 hl (k := 3) rfl (by rw [ey1]; rfl) (by decide) rfl (fun ls hl => ?_)
  refine lv_goto (tgt := 47) hx hb dX3_solve_273 (by decide) ?_
  exact hk47 u x1 x2 y1 h _ _ hP hS _ (lv_sub hl [1, 2, 3, 0] rfl)
def f_X3_solve_261 (N b : Nat) (g : uEnv) (a0 : Nat) (k47 : UH → Int32 → Int32 → Int32 → Option (UH)) (k161 : UH → Int32 → Int32 → Int32 → Int64 → Int32 → Option (UH)) (k172 : UH → Int32 → Int32 → Int32 → Int64 → Int32 → Int32 → Option (UH)) (u : UH) (x1 : Int32) (x2 : Int32) (x3 : Int32) (x4 : Int64) (x6 : Int32) (x7 : Int32) : Option (UH) :=
    mlet (x7 + 1) fun y1 =>
    k172 u x1 x2 x3 x4 x6 y1
set_option maxHeartbeats 4000000 in
set_option maxRecDepth 100000 in
theorem zz_X3_solve_261 {G : uG} {a0 : Nat} {uf : UH} (N : Nat) (k47 : UH → Int32 → Int32 → Int32 → Option (UH)) (hk47 : ∀ (u : UH) (x1 : Int32) (x2 : Int32) (x3 : Int32), k47 u x1 x2 x3 = some uf → uf.1 = u.1 ∧ uf.2.1 = u.2.1) (k161 : UH → Int32 → Int32 → Int32 → Int64 → Int32 → Option (UH)) (hk161 : ∀ (u : UH) (x1 : Int32) (x2 : Int32) (x3 : Int32) (x4 : Int64) (x6 : Int32), k161 u x1 x2 x3 x4 x6 = some uf → uf.1 = u.1 ∧ uf.2.1 = u.2.1) (k172 : UH → Int32 → Int32 → Int32 → Int64 → Int32 → Int32 → Option (UH)) (hk172 : ∀ (u : UH) (x1 : Int32) (x2 : Int32) (x3 : Int32) (x4 : Int64) (x6 : Int32) (x7 : Int32), k172 u x1 x2 x3 x4 x6 x7 = some uf → uf.1 = u.1 ∧ uf.2.1 = u.2.1) (u : UH) (x1 : Int32) (x2 : Int32) (x3 : Int32) (x4 : Int64) (x6 : Int32) (x7 : Int32) (h : f_X3_solve_261 N (ub G) (ug G) a0 k47 k161 k172 u x1 x2 x3 x4 x6 x7 = some uf) : uf.1 = u.1 ∧ uf.2.1 = u.2.1 := by
  unfold f_X3_solve_261 at h
  obtain ⟨y1, ey1⟩ : ∃ z : Int32, z = x7 + 1 := ⟨_, rfl⟩
  have h := mlet_at ey1 h
  have hq := hk172 u x1 x2 x3 x4 x6 y1 h
  exact ⟨by omega, by omega⟩
set_option maxHeartbeats 4000000 in
set_option maxRecDepth 100000 in
theorem w_X3_solve_261 {p : Program} {l : Launch} {e : Env} {R : Room} {s : State} {m : MethodId} {args : Array Value} {below : List Frame} {meth : Method} {c : Code} {G : uG} {a0 : Nat} {uf : UH} (hC : uC p s m args meth c G RX3 cX3_solve 10 none) (hR : 5 ≤ R.frames ∧ 123 ≤ R.locals) (N : Nat) (k47 : UH → Int32 → Int32 → Int32 → Option (UH)) (hk47 : ∀ (u : UH) (x1 : Int32) (x2 : Int32) (x3 : Int32), k47 u x1 x2 x3 = some uf → ∀ (H : Heap) (locs : List Loc), uP G u H → va_S (uA G) s.heap H locs → ∀ ls : Array Slot, lv_has ls 10 [(0, va_rf (some a0)), (1, .int x1), (2, .int x2), (3, .int x3)] → W p l e R s m args below meth c H locs 0 0 (MQ below (uQv G uf) args s 0 0 (uA G)) (F0 m 47 ls [])) (k161 : UH → Int32 → Int32 → Int32 → Int64 → Int32 → Option (UH)) (hk161 : ∀ (u : UH) (x1 : Int32) (x2 : Int32) (x3 : Int32) (x4 : Int64) (x6 : Int32), k161 u x1 x2 x3 x4 x6 = some uf → ∀ (H : Heap) (locs : List Loc), uP G u H → va_S (uA G) s.heap H locs → ∀ ls : Array Slot, lv_has ls 10 [(0, va_rf (some a0)), (1, .int x1), (2, .int x2), (3, .int x3), (4, .long x4), (6, .int x6)] → W p l e R s m args below meth c H locs 0 0 (MQ below (uQv G uf) args s 0 0 (uA G)) (F0 m 161 ls [])) (k172 : UH → Int32 → Int32 → Int32 → Int64 → Int32 → Int32 → Option (UH)) (hk172 : ∀ (u : UH) (x1 : Int32) (x2 : Int32) (x3 : Int32) (x4 : Int64) (x6 : Int32) (x7 : Int32), k172 u x1 x2 x3 x4 x6 x7 = some uf → ∀ (H : Heap) (locs : List Loc), uP G u H → va_S (uA G) s.heap H locs → ∀ ls : Array Slot, lv_has ls 10 [(0, va_rf (some a0)), (1, .int x1), (2, .int x2), (3, .int x3), (4, .long x4), (6, .int x6), (7, .int x7)] → W p l e R s m args below meth c H locs 0 0 (MQ below (uQv G uf) args s 0 0 (uA G)) (F0 m 172 ls [])) (u : UH) (x1 : Int32) (x2 : Int32) (x3 : Int32) (x4 : Int64) (x6 : Int32) (x7 : Int32) (h : f_X3_solve_261 N (ub G) (ug G) a0 k47 k161 k172 u x1 x2 x3 x4 x6 x7 = some uf) {H : Heap} {locs : List Loc} (hP : uP G u H) (hS : va_S (uA G) s.heap H locs) {ls : Array Slot} (hl : lv_has ls 10 [(0, va_rf (some a0)), (1, .int x1), (2, .int x2), (3, .int x3), (4, .long x4), (6, .int x6), (7, .int x7)]) : W p l e R s m args below meth c H locs 0 0 (MQ below (uQv G uf) args s 0 0 (uA G)) (F0 m 261 ls []) := by
  obtain ⟨⟨hx, hb, hml, hown, hts⟩, hKK⟩ := id hC
  unfold f_X3_solve_261 at h
  obtain ⟨y1, ey1⟩ : ∃ z : Int32, z = x7 + 1 := ⟨_, rfl⟩
  have h := mlet_at ey1 h
  refine lv_iinc (v := y1) (lv' := [(7, .int y1), (0, va_rf (some a0)), (1, .int x1), (2, .int x2), (3, .int x3), (4, .long x4), (6, .int x6)]) hx hb dX3_solve_261 hl (k := 6) rfl (by rw [ey1]; rfl) (by decide) rfl (fun ls hl => ?_)
  refine lv_goto (tgt := 172) hx hb dX3_solve_264 (by decide) ?_
  exact hk172 u x1 x2 x3 x4 x6 y1 h _ _ hP hS _ (lv_sub hl [1, 2, 3, 4, 5, 6, 0] rfl)
def f_X3_solve_245 (N b : Nat) (g : uEnv) (a0 : Nat) (k47 : UH → Int32 → Int32 → Int32 → Option (UH)) (k161 : UH → Int32 → Int32 → Int32 → Int64 → Int32 → Option (UH)) (k172 : UH → Int32 → Int32 → Int32 → Int64 → Int32 → Int32 → Option (UH)) (u : UH) (x1 : Int32) (x2 : Int32) (x3 : Int32) (x4 : Int64) (x7 : Int32) (x8 : Int64) (s0 : Int32) : Option (UH) :=
    (uGR u a0 2 48).bind fun o1 =>
    (o1).bind fun a2 =>
    (uStL b u a2 3 ((100 * x3) + x7) x8).bind fun u3 =>
    f_X3_solve_261 N b g a0 k47 k161 k172 u3 x1 x2 x3 x4 s0 x7
set_option maxHeartbeats 4000000 in
set_option maxRecDepth 100000 in
theorem zz_X3_solve_245 {G : uG} {a0 : Nat} {uf : UH} (N : Nat) (k47 : UH → Int32 → Int32 → Int32 → Option (UH)) (hk47 : ∀ (u : UH) (x1 : Int32) (x2 : Int32) (x3 : Int32), k47 u x1 x2 x3 = some uf → uf.1 = u.1 ∧ uf.2.1 = u.2.1) (k161 : UH → Int32 → Int32 → Int32 → Int64 → Int32 → Option (UH)) (hk161 : ∀ (u : UH) (x1 : Int32) (x2 : Int32) (x3 : Int32) (x4 : Int64) (x6 : Int32), k161 u x1 x2 x3 x4 x6 = some uf → uf.1 = u.1 ∧ uf.2.1 = u.2.1) (k172 : UH → Int32 → Int32 → Int32 → Int64 → Int32 → Int32 → Option (UH)) (hk172 : ∀ (u : UH) (x1 : Int32) (x2 : Int32) (x3 : Int32) (x4 : Int64) (x6 : Int32) (x7 : Int32), k172 u x1 x2 x3 x4 x6 x7 = some uf → uf.1 = u.1 ∧ uf.2.1 = u.2.1) (u : UH) (x1 : Int32) (x2 : Int32) (x3 : Int32) (x4 : Int64) (x7 : Int32) (x8 : Int64) (s0 : Int32) (h : f_X3_solve_245 N (ub G) (ug G) a0 k47 k161 k172 u x1 x2 x3 x4 x7 x8 s0 = some uf) : uf.1 = u.1 ∧ uf.2.1 = u.2.1 := by
  unfold f_X3_solve_245 at h
  obtain ⟨o1, ho1, h⟩ := mbind_n h
  obtain ⟨a2, ha2, hha2⟩ := mbind_n h
  subst ha2
  have h := hha2
  obtain ⟨u3, hu3, h⟩ := mbind_n h
  have zu3 := uStL_sz hu3
  have hq := zz_X3_solve_261 (G := G) (a0 := a0) N k47 hk47 k161 hk161 k172 hk172 u3 x1 x2 x3 x4 s0 x7 h
  exact ⟨by omega, by omega⟩
set_option maxHeartbeats 4000000 in
set_option maxRecDepth 100000 in
theorem w_X3_solve_245 {p : Program} {l : Launch} {e : Env} {R : Room} {s : State} {m : MethodId} {args : Array Value} {below : List Frame} {meth : Method} {c : Code} {G : uG} {a0 : Nat} {uf : UH} (hC : uC p s m args meth c G RX3 cX3_solve 10 none) (hR : 5 ≤ R.frames ∧ 123 ≤ R.locals) (N : Nat) (k47 : UH → Int32 → Int32 → Int32 → Option (UH)) (hk47 : ∀ (u : UH) (x1 : Int32) (x2 : Int32) (x3 : Int32), k47 u x1 x2 x3 = some uf → ∀ (H : Heap) (locs : List Loc), uP G u H → va_S (uA G) s.heap H locs → ∀ ls : Array Slot, lv_has ls 10 [(0, va_rf (some a0)), (1, .int x1), (2, .int x2), (3, .int x3)] → W p l e R s m args below meth c H locs 0 0 (MQ below (uQv G uf) args s 0 0 (uA G)) (F0 m 47 ls [])) (k161 : UH → Int32 → Int32 → Int32 → Int64 → Int32 → Option (UH)) (hk161 : ∀ (u : UH) (x1 : Int32) (x2 : Int32) (x3 : Int32) (x4 : Int64) (x6 : Int32), k161 u x1 x2 x3 x4 x6 = some uf → ∀ (H : Heap) (locs : List Loc), uP G u H → va_S (uA G) s.heap H locs → ∀ ls : Array Slot, lv_has ls 10 [(0, va_rf (some a0)), (1, .int x1), (2, .int x2), (3, .int x3), (4, .long x4), (6, .int x6)] → W p l e R s m args below meth c H locs 0 0 (MQ below (uQv G uf) args s 0 0 (uA G)) (F0 m 161 ls [])) (k172 : UH → Int32 → Int32 → Int32 → Int64 → Int32 → Int32 → Option (UH)) (hk172 : ∀ (u : UH) (x1 : Int32) (x2 : Int32) (x3 : Int32) (x4 : Int64) (x6 : Int32) (x7 : Int32), k172 u x1 x2 x3 x4 x6 x7 = some uf → ∀ (H : Heap) (locs : List Loc), uP G u H → va_S (uA G) s.heap H locs → ∀ ls : Array Slot, lv_has ls 10 [(0, va_rf (some a0)), (1, .int x1), (2, .int x2), (3, .int x3), (4, .long x4), (6, .int x6), (7, .int x7)] → W p l e R s m args below meth c H locs 0 0 (MQ below (uQv G uf) args s 0 0 (uA G)) (F0 m 172 ls [])) (u : UH) (x1 : Int32) (x2 : Int32) (x3 : Int32) (x4 : Int64) (x7 : Int32) (x8 : Int64) (s0 : Int32) (h : f_X3_solve_245 N (ub G) (ug G) a0 k47 k161 k172 u x1 x2 x3 x4 x7 x8 s0 = some uf) {H : Heap} {locs : List Loc} (hP : uP G u H) (hS : va_S (uA G) s.heap H locs) {ls : Array Slot} (hl : lv_has ls 10 [(0, va_rf (some a0)), (1, .int x1), (2, .int x2), (3, .int x3), (4, .long x4), (7, .int x7), (8, .long x8)]) : W p l e R s m args below meth c H locs 0 0 (MQ below (uQv G uf) args s 0 0 (uA G)) (F0 m 245 ls [.int s0]) := by
  obtain ⟨⟨hx, hb, hml, hown, hts⟩, hKK⟩ := id hC
  unfold f_X3_solve_245 at h
  refine lv_istore (lv' := [(6, .int s0), (0, va_rf (some a0)), (1, .int x1), (2, .int x2), (3, .int x3), (4, .long x4), (7, .int x7), (8, .long x8)]) hx hb dX3_solve_245 hl (by decide) rfl (fun ls hl => ?_)
  refine u_aload_n (r := some a0) hx hb dX3_solve_247 rfl (lv_at hl 1 rfl) ?_
  obtain ⟨o1, ho1, h⟩ := mbind_n h
  refine u_get hC hP (uGR_n ho1) rfl in_X3 (by decide) q1941 (fun _ h => h) dX3_solve_248 ?_
  refine lv_bipush (v := 100) hx hb dX3_solve_251 (by decide) ?_
  refine lv_iload_n hx hb dX3_solve_253 rfl (lv_at hl 4 rfl) ?_
  refine lv_imul hx hb dX3_solve_254 ?_
  refine lv_iload hx hb dX3_solve_255 (lv_at hl 6 rfl) ?_
  refine lv_iadd hx hb dX3_solve_257 ?_
  refine lv_lload hx hb dX3_solve_258 (lv_at hl 7 rfl) ?_
  obtain ⟨a2, ha2, hha2⟩ := mbind_n h
  subst ha2
  have h := hha2
  obtain ⟨u3, hu3, h⟩ := mbind_n h
  have zu3 := uStL_sz hu3
  refine u_last hC hP hS hu3 rfl dX3_solve_260 (fun H locs hP hS => ?_)
  exact w_X3_solve_261 hC hR N k47 hk47 k161 hk161 k172 hk172 u3 x1 x2 x3 x4 s0 x7 h hP hS (lv_sub hl [1, 2, 3, 4, 5, 0, 6] rfl)
def f_X3_solve_240 (N b : Nat) (g : uEnv) (a0 : Nat) (k47 : UH → Int32 → Int32 → Int32 → Option (UH)) (k161 : UH → Int32 → Int32 → Int32 → Int64 → Int32 → Option (UH)) (k172 : UH → Int32 → Int32 → Int32 → Int64 → Int32 → Int32 → Option (UH)) (u : UH) (x1 : Int32) (x2 : Int32) (x3 : Int32) (x4 : Int64) (x7 : Int32) (x8 : Int64) : Option (UH) :=
    f_X3_solve_245 N b g a0 k47 k161 k172 u x1 x2 x3 x4 x7 x8 1
set_option maxHeartbeats 4000000 in
set_option maxRecDepth 100000 in
theorem zz_X3_solve_240 {G : uG} {a0 : Nat} {uf : UH} (N : Nat) (k47 : UH → Int32 → Int32 → Int32 → Option (UH)) (hk47 : ∀ (u : UH) (x1 : Int32) (x2 : Int32) (x3 : Int32), k47 u x1 x2 x3 = some uf → uf.1 = u.1 ∧ uf.2.1 = u.2.1) (k161 : UH → Int32 → Int32 → Int32 → Int64 → Int32 → Option (UH)) (hk161 : ∀ (u : UH) (x1 : Int32) (x2 : Int32) (x3 : Int32) (x4 : Int64) (x6 : Int32), k161 u x1 x2 x3 x4 x6 = some uf → uf.1 = u.1 ∧ uf.2.1 = u.2.1) (k172 : UH → Int32 → Int32 → Int32 → Int64 → Int32 → Int32 → Option (UH)) (hk172 : ∀ (u : UH) (x1 : Int32) (x2 : Int32) (x3 : Int32) (x4 : Int64) (x6 : Int32) (x7 : Int32), k172 u x1 x2 x3 x4 x6 x7 = some uf → uf.1 = u.1 ∧ uf.2.1 = u.2.1) (u : UH) (x1 : Int32) (x2 : Int32) (x3 : Int32) (x4 : Int64) (x7 : Int32) (x8 : Int64) (h : f_X3_solve_240 N (ub G) (ug G) a0 k47 k161 k172 u x1 x2 x3 x4 x7 x8 = some uf) : uf.1 = u.1 ∧ uf.2.1 = u.2.1 := by
  unfold f_X3_solve_240 at h
  have hq := zz_X3_solve_245 (G := G) (a0 := a0) N k47 hk47 k161 hk161 k172 hk172 u x1 x2 x3 x4 x7 x8 1 h
  exact ⟨by omega, by omega⟩
set_option maxHeartbeats 4000000 in
set_option maxRecDepth 100000 in
theorem w_X3_solve_240 {p : Program} {l : Launch} {e : Env} {R : Room} {s : State} {m : MethodId} {args : Array Value} {below : List Frame} {meth : Method} {c : Code} {G : uG} {a0 : Nat} {uf : UH} (hC : uC p s m args meth c G RX3 cX3_solve 10 none) (hR : 5 ≤ R.frames ∧ 123 ≤ R.locals) (N : Nat) (k47 : UH → Int32 → Int32 → Int32 → Option (UH)) (hk47 : ∀ (u : UH) (x1 : Int32) (x2 : Int32) (x3 : Int32), k47 u x1 x2 x3 = some uf → ∀ (H : Heap) (locs : List Loc), uP G u H → va_S (uA G) s.heap H locs → ∀ ls : Array Slot, lv_has ls 10 [(0, va_rf (some a0)), (1, .int x1), (2, .int x2), (3, .int x3)] → W p l e R s m args below meth c H locs 0 0 (MQ below (uQv G uf) args s 0 0 (uA G)) (F0 m 47 ls [])) (k161 : UH → Int32 → Int32 → Int32 → Int64 → Int32 → Option (UH)) (hk161 : ∀ (u : UH) (x1 : Int32) (x2 : Int32) (x3 : Int32) (x4 : Int64) (x6 : Int32), k161 u x1 x2 x3 x4 x6 = some uf → ∀ (H : Heap) (locs : List Loc), uP G u H → va_S (uA G) s.heap H locs → ∀ ls : Array Slot, lv_has ls 10 [(0, va_rf (some a0)), (1, .int x1), (2, .int x2), (3, .int x3), (4, .long x4), (6, .int x6)] → W p l e R s m args below meth c H locs 0 0 (MQ below (uQv G uf) args s 0 0 (uA G)) (F0 m 161 ls [])) (k172 : UH → Int32 → Int32 → Int32 → Int64 → Int32 → Int32 → Option (UH)) (hk172 : ∀ (u : UH) (x1 : Int32) (x2 : Int32) (x3 : Int32) (x4 : Int64) (x6 : Int32) (x7 : Int32), k172 u x1 x2 x3 x4 x6 x7 = some uf → ∀ (H : Heap) (locs : List Loc), uP G u H → va_S (uA G) s.heap H locs → ∀ ls : Array Slot, lv_has ls 10 [(0, va_rf (some a0)), (1, .int x1), (2, .int x2), (3, .int x3), (4, .long x4), (6, .int x6), (7, .int x7)] → W p l e R s m args below meth c H locs 0 0 (MQ below (uQv G uf) args s 0 0 (uA G)) (F0 m 172 ls [])) (u : UH) (x1 : Int32) (x2 : Int32) (x3 : Int32) (x4 : Int64) (x7 : Int32) (x8 : Int64) (h : f_X3_solve_240 N (ub G) (ug G) a0 k47 k161 k172 u x1 x2 x3 x4 x7 x8 = some uf) {H : Heap} {locs : List Loc} (hP : uP G u H) (hS : va_S (uA G) s.heap H locs) {ls : Array Slot} (hl : lv_has ls 10 [(0, va_rf (some a0)), (1, .int x1), (2, .int x2), (3, .int x3), (4, .long x4), (7, .int x7), (8, .long x8)]) : W p l e R s m args below meth c H locs 0 0 (MQ below (uQv G uf) args s 0 0 (uA G)) (F0 m 240 ls []) := by
  obtain ⟨⟨hx, hb, hml, hown, hts⟩, hKK⟩ := id hC
  unfold f_X3_solve_240 at h
  refine lv_iconst (v := 1) hx hb dX3_solve_240 (by decide) ?_
  refine lv_goto (tgt := 245) hx hb dX3_solve_241 (by decide) ?_
  exact w_X3_solve_245 hC hR N k47 hk47 k161 hk161 k172 hk172 u x1 x2 x3 x4 x7 x8 1 h hP hS (lv_sub hl [0, 1, 2, 3, 4, 5, 6] rfl)
def f_X3_solve_172 (N b : Nat) (g : uEnv) (a0 : Nat) (k47 : UH → Int32 → Int32 → Int32 → Option (UH)) (k161 : UH → Int32 → Int32 → Int32 → Int64 → Int32 → Option (UH)) : Nat → UH → Int32 → Int32 → Int32 → Int64 → Int32 → Int32 → Option (UH)
  | 0, _, _, _, _, _, _, _ => none
  | n + 1, u, x1, x2, x3, x4, x6, x7 =>
    (uGI u a0 2 35).bind fun y1 =>
    (uGI u a0 2 36).bind fun y2 =>
    if (y1 * y2) ≤ x7 then
    k161 u x1 x2 x3 x4 x6
    else
    if x7 = x1 then
    f_X3_solve_261 N b g a0 k47 k161 (f_X3_solve_172 N b g a0 k47 k161 n) u x1 x2 x3 x4 x6 x7
    else
    if uIs u a0 2 = true then
    ucall (f_X3_news N b g u a0 x7 x3) fun r8 u6 =>
    if r8 = (-1) then
    if uIs u6 a0 2 = true then
    ucall (f_X3_lower N b g u6 a0 x3 x7 x4) fun r13 u11 =>
    if x6 = 0 then
    (uGR u11 a0 2 48).bind fun o15 =>
    (o15).bind fun a16 =>
    (uLdL u11 a16 3 ((100 * x3) + x7)).bind fun y17 =>
    if 0 ≤ (lg_cmp r13 y17) then
    f_X3_solve_245 N b g a0 k47 k161 (f_X3_solve_172 N b g a0 k47 k161 n) u11 x1 x2 x3 x4 x7 r13 0
    else
    f_X3_solve_240 N b g a0 k47 k161 (f_X3_solve_172 N b g a0 k47 k161 n) u11 x1 x2 x3 x4 x7 r13
    else
    f_X3_solve_240 N b g a0 k47 k161 (f_X3_solve_172 N b g a0 k47 k161 n) u11 x1 x2 x3 x4 x7 r13
    else none
    else
    f_X3_solve_261 N b g a0 k47 k161 (f_X3_solve_172 N b g a0 k47 k161 n) u6 x1 x2 x3 x4 x6 x7
    else none
set_option maxHeartbeats 4000000 in
set_option maxRecDepth 100000 in
theorem zz_X3_solve_172 {G : uG} {a0 : Nat} {uf : UH} (N : Nat) (k47 : UH → Int32 → Int32 → Int32 → Option (UH)) (hk47 : ∀ (u : UH) (x1 : Int32) (x2 : Int32) (x3 : Int32), k47 u x1 x2 x3 = some uf → uf.1 = u.1 ∧ uf.2.1 = u.2.1) (k161 : UH → Int32 → Int32 → Int32 → Int64 → Int32 → Option (UH)) (hk161 : ∀ (u : UH) (x1 : Int32) (x2 : Int32) (x3 : Int32) (x4 : Int64) (x6 : Int32), k161 u x1 x2 x3 x4 x6 = some uf → uf.1 = u.1 ∧ uf.2.1 = u.2.1) : ∀ (n : Nat) (u : UH) (x1 : Int32) (x2 : Int32) (x3 : Int32) (x4 : Int64) (x6 : Int32) (x7 : Int32), f_X3_solve_172 N (ub G) (ug G) a0 k47 k161 n u x1 x2 x3 x4 x6 x7 = some uf → uf.1 = u.1 ∧ uf.2.1 = u.2.1 := by
  intro n
  induction n with
  | zero =>
    intro u x1 x2 x3 x4 x6 x7 h
    cases h
  | succ n ih =>
    intro u x1 x2 x3 x4 x6 x7 h
    unfold f_X3_solve_172 at h
    obtain ⟨y1, hy1, h⟩ := mbind_n h
    obtain ⟨y2, hy2, h⟩ := mbind_n h
    by_cases c3 : (y1 * y2) ≤ x7
    · have h := mif_t c3 h
      have hq := hk161 u x1 x2 x3 x4 x6 h
      exact ⟨by omega, by omega⟩
    · have h := mif_f c3 h
      by_cases c4 : x7 = x1
      · have h := mif_t c4 h
        have hq := zz_X3_solve_261 (G := G) (a0 := a0) N k47 hk47 k161 hk161 (f_X3_solve_172 N (ub G) (ug G) a0 k47 k161 n) ih u x1 x2 x3 x4 x6 x7 h
        exact ⟨by omega, by omega⟩
      · have h := mif_f c4 h
        obtain ⟨c5, h⟩ := mif_n h
        obtain ⟨r8, u6, c7, h⟩ := ucall_n h
        have zu6 := zz_X3_news N (ub G) (ug G) u a0 x7 x3 r8 u6 c7
        by_cases c9 : r8 = (-1)
        · have h := mif_t c9 h
          obtain ⟨c10, h⟩ := mif_n h
          obtain ⟨r13, u11, c12, h⟩ := ucall_n h
          have zu11 := zz_X3_lower N (ub G) (ug G) u6 a0 x3 x7 x4 r13 u11 c12
          by_cases c14 : x6 = 0
          · have h := mif_t c14 h
            obtain ⟨o15, ho15, h⟩ := mbind_n h
            obtain ⟨a16, ha16, hha16⟩ := mbind_n h
            subst ha16
            have h := hha16
            obtain ⟨y17, hy17, h⟩ := mbind_n h
            by_cases c18 : 0 ≤ (lg_cmp r13 y17)
            · have h := mif_t c18 h
              have hq := zz_X3_solve_245 (G := G) (a0 := a0) N k47 hk47 k161 hk161 (f_X3_solve_172 N (ub G) (ug G) a0 k47 k161 n) ih u11 x1 x2 x3 x4 x7 r13 0 h
              exact ⟨by omega, by omega⟩
            · have h := mif_f c18 h
              have hq := zz_X3_solve_240 (G := G) (a0 := a0) N k47 hk47 k161 hk161 (f_X3_solve_172 N (ub G) (ug G) a0 k47 k161 n) ih u11 x1 x2 x3 x4 x7 r13 h
              exact ⟨by omega, by omega⟩
          · have h := mif_f c14 h
            have hq := zz_X3_solve_240 (G := G) (a0 := a0) N k47 hk47 k161 hk161 (f_X3_solve_172 N (ub G) (ug G) a0 k47 k161 n) ih u11 x1 x2 x3 x4 x7 r13 h
            exact ⟨by omega, by omega⟩
        · have h := mif_f c9 h
          have hq := zz_X3_solve_261 (G := G) (a0 := a0) N k47 hk47 k161 hk161 (f_X3_solve_172 N (ub G) (ug G) a0 k47 k161 n) ih u6 x1 x2 x3 x4 x6 x7 h
          exact ⟨by omega, by omega⟩
set_option maxHeartbeats 4000000 in
set_option maxRecDepth 100000 in
theorem w_X3_solve_172 {p : Program} {l : Launch} {e : Env} {R : Room} {s : State} {m : MethodId} {args : Array Value} {below : List Frame} {meth : Method} {c : Code} {G : uG} {a0 : Nat} {uf : UH} (hC : uC p s m args meth c G RX3 cX3_solve 10 none) (hR : 5 ≤ R.frames ∧ 123 ≤ R.locals) (N : Nat) (k47 : UH → Int32 → Int32 → Int32 → Option (UH)) (hk47 : ∀ (u : UH) (x1 : Int32) (x2 : Int32) (x3 : Int32), k47 u x1 x2 x3 = some uf → ∀ (H : Heap) (locs : List Loc), uP G u H → va_S (uA G) s.heap H locs → ∀ ls : Array Slot, lv_has ls 10 [(0, va_rf (some a0)), (1, .int x1), (2, .int x2), (3, .int x3)] → W p l e R s m args below meth c H locs 0 0 (MQ below (uQv G uf) args s 0 0 (uA G)) (F0 m 47 ls [])) (k161 : UH → Int32 → Int32 → Int32 → Int64 → Int32 → Option (UH)) (hk161 : ∀ (u : UH) (x1 : Int32) (x2 : Int32) (x3 : Int32) (x4 : Int64) (x6 : Int32), k161 u x1 x2 x3 x4 x6 = some uf → ∀ (H : Heap) (locs : List Loc), uP G u H → va_S (uA G) s.heap H locs → ∀ ls : Array Slot, lv_has ls 10 [(0, va_rf (some a0)), (1, .int x1), (2, .int x2), (3, .int x3), (4, .long x4), (6, .int x6)] → W p l e R s m args below meth c H locs 0 0 (MQ below (uQv G uf) args s 0 0 (uA G)) (F0 m 161 ls [])) : ∀ (n : Nat) (u : UH) (x1 : Int32) (x2 : Int32) (x3 : Int32) (x4 : Int64) (x6 : Int32) (x7 : Int32), f_X3_solve_172 N (ub G) (ug G) a0 k47 k161 n u x1 x2 x3 x4 x6 x7 = some uf → ∀ (H : Heap) (locs : List Loc), uP G u H → va_S (uA G) s.heap H locs → ∀ ls : Array Slot, lv_has ls 10 [(0, va_rf (some a0)), (1, .int x1), (2, .int x2), (3, .int x3), (4, .long x4), (6, .int x6), (7, .int x7)] → W p l e R s m args below meth c H locs 0 0 (MQ below (uQv G uf) args s 0 0 (uA G)) (F0 m 172 ls []) := by
  obtain ⟨⟨hx, hb, hml, hown, hts⟩, hKK⟩ := id hC
  intro n
  induction n with
  | zero =>
    intro u x1 x2 x3 x4 x6 x7 h
    cases h
  | succ n ih =>
    intro u x1 x2 x3 x4 x6 x7 h H locs hP hS ls hl
    unfold f_X3_solve_172 at h
    refine lv_iload hx hb dX3_solve_172 (lv_at hl 6 rfl) ?_
    refine u_aload_n (r := some a0) hx hb dX3_solve_174 rfl (lv_at hl 0 rfl) ?_
    obtain ⟨y1, hy1, h⟩ := mbind_n h
    refine u_get hC hP (uGI_n hy1) rfl in_X3 (by decide) q1928 (fun _ h => h) dX3_solve_175 ?_
    refine u_aload_n (r := some a0) hx hb dX3_solve_178 rfl (lv_at hl 0 rfl) ?_
    obtain ⟨y2, hy2, h⟩ := mbind_n h
    refine u_get hC hP (uGI_n hy2) rfl in_X3 (by decide) q1929 (fun _ h => h) dX3_solve_179 ?_
    refine lv_imul hx hb dX3_solve_182 ?_
    refine lv_icmp_ge (tgt := 267) hx hb dX3_solve_183 (by decide) (fun c3 => ?_) (fun c3 => ?_)
    · have h := mif_t c3 h
      refine lv_goto (tgt := 161) hx hb dX3_solve_267 (by decide) ?_
      exact hk161 u x1 x2 x3 x4 x6 h _ _ hP hS _ (lv_sub hl [0, 1, 2, 3, 4, 5] rfl)
    · have h := mif_f c3 h
      refine lv_iload hx hb dX3_solve_186 (lv_at hl 6 rfl) ?_
      refine lv_iload_n hx hb dX3_solve_188 rfl (lv_at hl 1 rfl) ?_
      refine lv_icmp_eq (tgt := 261) hx hb dX3_solve_189 (by decide) (fun c4 => ?_) (fun c4 => ?_)
      · have h := mif_t c4 h
        exact w_X3_solve_261 hC hR N k47 hk47 k161 hk161 (f_X3_solve_172 N (ub G) (ug G) a0 k47 k161 n) ih u x1 x2 x3 x4 x6 x7 h hP hS (lv_sub hl [0, 1, 2, 3, 4, 5, 6] rfl)
      · have h := mif_f c4 h
        refine u_aload_n (r := some a0) hx hb dX3_solve_192 rfl (lv_at hl 0 rfl) ?_
        refine lv_iload hx hb dX3_solve_193 (lv_at hl 6 rfl) ?_
        refine lv_iload_n hx hb dX3_solve_195 rfl (lv_at hl 3 rfl) ?_
        obtain ⟨c5, h⟩ := mif_n h
        obtain ⟨r8, u6, c7, h⟩ := ucall_n h
        have zu6 := zz_X3_news N (ub G) (ug G) u a0 x7 x3 r8 u6 c7
        refine u_calli (va_runV (As := [.int x7, .int x3]) (rest := []) hC.1 (met_X3_news l N G u a0 x7 x3 r8 u6 c7) (cwV 2 hts (lw_V q2371 q2373 qs75 q103 q2374) rfl rfl rfl (by decide +kernel) ⟨Nat.le_trans (Nat.le_of_ble_eq_true rfl) hR.1, Nat.le_trans (Nat.le_of_ble_eq_true rfl) hR.2⟩) ⟨uPc_blind, u_rcv hC hP c5 rfl, fun U hU hW => u_pre hC hP hS hU hW⟩ rfl rfl hl.1 rfl (lv_room (Nat.le_of_ble_eq_true rfl)) dX3_solve_196 ⟨Nat.zero_le _, Nat.zero_le _⟩) hS (fun H locs hP hS => ?_)
        refine lv_iconst (v := (-1)) hx hb dX3_solve_199 (by decide) ?_
        refine lv_icmp_eq (tgt := 206) hx hb dX3_solve_200 (by decide) (fun c9 => ?_) (fun c9 => ?_)
        · have h := mif_t c9 h
          refine u_aload_n (r := some a0) hx hb dX3_solve_206 rfl (lv_at hl 0 rfl) ?_
          refine lv_iload_n hx hb dX3_solve_207 rfl (lv_at hl 3 rfl) ?_
          refine lv_iload hx hb dX3_solve_208 (lv_at hl 6 rfl) ?_
          refine lv_lload hx hb dX3_solve_210 (lv_at hl 4 rfl) ?_
          obtain ⟨c10, h⟩ := mif_n h
          obtain ⟨r13, u11, c12, h⟩ := ucall_n h
          have zu11 := zz_X3_lower N (ub G) (ug G) u6 a0 x3 x7 x4 r13 u11 c12
          refine u_calll (va_runV (As := [.int x3, .int x7, .long x4]) (rest := []) hC.1 (met_X3_lower l N G u6 a0 x3 x7 x4 r13 u11 c12) (cwV 3 hts (lw_V q2395 q2397 qs80 q103 q2398) rfl rfl rfl (by decide +kernel) ⟨Nat.le_trans (Nat.le_of_ble_eq_true rfl) hR.1, Nat.le_trans (Nat.le_of_ble_eq_true rfl) hR.2⟩) ⟨uPc_blind, u_rcv hC hP c10 rfl, fun U hU hW => u_pre hC hP hS hU hW⟩ rfl rfl hl.1 rfl (lv_room (Nat.le_of_ble_eq_true rfl)) dX3_solve_212 ⟨Nat.zero_le _, Nat.zero_le _⟩) hS (fun H locs hP hS => ?_)
          refine lv_lstore (lv' := [(8, .long r13), (0, va_rf (some a0)), (1, .int x1), (2, .int x2), (3, .int x3), (4, .long x4), (6, .int x6), (7, .int x7)]) hx hb dX3_solve_215 hl (by decide) rfl (fun ls hl => ?_)
          refine lv_iload hx hb dX3_solve_217 (lv_at hl 6 rfl) ?_
          refine lv_if_ne (tgt := 240) hx hb dX3_solve_219 (by decide) (fun c14 => ?_) (fun c14 => ?_)
          · have h := mif_f c14 h
            exact w_X3_solve_240 hC hR N k47 hk47 k161 hk161 (f_X3_solve_172 N (ub G) (ug G) a0 k47 k161 n) ih u11 x1 x2 x3 x4 x7 r13 h hP hS (lv_sub hl [1, 2, 3, 4, 5, 7, 0] rfl)
          · have h := mif_t c14 h
            refine lv_lload hx hb dX3_solve_222 (lv_at hl 0 rfl) ?_
            refine u_aload_n (r := some a0) hx hb dX3_solve_224 rfl (lv_at hl 1 rfl) ?_
            obtain ⟨o15, ho15, h⟩ := mbind_n h
            refine u_get hC hP (uGR_n ho15) rfl in_X3 (by decide) q1941 (fun _ h => h) dX3_solve_225 ?_
            refine lv_bipush (v := 100) hx hb dX3_solve_228 (by decide) ?_
            refine lv_iload_n hx hb dX3_solve_230 rfl (lv_at hl 4 rfl) ?_
            refine lv_imul hx hb dX3_solve_231 ?_
            refine lv_iload hx hb dX3_solve_232 (lv_at hl 7 rfl) ?_
            refine lv_iadd hx hb dX3_solve_234 ?_
            obtain ⟨a16, ha16, hha16⟩ := mbind_n h
            subst ha16
            have h := hha16
            obtain ⟨y17, hy17, h⟩ := mbind_n h
            refine u_lald hC hP hy17 rfl dX3_solve_235 ?_
            refine W.lcmp hx hb dX3_solve_236 ?_
            refine lv_if_ge (tgt := 244) hx hb dX3_solve_237 (by decide) (fun c18 => ?_) (fun c18 => ?_)
            · have h := mif_t c18 h
              refine lv_iconst (v := 0) hx hb dX3_solve_244 (by decide) ?_
              exact w_X3_solve_245 hC hR N k47 hk47 k161 hk161 (f_X3_solve_172 N (ub G) (ug G) a0 k47 k161 n) ih u11 x1 x2 x3 x4 x7 r13 0 h hP hS (lv_sub hl [1, 2, 3, 4, 5, 7, 0] rfl)
            · have h := mif_f c18 h
              exact w_X3_solve_240 hC hR N k47 hk47 k161 hk161 (f_X3_solve_172 N (ub G) (ug G) a0 k47 k161 n) ih u11 x1 x2 x3 x4 x7 r13 h hP hS (lv_sub hl [1, 2, 3, 4, 5, 7, 0] rfl)
        · have h := mif_f c9 h
          refine lv_goto (tgt := 261) hx hb dX3_solve_203 (by decide) ?_
          exact w_X3_solve_261 hC hR N k47 hk47 k161 hk161 (f_X3_solve_172 N (ub G) (ug G) a0 k47 k161 n) ih u6 x1 x2 x3 x4 x6 x7 h hP hS (lv_sub hl [0, 1, 2, 3, 4, 5, 6] rfl)
def f_X3_solve_161 (N b : Nat) (g : uEnv) (a0 : Nat) (k47 : UH → Int32 → Int32 → Int32 → Option (UH)) : Nat → UH → Int32 → Int32 → Int32 → Int64 → Int32 → Option (UH)
  | 0, _, _, _, _, _, _ => none
  | n + 1, u, x1, x2, x3, x4, x6 =>
    if x6 = 0 then
    f_X3_solve_270 N b g a0 k47 u x1 x2 x3
    else
    f_X3_solve_172 N b g a0 k47 (f_X3_solve_161 N b g a0 k47 n) N u x1 x2 x3 x4 0 0
set_option maxHeartbeats 4000000 in
set_option maxRecDepth 100000 in
theorem zz_X3_solve_161 {G : uG} {a0 : Nat} {uf : UH} (N : Nat) (k47 : UH → Int32 → Int32 → Int32 → Option (UH)) (hk47 : ∀ (u : UH) (x1 : Int32) (x2 : Int32) (x3 : Int32), k47 u x1 x2 x3 = some uf → uf.1 = u.1 ∧ uf.2.1 = u.2.1) : ∀ (n : Nat) (u : UH) (x1 : Int32) (x2 : Int32) (x3 : Int32) (x4 : Int64) (x6 : Int32), f_X3_solve_161 N (ub G) (ug G) a0 k47 n u x1 x2 x3 x4 x6 = some uf → uf.1 = u.1 ∧ uf.2.1 = u.2.1 := by
  intro n
  induction n with
  | zero =>
    intro u x1 x2 x3 x4 x6 h
    cases h
  | succ n ih =>
    intro u x1 x2 x3 x4 x6 h
    unfold f_X3_solve_161 at h
    by_cases c1 : x6 = 0
    · have h := mif_t c1 h
      have hq := zz_X3_solve_270 (G := G) (a0 := a0) N k47 hk47 u x1 x2 x3 h
      exact ⟨by omega, by omega⟩
    · have h := mif_f c1 h
      have hq := zz_X3_solve_172 (G := G) (a0 := a0) N k47 hk47 (f_X3_solve_161 N (ub G) (ug G) a0 k47 n) ih N u x1 x2 x3 x4 0 0 h
      exact ⟨by omega, by omega⟩
set_option maxHeartbeats 4000000 in
set_option maxRecDepth 100000 in
theorem w_X3_solve_161 {p : Program} {l : Launch} {e : Env} {R : Room} {s : State} {m : MethodId} {args : Array Value} {below : List Frame} {meth : Method} {c : Code} {G : uG} {a0 : Nat} {uf : UH} (hC : uC p s m args meth c G RX3 cX3_solve 10 none) (hR : 5 ≤ R.frames ∧ 123 ≤ R.locals) (N : Nat) (k47 : UH → Int32 → Int32 → Int32 → Option (UH)) (hk47 : ∀ (u : UH) (x1 : Int32) (x2 : Int32) (x3 : Int32), k47 u x1 x2 x3 = some uf → ∀ (H : Heap) (locs : List Loc), uP G u H → va_S (uA G) s.heap H locs → ∀ ls : Array Slot, lv_has ls 10 [(0, va_rf (some a0)), (1, .int x1), (2, .int x2), (3, .int x3)] → W p l e R s m args below meth c H locs 0 0 (MQ below (uQv G uf) args s 0 0 (uA G)) (F0 m 47 ls [])) : ∀ (n : Nat) (u : UH) (x1 : Int32) (x2 : Int32) (x3 : Int32) (x4 : Int64) (x6 : Int32), f_X3_solve_161 N (ub G) (ug G) a0 k47 n u x1 x2 x3 x4 x6 = some uf → ∀ (H : Heap) (locs : List Loc), uP G u H → va_S (uA G) s.heap H locs → ∀ ls : Array Slot, lv_has ls 10 [(0, va_rf (some a0)), (1, .int x1), (2, .int x2), (3, .int x3), (4, .long x4), (6, .int x6)] → W p l e R s m args below meth c H locs 0 0 (MQ below (uQv G uf) args s 0 0 (uA G)) (F0 m 161 ls []) := by
  obtain ⟨⟨hx, hb, hml, hown, hts⟩, hKK⟩ := id hC
  intro n
  induction n with
  | zero =>
    intro u x1 x2 x3 x4 x6 h
    cases h
  | succ n ih =>
    intro u x1 x2 x3 x4 x6 h H locs hP hS ls hl
    unfold f_X3_solve_161 at h
    refine lv_iload hx hb dX3_solve_161 (lv_at hl 5 rfl) ?_
    refine lv_if_eq (tgt := 270) hx hb dX3_solve_163 (by decide) (fun c1 => ?_) (fun c1 => ?_)
    · have h := mif_t c1 h
      exact w_X3_solve_270 hC hR N k47 hk47 u x1 x2 x3 h hP hS (lv_sub hl [0, 1, 2, 3] rfl)
    · have h := mif_f c1 h
      refine lv_iconst (v := 0) hx hb dX3_solve_166 (by decide) ?_
      refine lv_istore (lv' := [(6, .int 0), (0, va_rf (some a0)), (1, .int x1), (2, .int x2), (3, .int x3), (4, .long x4)]) hx hb dX3_solve_167 hl (by decide) rfl (fun ls hl => ?_)
      refine lv_iconst (v := 0) hx hb dX3_solve_169 (by decide) ?_
      refine lv_istore (lv' := [(7, .int 0), (6, .int 0), (0, va_rf (some a0)), (1, .int x1), (2, .int x2), (3, .int x3), (4, .long x4)]) hx hb dX3_solve_170 hl (by decide) rfl (fun ls hl => ?_)
      exact w_X3_solve_172 hC hR N k47 hk47 (f_X3_solve_161 N (ub G) (ug G) a0 k47 n) ih N u x1 x2 x3 x4 0 0 h _ _ hP hS _ (lv_sub hl [2, 3, 4, 5, 6, 1, 0] rfl)
def f_X3_solve_156 (N b : Nat) (g : uEnv) (a0 : Nat) (k47 : UH → Int32 → Int32 → Int32 → Option (UH)) (u : UH) (x1 : Int32) (x2 : Int32) (x3 : Int32) (s0 : Int64) : Option (UH) :=
    f_X3_solve_161 N b g a0 k47 N u x1 x2 x3 s0 1
set_option maxHeartbeats 4000000 in
set_option maxRecDepth 100000 in
theorem zz_X3_solve_156 {G : uG} {a0 : Nat} {uf : UH} (N : Nat) (k47 : UH → Int32 → Int32 → Int32 → Option (UH)) (hk47 : ∀ (u : UH) (x1 : Int32) (x2 : Int32) (x3 : Int32), k47 u x1 x2 x3 = some uf → uf.1 = u.1 ∧ uf.2.1 = u.2.1) (u : UH) (x1 : Int32) (x2 : Int32) (x3 : Int32) (s0 : Int64) (h : f_X3_solve_156 N (ub G) (ug G) a0 k47 u x1 x2 x3 s0 = some uf) : uf.1 = u.1 ∧ uf.2.1 = u.2.1 := by
  unfold f_X3_solve_156 at h
  have hq := zz_X3_solve_161 (G := G) (a0 := a0) N k47 hk47 N u x1 x2 x3 s0 1 h
  exact ⟨by omega, by omega⟩
set_option maxHeartbeats 4000000 in
set_option maxRecDepth 100000 in
theorem w_X3_solve_156 {p : Program} {l : Launch} {e : Env} {R : Room} {s : State} {m : MethodId} {args : Array Value} {below : List Frame} {meth : Method} {c : Code} {G : uG} {a0 : Nat} {uf : UH} (hC : uC p s m args meth c G RX3 cX3_solve 10 none) (hR : 5 ≤ R.frames ∧ 123 ≤ R.locals) (N : Nat) (k47 : UH → Int32 → Int32 → Int32 → Option (UH)) (hk47 : ∀ (u : UH) (x1 : Int32) (x2 : Int32) (x3 : Int32), k47 u x1 x2 x3 = some uf → ∀ (H : Heap) (locs : List Loc), uP G u H → va_S (uA G) s.heap H locs → ∀ ls : Array Slot, lv_has ls 10 [(0, va_rf (some a0)), (1, .int x1), (2, .int x2), (3, .int x3)] → W p l e R s m args below meth c H locs 0 0 (MQ below (uQv G uf) args s 0 0 (uA G)) (F0 m 47 ls [])) (u : UH) (x1 : Int32) (x2 : Int32) (x3 : Int32) (s0 : Int64) (h : f_X3_solve_156 N (ub G) (ug G) a0 k47 u x1 x2 x3 s0 = some uf) {H : Heap} {locs : List Loc} (hP : uP G u H) (hS : va_S (uA G) s.heap H locs) {ls : Array Slot} (hl : lv_has ls 10 [(0, va_rf (some a0)), (1, .int x1), (2, .int x2), (3, .int x3)]) : W p l e R s m args below meth c H locs 0 0 (MQ below (uQv G uf) args s 0 0 (uA G)) (F0 m 156 ls [.long s0]) := by
  obtain ⟨⟨hx, hb, hml, hown, hts⟩, hKK⟩ := id hC
  unfold f_X3_solve_156 at h
  refine lv_lstore (lv' := [(4, .long s0), (0, va_rf (some a0)), (1, .int x1), (2, .int x2), (3, .int x3)]) hx hb dX3_solve_156 hl (by decide) rfl (fun ls hl => ?_)
  refine lv_iconst (v := 1) hx hb dX3_solve_158 (by decide) ?_
  refine lv_istore (lv' := [(6, .int 1), (4, .long s0), (0, va_rf (some a0)), (1, .int x1), (2, .int x2), (3, .int x3)]) hx hb dX3_solve_159 hl (by decide) rfl (fun ls hl => ?_)
  exact w_X3_solve_161 hC hR N k47 hk47 N u x1 x2 x3 s0 1 h _ _ hP hS _ (lv_sub hl [2, 3, 4, 5, 1, 0] rfl)
def f_X3_solve_136 (N b : Nat) (g : uEnv) (a0 : Nat) (k47 : UH → Int32 → Int32 → Int32 → Option (UH)) (k70 : UH → Int32 → Int32 → Int32 → Int32 → Option (UH)) (u : UH) (x1 : Int32) (x2 : Int32) (x3 : Int32) (x4 : Int32) (s0 : Int64) (s1 : Int32) (s2 : Option Nat) : Option (UH) :=
    (s2).bind fun a1 =>
    (uStL b u a1 3 s1 s0).bind fun u2 =>
    mlet (x4 + 1) fun y3 =>
    k70 u2 x1 x2 x3 y3
set_option maxHeartbeats 4000000 in
set_option maxRecDepth 100000 in
theorem zz_X3_solve_136 {G : uG} {a0 : Nat} {uf : UH} (N : Nat) (k47 : UH → Int32 → Int32 → Int32 → Option (UH)) (hk47 : ∀ (u : UH) (x1 : Int32) (x2 : Int32) (x3 : Int32), k47 u x1 x2 x3 = some uf → uf.1 = u.1 ∧ uf.2.1 = u.2.1) (k70 : UH → Int32 → Int32 → Int32 → Int32 → Option (UH)) (hk70 : ∀ (u : UH) (x1 : Int32) (x2 : Int32) (x3 : Int32) (x4 : Int32), k70 u x1 x2 x3 x4 = some uf → uf.1 = u.1 ∧ uf.2.1 = u.2.1) (u : UH) (x1 : Int32) (x2 : Int32) (x3 : Int32) (x4 : Int32) (s0 : Int64) (s1 : Int32) (s2 : Option Nat) (h : f_X3_solve_136 N (ub G) (ug G) a0 k47 k70 u x1 x2 x3 x4 s0 s1 s2 = some uf) : uf.1 = u.1 ∧ uf.2.1 = u.2.1 := by
  unfold f_X3_solve_136 at h
  obtain ⟨a1, ha1, hha1⟩ := mbind_n h
  subst ha1
  have h := hha1
  obtain ⟨u2, hu2, h⟩ := mbind_n h
  have zu2 := uStL_sz hu2
  obtain ⟨y3, ey3⟩ : ∃ z : Int32, z = x4 + 1 := ⟨_, rfl⟩
  have h := mlet_at ey3 h
  have hq := hk70 u2 x1 x2 x3 y3 h
  exact ⟨by omega, by omega⟩
set_option maxHeartbeats 4000000 in
set_option maxRecDepth 100000 in
theorem w_X3_solve_136 {p : Program} {l : Launch} {e : Env} {R : Room} {s : State} {m : MethodId} {args : Array Value} {below : List Frame} {meth : Method} {c : Code} {G : uG} {a0 : Nat} {uf : UH} (hC : uC p s m args meth c G RX3 cX3_solve 10 none) (hR : 5 ≤ R.frames ∧ 123 ≤ R.locals) (N : Nat) (k47 : UH → Int32 → Int32 → Int32 → Option (UH)) (hk47 : ∀ (u : UH) (x1 : Int32) (x2 : Int32) (x3 : Int32), k47 u x1 x2 x3 = some uf → ∀ (H : Heap) (locs : List Loc), uP G u H → va_S (uA G) s.heap H locs → ∀ ls : Array Slot, lv_has ls 10 [(0, va_rf (some a0)), (1, .int x1), (2, .int x2), (3, .int x3)] → W p l e R s m args below meth c H locs 0 0 (MQ below (uQv G uf) args s 0 0 (uA G)) (F0 m 47 ls [])) (k70 : UH → Int32 → Int32 → Int32 → Int32 → Option (UH)) (hk70 : ∀ (u : UH) (x1 : Int32) (x2 : Int32) (x3 : Int32) (x4 : Int32), k70 u x1 x2 x3 x4 = some uf → ∀ (H : Heap) (locs : List Loc), uP G u H → va_S (uA G) s.heap H locs → ∀ ls : Array Slot, lv_has ls 10 [(0, va_rf (some a0)), (1, .int x1), (2, .int x2), (3, .int x3), (4, .int x4)] → W p l e R s m args below meth c H locs 0 0 (MQ below (uQv G uf) args s 0 0 (uA G)) (F0 m 70 ls [])) (u : UH) (x1 : Int32) (x2 : Int32) (x3 : Int32) (x4 : Int32) (s0 : Int64) (s1 : Int32) (s2 : Option Nat) (h : f_X3_solve_136 N (ub G) (ug G) a0 k47 k70 u x1 x2 x3 x4 s0 s1 s2 = some uf) {H : Heap} {locs : List Loc} (hP : uP G u H) (hS : va_S (uA G) s.heap H locs) {ls : Array Slot} (hl : lv_has ls 10 [(0, va_rf (some a0)), (1, .int x1), (2, .int x2), (3, .int x3), (4, .int x4)]) : W p l e R s m args below meth c H locs 0 0 (MQ below (uQv G uf) args s 0 0 (uA G)) (F0 m 136 ls [.long s0, .int s1, va_rf s2]) := by
  obtain ⟨⟨hx, hb, hml, hown, hts⟩, hKK⟩ := id hC
  unfold f_X3_solve_136 at h
  obtain ⟨a1, ha1, hha1⟩ := mbind_n h
  subst ha1
  have h := hha1
  obtain ⟨u2, hu2, h⟩ := mbind_n h
  have zu2 := uStL_sz hu2
  refine u_last hC hP hS hu2 rfl dX3_solve_136 (fun H locs hP hS => ?_)
  obtain ⟨y3, ey3⟩ : ∃ z : Int32, z = x4 + 1 := ⟨_, rfl⟩
  have h := mlet_at ey3 h
  refine lv_iinc (v := y3) (lv' := [(4, .int y3), (0, va_rf (some a0)), (1, .int x1), (2, .int x2), (3, .int x3)]) hx hb dX3_solve_137 hl (k := 4) rfl (by rw [ey3]; rfl) (by decide) rfl (fun ls hl => ?_)
  refine lv_goto (tgt := 70) hx hb dX3_solve_140 (by decide) ?_
  exact hk70 u2 x1 x2 x3 y3 h _ _ hP hS _ (lv_sub hl [1, 2, 3, 4, 0] rfl)
def f_X3_solve_70 (N b : Nat) (g : uEnv) (a0 : Nat) (k47 : UH → Int32 → Int32 → Int32 → Option (UH)) : Nat → UH → Int32 → Int32 → Int32 → Int32 → Option (UH)
  | 0, _, _, _, _, _ => none
  | n + 1, u, x1, x2, x3, x4 =>
    (uGI u a0 2 35).bind fun y1 =>
    (uGI u a0 2 36).bind fun y2 =>
    if (y1 * y2) ≤ x4 then
    if x2 = 0 then
    f_X3_solve_156 N b g a0 k47 u x1 x2 x3 1
    else
    if uIs u a0 2 = true then
    ucall (f_X3_left N b g u a0 x3) fun r8 u6 =>
    f_X3_solve_156 N b g a0 k47 u6 x1 x2 x3 r8
    else none
    else
    if uIs u a0 2 = true then
    ucall (f_X3_news N b g u a0 x4 x3) fun r12 u10 =>
    (uGR u10 a0 2 48).bind fun o13 =>
    if x4 = x1 then
    f_X3_solve_136 N b g a0 k47 (f_X3_solve_70 N b g a0 k47 n) u10 x1 x2 x3 x4 0 ((100 * x3) + x4) o13
    else
    if r12 = (-1) then
    f_X3_solve_136 N b g a0 k47 (f_X3_solve_70 N b g a0 k47 n) u10 x1 x2 x3 x4 1000000000000000 ((100 * x3) + x4) o13
    else
    if uIs u10 a0 2 = true then
    ucall (f_X3_over N b g u10 a0 x3 x4 r12 x2) fun r19 u17 =>
    f_X3_solve_136 N b g a0 k47 (f_X3_solve_70 N b g a0 k47 n) u17 x1 x2 x3 x4 r19 ((100 * x3) + x4) o13
    else none
    else none
set_option maxHeartbeats 4000000 in
set_option maxRecDepth 100000 in
theorem zz_X3_solve_70 {G : uG} {a0 : Nat} {uf : UH} (N : Nat) (k47 : UH → Int32 → Int32 → Int32 → Option (UH)) (hk47 : ∀ (u : UH) (x1 : Int32) (x2 : Int32) (x3 : Int32), k47 u x1 x2 x3 = some uf → uf.1 = u.1 ∧ uf.2.1 = u.2.1) : ∀ (n : Nat) (u : UH) (x1 : Int32) (x2 : Int32) (x3 : Int32) (x4 : Int32), f_X3_solve_70 N (ub G) (ug G) a0 k47 n u x1 x2 x3 x4 = some uf → uf.1 = u.1 ∧ uf.2.1 = u.2.1 := by
  intro n
  induction n with
  | zero =>
    intro u x1 x2 x3 x4 h
    cases h
  | succ n ih =>
    intro u x1 x2 x3 x4 h
    unfold f_X3_solve_70 at h
    obtain ⟨y1, hy1, h⟩ := mbind_n h
    obtain ⟨y2, hy2, h⟩ := mbind_n h
    by_cases c3 : (y1 * y2) ≤ x4
    · have h := mif_t c3 h
      by_cases c4 : x2 = 0
      · have h := mif_t c4 h
        have hq := zz_X3_solve_156 (G := G) (a0 := a0) N k47 hk47 u x1 x2 x3 1 h
        exact ⟨by omega, by omega⟩
      · have h := mif_f c4 h
        obtain ⟨c5, h⟩ := mif_n h
        obtain ⟨r8, u6, c7, h⟩ := ucall_n h
        have zu6 := zz_X3_left N (ub G) (ug G) u a0 x3 r8 u6 c7
        have hq := zz_X3_solve_156 (G := G) (a0 := a0) N k47 hk47 u6 x1 x2 x3 r8 h
        exact ⟨by omega, by omega⟩
    · have h := mif_f c3 h
      obtain ⟨c9, h⟩ := mif_n h
      obtain ⟨r12, u10, c11, h⟩ := ucall_n h
      have zu10 := zz_X3_news N (ub G) (ug G) u a0 x4 x3 r12 u10 c11
      obtain ⟨o13, ho13, h⟩ := mbind_n h
      by_cases c14 : x4 = x1
      · have h := mif_t c14 h
        have hq := zz_X3_solve_136 (G := G) (a0 := a0) N k47 hk47 (f_X3_solve_70 N (ub G) (ug G) a0 k47 n) ih u10 x1 x2 x3 x4 0 ((100 * x3) + x4) o13 h
        exact ⟨by omega, by omega⟩
      · have h := mif_f c14 h
        by_cases c15 : r12 = (-1)
        · have h := mif_t c15 h
          have hq := zz_X3_solve_136 (G := G) (a0 := a0) N k47 hk47 (f_X3_solve_70 N (ub G) (ug G) a0 k47 n) ih u10 x1 x2 x3 x4 1000000000000000 ((100 * x3) + x4) o13 h
          exact ⟨by omega, by omega⟩
        · have h := mif_f c15 h
          obtain ⟨c16, h⟩ := mif_n h
          obtain ⟨r19, u17, c18, h⟩ := ucall_n h
          have zu17 := zz_X3_over N (ub G) (ug G) u10 a0 x3 x4 r12 x2 r19 u17 c18
          have hq := zz_X3_solve_136 (G := G) (a0 := a0) N k47 hk47 (f_X3_solve_70 N (ub G) (ug G) a0 k47 n) ih u17 x1 x2 x3 x4 r19 ((100 * x3) + x4) o13 h
          exact ⟨by omega, by omega⟩
set_option maxHeartbeats 4000000 in
set_option maxRecDepth 100000 in
theorem w_X3_solve_70 {p : Program} {l : Launch} {e : Env} {R : Room} {s : State} {m : MethodId} {args : Array Value} {below : List Frame} {meth : Method} {c : Code} {G : uG} {a0 : Nat} {uf : UH} (hC : uC p s m args meth c G RX3 cX3_solve 10 none) (hR : 5 ≤ R.frames ∧ 123 ≤ R.locals) (N : Nat) (k47 : UH → Int32 → Int32 → Int32 → Option (UH)) (hk47 : ∀ (u : UH) (x1 : Int32) (x2 : Int32) (x3 : Int32), k47 u x1 x2 x3 = some uf → ∀ (H : Heap) (locs : List Loc), uP G u H → va_S (uA G) s.heap H locs → ∀ ls : Array Slot, lv_has ls 10 [(0, va_rf (some a0)), (1, .int x1), (2, .int x2), (3, .int x3)] → W p l e R s m args below meth c H locs 0 0 (MQ below (uQv G uf) args s 0 0 (uA G)) (F0 m 47 ls [])) : ∀ (n : Nat) (u : UH) (x1 : Int32) (x2 : Int32) (x3 : Int32) (x4 : Int32), f_X3_solve_70 N (ub G) (ug G) a0 k47 n u x1 x2 x3 x4 = some uf → ∀ (H : Heap) (locs : List Loc), uP G u H → va_S (uA G) s.heap H locs → ∀ ls : Array Slot, lv_has ls 10 [(0, va_rf (some a0)), (1, .int x1), (2, .int x2), (3, .int x3), (4, .int x4)] → W p l e R s m args below meth c H locs 0 0 (MQ below (uQv G uf) args s 0 0 (uA G)) (F0 m 70 ls []) := by
  obtain ⟨⟨hx, hb, hml, hown, hts⟩, hKK⟩ := id hC
  intro n
  induction n with
  | zero =>
    intro u x1 x2 x3 x4 h
    cases h
  | succ n ih =>
    intro u x1 x2 x3 x4 h H locs hP hS ls hl
    unfold f_X3_solve_70 at h
    refine lv_iload hx hb dX3_solve_70 (lv_at hl 4 rfl) ?_
    refine u_aload_n (r := some a0) hx hb dX3_solve_72 rfl (lv_at hl 0 rfl) ?_
    obtain ⟨y1, hy1, h⟩ := mbind_n h
    refine u_get hC hP (uGI_n hy1) rfl in_X3 (by decide) q1928 (fun _ h => h) dX3_solve_73 ?_
    refine u_aload_n (r := some a0) hx hb dX3_solve_76 rfl (lv_at hl 0 rfl) ?_
    obtain ⟨y2, hy2, h⟩ := mbind_n h
    refine u_get hC hP (uGI_n hy2) rfl in_X3 (by decide) q1929 (fun _ h => h) dX3_solve_77 ?_
    refine lv_imul hx hb dX3_solve_80 ?_
    refine lv_icmp_ge (tgt := 143) hx hb dX3_solve_81 (by decide) (fun c3 => ?_) (fun c3 => ?_)
    · have h := mif_t c3 h
      refine lv_iload_n hx hb dX3_solve_143 rfl (lv_at hl 2 rfl) ?_
      refine lv_if_eq (tgt := 155) hx hb dX3_solve_144 (by decide) (fun c4 => ?_) (fun c4 => ?_)
      · have h := mif_t c4 h
        refine lv_lconst (v := 1) hx hb dX3_solve_155 (by decide) ?_
        exact w_X3_solve_156 hC hR N k47 hk47 u x1 x2 x3 1 h hP hS (lv_sub hl [0, 1, 2, 3] rfl)
      · have h := mif_f c4 h
        refine u_aload_n (r := some a0) hx hb dX3_solve_147 rfl (lv_at hl 0 rfl) ?_
        refine lv_iload_n hx hb dX3_solve_148 rfl (lv_at hl 3 rfl) ?_
        obtain ⟨c5, h⟩ := mif_n h
        obtain ⟨r8, u6, c7, h⟩ := ucall_n h
        have zu6 := zz_X3_left N (ub G) (ug G) u a0 x3 r8 u6 c7
        refine u_calll (va_runV (As := [.int x3]) (rest := []) hC.1 (met_X3_left l N G u a0 x3 r8 u6 c7) (cwV 1 hts (lw_V q2387 q2389 qs78 q103 q2390) rfl rfl rfl (by decide +kernel) ⟨Nat.le_trans (Nat.le_of_ble_eq_true rfl) hR.1, Nat.le_trans (Nat.le_of_ble_eq_true rfl) hR.2⟩) ⟨uPc_blind, u_rcv hC hP c5 rfl, fun U hU hW => u_pre hC hP hS hU hW⟩ rfl rfl hl.1 rfl (lv_room (Nat.le_of_ble_eq_true rfl)) dX3_solve_149 ⟨Nat.zero_le _, Nat.zero_le _⟩) hS (fun H locs hP hS => ?_)
        refine lv_goto (tgt := 156) hx hb dX3_solve_152 (by decide) ?_
        exact w_X3_solve_156 hC hR N k47 hk47 u6 x1 x2 x3 r8 h hP hS (lv_sub hl [0, 1, 2, 3] rfl)
    · have h := mif_f c3 h
      refine u_aload_n (r := some a0) hx hb dX3_solve_84 rfl (lv_at hl 0 rfl) ?_
      refine lv_iload hx hb dX3_solve_85 (lv_at hl 4 rfl) ?_
      refine lv_iload_n hx hb dX3_solve_87 rfl (lv_at hl 3 rfl) ?_
      obtain ⟨c9, h⟩ := mif_n h
      obtain ⟨r12, u10, c11, h⟩ := ucall_n h
      have zu10 := zz_X3_news N (ub G) (ug G) u a0 x4 x3 r12 u10 c11
      refine u_calli (va_runV (As := [.int x4, .int x3]) (rest := []) hC.1 (met_X3_news l N G u a0 x4 x3 r12 u10 c11) (cwV 2 hts (lw_V q2371 q2373 qs75 q103 q2374) rfl rfl rfl (by decide +kernel) ⟨Nat.le_trans (Nat.le_of_ble_eq_true rfl) hR.1, Nat.le_trans (Nat.le_of_ble_eq_true rfl) hR.2⟩) ⟨uPc_blind, u_rcv hC hP c9 rfl, fun U hU hW => u_pre hC hP hS hU hW⟩ rfl rfl hl.1 rfl (lv_room (Nat.le_of_ble_eq_true rfl)) dX3_solve_88 ⟨Nat.zero_le _, Nat.zero_le _⟩) hS (fun H locs hP hS => ?_)
      refine lv_istore (lv' := [(5, .int r12), (0, va_rf (some a0)), (1, .int x1), (2, .int x2), (3, .int x3), (4, .int x4)]) hx hb dX3_solve_91 hl (by decide) rfl (fun ls hl => ?_)
      refine u_aload_n (r := some a0) hx hb dX3_solve_93 rfl (lv_at hl 1 rfl) ?_
      obtain ⟨o13, ho13, h⟩ := mbind_n h
      refine u_get hC hP (uGR_n ho13) rfl in_X3 (by decide) q1941 (fun _ h => h) dX3_solve_94 ?_
      refine lv_bipush (v := 100) hx hb dX3_solve_97 (by decide) ?_
      refine lv_iload_n hx hb dX3_solve_99 rfl (lv_at hl 4 rfl) ?_
      refine lv_imul hx hb dX3_solve_100 ?_
      refine lv_iload hx hb dX3_solve_101 (lv_at hl 5 rfl) ?_
      refine lv_iadd hx hb dX3_solve_103 ?_
      refine lv_iload hx hb dX3_solve_104 (lv_at hl 5 rfl) ?_
      refine lv_iload_n hx hb dX3_solve_106 rfl (lv_at hl 2 rfl) ?_
      refine lv_icmp_ne (tgt := 114) hx hb dX3_solve_107 (by decide) (fun c14 => ?_) (fun c14 => ?_)
      · have h := mif_f c14 h
        refine lv_iload hx hb dX3_solve_114 (lv_at hl 0 rfl) ?_
        refine lv_iconst (v := (-1)) hx hb dX3_solve_116 (by decide) ?_
        refine lv_icmp_ne (tgt := 126) hx hb dX3_solve_117 (by decide) (fun c15 => ?_) (fun c15 => ?_)
        · have h := mif_f c15 h
          refine u_aload_n (r := some a0) hx hb dX3_solve_126 rfl (lv_at hl 1 rfl) ?_
          refine lv_iload_n hx hb dX3_solve_127 rfl (lv_at hl 4 rfl) ?_
          refine lv_iload hx hb dX3_solve_128 (lv_at hl 5 rfl) ?_
          refine lv_iload hx hb dX3_solve_130 (lv_at hl 0 rfl) ?_
          refine lv_iload_n hx hb dX3_solve_132 rfl (lv_at hl 3 rfl) ?_
          obtain ⟨c16, h⟩ := mif_n h
          obtain ⟨r19, u17, c18, h⟩ := ucall_n h
          have zu17 := zz_X3_over N (ub G) (ug G) u10 a0 x3 x4 r12 x2 r19 u17 c18
          refine u_calll (va_runV (As := [.int x3, .int x4, .int r12, .int x2]) (rest := [.int ((100 * x3) + x4), va_rf o13]) hC.1 (met_X3_over l N G u10 a0 x3 x4 r12 x2 r19 u17 c18) (cwV 4 hts (lw_V q2376 q2378 qs76 q103 q2379) rfl rfl rfl (by decide +kernel) ⟨Nat.le_trans (Nat.le_of_ble_eq_true rfl) hR.1, Nat.le_trans (Nat.le_of_ble_eq_true rfl) hR.2⟩) ⟨uPc_blind, u_rcv hC hP c16 rfl, fun U hU hW => u_pre hC hP hS hU hW⟩ rfl rfl hl.1 rfl (lv_room (by simp only [List.map, u_cat]; exact Nat.le_of_ble_eq_true rfl)) dX3_solve_133 ⟨Nat.zero_le _, Nat.zero_le _⟩) hS (fun H locs hP hS => ?_)
          exact w_X3_solve_136 hC hR N k47 hk47 (f_X3_solve_70 N (ub G) (ug G) a0 k47 n) ih u17 x1 x2 x3 x4 r19 ((100 * x3) + x4) o13 h hP hS (lv_sub hl [1, 2, 3, 4, 5] rfl)
        · have h := mif_t c15 h
          refine lv_ldc2 hx hb hown (hts _ q2375) dX3_solve_120 ?_
          refine lv_goto (tgt := 136) hx hb dX3_solve_123 (by decide) ?_
          exact w_X3_solve_136 hC hR N k47 hk47 (f_X3_solve_70 N (ub G) (ug G) a0 k47 n) ih u10 x1 x2 x3 x4 1000000000000000 ((100 * x3) + x4) o13 h hP hS (lv_sub hl [1, 2, 3, 4, 5] rfl)
      · have h := mif_t c14 h
        refine lv_lconst (v := 0) hx hb dX3_solve_110 (by decide) ?_
        refine lv_goto (tgt := 136) hx hb dX3_solve_111 (by decide) ?_
        exact w_X3_solve_136 hC hR N k47 hk47 (f_X3_solve_70 N (ub G) (ug G) a0 k47 n) ih u10 x1 x2 x3 x4 0 ((100 * x3) + x4) o13 h hP hS (lv_sub hl [1, 2, 3, 4, 5] rfl)
def f_X3_solve_47 (N b : Nat) (g : uEnv) (a0 : Nat) : Nat → UH → Int32 → Int32 → Int32 → Option (UH)
  | 0, _, _, _, _ => none
  | n + 1, u, x1, x2, x3 =>
    if x3 < 0 then
    some u
    else
    if uIs u a0 2 = true then
    ucall (f_X3_canBe N b g u a0 x3) fun r5 u3 =>
    if r5 = 0 then
    f_X3_solve_270 N b g a0 (f_X3_solve_47 N b g a0 n) u3 x1 x2 x3
    else
    if uIs u3 a0 2 = true then
    (f_X3_lays N b g u3 a0 x3).bind fun u8 =>
    f_X3_solve_70 N b g a0 (f_X3_solve_47 N b g a0 n) N u8 x1 x2 x3 0
    else none
    else none
set_option maxHeartbeats 4000000 in
set_option maxRecDepth 100000 in
theorem zz_X3_solve_47 {G : uG} {a0 : Nat} {uf : UH} (N : Nat) : ∀ (n : Nat) (u : UH) (x1 : Int32) (x2 : Int32) (x3 : Int32), f_X3_solve_47 N (ub G) (ug G) a0 n u x1 x2 x3 = some uf → uf.1 = u.1 ∧ uf.2.1 = u.2.1 := by
  intro n
  induction n with
  | zero =>
    intro u x1 x2 x3 h
    cases h
  | succ n ih =>
    intro u x1 x2 x3 h
    unfold f_X3_solve_47 at h
    by_cases c1 : x3 < 0
    · have h := mif_t c1 h
      cases h
      exact ⟨by omega, by omega⟩
    · have h := mif_f c1 h
      obtain ⟨c2, h⟩ := mif_n h
      obtain ⟨r5, u3, c4, h⟩ := ucall_n h
      have zu3 := zz_X3_canBe N (ub G) (ug G) u a0 x3 r5 u3 c4
      by_cases c6 : r5 = 0
      · have h := mif_t c6 h
        have hq := zz_X3_solve_270 (G := G) (a0 := a0) N (f_X3_solve_47 N (ub G) (ug G) a0 n) ih u3 x1 x2 x3 h
        exact ⟨by omega, by omega⟩
      · have h := mif_f c6 h
        obtain ⟨c7, h⟩ := mif_n h
        obtain ⟨u8, c9, h⟩ := mbind_n h
        have zu8 := zz_X3_lays N (ub G) (ug G) u3 a0 x3 u8 c9
        have hq := zz_X3_solve_70 (G := G) (a0 := a0) N (f_X3_solve_47 N (ub G) (ug G) a0 n) ih N u8 x1 x2 x3 0 h
        exact ⟨by omega, by omega⟩
set_option maxHeartbeats 4000000 in
set_option maxRecDepth 100000 in
theorem w_X3_solve_47 {p : Program} {l : Launch} {e : Env} {R : Room} {s : State} {m : MethodId} {args : Array Value} {below : List Frame} {meth : Method} {c : Code} {G : uG} {a0 : Nat} {uf : UH} (hC : uC p s m args meth c G RX3 cX3_solve 10 none) (hR : 5 ≤ R.frames ∧ 123 ≤ R.locals) (N : Nat) : ∀ (n : Nat) (u : UH) (x1 : Int32) (x2 : Int32) (x3 : Int32), f_X3_solve_47 N (ub G) (ug G) a0 n u x1 x2 x3 = some uf → ∀ (H : Heap) (locs : List Loc), uP G u H → va_S (uA G) s.heap H locs → ∀ ls : Array Slot, lv_has ls 10 [(0, va_rf (some a0)), (1, .int x1), (2, .int x2), (3, .int x3)] → W p l e R s m args below meth c H locs 0 0 (MQ below (uQv G uf) args s 0 0 (uA G)) (F0 m 47 ls []) := by
  obtain ⟨⟨hx, hb, hml, hown, hts⟩, hKK⟩ := id hC
  intro n
  induction n with
  | zero =>
    intro u x1 x2 x3 h
    cases h
  | succ n ih =>
    intro u x1 x2 x3 h H locs hP hS ls hl
    unfold f_X3_solve_47 at h
    refine lv_iload_n hx hb dX3_solve_47 rfl (lv_at hl 3 rfl) ?_
    refine lv_if_lt (tgt := 276) hx hb dX3_solve_48 (by decide) (fun c1 => ?_) (fun c1 => ?_)
    · have h := mif_t c1 h
      cases h
      exact u_vret hC hP hS dX3_solve_276
    · have h := mif_f c1 h
      refine u_aload_n (r := some a0) hx hb dX3_solve_51 rfl (lv_at hl 0 rfl) ?_
      refine lv_iload_n hx hb dX3_solve_52 rfl (lv_at hl 3 rfl) ?_
      obtain ⟨c2, h⟩ := mif_n h
      obtain ⟨r5, u3, c4, h⟩ := ucall_n h
      have zu3 := zz_X3_canBe N (ub G) (ug G) u a0 x3 r5 u3 c4
      refine u_calli (va_runV (As := [.int x3]) (rest := []) hC.1 (met_X3_canBe l N G u a0 x3 r5 u3 c4) (cwV 1 hts (lw_V q2356 q2358 qs72 q103 q2359) rfl rfl rfl (by decide +kernel) ⟨Nat.le_trans (Nat.le_of_ble_eq_true rfl) hR.1, Nat.le_trans (Nat.le_of_ble_eq_true rfl) hR.2⟩) ⟨uPc_blind, u_rcv hC hP c2 rfl, fun U hU hW => u_pre hC hP hS hU hW⟩ rfl rfl hl.1 rfl (lv_room (Nat.le_of_ble_eq_true rfl)) dX3_solve_53 ⟨Nat.zero_le _, Nat.zero_le _⟩) hS (fun H locs hP hS => ?_)
      refine lv_if_ne (tgt := 62) hx hb dX3_solve_56 (by decide) (fun c6 => ?_) (fun c6 => ?_)
      · have h := mif_f c6 h
        refine u_aload_n (r := some a0) hx hb dX3_solve_62 rfl (lv_at hl 0 rfl) ?_
        refine lv_iload_n hx hb dX3_solve_63 rfl (lv_at hl 3 rfl) ?_
        obtain ⟨c7, h⟩ := mif_n h
        obtain ⟨u8, c9, h⟩ := mbind_n h
        have zu8 := zz_X3_lays N (ub G) (ug G) u3 a0 x3 u8 c9
        refine u_callv (va_runV (As := [.int x3]) (rest := []) hC.1 (met_X3_lays l N G u3 a0 x3 u8 c9) (cwV 1 hts (lw_V q2363 q2365 qs73 q103 q2366) rfl rfl rfl (by decide +kernel) ⟨Nat.le_trans (Nat.le_of_ble_eq_true rfl) hR.1, Nat.le_trans (Nat.le_of_ble_eq_true rfl) hR.2⟩) ⟨uPc_blind, u_rcv hC hP c7 rfl, fun U hU hW => u_pre hC hP hS hU hW⟩ rfl rfl hl.1 rfl (lv_room (Nat.le_of_ble_eq_true rfl)) dX3_solve_64 ⟨Nat.zero_le _, Nat.zero_le _⟩) hS (fun H locs hP hS => ?_)
        refine lv_iconst (v := 0) hx hb dX3_solve_67 (by decide) ?_
        refine lv_istore (lv' := [(4, .int 0), (0, va_rf (some a0)), (1, .int x1), (2, .int x2), (3, .int x3)]) hx hb dX3_solve_68 hl (by decide) rfl (fun ls hl => ?_)
        exact w_X3_solve_70 hC hR N (f_X3_solve_47 N (ub G) (ug G) a0 n) ih N u8 x1 x2 x3 0 h _ _ hP hS _ (lv_sub hl [1, 2, 3, 4, 0] rfl)
      · have h := mif_t c6 h
        refine lv_goto (tgt := 270) hx hb dX3_solve_59 (by decide) ?_
        exact w_X3_solve_270 hC hR N (f_X3_solve_47 N (ub G) (ug G) a0 n) ih u3 x1 x2 x3 h hP hS (lv_sub hl [0, 1, 2, 3] rfl)
def f_X3_solve_24 (N b : Nat) (g : uEnv) (a0 : Nat) (u : UH) (x1 : Int32) (x2 : Int32) : Option (UH) :=
    (uPut b u a0 2 51 (.int 1)).bind fun u1 =>
    (uPut b u1 a0 2 49 (.int x1)).bind fun u2 =>
    if uFit .boolean x2 = true then
    (uPut b u2 a0 2 50 (.int x2)).bind fun u4 =>
    if uIs u4 a0 2 = true then
    (f_X3_prepares N b g u4 a0).bind fun u6 =>
    f_X3_solve_47 N b g a0 N u6 x1 x2 1023
    else none
    else none
set_option maxHeartbeats 4000000 in
set_option maxRecDepth 100000 in
theorem zz_X3_solve_24 {G : uG} {a0 : Nat} {uf : UH} (N : Nat) (u : UH) (x1 : Int32) (x2 : Int32) (h : f_X3_solve_24 N (ub G) (ug G) a0 u x1 x2 = some uf) : uf.1 = u.1 ∧ uf.2.1 = u.2.1 := by
  unfold f_X3_solve_24 at h
  obtain ⟨u1, hu1, h⟩ := mbind_n h
  have zu1 := uPut_sz hu1
  obtain ⟨u2, hu2, h⟩ := mbind_n h
  have zu2 := uPut_sz hu2
  obtain ⟨c3, h⟩ := mif_n h
  obtain ⟨u4, hu4, h⟩ := mbind_n h
  have zu4 := uPut_sz hu4
  obtain ⟨c5, h⟩ := mif_n h
  obtain ⟨u6, c7, h⟩ := mbind_n h
  have zu6 := zz_X3_prepares N (ub G) (ug G) u4 a0 u6 c7
  have hq := zz_X3_solve_47 (G := G) (a0 := a0) N N u6 x1 x2 1023 h
  exact ⟨by omega, by omega⟩
set_option maxHeartbeats 4000000 in
set_option maxRecDepth 100000 in
theorem w_X3_solve_24 {p : Program} {l : Launch} {e : Env} {R : Room} {s : State} {m : MethodId} {args : Array Value} {below : List Frame} {meth : Method} {c : Code} {G : uG} {a0 : Nat} {uf : UH} (hC : uC p s m args meth c G RX3 cX3_solve 10 none) (hR : 5 ≤ R.frames ∧ 123 ≤ R.locals) (N : Nat) (u : UH) (x1 : Int32) (x2 : Int32) (h : f_X3_solve_24 N (ub G) (ug G) a0 u x1 x2 = some uf) {H : Heap} {locs : List Loc} (hP : uP G u H) (hS : va_S (uA G) s.heap H locs) {ls : Array Slot} (hl : lv_has ls 10 [(0, va_rf (some a0)), (1, .int x1), (2, .int x2)]) : W p l e R s m args below meth c H locs 0 0 (MQ below (uQv G uf) args s 0 0 (uA G)) (F0 m 24 ls []) := by
  obtain ⟨⟨hx, hb, hml, hown, hts⟩, hKK⟩ := id hC
  unfold f_X3_solve_24 at h
  refine u_aload_n (r := some a0) hx hb dX3_solve_24 rfl (lv_at hl 0 rfl) ?_
  refine lv_iconst (v := 1) hx hb dX3_solve_25 (by decide) ?_
  obtain ⟨u1, hu1, h⟩ := mbind_n h
  have zu1 := uPut_sz hu1
  refine u_put hC hP hS hu1 rfl in_X3 tyX3 tyX3_ok nmX3 (by decide) q1944 (fun _ h => h) rfl (ty := .boolean) (tyX3_ok 51 (by decide)) (uFit_n (ty := .boolean) (v := 1) rfl).1 (uFit_n (ty := .boolean) (v := 1) rfl).2 dX3_solve_26 (fun H locs hP hS => ?_)
  refine u_aload_n (r := some a0) hx hb dX3_solve_29 rfl (lv_at hl 0 rfl) ?_
  refine lv_iload_n hx hb dX3_solve_30 rfl (lv_at hl 1 rfl) ?_
  obtain ⟨u2, hu2, h⟩ := mbind_n h
  have zu2 := uPut_sz hu2
  refine u_put hC hP hS hu2 rfl in_X3 tyX3 tyX3_ok nmX3 (by decide) q1942 (fun _ h => h) rfl (ty := .int) (tyX3_ok 49 (by decide)) rfl rfl dX3_solve_31 (fun H locs hP hS => ?_)
  refine u_aload_n (r := some a0) hx hb dX3_solve_34 rfl (lv_at hl 0 rfl) ?_
  refine lv_iload_n hx hb dX3_solve_35 rfl (lv_at hl 2 rfl) ?_
  obtain ⟨c3, h⟩ := mif_n h
  obtain ⟨u4, hu4, h⟩ := mbind_n h
  have zu4 := uPut_sz hu4
  refine u_put hC hP hS hu4 rfl in_X3 tyX3 tyX3_ok nmX3 (by decide) q1943 (fun _ h => h) rfl (ty := .boolean) (tyX3_ok 50 (by decide)) (uFit_n c3).1 (uFit_n c3).2 dX3_solve_36 (fun H locs hP hS => ?_)
  refine u_aload_n (r := some a0) hx hb dX3_solve_39 rfl (lv_at hl 0 rfl) ?_
  obtain ⟨c5, h⟩ := mif_n h
  obtain ⟨u6, c7, h⟩ := mbind_n h
  have zu6 := zz_X3_prepares N (ub G) (ug G) u4 a0 u6 c7
  refine u_callv (va_runV (As := []) (rest := []) hC.1 (met_X3_prepares l N G u4 a0 u6 c7) (cwV 0 hts (lw_V q2344 q2346 qs69 q103 q2347) rfl rfl rfl (by decide +kernel) ⟨Nat.le_trans (Nat.le_of_ble_eq_true rfl) hR.1, Nat.le_trans (Nat.le_of_ble_eq_true rfl) hR.2⟩) ⟨uPc_blind, u_rcv hC hP c5 rfl, fun U hU hW => u_pre hC hP hS hU hW⟩ rfl rfl hl.1 rfl (lv_room (Nat.le_of_ble_eq_true rfl)) dX3_solve_40 ⟨Nat.zero_le _, Nat.zero_le _⟩) hS (fun H locs hP hS => ?_)
  refine lv_sipush (v := 1023) hx hb dX3_solve_43 (by decide) ?_
  refine lv_istore_n (i := 3) (lv' := [(3, .int 1023), (0, va_rf (some a0)), (1, .int x1), (2, .int x2)]) hx hb dX3_solve_46 rfl hl (by decide) rfl (fun ls hl => ?_)
  exact w_X3_solve_47 hC hR N N u6 x1 x2 1023 h _ _ hP hS _ (lv_sub hl [1, 2, 3, 0] rfl)
def f_X3_solve (N b : Nat) (g : uEnv) (u : UH) (a0 : Nat) (x1 : Int32) (x2 : Int32) : Option (UH) :=
    (uGI u a0 2 51).bind fun y1 =>
    if y1 = 0 then
    f_X3_solve_24 N b g a0 u x1 x2
    else
    (uGI u a0 2 49).bind fun y3 =>
    if y3 = x1 then
    (uGI u a0 2 50).bind fun y5 =>
    if y5 = x2 then
    some u
    else
    f_X3_solve_24 N b g a0 u x1 x2
    else
    f_X3_solve_24 N b g a0 u x1 x2
set_option maxHeartbeats 4000000 in
set_option maxRecDepth 100000 in
theorem zz_X3_solve_0 {G : uG} {a0 : Nat} {uf : UH} (N : Nat) (u : UH) (x1 : Int32) (x2 : Int32) (h : f_X3_solve N (ub G) (ug G) u a0 x1 x2 = some uf) : uf.1 = u.1 ∧ uf.2.1 = u.2.1 := by
  unfold f_X3_solve at h
  obtain ⟨y1, hy1, h⟩ := mbind_n h
  by_cases c2 : y1 = 0
  · have h := mif_t c2 h
    have hq := zz_X3_solve_24 (G := G) (a0 := a0) N u x1 x2 h
    exact ⟨by omega, by omega⟩
  · have h := mif_f c2 h
    obtain ⟨y3, hy3, h⟩ := mbind_n h
    by_cases c4 : y3 = x1
    · have h := mif_t c4 h
      obtain ⟨y5, hy5, h⟩ := mbind_n h
      by_cases c6 : y5 = x2
      · have h := mif_t c6 h
        cases h
        exact ⟨by omega, by omega⟩
      · have h := mif_f c6 h
        have hq := zz_X3_solve_24 (G := G) (a0 := a0) N u x1 x2 h
        exact ⟨by omega, by omega⟩
    · have h := mif_f c4 h
      have hq := zz_X3_solve_24 (G := G) (a0 := a0) N u x1 x2 h
      exact ⟨by omega, by omega⟩
set_option maxHeartbeats 4000000 in
set_option maxRecDepth 100000 in
theorem w_X3_solve_0 {p : Program} {l : Launch} {e : Env} {R : Room} {s : State} {m : MethodId} {args : Array Value} {below : List Frame} {meth : Method} {c : Code} {G : uG} {a0 : Nat} {uf : UH} (hC : uC p s m args meth c G RX3 cX3_solve 10 none) (hR : 5 ≤ R.frames ∧ 123 ≤ R.locals) (N : Nat) (u : UH) (x1 : Int32) (x2 : Int32) (h : f_X3_solve N (ub G) (ug G) u a0 x1 x2 = some uf) {H : Heap} {locs : List Loc} (hP : uP G u H) (hS : va_S (uA G) s.heap H locs) {ls : Array Slot} (hl : lv_has ls 10 [(0, va_rf (some a0)), (1, .int x1), (2, .int x2)]) : W p l e R s m args below meth c H locs 0 0 (MQ below (uQv G uf) args s 0 0 (uA G)) (F0 m 0 ls []) := by
  obtain ⟨⟨hx, hb, hml, hown, hts⟩, hKK⟩ := id hC
  unfold f_X3_solve at h
  refine u_aload_n (r := some a0) hx hb dX3_solve_0 rfl (lv_at hl 0 rfl) ?_
  obtain ⟨y1, hy1, h⟩ := mbind_n h
  refine u_get hC hP (uGI_n hy1) rfl in_X3 (by decide) q1944 (fun _ h => h) dX3_solve_1 ?_
  refine lv_if_eq (tgt := 24) hx hb dX3_solve_4 (by decide) (fun c2 => ?_) (fun c2 => ?_)
  · have h := mif_t c2 h
    exact w_X3_solve_24 hC hR N u x1 x2 h hP hS (lv_sub hl [0, 1, 2] rfl)
  · have h := mif_f c2 h
    refine u_aload_n (r := some a0) hx hb dX3_solve_7 rfl (lv_at hl 0 rfl) ?_
    obtain ⟨y3, hy3, h⟩ := mbind_n h
    refine u_get hC hP (uGI_n hy3) rfl in_X3 (by decide) q1942 (fun _ h => h) dX3_solve_8 ?_
    refine lv_iload_n hx hb dX3_solve_11 rfl (lv_at hl 1 rfl) ?_
    refine lv_icmp_ne (tgt := 24) hx hb dX3_solve_12 (by decide) (fun c4 => ?_) (fun c4 => ?_)
    · have h := mif_f c4 h
      exact w_X3_solve_24 hC hR N u x1 x2 h hP hS (lv_sub hl [0, 1, 2] rfl)
    · have h := mif_t c4 h
      refine u_aload_n (r := some a0) hx hb dX3_solve_15 rfl (lv_at hl 0 rfl) ?_
      obtain ⟨y5, hy5, h⟩ := mbind_n h
      refine u_get hC hP (uGI_n hy5) rfl in_X3 (by decide) q1943 (fun _ h => h) dX3_solve_16 ?_
      refine lv_iload_n hx hb dX3_solve_19 rfl (lv_at hl 2 rfl) ?_
      refine lv_icmp_ne (tgt := 24) hx hb dX3_solve_20 (by decide) (fun c6 => ?_) (fun c6 => ?_)
      · have h := mif_f c6 h
        exact w_X3_solve_24 hC hR N u x1 x2 h hP hS (lv_sub hl [0, 1, 2] rfl)
      · have h := mif_t c6 h
        cases h
        exact u_vret hC hP hS dX3_solve_23
theorem zz_X3_solve (N b : Nat) (g : uEnv) (u : UH) (a0 : Nat) (x1 : Int32) (x2 : Int32) (uf : UH) (h : f_X3_solve N b g u a0 x1 x2 = some uf) : uf.1 = u.1 ∧ uf.2.1 = u.2.1 :=
  zz_X3_solve_0 (G := ((fun _ => 0, fun _ _ => 0), fun _ => 0, b, g)) (a0 := a0) N u x1 x2 h
theorem met_X3_solve (l : Launch) (N : Nat) (G : uG) (u : UH) (a0 : Nat) (x1 : Int32) (x2 : Int32) (uf : UH) (h : f_X3_solve N (ub G) (ug G) u a0 x1 x2 = some uf) : Met l yX3_solve (ws_ yX3_solve cX3_solve 10 none) ({ frames := 5, cells := 0, slots := 0, locals := 123 }) (uPc G u [.ref a0, .int x1, .int x2]) (uQv G uf) 0 0 (uA G) := by
  exact u_met (own := RX3) (by decide +kernel) rfl (Nat.le_of_ble_eq_true rfl) (fun hC hn hsz ls hl hP => w_X3_solve_0 hC ⟨Nat.le_refl _, Nat.le_refl _⟩ N u x1 x2 h hP va_S.rf hl)
def f_X3_from_39 (N b : Nat) (g : uEnv) (a0 : Nat) (u : UH) (s0 : Int64) : Option (Int64 × UH) :=
    some (s0, u)
set_option maxHeartbeats 4000000 in
set_option maxRecDepth 100000 in
theorem zz_X3_from_39 {G : uG} {a0 : Nat} {uf : UH} {r : Int64} (N : Nat) (u : UH) (s0 : Int64) (h : f_X3_from_39 N (ub G) (ug G) a0 u s0 = some (r, uf)) : uf.1 = u.1 ∧ uf.2.1 = u.2.1 := by
  unfold f_X3_from_39 at h
  obtain ⟨hr1, hr2⟩ := uret_n h
  subst hr2
  exact ⟨by omega, by omega⟩
set_option maxHeartbeats 4000000 in
set_option maxRecDepth 100000 in
theorem w_X3_from_39 {p : Program} {l : Launch} {e : Env} {R : Room} {s : State} {m : MethodId} {args : Array Value} {below : List Frame} {meth : Method} {c : Code} {G : uG} {a0 : Nat} {uf : UH} {r : Int64} (hC : uC p s m args meth c G RX3 cX3_from 6 (some .long)) (hR : 6 ≤ R.frames ∧ 152 ≤ R.locals) (N : Nat) (u : UH) (s0 : Int64) (h : f_X3_from_39 N (ub G) (ug G) a0 u s0 = some (r, uf)) {H : Heap} {locs : List Loc} (hP : uP G u H) (hS : va_S (uA G) s.heap H locs) {ls : Array Slot} (hl : lv_has ls 6 []) : W p l e R s m args below meth c H locs 0 0 (MQ below (uQl G r uf) args s 0 0 (uA G)) (F0 m 39 ls [.long s0]) := by
  obtain ⟨⟨hx, hb, hml, hown, hts⟩, hKK⟩ := id hC
  unfold f_X3_from_39 at h
  obtain ⟨hr1, hr2⟩ := uret_n h
  subst hr1
  subst hr2
  exact u_lret hC hP hS dX3_from_39
def f_X3_from (N b : Nat) (g : uEnv) (u : UH) (a0 : Nat) (x1 : Int32) (x2 : Int32) (x3 : Int32) : Option (Int64 × UH) :=
    if uIs u a0 2 = true then
    (f_X3_solve N b g u a0 x2 x3).bind fun u2 =>
    (uGR u2 a0 2 48).bind fun o4 =>
    if uIs u2 a0 2 = true then
    ucall (f_X3_base N b g u2 a0) fun r8 u6 =>
    (o4).bind fun a9 =>
    (uLdL u6 a9 3 ((100 * r8) + x1)).bind fun y10 =>
    if (lg_cmp y10 1000000000000000) < 0 then
    f_X3_from_39 N b g a0 u6 y10
    else
    f_X3_from_39 N b g a0 u6 (-1)
    else none
    else none
set_option maxHeartbeats 4000000 in
set_option maxRecDepth 100000 in
theorem zz_X3_from_0 {G : uG} {a0 : Nat} {uf : UH} {r : Int64} (N : Nat) (u : UH) (x1 : Int32) (x2 : Int32) (x3 : Int32) (h : f_X3_from N (ub G) (ug G) u a0 x1 x2 x3 = some (r, uf)) : uf.1 = u.1 ∧ uf.2.1 = u.2.1 := by
  unfold f_X3_from at h
  obtain ⟨c1, h⟩ := mif_n h
  obtain ⟨u2, c3, h⟩ := mbind_n h
  have zu2 := zz_X3_solve N (ub G) (ug G) u a0 x2 x3 u2 c3
  obtain ⟨o4, ho4, h⟩ := mbind_n h
  obtain ⟨c5, h⟩ := mif_n h
  obtain ⟨r8, u6, c7, h⟩ := ucall_n h
  have zu6 := zz_X3_base N (ub G) (ug G) u2 a0 r8 u6 c7
  obtain ⟨a9, ha9, hha9⟩ := mbind_n h
  subst ha9
  have h := hha9
  obtain ⟨y10, hy10, h⟩ := mbind_n h
  by_cases c11 : (lg_cmp y10 1000000000000000) < 0
  · have h := mif_t c11 h
    have hq := zz_X3_from_39 (G := G) (a0 := a0) N u6 y10 h
    exact ⟨by omega, by omega⟩
  · have h := mif_f c11 h
    have hq := zz_X3_from_39 (G := G) (a0 := a0) N u6 (-1) h
    exact ⟨by omega, by omega⟩
set_option maxHeartbeats 4000000 in
set_option maxRecDepth 100000 in
theorem w_X3_from_0 {p : Program} {l : Launch} {e : Env} {R : Room} {s : State} {m : MethodId} {args : Array Value} {below : List Frame} {meth : Method} {c : Code} {G : uG} {a0 : Nat} {uf : UH} {r : Int64} (hC : uC p s m args meth c G RX3 cX3_from 6 (some .long)) (hR : 6 ≤ R.frames ∧ 152 ≤ R.locals) (N : Nat) (u : UH) (x1 : Int32) (x2 : Int32) (x3 : Int32) (h : f_X3_from N (ub G) (ug G) u a0 x1 x2 x3 = some (r, uf)) {H : Heap} {locs : List Loc} (hP : uP G u H) (hS : va_S (uA G) s.heap H locs) {ls : Array Slot} (hl : lv_has ls 6 [(0, va_rf (some a0)), (1, .int x1), (2, .int x2), (3, .int x3)]) : W p l e R s m args below meth c H locs 0 0 (MQ below (uQl G r uf) args s 0 0 (uA G)) (F0 m 0 ls []) := by
  obtain ⟨⟨hx, hb, hml, hown, hts⟩, hKK⟩ := id hC
  unfold f_X3_from at h
  refine u_aload_n (r := some a0) hx hb dX3_from_0 rfl (lv_at hl 0 rfl) ?_
  refine lv_iload_n hx hb dX3_from_1 rfl (lv_at hl 2 rfl) ?_
  refine lv_iload_n hx hb dX3_from_2 rfl (lv_at hl 3 rfl) ?_
  obtain ⟨c1, h⟩ := mif_n h
  obtain ⟨u2, c3, h⟩ := mbind_n h
  have zu2 := zz_X3_solve N (ub G) (ug G) u a0 x2 x3 u2 c3
  refine u_callv (va_runV (As := [.int x2, .int x3]) (rest := []) hC.1 (met_X3_solve l N G u a0 x2 x3 u2 c3) (cwV 2 hts (lw_V q2340 q2342 qs68 q103 q2343) rfl rfl rfl (by decide +kernel) ⟨Nat.le_trans (Nat.le_of_ble_eq_true rfl) hR.1, Nat.le_trans (Nat.le_of_ble_eq_true rfl) hR.2⟩) ⟨uPc_blind, u_rcv hC hP c1 rfl, fun U hU hW => u_pre hC hP hS hU hW⟩ rfl rfl hl.1 rfl (lv_room (Nat.le_of_ble_eq_true rfl)) dX3_from_3 ⟨Nat.zero_le _, Nat.zero_le _⟩) hS (fun H locs hP hS => ?_)
  refine u_aload_n (r := some a0) hx hb dX3_from_6 rfl (lv_at hl 0 rfl) ?_
  obtain ⟨o4, ho4, h⟩ := mbind_n h
  refine u_get hC hP (uGR_n ho4) rfl in_X3 (by decide) q1941 (fun _ h => h) dX3_from_7 ?_
  refine lv_bipush (v := 100) hx hb dX3_from_10 (by decide) ?_
  refine u_aload_n (r := some a0) hx hb dX3_from_12 rfl (lv_at hl 0 rfl) ?_
  obtain ⟨c5, h⟩ := mif_n h
  obtain ⟨r8, u6, c7, h⟩ := ucall_n h
  have zu6 := zz_X3_base N (ub G) (ug G) u2 a0 r8 u6 c7
  refine u_calli (va_runV (As := []) (rest := [.int 100, va_rf o4]) hC.1 (met_X3_base l N G u2 a0 r8 u6 c7) (cwV 0 hts (lw_V q2399 q2401 qs81 q103 q2402) rfl rfl rfl (by decide +kernel) ⟨Nat.le_trans (Nat.le_of_ble_eq_true rfl) hR.1, Nat.le_trans (Nat.le_of_ble_eq_true rfl) hR.2⟩) ⟨uPc_blind, u_rcv hC hP c5 rfl, fun U hU hW => u_pre hC hP hS hU hW⟩ rfl rfl hl.1 rfl (lv_room (by simp only [List.map, u_cat]; exact Nat.le_of_ble_eq_true rfl)) dX3_from_13 ⟨Nat.zero_le _, Nat.zero_le _⟩) hS (fun H locs hP hS => ?_)
  refine lv_imul hx hb dX3_from_16 ?_
  refine lv_iload_n hx hb dX3_from_17 rfl (lv_at hl 1 rfl) ?_
  refine lv_iadd hx hb dX3_from_18 ?_
  obtain ⟨a9, ha9, hha9⟩ := mbind_n h
  subst ha9
  have h := hha9
  obtain ⟨y10, hy10, h⟩ := mbind_n h
  refine u_lald hC hP hy10 rfl dX3_from_19 ?_
  refine lv_lstore (lv' := [(4, .long y10), (0, va_rf (some a0)), (1, .int x1), (2, .int x2), (3, .int x3)]) hx hb dX3_from_20 hl (by decide) rfl (fun ls hl => ?_)
  refine lv_lload hx hb dX3_from_22 (lv_at hl 0 rfl) ?_
  refine lv_ldc2 hx hb hown (hts _ q2375) dX3_from_24 ?_
  refine W.lcmp hx hb dX3_from_27 ?_
  refine lv_if_lt (tgt := 37) hx hb dX3_from_28 (by decide) (fun c11 => ?_) (fun c11 => ?_)
  · have h := mif_t c11 h
    refine lv_lload hx hb dX3_from_37 (lv_at hl 0 rfl) ?_
    exact w_X3_from_39 hC hR N u6 y10 h hP hS (lv_sub hl [] rfl)
  · have h := mif_f c11 h
    refine lv_ldc2 hx hb hown (hts _ q2403) dX3_from_31 ?_
    refine lv_goto (tgt := 39) hx hb dX3_from_34 (by decide) ?_
    exact w_X3_from_39 hC hR N u6 (-1) h hP hS (lv_sub hl [] rfl)
theorem zz_X3_from (N b : Nat) (g : uEnv) (u : UH) (a0 : Nat) (x1 : Int32) (x2 : Int32) (x3 : Int32) (r : Int64) (uf : UH) (h : f_X3_from N b g u a0 x1 x2 x3 = some (r, uf)) : uf.1 = u.1 ∧ uf.2.1 = u.2.1 :=
  zz_X3_from_0 (G := ((fun _ => 0, fun _ _ => 0), fun _ => 0, b, g)) (a0 := a0) N u x1 x2 x3 h
theorem met_X3_from (l : Launch) (N : Nat) (G : uG) (u : UH) (a0 : Nat) (x1 : Int32) (x2 : Int32) (x3 : Int32) (r : Int64) (uf : UH) (h : f_X3_from N (ub G) (ug G) u a0 x1 x2 x3 = some (r, uf)) : Met l yX3_from (ws_ yX3_from cX3_from 6 (some .long)) ({ frames := 6, cells := 0, slots := 0, locals := 152 }) (uPc G u [.ref a0, .int x1, .int x2, .int x3]) (uQl G r uf) 0 0 (uA G) := by
  exact u_met (own := RX3) (by decide +kernel) rfl (Nat.le_of_ble_eq_true rfl) (fun hC hn hsz ls hl hP => w_X3_from_0 hC ⟨Nat.le_refl _, Nat.le_refl _⟩ N u x1 x2 x3 h hP va_S.rf hl)
def f_X3_stepOf_121 (N b : Nat) (g : uEnv) (a0 : Nat) (k35 : UH → Int32 → Int32 → Int64 → Int32 → Option (Int32 × UH)) (u : UH) (x1 : Int32) (x2 : Int32) (x3 : Int64) (x5 : Int32) : Option (Int32 × UH) :=
    mlet (x5 + 1) fun y1 =>
    k35 u x1 x2 x3 y1
set_option maxHeartbeats 4000000 in
set_option maxRecDepth 100000 in
theorem zz_X3_stepOf_121 {G : uG} {a0 : Nat} {uf : UH} {r : Int32} (N : Nat) (k35 : UH → Int32 → Int32 → Int64 → Int32 → Option (Int32 × UH)) (hk35 : ∀ (u : UH) (x1 : Int32) (x2 : Int32) (x3 : Int64) (x5 : Int32), k35 u x1 x2 x3 x5 = some (r, uf) → uf.1 = u.1 ∧ uf.2.1 = u.2.1) (u : UH) (x1 : Int32) (x2 : Int32) (x3 : Int64) (x5 : Int32) (h : f_X3_stepOf_121 N (ub G) (ug G) a0 k35 u x1 x2 x3 x5 = some (r, uf)) : uf.1 = u.1 ∧ uf.2.1 = u.2.1 := by
  unfold f_X3_stepOf_121 at h
  obtain ⟨y1, ey1⟩ : ∃ z : Int32, z = x5 + 1 := ⟨_, rfl⟩
  have h := mlet_at ey1 h
  have hq := hk35 u x1 x2 x3 y1 h
  exact ⟨by omega, by omega⟩
set_option maxHeartbeats 4000000 in
set_option maxRecDepth 100000 in
theorem w_X3_stepOf_121 {p : Program} {l : Launch} {e : Env} {R : Room} {s : State} {m : MethodId} {args : Array Value} {below : List Frame} {meth : Method} {c : Code} {G : uG} {a0 : Nat} {uf : UH} {r : Int32} (hC : uC p s m args meth c G RX3 cX3_stepOf 8 (some .int)) (hR : 3 ≤ R.frames ∧ 70 ≤ R.locals) (N : Nat) (k35 : UH → Int32 → Int32 → Int64 → Int32 → Option (Int32 × UH)) (hk35 : ∀ (u : UH) (x1 : Int32) (x2 : Int32) (x3 : Int64) (x5 : Int32), k35 u x1 x2 x3 x5 = some (r, uf) → ∀ (H : Heap) (locs : List Loc), uP G u H → va_S (uA G) s.heap H locs → ∀ ls : Array Slot, lv_has ls 8 [(0, va_rf (some a0)), (1, .int x1), (2, .int x2), (3, .long x3), (5, .int x5)] → W p l e R s m args below meth c H locs 0 0 (MQ below (uQi G r uf) args s 0 0 (uA G)) (F0 m 35 ls [])) (u : UH) (x1 : Int32) (x2 : Int32) (x3 : Int64) (x5 : Int32) (h : f_X3_stepOf_121 N (ub G) (ug G) a0 k35 u x1 x2 x3 x5 = some (r, uf)) {H : Heap} {locs : List Loc} (hP : uP G u H) (hS : va_S (uA G) s.heap H locs) {ls : Array Slot} (hl : lv_has ls 8 [(0, va_rf (some a0)), (1, .int x1), (2, .int x2), (3, .long x3), (5, .int x5)]) : W p l e R s m args below meth c H locs 0 0 (MQ below (uQi G r uf) args s 0 0 (uA G)) (F0 m 121 ls []) := by
  obtain ⟨⟨hx, hb, hml, hown, hts⟩, hKK⟩ := id hC
  unfold f_X3_stepOf_121 at h
  obtain ⟨y1, ey1⟩ : ∃ z : Int32, z = x5 + 1 := ⟨_, rfl⟩
  have h := mlet_at ey1 h
  refine lv_iinc (v := y1) (lv' := [(5, .int y1), (0, va_rf (some a0)), (1, .int x1), (2, .int x2), (3, .long x3)]) hx hb dX3_stepOf_121 hl (k := 4) rfl (by rw [ey1]; rfl) (by decide) rfl (fun ls hl => ?_)
  refine lv_goto (tgt := 35) hx hb dX3_stepOf_124 (by decide) ?_
  exact hk35 u x1 x2 x3 y1 h _ _ hP hS _ (lv_sub hl [1, 2, 3, 4, 0] rfl)
def f_X3_stepOf_35 (N b : Nat) (g : uEnv) (a0 : Nat) : Nat → UH → Int32 → Int32 → Int64 → Int32 → Option (Int32 × UH)
  | 0, _, _, _, _, _ => none
  | n + 1, u, x1, x2, x3, x5 =>
    if 4 ≤ x5 then
    some (4, u)
    else
    (uGR u a0 2 70).bind fun o2 =>
    (o2).bind fun a3 =>
    (uLdI u a3 0 ((4 * x1) + x5)).bind fun y4 =>
    if y4 = 0 then
    f_X3_stepOf_121 N b g a0 (f_X3_stepOf_35 N b g a0 n) u x1 x2 x3 x5
    else
    (uGR u a0 2 48).bind fun o6 =>
    if uIs u a0 2 = true then
    ucall (f_X3_beside N b g u a0 x1 x5) fun r10 u8 =>
    (o6).bind fun a11 =>
    (uLdL u8 a11 3 ((100 * x2) + r10)).bind fun y12 =>
    if 0 ≤ (lg_cmp y12 1000000000000000) then
    f_X3_stepOf_121 N b g a0 (f_X3_stepOf_35 N b g a0 n) u8 x1 x2 x3 x5
    else
    (uGR u8 a0 2 70).bind fun o14 =>
    (o14).bind fun a15 =>
    (uLdI u8 a15 0 ((4 * x1) + x5)).bind fun y16 =>
    (uGR u8 a0 2 48).bind fun o17 =>
    (o17).bind fun a18 =>
    (uLdL u8 a18 3 ((100 * x2) + x1)).bind fun y19 =>
    if (lg_cmp (y12 + (x3 * (y16.toInt64))) y19) = 0 then
    some (x5, u8)
    else
    f_X3_stepOf_121 N b g a0 (f_X3_stepOf_35 N b g a0 n) u8 x1 x2 x3 x5
    else none
set_option maxHeartbeats 4000000 in
set_option maxRecDepth 100000 in
theorem zz_X3_stepOf_35 {G : uG} {a0 : Nat} {uf : UH} {r : Int32} (N : Nat) : ∀ (n : Nat) (u : UH) (x1 : Int32) (x2 : Int32) (x3 : Int64) (x5 : Int32), f_X3_stepOf_35 N (ub G) (ug G) a0 n u x1 x2 x3 x5 = some (r, uf) → uf.1 = u.1 ∧ uf.2.1 = u.2.1 := by
  intro n
  induction n with
  | zero =>
    intro u x1 x2 x3 x5 h
    cases h
  | succ n ih =>
    intro u x1 x2 x3 x5 h
    unfold f_X3_stepOf_35 at h
    by_cases c1 : 4 ≤ x5
    · have h := mif_t c1 h
      obtain ⟨hr1, hr2⟩ := uret_n h
      subst hr2
      exact ⟨by omega, by omega⟩
    · have h := mif_f c1 h
      obtain ⟨o2, ho2, h⟩ := mbind_n h
      obtain ⟨a3, ha3, hha3⟩ := mbind_n h
      subst ha3
      have h := hha3
      obtain ⟨y4, hy4, h⟩ := mbind_n h
      by_cases c5 : y4 = 0
      · have h := mif_t c5 h
        have hq := zz_X3_stepOf_121 (G := G) (a0 := a0) N (f_X3_stepOf_35 N (ub G) (ug G) a0 n) ih u x1 x2 x3 x5 h
        exact ⟨by omega, by omega⟩
      · have h := mif_f c5 h
        obtain ⟨o6, ho6, h⟩ := mbind_n h
        obtain ⟨c7, h⟩ := mif_n h
        obtain ⟨r10, u8, c9, h⟩ := ucall_n h
        have zu8 := zz_X3_beside N (ub G) (ug G) u a0 x1 x5 r10 u8 c9
        obtain ⟨a11, ha11, hha11⟩ := mbind_n h
        subst ha11
        have h := hha11
        obtain ⟨y12, hy12, h⟩ := mbind_n h
        by_cases c13 : 0 ≤ (lg_cmp y12 1000000000000000)
        · have h := mif_t c13 h
          have hq := zz_X3_stepOf_121 (G := G) (a0 := a0) N (f_X3_stepOf_35 N (ub G) (ug G) a0 n) ih u8 x1 x2 x3 x5 h
          exact ⟨by omega, by omega⟩
        · have h := mif_f c13 h
          obtain ⟨o14, ho14, h⟩ := mbind_n h
          obtain ⟨a15, ha15, hha15⟩ := mbind_n h
          subst ha15
          have h := hha15
          obtain ⟨y16, hy16, h⟩ := mbind_n h
          obtain ⟨o17, ho17, h⟩ := mbind_n h
          obtain ⟨a18, ha18, hha18⟩ := mbind_n h
          subst ha18
          have h := hha18
          obtain ⟨y19, hy19, h⟩ := mbind_n h
          by_cases c20 : (lg_cmp (y12 + (x3 * (y16.toInt64))) y19) = 0
          · have h := mif_t c20 h
            obtain ⟨hr1, hr2⟩ := uret_n h
            subst hr2
            exact ⟨by omega, by omega⟩
          · have h := mif_f c20 h
            have hq := zz_X3_stepOf_121 (G := G) (a0 := a0) N (f_X3_stepOf_35 N (ub G) (ug G) a0 n) ih u8 x1 x2 x3 x5 h
            exact ⟨by omega, by omega⟩
set_option maxHeartbeats 4000000 in
set_option maxRecDepth 100000 in
theorem w_X3_stepOf_35 {p : Program} {l : Launch} {e : Env} {R : Room} {s : State} {m : MethodId} {args : Array Value} {below : List Frame} {meth : Method} {c : Code} {G : uG} {a0 : Nat} {uf : UH} {r : Int32} (hC : uC p s m args meth c G RX3 cX3_stepOf 8 (some .int)) (hR : 3 ≤ R.frames ∧ 70 ≤ R.locals) (N : Nat) : ∀ (n : Nat) (u : UH) (x1 : Int32) (x2 : Int32) (x3 : Int64) (x5 : Int32), f_X3_stepOf_35 N (ub G) (ug G) a0 n u x1 x2 x3 x5 = some (r, uf) → ∀ (H : Heap) (locs : List Loc), uP G u H → va_S (uA G) s.heap H locs → ∀ ls : Array Slot, lv_has ls 8 [(0, va_rf (some a0)), (1, .int x1), (2, .int x2), (3, .long x3), (5, .int x5)] → W p l e R s m args below meth c H locs 0 0 (MQ below (uQi G r uf) args s 0 0 (uA G)) (F0 m 35 ls []) := by
  obtain ⟨⟨hx, hb, hml, hown, hts⟩, hKK⟩ := id hC
  intro n
  induction n with
  | zero =>
    intro u x1 x2 x3 x5 h
    cases h
  | succ n ih =>
    intro u x1 x2 x3 x5 h H locs hP hS ls hl
    unfold f_X3_stepOf_35 at h
    refine lv_iload hx hb dX3_stepOf_35 (lv_at hl 4 rfl) ?_
    refine lv_iconst (v := 4) hx hb dX3_stepOf_37 (by decide) ?_
    refine lv_icmp_ge (tgt := 127) hx hb dX3_stepOf_38 (by decide) (fun c1 => ?_) (fun c1 => ?_)
    · have h := mif_t c1 h
      refine lv_iconst (v := 4) hx hb dX3_stepOf_127 (by decide) ?_
      obtain ⟨hr1, hr2⟩ := uret_n h
      subst hr1
      subst hr2
      exact u_iret hC hP hS dX3_stepOf_128
    · have h := mif_f c1 h
      refine u_aload_n (r := some a0) hx hb dX3_stepOf_41 rfl (lv_at hl 0 rfl) ?_
      obtain ⟨o2, ho2, h⟩ := mbind_n h
      refine u_get hC hP (uGR_n ho2) rfl in_X3 (by decide) q1963 (fun _ h => h) dX3_stepOf_42 ?_
      refine lv_iconst (v := 4) hx hb dX3_stepOf_45 (by decide) ?_
      refine lv_iload_n hx hb dX3_stepOf_46 rfl (lv_at hl 1 rfl) ?_
      refine lv_imul hx hb dX3_stepOf_47 ?_
      refine lv_iload hx hb dX3_stepOf_48 (lv_at hl 4 rfl) ?_
      refine lv_iadd hx hb dX3_stepOf_50 ?_
      obtain ⟨a3, ha3, hha3⟩ := mbind_n h
      subst ha3
      have h := hha3
      obtain ⟨y4, hy4, h⟩ := mbind_n h
      refine u_iald hC hP hy4 rfl dX3_stepOf_51 ?_
      refine lv_if_ne (tgt := 58) hx hb dX3_stepOf_52 (by decide) (fun c5 => ?_) (fun c5 => ?_)
      · have h := mif_f c5 h
        refine u_aload_n (r := some a0) hx hb dX3_stepOf_58 rfl (lv_at hl 0 rfl) ?_
        obtain ⟨o6, ho6, h⟩ := mbind_n h
        refine u_get hC hP (uGR_n ho6) rfl in_X3 (by decide) q1941 (fun _ h => h) dX3_stepOf_59 ?_
        refine lv_bipush (v := 100) hx hb dX3_stepOf_62 (by decide) ?_
        refine lv_iload_n hx hb dX3_stepOf_64 rfl (lv_at hl 2 rfl) ?_
        refine lv_imul hx hb dX3_stepOf_65 ?_
        refine u_aload_n (r := some a0) hx hb dX3_stepOf_66 rfl (lv_at hl 0 rfl) ?_
        refine lv_iload_n hx hb dX3_stepOf_67 rfl (lv_at hl 1 rfl) ?_
        refine lv_iload hx hb dX3_stepOf_68 (lv_at hl 4 rfl) ?_
        obtain ⟨c7, h⟩ := mif_n h
        obtain ⟨r10, u8, c9, h⟩ := ucall_n h
        have zu8 := zz_X3_beside N (ub G) (ug G) u a0 x1 x5 r10 u8 c9
        refine u_calli (va_runV (As := [.int x1, .int x5]) (rest := [.int (100 * x2), va_rf o6]) hC.1 (met_X3_beside l N G u a0 x1 x5 r10 u8 c9) (cwV 2 hts (lw_V q2316 q2318 qs63 q103 q2319) rfl rfl rfl (by decide +kernel) ⟨Nat.le_trans (Nat.le_of_ble_eq_true rfl) hR.1, Nat.le_trans (Nat.le_of_ble_eq_true rfl) hR.2⟩) ⟨uPc_blind, u_rcv hC hP c7 rfl, fun U hU hW => u_pre hC hP hS hU hW⟩ rfl rfl hl.1 rfl (lv_room (by simp only [List.map, u_cat]; exact Nat.le_of_ble_eq_true rfl)) dX3_stepOf_70 ⟨Nat.zero_le _, Nat.zero_le _⟩) hS (fun H locs hP hS => ?_)
        refine lv_iadd hx hb dX3_stepOf_73 ?_
        obtain ⟨a11, ha11, hha11⟩ := mbind_n h
        subst ha11
        have h := hha11
        obtain ⟨y12, hy12, h⟩ := mbind_n h
        refine u_lald hC hP hy12 rfl dX3_stepOf_74 ?_
        refine lv_lstore (lv' := [(6, .long y12), (0, va_rf (some a0)), (1, .int x1), (2, .int x2), (3, .long x3), (5, .int x5)]) hx hb dX3_stepOf_75 hl (by decide) rfl (fun ls hl => ?_)
        refine lv_lload hx hb dX3_stepOf_77 (lv_at hl 0 rfl) ?_
        refine lv_ldc2 hx hb hown (hts _ q2375) dX3_stepOf_79 ?_
        refine W.lcmp hx hb dX3_stepOf_82 ?_
        refine lv_if_ge (tgt := 121) hx hb dX3_stepOf_83 (by decide) (fun c13 => ?_) (fun c13 => ?_)
        · have h := mif_t c13 h
          exact w_X3_stepOf_121 hC hR N (f_X3_stepOf_35 N (ub G) (ug G) a0 n) ih u8 x1 x2 x3 x5 h hP hS (lv_sub hl [1, 2, 3, 4, 5] rfl)
        · have h := mif_f c13 h
          refine lv_lload hx hb dX3_stepOf_86 (lv_at hl 0 rfl) ?_
          refine lv_lload_n hx hb dX3_stepOf_88 rfl (lv_at hl 4 rfl) ?_
          refine u_aload_n (r := some a0) hx hb dX3_stepOf_89 rfl (lv_at hl 1 rfl) ?_
          obtain ⟨o14, ho14, h⟩ := mbind_n h
          refine u_get hC hP (uGR_n ho14) rfl in_X3 (by decide) q1963 (fun _ h => h) dX3_stepOf_90 ?_
          refine lv_iconst (v := 4) hx hb dX3_stepOf_93 (by decide) ?_
          refine lv_iload_n hx hb dX3_stepOf_94 rfl (lv_at hl 2 rfl) ?_
          refine lv_imul hx hb dX3_stepOf_95 ?_
          refine lv_iload hx hb dX3_stepOf_96 (lv_at hl 5 rfl) ?_
          refine lv_iadd hx hb dX3_stepOf_98 ?_
          obtain ⟨a15, ha15, hha15⟩ := mbind_n h
          subst ha15
          have h := hha15
          obtain ⟨y16, hy16, h⟩ := mbind_n h
          refine u_iald hC hP hy16 rfl dX3_stepOf_99 ?_
          refine lv_i2l (v := y16.toInt64) hx hb dX3_stepOf_100 rfl ?_
          refine lv_lmul hx hb dX3_stepOf_101 ?_
          refine lv_ladd hx hb dX3_stepOf_102 ?_
          refine u_aload_n (r := some a0) hx hb dX3_stepOf_103 rfl (lv_at hl 1 rfl) ?_
          obtain ⟨o17, ho17, h⟩ := mbind_n h
          refine u_get hC hP (uGR_n ho17) rfl in_X3 (by decide) q1941 (fun _ h => h) dX3_stepOf_104 ?_
          refine lv_bipush (v := 100) hx hb dX3_stepOf_107 (by decide) ?_
          refine lv_iload_n hx hb dX3_stepOf_109 rfl (lv_at hl 3 rfl) ?_
          refine lv_imul hx hb dX3_stepOf_110 ?_
          refine lv_iload_n hx hb dX3_stepOf_111 rfl (lv_at hl 2 rfl) ?_
          refine lv_iadd hx hb dX3_stepOf_112 ?_
          obtain ⟨a18, ha18, hha18⟩ := mbind_n h
          subst ha18
          have h := hha18
          obtain ⟨y19, hy19, h⟩ := mbind_n h
          refine u_lald hC hP hy19 rfl dX3_stepOf_113 ?_
          refine W.lcmp hx hb dX3_stepOf_114 ?_
          refine lv_if_ne (tgt := 121) hx hb dX3_stepOf_115 (by decide) (fun c20 => ?_) (fun c20 => ?_)
          · have h := mif_f c20 h
            exact w_X3_stepOf_121 hC hR N (f_X3_stepOf_35 N (ub G) (ug G) a0 n) ih u8 x1 x2 x3 x5 h hP hS (lv_sub hl [1, 2, 3, 4, 5] rfl)
          · have h := mif_t c20 h
            refine lv_iload hx hb dX3_stepOf_118 (lv_at hl 5 rfl) ?_
            obtain ⟨hr1, hr2⟩ := uret_n h
            subst hr1
            subst hr2
            exact u_iret hC hP hS dX3_stepOf_120
      · have h := mif_t c5 h
        refine lv_goto (tgt := 121) hx hb dX3_stepOf_55 (by decide) ?_
        exact w_X3_stepOf_121 hC hR N (f_X3_stepOf_35 N (ub G) (ug G) a0 n) ih u x1 x2 x3 x5 h hP hS (lv_sub hl [0, 1, 2, 3, 4] rfl)
def f_X3_stepOf_31 (N b : Nat) (g : uEnv) (a0 : Nat) (u : UH) (x1 : Int32) (x2 : Int32) (s0 : Int64) : Option (Int32 × UH) :=
    f_X3_stepOf_35 N b g a0 N u x1 x2 s0 0
set_option maxHeartbeats 4000000 in
set_option maxRecDepth 100000 in
theorem zz_X3_stepOf_31 {G : uG} {a0 : Nat} {uf : UH} {r : Int32} (N : Nat) (u : UH) (x1 : Int32) (x2 : Int32) (s0 : Int64) (h : f_X3_stepOf_31 N (ub G) (ug G) a0 u x1 x2 s0 = some (r, uf)) : uf.1 = u.1 ∧ uf.2.1 = u.2.1 := by
  unfold f_X3_stepOf_31 at h
  have hq := zz_X3_stepOf_35 (G := G) (a0 := a0) N N u x1 x2 s0 0 h
  exact ⟨by omega, by omega⟩
set_option maxHeartbeats 4000000 in
set_option maxRecDepth 100000 in
theorem w_X3_stepOf_31 {p : Program} {l : Launch} {e : Env} {R : Room} {s : State} {m : MethodId} {args : Array Value} {below : List Frame} {meth : Method} {c : Code} {G : uG} {a0 : Nat} {uf : UH} {r : Int32} (hC : uC p s m args meth c G RX3 cX3_stepOf 8 (some .int)) (hR : 3 ≤ R.frames ∧ 70 ≤ R.locals) (N : Nat) (u : UH) (x1 : Int32) (x2 : Int32) (s0 : Int64) (h : f_X3_stepOf_31 N (ub G) (ug G) a0 u x1 x2 s0 = some (r, uf)) {H : Heap} {locs : List Loc} (hP : uP G u H) (hS : va_S (uA G) s.heap H locs) {ls : Array Slot} (hl : lv_has ls 8 [(0, va_rf (some a0)), (1, .int x1), (2, .int x2)]) : W p l e R s m args below meth c H locs 0 0 (MQ below (uQi G r uf) args s 0 0 (uA G)) (F0 m 31 ls [.long s0]) := by
  obtain ⟨⟨hx, hb, hml, hown, hts⟩, hKK⟩ := id hC
  unfold f_X3_stepOf_31 at h
  refine lv_lstore_n (i := 3) (lv' := [(3, .long s0), (0, va_rf (some a0)), (1, .int x1), (2, .int x2)]) hx hb dX3_stepOf_31 rfl hl (by decide) rfl (fun ls hl => ?_)
  refine lv_iconst (v := 0) hx hb dX3_stepOf_32 (by decide) ?_
  refine lv_istore (lv' := [(5, .int 0), (3, .long s0), (0, va_rf (some a0)), (1, .int x1), (2, .int x2)]) hx hb dX3_stepOf_33 hl (by decide) rfl (fun ls hl => ?_)
  exact w_X3_stepOf_35 hC hR N N u x1 x2 s0 0 h _ _ hP hS _ (lv_sub hl [2, 3, 4, 1, 0] rfl)
def f_X3_stepOf (N b : Nat) (g : uEnv) (u : UH) (a0 : Nat) (x1 : Int32) (x2 : Int32) : Option (Int32 × UH) :=
    (uGI u a0 2 49).bind fun y1 =>
    if x1 = y1 then
    some (4, u)
    else
    if uIs u a0 2 = true then
    (f_X3_lays N b g u a0 x2).bind fun u4 =>
    (uGI u4 a0 2 50).bind fun y6 =>
    if y6 = 0 then
    f_X3_stepOf_31 N b g a0 u4 x1 x2 1
    else
    if uIs u4 a0 2 = true then
    ucall (f_X3_left N b g u4 a0 x2) fun r11 u9 =>
    f_X3_stepOf_31 N b g a0 u9 x1 x2 r11
    else none
    else none
set_option maxHeartbeats 4000000 in
set_option maxRecDepth 100000 in
theorem zz_X3_stepOf_0 {G : uG} {a0 : Nat} {uf : UH} {r : Int32} (N : Nat) (u : UH) (x1 : Int32) (x2 : Int32) (h : f_X3_stepOf N (ub G) (ug G) u a0 x1 x2 = some (r, uf)) : uf.1 = u.1 ∧ uf.2.1 = u.2.1 := by
  unfold f_X3_stepOf at h
  obtain ⟨y1, hy1, h⟩ := mbind_n h
  by_cases c2 : x1 = y1
  · have h := mif_t c2 h
    obtain ⟨hr1, hr2⟩ := uret_n h
    subst hr2
    exact ⟨by omega, by omega⟩
  · have h := mif_f c2 h
    obtain ⟨c3, h⟩ := mif_n h
    obtain ⟨u4, c5, h⟩ := mbind_n h
    have zu4 := zz_X3_lays N (ub G) (ug G) u a0 x2 u4 c5
    obtain ⟨y6, hy6, h⟩ := mbind_n h
    by_cases c7 : y6 = 0
    · have h := mif_t c7 h
      have hq := zz_X3_stepOf_31 (G := G) (a0 := a0) N u4 x1 x2 1 h
      exact ⟨by omega, by omega⟩
    · have h := mif_f c7 h
      obtain ⟨c8, h⟩ := mif_n h
      obtain ⟨r11, u9, c10, h⟩ := ucall_n h
      have zu9 := zz_X3_left N (ub G) (ug G) u4 a0 x2 r11 u9 c10
      have hq := zz_X3_stepOf_31 (G := G) (a0 := a0) N u9 x1 x2 r11 h
      exact ⟨by omega, by omega⟩
set_option maxHeartbeats 4000000 in
set_option maxRecDepth 100000 in
theorem w_X3_stepOf_0 {p : Program} {l : Launch} {e : Env} {R : Room} {s : State} {m : MethodId} {args : Array Value} {below : List Frame} {meth : Method} {c : Code} {G : uG} {a0 : Nat} {uf : UH} {r : Int32} (hC : uC p s m args meth c G RX3 cX3_stepOf 8 (some .int)) (hR : 3 ≤ R.frames ∧ 70 ≤ R.locals) (N : Nat) (u : UH) (x1 : Int32) (x2 : Int32) (h : f_X3_stepOf N (ub G) (ug G) u a0 x1 x2 = some (r, uf)) {H : Heap} {locs : List Loc} (hP : uP G u H) (hS : va_S (uA G) s.heap H locs) {ls : Array Slot} (hl : lv_has ls 8 [(0, va_rf (some a0)), (1, .int x1), (2, .int x2)]) : W p l e R s m args below meth c H locs 0 0 (MQ below (uQi G r uf) args s 0 0 (uA G)) (F0 m 0 ls []) := by
  obtain ⟨⟨hx, hb, hml, hown, hts⟩, hKK⟩ := id hC
  unfold f_X3_stepOf at h
  refine lv_iload_n hx hb dX3_stepOf_0 rfl (lv_at hl 1 rfl) ?_
  refine u_aload_n (r := some a0) hx hb dX3_stepOf_1 rfl (lv_at hl 0 rfl) ?_
  obtain ⟨y1, hy1, h⟩ := mbind_n h
  refine u_get hC hP (uGI_n hy1) rfl in_X3 (by decide) q1942 (fun _ h => h) dX3_stepOf_2 ?_
  refine lv_icmp_ne (tgt := 10) hx hb dX3_stepOf_5 (by decide) (fun c2 => ?_) (fun c2 => ?_)
  · have h := mif_f c2 h
    refine u_aload_n (r := some a0) hx hb dX3_stepOf_10 rfl (lv_at hl 0 rfl) ?_
    refine lv_iload_n hx hb dX3_stepOf_11 rfl (lv_at hl 2 rfl) ?_
    obtain ⟨c3, h⟩ := mif_n h
    obtain ⟨u4, c5, h⟩ := mbind_n h
    have zu4 := zz_X3_lays N (ub G) (ug G) u a0 x2 u4 c5
    refine u_callv (va_runV (As := [.int x2]) (rest := []) hC.1 (met_X3_lays l N G u a0 x2 u4 c5) (cwV 1 hts (lw_V q2363 q2365 qs73 q103 q2366) rfl rfl rfl (by decide +kernel) ⟨Nat.le_trans (Nat.le_of_ble_eq_true rfl) hR.1, Nat.le_trans (Nat.le_of_ble_eq_true rfl) hR.2⟩) ⟨uPc_blind, u_rcv hC hP c3 rfl, fun U hU hW => u_pre hC hP hS hU hW⟩ rfl rfl hl.1 rfl (lv_room (Nat.le_of_ble_eq_true rfl)) dX3_stepOf_12 ⟨Nat.zero_le _, Nat.zero_le _⟩) hS (fun H locs hP hS => ?_)
    refine u_aload_n (r := some a0) hx hb dX3_stepOf_15 rfl (lv_at hl 0 rfl) ?_
    obtain ⟨y6, hy6, h⟩ := mbind_n h
    refine u_get hC hP (uGI_n hy6) rfl in_X3 (by decide) q1943 (fun _ h => h) dX3_stepOf_16 ?_
    refine lv_if_eq (tgt := 30) hx hb dX3_stepOf_19 (by decide) (fun c7 => ?_) (fun c7 => ?_)
    · have h := mif_t c7 h
      refine lv_lconst (v := 1) hx hb dX3_stepOf_30 (by decide) ?_
      exact w_X3_stepOf_31 hC hR N u4 x1 x2 1 h hP hS (lv_sub hl [0, 1, 2] rfl)
    · have h := mif_f c7 h
      refine u_aload_n (r := some a0) hx hb dX3_stepOf_22 rfl (lv_at hl 0 rfl) ?_
      refine lv_iload_n hx hb dX3_stepOf_23 rfl (lv_at hl 2 rfl) ?_
      obtain ⟨c8, h⟩ := mif_n h
      obtain ⟨r11, u9, c10, h⟩ := ucall_n h
      have zu9 := zz_X3_left N (ub G) (ug G) u4 a0 x2 r11 u9 c10
      refine u_calll (va_runV (As := [.int x2]) (rest := []) hC.1 (met_X3_left l N G u4 a0 x2 r11 u9 c10) (cwV 1 hts (lw_V q2387 q2389 qs78 q103 q2390) rfl rfl rfl (by decide +kernel) ⟨Nat.le_trans (Nat.le_of_ble_eq_true rfl) hR.1, Nat.le_trans (Nat.le_of_ble_eq_true rfl) hR.2⟩) ⟨uPc_blind, u_rcv hC hP c8 rfl, fun U hU hW => u_pre hC hP hS hU hW⟩ rfl rfl hl.1 rfl (lv_room (Nat.le_of_ble_eq_true rfl)) dX3_stepOf_24 ⟨Nat.zero_le _, Nat.zero_le _⟩) hS (fun H locs hP hS => ?_)
      refine lv_goto (tgt := 31) hx hb dX3_stepOf_27 (by decide) ?_
      exact w_X3_stepOf_31 hC hR N u9 x1 x2 r11 h hP hS (lv_sub hl [0, 1, 2] rfl)
  · have h := mif_t c2 h
    refine lv_iconst (v := 4) hx hb dX3_stepOf_8 (by decide) ?_
    obtain ⟨hr1, hr2⟩ := uret_n h
    subst hr1
    subst hr2
    exact u_iret hC hP hS dX3_stepOf_9
theorem zz_X3_stepOf (N b : Nat) (g : uEnv) (u : UH) (a0 : Nat) (x1 : Int32) (x2 : Int32) (r : Int32) (uf : UH) (h : f_X3_stepOf N b g u a0 x1 x2 = some (r, uf)) : uf.1 = u.1 ∧ uf.2.1 = u.2.1 :=
  zz_X3_stepOf_0 (G := ((fun _ => 0, fun _ _ => 0), fun _ => 0, b, g)) (a0 := a0) N u x1 x2 h
theorem met_X3_stepOf (l : Launch) (N : Nat) (G : uG) (u : UH) (a0 : Nat) (x1 : Int32) (x2 : Int32) (r : Int32) (uf : UH) (h : f_X3_stepOf N (ub G) (ug G) u a0 x1 x2 = some (r, uf)) : Met l yX3_stepOf (ws_ yX3_stepOf cX3_stepOf 8 (some .int)) ({ frames := 3, cells := 0, slots := 0, locals := 70 }) (uPc G u [.ref a0, .int x1, .int x2]) (uQi G r uf) 0 0 (uA G) := by
  exact u_met (own := RX3) (by decide +kernel) rfl (Nat.le_of_ble_eq_true rfl) (fun hC hn hsz ls hl hP => w_X3_stepOf_0 hC ⟨Nat.le_refl _, Nat.le_refl _⟩ N u x1 x2 h hP va_S.rf hl)
def f_X3_goes_84 (N b : Nat) (g : uEnv) (a0 : Nat) (k26 : UH → Int32 → Int32 → Int32 → Int32 → Int32 → Option (Int32 × UH)) (u : UH) (x3 : Int32) (x4 : Int32) (x5 : Int32) (x6 : Int32) (x8 : Int32) (s0 : Int32) : Option (Int32 × UH) :=
    if s0 = 0 then
    k26 u x3 x4 x5 x6 s0
    else
    (uGR u a0 2 70).bind fun o2 =>
    (o2).bind fun a3 =>
    (uLdI u a3 0 ((4 * x5) + x8)).bind fun y4 =>
    mlet (x6 + y4) fun y5 =>
    if uIs u a0 2 = true then
    ucall (f_X3_beside N b g u a0 x5 x8) fun r9 u7 =>
    k26 u7 x3 x4 r9 y5 s0
    else none
set_option maxHeartbeats 4000000 in
set_option maxRecDepth 100000 in
theorem zz_X3_goes_84 {G : uG} {a0 : Nat} {uf : UH} {r : Int32} (N : Nat) (k26 : UH → Int32 → Int32 → Int32 → Int32 → Int32 → Option (Int32 × UH)) (hk26 : ∀ (u : UH) (x3 : Int32) (x4 : Int32) (x5 : Int32) (x6 : Int32) (x7 : Int32), k26 u x3 x4 x5 x6 x7 = some (r, uf) → uf.1 = u.1 ∧ uf.2.1 = u.2.1) (u : UH) (x3 : Int32) (x4 : Int32) (x5 : Int32) (x6 : Int32) (x8 : Int32) (s0 : Int32) (h : f_X3_goes_84 N (ub G) (ug G) a0 k26 u x3 x4 x5 x6 x8 s0 = some (r, uf)) : uf.1 = u.1 ∧ uf.2.1 = u.2.1 := by
  unfold f_X3_goes_84 at h
  by_cases c1 : s0 = 0
  · have h := mif_t c1 h
    have hq := hk26 u x3 x4 x5 x6 s0 h
    exact ⟨by omega, by omega⟩
  · have h := mif_f c1 h
    obtain ⟨o2, ho2, h⟩ := mbind_n h
    obtain ⟨a3, ha3, hha3⟩ := mbind_n h
    subst ha3
    have h := hha3
    obtain ⟨y4, hy4, h⟩ := mbind_n h
    obtain ⟨y5, ey5⟩ : ∃ z, z = x6 + y4 := ⟨_, rfl⟩
    have h := mlet_at ey5 h
    obtain ⟨c6, h⟩ := mif_n h
    obtain ⟨r9, u7, c8, h⟩ := ucall_n h
    have zu7 := zz_X3_beside N (ub G) (ug G) u a0 x5 x8 r9 u7 c8
    have hq := hk26 u7 x3 x4 r9 y5 s0 h
    exact ⟨by omega, by omega⟩
set_option maxHeartbeats 4000000 in
set_option maxRecDepth 100000 in
theorem w_X3_goes_84 {p : Program} {l : Launch} {e : Env} {R : Room} {s : State} {m : MethodId} {args : Array Value} {below : List Frame} {meth : Method} {c : Code} {G : uG} {a0 : Nat} {uf : UH} {r : Int32} (hC : uC p s m args meth c G RX3 cX3_goes 9 (some .int)) (hR : 4 ≤ R.frames ∧ 97 ≤ R.locals) (N : Nat) (k26 : UH → Int32 → Int32 → Int32 → Int32 → Int32 → Option (Int32 × UH)) (hk26 : ∀ (u : UH) (x3 : Int32) (x4 : Int32) (x5 : Int32) (x6 : Int32) (x7 : Int32), k26 u x3 x4 x5 x6 x7 = some (r, uf) → ∀ (H : Heap) (locs : List Loc), uP G u H → va_S (uA G) s.heap H locs → ∀ ls : Array Slot, lv_has ls 9 [(0, va_rf (some a0)), (3, .int x3), (4, .int x4), (5, .int x5), (6, .int x6), (7, .int x7)] → W p l e R s m args below meth c H locs 0 0 (MQ below (uQi G r uf) args s 0 0 (uA G)) (F0 m 26 ls [])) (u : UH) (x3 : Int32) (x4 : Int32) (x5 : Int32) (x6 : Int32) (x8 : Int32) (s0 : Int32) (h : f_X3_goes_84 N (ub G) (ug G) a0 k26 u x3 x4 x5 x6 x8 s0 = some (r, uf)) {H : Heap} {locs : List Loc} (hP : uP G u H) (hS : va_S (uA G) s.heap H locs) {ls : Array Slot} (hl : lv_has ls 9 [(0, va_rf (some a0)), (3, .int x3), (4, .int x4), (5, .int x5), (6, .int x6), (8, .int x8)]) : W p l e R s m args below meth c H locs 0 0 (MQ below (uQi G r uf) args s 0 0 (uA G)) (F0 m 84 ls [.int s0]) := by
  obtain ⟨⟨hx, hb, hml, hown, hts⟩, hKK⟩ := id hC
  unfold f_X3_goes_84 at h
  refine lv_istore (lv' := [(7, .int s0), (0, va_rf (some a0)), (3, .int x3), (4, .int x4), (5, .int x5), (6, .int x6), (8, .int x8)]) hx hb dX3_goes_84 hl (by decide) rfl (fun ls hl => ?_)
  refine lv_iload hx hb dX3_goes_86 (lv_at hl 0 rfl) ?_
  refine lv_if_ne (tgt := 94) hx hb dX3_goes_88 (by decide) (fun c1 => ?_) (fun c1 => ?_)
  · have h := mif_f c1 h
    refine lv_iload hx hb dX3_goes_94 (lv_at hl 5 rfl) ?_
    refine u_aload_n (r := some a0) hx hb dX3_goes_96 rfl (lv_at hl 1 rfl) ?_
    obtain ⟨o2, ho2, h⟩ := mbind_n h
    refine u_get hC hP (uGR_n ho2) rfl in_X3 (by decide) q1963 (fun _ h => h) dX3_goes_97 ?_
    refine lv_iconst (v := 4) hx hb dX3_goes_100 (by decide) ?_
    refine lv_iload hx hb dX3_goes_101 (lv_at hl 4 rfl) ?_
    refine lv_imul hx hb dX3_goes_103 ?_
    refine lv_iload hx hb dX3_goes_104 (lv_at hl 6 rfl) ?_
    refine lv_iadd hx hb dX3_goes_106 ?_
    obtain ⟨a3, ha3, hha3⟩ := mbind_n h
    subst ha3
    have h := hha3
    obtain ⟨y4, hy4, h⟩ := mbind_n h
    refine u_iald hC hP hy4 rfl dX3_goes_107 ?_
    refine lv_iadd hx hb dX3_goes_108 ?_
    refine lv_topi (fun y5 ey5 => ?_)
    have h := mlet_at ey5 h
    refine lv_istore (lv' := [(6, .int y5), (7, .int s0), (0, va_rf (some a0)), (3, .int x3), (4, .int x4), (5, .int x5), (8, .int x8)]) hx hb dX3_goes_109 hl (by decide) rfl (fun ls hl => ?_)
    refine u_aload_n (r := some a0) hx hb dX3_goes_111 rfl (lv_at hl 2 rfl) ?_
    refine lv_iload hx hb dX3_goes_112 (lv_at hl 5 rfl) ?_
    refine lv_iload hx hb dX3_goes_114 (lv_at hl 6 rfl) ?_
    obtain ⟨c6, h⟩ := mif_n h
    obtain ⟨r9, u7, c8, h⟩ := ucall_n h
    have zu7 := zz_X3_beside N (ub G) (ug G) u a0 x5 x8 r9 u7 c8
    refine u_calli (va_runV (As := [.int x5, .int x8]) (rest := []) hC.1 (met_X3_beside l N G u a0 x5 x8 r9 u7 c8) (cwV 2 hts (lw_V q2316 q2318 qs63 q103 q2319) rfl rfl rfl (by decide +kernel) ⟨Nat.le_trans (Nat.le_of_ble_eq_true rfl) hR.1, Nat.le_trans (Nat.le_of_ble_eq_true rfl) hR.2⟩) ⟨uPc_blind, u_rcv hC hP c6 rfl, fun U hU hW => u_pre hC hP hS hU hW⟩ rfl rfl hl.1 rfl (lv_room (Nat.le_of_ble_eq_true rfl)) dX3_goes_116 ⟨Nat.zero_le _, Nat.zero_le _⟩) hS (fun H locs hP hS => ?_)
    refine lv_istore (lv' := [(5, .int r9), (6, .int y5), (7, .int s0), (0, va_rf (some a0)), (3, .int x3), (4, .int x4), (8, .int x8)]) hx hb dX3_goes_119 hl (by decide) rfl (fun ls hl => ?_)
    refine lv_goto (tgt := 26) hx hb dX3_goes_121 (by decide) ?_
    exact hk26 u7 x3 x4 r9 y5 s0 h _ _ hP hS _ (lv_sub hl [3, 4, 5, 0, 1, 2] rfl)
  · have h := mif_t c1 h
    refine lv_goto (tgt := 26) hx hb dX3_goes_91 (by decide) ?_
    exact hk26 u x3 x4 x5 x6 s0 h _ _ hP hS _ (lv_sub hl [1, 2, 3, 4, 5, 0] rfl)
def f_X3_goes_26 (N b : Nat) (g : uEnv) (a0 : Nat) : Nat → UH → Int32 → Int32 → Int32 → Int32 → Int32 → Option (Int32 × UH)
  | 0, _, _, _, _, _, _ => none
  | n + 1, u, x3, x4, x5, x6, x7 =>
    if x7 = 0 then
    some (x6, u)
    else
    (uGR u a0 2 54).bind fun o2 =>
    (uGI u a0 2 55).bind fun y3 =>
    (o2).bind fun a4 =>
    (uStI b u a4 0 y3 x5).bind fun u5 =>
    (uGI u5 a0 2 55).bind fun y6 =>
    (uPut b u5 a0 2 55 (.int (y6 + 1))).bind fun u7 =>
    if uIs u7 a0 2 = true then
    ucall (f_X3_sees N b g u7 a0 x4 x5 x3) fun r11 u9 =>
    if uIs u9 a0 2 = true then
    ucall (f_X3_stepOf N b g u9 a0 x5 r11) fun r15 u13 =>
    if 4 ≤ r15 then
    f_X3_goes_84 N b g a0 (f_X3_goes_26 N b g a0 n) u13 x3 r11 x5 x6 r15 0
    else
    f_X3_goes_84 N b g a0 (f_X3_goes_26 N b g a0 n) u13 x3 r11 x5 x6 r15 1
    else none
    else none
set_option maxHeartbeats 4000000 in
set_option maxRecDepth 100000 in
theorem zz_X3_goes_26 {G : uG} {a0 : Nat} {uf : UH} {r : Int32} (N : Nat) : ∀ (n : Nat) (u : UH) (x3 : Int32) (x4 : Int32) (x5 : Int32) (x6 : Int32) (x7 : Int32), f_X3_goes_26 N (ub G) (ug G) a0 n u x3 x4 x5 x6 x7 = some (r, uf) → uf.1 = u.1 ∧ uf.2.1 = u.2.1 := by
  intro n
  induction n with
  | zero =>
    intro u x3 x4 x5 x6 x7 h
    cases h
  | succ n ih =>
    intro u x3 x4 x5 x6 x7 h
    unfold f_X3_goes_26 at h
    by_cases c1 : x7 = 0
    · have h := mif_t c1 h
      obtain ⟨hr1, hr2⟩ := uret_n h
      subst hr2
      exact ⟨by omega, by omega⟩
    · have h := mif_f c1 h
      obtain ⟨o2, ho2, h⟩ := mbind_n h
      obtain ⟨y3, hy3, h⟩ := mbind_n h
      obtain ⟨a4, ha4, hha4⟩ := mbind_n h
      subst ha4
      have h := hha4
      obtain ⟨u5, hu5, h⟩ := mbind_n h
      have zu5 := uStI_sz hu5
      obtain ⟨y6, hy6, h⟩ := mbind_n h
      obtain ⟨u7, hu7, h⟩ := mbind_n h
      have zu7 := uPut_sz hu7
      obtain ⟨c8, h⟩ := mif_n h
      obtain ⟨r11, u9, c10, h⟩ := ucall_n h
      have zu9 := zz_X3_sees N (ub G) (ug G) u7 a0 x4 x5 x3 r11 u9 c10
      obtain ⟨c12, h⟩ := mif_n h
      obtain ⟨r15, u13, c14, h⟩ := ucall_n h
      have zu13 := zz_X3_stepOf N (ub G) (ug G) u9 a0 x5 r11 r15 u13 c14
      by_cases c16 : 4 ≤ r15
      · have h := mif_t c16 h
        have hq := zz_X3_goes_84 (G := G) (a0 := a0) N (f_X3_goes_26 N (ub G) (ug G) a0 n) ih u13 x3 r11 x5 x6 r15 0 h
        exact ⟨by omega, by omega⟩
      · have h := mif_f c16 h
        have hq := zz_X3_goes_84 (G := G) (a0 := a0) N (f_X3_goes_26 N (ub G) (ug G) a0 n) ih u13 x3 r11 x5 x6 r15 1 h
        exact ⟨by omega, by omega⟩
set_option maxHeartbeats 4000000 in
set_option maxRecDepth 100000 in
theorem w_X3_goes_26 {p : Program} {l : Launch} {e : Env} {R : Room} {s : State} {m : MethodId} {args : Array Value} {below : List Frame} {meth : Method} {c : Code} {G : uG} {a0 : Nat} {uf : UH} {r : Int32} (hC : uC p s m args meth c G RX3 cX3_goes 9 (some .int)) (hR : 4 ≤ R.frames ∧ 97 ≤ R.locals) (N : Nat) : ∀ (n : Nat) (u : UH) (x3 : Int32) (x4 : Int32) (x5 : Int32) (x6 : Int32) (x7 : Int32), f_X3_goes_26 N (ub G) (ug G) a0 n u x3 x4 x5 x6 x7 = some (r, uf) → ∀ (H : Heap) (locs : List Loc), uP G u H → va_S (uA G) s.heap H locs → ∀ ls : Array Slot, lv_has ls 9 [(0, va_rf (some a0)), (3, .int x3), (4, .int x4), (5, .int x5), (6, .int x6), (7, .int x7)] → W p l e R s m args below meth c H locs 0 0 (MQ below (uQi G r uf) args s 0 0 (uA G)) (F0 m 26 ls []) := by
  obtain ⟨⟨hx, hb, hml, hown, hts⟩, hKK⟩ := id hC
  intro n
  induction n with
  | zero =>
    intro u x3 x4 x5 x6 x7 h
    cases h
  | succ n ih =>
    intro u x3 x4 x5 x6 x7 h H locs hP hS ls hl
    unfold f_X3_goes_26 at h
    refine lv_iload hx hb dX3_goes_26 (lv_at hl 5 rfl) ?_
    refine lv_if_eq (tgt := 124) hx hb dX3_goes_28 (by decide) (fun c1 => ?_) (fun c1 => ?_)
    · have h := mif_t c1 h
      refine lv_iload hx hb dX3_goes_124 (lv_at hl 4 rfl) ?_
      obtain ⟨hr1, hr2⟩ := uret_n h
      subst hr1
      subst hr2
      exact u_iret hC hP hS dX3_goes_126
    · have h := mif_f c1 h
      refine u_aload_n (r := some a0) hx hb dX3_goes_31 rfl (lv_at hl 0 rfl) ?_
      obtain ⟨o2, ho2, h⟩ := mbind_n h
      refine u_get hC hP (uGR_n ho2) rfl in_X3 (by decide) q1947 (fun _ h => h) dX3_goes_32 ?_
      refine u_aload_n (r := some a0) hx hb dX3_goes_35 rfl (lv_at hl 0 rfl) ?_
      obtain ⟨y3, hy3, h⟩ := mbind_n h
      refine u_get hC hP (uGI_n hy3) rfl in_X3 (by decide) q1948 (fun _ h => h) dX3_goes_36 ?_
      refine lv_iload hx hb dX3_goes_39 (lv_at hl 3 rfl) ?_
      obtain ⟨a4, ha4, hha4⟩ := mbind_n h
      subst ha4
      have h := hha4
      obtain ⟨u5, hu5, h⟩ := mbind_n h
      have zu5 := uStI_sz hu5
      refine u_iast hC hP hS hu5 rfl dX3_goes_41 (fun H locs hP hS => ?_)
      refine u_aload_n (r := some a0) hx hb dX3_goes_42 rfl (lv_at hl 0 rfl) ?_
      refine lv_dup hx hb dX3_goes_43 (u_cat _) ?_
      obtain ⟨y6, hy6, h⟩ := mbind_n h
      refine u_get hC hP (uGI_n hy6) rfl in_X3 (by decide) q1948 (fun _ h => h) dX3_goes_44 ?_
      refine lv_iconst (v := 1) hx hb dX3_goes_47 (by decide) ?_
      refine lv_iadd hx hb dX3_goes_48 ?_
      obtain ⟨u7, hu7, h⟩ := mbind_n h
      have zu7 := uPut_sz hu7
      refine u_put hC hP hS hu7 rfl in_X3 tyX3 tyX3_ok nmX3 (by decide) q1948 (fun _ h => h) rfl (ty := .int) (tyX3_ok 55 (by decide)) rfl rfl dX3_goes_49 (fun H locs hP hS => ?_)
      refine u_aload_n (r := some a0) hx hb dX3_goes_52 rfl (lv_at hl 0 rfl) ?_
      refine lv_iload hx hb dX3_goes_53 (lv_at hl 2 rfl) ?_
      refine lv_iload hx hb dX3_goes_55 (lv_at hl 3 rfl) ?_
      refine lv_iload_n hx hb dX3_goes_57 rfl (lv_at hl 1 rfl) ?_
      obtain ⟨c8, h⟩ := mif_n h
      obtain ⟨r11, u9, c10, h⟩ := ucall_n h
      have zu9 := zz_X3_sees N (ub G) (ug G) u7 a0 x4 x5 x3 r11 u9 c10
      refine u_calli (va_runV (As := [.int x4, .int x5, .int x3]) (rest := []) hC.1 (met_X3_sees l N G u7 a0 x4 x5 x3 r11 u9 c10) (cwV 3 hts (lw_V q2447 q2449 qs86 q103 q2450) rfl rfl rfl (by decide +kernel) ⟨Nat.le_trans (Nat.le_of_ble_eq_true rfl) hR.1, Nat.le_trans (Nat.le_of_ble_eq_true rfl) hR.2⟩) ⟨uPc_blind, u_rcv hC hP c8 rfl, fun U hU hW => u_pre hC hP hS hU hW⟩ rfl rfl hl.1 rfl (lv_room (Nat.le_of_ble_eq_true rfl)) dX3_goes_58 ⟨Nat.zero_le _, Nat.zero_le _⟩) hS (fun H locs hP hS => ?_)
      refine lv_istore (lv' := [(4, .int r11), (0, va_rf (some a0)), (3, .int x3), (5, .int x5), (6, .int x6), (7, .int x7)]) hx hb dX3_goes_61 hl (by decide) rfl (fun ls hl => ?_)
      refine u_aload_n (r := some a0) hx hb dX3_goes_63 rfl (lv_at hl 1 rfl) ?_
      refine lv_iload hx hb dX3_goes_64 (lv_at hl 3 rfl) ?_
      refine lv_iload hx hb dX3_goes_66 (lv_at hl 0 rfl) ?_
      obtain ⟨c12, h⟩ := mif_n h
      obtain ⟨r15, u13, c14, h⟩ := ucall_n h
      have zu13 := zz_X3_stepOf N (ub G) (ug G) u9 a0 x5 r11 r15 u13 c14
      refine u_calli (va_runV (As := [.int x5, .int r11]) (rest := []) hC.1 (met_X3_stepOf l N G u9 a0 x5 r11 r15 u13 c14) (cwV 2 hts (lw_V q2419 q2421 qs82 q103 q2422) rfl rfl rfl (by decide +kernel) ⟨Nat.le_trans (Nat.le_of_ble_eq_true rfl) hR.1, Nat.le_trans (Nat.le_of_ble_eq_true rfl) hR.2⟩) ⟨uPc_blind, u_rcv hC hP c12 rfl, fun U hU hW => u_pre hC hP hS hU hW⟩ rfl rfl hl.1 rfl (lv_room (Nat.le_of_ble_eq_true rfl)) dX3_goes_68 ⟨Nat.zero_le _, Nat.zero_le _⟩) hS (fun H locs hP hS => ?_)
      refine lv_istore (lv' := [(8, .int r15), (4, .int r11), (0, va_rf (some a0)), (3, .int x3), (5, .int x5), (6, .int x6), (7, .int x7)]) hx hb dX3_goes_71 hl (by decide) rfl (fun ls hl => ?_)
      refine lv_iload hx hb dX3_goes_73 (lv_at hl 0 rfl) ?_
      refine lv_iconst (v := 4) hx hb dX3_goes_75 (by decide) ?_
      refine lv_icmp_ge (tgt := 83) hx hb dX3_goes_76 (by decide) (fun c16 => ?_) (fun c16 => ?_)
      · have h := mif_t c16 h
        refine lv_iconst (v := 0) hx hb dX3_goes_83 (by decide) ?_
        exact w_X3_goes_84 hC hR N (f_X3_goes_26 N (ub G) (ug G) a0 n) ih u13 x3 r11 x5 x6 r15 0 h hP hS (lv_sub hl [2, 3, 1, 4, 5, 0] rfl)
      · have h := mif_f c16 h
        refine lv_iconst (v := 1) hx hb dX3_goes_79 (by decide) ?_
        refine lv_goto (tgt := 84) hx hb dX3_goes_80 (by decide) ?_
        exact w_X3_goes_84 hC hR N (f_X3_goes_26 N (ub G) (ug G) a0 n) ih u13 x3 r11 x5 x6 r15 1 h hP hS (lv_sub hl [2, 3, 1, 4, 5, 0] rfl)
def f_X3_goes (N b : Nat) (g : uEnv) (u : UH) (a0 : Nat) (x1 : Int32) (x2 : Int32) : Option (Int32 × UH) :=
    if uIs u a0 2 = true then
    ucall (f_X3_all N b g u a0 x2) fun r4 u2 =>
    if uIs u2 a0 2 = true then
    ucall (f_X3_base N b g u2 a0) fun r8 u6 =>
    (uPut b u6 a0 2 55 (.int 0)).bind fun u9 =>
    f_X3_goes_26 N b g a0 N u9 r4 r8 x1 0 1
    else none
    else none
set_option maxHeartbeats 4000000 in
set_option maxRecDepth 100000 in
theorem zz_X3_goes_0 {G : uG} {a0 : Nat} {uf : UH} {r : Int32} (N : Nat) (u : UH) (x1 : Int32) (x2 : Int32) (h : f_X3_goes N (ub G) (ug G) u a0 x1 x2 = some (r, uf)) : uf.1 = u.1 ∧ uf.2.1 = u.2.1 := by
  unfold f_X3_goes at h
  obtain ⟨c1, h⟩ := mif_n h
  obtain ⟨r4, u2, c3, h⟩ := ucall_n h
  have zu2 := zz_X3_all N (ub G) (ug G) u a0 x2 r4 u2 c3
  obtain ⟨c5, h⟩ := mif_n h
  obtain ⟨r8, u6, c7, h⟩ := ucall_n h
  have zu6 := zz_X3_base N (ub G) (ug G) u2 a0 r8 u6 c7
  obtain ⟨u9, hu9, h⟩ := mbind_n h
  have zu9 := uPut_sz hu9
  have hq := zz_X3_goes_26 (G := G) (a0 := a0) N N u9 r4 r8 x1 0 1 h
  exact ⟨by omega, by omega⟩
set_option maxHeartbeats 4000000 in
set_option maxRecDepth 100000 in
theorem w_X3_goes_0 {p : Program} {l : Launch} {e : Env} {R : Room} {s : State} {m : MethodId} {args : Array Value} {below : List Frame} {meth : Method} {c : Code} {G : uG} {a0 : Nat} {uf : UH} {r : Int32} (hC : uC p s m args meth c G RX3 cX3_goes 9 (some .int)) (hR : 4 ≤ R.frames ∧ 97 ≤ R.locals) (N : Nat) (u : UH) (x1 : Int32) (x2 : Int32) (h : f_X3_goes N (ub G) (ug G) u a0 x1 x2 = some (r, uf)) {H : Heap} {locs : List Loc} (hP : uP G u H) (hS : va_S (uA G) s.heap H locs) {ls : Array Slot} (hl : lv_has ls 9 [(0, va_rf (some a0)), (1, .int x1), (2, .int x2)]) : W p l e R s m args below meth c H locs 0 0 (MQ below (uQi G r uf) args s 0 0 (uA G)) (F0 m 0 ls []) := by
  obtain ⟨⟨hx, hb, hml, hown, hts⟩, hKK⟩ := id hC
  unfold f_X3_goes at h
  refine u_aload_n (r := some a0) hx hb dX3_goes_0 rfl (lv_at hl 0 rfl) ?_
  refine lv_iload_n hx hb dX3_goes_1 rfl (lv_at hl 2 rfl) ?_
  obtain ⟨c1, h⟩ := mif_n h
  obtain ⟨r4, u2, c3, h⟩ := ucall_n h
  have zu2 := zz_X3_all N (ub G) (ug G) u a0 x2 r4 u2 c3
  refine u_calli (va_runV (As := [.int x2]) (rest := []) hC.1 (met_X3_all l N G u a0 x2 r4 u2 c3) (cwV 1 hts (lw_V q2435 q2437 qs84 q103 q2438) rfl rfl rfl (by decide +kernel) ⟨Nat.le_trans (Nat.le_of_ble_eq_true rfl) hR.1, Nat.le_trans (Nat.le_of_ble_eq_true rfl) hR.2⟩) ⟨uPc_blind, u_rcv hC hP c1 rfl, fun U hU hW => u_pre hC hP hS hU hW⟩ rfl rfl hl.1 rfl (lv_room (Nat.le_of_ble_eq_true rfl)) dX3_goes_2 ⟨Nat.zero_le _, Nat.zero_le _⟩) hS (fun H locs hP hS => ?_)
  refine lv_istore_n (i := 3) (lv' := [(3, .int r4), (0, va_rf (some a0)), (1, .int x1), (2, .int x2)]) hx hb dX3_goes_5 rfl hl (by decide) rfl (fun ls hl => ?_)
  refine u_aload_n (r := some a0) hx hb dX3_goes_6 rfl (lv_at hl 1 rfl) ?_
  obtain ⟨c5, h⟩ := mif_n h
  obtain ⟨r8, u6, c7, h⟩ := ucall_n h
  have zu6 := zz_X3_base N (ub G) (ug G) u2 a0 r8 u6 c7
  refine u_calli (va_runV (As := []) (rest := []) hC.1 (met_X3_base l N G u2 a0 r8 u6 c7) (cwV 0 hts (lw_V q2399 q2401 qs81 q103 q2402) rfl rfl rfl (by decide +kernel) ⟨Nat.le_trans (Nat.le_of_ble_eq_true rfl) hR.1, Nat.le_trans (Nat.le_of_ble_eq_true rfl) hR.2⟩) ⟨uPc_blind, u_rcv hC hP c5 rfl, fun U hU hW => u_pre hC hP hS hU hW⟩ rfl rfl hl.1 rfl (lv_room (Nat.le_of_ble_eq_true rfl)) dX3_goes_7 ⟨Nat.zero_le _, Nat.zero_le _⟩) hS (fun H locs hP hS => ?_)
  refine lv_istore (lv' := [(4, .int r8), (3, .int r4), (0, va_rf (some a0)), (1, .int x1), (2, .int x2)]) hx hb dX3_goes_10 hl (by decide) rfl (fun ls hl => ?_)
  refine lv_iload_n hx hb dX3_goes_12 rfl (lv_at hl 3 rfl) ?_
  refine lv_istore (lv' := [(5, .int x1), (4, .int r8), (3, .int r4), (0, va_rf (some a0)), (1, .int x1), (2, .int x2)]) hx hb dX3_goes_13 hl (by decide) rfl (fun ls hl => ?_)
  refine lv_iconst (v := 0) hx hb dX3_goes_15 (by decide) ?_
  refine lv_istore (lv' := [(6, .int 0), (5, .int x1), (4, .int r8), (3, .int r4), (0, va_rf (some a0)), (1, .int x1), (2, .int x2)]) hx hb dX3_goes_16 hl (by decide) rfl (fun ls hl => ?_)
  refine u_aload_n (r := some a0) hx hb dX3_goes_18 rfl (lv_at hl 4 rfl) ?_
  refine lv_iconst (v := 0) hx hb dX3_goes_19 (by decide) ?_
  obtain ⟨u9, hu9, h⟩ := mbind_n h
  have zu9 := uPut_sz hu9
  refine u_put hC hP hS hu9 rfl in_X3 tyX3 tyX3_ok nmX3 (by decide) q1948 (fun _ h => h) rfl (ty := .int) (tyX3_ok 55 (by decide)) rfl rfl dX3_goes_20 (fun H locs hP hS => ?_)
  refine lv_iconst (v := 1) hx hb dX3_goes_23 (by decide) ?_
  refine lv_istore (lv' := [(7, .int 1), (6, .int 0), (5, .int x1), (4, .int r8), (3, .int r4), (0, va_rf (some a0)), (1, .int x1), (2, .int x2)]) hx hb dX3_goes_24 hl (by decide) rfl (fun ls hl => ?_)
  exact w_X3_goes_26 hC hR N N u9 r4 r8 x1 0 1 h _ _ hP hS _ (lv_sub hl [5, 4, 3, 2, 1, 0] rfl)
theorem zz_X3_goes (N b : Nat) (g : uEnv) (u : UH) (a0 : Nat) (x1 : Int32) (x2 : Int32) (r : Int32) (uf : UH) (h : f_X3_goes N b g u a0 x1 x2 = some (r, uf)) : uf.1 = u.1 ∧ uf.2.1 = u.2.1 :=
  zz_X3_goes_0 (G := ((fun _ => 0, fun _ _ => 0), fun _ => 0, b, g)) (a0 := a0) N u x1 x2 h
theorem met_X3_goes (l : Launch) (N : Nat) (G : uG) (u : UH) (a0 : Nat) (x1 : Int32) (x2 : Int32) (r : Int32) (uf : UH) (h : f_X3_goes N (ub G) (ug G) u a0 x1 x2 = some (r, uf)) : Met l yX3_goes (ws_ yX3_goes cX3_goes 9 (some .int)) ({ frames := 4, cells := 0, slots := 0, locals := 97 }) (uPc G u [.ref a0, .int x1, .int x2]) (uQi G r uf) 0 0 (uA G) := by
  exact u_met (own := RX3) (by decide +kernel) rfl (Nat.le_of_ble_eq_true rfl) (fun hC hn hsz ls hl hP => w_X3_goes_0 hC ⟨Nat.le_refl _, Nat.le_refl _⟩ N u x1 x2 h hP va_S.rf hl)
def f_X3_isGround_26 (N b : Nat) (g : uEnv) (a0 : Nat) (u : UH) (s0 : Int32) : Option (Int32 × UH) :=
    if uFit .boolean s0 = true then
    some (s0, u)
    else none
set_option maxHeartbeats 4000000 in
set_option maxRecDepth 100000 in
theorem zz_X3_isGround_26 {G : uG} {a0 : Nat} {uf : UH} {r : Int32} (N : Nat) (u : UH) (s0 : Int32) (h : f_X3_isGround_26 N (ub G) (ug G) a0 u s0 = some (r, uf)) : uf.1 = u.1 ∧ uf.2.1 = u.2.1 := by
  unfold f_X3_isGround_26 at h
  obtain ⟨c1, h⟩ := mif_n h
  obtain ⟨hr1, hr2⟩ := uret_n h
  subst hr2
  exact ⟨by omega, by omega⟩
set_option maxHeartbeats 4000000 in
set_option maxRecDepth 100000 in
theorem w_X3_isGround_26 {p : Program} {l : Launch} {e : Env} {R : Room} {s : State} {m : MethodId} {args : Array Value} {below : List Frame} {meth : Method} {c : Code} {G : uG} {a0 : Nat} {uf : UH} {r : Int32} (hC : uC p s m args meth c G RX3 cX3_isGround 2 (some .boolean)) (hR : 1 ≤ R.frames ∧ 22 ≤ R.locals) (N : Nat) (u : UH) (s0 : Int32) (h : f_X3_isGround_26 N (ub G) (ug G) a0 u s0 = some (r, uf)) {H : Heap} {locs : List Loc} (hP : uP G u H) (hS : va_S (uA G) s.heap H locs) {ls : Array Slot} (hl : lv_has ls 2 []) : W p l e R s m args below meth c H locs 0 0 (MQ below (uQi G r uf) args s 0 0 (uA G)) (F0 m 26 ls [.int s0]) := by
  obtain ⟨⟨hx, hb, hml, hown, hts⟩, hKK⟩ := id hC
  unfold f_X3_isGround_26 at h
  obtain ⟨c1, h⟩ := mif_n h
  obtain ⟨hr1, hr2⟩ := uret_n h
  subst hr1
  subst hr2
  exact u_zret hC (uFit_n c1).1 hP hS dX3_isGround_26
def f_X3_isGround_25 (N b : Nat) (g : uEnv) (a0 : Nat) (u : UH) : Option (Int32 × UH) :=
    f_X3_isGround_26 N b g a0 u 0
set_option maxHeartbeats 4000000 in
set_option maxRecDepth 100000 in
theorem zz_X3_isGround_25 {G : uG} {a0 : Nat} {uf : UH} {r : Int32} (N : Nat) (u : UH) (h : f_X3_isGround_25 N (ub G) (ug G) a0 u = some (r, uf)) : uf.1 = u.1 ∧ uf.2.1 = u.2.1 := by
  unfold f_X3_isGround_25 at h
  have hq := zz_X3_isGround_26 (G := G) (a0 := a0) N u 0 h
  exact ⟨by omega, by omega⟩
set_option maxHeartbeats 4000000 in
set_option maxRecDepth 100000 in
theorem w_X3_isGround_25 {p : Program} {l : Launch} {e : Env} {R : Room} {s : State} {m : MethodId} {args : Array Value} {below : List Frame} {meth : Method} {c : Code} {G : uG} {a0 : Nat} {uf : UH} {r : Int32} (hC : uC p s m args meth c G RX3 cX3_isGround 2 (some .boolean)) (hR : 1 ≤ R.frames ∧ 22 ≤ R.locals) (N : Nat) (u : UH) (h : f_X3_isGround_25 N (ub G) (ug G) a0 u = some (r, uf)) {H : Heap} {locs : List Loc} (hP : uP G u H) (hS : va_S (uA G) s.heap H locs) {ls : Array Slot} (hl : lv_has ls 2 []) : W p l e R s m args below meth c H locs 0 0 (MQ below (uQi G r uf) args s 0 0 (uA G)) (F0 m 25 ls []) := by
  obtain ⟨⟨hx, hb, hml, hown, hts⟩, hKK⟩ := id hC
  unfold f_X3_isGround_25 at h
  refine lv_iconst (v := 0) hx hb dX3_isGround_25 (by decide) ?_
  exact w_X3_isGround_26 hC hR N u 0 h hP hS (lv_sub hl [] rfl)
def f_X3_isGround (N b : Nat) (g : uEnv) (u : UH) (a0 : Nat) (x1 : Int32) : Option (Int32 × UH) :=
    (uGI u a0 2 12).bind fun y1 =>
    if y1 = 0 then
    f_X3_isGround_25 N b g a0 u
    else
    (uGI u a0 2 22).bind fun y3 =>
    ucall (f_X3_within N b g u x1 0 (y3 - 1)) fun r6 u4 =>
    if r6 = 0 then
    f_X3_isGround_25 N b g a0 u4
    else
    f_X3_isGround_26 N b g a0 u4 1
set_option maxHeartbeats 4000000 in
set_option maxRecDepth 100000 in
theorem zz_X3_isGround_0 {G : uG} {a0 : Nat} {uf : UH} {r : Int32} (N : Nat) (u : UH) (x1 : Int32) (h : f_X3_isGround N (ub G) (ug G) u a0 x1 = some (r, uf)) : uf.1 = u.1 ∧ uf.2.1 = u.2.1 := by
  unfold f_X3_isGround at h
  obtain ⟨y1, hy1, h⟩ := mbind_n h
  by_cases c2 : y1 = 0
  · have h := mif_t c2 h
    have hq := zz_X3_isGround_25 (G := G) (a0 := a0) N u h
    exact ⟨by omega, by omega⟩
  · have h := mif_f c2 h
    obtain ⟨y3, hy3, h⟩ := mbind_n h
    obtain ⟨r6, u4, c5, h⟩ := ucall_n h
    have zu4 := zz_X3_within N (ub G) (ug G) u x1 0 (y3 - 1) r6 u4 c5
    by_cases c7 : r6 = 0
    · have h := mif_t c7 h
      have hq := zz_X3_isGround_25 (G := G) (a0 := a0) N u4 h
      exact ⟨by omega, by omega⟩
    · have h := mif_f c7 h
      have hq := zz_X3_isGround_26 (G := G) (a0 := a0) N u4 1 h
      exact ⟨by omega, by omega⟩
set_option maxHeartbeats 4000000 in
set_option maxRecDepth 100000 in
theorem w_X3_isGround_0 {p : Program} {l : Launch} {e : Env} {R : Room} {s : State} {m : MethodId} {args : Array Value} {below : List Frame} {meth : Method} {c : Code} {G : uG} {a0 : Nat} {uf : UH} {r : Int32} (hC : uC p s m args meth c G RX3 cX3_isGround 2 (some .boolean)) (hR : 1 ≤ R.frames ∧ 22 ≤ R.locals) (N : Nat) (u : UH) (x1 : Int32) (h : f_X3_isGround N (ub G) (ug G) u a0 x1 = some (r, uf)) {H : Heap} {locs : List Loc} (hP : uP G u H) (hS : va_S (uA G) s.heap H locs) {ls : Array Slot} (hl : lv_has ls 2 [(0, va_rf (some a0)), (1, .int x1)]) : W p l e R s m args below meth c H locs 0 0 (MQ below (uQi G r uf) args s 0 0 (uA G)) (F0 m 0 ls []) := by
  obtain ⟨⟨hx, hb, hml, hown, hts⟩, hKK⟩ := id hC
  unfold f_X3_isGround at h
  refine u_aload_n (r := some a0) hx hb dX3_isGround_0 rfl (lv_at hl 0 rfl) ?_
  obtain ⟨y1, hy1, h⟩ := mbind_n h
  refine u_get hC hP (uGI_n hy1) rfl in_X3 (by decide) q1905 (fun _ h => h) dX3_isGround_1 ?_
  refine lv_if_eq (tgt := 25) hx hb dX3_isGround_4 (by decide) (fun c2 => ?_) (fun c2 => ?_)
  · have h := mif_t c2 h
    exact w_X3_isGround_25 hC hR N u h hP hS (lv_sub hl [] rfl)
  · have h := mif_f c2 h
    refine lv_iload_n hx hb dX3_isGround_7 rfl (lv_at hl 1 rfl) ?_
    refine lv_iconst (v := 0) hx hb dX3_isGround_8 (by decide) ?_
    refine u_aload_n (r := some a0) hx hb dX3_isGround_9 rfl (lv_at hl 0 rfl) ?_
    obtain ⟨y3, hy3, h⟩ := mbind_n h
    refine u_get hC hP (uGI_n hy3) rfl in_X3 (by decide) q1915 (fun _ h => h) dX3_isGround_10 ?_
    refine lv_iconst (v := 1) hx hb dX3_isGround_13 (by decide) ?_
    refine lv_isub hx hb dX3_isGround_14 ?_
    obtain ⟨r6, u4, c5, h⟩ := ucall_n h
    have zu4 := zz_X3_within N (ub G) (ug G) u x1 0 (y3 - 1) r6 u4 c5
    refine u_calli (va_runS (As := [.int x1, .int 0, .int (y3 - 1)]) (rest := []) hC.1 (met_X3_within l N G u x1 0 (y3 - 1) r6 u4 c5) (va_cwS 3 hts (lw_S q2135 q2136 q103 q2137) rfl rfl rfl (by decide +kernel) ⟨Nat.le_trans (Nat.le_of_ble_eq_true rfl) hR.1, Nat.le_trans (Nat.le_of_ble_eq_true rfl) hR.2⟩) ⟨uPc_blind, fun U hU hW => u_pre hC hP hS hU hW⟩ rfl rfl hl.1 rfl (lv_room (Nat.le_of_ble_eq_true rfl)) dX3_isGround_15 ⟨Nat.zero_le _, Nat.zero_le _⟩) hS (fun H locs hP hS => ?_)
    refine lv_if_eq (tgt := 25) hx hb dX3_isGround_18 (by decide) (fun c7 => ?_) (fun c7 => ?_)
    · have h := mif_t c7 h
      exact w_X3_isGround_25 hC hR N u4 h hP hS (lv_sub hl [] rfl)
    · have h := mif_f c7 h
      refine lv_iconst (v := 1) hx hb dX3_isGround_21 (by decide) ?_
      refine lv_goto (tgt := 26) hx hb dX3_isGround_22 (by decide) ?_
      exact w_X3_isGround_26 hC hR N u4 1 h hP hS (lv_sub hl [] rfl)
theorem zz_X3_isGround (N b : Nat) (g : uEnv) (u : UH) (a0 : Nat) (x1 : Int32) (r : Int32) (uf : UH) (h : f_X3_isGround N b g u a0 x1 = some (r, uf)) : uf.1 = u.1 ∧ uf.2.1 = u.2.1 :=
  zz_X3_isGround_0 (G := ((fun _ => 0, fun _ _ => 0), fun _ => 0, b, g)) (a0 := a0) N u x1 h
theorem met_X3_isGround (l : Launch) (N : Nat) (G : uG) (u : UH) (a0 : Nat) (x1 : Int32) (r : Int32) (uf : UH) (h : f_X3_isGround N (ub G) (ug G) u a0 x1 = some (r, uf)) : Met l yX3_isGround (ws_ yX3_isGround cX3_isGround 2 (some .boolean)) ({ frames := 1, cells := 0, slots := 0, locals := 22 }) (uPc G u [.ref a0, .int x1]) (uQi G r uf) 0 0 (uA G) := by
  exact u_met (own := RX3) (by decide +kernel) rfl (Nat.le_of_ble_eq_true rfl) (fun hC hn hsz ls hl hP => w_X3_isGround_0 hC ⟨Nat.le_refl _, Nat.le_refl _⟩ N u x1 h hP va_S.rf hl)
def f_X3_grip_51 (N b : Nat) (g : uEnv) (a0 : Nat) (u : UH) (s0 : Int32) : Option (Int32 × UH) :=
    some (s0, u)
set_option maxHeartbeats 4000000 in
set_option maxRecDepth 100000 in
theorem zz_X3_grip_51 {G : uG} {a0 : Nat} {uf : UH} {r : Int32} (N : Nat) (u : UH) (s0 : Int32) (h : f_X3_grip_51 N (ub G) (ug G) a0 u s0 = some (r, uf)) : uf.1 = u.1 ∧ uf.2.1 = u.2.1 := by
  unfold f_X3_grip_51 at h
  obtain ⟨hr1, hr2⟩ := uret_n h
  subst hr2
  exact ⟨by omega, by omega⟩
set_option maxHeartbeats 4000000 in
set_option maxRecDepth 100000 in
theorem w_X3_grip_51 {p : Program} {l : Launch} {e : Env} {R : Room} {s : State} {m : MethodId} {args : Array Value} {below : List Frame} {meth : Method} {c : Code} {G : uG} {a0 : Nat} {uf : UH} {r : Int32} (hC : uC p s m args meth c G RX3 cX3_grip 3 (some .int)) (hR : 2 ≤ R.frames ∧ 51 ≤ R.locals) (N : Nat) (u : UH) (s0 : Int32) (h : f_X3_grip_51 N (ub G) (ug G) a0 u s0 = some (r, uf)) {H : Heap} {locs : List Loc} (hP : uP G u H) (hS : va_S (uA G) s.heap H locs) {ls : Array Slot} (hl : lv_has ls 3 []) : W p l e R s m args below meth c H locs 0 0 (MQ below (uQi G r uf) args s 0 0 (uA G)) (F0 m 51 ls [.int s0]) := by
  obtain ⟨⟨hx, hb, hml, hown, hts⟩, hKK⟩ := id hC
  unfold f_X3_grip_51 at h
  obtain ⟨hr1, hr2⟩ := uret_n h
  subst hr1
  subst hr2
  exact u_iret hC hP hS dX3_grip_51
def f_X3_grip (N b : Nat) (g : uEnv) (u : UH) (a0 : Nat) (x1 : Int32) (x2 : Int32) : Option (Int32 × UH) :=
    if uIs u a0 2 = true then
    (f_X3_good N b g u a0).bind fun u2 =>
    if uIs u2 a0 2 = true then
    ucall (f_X3_isGround N b g u2 a0 x1) fun r7 u5 =>
    if r7 = 0 then
    if uIs u5 a0 2 = true then
    ucall (f_X3_no N b g u5 a0 1) fun r27 u25 =>
    some (r27, u25)
    else none
    else
    ucall (f_X3_within N b g u5 x2 0 90) fun r11 u9 =>
    if r11 = 0 then
    if uIs u9 a0 2 = true then
    ucall (f_X3_no N b g u9 a0 2) fun r16 u14 =>
    f_X3_grip_51 N b g a0 u14 r16
    else none
    else
    (uGR u9 a0 2 21).bind fun o17 =>
    (uGR u9 a0 2 19).bind fun o18 =>
    (o18).bind fun a19 =>
    (uLdI u9 a19 0 x1).bind fun y20 =>
    ucall (f_X3_between N b g u9 o17 x1 y20 x2) fun r23 u21 =>
    f_X3_grip_51 N b g a0 u21 r23
    else none
    else none
set_option maxHeartbeats 4000000 in
set_option maxRecDepth 100000 in
theorem zz_X3_grip_0 {G : uG} {a0 : Nat} {uf : UH} {r : Int32} (N : Nat) (u : UH) (x1 : Int32) (x2 : Int32) (h : f_X3_grip N (ub G) (ug G) u a0 x1 x2 = some (r, uf)) : uf.1 = u.1 ∧ uf.2.1 = u.2.1 := by
  unfold f_X3_grip at h
  obtain ⟨c1, h⟩ := mif_n h
  obtain ⟨u2, c3, h⟩ := mbind_n h
  have zu2 := zz_X3_good N (ub G) (ug G) u a0 u2 c3
  obtain ⟨c4, h⟩ := mif_n h
  obtain ⟨r7, u5, c6, h⟩ := ucall_n h
  have zu5 := zz_X3_isGround N (ub G) (ug G) u2 a0 x1 r7 u5 c6
  by_cases c8 : r7 = 0
  · have h := mif_t c8 h
    obtain ⟨c24, h⟩ := mif_n h
    obtain ⟨r27, u25, c26, h⟩ := ucall_n h
    have zu25 := zz_X3_no N (ub G) (ug G) u5 a0 1 r27 u25 c26
    obtain ⟨hr1, hr2⟩ := uret_n h
    subst hr2
    exact ⟨by omega, by omega⟩
  · have h := mif_f c8 h
    obtain ⟨r11, u9, c10, h⟩ := ucall_n h
    have zu9 := zz_X3_within N (ub G) (ug G) u5 x2 0 90 r11 u9 c10
    by_cases c12 : r11 = 0
    · have h := mif_t c12 h
      obtain ⟨c13, h⟩ := mif_n h
      obtain ⟨r16, u14, c15, h⟩ := ucall_n h
      have zu14 := zz_X3_no N (ub G) (ug G) u9 a0 2 r16 u14 c15
      have hq := zz_X3_grip_51 (G := G) (a0 := a0) N u14 r16 h
      exact ⟨by omega, by omega⟩
    · have h := mif_f c12 h
      obtain ⟨o17, ho17, h⟩ := mbind_n h
      obtain ⟨o18, ho18, h⟩ := mbind_n h
      obtain ⟨a19, ha19, hha19⟩ := mbind_n h
      subst ha19
      have h := hha19
      obtain ⟨y20, hy20, h⟩ := mbind_n h
      obtain ⟨r23, u21, c22, h⟩ := ucall_n h
      have zu21 := zz_X3_between N (ub G) (ug G) u9 o17 x1 y20 x2 r23 u21 c22
      have hq := zz_X3_grip_51 (G := G) (a0 := a0) N u21 r23 h
      exact ⟨by omega, by omega⟩
set_option maxHeartbeats 4000000 in
set_option maxRecDepth 100000 in
theorem w_X3_grip_0 {p : Program} {l : Launch} {e : Env} {R : Room} {s : State} {m : MethodId} {args : Array Value} {below : List Frame} {meth : Method} {c : Code} {G : uG} {a0 : Nat} {uf : UH} {r : Int32} (hC : uC p s m args meth c G RX3 cX3_grip 3 (some .int)) (hR : 2 ≤ R.frames ∧ 51 ≤ R.locals) (N : Nat) (u : UH) (x1 : Int32) (x2 : Int32) (h : f_X3_grip N (ub G) (ug G) u a0 x1 x2 = some (r, uf)) {H : Heap} {locs : List Loc} (hP : uP G u H) (hS : va_S (uA G) s.heap H locs) {ls : Array Slot} (hl : lv_has ls 3 [(0, va_rf (some a0)), (1, .int x1), (2, .int x2)]) : W p l e R s m args below meth c H locs 0 0 (MQ below (uQi G r uf) args s 0 0 (uA G)) (F0 m 0 ls []) := by
  obtain ⟨⟨hx, hb, hml, hown, hts⟩, hKK⟩ := id hC
  unfold f_X3_grip at h
  refine u_aload_n (r := some a0) hx hb dX3_grip_0 rfl (lv_at hl 0 rfl) ?_
  obtain ⟨c1, h⟩ := mif_n h
  obtain ⟨u2, c3, h⟩ := mbind_n h
  have zu2 := zz_X3_good N (ub G) (ug G) u a0 u2 c3
  refine u_callv (va_runV (As := []) (rest := []) hC.1 (met_X3_good l N G u a0 u2 c3) (cwV 0 hts (lw_V q2131 q2133 qs40 q103 q2134) rfl rfl rfl (by decide +kernel) ⟨Nat.le_trans (Nat.le_of_ble_eq_true rfl) hR.1, Nat.le_trans (Nat.le_of_ble_eq_true rfl) hR.2⟩) ⟨uPc_blind, u_rcv hC hP c1 rfl, fun U hU hW => u_pre hC hP hS hU hW⟩ rfl rfl hl.1 rfl (lv_room (Nat.le_of_ble_eq_true rfl)) dX3_grip_1 ⟨Nat.zero_le _, Nat.zero_le _⟩) hS (fun H locs hP hS => ?_)
  refine u_aload_n (r := some a0) hx hb dX3_grip_4 rfl (lv_at hl 0 rfl) ?_
  refine lv_iload_n hx hb dX3_grip_5 rfl (lv_at hl 1 rfl) ?_
  obtain ⟨c4, h⟩ := mif_n h
  obtain ⟨r7, u5, c6, h⟩ := ucall_n h
  have zu5 := zz_X3_isGround N (ub G) (ug G) u2 a0 x1 r7 u5 c6
  refine u_calli (va_runV (As := [.int x1]) (rest := []) hC.1 (met_X3_isGround l N G u2 a0 x1 r7 u5 c6) (cwV 1 hts (lw_V q2246 q2248 qs58 q103 q2249) rfl rfl rfl (by decide +kernel) ⟨Nat.le_trans (Nat.le_of_ble_eq_true rfl) hR.1, Nat.le_trans (Nat.le_of_ble_eq_true rfl) hR.2⟩) ⟨uPc_blind, u_rcv hC hP c4 rfl, fun U hU hW => u_pre hC hP hS hU hW⟩ rfl rfl hl.1 rfl (lv_room (Nat.le_of_ble_eq_true rfl)) dX3_grip_6 ⟨Nat.zero_le _, Nat.zero_le _⟩) hS (fun H locs hP hS => ?_)
  refine lv_if_ne (tgt := 18) hx hb dX3_grip_9 (by decide) (fun c8 => ?_) (fun c8 => ?_)
  · have h := mif_f c8 h
    refine lv_iload_n hx hb dX3_grip_18 rfl (lv_at hl 2 rfl) ?_
    refine lv_iconst (v := 0) hx hb dX3_grip_19 (by decide) ?_
    refine lv_bipush (v := 90) hx hb dX3_grip_20 (by decide) ?_
    obtain ⟨r11, u9, c10, h⟩ := ucall_n h
    have zu9 := zz_X3_within N (ub G) (ug G) u5 x2 0 90 r11 u9 c10
    refine u_calli (va_runS (As := [.int x2, .int 0, .int 90]) (rest := []) hC.1 (met_X3_within l N G u5 x2 0 90 r11 u9 c10) (va_cwS 3 hts (lw_S q2135 q2136 q103 q2137) rfl rfl rfl (by decide +kernel) ⟨Nat.le_trans (Nat.le_of_ble_eq_true rfl) hR.1, Nat.le_trans (Nat.le_of_ble_eq_true rfl) hR.2⟩) ⟨uPc_blind, fun U hU hW => u_pre hC hP hS hU hW⟩ rfl rfl hl.1 rfl (lv_room (Nat.le_of_ble_eq_true rfl)) dX3_grip_22 ⟨Nat.zero_le _, Nat.zero_le _⟩) hS (fun H locs hP hS => ?_)
    refine lv_if_eq (tgt := 46) hx hb dX3_grip_25 (by decide) (fun c12 => ?_) (fun c12 => ?_)
    · have h := mif_t c12 h
      refine u_aload_n (r := some a0) hx hb dX3_grip_46 rfl (lv_at hl 0 rfl) ?_
      refine lv_iconst (v := 2) hx hb dX3_grip_47 (by decide) ?_
      obtain ⟨c13, h⟩ := mif_n h
      obtain ⟨r16, u14, c15, h⟩ := ucall_n h
      have zu14 := zz_X3_no N (ub G) (ug G) u9 a0 2 r16 u14 c15
      refine u_calli (va_runV (As := [.int 2]) (rest := []) hC.1 (met_X3_no l N G u9 a0 2 r16 u14 c15) (cwV 1 hts (lw_V q2138 q2140 qs41 q103 q2141) rfl rfl rfl (by decide +kernel) ⟨Nat.le_trans (Nat.le_of_ble_eq_true rfl) hR.1, Nat.le_trans (Nat.le_of_ble_eq_true rfl) hR.2⟩) ⟨uPc_blind, u_rcv hC hP c13 rfl, fun U hU hW => u_pre hC hP hS hU hW⟩ rfl rfl hl.1 rfl (lv_room (Nat.le_of_ble_eq_true rfl)) dX3_grip_48 ⟨Nat.zero_le _, Nat.zero_le _⟩) hS (fun H locs hP hS => ?_)
      exact w_X3_grip_51 hC hR N u14 r16 h hP hS (lv_sub hl [] rfl)
    · have h := mif_f c12 h
      refine u_aload_n (r := some a0) hx hb dX3_grip_28 rfl (lv_at hl 0 rfl) ?_
      obtain ⟨o17, ho17, h⟩ := mbind_n h
      refine u_get hC hP (uGR_n ho17) rfl in_X3 (by decide) q1914 (fun _ h => h) dX3_grip_29 ?_
      refine lv_iload_n hx hb dX3_grip_32 rfl (lv_at hl 1 rfl) ?_
      refine u_aload_n (r := some a0) hx hb dX3_grip_33 rfl (lv_at hl 0 rfl) ?_
      obtain ⟨o18, ho18, h⟩ := mbind_n h
      refine u_get hC hP (uGR_n ho18) rfl in_X3 (by decide) q1912 (fun _ h => h) dX3_grip_34 ?_
      refine lv_iload_n hx hb dX3_grip_37 rfl (lv_at hl 1 rfl) ?_
      obtain ⟨a19, ha19, hha19⟩ := mbind_n h
      subst ha19
      have h := hha19
      obtain ⟨y20, hy20, h⟩ := mbind_n h
      refine u_iald hC hP hy20 rfl dX3_grip_38 ?_
      refine lv_iload_n hx hb dX3_grip_39 rfl (lv_at hl 2 rfl) ?_
      obtain ⟨r23, u21, c22, h⟩ := ucall_n h
      have zu21 := zz_X3_between N (ub G) (ug G) u9 o17 x1 y20 x2 r23 u21 c22
      refine u_calli (va_runS (As := [va_rf o17, .int x1, .int y20, .int x2]) (rest := []) hC.1 (met_X3_between l N G u9 o17 x1 y20 x2 r23 u21 c22) (va_cwS 4 hts (lw_S q2250 q2251 q103 q2252) rfl rfl rfl (by decide +kernel) ⟨Nat.le_trans (Nat.le_of_ble_eq_true rfl) hR.1, Nat.le_trans (Nat.le_of_ble_eq_true rfl) hR.2⟩) ⟨uPc_blind, fun U hU hW => u_pre hC hP hS hU hW⟩ rfl rfl hl.1 rfl (lv_room (Nat.le_of_ble_eq_true rfl)) dX3_grip_40 ⟨Nat.zero_le _, Nat.zero_le _⟩) hS (fun H locs hP hS => ?_)
      refine lv_goto (tgt := 51) hx hb dX3_grip_43 (by decide) ?_
      exact w_X3_grip_51 hC hR N u21 r23 h hP hS (lv_sub hl [] rfl)
  · have h := mif_t c8 h
    refine u_aload_n (r := some a0) hx hb dX3_grip_12 rfl (lv_at hl 0 rfl) ?_
    refine lv_iconst (v := 1) hx hb dX3_grip_13 (by decide) ?_
    obtain ⟨c24, h⟩ := mif_n h
    obtain ⟨r27, u25, c26, h⟩ := ucall_n h
    have zu25 := zz_X3_no N (ub G) (ug G) u5 a0 1 r27 u25 c26
    refine u_calli (va_runV (As := [.int 1]) (rest := []) hC.1 (met_X3_no l N G u5 a0 1 r27 u25 c26) (cwV 1 hts (lw_V q2138 q2140 qs41 q103 q2141) rfl rfl rfl (by decide +kernel) ⟨Nat.le_trans (Nat.le_of_ble_eq_true rfl) hR.1, Nat.le_trans (Nat.le_of_ble_eq_true rfl) hR.2⟩) ⟨uPc_blind, u_rcv hC hP c24 rfl, fun U hU hW => u_pre hC hP hS hU hW⟩ rfl rfl hl.1 rfl (lv_room (Nat.le_of_ble_eq_true rfl)) dX3_grip_14 ⟨Nat.zero_le _, Nat.zero_le _⟩) hS (fun H locs hP hS => ?_)
    obtain ⟨hr1, hr2⟩ := uret_n h
    subst hr1
    subst hr2
    exact u_iret hC hP hS dX3_grip_17
theorem zz_X3_grip (N b : Nat) (g : uEnv) (u : UH) (a0 : Nat) (x1 : Int32) (x2 : Int32) (r : Int32) (uf : UH) (h : f_X3_grip N b g u a0 x1 x2 = some (r, uf)) : uf.1 = u.1 ∧ uf.2.1 = u.2.1 :=
  zz_X3_grip_0 (G := ((fun _ => 0, fun _ _ => 0), fun _ => 0, b, g)) (a0 := a0) N u x1 x2 h
theorem met_X3_grip (l : Launch) (N : Nat) (G : uG) (u : UH) (a0 : Nat) (x1 : Int32) (x2 : Int32) (r : Int32) (uf : UH) (h : f_X3_grip N (ub G) (ug G) u a0 x1 x2 = some (r, uf)) : Met l yX3_grip (ws_ yX3_grip cX3_grip 3 (some .int)) ({ frames := 2, cells := 0, slots := 0, locals := 51 }) (uPc G u [.ref a0, .int x1, .int x2]) (uQi G r uf) 0 0 (uA G) := by
  exact u_met (own := RX3) (by decide +kernel) rfl (Nat.le_of_ble_eq_true rfl) (fun hC hn hsz ls hl hP => w_X3_grip_0 hC ⟨Nat.le_refl _, Nat.le_refl _⟩ N u x1 x2 h hP va_S.rf hl)
def f_X3_ground_20 (N b : Nat) (g : uEnv) (a0 : Nat) (u : UH) : Option (Int32 × UH) :=
    if uIs u a0 2 = true then
    ucall (f_X3_not N b g u a0 1) fun r4 u2 =>
    if uFit .boolean r4 = true then
    some (r4, u2)
    else none
    else none
set_option maxHeartbeats 4000000 in
set_option maxRecDepth 100000 in
theorem zz_X3_ground_20 {G : uG} {a0 : Nat} {uf : UH} {r : Int32} (N : Nat) (u : UH) (h : f_X3_ground_20 N (ub G) (ug G) a0 u = some (r, uf)) : uf.1 = u.1 ∧ uf.2.1 = u.2.1 := by
  unfold f_X3_ground_20 at h
  obtain ⟨c1, h⟩ := mif_n h
  obtain ⟨r4, u2, c3, h⟩ := ucall_n h
  have zu2 := zz_X3_not N (ub G) (ug G) u a0 1 r4 u2 c3
  obtain ⟨c5, h⟩ := mif_n h
  obtain ⟨hr1, hr2⟩ := uret_n h
  subst hr2
  exact ⟨by omega, by omega⟩
set_option maxHeartbeats 4000000 in
set_option maxRecDepth 100000 in
theorem w_X3_ground_20 {p : Program} {l : Launch} {e : Env} {R : Room} {s : State} {m : MethodId} {args : Array Value} {below : List Frame} {meth : Method} {c : Code} {G : uG} {a0 : Nat} {uf : UH} {r : Int32} (hC : uC p s m args meth c G RX3 cX3_ground 3 (some .boolean)) (hR : 2 ≤ R.frames ∧ 43 ≤ R.locals) (N : Nat) (u : UH) (h : f_X3_ground_20 N (ub G) (ug G) a0 u = some (r, uf)) {H : Heap} {locs : List Loc} (hP : uP G u H) (hS : va_S (uA G) s.heap H locs) {ls : Array Slot} (hl : lv_has ls 3 [(0, va_rf (some a0))]) : W p l e R s m args below meth c H locs 0 0 (MQ below (uQi G r uf) args s 0 0 (uA G)) (F0 m 20 ls []) := by
  obtain ⟨⟨hx, hb, hml, hown, hts⟩, hKK⟩ := id hC
  unfold f_X3_ground_20 at h
  refine u_aload_n (r := some a0) hx hb dX3_ground_20 rfl (lv_at hl 0 rfl) ?_
  refine lv_iconst (v := 1) hx hb dX3_ground_21 (by decide) ?_
  obtain ⟨c1, h⟩ := mif_n h
  obtain ⟨r4, u2, c3, h⟩ := ucall_n h
  have zu2 := zz_X3_not N (ub G) (ug G) u a0 1 r4 u2 c3
  refine u_calli (va_runV (As := [.int 1]) (rest := []) hC.1 (met_X3_not l N G u a0 1 r4 u2 c3) (cwV 1 hts (lw_V q2264 q2266 qs59 q103 q2267) rfl rfl rfl (by decide +kernel) ⟨Nat.le_trans (Nat.le_of_ble_eq_true rfl) hR.1, Nat.le_trans (Nat.le_of_ble_eq_true rfl) hR.2⟩) ⟨uPc_blind, u_rcv hC hP c1 rfl, fun U hU hW => u_pre hC hP hS hU hW⟩ rfl rfl hl.1 rfl (lv_room (Nat.le_of_ble_eq_true rfl)) dX3_ground_22 ⟨Nat.zero_le _, Nat.zero_le _⟩) hS (fun H locs hP hS => ?_)
  obtain ⟨c5, h⟩ := mif_n h
  obtain ⟨hr1, hr2⟩ := uret_n h
  subst hr1
  subst hr2
  exact u_zret hC (uFit_n c5).1 hP hS dX3_ground_25
def f_X3_ground (N b : Nat) (g : uEnv) (u : UH) (a0 : Nat) (x1 : Int32) (x2 : Int32) : Option (Int32 × UH) :=
    if uIs u a0 2 = true then
    (f_X3_good N b g u a0).bind fun u2 =>
    if uIs u2 a0 2 = true then
    ucall (f_X3_isCell N b g u2 a0 x1) fun r7 u5 =>
    if r7 = 0 then
    f_X3_ground_20 N b g a0 u5
    else
    if uIs u5 a0 2 = true then
    ucall (f_X3_isGround N b g u5 a0 x2) fun r12 u10 =>
    if r12 = 0 then
    f_X3_ground_20 N b g a0 u10
    else
    (uGR u10 a0 2 43).bind fun o14 =>
    (o14).bind fun a15 =>
    (uLdI u10 a15 0 x1).bind fun y16 =>
    if y16 = (-1) then
    (uGR u10 a0 2 42).bind fun o18 =>
    (o18).bind fun a19 =>
    (uStI b u10 a19 0 x1 x2).bind fun u20 =>
    (uPut b u20 a0 2 51 (.int 0)).bind fun u21 =>
    some (1, u21)
    else
    if uIs u10 a0 2 = true then
    ucall (f_X3_not N b g u10 a0 5) fun r25 u23 =>
    if uFit .boolean r25 = true then
    some (r25, u23)
    else none
    else none
    else none
    else none
    else none
set_option maxHeartbeats 4000000 in
set_option maxRecDepth 100000 in
theorem zz_X3_ground_0 {G : uG} {a0 : Nat} {uf : UH} {r : Int32} (N : Nat) (u : UH) (x1 : Int32) (x2 : Int32) (h : f_X3_ground N (ub G) (ug G) u a0 x1 x2 = some (r, uf)) : uf.1 = u.1 ∧ uf.2.1 = u.2.1 := by
  unfold f_X3_ground at h
  obtain ⟨c1, h⟩ := mif_n h
  obtain ⟨u2, c3, h⟩ := mbind_n h
  have zu2 := zz_X3_good N (ub G) (ug G) u a0 u2 c3
  obtain ⟨c4, h⟩ := mif_n h
  obtain ⟨r7, u5, c6, h⟩ := ucall_n h
  have zu5 := zz_X3_isCell N (ub G) (ug G) u2 a0 x1 r7 u5 c6
  by_cases c8 : r7 = 0
  · have h := mif_t c8 h
    have hq := zz_X3_ground_20 (G := G) (a0 := a0) N u5 h
    exact ⟨by omega, by omega⟩
  · have h := mif_f c8 h
    obtain ⟨c9, h⟩ := mif_n h
    obtain ⟨r12, u10, c11, h⟩ := ucall_n h
    have zu10 := zz_X3_isGround N (ub G) (ug G) u5 a0 x2 r12 u10 c11
    by_cases c13 : r12 = 0
    · have h := mif_t c13 h
      have hq := zz_X3_ground_20 (G := G) (a0 := a0) N u10 h
      exact ⟨by omega, by omega⟩
    · have h := mif_f c13 h
      obtain ⟨o14, ho14, h⟩ := mbind_n h
      obtain ⟨a15, ha15, hha15⟩ := mbind_n h
      subst ha15
      have h := hha15
      obtain ⟨y16, hy16, h⟩ := mbind_n h
      by_cases c17 : y16 = (-1)
      · have h := mif_t c17 h
        obtain ⟨o18, ho18, h⟩ := mbind_n h
        obtain ⟨a19, ha19, hha19⟩ := mbind_n h
        subst ha19
        have h := hha19
        obtain ⟨u20, hu20, h⟩ := mbind_n h
        have zu20 := uStI_sz hu20
        obtain ⟨u21, hu21, h⟩ := mbind_n h
        have zu21 := uPut_sz hu21
        obtain ⟨hr1, hr2⟩ := uret_n h
        subst hr2
        exact ⟨by omega, by omega⟩
      · have h := mif_f c17 h
        obtain ⟨c22, h⟩ := mif_n h
        obtain ⟨r25, u23, c24, h⟩ := ucall_n h
        have zu23 := zz_X3_not N (ub G) (ug G) u10 a0 5 r25 u23 c24
        obtain ⟨c26, h⟩ := mif_n h
        obtain ⟨hr1, hr2⟩ := uret_n h
        subst hr2
        exact ⟨by omega, by omega⟩
set_option maxHeartbeats 4000000 in
set_option maxRecDepth 100000 in
theorem w_X3_ground_0 {p : Program} {l : Launch} {e : Env} {R : Room} {s : State} {m : MethodId} {args : Array Value} {below : List Frame} {meth : Method} {c : Code} {G : uG} {a0 : Nat} {uf : UH} {r : Int32} (hC : uC p s m args meth c G RX3 cX3_ground 3 (some .boolean)) (hR : 2 ≤ R.frames ∧ 43 ≤ R.locals) (N : Nat) (u : UH) (x1 : Int32) (x2 : Int32) (h : f_X3_ground N (ub G) (ug G) u a0 x1 x2 = some (r, uf)) {H : Heap} {locs : List Loc} (hP : uP G u H) (hS : va_S (uA G) s.heap H locs) {ls : Array Slot} (hl : lv_has ls 3 [(0, va_rf (some a0)), (1, .int x1), (2, .int x2)]) : W p l e R s m args below meth c H locs 0 0 (MQ below (uQi G r uf) args s 0 0 (uA G)) (F0 m 0 ls []) := by
  obtain ⟨⟨hx, hb, hml, hown, hts⟩, hKK⟩ := id hC
  unfold f_X3_ground at h
  refine u_aload_n (r := some a0) hx hb dX3_ground_0 rfl (lv_at hl 0 rfl) ?_
  obtain ⟨c1, h⟩ := mif_n h
  obtain ⟨u2, c3, h⟩ := mbind_n h
  have zu2 := zz_X3_good N (ub G) (ug G) u a0 u2 c3
  refine u_callv (va_runV (As := []) (rest := []) hC.1 (met_X3_good l N G u a0 u2 c3) (cwV 0 hts (lw_V q2131 q2133 qs40 q103 q2134) rfl rfl rfl (by decide +kernel) ⟨Nat.le_trans (Nat.le_of_ble_eq_true rfl) hR.1, Nat.le_trans (Nat.le_of_ble_eq_true rfl) hR.2⟩) ⟨uPc_blind, u_rcv hC hP c1 rfl, fun U hU hW => u_pre hC hP hS hU hW⟩ rfl rfl hl.1 rfl (lv_room (Nat.le_of_ble_eq_true rfl)) dX3_ground_1 ⟨Nat.zero_le _, Nat.zero_le _⟩) hS (fun H locs hP hS => ?_)
  refine u_aload_n (r := some a0) hx hb dX3_ground_4 rfl (lv_at hl 0 rfl) ?_
  refine lv_iload_n hx hb dX3_ground_5 rfl (lv_at hl 1 rfl) ?_
  obtain ⟨c4, h⟩ := mif_n h
  obtain ⟨r7, u5, c6, h⟩ := ucall_n h
  have zu5 := zz_X3_isCell N (ub G) (ug G) u2 a0 x1 r7 u5 c6
  refine u_calli (va_runV (As := [.int x1]) (rest := []) hC.1 (met_X3_isCell l N G u2 a0 x1 r7 u5 c6) (cwV 1 hts (lw_V q2276 q2278 qs60 q103 q2279) rfl rfl rfl (by decide +kernel) ⟨Nat.le_trans (Nat.le_of_ble_eq_true rfl) hR.1, Nat.le_trans (Nat.le_of_ble_eq_true rfl) hR.2⟩) ⟨uPc_blind, u_rcv hC hP c4 rfl, fun U hU hW => u_pre hC hP hS hU hW⟩ rfl rfl hl.1 rfl (lv_room (Nat.le_of_ble_eq_true rfl)) dX3_ground_6 ⟨Nat.zero_le _, Nat.zero_le _⟩) hS (fun H locs hP hS => ?_)
  refine lv_if_eq (tgt := 20) hx hb dX3_ground_9 (by decide) (fun c8 => ?_) (fun c8 => ?_)
  · have h := mif_t c8 h
    exact w_X3_ground_20 hC hR N u5 h hP hS (lv_sub hl [0] rfl)
  · have h := mif_f c8 h
    refine u_aload_n (r := some a0) hx hb dX3_ground_12 rfl (lv_at hl 0 rfl) ?_
    refine lv_iload_n hx hb dX3_ground_13 rfl (lv_at hl 2 rfl) ?_
    obtain ⟨c9, h⟩ := mif_n h
    obtain ⟨r12, u10, c11, h⟩ := ucall_n h
    have zu10 := zz_X3_isGround N (ub G) (ug G) u5 a0 x2 r12 u10 c11
    refine u_calli (va_runV (As := [.int x2]) (rest := []) hC.1 (met_X3_isGround l N G u5 a0 x2 r12 u10 c11) (cwV 1 hts (lw_V q2246 q2248 qs58 q103 q2249) rfl rfl rfl (by decide +kernel) ⟨Nat.le_trans (Nat.le_of_ble_eq_true rfl) hR.1, Nat.le_trans (Nat.le_of_ble_eq_true rfl) hR.2⟩) ⟨uPc_blind, u_rcv hC hP c9 rfl, fun U hU hW => u_pre hC hP hS hU hW⟩ rfl rfl hl.1 rfl (lv_room (Nat.le_of_ble_eq_true rfl)) dX3_ground_14 ⟨Nat.zero_le _, Nat.zero_le _⟩) hS (fun H locs hP hS => ?_)
    refine lv_if_ne (tgt := 26) hx hb dX3_ground_17 (by decide) (fun c13 => ?_) (fun c13 => ?_)
    · have h := mif_f c13 h
      refine u_aload_n (r := some a0) hx hb dX3_ground_26 rfl (lv_at hl 0 rfl) ?_
      obtain ⟨o14, ho14, h⟩ := mbind_n h
      refine u_get hC hP (uGR_n ho14) rfl in_X3 (by decide) q1936 (fun _ h => h) dX3_ground_27 ?_
      refine lv_iload_n hx hb dX3_ground_30 rfl (lv_at hl 1 rfl) ?_
      obtain ⟨a15, ha15, hha15⟩ := mbind_n h
      subst ha15
      have h := hha15
      obtain ⟨y16, hy16, h⟩ := mbind_n h
      refine u_iald hC hP hy16 rfl dX3_ground_31 ?_
      refine lv_iconst (v := (-1)) hx hb dX3_ground_32 (by decide) ?_
      refine lv_icmp_eq (tgt := 42) hx hb dX3_ground_33 (by decide) (fun c17 => ?_) (fun c17 => ?_)
      · have h := mif_t c17 h
        refine u_aload_n (r := some a0) hx hb dX3_ground_42 rfl (lv_at hl 0 rfl) ?_
        obtain ⟨o18, ho18, h⟩ := mbind_n h
        refine u_get hC hP (uGR_n ho18) rfl in_X3 (by decide) q1935 (fun _ h => h) dX3_ground_43 ?_
        refine lv_iload_n hx hb dX3_ground_46 rfl (lv_at hl 1 rfl) ?_
        refine lv_iload_n hx hb dX3_ground_47 rfl (lv_at hl 2 rfl) ?_
        obtain ⟨a19, ha19, hha19⟩ := mbind_n h
        subst ha19
        have h := hha19
        obtain ⟨u20, hu20, h⟩ := mbind_n h
        have zu20 := uStI_sz hu20
        refine u_iast hC hP hS hu20 rfl dX3_ground_48 (fun H locs hP hS => ?_)
        refine u_aload_n (r := some a0) hx hb dX3_ground_49 rfl (lv_at hl 0 rfl) ?_
        refine lv_iconst (v := 0) hx hb dX3_ground_50 (by decide) ?_
        obtain ⟨u21, hu21, h⟩ := mbind_n h
        have zu21 := uPut_sz hu21
        refine u_put hC hP hS hu21 rfl in_X3 tyX3 tyX3_ok nmX3 (by decide) q1944 (fun _ h => h) rfl (ty := .boolean) (tyX3_ok 51 (by decide)) (uFit_n (ty := .boolean) (v := 0) rfl).1 (uFit_n (ty := .boolean) (v := 0) rfl).2 dX3_ground_51 (fun H locs hP hS => ?_)
        refine lv_iconst (v := 1) hx hb dX3_ground_54 (by decide) ?_
        obtain ⟨hr1, hr2⟩ := uret_n h
        subst hr1
        subst hr2
        exact u_zret hC (uFit_n (ty := .boolean) (v := 1) rfl).1 hP hS dX3_ground_55
      · have h := mif_f c17 h
        refine u_aload_n (r := some a0) hx hb dX3_ground_36 rfl (lv_at hl 0 rfl) ?_
        refine lv_iconst (v := 5) hx hb dX3_ground_37 (by decide) ?_
        obtain ⟨c22, h⟩ := mif_n h
        obtain ⟨r25, u23, c24, h⟩ := ucall_n h
        have zu23 := zz_X3_not N (ub G) (ug G) u10 a0 5 r25 u23 c24
        refine u_calli (va_runV (As := [.int 5]) (rest := []) hC.1 (met_X3_not l N G u10 a0 5 r25 u23 c24) (cwV 1 hts (lw_V q2264 q2266 qs59 q103 q2267) rfl rfl rfl (by decide +kernel) ⟨Nat.le_trans (Nat.le_of_ble_eq_true rfl) hR.1, Nat.le_trans (Nat.le_of_ble_eq_true rfl) hR.2⟩) ⟨uPc_blind, u_rcv hC hP c22 rfl, fun U hU hW => u_pre hC hP hS hU hW⟩ rfl rfl hl.1 rfl (lv_room (Nat.le_of_ble_eq_true rfl)) dX3_ground_38 ⟨Nat.zero_le _, Nat.zero_le _⟩) hS (fun H locs hP hS => ?_)
        obtain ⟨c26, h⟩ := mif_n h
        obtain ⟨hr1, hr2⟩ := uret_n h
        subst hr1
        subst hr2
        exact u_zret hC (uFit_n c26).1 hP hS dX3_ground_41
    · have h := mif_t c13 h
      exact w_X3_ground_20 hC hR N u10 h hP hS (lv_sub hl [0] rfl)
theorem zz_X3_ground (N b : Nat) (g : uEnv) (u : UH) (a0 : Nat) (x1 : Int32) (x2 : Int32) (r : Int32) (uf : UH) (h : f_X3_ground N b g u a0 x1 x2 = some (r, uf)) : uf.1 = u.1 ∧ uf.2.1 = u.2.1 :=
  zz_X3_ground_0 (G := ((fun _ => 0, fun _ _ => 0), fun _ => 0, b, g)) (a0 := a0) N u x1 x2 h
theorem met_X3_ground (l : Launch) (N : Nat) (G : uG) (u : UH) (a0 : Nat) (x1 : Int32) (x2 : Int32) (r : Int32) (uf : UH) (h : f_X3_ground N (ub G) (ug G) u a0 x1 x2 = some (r, uf)) : Met l yX3_ground (ws_ yX3_ground cX3_ground 3 (some .boolean)) ({ frames := 2, cells := 0, slots := 0, locals := 43 }) (uPc G u [.ref a0, .int x1, .int x2]) (uQi G r uf) 0 0 (uA G) := by
  exact u_met (own := RX3) (by decide +kernel) rfl (Nat.le_of_ble_eq_true rfl) (fun hC hn hsz ls hl hP => w_X3_ground_0 hC ⟨Nat.le_refl _, Nat.le_refl _⟩ N u x1 x2 h hP va_S.rf hl)

/-! BY gen_heap.py: X16_join X17_join X2_scale X2_groundOf X16_parts X17_parts X1_told_2 X1_of X19_many X19_attempt X19_cost X19_next X19_lowers -/
def f_X16_join_29 (N b : Nat) (g : uEnv) (a0 : Nat) (u : UH) (s0 : Int64) : Option (Int64 × UH) :=
    some (s0, u)
set_option maxHeartbeats 4000000 in
set_option maxRecDepth 100000 in
theorem zz_X16_join_29 {G : uG} {a0 : Nat} {uf : UH} {r : Int64} (N : Nat) (u : UH) (s0 : Int64) (h : f_X16_join_29 N (ub G) (ug G) a0 u s0 = some (r, uf)) : uf.1 = u.1 ∧ uf.2.1 = u.2.1 := by
  unfold f_X16_join_29 at h
  obtain ⟨hr1, hr2⟩ := uret_n h
  subst hr2
  exact ⟨by omega, by omega⟩
set_option maxHeartbeats 4000000 in
set_option maxRecDepth 100000 in
theorem w_X16_join_29 {p : Program} {l : Launch} {e : Env} {R : Room} {s : State} {m : MethodId} {args : Array Value} {below : List Frame} {meth : Method} {c : Code} {G : uG} {a0 : Nat} {uf : UH} {r : Int64} (hC : uC p s m args meth c G RX16 cX16_join 6 (some .long)) (hR : 0 ≤ R.frames ∧ 0 ≤ R.locals) (N : Nat) (u : UH) (s0 : Int64) (h : f_X16_join_29 N (ub G) (ug G) a0 u s0 = some (r, uf)) {H : Heap} {locs : List Loc} (hP : uP G u H) (hS : va_S (uA G) s.heap H locs) {ls : Array Slot} (hl : lv_has ls 6 []) : W p l e R s m args below meth c H locs 0 0 (MQ below (uQl G r uf) args s 0 0 (uA G)) (F0 m 29 ls [.long s0]) := by
  obtain ⟨⟨hx, hb, hml, hown, hts⟩, hKK⟩ := id hC
  unfold f_X16_join_29 at h
  obtain ⟨hr1, hr2⟩ := uret_n h
  subst hr1
  subst hr2
  exact u_lret hC hP hS dX16_join_29
def f_X16_join_16 (N b : Nat) (g : uEnv) (a0 : Nat) (u : UH) : Option (Int64 × UH) :=
    f_X16_join_29 N b g a0 u 9223372036854775807
set_option maxHeartbeats 4000000 in
set_option maxRecDepth 100000 in
theorem zz_X16_join_16 {G : uG} {a0 : Nat} {uf : UH} {r : Int64} (N : Nat) (u : UH) (h : f_X16_join_16 N (ub G) (ug G) a0 u = some (r, uf)) : uf.1 = u.1 ∧ uf.2.1 = u.2.1 := by
  unfold f_X16_join_16 at h
  have hq := zz_X16_join_29 (G := G) (a0 := a0) N u 9223372036854775807 h
  exact ⟨by omega, by omega⟩
set_option maxHeartbeats 4000000 in
set_option maxRecDepth 100000 in
theorem w_X16_join_16 {p : Program} {l : Launch} {e : Env} {R : Room} {s : State} {m : MethodId} {args : Array Value} {below : List Frame} {meth : Method} {c : Code} {G : uG} {a0 : Nat} {uf : UH} {r : Int64} (hC : uC p s m args meth c G RX16 cX16_join 6 (some .long)) (hR : 0 ≤ R.frames ∧ 0 ≤ R.locals) (N : Nat) (u : UH) (h : f_X16_join_16 N (ub G) (ug G) a0 u = some (r, uf)) {H : Heap} {locs : List Loc} (hP : uP G u H) (hS : va_S (uA G) s.heap H locs) {ls : Array Slot} (hl : lv_has ls 6 []) : W p l e R s m args below meth c H locs 0 0 (MQ below (uQl G r uf) args s 0 0 (uA G)) (F0 m 16 ls []) := by
  obtain ⟨⟨hx, hb, hml, hown, hts⟩, hKK⟩ := id hC
  unfold f_X16_join_16 at h
  refine lv_ldc2 hx hb hown (hts _ q1378) dX16_join_16 ?_
  refine lv_goto (tgt := 29) hx hb dX16_join_19 (by decide) ?_
  exact w_X16_join_29 hC hR N u 9223372036854775807 h hP hS (lv_sub hl [] rfl)
def f_X16_join (N b : Nat) (g : uEnv) (u : UH) (a0 : Nat) (x1 : Int64) (x3 : Int64) (x5 : Int32) : Option (Int64 × UH) :=
    if (lg_cmp x1 9223372036854775807) = 0 then
    f_X16_join_16 N b g a0 u
    else
    if (lg_cmp x3 9223372036854775807) = 0 then
    f_X16_join_16 N b g a0 u
    else
    f_X16_join_29 N b g a0 u (x1 + ((x5.toInt64) * x3))
set_option maxHeartbeats 4000000 in
set_option maxRecDepth 100000 in
theorem zz_X16_join_0 {G : uG} {a0 : Nat} {uf : UH} {r : Int64} (N : Nat) (u : UH) (x1 : Int64) (x3 : Int64) (x5 : Int32) (h : f_X16_join N (ub G) (ug G) u a0 x1 x3 x5 = some (r, uf)) : uf.1 = u.1 ∧ uf.2.1 = u.2.1 := by
  unfold f_X16_join at h
  by_cases c1 : (lg_cmp x1 9223372036854775807) = 0
  · have h := mif_t c1 h
    have hq := zz_X16_join_16 (G := G) (a0 := a0) N u h
    exact ⟨by omega, by omega⟩
  · have h := mif_f c1 h
    by_cases c2 : (lg_cmp x3 9223372036854775807) = 0
    · have h := mif_t c2 h
      have hq := zz_X16_join_16 (G := G) (a0 := a0) N u h
      exact ⟨by omega, by omega⟩
    · have h := mif_f c2 h
      have hq := zz_X16_join_29 (G := G) (a0 := a0) N u (x1 + ((x5.toInt64) * x3)) h
      exact ⟨by omega, by omega⟩
set_option maxHeartbeats 4000000 in
set_option maxRecDepth 100000 in
theorem w_X16_join_0 {p : Program} {l : Launch} {e : Env} {R : Room} {s : State} {m : MethodId} {args : Array Value} {below : List Frame} {meth : Method} {c : Code} {G : uG} {a0 : Nat} {uf : UH} {r : Int64} (hC : uC p s m args meth c G RX16 cX16_join 6 (some .long)) (hR : 0 ≤ R.frames ∧ 0 ≤ R.locals) (N : Nat) (u : UH) (x1 : Int64) (x3 : Int64) (x5 : Int32) (h : f_X16_join N (ub G) (ug G) u a0 x1 x3 x5 = some (r, uf)) {H : Heap} {locs : List Loc} (hP : uP G u H) (hS : va_S (uA G) s.heap H locs) {ls : Array Slot} (hl : lv_has ls 6 [(0, va_rf (some a0)), (1, .long x1), (3, .long x3), (5, .int x5)]) : W p l e R s m args below meth c H locs 0 0 (MQ below (uQl G r uf) args s 0 0 (uA G)) (F0 m 0 ls []) := by
  obtain ⟨⟨hx, hb, hml, hown, hts⟩, hKK⟩ := id hC
  unfold f_X16_join at h
  refine lv_lload_n hx hb dX16_join_0 rfl (lv_at hl 1 rfl) ?_
  refine lv_ldc2 hx hb hown (hts _ q1378) dX16_join_1 ?_
  refine W.lcmp hx hb dX16_join_4 ?_
  refine lv_if_eq (tgt := 16) hx hb dX16_join_5 (by decide) (fun c1 => ?_) (fun c1 => ?_)
  · have h := mif_t c1 h
    exact w_X16_join_16 hC hR N u h hP hS (lv_sub hl [] rfl)
  · have h := mif_f c1 h
    refine lv_lload_n hx hb dX16_join_8 rfl (lv_at hl 2 rfl) ?_
    refine lv_ldc2 hx hb hown (hts _ q1378) dX16_join_9 ?_
    refine W.lcmp hx hb dX16_join_12 ?_
    refine lv_if_ne (tgt := 22) hx hb dX16_join_13 (by decide) (fun c2 => ?_) (fun c2 => ?_)
    · have h := mif_f c2 h
      refine lv_lload_n hx hb dX16_join_22 rfl (lv_at hl 1 rfl) ?_
      refine lv_iload hx hb dX16_join_23 (lv_at hl 3 rfl) ?_
      refine lv_i2l (v := x5.toInt64) hx hb dX16_join_25 rfl ?_
      refine lv_lload_n hx hb dX16_join_26 rfl (lv_at hl 2 rfl) ?_
      refine lv_lmul hx hb dX16_join_27 ?_
      refine lv_ladd hx hb dX16_join_28 ?_
      exact w_X16_join_29 hC hR N u (x1 + ((x5.toInt64) * x3)) h hP hS (lv_sub hl [] rfl)
    · have h := mif_t c2 h
      exact w_X16_join_16 hC hR N u h hP hS (lv_sub hl [] rfl)
theorem zz_X16_join (N b : Nat) (g : uEnv) (u : UH) (a0 : Nat) (x1 : Int64) (x3 : Int64) (x5 : Int32) (r : Int64) (uf : UH) (h : f_X16_join N b g u a0 x1 x3 x5 = some (r, uf)) : uf.1 = u.1 ∧ uf.2.1 = u.2.1 :=
  zz_X16_join_0 (G := ((fun _ => 0, fun _ _ => 0), fun _ => 0, b, g)) (a0 := a0) N u x1 x3 x5 h
theorem met_X16_join (l : Launch) (N : Nat) (G : uG) (u : UH) (a0 : Nat) (x1 : Int64) (x3 : Int64) (x5 : Int32) (r : Int64) (uf : UH) (h : f_X16_join N (ub G) (ug G) u a0 x1 x3 x5 = some (r, uf)) : Met l yX16_join (ws_ yX16_join cX16_join 6 (some .long)) ({ frames := 0, cells := 0, slots := 0, locals := 0 }) (uPc G u [.ref a0, .long x1, .long x3, .int x5]) (uQl G r uf) 0 0 (uA G) := by
  exact u_met (own := RX16) (by decide +kernel) rfl (Nat.le_of_ble_eq_true rfl) (fun hC hn hsz ls hl hP => w_X16_join_0 hC ⟨Nat.le_refl _, Nat.le_refl _⟩ N u x1 x3 x5 h hP va_S.rf hl)
def f_X17_join_27 (N b : Nat) (g : uEnv) (a0 : Nat) (u : UH) (s0 : Int64) : Option (Int64 × UH) :=
    some (s0, u)
set_option maxHeartbeats 4000000 in
set_option maxRecDepth 100000 in
theorem zz_X17_join_27 {G : uG} {a0 : Nat} {uf : UH} {r : Int64} (N : Nat) (u : UH) (s0 : Int64) (h : f_X17_join_27 N (ub G) (ug G) a0 u s0 = some (r, uf)) : uf.1 = u.1 ∧ uf.2.1 = u.2.1 := by
  unfold f_X17_join_27 at h
  obtain ⟨hr1, hr2⟩ := uret_n h
  subst hr2
  exact ⟨by omega, by omega⟩
set_option maxHeartbeats 4000000 in
set_option maxRecDepth 100000 in
theorem w_X17_join_27 {p : Program} {l : Launch} {e : Env} {R : Room} {s : State} {m : MethodId} {args : Array Value} {below : List Frame} {meth : Method} {c : Code} {G : uG} {a0 : Nat} {uf : UH} {r : Int64} (hC : uC p s m args meth c G RX17 cX17_join 6 (some .long)) (hR : 1 ≤ R.frames ∧ 23 ≤ R.locals) (N : Nat) (u : UH) (s0 : Int64) (h : f_X17_join_27 N (ub G) (ug G) a0 u s0 = some (r, uf)) {H : Heap} {locs : List Loc} (hP : uP G u H) (hS : va_S (uA G) s.heap H locs) {ls : Array Slot} (hl : lv_has ls 6 []) : W p l e R s m args below meth c H locs 0 0 (MQ below (uQl G r uf) args s 0 0 (uA G)) (F0 m 27 ls [.long s0]) := by
  obtain ⟨⟨hx, hb, hml, hown, hts⟩, hKK⟩ := id hC
  unfold f_X17_join_27 at h
  obtain ⟨hr1, hr2⟩ := uret_n h
  subst hr1
  subst hr2
  exact u_lret hC hP hS dX17_join_27
def f_X17_join_16 (N b : Nat) (g : uEnv) (a0 : Nat) (u : UH) : Option (Int64 × UH) :=
    f_X17_join_27 N b g a0 u 9223372036854775807
set_option maxHeartbeats 4000000 in
set_option maxRecDepth 100000 in
theorem zz_X17_join_16 {G : uG} {a0 : Nat} {uf : UH} {r : Int64} (N : Nat) (u : UH) (h : f_X17_join_16 N (ub G) (ug G) a0 u = some (r, uf)) : uf.1 = u.1 ∧ uf.2.1 = u.2.1 := by
  unfold f_X17_join_16 at h
  have hq := zz_X17_join_27 (G := G) (a0 := a0) N u 9223372036854775807 h
  exact ⟨by omega, by omega⟩
set_option maxHeartbeats 4000000 in
set_option maxRecDepth 100000 in
theorem w_X17_join_16 {p : Program} {l : Launch} {e : Env} {R : Room} {s : State} {m : MethodId} {args : Array Value} {below : List Frame} {meth : Method} {c : Code} {G : uG} {a0 : Nat} {uf : UH} {r : Int64} (hC : uC p s m args meth c G RX17 cX17_join 6 (some .long)) (hR : 1 ≤ R.frames ∧ 23 ≤ R.locals) (N : Nat) (u : UH) (h : f_X17_join_16 N (ub G) (ug G) a0 u = some (r, uf)) {H : Heap} {locs : List Loc} (hP : uP G u H) (hS : va_S (uA G) s.heap H locs) {ls : Array Slot} (hl : lv_has ls 6 []) : W p l e R s m args below meth c H locs 0 0 (MQ below (uQl G r uf) args s 0 0 (uA G)) (F0 m 16 ls []) := by
  obtain ⟨⟨hx, hb, hml, hown, hts⟩, hKK⟩ := id hC
  unfold f_X17_join_16 at h
  refine lv_ldc2 hx hb hown (hts _ q1385) dX17_join_16 ?_
  refine lv_goto (tgt := 27) hx hb dX17_join_19 (by decide) ?_
  exact w_X17_join_27 hC hR N u 9223372036854775807 h hP hS (lv_sub hl [] rfl)
def f_X17_join (N b : Nat) (g : uEnv) (u : UH) (a0 : Nat) (x1 : Int64) (x3 : Int64) (x5 : Int32) : Option (Int64 × UH) :=
    if (lg_cmp x1 9223372036854775807) = 0 then
    f_X17_join_16 N b g a0 u
    else
    if (lg_cmp x3 9223372036854775807) = 0 then
    f_X17_join_16 N b g a0 u
    else
    ucall (f_J9_max_2 N b g u x1 x3) fun r5 u3 =>
    f_X17_join_27 N b g a0 u3 r5
set_option maxHeartbeats 4000000 in
set_option maxRecDepth 100000 in
theorem zz_X17_join_0 {G : uG} {a0 : Nat} {uf : UH} {r : Int64} (N : Nat) (u : UH) (x1 : Int64) (x3 : Int64) (x5 : Int32) (h : f_X17_join N (ub G) (ug G) u a0 x1 x3 x5 = some (r, uf)) : uf.1 = u.1 ∧ uf.2.1 = u.2.1 := by
  unfold f_X17_join at h
  by_cases c1 : (lg_cmp x1 9223372036854775807) = 0
  · have h := mif_t c1 h
    have hq := zz_X17_join_16 (G := G) (a0 := a0) N u h
    exact ⟨by omega, by omega⟩
  · have h := mif_f c1 h
    by_cases c2 : (lg_cmp x3 9223372036854775807) = 0
    · have h := mif_t c2 h
      have hq := zz_X17_join_16 (G := G) (a0 := a0) N u h
      exact ⟨by omega, by omega⟩
    · have h := mif_f c2 h
      obtain ⟨r5, u3, c4, h⟩ := ucall_n h
      have zu3 := zz_J9_max_2 N (ub G) (ug G) u x1 x3 r5 u3 c4
      have hq := zz_X17_join_27 (G := G) (a0 := a0) N u3 r5 h
      exact ⟨by omega, by omega⟩
set_option maxHeartbeats 4000000 in
set_option maxRecDepth 100000 in
theorem w_X17_join_0 {p : Program} {l : Launch} {e : Env} {R : Room} {s : State} {m : MethodId} {args : Array Value} {below : List Frame} {meth : Method} {c : Code} {G : uG} {a0 : Nat} {uf : UH} {r : Int64} (hC : uC p s m args meth c G RX17 cX17_join 6 (some .long)) (hR : 1 ≤ R.frames ∧ 23 ≤ R.locals) (N : Nat) (u : UH) (x1 : Int64) (x3 : Int64) (x5 : Int32) (h : f_X17_join N (ub G) (ug G) u a0 x1 x3 x5 = some (r, uf)) {H : Heap} {locs : List Loc} (hP : uP G u H) (hS : va_S (uA G) s.heap H locs) {ls : Array Slot} (hl : lv_has ls 6 [(0, va_rf (some a0)), (1, .long x1), (3, .long x3), (5, .int x5)]) : W p l e R s m args below meth c H locs 0 0 (MQ below (uQl G r uf) args s 0 0 (uA G)) (F0 m 0 ls []) := by
  obtain ⟨⟨hx, hb, hml, hown, hts⟩, hKK⟩ := id hC
  unfold f_X17_join at h
  refine lv_lload_n hx hb dX17_join_0 rfl (lv_at hl 1 rfl) ?_
  refine lv_ldc2 hx hb hown (hts _ q1385) dX17_join_1 ?_
  refine W.lcmp hx hb dX17_join_4 ?_
  refine lv_if_eq (tgt := 16) hx hb dX17_join_5 (by decide) (fun c1 => ?_) (fun c1 => ?_)
  · have h := mif_t c1 h
    exact w_X17_join_16 hC hR N u h hP hS (lv_sub hl [] rfl)
  · have h := mif_f c1 h
    refine lv_lload_n hx hb dX17_join_8 rfl (lv_at hl 2 rfl) ?_
    refine lv_ldc2 hx hb hown (hts _ q1385) dX17_join_9 ?_
    refine W.lcmp hx hb dX17_join_12 ?_
    refine lv_if_ne (tgt := 22) hx hb dX17_join_13 (by decide) (fun c2 => ?_) (fun c2 => ?_)
    · have h := mif_f c2 h
      refine lv_lload_n hx hb dX17_join_22 rfl (lv_at hl 1 rfl) ?_
      refine lv_lload_n hx hb dX17_join_23 rfl (lv_at hl 2 rfl) ?_
      obtain ⟨r5, u3, c4, h⟩ := ucall_n h
      have zu3 := zz_J9_max_2 N (ub G) (ug G) u x1 x3 r5 u3 c4
      refine u_calll (va_runS (As := [.long x1, .long x3]) (rest := []) hC.1 (met_J9_max_2 l N G u x1 x3 r5 u3 c4) (va_cwS 2 hts (lw_S q1386 q1387 q113 q1388) rfl rfl rfl (by decide +kernel) ⟨Nat.le_trans (Nat.le_of_ble_eq_true rfl) hR.1, Nat.le_trans (Nat.le_of_ble_eq_true rfl) hR.2⟩) ⟨uPc_blind, fun U hU hW => u_pre hC hP hS hU hW⟩ rfl rfl hl.1 rfl (lv_room (Nat.le_of_ble_eq_true rfl)) dX17_join_24 ⟨Nat.zero_le _, Nat.zero_le _⟩) hS (fun H locs hP hS => ?_)
      exact w_X17_join_27 hC hR N u3 r5 h hP hS (lv_sub hl [] rfl)
    · have h := mif_t c2 h
      exact w_X17_join_16 hC hR N u h hP hS (lv_sub hl [] rfl)
theorem zz_X17_join (N b : Nat) (g : uEnv) (u : UH) (a0 : Nat) (x1 : Int64) (x3 : Int64) (x5 : Int32) (r : Int64) (uf : UH) (h : f_X17_join N b g u a0 x1 x3 x5 = some (r, uf)) : uf.1 = u.1 ∧ uf.2.1 = u.2.1 :=
  zz_X17_join_0 (G := ((fun _ => 0, fun _ _ => 0), fun _ => 0, b, g)) (a0 := a0) N u x1 x3 x5 h
theorem met_X17_join (l : Launch) (N : Nat) (G : uG) (u : UH) (a0 : Nat) (x1 : Int64) (x3 : Int64) (x5 : Int32) (r : Int64) (uf : UH) (h : f_X17_join N (ub G) (ug G) u a0 x1 x3 x5 = some (r, uf)) : Met l yX17_join (ws_ yX17_join cX17_join 6 (some .long)) ({ frames := 1, cells := 0, slots := 0, locals := 23 }) (uPc G u [.ref a0, .long x1, .long x3, .int x5]) (uQl G r uf) 0 0 (uA G) := by
  exact u_met (own := RX17) (by decide +kernel) rfl (Nat.le_of_ble_eq_true rfl) (fun hC hn hsz ls hl hP => w_X17_join_0 hC ⟨Nat.le_refl _, Nat.le_refl _⟩ N u x1 x3 x5 h hP va_S.rf hl)
def f_X2_scale_53 (N b : Nat) (g : uEnv) (a0 : Nat) (k5 : UH → Int32 → Int64 → Int32 → Option (Int64 × UH)) (u : UH) (x1 : Int32) (x4 : Int32) (s0 : Int64) (s1 : Int64) : Option (Int64 × UH) :=
    mlet (s1 * s0) fun y1 =>
    mlet (x4 + 1) fun y2 =>
    k5 u x1 y1 y2
set_option maxHeartbeats 4000000 in
set_option maxRecDepth 100000 in
theorem zz_X2_scale_53 {G : uG} {a0 : Nat} {uf : UH} {r : Int64} (N : Nat) (k5 : UH → Int32 → Int64 → Int32 → Option (Int64 × UH)) (hk5 : ∀ (u : UH) (x1 : Int32) (x2 : Int64) (x4 : Int32), k5 u x1 x2 x4 = some (r, uf) → uf.1 = u.1 ∧ uf.2.1 = u.2.1) (u : UH) (x1 : Int32) (x4 : Int32) (s0 : Int64) (s1 : Int64) (h : f_X2_scale_53 N (ub G) (ug G) a0 k5 u x1 x4 s0 s1 = some (r, uf)) : uf.1 = u.1 ∧ uf.2.1 = u.2.1 := by
  unfold f_X2_scale_53 at h
  obtain ⟨y1, ey1⟩ : ∃ z, z = s1 * s0 := ⟨_, rfl⟩
  have h := mlet_at ey1 h
  obtain ⟨y2, ey2⟩ : ∃ z : Int32, z = x4 + 1 := ⟨_, rfl⟩
  have h := mlet_at ey2 h
  have hq := hk5 u x1 y1 y2 h
  exact ⟨by omega, by omega⟩
set_option maxHeartbeats 4000000 in
set_option maxRecDepth 100000 in
theorem w_X2_scale_53 {p : Program} {l : Launch} {e : Env} {R : Room} {s : State} {m : MethodId} {args : Array Value} {below : List Frame} {meth : Method} {c : Code} {G : uG} {a0 : Nat} {uf : UH} {r : Int64} (hC : uC p s m args meth c G RX2 cX2_scale 5 (some .long)) (hR : 3 ≤ R.frames ∧ 64 ≤ R.locals) (N : Nat) (k5 : UH → Int32 → Int64 → Int32 → Option (Int64 × UH)) (hk5 : ∀ (u : UH) (x1 : Int32) (x2 : Int64) (x4 : Int32), k5 u x1 x2 x4 = some (r, uf) → ∀ (H : Heap) (locs : List Loc), uP G u H → va_S (uA G) s.heap H locs → ∀ ls : Array Slot, lv_has ls 5 [(0, va_rf (some a0)), (1, .int x1), (2, .long x2), (4, .int x4)] → W p l e R s m args below meth c H locs 0 0 (MQ below (uQl G r uf) args s 0 0 (uA G)) (F0 m 5 ls [])) (u : UH) (x1 : Int32) (x4 : Int32) (s0 : Int64) (s1 : Int64) (h : f_X2_scale_53 N (ub G) (ug G) a0 k5 u x1 x4 s0 s1 = some (r, uf)) {H : Heap} {locs : List Loc} (hP : uP G u H) (hS : va_S (uA G) s.heap H locs) {ls : Array Slot} (hl : lv_has ls 5 [(0, va_rf (some a0)), (1, .int x1), (4, .int x4)]) : W p l e R s m args below meth c H locs 0 0 (MQ below (uQl G r uf) args s 0 0 (uA G)) (F0 m 53 ls [.long s0, .long s1]) := by
  obtain ⟨⟨hx, hb, hml, hown, hts⟩, hKK⟩ := id hC
  unfold f_X2_scale_53 at h
  refine lv_lmul hx hb dX2_scale_53 ?_
  refine lv_topl (fun y1 ey1 => ?_)
  have h := mlet_at ey1 h
  refine lv_lstore_n (lv' := [(2, .long y1), (0, va_rf (some a0)), (1, .int x1), (4, .int x4)]) hx hb dX2_scale_54 rfl hl (by decide) rfl (fun ls hl => ?_)
  obtain ⟨y2, ey2⟩ : ∃ z : Int32, z = x4 + 1 := ⟨_, rfl⟩
  have h := mlet_at ey2 h
  refine lv_iinc (v := y2) (lv' := [(4, .int y2), (2, .long y1), (0, va_rf (some a0)), (1, .int x1)]) hx hb dX2_scale_55 hl (k := 3) rfl (by rw [ey2]; rfl) (by decide) rfl (fun ls hl => ?_)
  refine lv_goto (tgt := 5) hx hb dX2_scale_58 (by decide) ?_
  exact hk5 u x1 y1 y2 h _ _ hP hS _ (lv_sub hl [2, 3, 1, 0] rfl)
def f_X2_scale_5 (N b : Nat) (g : uEnv) (a0 : Nat) : Nat → UH → Int32 → Int64 → Int32 → Option (Int64 × UH)
  | 0, _, _, _, _ => none
  | n + 1, u, x1, x2, x4 =>
    (uGR u a0 1 0).bind fun o1 =>
    (o1).bind fun a2 =>
    (uGR u a2 12 6).bind fun o3 =>
    (o3).bind fun a4 =>
    if uIs u a4 18 = true then
    ucall (f_J2_size N b g u a4) fun r8 u6 =>
    if r8 ≤ x4 then
    some (x2, u6)
    else
    ucall (f_X2_sign N b g u6 x1 x4) fun r12 u10 =>
    if r12 = 0 then
    (uGR u10 a0 1 0).bind fun o14 =>
    (o14).bind fun a15 =>
    (uGR u10 a15 12 6).bind fun o16 =>
    (o16).bind fun a17 =>
    if uIs u10 a17 18 = true then
    ucall (f_J2_get N b g u10 a17 x4) fun o21 u19 =>
    (o21).bind fun a22 =>
    if uIs u19 a22 13 = true then
    if uIs u19 a22 13 = true then
    ucall (f_X15_all N b g u19 a22) fun r27 u25 =>
    f_X2_scale_53 N b g a0 (f_X2_scale_5 N b g a0 n) u25 x1 x4 (r27.toInt64) x2
    else none
    else none
    else none
    else
    f_X2_scale_53 N b g a0 (f_X2_scale_5 N b g a0 n) u10 x1 x4 1 x2
    else none
set_option maxHeartbeats 4000000 in
set_option maxRecDepth 100000 in
theorem zz_X2_scale_5 {G : uG} {a0 : Nat} {uf : UH} {r : Int64} (N : Nat) : ∀ (n : Nat) (u : UH) (x1 : Int32) (x2 : Int64) (x4 : Int32), f_X2_scale_5 N (ub G) (ug G) a0 n u x1 x2 x4 = some (r, uf) → uf.1 = u.1 ∧ uf.2.1 = u.2.1 := by
  intro n
  induction n with
  | zero =>
    intro u x1 x2 x4 h
    cases h
  | succ n ih =>
    intro u x1 x2 x4 h
    unfold f_X2_scale_5 at h
    obtain ⟨o1, ho1, h⟩ := mbind_n h
    obtain ⟨a2, ha2, hha2⟩ := mbind_n h
    subst ha2
    have h := hha2
    obtain ⟨o3, ho3, h⟩ := mbind_n h
    obtain ⟨a4, ha4, hha4⟩ := mbind_n h
    subst ha4
    have h := hha4
    obtain ⟨c5, h⟩ := mif_n h
    obtain ⟨r8, u6, c7, h⟩ := ucall_n h
    have zu6 := zz_J2_size N (ub G) (ug G) u a4 r8 u6 c7
    by_cases c9 : r8 ≤ x4
    · have h := mif_t c9 h
      obtain ⟨hr1, hr2⟩ := uret_n h
      subst hr2
      exact ⟨by omega, by omega⟩
    · have h := mif_f c9 h
      obtain ⟨r12, u10, c11, h⟩ := ucall_n h
      have zu10 := zz_X2_sign N (ub G) (ug G) u6 x1 x4 r12 u10 c11
      by_cases c13 : r12 = 0
      · have h := mif_t c13 h
        obtain ⟨o14, ho14, h⟩ := mbind_n h
        obtain ⟨a15, ha15, hha15⟩ := mbind_n h
        subst ha15
        have h := hha15
        obtain ⟨o16, ho16, h⟩ := mbind_n h
        obtain ⟨a17, ha17, hha17⟩ := mbind_n h
        subst ha17
        have h := hha17
        obtain ⟨c18, h⟩ := mif_n h
        obtain ⟨o21, u19, c20, h⟩ := ucall_n h
        have zu19 := zz_J2_get N (ub G) (ug G) u10 a17 x4 o21 u19 c20
        obtain ⟨a22, ha22, hha22⟩ := mbind_n h
        subst ha22
        have h := hha22
        obtain ⟨c23, h⟩ := mif_n h
        obtain ⟨c24, h⟩ := mif_n h
        obtain ⟨r27, u25, c26, h⟩ := ucall_n h
        have zu25 := zz_X15_all N (ub G) (ug G) u19 a22 r27 u25 c26
        have hq := zz_X2_scale_53 (G := G) (a0 := a0) N (f_X2_scale_5 N (ub G) (ug G) a0 n) ih u25 x1 x4 (r27.toInt64) x2 h
        exact ⟨by omega, by omega⟩
      · have h := mif_f c13 h
        have hq := zz_X2_scale_53 (G := G) (a0 := a0) N (f_X2_scale_5 N (ub G) (ug G) a0 n) ih u10 x1 x4 1 x2 h
        exact ⟨by omega, by omega⟩
set_option maxHeartbeats 4000000 in
set_option maxRecDepth 100000 in
theorem w_X2_scale_5 {p : Program} {l : Launch} {e : Env} {R : Room} {s : State} {m : MethodId} {args : Array Value} {below : List Frame} {meth : Method} {c : Code} {G : uG} {a0 : Nat} {uf : UH} {r : Int64} (hC : uC p s m args meth c G RX2 cX2_scale 5 (some .long)) (hR : 3 ≤ R.frames ∧ 64 ≤ R.locals) (N : Nat) : ∀ (n : Nat) (u : UH) (x1 : Int32) (x2 : Int64) (x4 : Int32), f_X2_scale_5 N (ub G) (ug G) a0 n u x1 x2 x4 = some (r, uf) → ∀ (H : Heap) (locs : List Loc), uP G u H → va_S (uA G) s.heap H locs → ∀ ls : Array Slot, lv_has ls 5 [(0, va_rf (some a0)), (1, .int x1), (2, .long x2), (4, .int x4)] → W p l e R s m args below meth c H locs 0 0 (MQ below (uQl G r uf) args s 0 0 (uA G)) (F0 m 5 ls []) := by
  obtain ⟨⟨hx, hb, hml, hown, hts⟩, hKK⟩ := id hC
  intro n
  induction n with
  | zero =>
    intro u x1 x2 x4 h
    cases h
  | succ n ih =>
    intro u x1 x2 x4 h H locs hP hS ls hl
    unfold f_X2_scale_5 at h
    refine lv_iload hx hb dX2_scale_5 (lv_at hl 3 rfl) ?_
    refine u_aload_n (r := some a0) hx hb dX2_scale_7 rfl (lv_at hl 0 rfl) ?_
    obtain ⟨o1, ho1, h⟩ := mbind_n h
    refine u_get hC hP (uGR_n ho1) rfl in_X2 (by decide) q157 (fun _ h => h) dX2_scale_8 ?_
    obtain ⟨a2, ha2, hha2⟩ := mbind_n h
    subst ha2
    have h := hha2
    obtain ⟨o3, ho3, h⟩ := mbind_n h
    refine u_getN hC hP (uGR_n ho3) rfl in_X14 (by decide) q1150 (fun _ h => h) dX2_scale_11 ?_
    obtain ⟨a4, ha4, hha4⟩ := mbind_n h
    subst ha4
    have h := hha4
    obtain ⟨c5, h⟩ := mif_n h
    obtain ⟨r8, u6, c7, h⟩ := ucall_n h
    have zu6 := zz_J2_size N (ub G) (ug G) u a4 r8 u6 c7
    refine u_calli (va_runV (As := []) (rest := [.int x4]) hC.1 (met_J2_size l N G u a4 r8 u6 c7) (cwV 0 hts (lw_V q1319 q894 q895 q102 q896) rfl rfl rfl (by decide +kernel) ⟨Nat.le_trans (Nat.le_of_ble_eq_true rfl) hR.1, Nat.le_trans (Nat.le_of_ble_eq_true rfl) hR.2⟩) ⟨uPc_blind, u_rcv hC hP c5 rfl, fun U hU hW => u_pre hC hP hS hU hW⟩ rfl rfl hl.1 rfl (lv_room (Nat.le_of_ble_eq_true rfl)) dX2_scale_14 ⟨Nat.zero_le _, Nat.zero_le _⟩) hS (fun H locs hP hS => ?_)
    refine lv_icmp_ge (tgt := 61) hx hb dX2_scale_17 (by decide) (fun c9 => ?_) (fun c9 => ?_)
    · have h := mif_t c9 h
      refine lv_lload_n hx hb dX2_scale_61 rfl (lv_at hl 2 rfl) ?_
      obtain ⟨hr1, hr2⟩ := uret_n h
      subst hr1
      subst hr2
      exact u_lret hC hP hS dX2_scale_62
    · have h := mif_f c9 h
      refine lv_lload_n hx hb dX2_scale_20 rfl (lv_at hl 2 rfl) ?_
      refine lv_iload_n hx hb dX2_scale_21 rfl (lv_at hl 1 rfl) ?_
      refine lv_iload hx hb dX2_scale_22 (lv_at hl 3 rfl) ?_
      obtain ⟨r12, u10, c11, h⟩ := ucall_n h
      have zu10 := zz_X2_sign N (ub G) (ug G) u6 x1 x4 r12 u10 c11
      refine u_calli (va_runS (As := [.int x1, .int x4]) (rest := [.long x2]) hC.1 (met_X2_sign l N G u6 x1 x4 r12 u10 c11) (va_cwS 2 hts (lw_S q1356 q1357 q99 q1358) rfl rfl rfl (by decide +kernel) ⟨Nat.le_trans (Nat.le_of_ble_eq_true rfl) hR.1, Nat.le_trans (Nat.le_of_ble_eq_true rfl) hR.2⟩) ⟨uPc_blind, fun U hU hW => u_pre hC hP hS hU hW⟩ rfl rfl hl.1 rfl (lv_room (Nat.le_of_ble_eq_true rfl)) dX2_scale_24 ⟨Nat.zero_le _, Nat.zero_le _⟩) hS (fun H locs hP hS => ?_)
      refine lv_if_ne (tgt := 52) hx hb dX2_scale_27 (by decide) (fun c13 => ?_) (fun c13 => ?_)
      · have h := mif_f c13 h
        refine lv_lconst (v := 1) hx hb dX2_scale_52 (by decide) ?_
        exact w_X2_scale_53 hC hR N (f_X2_scale_5 N (ub G) (ug G) a0 n) ih u10 x1 x4 1 x2 h hP hS (lv_sub hl [0, 1, 3] rfl)
      · have h := mif_t c13 h
        refine u_aload_n (r := some a0) hx hb dX2_scale_30 rfl (lv_at hl 0 rfl) ?_
        obtain ⟨o14, ho14, h⟩ := mbind_n h
        refine u_get hC hP (uGR_n ho14) rfl in_X2 (by decide) q157 (fun _ h => h) dX2_scale_31 ?_
        obtain ⟨a15, ha15, hha15⟩ := mbind_n h
        subst ha15
        have h := hha15
        obtain ⟨o16, ho16, h⟩ := mbind_n h
        refine u_getN hC hP (uGR_n ho16) rfl in_X14 (by decide) q1150 (fun _ h => h) dX2_scale_34 ?_
        refine lv_iload hx hb dX2_scale_37 (lv_at hl 3 rfl) ?_
        obtain ⟨a17, ha17, hha17⟩ := mbind_n h
        subst ha17
        have h := hha17
        obtain ⟨c18, h⟩ := mif_n h
        obtain ⟨o21, u19, c20, h⟩ := ucall_n h
        have zu19 := zz_J2_get N (ub G) (ug G) u10 a17 x4 o21 u19 c20
        refine u_callr (va_runV (As := [.int x4]) (rest := [.long x2]) hC.1 (met_J2_get l N G u10 a17 x4 o21 u19 c20) (cwV 1 hts (lw_V q1334 q898 q899 q102 q900) rfl rfl rfl (by decide +kernel) ⟨Nat.le_trans (Nat.le_of_ble_eq_true rfl) hR.1, Nat.le_trans (Nat.le_of_ble_eq_true rfl) hR.2⟩) ⟨uPc_blind, u_rcv hC hP c18 rfl, fun U hU hW => u_pre hC hP hS hU hW⟩ rfl rfl hl.1 rfl (lv_room (Nat.le_of_ble_eq_true rfl)) dX2_scale_39 ⟨Nat.zero_le _, Nat.zero_le _⟩) hS (fun H locs hP hS => ?_)
        obtain ⟨a22, ha22, hha22⟩ := mbind_n h
        subst ha22
        have h := hha22
        obtain ⟨c23, h⟩ := mif_n h
        refine u_castS hC hP c23 rfl q1335 dX2_scale_42 ?_
        obtain ⟨c24, h⟩ := mif_n h
        obtain ⟨r27, u25, c26, h⟩ := ucall_n h
        have zu25 := zz_X15_all N (ub G) (ug G) u19 a22 r27 u25 c26
        refine u_calli (va_runV (As := []) (rest := [.long x2]) hC.1 (met_X15_all l N G u19 a22 r27 u25 c26) (cwV 0 hts (lw_V q1394 q1395 q1396 q132 q1397) rfl rfl rfl (by decide +kernel) ⟨Nat.le_trans (Nat.le_of_ble_eq_true rfl) hR.1, Nat.le_trans (Nat.le_of_ble_eq_true rfl) hR.2⟩) ⟨uPc_blind, u_rcv hC hP c24 rfl, fun U hU hW => u_pre hC hP hS hU hW⟩ rfl rfl hl.1 rfl (lv_room (Nat.le_of_ble_eq_true rfl)) dX2_scale_45 ⟨Nat.zero_le _, Nat.zero_le _⟩) hS (fun H locs hP hS => ?_)
        refine lv_i2l (v := r27.toInt64) hx hb dX2_scale_48 rfl ?_
        refine lv_goto (tgt := 53) hx hb dX2_scale_49 (by decide) ?_
        exact w_X2_scale_53 hC hR N (f_X2_scale_5 N (ub G) (ug G) a0 n) ih u25 x1 x4 (r27.toInt64) x2 h hP hS (lv_sub hl [0, 1, 3] rfl)
def f_X2_scale (N b : Nat) (g : uEnv) (u : UH) (a0 : Nat) (x1 : Int32) : Option (Int64 × UH) :=
    f_X2_scale_5 N b g a0 N u x1 1 0
set_option maxHeartbeats 4000000 in
set_option maxRecDepth 100000 in
theorem zz_X2_scale_0 {G : uG} {a0 : Nat} {uf : UH} {r : Int64} (N : Nat) (u : UH) (x1 : Int32) (h : f_X2_scale N (ub G) (ug G) u a0 x1 = some (r, uf)) : uf.1 = u.1 ∧ uf.2.1 = u.2.1 := by
  unfold f_X2_scale at h
  have hq := zz_X2_scale_5 (G := G) (a0 := a0) N N u x1 1 0 h
  exact ⟨by omega, by omega⟩
set_option maxHeartbeats 4000000 in
set_option maxRecDepth 100000 in
theorem w_X2_scale_0 {p : Program} {l : Launch} {e : Env} {R : Room} {s : State} {m : MethodId} {args : Array Value} {below : List Frame} {meth : Method} {c : Code} {G : uG} {a0 : Nat} {uf : UH} {r : Int64} (hC : uC p s m args meth c G RX2 cX2_scale 5 (some .long)) (hR : 3 ≤ R.frames ∧ 64 ≤ R.locals) (N : Nat) (u : UH) (x1 : Int32) (h : f_X2_scale N (ub G) (ug G) u a0 x1 = some (r, uf)) {H : Heap} {locs : List Loc} (hP : uP G u H) (hS : va_S (uA G) s.heap H locs) {ls : Array Slot} (hl : lv_has ls 5 [(0, va_rf (some a0)), (1, .int x1)]) : W p l e R s m args below meth c H locs 0 0 (MQ below (uQl G r uf) args s 0 0 (uA G)) (F0 m 0 ls []) := by
  obtain ⟨⟨hx, hb, hml, hown, hts⟩, hKK⟩ := id hC
  unfold f_X2_scale at h
  refine lv_lconst (v := 1) hx hb dX2_scale_0 (by decide) ?_
  refine lv_lstore_n (lv' := [(2, .long 1), (0, va_rf (some a0)), (1, .int x1)]) hx hb dX2_scale_1 rfl hl (by decide) rfl (fun ls hl => ?_)
  refine lv_iconst (v := 0) hx hb dX2_scale_2 (by decide) ?_
  refine lv_istore (lv' := [(4, .int 0), (2, .long 1), (0, va_rf (some a0)), (1, .int x1)]) hx hb dX2_scale_3 hl (by decide) rfl (fun ls hl => ?_)
  exact w_X2_scale_5 hC hR N N u x1 1 0 h _ _ hP hS _ (lv_sub hl [2, 3, 1, 0] rfl)
theorem zz_X2_scale (N b : Nat) (g : uEnv) (u : UH) (a0 : Nat) (x1 : Int32) (r : Int64) (uf : UH) (h : f_X2_scale N b g u a0 x1 = some (r, uf)) : uf.1 = u.1 ∧ uf.2.1 = u.2.1 :=
  zz_X2_scale_0 (G := ((fun _ => 0, fun _ _ => 0), fun _ => 0, b, g)) (a0 := a0) N u x1 h
theorem met_X2_scale (l : Launch) (N : Nat) (G : uG) (u : UH) (a0 : Nat) (x1 : Int32) (r : Int64) (uf : UH) (h : f_X2_scale N (ub G) (ug G) u a0 x1 = some (r, uf)) : Met l yX2_scale (ws_ yX2_scale cX2_scale 5 (some .long)) ({ frames := 3, cells := 0, slots := 0, locals := 64 }) (uPc G u [.ref a0, .int x1]) (uQl G r uf) 0 0 (uA G) := by
  exact u_met (own := RX2) (by decide +kernel) rfl (Nat.le_of_ble_eq_true rfl) (fun hC hn hsz ls hl hP => w_X2_scale_0 hC ⟨Nat.le_refl _, Nat.le_refl _⟩ N u x1 h hP va_S.rf hl)
def f_X2_groundOf_53 (N b : Nat) (g : uEnv) (a0 : Nat) (u : UH) (s0 : Int32) : Option (Int32 × UH) :=
    some (s0, u)
set_option maxHeartbeats 4000000 in
set_option maxRecDepth 100000 in
theorem zz_X2_groundOf_53 {G : uG} {a0 : Nat} {uf : UH} {r : Int32} (N : Nat) (u : UH) (s0 : Int32) (h : f_X2_groundOf_53 N (ub G) (ug G) a0 u s0 = some (r, uf)) : uf.1 = u.1 ∧ uf.2.1 = u.2.1 := by
  unfold f_X2_groundOf_53 at h
  obtain ⟨hr1, hr2⟩ := uret_n h
  subst hr2
  exact ⟨by omega, by omega⟩
set_option maxHeartbeats 4000000 in
set_option maxRecDepth 100000 in
theorem w_X2_groundOf_53 {p : Program} {l : Launch} {e : Env} {R : Room} {s : State} {m : MethodId} {args : Array Value} {below : List Frame} {meth : Method} {c : Code} {G : uG} {a0 : Nat} {uf : UH} {r : Int32} (hC : uC p s m args meth c G RX2 cX2_groundOf 4 (some .int)) (hR : 1 ≤ R.frames ∧ 23 ≤ R.locals) (N : Nat) (u : UH) (s0 : Int32) (h : f_X2_groundOf_53 N (ub G) (ug G) a0 u s0 = some (r, uf)) {H : Heap} {locs : List Loc} (hP : uP G u H) (hS : va_S (uA G) s.heap H locs) {ls : Array Slot} (hl : lv_has ls 4 []) : W p l e R s m args below meth c H locs 0 0 (MQ below (uQi G r uf) args s 0 0 (uA G)) (F0 m 53 ls [.int s0]) := by
  obtain ⟨⟨hx, hb, hml, hown, hts⟩, hKK⟩ := id hC
  unfold f_X2_groundOf_53 at h
  obtain ⟨hr1, hr2⟩ := uret_n h
  subst hr1
  subst hr2
  exact u_iret hC hP hS dX2_groundOf_53
def f_X2_groundOf (N b : Nat) (g : uEnv) (u : UH) (a0 : Nat) (x1 : Int32) (x2 : Int32) : Option (Int32 × UH) :=
    (uGR u a0 1 0).bind fun o1 =>
    (o1).bind fun a2 =>
    (uGR u a2 12 5).bind fun o3 =>
    (o3).bind fun a4 =>
    (uLdR u a4 6 x1).bind fun o5 =>
    ucase o5 (
    (uGR u a0 1 0).bind fun o7 =>
    (o7).bind fun a8 =>
    (uGR u a8 12 4).bind fun o9 =>
    (o9).bind fun a10 =>
    (uLdI u a10 0 x1).bind fun y11 =>
    some (y11, u)) fun a6 =>
    (uGI u a6 13 0).bind fun y12 =>
    ucall (f_X2_sign N b g u x2 y12) fun r15 u13 =>
    if r15 = 0 then
    f_X2_groundOf_53 N b g a0 u13 (-1)
    else
    (uGI u13 a6 13 0).bind fun y17 =>
    ucall (f_X2_sign N b g u13 x2 y17) fun r20 u18 =>
    if uIs u18 a6 13 = true then
    ucall (f_X15_kind N b g u18 a6 (r20 - 1)) fun r24 u22 =>
    f_X2_groundOf_53 N b g a0 u22 r24
    else none
set_option maxHeartbeats 4000000 in
set_option maxRecDepth 100000 in
theorem zz_X2_groundOf_0 {G : uG} {a0 : Nat} {uf : UH} {r : Int32} (N : Nat) (u : UH) (x1 : Int32) (x2 : Int32) (h : f_X2_groundOf N (ub G) (ug G) u a0 x1 x2 = some (r, uf)) : uf.1 = u.1 ∧ uf.2.1 = u.2.1 := by
  unfold f_X2_groundOf at h
  obtain ⟨o1, ho1, h⟩ := mbind_n h
  obtain ⟨a2, ha2, hha2⟩ := mbind_n h
  subst ha2
  have h := hha2
  obtain ⟨o3, ho3, h⟩ := mbind_n h
  obtain ⟨a4, ha4, hha4⟩ := mbind_n h
  subst ha4
  have h := hha4
  obtain ⟨o5, ho5, h⟩ := mbind_n h
  rcases o5 with _ | a6
  · have h := ucase_n h
    obtain ⟨o7, ho7, h⟩ := mbind_n h
    obtain ⟨a8, ha8, hha8⟩ := mbind_n h
    subst ha8
    have h := hha8
    obtain ⟨o9, ho9, h⟩ := mbind_n h
    obtain ⟨a10, ha10, hha10⟩ := mbind_n h
    subst ha10
    have h := hha10
    obtain ⟨y11, hy11, h⟩ := mbind_n h
    obtain ⟨hr1, hr2⟩ := uret_n h
    subst hr2
    exact ⟨by omega, by omega⟩
  · have h := ucase_s h
    obtain ⟨y12, hy12, h⟩ := mbind_n h
    obtain ⟨r15, u13, c14, h⟩ := ucall_n h
    have zu13 := zz_X2_sign N (ub G) (ug G) u x2 y12 r15 u13 c14
    by_cases c16 : r15 = 0
    · have h := mif_t c16 h
      have hq := zz_X2_groundOf_53 (G := G) (a0 := a0) N u13 (-1) h
      exact ⟨by omega, by omega⟩
    · have h := mif_f c16 h
      obtain ⟨y17, hy17, h⟩ := mbind_n h
      obtain ⟨r20, u18, c19, h⟩ := ucall_n h
      have zu18 := zz_X2_sign N (ub G) (ug G) u13 x2 y17 r20 u18 c19
      obtain ⟨c21, h⟩ := mif_n h
      obtain ⟨r24, u22, c23, h⟩ := ucall_n h
      have zu22 := zz_X15_kind N (ub G) (ug G) u18 a6 (r20 - 1) r24 u22 c23
      have hq := zz_X2_groundOf_53 (G := G) (a0 := a0) N u22 r24 h
      exact ⟨by omega, by omega⟩
set_option maxHeartbeats 4000000 in
set_option maxRecDepth 100000 in
theorem w_X2_groundOf_0 {p : Program} {l : Launch} {e : Env} {R : Room} {s : State} {m : MethodId} {args : Array Value} {below : List Frame} {meth : Method} {c : Code} {G : uG} {a0 : Nat} {uf : UH} {r : Int32} (hC : uC p s m args meth c G RX2 cX2_groundOf 4 (some .int)) (hR : 1 ≤ R.frames ∧ 23 ≤ R.locals) (N : Nat) (u : UH) (x1 : Int32) (x2 : Int32) (h : f_X2_groundOf N (ub G) (ug G) u a0 x1 x2 = some (r, uf)) {H : Heap} {locs : List Loc} (hP : uP G u H) (hS : va_S (uA G) s.heap H locs) {ls : Array Slot} (hl : lv_has ls 4 [(0, va_rf (some a0)), (1, .int x1), (2, .int x2)]) : W p l e R s m args below meth c H locs 0 0 (MQ below (uQi G r uf) args s 0 0 (uA G)) (F0 m 0 ls []) := by
  obtain ⟨⟨hx, hb, hml, hown, hts⟩, hKK⟩ := id hC
  unfold f_X2_groundOf at h
  refine u_aload_n (r := some a0) hx hb dX2_groundOf_0 rfl (lv_at hl 0 rfl) ?_
  obtain ⟨o1, ho1, h⟩ := mbind_n h
  refine u_get hC hP (uGR_n ho1) rfl in_X2 (by decide) q157 (fun _ h => h) dX2_groundOf_1 ?_
  obtain ⟨a2, ha2, hha2⟩ := mbind_n h
  subst ha2
  have h := hha2
  obtain ⟨o3, ho3, h⟩ := mbind_n h
  refine u_getN hC hP (uGR_n ho3) rfl in_X14 (by decide) q1146 (fun _ h => h) dX2_groundOf_4 ?_
  refine lv_iload_n hx hb dX2_groundOf_7 rfl (lv_at hl 1 rfl) ?_
  obtain ⟨a4, ha4, hha4⟩ := mbind_n h
  subst ha4
  have h := hha4
  obtain ⟨o5, ho5, h⟩ := mbind_n h
  refine u_aald hC hP ho5 rfl dX2_groundOf_8 ?_
  refine u_astore_n (r := o5) (lv' := [(3, va_rf o5), (0, va_rf (some a0)), (1, .int x1), (2, .int x2)]) hx hb dX2_groundOf_9 rfl hl (by decide) rfl (fun ls hl => ?_)
  refine u_aload_n (r := o5) hx hb dX2_groundOf_10 rfl (lv_at hl 0 rfl) ?_
  rcases o5 with _ | a6
  · have h := ucase_n h
    refine lv_ifnonnullN hx hb dX2_groundOf_11 ?_
    refine u_aload_n (r := some a0) hx hb dX2_groundOf_14 rfl (lv_at hl 1 rfl) ?_
    obtain ⟨o7, ho7, h⟩ := mbind_n h
    refine u_get hC hP (uGR_n ho7) rfl in_X2 (by decide) q157 (fun _ h => h) dX2_groundOf_15 ?_
    obtain ⟨a8, ha8, hha8⟩ := mbind_n h
    subst ha8
    have h := hha8
    obtain ⟨o9, ho9, h⟩ := mbind_n h
    refine u_getN hC hP (uGR_n ho9) rfl in_X14 (by decide) q1142 (fun _ h => h) dX2_groundOf_18 ?_
    refine lv_iload_n hx hb dX2_groundOf_21 rfl (lv_at hl 2 rfl) ?_
    obtain ⟨a10, ha10, hha10⟩ := mbind_n h
    subst ha10
    have h := hha10
    obtain ⟨y11, hy11, h⟩ := mbind_n h
    refine u_iald hC hP hy11 rfl dX2_groundOf_22 ?_
    obtain ⟨hr1, hr2⟩ := uret_n h
    subst hr1
    subst hr2
    exact u_iret hC hP hS dX2_groundOf_23
  · have h := ucase_s h
    refine lv_ifnonnull (tgt := 24) hx hb dX2_groundOf_11 (by decide) ?_
    refine lv_iload_n hx hb dX2_groundOf_24 rfl (lv_at hl 3 rfl) ?_
    refine u_aload_n (r := some a6) hx hb dX2_groundOf_25 rfl (lv_at hl 0 rfl) ?_
    obtain ⟨y12, hy12, h⟩ := mbind_n h
    refine u_getN hC hP (uGI_n hy12) rfl in_X15 (by decide) q1215 (fun _ h => h) dX2_groundOf_26 ?_
    obtain ⟨r15, u13, c14, h⟩ := ucall_n h
    have zu13 := zz_X2_sign N (ub G) (ug G) u x2 y12 r15 u13 c14
    refine u_calli (va_runS (As := [.int x2, .int y12]) (rest := []) hC.1 (met_X2_sign l N G u x2 y12 r15 u13 c14) (va_cwS 2 hts (lw_S q1356 q1357 q99 q1358) rfl rfl rfl (by decide +kernel) ⟨Nat.le_trans (Nat.le_of_ble_eq_true rfl) hR.1, Nat.le_trans (Nat.le_of_ble_eq_true rfl) hR.2⟩) ⟨uPc_blind, fun U hU hW => u_pre hC hP hS hU hW⟩ rfl rfl hl.1 rfl (lv_room (Nat.le_of_ble_eq_true rfl)) dX2_groundOf_29 ⟨Nat.zero_le _, Nat.zero_le _⟩) hS (fun H locs hP hS => ?_)
    refine lv_if_ne (tgt := 39) hx hb dX2_groundOf_32 (by decide) (fun c16 => ?_) (fun c16 => ?_)
    · have h := mif_f c16 h
      refine u_aload_n (r := some a6) hx hb dX2_groundOf_39 rfl (lv_at hl 0 rfl) ?_
      refine lv_iload_n hx hb dX2_groundOf_40 rfl (lv_at hl 3 rfl) ?_
      refine u_aload_n (r := some a6) hx hb dX2_groundOf_41 rfl (lv_at hl 0 rfl) ?_
      obtain ⟨y17, hy17, h⟩ := mbind_n h
      refine u_getN hC hP (uGI_n hy17) rfl in_X15 (by decide) q1215 (fun _ h => h) dX2_groundOf_42 ?_
      obtain ⟨r20, u18, c19, h⟩ := ucall_n h
      have zu18 := zz_X2_sign N (ub G) (ug G) u13 x2 y17 r20 u18 c19
      refine u_calli (va_runS (As := [.int x2, .int y17]) (rest := [va_rf (some a6)]) hC.1 (met_X2_sign l N G u13 x2 y17 r20 u18 c19) (va_cwS 2 hts (lw_S q1356 q1357 q99 q1358) rfl rfl rfl (by decide +kernel) ⟨Nat.le_trans (Nat.le_of_ble_eq_true rfl) hR.1, Nat.le_trans (Nat.le_of_ble_eq_true rfl) hR.2⟩) ⟨uPc_blind, fun U hU hW => u_pre hC hP hS hU hW⟩ rfl rfl hl.1 rfl (lv_room (Nat.le_of_ble_eq_true rfl)) dX2_groundOf_45 ⟨Nat.zero_le _, Nat.zero_le _⟩) hS (fun H locs hP hS => ?_)
      refine lv_iconst (v := 1) hx hb dX2_groundOf_48 (by decide) ?_
      refine lv_isub hx hb dX2_groundOf_49 ?_
      obtain ⟨c21, h⟩ := mif_n h
      obtain ⟨r24, u22, c23, h⟩ := ucall_n h
      have zu22 := zz_X15_kind N (ub G) (ug G) u18 a6 (r20 - 1) r24 u22 c23
      refine u_calli (va_runV (As := [.int (r20 - 1)]) (rest := []) hC.1 (met_X15_kind l N G u18 a6 (r20 - 1) r24 u22 c23) (cwV 1 hts (lw_V q1340 q1341 q1342 q132 q1343) rfl rfl rfl (by decide +kernel) ⟨Nat.le_trans (Nat.le_of_ble_eq_true rfl) hR.1, Nat.le_trans (Nat.le_of_ble_eq_true rfl) hR.2⟩) ⟨uPc_blind, u_rcv hC hP c21 rfl, fun U hU hW => u_pre hC hP hS hU hW⟩ rfl rfl hl.1 rfl (lv_room (Nat.le_of_ble_eq_true rfl)) dX2_groundOf_50 ⟨Nat.zero_le _, Nat.zero_le _⟩) hS (fun H locs hP hS => ?_)
      exact w_X2_groundOf_53 hC hR N u22 r24 h hP hS (lv_sub hl [] rfl)
    · have h := mif_t c16 h
      refine lv_iconst (v := (-1)) hx hb dX2_groundOf_35 (by decide) ?_
      refine lv_goto (tgt := 53) hx hb dX2_groundOf_36 (by decide) ?_
      exact w_X2_groundOf_53 hC hR N u13 (-1) h hP hS (lv_sub hl [] rfl)
theorem zz_X2_groundOf (N b : Nat) (g : uEnv) (u : UH) (a0 : Nat) (x1 : Int32) (x2 : Int32) (r : Int32) (uf : UH) (h : f_X2_groundOf N b g u a0 x1 x2 = some (r, uf)) : uf.1 = u.1 ∧ uf.2.1 = u.2.1 :=
  zz_X2_groundOf_0 (G := ((fun _ => 0, fun _ _ => 0), fun _ => 0, b, g)) (a0 := a0) N u x1 x2 h
theorem met_X2_groundOf (l : Launch) (N : Nat) (G : uG) (u : UH) (a0 : Nat) (x1 : Int32) (x2 : Int32) (r : Int32) (uf : UH) (h : f_X2_groundOf N (ub G) (ug G) u a0 x1 x2 = some (r, uf)) : Met l yX2_groundOf (ws_ yX2_groundOf cX2_groundOf 4 (some .int)) ({ frames := 1, cells := 0, slots := 0, locals := 23 }) (uPc G u [.ref a0, .int x1, .int x2]) (uQi G r uf) 0 0 (uA G) := by
  exact u_met (own := RX2) (by decide +kernel) rfl (Nat.le_of_ble_eq_true rfl) (fun hC hn hsz ls hl hP => w_X2_groundOf_0 hC ⟨Nat.le_refl _, Nat.le_refl _⟩ N u x1 x2 h hP va_S.rf hl)
def f_X16_parts (N b : Nat) (g : uEnv) (u : UH) (a0 : Nat) (x1 : Int64) (x3 : Int64) : Option (Int64 × UH) :=
    some (x1 * x3, u)
set_option maxHeartbeats 4000000 in
set_option maxRecDepth 100000 in
theorem zz_X16_parts_0 {G : uG} {a0 : Nat} {uf : UH} {r : Int64} (N : Nat) (u : UH) (x1 : Int64) (x3 : Int64) (h : f_X16_parts N (ub G) (ug G) u a0 x1 x3 = some (r, uf)) : uf.1 = u.1 ∧ uf.2.1 = u.2.1 := by
  unfold f_X16_parts at h
  obtain ⟨hr1, hr2⟩ := uret_n h
  subst hr2
  exact ⟨by omega, by omega⟩
set_option maxHeartbeats 4000000 in
set_option maxRecDepth 100000 in
theorem w_X16_parts_0 {p : Program} {l : Launch} {e : Env} {R : Room} {s : State} {m : MethodId} {args : Array Value} {below : List Frame} {meth : Method} {c : Code} {G : uG} {a0 : Nat} {uf : UH} {r : Int64} (hC : uC p s m args meth c G RX16 cX16_parts 5 (some .long)) (hR : 0 ≤ R.frames ∧ 0 ≤ R.locals) (N : Nat) (u : UH) (x1 : Int64) (x3 : Int64) (h : f_X16_parts N (ub G) (ug G) u a0 x1 x3 = some (r, uf)) {H : Heap} {locs : List Loc} (hP : uP G u H) (hS : va_S (uA G) s.heap H locs) {ls : Array Slot} (hl : lv_has ls 5 [(0, va_rf (some a0)), (1, .long x1), (3, .long x3)]) : W p l e R s m args below meth c H locs 0 0 (MQ below (uQl G r uf) args s 0 0 (uA G)) (F0 m 0 ls []) := by
  obtain ⟨⟨hx, hb, hml, hown, hts⟩, hKK⟩ := id hC
  unfold f_X16_parts at h
  refine lv_lload_n hx hb dX16_parts_0 rfl (lv_at hl 1 rfl) ?_
  refine lv_lload_n hx hb dX16_parts_1 rfl (lv_at hl 2 rfl) ?_
  refine lv_lmul hx hb dX16_parts_2 ?_
  obtain ⟨hr1, hr2⟩ := uret_n h
  subst hr1
  subst hr2
  exact u_lret hC hP hS dX16_parts_3
theorem zz_X16_parts (N b : Nat) (g : uEnv) (u : UH) (a0 : Nat) (x1 : Int64) (x3 : Int64) (r : Int64) (uf : UH) (h : f_X16_parts N b g u a0 x1 x3 = some (r, uf)) : uf.1 = u.1 ∧ uf.2.1 = u.2.1 :=
  zz_X16_parts_0 (G := ((fun _ => 0, fun _ _ => 0), fun _ => 0, b, g)) (a0 := a0) N u x1 x3 h
theorem met_X16_parts (l : Launch) (N : Nat) (G : uG) (u : UH) (a0 : Nat) (x1 : Int64) (x3 : Int64) (r : Int64) (uf : UH) (h : f_X16_parts N (ub G) (ug G) u a0 x1 x3 = some (r, uf)) : Met l yX16_parts (ws_ yX16_parts cX16_parts 5 (some .long)) ({ frames := 0, cells := 0, slots := 0, locals := 0 }) (uPc G u [.ref a0, .long x1, .long x3]) (uQl G r uf) 0 0 (uA G) := by
  exact u_met (own := RX16) (by decide +kernel) rfl (Nat.le_of_ble_eq_true rfl) (fun hC hn hsz ls hl hP => w_X16_parts_0 hC ⟨Nat.le_refl _, Nat.le_refl _⟩ N u x1 x3 h hP va_S.rf hl)
def f_X17_parts (N b : Nat) (g : uEnv) (u : UH) (a0 : Nat) (x1 : Int64) (x3 : Int64) : Option (Int64 × UH) :=
    some (x1, u)
set_option maxHeartbeats 4000000 in
set_option maxRecDepth 100000 in
theorem zz_X17_parts_0 {G : uG} {a0 : Nat} {uf : UH} {r : Int64} (N : Nat) (u : UH) (x1 : Int64) (x3 : Int64) (h : f_X17_parts N (ub G) (ug G) u a0 x1 x3 = some (r, uf)) : uf.1 = u.1 ∧ uf.2.1 = u.2.1 := by
  unfold f_X17_parts at h
  obtain ⟨hr1, hr2⟩ := uret_n h
  subst hr2
  exact ⟨by omega, by omega⟩
set_option maxHeartbeats 4000000 in
set_option maxRecDepth 100000 in
theorem w_X17_parts_0 {p : Program} {l : Launch} {e : Env} {R : Room} {s : State} {m : MethodId} {args : Array Value} {below : List Frame} {meth : Method} {c : Code} {G : uG} {a0 : Nat} {uf : UH} {r : Int64} (hC : uC p s m args meth c G RX17 cX17_parts 5 (some .long)) (hR : 0 ≤ R.frames ∧ 0 ≤ R.locals) (N : Nat) (u : UH) (x1 : Int64) (x3 : Int64) (h : f_X17_parts N (ub G) (ug G) u a0 x1 x3 = some (r, uf)) {H : Heap} {locs : List Loc} (hP : uP G u H) (hS : va_S (uA G) s.heap H locs) {ls : Array Slot} (hl : lv_has ls 5 [(0, va_rf (some a0)), (1, .long x1), (3, .long x3)]) : W p l e R s m args below meth c H locs 0 0 (MQ below (uQl G r uf) args s 0 0 (uA G)) (F0 m 0 ls []) := by
  obtain ⟨⟨hx, hb, hml, hown, hts⟩, hKK⟩ := id hC
  unfold f_X17_parts at h
  refine lv_lload_n hx hb dX17_parts_0 rfl (lv_at hl 1 rfl) ?_
  obtain ⟨hr1, hr2⟩ := uret_n h
  subst hr1
  subst hr2
  exact u_lret hC hP hS dX17_parts_1
theorem zz_X17_parts (N b : Nat) (g : uEnv) (u : UH) (a0 : Nat) (x1 : Int64) (x3 : Int64) (r : Int64) (uf : UH) (h : f_X17_parts N b g u a0 x1 x3 = some (r, uf)) : uf.1 = u.1 ∧ uf.2.1 = u.2.1 :=
  zz_X17_parts_0 (G := ((fun _ => 0, fun _ _ => 0), fun _ => 0, b, g)) (a0 := a0) N u x1 x3 h
theorem met_X17_parts (l : Launch) (N : Nat) (G : uG) (u : UH) (a0 : Nat) (x1 : Int64) (x3 : Int64) (r : Int64) (uf : UH) (h : f_X17_parts N (ub G) (ug G) u a0 x1 x3 = some (r, uf)) : Met l yX17_parts (ws_ yX17_parts cX17_parts 5 (some .long)) ({ frames := 0, cells := 0, slots := 0, locals := 0 }) (uPc G u [.ref a0, .long x1, .long x3]) (uQl G r uf) 0 0 (uA G) := by
  exact u_met (own := RX17) (by decide +kernel) rfl (Nat.le_of_ble_eq_true rfl) (fun hC hn hsz ls hl hP => w_X17_parts_0 hC ⟨Nat.le_refl _, Nat.le_refl _⟩ N u x1 x3 h hP va_S.rf hl)
def f_X1_told_2 (N b : Nat) (g : uEnv) (u : UH) (a0 : Nat) (x1 : Int64) : Option (Int64 × UH) :=
    if uIs u a0 0 = true then
    ucall (f_X1_done N b g u a0 0) fun r4 u2 =>
    some ((r4.toInt64) + x1, u2)
    else none
set_option maxHeartbeats 4000000 in
set_option maxRecDepth 100000 in
theorem zz_X1_told_2_0 {G : uG} {a0 : Nat} {uf : UH} {r : Int64} (N : Nat) (u : UH) (x1 : Int64) (h : f_X1_told_2 N (ub G) (ug G) u a0 x1 = some (r, uf)) : uf.1 = u.1 ∧ uf.2.1 = u.2.1 := by
  unfold f_X1_told_2 at h
  obtain ⟨c1, h⟩ := mif_n h
  obtain ⟨r4, u2, c3, h⟩ := ucall_n h
  have zu2 := zz_X1_done N (ub G) (ug G) u a0 0 r4 u2 c3
  obtain ⟨hr1, hr2⟩ := uret_n h
  subst hr2
  exact ⟨by omega, by omega⟩
set_option maxHeartbeats 4000000 in
set_option maxRecDepth 100000 in
theorem w_X1_told_2_0 {p : Program} {l : Launch} {e : Env} {R : Room} {s : State} {m : MethodId} {args : Array Value} {below : List Frame} {meth : Method} {c : Code} {G : uG} {a0 : Nat} {uf : UH} {r : Int64} (hC : uC p s m args meth c G RX1 cX1_told_2 3 (some .long)) (hR : 1 ≤ R.frames ∧ 21 ≤ R.locals) (N : Nat) (u : UH) (x1 : Int64) (h : f_X1_told_2 N (ub G) (ug G) u a0 x1 = some (r, uf)) {H : Heap} {locs : List Loc} (hP : uP G u H) (hS : va_S (uA G) s.heap H locs) {ls : Array Slot} (hl : lv_has ls 3 [(0, va_rf (some a0)), (1, .long x1)]) : W p l e R s m args below meth c H locs 0 0 (MQ below (uQl G r uf) args s 0 0 (uA G)) (F0 m 0 ls []) := by
  obtain ⟨⟨hx, hb, hml, hown, hts⟩, hKK⟩ := id hC
  unfold f_X1_told_2 at h
  refine u_aload_n (r := some a0) hx hb dX1_told_2_0 rfl (lv_at hl 0 rfl) ?_
  refine lv_iconst (v := 0) hx hb dX1_told_2_1 (by decide) ?_
  obtain ⟨c1, h⟩ := mif_n h
  obtain ⟨r4, u2, c3, h⟩ := ucall_n h
  have zu2 := zz_X1_done N (ub G) (ug G) u a0 0 r4 u2 c3
  refine u_calli (va_runV (As := [.int 0]) (rest := []) hC.1 (met_X1_done l N G u a0 0 r4 u2 c3) (cwV 1 hts (lw_V q1064 q1066 qs14 q98 q1067) rfl rfl rfl (by decide +kernel) ⟨Nat.le_trans (Nat.le_of_ble_eq_true rfl) hR.1, Nat.le_trans (Nat.le_of_ble_eq_true rfl) hR.2⟩) ⟨uPc_blind, u_rcv hC hP c1 rfl, fun U hU hW => u_pre hC hP hS hU hW⟩ rfl rfl hl.1 rfl (lv_room (Nat.le_of_ble_eq_true rfl)) dX1_told_2_2 ⟨Nat.zero_le _, Nat.zero_le _⟩) hS (fun H locs hP hS => ?_)
  refine lv_i2l (v := r4.toInt64) hx hb dX1_told_2_5 rfl ?_
  refine lv_lload_n hx hb dX1_told_2_6 rfl (lv_at hl 1 rfl) ?_
  refine lv_ladd hx hb dX1_told_2_7 ?_
  obtain ⟨hr1, hr2⟩ := uret_n h
  subst hr1
  subst hr2
  exact u_lret hC hP hS dX1_told_2_8
theorem zz_X1_told_2 (N b : Nat) (g : uEnv) (u : UH) (a0 : Nat) (x1 : Int64) (r : Int64) (uf : UH) (h : f_X1_told_2 N b g u a0 x1 = some (r, uf)) : uf.1 = u.1 ∧ uf.2.1 = u.2.1 :=
  zz_X1_told_2_0 (G := ((fun _ => 0, fun _ _ => 0), fun _ => 0, b, g)) (a0 := a0) N u x1 h
theorem met_X1_told_2 (l : Launch) (N : Nat) (G : uG) (u : UH) (a0 : Nat) (x1 : Int64) (r : Int64) (uf : UH) (h : f_X1_told_2 N (ub G) (ug G) u a0 x1 = some (r, uf)) : Met l yX1_told_2 (ws_ yX1_told_2 cX1_told_2 3 (some .long)) ({ frames := 1, cells := 0, slots := 0, locals := 21 }) (uPc G u [.ref a0, .long x1]) (uQl G r uf) 0 0 (uA G) := by
  exact u_met (own := RX1) (by decide +kernel) rfl (Nat.le_of_ble_eq_true rfl) (fun hC hn hsz ls hl hP => w_X1_told_2_0 hC ⟨Nat.le_refl _, Nat.le_refl _⟩ N u x1 h hP va_S.rf hl)
def f_X1_of_91 (N b : Nat) (g : uEnv) (a0 : Nat) (u : UH) (s0 : Int32) : Option (Int32 × UH) :=
    some (s0, u)
set_option maxHeartbeats 4000000 in
set_option maxRecDepth 100000 in
theorem zz_X1_of_91 {G : uG} {a0 : Nat} {uf : UH} {r : Int32} (N : Nat) (u : UH) (s0 : Int32) (h : f_X1_of_91 N (ub G) (ug G) a0 u s0 = some (r, uf)) : uf.1 = u.1 ∧ uf.2.1 = u.2.1 := by
  unfold f_X1_of_91 at h
  obtain ⟨hr1, hr2⟩ := uret_n h
  subst hr2
  exact ⟨by omega, by omega⟩
set_option maxHeartbeats 4000000 in
set_option maxRecDepth 100000 in
theorem w_X1_of_91 {p : Program} {l : Launch} {e : Env} {R : Room} {s : State} {m : MethodId} {args : Array Value} {below : List Frame} {meth : Method} {c : Code} {G : uG} {a0 : Nat} {uf : UH} {r : Int32} (hC : uC p s m args meth c G RX1 cX1_of 4 (some .int)) (hR : 2 ≤ R.frames ∧ 43 ≤ R.locals) (N : Nat) (u : UH) (s0 : Int32) (h : f_X1_of_91 N (ub G) (ug G) a0 u s0 = some (r, uf)) {H : Heap} {locs : List Loc} (hP : uP G u H) (hS : va_S (uA G) s.heap H locs) {ls : Array Slot} (hl : lv_has ls 4 []) : W p l e R s m args below meth c H locs 0 0 (MQ below (uQi G r uf) args s 0 0 (uA G)) (F0 m 91 ls [.int s0]) := by
  obtain ⟨⟨hx, hb, hml, hown, hts⟩, hKK⟩ := id hC
  unfold f_X1_of_91 at h
  obtain ⟨hr1, hr2⟩ := uret_n h
  subst hr1
  subst hr2
  exact u_iret hC hP hS dX1_of_91
def f_X1_of_105 (N b : Nat) (g : uEnv) (a0 : Nat) (u : UH) (s0 : Int32) : Option (Int32 × UH) :=
    some (s0, u)
set_option maxHeartbeats 4000000 in
set_option maxRecDepth 100000 in
theorem zz_X1_of_105 {G : uG} {a0 : Nat} {uf : UH} {r : Int32} (N : Nat) (u : UH) (s0 : Int32) (h : f_X1_of_105 N (ub G) (ug G) a0 u s0 = some (r, uf)) : uf.1 = u.1 ∧ uf.2.1 = u.2.1 := by
  unfold f_X1_of_105 at h
  obtain ⟨hr1, hr2⟩ := uret_n h
  subst hr2
  exact ⟨by omega, by omega⟩
set_option maxHeartbeats 4000000 in
set_option maxRecDepth 100000 in
theorem w_X1_of_105 {p : Program} {l : Launch} {e : Env} {R : Room} {s : State} {m : MethodId} {args : Array Value} {below : List Frame} {meth : Method} {c : Code} {G : uG} {a0 : Nat} {uf : UH} {r : Int32} (hC : uC p s m args meth c G RX1 cX1_of 4 (some .int)) (hR : 2 ≤ R.frames ∧ 43 ≤ R.locals) (N : Nat) (u : UH) (s0 : Int32) (h : f_X1_of_105 N (ub G) (ug G) a0 u s0 = some (r, uf)) {H : Heap} {locs : List Loc} (hP : uP G u H) (hS : va_S (uA G) s.heap H locs) {ls : Array Slot} (hl : lv_has ls 4 []) : W p l e R s m args below meth c H locs 0 0 (MQ below (uQi G r uf) args s 0 0 (uA G)) (F0 m 105 ls [.int s0]) := by
  obtain ⟨⟨hx, hb, hml, hown, hts⟩, hKK⟩ := id hC
  unfold f_X1_of_105 at h
  obtain ⟨hr1, hr2⟩ := uret_n h
  subst hr1
  subst hr2
  exact u_iret hC hP hS dX1_of_105
def f_X1_of (N b : Nat) (g : uEnv) (u : UH) (a0 : Nat) (x1 : Int32) (x2 : Int32) : Option (Int32 × UH) :=
    if uIs u a0 0 = true then
    ucall (f_X1_isCell N b g u a0 x1) fun r4 u2 =>
    if r4 = 0 then
    some ((-1), u2)
    else
    (uGR u2 a0 0 7).bind fun o6 =>
    (o6).bind fun a7 =>
    (uGR u2 a7 12 5).bind fun o8 =>
    (o8).bind fun a9 =>
    (uLdR u2 a9 6 x1).bind fun o10 =>
    if x2 = 0 then
    (uGR u2 a0 0 7).bind fun o12 =>
    (o12).bind fun a13 =>
    (uGR u2 a13 12 3).bind fun o14 =>
    (o14).bind fun a15 =>
    (uLdI u2 a15 0 x1).bind fun y16 =>
    some (y16, u2)
    else
    if x2 = 1 then
    ucase o10 (
    (uGR u2 a0 0 7).bind fun o19 =>
    (o19).bind fun a20 =>
    (uGR u2 a20 12 4).bind fun o21 =>
    (o21).bind fun a22 =>
    (uLdI u2 a22 0 x1).bind fun y23 =>
    f_X1_of_91 N b g a0 u2 y23) fun a18 =>
    (uGI u2 a18 13 2).bind fun y24 =>
    if y24 = (-1) then
    f_X1_of_91 N b g a0 u2 (-2)
    else
    (uGI u2 a18 13 2).bind fun y26 =>
    f_X1_of_91 N b g a0 u2 y26
    else
    if x2 = 2 then
    ucase o10 (
    f_X1_of_105 N b g a0 u2 (-2)) fun a28 =>
    (uGI u2 a28 13 0).bind fun y29 =>
    f_X1_of_105 N b g a0 u2 y29
    else
    some ((-1), u2)
    else none
set_option maxHeartbeats 4000000 in
set_option maxRecDepth 100000 in
theorem zz_X1_of_0 {G : uG} {a0 : Nat} {uf : UH} {r : Int32} (N : Nat) (u : UH) (x1 : Int32) (x2 : Int32) (h : f_X1_of N (ub G) (ug G) u a0 x1 x2 = some (r, uf)) : uf.1 = u.1 ∧ uf.2.1 = u.2.1 := by
  unfold f_X1_of at h
  obtain ⟨c1, h⟩ := mif_n h
  obtain ⟨r4, u2, c3, h⟩ := ucall_n h
  have zu2 := zz_X1_isCell N (ub G) (ug G) u a0 x1 r4 u2 c3
  by_cases c5 : r4 = 0
  · have h := mif_t c5 h
    obtain ⟨hr1, hr2⟩ := uret_n h
    subst hr2
    exact ⟨by omega, by omega⟩
  · have h := mif_f c5 h
    obtain ⟨o6, ho6, h⟩ := mbind_n h
    obtain ⟨a7, ha7, hha7⟩ := mbind_n h
    subst ha7
    have h := hha7
    obtain ⟨o8, ho8, h⟩ := mbind_n h
    obtain ⟨a9, ha9, hha9⟩ := mbind_n h
    subst ha9
    have h := hha9
    obtain ⟨o10, ho10, h⟩ := mbind_n h
    by_cases c11 : x2 = 0
    · have h := mif_t c11 h
      obtain ⟨o12, ho12, h⟩ := mbind_n h
      obtain ⟨a13, ha13, hha13⟩ := mbind_n h
      subst ha13
      have h := hha13
      obtain ⟨o14, ho14, h⟩ := mbind_n h
      obtain ⟨a15, ha15, hha15⟩ := mbind_n h
      subst ha15
      have h := hha15
      obtain ⟨y16, hy16, h⟩ := mbind_n h
      obtain ⟨hr1, hr2⟩ := uret_n h
      subst hr2
      exact ⟨by omega, by omega⟩
    have h := mif_f c11 h
    by_cases c17 : x2 = 1
    · have h := mif_t c17 h
      rcases o10 with _ | a18
      · have h := ucase_n h
        obtain ⟨o19, ho19, h⟩ := mbind_n h
        obtain ⟨a20, ha20, hha20⟩ := mbind_n h
        subst ha20
        have h := hha20
        obtain ⟨o21, ho21, h⟩ := mbind_n h
        obtain ⟨a22, ha22, hha22⟩ := mbind_n h
        subst ha22
        have h := hha22
        obtain ⟨y23, hy23, h⟩ := mbind_n h
        have hq := zz_X1_of_91 (G := G) (a0 := a0) N u2 y23 h
        exact ⟨by omega, by omega⟩
      · have h := ucase_s h
        obtain ⟨y24, hy24, h⟩ := mbind_n h
        by_cases c25 : y24 = (-1)
        · have h := mif_t c25 h
          have hq := zz_X1_of_91 (G := G) (a0 := a0) N u2 (-2) h
          exact ⟨by omega, by omega⟩
        · have h := mif_f c25 h
          obtain ⟨y26, hy26, h⟩ := mbind_n h
          have hq := zz_X1_of_91 (G := G) (a0 := a0) N u2 y26 h
          exact ⟨by omega, by omega⟩
    have h := mif_f c17 h
    by_cases c27 : x2 = 2
    · have h := mif_t c27 h
      rcases o10 with _ | a28
      · have h := ucase_n h
        have hq := zz_X1_of_105 (G := G) (a0 := a0) N u2 (-2) h
        exact ⟨by omega, by omega⟩
      · have h := ucase_s h
        obtain ⟨y29, hy29, h⟩ := mbind_n h
        have hq := zz_X1_of_105 (G := G) (a0 := a0) N u2 y29 h
        exact ⟨by omega, by omega⟩
    have h := mif_f c27 h
    obtain ⟨hr1, hr2⟩ := uret_n h
    subst hr2
    exact ⟨by omega, by omega⟩
set_option maxHeartbeats 4000000 in
set_option maxRecDepth 100000 in
theorem w_X1_of_0 {p : Program} {l : Launch} {e : Env} {R : Room} {s : State} {m : MethodId} {args : Array Value} {below : List Frame} {meth : Method} {c : Code} {G : uG} {a0 : Nat} {uf : UH} {r : Int32} (hC : uC p s m args meth c G RX1 cX1_of 4 (some .int)) (hR : 2 ≤ R.frames ∧ 43 ≤ R.locals) (N : Nat) (u : UH) (x1 : Int32) (x2 : Int32) (h : f_X1_of N (ub G) (ug G) u a0 x1 x2 = some (r, uf)) {H : Heap} {locs : List Loc} (hP : uP G u H) (hS : va_S (uA G) s.heap H locs) {ls : Array Slot} (hl : lv_has ls 4 [(0, va_rf (some a0)), (1, .int x1), (2, .int x2)]) : W p l e R s m args below meth c H locs 0 0 (MQ below (uQi G r uf) args s 0 0 (uA G)) (F0 m 0 ls []) := by
  obtain ⟨⟨hx, hb, hml, hown, hts⟩, hKK⟩ := id hC
  unfold f_X1_of at h
  refine u_aload_n (r := some a0) hx hb dX1_of_0 rfl (lv_at hl 0 rfl) ?_
  refine lv_iload_n hx hb dX1_of_1 rfl (lv_at hl 1 rfl) ?_
  obtain ⟨c1, h⟩ := mif_n h
  obtain ⟨r4, u2, c3, h⟩ := ucall_n h
  have zu2 := zz_X1_isCell N (ub G) (ug G) u a0 x1 r4 u2 c3
  refine u_calli (va_runV (As := [.int x1]) (rest := []) hC.1 (met_X1_isCell l N G u a0 x1 r4 u2 c3) (cwV 1 hts (lw_V q1194 q1196 qs18 q98 q1197) rfl rfl rfl (by decide +kernel) ⟨Nat.le_trans (Nat.le_of_ble_eq_true rfl) hR.1, Nat.le_trans (Nat.le_of_ble_eq_true rfl) hR.2⟩) ⟨uPc_blind, u_rcv hC hP c1 rfl, fun U hU hW => u_pre hC hP hS hU hW⟩ rfl rfl hl.1 rfl (lv_room (Nat.le_of_ble_eq_true rfl)) dX1_of_2 ⟨Nat.zero_le _, Nat.zero_le _⟩) hS (fun H locs hP hS => ?_)
  refine lv_if_ne (tgt := 10) hx hb dX1_of_5 (by decide) (fun c5 => ?_) (fun c5 => ?_)
  · have h := mif_f c5 h
    refine u_aload_n (r := some a0) hx hb dX1_of_10 rfl (lv_at hl 0 rfl) ?_
    obtain ⟨o6, ho6, h⟩ := mbind_n h
    refine u_get hC hP (uGR_n ho6) rfl in_X1 (by decide) q222 (fun _ h => h) dX1_of_11 ?_
    obtain ⟨a7, ha7, hha7⟩ := mbind_n h
    subst ha7
    have h := hha7
    obtain ⟨o8, ho8, h⟩ := mbind_n h
    refine u_getN hC hP (uGR_n ho8) rfl in_X14 (by decide) q1147 (fun _ h => h) dX1_of_14 ?_
    refine lv_iload_n hx hb dX1_of_17 rfl (lv_at hl 1 rfl) ?_
    obtain ⟨a9, ha9, hha9⟩ := mbind_n h
    subst ha9
    have h := hha9
    obtain ⟨o10, ho10, h⟩ := mbind_n h
    refine u_aald hC hP ho10 rfl dX1_of_18 ?_
    refine u_astore_n (r := o10) (lv' := [(3, va_rf o10), (0, va_rf (some a0)), (1, .int x1), (2, .int x2)]) hx hb dX1_of_19 rfl hl (by decide) rfl (fun ls hl => ?_)
    refine lv_iload_n hx hb dX1_of_20 rfl (lv_at hl 3 rfl) ?_
    by_cases c11 : x2 = 0
    · have h := mif_t c11 h
      refine lv_tableIn (tgt := 48) hx hb dX1_of_21 (by rw [c11]; decide) (by rw [c11]; decide) (by rw [c11]; rfl) (by decide) ?_
      refine u_aload_n (r := some a0) hx hb dX1_of_48 rfl (lv_at hl 1 rfl) ?_
      obtain ⟨o12, ho12, h⟩ := mbind_n h
      refine u_get hC hP (uGR_n ho12) rfl in_X1 (by decide) q222 (fun _ h => h) dX1_of_49 ?_
      obtain ⟨a13, ha13, hha13⟩ := mbind_n h
      subst ha13
      have h := hha13
      obtain ⟨o14, ho14, h⟩ := mbind_n h
      refine u_getN hC hP (uGR_n ho14) rfl in_X14 (by decide) q1139 (fun _ h => h) dX1_of_52 ?_
      refine lv_iload_n hx hb dX1_of_55 rfl (lv_at hl 2 rfl) ?_
      obtain ⟨a15, ha15, hha15⟩ := mbind_n h
      subst ha15
      have h := hha15
      obtain ⟨y16, hy16, h⟩ := mbind_n h
      refine u_iald hC hP hy16 rfl dX1_of_56 ?_
      obtain ⟨hr1, hr2⟩ := uret_n h
      subst hr1
      subst hr2
      exact u_iret hC hP hS dX1_of_57
    have h := mif_f c11 h
    by_cases c17 : x2 = 1
    · have h := mif_t c17 h
      refine lv_tableIn (tgt := 58) hx hb dX1_of_21 (by rw [c17]; decide) (by rw [c17]; decide) (by rw [c17]; rfl) (by decide) ?_
      refine u_aload_n (r := o10) hx hb dX1_of_58 rfl (lv_at hl 0 rfl) ?_
      rcases o10 with _ | a18
      · have h := ucase_n h
        refine lv_ifnonnullN hx hb dX1_of_59 ?_
        refine u_aload_n (r := some a0) hx hb dX1_of_62 rfl (lv_at hl 1 rfl) ?_
        obtain ⟨o19, ho19, h⟩ := mbind_n h
        refine u_get hC hP (uGR_n ho19) rfl in_X1 (by decide) q222 (fun _ h => h) dX1_of_63 ?_
        obtain ⟨a20, ha20, hha20⟩ := mbind_n h
        subst ha20
        have h := hha20
        obtain ⟨o21, ho21, h⟩ := mbind_n h
        refine u_getN hC hP (uGR_n ho21) rfl in_X14 (by decide) q1143 (fun _ h => h) dX1_of_66 ?_
        refine lv_iload_n hx hb dX1_of_69 rfl (lv_at hl 2 rfl) ?_
        obtain ⟨a22, ha22, hha22⟩ := mbind_n h
        subst ha22
        have h := hha22
        obtain ⟨y23, hy23, h⟩ := mbind_n h
        refine u_iald hC hP hy23 rfl dX1_of_70 ?_
        refine lv_goto (tgt := 91) hx hb dX1_of_71 (by decide) ?_
        exact w_X1_of_91 hC hR N u2 y23 h hP hS (lv_sub hl [] rfl)
      · have h := ucase_s h
        refine lv_ifnonnull (tgt := 74) hx hb dX1_of_59 (by decide) ?_
        refine u_aload_n (r := some a18) hx hb dX1_of_74 rfl (lv_at hl 0 rfl) ?_
        obtain ⟨y24, hy24, h⟩ := mbind_n h
        refine u_getN hC hP (uGI_n hy24) rfl in_X15 (by decide) q1223 (fun _ h => h) dX1_of_75 ?_
        refine lv_iconst (v := (-1)) hx hb dX1_of_78 (by decide) ?_
        refine lv_icmp_ne (tgt := 87) hx hb dX1_of_79 (by decide) (fun c25 => ?_) (fun c25 => ?_)
        · have h := mif_f c25 h
          refine u_aload_n (r := some a18) hx hb dX1_of_87 rfl (lv_at hl 0 rfl) ?_
          obtain ⟨y26, hy26, h⟩ := mbind_n h
          refine u_getN hC hP (uGI_n hy26) rfl in_X15 (by decide) q1223 (fun _ h => h) dX1_of_88 ?_
          exact w_X1_of_91 hC hR N u2 y26 h hP hS (lv_sub hl [] rfl)
        · have h := mif_t c25 h
          refine lv_bipush (v := (-2)) hx hb dX1_of_82 (by decide) ?_
          refine lv_goto (tgt := 91) hx hb dX1_of_84 (by decide) ?_
          exact w_X1_of_91 hC hR N u2 (-2) h hP hS (lv_sub hl [] rfl)
    have h := mif_f c17 h
    by_cases c27 : x2 = 2
    · have h := mif_t c27 h
      refine lv_tableIn (tgt := 92) hx hb dX1_of_21 (by rw [c27]; decide) (by rw [c27]; decide) (by rw [c27]; rfl) (by decide) ?_
      refine u_aload_n (r := o10) hx hb dX1_of_92 rfl (lv_at hl 0 rfl) ?_
      rcases o10 with _ | a28
      · have h := ucase_n h
        refine lv_ifnonnullN hx hb dX1_of_93 ?_
        refine lv_bipush (v := (-2)) hx hb dX1_of_96 (by decide) ?_
        refine lv_goto (tgt := 105) hx hb dX1_of_98 (by decide) ?_
        exact w_X1_of_105 hC hR N u2 (-2) h hP hS (lv_sub hl [] rfl)
      · have h := ucase_s h
        refine lv_ifnonnull (tgt := 101) hx hb dX1_of_93 (by decide) ?_
        refine u_aload_n (r := some a28) hx hb dX1_of_101 rfl (lv_at hl 0 rfl) ?_
        obtain ⟨y29, hy29, h⟩ := mbind_n h
        refine u_getN hC hP (uGI_n hy29) rfl in_X15 (by decide) q1216 (fun _ h => h) dX1_of_102 ?_
        exact w_X1_of_105 hC hR N u2 y29 h hP hS (lv_sub hl [] rfl)
    have h := mif_f c27 h
    refine lv_tableOut (tgt := 106) hx hb dX1_of_21 (m_out 0 2 [0, 1, 2] 3 (by decide) (by decide) (fun z hz => ?_)) (by decide) ?_
    · simp only [List.mem_cons, List.not_mem_nil, or_false] at hz
      rcases hz with rfl | rfl | rfl
      · exact c11
      · exact c17
      · exact c27
    · refine lv_iconst (v := (-1)) hx hb dX1_of_106 (by decide) ?_
      obtain ⟨hr1, hr2⟩ := uret_n h
      subst hr1
      subst hr2
      exact u_iret hC hP hS dX1_of_107
  · have h := mif_t c5 h
    refine lv_iconst (v := (-1)) hx hb dX1_of_8 (by decide) ?_
    obtain ⟨hr1, hr2⟩ := uret_n h
    subst hr1
    subst hr2
    exact u_iret hC hP hS dX1_of_9
theorem zz_X1_of (N b : Nat) (g : uEnv) (u : UH) (a0 : Nat) (x1 : Int32) (x2 : Int32) (r : Int32) (uf : UH) (h : f_X1_of N b g u a0 x1 x2 = some (r, uf)) : uf.1 = u.1 ∧ uf.2.1 = u.2.1 :=
  zz_X1_of_0 (G := ((fun _ => 0, fun _ _ => 0), fun _ => 0, b, g)) (a0 := a0) N u x1 x2 h
theorem met_X1_of (l : Launch) (N : Nat) (G : uG) (u : UH) (a0 : Nat) (x1 : Int32) (x2 : Int32) (r : Int32) (uf : UH) (h : f_X1_of N (ub G) (ug G) u a0 x1 x2 = some (r, uf)) : Met l yX1_of (ws_ yX1_of cX1_of 4 (some .int)) ({ frames := 2, cells := 0, slots := 0, locals := 43 }) (uPc G u [.ref a0, .int x1, .int x2]) (uQi G r uf) 0 0 (uA G) := by
  exact u_met (own := RX1) (by decide +kernel) rfl (Nat.le_of_ble_eq_true rfl) (fun hC hn hsz ls hl hP => w_X1_of_0 hC ⟨Nat.le_refl _, Nat.le_refl _⟩ N u x1 x2 h hP va_S.rf hl)
def f_X19_many (N b : Nat) (g : uEnv) (u : UH) (a0 : Nat) : Option (Int32 × UH) :=
    (uGR u a0 17 0).bind fun o1 =>
    (o1).bind fun a2 =>
    (uGR u a2 3 1).bind fun o3 =>
    (o3).bind fun a4 =>
    if uIs u a4 18 = true then
    ucall (f_J2_size N b g u a4) fun r8 u6 =>
    (uGR u6 a0 17 0).bind fun o9 =>
    (o9).bind fun a10 =>
    (uGI u6 a10 3 3).bind fun y11 =>
    some (r8 * y11, u6)
    else none
set_option maxHeartbeats 4000000 in
set_option maxRecDepth 100000 in
theorem zz_X19_many_0 {G : uG} {a0 : Nat} {uf : UH} {r : Int32} (N : Nat) (u : UH) (h : f_X19_many N (ub G) (ug G) u a0 = some (r, uf)) : uf.1 = u.1 ∧ uf.2.1 = u.2.1 := by
  unfold f_X19_many at h
  obtain ⟨o1, ho1, h⟩ := mbind_n h
  obtain ⟨a2, ha2, hha2⟩ := mbind_n h
  subst ha2
  have h := hha2
  obtain ⟨o3, ho3, h⟩ := mbind_n h
  obtain ⟨a4, ha4, hha4⟩ := mbind_n h
  subst ha4
  have h := hha4
  obtain ⟨c5, h⟩ := mif_n h
  obtain ⟨r8, u6, c7, h⟩ := ucall_n h
  have zu6 := zz_J2_size N (ub G) (ug G) u a4 r8 u6 c7
  obtain ⟨o9, ho9, h⟩ := mbind_n h
  obtain ⟨a10, ha10, hha10⟩ := mbind_n h
  subst ha10
  have h := hha10
  obtain ⟨y11, hy11, h⟩ := mbind_n h
  obtain ⟨hr1, hr2⟩ := uret_n h
  subst hr2
  exact ⟨by omega, by omega⟩
set_option maxHeartbeats 4000000 in
set_option maxRecDepth 100000 in
theorem w_X19_many_0 {p : Program} {l : Launch} {e : Env} {R : Room} {s : State} {m : MethodId} {args : Array Value} {below : List Frame} {meth : Method} {c : Code} {G : uG} {a0 : Nat} {uf : UH} {r : Int32} (hC : uC p s m args meth c G RX19 cX19_many 1 (some .int)) (hR : 1 ≤ R.frames ∧ 20 ≤ R.locals) (N : Nat) (u : UH) (h : f_X19_many N (ub G) (ug G) u a0 = some (r, uf)) {H : Heap} {locs : List Loc} (hP : uP G u H) (hS : va_S (uA G) s.heap H locs) {ls : Array Slot} (hl : lv_has ls 1 [(0, va_rf (some a0))]) : W p l e R s m args below meth c H locs 0 0 (MQ below (uQi G r uf) args s 0 0 (uA G)) (F0 m 0 ls []) := by
  obtain ⟨⟨hx, hb, hml, hown, hts⟩, hKK⟩ := id hC
  unfold f_X19_many at h
  refine u_aload_n (r := some a0) hx hb dX19_many_0 rfl (lv_at hl 0 rfl) ?_
  obtain ⟨o1, ho1, h⟩ := mbind_n h
  refine u_get hC hP (uGR_n ho1) rfl in_X19 (by decide) q1804 (fun _ h => h) dX19_many_1 ?_
  obtain ⟨a2, ha2, hha2⟩ := mbind_n h
  subst ha2
  have h := hha2
  obtain ⟨o3, ho3, h⟩ := mbind_n h
  refine u_getN hC hP (uGR_n ho3) rfl in_X4 (by decide) q293 (fun _ h => h) dX19_many_4 ?_
  obtain ⟨a4, ha4, hha4⟩ := mbind_n h
  subst ha4
  have h := hha4
  obtain ⟨c5, h⟩ := mif_n h
  obtain ⟨r8, u6, c7, h⟩ := ucall_n h
  have zu6 := zz_J2_size N (ub G) (ug G) u a4 r8 u6 c7
  refine u_calli (va_runV (As := []) (rest := []) hC.1 (met_J2_size l N G u a4 r8 u6 c7) (cwV 0 hts (lw_V q1776 q894 q895 q102 q896) rfl rfl rfl (by decide +kernel) ⟨Nat.le_trans (Nat.le_of_ble_eq_true rfl) hR.1, Nat.le_trans (Nat.le_of_ble_eq_true rfl) hR.2⟩) ⟨uPc_blind, u_rcv hC hP c5 rfl, fun U hU hW => u_pre hC hP hS hU hW⟩ rfl rfl hl.1 rfl (lv_room (Nat.le_of_ble_eq_true rfl)) dX19_many_7 ⟨Nat.zero_le _, Nat.zero_le _⟩) hS (fun H locs hP hS => ?_)
  refine u_aload_n (r := some a0) hx hb dX19_many_10 rfl (lv_at hl 0 rfl) ?_
  obtain ⟨o9, ho9, h⟩ := mbind_n h
  refine u_get hC hP (uGR_n ho9) rfl in_X19 (by decide) q1804 (fun _ h => h) dX19_many_11 ?_
  obtain ⟨a10, ha10, hha10⟩ := mbind_n h
  subst ha10
  have h := hha10
  obtain ⟨y11, hy11, h⟩ := mbind_n h
  refine u_getN hC hP (uGI_n hy11) rfl in_X4 (by decide) q296 (fun _ h => h) dX19_many_14 ?_
  refine lv_imul hx hb dX19_many_17 ?_
  obtain ⟨hr1, hr2⟩ := uret_n h
  subst hr1
  subst hr2
  exact u_iret hC hP hS dX19_many_18
theorem zz_X19_many (N b : Nat) (g : uEnv) (u : UH) (a0 : Nat) (r : Int32) (uf : UH) (h : f_X19_many N b g u a0 = some (r, uf)) : uf.1 = u.1 ∧ uf.2.1 = u.2.1 :=
  zz_X19_many_0 (G := ((fun _ => 0, fun _ _ => 0), fun _ => 0, b, g)) (a0 := a0) N u h
theorem met_X19_many (l : Launch) (N : Nat) (G : uG) (u : UH) (a0 : Nat) (r : Int32) (uf : UH) (h : f_X19_many N (ub G) (ug G) u a0 = some (r, uf)) : Met l yX19_many (ws_ yX19_many cX19_many 1 (some .int)) ({ frames := 1, cells := 0, slots := 0, locals := 20 }) (uPc G u [.ref a0]) (uQi G r uf) 0 0 (uA G) := by
  exact u_met (own := RX19) (by decide +kernel) rfl (Nat.le_of_ble_eq_true rfl) (fun hC hn hsz ls hl hP => w_X19_many_0 hC ⟨Nat.le_refl _, Nat.le_refl _⟩ N u h hP va_S.rf hl)
def f_X19_attempt (N b : Nat) (g : uEnv) (u : UH) (a0 : Nat) (x1 : Int32) : Option (Option Nat × UH) :=
    (uGR u a0 17 0).bind fun o1 =>
    (o1).bind fun a2 =>
    (uGR u a2 3 1).bind fun o3 =>
    (uGR u a0 17 0).bind fun o4 =>
    (o4).bind fun a5 =>
    (uGI u a5 3 3).bind fun y6 =>
    if ¬ y6 = 0 then
    (o3).bind fun a8 =>
    if uIs u a8 18 = true then
    ucall (f_J2_get N b g u a8 (x1 / y6)) fun o12 u10 =>
    (o12).bind fun a13 =>
    if uIs u10 a13 8 = true then
    some (some a13, u10)
    else none
    else none
    else none
set_option maxHeartbeats 4000000 in
set_option maxRecDepth 100000 in
theorem zz_X19_attempt_0 {G : uG} {a0 : Nat} {uf : UH} {r : Option Nat} (N : Nat) (u : UH) (x1 : Int32) (h : f_X19_attempt N (ub G) (ug G) u a0 x1 = some (r, uf)) : uf.1 = u.1 ∧ uf.2.1 = u.2.1 := by
  unfold f_X19_attempt at h
  obtain ⟨o1, ho1, h⟩ := mbind_n h
  obtain ⟨a2, ha2, hha2⟩ := mbind_n h
  subst ha2
  have h := hha2
  obtain ⟨o3, ho3, h⟩ := mbind_n h
  obtain ⟨o4, ho4, h⟩ := mbind_n h
  obtain ⟨a5, ha5, hha5⟩ := mbind_n h
  subst ha5
  have h := hha5
  obtain ⟨y6, hy6, h⟩ := mbind_n h
  obtain ⟨c7, h⟩ := mif_n h
  obtain ⟨a8, ha8, hha8⟩ := mbind_n h
  subst ha8
  have h := hha8
  obtain ⟨c9, h⟩ := mif_n h
  obtain ⟨o12, u10, c11, h⟩ := ucall_n h
  have zu10 := zz_J2_get N (ub G) (ug G) u a8 (x1 / y6) o12 u10 c11
  obtain ⟨a13, ha13, hha13⟩ := mbind_n h
  subst ha13
  have h := hha13
  obtain ⟨c14, h⟩ := mif_n h
  obtain ⟨hr1, hr2⟩ := uret_n h
  subst hr2
  exact ⟨by omega, by omega⟩
set_option maxHeartbeats 4000000 in
set_option maxRecDepth 100000 in
theorem w_X19_attempt_0 {p : Program} {l : Launch} {e : Env} {R : Room} {s : State} {m : MethodId} {args : Array Value} {below : List Frame} {meth : Method} {c : Code} {G : uG} {a0 : Nat} {uf : UH} {r : Option Nat} (hC : uC p s m args meth c G RX19 cX19_attempt 2 (some (.object "SoftWheels$Attempt"))) (hR : 3 ≤ R.frames ∧ 64 ≤ R.locals) (N : Nat) (u : UH) (x1 : Int32) (h : f_X19_attempt N (ub G) (ug G) u a0 x1 = some (r, uf)) {H : Heap} {locs : List Loc} (hP : uP G u H) (hS : va_S (uA G) s.heap H locs) {ls : Array Slot} (hl : lv_has ls 2 [(0, va_rf (some a0)), (1, .int x1)]) : W p l e R s m args below meth c H locs 0 0 (MQ below (uQr G r uf) args s 0 0 (uA G)) (F0 m 0 ls []) := by
  obtain ⟨⟨hx, hb, hml, hown, hts⟩, hKK⟩ := id hC
  unfold f_X19_attempt at h
  refine u_aload_n (r := some a0) hx hb dX19_attempt_0 rfl (lv_at hl 0 rfl) ?_
  obtain ⟨o1, ho1, h⟩ := mbind_n h
  refine u_get hC hP (uGR_n ho1) rfl in_X19 (by decide) q1804 (fun _ h => h) dX19_attempt_1 ?_
  obtain ⟨a2, ha2, hha2⟩ := mbind_n h
  subst ha2
  have h := hha2
  obtain ⟨o3, ho3, h⟩ := mbind_n h
  refine u_getN hC hP (uGR_n ho3) rfl in_X4 (by decide) q293 (fun _ h => h) dX19_attempt_4 ?_
  refine lv_iload_n hx hb dX19_attempt_7 rfl (lv_at hl 1 rfl) ?_
  refine u_aload_n (r := some a0) hx hb dX19_attempt_8 rfl (lv_at hl 0 rfl) ?_
  obtain ⟨o4, ho4, h⟩ := mbind_n h
  refine u_get hC hP (uGR_n ho4) rfl in_X19 (by decide) q1804 (fun _ h => h) dX19_attempt_9 ?_
  obtain ⟨a5, ha5, hha5⟩ := mbind_n h
  subst ha5
  have h := hha5
  obtain ⟨y6, hy6, h⟩ := mbind_n h
  refine u_getN hC hP (uGI_n hy6) rfl in_X4 (by decide) q296 (fun _ h => h) dX19_attempt_12 ?_
  obtain ⟨c7, h⟩ := mif_n h
  refine lv_idiv hx hb dX19_attempt_15 c7 ?_
  obtain ⟨a8, ha8, hha8⟩ := mbind_n h
  subst ha8
  have h := hha8
  obtain ⟨c9, h⟩ := mif_n h
  obtain ⟨o12, u10, c11, h⟩ := ucall_n h
  have zu10 := zz_J2_get N (ub G) (ug G) u a8 (x1 / y6) o12 u10 c11
  refine u_callr (va_runV (As := [.int (x1 / y6)]) (rest := []) hC.1 (met_J2_get l N G u a8 (x1 / y6) o12 u10 c11) (cwV 1 hts (lw_V q1781 q898 q899 q102 q900) rfl rfl rfl (by decide +kernel) ⟨Nat.le_trans (Nat.le_of_ble_eq_true rfl) hR.1, Nat.le_trans (Nat.le_of_ble_eq_true rfl) hR.2⟩) ⟨uPc_blind, u_rcv hC hP c9 rfl, fun U hU hW => u_pre hC hP hS hU hW⟩ rfl rfl hl.1 rfl (lv_room (Nat.le_of_ble_eq_true rfl)) dX19_attempt_16 ⟨Nat.zero_le _, Nat.zero_le _⟩) hS (fun H locs hP hS => ?_)
  obtain ⟨a13, ha13, hha13⟩ := mbind_n h
  subst ha13
  have h := hha13
  obtain ⟨c14, h⟩ := mif_n h
  refine u_castS hC hP c14 rfl q1782 dX19_attempt_19 ?_
  obtain ⟨hr1, hr2⟩ := uret_n h
  subst hr1
  subst hr2
  exact u_aret hC (Or.inl ⟨_, rfl⟩) hP hS dX19_attempt_22
theorem zz_X19_attempt (N b : Nat) (g : uEnv) (u : UH) (a0 : Nat) (x1 : Int32) (r : Option Nat) (uf : UH) (h : f_X19_attempt N b g u a0 x1 = some (r, uf)) : uf.1 = u.1 ∧ uf.2.1 = u.2.1 :=
  zz_X19_attempt_0 (G := ((fun _ => 0, fun _ _ => 0), fun _ => 0, b, g)) (a0 := a0) N u x1 h
theorem met_X19_attempt (l : Launch) (N : Nat) (G : uG) (u : UH) (a0 : Nat) (x1 : Int32) (r : Option Nat) (uf : UH) (h : f_X19_attempt N (ub G) (ug G) u a0 x1 = some (r, uf)) : Met l yX19_attempt (ws_ yX19_attempt cX19_attempt 2 (some (.object "SoftWheels$Attempt"))) ({ frames := 3, cells := 0, slots := 0, locals := 64 }) (uPc G u [.ref a0, .int x1]) (uQr G r uf) 0 0 (uA G) := by
  exact u_met (own := RX19) (by decide +kernel) rfl (Nat.le_of_ble_eq_true rfl) (fun hC hn hsz ls hl hP => w_X19_attempt_0 hC ⟨Nat.le_refl _, Nat.le_refl _⟩ N u x1 h hP va_S.rf hl)
def f_X19_cost (N b : Nat) (g : uEnv) (u : UH) (x0 : Option Nat) : Option (Int64 × UH) :=
    (x0).bind fun a1 =>
    if uIs u a1 8 = true then
    ucall (f_X10_cost N b g u a1) fun r5 u3 =>
    some (((r5.toInt64) <<< ((20 : Int32).toInt64 &&& 63)) + 1, u3)
    else none
set_option maxHeartbeats 4000000 in
set_option maxRecDepth 100000 in
theorem zz_X19_cost_0 {G : uG} {uf : UH} {r : Int64} (N : Nat) (u : UH) (x0 : Option Nat) (h : f_X19_cost N (ub G) (ug G) u x0 = some (r, uf)) : uf.1 = u.1 ∧ uf.2.1 = u.2.1 := by
  unfold f_X19_cost at h
  obtain ⟨a1, ha1, hha1⟩ := mbind_n h
  subst ha1
  have h := hha1
  obtain ⟨c2, h⟩ := mif_n h
  obtain ⟨r5, u3, c4, h⟩ := ucall_n h
  have zu3 := zz_X10_cost N (ub G) (ug G) u a1 r5 u3 c4
  obtain ⟨hr1, hr2⟩ := uret_n h
  subst hr2
  exact ⟨by omega, by omega⟩
set_option maxHeartbeats 4000000 in
set_option maxRecDepth 100000 in
theorem w_X19_cost_0 {p : Program} {l : Launch} {e : Env} {R : Room} {s : State} {m : MethodId} {args : Array Value} {below : List Frame} {meth : Method} {c : Code} {G : uG} {uf : UH} {r : Int64} (hC : uC p s m args meth c G RX19 cX19_cost 1 (some .long)) (hR : 1 ≤ R.frames ∧ 20 ≤ R.locals) (N : Nat) (u : UH) (x0 : Option Nat) (h : f_X19_cost N (ub G) (ug G) u x0 = some (r, uf)) {H : Heap} {locs : List Loc} (hP : uP G u H) (hS : va_S (uA G) s.heap H locs) {ls : Array Slot} (hl : lv_has ls 1 [(0, va_rf x0)]) : W p l e R s m args below meth c H locs 0 0 (MQ below (uQl G r uf) args s 0 0 (uA G)) (F0 m 0 ls []) := by
  obtain ⟨⟨hx, hb, hml, hown, hts⟩, hKK⟩ := id hC
  unfold f_X19_cost at h
  refine u_aload_n (r := x0) hx hb dX19_cost_0 rfl (lv_at hl 0 rfl) ?_
  obtain ⟨a1, ha1, hha1⟩ := mbind_n h
  subst ha1
  have h := hha1
  obtain ⟨c2, h⟩ := mif_n h
  obtain ⟨r5, u3, c4, h⟩ := ucall_n h
  have zu3 := zz_X10_cost N (ub G) (ug G) u a1 r5 u3 c4
  refine u_calli (va_runV (As := []) (rest := []) hC.1 (met_X10_cost l N G u a1 r5 u3 c4) (cwV 0 hts (lw_V q1786 q1787 q1788 q127 q1789) rfl rfl rfl (by decide +kernel) ⟨Nat.le_trans (Nat.le_of_ble_eq_true rfl) hR.1, Nat.le_trans (Nat.le_of_ble_eq_true rfl) hR.2⟩) ⟨uPc_blind, u_rcv hC hP c2 rfl, fun U hU hW => u_pre hC hP hS hU hW⟩ rfl rfl hl.1 rfl (lv_room (Nat.le_of_ble_eq_true rfl)) dX19_cost_1 ⟨Nat.zero_le _, Nat.zero_le _⟩) hS (fun H locs hP hS => ?_)
  refine lv_i2l (v := r5.toInt64) hx hb dX19_cost_4 rfl ?_
  refine lv_bipush (v := 20) hx hb dX19_cost_5 (by decide) ?_
  refine lv_lshl (v := (r5.toInt64) <<< ((20 : Int32).toInt64 &&& 63)) hx hb dX19_cost_7 rfl ?_
  refine lv_lconst (v := 1) hx hb dX19_cost_8 (by decide) ?_
  refine lv_ladd hx hb dX19_cost_9 ?_
  obtain ⟨hr1, hr2⟩ := uret_n h
  subst hr1
  subst hr2
  exact u_lret hC hP hS dX19_cost_10
theorem zz_X19_cost (N b : Nat) (g : uEnv) (u : UH) (x0 : Option Nat) (r : Int64) (uf : UH) (h : f_X19_cost N b g u x0 = some (r, uf)) : uf.1 = u.1 ∧ uf.2.1 = u.2.1 :=
  zz_X19_cost_0 (G := ((fun _ => 0, fun _ _ => 0), fun _ => 0, b, g)) N u x0 h
theorem met_X19_cost (l : Launch) (N : Nat) (G : uG) (u : UH) (x0 : Option Nat) (r : Int64) (uf : UH) (h : f_X19_cost N (ub G) (ug G) u x0 = some (r, uf)) : Met l yX19_cost (ws_ yX19_cost cX19_cost 1 (some .long)) ({ frames := 1, cells := 0, slots := 0, locals := 20 }) (uPc G u [va_rf x0]) (uQl G r uf) 0 0 (uA G) := by
  rcases x0 with _ | x0 <;> exact u_met (own := RX19) (by decide +kernel) rfl (Nat.le_of_ble_eq_true rfl) (fun hC hn hsz ls hl hP => w_X19_cost_0 hC ⟨Nat.le_refl _, Nat.le_refl _⟩ N u _ h hP va_S.rf hl)
def f_X19_next_45 (N b : Nat) (g : uEnv) (a0 : Nat) (k12 : UH → Option Nat → Int32 → Int32 → Int32 → Int32 → Int32 → Option (Int32 × UH)) (u : UH) (x2 : Option Nat) (x3 : Int32) (x4 : Int32) (x5 : Int32) (x6 : Int32) (x7 : Int32) (s0 : Int32) (s1 : Int32) : Option (Int32 × UH) :=
    mlet (s1 + s0) fun y1 =>
    ucall (f_J9_min N b g u 4 y1) fun r4 u2 =>
    ucall (f_J9_max N b g u2 0 r4) fun r7 u5 =>
    mlet (x4 + (x5 * r7)) fun y8 =>
    mlet (x5 * 5) fun y9 =>
    mlet (x6 / 5) fun y10 =>
    mlet (x7 + 1) fun y11 =>
    k12 u5 x2 x3 y8 y9 y10 y11
set_option maxHeartbeats 4000000 in
set_option maxRecDepth 100000 in
theorem zz_X19_next_45 {G : uG} {a0 : Nat} {uf : UH} {r : Int32} (N : Nat) (k12 : UH → Option Nat → Int32 → Int32 → Int32 → Int32 → Int32 → Option (Int32 × UH)) (hk12 : ∀ (u : UH) (x2 : Option Nat) (x3 : Int32) (x4 : Int32) (x5 : Int32) (x6 : Int32) (x7 : Int32), k12 u x2 x3 x4 x5 x6 x7 = some (r, uf) → uf.1 = u.1 ∧ uf.2.1 = u.2.1) (u : UH) (x2 : Option Nat) (x3 : Int32) (x4 : Int32) (x5 : Int32) (x6 : Int32) (x7 : Int32) (s0 : Int32) (s1 : Int32) (h : f_X19_next_45 N (ub G) (ug G) a0 k12 u x2 x3 x4 x5 x6 x7 s0 s1 = some (r, uf)) : uf.1 = u.1 ∧ uf.2.1 = u.2.1 := by
  unfold f_X19_next_45 at h
  obtain ⟨y1, ey1⟩ : ∃ z, z = s1 + s0 := ⟨_, rfl⟩
  have h := mlet_at ey1 h
  obtain ⟨r4, u2, c3, h⟩ := ucall_n h
  have zu2 := zz_J9_min N (ub G) (ug G) u 4 y1 r4 u2 c3
  obtain ⟨r7, u5, c6, h⟩ := ucall_n h
  have zu5 := zz_J9_max N (ub G) (ug G) u2 0 r4 r7 u5 c6
  obtain ⟨y8, ey8⟩ : ∃ z, z = x4 + (x5 * r7) := ⟨_, rfl⟩
  have h := mlet_at ey8 h
  obtain ⟨y9, ey9⟩ : ∃ z, z = x5 * 5 := ⟨_, rfl⟩
  have h := mlet_at ey9 h
  obtain ⟨y10, ey10⟩ : ∃ z, z = x6 / 5 := ⟨_, rfl⟩
  have h := mlet_at ey10 h
  obtain ⟨y11, ey11⟩ : ∃ z : Int32, z = x7 + 1 := ⟨_, rfl⟩
  have h := mlet_at ey11 h
  have hq := hk12 u5 x2 x3 y8 y9 y10 y11 h
  exact ⟨by omega, by omega⟩
set_option maxHeartbeats 4000000 in
set_option maxRecDepth 100000 in
theorem w_X19_next_45 {p : Program} {l : Launch} {e : Env} {R : Room} {s : State} {m : MethodId} {args : Array Value} {below : List Frame} {meth : Method} {c : Code} {G : uG} {a0 : Nat} {uf : UH} {r : Int32} (hC : uC p s m args meth c G RX19 cX19_next 9 (some .int)) (hR : 1 ≤ R.frames ∧ 21 ≤ R.locals) (N : Nat) (k12 : UH → Option Nat → Int32 → Int32 → Int32 → Int32 → Int32 → Option (Int32 × UH)) (hk12 : ∀ (u : UH) (x2 : Option Nat) (x3 : Int32) (x4 : Int32) (x5 : Int32) (x6 : Int32) (x7 : Int32), k12 u x2 x3 x4 x5 x6 x7 = some (r, uf) → ∀ (H : Heap) (locs : List Loc), uP G u H → va_S (uA G) s.heap H locs → ∀ ls : Array Slot, lv_has ls 9 [(0, va_rf (some a0)), (2, va_rf x2), (3, .int x3), (4, .int x4), (5, .int x5), (6, .int x6), (7, .int x7)] → W p l e R s m args below meth c H locs 0 0 (MQ below (uQi G r uf) args s 0 0 (uA G)) (F0 m 12 ls [])) (u : UH) (x2 : Option Nat) (x3 : Int32) (x4 : Int32) (x5 : Int32) (x6 : Int32) (x7 : Int32) (s0 : Int32) (s1 : Int32) (h : f_X19_next_45 N (ub G) (ug G) a0 k12 u x2 x3 x4 x5 x6 x7 s0 s1 = some (r, uf)) {H : Heap} {locs : List Loc} (hP : uP G u H) (hS : va_S (uA G) s.heap H locs) {ls : Array Slot} (hl : lv_has ls 9 [(0, va_rf (some a0)), (2, va_rf x2), (3, .int x3), (4, .int x4), (5, .int x5), (6, .int x6), (7, .int x7)]) : W p l e R s m args below meth c H locs 0 0 (MQ below (uQi G r uf) args s 0 0 (uA G)) (F0 m 45 ls [.int s0, .int s1]) := by
  obtain ⟨⟨hx, hb, hml, hown, hts⟩, hKK⟩ := id hC
  unfold f_X19_next_45 at h
  refine lv_iadd hx hb dX19_next_45 ?_
  refine lv_topi (fun y1 ey1 => ?_)
  have h := mlet_at ey1 h
  refine lv_istore (lv' := [(8, .int y1), (0, va_rf (some a0)), (2, va_rf x2), (3, .int x3), (4, .int x4), (5, .int x5), (6, .int x6), (7, .int x7)]) hx hb dX19_next_46 hl (by decide) rfl (fun ls hl => ?_)
  refine lv_iload hx hb dX19_next_48 (lv_at hl 4 rfl) ?_
  refine lv_iload hx hb dX19_next_50 (lv_at hl 5 rfl) ?_
  refine lv_iconst (v := 0) hx hb dX19_next_52 (by decide) ?_
  refine lv_iconst (v := 4) hx hb dX19_next_53 (by decide) ?_
  refine lv_iload hx hb dX19_next_54 (lv_at hl 0 rfl) ?_
  obtain ⟨r4, u2, c3, h⟩ := ucall_n h
  have zu2 := zz_J9_min N (ub G) (ug G) u 4 y1 r4 u2 c3
  refine u_calli (va_runS (As := [.int 4, .int y1]) (rest := [.int 0, .int x5, .int x4]) hC.1 (met_J9_min l N G u 4 y1 r4 u2 c3) (va_cwS 2 hts (lw_S q1802 q426 q113 q427) rfl rfl rfl (by decide +kernel) ⟨Nat.le_trans (Nat.le_of_ble_eq_true rfl) hR.1, Nat.le_trans (Nat.le_of_ble_eq_true rfl) hR.2⟩) ⟨uPc_blind, fun U hU hW => u_pre hC hP hS hU hW⟩ rfl rfl hl.1 rfl (lv_room (Nat.le_of_ble_eq_true rfl)) dX19_next_56 ⟨Nat.zero_le _, Nat.zero_le _⟩) hS (fun H locs hP hS => ?_)
  obtain ⟨r7, u5, c6, h⟩ := ucall_n h
  have zu5 := zz_J9_max N (ub G) (ug G) u2 0 r4 r7 u5 c6
  refine u_calli (va_runS (As := [.int 0, .int r4]) (rest := [.int x5, .int x4]) hC.1 (met_J9_max l N G u2 0 r4 r7 u5 c6) (va_cwS 2 hts (lw_S q1803 q408 q113 q409) rfl rfl rfl (by decide +kernel) ⟨Nat.le_trans (Nat.le_of_ble_eq_true rfl) hR.1, Nat.le_trans (Nat.le_of_ble_eq_true rfl) hR.2⟩) ⟨uPc_blind, fun U hU hW => u_pre hC hP hS hU hW⟩ rfl rfl hl.1 rfl (lv_room (Nat.le_of_ble_eq_true rfl)) dX19_next_59 ⟨Nat.zero_le _, Nat.zero_le _⟩) hS (fun H locs hP hS => ?_)
  refine lv_imul hx hb dX19_next_62 ?_
  refine lv_iadd hx hb dX19_next_63 ?_
  refine lv_topi (fun y8 ey8 => ?_)
  have h := mlet_at ey8 h
  refine lv_istore (lv' := [(4, .int y8), (8, .int y1), (0, va_rf (some a0)), (2, va_rf x2), (3, .int x3), (5, .int x5), (6, .int x6), (7, .int x7)]) hx hb dX19_next_64 hl (by decide) rfl (fun ls hl => ?_)
  refine lv_iload hx hb dX19_next_66 (lv_at hl 5 rfl) ?_
  refine lv_iconst (v := 5) hx hb dX19_next_68 (by decide) ?_
  refine lv_imul hx hb dX19_next_69 ?_
  refine lv_topi (fun y9 ey9 => ?_)
  have h := mlet_at ey9 h
  refine lv_istore (lv' := [(5, .int y9), (4, .int y8), (8, .int y1), (0, va_rf (some a0)), (2, va_rf x2), (3, .int x3), (6, .int x6), (7, .int x7)]) hx hb dX19_next_70 hl (by decide) rfl (fun ls hl => ?_)
  refine lv_iload hx hb dX19_next_72 (lv_at hl 6 rfl) ?_
  refine lv_iconst (v := 5) hx hb dX19_next_74 (by decide) ?_
  refine lv_idiv hx hb dX19_next_75 (by decide) ?_
  refine lv_topi (fun y10 ey10 => ?_)
  have h := mlet_at ey10 h
  refine lv_istore (lv' := [(6, .int y10), (5, .int y9), (4, .int y8), (8, .int y1), (0, va_rf (some a0)), (2, va_rf x2), (3, .int x3), (7, .int x7)]) hx hb dX19_next_76 hl (by decide) rfl (fun ls hl => ?_)
  obtain ⟨y11, ey11⟩ : ∃ z : Int32, z = x7 + 1 := ⟨_, rfl⟩
  have h := mlet_at ey11 h
  refine lv_iinc (v := y11) (lv' := [(7, .int y11), (6, .int y10), (5, .int y9), (4, .int y8), (8, .int y1), (0, va_rf (some a0)), (2, va_rf x2), (3, .int x3)]) hx hb dX19_next_78 hl (k := 7) rfl (by rw [ey11]; rfl) (by decide) rfl (fun ls hl => ?_)
  refine lv_goto (tgt := 12) hx hb dX19_next_81 (by decide) ?_
  exact hk12 u5 x2 x3 y8 y9 y10 y11 h _ _ hP hS _ (lv_sub hl [5, 6, 7, 3, 2, 1, 0] rfl)
def f_X19_next_12 (N b : Nat) (g : uEnv) (a0 : Nat) : Nat → UH → Option Nat → Int32 → Int32 → Int32 → Int32 → Int32 → Option (Int32 × UH)
  | 0, _, _, _, _, _, _, _ => none
  | n + 1, u, x2, x3, x4, x5, x6, x7 =>
    (uGR u a0 17 0).bind fun o1 =>
    (o1).bind fun a2 =>
    (uGI u a2 3 3).bind fun y3 =>
    if y3 ≤ x7 then
    some (x4, u)
    else
    if x7 = x3 then
    (x2).bind fun a11 =>
    if uIs u a11 8 = true then
    ucall (f_X10_one N b g u a11) fun r15 u13 =>
    f_X19_next_45 N b g a0 (f_X19_next_12 N b g a0 n) u13 (some a11) x3 x4 x5 x6 x7 r15 (x6 - x6 / 5 * 5)
    else none
    else
    (x2).bind fun a6 =>
    if uIs u a6 8 = true then
    ucall (f_X10_each N b g u a6) fun r10 u8 =>
    f_X19_next_45 N b g a0 (f_X19_next_12 N b g a0 n) u8 (some a6) x3 x4 x5 x6 x7 r10 (x6 - x6 / 5 * 5)
    else none
set_option maxHeartbeats 4000000 in
set_option maxRecDepth 100000 in
theorem zz_X19_next_12 {G : uG} {a0 : Nat} {uf : UH} {r : Int32} (N : Nat) : ∀ (n : Nat) (u : UH) (x2 : Option Nat) (x3 : Int32) (x4 : Int32) (x5 : Int32) (x6 : Int32) (x7 : Int32), f_X19_next_12 N (ub G) (ug G) a0 n u x2 x3 x4 x5 x6 x7 = some (r, uf) → uf.1 = u.1 ∧ uf.2.1 = u.2.1 := by
  intro n
  induction n with
  | zero =>
    intro u x2 x3 x4 x5 x6 x7 h
    cases h
  | succ n ih =>
    intro u x2 x3 x4 x5 x6 x7 h
    unfold f_X19_next_12 at h
    obtain ⟨o1, ho1, h⟩ := mbind_n h
    obtain ⟨a2, ha2, hha2⟩ := mbind_n h
    subst ha2
    have h := hha2
    obtain ⟨y3, hy3, h⟩ := mbind_n h
    by_cases c4 : y3 ≤ x7
    · have h := mif_t c4 h
      obtain ⟨hr1, hr2⟩ := uret_n h
      subst hr2
      exact ⟨by omega, by omega⟩
    · have h := mif_f c4 h
      by_cases c5 : x7 = x3
      · have h := mif_t c5 h
        obtain ⟨a11, ha11, hha11⟩ := mbind_n h
        subst ha11
        have h := hha11
        obtain ⟨c12, h⟩ := mif_n h
        obtain ⟨r15, u13, c14, h⟩ := ucall_n h
        have zu13 := zz_X10_one N (ub G) (ug G) u a11 r15 u13 c14
        have hq := zz_X19_next_45 (G := G) (a0 := a0) N (f_X19_next_12 N (ub G) (ug G) a0 n) ih u13 (some a11) x3 x4 x5 x6 x7 r15 (x6 - x6 / 5 * 5) h
        exact ⟨by omega, by omega⟩
      · have h := mif_f c5 h
        obtain ⟨a6, ha6, hha6⟩ := mbind_n h
        subst ha6
        have h := hha6
        obtain ⟨c7, h⟩ := mif_n h
        obtain ⟨r10, u8, c9, h⟩ := ucall_n h
        have zu8 := zz_X10_each N (ub G) (ug G) u a6 r10 u8 c9
        have hq := zz_X19_next_45 (G := G) (a0 := a0) N (f_X19_next_12 N (ub G) (ug G) a0 n) ih u8 (some a6) x3 x4 x5 x6 x7 r10 (x6 - x6 / 5 * 5) h
        exact ⟨by omega, by omega⟩
set_option maxHeartbeats 4000000 in
set_option maxRecDepth 100000 in
theorem w_X19_next_12 {p : Program} {l : Launch} {e : Env} {R : Room} {s : State} {m : MethodId} {args : Array Value} {below : List Frame} {meth : Method} {c : Code} {G : uG} {a0 : Nat} {uf : UH} {r : Int32} (hC : uC p s m args meth c G RX19 cX19_next 9 (some .int)) (hR : 1 ≤ R.frames ∧ 21 ≤ R.locals) (N : Nat) : ∀ (n : Nat) (u : UH) (x2 : Option Nat) (x3 : Int32) (x4 : Int32) (x5 : Int32) (x6 : Int32) (x7 : Int32), f_X19_next_12 N (ub G) (ug G) a0 n u x2 x3 x4 x5 x6 x7 = some (r, uf) → ∀ (H : Heap) (locs : List Loc), uP G u H → va_S (uA G) s.heap H locs → ∀ ls : Array Slot, lv_has ls 9 [(0, va_rf (some a0)), (2, va_rf x2), (3, .int x3), (4, .int x4), (5, .int x5), (6, .int x6), (7, .int x7)] → W p l e R s m args below meth c H locs 0 0 (MQ below (uQi G r uf) args s 0 0 (uA G)) (F0 m 12 ls []) := by
  obtain ⟨⟨hx, hb, hml, hown, hts⟩, hKK⟩ := id hC
  intro n
  induction n with
  | zero =>
    intro u x2 x3 x4 x5 x6 x7 h
    cases h
  | succ n ih =>
    intro u x2 x3 x4 x5 x6 x7 h H locs hP hS ls hl
    unfold f_X19_next_12 at h
    refine lv_iload hx hb dX19_next_12 (lv_at hl 6 rfl) ?_
    refine u_aload_n (r := some a0) hx hb dX19_next_14 rfl (lv_at hl 0 rfl) ?_
    obtain ⟨o1, ho1, h⟩ := mbind_n h
    refine u_get hC hP (uGR_n ho1) rfl in_X19 (by decide) q1804 (fun _ h => h) dX19_next_15 ?_
    obtain ⟨a2, ha2, hha2⟩ := mbind_n h
    subst ha2
    have h := hha2
    obtain ⟨y3, hy3, h⟩ := mbind_n h
    refine u_getN hC hP (uGI_n hy3) rfl in_X4 (by decide) q296 (fun _ h => h) dX19_next_18 ?_
    refine lv_icmp_ge (tgt := 84) hx hb dX19_next_21 (by decide) (fun c4 => ?_) (fun c4 => ?_)
    · have h := mif_t c4 h
      refine lv_iload hx hb dX19_next_84 (lv_at hl 3 rfl) ?_
      obtain ⟨hr1, hr2⟩ := uret_n h
      subst hr1
      subst hr2
      exact u_iret hC hP hS dX19_next_86
    · have h := mif_f c4 h
      refine lv_iload hx hb dX19_next_24 (lv_at hl 5 rfl) ?_
      refine lv_iconst (v := 5) hx hb dX19_next_26 (by decide) ?_
      refine lv_irem hx hb dX19_next_27 (by decide) ?_
      refine lv_iload hx hb dX19_next_28 (lv_at hl 6 rfl) ?_
      refine lv_iload_n hx hb dX19_next_30 rfl (lv_at hl 2 rfl) ?_
      refine lv_icmp_ne (tgt := 41) hx hb dX19_next_31 (by decide) (fun c5 => ?_) (fun c5 => ?_)
      · have h := mif_f c5 h
        refine u_aload_n (r := x2) hx hb dX19_next_41 rfl (lv_at hl 1 rfl) ?_
        obtain ⟨a6, ha6, hha6⟩ := mbind_n h
        subst ha6
        have h := hha6
        obtain ⟨c7, h⟩ := mif_n h
        obtain ⟨r10, u8, c9, h⟩ := ucall_n h
        have zu8 := zz_X10_each N (ub G) (ug G) u a6 r10 u8 c9
        refine u_calli (va_runV (As := []) (rest := [.int (x6 - x6 / 5 * 5)]) hC.1 (met_X10_each l N G u a6 r10 u8 c9) (cwV 0 hts (lw_V q1798 q1799 q1800 q127 q1801) rfl rfl rfl (by decide +kernel) ⟨Nat.le_trans (Nat.le_of_ble_eq_true rfl) hR.1, Nat.le_trans (Nat.le_of_ble_eq_true rfl) hR.2⟩) ⟨uPc_blind, u_rcv hC hP c7 rfl, fun U hU hW => u_pre hC hP hS hU hW⟩ rfl rfl hl.1 rfl (lv_room (Nat.le_of_ble_eq_true rfl)) dX19_next_42 ⟨Nat.zero_le _, Nat.zero_le _⟩) hS (fun H locs hP hS => ?_)
        exact w_X19_next_45 hC hR N (f_X19_next_12 N (ub G) (ug G) a0 n) ih u8 (some a6) x3 x4 x5 x6 x7 r10 (x6 - x6 / 5 * 5) h hP hS (lv_sub hl [0, 1, 2, 3, 4, 5, 6] rfl)
      · have h := mif_t c5 h
        refine u_aload_n (r := x2) hx hb dX19_next_34 rfl (lv_at hl 1 rfl) ?_
        obtain ⟨a11, ha11, hha11⟩ := mbind_n h
        subst ha11
        have h := hha11
        obtain ⟨c12, h⟩ := mif_n h
        obtain ⟨r15, u13, c14, h⟩ := ucall_n h
        have zu13 := zz_X10_one N (ub G) (ug G) u a11 r15 u13 c14
        refine u_calli (va_runV (As := []) (rest := [.int (x6 - x6 / 5 * 5)]) hC.1 (met_X10_one l N G u a11 r15 u13 c14) (cwV 0 hts (lw_V q1794 q1795 q1796 q127 q1797) rfl rfl rfl (by decide +kernel) ⟨Nat.le_trans (Nat.le_of_ble_eq_true rfl) hR.1, Nat.le_trans (Nat.le_of_ble_eq_true rfl) hR.2⟩) ⟨uPc_blind, u_rcv hC hP c12 rfl, fun U hU hW => u_pre hC hP hS hU hW⟩ rfl rfl hl.1 rfl (lv_room (Nat.le_of_ble_eq_true rfl)) dX19_next_35 ⟨Nat.zero_le _, Nat.zero_le _⟩) hS (fun H locs hP hS => ?_)
        refine lv_goto (tgt := 45) hx hb dX19_next_38 (by decide) ?_
        exact w_X19_next_45 hC hR N (f_X19_next_12 N (ub G) (ug G) a0 n) ih u13 (some a11) x3 x4 x5 x6 x7 r15 (x6 - x6 / 5 * 5) h hP hS (lv_sub hl [0, 1, 2, 3, 4, 5, 6] rfl)
def f_X19_next (N b : Nat) (g : uEnv) (u : UH) (a0 : Nat) (x1 : Int32) (x2 : Option Nat) (x3 : Int32) : Option (Int32 × UH) :=
    f_X19_next_12 N b g a0 N u x2 x3 0 1 x1 0
set_option maxHeartbeats 4000000 in
set_option maxRecDepth 100000 in
theorem zz_X19_next_0 {G : uG} {a0 : Nat} {uf : UH} {r : Int32} (N : Nat) (u : UH) (x1 : Int32) (x2 : Option Nat) (x3 : Int32) (h : f_X19_next N (ub G) (ug G) u a0 x1 x2 x3 = some (r, uf)) : uf.1 = u.1 ∧ uf.2.1 = u.2.1 := by
  unfold f_X19_next at h
  have hq := zz_X19_next_12 (G := G) (a0 := a0) N N u x2 x3 0 1 x1 0 h
  exact ⟨by omega, by omega⟩
set_option maxHeartbeats 4000000 in
set_option maxRecDepth 100000 in
theorem w_X19_next_0 {p : Program} {l : Launch} {e : Env} {R : Room} {s : State} {m : MethodId} {args : Array Value} {below : List Frame} {meth : Method} {c : Code} {G : uG} {a0 : Nat} {uf : UH} {r : Int32} (hC : uC p s m args meth c G RX19 cX19_next 9 (some .int)) (hR : 1 ≤ R.frames ∧ 21 ≤ R.locals) (N : Nat) (u : UH) (x1 : Int32) (x2 : Option Nat) (x3 : Int32) (h : f_X19_next N (ub G) (ug G) u a0 x1 x2 x3 = some (r, uf)) {H : Heap} {locs : List Loc} (hP : uP G u H) (hS : va_S (uA G) s.heap H locs) {ls : Array Slot} (hl : lv_has ls 9 [(0, va_rf (some a0)), (1, .int x1), (2, va_rf x2), (3, .int x3)]) : W p l e R s m args below meth c H locs 0 0 (MQ below (uQi G r uf) args s 0 0 (uA G)) (F0 m 0 ls []) := by
  obtain ⟨⟨hx, hb, hml, hown, hts⟩, hKK⟩ := id hC
  unfold f_X19_next at h
  refine lv_iconst (v := 0) hx hb dX19_next_0 (by decide) ?_
  refine lv_istore (lv' := [(4, .int 0), (0, va_rf (some a0)), (1, .int x1), (2, va_rf x2), (3, .int x3)]) hx hb dX19_next_1 hl (by decide) rfl (fun ls hl => ?_)
  refine lv_iconst (v := 1) hx hb dX19_next_3 (by decide) ?_
  refine lv_istore (lv' := [(5, .int 1), (4, .int 0), (0, va_rf (some a0)), (1, .int x1), (2, va_rf x2), (3, .int x3)]) hx hb dX19_next_4 hl (by decide) rfl (fun ls hl => ?_)
  refine lv_iload_n hx hb dX19_next_6 rfl (lv_at hl 3 rfl) ?_
  refine lv_istore (lv' := [(6, .int x1), (5, .int 1), (4, .int 0), (0, va_rf (some a0)), (1, .int x1), (2, va_rf x2), (3, .int x3)]) hx hb dX19_next_7 hl (by decide) rfl (fun ls hl => ?_)
  refine lv_iconst (v := 0) hx hb dX19_next_9 (by decide) ?_
  refine lv_istore (lv' := [(7, .int 0), (6, .int x1), (5, .int 1), (4, .int 0), (0, va_rf (some a0)), (1, .int x1), (2, va_rf x2), (3, .int x3)]) hx hb dX19_next_10 hl (by decide) rfl (fun ls hl => ?_)
  exact w_X19_next_12 hC hR N N u x2 x3 0 1 x1 0 h _ _ hP hS _ (lv_sub hl [4, 6, 7, 3, 2, 1, 0] rfl)
theorem zz_X19_next (N b : Nat) (g : uEnv) (u : UH) (a0 : Nat) (x1 : Int32) (x2 : Option Nat) (x3 : Int32) (r : Int32) (uf : UH) (h : f_X19_next N b g u a0 x1 x2 x3 = some (r, uf)) : uf.1 = u.1 ∧ uf.2.1 = u.2.1 :=
  zz_X19_next_0 (G := ((fun _ => 0, fun _ _ => 0), fun _ => 0, b, g)) (a0 := a0) N u x1 x2 x3 h
theorem met_X19_next (l : Launch) (N : Nat) (G : uG) (u : UH) (a0 : Nat) (x1 : Int32) (x2 : Option Nat) (x3 : Int32) (r : Int32) (uf : UH) (h : f_X19_next N (ub G) (ug G) u a0 x1 x2 x3 = some (r, uf)) : Met l yX19_next (ws_ yX19_next cX19_next 9 (some .int)) ({ frames := 1, cells := 0, slots := 0, locals := 21 }) (uPc G u [.ref a0, .int x1, va_rf x2, .int x3]) (uQi G r uf) 0 0 (uA G) := by
  rcases x2 with _ | x2 <;> exact u_met (own := RX19) (by decide +kernel) rfl (Nat.le_of_ble_eq_true rfl) (fun hC hn hsz ls hl hP => w_X19_next_0 hC ⟨Nat.le_refl _, Nat.le_refl _⟩ N u x1 _ x3 h hP va_S.rf hl)
def f_X19_lowers_101 (N b : Nat) (g : uEnv) (a0 : Nat) (k4 : UH → Int32 → Int32 → Option (Int32 × UH)) (k24 : UH → Int32 → Int32 → Int64 → Int32 → Option (Int32 × UH)) (u : UH) (x1 : Int32) (x2 : Int32) (x3 : Int64) (x5 : Int32) : Option (Int32 × UH) :=
    mlet (x5 + 1) fun y1 =>
    k24 u x1 x2 x3 y1
set_option maxHeartbeats 4000000 in
set_option maxRecDepth 100000 in
theorem zz_X19_lowers_101 {G : uG} {a0 : Nat} {uf : UH} {r : Int32} (N : Nat) (k4 : UH → Int32 → Int32 → Option (Int32 × UH)) (hk4 : ∀ (u : UH) (x1 : Int32) (x2 : Int32), k4 u x1 x2 = some (r, uf) → uf.1 = u.1 ∧ uf.2.1 = u.2.1) (k24 : UH → Int32 → Int32 → Int64 → Int32 → Option (Int32 × UH)) (hk24 : ∀ (u : UH) (x1 : Int32) (x2 : Int32) (x3 : Int64) (x5 : Int32), k24 u x1 x2 x3 x5 = some (r, uf) → uf.1 = u.1 ∧ uf.2.1 = u.2.1) (u : UH) (x1 : Int32) (x2 : Int32) (x3 : Int64) (x5 : Int32) (h : f_X19_lowers_101 N (ub G) (ug G) a0 k4 k24 u x1 x2 x3 x5 = some (r, uf)) : uf.1 = u.1 ∧ uf.2.1 = u.2.1 := by
  unfold f_X19_lowers_101 at h
  obtain ⟨y1, ey1⟩ : ∃ z : Int32, z = x5 + 1 := ⟨_, rfl⟩
  have h := mlet_at ey1 h
  have hq := hk24 u x1 x2 x3 y1 h
  exact ⟨by omega, by omega⟩
set_option maxHeartbeats 4000000 in
set_option maxRecDepth 100000 in
theorem w_X19_lowers_101 {p : Program} {l : Launch} {e : Env} {R : Room} {s : State} {m : MethodId} {args : Array Value} {below : List Frame} {meth : Method} {c : Code} {G : uG} {a0 : Nat} {uf : UH} {r : Int32} (hC : uC p s m args meth c G RX19 cX19_lowers 8 (some .boolean)) (hR : 4 ≤ R.frames ∧ 85 ≤ R.locals) (N : Nat) (k4 : UH → Int32 → Int32 → Option (Int32 × UH)) (hk4 : ∀ (u : UH) (x1 : Int32) (x2 : Int32), k4 u x1 x2 = some (r, uf) → ∀ (H : Heap) (locs : List Loc), uP G u H → va_S (uA G) s.heap H locs → ∀ ls : Array Slot, lv_has ls 8 [(0, va_rf (some a0)), (1, .int x1), (2, .int x2)] → W p l e R s m args below meth c H locs 0 0 (MQ below (uQi G r uf) args s 0 0 (uA G)) (F0 m 4 ls [])) (k24 : UH → Int32 → Int32 → Int64 → Int32 → Option (Int32 × UH)) (hk24 : ∀ (u : UH) (x1 : Int32) (x2 : Int32) (x3 : Int64) (x5 : Int32), k24 u x1 x2 x3 x5 = some (r, uf) → ∀ (H : Heap) (locs : List Loc), uP G u H → va_S (uA G) s.heap H locs → ∀ ls : Array Slot, lv_has ls 8 [(0, va_rf (some a0)), (1, .int x1), (2, .int x2), (3, .long x3), (5, .int x5)] → W p l e R s m args below meth c H locs 0 0 (MQ below (uQi G r uf) args s 0 0 (uA G)) (F0 m 24 ls [])) (u : UH) (x1 : Int32) (x2 : Int32) (x3 : Int64) (x5 : Int32) (h : f_X19_lowers_101 N (ub G) (ug G) a0 k4 k24 u x1 x2 x3 x5 = some (r, uf)) {H : Heap} {locs : List Loc} (hP : uP G u H) (hS : va_S (uA G) s.heap H locs) {ls : Array Slot} (hl : lv_has ls 8 [(0, va_rf (some a0)), (1, .int x1), (2, .int x2), (3, .long x3), (5, .int x5)]) : W p l e R s m args below meth c H locs 0 0 (MQ below (uQi G r uf) args s 0 0 (uA G)) (F0 m 101 ls []) := by
  obtain ⟨⟨hx, hb, hml, hown, hts⟩, hKK⟩ := id hC
  unfold f_X19_lowers_101 at h
  obtain ⟨y1, ey1⟩ : ∃ z : Int32, z = x5 + 1 := ⟨_, rfl⟩
  have h := mlet_at ey1 h
  refine lv_iinc (v := y1) (lv' := [(5, .int y1), (0, va_rf (some a0)), (1, .int x1), (2, .int x2), (3, .long x3)]) hx hb dX19_lowers_101 hl (k := 4) rfl (by rw [ey1]; rfl) (by decide) rfl (fun ls hl => ?_)
  refine lv_goto (tgt := 24) hx hb dX19_lowers_104 (by decide) ?_
  exact hk24 u x1 x2 x3 y1 h _ _ hP hS _ (lv_sub hl [1, 2, 3, 4, 0] rfl)
def f_X19_lowers_24 (N b : Nat) (g : uEnv) (a0 : Nat) (k4 : UH → Int32 → Int32 → Option (Int32 × UH)) : Nat → UH → Int32 → Int32 → Int64 → Int32 → Option (Int32 × UH)
  | 0, _, _, _, _, _ => none
  | n + 1, u, x1, x2, x3, x5 =>
    (uGR u a0 17 1).bind fun o1 =>
    (o1).bind fun a2 =>
    (uLen u a2 3).bind fun y3 =>
    if y3 ≤ x5 then
    mlet (x2 + 1) fun y5 =>
    k4 u x1 y5
    else
    (uGR u a0 17 1).bind fun o6 =>
    if uIs u a0 17 = true then
    ucall (f_X19_attempt N b g u a0 x2) fun o10 u8 =>
    (uGR u8 a0 17 0).bind fun o11 =>
    (o11).bind fun a12 =>
    (uGI u8 a12 3 3).bind fun y13 =>
    if ¬ y13 = 0 then
    if uIs u8 a0 17 = true then
    ucall (f_X19_next N b g u8 a0 x5 o10 (x2 - x2 / y13 * y13)) fun r18 u16 =>
    (o6).bind fun a19 =>
    (uLdL u16 a19 3 r18).bind fun y20 =>
    if (lg_cmp y20 1152921504606846976) = 0 then
    f_X19_lowers_101 N b g a0 k4 (f_X19_lowers_24 N b g a0 k4 n) u16 x1 x2 x3 x5
    else
    (uGR u16 a0 17 1).bind fun o22 =>
    (o22).bind fun a23 =>
    (uLdL u16 a23 3 x5).bind fun y24 =>
    if (lg_cmp (y20 + x3) y24) < 0 then
    (uGR u16 a0 17 1).bind fun o26 =>
    (o26).bind fun a27 =>
    (uStL b u16 a27 3 x5 (y20 + x3)).bind fun u28 =>
    f_X19_lowers_101 N b g a0 k4 (f_X19_lowers_24 N b g a0 k4 n) u28 1 x2 x3 x5
    else
    f_X19_lowers_101 N b g a0 k4 (f_X19_lowers_24 N b g a0 k4 n) u16 x1 x2 x3 x5
    else none
    else none
    else none
set_option maxHeartbeats 4000000 in
set_option maxRecDepth 100000 in
theorem zz_X19_lowers_24 {G : uG} {a0 : Nat} {uf : UH} {r : Int32} (N : Nat) (k4 : UH → Int32 → Int32 → Option (Int32 × UH)) (hk4 : ∀ (u : UH) (x1 : Int32) (x2 : Int32), k4 u x1 x2 = some (r, uf) → uf.1 = u.1 ∧ uf.2.1 = u.2.1) : ∀ (n : Nat) (u : UH) (x1 : Int32) (x2 : Int32) (x3 : Int64) (x5 : Int32), f_X19_lowers_24 N (ub G) (ug G) a0 k4 n u x1 x2 x3 x5 = some (r, uf) → uf.1 = u.1 ∧ uf.2.1 = u.2.1 := by
  intro n
  induction n with
  | zero =>
    intro u x1 x2 x3 x5 h
    cases h
  | succ n ih =>
    intro u x1 x2 x3 x5 h
    unfold f_X19_lowers_24 at h
    obtain ⟨o1, ho1, h⟩ := mbind_n h
    obtain ⟨a2, ha2, hha2⟩ := mbind_n h
    subst ha2
    have h := hha2
    obtain ⟨y3, hy3, h⟩ := mbind_n h
    by_cases c4 : y3 ≤ x5
    · have h := mif_t c4 h
      obtain ⟨y5, ey5⟩ : ∃ z : Int32, z = x2 + 1 := ⟨_, rfl⟩
      have h := mlet_at ey5 h
      have hq := hk4 u x1 y5 h
      exact ⟨by omega, by omega⟩
    · have h := mif_f c4 h
      obtain ⟨o6, ho6, h⟩ := mbind_n h
      obtain ⟨c7, h⟩ := mif_n h
      obtain ⟨o10, u8, c9, h⟩ := ucall_n h
      have zu8 := zz_X19_attempt N (ub G) (ug G) u a0 x2 o10 u8 c9
      obtain ⟨o11, ho11, h⟩ := mbind_n h
      obtain ⟨a12, ha12, hha12⟩ := mbind_n h
      subst ha12
      have h := hha12
      obtain ⟨y13, hy13, h⟩ := mbind_n h
      obtain ⟨c14, h⟩ := mif_n h
      obtain ⟨c15, h⟩ := mif_n h
      obtain ⟨r18, u16, c17, h⟩ := ucall_n h
      have zu16 := zz_X19_next N (ub G) (ug G) u8 a0 x5 o10 (x2 - x2 / y13 * y13) r18 u16 c17
      obtain ⟨a19, ha19, hha19⟩ := mbind_n h
      subst ha19
      have h := hha19
      obtain ⟨y20, hy20, h⟩ := mbind_n h
      by_cases c21 : (lg_cmp y20 1152921504606846976) = 0
      · have h := mif_t c21 h
        have hq := zz_X19_lowers_101 (G := G) (a0 := a0) N k4 hk4 (f_X19_lowers_24 N (ub G) (ug G) a0 k4 n) ih u16 x1 x2 x3 x5 h
        exact ⟨by omega, by omega⟩
      · have h := mif_f c21 h
        obtain ⟨o22, ho22, h⟩ := mbind_n h
        obtain ⟨a23, ha23, hha23⟩ := mbind_n h
        subst ha23
        have h := hha23
        obtain ⟨y24, hy24, h⟩ := mbind_n h
        by_cases c25 : (lg_cmp (y20 + x3) y24) < 0
        · have h := mif_t c25 h
          obtain ⟨o26, ho26, h⟩ := mbind_n h
          obtain ⟨a27, ha27, hha27⟩ := mbind_n h
          subst ha27
          have h := hha27
          obtain ⟨u28, hu28, h⟩ := mbind_n h
          have zu28 := uStL_sz hu28
          have hq := zz_X19_lowers_101 (G := G) (a0 := a0) N k4 hk4 (f_X19_lowers_24 N (ub G) (ug G) a0 k4 n) ih u28 1 x2 x3 x5 h
          exact ⟨by omega, by omega⟩
        · have h := mif_f c25 h
          have hq := zz_X19_lowers_101 (G := G) (a0 := a0) N k4 hk4 (f_X19_lowers_24 N (ub G) (ug G) a0 k4 n) ih u16 x1 x2 x3 x5 h
          exact ⟨by omega, by omega⟩
set_option maxHeartbeats 4000000 in
set_option maxRecDepth 100000 in
theorem w_X19_lowers_24 {p : Program} {l : Launch} {e : Env} {R : Room} {s : State} {m : MethodId} {args : Array Value} {below : List Frame} {meth : Method} {c : Code} {G : uG} {a0 : Nat} {uf : UH} {r : Int32} (hC : uC p s m args meth c G RX19 cX19_lowers 8 (some .boolean)) (hR : 4 ≤ R.frames ∧ 85 ≤ R.locals) (N : Nat) (k4 : UH → Int32 → Int32 → Option (Int32 × UH)) (hk4 : ∀ (u : UH) (x1 : Int32) (x2 : Int32), k4 u x1 x2 = some (r, uf) → ∀ (H : Heap) (locs : List Loc), uP G u H → va_S (uA G) s.heap H locs → ∀ ls : Array Slot, lv_has ls 8 [(0, va_rf (some a0)), (1, .int x1), (2, .int x2)] → W p l e R s m args below meth c H locs 0 0 (MQ below (uQi G r uf) args s 0 0 (uA G)) (F0 m 4 ls [])) : ∀ (n : Nat) (u : UH) (x1 : Int32) (x2 : Int32) (x3 : Int64) (x5 : Int32), f_X19_lowers_24 N (ub G) (ug G) a0 k4 n u x1 x2 x3 x5 = some (r, uf) → ∀ (H : Heap) (locs : List Loc), uP G u H → va_S (uA G) s.heap H locs → ∀ ls : Array Slot, lv_has ls 8 [(0, va_rf (some a0)), (1, .int x1), (2, .int x2), (3, .long x3), (5, .int x5)] → W p l e R s m args below meth c H locs 0 0 (MQ below (uQi G r uf) args s 0 0 (uA G)) (F0 m 24 ls []) := by
  obtain ⟨⟨hx, hb, hml, hown, hts⟩, hKK⟩ := id hC
  intro n
  induction n with
  | zero =>
    intro u x1 x2 x3 x5 h
    cases h
  | succ n ih =>
    intro u x1 x2 x3 x5 h H locs hP hS ls hl
    unfold f_X19_lowers_24 at h
    refine lv_iload hx hb dX19_lowers_24 (lv_at hl 4 rfl) ?_
    refine u_aload_n (r := some a0) hx hb dX19_lowers_26 rfl (lv_at hl 0 rfl) ?_
    obtain ⟨o1, ho1, h⟩ := mbind_n h
    refine u_get hC hP (uGR_n ho1) rfl in_X19 (by decide) q1806 (fun _ h => h) dX19_lowers_27 ?_
    obtain ⟨a2, ha2, hha2⟩ := mbind_n h
    subst ha2
    have h := hha2
    obtain ⟨y3, hy3, h⟩ := mbind_n h
    refine u_alen hC hP hy3 dX19_lowers_30 ?_
    refine lv_icmp_ge (tgt := 107) hx hb dX19_lowers_31 (by decide) (fun c4 => ?_) (fun c4 => ?_)
    · have h := mif_t c4 h
      obtain ⟨y5, ey5⟩ : ∃ z : Int32, z = x2 + 1 := ⟨_, rfl⟩
      have h := mlet_at ey5 h
      refine lv_iinc (v := y5) (lv' := [(2, .int y5), (0, va_rf (some a0)), (1, .int x1), (3, .long x3), (5, .int x5)]) hx hb dX19_lowers_107 hl (k := 2) rfl (by rw [ey5]; rfl) (by decide) rfl (fun ls hl => ?_)
      refine lv_goto (tgt := 4) hx hb dX19_lowers_110 (by decide) ?_
      exact hk4 u x1 y5 h _ _ hP hS _ (lv_sub hl [1, 2, 0] rfl)
    · have h := mif_f c4 h
      refine u_aload_n (r := some a0) hx hb dX19_lowers_34 rfl (lv_at hl 0 rfl) ?_
      obtain ⟨o6, ho6, h⟩ := mbind_n h
      refine u_get hC hP (uGR_n ho6) rfl in_X19 (by decide) q1806 (fun _ h => h) dX19_lowers_35 ?_
      refine u_aload_n (r := some a0) hx hb dX19_lowers_38 rfl (lv_at hl 0 rfl) ?_
      refine lv_iload hx hb dX19_lowers_39 (lv_at hl 4 rfl) ?_
      refine u_aload_n (r := some a0) hx hb dX19_lowers_41 rfl (lv_at hl 0 rfl) ?_
      refine lv_iload_n hx hb dX19_lowers_42 rfl (lv_at hl 2 rfl) ?_
      obtain ⟨c7, h⟩ := mif_n h
      obtain ⟨o10, u8, c9, h⟩ := ucall_n h
      have zu8 := zz_X19_attempt N (ub G) (ug G) u a0 x2 o10 u8 c9
      refine u_callr (va_runV (As := [.int x2]) (rest := [.int x5, va_rf (some a0), va_rf o6]) hC.1 (met_X19_attempt l N G u a0 x2 o10 u8 c9) (cwV 1 hts (lw_V q1777 q1778 q1779 q141 q1780) rfl rfl rfl (by decide +kernel) ⟨Nat.le_trans (Nat.le_of_ble_eq_true rfl) hR.1, Nat.le_trans (Nat.le_of_ble_eq_true rfl) hR.2⟩) ⟨uPc_blind, u_rcv hC hP c7 rfl, fun U hU hW => u_pre hC hP hS hU hW⟩ rfl rfl hl.1 rfl (lv_room (by simp only [List.map, u_cat]; exact Nat.le_of_ble_eq_true rfl)) dX19_lowers_43 ⟨Nat.zero_le _, Nat.zero_le _⟩) hS (fun H locs hP hS => ?_)
      refine lv_iload_n hx hb dX19_lowers_46 rfl (lv_at hl 2 rfl) ?_
      refine u_aload_n (r := some a0) hx hb dX19_lowers_47 rfl (lv_at hl 0 rfl) ?_
      obtain ⟨o11, ho11, h⟩ := mbind_n h
      refine u_get hC hP (uGR_n ho11) rfl in_X19 (by decide) q1804 (fun _ h => h) dX19_lowers_48 ?_
      obtain ⟨a12, ha12, hha12⟩ := mbind_n h
      subst ha12
      have h := hha12
      obtain ⟨y13, hy13, h⟩ := mbind_n h
      refine u_getN hC hP (uGI_n hy13) rfl in_X4 (by decide) q296 (fun _ h => h) dX19_lowers_51 ?_
      obtain ⟨c14, h⟩ := mif_n h
      refine lv_irem hx hb dX19_lowers_54 c14 ?_
      obtain ⟨c15, h⟩ := mif_n h
      obtain ⟨r18, u16, c17, h⟩ := ucall_n h
      have zu16 := zz_X19_next N (ub G) (ug G) u8 a0 x5 o10 (x2 - x2 / y13 * y13) r18 u16 c17
      refine u_calli (va_runV (As := [.int x5, va_rf o10, .int (x2 - x2 / y13 * y13)]) (rest := [va_rf o6]) hC.1 (met_X19_next l N G u8 a0 x5 o10 (x2 - x2 / y13 * y13) r18 u16 c17) (cwV 3 hts (lw_V q1790 q1791 q1792 q141 q1793) rfl rfl rfl (by decide +kernel) ⟨Nat.le_trans (Nat.le_of_ble_eq_true rfl) hR.1, Nat.le_trans (Nat.le_of_ble_eq_true rfl) hR.2⟩) ⟨uPc_blind, u_rcv hC hP c15 rfl, fun U hU hW => u_pre hC hP hS hU hW⟩ rfl rfl hl.1 rfl (lv_room (by simp only [List.map, u_cat]; exact Nat.le_of_ble_eq_true rfl)) dX19_lowers_55 ⟨Nat.zero_le _, Nat.zero_le _⟩) hS (fun H locs hP hS => ?_)
      obtain ⟨a19, ha19, hha19⟩ := mbind_n h
      subst ha19
      have h := hha19
      obtain ⟨y20, hy20, h⟩ := mbind_n h
      refine u_lald hC hP hy20 rfl dX19_lowers_58 ?_
      refine lv_lstore (lv' := [(6, .long y20), (0, va_rf (some a0)), (1, .int x1), (2, .int x2), (3, .long x3), (5, .int x5)]) hx hb dX19_lowers_59 hl (by decide) rfl (fun ls hl => ?_)
      refine lv_lload hx hb dX19_lowers_61 (lv_at hl 0 rfl) ?_
      refine lv_ldc2 hx hb hown (hts _ q1764) dX19_lowers_63 ?_
      refine W.lcmp hx hb dX19_lowers_66 ?_
      refine lv_if_eq (tgt := 101) hx hb dX19_lowers_67 (by decide) (fun c21 => ?_) (fun c21 => ?_)
      · have h := mif_t c21 h
        exact w_X19_lowers_101 hC hR N k4 hk4 (f_X19_lowers_24 N (ub G) (ug G) a0 k4 n) ih u16 x1 x2 x3 x5 h hP hS (lv_sub hl [1, 2, 3, 4, 5] rfl)
      · have h := mif_f c21 h
        refine lv_lload hx hb dX19_lowers_70 (lv_at hl 0 rfl) ?_
        refine lv_lload_n hx hb dX19_lowers_72 rfl (lv_at hl 4 rfl) ?_
        refine lv_ladd hx hb dX19_lowers_73 ?_
        refine u_aload_n (r := some a0) hx hb dX19_lowers_74 rfl (lv_at hl 1 rfl) ?_
        obtain ⟨o22, ho22, h⟩ := mbind_n h
        refine u_get hC hP (uGR_n ho22) rfl in_X19 (by decide) q1806 (fun _ h => h) dX19_lowers_75 ?_
        refine lv_iload hx hb dX19_lowers_78 (lv_at hl 5 rfl) ?_
        obtain ⟨a23, ha23, hha23⟩ := mbind_n h
        subst ha23
        have h := hha23
        obtain ⟨y24, hy24, h⟩ := mbind_n h
        refine u_lald hC hP hy24 rfl dX19_lowers_80 ?_
        refine W.lcmp hx hb dX19_lowers_81 ?_
        refine lv_if_lt (tgt := 88) hx hb dX19_lowers_82 (by decide) (fun c25 => ?_) (fun c25 => ?_)
        · have h := mif_t c25 h
          refine u_aload_n (r := some a0) hx hb dX19_lowers_88 rfl (lv_at hl 1 rfl) ?_
          obtain ⟨o26, ho26, h⟩ := mbind_n h
          refine u_get hC hP (uGR_n ho26) rfl in_X19 (by decide) q1806 (fun _ h => h) dX19_lowers_89 ?_
          refine lv_iload hx hb dX19_lowers_92 (lv_at hl 5 rfl) ?_
          refine lv_lload hx hb dX19_lowers_94 (lv_at hl 0 rfl) ?_
          refine lv_lload_n hx hb dX19_lowers_96 rfl (lv_at hl 4 rfl) ?_
          refine lv_ladd hx hb dX19_lowers_97 ?_
          obtain ⟨a27, ha27, hha27⟩ := mbind_n h
          subst ha27
          have h := hha27
          obtain ⟨u28, hu28, h⟩ := mbind_n h
          have zu28 := uStL_sz hu28
          refine u_last hC hP hS hu28 rfl dX19_lowers_98 (fun H locs hP hS => ?_)
          refine lv_iconst (v := 1) hx hb dX19_lowers_99 (by decide) ?_
          refine lv_istore_n (lv' := [(1, .int 1), (6, .long y20), (0, va_rf (some a0)), (2, .int x2), (3, .long x3), (5, .int x5)]) hx hb dX19_lowers_100 rfl hl (by decide) rfl (fun ls hl => ?_)
          exact w_X19_lowers_101 hC hR N k4 hk4 (f_X19_lowers_24 N (ub G) (ug G) a0 k4 n) ih u28 1 x2 x3 x5 h hP hS (lv_sub hl [2, 0, 3, 4, 5] rfl)
        · have h := mif_f c25 h
          refine lv_goto (tgt := 101) hx hb dX19_lowers_85 (by decide) ?_
          exact w_X19_lowers_101 hC hR N k4 hk4 (f_X19_lowers_24 N (ub G) (ug G) a0 k4 n) ih u16 x1 x2 x3 x5 h hP hS (lv_sub hl [1, 2, 3, 4, 5] rfl)
def f_X19_lowers_4 (N b : Nat) (g : uEnv) (a0 : Nat) : Nat → UH → Int32 → Int32 → Option (Int32 × UH)
  | 0, _, _, _ => none
  | n + 1, u, x1, x2 =>
    if uIs u a0 17 = true then
    ucall (f_X19_many N b g u a0) fun r4 u2 =>
    if r4 ≤ x2 then
    if uFit .boolean x1 = true then
    some (x1, u2)
    else none
    else
    if uIs u2 a0 17 = true then
    ucall (f_X19_attempt N b g u2 a0 x2) fun o10 u8 =>
    ucall (f_X19_cost N b g u8 o10) fun r13 u11 =>
    f_X19_lowers_24 N b g a0 (f_X19_lowers_4 N b g a0 n) N u11 x1 x2 r13 1
    else none
    else none
set_option maxHeartbeats 4000000 in
set_option maxRecDepth 100000 in
theorem zz_X19_lowers_4 {G : uG} {a0 : Nat} {uf : UH} {r : Int32} (N : Nat) : ∀ (n : Nat) (u : UH) (x1 : Int32) (x2 : Int32), f_X19_lowers_4 N (ub G) (ug G) a0 n u x1 x2 = some (r, uf) → uf.1 = u.1 ∧ uf.2.1 = u.2.1 := by
  intro n
  induction n with
  | zero =>
    intro u x1 x2 h
    cases h
  | succ n ih =>
    intro u x1 x2 h
    unfold f_X19_lowers_4 at h
    obtain ⟨c1, h⟩ := mif_n h
    obtain ⟨r4, u2, c3, h⟩ := ucall_n h
    have zu2 := zz_X19_many N (ub G) (ug G) u a0 r4 u2 c3
    by_cases c5 : r4 ≤ x2
    · have h := mif_t c5 h
      obtain ⟨c6, h⟩ := mif_n h
      obtain ⟨hr1, hr2⟩ := uret_n h
      subst hr2
      exact ⟨by omega, by omega⟩
    · have h := mif_f c5 h
      obtain ⟨c7, h⟩ := mif_n h
      obtain ⟨o10, u8, c9, h⟩ := ucall_n h
      have zu8 := zz_X19_attempt N (ub G) (ug G) u2 a0 x2 o10 u8 c9
      obtain ⟨r13, u11, c12, h⟩ := ucall_n h
      have zu11 := zz_X19_cost N (ub G) (ug G) u8 o10 r13 u11 c12
      have hq := zz_X19_lowers_24 (G := G) (a0 := a0) N (f_X19_lowers_4 N (ub G) (ug G) a0 n) ih N u11 x1 x2 r13 1 h
      exact ⟨by omega, by omega⟩
set_option maxHeartbeats 4000000 in
set_option maxRecDepth 100000 in
theorem w_X19_lowers_4 {p : Program} {l : Launch} {e : Env} {R : Room} {s : State} {m : MethodId} {args : Array Value} {below : List Frame} {meth : Method} {c : Code} {G : uG} {a0 : Nat} {uf : UH} {r : Int32} (hC : uC p s m args meth c G RX19 cX19_lowers 8 (some .boolean)) (hR : 4 ≤ R.frames ∧ 85 ≤ R.locals) (N : Nat) : ∀ (n : Nat) (u : UH) (x1 : Int32) (x2 : Int32), f_X19_lowers_4 N (ub G) (ug G) a0 n u x1 x2 = some (r, uf) → ∀ (H : Heap) (locs : List Loc), uP G u H → va_S (uA G) s.heap H locs → ∀ ls : Array Slot, lv_has ls 8 [(0, va_rf (some a0)), (1, .int x1), (2, .int x2)] → W p l e R s m args below meth c H locs 0 0 (MQ below (uQi G r uf) args s 0 0 (uA G)) (F0 m 4 ls []) := by
  obtain ⟨⟨hx, hb, hml, hown, hts⟩, hKK⟩ := id hC
  intro n
  induction n with
  | zero =>
    intro u x1 x2 h
    cases h
  | succ n ih =>
    intro u x1 x2 h H locs hP hS ls hl
    unfold f_X19_lowers_4 at h
    refine lv_iload_n hx hb dX19_lowers_4 rfl (lv_at hl 2 rfl) ?_
    refine u_aload_n (r := some a0) hx hb dX19_lowers_5 rfl (lv_at hl 0 rfl) ?_
    obtain ⟨c1, h⟩ := mif_n h
    obtain ⟨r4, u2, c3, h⟩ := ucall_n h
    have zu2 := zz_X19_many N (ub G) (ug G) u a0 r4 u2 c3
    refine u_calli (va_runV (As := []) (rest := [.int x2]) hC.1 (met_X19_many l N G u a0 r4 u2 c3) (cwV 0 hts (lw_V q1772 q1773 q1774 q141 q1775) rfl rfl rfl (by decide +kernel) ⟨Nat.le_trans (Nat.le_of_ble_eq_true rfl) hR.1, Nat.le_trans (Nat.le_of_ble_eq_true rfl) hR.2⟩) ⟨uPc_blind, u_rcv hC hP c1 rfl, fun U hU hW => u_pre hC hP hS hU hW⟩ rfl rfl hl.1 rfl (lv_room (Nat.le_of_ble_eq_true rfl)) dX19_lowers_6 ⟨Nat.zero_le _, Nat.zero_le _⟩) hS (fun H locs hP hS => ?_)
    refine lv_icmp_ge (tgt := 113) hx hb dX19_lowers_9 (by decide) (fun c5 => ?_) (fun c5 => ?_)
    · have h := mif_t c5 h
      refine lv_iload_n hx hb dX19_lowers_113 rfl (lv_at hl 1 rfl) ?_
      obtain ⟨c6, h⟩ := mif_n h
      obtain ⟨hr1, hr2⟩ := uret_n h
      subst hr1
      subst hr2
      exact u_zret hC (uFit_n c6).1 hP hS dX19_lowers_114
    · have h := mif_f c5 h
      refine u_aload_n (r := some a0) hx hb dX19_lowers_12 rfl (lv_at hl 0 rfl) ?_
      refine lv_iload_n hx hb dX19_lowers_13 rfl (lv_at hl 2 rfl) ?_
      obtain ⟨c7, h⟩ := mif_n h
      obtain ⟨o10, u8, c9, h⟩ := ucall_n h
      have zu8 := zz_X19_attempt N (ub G) (ug G) u2 a0 x2 o10 u8 c9
      refine u_callr (va_runV (As := [.int x2]) (rest := []) hC.1 (met_X19_attempt l N G u2 a0 x2 o10 u8 c9) (cwV 1 hts (lw_V q1777 q1778 q1779 q141 q1780) rfl rfl rfl (by decide +kernel) ⟨Nat.le_trans (Nat.le_of_ble_eq_true rfl) hR.1, Nat.le_trans (Nat.le_of_ble_eq_true rfl) hR.2⟩) ⟨uPc_blind, u_rcv hC hP c7 rfl, fun U hU hW => u_pre hC hP hS hU hW⟩ rfl rfl hl.1 rfl (lv_room (Nat.le_of_ble_eq_true rfl)) dX19_lowers_14 ⟨Nat.zero_le _, Nat.zero_le _⟩) hS (fun H locs hP hS => ?_)
      obtain ⟨r13, u11, c12, h⟩ := ucall_n h
      have zu11 := zz_X19_cost N (ub G) (ug G) u8 o10 r13 u11 c12
      refine u_calll (va_runS (As := [va_rf o10]) (rest := []) hC.1 (met_X19_cost l N G u8 o10 r13 u11 c12) (va_cwS 1 hts (lw_S q1783 q1784 q141 q1785) rfl rfl rfl (by decide +kernel) ⟨Nat.le_trans (Nat.le_of_ble_eq_true rfl) hR.1, Nat.le_trans (Nat.le_of_ble_eq_true rfl) hR.2⟩) ⟨uPc_blind, fun U hU hW => u_pre hC hP hS hU hW⟩ rfl rfl hl.1 rfl (lv_room (Nat.le_of_ble_eq_true rfl)) dX19_lowers_17 ⟨Nat.zero_le _, Nat.zero_le _⟩) hS (fun H locs hP hS => ?_)
      refine lv_lstore_n (lv' := [(3, .long r13), (0, va_rf (some a0)), (1, .int x1), (2, .int x2)]) hx hb dX19_lowers_20 rfl hl (by decide) rfl (fun ls hl => ?_)
      refine lv_iconst (v := 1) hx hb dX19_lowers_21 (by decide) ?_
      refine lv_istore (lv' := [(5, .int 1), (3, .long r13), (0, va_rf (some a0)), (1, .int x1), (2, .int x2)]) hx hb dX19_lowers_22 hl (by decide) rfl (fun ls hl => ?_)
      exact w_X19_lowers_24 hC hR N (f_X19_lowers_4 N (ub G) (ug G) a0 n) ih N u11 x1 x2 r13 1 h _ _ hP hS _ (lv_sub hl [2, 3, 4, 1, 0] rfl)
def f_X19_lowers (N b : Nat) (g : uEnv) (u : UH) (a0 : Nat) : Option (Int32 × UH) :=
    f_X19_lowers_4 N b g a0 N u 0 0
set_option maxHeartbeats 4000000 in
set_option maxRecDepth 100000 in
theorem zz_X19_lowers_0 {G : uG} {a0 : Nat} {uf : UH} {r : Int32} (N : Nat) (u : UH) (h : f_X19_lowers N (ub G) (ug G) u a0 = some (r, uf)) : uf.1 = u.1 ∧ uf.2.1 = u.2.1 := by
  unfold f_X19_lowers at h
  have hq := zz_X19_lowers_4 (G := G) (a0 := a0) N N u 0 0 h
  exact ⟨by omega, by omega⟩
set_option maxHeartbeats 4000000 in
set_option maxRecDepth 100000 in
theorem w_X19_lowers_0 {p : Program} {l : Launch} {e : Env} {R : Room} {s : State} {m : MethodId} {args : Array Value} {below : List Frame} {meth : Method} {c : Code} {G : uG} {a0 : Nat} {uf : UH} {r : Int32} (hC : uC p s m args meth c G RX19 cX19_lowers 8 (some .boolean)) (hR : 4 ≤ R.frames ∧ 85 ≤ R.locals) (N : Nat) (u : UH) (h : f_X19_lowers N (ub G) (ug G) u a0 = some (r, uf)) {H : Heap} {locs : List Loc} (hP : uP G u H) (hS : va_S (uA G) s.heap H locs) {ls : Array Slot} (hl : lv_has ls 8 [(0, va_rf (some a0))]) : W p l e R s m args below meth c H locs 0 0 (MQ below (uQi G r uf) args s 0 0 (uA G)) (F0 m 0 ls []) := by
  obtain ⟨⟨hx, hb, hml, hown, hts⟩, hKK⟩ := id hC
  unfold f_X19_lowers at h
  refine lv_iconst (v := 0) hx hb dX19_lowers_0 (by decide) ?_
  refine lv_istore_n (lv' := [(1, .int 0), (0, va_rf (some a0))]) hx hb dX19_lowers_1 rfl hl (by decide) rfl (fun ls hl => ?_)
  refine lv_iconst (v := 0) hx hb dX19_lowers_2 (by decide) ?_
  refine lv_istore_n (lv' := [(2, .int 0), (1, .int 0), (0, va_rf (some a0))]) hx hb dX19_lowers_3 rfl hl (by decide) rfl (fun ls hl => ?_)
  exact w_X19_lowers_4 hC hR N N u 0 0 h _ _ hP hS _ (lv_sub hl [2, 1, 0] rfl)
theorem zz_X19_lowers (N b : Nat) (g : uEnv) (u : UH) (a0 : Nat) (r : Int32) (uf : UH) (h : f_X19_lowers N b g u a0 = some (r, uf)) : uf.1 = u.1 ∧ uf.2.1 = u.2.1 :=
  zz_X19_lowers_0 (G := ((fun _ => 0, fun _ _ => 0), fun _ => 0, b, g)) (a0 := a0) N u h
theorem met_X19_lowers (l : Launch) (N : Nat) (G : uG) (u : UH) (a0 : Nat) (r : Int32) (uf : UH) (h : f_X19_lowers N (ub G) (ug G) u a0 = some (r, uf)) : Met l yX19_lowers (ws_ yX19_lowers cX19_lowers 8 (some .boolean)) ({ frames := 4, cells := 0, slots := 0, locals := 85 }) (uPc G u [.ref a0]) (uQi G r uf) 0 0 (uA G) := by
  exact u_met (own := RX19) (by decide +kernel) rfl (Nat.le_of_ble_eq_true rfl) (fun hC hn hsz ls hl hP => w_X19_lowers_0 hC ⟨Nat.le_refl _, Nat.le_refl _⟩ N u h hP va_S.rf hl)

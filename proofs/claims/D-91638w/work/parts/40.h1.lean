/-! BY gen_heap.py: X1_in J9_max J9_min J9_abs J9_floorDiv X10_cost X10_each X10_one X10_name J2_size X14_cells X1_refused X1_done X1_fault X1_where X1_trouble X2_sign X5_isLetter X5_isDigit X5_here X15_kinds X15_all X15_kind -/
def f_X1_in_15 (N b : Nat) (g : uEnv) (u : UH) (s0 : Int32) : Option (Int32 × UH) :=
    if uFit .boolean s0 = true then
    some (s0, u)
    else none
set_option maxHeartbeats 4000000 in
set_option maxRecDepth 100000 in
theorem zz_X1_in_15 {G : uG} {uf : UH} {r : Int32} (N : Nat) (u : UH) (s0 : Int32) (h : f_X1_in_15 N (ub G) (ug G) u s0 = some (r, uf)) : uf.1 = u.1 ∧ uf.2.1 = u.2.1 := by
  unfold f_X1_in_15 at h
  obtain ⟨c1, h⟩ := mif_n h
  cases h
  exact ⟨by omega, by omega⟩
set_option maxHeartbeats 4000000 in
set_option maxRecDepth 100000 in
theorem w_X1_in_15 {p : Program} {l : Launch} {e : Env} {R : Room} {s : State} {m : MethodId} {args : Array Value} {below : List Frame} {meth : Method} {c : Code} {G : uG} {uf : UH} {r : Int32} (hC : uC p s m args meth c G RX1 cX1_in 3 (some .boolean)) (hR : 0 ≤ R.frames ∧ 0 ≤ R.locals) (N : Nat) (u : UH) (s0 : Int32) (h : f_X1_in_15 N (ub G) (ug G) u s0 = some (r, uf)) {H : Heap} {locs : List Loc} (hP : uP G u H) (hS : va_S (uA G) s.heap H locs) {ls : Array Slot} (hl : lv_has ls 3 []) : W p l e R s m args below meth c H locs 0 0 (MQ below (uQi G r uf) args s 0 0 (uA G)) (F0 m 15 ls [.int s0]) := by
  obtain ⟨⟨hx, hb, hml, hown, hts⟩, hKK⟩ := id hC
  unfold f_X1_in_15 at h
  obtain ⟨c1, h⟩ := mif_n h
  cases h
  exact u_zret hC (uFit_n c1).1 hP hS dX1_in_15
def f_X1_in_14 (N b : Nat) (g : uEnv) (u : UH) : Option (Int32 × UH) :=
    f_X1_in_15 N b g u 0
set_option maxHeartbeats 4000000 in
set_option maxRecDepth 100000 in
theorem zz_X1_in_14 {G : uG} {uf : UH} {r : Int32} (N : Nat) (u : UH) (h : f_X1_in_14 N (ub G) (ug G) u = some (r, uf)) : uf.1 = u.1 ∧ uf.2.1 = u.2.1 := by
  unfold f_X1_in_14 at h
  have hq := zz_X1_in_15 (G := G) N u 0 h
  exact ⟨by omega, by omega⟩
set_option maxHeartbeats 4000000 in
set_option maxRecDepth 100000 in
theorem w_X1_in_14 {p : Program} {l : Launch} {e : Env} {R : Room} {s : State} {m : MethodId} {args : Array Value} {below : List Frame} {meth : Method} {c : Code} {G : uG} {uf : UH} {r : Int32} (hC : uC p s m args meth c G RX1 cX1_in 3 (some .boolean)) (hR : 0 ≤ R.frames ∧ 0 ≤ R.locals) (N : Nat) (u : UH) (h : f_X1_in_14 N (ub G) (ug G) u = some (r, uf)) {H : Heap} {locs : List Loc} (hP : uP G u H) (hS : va_S (uA G) s.heap H locs) {ls : Array Slot} (hl : lv_has ls 3 []) : W p l e R s m args below meth c H locs 0 0 (MQ below (uQi G r uf) args s 0 0 (uA G)) (F0 m 14 ls []) := by
  obtain ⟨⟨hx, hb, hml, hown, hts⟩, hKK⟩ := id hC
  unfold f_X1_in_14 at h
  refine lv_iconst (v := 0) hx hb dX1_in_14 (by decide) ?_
  exact w_X1_in_15 hC hR N u 0 h hP hS (lv_sub hl [] rfl)
def f_X1_in (N b : Nat) (g : uEnv) (u : UH) (x0 : Int32) (x1 : Int32) (x2 : Int32) : Option (Int32 × UH) :=
    if x0 < x1 then
    f_X1_in_14 N b g u
    else
    if x2 < x0 then
    f_X1_in_14 N b g u
    else
    f_X1_in_15 N b g u 1
set_option maxHeartbeats 4000000 in
set_option maxRecDepth 100000 in
theorem zz_X1_in_0 {G : uG} {uf : UH} {r : Int32} (N : Nat) (u : UH) (x0 : Int32) (x1 : Int32) (x2 : Int32) (h : f_X1_in N (ub G) (ug G) u x0 x1 x2 = some (r, uf)) : uf.1 = u.1 ∧ uf.2.1 = u.2.1 := by
  unfold f_X1_in at h
  by_cases c1 : x0 < x1
  · have h := mif_t c1 h
    have hq := zz_X1_in_14 (G := G) N u h
    exact ⟨by omega, by omega⟩
  · have h := mif_f c1 h
    by_cases c2 : x2 < x0
    · have h := mif_t c2 h
      have hq := zz_X1_in_14 (G := G) N u h
      exact ⟨by omega, by omega⟩
    · have h := mif_f c2 h
      have hq := zz_X1_in_15 (G := G) N u 1 h
      exact ⟨by omega, by omega⟩
set_option maxHeartbeats 4000000 in
set_option maxRecDepth 100000 in
theorem w_X1_in_0 {p : Program} {l : Launch} {e : Env} {R : Room} {s : State} {m : MethodId} {args : Array Value} {below : List Frame} {meth : Method} {c : Code} {G : uG} {uf : UH} {r : Int32} (hC : uC p s m args meth c G RX1 cX1_in 3 (some .boolean)) (hR : 0 ≤ R.frames ∧ 0 ≤ R.locals) (N : Nat) (u : UH) (x0 : Int32) (x1 : Int32) (x2 : Int32) (h : f_X1_in N (ub G) (ug G) u x0 x1 x2 = some (r, uf)) {H : Heap} {locs : List Loc} (hP : uP G u H) (hS : va_S (uA G) s.heap H locs) {ls : Array Slot} (hl : lv_has ls 3 [(0, .int x0), (1, .int x1), (2, .int x2)]) : W p l e R s m args below meth c H locs 0 0 (MQ below (uQi G r uf) args s 0 0 (uA G)) (F0 m 0 ls []) := by
  obtain ⟨⟨hx, hb, hml, hown, hts⟩, hKK⟩ := id hC
  unfold f_X1_in at h
  refine lv_iload_n hx hb dX1_in_0 rfl (lv_at hl 1 rfl) ?_
  refine lv_iload_n hx hb dX1_in_1 rfl (lv_at hl 0 rfl) ?_
  refine lv_icmp_gt (tgt := 14) hx hb dX1_in_2 (by decide) (fun c1 => ?_) (fun c1 => ?_)
  · have h := mif_t c1 h
    exact w_X1_in_14 hC hR N u h hP hS (lv_sub hl [] rfl)
  · have h := mif_f c1 h
    refine lv_iload_n hx hb dX1_in_5 rfl (lv_at hl 0 rfl) ?_
    refine lv_iload_n hx hb dX1_in_6 rfl (lv_at hl 2 rfl) ?_
    refine lv_icmp_gt (tgt := 14) hx hb dX1_in_7 (by decide) (fun c2 => ?_) (fun c2 => ?_)
    · have h := mif_t c2 h
      exact w_X1_in_14 hC hR N u h hP hS (lv_sub hl [] rfl)
    · have h := mif_f c2 h
      refine lv_iconst (v := 1) hx hb dX1_in_10 (by decide) ?_
      refine lv_goto (tgt := 15) hx hb dX1_in_11 (by decide) ?_
      exact w_X1_in_15 hC hR N u 1 h hP hS (lv_sub hl [] rfl)
theorem zz_X1_in (N b : Nat) (g : uEnv) (u : UH) (x0 : Int32) (x1 : Int32) (x2 : Int32) (r : Int32) (uf : UH) (h : f_X1_in N b g u x0 x1 x2 = some (r, uf)) : uf.1 = u.1 ∧ uf.2.1 = u.2.1 :=
  zz_X1_in_0 (G := ((fun _ => 0, fun _ _ => 0), fun _ => 0, b, g)) N u x0 x1 x2 h
theorem met_X1_in (l : Launch) (N : Nat) (G : uG) (u : UH) (x0 : Int32) (x1 : Int32) (x2 : Int32) (r : Int32) (uf : UH) (h : f_X1_in N (ub G) (ug G) u x0 x1 x2 = some (r, uf)) : Met l yX1_in (ws_ yX1_in cX1_in 3 (some .boolean)) ({ frames := 0, cells := 0, slots := 0, locals := 0 }) (uPc G u [.int x0, .int x1, .int x2]) (uQi G r uf) 0 0 (uA G) :=
  u_met (own := RX1) (by decide +kernel) rfl (Nat.le_of_ble_eq_true rfl) (fun hC hn hsz ls hl hP => w_X1_in_0 hC ⟨Nat.le_refl _, Nat.le_refl _⟩ N u x0 x1 x2 h hP va_S.rf hl)
def f_J9_max_10 (N b : Nat) (g : uEnv) (u : UH) (s0 : Int32) : Option (Int32 × UH) :=
    some (s0, u)
set_option maxHeartbeats 4000000 in
set_option maxRecDepth 100000 in
theorem zz_J9_max_10 {G : uG} {uf : UH} {r : Int32} (N : Nat) (u : UH) (s0 : Int32) (h : f_J9_max_10 N (ub G) (ug G) u s0 = some (r, uf)) : uf.1 = u.1 ∧ uf.2.1 = u.2.1 := by
  unfold f_J9_max_10 at h
  cases h
  exact ⟨by omega, by omega⟩
set_option maxHeartbeats 4000000 in
set_option maxRecDepth 100000 in
theorem w_J9_max_10 {p : Program} {l : Launch} {e : Env} {R : Room} {s : State} {m : MethodId} {args : Array Value} {below : List Frame} {meth : Method} {c : Code} {G : uG} {uf : UH} {r : Int32} (hC : uC p s m args meth c G RJ9 cJ9_max 2 (some .int)) (hR : 0 ≤ R.frames ∧ 0 ≤ R.locals) (N : Nat) (u : UH) (s0 : Int32) (h : f_J9_max_10 N (ub G) (ug G) u s0 = some (r, uf)) {H : Heap} {locs : List Loc} (hP : uP G u H) (hS : va_S (uA G) s.heap H locs) {ls : Array Slot} (hl : lv_has ls 2 []) : W p l e R s m args below meth c H locs 0 0 (MQ below (uQi G r uf) args s 0 0 (uA G)) (F0 m 10 ls [.int s0]) := by
  obtain ⟨⟨hx, hb, hml, hown, hts⟩, hKK⟩ := id hC
  unfold f_J9_max_10 at h
  cases h
  exact u_iret hC hP hS dJ9_max_10
def f_J9_max (N b : Nat) (g : uEnv) (u : UH) (x0 : Int32) (x1 : Int32) : Option (Int32 × UH) :=
    if x0 < x1 then
    f_J9_max_10 N b g u x1
    else
    f_J9_max_10 N b g u x0
set_option maxHeartbeats 4000000 in
set_option maxRecDepth 100000 in
theorem zz_J9_max_0 {G : uG} {uf : UH} {r : Int32} (N : Nat) (u : UH) (x0 : Int32) (x1 : Int32) (h : f_J9_max N (ub G) (ug G) u x0 x1 = some (r, uf)) : uf.1 = u.1 ∧ uf.2.1 = u.2.1 := by
  unfold f_J9_max at h
  by_cases c1 : x0 < x1
  · have h := mif_t c1 h
    have hq := zz_J9_max_10 (G := G) N u x1 h
    exact ⟨by omega, by omega⟩
  · have h := mif_f c1 h
    have hq := zz_J9_max_10 (G := G) N u x0 h
    exact ⟨by omega, by omega⟩
set_option maxHeartbeats 4000000 in
set_option maxRecDepth 100000 in
theorem w_J9_max_0 {p : Program} {l : Launch} {e : Env} {R : Room} {s : State} {m : MethodId} {args : Array Value} {below : List Frame} {meth : Method} {c : Code} {G : uG} {uf : UH} {r : Int32} (hC : uC p s m args meth c G RJ9 cJ9_max 2 (some .int)) (hR : 0 ≤ R.frames ∧ 0 ≤ R.locals) (N : Nat) (u : UH) (x0 : Int32) (x1 : Int32) (h : f_J9_max N (ub G) (ug G) u x0 x1 = some (r, uf)) {H : Heap} {locs : List Loc} (hP : uP G u H) (hS : va_S (uA G) s.heap H locs) {ls : Array Slot} (hl : lv_has ls 2 [(0, .int x0), (1, .int x1)]) : W p l e R s m args below meth c H locs 0 0 (MQ below (uQi G r uf) args s 0 0 (uA G)) (F0 m 0 ls []) := by
  obtain ⟨⟨hx, hb, hml, hown, hts⟩, hKK⟩ := id hC
  unfold f_J9_max at h
  refine lv_iload_n hx hb dJ9_max_0 rfl (lv_at hl 0 rfl) ?_
  refine lv_iload_n hx hb dJ9_max_1 rfl (lv_at hl 1 rfl) ?_
  refine lv_icmp_lt (tgt := 9) hx hb dJ9_max_2 (by decide) (fun c1 => ?_) (fun c1 => ?_)
  · have h := mif_t c1 h
    refine lv_iload_n hx hb dJ9_max_9 rfl (lv_at hl 1 rfl) ?_
    exact w_J9_max_10 hC hR N u x1 h hP hS (lv_sub hl [] rfl)
  · have h := mif_f c1 h
    refine lv_iload_n hx hb dJ9_max_5 rfl (lv_at hl 0 rfl) ?_
    refine lv_goto (tgt := 10) hx hb dJ9_max_6 (by decide) ?_
    exact w_J9_max_10 hC hR N u x0 h hP hS (lv_sub hl [] rfl)
theorem zz_J9_max (N b : Nat) (g : uEnv) (u : UH) (x0 : Int32) (x1 : Int32) (r : Int32) (uf : UH) (h : f_J9_max N b g u x0 x1 = some (r, uf)) : uf.1 = u.1 ∧ uf.2.1 = u.2.1 :=
  zz_J9_max_0 (G := ((fun _ => 0, fun _ _ => 0), fun _ => 0, b, g)) N u x0 x1 h
theorem met_J9_max (l : Launch) (N : Nat) (G : uG) (u : UH) (x0 : Int32) (x1 : Int32) (r : Int32) (uf : UH) (h : f_J9_max N (ub G) (ug G) u x0 x1 = some (r, uf)) : Met l yJ9_max (ws_ yJ9_max cJ9_max 2 (some .int)) ({ frames := 0, cells := 0, slots := 0, locals := 0 }) (uPc G u [.int x0, .int x1]) (uQi G r uf) 0 0 (uA G) :=
  u_met (own := RJ9) (by decide +kernel) rfl (Nat.le_of_ble_eq_true rfl) (fun hC hn hsz ls hl hP => w_J9_max_0 hC ⟨Nat.le_refl _, Nat.le_refl _⟩ N u x0 x1 h hP va_S.rf hl)
def f_J9_min_10 (N b : Nat) (g : uEnv) (u : UH) (s0 : Int32) : Option (Int32 × UH) :=
    some (s0, u)
set_option maxHeartbeats 4000000 in
set_option maxRecDepth 100000 in
theorem zz_J9_min_10 {G : uG} {uf : UH} {r : Int32} (N : Nat) (u : UH) (s0 : Int32) (h : f_J9_min_10 N (ub G) (ug G) u s0 = some (r, uf)) : uf.1 = u.1 ∧ uf.2.1 = u.2.1 := by
  unfold f_J9_min_10 at h
  cases h
  exact ⟨by omega, by omega⟩
set_option maxHeartbeats 4000000 in
set_option maxRecDepth 100000 in
theorem w_J9_min_10 {p : Program} {l : Launch} {e : Env} {R : Room} {s : State} {m : MethodId} {args : Array Value} {below : List Frame} {meth : Method} {c : Code} {G : uG} {uf : UH} {r : Int32} (hC : uC p s m args meth c G RJ9 cJ9_min 2 (some .int)) (hR : 0 ≤ R.frames ∧ 0 ≤ R.locals) (N : Nat) (u : UH) (s0 : Int32) (h : f_J9_min_10 N (ub G) (ug G) u s0 = some (r, uf)) {H : Heap} {locs : List Loc} (hP : uP G u H) (hS : va_S (uA G) s.heap H locs) {ls : Array Slot} (hl : lv_has ls 2 []) : W p l e R s m args below meth c H locs 0 0 (MQ below (uQi G r uf) args s 0 0 (uA G)) (F0 m 10 ls [.int s0]) := by
  obtain ⟨⟨hx, hb, hml, hown, hts⟩, hKK⟩ := id hC
  unfold f_J9_min_10 at h
  cases h
  exact u_iret hC hP hS dJ9_min_10
def f_J9_min (N b : Nat) (g : uEnv) (u : UH) (x0 : Int32) (x1 : Int32) : Option (Int32 × UH) :=
    if x1 < x0 then
    f_J9_min_10 N b g u x1
    else
    f_J9_min_10 N b g u x0
set_option maxHeartbeats 4000000 in
set_option maxRecDepth 100000 in
theorem zz_J9_min_0 {G : uG} {uf : UH} {r : Int32} (N : Nat) (u : UH) (x0 : Int32) (x1 : Int32) (h : f_J9_min N (ub G) (ug G) u x0 x1 = some (r, uf)) : uf.1 = u.1 ∧ uf.2.1 = u.2.1 := by
  unfold f_J9_min at h
  by_cases c1 : x1 < x0
  · have h := mif_t c1 h
    have hq := zz_J9_min_10 (G := G) N u x1 h
    exact ⟨by omega, by omega⟩
  · have h := mif_f c1 h
    have hq := zz_J9_min_10 (G := G) N u x0 h
    exact ⟨by omega, by omega⟩
set_option maxHeartbeats 4000000 in
set_option maxRecDepth 100000 in
theorem w_J9_min_0 {p : Program} {l : Launch} {e : Env} {R : Room} {s : State} {m : MethodId} {args : Array Value} {below : List Frame} {meth : Method} {c : Code} {G : uG} {uf : UH} {r : Int32} (hC : uC p s m args meth c G RJ9 cJ9_min 2 (some .int)) (hR : 0 ≤ R.frames ∧ 0 ≤ R.locals) (N : Nat) (u : UH) (x0 : Int32) (x1 : Int32) (h : f_J9_min N (ub G) (ug G) u x0 x1 = some (r, uf)) {H : Heap} {locs : List Loc} (hP : uP G u H) (hS : va_S (uA G) s.heap H locs) {ls : Array Slot} (hl : lv_has ls 2 [(0, .int x0), (1, .int x1)]) : W p l e R s m args below meth c H locs 0 0 (MQ below (uQi G r uf) args s 0 0 (uA G)) (F0 m 0 ls []) := by
  obtain ⟨⟨hx, hb, hml, hown, hts⟩, hKK⟩ := id hC
  unfold f_J9_min at h
  refine lv_iload_n hx hb dJ9_min_0 rfl (lv_at hl 0 rfl) ?_
  refine lv_iload_n hx hb dJ9_min_1 rfl (lv_at hl 1 rfl) ?_
  refine lv_icmp_gt (tgt := 9) hx hb dJ9_min_2 (by decide) (fun c1 => ?_) (fun c1 => ?_)
  · have h := mif_t c1 h
    refine lv_iload_n hx hb dJ9_min_9 rfl (lv_at hl 1 rfl) ?_
    exact w_J9_min_10 hC hR N u x1 h hP hS (lv_sub hl [] rfl)
  · have h := mif_f c1 h
    refine lv_iload_n hx hb dJ9_min_5 rfl (lv_at hl 0 rfl) ?_
    refine lv_goto (tgt := 10) hx hb dJ9_min_6 (by decide) ?_
    exact w_J9_min_10 hC hR N u x0 h hP hS (lv_sub hl [] rfl)
theorem zz_J9_min (N b : Nat) (g : uEnv) (u : UH) (x0 : Int32) (x1 : Int32) (r : Int32) (uf : UH) (h : f_J9_min N b g u x0 x1 = some (r, uf)) : uf.1 = u.1 ∧ uf.2.1 = u.2.1 :=
  zz_J9_min_0 (G := ((fun _ => 0, fun _ _ => 0), fun _ => 0, b, g)) N u x0 x1 h
theorem met_J9_min (l : Launch) (N : Nat) (G : uG) (u : UH) (x0 : Int32) (x1 : Int32) (r : Int32) (uf : UH) (h : f_J9_min N (ub G) (ug G) u x0 x1 = some (r, uf)) : Met l yJ9_min (ws_ yJ9_min cJ9_min 2 (some .int)) ({ frames := 0, cells := 0, slots := 0, locals := 0 }) (uPc G u [.int x0, .int x1]) (uQi G r uf) 0 0 (uA G) :=
  u_met (own := RJ9) (by decide +kernel) rfl (Nat.le_of_ble_eq_true rfl) (fun hC hn hsz ls hl hP => w_J9_min_0 hC ⟨Nat.le_refl _, Nat.le_refl _⟩ N u x0 x1 h hP va_S.rf hl)
def f_J9_abs_10 (N b : Nat) (g : uEnv) (u : UH) (s0 : Int32) : Option (Int32 × UH) :=
    some (s0, u)
set_option maxHeartbeats 4000000 in
set_option maxRecDepth 100000 in
theorem zz_J9_abs_10 {G : uG} {uf : UH} {r : Int32} (N : Nat) (u : UH) (s0 : Int32) (h : f_J9_abs_10 N (ub G) (ug G) u s0 = some (r, uf)) : uf.1 = u.1 ∧ uf.2.1 = u.2.1 := by
  unfold f_J9_abs_10 at h
  cases h
  exact ⟨by omega, by omega⟩
set_option maxHeartbeats 4000000 in
set_option maxRecDepth 100000 in
theorem w_J9_abs_10 {p : Program} {l : Launch} {e : Env} {R : Room} {s : State} {m : MethodId} {args : Array Value} {below : List Frame} {meth : Method} {c : Code} {G : uG} {uf : UH} {r : Int32} (hC : uC p s m args meth c G RJ9 cJ9_abs 1 (some .int)) (hR : 0 ≤ R.frames ∧ 0 ≤ R.locals) (N : Nat) (u : UH) (s0 : Int32) (h : f_J9_abs_10 N (ub G) (ug G) u s0 = some (r, uf)) {H : Heap} {locs : List Loc} (hP : uP G u H) (hS : va_S (uA G) s.heap H locs) {ls : Array Slot} (hl : lv_has ls 1 []) : W p l e R s m args below meth c H locs 0 0 (MQ below (uQi G r uf) args s 0 0 (uA G)) (F0 m 10 ls [.int s0]) := by
  obtain ⟨⟨hx, hb, hml, hown, hts⟩, hKK⟩ := id hC
  unfold f_J9_abs_10 at h
  cases h
  exact u_iret hC hP hS dJ9_abs_10
def f_J9_abs (N b : Nat) (g : uEnv) (u : UH) (x0 : Int32) : Option (Int32 × UH) :=
    if 0 ≤ x0 then
    f_J9_abs_10 N b g u x0
    else
    f_J9_abs_10 N b g u (-x0)
set_option maxHeartbeats 4000000 in
set_option maxRecDepth 100000 in
theorem zz_J9_abs_0 {G : uG} {uf : UH} {r : Int32} (N : Nat) (u : UH) (x0 : Int32) (h : f_J9_abs N (ub G) (ug G) u x0 = some (r, uf)) : uf.1 = u.1 ∧ uf.2.1 = u.2.1 := by
  unfold f_J9_abs at h
  by_cases c1 : 0 ≤ x0
  · have h := mif_t c1 h
    have hq := zz_J9_abs_10 (G := G) N u x0 h
    exact ⟨by omega, by omega⟩
  · have h := mif_f c1 h
    have hq := zz_J9_abs_10 (G := G) N u (-x0) h
    exact ⟨by omega, by omega⟩
set_option maxHeartbeats 4000000 in
set_option maxRecDepth 100000 in
theorem w_J9_abs_0 {p : Program} {l : Launch} {e : Env} {R : Room} {s : State} {m : MethodId} {args : Array Value} {below : List Frame} {meth : Method} {c : Code} {G : uG} {uf : UH} {r : Int32} (hC : uC p s m args meth c G RJ9 cJ9_abs 1 (some .int)) (hR : 0 ≤ R.frames ∧ 0 ≤ R.locals) (N : Nat) (u : UH) (x0 : Int32) (h : f_J9_abs N (ub G) (ug G) u x0 = some (r, uf)) {H : Heap} {locs : List Loc} (hP : uP G u H) (hS : va_S (uA G) s.heap H locs) {ls : Array Slot} (hl : lv_has ls 1 [(0, .int x0)]) : W p l e R s m args below meth c H locs 0 0 (MQ below (uQi G r uf) args s 0 0 (uA G)) (F0 m 0 ls []) := by
  obtain ⟨⟨hx, hb, hml, hown, hts⟩, hKK⟩ := id hC
  unfold f_J9_abs at h
  refine lv_iload_n hx hb dJ9_abs_0 rfl (lv_at hl 0 rfl) ?_
  refine lv_if_ge (tgt := 9) hx hb dJ9_abs_1 (by decide) (fun c1 => ?_) (fun c1 => ?_)
  · have h := mif_t c1 h
    refine lv_iload_n hx hb dJ9_abs_9 rfl (lv_at hl 0 rfl) ?_
    exact w_J9_abs_10 hC hR N u x0 h hP hS (lv_sub hl [] rfl)
  · have h := mif_f c1 h
    refine lv_iload_n hx hb dJ9_abs_4 rfl (lv_at hl 0 rfl) ?_
    refine lv_ineg hx hb dJ9_abs_5 ?_
    refine lv_goto (tgt := 10) hx hb dJ9_abs_6 (by decide) ?_
    exact w_J9_abs_10 hC hR N u (-x0) h hP hS (lv_sub hl [] rfl)
theorem zz_J9_abs (N b : Nat) (g : uEnv) (u : UH) (x0 : Int32) (r : Int32) (uf : UH) (h : f_J9_abs N b g u x0 = some (r, uf)) : uf.1 = u.1 ∧ uf.2.1 = u.2.1 :=
  zz_J9_abs_0 (G := ((fun _ => 0, fun _ _ => 0), fun _ => 0, b, g)) N u x0 h
theorem met_J9_abs (l : Launch) (N : Nat) (G : uG) (u : UH) (x0 : Int32) (r : Int32) (uf : UH) (h : f_J9_abs N (ub G) (ug G) u x0 = some (r, uf)) : Met l yJ9_abs (ws_ yJ9_abs cJ9_abs 1 (some .int)) ({ frames := 0, cells := 0, slots := 0, locals := 0 }) (uPc G u [.int x0]) (uQi G r uf) 0 0 (uA G) :=
  u_met (own := RJ9) (by decide +kernel) rfl (Nat.le_of_ble_eq_true rfl) (fun hC hn hsz ls hl hP => w_J9_abs_0 hC ⟨Nat.le_refl _, Nat.le_refl _⟩ N u x0 h hP va_S.rf hl)
def f_J9_floorDiv_21 (N b : Nat) (g : uEnv) (u : UH) (x2 : Int32) : Option (Int32 × UH) :=
    some (x2, u)
set_option maxHeartbeats 4000000 in
set_option maxRecDepth 100000 in
theorem zz_J9_floorDiv_21 {G : uG} {uf : UH} {r : Int32} (N : Nat) (u : UH) (x2 : Int32) (h : f_J9_floorDiv_21 N (ub G) (ug G) u x2 = some (r, uf)) : uf.1 = u.1 ∧ uf.2.1 = u.2.1 := by
  unfold f_J9_floorDiv_21 at h
  cases h
  exact ⟨by omega, by omega⟩
set_option maxHeartbeats 4000000 in
set_option maxRecDepth 100000 in
theorem w_J9_floorDiv_21 {p : Program} {l : Launch} {e : Env} {R : Room} {s : State} {m : MethodId} {args : Array Value} {below : List Frame} {meth : Method} {c : Code} {G : uG} {uf : UH} {r : Int32} (hC : uC p s m args meth c G RJ9 cJ9_floorDiv 3 (some .int)) (hR : 0 ≤ R.frames ∧ 0 ≤ R.locals) (N : Nat) (u : UH) (x2 : Int32) (h : f_J9_floorDiv_21 N (ub G) (ug G) u x2 = some (r, uf)) {H : Heap} {locs : List Loc} (hP : uP G u H) (hS : va_S (uA G) s.heap H locs) {ls : Array Slot} (hl : lv_has ls 3 [(2, .int x2)]) : W p l e R s m args below meth c H locs 0 0 (MQ below (uQi G r uf) args s 0 0 (uA G)) (F0 m 21 ls []) := by
  obtain ⟨⟨hx, hb, hml, hown, hts⟩, hKK⟩ := id hC
  unfold f_J9_floorDiv_21 at h
  refine lv_iload_n hx hb dJ9_floorDiv_21 rfl (lv_at hl 0 rfl) ?_
  cases h
  exact u_iret hC hP hS dJ9_floorDiv_22
def f_J9_floorDiv (N b : Nat) (g : uEnv) (u : UH) (x0 : Int32) (x1 : Int32) : Option (Int32 × UH) :=
    if ¬ x1 = 0 then
    mlet (x0 / x1) fun y2 =>
    if 0 ≤ (x0 ^^^ x1) then
    f_J9_floorDiv_21 N b g u y2
    else
    if (y2 * x1) = x0 then
    f_J9_floorDiv_21 N b g u y2
    else
    some (y2 - 1, u)
    else none
set_option maxHeartbeats 4000000 in
set_option maxRecDepth 100000 in
theorem zz_J9_floorDiv_0 {G : uG} {uf : UH} {r : Int32} (N : Nat) (u : UH) (x0 : Int32) (x1 : Int32) (h : f_J9_floorDiv N (ub G) (ug G) u x0 x1 = some (r, uf)) : uf.1 = u.1 ∧ uf.2.1 = u.2.1 := by
  unfold f_J9_floorDiv at h
  obtain ⟨c1, h⟩ := mif_n h
  obtain ⟨y2, ey2⟩ : ∃ z, z = x0 / x1 := ⟨_, rfl⟩
  have h := mlet_at ey2 h
  by_cases c3 : 0 ≤ (x0 ^^^ x1)
  · have h := mif_t c3 h
    have hq := zz_J9_floorDiv_21 (G := G) N u y2 h
    exact ⟨by omega, by omega⟩
  · have h := mif_f c3 h
    by_cases c4 : (y2 * x1) = x0
    · have h := mif_t c4 h
      have hq := zz_J9_floorDiv_21 (G := G) N u y2 h
      exact ⟨by omega, by omega⟩
    · have h := mif_f c4 h
      cases h
      exact ⟨by omega, by omega⟩
set_option maxHeartbeats 4000000 in
set_option maxRecDepth 100000 in
theorem w_J9_floorDiv_0 {p : Program} {l : Launch} {e : Env} {R : Room} {s : State} {m : MethodId} {args : Array Value} {below : List Frame} {meth : Method} {c : Code} {G : uG} {uf : UH} {r : Int32} (hC : uC p s m args meth c G RJ9 cJ9_floorDiv 3 (some .int)) (hR : 0 ≤ R.frames ∧ 0 ≤ R.locals) (N : Nat) (u : UH) (x0 : Int32) (x1 : Int32) (h : f_J9_floorDiv N (ub G) (ug G) u x0 x1 = some (r, uf)) {H : Heap} {locs : List Loc} (hP : uP G u H) (hS : va_S (uA G) s.heap H locs) {ls : Array Slot} (hl : lv_has ls 3 [(0, .int x0), (1, .int x1)]) : W p l e R s m args below meth c H locs 0 0 (MQ below (uQi G r uf) args s 0 0 (uA G)) (F0 m 0 ls []) := by
  obtain ⟨⟨hx, hb, hml, hown, hts⟩, hKK⟩ := id hC
  unfold f_J9_floorDiv at h
  refine lv_iload_n hx hb dJ9_floorDiv_0 rfl (lv_at hl 0 rfl) ?_
  refine lv_iload_n hx hb dJ9_floorDiv_1 rfl (lv_at hl 1 rfl) ?_
  obtain ⟨c1, h⟩ := mif_n h
  refine lv_idiv hx hb dJ9_floorDiv_2 c1 ?_
  refine lv_topi (fun y2 ey2 => ?_)
  have h := mlet_at ey2 h
  refine lv_istore_n (lv' := [(2, .int y2), (0, .int x0), (1, .int x1)]) hx hb dJ9_floorDiv_3 rfl hl (by decide) rfl (fun ls hl => ?_)
  refine lv_iload_n hx hb dJ9_floorDiv_4 rfl (lv_at hl 1 rfl) ?_
  refine lv_iload_n hx hb dJ9_floorDiv_5 rfl (lv_at hl 2 rfl) ?_
  refine lv_ixor hx hb dJ9_floorDiv_6 ?_
  refine lv_if_ge (tgt := 21) hx hb dJ9_floorDiv_7 (by decide) (fun c3 => ?_) (fun c3 => ?_)
  · have h := mif_t c3 h
    exact w_J9_floorDiv_21 hC hR N u y2 h hP hS (lv_sub hl [0] rfl)
  · have h := mif_f c3 h
    refine lv_iload_n hx hb dJ9_floorDiv_10 rfl (lv_at hl 0 rfl) ?_
    refine lv_iload_n hx hb dJ9_floorDiv_11 rfl (lv_at hl 2 rfl) ?_
    refine lv_imul hx hb dJ9_floorDiv_12 ?_
    refine lv_iload_n hx hb dJ9_floorDiv_13 rfl (lv_at hl 1 rfl) ?_
    refine lv_icmp_eq (tgt := 21) hx hb dJ9_floorDiv_14 (by decide) (fun c4 => ?_) (fun c4 => ?_)
    · have h := mif_t c4 h
      exact w_J9_floorDiv_21 hC hR N u y2 h hP hS (lv_sub hl [0] rfl)
    · have h := mif_f c4 h
      refine lv_iload_n hx hb dJ9_floorDiv_17 rfl (lv_at hl 0 rfl) ?_
      refine lv_iconst (v := 1) hx hb dJ9_floorDiv_18 (by decide) ?_
      refine lv_isub hx hb dJ9_floorDiv_19 ?_
      cases h
      exact u_iret hC hP hS dJ9_floorDiv_20
theorem zz_J9_floorDiv (N b : Nat) (g : uEnv) (u : UH) (x0 : Int32) (x1 : Int32) (r : Int32) (uf : UH) (h : f_J9_floorDiv N b g u x0 x1 = some (r, uf)) : uf.1 = u.1 ∧ uf.2.1 = u.2.1 :=
  zz_J9_floorDiv_0 (G := ((fun _ => 0, fun _ _ => 0), fun _ => 0, b, g)) N u x0 x1 h
theorem met_J9_floorDiv (l : Launch) (N : Nat) (G : uG) (u : UH) (x0 : Int32) (x1 : Int32) (r : Int32) (uf : UH) (h : f_J9_floorDiv N (ub G) (ug G) u x0 x1 = some (r, uf)) : Met l yJ9_floorDiv (ws_ yJ9_floorDiv cJ9_floorDiv 3 (some .int)) ({ frames := 0, cells := 0, slots := 0, locals := 0 }) (uPc G u [.int x0, .int x1]) (uQi G r uf) 0 0 (uA G) :=
  u_met (own := RJ9) (by decide +kernel) rfl (Nat.le_of_ble_eq_true rfl) (fun hC hn hsz ls hl hP => w_J9_floorDiv_0 hC ⟨Nat.le_refl _, Nat.le_refl _⟩ N u x0 x1 h hP va_S.rf hl)
def f_X10_cost (N b : Nat) (g : uEnv) (u : UH) (a0 : Nat) : Option (Int32 × UH) :=
    (uGI u a0 8 3).bind fun y1 =>
    some (y1, u)
set_option maxHeartbeats 4000000 in
set_option maxRecDepth 100000 in
theorem zz_X10_cost_0 {G : uG} {a0 : Nat} {uf : UH} {r : Int32} (N : Nat) (u : UH) (h : f_X10_cost N (ub G) (ug G) u a0 = some (r, uf)) : uf.1 = u.1 ∧ uf.2.1 = u.2.1 := by
  unfold f_X10_cost at h
  obtain ⟨y1, hy1, h⟩ := mbind_n h
  cases h
  exact ⟨by omega, by omega⟩
set_option maxHeartbeats 4000000 in
set_option maxRecDepth 100000 in
theorem w_X10_cost_0 {p : Program} {l : Launch} {e : Env} {R : Room} {s : State} {m : MethodId} {args : Array Value} {below : List Frame} {meth : Method} {c : Code} {G : uG} {a0 : Nat} {uf : UH} {r : Int32} (hC : uC p s m args meth c G RX10 cX10_cost 1 (some .int)) (hR : 0 ≤ R.frames ∧ 0 ≤ R.locals) (N : Nat) (u : UH) (h : f_X10_cost N (ub G) (ug G) u a0 = some (r, uf)) {H : Heap} {locs : List Loc} (hP : uP G u H) (hS : va_S (uA G) s.heap H locs) {ls : Array Slot} (hl : lv_has ls 1 [(0, va_rf (some a0))]) : W p l e R s m args below meth c H locs 0 0 (MQ below (uQi G r uf) args s 0 0 (uA G)) (F0 m 0 ls []) := by
  obtain ⟨⟨hx, hb, hml, hown, hts⟩, hKK⟩ := id hC
  unfold f_X10_cost at h
  refine u_aload_n (r := some a0) hx hb dX10_cost_0 rfl (lv_at hl 0 rfl) ?_
  obtain ⟨y1, hy1, h⟩ := mbind_n h
  refine u_get hC hP (uGI_n hy1) rfl in_X10 (by decide) q1037 (fun _ h => h) dX10_cost_1 ?_
  cases h
  exact u_iret hC hP hS dX10_cost_4
theorem zz_X10_cost (N b : Nat) (g : uEnv) (u : UH) (a0 : Nat) (r : Int32) (uf : UH) (h : f_X10_cost N b g u a0 = some (r, uf)) : uf.1 = u.1 ∧ uf.2.1 = u.2.1 :=
  zz_X10_cost_0 (G := ((fun _ => 0, fun _ _ => 0), fun _ => 0, b, g)) (a0 := a0) N u h
theorem met_X10_cost (l : Launch) (N : Nat) (G : uG) (u : UH) (a0 : Nat) (r : Int32) (uf : UH) (h : f_X10_cost N (ub G) (ug G) u a0 = some (r, uf)) : Met l yX10_cost (ws_ yX10_cost cX10_cost 1 (some .int)) ({ frames := 0, cells := 0, slots := 0, locals := 0 }) (uPc G u [.ref a0]) (uQi G r uf) 0 0 (uA G) :=
  u_met (own := RX10) (by decide +kernel) rfl (Nat.le_of_ble_eq_true rfl) (fun hC hn hsz ls hl hP => w_X10_cost_0 hC ⟨Nat.le_refl _, Nat.le_refl _⟩ N u h hP va_S.rf hl)
def f_X10_each (N b : Nat) (g : uEnv) (u : UH) (a0 : Nat) : Option (Int32 × UH) :=
    (uGI u a0 8 1).bind fun y1 =>
    some (y1, u)
set_option maxHeartbeats 4000000 in
set_option maxRecDepth 100000 in
theorem zz_X10_each_0 {G : uG} {a0 : Nat} {uf : UH} {r : Int32} (N : Nat) (u : UH) (h : f_X10_each N (ub G) (ug G) u a0 = some (r, uf)) : uf.1 = u.1 ∧ uf.2.1 = u.2.1 := by
  unfold f_X10_each at h
  obtain ⟨y1, hy1, h⟩ := mbind_n h
  cases h
  exact ⟨by omega, by omega⟩
set_option maxHeartbeats 4000000 in
set_option maxRecDepth 100000 in
theorem w_X10_each_0 {p : Program} {l : Launch} {e : Env} {R : Room} {s : State} {m : MethodId} {args : Array Value} {below : List Frame} {meth : Method} {c : Code} {G : uG} {a0 : Nat} {uf : UH} {r : Int32} (hC : uC p s m args meth c G RX10 cX10_each 1 (some .int)) (hR : 0 ≤ R.frames ∧ 0 ≤ R.locals) (N : Nat) (u : UH) (h : f_X10_each N (ub G) (ug G) u a0 = some (r, uf)) {H : Heap} {locs : List Loc} (hP : uP G u H) (hS : va_S (uA G) s.heap H locs) {ls : Array Slot} (hl : lv_has ls 1 [(0, va_rf (some a0))]) : W p l e R s m args below meth c H locs 0 0 (MQ below (uQi G r uf) args s 0 0 (uA G)) (F0 m 0 ls []) := by
  obtain ⟨⟨hx, hb, hml, hown, hts⟩, hKK⟩ := id hC
  unfold f_X10_each at h
  refine u_aload_n (r := some a0) hx hb dX10_each_0 rfl (lv_at hl 0 rfl) ?_
  obtain ⟨y1, hy1, h⟩ := mbind_n h
  refine u_get hC hP (uGI_n hy1) rfl in_X10 (by decide) q1035 (fun _ h => h) dX10_each_1 ?_
  cases h
  exact u_iret hC hP hS dX10_each_4
theorem zz_X10_each (N b : Nat) (g : uEnv) (u : UH) (a0 : Nat) (r : Int32) (uf : UH) (h : f_X10_each N b g u a0 = some (r, uf)) : uf.1 = u.1 ∧ uf.2.1 = u.2.1 :=
  zz_X10_each_0 (G := ((fun _ => 0, fun _ _ => 0), fun _ => 0, b, g)) (a0 := a0) N u h
theorem met_X10_each (l : Launch) (N : Nat) (G : uG) (u : UH) (a0 : Nat) (r : Int32) (uf : UH) (h : f_X10_each N (ub G) (ug G) u a0 = some (r, uf)) : Met l yX10_each (ws_ yX10_each cX10_each 1 (some .int)) ({ frames := 0, cells := 0, slots := 0, locals := 0 }) (uPc G u [.ref a0]) (uQi G r uf) 0 0 (uA G) :=
  u_met (own := RX10) (by decide +kernel) rfl (Nat.le_of_ble_eq_true rfl) (fun hC hn hsz ls hl hP => w_X10_each_0 hC ⟨Nat.le_refl _, Nat.le_refl _⟩ N u h hP va_S.rf hl)
def f_X10_one (N b : Nat) (g : uEnv) (u : UH) (a0 : Nat) : Option (Int32 × UH) :=
    (uGI u a0 8 2).bind fun y1 =>
    some (y1, u)
set_option maxHeartbeats 4000000 in
set_option maxRecDepth 100000 in
theorem zz_X10_one_0 {G : uG} {a0 : Nat} {uf : UH} {r : Int32} (N : Nat) (u : UH) (h : f_X10_one N (ub G) (ug G) u a0 = some (r, uf)) : uf.1 = u.1 ∧ uf.2.1 = u.2.1 := by
  unfold f_X10_one at h
  obtain ⟨y1, hy1, h⟩ := mbind_n h
  cases h
  exact ⟨by omega, by omega⟩
set_option maxHeartbeats 4000000 in
set_option maxRecDepth 100000 in
theorem w_X10_one_0 {p : Program} {l : Launch} {e : Env} {R : Room} {s : State} {m : MethodId} {args : Array Value} {below : List Frame} {meth : Method} {c : Code} {G : uG} {a0 : Nat} {uf : UH} {r : Int32} (hC : uC p s m args meth c G RX10 cX10_one 1 (some .int)) (hR : 0 ≤ R.frames ∧ 0 ≤ R.locals) (N : Nat) (u : UH) (h : f_X10_one N (ub G) (ug G) u a0 = some (r, uf)) {H : Heap} {locs : List Loc} (hP : uP G u H) (hS : va_S (uA G) s.heap H locs) {ls : Array Slot} (hl : lv_has ls 1 [(0, va_rf (some a0))]) : W p l e R s m args below meth c H locs 0 0 (MQ below (uQi G r uf) args s 0 0 (uA G)) (F0 m 0 ls []) := by
  obtain ⟨⟨hx, hb, hml, hown, hts⟩, hKK⟩ := id hC
  unfold f_X10_one at h
  refine u_aload_n (r := some a0) hx hb dX10_one_0 rfl (lv_at hl 0 rfl) ?_
  obtain ⟨y1, hy1, h⟩ := mbind_n h
  refine u_get hC hP (uGI_n hy1) rfl in_X10 (by decide) q1036 (fun _ h => h) dX10_one_1 ?_
  cases h
  exact u_iret hC hP hS dX10_one_4
theorem zz_X10_one (N b : Nat) (g : uEnv) (u : UH) (a0 : Nat) (r : Int32) (uf : UH) (h : f_X10_one N b g u a0 = some (r, uf)) : uf.1 = u.1 ∧ uf.2.1 = u.2.1 :=
  zz_X10_one_0 (G := ((fun _ => 0, fun _ _ => 0), fun _ => 0, b, g)) (a0 := a0) N u h
theorem met_X10_one (l : Launch) (N : Nat) (G : uG) (u : UH) (a0 : Nat) (r : Int32) (uf : UH) (h : f_X10_one N (ub G) (ug G) u a0 = some (r, uf)) : Met l yX10_one (ws_ yX10_one cX10_one 1 (some .int)) ({ frames := 0, cells := 0, slots := 0, locals := 0 }) (uPc G u [.ref a0]) (uQi G r uf) 0 0 (uA G) :=
  u_met (own := RX10) (by decide +kernel) rfl (Nat.le_of_ble_eq_true rfl) (fun hC hn hsz ls hl hP => w_X10_one_0 hC ⟨Nat.le_refl _, Nat.le_refl _⟩ N u h hP va_S.rf hl)
def f_X10_name (N b : Nat) (g : uEnv) (u : UH) (a0 : Nat) : Option (Option Nat × UH) :=
    (uGR u a0 8 0).bind fun o1 =>
    some (o1, u)
set_option maxHeartbeats 4000000 in
set_option maxRecDepth 100000 in
theorem zz_X10_name_0 {G : uG} {a0 : Nat} {uf : UH} {r : Option Nat} (N : Nat) (u : UH) (h : f_X10_name N (ub G) (ug G) u a0 = some (r, uf)) : uf.1 = u.1 ∧ uf.2.1 = u.2.1 := by
  unfold f_X10_name at h
  obtain ⟨o1, ho1, h⟩ := mbind_n h
  cases h
  exact ⟨by omega, by omega⟩
set_option maxHeartbeats 4000000 in
set_option maxRecDepth 100000 in
theorem w_X10_name_0 {p : Program} {l : Launch} {e : Env} {R : Room} {s : State} {m : MethodId} {args : Array Value} {below : List Frame} {meth : Method} {c : Code} {G : uG} {a0 : Nat} {uf : UH} {r : Option Nat} (hC : uC p s m args meth c G RX10 cX10_name 1 (some (.object "java/lang/String"))) (hR : 0 ≤ R.frames ∧ 0 ≤ R.locals) (N : Nat) (u : UH) (h : f_X10_name N (ub G) (ug G) u a0 = some (r, uf)) {H : Heap} {locs : List Loc} (hP : uP G u H) (hS : va_S (uA G) s.heap H locs) {ls : Array Slot} (hl : lv_has ls 1 [(0, va_rf (some a0))]) : W p l e R s m args below meth c H locs 0 0 (MQ below (uQr G r uf) args s 0 0 (uA G)) (F0 m 0 ls []) := by
  obtain ⟨⟨hx, hb, hml, hown, hts⟩, hKK⟩ := id hC
  unfold f_X10_name at h
  refine u_aload_n (r := some a0) hx hb dX10_name_0 rfl (lv_at hl 0 rfl) ?_
  obtain ⟨o1, ho1, h⟩ := mbind_n h
  refine u_get hC hP (uGR_n ho1) rfl in_X10 (by decide) q1034 (fun _ h => h) dX10_name_1 ?_
  cases h
  exact u_aret hC (Or.inl ⟨_, rfl⟩) hP hS dX10_name_4
theorem zz_X10_name (N b : Nat) (g : uEnv) (u : UH) (a0 : Nat) (r : Option Nat) (uf : UH) (h : f_X10_name N b g u a0 = some (r, uf)) : uf.1 = u.1 ∧ uf.2.1 = u.2.1 :=
  zz_X10_name_0 (G := ((fun _ => 0, fun _ _ => 0), fun _ => 0, b, g)) (a0 := a0) N u h
theorem met_X10_name (l : Launch) (N : Nat) (G : uG) (u : UH) (a0 : Nat) (r : Option Nat) (uf : UH) (h : f_X10_name N (ub G) (ug G) u a0 = some (r, uf)) : Met l yX10_name (ws_ yX10_name cX10_name 1 (some (.object "java/lang/String"))) ({ frames := 0, cells := 0, slots := 0, locals := 0 }) (uPc G u [.ref a0]) (uQr G r uf) 0 0 (uA G) :=
  u_met (own := RX10) (by decide +kernel) rfl (Nat.le_of_ble_eq_true rfl) (fun hC hn hsz ls hl hP => w_X10_name_0 hC ⟨Nat.le_refl _, Nat.le_refl _⟩ N u h hP va_S.rf hl)
def f_J2_size (N b : Nat) (g : uEnv) (u : UH) (a0 : Nat) : Option (Int32 × UH) :=
    (uGI u a0 18 2).bind fun y1 =>
    some (y1, u)
set_option maxHeartbeats 4000000 in
set_option maxRecDepth 100000 in
theorem zz_J2_size_0 {G : uG} {a0 : Nat} {uf : UH} {r : Int32} (N : Nat) (u : UH) (h : f_J2_size N (ub G) (ug G) u a0 = some (r, uf)) : uf.1 = u.1 ∧ uf.2.1 = u.2.1 := by
  unfold f_J2_size at h
  obtain ⟨y1, hy1, h⟩ := mbind_n h
  cases h
  exact ⟨by omega, by omega⟩
set_option maxHeartbeats 4000000 in
set_option maxRecDepth 100000 in
theorem w_J2_size_0 {p : Program} {l : Launch} {e : Env} {R : Room} {s : State} {m : MethodId} {args : Array Value} {below : List Frame} {meth : Method} {c : Code} {G : uG} {a0 : Nat} {uf : UH} {r : Int32} (hC : uC p s m args meth c G RJ2 cJ2_size 1 (some .int)) (hR : 0 ≤ R.frames ∧ 0 ≤ R.locals) (N : Nat) (u : UH) (h : f_J2_size N (ub G) (ug G) u a0 = some (r, uf)) {H : Heap} {locs : List Loc} (hP : uP G u H) (hS : va_S (uA G) s.heap H locs) {ls : Array Slot} (hl : lv_has ls 1 [(0, va_rf (some a0))]) : W p l e R s m args below meth c H locs 0 0 (MQ below (uQi G r uf) args s 0 0 (uA G)) (F0 m 0 ls []) := by
  obtain ⟨⟨hx, hb, hml, hown, hts⟩, hKK⟩ := id hC
  unfold f_J2_size at h
  refine u_aload_n (r := some a0) hx hb dJ2_size_0 rfl (lv_at hl 0 rfl) ?_
  obtain ⟨y1, hy1, h⟩ := mbind_n h
  refine u_get hC hP (uGI_n hy1) rfl in_J2 (by decide) q204 (fun _ h => h) dJ2_size_1 ?_
  cases h
  exact u_iret hC hP hS dJ2_size_4
theorem zz_J2_size (N b : Nat) (g : uEnv) (u : UH) (a0 : Nat) (r : Int32) (uf : UH) (h : f_J2_size N b g u a0 = some (r, uf)) : uf.1 = u.1 ∧ uf.2.1 = u.2.1 :=
  zz_J2_size_0 (G := ((fun _ => 0, fun _ _ => 0), fun _ => 0, b, g)) (a0 := a0) N u h
theorem met_J2_size (l : Launch) (N : Nat) (G : uG) (u : UH) (a0 : Nat) (r : Int32) (uf : UH) (h : f_J2_size N (ub G) (ug G) u a0 = some (r, uf)) : Met l yJ2_size (ws_ yJ2_size cJ2_size 1 (some .int)) ({ frames := 0, cells := 0, slots := 0, locals := 0 }) (uPc G u [.ref a0]) (uQi G r uf) 0 0 (uA G) :=
  u_met (own := RJ2) (by decide +kernel) rfl (Nat.le_of_ble_eq_true rfl) (fun hC hn hsz ls hl hP => w_J2_size_0 hC ⟨Nat.le_refl _, Nat.le_refl _⟩ N u h hP va_S.rf hl)
def f_X14_cells (N b : Nat) (g : uEnv) (u : UH) (a0 : Nat) : Option (Int32 × UH) :=
    (uGI u a0 12 1).bind fun y1 =>
    (uGI u a0 12 2).bind fun y2 =>
    some (y1 * y2, u)
set_option maxHeartbeats 4000000 in
set_option maxRecDepth 100000 in
theorem zz_X14_cells_0 {G : uG} {a0 : Nat} {uf : UH} {r : Int32} (N : Nat) (u : UH) (h : f_X14_cells N (ub G) (ug G) u a0 = some (r, uf)) : uf.1 = u.1 ∧ uf.2.1 = u.2.1 := by
  unfold f_X14_cells at h
  obtain ⟨y1, hy1, h⟩ := mbind_n h
  obtain ⟨y2, hy2, h⟩ := mbind_n h
  cases h
  exact ⟨by omega, by omega⟩
set_option maxHeartbeats 4000000 in
set_option maxRecDepth 100000 in
theorem w_X14_cells_0 {p : Program} {l : Launch} {e : Env} {R : Room} {s : State} {m : MethodId} {args : Array Value} {below : List Frame} {meth : Method} {c : Code} {G : uG} {a0 : Nat} {uf : UH} {r : Int32} (hC : uC p s m args meth c G RX14 cX14_cells 1 (some .int)) (hR : 0 ≤ R.frames ∧ 0 ≤ R.locals) (N : Nat) (u : UH) (h : f_X14_cells N (ub G) (ug G) u a0 = some (r, uf)) {H : Heap} {locs : List Loc} (hP : uP G u H) (hS : va_S (uA G) s.heap H locs) {ls : Array Slot} (hl : lv_has ls 1 [(0, va_rf (some a0))]) : W p l e R s m args below meth c H locs 0 0 (MQ below (uQi G r uf) args s 0 0 (uA G)) (F0 m 0 ls []) := by
  obtain ⟨⟨hx, hb, hml, hown, hts⟩, hKK⟩ := id hC
  unfold f_X14_cells at h
  refine u_aload_n (r := some a0) hx hb dX14_cells_0 rfl (lv_at hl 0 rfl) ?_
  obtain ⟨y1, hy1, h⟩ := mbind_n h
  refine u_get hC hP (uGI_n hy1) rfl in_X14 (by decide) q1136 (fun _ h => h) dX14_cells_1 ?_
  refine u_aload_n (r := some a0) hx hb dX14_cells_4 rfl (lv_at hl 0 rfl) ?_
  obtain ⟨y2, hy2, h⟩ := mbind_n h
  refine u_get hC hP (uGI_n hy2) rfl in_X14 (by decide) q1137 (fun _ h => h) dX14_cells_5 ?_
  refine lv_imul hx hb dX14_cells_8 ?_
  cases h
  exact u_iret hC hP hS dX14_cells_9
theorem zz_X14_cells (N b : Nat) (g : uEnv) (u : UH) (a0 : Nat) (r : Int32) (uf : UH) (h : f_X14_cells N b g u a0 = some (r, uf)) : uf.1 = u.1 ∧ uf.2.1 = u.2.1 :=
  zz_X14_cells_0 (G := ((fun _ => 0, fun _ _ => 0), fun _ => 0, b, g)) (a0 := a0) N u h
theorem met_X14_cells (l : Launch) (N : Nat) (G : uG) (u : UH) (a0 : Nat) (r : Int32) (uf : UH) (h : f_X14_cells N (ub G) (ug G) u a0 = some (r, uf)) : Met l yX14_cells (ws_ yX14_cells cX14_cells 1 (some .int)) ({ frames := 0, cells := 0, slots := 0, locals := 0 }) (uPc G u [.ref a0]) (uQi G r uf) 0 0 (uA G) :=
  u_met (own := RX14) (by decide +kernel) rfl (Nat.le_of_ble_eq_true rfl) (fun hC hn hsz ls hl hP => w_X14_cells_0 hC ⟨Nat.le_refl _, Nat.le_refl _⟩ N u h hP va_S.rf hl)
def f_X1_refused (N b : Nat) (g : uEnv) (u : UH) (a0 : Nat) (x1 : Int32) : Option (Int32 × UH) :=
    (uPut b u a0 0 0 (.int x1)).bind fun u1 =>
    (uPut b u1 a0 0 1 (.int (-1))).bind fun u2 =>
    some ((-1), u2)
set_option maxHeartbeats 4000000 in
set_option maxRecDepth 100000 in
theorem zz_X1_refused_0 {G : uG} {a0 : Nat} {uf : UH} {r : Int32} (N : Nat) (u : UH) (x1 : Int32) (h : f_X1_refused N (ub G) (ug G) u a0 x1 = some (r, uf)) : uf.1 = u.1 ∧ uf.2.1 = u.2.1 := by
  unfold f_X1_refused at h
  obtain ⟨u1, hu1, h⟩ := mbind_n h
  have zu1 := uPut_sz hu1
  obtain ⟨u2, hu2, h⟩ := mbind_n h
  have zu2 := uPut_sz hu2
  cases h
  exact ⟨by omega, by omega⟩
set_option maxHeartbeats 4000000 in
set_option maxRecDepth 100000 in
theorem w_X1_refused_0 {p : Program} {l : Launch} {e : Env} {R : Room} {s : State} {m : MethodId} {args : Array Value} {below : List Frame} {meth : Method} {c : Code} {G : uG} {a0 : Nat} {uf : UH} {r : Int32} (hC : uC p s m args meth c G RX1 cX1_refused 2 (some .int)) (hR : 0 ≤ R.frames ∧ 0 ≤ R.locals) (N : Nat) (u : UH) (x1 : Int32) (h : f_X1_refused N (ub G) (ug G) u a0 x1 = some (r, uf)) {H : Heap} {locs : List Loc} (hP : uP G u H) (hS : va_S (uA G) s.heap H locs) {ls : Array Slot} (hl : lv_has ls 2 [(0, va_rf (some a0)), (1, .int x1)]) : W p l e R s m args below meth c H locs 0 0 (MQ below (uQi G r uf) args s 0 0 (uA G)) (F0 m 0 ls []) := by
  obtain ⟨⟨hx, hb, hml, hown, hts⟩, hKK⟩ := id hC
  unfold f_X1_refused at h
  refine u_aload_n (r := some a0) hx hb dX1_refused_0 rfl (lv_at hl 0 rfl) ?_
  refine lv_iload_n hx hb dX1_refused_1 rfl (lv_at hl 1 rfl) ?_
  obtain ⟨u1, hu1, h⟩ := mbind_n h
  have zu1 := uPut_sz hu1
  refine u_put hC hP hS hu1 rfl in_X1 tyX1 tyX1_ok nmX1 (by decide) q215 (fun _ h => h) rfl (ty := .int) (tyX1_ok 0 (by decide)) rfl rfl dX1_refused_2 (fun H locs hP hS => ?_)
  refine u_aload_n (r := some a0) hx hb dX1_refused_5 rfl (lv_at hl 0 rfl) ?_
  refine lv_iconst (v := (-1)) hx hb dX1_refused_6 (by decide) ?_
  obtain ⟨u2, hu2, h⟩ := mbind_n h
  have zu2 := uPut_sz hu2
  refine u_put hC hP hS hu2 rfl in_X1 tyX1 tyX1_ok nmX1 (by decide) q216 (fun _ h => h) rfl (ty := .int) (tyX1_ok 1 (by decide)) rfl rfl dX1_refused_7 (fun H locs hP hS => ?_)
  refine lv_iconst (v := (-1)) hx hb dX1_refused_10 (by decide) ?_
  cases h
  exact u_iret hC hP hS dX1_refused_11
theorem zz_X1_refused (N b : Nat) (g : uEnv) (u : UH) (a0 : Nat) (x1 : Int32) (r : Int32) (uf : UH) (h : f_X1_refused N b g u a0 x1 = some (r, uf)) : uf.1 = u.1 ∧ uf.2.1 = u.2.1 :=
  zz_X1_refused_0 (G := ((fun _ => 0, fun _ _ => 0), fun _ => 0, b, g)) (a0 := a0) N u x1 h
theorem met_X1_refused (l : Launch) (N : Nat) (G : uG) (u : UH) (a0 : Nat) (x1 : Int32) (r : Int32) (uf : UH) (h : f_X1_refused N (ub G) (ug G) u a0 x1 = some (r, uf)) : Met l yX1_refused (ws_ yX1_refused cX1_refused 2 (some .int)) ({ frames := 0, cells := 0, slots := 0, locals := 0 }) (uPc G u [.ref a0, .int x1]) (uQi G r uf) 0 0 (uA G) :=
  u_met (own := RX1) (by decide +kernel) rfl (Nat.le_of_ble_eq_true rfl) (fun hC hn hsz ls hl hP => w_X1_refused_0 hC ⟨Nat.le_refl _, Nat.le_refl _⟩ N u x1 h hP va_S.rf hl)
def f_X1_done (N b : Nat) (g : uEnv) (u : UH) (a0 : Nat) (x1 : Int32) : Option (Int32 × UH) :=
    (uPut b u a0 0 0 (.int 0)).bind fun u1 =>
    (uPut b u1 a0 0 1 (.int (-1))).bind fun u2 =>
    some (x1, u2)
set_option maxHeartbeats 4000000 in
set_option maxRecDepth 100000 in
theorem zz_X1_done_0 {G : uG} {a0 : Nat} {uf : UH} {r : Int32} (N : Nat) (u : UH) (x1 : Int32) (h : f_X1_done N (ub G) (ug G) u a0 x1 = some (r, uf)) : uf.1 = u.1 ∧ uf.2.1 = u.2.1 := by
  unfold f_X1_done at h
  obtain ⟨u1, hu1, h⟩ := mbind_n h
  have zu1 := uPut_sz hu1
  obtain ⟨u2, hu2, h⟩ := mbind_n h
  have zu2 := uPut_sz hu2
  cases h
  exact ⟨by omega, by omega⟩
set_option maxHeartbeats 4000000 in
set_option maxRecDepth 100000 in
theorem w_X1_done_0 {p : Program} {l : Launch} {e : Env} {R : Room} {s : State} {m : MethodId} {args : Array Value} {below : List Frame} {meth : Method} {c : Code} {G : uG} {a0 : Nat} {uf : UH} {r : Int32} (hC : uC p s m args meth c G RX1 cX1_done 2 (some .int)) (hR : 0 ≤ R.frames ∧ 0 ≤ R.locals) (N : Nat) (u : UH) (x1 : Int32) (h : f_X1_done N (ub G) (ug G) u a0 x1 = some (r, uf)) {H : Heap} {locs : List Loc} (hP : uP G u H) (hS : va_S (uA G) s.heap H locs) {ls : Array Slot} (hl : lv_has ls 2 [(0, va_rf (some a0)), (1, .int x1)]) : W p l e R s m args below meth c H locs 0 0 (MQ below (uQi G r uf) args s 0 0 (uA G)) (F0 m 0 ls []) := by
  obtain ⟨⟨hx, hb, hml, hown, hts⟩, hKK⟩ := id hC
  unfold f_X1_done at h
  refine u_aload_n (r := some a0) hx hb dX1_done_0 rfl (lv_at hl 0 rfl) ?_
  refine lv_iconst (v := 0) hx hb dX1_done_1 (by decide) ?_
  obtain ⟨u1, hu1, h⟩ := mbind_n h
  have zu1 := uPut_sz hu1
  refine u_put hC hP hS hu1 rfl in_X1 tyX1 tyX1_ok nmX1 (by decide) q215 (fun _ h => h) rfl (ty := .int) (tyX1_ok 0 (by decide)) rfl rfl dX1_done_2 (fun H locs hP hS => ?_)
  refine u_aload_n (r := some a0) hx hb dX1_done_5 rfl (lv_at hl 0 rfl) ?_
  refine lv_iconst (v := (-1)) hx hb dX1_done_6 (by decide) ?_
  obtain ⟨u2, hu2, h⟩ := mbind_n h
  have zu2 := uPut_sz hu2
  refine u_put hC hP hS hu2 rfl in_X1 tyX1 tyX1_ok nmX1 (by decide) q216 (fun _ h => h) rfl (ty := .int) (tyX1_ok 1 (by decide)) rfl rfl dX1_done_7 (fun H locs hP hS => ?_)
  refine lv_iload_n hx hb dX1_done_10 rfl (lv_at hl 1 rfl) ?_
  cases h
  exact u_iret hC hP hS dX1_done_11
theorem zz_X1_done (N b : Nat) (g : uEnv) (u : UH) (a0 : Nat) (x1 : Int32) (r : Int32) (uf : UH) (h : f_X1_done N b g u a0 x1 = some (r, uf)) : uf.1 = u.1 ∧ uf.2.1 = u.2.1 :=
  zz_X1_done_0 (G := ((fun _ => 0, fun _ _ => 0), fun _ => 0, b, g)) (a0 := a0) N u x1 h
theorem met_X1_done (l : Launch) (N : Nat) (G : uG) (u : UH) (a0 : Nat) (x1 : Int32) (r : Int32) (uf : UH) (h : f_X1_done N (ub G) (ug G) u a0 x1 = some (r, uf)) : Met l yX1_done (ws_ yX1_done cX1_done 2 (some .int)) ({ frames := 0, cells := 0, slots := 0, locals := 0 }) (uPc G u [.ref a0, .int x1]) (uQi G r uf) 0 0 (uA G) :=
  u_met (own := RX1) (by decide +kernel) rfl (Nat.le_of_ble_eq_true rfl) (fun hC hn hsz ls hl hP => w_X1_done_0 hC ⟨Nat.le_refl _, Nat.le_refl _⟩ N u x1 h hP va_S.rf hl)
def f_X1_fault (N b : Nat) (g : uEnv) (u : UH) (a0 : Nat) : Option (Int32 × UH) :=
    (uGI u a0 0 6).bind fun y1 =>
    some (y1, u)
set_option maxHeartbeats 4000000 in
set_option maxRecDepth 100000 in
theorem zz_X1_fault_0 {G : uG} {a0 : Nat} {uf : UH} {r : Int32} (N : Nat) (u : UH) (h : f_X1_fault N (ub G) (ug G) u a0 = some (r, uf)) : uf.1 = u.1 ∧ uf.2.1 = u.2.1 := by
  unfold f_X1_fault at h
  obtain ⟨y1, hy1, h⟩ := mbind_n h
  cases h
  exact ⟨by omega, by omega⟩
set_option maxHeartbeats 4000000 in
set_option maxRecDepth 100000 in
theorem w_X1_fault_0 {p : Program} {l : Launch} {e : Env} {R : Room} {s : State} {m : MethodId} {args : Array Value} {below : List Frame} {meth : Method} {c : Code} {G : uG} {a0 : Nat} {uf : UH} {r : Int32} (hC : uC p s m args meth c G RX1 cX1_fault 1 (some .int)) (hR : 0 ≤ R.frames ∧ 0 ≤ R.locals) (N : Nat) (u : UH) (h : f_X1_fault N (ub G) (ug G) u a0 = some (r, uf)) {H : Heap} {locs : List Loc} (hP : uP G u H) (hS : va_S (uA G) s.heap H locs) {ls : Array Slot} (hl : lv_has ls 1 [(0, va_rf (some a0))]) : W p l e R s m args below meth c H locs 0 0 (MQ below (uQi G r uf) args s 0 0 (uA G)) (F0 m 0 ls []) := by
  obtain ⟨⟨hx, hb, hml, hown, hts⟩, hKK⟩ := id hC
  unfold f_X1_fault at h
  refine u_aload_n (r := some a0) hx hb dX1_fault_0 rfl (lv_at hl 0 rfl) ?_
  obtain ⟨y1, hy1, h⟩ := mbind_n h
  refine u_get hC hP (uGI_n hy1) rfl in_X1 (by decide) q221 (fun _ h => h) dX1_fault_1 ?_
  cases h
  exact u_iret hC hP hS dX1_fault_4
theorem zz_X1_fault (N b : Nat) (g : uEnv) (u : UH) (a0 : Nat) (r : Int32) (uf : UH) (h : f_X1_fault N b g u a0 = some (r, uf)) : uf.1 = u.1 ∧ uf.2.1 = u.2.1 :=
  zz_X1_fault_0 (G := ((fun _ => 0, fun _ _ => 0), fun _ => 0, b, g)) (a0 := a0) N u h
theorem met_X1_fault (l : Launch) (N : Nat) (G : uG) (u : UH) (a0 : Nat) (r : Int32) (uf : UH) (h : f_X1_fault N (ub G) (ug G) u a0 = some (r, uf)) : Met l yX1_fault (ws_ yX1_fault cX1_fault 1 (some .int)) ({ frames := 0, cells := 0, slots := 0, locals := 0 }) (uPc G u [.ref a0]) (uQi G r uf) 0 0 (uA G) :=
  u_met (own := RX1) (by decide +kernel) rfl (Nat.le_of_ble_eq_true rfl) (fun hC hn hsz ls hl hP => w_X1_fault_0 hC ⟨Nat.le_refl _, Nat.le_refl _⟩ N u h hP va_S.rf hl)
def f_X1_where (N b : Nat) (g : uEnv) (u : UH) (a0 : Nat) : Option (Int32 × UH) :=
    (uGI u a0 0 1).bind fun y1 =>
    some (y1, u)
set_option maxHeartbeats 4000000 in
set_option maxRecDepth 100000 in
theorem zz_X1_where_0 {G : uG} {a0 : Nat} {uf : UH} {r : Int32} (N : Nat) (u : UH) (h : f_X1_where N (ub G) (ug G) u a0 = some (r, uf)) : uf.1 = u.1 ∧ uf.2.1 = u.2.1 := by
  unfold f_X1_where at h
  obtain ⟨y1, hy1, h⟩ := mbind_n h
  cases h
  exact ⟨by omega, by omega⟩
set_option maxHeartbeats 4000000 in
set_option maxRecDepth 100000 in
theorem w_X1_where_0 {p : Program} {l : Launch} {e : Env} {R : Room} {s : State} {m : MethodId} {args : Array Value} {below : List Frame} {meth : Method} {c : Code} {G : uG} {a0 : Nat} {uf : UH} {r : Int32} (hC : uC p s m args meth c G RX1 cX1_where 1 (some .int)) (hR : 0 ≤ R.frames ∧ 0 ≤ R.locals) (N : Nat) (u : UH) (h : f_X1_where N (ub G) (ug G) u a0 = some (r, uf)) {H : Heap} {locs : List Loc} (hP : uP G u H) (hS : va_S (uA G) s.heap H locs) {ls : Array Slot} (hl : lv_has ls 1 [(0, va_rf (some a0))]) : W p l e R s m args below meth c H locs 0 0 (MQ below (uQi G r uf) args s 0 0 (uA G)) (F0 m 0 ls []) := by
  obtain ⟨⟨hx, hb, hml, hown, hts⟩, hKK⟩ := id hC
  unfold f_X1_where at h
  refine u_aload_n (r := some a0) hx hb dX1_where_0 rfl (lv_at hl 0 rfl) ?_
  obtain ⟨y1, hy1, h⟩ := mbind_n h
  refine u_get hC hP (uGI_n hy1) rfl in_X1 (by decide) q216 (fun _ h => h) dX1_where_1 ?_
  cases h
  exact u_iret hC hP hS dX1_where_4
theorem zz_X1_where (N b : Nat) (g : uEnv) (u : UH) (a0 : Nat) (r : Int32) (uf : UH) (h : f_X1_where N b g u a0 = some (r, uf)) : uf.1 = u.1 ∧ uf.2.1 = u.2.1 :=
  zz_X1_where_0 (G := ((fun _ => 0, fun _ _ => 0), fun _ => 0, b, g)) (a0 := a0) N u h
theorem met_X1_where (l : Launch) (N : Nat) (G : uG) (u : UH) (a0 : Nat) (r : Int32) (uf : UH) (h : f_X1_where N (ub G) (ug G) u a0 = some (r, uf)) : Met l yX1_where (ws_ yX1_where cX1_where 1 (some .int)) ({ frames := 0, cells := 0, slots := 0, locals := 0 }) (uPc G u [.ref a0]) (uQi G r uf) 0 0 (uA G) :=
  u_met (own := RX1) (by decide +kernel) rfl (Nat.le_of_ble_eq_true rfl) (fun hC hn hsz ls hl hP => w_X1_where_0 hC ⟨Nat.le_refl _, Nat.le_refl _⟩ N u h hP va_S.rf hl)
def f_X1_trouble (N b : Nat) (g : uEnv) (u : UH) (a0 : Nat) : Option (Int32 × UH) :=
    (uGI u a0 0 0).bind fun y1 =>
    some (y1, u)
set_option maxHeartbeats 4000000 in
set_option maxRecDepth 100000 in
theorem zz_X1_trouble_0 {G : uG} {a0 : Nat} {uf : UH} {r : Int32} (N : Nat) (u : UH) (h : f_X1_trouble N (ub G) (ug G) u a0 = some (r, uf)) : uf.1 = u.1 ∧ uf.2.1 = u.2.1 := by
  unfold f_X1_trouble at h
  obtain ⟨y1, hy1, h⟩ := mbind_n h
  cases h
  exact ⟨by omega, by omega⟩
set_option maxHeartbeats 4000000 in
set_option maxRecDepth 100000 in
theorem w_X1_trouble_0 {p : Program} {l : Launch} {e : Env} {R : Room} {s : State} {m : MethodId} {args : Array Value} {below : List Frame} {meth : Method} {c : Code} {G : uG} {a0 : Nat} {uf : UH} {r : Int32} (hC : uC p s m args meth c G RX1 cX1_trouble 1 (some .int)) (hR : 0 ≤ R.frames ∧ 0 ≤ R.locals) (N : Nat) (u : UH) (h : f_X1_trouble N (ub G) (ug G) u a0 = some (r, uf)) {H : Heap} {locs : List Loc} (hP : uP G u H) (hS : va_S (uA G) s.heap H locs) {ls : Array Slot} (hl : lv_has ls 1 [(0, va_rf (some a0))]) : W p l e R s m args below meth c H locs 0 0 (MQ below (uQi G r uf) args s 0 0 (uA G)) (F0 m 0 ls []) := by
  obtain ⟨⟨hx, hb, hml, hown, hts⟩, hKK⟩ := id hC
  unfold f_X1_trouble at h
  refine u_aload_n (r := some a0) hx hb dX1_trouble_0 rfl (lv_at hl 0 rfl) ?_
  obtain ⟨y1, hy1, h⟩ := mbind_n h
  refine u_get hC hP (uGI_n hy1) rfl in_X1 (by decide) q215 (fun _ h => h) dX1_trouble_1 ?_
  cases h
  exact u_iret hC hP hS dX1_trouble_4
theorem zz_X1_trouble (N b : Nat) (g : uEnv) (u : UH) (a0 : Nat) (r : Int32) (uf : UH) (h : f_X1_trouble N b g u a0 = some (r, uf)) : uf.1 = u.1 ∧ uf.2.1 = u.2.1 :=
  zz_X1_trouble_0 (G := ((fun _ => 0, fun _ _ => 0), fun _ => 0, b, g)) (a0 := a0) N u h
theorem met_X1_trouble (l : Launch) (N : Nat) (G : uG) (u : UH) (a0 : Nat) (r : Int32) (uf : UH) (h : f_X1_trouble N (ub G) (ug G) u a0 = some (r, uf)) : Met l yX1_trouble (ws_ yX1_trouble cX1_trouble 1 (some .int)) ({ frames := 0, cells := 0, slots := 0, locals := 0 }) (uPc G u [.ref a0]) (uQi G r uf) 0 0 (uA G) :=
  u_met (own := RX1) (by decide +kernel) rfl (Nat.le_of_ble_eq_true rfl) (fun hC hn hsz ls hl hP => w_X1_trouble_0 hC ⟨Nat.le_refl _, Nat.le_refl _⟩ N u h hP va_S.rf hl)
def f_X2_sign (N b : Nat) (g : uEnv) (u : UH) (x0 : Int32) (x1 : Int32) : Option (Int32 × UH) :=
    some ((x0 >>> ((2 * x1) &&& 31)) &&& 3, u)
set_option maxHeartbeats 4000000 in
set_option maxRecDepth 100000 in
theorem zz_X2_sign_0 {G : uG} {uf : UH} {r : Int32} (N : Nat) (u : UH) (x0 : Int32) (x1 : Int32) (h : f_X2_sign N (ub G) (ug G) u x0 x1 = some (r, uf)) : uf.1 = u.1 ∧ uf.2.1 = u.2.1 := by
  unfold f_X2_sign at h
  cases h
  exact ⟨by omega, by omega⟩
set_option maxHeartbeats 4000000 in
set_option maxRecDepth 100000 in
theorem w_X2_sign_0 {p : Program} {l : Launch} {e : Env} {R : Room} {s : State} {m : MethodId} {args : Array Value} {below : List Frame} {meth : Method} {c : Code} {G : uG} {uf : UH} {r : Int32} (hC : uC p s m args meth c G RX2 cX2_sign 2 (some .int)) (hR : 0 ≤ R.frames ∧ 0 ≤ R.locals) (N : Nat) (u : UH) (x0 : Int32) (x1 : Int32) (h : f_X2_sign N (ub G) (ug G) u x0 x1 = some (r, uf)) {H : Heap} {locs : List Loc} (hP : uP G u H) (hS : va_S (uA G) s.heap H locs) {ls : Array Slot} (hl : lv_has ls 2 [(0, .int x0), (1, .int x1)]) : W p l e R s m args below meth c H locs 0 0 (MQ below (uQi G r uf) args s 0 0 (uA G)) (F0 m 0 ls []) := by
  obtain ⟨⟨hx, hb, hml, hown, hts⟩, hKK⟩ := id hC
  unfold f_X2_sign at h
  refine lv_iload_n hx hb dX2_sign_0 rfl (lv_at hl 0 rfl) ?_
  refine lv_iconst (v := 2) hx hb dX2_sign_1 (by decide) ?_
  refine lv_iload_n hx hb dX2_sign_2 rfl (lv_at hl 1 rfl) ?_
  refine lv_imul hx hb dX2_sign_3 ?_
  refine lv_ishr hx hb dX2_sign_4 ?_
  refine lv_iconst (v := 3) hx hb dX2_sign_5 (by decide) ?_
  refine lv_iand hx hb dX2_sign_6 ?_
  cases h
  exact u_iret hC hP hS dX2_sign_7
theorem zz_X2_sign (N b : Nat) (g : uEnv) (u : UH) (x0 : Int32) (x1 : Int32) (r : Int32) (uf : UH) (h : f_X2_sign N b g u x0 x1 = some (r, uf)) : uf.1 = u.1 ∧ uf.2.1 = u.2.1 :=
  zz_X2_sign_0 (G := ((fun _ => 0, fun _ _ => 0), fun _ => 0, b, g)) N u x0 x1 h
theorem met_X2_sign (l : Launch) (N : Nat) (G : uG) (u : UH) (x0 : Int32) (x1 : Int32) (r : Int32) (uf : UH) (h : f_X2_sign N (ub G) (ug G) u x0 x1 = some (r, uf)) : Met l yX2_sign (ws_ yX2_sign cX2_sign 2 (some .int)) ({ frames := 0, cells := 0, slots := 0, locals := 0 }) (uPc G u [.int x0, .int x1]) (uQi G r uf) 0 0 (uA G) :=
  u_met (own := RX2) (by decide +kernel) rfl (Nat.le_of_ble_eq_true rfl) (fun hC hn hsz ls hl hP => w_X2_sign_0 hC ⟨Nat.le_refl _, Nat.le_refl _⟩ N u x0 x1 h hP va_S.rf hl)
def f_X5_isLetter_17 (N b : Nat) (g : uEnv) (u : UH) (s0 : Int32) : Option (Int32 × UH) :=
    if uFit .boolean s0 = true then
    some (s0, u)
    else none
set_option maxHeartbeats 4000000 in
set_option maxRecDepth 100000 in
theorem zz_X5_isLetter_17 {G : uG} {uf : UH} {r : Int32} (N : Nat) (u : UH) (s0 : Int32) (h : f_X5_isLetter_17 N (ub G) (ug G) u s0 = some (r, uf)) : uf.1 = u.1 ∧ uf.2.1 = u.2.1 := by
  unfold f_X5_isLetter_17 at h
  obtain ⟨c1, h⟩ := mif_n h
  cases h
  exact ⟨by omega, by omega⟩
set_option maxHeartbeats 4000000 in
set_option maxRecDepth 100000 in
theorem w_X5_isLetter_17 {p : Program} {l : Launch} {e : Env} {R : Room} {s : State} {m : MethodId} {args : Array Value} {below : List Frame} {meth : Method} {c : Code} {G : uG} {uf : UH} {r : Int32} (hC : uC p s m args meth c G RX5 cX5_isLetter 1 (some .boolean)) (hR : 0 ≤ R.frames ∧ 0 ≤ R.locals) (N : Nat) (u : UH) (s0 : Int32) (h : f_X5_isLetter_17 N (ub G) (ug G) u s0 = some (r, uf)) {H : Heap} {locs : List Loc} (hP : uP G u H) (hS : va_S (uA G) s.heap H locs) {ls : Array Slot} (hl : lv_has ls 1 []) : W p l e R s m args below meth c H locs 0 0 (MQ below (uQi G r uf) args s 0 0 (uA G)) (F0 m 17 ls [.int s0]) := by
  obtain ⟨⟨hx, hb, hml, hown, hts⟩, hKK⟩ := id hC
  unfold f_X5_isLetter_17 at h
  obtain ⟨c1, h⟩ := mif_n h
  cases h
  exact u_zret hC (uFit_n c1).1 hP hS dX5_isLetter_17
def f_X5_isLetter_16 (N b : Nat) (g : uEnv) (u : UH) : Option (Int32 × UH) :=
    f_X5_isLetter_17 N b g u 0
set_option maxHeartbeats 4000000 in
set_option maxRecDepth 100000 in
theorem zz_X5_isLetter_16 {G : uG} {uf : UH} {r : Int32} (N : Nat) (u : UH) (h : f_X5_isLetter_16 N (ub G) (ug G) u = some (r, uf)) : uf.1 = u.1 ∧ uf.2.1 = u.2.1 := by
  unfold f_X5_isLetter_16 at h
  have hq := zz_X5_isLetter_17 (G := G) N u 0 h
  exact ⟨by omega, by omega⟩
set_option maxHeartbeats 4000000 in
set_option maxRecDepth 100000 in
theorem w_X5_isLetter_16 {p : Program} {l : Launch} {e : Env} {R : Room} {s : State} {m : MethodId} {args : Array Value} {below : List Frame} {meth : Method} {c : Code} {G : uG} {uf : UH} {r : Int32} (hC : uC p s m args meth c G RX5 cX5_isLetter 1 (some .boolean)) (hR : 0 ≤ R.frames ∧ 0 ≤ R.locals) (N : Nat) (u : UH) (h : f_X5_isLetter_16 N (ub G) (ug G) u = some (r, uf)) {H : Heap} {locs : List Loc} (hP : uP G u H) (hS : va_S (uA G) s.heap H locs) {ls : Array Slot} (hl : lv_has ls 1 []) : W p l e R s m args below meth c H locs 0 0 (MQ below (uQi G r uf) args s 0 0 (uA G)) (F0 m 16 ls []) := by
  obtain ⟨⟨hx, hb, hml, hown, hts⟩, hKK⟩ := id hC
  unfold f_X5_isLetter_16 at h
  refine lv_iconst (v := 0) hx hb dX5_isLetter_16 (by decide) ?_
  exact w_X5_isLetter_17 hC hR N u 0 h hP hS (lv_sub hl [] rfl)
def f_X5_isLetter (N b : Nat) (g : uEnv) (u : UH) (x0 : Int32) : Option (Int32 × UH) :=
    if x0 < 97 then
    f_X5_isLetter_16 N b g u
    else
    if 122 < x0 then
    f_X5_isLetter_16 N b g u
    else
    f_X5_isLetter_17 N b g u 1
set_option maxHeartbeats 4000000 in
set_option maxRecDepth 100000 in
theorem zz_X5_isLetter_0 {G : uG} {uf : UH} {r : Int32} (N : Nat) (u : UH) (x0 : Int32) (h : f_X5_isLetter N (ub G) (ug G) u x0 = some (r, uf)) : uf.1 = u.1 ∧ uf.2.1 = u.2.1 := by
  unfold f_X5_isLetter at h
  by_cases c1 : x0 < 97
  · have h := mif_t c1 h
    have hq := zz_X5_isLetter_16 (G := G) N u h
    exact ⟨by omega, by omega⟩
  · have h := mif_f c1 h
    by_cases c2 : 122 < x0
    · have h := mif_t c2 h
      have hq := zz_X5_isLetter_16 (G := G) N u h
      exact ⟨by omega, by omega⟩
    · have h := mif_f c2 h
      have hq := zz_X5_isLetter_17 (G := G) N u 1 h
      exact ⟨by omega, by omega⟩
set_option maxHeartbeats 4000000 in
set_option maxRecDepth 100000 in
theorem w_X5_isLetter_0 {p : Program} {l : Launch} {e : Env} {R : Room} {s : State} {m : MethodId} {args : Array Value} {below : List Frame} {meth : Method} {c : Code} {G : uG} {uf : UH} {r : Int32} (hC : uC p s m args meth c G RX5 cX5_isLetter 1 (some .boolean)) (hR : 0 ≤ R.frames ∧ 0 ≤ R.locals) (N : Nat) (u : UH) (x0 : Int32) (h : f_X5_isLetter N (ub G) (ug G) u x0 = some (r, uf)) {H : Heap} {locs : List Loc} (hP : uP G u H) (hS : va_S (uA G) s.heap H locs) {ls : Array Slot} (hl : lv_has ls 1 [(0, .int x0)]) : W p l e R s m args below meth c H locs 0 0 (MQ below (uQi G r uf) args s 0 0 (uA G)) (F0 m 0 ls []) := by
  obtain ⟨⟨hx, hb, hml, hown, hts⟩, hKK⟩ := id hC
  unfold f_X5_isLetter at h
  refine lv_iload_n hx hb dX5_isLetter_0 rfl (lv_at hl 0 rfl) ?_
  refine lv_bipush (v := 97) hx hb dX5_isLetter_1 (by decide) ?_
  refine lv_icmp_lt (tgt := 16) hx hb dX5_isLetter_3 (by decide) (fun c1 => ?_) (fun c1 => ?_)
  · have h := mif_t c1 h
    exact w_X5_isLetter_16 hC hR N u h hP hS (lv_sub hl [] rfl)
  · have h := mif_f c1 h
    refine lv_iload_n hx hb dX5_isLetter_6 rfl (lv_at hl 0 rfl) ?_
    refine lv_bipush (v := 122) hx hb dX5_isLetter_7 (by decide) ?_
    refine lv_icmp_gt (tgt := 16) hx hb dX5_isLetter_9 (by decide) (fun c2 => ?_) (fun c2 => ?_)
    · have h := mif_t c2 h
      exact w_X5_isLetter_16 hC hR N u h hP hS (lv_sub hl [] rfl)
    · have h := mif_f c2 h
      refine lv_iconst (v := 1) hx hb dX5_isLetter_12 (by decide) ?_
      refine lv_goto (tgt := 17) hx hb dX5_isLetter_13 (by decide) ?_
      exact w_X5_isLetter_17 hC hR N u 1 h hP hS (lv_sub hl [] rfl)
theorem zz_X5_isLetter (N b : Nat) (g : uEnv) (u : UH) (x0 : Int32) (r : Int32) (uf : UH) (h : f_X5_isLetter N b g u x0 = some (r, uf)) : uf.1 = u.1 ∧ uf.2.1 = u.2.1 :=
  zz_X5_isLetter_0 (G := ((fun _ => 0, fun _ _ => 0), fun _ => 0, b, g)) N u x0 h
theorem met_X5_isLetter (l : Launch) (N : Nat) (G : uG) (u : UH) (x0 : Int32) (r : Int32) (uf : UH) (h : f_X5_isLetter N (ub G) (ug G) u x0 = some (r, uf)) : Met l yX5_isLetter (ws_ yX5_isLetter cX5_isLetter 1 (some .boolean)) ({ frames := 0, cells := 0, slots := 0, locals := 0 }) (uPc G u [.int x0]) (uQi G r uf) 0 0 (uA G) :=
  u_met (own := RX5) (by decide +kernel) rfl (Nat.le_of_ble_eq_true rfl) (fun hC hn hsz ls hl hP => w_X5_isLetter_0 hC ⟨Nat.le_refl _, Nat.le_refl _⟩ N u x0 h hP va_S.rf hl)
def f_X5_isDigit_17 (N b : Nat) (g : uEnv) (u : UH) (s0 : Int32) : Option (Int32 × UH) :=
    if uFit .boolean s0 = true then
    some (s0, u)
    else none
set_option maxHeartbeats 4000000 in
set_option maxRecDepth 100000 in
theorem zz_X5_isDigit_17 {G : uG} {uf : UH} {r : Int32} (N : Nat) (u : UH) (s0 : Int32) (h : f_X5_isDigit_17 N (ub G) (ug G) u s0 = some (r, uf)) : uf.1 = u.1 ∧ uf.2.1 = u.2.1 := by
  unfold f_X5_isDigit_17 at h
  obtain ⟨c1, h⟩ := mif_n h
  cases h
  exact ⟨by omega, by omega⟩
set_option maxHeartbeats 4000000 in
set_option maxRecDepth 100000 in
theorem w_X5_isDigit_17 {p : Program} {l : Launch} {e : Env} {R : Room} {s : State} {m : MethodId} {args : Array Value} {below : List Frame} {meth : Method} {c : Code} {G : uG} {uf : UH} {r : Int32} (hC : uC p s m args meth c G RX5 cX5_isDigit 1 (some .boolean)) (hR : 0 ≤ R.frames ∧ 0 ≤ R.locals) (N : Nat) (u : UH) (s0 : Int32) (h : f_X5_isDigit_17 N (ub G) (ug G) u s0 = some (r, uf)) {H : Heap} {locs : List Loc} (hP : uP G u H) (hS : va_S (uA G) s.heap H locs) {ls : Array Slot} (hl : lv_has ls 1 []) : W p l e R s m args below meth c H locs 0 0 (MQ below (uQi G r uf) args s 0 0 (uA G)) (F0 m 17 ls [.int s0]) := by
  obtain ⟨⟨hx, hb, hml, hown, hts⟩, hKK⟩ := id hC
  unfold f_X5_isDigit_17 at h
  obtain ⟨c1, h⟩ := mif_n h
  cases h
  exact u_zret hC (uFit_n c1).1 hP hS dX5_isDigit_17
def f_X5_isDigit_16 (N b : Nat) (g : uEnv) (u : UH) : Option (Int32 × UH) :=
    f_X5_isDigit_17 N b g u 0
set_option maxHeartbeats 4000000 in
set_option maxRecDepth 100000 in
theorem zz_X5_isDigit_16 {G : uG} {uf : UH} {r : Int32} (N : Nat) (u : UH) (h : f_X5_isDigit_16 N (ub G) (ug G) u = some (r, uf)) : uf.1 = u.1 ∧ uf.2.1 = u.2.1 := by
  unfold f_X5_isDigit_16 at h
  have hq := zz_X5_isDigit_17 (G := G) N u 0 h
  exact ⟨by omega, by omega⟩
set_option maxHeartbeats 4000000 in
set_option maxRecDepth 100000 in
theorem w_X5_isDigit_16 {p : Program} {l : Launch} {e : Env} {R : Room} {s : State} {m : MethodId} {args : Array Value} {below : List Frame} {meth : Method} {c : Code} {G : uG} {uf : UH} {r : Int32} (hC : uC p s m args meth c G RX5 cX5_isDigit 1 (some .boolean)) (hR : 0 ≤ R.frames ∧ 0 ≤ R.locals) (N : Nat) (u : UH) (h : f_X5_isDigit_16 N (ub G) (ug G) u = some (r, uf)) {H : Heap} {locs : List Loc} (hP : uP G u H) (hS : va_S (uA G) s.heap H locs) {ls : Array Slot} (hl : lv_has ls 1 []) : W p l e R s m args below meth c H locs 0 0 (MQ below (uQi G r uf) args s 0 0 (uA G)) (F0 m 16 ls []) := by
  obtain ⟨⟨hx, hb, hml, hown, hts⟩, hKK⟩ := id hC
  unfold f_X5_isDigit_16 at h
  refine lv_iconst (v := 0) hx hb dX5_isDigit_16 (by decide) ?_
  exact w_X5_isDigit_17 hC hR N u 0 h hP hS (lv_sub hl [] rfl)
def f_X5_isDigit (N b : Nat) (g : uEnv) (u : UH) (x0 : Int32) : Option (Int32 × UH) :=
    if x0 < 48 then
    f_X5_isDigit_16 N b g u
    else
    if 57 < x0 then
    f_X5_isDigit_16 N b g u
    else
    f_X5_isDigit_17 N b g u 1
set_option maxHeartbeats 4000000 in
set_option maxRecDepth 100000 in
theorem zz_X5_isDigit_0 {G : uG} {uf : UH} {r : Int32} (N : Nat) (u : UH) (x0 : Int32) (h : f_X5_isDigit N (ub G) (ug G) u x0 = some (r, uf)) : uf.1 = u.1 ∧ uf.2.1 = u.2.1 := by
  unfold f_X5_isDigit at h
  by_cases c1 : x0 < 48
  · have h := mif_t c1 h
    have hq := zz_X5_isDigit_16 (G := G) N u h
    exact ⟨by omega, by omega⟩
  · have h := mif_f c1 h
    by_cases c2 : 57 < x0
    · have h := mif_t c2 h
      have hq := zz_X5_isDigit_16 (G := G) N u h
      exact ⟨by omega, by omega⟩
    · have h := mif_f c2 h
      have hq := zz_X5_isDigit_17 (G := G) N u 1 h
      exact ⟨by omega, by omega⟩
set_option maxHeartbeats 4000000 in
set_option maxRecDepth 100000 in
theorem w_X5_isDigit_0 {p : Program} {l : Launch} {e : Env} {R : Room} {s : State} {m : MethodId} {args : Array Value} {below : List Frame} {meth : Method} {c : Code} {G : uG} {uf : UH} {r : Int32} (hC : uC p s m args meth c G RX5 cX5_isDigit 1 (some .boolean)) (hR : 0 ≤ R.frames ∧ 0 ≤ R.locals) (N : Nat) (u : UH) (x0 : Int32) (h : f_X5_isDigit N (ub G) (ug G) u x0 = some (r, uf)) {H : Heap} {locs : List Loc} (hP : uP G u H) (hS : va_S (uA G) s.heap H locs) {ls : Array Slot} (hl : lv_has ls 1 [(0, .int x0)]) : W p l e R s m args below meth c H locs 0 0 (MQ below (uQi G r uf) args s 0 0 (uA G)) (F0 m 0 ls []) := by
  obtain ⟨⟨hx, hb, hml, hown, hts⟩, hKK⟩ := id hC
  unfold f_X5_isDigit at h
  refine lv_iload_n hx hb dX5_isDigit_0 rfl (lv_at hl 0 rfl) ?_
  refine lv_bipush (v := 48) hx hb dX5_isDigit_1 (by decide) ?_
  refine lv_icmp_lt (tgt := 16) hx hb dX5_isDigit_3 (by decide) (fun c1 => ?_) (fun c1 => ?_)
  · have h := mif_t c1 h
    exact w_X5_isDigit_16 hC hR N u h hP hS (lv_sub hl [] rfl)
  · have h := mif_f c1 h
    refine lv_iload_n hx hb dX5_isDigit_6 rfl (lv_at hl 0 rfl) ?_
    refine lv_bipush (v := 57) hx hb dX5_isDigit_7 (by decide) ?_
    refine lv_icmp_gt (tgt := 16) hx hb dX5_isDigit_9 (by decide) (fun c2 => ?_) (fun c2 => ?_)
    · have h := mif_t c2 h
      exact w_X5_isDigit_16 hC hR N u h hP hS (lv_sub hl [] rfl)
    · have h := mif_f c2 h
      refine lv_iconst (v := 1) hx hb dX5_isDigit_12 (by decide) ?_
      refine lv_goto (tgt := 17) hx hb dX5_isDigit_13 (by decide) ?_
      exact w_X5_isDigit_17 hC hR N u 1 h hP hS (lv_sub hl [] rfl)
theorem zz_X5_isDigit (N b : Nat) (g : uEnv) (u : UH) (x0 : Int32) (r : Int32) (uf : UH) (h : f_X5_isDigit N b g u x0 = some (r, uf)) : uf.1 = u.1 ∧ uf.2.1 = u.2.1 :=
  zz_X5_isDigit_0 (G := ((fun _ => 0, fun _ _ => 0), fun _ => 0, b, g)) N u x0 h
theorem met_X5_isDigit (l : Launch) (N : Nat) (G : uG) (u : UH) (x0 : Int32) (r : Int32) (uf : UH) (h : f_X5_isDigit N (ub G) (ug G) u x0 = some (r, uf)) : Met l yX5_isDigit (ws_ yX5_isDigit cX5_isDigit 1 (some .boolean)) ({ frames := 0, cells := 0, slots := 0, locals := 0 }) (uPc G u [.int x0]) (uQi G r uf) 0 0 (uA G) :=
  u_met (own := RX5) (by decide +kernel) rfl (Nat.le_of_ble_eq_true rfl) (fun hC hn hsz ls hl hP => w_X5_isDigit_0 hC ⟨Nat.le_refl _, Nat.le_refl _⟩ N u x0 h hP va_S.rf hl)
def f_X5_here_28 (N b : Nat) (g : uEnv) (a0 : Nat) (u : UH) (s0 : Int32) : Option (Int32 × UH) :=
    some (s0, u)
set_option maxHeartbeats 4000000 in
set_option maxRecDepth 100000 in
theorem zz_X5_here_28 {G : uG} {a0 : Nat} {uf : UH} {r : Int32} (N : Nat) (u : UH) (s0 : Int32) (h : f_X5_here_28 N (ub G) (ug G) a0 u s0 = some (r, uf)) : uf.1 = u.1 ∧ uf.2.1 = u.2.1 := by
  unfold f_X5_here_28 at h
  cases h
  exact ⟨by omega, by omega⟩
set_option maxHeartbeats 4000000 in
set_option maxRecDepth 100000 in
theorem w_X5_here_28 {p : Program} {l : Launch} {e : Env} {R : Room} {s : State} {m : MethodId} {args : Array Value} {below : List Frame} {meth : Method} {c : Code} {G : uG} {a0 : Nat} {uf : UH} {r : Int32} (hC : uC p s m args meth c G RX5 cX5_here 1 (some .int)) (hR : 0 ≤ R.frames ∧ 0 ≤ R.locals) (N : Nat) (u : UH) (s0 : Int32) (h : f_X5_here_28 N (ub G) (ug G) a0 u s0 = some (r, uf)) {H : Heap} {locs : List Loc} (hP : uP G u H) (hS : va_S (uA G) s.heap H locs) {ls : Array Slot} (hl : lv_has ls 1 []) : W p l e R s m args below meth c H locs 0 0 (MQ below (uQi G r uf) args s 0 0 (uA G)) (F0 m 28 ls [.int s0]) := by
  obtain ⟨⟨hx, hb, hml, hown, hts⟩, hKK⟩ := id hC
  unfold f_X5_here_28 at h
  cases h
  exact u_iret hC hP hS dX5_here_28
def f_X5_here (N b : Nat) (g : uEnv) (u : UH) (a0 : Nat) : Option (Int32 × UH) :=
    (uGI u a0 4 2).bind fun y1 =>
    (uGI u a0 4 1).bind fun y2 =>
    if y2 ≤ y1 then
    f_X5_here_28 N b g a0 u (-1)
    else
    (uGR u a0 4 0).bind fun o4 =>
    (uGI u a0 4 2).bind fun y5 =>
    (o4).bind fun a6 =>
    (uLdI u a6 1 y5).bind fun y7 =>
    f_X5_here_28 N b g a0 u (y7 &&& 255)
set_option maxHeartbeats 4000000 in
set_option maxRecDepth 100000 in
theorem zz_X5_here_0 {G : uG} {a0 : Nat} {uf : UH} {r : Int32} (N : Nat) (u : UH) (h : f_X5_here N (ub G) (ug G) u a0 = some (r, uf)) : uf.1 = u.1 ∧ uf.2.1 = u.2.1 := by
  unfold f_X5_here at h
  obtain ⟨y1, hy1, h⟩ := mbind_n h
  obtain ⟨y2, hy2, h⟩ := mbind_n h
  by_cases c3 : y2 ≤ y1
  · have h := mif_t c3 h
    have hq := zz_X5_here_28 (G := G) (a0 := a0) N u (-1) h
    exact ⟨by omega, by omega⟩
  · have h := mif_f c3 h
    obtain ⟨o4, ho4, h⟩ := mbind_n h
    obtain ⟨y5, hy5, h⟩ := mbind_n h
    obtain ⟨a6, ha6, h1⟩ := mbind_n h
    subst ha6
    have h := h1
    obtain ⟨y7, hy7, h⟩ := mbind_n h
    have hq := zz_X5_here_28 (G := G) (a0 := a0) N u (y7 &&& 255) h
    exact ⟨by omega, by omega⟩
set_option maxHeartbeats 4000000 in
set_option maxRecDepth 100000 in
theorem w_X5_here_0 {p : Program} {l : Launch} {e : Env} {R : Room} {s : State} {m : MethodId} {args : Array Value} {below : List Frame} {meth : Method} {c : Code} {G : uG} {a0 : Nat} {uf : UH} {r : Int32} (hC : uC p s m args meth c G RX5 cX5_here 1 (some .int)) (hR : 0 ≤ R.frames ∧ 0 ≤ R.locals) (N : Nat) (u : UH) (h : f_X5_here N (ub G) (ug G) u a0 = some (r, uf)) {H : Heap} {locs : List Loc} (hP : uP G u H) (hS : va_S (uA G) s.heap H locs) {ls : Array Slot} (hl : lv_has ls 1 [(0, va_rf (some a0))]) : W p l e R s m args below meth c H locs 0 0 (MQ below (uQi G r uf) args s 0 0 (uA G)) (F0 m 0 ls []) := by
  obtain ⟨⟨hx, hb, hml, hown, hts⟩, hKK⟩ := id hC
  unfold f_X5_here at h
  refine u_aload_n (r := some a0) hx hb dX5_here_0 rfl (lv_at hl 0 rfl) ?_
  obtain ⟨y1, hy1, h⟩ := mbind_n h
  refine u_get hC hP (uGI_n hy1) rfl in_X5 (by decide) q629 (fun _ h => h) dX5_here_1 ?_
  refine u_aload_n (r := some a0) hx hb dX5_here_4 rfl (lv_at hl 0 rfl) ?_
  obtain ⟨y2, hy2, h⟩ := mbind_n h
  refine u_get hC hP (uGI_n hy2) rfl in_X5 (by decide) q628 (fun _ h => h) dX5_here_5 ?_
  refine lv_icmp_ge (tgt := 27) hx hb dX5_here_8 (by decide) (fun c3 => ?_) (fun c3 => ?_)
  · have h := mif_t c3 h
    refine lv_iconst (v := (-1)) hx hb dX5_here_27 (by decide) ?_
    exact w_X5_here_28 hC hR N u (-1) h hP hS (lv_sub hl [] rfl)
  · have h := mif_f c3 h
    refine u_aload_n (r := some a0) hx hb dX5_here_11 rfl (lv_at hl 0 rfl) ?_
    obtain ⟨o4, ho4, h⟩ := mbind_n h
    refine u_get hC hP (uGR_n ho4) rfl in_X5 (by decide) q627 (fun _ h => h) dX5_here_12 ?_
    refine u_aload_n (r := some a0) hx hb dX5_here_15 rfl (lv_at hl 0 rfl) ?_
    obtain ⟨y5, hy5, h⟩ := mbind_n h
    refine u_get hC hP (uGI_n hy5) rfl in_X5 (by decide) q629 (fun _ h => h) dX5_here_16 ?_
    obtain ⟨a6, ha6, h1⟩ := mbind_n h
    subst ha6
    have h := h1
    obtain ⟨y7, hy7, h⟩ := mbind_n h
    refine u_bald hC hP hy7 rfl dX5_here_19 ?_
    refine lv_sipush (v := 255) hx hb dX5_here_20 (by decide) ?_
    refine lv_iand hx hb dX5_here_23 ?_
    refine lv_goto (tgt := 28) hx hb dX5_here_24 (by decide) ?_
    exact w_X5_here_28 hC hR N u (y7 &&& 255) h hP hS (lv_sub hl [] rfl)
theorem zz_X5_here (N b : Nat) (g : uEnv) (u : UH) (a0 : Nat) (r : Int32) (uf : UH) (h : f_X5_here N b g u a0 = some (r, uf)) : uf.1 = u.1 ∧ uf.2.1 = u.2.1 :=
  zz_X5_here_0 (G := ((fun _ => 0, fun _ _ => 0), fun _ => 0, b, g)) (a0 := a0) N u h
theorem met_X5_here (l : Launch) (N : Nat) (G : uG) (u : UH) (a0 : Nat) (r : Int32) (uf : UH) (h : f_X5_here N (ub G) (ug G) u a0 = some (r, uf)) : Met l yX5_here (ws_ yX5_here cX5_here 1 (some .int)) ({ frames := 0, cells := 0, slots := 0, locals := 0 }) (uPc G u [.ref a0]) (uQi G r uf) 0 0 (uA G) :=
  u_met (own := RX5) (by decide +kernel) rfl (Nat.le_of_ble_eq_true rfl) (fun hC hn hsz ls hl hP => w_X5_here_0 hC ⟨Nat.le_refl _, Nat.le_refl _⟩ N u h hP va_S.rf hl)
def f_X15_kinds_36 (N b : Nat) (g : uEnv) (a0 : Nat) (k13 : UH → Int32 → Option Nat → Int32 → Int32 → Option (Int32 × UH)) (u : UH) (x2 : Option Nat) (x3 : Int32) (x4 : Int32) (s0 : Int32) (s1 : Int32) : Option (Int32 × UH) :=
    mlet (s1 + s0) fun y1 =>
    mlet (x4 + 1) fun y2 =>
    k13 u y1 x2 x3 y2
set_option maxHeartbeats 4000000 in
set_option maxRecDepth 100000 in
theorem zz_X15_kinds_36 {G : uG} {a0 : Nat} {uf : UH} {r : Int32} (N : Nat) (k13 : UH → Int32 → Option Nat → Int32 → Int32 → Option (Int32 × UH)) (hk13 : ∀ (u : UH) (x1 : Int32) (x2 : Option Nat) (x3 : Int32) (x4 : Int32), k13 u x1 x2 x3 x4 = some (r, uf) → uf.1 = u.1 ∧ uf.2.1 = u.2.1) (u : UH) (x2 : Option Nat) (x3 : Int32) (x4 : Int32) (s0 : Int32) (s1 : Int32) (h : f_X15_kinds_36 N (ub G) (ug G) a0 k13 u x2 x3 x4 s0 s1 = some (r, uf)) : uf.1 = u.1 ∧ uf.2.1 = u.2.1 := by
  unfold f_X15_kinds_36 at h
  obtain ⟨y1, ey1⟩ : ∃ z, z = s1 + s0 := ⟨_, rfl⟩
  have h := mlet_at ey1 h
  obtain ⟨y2, ey2⟩ : ∃ z : Int32, z = x4 + 1 := ⟨_, rfl⟩
  have h := mlet_at ey2 h
  have hq := hk13 u y1 x2 x3 y2 h
  exact ⟨by omega, by omega⟩
set_option maxHeartbeats 4000000 in
set_option maxRecDepth 100000 in
theorem w_X15_kinds_36 {p : Program} {l : Launch} {e : Env} {R : Room} {s : State} {m : MethodId} {args : Array Value} {below : List Frame} {meth : Method} {c : Code} {G : uG} {a0 : Nat} {uf : UH} {r : Int32} (hC : uC p s m args meth c G RX15 cX15_kinds 6 (some .int)) (hR : 0 ≤ R.frames ∧ 0 ≤ R.locals) (N : Nat) (k13 : UH → Int32 → Option Nat → Int32 → Int32 → Option (Int32 × UH)) (hk13 : ∀ (u : UH) (x1 : Int32) (x2 : Option Nat) (x3 : Int32) (x4 : Int32), k13 u x1 x2 x3 x4 = some (r, uf) → ∀ (H : Heap) (locs : List Loc), uP G u H → va_S (uA G) s.heap H locs → ∀ ls : Array Slot, lv_has ls 6 [(1, .int x1), (2, va_rf x2), (3, .int x3), (4, .int x4)] → W p l e R s m args below meth c H locs 0 0 (MQ below (uQi G r uf) args s 0 0 (uA G)) (F0 m 13 ls [])) (u : UH) (x2 : Option Nat) (x3 : Int32) (x4 : Int32) (s0 : Int32) (s1 : Int32) (h : f_X15_kinds_36 N (ub G) (ug G) a0 k13 u x2 x3 x4 s0 s1 = some (r, uf)) {H : Heap} {locs : List Loc} (hP : uP G u H) (hS : va_S (uA G) s.heap H locs) {ls : Array Slot} (hl : lv_has ls 6 [(2, va_rf x2), (3, .int x3), (4, .int x4)]) : W p l e R s m args below meth c H locs 0 0 (MQ below (uQi G r uf) args s 0 0 (uA G)) (F0 m 36 ls [.int s0, .int s1]) := by
  obtain ⟨⟨hx, hb, hml, hown, hts⟩, hKK⟩ := id hC
  unfold f_X15_kinds_36 at h
  refine lv_iadd hx hb dX15_kinds_36 ?_
  refine lv_topi (fun y1 ey1 => ?_)
  have h := mlet_at ey1 h
  refine lv_istore_n (lv' := [(1, .int y1), (2, va_rf x2), (3, .int x3), (4, .int x4)]) hx hb dX15_kinds_37 rfl hl (by decide) rfl (fun ls hl => ?_)
  obtain ⟨y2, ey2⟩ : ∃ z : Int32, z = x4 + 1 := ⟨_, rfl⟩
  have h := mlet_at ey2 h
  refine lv_iinc (v := y2) (lv' := [(4, .int y2), (1, .int y1), (2, va_rf x2), (3, .int x3)]) hx hb dX15_kinds_38 hl (k := 3) rfl (by rw [ey2]; rfl) (by decide) rfl (fun ls hl => ?_)
  refine lv_goto (tgt := 13) hx hb dX15_kinds_41 (by decide) ?_
  exact hk13 u y1 x2 x3 y2 h _ _ hP hS _ (lv_sub hl [1, 2, 3, 0] rfl)
def f_X15_kinds_13 (N b : Nat) (g : uEnv) (a0 : Nat) : Nat → UH → Int32 → Option Nat → Int32 → Int32 → Option (Int32 × UH)
  | 0, _, _, _, _, _ => none
  | n + 1, u, x1, x2, x3, x4 =>
    if x3 ≤ x4 then
    some (x1, u)
    else
    (x2).bind fun a2 =>
    (uLdI u a2 0 x4).bind fun y3 =>
    if y3 ≤ 0 then
    f_X15_kinds_36 N b g a0 (f_X15_kinds_13 N b g a0 n) u (some a2) x3 x4 0 x1
    else
    f_X15_kinds_36 N b g a0 (f_X15_kinds_13 N b g a0 n) u (some a2) x3 x4 1 x1
set_option maxHeartbeats 4000000 in
set_option maxRecDepth 100000 in
theorem zz_X15_kinds_13 {G : uG} {a0 : Nat} {uf : UH} {r : Int32} (N : Nat) : ∀ (n : Nat) (u : UH) (x1 : Int32) (x2 : Option Nat) (x3 : Int32) (x4 : Int32), f_X15_kinds_13 N (ub G) (ug G) a0 n u x1 x2 x3 x4 = some (r, uf) → uf.1 = u.1 ∧ uf.2.1 = u.2.1 := by
  intro n
  induction n with
  | zero =>
    intro u x1 x2 x3 x4 h
    cases h
  | succ n ih =>
    intro u x1 x2 x3 x4 h
    unfold f_X15_kinds_13 at h
    by_cases c1 : x3 ≤ x4
    · have h := mif_t c1 h
      cases h
      exact ⟨by omega, by omega⟩
    · have h := mif_f c1 h
      obtain ⟨a2, ha2, h1⟩ := mbind_n h
      subst ha2
      have h := h1
      obtain ⟨y3, hy3, h⟩ := mbind_n h
      by_cases c4 : y3 ≤ 0
      · have h := mif_t c4 h
        have hq := zz_X15_kinds_36 (G := G) (a0 := a0) N (f_X15_kinds_13 N (ub G) (ug G) a0 n) ih u (some a2) x3 x4 0 x1 h
        exact ⟨by omega, by omega⟩
      · have h := mif_f c4 h
        have hq := zz_X15_kinds_36 (G := G) (a0 := a0) N (f_X15_kinds_13 N (ub G) (ug G) a0 n) ih u (some a2) x3 x4 1 x1 h
        exact ⟨by omega, by omega⟩
set_option maxHeartbeats 4000000 in
set_option maxRecDepth 100000 in
theorem w_X15_kinds_13 {p : Program} {l : Launch} {e : Env} {R : Room} {s : State} {m : MethodId} {args : Array Value} {below : List Frame} {meth : Method} {c : Code} {G : uG} {a0 : Nat} {uf : UH} {r : Int32} (hC : uC p s m args meth c G RX15 cX15_kinds 6 (some .int)) (hR : 0 ≤ R.frames ∧ 0 ≤ R.locals) (N : Nat) : ∀ (n : Nat) (u : UH) (x1 : Int32) (x2 : Option Nat) (x3 : Int32) (x4 : Int32), f_X15_kinds_13 N (ub G) (ug G) a0 n u x1 x2 x3 x4 = some (r, uf) → ∀ (H : Heap) (locs : List Loc), uP G u H → va_S (uA G) s.heap H locs → ∀ ls : Array Slot, lv_has ls 6 [(1, .int x1), (2, va_rf x2), (3, .int x3), (4, .int x4)] → W p l e R s m args below meth c H locs 0 0 (MQ below (uQi G r uf) args s 0 0 (uA G)) (F0 m 13 ls []) := by
  obtain ⟨⟨hx, hb, hml, hown, hts⟩, hKK⟩ := id hC
  intro n
  induction n with
  | zero =>
    intro u x1 x2 x3 x4 h
    cases h
  | succ n ih =>
    intro u x1 x2 x3 x4 h H locs hP hS ls hl
    unfold f_X15_kinds_13 at h
    refine lv_iload hx hb dX15_kinds_13 (lv_at hl 3 rfl) ?_
    refine lv_iload_n hx hb dX15_kinds_15 rfl (lv_at hl 2 rfl) ?_
    refine lv_icmp_ge (tgt := 44) hx hb dX15_kinds_16 (by decide) (fun c1 => ?_) (fun c1 => ?_)
    · have h := mif_t c1 h
      refine lv_iload_n hx hb dX15_kinds_44 rfl (lv_at hl 0 rfl) ?_
      cases h
      exact u_iret hC hP hS dX15_kinds_45
    · have h := mif_f c1 h
      refine u_aload_n (r := x2) hx hb dX15_kinds_19 rfl (lv_at hl 1 rfl) ?_
      refine lv_iload hx hb dX15_kinds_20 (lv_at hl 3 rfl) ?_
      obtain ⟨a2, ha2, h1⟩ := mbind_n h
      subst ha2
      have h := h1
      obtain ⟨y3, hy3, h⟩ := mbind_n h
      refine u_iald hC hP hy3 rfl dX15_kinds_22 ?_
      refine lv_istore (lv' := [(5, .int y3), (1, .int x1), (2, va_rf (some a2)), (3, .int x3), (4, .int x4)]) hx hb dX15_kinds_23 hl (by decide) rfl (fun ls hl => ?_)
      refine lv_iload_n hx hb dX15_kinds_25 rfl (lv_at hl 1 rfl) ?_
      refine lv_iload hx hb dX15_kinds_26 (lv_at hl 0 rfl) ?_
      refine lv_if_le (tgt := 35) hx hb dX15_kinds_28 (by decide) (fun c4 => ?_) (fun c4 => ?_)
      · have h := mif_t c4 h
        refine lv_iconst (v := 0) hx hb dX15_kinds_35 (by decide) ?_
        exact w_X15_kinds_36 hC hR N (f_X15_kinds_13 N (ub G) (ug G) a0 n) ih u (some a2) x3 x4 0 x1 h hP hS (lv_sub hl [2, 3, 4] rfl)
      · have h := mif_f c4 h
        refine lv_iconst (v := 1) hx hb dX15_kinds_31 (by decide) ?_
        refine lv_goto (tgt := 36) hx hb dX15_kinds_32 (by decide) ?_
        exact w_X15_kinds_36 hC hR N (f_X15_kinds_13 N (ub G) (ug G) a0 n) ih u (some a2) x3 x4 1 x1 h hP hS (lv_sub hl [2, 3, 4] rfl)
def f_X15_kinds (N b : Nat) (g : uEnv) (u : UH) (a0 : Nat) : Option (Int32 × UH) :=
    (uGR u a0 13 1).bind fun o1 =>
    (o1).bind fun a2 =>
    (uLen u a2 0).bind fun y3 =>
    f_X15_kinds_13 N b g a0 N u 0 (some a2) y3 0
set_option maxHeartbeats 4000000 in
set_option maxRecDepth 100000 in
theorem zz_X15_kinds_0 {G : uG} {a0 : Nat} {uf : UH} {r : Int32} (N : Nat) (u : UH) (h : f_X15_kinds N (ub G) (ug G) u a0 = some (r, uf)) : uf.1 = u.1 ∧ uf.2.1 = u.2.1 := by
  unfold f_X15_kinds at h
  obtain ⟨o1, ho1, h⟩ := mbind_n h
  obtain ⟨a2, ha2, h1⟩ := mbind_n h
  subst ha2
  have h := h1
  obtain ⟨y3, hy3, h⟩ := mbind_n h
  have hq := zz_X15_kinds_13 (G := G) (a0 := a0) N N u 0 (some a2) y3 0 h
  exact ⟨by omega, by omega⟩
set_option maxHeartbeats 4000000 in
set_option maxRecDepth 100000 in
theorem w_X15_kinds_0 {p : Program} {l : Launch} {e : Env} {R : Room} {s : State} {m : MethodId} {args : Array Value} {below : List Frame} {meth : Method} {c : Code} {G : uG} {a0 : Nat} {uf : UH} {r : Int32} (hC : uC p s m args meth c G RX15 cX15_kinds 6 (some .int)) (hR : 0 ≤ R.frames ∧ 0 ≤ R.locals) (N : Nat) (u : UH) (h : f_X15_kinds N (ub G) (ug G) u a0 = some (r, uf)) {H : Heap} {locs : List Loc} (hP : uP G u H) (hS : va_S (uA G) s.heap H locs) {ls : Array Slot} (hl : lv_has ls 6 [(0, va_rf (some a0))]) : W p l e R s m args below meth c H locs 0 0 (MQ below (uQi G r uf) args s 0 0 (uA G)) (F0 m 0 ls []) := by
  obtain ⟨⟨hx, hb, hml, hown, hts⟩, hKK⟩ := id hC
  unfold f_X15_kinds at h
  refine lv_iconst (v := 0) hx hb dX15_kinds_0 (by decide) ?_
  refine lv_istore_n (lv' := [(1, .int 0), (0, va_rf (some a0))]) hx hb dX15_kinds_1 rfl hl (by decide) rfl (fun ls hl => ?_)
  refine u_aload_n (r := some a0) hx hb dX15_kinds_2 rfl (lv_at hl 1 rfl) ?_
  obtain ⟨o1, ho1, h⟩ := mbind_n h
  refine u_get hC hP (uGR_n ho1) rfl in_X15 (by decide) q1217 (fun _ h => h) dX15_kinds_3 ?_
  refine u_astore_n (r := o1) (lv' := [(2, va_rf o1), (1, .int 0), (0, va_rf (some a0))]) hx hb dX15_kinds_6 rfl hl (by decide) rfl (fun ls hl => ?_)
  refine u_aload_n (r := o1) hx hb dX15_kinds_7 rfl (lv_at hl 0 rfl) ?_
  obtain ⟨a2, ha2, h1⟩ := mbind_n h
  subst ha2
  have h := h1
  obtain ⟨y3, hy3, h⟩ := mbind_n h
  refine u_alen hC hP hy3 dX15_kinds_8 ?_
  refine lv_istore_n (lv' := [(3, .int y3), (2, va_rf (some a2)), (1, .int 0), (0, va_rf (some a0))]) hx hb dX15_kinds_9 rfl hl (by decide) rfl (fun ls hl => ?_)
  refine lv_iconst (v := 0) hx hb dX15_kinds_10 (by decide) ?_
  refine lv_istore (lv' := [(4, .int 0), (3, .int y3), (2, va_rf (some a2)), (1, .int 0), (0, va_rf (some a0))]) hx hb dX15_kinds_11 hl (by decide) rfl (fun ls hl => ?_)
  exact w_X15_kinds_13 hC hR N N u 0 (some a2) y3 0 h _ _ hP hS _ (lv_sub hl [3, 2, 1, 0] rfl)
theorem zz_X15_kinds (N b : Nat) (g : uEnv) (u : UH) (a0 : Nat) (r : Int32) (uf : UH) (h : f_X15_kinds N b g u a0 = some (r, uf)) : uf.1 = u.1 ∧ uf.2.1 = u.2.1 :=
  zz_X15_kinds_0 (G := ((fun _ => 0, fun _ _ => 0), fun _ => 0, b, g)) (a0 := a0) N u h
theorem met_X15_kinds (l : Launch) (N : Nat) (G : uG) (u : UH) (a0 : Nat) (r : Int32) (uf : UH) (h : f_X15_kinds N (ub G) (ug G) u a0 = some (r, uf)) : Met l yX15_kinds (ws_ yX15_kinds cX15_kinds 6 (some .int)) ({ frames := 0, cells := 0, slots := 0, locals := 0 }) (uPc G u [.ref a0]) (uQi G r uf) 0 0 (uA G) :=
  u_met (own := RX15) (by decide +kernel) rfl (Nat.le_of_ble_eq_true rfl) (fun hC hn hsz ls hl hP => w_X15_kinds_0 hC ⟨Nat.le_refl _, Nat.le_refl _⟩ N u h hP va_S.rf hl)
def f_X15_all_13 (N b : Nat) (g : uEnv) (a0 : Nat) : Nat → UH → Int32 → Option Nat → Int32 → Int32 → Option (Int32 × UH)
  | 0, _, _, _, _, _ => none
  | n + 1, u, x1, x2, x3, x4 =>
    if x3 ≤ x4 then
    some (x1, u)
    else
    (x2).bind fun a2 =>
    (uLdI u a2 0 x4).bind fun y3 =>
    mlet (x1 + y3) fun y4 =>
    mlet (x4 + 1) fun y5 =>
    f_X15_all_13 N b g a0 n u y4 (some a2) x3 y5
set_option maxHeartbeats 4000000 in
set_option maxRecDepth 100000 in
theorem zz_X15_all_13 {G : uG} {a0 : Nat} {uf : UH} {r : Int32} (N : Nat) : ∀ (n : Nat) (u : UH) (x1 : Int32) (x2 : Option Nat) (x3 : Int32) (x4 : Int32), f_X15_all_13 N (ub G) (ug G) a0 n u x1 x2 x3 x4 = some (r, uf) → uf.1 = u.1 ∧ uf.2.1 = u.2.1 := by
  intro n
  induction n with
  | zero =>
    intro u x1 x2 x3 x4 h
    cases h
  | succ n ih =>
    intro u x1 x2 x3 x4 h
    unfold f_X15_all_13 at h
    by_cases c1 : x3 ≤ x4
    · have h := mif_t c1 h
      cases h
      exact ⟨by omega, by omega⟩
    · have h := mif_f c1 h
      obtain ⟨a2, ha2, h1⟩ := mbind_n h
      subst ha2
      have h := h1
      obtain ⟨y3, hy3, h⟩ := mbind_n h
      obtain ⟨y4, ey4⟩ : ∃ z, z = x1 + y3 := ⟨_, rfl⟩
      have h := mlet_at ey4 h
      obtain ⟨y5, ey5⟩ : ∃ z : Int32, z = x4 + 1 := ⟨_, rfl⟩
      have h := mlet_at ey5 h
      have hq := ih u y4 (some a2) x3 y5 h
      exact ⟨by omega, by omega⟩
set_option maxHeartbeats 4000000 in
set_option maxRecDepth 100000 in
theorem w_X15_all_13 {p : Program} {l : Launch} {e : Env} {R : Room} {s : State} {m : MethodId} {args : Array Value} {below : List Frame} {meth : Method} {c : Code} {G : uG} {a0 : Nat} {uf : UH} {r : Int32} (hC : uC p s m args meth c G RX15 cX15_all 6 (some .int)) (hR : 0 ≤ R.frames ∧ 0 ≤ R.locals) (N : Nat) : ∀ (n : Nat) (u : UH) (x1 : Int32) (x2 : Option Nat) (x3 : Int32) (x4 : Int32), f_X15_all_13 N (ub G) (ug G) a0 n u x1 x2 x3 x4 = some (r, uf) → ∀ (H : Heap) (locs : List Loc), uP G u H → va_S (uA G) s.heap H locs → ∀ ls : Array Slot, lv_has ls 6 [(1, .int x1), (2, va_rf x2), (3, .int x3), (4, .int x4)] → W p l e R s m args below meth c H locs 0 0 (MQ below (uQi G r uf) args s 0 0 (uA G)) (F0 m 13 ls []) := by
  obtain ⟨⟨hx, hb, hml, hown, hts⟩, hKK⟩ := id hC
  intro n
  induction n with
  | zero =>
    intro u x1 x2 x3 x4 h
    cases h
  | succ n ih =>
    intro u x1 x2 x3 x4 h H locs hP hS ls hl
    unfold f_X15_all_13 at h
    refine lv_iload hx hb dX15_all_13 (lv_at hl 3 rfl) ?_
    refine lv_iload_n hx hb dX15_all_15 rfl (lv_at hl 2 rfl) ?_
    refine lv_icmp_ge (tgt := 36) hx hb dX15_all_16 (by decide) (fun c1 => ?_) (fun c1 => ?_)
    · have h := mif_t c1 h
      refine lv_iload_n hx hb dX15_all_36 rfl (lv_at hl 0 rfl) ?_
      cases h
      exact u_iret hC hP hS dX15_all_37
    · have h := mif_f c1 h
      refine u_aload_n (r := x2) hx hb dX15_all_19 rfl (lv_at hl 1 rfl) ?_
      refine lv_iload hx hb dX15_all_20 (lv_at hl 3 rfl) ?_
      obtain ⟨a2, ha2, h1⟩ := mbind_n h
      subst ha2
      have h := h1
      obtain ⟨y3, hy3, h⟩ := mbind_n h
      refine u_iald hC hP hy3 rfl dX15_all_22 ?_
      refine lv_istore (lv' := [(5, .int y3), (1, .int x1), (2, va_rf (some a2)), (3, .int x3), (4, .int x4)]) hx hb dX15_all_23 hl (by decide) rfl (fun ls hl => ?_)
      refine lv_iload_n hx hb dX15_all_25 rfl (lv_at hl 1 rfl) ?_
      refine lv_iload hx hb dX15_all_26 (lv_at hl 0 rfl) ?_
      refine lv_iadd hx hb dX15_all_28 ?_
      refine lv_topi (fun y4 ey4 => ?_)
      have h := mlet_at ey4 h
      refine lv_istore_n (lv' := [(1, .int y4), (5, .int y3), (2, va_rf (some a2)), (3, .int x3), (4, .int x4)]) hx hb dX15_all_29 rfl hl (by decide) rfl (fun ls hl => ?_)
      obtain ⟨y5, ey5⟩ : ∃ z : Int32, z = x4 + 1 := ⟨_, rfl⟩
      have h := mlet_at ey5 h
      refine lv_iinc (v := y5) (lv' := [(4, .int y5), (1, .int y4), (5, .int y3), (2, va_rf (some a2)), (3, .int x3)]) hx hb dX15_all_30 hl (k := 4) rfl (by rw [ey5]; rfl) (by decide) rfl (fun ls hl => ?_)
      refine lv_goto (tgt := 13) hx hb dX15_all_33 (by decide) ?_
      exact ih u y4 (some a2) x3 y5 h _ _ hP hS _ (lv_sub hl [1, 3, 4, 0] rfl)
def f_X15_all (N b : Nat) (g : uEnv) (u : UH) (a0 : Nat) : Option (Int32 × UH) :=
    (uGR u a0 13 1).bind fun o1 =>
    (o1).bind fun a2 =>
    (uLen u a2 0).bind fun y3 =>
    f_X15_all_13 N b g a0 N u 0 (some a2) y3 0
set_option maxHeartbeats 4000000 in
set_option maxRecDepth 100000 in
theorem zz_X15_all_0 {G : uG} {a0 : Nat} {uf : UH} {r : Int32} (N : Nat) (u : UH) (h : f_X15_all N (ub G) (ug G) u a0 = some (r, uf)) : uf.1 = u.1 ∧ uf.2.1 = u.2.1 := by
  unfold f_X15_all at h
  obtain ⟨o1, ho1, h⟩ := mbind_n h
  obtain ⟨a2, ha2, h1⟩ := mbind_n h
  subst ha2
  have h := h1
  obtain ⟨y3, hy3, h⟩ := mbind_n h
  have hq := zz_X15_all_13 (G := G) (a0 := a0) N N u 0 (some a2) y3 0 h
  exact ⟨by omega, by omega⟩
set_option maxHeartbeats 4000000 in
set_option maxRecDepth 100000 in
theorem w_X15_all_0 {p : Program} {l : Launch} {e : Env} {R : Room} {s : State} {m : MethodId} {args : Array Value} {below : List Frame} {meth : Method} {c : Code} {G : uG} {a0 : Nat} {uf : UH} {r : Int32} (hC : uC p s m args meth c G RX15 cX15_all 6 (some .int)) (hR : 0 ≤ R.frames ∧ 0 ≤ R.locals) (N : Nat) (u : UH) (h : f_X15_all N (ub G) (ug G) u a0 = some (r, uf)) {H : Heap} {locs : List Loc} (hP : uP G u H) (hS : va_S (uA G) s.heap H locs) {ls : Array Slot} (hl : lv_has ls 6 [(0, va_rf (some a0))]) : W p l e R s m args below meth c H locs 0 0 (MQ below (uQi G r uf) args s 0 0 (uA G)) (F0 m 0 ls []) := by
  obtain ⟨⟨hx, hb, hml, hown, hts⟩, hKK⟩ := id hC
  unfold f_X15_all at h
  refine lv_iconst (v := 0) hx hb dX15_all_0 (by decide) ?_
  refine lv_istore_n (lv' := [(1, .int 0), (0, va_rf (some a0))]) hx hb dX15_all_1 rfl hl (by decide) rfl (fun ls hl => ?_)
  refine u_aload_n (r := some a0) hx hb dX15_all_2 rfl (lv_at hl 1 rfl) ?_
  obtain ⟨o1, ho1, h⟩ := mbind_n h
  refine u_get hC hP (uGR_n ho1) rfl in_X15 (by decide) q1217 (fun _ h => h) dX15_all_3 ?_
  refine u_astore_n (r := o1) (lv' := [(2, va_rf o1), (1, .int 0), (0, va_rf (some a0))]) hx hb dX15_all_6 rfl hl (by decide) rfl (fun ls hl => ?_)
  refine u_aload_n (r := o1) hx hb dX15_all_7 rfl (lv_at hl 0 rfl) ?_
  obtain ⟨a2, ha2, h1⟩ := mbind_n h
  subst ha2
  have h := h1
  obtain ⟨y3, hy3, h⟩ := mbind_n h
  refine u_alen hC hP hy3 dX15_all_8 ?_
  refine lv_istore_n (lv' := [(3, .int y3), (2, va_rf (some a2)), (1, .int 0), (0, va_rf (some a0))]) hx hb dX15_all_9 rfl hl (by decide) rfl (fun ls hl => ?_)
  refine lv_iconst (v := 0) hx hb dX15_all_10 (by decide) ?_
  refine lv_istore (lv' := [(4, .int 0), (3, .int y3), (2, va_rf (some a2)), (1, .int 0), (0, va_rf (some a0))]) hx hb dX15_all_11 hl (by decide) rfl (fun ls hl => ?_)
  exact w_X15_all_13 hC hR N N u 0 (some a2) y3 0 h _ _ hP hS _ (lv_sub hl [3, 2, 1, 0] rfl)
theorem zz_X15_all (N b : Nat) (g : uEnv) (u : UH) (a0 : Nat) (r : Int32) (uf : UH) (h : f_X15_all N b g u a0 = some (r, uf)) : uf.1 = u.1 ∧ uf.2.1 = u.2.1 :=
  zz_X15_all_0 (G := ((fun _ => 0, fun _ _ => 0), fun _ => 0, b, g)) (a0 := a0) N u h
theorem met_X15_all (l : Launch) (N : Nat) (G : uG) (u : UH) (a0 : Nat) (r : Int32) (uf : UH) (h : f_X15_all N (ub G) (ug G) u a0 = some (r, uf)) : Met l yX15_all (ws_ yX15_all cX15_all 6 (some .int)) ({ frames := 0, cells := 0, slots := 0, locals := 0 }) (uPc G u [.ref a0]) (uQi G r uf) 0 0 (uA G) :=
  u_met (own := RX15) (by decide +kernel) rfl (Nat.le_of_ble_eq_true rfl) (fun hC hn hsz ls hl hP => w_X15_all_0 hC ⟨Nat.le_refl _, Nat.le_refl _⟩ N u h hP va_S.rf hl)
def f_X15_kind_28 (N b : Nat) (g : uEnv) (a0 : Nat) (k4 : UH → Int32 → Int32 → Option (Int32 × UH)) (u : UH) (x2 : Int32) (x3 : Int32) : Option (Int32 × UH) :=
    mlet (x3 + 1) fun y1 =>
    k4 u x2 y1
set_option maxHeartbeats 4000000 in
set_option maxRecDepth 100000 in
theorem zz_X15_kind_28 {G : uG} {a0 : Nat} {uf : UH} {r : Int32} (N : Nat) (k4 : UH → Int32 → Int32 → Option (Int32 × UH)) (hk4 : ∀ (u : UH) (x2 : Int32) (x3 : Int32), k4 u x2 x3 = some (r, uf) → uf.1 = u.1 ∧ uf.2.1 = u.2.1) (u : UH) (x2 : Int32) (x3 : Int32) (h : f_X15_kind_28 N (ub G) (ug G) a0 k4 u x2 x3 = some (r, uf)) : uf.1 = u.1 ∧ uf.2.1 = u.2.1 := by
  unfold f_X15_kind_28 at h
  obtain ⟨y1, ey1⟩ : ∃ z : Int32, z = x3 + 1 := ⟨_, rfl⟩
  have h := mlet_at ey1 h
  have hq := hk4 u x2 y1 h
  exact ⟨by omega, by omega⟩
set_option maxHeartbeats 4000000 in
set_option maxRecDepth 100000 in
theorem w_X15_kind_28 {p : Program} {l : Launch} {e : Env} {R : Room} {s : State} {m : MethodId} {args : Array Value} {below : List Frame} {meth : Method} {c : Code} {G : uG} {a0 : Nat} {uf : UH} {r : Int32} (hC : uC p s m args meth c G RX15 cX15_kind 4 (some .int)) (hR : 0 ≤ R.frames ∧ 0 ≤ R.locals) (N : Nat) (k4 : UH → Int32 → Int32 → Option (Int32 × UH)) (hk4 : ∀ (u : UH) (x2 : Int32) (x3 : Int32), k4 u x2 x3 = some (r, uf) → ∀ (H : Heap) (locs : List Loc), uP G u H → va_S (uA G) s.heap H locs → ∀ ls : Array Slot, lv_has ls 4 [(0, va_rf (some a0)), (2, .int x2), (3, .int x3)] → W p l e R s m args below meth c H locs 0 0 (MQ below (uQi G r uf) args s 0 0 (uA G)) (F0 m 4 ls [])) (u : UH) (x2 : Int32) (x3 : Int32) (h : f_X15_kind_28 N (ub G) (ug G) a0 k4 u x2 x3 = some (r, uf)) {H : Heap} {locs : List Loc} (hP : uP G u H) (hS : va_S (uA G) s.heap H locs) {ls : Array Slot} (hl : lv_has ls 4 [(0, va_rf (some a0)), (2, .int x2), (3, .int x3)]) : W p l e R s m args below meth c H locs 0 0 (MQ below (uQi G r uf) args s 0 0 (uA G)) (F0 m 28 ls []) := by
  obtain ⟨⟨hx, hb, hml, hown, hts⟩, hKK⟩ := id hC
  unfold f_X15_kind_28 at h
  obtain ⟨y1, ey1⟩ : ∃ z : Int32, z = x3 + 1 := ⟨_, rfl⟩
  have h := mlet_at ey1 h
  refine lv_iinc (v := y1) (lv' := [(3, .int y1), (0, va_rf (some a0)), (2, .int x2)]) hx hb dX15_kind_28 hl (k := 2) rfl (by rw [ey1]; rfl) (by decide) rfl (fun ls hl => ?_)
  refine lv_goto (tgt := 4) hx hb dX15_kind_31 (by decide) ?_
  exact hk4 u x2 y1 h _ _ hP hS _ (lv_sub hl [1, 2, 0] rfl)
def f_X15_kind_4 (N b : Nat) (g : uEnv) (a0 : Nat) : Nat → UH → Int32 → Int32 → Option (Int32 × UH)
  | 0, _, _, _ => none
  | n + 1, u, x2, x3 =>
    if 8 ≤ x3 then
    some ((-1), u)
    else
    (uGR u a0 13 1).bind fun o2 =>
    (o2).bind fun a3 =>
    (uLdI u a3 0 x3).bind fun y4 =>
    if y4 ≤ 0 then
    f_X15_kind_28 N b g a0 (f_X15_kind_4 N b g a0 n) u x2 x3
    else
    mlet (x2 + (-1)) fun y6 =>
    if x2 = 0 then
    some (x3, u)
    else
    f_X15_kind_28 N b g a0 (f_X15_kind_4 N b g a0 n) u y6 x3
set_option maxHeartbeats 4000000 in
set_option maxRecDepth 100000 in
theorem zz_X15_kind_4 {G : uG} {a0 : Nat} {uf : UH} {r : Int32} (N : Nat) : ∀ (n : Nat) (u : UH) (x2 : Int32) (x3 : Int32), f_X15_kind_4 N (ub G) (ug G) a0 n u x2 x3 = some (r, uf) → uf.1 = u.1 ∧ uf.2.1 = u.2.1 := by
  intro n
  induction n with
  | zero =>
    intro u x2 x3 h
    cases h
  | succ n ih =>
    intro u x2 x3 h
    unfold f_X15_kind_4 at h
    by_cases c1 : 8 ≤ x3
    · have h := mif_t c1 h
      cases h
      exact ⟨by omega, by omega⟩
    · have h := mif_f c1 h
      obtain ⟨o2, ho2, h⟩ := mbind_n h
      obtain ⟨a3, ha3, h1⟩ := mbind_n h
      subst ha3
      have h := h1
      obtain ⟨y4, hy4, h⟩ := mbind_n h
      by_cases c5 : y4 ≤ 0
      · have h := mif_t c5 h
        have hq := zz_X15_kind_28 (G := G) (a0 := a0) N (f_X15_kind_4 N (ub G) (ug G) a0 n) ih u x2 x3 h
        exact ⟨by omega, by omega⟩
      · have h := mif_f c5 h
        obtain ⟨y6, ey6⟩ : ∃ z : Int32, z = x2 + (-1) := ⟨_, rfl⟩
        have h := mlet_at ey6 h
        by_cases c7 : x2 = 0
        · have h := mif_t c7 h
          cases h
          exact ⟨by omega, by omega⟩
        · have h := mif_f c7 h
          have hq := zz_X15_kind_28 (G := G) (a0 := a0) N (f_X15_kind_4 N (ub G) (ug G) a0 n) ih u y6 x3 h
          exact ⟨by omega, by omega⟩
set_option maxHeartbeats 4000000 in
set_option maxRecDepth 100000 in
theorem w_X15_kind_4 {p : Program} {l : Launch} {e : Env} {R : Room} {s : State} {m : MethodId} {args : Array Value} {below : List Frame} {meth : Method} {c : Code} {G : uG} {a0 : Nat} {uf : UH} {r : Int32} (hC : uC p s m args meth c G RX15 cX15_kind 4 (some .int)) (hR : 0 ≤ R.frames ∧ 0 ≤ R.locals) (N : Nat) : ∀ (n : Nat) (u : UH) (x2 : Int32) (x3 : Int32), f_X15_kind_4 N (ub G) (ug G) a0 n u x2 x3 = some (r, uf) → ∀ (H : Heap) (locs : List Loc), uP G u H → va_S (uA G) s.heap H locs → ∀ ls : Array Slot, lv_has ls 4 [(0, va_rf (some a0)), (2, .int x2), (3, .int x3)] → W p l e R s m args below meth c H locs 0 0 (MQ below (uQi G r uf) args s 0 0 (uA G)) (F0 m 4 ls []) := by
  obtain ⟨⟨hx, hb, hml, hown, hts⟩, hKK⟩ := id hC
  intro n
  induction n with
  | zero =>
    intro u x2 x3 h
    cases h
  | succ n ih =>
    intro u x2 x3 h H locs hP hS ls hl
    unfold f_X15_kind_4 at h
    refine lv_iload_n hx hb dX15_kind_4 rfl (lv_at hl 2 rfl) ?_
    refine lv_bipush (v := 8) hx hb dX15_kind_5 (by decide) ?_
    refine lv_icmp_ge (tgt := 34) hx hb dX15_kind_7 (by decide) (fun c1 => ?_) (fun c1 => ?_)
    · have h := mif_t c1 h
      refine lv_iconst (v := (-1)) hx hb dX15_kind_34 (by decide) ?_
      cases h
      exact u_iret hC hP hS dX15_kind_35
    · have h := mif_f c1 h
      refine u_aload_n (r := some a0) hx hb dX15_kind_10 rfl (lv_at hl 0 rfl) ?_
      obtain ⟨o2, ho2, h⟩ := mbind_n h
      refine u_get hC hP (uGR_n ho2) rfl in_X15 (by decide) q1217 (fun _ h => h) dX15_kind_11 ?_
      refine lv_iload_n hx hb dX15_kind_14 rfl (lv_at hl 2 rfl) ?_
      obtain ⟨a3, ha3, h1⟩ := mbind_n h
      subst ha3
      have h := h1
      obtain ⟨y4, hy4, h⟩ := mbind_n h
      refine u_iald hC hP hy4 rfl dX15_kind_15 ?_
      refine lv_if_le (tgt := 28) hx hb dX15_kind_16 (by decide) (fun c5 => ?_) (fun c5 => ?_)
      · have h := mif_t c5 h
        exact w_X15_kind_28 hC hR N (f_X15_kind_4 N (ub G) (ug G) a0 n) ih u x2 x3 h hP hS (lv_sub hl [0, 1, 2] rfl)
      · have h := mif_f c5 h
        refine lv_iload_n hx hb dX15_kind_19 rfl (lv_at hl 1 rfl) ?_
        obtain ⟨y6, ey6⟩ : ∃ z : Int32, z = x2 + (-1) := ⟨_, rfl⟩
        have h := mlet_at ey6 h
        refine lv_iinc (v := y6) (lv' := [(2, .int y6), (0, va_rf (some a0)), (3, .int x3)]) hx hb dX15_kind_20 hl (k := 1) rfl (by rw [ey6]; rfl) (by decide) rfl (fun ls hl => ?_)
        refine lv_if_ne (tgt := 28) hx hb dX15_kind_23 (by decide) (fun c7 => ?_) (fun c7 => ?_)
        · have h := mif_f c7 h
          exact w_X15_kind_28 hC hR N (f_X15_kind_4 N (ub G) (ug G) a0 n) ih u y6 x3 h hP hS (lv_sub hl [1, 0, 2] rfl)
        · have h := mif_t c7 h
          refine lv_iload_n hx hb dX15_kind_26 rfl (lv_at hl 2 rfl) ?_
          cases h
          exact u_iret hC hP hS dX15_kind_27
def f_X15_kind (N b : Nat) (g : uEnv) (u : UH) (a0 : Nat) (x1 : Int32) : Option (Int32 × UH) :=
    f_X15_kind_4 N b g a0 N u x1 0
set_option maxHeartbeats 4000000 in
set_option maxRecDepth 100000 in
theorem zz_X15_kind_0 {G : uG} {a0 : Nat} {uf : UH} {r : Int32} (N : Nat) (u : UH) (x1 : Int32) (h : f_X15_kind N (ub G) (ug G) u a0 x1 = some (r, uf)) : uf.1 = u.1 ∧ uf.2.1 = u.2.1 := by
  unfold f_X15_kind at h
  have hq := zz_X15_kind_4 (G := G) (a0 := a0) N N u x1 0 h
  exact ⟨by omega, by omega⟩
set_option maxHeartbeats 4000000 in
set_option maxRecDepth 100000 in
theorem w_X15_kind_0 {p : Program} {l : Launch} {e : Env} {R : Room} {s : State} {m : MethodId} {args : Array Value} {below : List Frame} {meth : Method} {c : Code} {G : uG} {a0 : Nat} {uf : UH} {r : Int32} (hC : uC p s m args meth c G RX15 cX15_kind 4 (some .int)) (hR : 0 ≤ R.frames ∧ 0 ≤ R.locals) (N : Nat) (u : UH) (x1 : Int32) (h : f_X15_kind N (ub G) (ug G) u a0 x1 = some (r, uf)) {H : Heap} {locs : List Loc} (hP : uP G u H) (hS : va_S (uA G) s.heap H locs) {ls : Array Slot} (hl : lv_has ls 4 [(0, va_rf (some a0)), (1, .int x1)]) : W p l e R s m args below meth c H locs 0 0 (MQ below (uQi G r uf) args s 0 0 (uA G)) (F0 m 0 ls []) := by
  obtain ⟨⟨hx, hb, hml, hown, hts⟩, hKK⟩ := id hC
  unfold f_X15_kind at h
  refine lv_iload_n hx hb dX15_kind_0 rfl (lv_at hl 1 rfl) ?_
  refine lv_istore_n (lv' := [(2, .int x1), (0, va_rf (some a0)), (1, .int x1)]) hx hb dX15_kind_1 rfl hl (by decide) rfl (fun ls hl => ?_)
  refine lv_iconst (v := 0) hx hb dX15_kind_2 (by decide) ?_
  refine lv_istore_n (lv' := [(3, .int 0), (2, .int x1), (0, va_rf (some a0)), (1, .int x1)]) hx hb dX15_kind_3 rfl hl (by decide) rfl (fun ls hl => ?_)
  exact w_X15_kind_4 hC hR N N u x1 0 h _ _ hP hS _ (lv_sub hl [2, 1, 0] rfl)
theorem zz_X15_kind (N b : Nat) (g : uEnv) (u : UH) (a0 : Nat) (x1 : Int32) (r : Int32) (uf : UH) (h : f_X15_kind N b g u a0 x1 = some (r, uf)) : uf.1 = u.1 ∧ uf.2.1 = u.2.1 :=
  zz_X15_kind_0 (G := ((fun _ => 0, fun _ _ => 0), fun _ => 0, b, g)) (a0 := a0) N u x1 h
theorem met_X15_kind (l : Launch) (N : Nat) (G : uG) (u : UH) (a0 : Nat) (x1 : Int32) (r : Int32) (uf : UH) (h : f_X15_kind N (ub G) (ug G) u a0 x1 = some (r, uf)) : Met l yX15_kind (ws_ yX15_kind cX15_kind 4 (some .int)) ({ frames := 0, cells := 0, slots := 0, locals := 0 }) (uPc G u [.ref a0, .int x1]) (uQi G r uf) 0 0 (uA G) :=
  u_met (own := RX15) (by decide +kernel) rfl (Nat.le_of_ble_eq_true rfl) (fun hC hn hsz ls hl hP => w_X15_kind_0 hC ⟨Nat.le_refl _, Nat.le_refl _⟩ N u x1 h hP va_S.rf hl)

/-! BY gen_model.py: tryAt mostDug make count trouble -/
def f_tryAt_15 (N : Nat) (σ : MS) : Option (Int32 × MS) :=
    mcall (f_no N σ 1) fun r3 σ1 =>
    some (r3, σ1)
set_option maxHeartbeats 4000000 in
set_option maxRecDepth 100000 in
theorem w_tryAt_15 {p : Program} {l : Launch} {e : Env} {R : Room} {s : State} {m : MethodId} {args : Array Value} {below : List Frame} {meth : Method} {c : Code} {E : mE} {σ' : MS} {r : Int32} (hC : mC p s m args meth c E cX3_tryAt 8 (some .int)) (hR : 2 ≤ R.frames ∧ 54 ≤ R.locals) (N : Nat) (σ : MS) (h : f_tryAt_15 N σ = some (r, σ')) {H : Heap} {locs : List Loc} (hP : mP E σ H) (hS : va_S (mA E s.heap.size) s.heap H locs) {ls : Array Slot} (hl : lv_has ls 8 [(0, .ref (mh E))]) : W p l e R s m args below meth c H locs 0 0 (MQ below (mQi E s.heap.size r σ') args s 0 0 (mA E s.heap.size)) (F0 m 15 ls []) := by
  obtain ⟨⟨hx, hb, hml, hown, hts⟩, hK, hD, hr, hlk⟩ := id hC
  unfold f_tryAt_15 at h
  refine lv_aload_n hx hb dX3_tryAt_15 rfl (lv_at hl 0 rfl) ?_
  refine lv_iconst (v := 1) hx hb dX3_tryAt_16 (by decide) ?_
  obtain ⟨r3, σ1, c2, h⟩ := mcall_n h
  refine m_calli (As := [.int 1]) (rest := []) hC (met_no l N E H.size σ 1 r3 σ1 c2) (cwV 1 hts (lw_V q2138 q2140 qs41 q103 q2141) rfl rfl rfl (by decide +kernel) ⟨Nat.le_trans (Nat.le_of_ble_eq_true rfl) hR.1, Nat.le_trans (Nat.le_of_ble_eq_true rfl) hR.2⟩) hP hS rfl hl.1 rfl (Nat.le_of_ble_eq_true rfl) dX3_tryAt_17 (fun H locs hP hS => ?_)
  cases h
  exact m_iret hC hP hS dX3_tryAt_20
def f_tryAt_159 (N : Nat) (k47 : MS → Int32 → Int32 → Int32 → Option (Int32 × MS)) (σ : MS) (x1 : Int32) (x2 : Int32) (x3 : Int32) (x4 : Int32) : Option (Int32 × MS) :=
    if x3 = x1 then
    some (x4, σ)
    else
    mcall (f_behind N σ x2 (x4 / 10) (x4 - x4 / 10 * 10)) fun r4 σ2 =>
    mlet (x3 + 1) fun y5 =>
    k47 σ2 x1 r4 y5
set_option maxHeartbeats 4000000 in
set_option maxRecDepth 100000 in
theorem w_tryAt_159 {p : Program} {l : Launch} {e : Env} {R : Room} {s : State} {m : MethodId} {args : Array Value} {below : List Frame} {meth : Method} {c : Code} {E : mE} {σ' : MS} {r : Int32} (hC : mC p s m args meth c E cX3_tryAt 8 (some .int)) (hR : 2 ≤ R.frames ∧ 54 ≤ R.locals) (N : Nat) (k47 : MS → Int32 → Int32 → Int32 → Option (Int32 × MS)) (hk47 : ∀ (σ : MS) (x1 : Int32) (x2 : Int32) (x3 : Int32), k47 σ x1 x2 x3 = some (r, σ') → ∀ (H : Heap) (locs : List Loc), mP E σ H → va_S (mA E s.heap.size) s.heap H locs → ∀ ls : Array Slot, lv_has ls 8 [(0, .ref (mh E)), (1, .int x1), (2, .int x2), (3, .int x3)] → W p l e R s m args below meth c H locs 0 0 (MQ below (mQi E s.heap.size r σ') args s 0 0 (mA E s.heap.size)) (F0 m 47 ls [])) (σ : MS) (x1 : Int32) (x2 : Int32) (x3 : Int32) (x4 : Int32) (h : f_tryAt_159 N k47 σ x1 x2 x3 x4 = some (r, σ')) {H : Heap} {locs : List Loc} (hP : mP E σ H) (hS : va_S (mA E s.heap.size) s.heap H locs) {ls : Array Slot} (hl : lv_has ls 8 [(0, .ref (mh E)), (1, .int x1), (2, .int x2), (3, .int x3), (4, .int x4)]) : W p l e R s m args below meth c H locs 0 0 (MQ below (mQi E s.heap.size r σ') args s 0 0 (mA E s.heap.size)) (F0 m 159 ls []) := by
  obtain ⟨⟨hx, hb, hml, hown, hts⟩, hK, hD, hr, hlk⟩ := id hC
  unfold f_tryAt_159 at h
  refine lv_iload_n hx hb dX3_tryAt_159 rfl (lv_at hl 3 rfl) ?_
  refine lv_iload_n hx hb dX3_tryAt_160 rfl (lv_at hl 1 rfl) ?_
  refine lv_icmp_ne (tgt := 167) hx hb dX3_tryAt_161 (by decide) (fun c1 => ?_) (fun c1 => ?_)
  · have h := mif_f c1 h
    refine lv_aload_n hx hb dX3_tryAt_167 rfl (lv_at hl 0 rfl) ?_
    refine lv_iload_n hx hb dX3_tryAt_168 rfl (lv_at hl 2 rfl) ?_
    refine lv_iload hx hb dX3_tryAt_169 (lv_at hl 4 rfl) ?_
    refine lv_bipush (v := 10) hx hb dX3_tryAt_171 (by decide) ?_
    refine lv_idiv hx hb dX3_tryAt_173 (by decide) ?_
    refine lv_iload hx hb dX3_tryAt_174 (lv_at hl 4 rfl) ?_
    refine lv_bipush (v := 10) hx hb dX3_tryAt_176 (by decide) ?_
    refine lv_irem hx hb dX3_tryAt_178 (by decide) ?_
    obtain ⟨r4, σ2, c3, h⟩ := mcall_n h
    refine m_calli (As := [.int x2, .int (x4 / 10), .int (x4 - x4 / 10 * 10)]) (rest := []) hC (met_behind l N E H.size σ x2 (x4 / 10) (x4 - x4 / 10 * 10) r4 σ2 c3) (cwV 3 hts (lw_V q2521 q2523 qs94 q103 q2524) rfl rfl rfl (by decide +kernel) ⟨Nat.le_trans (Nat.le_of_ble_eq_true rfl) hR.1, Nat.le_trans (Nat.le_of_ble_eq_true rfl) hR.2⟩) hP hS rfl hl.1 rfl (Nat.le_of_ble_eq_true rfl) dX3_tryAt_179 (fun H locs hP hS => ?_)
    refine lv_istore_n (lv' := [(2, .int r4), (0, .ref (mh E)), (1, .int x1), (3, .int x3), (4, .int x4)]) hx hb dX3_tryAt_182 rfl hl (by decide) rfl (fun ls hl => ?_)
    obtain ⟨y5, ey5⟩ : ∃ z : Int32, z = x3 + 1 := ⟨_, rfl⟩
    have h := mlet_at ey5 h
    refine lv_iinc (v := y5) (lv' := [(3, .int y5), (2, .int r4), (0, .ref (mh E)), (1, .int x1), (4, .int x4)]) hx hb dX3_tryAt_183 hl (k := 3) rfl (by rw [ey5]; rfl) (by decide) rfl (fun ls hl => ?_)
    refine lv_goto (tgt := 47) hx hb dX3_tryAt_186 (by decide) ?_
    exact hk47 σ2 x1 r4 y5 h _ _ hP hS _ (lv_sub hl [2, 3, 1, 0] rfl)
  · have h := mif_t c1 h
    refine lv_iload hx hb dX3_tryAt_164 (lv_at hl 4 rfl) ?_
    cases h
    exact m_iret hC hP hS dX3_tryAt_166
def f_tryAt_153 (N : Nat) (k47 : MS → Int32 → Int32 → Int32 → Option (Int32 × MS)) (k57 : MS → Int32 → Int32 → Int32 → Int32 → Int32 → Option (Int32 × MS)) (σ : MS) (x1 : Int32) (x2 : Int32) (x3 : Int32) (x4 : Int32) (x5 : Int32) : Option (Int32 × MS) :=
    mlet (x5 + 1) fun y1 =>
    k57 σ x1 x2 x3 x4 y1
set_option maxHeartbeats 4000000 in
set_option maxRecDepth 100000 in
theorem w_tryAt_153 {p : Program} {l : Launch} {e : Env} {R : Room} {s : State} {m : MethodId} {args : Array Value} {below : List Frame} {meth : Method} {c : Code} {E : mE} {σ' : MS} {r : Int32} (hC : mC p s m args meth c E cX3_tryAt 8 (some .int)) (hR : 2 ≤ R.frames ∧ 54 ≤ R.locals) (N : Nat) (k47 : MS → Int32 → Int32 → Int32 → Option (Int32 × MS)) (hk47 : ∀ (σ : MS) (x1 : Int32) (x2 : Int32) (x3 : Int32), k47 σ x1 x2 x3 = some (r, σ') → ∀ (H : Heap) (locs : List Loc), mP E σ H → va_S (mA E s.heap.size) s.heap H locs → ∀ ls : Array Slot, lv_has ls 8 [(0, .ref (mh E)), (1, .int x1), (2, .int x2), (3, .int x3)] → W p l e R s m args below meth c H locs 0 0 (MQ below (mQi E s.heap.size r σ') args s 0 0 (mA E s.heap.size)) (F0 m 47 ls [])) (k57 : MS → Int32 → Int32 → Int32 → Int32 → Int32 → Option (Int32 × MS)) (hk57 : ∀ (σ : MS) (x1 : Int32) (x2 : Int32) (x3 : Int32) (x4 : Int32) (x5 : Int32), k57 σ x1 x2 x3 x4 x5 = some (r, σ') → ∀ (H : Heap) (locs : List Loc), mP E σ H → va_S (mA E s.heap.size) s.heap H locs → ∀ ls : Array Slot, lv_has ls 8 [(0, .ref (mh E)), (1, .int x1), (2, .int x2), (3, .int x3), (4, .int x4), (5, .int x5)] → W p l e R s m args below meth c H locs 0 0 (MQ below (mQi E s.heap.size r σ') args s 0 0 (mA E s.heap.size)) (F0 m 57 ls [])) (σ : MS) (x1 : Int32) (x2 : Int32) (x3 : Int32) (x4 : Int32) (x5 : Int32) (h : f_tryAt_153 N k47 k57 σ x1 x2 x3 x4 x5 = some (r, σ')) {H : Heap} {locs : List Loc} (hP : mP E σ H) (hS : va_S (mA E s.heap.size) s.heap H locs) {ls : Array Slot} (hl : lv_has ls 8 [(0, .ref (mh E)), (1, .int x1), (2, .int x2), (3, .int x3), (4, .int x4), (5, .int x5)]) : W p l e R s m args below meth c H locs 0 0 (MQ below (mQi E s.heap.size r σ') args s 0 0 (mA E s.heap.size)) (F0 m 153 ls []) := by
  obtain ⟨⟨hx, hb, hml, hown, hts⟩, hK, hD, hr, hlk⟩ := id hC
  unfold f_tryAt_153 at h
  obtain ⟨y1, ey1⟩ : ∃ z : Int32, z = x5 + 1 := ⟨_, rfl⟩
  have h := mlet_at ey1 h
  refine lv_iinc (v := y1) (lv' := [(5, .int y1), (0, .ref (mh E)), (1, .int x1), (2, .int x2), (3, .int x3), (4, .int x4)]) hx hb dX3_tryAt_153 hl (k := 5) rfl (by rw [ey1]; rfl) (by decide) rfl (fun ls hl => ?_)
  refine lv_goto (tgt := 57) hx hb dX3_tryAt_156 (by decide) ?_
  exact hk57 σ x1 x2 x3 x4 y1 h _ _ hP hS _ (lv_sub hl [1, 2, 3, 4, 5, 0] rfl)
def f_tryAt_147 (N : Nat) (k47 : MS → Int32 → Int32 → Int32 → Option (Int32 × MS)) (k57 : MS → Int32 → Int32 → Int32 → Int32 → Int32 → Option (Int32 × MS)) (k74 : MS → Int32 → Int32 → Int32 → Int32 → Int32 → Int32 → Option (Int32 × MS)) (σ : MS) (x1 : Int32) (x2 : Int32) (x3 : Int32) (x4 : Int32) (x5 : Int32) (x6 : Int32) : Option (Int32 × MS) :=
    mlet (x6 + 1) fun y1 =>
    k74 σ x1 x2 x3 x4 x5 y1
set_option maxHeartbeats 4000000 in
set_option maxRecDepth 100000 in
theorem w_tryAt_147 {p : Program} {l : Launch} {e : Env} {R : Room} {s : State} {m : MethodId} {args : Array Value} {below : List Frame} {meth : Method} {c : Code} {E : mE} {σ' : MS} {r : Int32} (hC : mC p s m args meth c E cX3_tryAt 8 (some .int)) (hR : 2 ≤ R.frames ∧ 54 ≤ R.locals) (N : Nat) (k47 : MS → Int32 → Int32 → Int32 → Option (Int32 × MS)) (hk47 : ∀ (σ : MS) (x1 : Int32) (x2 : Int32) (x3 : Int32), k47 σ x1 x2 x3 = some (r, σ') → ∀ (H : Heap) (locs : List Loc), mP E σ H → va_S (mA E s.heap.size) s.heap H locs → ∀ ls : Array Slot, lv_has ls 8 [(0, .ref (mh E)), (1, .int x1), (2, .int x2), (3, .int x3)] → W p l e R s m args below meth c H locs 0 0 (MQ below (mQi E s.heap.size r σ') args s 0 0 (mA E s.heap.size)) (F0 m 47 ls [])) (k57 : MS → Int32 → Int32 → Int32 → Int32 → Int32 → Option (Int32 × MS)) (hk57 : ∀ (σ : MS) (x1 : Int32) (x2 : Int32) (x3 : Int32) (x4 : Int32) (x5 : Int32), k57 σ x1 x2 x3 x4 x5 = some (r, σ') → ∀ (H : Heap) (locs : List Loc), mP E σ H → va_S (mA E s.heap.size) s.heap H locs → ∀ ls : Array Slot, lv_has ls 8 [(0, .ref (mh E)), (1, .int x1), (2, .int x2), (3, .int x3), (4, .int x4), (5, .int x5)] → W p l e R s m args below meth c H locs 0 0 (MQ below (mQi E s.heap.size r σ') args s 0 0 (mA E s.heap.size)) (F0 m 57 ls [])) (k74 : MS → Int32 → Int32 → Int32 → Int32 → Int32 → Int32 → Option (Int32 × MS)) (hk74 : ∀ (σ : MS) (x1 : Int32) (x2 : Int32) (x3 : Int32) (x4 : Int32) (x5 : Int32) (x6 : Int32), k74 σ x1 x2 x3 x4 x5 x6 = some (r, σ') → ∀ (H : Heap) (locs : List Loc), mP E σ H → va_S (mA E s.heap.size) s.heap H locs → ∀ ls : Array Slot, lv_has ls 8 [(0, .ref (mh E)), (1, .int x1), (2, .int x2), (3, .int x3), (4, .int x4), (5, .int x5), (6, .int x6)] → W p l e R s m args below meth c H locs 0 0 (MQ below (mQi E s.heap.size r σ') args s 0 0 (mA E s.heap.size)) (F0 m 74 ls [])) (σ : MS) (x1 : Int32) (x2 : Int32) (x3 : Int32) (x4 : Int32) (x5 : Int32) (x6 : Int32) (h : f_tryAt_147 N k47 k57 k74 σ x1 x2 x3 x4 x5 x6 = some (r, σ')) {H : Heap} {locs : List Loc} (hP : mP E σ H) (hS : va_S (mA E s.heap.size) s.heap H locs) {ls : Array Slot} (hl : lv_has ls 8 [(0, .ref (mh E)), (1, .int x1), (2, .int x2), (3, .int x3), (4, .int x4), (5, .int x5), (6, .int x6)]) : W p l e R s m args below meth c H locs 0 0 (MQ below (mQi E s.heap.size r σ') args s 0 0 (mA E s.heap.size)) (F0 m 147 ls []) := by
  obtain ⟨⟨hx, hb, hml, hown, hts⟩, hK, hD, hr, hlk⟩ := id hC
  unfold f_tryAt_147 at h
  obtain ⟨y1, ey1⟩ : ∃ z : Int32, z = x6 + 1 := ⟨_, rfl⟩
  have h := mlet_at ey1 h
  refine lv_iinc (v := y1) (lv' := [(6, .int y1), (0, .ref (mh E)), (1, .int x1), (2, .int x2), (3, .int x3), (4, .int x4), (5, .int x5)]) hx hb dX3_tryAt_147 hl (k := 6) rfl (by rw [ey1]; rfl) (by decide) rfl (fun ls hl => ?_)
  refine lv_goto (tgt := 74) hx hb dX3_tryAt_150 (by decide) ?_
  exact hk74 σ x1 x2 x3 x4 x5 y1 h _ _ hP hS _ (lv_sub hl [1, 2, 3, 4, 5, 6, 0] rfl)
def f_tryAt_74 (N : Nat) (k47 : MS → Int32 → Int32 → Int32 → Option (Int32 × MS)) (k57 : MS → Int32 → Int32 → Int32 → Int32 → Int32 → Option (Int32 × MS)) : Nat → MS → Int32 → Int32 → Int32 → Int32 → Int32 → Int32 → Option (Int32 × MS)
  | 0, _, _, _, _, _, _, _ => none
  | n + 1, σ, x1, x2, x3, x4, x5, x6 =>
    if (σ.1 24) ≤ x6 then
    f_tryAt_153 N k47 k57 σ x1 x2 x3 x4 x5
    else
    if 0 ≤ x4 then
    f_tryAt_153 N k47 k57 σ x1 x2 x3 x4 x5
    else
    mcall (f_behind N σ x2 x5 x6) fun r5 σ3 =>
    if mIn r5 (mLen 68) = true then mlet (σ3.2.1 68 r5.toNatClampNeg) fun y7 =>
    if 2000000000 ≤ y7 then
    f_tryAt_147 N k47 k57 (f_tryAt_74 N k47 k57 n) σ3 x1 x2 x3 x4 x5 x6
    else
    if mIn x5 (mLen 32) = true then mlet (σ3.2.1 32 x5.toNatClampNeg) fun y10 =>
    if mIn x2 (mLen 68) = true then mlet (σ3.2.1 68 x2.toNatClampNeg) fun y12 =>
    if ((y7 + (10000 * y10)) + 1) = y12 then
    mlet ((10 * x5) + x6) fun y14 =>
    f_tryAt_147 N k47 k57 (f_tryAt_74 N k47 k57 n) σ3 x1 x2 x3 y14 x5 x6
    else
    f_tryAt_147 N k47 k57 (f_tryAt_74 N k47 k57 n) σ3 x1 x2 x3 x4 x5 x6
    else none
    else none
    else none
set_option maxHeartbeats 4000000 in
set_option maxRecDepth 100000 in
theorem w_tryAt_74 {p : Program} {l : Launch} {e : Env} {R : Room} {s : State} {m : MethodId} {args : Array Value} {below : List Frame} {meth : Method} {c : Code} {E : mE} {σ' : MS} {r : Int32} (hC : mC p s m args meth c E cX3_tryAt 8 (some .int)) (hR : 2 ≤ R.frames ∧ 54 ≤ R.locals) (N : Nat) (k47 : MS → Int32 → Int32 → Int32 → Option (Int32 × MS)) (hk47 : ∀ (σ : MS) (x1 : Int32) (x2 : Int32) (x3 : Int32), k47 σ x1 x2 x3 = some (r, σ') → ∀ (H : Heap) (locs : List Loc), mP E σ H → va_S (mA E s.heap.size) s.heap H locs → ∀ ls : Array Slot, lv_has ls 8 [(0, .ref (mh E)), (1, .int x1), (2, .int x2), (3, .int x3)] → W p l e R s m args below meth c H locs 0 0 (MQ below (mQi E s.heap.size r σ') args s 0 0 (mA E s.heap.size)) (F0 m 47 ls [])) (k57 : MS → Int32 → Int32 → Int32 → Int32 → Int32 → Option (Int32 × MS)) (hk57 : ∀ (σ : MS) (x1 : Int32) (x2 : Int32) (x3 : Int32) (x4 : Int32) (x5 : Int32), k57 σ x1 x2 x3 x4 x5 = some (r, σ') → ∀ (H : Heap) (locs : List Loc), mP E σ H → va_S (mA E s.heap.size) s.heap H locs → ∀ ls : Array Slot, lv_has ls 8 [(0, .ref (mh E)), (1, .int x1), (2, .int x2), (3, .int x3), (4, .int x4), (5, .int x5)] → W p l e R s m args below meth c H locs 0 0 (MQ below (mQi E s.heap.size r σ') args s 0 0 (mA E s.heap.size)) (F0 m 57 ls [])) : ∀ (n : Nat) (σ : MS) (x1 : Int32) (x2 : Int32) (x3 : Int32) (x4 : Int32) (x5 : Int32) (x6 : Int32), f_tryAt_74 N k47 k57 n σ x1 x2 x3 x4 x5 x6 = some (r, σ') → ∀ (H : Heap) (locs : List Loc), mP E σ H → va_S (mA E s.heap.size) s.heap H locs → ∀ ls : Array Slot, lv_has ls 8 [(0, .ref (mh E)), (1, .int x1), (2, .int x2), (3, .int x3), (4, .int x4), (5, .int x5), (6, .int x6)] → W p l e R s m args below meth c H locs 0 0 (MQ below (mQi E s.heap.size r σ') args s 0 0 (mA E s.heap.size)) (F0 m 74 ls []) := by
  obtain ⟨⟨hx, hb, hml, hown, hts⟩, hK, hD, hr, hlk⟩ := id hC
  intro n
  induction n with
  | zero =>
    intro σ x1 x2 x3 x4 x5 x6 h
    cases h
  | succ n ih =>
    intro σ x1 x2 x3 x4 x5 x6 h H locs hP hS ls hl
    unfold f_tryAt_74 at h
    refine lv_iload hx hb dX3_tryAt_74 (lv_at hl 6 rfl) ?_
    refine lv_aload_n hx hb dX3_tryAt_76 rfl (lv_at hl 0 rfl) ?_
    refine m_geti hC hP 24 (by decide) rfl q1917 dX3_tryAt_77 ?_
    refine lv_icmp_ge (tgt := 153) hx hb dX3_tryAt_80 (by decide) (fun c1 => ?_) (fun c1 => ?_)
    · have h := mif_t c1 h
      exact w_tryAt_153 hC hR N k47 hk47 k57 hk57 σ x1 x2 x3 x4 x5 h hP hS (lv_sub hl [0, 1, 2, 3, 4, 5] rfl)
    · have h := mif_f c1 h
      refine lv_iload hx hb dX3_tryAt_83 (lv_at hl 4 rfl) ?_
      refine lv_if_ge (tgt := 153) hx hb dX3_tryAt_85 (by decide) (fun c2 => ?_) (fun c2 => ?_)
      · have h := mif_t c2 h
        exact w_tryAt_153 hC hR N k47 hk47 k57 hk57 σ x1 x2 x3 x4 x5 h hP hS (lv_sub hl [0, 1, 2, 3, 4, 5] rfl)
      · have h := mif_f c2 h
        refine lv_aload_n hx hb dX3_tryAt_88 rfl (lv_at hl 0 rfl) ?_
        refine m_geta hC hP 68 (by decide) rfl q1961 dX3_tryAt_89 ?_
        refine lv_aload_n hx hb dX3_tryAt_92 rfl (lv_at hl 0 rfl) ?_
        refine lv_iload_n hx hb dX3_tryAt_93 rfl (lv_at hl 2 rfl) ?_
        refine lv_iload hx hb dX3_tryAt_94 (lv_at hl 5 rfl) ?_
        refine lv_iload hx hb dX3_tryAt_96 (lv_at hl 6 rfl) ?_
        obtain ⟨r5, σ3, c4, h⟩ := mcall_n h
        refine m_calli (As := [.int x2, .int x5, .int x6]) (rest := [.ref (mad E 68)]) hC (met_behind l N E H.size σ x2 x5 x6 r5 σ3 c4) (cwV 3 hts (lw_V q2521 q2523 qs94 q103 q2524) rfl rfl rfl (by decide +kernel) ⟨Nat.le_trans (Nat.le_of_ble_eq_true rfl) hR.1, Nat.le_trans (Nat.le_of_ble_eq_true rfl) hR.2⟩) hP hS rfl hl.1 rfl (Nat.le_of_ble_eq_true rfl) dX3_tryAt_98 (fun H locs hP hS => ?_)
        obtain ⟨c6, h⟩ := mif_n h
        refine m_ald hC hP 68 rfl c6 dX3_tryAt_101 ?_
        refine lv_topi (fun y7 ey7 => ?_)
        have h := mlet_at ey7 h
        refine lv_istore (lv' := [(7, .int y7), (0, .ref (mh E)), (1, .int x1), (2, .int x2), (3, .int x3), (4, .int x4), (5, .int x5), (6, .int x6)]) hx hb dX3_tryAt_102 hl (by decide) rfl (fun ls hl => ?_)
        refine lv_iload hx hb dX3_tryAt_104 (lv_at hl 0 rfl) ?_
        refine lv_ldcw hx hb hown (hts _ q2520) dX3_tryAt_106 ?_
        refine lv_icmp_ge (tgt := 147) hx hb dX3_tryAt_109 (by decide) (fun c8 => ?_) (fun c8 => ?_)
        · have h := mif_t c8 h
          exact w_tryAt_147 hC hR N k47 hk47 k57 hk57 (f_tryAt_74 N k47 k57 n) ih σ3 x1 x2 x3 x4 x5 x6 h hP hS (lv_sub hl [1, 2, 3, 4, 5, 6, 7] rfl)
        · have h := mif_f c8 h
          refine lv_iload hx hb dX3_tryAt_112 (lv_at hl 0 rfl) ?_
          refine lv_sipush (v := 10000) hx hb dX3_tryAt_114 (by decide) ?_
          refine lv_aload_n hx hb dX3_tryAt_117 rfl (lv_at hl 1 rfl) ?_
          refine m_geta hC hP 32 (by decide) rfl q1925 dX3_tryAt_118 ?_
          refine lv_iload hx hb dX3_tryAt_121 (lv_at hl 6 rfl) ?_
          obtain ⟨c9, h⟩ := mif_n h
          refine m_ald hC hP 32 rfl c9 dX3_tryAt_123 ?_
          refine lv_topi (fun y10 ey10 => ?_)
          have h := mlet_at ey10 h
          refine lv_imul hx hb dX3_tryAt_124 ?_
          refine lv_iadd hx hb dX3_tryAt_125 ?_
          refine lv_iconst (v := 1) hx hb dX3_tryAt_126 (by decide) ?_
          refine lv_iadd hx hb dX3_tryAt_127 ?_
          refine lv_aload_n hx hb dX3_tryAt_128 rfl (lv_at hl 1 rfl) ?_
          refine m_geta hC hP 68 (by decide) rfl q1961 dX3_tryAt_129 ?_
          refine lv_iload_n hx hb dX3_tryAt_132 rfl (lv_at hl 3 rfl) ?_
          obtain ⟨c11, h⟩ := mif_n h
          refine m_ald hC hP 68 rfl c11 dX3_tryAt_133 ?_
          refine lv_topi (fun y12 ey12 => ?_)
          have h := mlet_at ey12 h
          refine lv_icmp_ne (tgt := 147) hx hb dX3_tryAt_134 (by decide) (fun c13 => ?_) (fun c13 => ?_)
          · have h := mif_f c13 h
            exact w_tryAt_147 hC hR N k47 hk47 k57 hk57 (f_tryAt_74 N k47 k57 n) ih σ3 x1 x2 x3 x4 x5 x6 h hP hS (lv_sub hl [1, 2, 3, 4, 5, 6, 7] rfl)
          · have h := mif_t c13 h
            refine lv_bipush (v := 10) hx hb dX3_tryAt_137 (by decide) ?_
            refine lv_iload hx hb dX3_tryAt_139 (lv_at hl 6 rfl) ?_
            refine lv_imul hx hb dX3_tryAt_141 ?_
            refine lv_iload hx hb dX3_tryAt_142 (lv_at hl 7 rfl) ?_
            refine lv_iadd hx hb dX3_tryAt_144 ?_
            refine lv_topi (fun y14 ey14 => ?_)
            have h := mlet_at ey14 h
            refine lv_istore (lv' := [(4, .int y14), (7, .int y7), (0, .ref (mh E)), (1, .int x1), (2, .int x2), (3, .int x3), (5, .int x5), (6, .int x6)]) hx hb dX3_tryAt_145 hl (by decide) rfl (fun ls hl => ?_)
            exact w_tryAt_147 hC hR N k47 hk47 k57 hk57 (f_tryAt_74 N k47 k57 n) ih σ3 x1 x2 x3 y14 x5 x6 h hP hS (lv_sub hl [2, 3, 4, 5, 0, 6, 7] rfl)
def f_tryAt_57 (N : Nat) (k47 : MS → Int32 → Int32 → Int32 → Option (Int32 × MS)) : Nat → MS → Int32 → Int32 → Int32 → Int32 → Int32 → Option (Int32 × MS)
  | 0, _, _, _, _, _, _ => none
  | n + 1, σ, x1, x2, x3, x4, x5 =>
    if (σ.1 23) ≤ x5 then
    f_tryAt_159 N k47 σ x1 x2 x3 x4
    else
    if 0 ≤ x4 then
    f_tryAt_159 N k47 σ x1 x2 x3 x4
    else
    f_tryAt_74 N k47 (f_tryAt_57 N k47 n) N σ x1 x2 x3 x4 x5 0
set_option maxHeartbeats 4000000 in
set_option maxRecDepth 100000 in
theorem w_tryAt_57 {p : Program} {l : Launch} {e : Env} {R : Room} {s : State} {m : MethodId} {args : Array Value} {below : List Frame} {meth : Method} {c : Code} {E : mE} {σ' : MS} {r : Int32} (hC : mC p s m args meth c E cX3_tryAt 8 (some .int)) (hR : 2 ≤ R.frames ∧ 54 ≤ R.locals) (N : Nat) (k47 : MS → Int32 → Int32 → Int32 → Option (Int32 × MS)) (hk47 : ∀ (σ : MS) (x1 : Int32) (x2 : Int32) (x3 : Int32), k47 σ x1 x2 x3 = some (r, σ') → ∀ (H : Heap) (locs : List Loc), mP E σ H → va_S (mA E s.heap.size) s.heap H locs → ∀ ls : Array Slot, lv_has ls 8 [(0, .ref (mh E)), (1, .int x1), (2, .int x2), (3, .int x3)] → W p l e R s m args below meth c H locs 0 0 (MQ below (mQi E s.heap.size r σ') args s 0 0 (mA E s.heap.size)) (F0 m 47 ls [])) : ∀ (n : Nat) (σ : MS) (x1 : Int32) (x2 : Int32) (x3 : Int32) (x4 : Int32) (x5 : Int32), f_tryAt_57 N k47 n σ x1 x2 x3 x4 x5 = some (r, σ') → ∀ (H : Heap) (locs : List Loc), mP E σ H → va_S (mA E s.heap.size) s.heap H locs → ∀ ls : Array Slot, lv_has ls 8 [(0, .ref (mh E)), (1, .int x1), (2, .int x2), (3, .int x3), (4, .int x4), (5, .int x5)] → W p l e R s m args below meth c H locs 0 0 (MQ below (mQi E s.heap.size r σ') args s 0 0 (mA E s.heap.size)) (F0 m 57 ls []) := by
  obtain ⟨⟨hx, hb, hml, hown, hts⟩, hK, hD, hr, hlk⟩ := id hC
  intro n
  induction n with
  | zero =>
    intro σ x1 x2 x3 x4 x5 h
    cases h
  | succ n ih =>
    intro σ x1 x2 x3 x4 x5 h H locs hP hS ls hl
    unfold f_tryAt_57 at h
    refine lv_iload hx hb dX3_tryAt_57 (lv_at hl 5 rfl) ?_
    refine lv_aload_n hx hb dX3_tryAt_59 rfl (lv_at hl 0 rfl) ?_
    refine m_geti hC hP 23 (by decide) rfl q1916 dX3_tryAt_60 ?_
    refine lv_icmp_ge (tgt := 159) hx hb dX3_tryAt_63 (by decide) (fun c1 => ?_) (fun c1 => ?_)
    · have h := mif_t c1 h
      exact w_tryAt_159 hC hR N k47 hk47 σ x1 x2 x3 x4 h hP hS (lv_sub hl [0, 1, 2, 3, 4] rfl)
    · have h := mif_f c1 h
      refine lv_iload hx hb dX3_tryAt_66 (lv_at hl 4 rfl) ?_
      refine lv_if_ge (tgt := 159) hx hb dX3_tryAt_68 (by decide) (fun c2 => ?_) (fun c2 => ?_)
      · have h := mif_t c2 h
        exact w_tryAt_159 hC hR N k47 hk47 σ x1 x2 x3 x4 h hP hS (lv_sub hl [0, 1, 2, 3, 4] rfl)
      · have h := mif_f c2 h
        refine lv_iconst (v := 0) hx hb dX3_tryAt_71 (by decide) ?_
        refine lv_istore (lv' := [(6, .int 0), (0, .ref (mh E)), (1, .int x1), (2, .int x2), (3, .int x3), (4, .int x4), (5, .int x5)]) hx hb dX3_tryAt_72 hl (by decide) rfl (fun ls hl => ?_)
        exact w_tryAt_74 hC hR N k47 hk47 (f_tryAt_57 N k47 n) ih N σ x1 x2 x3 x4 x5 0 h _ _ hP hS _ (lv_sub hl [1, 2, 3, 4, 5, 6, 0] rfl)
def f_tryAt_47 (N : Nat) : Nat → MS → Int32 → Int32 → Int32 → Option (Int32 × MS)
  | 0, _, _, _, _ => none
  | n + 1, σ, x1, x2, x3 =>
    if x2 ≤ 0 then
    some ((-2), σ)
    else
    f_tryAt_57 N (f_tryAt_47 N n) N σ x1 x2 x3 (-1) 0
set_option maxHeartbeats 4000000 in
set_option maxRecDepth 100000 in
theorem w_tryAt_47 {p : Program} {l : Launch} {e : Env} {R : Room} {s : State} {m : MethodId} {args : Array Value} {below : List Frame} {meth : Method} {c : Code} {E : mE} {σ' : MS} {r : Int32} (hC : mC p s m args meth c E cX3_tryAt 8 (some .int)) (hR : 2 ≤ R.frames ∧ 54 ≤ R.locals) (N : Nat) : ∀ (n : Nat) (σ : MS) (x1 : Int32) (x2 : Int32) (x3 : Int32), f_tryAt_47 N n σ x1 x2 x3 = some (r, σ') → ∀ (H : Heap) (locs : List Loc), mP E σ H → va_S (mA E s.heap.size) s.heap H locs → ∀ ls : Array Slot, lv_has ls 8 [(0, .ref (mh E)), (1, .int x1), (2, .int x2), (3, .int x3)] → W p l e R s m args below meth c H locs 0 0 (MQ below (mQi E s.heap.size r σ') args s 0 0 (mA E s.heap.size)) (F0 m 47 ls []) := by
  obtain ⟨⟨hx, hb, hml, hown, hts⟩, hK, hD, hr, hlk⟩ := id hC
  intro n
  induction n with
  | zero =>
    intro σ x1 x2 x3 h
    cases h
  | succ n ih =>
    intro σ x1 x2 x3 h H locs hP hS ls hl
    unfold f_tryAt_47 at h
    refine lv_iload_n hx hb dX3_tryAt_47 rfl (lv_at hl 2 rfl) ?_
    refine lv_if_le (tgt := 189) hx hb dX3_tryAt_48 (by decide) (fun c1 => ?_) (fun c1 => ?_)
    · have h := mif_t c1 h
      refine lv_bipush (v := (-2)) hx hb dX3_tryAt_189 (by decide) ?_
      cases h
      exact m_iret hC hP hS dX3_tryAt_191
    · have h := mif_f c1 h
      refine lv_iconst (v := (-1)) hx hb dX3_tryAt_51 (by decide) ?_
      refine lv_istore (lv' := [(4, .int (-1)), (0, .ref (mh E)), (1, .int x1), (2, .int x2), (3, .int x3)]) hx hb dX3_tryAt_52 hl (by decide) rfl (fun ls hl => ?_)
      refine lv_iconst (v := 0) hx hb dX3_tryAt_54 (by decide) ?_
      refine lv_istore (lv' := [(5, .int 0), (4, .int (-1)), (0, .ref (mh E)), (1, .int x1), (2, .int x2), (3, .int x3)]) hx hb dX3_tryAt_55 hl (by decide) rfl (fun ls hl => ?_)
      exact w_tryAt_57 hC hR N (f_tryAt_47 N n) ih N σ x1 x2 x3 (-1) 0 h _ _ hP hS _ (lv_sub hl [2, 3, 4, 5, 1, 0] rfl)
def f_tryAt (N : Nat) (σ : MS) (x1 : Int32) : Option (Int32 × MS) :=
    mcallv (f_good N σ) fun σ1 =>
    if (σ1.1 12) = 0 then
    f_tryAt_15 N σ1
    else
    if 0 ≤ x1 then
    mcallv (f_digs N σ1) fun σ5 =>
    mcall (f_digState N σ5) fun r9 σ7 =>
    if mIn r9 (mLen 68) = true then mlet (σ7.2.1 68 r9.toNatClampNeg) fun y11 =>
    if y11 = 2000000000 then
    some ((-2), σ7)
    else
    f_tryAt_47 N N σ7 x1 r9 0
    else none
    else
    f_tryAt_15 N σ1
set_option maxHeartbeats 4000000 in
set_option maxRecDepth 100000 in
theorem w_tryAt_0 {p : Program} {l : Launch} {e : Env} {R : Room} {s : State} {m : MethodId} {args : Array Value} {below : List Frame} {meth : Method} {c : Code} {E : mE} {σ' : MS} {r : Int32} (hC : mC p s m args meth c E cX3_tryAt 8 (some .int)) (hR : 2 ≤ R.frames ∧ 54 ≤ R.locals) (N : Nat) (σ : MS) (x1 : Int32) (h : f_tryAt N σ x1 = some (r, σ')) {H : Heap} {locs : List Loc} (hP : mP E σ H) (hS : va_S (mA E s.heap.size) s.heap H locs) {ls : Array Slot} (hl : lv_has ls 8 [(0, .ref (mh E)), (1, .int x1)]) : W p l e R s m args below meth c H locs 0 0 (MQ below (mQi E s.heap.size r σ') args s 0 0 (mA E s.heap.size)) (F0 m 0 ls []) := by
  obtain ⟨⟨hx, hb, hml, hown, hts⟩, hK, hD, hr, hlk⟩ := id hC
  unfold f_tryAt at h
  refine lv_aload_n hx hb dX3_tryAt_0 rfl (lv_at hl 0 rfl) ?_
  obtain ⟨σ1, c2, h⟩ := mcallv_n h
  refine m_callv (As := []) (rest := []) hC (met_good l N E H.size σ σ1 c2) (cwV 0 hts (lw_V q2131 q2133 qs40 q103 q2134) rfl rfl rfl (by decide +kernel) ⟨Nat.le_trans (Nat.le_of_ble_eq_true rfl) hR.1, Nat.le_trans (Nat.le_of_ble_eq_true rfl) hR.2⟩) hP hS rfl hl.1 rfl (Nat.le_of_ble_eq_true rfl) dX3_tryAt_1 (fun H locs hP hS => ?_)
  refine lv_aload_n hx hb dX3_tryAt_4 rfl (lv_at hl 0 rfl) ?_
  refine m_geti hC hP 12 (by decide) rfl q1905 dX3_tryAt_5 ?_
  refine lv_if_eq (tgt := 15) hx hb dX3_tryAt_8 (by decide) (fun c3 => ?_) (fun c3 => ?_)
  · have h := mif_t c3 h
    exact w_tryAt_15 hC hR N σ1 h hP hS (lv_sub hl [0] rfl)
  · have h := mif_f c3 h
    refine lv_iload_n hx hb dX3_tryAt_11 rfl (lv_at hl 1 rfl) ?_
    refine lv_if_ge (tgt := 21) hx hb dX3_tryAt_12 (by decide) (fun c4 => ?_) (fun c4 => ?_)
    · have h := mif_t c4 h
      refine lv_aload_n hx hb dX3_tryAt_21 rfl (lv_at hl 0 rfl) ?_
      obtain ⟨σ5, c6, h⟩ := mcallv_n h
      refine m_callv (As := []) (rest := []) hC (met_digs l N E H.size σ1 σ5 c6) (cwV 0 hts (lw_V q2516 q2518 qs93 q103 q2519) rfl rfl rfl (by decide +kernel) ⟨Nat.le_trans (Nat.le_of_ble_eq_true rfl) hR.1, Nat.le_trans (Nat.le_of_ble_eq_true rfl) hR.2⟩) hP hS rfl hl.1 rfl (Nat.le_of_ble_eq_true rfl) dX3_tryAt_22 (fun H locs hP hS => ?_)
      refine lv_aload_n hx hb dX3_tryAt_25 rfl (lv_at hl 0 rfl) ?_
      obtain ⟨r9, σ7, c8, h⟩ := mcall_n h
      refine m_calli (As := []) (rest := []) hC (met_digState l N E H.size σ5 r9 σ7 c8) (cwV 0 hts (lw_V q2525 q2527 qs95 q103 q2528) rfl rfl rfl (by decide +kernel) ⟨Nat.le_trans (Nat.le_of_ble_eq_true rfl) hR.1, Nat.le_trans (Nat.le_of_ble_eq_true rfl) hR.2⟩) hP hS rfl hl.1 rfl (Nat.le_of_ble_eq_true rfl) dX3_tryAt_26 (fun H locs hP hS => ?_)
      refine lv_istore_n (lv' := [(2, .int r9), (0, .ref (mh E)), (1, .int x1)]) hx hb dX3_tryAt_29 rfl hl (by decide) rfl (fun ls hl => ?_)
      refine lv_aload_n hx hb dX3_tryAt_30 rfl (lv_at hl 1 rfl) ?_
      refine m_geta hC hP 68 (by decide) rfl q1961 dX3_tryAt_31 ?_
      refine lv_iload_n hx hb dX3_tryAt_34 rfl (lv_at hl 0 rfl) ?_
      obtain ⟨c10, h⟩ := mif_n h
      refine m_ald hC hP 68 rfl c10 dX3_tryAt_35 ?_
      refine lv_topi (fun y11 ey11 => ?_)
      have h := mlet_at ey11 h
      refine lv_ldcw hx hb hown (hts _ q2520) dX3_tryAt_36 ?_
      refine lv_icmp_ne (tgt := 45) hx hb dX3_tryAt_39 (by decide) (fun c12 => ?_) (fun c12 => ?_)
      · have h := mif_f c12 h
        refine lv_iconst (v := 0) hx hb dX3_tryAt_45 (by decide) ?_
        refine lv_istore_n (lv' := [(3, .int 0), (2, .int r9), (0, .ref (mh E)), (1, .int x1)]) hx hb dX3_tryAt_46 rfl hl (by decide) rfl (fun ls hl => ?_)
        exact w_tryAt_47 hC hR N N σ7 x1 r9 0 h _ _ hP hS _ (lv_sub hl [2, 3, 1, 0] rfl)
      · have h := mif_t c12 h
        refine lv_bipush (v := (-2)) hx hb dX3_tryAt_42 (by decide) ?_
        cases h
        exact m_iret hC hP hS dX3_tryAt_44
    · have h := mif_f c4 h
      exact w_tryAt_15 hC hR N σ1 h hP hS (lv_sub hl [0] rfl)
theorem met_tryAt (l : Launch) (N : Nat) (E : mE) (sz : Nat) (σ : MS) (x1 : Int32) (r : Int32) (σ' : MS) (h : f_tryAt N σ x1 = some (r, σ')) : Met l yX3_tryAt (ws_ yX3_tryAt cX3_tryAt 8 (some .int)) ({ frames := 2, cells := 0, slots := 0, locals := 54 }) (mPc E sz σ [.ref (mh E), .int x1]) (mQi E sz r σ') 0 0 (mA E sz) :=
  m_met (Qc := fun z => mQi E z r σ') (by decide) rfl (Nat.le_of_ble_eq_true rfl) (fun hC ls hl hP => w_tryAt_0 hC ⟨Nat.le_refl _, Nat.le_refl _⟩ N σ x1 h hP va_S.rf hl)
def f_mostDug_46 (N : Nat) (σ : MS) (x1 : Int32) : Option (Int32 × MS) :=
    some (x1, σ)
set_option maxHeartbeats 4000000 in
set_option maxRecDepth 100000 in
theorem w_mostDug_46 {p : Program} {l : Launch} {e : Env} {R : Room} {s : State} {m : MethodId} {args : Array Value} {below : List Frame} {meth : Method} {c : Code} {E : mE} {σ' : MS} {r : Int32} (hC : mC p s m args meth c E cX3_mostDug 3 (some .int)) (hR : 0 ≤ R.frames ∧ 0 ≤ R.locals) (N : Nat) (σ : MS) (x1 : Int32) (h : f_mostDug_46 N σ x1 = some (r, σ')) {H : Heap} {locs : List Loc} (hP : mP E σ H) (hS : va_S (mA E s.heap.size) s.heap H locs) {ls : Array Slot} (hl : lv_has ls 3 [(1, .int x1)]) : W p l e R s m args below meth c H locs 0 0 (MQ below (mQi E s.heap.size r σ') args s 0 0 (mA E s.heap.size)) (F0 m 46 ls []) := by
  obtain ⟨⟨hx, hb, hml, hown, hts⟩, hK, hD, hr, hlk⟩ := id hC
  unfold f_mostDug_46 at h
  refine lv_iload_n hx hb dX3_mostDug_46 rfl (lv_at hl 0 rfl) ?_
  cases h
  exact m_iret hC hP hS dX3_mostDug_47
def f_mostDug_39 (N : Nat) (k4 : MS → Int32 → Int32 → Option (Int32 × MS)) (σ : MS) (x2 : Int32) (s0 : Int32) : Option (Int32 × MS) :=
    mlet (x2 + 1) fun y1 =>
    k4 σ s0 y1
set_option maxHeartbeats 4000000 in
set_option maxRecDepth 100000 in
theorem w_mostDug_39 {p : Program} {l : Launch} {e : Env} {R : Room} {s : State} {m : MethodId} {args : Array Value} {below : List Frame} {meth : Method} {c : Code} {E : mE} {σ' : MS} {r : Int32} (hC : mC p s m args meth c E cX3_mostDug 3 (some .int)) (hR : 0 ≤ R.frames ∧ 0 ≤ R.locals) (N : Nat) (k4 : MS → Int32 → Int32 → Option (Int32 × MS)) (hk4 : ∀ (σ : MS) (x1 : Int32) (x2 : Int32), k4 σ x1 x2 = some (r, σ') → ∀ (H : Heap) (locs : List Loc), mP E σ H → va_S (mA E s.heap.size) s.heap H locs → ∀ ls : Array Slot, lv_has ls 3 [(0, .ref (mh E)), (1, .int x1), (2, .int x2)] → W p l e R s m args below meth c H locs 0 0 (MQ below (mQi E s.heap.size r σ') args s 0 0 (mA E s.heap.size)) (F0 m 4 ls [])) (σ : MS) (x2 : Int32) (s0 : Int32) (h : f_mostDug_39 N k4 σ x2 s0 = some (r, σ')) {H : Heap} {locs : List Loc} (hP : mP E σ H) (hS : va_S (mA E s.heap.size) s.heap H locs) {ls : Array Slot} (hl : lv_has ls 3 [(0, .ref (mh E)), (2, .int x2)]) : W p l e R s m args below meth c H locs 0 0 (MQ below (mQi E s.heap.size r σ') args s 0 0 (mA E s.heap.size)) (F0 m 39 ls [.int s0]) := by
  obtain ⟨⟨hx, hb, hml, hown, hts⟩, hK, hD, hr, hlk⟩ := id hC
  unfold f_mostDug_39 at h
  refine lv_istore_n (lv' := [(1, .int s0), (0, .ref (mh E)), (2, .int x2)]) hx hb dX3_mostDug_39 rfl hl (by decide) rfl (fun ls hl => ?_)
  obtain ⟨y1, ey1⟩ : ∃ z : Int32, z = x2 + 1 := ⟨_, rfl⟩
  have h := mlet_at ey1 h
  refine lv_iinc (v := y1) (lv' := [(2, .int y1), (1, .int s0), (0, .ref (mh E))]) hx hb dX3_mostDug_40 hl (k := 2) rfl (by rw [ey1]; rfl) (by decide) rfl (fun ls hl => ?_)
  refine lv_goto (tgt := 4) hx hb dX3_mostDug_43 (by decide) ?_
  exact hk4 σ s0 y1 h _ _ hP hS _ (lv_sub hl [2, 1, 0] rfl)
def f_mostDug_4 (N : Nat) : Nat → MS → Int32 → Int32 → Option (Int32 × MS)
  | 0, _, _, _ => none
  | n + 1, σ, x1, x2 =>
    if (σ.1 24) ≤ x2 then
    f_mostDug_46 N σ x1
    else
    if (σ.1 12) = 0 then
    f_mostDug_46 N σ x1
    else
    if mIn x2 (mLen 47) = true then mlet (σ.2.1 47 x2.toNatClampNeg) fun y4 =>
    if y4 ≤ x1 then
    f_mostDug_39 N (f_mostDug_4 N n) σ x2 x1
    else
    if mIn x2 (mLen 47) = true then mlet (σ.2.1 47 x2.toNatClampNeg) fun y7 =>
    f_mostDug_39 N (f_mostDug_4 N n) σ x2 y7
    else none
    else none
set_option maxHeartbeats 4000000 in
set_option maxRecDepth 100000 in
theorem w_mostDug_4 {p : Program} {l : Launch} {e : Env} {R : Room} {s : State} {m : MethodId} {args : Array Value} {below : List Frame} {meth : Method} {c : Code} {E : mE} {σ' : MS} {r : Int32} (hC : mC p s m args meth c E cX3_mostDug 3 (some .int)) (hR : 0 ≤ R.frames ∧ 0 ≤ R.locals) (N : Nat) : ∀ (n : Nat) (σ : MS) (x1 : Int32) (x2 : Int32), f_mostDug_4 N n σ x1 x2 = some (r, σ') → ∀ (H : Heap) (locs : List Loc), mP E σ H → va_S (mA E s.heap.size) s.heap H locs → ∀ ls : Array Slot, lv_has ls 3 [(0, .ref (mh E)), (1, .int x1), (2, .int x2)] → W p l e R s m args below meth c H locs 0 0 (MQ below (mQi E s.heap.size r σ') args s 0 0 (mA E s.heap.size)) (F0 m 4 ls []) := by
  obtain ⟨⟨hx, hb, hml, hown, hts⟩, hK, hD, hr, hlk⟩ := id hC
  intro n
  induction n with
  | zero =>
    intro σ x1 x2 h
    cases h
  | succ n ih =>
    intro σ x1 x2 h H locs hP hS ls hl
    unfold f_mostDug_4 at h
    refine lv_iload_n hx hb dX3_mostDug_4 rfl (lv_at hl 2 rfl) ?_
    refine lv_aload_n hx hb dX3_mostDug_5 rfl (lv_at hl 0 rfl) ?_
    refine m_geti hC hP 24 (by decide) rfl q1917 dX3_mostDug_6 ?_
    refine lv_icmp_ge (tgt := 46) hx hb dX3_mostDug_9 (by decide) (fun c1 => ?_) (fun c1 => ?_)
    · have h := mif_t c1 h
      exact w_mostDug_46 hC hR N σ x1 h hP hS (lv_sub hl [1] rfl)
    · have h := mif_f c1 h
      refine lv_aload_n hx hb dX3_mostDug_12 rfl (lv_at hl 0 rfl) ?_
      refine m_geti hC hP 12 (by decide) rfl q1905 dX3_mostDug_13 ?_
      refine lv_if_eq (tgt := 46) hx hb dX3_mostDug_16 (by decide) (fun c2 => ?_) (fun c2 => ?_)
      · have h := mif_t c2 h
        exact w_mostDug_46 hC hR N σ x1 h hP hS (lv_sub hl [1] rfl)
      · have h := mif_f c2 h
        refine lv_aload_n hx hb dX3_mostDug_19 rfl (lv_at hl 0 rfl) ?_
        refine m_geta hC hP 47 (by decide) rfl q1940 dX3_mostDug_20 ?_
        refine lv_iload_n hx hb dX3_mostDug_23 rfl (lv_at hl 2 rfl) ?_
        obtain ⟨c3, h⟩ := mif_n h
        refine m_ald hC hP 47 rfl c3 dX3_mostDug_24 ?_
        refine lv_topi (fun y4 ey4 => ?_)
        have h := mlet_at ey4 h
        refine lv_iload_n hx hb dX3_mostDug_25 rfl (lv_at hl 1 rfl) ?_
        refine lv_icmp_le (tgt := 38) hx hb dX3_mostDug_26 (by decide) (fun c5 => ?_) (fun c5 => ?_)
        · have h := mif_t c5 h
          refine lv_iload_n hx hb dX3_mostDug_38 rfl (lv_at hl 1 rfl) ?_
          exact w_mostDug_39 hC hR N (f_mostDug_4 N n) ih σ x2 x1 h hP hS (lv_sub hl [0, 2] rfl)
        · have h := mif_f c5 h
          refine lv_aload_n hx hb dX3_mostDug_29 rfl (lv_at hl 0 rfl) ?_
          refine m_geta hC hP 47 (by decide) rfl q1940 dX3_mostDug_30 ?_
          refine lv_iload_n hx hb dX3_mostDug_33 rfl (lv_at hl 2 rfl) ?_
          obtain ⟨c6, h⟩ := mif_n h
          refine m_ald hC hP 47 rfl c6 dX3_mostDug_34 ?_
          refine lv_topi (fun y7 ey7 => ?_)
          have h := mlet_at ey7 h
          refine lv_goto (tgt := 39) hx hb dX3_mostDug_35 (by decide) ?_
          exact w_mostDug_39 hC hR N (f_mostDug_4 N n) ih σ x2 y7 h hP hS (lv_sub hl [0, 2] rfl)
def f_mostDug (N : Nat) (σ : MS) : Option (Int32 × MS) :=
    f_mostDug_4 N N σ 0 0
set_option maxHeartbeats 4000000 in
set_option maxRecDepth 100000 in
theorem w_mostDug_0 {p : Program} {l : Launch} {e : Env} {R : Room} {s : State} {m : MethodId} {args : Array Value} {below : List Frame} {meth : Method} {c : Code} {E : mE} {σ' : MS} {r : Int32} (hC : mC p s m args meth c E cX3_mostDug 3 (some .int)) (hR : 0 ≤ R.frames ∧ 0 ≤ R.locals) (N : Nat) (σ : MS) (h : f_mostDug N σ = some (r, σ')) {H : Heap} {locs : List Loc} (hP : mP E σ H) (hS : va_S (mA E s.heap.size) s.heap H locs) {ls : Array Slot} (hl : lv_has ls 3 [(0, .ref (mh E))]) : W p l e R s m args below meth c H locs 0 0 (MQ below (mQi E s.heap.size r σ') args s 0 0 (mA E s.heap.size)) (F0 m 0 ls []) := by
  obtain ⟨⟨hx, hb, hml, hown, hts⟩, hK, hD, hr, hlk⟩ := id hC
  unfold f_mostDug at h
  refine lv_iconst (v := 0) hx hb dX3_mostDug_0 (by decide) ?_
  refine lv_istore_n (lv' := [(1, .int 0), (0, .ref (mh E))]) hx hb dX3_mostDug_1 rfl hl (by decide) rfl (fun ls hl => ?_)
  refine lv_iconst (v := 0) hx hb dX3_mostDug_2 (by decide) ?_
  refine lv_istore_n (lv' := [(2, .int 0), (1, .int 0), (0, .ref (mh E))]) hx hb dX3_mostDug_3 rfl hl (by decide) rfl (fun ls hl => ?_)
  exact w_mostDug_4 hC hR N N σ 0 0 h _ _ hP hS _ (lv_sub hl [2, 1, 0] rfl)
theorem met_mostDug (l : Launch) (N : Nat) (E : mE) (sz : Nat) (σ : MS) (r : Int32) (σ' : MS) (h : f_mostDug N σ = some (r, σ')) : Met l yX3_mostDug (ws_ yX3_mostDug cX3_mostDug 3 (some .int)) ({ frames := 0, cells := 0, slots := 0, locals := 0 }) (mPc E sz σ [.ref (mh E)]) (mQi E sz r σ') 0 0 (mA E sz) :=
  m_met (Qc := fun z => mQi E z r σ') (by decide) rfl (Nat.le_of_ble_eq_true rfl) (fun hC ls hl hP => w_mostDug_0 hC ⟨Nat.le_refl _, Nat.le_refl _⟩ N σ h hP va_S.rf hl)
def f_make_39 (N : Nat) (σ : MS) : Option (Int32 × MS) :=
    mcall (f_no N σ 1) fun r3 σ1 =>
    some (r3, σ1)
set_option maxHeartbeats 4000000 in
set_option maxRecDepth 100000 in
theorem w_make_39 {p : Program} {l : Launch} {e : Env} {R : Room} {s : State} {m : MethodId} {args : Array Value} {below : List Frame} {meth : Method} {c : Code} {E : mE} {σ' : MS} {r : Int32} (hC : mC p s m args meth c E cX3_make 5 (some .int)) (hR : 1 ≤ R.frames ∧ 28 ≤ R.locals) (N : Nat) (σ : MS) (h : f_make_39 N σ = some (r, σ')) {H : Heap} {locs : List Loc} (hP : mP E σ H) (hS : va_S (mA E s.heap.size) s.heap H locs) {ls : Array Slot} (hl : lv_has ls 5 [(0, .ref (mh E))]) : W p l e R s m args below meth c H locs 0 0 (MQ below (mQi E s.heap.size r σ') args s 0 0 (mA E s.heap.size)) (F0 m 39 ls []) := by
  obtain ⟨⟨hx, hb, hml, hown, hts⟩, hK, hD, hr, hlk⟩ := id hC
  unfold f_make_39 at h
  refine lv_aload_n hx hb dX3_make_39 rfl (lv_at hl 0 rfl) ?_
  refine lv_iconst (v := 1) hx hb dX3_make_40 (by decide) ?_
  obtain ⟨r3, σ1, c2, h⟩ := mcall_n h
  refine m_calli (As := [.int 1]) (rest := []) hC (met_no l N E H.size σ 1 r3 σ1 c2) (cwV 1 hts (lw_V q2138 q2140 qs41 q103 q2141) rfl rfl rfl (by decide +kernel) ⟨Nat.le_trans (Nat.le_of_ble_eq_true rfl) hR.1, Nat.le_trans (Nat.le_of_ble_eq_true rfl) hR.2⟩) hP hS rfl hl.1 rfl (Nat.le_of_ble_eq_true rfl) dX3_make_41 (fun H locs hP hS => ?_)
  cases h
  exact m_iret hC hP hS dX3_make_44
def f_make_59 (N : Nat) : Nat → MS → Int32 → Int32 → Option (Int32 × MS)
  | 0, _, _, _ => none
  | n + 1, σ, x3, x4 =>
    if (σ.1 24) ≤ x4 then
    mcall (f_mostDug N σ) fun r4 σ2 =>
    some (r4, σ2)
    else
    if mIn x4 (mLen 47) = true then mlet (mArr σ 47 x4.toNatClampNeg (x3 - x3 / 5 * 5)) fun σ6 =>
    mlet (x3 / 5) fun y7 =>
    mlet (x4 + 1) fun y8 =>
    f_make_59 N n σ6 y7 y8
    else none
set_option maxHeartbeats 4000000 in
set_option maxRecDepth 100000 in
theorem w_make_59 {p : Program} {l : Launch} {e : Env} {R : Room} {s : State} {m : MethodId} {args : Array Value} {below : List Frame} {meth : Method} {c : Code} {E : mE} {σ' : MS} {r : Int32} (hC : mC p s m args meth c E cX3_make 5 (some .int)) (hR : 1 ≤ R.frames ∧ 28 ≤ R.locals) (N : Nat) : ∀ (n : Nat) (σ : MS) (x3 : Int32) (x4 : Int32), f_make_59 N n σ x3 x4 = some (r, σ') → ∀ (H : Heap) (locs : List Loc), mP E σ H → va_S (mA E s.heap.size) s.heap H locs → ∀ ls : Array Slot, lv_has ls 5 [(0, .ref (mh E)), (3, .int x3), (4, .int x4)] → W p l e R s m args below meth c H locs 0 0 (MQ below (mQi E s.heap.size r σ') args s 0 0 (mA E s.heap.size)) (F0 m 59 ls []) := by
  obtain ⟨⟨hx, hb, hml, hown, hts⟩, hK, hD, hr, hlk⟩ := id hC
  intro n
  induction n with
  | zero =>
    intro σ x3 x4 h
    cases h
  | succ n ih =>
    intro σ x3 x4 h H locs hP hS ls hl
    unfold f_make_59 at h
    refine lv_iload hx hb dX3_make_59 (lv_at hl 2 rfl) ?_
    refine lv_aload_n hx hb dX3_make_61 rfl (lv_at hl 0 rfl) ?_
    refine m_geti hC hP 24 (by decide) rfl q1917 dX3_make_62 ?_
    refine lv_icmp_ge (tgt := 88) hx hb dX3_make_65 (by decide) (fun c1 => ?_) (fun c1 => ?_)
    · have h := mif_t c1 h
      refine lv_aload_n hx hb dX3_make_88 rfl (lv_at hl 0 rfl) ?_
      obtain ⟨r4, σ2, c3, h⟩ := mcall_n h
      refine m_calli (As := []) (rest := []) hC (met_mostDug l N E H.size σ r4 σ2 c3) (cwV 0 hts (lw_V q2537 q2539 qs96 q103 q2540) rfl rfl rfl (by decide +kernel) ⟨Nat.le_trans (Nat.le_of_ble_eq_true rfl) hR.1, Nat.le_trans (Nat.le_of_ble_eq_true rfl) hR.2⟩) hP hS rfl hl.1 rfl (Nat.le_of_ble_eq_true rfl) dX3_make_89 (fun H locs hP hS => ?_)
      cases h
      exact m_iret hC hP hS dX3_make_92
    · have h := mif_f c1 h
      refine lv_aload_n hx hb dX3_make_68 rfl (lv_at hl 0 rfl) ?_
      refine m_geta hC hP 47 (by decide) rfl q1940 dX3_make_69 ?_
      refine lv_iload hx hb dX3_make_72 (lv_at hl 2 rfl) ?_
      refine lv_iload_n hx hb dX3_make_74 rfl (lv_at hl 1 rfl) ?_
      refine lv_iconst (v := 5) hx hb dX3_make_75 (by decide) ?_
      refine lv_irem hx hb dX3_make_76 (by decide) ?_
      obtain ⟨c5, h⟩ := mif_n h
      refine m_ast hC hP hS 47 rfl c5 dX3_make_77 (fun H locs hP hS => ?_)
      obtain ⟨σ6, eσ6⟩ : ∃ z : MS, z = mArr σ 47 x4.toNatClampNeg (x3 - x3 / 5 * 5) := ⟨_, rfl⟩
      rw [← eσ6] at hP
      have h := mlet_at eσ6 h
      refine lv_iload_n hx hb dX3_make_78 rfl (lv_at hl 1 rfl) ?_
      refine lv_iconst (v := 5) hx hb dX3_make_79 (by decide) ?_
      refine lv_idiv hx hb dX3_make_80 (by decide) ?_
      refine lv_topi (fun y7 ey7 => ?_)
      have h := mlet_at ey7 h
      refine lv_istore_n (lv' := [(3, .int y7), (0, .ref (mh E)), (4, .int x4)]) hx hb dX3_make_81 rfl hl (by decide) rfl (fun ls hl => ?_)
      obtain ⟨y8, ey8⟩ : ∃ z : Int32, z = x4 + 1 := ⟨_, rfl⟩
      have h := mlet_at ey8 h
      refine lv_iinc (v := y8) (lv' := [(4, .int y8), (3, .int y7), (0, .ref (mh E))]) hx hb dX3_make_82 hl (k := 2) rfl (by rw [ey8]; rfl) (by decide) rfl (fun ls hl => ?_)
      refine lv_goto (tgt := 59) hx hb dX3_make_85 (by decide) ?_
      exact ih σ6 y7 y8 h _ _ hP hS _ (lv_sub hl [2, 1, 0] rfl)
def f_make (N : Nat) (σ : MS) (x1 : Int32) (x2 : Int32) : Option (Int32 × MS) :=
    mcallv (f_good N σ) fun σ1 =>
    if (σ1.1 12) = 0 then
    f_make_39 N σ1
    else
    mcall (f_within N σ1 x1 0 ((σ1.1 23) - 1)) fun r6 σ4 =>
    if r6 = 0 then
    f_make_39 N σ4
    else
    mcall (f_within N σ4 x2 0 ((σ4.1 24) - 1)) fun r10 σ8 =>
    if r10 = 0 then
    f_make_39 N σ8
    else
    mcall (f_digState N σ8) fun r14 σ12 =>
    mcall (f_behind N σ12 r14 x1 x2) fun r17 σ15 =>
    f_make_59 N N σ15 r17 0
set_option maxHeartbeats 4000000 in
set_option maxRecDepth 100000 in
theorem w_make_0 {p : Program} {l : Launch} {e : Env} {R : Room} {s : State} {m : MethodId} {args : Array Value} {below : List Frame} {meth : Method} {c : Code} {E : mE} {σ' : MS} {r : Int32} (hC : mC p s m args meth c E cX3_make 5 (some .int)) (hR : 1 ≤ R.frames ∧ 28 ≤ R.locals) (N : Nat) (σ : MS) (x1 : Int32) (x2 : Int32) (h : f_make N σ x1 x2 = some (r, σ')) {H : Heap} {locs : List Loc} (hP : mP E σ H) (hS : va_S (mA E s.heap.size) s.heap H locs) {ls : Array Slot} (hl : lv_has ls 5 [(0, .ref (mh E)), (1, .int x1), (2, .int x2)]) : W p l e R s m args below meth c H locs 0 0 (MQ below (mQi E s.heap.size r σ') args s 0 0 (mA E s.heap.size)) (F0 m 0 ls []) := by
  obtain ⟨⟨hx, hb, hml, hown, hts⟩, hK, hD, hr, hlk⟩ := id hC
  unfold f_make at h
  refine lv_aload_n hx hb dX3_make_0 rfl (lv_at hl 0 rfl) ?_
  obtain ⟨σ1, c2, h⟩ := mcallv_n h
  refine m_callv (As := []) (rest := []) hC (met_good l N E H.size σ σ1 c2) (cwV 0 hts (lw_V q2131 q2133 qs40 q103 q2134) rfl rfl rfl (by decide +kernel) ⟨Nat.le_trans (Nat.le_of_ble_eq_true rfl) hR.1, Nat.le_trans (Nat.le_of_ble_eq_true rfl) hR.2⟩) hP hS rfl hl.1 rfl (Nat.le_of_ble_eq_true rfl) dX3_make_1 (fun H locs hP hS => ?_)
  refine lv_aload_n hx hb dX3_make_4 rfl (lv_at hl 0 rfl) ?_
  refine m_geti hC hP 12 (by decide) rfl q1905 dX3_make_5 ?_
  refine lv_if_eq (tgt := 39) hx hb dX3_make_8 (by decide) (fun c3 => ?_) (fun c3 => ?_)
  · have h := mif_t c3 h
    exact w_make_39 hC hR N σ1 h hP hS (lv_sub hl [0] rfl)
  · have h := mif_f c3 h
    refine lv_iload_n hx hb dX3_make_11 rfl (lv_at hl 1 rfl) ?_
    refine lv_iconst (v := 0) hx hb dX3_make_12 (by decide) ?_
    refine lv_aload_n hx hb dX3_make_13 rfl (lv_at hl 0 rfl) ?_
    refine m_geti hC hP 23 (by decide) rfl q1916 dX3_make_14 ?_
    refine lv_iconst (v := 1) hx hb dX3_make_17 (by decide) ?_
    refine lv_isub hx hb dX3_make_18 ?_
    obtain ⟨r6, σ4, c5, h⟩ := mcall_n h
    refine m_callsi (As := [.int x1, .int 0, .int ((σ1.1 23) - 1)]) (rest := []) hC (met_within l N E H.size σ1 x1 0 ((σ1.1 23) - 1) r6 σ4 c5) (va_cwS 3 hts (lw_S q2135 q2136 q103 q2137) rfl rfl rfl (by decide +kernel) ⟨Nat.le_trans (Nat.le_of_ble_eq_true rfl) hR.1, Nat.le_trans (Nat.le_of_ble_eq_true rfl) hR.2⟩) hP hS rfl hl.1 rfl (Nat.le_of_ble_eq_true rfl) dX3_make_19 (fun H locs hP hS => ?_)
    refine lv_if_eq (tgt := 39) hx hb dX3_make_22 (by decide) (fun c7 => ?_) (fun c7 => ?_)
    · have h := mif_t c7 h
      exact w_make_39 hC hR N σ4 h hP hS (lv_sub hl [0] rfl)
    · have h := mif_f c7 h
      refine lv_iload_n hx hb dX3_make_25 rfl (lv_at hl 2 rfl) ?_
      refine lv_iconst (v := 0) hx hb dX3_make_26 (by decide) ?_
      refine lv_aload_n hx hb dX3_make_27 rfl (lv_at hl 0 rfl) ?_
      refine m_geti hC hP 24 (by decide) rfl q1917 dX3_make_28 ?_
      refine lv_iconst (v := 1) hx hb dX3_make_31 (by decide) ?_
      refine lv_isub hx hb dX3_make_32 ?_
      obtain ⟨r10, σ8, c9, h⟩ := mcall_n h
      refine m_callsi (As := [.int x2, .int 0, .int ((σ4.1 24) - 1)]) (rest := []) hC (met_within l N E H.size σ4 x2 0 ((σ4.1 24) - 1) r10 σ8 c9) (va_cwS 3 hts (lw_S q2135 q2136 q103 q2137) rfl rfl rfl (by decide +kernel) ⟨Nat.le_trans (Nat.le_of_ble_eq_true rfl) hR.1, Nat.le_trans (Nat.le_of_ble_eq_true rfl) hR.2⟩) hP hS rfl hl.1 rfl (Nat.le_of_ble_eq_true rfl) dX3_make_33 (fun H locs hP hS => ?_)
      refine lv_if_ne (tgt := 45) hx hb dX3_make_36 (by decide) (fun c11 => ?_) (fun c11 => ?_)
      · have h := mif_f c11 h
        refine lv_aload_n hx hb dX3_make_45 rfl (lv_at hl 0 rfl) ?_
        refine lv_aload_n hx hb dX3_make_46 rfl (lv_at hl 0 rfl) ?_
        obtain ⟨r14, σ12, c13, h⟩ := mcall_n h
        refine m_calli (As := []) (rest := [.ref (mh E)]) hC (met_digState l N E H.size σ8 r14 σ12 c13) (cwV 0 hts (lw_V q2525 q2527 qs95 q103 q2528) rfl rfl rfl (by decide +kernel) ⟨Nat.le_trans (Nat.le_of_ble_eq_true rfl) hR.1, Nat.le_trans (Nat.le_of_ble_eq_true rfl) hR.2⟩) hP hS rfl hl.1 rfl (Nat.le_of_ble_eq_true rfl) dX3_make_47 (fun H locs hP hS => ?_)
        refine lv_iload_n hx hb dX3_make_50 rfl (lv_at hl 1 rfl) ?_
        refine lv_iload_n hx hb dX3_make_51 rfl (lv_at hl 2 rfl) ?_
        obtain ⟨r17, σ15, c16, h⟩ := mcall_n h
        refine m_calli (As := [.int r14, .int x1, .int x2]) (rest := []) hC (met_behind l N E H.size σ12 r14 x1 x2 r17 σ15 c16) (cwV 3 hts (lw_V q2521 q2523 qs94 q103 q2524) rfl rfl rfl (by decide +kernel) ⟨Nat.le_trans (Nat.le_of_ble_eq_true rfl) hR.1, Nat.le_trans (Nat.le_of_ble_eq_true rfl) hR.2⟩) hP hS rfl hl.1 rfl (Nat.le_of_ble_eq_true rfl) dX3_make_52 (fun H locs hP hS => ?_)
        refine lv_istore_n (lv' := [(3, .int r17), (0, .ref (mh E)), (1, .int x1), (2, .int x2)]) hx hb dX3_make_55 rfl hl (by decide) rfl (fun ls hl => ?_)
        refine lv_iconst (v := 0) hx hb dX3_make_56 (by decide) ?_
        refine lv_istore (lv' := [(4, .int 0), (3, .int r17), (0, .ref (mh E)), (1, .int x1), (2, .int x2)]) hx hb dX3_make_57 hl (by decide) rfl (fun ls hl => ?_)
        exact w_make_59 hC hR N N σ15 r17 0 h _ _ hP hS _ (lv_sub hl [2, 1, 0] rfl)
      · have h := mif_t c11 h
        exact w_make_39 hC hR N σ8 h hP hS (lv_sub hl [0] rfl)
theorem met_make (l : Launch) (N : Nat) (E : mE) (sz : Nat) (σ : MS) (x1 : Int32) (x2 : Int32) (r : Int32) (σ' : MS) (h : f_make N σ x1 x2 = some (r, σ')) : Met l yX3_make (ws_ yX3_make cX3_make 5 (some .int)) ({ frames := 1, cells := 0, slots := 0, locals := 28 }) (mPc E sz σ [.ref (mh E), .int x1, .int x2]) (mQi E sz r σ') 0 0 (mA E sz) :=
  m_met (Qc := fun z => mQi E z r σ') (by decide) rfl (Nat.le_of_ble_eq_true rfl) (fun hC ls hl hP => w_make_0 hC ⟨Nat.le_refl _, Nat.le_refl _⟩ N σ x1 x2 h hP va_S.rf hl)
def f_count_135 (N : Nat) (σ : MS) (s0 : Int32) : Option (Int32 × MS) :=
    some (s0, σ)
set_option maxHeartbeats 4000000 in
set_option maxRecDepth 100000 in
theorem w_count_135 {p : Program} {l : Launch} {e : Env} {R : Room} {s : State} {m : MethodId} {args : Array Value} {below : List Frame} {meth : Method} {c : Code} {E : mE} {σ' : MS} {r : Int32} (hC : mC p s m args meth c E cX3_count 4 (some .int)) (hR : 1 ≤ R.frames ∧ 22 ≤ R.locals) (N : Nat) (σ : MS) (s0 : Int32) (h : f_count_135 N σ s0 = some (r, σ')) {H : Heap} {locs : List Loc} (hP : mP E σ H) (hS : va_S (mA E s.heap.size) s.heap H locs) {ls : Array Slot} (hl : lv_has ls 4 []) : W p l e R s m args below meth c H locs 0 0 (MQ below (mQi E s.heap.size r σ') args s 0 0 (mA E s.heap.size)) (F0 m 135 ls [.int s0]) := by
  obtain ⟨⟨hx, hb, hml, hown, hts⟩, hK, hD, hr, hlk⟩ := id hC
  unfold f_count_135 at h
  cases h
  exact m_iret hC hP hS dX3_count_135
def f_count_151 (N : Nat) (σ : MS) (s0 : Int32) : Option (Int32 × MS) :=
    some (s0, σ)
set_option maxHeartbeats 4000000 in
set_option maxRecDepth 100000 in
theorem w_count_151 {p : Program} {l : Launch} {e : Env} {R : Room} {s : State} {m : MethodId} {args : Array Value} {below : List Frame} {meth : Method} {c : Code} {E : mE} {σ' : MS} {r : Int32} (hC : mC p s m args meth c E cX3_count 4 (some .int)) (hR : 1 ≤ R.frames ∧ 22 ≤ R.locals) (N : Nat) (σ : MS) (s0 : Int32) (h : f_count_151 N σ s0 = some (r, σ')) {H : Heap} {locs : List Loc} (hP : mP E σ H) (hS : va_S (mA E s.heap.size) s.heap H locs) {ls : Array Slot} (hl : lv_has ls 4 []) : W p l e R s m args below meth c H locs 0 0 (MQ below (mQi E s.heap.size r σ') args s 0 0 (mA E s.heap.size)) (F0 m 151 ls [.int s0]) := by
  obtain ⟨⟨hx, hb, hml, hown, hts⟩, hK, hD, hr, hlk⟩ := id hC
  unfold f_count_151 at h
  cases h
  exact m_iret hC hP hS dX3_count_151
def f_count_167 (N : Nat) (σ : MS) (s0 : Int32) : Option (Int32 × MS) :=
    some (s0, σ)
set_option maxHeartbeats 4000000 in
set_option maxRecDepth 100000 in
theorem w_count_167 {p : Program} {l : Launch} {e : Env} {R : Room} {s : State} {m : MethodId} {args : Array Value} {below : List Frame} {meth : Method} {c : Code} {E : mE} {σ' : MS} {r : Int32} (hC : mC p s m args meth c E cX3_count 4 (some .int)) (hR : 1 ≤ R.frames ∧ 22 ≤ R.locals) (N : Nat) (σ : MS) (s0 : Int32) (h : f_count_167 N σ s0 = some (r, σ')) {H : Heap} {locs : List Loc} (hP : mP E σ H) (hS : va_S (mA E s.heap.size) s.heap H locs) {ls : Array Slot} (hl : lv_has ls 4 []) : W p l e R s m args below meth c H locs 0 0 (MQ below (mQi E s.heap.size r σ') args s 0 0 (mA E s.heap.size)) (F0 m 167 ls [.int s0]) := by
  obtain ⟨⟨hx, hb, hml, hown, hts⟩, hK, hD, hr, hlk⟩ := id hC
  unfold f_count_167 at h
  cases h
  exact m_iret hC hP hS dX3_count_167
def f_count_183 (N : Nat) (σ : MS) (s0 : Int32) : Option (Int32 × MS) :=
    some (s0, σ)
set_option maxHeartbeats 4000000 in
set_option maxRecDepth 100000 in
theorem w_count_183 {p : Program} {l : Launch} {e : Env} {R : Room} {s : State} {m : MethodId} {args : Array Value} {below : List Frame} {meth : Method} {c : Code} {E : mE} {σ' : MS} {r : Int32} (hC : mC p s m args meth c E cX3_count 4 (some .int)) (hR : 1 ≤ R.frames ∧ 22 ≤ R.locals) (N : Nat) (σ : MS) (s0 : Int32) (h : f_count_183 N σ s0 = some (r, σ')) {H : Heap} {locs : List Loc} (hP : mP E σ H) (hS : va_S (mA E s.heap.size) s.heap H locs) {ls : Array Slot} (hl : lv_has ls 4 []) : W p l e R s m args below meth c H locs 0 0 (MQ below (mQi E s.heap.size r σ') args s 0 0 (mA E s.heap.size)) (F0 m 183 ls [.int s0]) := by
  obtain ⟨⟨hx, hb, hml, hown, hts⟩, hK, hD, hr, hlk⟩ := id hC
  unfold f_count_183 at h
  cases h
  exact m_iret hC hP hS dX3_count_183
def f_count_199 (N : Nat) (σ : MS) (s0 : Int32) : Option (Int32 × MS) :=
    some (s0, σ)
set_option maxHeartbeats 4000000 in
set_option maxRecDepth 100000 in
theorem w_count_199 {p : Program} {l : Launch} {e : Env} {R : Room} {s : State} {m : MethodId} {args : Array Value} {below : List Frame} {meth : Method} {c : Code} {E : mE} {σ' : MS} {r : Int32} (hC : mC p s m args meth c E cX3_count 4 (some .int)) (hR : 1 ≤ R.frames ∧ 22 ≤ R.locals) (N : Nat) (σ : MS) (s0 : Int32) (h : f_count_199 N σ s0 = some (r, σ')) {H : Heap} {locs : List Loc} (hP : mP E σ H) (hS : va_S (mA E s.heap.size) s.heap H locs) {ls : Array Slot} (hl : lv_has ls 4 []) : W p l e R s m args below meth c H locs 0 0 (MQ below (mQi E s.heap.size r σ') args s 0 0 (mA E s.heap.size)) (F0 m 199 ls [.int s0]) := by
  obtain ⟨⟨hx, hb, hml, hown, hts⟩, hK, hD, hr, hlk⟩ := id hC
  unfold f_count_199 at h
  cases h
  exact m_iret hC hP hS dX3_count_199
def f_count_215 (N : Nat) (σ : MS) (s0 : Int32) : Option (Int32 × MS) :=
    some (s0, σ)
set_option maxHeartbeats 4000000 in
set_option maxRecDepth 100000 in
theorem w_count_215 {p : Program} {l : Launch} {e : Env} {R : Room} {s : State} {m : MethodId} {args : Array Value} {below : List Frame} {meth : Method} {c : Code} {E : mE} {σ' : MS} {r : Int32} (hC : mC p s m args meth c E cX3_count 4 (some .int)) (hR : 1 ≤ R.frames ∧ 22 ≤ R.locals) (N : Nat) (σ : MS) (s0 : Int32) (h : f_count_215 N σ s0 = some (r, σ')) {H : Heap} {locs : List Loc} (hP : mP E σ H) (hS : va_S (mA E s.heap.size) s.heap H locs) {ls : Array Slot} (hl : lv_has ls 4 []) : W p l e R s m args below meth c H locs 0 0 (MQ below (mQi E s.heap.size r σ') args s 0 0 (mA E s.heap.size)) (F0 m 215 ls [.int s0]) := by
  obtain ⟨⟨hx, hb, hml, hown, hts⟩, hK, hD, hr, hlk⟩ := id hC
  unfold f_count_215 at h
  cases h
  exact m_iret hC hP hS dX3_count_215
def f_count_231 (N : Nat) (σ : MS) (s0 : Int32) : Option (Int32 × MS) :=
    some (s0, σ)
set_option maxHeartbeats 4000000 in
set_option maxRecDepth 100000 in
theorem w_count_231 {p : Program} {l : Launch} {e : Env} {R : Room} {s : State} {m : MethodId} {args : Array Value} {below : List Frame} {meth : Method} {c : Code} {E : mE} {σ' : MS} {r : Int32} (hC : mC p s m args meth c E cX3_count 4 (some .int)) (hR : 1 ≤ R.frames ∧ 22 ≤ R.locals) (N : Nat) (σ : MS) (s0 : Int32) (h : f_count_231 N σ s0 = some (r, σ')) {H : Heap} {locs : List Loc} (hP : mP E σ H) (hS : va_S (mA E s.heap.size) s.heap H locs) {ls : Array Slot} (hl : lv_has ls 4 []) : W p l e R s m args below meth c H locs 0 0 (MQ below (mQi E s.heap.size r σ') args s 0 0 (mA E s.heap.size)) (F0 m 231 ls [.int s0]) := by
  obtain ⟨⟨hx, hb, hml, hown, hts⟩, hK, hD, hr, hlk⟩ := id hC
  unfold f_count_231 at h
  cases h
  exact m_iret hC hP hS dX3_count_231
def f_count_257 (N : Nat) (σ : MS) (s0 : Int32) : Option (Int32 × MS) :=
    some (s0, σ)
set_option maxHeartbeats 4000000 in
set_option maxRecDepth 100000 in
theorem w_count_257 {p : Program} {l : Launch} {e : Env} {R : Room} {s : State} {m : MethodId} {args : Array Value} {below : List Frame} {meth : Method} {c : Code} {E : mE} {σ' : MS} {r : Int32} (hC : mC p s m args meth c E cX3_count 4 (some .int)) (hR : 1 ≤ R.frames ∧ 22 ≤ R.locals) (N : Nat) (σ : MS) (s0 : Int32) (h : f_count_257 N σ s0 = some (r, σ')) {H : Heap} {locs : List Loc} (hP : mP E σ H) (hS : va_S (mA E s.heap.size) s.heap H locs) {ls : Array Slot} (hl : lv_has ls 4 []) : W p l e R s m args below meth c H locs 0 0 (MQ below (mQi E s.heap.size r σ') args s 0 0 (mA E s.heap.size)) (F0 m 257 ls [.int s0]) := by
  obtain ⟨⟨hx, hb, hml, hown, hts⟩, hK, hD, hr, hlk⟩ := id hC
  unfold f_count_257 at h
  cases h
  exact m_iret hC hP hS dX3_count_257
def f_count_273 (N : Nat) (σ : MS) (s0 : Int32) : Option (Int32 × MS) :=
    some (s0, σ)
set_option maxHeartbeats 4000000 in
set_option maxRecDepth 100000 in
theorem w_count_273 {p : Program} {l : Launch} {e : Env} {R : Room} {s : State} {m : MethodId} {args : Array Value} {below : List Frame} {meth : Method} {c : Code} {E : mE} {σ' : MS} {r : Int32} (hC : mC p s m args meth c E cX3_count 4 (some .int)) (hR : 1 ≤ R.frames ∧ 22 ≤ R.locals) (N : Nat) (σ : MS) (s0 : Int32) (h : f_count_273 N σ s0 = some (r, σ')) {H : Heap} {locs : List Loc} (hP : mP E σ H) (hS : va_S (mA E s.heap.size) s.heap H locs) {ls : Array Slot} (hl : lv_has ls 4 []) : W p l e R s m args below meth c H locs 0 0 (MQ below (mQi E s.heap.size r σ') args s 0 0 (mA E s.heap.size)) (F0 m 273 ls [.int s0]) := by
  obtain ⟨⟨hx, hb, hml, hown, hts⟩, hK, hD, hr, hlk⟩ := id hC
  unfold f_count_273 at h
  cases h
  exact m_iret hC hP hS dX3_count_273
def f_count_48 (N : Nat) (σ : MS) (x1 : Int32) (x2 : Int32) : Option (Int32 × MS) :=
    if x1 = 0 then
    if (σ.1 12) = 0 then
    f_count_135 N σ 0
    else
    f_count_135 N σ (σ.1 22)
    else
    if x1 = 1 then
    if (σ.1 12) = 0 then
    f_count_151 N σ 0
    else
    f_count_151 N σ (σ.1 23)
    else
    if x1 = 2 then
    if (σ.1 12) = 0 then
    f_count_167 N σ 0
    else
    f_count_167 N σ (σ.1 24)
    else
    if x1 = 3 then
    if (σ.1 12) = 0 then
    f_count_183 N σ 0
    else
    f_count_183 N σ (σ.1 25)
    else
    if x1 = 4 then
    if (σ.1 12) = 0 then
    f_count_199 N σ 0
    else
    f_count_199 N σ (σ.1 26)
    else
    if x1 = 5 then
    if (σ.1 12) = 0 then
    f_count_215 N σ 0
    else
    f_count_215 N σ (σ.1 27)
    else
    if x1 = 6 then
    if (σ.1 12) = 0 then
    f_count_231 N σ 0
    else
    f_count_231 N σ (σ.1 28)
    else
    if x1 = 7 then
    some (σ.1 38, σ)
    else
    if x1 = 8 then
    if (σ.1 34) = 0 then
    f_count_257 N σ 0
    else
    f_count_257 N σ ((σ.1 35) * (σ.1 36))
    else
    if x1 = 9 then
    if (σ.1 34) = 0 then
    f_count_273 N σ 0
    else
    f_count_273 N σ (σ.1 37)
    else
    if x1 = 10 then
    some (x2, σ)
    else
    if x1 = 11 then
    some (σ.1 40, σ)
    else
    if x1 = 12 then
    mcall (f_mostDug N σ) fun r25 σ23 =>
    some (r25, σ23)
    else
    if x1 = 13 then
    some (σ.1 2, σ)
    else
    some ((-1), σ)
set_option maxHeartbeats 4000000 in
set_option maxRecDepth 100000 in
theorem w_count_48 {p : Program} {l : Launch} {e : Env} {R : Room} {s : State} {m : MethodId} {args : Array Value} {below : List Frame} {meth : Method} {c : Code} {E : mE} {σ' : MS} {r : Int32} (hC : mC p s m args meth c E cX3_count 4 (some .int)) (hR : 1 ≤ R.frames ∧ 22 ≤ R.locals) (N : Nat) (σ : MS) (x1 : Int32) (x2 : Int32) (h : f_count_48 N σ x1 x2 = some (r, σ')) {H : Heap} {locs : List Loc} (hP : mP E σ H) (hS : va_S (mA E s.heap.size) s.heap H locs) {ls : Array Slot} (hl : lv_has ls 4 [(0, .ref (mh E)), (1, .int x1), (2, .int x2)]) : W p l e R s m args below meth c H locs 0 0 (MQ below (mQi E s.heap.size r σ') args s 0 0 (mA E s.heap.size)) (F0 m 48 ls []) := by
  obtain ⟨⟨hx, hb, hml, hown, hts⟩, hK, hD, hr, hlk⟩ := id hC
  unfold f_count_48 at h
  refine lv_iload_n hx hb dX3_count_48 rfl (lv_at hl 1 rfl) ?_
  by_cases c1 : x1 = 0
  · have h := mif_t c1 h
    refine lv_tableIn (tgt := 120) hx hb dX3_count_49 (by rw [c1]; decide) (by rw [c1]; decide) (by rw [c1]; rfl) (by decide) ?_
    refine lv_aload_n hx hb dX3_count_120 rfl (lv_at hl 0 rfl) ?_
    refine m_geti hC hP 12 (by decide) rfl q1905 dX3_count_121 ?_
    refine lv_if_eq (tgt := 134) hx hb dX3_count_124 (by decide) (fun c2 => ?_) (fun c2 => ?_)
    · have h := mif_t c2 h
      refine lv_iconst (v := 0) hx hb dX3_count_134 (by decide) ?_
      exact w_count_135 hC hR N σ 0 h hP hS (lv_sub hl [] rfl)
    · have h := mif_f c2 h
      refine lv_aload_n hx hb dX3_count_127 rfl (lv_at hl 0 rfl) ?_
      refine m_geti hC hP 22 (by decide) rfl q1915 dX3_count_128 ?_
      refine lv_goto (tgt := 135) hx hb dX3_count_131 (by decide) ?_
      exact w_count_135 hC hR N σ (σ.1 22) h hP hS (lv_sub hl [] rfl)
  have h := mif_f c1 h
  by_cases c3 : x1 = 1
  · have h := mif_t c3 h
    refine lv_tableIn (tgt := 136) hx hb dX3_count_49 (by rw [c3]; decide) (by rw [c3]; decide) (by rw [c3]; rfl) (by decide) ?_
    refine lv_aload_n hx hb dX3_count_136 rfl (lv_at hl 0 rfl) ?_
    refine m_geti hC hP 12 (by decide) rfl q1905 dX3_count_137 ?_
    refine lv_if_eq (tgt := 150) hx hb dX3_count_140 (by decide) (fun c4 => ?_) (fun c4 => ?_)
    · have h := mif_t c4 h
      refine lv_iconst (v := 0) hx hb dX3_count_150 (by decide) ?_
      exact w_count_151 hC hR N σ 0 h hP hS (lv_sub hl [] rfl)
    · have h := mif_f c4 h
      refine lv_aload_n hx hb dX3_count_143 rfl (lv_at hl 0 rfl) ?_
      refine m_geti hC hP 23 (by decide) rfl q1916 dX3_count_144 ?_
      refine lv_goto (tgt := 151) hx hb dX3_count_147 (by decide) ?_
      exact w_count_151 hC hR N σ (σ.1 23) h hP hS (lv_sub hl [] rfl)
  have h := mif_f c3 h
  by_cases c5 : x1 = 2
  · have h := mif_t c5 h
    refine lv_tableIn (tgt := 152) hx hb dX3_count_49 (by rw [c5]; decide) (by rw [c5]; decide) (by rw [c5]; rfl) (by decide) ?_
    refine lv_aload_n hx hb dX3_count_152 rfl (lv_at hl 0 rfl) ?_
    refine m_geti hC hP 12 (by decide) rfl q1905 dX3_count_153 ?_
    refine lv_if_eq (tgt := 166) hx hb dX3_count_156 (by decide) (fun c6 => ?_) (fun c6 => ?_)
    · have h := mif_t c6 h
      refine lv_iconst (v := 0) hx hb dX3_count_166 (by decide) ?_
      exact w_count_167 hC hR N σ 0 h hP hS (lv_sub hl [] rfl)
    · have h := mif_f c6 h
      refine lv_aload_n hx hb dX3_count_159 rfl (lv_at hl 0 rfl) ?_
      refine m_geti hC hP 24 (by decide) rfl q1917 dX3_count_160 ?_
      refine lv_goto (tgt := 167) hx hb dX3_count_163 (by decide) ?_
      exact w_count_167 hC hR N σ (σ.1 24) h hP hS (lv_sub hl [] rfl)
  have h := mif_f c5 h
  by_cases c7 : x1 = 3
  · have h := mif_t c7 h
    refine lv_tableIn (tgt := 168) hx hb dX3_count_49 (by rw [c7]; decide) (by rw [c7]; decide) (by rw [c7]; rfl) (by decide) ?_
    refine lv_aload_n hx hb dX3_count_168 rfl (lv_at hl 0 rfl) ?_
    refine m_geti hC hP 12 (by decide) rfl q1905 dX3_count_169 ?_
    refine lv_if_eq (tgt := 182) hx hb dX3_count_172 (by decide) (fun c8 => ?_) (fun c8 => ?_)
    · have h := mif_t c8 h
      refine lv_iconst (v := 0) hx hb dX3_count_182 (by decide) ?_
      exact w_count_183 hC hR N σ 0 h hP hS (lv_sub hl [] rfl)
    · have h := mif_f c8 h
      refine lv_aload_n hx hb dX3_count_175 rfl (lv_at hl 0 rfl) ?_
      refine m_geti hC hP 25 (by decide) rfl q1918 dX3_count_176 ?_
      refine lv_goto (tgt := 183) hx hb dX3_count_179 (by decide) ?_
      exact w_count_183 hC hR N σ (σ.1 25) h hP hS (lv_sub hl [] rfl)
  have h := mif_f c7 h
  by_cases c9 : x1 = 4
  · have h := mif_t c9 h
    refine lv_tableIn (tgt := 184) hx hb dX3_count_49 (by rw [c9]; decide) (by rw [c9]; decide) (by rw [c9]; rfl) (by decide) ?_
    refine lv_aload_n hx hb dX3_count_184 rfl (lv_at hl 0 rfl) ?_
    refine m_geti hC hP 12 (by decide) rfl q1905 dX3_count_185 ?_
    refine lv_if_eq (tgt := 198) hx hb dX3_count_188 (by decide) (fun c10 => ?_) (fun c10 => ?_)
    · have h := mif_t c10 h
      refine lv_iconst (v := 0) hx hb dX3_count_198 (by decide) ?_
      exact w_count_199 hC hR N σ 0 h hP hS (lv_sub hl [] rfl)
    · have h := mif_f c10 h
      refine lv_aload_n hx hb dX3_count_191 rfl (lv_at hl 0 rfl) ?_
      refine m_geti hC hP 26 (by decide) rfl q1919 dX3_count_192 ?_
      refine lv_goto (tgt := 199) hx hb dX3_count_195 (by decide) ?_
      exact w_count_199 hC hR N σ (σ.1 26) h hP hS (lv_sub hl [] rfl)
  have h := mif_f c9 h
  by_cases c11 : x1 = 5
  · have h := mif_t c11 h
    refine lv_tableIn (tgt := 200) hx hb dX3_count_49 (by rw [c11]; decide) (by rw [c11]; decide) (by rw [c11]; rfl) (by decide) ?_
    refine lv_aload_n hx hb dX3_count_200 rfl (lv_at hl 0 rfl) ?_
    refine m_geti hC hP 12 (by decide) rfl q1905 dX3_count_201 ?_
    refine lv_if_eq (tgt := 214) hx hb dX3_count_204 (by decide) (fun c12 => ?_) (fun c12 => ?_)
    · have h := mif_t c12 h
      refine lv_iconst (v := 0) hx hb dX3_count_214 (by decide) ?_
      exact w_count_215 hC hR N σ 0 h hP hS (lv_sub hl [] rfl)
    · have h := mif_f c12 h
      refine lv_aload_n hx hb dX3_count_207 rfl (lv_at hl 0 rfl) ?_
      refine m_geti hC hP 27 (by decide) rfl q1920 dX3_count_208 ?_
      refine lv_goto (tgt := 215) hx hb dX3_count_211 (by decide) ?_
      exact w_count_215 hC hR N σ (σ.1 27) h hP hS (lv_sub hl [] rfl)
  have h := mif_f c11 h
  by_cases c13 : x1 = 6
  · have h := mif_t c13 h
    refine lv_tableIn (tgt := 216) hx hb dX3_count_49 (by rw [c13]; decide) (by rw [c13]; decide) (by rw [c13]; rfl) (by decide) ?_
    refine lv_aload_n hx hb dX3_count_216 rfl (lv_at hl 0 rfl) ?_
    refine m_geti hC hP 12 (by decide) rfl q1905 dX3_count_217 ?_
    refine lv_if_eq (tgt := 230) hx hb dX3_count_220 (by decide) (fun c14 => ?_) (fun c14 => ?_)
    · have h := mif_t c14 h
      refine lv_iconst (v := 0) hx hb dX3_count_230 (by decide) ?_
      exact w_count_231 hC hR N σ 0 h hP hS (lv_sub hl [] rfl)
    · have h := mif_f c14 h
      refine lv_aload_n hx hb dX3_count_223 rfl (lv_at hl 0 rfl) ?_
      refine m_geti hC hP 28 (by decide) rfl q1921 dX3_count_224 ?_
      refine lv_goto (tgt := 231) hx hb dX3_count_227 (by decide) ?_
      exact w_count_231 hC hR N σ (σ.1 28) h hP hS (lv_sub hl [] rfl)
  have h := mif_f c13 h
  by_cases c15 : x1 = 7
  · have h := mif_t c15 h
    refine lv_tableIn (tgt := 232) hx hb dX3_count_49 (by rw [c15]; decide) (by rw [c15]; decide) (by rw [c15]; rfl) (by decide) ?_
    refine lv_aload_n hx hb dX3_count_232 rfl (lv_at hl 0 rfl) ?_
    refine m_geti hC hP 38 (by decide) rfl q1931 dX3_count_233 ?_
    cases h
    exact m_iret hC hP hS dX3_count_236
  have h := mif_f c15 h
  by_cases c16 : x1 = 8
  · have h := mif_t c16 h
    refine lv_tableIn (tgt := 237) hx hb dX3_count_49 (by rw [c16]; decide) (by rw [c16]; decide) (by rw [c16]; rfl) (by decide) ?_
    refine lv_aload_n hx hb dX3_count_237 rfl (lv_at hl 0 rfl) ?_
    refine m_geti hC hP 34 (by decide) rfl q1927 dX3_count_238 ?_
    refine lv_if_eq (tgt := 256) hx hb dX3_count_241 (by decide) (fun c17 => ?_) (fun c17 => ?_)
    · have h := mif_t c17 h
      refine lv_iconst (v := 0) hx hb dX3_count_256 (by decide) ?_
      exact w_count_257 hC hR N σ 0 h hP hS (lv_sub hl [] rfl)
    · have h := mif_f c17 h
      refine lv_aload_n hx hb dX3_count_244 rfl (lv_at hl 0 rfl) ?_
      refine m_geti hC hP 35 (by decide) rfl q1928 dX3_count_245 ?_
      refine lv_aload_n hx hb dX3_count_248 rfl (lv_at hl 0 rfl) ?_
      refine m_geti hC hP 36 (by decide) rfl q1929 dX3_count_249 ?_
      refine lv_imul hx hb dX3_count_252 ?_
      refine lv_goto (tgt := 257) hx hb dX3_count_253 (by decide) ?_
      exact w_count_257 hC hR N σ ((σ.1 35) * (σ.1 36)) h hP hS (lv_sub hl [] rfl)
  have h := mif_f c16 h
  by_cases c18 : x1 = 9
  · have h := mif_t c18 h
    refine lv_tableIn (tgt := 258) hx hb dX3_count_49 (by rw [c18]; decide) (by rw [c18]; decide) (by rw [c18]; rfl) (by decide) ?_
    refine lv_aload_n hx hb dX3_count_258 rfl (lv_at hl 0 rfl) ?_
    refine m_geti hC hP 34 (by decide) rfl q1927 dX3_count_259 ?_
    refine lv_if_eq (tgt := 272) hx hb dX3_count_262 (by decide) (fun c19 => ?_) (fun c19 => ?_)
    · have h := mif_t c19 h
      refine lv_iconst (v := 0) hx hb dX3_count_272 (by decide) ?_
      exact w_count_273 hC hR N σ 0 h hP hS (lv_sub hl [] rfl)
    · have h := mif_f c19 h
      refine lv_aload_n hx hb dX3_count_265 rfl (lv_at hl 0 rfl) ?_
      refine m_geti hC hP 37 (by decide) rfl q1930 dX3_count_266 ?_
      refine lv_goto (tgt := 273) hx hb dX3_count_269 (by decide) ?_
      exact w_count_273 hC hR N σ (σ.1 37) h hP hS (lv_sub hl [] rfl)
  have h := mif_f c18 h
  by_cases c20 : x1 = 10
  · have h := mif_t c20 h
    refine lv_tableIn (tgt := 274) hx hb dX3_count_49 (by rw [c20]; decide) (by rw [c20]; decide) (by rw [c20]; rfl) (by decide) ?_
    refine lv_iload_n hx hb dX3_count_274 rfl (lv_at hl 2 rfl) ?_
    cases h
    exact m_iret hC hP hS dX3_count_275
  have h := mif_f c20 h
  by_cases c21 : x1 = 11
  · have h := mif_t c21 h
    refine lv_tableIn (tgt := 276) hx hb dX3_count_49 (by rw [c21]; decide) (by rw [c21]; decide) (by rw [c21]; rfl) (by decide) ?_
    refine lv_aload_n hx hb dX3_count_276 rfl (lv_at hl 0 rfl) ?_
    refine m_geti hC hP 40 (by decide) rfl q1933 dX3_count_277 ?_
    cases h
    exact m_iret hC hP hS dX3_count_280
  have h := mif_f c21 h
  by_cases c22 : x1 = 12
  · have h := mif_t c22 h
    refine lv_tableIn (tgt := 281) hx hb dX3_count_49 (by rw [c22]; decide) (by rw [c22]; decide) (by rw [c22]; rfl) (by decide) ?_
    refine lv_aload_n hx hb dX3_count_281 rfl (lv_at hl 0 rfl) ?_
    obtain ⟨r25, σ23, c24, h⟩ := mcall_n h
    refine m_calli (As := []) (rest := []) hC (met_mostDug l N E H.size σ r25 σ23 c24) (cwV 0 hts (lw_V q2537 q2539 qs96 q103 q2540) rfl rfl rfl (by decide +kernel) ⟨Nat.le_trans (Nat.le_of_ble_eq_true rfl) hR.1, Nat.le_trans (Nat.le_of_ble_eq_true rfl) hR.2⟩) hP hS rfl hl.1 rfl (Nat.le_of_ble_eq_true rfl) dX3_count_282 (fun H locs hP hS => ?_)
    cases h
    exact m_iret hC hP hS dX3_count_285
  have h := mif_f c22 h
  by_cases c26 : x1 = 13
  · have h := mif_t c26 h
    refine lv_tableIn (tgt := 286) hx hb dX3_count_49 (by rw [c26]; decide) (by rw [c26]; decide) (by rw [c26]; rfl) (by decide) ?_
    refine lv_aload_n hx hb dX3_count_286 rfl (lv_at hl 0 rfl) ?_
    refine m_geti hC hP 2 (by decide) rfl q1895 dX3_count_287 ?_
    cases h
    exact m_iret hC hP hS dX3_count_290
  have h := mif_f c26 h
  refine lv_tableOut (tgt := 291) hx hb dX3_count_49 (m_out 0 13 [0, 1, 2, 3, 4, 5, 6, 7, 8, 9, 10, 11, 12, 13] 14 (by decide) (by decide) (fun z hz => ?_)) (by decide) ?_
  · simp only [List.mem_cons, List.not_mem_nil, or_false] at hz
    rcases hz with rfl | rfl | rfl | rfl | rfl | rfl | rfl | rfl | rfl | rfl | rfl | rfl | rfl | rfl
    · exact c1
    · exact c3
    · exact c5
    · exact c7
    · exact c9
    · exact c11
    · exact c13
    · exact c15
    · exact c16
    · exact c18
    · exact c20
    · exact c21
    · exact c22
    · exact c26
  · refine lv_iconst (v := (-1)) hx hb dX3_count_291 (by decide) ?_
    cases h
    exact m_iret hC hP hS dX3_count_292
def f_count_40 (N : Nat) (k9 : MS → Int32 → Int32 → Int32 → Option (Int32 × MS)) (σ : MS) (x1 : Int32) (x3 : Int32) (s0 : Int32) (s1 : Int32) : Option (Int32 × MS) :=
    mlet (s1 + s0) fun y1 =>
    mlet (x3 + 1) fun y2 =>
    k9 σ x1 y1 y2
set_option maxHeartbeats 4000000 in
set_option maxRecDepth 100000 in
theorem w_count_40 {p : Program} {l : Launch} {e : Env} {R : Room} {s : State} {m : MethodId} {args : Array Value} {below : List Frame} {meth : Method} {c : Code} {E : mE} {σ' : MS} {r : Int32} (hC : mC p s m args meth c E cX3_count 4 (some .int)) (hR : 1 ≤ R.frames ∧ 22 ≤ R.locals) (N : Nat) (k9 : MS → Int32 → Int32 → Int32 → Option (Int32 × MS)) (hk9 : ∀ (σ : MS) (x1 : Int32) (x2 : Int32) (x3 : Int32), k9 σ x1 x2 x3 = some (r, σ') → ∀ (H : Heap) (locs : List Loc), mP E σ H → va_S (mA E s.heap.size) s.heap H locs → ∀ ls : Array Slot, lv_has ls 4 [(0, .ref (mh E)), (1, .int x1), (2, .int x2), (3, .int x3)] → W p l e R s m args below meth c H locs 0 0 (MQ below (mQi E s.heap.size r σ') args s 0 0 (mA E s.heap.size)) (F0 m 9 ls [])) (σ : MS) (x1 : Int32) (x3 : Int32) (s0 : Int32) (s1 : Int32) (h : f_count_40 N k9 σ x1 x3 s0 s1 = some (r, σ')) {H : Heap} {locs : List Loc} (hP : mP E σ H) (hS : va_S (mA E s.heap.size) s.heap H locs) {ls : Array Slot} (hl : lv_has ls 4 [(0, .ref (mh E)), (1, .int x1), (3, .int x3)]) : W p l e R s m args below meth c H locs 0 0 (MQ below (mQi E s.heap.size r σ') args s 0 0 (mA E s.heap.size)) (F0 m 40 ls [.int s0, .int s1]) := by
  obtain ⟨⟨hx, hb, hml, hown, hts⟩, hK, hD, hr, hlk⟩ := id hC
  unfold f_count_40 at h
  refine lv_iadd hx hb dX3_count_40 ?_
  refine lv_topi (fun y1 ey1 => ?_)
  have h := mlet_at ey1 h
  refine lv_istore_n (lv' := [(2, .int y1), (0, .ref (mh E)), (1, .int x1), (3, .int x3)]) hx hb dX3_count_41 rfl hl (by decide) rfl (fun ls hl => ?_)
  obtain ⟨y2, ey2⟩ : ∃ z : Int32, z = x3 + 1 := ⟨_, rfl⟩
  have h := mlet_at ey2 h
  refine lv_iinc (v := y2) (lv' := [(3, .int y2), (2, .int y1), (0, .ref (mh E)), (1, .int x1)]) hx hb dX3_count_42 hl (k := 3) rfl (by rw [ey2]; rfl) (by decide) rfl (fun ls hl => ?_)
  refine lv_goto (tgt := 9) hx hb dX3_count_45 (by decide) ?_
  exact hk9 σ x1 y1 y2 h _ _ hP hS _ (lv_sub hl [2, 3, 1, 0] rfl)
def f_count_9 (N : Nat) : Nat → MS → Int32 → Int32 → Int32 → Option (Int32 × MS)
  | 0, _, _, _, _ => none
  | n + 1, σ, x1, x2, x3 =>
    if (σ.1 37) ≤ x3 then
    f_count_48 N σ x1 x2
    else
    if (σ.1 34) = 0 then
    f_count_48 N σ x1 x2
    else
    if mIn x3 (mLen 45) = true then mlet (σ.2.1 45 x3.toNatClampNeg) fun y4 =>
    if y4 = (-1) then
    f_count_40 N (f_count_9 N n) σ x1 x3 1 x2
    else
    f_count_40 N (f_count_9 N n) σ x1 x3 0 x2
    else none
set_option maxHeartbeats 4000000 in
set_option maxRecDepth 100000 in
theorem w_count_9 {p : Program} {l : Launch} {e : Env} {R : Room} {s : State} {m : MethodId} {args : Array Value} {below : List Frame} {meth : Method} {c : Code} {E : mE} {σ' : MS} {r : Int32} (hC : mC p s m args meth c E cX3_count 4 (some .int)) (hR : 1 ≤ R.frames ∧ 22 ≤ R.locals) (N : Nat) : ∀ (n : Nat) (σ : MS) (x1 : Int32) (x2 : Int32) (x3 : Int32), f_count_9 N n σ x1 x2 x3 = some (r, σ') → ∀ (H : Heap) (locs : List Loc), mP E σ H → va_S (mA E s.heap.size) s.heap H locs → ∀ ls : Array Slot, lv_has ls 4 [(0, .ref (mh E)), (1, .int x1), (2, .int x2), (3, .int x3)] → W p l e R s m args below meth c H locs 0 0 (MQ below (mQi E s.heap.size r σ') args s 0 0 (mA E s.heap.size)) (F0 m 9 ls []) := by
  obtain ⟨⟨hx, hb, hml, hown, hts⟩, hK, hD, hr, hlk⟩ := id hC
  intro n
  induction n with
  | zero =>
    intro σ x1 x2 x3 h
    cases h
  | succ n ih =>
    intro σ x1 x2 x3 h H locs hP hS ls hl
    unfold f_count_9 at h
    refine lv_iload_n hx hb dX3_count_9 rfl (lv_at hl 3 rfl) ?_
    refine lv_aload_n hx hb dX3_count_10 rfl (lv_at hl 0 rfl) ?_
    refine m_geti hC hP 37 (by decide) rfl q1930 dX3_count_11 ?_
    refine lv_icmp_ge (tgt := 48) hx hb dX3_count_14 (by decide) (fun c1 => ?_) (fun c1 => ?_)
    · have h := mif_t c1 h
      exact w_count_48 hC hR N σ x1 x2 h hP hS (lv_sub hl [0, 1, 2] rfl)
    · have h := mif_f c1 h
      refine lv_aload_n hx hb dX3_count_17 rfl (lv_at hl 0 rfl) ?_
      refine m_geti hC hP 34 (by decide) rfl q1927 dX3_count_18 ?_
      refine lv_if_eq (tgt := 48) hx hb dX3_count_21 (by decide) (fun c2 => ?_) (fun c2 => ?_)
      · have h := mif_t c2 h
        exact w_count_48 hC hR N σ x1 x2 h hP hS (lv_sub hl [0, 1, 2] rfl)
      · have h := mif_f c2 h
        refine lv_iload_n hx hb dX3_count_24 rfl (lv_at hl 2 rfl) ?_
        refine lv_aload_n hx hb dX3_count_25 rfl (lv_at hl 0 rfl) ?_
        refine m_geta hC hP 45 (by decide) rfl q1938 dX3_count_26 ?_
        refine lv_iload_n hx hb dX3_count_29 rfl (lv_at hl 3 rfl) ?_
        obtain ⟨c3, h⟩ := mif_n h
        refine m_ald hC hP 45 rfl c3 dX3_count_30 ?_
        refine lv_topi (fun y4 ey4 => ?_)
        have h := mlet_at ey4 h
        refine lv_iconst (v := (-1)) hx hb dX3_count_31 (by decide) ?_
        refine lv_icmp_ne (tgt := 39) hx hb dX3_count_32 (by decide) (fun c5 => ?_) (fun c5 => ?_)
        · have h := mif_f c5 h
          refine lv_iconst (v := 0) hx hb dX3_count_39 (by decide) ?_
          exact w_count_40 hC hR N (f_count_9 N n) ih σ x1 x3 0 x2 h hP hS (lv_sub hl [0, 1, 3] rfl)
        · have h := mif_t c5 h
          refine lv_iconst (v := 1) hx hb dX3_count_35 (by decide) ?_
          refine lv_goto (tgt := 40) hx hb dX3_count_36 (by decide) ?_
          exact w_count_40 hC hR N (f_count_9 N n) ih σ x1 x3 1 x2 h hP hS (lv_sub hl [0, 1, 3] rfl)
def f_count (N : Nat) (σ : MS) (x1 : Int32) : Option (Int32 × MS) :=
    mlet (mSet σ 0 0) fun σ1 =>
    f_count_9 N N σ1 x1 0 0
set_option maxHeartbeats 4000000 in
set_option maxRecDepth 100000 in
theorem w_count_0 {p : Program} {l : Launch} {e : Env} {R : Room} {s : State} {m : MethodId} {args : Array Value} {below : List Frame} {meth : Method} {c : Code} {E : mE} {σ' : MS} {r : Int32} (hC : mC p s m args meth c E cX3_count 4 (some .int)) (hR : 1 ≤ R.frames ∧ 22 ≤ R.locals) (N : Nat) (σ : MS) (x1 : Int32) (h : f_count N σ x1 = some (r, σ')) {H : Heap} {locs : List Loc} (hP : mP E σ H) (hS : va_S (mA E s.heap.size) s.heap H locs) {ls : Array Slot} (hl : lv_has ls 4 [(0, .ref (mh E)), (1, .int x1)]) : W p l e R s m args below meth c H locs 0 0 (MQ below (mQi E s.heap.size r σ') args s 0 0 (mA E s.heap.size)) (F0 m 0 ls []) := by
  obtain ⟨⟨hx, hb, hml, hown, hts⟩, hK, hD, hr, hlk⟩ := id hC
  unfold f_count at h
  refine lv_aload_n hx hb dX3_count_0 rfl (lv_at hl 0 rfl) ?_
  refine lv_iconst (v := 0) hx hb dX3_count_1 (by decide) ?_
  refine m_put hC hP hS 0 (by decide) rfl q1893 rfl (ty := .int) (tyX3_ok 0 (by decide)) ⟨rfl, rfl⟩ dX3_count_2 (fun H locs hP hS => ?_)
  obtain ⟨σ1, eσ1⟩ : ∃ z : MS, z = mSet σ 0 0 := ⟨_, rfl⟩
  rw [← eσ1] at hP
  have h := mlet_at eσ1 h
  refine lv_iconst (v := 0) hx hb dX3_count_5 (by decide) ?_
  refine lv_istore_n (lv' := [(2, .int 0), (0, .ref (mh E)), (1, .int x1)]) hx hb dX3_count_6 rfl hl (by decide) rfl (fun ls hl => ?_)
  refine lv_iconst (v := 0) hx hb dX3_count_7 (by decide) ?_
  refine lv_istore_n (lv' := [(3, .int 0), (2, .int 0), (0, .ref (mh E)), (1, .int x1)]) hx hb dX3_count_8 rfl hl (by decide) rfl (fun ls hl => ?_)
  exact w_count_9 hC hR N N σ1 x1 0 0 h _ _ hP hS _ (lv_sub hl [2, 3, 1, 0] rfl)
theorem met_count (l : Launch) (N : Nat) (E : mE) (sz : Nat) (σ : MS) (x1 : Int32) (r : Int32) (σ' : MS) (h : f_count N σ x1 = some (r, σ')) : Met l yX3_count (ws_ yX3_count cX3_count 4 (some .int)) ({ frames := 1, cells := 0, slots := 0, locals := 22 }) (mPc E sz σ [.ref (mh E), .int x1]) (mQi E sz r σ') 0 0 (mA E sz) :=
  m_met (Qc := fun z => mQi E z r σ') (by decide) rfl (Nat.le_of_ble_eq_true rfl) (fun hC ls hl hP => w_count_0 hC ⟨Nat.le_refl _, Nat.le_refl _⟩ N σ x1 h hP va_S.rf hl)
def f_trouble (N : Nat) (σ : MS) : Option (Int32 × MS) :=
    mlet (mSet σ 0 0) fun σ1 =>
    some (σ1.1 39, σ1)
set_option maxHeartbeats 4000000 in
set_option maxRecDepth 100000 in
theorem w_trouble_0 {p : Program} {l : Launch} {e : Env} {R : Room} {s : State} {m : MethodId} {args : Array Value} {below : List Frame} {meth : Method} {c : Code} {E : mE} {σ' : MS} {r : Int32} (hC : mC p s m args meth c E cX3_trouble 1 (some .int)) (hR : 0 ≤ R.frames ∧ 0 ≤ R.locals) (N : Nat) (σ : MS) (h : f_trouble N σ = some (r, σ')) {H : Heap} {locs : List Loc} (hP : mP E σ H) (hS : va_S (mA E s.heap.size) s.heap H locs) {ls : Array Slot} (hl : lv_has ls 1 [(0, .ref (mh E))]) : W p l e R s m args below meth c H locs 0 0 (MQ below (mQi E s.heap.size r σ') args s 0 0 (mA E s.heap.size)) (F0 m 0 ls []) := by
  obtain ⟨⟨hx, hb, hml, hown, hts⟩, hK, hD, hr, hlk⟩ := id hC
  unfold f_trouble at h
  refine lv_aload_n hx hb dX3_trouble_0 rfl (lv_at hl 0 rfl) ?_
  refine lv_iconst (v := 0) hx hb dX3_trouble_1 (by decide) ?_
  refine m_put hC hP hS 0 (by decide) rfl q1893 rfl (ty := .int) (tyX3_ok 0 (by decide)) ⟨rfl, rfl⟩ dX3_trouble_2 (fun H locs hP hS => ?_)
  obtain ⟨σ1, eσ1⟩ : ∃ z : MS, z = mSet σ 0 0 := ⟨_, rfl⟩
  rw [← eσ1] at hP
  have h := mlet_at eσ1 h
  refine lv_aload_n hx hb dX3_trouble_5 rfl (lv_at hl 0 rfl) ?_
  refine m_geti hC hP 39 (by decide) rfl q1932 dX3_trouble_6 ?_
  cases h
  exact m_iret hC hP hS dX3_trouble_9
theorem met_trouble (l : Launch) (N : Nat) (E : mE) (sz : Nat) (σ : MS) (r : Int32) (σ' : MS) (h : f_trouble N σ = some (r, σ')) : Met l yX3_trouble (ws_ yX3_trouble cX3_trouble 1 (some .int)) ({ frames := 0, cells := 0, slots := 0, locals := 0 }) (mPc E sz σ [.ref (mh E)]) (mQi E sz r σ') 0 0 (mA E sz) :=
  m_met (Qc := fun z => mQi E z r σ') (by decide) rfl (Nat.le_of_ble_eq_true rfl) (fun hC ls hl hP => w_trouble_0 hC ⟨Nat.le_refl _, Nat.le_refl _⟩ N σ h hP va_S.rf hl)

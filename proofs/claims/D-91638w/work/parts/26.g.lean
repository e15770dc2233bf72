/-! BY gen_model.py: lands acts failing first costs dig behind digs digState out -/
def f_lands_32 (N : Nat) (σ : MS) : Option (MS) :=
    some σ
set_option maxHeartbeats 4000000 in
set_option maxRecDepth 100000 in
theorem w_lands_32 {p : Program} {l : Launch} {e : Env} {R : Room} {s : State} {m : MethodId} {args : Array Value} {below : List Frame} {meth : Method} {c : Code} {E : mE} {σ' : MS} (hC : mC p s m args meth c E cX3_lands 2 none) (hR : 0 ≤ R.frames ∧ 0 ≤ R.locals) (N : Nat) (σ : MS) (h : f_lands_32 N σ = some σ') {H : Heap} {locs : List Loc} (hP : mP E σ H) (hS : va_S (mA E s.heap.size) s.heap H locs) {ls : Array Slot} (hl : lv_has ls 2 []) : W p l e R s m args below meth c H locs 0 0 (MQ below (mQv E s.heap.size σ') args s 0 0 (mA E s.heap.size)) (F0 m 32 ls []) := by
  obtain ⟨⟨hx, hb, hml, hown, hts⟩, hK, hD, hr, hlk⟩ := id hC
  unfold f_lands_32 at h
  cases h
  exact m_vret hC hP hS dX3_lands_32
def f_lands (N : Nat) (σ : MS) (x1 : Int32) : Option (MS) :=
    if 8 ≤ (σ.1 40) then
    f_lands_32 N σ
    else
    if mIn (((512 * (σ.1 40)) + (4 * x1)) + 3) (mLen 56) = true then mlet (mArr σ 56 (((512 * (σ.1 40)) + (4 * x1)) + 3).toNatClampNeg (σ.1 58)) fun σ3 =>
    f_lands_32 N σ3
    else none
set_option maxHeartbeats 4000000 in
set_option maxRecDepth 100000 in
theorem w_lands_0 {p : Program} {l : Launch} {e : Env} {R : Room} {s : State} {m : MethodId} {args : Array Value} {below : List Frame} {meth : Method} {c : Code} {E : mE} {σ' : MS} (hC : mC p s m args meth c E cX3_lands 2 none) (hR : 0 ≤ R.frames ∧ 0 ≤ R.locals) (N : Nat) (σ : MS) (x1 : Int32) (h : f_lands N σ x1 = some σ') {H : Heap} {locs : List Loc} (hP : mP E σ H) (hS : va_S (mA E s.heap.size) s.heap H locs) {ls : Array Slot} (hl : lv_has ls 2 [(0, .ref (mh E)), (1, .int x1)]) : W p l e R s m args below meth c H locs 0 0 (MQ below (mQv E s.heap.size σ') args s 0 0 (mA E s.heap.size)) (F0 m 0 ls []) := by
  obtain ⟨⟨hx, hb, hml, hown, hts⟩, hK, hD, hr, hlk⟩ := id hC
  unfold f_lands at h
  refine lv_aload_n hx hb dX3_lands_0 rfl (lv_at hl 0 rfl) ?_
  refine m_geti hC hP 40 (by decide) rfl q1933 dX3_lands_1 ?_
  refine lv_bipush (v := 8) hx hb dX3_lands_4 (by decide) ?_
  refine lv_icmp_ge (tgt := 32) hx hb dX3_lands_6 (by decide) (fun c1 => ?_) (fun c1 => ?_)
  · have h := mif_t c1 h
    exact w_lands_32 hC hR N σ h hP hS (lv_sub hl [] rfl)
  · have h := mif_f c1 h
    refine lv_aload_n hx hb dX3_lands_9 rfl (lv_at hl 0 rfl) ?_
    refine m_geta hC hP 56 (by decide) rfl q1949 dX3_lands_10 ?_
    refine lv_sipush (v := 512) hx hb dX3_lands_13 (by decide) ?_
    refine lv_aload_n hx hb dX3_lands_16 rfl (lv_at hl 0 rfl) ?_
    refine m_geti hC hP 40 (by decide) rfl q1933 dX3_lands_17 ?_
    refine lv_imul hx hb dX3_lands_20 ?_
    refine lv_iconst (v := 4) hx hb dX3_lands_21 (by decide) ?_
    refine lv_iload_n hx hb dX3_lands_22 rfl (lv_at hl 1 rfl) ?_
    refine lv_imul hx hb dX3_lands_23 ?_
    refine lv_iadd hx hb dX3_lands_24 ?_
    refine lv_iconst (v := 3) hx hb dX3_lands_25 (by decide) ?_
    refine lv_iadd hx hb dX3_lands_26 ?_
    refine lv_aload_n hx hb dX3_lands_27 rfl (lv_at hl 0 rfl) ?_
    refine m_geti hC hP 58 (by decide) rfl q1951 dX3_lands_28 ?_
    obtain ⟨c2, h⟩ := mif_n h
    refine m_ast hC hP hS 56 rfl c2 dX3_lands_31 (fun H locs hP hS => ?_)
    obtain ⟨σ3, eσ3⟩ : ∃ z : MS, z = mArr σ 56 (((512 * (σ.1 40)) + (4 * x1)) + 3).toNatClampNeg (σ.1 58) := ⟨_, rfl⟩
    rw [← eσ3] at hP
    have h := mlet_at eσ3 h
    exact w_lands_32 hC hR N σ3 h hP hS (lv_sub hl [] rfl)
theorem met_lands (l : Launch) (N : Nat) (E : mE) (sz : Nat) (σ : MS) (x1 : Int32) (σ' : MS) (h : f_lands N σ x1 = some σ') : Met l yX3_lands (ws_ yX3_lands cX3_lands 2 none) ({ frames := 0, cells := 0, slots := 0, locals := 0 }) (mPc E sz σ [.ref (mh E), .int x1]) (mQv E sz σ') 0 0 (mA E sz) :=
  m_met (Qc := fun z => mQv E z σ') (by decide) rfl (Nat.le_of_ble_eq_true rfl) (fun hC ls hl hP => w_lands_0 hC ⟨Nat.le_refl _, Nat.le_refl _⟩ N σ x1 h hP va_S.rf hl)
def f_acts_299 (N : Nat) (σ : MS) (s0 : Int32) : Option (Int32 × MS) :=
    some (s0, σ)
set_option maxHeartbeats 4000000 in
set_option maxRecDepth 100000 in
theorem w_acts_299 {p : Program} {l : Launch} {e : Env} {R : Room} {s : State} {m : MethodId} {args : Array Value} {below : List Frame} {meth : Method} {c : Code} {E : mE} {σ' : MS} {r : Int32} (hC : mC p s m args meth c E cX3_acts 15 (some .int)) (hR : 4 ≤ R.frames ∧ 100 ≤ R.locals) (N : Nat) (σ : MS) (s0 : Int32) (h : f_acts_299 N σ s0 = some (r, σ')) {H : Heap} {locs : List Loc} (hP : mP E σ H) (hS : va_S (mA E s.heap.size) s.heap H locs) {ls : Array Slot} (hl : lv_has ls 15 []) : W p l e R s m args below meth c H locs 0 0 (MQ below (mQi E s.heap.size r σ') args s 0 0 (mA E s.heap.size)) (F0 m 299 ls [.int s0]) := by
  obtain ⟨⟨hx, hb, hml, hown, hts⟩, hK, hD, hr, hlk⟩ := id hC
  unfold f_acts_299 at h
  cases h
  exact m_iret hC hP hS dX3_acts_299
def f_acts_284 (N : Nat) (k38 : MS → Int32 → Int32 → Int32 → Int32 → Int32 → Int32 → Option (Int32 × MS)) (σ : MS) (x1 : Int32) (x3 : Int32) (x5 : Int32) (x6 : Int32) (x7 : Int32) (x8 : Int32) : Option (Int32 × MS) :=
    k38 σ x1 x3 x5 x6 x7 x8
set_option maxHeartbeats 4000000 in
set_option maxRecDepth 100000 in
theorem w_acts_284 {p : Program} {l : Launch} {e : Env} {R : Room} {s : State} {m : MethodId} {args : Array Value} {below : List Frame} {meth : Method} {c : Code} {E : mE} {σ' : MS} {r : Int32} (hC : mC p s m args meth c E cX3_acts 15 (some .int)) (hR : 4 ≤ R.frames ∧ 100 ≤ R.locals) (N : Nat) (k38 : MS → Int32 → Int32 → Int32 → Int32 → Int32 → Int32 → Option (Int32 × MS)) (hk38 : ∀ (σ : MS) (x1 : Int32) (x3 : Int32) (x5 : Int32) (x6 : Int32) (x7 : Int32) (x8 : Int32), k38 σ x1 x3 x5 x6 x7 x8 = some (r, σ') → ∀ (H : Heap) (locs : List Loc), mP E σ H → va_S (mA E s.heap.size) s.heap H locs → ∀ ls : Array Slot, lv_has ls 15 [(0, .ref (mh E)), (1, .int x1), (3, .int x3), (5, .int x5), (6, .int x6), (7, .int x7), (8, .int x8)] → W p l e R s m args below meth c H locs 0 0 (MQ below (mQi E s.heap.size r σ') args s 0 0 (mA E s.heap.size)) (F0 m 38 ls [])) (σ : MS) (x1 : Int32) (x3 : Int32) (x5 : Int32) (x6 : Int32) (x7 : Int32) (x8 : Int32) (h : f_acts_284 N k38 σ x1 x3 x5 x6 x7 x8 = some (r, σ')) {H : Heap} {locs : List Loc} (hP : mP E σ H) (hS : va_S (mA E s.heap.size) s.heap H locs) {ls : Array Slot} (hl : lv_has ls 15 [(0, .ref (mh E)), (1, .int x1), (3, .int x3), (5, .int x5), (6, .int x6), (7, .int x7), (8, .int x8)]) : W p l e R s m args below meth c H locs 0 0 (MQ below (mQi E s.heap.size r σ') args s 0 0 (mA E s.heap.size)) (F0 m 284 ls []) := by
  obtain ⟨⟨hx, hb, hml, hown, hts⟩, hK, hD, hr, hlk⟩ := id hC
  unfold f_acts_284 at h
  refine lv_goto (tgt := 38) hx hb dX3_acts_284 (by decide) ?_
  exact hk38 σ x1 x3 x5 x6 x7 x8 h _ _ hP hS _ (lv_sub hl [0, 1, 2, 3, 4, 5, 6] rfl)
def f_acts_217 (N : Nat) (k38 : MS → Int32 → Int32 → Int32 → Int32 → Int32 → Int32 → Option (Int32 × MS)) (k175 : MS → Int32 → Int32 → Int32 → Int32 → Int32 → Int32 → Int32 → Int32 → Int32 → Option (Int32 × MS)) (σ : MS) (x1 : Int32) (x3 : Int32) (x5 : Int32) (x6 : Int32) (x7 : Int32) (x8 : Int32) (x10 : Int32) (x11 : Int32) (x12 : Int32) (x13 : Int32) (s0 : Int32) : Option (Int32 × MS) :=
    if s0 ≤ 0 then
    mcall (f_floorOf N σ x13 x5) fun r4 σ2 =>
    mcall (f_cost N σ2 x6 x10 r4) fun r7 σ5 =>
    mlet (mSet σ5 67 ((σ.1 67) + r7)) fun σ8 =>
    mlet (mSet σ8 66 ((σ8.1 66) + 1)) fun σ9 =>
    mcall (f_sees N σ9 x7 x13 x5) fun r12 σ10 =>
    mlet (x12 + 1) fun y13 =>
    k175 σ10 x1 x3 x5 x13 r12 x8 x10 x11 y13
    else
    some (s0, σ)
set_option maxHeartbeats 4000000 in
set_option maxRecDepth 100000 in
theorem w_acts_217 {p : Program} {l : Launch} {e : Env} {R : Room} {s : State} {m : MethodId} {args : Array Value} {below : List Frame} {meth : Method} {c : Code} {E : mE} {σ' : MS} {r : Int32} (hC : mC p s m args meth c E cX3_acts 15 (some .int)) (hR : 4 ≤ R.frames ∧ 100 ≤ R.locals) (N : Nat) (k38 : MS → Int32 → Int32 → Int32 → Int32 → Int32 → Int32 → Option (Int32 × MS)) (hk38 : ∀ (σ : MS) (x1 : Int32) (x3 : Int32) (x5 : Int32) (x6 : Int32) (x7 : Int32) (x8 : Int32), k38 σ x1 x3 x5 x6 x7 x8 = some (r, σ') → ∀ (H : Heap) (locs : List Loc), mP E σ H → va_S (mA E s.heap.size) s.heap H locs → ∀ ls : Array Slot, lv_has ls 15 [(0, .ref (mh E)), (1, .int x1), (3, .int x3), (5, .int x5), (6, .int x6), (7, .int x7), (8, .int x8)] → W p l e R s m args below meth c H locs 0 0 (MQ below (mQi E s.heap.size r σ') args s 0 0 (mA E s.heap.size)) (F0 m 38 ls [])) (k175 : MS → Int32 → Int32 → Int32 → Int32 → Int32 → Int32 → Int32 → Int32 → Int32 → Option (Int32 × MS)) (hk175 : ∀ (σ : MS) (x1 : Int32) (x3 : Int32) (x5 : Int32) (x6 : Int32) (x7 : Int32) (x8 : Int32) (x10 : Int32) (x11 : Int32) (x12 : Int32), k175 σ x1 x3 x5 x6 x7 x8 x10 x11 x12 = some (r, σ') → ∀ (H : Heap) (locs : List Loc), mP E σ H → va_S (mA E s.heap.size) s.heap H locs → ∀ ls : Array Slot, lv_has ls 15 [(0, .ref (mh E)), (1, .int x1), (3, .int x3), (5, .int x5), (6, .int x6), (7, .int x7), (8, .int x8), (10, .int x10), (11, .int x11), (12, .int x12)] → W p l e R s m args below meth c H locs 0 0 (MQ below (mQi E s.heap.size r σ') args s 0 0 (mA E s.heap.size)) (F0 m 175 ls [])) (σ : MS) (x1 : Int32) (x3 : Int32) (x5 : Int32) (x6 : Int32) (x7 : Int32) (x8 : Int32) (x10 : Int32) (x11 : Int32) (x12 : Int32) (x13 : Int32) (s0 : Int32) (h : f_acts_217 N k38 k175 σ x1 x3 x5 x6 x7 x8 x10 x11 x12 x13 s0 = some (r, σ')) {H : Heap} {locs : List Loc} (hP : mP E σ H) (hS : va_S (mA E s.heap.size) s.heap H locs) {ls : Array Slot} (hl : lv_has ls 15 [(0, .ref (mh E)), (1, .int x1), (3, .int x3), (5, .int x5), (6, .int x6), (7, .int x7), (8, .int x8), (10, .int x10), (11, .int x11), (12, .int x12), (13, .int x13)]) : W p l e R s m args below meth c H locs 0 0 (MQ below (mQi E s.heap.size r σ') args s 0 0 (mA E s.heap.size)) (F0 m 217 ls [.int s0]) := by
  obtain ⟨⟨hx, hb, hml, hown, hts⟩, hK, hD, hr, hlk⟩ := id hC
  unfold f_acts_217 at h
  refine lv_istore (lv' := [(14, .int s0), (0, .ref (mh E)), (1, .int x1), (3, .int x3), (5, .int x5), (6, .int x6), (7, .int x7), (8, .int x8), (10, .int x10), (11, .int x11), (12, .int x12), (13, .int x13)]) hx hb dX3_acts_217 hl (by decide) rfl (fun ls hl => ?_)
  refine lv_iload hx hb dX3_acts_219 (lv_at hl 0 rfl) ?_
  refine lv_if_le (tgt := 227) hx hb dX3_acts_221 (by decide) (fun c1 => ?_) (fun c1 => ?_)
  · have h := mif_t c1 h
    refine lv_aload_n hx hb dX3_acts_227 rfl (lv_at hl 1 rfl) ?_
    refine lv_dup hx hb dX3_acts_228 rfl ?_
    refine m_geti hC hP 67 (by decide) rfl q1960 dX3_acts_229 ?_
    refine lv_aload_n hx hb dX3_acts_232 rfl (lv_at hl 1 rfl) ?_
    refine lv_iload hx hb dX3_acts_233 (lv_at hl 5 rfl) ?_
    refine lv_iload hx hb dX3_acts_235 (lv_at hl 8 rfl) ?_
    refine lv_aload_n hx hb dX3_acts_237 rfl (lv_at hl 1 rfl) ?_
    refine lv_iload hx hb dX3_acts_238 (lv_at hl 11 rfl) ?_
    refine lv_iload hx hb dX3_acts_240 (lv_at hl 4 rfl) ?_
    obtain ⟨r4, σ2, c3, h⟩ := mcall_n h
    refine m_calli (As := [.int x13, .int x5]) (rest := [.int x10, .int x6, .ref (mh E), .int (σ.1 67), .ref (mh E)]) hC (met_floorOf l N E H.size σ x13 x5 r4 σ2 c3) (cwV 2 hts (lw_V q2367 q2369 qs74 q103 q2370) rfl rfl rfl (by decide +kernel) ⟨Nat.le_trans (Nat.le_of_ble_eq_true rfl) hR.1, Nat.le_trans (Nat.le_of_ble_eq_true rfl) hR.2⟩) hP hS rfl hl.1 rfl (Nat.le_of_ble_eq_true rfl) dX3_acts_242 (fun H locs hP hS => ?_)
    obtain ⟨r7, σ5, c6, h⟩ := mcall_n h
    refine m_calli (As := [.int x6, .int x10, .int r4]) (rest := [.int (σ.1 67), .ref (mh E)]) hC (met_cost l N E H.size σ2 x6 x10 r4 r7 σ5 c6) (cwV 3 hts (lw_V q2328 q2330 qs66 q103 q2331) rfl rfl rfl (by decide +kernel) ⟨Nat.le_trans (Nat.le_of_ble_eq_true rfl) hR.1, Nat.le_trans (Nat.le_of_ble_eq_true rfl) hR.2⟩) hP hS rfl hl.1 rfl (Nat.le_of_ble_eq_true rfl) dX3_acts_245 (fun H locs hP hS => ?_)
    refine lv_iadd hx hb dX3_acts_248 ?_
    refine m_put hC hP hS 67 (by decide) rfl q1960 rfl (ty := .int) (tyX3_ok 67 (by decide)) ⟨rfl, rfl⟩ dX3_acts_249 (fun H locs hP hS => ?_)
    obtain ⟨σ8, eσ8⟩ : ∃ z : MS, z = mSet σ5 67 ((σ.1 67) + r7) := ⟨_, rfl⟩
    rw [← eσ8] at hP
    have h := mlet_at eσ8 h
    refine lv_aload_n hx hb dX3_acts_252 rfl (lv_at hl 1 rfl) ?_
    refine lv_dup hx hb dX3_acts_253 rfl ?_
    refine m_geti hC hP 66 (by decide) rfl q1959 dX3_acts_254 ?_
    refine lv_iconst (v := 1) hx hb dX3_acts_257 (by decide) ?_
    refine lv_iadd hx hb dX3_acts_258 ?_
    refine m_put hC hP hS 66 (by decide) rfl q1959 rfl (ty := .int) (tyX3_ok 66 (by decide)) ⟨rfl, rfl⟩ dX3_acts_259 (fun H locs hP hS => ?_)
    obtain ⟨σ9, eσ9⟩ : ∃ z : MS, z = mSet σ8 66 ((σ8.1 66) + 1) := ⟨_, rfl⟩
    rw [← eσ9] at hP
    have h := mlet_at eσ9 h
    refine lv_iload hx hb dX3_acts_262 (lv_at hl 11 rfl) ?_
    refine lv_istore (lv' := [(6, .int x13), (14, .int s0), (0, .ref (mh E)), (1, .int x1), (3, .int x3), (5, .int x5), (7, .int x7), (8, .int x8), (10, .int x10), (11, .int x11), (12, .int x12), (13, .int x13)]) hx hb dX3_acts_264 hl (by decide) rfl (fun ls hl => ?_)
    refine lv_aload_n hx hb dX3_acts_266 rfl (lv_at hl 2 rfl) ?_
    refine lv_iload hx hb dX3_acts_267 (lv_at hl 6 rfl) ?_
    refine lv_iload hx hb dX3_acts_269 (lv_at hl 0 rfl) ?_
    refine lv_iload hx hb dX3_acts_271 (lv_at hl 5 rfl) ?_
    obtain ⟨r12, σ10, c11, h⟩ := mcall_n h
    refine m_calli (As := [.int x7, .int x13, .int x5]) (rest := []) hC (met_sees l N E H.size σ9 x7 x13 x5 r12 σ10 c11) (cwV 3 hts (lw_V q2447 q2449 qs86 q103 q2450) rfl rfl rfl (by decide +kernel) ⟨Nat.le_trans (Nat.le_of_ble_eq_true rfl) hR.1, Nat.le_trans (Nat.le_of_ble_eq_true rfl) hR.2⟩) hP hS rfl hl.1 rfl (Nat.le_of_ble_eq_true rfl) dX3_acts_273 (fun H locs hP hS => ?_)
    refine lv_istore (lv' := [(7, .int r12), (6, .int x13), (14, .int s0), (0, .ref (mh E)), (1, .int x1), (3, .int x3), (5, .int x5), (8, .int x8), (10, .int x10), (11, .int x11), (12, .int x12), (13, .int x13)]) hx hb dX3_acts_276 hl (by decide) rfl (fun ls hl => ?_)
    obtain ⟨y13, ey13⟩ : ∃ z : Int32, z = x12 + 1 := ⟨_, rfl⟩
    have h := mlet_at ey13 h
    refine lv_iinc (v := y13) (lv' := [(12, .int y13), (7, .int r12), (6, .int x13), (14, .int s0), (0, .ref (mh E)), (1, .int x1), (3, .int x3), (5, .int x5), (8, .int x8), (10, .int x10), (11, .int x11), (13, .int x13)]) hx hb dX3_acts_278 hl (k := 10) rfl (by rw [ey13]; rfl) (by decide) rfl (fun ls hl => ?_)
    refine lv_goto (tgt := 175) hx hb dX3_acts_281 (by decide) ?_
    exact hk175 σ10 x1 x3 x5 x13 r12 x8 x10 x11 y13 h _ _ hP hS _ (lv_sub hl [4, 5, 6, 7, 2, 1, 8, 9, 10, 0] rfl)
  · have h := mif_f c1 h
    refine lv_iload hx hb dX3_acts_224 (lv_at hl 0 rfl) ?_
    cases h
    exact m_iret hC hP hS dX3_acts_226
def f_acts_175 (N : Nat) (k38 : MS → Int32 → Int32 → Int32 → Int32 → Int32 → Int32 → Option (Int32 × MS)) : Nat → MS → Int32 → Int32 → Int32 → Int32 → Int32 → Int32 → Int32 → Int32 → Int32 → Option (Int32 × MS)
  | 0, _, _, _, _, _, _, _, _, _, _ => none
  | n + 1, σ, x1, x3, x5, x6, x7, x8, x10, x11, x12 =>
    if x11 ≤ x12 then
    f_acts_284 N k38 σ x1 x3 x5 x6 x7 x8
    else
    mcall (f_beside N σ x6 x10) fun r4 σ2 =>
    if 0 ≤ r4 then
    mcall (f_floorOf N σ2 r4 x5) fun r8 σ6 =>
    mcall (f_barred N σ6 x6 x10 r8) fun r11 σ9 =>
    f_acts_217 N k38 (f_acts_175 N k38 n) σ9 x1 x3 x5 x6 x7 x8 x10 x11 x12 r4 r11
    else
    f_acts_217 N k38 (f_acts_175 N k38 n) σ2 x1 x3 x5 x6 x7 x8 x10 x11 x12 r4 1
set_option maxHeartbeats 4000000 in
set_option maxRecDepth 100000 in
theorem w_acts_175 {p : Program} {l : Launch} {e : Env} {R : Room} {s : State} {m : MethodId} {args : Array Value} {below : List Frame} {meth : Method} {c : Code} {E : mE} {σ' : MS} {r : Int32} (hC : mC p s m args meth c E cX3_acts 15 (some .int)) (hR : 4 ≤ R.frames ∧ 100 ≤ R.locals) (N : Nat) (k38 : MS → Int32 → Int32 → Int32 → Int32 → Int32 → Int32 → Option (Int32 × MS)) (hk38 : ∀ (σ : MS) (x1 : Int32) (x3 : Int32) (x5 : Int32) (x6 : Int32) (x7 : Int32) (x8 : Int32), k38 σ x1 x3 x5 x6 x7 x8 = some (r, σ') → ∀ (H : Heap) (locs : List Loc), mP E σ H → va_S (mA E s.heap.size) s.heap H locs → ∀ ls : Array Slot, lv_has ls 15 [(0, .ref (mh E)), (1, .int x1), (3, .int x3), (5, .int x5), (6, .int x6), (7, .int x7), (8, .int x8)] → W p l e R s m args below meth c H locs 0 0 (MQ below (mQi E s.heap.size r σ') args s 0 0 (mA E s.heap.size)) (F0 m 38 ls [])) : ∀ (n : Nat) (σ : MS) (x1 : Int32) (x3 : Int32) (x5 : Int32) (x6 : Int32) (x7 : Int32) (x8 : Int32) (x10 : Int32) (x11 : Int32) (x12 : Int32), f_acts_175 N k38 n σ x1 x3 x5 x6 x7 x8 x10 x11 x12 = some (r, σ') → ∀ (H : Heap) (locs : List Loc), mP E σ H → va_S (mA E s.heap.size) s.heap H locs → ∀ ls : Array Slot, lv_has ls 15 [(0, .ref (mh E)), (1, .int x1), (3, .int x3), (5, .int x5), (6, .int x6), (7, .int x7), (8, .int x8), (10, .int x10), (11, .int x11), (12, .int x12)] → W p l e R s m args below meth c H locs 0 0 (MQ below (mQi E s.heap.size r σ') args s 0 0 (mA E s.heap.size)) (F0 m 175 ls []) := by
  obtain ⟨⟨hx, hb, hml, hown, hts⟩, hK, hD, hr, hlk⟩ := id hC
  intro n
  induction n with
  | zero =>
    intro σ x1 x3 x5 x6 x7 x8 x10 x11 x12 h
    cases h
  | succ n ih =>
    intro σ x1 x3 x5 x6 x7 x8 x10 x11 x12 h H locs hP hS ls hl
    unfold f_acts_175 at h
    refine lv_iload hx hb dX3_acts_175 (lv_at hl 9 rfl) ?_
    refine lv_iload hx hb dX3_acts_177 (lv_at hl 8 rfl) ?_
    refine lv_icmp_ge (tgt := 284) hx hb dX3_acts_179 (by decide) (fun c1 => ?_) (fun c1 => ?_)
    · have h := mif_t c1 h
      exact w_acts_284 hC hR N k38 hk38 σ x1 x3 x5 x6 x7 x8 h hP hS (lv_sub hl [0, 1, 2, 3, 4, 5, 6] rfl)
    · have h := mif_f c1 h
      refine lv_aload_n hx hb dX3_acts_182 rfl (lv_at hl 0 rfl) ?_
      refine lv_iload hx hb dX3_acts_183 (lv_at hl 4 rfl) ?_
      refine lv_iload hx hb dX3_acts_185 (lv_at hl 7 rfl) ?_
      obtain ⟨r4, σ2, c3, h⟩ := mcall_n h
      refine m_calli (As := [.int x6, .int x10]) (rest := []) hC (met_beside l N E H.size σ x6 x10 r4 σ2 c3) (cwV 2 hts (lw_V q2316 q2318 qs63 q103 q2319) rfl rfl rfl (by decide +kernel) ⟨Nat.le_trans (Nat.le_of_ble_eq_true rfl) hR.1, Nat.le_trans (Nat.le_of_ble_eq_true rfl) hR.2⟩) hP hS rfl hl.1 rfl (Nat.le_of_ble_eq_true rfl) dX3_acts_187 (fun H locs hP hS => ?_)
      refine lv_istore (lv' := [(13, .int r4), (0, .ref (mh E)), (1, .int x1), (3, .int x3), (5, .int x5), (6, .int x6), (7, .int x7), (8, .int x8), (10, .int x10), (11, .int x11), (12, .int x12)]) hx hb dX3_acts_190 hl (by decide) rfl (fun ls hl => ?_)
      refine lv_iload hx hb dX3_acts_192 (lv_at hl 0 rfl) ?_
      refine lv_if_ge (tgt := 201) hx hb dX3_acts_194 (by decide) (fun c5 => ?_) (fun c5 => ?_)
      · have h := mif_t c5 h
        refine lv_aload_n hx hb dX3_acts_201 rfl (lv_at hl 1 rfl) ?_
        refine lv_iload hx hb dX3_acts_202 (lv_at hl 5 rfl) ?_
        refine lv_iload hx hb dX3_acts_204 (lv_at hl 8 rfl) ?_
        refine lv_aload_n hx hb dX3_acts_206 rfl (lv_at hl 1 rfl) ?_
        refine lv_iload hx hb dX3_acts_207 (lv_at hl 0 rfl) ?_
        refine lv_iload hx hb dX3_acts_209 (lv_at hl 4 rfl) ?_
        obtain ⟨r8, σ6, c7, h⟩ := mcall_n h
        refine m_calli (As := [.int r4, .int x5]) (rest := [.int x10, .int x6, .ref (mh E)]) hC (met_floorOf l N E H.size σ2 r4 x5 r8 σ6 c7) (cwV 2 hts (lw_V q2367 q2369 qs74 q103 q2370) rfl rfl rfl (by decide +kernel) ⟨Nat.le_trans (Nat.le_of_ble_eq_true rfl) hR.1, Nat.le_trans (Nat.le_of_ble_eq_true rfl) hR.2⟩) hP hS rfl hl.1 rfl (Nat.le_of_ble_eq_true rfl) dX3_acts_211 (fun H locs hP hS => ?_)
        obtain ⟨r11, σ9, c10, h⟩ := mcall_n h
        refine m_calli (As := [.int x6, .int x10, .int r8]) (rest := []) hC (met_barred l N E H.size σ6 x6 x10 r8 r11 σ9 c10) (cwV 3 hts (lw_V q2312 q2314 qs62 q103 q2315) rfl rfl rfl (by decide +kernel) ⟨Nat.le_trans (Nat.le_of_ble_eq_true rfl) hR.1, Nat.le_trans (Nat.le_of_ble_eq_true rfl) hR.2⟩) hP hS rfl hl.1 rfl (Nat.le_of_ble_eq_true rfl) dX3_acts_214 (fun H locs hP hS => ?_)
        exact w_acts_217 hC hR N k38 hk38 (f_acts_175 N k38 n) ih σ9 x1 x3 x5 x6 x7 x8 x10 x11 x12 r4 r11 h hP hS (lv_sub hl [1, 2, 3, 4, 5, 6, 7, 8, 9, 10, 0] rfl)
      · have h := mif_f c5 h
        refine lv_iconst (v := 1) hx hb dX3_acts_197 (by decide) ?_
        refine lv_goto (tgt := 217) hx hb dX3_acts_198 (by decide) ?_
        exact w_acts_217 hC hR N k38 hk38 (f_acts_175 N k38 n) ih σ2 x1 x3 x5 x6 x7 x8 x10 x11 x12 r4 1 h hP hS (lv_sub hl [1, 2, 3, 4, 5, 6, 7, 8, 9, 10, 0] rfl)
def f_acts_38 (N : Nat) : Nat → MS → Int32 → Int32 → Int32 → Int32 → Int32 → Int32 → Option (Int32 × MS)
  | 0, _, _, _, _, _, _, _ => none
  | n + 1, σ, x1, x3, x5, x6, x7, x8 =>
    if mIn x1 (mLen 57) = true then mlet (σ.2.1 57 x1.toNatClampNeg) fun y2 =>
    if y2 ≤ x8 then
    if x6 = x3 then
    f_acts_299 N σ 0
    else
    f_acts_299 N σ 6
    else
    mlet ((512 * x1) + (4 * x8)) fun y5 =>
    if mIn (y5 + 1) (mLen 56) = true then mlet (σ.2.1 56 (y5 + 1).toNatClampNeg) fun y7 =>
    if mIn (y5 + 2) (mLen 56) = true then mlet (σ.2.1 56 (y5 + 2).toNatClampNeg) fun y9 =>
    mlet (x8 + 1) fun y10 =>
    if mIn y5 (mLen 56) = true then mlet (σ.2.1 56 y5.toNatClampNeg) fun y12 =>
    if y12 = 2 then
    if mIn (y5 + 3) (mLen 56) = true then mlet (σ.2.1 56 (y5 + 3).toNatClampNeg) fun y30 =>
    f_acts_284 N (f_acts_38 N n) σ x1 x3 x5 x6 x7 y30
    else none
    else
    if mIn y5 (mLen 56) = true then mlet (σ.2.1 56 y5.toNatClampNeg) fun y15 =>
    if y15 = 1 then
    mcall (f_digit N σ x7 y7) fun r19 σ17 =>
    if r19 = 0 then
    some (5, σ17)
    else
    mcall (f_digit N σ17 x5 y7) fun r23 σ21 =>
    if mIn (((4 * y7) + r23) - 1) (mLen 52) = true then mlet (σ21.2.1 52 (((4 * y7) + r23) - 1).toNatClampNeg) fun y25 =>
    if y25 = y9 then
    f_acts_284 N (f_acts_38 N n) σ21 x1 x3 x5 x6 x7 y10
    else
    if mIn (y5 + 3) (mLen 56) = true then mlet (σ21.2.1 56 (y5 + 3).toNatClampNeg) fun y28 =>
    f_acts_284 N (f_acts_38 N n) σ21 x1 x3 x5 x6 x7 y28
    else none
    else none
    else
    f_acts_175 N (f_acts_38 N n) N σ x1 x3 x5 x6 x7 y10 y7 y9 0
    else none
    else none
    else none
    else none
    else none
set_option maxHeartbeats 4000000 in
set_option maxRecDepth 100000 in
theorem w_acts_38 {p : Program} {l : Launch} {e : Env} {R : Room} {s : State} {m : MethodId} {args : Array Value} {below : List Frame} {meth : Method} {c : Code} {E : mE} {σ' : MS} {r : Int32} (hC : mC p s m args meth c E cX3_acts 15 (some .int)) (hR : 4 ≤ R.frames ∧ 100 ≤ R.locals) (N : Nat) : ∀ (n : Nat) (σ : MS) (x1 : Int32) (x3 : Int32) (x5 : Int32) (x6 : Int32) (x7 : Int32) (x8 : Int32), f_acts_38 N n σ x1 x3 x5 x6 x7 x8 = some (r, σ') → ∀ (H : Heap) (locs : List Loc), mP E σ H → va_S (mA E s.heap.size) s.heap H locs → ∀ ls : Array Slot, lv_has ls 15 [(0, .ref (mh E)), (1, .int x1), (3, .int x3), (5, .int x5), (6, .int x6), (7, .int x7), (8, .int x8)] → W p l e R s m args below meth c H locs 0 0 (MQ below (mQi E s.heap.size r σ') args s 0 0 (mA E s.heap.size)) (F0 m 38 ls []) := by
  obtain ⟨⟨hx, hb, hml, hown, hts⟩, hK, hD, hr, hlk⟩ := id hC
  intro n
  induction n with
  | zero =>
    intro σ x1 x3 x5 x6 x7 x8 h
    cases h
  | succ n ih =>
    intro σ x1 x3 x5 x6 x7 x8 h H locs hP hS ls hl
    unfold f_acts_38 at h
    refine lv_iload hx hb dX3_acts_38 (lv_at hl 6 rfl) ?_
    refine lv_aload_n hx hb dX3_acts_40 rfl (lv_at hl 0 rfl) ?_
    refine m_geta hC hP 57 (by decide) rfl q1950 dX3_acts_41 ?_
    refine lv_iload_n hx hb dX3_acts_44 rfl (lv_at hl 1 rfl) ?_
    obtain ⟨c1, h⟩ := mif_n h
    refine m_ald hC hP 57 rfl c1 dX3_acts_45 ?_
    refine lv_topi (fun y2 ey2 => ?_)
    have h := mlet_at ey2 h
    refine lv_icmp_ge (tgt := 287) hx hb dX3_acts_46 (by decide) (fun c3 => ?_) (fun c3 => ?_)
    · have h := mif_t c3 h
      refine lv_iload hx hb dX3_acts_287 (lv_at hl 4 rfl) ?_
      refine lv_iload_n hx hb dX3_acts_289 rfl (lv_at hl 2 rfl) ?_
      refine lv_icmp_ne (tgt := 297) hx hb dX3_acts_290 (by decide) (fun c4 => ?_) (fun c4 => ?_)
      · have h := mif_f c4 h
        refine lv_bipush (v := 6) hx hb dX3_acts_297 (by decide) ?_
        exact w_acts_299 hC hR N σ 6 h hP hS (lv_sub hl [] rfl)
      · have h := mif_t c4 h
        refine lv_iconst (v := 0) hx hb dX3_acts_293 (by decide) ?_
        refine lv_goto (tgt := 299) hx hb dX3_acts_294 (by decide) ?_
        exact w_acts_299 hC hR N σ 0 h hP hS (lv_sub hl [] rfl)
    · have h := mif_f c3 h
      refine lv_sipush (v := 512) hx hb dX3_acts_49 (by decide) ?_
      refine lv_iload_n hx hb dX3_acts_52 rfl (lv_at hl 1 rfl) ?_
      refine lv_imul hx hb dX3_acts_53 ?_
      refine lv_iconst (v := 4) hx hb dX3_acts_54 (by decide) ?_
      refine lv_iload hx hb dX3_acts_55 (lv_at hl 6 rfl) ?_
      refine lv_imul hx hb dX3_acts_57 ?_
      refine lv_iadd hx hb dX3_acts_58 ?_
      refine lv_topi (fun y5 ey5 => ?_)
      have h := mlet_at ey5 h
      refine lv_istore (lv' := [(9, .int y5), (0, .ref (mh E)), (1, .int x1), (3, .int x3), (5, .int x5), (6, .int x6), (7, .int x7), (8, .int x8)]) hx hb dX3_acts_59 hl (by decide) rfl (fun ls hl => ?_)
      refine lv_aload_n hx hb dX3_acts_61 rfl (lv_at hl 1 rfl) ?_
      refine m_geta hC hP 56 (by decide) rfl q1949 dX3_acts_62 ?_
      refine lv_iload hx hb dX3_acts_65 (lv_at hl 0 rfl) ?_
      refine lv_iconst (v := 1) hx hb dX3_acts_67 (by decide) ?_
      refine lv_iadd hx hb dX3_acts_68 ?_
      obtain ⟨c6, h⟩ := mif_n h
      refine m_ald hC hP 56 rfl c6 dX3_acts_69 ?_
      refine lv_topi (fun y7 ey7 => ?_)
      have h := mlet_at ey7 h
      refine lv_istore (lv' := [(10, .int y7), (9, .int y5), (0, .ref (mh E)), (1, .int x1), (3, .int x3), (5, .int x5), (6, .int x6), (7, .int x7), (8, .int x8)]) hx hb dX3_acts_70 hl (by decide) rfl (fun ls hl => ?_)
      refine lv_aload_n hx hb dX3_acts_72 rfl (lv_at hl 2 rfl) ?_
      refine m_geta hC hP 56 (by decide) rfl q1949 dX3_acts_73 ?_
      refine lv_iload hx hb dX3_acts_76 (lv_at hl 1 rfl) ?_
      refine lv_iconst (v := 2) hx hb dX3_acts_78 (by decide) ?_
      refine lv_iadd hx hb dX3_acts_79 ?_
      obtain ⟨c8, h⟩ := mif_n h
      refine m_ald hC hP 56 rfl c8 dX3_acts_80 ?_
      refine lv_topi (fun y9 ey9 => ?_)
      have h := mlet_at ey9 h
      refine lv_istore (lv' := [(11, .int y9), (10, .int y7), (9, .int y5), (0, .ref (mh E)), (1, .int x1), (3, .int x3), (5, .int x5), (6, .int x6), (7, .int x7), (8, .int x8)]) hx hb dX3_acts_81 hl (by decide) rfl (fun ls hl => ?_)
      obtain ⟨y10, ey10⟩ : ∃ z : Int32, z = x8 + 1 := ⟨_, rfl⟩
      have h := mlet_at ey10 h
      refine lv_iinc (v := y10) (lv' := [(8, .int y10), (11, .int y9), (10, .int y7), (9, .int y5), (0, .ref (mh E)), (1, .int x1), (3, .int x3), (5, .int x5), (6, .int x6), (7, .int x7)]) hx hb dX3_acts_83 hl (k := 9) rfl (by rw [ey10]; rfl) (by decide) rfl (fun ls hl => ?_)
      refine lv_aload_n hx hb dX3_acts_86 rfl (lv_at hl 4 rfl) ?_
      refine m_geta hC hP 56 (by decide) rfl q1949 dX3_acts_87 ?_
      refine lv_iload hx hb dX3_acts_90 (lv_at hl 3 rfl) ?_
      obtain ⟨c11, h⟩ := mif_n h
      refine m_ald hC hP 56 rfl c11 dX3_acts_92 ?_
      refine lv_topi (fun y12 ey12 => ?_)
      have h := mlet_at ey12 h
      refine lv_iconst (v := 2) hx hb dX3_acts_93 (by decide) ?_
      refine lv_icmp_ne (tgt := 111) hx hb dX3_acts_94 (by decide) (fun c13 => ?_) (fun c13 => ?_)
      · have h := mif_f c13 h
        refine lv_aload_n hx hb dX3_acts_111 rfl (lv_at hl 4 rfl) ?_
        refine m_geta hC hP 56 (by decide) rfl q1949 dX3_acts_112 ?_
        refine lv_iload hx hb dX3_acts_115 (lv_at hl 3 rfl) ?_
        obtain ⟨c14, h⟩ := mif_n h
        refine m_ald hC hP 56 rfl c14 dX3_acts_117 ?_
        refine lv_topi (fun y15 ey15 => ?_)
        have h := mlet_at ey15 h
        refine lv_iconst (v := 1) hx hb dX3_acts_118 (by decide) ?_
        refine lv_icmp_ne (tgt := 172) hx hb dX3_acts_119 (by decide) (fun c16 => ?_) (fun c16 => ?_)
        · have h := mif_f c16 h
          refine lv_iconst (v := 0) hx hb dX3_acts_172 (by decide) ?_
          refine lv_istore (lv' := [(12, .int 0), (8, .int y10), (11, .int y9), (10, .int y7), (9, .int y5), (0, .ref (mh E)), (1, .int x1), (3, .int x3), (5, .int x5), (6, .int x6), (7, .int x7)]) hx hb dX3_acts_173 hl (by decide) rfl (fun ls hl => ?_)
          exact w_acts_175 hC hR N (f_acts_38 N n) ih N σ x1 x3 x5 x6 x7 y10 y7 y9 0 h _ _ hP hS _ (lv_sub hl [5, 6, 7, 8, 9, 10, 1, 3, 2, 0] rfl)
        · have h := mif_t c16 h
          refine lv_iload hx hb dX3_acts_122 (lv_at hl 9 rfl) ?_
          refine lv_iload hx hb dX3_acts_124 (lv_at hl 2 rfl) ?_
          obtain ⟨r19, σ17, c18, h⟩ := mcall_n h
          refine m_callsi (As := [.int x7, .int y7]) (rest := []) hC (met_digit l N E H.size σ x7 y7 r19 σ17 c18) (va_cwS 2 hts (lw_S q2360 q2361 q103 q2362) rfl rfl rfl (by decide +kernel) ⟨Nat.le_trans (Nat.le_of_ble_eq_true rfl) hR.1, Nat.le_trans (Nat.le_of_ble_eq_true rfl) hR.2⟩) hP hS rfl hl.1 rfl (Nat.le_of_ble_eq_true rfl) dX3_acts_126 (fun H locs hP hS => ?_)
          refine lv_if_ne (tgt := 134) hx hb dX3_acts_129 (by decide) (fun c20 => ?_) (fun c20 => ?_)
          · have h := mif_f c20 h
            refine lv_aload_n hx hb dX3_acts_134 rfl (lv_at hl 4 rfl) ?_
            refine m_geta hC hP 52 (by decide) rfl q1945 dX3_acts_135 ?_
            refine lv_iconst (v := 4) hx hb dX3_acts_138 (by decide) ?_
            refine lv_iload hx hb dX3_acts_139 (lv_at hl 2 rfl) ?_
            refine lv_imul hx hb dX3_acts_141 ?_
            refine lv_iload hx hb dX3_acts_142 (lv_at hl 7 rfl) ?_
            refine lv_iload hx hb dX3_acts_144 (lv_at hl 2 rfl) ?_
            obtain ⟨r23, σ21, c22, h⟩ := mcall_n h
            refine m_callsi (As := [.int x5, .int y7]) (rest := [.int (4 * y7), .ref (mad E 52)]) hC (met_digit l N E H.size σ17 x5 y7 r23 σ21 c22) (va_cwS 2 hts (lw_S q2360 q2361 q103 q2362) rfl rfl rfl (by decide +kernel) ⟨Nat.le_trans (Nat.le_of_ble_eq_true rfl) hR.1, Nat.le_trans (Nat.le_of_ble_eq_true rfl) hR.2⟩) hP hS rfl hl.1 rfl (Nat.le_of_ble_eq_true rfl) dX3_acts_146 (fun H locs hP hS => ?_)
            refine lv_iadd hx hb dX3_acts_149 ?_
            refine lv_iconst (v := 1) hx hb dX3_acts_150 (by decide) ?_
            refine lv_isub hx hb dX3_acts_151 ?_
            obtain ⟨c24, h⟩ := mif_n h
            refine m_ald hC hP 52 rfl c24 dX3_acts_152 ?_
            refine lv_topi (fun y25 ey25 => ?_)
            have h := mlet_at ey25 h
            refine lv_iload hx hb dX3_acts_153 (lv_at hl 1 rfl) ?_
            refine lv_icmp_eq (tgt := 284) hx hb dX3_acts_155 (by decide) (fun c26 => ?_) (fun c26 => ?_)
            · have h := mif_t c26 h
              exact w_acts_284 hC hR N (f_acts_38 N n) ih σ21 x1 x3 x5 x6 x7 y10 h hP hS (lv_sub hl [4, 5, 6, 7, 8, 9, 0] rfl)
            · have h := mif_f c26 h
              refine lv_aload_n hx hb dX3_acts_158 rfl (lv_at hl 4 rfl) ?_
              refine m_geta hC hP 56 (by decide) rfl q1949 dX3_acts_159 ?_
              refine lv_iload hx hb dX3_acts_162 (lv_at hl 3 rfl) ?_
              refine lv_iconst (v := 3) hx hb dX3_acts_164 (by decide) ?_
              refine lv_iadd hx hb dX3_acts_165 ?_
              obtain ⟨c27, h⟩ := mif_n h
              refine m_ald hC hP 56 rfl c27 dX3_acts_166 ?_
              refine lv_topi (fun y28 ey28 => ?_)
              have h := mlet_at ey28 h
              refine lv_istore (lv' := [(8, .int y28), (11, .int y9), (10, .int y7), (9, .int y5), (0, .ref (mh E)), (1, .int x1), (3, .int x3), (5, .int x5), (6, .int x6), (7, .int x7)]) hx hb dX3_acts_167 hl (by decide) rfl (fun ls hl => ?_)
              refine lv_goto (tgt := 284) hx hb dX3_acts_169 (by decide) ?_
              exact w_acts_284 hC hR N (f_acts_38 N n) ih σ21 x1 x3 x5 x6 x7 y28 h hP hS (lv_sub hl [4, 5, 6, 7, 8, 9, 0] rfl)
          · have h := mif_t c20 h
            refine lv_iconst (v := 5) hx hb dX3_acts_132 (by decide) ?_
            cases h
            exact m_iret hC hP hS dX3_acts_133
      · have h := mif_t c13 h
        refine lv_aload_n hx hb dX3_acts_97 rfl (lv_at hl 4 rfl) ?_
        refine m_geta hC hP 56 (by decide) rfl q1949 dX3_acts_98 ?_
        refine lv_iload hx hb dX3_acts_101 (lv_at hl 3 rfl) ?_
        refine lv_iconst (v := 3) hx hb dX3_acts_103 (by decide) ?_
        refine lv_iadd hx hb dX3_acts_104 ?_
        obtain ⟨c29, h⟩ := mif_n h
        refine m_ald hC hP 56 rfl c29 dX3_acts_105 ?_
        refine lv_topi (fun y30 ey30 => ?_)
        have h := mlet_at ey30 h
        refine lv_istore (lv' := [(8, .int y30), (11, .int y9), (10, .int y7), (9, .int y5), (0, .ref (mh E)), (1, .int x1), (3, .int x3), (5, .int x5), (6, .int x6), (7, .int x7)]) hx hb dX3_acts_106 hl (by decide) rfl (fun ls hl => ?_)
        refine lv_goto (tgt := 284) hx hb dX3_acts_108 (by decide) ?_
        exact w_acts_284 hC hR N (f_acts_38 N n) ih σ x1 x3 x5 x6 x7 y30 h hP hS (lv_sub hl [4, 5, 6, 7, 8, 9, 0] rfl)
def f_acts (N : Nat) (σ : MS) (x1 : Int32) (x2 : Int32) (x3 : Int32) (x4 : Int32) : Option (Int32 × MS) :=
    mcall (f_all N σ x4) fun r3 σ1 =>
    mcall (f_base N σ1) fun r6 σ4 =>
    mcall (f_sees N σ4 r6 x2 r3) fun r9 σ7 =>
    mlet (mSet σ7 66 0) fun σ10 =>
    mlet (mSet σ10 67 0) fun σ11 =>
    f_acts_38 N N σ11 x1 x3 r3 x2 r9 0
set_option maxHeartbeats 4000000 in
set_option maxRecDepth 100000 in
theorem w_acts_0 {p : Program} {l : Launch} {e : Env} {R : Room} {s : State} {m : MethodId} {args : Array Value} {below : List Frame} {meth : Method} {c : Code} {E : mE} {σ' : MS} {r : Int32} (hC : mC p s m args meth c E cX3_acts 15 (some .int)) (hR : 4 ≤ R.frames ∧ 100 ≤ R.locals) (N : Nat) (σ : MS) (x1 : Int32) (x2 : Int32) (x3 : Int32) (x4 : Int32) (h : f_acts N σ x1 x2 x3 x4 = some (r, σ')) {H : Heap} {locs : List Loc} (hP : mP E σ H) (hS : va_S (mA E s.heap.size) s.heap H locs) {ls : Array Slot} (hl : lv_has ls 15 [(0, .ref (mh E)), (1, .int x1), (2, .int x2), (3, .int x3), (4, .int x4)]) : W p l e R s m args below meth c H locs 0 0 (MQ below (mQi E s.heap.size r σ') args s 0 0 (mA E s.heap.size)) (F0 m 0 ls []) := by
  obtain ⟨⟨hx, hb, hml, hown, hts⟩, hK, hD, hr, hlk⟩ := id hC
  unfold f_acts at h
  refine lv_aload_n hx hb dX3_acts_0 rfl (lv_at hl 0 rfl) ?_
  refine lv_iload hx hb dX3_acts_1 (lv_at hl 4 rfl) ?_
  obtain ⟨r3, σ1, c2, h⟩ := mcall_n h
  refine m_calli (As := [.int x4]) (rest := []) hC (met_all l N E H.size σ x4 r3 σ1 c2) (cwV 1 hts (lw_V q2435 q2437 qs84 q103 q2438) rfl rfl rfl (by decide +kernel) ⟨Nat.le_trans (Nat.le_of_ble_eq_true rfl) hR.1, Nat.le_trans (Nat.le_of_ble_eq_true rfl) hR.2⟩) hP hS rfl hl.1 rfl (Nat.le_of_ble_eq_true rfl) dX3_acts_3 (fun H locs hP hS => ?_)
  refine lv_istore (lv' := [(5, .int r3), (0, .ref (mh E)), (1, .int x1), (2, .int x2), (3, .int x3), (4, .int x4)]) hx hb dX3_acts_6 hl (by decide) rfl (fun ls hl => ?_)
  refine lv_iload_n hx hb dX3_acts_8 rfl (lv_at hl 3 rfl) ?_
  refine lv_istore (lv' := [(6, .int x2), (5, .int r3), (0, .ref (mh E)), (1, .int x1), (2, .int x2), (3, .int x3), (4, .int x4)]) hx hb dX3_acts_9 hl (by decide) rfl (fun ls hl => ?_)
  refine lv_aload_n hx hb dX3_acts_11 rfl (lv_at hl 2 rfl) ?_
  refine lv_aload_n hx hb dX3_acts_12 rfl (lv_at hl 2 rfl) ?_
  obtain ⟨r6, σ4, c5, h⟩ := mcall_n h
  refine m_calli (As := []) (rest := [.ref (mh E)]) hC (met_base l N E H.size σ1 r6 σ4 c5) (cwV 0 hts (lw_V q2399 q2401 qs81 q103 q2402) rfl rfl rfl (by decide +kernel) ⟨Nat.le_trans (Nat.le_of_ble_eq_true rfl) hR.1, Nat.le_trans (Nat.le_of_ble_eq_true rfl) hR.2⟩) hP hS rfl hl.1 rfl (Nat.le_of_ble_eq_true rfl) dX3_acts_13 (fun H locs hP hS => ?_)
  refine lv_iload hx hb dX3_acts_16 (lv_at hl 0 rfl) ?_
  refine lv_iload hx hb dX3_acts_18 (lv_at hl 1 rfl) ?_
  obtain ⟨r9, σ7, c8, h⟩ := mcall_n h
  refine m_calli (As := [.int r6, .int x2, .int r3]) (rest := []) hC (met_sees l N E H.size σ4 r6 x2 r3 r9 σ7 c8) (cwV 3 hts (lw_V q2447 q2449 qs86 q103 q2450) rfl rfl rfl (by decide +kernel) ⟨Nat.le_trans (Nat.le_of_ble_eq_true rfl) hR.1, Nat.le_trans (Nat.le_of_ble_eq_true rfl) hR.2⟩) hP hS rfl hl.1 rfl (Nat.le_of_ble_eq_true rfl) dX3_acts_20 (fun H locs hP hS => ?_)
  refine lv_istore (lv' := [(7, .int r9), (6, .int x2), (5, .int r3), (0, .ref (mh E)), (1, .int x1), (2, .int x2), (3, .int x3), (4, .int x4)]) hx hb dX3_acts_23 hl (by decide) rfl (fun ls hl => ?_)
  refine lv_aload_n hx hb dX3_acts_25 rfl (lv_at hl 3 rfl) ?_
  refine lv_iconst (v := 0) hx hb dX3_acts_26 (by decide) ?_
  refine m_put hC hP hS 66 (by decide) rfl q1959 rfl (ty := .int) (tyX3_ok 66 (by decide)) ⟨rfl, rfl⟩ dX3_acts_27 (fun H locs hP hS => ?_)
  obtain ⟨σ10, eσ10⟩ : ∃ z : MS, z = mSet σ7 66 0 := ⟨_, rfl⟩
  rw [← eσ10] at hP
  have h := mlet_at eσ10 h
  refine lv_aload_n hx hb dX3_acts_30 rfl (lv_at hl 3 rfl) ?_
  refine lv_iconst (v := 0) hx hb dX3_acts_31 (by decide) ?_
  refine m_put hC hP hS 67 (by decide) rfl q1960 rfl (ty := .int) (tyX3_ok 67 (by decide)) ⟨rfl, rfl⟩ dX3_acts_32 (fun H locs hP hS => ?_)
  obtain ⟨σ11, eσ11⟩ : ∃ z : MS, z = mSet σ10 67 0 := ⟨_, rfl⟩
  rw [← eσ11] at hP
  have h := mlet_at eσ11 h
  refine lv_iconst (v := 0) hx hb dX3_acts_35 (by decide) ?_
  refine lv_istore (lv' := [(8, .int 0), (7, .int r9), (6, .int x2), (5, .int r3), (0, .ref (mh E)), (1, .int x1), (2, .int x2), (3, .int x3), (4, .int x4)]) hx hb dX3_acts_36 hl (by decide) rfl (fun ls hl => ?_)
  exact w_acts_38 hC hR N N σ11 x1 x3 r3 x2 r9 0 h _ _ hP hS _ (lv_sub hl [4, 5, 7, 3, 2, 1, 0] rfl)
theorem met_acts (l : Launch) (N : Nat) (E : mE) (sz : Nat) (σ : MS) (x1 : Int32) (x2 : Int32) (x3 : Int32) (x4 : Int32) (r : Int32) (σ' : MS) (h : f_acts N σ x1 x2 x3 x4 = some (r, σ')) : Met l yX3_acts (ws_ yX3_acts cX3_acts 15 (some .int)) ({ frames := 4, cells := 0, slots := 0, locals := 100 }) (mPc E sz σ [.ref (mh E), .int x1, .int x2, .int x3, .int x4]) (mQi E sz r σ') 0 0 (mA E sz) :=
  m_met (Qc := fun z => mQi E z r σ') (by decide) rfl (Nat.le_of_ble_eq_true rfl) (fun hC ls hl hP => w_acts_0 hC ⟨Nat.le_refl _, Nat.le_refl _⟩ N σ x1 x2 x3 x4 h hP va_S.rf hl)
def f_failing_41 (N : Nat) (σ : MS) : Option (Int32 × MS) :=
    mcall (f_no N σ 1) fun r3 σ1 =>
    some (r3, σ1)
set_option maxHeartbeats 4000000 in
set_option maxRecDepth 100000 in
theorem w_failing_41 {p : Program} {l : Launch} {e : Env} {R : Room} {s : State} {m : MethodId} {args : Array Value} {below : List Frame} {meth : Method} {c : Code} {E : mE} {σ' : MS} {r : Int32} (hC : mC p s m args meth c E cX3_failing 8 (some .int)) (hR : 5 ≤ R.frames ∧ 134 ≤ R.locals) (N : Nat) (σ : MS) (h : f_failing_41 N σ = some (r, σ')) {H : Heap} {locs : List Loc} (hP : mP E σ H) (hS : va_S (mA E s.heap.size) s.heap H locs) {ls : Array Slot} (hl : lv_has ls 8 [(0, .ref (mh E))]) : W p l e R s m args below meth c H locs 0 0 (MQ below (mQi E s.heap.size r σ') args s 0 0 (mA E s.heap.size)) (F0 m 41 ls []) := by
  obtain ⟨⟨hx, hb, hml, hown, hts⟩, hK, hD, hr, hlk⟩ := id hC
  unfold f_failing_41 at h
  refine lv_aload_n hx hb dX3_failing_41 rfl (lv_at hl 0 rfl) ?_
  refine lv_iconst (v := 1) hx hb dX3_failing_42 (by decide) ?_
  obtain ⟨r3, σ1, c2, h⟩ := mcall_n h
  refine m_calli (As := [.int 1]) (rest := []) hC (met_no l N E H.size σ 1 r3 σ1 c2) (cwV 1 hts (lw_V q2138 q2140 qs41 q103 q2141) rfl rfl rfl (by decide +kernel) ⟨Nat.le_trans (Nat.le_of_ble_eq_true rfl) hR.1, Nat.le_trans (Nat.le_of_ble_eq_true rfl) hR.2⟩) hP hS rfl hl.1 rfl (Nat.le_of_ble_eq_true rfl) dX3_failing_43 (fun H locs hP hS => ?_)
  cases h
  exact m_iret hC hP hS dX3_failing_46
def f_failing_172 (N : Nat) (k93 : MS → Int32 → Int32 → Int32 → Int32 → Int32 → Int32 → Option (Int32 × MS)) (σ : MS) (x1 : Int32) (x2 : Int32) (x3 : Int32) (x4 : Int32) (x5 : Int32) (x6 : Int32) : Option (Int32 × MS) :=
    mlet (x6 + 1) fun y1 =>
    k93 σ x1 x2 x3 x4 x5 y1
set_option maxHeartbeats 4000000 in
set_option maxRecDepth 100000 in
theorem w_failing_172 {p : Program} {l : Launch} {e : Env} {R : Room} {s : State} {m : MethodId} {args : Array Value} {below : List Frame} {meth : Method} {c : Code} {E : mE} {σ' : MS} {r : Int32} (hC : mC p s m args meth c E cX3_failing 8 (some .int)) (hR : 5 ≤ R.frames ∧ 134 ≤ R.locals) (N : Nat) (k93 : MS → Int32 → Int32 → Int32 → Int32 → Int32 → Int32 → Option (Int32 × MS)) (hk93 : ∀ (σ : MS) (x1 : Int32) (x2 : Int32) (x3 : Int32) (x4 : Int32) (x5 : Int32) (x6 : Int32), k93 σ x1 x2 x3 x4 x5 x6 = some (r, σ') → ∀ (H : Heap) (locs : List Loc), mP E σ H → va_S (mA E s.heap.size) s.heap H locs → ∀ ls : Array Slot, lv_has ls 8 [(0, .ref (mh E)), (1, .int x1), (2, .int x2), (3, .int x3), (4, .int x4), (5, .int x5), (6, .int x6)] → W p l e R s m args below meth c H locs 0 0 (MQ below (mQi E s.heap.size r σ') args s 0 0 (mA E s.heap.size)) (F0 m 93 ls [])) (σ : MS) (x1 : Int32) (x2 : Int32) (x3 : Int32) (x4 : Int32) (x5 : Int32) (x6 : Int32) (h : f_failing_172 N k93 σ x1 x2 x3 x4 x5 x6 = some (r, σ')) {H : Heap} {locs : List Loc} (hP : mP E σ H) (hS : va_S (mA E s.heap.size) s.heap H locs) {ls : Array Slot} (hl : lv_has ls 8 [(0, .ref (mh E)), (1, .int x1), (2, .int x2), (3, .int x3), (4, .int x4), (5, .int x5), (6, .int x6)]) : W p l e R s m args below meth c H locs 0 0 (MQ below (mQi E s.heap.size r σ') args s 0 0 (mA E s.heap.size)) (F0 m 172 ls []) := by
  obtain ⟨⟨hx, hb, hml, hown, hts⟩, hK, hD, hr, hlk⟩ := id hC
  unfold f_failing_172 at h
  obtain ⟨y1, ey1⟩ : ∃ z : Int32, z = x6 + 1 := ⟨_, rfl⟩
  have h := mlet_at ey1 h
  refine lv_iinc (v := y1) (lv' := [(6, .int y1), (0, .ref (mh E)), (1, .int x1), (2, .int x2), (3, .int x3), (4, .int x4), (5, .int x5)]) hx hb dX3_failing_172 hl (k := 6) rfl (by rw [ey1]; rfl) (by decide) rfl (fun ls hl => ?_)
  refine lv_goto (tgt := 93) hx hb dX3_failing_175 (by decide) ?_
  exact hk93 σ x1 x2 x3 x4 x5 y1 h _ _ hP hS _ (lv_sub hl [1, 2, 3, 4, 5, 6, 0] rfl)
def f_failing_169 (N : Nat) (k93 : MS → Int32 → Int32 → Int32 → Int32 → Int32 → Int32 → Option (Int32 × MS)) (σ : MS) (x1 : Int32) (x2 : Int32) (x3 : Int32) (x4 : Int32) (x5 : Int32) (x6 : Int32) : Option (Int32 × MS) :=
    mlet (x5 + 1) fun y1 =>
    f_failing_172 N k93 σ x1 x2 x3 x4 y1 x6
set_option maxHeartbeats 4000000 in
set_option maxRecDepth 100000 in
theorem w_failing_169 {p : Program} {l : Launch} {e : Env} {R : Room} {s : State} {m : MethodId} {args : Array Value} {below : List Frame} {meth : Method} {c : Code} {E : mE} {σ' : MS} {r : Int32} (hC : mC p s m args meth c E cX3_failing 8 (some .int)) (hR : 5 ≤ R.frames ∧ 134 ≤ R.locals) (N : Nat) (k93 : MS → Int32 → Int32 → Int32 → Int32 → Int32 → Int32 → Option (Int32 × MS)) (hk93 : ∀ (σ : MS) (x1 : Int32) (x2 : Int32) (x3 : Int32) (x4 : Int32) (x5 : Int32) (x6 : Int32), k93 σ x1 x2 x3 x4 x5 x6 = some (r, σ') → ∀ (H : Heap) (locs : List Loc), mP E σ H → va_S (mA E s.heap.size) s.heap H locs → ∀ ls : Array Slot, lv_has ls 8 [(0, .ref (mh E)), (1, .int x1), (2, .int x2), (3, .int x3), (4, .int x4), (5, .int x5), (6, .int x6)] → W p l e R s m args below meth c H locs 0 0 (MQ below (mQi E s.heap.size r σ') args s 0 0 (mA E s.heap.size)) (F0 m 93 ls [])) (σ : MS) (x1 : Int32) (x2 : Int32) (x3 : Int32) (x4 : Int32) (x5 : Int32) (x6 : Int32) (h : f_failing_169 N k93 σ x1 x2 x3 x4 x5 x6 = some (r, σ')) {H : Heap} {locs : List Loc} (hP : mP E σ H) (hS : va_S (mA E s.heap.size) s.heap H locs) {ls : Array Slot} (hl : lv_has ls 8 [(0, .ref (mh E)), (1, .int x1), (2, .int x2), (3, .int x3), (4, .int x4), (5, .int x5), (6, .int x6)]) : W p l e R s m args below meth c H locs 0 0 (MQ below (mQi E s.heap.size r σ') args s 0 0 (mA E s.heap.size)) (F0 m 169 ls []) := by
  obtain ⟨⟨hx, hb, hml, hown, hts⟩, hK, hD, hr, hlk⟩ := id hC
  unfold f_failing_169 at h
  obtain ⟨y1, ey1⟩ : ∃ z : Int32, z = x5 + 1 := ⟨_, rfl⟩
  have h := mlet_at ey1 h
  refine lv_iinc (v := y1) (lv' := [(5, .int y1), (0, .ref (mh E)), (1, .int x1), (2, .int x2), (3, .int x3), (4, .int x4), (6, .int x6)]) hx hb dX3_failing_169 hl (k := 5) rfl (by rw [ey1]; rfl) (by decide) rfl (fun ls hl => ?_)
  exact w_failing_172 hC hR N k93 hk93 σ x1 x2 x3 x4 y1 x6 h hP hS (lv_sub hl [1, 2, 3, 4, 5, 0, 6] rfl)
def f_failing_134 (N : Nat) (k93 : MS → Int32 → Int32 → Int32 → Int32 → Int32 → Int32 → Option (Int32 × MS)) (σ : MS) (x1 : Int32) (x2 : Int32) (x3 : Int32) (x4 : Int32) (x5 : Int32) (x6 : Int32) (s0 : Int32) : Option (Int32 × MS) :=
    if s0 = 0 then
    f_failing_172 N k93 σ x1 x2 x3 x4 x5 x6
    else
    if x5 = 0 then
    mlet (mSet σ 63 x6) fun σ3 =>
    mlet (mSet σ3 64 s0) fun σ4 =>
    mlet (mSet σ4 65 (σ4.1 66)) fun σ5 =>
    f_failing_169 N k93 σ5 x1 x2 x3 x4 x5 x6
    else
    f_failing_169 N k93 σ x1 x2 x3 x4 x5 x6
set_option maxHeartbeats 4000000 in
set_option maxRecDepth 100000 in
theorem w_failing_134 {p : Program} {l : Launch} {e : Env} {R : Room} {s : State} {m : MethodId} {args : Array Value} {below : List Frame} {meth : Method} {c : Code} {E : mE} {σ' : MS} {r : Int32} (hC : mC p s m args meth c E cX3_failing 8 (some .int)) (hR : 5 ≤ R.frames ∧ 134 ≤ R.locals) (N : Nat) (k93 : MS → Int32 → Int32 → Int32 → Int32 → Int32 → Int32 → Option (Int32 × MS)) (hk93 : ∀ (σ : MS) (x1 : Int32) (x2 : Int32) (x3 : Int32) (x4 : Int32) (x5 : Int32) (x6 : Int32), k93 σ x1 x2 x3 x4 x5 x6 = some (r, σ') → ∀ (H : Heap) (locs : List Loc), mP E σ H → va_S (mA E s.heap.size) s.heap H locs → ∀ ls : Array Slot, lv_has ls 8 [(0, .ref (mh E)), (1, .int x1), (2, .int x2), (3, .int x3), (4, .int x4), (5, .int x5), (6, .int x6)] → W p l e R s m args below meth c H locs 0 0 (MQ below (mQi E s.heap.size r σ') args s 0 0 (mA E s.heap.size)) (F0 m 93 ls [])) (σ : MS) (x1 : Int32) (x2 : Int32) (x3 : Int32) (x4 : Int32) (x5 : Int32) (x6 : Int32) (s0 : Int32) (h : f_failing_134 N k93 σ x1 x2 x3 x4 x5 x6 s0 = some (r, σ')) {H : Heap} {locs : List Loc} (hP : mP E σ H) (hS : va_S (mA E s.heap.size) s.heap H locs) {ls : Array Slot} (hl : lv_has ls 8 [(0, .ref (mh E)), (1, .int x1), (2, .int x2), (3, .int x3), (4, .int x4), (5, .int x5), (6, .int x6)]) : W p l e R s m args below meth c H locs 0 0 (MQ below (mQi E s.heap.size r σ') args s 0 0 (mA E s.heap.size)) (F0 m 134 ls [.int s0]) := by
  obtain ⟨⟨hx, hb, hml, hown, hts⟩, hK, hD, hr, hlk⟩ := id hC
  unfold f_failing_134 at h
  refine lv_istore (lv' := [(7, .int s0), (0, .ref (mh E)), (1, .int x1), (2, .int x2), (3, .int x3), (4, .int x4), (5, .int x5), (6, .int x6)]) hx hb dX3_failing_134 hl (by decide) rfl (fun ls hl => ?_)
  refine lv_iload hx hb dX3_failing_136 (lv_at hl 0 rfl) ?_
  refine lv_if_ne (tgt := 144) hx hb dX3_failing_138 (by decide) (fun c1 => ?_) (fun c1 => ?_)
  · have h := mif_f c1 h
    refine lv_iload hx hb dX3_failing_144 (lv_at hl 6 rfl) ?_
    refine lv_if_ne (tgt := 169) hx hb dX3_failing_146 (by decide) (fun c2 => ?_) (fun c2 => ?_)
    · have h := mif_f c2 h
      exact w_failing_169 hC hR N k93 hk93 σ x1 x2 x3 x4 x5 x6 h hP hS (lv_sub hl [1, 2, 3, 4, 5, 6, 7] rfl)
    · have h := mif_t c2 h
      refine lv_aload_n hx hb dX3_failing_149 rfl (lv_at hl 1 rfl) ?_
      refine lv_iload hx hb dX3_failing_150 (lv_at hl 7 rfl) ?_
      refine m_put hC hP hS 63 (by decide) rfl q1956 rfl (ty := .int) (tyX3_ok 63 (by decide)) ⟨rfl, rfl⟩ dX3_failing_152 (fun H locs hP hS => ?_)
      obtain ⟨σ3, eσ3⟩ : ∃ z : MS, z = mSet σ 63 x6 := ⟨_, rfl⟩
      rw [← eσ3] at hP
      have h := mlet_at eσ3 h
      refine lv_aload_n hx hb dX3_failing_155 rfl (lv_at hl 1 rfl) ?_
      refine lv_iload hx hb dX3_failing_156 (lv_at hl 0 rfl) ?_
      refine m_put hC hP hS 64 (by decide) rfl q1957 rfl (ty := .int) (tyX3_ok 64 (by decide)) ⟨rfl, rfl⟩ dX3_failing_158 (fun H locs hP hS => ?_)
      obtain ⟨σ4, eσ4⟩ : ∃ z : MS, z = mSet σ3 64 s0 := ⟨_, rfl⟩
      rw [← eσ4] at hP
      have h := mlet_at eσ4 h
      refine lv_aload_n hx hb dX3_failing_161 rfl (lv_at hl 1 rfl) ?_
      refine lv_aload_n hx hb dX3_failing_162 rfl (lv_at hl 1 rfl) ?_
      refine m_geti hC hP 66 (by decide) rfl q1959 dX3_failing_163 ?_
      refine m_put hC hP hS 65 (by decide) rfl q1958 rfl (ty := .int) (tyX3_ok 65 (by decide)) ⟨rfl, rfl⟩ dX3_failing_166 (fun H locs hP hS => ?_)
      obtain ⟨σ5, eσ5⟩ : ∃ z : MS, z = mSet σ4 65 (σ4.1 66) := ⟨_, rfl⟩
      rw [← eσ5] at hP
      have h := mlet_at eσ5 h
      exact w_failing_169 hC hR N k93 hk93 σ5 x1 x2 x3 x4 x5 x6 h hP hS (lv_sub hl [1, 2, 3, 4, 5, 6, 7] rfl)
  · have h := mif_t c1 h
    refine lv_goto (tgt := 172) hx hb dX3_failing_141 (by decide) ?_
    exact w_failing_172 hC hR N k93 hk93 σ x1 x2 x3 x4 x5 x6 h hP hS (lv_sub hl [1, 2, 3, 4, 5, 6, 7] rfl)
def f_failing_132 (N : Nat) (k93 : MS → Int32 → Int32 → Int32 → Int32 → Int32 → Int32 → Option (Int32 × MS)) (σ : MS) (x1 : Int32) (x2 : Int32) (x3 : Int32) (x4 : Int32) (x5 : Int32) (x6 : Int32) (x7 : Int32) : Option (Int32 × MS) :=
    f_failing_134 N k93 σ x1 x2 x3 x4 x5 x6 x7
set_option maxHeartbeats 4000000 in
set_option maxRecDepth 100000 in
theorem w_failing_132 {p : Program} {l : Launch} {e : Env} {R : Room} {s : State} {m : MethodId} {args : Array Value} {below : List Frame} {meth : Method} {c : Code} {E : mE} {σ' : MS} {r : Int32} (hC : mC p s m args meth c E cX3_failing 8 (some .int)) (hR : 5 ≤ R.frames ∧ 134 ≤ R.locals) (N : Nat) (k93 : MS → Int32 → Int32 → Int32 → Int32 → Int32 → Int32 → Option (Int32 × MS)) (hk93 : ∀ (σ : MS) (x1 : Int32) (x2 : Int32) (x3 : Int32) (x4 : Int32) (x5 : Int32) (x6 : Int32), k93 σ x1 x2 x3 x4 x5 x6 = some (r, σ') → ∀ (H : Heap) (locs : List Loc), mP E σ H → va_S (mA E s.heap.size) s.heap H locs → ∀ ls : Array Slot, lv_has ls 8 [(0, .ref (mh E)), (1, .int x1), (2, .int x2), (3, .int x3), (4, .int x4), (5, .int x5), (6, .int x6)] → W p l e R s m args below meth c H locs 0 0 (MQ below (mQi E s.heap.size r σ') args s 0 0 (mA E s.heap.size)) (F0 m 93 ls [])) (σ : MS) (x1 : Int32) (x2 : Int32) (x3 : Int32) (x4 : Int32) (x5 : Int32) (x6 : Int32) (x7 : Int32) (h : f_failing_132 N k93 σ x1 x2 x3 x4 x5 x6 x7 = some (r, σ')) {H : Heap} {locs : List Loc} (hP : mP E σ H) (hS : va_S (mA E s.heap.size) s.heap H locs) {ls : Array Slot} (hl : lv_has ls 8 [(0, .ref (mh E)), (1, .int x1), (2, .int x2), (3, .int x3), (4, .int x4), (5, .int x5), (6, .int x6), (7, .int x7)]) : W p l e R s m args below meth c H locs 0 0 (MQ below (mQi E s.heap.size r σ') args s 0 0 (mA E s.heap.size)) (F0 m 132 ls []) := by
  obtain ⟨⟨hx, hb, hml, hown, hts⟩, hK, hD, hr, hlk⟩ := id hC
  unfold f_failing_132 at h
  refine lv_iload hx hb dX3_failing_132 (lv_at hl 7 rfl) ?_
  exact w_failing_134 hC hR N k93 hk93 σ x1 x2 x3 x4 x5 x6 x7 h hP hS (lv_sub hl [0, 1, 2, 3, 4, 5, 6] rfl)
def f_failing_93 (N : Nat) : Nat → MS → Int32 → Int32 → Int32 → Int32 → Int32 → Int32 → Option (Int32 × MS)
  | 0, _, _, _, _, _, _, _ => none
  | n + 1, σ, x1, x2, x3, x4, x5, x6 =>
    mcall (f_truthMany N σ) fun r3 σ1 =>
    if r3 ≤ x6 then
    some (x5, σ1)
    else
    mcall (f_acts N σ1 x1 x2 x3 x6) fun r7 σ5 =>
    if r7 = 0 then
    if (σ5.1 67) ≤ x4 then
    f_failing_132 N (f_failing_93 N n) σ5 x1 x2 x3 x4 x5 x6 r7
    else
    f_failing_134 N (f_failing_93 N n) σ5 x1 x2 x3 x4 x5 x6 7
    else
    f_failing_132 N (f_failing_93 N n) σ5 x1 x2 x3 x4 x5 x6 r7
set_option maxHeartbeats 4000000 in
set_option maxRecDepth 100000 in
theorem w_failing_93 {p : Program} {l : Launch} {e : Env} {R : Room} {s : State} {m : MethodId} {args : Array Value} {below : List Frame} {meth : Method} {c : Code} {E : mE} {σ' : MS} {r : Int32} (hC : mC p s m args meth c E cX3_failing 8 (some .int)) (hR : 5 ≤ R.frames ∧ 134 ≤ R.locals) (N : Nat) : ∀ (n : Nat) (σ : MS) (x1 : Int32) (x2 : Int32) (x3 : Int32) (x4 : Int32) (x5 : Int32) (x6 : Int32), f_failing_93 N n σ x1 x2 x3 x4 x5 x6 = some (r, σ') → ∀ (H : Heap) (locs : List Loc), mP E σ H → va_S (mA E s.heap.size) s.heap H locs → ∀ ls : Array Slot, lv_has ls 8 [(0, .ref (mh E)), (1, .int x1), (2, .int x2), (3, .int x3), (4, .int x4), (5, .int x5), (6, .int x6)] → W p l e R s m args below meth c H locs 0 0 (MQ below (mQi E s.heap.size r σ') args s 0 0 (mA E s.heap.size)) (F0 m 93 ls []) := by
  obtain ⟨⟨hx, hb, hml, hown, hts⟩, hK, hD, hr, hlk⟩ := id hC
  intro n
  induction n with
  | zero =>
    intro σ x1 x2 x3 x4 x5 x6 h
    cases h
  | succ n ih =>
    intro σ x1 x2 x3 x4 x5 x6 h H locs hP hS ls hl
    unfold f_failing_93 at h
    refine lv_iload hx hb dX3_failing_93 (lv_at hl 6 rfl) ?_
    refine lv_aload_n hx hb dX3_failing_95 rfl (lv_at hl 0 rfl) ?_
    obtain ⟨r3, σ1, c2, h⟩ := mcall_n h
    refine m_calli (As := []) (rest := [.int x6]) hC (met_truthMany l N E H.size σ r3 σ1 c2) (cwV 0 hts (lw_V q2427 q2429 qs83 q103 q2430) rfl rfl rfl (by decide +kernel) ⟨Nat.le_trans (Nat.le_of_ble_eq_true rfl) hR.1, Nat.le_trans (Nat.le_of_ble_eq_true rfl) hR.2⟩) hP hS rfl hl.1 rfl (Nat.le_of_ble_eq_true rfl) dX3_failing_96 (fun H locs hP hS => ?_)
    refine lv_icmp_ge (tgt := 178) hx hb dX3_failing_99 (by decide) (fun c4 => ?_) (fun c4 => ?_)
    · have h := mif_t c4 h
      refine lv_iload hx hb dX3_failing_178 (lv_at hl 5 rfl) ?_
      cases h
      exact m_iret hC hP hS dX3_failing_180
    · have h := mif_f c4 h
      refine lv_aload_n hx hb dX3_failing_102 rfl (lv_at hl 0 rfl) ?_
      refine lv_iload_n hx hb dX3_failing_103 rfl (lv_at hl 1 rfl) ?_
      refine lv_iload_n hx hb dX3_failing_104 rfl (lv_at hl 2 rfl) ?_
      refine lv_iload_n hx hb dX3_failing_105 rfl (lv_at hl 3 rfl) ?_
      refine lv_iload hx hb dX3_failing_106 (lv_at hl 6 rfl) ?_
      obtain ⟨r7, σ5, c6, h⟩ := mcall_n h
      refine m_calli (As := [.int x1, .int x2, .int x3, .int x6]) (rest := []) hC (met_acts l N E H.size σ1 x1 x2 x3 x6 r7 σ5 c6) (cwV 4 hts (lw_V q2496 q2498 qs92 q103 q2499) rfl rfl rfl (by decide +kernel) ⟨Nat.le_trans (Nat.le_of_ble_eq_true rfl) hR.1, Nat.le_trans (Nat.le_of_ble_eq_true rfl) hR.2⟩) hP hS rfl hl.1 rfl (Nat.le_of_ble_eq_true rfl) dX3_failing_108 (fun H locs hP hS => ?_)
      refine lv_istore (lv' := [(7, .int r7), (0, .ref (mh E)), (1, .int x1), (2, .int x2), (3, .int x3), (4, .int x4), (5, .int x5), (6, .int x6)]) hx hb dX3_failing_111 hl (by decide) rfl (fun ls hl => ?_)
      refine lv_iload hx hb dX3_failing_113 (lv_at hl 0 rfl) ?_
      refine lv_if_ne (tgt := 132) hx hb dX3_failing_115 (by decide) (fun c8 => ?_) (fun c8 => ?_)
      · have h := mif_f c8 h
        exact w_failing_132 hC hR N (f_failing_93 N n) ih σ5 x1 x2 x3 x4 x5 x6 r7 h hP hS (lv_sub hl [1, 2, 3, 4, 5, 6, 7, 0] rfl)
      · have h := mif_t c8 h
        refine lv_aload_n hx hb dX3_failing_118 rfl (lv_at hl 1 rfl) ?_
        refine m_geti hC hP 67 (by decide) rfl q1960 dX3_failing_119 ?_
        refine lv_iload hx hb dX3_failing_122 (lv_at hl 5 rfl) ?_
        refine lv_icmp_le (tgt := 132) hx hb dX3_failing_124 (by decide) (fun c9 => ?_) (fun c9 => ?_)
        · have h := mif_t c9 h
          exact w_failing_132 hC hR N (f_failing_93 N n) ih σ5 x1 x2 x3 x4 x5 x6 r7 h hP hS (lv_sub hl [1, 2, 3, 4, 5, 6, 7, 0] rfl)
        · have h := mif_f c9 h
          refine lv_bipush (v := 7) hx hb dX3_failing_127 (by decide) ?_
          refine lv_goto (tgt := 134) hx hb dX3_failing_129 (by decide) ?_
          exact w_failing_134 hC hR N (f_failing_93 N n) ih σ5 x1 x2 x3 x4 x5 x6 7 h hP hS (lv_sub hl [1, 2, 3, 4, 5, 6, 7] rfl)
def f_failing (N : Nat) (σ : MS) (x1 : Int32) (x2 : Int32) (x3 : Int32) (x4 : Int32) : Option (Int32 × MS) :=
    mcallv (f_good N σ) fun σ1 =>
    if (σ1.1 34) = 0 then
    f_failing_41 N σ1
    else
    mcall (f_within N σ1 x1 0 ((σ1.1 40) - 1)) fun r6 σ4 =>
    if r6 = 0 then
    f_failing_41 N σ4
    else
    mcall (f_isCell N σ4 x2) fun r10 σ8 =>
    if r10 = 0 then
    f_failing_41 N σ8
    else
    mcall (f_isCell N σ8 x3) fun r14 σ12 =>
    if r14 = 0 then
    f_failing_41 N σ12
    else
    mcall (f_within N σ12 x4 0 9999999) fun r18 σ16 =>
    if r18 = 0 then
    mcall (f_no N σ16 2) fun r27 σ25 =>
    some (r27, σ25)
    else
    mcallv (f_lists N σ16) fun σ20 =>
    mlet (mSet σ20 63 (-2)) fun σ22 =>
    mlet (mSet σ22 64 (-2)) fun σ23 =>
    mlet (mSet σ23 65 (-2)) fun σ24 =>
    f_failing_93 N N σ24 x1 x2 x3 x4 0 0
set_option maxHeartbeats 4000000 in
set_option maxRecDepth 100000 in
theorem w_failing_0 {p : Program} {l : Launch} {e : Env} {R : Room} {s : State} {m : MethodId} {args : Array Value} {below : List Frame} {meth : Method} {c : Code} {E : mE} {σ' : MS} {r : Int32} (hC : mC p s m args meth c E cX3_failing 8 (some .int)) (hR : 5 ≤ R.frames ∧ 134 ≤ R.locals) (N : Nat) (σ : MS) (x1 : Int32) (x2 : Int32) (x3 : Int32) (x4 : Int32) (h : f_failing N σ x1 x2 x3 x4 = some (r, σ')) {H : Heap} {locs : List Loc} (hP : mP E σ H) (hS : va_S (mA E s.heap.size) s.heap H locs) {ls : Array Slot} (hl : lv_has ls 8 [(0, .ref (mh E)), (1, .int x1), (2, .int x2), (3, .int x3), (4, .int x4)]) : W p l e R s m args below meth c H locs 0 0 (MQ below (mQi E s.heap.size r σ') args s 0 0 (mA E s.heap.size)) (F0 m 0 ls []) := by
  obtain ⟨⟨hx, hb, hml, hown, hts⟩, hK, hD, hr, hlk⟩ := id hC
  unfold f_failing at h
  refine lv_aload_n hx hb dX3_failing_0 rfl (lv_at hl 0 rfl) ?_
  obtain ⟨σ1, c2, h⟩ := mcallv_n h
  refine m_callv (As := []) (rest := []) hC (met_good l N E H.size σ σ1 c2) (cwV 0 hts (lw_V q2131 q2133 qs40 q103 q2134) rfl rfl rfl (by decide +kernel) ⟨Nat.le_trans (Nat.le_of_ble_eq_true rfl) hR.1, Nat.le_trans (Nat.le_of_ble_eq_true rfl) hR.2⟩) hP hS rfl hl.1 rfl (Nat.le_of_ble_eq_true rfl) dX3_failing_1 (fun H locs hP hS => ?_)
  refine lv_aload_n hx hb dX3_failing_4 rfl (lv_at hl 0 rfl) ?_
  refine m_geti hC hP 34 (by decide) rfl q1927 dX3_failing_5 ?_
  refine lv_if_eq (tgt := 41) hx hb dX3_failing_8 (by decide) (fun c3 => ?_) (fun c3 => ?_)
  · have h := mif_t c3 h
    exact w_failing_41 hC hR N σ1 h hP hS (lv_sub hl [0] rfl)
  · have h := mif_f c3 h
    refine lv_iload_n hx hb dX3_failing_11 rfl (lv_at hl 1 rfl) ?_
    refine lv_iconst (v := 0) hx hb dX3_failing_12 (by decide) ?_
    refine lv_aload_n hx hb dX3_failing_13 rfl (lv_at hl 0 rfl) ?_
    refine m_geti hC hP 40 (by decide) rfl q1933 dX3_failing_14 ?_
    refine lv_iconst (v := 1) hx hb dX3_failing_17 (by decide) ?_
    refine lv_isub hx hb dX3_failing_18 ?_
    obtain ⟨r6, σ4, c5, h⟩ := mcall_n h
    refine m_callsi (As := [.int x1, .int 0, .int ((σ1.1 40) - 1)]) (rest := []) hC (met_within l N E H.size σ1 x1 0 ((σ1.1 40) - 1) r6 σ4 c5) (va_cwS 3 hts (lw_S q2135 q2136 q103 q2137) rfl rfl rfl (by decide +kernel) ⟨Nat.le_trans (Nat.le_of_ble_eq_true rfl) hR.1, Nat.le_trans (Nat.le_of_ble_eq_true rfl) hR.2⟩) hP hS rfl hl.1 rfl (Nat.le_of_ble_eq_true rfl) dX3_failing_19 (fun H locs hP hS => ?_)
    refine lv_if_eq (tgt := 41) hx hb dX3_failing_22 (by decide) (fun c7 => ?_) (fun c7 => ?_)
    · have h := mif_t c7 h
      exact w_failing_41 hC hR N σ4 h hP hS (lv_sub hl [0] rfl)
    · have h := mif_f c7 h
      refine lv_aload_n hx hb dX3_failing_25 rfl (lv_at hl 0 rfl) ?_
      refine lv_iload_n hx hb dX3_failing_26 rfl (lv_at hl 2 rfl) ?_
      obtain ⟨r10, σ8, c9, h⟩ := mcall_n h
      refine m_calli (As := [.int x2]) (rest := []) hC (met_isCell l N E H.size σ4 x2 r10 σ8 c9) (cwV 1 hts (lw_V q2276 q2278 qs60 q103 q2279) rfl rfl rfl (by decide +kernel) ⟨Nat.le_trans (Nat.le_of_ble_eq_true rfl) hR.1, Nat.le_trans (Nat.le_of_ble_eq_true rfl) hR.2⟩) hP hS rfl hl.1 rfl (Nat.le_of_ble_eq_true rfl) dX3_failing_27 (fun H locs hP hS => ?_)
      refine lv_if_eq (tgt := 41) hx hb dX3_failing_30 (by decide) (fun c11 => ?_) (fun c11 => ?_)
      · have h := mif_t c11 h
        exact w_failing_41 hC hR N σ8 h hP hS (lv_sub hl [0] rfl)
      · have h := mif_f c11 h
        refine lv_aload_n hx hb dX3_failing_33 rfl (lv_at hl 0 rfl) ?_
        refine lv_iload_n hx hb dX3_failing_34 rfl (lv_at hl 3 rfl) ?_
        obtain ⟨r14, σ12, c13, h⟩ := mcall_n h
        refine m_calli (As := [.int x3]) (rest := []) hC (met_isCell l N E H.size σ8 x3 r14 σ12 c13) (cwV 1 hts (lw_V q2276 q2278 qs60 q103 q2279) rfl rfl rfl (by decide +kernel) ⟨Nat.le_trans (Nat.le_of_ble_eq_true rfl) hR.1, Nat.le_trans (Nat.le_of_ble_eq_true rfl) hR.2⟩) hP hS rfl hl.1 rfl (Nat.le_of_ble_eq_true rfl) dX3_failing_35 (fun H locs hP hS => ?_)
        refine lv_if_ne (tgt := 47) hx hb dX3_failing_38 (by decide) (fun c15 => ?_) (fun c15 => ?_)
        · have h := mif_f c15 h
          refine lv_iload hx hb dX3_failing_47 (lv_at hl 4 rfl) ?_
          refine lv_iconst (v := 0) hx hb dX3_failing_49 (by decide) ?_
          refine lv_ldcw hx hb hown (hts _ q2495) dX3_failing_50 ?_
          obtain ⟨r18, σ16, c17, h⟩ := mcall_n h
          refine m_callsi (As := [.int x4, .int 0, .int 9999999]) (rest := []) hC (met_within l N E H.size σ12 x4 0 9999999 r18 σ16 c17) (va_cwS 3 hts (lw_S q2135 q2136 q103 q2137) rfl rfl rfl (by decide +kernel) ⟨Nat.le_trans (Nat.le_of_ble_eq_true rfl) hR.1, Nat.le_trans (Nat.le_of_ble_eq_true rfl) hR.2⟩) hP hS rfl hl.1 rfl (Nat.le_of_ble_eq_true rfl) dX3_failing_53 (fun H locs hP hS => ?_)
          refine lv_if_ne (tgt := 65) hx hb dX3_failing_56 (by decide) (fun c19 => ?_) (fun c19 => ?_)
          · have h := mif_f c19 h
            refine lv_aload_n hx hb dX3_failing_65 rfl (lv_at hl 0 rfl) ?_
            obtain ⟨σ20, c21, h⟩ := mcallv_n h
            refine m_callv (As := []) (rest := []) hC (met_lists l N E H.size σ16 σ20 c21) (cwV 0 hts (lw_V q2348 q2350 qs70 q103 q2351) rfl rfl rfl (by decide +kernel) ⟨Nat.le_trans (Nat.le_of_ble_eq_true rfl) hR.1, Nat.le_trans (Nat.le_of_ble_eq_true rfl) hR.2⟩) hP hS rfl hl.1 rfl (Nat.le_of_ble_eq_true rfl) dX3_failing_66 (fun H locs hP hS => ?_)
            refine lv_iconst (v := 0) hx hb dX3_failing_69 (by decide) ?_
            refine lv_istore (lv' := [(5, .int 0), (0, .ref (mh E)), (1, .int x1), (2, .int x2), (3, .int x3), (4, .int x4)]) hx hb dX3_failing_70 hl (by decide) rfl (fun ls hl => ?_)
            refine lv_aload_n hx hb dX3_failing_72 rfl (lv_at hl 1 rfl) ?_
            refine lv_bipush (v := (-2)) hx hb dX3_failing_73 (by decide) ?_
            refine m_put hC hP hS 63 (by decide) rfl q1956 rfl (ty := .int) (tyX3_ok 63 (by decide)) ⟨rfl, rfl⟩ dX3_failing_75 (fun H locs hP hS => ?_)
            obtain ⟨σ22, eσ22⟩ : ∃ z : MS, z = mSet σ20 63 (-2) := ⟨_, rfl⟩
            rw [← eσ22] at hP
            have h := mlet_at eσ22 h
            refine lv_aload_n hx hb dX3_failing_78 rfl (lv_at hl 1 rfl) ?_
            refine lv_bipush (v := (-2)) hx hb dX3_failing_79 (by decide) ?_
            refine m_put hC hP hS 64 (by decide) rfl q1957 rfl (ty := .int) (tyX3_ok 64 (by decide)) ⟨rfl, rfl⟩ dX3_failing_81 (fun H locs hP hS => ?_)
            obtain ⟨σ23, eσ23⟩ : ∃ z : MS, z = mSet σ22 64 (-2) := ⟨_, rfl⟩
            rw [← eσ23] at hP
            have h := mlet_at eσ23 h
            refine lv_aload_n hx hb dX3_failing_84 rfl (lv_at hl 1 rfl) ?_
            refine lv_bipush (v := (-2)) hx hb dX3_failing_85 (by decide) ?_
            refine m_put hC hP hS 65 (by decide) rfl q1958 rfl (ty := .int) (tyX3_ok 65 (by decide)) ⟨rfl, rfl⟩ dX3_failing_87 (fun H locs hP hS => ?_)
            obtain ⟨σ24, eσ24⟩ : ∃ z : MS, z = mSet σ23 65 (-2) := ⟨_, rfl⟩
            rw [← eσ24] at hP
            have h := mlet_at eσ24 h
            refine lv_iconst (v := 0) hx hb dX3_failing_90 (by decide) ?_
            refine lv_istore (lv' := [(6, .int 0), (5, .int 0), (0, .ref (mh E)), (1, .int x1), (2, .int x2), (3, .int x3), (4, .int x4)]) hx hb dX3_failing_91 hl (by decide) rfl (fun ls hl => ?_)
            exact w_failing_93 hC hR N N σ24 x1 x2 x3 x4 0 0 h _ _ hP hS _ (lv_sub hl [2, 3, 4, 5, 6, 1, 0] rfl)
          · have h := mif_t c19 h
            refine lv_aload_n hx hb dX3_failing_59 rfl (lv_at hl 0 rfl) ?_
            refine lv_iconst (v := 2) hx hb dX3_failing_60 (by decide) ?_
            obtain ⟨r27, σ25, c26, h⟩ := mcall_n h
            refine m_calli (As := [.int 2]) (rest := []) hC (met_no l N E H.size σ16 2 r27 σ25 c26) (cwV 1 hts (lw_V q2138 q2140 qs41 q103 q2141) rfl rfl rfl (by decide +kernel) ⟨Nat.le_trans (Nat.le_of_ble_eq_true rfl) hR.1, Nat.le_trans (Nat.le_of_ble_eq_true rfl) hR.2⟩) hP hS rfl hl.1 rfl (Nat.le_of_ble_eq_true rfl) dX3_failing_61 (fun H locs hP hS => ?_)
            cases h
            exact m_iret hC hP hS dX3_failing_64
        · have h := mif_t c15 h
          exact w_failing_41 hC hR N σ12 h hP hS (lv_sub hl [0] rfl)
theorem met_failing (l : Launch) (N : Nat) (E : mE) (sz : Nat) (σ : MS) (x1 : Int32) (x2 : Int32) (x3 : Int32) (x4 : Int32) (r : Int32) (σ' : MS) (h : f_failing N σ x1 x2 x3 x4 = some (r, σ')) : Met l yX3_failing (ws_ yX3_failing cX3_failing 8 (some .int)) ({ frames := 5, cells := 0, slots := 0, locals := 134 }) (mPc E sz σ [.ref (mh E), .int x1, .int x2, .int x3, .int x4]) (mQi E sz r σ') 0 0 (mA E sz) :=
  m_met (Qc := fun z => mQi E z r σ') (by decide) rfl (Nat.le_of_ble_eq_true rfl) (fun hC ls hl hP => w_failing_0 hC ⟨Nat.le_refl _, Nat.le_refl _⟩ N σ x1 x2 x3 x4 h hP va_S.rf hl)
def f_first_41 (N : Nat) (σ : MS) (s0 : Int32) : Option (Int32 × MS) :=
    some (s0, σ)
set_option maxHeartbeats 4000000 in
set_option maxRecDepth 100000 in
theorem w_first_41 {p : Program} {l : Launch} {e : Env} {R : Room} {s : State} {m : MethodId} {args : Array Value} {below : List Frame} {meth : Method} {c : Code} {E : mE} {σ' : MS} {r : Int32} (hC : mC p s m args meth c E cX3_first 2 (some .int)) (hR : 0 ≤ R.frames ∧ 0 ≤ R.locals) (N : Nat) (σ : MS) (s0 : Int32) (h : f_first_41 N σ s0 = some (r, σ')) {H : Heap} {locs : List Loc} (hP : mP E σ H) (hS : va_S (mA E s.heap.size) s.heap H locs) {ls : Array Slot} (hl : lv_has ls 2 []) : W p l e R s m args below meth c H locs 0 0 (MQ below (mQi E s.heap.size r σ') args s 0 0 (mA E s.heap.size)) (F0 m 41 ls [.int s0]) := by
  obtain ⟨⟨hx, hb, hml, hown, hts⟩, hK, hD, hr, hlk⟩ := id hC
  unfold f_first_41 at h
  cases h
  exact m_iret hC hP hS dX3_first_41
def f_first (N : Nat) (σ : MS) (x1 : Int32) : Option (Int32 × MS) :=
    mlet (mSet σ 0 0) fun σ1 =>
    if x1 = 0 then
    f_first_41 N σ1 (σ1.1 63)
    else
    if x1 = 1 then
    f_first_41 N σ1 (σ1.1 64)
    else
    if x1 = 2 then
    f_first_41 N σ1 (σ1.1 65)
    else
    f_first_41 N σ1 (-1)
set_option maxHeartbeats 4000000 in
set_option maxRecDepth 100000 in
theorem w_first_0 {p : Program} {l : Launch} {e : Env} {R : Room} {s : State} {m : MethodId} {args : Array Value} {below : List Frame} {meth : Method} {c : Code} {E : mE} {σ' : MS} {r : Int32} (hC : mC p s m args meth c E cX3_first 2 (some .int)) (hR : 0 ≤ R.frames ∧ 0 ≤ R.locals) (N : Nat) (σ : MS) (x1 : Int32) (h : f_first N σ x1 = some (r, σ')) {H : Heap} {locs : List Loc} (hP : mP E σ H) (hS : va_S (mA E s.heap.size) s.heap H locs) {ls : Array Slot} (hl : lv_has ls 2 [(0, .ref (mh E)), (1, .int x1)]) : W p l e R s m args below meth c H locs 0 0 (MQ below (mQi E s.heap.size r σ') args s 0 0 (mA E s.heap.size)) (F0 m 0 ls []) := by
  obtain ⟨⟨hx, hb, hml, hown, hts⟩, hK, hD, hr, hlk⟩ := id hC
  unfold f_first at h
  refine lv_aload_n hx hb dX3_first_0 rfl (lv_at hl 0 rfl) ?_
  refine lv_iconst (v := 0) hx hb dX3_first_1 (by decide) ?_
  refine m_put hC hP hS 0 (by decide) rfl q1893 rfl (ty := .int) (tyX3_ok 0 (by decide)) ⟨rfl, rfl⟩ dX3_first_2 (fun H locs hP hS => ?_)
  obtain ⟨σ1, eσ1⟩ : ∃ z : MS, z = mSet σ 0 0 := ⟨_, rfl⟩
  rw [← eσ1] at hP
  have h := mlet_at eσ1 h
  refine lv_iload_n hx hb dX3_first_5 rfl (lv_at hl 1 rfl) ?_
  refine lv_if_ne (tgt := 16) hx hb dX3_first_6 (by decide) (fun c2 => ?_) (fun c2 => ?_)
  · have h := mif_f c2 h
    refine lv_iload_n hx hb dX3_first_16 rfl (lv_at hl 1 rfl) ?_
    refine lv_iconst (v := 1) hx hb dX3_first_17 (by decide) ?_
    refine lv_icmp_ne (tgt := 28) hx hb dX3_first_18 (by decide) (fun c3 => ?_) (fun c3 => ?_)
    · have h := mif_f c3 h
      refine lv_iload_n hx hb dX3_first_28 rfl (lv_at hl 1 rfl) ?_
      refine lv_iconst (v := 2) hx hb dX3_first_29 (by decide) ?_
      refine lv_icmp_ne (tgt := 40) hx hb dX3_first_30 (by decide) (fun c4 => ?_) (fun c4 => ?_)
      · have h := mif_f c4 h
        refine lv_iconst (v := (-1)) hx hb dX3_first_40 (by decide) ?_
        exact w_first_41 hC hR N σ1 (-1) h hP hS (lv_sub hl [] rfl)
      · have h := mif_t c4 h
        refine lv_aload_n hx hb dX3_first_33 rfl (lv_at hl 0 rfl) ?_
        refine m_geti hC hP 65 (by decide) rfl q1958 dX3_first_34 ?_
        refine lv_goto (tgt := 41) hx hb dX3_first_37 (by decide) ?_
        exact w_first_41 hC hR N σ1 (σ1.1 65) h hP hS (lv_sub hl [] rfl)
    · have h := mif_t c3 h
      refine lv_aload_n hx hb dX3_first_21 rfl (lv_at hl 0 rfl) ?_
      refine m_geti hC hP 64 (by decide) rfl q1957 dX3_first_22 ?_
      refine lv_goto (tgt := 41) hx hb dX3_first_25 (by decide) ?_
      exact w_first_41 hC hR N σ1 (σ1.1 64) h hP hS (lv_sub hl [] rfl)
  · have h := mif_t c2 h
    refine lv_aload_n hx hb dX3_first_9 rfl (lv_at hl 0 rfl) ?_
    refine m_geti hC hP 63 (by decide) rfl q1956 dX3_first_10 ?_
    refine lv_goto (tgt := 41) hx hb dX3_first_13 (by decide) ?_
    exact w_first_41 hC hR N σ1 (σ1.1 63) h hP hS (lv_sub hl [] rfl)
theorem met_first (l : Launch) (N : Nat) (E : mE) (sz : Nat) (σ : MS) (x1 : Int32) (r : Int32) (σ' : MS) (h : f_first N σ x1 = some (r, σ')) : Met l yX3_first (ws_ yX3_first cX3_first 2 (some .int)) ({ frames := 0, cells := 0, slots := 0, locals := 0 }) (mPc E sz σ [.ref (mh E), .int x1]) (mQi E sz r σ') 0 0 (mA E sz) :=
  m_met (Qc := fun z => mQi E z r σ') (by decide) rfl (Nat.le_of_ble_eq_true rfl) (fun hC ls hl hP => w_first_0 hC ⟨Nat.le_refl _, Nat.le_refl _⟩ N σ x1 h hP va_S.rf hl)
def f_costs_41 (N : Nat) (σ : MS) : Option (Int32 × MS) :=
    mcall (f_no N σ 1) fun r3 σ1 =>
    some (r3, σ1)
set_option maxHeartbeats 4000000 in
set_option maxRecDepth 100000 in
theorem w_costs_41 {p : Program} {l : Launch} {e : Env} {R : Room} {s : State} {m : MethodId} {args : Array Value} {below : List Frame} {meth : Method} {c : Code} {E : mE} {σ' : MS} {r : Int32} (hC : mC p s m args meth c E cX3_costs 6 (some .int)) (hR : 5 ≤ R.frames ∧ 134 ≤ R.locals) (N : Nat) (σ : MS) (h : f_costs_41 N σ = some (r, σ')) {H : Heap} {locs : List Loc} (hP : mP E σ H) (hS : va_S (mA E s.heap.size) s.heap H locs) {ls : Array Slot} (hl : lv_has ls 6 [(0, .ref (mh E))]) : W p l e R s m args below meth c H locs 0 0 (MQ below (mQi E s.heap.size r σ') args s 0 0 (mA E s.heap.size)) (F0 m 41 ls []) := by
  obtain ⟨⟨hx, hb, hml, hown, hts⟩, hK, hD, hr, hlk⟩ := id hC
  unfold f_costs_41 at h
  refine lv_aload_n hx hb dX3_costs_41 rfl (lv_at hl 0 rfl) ?_
  refine lv_iconst (v := 1) hx hb dX3_costs_42 (by decide) ?_
  obtain ⟨r3, σ1, c2, h⟩ := mcall_n h
  refine m_calli (As := [.int 1]) (rest := []) hC (met_no l N E H.size σ 1 r3 σ1 c2) (cwV 1 hts (lw_V q2138 q2140 qs41 q103 q2141) rfl rfl rfl (by decide +kernel) ⟨Nat.le_trans (Nat.le_of_ble_eq_true rfl) hR.1, Nat.le_trans (Nat.le_of_ble_eq_true rfl) hR.2⟩) hP hS rfl hl.1 rfl (Nat.le_of_ble_eq_true rfl) dX3_costs_43 (fun H locs hP hS => ?_)
  cases h
  exact m_iret hC hP hS dX3_costs_46
def f_costs_103 (N : Nat) (k57 : MS → Int32 → Int32 → Int32 → Int32 → Int32 → Option (Int32 × MS)) (σ : MS) (x1 : Int32) (x2 : Int32) (x3 : Int32) (x5 : Int32) (s0 : Int32) : Option (Int32 × MS) :=
    mlet (x5 + 1) fun y1 =>
    k57 σ x1 x2 x3 s0 y1
set_option maxHeartbeats 4000000 in
set_option maxRecDepth 100000 in
theorem w_costs_103 {p : Program} {l : Launch} {e : Env} {R : Room} {s : State} {m : MethodId} {args : Array Value} {below : List Frame} {meth : Method} {c : Code} {E : mE} {σ' : MS} {r : Int32} (hC : mC p s m args meth c E cX3_costs 6 (some .int)) (hR : 5 ≤ R.frames ∧ 134 ≤ R.locals) (N : Nat) (k57 : MS → Int32 → Int32 → Int32 → Int32 → Int32 → Option (Int32 × MS)) (hk57 : ∀ (σ : MS) (x1 : Int32) (x2 : Int32) (x3 : Int32) (x4 : Int32) (x5 : Int32), k57 σ x1 x2 x3 x4 x5 = some (r, σ') → ∀ (H : Heap) (locs : List Loc), mP E σ H → va_S (mA E s.heap.size) s.heap H locs → ∀ ls : Array Slot, lv_has ls 6 [(0, .ref (mh E)), (1, .int x1), (2, .int x2), (3, .int x3), (4, .int x4), (5, .int x5)] → W p l e R s m args below meth c H locs 0 0 (MQ below (mQi E s.heap.size r σ') args s 0 0 (mA E s.heap.size)) (F0 m 57 ls [])) (σ : MS) (x1 : Int32) (x2 : Int32) (x3 : Int32) (x5 : Int32) (s0 : Int32) (h : f_costs_103 N k57 σ x1 x2 x3 x5 s0 = some (r, σ')) {H : Heap} {locs : List Loc} (hP : mP E σ H) (hS : va_S (mA E s.heap.size) s.heap H locs) {ls : Array Slot} (hl : lv_has ls 6 [(0, .ref (mh E)), (1, .int x1), (2, .int x2), (3, .int x3), (5, .int x5)]) : W p l e R s m args below meth c H locs 0 0 (MQ below (mQi E s.heap.size r σ') args s 0 0 (mA E s.heap.size)) (F0 m 103 ls [.int s0]) := by
  obtain ⟨⟨hx, hb, hml, hown, hts⟩, hK, hD, hr, hlk⟩ := id hC
  unfold f_costs_103 at h
  refine lv_istore (lv' := [(4, .int s0), (0, .ref (mh E)), (1, .int x1), (2, .int x2), (3, .int x3), (5, .int x5)]) hx hb dX3_costs_103 hl (by decide) rfl (fun ls hl => ?_)
  obtain ⟨y1, ey1⟩ : ∃ z : Int32, z = x5 + 1 := ⟨_, rfl⟩
  have h := mlet_at ey1 h
  refine lv_iinc (v := y1) (lv' := [(5, .int y1), (4, .int s0), (0, .ref (mh E)), (1, .int x1), (2, .int x2), (3, .int x3)]) hx hb dX3_costs_105 hl (k := 5) rfl (by rw [ey1]; rfl) (by decide) rfl (fun ls hl => ?_)
  refine lv_goto (tgt := 57) hx hb dX3_costs_108 (by decide) ?_
  exact hk57 σ x1 x2 x3 s0 y1 h _ _ hP hS _ (lv_sub hl [2, 3, 4, 5, 1, 0] rfl)
def f_costs_57 (N : Nat) : Nat → MS → Int32 → Int32 → Int32 → Int32 → Int32 → Option (Int32 × MS)
  | 0, _, _, _, _, _, _ => none
  | n + 1, σ, x1, x2, x3, x4, x5 =>
    mcall (f_truthMany N σ) fun r3 σ1 =>
    if r3 ≤ x5 then
    some (x4, σ1)
    else
    mcall (f_acts N σ1 x1 x2 x3 x5) fun r7 σ5 =>
    if r7 ≤ 0 then
    if (σ5.1 67) ≤ x4 then
    f_costs_103 N (f_costs_57 N n) σ5 x1 x2 x3 x5 x4
    else
    f_costs_103 N (f_costs_57 N n) σ5 x1 x2 x3 x5 (σ5.1 67)
    else
    mcall (f_no N σ5 6) fun r12 σ10 =>
    some (r12, σ10)
set_option maxHeartbeats 4000000 in
set_option maxRecDepth 100000 in
theorem w_costs_57 {p : Program} {l : Launch} {e : Env} {R : Room} {s : State} {m : MethodId} {args : Array Value} {below : List Frame} {meth : Method} {c : Code} {E : mE} {σ' : MS} {r : Int32} (hC : mC p s m args meth c E cX3_costs 6 (some .int)) (hR : 5 ≤ R.frames ∧ 134 ≤ R.locals) (N : Nat) : ∀ (n : Nat) (σ : MS) (x1 : Int32) (x2 : Int32) (x3 : Int32) (x4 : Int32) (x5 : Int32), f_costs_57 N n σ x1 x2 x3 x4 x5 = some (r, σ') → ∀ (H : Heap) (locs : List Loc), mP E σ H → va_S (mA E s.heap.size) s.heap H locs → ∀ ls : Array Slot, lv_has ls 6 [(0, .ref (mh E)), (1, .int x1), (2, .int x2), (3, .int x3), (4, .int x4), (5, .int x5)] → W p l e R s m args below meth c H locs 0 0 (MQ below (mQi E s.heap.size r σ') args s 0 0 (mA E s.heap.size)) (F0 m 57 ls []) := by
  obtain ⟨⟨hx, hb, hml, hown, hts⟩, hK, hD, hr, hlk⟩ := id hC
  intro n
  induction n with
  | zero =>
    intro σ x1 x2 x3 x4 x5 h
    cases h
  | succ n ih =>
    intro σ x1 x2 x3 x4 x5 h H locs hP hS ls hl
    unfold f_costs_57 at h
    refine lv_iload hx hb dX3_costs_57 (lv_at hl 5 rfl) ?_
    refine lv_aload_n hx hb dX3_costs_59 rfl (lv_at hl 0 rfl) ?_
    obtain ⟨r3, σ1, c2, h⟩ := mcall_n h
    refine m_calli (As := []) (rest := [.int x5]) hC (met_truthMany l N E H.size σ r3 σ1 c2) (cwV 0 hts (lw_V q2427 q2429 qs83 q103 q2430) rfl rfl rfl (by decide +kernel) ⟨Nat.le_trans (Nat.le_of_ble_eq_true rfl) hR.1, Nat.le_trans (Nat.le_of_ble_eq_true rfl) hR.2⟩) hP hS rfl hl.1 rfl (Nat.le_of_ble_eq_true rfl) dX3_costs_60 (fun H locs hP hS => ?_)
    refine lv_icmp_ge (tgt := 111) hx hb dX3_costs_63 (by decide) (fun c4 => ?_) (fun c4 => ?_)
    · have h := mif_t c4 h
      refine lv_iload hx hb dX3_costs_111 (lv_at hl 4 rfl) ?_
      cases h
      exact m_iret hC hP hS dX3_costs_113
    · have h := mif_f c4 h
      refine lv_aload_n hx hb dX3_costs_66 rfl (lv_at hl 0 rfl) ?_
      refine lv_iload_n hx hb dX3_costs_67 rfl (lv_at hl 1 rfl) ?_
      refine lv_iload_n hx hb dX3_costs_68 rfl (lv_at hl 2 rfl) ?_
      refine lv_iload_n hx hb dX3_costs_69 rfl (lv_at hl 3 rfl) ?_
      refine lv_iload hx hb dX3_costs_70 (lv_at hl 5 rfl) ?_
      obtain ⟨r7, σ5, c6, h⟩ := mcall_n h
      refine m_calli (As := [.int x1, .int x2, .int x3, .int x5]) (rest := []) hC (met_acts l N E H.size σ1 x1 x2 x3 x5 r7 σ5 c6) (cwV 4 hts (lw_V q2496 q2498 qs92 q103 q2499) rfl rfl rfl (by decide +kernel) ⟨Nat.le_trans (Nat.le_of_ble_eq_true rfl) hR.1, Nat.le_trans (Nat.le_of_ble_eq_true rfl) hR.2⟩) hP hS rfl hl.1 rfl (Nat.le_of_ble_eq_true rfl) dX3_costs_72 (fun H locs hP hS => ?_)
      refine lv_if_le (tgt := 85) hx hb dX3_costs_75 (by decide) (fun c8 => ?_) (fun c8 => ?_)
      · have h := mif_t c8 h
        refine lv_aload_n hx hb dX3_costs_85 rfl (lv_at hl 0 rfl) ?_
        refine m_geti hC hP 67 (by decide) rfl q1960 dX3_costs_86 ?_
        refine lv_iload hx hb dX3_costs_89 (lv_at hl 4 rfl) ?_
        refine lv_icmp_le (tgt := 101) hx hb dX3_costs_91 (by decide) (fun c9 => ?_) (fun c9 => ?_)
        · have h := mif_t c9 h
          refine lv_iload hx hb dX3_costs_101 (lv_at hl 4 rfl) ?_
          exact w_costs_103 hC hR N (f_costs_57 N n) ih σ5 x1 x2 x3 x5 x4 h hP hS (lv_sub hl [0, 1, 2, 3, 5] rfl)
        · have h := mif_f c9 h
          refine lv_aload_n hx hb dX3_costs_94 rfl (lv_at hl 0 rfl) ?_
          refine m_geti hC hP 67 (by decide) rfl q1960 dX3_costs_95 ?_
          refine lv_goto (tgt := 103) hx hb dX3_costs_98 (by decide) ?_
          exact w_costs_103 hC hR N (f_costs_57 N n) ih σ5 x1 x2 x3 x5 (σ5.1 67) h hP hS (lv_sub hl [0, 1, 2, 3, 5] rfl)
      · have h := mif_f c8 h
        refine lv_aload_n hx hb dX3_costs_78 rfl (lv_at hl 0 rfl) ?_
        refine lv_bipush (v := 6) hx hb dX3_costs_79 (by decide) ?_
        obtain ⟨r12, σ10, c11, h⟩ := mcall_n h
        refine m_calli (As := [.int 6]) (rest := []) hC (met_no l N E H.size σ5 6 r12 σ10 c11) (cwV 1 hts (lw_V q2138 q2140 qs41 q103 q2141) rfl rfl rfl (by decide +kernel) ⟨Nat.le_trans (Nat.le_of_ble_eq_true rfl) hR.1, Nat.le_trans (Nat.le_of_ble_eq_true rfl) hR.2⟩) hP hS rfl hl.1 rfl (Nat.le_of_ble_eq_true rfl) dX3_costs_81 (fun H locs hP hS => ?_)
        cases h
        exact m_iret hC hP hS dX3_costs_84
def f_costs (N : Nat) (σ : MS) (x1 : Int32) (x2 : Int32) (x3 : Int32) : Option (Int32 × MS) :=
    mcallv (f_good N σ) fun σ1 =>
    if (σ1.1 34) = 0 then
    f_costs_41 N σ1
    else
    mcall (f_within N σ1 x1 0 ((σ1.1 40) - 1)) fun r6 σ4 =>
    if r6 = 0 then
    f_costs_41 N σ4
    else
    mcall (f_isCell N σ4 x2) fun r10 σ8 =>
    if r10 = 0 then
    f_costs_41 N σ8
    else
    mcall (f_isCell N σ8 x3) fun r14 σ12 =>
    if r14 = 0 then
    f_costs_41 N σ12
    else
    mcallv (f_lists N σ12) fun σ16 =>
    f_costs_57 N N σ16 x1 x2 x3 0 0
set_option maxHeartbeats 4000000 in
set_option maxRecDepth 100000 in
theorem w_costs_0 {p : Program} {l : Launch} {e : Env} {R : Room} {s : State} {m : MethodId} {args : Array Value} {below : List Frame} {meth : Method} {c : Code} {E : mE} {σ' : MS} {r : Int32} (hC : mC p s m args meth c E cX3_costs 6 (some .int)) (hR : 5 ≤ R.frames ∧ 134 ≤ R.locals) (N : Nat) (σ : MS) (x1 : Int32) (x2 : Int32) (x3 : Int32) (h : f_costs N σ x1 x2 x3 = some (r, σ')) {H : Heap} {locs : List Loc} (hP : mP E σ H) (hS : va_S (mA E s.heap.size) s.heap H locs) {ls : Array Slot} (hl : lv_has ls 6 [(0, .ref (mh E)), (1, .int x1), (2, .int x2), (3, .int x3)]) : W p l e R s m args below meth c H locs 0 0 (MQ below (mQi E s.heap.size r σ') args s 0 0 (mA E s.heap.size)) (F0 m 0 ls []) := by
  obtain ⟨⟨hx, hb, hml, hown, hts⟩, hK, hD, hr, hlk⟩ := id hC
  unfold f_costs at h
  refine lv_aload_n hx hb dX3_costs_0 rfl (lv_at hl 0 rfl) ?_
  obtain ⟨σ1, c2, h⟩ := mcallv_n h
  refine m_callv (As := []) (rest := []) hC (met_good l N E H.size σ σ1 c2) (cwV 0 hts (lw_V q2131 q2133 qs40 q103 q2134) rfl rfl rfl (by decide +kernel) ⟨Nat.le_trans (Nat.le_of_ble_eq_true rfl) hR.1, Nat.le_trans (Nat.le_of_ble_eq_true rfl) hR.2⟩) hP hS rfl hl.1 rfl (Nat.le_of_ble_eq_true rfl) dX3_costs_1 (fun H locs hP hS => ?_)
  refine lv_aload_n hx hb dX3_costs_4 rfl (lv_at hl 0 rfl) ?_
  refine m_geti hC hP 34 (by decide) rfl q1927 dX3_costs_5 ?_
  refine lv_if_eq (tgt := 41) hx hb dX3_costs_8 (by decide) (fun c3 => ?_) (fun c3 => ?_)
  · have h := mif_t c3 h
    exact w_costs_41 hC hR N σ1 h hP hS (lv_sub hl [0] rfl)
  · have h := mif_f c3 h
    refine lv_iload_n hx hb dX3_costs_11 rfl (lv_at hl 1 rfl) ?_
    refine lv_iconst (v := 0) hx hb dX3_costs_12 (by decide) ?_
    refine lv_aload_n hx hb dX3_costs_13 rfl (lv_at hl 0 rfl) ?_
    refine m_geti hC hP 40 (by decide) rfl q1933 dX3_costs_14 ?_
    refine lv_iconst (v := 1) hx hb dX3_costs_17 (by decide) ?_
    refine lv_isub hx hb dX3_costs_18 ?_
    obtain ⟨r6, σ4, c5, h⟩ := mcall_n h
    refine m_callsi (As := [.int x1, .int 0, .int ((σ1.1 40) - 1)]) (rest := []) hC (met_within l N E H.size σ1 x1 0 ((σ1.1 40) - 1) r6 σ4 c5) (va_cwS 3 hts (lw_S q2135 q2136 q103 q2137) rfl rfl rfl (by decide +kernel) ⟨Nat.le_trans (Nat.le_of_ble_eq_true rfl) hR.1, Nat.le_trans (Nat.le_of_ble_eq_true rfl) hR.2⟩) hP hS rfl hl.1 rfl (Nat.le_of_ble_eq_true rfl) dX3_costs_19 (fun H locs hP hS => ?_)
    refine lv_if_eq (tgt := 41) hx hb dX3_costs_22 (by decide) (fun c7 => ?_) (fun c7 => ?_)
    · have h := mif_t c7 h
      exact w_costs_41 hC hR N σ4 h hP hS (lv_sub hl [0] rfl)
    · have h := mif_f c7 h
      refine lv_aload_n hx hb dX3_costs_25 rfl (lv_at hl 0 rfl) ?_
      refine lv_iload_n hx hb dX3_costs_26 rfl (lv_at hl 2 rfl) ?_
      obtain ⟨r10, σ8, c9, h⟩ := mcall_n h
      refine m_calli (As := [.int x2]) (rest := []) hC (met_isCell l N E H.size σ4 x2 r10 σ8 c9) (cwV 1 hts (lw_V q2276 q2278 qs60 q103 q2279) rfl rfl rfl (by decide +kernel) ⟨Nat.le_trans (Nat.le_of_ble_eq_true rfl) hR.1, Nat.le_trans (Nat.le_of_ble_eq_true rfl) hR.2⟩) hP hS rfl hl.1 rfl (Nat.le_of_ble_eq_true rfl) dX3_costs_27 (fun H locs hP hS => ?_)
      refine lv_if_eq (tgt := 41) hx hb dX3_costs_30 (by decide) (fun c11 => ?_) (fun c11 => ?_)
      · have h := mif_t c11 h
        exact w_costs_41 hC hR N σ8 h hP hS (lv_sub hl [0] rfl)
      · have h := mif_f c11 h
        refine lv_aload_n hx hb dX3_costs_33 rfl (lv_at hl 0 rfl) ?_
        refine lv_iload_n hx hb dX3_costs_34 rfl (lv_at hl 3 rfl) ?_
        obtain ⟨r14, σ12, c13, h⟩ := mcall_n h
        refine m_calli (As := [.int x3]) (rest := []) hC (met_isCell l N E H.size σ8 x3 r14 σ12 c13) (cwV 1 hts (lw_V q2276 q2278 qs60 q103 q2279) rfl rfl rfl (by decide +kernel) ⟨Nat.le_trans (Nat.le_of_ble_eq_true rfl) hR.1, Nat.le_trans (Nat.le_of_ble_eq_true rfl) hR.2⟩) hP hS rfl hl.1 rfl (Nat.le_of_ble_eq_true rfl) dX3_costs_35 (fun H locs hP hS => ?_)
        refine lv_if_ne (tgt := 47) hx hb dX3_costs_38 (by decide) (fun c15 => ?_) (fun c15 => ?_)
        · have h := mif_f c15 h
          refine lv_aload_n hx hb dX3_costs_47 rfl (lv_at hl 0 rfl) ?_
          obtain ⟨σ16, c17, h⟩ := mcallv_n h
          refine m_callv (As := []) (rest := []) hC (met_lists l N E H.size σ12 σ16 c17) (cwV 0 hts (lw_V q2348 q2350 qs70 q103 q2351) rfl rfl rfl (by decide +kernel) ⟨Nat.le_trans (Nat.le_of_ble_eq_true rfl) hR.1, Nat.le_trans (Nat.le_of_ble_eq_true rfl) hR.2⟩) hP hS rfl hl.1 rfl (Nat.le_of_ble_eq_true rfl) dX3_costs_48 (fun H locs hP hS => ?_)
          refine lv_iconst (v := 0) hx hb dX3_costs_51 (by decide) ?_
          refine lv_istore (lv' := [(4, .int 0), (0, .ref (mh E)), (1, .int x1), (2, .int x2), (3, .int x3)]) hx hb dX3_costs_52 hl (by decide) rfl (fun ls hl => ?_)
          refine lv_iconst (v := 0) hx hb dX3_costs_54 (by decide) ?_
          refine lv_istore (lv' := [(5, .int 0), (4, .int 0), (0, .ref (mh E)), (1, .int x1), (2, .int x2), (3, .int x3)]) hx hb dX3_costs_55 hl (by decide) rfl (fun ls hl => ?_)
          exact w_costs_57 hC hR N N σ16 x1 x2 x3 0 0 h _ _ hP hS _ (lv_sub hl [2, 3, 4, 5, 1, 0] rfl)
        · have h := mif_t c15 h
          exact w_costs_41 hC hR N σ12 h hP hS (lv_sub hl [0] rfl)
theorem met_costs (l : Launch) (N : Nat) (E : mE) (sz : Nat) (σ : MS) (x1 : Int32) (x2 : Int32) (x3 : Int32) (r : Int32) (σ' : MS) (h : f_costs N σ x1 x2 x3 = some (r, σ')) : Met l yX3_costs (ws_ yX3_costs cX3_costs 6 (some .int)) ({ frames := 5, cells := 0, slots := 0, locals := 134 }) (mPc E sz σ [.ref (mh E), .int x1, .int x2, .int x3]) (mQi E sz r σ') 0 0 (mA E sz) :=
  m_met (Qc := fun z => mQi E z r σ') (by decide) rfl (Nat.le_of_ble_eq_true rfl) (fun hC ls hl hP => w_costs_0 hC ⟨Nat.le_refl _, Nat.le_refl _⟩ N σ x1 x2 x3 h hP va_S.rf hl)
def f_dig_25 (N : Nat) (σ : MS) : Option (Int32 × MS) :=
    mcall (f_not N σ 1) fun r3 σ1 =>
    if mBit r3 = true then
    some (r3, σ1)
    else none
set_option maxHeartbeats 4000000 in
set_option maxRecDepth 100000 in
theorem w_dig_25 {p : Program} {l : Launch} {e : Env} {R : Room} {s : State} {m : MethodId} {args : Array Value} {below : List Frame} {meth : Method} {c : Code} {E : mE} {σ' : MS} {r : Int32} (hC : mC p s m args meth c E cX3_dig 3 (some .boolean)) (hR : 1 ≤ R.frames ∧ 22 ≤ R.locals) (N : Nat) (σ : MS) (h : f_dig_25 N σ = some (r, σ')) {H : Heap} {locs : List Loc} (hP : mP E σ H) (hS : va_S (mA E s.heap.size) s.heap H locs) {ls : Array Slot} (hl : lv_has ls 3 [(0, .ref (mh E))]) : W p l e R s m args below meth c H locs 0 0 (MQ below (mQi E s.heap.size r σ') args s 0 0 (mA E s.heap.size)) (F0 m 25 ls []) := by
  obtain ⟨⟨hx, hb, hml, hown, hts⟩, hK, hD, hr, hlk⟩ := id hC
  unfold f_dig_25 at h
  refine lv_aload_n hx hb dX3_dig_25 rfl (lv_at hl 0 rfl) ?_
  refine lv_iconst (v := 1) hx hb dX3_dig_26 (by decide) ?_
  obtain ⟨r3, σ1, c2, h⟩ := mcall_n h
  refine m_calli (As := [.int 1]) (rest := []) hC (met_not l N E H.size σ 1 r3 σ1 c2) (cwV 1 hts (lw_V q2264 q2266 qs59 q103 q2267) rfl rfl rfl (by decide +kernel) ⟨Nat.le_trans (Nat.le_of_ble_eq_true rfl) hR.1, Nat.le_trans (Nat.le_of_ble_eq_true rfl) hR.2⟩) hP hS rfl hl.1 rfl (Nat.le_of_ble_eq_true rfl) dX3_dig_27 (fun H locs hP hS => ?_)
  obtain ⟨c4, h⟩ := mif_n h
  cases h
  exact m_zret hC c4 hP hS dX3_dig_30
def f_dig (N : Nat) (σ : MS) (x1 : Int32) (x2 : Int32) : Option (Int32 × MS) :=
    mcallv (f_good N σ) fun σ1 =>
    if (σ1.1 12) = 0 then
    f_dig_25 N σ1
    else
    mcall (f_within N σ1 x1 0 ((σ1.1 24) - 1)) fun r6 σ4 =>
    if r6 = 0 then
    f_dig_25 N σ4
    else
    mcall (f_within N σ4 x2 0 4) fun r10 σ8 =>
    if r10 = 0 then
    mcall (f_not N σ8 2) fun r16 σ14 =>
    if mBit r16 = true then
    some (r16, σ14)
    else none
    else
    if mIn x1 (mLen 47) = true then mlet (mArr σ8 47 x1.toNatClampNeg x2) fun σ13 =>
    some (1, σ13)
    else none
set_option maxHeartbeats 4000000 in
set_option maxRecDepth 100000 in
theorem w_dig_0 {p : Program} {l : Launch} {e : Env} {R : Room} {s : State} {m : MethodId} {args : Array Value} {below : List Frame} {meth : Method} {c : Code} {E : mE} {σ' : MS} {r : Int32} (hC : mC p s m args meth c E cX3_dig 3 (some .boolean)) (hR : 1 ≤ R.frames ∧ 22 ≤ R.locals) (N : Nat) (σ : MS) (x1 : Int32) (x2 : Int32) (h : f_dig N σ x1 x2 = some (r, σ')) {H : Heap} {locs : List Loc} (hP : mP E σ H) (hS : va_S (mA E s.heap.size) s.heap H locs) {ls : Array Slot} (hl : lv_has ls 3 [(0, .ref (mh E)), (1, .int x1), (2, .int x2)]) : W p l e R s m args below meth c H locs 0 0 (MQ below (mQi E s.heap.size r σ') args s 0 0 (mA E s.heap.size)) (F0 m 0 ls []) := by
  obtain ⟨⟨hx, hb, hml, hown, hts⟩, hK, hD, hr, hlk⟩ := id hC
  unfold f_dig at h
  refine lv_aload_n hx hb dX3_dig_0 rfl (lv_at hl 0 rfl) ?_
  obtain ⟨σ1, c2, h⟩ := mcallv_n h
  refine m_callv (As := []) (rest := []) hC (met_good l N E H.size σ σ1 c2) (cwV 0 hts (lw_V q2131 q2133 qs40 q103 q2134) rfl rfl rfl (by decide +kernel) ⟨Nat.le_trans (Nat.le_of_ble_eq_true rfl) hR.1, Nat.le_trans (Nat.le_of_ble_eq_true rfl) hR.2⟩) hP hS rfl hl.1 rfl (Nat.le_of_ble_eq_true rfl) dX3_dig_1 (fun H locs hP hS => ?_)
  refine lv_aload_n hx hb dX3_dig_4 rfl (lv_at hl 0 rfl) ?_
  refine m_geti hC hP 12 (by decide) rfl q1905 dX3_dig_5 ?_
  refine lv_if_eq (tgt := 25) hx hb dX3_dig_8 (by decide) (fun c3 => ?_) (fun c3 => ?_)
  · have h := mif_t c3 h
    exact w_dig_25 hC hR N σ1 h hP hS (lv_sub hl [0] rfl)
  · have h := mif_f c3 h
    refine lv_iload_n hx hb dX3_dig_11 rfl (lv_at hl 1 rfl) ?_
    refine lv_iconst (v := 0) hx hb dX3_dig_12 (by decide) ?_
    refine lv_aload_n hx hb dX3_dig_13 rfl (lv_at hl 0 rfl) ?_
    refine m_geti hC hP 24 (by decide) rfl q1917 dX3_dig_14 ?_
    refine lv_iconst (v := 1) hx hb dX3_dig_17 (by decide) ?_
    refine lv_isub hx hb dX3_dig_18 ?_
    obtain ⟨r6, σ4, c5, h⟩ := mcall_n h
    refine m_callsi (As := [.int x1, .int 0, .int ((σ1.1 24) - 1)]) (rest := []) hC (met_within l N E H.size σ1 x1 0 ((σ1.1 24) - 1) r6 σ4 c5) (va_cwS 3 hts (lw_S q2135 q2136 q103 q2137) rfl rfl rfl (by decide +kernel) ⟨Nat.le_trans (Nat.le_of_ble_eq_true rfl) hR.1, Nat.le_trans (Nat.le_of_ble_eq_true rfl) hR.2⟩) hP hS rfl hl.1 rfl (Nat.le_of_ble_eq_true rfl) dX3_dig_19 (fun H locs hP hS => ?_)
    refine lv_if_ne (tgt := 31) hx hb dX3_dig_22 (by decide) (fun c7 => ?_) (fun c7 => ?_)
    · have h := mif_f c7 h
      refine lv_iload_n hx hb dX3_dig_31 rfl (lv_at hl 2 rfl) ?_
      refine lv_iconst (v := 0) hx hb dX3_dig_32 (by decide) ?_
      refine lv_iconst (v := 4) hx hb dX3_dig_33 (by decide) ?_
      obtain ⟨r10, σ8, c9, h⟩ := mcall_n h
      refine m_callsi (As := [.int x2, .int 0, .int 4]) (rest := []) hC (met_within l N E H.size σ4 x2 0 4 r10 σ8 c9) (va_cwS 3 hts (lw_S q2135 q2136 q103 q2137) rfl rfl rfl (by decide +kernel) ⟨Nat.le_trans (Nat.le_of_ble_eq_true rfl) hR.1, Nat.le_trans (Nat.le_of_ble_eq_true rfl) hR.2⟩) hP hS rfl hl.1 rfl (Nat.le_of_ble_eq_true rfl) dX3_dig_34 (fun H locs hP hS => ?_)
      refine lv_if_ne (tgt := 46) hx hb dX3_dig_37 (by decide) (fun c11 => ?_) (fun c11 => ?_)
      · have h := mif_f c11 h
        refine lv_aload_n hx hb dX3_dig_46 rfl (lv_at hl 0 rfl) ?_
        refine m_geta hC hP 47 (by decide) rfl q1940 dX3_dig_47 ?_
        refine lv_iload_n hx hb dX3_dig_50 rfl (lv_at hl 1 rfl) ?_
        refine lv_iload_n hx hb dX3_dig_51 rfl (lv_at hl 2 rfl) ?_
        obtain ⟨c12, h⟩ := mif_n h
        refine m_ast hC hP hS 47 rfl c12 dX3_dig_52 (fun H locs hP hS => ?_)
        obtain ⟨σ13, eσ13⟩ : ∃ z : MS, z = mArr σ8 47 x1.toNatClampNeg x2 := ⟨_, rfl⟩
        rw [← eσ13] at hP
        have h := mlet_at eσ13 h
        refine lv_iconst (v := 1) hx hb dX3_dig_53 (by decide) ?_
        cases h
        exact m_zret hC rfl hP hS dX3_dig_54
      · have h := mif_t c11 h
        refine lv_aload_n hx hb dX3_dig_40 rfl (lv_at hl 0 rfl) ?_
        refine lv_iconst (v := 2) hx hb dX3_dig_41 (by decide) ?_
        obtain ⟨r16, σ14, c15, h⟩ := mcall_n h
        refine m_calli (As := [.int 2]) (rest := []) hC (met_not l N E H.size σ8 2 r16 σ14 c15) (cwV 1 hts (lw_V q2264 q2266 qs59 q103 q2267) rfl rfl rfl (by decide +kernel) ⟨Nat.le_trans (Nat.le_of_ble_eq_true rfl) hR.1, Nat.le_trans (Nat.le_of_ble_eq_true rfl) hR.2⟩) hP hS rfl hl.1 rfl (Nat.le_of_ble_eq_true rfl) dX3_dig_42 (fun H locs hP hS => ?_)
        obtain ⟨c17, h⟩ := mif_n h
        cases h
        exact m_zret hC c17 hP hS dX3_dig_45
    · have h := mif_t c7 h
      exact w_dig_25 hC hR N σ4 h hP hS (lv_sub hl [0] rfl)
theorem met_dig (l : Launch) (N : Nat) (E : mE) (sz : Nat) (σ : MS) (x1 : Int32) (x2 : Int32) (r : Int32) (σ' : MS) (h : f_dig N σ x1 x2 = some (r, σ')) : Met l yX3_dig (ws_ yX3_dig cX3_dig 3 (some .boolean)) ({ frames := 1, cells := 0, slots := 0, locals := 22 }) (mPc E sz σ [.ref (mh E), .int x1, .int x2]) (mQi E sz r σ') 0 0 (mA E sz) :=
  m_met (Qc := fun z => mQi E z r σ') (by decide) rfl (Nat.le_of_ble_eq_true rfl) (fun hC ls hl hP => w_dig_0 hC ⟨Nat.le_refl _, Nat.le_refl _⟩ N σ x1 x2 h hP va_S.rf hl)
def f_behind_74 (N : Nat) (k12 : MS → Int32 → Int32 → Int32 → Int32 → Int32 → Int32 → Option (Int32 × MS)) (σ : MS) (x2 : Int32) (x3 : Int32) (x4 : Int32) (x5 : Int32) (x7 : Int32) (s0 : Int32) (s1 : Int32) (s2 : Int32) : Option (Int32 × MS) :=
    mlet (s2 + (s1 * s0)) fun y1 =>
    mlet (x4 / 5) fun y2 =>
    mlet (x5 * 5) fun y3 =>
    mlet (x7 + 1) fun y4 =>
    k12 σ x2 x3 y2 y3 y1 y4
set_option maxHeartbeats 4000000 in
set_option maxRecDepth 100000 in
theorem w_behind_74 {p : Program} {l : Launch} {e : Env} {R : Room} {s : State} {m : MethodId} {args : Array Value} {below : List Frame} {meth : Method} {c : Code} {E : mE} {σ' : MS} {r : Int32} (hC : mC p s m args meth c E cX3_behind 9 (some .int)) (hR : 0 ≤ R.frames ∧ 0 ≤ R.locals) (N : Nat) (k12 : MS → Int32 → Int32 → Int32 → Int32 → Int32 → Int32 → Option (Int32 × MS)) (hk12 : ∀ (σ : MS) (x2 : Int32) (x3 : Int32) (x4 : Int32) (x5 : Int32) (x6 : Int32) (x7 : Int32), k12 σ x2 x3 x4 x5 x6 x7 = some (r, σ') → ∀ (H : Heap) (locs : List Loc), mP E σ H → va_S (mA E s.heap.size) s.heap H locs → ∀ ls : Array Slot, lv_has ls 9 [(0, .ref (mh E)), (2, .int x2), (3, .int x3), (4, .int x4), (5, .int x5), (6, .int x6), (7, .int x7)] → W p l e R s m args below meth c H locs 0 0 (MQ below (mQi E s.heap.size r σ') args s 0 0 (mA E s.heap.size)) (F0 m 12 ls [])) (σ : MS) (x2 : Int32) (x3 : Int32) (x4 : Int32) (x5 : Int32) (x7 : Int32) (s0 : Int32) (s1 : Int32) (s2 : Int32) (h : f_behind_74 N k12 σ x2 x3 x4 x5 x7 s0 s1 s2 = some (r, σ')) {H : Heap} {locs : List Loc} (hP : mP E σ H) (hS : va_S (mA E s.heap.size) s.heap H locs) {ls : Array Slot} (hl : lv_has ls 9 [(0, .ref (mh E)), (2, .int x2), (3, .int x3), (4, .int x4), (5, .int x5), (7, .int x7)]) : W p l e R s m args below meth c H locs 0 0 (MQ below (mQi E s.heap.size r σ') args s 0 0 (mA E s.heap.size)) (F0 m 74 ls [.int s0, .int s1, .int s2]) := by
  obtain ⟨⟨hx, hb, hml, hown, hts⟩, hK, hD, hr, hlk⟩ := id hC
  unfold f_behind_74 at h
  refine lv_imul hx hb dX3_behind_74 ?_
  refine lv_iadd hx hb dX3_behind_75 ?_
  refine lv_topi (fun y1 ey1 => ?_)
  have h := mlet_at ey1 h
  refine lv_istore (lv' := [(6, .int y1), (0, .ref (mh E)), (2, .int x2), (3, .int x3), (4, .int x4), (5, .int x5), (7, .int x7)]) hx hb dX3_behind_76 hl (by decide) rfl (fun ls hl => ?_)
  refine lv_iload hx hb dX3_behind_78 (lv_at hl 4 rfl) ?_
  refine lv_iconst (v := 5) hx hb dX3_behind_80 (by decide) ?_
  refine lv_idiv hx hb dX3_behind_81 (by decide) ?_
  refine lv_topi (fun y2 ey2 => ?_)
  have h := mlet_at ey2 h
  refine lv_istore (lv' := [(4, .int y2), (6, .int y1), (0, .ref (mh E)), (2, .int x2), (3, .int x3), (5, .int x5), (7, .int x7)]) hx hb dX3_behind_82 hl (by decide) rfl (fun ls hl => ?_)
  refine lv_iload hx hb dX3_behind_84 (lv_at hl 5 rfl) ?_
  refine lv_iconst (v := 5) hx hb dX3_behind_86 (by decide) ?_
  refine lv_imul hx hb dX3_behind_87 ?_
  refine lv_topi (fun y3 ey3 => ?_)
  have h := mlet_at ey3 h
  refine lv_istore (lv' := [(5, .int y3), (4, .int y2), (6, .int y1), (0, .ref (mh E)), (2, .int x2), (3, .int x3), (7, .int x7)]) hx hb dX3_behind_88 hl (by decide) rfl (fun ls hl => ?_)
  obtain ⟨y4, ey4⟩ : ∃ z : Int32, z = x7 + 1 := ⟨_, rfl⟩
  have h := mlet_at ey4 h
  refine lv_iinc (v := y4) (lv' := [(7, .int y4), (5, .int y3), (4, .int y2), (6, .int y1), (0, .ref (mh E)), (2, .int x2), (3, .int x3)]) hx hb dX3_behind_90 hl (k := 6) rfl (by rw [ey4]; rfl) (by decide) rfl (fun ls hl => ?_)
  refine lv_goto (tgt := 12) hx hb dX3_behind_93 (by decide) ?_
  exact hk12 σ x2 x3 y2 y3 y1 y4 h _ _ hP hS _ (lv_sub hl [4, 5, 6, 2, 1, 3, 0] rfl)
def f_behind_46 (N : Nat) (k12 : MS → Int32 → Int32 → Int32 → Int32 → Int32 → Int32 → Option (Int32 × MS)) (σ : MS) (x2 : Int32) (x3 : Int32) (x4 : Int32) (x5 : Int32) (x6 : Int32) (x7 : Int32) (s0 : Int32) (s1 : Int32) : Option (Int32 × MS) :=
    mlet (s1 + s0) fun y1 =>
    if 0 ≤ y1 then
    if y1 ≤ 4 then
    f_behind_74 N k12 σ x2 x3 x4 x5 x7 y1 x5 x6
    else
    f_behind_74 N k12 σ x2 x3 x4 x5 x7 4 x5 x6
    else
    f_behind_74 N k12 σ x2 x3 x4 x5 x7 0 x5 x6
set_option maxHeartbeats 4000000 in
set_option maxRecDepth 100000 in
theorem w_behind_46 {p : Program} {l : Launch} {e : Env} {R : Room} {s : State} {m : MethodId} {args : Array Value} {below : List Frame} {meth : Method} {c : Code} {E : mE} {σ' : MS} {r : Int32} (hC : mC p s m args meth c E cX3_behind 9 (some .int)) (hR : 0 ≤ R.frames ∧ 0 ≤ R.locals) (N : Nat) (k12 : MS → Int32 → Int32 → Int32 → Int32 → Int32 → Int32 → Option (Int32 × MS)) (hk12 : ∀ (σ : MS) (x2 : Int32) (x3 : Int32) (x4 : Int32) (x5 : Int32) (x6 : Int32) (x7 : Int32), k12 σ x2 x3 x4 x5 x6 x7 = some (r, σ') → ∀ (H : Heap) (locs : List Loc), mP E σ H → va_S (mA E s.heap.size) s.heap H locs → ∀ ls : Array Slot, lv_has ls 9 [(0, .ref (mh E)), (2, .int x2), (3, .int x3), (4, .int x4), (5, .int x5), (6, .int x6), (7, .int x7)] → W p l e R s m args below meth c H locs 0 0 (MQ below (mQi E s.heap.size r σ') args s 0 0 (mA E s.heap.size)) (F0 m 12 ls [])) (σ : MS) (x2 : Int32) (x3 : Int32) (x4 : Int32) (x5 : Int32) (x6 : Int32) (x7 : Int32) (s0 : Int32) (s1 : Int32) (h : f_behind_46 N k12 σ x2 x3 x4 x5 x6 x7 s0 s1 = some (r, σ')) {H : Heap} {locs : List Loc} (hP : mP E σ H) (hS : va_S (mA E s.heap.size) s.heap H locs) {ls : Array Slot} (hl : lv_has ls 9 [(0, .ref (mh E)), (2, .int x2), (3, .int x3), (4, .int x4), (5, .int x5), (6, .int x6), (7, .int x7)]) : W p l e R s m args below meth c H locs 0 0 (MQ below (mQi E s.heap.size r σ') args s 0 0 (mA E s.heap.size)) (F0 m 46 ls [.int s0, .int s1]) := by
  obtain ⟨⟨hx, hb, hml, hown, hts⟩, hK, hD, hr, hlk⟩ := id hC
  unfold f_behind_46 at h
  refine lv_iadd hx hb dX3_behind_46 ?_
  refine lv_topi (fun y1 ey1 => ?_)
  have h := mlet_at ey1 h
  refine lv_istore (lv' := [(8, .int y1), (0, .ref (mh E)), (2, .int x2), (3, .int x3), (4, .int x4), (5, .int x5), (6, .int x6), (7, .int x7)]) hx hb dX3_behind_47 hl (by decide) rfl (fun ls hl => ?_)
  refine lv_iload hx hb dX3_behind_49 (lv_at hl 6 rfl) ?_
  refine lv_iload hx hb dX3_behind_51 (lv_at hl 5 rfl) ?_
  refine lv_iload hx hb dX3_behind_53 (lv_at hl 0 rfl) ?_
  refine lv_if_ge (tgt := 62) hx hb dX3_behind_55 (by decide) (fun c2 => ?_) (fun c2 => ?_)
  · have h := mif_t c2 h
    refine lv_iload hx hb dX3_behind_62 (lv_at hl 0 rfl) ?_
    refine lv_iconst (v := 4) hx hb dX3_behind_64 (by decide) ?_
    refine lv_icmp_le (tgt := 72) hx hb dX3_behind_65 (by decide) (fun c3 => ?_) (fun c3 => ?_)
    · have h := mif_t c3 h
      refine lv_iload hx hb dX3_behind_72 (lv_at hl 0 rfl) ?_
      exact w_behind_74 hC hR N k12 hk12 σ x2 x3 x4 x5 x7 y1 x5 x6 h hP hS (lv_sub hl [1, 2, 3, 4, 5, 7] rfl)
    · have h := mif_f c3 h
      refine lv_iconst (v := 4) hx hb dX3_behind_68 (by decide) ?_
      refine lv_goto (tgt := 74) hx hb dX3_behind_69 (by decide) ?_
      exact w_behind_74 hC hR N k12 hk12 σ x2 x3 x4 x5 x7 4 x5 x6 h hP hS (lv_sub hl [1, 2, 3, 4, 5, 7] rfl)
  · have h := mif_f c2 h
    refine lv_iconst (v := 0) hx hb dX3_behind_58 (by decide) ?_
    refine lv_goto (tgt := 74) hx hb dX3_behind_59 (by decide) ?_
    exact w_behind_74 hC hR N k12 hk12 σ x2 x3 x4 x5 x7 0 x5 x6 h hP hS (lv_sub hl [1, 2, 3, 4, 5, 7] rfl)
def f_behind_12 (N : Nat) : Nat → MS → Int32 → Int32 → Int32 → Int32 → Int32 → Int32 → Option (Int32 × MS)
  | 0, _, _, _, _, _, _, _ => none
  | n + 1, σ, x2, x3, x4, x5, x6, x7 =>
    if (σ.1 24) ≤ x7 then
    some (x6, σ)
    else
    if x7 = x3 then
    if mIn x2 (mLen 31) = true then mlet (σ.2.1 31 x2.toNatClampNeg) fun y6 =>
    f_behind_46 N (f_behind_12 N n) σ x2 x3 x4 x5 x6 x7 y6 (x4 - x4 / 5 * 5)
    else none
    else
    if mIn x2 (mLen 30) = true then mlet (σ.2.1 30 x2.toNatClampNeg) fun y4 =>
    f_behind_46 N (f_behind_12 N n) σ x2 x3 x4 x5 x6 x7 y4 (x4 - x4 / 5 * 5)
    else none
set_option maxHeartbeats 4000000 in
set_option maxRecDepth 100000 in
theorem w_behind_12 {p : Program} {l : Launch} {e : Env} {R : Room} {s : State} {m : MethodId} {args : Array Value} {below : List Frame} {meth : Method} {c : Code} {E : mE} {σ' : MS} {r : Int32} (hC : mC p s m args meth c E cX3_behind 9 (some .int)) (hR : 0 ≤ R.frames ∧ 0 ≤ R.locals) (N : Nat) : ∀ (n : Nat) (σ : MS) (x2 : Int32) (x3 : Int32) (x4 : Int32) (x5 : Int32) (x6 : Int32) (x7 : Int32), f_behind_12 N n σ x2 x3 x4 x5 x6 x7 = some (r, σ') → ∀ (H : Heap) (locs : List Loc), mP E σ H → va_S (mA E s.heap.size) s.heap H locs → ∀ ls : Array Slot, lv_has ls 9 [(0, .ref (mh E)), (2, .int x2), (3, .int x3), (4, .int x4), (5, .int x5), (6, .int x6), (7, .int x7)] → W p l e R s m args below meth c H locs 0 0 (MQ below (mQi E s.heap.size r σ') args s 0 0 (mA E s.heap.size)) (F0 m 12 ls []) := by
  obtain ⟨⟨hx, hb, hml, hown, hts⟩, hK, hD, hr, hlk⟩ := id hC
  intro n
  induction n with
  | zero =>
    intro σ x2 x3 x4 x5 x6 x7 h
    cases h
  | succ n ih =>
    intro σ x2 x3 x4 x5 x6 x7 h H locs hP hS ls hl
    unfold f_behind_12 at h
    refine lv_iload hx hb dX3_behind_12 (lv_at hl 6 rfl) ?_
    refine lv_aload_n hx hb dX3_behind_14 rfl (lv_at hl 0 rfl) ?_
    refine m_geti hC hP 24 (by decide) rfl q1917 dX3_behind_15 ?_
    refine lv_icmp_ge (tgt := 96) hx hb dX3_behind_18 (by decide) (fun c1 => ?_) (fun c1 => ?_)
    · have h := mif_t c1 h
      refine lv_iload hx hb dX3_behind_96 (lv_at hl 5 rfl) ?_
      cases h
      exact m_iret hC hP hS dX3_behind_98
    · have h := mif_f c1 h
      refine lv_iload hx hb dX3_behind_21 (lv_at hl 3 rfl) ?_
      refine lv_iconst (v := 5) hx hb dX3_behind_23 (by decide) ?_
      refine lv_irem hx hb dX3_behind_24 (by decide) ?_
      refine lv_iload hx hb dX3_behind_25 (lv_at hl 6 rfl) ?_
      refine lv_iload_n hx hb dX3_behind_27 rfl (lv_at hl 2 rfl) ?_
      refine lv_icmp_ne (tgt := 40) hx hb dX3_behind_28 (by decide) (fun c2 => ?_) (fun c2 => ?_)
      · have h := mif_f c2 h
        refine lv_aload_n hx hb dX3_behind_40 rfl (lv_at hl 0 rfl) ?_
        refine m_geta hC hP 30 (by decide) rfl q1923 dX3_behind_41 ?_
        refine lv_iload_n hx hb dX3_behind_44 rfl (lv_at hl 1 rfl) ?_
        obtain ⟨c3, h⟩ := mif_n h
        refine m_ald hC hP 30 rfl c3 dX3_behind_45 ?_
        refine lv_topi (fun y4 ey4 => ?_)
        have h := mlet_at ey4 h
        exact w_behind_46 hC hR N (f_behind_12 N n) ih σ x2 x3 x4 x5 x6 x7 y4 (x4 - x4 / 5 * 5) h hP hS (lv_sub hl [0, 1, 2, 3, 4, 5, 6] rfl)
      · have h := mif_t c2 h
        refine lv_aload_n hx hb dX3_behind_31 rfl (lv_at hl 0 rfl) ?_
        refine m_geta hC hP 31 (by decide) rfl q1924 dX3_behind_32 ?_
        refine lv_iload_n hx hb dX3_behind_35 rfl (lv_at hl 1 rfl) ?_
        obtain ⟨c5, h⟩ := mif_n h
        refine m_ald hC hP 31 rfl c5 dX3_behind_36 ?_
        refine lv_topi (fun y6 ey6 => ?_)
        have h := mlet_at ey6 h
        refine lv_goto (tgt := 46) hx hb dX3_behind_37 (by decide) ?_
        exact w_behind_46 hC hR N (f_behind_12 N n) ih σ x2 x3 x4 x5 x6 x7 y6 (x4 - x4 / 5 * 5) h hP hS (lv_sub hl [0, 1, 2, 3, 4, 5, 6] rfl)
def f_behind (N : Nat) (σ : MS) (x1 : Int32) (x2 : Int32) (x3 : Int32) : Option (Int32 × MS) :=
    f_behind_12 N N σ x2 x3 x1 1 0 0
set_option maxHeartbeats 4000000 in
set_option maxRecDepth 100000 in
theorem w_behind_0 {p : Program} {l : Launch} {e : Env} {R : Room} {s : State} {m : MethodId} {args : Array Value} {below : List Frame} {meth : Method} {c : Code} {E : mE} {σ' : MS} {r : Int32} (hC : mC p s m args meth c E cX3_behind 9 (some .int)) (hR : 0 ≤ R.frames ∧ 0 ≤ R.locals) (N : Nat) (σ : MS) (x1 : Int32) (x2 : Int32) (x3 : Int32) (h : f_behind N σ x1 x2 x3 = some (r, σ')) {H : Heap} {locs : List Loc} (hP : mP E σ H) (hS : va_S (mA E s.heap.size) s.heap H locs) {ls : Array Slot} (hl : lv_has ls 9 [(0, .ref (mh E)), (1, .int x1), (2, .int x2), (3, .int x3)]) : W p l e R s m args below meth c H locs 0 0 (MQ below (mQi E s.heap.size r σ') args s 0 0 (mA E s.heap.size)) (F0 m 0 ls []) := by
  obtain ⟨⟨hx, hb, hml, hown, hts⟩, hK, hD, hr, hlk⟩ := id hC
  unfold f_behind at h
  refine lv_iload_n hx hb dX3_behind_0 rfl (lv_at hl 1 rfl) ?_
  refine lv_istore (lv' := [(4, .int x1), (0, .ref (mh E)), (1, .int x1), (2, .int x2), (3, .int x3)]) hx hb dX3_behind_1 hl (by decide) rfl (fun ls hl => ?_)
  refine lv_iconst (v := 1) hx hb dX3_behind_3 (by decide) ?_
  refine lv_istore (lv' := [(5, .int 1), (4, .int x1), (0, .ref (mh E)), (1, .int x1), (2, .int x2), (3, .int x3)]) hx hb dX3_behind_4 hl (by decide) rfl (fun ls hl => ?_)
  refine lv_iconst (v := 0) hx hb dX3_behind_6 (by decide) ?_
  refine lv_istore (lv' := [(6, .int 0), (5, .int 1), (4, .int x1), (0, .ref (mh E)), (1, .int x1), (2, .int x2), (3, .int x3)]) hx hb dX3_behind_7 hl (by decide) rfl (fun ls hl => ?_)
  refine lv_iconst (v := 0) hx hb dX3_behind_9 (by decide) ?_
  refine lv_istore (lv' := [(7, .int 0), (6, .int 0), (5, .int 1), (4, .int x1), (0, .ref (mh E)), (1, .int x1), (2, .int x2), (3, .int x3)]) hx hb dX3_behind_10 hl (by decide) rfl (fun ls hl => ?_)
  exact w_behind_12 hC hR N N σ x2 x3 x1 1 0 0 h _ _ hP hS _ (lv_sub hl [4, 6, 7, 3, 2, 1, 0] rfl)
theorem met_behind (l : Launch) (N : Nat) (E : mE) (sz : Nat) (σ : MS) (x1 : Int32) (x2 : Int32) (x3 : Int32) (r : Int32) (σ' : MS) (h : f_behind N σ x1 x2 x3 = some (r, σ')) : Met l yX3_behind (ws_ yX3_behind cX3_behind 9 (some .int)) ({ frames := 0, cells := 0, slots := 0, locals := 0 }) (mPc E sz σ [.ref (mh E), .int x1, .int x2, .int x3]) (mQi E sz r σ') 0 0 (mA E sz) :=
  m_met (Qc := fun z => mQi E z r σ') (by decide) rfl (Nat.le_of_ble_eq_true rfl) (fun hC ls hl hP => w_behind_0 hC ⟨Nat.le_refl _, Nat.le_refl _⟩ N σ x1 x2 x3 h hP va_S.rf hl)
def f_digs_180 (N : Nat) (k67 : MS → Int32 → Int32 → Option (MS)) (k75 : MS → Int32 → Int32 → Int32 → Option (MS)) (k83 : MS → Int32 → Int32 → Int32 → Int32 → Option (MS)) (k95 : MS → Int32 → Int32 → Int32 → Int32 → Int32 → Option (MS)) (σ : MS) (x1 : Int32) (x2 : Int32) (x3 : Int32) (x4 : Int32) (x5 : Int32) : Option (MS) :=
    mlet (x5 + 1) fun y1 =>
    k95 σ x1 x2 x3 x4 y1
set_option maxHeartbeats 4000000 in
set_option maxRecDepth 100000 in
theorem w_digs_180 {p : Program} {l : Launch} {e : Env} {R : Room} {s : State} {m : MethodId} {args : Array Value} {below : List Frame} {meth : Method} {c : Code} {E : mE} {σ' : MS} (hC : mC p s m args meth c E cX3_digs 7 none) (hR : 1 ≤ R.frames ∧ 28 ≤ R.locals) (N : Nat) (k67 : MS → Int32 → Int32 → Option (MS)) (hk67 : ∀ (σ : MS) (x1 : Int32) (x2 : Int32), k67 σ x1 x2 = some σ' → ∀ (H : Heap) (locs : List Loc), mP E σ H → va_S (mA E s.heap.size) s.heap H locs → ∀ ls : Array Slot, lv_has ls 7 [(0, .ref (mh E)), (1, .int x1), (2, .int x2)] → W p l e R s m args below meth c H locs 0 0 (MQ below (mQv E s.heap.size σ') args s 0 0 (mA E s.heap.size)) (F0 m 67 ls [])) (k75 : MS → Int32 → Int32 → Int32 → Option (MS)) (hk75 : ∀ (σ : MS) (x1 : Int32) (x2 : Int32) (x3 : Int32), k75 σ x1 x2 x3 = some σ' → ∀ (H : Heap) (locs : List Loc), mP E σ H → va_S (mA E s.heap.size) s.heap H locs → ∀ ls : Array Slot, lv_has ls 7 [(0, .ref (mh E)), (1, .int x1), (2, .int x2), (3, .int x3)] → W p l e R s m args below meth c H locs 0 0 (MQ below (mQv E s.heap.size σ') args s 0 0 (mA E s.heap.size)) (F0 m 75 ls [])) (k83 : MS → Int32 → Int32 → Int32 → Int32 → Option (MS)) (hk83 : ∀ (σ : MS) (x1 : Int32) (x2 : Int32) (x3 : Int32) (x4 : Int32), k83 σ x1 x2 x3 x4 = some σ' → ∀ (H : Heap) (locs : List Loc), mP E σ H → va_S (mA E s.heap.size) s.heap H locs → ∀ ls : Array Slot, lv_has ls 7 [(0, .ref (mh E)), (1, .int x1), (2, .int x2), (3, .int x3), (4, .int x4)] → W p l e R s m args below meth c H locs 0 0 (MQ below (mQv E s.heap.size σ') args s 0 0 (mA E s.heap.size)) (F0 m 83 ls [])) (k95 : MS → Int32 → Int32 → Int32 → Int32 → Int32 → Option (MS)) (hk95 : ∀ (σ : MS) (x1 : Int32) (x2 : Int32) (x3 : Int32) (x4 : Int32) (x5 : Int32), k95 σ x1 x2 x3 x4 x5 = some σ' → ∀ (H : Heap) (locs : List Loc), mP E σ H → va_S (mA E s.heap.size) s.heap H locs → ∀ ls : Array Slot, lv_has ls 7 [(0, .ref (mh E)), (1, .int x1), (2, .int x2), (3, .int x3), (4, .int x4), (5, .int x5)] → W p l e R s m args below meth c H locs 0 0 (MQ below (mQv E s.heap.size σ') args s 0 0 (mA E s.heap.size)) (F0 m 95 ls [])) (σ : MS) (x1 : Int32) (x2 : Int32) (x3 : Int32) (x4 : Int32) (x5 : Int32) (h : f_digs_180 N k67 k75 k83 k95 σ x1 x2 x3 x4 x5 = some σ') {H : Heap} {locs : List Loc} (hP : mP E σ H) (hS : va_S (mA E s.heap.size) s.heap H locs) {ls : Array Slot} (hl : lv_has ls 7 [(0, .ref (mh E)), (1, .int x1), (2, .int x2), (3, .int x3), (4, .int x4), (5, .int x5)]) : W p l e R s m args below meth c H locs 0 0 (MQ below (mQv E s.heap.size σ') args s 0 0 (mA E s.heap.size)) (F0 m 180 ls []) := by
  obtain ⟨⟨hx, hb, hml, hown, hts⟩, hK, hD, hr, hlk⟩ := id hC
  unfold f_digs_180 at h
  obtain ⟨y1, ey1⟩ : ∃ z : Int32, z = x5 + 1 := ⟨_, rfl⟩
  have h := mlet_at ey1 h
  refine lv_iinc (v := y1) (lv' := [(5, .int y1), (0, .ref (mh E)), (1, .int x1), (2, .int x2), (3, .int x3), (4, .int x4)]) hx hb dX3_digs_180 hl (k := 5) rfl (by rw [ey1]; rfl) (by decide) rfl (fun ls hl => ?_)
  refine lv_goto (tgt := 95) hx hb dX3_digs_183 (by decide) ?_
  exact hk95 σ x1 x2 x3 x4 y1 h _ _ hP hS _ (lv_sub hl [1, 2, 3, 4, 5, 0] rfl)
def f_digs_95 (N : Nat) (k67 : MS → Int32 → Int32 → Option (MS)) (k75 : MS → Int32 → Int32 → Int32 → Option (MS)) (k83 : MS → Int32 → Int32 → Int32 → Int32 → Option (MS)) : Nat → MS → Int32 → Int32 → Int32 → Int32 → Int32 → Option (MS)
  | 0, _, _, _, _, _, _ => none
  | n + 1, σ, x1, x2, x3, x4, x5 =>
    if (σ.1 24) ≤ x5 then
    mlet (x4 + 1) fun y2 =>
    k83 σ x1 x2 x3 y2
    else
    mcall (f_behind N σ x3 x4 x5) fun r5 σ3 =>
    if mIn r5 (mLen 68) = true then mlet (σ3.2.1 68 r5.toNatClampNeg) fun y7 =>
    if y7 = 2000000000 then
    f_digs_180 N k67 k75 k83 (f_digs_95 N k67 k75 k83 n) σ3 x1 x2 x3 x4 x5
    else
    if mIn x4 (mLen 32) = true then mlet (σ3.2.1 32 x4.toNatClampNeg) fun y10 =>
    if mIn x3 (mLen 68) = true then mlet (σ3.2.1 68 x3.toNatClampNeg) fun y12 =>
    if ((y7 + (10000 * y10)) + 1) < y12 then
    if mIn x4 (mLen 32) = true then mlet (σ3.2.1 32 x4.toNatClampNeg) fun y15 =>
    if mIn x3 (mLen 68) = true then mlet (mArr σ3 68 x3.toNatClampNeg ((y7 + (10000 * y15)) + 1)) fun σ17 =>
    f_digs_180 N k67 k75 k83 (f_digs_95 N k67 k75 k83 n) σ17 x1 1 x3 x4 x5
    else none
    else none
    else
    f_digs_180 N k67 k75 k83 (f_digs_95 N k67 k75 k83 n) σ3 x1 x2 x3 x4 x5
    else none
    else none
    else none
set_option maxHeartbeats 4000000 in
set_option maxRecDepth 100000 in
theorem w_digs_95 {p : Program} {l : Launch} {e : Env} {R : Room} {s : State} {m : MethodId} {args : Array Value} {below : List Frame} {meth : Method} {c : Code} {E : mE} {σ' : MS} (hC : mC p s m args meth c E cX3_digs 7 none) (hR : 1 ≤ R.frames ∧ 28 ≤ R.locals) (N : Nat) (k67 : MS → Int32 → Int32 → Option (MS)) (hk67 : ∀ (σ : MS) (x1 : Int32) (x2 : Int32), k67 σ x1 x2 = some σ' → ∀ (H : Heap) (locs : List Loc), mP E σ H → va_S (mA E s.heap.size) s.heap H locs → ∀ ls : Array Slot, lv_has ls 7 [(0, .ref (mh E)), (1, .int x1), (2, .int x2)] → W p l e R s m args below meth c H locs 0 0 (MQ below (mQv E s.heap.size σ') args s 0 0 (mA E s.heap.size)) (F0 m 67 ls [])) (k75 : MS → Int32 → Int32 → Int32 → Option (MS)) (hk75 : ∀ (σ : MS) (x1 : Int32) (x2 : Int32) (x3 : Int32), k75 σ x1 x2 x3 = some σ' → ∀ (H : Heap) (locs : List Loc), mP E σ H → va_S (mA E s.heap.size) s.heap H locs → ∀ ls : Array Slot, lv_has ls 7 [(0, .ref (mh E)), (1, .int x1), (2, .int x2), (3, .int x3)] → W p l e R s m args below meth c H locs 0 0 (MQ below (mQv E s.heap.size σ') args s 0 0 (mA E s.heap.size)) (F0 m 75 ls [])) (k83 : MS → Int32 → Int32 → Int32 → Int32 → Option (MS)) (hk83 : ∀ (σ : MS) (x1 : Int32) (x2 : Int32) (x3 : Int32) (x4 : Int32), k83 σ x1 x2 x3 x4 = some σ' → ∀ (H : Heap) (locs : List Loc), mP E σ H → va_S (mA E s.heap.size) s.heap H locs → ∀ ls : Array Slot, lv_has ls 7 [(0, .ref (mh E)), (1, .int x1), (2, .int x2), (3, .int x3), (4, .int x4)] → W p l e R s m args below meth c H locs 0 0 (MQ below (mQv E s.heap.size σ') args s 0 0 (mA E s.heap.size)) (F0 m 83 ls [])) : ∀ (n : Nat) (σ : MS) (x1 : Int32) (x2 : Int32) (x3 : Int32) (x4 : Int32) (x5 : Int32), f_digs_95 N k67 k75 k83 n σ x1 x2 x3 x4 x5 = some σ' → ∀ (H : Heap) (locs : List Loc), mP E σ H → va_S (mA E s.heap.size) s.heap H locs → ∀ ls : Array Slot, lv_has ls 7 [(0, .ref (mh E)), (1, .int x1), (2, .int x2), (3, .int x3), (4, .int x4), (5, .int x5)] → W p l e R s m args below meth c H locs 0 0 (MQ below (mQv E s.heap.size σ') args s 0 0 (mA E s.heap.size)) (F0 m 95 ls []) := by
  obtain ⟨⟨hx, hb, hml, hown, hts⟩, hK, hD, hr, hlk⟩ := id hC
  intro n
  induction n with
  | zero =>
    intro σ x1 x2 x3 x4 x5 h
    cases h
  | succ n ih =>
    intro σ x1 x2 x3 x4 x5 h H locs hP hS ls hl
    unfold f_digs_95 at h
    refine lv_iload hx hb dX3_digs_95 (lv_at hl 5 rfl) ?_
    refine lv_aload_n hx hb dX3_digs_97 rfl (lv_at hl 0 rfl) ?_
    refine m_geti hC hP 24 (by decide) rfl q1917 dX3_digs_98 ?_
    refine lv_icmp_ge (tgt := 186) hx hb dX3_digs_101 (by decide) (fun c1 => ?_) (fun c1 => ?_)
    · have h := mif_t c1 h
      obtain ⟨y2, ey2⟩ : ∃ z : Int32, z = x4 + 1 := ⟨_, rfl⟩
      have h := mlet_at ey2 h
      refine lv_iinc (v := y2) (lv' := [(4, .int y2), (0, .ref (mh E)), (1, .int x1), (2, .int x2), (3, .int x3), (5, .int x5)]) hx hb dX3_digs_186 hl (k := 4) rfl (by rw [ey2]; rfl) (by decide) rfl (fun ls hl => ?_)
      refine lv_goto (tgt := 83) hx hb dX3_digs_189 (by decide) ?_
      exact hk83 σ x1 x2 x3 y2 h _ _ hP hS _ (lv_sub hl [1, 2, 3, 4, 0] rfl)
    · have h := mif_f c1 h
      refine lv_aload_n hx hb dX3_digs_104 rfl (lv_at hl 0 rfl) ?_
      refine m_geta hC hP 68 (by decide) rfl q1961 dX3_digs_105 ?_
      refine lv_aload_n hx hb dX3_digs_108 rfl (lv_at hl 0 rfl) ?_
      refine lv_iload_n hx hb dX3_digs_109 rfl (lv_at hl 3 rfl) ?_
      refine lv_iload hx hb dX3_digs_110 (lv_at hl 4 rfl) ?_
      refine lv_iload hx hb dX3_digs_112 (lv_at hl 5 rfl) ?_
      obtain ⟨r5, σ3, c4, h⟩ := mcall_n h
      refine m_calli (As := [.int x3, .int x4, .int x5]) (rest := [.ref (mad E 68)]) hC (met_behind l N E H.size σ x3 x4 x5 r5 σ3 c4) (cwV 3 hts (lw_V q2521 q2523 qs94 q103 q2524) rfl rfl rfl (by decide +kernel) ⟨Nat.le_trans (Nat.le_of_ble_eq_true rfl) hR.1, Nat.le_trans (Nat.le_of_ble_eq_true rfl) hR.2⟩) hP hS rfl hl.1 rfl (Nat.le_of_ble_eq_true rfl) dX3_digs_114 (fun H locs hP hS => ?_)
      obtain ⟨c6, h⟩ := mif_n h
      refine m_ald hC hP 68 rfl c6 dX3_digs_117 ?_
      refine lv_topi (fun y7 ey7 => ?_)
      have h := mlet_at ey7 h
      refine lv_istore (lv' := [(6, .int y7), (0, .ref (mh E)), (1, .int x1), (2, .int x2), (3, .int x3), (4, .int x4), (5, .int x5)]) hx hb dX3_digs_118 hl (by decide) rfl (fun ls hl => ?_)
      refine lv_iload hx hb dX3_digs_120 (lv_at hl 0 rfl) ?_
      refine lv_ldcw hx hb hown (hts _ q2520) dX3_digs_122 ?_
      refine lv_icmp_eq (tgt := 180) hx hb dX3_digs_125 (by decide) (fun c8 => ?_) (fun c8 => ?_)
      · have h := mif_t c8 h
        exact w_digs_180 hC hR N k67 hk67 k75 hk75 k83 hk83 (f_digs_95 N k67 k75 k83 n) ih σ3 x1 x2 x3 x4 x5 h hP hS (lv_sub hl [1, 2, 3, 4, 5, 6] rfl)
      · have h := mif_f c8 h
        refine lv_iload hx hb dX3_digs_128 (lv_at hl 0 rfl) ?_
        refine lv_sipush (v := 10000) hx hb dX3_digs_130 (by decide) ?_
        refine lv_aload_n hx hb dX3_digs_133 rfl (lv_at hl 1 rfl) ?_
        refine m_geta hC hP 32 (by decide) rfl q1925 dX3_digs_134 ?_
        refine lv_iload hx hb dX3_digs_137 (lv_at hl 5 rfl) ?_
        obtain ⟨c9, h⟩ := mif_n h
        refine m_ald hC hP 32 rfl c9 dX3_digs_139 ?_
        refine lv_topi (fun y10 ey10 => ?_)
        have h := mlet_at ey10 h
        refine lv_imul hx hb dX3_digs_140 ?_
        refine lv_iadd hx hb dX3_digs_141 ?_
        refine lv_iconst (v := 1) hx hb dX3_digs_142 (by decide) ?_
        refine lv_iadd hx hb dX3_digs_143 ?_
        refine lv_aload_n hx hb dX3_digs_144 rfl (lv_at hl 1 rfl) ?_
        refine m_geta hC hP 68 (by decide) rfl q1961 dX3_digs_145 ?_
        refine lv_iload_n hx hb dX3_digs_148 rfl (lv_at hl 4 rfl) ?_
        obtain ⟨c11, h⟩ := mif_n h
        refine m_ald hC hP 68 rfl c11 dX3_digs_149 ?_
        refine lv_topi (fun y12 ey12 => ?_)
        have h := mlet_at ey12 h
        refine lv_icmp_lt (tgt := 156) hx hb dX3_digs_150 (by decide) (fun c13 => ?_) (fun c13 => ?_)
        · have h := mif_t c13 h
          refine lv_aload_n hx hb dX3_digs_156 rfl (lv_at hl 1 rfl) ?_
          refine m_geta hC hP 68 (by decide) rfl q1961 dX3_digs_157 ?_
          refine lv_iload_n hx hb dX3_digs_160 rfl (lv_at hl 4 rfl) ?_
          refine lv_iload hx hb dX3_digs_161 (lv_at hl 0 rfl) ?_
          refine lv_sipush (v := 10000) hx hb dX3_digs_163 (by decide) ?_
          refine lv_aload_n hx hb dX3_digs_166 rfl (lv_at hl 1 rfl) ?_
          refine m_geta hC hP 32 (by decide) rfl q1925 dX3_digs_167 ?_
          refine lv_iload hx hb dX3_digs_170 (lv_at hl 5 rfl) ?_
          obtain ⟨c14, h⟩ := mif_n h
          refine m_ald hC hP 32 rfl c14 dX3_digs_172 ?_
          refine lv_topi (fun y15 ey15 => ?_)
          have h := mlet_at ey15 h
          refine lv_imul hx hb dX3_digs_173 ?_
          refine lv_iadd hx hb dX3_digs_174 ?_
          refine lv_iconst (v := 1) hx hb dX3_digs_175 (by decide) ?_
          refine lv_iadd hx hb dX3_digs_176 ?_
          obtain ⟨c16, h⟩ := mif_n h
          refine m_ast hC hP hS 68 rfl c16 dX3_digs_177 (fun H locs hP hS => ?_)
          obtain ⟨σ17, eσ17⟩ : ∃ z : MS, z = mArr σ3 68 x3.toNatClampNeg ((y7 + (10000 * y15)) + 1) := ⟨_, rfl⟩
          rw [← eσ17] at hP
          have h := mlet_at eσ17 h
          refine lv_iconst (v := 1) hx hb dX3_digs_178 (by decide) ?_
          refine lv_istore_n (lv' := [(2, .int 1), (6, .int y7), (0, .ref (mh E)), (1, .int x1), (3, .int x3), (4, .int x4), (5, .int x5)]) hx hb dX3_digs_179 rfl hl (by decide) rfl (fun ls hl => ?_)
          exact w_digs_180 hC hR N k67 hk67 k75 hk75 k83 hk83 (f_digs_95 N k67 k75 k83 n) ih σ17 x1 1 x3 x4 x5 h hP hS (lv_sub hl [2, 3, 0, 4, 5, 6] rfl)
        · have h := mif_f c13 h
          refine lv_goto (tgt := 180) hx hb dX3_digs_153 (by decide) ?_
          exact w_digs_180 hC hR N k67 hk67 k75 hk75 k83 hk83 (f_digs_95 N k67 k75 k83 n) ih σ3 x1 x2 x3 x4 x5 h hP hS (lv_sub hl [1, 2, 3, 4, 5, 6] rfl)
def f_digs_83 (N : Nat) (k67 : MS → Int32 → Int32 → Option (MS)) (k75 : MS → Int32 → Int32 → Int32 → Option (MS)) : Nat → MS → Int32 → Int32 → Int32 → Int32 → Option (MS)
  | 0, _, _, _, _, _ => none
  | n + 1, σ, x1, x2, x3, x4 =>
    if (σ.1 23) ≤ x4 then
    mlet (x3 + 1) fun y2 =>
    k75 σ x1 x2 y2
    else
    f_digs_95 N k67 k75 (f_digs_83 N k67 k75 n) N σ x1 x2 x3 x4 0
set_option maxHeartbeats 4000000 in
set_option maxRecDepth 100000 in
theorem w_digs_83 {p : Program} {l : Launch} {e : Env} {R : Room} {s : State} {m : MethodId} {args : Array Value} {below : List Frame} {meth : Method} {c : Code} {E : mE} {σ' : MS} (hC : mC p s m args meth c E cX3_digs 7 none) (hR : 1 ≤ R.frames ∧ 28 ≤ R.locals) (N : Nat) (k67 : MS → Int32 → Int32 → Option (MS)) (hk67 : ∀ (σ : MS) (x1 : Int32) (x2 : Int32), k67 σ x1 x2 = some σ' → ∀ (H : Heap) (locs : List Loc), mP E σ H → va_S (mA E s.heap.size) s.heap H locs → ∀ ls : Array Slot, lv_has ls 7 [(0, .ref (mh E)), (1, .int x1), (2, .int x2)] → W p l e R s m args below meth c H locs 0 0 (MQ below (mQv E s.heap.size σ') args s 0 0 (mA E s.heap.size)) (F0 m 67 ls [])) (k75 : MS → Int32 → Int32 → Int32 → Option (MS)) (hk75 : ∀ (σ : MS) (x1 : Int32) (x2 : Int32) (x3 : Int32), k75 σ x1 x2 x3 = some σ' → ∀ (H : Heap) (locs : List Loc), mP E σ H → va_S (mA E s.heap.size) s.heap H locs → ∀ ls : Array Slot, lv_has ls 7 [(0, .ref (mh E)), (1, .int x1), (2, .int x2), (3, .int x3)] → W p l e R s m args below meth c H locs 0 0 (MQ below (mQv E s.heap.size σ') args s 0 0 (mA E s.heap.size)) (F0 m 75 ls [])) : ∀ (n : Nat) (σ : MS) (x1 : Int32) (x2 : Int32) (x3 : Int32) (x4 : Int32), f_digs_83 N k67 k75 n σ x1 x2 x3 x4 = some σ' → ∀ (H : Heap) (locs : List Loc), mP E σ H → va_S (mA E s.heap.size) s.heap H locs → ∀ ls : Array Slot, lv_has ls 7 [(0, .ref (mh E)), (1, .int x1), (2, .int x2), (3, .int x3), (4, .int x4)] → W p l e R s m args below meth c H locs 0 0 (MQ below (mQv E s.heap.size σ') args s 0 0 (mA E s.heap.size)) (F0 m 83 ls []) := by
  obtain ⟨⟨hx, hb, hml, hown, hts⟩, hK, hD, hr, hlk⟩ := id hC
  intro n
  induction n with
  | zero =>
    intro σ x1 x2 x3 x4 h
    cases h
  | succ n ih =>
    intro σ x1 x2 x3 x4 h H locs hP hS ls hl
    unfold f_digs_83 at h
    refine lv_iload hx hb dX3_digs_83 (lv_at hl 4 rfl) ?_
    refine lv_aload_n hx hb dX3_digs_85 rfl (lv_at hl 0 rfl) ?_
    refine m_geti hC hP 23 (by decide) rfl q1916 dX3_digs_86 ?_
    refine lv_icmp_ge (tgt := 192) hx hb dX3_digs_89 (by decide) (fun c1 => ?_) (fun c1 => ?_)
    · have h := mif_t c1 h
      obtain ⟨y2, ey2⟩ : ∃ z : Int32, z = x3 + 1 := ⟨_, rfl⟩
      have h := mlet_at ey2 h
      refine lv_iinc (v := y2) (lv' := [(3, .int y2), (0, .ref (mh E)), (1, .int x1), (2, .int x2), (4, .int x4)]) hx hb dX3_digs_192 hl (k := 3) rfl (by rw [ey2]; rfl) (by decide) rfl (fun ls hl => ?_)
      refine lv_goto (tgt := 75) hx hb dX3_digs_195 (by decide) ?_
      exact hk75 σ x1 x2 y2 h _ _ hP hS _ (lv_sub hl [1, 2, 3, 0] rfl)
    · have h := mif_f c1 h
      refine lv_iconst (v := 0) hx hb dX3_digs_92 (by decide) ?_
      refine lv_istore (lv' := [(5, .int 0), (0, .ref (mh E)), (1, .int x1), (2, .int x2), (3, .int x3), (4, .int x4)]) hx hb dX3_digs_93 hl (by decide) rfl (fun ls hl => ?_)
      exact w_digs_95 hC hR N k67 hk67 k75 hk75 (f_digs_83 N k67 k75 n) ih N σ x1 x2 x3 x4 0 h _ _ hP hS _ (lv_sub hl [1, 2, 3, 4, 5, 0] rfl)
def f_digs_75 (N : Nat) (k67 : MS → Int32 → Int32 → Option (MS)) : Nat → MS → Int32 → Int32 → Int32 → Option (MS)
  | 0, _, _, _, _ => none
  | n + 1, σ, x1, x2, x3 =>
    if x1 ≤ x3 then
    k67 σ x1 x2
    else
    f_digs_83 N k67 (f_digs_75 N k67 n) N σ x1 x2 x3 0
set_option maxHeartbeats 4000000 in
set_option maxRecDepth 100000 in
theorem w_digs_75 {p : Program} {l : Launch} {e : Env} {R : Room} {s : State} {m : MethodId} {args : Array Value} {below : List Frame} {meth : Method} {c : Code} {E : mE} {σ' : MS} (hC : mC p s m args meth c E cX3_digs 7 none) (hR : 1 ≤ R.frames ∧ 28 ≤ R.locals) (N : Nat) (k67 : MS → Int32 → Int32 → Option (MS)) (hk67 : ∀ (σ : MS) (x1 : Int32) (x2 : Int32), k67 σ x1 x2 = some σ' → ∀ (H : Heap) (locs : List Loc), mP E σ H → va_S (mA E s.heap.size) s.heap H locs → ∀ ls : Array Slot, lv_has ls 7 [(0, .ref (mh E)), (1, .int x1), (2, .int x2)] → W p l e R s m args below meth c H locs 0 0 (MQ below (mQv E s.heap.size σ') args s 0 0 (mA E s.heap.size)) (F0 m 67 ls [])) : ∀ (n : Nat) (σ : MS) (x1 : Int32) (x2 : Int32) (x3 : Int32), f_digs_75 N k67 n σ x1 x2 x3 = some σ' → ∀ (H : Heap) (locs : List Loc), mP E σ H → va_S (mA E s.heap.size) s.heap H locs → ∀ ls : Array Slot, lv_has ls 7 [(0, .ref (mh E)), (1, .int x1), (2, .int x2), (3, .int x3)] → W p l e R s m args below meth c H locs 0 0 (MQ below (mQv E s.heap.size σ') args s 0 0 (mA E s.heap.size)) (F0 m 75 ls []) := by
  obtain ⟨⟨hx, hb, hml, hown, hts⟩, hK, hD, hr, hlk⟩ := id hC
  intro n
  induction n with
  | zero =>
    intro σ x1 x2 x3 h
    cases h
  | succ n ih =>
    intro σ x1 x2 x3 h H locs hP hS ls hl
    unfold f_digs_75 at h
    refine lv_iload_n hx hb dX3_digs_75 rfl (lv_at hl 3 rfl) ?_
    refine lv_iload_n hx hb dX3_digs_76 rfl (lv_at hl 1 rfl) ?_
    refine lv_icmp_ge (tgt := 198) hx hb dX3_digs_77 (by decide) (fun c1 => ?_) (fun c1 => ?_)
    · have h := mif_t c1 h
      refine lv_goto (tgt := 67) hx hb dX3_digs_198 (by decide) ?_
      exact hk67 σ x1 x2 h _ _ hP hS _ (lv_sub hl [0, 1, 2] rfl)
    · have h := mif_f c1 h
      refine lv_iconst (v := 0) hx hb dX3_digs_80 (by decide) ?_
      refine lv_istore (lv' := [(4, .int 0), (0, .ref (mh E)), (1, .int x1), (2, .int x2), (3, .int x3)]) hx hb dX3_digs_81 hl (by decide) rfl (fun ls hl => ?_)
      exact w_digs_83 hC hR N k67 hk67 (f_digs_75 N k67 n) ih N σ x1 x2 x3 0 h _ _ hP hS _ (lv_sub hl [1, 2, 3, 4, 0] rfl)
def f_digs_67 (N : Nat) : Nat → MS → Int32 → Int32 → Option (MS)
  | 0, _, _, _ => none
  | n + 1, σ, x1, x2 =>
    if x2 = 0 then
    some σ
    else
    f_digs_75 N (f_digs_67 N n) N σ x1 0 1
set_option maxHeartbeats 4000000 in
set_option maxRecDepth 100000 in
theorem w_digs_67 {p : Program} {l : Launch} {e : Env} {R : Room} {s : State} {m : MethodId} {args : Array Value} {below : List Frame} {meth : Method} {c : Code} {E : mE} {σ' : MS} (hC : mC p s m args meth c E cX3_digs 7 none) (hR : 1 ≤ R.frames ∧ 28 ≤ R.locals) (N : Nat) : ∀ (n : Nat) (σ : MS) (x1 : Int32) (x2 : Int32), f_digs_67 N n σ x1 x2 = some σ' → ∀ (H : Heap) (locs : List Loc), mP E σ H → va_S (mA E s.heap.size) s.heap H locs → ∀ ls : Array Slot, lv_has ls 7 [(0, .ref (mh E)), (1, .int x1), (2, .int x2)] → W p l e R s m args below meth c H locs 0 0 (MQ below (mQv E s.heap.size σ') args s 0 0 (mA E s.heap.size)) (F0 m 67 ls []) := by
  obtain ⟨⟨hx, hb, hml, hown, hts⟩, hK, hD, hr, hlk⟩ := id hC
  intro n
  induction n with
  | zero =>
    intro σ x1 x2 h
    cases h
  | succ n ih =>
    intro σ x1 x2 h H locs hP hS ls hl
    unfold f_digs_67 at h
    refine lv_iload_n hx hb dX3_digs_67 rfl (lv_at hl 2 rfl) ?_
    refine lv_if_eq (tgt := 201) hx hb dX3_digs_68 (by decide) (fun c1 => ?_) (fun c1 => ?_)
    · have h := mif_t c1 h
      cases h
      exact m_vret hC hP hS dX3_digs_201
    · have h := mif_f c1 h
      refine lv_iconst (v := 0) hx hb dX3_digs_71 (by decide) ?_
      refine lv_istore_n (lv' := [(2, .int 0), (0, .ref (mh E)), (1, .int x1)]) hx hb dX3_digs_72 rfl hl (by decide) rfl (fun ls hl => ?_)
      refine lv_iconst (v := 1) hx hb dX3_digs_73 (by decide) ?_
      refine lv_istore_n (lv' := [(3, .int 1), (2, .int 0), (0, .ref (mh E)), (1, .int x1)]) hx hb dX3_digs_74 rfl hl (by decide) rfl (fun ls hl => ?_)
      exact w_digs_75 hC hR N (f_digs_67 N n) ih N σ x1 0 1 h _ _ hP hS _ (lv_sub hl [2, 3, 1, 0] rfl)
def f_digs_58 (N : Nat) (k37 : MS → Int32 → Int32 → Option (MS)) (σ : MS) (x1 : Int32) (x2 : Int32) (s0 : Int32) (s1 : Int32) : Option (MS) :=
    if mIn s1 (mLen 68) = true then mlet (mArr σ 68 s1.toNatClampNeg s0) fun σ2 =>
    mlet (x2 + 1) fun y3 =>
    k37 σ2 x1 y3
    else none
set_option maxHeartbeats 4000000 in
set_option maxRecDepth 100000 in
theorem w_digs_58 {p : Program} {l : Launch} {e : Env} {R : Room} {s : State} {m : MethodId} {args : Array Value} {below : List Frame} {meth : Method} {c : Code} {E : mE} {σ' : MS} (hC : mC p s m args meth c E cX3_digs 7 none) (hR : 1 ≤ R.frames ∧ 28 ≤ R.locals) (N : Nat) (k37 : MS → Int32 → Int32 → Option (MS)) (hk37 : ∀ (σ : MS) (x1 : Int32) (x2 : Int32), k37 σ x1 x2 = some σ' → ∀ (H : Heap) (locs : List Loc), mP E σ H → va_S (mA E s.heap.size) s.heap H locs → ∀ ls : Array Slot, lv_has ls 7 [(0, .ref (mh E)), (1, .int x1), (2, .int x2)] → W p l e R s m args below meth c H locs 0 0 (MQ below (mQv E s.heap.size σ') args s 0 0 (mA E s.heap.size)) (F0 m 37 ls [])) (σ : MS) (x1 : Int32) (x2 : Int32) (s0 : Int32) (s1 : Int32) (h : f_digs_58 N k37 σ x1 x2 s0 s1 = some σ') {H : Heap} {locs : List Loc} (hP : mP E σ H) (hS : va_S (mA E s.heap.size) s.heap H locs) {ls : Array Slot} (hl : lv_has ls 7 [(0, .ref (mh E)), (1, .int x1), (2, .int x2)]) : W p l e R s m args below meth c H locs 0 0 (MQ below (mQv E s.heap.size σ') args s 0 0 (mA E s.heap.size)) (F0 m 58 ls [.int s0, .int s1, .ref (mad E 68)]) := by
  obtain ⟨⟨hx, hb, hml, hown, hts⟩, hK, hD, hr, hlk⟩ := id hC
  unfold f_digs_58 at h
  obtain ⟨c1, h⟩ := mif_n h
  refine m_ast hC hP hS 68 rfl c1 dX3_digs_58 (fun H locs hP hS => ?_)
  obtain ⟨σ2, eσ2⟩ : ∃ z : MS, z = mArr σ 68 s1.toNatClampNeg s0 := ⟨_, rfl⟩
  rw [← eσ2] at hP
  have h := mlet_at eσ2 h
  obtain ⟨y3, ey3⟩ : ∃ z : Int32, z = x2 + 1 := ⟨_, rfl⟩
  have h := mlet_at ey3 h
  refine lv_iinc (v := y3) (lv' := [(2, .int y3), (0, .ref (mh E)), (1, .int x1)]) hx hb dX3_digs_59 hl (k := 2) rfl (by rw [ey3]; rfl) (by decide) rfl (fun ls hl => ?_)
  refine lv_goto (tgt := 37) hx hb dX3_digs_62 (by decide) ?_
  exact hk37 σ2 x1 y3 h _ _ hP hS _ (lv_sub hl [1, 2, 0] rfl)
def f_digs_37 (N : Nat) : Nat → MS → Int32 → Int32 → Option (MS)
  | 0, _, _, _ => none
  | n + 1, σ, x1, x2 =>
    if x1 ≤ x2 then
    f_digs_67 N N σ x1 1
    else
    if x2 = 0 then
    f_digs_58 N (f_digs_37 N n) σ x1 x2 0 x2
    else
    f_digs_58 N (f_digs_37 N n) σ x1 x2 2000000000 x2
set_option maxHeartbeats 4000000 in
set_option maxRecDepth 100000 in
theorem w_digs_37 {p : Program} {l : Launch} {e : Env} {R : Room} {s : State} {m : MethodId} {args : Array Value} {below : List Frame} {meth : Method} {c : Code} {E : mE} {σ' : MS} (hC : mC p s m args meth c E cX3_digs 7 none) (hR : 1 ≤ R.frames ∧ 28 ≤ R.locals) (N : Nat) : ∀ (n : Nat) (σ : MS) (x1 : Int32) (x2 : Int32), f_digs_37 N n σ x1 x2 = some σ' → ∀ (H : Heap) (locs : List Loc), mP E σ H → va_S (mA E s.heap.size) s.heap H locs → ∀ ls : Array Slot, lv_has ls 7 [(0, .ref (mh E)), (1, .int x1), (2, .int x2)] → W p l e R s m args below meth c H locs 0 0 (MQ below (mQv E s.heap.size σ') args s 0 0 (mA E s.heap.size)) (F0 m 37 ls []) := by
  obtain ⟨⟨hx, hb, hml, hown, hts⟩, hK, hD, hr, hlk⟩ := id hC
  intro n
  induction n with
  | zero =>
    intro σ x1 x2 h
    cases h
  | succ n ih =>
    intro σ x1 x2 h H locs hP hS ls hl
    unfold f_digs_37 at h
    refine lv_iload_n hx hb dX3_digs_37 rfl (lv_at hl 2 rfl) ?_
    refine lv_iload_n hx hb dX3_digs_38 rfl (lv_at hl 1 rfl) ?_
    refine lv_icmp_ge (tgt := 65) hx hb dX3_digs_39 (by decide) (fun c1 => ?_) (fun c1 => ?_)
    · have h := mif_t c1 h
      refine lv_iconst (v := 1) hx hb dX3_digs_65 (by decide) ?_
      refine lv_istore_n (lv' := [(2, .int 1), (0, .ref (mh E)), (1, .int x1)]) hx hb dX3_digs_66 rfl hl (by decide) rfl (fun ls hl => ?_)
      exact w_digs_67 hC hR N N σ x1 1 h _ _ hP hS _ (lv_sub hl [1, 2, 0] rfl)
    · have h := mif_f c1 h
      refine lv_aload_n hx hb dX3_digs_42 rfl (lv_at hl 0 rfl) ?_
      refine m_geta hC hP 68 (by decide) rfl q1961 dX3_digs_43 ?_
      refine lv_iload_n hx hb dX3_digs_46 rfl (lv_at hl 2 rfl) ?_
      refine lv_iload_n hx hb dX3_digs_47 rfl (lv_at hl 2 rfl) ?_
      refine lv_if_ne (tgt := 55) hx hb dX3_digs_48 (by decide) (fun c2 => ?_) (fun c2 => ?_)
      · have h := mif_f c2 h
        refine lv_ldcw hx hb hown (hts _ q2520) dX3_digs_55 ?_
        exact w_digs_58 hC hR N (f_digs_37 N n) ih σ x1 x2 2000000000 x2 h hP hS (lv_sub hl [0, 1, 2] rfl)
      · have h := mif_t c2 h
        refine lv_iconst (v := 0) hx hb dX3_digs_51 (by decide) ?_
        refine lv_goto (tgt := 58) hx hb dX3_digs_52 (by decide) ?_
        exact w_digs_58 hC hR N (f_digs_37 N n) ih σ x1 x2 0 x2 h hP hS (lv_sub hl [0, 1, 2] rfl)
def f_digs_17 (N : Nat) : Nat → MS → Int32 → Int32 → Option (MS)
  | 0, _, _, _ => none
  | n + 1, σ, x1, x2 =>
    if (σ.1 24) ≤ x2 then
    f_digs_37 N N σ x1 0
    else
    mlet (x1 * 5) fun y2 =>
    mlet (x2 + 1) fun y3 =>
    f_digs_17 N n σ y2 y3
set_option maxHeartbeats 4000000 in
set_option maxRecDepth 100000 in
theorem w_digs_17 {p : Program} {l : Launch} {e : Env} {R : Room} {s : State} {m : MethodId} {args : Array Value} {below : List Frame} {meth : Method} {c : Code} {E : mE} {σ' : MS} (hC : mC p s m args meth c E cX3_digs 7 none) (hR : 1 ≤ R.frames ∧ 28 ≤ R.locals) (N : Nat) : ∀ (n : Nat) (σ : MS) (x1 : Int32) (x2 : Int32), f_digs_17 N n σ x1 x2 = some σ' → ∀ (H : Heap) (locs : List Loc), mP E σ H → va_S (mA E s.heap.size) s.heap H locs → ∀ ls : Array Slot, lv_has ls 7 [(0, .ref (mh E)), (1, .int x1), (2, .int x2)] → W p l e R s m args below meth c H locs 0 0 (MQ below (mQv E s.heap.size σ') args s 0 0 (mA E s.heap.size)) (F0 m 17 ls []) := by
  obtain ⟨⟨hx, hb, hml, hown, hts⟩, hK, hD, hr, hlk⟩ := id hC
  intro n
  induction n with
  | zero =>
    intro σ x1 x2 h
    cases h
  | succ n ih =>
    intro σ x1 x2 h H locs hP hS ls hl
    unfold f_digs_17 at h
    refine lv_iload_n hx hb dX3_digs_17 rfl (lv_at hl 2 rfl) ?_
    refine lv_aload_n hx hb dX3_digs_18 rfl (lv_at hl 0 rfl) ?_
    refine m_geti hC hP 24 (by decide) rfl q1917 dX3_digs_19 ?_
    refine lv_icmp_ge (tgt := 35) hx hb dX3_digs_22 (by decide) (fun c1 => ?_) (fun c1 => ?_)
    · have h := mif_t c1 h
      refine lv_iconst (v := 0) hx hb dX3_digs_35 (by decide) ?_
      refine lv_istore_n (lv' := [(2, .int 0), (0, .ref (mh E)), (1, .int x1)]) hx hb dX3_digs_36 rfl hl (by decide) rfl (fun ls hl => ?_)
      exact w_digs_37 hC hR N N σ x1 0 h _ _ hP hS _ (lv_sub hl [1, 2, 0] rfl)
    · have h := mif_f c1 h
      refine lv_iload_n hx hb dX3_digs_25 rfl (lv_at hl 1 rfl) ?_
      refine lv_iconst (v := 5) hx hb dX3_digs_26 (by decide) ?_
      refine lv_imul hx hb dX3_digs_27 ?_
      refine lv_topi (fun y2 ey2 => ?_)
      have h := mlet_at ey2 h
      refine lv_istore_n (lv' := [(1, .int y2), (0, .ref (mh E)), (2, .int x2)]) hx hb dX3_digs_28 rfl hl (by decide) rfl (fun ls hl => ?_)
      obtain ⟨y3, ey3⟩ : ∃ z : Int32, z = x2 + 1 := ⟨_, rfl⟩
      have h := mlet_at ey3 h
      refine lv_iinc (v := y3) (lv' := [(2, .int y3), (1, .int y2), (0, .ref (mh E))]) hx hb dX3_digs_29 hl (k := 2) rfl (by rw [ey3]; rfl) (by decide) rfl (fun ls hl => ?_)
      refine lv_goto (tgt := 17) hx hb dX3_digs_32 (by decide) ?_
      exact ih σ y2 y3 h _ _ hP hS _ (lv_sub hl [2, 1, 0] rfl)
def f_digs (N : Nat) (σ : MS) : Option (MS) :=
    if (σ.1 69) = 0 then
    mlet (mSet σ 69 1) fun σ2 =>
    f_digs_17 N N σ2 1 0
    else
    some σ
set_option maxHeartbeats 4000000 in
set_option maxRecDepth 100000 in
theorem w_digs_0 {p : Program} {l : Launch} {e : Env} {R : Room} {s : State} {m : MethodId} {args : Array Value} {below : List Frame} {meth : Method} {c : Code} {E : mE} {σ' : MS} (hC : mC p s m args meth c E cX3_digs 7 none) (hR : 1 ≤ R.frames ∧ 28 ≤ R.locals) (N : Nat) (σ : MS) (h : f_digs N σ = some σ') {H : Heap} {locs : List Loc} (hP : mP E σ H) (hS : va_S (mA E s.heap.size) s.heap H locs) {ls : Array Slot} (hl : lv_has ls 7 [(0, .ref (mh E))]) : W p l e R s m args below meth c H locs 0 0 (MQ below (mQv E s.heap.size σ') args s 0 0 (mA E s.heap.size)) (F0 m 0 ls []) := by
  obtain ⟨⟨hx, hb, hml, hown, hts⟩, hK, hD, hr, hlk⟩ := id hC
  unfold f_digs at h
  refine lv_aload_n hx hb dX3_digs_0 rfl (lv_at hl 0 rfl) ?_
  refine m_geti hC hP 69 (by decide) rfl q1962 dX3_digs_1 ?_
  refine lv_if_eq (tgt := 8) hx hb dX3_digs_4 (by decide) (fun c1 => ?_) (fun c1 => ?_)
  · have h := mif_t c1 h
    refine lv_aload_n hx hb dX3_digs_8 rfl (lv_at hl 0 rfl) ?_
    refine lv_iconst (v := 1) hx hb dX3_digs_9 (by decide) ?_
    refine m_put hC hP hS 69 (by decide) rfl q1962 rfl (ty := .boolean) (tyX3_ok 69 (by decide)) (mBit_n rfl) dX3_digs_10 (fun H locs hP hS => ?_)
    obtain ⟨σ2, eσ2⟩ : ∃ z : MS, z = mSet σ 69 1 := ⟨_, rfl⟩
    rw [← eσ2] at hP
    have h := mlet_at eσ2 h
    refine lv_iconst (v := 1) hx hb dX3_digs_13 (by decide) ?_
    refine lv_istore_n (lv' := [(1, .int 1), (0, .ref (mh E))]) hx hb dX3_digs_14 rfl hl (by decide) rfl (fun ls hl => ?_)
    refine lv_iconst (v := 0) hx hb dX3_digs_15 (by decide) ?_
    refine lv_istore_n (lv' := [(2, .int 0), (1, .int 1), (0, .ref (mh E))]) hx hb dX3_digs_16 rfl hl (by decide) rfl (fun ls hl => ?_)
    exact w_digs_17 hC hR N N σ2 1 0 h _ _ hP hS _ (lv_sub hl [2, 1, 0] rfl)
  · have h := mif_f c1 h
    cases h
    exact m_vret hC hP hS dX3_digs_7
theorem met_digs (l : Launch) (N : Nat) (E : mE) (sz : Nat) (σ : MS) (σ' : MS) (h : f_digs N σ = some σ') : Met l yX3_digs (ws_ yX3_digs cX3_digs 7 none) ({ frames := 1, cells := 0, slots := 0, locals := 28 }) (mPc E sz σ [.ref (mh E)]) (mQv E sz σ') 0 0 (mA E sz) :=
  m_met (Qc := fun z => mQv E z σ') (by decide) rfl (Nat.le_of_ble_eq_true rfl) (fun hC ls hl hP => w_digs_0 hC ⟨Nat.le_refl _, Nat.le_refl _⟩ N σ h hP va_S.rf hl)
def f_digState_9 (N : Nat) : Nat → MS → Int32 → Int32 → Option (Int32 × MS)
  | 0, _, _, _ => none
  | n + 1, σ, x1, x2 =>
    if x2 < 0 then
    some (x1, σ)
    else
    if mIn x2 (mLen 47) = true then mlet (σ.2.1 47 x2.toNatClampNeg) fun y3 =>
    mlet ((5 * x1) + y3) fun y4 =>
    mlet (x2 + (-1)) fun y5 =>
    f_digState_9 N n σ y4 y5
    else none
set_option maxHeartbeats 4000000 in
set_option maxRecDepth 100000 in
theorem w_digState_9 {p : Program} {l : Launch} {e : Env} {R : Room} {s : State} {m : MethodId} {args : Array Value} {below : List Frame} {meth : Method} {c : Code} {E : mE} {σ' : MS} {r : Int32} (hC : mC p s m args meth c E cX3_digState 3 (some .int)) (hR : 0 ≤ R.frames ∧ 0 ≤ R.locals) (N : Nat) : ∀ (n : Nat) (σ : MS) (x1 : Int32) (x2 : Int32), f_digState_9 N n σ x1 x2 = some (r, σ') → ∀ (H : Heap) (locs : List Loc), mP E σ H → va_S (mA E s.heap.size) s.heap H locs → ∀ ls : Array Slot, lv_has ls 3 [(0, .ref (mh E)), (1, .int x1), (2, .int x2)] → W p l e R s m args below meth c H locs 0 0 (MQ below (mQi E s.heap.size r σ') args s 0 0 (mA E s.heap.size)) (F0 m 9 ls []) := by
  obtain ⟨⟨hx, hb, hml, hown, hts⟩, hK, hD, hr, hlk⟩ := id hC
  intro n
  induction n with
  | zero =>
    intro σ x1 x2 h
    cases h
  | succ n ih =>
    intro σ x1 x2 h H locs hP hS ls hl
    unfold f_digState_9 at h
    refine lv_iload_n hx hb dX3_digState_9 rfl (lv_at hl 2 rfl) ?_
    refine lv_if_lt (tgt := 30) hx hb dX3_digState_10 (by decide) (fun c1 => ?_) (fun c1 => ?_)
    · have h := mif_t c1 h
      refine lv_iload_n hx hb dX3_digState_30 rfl (lv_at hl 1 rfl) ?_
      cases h
      exact m_iret hC hP hS dX3_digState_31
    · have h := mif_f c1 h
      refine lv_iconst (v := 5) hx hb dX3_digState_13 (by decide) ?_
      refine lv_iload_n hx hb dX3_digState_14 rfl (lv_at hl 1 rfl) ?_
      refine lv_imul hx hb dX3_digState_15 ?_
      refine lv_aload_n hx hb dX3_digState_16 rfl (lv_at hl 0 rfl) ?_
      refine m_geta hC hP 47 (by decide) rfl q1940 dX3_digState_17 ?_
      refine lv_iload_n hx hb dX3_digState_20 rfl (lv_at hl 2 rfl) ?_
      obtain ⟨c2, h⟩ := mif_n h
      refine m_ald hC hP 47 rfl c2 dX3_digState_21 ?_
      refine lv_topi (fun y3 ey3 => ?_)
      have h := mlet_at ey3 h
      refine lv_iadd hx hb dX3_digState_22 ?_
      refine lv_topi (fun y4 ey4 => ?_)
      have h := mlet_at ey4 h
      refine lv_istore_n (lv' := [(1, .int y4), (0, .ref (mh E)), (2, .int x2)]) hx hb dX3_digState_23 rfl hl (by decide) rfl (fun ls hl => ?_)
      obtain ⟨y5, ey5⟩ : ∃ z : Int32, z = x2 + (-1) := ⟨_, rfl⟩
      have h := mlet_at ey5 h
      refine lv_iinc (v := y5) (lv' := [(2, .int y5), (1, .int y4), (0, .ref (mh E))]) hx hb dX3_digState_24 hl (k := 2) rfl (by rw [ey5]; rfl) (by decide) rfl (fun ls hl => ?_)
      refine lv_goto (tgt := 9) hx hb dX3_digState_27 (by decide) ?_
      exact ih σ y4 y5 h _ _ hP hS _ (lv_sub hl [2, 1, 0] rfl)
def f_digState (N : Nat) (σ : MS) : Option (Int32 × MS) :=
    mlet ((σ.1 24) - 1) fun y1 =>
    f_digState_9 N N σ 0 y1
set_option maxHeartbeats 4000000 in
set_option maxRecDepth 100000 in
theorem w_digState_0 {p : Program} {l : Launch} {e : Env} {R : Room} {s : State} {m : MethodId} {args : Array Value} {below : List Frame} {meth : Method} {c : Code} {E : mE} {σ' : MS} {r : Int32} (hC : mC p s m args meth c E cX3_digState 3 (some .int)) (hR : 0 ≤ R.frames ∧ 0 ≤ R.locals) (N : Nat) (σ : MS) (h : f_digState N σ = some (r, σ')) {H : Heap} {locs : List Loc} (hP : mP E σ H) (hS : va_S (mA E s.heap.size) s.heap H locs) {ls : Array Slot} (hl : lv_has ls 3 [(0, .ref (mh E))]) : W p l e R s m args below meth c H locs 0 0 (MQ below (mQi E s.heap.size r σ') args s 0 0 (mA E s.heap.size)) (F0 m 0 ls []) := by
  obtain ⟨⟨hx, hb, hml, hown, hts⟩, hK, hD, hr, hlk⟩ := id hC
  unfold f_digState at h
  refine lv_iconst (v := 0) hx hb dX3_digState_0 (by decide) ?_
  refine lv_istore_n (lv' := [(1, .int 0), (0, .ref (mh E))]) hx hb dX3_digState_1 rfl hl (by decide) rfl (fun ls hl => ?_)
  refine lv_aload_n hx hb dX3_digState_2 rfl (lv_at hl 1 rfl) ?_
  refine m_geti hC hP 24 (by decide) rfl q1917 dX3_digState_3 ?_
  refine lv_iconst (v := 1) hx hb dX3_digState_6 (by decide) ?_
  refine lv_isub hx hb dX3_digState_7 ?_
  refine lv_topi (fun y1 ey1 => ?_)
  have h := mlet_at ey1 h
  refine lv_istore_n (lv' := [(2, .int y1), (1, .int 0), (0, .ref (mh E))]) hx hb dX3_digState_8 rfl hl (by decide) rfl (fun ls hl => ?_)
  exact w_digState_9 hC hR N N σ 0 y1 h _ _ hP hS _ (lv_sub hl [2, 1, 0] rfl)
theorem met_digState (l : Launch) (N : Nat) (E : mE) (sz : Nat) (σ : MS) (r : Int32) (σ' : MS) (h : f_digState N σ = some (r, σ')) : Met l yX3_digState (ws_ yX3_digState cX3_digState 3 (some .int)) ({ frames := 0, cells := 0, slots := 0, locals := 0 }) (mPc E sz σ [.ref (mh E)]) (mQi E sz r σ') 0 0 (mA E sz) :=
  m_met (Qc := fun z => mQi E z r σ') (by decide) rfl (Nat.le_of_ble_eq_true rfl) (fun hC ls hl hP => w_digState_0 hC ⟨Nat.le_refl _, Nat.le_refl _⟩ N σ h hP va_S.rf hl)
def f_out_52 (N : Nat) (σ : MS) (s0 : Int32) : Option (Int32 × MS) :=
    some (s0, σ)
set_option maxHeartbeats 4000000 in
set_option maxRecDepth 100000 in
theorem w_out_52 {p : Program} {l : Launch} {e : Env} {R : Room} {s : State} {m : MethodId} {args : Array Value} {below : List Frame} {meth : Method} {c : Code} {E : mE} {σ' : MS} {r : Int32} (hC : mC p s m args meth c E cX3_out 2 (some .int)) (hR : 2 ≤ R.frames ∧ 54 ≤ R.locals) (N : Nat) (σ : MS) (s0 : Int32) (h : f_out_52 N σ s0 = some (r, σ')) {H : Heap} {locs : List Loc} (hP : mP E σ H) (hS : va_S (mA E s.heap.size) s.heap H locs) {ls : Array Slot} (hl : lv_has ls 2 []) : W p l e R s m args below meth c H locs 0 0 (MQ below (mQi E s.heap.size r σ') args s 0 0 (mA E s.heap.size)) (F0 m 52 ls [.int s0]) := by
  obtain ⟨⟨hx, hb, hml, hown, hts⟩, hK, hD, hr, hlk⟩ := id hC
  unfold f_out_52 at h
  cases h
  exact m_iret hC hP hS dX3_out_52
def f_out (N : Nat) (σ : MS) : Option (Int32 × MS) :=
    mcallv (f_good N σ) fun σ1 =>
    if (σ1.1 12) = 0 then
    mcall (f_no N σ1 1) fun r17 σ15 =>
    some (r17, σ15)
    else
    mcallv (f_digs N σ1) fun σ4 =>
    mcall (f_digState N σ4) fun r8 σ6 =>
    if mIn r8 (mLen 68) = true then mlet (σ6.2.1 68 r8.toNatClampNeg) fun y10 =>
    if y10 = 2000000000 then
    mcall (f_no N σ6 6) fun r14 σ12 =>
    f_out_52 N σ12 r14
    else
    f_out_52 N σ6 (y10 / 10000)
    else none
set_option maxHeartbeats 4000000 in
set_option maxRecDepth 100000 in
theorem w_out_0 {p : Program} {l : Launch} {e : Env} {R : Room} {s : State} {m : MethodId} {args : Array Value} {below : List Frame} {meth : Method} {c : Code} {E : mE} {σ' : MS} {r : Int32} (hC : mC p s m args meth c E cX3_out 2 (some .int)) (hR : 2 ≤ R.frames ∧ 54 ≤ R.locals) (N : Nat) (σ : MS) (h : f_out N σ = some (r, σ')) {H : Heap} {locs : List Loc} (hP : mP E σ H) (hS : va_S (mA E s.heap.size) s.heap H locs) {ls : Array Slot} (hl : lv_has ls 2 [(0, .ref (mh E))]) : W p l e R s m args below meth c H locs 0 0 (MQ below (mQi E s.heap.size r σ') args s 0 0 (mA E s.heap.size)) (F0 m 0 ls []) := by
  obtain ⟨⟨hx, hb, hml, hown, hts⟩, hK, hD, hr, hlk⟩ := id hC
  unfold f_out at h
  refine lv_aload_n hx hb dX3_out_0 rfl (lv_at hl 0 rfl) ?_
  obtain ⟨σ1, c2, h⟩ := mcallv_n h
  refine m_callv (As := []) (rest := []) hC (met_good l N E H.size σ σ1 c2) (cwV 0 hts (lw_V q2131 q2133 qs40 q103 q2134) rfl rfl rfl (by decide +kernel) ⟨Nat.le_trans (Nat.le_of_ble_eq_true rfl) hR.1, Nat.le_trans (Nat.le_of_ble_eq_true rfl) hR.2⟩) hP hS rfl hl.1 rfl (Nat.le_of_ble_eq_true rfl) dX3_out_1 (fun H locs hP hS => ?_)
  refine lv_aload_n hx hb dX3_out_4 rfl (lv_at hl 0 rfl) ?_
  refine m_geti hC hP 12 (by decide) rfl q1905 dX3_out_5 ?_
  refine lv_if_ne (tgt := 17) hx hb dX3_out_8 (by decide) (fun c3 => ?_) (fun c3 => ?_)
  · have h := mif_f c3 h
    refine lv_aload_n hx hb dX3_out_17 rfl (lv_at hl 0 rfl) ?_
    obtain ⟨σ4, c5, h⟩ := mcallv_n h
    refine m_callv (As := []) (rest := []) hC (met_digs l N E H.size σ1 σ4 c5) (cwV 0 hts (lw_V q2516 q2518 qs93 q103 q2519) rfl rfl rfl (by decide +kernel) ⟨Nat.le_trans (Nat.le_of_ble_eq_true rfl) hR.1, Nat.le_trans (Nat.le_of_ble_eq_true rfl) hR.2⟩) hP hS rfl hl.1 rfl (Nat.le_of_ble_eq_true rfl) dX3_out_18 (fun H locs hP hS => ?_)
    refine lv_aload_n hx hb dX3_out_21 rfl (lv_at hl 0 rfl) ?_
    refine m_geta hC hP 68 (by decide) rfl q1961 dX3_out_22 ?_
    refine lv_aload_n hx hb dX3_out_25 rfl (lv_at hl 0 rfl) ?_
    obtain ⟨r8, σ6, c7, h⟩ := mcall_n h
    refine m_calli (As := []) (rest := [.ref (mad E 68)]) hC (met_digState l N E H.size σ4 r8 σ6 c7) (cwV 0 hts (lw_V q2525 q2527 qs95 q103 q2528) rfl rfl rfl (by decide +kernel) ⟨Nat.le_trans (Nat.le_of_ble_eq_true rfl) hR.1, Nat.le_trans (Nat.le_of_ble_eq_true rfl) hR.2⟩) hP hS rfl hl.1 rfl (Nat.le_of_ble_eq_true rfl) dX3_out_26 (fun H locs hP hS => ?_)
    obtain ⟨c9, h⟩ := mif_n h
    refine m_ald hC hP 68 rfl c9 dX3_out_29 ?_
    refine lv_topi (fun y10 ey10 => ?_)
    have h := mlet_at ey10 h
    refine lv_istore_n (lv' := [(1, .int y10), (0, .ref (mh E))]) hx hb dX3_out_30 rfl hl (by decide) rfl (fun ls hl => ?_)
    refine lv_iload_n hx hb dX3_out_31 rfl (lv_at hl 0 rfl) ?_
    refine lv_ldcw hx hb hown (hts _ q2520) dX3_out_32 ?_
    refine lv_icmp_ne (tgt := 47) hx hb dX3_out_35 (by decide) (fun c11 => ?_) (fun c11 => ?_)
    · have h := mif_f c11 h
      refine lv_iload_n hx hb dX3_out_47 rfl (lv_at hl 0 rfl) ?_
      refine lv_sipush (v := 10000) hx hb dX3_out_48 (by decide) ?_
      refine lv_idiv hx hb dX3_out_51 (by decide) ?_
      exact w_out_52 hC hR N σ6 (y10 / 10000) h hP hS (lv_sub hl [] rfl)
    · have h := mif_t c11 h
      refine lv_aload_n hx hb dX3_out_38 rfl (lv_at hl 1 rfl) ?_
      refine lv_bipush (v := 6) hx hb dX3_out_39 (by decide) ?_
      obtain ⟨r14, σ12, c13, h⟩ := mcall_n h
      refine m_calli (As := [.int 6]) (rest := []) hC (met_no l N E H.size σ6 6 r14 σ12 c13) (cwV 1 hts (lw_V q2138 q2140 qs41 q103 q2141) rfl rfl rfl (by decide +kernel) ⟨Nat.le_trans (Nat.le_of_ble_eq_true rfl) hR.1, Nat.le_trans (Nat.le_of_ble_eq_true rfl) hR.2⟩) hP hS rfl hl.1 rfl (Nat.le_of_ble_eq_true rfl) dX3_out_41 (fun H locs hP hS => ?_)
      refine lv_goto (tgt := 52) hx hb dX3_out_44 (by decide) ?_
      exact w_out_52 hC hR N σ12 r14 h hP hS (lv_sub hl [] rfl)
  · have h := mif_t c3 h
    refine lv_aload_n hx hb dX3_out_11 rfl (lv_at hl 0 rfl) ?_
    refine lv_iconst (v := 1) hx hb dX3_out_12 (by decide) ?_
    obtain ⟨r17, σ15, c16, h⟩ := mcall_n h
    refine m_calli (As := [.int 1]) (rest := []) hC (met_no l N E H.size σ1 1 r17 σ15 c16) (cwV 1 hts (lw_V q2138 q2140 qs41 q103 q2141) rfl rfl rfl (by decide +kernel) ⟨Nat.le_trans (Nat.le_of_ble_eq_true rfl) hR.1, Nat.le_trans (Nat.le_of_ble_eq_true rfl) hR.2⟩) hP hS rfl hl.1 rfl (Nat.le_of_ble_eq_true rfl) dX3_out_13 (fun H locs hP hS => ?_)
    cases h
    exact m_iret hC hP hS dX3_out_16
theorem met_out (l : Launch) (N : Nat) (E : mE) (sz : Nat) (σ : MS) (r : Int32) (σ' : MS) (h : f_out N σ = some (r, σ')) : Met l yX3_out (ws_ yX3_out cX3_out 2 (some .int)) ({ frames := 2, cells := 0, slots := 0, locals := 54 }) (mPc E sz σ [.ref (mh E)]) (mQi E sz r σ') 0 0 (mA E sz) :=
  m_met (Qc := fun z => mQi E z r σ') (by decide) rfl (Nat.le_of_ble_eq_true rfl) (fun hC ls hl hP => w_out_0 hC ⟨Nat.le_refl _, Nat.le_refl _⟩ N σ h hP va_S.rf hl)

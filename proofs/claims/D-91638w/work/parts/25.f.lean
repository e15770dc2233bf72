/-! BY gen_model.py: truthMany truths all truth sees goes run led regret worth spared order -/
def f_truthMany_34 (N : Nat) (k4 : MS → Int32 → Int32 → Option (Int32 × MS)) (σ : MS) (x2 : Int32) (s0 : Int32) : Option (Int32 × MS) :=
    mlet (x2 + 1) fun y1 =>
    k4 σ s0 y1
set_option maxHeartbeats 4000000 in
set_option maxRecDepth 100000 in
theorem w_truthMany_34 {p : Program} {l : Launch} {e : Env} {R : Room} {s : State} {m : MethodId} {args : Array Value} {below : List Frame} {meth : Method} {c : Code} {E : mE} {σ' : MS} {r : Int32} (hC : mC p s m args meth c E cX3_truthMany 3 (some .int)) (hR : 0 ≤ R.frames ∧ 0 ≤ R.locals) (N : Nat) (k4 : MS → Int32 → Int32 → Option (Int32 × MS)) (hk4 : ∀ (σ : MS) (x1 : Int32) (x2 : Int32), k4 σ x1 x2 = some (r, σ') → ∀ (H : Heap) (locs : List Loc), mP E σ H → va_S (mA E s.heap.size) s.heap H locs → ∀ ls : Array Slot, lv_has ls 3 [(0, .ref (mh E)), (1, .int x1), (2, .int x2)] → W p l e R s m args below meth c H locs 0 0 (MQ below (mQi E s.heap.size r σ') args s 0 0 (mA E s.heap.size)) (F0 m 4 ls [])) (σ : MS) (x2 : Int32) (s0 : Int32) (h : f_truthMany_34 N k4 σ x2 s0 = some (r, σ')) {H : Heap} {locs : List Loc} (hP : mP E σ H) (hS : va_S (mA E s.heap.size) s.heap H locs) {ls : Array Slot} (hl : lv_has ls 3 [(0, .ref (mh E)), (2, .int x2)]) : W p l e R s m args below meth c H locs 0 0 (MQ below (mQi E s.heap.size r σ') args s 0 0 (mA E s.heap.size)) (F0 m 34 ls [.int s0]) := by
  obtain ⟨⟨hx, hb, hml, hown, hts⟩, hK, hD, hr, hlk⟩ := id hC
  unfold f_truthMany_34 at h
  refine lv_istore_n (lv' := [(1, .int s0), (0, .ref (mh E)), (2, .int x2)]) hx hb dX3_truthMany_34 rfl hl (by decide) rfl (fun ls hl => ?_)
  obtain ⟨y1, ey1⟩ : ∃ z : Int32, z = x2 + 1 := ⟨_, rfl⟩
  have h := mlet_at ey1 h
  refine lv_iinc (v := y1) (lv' := [(2, .int y1), (1, .int s0), (0, .ref (mh E))]) hx hb dX3_truthMany_35 hl (k := 2) rfl (by rw [ey1]; rfl) (by decide) rfl (fun ls hl => ?_)
  refine lv_goto (tgt := 4) hx hb dX3_truthMany_38 (by decide) ?_
  exact hk4 σ s0 y1 h _ _ hP hS _ (lv_sub hl [2, 1, 0] rfl)
def f_truthMany_4 (N : Nat) : Nat → MS → Int32 → Int32 → Option (Int32 × MS)
  | 0, _, _, _ => none
  | n + 1, σ, x1, x2 =>
    if (σ.1 37) ≤ x2 then
    some (x1, σ)
    else
    if mIn x2 (mLen 45) = true then mlet (σ.2.1 45 x2.toNatClampNeg) fun y3 =>
    if y3 = (-1) then
    if mIn x2 (mLen 53) = true then mlet (σ.2.1 53 x2.toNatClampNeg) fun y6 =>
    f_truthMany_34 N (f_truthMany_4 N n) σ x2 (x1 * y6)
    else none
    else
    f_truthMany_34 N (f_truthMany_4 N n) σ x2 x1
    else none
set_option maxHeartbeats 4000000 in
set_option maxRecDepth 100000 in
theorem w_truthMany_4 {p : Program} {l : Launch} {e : Env} {R : Room} {s : State} {m : MethodId} {args : Array Value} {below : List Frame} {meth : Method} {c : Code} {E : mE} {σ' : MS} {r : Int32} (hC : mC p s m args meth c E cX3_truthMany 3 (some .int)) (hR : 0 ≤ R.frames ∧ 0 ≤ R.locals) (N : Nat) : ∀ (n : Nat) (σ : MS) (x1 : Int32) (x2 : Int32), f_truthMany_4 N n σ x1 x2 = some (r, σ') → ∀ (H : Heap) (locs : List Loc), mP E σ H → va_S (mA E s.heap.size) s.heap H locs → ∀ ls : Array Slot, lv_has ls 3 [(0, .ref (mh E)), (1, .int x1), (2, .int x2)] → W p l e R s m args below meth c H locs 0 0 (MQ below (mQi E s.heap.size r σ') args s 0 0 (mA E s.heap.size)) (F0 m 4 ls []) := by
  obtain ⟨⟨hx, hb, hml, hown, hts⟩, hK, hD, hr, hlk⟩ := id hC
  intro n
  induction n with
  | zero =>
    intro σ x1 x2 h
    cases h
  | succ n ih =>
    intro σ x1 x2 h H locs hP hS ls hl
    unfold f_truthMany_4 at h
    refine lv_iload_n hx hb dX3_truthMany_4 rfl (lv_at hl 2 rfl) ?_
    refine lv_aload_n hx hb dX3_truthMany_5 rfl (lv_at hl 0 rfl) ?_
    refine m_geti hC hP 37 (by decide) rfl q1930 dX3_truthMany_6 ?_
    refine lv_icmp_ge (tgt := 41) hx hb dX3_truthMany_9 (by decide) (fun c1 => ?_) (fun c1 => ?_)
    · have h := mif_t c1 h
      refine lv_iload_n hx hb dX3_truthMany_41 rfl (lv_at hl 1 rfl) ?_
      cases h
      exact m_iret hC hP hS dX3_truthMany_42
    · have h := mif_f c1 h
      refine lv_aload_n hx hb dX3_truthMany_12 rfl (lv_at hl 0 rfl) ?_
      refine m_geta hC hP 45 (by decide) rfl q1938 dX3_truthMany_13 ?_
      refine lv_iload_n hx hb dX3_truthMany_16 rfl (lv_at hl 2 rfl) ?_
      obtain ⟨c2, h⟩ := mif_n h
      refine m_ald hC hP 45 rfl c2 dX3_truthMany_17 ?_
      refine lv_topi (fun y3 ey3 => ?_)
      have h := mlet_at ey3 h
      refine lv_iconst (v := (-1)) hx hb dX3_truthMany_18 (by decide) ?_
      refine lv_icmp_ne (tgt := 33) hx hb dX3_truthMany_19 (by decide) (fun c4 => ?_) (fun c4 => ?_)
      · have h := mif_f c4 h
        refine lv_iload_n hx hb dX3_truthMany_33 rfl (lv_at hl 1 rfl) ?_
        exact w_truthMany_34 hC hR N (f_truthMany_4 N n) ih σ x2 x1 h hP hS (lv_sub hl [0, 2] rfl)
      · have h := mif_t c4 h
        refine lv_iload_n hx hb dX3_truthMany_22 rfl (lv_at hl 1 rfl) ?_
        refine lv_aload_n hx hb dX3_truthMany_23 rfl (lv_at hl 0 rfl) ?_
        refine m_geta hC hP 53 (by decide) rfl q1946 dX3_truthMany_24 ?_
        refine lv_iload_n hx hb dX3_truthMany_27 rfl (lv_at hl 2 rfl) ?_
        obtain ⟨c5, h⟩ := mif_n h
        refine m_ald hC hP 53 rfl c5 dX3_truthMany_28 ?_
        refine lv_topi (fun y6 ey6 => ?_)
        have h := mlet_at ey6 h
        refine lv_imul hx hb dX3_truthMany_29 ?_
        refine lv_goto (tgt := 34) hx hb dX3_truthMany_30 (by decide) ?_
        exact w_truthMany_34 hC hR N (f_truthMany_4 N n) ih σ x2 (x1 * y6) h hP hS (lv_sub hl [0, 2] rfl)
def f_truthMany (N : Nat) (σ : MS) : Option (Int32 × MS) :=
    f_truthMany_4 N N σ 1 0
set_option maxHeartbeats 4000000 in
set_option maxRecDepth 100000 in
theorem w_truthMany_0 {p : Program} {l : Launch} {e : Env} {R : Room} {s : State} {m : MethodId} {args : Array Value} {below : List Frame} {meth : Method} {c : Code} {E : mE} {σ' : MS} {r : Int32} (hC : mC p s m args meth c E cX3_truthMany 3 (some .int)) (hR : 0 ≤ R.frames ∧ 0 ≤ R.locals) (N : Nat) (σ : MS) (h : f_truthMany N σ = some (r, σ')) {H : Heap} {locs : List Loc} (hP : mP E σ H) (hS : va_S (mA E s.heap.size) s.heap H locs) {ls : Array Slot} (hl : lv_has ls 3 [(0, .ref (mh E))]) : W p l e R s m args below meth c H locs 0 0 (MQ below (mQi E s.heap.size r σ') args s 0 0 (mA E s.heap.size)) (F0 m 0 ls []) := by
  obtain ⟨⟨hx, hb, hml, hown, hts⟩, hK, hD, hr, hlk⟩ := id hC
  unfold f_truthMany at h
  refine lv_iconst (v := 1) hx hb dX3_truthMany_0 (by decide) ?_
  refine lv_istore_n (lv' := [(1, .int 1), (0, .ref (mh E))]) hx hb dX3_truthMany_1 rfl hl (by decide) rfl (fun ls hl => ?_)
  refine lv_iconst (v := 0) hx hb dX3_truthMany_2 (by decide) ?_
  refine lv_istore_n (lv' := [(2, .int 0), (1, .int 1), (0, .ref (mh E))]) hx hb dX3_truthMany_3 rfl hl (by decide) rfl (fun ls hl => ?_)
  exact w_truthMany_4 hC hR N N σ 1 0 h _ _ hP hS _ (lv_sub hl [2, 1, 0] rfl)
theorem met_truthMany (l : Launch) (N : Nat) (E : mE) (sz : Nat) (σ : MS) (r : Int32) (σ' : MS) (h : f_truthMany N σ = some (r, σ')) : Met l yX3_truthMany (ws_ yX3_truthMany cX3_truthMany 3 (some .int)) ({ frames := 0, cells := 0, slots := 0, locals := 0 }) (mPc E sz σ [.ref (mh E)]) (mQi E sz r σ') 0 0 (mA E sz) :=
  m_met (Qc := fun z => mQi E z r σ') (by decide) rfl (Nat.le_of_ble_eq_true rfl) (fun hC ls hl hP => w_truthMany_0 hC ⟨Nat.le_refl _, Nat.le_refl _⟩ N σ h hP va_S.rf hl)
def f_truths (N : Nat) (σ : MS) : Option (Int32 × MS) :=
    mlet (mSet σ 0 0) fun σ1 =>
    if (σ1.1 34) = 0 then
    some (0, σ1)
    else
    mcallv (f_lists N σ1) fun σ3 =>
    mcall (f_truthMany N σ3) fun r7 σ5 =>
    some (r7, σ5)
set_option maxHeartbeats 4000000 in
set_option maxRecDepth 100000 in
theorem w_truths_0 {p : Program} {l : Launch} {e : Env} {R : Room} {s : State} {m : MethodId} {args : Array Value} {below : List Frame} {meth : Method} {c : Code} {E : mE} {σ' : MS} {r : Int32} (hC : mC p s m args meth c E cX3_truths 1 (some .int)) (hR : 1 ≤ R.frames ∧ 22 ≤ R.locals) (N : Nat) (σ : MS) (h : f_truths N σ = some (r, σ')) {H : Heap} {locs : List Loc} (hP : mP E σ H) (hS : va_S (mA E s.heap.size) s.heap H locs) {ls : Array Slot} (hl : lv_has ls 1 [(0, .ref (mh E))]) : W p l e R s m args below meth c H locs 0 0 (MQ below (mQi E s.heap.size r σ') args s 0 0 (mA E s.heap.size)) (F0 m 0 ls []) := by
  obtain ⟨⟨hx, hb, hml, hown, hts⟩, hK, hD, hr, hlk⟩ := id hC
  unfold f_truths at h
  refine lv_aload_n hx hb dX3_truths_0 rfl (lv_at hl 0 rfl) ?_
  refine lv_iconst (v := 0) hx hb dX3_truths_1 (by decide) ?_
  refine m_put hC hP hS 0 (by decide) rfl q1893 rfl (ty := .int) (tyX3_ok 0 (by decide)) ⟨rfl, rfl⟩ dX3_truths_2 (fun H locs hP hS => ?_)
  obtain ⟨σ1, eσ1⟩ : ∃ z : MS, z = mSet σ 0 0 := ⟨_, rfl⟩
  rw [← eσ1] at hP
  have h := mlet_at eσ1 h
  refine lv_aload_n hx hb dX3_truths_5 rfl (lv_at hl 0 rfl) ?_
  refine m_geti hC hP 34 (by decide) rfl q1927 dX3_truths_6 ?_
  refine lv_if_ne (tgt := 14) hx hb dX3_truths_9 (by decide) (fun c2 => ?_) (fun c2 => ?_)
  · have h := mif_f c2 h
    refine lv_aload_n hx hb dX3_truths_14 rfl (lv_at hl 0 rfl) ?_
    obtain ⟨σ3, c4, h⟩ := mcallv_n h
    refine m_callv (As := []) (rest := []) hC (met_lists l N E H.size σ1 σ3 c4) (cwV 0 hts (lw_V q2348 q2350 qs70 q103 q2351) rfl rfl rfl (by decide +kernel) ⟨Nat.le_trans (Nat.le_of_ble_eq_true rfl) hR.1, Nat.le_trans (Nat.le_of_ble_eq_true rfl) hR.2⟩) hP hS rfl hl.1 rfl (Nat.le_of_ble_eq_true rfl) dX3_truths_15 (fun H locs hP hS => ?_)
    refine lv_aload_n hx hb dX3_truths_18 rfl (lv_at hl 0 rfl) ?_
    obtain ⟨r7, σ5, c6, h⟩ := mcall_n h
    refine m_calli (As := []) (rest := []) hC (met_truthMany l N E H.size σ3 r7 σ5 c6) (cwV 0 hts (lw_V q2427 q2429 qs83 q103 q2430) rfl rfl rfl (by decide +kernel) ⟨Nat.le_trans (Nat.le_of_ble_eq_true rfl) hR.1, Nat.le_trans (Nat.le_of_ble_eq_true rfl) hR.2⟩) hP hS rfl hl.1 rfl (Nat.le_of_ble_eq_true rfl) dX3_truths_19 (fun H locs hP hS => ?_)
    cases h
    exact m_iret hC hP hS dX3_truths_22
  · have h := mif_t c2 h
    refine lv_iconst (v := 0) hx hb dX3_truths_12 (by decide) ?_
    cases h
    exact m_iret hC hP hS dX3_truths_13
theorem met_truths (l : Launch) (N : Nat) (E : mE) (sz : Nat) (σ : MS) (r : Int32) (σ' : MS) (h : f_truths N σ = some (r, σ')) : Met l yX3_truths (ws_ yX3_truths cX3_truths 1 (some .int)) ({ frames := 1, cells := 0, slots := 0, locals := 22 }) (mPc E sz σ [.ref (mh E)]) (mQi E sz r σ') 0 0 (mA E sz) :=
  m_met (Qc := fun z => mQi E z r σ') (by decide) rfl (Nat.le_of_ble_eq_true rfl) (fun hC ls hl hP => w_truths_0 hC ⟨Nat.le_refl _, Nat.le_refl _⟩ N σ h hP va_S.rf hl)
def f_all_64 (N : Nat) (k15 : MS → Int32 → Int32 → Int32 → Option (Int32 × MS)) (σ : MS) (x2 : Int32) (x3 : Int32) (x4 : Int32) : Option (Int32 × MS) :=
    mlet (x4 + (-1)) fun y1 =>
    k15 σ x2 x3 y1
set_option maxHeartbeats 4000000 in
set_option maxRecDepth 100000 in
theorem w_all_64 {p : Program} {l : Launch} {e : Env} {R : Room} {s : State} {m : MethodId} {args : Array Value} {below : List Frame} {meth : Method} {c : Code} {E : mE} {σ' : MS} {r : Int32} (hC : mC p s m args meth c E cX3_all 5 (some .int)) (hR : 2 ≤ R.frames ∧ 43 ≤ R.locals) (N : Nat) (k15 : MS → Int32 → Int32 → Int32 → Option (Int32 × MS)) (hk15 : ∀ (σ : MS) (x2 : Int32) (x3 : Int32) (x4 : Int32), k15 σ x2 x3 x4 = some (r, σ') → ∀ (H : Heap) (locs : List Loc), mP E σ H → va_S (mA E s.heap.size) s.heap H locs → ∀ ls : Array Slot, lv_has ls 5 [(0, .ref (mh E)), (2, .int x2), (3, .int x3), (4, .int x4)] → W p l e R s m args below meth c H locs 0 0 (MQ below (mQi E s.heap.size r σ') args s 0 0 (mA E s.heap.size)) (F0 m 15 ls [])) (σ : MS) (x2 : Int32) (x3 : Int32) (x4 : Int32) (h : f_all_64 N k15 σ x2 x3 x4 = some (r, σ')) {H : Heap} {locs : List Loc} (hP : mP E σ H) (hS : va_S (mA E s.heap.size) s.heap H locs) {ls : Array Slot} (hl : lv_has ls 5 [(0, .ref (mh E)), (2, .int x2), (3, .int x3), (4, .int x4)]) : W p l e R s m args below meth c H locs 0 0 (MQ below (mQi E s.heap.size r σ') args s 0 0 (mA E s.heap.size)) (F0 m 64 ls []) := by
  obtain ⟨⟨hx, hb, hml, hown, hts⟩, hK, hD, hr, hlk⟩ := id hC
  unfold f_all_64 at h
  obtain ⟨y1, ey1⟩ : ∃ z : Int32, z = x4 + (-1) := ⟨_, rfl⟩
  have h := mlet_at ey1 h
  refine lv_iinc (v := y1) (lv' := [(4, .int y1), (0, .ref (mh E)), (2, .int x2), (3, .int x3)]) hx hb dX3_all_64 hl (k := 3) rfl (by rw [ey1]; rfl) (by decide) rfl (fun ls hl => ?_)
  refine lv_goto (tgt := 15) hx hb dX3_all_67 (by decide) ?_
  exact hk15 σ x2 x3 y1 h _ _ hP hS _ (lv_sub hl [1, 2, 3, 0] rfl)
def f_all_15 (N : Nat) : Nat → MS → Int32 → Int32 → Int32 → Option (Int32 × MS)
  | 0, _, _, _, _ => none
  | n + 1, σ, x2, x3, x4 =>
    if x4 < 0 then
    some (x2, σ)
    else
    if mIn x4 (mLen 45) = true then mlet (σ.2.1 45 x4.toNatClampNeg) fun y3 =>
    if y3 = (-1) then
    if mIn x4 (mLen 53) = true then mlet (σ.2.1 53 x4.toNatClampNeg) fun y6 =>
    if ¬ y6 = 0 then
    mcall (f_power N σ x4) fun r10 σ8 =>
    mlet (x2 + (((x3 - x3 / y6 * y6) + 1) * r10)) fun y11 =>
    if mIn x4 (mLen 53) = true then mlet (σ8.2.1 53 x4.toNatClampNeg) fun y13 =>
    if ¬ y13 = 0 then
    mlet (x3 / y13) fun y15 =>
    f_all_64 N (f_all_15 N n) σ8 y11 y15 x4
    else none
    else none
    else none
    else none
    else
    f_all_64 N (f_all_15 N n) σ x2 x3 x4
    else none
set_option maxHeartbeats 4000000 in
set_option maxRecDepth 100000 in
theorem w_all_15 {p : Program} {l : Launch} {e : Env} {R : Room} {s : State} {m : MethodId} {args : Array Value} {below : List Frame} {meth : Method} {c : Code} {E : mE} {σ' : MS} {r : Int32} (hC : mC p s m args meth c E cX3_all 5 (some .int)) (hR : 2 ≤ R.frames ∧ 43 ≤ R.locals) (N : Nat) : ∀ (n : Nat) (σ : MS) (x2 : Int32) (x3 : Int32) (x4 : Int32), f_all_15 N n σ x2 x3 x4 = some (r, σ') → ∀ (H : Heap) (locs : List Loc), mP E σ H → va_S (mA E s.heap.size) s.heap H locs → ∀ ls : Array Slot, lv_has ls 5 [(0, .ref (mh E)), (2, .int x2), (3, .int x3), (4, .int x4)] → W p l e R s m args below meth c H locs 0 0 (MQ below (mQi E s.heap.size r σ') args s 0 0 (mA E s.heap.size)) (F0 m 15 ls []) := by
  obtain ⟨⟨hx, hb, hml, hown, hts⟩, hK, hD, hr, hlk⟩ := id hC
  intro n
  induction n with
  | zero =>
    intro σ x2 x3 x4 h
    cases h
  | succ n ih =>
    intro σ x2 x3 x4 h H locs hP hS ls hl
    unfold f_all_15 at h
    refine lv_iload hx hb dX3_all_15 (lv_at hl 3 rfl) ?_
    refine lv_if_lt (tgt := 70) hx hb dX3_all_17 (by decide) (fun c1 => ?_) (fun c1 => ?_)
    · have h := mif_t c1 h
      refine lv_iload_n hx hb dX3_all_70 rfl (lv_at hl 1 rfl) ?_
      cases h
      exact m_iret hC hP hS dX3_all_71
    · have h := mif_f c1 h
      refine lv_aload_n hx hb dX3_all_20 rfl (lv_at hl 0 rfl) ?_
      refine m_geta hC hP 45 (by decide) rfl q1938 dX3_all_21 ?_
      refine lv_iload hx hb dX3_all_24 (lv_at hl 3 rfl) ?_
      obtain ⟨c2, h⟩ := mif_n h
      refine m_ald hC hP 45 rfl c2 dX3_all_26 ?_
      refine lv_topi (fun y3 ey3 => ?_)
      have h := mlet_at ey3 h
      refine lv_iconst (v := (-1)) hx hb dX3_all_27 (by decide) ?_
      refine lv_icmp_eq (tgt := 34) hx hb dX3_all_28 (by decide) (fun c4 => ?_) (fun c4 => ?_)
      · have h := mif_t c4 h
        refine lv_iload_n hx hb dX3_all_34 rfl (lv_at hl 1 rfl) ?_
        refine lv_iload_n hx hb dX3_all_35 rfl (lv_at hl 2 rfl) ?_
        refine lv_aload_n hx hb dX3_all_36 rfl (lv_at hl 0 rfl) ?_
        refine m_geta hC hP 53 (by decide) rfl q1946 dX3_all_37 ?_
        refine lv_iload hx hb dX3_all_40 (lv_at hl 3 rfl) ?_
        obtain ⟨c5, h⟩ := mif_n h
        refine m_ald hC hP 53 rfl c5 dX3_all_42 ?_
        refine lv_topi (fun y6 ey6 => ?_)
        have h := mlet_at ey6 h
        obtain ⟨c7, h⟩ := mif_n h
        refine lv_irem hx hb dX3_all_43 c7 ?_
        refine lv_iconst (v := 1) hx hb dX3_all_44 (by decide) ?_
        refine lv_iadd hx hb dX3_all_45 ?_
        refine lv_iload hx hb dX3_all_46 (lv_at hl 3 rfl) ?_
        obtain ⟨r10, σ8, c9, h⟩ := mcall_n h
        refine m_callsi (As := [.int x4]) (rest := [.int ((x3 - x3 / y6 * y6) + 1), .int x2]) hC (met_power l N E H.size σ x4 r10 σ8 c9) (va_cwS 1 hts (lw_S q2380 q2381 q103 q2382) rfl rfl rfl (by decide +kernel) ⟨Nat.le_trans (Nat.le_of_ble_eq_true rfl) hR.1, Nat.le_trans (Nat.le_of_ble_eq_true rfl) hR.2⟩) hP hS rfl hl.1 rfl (Nat.le_of_ble_eq_true rfl) dX3_all_48 (fun H locs hP hS => ?_)
        refine lv_imul hx hb dX3_all_51 ?_
        refine lv_iadd hx hb dX3_all_52 ?_
        refine lv_topi (fun y11 ey11 => ?_)
        have h := mlet_at ey11 h
        refine lv_istore_n (lv' := [(2, .int y11), (0, .ref (mh E)), (3, .int x3), (4, .int x4)]) hx hb dX3_all_53 rfl hl (by decide) rfl (fun ls hl => ?_)
        refine lv_iload_n hx hb dX3_all_54 rfl (lv_at hl 2 rfl) ?_
        refine lv_aload_n hx hb dX3_all_55 rfl (lv_at hl 1 rfl) ?_
        refine m_geta hC hP 53 (by decide) rfl q1946 dX3_all_56 ?_
        refine lv_iload hx hb dX3_all_59 (lv_at hl 3 rfl) ?_
        obtain ⟨c12, h⟩ := mif_n h
        refine m_ald hC hP 53 rfl c12 dX3_all_61 ?_
        refine lv_topi (fun y13 ey13 => ?_)
        have h := mlet_at ey13 h
        obtain ⟨c14, h⟩ := mif_n h
        refine lv_idiv hx hb dX3_all_62 c14 ?_
        refine lv_topi (fun y15 ey15 => ?_)
        have h := mlet_at ey15 h
        refine lv_istore_n (lv' := [(3, .int y15), (2, .int y11), (0, .ref (mh E)), (4, .int x4)]) hx hb dX3_all_63 rfl hl (by decide) rfl (fun ls hl => ?_)
        exact w_all_64 hC hR N (f_all_15 N n) ih σ8 y11 y15 x4 h hP hS (lv_sub hl [2, 1, 0, 3] rfl)
      · have h := mif_f c4 h
        refine lv_goto (tgt := 64) hx hb dX3_all_31 (by decide) ?_
        exact w_all_64 hC hR N (f_all_15 N n) ih σ x2 x3 x4 h hP hS (lv_sub hl [0, 1, 2, 3] rfl)
def f_all (N : Nat) (σ : MS) (x1 : Int32) : Option (Int32 × MS) :=
    mcall (f_base N σ) fun r3 σ1 =>
    mlet ((σ1.1 37) - 1) fun y4 =>
    f_all_15 N N σ1 r3 x1 y4
set_option maxHeartbeats 4000000 in
set_option maxRecDepth 100000 in
theorem w_all_0 {p : Program} {l : Launch} {e : Env} {R : Room} {s : State} {m : MethodId} {args : Array Value} {below : List Frame} {meth : Method} {c : Code} {E : mE} {σ' : MS} {r : Int32} (hC : mC p s m args meth c E cX3_all 5 (some .int)) (hR : 2 ≤ R.frames ∧ 43 ≤ R.locals) (N : Nat) (σ : MS) (x1 : Int32) (h : f_all N σ x1 = some (r, σ')) {H : Heap} {locs : List Loc} (hP : mP E σ H) (hS : va_S (mA E s.heap.size) s.heap H locs) {ls : Array Slot} (hl : lv_has ls 5 [(0, .ref (mh E)), (1, .int x1)]) : W p l e R s m args below meth c H locs 0 0 (MQ below (mQi E s.heap.size r σ') args s 0 0 (mA E s.heap.size)) (F0 m 0 ls []) := by
  obtain ⟨⟨hx, hb, hml, hown, hts⟩, hK, hD, hr, hlk⟩ := id hC
  unfold f_all at h
  refine lv_aload_n hx hb dX3_all_0 rfl (lv_at hl 0 rfl) ?_
  obtain ⟨r3, σ1, c2, h⟩ := mcall_n h
  refine m_calli (As := []) (rest := []) hC (met_base l N E H.size σ r3 σ1 c2) (cwV 0 hts (lw_V q2399 q2401 qs81 q103 q2402) rfl rfl rfl (by decide +kernel) ⟨Nat.le_trans (Nat.le_of_ble_eq_true rfl) hR.1, Nat.le_trans (Nat.le_of_ble_eq_true rfl) hR.2⟩) hP hS rfl hl.1 rfl (Nat.le_of_ble_eq_true rfl) dX3_all_1 (fun H locs hP hS => ?_)
  refine lv_istore_n (lv' := [(2, .int r3), (0, .ref (mh E)), (1, .int x1)]) hx hb dX3_all_4 rfl hl (by decide) rfl (fun ls hl => ?_)
  refine lv_iload_n hx hb dX3_all_5 rfl (lv_at hl 2 rfl) ?_
  refine lv_istore_n (lv' := [(3, .int x1), (2, .int r3), (0, .ref (mh E)), (1, .int x1)]) hx hb dX3_all_6 rfl hl (by decide) rfl (fun ls hl => ?_)
  refine lv_aload_n hx hb dX3_all_7 rfl (lv_at hl 2 rfl) ?_
  refine m_geti hC hP 37 (by decide) rfl q1930 dX3_all_8 ?_
  refine lv_iconst (v := 1) hx hb dX3_all_11 (by decide) ?_
  refine lv_isub hx hb dX3_all_12 ?_
  refine lv_topi (fun y4 ey4 => ?_)
  have h := mlet_at ey4 h
  refine lv_istore (lv' := [(4, .int y4), (3, .int x1), (2, .int r3), (0, .ref (mh E)), (1, .int x1)]) hx hb dX3_all_13 hl (by decide) rfl (fun ls hl => ?_)
  exact w_all_15 hC hR N N σ1 r3 x1 y4 h _ _ hP hS _ (lv_sub hl [3, 2, 1, 0] rfl)
theorem met_all (l : Launch) (N : Nat) (E : mE) (sz : Nat) (σ : MS) (x1 : Int32) (r : Int32) (σ' : MS) (h : f_all N σ x1 = some (r, σ')) : Met l yX3_all (ws_ yX3_all cX3_all 5 (some .int)) ({ frames := 2, cells := 0, slots := 0, locals := 43 }) (mPc E sz σ [.ref (mh E), .int x1]) (mQi E sz r σ') 0 0 (mA E sz) :=
  m_met (Qc := fun z => mQi E z r σ') (by decide) rfl (Nat.le_of_ble_eq_true rfl) (fun hC ls hl hP => w_all_0 hC ⟨Nat.le_refl _, Nat.le_refl _⟩ N σ x1 h hP va_S.rf hl)
def f_truth (N : Nat) (σ : MS) (x1 : Int32) (x2 : Int32) : Option (Int32 × MS) :=
    mlet (mSet σ 0 0) fun σ1 =>
    mcall (f_isDoubt N σ1 x2) fun r4 σ2 =>
    if r4 = 0 then
    some ((-1), σ2)
    else
    mcallv (f_lists N σ2) fun σ6 =>
    mcall (f_truthMany N σ6) fun r10 σ8 =>
    mcall (f_within N σ8 x1 0 (r10 - 1)) fun r13 σ11 =>
    if r13 = 0 then
    some ((-1), σ11)
    else
    mcall (f_all N σ11 x1) fun r17 σ15 =>
    mcall (f_digit N σ15 r17 x2) fun r20 σ18 =>
    if mIn (((4 * x2) + r20) - 1) (mLen 52) = true then mlet (σ18.2.1 52 (((4 * x2) + r20) - 1).toNatClampNeg) fun y22 =>
    some (y22, σ18)
    else none
set_option maxHeartbeats 4000000 in
set_option maxRecDepth 100000 in
theorem w_truth_0 {p : Program} {l : Launch} {e : Env} {R : Room} {s : State} {m : MethodId} {args : Array Value} {below : List Frame} {meth : Method} {c : Code} {E : mE} {σ' : MS} {r : Int32} (hC : mC p s m args meth c E cX3_truth 3 (some .int)) (hR : 3 ≤ R.frames ∧ 67 ≤ R.locals) (N : Nat) (σ : MS) (x1 : Int32) (x2 : Int32) (h : f_truth N σ x1 x2 = some (r, σ')) {H : Heap} {locs : List Loc} (hP : mP E σ H) (hS : va_S (mA E s.heap.size) s.heap H locs) {ls : Array Slot} (hl : lv_has ls 3 [(0, .ref (mh E)), (1, .int x1), (2, .int x2)]) : W p l e R s m args below meth c H locs 0 0 (MQ below (mQi E s.heap.size r σ') args s 0 0 (mA E s.heap.size)) (F0 m 0 ls []) := by
  obtain ⟨⟨hx, hb, hml, hown, hts⟩, hK, hD, hr, hlk⟩ := id hC
  unfold f_truth at h
  refine lv_aload_n hx hb dX3_truth_0 rfl (lv_at hl 0 rfl) ?_
  refine lv_iconst (v := 0) hx hb dX3_truth_1 (by decide) ?_
  refine m_put hC hP hS 0 (by decide) rfl q1893 rfl (ty := .int) (tyX3_ok 0 (by decide)) ⟨rfl, rfl⟩ dX3_truth_2 (fun H locs hP hS => ?_)
  obtain ⟨σ1, eσ1⟩ : ∃ z : MS, z = mSet σ 0 0 := ⟨_, rfl⟩
  rw [← eσ1] at hP
  have h := mlet_at eσ1 h
  refine lv_aload_n hx hb dX3_truth_5 rfl (lv_at hl 0 rfl) ?_
  refine lv_iload_n hx hb dX3_truth_6 rfl (lv_at hl 2 rfl) ?_
  obtain ⟨r4, σ2, c3, h⟩ := mcall_n h
  refine m_calli (As := [.int x2]) (rest := []) hC (met_isDoubt l N E H.size σ1 x2 r4 σ2 c3) (cwV 1 hts (lw_V q2292 q2294 qs61 q103 q2295) rfl rfl rfl (by decide +kernel) ⟨Nat.le_trans (Nat.le_of_ble_eq_true rfl) hR.1, Nat.le_trans (Nat.le_of_ble_eq_true rfl) hR.2⟩) hP hS rfl hl.1 rfl (Nat.le_of_ble_eq_true rfl) dX3_truth_7 (fun H locs hP hS => ?_)
  refine lv_if_ne (tgt := 15) hx hb dX3_truth_10 (by decide) (fun c5 => ?_) (fun c5 => ?_)
  · have h := mif_f c5 h
    refine lv_aload_n hx hb dX3_truth_15 rfl (lv_at hl 0 rfl) ?_
    obtain ⟨σ6, c7, h⟩ := mcallv_n h
    refine m_callv (As := []) (rest := []) hC (met_lists l N E H.size σ2 σ6 c7) (cwV 0 hts (lw_V q2348 q2350 qs70 q103 q2351) rfl rfl rfl (by decide +kernel) ⟨Nat.le_trans (Nat.le_of_ble_eq_true rfl) hR.1, Nat.le_trans (Nat.le_of_ble_eq_true rfl) hR.2⟩) hP hS rfl hl.1 rfl (Nat.le_of_ble_eq_true rfl) dX3_truth_16 (fun H locs hP hS => ?_)
    refine lv_iload_n hx hb dX3_truth_19 rfl (lv_at hl 1 rfl) ?_
    refine lv_iconst (v := 0) hx hb dX3_truth_20 (by decide) ?_
    refine lv_aload_n hx hb dX3_truth_21 rfl (lv_at hl 0 rfl) ?_
    obtain ⟨r10, σ8, c9, h⟩ := mcall_n h
    refine m_calli (As := []) (rest := [.int 0, .int x1]) hC (met_truthMany l N E H.size σ6 r10 σ8 c9) (cwV 0 hts (lw_V q2427 q2429 qs83 q103 q2430) rfl rfl rfl (by decide +kernel) ⟨Nat.le_trans (Nat.le_of_ble_eq_true rfl) hR.1, Nat.le_trans (Nat.le_of_ble_eq_true rfl) hR.2⟩) hP hS rfl hl.1 rfl (Nat.le_of_ble_eq_true rfl) dX3_truth_22 (fun H locs hP hS => ?_)
    refine lv_iconst (v := 1) hx hb dX3_truth_25 (by decide) ?_
    refine lv_isub hx hb dX3_truth_26 ?_
    obtain ⟨r13, σ11, c12, h⟩ := mcall_n h
    refine m_callsi (As := [.int x1, .int 0, .int (r10 - 1)]) (rest := []) hC (met_within l N E H.size σ8 x1 0 (r10 - 1) r13 σ11 c12) (va_cwS 3 hts (lw_S q2135 q2136 q103 q2137) rfl rfl rfl (by decide +kernel) ⟨Nat.le_trans (Nat.le_of_ble_eq_true rfl) hR.1, Nat.le_trans (Nat.le_of_ble_eq_true rfl) hR.2⟩) hP hS rfl hl.1 rfl (Nat.le_of_ble_eq_true rfl) dX3_truth_27 (fun H locs hP hS => ?_)
    refine lv_if_ne (tgt := 35) hx hb dX3_truth_30 (by decide) (fun c14 => ?_) (fun c14 => ?_)
    · have h := mif_f c14 h
      refine lv_aload_n hx hb dX3_truth_35 rfl (lv_at hl 0 rfl) ?_
      refine m_geta hC hP 52 (by decide) rfl q1945 dX3_truth_36 ?_
      refine lv_iconst (v := 4) hx hb dX3_truth_39 (by decide) ?_
      refine lv_iload_n hx hb dX3_truth_40 rfl (lv_at hl 2 rfl) ?_
      refine lv_imul hx hb dX3_truth_41 ?_
      refine lv_aload_n hx hb dX3_truth_42 rfl (lv_at hl 0 rfl) ?_
      refine lv_iload_n hx hb dX3_truth_43 rfl (lv_at hl 1 rfl) ?_
      obtain ⟨r17, σ15, c16, h⟩ := mcall_n h
      refine m_calli (As := [.int x1]) (rest := [.int (4 * x2), .ref (mad E 52)]) hC (met_all l N E H.size σ11 x1 r17 σ15 c16) (cwV 1 hts (lw_V q2435 q2437 qs84 q103 q2438) rfl rfl rfl (by decide +kernel) ⟨Nat.le_trans (Nat.le_of_ble_eq_true rfl) hR.1, Nat.le_trans (Nat.le_of_ble_eq_true rfl) hR.2⟩) hP hS rfl hl.1 rfl (Nat.le_of_ble_eq_true rfl) dX3_truth_44 (fun H locs hP hS => ?_)
      refine lv_iload_n hx hb dX3_truth_47 rfl (lv_at hl 2 rfl) ?_
      obtain ⟨r20, σ18, c19, h⟩ := mcall_n h
      refine m_callsi (As := [.int r17, .int x2]) (rest := [.int (4 * x2), .ref (mad E 52)]) hC (met_digit l N E H.size σ15 r17 x2 r20 σ18 c19) (va_cwS 2 hts (lw_S q2360 q2361 q103 q2362) rfl rfl rfl (by decide +kernel) ⟨Nat.le_trans (Nat.le_of_ble_eq_true rfl) hR.1, Nat.le_trans (Nat.le_of_ble_eq_true rfl) hR.2⟩) hP hS rfl hl.1 rfl (Nat.le_of_ble_eq_true rfl) dX3_truth_48 (fun H locs hP hS => ?_)
      refine lv_iadd hx hb dX3_truth_51 ?_
      refine lv_iconst (v := 1) hx hb dX3_truth_52 (by decide) ?_
      refine lv_isub hx hb dX3_truth_53 ?_
      obtain ⟨c21, h⟩ := mif_n h
      refine m_ald hC hP 52 rfl c21 dX3_truth_54 ?_
      refine lv_topi (fun y22 ey22 => ?_)
      have h := mlet_at ey22 h
      cases h
      exact m_iret hC hP hS dX3_truth_55
    · have h := mif_t c14 h
      refine lv_iconst (v := (-1)) hx hb dX3_truth_33 (by decide) ?_
      cases h
      exact m_iret hC hP hS dX3_truth_34
  · have h := mif_t c5 h
    refine lv_iconst (v := (-1)) hx hb dX3_truth_13 (by decide) ?_
    cases h
    exact m_iret hC hP hS dX3_truth_14
theorem met_truth (l : Launch) (N : Nat) (E : mE) (sz : Nat) (σ : MS) (x1 : Int32) (x2 : Int32) (r : Int32) (σ' : MS) (h : f_truth N σ x1 x2 = some (r, σ')) : Met l yX3_truth (ws_ yX3_truth cX3_truth 3 (some .int)) ({ frames := 3, cells := 0, slots := 0, locals := 67 }) (mPc E sz σ [.ref (mh E), .int x1, .int x2]) (mQi E sz r σ') 0 0 (mA E sz) :=
  m_met (Qc := fun z => mQi E z r σ') (by decide) rfl (Nat.le_of_ble_eq_true rfl) (fun hC ls hl hP => w_truth_0 hC ⟨Nat.le_refl _, Nat.le_refl _⟩ N σ x1 x2 h hP va_S.rf hl)
def f_sees_52 (N : Nat) (k6 : MS → Int32 → Int32 → Int32 → Int32 → Option (Int32 × MS)) (σ : MS) (x2 : Int32) (x3 : Int32) (x4 : Int32) (x5 : Int32) : Option (Int32 × MS) :=
    mlet (x5 + 1) fun y1 =>
    k6 σ x2 x3 x4 y1
set_option maxHeartbeats 4000000 in
set_option maxRecDepth 100000 in
theorem w_sees_52 {p : Program} {l : Launch} {e : Env} {R : Room} {s : State} {m : MethodId} {args : Array Value} {below : List Frame} {meth : Method} {c : Code} {E : mE} {σ' : MS} {r : Int32} (hC : mC p s m args meth c E cX3_sees 6 (some .int)) (hR : 3 ≤ R.frames ∧ 70 ≤ R.locals) (N : Nat) (k6 : MS → Int32 → Int32 → Int32 → Int32 → Option (Int32 × MS)) (hk6 : ∀ (σ : MS) (x2 : Int32) (x3 : Int32) (x4 : Int32) (x5 : Int32), k6 σ x2 x3 x4 x5 = some (r, σ') → ∀ (H : Heap) (locs : List Loc), mP E σ H → va_S (mA E s.heap.size) s.heap H locs → ∀ ls : Array Slot, lv_has ls 6 [(0, .ref (mh E)), (2, .int x2), (3, .int x3), (4, .int x4), (5, .int x5)] → W p l e R s m args below meth c H locs 0 0 (MQ below (mQi E s.heap.size r σ') args s 0 0 (mA E s.heap.size)) (F0 m 6 ls [])) (σ : MS) (x2 : Int32) (x3 : Int32) (x4 : Int32) (x5 : Int32) (h : f_sees_52 N k6 σ x2 x3 x4 x5 = some (r, σ')) {H : Heap} {locs : List Loc} (hP : mP E σ H) (hS : va_S (mA E s.heap.size) s.heap H locs) {ls : Array Slot} (hl : lv_has ls 6 [(0, .ref (mh E)), (2, .int x2), (3, .int x3), (4, .int x4), (5, .int x5)]) : W p l e R s m args below meth c H locs 0 0 (MQ below (mQi E s.heap.size r σ') args s 0 0 (mA E s.heap.size)) (F0 m 52 ls []) := by
  obtain ⟨⟨hx, hb, hml, hown, hts⟩, hK, hD, hr, hlk⟩ := id hC
  unfold f_sees_52 at h
  obtain ⟨y1, ey1⟩ : ∃ z : Int32, z = x5 + 1 := ⟨_, rfl⟩
  have h := mlet_at ey1 h
  refine lv_iinc (v := y1) (lv' := [(5, .int y1), (0, .ref (mh E)), (2, .int x2), (3, .int x3), (4, .int x4)]) hx hb dX3_sees_52 hl (k := 4) rfl (by rw [ey1]; rfl) (by decide) rfl (fun ls hl => ?_)
  refine lv_goto (tgt := 6) hx hb dX3_sees_55 (by decide) ?_
  exact hk6 σ x2 x3 x4 y1 h _ _ hP hS _ (lv_sub hl [1, 2, 3, 4, 0] rfl)
def f_sees_6 (N : Nat) : Nat → MS → Int32 → Int32 → Int32 → Int32 → Option (Int32 × MS)
  | 0, _, _, _, _, _ => none
  | n + 1, σ, x2, x3, x4, x5 =>
    if (σ.1 37) ≤ x5 then
    some (x4, σ)
    else
    mcall (f_digit N σ x4 x5) fun r4 σ2 =>
    if r4 = 0 then
    mcall (f_isNear N σ2 x2 x5) fun r8 σ6 =>
    if r8 = 0 then
    f_sees_52 N (f_sees_6 N n) σ6 x2 x3 x4 x5
    else
    mcall (f_digit N σ6 x3 x5) fun r12 σ10 =>
    mcall (f_power N σ10 x5) fun r15 σ13 =>
    mlet (x4 + (r12 * r15)) fun y16 =>
    f_sees_52 N (f_sees_6 N n) σ13 x2 x3 y16 x5
    else
    f_sees_52 N (f_sees_6 N n) σ2 x2 x3 x4 x5
set_option maxHeartbeats 4000000 in
set_option maxRecDepth 100000 in
theorem w_sees_6 {p : Program} {l : Launch} {e : Env} {R : Room} {s : State} {m : MethodId} {args : Array Value} {below : List Frame} {meth : Method} {c : Code} {E : mE} {σ' : MS} {r : Int32} (hC : mC p s m args meth c E cX3_sees 6 (some .int)) (hR : 3 ≤ R.frames ∧ 70 ≤ R.locals) (N : Nat) : ∀ (n : Nat) (σ : MS) (x2 : Int32) (x3 : Int32) (x4 : Int32) (x5 : Int32), f_sees_6 N n σ x2 x3 x4 x5 = some (r, σ') → ∀ (H : Heap) (locs : List Loc), mP E σ H → va_S (mA E s.heap.size) s.heap H locs → ∀ ls : Array Slot, lv_has ls 6 [(0, .ref (mh E)), (2, .int x2), (3, .int x3), (4, .int x4), (5, .int x5)] → W p l e R s m args below meth c H locs 0 0 (MQ below (mQi E s.heap.size r σ') args s 0 0 (mA E s.heap.size)) (F0 m 6 ls []) := by
  obtain ⟨⟨hx, hb, hml, hown, hts⟩, hK, hD, hr, hlk⟩ := id hC
  intro n
  induction n with
  | zero =>
    intro σ x2 x3 x4 x5 h
    cases h
  | succ n ih =>
    intro σ x2 x3 x4 x5 h H locs hP hS ls hl
    unfold f_sees_6 at h
    refine lv_iload hx hb dX3_sees_6 (lv_at hl 4 rfl) ?_
    refine lv_aload_n hx hb dX3_sees_8 rfl (lv_at hl 0 rfl) ?_
    refine m_geti hC hP 37 (by decide) rfl q1930 dX3_sees_9 ?_
    refine lv_icmp_ge (tgt := 58) hx hb dX3_sees_12 (by decide) (fun c1 => ?_) (fun c1 => ?_)
    · have h := mif_t c1 h
      refine lv_iload hx hb dX3_sees_58 (lv_at hl 3 rfl) ?_
      cases h
      exact m_iret hC hP hS dX3_sees_60
    · have h := mif_f c1 h
      refine lv_iload hx hb dX3_sees_15 (lv_at hl 3 rfl) ?_
      refine lv_iload hx hb dX3_sees_17 (lv_at hl 4 rfl) ?_
      obtain ⟨r4, σ2, c3, h⟩ := mcall_n h
      refine m_callsi (As := [.int x4, .int x5]) (rest := []) hC (met_digit l N E H.size σ x4 x5 r4 σ2 c3) (va_cwS 2 hts (lw_S q2360 q2361 q103 q2362) rfl rfl rfl (by decide +kernel) ⟨Nat.le_trans (Nat.le_of_ble_eq_true rfl) hR.1, Nat.le_trans (Nat.le_of_ble_eq_true rfl) hR.2⟩) hP hS rfl hl.1 rfl (Nat.le_of_ble_eq_true rfl) dX3_sees_19 (fun H locs hP hS => ?_)
      refine lv_if_ne (tgt := 52) hx hb dX3_sees_22 (by decide) (fun c5 => ?_) (fun c5 => ?_)
      · have h := mif_f c5 h
        exact w_sees_52 hC hR N (f_sees_6 N n) ih σ2 x2 x3 x4 x5 h hP hS (lv_sub hl [0, 1, 2, 3, 4] rfl)
      · have h := mif_t c5 h
        refine lv_aload_n hx hb dX3_sees_25 rfl (lv_at hl 0 rfl) ?_
        refine lv_iload_n hx hb dX3_sees_26 rfl (lv_at hl 1 rfl) ?_
        refine lv_iload hx hb dX3_sees_27 (lv_at hl 4 rfl) ?_
        obtain ⟨r8, σ6, c7, h⟩ := mcall_n h
        refine m_calli (As := [.int x2, .int x5]) (rest := []) hC (met_isNear l N E H.size σ2 x2 x5 r8 σ6 c7) (cwV 2 hts (lw_V q2352 q2354 qs71 q103 q2355) rfl rfl rfl (by decide +kernel) ⟨Nat.le_trans (Nat.le_of_ble_eq_true rfl) hR.1, Nat.le_trans (Nat.le_of_ble_eq_true rfl) hR.2⟩) hP hS rfl hl.1 rfl (Nat.le_of_ble_eq_true rfl) dX3_sees_29 (fun H locs hP hS => ?_)
        refine lv_if_eq (tgt := 52) hx hb dX3_sees_32 (by decide) (fun c9 => ?_) (fun c9 => ?_)
        · have h := mif_t c9 h
          exact w_sees_52 hC hR N (f_sees_6 N n) ih σ6 x2 x3 x4 x5 h hP hS (lv_sub hl [0, 1, 2, 3, 4] rfl)
        · have h := mif_f c9 h
          refine lv_iload hx hb dX3_sees_35 (lv_at hl 3 rfl) ?_
          refine lv_iload_n hx hb dX3_sees_37 rfl (lv_at hl 2 rfl) ?_
          refine lv_iload hx hb dX3_sees_38 (lv_at hl 4 rfl) ?_
          obtain ⟨r12, σ10, c11, h⟩ := mcall_n h
          refine m_callsi (As := [.int x3, .int x5]) (rest := [.int x4]) hC (met_digit l N E H.size σ6 x3 x5 r12 σ10 c11) (va_cwS 2 hts (lw_S q2360 q2361 q103 q2362) rfl rfl rfl (by decide +kernel) ⟨Nat.le_trans (Nat.le_of_ble_eq_true rfl) hR.1, Nat.le_trans (Nat.le_of_ble_eq_true rfl) hR.2⟩) hP hS rfl hl.1 rfl (Nat.le_of_ble_eq_true rfl) dX3_sees_40 (fun H locs hP hS => ?_)
          refine lv_iload hx hb dX3_sees_43 (lv_at hl 4 rfl) ?_
          obtain ⟨r15, σ13, c14, h⟩ := mcall_n h
          refine m_callsi (As := [.int x5]) (rest := [.int r12, .int x4]) hC (met_power l N E H.size σ10 x5 r15 σ13 c14) (va_cwS 1 hts (lw_S q2380 q2381 q103 q2382) rfl rfl rfl (by decide +kernel) ⟨Nat.le_trans (Nat.le_of_ble_eq_true rfl) hR.1, Nat.le_trans (Nat.le_of_ble_eq_true rfl) hR.2⟩) hP hS rfl hl.1 rfl (Nat.le_of_ble_eq_true rfl) dX3_sees_45 (fun H locs hP hS => ?_)
          refine lv_imul hx hb dX3_sees_48 ?_
          refine lv_iadd hx hb dX3_sees_49 ?_
          refine lv_topi (fun y16 ey16 => ?_)
          have h := mlet_at ey16 h
          refine lv_istore (lv' := [(4, .int y16), (0, .ref (mh E)), (2, .int x2), (3, .int x3), (5, .int x5)]) hx hb dX3_sees_50 hl (by decide) rfl (fun ls hl => ?_)
          exact w_sees_52 hC hR N (f_sees_6 N n) ih σ13 x2 x3 y16 x5 h hP hS (lv_sub hl [1, 2, 3, 0, 4] rfl)
def f_sees (N : Nat) (σ : MS) (x1 : Int32) (x2 : Int32) (x3 : Int32) : Option (Int32 × MS) :=
    f_sees_6 N N σ x2 x3 x1 0
set_option maxHeartbeats 4000000 in
set_option maxRecDepth 100000 in
theorem w_sees_0 {p : Program} {l : Launch} {e : Env} {R : Room} {s : State} {m : MethodId} {args : Array Value} {below : List Frame} {meth : Method} {c : Code} {E : mE} {σ' : MS} {r : Int32} (hC : mC p s m args meth c E cX3_sees 6 (some .int)) (hR : 3 ≤ R.frames ∧ 70 ≤ R.locals) (N : Nat) (σ : MS) (x1 : Int32) (x2 : Int32) (x3 : Int32) (h : f_sees N σ x1 x2 x3 = some (r, σ')) {H : Heap} {locs : List Loc} (hP : mP E σ H) (hS : va_S (mA E s.heap.size) s.heap H locs) {ls : Array Slot} (hl : lv_has ls 6 [(0, .ref (mh E)), (1, .int x1), (2, .int x2), (3, .int x3)]) : W p l e R s m args below meth c H locs 0 0 (MQ below (mQi E s.heap.size r σ') args s 0 0 (mA E s.heap.size)) (F0 m 0 ls []) := by
  obtain ⟨⟨hx, hb, hml, hown, hts⟩, hK, hD, hr, hlk⟩ := id hC
  unfold f_sees at h
  refine lv_iload_n hx hb dX3_sees_0 rfl (lv_at hl 1 rfl) ?_
  refine lv_istore (lv' := [(4, .int x1), (0, .ref (mh E)), (1, .int x1), (2, .int x2), (3, .int x3)]) hx hb dX3_sees_1 hl (by decide) rfl (fun ls hl => ?_)
  refine lv_iconst (v := 0) hx hb dX3_sees_3 (by decide) ?_
  refine lv_istore (lv' := [(5, .int 0), (4, .int x1), (0, .ref (mh E)), (1, .int x1), (2, .int x2), (3, .int x3)]) hx hb dX3_sees_4 hl (by decide) rfl (fun ls hl => ?_)
  exact w_sees_6 hC hR N N σ x2 x3 x1 0 h _ _ hP hS _ (lv_sub hl [2, 4, 5, 1, 0] rfl)
theorem met_sees (l : Launch) (N : Nat) (E : mE) (sz : Nat) (σ : MS) (x1 : Int32) (x2 : Int32) (x3 : Int32) (r : Int32) (σ' : MS) (h : f_sees N σ x1 x2 x3 = some (r, σ')) : Met l yX3_sees (ws_ yX3_sees cX3_sees 6 (some .int)) ({ frames := 3, cells := 0, slots := 0, locals := 70 }) (mPc E sz σ [.ref (mh E), .int x1, .int x2, .int x3]) (mQi E sz r σ') 0 0 (mA E sz) :=
  m_met (Qc := fun z => mQi E z r σ') (by decide) rfl (Nat.le_of_ble_eq_true rfl) (fun hC ls hl hP => w_sees_0 hC ⟨Nat.le_refl _, Nat.le_refl _⟩ N σ x1 x2 x3 h hP va_S.rf hl)
def f_goes_84 (N : Nat) (k26 : MS → Int32 → Int32 → Int32 → Int32 → Int32 → Option (Int32 × MS)) (σ : MS) (x3 : Int32) (x4 : Int32) (x5 : Int32) (x6 : Int32) (x8 : Int32) (s0 : Int32) : Option (Int32 × MS) :=
    if s0 = 0 then
    k26 σ x3 x4 x5 x6 s0
    else
    if mIn ((4 * x5) + x8) (mLen 70) = true then mlet (σ.2.1 70 ((4 * x5) + x8).toNatClampNeg) fun y3 =>
    mlet (x6 + y3) fun y4 =>
    mcall (f_beside N σ x5 x8) fun r7 σ5 =>
    k26 σ5 x3 x4 r7 y4 s0
    else none
set_option maxHeartbeats 4000000 in
set_option maxRecDepth 100000 in
theorem w_goes_84 {p : Program} {l : Launch} {e : Env} {R : Room} {s : State} {m : MethodId} {args : Array Value} {below : List Frame} {meth : Method} {c : Code} {E : mE} {σ' : MS} {r : Int32} (hC : mC p s m args meth c E cX3_goes 9 (some .int)) (hR : 4 ≤ R.frames ∧ 97 ≤ R.locals) (N : Nat) (k26 : MS → Int32 → Int32 → Int32 → Int32 → Int32 → Option (Int32 × MS)) (hk26 : ∀ (σ : MS) (x3 : Int32) (x4 : Int32) (x5 : Int32) (x6 : Int32) (x7 : Int32), k26 σ x3 x4 x5 x6 x7 = some (r, σ') → ∀ (H : Heap) (locs : List Loc), mP E σ H → va_S (mA E s.heap.size) s.heap H locs → ∀ ls : Array Slot, lv_has ls 9 [(0, .ref (mh E)), (3, .int x3), (4, .int x4), (5, .int x5), (6, .int x6), (7, .int x7)] → W p l e R s m args below meth c H locs 0 0 (MQ below (mQi E s.heap.size r σ') args s 0 0 (mA E s.heap.size)) (F0 m 26 ls [])) (σ : MS) (x3 : Int32) (x4 : Int32) (x5 : Int32) (x6 : Int32) (x8 : Int32) (s0 : Int32) (h : f_goes_84 N k26 σ x3 x4 x5 x6 x8 s0 = some (r, σ')) {H : Heap} {locs : List Loc} (hP : mP E σ H) (hS : va_S (mA E s.heap.size) s.heap H locs) {ls : Array Slot} (hl : lv_has ls 9 [(0, .ref (mh E)), (3, .int x3), (4, .int x4), (5, .int x5), (6, .int x6), (8, .int x8)]) : W p l e R s m args below meth c H locs 0 0 (MQ below (mQi E s.heap.size r σ') args s 0 0 (mA E s.heap.size)) (F0 m 84 ls [.int s0]) := by
  obtain ⟨⟨hx, hb, hml, hown, hts⟩, hK, hD, hr, hlk⟩ := id hC
  unfold f_goes_84 at h
  refine lv_istore (lv' := [(7, .int s0), (0, .ref (mh E)), (3, .int x3), (4, .int x4), (5, .int x5), (6, .int x6), (8, .int x8)]) hx hb dX3_goes_84 hl (by decide) rfl (fun ls hl => ?_)
  refine lv_iload hx hb dX3_goes_86 (lv_at hl 0 rfl) ?_
  refine lv_if_ne (tgt := 94) hx hb dX3_goes_88 (by decide) (fun c1 => ?_) (fun c1 => ?_)
  · have h := mif_f c1 h
    refine lv_iload hx hb dX3_goes_94 (lv_at hl 5 rfl) ?_
    refine lv_aload_n hx hb dX3_goes_96 rfl (lv_at hl 1 rfl) ?_
    refine m_geta hC hP 70 (by decide) rfl q1963 dX3_goes_97 ?_
    refine lv_iconst (v := 4) hx hb dX3_goes_100 (by decide) ?_
    refine lv_iload hx hb dX3_goes_101 (lv_at hl 4 rfl) ?_
    refine lv_imul hx hb dX3_goes_103 ?_
    refine lv_iload hx hb dX3_goes_104 (lv_at hl 6 rfl) ?_
    refine lv_iadd hx hb dX3_goes_106 ?_
    obtain ⟨c2, h⟩ := mif_n h
    refine m_ald hC hP 70 rfl c2 dX3_goes_107 ?_
    refine lv_topi (fun y3 ey3 => ?_)
    have h := mlet_at ey3 h
    refine lv_iadd hx hb dX3_goes_108 ?_
    refine lv_topi (fun y4 ey4 => ?_)
    have h := mlet_at ey4 h
    refine lv_istore (lv' := [(6, .int y4), (7, .int s0), (0, .ref (mh E)), (3, .int x3), (4, .int x4), (5, .int x5), (8, .int x8)]) hx hb dX3_goes_109 hl (by decide) rfl (fun ls hl => ?_)
    refine lv_aload_n hx hb dX3_goes_111 rfl (lv_at hl 2 rfl) ?_
    refine lv_iload hx hb dX3_goes_112 (lv_at hl 5 rfl) ?_
    refine lv_iload hx hb dX3_goes_114 (lv_at hl 6 rfl) ?_
    obtain ⟨r7, σ5, c6, h⟩ := mcall_n h
    refine m_calli (As := [.int x5, .int x8]) (rest := []) hC (met_beside l N E H.size σ x5 x8 r7 σ5 c6) (cwV 2 hts (lw_V q2316 q2318 qs63 q103 q2319) rfl rfl rfl (by decide +kernel) ⟨Nat.le_trans (Nat.le_of_ble_eq_true rfl) hR.1, Nat.le_trans (Nat.le_of_ble_eq_true rfl) hR.2⟩) hP hS rfl hl.1 rfl (Nat.le_of_ble_eq_true rfl) dX3_goes_116 (fun H locs hP hS => ?_)
    refine lv_istore (lv' := [(5, .int r7), (6, .int y4), (7, .int s0), (0, .ref (mh E)), (3, .int x3), (4, .int x4), (8, .int x8)]) hx hb dX3_goes_119 hl (by decide) rfl (fun ls hl => ?_)
    refine lv_goto (tgt := 26) hx hb dX3_goes_121 (by decide) ?_
    exact hk26 σ5 x3 x4 r7 y4 s0 h _ _ hP hS _ (lv_sub hl [3, 4, 5, 0, 1, 2] rfl)
  · have h := mif_t c1 h
    refine lv_goto (tgt := 26) hx hb dX3_goes_91 (by decide) ?_
    exact hk26 σ x3 x4 x5 x6 s0 h _ _ hP hS _ (lv_sub hl [1, 2, 3, 4, 5, 0] rfl)
def f_goes_26 (N : Nat) : Nat → MS → Int32 → Int32 → Int32 → Int32 → Int32 → Option (Int32 × MS)
  | 0, _, _, _, _, _, _ => none
  | n + 1, σ, x3, x4, x5, x6, x7 =>
    if x7 = 0 then
    some (x6, σ)
    else
    if mIn (σ.1 55) (mLen 54) = true then mlet (mArr σ 54 (σ.1 55).toNatClampNeg x5) fun σ3 =>
    mlet (mSet σ3 55 ((σ3.1 55) + 1)) fun σ4 =>
    mcall (f_sees N σ4 x4 x5 x3) fun r7 σ5 =>
    mcall (f_stepOf N σ5 x5 r7) fun r10 σ8 =>
    if 4 ≤ r10 then
    f_goes_84 N (f_goes_26 N n) σ8 x3 r7 x5 x6 r10 0
    else
    f_goes_84 N (f_goes_26 N n) σ8 x3 r7 x5 x6 r10 1
    else none
set_option maxHeartbeats 4000000 in
set_option maxRecDepth 100000 in
theorem w_goes_26 {p : Program} {l : Launch} {e : Env} {R : Room} {s : State} {m : MethodId} {args : Array Value} {below : List Frame} {meth : Method} {c : Code} {E : mE} {σ' : MS} {r : Int32} (hC : mC p s m args meth c E cX3_goes 9 (some .int)) (hR : 4 ≤ R.frames ∧ 97 ≤ R.locals) (N : Nat) : ∀ (n : Nat) (σ : MS) (x3 : Int32) (x4 : Int32) (x5 : Int32) (x6 : Int32) (x7 : Int32), f_goes_26 N n σ x3 x4 x5 x6 x7 = some (r, σ') → ∀ (H : Heap) (locs : List Loc), mP E σ H → va_S (mA E s.heap.size) s.heap H locs → ∀ ls : Array Slot, lv_has ls 9 [(0, .ref (mh E)), (3, .int x3), (4, .int x4), (5, .int x5), (6, .int x6), (7, .int x7)] → W p l e R s m args below meth c H locs 0 0 (MQ below (mQi E s.heap.size r σ') args s 0 0 (mA E s.heap.size)) (F0 m 26 ls []) := by
  obtain ⟨⟨hx, hb, hml, hown, hts⟩, hK, hD, hr, hlk⟩ := id hC
  intro n
  induction n with
  | zero =>
    intro σ x3 x4 x5 x6 x7 h
    cases h
  | succ n ih =>
    intro σ x3 x4 x5 x6 x7 h H locs hP hS ls hl
    unfold f_goes_26 at h
    refine lv_iload hx hb dX3_goes_26 (lv_at hl 5 rfl) ?_
    refine lv_if_eq (tgt := 124) hx hb dX3_goes_28 (by decide) (fun c1 => ?_) (fun c1 => ?_)
    · have h := mif_t c1 h
      refine lv_iload hx hb dX3_goes_124 (lv_at hl 4 rfl) ?_
      cases h
      exact m_iret hC hP hS dX3_goes_126
    · have h := mif_f c1 h
      refine lv_aload_n hx hb dX3_goes_31 rfl (lv_at hl 0 rfl) ?_
      refine m_geta hC hP 54 (by decide) rfl q1947 dX3_goes_32 ?_
      refine lv_aload_n hx hb dX3_goes_35 rfl (lv_at hl 0 rfl) ?_
      refine m_geti hC hP 55 (by decide) rfl q1948 dX3_goes_36 ?_
      refine lv_iload hx hb dX3_goes_39 (lv_at hl 3 rfl) ?_
      obtain ⟨c2, h⟩ := mif_n h
      refine m_ast hC hP hS 54 rfl c2 dX3_goes_41 (fun H locs hP hS => ?_)
      obtain ⟨σ3, eσ3⟩ : ∃ z : MS, z = mArr σ 54 (σ.1 55).toNatClampNeg x5 := ⟨_, rfl⟩
      rw [← eσ3] at hP
      have h := mlet_at eσ3 h
      refine lv_aload_n hx hb dX3_goes_42 rfl (lv_at hl 0 rfl) ?_
      refine lv_dup hx hb dX3_goes_43 rfl ?_
      refine m_geti hC hP 55 (by decide) rfl q1948 dX3_goes_44 ?_
      refine lv_iconst (v := 1) hx hb dX3_goes_47 (by decide) ?_
      refine lv_iadd hx hb dX3_goes_48 ?_
      refine m_put hC hP hS 55 (by decide) rfl q1948 rfl (ty := .int) (tyX3_ok 55 (by decide)) ⟨rfl, rfl⟩ dX3_goes_49 (fun H locs hP hS => ?_)
      obtain ⟨σ4, eσ4⟩ : ∃ z : MS, z = mSet σ3 55 ((σ3.1 55) + 1) := ⟨_, rfl⟩
      rw [← eσ4] at hP
      have h := mlet_at eσ4 h
      refine lv_aload_n hx hb dX3_goes_52 rfl (lv_at hl 0 rfl) ?_
      refine lv_iload hx hb dX3_goes_53 (lv_at hl 2 rfl) ?_
      refine lv_iload hx hb dX3_goes_55 (lv_at hl 3 rfl) ?_
      refine lv_iload_n hx hb dX3_goes_57 rfl (lv_at hl 1 rfl) ?_
      obtain ⟨r7, σ5, c6, h⟩ := mcall_n h
      refine m_calli (As := [.int x4, .int x5, .int x3]) (rest := []) hC (met_sees l N E H.size σ4 x4 x5 x3 r7 σ5 c6) (cwV 3 hts (lw_V q2447 q2449 qs86 q103 q2450) rfl rfl rfl (by decide +kernel) ⟨Nat.le_trans (Nat.le_of_ble_eq_true rfl) hR.1, Nat.le_trans (Nat.le_of_ble_eq_true rfl) hR.2⟩) hP hS rfl hl.1 rfl (Nat.le_of_ble_eq_true rfl) dX3_goes_58 (fun H locs hP hS => ?_)
      refine lv_istore (lv' := [(4, .int r7), (0, .ref (mh E)), (3, .int x3), (5, .int x5), (6, .int x6), (7, .int x7)]) hx hb dX3_goes_61 hl (by decide) rfl (fun ls hl => ?_)
      refine lv_aload_n hx hb dX3_goes_63 rfl (lv_at hl 1 rfl) ?_
      refine lv_iload hx hb dX3_goes_64 (lv_at hl 3 rfl) ?_
      refine lv_iload hx hb dX3_goes_66 (lv_at hl 0 rfl) ?_
      obtain ⟨r10, σ8, c9, h⟩ := mcall_n h
      refine m_calli (As := [.int x5, .int r7]) (rest := []) hC (met_stepOf l N E H.size σ5 x5 r7 r10 σ8 c9) (cwV 2 hts (lw_V q2419 q2421 qs82 q103 q2422) rfl rfl rfl (by decide +kernel) ⟨Nat.le_trans (Nat.le_of_ble_eq_true rfl) hR.1, Nat.le_trans (Nat.le_of_ble_eq_true rfl) hR.2⟩) hP hS rfl hl.1 rfl (Nat.le_of_ble_eq_true rfl) dX3_goes_68 (fun H locs hP hS => ?_)
      refine lv_istore (lv' := [(8, .int r10), (4, .int r7), (0, .ref (mh E)), (3, .int x3), (5, .int x5), (6, .int x6), (7, .int x7)]) hx hb dX3_goes_71 hl (by decide) rfl (fun ls hl => ?_)
      refine lv_iload hx hb dX3_goes_73 (lv_at hl 0 rfl) ?_
      refine lv_iconst (v := 4) hx hb dX3_goes_75 (by decide) ?_
      refine lv_icmp_ge (tgt := 83) hx hb dX3_goes_76 (by decide) (fun c11 => ?_) (fun c11 => ?_)
      · have h := mif_t c11 h
        refine lv_iconst (v := 0) hx hb dX3_goes_83 (by decide) ?_
        exact w_goes_84 hC hR N (f_goes_26 N n) ih σ8 x3 r7 x5 x6 r10 0 h hP hS (lv_sub hl [2, 3, 1, 4, 5, 0] rfl)
      · have h := mif_f c11 h
        refine lv_iconst (v := 1) hx hb dX3_goes_79 (by decide) ?_
        refine lv_goto (tgt := 84) hx hb dX3_goes_80 (by decide) ?_
        exact w_goes_84 hC hR N (f_goes_26 N n) ih σ8 x3 r7 x5 x6 r10 1 h hP hS (lv_sub hl [2, 3, 1, 4, 5, 0] rfl)
def f_goes (N : Nat) (σ : MS) (x1 : Int32) (x2 : Int32) : Option (Int32 × MS) :=
    mcall (f_all N σ x2) fun r3 σ1 =>
    mcall (f_base N σ1) fun r6 σ4 =>
    mlet (mSet σ4 55 0) fun σ7 =>
    f_goes_26 N N σ7 r3 r6 x1 0 1
set_option maxHeartbeats 4000000 in
set_option maxRecDepth 100000 in
theorem w_goes_0 {p : Program} {l : Launch} {e : Env} {R : Room} {s : State} {m : MethodId} {args : Array Value} {below : List Frame} {meth : Method} {c : Code} {E : mE} {σ' : MS} {r : Int32} (hC : mC p s m args meth c E cX3_goes 9 (some .int)) (hR : 4 ≤ R.frames ∧ 97 ≤ R.locals) (N : Nat) (σ : MS) (x1 : Int32) (x2 : Int32) (h : f_goes N σ x1 x2 = some (r, σ')) {H : Heap} {locs : List Loc} (hP : mP E σ H) (hS : va_S (mA E s.heap.size) s.heap H locs) {ls : Array Slot} (hl : lv_has ls 9 [(0, .ref (mh E)), (1, .int x1), (2, .int x2)]) : W p l e R s m args below meth c H locs 0 0 (MQ below (mQi E s.heap.size r σ') args s 0 0 (mA E s.heap.size)) (F0 m 0 ls []) := by
  obtain ⟨⟨hx, hb, hml, hown, hts⟩, hK, hD, hr, hlk⟩ := id hC
  unfold f_goes at h
  refine lv_aload_n hx hb dX3_goes_0 rfl (lv_at hl 0 rfl) ?_
  refine lv_iload_n hx hb dX3_goes_1 rfl (lv_at hl 2 rfl) ?_
  obtain ⟨r3, σ1, c2, h⟩ := mcall_n h
  refine m_calli (As := [.int x2]) (rest := []) hC (met_all l N E H.size σ x2 r3 σ1 c2) (cwV 1 hts (lw_V q2435 q2437 qs84 q103 q2438) rfl rfl rfl (by decide +kernel) ⟨Nat.le_trans (Nat.le_of_ble_eq_true rfl) hR.1, Nat.le_trans (Nat.le_of_ble_eq_true rfl) hR.2⟩) hP hS rfl hl.1 rfl (Nat.le_of_ble_eq_true rfl) dX3_goes_2 (fun H locs hP hS => ?_)
  refine lv_istore_n (lv' := [(3, .int r3), (0, .ref (mh E)), (1, .int x1), (2, .int x2)]) hx hb dX3_goes_5 rfl hl (by decide) rfl (fun ls hl => ?_)
  refine lv_aload_n hx hb dX3_goes_6 rfl (lv_at hl 1 rfl) ?_
  obtain ⟨r6, σ4, c5, h⟩ := mcall_n h
  refine m_calli (As := []) (rest := []) hC (met_base l N E H.size σ1 r6 σ4 c5) (cwV 0 hts (lw_V q2399 q2401 qs81 q103 q2402) rfl rfl rfl (by decide +kernel) ⟨Nat.le_trans (Nat.le_of_ble_eq_true rfl) hR.1, Nat.le_trans (Nat.le_of_ble_eq_true rfl) hR.2⟩) hP hS rfl hl.1 rfl (Nat.le_of_ble_eq_true rfl) dX3_goes_7 (fun H locs hP hS => ?_)
  refine lv_istore (lv' := [(4, .int r6), (3, .int r3), (0, .ref (mh E)), (1, .int x1), (2, .int x2)]) hx hb dX3_goes_10 hl (by decide) rfl (fun ls hl => ?_)
  refine lv_iload_n hx hb dX3_goes_12 rfl (lv_at hl 3 rfl) ?_
  refine lv_istore (lv' := [(5, .int x1), (4, .int r6), (3, .int r3), (0, .ref (mh E)), (1, .int x1), (2, .int x2)]) hx hb dX3_goes_13 hl (by decide) rfl (fun ls hl => ?_)
  refine lv_iconst (v := 0) hx hb dX3_goes_15 (by decide) ?_
  refine lv_istore (lv' := [(6, .int 0), (5, .int x1), (4, .int r6), (3, .int r3), (0, .ref (mh E)), (1, .int x1), (2, .int x2)]) hx hb dX3_goes_16 hl (by decide) rfl (fun ls hl => ?_)
  refine lv_aload_n hx hb dX3_goes_18 rfl (lv_at hl 4 rfl) ?_
  refine lv_iconst (v := 0) hx hb dX3_goes_19 (by decide) ?_
  refine m_put hC hP hS 55 (by decide) rfl q1948 rfl (ty := .int) (tyX3_ok 55 (by decide)) ⟨rfl, rfl⟩ dX3_goes_20 (fun H locs hP hS => ?_)
  obtain ⟨σ7, eσ7⟩ : ∃ z : MS, z = mSet σ4 55 0 := ⟨_, rfl⟩
  rw [← eσ7] at hP
  have h := mlet_at eσ7 h
  refine lv_iconst (v := 1) hx hb dX3_goes_23 (by decide) ?_
  refine lv_istore (lv' := [(7, .int 1), (6, .int 0), (5, .int x1), (4, .int r6), (3, .int r3), (0, .ref (mh E)), (1, .int x1), (2, .int x2)]) hx hb dX3_goes_24 hl (by decide) rfl (fun ls hl => ?_)
  exact w_goes_26 hC hR N N σ7 r3 r6 x1 0 1 h _ _ hP hS _ (lv_sub hl [5, 4, 3, 2, 1, 0] rfl)
theorem met_goes (l : Launch) (N : Nat) (E : mE) (sz : Nat) (σ : MS) (x1 : Int32) (x2 : Int32) (r : Int32) (σ' : MS) (h : f_goes N σ x1 x2 = some (r, σ')) : Met l yX3_goes (ws_ yX3_goes cX3_goes 9 (some .int)) ({ frames := 4, cells := 0, slots := 0, locals := 97 }) (mPc E sz σ [.ref (mh E), .int x1, .int x2]) (mQi E sz r σ') 0 0 (mA E sz) :=
  m_met (Qc := fun z => mQi E z r σ') (by decide) rfl (Nat.le_of_ble_eq_true rfl) (fun hC ls hl hP => w_goes_0 hC ⟨Nat.le_refl _, Nat.le_refl _⟩ N σ x1 x2 h hP va_S.rf hl)
def f_run_20 (N : Nat) (σ : MS) : Option (Int32 × MS) :=
    mcall (f_no N σ 1) fun r3 σ1 =>
    some (r3, σ1)
set_option maxHeartbeats 4000000 in
set_option maxRecDepth 100000 in
theorem w_run_20 {p : Program} {l : Launch} {e : Env} {R : Room} {s : State} {m : MethodId} {args : Array Value} {below : List Frame} {meth : Method} {c : Code} {E : mE} {σ' : MS} {r : Int32} (hC : mC p s m args meth c E cX3_run 5 (some .int)) (hR : 7 ≤ R.frames ∧ 177 ≤ R.locals) (N : Nat) (σ : MS) (h : f_run_20 N σ = some (r, σ')) {H : Heap} {locs : List Loc} (hP : mP E σ H) (hS : va_S (mA E s.heap.size) s.heap H locs) {ls : Array Slot} (hl : lv_has ls 5 [(0, .ref (mh E))]) : W p l e R s m args below meth c H locs 0 0 (MQ below (mQi E s.heap.size r σ') args s 0 0 (mA E s.heap.size)) (F0 m 20 ls []) := by
  obtain ⟨⟨hx, hb, hml, hown, hts⟩, hK, hD, hr, hlk⟩ := id hC
  unfold f_run_20 at h
  refine lv_aload_n hx hb dX3_run_20 rfl (lv_at hl 0 rfl) ?_
  refine lv_iconst (v := 1) hx hb dX3_run_21 (by decide) ?_
  obtain ⟨r3, σ1, c2, h⟩ := mcall_n h
  refine m_calli (As := [.int 1]) (rest := []) hC (met_no l N E H.size σ 1 r3 σ1 c2) (cwV 1 hts (lw_V q2138 q2140 qs41 q103 q2141) rfl rfl rfl (by decide +kernel) ⟨Nat.le_trans (Nat.le_of_ble_eq_true rfl) hR.1, Nat.le_trans (Nat.le_of_ble_eq_true rfl) hR.2⟩) hP hS rfl hl.1 rfl (Nat.le_of_ble_eq_true rfl) dX3_run_22 (fun H locs hP hS => ?_)
  cases h
  exact m_iret hC hP hS dX3_run_25
def f_run (N : Nat) (σ : MS) (x1 : Int32) (x2 : Int32) (x3 : Int32) (x4 : Int32) : Option (Int32 × MS) :=
    mcallv (f_good N σ) fun σ1 =>
    mcall (f_isCell N σ1 x1) fun r5 σ3 =>
    if r5 = 0 then
    f_run_20 N σ3
    else
    mcall (f_isCell N σ3 x2) fun r9 σ7 =>
    if r9 = 0 then
    f_run_20 N σ7
    else
    mcallv (f_lists N σ7) fun σ11 =>
    mcall (f_truthMany N σ11) fun r15 σ13 =>
    mcall (f_within N σ13 x4 0 (r15 - 1)) fun r18 σ16 =>
    if r18 = 0 then
    mcall (f_no N σ16 1) fun r33 σ31 =>
    some (r33, σ31)
    else
    mcall (f_from N σ16 x1 x2 x3) fun r22 σ20 =>
    if 0 ≤ (lg_cmp r22 0) then
    mlet (mSet σ20 73 1) fun σ24 =>
    mcall (f_goes N σ24 x1 x4) fun r27 σ25 =>
    some (r27, σ25)
    else
    mcall (f_no N σ20 6) fun r30 σ28 =>
    some (r30, σ28)
set_option maxHeartbeats 4000000 in
set_option maxRecDepth 100000 in
theorem w_run_0 {p : Program} {l : Launch} {e : Env} {R : Room} {s : State} {m : MethodId} {args : Array Value} {below : List Frame} {meth : Method} {c : Code} {E : mE} {σ' : MS} {r : Int32} (hC : mC p s m args meth c E cX3_run 5 (some .int)) (hR : 7 ≤ R.frames ∧ 177 ≤ R.locals) (N : Nat) (σ : MS) (x1 : Int32) (x2 : Int32) (x3 : Int32) (x4 : Int32) (h : f_run N σ x1 x2 x3 x4 = some (r, σ')) {H : Heap} {locs : List Loc} (hP : mP E σ H) (hS : va_S (mA E s.heap.size) s.heap H locs) {ls : Array Slot} (hl : lv_has ls 5 [(0, .ref (mh E)), (1, .int x1), (2, .int x2), (3, .int x3), (4, .int x4)]) : W p l e R s m args below meth c H locs 0 0 (MQ below (mQi E s.heap.size r σ') args s 0 0 (mA E s.heap.size)) (F0 m 0 ls []) := by
  obtain ⟨⟨hx, hb, hml, hown, hts⟩, hK, hD, hr, hlk⟩ := id hC
  unfold f_run at h
  refine lv_aload_n hx hb dX3_run_0 rfl (lv_at hl 0 rfl) ?_
  obtain ⟨σ1, c2, h⟩ := mcallv_n h
  refine m_callv (As := []) (rest := []) hC (met_good l N E H.size σ σ1 c2) (cwV 0 hts (lw_V q2131 q2133 qs40 q103 q2134) rfl rfl rfl (by decide +kernel) ⟨Nat.le_trans (Nat.le_of_ble_eq_true rfl) hR.1, Nat.le_trans (Nat.le_of_ble_eq_true rfl) hR.2⟩) hP hS rfl hl.1 rfl (Nat.le_of_ble_eq_true rfl) dX3_run_1 (fun H locs hP hS => ?_)
  refine lv_aload_n hx hb dX3_run_4 rfl (lv_at hl 0 rfl) ?_
  refine lv_iload_n hx hb dX3_run_5 rfl (lv_at hl 1 rfl) ?_
  obtain ⟨r5, σ3, c4, h⟩ := mcall_n h
  refine m_calli (As := [.int x1]) (rest := []) hC (met_isCell l N E H.size σ1 x1 r5 σ3 c4) (cwV 1 hts (lw_V q2276 q2278 qs60 q103 q2279) rfl rfl rfl (by decide +kernel) ⟨Nat.le_trans (Nat.le_of_ble_eq_true rfl) hR.1, Nat.le_trans (Nat.le_of_ble_eq_true rfl) hR.2⟩) hP hS rfl hl.1 rfl (Nat.le_of_ble_eq_true rfl) dX3_run_6 (fun H locs hP hS => ?_)
  refine lv_if_eq (tgt := 20) hx hb dX3_run_9 (by decide) (fun c6 => ?_) (fun c6 => ?_)
  · have h := mif_t c6 h
    exact w_run_20 hC hR N σ3 h hP hS (lv_sub hl [0] rfl)
  · have h := mif_f c6 h
    refine lv_aload_n hx hb dX3_run_12 rfl (lv_at hl 0 rfl) ?_
    refine lv_iload_n hx hb dX3_run_13 rfl (lv_at hl 2 rfl) ?_
    obtain ⟨r9, σ7, c8, h⟩ := mcall_n h
    refine m_calli (As := [.int x2]) (rest := []) hC (met_isCell l N E H.size σ3 x2 r9 σ7 c8) (cwV 1 hts (lw_V q2276 q2278 qs60 q103 q2279) rfl rfl rfl (by decide +kernel) ⟨Nat.le_trans (Nat.le_of_ble_eq_true rfl) hR.1, Nat.le_trans (Nat.le_of_ble_eq_true rfl) hR.2⟩) hP hS rfl hl.1 rfl (Nat.le_of_ble_eq_true rfl) dX3_run_14 (fun H locs hP hS => ?_)
    refine lv_if_ne (tgt := 26) hx hb dX3_run_17 (by decide) (fun c10 => ?_) (fun c10 => ?_)
    · have h := mif_f c10 h
      refine lv_aload_n hx hb dX3_run_26 rfl (lv_at hl 0 rfl) ?_
      obtain ⟨σ11, c12, h⟩ := mcallv_n h
      refine m_callv (As := []) (rest := []) hC (met_lists l N E H.size σ7 σ11 c12) (cwV 0 hts (lw_V q2348 q2350 qs70 q103 q2351) rfl rfl rfl (by decide +kernel) ⟨Nat.le_trans (Nat.le_of_ble_eq_true rfl) hR.1, Nat.le_trans (Nat.le_of_ble_eq_true rfl) hR.2⟩) hP hS rfl hl.1 rfl (Nat.le_of_ble_eq_true rfl) dX3_run_27 (fun H locs hP hS => ?_)
      refine lv_iload hx hb dX3_run_30 (lv_at hl 4 rfl) ?_
      refine lv_iconst (v := 0) hx hb dX3_run_32 (by decide) ?_
      refine lv_aload_n hx hb dX3_run_33 rfl (lv_at hl 0 rfl) ?_
      obtain ⟨r15, σ13, c14, h⟩ := mcall_n h
      refine m_calli (As := []) (rest := [.int 0, .int x4]) hC (met_truthMany l N E H.size σ11 r15 σ13 c14) (cwV 0 hts (lw_V q2427 q2429 qs83 q103 q2430) rfl rfl rfl (by decide +kernel) ⟨Nat.le_trans (Nat.le_of_ble_eq_true rfl) hR.1, Nat.le_trans (Nat.le_of_ble_eq_true rfl) hR.2⟩) hP hS rfl hl.1 rfl (Nat.le_of_ble_eq_true rfl) dX3_run_34 (fun H locs hP hS => ?_)
      refine lv_iconst (v := 1) hx hb dX3_run_37 (by decide) ?_
      refine lv_isub hx hb dX3_run_38 ?_
      obtain ⟨r18, σ16, c17, h⟩ := mcall_n h
      refine m_callsi (As := [.int x4, .int 0, .int (r15 - 1)]) (rest := []) hC (met_within l N E H.size σ13 x4 0 (r15 - 1) r18 σ16 c17) (va_cwS 3 hts (lw_S q2135 q2136 q103 q2137) rfl rfl rfl (by decide +kernel) ⟨Nat.le_trans (Nat.le_of_ble_eq_true rfl) hR.1, Nat.le_trans (Nat.le_of_ble_eq_true rfl) hR.2⟩) hP hS rfl hl.1 rfl (Nat.le_of_ble_eq_true rfl) dX3_run_39 (fun H locs hP hS => ?_)
      refine lv_if_ne (tgt := 51) hx hb dX3_run_42 (by decide) (fun c19 => ?_) (fun c19 => ?_)
      · have h := mif_f c19 h
        refine lv_aload_n hx hb dX3_run_51 rfl (lv_at hl 0 rfl) ?_
        refine lv_iload_n hx hb dX3_run_52 rfl (lv_at hl 1 rfl) ?_
        refine lv_iload_n hx hb dX3_run_53 rfl (lv_at hl 2 rfl) ?_
        refine lv_iload_n hx hb dX3_run_54 rfl (lv_at hl 3 rfl) ?_
        obtain ⟨r22, σ20, c21, h⟩ := mcall_n h
        refine m_calll (As := [.int x1, .int x2, .int x3]) (rest := []) hC (met_from l N E H.size σ16 x1 x2 x3 r22 σ20 c21) (cwV 3 hts (lw_V q2336 q2338 qs67 q103 q2339) rfl rfl rfl (by decide +kernel) ⟨Nat.le_trans (Nat.le_of_ble_eq_true rfl) hR.1, Nat.le_trans (Nat.le_of_ble_eq_true rfl) hR.2⟩) hP hS rfl hl.1 rfl (Nat.le_of_ble_eq_true rfl) dX3_run_55 (fun H locs hP hS => ?_)
        refine lv_lconst (v := 0) hx hb dX3_run_58 (by decide) ?_
        refine W.lcmp hx hb dX3_run_59 ?_
        refine lv_if_ge (tgt := 70) hx hb dX3_run_60 (by decide) (fun c23 => ?_) (fun c23 => ?_)
        · have h := mif_t c23 h
          refine lv_aload_n hx hb dX3_run_70 rfl (lv_at hl 0 rfl) ?_
          refine lv_iconst (v := 1) hx hb dX3_run_71 (by decide) ?_
          refine m_put hC hP hS 73 (by decide) rfl q1966 rfl (ty := .boolean) (tyX3_ok 73 (by decide)) (mBit_n rfl) dX3_run_72 (fun H locs hP hS => ?_)
          obtain ⟨σ24, eσ24⟩ : ∃ z : MS, z = mSet σ20 73 1 := ⟨_, rfl⟩
          rw [← eσ24] at hP
          have h := mlet_at eσ24 h
          refine lv_aload_n hx hb dX3_run_75 rfl (lv_at hl 0 rfl) ?_
          refine lv_iload_n hx hb dX3_run_76 rfl (lv_at hl 1 rfl) ?_
          refine lv_iload hx hb dX3_run_77 (lv_at hl 4 rfl) ?_
          obtain ⟨r27, σ25, c26, h⟩ := mcall_n h
          refine m_calli (As := [.int x1, .int x4]) (rest := []) hC (met_goes l N E H.size σ24 x1 x4 r27 σ25 c26) (cwV 2 hts (lw_V q2443 q2445 qs85 q103 q2446) rfl rfl rfl (by decide +kernel) ⟨Nat.le_trans (Nat.le_of_ble_eq_true rfl) hR.1, Nat.le_trans (Nat.le_of_ble_eq_true rfl) hR.2⟩) hP hS rfl hl.1 rfl (Nat.le_of_ble_eq_true rfl) dX3_run_79 (fun H locs hP hS => ?_)
          cases h
          exact m_iret hC hP hS dX3_run_82
        · have h := mif_f c23 h
          refine lv_aload_n hx hb dX3_run_63 rfl (lv_at hl 0 rfl) ?_
          refine lv_bipush (v := 6) hx hb dX3_run_64 (by decide) ?_
          obtain ⟨r30, σ28, c29, h⟩ := mcall_n h
          refine m_calli (As := [.int 6]) (rest := []) hC (met_no l N E H.size σ20 6 r30 σ28 c29) (cwV 1 hts (lw_V q2138 q2140 qs41 q103 q2141) rfl rfl rfl (by decide +kernel) ⟨Nat.le_trans (Nat.le_of_ble_eq_true rfl) hR.1, Nat.le_trans (Nat.le_of_ble_eq_true rfl) hR.2⟩) hP hS rfl hl.1 rfl (Nat.le_of_ble_eq_true rfl) dX3_run_66 (fun H locs hP hS => ?_)
          cases h
          exact m_iret hC hP hS dX3_run_69
      · have h := mif_t c19 h
        refine lv_aload_n hx hb dX3_run_45 rfl (lv_at hl 0 rfl) ?_
        refine lv_iconst (v := 1) hx hb dX3_run_46 (by decide) ?_
        obtain ⟨r33, σ31, c32, h⟩ := mcall_n h
        refine m_calli (As := [.int 1]) (rest := []) hC (met_no l N E H.size σ16 1 r33 σ31 c32) (cwV 1 hts (lw_V q2138 q2140 qs41 q103 q2141) rfl rfl rfl (by decide +kernel) ⟨Nat.le_trans (Nat.le_of_ble_eq_true rfl) hR.1, Nat.le_trans (Nat.le_of_ble_eq_true rfl) hR.2⟩) hP hS rfl hl.1 rfl (Nat.le_of_ble_eq_true rfl) dX3_run_47 (fun H locs hP hS => ?_)
        cases h
        exact m_iret hC hP hS dX3_run_50
    · have h := mif_t c10 h
      exact w_run_20 hC hR N σ7 h hP hS (lv_sub hl [0] rfl)
theorem met_run (l : Launch) (N : Nat) (E : mE) (sz : Nat) (σ : MS) (x1 : Int32) (x2 : Int32) (x3 : Int32) (x4 : Int32) (r : Int32) (σ' : MS) (h : f_run N σ x1 x2 x3 x4 = some (r, σ')) : Met l yX3_run (ws_ yX3_run cX3_run 5 (some .int)) ({ frames := 7, cells := 0, slots := 0, locals := 177 }) (mPc E sz σ [.ref (mh E), .int x1, .int x2, .int x3, .int x4]) (mQi E sz r σ') 0 0 (mA E sz) :=
  m_met (Qc := fun z => mQi E z r σ') (by decide) rfl (Nat.le_of_ble_eq_true rfl) (fun hC ls hl hP => w_run_0 hC ⟨Nat.le_refl _, Nat.le_refl _⟩ N σ x1 x2 x3 x4 h hP va_S.rf hl)
def f_led_47 (N : Nat) (σ : MS) (s0 : Int32) : Option (Int32 × MS) :=
    some (s0, σ)
set_option maxHeartbeats 4000000 in
set_option maxRecDepth 100000 in
theorem w_led_47 {p : Program} {l : Launch} {e : Env} {R : Room} {s : State} {m : MethodId} {args : Array Value} {below : List Frame} {meth : Method} {c : Code} {E : mE} {σ' : MS} {r : Int32} (hC : mC p s m args meth c E cX3_led 2 (some .int)) (hR : 1 ≤ R.frames ∧ 22 ≤ R.locals) (N : Nat) (σ : MS) (s0 : Int32) (h : f_led_47 N σ s0 = some (r, σ')) {H : Heap} {locs : List Loc} (hP : mP E σ H) (hS : va_S (mA E s.heap.size) s.heap H locs) {ls : Array Slot} (hl : lv_has ls 2 []) : W p l e R s m args below meth c H locs 0 0 (MQ below (mQi E s.heap.size r σ') args s 0 0 (mA E s.heap.size)) (F0 m 47 ls [.int s0]) := by
  obtain ⟨⟨hx, hb, hml, hown, hts⟩, hK, hD, hr, hlk⟩ := id hC
  unfold f_led_47 at h
  cases h
  exact m_iret hC hP hS dX3_led_47
def f_led_27 (N : Nat) (σ : MS) (x1 : Int32) (s0 : Int32) : Option (Int32 × MS) :=
    mlet (mSet σ 0 s0) fun σ1 =>
    if (σ1.1 0) ≤ 0 then
    if mIn x1 (mLen 54) = true then mlet (σ1.2.1 54 x1.toNatClampNeg) fun y4 =>
    f_led_47 N σ1 y4
    else none
    else
    f_led_47 N σ1 0
set_option maxHeartbeats 4000000 in
set_option maxRecDepth 100000 in
theorem w_led_27 {p : Program} {l : Launch} {e : Env} {R : Room} {s : State} {m : MethodId} {args : Array Value} {below : List Frame} {meth : Method} {c : Code} {E : mE} {σ' : MS} {r : Int32} (hC : mC p s m args meth c E cX3_led 2 (some .int)) (hR : 1 ≤ R.frames ∧ 22 ≤ R.locals) (N : Nat) (σ : MS) (x1 : Int32) (s0 : Int32) (h : f_led_27 N σ x1 s0 = some (r, σ')) {H : Heap} {locs : List Loc} (hP : mP E σ H) (hS : va_S (mA E s.heap.size) s.heap H locs) {ls : Array Slot} (hl : lv_has ls 2 [(0, .ref (mh E)), (1, .int x1)]) : W p l e R s m args below meth c H locs 0 0 (MQ below (mQi E s.heap.size r σ') args s 0 0 (mA E s.heap.size)) (F0 m 27 ls [.int s0, .ref (mh E)]) := by
  obtain ⟨⟨hx, hb, hml, hown, hts⟩, hK, hD, hr, hlk⟩ := id hC
  unfold f_led_27 at h
  refine m_put hC hP hS 0 (by decide) rfl q1893 rfl (ty := .int) (tyX3_ok 0 (by decide)) ⟨rfl, rfl⟩ dX3_led_27 (fun H locs hP hS => ?_)
  obtain ⟨σ1, eσ1⟩ : ∃ z : MS, z = mSet σ 0 s0 := ⟨_, rfl⟩
  rw [← eσ1] at hP
  have h := mlet_at eσ1 h
  refine lv_aload_n hx hb dX3_led_30 rfl (lv_at hl 0 rfl) ?_
  refine m_geti hC hP 0 (by decide) rfl q1893 dX3_led_31 ?_
  refine lv_if_le (tgt := 41) hx hb dX3_led_34 (by decide) (fun c2 => ?_) (fun c2 => ?_)
  · have h := mif_t c2 h
    refine lv_aload_n hx hb dX3_led_41 rfl (lv_at hl 0 rfl) ?_
    refine m_geta hC hP 54 (by decide) rfl q1947 dX3_led_42 ?_
    refine lv_iload_n hx hb dX3_led_45 rfl (lv_at hl 1 rfl) ?_
    obtain ⟨c3, h⟩ := mif_n h
    refine m_ald hC hP 54 rfl c3 dX3_led_46 ?_
    refine lv_topi (fun y4 ey4 => ?_)
    have h := mlet_at ey4 h
    exact w_led_47 hC hR N σ1 y4 h hP hS (lv_sub hl [] rfl)
  · have h := mif_f c2 h
    refine lv_iconst (v := 0) hx hb dX3_led_37 (by decide) ?_
    refine lv_goto (tgt := 47) hx hb dX3_led_38 (by decide) ?_
    exact w_led_47 hC hR N σ1 0 h hP hS (lv_sub hl [] rfl)
def f_led_26 (N : Nat) (σ : MS) (x1 : Int32) : Option (Int32 × MS) :=
    f_led_27 N σ x1 1
set_option maxHeartbeats 4000000 in
set_option maxRecDepth 100000 in
theorem w_led_26 {p : Program} {l : Launch} {e : Env} {R : Room} {s : State} {m : MethodId} {args : Array Value} {below : List Frame} {meth : Method} {c : Code} {E : mE} {σ' : MS} {r : Int32} (hC : mC p s m args meth c E cX3_led 2 (some .int)) (hR : 1 ≤ R.frames ∧ 22 ≤ R.locals) (N : Nat) (σ : MS) (x1 : Int32) (h : f_led_26 N σ x1 = some (r, σ')) {H : Heap} {locs : List Loc} (hP : mP E σ H) (hS : va_S (mA E s.heap.size) s.heap H locs) {ls : Array Slot} (hl : lv_has ls 2 [(0, .ref (mh E)), (1, .int x1)]) : W p l e R s m args below meth c H locs 0 0 (MQ below (mQi E s.heap.size r σ') args s 0 0 (mA E s.heap.size)) (F0 m 26 ls [.ref (mh E)]) := by
  obtain ⟨⟨hx, hb, hml, hown, hts⟩, hK, hD, hr, hlk⟩ := id hC
  unfold f_led_26 at h
  refine lv_iconst (v := 1) hx hb dX3_led_26 (by decide) ?_
  exact w_led_27 hC hR N σ x1 1 h hP hS (lv_sub hl [0, 1] rfl)
def f_led (N : Nat) (σ : MS) (x1 : Int32) : Option (Int32 × MS) :=
    if (σ.1 73) = 0 then
    f_led_26 N σ x1
    else
    mcall (f_within N σ x1 0 ((σ.1 55) - 1)) fun r4 σ2 =>
    if r4 = 0 then
    f_led_26 N σ2 x1
    else
    f_led_27 N σ2 x1 0
set_option maxHeartbeats 4000000 in
set_option maxRecDepth 100000 in
theorem w_led_0 {p : Program} {l : Launch} {e : Env} {R : Room} {s : State} {m : MethodId} {args : Array Value} {below : List Frame} {meth : Method} {c : Code} {E : mE} {σ' : MS} {r : Int32} (hC : mC p s m args meth c E cX3_led 2 (some .int)) (hR : 1 ≤ R.frames ∧ 22 ≤ R.locals) (N : Nat) (σ : MS) (x1 : Int32) (h : f_led N σ x1 = some (r, σ')) {H : Heap} {locs : List Loc} (hP : mP E σ H) (hS : va_S (mA E s.heap.size) s.heap H locs) {ls : Array Slot} (hl : lv_has ls 2 [(0, .ref (mh E)), (1, .int x1)]) : W p l e R s m args below meth c H locs 0 0 (MQ below (mQi E s.heap.size r σ') args s 0 0 (mA E s.heap.size)) (F0 m 0 ls []) := by
  obtain ⟨⟨hx, hb, hml, hown, hts⟩, hK, hD, hr, hlk⟩ := id hC
  unfold f_led at h
  refine lv_aload_n hx hb dX3_led_0 rfl (lv_at hl 0 rfl) ?_
  refine lv_aload_n hx hb dX3_led_1 rfl (lv_at hl 0 rfl) ?_
  refine m_geti hC hP 73 (by decide) rfl q1966 dX3_led_2 ?_
  refine lv_if_eq (tgt := 26) hx hb dX3_led_5 (by decide) (fun c1 => ?_) (fun c1 => ?_)
  · have h := mif_t c1 h
    exact w_led_26 hC hR N σ x1 h hP hS (lv_sub hl [0, 1] rfl)
  · have h := mif_f c1 h
    refine lv_iload_n hx hb dX3_led_8 rfl (lv_at hl 1 rfl) ?_
    refine lv_iconst (v := 0) hx hb dX3_led_9 (by decide) ?_
    refine lv_aload_n hx hb dX3_led_10 rfl (lv_at hl 0 rfl) ?_
    refine m_geti hC hP 55 (by decide) rfl q1948 dX3_led_11 ?_
    refine lv_iconst (v := 1) hx hb dX3_led_14 (by decide) ?_
    refine lv_isub hx hb dX3_led_15 ?_
    obtain ⟨r4, σ2, c3, h⟩ := mcall_n h
    refine m_callsi (As := [.int x1, .int 0, .int ((σ.1 55) - 1)]) (rest := [.ref (mh E)]) hC (met_within l N E H.size σ x1 0 ((σ.1 55) - 1) r4 σ2 c3) (va_cwS 3 hts (lw_S q2135 q2136 q103 q2137) rfl rfl rfl (by decide +kernel) ⟨Nat.le_trans (Nat.le_of_ble_eq_true rfl) hR.1, Nat.le_trans (Nat.le_of_ble_eq_true rfl) hR.2⟩) hP hS rfl hl.1 rfl (Nat.le_of_ble_eq_true rfl) dX3_led_16 (fun H locs hP hS => ?_)
    refine lv_if_eq (tgt := 26) hx hb dX3_led_19 (by decide) (fun c5 => ?_) (fun c5 => ?_)
    · have h := mif_t c5 h
      exact w_led_26 hC hR N σ2 x1 h hP hS (lv_sub hl [0, 1] rfl)
    · have h := mif_f c5 h
      refine lv_iconst (v := 0) hx hb dX3_led_22 (by decide) ?_
      refine lv_goto (tgt := 27) hx hb dX3_led_23 (by decide) ?_
      exact w_led_27 hC hR N σ2 x1 0 h hP hS (lv_sub hl [0, 1] rfl)
theorem met_led (l : Launch) (N : Nat) (E : mE) (sz : Nat) (σ : MS) (x1 : Int32) (r : Int32) (σ' : MS) (h : f_led N σ x1 = some (r, σ')) : Met l yX3_led (ws_ yX3_led cX3_led 2 (some .int)) ({ frames := 1, cells := 0, slots := 0, locals := 22 }) (mPc E sz σ [.ref (mh E), .int x1]) (mQi E sz r σ') 0 0 (mA E sz) :=
  m_met (Qc := fun z => mQi E z r σ') (by decide) rfl (Nat.le_of_ble_eq_true rfl) (fun hC ls hl hP => w_led_0 hC ⟨Nat.le_refl _, Nat.le_refl _⟩ N σ x1 h hP va_S.rf hl)
def f_regret_20 (N : Nat) (σ : MS) : Option (Int32 × MS) :=
    mcall (f_no N σ 1) fun r3 σ1 =>
    some (r3, σ1)
set_option maxHeartbeats 4000000 in
set_option maxRecDepth 100000 in
theorem w_regret_20 {p : Program} {l : Launch} {e : Env} {R : Room} {s : State} {m : MethodId} {args : Array Value} {below : List Frame} {meth : Method} {c : Code} {E : mE} {σ' : MS} {r : Int32} (hC : mC p s m args meth c E cX3_regret 7 (some .int)) (hR : 7 ≤ R.frames ∧ 177 ≤ R.locals) (N : Nat) (σ : MS) (h : f_regret_20 N σ = some (r, σ')) {H : Heap} {locs : List Loc} (hP : mP E σ H) (hS : va_S (mA E s.heap.size) s.heap H locs) {ls : Array Slot} (hl : lv_has ls 7 [(0, .ref (mh E))]) : W p l e R s m args below meth c H locs 0 0 (MQ below (mQi E s.heap.size r σ') args s 0 0 (mA E s.heap.size)) (F0 m 20 ls []) := by
  obtain ⟨⟨hx, hb, hml, hown, hts⟩, hK, hD, hr, hlk⟩ := id hC
  unfold f_regret_20 at h
  refine lv_aload_n hx hb dX3_regret_20 rfl (lv_at hl 0 rfl) ?_
  refine lv_iconst (v := 1) hx hb dX3_regret_21 (by decide) ?_
  obtain ⟨r3, σ1, c2, h⟩ := mcall_n h
  refine m_calli (As := [.int 1]) (rest := []) hC (met_no l N E H.size σ 1 r3 σ1 c2) (cwV 1 hts (lw_V q2138 q2140 qs41 q103 q2141) rfl rfl rfl (by decide +kernel) ⟨Nat.le_trans (Nat.le_of_ble_eq_true rfl) hR.1, Nat.le_trans (Nat.le_of_ble_eq_true rfl) hR.2⟩) hP hS rfl hl.1 rfl (Nat.le_of_ble_eq_true rfl) dX3_regret_22 (fun H locs hP hS => ?_)
  cases h
  exact m_iret hC hP hS dX3_regret_25
def f_regret_151 (N : Nat) : Nat → MS → Int32 → Int32 → Int32 → Option (Int32 × MS)
  | 0, _, _, _, _ => none
  | n + 1, σ, x3, x4, x5 =>
    if x3 ≤ x5 then
    some (x4, σ)
    else
    if mIn x5 (mLen 74) = true then mlet (σ.2.1 74 x5.toNatClampNeg) fun y3 =>
    if mIn x5 (mLen 54) = true then mlet (mArr σ 54 x5.toNatClampNeg y3) fun σ5 =>
    mlet (x5 + 1) fun y6 =>
    f_regret_151 N n σ5 x3 x4 y6
    else none
    else none
set_option maxHeartbeats 4000000 in
set_option maxRecDepth 100000 in
theorem w_regret_151 {p : Program} {l : Launch} {e : Env} {R : Room} {s : State} {m : MethodId} {args : Array Value} {below : List Frame} {meth : Method} {c : Code} {E : mE} {σ' : MS} {r : Int32} (hC : mC p s m args meth c E cX3_regret 7 (some .int)) (hR : 7 ≤ R.frames ∧ 177 ≤ R.locals) (N : Nat) : ∀ (n : Nat) (σ : MS) (x3 : Int32) (x4 : Int32) (x5 : Int32), f_regret_151 N n σ x3 x4 x5 = some (r, σ') → ∀ (H : Heap) (locs : List Loc), mP E σ H → va_S (mA E s.heap.size) s.heap H locs → ∀ ls : Array Slot, lv_has ls 7 [(0, .ref (mh E)), (3, .int x3), (4, .int x4), (5, .int x5)] → W p l e R s m args below meth c H locs 0 0 (MQ below (mQi E s.heap.size r σ') args s 0 0 (mA E s.heap.size)) (F0 m 151 ls []) := by
  obtain ⟨⟨hx, hb, hml, hown, hts⟩, hK, hD, hr, hlk⟩ := id hC
  intro n
  induction n with
  | zero =>
    intro σ x3 x4 x5 h
    cases h
  | succ n ih =>
    intro σ x3 x4 x5 h H locs hP hS ls hl
    unfold f_regret_151 at h
    refine lv_iload hx hb dX3_regret_151 (lv_at hl 3 rfl) ?_
    refine lv_iload_n hx hb dX3_regret_153 rfl (lv_at hl 1 rfl) ?_
    refine lv_icmp_ge (tgt := 177) hx hb dX3_regret_154 (by decide) (fun c1 => ?_) (fun c1 => ?_)
    · have h := mif_t c1 h
      refine lv_iload hx hb dX3_regret_177 (lv_at hl 2 rfl) ?_
      cases h
      exact m_iret hC hP hS dX3_regret_179
    · have h := mif_f c1 h
      refine lv_aload_n hx hb dX3_regret_157 rfl (lv_at hl 0 rfl) ?_
      refine m_geta hC hP 54 (by decide) rfl q1947 dX3_regret_158 ?_
      refine lv_iload hx hb dX3_regret_161 (lv_at hl 3 rfl) ?_
      refine lv_aload_n hx hb dX3_regret_163 rfl (lv_at hl 0 rfl) ?_
      refine m_geta hC hP 74 (by decide) rfl q1967 dX3_regret_164 ?_
      refine lv_iload hx hb dX3_regret_167 (lv_at hl 3 rfl) ?_
      obtain ⟨c2, h⟩ := mif_n h
      refine m_ald hC hP 74 rfl c2 dX3_regret_169 ?_
      refine lv_topi (fun y3 ey3 => ?_)
      have h := mlet_at ey3 h
      obtain ⟨c4, h⟩ := mif_n h
      refine m_ast hC hP hS 54 rfl c4 dX3_regret_170 (fun H locs hP hS => ?_)
      obtain ⟨σ5, eσ5⟩ : ∃ z : MS, z = mArr σ 54 x5.toNatClampNeg y3 := ⟨_, rfl⟩
      rw [← eσ5] at hP
      have h := mlet_at eσ5 h
      obtain ⟨y6, ey6⟩ : ∃ z : Int32, z = x5 + 1 := ⟨_, rfl⟩
      have h := mlet_at ey6 h
      refine lv_iinc (v := y6) (lv' := [(5, .int y6), (0, .ref (mh E)), (3, .int x3), (4, .int x4)]) hx hb dX3_regret_171 hl (k := 3) rfl (by rw [ey6]; rfl) (by decide) rfl (fun ls hl => ?_)
      refine lv_goto (tgt := 151) hx hb dX3_regret_174 (by decide) ?_
      exact ih σ5 x3 x4 y6 h _ _ hP hS _ (lv_sub hl [1, 2, 3, 0] rfl)
def f_regret_135 (N : Nat) (k85 : MS → Int32 → Int32 → Int32 → Int32 → Option (Int32 × MS)) (σ : MS) (x1 : Int32) (x3 : Int32) (x5 : Int32) (s0 : Int32) : Option (Int32 × MS) :=
    mlet (x5 + 1) fun y1 =>
    k85 σ x1 x3 s0 y1
set_option maxHeartbeats 4000000 in
set_option maxRecDepth 100000 in
theorem w_regret_135 {p : Program} {l : Launch} {e : Env} {R : Room} {s : State} {m : MethodId} {args : Array Value} {below : List Frame} {meth : Method} {c : Code} {E : mE} {σ' : MS} {r : Int32} (hC : mC p s m args meth c E cX3_regret 7 (some .int)) (hR : 7 ≤ R.frames ∧ 177 ≤ R.locals) (N : Nat) (k85 : MS → Int32 → Int32 → Int32 → Int32 → Option (Int32 × MS)) (hk85 : ∀ (σ : MS) (x1 : Int32) (x3 : Int32) (x4 : Int32) (x5 : Int32), k85 σ x1 x3 x4 x5 = some (r, σ') → ∀ (H : Heap) (locs : List Loc), mP E σ H → va_S (mA E s.heap.size) s.heap H locs → ∀ ls : Array Slot, lv_has ls 7 [(0, .ref (mh E)), (1, .int x1), (3, .int x3), (4, .int x4), (5, .int x5)] → W p l e R s m args below meth c H locs 0 0 (MQ below (mQi E s.heap.size r σ') args s 0 0 (mA E s.heap.size)) (F0 m 85 ls [])) (σ : MS) (x1 : Int32) (x3 : Int32) (x5 : Int32) (s0 : Int32) (h : f_regret_135 N k85 σ x1 x3 x5 s0 = some (r, σ')) {H : Heap} {locs : List Loc} (hP : mP E σ H) (hS : va_S (mA E s.heap.size) s.heap H locs) {ls : Array Slot} (hl : lv_has ls 7 [(0, .ref (mh E)), (1, .int x1), (3, .int x3), (5, .int x5)]) : W p l e R s m args below meth c H locs 0 0 (MQ below (mQi E s.heap.size r σ') args s 0 0 (mA E s.heap.size)) (F0 m 135 ls [.int s0]) := by
  obtain ⟨⟨hx, hb, hml, hown, hts⟩, hK, hD, hr, hlk⟩ := id hC
  unfold f_regret_135 at h
  refine lv_istore (lv' := [(4, .int s0), (0, .ref (mh E)), (1, .int x1), (3, .int x3), (5, .int x5)]) hx hb dX3_regret_135 hl (by decide) rfl (fun ls hl => ?_)
  obtain ⟨y1, ey1⟩ : ∃ z : Int32, z = x5 + 1 := ⟨_, rfl⟩
  have h := mlet_at ey1 h
  refine lv_iinc (v := y1) (lv' := [(5, .int y1), (4, .int s0), (0, .ref (mh E)), (1, .int x1), (3, .int x3)]) hx hb dX3_regret_137 hl (k := 4) rfl (by rw [ey1]; rfl) (by decide) rfl (fun ls hl => ?_)
  refine lv_goto (tgt := 85) hx hb dX3_regret_140 (by decide) ?_
  exact hk85 σ x1 x3 s0 y1 h _ _ hP hS _ (lv_sub hl [2, 3, 4, 1, 0] rfl)
def f_regret_85 (N : Nat) : Nat → MS → Int32 → Int32 → Int32 → Int32 → Option (Int32 × MS)
  | 0, _, _, _, _, _ => none
  | n + 1, σ, x1, x3, x4, x5 =>
    mcall (f_truthMany N σ) fun r3 σ1 =>
    if r3 ≤ x5 then
    mlet (mSet σ1 55 x3) fun σ5 =>
    f_regret_151 N N σ5 x3 x4 0
    else
    mcall (f_goes N σ1 x1 x5) fun r8 σ6 =>
    mcall (f_all N σ6 x5) fun r11 σ9 =>
    if mIn ((100 * r11) + x1) (102400) = true then mlet (σ9.2.2 ((100 * r11) + x1).toNatClampNeg) fun y13 =>
    mlet (r8 - (y13.toInt32)) fun y14 =>
    if y14 ≤ x4 then
    f_regret_135 N (f_regret_85 N n) σ9 x1 x3 x5 x4
    else
    f_regret_135 N (f_regret_85 N n) σ9 x1 x3 x5 y14
    else none
set_option maxHeartbeats 4000000 in
set_option maxRecDepth 100000 in
theorem w_regret_85 {p : Program} {l : Launch} {e : Env} {R : Room} {s : State} {m : MethodId} {args : Array Value} {below : List Frame} {meth : Method} {c : Code} {E : mE} {σ' : MS} {r : Int32} (hC : mC p s m args meth c E cX3_regret 7 (some .int)) (hR : 7 ≤ R.frames ∧ 177 ≤ R.locals) (N : Nat) : ∀ (n : Nat) (σ : MS) (x1 : Int32) (x3 : Int32) (x4 : Int32) (x5 : Int32), f_regret_85 N n σ x1 x3 x4 x5 = some (r, σ') → ∀ (H : Heap) (locs : List Loc), mP E σ H → va_S (mA E s.heap.size) s.heap H locs → ∀ ls : Array Slot, lv_has ls 7 [(0, .ref (mh E)), (1, .int x1), (3, .int x3), (4, .int x4), (5, .int x5)] → W p l e R s m args below meth c H locs 0 0 (MQ below (mQi E s.heap.size r σ') args s 0 0 (mA E s.heap.size)) (F0 m 85 ls []) := by
  obtain ⟨⟨hx, hb, hml, hown, hts⟩, hK, hD, hr, hlk⟩ := id hC
  intro n
  induction n with
  | zero =>
    intro σ x1 x3 x4 x5 h
    cases h
  | succ n ih =>
    intro σ x1 x3 x4 x5 h H locs hP hS ls hl
    unfold f_regret_85 at h
    refine lv_iload hx hb dX3_regret_85 (lv_at hl 4 rfl) ?_
    refine lv_aload_n hx hb dX3_regret_87 rfl (lv_at hl 0 rfl) ?_
    obtain ⟨r3, σ1, c2, h⟩ := mcall_n h
    refine m_calli (As := []) (rest := [.int x5]) hC (met_truthMany l N E H.size σ r3 σ1 c2) (cwV 0 hts (lw_V q2427 q2429 qs83 q103 q2430) rfl rfl rfl (by decide +kernel) ⟨Nat.le_trans (Nat.le_of_ble_eq_true rfl) hR.1, Nat.le_trans (Nat.le_of_ble_eq_true rfl) hR.2⟩) hP hS rfl hl.1 rfl (Nat.le_of_ble_eq_true rfl) dX3_regret_88 (fun H locs hP hS => ?_)
    refine lv_icmp_ge (tgt := 143) hx hb dX3_regret_91 (by decide) (fun c4 => ?_) (fun c4 => ?_)
    · have h := mif_t c4 h
      refine lv_aload_n hx hb dX3_regret_143 rfl (lv_at hl 0 rfl) ?_
      refine lv_iload_n hx hb dX3_regret_144 rfl (lv_at hl 2 rfl) ?_
      refine m_put hC hP hS 55 (by decide) rfl q1948 rfl (ty := .int) (tyX3_ok 55 (by decide)) ⟨rfl, rfl⟩ dX3_regret_145 (fun H locs hP hS => ?_)
      obtain ⟨σ5, eσ5⟩ : ∃ z : MS, z = mSet σ1 55 x3 := ⟨_, rfl⟩
      rw [← eσ5] at hP
      have h := mlet_at eσ5 h
      refine lv_iconst (v := 0) hx hb dX3_regret_148 (by decide) ?_
      refine lv_istore (lv' := [(5, .int 0), (0, .ref (mh E)), (1, .int x1), (3, .int x3), (4, .int x4)]) hx hb dX3_regret_149 hl (by decide) rfl (fun ls hl => ?_)
      exact w_regret_151 hC hR N N σ5 x3 x4 0 h _ _ hP hS _ (lv_sub hl [1, 3, 4, 0] rfl)
    · have h := mif_f c4 h
      refine lv_aload_n hx hb dX3_regret_94 rfl (lv_at hl 0 rfl) ?_
      refine lv_iload_n hx hb dX3_regret_95 rfl (lv_at hl 1 rfl) ?_
      refine lv_iload hx hb dX3_regret_96 (lv_at hl 4 rfl) ?_
      obtain ⟨r8, σ6, c7, h⟩ := mcall_n h
      refine m_calli (As := [.int x1, .int x5]) (rest := []) hC (met_goes l N E H.size σ1 x1 x5 r8 σ6 c7) (cwV 2 hts (lw_V q2443 q2445 qs85 q103 q2446) rfl rfl rfl (by decide +kernel) ⟨Nat.le_trans (Nat.le_of_ble_eq_true rfl) hR.1, Nat.le_trans (Nat.le_of_ble_eq_true rfl) hR.2⟩) hP hS rfl hl.1 rfl (Nat.le_of_ble_eq_true rfl) dX3_regret_98 (fun H locs hP hS => ?_)
      refine lv_aload_n hx hb dX3_regret_101 rfl (lv_at hl 0 rfl) ?_
      refine m_geta hC hP 48 (by decide) rfl q1941 dX3_regret_102 ?_
      refine lv_bipush (v := 100) hx hb dX3_regret_105 (by decide) ?_
      refine lv_aload_n hx hb dX3_regret_107 rfl (lv_at hl 0 rfl) ?_
      refine lv_iload hx hb dX3_regret_108 (lv_at hl 4 rfl) ?_
      obtain ⟨r11, σ9, c10, h⟩ := mcall_n h
      refine m_calli (As := [.int x5]) (rest := [.int 100, .ref (mad E 48), .int r8]) hC (met_all l N E H.size σ6 x5 r11 σ9 c10) (cwV 1 hts (lw_V q2435 q2437 qs84 q103 q2438) rfl rfl rfl (by decide +kernel) ⟨Nat.le_trans (Nat.le_of_ble_eq_true rfl) hR.1, Nat.le_trans (Nat.le_of_ble_eq_true rfl) hR.2⟩) hP hS rfl hl.1 rfl (Nat.le_of_ble_eq_true rfl) dX3_regret_110 (fun H locs hP hS => ?_)
      refine lv_imul hx hb dX3_regret_113 ?_
      refine lv_iload_n hx hb dX3_regret_114 rfl (lv_at hl 1 rfl) ?_
      refine lv_iadd hx hb dX3_regret_115 ?_
      obtain ⟨c12, h⟩ := mif_n h
      refine m_lld hC hP c12 dX3_regret_116 ?_
      refine lv_topl (fun y13 ey13 => ?_)
      have h := mlet_at ey13 h
      refine lv_l2i (v := y13.toInt32) hx hb dX3_regret_117 rfl ?_
      refine lv_isub hx hb dX3_regret_118 ?_
      refine lv_topi (fun y14 ey14 => ?_)
      have h := mlet_at ey14 h
      refine lv_istore (lv' := [(6, .int y14), (0, .ref (mh E)), (1, .int x1), (3, .int x3), (4, .int x4), (5, .int x5)]) hx hb dX3_regret_119 hl (by decide) rfl (fun ls hl => ?_)
      refine lv_iload hx hb dX3_regret_121 (lv_at hl 0 rfl) ?_
      refine lv_iload hx hb dX3_regret_123 (lv_at hl 4 rfl) ?_
      refine lv_icmp_le (tgt := 133) hx hb dX3_regret_125 (by decide) (fun c15 => ?_) (fun c15 => ?_)
      · have h := mif_t c15 h
        refine lv_iload hx hb dX3_regret_133 (lv_at hl 4 rfl) ?_
        exact w_regret_135 hC hR N (f_regret_85 N n) ih σ9 x1 x3 x5 x4 h hP hS (lv_sub hl [1, 2, 3, 5] rfl)
      · have h := mif_f c15 h
        refine lv_iload hx hb dX3_regret_128 (lv_at hl 0 rfl) ?_
        refine lv_goto (tgt := 135) hx hb dX3_regret_130 (by decide) ?_
        exact w_regret_135 hC hR N (f_regret_85 N n) ih σ9 x1 x3 x5 y14 h hP hS (lv_sub hl [1, 2, 3, 5] rfl)
def f_regret_53 (N : Nat) : Nat → MS → Int32 → Int32 → Int32 → Option (Int32 × MS)
  | 0, _, _, _, _ => none
  | n + 1, σ, x1, x3, x4 =>
    if x3 ≤ x4 then
    f_regret_85 N N σ x1 x3 0 0
    else
    if mIn x4 (mLen 54) = true then mlet (σ.2.1 54 x4.toNatClampNeg) fun y3 =>
    if mIn x4 (mLen 74) = true then mlet (mArr σ 74 x4.toNatClampNeg y3) fun σ5 =>
    mlet (x4 + 1) fun y6 =>
    f_regret_53 N n σ5 x1 x3 y6
    else none
    else none
set_option maxHeartbeats 4000000 in
set_option maxRecDepth 100000 in
theorem w_regret_53 {p : Program} {l : Launch} {e : Env} {R : Room} {s : State} {m : MethodId} {args : Array Value} {below : List Frame} {meth : Method} {c : Code} {E : mE} {σ' : MS} {r : Int32} (hC : mC p s m args meth c E cX3_regret 7 (some .int)) (hR : 7 ≤ R.frames ∧ 177 ≤ R.locals) (N : Nat) : ∀ (n : Nat) (σ : MS) (x1 : Int32) (x3 : Int32) (x4 : Int32), f_regret_53 N n σ x1 x3 x4 = some (r, σ') → ∀ (H : Heap) (locs : List Loc), mP E σ H → va_S (mA E s.heap.size) s.heap H locs → ∀ ls : Array Slot, lv_has ls 7 [(0, .ref (mh E)), (1, .int x1), (3, .int x3), (4, .int x4)] → W p l e R s m args below meth c H locs 0 0 (MQ below (mQi E s.heap.size r σ') args s 0 0 (mA E s.heap.size)) (F0 m 53 ls []) := by
  obtain ⟨⟨hx, hb, hml, hown, hts⟩, hK, hD, hr, hlk⟩ := id hC
  intro n
  induction n with
  | zero =>
    intro σ x1 x3 x4 h
    cases h
  | succ n ih =>
    intro σ x1 x3 x4 h H locs hP hS ls hl
    unfold f_regret_53 at h
    refine lv_iload hx hb dX3_regret_53 (lv_at hl 3 rfl) ?_
    refine lv_iload_n hx hb dX3_regret_55 rfl (lv_at hl 2 rfl) ?_
    refine lv_icmp_ge (tgt := 79) hx hb dX3_regret_56 (by decide) (fun c1 => ?_) (fun c1 => ?_)
    · have h := mif_t c1 h
      refine lv_iconst (v := 0) hx hb dX3_regret_79 (by decide) ?_
      refine lv_istore (lv' := [(4, .int 0), (0, .ref (mh E)), (1, .int x1), (3, .int x3)]) hx hb dX3_regret_80 hl (by decide) rfl (fun ls hl => ?_)
      refine lv_iconst (v := 0) hx hb dX3_regret_82 (by decide) ?_
      refine lv_istore (lv' := [(5, .int 0), (4, .int 0), (0, .ref (mh E)), (1, .int x1), (3, .int x3)]) hx hb dX3_regret_83 hl (by decide) rfl (fun ls hl => ?_)
      exact w_regret_85 hC hR N N σ x1 x3 0 0 h _ _ hP hS _ (lv_sub hl [2, 3, 4, 1, 0] rfl)
    · have h := mif_f c1 h
      refine lv_aload_n hx hb dX3_regret_59 rfl (lv_at hl 0 rfl) ?_
      refine m_geta hC hP 74 (by decide) rfl q1967 dX3_regret_60 ?_
      refine lv_iload hx hb dX3_regret_63 (lv_at hl 3 rfl) ?_
      refine lv_aload_n hx hb dX3_regret_65 rfl (lv_at hl 0 rfl) ?_
      refine m_geta hC hP 54 (by decide) rfl q1947 dX3_regret_66 ?_
      refine lv_iload hx hb dX3_regret_69 (lv_at hl 3 rfl) ?_
      obtain ⟨c2, h⟩ := mif_n h
      refine m_ald hC hP 54 rfl c2 dX3_regret_71 ?_
      refine lv_topi (fun y3 ey3 => ?_)
      have h := mlet_at ey3 h
      obtain ⟨c4, h⟩ := mif_n h
      refine m_ast hC hP hS 74 rfl c4 dX3_regret_72 (fun H locs hP hS => ?_)
      obtain ⟨σ5, eσ5⟩ : ∃ z : MS, z = mArr σ 74 x4.toNatClampNeg y3 := ⟨_, rfl⟩
      rw [← eσ5] at hP
      have h := mlet_at eσ5 h
      obtain ⟨y6, ey6⟩ : ∃ z : Int32, z = x4 + 1 := ⟨_, rfl⟩
      have h := mlet_at ey6 h
      refine lv_iinc (v := y6) (lv' := [(4, .int y6), (0, .ref (mh E)), (1, .int x1), (3, .int x3)]) hx hb dX3_regret_73 hl (k := 3) rfl (by rw [ey6]; rfl) (by decide) rfl (fun ls hl => ?_)
      refine lv_goto (tgt := 53) hx hb dX3_regret_76 (by decide) ?_
      exact ih σ5 x1 x3 y6 h _ _ hP hS _ (lv_sub hl [1, 2, 3, 0] rfl)
def f_regret (N : Nat) (σ : MS) (x1 : Int32) (x2 : Int32) : Option (Int32 × MS) :=
    mcallv (f_good N σ) fun σ1 =>
    mcall (f_isCell N σ1 x1) fun r5 σ3 =>
    if r5 = 0 then
    f_regret_20 N σ3
    else
    mcall (f_isCell N σ3 x2) fun r9 σ7 =>
    if r9 = 0 then
    f_regret_20 N σ7
    else
    mcall (f_from N σ7 x1 x2 0) fun r13 σ11 =>
    if 0 ≤ (lg_cmp r13 0) then
    mlet (σ11.1 55) fun y15 =>
    f_regret_53 N N σ11 x1 y15 0
    else
    mcall (f_no N σ11 6) fun r18 σ16 =>
    some (r18, σ16)
set_option maxHeartbeats 4000000 in
set_option maxRecDepth 100000 in
theorem w_regret_0 {p : Program} {l : Launch} {e : Env} {R : Room} {s : State} {m : MethodId} {args : Array Value} {below : List Frame} {meth : Method} {c : Code} {E : mE} {σ' : MS} {r : Int32} (hC : mC p s m args meth c E cX3_regret 7 (some .int)) (hR : 7 ≤ R.frames ∧ 177 ≤ R.locals) (N : Nat) (σ : MS) (x1 : Int32) (x2 : Int32) (h : f_regret N σ x1 x2 = some (r, σ')) {H : Heap} {locs : List Loc} (hP : mP E σ H) (hS : va_S (mA E s.heap.size) s.heap H locs) {ls : Array Slot} (hl : lv_has ls 7 [(0, .ref (mh E)), (1, .int x1), (2, .int x2)]) : W p l e R s m args below meth c H locs 0 0 (MQ below (mQi E s.heap.size r σ') args s 0 0 (mA E s.heap.size)) (F0 m 0 ls []) := by
  obtain ⟨⟨hx, hb, hml, hown, hts⟩, hK, hD, hr, hlk⟩ := id hC
  unfold f_regret at h
  refine lv_aload_n hx hb dX3_regret_0 rfl (lv_at hl 0 rfl) ?_
  obtain ⟨σ1, c2, h⟩ := mcallv_n h
  refine m_callv (As := []) (rest := []) hC (met_good l N E H.size σ σ1 c2) (cwV 0 hts (lw_V q2131 q2133 qs40 q103 q2134) rfl rfl rfl (by decide +kernel) ⟨Nat.le_trans (Nat.le_of_ble_eq_true rfl) hR.1, Nat.le_trans (Nat.le_of_ble_eq_true rfl) hR.2⟩) hP hS rfl hl.1 rfl (Nat.le_of_ble_eq_true rfl) dX3_regret_1 (fun H locs hP hS => ?_)
  refine lv_aload_n hx hb dX3_regret_4 rfl (lv_at hl 0 rfl) ?_
  refine lv_iload_n hx hb dX3_regret_5 rfl (lv_at hl 1 rfl) ?_
  obtain ⟨r5, σ3, c4, h⟩ := mcall_n h
  refine m_calli (As := [.int x1]) (rest := []) hC (met_isCell l N E H.size σ1 x1 r5 σ3 c4) (cwV 1 hts (lw_V q2276 q2278 qs60 q103 q2279) rfl rfl rfl (by decide +kernel) ⟨Nat.le_trans (Nat.le_of_ble_eq_true rfl) hR.1, Nat.le_trans (Nat.le_of_ble_eq_true rfl) hR.2⟩) hP hS rfl hl.1 rfl (Nat.le_of_ble_eq_true rfl) dX3_regret_6 (fun H locs hP hS => ?_)
  refine lv_if_eq (tgt := 20) hx hb dX3_regret_9 (by decide) (fun c6 => ?_) (fun c6 => ?_)
  · have h := mif_t c6 h
    exact w_regret_20 hC hR N σ3 h hP hS (lv_sub hl [0] rfl)
  · have h := mif_f c6 h
    refine lv_aload_n hx hb dX3_regret_12 rfl (lv_at hl 0 rfl) ?_
    refine lv_iload_n hx hb dX3_regret_13 rfl (lv_at hl 2 rfl) ?_
    obtain ⟨r9, σ7, c8, h⟩ := mcall_n h
    refine m_calli (As := [.int x2]) (rest := []) hC (met_isCell l N E H.size σ3 x2 r9 σ7 c8) (cwV 1 hts (lw_V q2276 q2278 qs60 q103 q2279) rfl rfl rfl (by decide +kernel) ⟨Nat.le_trans (Nat.le_of_ble_eq_true rfl) hR.1, Nat.le_trans (Nat.le_of_ble_eq_true rfl) hR.2⟩) hP hS rfl hl.1 rfl (Nat.le_of_ble_eq_true rfl) dX3_regret_14 (fun H locs hP hS => ?_)
    refine lv_if_ne (tgt := 26) hx hb dX3_regret_17 (by decide) (fun c10 => ?_) (fun c10 => ?_)
    · have h := mif_f c10 h
      refine lv_aload_n hx hb dX3_regret_26 rfl (lv_at hl 0 rfl) ?_
      refine lv_iload_n hx hb dX3_regret_27 rfl (lv_at hl 1 rfl) ?_
      refine lv_iload_n hx hb dX3_regret_28 rfl (lv_at hl 2 rfl) ?_
      refine lv_iconst (v := 0) hx hb dX3_regret_29 (by decide) ?_
      obtain ⟨r13, σ11, c12, h⟩ := mcall_n h
      refine m_calll (As := [.int x1, .int x2, .int 0]) (rest := []) hC (met_from l N E H.size σ7 x1 x2 0 r13 σ11 c12) (cwV 3 hts (lw_V q2336 q2338 qs67 q103 q2339) rfl rfl rfl (by decide +kernel) ⟨Nat.le_trans (Nat.le_of_ble_eq_true rfl) hR.1, Nat.le_trans (Nat.le_of_ble_eq_true rfl) hR.2⟩) hP hS rfl hl.1 rfl (Nat.le_of_ble_eq_true rfl) dX3_regret_30 (fun H locs hP hS => ?_)
      refine lv_lconst (v := 0) hx hb dX3_regret_33 (by decide) ?_
      refine W.lcmp hx hb dX3_regret_34 ?_
      refine lv_if_ge (tgt := 45) hx hb dX3_regret_35 (by decide) (fun c14 => ?_) (fun c14 => ?_)
      · have h := mif_t c14 h
        refine lv_aload_n hx hb dX3_regret_45 rfl (lv_at hl 0 rfl) ?_
        refine m_geti hC hP 55 (by decide) rfl q1948 dX3_regret_46 ?_
        refine lv_topi (fun y15 ey15 => ?_)
        have h := mlet_at ey15 h
        refine lv_istore_n (lv' := [(3, .int y15), (0, .ref (mh E)), (1, .int x1), (2, .int x2)]) hx hb dX3_regret_49 rfl hl (by decide) rfl (fun ls hl => ?_)
        refine lv_iconst (v := 0) hx hb dX3_regret_50 (by decide) ?_
        refine lv_istore (lv' := [(4, .int 0), (3, .int y15), (0, .ref (mh E)), (1, .int x1), (2, .int x2)]) hx hb dX3_regret_51 hl (by decide) rfl (fun ls hl => ?_)
        exact w_regret_53 hC hR N N σ11 x1 y15 0 h _ _ hP hS _ (lv_sub hl [2, 3, 1, 0] rfl)
      · have h := mif_f c14 h
        refine lv_aload_n hx hb dX3_regret_38 rfl (lv_at hl 0 rfl) ?_
        refine lv_bipush (v := 6) hx hb dX3_regret_39 (by decide) ?_
        obtain ⟨r18, σ16, c17, h⟩ := mcall_n h
        refine m_calli (As := [.int 6]) (rest := []) hC (met_no l N E H.size σ11 6 r18 σ16 c17) (cwV 1 hts (lw_V q2138 q2140 qs41 q103 q2141) rfl rfl rfl (by decide +kernel) ⟨Nat.le_trans (Nat.le_of_ble_eq_true rfl) hR.1, Nat.le_trans (Nat.le_of_ble_eq_true rfl) hR.2⟩) hP hS rfl hl.1 rfl (Nat.le_of_ble_eq_true rfl) dX3_regret_41 (fun H locs hP hS => ?_)
        cases h
        exact m_iret hC hP hS dX3_regret_44
    · have h := mif_t c10 h
      exact w_regret_20 hC hR N σ7 h hP hS (lv_sub hl [0] rfl)
theorem met_regret (l : Launch) (N : Nat) (E : mE) (sz : Nat) (σ : MS) (x1 : Int32) (x2 : Int32) (r : Int32) (σ' : MS) (h : f_regret N σ x1 x2 = some (r, σ')) : Met l yX3_regret (ws_ yX3_regret cX3_regret 7 (some .int)) ({ frames := 7, cells := 0, slots := 0, locals := 177 }) (mPc E sz σ [.ref (mh E), .int x1, .int x2]) (mQi E sz r σ') 0 0 (mA E sz) :=
  m_met (Qc := fun z => mQi E z r σ') (by decide) rfl (Nat.le_of_ble_eq_true rfl) (fun hC ls hl hP => w_regret_0 hC ⟨Nat.le_refl _, Nat.le_refl _⟩ N σ x1 x2 h hP va_S.rf hl)
def f_worth_105 (N : Nat) : Nat → MS → Int32 → Int32 → Int32 → Int64 → Int32 → Int64 → Int32 → Option (Int64 × MS)
  | 0, _, _, _, _, _, _, _, _ => none
  | n + 1, σ, x1, x2, x4, x5, x7, x8, x10 =>
    if mIn x1 (mLen 53) = true then mlet (σ.2.1 53 x1.toNatClampNeg) fun y2 =>
    if y2 ≤ x10 then
    mcall (f_part N σ x5 x8 x4) fun r6 σ4 =>
    some (r6, σ4)
    else
    mcall (f_weightOf N σ x1 x10) fun r9 σ7 =>
    mcall (f_power N σ7 x1) fun r12 σ10 =>
    if mIn ((100 * (x7 + ((x10 + 1) * r12))) + x2) (102400) = true then mlet (σ10.2.2 ((100 * (x7 + ((x10 + 1) * r12))) + x2).toNatClampNeg) fun y14 =>
    mlet (x5 - ((r9.toInt64) * y14)) fun y15 =>
    mlet (x10 + 1) fun y16 =>
    f_worth_105 N n σ10 x1 x2 x4 y15 x7 x8 y16
    else none
    else none
set_option maxHeartbeats 4000000 in
set_option maxRecDepth 100000 in
theorem w_worth_105 {p : Program} {l : Launch} {e : Env} {R : Room} {s : State} {m : MethodId} {args : Array Value} {below : List Frame} {meth : Method} {c : Code} {E : mE} {σ' : MS} {r : Int64} (hC : mC p s m args meth c E cX3_worth 11 (some .long)) (hR : 7 ≤ R.frames ∧ 177 ≤ R.locals) (N : Nat) : ∀ (n : Nat) (σ : MS) (x1 : Int32) (x2 : Int32) (x4 : Int32) (x5 : Int64) (x7 : Int32) (x8 : Int64) (x10 : Int32), f_worth_105 N n σ x1 x2 x4 x5 x7 x8 x10 = some (r, σ') → ∀ (H : Heap) (locs : List Loc), mP E σ H → va_S (mA E s.heap.size) s.heap H locs → ∀ ls : Array Slot, lv_has ls 11 [(0, .ref (mh E)), (1, .int x1), (2, .int x2), (4, .int x4), (5, .long x5), (7, .int x7), (8, .long x8), (10, .int x10)] → W p l e R s m args below meth c H locs 0 0 (MQ below (mQl E s.heap.size r σ') args s 0 0 (mA E s.heap.size)) (F0 m 105 ls []) := by
  obtain ⟨⟨hx, hb, hml, hown, hts⟩, hK, hD, hr, hlk⟩ := id hC
  intro n
  induction n with
  | zero =>
    intro σ x1 x2 x4 x5 x7 x8 x10 h
    cases h
  | succ n ih =>
    intro σ x1 x2 x4 x5 x7 x8 x10 h H locs hP hS ls hl
    unfold f_worth_105 at h
    refine lv_iload hx hb dX3_worth_105 (lv_at hl 7 rfl) ?_
    refine lv_aload_n hx hb dX3_worth_107 rfl (lv_at hl 0 rfl) ?_
    refine m_geta hC hP 53 (by decide) rfl q1946 dX3_worth_108 ?_
    refine lv_iload_n hx hb dX3_worth_111 rfl (lv_at hl 1 rfl) ?_
    obtain ⟨c1, h⟩ := mif_n h
    refine m_ald hC hP 53 rfl c1 dX3_worth_112 ?_
    refine lv_topi (fun y2 ey2 => ?_)
    have h := mlet_at ey2 h
    refine lv_icmp_ge (tgt := 158) hx hb dX3_worth_113 (by decide) (fun c3 => ?_) (fun c3 => ?_)
    · have h := mif_t c3 h
      refine lv_lload hx hb dX3_worth_158 (lv_at hl 4 rfl) ?_
      refine lv_lload hx hb dX3_worth_160 (lv_at hl 6 rfl) ?_
      refine lv_iload hx hb dX3_worth_162 (lv_at hl 3 rfl) ?_
      obtain ⟨r6, σ4, c5, h⟩ := mcall_n h
      refine m_callsl (As := [.long x5, .long x8, .int x4]) (rest := []) hC (met_part l N E H.size σ x5 x8 x4 r6 σ4 c5) (va_cwS 3 hts (lw_S q2409 q2410 q103 q2411) rfl rfl rfl (by decide +kernel) ⟨Nat.le_trans (Nat.le_of_ble_eq_true rfl) hR.1, Nat.le_trans (Nat.le_of_ble_eq_true rfl) hR.2⟩) hP hS rfl hl.1 rfl (Nat.le_of_ble_eq_true rfl) dX3_worth_164 (fun H locs hP hS => ?_)
      cases h
      exact m_lret hC hP hS dX3_worth_167
    · have h := mif_f c3 h
      refine lv_lload hx hb dX3_worth_116 (lv_at hl 4 rfl) ?_
      refine lv_aload_n hx hb dX3_worth_118 rfl (lv_at hl 0 rfl) ?_
      refine lv_iload_n hx hb dX3_worth_119 rfl (lv_at hl 1 rfl) ?_
      refine lv_iload hx hb dX3_worth_120 (lv_at hl 7 rfl) ?_
      obtain ⟨r9, σ7, c8, h⟩ := mcall_n h
      refine m_calli (As := [.int x1, .int x10]) (rest := [.long x5]) hC (met_weightOf l N E H.size σ x1 x10 r9 σ7 c8) (cwV 2 hts (lw_V q2383 q2385 qs77 q103 q2386) rfl rfl rfl (by decide +kernel) ⟨Nat.le_trans (Nat.le_of_ble_eq_true rfl) hR.1, Nat.le_trans (Nat.le_of_ble_eq_true rfl) hR.2⟩) hP hS rfl hl.1 rfl (Nat.le_of_ble_eq_true rfl) dX3_worth_122 (fun H locs hP hS => ?_)
      refine lv_i2l (v := r9.toInt64) hx hb dX3_worth_125 rfl ?_
      refine lv_aload_n hx hb dX3_worth_126 rfl (lv_at hl 0 rfl) ?_
      refine m_geta hC hP 48 (by decide) rfl q1941 dX3_worth_127 ?_
      refine lv_bipush (v := 100) hx hb dX3_worth_130 (by decide) ?_
      refine lv_iload hx hb dX3_worth_132 (lv_at hl 5 rfl) ?_
      refine lv_iload hx hb dX3_worth_134 (lv_at hl 7 rfl) ?_
      refine lv_iconst (v := 1) hx hb dX3_worth_136 (by decide) ?_
      refine lv_iadd hx hb dX3_worth_137 ?_
      refine lv_iload_n hx hb dX3_worth_138 rfl (lv_at hl 1 rfl) ?_
      obtain ⟨r12, σ10, c11, h⟩ := mcall_n h
      refine m_callsi (As := [.int x1]) (rest := [.int (x10 + 1), .int x7, .int 100, .ref (mad E 48), .long (r9.toInt64), .long x5]) hC (met_power l N E H.size σ7 x1 r12 σ10 c11) (va_cwS 1 hts (lw_S q2380 q2381 q103 q2382) rfl rfl rfl (by decide +kernel) ⟨Nat.le_trans (Nat.le_of_ble_eq_true rfl) hR.1, Nat.le_trans (Nat.le_of_ble_eq_true rfl) hR.2⟩) hP hS rfl hl.1 rfl (Nat.le_of_ble_eq_true rfl) dX3_worth_139 (fun H locs hP hS => ?_)
      refine lv_imul hx hb dX3_worth_142 ?_
      refine lv_iadd hx hb dX3_worth_143 ?_
      refine lv_imul hx hb dX3_worth_144 ?_
      refine lv_iload_n hx hb dX3_worth_145 rfl (lv_at hl 2 rfl) ?_
      refine lv_iadd hx hb dX3_worth_146 ?_
      obtain ⟨c13, h⟩ := mif_n h
      refine m_lld hC hP c13 dX3_worth_147 ?_
      refine lv_topl (fun y14 ey14 => ?_)
      have h := mlet_at ey14 h
      refine lv_lmul hx hb dX3_worth_148 ?_
      refine lv_lsub hx hb dX3_worth_149 ?_
      refine lv_topl (fun y15 ey15 => ?_)
      have h := mlet_at ey15 h
      refine lv_lstore (lv' := [(5, .long y15), (0, .ref (mh E)), (1, .int x1), (2, .int x2), (4, .int x4), (7, .int x7), (8, .long x8), (10, .int x10)]) hx hb dX3_worth_150 hl (by decide) rfl (fun ls hl => ?_)
      obtain ⟨y16, ey16⟩ : ∃ z : Int32, z = x10 + 1 := ⟨_, rfl⟩
      have h := mlet_at ey16 h
      refine lv_iinc (v := y16) (lv' := [(10, .int y16), (5, .long y15), (0, .ref (mh E)), (1, .int x1), (2, .int x2), (4, .int x4), (7, .int x7), (8, .long x8)]) hx hb dX3_worth_152 hl (k := 7) rfl (by rw [ey16]; rfl) (by decide) rfl (fun ls hl => ?_)
      refine lv_goto (tgt := 105) hx hb dX3_worth_155 (by decide) ?_
      exact ih σ10 x1 x2 x4 y15 x7 x8 y16 h _ _ hP hS _ (lv_sub hl [2, 3, 4, 5, 1, 6, 7, 0] rfl)
def f_worth_48 (N : Nat) (σ : MS) (x1 : Int32) (x2 : Int32) (x3 : Int32) (x4 : Int32) (s0 : Int32) : Option (Int64 × MS) :=
    mlet (mSet σ 39 s0) fun σ1 =>
    if (σ1.1 39) ≤ 0 then
    mcall (f_from N σ1 x2 x3 1) fun r5 σ3 =>
    if 0 ≤ (lg_cmp r5 0) then
    mcall (f_base N σ3) fun r9 σ7 =>
    mcall (f_left N σ7 r9) fun r12 σ10 =>
    f_worth_105 N N σ10 x1 x2 x4 r5 r9 r12 0
    else
    mlet (mSet σ3 39 6) fun σ13 =>
    some ((-9223372036854775808), σ13)
    else
    some ((-9223372036854775808), σ1)
set_option maxHeartbeats 4000000 in
set_option maxRecDepth 100000 in
theorem w_worth_48 {p : Program} {l : Launch} {e : Env} {R : Room} {s : State} {m : MethodId} {args : Array Value} {below : List Frame} {meth : Method} {c : Code} {E : mE} {σ' : MS} {r : Int64} (hC : mC p s m args meth c E cX3_worth 11 (some .long)) (hR : 7 ≤ R.frames ∧ 177 ≤ R.locals) (N : Nat) (σ : MS) (x1 : Int32) (x2 : Int32) (x3 : Int32) (x4 : Int32) (s0 : Int32) (h : f_worth_48 N σ x1 x2 x3 x4 s0 = some (r, σ')) {H : Heap} {locs : List Loc} (hP : mP E σ H) (hS : va_S (mA E s.heap.size) s.heap H locs) {ls : Array Slot} (hl : lv_has ls 11 [(0, .ref (mh E)), (1, .int x1), (2, .int x2), (3, .int x3), (4, .int x4)]) : W p l e R s m args below meth c H locs 0 0 (MQ below (mQl E s.heap.size r σ') args s 0 0 (mA E s.heap.size)) (F0 m 48 ls [.int s0, .ref (mh E)]) := by
  obtain ⟨⟨hx, hb, hml, hown, hts⟩, hK, hD, hr, hlk⟩ := id hC
  unfold f_worth_48 at h
  refine m_put hC hP hS 39 (by decide) rfl q1932 rfl (ty := .int) (tyX3_ok 39 (by decide)) ⟨rfl, rfl⟩ dX3_worth_48 (fun H locs hP hS => ?_)
  obtain ⟨σ1, eσ1⟩ : ∃ z : MS, z = mSet σ 39 s0 := ⟨_, rfl⟩
  rw [← eσ1] at hP
  have h := mlet_at eσ1 h
  refine lv_aload_n hx hb dX3_worth_51 rfl (lv_at hl 0 rfl) ?_
  refine m_geti hC hP 39 (by decide) rfl q1932 dX3_worth_52 ?_
  refine lv_if_le (tgt := 62) hx hb dX3_worth_55 (by decide) (fun c2 => ?_) (fun c2 => ?_)
  · have h := mif_t c2 h
    refine lv_aload_n hx hb dX3_worth_62 rfl (lv_at hl 0 rfl) ?_
    refine lv_iload_n hx hb dX3_worth_63 rfl (lv_at hl 2 rfl) ?_
    refine lv_iload_n hx hb dX3_worth_64 rfl (lv_at hl 3 rfl) ?_
    refine lv_iconst (v := 1) hx hb dX3_worth_65 (by decide) ?_
    obtain ⟨r5, σ3, c4, h⟩ := mcall_n h
    refine m_calll (As := [.int x2, .int x3, .int 1]) (rest := []) hC (met_from l N E H.size σ1 x2 x3 1 r5 σ3 c4) (cwV 3 hts (lw_V q2336 q2338 qs67 q103 q2339) rfl rfl rfl (by decide +kernel) ⟨Nat.le_trans (Nat.le_of_ble_eq_true rfl) hR.1, Nat.le_trans (Nat.le_of_ble_eq_true rfl) hR.2⟩) hP hS rfl hl.1 rfl (Nat.le_of_ble_eq_true rfl) dX3_worth_66 (fun H locs hP hS => ?_)
    refine lv_lstore (lv' := [(5, .long r5), (0, .ref (mh E)), (1, .int x1), (2, .int x2), (3, .int x3), (4, .int x4)]) hx hb dX3_worth_69 hl (by decide) rfl (fun ls hl => ?_)
    refine lv_lload hx hb dX3_worth_71 (lv_at hl 0 rfl) ?_
    refine lv_lconst (v := 0) hx hb dX3_worth_73 (by decide) ?_
    refine W.lcmp hx hb dX3_worth_74 ?_
    refine lv_if_ge (tgt := 88) hx hb dX3_worth_75 (by decide) (fun c6 => ?_) (fun c6 => ?_)
    · have h := mif_t c6 h
      refine lv_aload_n hx hb dX3_worth_88 rfl (lv_at hl 1 rfl) ?_
      obtain ⟨r9, σ7, c8, h⟩ := mcall_n h
      refine m_calli (As := []) (rest := []) hC (met_base l N E H.size σ3 r9 σ7 c8) (cwV 0 hts (lw_V q2399 q2401 qs81 q103 q2402) rfl rfl rfl (by decide +kernel) ⟨Nat.le_trans (Nat.le_of_ble_eq_true rfl) hR.1, Nat.le_trans (Nat.le_of_ble_eq_true rfl) hR.2⟩) hP hS rfl hl.1 rfl (Nat.le_of_ble_eq_true rfl) dX3_worth_89 (fun H locs hP hS => ?_)
      refine lv_istore (lv' := [(7, .int r9), (5, .long r5), (0, .ref (mh E)), (1, .int x1), (2, .int x2), (3, .int x3), (4, .int x4)]) hx hb dX3_worth_92 hl (by decide) rfl (fun ls hl => ?_)
      refine lv_aload_n hx hb dX3_worth_94 rfl (lv_at hl 2 rfl) ?_
      refine lv_iload hx hb dX3_worth_95 (lv_at hl 0 rfl) ?_
      obtain ⟨r12, σ10, c11, h⟩ := mcall_n h
      refine m_calll (As := [.int r9]) (rest := []) hC (met_left l N E H.size σ7 r9 r12 σ10 c11) (cwV 1 hts (lw_V q2387 q2389 qs78 q103 q2390) rfl rfl rfl (by decide +kernel) ⟨Nat.le_trans (Nat.le_of_ble_eq_true rfl) hR.1, Nat.le_trans (Nat.le_of_ble_eq_true rfl) hR.2⟩) hP hS rfl hl.1 rfl (Nat.le_of_ble_eq_true rfl) dX3_worth_97 (fun H locs hP hS => ?_)
      refine lv_lstore (lv' := [(8, .long r12), (7, .int r9), (5, .long r5), (0, .ref (mh E)), (1, .int x1), (2, .int x2), (3, .int x3), (4, .int x4)]) hx hb dX3_worth_100 hl (by decide) rfl (fun ls hl => ?_)
      refine lv_iconst (v := 0) hx hb dX3_worth_102 (by decide) ?_
      refine lv_istore (lv' := [(10, .int 0), (8, .long r12), (7, .int r9), (5, .long r5), (0, .ref (mh E)), (1, .int x1), (2, .int x2), (3, .int x3), (4, .int x4)]) hx hb dX3_worth_103 hl (by decide) rfl (fun ls hl => ?_)
      exact w_worth_105 hC hR N N σ10 x1 x2 x4 r5 r9 r12 0 h _ _ hP hS _ (lv_sub hl [4, 5, 6, 8, 3, 2, 1, 0] rfl)
    · have h := mif_f c6 h
      refine lv_aload_n hx hb dX3_worth_78 rfl (lv_at hl 1 rfl) ?_
      refine lv_bipush (v := 6) hx hb dX3_worth_79 (by decide) ?_
      refine m_put hC hP hS 39 (by decide) rfl q1932 rfl (ty := .int) (tyX3_ok 39 (by decide)) ⟨rfl, rfl⟩ dX3_worth_81 (fun H locs hP hS => ?_)
      obtain ⟨σ13, eσ13⟩ : ∃ z : MS, z = mSet σ3 39 6 := ⟨_, rfl⟩
      rw [← eσ13] at hP
      have h := mlet_at eσ13 h
      refine lv_ldc2 hx hb hown (hts _ q2408) dX3_worth_84 ?_
      cases h
      exact m_lret hC hP hS dX3_worth_87
  · have h := mif_f c2 h
    refine lv_ldc2 hx hb hown (hts _ q2408) dX3_worth_58 ?_
    cases h
    exact m_lret hC hP hS dX3_worth_61
def f_worth_29 (N : Nat) (σ : MS) (x1 : Int32) (x2 : Int32) (x3 : Int32) (x4 : Int32) : Option (Int64 × MS) :=
    f_worth_48 N σ x1 x2 x3 x4 1
set_option maxHeartbeats 4000000 in
set_option maxRecDepth 100000 in
theorem w_worth_29 {p : Program} {l : Launch} {e : Env} {R : Room} {s : State} {m : MethodId} {args : Array Value} {below : List Frame} {meth : Method} {c : Code} {E : mE} {σ' : MS} {r : Int64} (hC : mC p s m args meth c E cX3_worth 11 (some .long)) (hR : 7 ≤ R.frames ∧ 177 ≤ R.locals) (N : Nat) (σ : MS) (x1 : Int32) (x2 : Int32) (x3 : Int32) (x4 : Int32) (h : f_worth_29 N σ x1 x2 x3 x4 = some (r, σ')) {H : Heap} {locs : List Loc} (hP : mP E σ H) (hS : va_S (mA E s.heap.size) s.heap H locs) {ls : Array Slot} (hl : lv_has ls 11 [(0, .ref (mh E)), (1, .int x1), (2, .int x2), (3, .int x3), (4, .int x4)]) : W p l e R s m args below meth c H locs 0 0 (MQ below (mQl E s.heap.size r σ') args s 0 0 (mA E s.heap.size)) (F0 m 29 ls [.ref (mh E)]) := by
  obtain ⟨⟨hx, hb, hml, hown, hts⟩, hK, hD, hr, hlk⟩ := id hC
  unfold f_worth_29 at h
  refine lv_iconst (v := 1) hx hb dX3_worth_29 (by decide) ?_
  refine lv_goto (tgt := 48) hx hb dX3_worth_30 (by decide) ?_
  exact w_worth_48 hC hR N σ x1 x2 x3 x4 1 h hP hS (lv_sub hl [0, 1, 2, 3, 4] rfl)
def f_worth (N : Nat) (σ : MS) (x1 : Int32) (x2 : Int32) (x3 : Int32) (x4 : Int32) : Option (Int64 × MS) :=
    mcallv (f_good N σ) fun σ1 =>
    mcall (f_isDoubt N σ1 x1) fun r5 σ3 =>
    if r5 = 0 then
    f_worth_29 N σ3 x1 x2 x3 x4
    else
    mcall (f_isCell N σ3 x2) fun r9 σ7 =>
    if r9 = 0 then
    f_worth_29 N σ7 x1 x2 x3 x4
    else
    mcall (f_isCell N σ7 x3) fun r13 σ11 =>
    if r13 = 0 then
    f_worth_29 N σ11 x1 x2 x3 x4
    else
    if mIn x1 (mLen 45) = true then mlet (σ11.2.1 45 x1.toNatClampNeg) fun y16 =>
    if y16 = (-1) then
    f_worth_48 N σ11 x1 x2 x3 x4 0
    else
    f_worth_48 N σ11 x1 x2 x3 x4 5
    else none
set_option maxHeartbeats 4000000 in
set_option maxRecDepth 100000 in
theorem w_worth_0 {p : Program} {l : Launch} {e : Env} {R : Room} {s : State} {m : MethodId} {args : Array Value} {below : List Frame} {meth : Method} {c : Code} {E : mE} {σ' : MS} {r : Int64} (hC : mC p s m args meth c E cX3_worth 11 (some .long)) (hR : 7 ≤ R.frames ∧ 177 ≤ R.locals) (N : Nat) (σ : MS) (x1 : Int32) (x2 : Int32) (x3 : Int32) (x4 : Int32) (h : f_worth N σ x1 x2 x3 x4 = some (r, σ')) {H : Heap} {locs : List Loc} (hP : mP E σ H) (hS : va_S (mA E s.heap.size) s.heap H locs) {ls : Array Slot} (hl : lv_has ls 11 [(0, .ref (mh E)), (1, .int x1), (2, .int x2), (3, .int x3), (4, .int x4)]) : W p l e R s m args below meth c H locs 0 0 (MQ below (mQl E s.heap.size r σ') args s 0 0 (mA E s.heap.size)) (F0 m 0 ls []) := by
  obtain ⟨⟨hx, hb, hml, hown, hts⟩, hK, hD, hr, hlk⟩ := id hC
  unfold f_worth at h
  refine lv_aload_n hx hb dX3_worth_0 rfl (lv_at hl 0 rfl) ?_
  obtain ⟨σ1, c2, h⟩ := mcallv_n h
  refine m_callv (As := []) (rest := []) hC (met_good l N E H.size σ σ1 c2) (cwV 0 hts (lw_V q2131 q2133 qs40 q103 q2134) rfl rfl rfl (by decide +kernel) ⟨Nat.le_trans (Nat.le_of_ble_eq_true rfl) hR.1, Nat.le_trans (Nat.le_of_ble_eq_true rfl) hR.2⟩) hP hS rfl hl.1 rfl (Nat.le_of_ble_eq_true rfl) dX3_worth_1 (fun H locs hP hS => ?_)
  refine lv_aload_n hx hb dX3_worth_4 rfl (lv_at hl 0 rfl) ?_
  refine lv_aload_n hx hb dX3_worth_5 rfl (lv_at hl 0 rfl) ?_
  refine lv_iload_n hx hb dX3_worth_6 rfl (lv_at hl 1 rfl) ?_
  obtain ⟨r5, σ3, c4, h⟩ := mcall_n h
  refine m_calli (As := [.int x1]) (rest := [.ref (mh E)]) hC (met_isDoubt l N E H.size σ1 x1 r5 σ3 c4) (cwV 1 hts (lw_V q2292 q2294 qs61 q103 q2295) rfl rfl rfl (by decide +kernel) ⟨Nat.le_trans (Nat.le_of_ble_eq_true rfl) hR.1, Nat.le_trans (Nat.le_of_ble_eq_true rfl) hR.2⟩) hP hS rfl hl.1 rfl (Nat.le_of_ble_eq_true rfl) dX3_worth_7 (fun H locs hP hS => ?_)
  refine lv_if_eq (tgt := 29) hx hb dX3_worth_10 (by decide) (fun c6 => ?_) (fun c6 => ?_)
  · have h := mif_t c6 h
    exact w_worth_29 hC hR N σ3 x1 x2 x3 x4 h hP hS (lv_sub hl [0, 1, 2, 3, 4] rfl)
  · have h := mif_f c6 h
    refine lv_aload_n hx hb dX3_worth_13 rfl (lv_at hl 0 rfl) ?_
    refine lv_iload_n hx hb dX3_worth_14 rfl (lv_at hl 2 rfl) ?_
    obtain ⟨r9, σ7, c8, h⟩ := mcall_n h
    refine m_calli (As := [.int x2]) (rest := [.ref (mh E)]) hC (met_isCell l N E H.size σ3 x2 r9 σ7 c8) (cwV 1 hts (lw_V q2276 q2278 qs60 q103 q2279) rfl rfl rfl (by decide +kernel) ⟨Nat.le_trans (Nat.le_of_ble_eq_true rfl) hR.1, Nat.le_trans (Nat.le_of_ble_eq_true rfl) hR.2⟩) hP hS rfl hl.1 rfl (Nat.le_of_ble_eq_true rfl) dX3_worth_15 (fun H locs hP hS => ?_)
    refine lv_if_eq (tgt := 29) hx hb dX3_worth_18 (by decide) (fun c10 => ?_) (fun c10 => ?_)
    · have h := mif_t c10 h
      exact w_worth_29 hC hR N σ7 x1 x2 x3 x4 h hP hS (lv_sub hl [0, 1, 2, 3, 4] rfl)
    · have h := mif_f c10 h
      refine lv_aload_n hx hb dX3_worth_21 rfl (lv_at hl 0 rfl) ?_
      refine lv_iload_n hx hb dX3_worth_22 rfl (lv_at hl 3 rfl) ?_
      obtain ⟨r13, σ11, c12, h⟩ := mcall_n h
      refine m_calli (As := [.int x3]) (rest := [.ref (mh E)]) hC (met_isCell l N E H.size σ7 x3 r13 σ11 c12) (cwV 1 hts (lw_V q2276 q2278 qs60 q103 q2279) rfl rfl rfl (by decide +kernel) ⟨Nat.le_trans (Nat.le_of_ble_eq_true rfl) hR.1, Nat.le_trans (Nat.le_of_ble_eq_true rfl) hR.2⟩) hP hS rfl hl.1 rfl (Nat.le_of_ble_eq_true rfl) dX3_worth_23 (fun H locs hP hS => ?_)
      refine lv_if_ne (tgt := 33) hx hb dX3_worth_26 (by decide) (fun c14 => ?_) (fun c14 => ?_)
      · have h := mif_f c14 h
        refine lv_aload_n hx hb dX3_worth_33 rfl (lv_at hl 0 rfl) ?_
        refine m_geta hC hP 45 (by decide) rfl q1938 dX3_worth_34 ?_
        refine lv_iload_n hx hb dX3_worth_37 rfl (lv_at hl 1 rfl) ?_
        obtain ⟨c15, h⟩ := mif_n h
        refine m_ald hC hP 45 rfl c15 dX3_worth_38 ?_
        refine lv_topi (fun y16 ey16 => ?_)
        have h := mlet_at ey16 h
        refine lv_iconst (v := (-1)) hx hb dX3_worth_39 (by decide) ?_
        refine lv_icmp_eq (tgt := 47) hx hb dX3_worth_40 (by decide) (fun c17 => ?_) (fun c17 => ?_)
        · have h := mif_t c17 h
          refine lv_iconst (v := 0) hx hb dX3_worth_47 (by decide) ?_
          exact w_worth_48 hC hR N σ11 x1 x2 x3 x4 0 h hP hS (lv_sub hl [0, 1, 2, 3, 4] rfl)
        · have h := mif_f c17 h
          refine lv_iconst (v := 5) hx hb dX3_worth_43 (by decide) ?_
          refine lv_goto (tgt := 48) hx hb dX3_worth_44 (by decide) ?_
          exact w_worth_48 hC hR N σ11 x1 x2 x3 x4 5 h hP hS (lv_sub hl [0, 1, 2, 3, 4] rfl)
      · have h := mif_t c14 h
        exact w_worth_29 hC hR N σ11 x1 x2 x3 x4 h hP hS (lv_sub hl [0, 1, 2, 3, 4] rfl)
theorem met_worth (l : Launch) (N : Nat) (E : mE) (sz : Nat) (σ : MS) (x1 : Int32) (x2 : Int32) (x3 : Int32) (x4 : Int32) (r : Int64) (σ' : MS) (h : f_worth N σ x1 x2 x3 x4 = some (r, σ')) : Met l yX3_worth (ws_ yX3_worth cX3_worth 11 (some .long)) ({ frames := 7, cells := 0, slots := 0, locals := 177 }) (mPc E sz σ [.ref (mh E), .int x1, .int x2, .int x3, .int x4]) (mQl E sz r σ') 0 0 (mA E sz) :=
  m_met (Qc := fun z => mQl E z r σ') (by decide) rfl (Nat.le_of_ble_eq_true rfl) (fun hC ls hl hP => w_worth_0 hC ⟨Nat.le_refl _, Nat.le_refl _⟩ N σ x1 x2 x3 x4 h hP va_S.rf hl)
def f_spared_142 (N : Nat) (k90 : MS → Int32 → Int32 → Int64 → Int64 → Int32 → Option (Int32 × MS)) (σ : MS) (x1 : Int32) (x2 : Int32) (x5 : Int64) (x9 : Int32) (s0 : Int64) : Option (Int32 × MS) :=
    mlet (x9 + 1) fun y1 =>
    k90 σ x1 x2 x5 s0 y1
set_option maxHeartbeats 4000000 in
set_option maxRecDepth 100000 in
theorem w_spared_142 {p : Program} {l : Launch} {e : Env} {R : Room} {s : State} {m : MethodId} {args : Array Value} {below : List Frame} {meth : Method} {c : Code} {E : mE} {σ' : MS} {r : Int32} (hC : mC p s m args meth c E cX3_spared 12 (some .int)) (hR : 7 ≤ R.frames ∧ 177 ≤ R.locals) (N : Nat) (k90 : MS → Int32 → Int32 → Int64 → Int64 → Int32 → Option (Int32 × MS)) (hk90 : ∀ (σ : MS) (x1 : Int32) (x2 : Int32) (x5 : Int64) (x7 : Int64) (x9 : Int32), k90 σ x1 x2 x5 x7 x9 = some (r, σ') → ∀ (H : Heap) (locs : List Loc), mP E σ H → va_S (mA E s.heap.size) s.heap H locs → ∀ ls : Array Slot, lv_has ls 12 [(0, .ref (mh E)), (1, .int x1), (2, .int x2), (5, .long x5), (7, .long x7), (9, .int x9)] → W p l e R s m args below meth c H locs 0 0 (MQ below (mQi E s.heap.size r σ') args s 0 0 (mA E s.heap.size)) (F0 m 90 ls [])) (σ : MS) (x1 : Int32) (x2 : Int32) (x5 : Int64) (x9 : Int32) (s0 : Int64) (h : f_spared_142 N k90 σ x1 x2 x5 x9 s0 = some (r, σ')) {H : Heap} {locs : List Loc} (hP : mP E σ H) (hS : va_S (mA E s.heap.size) s.heap H locs) {ls : Array Slot} (hl : lv_has ls 12 [(0, .ref (mh E)), (1, .int x1), (2, .int x2), (5, .long x5), (9, .int x9)]) : W p l e R s m args below meth c H locs 0 0 (MQ below (mQi E s.heap.size r σ') args s 0 0 (mA E s.heap.size)) (F0 m 142 ls [.long s0]) := by
  obtain ⟨⟨hx, hb, hml, hown, hts⟩, hK, hD, hr, hlk⟩ := id hC
  unfold f_spared_142 at h
  refine lv_lstore (lv' := [(7, .long s0), (0, .ref (mh E)), (1, .int x1), (2, .int x2), (5, .long x5), (9, .int x9)]) hx hb dX3_spared_142 hl (by decide) rfl (fun ls hl => ?_)
  obtain ⟨y1, ey1⟩ : ∃ z : Int32, z = x9 + 1 := ⟨_, rfl⟩
  have h := mlet_at ey1 h
  refine lv_iinc (v := y1) (lv' := [(9, .int y1), (7, .long s0), (0, .ref (mh E)), (1, .int x1), (2, .int x2), (5, .long x5)]) hx hb dX3_spared_144 hl (k := 5) rfl (by rw [ey1]; rfl) (by decide) rfl (fun ls hl => ?_)
  refine lv_goto (tgt := 90) hx hb dX3_spared_147 (by decide) ?_
  exact hk90 σ x1 x2 x5 s0 y1 h _ _ hP hS _ (lv_sub hl [2, 3, 4, 5, 1, 0] rfl)
def f_spared_90 (N : Nat) : Nat → MS → Int32 → Int32 → Int64 → Int64 → Int32 → Option (Int32 × MS)
  | 0, _, _, _, _, _, _ => none
  | n + 1, σ, x1, x2, x5, x7, x9 =>
    if mIn x1 (mLen 53) = true then mlet (σ.2.1 53 x1.toNatClampNeg) fun y2 =>
    if y2 ≤ x9 then
    some ((x5 - x7).toInt32, σ)
    else
    mcall (f_base N σ) fun r6 σ4 =>
    mcall (f_power N σ4 x1) fun r9 σ7 =>
    if mIn ((100 * (r6 + ((x9 + 1) * r9))) + x2) (102400) = true then mlet (σ7.2.2 ((100 * (r6 + ((x9 + 1) * r9))) + x2).toNatClampNeg) fun y11 =>
    if (lg_cmp y11 x7) ≤ 0 then
    f_spared_142 N (f_spared_90 N n) σ7 x1 x2 x5 x9 x7
    else
    f_spared_142 N (f_spared_90 N n) σ7 x1 x2 x5 x9 y11
    else none
    else none
set_option maxHeartbeats 4000000 in
set_option maxRecDepth 100000 in
theorem w_spared_90 {p : Program} {l : Launch} {e : Env} {R : Room} {s : State} {m : MethodId} {args : Array Value} {below : List Frame} {meth : Method} {c : Code} {E : mE} {σ' : MS} {r : Int32} (hC : mC p s m args meth c E cX3_spared 12 (some .int)) (hR : 7 ≤ R.frames ∧ 177 ≤ R.locals) (N : Nat) : ∀ (n : Nat) (σ : MS) (x1 : Int32) (x2 : Int32) (x5 : Int64) (x7 : Int64) (x9 : Int32), f_spared_90 N n σ x1 x2 x5 x7 x9 = some (r, σ') → ∀ (H : Heap) (locs : List Loc), mP E σ H → va_S (mA E s.heap.size) s.heap H locs → ∀ ls : Array Slot, lv_has ls 12 [(0, .ref (mh E)), (1, .int x1), (2, .int x2), (5, .long x5), (7, .long x7), (9, .int x9)] → W p l e R s m args below meth c H locs 0 0 (MQ below (mQi E s.heap.size r σ') args s 0 0 (mA E s.heap.size)) (F0 m 90 ls []) := by
  obtain ⟨⟨hx, hb, hml, hown, hts⟩, hK, hD, hr, hlk⟩ := id hC
  intro n
  induction n with
  | zero =>
    intro σ x1 x2 x5 x7 x9 h
    cases h
  | succ n ih =>
    intro σ x1 x2 x5 x7 x9 h H locs hP hS ls hl
    unfold f_spared_90 at h
    refine lv_iload hx hb dX3_spared_90 (lv_at hl 5 rfl) ?_
    refine lv_aload_n hx hb dX3_spared_92 rfl (lv_at hl 0 rfl) ?_
    refine m_geta hC hP 53 (by decide) rfl q1946 dX3_spared_93 ?_
    refine lv_iload_n hx hb dX3_spared_96 rfl (lv_at hl 1 rfl) ?_
    obtain ⟨c1, h⟩ := mif_n h
    refine m_ald hC hP 53 rfl c1 dX3_spared_97 ?_
    refine lv_topi (fun y2 ey2 => ?_)
    have h := mlet_at ey2 h
    refine lv_icmp_ge (tgt := 150) hx hb dX3_spared_98 (by decide) (fun c3 => ?_) (fun c3 => ?_)
    · have h := mif_t c3 h
      refine lv_lload hx hb dX3_spared_150 (lv_at hl 3 rfl) ?_
      refine lv_lload hx hb dX3_spared_152 (lv_at hl 4 rfl) ?_
      refine lv_lsub hx hb dX3_spared_154 ?_
      refine lv_l2i (v := (x5 - x7).toInt32) hx hb dX3_spared_155 rfl ?_
      cases h
      exact m_iret hC hP hS dX3_spared_156
    · have h := mif_f c3 h
      refine lv_aload_n hx hb dX3_spared_101 rfl (lv_at hl 0 rfl) ?_
      refine m_geta hC hP 48 (by decide) rfl q1941 dX3_spared_102 ?_
      refine lv_bipush (v := 100) hx hb dX3_spared_105 (by decide) ?_
      refine lv_aload_n hx hb dX3_spared_107 rfl (lv_at hl 0 rfl) ?_
      obtain ⟨r6, σ4, c5, h⟩ := mcall_n h
      refine m_calli (As := []) (rest := [.int 100, .ref (mad E 48)]) hC (met_base l N E H.size σ r6 σ4 c5) (cwV 0 hts (lw_V q2399 q2401 qs81 q103 q2402) rfl rfl rfl (by decide +kernel) ⟨Nat.le_trans (Nat.le_of_ble_eq_true rfl) hR.1, Nat.le_trans (Nat.le_of_ble_eq_true rfl) hR.2⟩) hP hS rfl hl.1 rfl (Nat.le_of_ble_eq_true rfl) dX3_spared_108 (fun H locs hP hS => ?_)
      refine lv_iload hx hb dX3_spared_111 (lv_at hl 5 rfl) ?_
      refine lv_iconst (v := 1) hx hb dX3_spared_113 (by decide) ?_
      refine lv_iadd hx hb dX3_spared_114 ?_
      refine lv_iload_n hx hb dX3_spared_115 rfl (lv_at hl 1 rfl) ?_
      obtain ⟨r9, σ7, c8, h⟩ := mcall_n h
      refine m_callsi (As := [.int x1]) (rest := [.int (x9 + 1), .int r6, .int 100, .ref (mad E 48)]) hC (met_power l N E H.size σ4 x1 r9 σ7 c8) (va_cwS 1 hts (lw_S q2380 q2381 q103 q2382) rfl rfl rfl (by decide +kernel) ⟨Nat.le_trans (Nat.le_of_ble_eq_true rfl) hR.1, Nat.le_trans (Nat.le_of_ble_eq_true rfl) hR.2⟩) hP hS rfl hl.1 rfl (Nat.le_of_ble_eq_true rfl) dX3_spared_116 (fun H locs hP hS => ?_)
      refine lv_imul hx hb dX3_spared_119 ?_
      refine lv_iadd hx hb dX3_spared_120 ?_
      refine lv_imul hx hb dX3_spared_121 ?_
      refine lv_iload_n hx hb dX3_spared_122 rfl (lv_at hl 2 rfl) ?_
      refine lv_iadd hx hb dX3_spared_123 ?_
      obtain ⟨c10, h⟩ := mif_n h
      refine m_lld hC hP c10 dX3_spared_124 ?_
      refine lv_topl (fun y11 ey11 => ?_)
      have h := mlet_at ey11 h
      refine lv_lstore (lv' := [(10, .long y11), (0, .ref (mh E)), (1, .int x1), (2, .int x2), (5, .long x5), (7, .long x7), (9, .int x9)]) hx hb dX3_spared_125 hl (by decide) rfl (fun ls hl => ?_)
      refine lv_lload hx hb dX3_spared_127 (lv_at hl 0 rfl) ?_
      refine lv_lload hx hb dX3_spared_129 (lv_at hl 5 rfl) ?_
      refine W.lcmp hx hb dX3_spared_131 ?_
      refine lv_if_le (tgt := 140) hx hb dX3_spared_132 (by decide) (fun c12 => ?_) (fun c12 => ?_)
      · have h := mif_t c12 h
        refine lv_lload hx hb dX3_spared_140 (lv_at hl 5 rfl) ?_
        exact w_spared_142 hC hR N (f_spared_90 N n) ih σ7 x1 x2 x5 x9 x7 h hP hS (lv_sub hl [1, 2, 3, 4, 6] rfl)
      · have h := mif_f c12 h
        refine lv_lload hx hb dX3_spared_135 (lv_at hl 0 rfl) ?_
        refine lv_goto (tgt := 142) hx hb dX3_spared_137 (by decide) ?_
        exact w_spared_142 hC hR N (f_spared_90 N n) ih σ7 x1 x2 x5 x9 y11 h hP hS (lv_sub hl [1, 2, 3, 4, 6] rfl)
def f_spared_47 (N : Nat) (σ : MS) (x1 : Int32) (x2 : Int32) (x3 : Int32) (s0 : Int32) : Option (Int32 × MS) :=
    if s0 ≤ 0 then
    mcall (f_from N σ x2 x3 0) fun r4 σ2 =>
    if 0 ≤ (lg_cmp r4 0) then
    f_spared_90 N N σ2 x1 x2 r4 0 0
    else
    mcall (f_no N σ2 6) fun r8 σ6 =>
    some (r8, σ6)
    else
    mcall (f_no N σ s0) fun r11 σ9 =>
    some (r11, σ9)
set_option maxHeartbeats 4000000 in
set_option maxRecDepth 100000 in
theorem w_spared_47 {p : Program} {l : Launch} {e : Env} {R : Room} {s : State} {m : MethodId} {args : Array Value} {below : List Frame} {meth : Method} {c : Code} {E : mE} {σ' : MS} {r : Int32} (hC : mC p s m args meth c E cX3_spared 12 (some .int)) (hR : 7 ≤ R.frames ∧ 177 ≤ R.locals) (N : Nat) (σ : MS) (x1 : Int32) (x2 : Int32) (x3 : Int32) (s0 : Int32) (h : f_spared_47 N σ x1 x2 x3 s0 = some (r, σ')) {H : Heap} {locs : List Loc} (hP : mP E σ H) (hS : va_S (mA E s.heap.size) s.heap H locs) {ls : Array Slot} (hl : lv_has ls 12 [(0, .ref (mh E)), (1, .int x1), (2, .int x2), (3, .int x3)]) : W p l e R s m args below meth c H locs 0 0 (MQ below (mQi E s.heap.size r σ') args s 0 0 (mA E s.heap.size)) (F0 m 47 ls [.int s0]) := by
  obtain ⟨⟨hx, hb, hml, hown, hts⟩, hK, hD, hr, hlk⟩ := id hC
  unfold f_spared_47 at h
  refine lv_istore (lv' := [(4, .int s0), (0, .ref (mh E)), (1, .int x1), (2, .int x2), (3, .int x3)]) hx hb dX3_spared_47 hl (by decide) rfl (fun ls hl => ?_)
  refine lv_iload hx hb dX3_spared_49 (lv_at hl 0 rfl) ?_
  refine lv_if_le (tgt := 61) hx hb dX3_spared_51 (by decide) (fun c1 => ?_) (fun c1 => ?_)
  · have h := mif_t c1 h
    refine lv_aload_n hx hb dX3_spared_61 rfl (lv_at hl 1 rfl) ?_
    refine lv_iload_n hx hb dX3_spared_62 rfl (lv_at hl 3 rfl) ?_
    refine lv_iload_n hx hb dX3_spared_63 rfl (lv_at hl 4 rfl) ?_
    refine lv_iconst (v := 0) hx hb dX3_spared_64 (by decide) ?_
    obtain ⟨r4, σ2, c3, h⟩ := mcall_n h
    refine m_calll (As := [.int x2, .int x3, .int 0]) (rest := []) hC (met_from l N E H.size σ x2 x3 0 r4 σ2 c3) (cwV 3 hts (lw_V q2336 q2338 qs67 q103 q2339) rfl rfl rfl (by decide +kernel) ⟨Nat.le_trans (Nat.le_of_ble_eq_true rfl) hR.1, Nat.le_trans (Nat.le_of_ble_eq_true rfl) hR.2⟩) hP hS rfl hl.1 rfl (Nat.le_of_ble_eq_true rfl) dX3_spared_65 (fun H locs hP hS => ?_)
    refine lv_lstore (lv' := [(5, .long r4), (4, .int s0), (0, .ref (mh E)), (1, .int x1), (2, .int x2), (3, .int x3)]) hx hb dX3_spared_68 hl (by decide) rfl (fun ls hl => ?_)
    refine lv_lload hx hb dX3_spared_70 (lv_at hl 0 rfl) ?_
    refine lv_lconst (v := 0) hx hb dX3_spared_72 (by decide) ?_
    refine W.lcmp hx hb dX3_spared_73 ?_
    refine lv_if_ge (tgt := 84) hx hb dX3_spared_74 (by decide) (fun c5 => ?_) (fun c5 => ?_)
    · have h := mif_t c5 h
      refine lv_lconst (v := 0) hx hb dX3_spared_84 (by decide) ?_
      refine lv_lstore (lv' := [(7, .long 0), (5, .long r4), (4, .int s0), (0, .ref (mh E)), (1, .int x1), (2, .int x2), (3, .int x3)]) hx hb dX3_spared_85 hl (by decide) rfl (fun ls hl => ?_)
      refine lv_iconst (v := 0) hx hb dX3_spared_87 (by decide) ?_
      refine lv_istore (lv' := [(9, .int 0), (7, .long 0), (5, .long r4), (4, .int s0), (0, .ref (mh E)), (1, .int x1), (2, .int x2), (3, .int x3)]) hx hb dX3_spared_88 hl (by decide) rfl (fun ls hl => ?_)
      exact w_spared_90 hC hR N N σ2 x1 x2 r4 0 0 h _ _ hP hS _ (lv_sub hl [4, 5, 6, 2, 1, 0] rfl)
    · have h := mif_f c5 h
      refine lv_aload_n hx hb dX3_spared_77 rfl (lv_at hl 2 rfl) ?_
      refine lv_bipush (v := 6) hx hb dX3_spared_78 (by decide) ?_
      obtain ⟨r8, σ6, c7, h⟩ := mcall_n h
      refine m_calli (As := [.int 6]) (rest := []) hC (met_no l N E H.size σ2 6 r8 σ6 c7) (cwV 1 hts (lw_V q2138 q2140 qs41 q103 q2141) rfl rfl rfl (by decide +kernel) ⟨Nat.le_trans (Nat.le_of_ble_eq_true rfl) hR.1, Nat.le_trans (Nat.le_of_ble_eq_true rfl) hR.2⟩) hP hS rfl hl.1 rfl (Nat.le_of_ble_eq_true rfl) dX3_spared_80 (fun H locs hP hS => ?_)
      cases h
      exact m_iret hC hP hS dX3_spared_83
  · have h := mif_f c1 h
    refine lv_aload_n hx hb dX3_spared_54 rfl (lv_at hl 1 rfl) ?_
    refine lv_iload hx hb dX3_spared_55 (lv_at hl 0 rfl) ?_
    obtain ⟨r11, σ9, c10, h⟩ := mcall_n h
    refine m_calli (As := [.int s0]) (rest := []) hC (met_no l N E H.size σ s0 r11 σ9 c10) (cwV 1 hts (lw_V q2138 q2140 qs41 q103 q2141) rfl rfl rfl (by decide +kernel) ⟨Nat.le_trans (Nat.le_of_ble_eq_true rfl) hR.1, Nat.le_trans (Nat.le_of_ble_eq_true rfl) hR.2⟩) hP hS rfl hl.1 rfl (Nat.le_of_ble_eq_true rfl) dX3_spared_57 (fun H locs hP hS => ?_)
    cases h
    exact m_iret hC hP hS dX3_spared_60
def f_spared_28 (N : Nat) (σ : MS) (x1 : Int32) (x2 : Int32) (x3 : Int32) : Option (Int32 × MS) :=
    f_spared_47 N σ x1 x2 x3 1
set_option maxHeartbeats 4000000 in
set_option maxRecDepth 100000 in
theorem w_spared_28 {p : Program} {l : Launch} {e : Env} {R : Room} {s : State} {m : MethodId} {args : Array Value} {below : List Frame} {meth : Method} {c : Code} {E : mE} {σ' : MS} {r : Int32} (hC : mC p s m args meth c E cX3_spared 12 (some .int)) (hR : 7 ≤ R.frames ∧ 177 ≤ R.locals) (N : Nat) (σ : MS) (x1 : Int32) (x2 : Int32) (x3 : Int32) (h : f_spared_28 N σ x1 x2 x3 = some (r, σ')) {H : Heap} {locs : List Loc} (hP : mP E σ H) (hS : va_S (mA E s.heap.size) s.heap H locs) {ls : Array Slot} (hl : lv_has ls 12 [(0, .ref (mh E)), (1, .int x1), (2, .int x2), (3, .int x3)]) : W p l e R s m args below meth c H locs 0 0 (MQ below (mQi E s.heap.size r σ') args s 0 0 (mA E s.heap.size)) (F0 m 28 ls []) := by
  obtain ⟨⟨hx, hb, hml, hown, hts⟩, hK, hD, hr, hlk⟩ := id hC
  unfold f_spared_28 at h
  refine lv_iconst (v := 1) hx hb dX3_spared_28 (by decide) ?_
  refine lv_goto (tgt := 47) hx hb dX3_spared_29 (by decide) ?_
  exact w_spared_47 hC hR N σ x1 x2 x3 1 h hP hS (lv_sub hl [0, 1, 2, 3] rfl)
def f_spared (N : Nat) (σ : MS) (x1 : Int32) (x2 : Int32) (x3 : Int32) : Option (Int32 × MS) :=
    mcallv (f_good N σ) fun σ1 =>
    mcall (f_isDoubt N σ1 x1) fun r5 σ3 =>
    if r5 = 0 then
    f_spared_28 N σ3 x1 x2 x3
    else
    mcall (f_isCell N σ3 x2) fun r9 σ7 =>
    if r9 = 0 then
    f_spared_28 N σ7 x1 x2 x3
    else
    mcall (f_isCell N σ7 x3) fun r13 σ11 =>
    if r13 = 0 then
    f_spared_28 N σ11 x1 x2 x3
    else
    if mIn x1 (mLen 45) = true then mlet (σ11.2.1 45 x1.toNatClampNeg) fun y16 =>
    if y16 = (-1) then
    f_spared_47 N σ11 x1 x2 x3 0
    else
    f_spared_47 N σ11 x1 x2 x3 5
    else none
set_option maxHeartbeats 4000000 in
set_option maxRecDepth 100000 in
theorem w_spared_0 {p : Program} {l : Launch} {e : Env} {R : Room} {s : State} {m : MethodId} {args : Array Value} {below : List Frame} {meth : Method} {c : Code} {E : mE} {σ' : MS} {r : Int32} (hC : mC p s m args meth c E cX3_spared 12 (some .int)) (hR : 7 ≤ R.frames ∧ 177 ≤ R.locals) (N : Nat) (σ : MS) (x1 : Int32) (x2 : Int32) (x3 : Int32) (h : f_spared N σ x1 x2 x3 = some (r, σ')) {H : Heap} {locs : List Loc} (hP : mP E σ H) (hS : va_S (mA E s.heap.size) s.heap H locs) {ls : Array Slot} (hl : lv_has ls 12 [(0, .ref (mh E)), (1, .int x1), (2, .int x2), (3, .int x3)]) : W p l e R s m args below meth c H locs 0 0 (MQ below (mQi E s.heap.size r σ') args s 0 0 (mA E s.heap.size)) (F0 m 0 ls []) := by
  obtain ⟨⟨hx, hb, hml, hown, hts⟩, hK, hD, hr, hlk⟩ := id hC
  unfold f_spared at h
  refine lv_aload_n hx hb dX3_spared_0 rfl (lv_at hl 0 rfl) ?_
  obtain ⟨σ1, c2, h⟩ := mcallv_n h
  refine m_callv (As := []) (rest := []) hC (met_good l N E H.size σ σ1 c2) (cwV 0 hts (lw_V q2131 q2133 qs40 q103 q2134) rfl rfl rfl (by decide +kernel) ⟨Nat.le_trans (Nat.le_of_ble_eq_true rfl) hR.1, Nat.le_trans (Nat.le_of_ble_eq_true rfl) hR.2⟩) hP hS rfl hl.1 rfl (Nat.le_of_ble_eq_true rfl) dX3_spared_1 (fun H locs hP hS => ?_)
  refine lv_aload_n hx hb dX3_spared_4 rfl (lv_at hl 0 rfl) ?_
  refine lv_iload_n hx hb dX3_spared_5 rfl (lv_at hl 1 rfl) ?_
  obtain ⟨r5, σ3, c4, h⟩ := mcall_n h
  refine m_calli (As := [.int x1]) (rest := []) hC (met_isDoubt l N E H.size σ1 x1 r5 σ3 c4) (cwV 1 hts (lw_V q2292 q2294 qs61 q103 q2295) rfl rfl rfl (by decide +kernel) ⟨Nat.le_trans (Nat.le_of_ble_eq_true rfl) hR.1, Nat.le_trans (Nat.le_of_ble_eq_true rfl) hR.2⟩) hP hS rfl hl.1 rfl (Nat.le_of_ble_eq_true rfl) dX3_spared_6 (fun H locs hP hS => ?_)
  refine lv_if_eq (tgt := 28) hx hb dX3_spared_9 (by decide) (fun c6 => ?_) (fun c6 => ?_)
  · have h := mif_t c6 h
    exact w_spared_28 hC hR N σ3 x1 x2 x3 h hP hS (lv_sub hl [0, 1, 2, 3] rfl)
  · have h := mif_f c6 h
    refine lv_aload_n hx hb dX3_spared_12 rfl (lv_at hl 0 rfl) ?_
    refine lv_iload_n hx hb dX3_spared_13 rfl (lv_at hl 2 rfl) ?_
    obtain ⟨r9, σ7, c8, h⟩ := mcall_n h
    refine m_calli (As := [.int x2]) (rest := []) hC (met_isCell l N E H.size σ3 x2 r9 σ7 c8) (cwV 1 hts (lw_V q2276 q2278 qs60 q103 q2279) rfl rfl rfl (by decide +kernel) ⟨Nat.le_trans (Nat.le_of_ble_eq_true rfl) hR.1, Nat.le_trans (Nat.le_of_ble_eq_true rfl) hR.2⟩) hP hS rfl hl.1 rfl (Nat.le_of_ble_eq_true rfl) dX3_spared_14 (fun H locs hP hS => ?_)
    refine lv_if_eq (tgt := 28) hx hb dX3_spared_17 (by decide) (fun c10 => ?_) (fun c10 => ?_)
    · have h := mif_t c10 h
      exact w_spared_28 hC hR N σ7 x1 x2 x3 h hP hS (lv_sub hl [0, 1, 2, 3] rfl)
    · have h := mif_f c10 h
      refine lv_aload_n hx hb dX3_spared_20 rfl (lv_at hl 0 rfl) ?_
      refine lv_iload_n hx hb dX3_spared_21 rfl (lv_at hl 3 rfl) ?_
      obtain ⟨r13, σ11, c12, h⟩ := mcall_n h
      refine m_calli (As := [.int x3]) (rest := []) hC (met_isCell l N E H.size σ7 x3 r13 σ11 c12) (cwV 1 hts (lw_V q2276 q2278 qs60 q103 q2279) rfl rfl rfl (by decide +kernel) ⟨Nat.le_trans (Nat.le_of_ble_eq_true rfl) hR.1, Nat.le_trans (Nat.le_of_ble_eq_true rfl) hR.2⟩) hP hS rfl hl.1 rfl (Nat.le_of_ble_eq_true rfl) dX3_spared_22 (fun H locs hP hS => ?_)
      refine lv_if_ne (tgt := 32) hx hb dX3_spared_25 (by decide) (fun c14 => ?_) (fun c14 => ?_)
      · have h := mif_f c14 h
        refine lv_aload_n hx hb dX3_spared_32 rfl (lv_at hl 0 rfl) ?_
        refine m_geta hC hP 45 (by decide) rfl q1938 dX3_spared_33 ?_
        refine lv_iload_n hx hb dX3_spared_36 rfl (lv_at hl 1 rfl) ?_
        obtain ⟨c15, h⟩ := mif_n h
        refine m_ald hC hP 45 rfl c15 dX3_spared_37 ?_
        refine lv_topi (fun y16 ey16 => ?_)
        have h := mlet_at ey16 h
        refine lv_iconst (v := (-1)) hx hb dX3_spared_38 (by decide) ?_
        refine lv_icmp_eq (tgt := 46) hx hb dX3_spared_39 (by decide) (fun c17 => ?_) (fun c17 => ?_)
        · have h := mif_t c17 h
          refine lv_iconst (v := 0) hx hb dX3_spared_46 (by decide) ?_
          exact w_spared_47 hC hR N σ11 x1 x2 x3 0 h hP hS (lv_sub hl [0, 1, 2, 3] rfl)
        · have h := mif_f c17 h
          refine lv_iconst (v := 5) hx hb dX3_spared_42 (by decide) ?_
          refine lv_goto (tgt := 47) hx hb dX3_spared_43 (by decide) ?_
          exact w_spared_47 hC hR N σ11 x1 x2 x3 5 h hP hS (lv_sub hl [0, 1, 2, 3] rfl)
      · have h := mif_t c14 h
        exact w_spared_28 hC hR N σ11 x1 x2 x3 h hP hS (lv_sub hl [0, 1, 2, 3] rfl)
theorem met_spared (l : Launch) (N : Nat) (E : mE) (sz : Nat) (σ : MS) (x1 : Int32) (x2 : Int32) (x3 : Int32) (r : Int32) (σ' : MS) (h : f_spared N σ x1 x2 x3 = some (r, σ')) : Met l yX3_spared (ws_ yX3_spared cX3_spared 12 (some .int)) ({ frames := 7, cells := 0, slots := 0, locals := 177 }) (mPc E sz σ [.ref (mh E), .int x1, .int x2, .int x3]) (mQi E sz r σ') 0 0 (mA E sz) :=
  m_met (Qc := fun z => mQi E z r σ') (by decide) rfl (Nat.le_of_ble_eq_true rfl) (fun hC ls hl hP => w_spared_0 hC ⟨Nat.le_refl _, Nat.le_refl _⟩ N σ x1 x2 x3 h hP va_S.rf hl)
def f_order_75 (N : Nat) (σ : MS) : Option (Int32 × MS) :=
    mlet (mSet σ 58 ((σ.1 58) + 1)) fun σ1 =>
    some ((σ1.1 58) - 1, σ1)
set_option maxHeartbeats 4000000 in
set_option maxRecDepth 100000 in
theorem w_order_75 {p : Program} {l : Launch} {e : Env} {R : Room} {s : State} {m : MethodId} {args : Array Value} {below : List Frame} {meth : Method} {c : Code} {E : mE} {σ' : MS} {r : Int32} (hC : mC p s m args meth c E cX3_order 6 (some .int)) (hR : 0 ≤ R.frames ∧ 0 ≤ R.locals) (N : Nat) (σ : MS) (h : f_order_75 N σ = some (r, σ')) {H : Heap} {locs : List Loc} (hP : mP E σ H) (hS : va_S (mA E s.heap.size) s.heap H locs) {ls : Array Slot} (hl : lv_has ls 6 [(0, .ref (mh E))]) : W p l e R s m args below meth c H locs 0 0 (MQ below (mQi E s.heap.size r σ') args s 0 0 (mA E s.heap.size)) (F0 m 75 ls []) := by
  obtain ⟨⟨hx, hb, hml, hown, hts⟩, hK, hD, hr, hlk⟩ := id hC
  unfold f_order_75 at h
  refine lv_aload_n hx hb dX3_order_75 rfl (lv_at hl 0 rfl) ?_
  refine lv_dup hx hb dX3_order_76 rfl ?_
  refine m_geti hC hP 58 (by decide) rfl q1951 dX3_order_77 ?_
  refine lv_iconst (v := 1) hx hb dX3_order_80 (by decide) ?_
  refine lv_iadd hx hb dX3_order_81 ?_
  refine m_put hC hP hS 58 (by decide) rfl q1951 rfl (ty := .int) (tyX3_ok 58 (by decide)) ⟨rfl, rfl⟩ dX3_order_82 (fun H locs hP hS => ?_)
  obtain ⟨σ1, eσ1⟩ : ∃ z : MS, z = mSet σ 58 ((σ.1 58) + 1) := ⟨_, rfl⟩
  rw [← eσ1] at hP
  have h := mlet_at eσ1 h
  refine lv_aload_n hx hb dX3_order_85 rfl (lv_at hl 0 rfl) ?_
  refine m_geti hC hP 58 (by decide) rfl q1951 dX3_order_86 ?_
  refine lv_iconst (v := 1) hx hb dX3_order_89 (by decide) ?_
  refine lv_isub hx hb dX3_order_90 ?_
  cases h
  exact m_iret hC hP hS dX3_order_91
def f_order (N : Nat) (σ : MS) (x1 : Int32) (x2 : Int32) (x3 : Int32) (x4 : Int32) : Option (Int32 × MS) :=
    mlet ((512 * (σ.1 40)) + (4 * (σ.1 58))) fun y1 =>
    if 8 ≤ (σ.1 40) then
    f_order_75 N σ
    else
    if 128 ≤ (σ.1 58) then
    f_order_75 N σ
    else
    if mIn y1 (mLen 56) = true then mlet (mArr σ 56 y1.toNatClampNeg x1) fun σ5 =>
    if mIn (y1 + 1) (mLen 56) = true then mlet (mArr σ5 56 (y1 + 1).toNatClampNeg x2) fun σ7 =>
    if mIn (y1 + 2) (mLen 56) = true then mlet (mArr σ7 56 (y1 + 2).toNatClampNeg x3) fun σ9 =>
    if mIn (y1 + 3) (mLen 56) = true then mlet (mArr σ9 56 (y1 + 3).toNatClampNeg x4) fun σ11 =>
    f_order_75 N σ11
    else none
    else none
    else none
    else none
set_option maxHeartbeats 4000000 in
set_option maxRecDepth 100000 in
theorem w_order_0 {p : Program} {l : Launch} {e : Env} {R : Room} {s : State} {m : MethodId} {args : Array Value} {below : List Frame} {meth : Method} {c : Code} {E : mE} {σ' : MS} {r : Int32} (hC : mC p s m args meth c E cX3_order 6 (some .int)) (hR : 0 ≤ R.frames ∧ 0 ≤ R.locals) (N : Nat) (σ : MS) (x1 : Int32) (x2 : Int32) (x3 : Int32) (x4 : Int32) (h : f_order N σ x1 x2 x3 x4 = some (r, σ')) {H : Heap} {locs : List Loc} (hP : mP E σ H) (hS : va_S (mA E s.heap.size) s.heap H locs) {ls : Array Slot} (hl : lv_has ls 6 [(0, .ref (mh E)), (1, .int x1), (2, .int x2), (3, .int x3), (4, .int x4)]) : W p l e R s m args below meth c H locs 0 0 (MQ below (mQi E s.heap.size r σ') args s 0 0 (mA E s.heap.size)) (F0 m 0 ls []) := by
  obtain ⟨⟨hx, hb, hml, hown, hts⟩, hK, hD, hr, hlk⟩ := id hC
  unfold f_order at h
  refine lv_sipush (v := 512) hx hb dX3_order_0 (by decide) ?_
  refine lv_aload_n hx hb dX3_order_3 rfl (lv_at hl 0 rfl) ?_
  refine m_geti hC hP 40 (by decide) rfl q1933 dX3_order_4 ?_
  refine lv_imul hx hb dX3_order_7 ?_
  refine lv_iconst (v := 4) hx hb dX3_order_8 (by decide) ?_
  refine lv_aload_n hx hb dX3_order_9 rfl (lv_at hl 0 rfl) ?_
  refine m_geti hC hP 58 (by decide) rfl q1951 dX3_order_10 ?_
  refine lv_imul hx hb dX3_order_13 ?_
  refine lv_iadd hx hb dX3_order_14 ?_
  refine lv_topi (fun y1 ey1 => ?_)
  have h := mlet_at ey1 h
  refine lv_istore (lv' := [(5, .int y1), (0, .ref (mh E)), (1, .int x1), (2, .int x2), (3, .int x3), (4, .int x4)]) hx hb dX3_order_15 hl (by decide) rfl (fun ls hl => ?_)
  refine lv_aload_n hx hb dX3_order_17 rfl (lv_at hl 1 rfl) ?_
  refine m_geti hC hP 40 (by decide) rfl q1933 dX3_order_18 ?_
  refine lv_bipush (v := 8) hx hb dX3_order_21 (by decide) ?_
  refine lv_icmp_ge (tgt := 75) hx hb dX3_order_23 (by decide) (fun c2 => ?_) (fun c2 => ?_)
  · have h := mif_t c2 h
    exact w_order_75 hC hR N σ h hP hS (lv_sub hl [1] rfl)
  · have h := mif_f c2 h
    refine lv_aload_n hx hb dX3_order_26 rfl (lv_at hl 1 rfl) ?_
    refine m_geti hC hP 58 (by decide) rfl q1951 dX3_order_27 ?_
    refine lv_sipush (v := 128) hx hb dX3_order_30 (by decide) ?_
    refine lv_icmp_ge (tgt := 75) hx hb dX3_order_33 (by decide) (fun c3 => ?_) (fun c3 => ?_)
    · have h := mif_t c3 h
      exact w_order_75 hC hR N σ h hP hS (lv_sub hl [1] rfl)
    · have h := mif_f c3 h
      refine lv_aload_n hx hb dX3_order_36 rfl (lv_at hl 1 rfl) ?_
      refine m_geta hC hP 56 (by decide) rfl q1949 dX3_order_37 ?_
      refine lv_iload hx hb dX3_order_40 (lv_at hl 0 rfl) ?_
      refine lv_iload_n hx hb dX3_order_42 rfl (lv_at hl 2 rfl) ?_
      obtain ⟨c4, h⟩ := mif_n h
      refine m_ast hC hP hS 56 rfl c4 dX3_order_43 (fun H locs hP hS => ?_)
      obtain ⟨σ5, eσ5⟩ : ∃ z : MS, z = mArr σ 56 y1.toNatClampNeg x1 := ⟨_, rfl⟩
      rw [← eσ5] at hP
      have h := mlet_at eσ5 h
      refine lv_aload_n hx hb dX3_order_44 rfl (lv_at hl 1 rfl) ?_
      refine m_geta hC hP 56 (by decide) rfl q1949 dX3_order_45 ?_
      refine lv_iload hx hb dX3_order_48 (lv_at hl 0 rfl) ?_
      refine lv_iconst (v := 1) hx hb dX3_order_50 (by decide) ?_
      refine lv_iadd hx hb dX3_order_51 ?_
      refine lv_iload_n hx hb dX3_order_52 rfl (lv_at hl 3 rfl) ?_
      obtain ⟨c6, h⟩ := mif_n h
      refine m_ast hC hP hS 56 rfl c6 dX3_order_53 (fun H locs hP hS => ?_)
      obtain ⟨σ7, eσ7⟩ : ∃ z : MS, z = mArr σ5 56 (y1 + 1).toNatClampNeg x2 := ⟨_, rfl⟩
      rw [← eσ7] at hP
      have h := mlet_at eσ7 h
      refine lv_aload_n hx hb dX3_order_54 rfl (lv_at hl 1 rfl) ?_
      refine m_geta hC hP 56 (by decide) rfl q1949 dX3_order_55 ?_
      refine lv_iload hx hb dX3_order_58 (lv_at hl 0 rfl) ?_
      refine lv_iconst (v := 2) hx hb dX3_order_60 (by decide) ?_
      refine lv_iadd hx hb dX3_order_61 ?_
      refine lv_iload_n hx hb dX3_order_62 rfl (lv_at hl 4 rfl) ?_
      obtain ⟨c8, h⟩ := mif_n h
      refine m_ast hC hP hS 56 rfl c8 dX3_order_63 (fun H locs hP hS => ?_)
      obtain ⟨σ9, eσ9⟩ : ∃ z : MS, z = mArr σ7 56 (y1 + 2).toNatClampNeg x3 := ⟨_, rfl⟩
      rw [← eσ9] at hP
      have h := mlet_at eσ9 h
      refine lv_aload_n hx hb dX3_order_64 rfl (lv_at hl 1 rfl) ?_
      refine m_geta hC hP 56 (by decide) rfl q1949 dX3_order_65 ?_
      refine lv_iload hx hb dX3_order_68 (lv_at hl 0 rfl) ?_
      refine lv_iconst (v := 3) hx hb dX3_order_70 (by decide) ?_
      refine lv_iadd hx hb dX3_order_71 ?_
      refine lv_iload hx hb dX3_order_72 (lv_at hl 5 rfl) ?_
      obtain ⟨c10, h⟩ := mif_n h
      refine m_ast hC hP hS 56 rfl c10 dX3_order_74 (fun H locs hP hS => ?_)
      obtain ⟨σ11, eσ11⟩ : ∃ z : MS, z = mArr σ9 56 (y1 + 3).toNatClampNeg x4 := ⟨_, rfl⟩
      rw [← eσ11] at hP
      have h := mlet_at eσ11 h
      exact w_order_75 hC hR N σ11 h hP hS (lv_sub hl [1] rfl)
theorem met_order (l : Launch) (N : Nat) (E : mE) (sz : Nat) (σ : MS) (x1 : Int32) (x2 : Int32) (x3 : Int32) (x4 : Int32) (r : Int32) (σ' : MS) (h : f_order N σ x1 x2 x3 x4 = some (r, σ')) : Met l yX3_order (ws_ yX3_order cX3_order 6 (some .int)) ({ frames := 0, cells := 0, slots := 0, locals := 0 }) (mPc E sz σ [.ref (mh E), .int x1, .int x2, .int x3, .int x4]) (mQi E sz r σ') 0 0 (mA E sz) :=
  m_met (Qc := fun z => mQi E z r σ') (by decide) rfl (Nat.le_of_ble_eq_true rfl) (fun hC ls hl hP => w_order_0 hC ⟨Nat.le_refl _, Nat.le_refl _⟩ N σ x1 x2 x3 x4 h hP va_S.rf hl)

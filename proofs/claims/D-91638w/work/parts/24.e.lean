/-! BY gen_model.py: over allOf left lower solve base from worst common part mean stepOf way -/
def f_over_90 (N : Nat) (k6 : MS → Int32 → Int32 → Int32 → Int32 → Int64 → Int32 → Option (Int64 × MS)) (σ : MS) (x1 : Int32) (x2 : Int32) (x3 : Int32) (x4 : Int32) (x7 : Int32) (s0 : Int64) : Option (Int64 × MS) :=
    mlet (x7 + 1) fun y1 =>
    k6 σ x1 x2 x3 x4 s0 y1
set_option maxHeartbeats 4000000 in
set_option maxRecDepth 100000 in
theorem w_over_90 {p : Program} {l : Launch} {e : Env} {R : Room} {s : State} {m : MethodId} {args : Array Value} {below : List Frame} {meth : Method} {c : Code} {E : mE} {σ' : MS} {r : Int64} (hC : mC p s m args meth c E cX3_over 10 (some .long)) (hR : 1 ≤ R.frames ∧ 22 ≤ R.locals) (N : Nat) (k6 : MS → Int32 → Int32 → Int32 → Int32 → Int64 → Int32 → Option (Int64 × MS)) (hk6 : ∀ (σ : MS) (x1 : Int32) (x2 : Int32) (x3 : Int32) (x4 : Int32) (x5 : Int64) (x7 : Int32), k6 σ x1 x2 x3 x4 x5 x7 = some (r, σ') → ∀ (H : Heap) (locs : List Loc), mP E σ H → va_S (mA E s.heap.size) s.heap H locs → ∀ ls : Array Slot, lv_has ls 10 [(0, .ref (mh E)), (1, .int x1), (2, .int x2), (3, .int x3), (4, .int x4), (5, .long x5), (7, .int x7)] → W p l e R s m args below meth c H locs 0 0 (MQ below (mQl E s.heap.size r σ') args s 0 0 (mA E s.heap.size)) (F0 m 6 ls [])) (σ : MS) (x1 : Int32) (x2 : Int32) (x3 : Int32) (x4 : Int32) (x7 : Int32) (s0 : Int64) (h : f_over_90 N k6 σ x1 x2 x3 x4 x7 s0 = some (r, σ')) {H : Heap} {locs : List Loc} (hP : mP E σ H) (hS : va_S (mA E s.heap.size) s.heap H locs) {ls : Array Slot} (hl : lv_has ls 10 [(0, .ref (mh E)), (1, .int x1), (2, .int x2), (3, .int x3), (4, .int x4), (7, .int x7)]) : W p l e R s m args below meth c H locs 0 0 (MQ below (mQl E s.heap.size r σ') args s 0 0 (mA E s.heap.size)) (F0 m 90 ls [.long s0]) := by
  obtain ⟨⟨hx, hb, hml, hown, hts⟩, hK, hD, hr, hlk⟩ := id hC
  unfold f_over_90 at h
  refine lv_lstore (lv' := [(5, .long s0), (0, .ref (mh E)), (1, .int x1), (2, .int x2), (3, .int x3), (4, .int x4), (7, .int x7)]) hx hb dX3_over_90 hl (by decide) rfl (fun ls hl => ?_)
  obtain ⟨y1, ey1⟩ : ∃ z : Int32, z = x7 + 1 := ⟨_, rfl⟩
  have h := mlet_at ey1 h
  refine lv_iinc (v := y1) (lv' := [(7, .int y1), (5, .long s0), (0, .ref (mh E)), (1, .int x1), (2, .int x2), (3, .int x3), (4, .int x4)]) hx hb dX3_over_92 hl (k := 6) rfl (by rw [ey1]; rfl) (by decide) rfl (fun ls hl => ?_)
  refine lv_goto (tgt := 6) hx hb dX3_over_95 (by decide) ?_
  exact hk6 σ x1 x2 x3 x4 s0 y1 h _ _ hP hS _ (lv_sub hl [2, 3, 4, 5, 6, 1, 0] rfl)
def f_over_6 (N : Nat) : Nat → MS → Int32 → Int32 → Int32 → Int32 → Int64 → Int32 → Option (Int64 × MS)
  | 0, _, _, _, _, _, _, _ => none
  | n + 1, σ, x1, x2, x3, x4, x5, x7 =>
    if mIn x3 (mLen 53) = true then mlet (σ.2.1 53 x3.toNatClampNeg) fun y2 =>
    if y2 ≤ x7 then
    some (x5, σ)
    else
    mcall (f_power N σ x3) fun r6 σ4 =>
    if mIn ((100 * (x1 + ((x7 + 1) * r6))) + x2) (102400) = true then mlet (σ4.2.2 ((100 * (x1 + ((x7 + 1) * r6))) + x2).toNatClampNeg) fun y8 =>
    if (lg_cmp y8 1000000000000000) < 0 then
    if x4 = 0 then
    if (lg_cmp y8 x5) ≤ 0 then
    f_over_90 N (f_over_6 N n) σ4 x1 x2 x3 x4 x7 x5
    else
    f_over_90 N (f_over_6 N n) σ4 x1 x2 x3 x4 x7 y8
    else
    mcall (f_weightOf N σ4 x3 x7) fun r14 σ12 =>
    f_over_90 N (f_over_6 N n) σ12 x1 x2 x3 x4 x7 (x5 + ((r14.toInt64) * y8))
    else
    some (1000000000000000, σ4)
    else none
    else none
set_option maxHeartbeats 4000000 in
set_option maxRecDepth 100000 in
theorem w_over_6 {p : Program} {l : Launch} {e : Env} {R : Room} {s : State} {m : MethodId} {args : Array Value} {below : List Frame} {meth : Method} {c : Code} {E : mE} {σ' : MS} {r : Int64} (hC : mC p s m args meth c E cX3_over 10 (some .long)) (hR : 1 ≤ R.frames ∧ 22 ≤ R.locals) (N : Nat) : ∀ (n : Nat) (σ : MS) (x1 : Int32) (x2 : Int32) (x3 : Int32) (x4 : Int32) (x5 : Int64) (x7 : Int32), f_over_6 N n σ x1 x2 x3 x4 x5 x7 = some (r, σ') → ∀ (H : Heap) (locs : List Loc), mP E σ H → va_S (mA E s.heap.size) s.heap H locs → ∀ ls : Array Slot, lv_has ls 10 [(0, .ref (mh E)), (1, .int x1), (2, .int x2), (3, .int x3), (4, .int x4), (5, .long x5), (7, .int x7)] → W p l e R s m args below meth c H locs 0 0 (MQ below (mQl E s.heap.size r σ') args s 0 0 (mA E s.heap.size)) (F0 m 6 ls []) := by
  obtain ⟨⟨hx, hb, hml, hown, hts⟩, hK, hD, hr, hlk⟩ := id hC
  intro n
  induction n with
  | zero =>
    intro σ x1 x2 x3 x4 x5 x7 h
    cases h
  | succ n ih =>
    intro σ x1 x2 x3 x4 x5 x7 h H locs hP hS ls hl
    unfold f_over_6 at h
    refine lv_iload hx hb dX3_over_6 (lv_at hl 6 rfl) ?_
    refine lv_aload_n hx hb dX3_over_8 rfl (lv_at hl 0 rfl) ?_
    refine m_geta hC hP 53 (by decide) rfl q1946 dX3_over_9 ?_
    refine lv_iload_n hx hb dX3_over_12 rfl (lv_at hl 3 rfl) ?_
    obtain ⟨c1, h⟩ := mif_n h
    refine m_ald hC hP 53 rfl c1 dX3_over_13 ?_
    refine lv_topi (fun y2 ey2 => ?_)
    have h := mlet_at ey2 h
    refine lv_icmp_ge (tgt := 98) hx hb dX3_over_14 (by decide) (fun c3 => ?_) (fun c3 => ?_)
    · have h := mif_t c3 h
      refine lv_lload hx hb dX3_over_98 (lv_at hl 5 rfl) ?_
      cases h
      exact m_lret hC hP hS dX3_over_100
    · have h := mif_f c3 h
      refine lv_aload_n hx hb dX3_over_17 rfl (lv_at hl 0 rfl) ?_
      refine m_geta hC hP 48 (by decide) rfl q1941 dX3_over_18 ?_
      refine lv_bipush (v := 100) hx hb dX3_over_21 (by decide) ?_
      refine lv_iload_n hx hb dX3_over_23 rfl (lv_at hl 1 rfl) ?_
      refine lv_iload hx hb dX3_over_24 (lv_at hl 6 rfl) ?_
      refine lv_iconst (v := 1) hx hb dX3_over_26 (by decide) ?_
      refine lv_iadd hx hb dX3_over_27 ?_
      refine lv_iload_n hx hb dX3_over_28 rfl (lv_at hl 3 rfl) ?_
      obtain ⟨r6, σ4, c5, h⟩ := mcall_n h
      refine m_callsi (As := [.int x3]) (rest := [.int (x7 + 1), .int x1, .int 100, .ref (mad E 48)]) hC (met_power l N E H.size σ x3 r6 σ4 c5) (va_cwS 1 hts (lw_S q2380 q2381 q103 q2382) rfl rfl rfl (by decide +kernel) ⟨Nat.le_trans (Nat.le_of_ble_eq_true rfl) hR.1, Nat.le_trans (Nat.le_of_ble_eq_true rfl) hR.2⟩) hP hS rfl hl.1 rfl (Nat.le_of_ble_eq_true rfl) dX3_over_29 (fun H locs hP hS => ?_)
      refine lv_imul hx hb dX3_over_32 ?_
      refine lv_iadd hx hb dX3_over_33 ?_
      refine lv_imul hx hb dX3_over_34 ?_
      refine lv_iload_n hx hb dX3_over_35 rfl (lv_at hl 2 rfl) ?_
      refine lv_iadd hx hb dX3_over_36 ?_
      obtain ⟨c7, h⟩ := mif_n h
      refine m_lld hC hP c7 dX3_over_37 ?_
      refine lv_topl (fun y8 ey8 => ?_)
      have h := mlet_at ey8 h
      refine lv_lstore (lv' := [(8, .long y8), (0, .ref (mh E)), (1, .int x1), (2, .int x2), (3, .int x3), (4, .int x4), (5, .long x5), (7, .int x7)]) hx hb dX3_over_38 hl (by decide) rfl (fun ls hl => ?_)
      refine lv_lload hx hb dX3_over_40 (lv_at hl 0 rfl) ?_
      refine lv_ldc2 hx hb hown (hts _ q2375) dX3_over_42 ?_
      refine W.lcmp hx hb dX3_over_45 ?_
      refine lv_if_lt (tgt := 53) hx hb dX3_over_46 (by decide) (fun c9 => ?_) (fun c9 => ?_)
      · have h := mif_t c9 h
        refine lv_iload hx hb dX3_over_53 (lv_at hl 5 rfl) ?_
        refine lv_if_eq (tgt := 75) hx hb dX3_over_55 (by decide) (fun c10 => ?_) (fun c10 => ?_)
        · have h := mif_t c10 h
          refine lv_lload hx hb dX3_over_75 (lv_at hl 0 rfl) ?_
          refine lv_lload hx hb dX3_over_77 (lv_at hl 6 rfl) ?_
          refine W.lcmp hx hb dX3_over_79 ?_
          refine lv_if_le (tgt := 88) hx hb dX3_over_80 (by decide) (fun c11 => ?_) (fun c11 => ?_)
          · have h := mif_t c11 h
            refine lv_lload hx hb dX3_over_88 (lv_at hl 6 rfl) ?_
            exact w_over_90 hC hR N (f_over_6 N n) ih σ4 x1 x2 x3 x4 x7 x5 h hP hS (lv_sub hl [1, 2, 3, 4, 5, 7] rfl)
          · have h := mif_f c11 h
            refine lv_lload hx hb dX3_over_83 (lv_at hl 0 rfl) ?_
            refine lv_goto (tgt := 90) hx hb dX3_over_85 (by decide) ?_
            exact w_over_90 hC hR N (f_over_6 N n) ih σ4 x1 x2 x3 x4 x7 y8 h hP hS (lv_sub hl [1, 2, 3, 4, 5, 7] rfl)
        · have h := mif_f c10 h
          refine lv_lload hx hb dX3_over_58 (lv_at hl 6 rfl) ?_
          refine lv_aload_n hx hb dX3_over_60 rfl (lv_at hl 1 rfl) ?_
          refine lv_iload_n hx hb dX3_over_61 rfl (lv_at hl 4 rfl) ?_
          refine lv_iload hx hb dX3_over_62 (lv_at hl 7 rfl) ?_
          obtain ⟨r14, σ12, c13, h⟩ := mcall_n h
          refine m_calli (As := [.int x3, .int x7]) (rest := [.long x5]) hC (met_weightOf l N E H.size σ4 x3 x7 r14 σ12 c13) (cwV 2 hts (lw_V q2383 q2385 qs77 q103 q2386) rfl rfl rfl (by decide +kernel) ⟨Nat.le_trans (Nat.le_of_ble_eq_true rfl) hR.1, Nat.le_trans (Nat.le_of_ble_eq_true rfl) hR.2⟩) hP hS rfl hl.1 rfl (Nat.le_of_ble_eq_true rfl) dX3_over_64 (fun H locs hP hS => ?_)
          refine lv_i2l (v := r14.toInt64) hx hb dX3_over_67 rfl ?_
          refine lv_lload hx hb dX3_over_68 (lv_at hl 0 rfl) ?_
          refine lv_lmul hx hb dX3_over_70 ?_
          refine lv_ladd hx hb dX3_over_71 ?_
          refine lv_goto (tgt := 90) hx hb dX3_over_72 (by decide) ?_
          exact w_over_90 hC hR N (f_over_6 N n) ih σ12 x1 x2 x3 x4 x7 (x5 + ((r14.toInt64) * y8)) h hP hS (lv_sub hl [1, 2, 3, 4, 5, 7] rfl)
      · have h := mif_f c9 h
        refine lv_ldc2 hx hb hown (hts _ q2375) dX3_over_49 ?_
        cases h
        exact m_lret hC hP hS dX3_over_52
def f_over (N : Nat) (σ : MS) (x1 : Int32) (x2 : Int32) (x3 : Int32) (x4 : Int32) : Option (Int64 × MS) :=
    f_over_6 N N σ x1 x2 x3 x4 0 0
set_option maxHeartbeats 4000000 in
set_option maxRecDepth 100000 in
theorem w_over_0 {p : Program} {l : Launch} {e : Env} {R : Room} {s : State} {m : MethodId} {args : Array Value} {below : List Frame} {meth : Method} {c : Code} {E : mE} {σ' : MS} {r : Int64} (hC : mC p s m args meth c E cX3_over 10 (some .long)) (hR : 1 ≤ R.frames ∧ 22 ≤ R.locals) (N : Nat) (σ : MS) (x1 : Int32) (x2 : Int32) (x3 : Int32) (x4 : Int32) (h : f_over N σ x1 x2 x3 x4 = some (r, σ')) {H : Heap} {locs : List Loc} (hP : mP E σ H) (hS : va_S (mA E s.heap.size) s.heap H locs) {ls : Array Slot} (hl : lv_has ls 10 [(0, .ref (mh E)), (1, .int x1), (2, .int x2), (3, .int x3), (4, .int x4)]) : W p l e R s m args below meth c H locs 0 0 (MQ below (mQl E s.heap.size r σ') args s 0 0 (mA E s.heap.size)) (F0 m 0 ls []) := by
  obtain ⟨⟨hx, hb, hml, hown, hts⟩, hK, hD, hr, hlk⟩ := id hC
  unfold f_over at h
  refine lv_lconst (v := 0) hx hb dX3_over_0 (by decide) ?_
  refine lv_lstore (lv' := [(5, .long 0), (0, .ref (mh E)), (1, .int x1), (2, .int x2), (3, .int x3), (4, .int x4)]) hx hb dX3_over_1 hl (by decide) rfl (fun ls hl => ?_)
  refine lv_iconst (v := 0) hx hb dX3_over_3 (by decide) ?_
  refine lv_istore (lv' := [(7, .int 0), (5, .long 0), (0, .ref (mh E)), (1, .int x1), (2, .int x2), (3, .int x3), (4, .int x4)]) hx hb dX3_over_4 hl (by decide) rfl (fun ls hl => ?_)
  exact w_over_6 hC hR N N σ x1 x2 x3 x4 0 0 h _ _ hP hS _ (lv_sub hl [2, 3, 4, 5, 6, 1, 0] rfl)
theorem met_over (l : Launch) (N : Nat) (E : mE) (sz : Nat) (σ : MS) (x1 : Int32) (x2 : Int32) (x3 : Int32) (x4 : Int32) (r : Int64) (σ' : MS) (h : f_over N σ x1 x2 x3 x4 = some (r, σ')) : Met l yX3_over (ws_ yX3_over cX3_over 10 (some .long)) ({ frames := 1, cells := 0, slots := 0, locals := 22 }) (mPc E sz σ [.ref (mh E), .int x1, .int x2, .int x3, .int x4]) (mQl E sz r σ') 0 0 (mA E sz) :=
  m_met (Qc := fun z => mQl E z r σ') (by decide) rfl (Nat.le_of_ble_eq_true rfl) (fun hC ls hl hP => w_over_0 hC ⟨Nat.le_refl _, Nat.le_refl _⟩ N σ x1 x2 x3 x4 h hP va_S.rf hl)
def f_allOf_5 (N : Nat) : Nat → MS → Int32 → Int64 → Int32 → Option (Int64 × MS)
  | 0, _, _, _, _ => none
  | n + 1, σ, x1, x2, x4 =>
    if mIn x1 (mLen 53) = true then mlet (σ.2.1 53 x1.toNatClampNeg) fun y2 =>
    if y2 ≤ x4 then
    some (x2, σ)
    else
    mcall (f_weightOf N σ x1 x4) fun r6 σ4 =>
    mlet (x2 + (r6.toInt64)) fun y7 =>
    mlet (x4 + 1) fun y8 =>
    f_allOf_5 N n σ4 x1 y7 y8
    else none
set_option maxHeartbeats 4000000 in
set_option maxRecDepth 100000 in
theorem w_allOf_5 {p : Program} {l : Launch} {e : Env} {R : Room} {s : State} {m : MethodId} {args : Array Value} {below : List Frame} {meth : Method} {c : Code} {E : mE} {σ' : MS} {r : Int64} (hC : mC p s m args meth c E cX3_allOf 5 (some .long)) (hR : 1 ≤ R.frames ∧ 22 ≤ R.locals) (N : Nat) : ∀ (n : Nat) (σ : MS) (x1 : Int32) (x2 : Int64) (x4 : Int32), f_allOf_5 N n σ x1 x2 x4 = some (r, σ') → ∀ (H : Heap) (locs : List Loc), mP E σ H → va_S (mA E s.heap.size) s.heap H locs → ∀ ls : Array Slot, lv_has ls 5 [(0, .ref (mh E)), (1, .int x1), (2, .long x2), (4, .int x4)] → W p l e R s m args below meth c H locs 0 0 (MQ below (mQl E s.heap.size r σ') args s 0 0 (mA E s.heap.size)) (F0 m 5 ls []) := by
  obtain ⟨⟨hx, hb, hml, hown, hts⟩, hK, hD, hr, hlk⟩ := id hC
  intro n
  induction n with
  | zero =>
    intro σ x1 x2 x4 h
    cases h
  | succ n ih =>
    intro σ x1 x2 x4 h H locs hP hS ls hl
    unfold f_allOf_5 at h
    refine lv_iload hx hb dX3_allOf_5 (lv_at hl 3 rfl) ?_
    refine lv_aload_n hx hb dX3_allOf_7 rfl (lv_at hl 0 rfl) ?_
    refine m_geta hC hP 53 (by decide) rfl q1946 dX3_allOf_8 ?_
    refine lv_iload_n hx hb dX3_allOf_11 rfl (lv_at hl 1 rfl) ?_
    obtain ⟨c1, h⟩ := mif_n h
    refine m_ald hC hP 53 rfl c1 dX3_allOf_12 ?_
    refine lv_topi (fun y2 ey2 => ?_)
    have h := mlet_at ey2 h
    refine lv_icmp_ge (tgt := 33) hx hb dX3_allOf_13 (by decide) (fun c3 => ?_) (fun c3 => ?_)
    · have h := mif_t c3 h
      refine lv_lload_n hx hb dX3_allOf_33 rfl (lv_at hl 2 rfl) ?_
      cases h
      exact m_lret hC hP hS dX3_allOf_34
    · have h := mif_f c3 h
      refine lv_lload_n hx hb dX3_allOf_16 rfl (lv_at hl 2 rfl) ?_
      refine lv_aload_n hx hb dX3_allOf_17 rfl (lv_at hl 0 rfl) ?_
      refine lv_iload_n hx hb dX3_allOf_18 rfl (lv_at hl 1 rfl) ?_
      refine lv_iload hx hb dX3_allOf_19 (lv_at hl 3 rfl) ?_
      obtain ⟨r6, σ4, c5, h⟩ := mcall_n h
      refine m_calli (As := [.int x1, .int x4]) (rest := [.long x2]) hC (met_weightOf l N E H.size σ x1 x4 r6 σ4 c5) (cwV 2 hts (lw_V q2383 q2385 qs77 q103 q2386) rfl rfl rfl (by decide +kernel) ⟨Nat.le_trans (Nat.le_of_ble_eq_true rfl) hR.1, Nat.le_trans (Nat.le_of_ble_eq_true rfl) hR.2⟩) hP hS rfl hl.1 rfl (Nat.le_of_ble_eq_true rfl) dX3_allOf_21 (fun H locs hP hS => ?_)
      refine lv_i2l (v := r6.toInt64) hx hb dX3_allOf_24 rfl ?_
      refine lv_ladd hx hb dX3_allOf_25 ?_
      refine lv_topl (fun y7 ey7 => ?_)
      have h := mlet_at ey7 h
      refine lv_lstore_n (lv' := [(2, .long y7), (0, .ref (mh E)), (1, .int x1), (4, .int x4)]) hx hb dX3_allOf_26 rfl hl (by decide) rfl (fun ls hl => ?_)
      obtain ⟨y8, ey8⟩ : ∃ z : Int32, z = x4 + 1 := ⟨_, rfl⟩
      have h := mlet_at ey8 h
      refine lv_iinc (v := y8) (lv' := [(4, .int y8), (2, .long y7), (0, .ref (mh E)), (1, .int x1)]) hx hb dX3_allOf_27 hl (k := 3) rfl (by rw [ey8]; rfl) (by decide) rfl (fun ls hl => ?_)
      refine lv_goto (tgt := 5) hx hb dX3_allOf_30 (by decide) ?_
      exact ih σ4 x1 y7 y8 h _ _ hP hS _ (lv_sub hl [2, 3, 1, 0] rfl)
def f_allOf (N : Nat) (σ : MS) (x1 : Int32) : Option (Int64 × MS) :=
    f_allOf_5 N N σ x1 0 0
set_option maxHeartbeats 4000000 in
set_option maxRecDepth 100000 in
theorem w_allOf_0 {p : Program} {l : Launch} {e : Env} {R : Room} {s : State} {m : MethodId} {args : Array Value} {below : List Frame} {meth : Method} {c : Code} {E : mE} {σ' : MS} {r : Int64} (hC : mC p s m args meth c E cX3_allOf 5 (some .long)) (hR : 1 ≤ R.frames ∧ 22 ≤ R.locals) (N : Nat) (σ : MS) (x1 : Int32) (h : f_allOf N σ x1 = some (r, σ')) {H : Heap} {locs : List Loc} (hP : mP E σ H) (hS : va_S (mA E s.heap.size) s.heap H locs) {ls : Array Slot} (hl : lv_has ls 5 [(0, .ref (mh E)), (1, .int x1)]) : W p l e R s m args below meth c H locs 0 0 (MQ below (mQl E s.heap.size r σ') args s 0 0 (mA E s.heap.size)) (F0 m 0 ls []) := by
  obtain ⟨⟨hx, hb, hml, hown, hts⟩, hK, hD, hr, hlk⟩ := id hC
  unfold f_allOf at h
  refine lv_lconst (v := 0) hx hb dX3_allOf_0 (by decide) ?_
  refine lv_lstore_n (lv' := [(2, .long 0), (0, .ref (mh E)), (1, .int x1)]) hx hb dX3_allOf_1 rfl hl (by decide) rfl (fun ls hl => ?_)
  refine lv_iconst (v := 0) hx hb dX3_allOf_2 (by decide) ?_
  refine lv_istore (lv' := [(4, .int 0), (2, .long 0), (0, .ref (mh E)), (1, .int x1)]) hx hb dX3_allOf_3 hl (by decide) rfl (fun ls hl => ?_)
  exact w_allOf_5 hC hR N N σ x1 0 0 h _ _ hP hS _ (lv_sub hl [2, 3, 1, 0] rfl)
theorem met_allOf (l : Launch) (N : Nat) (E : mE) (sz : Nat) (σ : MS) (x1 : Int32) (r : Int64) (σ' : MS) (h : f_allOf N σ x1 = some (r, σ')) : Met l yX3_allOf (ws_ yX3_allOf cX3_allOf 5 (some .long)) ({ frames := 1, cells := 0, slots := 0, locals := 22 }) (mPc E sz σ [.ref (mh E), .int x1]) (mQl E sz r σ') 0 0 (mA E sz) :=
  m_met (Qc := fun z => mQl E z r σ') (by decide) rfl (Nat.le_of_ble_eq_true rfl) (fun hC ls hl hP => w_allOf_0 hC ⟨Nat.le_refl _, Nat.le_refl _⟩ N σ x1 h hP va_S.rf hl)
def f_left_35 (N : Nat) (k5 : MS → Int32 → Int64 → Int32 → Option (Int64 × MS)) (σ : MS) (x1 : Int32) (x4 : Int32) (s0 : Int64) : Option (Int64 × MS) :=
    mlet (x4 + 1) fun y1 =>
    k5 σ x1 s0 y1
set_option maxHeartbeats 4000000 in
set_option maxRecDepth 100000 in
theorem w_left_35 {p : Program} {l : Launch} {e : Env} {R : Room} {s : State} {m : MethodId} {args : Array Value} {below : List Frame} {meth : Method} {c : Code} {E : mE} {σ' : MS} {r : Int64} (hC : mC p s m args meth c E cX3_left 5 (some .long)) (hR : 2 ≤ R.frames ∧ 46 ≤ R.locals) (N : Nat) (k5 : MS → Int32 → Int64 → Int32 → Option (Int64 × MS)) (hk5 : ∀ (σ : MS) (x1 : Int32) (x2 : Int64) (x4 : Int32), k5 σ x1 x2 x4 = some (r, σ') → ∀ (H : Heap) (locs : List Loc), mP E σ H → va_S (mA E s.heap.size) s.heap H locs → ∀ ls : Array Slot, lv_has ls 5 [(0, .ref (mh E)), (1, .int x1), (2, .long x2), (4, .int x4)] → W p l e R s m args below meth c H locs 0 0 (MQ below (mQl E s.heap.size r σ') args s 0 0 (mA E s.heap.size)) (F0 m 5 ls [])) (σ : MS) (x1 : Int32) (x4 : Int32) (s0 : Int64) (h : f_left_35 N k5 σ x1 x4 s0 = some (r, σ')) {H : Heap} {locs : List Loc} (hP : mP E σ H) (hS : va_S (mA E s.heap.size) s.heap H locs) {ls : Array Slot} (hl : lv_has ls 5 [(0, .ref (mh E)), (1, .int x1), (4, .int x4)]) : W p l e R s m args below meth c H locs 0 0 (MQ below (mQl E s.heap.size r σ') args s 0 0 (mA E s.heap.size)) (F0 m 35 ls [.long s0]) := by
  obtain ⟨⟨hx, hb, hml, hown, hts⟩, hK, hD, hr, hlk⟩ := id hC
  unfold f_left_35 at h
  refine lv_lstore_n (lv' := [(2, .long s0), (0, .ref (mh E)), (1, .int x1), (4, .int x4)]) hx hb dX3_left_35 rfl hl (by decide) rfl (fun ls hl => ?_)
  obtain ⟨y1, ey1⟩ : ∃ z : Int32, z = x4 + 1 := ⟨_, rfl⟩
  have h := mlet_at ey1 h
  refine lv_iinc (v := y1) (lv' := [(4, .int y1), (2, .long s0), (0, .ref (mh E)), (1, .int x1)]) hx hb dX3_left_36 hl (k := 3) rfl (by rw [ey1]; rfl) (by decide) rfl (fun ls hl => ?_)
  refine lv_goto (tgt := 5) hx hb dX3_left_39 (by decide) ?_
  exact hk5 σ x1 s0 y1 h _ _ hP hS _ (lv_sub hl [2, 3, 1, 0] rfl)
def f_left_5 (N : Nat) : Nat → MS → Int32 → Int64 → Int32 → Option (Int64 × MS)
  | 0, _, _, _, _ => none
  | n + 1, σ, x1, x2, x4 =>
    if (σ.1 37) ≤ x4 then
    some (x2, σ)
    else
    mcall (f_digit N σ x1 x4) fun r4 σ2 =>
    if r4 = 0 then
    mcall (f_allOf N σ2 x4) fun r8 σ6 =>
    f_left_35 N (f_left_5 N n) σ6 x1 x4 (x2 * r8)
    else
    f_left_35 N (f_left_5 N n) σ2 x1 x4 x2
set_option maxHeartbeats 4000000 in
set_option maxRecDepth 100000 in
theorem w_left_5 {p : Program} {l : Launch} {e : Env} {R : Room} {s : State} {m : MethodId} {args : Array Value} {below : List Frame} {meth : Method} {c : Code} {E : mE} {σ' : MS} {r : Int64} (hC : mC p s m args meth c E cX3_left 5 (some .long)) (hR : 2 ≤ R.frames ∧ 46 ≤ R.locals) (N : Nat) : ∀ (n : Nat) (σ : MS) (x1 : Int32) (x2 : Int64) (x4 : Int32), f_left_5 N n σ x1 x2 x4 = some (r, σ') → ∀ (H : Heap) (locs : List Loc), mP E σ H → va_S (mA E s.heap.size) s.heap H locs → ∀ ls : Array Slot, lv_has ls 5 [(0, .ref (mh E)), (1, .int x1), (2, .long x2), (4, .int x4)] → W p l e R s m args below meth c H locs 0 0 (MQ below (mQl E s.heap.size r σ') args s 0 0 (mA E s.heap.size)) (F0 m 5 ls []) := by
  obtain ⟨⟨hx, hb, hml, hown, hts⟩, hK, hD, hr, hlk⟩ := id hC
  intro n
  induction n with
  | zero =>
    intro σ x1 x2 x4 h
    cases h
  | succ n ih =>
    intro σ x1 x2 x4 h H locs hP hS ls hl
    unfold f_left_5 at h
    refine lv_iload hx hb dX3_left_5 (lv_at hl 3 rfl) ?_
    refine lv_aload_n hx hb dX3_left_7 rfl (lv_at hl 0 rfl) ?_
    refine m_geti hC hP 37 (by decide) rfl q1930 dX3_left_8 ?_
    refine lv_icmp_ge (tgt := 42) hx hb dX3_left_11 (by decide) (fun c1 => ?_) (fun c1 => ?_)
    · have h := mif_t c1 h
      refine lv_lload_n hx hb dX3_left_42 rfl (lv_at hl 2 rfl) ?_
      cases h
      exact m_lret hC hP hS dX3_left_43
    · have h := mif_f c1 h
      refine lv_iload_n hx hb dX3_left_14 rfl (lv_at hl 1 rfl) ?_
      refine lv_iload hx hb dX3_left_15 (lv_at hl 3 rfl) ?_
      obtain ⟨r4, σ2, c3, h⟩ := mcall_n h
      refine m_callsi (As := [.int x1, .int x4]) (rest := []) hC (met_digit l N E H.size σ x1 x4 r4 σ2 c3) (va_cwS 2 hts (lw_S q2360 q2361 q103 q2362) rfl rfl rfl (by decide +kernel) ⟨Nat.le_trans (Nat.le_of_ble_eq_true rfl) hR.1, Nat.le_trans (Nat.le_of_ble_eq_true rfl) hR.2⟩) hP hS rfl hl.1 rfl (Nat.le_of_ble_eq_true rfl) dX3_left_17 (fun H locs hP hS => ?_)
      refine lv_if_ne (tgt := 34) hx hb dX3_left_20 (by decide) (fun c5 => ?_) (fun c5 => ?_)
      · have h := mif_f c5 h
        refine lv_lload_n hx hb dX3_left_34 rfl (lv_at hl 2 rfl) ?_
        exact w_left_35 hC hR N (f_left_5 N n) ih σ2 x1 x4 x2 h hP hS (lv_sub hl [0, 1, 3] rfl)
      · have h := mif_t c5 h
        refine lv_lload_n hx hb dX3_left_23 rfl (lv_at hl 2 rfl) ?_
        refine lv_aload_n hx hb dX3_left_24 rfl (lv_at hl 0 rfl) ?_
        refine lv_iload hx hb dX3_left_25 (lv_at hl 3 rfl) ?_
        obtain ⟨r8, σ6, c7, h⟩ := mcall_n h
        refine m_calll (As := [.int x4]) (rest := [.long x2]) hC (met_allOf l N E H.size σ2 x4 r8 σ6 c7) (cwV 1 hts (lw_V q2391 q2393 qs79 q103 q2394) rfl rfl rfl (by decide +kernel) ⟨Nat.le_trans (Nat.le_of_ble_eq_true rfl) hR.1, Nat.le_trans (Nat.le_of_ble_eq_true rfl) hR.2⟩) hP hS rfl hl.1 rfl (Nat.le_of_ble_eq_true rfl) dX3_left_27 (fun H locs hP hS => ?_)
        refine lv_lmul hx hb dX3_left_30 ?_
        refine lv_goto (tgt := 35) hx hb dX3_left_31 (by decide) ?_
        exact w_left_35 hC hR N (f_left_5 N n) ih σ6 x1 x4 (x2 * r8) h hP hS (lv_sub hl [0, 1, 3] rfl)
def f_left (N : Nat) (σ : MS) (x1 : Int32) : Option (Int64 × MS) :=
    f_left_5 N N σ x1 1 0
set_option maxHeartbeats 4000000 in
set_option maxRecDepth 100000 in
theorem w_left_0 {p : Program} {l : Launch} {e : Env} {R : Room} {s : State} {m : MethodId} {args : Array Value} {below : List Frame} {meth : Method} {c : Code} {E : mE} {σ' : MS} {r : Int64} (hC : mC p s m args meth c E cX3_left 5 (some .long)) (hR : 2 ≤ R.frames ∧ 46 ≤ R.locals) (N : Nat) (σ : MS) (x1 : Int32) (h : f_left N σ x1 = some (r, σ')) {H : Heap} {locs : List Loc} (hP : mP E σ H) (hS : va_S (mA E s.heap.size) s.heap H locs) {ls : Array Slot} (hl : lv_has ls 5 [(0, .ref (mh E)), (1, .int x1)]) : W p l e R s m args below meth c H locs 0 0 (MQ below (mQl E s.heap.size r σ') args s 0 0 (mA E s.heap.size)) (F0 m 0 ls []) := by
  obtain ⟨⟨hx, hb, hml, hown, hts⟩, hK, hD, hr, hlk⟩ := id hC
  unfold f_left at h
  refine lv_lconst (v := 1) hx hb dX3_left_0 (by decide) ?_
  refine lv_lstore_n (lv' := [(2, .long 1), (0, .ref (mh E)), (1, .int x1)]) hx hb dX3_left_1 rfl hl (by decide) rfl (fun ls hl => ?_)
  refine lv_iconst (v := 0) hx hb dX3_left_2 (by decide) ?_
  refine lv_istore (lv' := [(4, .int 0), (2, .long 1), (0, .ref (mh E)), (1, .int x1)]) hx hb dX3_left_3 hl (by decide) rfl (fun ls hl => ?_)
  exact w_left_5 hC hR N N σ x1 1 0 h _ _ hP hS _ (lv_sub hl [2, 3, 1, 0] rfl)
theorem met_left (l : Launch) (N : Nat) (E : mE) (sz : Nat) (σ : MS) (x1 : Int32) (r : Int64) (σ' : MS) (h : f_left N σ x1 = some (r, σ')) : Met l yX3_left (ws_ yX3_left cX3_left 5 (some .long)) ({ frames := 2, cells := 0, slots := 0, locals := 46 }) (mPc E sz σ [.ref (mh E), .int x1]) (mQl E sz r σ') 0 0 (mA E sz) :=
  m_met (Qc := fun z => mQl E z r σ') (by decide) rfl (Nat.le_of_ble_eq_true rfl) (fun hC ls hl hP => w_left_0 hC ⟨Nat.le_refl _, Nat.le_refl _⟩ N σ x1 h hP va_S.rf hl)
def f_lower_109 (N : Nat) (k16 : MS → Int32 → Int32 → Int64 → Int64 → Int32 → Option (Int64 × MS)) (σ : MS) (x1 : Int32) (x2 : Int32) (x3 : Int64) (x5 : Int64) (x7 : Int32) : Option (Int64 × MS) :=
    mlet (x7 + 1) fun y1 =>
    k16 σ x1 x2 x3 x5 y1
set_option maxHeartbeats 4000000 in
set_option maxRecDepth 100000 in
theorem w_lower_109 {p : Program} {l : Launch} {e : Env} {R : Room} {s : State} {m : MethodId} {args : Array Value} {below : List Frame} {meth : Method} {c : Code} {E : mE} {σ' : MS} {r : Int64} (hC : mC p s m args meth c E cX3_lower 10 (some .long)) (hR : 2 ≤ R.frames ∧ 46 ≤ R.locals) (N : Nat) (k16 : MS → Int32 → Int32 → Int64 → Int64 → Int32 → Option (Int64 × MS)) (hk16 : ∀ (σ : MS) (x1 : Int32) (x2 : Int32) (x3 : Int64) (x5 : Int64) (x7 : Int32), k16 σ x1 x2 x3 x5 x7 = some (r, σ') → ∀ (H : Heap) (locs : List Loc), mP E σ H → va_S (mA E s.heap.size) s.heap H locs → ∀ ls : Array Slot, lv_has ls 10 [(0, .ref (mh E)), (1, .int x1), (2, .int x2), (3, .long x3), (5, .long x5), (7, .int x7)] → W p l e R s m args below meth c H locs 0 0 (MQ below (mQl E s.heap.size r σ') args s 0 0 (mA E s.heap.size)) (F0 m 16 ls [])) (σ : MS) (x1 : Int32) (x2 : Int32) (x3 : Int64) (x5 : Int64) (x7 : Int32) (h : f_lower_109 N k16 σ x1 x2 x3 x5 x7 = some (r, σ')) {H : Heap} {locs : List Loc} (hP : mP E σ H) (hS : va_S (mA E s.heap.size) s.heap H locs) {ls : Array Slot} (hl : lv_has ls 10 [(0, .ref (mh E)), (1, .int x1), (2, .int x2), (3, .long x3), (5, .long x5), (7, .int x7)]) : W p l e R s m args below meth c H locs 0 0 (MQ below (mQl E s.heap.size r σ') args s 0 0 (mA E s.heap.size)) (F0 m 109 ls []) := by
  obtain ⟨⟨hx, hb, hml, hown, hts⟩, hK, hD, hr, hlk⟩ := id hC
  unfold f_lower_109 at h
  obtain ⟨y1, ey1⟩ : ∃ z : Int32, z = x7 + 1 := ⟨_, rfl⟩
  have h := mlet_at ey1 h
  refine lv_iinc (v := y1) (lv' := [(7, .int y1), (0, .ref (mh E)), (1, .int x1), (2, .int x2), (3, .long x3), (5, .long x5)]) hx hb dX3_lower_109 hl (k := 5) rfl (by rw [ey1]; rfl) (by decide) rfl (fun ls hl => ?_)
  refine lv_goto (tgt := 16) hx hb dX3_lower_112 (by decide) ?_
  exact hk16 σ x1 x2 x3 x5 y1 h _ _ hP hS _ (lv_sub hl [1, 2, 3, 4, 5, 0] rfl)
def f_lower_16 (N : Nat) : Nat → MS → Int32 → Int32 → Int64 → Int64 → Int32 → Option (Int64 × MS)
  | 0, _, _, _, _, _, _ => none
  | n + 1, σ, x1, x2, x3, x5, x7 =>
    if 4 ≤ x7 then
    some (x5, σ)
    else
    if mIn ((4 * x2) + x7) (mLen 70) = true then mlet (σ.2.1 70 ((4 * x2) + x7).toNatClampNeg) fun y3 =>
    if y3 = 0 then
    f_lower_109 N (f_lower_16 N n) σ x1 x2 x3 x5 x7
    else
    mcall (f_beside N σ x2 x7) fun r7 σ5 =>
    if mIn ((100 * x1) + r7) (102400) = true then mlet (σ5.2.2 ((100 * x1) + r7).toNatClampNeg) fun y9 =>
    if 0 ≤ (lg_cmp y9 1000000000000000) then
    f_lower_109 N (f_lower_16 N n) σ5 x1 x2 x3 x5 x7
    else
    if mIn ((4 * x2) + x7) (mLen 70) = true then mlet (σ5.2.1 70 ((4 * x2) + x7).toNatClampNeg) fun y12 =>
    if 0 ≤ (lg_cmp (y9 + (x3 * (y12.toInt64))) x5) then
    f_lower_109 N (f_lower_16 N n) σ5 x1 x2 x3 x5 x7
    else
    if mIn ((4 * x2) + x7) (mLen 70) = true then mlet (σ5.2.1 70 ((4 * x2) + x7).toNatClampNeg) fun y15 =>
    mlet (y9 + (x3 * (y15.toInt64))) fun y16 =>
    f_lower_109 N (f_lower_16 N n) σ5 x1 x2 x3 y16 x7
    else none
    else none
    else none
    else none
set_option maxHeartbeats 4000000 in
set_option maxRecDepth 100000 in
theorem w_lower_16 {p : Program} {l : Launch} {e : Env} {R : Room} {s : State} {m : MethodId} {args : Array Value} {below : List Frame} {meth : Method} {c : Code} {E : mE} {σ' : MS} {r : Int64} (hC : mC p s m args meth c E cX3_lower 10 (some .long)) (hR : 2 ≤ R.frames ∧ 46 ≤ R.locals) (N : Nat) : ∀ (n : Nat) (σ : MS) (x1 : Int32) (x2 : Int32) (x3 : Int64) (x5 : Int64) (x7 : Int32), f_lower_16 N n σ x1 x2 x3 x5 x7 = some (r, σ') → ∀ (H : Heap) (locs : List Loc), mP E σ H → va_S (mA E s.heap.size) s.heap H locs → ∀ ls : Array Slot, lv_has ls 10 [(0, .ref (mh E)), (1, .int x1), (2, .int x2), (3, .long x3), (5, .long x5), (7, .int x7)] → W p l e R s m args below meth c H locs 0 0 (MQ below (mQl E s.heap.size r σ') args s 0 0 (mA E s.heap.size)) (F0 m 16 ls []) := by
  obtain ⟨⟨hx, hb, hml, hown, hts⟩, hK, hD, hr, hlk⟩ := id hC
  intro n
  induction n with
  | zero =>
    intro σ x1 x2 x3 x5 x7 h
    cases h
  | succ n ih =>
    intro σ x1 x2 x3 x5 x7 h H locs hP hS ls hl
    unfold f_lower_16 at h
    refine lv_iload hx hb dX3_lower_16 (lv_at hl 5 rfl) ?_
    refine lv_iconst (v := 4) hx hb dX3_lower_18 (by decide) ?_
    refine lv_icmp_ge (tgt := 115) hx hb dX3_lower_19 (by decide) (fun c1 => ?_) (fun c1 => ?_)
    · have h := mif_t c1 h
      refine lv_lload hx hb dX3_lower_115 (lv_at hl 4 rfl) ?_
      cases h
      exact m_lret hC hP hS dX3_lower_117
    · have h := mif_f c1 h
      refine lv_aload_n hx hb dX3_lower_22 rfl (lv_at hl 0 rfl) ?_
      refine m_geta hC hP 70 (by decide) rfl q1963 dX3_lower_23 ?_
      refine lv_iconst (v := 4) hx hb dX3_lower_26 (by decide) ?_
      refine lv_iload_n hx hb dX3_lower_27 rfl (lv_at hl 2 rfl) ?_
      refine lv_imul hx hb dX3_lower_28 ?_
      refine lv_iload hx hb dX3_lower_29 (lv_at hl 5 rfl) ?_
      refine lv_iadd hx hb dX3_lower_31 ?_
      obtain ⟨c2, h⟩ := mif_n h
      refine m_ald hC hP 70 rfl c2 dX3_lower_32 ?_
      refine lv_topi (fun y3 ey3 => ?_)
      have h := mlet_at ey3 h
      refine lv_if_ne (tgt := 39) hx hb dX3_lower_33 (by decide) (fun c4 => ?_) (fun c4 => ?_)
      · have h := mif_f c4 h
        refine lv_aload_n hx hb dX3_lower_39 rfl (lv_at hl 0 rfl) ?_
        refine m_geta hC hP 48 (by decide) rfl q1941 dX3_lower_40 ?_
        refine lv_bipush (v := 100) hx hb dX3_lower_43 (by decide) ?_
        refine lv_iload_n hx hb dX3_lower_45 rfl (lv_at hl 1 rfl) ?_
        refine lv_imul hx hb dX3_lower_46 ?_
        refine lv_aload_n hx hb dX3_lower_47 rfl (lv_at hl 0 rfl) ?_
        refine lv_iload_n hx hb dX3_lower_48 rfl (lv_at hl 2 rfl) ?_
        refine lv_iload hx hb dX3_lower_49 (lv_at hl 5 rfl) ?_
        obtain ⟨r7, σ5, c6, h⟩ := mcall_n h
        refine m_calli (As := [.int x2, .int x7]) (rest := [.int (100 * x1), .ref (mad E 48)]) hC (met_beside l N E H.size σ x2 x7 r7 σ5 c6) (cwV 2 hts (lw_V q2316 q2318 qs63 q103 q2319) rfl rfl rfl (by decide +kernel) ⟨Nat.le_trans (Nat.le_of_ble_eq_true rfl) hR.1, Nat.le_trans (Nat.le_of_ble_eq_true rfl) hR.2⟩) hP hS rfl hl.1 rfl (Nat.le_of_ble_eq_true rfl) dX3_lower_51 (fun H locs hP hS => ?_)
        refine lv_iadd hx hb dX3_lower_54 ?_
        obtain ⟨c8, h⟩ := mif_n h
        refine m_lld hC hP c8 dX3_lower_55 ?_
        refine lv_topl (fun y9 ey9 => ?_)
        have h := mlet_at ey9 h
        refine lv_lstore (lv' := [(8, .long y9), (0, .ref (mh E)), (1, .int x1), (2, .int x2), (3, .long x3), (5, .long x5), (7, .int x7)]) hx hb dX3_lower_56 hl (by decide) rfl (fun ls hl => ?_)
        refine lv_lload hx hb dX3_lower_58 (lv_at hl 0 rfl) ?_
        refine lv_ldc2 hx hb hown (hts _ q2375) dX3_lower_60 ?_
        refine W.lcmp hx hb dX3_lower_63 ?_
        refine lv_if_ge (tgt := 109) hx hb dX3_lower_64 (by decide) (fun c10 => ?_) (fun c10 => ?_)
        · have h := mif_t c10 h
          exact w_lower_109 hC hR N (f_lower_16 N n) ih σ5 x1 x2 x3 x5 x7 h hP hS (lv_sub hl [1, 2, 3, 4, 5, 6] rfl)
        · have h := mif_f c10 h
          refine lv_lload hx hb dX3_lower_67 (lv_at hl 0 rfl) ?_
          refine lv_lload_n hx hb dX3_lower_69 rfl (lv_at hl 4 rfl) ?_
          refine lv_aload_n hx hb dX3_lower_70 rfl (lv_at hl 1 rfl) ?_
          refine m_geta hC hP 70 (by decide) rfl q1963 dX3_lower_71 ?_
          refine lv_iconst (v := 4) hx hb dX3_lower_74 (by decide) ?_
          refine lv_iload_n hx hb dX3_lower_75 rfl (lv_at hl 3 rfl) ?_
          refine lv_imul hx hb dX3_lower_76 ?_
          refine lv_iload hx hb dX3_lower_77 (lv_at hl 6 rfl) ?_
          refine lv_iadd hx hb dX3_lower_79 ?_
          obtain ⟨c11, h⟩ := mif_n h
          refine m_ald hC hP 70 rfl c11 dX3_lower_80 ?_
          refine lv_topi (fun y12 ey12 => ?_)
          have h := mlet_at ey12 h
          refine lv_i2l (v := y12.toInt64) hx hb dX3_lower_81 rfl ?_
          refine lv_lmul hx hb dX3_lower_82 ?_
          refine lv_ladd hx hb dX3_lower_83 ?_
          refine lv_lload hx hb dX3_lower_84 (lv_at hl 5 rfl) ?_
          refine W.lcmp hx hb dX3_lower_86 ?_
          refine lv_if_ge (tgt := 109) hx hb dX3_lower_87 (by decide) (fun c13 => ?_) (fun c13 => ?_)
          · have h := mif_t c13 h
            exact w_lower_109 hC hR N (f_lower_16 N n) ih σ5 x1 x2 x3 x5 x7 h hP hS (lv_sub hl [1, 2, 3, 4, 5, 6] rfl)
          · have h := mif_f c13 h
            refine lv_lload hx hb dX3_lower_90 (lv_at hl 0 rfl) ?_
            refine lv_lload_n hx hb dX3_lower_92 rfl (lv_at hl 4 rfl) ?_
            refine lv_aload_n hx hb dX3_lower_93 rfl (lv_at hl 1 rfl) ?_
            refine m_geta hC hP 70 (by decide) rfl q1963 dX3_lower_94 ?_
            refine lv_iconst (v := 4) hx hb dX3_lower_97 (by decide) ?_
            refine lv_iload_n hx hb dX3_lower_98 rfl (lv_at hl 3 rfl) ?_
            refine lv_imul hx hb dX3_lower_99 ?_
            refine lv_iload hx hb dX3_lower_100 (lv_at hl 6 rfl) ?_
            refine lv_iadd hx hb dX3_lower_102 ?_
            obtain ⟨c14, h⟩ := mif_n h
            refine m_ald hC hP 70 rfl c14 dX3_lower_103 ?_
            refine lv_topi (fun y15 ey15 => ?_)
            have h := mlet_at ey15 h
            refine lv_i2l (v := y15.toInt64) hx hb dX3_lower_104 rfl ?_
            refine lv_lmul hx hb dX3_lower_105 ?_
            refine lv_ladd hx hb dX3_lower_106 ?_
            refine lv_topl (fun y16 ey16 => ?_)
            have h := mlet_at ey16 h
            refine lv_lstore (lv' := [(5, .long y16), (8, .long y9), (0, .ref (mh E)), (1, .int x1), (2, .int x2), (3, .long x3), (7, .int x7)]) hx hb dX3_lower_107 hl (by decide) rfl (fun ls hl => ?_)
            exact w_lower_109 hC hR N (f_lower_16 N n) ih σ5 x1 x2 x3 y16 x7 h hP hS (lv_sub hl [2, 3, 4, 5, 0, 6] rfl)
      · have h := mif_t c4 h
        refine lv_goto (tgt := 109) hx hb dX3_lower_36 (by decide) ?_
        exact w_lower_109 hC hR N (f_lower_16 N n) ih σ x1 x2 x3 x5 x7 h hP hS (lv_sub hl [0, 1, 2, 3, 4, 5] rfl)
def f_lower (N : Nat) (σ : MS) (x1 : Int32) (x2 : Int32) (x3 : Int64) : Option (Int64 × MS) :=
    if mIn ((100 * x1) + x2) (102400) = true then mlet (σ.2.2 ((100 * x1) + x2).toNatClampNeg) fun y2 =>
    f_lower_16 N N σ x1 x2 x3 y2 0
    else none
set_option maxHeartbeats 4000000 in
set_option maxRecDepth 100000 in
theorem w_lower_0 {p : Program} {l : Launch} {e : Env} {R : Room} {s : State} {m : MethodId} {args : Array Value} {below : List Frame} {meth : Method} {c : Code} {E : mE} {σ' : MS} {r : Int64} (hC : mC p s m args meth c E cX3_lower 10 (some .long)) (hR : 2 ≤ R.frames ∧ 46 ≤ R.locals) (N : Nat) (σ : MS) (x1 : Int32) (x2 : Int32) (x3 : Int64) (h : f_lower N σ x1 x2 x3 = some (r, σ')) {H : Heap} {locs : List Loc} (hP : mP E σ H) (hS : va_S (mA E s.heap.size) s.heap H locs) {ls : Array Slot} (hl : lv_has ls 10 [(0, .ref (mh E)), (1, .int x1), (2, .int x2), (3, .long x3)]) : W p l e R s m args below meth c H locs 0 0 (MQ below (mQl E s.heap.size r σ') args s 0 0 (mA E s.heap.size)) (F0 m 0 ls []) := by
  obtain ⟨⟨hx, hb, hml, hown, hts⟩, hK, hD, hr, hlk⟩ := id hC
  unfold f_lower at h
  refine lv_aload_n hx hb dX3_lower_0 rfl (lv_at hl 0 rfl) ?_
  refine m_geta hC hP 48 (by decide) rfl q1941 dX3_lower_1 ?_
  refine lv_bipush (v := 100) hx hb dX3_lower_4 (by decide) ?_
  refine lv_iload_n hx hb dX3_lower_6 rfl (lv_at hl 1 rfl) ?_
  refine lv_imul hx hb dX3_lower_7 ?_
  refine lv_iload_n hx hb dX3_lower_8 rfl (lv_at hl 2 rfl) ?_
  refine lv_iadd hx hb dX3_lower_9 ?_
  obtain ⟨c1, h⟩ := mif_n h
  refine m_lld hC hP c1 dX3_lower_10 ?_
  refine lv_topl (fun y2 ey2 => ?_)
  have h := mlet_at ey2 h
  refine lv_lstore (lv' := [(5, .long y2), (0, .ref (mh E)), (1, .int x1), (2, .int x2), (3, .long x3)]) hx hb dX3_lower_11 hl (by decide) rfl (fun ls hl => ?_)
  refine lv_iconst (v := 0) hx hb dX3_lower_13 (by decide) ?_
  refine lv_istore (lv' := [(7, .int 0), (5, .long y2), (0, .ref (mh E)), (1, .int x1), (2, .int x2), (3, .long x3)]) hx hb dX3_lower_14 hl (by decide) rfl (fun ls hl => ?_)
  exact w_lower_16 hC hR N N σ x1 x2 x3 y2 0 h _ _ hP hS _ (lv_sub hl [2, 3, 4, 5, 1, 0] rfl)
theorem met_lower (l : Launch) (N : Nat) (E : mE) (sz : Nat) (σ : MS) (x1 : Int32) (x2 : Int32) (x3 : Int64) (r : Int64) (σ' : MS) (h : f_lower N σ x1 x2 x3 = some (r, σ')) : Met l yX3_lower (ws_ yX3_lower cX3_lower 10 (some .long)) ({ frames := 2, cells := 0, slots := 0, locals := 46 }) (mPc E sz σ [.ref (mh E), .int x1, .int x2, .long x3]) (mQl E sz r σ') 0 0 (mA E sz) :=
  m_met (Qc := fun z => mQl E z r σ') (by decide) rfl (Nat.le_of_ble_eq_true rfl) (fun hC ls hl hP => w_lower_0 hC ⟨Nat.le_refl _, Nat.le_refl _⟩ N σ x1 x2 x3 h hP va_S.rf hl)
def f_solve_270 (N : Nat) (k47 : MS → Int32 → Int32 → Int32 → Option (MS)) (σ : MS) (x1 : Int32) (x2 : Int32) (x3 : Int32) : Option (MS) :=
    mlet (x3 + (-1)) fun y1 =>
    k47 σ x1 x2 y1
set_option maxHeartbeats 4000000 in
set_option maxRecDepth 100000 in
theorem w_solve_270 {p : Program} {l : Launch} {e : Env} {R : Room} {s : State} {m : MethodId} {args : Array Value} {below : List Frame} {meth : Method} {c : Code} {E : mE} {σ' : MS} (hC : mC p s m args meth c E cX3_solve 10 none) (hR : 5 ≤ R.frames ∧ 123 ≤ R.locals) (N : Nat) (k47 : MS → Int32 → Int32 → Int32 → Option (MS)) (hk47 : ∀ (σ : MS) (x1 : Int32) (x2 : Int32) (x3 : Int32), k47 σ x1 x2 x3 = some σ' → ∀ (H : Heap) (locs : List Loc), mP E σ H → va_S (mA E s.heap.size) s.heap H locs → ∀ ls : Array Slot, lv_has ls 10 [(0, .ref (mh E)), (1, .int x1), (2, .int x2), (3, .int x3)] → W p l e R s m args below meth c H locs 0 0 (MQ below (mQv E s.heap.size σ') args s 0 0 (mA E s.heap.size)) (F0 m 47 ls [])) (σ : MS) (x1 : Int32) (x2 : Int32) (x3 : Int32) (h : f_solve_270 N k47 σ x1 x2 x3 = some σ') {H : Heap} {locs : List Loc} (hP : mP E σ H) (hS : va_S (mA E s.heap.size) s.heap H locs) {ls : Array Slot} (hl : lv_has ls 10 [(0, .ref (mh E)), (1, .int x1), (2, .int x2), (3, .int x3)]) : W p l e R s m args below meth c H locs 0 0 (MQ below (mQv E s.heap.size σ') args s 0 0 (mA E s.heap.size)) (F0 m 270 ls []) := by
  obtain ⟨⟨hx, hb, hml, hown, hts⟩, hK, hD, hr, hlk⟩ := id hC
  unfold f_solve_270 at h
  obtain ⟨y1, ey1⟩ : ∃ z : Int32, z = x3 + (-1) := ⟨_, rfl⟩
  have h := mlet_at ey1 h
  refine lv_iinc (v := y1) (lv' := [(3, .int y1), (0, .ref (mh E)), (1, .int x1), (2, .int x2)]) hx hb dX3_solve_270 hl (k := 3) rfl (by rw [ey1]; rfl) (by decide) rfl (fun ls hl => ?_)
  refine lv_goto (tgt := 47) hx hb dX3_solve_273 (by decide) ?_
  exact hk47 σ x1 x2 y1 h _ _ hP hS _ (lv_sub hl [1, 2, 3, 0] rfl)
def f_solve_261 (N : Nat) (k47 : MS → Int32 → Int32 → Int32 → Option (MS)) (k161 : MS → Int32 → Int32 → Int32 → Int64 → Int32 → Option (MS)) (k172 : MS → Int32 → Int32 → Int32 → Int64 → Int32 → Int32 → Option (MS)) (σ : MS) (x1 : Int32) (x2 : Int32) (x3 : Int32) (x4 : Int64) (x6 : Int32) (x7 : Int32) : Option (MS) :=
    mlet (x7 + 1) fun y1 =>
    k172 σ x1 x2 x3 x4 x6 y1
set_option maxHeartbeats 4000000 in
set_option maxRecDepth 100000 in
theorem w_solve_261 {p : Program} {l : Launch} {e : Env} {R : Room} {s : State} {m : MethodId} {args : Array Value} {below : List Frame} {meth : Method} {c : Code} {E : mE} {σ' : MS} (hC : mC p s m args meth c E cX3_solve 10 none) (hR : 5 ≤ R.frames ∧ 123 ≤ R.locals) (N : Nat) (k47 : MS → Int32 → Int32 → Int32 → Option (MS)) (hk47 : ∀ (σ : MS) (x1 : Int32) (x2 : Int32) (x3 : Int32), k47 σ x1 x2 x3 = some σ' → ∀ (H : Heap) (locs : List Loc), mP E σ H → va_S (mA E s.heap.size) s.heap H locs → ∀ ls : Array Slot, lv_has ls 10 [(0, .ref (mh E)), (1, .int x1), (2, .int x2), (3, .int x3)] → W p l e R s m args below meth c H locs 0 0 (MQ below (mQv E s.heap.size σ') args s 0 0 (mA E s.heap.size)) (F0 m 47 ls [])) (k161 : MS → Int32 → Int32 → Int32 → Int64 → Int32 → Option (MS)) (hk161 : ∀ (σ : MS) (x1 : Int32) (x2 : Int32) (x3 : Int32) (x4 : Int64) (x6 : Int32), k161 σ x1 x2 x3 x4 x6 = some σ' → ∀ (H : Heap) (locs : List Loc), mP E σ H → va_S (mA E s.heap.size) s.heap H locs → ∀ ls : Array Slot, lv_has ls 10 [(0, .ref (mh E)), (1, .int x1), (2, .int x2), (3, .int x3), (4, .long x4), (6, .int x6)] → W p l e R s m args below meth c H locs 0 0 (MQ below (mQv E s.heap.size σ') args s 0 0 (mA E s.heap.size)) (F0 m 161 ls [])) (k172 : MS → Int32 → Int32 → Int32 → Int64 → Int32 → Int32 → Option (MS)) (hk172 : ∀ (σ : MS) (x1 : Int32) (x2 : Int32) (x3 : Int32) (x4 : Int64) (x6 : Int32) (x7 : Int32), k172 σ x1 x2 x3 x4 x6 x7 = some σ' → ∀ (H : Heap) (locs : List Loc), mP E σ H → va_S (mA E s.heap.size) s.heap H locs → ∀ ls : Array Slot, lv_has ls 10 [(0, .ref (mh E)), (1, .int x1), (2, .int x2), (3, .int x3), (4, .long x4), (6, .int x6), (7, .int x7)] → W p l e R s m args below meth c H locs 0 0 (MQ below (mQv E s.heap.size σ') args s 0 0 (mA E s.heap.size)) (F0 m 172 ls [])) (σ : MS) (x1 : Int32) (x2 : Int32) (x3 : Int32) (x4 : Int64) (x6 : Int32) (x7 : Int32) (h : f_solve_261 N k47 k161 k172 σ x1 x2 x3 x4 x6 x7 = some σ') {H : Heap} {locs : List Loc} (hP : mP E σ H) (hS : va_S (mA E s.heap.size) s.heap H locs) {ls : Array Slot} (hl : lv_has ls 10 [(0, .ref (mh E)), (1, .int x1), (2, .int x2), (3, .int x3), (4, .long x4), (6, .int x6), (7, .int x7)]) : W p l e R s m args below meth c H locs 0 0 (MQ below (mQv E s.heap.size σ') args s 0 0 (mA E s.heap.size)) (F0 m 261 ls []) := by
  obtain ⟨⟨hx, hb, hml, hown, hts⟩, hK, hD, hr, hlk⟩ := id hC
  unfold f_solve_261 at h
  obtain ⟨y1, ey1⟩ : ∃ z : Int32, z = x7 + 1 := ⟨_, rfl⟩
  have h := mlet_at ey1 h
  refine lv_iinc (v := y1) (lv' := [(7, .int y1), (0, .ref (mh E)), (1, .int x1), (2, .int x2), (3, .int x3), (4, .long x4), (6, .int x6)]) hx hb dX3_solve_261 hl (k := 6) rfl (by rw [ey1]; rfl) (by decide) rfl (fun ls hl => ?_)
  refine lv_goto (tgt := 172) hx hb dX3_solve_264 (by decide) ?_
  exact hk172 σ x1 x2 x3 x4 x6 y1 h _ _ hP hS _ (lv_sub hl [1, 2, 3, 4, 5, 6, 0] rfl)
def f_solve_245 (N : Nat) (k47 : MS → Int32 → Int32 → Int32 → Option (MS)) (k161 : MS → Int32 → Int32 → Int32 → Int64 → Int32 → Option (MS)) (k172 : MS → Int32 → Int32 → Int32 → Int64 → Int32 → Int32 → Option (MS)) (σ : MS) (x1 : Int32) (x2 : Int32) (x3 : Int32) (x4 : Int64) (x7 : Int32) (x8 : Int64) (s0 : Int32) : Option (MS) :=
    if mIn ((100 * x3) + x7) (102400) = true then mlet (mVal σ ((100 * x3) + x7).toNatClampNeg x8) fun σ2 =>
    f_solve_261 N k47 k161 k172 σ2 x1 x2 x3 x4 s0 x7
    else none
set_option maxHeartbeats 4000000 in
set_option maxRecDepth 100000 in
theorem w_solve_245 {p : Program} {l : Launch} {e : Env} {R : Room} {s : State} {m : MethodId} {args : Array Value} {below : List Frame} {meth : Method} {c : Code} {E : mE} {σ' : MS} (hC : mC p s m args meth c E cX3_solve 10 none) (hR : 5 ≤ R.frames ∧ 123 ≤ R.locals) (N : Nat) (k47 : MS → Int32 → Int32 → Int32 → Option (MS)) (hk47 : ∀ (σ : MS) (x1 : Int32) (x2 : Int32) (x3 : Int32), k47 σ x1 x2 x3 = some σ' → ∀ (H : Heap) (locs : List Loc), mP E σ H → va_S (mA E s.heap.size) s.heap H locs → ∀ ls : Array Slot, lv_has ls 10 [(0, .ref (mh E)), (1, .int x1), (2, .int x2), (3, .int x3)] → W p l e R s m args below meth c H locs 0 0 (MQ below (mQv E s.heap.size σ') args s 0 0 (mA E s.heap.size)) (F0 m 47 ls [])) (k161 : MS → Int32 → Int32 → Int32 → Int64 → Int32 → Option (MS)) (hk161 : ∀ (σ : MS) (x1 : Int32) (x2 : Int32) (x3 : Int32) (x4 : Int64) (x6 : Int32), k161 σ x1 x2 x3 x4 x6 = some σ' → ∀ (H : Heap) (locs : List Loc), mP E σ H → va_S (mA E s.heap.size) s.heap H locs → ∀ ls : Array Slot, lv_has ls 10 [(0, .ref (mh E)), (1, .int x1), (2, .int x2), (3, .int x3), (4, .long x4), (6, .int x6)] → W p l e R s m args below meth c H locs 0 0 (MQ below (mQv E s.heap.size σ') args s 0 0 (mA E s.heap.size)) (F0 m 161 ls [])) (k172 : MS → Int32 → Int32 → Int32 → Int64 → Int32 → Int32 → Option (MS)) (hk172 : ∀ (σ : MS) (x1 : Int32) (x2 : Int32) (x3 : Int32) (x4 : Int64) (x6 : Int32) (x7 : Int32), k172 σ x1 x2 x3 x4 x6 x7 = some σ' → ∀ (H : Heap) (locs : List Loc), mP E σ H → va_S (mA E s.heap.size) s.heap H locs → ∀ ls : Array Slot, lv_has ls 10 [(0, .ref (mh E)), (1, .int x1), (2, .int x2), (3, .int x3), (4, .long x4), (6, .int x6), (7, .int x7)] → W p l e R s m args below meth c H locs 0 0 (MQ below (mQv E s.heap.size σ') args s 0 0 (mA E s.heap.size)) (F0 m 172 ls [])) (σ : MS) (x1 : Int32) (x2 : Int32) (x3 : Int32) (x4 : Int64) (x7 : Int32) (x8 : Int64) (s0 : Int32) (h : f_solve_245 N k47 k161 k172 σ x1 x2 x3 x4 x7 x8 s0 = some σ') {H : Heap} {locs : List Loc} (hP : mP E σ H) (hS : va_S (mA E s.heap.size) s.heap H locs) {ls : Array Slot} (hl : lv_has ls 10 [(0, .ref (mh E)), (1, .int x1), (2, .int x2), (3, .int x3), (4, .long x4), (7, .int x7), (8, .long x8)]) : W p l e R s m args below meth c H locs 0 0 (MQ below (mQv E s.heap.size σ') args s 0 0 (mA E s.heap.size)) (F0 m 245 ls [.int s0]) := by
  obtain ⟨⟨hx, hb, hml, hown, hts⟩, hK, hD, hr, hlk⟩ := id hC
  unfold f_solve_245 at h
  refine lv_istore (lv' := [(6, .int s0), (0, .ref (mh E)), (1, .int x1), (2, .int x2), (3, .int x3), (4, .long x4), (7, .int x7), (8, .long x8)]) hx hb dX3_solve_245 hl (by decide) rfl (fun ls hl => ?_)
  refine lv_aload_n hx hb dX3_solve_247 rfl (lv_at hl 1 rfl) ?_
  refine m_geta hC hP 48 (by decide) rfl q1941 dX3_solve_248 ?_
  refine lv_bipush (v := 100) hx hb dX3_solve_251 (by decide) ?_
  refine lv_iload_n hx hb dX3_solve_253 rfl (lv_at hl 4 rfl) ?_
  refine lv_imul hx hb dX3_solve_254 ?_
  refine lv_iload hx hb dX3_solve_255 (lv_at hl 6 rfl) ?_
  refine lv_iadd hx hb dX3_solve_257 ?_
  refine lv_lload hx hb dX3_solve_258 (lv_at hl 7 rfl) ?_
  obtain ⟨c1, h⟩ := mif_n h
  refine m_lst hC hP hS c1 dX3_solve_260 (fun H locs hP hS => ?_)
  obtain ⟨σ2, eσ2⟩ : ∃ z : MS, z = mVal σ ((100 * x3) + x7).toNatClampNeg x8 := ⟨_, rfl⟩
  rw [← eσ2] at hP
  have h := mlet_at eσ2 h
  exact w_solve_261 hC hR N k47 hk47 k161 hk161 k172 hk172 σ2 x1 x2 x3 x4 s0 x7 h hP hS (lv_sub hl [1, 2, 3, 4, 5, 0, 6] rfl)
def f_solve_240 (N : Nat) (k47 : MS → Int32 → Int32 → Int32 → Option (MS)) (k161 : MS → Int32 → Int32 → Int32 → Int64 → Int32 → Option (MS)) (k172 : MS → Int32 → Int32 → Int32 → Int64 → Int32 → Int32 → Option (MS)) (σ : MS) (x1 : Int32) (x2 : Int32) (x3 : Int32) (x4 : Int64) (x7 : Int32) (x8 : Int64) : Option (MS) :=
    f_solve_245 N k47 k161 k172 σ x1 x2 x3 x4 x7 x8 1
set_option maxHeartbeats 4000000 in
set_option maxRecDepth 100000 in
theorem w_solve_240 {p : Program} {l : Launch} {e : Env} {R : Room} {s : State} {m : MethodId} {args : Array Value} {below : List Frame} {meth : Method} {c : Code} {E : mE} {σ' : MS} (hC : mC p s m args meth c E cX3_solve 10 none) (hR : 5 ≤ R.frames ∧ 123 ≤ R.locals) (N : Nat) (k47 : MS → Int32 → Int32 → Int32 → Option (MS)) (hk47 : ∀ (σ : MS) (x1 : Int32) (x2 : Int32) (x3 : Int32), k47 σ x1 x2 x3 = some σ' → ∀ (H : Heap) (locs : List Loc), mP E σ H → va_S (mA E s.heap.size) s.heap H locs → ∀ ls : Array Slot, lv_has ls 10 [(0, .ref (mh E)), (1, .int x1), (2, .int x2), (3, .int x3)] → W p l e R s m args below meth c H locs 0 0 (MQ below (mQv E s.heap.size σ') args s 0 0 (mA E s.heap.size)) (F0 m 47 ls [])) (k161 : MS → Int32 → Int32 → Int32 → Int64 → Int32 → Option (MS)) (hk161 : ∀ (σ : MS) (x1 : Int32) (x2 : Int32) (x3 : Int32) (x4 : Int64) (x6 : Int32), k161 σ x1 x2 x3 x4 x6 = some σ' → ∀ (H : Heap) (locs : List Loc), mP E σ H → va_S (mA E s.heap.size) s.heap H locs → ∀ ls : Array Slot, lv_has ls 10 [(0, .ref (mh E)), (1, .int x1), (2, .int x2), (3, .int x3), (4, .long x4), (6, .int x6)] → W p l e R s m args below meth c H locs 0 0 (MQ below (mQv E s.heap.size σ') args s 0 0 (mA E s.heap.size)) (F0 m 161 ls [])) (k172 : MS → Int32 → Int32 → Int32 → Int64 → Int32 → Int32 → Option (MS)) (hk172 : ∀ (σ : MS) (x1 : Int32) (x2 : Int32) (x3 : Int32) (x4 : Int64) (x6 : Int32) (x7 : Int32), k172 σ x1 x2 x3 x4 x6 x7 = some σ' → ∀ (H : Heap) (locs : List Loc), mP E σ H → va_S (mA E s.heap.size) s.heap H locs → ∀ ls : Array Slot, lv_has ls 10 [(0, .ref (mh E)), (1, .int x1), (2, .int x2), (3, .int x3), (4, .long x4), (6, .int x6), (7, .int x7)] → W p l e R s m args below meth c H locs 0 0 (MQ below (mQv E s.heap.size σ') args s 0 0 (mA E s.heap.size)) (F0 m 172 ls [])) (σ : MS) (x1 : Int32) (x2 : Int32) (x3 : Int32) (x4 : Int64) (x7 : Int32) (x8 : Int64) (h : f_solve_240 N k47 k161 k172 σ x1 x2 x3 x4 x7 x8 = some σ') {H : Heap} {locs : List Loc} (hP : mP E σ H) (hS : va_S (mA E s.heap.size) s.heap H locs) {ls : Array Slot} (hl : lv_has ls 10 [(0, .ref (mh E)), (1, .int x1), (2, .int x2), (3, .int x3), (4, .long x4), (7, .int x7), (8, .long x8)]) : W p l e R s m args below meth c H locs 0 0 (MQ below (mQv E s.heap.size σ') args s 0 0 (mA E s.heap.size)) (F0 m 240 ls []) := by
  obtain ⟨⟨hx, hb, hml, hown, hts⟩, hK, hD, hr, hlk⟩ := id hC
  unfold f_solve_240 at h
  refine lv_iconst (v := 1) hx hb dX3_solve_240 (by decide) ?_
  refine lv_goto (tgt := 245) hx hb dX3_solve_241 (by decide) ?_
  exact w_solve_245 hC hR N k47 hk47 k161 hk161 k172 hk172 σ x1 x2 x3 x4 x7 x8 1 h hP hS (lv_sub hl [0, 1, 2, 3, 4, 5, 6] rfl)
def f_solve_172 (N : Nat) (k47 : MS → Int32 → Int32 → Int32 → Option (MS)) (k161 : MS → Int32 → Int32 → Int32 → Int64 → Int32 → Option (MS)) : Nat → MS → Int32 → Int32 → Int32 → Int64 → Int32 → Int32 → Option (MS)
  | 0, _, _, _, _, _, _, _ => none
  | n + 1, σ, x1, x2, x3, x4, x6, x7 =>
    if ((σ.1 35) * (σ.1 36)) ≤ x7 then
    k161 σ x1 x2 x3 x4 x6
    else
    if x7 = x1 then
    f_solve_261 N k47 k161 (f_solve_172 N k47 k161 n) σ x1 x2 x3 x4 x6 x7
    else
    mcall (f_news N σ x7 x3) fun r5 σ3 =>
    if r5 = (-1) then
    mcall (f_lower N σ3 x3 x7 x4) fun r9 σ7 =>
    if x6 = 0 then
    if mIn ((100 * x3) + x7) (102400) = true then mlet (σ7.2.2 ((100 * x3) + x7).toNatClampNeg) fun y12 =>
    if 0 ≤ (lg_cmp r9 y12) then
    f_solve_245 N k47 k161 (f_solve_172 N k47 k161 n) σ7 x1 x2 x3 x4 x7 r9 0
    else
    f_solve_240 N k47 k161 (f_solve_172 N k47 k161 n) σ7 x1 x2 x3 x4 x7 r9
    else none
    else
    f_solve_240 N k47 k161 (f_solve_172 N k47 k161 n) σ7 x1 x2 x3 x4 x7 r9
    else
    f_solve_261 N k47 k161 (f_solve_172 N k47 k161 n) σ3 x1 x2 x3 x4 x6 x7
set_option maxHeartbeats 4000000 in
set_option maxRecDepth 100000 in
theorem w_solve_172 {p : Program} {l : Launch} {e : Env} {R : Room} {s : State} {m : MethodId} {args : Array Value} {below : List Frame} {meth : Method} {c : Code} {E : mE} {σ' : MS} (hC : mC p s m args meth c E cX3_solve 10 none) (hR : 5 ≤ R.frames ∧ 123 ≤ R.locals) (N : Nat) (k47 : MS → Int32 → Int32 → Int32 → Option (MS)) (hk47 : ∀ (σ : MS) (x1 : Int32) (x2 : Int32) (x3 : Int32), k47 σ x1 x2 x3 = some σ' → ∀ (H : Heap) (locs : List Loc), mP E σ H → va_S (mA E s.heap.size) s.heap H locs → ∀ ls : Array Slot, lv_has ls 10 [(0, .ref (mh E)), (1, .int x1), (2, .int x2), (3, .int x3)] → W p l e R s m args below meth c H locs 0 0 (MQ below (mQv E s.heap.size σ') args s 0 0 (mA E s.heap.size)) (F0 m 47 ls [])) (k161 : MS → Int32 → Int32 → Int32 → Int64 → Int32 → Option (MS)) (hk161 : ∀ (σ : MS) (x1 : Int32) (x2 : Int32) (x3 : Int32) (x4 : Int64) (x6 : Int32), k161 σ x1 x2 x3 x4 x6 = some σ' → ∀ (H : Heap) (locs : List Loc), mP E σ H → va_S (mA E s.heap.size) s.heap H locs → ∀ ls : Array Slot, lv_has ls 10 [(0, .ref (mh E)), (1, .int x1), (2, .int x2), (3, .int x3), (4, .long x4), (6, .int x6)] → W p l e R s m args below meth c H locs 0 0 (MQ below (mQv E s.heap.size σ') args s 0 0 (mA E s.heap.size)) (F0 m 161 ls [])) : ∀ (n : Nat) (σ : MS) (x1 : Int32) (x2 : Int32) (x3 : Int32) (x4 : Int64) (x6 : Int32) (x7 : Int32), f_solve_172 N k47 k161 n σ x1 x2 x3 x4 x6 x7 = some σ' → ∀ (H : Heap) (locs : List Loc), mP E σ H → va_S (mA E s.heap.size) s.heap H locs → ∀ ls : Array Slot, lv_has ls 10 [(0, .ref (mh E)), (1, .int x1), (2, .int x2), (3, .int x3), (4, .long x4), (6, .int x6), (7, .int x7)] → W p l e R s m args below meth c H locs 0 0 (MQ below (mQv E s.heap.size σ') args s 0 0 (mA E s.heap.size)) (F0 m 172 ls []) := by
  obtain ⟨⟨hx, hb, hml, hown, hts⟩, hK, hD, hr, hlk⟩ := id hC
  intro n
  induction n with
  | zero =>
    intro σ x1 x2 x3 x4 x6 x7 h
    cases h
  | succ n ih =>
    intro σ x1 x2 x3 x4 x6 x7 h H locs hP hS ls hl
    unfold f_solve_172 at h
    refine lv_iload hx hb dX3_solve_172 (lv_at hl 6 rfl) ?_
    refine lv_aload_n hx hb dX3_solve_174 rfl (lv_at hl 0 rfl) ?_
    refine m_geti hC hP 35 (by decide) rfl q1928 dX3_solve_175 ?_
    refine lv_aload_n hx hb dX3_solve_178 rfl (lv_at hl 0 rfl) ?_
    refine m_geti hC hP 36 (by decide) rfl q1929 dX3_solve_179 ?_
    refine lv_imul hx hb dX3_solve_182 ?_
    refine lv_icmp_ge (tgt := 267) hx hb dX3_solve_183 (by decide) (fun c1 => ?_) (fun c1 => ?_)
    · have h := mif_t c1 h
      refine lv_goto (tgt := 161) hx hb dX3_solve_267 (by decide) ?_
      exact hk161 σ x1 x2 x3 x4 x6 h _ _ hP hS _ (lv_sub hl [0, 1, 2, 3, 4, 5] rfl)
    · have h := mif_f c1 h
      refine lv_iload hx hb dX3_solve_186 (lv_at hl 6 rfl) ?_
      refine lv_iload_n hx hb dX3_solve_188 rfl (lv_at hl 1 rfl) ?_
      refine lv_icmp_eq (tgt := 261) hx hb dX3_solve_189 (by decide) (fun c2 => ?_) (fun c2 => ?_)
      · have h := mif_t c2 h
        exact w_solve_261 hC hR N k47 hk47 k161 hk161 (f_solve_172 N k47 k161 n) ih σ x1 x2 x3 x4 x6 x7 h hP hS (lv_sub hl [0, 1, 2, 3, 4, 5, 6] rfl)
      · have h := mif_f c2 h
        refine lv_aload_n hx hb dX3_solve_192 rfl (lv_at hl 0 rfl) ?_
        refine lv_iload hx hb dX3_solve_193 (lv_at hl 6 rfl) ?_
        refine lv_iload_n hx hb dX3_solve_195 rfl (lv_at hl 3 rfl) ?_
        obtain ⟨r5, σ3, c4, h⟩ := mcall_n h
        refine m_calli (As := [.int x7, .int x3]) (rest := []) hC (met_news l N E H.size σ x7 x3 r5 σ3 c4) (cwV 2 hts (lw_V q2371 q2373 qs75 q103 q2374) rfl rfl rfl (by decide +kernel) ⟨Nat.le_trans (Nat.le_of_ble_eq_true rfl) hR.1, Nat.le_trans (Nat.le_of_ble_eq_true rfl) hR.2⟩) hP hS rfl hl.1 rfl (Nat.le_of_ble_eq_true rfl) dX3_solve_196 (fun H locs hP hS => ?_)
        refine lv_iconst (v := (-1)) hx hb dX3_solve_199 (by decide) ?_
        refine lv_icmp_eq (tgt := 206) hx hb dX3_solve_200 (by decide) (fun c6 => ?_) (fun c6 => ?_)
        · have h := mif_t c6 h
          refine lv_aload_n hx hb dX3_solve_206 rfl (lv_at hl 0 rfl) ?_
          refine lv_iload_n hx hb dX3_solve_207 rfl (lv_at hl 3 rfl) ?_
          refine lv_iload hx hb dX3_solve_208 (lv_at hl 6 rfl) ?_
          refine lv_lload hx hb dX3_solve_210 (lv_at hl 4 rfl) ?_
          obtain ⟨r9, σ7, c8, h⟩ := mcall_n h
          refine m_calll (As := [.int x3, .int x7, .long x4]) (rest := []) hC (met_lower l N E H.size σ3 x3 x7 x4 r9 σ7 c8) (cwV 3 hts (lw_V q2395 q2397 qs80 q103 q2398) rfl rfl rfl (by decide +kernel) ⟨Nat.le_trans (Nat.le_of_ble_eq_true rfl) hR.1, Nat.le_trans (Nat.le_of_ble_eq_true rfl) hR.2⟩) hP hS rfl hl.1 rfl (Nat.le_of_ble_eq_true rfl) dX3_solve_212 (fun H locs hP hS => ?_)
          refine lv_lstore (lv' := [(8, .long r9), (0, .ref (mh E)), (1, .int x1), (2, .int x2), (3, .int x3), (4, .long x4), (6, .int x6), (7, .int x7)]) hx hb dX3_solve_215 hl (by decide) rfl (fun ls hl => ?_)
          refine lv_iload hx hb dX3_solve_217 (lv_at hl 6 rfl) ?_
          refine lv_if_ne (tgt := 240) hx hb dX3_solve_219 (by decide) (fun c10 => ?_) (fun c10 => ?_)
          · have h := mif_f c10 h
            exact w_solve_240 hC hR N k47 hk47 k161 hk161 (f_solve_172 N k47 k161 n) ih σ7 x1 x2 x3 x4 x7 r9 h hP hS (lv_sub hl [1, 2, 3, 4, 5, 7, 0] rfl)
          · have h := mif_t c10 h
            refine lv_lload hx hb dX3_solve_222 (lv_at hl 0 rfl) ?_
            refine lv_aload_n hx hb dX3_solve_224 rfl (lv_at hl 1 rfl) ?_
            refine m_geta hC hP 48 (by decide) rfl q1941 dX3_solve_225 ?_
            refine lv_bipush (v := 100) hx hb dX3_solve_228 (by decide) ?_
            refine lv_iload_n hx hb dX3_solve_230 rfl (lv_at hl 4 rfl) ?_
            refine lv_imul hx hb dX3_solve_231 ?_
            refine lv_iload hx hb dX3_solve_232 (lv_at hl 7 rfl) ?_
            refine lv_iadd hx hb dX3_solve_234 ?_
            obtain ⟨c11, h⟩ := mif_n h
            refine m_lld hC hP c11 dX3_solve_235 ?_
            refine lv_topl (fun y12 ey12 => ?_)
            have h := mlet_at ey12 h
            refine W.lcmp hx hb dX3_solve_236 ?_
            refine lv_if_ge (tgt := 244) hx hb dX3_solve_237 (by decide) (fun c13 => ?_) (fun c13 => ?_)
            · have h := mif_t c13 h
              refine lv_iconst (v := 0) hx hb dX3_solve_244 (by decide) ?_
              exact w_solve_245 hC hR N k47 hk47 k161 hk161 (f_solve_172 N k47 k161 n) ih σ7 x1 x2 x3 x4 x7 r9 0 h hP hS (lv_sub hl [1, 2, 3, 4, 5, 7, 0] rfl)
            · have h := mif_f c13 h
              exact w_solve_240 hC hR N k47 hk47 k161 hk161 (f_solve_172 N k47 k161 n) ih σ7 x1 x2 x3 x4 x7 r9 h hP hS (lv_sub hl [1, 2, 3, 4, 5, 7, 0] rfl)
        · have h := mif_f c6 h
          refine lv_goto (tgt := 261) hx hb dX3_solve_203 (by decide) ?_
          exact w_solve_261 hC hR N k47 hk47 k161 hk161 (f_solve_172 N k47 k161 n) ih σ3 x1 x2 x3 x4 x6 x7 h hP hS (lv_sub hl [0, 1, 2, 3, 4, 5, 6] rfl)
def f_solve_161 (N : Nat) (k47 : MS → Int32 → Int32 → Int32 → Option (MS)) : Nat → MS → Int32 → Int32 → Int32 → Int64 → Int32 → Option (MS)
  | 0, _, _, _, _, _, _ => none
  | n + 1, σ, x1, x2, x3, x4, x6 =>
    if x6 = 0 then
    f_solve_270 N k47 σ x1 x2 x3
    else
    f_solve_172 N k47 (f_solve_161 N k47 n) N σ x1 x2 x3 x4 0 0
set_option maxHeartbeats 4000000 in
set_option maxRecDepth 100000 in
theorem w_solve_161 {p : Program} {l : Launch} {e : Env} {R : Room} {s : State} {m : MethodId} {args : Array Value} {below : List Frame} {meth : Method} {c : Code} {E : mE} {σ' : MS} (hC : mC p s m args meth c E cX3_solve 10 none) (hR : 5 ≤ R.frames ∧ 123 ≤ R.locals) (N : Nat) (k47 : MS → Int32 → Int32 → Int32 → Option (MS)) (hk47 : ∀ (σ : MS) (x1 : Int32) (x2 : Int32) (x3 : Int32), k47 σ x1 x2 x3 = some σ' → ∀ (H : Heap) (locs : List Loc), mP E σ H → va_S (mA E s.heap.size) s.heap H locs → ∀ ls : Array Slot, lv_has ls 10 [(0, .ref (mh E)), (1, .int x1), (2, .int x2), (3, .int x3)] → W p l e R s m args below meth c H locs 0 0 (MQ below (mQv E s.heap.size σ') args s 0 0 (mA E s.heap.size)) (F0 m 47 ls [])) : ∀ (n : Nat) (σ : MS) (x1 : Int32) (x2 : Int32) (x3 : Int32) (x4 : Int64) (x6 : Int32), f_solve_161 N k47 n σ x1 x2 x3 x4 x6 = some σ' → ∀ (H : Heap) (locs : List Loc), mP E σ H → va_S (mA E s.heap.size) s.heap H locs → ∀ ls : Array Slot, lv_has ls 10 [(0, .ref (mh E)), (1, .int x1), (2, .int x2), (3, .int x3), (4, .long x4), (6, .int x6)] → W p l e R s m args below meth c H locs 0 0 (MQ below (mQv E s.heap.size σ') args s 0 0 (mA E s.heap.size)) (F0 m 161 ls []) := by
  obtain ⟨⟨hx, hb, hml, hown, hts⟩, hK, hD, hr, hlk⟩ := id hC
  intro n
  induction n with
  | zero =>
    intro σ x1 x2 x3 x4 x6 h
    cases h
  | succ n ih =>
    intro σ x1 x2 x3 x4 x6 h H locs hP hS ls hl
    unfold f_solve_161 at h
    refine lv_iload hx hb dX3_solve_161 (lv_at hl 5 rfl) ?_
    refine lv_if_eq (tgt := 270) hx hb dX3_solve_163 (by decide) (fun c1 => ?_) (fun c1 => ?_)
    · have h := mif_t c1 h
      exact w_solve_270 hC hR N k47 hk47 σ x1 x2 x3 h hP hS (lv_sub hl [0, 1, 2, 3] rfl)
    · have h := mif_f c1 h
      refine lv_iconst (v := 0) hx hb dX3_solve_166 (by decide) ?_
      refine lv_istore (lv' := [(6, .int 0), (0, .ref (mh E)), (1, .int x1), (2, .int x2), (3, .int x3), (4, .long x4)]) hx hb dX3_solve_167 hl (by decide) rfl (fun ls hl => ?_)
      refine lv_iconst (v := 0) hx hb dX3_solve_169 (by decide) ?_
      refine lv_istore (lv' := [(7, .int 0), (6, .int 0), (0, .ref (mh E)), (1, .int x1), (2, .int x2), (3, .int x3), (4, .long x4)]) hx hb dX3_solve_170 hl (by decide) rfl (fun ls hl => ?_)
      exact w_solve_172 hC hR N k47 hk47 (f_solve_161 N k47 n) ih N σ x1 x2 x3 x4 0 0 h _ _ hP hS _ (lv_sub hl [2, 3, 4, 5, 6, 1, 0] rfl)
def f_solve_156 (N : Nat) (k47 : MS → Int32 → Int32 → Int32 → Option (MS)) (σ : MS) (x1 : Int32) (x2 : Int32) (x3 : Int32) (s0 : Int64) : Option (MS) :=
    f_solve_161 N k47 N σ x1 x2 x3 s0 1
set_option maxHeartbeats 4000000 in
set_option maxRecDepth 100000 in
theorem w_solve_156 {p : Program} {l : Launch} {e : Env} {R : Room} {s : State} {m : MethodId} {args : Array Value} {below : List Frame} {meth : Method} {c : Code} {E : mE} {σ' : MS} (hC : mC p s m args meth c E cX3_solve 10 none) (hR : 5 ≤ R.frames ∧ 123 ≤ R.locals) (N : Nat) (k47 : MS → Int32 → Int32 → Int32 → Option (MS)) (hk47 : ∀ (σ : MS) (x1 : Int32) (x2 : Int32) (x3 : Int32), k47 σ x1 x2 x3 = some σ' → ∀ (H : Heap) (locs : List Loc), mP E σ H → va_S (mA E s.heap.size) s.heap H locs → ∀ ls : Array Slot, lv_has ls 10 [(0, .ref (mh E)), (1, .int x1), (2, .int x2), (3, .int x3)] → W p l e R s m args below meth c H locs 0 0 (MQ below (mQv E s.heap.size σ') args s 0 0 (mA E s.heap.size)) (F0 m 47 ls [])) (σ : MS) (x1 : Int32) (x2 : Int32) (x3 : Int32) (s0 : Int64) (h : f_solve_156 N k47 σ x1 x2 x3 s0 = some σ') {H : Heap} {locs : List Loc} (hP : mP E σ H) (hS : va_S (mA E s.heap.size) s.heap H locs) {ls : Array Slot} (hl : lv_has ls 10 [(0, .ref (mh E)), (1, .int x1), (2, .int x2), (3, .int x3)]) : W p l e R s m args below meth c H locs 0 0 (MQ below (mQv E s.heap.size σ') args s 0 0 (mA E s.heap.size)) (F0 m 156 ls [.long s0]) := by
  obtain ⟨⟨hx, hb, hml, hown, hts⟩, hK, hD, hr, hlk⟩ := id hC
  unfold f_solve_156 at h
  refine lv_lstore (lv' := [(4, .long s0), (0, .ref (mh E)), (1, .int x1), (2, .int x2), (3, .int x3)]) hx hb dX3_solve_156 hl (by decide) rfl (fun ls hl => ?_)
  refine lv_iconst (v := 1) hx hb dX3_solve_158 (by decide) ?_
  refine lv_istore (lv' := [(6, .int 1), (4, .long s0), (0, .ref (mh E)), (1, .int x1), (2, .int x2), (3, .int x3)]) hx hb dX3_solve_159 hl (by decide) rfl (fun ls hl => ?_)
  exact w_solve_161 hC hR N k47 hk47 N σ x1 x2 x3 s0 1 h _ _ hP hS _ (lv_sub hl [2, 3, 4, 5, 1, 0] rfl)
def f_solve_136 (N : Nat) (k47 : MS → Int32 → Int32 → Int32 → Option (MS)) (k70 : MS → Int32 → Int32 → Int32 → Int32 → Option (MS)) (σ : MS) (x1 : Int32) (x2 : Int32) (x3 : Int32) (x4 : Int32) (s0 : Int64) (s1 : Int32) : Option (MS) :=
    if mIn s1 (102400) = true then mlet (mVal σ s1.toNatClampNeg s0) fun σ2 =>
    mlet (x4 + 1) fun y3 =>
    k70 σ2 x1 x2 x3 y3
    else none
set_option maxHeartbeats 4000000 in
set_option maxRecDepth 100000 in
theorem w_solve_136 {p : Program} {l : Launch} {e : Env} {R : Room} {s : State} {m : MethodId} {args : Array Value} {below : List Frame} {meth : Method} {c : Code} {E : mE} {σ' : MS} (hC : mC p s m args meth c E cX3_solve 10 none) (hR : 5 ≤ R.frames ∧ 123 ≤ R.locals) (N : Nat) (k47 : MS → Int32 → Int32 → Int32 → Option (MS)) (hk47 : ∀ (σ : MS) (x1 : Int32) (x2 : Int32) (x3 : Int32), k47 σ x1 x2 x3 = some σ' → ∀ (H : Heap) (locs : List Loc), mP E σ H → va_S (mA E s.heap.size) s.heap H locs → ∀ ls : Array Slot, lv_has ls 10 [(0, .ref (mh E)), (1, .int x1), (2, .int x2), (3, .int x3)] → W p l e R s m args below meth c H locs 0 0 (MQ below (mQv E s.heap.size σ') args s 0 0 (mA E s.heap.size)) (F0 m 47 ls [])) (k70 : MS → Int32 → Int32 → Int32 → Int32 → Option (MS)) (hk70 : ∀ (σ : MS) (x1 : Int32) (x2 : Int32) (x3 : Int32) (x4 : Int32), k70 σ x1 x2 x3 x4 = some σ' → ∀ (H : Heap) (locs : List Loc), mP E σ H → va_S (mA E s.heap.size) s.heap H locs → ∀ ls : Array Slot, lv_has ls 10 [(0, .ref (mh E)), (1, .int x1), (2, .int x2), (3, .int x3), (4, .int x4)] → W p l e R s m args below meth c H locs 0 0 (MQ below (mQv E s.heap.size σ') args s 0 0 (mA E s.heap.size)) (F0 m 70 ls [])) (σ : MS) (x1 : Int32) (x2 : Int32) (x3 : Int32) (x4 : Int32) (s0 : Int64) (s1 : Int32) (h : f_solve_136 N k47 k70 σ x1 x2 x3 x4 s0 s1 = some σ') {H : Heap} {locs : List Loc} (hP : mP E σ H) (hS : va_S (mA E s.heap.size) s.heap H locs) {ls : Array Slot} (hl : lv_has ls 10 [(0, .ref (mh E)), (1, .int x1), (2, .int x2), (3, .int x3), (4, .int x4)]) : W p l e R s m args below meth c H locs 0 0 (MQ below (mQv E s.heap.size σ') args s 0 0 (mA E s.heap.size)) (F0 m 136 ls [.long s0, .int s1, .ref (mad E 48)]) := by
  obtain ⟨⟨hx, hb, hml, hown, hts⟩, hK, hD, hr, hlk⟩ := id hC
  unfold f_solve_136 at h
  obtain ⟨c1, h⟩ := mif_n h
  refine m_lst hC hP hS c1 dX3_solve_136 (fun H locs hP hS => ?_)
  obtain ⟨σ2, eσ2⟩ : ∃ z : MS, z = mVal σ s1.toNatClampNeg s0 := ⟨_, rfl⟩
  rw [← eσ2] at hP
  have h := mlet_at eσ2 h
  obtain ⟨y3, ey3⟩ : ∃ z : Int32, z = x4 + 1 := ⟨_, rfl⟩
  have h := mlet_at ey3 h
  refine lv_iinc (v := y3) (lv' := [(4, .int y3), (0, .ref (mh E)), (1, .int x1), (2, .int x2), (3, .int x3)]) hx hb dX3_solve_137 hl (k := 4) rfl (by rw [ey3]; rfl) (by decide) rfl (fun ls hl => ?_)
  refine lv_goto (tgt := 70) hx hb dX3_solve_140 (by decide) ?_
  exact hk70 σ2 x1 x2 x3 y3 h _ _ hP hS _ (lv_sub hl [1, 2, 3, 4, 0] rfl)
def f_solve_70 (N : Nat) (k47 : MS → Int32 → Int32 → Int32 → Option (MS)) : Nat → MS → Int32 → Int32 → Int32 → Int32 → Option (MS)
  | 0, _, _, _, _, _ => none
  | n + 1, σ, x1, x2, x3, x4 =>
    if ((σ.1 35) * (σ.1 36)) ≤ x4 then
    if x2 = 0 then
    f_solve_156 N k47 σ x1 x2 x3 1
    else
    mcall (f_left N σ x3) fun r5 σ3 =>
    f_solve_156 N k47 σ3 x1 x2 x3 r5
    else
    mcall (f_news N σ x4 x3) fun r8 σ6 =>
    if x4 = x1 then
    f_solve_136 N k47 (f_solve_70 N k47 n) σ6 x1 x2 x3 x4 0 ((100 * x3) + x4)
    else
    if r8 = (-1) then
    f_solve_136 N k47 (f_solve_70 N k47 n) σ6 x1 x2 x3 x4 1000000000000000 ((100 * x3) + x4)
    else
    mcall (f_over N σ6 x3 x4 r8 x2) fun r13 σ11 =>
    f_solve_136 N k47 (f_solve_70 N k47 n) σ11 x1 x2 x3 x4 r13 ((100 * x3) + x4)
set_option maxHeartbeats 4000000 in
set_option maxRecDepth 100000 in
theorem w_solve_70 {p : Program} {l : Launch} {e : Env} {R : Room} {s : State} {m : MethodId} {args : Array Value} {below : List Frame} {meth : Method} {c : Code} {E : mE} {σ' : MS} (hC : mC p s m args meth c E cX3_solve 10 none) (hR : 5 ≤ R.frames ∧ 123 ≤ R.locals) (N : Nat) (k47 : MS → Int32 → Int32 → Int32 → Option (MS)) (hk47 : ∀ (σ : MS) (x1 : Int32) (x2 : Int32) (x3 : Int32), k47 σ x1 x2 x3 = some σ' → ∀ (H : Heap) (locs : List Loc), mP E σ H → va_S (mA E s.heap.size) s.heap H locs → ∀ ls : Array Slot, lv_has ls 10 [(0, .ref (mh E)), (1, .int x1), (2, .int x2), (3, .int x3)] → W p l e R s m args below meth c H locs 0 0 (MQ below (mQv E s.heap.size σ') args s 0 0 (mA E s.heap.size)) (F0 m 47 ls [])) : ∀ (n : Nat) (σ : MS) (x1 : Int32) (x2 : Int32) (x3 : Int32) (x4 : Int32), f_solve_70 N k47 n σ x1 x2 x3 x4 = some σ' → ∀ (H : Heap) (locs : List Loc), mP E σ H → va_S (mA E s.heap.size) s.heap H locs → ∀ ls : Array Slot, lv_has ls 10 [(0, .ref (mh E)), (1, .int x1), (2, .int x2), (3, .int x3), (4, .int x4)] → W p l e R s m args below meth c H locs 0 0 (MQ below (mQv E s.heap.size σ') args s 0 0 (mA E s.heap.size)) (F0 m 70 ls []) := by
  obtain ⟨⟨hx, hb, hml, hown, hts⟩, hK, hD, hr, hlk⟩ := id hC
  intro n
  induction n with
  | zero =>
    intro σ x1 x2 x3 x4 h
    cases h
  | succ n ih =>
    intro σ x1 x2 x3 x4 h H locs hP hS ls hl
    unfold f_solve_70 at h
    refine lv_iload hx hb dX3_solve_70 (lv_at hl 4 rfl) ?_
    refine lv_aload_n hx hb dX3_solve_72 rfl (lv_at hl 0 rfl) ?_
    refine m_geti hC hP 35 (by decide) rfl q1928 dX3_solve_73 ?_
    refine lv_aload_n hx hb dX3_solve_76 rfl (lv_at hl 0 rfl) ?_
    refine m_geti hC hP 36 (by decide) rfl q1929 dX3_solve_77 ?_
    refine lv_imul hx hb dX3_solve_80 ?_
    refine lv_icmp_ge (tgt := 143) hx hb dX3_solve_81 (by decide) (fun c1 => ?_) (fun c1 => ?_)
    · have h := mif_t c1 h
      refine lv_iload_n hx hb dX3_solve_143 rfl (lv_at hl 2 rfl) ?_
      refine lv_if_eq (tgt := 155) hx hb dX3_solve_144 (by decide) (fun c2 => ?_) (fun c2 => ?_)
      · have h := mif_t c2 h
        refine lv_lconst (v := 1) hx hb dX3_solve_155 (by decide) ?_
        exact w_solve_156 hC hR N k47 hk47 σ x1 x2 x3 1 h hP hS (lv_sub hl [0, 1, 2, 3] rfl)
      · have h := mif_f c2 h
        refine lv_aload_n hx hb dX3_solve_147 rfl (lv_at hl 0 rfl) ?_
        refine lv_iload_n hx hb dX3_solve_148 rfl (lv_at hl 3 rfl) ?_
        obtain ⟨r5, σ3, c4, h⟩ := mcall_n h
        refine m_calll (As := [.int x3]) (rest := []) hC (met_left l N E H.size σ x3 r5 σ3 c4) (cwV 1 hts (lw_V q2387 q2389 qs78 q103 q2390) rfl rfl rfl (by decide +kernel) ⟨Nat.le_trans (Nat.le_of_ble_eq_true rfl) hR.1, Nat.le_trans (Nat.le_of_ble_eq_true rfl) hR.2⟩) hP hS rfl hl.1 rfl (Nat.le_of_ble_eq_true rfl) dX3_solve_149 (fun H locs hP hS => ?_)
        refine lv_goto (tgt := 156) hx hb dX3_solve_152 (by decide) ?_
        exact w_solve_156 hC hR N k47 hk47 σ3 x1 x2 x3 r5 h hP hS (lv_sub hl [0, 1, 2, 3] rfl)
    · have h := mif_f c1 h
      refine lv_aload_n hx hb dX3_solve_84 rfl (lv_at hl 0 rfl) ?_
      refine lv_iload hx hb dX3_solve_85 (lv_at hl 4 rfl) ?_
      refine lv_iload_n hx hb dX3_solve_87 rfl (lv_at hl 3 rfl) ?_
      obtain ⟨r8, σ6, c7, h⟩ := mcall_n h
      refine m_calli (As := [.int x4, .int x3]) (rest := []) hC (met_news l N E H.size σ x4 x3 r8 σ6 c7) (cwV 2 hts (lw_V q2371 q2373 qs75 q103 q2374) rfl rfl rfl (by decide +kernel) ⟨Nat.le_trans (Nat.le_of_ble_eq_true rfl) hR.1, Nat.le_trans (Nat.le_of_ble_eq_true rfl) hR.2⟩) hP hS rfl hl.1 rfl (Nat.le_of_ble_eq_true rfl) dX3_solve_88 (fun H locs hP hS => ?_)
      refine lv_istore (lv' := [(5, .int r8), (0, .ref (mh E)), (1, .int x1), (2, .int x2), (3, .int x3), (4, .int x4)]) hx hb dX3_solve_91 hl (by decide) rfl (fun ls hl => ?_)
      refine lv_aload_n hx hb dX3_solve_93 rfl (lv_at hl 1 rfl) ?_
      refine m_geta hC hP 48 (by decide) rfl q1941 dX3_solve_94 ?_
      refine lv_bipush (v := 100) hx hb dX3_solve_97 (by decide) ?_
      refine lv_iload_n hx hb dX3_solve_99 rfl (lv_at hl 4 rfl) ?_
      refine lv_imul hx hb dX3_solve_100 ?_
      refine lv_iload hx hb dX3_solve_101 (lv_at hl 5 rfl) ?_
      refine lv_iadd hx hb dX3_solve_103 ?_
      refine lv_iload hx hb dX3_solve_104 (lv_at hl 5 rfl) ?_
      refine lv_iload_n hx hb dX3_solve_106 rfl (lv_at hl 2 rfl) ?_
      refine lv_icmp_ne (tgt := 114) hx hb dX3_solve_107 (by decide) (fun c9 => ?_) (fun c9 => ?_)
      · have h := mif_f c9 h
        refine lv_iload hx hb dX3_solve_114 (lv_at hl 0 rfl) ?_
        refine lv_iconst (v := (-1)) hx hb dX3_solve_116 (by decide) ?_
        refine lv_icmp_ne (tgt := 126) hx hb dX3_solve_117 (by decide) (fun c10 => ?_) (fun c10 => ?_)
        · have h := mif_f c10 h
          refine lv_aload_n hx hb dX3_solve_126 rfl (lv_at hl 1 rfl) ?_
          refine lv_iload_n hx hb dX3_solve_127 rfl (lv_at hl 4 rfl) ?_
          refine lv_iload hx hb dX3_solve_128 (lv_at hl 5 rfl) ?_
          refine lv_iload hx hb dX3_solve_130 (lv_at hl 0 rfl) ?_
          refine lv_iload_n hx hb dX3_solve_132 rfl (lv_at hl 3 rfl) ?_
          obtain ⟨r13, σ11, c12, h⟩ := mcall_n h
          refine m_calll (As := [.int x3, .int x4, .int r8, .int x2]) (rest := [.int ((100 * x3) + x4), .ref (mad E 48)]) hC (met_over l N E H.size σ6 x3 x4 r8 x2 r13 σ11 c12) (cwV 4 hts (lw_V q2376 q2378 qs76 q103 q2379) rfl rfl rfl (by decide +kernel) ⟨Nat.le_trans (Nat.le_of_ble_eq_true rfl) hR.1, Nat.le_trans (Nat.le_of_ble_eq_true rfl) hR.2⟩) hP hS rfl hl.1 rfl (Nat.le_of_ble_eq_true rfl) dX3_solve_133 (fun H locs hP hS => ?_)
          exact w_solve_136 hC hR N k47 hk47 (f_solve_70 N k47 n) ih σ11 x1 x2 x3 x4 r13 ((100 * x3) + x4) h hP hS (lv_sub hl [1, 2, 3, 4, 5] rfl)
        · have h := mif_t c10 h
          refine lv_ldc2 hx hb hown (hts _ q2375) dX3_solve_120 ?_
          refine lv_goto (tgt := 136) hx hb dX3_solve_123 (by decide) ?_
          exact w_solve_136 hC hR N k47 hk47 (f_solve_70 N k47 n) ih σ6 x1 x2 x3 x4 1000000000000000 ((100 * x3) + x4) h hP hS (lv_sub hl [1, 2, 3, 4, 5] rfl)
      · have h := mif_t c9 h
        refine lv_lconst (v := 0) hx hb dX3_solve_110 (by decide) ?_
        refine lv_goto (tgt := 136) hx hb dX3_solve_111 (by decide) ?_
        exact w_solve_136 hC hR N k47 hk47 (f_solve_70 N k47 n) ih σ6 x1 x2 x3 x4 0 ((100 * x3) + x4) h hP hS (lv_sub hl [1, 2, 3, 4, 5] rfl)
def f_solve_47 (N : Nat) : Nat → MS → Int32 → Int32 → Int32 → Option (MS)
  | 0, _, _, _, _ => none
  | n + 1, σ, x1, x2, x3 =>
    if x3 < 0 then
    some σ
    else
    mcall (f_canBe N σ x3) fun r4 σ2 =>
    if r4 = 0 then
    f_solve_270 N (f_solve_47 N n) σ2 x1 x2 x3
    else
    mcallv (f_lays N σ2 x3) fun σ6 =>
    f_solve_70 N (f_solve_47 N n) N σ6 x1 x2 x3 0
set_option maxHeartbeats 4000000 in
set_option maxRecDepth 100000 in
theorem w_solve_47 {p : Program} {l : Launch} {e : Env} {R : Room} {s : State} {m : MethodId} {args : Array Value} {below : List Frame} {meth : Method} {c : Code} {E : mE} {σ' : MS} (hC : mC p s m args meth c E cX3_solve 10 none) (hR : 5 ≤ R.frames ∧ 123 ≤ R.locals) (N : Nat) : ∀ (n : Nat) (σ : MS) (x1 : Int32) (x2 : Int32) (x3 : Int32), f_solve_47 N n σ x1 x2 x3 = some σ' → ∀ (H : Heap) (locs : List Loc), mP E σ H → va_S (mA E s.heap.size) s.heap H locs → ∀ ls : Array Slot, lv_has ls 10 [(0, .ref (mh E)), (1, .int x1), (2, .int x2), (3, .int x3)] → W p l e R s m args below meth c H locs 0 0 (MQ below (mQv E s.heap.size σ') args s 0 0 (mA E s.heap.size)) (F0 m 47 ls []) := by
  obtain ⟨⟨hx, hb, hml, hown, hts⟩, hK, hD, hr, hlk⟩ := id hC
  intro n
  induction n with
  | zero =>
    intro σ x1 x2 x3 h
    cases h
  | succ n ih =>
    intro σ x1 x2 x3 h H locs hP hS ls hl
    unfold f_solve_47 at h
    refine lv_iload_n hx hb dX3_solve_47 rfl (lv_at hl 3 rfl) ?_
    refine lv_if_lt (tgt := 276) hx hb dX3_solve_48 (by decide) (fun c1 => ?_) (fun c1 => ?_)
    · have h := mif_t c1 h
      cases h
      exact m_vret hC hP hS dX3_solve_276
    · have h := mif_f c1 h
      refine lv_aload_n hx hb dX3_solve_51 rfl (lv_at hl 0 rfl) ?_
      refine lv_iload_n hx hb dX3_solve_52 rfl (lv_at hl 3 rfl) ?_
      obtain ⟨r4, σ2, c3, h⟩ := mcall_n h
      refine m_calli (As := [.int x3]) (rest := []) hC (met_canBe l N E H.size σ x3 r4 σ2 c3) (cwV 1 hts (lw_V q2356 q2358 qs72 q103 q2359) rfl rfl rfl (by decide +kernel) ⟨Nat.le_trans (Nat.le_of_ble_eq_true rfl) hR.1, Nat.le_trans (Nat.le_of_ble_eq_true rfl) hR.2⟩) hP hS rfl hl.1 rfl (Nat.le_of_ble_eq_true rfl) dX3_solve_53 (fun H locs hP hS => ?_)
      refine lv_if_ne (tgt := 62) hx hb dX3_solve_56 (by decide) (fun c5 => ?_) (fun c5 => ?_)
      · have h := mif_f c5 h
        refine lv_aload_n hx hb dX3_solve_62 rfl (lv_at hl 0 rfl) ?_
        refine lv_iload_n hx hb dX3_solve_63 rfl (lv_at hl 3 rfl) ?_
        obtain ⟨σ6, c7, h⟩ := mcallv_n h
        refine m_callv (As := [.int x3]) (rest := []) hC (met_lays l N E H.size σ2 x3 σ6 c7) (cwV 1 hts (lw_V q2363 q2365 qs73 q103 q2366) rfl rfl rfl (by decide +kernel) ⟨Nat.le_trans (Nat.le_of_ble_eq_true rfl) hR.1, Nat.le_trans (Nat.le_of_ble_eq_true rfl) hR.2⟩) hP hS rfl hl.1 rfl (Nat.le_of_ble_eq_true rfl) dX3_solve_64 (fun H locs hP hS => ?_)
        refine lv_iconst (v := 0) hx hb dX3_solve_67 (by decide) ?_
        refine lv_istore (lv' := [(4, .int 0), (0, .ref (mh E)), (1, .int x1), (2, .int x2), (3, .int x3)]) hx hb dX3_solve_68 hl (by decide) rfl (fun ls hl => ?_)
        exact w_solve_70 hC hR N (f_solve_47 N n) ih N σ6 x1 x2 x3 0 h _ _ hP hS _ (lv_sub hl [1, 2, 3, 4, 0] rfl)
      · have h := mif_t c5 h
        refine lv_goto (tgt := 270) hx hb dX3_solve_59 (by decide) ?_
        exact w_solve_270 hC hR N (f_solve_47 N n) ih σ2 x1 x2 x3 h hP hS (lv_sub hl [0, 1, 2, 3] rfl)
def f_solve_24 (N : Nat) (σ : MS) (x1 : Int32) (x2 : Int32) : Option (MS) :=
    mlet (mSet σ 51 1) fun σ1 =>
    mlet (mSet σ1 49 x1) fun σ2 =>
    if mBit x2 = true then
    mlet (mSet σ2 50 x2) fun σ4 =>
    mcallv (f_prepares N σ4) fun σ5 =>
    f_solve_47 N N σ5 x1 x2 1023
    else none
set_option maxHeartbeats 4000000 in
set_option maxRecDepth 100000 in
theorem w_solve_24 {p : Program} {l : Launch} {e : Env} {R : Room} {s : State} {m : MethodId} {args : Array Value} {below : List Frame} {meth : Method} {c : Code} {E : mE} {σ' : MS} (hC : mC p s m args meth c E cX3_solve 10 none) (hR : 5 ≤ R.frames ∧ 123 ≤ R.locals) (N : Nat) (σ : MS) (x1 : Int32) (x2 : Int32) (h : f_solve_24 N σ x1 x2 = some σ') {H : Heap} {locs : List Loc} (hP : mP E σ H) (hS : va_S (mA E s.heap.size) s.heap H locs) {ls : Array Slot} (hl : lv_has ls 10 [(0, .ref (mh E)), (1, .int x1), (2, .int x2)]) : W p l e R s m args below meth c H locs 0 0 (MQ below (mQv E s.heap.size σ') args s 0 0 (mA E s.heap.size)) (F0 m 24 ls []) := by
  obtain ⟨⟨hx, hb, hml, hown, hts⟩, hK, hD, hr, hlk⟩ := id hC
  unfold f_solve_24 at h
  refine lv_aload_n hx hb dX3_solve_24 rfl (lv_at hl 0 rfl) ?_
  refine lv_iconst (v := 1) hx hb dX3_solve_25 (by decide) ?_
  refine m_put hC hP hS 51 (by decide) rfl q1944 rfl (ty := .boolean) (tyX3_ok 51 (by decide)) (mBit_n rfl) dX3_solve_26 (fun H locs hP hS => ?_)
  obtain ⟨σ1, eσ1⟩ : ∃ z : MS, z = mSet σ 51 1 := ⟨_, rfl⟩
  rw [← eσ1] at hP
  have h := mlet_at eσ1 h
  refine lv_aload_n hx hb dX3_solve_29 rfl (lv_at hl 0 rfl) ?_
  refine lv_iload_n hx hb dX3_solve_30 rfl (lv_at hl 1 rfl) ?_
  refine m_put hC hP hS 49 (by decide) rfl q1942 rfl (ty := .int) (tyX3_ok 49 (by decide)) ⟨rfl, rfl⟩ dX3_solve_31 (fun H locs hP hS => ?_)
  obtain ⟨σ2, eσ2⟩ : ∃ z : MS, z = mSet σ1 49 x1 := ⟨_, rfl⟩
  rw [← eσ2] at hP
  have h := mlet_at eσ2 h
  refine lv_aload_n hx hb dX3_solve_34 rfl (lv_at hl 0 rfl) ?_
  refine lv_iload_n hx hb dX3_solve_35 rfl (lv_at hl 2 rfl) ?_
  obtain ⟨c3, h⟩ := mif_n h
  refine m_put hC hP hS 50 (by decide) rfl q1943 rfl (ty := .boolean) (tyX3_ok 50 (by decide)) (mBit_n c3) dX3_solve_36 (fun H locs hP hS => ?_)
  obtain ⟨σ4, eσ4⟩ : ∃ z : MS, z = mSet σ2 50 x2 := ⟨_, rfl⟩
  rw [← eσ4] at hP
  have h := mlet_at eσ4 h
  refine lv_aload_n hx hb dX3_solve_39 rfl (lv_at hl 0 rfl) ?_
  obtain ⟨σ5, c6, h⟩ := mcallv_n h
  refine m_callv (As := []) (rest := []) hC (met_prepares l N E H.size σ4 σ5 c6) (cwV 0 hts (lw_V q2344 q2346 qs69 q103 q2347) rfl rfl rfl (by decide +kernel) ⟨Nat.le_trans (Nat.le_of_ble_eq_true rfl) hR.1, Nat.le_trans (Nat.le_of_ble_eq_true rfl) hR.2⟩) hP hS rfl hl.1 rfl (Nat.le_of_ble_eq_true rfl) dX3_solve_40 (fun H locs hP hS => ?_)
  refine lv_sipush (v := 1023) hx hb dX3_solve_43 (by decide) ?_
  refine lv_istore_n (lv' := [(3, .int 1023), (0, .ref (mh E)), (1, .int x1), (2, .int x2)]) hx hb dX3_solve_46 rfl hl (by decide) rfl (fun ls hl => ?_)
  exact w_solve_47 hC hR N N σ5 x1 x2 1023 h _ _ hP hS _ (lv_sub hl [1, 2, 3, 0] rfl)
def f_solve (N : Nat) (σ : MS) (x1 : Int32) (x2 : Int32) : Option (MS) :=
    if (σ.1 51) = 0 then
    f_solve_24 N σ x1 x2
    else
    if (σ.1 49) = x1 then
    if (σ.1 50) = x2 then
    some σ
    else
    f_solve_24 N σ x1 x2
    else
    f_solve_24 N σ x1 x2
set_option maxHeartbeats 4000000 in
set_option maxRecDepth 100000 in
theorem w_solve_0 {p : Program} {l : Launch} {e : Env} {R : Room} {s : State} {m : MethodId} {args : Array Value} {below : List Frame} {meth : Method} {c : Code} {E : mE} {σ' : MS} (hC : mC p s m args meth c E cX3_solve 10 none) (hR : 5 ≤ R.frames ∧ 123 ≤ R.locals) (N : Nat) (σ : MS) (x1 : Int32) (x2 : Int32) (h : f_solve N σ x1 x2 = some σ') {H : Heap} {locs : List Loc} (hP : mP E σ H) (hS : va_S (mA E s.heap.size) s.heap H locs) {ls : Array Slot} (hl : lv_has ls 10 [(0, .ref (mh E)), (1, .int x1), (2, .int x2)]) : W p l e R s m args below meth c H locs 0 0 (MQ below (mQv E s.heap.size σ') args s 0 0 (mA E s.heap.size)) (F0 m 0 ls []) := by
  obtain ⟨⟨hx, hb, hml, hown, hts⟩, hK, hD, hr, hlk⟩ := id hC
  unfold f_solve at h
  refine lv_aload_n hx hb dX3_solve_0 rfl (lv_at hl 0 rfl) ?_
  refine m_geti hC hP 51 (by decide) rfl q1944 dX3_solve_1 ?_
  refine lv_if_eq (tgt := 24) hx hb dX3_solve_4 (by decide) (fun c1 => ?_) (fun c1 => ?_)
  · have h := mif_t c1 h
    exact w_solve_24 hC hR N σ x1 x2 h hP hS (lv_sub hl [0, 1, 2] rfl)
  · have h := mif_f c1 h
    refine lv_aload_n hx hb dX3_solve_7 rfl (lv_at hl 0 rfl) ?_
    refine m_geti hC hP 49 (by decide) rfl q1942 dX3_solve_8 ?_
    refine lv_iload_n hx hb dX3_solve_11 rfl (lv_at hl 1 rfl) ?_
    refine lv_icmp_ne (tgt := 24) hx hb dX3_solve_12 (by decide) (fun c2 => ?_) (fun c2 => ?_)
    · have h := mif_f c2 h
      exact w_solve_24 hC hR N σ x1 x2 h hP hS (lv_sub hl [0, 1, 2] rfl)
    · have h := mif_t c2 h
      refine lv_aload_n hx hb dX3_solve_15 rfl (lv_at hl 0 rfl) ?_
      refine m_geti hC hP 50 (by decide) rfl q1943 dX3_solve_16 ?_
      refine lv_iload_n hx hb dX3_solve_19 rfl (lv_at hl 2 rfl) ?_
      refine lv_icmp_ne (tgt := 24) hx hb dX3_solve_20 (by decide) (fun c3 => ?_) (fun c3 => ?_)
      · have h := mif_f c3 h
        exact w_solve_24 hC hR N σ x1 x2 h hP hS (lv_sub hl [0, 1, 2] rfl)
      · have h := mif_t c3 h
        cases h
        exact m_vret hC hP hS dX3_solve_23
theorem met_solve (l : Launch) (N : Nat) (E : mE) (sz : Nat) (σ : MS) (x1 : Int32) (x2 : Int32) (σ' : MS) (h : f_solve N σ x1 x2 = some σ') : Met l yX3_solve (ws_ yX3_solve cX3_solve 10 none) ({ frames := 5, cells := 0, slots := 0, locals := 123 }) (mPc E sz σ [.ref (mh E), .int x1, .int x2]) (mQv E sz σ') 0 0 (mA E sz) :=
  m_met (Qc := fun z => mQv E z σ') (by decide) rfl (Nat.le_of_ble_eq_true rfl) (fun hC ls hl hP => w_solve_0 hC ⟨Nat.le_refl _, Nat.le_refl _⟩ N σ x1 x2 h hP va_S.rf hl)
def f_base_54 (N : Nat) (k4 : MS → Int32 → Int32 → Option (Int32 × MS)) (k14 : MS → Int32 → Int32 → Int32 → Option (Int32 × MS)) (σ : MS) (x1 : Int32) (x2 : Int32) (x3 : Int32) : Option (Int32 × MS) :=
    mlet (x3 + 1) fun y1 =>
    k14 σ x1 x2 y1
set_option maxHeartbeats 4000000 in
set_option maxRecDepth 100000 in
theorem w_base_54 {p : Program} {l : Launch} {e : Env} {R : Room} {s : State} {m : MethodId} {args : Array Value} {below : List Frame} {meth : Method} {c : Code} {E : mE} {σ' : MS} {r : Int32} (hC : mC p s m args meth c E cX3_base 4 (some .int)) (hR : 1 ≤ R.frames ∧ 20 ≤ R.locals) (N : Nat) (k4 : MS → Int32 → Int32 → Option (Int32 × MS)) (hk4 : ∀ (σ : MS) (x1 : Int32) (x2 : Int32), k4 σ x1 x2 = some (r, σ') → ∀ (H : Heap) (locs : List Loc), mP E σ H → va_S (mA E s.heap.size) s.heap H locs → ∀ ls : Array Slot, lv_has ls 4 [(0, .ref (mh E)), (1, .int x1), (2, .int x2)] → W p l e R s m args below meth c H locs 0 0 (MQ below (mQi E s.heap.size r σ') args s 0 0 (mA E s.heap.size)) (F0 m 4 ls [])) (k14 : MS → Int32 → Int32 → Int32 → Option (Int32 × MS)) (hk14 : ∀ (σ : MS) (x1 : Int32) (x2 : Int32) (x3 : Int32), k14 σ x1 x2 x3 = some (r, σ') → ∀ (H : Heap) (locs : List Loc), mP E σ H → va_S (mA E s.heap.size) s.heap H locs → ∀ ls : Array Slot, lv_has ls 4 [(0, .ref (mh E)), (1, .int x1), (2, .int x2), (3, .int x3)] → W p l e R s m args below meth c H locs 0 0 (MQ below (mQi E s.heap.size r σ') args s 0 0 (mA E s.heap.size)) (F0 m 14 ls [])) (σ : MS) (x1 : Int32) (x2 : Int32) (x3 : Int32) (h : f_base_54 N k4 k14 σ x1 x2 x3 = some (r, σ')) {H : Heap} {locs : List Loc} (hP : mP E σ H) (hS : va_S (mA E s.heap.size) s.heap H locs) {ls : Array Slot} (hl : lv_has ls 4 [(0, .ref (mh E)), (1, .int x1), (2, .int x2), (3, .int x3)]) : W p l e R s m args below meth c H locs 0 0 (MQ below (mQi E s.heap.size r σ') args s 0 0 (mA E s.heap.size)) (F0 m 54 ls []) := by
  obtain ⟨⟨hx, hb, hml, hown, hts⟩, hK, hD, hr, hlk⟩ := id hC
  unfold f_base_54 at h
  obtain ⟨y1, ey1⟩ : ∃ z : Int32, z = x3 + 1 := ⟨_, rfl⟩
  have h := mlet_at ey1 h
  refine lv_iinc (v := y1) (lv' := [(3, .int y1), (0, .ref (mh E)), (1, .int x1), (2, .int x2)]) hx hb dX3_base_54 hl (k := 3) rfl (by rw [ey1]; rfl) (by decide) rfl (fun ls hl => ?_)
  refine lv_goto (tgt := 14) hx hb dX3_base_57 (by decide) ?_
  exact hk14 σ x1 x2 y1 h _ _ hP hS _ (lv_sub hl [1, 2, 3, 0] rfl)
def f_base_14 (N : Nat) (k4 : MS → Int32 → Int32 → Option (Int32 × MS)) : Nat → MS → Int32 → Int32 → Int32 → Option (Int32 × MS)
  | 0, _, _, _, _ => none
  | n + 1, σ, x1, x2, x3 =>
    if mIn x2 (mLen 53) = true then mlet (σ.2.1 53 x2.toNatClampNeg) fun y2 =>
    if y2 ≤ x3 then
    mlet (x2 + 1) fun y4 =>
    k4 σ x1 y4
    else
    if mIn x2 (mLen 45) = true then mlet (σ.2.1 45 x2.toNatClampNeg) fun y6 =>
    if mIn ((4 * x2) + x3) (mLen 52) = true then mlet (σ.2.1 52 ((4 * x2) + x3).toNatClampNeg) fun y8 =>
    if y6 = y8 then
    mcall (f_power N σ x2) fun r12 σ10 =>
    mlet (x1 + ((x3 + 1) * r12)) fun y13 =>
    f_base_54 N k4 (f_base_14 N k4 n) σ10 y13 x2 x3
    else
    f_base_54 N k4 (f_base_14 N k4 n) σ x1 x2 x3
    else none
    else none
    else none
set_option maxHeartbeats 4000000 in
set_option maxRecDepth 100000 in
theorem w_base_14 {p : Program} {l : Launch} {e : Env} {R : Room} {s : State} {m : MethodId} {args : Array Value} {below : List Frame} {meth : Method} {c : Code} {E : mE} {σ' : MS} {r : Int32} (hC : mC p s m args meth c E cX3_base 4 (some .int)) (hR : 1 ≤ R.frames ∧ 20 ≤ R.locals) (N : Nat) (k4 : MS → Int32 → Int32 → Option (Int32 × MS)) (hk4 : ∀ (σ : MS) (x1 : Int32) (x2 : Int32), k4 σ x1 x2 = some (r, σ') → ∀ (H : Heap) (locs : List Loc), mP E σ H → va_S (mA E s.heap.size) s.heap H locs → ∀ ls : Array Slot, lv_has ls 4 [(0, .ref (mh E)), (1, .int x1), (2, .int x2)] → W p l e R s m args below meth c H locs 0 0 (MQ below (mQi E s.heap.size r σ') args s 0 0 (mA E s.heap.size)) (F0 m 4 ls [])) : ∀ (n : Nat) (σ : MS) (x1 : Int32) (x2 : Int32) (x3 : Int32), f_base_14 N k4 n σ x1 x2 x3 = some (r, σ') → ∀ (H : Heap) (locs : List Loc), mP E σ H → va_S (mA E s.heap.size) s.heap H locs → ∀ ls : Array Slot, lv_has ls 4 [(0, .ref (mh E)), (1, .int x1), (2, .int x2), (3, .int x3)] → W p l e R s m args below meth c H locs 0 0 (MQ below (mQi E s.heap.size r σ') args s 0 0 (mA E s.heap.size)) (F0 m 14 ls []) := by
  obtain ⟨⟨hx, hb, hml, hown, hts⟩, hK, hD, hr, hlk⟩ := id hC
  intro n
  induction n with
  | zero =>
    intro σ x1 x2 x3 h
    cases h
  | succ n ih =>
    intro σ x1 x2 x3 h H locs hP hS ls hl
    unfold f_base_14 at h
    refine lv_iload_n hx hb dX3_base_14 rfl (lv_at hl 3 rfl) ?_
    refine lv_aload_n hx hb dX3_base_15 rfl (lv_at hl 0 rfl) ?_
    refine m_geta hC hP 53 (by decide) rfl q1946 dX3_base_16 ?_
    refine lv_iload_n hx hb dX3_base_19 rfl (lv_at hl 2 rfl) ?_
    obtain ⟨c1, h⟩ := mif_n h
    refine m_ald hC hP 53 rfl c1 dX3_base_20 ?_
    refine lv_topi (fun y2 ey2 => ?_)
    have h := mlet_at ey2 h
    refine lv_icmp_ge (tgt := 60) hx hb dX3_base_21 (by decide) (fun c3 => ?_) (fun c3 => ?_)
    · have h := mif_t c3 h
      obtain ⟨y4, ey4⟩ : ∃ z : Int32, z = x2 + 1 := ⟨_, rfl⟩
      have h := mlet_at ey4 h
      refine lv_iinc (v := y4) (lv' := [(2, .int y4), (0, .ref (mh E)), (1, .int x1), (3, .int x3)]) hx hb dX3_base_60 hl (k := 2) rfl (by rw [ey4]; rfl) (by decide) rfl (fun ls hl => ?_)
      refine lv_goto (tgt := 4) hx hb dX3_base_63 (by decide) ?_
      exact hk4 σ x1 y4 h _ _ hP hS _ (lv_sub hl [1, 2, 0] rfl)
    · have h := mif_f c3 h
      refine lv_aload_n hx hb dX3_base_24 rfl (lv_at hl 0 rfl) ?_
      refine m_geta hC hP 45 (by decide) rfl q1938 dX3_base_25 ?_
      refine lv_iload_n hx hb dX3_base_28 rfl (lv_at hl 2 rfl) ?_
      obtain ⟨c5, h⟩ := mif_n h
      refine m_ald hC hP 45 rfl c5 dX3_base_29 ?_
      refine lv_topi (fun y6 ey6 => ?_)
      have h := mlet_at ey6 h
      refine lv_aload_n hx hb dX3_base_30 rfl (lv_at hl 0 rfl) ?_
      refine m_geta hC hP 52 (by decide) rfl q1945 dX3_base_31 ?_
      refine lv_iconst (v := 4) hx hb dX3_base_34 (by decide) ?_
      refine lv_iload_n hx hb dX3_base_35 rfl (lv_at hl 2 rfl) ?_
      refine lv_imul hx hb dX3_base_36 ?_
      refine lv_iload_n hx hb dX3_base_37 rfl (lv_at hl 3 rfl) ?_
      refine lv_iadd hx hb dX3_base_38 ?_
      obtain ⟨c7, h⟩ := mif_n h
      refine m_ald hC hP 52 rfl c7 dX3_base_39 ?_
      refine lv_topi (fun y8 ey8 => ?_)
      have h := mlet_at ey8 h
      refine lv_icmp_ne (tgt := 54) hx hb dX3_base_40 (by decide) (fun c9 => ?_) (fun c9 => ?_)
      · have h := mif_f c9 h
        exact w_base_54 hC hR N k4 hk4 (f_base_14 N k4 n) ih σ x1 x2 x3 h hP hS (lv_sub hl [0, 1, 2, 3] rfl)
      · have h := mif_t c9 h
        refine lv_iload_n hx hb dX3_base_43 rfl (lv_at hl 1 rfl) ?_
        refine lv_iload_n hx hb dX3_base_44 rfl (lv_at hl 3 rfl) ?_
        refine lv_iconst (v := 1) hx hb dX3_base_45 (by decide) ?_
        refine lv_iadd hx hb dX3_base_46 ?_
        refine lv_iload_n hx hb dX3_base_47 rfl (lv_at hl 2 rfl) ?_
        obtain ⟨r12, σ10, c11, h⟩ := mcall_n h
        refine m_callsi (As := [.int x2]) (rest := [.int (x3 + 1), .int x1]) hC (met_power l N E H.size σ x2 r12 σ10 c11) (va_cwS 1 hts (lw_S q2380 q2381 q103 q2382) rfl rfl rfl (by decide +kernel) ⟨Nat.le_trans (Nat.le_of_ble_eq_true rfl) hR.1, Nat.le_trans (Nat.le_of_ble_eq_true rfl) hR.2⟩) hP hS rfl hl.1 rfl (Nat.le_of_ble_eq_true rfl) dX3_base_48 (fun H locs hP hS => ?_)
        refine lv_imul hx hb dX3_base_51 ?_
        refine lv_iadd hx hb dX3_base_52 ?_
        refine lv_topi (fun y13 ey13 => ?_)
        have h := mlet_at ey13 h
        refine lv_istore_n (lv' := [(1, .int y13), (0, .ref (mh E)), (2, .int x2), (3, .int x3)]) hx hb dX3_base_53 rfl hl (by decide) rfl (fun ls hl => ?_)
        exact w_base_54 hC hR N k4 hk4 (f_base_14 N k4 n) ih σ10 y13 x2 x3 h hP hS (lv_sub hl [1, 0, 2, 3] rfl)
def f_base_4 (N : Nat) : Nat → MS → Int32 → Int32 → Option (Int32 × MS)
  | 0, _, _, _ => none
  | n + 1, σ, x1, x2 =>
    if (σ.1 37) ≤ x2 then
    some (x1, σ)
    else
    f_base_14 N (f_base_4 N n) N σ x1 x2 0
set_option maxHeartbeats 4000000 in
set_option maxRecDepth 100000 in
theorem w_base_4 {p : Program} {l : Launch} {e : Env} {R : Room} {s : State} {m : MethodId} {args : Array Value} {below : List Frame} {meth : Method} {c : Code} {E : mE} {σ' : MS} {r : Int32} (hC : mC p s m args meth c E cX3_base 4 (some .int)) (hR : 1 ≤ R.frames ∧ 20 ≤ R.locals) (N : Nat) : ∀ (n : Nat) (σ : MS) (x1 : Int32) (x2 : Int32), f_base_4 N n σ x1 x2 = some (r, σ') → ∀ (H : Heap) (locs : List Loc), mP E σ H → va_S (mA E s.heap.size) s.heap H locs → ∀ ls : Array Slot, lv_has ls 4 [(0, .ref (mh E)), (1, .int x1), (2, .int x2)] → W p l e R s m args below meth c H locs 0 0 (MQ below (mQi E s.heap.size r σ') args s 0 0 (mA E s.heap.size)) (F0 m 4 ls []) := by
  obtain ⟨⟨hx, hb, hml, hown, hts⟩, hK, hD, hr, hlk⟩ := id hC
  intro n
  induction n with
  | zero =>
    intro σ x1 x2 h
    cases h
  | succ n ih =>
    intro σ x1 x2 h H locs hP hS ls hl
    unfold f_base_4 at h
    refine lv_iload_n hx hb dX3_base_4 rfl (lv_at hl 2 rfl) ?_
    refine lv_aload_n hx hb dX3_base_5 rfl (lv_at hl 0 rfl) ?_
    refine m_geti hC hP 37 (by decide) rfl q1930 dX3_base_6 ?_
    refine lv_icmp_ge (tgt := 66) hx hb dX3_base_9 (by decide) (fun c1 => ?_) (fun c1 => ?_)
    · have h := mif_t c1 h
      refine lv_iload_n hx hb dX3_base_66 rfl (lv_at hl 1 rfl) ?_
      cases h
      exact m_iret hC hP hS dX3_base_67
    · have h := mif_f c1 h
      refine lv_iconst (v := 0) hx hb dX3_base_12 (by decide) ?_
      refine lv_istore_n (lv' := [(3, .int 0), (0, .ref (mh E)), (1, .int x1), (2, .int x2)]) hx hb dX3_base_13 rfl hl (by decide) rfl (fun ls hl => ?_)
      exact w_base_14 hC hR N (f_base_4 N n) ih N σ x1 x2 0 h _ _ hP hS _ (lv_sub hl [1, 2, 3, 0] rfl)
def f_base (N : Nat) (σ : MS) : Option (Int32 × MS) :=
    f_base_4 N N σ 0 0
set_option maxHeartbeats 4000000 in
set_option maxRecDepth 100000 in
theorem w_base_0 {p : Program} {l : Launch} {e : Env} {R : Room} {s : State} {m : MethodId} {args : Array Value} {below : List Frame} {meth : Method} {c : Code} {E : mE} {σ' : MS} {r : Int32} (hC : mC p s m args meth c E cX3_base 4 (some .int)) (hR : 1 ≤ R.frames ∧ 20 ≤ R.locals) (N : Nat) (σ : MS) (h : f_base N σ = some (r, σ')) {H : Heap} {locs : List Loc} (hP : mP E σ H) (hS : va_S (mA E s.heap.size) s.heap H locs) {ls : Array Slot} (hl : lv_has ls 4 [(0, .ref (mh E))]) : W p l e R s m args below meth c H locs 0 0 (MQ below (mQi E s.heap.size r σ') args s 0 0 (mA E s.heap.size)) (F0 m 0 ls []) := by
  obtain ⟨⟨hx, hb, hml, hown, hts⟩, hK, hD, hr, hlk⟩ := id hC
  unfold f_base at h
  refine lv_iconst (v := 0) hx hb dX3_base_0 (by decide) ?_
  refine lv_istore_n (lv' := [(1, .int 0), (0, .ref (mh E))]) hx hb dX3_base_1 rfl hl (by decide) rfl (fun ls hl => ?_)
  refine lv_iconst (v := 0) hx hb dX3_base_2 (by decide) ?_
  refine lv_istore_n (lv' := [(2, .int 0), (1, .int 0), (0, .ref (mh E))]) hx hb dX3_base_3 rfl hl (by decide) rfl (fun ls hl => ?_)
  exact w_base_4 hC hR N N σ 0 0 h _ _ hP hS _ (lv_sub hl [2, 1, 0] rfl)
theorem met_base (l : Launch) (N : Nat) (E : mE) (sz : Nat) (σ : MS) (r : Int32) (σ' : MS) (h : f_base N σ = some (r, σ')) : Met l yX3_base (ws_ yX3_base cX3_base 4 (some .int)) ({ frames := 1, cells := 0, slots := 0, locals := 20 }) (mPc E sz σ [.ref (mh E)]) (mQi E sz r σ') 0 0 (mA E sz) :=
  m_met (Qc := fun z => mQi E z r σ') (by decide) rfl (Nat.le_of_ble_eq_true rfl) (fun hC ls hl hP => w_base_0 hC ⟨Nat.le_refl _, Nat.le_refl _⟩ N σ h hP va_S.rf hl)
def f_from_39 (N : Nat) (σ : MS) (s0 : Int64) : Option (Int64 × MS) :=
    some (s0, σ)
set_option maxHeartbeats 4000000 in
set_option maxRecDepth 100000 in
theorem w_from_39 {p : Program} {l : Launch} {e : Env} {R : Room} {s : State} {m : MethodId} {args : Array Value} {below : List Frame} {meth : Method} {c : Code} {E : mE} {σ' : MS} {r : Int64} (hC : mC p s m args meth c E cX3_from 6 (some .long)) (hR : 6 ≤ R.frames ∧ 152 ≤ R.locals) (N : Nat) (σ : MS) (s0 : Int64) (h : f_from_39 N σ s0 = some (r, σ')) {H : Heap} {locs : List Loc} (hP : mP E σ H) (hS : va_S (mA E s.heap.size) s.heap H locs) {ls : Array Slot} (hl : lv_has ls 6 []) : W p l e R s m args below meth c H locs 0 0 (MQ below (mQl E s.heap.size r σ') args s 0 0 (mA E s.heap.size)) (F0 m 39 ls [.long s0]) := by
  obtain ⟨⟨hx, hb, hml, hown, hts⟩, hK, hD, hr, hlk⟩ := id hC
  unfold f_from_39 at h
  cases h
  exact m_lret hC hP hS dX3_from_39
def f_from (N : Nat) (σ : MS) (x1 : Int32) (x2 : Int32) (x3 : Int32) : Option (Int64 × MS) :=
    mcallv (f_solve N σ x2 x3) fun σ1 =>
    mcall (f_base N σ1) fun r5 σ3 =>
    if mIn ((100 * r5) + x1) (102400) = true then mlet (σ3.2.2 ((100 * r5) + x1).toNatClampNeg) fun y7 =>
    if (lg_cmp y7 1000000000000000) < 0 then
    f_from_39 N σ3 y7
    else
    f_from_39 N σ3 (-1)
    else none
set_option maxHeartbeats 4000000 in
set_option maxRecDepth 100000 in
theorem w_from_0 {p : Program} {l : Launch} {e : Env} {R : Room} {s : State} {m : MethodId} {args : Array Value} {below : List Frame} {meth : Method} {c : Code} {E : mE} {σ' : MS} {r : Int64} (hC : mC p s m args meth c E cX3_from 6 (some .long)) (hR : 6 ≤ R.frames ∧ 152 ≤ R.locals) (N : Nat) (σ : MS) (x1 : Int32) (x2 : Int32) (x3 : Int32) (h : f_from N σ x1 x2 x3 = some (r, σ')) {H : Heap} {locs : List Loc} (hP : mP E σ H) (hS : va_S (mA E s.heap.size) s.heap H locs) {ls : Array Slot} (hl : lv_has ls 6 [(0, .ref (mh E)), (1, .int x1), (2, .int x2), (3, .int x3)]) : W p l e R s m args below meth c H locs 0 0 (MQ below (mQl E s.heap.size r σ') args s 0 0 (mA E s.heap.size)) (F0 m 0 ls []) := by
  obtain ⟨⟨hx, hb, hml, hown, hts⟩, hK, hD, hr, hlk⟩ := id hC
  unfold f_from at h
  refine lv_aload_n hx hb dX3_from_0 rfl (lv_at hl 0 rfl) ?_
  refine lv_iload_n hx hb dX3_from_1 rfl (lv_at hl 2 rfl) ?_
  refine lv_iload_n hx hb dX3_from_2 rfl (lv_at hl 3 rfl) ?_
  obtain ⟨σ1, c2, h⟩ := mcallv_n h
  refine m_callv (As := [.int x2, .int x3]) (rest := []) hC (met_solve l N E H.size σ x2 x3 σ1 c2) (cwV 2 hts (lw_V q2340 q2342 qs68 q103 q2343) rfl rfl rfl (by decide +kernel) ⟨Nat.le_trans (Nat.le_of_ble_eq_true rfl) hR.1, Nat.le_trans (Nat.le_of_ble_eq_true rfl) hR.2⟩) hP hS rfl hl.1 rfl (Nat.le_of_ble_eq_true rfl) dX3_from_3 (fun H locs hP hS => ?_)
  refine lv_aload_n hx hb dX3_from_6 rfl (lv_at hl 0 rfl) ?_
  refine m_geta hC hP 48 (by decide) rfl q1941 dX3_from_7 ?_
  refine lv_bipush (v := 100) hx hb dX3_from_10 (by decide) ?_
  refine lv_aload_n hx hb dX3_from_12 rfl (lv_at hl 0 rfl) ?_
  obtain ⟨r5, σ3, c4, h⟩ := mcall_n h
  refine m_calli (As := []) (rest := [.int 100, .ref (mad E 48)]) hC (met_base l N E H.size σ1 r5 σ3 c4) (cwV 0 hts (lw_V q2399 q2401 qs81 q103 q2402) rfl rfl rfl (by decide +kernel) ⟨Nat.le_trans (Nat.le_of_ble_eq_true rfl) hR.1, Nat.le_trans (Nat.le_of_ble_eq_true rfl) hR.2⟩) hP hS rfl hl.1 rfl (Nat.le_of_ble_eq_true rfl) dX3_from_13 (fun H locs hP hS => ?_)
  refine lv_imul hx hb dX3_from_16 ?_
  refine lv_iload_n hx hb dX3_from_17 rfl (lv_at hl 1 rfl) ?_
  refine lv_iadd hx hb dX3_from_18 ?_
  obtain ⟨c6, h⟩ := mif_n h
  refine m_lld hC hP c6 dX3_from_19 ?_
  refine lv_topl (fun y7 ey7 => ?_)
  have h := mlet_at ey7 h
  refine lv_lstore (lv' := [(4, .long y7), (0, .ref (mh E)), (1, .int x1), (2, .int x2), (3, .int x3)]) hx hb dX3_from_20 hl (by decide) rfl (fun ls hl => ?_)
  refine lv_lload hx hb dX3_from_22 (lv_at hl 0 rfl) ?_
  refine lv_ldc2 hx hb hown (hts _ q2375) dX3_from_24 ?_
  refine W.lcmp hx hb dX3_from_27 ?_
  refine lv_if_lt (tgt := 37) hx hb dX3_from_28 (by decide) (fun c8 => ?_) (fun c8 => ?_)
  · have h := mif_t c8 h
    refine lv_lload hx hb dX3_from_37 (lv_at hl 0 rfl) ?_
    exact w_from_39 hC hR N σ3 y7 h hP hS (lv_sub hl [] rfl)
  · have h := mif_f c8 h
    refine lv_ldc2 hx hb hown (hts _ q2403) dX3_from_31 ?_
    refine lv_goto (tgt := 39) hx hb dX3_from_34 (by decide) ?_
    exact w_from_39 hC hR N σ3 (-1) h hP hS (lv_sub hl [] rfl)
theorem met_from (l : Launch) (N : Nat) (E : mE) (sz : Nat) (σ : MS) (x1 : Int32) (x2 : Int32) (x3 : Int32) (r : Int64) (σ' : MS) (h : f_from N σ x1 x2 x3 = some (r, σ')) : Met l yX3_from (ws_ yX3_from cX3_from 6 (some .long)) ({ frames := 6, cells := 0, slots := 0, locals := 152 }) (mPc E sz σ [.ref (mh E), .int x1, .int x2, .int x3]) (mQl E sz r σ') 0 0 (mA E sz) :=
  m_met (Qc := fun z => mQl E z r σ') (by decide) rfl (Nat.le_of_ble_eq_true rfl) (fun hC ls hl hP => w_from_0 hC ⟨Nat.le_refl _, Nat.le_refl _⟩ N σ x1 x2 x3 h hP va_S.rf hl)
def f_worst_20 (N : Nat) (σ : MS) : Option (Int32 × MS) :=
    mcall (f_no N σ 1) fun r3 σ1 =>
    some (r3, σ1)
set_option maxHeartbeats 4000000 in
set_option maxRecDepth 100000 in
theorem w_worst_20 {p : Program} {l : Launch} {e : Env} {R : Room} {s : State} {m : MethodId} {args : Array Value} {below : List Frame} {meth : Method} {c : Code} {E : mE} {σ' : MS} {r : Int32} (hC : mC p s m args meth c E cX3_worst 5 (some .int)) (hR : 7 ≤ R.frames ∧ 177 ≤ R.locals) (N : Nat) (σ : MS) (h : f_worst_20 N σ = some (r, σ')) {H : Heap} {locs : List Loc} (hP : mP E σ H) (hS : va_S (mA E s.heap.size) s.heap H locs) {ls : Array Slot} (hl : lv_has ls 5 [(0, .ref (mh E))]) : W p l e R s m args below meth c H locs 0 0 (MQ below (mQi E s.heap.size r σ') args s 0 0 (mA E s.heap.size)) (F0 m 20 ls []) := by
  obtain ⟨⟨hx, hb, hml, hown, hts⟩, hK, hD, hr, hlk⟩ := id hC
  unfold f_worst_20 at h
  refine lv_aload_n hx hb dX3_worst_20 rfl (lv_at hl 0 rfl) ?_
  refine lv_iconst (v := 1) hx hb dX3_worst_21 (by decide) ?_
  obtain ⟨r3, σ1, c2, h⟩ := mcall_n h
  refine m_calli (As := [.int 1]) (rest := []) hC (met_no l N E H.size σ 1 r3 σ1 c2) (cwV 1 hts (lw_V q2138 q2140 qs41 q103 q2141) rfl rfl rfl (by decide +kernel) ⟨Nat.le_trans (Nat.le_of_ble_eq_true rfl) hR.1, Nat.le_trans (Nat.le_of_ble_eq_true rfl) hR.2⟩) hP hS rfl hl.1 rfl (Nat.le_of_ble_eq_true rfl) dX3_worst_22 (fun H locs hP hS => ?_)
  cases h
  exact m_iret hC hP hS dX3_worst_25
def f_worst_51 (N : Nat) (σ : MS) (s0 : Int32) : Option (Int32 × MS) :=
    some (s0, σ)
set_option maxHeartbeats 4000000 in
set_option maxRecDepth 100000 in
theorem w_worst_51 {p : Program} {l : Launch} {e : Env} {R : Room} {s : State} {m : MethodId} {args : Array Value} {below : List Frame} {meth : Method} {c : Code} {E : mE} {σ' : MS} {r : Int32} (hC : mC p s m args meth c E cX3_worst 5 (some .int)) (hR : 7 ≤ R.frames ∧ 177 ≤ R.locals) (N : Nat) (σ : MS) (s0 : Int32) (h : f_worst_51 N σ s0 = some (r, σ')) {H : Heap} {locs : List Loc} (hP : mP E σ H) (hS : va_S (mA E s.heap.size) s.heap H locs) {ls : Array Slot} (hl : lv_has ls 5 []) : W p l e R s m args below meth c H locs 0 0 (MQ below (mQi E s.heap.size r σ') args s 0 0 (mA E s.heap.size)) (F0 m 51 ls [.int s0]) := by
  obtain ⟨⟨hx, hb, hml, hown, hts⟩, hK, hD, hr, hlk⟩ := id hC
  unfold f_worst_51 at h
  cases h
  exact m_iret hC hP hS dX3_worst_51
def f_worst (N : Nat) (σ : MS) (x1 : Int32) (x2 : Int32) : Option (Int32 × MS) :=
    mcallv (f_good N σ) fun σ1 =>
    mcall (f_isCell N σ1 x1) fun r5 σ3 =>
    if r5 = 0 then
    f_worst_20 N σ3
    else
    mcall (f_isCell N σ3 x2) fun r9 σ7 =>
    if r9 = 0 then
    f_worst_20 N σ7
    else
    mcall (f_from N σ7 x1 x2 0) fun r13 σ11 =>
    if 0 ≤ (lg_cmp r13 0) then
    f_worst_51 N σ11 (r13.toInt32)
    else
    mcall (f_no N σ11 6) fun r17 σ15 =>
    f_worst_51 N σ15 r17
set_option maxHeartbeats 4000000 in
set_option maxRecDepth 100000 in
theorem w_worst_0 {p : Program} {l : Launch} {e : Env} {R : Room} {s : State} {m : MethodId} {args : Array Value} {below : List Frame} {meth : Method} {c : Code} {E : mE} {σ' : MS} {r : Int32} (hC : mC p s m args meth c E cX3_worst 5 (some .int)) (hR : 7 ≤ R.frames ∧ 177 ≤ R.locals) (N : Nat) (σ : MS) (x1 : Int32) (x2 : Int32) (h : f_worst N σ x1 x2 = some (r, σ')) {H : Heap} {locs : List Loc} (hP : mP E σ H) (hS : va_S (mA E s.heap.size) s.heap H locs) {ls : Array Slot} (hl : lv_has ls 5 [(0, .ref (mh E)), (1, .int x1), (2, .int x2)]) : W p l e R s m args below meth c H locs 0 0 (MQ below (mQi E s.heap.size r σ') args s 0 0 (mA E s.heap.size)) (F0 m 0 ls []) := by
  obtain ⟨⟨hx, hb, hml, hown, hts⟩, hK, hD, hr, hlk⟩ := id hC
  unfold f_worst at h
  refine lv_aload_n hx hb dX3_worst_0 rfl (lv_at hl 0 rfl) ?_
  obtain ⟨σ1, c2, h⟩ := mcallv_n h
  refine m_callv (As := []) (rest := []) hC (met_good l N E H.size σ σ1 c2) (cwV 0 hts (lw_V q2131 q2133 qs40 q103 q2134) rfl rfl rfl (by decide +kernel) ⟨Nat.le_trans (Nat.le_of_ble_eq_true rfl) hR.1, Nat.le_trans (Nat.le_of_ble_eq_true rfl) hR.2⟩) hP hS rfl hl.1 rfl (Nat.le_of_ble_eq_true rfl) dX3_worst_1 (fun H locs hP hS => ?_)
  refine lv_aload_n hx hb dX3_worst_4 rfl (lv_at hl 0 rfl) ?_
  refine lv_iload_n hx hb dX3_worst_5 rfl (lv_at hl 1 rfl) ?_
  obtain ⟨r5, σ3, c4, h⟩ := mcall_n h
  refine m_calli (As := [.int x1]) (rest := []) hC (met_isCell l N E H.size σ1 x1 r5 σ3 c4) (cwV 1 hts (lw_V q2276 q2278 qs60 q103 q2279) rfl rfl rfl (by decide +kernel) ⟨Nat.le_trans (Nat.le_of_ble_eq_true rfl) hR.1, Nat.le_trans (Nat.le_of_ble_eq_true rfl) hR.2⟩) hP hS rfl hl.1 rfl (Nat.le_of_ble_eq_true rfl) dX3_worst_6 (fun H locs hP hS => ?_)
  refine lv_if_eq (tgt := 20) hx hb dX3_worst_9 (by decide) (fun c6 => ?_) (fun c6 => ?_)
  · have h := mif_t c6 h
    exact w_worst_20 hC hR N σ3 h hP hS (lv_sub hl [0] rfl)
  · have h := mif_f c6 h
    refine lv_aload_n hx hb dX3_worst_12 rfl (lv_at hl 0 rfl) ?_
    refine lv_iload_n hx hb dX3_worst_13 rfl (lv_at hl 2 rfl) ?_
    obtain ⟨r9, σ7, c8, h⟩ := mcall_n h
    refine m_calli (As := [.int x2]) (rest := []) hC (met_isCell l N E H.size σ3 x2 r9 σ7 c8) (cwV 1 hts (lw_V q2276 q2278 qs60 q103 q2279) rfl rfl rfl (by decide +kernel) ⟨Nat.le_trans (Nat.le_of_ble_eq_true rfl) hR.1, Nat.le_trans (Nat.le_of_ble_eq_true rfl) hR.2⟩) hP hS rfl hl.1 rfl (Nat.le_of_ble_eq_true rfl) dX3_worst_14 (fun H locs hP hS => ?_)
    refine lv_if_ne (tgt := 26) hx hb dX3_worst_17 (by decide) (fun c10 => ?_) (fun c10 => ?_)
    · have h := mif_f c10 h
      refine lv_aload_n hx hb dX3_worst_26 rfl (lv_at hl 0 rfl) ?_
      refine lv_iload_n hx hb dX3_worst_27 rfl (lv_at hl 1 rfl) ?_
      refine lv_iload_n hx hb dX3_worst_28 rfl (lv_at hl 2 rfl) ?_
      refine lv_iconst (v := 0) hx hb dX3_worst_29 (by decide) ?_
      obtain ⟨r13, σ11, c12, h⟩ := mcall_n h
      refine m_calll (As := [.int x1, .int x2, .int 0]) (rest := []) hC (met_from l N E H.size σ7 x1 x2 0 r13 σ11 c12) (cwV 3 hts (lw_V q2336 q2338 qs67 q103 q2339) rfl rfl rfl (by decide +kernel) ⟨Nat.le_trans (Nat.le_of_ble_eq_true rfl) hR.1, Nat.le_trans (Nat.le_of_ble_eq_true rfl) hR.2⟩) hP hS rfl hl.1 rfl (Nat.le_of_ble_eq_true rfl) dX3_worst_30 (fun H locs hP hS => ?_)
      refine lv_lstore_n (lv' := [(3, .long r13), (0, .ref (mh E)), (1, .int x1), (2, .int x2)]) hx hb dX3_worst_33 rfl hl (by decide) rfl (fun ls hl => ?_)
      refine lv_lload_n hx hb dX3_worst_34 rfl (lv_at hl 0 rfl) ?_
      refine lv_lconst (v := 0) hx hb dX3_worst_35 (by decide) ?_
      refine W.lcmp hx hb dX3_worst_36 ?_
      refine lv_if_ge (tgt := 49) hx hb dX3_worst_37 (by decide) (fun c14 => ?_) (fun c14 => ?_)
      · have h := mif_t c14 h
        refine lv_lload_n hx hb dX3_worst_49 rfl (lv_at hl 0 rfl) ?_
        refine lv_l2i (v := r13.toInt32) hx hb dX3_worst_50 rfl ?_
        exact w_worst_51 hC hR N σ11 (r13.toInt32) h hP hS (lv_sub hl [] rfl)
      · have h := mif_f c14 h
        refine lv_aload_n hx hb dX3_worst_40 rfl (lv_at hl 1 rfl) ?_
        refine lv_bipush (v := 6) hx hb dX3_worst_41 (by decide) ?_
        obtain ⟨r17, σ15, c16, h⟩ := mcall_n h
        refine m_calli (As := [.int 6]) (rest := []) hC (met_no l N E H.size σ11 6 r17 σ15 c16) (cwV 1 hts (lw_V q2138 q2140 qs41 q103 q2141) rfl rfl rfl (by decide +kernel) ⟨Nat.le_trans (Nat.le_of_ble_eq_true rfl) hR.1, Nat.le_trans (Nat.le_of_ble_eq_true rfl) hR.2⟩) hP hS rfl hl.1 rfl (Nat.le_of_ble_eq_true rfl) dX3_worst_43 (fun H locs hP hS => ?_)
        refine lv_goto (tgt := 51) hx hb dX3_worst_46 (by decide) ?_
        exact w_worst_51 hC hR N σ15 r17 h hP hS (lv_sub hl [] rfl)
    · have h := mif_t c10 h
      exact w_worst_20 hC hR N σ7 h hP hS (lv_sub hl [0] rfl)
theorem met_worst (l : Launch) (N : Nat) (E : mE) (sz : Nat) (σ : MS) (x1 : Int32) (x2 : Int32) (r : Int32) (σ' : MS) (h : f_worst N σ x1 x2 = some (r, σ')) : Met l yX3_worst (ws_ yX3_worst cX3_worst 5 (some .int)) ({ frames := 7, cells := 0, slots := 0, locals := 177 }) (mPc E sz σ [.ref (mh E), .int x1, .int x2]) (mQi E sz r σ') 0 0 (mA E sz) :=
  m_met (Qc := fun z => mQi E z r σ') (by decide) rfl (Nat.le_of_ble_eq_true rfl) (fun hC ls hl hP => w_worst_0 hC ⟨Nat.le_refl _, Nat.le_refl _⟩ N σ x1 x2 h hP va_S.rf hl)
def f_common_17 (N : Nat) : Nat → MS → Int64 → Int64 → Option (Int64 × MS)
  | 0, _, _, _ => none
  | n + 1, σ, x4, x6 =>
    if (lg_cmp x6 0) = 0 then
    some (x4, σ)
    else
    if ¬ x6 = 0 then
    mlet (x4 - x4 / x6 * x6) fun y3 =>
    f_common_17 N n σ x6 y3
    else none
set_option maxHeartbeats 4000000 in
set_option maxRecDepth 100000 in
theorem w_common_17 {p : Program} {l : Launch} {e : Env} {R : Room} {s : State} {m : MethodId} {args : Array Value} {below : List Frame} {meth : Method} {c : Code} {E : mE} {σ' : MS} {r : Int64} (hC : mC p s m args meth c E cX3_common 10 (some .long)) (hR : 0 ≤ R.frames ∧ 0 ≤ R.locals) (N : Nat) : ∀ (n : Nat) (σ : MS) (x4 : Int64) (x6 : Int64), f_common_17 N n σ x4 x6 = some (r, σ') → ∀ (H : Heap) (locs : List Loc), mP E σ H → va_S (mA E s.heap.size) s.heap H locs → ∀ ls : Array Slot, lv_has ls 10 [(4, .long x4), (6, .long x6)] → W p l e R s m args below meth c H locs 0 0 (MQ below (mQl E s.heap.size r σ') args s 0 0 (mA E s.heap.size)) (F0 m 17 ls []) := by
  obtain ⟨⟨hx, hb, hml, hown, hts⟩, hK, hD, hr, hlk⟩ := id hC
  intro n
  induction n with
  | zero =>
    intro σ x4 x6 h
    cases h
  | succ n ih =>
    intro σ x4 x6 h H locs hP hS ls hl
    unfold f_common_17 at h
    refine lv_lload hx hb dX3_common_17 (lv_at hl 1 rfl) ?_
    refine lv_lconst (v := 0) hx hb dX3_common_19 (by decide) ?_
    refine W.lcmp hx hb dX3_common_20 ?_
    refine lv_if_eq (tgt := 42) hx hb dX3_common_21 (by decide) (fun c1 => ?_) (fun c1 => ?_)
    · have h := mif_t c1 h
      refine lv_lload hx hb dX3_common_42 (lv_at hl 0 rfl) ?_
      cases h
      exact m_lret hC hP hS dX3_common_44
    · have h := mif_f c1 h
      refine lv_lload hx hb dX3_common_24 (lv_at hl 0 rfl) ?_
      refine lv_lload hx hb dX3_common_26 (lv_at hl 1 rfl) ?_
      obtain ⟨c2, h⟩ := mif_n h
      refine lv_lrem hx hb dX3_common_28 c2 ?_
      refine lv_topl (fun y3 ey3 => ?_)
      have h := mlet_at ey3 h
      refine lv_lstore (lv' := [(8, .long y3), (4, .long x4), (6, .long x6)]) hx hb dX3_common_29 hl (by decide) rfl (fun ls hl => ?_)
      refine lv_lload hx hb dX3_common_31 (lv_at hl 2 rfl) ?_
      refine lv_lstore (lv' := [(4, .long x6), (8, .long y3), (6, .long x6)]) hx hb dX3_common_33 hl (by decide) rfl (fun ls hl => ?_)
      refine lv_lload hx hb dX3_common_35 (lv_at hl 1 rfl) ?_
      refine lv_lstore (lv' := [(6, .long y3), (4, .long x6), (8, .long y3)]) hx hb dX3_common_37 hl (by decide) rfl (fun ls hl => ?_)
      refine lv_goto (tgt := 17) hx hb dX3_common_39 (by decide) ?_
      exact ih σ x6 y3 h _ _ hP hS _ (lv_sub hl [1, 0] rfl)
def f_common_12 (N : Nat) (σ : MS) (x2 : Int64) (s0 : Int64) : Option (Int64 × MS) :=
    f_common_17 N N σ s0 x2
set_option maxHeartbeats 4000000 in
set_option maxRecDepth 100000 in
theorem w_common_12 {p : Program} {l : Launch} {e : Env} {R : Room} {s : State} {m : MethodId} {args : Array Value} {below : List Frame} {meth : Method} {c : Code} {E : mE} {σ' : MS} {r : Int64} (hC : mC p s m args meth c E cX3_common 10 (some .long)) (hR : 0 ≤ R.frames ∧ 0 ≤ R.locals) (N : Nat) (σ : MS) (x2 : Int64) (s0 : Int64) (h : f_common_12 N σ x2 s0 = some (r, σ')) {H : Heap} {locs : List Loc} (hP : mP E σ H) (hS : va_S (mA E s.heap.size) s.heap H locs) {ls : Array Slot} (hl : lv_has ls 10 [(2, .long x2)]) : W p l e R s m args below meth c H locs 0 0 (MQ below (mQl E s.heap.size r σ') args s 0 0 (mA E s.heap.size)) (F0 m 12 ls [.long s0]) := by
  obtain ⟨⟨hx, hb, hml, hown, hts⟩, hK, hD, hr, hlk⟩ := id hC
  unfold f_common_12 at h
  refine lv_lstore (lv' := [(4, .long s0), (2, .long x2)]) hx hb dX3_common_12 hl (by decide) rfl (fun ls hl => ?_)
  refine lv_lload_n hx hb dX3_common_14 rfl (lv_at hl 1 rfl) ?_
  refine lv_lstore (lv' := [(6, .long x2), (4, .long s0), (2, .long x2)]) hx hb dX3_common_15 hl (by decide) rfl (fun ls hl => ?_)
  exact w_common_17 hC hR N N σ s0 x2 h _ _ hP hS _ (lv_sub hl [1, 0] rfl)
def f_common (N : Nat) (σ : MS) (x0 : Int64) (x2 : Int64) : Option (Int64 × MS) :=
    if 0 ≤ (lg_cmp x0 0) then
    f_common_12 N σ x2 x0
    else
    f_common_12 N σ x2 (-x0)
set_option maxHeartbeats 4000000 in
set_option maxRecDepth 100000 in
theorem w_common_0 {p : Program} {l : Launch} {e : Env} {R : Room} {s : State} {m : MethodId} {args : Array Value} {below : List Frame} {meth : Method} {c : Code} {E : mE} {σ' : MS} {r : Int64} (hC : mC p s m args meth c E cX3_common 10 (some .long)) (hR : 0 ≤ R.frames ∧ 0 ≤ R.locals) (N : Nat) (σ : MS) (x0 : Int64) (x2 : Int64) (h : f_common N σ x0 x2 = some (r, σ')) {H : Heap} {locs : List Loc} (hP : mP E σ H) (hS : va_S (mA E s.heap.size) s.heap H locs) {ls : Array Slot} (hl : lv_has ls 10 [(0, .long x0), (2, .long x2)]) : W p l e R s m args below meth c H locs 0 0 (MQ below (mQl E s.heap.size r σ') args s 0 0 (mA E s.heap.size)) (F0 m 0 ls []) := by
  obtain ⟨⟨hx, hb, hml, hown, hts⟩, hK, hD, hr, hlk⟩ := id hC
  unfold f_common at h
  refine lv_lload_n hx hb dX3_common_0 rfl (lv_at hl 0 rfl) ?_
  refine lv_lconst (v := 0) hx hb dX3_common_1 (by decide) ?_
  refine W.lcmp hx hb dX3_common_2 ?_
  refine lv_if_ge (tgt := 11) hx hb dX3_common_3 (by decide) (fun c1 => ?_) (fun c1 => ?_)
  · have h := mif_t c1 h
    refine lv_lload_n hx hb dX3_common_11 rfl (lv_at hl 0 rfl) ?_
    exact w_common_12 hC hR N σ x2 x0 h hP hS (lv_sub hl [1] rfl)
  · have h := mif_f c1 h
    refine lv_lload_n hx hb dX3_common_6 rfl (lv_at hl 0 rfl) ?_
    refine lv_lneg hx hb dX3_common_7 ?_
    refine lv_goto (tgt := 12) hx hb dX3_common_8 (by decide) ?_
    exact w_common_12 hC hR N σ x2 (-x0) h hP hS (lv_sub hl [1] rfl)
theorem met_common (l : Launch) (N : Nat) (E : mE) (sz : Nat) (σ : MS) (x0 : Int64) (x2 : Int64) (r : Int64) (σ' : MS) (h : f_common N σ x0 x2 = some (r, σ')) : Met l yX3_common (ws_ yX3_common cX3_common 10 (some .long)) ({ frames := 0, cells := 0, slots := 0, locals := 0 }) (mPc E sz σ [.long x0, .long x2]) (mQl E sz r σ') 0 0 (mA E sz) :=
  m_met (Qc := fun z => mQl E z r σ') (by decide) rfl (Nat.le_of_ble_eq_true rfl) (fun hC ls hl hP => w_common_0 hC ⟨Nat.le_refl _, Nat.le_refl _⟩ N σ x0 x2 h hP va_S.rf hl)
def f_part_23 (N : Nat) (σ : MS) (s0 : Int64) : Option (Int64 × MS) :=
    some (s0, σ)
set_option maxHeartbeats 4000000 in
set_option maxRecDepth 100000 in
theorem w_part_23 {p : Program} {l : Launch} {e : Env} {R : Room} {s : State} {m : MethodId} {args : Array Value} {below : List Frame} {meth : Method} {c : Code} {E : mE} {σ' : MS} {r : Int64} (hC : mC p s m args meth c E cX3_part 7 (some .long)) (hR : 1 ≤ R.frames ∧ 29 ≤ R.locals) (N : Nat) (σ : MS) (s0 : Int64) (h : f_part_23 N σ s0 = some (r, σ')) {H : Heap} {locs : List Loc} (hP : mP E σ H) (hS : va_S (mA E s.heap.size) s.heap H locs) {ls : Array Slot} (hl : lv_has ls 7 []) : W p l e R s m args below meth c H locs 0 0 (MQ below (mQl E s.heap.size r σ') args s 0 0 (mA E s.heap.size)) (F0 m 23 ls [.long s0]) := by
  obtain ⟨⟨hx, hb, hml, hown, hts⟩, hK, hD, hr, hlk⟩ := id hC
  unfold f_part_23 at h
  cases h
  exact m_lret hC hP hS dX3_part_23
def f_part (N : Nat) (σ : MS) (x0 : Int64) (x2 : Int64) (x4 : Int32) : Option (Int64 × MS) :=
    mcall (f_common N σ x0 x2) fun r3 σ1 =>
    if x4 = 0 then
    if ¬ r3 = 0 then
    f_part_23 N σ1 (x0 / r3)
    else none
    else
    if ¬ r3 = 0 then
    f_part_23 N σ1 (x2 / r3)
    else none
set_option maxHeartbeats 4000000 in
set_option maxRecDepth 100000 in
theorem w_part_0 {p : Program} {l : Launch} {e : Env} {R : Room} {s : State} {m : MethodId} {args : Array Value} {below : List Frame} {meth : Method} {c : Code} {E : mE} {σ' : MS} {r : Int64} (hC : mC p s m args meth c E cX3_part 7 (some .long)) (hR : 1 ≤ R.frames ∧ 29 ≤ R.locals) (N : Nat) (σ : MS) (x0 : Int64) (x2 : Int64) (x4 : Int32) (h : f_part N σ x0 x2 x4 = some (r, σ')) {H : Heap} {locs : List Loc} (hP : mP E σ H) (hS : va_S (mA E s.heap.size) s.heap H locs) {ls : Array Slot} (hl : lv_has ls 7 [(0, .long x0), (2, .long x2), (4, .int x4)]) : W p l e R s m args below meth c H locs 0 0 (MQ below (mQl E s.heap.size r σ') args s 0 0 (mA E s.heap.size)) (F0 m 0 ls []) := by
  obtain ⟨⟨hx, hb, hml, hown, hts⟩, hK, hD, hr, hlk⟩ := id hC
  unfold f_part at h
  refine lv_lload_n hx hb dX3_part_0 rfl (lv_at hl 0 rfl) ?_
  refine lv_lload_n hx hb dX3_part_1 rfl (lv_at hl 1 rfl) ?_
  obtain ⟨r3, σ1, c2, h⟩ := mcall_n h
  refine m_callsl (As := [.long x0, .long x2]) (rest := []) hC (met_common l N E H.size σ x0 x2 r3 σ1 c2) (va_cwS 2 hts (lw_S q2412 q2413 q103 q2414) rfl rfl rfl (by decide +kernel) ⟨Nat.le_trans (Nat.le_of_ble_eq_true rfl) hR.1, Nat.le_trans (Nat.le_of_ble_eq_true rfl) hR.2⟩) hP hS rfl hl.1 rfl (Nat.le_of_ble_eq_true rfl) dX3_part_2 (fun H locs hP hS => ?_)
  refine lv_lstore (lv' := [(5, .long r3), (0, .long x0), (2, .long x2), (4, .int x4)]) hx hb dX3_part_5 hl (by decide) rfl (fun ls hl => ?_)
  refine lv_iload hx hb dX3_part_7 (lv_at hl 3 rfl) ?_
  refine lv_if_eq (tgt := 19) hx hb dX3_part_9 (by decide) (fun c4 => ?_) (fun c4 => ?_)
  · have h := mif_t c4 h
    refine lv_lload_n hx hb dX3_part_19 rfl (lv_at hl 1 rfl) ?_
    refine lv_lload hx hb dX3_part_20 (lv_at hl 0 rfl) ?_
    obtain ⟨c5, h⟩ := mif_n h
    refine lv_ldiv hx hb dX3_part_22 c5 ?_
    exact w_part_23 hC hR N σ1 (x0 / r3) h hP hS (lv_sub hl [] rfl)
  · have h := mif_f c4 h
    refine lv_lload_n hx hb dX3_part_12 rfl (lv_at hl 2 rfl) ?_
    refine lv_lload hx hb dX3_part_13 (lv_at hl 0 rfl) ?_
    obtain ⟨c6, h⟩ := mif_n h
    refine lv_ldiv hx hb dX3_part_15 c6 ?_
    refine lv_goto (tgt := 23) hx hb dX3_part_16 (by decide) ?_
    exact w_part_23 hC hR N σ1 (x2 / r3) h hP hS (lv_sub hl [] rfl)
theorem met_part (l : Launch) (N : Nat) (E : mE) (sz : Nat) (σ : MS) (x0 : Int64) (x2 : Int64) (x4 : Int32) (r : Int64) (σ' : MS) (h : f_part N σ x0 x2 x4 = some (r, σ')) : Met l yX3_part (ws_ yX3_part cX3_part 7 (some .long)) ({ frames := 1, cells := 0, slots := 0, locals := 29 }) (mPc E sz σ [.long x0, .long x2, .int x4]) (mQl E sz r σ') 0 0 (mA E sz) :=
  m_met (Qc := fun z => mQl E z r σ') (by decide) rfl (Nat.le_of_ble_eq_true rfl) (fun hC ls hl hP => w_part_0 hC ⟨Nat.le_refl _, Nat.le_refl _⟩ N σ x0 x2 x4 h hP va_S.rf hl)
def f_mean_20 (N : Nat) (σ : MS) : Option (Int64 × MS) :=
    mlet (mSet σ 39 1) fun σ1 =>
    some ((-9223372036854775808), σ1)
set_option maxHeartbeats 4000000 in
set_option maxRecDepth 100000 in
theorem w_mean_20 {p : Program} {l : Launch} {e : Env} {R : Room} {s : State} {m : MethodId} {args : Array Value} {below : List Frame} {meth : Method} {c : Code} {E : mE} {σ' : MS} {r : Int64} (hC : mC p s m args meth c E cX3_mean 6 (some .long)) (hR : 7 ≤ R.frames ∧ 177 ≤ R.locals) (N : Nat) (σ : MS) (h : f_mean_20 N σ = some (r, σ')) {H : Heap} {locs : List Loc} (hP : mP E σ H) (hS : va_S (mA E s.heap.size) s.heap H locs) {ls : Array Slot} (hl : lv_has ls 6 [(0, .ref (mh E))]) : W p l e R s m args below meth c H locs 0 0 (MQ below (mQl E s.heap.size r σ') args s 0 0 (mA E s.heap.size)) (F0 m 20 ls []) := by
  obtain ⟨⟨hx, hb, hml, hown, hts⟩, hK, hD, hr, hlk⟩ := id hC
  unfold f_mean_20 at h
  refine lv_aload_n hx hb dX3_mean_20 rfl (lv_at hl 0 rfl) ?_
  refine lv_iconst (v := 1) hx hb dX3_mean_21 (by decide) ?_
  refine m_put hC hP hS 39 (by decide) rfl q1932 rfl (ty := .int) (tyX3_ok 39 (by decide)) ⟨rfl, rfl⟩ dX3_mean_22 (fun H locs hP hS => ?_)
  obtain ⟨σ1, eσ1⟩ : ∃ z : MS, z = mSet σ 39 1 := ⟨_, rfl⟩
  rw [← eσ1] at hP
  have h := mlet_at eσ1 h
  refine lv_ldc2 hx hb hown (hts _ q2408) dX3_mean_25 ?_
  cases h
  exact m_lret hC hP hS dX3_mean_28
def f_mean (N : Nat) (σ : MS) (x1 : Int32) (x2 : Int32) (x3 : Int32) : Option (Int64 × MS) :=
    mcallv (f_good N σ) fun σ1 =>
    mcall (f_isCell N σ1 x1) fun r5 σ3 =>
    if r5 = 0 then
    f_mean_20 N σ3
    else
    mcall (f_isCell N σ3 x2) fun r9 σ7 =>
    if r9 = 0 then
    f_mean_20 N σ7
    else
    mcall (f_from N σ7 x1 x2 1) fun r13 σ11 =>
    if 0 ≤ (lg_cmp r13 0) then
    mcall (f_base N σ11) fun r17 σ15 =>
    mcall (f_left N σ15 r17) fun r20 σ18 =>
    mcall (f_part N σ18 r13 r20 x3) fun r23 σ21 =>
    some (r23, σ21)
    else
    mlet (mSet σ11 39 6) fun σ24 =>
    some ((-9223372036854775808), σ24)
set_option maxHeartbeats 4000000 in
set_option maxRecDepth 100000 in
theorem w_mean_0 {p : Program} {l : Launch} {e : Env} {R : Room} {s : State} {m : MethodId} {args : Array Value} {below : List Frame} {meth : Method} {c : Code} {E : mE} {σ' : MS} {r : Int64} (hC : mC p s m args meth c E cX3_mean 6 (some .long)) (hR : 7 ≤ R.frames ∧ 177 ≤ R.locals) (N : Nat) (σ : MS) (x1 : Int32) (x2 : Int32) (x3 : Int32) (h : f_mean N σ x1 x2 x3 = some (r, σ')) {H : Heap} {locs : List Loc} (hP : mP E σ H) (hS : va_S (mA E s.heap.size) s.heap H locs) {ls : Array Slot} (hl : lv_has ls 6 [(0, .ref (mh E)), (1, .int x1), (2, .int x2), (3, .int x3)]) : W p l e R s m args below meth c H locs 0 0 (MQ below (mQl E s.heap.size r σ') args s 0 0 (mA E s.heap.size)) (F0 m 0 ls []) := by
  obtain ⟨⟨hx, hb, hml, hown, hts⟩, hK, hD, hr, hlk⟩ := id hC
  unfold f_mean at h
  refine lv_aload_n hx hb dX3_mean_0 rfl (lv_at hl 0 rfl) ?_
  obtain ⟨σ1, c2, h⟩ := mcallv_n h
  refine m_callv (As := []) (rest := []) hC (met_good l N E H.size σ σ1 c2) (cwV 0 hts (lw_V q2131 q2133 qs40 q103 q2134) rfl rfl rfl (by decide +kernel) ⟨Nat.le_trans (Nat.le_of_ble_eq_true rfl) hR.1, Nat.le_trans (Nat.le_of_ble_eq_true rfl) hR.2⟩) hP hS rfl hl.1 rfl (Nat.le_of_ble_eq_true rfl) dX3_mean_1 (fun H locs hP hS => ?_)
  refine lv_aload_n hx hb dX3_mean_4 rfl (lv_at hl 0 rfl) ?_
  refine lv_iload_n hx hb dX3_mean_5 rfl (lv_at hl 1 rfl) ?_
  obtain ⟨r5, σ3, c4, h⟩ := mcall_n h
  refine m_calli (As := [.int x1]) (rest := []) hC (met_isCell l N E H.size σ1 x1 r5 σ3 c4) (cwV 1 hts (lw_V q2276 q2278 qs60 q103 q2279) rfl rfl rfl (by decide +kernel) ⟨Nat.le_trans (Nat.le_of_ble_eq_true rfl) hR.1, Nat.le_trans (Nat.le_of_ble_eq_true rfl) hR.2⟩) hP hS rfl hl.1 rfl (Nat.le_of_ble_eq_true rfl) dX3_mean_6 (fun H locs hP hS => ?_)
  refine lv_if_eq (tgt := 20) hx hb dX3_mean_9 (by decide) (fun c6 => ?_) (fun c6 => ?_)
  · have h := mif_t c6 h
    exact w_mean_20 hC hR N σ3 h hP hS (lv_sub hl [0] rfl)
  · have h := mif_f c6 h
    refine lv_aload_n hx hb dX3_mean_12 rfl (lv_at hl 0 rfl) ?_
    refine lv_iload_n hx hb dX3_mean_13 rfl (lv_at hl 2 rfl) ?_
    obtain ⟨r9, σ7, c8, h⟩ := mcall_n h
    refine m_calli (As := [.int x2]) (rest := []) hC (met_isCell l N E H.size σ3 x2 r9 σ7 c8) (cwV 1 hts (lw_V q2276 q2278 qs60 q103 q2279) rfl rfl rfl (by decide +kernel) ⟨Nat.le_trans (Nat.le_of_ble_eq_true rfl) hR.1, Nat.le_trans (Nat.le_of_ble_eq_true rfl) hR.2⟩) hP hS rfl hl.1 rfl (Nat.le_of_ble_eq_true rfl) dX3_mean_14 (fun H locs hP hS => ?_)
    refine lv_if_ne (tgt := 29) hx hb dX3_mean_17 (by decide) (fun c10 => ?_) (fun c10 => ?_)
    · have h := mif_f c10 h
      refine lv_aload_n hx hb dX3_mean_29 rfl (lv_at hl 0 rfl) ?_
      refine lv_iload_n hx hb dX3_mean_30 rfl (lv_at hl 1 rfl) ?_
      refine lv_iload_n hx hb dX3_mean_31 rfl (lv_at hl 2 rfl) ?_
      refine lv_iconst (v := 1) hx hb dX3_mean_32 (by decide) ?_
      obtain ⟨r13, σ11, c12, h⟩ := mcall_n h
      refine m_calll (As := [.int x1, .int x2, .int 1]) (rest := []) hC (met_from l N E H.size σ7 x1 x2 1 r13 σ11 c12) (cwV 3 hts (lw_V q2336 q2338 qs67 q103 q2339) rfl rfl rfl (by decide +kernel) ⟨Nat.le_trans (Nat.le_of_ble_eq_true rfl) hR.1, Nat.le_trans (Nat.le_of_ble_eq_true rfl) hR.2⟩) hP hS rfl hl.1 rfl (Nat.le_of_ble_eq_true rfl) dX3_mean_33 (fun H locs hP hS => ?_)
      refine lv_lstore (lv' := [(4, .long r13), (0, .ref (mh E)), (1, .int x1), (2, .int x2), (3, .int x3)]) hx hb dX3_mean_36 hl (by decide) rfl (fun ls hl => ?_)
      refine lv_lload hx hb dX3_mean_38 (lv_at hl 0 rfl) ?_
      refine lv_lconst (v := 0) hx hb dX3_mean_40 (by decide) ?_
      refine W.lcmp hx hb dX3_mean_41 ?_
      refine lv_if_ge (tgt := 55) hx hb dX3_mean_42 (by decide) (fun c14 => ?_) (fun c14 => ?_)
      · have h := mif_t c14 h
        refine lv_lload hx hb dX3_mean_55 (lv_at hl 0 rfl) ?_
        refine lv_aload_n hx hb dX3_mean_57 rfl (lv_at hl 1 rfl) ?_
        refine lv_aload_n hx hb dX3_mean_58 rfl (lv_at hl 1 rfl) ?_
        obtain ⟨r17, σ15, c16, h⟩ := mcall_n h
        refine m_calli (As := []) (rest := [.ref (mh E), .long r13]) hC (met_base l N E H.size σ11 r17 σ15 c16) (cwV 0 hts (lw_V q2399 q2401 qs81 q103 q2402) rfl rfl rfl (by decide +kernel) ⟨Nat.le_trans (Nat.le_of_ble_eq_true rfl) hR.1, Nat.le_trans (Nat.le_of_ble_eq_true rfl) hR.2⟩) hP hS rfl hl.1 rfl (Nat.le_of_ble_eq_true rfl) dX3_mean_59 (fun H locs hP hS => ?_)
        obtain ⟨r20, σ18, c19, h⟩ := mcall_n h
        refine m_calll (As := [.int r17]) (rest := [.long r13]) hC (met_left l N E H.size σ15 r17 r20 σ18 c19) (cwV 1 hts (lw_V q2387 q2389 qs78 q103 q2390) rfl rfl rfl (by decide +kernel) ⟨Nat.le_trans (Nat.le_of_ble_eq_true rfl) hR.1, Nat.le_trans (Nat.le_of_ble_eq_true rfl) hR.2⟩) hP hS rfl hl.1 rfl (Nat.le_of_ble_eq_true rfl) dX3_mean_62 (fun H locs hP hS => ?_)
        refine lv_iload_n hx hb dX3_mean_65 rfl (lv_at hl 4 rfl) ?_
        obtain ⟨r23, σ21, c22, h⟩ := mcall_n h
        refine m_callsl (As := [.long r13, .long r20, .int x3]) (rest := []) hC (met_part l N E H.size σ18 r13 r20 x3 r23 σ21 c22) (va_cwS 3 hts (lw_S q2409 q2410 q103 q2411) rfl rfl rfl (by decide +kernel) ⟨Nat.le_trans (Nat.le_of_ble_eq_true rfl) hR.1, Nat.le_trans (Nat.le_of_ble_eq_true rfl) hR.2⟩) hP hS rfl hl.1 rfl (Nat.le_of_ble_eq_true rfl) dX3_mean_66 (fun H locs hP hS => ?_)
        cases h
        exact m_lret hC hP hS dX3_mean_69
      · have h := mif_f c14 h
        refine lv_aload_n hx hb dX3_mean_45 rfl (lv_at hl 1 rfl) ?_
        refine lv_bipush (v := 6) hx hb dX3_mean_46 (by decide) ?_
        refine m_put hC hP hS 39 (by decide) rfl q1932 rfl (ty := .int) (tyX3_ok 39 (by decide)) ⟨rfl, rfl⟩ dX3_mean_48 (fun H locs hP hS => ?_)
        obtain ⟨σ24, eσ24⟩ : ∃ z : MS, z = mSet σ11 39 6 := ⟨_, rfl⟩
        rw [← eσ24] at hP
        have h := mlet_at eσ24 h
        refine lv_ldc2 hx hb hown (hts _ q2408) dX3_mean_51 ?_
        cases h
        exact m_lret hC hP hS dX3_mean_54
    · have h := mif_t c10 h
      exact w_mean_20 hC hR N σ7 h hP hS (lv_sub hl [0] rfl)
theorem met_mean (l : Launch) (N : Nat) (E : mE) (sz : Nat) (σ : MS) (x1 : Int32) (x2 : Int32) (x3 : Int32) (r : Int64) (σ' : MS) (h : f_mean N σ x1 x2 x3 = some (r, σ')) : Met l yX3_mean (ws_ yX3_mean cX3_mean 6 (some .long)) ({ frames := 7, cells := 0, slots := 0, locals := 177 }) (mPc E sz σ [.ref (mh E), .int x1, .int x2, .int x3]) (mQl E sz r σ') 0 0 (mA E sz) :=
  m_met (Qc := fun z => mQl E z r σ') (by decide) rfl (Nat.le_of_ble_eq_true rfl) (fun hC ls hl hP => w_mean_0 hC ⟨Nat.le_refl _, Nat.le_refl _⟩ N σ x1 x2 x3 h hP va_S.rf hl)
def f_stepOf_121 (N : Nat) (k35 : MS → Int32 → Int32 → Int64 → Int32 → Option (Int32 × MS)) (σ : MS) (x1 : Int32) (x2 : Int32) (x3 : Int64) (x5 : Int32) : Option (Int32 × MS) :=
    mlet (x5 + 1) fun y1 =>
    k35 σ x1 x2 x3 y1
set_option maxHeartbeats 4000000 in
set_option maxRecDepth 100000 in
theorem w_stepOf_121 {p : Program} {l : Launch} {e : Env} {R : Room} {s : State} {m : MethodId} {args : Array Value} {below : List Frame} {meth : Method} {c : Code} {E : mE} {σ' : MS} {r : Int32} (hC : mC p s m args meth c E cX3_stepOf 8 (some .int)) (hR : 3 ≤ R.frames ∧ 70 ≤ R.locals) (N : Nat) (k35 : MS → Int32 → Int32 → Int64 → Int32 → Option (Int32 × MS)) (hk35 : ∀ (σ : MS) (x1 : Int32) (x2 : Int32) (x3 : Int64) (x5 : Int32), k35 σ x1 x2 x3 x5 = some (r, σ') → ∀ (H : Heap) (locs : List Loc), mP E σ H → va_S (mA E s.heap.size) s.heap H locs → ∀ ls : Array Slot, lv_has ls 8 [(0, .ref (mh E)), (1, .int x1), (2, .int x2), (3, .long x3), (5, .int x5)] → W p l e R s m args below meth c H locs 0 0 (MQ below (mQi E s.heap.size r σ') args s 0 0 (mA E s.heap.size)) (F0 m 35 ls [])) (σ : MS) (x1 : Int32) (x2 : Int32) (x3 : Int64) (x5 : Int32) (h : f_stepOf_121 N k35 σ x1 x2 x3 x5 = some (r, σ')) {H : Heap} {locs : List Loc} (hP : mP E σ H) (hS : va_S (mA E s.heap.size) s.heap H locs) {ls : Array Slot} (hl : lv_has ls 8 [(0, .ref (mh E)), (1, .int x1), (2, .int x2), (3, .long x3), (5, .int x5)]) : W p l e R s m args below meth c H locs 0 0 (MQ below (mQi E s.heap.size r σ') args s 0 0 (mA E s.heap.size)) (F0 m 121 ls []) := by
  obtain ⟨⟨hx, hb, hml, hown, hts⟩, hK, hD, hr, hlk⟩ := id hC
  unfold f_stepOf_121 at h
  obtain ⟨y1, ey1⟩ : ∃ z : Int32, z = x5 + 1 := ⟨_, rfl⟩
  have h := mlet_at ey1 h
  refine lv_iinc (v := y1) (lv' := [(5, .int y1), (0, .ref (mh E)), (1, .int x1), (2, .int x2), (3, .long x3)]) hx hb dX3_stepOf_121 hl (k := 4) rfl (by rw [ey1]; rfl) (by decide) rfl (fun ls hl => ?_)
  refine lv_goto (tgt := 35) hx hb dX3_stepOf_124 (by decide) ?_
  exact hk35 σ x1 x2 x3 y1 h _ _ hP hS _ (lv_sub hl [1, 2, 3, 4, 0] rfl)
def f_stepOf_35 (N : Nat) : Nat → MS → Int32 → Int32 → Int64 → Int32 → Option (Int32 × MS)
  | 0, _, _, _, _, _ => none
  | n + 1, σ, x1, x2, x3, x5 =>
    if 4 ≤ x5 then
    some (4, σ)
    else
    if mIn ((4 * x1) + x5) (mLen 70) = true then mlet (σ.2.1 70 ((4 * x1) + x5).toNatClampNeg) fun y3 =>
    if y3 = 0 then
    f_stepOf_121 N (f_stepOf_35 N n) σ x1 x2 x3 x5
    else
    mcall (f_beside N σ x1 x5) fun r7 σ5 =>
    if mIn ((100 * x2) + r7) (102400) = true then mlet (σ5.2.2 ((100 * x2) + r7).toNatClampNeg) fun y9 =>
    if 0 ≤ (lg_cmp y9 1000000000000000) then
    f_stepOf_121 N (f_stepOf_35 N n) σ5 x1 x2 x3 x5
    else
    if mIn ((4 * x1) + x5) (mLen 70) = true then mlet (σ5.2.1 70 ((4 * x1) + x5).toNatClampNeg) fun y12 =>
    if mIn ((100 * x2) + x1) (102400) = true then mlet (σ5.2.2 ((100 * x2) + x1).toNatClampNeg) fun y14 =>
    if (lg_cmp (y9 + (x3 * (y12.toInt64))) y14) = 0 then
    some (x5, σ5)
    else
    f_stepOf_121 N (f_stepOf_35 N n) σ5 x1 x2 x3 x5
    else none
    else none
    else none
    else none
set_option maxHeartbeats 4000000 in
set_option maxRecDepth 100000 in
theorem w_stepOf_35 {p : Program} {l : Launch} {e : Env} {R : Room} {s : State} {m : MethodId} {args : Array Value} {below : List Frame} {meth : Method} {c : Code} {E : mE} {σ' : MS} {r : Int32} (hC : mC p s m args meth c E cX3_stepOf 8 (some .int)) (hR : 3 ≤ R.frames ∧ 70 ≤ R.locals) (N : Nat) : ∀ (n : Nat) (σ : MS) (x1 : Int32) (x2 : Int32) (x3 : Int64) (x5 : Int32), f_stepOf_35 N n σ x1 x2 x3 x5 = some (r, σ') → ∀ (H : Heap) (locs : List Loc), mP E σ H → va_S (mA E s.heap.size) s.heap H locs → ∀ ls : Array Slot, lv_has ls 8 [(0, .ref (mh E)), (1, .int x1), (2, .int x2), (3, .long x3), (5, .int x5)] → W p l e R s m args below meth c H locs 0 0 (MQ below (mQi E s.heap.size r σ') args s 0 0 (mA E s.heap.size)) (F0 m 35 ls []) := by
  obtain ⟨⟨hx, hb, hml, hown, hts⟩, hK, hD, hr, hlk⟩ := id hC
  intro n
  induction n with
  | zero =>
    intro σ x1 x2 x3 x5 h
    cases h
  | succ n ih =>
    intro σ x1 x2 x3 x5 h H locs hP hS ls hl
    unfold f_stepOf_35 at h
    refine lv_iload hx hb dX3_stepOf_35 (lv_at hl 4 rfl) ?_
    refine lv_iconst (v := 4) hx hb dX3_stepOf_37 (by decide) ?_
    refine lv_icmp_ge (tgt := 127) hx hb dX3_stepOf_38 (by decide) (fun c1 => ?_) (fun c1 => ?_)
    · have h := mif_t c1 h
      refine lv_iconst (v := 4) hx hb dX3_stepOf_127 (by decide) ?_
      cases h
      exact m_iret hC hP hS dX3_stepOf_128
    · have h := mif_f c1 h
      refine lv_aload_n hx hb dX3_stepOf_41 rfl (lv_at hl 0 rfl) ?_
      refine m_geta hC hP 70 (by decide) rfl q1963 dX3_stepOf_42 ?_
      refine lv_iconst (v := 4) hx hb dX3_stepOf_45 (by decide) ?_
      refine lv_iload_n hx hb dX3_stepOf_46 rfl (lv_at hl 1 rfl) ?_
      refine lv_imul hx hb dX3_stepOf_47 ?_
      refine lv_iload hx hb dX3_stepOf_48 (lv_at hl 4 rfl) ?_
      refine lv_iadd hx hb dX3_stepOf_50 ?_
      obtain ⟨c2, h⟩ := mif_n h
      refine m_ald hC hP 70 rfl c2 dX3_stepOf_51 ?_
      refine lv_topi (fun y3 ey3 => ?_)
      have h := mlet_at ey3 h
      refine lv_if_ne (tgt := 58) hx hb dX3_stepOf_52 (by decide) (fun c4 => ?_) (fun c4 => ?_)
      · have h := mif_f c4 h
        refine lv_aload_n hx hb dX3_stepOf_58 rfl (lv_at hl 0 rfl) ?_
        refine m_geta hC hP 48 (by decide) rfl q1941 dX3_stepOf_59 ?_
        refine lv_bipush (v := 100) hx hb dX3_stepOf_62 (by decide) ?_
        refine lv_iload_n hx hb dX3_stepOf_64 rfl (lv_at hl 2 rfl) ?_
        refine lv_imul hx hb dX3_stepOf_65 ?_
        refine lv_aload_n hx hb dX3_stepOf_66 rfl (lv_at hl 0 rfl) ?_
        refine lv_iload_n hx hb dX3_stepOf_67 rfl (lv_at hl 1 rfl) ?_
        refine lv_iload hx hb dX3_stepOf_68 (lv_at hl 4 rfl) ?_
        obtain ⟨r7, σ5, c6, h⟩ := mcall_n h
        refine m_calli (As := [.int x1, .int x5]) (rest := [.int (100 * x2), .ref (mad E 48)]) hC (met_beside l N E H.size σ x1 x5 r7 σ5 c6) (cwV 2 hts (lw_V q2316 q2318 qs63 q103 q2319) rfl rfl rfl (by decide +kernel) ⟨Nat.le_trans (Nat.le_of_ble_eq_true rfl) hR.1, Nat.le_trans (Nat.le_of_ble_eq_true rfl) hR.2⟩) hP hS rfl hl.1 rfl (Nat.le_of_ble_eq_true rfl) dX3_stepOf_70 (fun H locs hP hS => ?_)
        refine lv_iadd hx hb dX3_stepOf_73 ?_
        obtain ⟨c8, h⟩ := mif_n h
        refine m_lld hC hP c8 dX3_stepOf_74 ?_
        refine lv_topl (fun y9 ey9 => ?_)
        have h := mlet_at ey9 h
        refine lv_lstore (lv' := [(6, .long y9), (0, .ref (mh E)), (1, .int x1), (2, .int x2), (3, .long x3), (5, .int x5)]) hx hb dX3_stepOf_75 hl (by decide) rfl (fun ls hl => ?_)
        refine lv_lload hx hb dX3_stepOf_77 (lv_at hl 0 rfl) ?_
        refine lv_ldc2 hx hb hown (hts _ q2375) dX3_stepOf_79 ?_
        refine W.lcmp hx hb dX3_stepOf_82 ?_
        refine lv_if_ge (tgt := 121) hx hb dX3_stepOf_83 (by decide) (fun c10 => ?_) (fun c10 => ?_)
        · have h := mif_t c10 h
          exact w_stepOf_121 hC hR N (f_stepOf_35 N n) ih σ5 x1 x2 x3 x5 h hP hS (lv_sub hl [1, 2, 3, 4, 5] rfl)
        · have h := mif_f c10 h
          refine lv_lload hx hb dX3_stepOf_86 (lv_at hl 0 rfl) ?_
          refine lv_lload_n hx hb dX3_stepOf_88 rfl (lv_at hl 4 rfl) ?_
          refine lv_aload_n hx hb dX3_stepOf_89 rfl (lv_at hl 1 rfl) ?_
          refine m_geta hC hP 70 (by decide) rfl q1963 dX3_stepOf_90 ?_
          refine lv_iconst (v := 4) hx hb dX3_stepOf_93 (by decide) ?_
          refine lv_iload_n hx hb dX3_stepOf_94 rfl (lv_at hl 2 rfl) ?_
          refine lv_imul hx hb dX3_stepOf_95 ?_
          refine lv_iload hx hb dX3_stepOf_96 (lv_at hl 5 rfl) ?_
          refine lv_iadd hx hb dX3_stepOf_98 ?_
          obtain ⟨c11, h⟩ := mif_n h
          refine m_ald hC hP 70 rfl c11 dX3_stepOf_99 ?_
          refine lv_topi (fun y12 ey12 => ?_)
          have h := mlet_at ey12 h
          refine lv_i2l (v := y12.toInt64) hx hb dX3_stepOf_100 rfl ?_
          refine lv_lmul hx hb dX3_stepOf_101 ?_
          refine lv_ladd hx hb dX3_stepOf_102 ?_
          refine lv_aload_n hx hb dX3_stepOf_103 rfl (lv_at hl 1 rfl) ?_
          refine m_geta hC hP 48 (by decide) rfl q1941 dX3_stepOf_104 ?_
          refine lv_bipush (v := 100) hx hb dX3_stepOf_107 (by decide) ?_
          refine lv_iload_n hx hb dX3_stepOf_109 rfl (lv_at hl 3 rfl) ?_
          refine lv_imul hx hb dX3_stepOf_110 ?_
          refine lv_iload_n hx hb dX3_stepOf_111 rfl (lv_at hl 2 rfl) ?_
          refine lv_iadd hx hb dX3_stepOf_112 ?_
          obtain ⟨c13, h⟩ := mif_n h
          refine m_lld hC hP c13 dX3_stepOf_113 ?_
          refine lv_topl (fun y14 ey14 => ?_)
          have h := mlet_at ey14 h
          refine W.lcmp hx hb dX3_stepOf_114 ?_
          refine lv_if_ne (tgt := 121) hx hb dX3_stepOf_115 (by decide) (fun c15 => ?_) (fun c15 => ?_)
          · have h := mif_f c15 h
            exact w_stepOf_121 hC hR N (f_stepOf_35 N n) ih σ5 x1 x2 x3 x5 h hP hS (lv_sub hl [1, 2, 3, 4, 5] rfl)
          · have h := mif_t c15 h
            refine lv_iload hx hb dX3_stepOf_118 (lv_at hl 5 rfl) ?_
            cases h
            exact m_iret hC hP hS dX3_stepOf_120
      · have h := mif_t c4 h
        refine lv_goto (tgt := 121) hx hb dX3_stepOf_55 (by decide) ?_
        exact w_stepOf_121 hC hR N (f_stepOf_35 N n) ih σ x1 x2 x3 x5 h hP hS (lv_sub hl [0, 1, 2, 3, 4] rfl)
def f_stepOf_31 (N : Nat) (σ : MS) (x1 : Int32) (x2 : Int32) (s0 : Int64) : Option (Int32 × MS) :=
    f_stepOf_35 N N σ x1 x2 s0 0
set_option maxHeartbeats 4000000 in
set_option maxRecDepth 100000 in
theorem w_stepOf_31 {p : Program} {l : Launch} {e : Env} {R : Room} {s : State} {m : MethodId} {args : Array Value} {below : List Frame} {meth : Method} {c : Code} {E : mE} {σ' : MS} {r : Int32} (hC : mC p s m args meth c E cX3_stepOf 8 (some .int)) (hR : 3 ≤ R.frames ∧ 70 ≤ R.locals) (N : Nat) (σ : MS) (x1 : Int32) (x2 : Int32) (s0 : Int64) (h : f_stepOf_31 N σ x1 x2 s0 = some (r, σ')) {H : Heap} {locs : List Loc} (hP : mP E σ H) (hS : va_S (mA E s.heap.size) s.heap H locs) {ls : Array Slot} (hl : lv_has ls 8 [(0, .ref (mh E)), (1, .int x1), (2, .int x2)]) : W p l e R s m args below meth c H locs 0 0 (MQ below (mQi E s.heap.size r σ') args s 0 0 (mA E s.heap.size)) (F0 m 31 ls [.long s0]) := by
  obtain ⟨⟨hx, hb, hml, hown, hts⟩, hK, hD, hr, hlk⟩ := id hC
  unfold f_stepOf_31 at h
  refine lv_lstore_n (lv' := [(3, .long s0), (0, .ref (mh E)), (1, .int x1), (2, .int x2)]) hx hb dX3_stepOf_31 rfl hl (by decide) rfl (fun ls hl => ?_)
  refine lv_iconst (v := 0) hx hb dX3_stepOf_32 (by decide) ?_
  refine lv_istore (lv' := [(5, .int 0), (3, .long s0), (0, .ref (mh E)), (1, .int x1), (2, .int x2)]) hx hb dX3_stepOf_33 hl (by decide) rfl (fun ls hl => ?_)
  exact w_stepOf_35 hC hR N N σ x1 x2 s0 0 h _ _ hP hS _ (lv_sub hl [2, 3, 4, 1, 0] rfl)
def f_stepOf (N : Nat) (σ : MS) (x1 : Int32) (x2 : Int32) : Option (Int32 × MS) :=
    if x1 = (σ.1 49) then
    some (4, σ)
    else
    mcallv (f_lays N σ x2) fun σ2 =>
    if (σ2.1 50) = 0 then
    f_stepOf_31 N σ2 x1 x2 1
    else
    mcall (f_left N σ2 x2) fun r7 σ5 =>
    f_stepOf_31 N σ5 x1 x2 r7
set_option maxHeartbeats 4000000 in
set_option maxRecDepth 100000 in
theorem w_stepOf_0 {p : Program} {l : Launch} {e : Env} {R : Room} {s : State} {m : MethodId} {args : Array Value} {below : List Frame} {meth : Method} {c : Code} {E : mE} {σ' : MS} {r : Int32} (hC : mC p s m args meth c E cX3_stepOf 8 (some .int)) (hR : 3 ≤ R.frames ∧ 70 ≤ R.locals) (N : Nat) (σ : MS) (x1 : Int32) (x2 : Int32) (h : f_stepOf N σ x1 x2 = some (r, σ')) {H : Heap} {locs : List Loc} (hP : mP E σ H) (hS : va_S (mA E s.heap.size) s.heap H locs) {ls : Array Slot} (hl : lv_has ls 8 [(0, .ref (mh E)), (1, .int x1), (2, .int x2)]) : W p l e R s m args below meth c H locs 0 0 (MQ below (mQi E s.heap.size r σ') args s 0 0 (mA E s.heap.size)) (F0 m 0 ls []) := by
  obtain ⟨⟨hx, hb, hml, hown, hts⟩, hK, hD, hr, hlk⟩ := id hC
  unfold f_stepOf at h
  refine lv_iload_n hx hb dX3_stepOf_0 rfl (lv_at hl 1 rfl) ?_
  refine lv_aload_n hx hb dX3_stepOf_1 rfl (lv_at hl 0 rfl) ?_
  refine m_geti hC hP 49 (by decide) rfl q1942 dX3_stepOf_2 ?_
  refine lv_icmp_ne (tgt := 10) hx hb dX3_stepOf_5 (by decide) (fun c1 => ?_) (fun c1 => ?_)
  · have h := mif_f c1 h
    refine lv_aload_n hx hb dX3_stepOf_10 rfl (lv_at hl 0 rfl) ?_
    refine lv_iload_n hx hb dX3_stepOf_11 rfl (lv_at hl 2 rfl) ?_
    obtain ⟨σ2, c3, h⟩ := mcallv_n h
    refine m_callv (As := [.int x2]) (rest := []) hC (met_lays l N E H.size σ x2 σ2 c3) (cwV 1 hts (lw_V q2363 q2365 qs73 q103 q2366) rfl rfl rfl (by decide +kernel) ⟨Nat.le_trans (Nat.le_of_ble_eq_true rfl) hR.1, Nat.le_trans (Nat.le_of_ble_eq_true rfl) hR.2⟩) hP hS rfl hl.1 rfl (Nat.le_of_ble_eq_true rfl) dX3_stepOf_12 (fun H locs hP hS => ?_)
    refine lv_aload_n hx hb dX3_stepOf_15 rfl (lv_at hl 0 rfl) ?_
    refine m_geti hC hP 50 (by decide) rfl q1943 dX3_stepOf_16 ?_
    refine lv_if_eq (tgt := 30) hx hb dX3_stepOf_19 (by decide) (fun c4 => ?_) (fun c4 => ?_)
    · have h := mif_t c4 h
      refine lv_lconst (v := 1) hx hb dX3_stepOf_30 (by decide) ?_
      exact w_stepOf_31 hC hR N σ2 x1 x2 1 h hP hS (lv_sub hl [0, 1, 2] rfl)
    · have h := mif_f c4 h
      refine lv_aload_n hx hb dX3_stepOf_22 rfl (lv_at hl 0 rfl) ?_
      refine lv_iload_n hx hb dX3_stepOf_23 rfl (lv_at hl 2 rfl) ?_
      obtain ⟨r7, σ5, c6, h⟩ := mcall_n h
      refine m_calll (As := [.int x2]) (rest := []) hC (met_left l N E H.size σ2 x2 r7 σ5 c6) (cwV 1 hts (lw_V q2387 q2389 qs78 q103 q2390) rfl rfl rfl (by decide +kernel) ⟨Nat.le_trans (Nat.le_of_ble_eq_true rfl) hR.1, Nat.le_trans (Nat.le_of_ble_eq_true rfl) hR.2⟩) hP hS rfl hl.1 rfl (Nat.le_of_ble_eq_true rfl) dX3_stepOf_24 (fun H locs hP hS => ?_)
      refine lv_goto (tgt := 31) hx hb dX3_stepOf_27 (by decide) ?_
      exact w_stepOf_31 hC hR N σ5 x1 x2 r7 h hP hS (lv_sub hl [0, 1, 2] rfl)
  · have h := mif_t c1 h
    refine lv_iconst (v := 4) hx hb dX3_stepOf_8 (by decide) ?_
    cases h
    exact m_iret hC hP hS dX3_stepOf_9
theorem met_stepOf (l : Launch) (N : Nat) (E : mE) (sz : Nat) (σ : MS) (x1 : Int32) (x2 : Int32) (r : Int32) (σ' : MS) (h : f_stepOf N σ x1 x2 = some (r, σ')) : Met l yX3_stepOf (ws_ yX3_stepOf cX3_stepOf 8 (some .int)) ({ frames := 3, cells := 0, slots := 0, locals := 70 }) (mPc E sz σ [.ref (mh E), .int x1, .int x2]) (mQi E sz r σ') 0 0 (mA E sz) :=
  m_met (Qc := fun z => mQi E z r σ') (by decide) rfl (Nat.le_of_ble_eq_true rfl) (fun hC ls hl hP => w_stepOf_0 hC ⟨Nat.le_refl _, Nat.le_refl _⟩ N σ x1 x2 h hP va_S.rf hl)
def f_way_20 (N : Nat) (σ : MS) : Option (Int32 × MS) :=
    mcall (f_no N σ 1) fun r3 σ1 =>
    some (r3, σ1)
set_option maxHeartbeats 4000000 in
set_option maxRecDepth 100000 in
theorem w_way_20 {p : Program} {l : Launch} {e : Env} {R : Room} {s : State} {m : MethodId} {args : Array Value} {below : List Frame} {meth : Method} {c : Code} {E : mE} {σ' : MS} {r : Int32} (hC : mC p s m args meth c E cX3_way 5 (some .int)) (hR : 7 ≤ R.frames ∧ 177 ≤ R.locals) (N : Nat) (σ : MS) (h : f_way_20 N σ = some (r, σ')) {H : Heap} {locs : List Loc} (hP : mP E σ H) (hS : va_S (mA E s.heap.size) s.heap H locs) {ls : Array Slot} (hl : lv_has ls 5 [(0, .ref (mh E))]) : W p l e R s m args below meth c H locs 0 0 (MQ below (mQi E s.heap.size r σ') args s 0 0 (mA E s.heap.size)) (F0 m 20 ls []) := by
  obtain ⟨⟨hx, hb, hml, hown, hts⟩, hK, hD, hr, hlk⟩ := id hC
  unfold f_way_20 at h
  refine lv_aload_n hx hb dX3_way_20 rfl (lv_at hl 0 rfl) ?_
  refine lv_iconst (v := 1) hx hb dX3_way_21 (by decide) ?_
  obtain ⟨r3, σ1, c2, h⟩ := mcall_n h
  refine m_calli (As := [.int 1]) (rest := []) hC (met_no l N E H.size σ 1 r3 σ1 c2) (cwV 1 hts (lw_V q2138 q2140 qs41 q103 q2141) rfl rfl rfl (by decide +kernel) ⟨Nat.le_trans (Nat.le_of_ble_eq_true rfl) hR.1, Nat.le_trans (Nat.le_of_ble_eq_true rfl) hR.2⟩) hP hS rfl hl.1 rfl (Nat.le_of_ble_eq_true rfl) dX3_way_22 (fun H locs hP hS => ?_)
  cases h
  exact m_iret hC hP hS dX3_way_25
def f_way_65 (N : Nat) (k29 : MS → Int32 → Int32 → Int32 → Int32 → Option (Int32 × MS)) (σ : MS) (x1 : Int32) (x2 : Int32) (x3 : Int32) (x4 : Int32) : Option (Int32 × MS) :=
    mlet (x4 + 1) fun y1 =>
    k29 σ x1 x2 x3 y1
set_option maxHeartbeats 4000000 in
set_option maxRecDepth 100000 in
theorem w_way_65 {p : Program} {l : Launch} {e : Env} {R : Room} {s : State} {m : MethodId} {args : Array Value} {below : List Frame} {meth : Method} {c : Code} {E : mE} {σ' : MS} {r : Int32} (hC : mC p s m args meth c E cX3_way 5 (some .int)) (hR : 7 ≤ R.frames ∧ 177 ≤ R.locals) (N : Nat) (k29 : MS → Int32 → Int32 → Int32 → Int32 → Option (Int32 × MS)) (hk29 : ∀ (σ : MS) (x1 : Int32) (x2 : Int32) (x3 : Int32) (x4 : Int32), k29 σ x1 x2 x3 x4 = some (r, σ') → ∀ (H : Heap) (locs : List Loc), mP E σ H → va_S (mA E s.heap.size) s.heap H locs → ∀ ls : Array Slot, lv_has ls 5 [(0, .ref (mh E)), (1, .int x1), (2, .int x2), (3, .int x3), (4, .int x4)] → W p l e R s m args below meth c H locs 0 0 (MQ below (mQi E s.heap.size r σ') args s 0 0 (mA E s.heap.size)) (F0 m 29 ls [])) (σ : MS) (x1 : Int32) (x2 : Int32) (x3 : Int32) (x4 : Int32) (h : f_way_65 N k29 σ x1 x2 x3 x4 = some (r, σ')) {H : Heap} {locs : List Loc} (hP : mP E σ H) (hS : va_S (mA E s.heap.size) s.heap H locs) {ls : Array Slot} (hl : lv_has ls 5 [(0, .ref (mh E)), (1, .int x1), (2, .int x2), (3, .int x3), (4, .int x4)]) : W p l e R s m args below meth c H locs 0 0 (MQ below (mQi E s.heap.size r σ') args s 0 0 (mA E s.heap.size)) (F0 m 65 ls []) := by
  obtain ⟨⟨hx, hb, hml, hown, hts⟩, hK, hD, hr, hlk⟩ := id hC
  unfold f_way_65 at h
  obtain ⟨y1, ey1⟩ : ∃ z : Int32, z = x4 + 1 := ⟨_, rfl⟩
  have h := mlet_at ey1 h
  refine lv_iinc (v := y1) (lv' := [(4, .int y1), (0, .ref (mh E)), (1, .int x1), (2, .int x2), (3, .int x3)]) hx hb dX3_way_65 hl (k := 4) rfl (by rw [ey1]; rfl) (by decide) rfl (fun ls hl => ?_)
  refine lv_goto (tgt := 29) hx hb dX3_way_68 (by decide) ?_
  exact hk29 σ x1 x2 x3 y1 h _ _ hP hS _ (lv_sub hl [1, 2, 3, 4, 0] rfl)
def f_way_29 (N : Nat) : Nat → MS → Int32 → Int32 → Int32 → Int32 → Option (Int32 × MS)
  | 0, _, _, _, _, _ => none
  | n + 1, σ, x1, x2, x3, x4 =>
    if (σ.1 37) ≤ x4 then
    mcall (f_from N σ x1 x2 x3) fun r4 σ2 =>
    if 0 ≤ (lg_cmp r4 0) then
    mcall (f_base N σ2) fun r8 σ6 =>
    mcall (f_stepOf N σ6 x1 r8) fun r11 σ9 =>
    some (r11, σ9)
    else
    mcall (f_no N σ2 6) fun r14 σ12 =>
    some (r14, σ12)
    else
    if mIn x4 (mLen 45) = true then mlet (σ.2.1 45 x4.toNatClampNeg) fun y16 =>
    if y16 = (-1) then
    mcall (f_isNear N σ x1 x4) fun r20 σ18 =>
    if r20 = 0 then
    f_way_65 N (f_way_29 N n) σ18 x1 x2 x3 x4
    else
    mcall (f_no N σ18 5) fun r24 σ22 =>
    some (r24, σ22)
    else
    f_way_65 N (f_way_29 N n) σ x1 x2 x3 x4
    else none
set_option maxHeartbeats 4000000 in
set_option maxRecDepth 100000 in
theorem w_way_29 {p : Program} {l : Launch} {e : Env} {R : Room} {s : State} {m : MethodId} {args : Array Value} {below : List Frame} {meth : Method} {c : Code} {E : mE} {σ' : MS} {r : Int32} (hC : mC p s m args meth c E cX3_way 5 (some .int)) (hR : 7 ≤ R.frames ∧ 177 ≤ R.locals) (N : Nat) : ∀ (n : Nat) (σ : MS) (x1 : Int32) (x2 : Int32) (x3 : Int32) (x4 : Int32), f_way_29 N n σ x1 x2 x3 x4 = some (r, σ') → ∀ (H : Heap) (locs : List Loc), mP E σ H → va_S (mA E s.heap.size) s.heap H locs → ∀ ls : Array Slot, lv_has ls 5 [(0, .ref (mh E)), (1, .int x1), (2, .int x2), (3, .int x3), (4, .int x4)] → W p l e R s m args below meth c H locs 0 0 (MQ below (mQi E s.heap.size r σ') args s 0 0 (mA E s.heap.size)) (F0 m 29 ls []) := by
  obtain ⟨⟨hx, hb, hml, hown, hts⟩, hK, hD, hr, hlk⟩ := id hC
  intro n
  induction n with
  | zero =>
    intro σ x1 x2 x3 x4 h
    cases h
  | succ n ih =>
    intro σ x1 x2 x3 x4 h H locs hP hS ls hl
    unfold f_way_29 at h
    refine lv_iload hx hb dX3_way_29 (lv_at hl 4 rfl) ?_
    refine lv_aload_n hx hb dX3_way_31 rfl (lv_at hl 0 rfl) ?_
    refine m_geti hC hP 37 (by decide) rfl q1930 dX3_way_32 ?_
    refine lv_icmp_ge (tgt := 71) hx hb dX3_way_35 (by decide) (fun c1 => ?_) (fun c1 => ?_)
    · have h := mif_t c1 h
      refine lv_aload_n hx hb dX3_way_71 rfl (lv_at hl 0 rfl) ?_
      refine lv_iload_n hx hb dX3_way_72 rfl (lv_at hl 1 rfl) ?_
      refine lv_iload_n hx hb dX3_way_73 rfl (lv_at hl 2 rfl) ?_
      refine lv_iload_n hx hb dX3_way_74 rfl (lv_at hl 3 rfl) ?_
      obtain ⟨r4, σ2, c3, h⟩ := mcall_n h
      refine m_calll (As := [.int x1, .int x2, .int x3]) (rest := []) hC (met_from l N E H.size σ x1 x2 x3 r4 σ2 c3) (cwV 3 hts (lw_V q2336 q2338 qs67 q103 q2339) rfl rfl rfl (by decide +kernel) ⟨Nat.le_trans (Nat.le_of_ble_eq_true rfl) hR.1, Nat.le_trans (Nat.le_of_ble_eq_true rfl) hR.2⟩) hP hS rfl hl.1 rfl (Nat.le_of_ble_eq_true rfl) dX3_way_75 (fun H locs hP hS => ?_)
      refine lv_lconst (v := 0) hx hb dX3_way_78 (by decide) ?_
      refine W.lcmp hx hb dX3_way_79 ?_
      refine lv_if_ge (tgt := 90) hx hb dX3_way_80 (by decide) (fun c5 => ?_) (fun c5 => ?_)
      · have h := mif_t c5 h
        refine lv_aload_n hx hb dX3_way_90 rfl (lv_at hl 0 rfl) ?_
        refine lv_iload_n hx hb dX3_way_91 rfl (lv_at hl 1 rfl) ?_
        refine lv_aload_n hx hb dX3_way_92 rfl (lv_at hl 0 rfl) ?_
        obtain ⟨r8, σ6, c7, h⟩ := mcall_n h
        refine m_calli (As := []) (rest := [.int x1, .ref (mh E)]) hC (met_base l N E H.size σ2 r8 σ6 c7) (cwV 0 hts (lw_V q2399 q2401 qs81 q103 q2402) rfl rfl rfl (by decide +kernel) ⟨Nat.le_trans (Nat.le_of_ble_eq_true rfl) hR.1, Nat.le_trans (Nat.le_of_ble_eq_true rfl) hR.2⟩) hP hS rfl hl.1 rfl (Nat.le_of_ble_eq_true rfl) dX3_way_93 (fun H locs hP hS => ?_)
        obtain ⟨r11, σ9, c10, h⟩ := mcall_n h
        refine m_calli (As := [.int x1, .int r8]) (rest := []) hC (met_stepOf l N E H.size σ6 x1 r8 r11 σ9 c10) (cwV 2 hts (lw_V q2419 q2421 qs82 q103 q2422) rfl rfl rfl (by decide +kernel) ⟨Nat.le_trans (Nat.le_of_ble_eq_true rfl) hR.1, Nat.le_trans (Nat.le_of_ble_eq_true rfl) hR.2⟩) hP hS rfl hl.1 rfl (Nat.le_of_ble_eq_true rfl) dX3_way_96 (fun H locs hP hS => ?_)
        cases h
        exact m_iret hC hP hS dX3_way_99
      · have h := mif_f c5 h
        refine lv_aload_n hx hb dX3_way_83 rfl (lv_at hl 0 rfl) ?_
        refine lv_bipush (v := 6) hx hb dX3_way_84 (by decide) ?_
        obtain ⟨r14, σ12, c13, h⟩ := mcall_n h
        refine m_calli (As := [.int 6]) (rest := []) hC (met_no l N E H.size σ2 6 r14 σ12 c13) (cwV 1 hts (lw_V q2138 q2140 qs41 q103 q2141) rfl rfl rfl (by decide +kernel) ⟨Nat.le_trans (Nat.le_of_ble_eq_true rfl) hR.1, Nat.le_trans (Nat.le_of_ble_eq_true rfl) hR.2⟩) hP hS rfl hl.1 rfl (Nat.le_of_ble_eq_true rfl) dX3_way_86 (fun H locs hP hS => ?_)
        cases h
        exact m_iret hC hP hS dX3_way_89
    · have h := mif_f c1 h
      refine lv_aload_n hx hb dX3_way_38 rfl (lv_at hl 0 rfl) ?_
      refine m_geta hC hP 45 (by decide) rfl q1938 dX3_way_39 ?_
      refine lv_iload hx hb dX3_way_42 (lv_at hl 4 rfl) ?_
      obtain ⟨c15, h⟩ := mif_n h
      refine m_ald hC hP 45 rfl c15 dX3_way_44 ?_
      refine lv_topi (fun y16 ey16 => ?_)
      have h := mlet_at ey16 h
      refine lv_iconst (v := (-1)) hx hb dX3_way_45 (by decide) ?_
      refine lv_icmp_ne (tgt := 65) hx hb dX3_way_46 (by decide) (fun c17 => ?_) (fun c17 => ?_)
      · have h := mif_f c17 h
        exact w_way_65 hC hR N (f_way_29 N n) ih σ x1 x2 x3 x4 h hP hS (lv_sub hl [0, 1, 2, 3, 4] rfl)
      · have h := mif_t c17 h
        refine lv_aload_n hx hb dX3_way_49 rfl (lv_at hl 0 rfl) ?_
        refine lv_iload_n hx hb dX3_way_50 rfl (lv_at hl 1 rfl) ?_
        refine lv_iload hx hb dX3_way_51 (lv_at hl 4 rfl) ?_
        obtain ⟨r20, σ18, c19, h⟩ := mcall_n h
        refine m_calli (As := [.int x1, .int x4]) (rest := []) hC (met_isNear l N E H.size σ x1 x4 r20 σ18 c19) (cwV 2 hts (lw_V q2352 q2354 qs71 q103 q2355) rfl rfl rfl (by decide +kernel) ⟨Nat.le_trans (Nat.le_of_ble_eq_true rfl) hR.1, Nat.le_trans (Nat.le_of_ble_eq_true rfl) hR.2⟩) hP hS rfl hl.1 rfl (Nat.le_of_ble_eq_true rfl) dX3_way_53 (fun H locs hP hS => ?_)
        refine lv_if_eq (tgt := 65) hx hb dX3_way_56 (by decide) (fun c21 => ?_) (fun c21 => ?_)
        · have h := mif_t c21 h
          exact w_way_65 hC hR N (f_way_29 N n) ih σ18 x1 x2 x3 x4 h hP hS (lv_sub hl [0, 1, 2, 3, 4] rfl)
        · have h := mif_f c21 h
          refine lv_aload_n hx hb dX3_way_59 rfl (lv_at hl 0 rfl) ?_
          refine lv_iconst (v := 5) hx hb dX3_way_60 (by decide) ?_
          obtain ⟨r24, σ22, c23, h⟩ := mcall_n h
          refine m_calli (As := [.int 5]) (rest := []) hC (met_no l N E H.size σ18 5 r24 σ22 c23) (cwV 1 hts (lw_V q2138 q2140 qs41 q103 q2141) rfl rfl rfl (by decide +kernel) ⟨Nat.le_trans (Nat.le_of_ble_eq_true rfl) hR.1, Nat.le_trans (Nat.le_of_ble_eq_true rfl) hR.2⟩) hP hS rfl hl.1 rfl (Nat.le_of_ble_eq_true rfl) dX3_way_61 (fun H locs hP hS => ?_)
          cases h
          exact m_iret hC hP hS dX3_way_64
def f_way (N : Nat) (σ : MS) (x1 : Int32) (x2 : Int32) (x3 : Int32) : Option (Int32 × MS) :=
    mcallv (f_good N σ) fun σ1 =>
    mcall (f_isCell N σ1 x1) fun r5 σ3 =>
    if r5 = 0 then
    f_way_20 N σ3
    else
    mcall (f_isCell N σ3 x2) fun r9 σ7 =>
    if r9 = 0 then
    f_way_20 N σ7
    else
    f_way_29 N N σ7 x1 x2 x3 0
set_option maxHeartbeats 4000000 in
set_option maxRecDepth 100000 in
theorem w_way_0 {p : Program} {l : Launch} {e : Env} {R : Room} {s : State} {m : MethodId} {args : Array Value} {below : List Frame} {meth : Method} {c : Code} {E : mE} {σ' : MS} {r : Int32} (hC : mC p s m args meth c E cX3_way 5 (some .int)) (hR : 7 ≤ R.frames ∧ 177 ≤ R.locals) (N : Nat) (σ : MS) (x1 : Int32) (x2 : Int32) (x3 : Int32) (h : f_way N σ x1 x2 x3 = some (r, σ')) {H : Heap} {locs : List Loc} (hP : mP E σ H) (hS : va_S (mA E s.heap.size) s.heap H locs) {ls : Array Slot} (hl : lv_has ls 5 [(0, .ref (mh E)), (1, .int x1), (2, .int x2), (3, .int x3)]) : W p l e R s m args below meth c H locs 0 0 (MQ below (mQi E s.heap.size r σ') args s 0 0 (mA E s.heap.size)) (F0 m 0 ls []) := by
  obtain ⟨⟨hx, hb, hml, hown, hts⟩, hK, hD, hr, hlk⟩ := id hC
  unfold f_way at h
  refine lv_aload_n hx hb dX3_way_0 rfl (lv_at hl 0 rfl) ?_
  obtain ⟨σ1, c2, h⟩ := mcallv_n h
  refine m_callv (As := []) (rest := []) hC (met_good l N E H.size σ σ1 c2) (cwV 0 hts (lw_V q2131 q2133 qs40 q103 q2134) rfl rfl rfl (by decide +kernel) ⟨Nat.le_trans (Nat.le_of_ble_eq_true rfl) hR.1, Nat.le_trans (Nat.le_of_ble_eq_true rfl) hR.2⟩) hP hS rfl hl.1 rfl (Nat.le_of_ble_eq_true rfl) dX3_way_1 (fun H locs hP hS => ?_)
  refine lv_aload_n hx hb dX3_way_4 rfl (lv_at hl 0 rfl) ?_
  refine lv_iload_n hx hb dX3_way_5 rfl (lv_at hl 1 rfl) ?_
  obtain ⟨r5, σ3, c4, h⟩ := mcall_n h
  refine m_calli (As := [.int x1]) (rest := []) hC (met_isCell l N E H.size σ1 x1 r5 σ3 c4) (cwV 1 hts (lw_V q2276 q2278 qs60 q103 q2279) rfl rfl rfl (by decide +kernel) ⟨Nat.le_trans (Nat.le_of_ble_eq_true rfl) hR.1, Nat.le_trans (Nat.le_of_ble_eq_true rfl) hR.2⟩) hP hS rfl hl.1 rfl (Nat.le_of_ble_eq_true rfl) dX3_way_6 (fun H locs hP hS => ?_)
  refine lv_if_eq (tgt := 20) hx hb dX3_way_9 (by decide) (fun c6 => ?_) (fun c6 => ?_)
  · have h := mif_t c6 h
    exact w_way_20 hC hR N σ3 h hP hS (lv_sub hl [0] rfl)
  · have h := mif_f c6 h
    refine lv_aload_n hx hb dX3_way_12 rfl (lv_at hl 0 rfl) ?_
    refine lv_iload_n hx hb dX3_way_13 rfl (lv_at hl 2 rfl) ?_
    obtain ⟨r9, σ7, c8, h⟩ := mcall_n h
    refine m_calli (As := [.int x2]) (rest := []) hC (met_isCell l N E H.size σ3 x2 r9 σ7 c8) (cwV 1 hts (lw_V q2276 q2278 qs60 q103 q2279) rfl rfl rfl (by decide +kernel) ⟨Nat.le_trans (Nat.le_of_ble_eq_true rfl) hR.1, Nat.le_trans (Nat.le_of_ble_eq_true rfl) hR.2⟩) hP hS rfl hl.1 rfl (Nat.le_of_ble_eq_true rfl) dX3_way_14 (fun H locs hP hS => ?_)
    refine lv_if_ne (tgt := 26) hx hb dX3_way_17 (by decide) (fun c10 => ?_) (fun c10 => ?_)
    · have h := mif_f c10 h
      refine lv_iconst (v := 0) hx hb dX3_way_26 (by decide) ?_
      refine lv_istore (lv' := [(4, .int 0), (0, .ref (mh E)), (1, .int x1), (2, .int x2), (3, .int x3)]) hx hb dX3_way_27 hl (by decide) rfl (fun ls hl => ?_)
      exact w_way_29 hC hR N N σ7 x1 x2 x3 0 h _ _ hP hS _ (lv_sub hl [1, 2, 3, 4, 0] rfl)
    · have h := mif_t c10 h
      exact w_way_20 hC hR N σ7 h hP hS (lv_sub hl [0] rfl)
theorem met_way (l : Launch) (N : Nat) (E : mE) (sz : Nat) (σ : MS) (x1 : Int32) (x2 : Int32) (x3 : Int32) (r : Int32) (σ' : MS) (h : f_way N σ x1 x2 x3 = some (r, σ')) : Met l yX3_way (ws_ yX3_way cX3_way 5 (some .int)) ({ frames := 7, cells := 0, slots := 0, locals := 177 }) (mPc E sz σ [.ref (mh E), .int x1, .int x2, .int x3]) (mQi E sz r σ') 0 0 (mA E sz) :=
  m_met (Qc := fun z => mQi E z r σ') (by decide) rfl (Nat.le_of_ble_eq_true rfl) (fun hC ls hl hP => w_way_0 hC ⟨Nat.le_refl _, Nat.le_refl _⟩ N σ x1 x2 x3 h hP va_S.rf hl)

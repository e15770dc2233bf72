/-! BY gen_model.py: signed fault where isGround sink grip not dead map isCell height ground doubt isDoubt weigh told forget of -/
def f_signed_76 (N : Nat) (σ : MS) (x1 : Int32) (x2 : Int32) (x3 : Int32) (s0 : Int32) : Option (Int32 × MS) :=
    mcall (f_within N σ s0 x1 x2) fun r3 σ1 =>
    if r3 = 0 then
    mcall (f_wrong N σ1 4 x3) fun r9 σ7 =>
    some (0, σ7)
    else
    mcallv (f_next N σ1) fun σ5 =>
    some (s0, σ5)
set_option maxHeartbeats 4000000 in
set_option maxRecDepth 100000 in
theorem w_signed_76 {p : Program} {l : Launch} {e : Env} {R : Room} {s : State} {m : MethodId} {args : Array Value} {below : List Frame} {meth : Method} {c : Code} {E : mE} {σ' : MS} {r : Int32} (hC : mC p s m args meth c E cX3_signed 6 (some .int)) (hR : 2 ≤ R.frames ∧ 44 ≤ R.locals) (N : Nat) (σ : MS) (x1 : Int32) (x2 : Int32) (x3 : Int32) (s0 : Int32) (h : f_signed_76 N σ x1 x2 x3 s0 = some (r, σ')) {H : Heap} {locs : List Loc} (hP : mP E σ H) (hS : va_S (mA E s.heap.size) s.heap H locs) {ls : Array Slot} (hl : lv_has ls 6 [(0, .ref (mh E)), (1, .int x1), (2, .int x2), (3, .int x3)]) : W p l e R s m args below meth c H locs 0 0 (MQ below (mQi E s.heap.size r σ') args s 0 0 (mA E s.heap.size)) (F0 m 76 ls [.int s0]) := by
  obtain ⟨⟨hx, hb, hml, hown, hts⟩, hK, hD, hr, hlk⟩ := id hC
  unfold f_signed_76 at h
  refine lv_istore (lv' := [(5, .int s0), (0, .ref (mh E)), (1, .int x1), (2, .int x2), (3, .int x3)]) hx hb dX3_signed_76 hl (by decide) rfl (fun ls hl => ?_)
  refine lv_iload hx hb dX3_signed_78 (lv_at hl 0 rfl) ?_
  refine lv_iload_n hx hb dX3_signed_80 rfl (lv_at hl 2 rfl) ?_
  refine lv_iload_n hx hb dX3_signed_81 rfl (lv_at hl 3 rfl) ?_
  obtain ⟨r3, σ1, c2, h⟩ := mcall_n h
  refine m_callsi (As := [.int s0, .int x1, .int x2]) (rest := []) hC (met_within l N E H.size σ s0 x1 x2 r3 σ1 c2) (va_cwS 3 hts (lw_S q2135 q2136 q103 q2137) rfl rfl rfl (by decide +kernel) ⟨Nat.le_trans (Nat.le_of_ble_eq_true rfl) hR.1, Nat.le_trans (Nat.le_of_ble_eq_true rfl) hR.2⟩) hP hS rfl hl.1 rfl (Nat.le_of_ble_eq_true rfl) dX3_signed_82 (fun H locs hP hS => ?_)
  refine lv_if_ne (tgt := 97) hx hb dX3_signed_85 (by decide) (fun c4 => ?_) (fun c4 => ?_)
  · have h := mif_f c4 h
    refine lv_aload_n hx hb dX3_signed_97 rfl (lv_at hl 1 rfl) ?_
    obtain ⟨σ5, c6, h⟩ := mcallv_n h
    refine m_callv (As := []) (rest := []) hC (met_next l N E H.size σ1 σ5 c6) (cwV 0 hts (lw_V q2154 q2156 qs45 q103 q2157) rfl rfl rfl (by decide +kernel) ⟨Nat.le_trans (Nat.le_of_ble_eq_true rfl) hR.1, Nat.le_trans (Nat.le_of_ble_eq_true rfl) hR.2⟩) hP hS rfl hl.1 rfl (Nat.le_of_ble_eq_true rfl) dX3_signed_98 (fun H locs hP hS => ?_)
    refine lv_iload hx hb dX3_signed_101 (lv_at hl 0 rfl) ?_
    cases h
    exact m_iret hC hP hS dX3_signed_103
  · have h := mif_t c4 h
    refine lv_aload_n hx hb dX3_signed_88 rfl (lv_at hl 1 rfl) ?_
    refine lv_iconst (v := 4) hx hb dX3_signed_89 (by decide) ?_
    refine lv_iload_n hx hb dX3_signed_90 rfl (lv_at hl 4 rfl) ?_
    obtain ⟨r9, σ7, c8, h⟩ := mcall_n h
    refine m_calli (As := [.int 4, .int x3]) (rest := []) hC (met_wrong l N E H.size σ1 4 x3 r9 σ7 c8) (cwV 2 hts (lw_V q2196 q2198 qs51 q103 q2199) rfl rfl rfl (by decide +kernel) ⟨Nat.le_trans (Nat.le_of_ble_eq_true rfl) hR.1, Nat.le_trans (Nat.le_of_ble_eq_true rfl) hR.2⟩) hP hS rfl hl.1 rfl (Nat.le_of_ble_eq_true rfl) dX3_signed_91 (fun H locs hP hS => ?_)
    refine lv_pop hx hb dX3_signed_94 rfl ?_
    refine lv_iconst (v := 0) hx hb dX3_signed_95 (by decide) ?_
    cases h
    exact m_iret hC hP hS dX3_signed_96
def f_signed_39 (N : Nat) (σ : MS) (x1 : Int32) (x2 : Int32) (x3 : Int32) (x4 : Int32) : Option (Int32 × MS) :=
    if (σ.1 6) = 3 then
    if x4 = 0 then
    f_signed_76 N σ x1 x2 x3 (σ.1 7)
    else
    f_signed_76 N σ x1 x2 x3 (-(σ.1 7))
    else
    mcall (f_wrong N σ 1 (σ.1 4)) fun r5 σ3 =>
    some (0, σ3)
set_option maxHeartbeats 4000000 in
set_option maxRecDepth 100000 in
theorem w_signed_39 {p : Program} {l : Launch} {e : Env} {R : Room} {s : State} {m : MethodId} {args : Array Value} {below : List Frame} {meth : Method} {c : Code} {E : mE} {σ' : MS} {r : Int32} (hC : mC p s m args meth c E cX3_signed 6 (some .int)) (hR : 2 ≤ R.frames ∧ 44 ≤ R.locals) (N : Nat) (σ : MS) (x1 : Int32) (x2 : Int32) (x3 : Int32) (x4 : Int32) (h : f_signed_39 N σ x1 x2 x3 x4 = some (r, σ')) {H : Heap} {locs : List Loc} (hP : mP E σ H) (hS : va_S (mA E s.heap.size) s.heap H locs) {ls : Array Slot} (hl : lv_has ls 6 [(0, .ref (mh E)), (1, .int x1), (2, .int x2), (3, .int x3), (4, .int x4)]) : W p l e R s m args below meth c H locs 0 0 (MQ below (mQi E s.heap.size r σ') args s 0 0 (mA E s.heap.size)) (F0 m 39 ls []) := by
  obtain ⟨⟨hx, hb, hml, hown, hts⟩, hK, hD, hr, hlk⟩ := id hC
  unfold f_signed_39 at h
  refine lv_aload_n hx hb dX3_signed_39 rfl (lv_at hl 0 rfl) ?_
  refine m_geti hC hP 6 (by decide) rfl q1899 dX3_signed_40 ?_
  refine lv_iconst (v := 3) hx hb dX3_signed_43 (by decide) ?_
  refine lv_icmp_eq (tgt := 59) hx hb dX3_signed_44 (by decide) (fun c1 => ?_) (fun c1 => ?_)
  · have h := mif_t c1 h
    refine lv_iload hx hb dX3_signed_59 (lv_at hl 4 rfl) ?_
    refine lv_if_eq (tgt := 72) hx hb dX3_signed_61 (by decide) (fun c2 => ?_) (fun c2 => ?_)
    · have h := mif_t c2 h
      refine lv_aload_n hx hb dX3_signed_72 rfl (lv_at hl 0 rfl) ?_
      refine m_geti hC hP 7 (by decide) rfl q1900 dX3_signed_73 ?_
      exact w_signed_76 hC hR N σ x1 x2 x3 (σ.1 7) h hP hS (lv_sub hl [0, 1, 2, 3] rfl)
    · have h := mif_f c2 h
      refine lv_aload_n hx hb dX3_signed_64 rfl (lv_at hl 0 rfl) ?_
      refine m_geti hC hP 7 (by decide) rfl q1900 dX3_signed_65 ?_
      refine lv_ineg hx hb dX3_signed_68 ?_
      refine lv_goto (tgt := 76) hx hb dX3_signed_69 (by decide) ?_
      exact w_signed_76 hC hR N σ x1 x2 x3 (-(σ.1 7)) h hP hS (lv_sub hl [0, 1, 2, 3] rfl)
  · have h := mif_f c1 h
    refine lv_aload_n hx hb dX3_signed_47 rfl (lv_at hl 0 rfl) ?_
    refine lv_iconst (v := 1) hx hb dX3_signed_48 (by decide) ?_
    refine lv_aload_n hx hb dX3_signed_49 rfl (lv_at hl 0 rfl) ?_
    refine m_geti hC hP 4 (by decide) rfl q1897 dX3_signed_50 ?_
    obtain ⟨r5, σ3, c4, h⟩ := mcall_n h
    refine m_calli (As := [.int 1, .int (σ.1 4)]) (rest := []) hC (met_wrong l N E H.size σ 1 (σ.1 4) r5 σ3 c4) (cwV 2 hts (lw_V q2196 q2198 qs51 q103 q2199) rfl rfl rfl (by decide +kernel) ⟨Nat.le_trans (Nat.le_of_ble_eq_true rfl) hR.1, Nat.le_trans (Nat.le_of_ble_eq_true rfl) hR.2⟩) hP hS rfl hl.1 rfl (Nat.le_of_ble_eq_true rfl) dX3_signed_53 (fun H locs hP hS => ?_)
    refine lv_pop hx hb dX3_signed_56 rfl ?_
    refine lv_iconst (v := 0) hx hb dX3_signed_57 (by decide) ?_
    cases h
    exact m_iret hC hP hS dX3_signed_58
def f_signed_28 (N : Nat) (σ : MS) (x1 : Int32) (x2 : Int32) (x3 : Int32) (s0 : Int32) : Option (Int32 × MS) :=
    if s0 = 0 then
    f_signed_39 N σ x1 x2 x3 s0
    else
    mcallv (f_next N σ) fun σ2 =>
    f_signed_39 N σ2 x1 x2 x3 s0
set_option maxHeartbeats 4000000 in
set_option maxRecDepth 100000 in
theorem w_signed_28 {p : Program} {l : Launch} {e : Env} {R : Room} {s : State} {m : MethodId} {args : Array Value} {below : List Frame} {meth : Method} {c : Code} {E : mE} {σ' : MS} {r : Int32} (hC : mC p s m args meth c E cX3_signed 6 (some .int)) (hR : 2 ≤ R.frames ∧ 44 ≤ R.locals) (N : Nat) (σ : MS) (x1 : Int32) (x2 : Int32) (x3 : Int32) (s0 : Int32) (h : f_signed_28 N σ x1 x2 x3 s0 = some (r, σ')) {H : Heap} {locs : List Loc} (hP : mP E σ H) (hS : va_S (mA E s.heap.size) s.heap H locs) {ls : Array Slot} (hl : lv_has ls 6 [(0, .ref (mh E)), (1, .int x1), (2, .int x2), (3, .int x3)]) : W p l e R s m args below meth c H locs 0 0 (MQ below (mQi E s.heap.size r σ') args s 0 0 (mA E s.heap.size)) (F0 m 28 ls [.int s0]) := by
  obtain ⟨⟨hx, hb, hml, hown, hts⟩, hK, hD, hr, hlk⟩ := id hC
  unfold f_signed_28 at h
  refine lv_istore (lv' := [(4, .int s0), (0, .ref (mh E)), (1, .int x1), (2, .int x2), (3, .int x3)]) hx hb dX3_signed_28 hl (by decide) rfl (fun ls hl => ?_)
  refine lv_iload hx hb dX3_signed_30 (lv_at hl 0 rfl) ?_
  refine lv_if_eq (tgt := 39) hx hb dX3_signed_32 (by decide) (fun c1 => ?_) (fun c1 => ?_)
  · have h := mif_t c1 h
    exact w_signed_39 hC hR N σ x1 x2 x3 s0 h hP hS (lv_sub hl [1, 2, 3, 4, 0] rfl)
  · have h := mif_f c1 h
    refine lv_aload_n hx hb dX3_signed_35 rfl (lv_at hl 1 rfl) ?_
    obtain ⟨σ2, c3, h⟩ := mcallv_n h
    refine m_callv (As := []) (rest := []) hC (met_next l N E H.size σ σ2 c3) (cwV 0 hts (lw_V q2154 q2156 qs45 q103 q2157) rfl rfl rfl (by decide +kernel) ⟨Nat.le_trans (Nat.le_of_ble_eq_true rfl) hR.1, Nat.le_trans (Nat.le_of_ble_eq_true rfl) hR.2⟩) hP hS rfl hl.1 rfl (Nat.le_of_ble_eq_true rfl) dX3_signed_36 (fun H locs hP hS => ?_)
    exact w_signed_39 hC hR N σ2 x1 x2 x3 s0 h hP hS (lv_sub hl [1, 2, 3, 4, 0] rfl)
def f_signed (N : Nat) (σ : MS) (x1 : Int32) (x2 : Int32) : Option (Int32 × MS) :=
    if (σ.1 13) = 0 then
    mlet (σ.1 4) fun y2 =>
    if (σ.1 6) = 45 then
    f_signed_28 N σ x1 x2 y2 1
    else
    f_signed_28 N σ x1 x2 y2 0
    else
    some (0, σ)
set_option maxHeartbeats 4000000 in
set_option maxRecDepth 100000 in
theorem w_signed_0 {p : Program} {l : Launch} {e : Env} {R : Room} {s : State} {m : MethodId} {args : Array Value} {below : List Frame} {meth : Method} {c : Code} {E : mE} {σ' : MS} {r : Int32} (hC : mC p s m args meth c E cX3_signed 6 (some .int)) (hR : 2 ≤ R.frames ∧ 44 ≤ R.locals) (N : Nat) (σ : MS) (x1 : Int32) (x2 : Int32) (h : f_signed N σ x1 x2 = some (r, σ')) {H : Heap} {locs : List Loc} (hP : mP E σ H) (hS : va_S (mA E s.heap.size) s.heap H locs) {ls : Array Slot} (hl : lv_has ls 6 [(0, .ref (mh E)), (1, .int x1), (2, .int x2)]) : W p l e R s m args below meth c H locs 0 0 (MQ below (mQi E s.heap.size r σ') args s 0 0 (mA E s.heap.size)) (F0 m 0 ls []) := by
  obtain ⟨⟨hx, hb, hml, hown, hts⟩, hK, hD, hr, hlk⟩ := id hC
  unfold f_signed at h
  refine lv_aload_n hx hb dX3_signed_0 rfl (lv_at hl 0 rfl) ?_
  refine m_geti hC hP 13 (by decide) rfl q1906 dX3_signed_1 ?_
  refine lv_if_eq (tgt := 9) hx hb dX3_signed_4 (by decide) (fun c1 => ?_) (fun c1 => ?_)
  · have h := mif_t c1 h
    refine lv_aload_n hx hb dX3_signed_9 rfl (lv_at hl 0 rfl) ?_
    refine m_geti hC hP 4 (by decide) rfl q1897 dX3_signed_10 ?_
    refine lv_topi (fun y2 ey2 => ?_)
    have h := mlet_at ey2 h
    refine lv_istore_n (lv' := [(3, .int y2), (0, .ref (mh E)), (1, .int x1), (2, .int x2)]) hx hb dX3_signed_13 rfl hl (by decide) rfl (fun ls hl => ?_)
    refine lv_aload_n hx hb dX3_signed_14 rfl (lv_at hl 1 rfl) ?_
    refine m_geti hC hP 6 (by decide) rfl q1899 dX3_signed_15 ?_
    refine lv_bipush (v := 45) hx hb dX3_signed_18 (by decide) ?_
    refine lv_icmp_ne (tgt := 27) hx hb dX3_signed_20 (by decide) (fun c3 => ?_) (fun c3 => ?_)
    · have h := mif_f c3 h
      refine lv_iconst (v := 0) hx hb dX3_signed_27 (by decide) ?_
      exact w_signed_28 hC hR N σ x1 x2 y2 0 h hP hS (lv_sub hl [1, 2, 3, 0] rfl)
    · have h := mif_t c3 h
      refine lv_iconst (v := 1) hx hb dX3_signed_23 (by decide) ?_
      refine lv_goto (tgt := 28) hx hb dX3_signed_24 (by decide) ?_
      exact w_signed_28 hC hR N σ x1 x2 y2 1 h hP hS (lv_sub hl [1, 2, 3, 0] rfl)
  · have h := mif_f c1 h
    refine lv_iconst (v := 0) hx hb dX3_signed_7 (by decide) ?_
    cases h
    exact m_iret hC hP hS dX3_signed_8
theorem met_signed (l : Launch) (N : Nat) (E : mE) (sz : Nat) (σ : MS) (x1 : Int32) (x2 : Int32) (r : Int32) (σ' : MS) (h : f_signed N σ x1 x2 = some (r, σ')) : Met l yX3_signed (ws_ yX3_signed cX3_signed 6 (some .int)) ({ frames := 2, cells := 0, slots := 0, locals := 44 }) (mPc E sz σ [.ref (mh E), .int x1, .int x2]) (mQi E sz r σ') 0 0 (mA E sz) :=
  m_met (Qc := fun z => mQi E z r σ') (by decide) rfl (Nat.le_of_ble_eq_true rfl) (fun hC ls hl hP => w_signed_0 hC ⟨Nat.le_refl _, Nat.le_refl _⟩ N σ x1 x2 h hP va_S.rf hl)
def f_fault (N : Nat) (σ : MS) : Option (Int32 × MS) :=
    mlet (mSet σ 0 0) fun σ1 =>
    some (σ1.1 9, σ1)
set_option maxHeartbeats 4000000 in
set_option maxRecDepth 100000 in
theorem w_fault_0 {p : Program} {l : Launch} {e : Env} {R : Room} {s : State} {m : MethodId} {args : Array Value} {below : List Frame} {meth : Method} {c : Code} {E : mE} {σ' : MS} {r : Int32} (hC : mC p s m args meth c E cX3_fault 1 (some .int)) (hR : 0 ≤ R.frames ∧ 0 ≤ R.locals) (N : Nat) (σ : MS) (h : f_fault N σ = some (r, σ')) {H : Heap} {locs : List Loc} (hP : mP E σ H) (hS : va_S (mA E s.heap.size) s.heap H locs) {ls : Array Slot} (hl : lv_has ls 1 [(0, .ref (mh E))]) : W p l e R s m args below meth c H locs 0 0 (MQ below (mQi E s.heap.size r σ') args s 0 0 (mA E s.heap.size)) (F0 m 0 ls []) := by
  obtain ⟨⟨hx, hb, hml, hown, hts⟩, hK, hD, hr, hlk⟩ := id hC
  unfold f_fault at h
  refine lv_aload_n hx hb dX3_fault_0 rfl (lv_at hl 0 rfl) ?_
  refine lv_iconst (v := 0) hx hb dX3_fault_1 (by decide) ?_
  refine m_put hC hP hS 0 (by decide) rfl q1893 rfl (ty := .int) (tyX3_ok 0 (by decide)) ⟨rfl, rfl⟩ dX3_fault_2 (fun H locs hP hS => ?_)
  obtain ⟨σ1, eσ1⟩ : ∃ z : MS, z = mSet σ 0 0 := ⟨_, rfl⟩
  rw [← eσ1] at hP
  have h := mlet_at eσ1 h
  refine lv_aload_n hx hb dX3_fault_5 rfl (lv_at hl 0 rfl) ?_
  refine m_geti hC hP 9 (by decide) rfl q1902 dX3_fault_6 ?_
  cases h
  exact m_iret hC hP hS dX3_fault_9
theorem met_fault (l : Launch) (N : Nat) (E : mE) (sz : Nat) (σ : MS) (r : Int32) (σ' : MS) (h : f_fault N σ = some (r, σ')) : Met l yX3_fault (ws_ yX3_fault cX3_fault 1 (some .int)) ({ frames := 0, cells := 0, slots := 0, locals := 0 }) (mPc E sz σ [.ref (mh E)]) (mQi E sz r σ') 0 0 (mA E sz) :=
  m_met (Qc := fun z => mQi E z r σ') (by decide) rfl (Nat.le_of_ble_eq_true rfl) (fun hC ls hl hP => w_fault_0 hC ⟨Nat.le_refl _, Nat.le_refl _⟩ N σ h hP va_S.rf hl)
def f_where_21 (N : Nat) (σ : MS) (s0 : Int32) : Option (Int32 × MS) :=
    some (s0, σ)
set_option maxHeartbeats 4000000 in
set_option maxRecDepth 100000 in
theorem w_where_21 {p : Program} {l : Launch} {e : Env} {R : Room} {s : State} {m : MethodId} {args : Array Value} {below : List Frame} {meth : Method} {c : Code} {E : mE} {σ' : MS} {r : Int32} (hC : mC p s m args meth c E cX3_where 1 (some .int)) (hR : 0 ≤ R.frames ∧ 0 ≤ R.locals) (N : Nat) (σ : MS) (s0 : Int32) (h : f_where_21 N σ s0 = some (r, σ')) {H : Heap} {locs : List Loc} (hP : mP E σ H) (hS : va_S (mA E s.heap.size) s.heap H locs) {ls : Array Slot} (hl : lv_has ls 1 []) : W p l e R s m args below meth c H locs 0 0 (MQ below (mQi E s.heap.size r σ') args s 0 0 (mA E s.heap.size)) (F0 m 21 ls [.int s0]) := by
  obtain ⟨⟨hx, hb, hml, hown, hts⟩, hK, hD, hr, hlk⟩ := id hC
  unfold f_where_21 at h
  cases h
  exact m_iret hC hP hS dX3_where_21
def f_where (N : Nat) (σ : MS) : Option (Int32 × MS) :=
    mlet (mSet σ 0 0) fun σ1 =>
    if (σ1.1 39) = 4 then
    f_where_21 N σ1 (σ1.1 10)
    else
    f_where_21 N σ1 (-1)
set_option maxHeartbeats 4000000 in
set_option maxRecDepth 100000 in
theorem w_where_0 {p : Program} {l : Launch} {e : Env} {R : Room} {s : State} {m : MethodId} {args : Array Value} {below : List Frame} {meth : Method} {c : Code} {E : mE} {σ' : MS} {r : Int32} (hC : mC p s m args meth c E cX3_where 1 (some .int)) (hR : 0 ≤ R.frames ∧ 0 ≤ R.locals) (N : Nat) (σ : MS) (h : f_where N σ = some (r, σ')) {H : Heap} {locs : List Loc} (hP : mP E σ H) (hS : va_S (mA E s.heap.size) s.heap H locs) {ls : Array Slot} (hl : lv_has ls 1 [(0, .ref (mh E))]) : W p l e R s m args below meth c H locs 0 0 (MQ below (mQi E s.heap.size r σ') args s 0 0 (mA E s.heap.size)) (F0 m 0 ls []) := by
  obtain ⟨⟨hx, hb, hml, hown, hts⟩, hK, hD, hr, hlk⟩ := id hC
  unfold f_where at h
  refine lv_aload_n hx hb dX3_where_0 rfl (lv_at hl 0 rfl) ?_
  refine lv_iconst (v := 0) hx hb dX3_where_1 (by decide) ?_
  refine m_put hC hP hS 0 (by decide) rfl q1893 rfl (ty := .int) (tyX3_ok 0 (by decide)) ⟨rfl, rfl⟩ dX3_where_2 (fun H locs hP hS => ?_)
  obtain ⟨σ1, eσ1⟩ : ∃ z : MS, z = mSet σ 0 0 := ⟨_, rfl⟩
  rw [← eσ1] at hP
  have h := mlet_at eσ1 h
  refine lv_aload_n hx hb dX3_where_5 rfl (lv_at hl 0 rfl) ?_
  refine m_geti hC hP 39 (by decide) rfl q1932 dX3_where_6 ?_
  refine lv_iconst (v := 4) hx hb dX3_where_9 (by decide) ?_
  refine lv_icmp_ne (tgt := 20) hx hb dX3_where_10 (by decide) (fun c2 => ?_) (fun c2 => ?_)
  · have h := mif_f c2 h
    refine lv_iconst (v := (-1)) hx hb dX3_where_20 (by decide) ?_
    exact w_where_21 hC hR N σ1 (-1) h hP hS (lv_sub hl [] rfl)
  · have h := mif_t c2 h
    refine lv_aload_n hx hb dX3_where_13 rfl (lv_at hl 0 rfl) ?_
    refine m_geti hC hP 10 (by decide) rfl q1903 dX3_where_14 ?_
    refine lv_goto (tgt := 21) hx hb dX3_where_17 (by decide) ?_
    exact w_where_21 hC hR N σ1 (σ1.1 10) h hP hS (lv_sub hl [] rfl)
theorem met_where (l : Launch) (N : Nat) (E : mE) (sz : Nat) (σ : MS) (r : Int32) (σ' : MS) (h : f_where N σ = some (r, σ')) : Met l yX3_where (ws_ yX3_where cX3_where 1 (some .int)) ({ frames := 0, cells := 0, slots := 0, locals := 0 }) (mPc E sz σ [.ref (mh E)]) (mQi E sz r σ') 0 0 (mA E sz) :=
  m_met (Qc := fun z => mQi E z r σ') (by decide) rfl (Nat.le_of_ble_eq_true rfl) (fun hC ls hl hP => w_where_0 hC ⟨Nat.le_refl _, Nat.le_refl _⟩ N σ h hP va_S.rf hl)
def f_isGround_26 (N : Nat) (σ : MS) (s0 : Int32) : Option (Int32 × MS) :=
    if mBit s0 = true then
    some (s0, σ)
    else none
set_option maxHeartbeats 4000000 in
set_option maxRecDepth 100000 in
theorem w_isGround_26 {p : Program} {l : Launch} {e : Env} {R : Room} {s : State} {m : MethodId} {args : Array Value} {below : List Frame} {meth : Method} {c : Code} {E : mE} {σ' : MS} {r : Int32} (hC : mC p s m args meth c E cX3_isGround 2 (some .boolean)) (hR : 1 ≤ R.frames ∧ 22 ≤ R.locals) (N : Nat) (σ : MS) (s0 : Int32) (h : f_isGround_26 N σ s0 = some (r, σ')) {H : Heap} {locs : List Loc} (hP : mP E σ H) (hS : va_S (mA E s.heap.size) s.heap H locs) {ls : Array Slot} (hl : lv_has ls 2 []) : W p l e R s m args below meth c H locs 0 0 (MQ below (mQi E s.heap.size r σ') args s 0 0 (mA E s.heap.size)) (F0 m 26 ls [.int s0]) := by
  obtain ⟨⟨hx, hb, hml, hown, hts⟩, hK, hD, hr, hlk⟩ := id hC
  unfold f_isGround_26 at h
  obtain ⟨c1, h⟩ := mif_n h
  cases h
  exact m_zret hC c1 hP hS dX3_isGround_26
def f_isGround_25 (N : Nat) (σ : MS) : Option (Int32 × MS) :=
    f_isGround_26 N σ 0
set_option maxHeartbeats 4000000 in
set_option maxRecDepth 100000 in
theorem w_isGround_25 {p : Program} {l : Launch} {e : Env} {R : Room} {s : State} {m : MethodId} {args : Array Value} {below : List Frame} {meth : Method} {c : Code} {E : mE} {σ' : MS} {r : Int32} (hC : mC p s m args meth c E cX3_isGround 2 (some .boolean)) (hR : 1 ≤ R.frames ∧ 22 ≤ R.locals) (N : Nat) (σ : MS) (h : f_isGround_25 N σ = some (r, σ')) {H : Heap} {locs : List Loc} (hP : mP E σ H) (hS : va_S (mA E s.heap.size) s.heap H locs) {ls : Array Slot} (hl : lv_has ls 2 []) : W p l e R s m args below meth c H locs 0 0 (MQ below (mQi E s.heap.size r σ') args s 0 0 (mA E s.heap.size)) (F0 m 25 ls []) := by
  obtain ⟨⟨hx, hb, hml, hown, hts⟩, hK, hD, hr, hlk⟩ := id hC
  unfold f_isGround_25 at h
  refine lv_iconst (v := 0) hx hb dX3_isGround_25 (by decide) ?_
  exact w_isGround_26 hC hR N σ 0 h hP hS (lv_sub hl [] rfl)
def f_isGround (N : Nat) (σ : MS) (x1 : Int32) : Option (Int32 × MS) :=
    if (σ.1 12) = 0 then
    f_isGround_25 N σ
    else
    mcall (f_within N σ x1 0 ((σ.1 22) - 1)) fun r4 σ2 =>
    if r4 = 0 then
    f_isGround_25 N σ2
    else
    f_isGround_26 N σ2 1
set_option maxHeartbeats 4000000 in
set_option maxRecDepth 100000 in
theorem w_isGround_0 {p : Program} {l : Launch} {e : Env} {R : Room} {s : State} {m : MethodId} {args : Array Value} {below : List Frame} {meth : Method} {c : Code} {E : mE} {σ' : MS} {r : Int32} (hC : mC p s m args meth c E cX3_isGround 2 (some .boolean)) (hR : 1 ≤ R.frames ∧ 22 ≤ R.locals) (N : Nat) (σ : MS) (x1 : Int32) (h : f_isGround N σ x1 = some (r, σ')) {H : Heap} {locs : List Loc} (hP : mP E σ H) (hS : va_S (mA E s.heap.size) s.heap H locs) {ls : Array Slot} (hl : lv_has ls 2 [(0, .ref (mh E)), (1, .int x1)]) : W p l e R s m args below meth c H locs 0 0 (MQ below (mQi E s.heap.size r σ') args s 0 0 (mA E s.heap.size)) (F0 m 0 ls []) := by
  obtain ⟨⟨hx, hb, hml, hown, hts⟩, hK, hD, hr, hlk⟩ := id hC
  unfold f_isGround at h
  refine lv_aload_n hx hb dX3_isGround_0 rfl (lv_at hl 0 rfl) ?_
  refine m_geti hC hP 12 (by decide) rfl q1905 dX3_isGround_1 ?_
  refine lv_if_eq (tgt := 25) hx hb dX3_isGround_4 (by decide) (fun c1 => ?_) (fun c1 => ?_)
  · have h := mif_t c1 h
    exact w_isGround_25 hC hR N σ h hP hS (lv_sub hl [] rfl)
  · have h := mif_f c1 h
    refine lv_iload_n hx hb dX3_isGround_7 rfl (lv_at hl 1 rfl) ?_
    refine lv_iconst (v := 0) hx hb dX3_isGround_8 (by decide) ?_
    refine lv_aload_n hx hb dX3_isGround_9 rfl (lv_at hl 0 rfl) ?_
    refine m_geti hC hP 22 (by decide) rfl q1915 dX3_isGround_10 ?_
    refine lv_iconst (v := 1) hx hb dX3_isGround_13 (by decide) ?_
    refine lv_isub hx hb dX3_isGround_14 ?_
    obtain ⟨r4, σ2, c3, h⟩ := mcall_n h
    refine m_callsi (As := [.int x1, .int 0, .int ((σ.1 22) - 1)]) (rest := []) hC (met_within l N E H.size σ x1 0 ((σ.1 22) - 1) r4 σ2 c3) (va_cwS 3 hts (lw_S q2135 q2136 q103 q2137) rfl rfl rfl (by decide +kernel) ⟨Nat.le_trans (Nat.le_of_ble_eq_true rfl) hR.1, Nat.le_trans (Nat.le_of_ble_eq_true rfl) hR.2⟩) hP hS rfl hl.1 rfl (Nat.le_of_ble_eq_true rfl) dX3_isGround_15 (fun H locs hP hS => ?_)
    refine lv_if_eq (tgt := 25) hx hb dX3_isGround_18 (by decide) (fun c5 => ?_) (fun c5 => ?_)
    · have h := mif_t c5 h
      exact w_isGround_25 hC hR N σ2 h hP hS (lv_sub hl [] rfl)
    · have h := mif_f c5 h
      refine lv_iconst (v := 1) hx hb dX3_isGround_21 (by decide) ?_
      refine lv_goto (tgt := 26) hx hb dX3_isGround_22 (by decide) ?_
      exact w_isGround_26 hC hR N σ2 1 h hP hS (lv_sub hl [] rfl)
theorem met_isGround (l : Launch) (N : Nat) (E : mE) (sz : Nat) (σ : MS) (x1 : Int32) (r : Int32) (σ' : MS) (h : f_isGround N σ x1 = some (r, σ')) : Met l yX3_isGround (ws_ yX3_isGround cX3_isGround 2 (some .boolean)) ({ frames := 1, cells := 0, slots := 0, locals := 22 }) (mPc E sz σ [.ref (mh E), .int x1]) (mQi E sz r σ') 0 0 (mA E sz) :=
  m_met (Qc := fun z => mQi E z r σ') (by decide) rfl (Nat.le_of_ble_eq_true rfl) (fun hC ls hl hP => w_isGround_0 hC ⟨Nat.le_refl _, Nat.le_refl _⟩ N σ x1 h hP va_S.rf hl)
def f_sink_52 (N : Nat) (σ : MS) (s0 : Int32) : Option (Int32 × MS) :=
    some (s0, σ)
set_option maxHeartbeats 4000000 in
set_option maxRecDepth 100000 in
theorem w_sink_52 {p : Program} {l : Launch} {e : Env} {R : Room} {s : State} {m : MethodId} {args : Array Value} {below : List Frame} {meth : Method} {c : Code} {E : mE} {σ' : MS} {r : Int32} (hC : mC p s m args meth c E cX3_sink 3 (some .int)) (hR : 2 ≤ R.frames ∧ 51 ≤ R.locals) (N : Nat) (σ : MS) (s0 : Int32) (h : f_sink_52 N σ s0 = some (r, σ')) {H : Heap} {locs : List Loc} (hP : mP E σ H) (hS : va_S (mA E s.heap.size) s.heap H locs) {ls : Array Slot} (hl : lv_has ls 3 []) : W p l e R s m args below meth c H locs 0 0 (MQ below (mQi E s.heap.size r σ') args s 0 0 (mA E s.heap.size)) (F0 m 52 ls [.int s0]) := by
  obtain ⟨⟨hx, hb, hml, hown, hts⟩, hK, hD, hr, hlk⟩ := id hC
  unfold f_sink_52 at h
  cases h
  exact m_iret hC hP hS dX3_sink_52
def f_sink (N : Nat) (σ : MS) (x1 : Int32) (x2 : Int32) : Option (Int32 × MS) :=
    mcallv (f_good N σ) fun σ1 =>
    mcall (f_isGround N σ1 x1) fun r5 σ3 =>
    if r5 = 0 then
    mcall (f_no N σ3 1) fun r21 σ19 =>
    some (r21, σ19)
    else
    mcall (f_within N σ3 x2 0 999) fun r9 σ7 =>
    if r9 = 0 then
    mcall (f_no N σ7 2) fun r13 σ11 =>
    f_sink_52 N σ11 r13
    else
    if mIn x1 (mLen 18) = true then mlet (σ7.2.1 18 x1.toNatClampNeg) fun y15 =>
    mcall (f_between N 20 σ7 x1 y15 x2) fun r18 σ16 =>
    f_sink_52 N σ16 r18
    else none
set_option maxHeartbeats 4000000 in
set_option maxRecDepth 100000 in
theorem w_sink_0 {p : Program} {l : Launch} {e : Env} {R : Room} {s : State} {m : MethodId} {args : Array Value} {below : List Frame} {meth : Method} {c : Code} {E : mE} {σ' : MS} {r : Int32} (hC : mC p s m args meth c E cX3_sink 3 (some .int)) (hR : 2 ≤ R.frames ∧ 51 ≤ R.locals) (N : Nat) (σ : MS) (x1 : Int32) (x2 : Int32) (h : f_sink N σ x1 x2 = some (r, σ')) {H : Heap} {locs : List Loc} (hP : mP E σ H) (hS : va_S (mA E s.heap.size) s.heap H locs) {ls : Array Slot} (hl : lv_has ls 3 [(0, .ref (mh E)), (1, .int x1), (2, .int x2)]) : W p l e R s m args below meth c H locs 0 0 (MQ below (mQi E s.heap.size r σ') args s 0 0 (mA E s.heap.size)) (F0 m 0 ls []) := by
  obtain ⟨⟨hx, hb, hml, hown, hts⟩, hK, hD, hr, hlk⟩ := id hC
  unfold f_sink at h
  refine lv_aload_n hx hb dX3_sink_0 rfl (lv_at hl 0 rfl) ?_
  obtain ⟨σ1, c2, h⟩ := mcallv_n h
  refine m_callv (As := []) (rest := []) hC (met_good l N E H.size σ σ1 c2) (cwV 0 hts (lw_V q2131 q2133 qs40 q103 q2134) rfl rfl rfl (by decide +kernel) ⟨Nat.le_trans (Nat.le_of_ble_eq_true rfl) hR.1, Nat.le_trans (Nat.le_of_ble_eq_true rfl) hR.2⟩) hP hS rfl hl.1 rfl (Nat.le_of_ble_eq_true rfl) dX3_sink_1 (fun H locs hP hS => ?_)
  refine lv_aload_n hx hb dX3_sink_4 rfl (lv_at hl 0 rfl) ?_
  refine lv_iload_n hx hb dX3_sink_5 rfl (lv_at hl 1 rfl) ?_
  obtain ⟨r5, σ3, c4, h⟩ := mcall_n h
  refine m_calli (As := [.int x1]) (rest := []) hC (met_isGround l N E H.size σ1 x1 r5 σ3 c4) (cwV 1 hts (lw_V q2246 q2248 qs58 q103 q2249) rfl rfl rfl (by decide +kernel) ⟨Nat.le_trans (Nat.le_of_ble_eq_true rfl) hR.1, Nat.le_trans (Nat.le_of_ble_eq_true rfl) hR.2⟩) hP hS rfl hl.1 rfl (Nat.le_of_ble_eq_true rfl) dX3_sink_6 (fun H locs hP hS => ?_)
  refine lv_if_ne (tgt := 18) hx hb dX3_sink_9 (by decide) (fun c6 => ?_) (fun c6 => ?_)
  · have h := mif_f c6 h
    refine lv_iload_n hx hb dX3_sink_18 rfl (lv_at hl 2 rfl) ?_
    refine lv_iconst (v := 0) hx hb dX3_sink_19 (by decide) ?_
    refine lv_sipush (v := 999) hx hb dX3_sink_20 (by decide) ?_
    obtain ⟨r9, σ7, c8, h⟩ := mcall_n h
    refine m_callsi (As := [.int x2, .int 0, .int 999]) (rest := []) hC (met_within l N E H.size σ3 x2 0 999 r9 σ7 c8) (va_cwS 3 hts (lw_S q2135 q2136 q103 q2137) rfl rfl rfl (by decide +kernel) ⟨Nat.le_trans (Nat.le_of_ble_eq_true rfl) hR.1, Nat.le_trans (Nat.le_of_ble_eq_true rfl) hR.2⟩) hP hS rfl hl.1 rfl (Nat.le_of_ble_eq_true rfl) dX3_sink_23 (fun H locs hP hS => ?_)
    refine lv_if_eq (tgt := 47) hx hb dX3_sink_26 (by decide) (fun c10 => ?_) (fun c10 => ?_)
    · have h := mif_t c10 h
      refine lv_aload_n hx hb dX3_sink_47 rfl (lv_at hl 0 rfl) ?_
      refine lv_iconst (v := 2) hx hb dX3_sink_48 (by decide) ?_
      obtain ⟨r13, σ11, c12, h⟩ := mcall_n h
      refine m_calli (As := [.int 2]) (rest := []) hC (met_no l N E H.size σ7 2 r13 σ11 c12) (cwV 1 hts (lw_V q2138 q2140 qs41 q103 q2141) rfl rfl rfl (by decide +kernel) ⟨Nat.le_trans (Nat.le_of_ble_eq_true rfl) hR.1, Nat.le_trans (Nat.le_of_ble_eq_true rfl) hR.2⟩) hP hS rfl hl.1 rfl (Nat.le_of_ble_eq_true rfl) dX3_sink_49 (fun H locs hP hS => ?_)
      exact w_sink_52 hC hR N σ11 r13 h hP hS (lv_sub hl [] rfl)
    · have h := mif_f c10 h
      refine lv_aload_n hx hb dX3_sink_29 rfl (lv_at hl 0 rfl) ?_
      refine m_geta hC hP 20 (by decide) rfl q1913 dX3_sink_30 ?_
      refine lv_iload_n hx hb dX3_sink_33 rfl (lv_at hl 1 rfl) ?_
      refine lv_aload_n hx hb dX3_sink_34 rfl (lv_at hl 0 rfl) ?_
      refine m_geta hC hP 18 (by decide) rfl q1911 dX3_sink_35 ?_
      refine lv_iload_n hx hb dX3_sink_38 rfl (lv_at hl 1 rfl) ?_
      obtain ⟨c14, h⟩ := mif_n h
      refine m_ald hC hP 18 rfl c14 dX3_sink_39 ?_
      refine lv_topi (fun y15 ey15 => ?_)
      have h := mlet_at ey15 h
      refine lv_iload_n hx hb dX3_sink_40 rfl (lv_at hl 2 rfl) ?_
      obtain ⟨r18, σ16, c17, h⟩ := mcall_n h
      refine m_callsi (As := [.ref (mad E 20), .int x1, .int y15, .int x2]) (rest := []) hC (met_between l N E H.size σ7 (rfl : mInt 20 = true) x1 y15 x2 r18 σ16 c17) (va_cwS 4 hts (lw_S q2250 q2251 q103 q2252) rfl rfl rfl (by decide +kernel) ⟨Nat.le_trans (Nat.le_of_ble_eq_true rfl) hR.1, Nat.le_trans (Nat.le_of_ble_eq_true rfl) hR.2⟩) hP hS rfl hl.1 rfl (Nat.le_of_ble_eq_true rfl) dX3_sink_41 (fun H locs hP hS => ?_)
      refine lv_goto (tgt := 52) hx hb dX3_sink_44 (by decide) ?_
      exact w_sink_52 hC hR N σ16 r18 h hP hS (lv_sub hl [] rfl)
  · have h := mif_t c6 h
    refine lv_aload_n hx hb dX3_sink_12 rfl (lv_at hl 0 rfl) ?_
    refine lv_iconst (v := 1) hx hb dX3_sink_13 (by decide) ?_
    obtain ⟨r21, σ19, c20, h⟩ := mcall_n h
    refine m_calli (As := [.int 1]) (rest := []) hC (met_no l N E H.size σ3 1 r21 σ19 c20) (cwV 1 hts (lw_V q2138 q2140 qs41 q103 q2141) rfl rfl rfl (by decide +kernel) ⟨Nat.le_trans (Nat.le_of_ble_eq_true rfl) hR.1, Nat.le_trans (Nat.le_of_ble_eq_true rfl) hR.2⟩) hP hS rfl hl.1 rfl (Nat.le_of_ble_eq_true rfl) dX3_sink_14 (fun H locs hP hS => ?_)
    cases h
    exact m_iret hC hP hS dX3_sink_17
theorem met_sink (l : Launch) (N : Nat) (E : mE) (sz : Nat) (σ : MS) (x1 : Int32) (x2 : Int32) (r : Int32) (σ' : MS) (h : f_sink N σ x1 x2 = some (r, σ')) : Met l yX3_sink (ws_ yX3_sink cX3_sink 3 (some .int)) ({ frames := 2, cells := 0, slots := 0, locals := 51 }) (mPc E sz σ [.ref (mh E), .int x1, .int x2]) (mQi E sz r σ') 0 0 (mA E sz) :=
  m_met (Qc := fun z => mQi E z r σ') (by decide) rfl (Nat.le_of_ble_eq_true rfl) (fun hC ls hl hP => w_sink_0 hC ⟨Nat.le_refl _, Nat.le_refl _⟩ N σ x1 x2 h hP va_S.rf hl)
def f_grip_51 (N : Nat) (σ : MS) (s0 : Int32) : Option (Int32 × MS) :=
    some (s0, σ)
set_option maxHeartbeats 4000000 in
set_option maxRecDepth 100000 in
theorem w_grip_51 {p : Program} {l : Launch} {e : Env} {R : Room} {s : State} {m : MethodId} {args : Array Value} {below : List Frame} {meth : Method} {c : Code} {E : mE} {σ' : MS} {r : Int32} (hC : mC p s m args meth c E cX3_grip 3 (some .int)) (hR : 2 ≤ R.frames ∧ 51 ≤ R.locals) (N : Nat) (σ : MS) (s0 : Int32) (h : f_grip_51 N σ s0 = some (r, σ')) {H : Heap} {locs : List Loc} (hP : mP E σ H) (hS : va_S (mA E s.heap.size) s.heap H locs) {ls : Array Slot} (hl : lv_has ls 3 []) : W p l e R s m args below meth c H locs 0 0 (MQ below (mQi E s.heap.size r σ') args s 0 0 (mA E s.heap.size)) (F0 m 51 ls [.int s0]) := by
  obtain ⟨⟨hx, hb, hml, hown, hts⟩, hK, hD, hr, hlk⟩ := id hC
  unfold f_grip_51 at h
  cases h
  exact m_iret hC hP hS dX3_grip_51
def f_grip (N : Nat) (σ : MS) (x1 : Int32) (x2 : Int32) : Option (Int32 × MS) :=
    mcallv (f_good N σ) fun σ1 =>
    mcall (f_isGround N σ1 x1) fun r5 σ3 =>
    if r5 = 0 then
    mcall (f_no N σ3 1) fun r21 σ19 =>
    some (r21, σ19)
    else
    mcall (f_within N σ3 x2 0 90) fun r9 σ7 =>
    if r9 = 0 then
    mcall (f_no N σ7 2) fun r13 σ11 =>
    f_grip_51 N σ11 r13
    else
    if mIn x1 (mLen 19) = true then mlet (σ7.2.1 19 x1.toNatClampNeg) fun y15 =>
    mcall (f_between N 21 σ7 x1 y15 x2) fun r18 σ16 =>
    f_grip_51 N σ16 r18
    else none
set_option maxHeartbeats 4000000 in
set_option maxRecDepth 100000 in
theorem w_grip_0 {p : Program} {l : Launch} {e : Env} {R : Room} {s : State} {m : MethodId} {args : Array Value} {below : List Frame} {meth : Method} {c : Code} {E : mE} {σ' : MS} {r : Int32} (hC : mC p s m args meth c E cX3_grip 3 (some .int)) (hR : 2 ≤ R.frames ∧ 51 ≤ R.locals) (N : Nat) (σ : MS) (x1 : Int32) (x2 : Int32) (h : f_grip N σ x1 x2 = some (r, σ')) {H : Heap} {locs : List Loc} (hP : mP E σ H) (hS : va_S (mA E s.heap.size) s.heap H locs) {ls : Array Slot} (hl : lv_has ls 3 [(0, .ref (mh E)), (1, .int x1), (2, .int x2)]) : W p l e R s m args below meth c H locs 0 0 (MQ below (mQi E s.heap.size r σ') args s 0 0 (mA E s.heap.size)) (F0 m 0 ls []) := by
  obtain ⟨⟨hx, hb, hml, hown, hts⟩, hK, hD, hr, hlk⟩ := id hC
  unfold f_grip at h
  refine lv_aload_n hx hb dX3_grip_0 rfl (lv_at hl 0 rfl) ?_
  obtain ⟨σ1, c2, h⟩ := mcallv_n h
  refine m_callv (As := []) (rest := []) hC (met_good l N E H.size σ σ1 c2) (cwV 0 hts (lw_V q2131 q2133 qs40 q103 q2134) rfl rfl rfl (by decide +kernel) ⟨Nat.le_trans (Nat.le_of_ble_eq_true rfl) hR.1, Nat.le_trans (Nat.le_of_ble_eq_true rfl) hR.2⟩) hP hS rfl hl.1 rfl (Nat.le_of_ble_eq_true rfl) dX3_grip_1 (fun H locs hP hS => ?_)
  refine lv_aload_n hx hb dX3_grip_4 rfl (lv_at hl 0 rfl) ?_
  refine lv_iload_n hx hb dX3_grip_5 rfl (lv_at hl 1 rfl) ?_
  obtain ⟨r5, σ3, c4, h⟩ := mcall_n h
  refine m_calli (As := [.int x1]) (rest := []) hC (met_isGround l N E H.size σ1 x1 r5 σ3 c4) (cwV 1 hts (lw_V q2246 q2248 qs58 q103 q2249) rfl rfl rfl (by decide +kernel) ⟨Nat.le_trans (Nat.le_of_ble_eq_true rfl) hR.1, Nat.le_trans (Nat.le_of_ble_eq_true rfl) hR.2⟩) hP hS rfl hl.1 rfl (Nat.le_of_ble_eq_true rfl) dX3_grip_6 (fun H locs hP hS => ?_)
  refine lv_if_ne (tgt := 18) hx hb dX3_grip_9 (by decide) (fun c6 => ?_) (fun c6 => ?_)
  · have h := mif_f c6 h
    refine lv_iload_n hx hb dX3_grip_18 rfl (lv_at hl 2 rfl) ?_
    refine lv_iconst (v := 0) hx hb dX3_grip_19 (by decide) ?_
    refine lv_bipush (v := 90) hx hb dX3_grip_20 (by decide) ?_
    obtain ⟨r9, σ7, c8, h⟩ := mcall_n h
    refine m_callsi (As := [.int x2, .int 0, .int 90]) (rest := []) hC (met_within l N E H.size σ3 x2 0 90 r9 σ7 c8) (va_cwS 3 hts (lw_S q2135 q2136 q103 q2137) rfl rfl rfl (by decide +kernel) ⟨Nat.le_trans (Nat.le_of_ble_eq_true rfl) hR.1, Nat.le_trans (Nat.le_of_ble_eq_true rfl) hR.2⟩) hP hS rfl hl.1 rfl (Nat.le_of_ble_eq_true rfl) dX3_grip_22 (fun H locs hP hS => ?_)
    refine lv_if_eq (tgt := 46) hx hb dX3_grip_25 (by decide) (fun c10 => ?_) (fun c10 => ?_)
    · have h := mif_t c10 h
      refine lv_aload_n hx hb dX3_grip_46 rfl (lv_at hl 0 rfl) ?_
      refine lv_iconst (v := 2) hx hb dX3_grip_47 (by decide) ?_
      obtain ⟨r13, σ11, c12, h⟩ := mcall_n h
      refine m_calli (As := [.int 2]) (rest := []) hC (met_no l N E H.size σ7 2 r13 σ11 c12) (cwV 1 hts (lw_V q2138 q2140 qs41 q103 q2141) rfl rfl rfl (by decide +kernel) ⟨Nat.le_trans (Nat.le_of_ble_eq_true rfl) hR.1, Nat.le_trans (Nat.le_of_ble_eq_true rfl) hR.2⟩) hP hS rfl hl.1 rfl (Nat.le_of_ble_eq_true rfl) dX3_grip_48 (fun H locs hP hS => ?_)
      exact w_grip_51 hC hR N σ11 r13 h hP hS (lv_sub hl [] rfl)
    · have h := mif_f c10 h
      refine lv_aload_n hx hb dX3_grip_28 rfl (lv_at hl 0 rfl) ?_
      refine m_geta hC hP 21 (by decide) rfl q1914 dX3_grip_29 ?_
      refine lv_iload_n hx hb dX3_grip_32 rfl (lv_at hl 1 rfl) ?_
      refine lv_aload_n hx hb dX3_grip_33 rfl (lv_at hl 0 rfl) ?_
      refine m_geta hC hP 19 (by decide) rfl q1912 dX3_grip_34 ?_
      refine lv_iload_n hx hb dX3_grip_37 rfl (lv_at hl 1 rfl) ?_
      obtain ⟨c14, h⟩ := mif_n h
      refine m_ald hC hP 19 rfl c14 dX3_grip_38 ?_
      refine lv_topi (fun y15 ey15 => ?_)
      have h := mlet_at ey15 h
      refine lv_iload_n hx hb dX3_grip_39 rfl (lv_at hl 2 rfl) ?_
      obtain ⟨r18, σ16, c17, h⟩ := mcall_n h
      refine m_callsi (As := [.ref (mad E 21), .int x1, .int y15, .int x2]) (rest := []) hC (met_between l N E H.size σ7 (rfl : mInt 21 = true) x1 y15 x2 r18 σ16 c17) (va_cwS 4 hts (lw_S q2250 q2251 q103 q2252) rfl rfl rfl (by decide +kernel) ⟨Nat.le_trans (Nat.le_of_ble_eq_true rfl) hR.1, Nat.le_trans (Nat.le_of_ble_eq_true rfl) hR.2⟩) hP hS rfl hl.1 rfl (Nat.le_of_ble_eq_true rfl) dX3_grip_40 (fun H locs hP hS => ?_)
      refine lv_goto (tgt := 51) hx hb dX3_grip_43 (by decide) ?_
      exact w_grip_51 hC hR N σ16 r18 h hP hS (lv_sub hl [] rfl)
  · have h := mif_t c6 h
    refine lv_aload_n hx hb dX3_grip_12 rfl (lv_at hl 0 rfl) ?_
    refine lv_iconst (v := 1) hx hb dX3_grip_13 (by decide) ?_
    obtain ⟨r21, σ19, c20, h⟩ := mcall_n h
    refine m_calli (As := [.int 1]) (rest := []) hC (met_no l N E H.size σ3 1 r21 σ19 c20) (cwV 1 hts (lw_V q2138 q2140 qs41 q103 q2141) rfl rfl rfl (by decide +kernel) ⟨Nat.le_trans (Nat.le_of_ble_eq_true rfl) hR.1, Nat.le_trans (Nat.le_of_ble_eq_true rfl) hR.2⟩) hP hS rfl hl.1 rfl (Nat.le_of_ble_eq_true rfl) dX3_grip_14 (fun H locs hP hS => ?_)
    cases h
    exact m_iret hC hP hS dX3_grip_17
theorem met_grip (l : Launch) (N : Nat) (E : mE) (sz : Nat) (σ : MS) (x1 : Int32) (x2 : Int32) (r : Int32) (σ' : MS) (h : f_grip N σ x1 x2 = some (r, σ')) : Met l yX3_grip (ws_ yX3_grip cX3_grip 3 (some .int)) ({ frames := 2, cells := 0, slots := 0, locals := 51 }) (mPc E sz σ [.ref (mh E), .int x1, .int x2]) (mQi E sz r σ') 0 0 (mA E sz) :=
  m_met (Qc := fun z => mQi E z r σ') (by decide) rfl (Nat.le_of_ble_eq_true rfl) (fun hC ls hl hP => w_grip_0 hC ⟨Nat.le_refl _, Nat.le_refl _⟩ N σ x1 x2 h hP va_S.rf hl)
def f_not (N : Nat) (σ : MS) (x1 : Int32) : Option (Int32 × MS) :=
    mlet (mSet σ 39 x1) fun σ1 =>
    some (0, σ1)
set_option maxHeartbeats 4000000 in
set_option maxRecDepth 100000 in
theorem w_not_0 {p : Program} {l : Launch} {e : Env} {R : Room} {s : State} {m : MethodId} {args : Array Value} {below : List Frame} {meth : Method} {c : Code} {E : mE} {σ' : MS} {r : Int32} (hC : mC p s m args meth c E cX3_not 2 (some .boolean)) (hR : 0 ≤ R.frames ∧ 0 ≤ R.locals) (N : Nat) (σ : MS) (x1 : Int32) (h : f_not N σ x1 = some (r, σ')) {H : Heap} {locs : List Loc} (hP : mP E σ H) (hS : va_S (mA E s.heap.size) s.heap H locs) {ls : Array Slot} (hl : lv_has ls 2 [(0, .ref (mh E)), (1, .int x1)]) : W p l e R s m args below meth c H locs 0 0 (MQ below (mQi E s.heap.size r σ') args s 0 0 (mA E s.heap.size)) (F0 m 0 ls []) := by
  obtain ⟨⟨hx, hb, hml, hown, hts⟩, hK, hD, hr, hlk⟩ := id hC
  unfold f_not at h
  refine lv_aload_n hx hb dX3_not_0 rfl (lv_at hl 0 rfl) ?_
  refine lv_iload_n hx hb dX3_not_1 rfl (lv_at hl 1 rfl) ?_
  refine m_put hC hP hS 39 (by decide) rfl q1932 rfl (ty := .int) (tyX3_ok 39 (by decide)) ⟨rfl, rfl⟩ dX3_not_2 (fun H locs hP hS => ?_)
  obtain ⟨σ1, eσ1⟩ : ∃ z : MS, z = mSet σ 39 x1 := ⟨_, rfl⟩
  rw [← eσ1] at hP
  have h := mlet_at eσ1 h
  refine lv_iconst (v := 0) hx hb dX3_not_5 (by decide) ?_
  cases h
  exact m_zret hC rfl hP hS dX3_not_6
theorem met_not (l : Launch) (N : Nat) (E : mE) (sz : Nat) (σ : MS) (x1 : Int32) (r : Int32) (σ' : MS) (h : f_not N σ x1 = some (r, σ')) : Met l yX3_not (ws_ yX3_not cX3_not 2 (some .boolean)) ({ frames := 0, cells := 0, slots := 0, locals := 0 }) (mPc E sz σ [.ref (mh E), .int x1]) (mQi E sz r σ') 0 0 (mA E sz) :=
  m_met (Qc := fun z => mQi E z r σ') (by decide) rfl (Nat.le_of_ble_eq_true rfl) (fun hC ls hl hP => w_not_0 hC ⟨Nat.le_refl _, Nat.le_refl _⟩ N σ x1 h hP va_S.rf hl)
def f_dead (N : Nat) (σ : MS) (x1 : Int32) : Option (Int32 × MS) :=
    mcallv (f_good N σ) fun σ1 =>
    if (σ1.1 12) = 0 then
    mcall (f_not N σ1 1) fun r16 σ14 =>
    if mBit r16 = true then
    some (r16, σ14)
    else none
    else
    mcall (f_within N σ1 x1 0 ((σ1.1 24) - 1)) fun r6 σ4 =>
    if r6 = 0 then
    mcall (f_not N σ4 2) fun r12 σ10 =>
    if mBit r12 = true then
    some (r12, σ10)
    else none
    else
    mlet (mSet σ4 38 x1) fun σ8 =>
    mlet (mSet σ8 51 0) fun σ9 =>
    some (1, σ9)
set_option maxHeartbeats 4000000 in
set_option maxRecDepth 100000 in
theorem w_dead_0 {p : Program} {l : Launch} {e : Env} {R : Room} {s : State} {m : MethodId} {args : Array Value} {below : List Frame} {meth : Method} {c : Code} {E : mE} {σ' : MS} {r : Int32} (hC : mC p s m args meth c E cX3_dead 2 (some .boolean)) (hR : 1 ≤ R.frames ∧ 22 ≤ R.locals) (N : Nat) (σ : MS) (x1 : Int32) (h : f_dead N σ x1 = some (r, σ')) {H : Heap} {locs : List Loc} (hP : mP E σ H) (hS : va_S (mA E s.heap.size) s.heap H locs) {ls : Array Slot} (hl : lv_has ls 2 [(0, .ref (mh E)), (1, .int x1)]) : W p l e R s m args below meth c H locs 0 0 (MQ below (mQi E s.heap.size r σ') args s 0 0 (mA E s.heap.size)) (F0 m 0 ls []) := by
  obtain ⟨⟨hx, hb, hml, hown, hts⟩, hK, hD, hr, hlk⟩ := id hC
  unfold f_dead at h
  refine lv_aload_n hx hb dX3_dead_0 rfl (lv_at hl 0 rfl) ?_
  obtain ⟨σ1, c2, h⟩ := mcallv_n h
  refine m_callv (As := []) (rest := []) hC (met_good l N E H.size σ σ1 c2) (cwV 0 hts (lw_V q2131 q2133 qs40 q103 q2134) rfl rfl rfl (by decide +kernel) ⟨Nat.le_trans (Nat.le_of_ble_eq_true rfl) hR.1, Nat.le_trans (Nat.le_of_ble_eq_true rfl) hR.2⟩) hP hS rfl hl.1 rfl (Nat.le_of_ble_eq_true rfl) dX3_dead_1 (fun H locs hP hS => ?_)
  refine lv_aload_n hx hb dX3_dead_4 rfl (lv_at hl 0 rfl) ?_
  refine m_geti hC hP 12 (by decide) rfl q1905 dX3_dead_5 ?_
  refine lv_if_ne (tgt := 17) hx hb dX3_dead_8 (by decide) (fun c3 => ?_) (fun c3 => ?_)
  · have h := mif_f c3 h
    refine lv_iload_n hx hb dX3_dead_17 rfl (lv_at hl 1 rfl) ?_
    refine lv_iconst (v := 0) hx hb dX3_dead_18 (by decide) ?_
    refine lv_aload_n hx hb dX3_dead_19 rfl (lv_at hl 0 rfl) ?_
    refine m_geti hC hP 24 (by decide) rfl q1917 dX3_dead_20 ?_
    refine lv_iconst (v := 1) hx hb dX3_dead_23 (by decide) ?_
    refine lv_isub hx hb dX3_dead_24 ?_
    obtain ⟨r6, σ4, c5, h⟩ := mcall_n h
    refine m_callsi (As := [.int x1, .int 0, .int ((σ1.1 24) - 1)]) (rest := []) hC (met_within l N E H.size σ1 x1 0 ((σ1.1 24) - 1) r6 σ4 c5) (va_cwS 3 hts (lw_S q2135 q2136 q103 q2137) rfl rfl rfl (by decide +kernel) ⟨Nat.le_trans (Nat.le_of_ble_eq_true rfl) hR.1, Nat.le_trans (Nat.le_of_ble_eq_true rfl) hR.2⟩) hP hS rfl hl.1 rfl (Nat.le_of_ble_eq_true rfl) dX3_dead_25 (fun H locs hP hS => ?_)
    refine lv_if_ne (tgt := 37) hx hb dX3_dead_28 (by decide) (fun c7 => ?_) (fun c7 => ?_)
    · have h := mif_f c7 h
      refine lv_aload_n hx hb dX3_dead_37 rfl (lv_at hl 0 rfl) ?_
      refine lv_iload_n hx hb dX3_dead_38 rfl (lv_at hl 1 rfl) ?_
      refine m_put hC hP hS 38 (by decide) rfl q1931 rfl (ty := .int) (tyX3_ok 38 (by decide)) ⟨rfl, rfl⟩ dX3_dead_39 (fun H locs hP hS => ?_)
      obtain ⟨σ8, eσ8⟩ : ∃ z : MS, z = mSet σ4 38 x1 := ⟨_, rfl⟩
      rw [← eσ8] at hP
      have h := mlet_at eσ8 h
      refine lv_aload_n hx hb dX3_dead_42 rfl (lv_at hl 0 rfl) ?_
      refine lv_iconst (v := 0) hx hb dX3_dead_43 (by decide) ?_
      refine m_put hC hP hS 51 (by decide) rfl q1944 rfl (ty := .boolean) (tyX3_ok 51 (by decide)) (mBit_n rfl) dX3_dead_44 (fun H locs hP hS => ?_)
      obtain ⟨σ9, eσ9⟩ : ∃ z : MS, z = mSet σ8 51 0 := ⟨_, rfl⟩
      rw [← eσ9] at hP
      have h := mlet_at eσ9 h
      refine lv_iconst (v := 1) hx hb dX3_dead_47 (by decide) ?_
      cases h
      exact m_zret hC rfl hP hS dX3_dead_48
    · have h := mif_t c7 h
      refine lv_aload_n hx hb dX3_dead_31 rfl (lv_at hl 0 rfl) ?_
      refine lv_iconst (v := 2) hx hb dX3_dead_32 (by decide) ?_
      obtain ⟨r12, σ10, c11, h⟩ := mcall_n h
      refine m_calli (As := [.int 2]) (rest := []) hC (met_not l N E H.size σ4 2 r12 σ10 c11) (cwV 1 hts (lw_V q2264 q2266 qs59 q103 q2267) rfl rfl rfl (by decide +kernel) ⟨Nat.le_trans (Nat.le_of_ble_eq_true rfl) hR.1, Nat.le_trans (Nat.le_of_ble_eq_true rfl) hR.2⟩) hP hS rfl hl.1 rfl (Nat.le_of_ble_eq_true rfl) dX3_dead_33 (fun H locs hP hS => ?_)
      obtain ⟨c13, h⟩ := mif_n h
      cases h
      exact m_zret hC c13 hP hS dX3_dead_36
  · have h := mif_t c3 h
    refine lv_aload_n hx hb dX3_dead_11 rfl (lv_at hl 0 rfl) ?_
    refine lv_iconst (v := 1) hx hb dX3_dead_12 (by decide) ?_
    obtain ⟨r16, σ14, c15, h⟩ := mcall_n h
    refine m_calli (As := [.int 1]) (rest := []) hC (met_not l N E H.size σ1 1 r16 σ14 c15) (cwV 1 hts (lw_V q2264 q2266 qs59 q103 q2267) rfl rfl rfl (by decide +kernel) ⟨Nat.le_trans (Nat.le_of_ble_eq_true rfl) hR.1, Nat.le_trans (Nat.le_of_ble_eq_true rfl) hR.2⟩) hP hS rfl hl.1 rfl (Nat.le_of_ble_eq_true rfl) dX3_dead_13 (fun H locs hP hS => ?_)
    obtain ⟨c17, h⟩ := mif_n h
    cases h
    exact m_zret hC c17 hP hS dX3_dead_16
theorem met_dead (l : Launch) (N : Nat) (E : mE) (sz : Nat) (σ : MS) (x1 : Int32) (r : Int32) (σ' : MS) (h : f_dead N σ x1 = some (r, σ')) : Met l yX3_dead (ws_ yX3_dead cX3_dead 2 (some .boolean)) ({ frames := 1, cells := 0, slots := 0, locals := 22 }) (mPc E sz σ [.ref (mh E), .int x1]) (mQi E sz r σ') 0 0 (mA E sz) :=
  m_met (Qc := fun z => mQi E z r σ') (by decide) rfl (Nat.le_of_ble_eq_true rfl) (fun hC ls hl hP => w_dead_0 hC ⟨Nat.le_refl _, Nat.le_refl _⟩ N σ x1 h hP va_S.rf hl)
def f_map_18 (N : Nat) (σ : MS) : Option (Int32 × MS) :=
    mcall (f_no N σ 1) fun r3 σ1 =>
    some (r3, σ1)
set_option maxHeartbeats 4000000 in
set_option maxRecDepth 100000 in
theorem w_map_18 {p : Program} {l : Launch} {e : Env} {R : Room} {s : State} {m : MethodId} {args : Array Value} {below : List Frame} {meth : Method} {c : Code} {E : mE} {σ' : MS} {r : Int32} (hC : mC p s m args meth c E cX3_map 4 (some .int)) (hR : 1 ≤ R.frames ∧ 22 ≤ R.locals) (N : Nat) (σ : MS) (h : f_map_18 N σ = some (r, σ')) {H : Heap} {locs : List Loc} (hP : mP E σ H) (hS : va_S (mA E s.heap.size) s.heap H locs) {ls : Array Slot} (hl : lv_has ls 4 [(0, .ref (mh E))]) : W p l e R s m args below meth c H locs 0 0 (MQ below (mQi E s.heap.size r σ') args s 0 0 (mA E s.heap.size)) (F0 m 18 ls []) := by
  obtain ⟨⟨hx, hb, hml, hown, hts⟩, hK, hD, hr, hlk⟩ := id hC
  unfold f_map_18 at h
  refine lv_aload_n hx hb dX3_map_18 rfl (lv_at hl 0 rfl) ?_
  refine lv_iconst (v := 1) hx hb dX3_map_19 (by decide) ?_
  obtain ⟨r3, σ1, c2, h⟩ := mcall_n h
  refine m_calli (As := [.int 1]) (rest := []) hC (met_no l N E H.size σ 1 r3 σ1 c2) (cwV 1 hts (lw_V q2138 q2140 qs41 q103 q2141) rfl rfl rfl (by decide +kernel) ⟨Nat.le_trans (Nat.le_of_ble_eq_true rfl) hR.1, Nat.le_trans (Nat.le_of_ble_eq_true rfl) hR.2⟩) hP hS rfl hl.1 rfl (Nat.le_of_ble_eq_true rfl) dX3_map_20 (fun H locs hP hS => ?_)
  cases h
  exact m_iret hC hP hS dX3_map_23
def f_map_44 (N : Nat) (σ : MS) : Option (Int32 × MS) :=
    mcall (f_no N σ 2) fun r3 σ1 =>
    some (r3, σ1)
set_option maxHeartbeats 4000000 in
set_option maxRecDepth 100000 in
theorem w_map_44 {p : Program} {l : Launch} {e : Env} {R : Room} {s : State} {m : MethodId} {args : Array Value} {below : List Frame} {meth : Method} {c : Code} {E : mE} {σ' : MS} {r : Int32} (hC : mC p s m args meth c E cX3_map 4 (some .int)) (hR : 1 ≤ R.frames ∧ 22 ≤ R.locals) (N : Nat) (σ : MS) (h : f_map_44 N σ = some (r, σ')) {H : Heap} {locs : List Loc} (hP : mP E σ H) (hS : va_S (mA E s.heap.size) s.heap H locs) {ls : Array Slot} (hl : lv_has ls 4 [(0, .ref (mh E))]) : W p l e R s m args below meth c H locs 0 0 (MQ below (mQi E s.heap.size r σ') args s 0 0 (mA E s.heap.size)) (F0 m 44 ls []) := by
  obtain ⟨⟨hx, hb, hml, hown, hts⟩, hK, hD, hr, hlk⟩ := id hC
  unfold f_map_44 at h
  refine lv_aload_n hx hb dX3_map_44 rfl (lv_at hl 0 rfl) ?_
  refine lv_iconst (v := 2) hx hb dX3_map_45 (by decide) ?_
  obtain ⟨r3, σ1, c2, h⟩ := mcall_n h
  refine m_calli (As := [.int 2]) (rest := []) hC (met_no l N E H.size σ 2 r3 σ1 c2) (cwV 1 hts (lw_V q2138 q2140 qs41 q103 q2141) rfl rfl rfl (by decide +kernel) ⟨Nat.le_trans (Nat.le_of_ble_eq_true rfl) hR.1, Nat.le_trans (Nat.le_of_ble_eq_true rfl) hR.2⟩) hP hS rfl hl.1 rfl (Nat.le_of_ble_eq_true rfl) dX3_map_46 (fun H locs hP hS => ?_)
  cases h
  exact m_iret hC hP hS dX3_map_49
def f_map_82 (N : Nat) : Nat → MS → Int32 → Int32 → Int32 → Option (Int32 × MS)
  | 0, _, _, _, _ => none
  | n + 1, σ, x1, x2, x3 =>
    if 100 ≤ x3 then
    some (x1 * x2, σ)
    else
    if mIn x3 (mLen 41) = true then mlet (mArr σ 41 x3.toNatClampNeg 0) fun σ3 =>
    if mIn x3 (mLen 42) = true then mlet (mArr σ3 42 x3.toNatClampNeg 0) fun σ5 =>
    if mIn x3 (mLen 43) = true then mlet (mArr σ5 43 x3.toNatClampNeg (-1)) fun σ7 =>
    mlet (x3 + 1) fun y8 =>
    f_map_82 N n σ7 x1 x2 y8
    else none
    else none
    else none
set_option maxHeartbeats 4000000 in
set_option maxRecDepth 100000 in
theorem w_map_82 {p : Program} {l : Launch} {e : Env} {R : Room} {s : State} {m : MethodId} {args : Array Value} {below : List Frame} {meth : Method} {c : Code} {E : mE} {σ' : MS} {r : Int32} (hC : mC p s m args meth c E cX3_map 4 (some .int)) (hR : 1 ≤ R.frames ∧ 22 ≤ R.locals) (N : Nat) : ∀ (n : Nat) (σ : MS) (x1 : Int32) (x2 : Int32) (x3 : Int32), f_map_82 N n σ x1 x2 x3 = some (r, σ') → ∀ (H : Heap) (locs : List Loc), mP E σ H → va_S (mA E s.heap.size) s.heap H locs → ∀ ls : Array Slot, lv_has ls 4 [(0, .ref (mh E)), (1, .int x1), (2, .int x2), (3, .int x3)] → W p l e R s m args below meth c H locs 0 0 (MQ below (mQi E s.heap.size r σ') args s 0 0 (mA E s.heap.size)) (F0 m 82 ls []) := by
  obtain ⟨⟨hx, hb, hml, hown, hts⟩, hK, hD, hr, hlk⟩ := id hC
  intro n
  induction n with
  | zero =>
    intro σ x1 x2 x3 h
    cases h
  | succ n ih =>
    intro σ x1 x2 x3 h H locs hP hS ls hl
    unfold f_map_82 at h
    refine lv_iload_n hx hb dX3_map_82 rfl (lv_at hl 3 rfl) ?_
    refine lv_bipush (v := 100) hx hb dX3_map_83 (by decide) ?_
    refine lv_icmp_ge (tgt := 115) hx hb dX3_map_85 (by decide) (fun c1 => ?_) (fun c1 => ?_)
    · have h := mif_t c1 h
      refine lv_iload_n hx hb dX3_map_115 rfl (lv_at hl 1 rfl) ?_
      refine lv_iload_n hx hb dX3_map_116 rfl (lv_at hl 2 rfl) ?_
      refine lv_imul hx hb dX3_map_117 ?_
      cases h
      exact m_iret hC hP hS dX3_map_118
    · have h := mif_f c1 h
      refine lv_aload_n hx hb dX3_map_88 rfl (lv_at hl 0 rfl) ?_
      refine m_geta hC hP 41 (by decide) rfl q1934 dX3_map_89 ?_
      refine lv_iload_n hx hb dX3_map_92 rfl (lv_at hl 3 rfl) ?_
      refine lv_iconst (v := 0) hx hb dX3_map_93 (by decide) ?_
      obtain ⟨c2, h⟩ := mif_n h
      refine m_ast hC hP hS 41 rfl c2 dX3_map_94 (fun H locs hP hS => ?_)
      obtain ⟨σ3, eσ3⟩ : ∃ z : MS, z = mArr σ 41 x3.toNatClampNeg 0 := ⟨_, rfl⟩
      rw [← eσ3] at hP
      have h := mlet_at eσ3 h
      refine lv_aload_n hx hb dX3_map_95 rfl (lv_at hl 0 rfl) ?_
      refine m_geta hC hP 42 (by decide) rfl q1935 dX3_map_96 ?_
      refine lv_iload_n hx hb dX3_map_99 rfl (lv_at hl 3 rfl) ?_
      refine lv_iconst (v := 0) hx hb dX3_map_100 (by decide) ?_
      obtain ⟨c4, h⟩ := mif_n h
      refine m_ast hC hP hS 42 rfl c4 dX3_map_101 (fun H locs hP hS => ?_)
      obtain ⟨σ5, eσ5⟩ : ∃ z : MS, z = mArr σ3 42 x3.toNatClampNeg 0 := ⟨_, rfl⟩
      rw [← eσ5] at hP
      have h := mlet_at eσ5 h
      refine lv_aload_n hx hb dX3_map_102 rfl (lv_at hl 0 rfl) ?_
      refine m_geta hC hP 43 (by decide) rfl q1936 dX3_map_103 ?_
      refine lv_iload_n hx hb dX3_map_106 rfl (lv_at hl 3 rfl) ?_
      refine lv_iconst (v := (-1)) hx hb dX3_map_107 (by decide) ?_
      obtain ⟨c6, h⟩ := mif_n h
      refine m_ast hC hP hS 43 rfl c6 dX3_map_108 (fun H locs hP hS => ?_)
      obtain ⟨σ7, eσ7⟩ : ∃ z : MS, z = mArr σ5 43 x3.toNatClampNeg (-1) := ⟨_, rfl⟩
      rw [← eσ7] at hP
      have h := mlet_at eσ7 h
      obtain ⟨y8, ey8⟩ : ∃ z : Int32, z = x3 + 1 := ⟨_, rfl⟩
      have h := mlet_at ey8 h
      refine lv_iinc (v := y8) (lv' := [(3, .int y8), (0, .ref (mh E)), (1, .int x1), (2, .int x2)]) hx hb dX3_map_109 hl (k := 3) rfl (by rw [ey8]; rfl) (by decide) rfl (fun ls hl => ?_)
      refine lv_goto (tgt := 82) hx hb dX3_map_112 (by decide) ?_
      exact ih σ7 x1 x2 y8 h _ _ hP hS _ (lv_sub hl [1, 2, 3, 0] rfl)
def f_map (N : Nat) (σ : MS) (x1 : Int32) (x2 : Int32) : Option (Int32 × MS) :=
    mcallv (f_good N σ) fun σ1 =>
    if (σ1.1 12) = 0 then
    f_map_18 N σ1
    else
    if (σ1.1 22) = 0 then
    f_map_18 N σ1
    else
    mcall (f_within N σ1 x1 1 10) fun r7 σ5 =>
    if r7 = 0 then
    f_map_44 N σ5
    else
    mcall (f_within N σ5 x2 1 10) fun r11 σ9 =>
    if r11 = 0 then
    f_map_44 N σ9
    else
    mlet (mSet σ9 34 1) fun σ13 =>
    mlet (mSet σ13 35 x1) fun σ14 =>
    mlet (mSet σ14 36 x2) fun σ15 =>
    mlet (mSet σ15 37 0) fun σ16 =>
    mlet (mSet σ16 40 0) fun σ17 =>
    mlet (mSet σ17 51 0) fun σ18 =>
    f_map_82 N N σ18 x1 x2 0
set_option maxHeartbeats 4000000 in
set_option maxRecDepth 100000 in
theorem w_map_0 {p : Program} {l : Launch} {e : Env} {R : Room} {s : State} {m : MethodId} {args : Array Value} {below : List Frame} {meth : Method} {c : Code} {E : mE} {σ' : MS} {r : Int32} (hC : mC p s m args meth c E cX3_map 4 (some .int)) (hR : 1 ≤ R.frames ∧ 22 ≤ R.locals) (N : Nat) (σ : MS) (x1 : Int32) (x2 : Int32) (h : f_map N σ x1 x2 = some (r, σ')) {H : Heap} {locs : List Loc} (hP : mP E σ H) (hS : va_S (mA E s.heap.size) s.heap H locs) {ls : Array Slot} (hl : lv_has ls 4 [(0, .ref (mh E)), (1, .int x1), (2, .int x2)]) : W p l e R s m args below meth c H locs 0 0 (MQ below (mQi E s.heap.size r σ') args s 0 0 (mA E s.heap.size)) (F0 m 0 ls []) := by
  obtain ⟨⟨hx, hb, hml, hown, hts⟩, hK, hD, hr, hlk⟩ := id hC
  unfold f_map at h
  refine lv_aload_n hx hb dX3_map_0 rfl (lv_at hl 0 rfl) ?_
  obtain ⟨σ1, c2, h⟩ := mcallv_n h
  refine m_callv (As := []) (rest := []) hC (met_good l N E H.size σ σ1 c2) (cwV 0 hts (lw_V q2131 q2133 qs40 q103 q2134) rfl rfl rfl (by decide +kernel) ⟨Nat.le_trans (Nat.le_of_ble_eq_true rfl) hR.1, Nat.le_trans (Nat.le_of_ble_eq_true rfl) hR.2⟩) hP hS rfl hl.1 rfl (Nat.le_of_ble_eq_true rfl) dX3_map_1 (fun H locs hP hS => ?_)
  refine lv_aload_n hx hb dX3_map_4 rfl (lv_at hl 0 rfl) ?_
  refine m_geti hC hP 12 (by decide) rfl q1905 dX3_map_5 ?_
  refine lv_if_eq (tgt := 18) hx hb dX3_map_8 (by decide) (fun c3 => ?_) (fun c3 => ?_)
  · have h := mif_t c3 h
    exact w_map_18 hC hR N σ1 h hP hS (lv_sub hl [0] rfl)
  · have h := mif_f c3 h
    refine lv_aload_n hx hb dX3_map_11 rfl (lv_at hl 0 rfl) ?_
    refine m_geti hC hP 22 (by decide) rfl q1915 dX3_map_12 ?_
    refine lv_if_ne (tgt := 24) hx hb dX3_map_15 (by decide) (fun c4 => ?_) (fun c4 => ?_)
    · have h := mif_f c4 h
      refine lv_iload_n hx hb dX3_map_24 rfl (lv_at hl 1 rfl) ?_
      refine lv_iconst (v := 1) hx hb dX3_map_25 (by decide) ?_
      refine lv_bipush (v := 10) hx hb dX3_map_26 (by decide) ?_
      obtain ⟨r7, σ5, c6, h⟩ := mcall_n h
      refine m_callsi (As := [.int x1, .int 1, .int 10]) (rest := []) hC (met_within l N E H.size σ1 x1 1 10 r7 σ5 c6) (va_cwS 3 hts (lw_S q2135 q2136 q103 q2137) rfl rfl rfl (by decide +kernel) ⟨Nat.le_trans (Nat.le_of_ble_eq_true rfl) hR.1, Nat.le_trans (Nat.le_of_ble_eq_true rfl) hR.2⟩) hP hS rfl hl.1 rfl (Nat.le_of_ble_eq_true rfl) dX3_map_28 (fun H locs hP hS => ?_)
      refine lv_if_eq (tgt := 44) hx hb dX3_map_31 (by decide) (fun c8 => ?_) (fun c8 => ?_)
      · have h := mif_t c8 h
        exact w_map_44 hC hR N σ5 h hP hS (lv_sub hl [0] rfl)
      · have h := mif_f c8 h
        refine lv_iload_n hx hb dX3_map_34 rfl (lv_at hl 2 rfl) ?_
        refine lv_iconst (v := 1) hx hb dX3_map_35 (by decide) ?_
        refine lv_bipush (v := 10) hx hb dX3_map_36 (by decide) ?_
        obtain ⟨r11, σ9, c10, h⟩ := mcall_n h
        refine m_callsi (As := [.int x2, .int 1, .int 10]) (rest := []) hC (met_within l N E H.size σ5 x2 1 10 r11 σ9 c10) (va_cwS 3 hts (lw_S q2135 q2136 q103 q2137) rfl rfl rfl (by decide +kernel) ⟨Nat.le_trans (Nat.le_of_ble_eq_true rfl) hR.1, Nat.le_trans (Nat.le_of_ble_eq_true rfl) hR.2⟩) hP hS rfl hl.1 rfl (Nat.le_of_ble_eq_true rfl) dX3_map_38 (fun H locs hP hS => ?_)
        refine lv_if_ne (tgt := 50) hx hb dX3_map_41 (by decide) (fun c12 => ?_) (fun c12 => ?_)
        · have h := mif_f c12 h
          refine lv_aload_n hx hb dX3_map_50 rfl (lv_at hl 0 rfl) ?_
          refine lv_iconst (v := 1) hx hb dX3_map_51 (by decide) ?_
          refine m_put hC hP hS 34 (by decide) rfl q1927 rfl (ty := .boolean) (tyX3_ok 34 (by decide)) (mBit_n rfl) dX3_map_52 (fun H locs hP hS => ?_)
          obtain ⟨σ13, eσ13⟩ : ∃ z : MS, z = mSet σ9 34 1 := ⟨_, rfl⟩
          rw [← eσ13] at hP
          have h := mlet_at eσ13 h
          refine lv_aload_n hx hb dX3_map_55 rfl (lv_at hl 0 rfl) ?_
          refine lv_iload_n hx hb dX3_map_56 rfl (lv_at hl 1 rfl) ?_
          refine m_put hC hP hS 35 (by decide) rfl q1928 rfl (ty := .int) (tyX3_ok 35 (by decide)) ⟨rfl, rfl⟩ dX3_map_57 (fun H locs hP hS => ?_)
          obtain ⟨σ14, eσ14⟩ : ∃ z : MS, z = mSet σ13 35 x1 := ⟨_, rfl⟩
          rw [← eσ14] at hP
          have h := mlet_at eσ14 h
          refine lv_aload_n hx hb dX3_map_60 rfl (lv_at hl 0 rfl) ?_
          refine lv_iload_n hx hb dX3_map_61 rfl (lv_at hl 2 rfl) ?_
          refine m_put hC hP hS 36 (by decide) rfl q1929 rfl (ty := .int) (tyX3_ok 36 (by decide)) ⟨rfl, rfl⟩ dX3_map_62 (fun H locs hP hS => ?_)
          obtain ⟨σ15, eσ15⟩ : ∃ z : MS, z = mSet σ14 36 x2 := ⟨_, rfl⟩
          rw [← eσ15] at hP
          have h := mlet_at eσ15 h
          refine lv_aload_n hx hb dX3_map_65 rfl (lv_at hl 0 rfl) ?_
          refine lv_iconst (v := 0) hx hb dX3_map_66 (by decide) ?_
          refine m_put hC hP hS 37 (by decide) rfl q1930 rfl (ty := .int) (tyX3_ok 37 (by decide)) ⟨rfl, rfl⟩ dX3_map_67 (fun H locs hP hS => ?_)
          obtain ⟨σ16, eσ16⟩ : ∃ z : MS, z = mSet σ15 37 0 := ⟨_, rfl⟩
          rw [← eσ16] at hP
          have h := mlet_at eσ16 h
          refine lv_aload_n hx hb dX3_map_70 rfl (lv_at hl 0 rfl) ?_
          refine lv_iconst (v := 0) hx hb dX3_map_71 (by decide) ?_
          refine m_put hC hP hS 40 (by decide) rfl q1933 rfl (ty := .int) (tyX3_ok 40 (by decide)) ⟨rfl, rfl⟩ dX3_map_72 (fun H locs hP hS => ?_)
          obtain ⟨σ17, eσ17⟩ : ∃ z : MS, z = mSet σ16 40 0 := ⟨_, rfl⟩
          rw [← eσ17] at hP
          have h := mlet_at eσ17 h
          refine lv_aload_n hx hb dX3_map_75 rfl (lv_at hl 0 rfl) ?_
          refine lv_iconst (v := 0) hx hb dX3_map_76 (by decide) ?_
          refine m_put hC hP hS 51 (by decide) rfl q1944 rfl (ty := .boolean) (tyX3_ok 51 (by decide)) (mBit_n rfl) dX3_map_77 (fun H locs hP hS => ?_)
          obtain ⟨σ18, eσ18⟩ : ∃ z : MS, z = mSet σ17 51 0 := ⟨_, rfl⟩
          rw [← eσ18] at hP
          have h := mlet_at eσ18 h
          refine lv_iconst (v := 0) hx hb dX3_map_80 (by decide) ?_
          refine lv_istore_n (lv' := [(3, .int 0), (0, .ref (mh E)), (1, .int x1), (2, .int x2)]) hx hb dX3_map_81 rfl hl (by decide) rfl (fun ls hl => ?_)
          exact w_map_82 hC hR N N σ18 x1 x2 0 h _ _ hP hS _ (lv_sub hl [1, 2, 3, 0] rfl)
        · have h := mif_t c12 h
          exact w_map_44 hC hR N σ9 h hP hS (lv_sub hl [0] rfl)
    · have h := mif_t c4 h
      exact w_map_18 hC hR N σ1 h hP hS (lv_sub hl [0] rfl)
theorem met_map (l : Launch) (N : Nat) (E : mE) (sz : Nat) (σ : MS) (x1 : Int32) (x2 : Int32) (r : Int32) (σ' : MS) (h : f_map N σ x1 x2 = some (r, σ')) : Met l yX3_map (ws_ yX3_map cX3_map 4 (some .int)) ({ frames := 1, cells := 0, slots := 0, locals := 22 }) (mPc E sz σ [.ref (mh E), .int x1, .int x2]) (mQi E sz r σ') 0 0 (mA E sz) :=
  m_met (Qc := fun z => mQi E z r σ') (by decide) rfl (Nat.le_of_ble_eq_true rfl) (fun hC ls hl hP => w_map_0 hC ⟨Nat.le_refl _, Nat.le_refl _⟩ N σ x1 x2 h hP va_S.rf hl)
def f_isCell_31 (N : Nat) (σ : MS) (s0 : Int32) : Option (Int32 × MS) :=
    if mBit s0 = true then
    some (s0, σ)
    else none
set_option maxHeartbeats 4000000 in
set_option maxRecDepth 100000 in
theorem w_isCell_31 {p : Program} {l : Launch} {e : Env} {R : Room} {s : State} {m : MethodId} {args : Array Value} {below : List Frame} {meth : Method} {c : Code} {E : mE} {σ' : MS} {r : Int32} (hC : mC p s m args meth c E cX3_isCell 2 (some .boolean)) (hR : 1 ≤ R.frames ∧ 22 ≤ R.locals) (N : Nat) (σ : MS) (s0 : Int32) (h : f_isCell_31 N σ s0 = some (r, σ')) {H : Heap} {locs : List Loc} (hP : mP E σ H) (hS : va_S (mA E s.heap.size) s.heap H locs) {ls : Array Slot} (hl : lv_has ls 2 []) : W p l e R s m args below meth c H locs 0 0 (MQ below (mQi E s.heap.size r σ') args s 0 0 (mA E s.heap.size)) (F0 m 31 ls [.int s0]) := by
  obtain ⟨⟨hx, hb, hml, hown, hts⟩, hK, hD, hr, hlk⟩ := id hC
  unfold f_isCell_31 at h
  obtain ⟨c1, h⟩ := mif_n h
  cases h
  exact m_zret hC c1 hP hS dX3_isCell_31
def f_isCell_30 (N : Nat) (σ : MS) : Option (Int32 × MS) :=
    f_isCell_31 N σ 0
set_option maxHeartbeats 4000000 in
set_option maxRecDepth 100000 in
theorem w_isCell_30 {p : Program} {l : Launch} {e : Env} {R : Room} {s : State} {m : MethodId} {args : Array Value} {below : List Frame} {meth : Method} {c : Code} {E : mE} {σ' : MS} {r : Int32} (hC : mC p s m args meth c E cX3_isCell 2 (some .boolean)) (hR : 1 ≤ R.frames ∧ 22 ≤ R.locals) (N : Nat) (σ : MS) (h : f_isCell_30 N σ = some (r, σ')) {H : Heap} {locs : List Loc} (hP : mP E σ H) (hS : va_S (mA E s.heap.size) s.heap H locs) {ls : Array Slot} (hl : lv_has ls 2 []) : W p l e R s m args below meth c H locs 0 0 (MQ below (mQi E s.heap.size r σ') args s 0 0 (mA E s.heap.size)) (F0 m 30 ls []) := by
  obtain ⟨⟨hx, hb, hml, hown, hts⟩, hK, hD, hr, hlk⟩ := id hC
  unfold f_isCell_30 at h
  refine lv_iconst (v := 0) hx hb dX3_isCell_30 (by decide) ?_
  exact w_isCell_31 hC hR N σ 0 h hP hS (lv_sub hl [] rfl)
def f_isCell (N : Nat) (σ : MS) (x1 : Int32) : Option (Int32 × MS) :=
    if (σ.1 34) = 0 then
    f_isCell_30 N σ
    else
    mcall (f_within N σ x1 0 (((σ.1 35) * (σ.1 36)) - 1)) fun r4 σ2 =>
    if r4 = 0 then
    f_isCell_30 N σ2
    else
    f_isCell_31 N σ2 1
set_option maxHeartbeats 4000000 in
set_option maxRecDepth 100000 in
theorem w_isCell_0 {p : Program} {l : Launch} {e : Env} {R : Room} {s : State} {m : MethodId} {args : Array Value} {below : List Frame} {meth : Method} {c : Code} {E : mE} {σ' : MS} {r : Int32} (hC : mC p s m args meth c E cX3_isCell 2 (some .boolean)) (hR : 1 ≤ R.frames ∧ 22 ≤ R.locals) (N : Nat) (σ : MS) (x1 : Int32) (h : f_isCell N σ x1 = some (r, σ')) {H : Heap} {locs : List Loc} (hP : mP E σ H) (hS : va_S (mA E s.heap.size) s.heap H locs) {ls : Array Slot} (hl : lv_has ls 2 [(0, .ref (mh E)), (1, .int x1)]) : W p l e R s m args below meth c H locs 0 0 (MQ below (mQi E s.heap.size r σ') args s 0 0 (mA E s.heap.size)) (F0 m 0 ls []) := by
  obtain ⟨⟨hx, hb, hml, hown, hts⟩, hK, hD, hr, hlk⟩ := id hC
  unfold f_isCell at h
  refine lv_aload_n hx hb dX3_isCell_0 rfl (lv_at hl 0 rfl) ?_
  refine m_geti hC hP 34 (by decide) rfl q1927 dX3_isCell_1 ?_
  refine lv_if_eq (tgt := 30) hx hb dX3_isCell_4 (by decide) (fun c1 => ?_) (fun c1 => ?_)
  · have h := mif_t c1 h
    exact w_isCell_30 hC hR N σ h hP hS (lv_sub hl [] rfl)
  · have h := mif_f c1 h
    refine lv_iload_n hx hb dX3_isCell_7 rfl (lv_at hl 1 rfl) ?_
    refine lv_iconst (v := 0) hx hb dX3_isCell_8 (by decide) ?_
    refine lv_aload_n hx hb dX3_isCell_9 rfl (lv_at hl 0 rfl) ?_
    refine m_geti hC hP 35 (by decide) rfl q1928 dX3_isCell_10 ?_
    refine lv_aload_n hx hb dX3_isCell_13 rfl (lv_at hl 0 rfl) ?_
    refine m_geti hC hP 36 (by decide) rfl q1929 dX3_isCell_14 ?_
    refine lv_imul hx hb dX3_isCell_17 ?_
    refine lv_iconst (v := 1) hx hb dX3_isCell_18 (by decide) ?_
    refine lv_isub hx hb dX3_isCell_19 ?_
    obtain ⟨r4, σ2, c3, h⟩ := mcall_n h
    refine m_callsi (As := [.int x1, .int 0, .int (((σ.1 35) * (σ.1 36)) - 1)]) (rest := []) hC (met_within l N E H.size σ x1 0 (((σ.1 35) * (σ.1 36)) - 1) r4 σ2 c3) (va_cwS 3 hts (lw_S q2135 q2136 q103 q2137) rfl rfl rfl (by decide +kernel) ⟨Nat.le_trans (Nat.le_of_ble_eq_true rfl) hR.1, Nat.le_trans (Nat.le_of_ble_eq_true rfl) hR.2⟩) hP hS rfl hl.1 rfl (Nat.le_of_ble_eq_true rfl) dX3_isCell_20 (fun H locs hP hS => ?_)
    refine lv_if_eq (tgt := 30) hx hb dX3_isCell_23 (by decide) (fun c5 => ?_) (fun c5 => ?_)
    · have h := mif_t c5 h
      exact w_isCell_30 hC hR N σ2 h hP hS (lv_sub hl [] rfl)
    · have h := mif_f c5 h
      refine lv_iconst (v := 1) hx hb dX3_isCell_26 (by decide) ?_
      refine lv_goto (tgt := 31) hx hb dX3_isCell_27 (by decide) ?_
      exact w_isCell_31 hC hR N σ2 1 h hP hS (lv_sub hl [] rfl)
theorem met_isCell (l : Launch) (N : Nat) (E : mE) (sz : Nat) (σ : MS) (x1 : Int32) (r : Int32) (σ' : MS) (h : f_isCell N σ x1 = some (r, σ')) : Met l yX3_isCell (ws_ yX3_isCell cX3_isCell 2 (some .boolean)) ({ frames := 1, cells := 0, slots := 0, locals := 22 }) (mPc E sz σ [.ref (mh E), .int x1]) (mQi E sz r σ') 0 0 (mA E sz) :=
  m_met (Qc := fun z => mQi E z r σ') (by decide) rfl (Nat.le_of_ble_eq_true rfl) (fun hC ls hl hP => w_isCell_0 hC ⟨Nat.le_refl _, Nat.le_refl _⟩ N σ x1 h hP va_S.rf hl)
def f_height (N : Nat) (σ : MS) (x1 : Int32) (x2 : Int32) : Option (Int32 × MS) :=
    mcallv (f_good N σ) fun σ1 =>
    mcall (f_isCell N σ1 x1) fun r5 σ3 =>
    if r5 = 0 then
    mcall (f_not N σ3 1) fun r20 σ18 =>
    if mBit r20 = true then
    some (r20, σ18)
    else none
    else
    mcall (f_within N σ3 x2 0 999) fun r9 σ7 =>
    if r9 = 0 then
    mcall (f_not N σ7 2) fun r16 σ14 =>
    if mBit r16 = true then
    some (r16, σ14)
    else none
    else
    if mIn x1 (mLen 41) = true then mlet (mArr σ7 41 x1.toNatClampNeg x2) fun σ12 =>
    mlet (mSet σ12 51 0) fun σ13 =>
    some (1, σ13)
    else none
set_option maxHeartbeats 4000000 in
set_option maxRecDepth 100000 in
theorem w_height_0 {p : Program} {l : Launch} {e : Env} {R : Room} {s : State} {m : MethodId} {args : Array Value} {below : List Frame} {meth : Method} {c : Code} {E : mE} {σ' : MS} {r : Int32} (hC : mC p s m args meth c E cX3_height 3 (some .boolean)) (hR : 2 ≤ R.frames ∧ 43 ≤ R.locals) (N : Nat) (σ : MS) (x1 : Int32) (x2 : Int32) (h : f_height N σ x1 x2 = some (r, σ')) {H : Heap} {locs : List Loc} (hP : mP E σ H) (hS : va_S (mA E s.heap.size) s.heap H locs) {ls : Array Slot} (hl : lv_has ls 3 [(0, .ref (mh E)), (1, .int x1), (2, .int x2)]) : W p l e R s m args below meth c H locs 0 0 (MQ below (mQi E s.heap.size r σ') args s 0 0 (mA E s.heap.size)) (F0 m 0 ls []) := by
  obtain ⟨⟨hx, hb, hml, hown, hts⟩, hK, hD, hr, hlk⟩ := id hC
  unfold f_height at h
  refine lv_aload_n hx hb dX3_height_0 rfl (lv_at hl 0 rfl) ?_
  obtain ⟨σ1, c2, h⟩ := mcallv_n h
  refine m_callv (As := []) (rest := []) hC (met_good l N E H.size σ σ1 c2) (cwV 0 hts (lw_V q2131 q2133 qs40 q103 q2134) rfl rfl rfl (by decide +kernel) ⟨Nat.le_trans (Nat.le_of_ble_eq_true rfl) hR.1, Nat.le_trans (Nat.le_of_ble_eq_true rfl) hR.2⟩) hP hS rfl hl.1 rfl (Nat.le_of_ble_eq_true rfl) dX3_height_1 (fun H locs hP hS => ?_)
  refine lv_aload_n hx hb dX3_height_4 rfl (lv_at hl 0 rfl) ?_
  refine lv_iload_n hx hb dX3_height_5 rfl (lv_at hl 1 rfl) ?_
  obtain ⟨r5, σ3, c4, h⟩ := mcall_n h
  refine m_calli (As := [.int x1]) (rest := []) hC (met_isCell l N E H.size σ1 x1 r5 σ3 c4) (cwV 1 hts (lw_V q2276 q2278 qs60 q103 q2279) rfl rfl rfl (by decide +kernel) ⟨Nat.le_trans (Nat.le_of_ble_eq_true rfl) hR.1, Nat.le_trans (Nat.le_of_ble_eq_true rfl) hR.2⟩) hP hS rfl hl.1 rfl (Nat.le_of_ble_eq_true rfl) dX3_height_6 (fun H locs hP hS => ?_)
  refine lv_if_ne (tgt := 18) hx hb dX3_height_9 (by decide) (fun c6 => ?_) (fun c6 => ?_)
  · have h := mif_f c6 h
    refine lv_iload_n hx hb dX3_height_18 rfl (lv_at hl 2 rfl) ?_
    refine lv_iconst (v := 0) hx hb dX3_height_19 (by decide) ?_
    refine lv_sipush (v := 999) hx hb dX3_height_20 (by decide) ?_
    obtain ⟨r9, σ7, c8, h⟩ := mcall_n h
    refine m_callsi (As := [.int x2, .int 0, .int 999]) (rest := []) hC (met_within l N E H.size σ3 x2 0 999 r9 σ7 c8) (va_cwS 3 hts (lw_S q2135 q2136 q103 q2137) rfl rfl rfl (by decide +kernel) ⟨Nat.le_trans (Nat.le_of_ble_eq_true rfl) hR.1, Nat.le_trans (Nat.le_of_ble_eq_true rfl) hR.2⟩) hP hS rfl hl.1 rfl (Nat.le_of_ble_eq_true rfl) dX3_height_23 (fun H locs hP hS => ?_)
    refine lv_if_ne (tgt := 35) hx hb dX3_height_26 (by decide) (fun c10 => ?_) (fun c10 => ?_)
    · have h := mif_f c10 h
      refine lv_aload_n hx hb dX3_height_35 rfl (lv_at hl 0 rfl) ?_
      refine m_geta hC hP 41 (by decide) rfl q1934 dX3_height_36 ?_
      refine lv_iload_n hx hb dX3_height_39 rfl (lv_at hl 1 rfl) ?_
      refine lv_iload_n hx hb dX3_height_40 rfl (lv_at hl 2 rfl) ?_
      obtain ⟨c11, h⟩ := mif_n h
      refine m_ast hC hP hS 41 rfl c11 dX3_height_41 (fun H locs hP hS => ?_)
      obtain ⟨σ12, eσ12⟩ : ∃ z : MS, z = mArr σ7 41 x1.toNatClampNeg x2 := ⟨_, rfl⟩
      rw [← eσ12] at hP
      have h := mlet_at eσ12 h
      refine lv_aload_n hx hb dX3_height_42 rfl (lv_at hl 0 rfl) ?_
      refine lv_iconst (v := 0) hx hb dX3_height_43 (by decide) ?_
      refine m_put hC hP hS 51 (by decide) rfl q1944 rfl (ty := .boolean) (tyX3_ok 51 (by decide)) (mBit_n rfl) dX3_height_44 (fun H locs hP hS => ?_)
      obtain ⟨σ13, eσ13⟩ : ∃ z : MS, z = mSet σ12 51 0 := ⟨_, rfl⟩
      rw [← eσ13] at hP
      have h := mlet_at eσ13 h
      refine lv_iconst (v := 1) hx hb dX3_height_47 (by decide) ?_
      cases h
      exact m_zret hC rfl hP hS dX3_height_48
    · have h := mif_t c10 h
      refine lv_aload_n hx hb dX3_height_29 rfl (lv_at hl 0 rfl) ?_
      refine lv_iconst (v := 2) hx hb dX3_height_30 (by decide) ?_
      obtain ⟨r16, σ14, c15, h⟩ := mcall_n h
      refine m_calli (As := [.int 2]) (rest := []) hC (met_not l N E H.size σ7 2 r16 σ14 c15) (cwV 1 hts (lw_V q2264 q2266 qs59 q103 q2267) rfl rfl rfl (by decide +kernel) ⟨Nat.le_trans (Nat.le_of_ble_eq_true rfl) hR.1, Nat.le_trans (Nat.le_of_ble_eq_true rfl) hR.2⟩) hP hS rfl hl.1 rfl (Nat.le_of_ble_eq_true rfl) dX3_height_31 (fun H locs hP hS => ?_)
      obtain ⟨c17, h⟩ := mif_n h
      cases h
      exact m_zret hC c17 hP hS dX3_height_34
  · have h := mif_t c6 h
    refine lv_aload_n hx hb dX3_height_12 rfl (lv_at hl 0 rfl) ?_
    refine lv_iconst (v := 1) hx hb dX3_height_13 (by decide) ?_
    obtain ⟨r20, σ18, c19, h⟩ := mcall_n h
    refine m_calli (As := [.int 1]) (rest := []) hC (met_not l N E H.size σ3 1 r20 σ18 c19) (cwV 1 hts (lw_V q2264 q2266 qs59 q103 q2267) rfl rfl rfl (by decide +kernel) ⟨Nat.le_trans (Nat.le_of_ble_eq_true rfl) hR.1, Nat.le_trans (Nat.le_of_ble_eq_true rfl) hR.2⟩) hP hS rfl hl.1 rfl (Nat.le_of_ble_eq_true rfl) dX3_height_14 (fun H locs hP hS => ?_)
    obtain ⟨c21, h⟩ := mif_n h
    cases h
    exact m_zret hC c21 hP hS dX3_height_17
theorem met_height (l : Launch) (N : Nat) (E : mE) (sz : Nat) (σ : MS) (x1 : Int32) (x2 : Int32) (r : Int32) (σ' : MS) (h : f_height N σ x1 x2 = some (r, σ')) : Met l yX3_height (ws_ yX3_height cX3_height 3 (some .boolean)) ({ frames := 2, cells := 0, slots := 0, locals := 43 }) (mPc E sz σ [.ref (mh E), .int x1, .int x2]) (mQi E sz r σ') 0 0 (mA E sz) :=
  m_met (Qc := fun z => mQi E z r σ') (by decide) rfl (Nat.le_of_ble_eq_true rfl) (fun hC ls hl hP => w_height_0 hC ⟨Nat.le_refl _, Nat.le_refl _⟩ N σ x1 x2 h hP va_S.rf hl)
def f_ground_20 (N : Nat) (σ : MS) : Option (Int32 × MS) :=
    mcall (f_not N σ 1) fun r3 σ1 =>
    if mBit r3 = true then
    some (r3, σ1)
    else none
set_option maxHeartbeats 4000000 in
set_option maxRecDepth 100000 in
theorem w_ground_20 {p : Program} {l : Launch} {e : Env} {R : Room} {s : State} {m : MethodId} {args : Array Value} {below : List Frame} {meth : Method} {c : Code} {E : mE} {σ' : MS} {r : Int32} (hC : mC p s m args meth c E cX3_ground 3 (some .boolean)) (hR : 2 ≤ R.frames ∧ 43 ≤ R.locals) (N : Nat) (σ : MS) (h : f_ground_20 N σ = some (r, σ')) {H : Heap} {locs : List Loc} (hP : mP E σ H) (hS : va_S (mA E s.heap.size) s.heap H locs) {ls : Array Slot} (hl : lv_has ls 3 [(0, .ref (mh E))]) : W p l e R s m args below meth c H locs 0 0 (MQ below (mQi E s.heap.size r σ') args s 0 0 (mA E s.heap.size)) (F0 m 20 ls []) := by
  obtain ⟨⟨hx, hb, hml, hown, hts⟩, hK, hD, hr, hlk⟩ := id hC
  unfold f_ground_20 at h
  refine lv_aload_n hx hb dX3_ground_20 rfl (lv_at hl 0 rfl) ?_
  refine lv_iconst (v := 1) hx hb dX3_ground_21 (by decide) ?_
  obtain ⟨r3, σ1, c2, h⟩ := mcall_n h
  refine m_calli (As := [.int 1]) (rest := []) hC (met_not l N E H.size σ 1 r3 σ1 c2) (cwV 1 hts (lw_V q2264 q2266 qs59 q103 q2267) rfl rfl rfl (by decide +kernel) ⟨Nat.le_trans (Nat.le_of_ble_eq_true rfl) hR.1, Nat.le_trans (Nat.le_of_ble_eq_true rfl) hR.2⟩) hP hS rfl hl.1 rfl (Nat.le_of_ble_eq_true rfl) dX3_ground_22 (fun H locs hP hS => ?_)
  obtain ⟨c4, h⟩ := mif_n h
  cases h
  exact m_zret hC c4 hP hS dX3_ground_25
def f_ground (N : Nat) (σ : MS) (x1 : Int32) (x2 : Int32) : Option (Int32 × MS) :=
    mcallv (f_good N σ) fun σ1 =>
    mcall (f_isCell N σ1 x1) fun r5 σ3 =>
    if r5 = 0 then
    f_ground_20 N σ3
    else
    mcall (f_isGround N σ3 x2) fun r9 σ7 =>
    if r9 = 0 then
    f_ground_20 N σ7
    else
    if mIn x1 (mLen 43) = true then mlet (σ7.2.1 43 x1.toNatClampNeg) fun y12 =>
    if y12 = (-1) then
    if mIn x1 (mLen 42) = true then mlet (mArr σ7 42 x1.toNatClampNeg x2) fun σ15 =>
    mlet (mSet σ15 51 0) fun σ16 =>
    some (1, σ16)
    else none
    else
    mcall (f_not N σ7 5) fun r19 σ17 =>
    if mBit r19 = true then
    some (r19, σ17)
    else none
    else none
set_option maxHeartbeats 4000000 in
set_option maxRecDepth 100000 in
theorem w_ground_0 {p : Program} {l : Launch} {e : Env} {R : Room} {s : State} {m : MethodId} {args : Array Value} {below : List Frame} {meth : Method} {c : Code} {E : mE} {σ' : MS} {r : Int32} (hC : mC p s m args meth c E cX3_ground 3 (some .boolean)) (hR : 2 ≤ R.frames ∧ 43 ≤ R.locals) (N : Nat) (σ : MS) (x1 : Int32) (x2 : Int32) (h : f_ground N σ x1 x2 = some (r, σ')) {H : Heap} {locs : List Loc} (hP : mP E σ H) (hS : va_S (mA E s.heap.size) s.heap H locs) {ls : Array Slot} (hl : lv_has ls 3 [(0, .ref (mh E)), (1, .int x1), (2, .int x2)]) : W p l e R s m args below meth c H locs 0 0 (MQ below (mQi E s.heap.size r σ') args s 0 0 (mA E s.heap.size)) (F0 m 0 ls []) := by
  obtain ⟨⟨hx, hb, hml, hown, hts⟩, hK, hD, hr, hlk⟩ := id hC
  unfold f_ground at h
  refine lv_aload_n hx hb dX3_ground_0 rfl (lv_at hl 0 rfl) ?_
  obtain ⟨σ1, c2, h⟩ := mcallv_n h
  refine m_callv (As := []) (rest := []) hC (met_good l N E H.size σ σ1 c2) (cwV 0 hts (lw_V q2131 q2133 qs40 q103 q2134) rfl rfl rfl (by decide +kernel) ⟨Nat.le_trans (Nat.le_of_ble_eq_true rfl) hR.1, Nat.le_trans (Nat.le_of_ble_eq_true rfl) hR.2⟩) hP hS rfl hl.1 rfl (Nat.le_of_ble_eq_true rfl) dX3_ground_1 (fun H locs hP hS => ?_)
  refine lv_aload_n hx hb dX3_ground_4 rfl (lv_at hl 0 rfl) ?_
  refine lv_iload_n hx hb dX3_ground_5 rfl (lv_at hl 1 rfl) ?_
  obtain ⟨r5, σ3, c4, h⟩ := mcall_n h
  refine m_calli (As := [.int x1]) (rest := []) hC (met_isCell l N E H.size σ1 x1 r5 σ3 c4) (cwV 1 hts (lw_V q2276 q2278 qs60 q103 q2279) rfl rfl rfl (by decide +kernel) ⟨Nat.le_trans (Nat.le_of_ble_eq_true rfl) hR.1, Nat.le_trans (Nat.le_of_ble_eq_true rfl) hR.2⟩) hP hS rfl hl.1 rfl (Nat.le_of_ble_eq_true rfl) dX3_ground_6 (fun H locs hP hS => ?_)
  refine lv_if_eq (tgt := 20) hx hb dX3_ground_9 (by decide) (fun c6 => ?_) (fun c6 => ?_)
  · have h := mif_t c6 h
    exact w_ground_20 hC hR N σ3 h hP hS (lv_sub hl [0] rfl)
  · have h := mif_f c6 h
    refine lv_aload_n hx hb dX3_ground_12 rfl (lv_at hl 0 rfl) ?_
    refine lv_iload_n hx hb dX3_ground_13 rfl (lv_at hl 2 rfl) ?_
    obtain ⟨r9, σ7, c8, h⟩ := mcall_n h
    refine m_calli (As := [.int x2]) (rest := []) hC (met_isGround l N E H.size σ3 x2 r9 σ7 c8) (cwV 1 hts (lw_V q2246 q2248 qs58 q103 q2249) rfl rfl rfl (by decide +kernel) ⟨Nat.le_trans (Nat.le_of_ble_eq_true rfl) hR.1, Nat.le_trans (Nat.le_of_ble_eq_true rfl) hR.2⟩) hP hS rfl hl.1 rfl (Nat.le_of_ble_eq_true rfl) dX3_ground_14 (fun H locs hP hS => ?_)
    refine lv_if_ne (tgt := 26) hx hb dX3_ground_17 (by decide) (fun c10 => ?_) (fun c10 => ?_)
    · have h := mif_f c10 h
      refine lv_aload_n hx hb dX3_ground_26 rfl (lv_at hl 0 rfl) ?_
      refine m_geta hC hP 43 (by decide) rfl q1936 dX3_ground_27 ?_
      refine lv_iload_n hx hb dX3_ground_30 rfl (lv_at hl 1 rfl) ?_
      obtain ⟨c11, h⟩ := mif_n h
      refine m_ald hC hP 43 rfl c11 dX3_ground_31 ?_
      refine lv_topi (fun y12 ey12 => ?_)
      have h := mlet_at ey12 h
      refine lv_iconst (v := (-1)) hx hb dX3_ground_32 (by decide) ?_
      refine lv_icmp_eq (tgt := 42) hx hb dX3_ground_33 (by decide) (fun c13 => ?_) (fun c13 => ?_)
      · have h := mif_t c13 h
        refine lv_aload_n hx hb dX3_ground_42 rfl (lv_at hl 0 rfl) ?_
        refine m_geta hC hP 42 (by decide) rfl q1935 dX3_ground_43 ?_
        refine lv_iload_n hx hb dX3_ground_46 rfl (lv_at hl 1 rfl) ?_
        refine lv_iload_n hx hb dX3_ground_47 rfl (lv_at hl 2 rfl) ?_
        obtain ⟨c14, h⟩ := mif_n h
        refine m_ast hC hP hS 42 rfl c14 dX3_ground_48 (fun H locs hP hS => ?_)
        obtain ⟨σ15, eσ15⟩ : ∃ z : MS, z = mArr σ7 42 x1.toNatClampNeg x2 := ⟨_, rfl⟩
        rw [← eσ15] at hP
        have h := mlet_at eσ15 h
        refine lv_aload_n hx hb dX3_ground_49 rfl (lv_at hl 0 rfl) ?_
        refine lv_iconst (v := 0) hx hb dX3_ground_50 (by decide) ?_
        refine m_put hC hP hS 51 (by decide) rfl q1944 rfl (ty := .boolean) (tyX3_ok 51 (by decide)) (mBit_n rfl) dX3_ground_51 (fun H locs hP hS => ?_)
        obtain ⟨σ16, eσ16⟩ : ∃ z : MS, z = mSet σ15 51 0 := ⟨_, rfl⟩
        rw [← eσ16] at hP
        have h := mlet_at eσ16 h
        refine lv_iconst (v := 1) hx hb dX3_ground_54 (by decide) ?_
        cases h
        exact m_zret hC rfl hP hS dX3_ground_55
      · have h := mif_f c13 h
        refine lv_aload_n hx hb dX3_ground_36 rfl (lv_at hl 0 rfl) ?_
        refine lv_iconst (v := 5) hx hb dX3_ground_37 (by decide) ?_
        obtain ⟨r19, σ17, c18, h⟩ := mcall_n h
        refine m_calli (As := [.int 5]) (rest := []) hC (met_not l N E H.size σ7 5 r19 σ17 c18) (cwV 1 hts (lw_V q2264 q2266 qs59 q103 q2267) rfl rfl rfl (by decide +kernel) ⟨Nat.le_trans (Nat.le_of_ble_eq_true rfl) hR.1, Nat.le_trans (Nat.le_of_ble_eq_true rfl) hR.2⟩) hP hS rfl hl.1 rfl (Nat.le_of_ble_eq_true rfl) dX3_ground_38 (fun H locs hP hS => ?_)
        obtain ⟨c20, h⟩ := mif_n h
        cases h
        exact m_zret hC c20 hP hS dX3_ground_41
    · have h := mif_t c10 h
      exact w_ground_20 hC hR N σ7 h hP hS (lv_sub hl [0] rfl)
theorem met_ground (l : Launch) (N : Nat) (E : mE) (sz : Nat) (σ : MS) (x1 : Int32) (x2 : Int32) (r : Int32) (σ' : MS) (h : f_ground N σ x1 x2 = some (r, σ')) : Met l yX3_ground (ws_ yX3_ground cX3_ground 3 (some .boolean)) ({ frames := 2, cells := 0, slots := 0, locals := 43 }) (mPc E sz σ [.ref (mh E), .int x1, .int x2]) (mQi E sz r σ') 0 0 (mA E sz) :=
  m_met (Qc := fun z => mQi E z r σ') (by decide) rfl (Nat.le_of_ble_eq_true rfl) (fun hC ls hl hP => w_ground_0 hC ⟨Nat.le_refl _, Nat.le_refl _⟩ N σ x1 x2 h hP va_S.rf hl)
def f_doubt_114 (N : Nat) (k80 : MS → Int32 → Int32 → Option (Int32 × MS)) (σ : MS) (x1 : Int32) (x2 : Int32) (s0 : Int32) (s1 : Int32) : Option (Int32 × MS) :=
    if mIn s1 (mLen 46) = true then mlet (mArr σ 46 s1.toNatClampNeg s0) fun σ2 =>
    mlet (x2 + 1) fun y3 =>
    k80 σ2 x1 y3
    else none
set_option maxHeartbeats 4000000 in
set_option maxRecDepth 100000 in
theorem w_doubt_114 {p : Program} {l : Launch} {e : Env} {R : Room} {s : State} {m : MethodId} {args : Array Value} {below : List Frame} {meth : Method} {c : Code} {E : mE} {σ' : MS} {r : Int32} (hC : mC p s m args meth c E cX3_doubt 3 (some .int)) (hR : 2 ≤ R.frames ∧ 43 ≤ R.locals) (N : Nat) (k80 : MS → Int32 → Int32 → Option (Int32 × MS)) (hk80 : ∀ (σ : MS) (x1 : Int32) (x2 : Int32), k80 σ x1 x2 = some (r, σ') → ∀ (H : Heap) (locs : List Loc), mP E σ H → va_S (mA E s.heap.size) s.heap H locs → ∀ ls : Array Slot, lv_has ls 3 [(0, .ref (mh E)), (1, .int x1), (2, .int x2)] → W p l e R s m args below meth c H locs 0 0 (MQ below (mQi E s.heap.size r σ') args s 0 0 (mA E s.heap.size)) (F0 m 80 ls [])) (σ : MS) (x1 : Int32) (x2 : Int32) (s0 : Int32) (s1 : Int32) (h : f_doubt_114 N k80 σ x1 x2 s0 s1 = some (r, σ')) {H : Heap} {locs : List Loc} (hP : mP E σ H) (hS : va_S (mA E s.heap.size) s.heap H locs) {ls : Array Slot} (hl : lv_has ls 3 [(0, .ref (mh E)), (1, .int x1), (2, .int x2)]) : W p l e R s m args below meth c H locs 0 0 (MQ below (mQi E s.heap.size r σ') args s 0 0 (mA E s.heap.size)) (F0 m 114 ls [.int s0, .int s1, .ref (mad E 46)]) := by
  obtain ⟨⟨hx, hb, hml, hown, hts⟩, hK, hD, hr, hlk⟩ := id hC
  unfold f_doubt_114 at h
  obtain ⟨c1, h⟩ := mif_n h
  refine m_ast hC hP hS 46 rfl c1 dX3_doubt_114 (fun H locs hP hS => ?_)
  obtain ⟨σ2, eσ2⟩ : ∃ z : MS, z = mArr σ 46 s1.toNatClampNeg s0 := ⟨_, rfl⟩
  rw [← eσ2] at hP
  have h := mlet_at eσ2 h
  obtain ⟨y3, ey3⟩ : ∃ z : Int32, z = x2 + 1 := ⟨_, rfl⟩
  have h := mlet_at ey3 h
  refine lv_iinc (v := y3) (lv' := [(2, .int y3), (0, .ref (mh E)), (1, .int x1)]) hx hb dX3_doubt_115 hl (k := 2) rfl (by rw [ey3]; rfl) (by decide) rfl (fun ls hl => ?_)
  refine lv_goto (tgt := 80) hx hb dX3_doubt_118 (by decide) ?_
  exact hk80 σ2 x1 y3 h _ _ hP hS _ (lv_sub hl [1, 2, 0] rfl)
def f_doubt_80 (N : Nat) : Nat → MS → Int32 → Int32 → Option (Int32 × MS)
  | 0, _, _, _ => none
  | n + 1, σ, x1, x2 =>
    if 8 ≤ x2 then
    mlet (mSet σ 37 ((σ.1 37) + 1)) fun σ2 =>
    mlet (mSet σ2 51 0) fun σ3 =>
    some ((σ3.1 37) - 1, σ3)
    else
    if mIn x1 (mLen 42) = true then mlet (σ.2.1 42 x1.toNatClampNeg) fun y5 =>
    if x2 = y5 then
    f_doubt_114 N (f_doubt_80 N n) σ x1 x2 1 ((8 * (σ.1 37)) + x2)
    else
    f_doubt_114 N (f_doubt_80 N n) σ x1 x2 0 ((8 * (σ.1 37)) + x2)
    else none
set_option maxHeartbeats 4000000 in
set_option maxRecDepth 100000 in
theorem w_doubt_80 {p : Program} {l : Launch} {e : Env} {R : Room} {s : State} {m : MethodId} {args : Array Value} {below : List Frame} {meth : Method} {c : Code} {E : mE} {σ' : MS} {r : Int32} (hC : mC p s m args meth c E cX3_doubt 3 (some .int)) (hR : 2 ≤ R.frames ∧ 43 ≤ R.locals) (N : Nat) : ∀ (n : Nat) (σ : MS) (x1 : Int32) (x2 : Int32), f_doubt_80 N n σ x1 x2 = some (r, σ') → ∀ (H : Heap) (locs : List Loc), mP E σ H → va_S (mA E s.heap.size) s.heap H locs → ∀ ls : Array Slot, lv_has ls 3 [(0, .ref (mh E)), (1, .int x1), (2, .int x2)] → W p l e R s m args below meth c H locs 0 0 (MQ below (mQi E s.heap.size r σ') args s 0 0 (mA E s.heap.size)) (F0 m 80 ls []) := by
  obtain ⟨⟨hx, hb, hml, hown, hts⟩, hK, hD, hr, hlk⟩ := id hC
  intro n
  induction n with
  | zero =>
    intro σ x1 x2 h
    cases h
  | succ n ih =>
    intro σ x1 x2 h H locs hP hS ls hl
    unfold f_doubt_80 at h
    refine lv_iload_n hx hb dX3_doubt_80 rfl (lv_at hl 2 rfl) ?_
    refine lv_bipush (v := 8) hx hb dX3_doubt_81 (by decide) ?_
    refine lv_icmp_ge (tgt := 121) hx hb dX3_doubt_83 (by decide) (fun c1 => ?_) (fun c1 => ?_)
    · have h := mif_t c1 h
      refine lv_aload_n hx hb dX3_doubt_121 rfl (lv_at hl 0 rfl) ?_
      refine lv_dup hx hb dX3_doubt_122 rfl ?_
      refine m_geti hC hP 37 (by decide) rfl q1930 dX3_doubt_123 ?_
      refine lv_iconst (v := 1) hx hb dX3_doubt_126 (by decide) ?_
      refine lv_iadd hx hb dX3_doubt_127 ?_
      refine m_put hC hP hS 37 (by decide) rfl q1930 rfl (ty := .int) (tyX3_ok 37 (by decide)) ⟨rfl, rfl⟩ dX3_doubt_128 (fun H locs hP hS => ?_)
      obtain ⟨σ2, eσ2⟩ : ∃ z : MS, z = mSet σ 37 ((σ.1 37) + 1) := ⟨_, rfl⟩
      rw [← eσ2] at hP
      have h := mlet_at eσ2 h
      refine lv_aload_n hx hb dX3_doubt_131 rfl (lv_at hl 0 rfl) ?_
      refine lv_iconst (v := 0) hx hb dX3_doubt_132 (by decide) ?_
      refine m_put hC hP hS 51 (by decide) rfl q1944 rfl (ty := .boolean) (tyX3_ok 51 (by decide)) (mBit_n rfl) dX3_doubt_133 (fun H locs hP hS => ?_)
      obtain ⟨σ3, eσ3⟩ : ∃ z : MS, z = mSet σ2 51 0 := ⟨_, rfl⟩
      rw [← eσ3] at hP
      have h := mlet_at eσ3 h
      refine lv_aload_n hx hb dX3_doubt_136 rfl (lv_at hl 0 rfl) ?_
      refine m_geti hC hP 37 (by decide) rfl q1930 dX3_doubt_137 ?_
      refine lv_iconst (v := 1) hx hb dX3_doubt_140 (by decide) ?_
      refine lv_isub hx hb dX3_doubt_141 ?_
      cases h
      exact m_iret hC hP hS dX3_doubt_142
    · have h := mif_f c1 h
      refine lv_aload_n hx hb dX3_doubt_86 rfl (lv_at hl 0 rfl) ?_
      refine m_geta hC hP 46 (by decide) rfl q1939 dX3_doubt_87 ?_
      refine lv_bipush (v := 8) hx hb dX3_doubt_90 (by decide) ?_
      refine lv_aload_n hx hb dX3_doubt_92 rfl (lv_at hl 0 rfl) ?_
      refine m_geti hC hP 37 (by decide) rfl q1930 dX3_doubt_93 ?_
      refine lv_imul hx hb dX3_doubt_96 ?_
      refine lv_iload_n hx hb dX3_doubt_97 rfl (lv_at hl 2 rfl) ?_
      refine lv_iadd hx hb dX3_doubt_98 ?_
      refine lv_iload_n hx hb dX3_doubt_99 rfl (lv_at hl 2 rfl) ?_
      refine lv_aload_n hx hb dX3_doubt_100 rfl (lv_at hl 0 rfl) ?_
      refine m_geta hC hP 42 (by decide) rfl q1935 dX3_doubt_101 ?_
      refine lv_iload_n hx hb dX3_doubt_104 rfl (lv_at hl 1 rfl) ?_
      obtain ⟨c4, h⟩ := mif_n h
      refine m_ald hC hP 42 rfl c4 dX3_doubt_105 ?_
      refine lv_topi (fun y5 ey5 => ?_)
      have h := mlet_at ey5 h
      refine lv_icmp_ne (tgt := 113) hx hb dX3_doubt_106 (by decide) (fun c6 => ?_) (fun c6 => ?_)
      · have h := mif_f c6 h
        refine lv_iconst (v := 0) hx hb dX3_doubt_113 (by decide) ?_
        exact w_doubt_114 hC hR N (f_doubt_80 N n) ih σ x1 x2 0 ((8 * (σ.1 37)) + x2) h hP hS (lv_sub hl [0, 1, 2] rfl)
      · have h := mif_t c6 h
        refine lv_iconst (v := 1) hx hb dX3_doubt_109 (by decide) ?_
        refine lv_goto (tgt := 114) hx hb dX3_doubt_110 (by decide) ?_
        exact w_doubt_114 hC hR N (f_doubt_80 N n) ih σ x1 x2 1 ((8 * (σ.1 37)) + x2) h hP hS (lv_sub hl [0, 1, 2] rfl)
def f_doubt (N : Nat) (σ : MS) (x1 : Int32) : Option (Int32 × MS) :=
    mcallv (f_good N σ) fun σ1 =>
    mcall (f_isCell N σ1 x1) fun r5 σ3 =>
    if r5 = 0 then
    mcall (f_no N σ3 1) fun r25 σ23 =>
    some (r25, σ23)
    else
    if mIn x1 (mLen 43) = true then mlet (σ3.2.1 43 x1.toNatClampNeg) fun y8 =>
    if y8 = (-1) then
    if (σ3.1 37) = 5 then
    mcall (f_no N σ3 3) fun r19 σ17 =>
    some (r19, σ17)
    else
    if mIn x1 (mLen 43) = true then mlet (mArr σ3 43 x1.toNatClampNeg (σ3.1 37)) fun σ12 =>
    if mIn (σ12.1 37) (mLen 44) = true then mlet (mArr σ12 44 (σ12.1 37).toNatClampNeg x1) fun σ14 =>
    if mIn (σ14.1 37) (mLen 45) = true then mlet (mArr σ14 45 (σ14.1 37).toNatClampNeg (-1)) fun σ16 =>
    f_doubt_80 N N σ16 x1 0
    else none
    else none
    else none
    else
    mcall (f_no N σ3 5) fun r22 σ20 =>
    some (r22, σ20)
    else none
set_option maxHeartbeats 4000000 in
set_option maxRecDepth 100000 in
theorem w_doubt_0 {p : Program} {l : Launch} {e : Env} {R : Room} {s : State} {m : MethodId} {args : Array Value} {below : List Frame} {meth : Method} {c : Code} {E : mE} {σ' : MS} {r : Int32} (hC : mC p s m args meth c E cX3_doubt 3 (some .int)) (hR : 2 ≤ R.frames ∧ 43 ≤ R.locals) (N : Nat) (σ : MS) (x1 : Int32) (h : f_doubt N σ x1 = some (r, σ')) {H : Heap} {locs : List Loc} (hP : mP E σ H) (hS : va_S (mA E s.heap.size) s.heap H locs) {ls : Array Slot} (hl : lv_has ls 3 [(0, .ref (mh E)), (1, .int x1)]) : W p l e R s m args below meth c H locs 0 0 (MQ below (mQi E s.heap.size r σ') args s 0 0 (mA E s.heap.size)) (F0 m 0 ls []) := by
  obtain ⟨⟨hx, hb, hml, hown, hts⟩, hK, hD, hr, hlk⟩ := id hC
  unfold f_doubt at h
  refine lv_aload_n hx hb dX3_doubt_0 rfl (lv_at hl 0 rfl) ?_
  obtain ⟨σ1, c2, h⟩ := mcallv_n h
  refine m_callv (As := []) (rest := []) hC (met_good l N E H.size σ σ1 c2) (cwV 0 hts (lw_V q2131 q2133 qs40 q103 q2134) rfl rfl rfl (by decide +kernel) ⟨Nat.le_trans (Nat.le_of_ble_eq_true rfl) hR.1, Nat.le_trans (Nat.le_of_ble_eq_true rfl) hR.2⟩) hP hS rfl hl.1 rfl (Nat.le_of_ble_eq_true rfl) dX3_doubt_1 (fun H locs hP hS => ?_)
  refine lv_aload_n hx hb dX3_doubt_4 rfl (lv_at hl 0 rfl) ?_
  refine lv_iload_n hx hb dX3_doubt_5 rfl (lv_at hl 1 rfl) ?_
  obtain ⟨r5, σ3, c4, h⟩ := mcall_n h
  refine m_calli (As := [.int x1]) (rest := []) hC (met_isCell l N E H.size σ1 x1 r5 σ3 c4) (cwV 1 hts (lw_V q2276 q2278 qs60 q103 q2279) rfl rfl rfl (by decide +kernel) ⟨Nat.le_trans (Nat.le_of_ble_eq_true rfl) hR.1, Nat.le_trans (Nat.le_of_ble_eq_true rfl) hR.2⟩) hP hS rfl hl.1 rfl (Nat.le_of_ble_eq_true rfl) dX3_doubt_6 (fun H locs hP hS => ?_)
  refine lv_if_ne (tgt := 18) hx hb dX3_doubt_9 (by decide) (fun c6 => ?_) (fun c6 => ?_)
  · have h := mif_f c6 h
    refine lv_aload_n hx hb dX3_doubt_18 rfl (lv_at hl 0 rfl) ?_
    refine m_geta hC hP 43 (by decide) rfl q1936 dX3_doubt_19 ?_
    refine lv_iload_n hx hb dX3_doubt_22 rfl (lv_at hl 1 rfl) ?_
    obtain ⟨c7, h⟩ := mif_n h
    refine m_ald hC hP 43 rfl c7 dX3_doubt_23 ?_
    refine lv_topi (fun y8 ey8 => ?_)
    have h := mlet_at ey8 h
    refine lv_iconst (v := (-1)) hx hb dX3_doubt_24 (by decide) ?_
    refine lv_icmp_eq (tgt := 34) hx hb dX3_doubt_25 (by decide) (fun c9 => ?_) (fun c9 => ?_)
    · have h := mif_t c9 h
      refine lv_aload_n hx hb dX3_doubt_34 rfl (lv_at hl 0 rfl) ?_
      refine m_geti hC hP 37 (by decide) rfl q1930 dX3_doubt_35 ?_
      refine lv_iconst (v := 5) hx hb dX3_doubt_38 (by decide) ?_
      refine lv_icmp_ne (tgt := 48) hx hb dX3_doubt_39 (by decide) (fun c10 => ?_) (fun c10 => ?_)
      · have h := mif_f c10 h
        refine lv_aload_n hx hb dX3_doubt_48 rfl (lv_at hl 0 rfl) ?_
        refine m_geta hC hP 43 (by decide) rfl q1936 dX3_doubt_49 ?_
        refine lv_iload_n hx hb dX3_doubt_52 rfl (lv_at hl 1 rfl) ?_
        refine lv_aload_n hx hb dX3_doubt_53 rfl (lv_at hl 0 rfl) ?_
        refine m_geti hC hP 37 (by decide) rfl q1930 dX3_doubt_54 ?_
        obtain ⟨c11, h⟩ := mif_n h
        refine m_ast hC hP hS 43 rfl c11 dX3_doubt_57 (fun H locs hP hS => ?_)
        obtain ⟨σ12, eσ12⟩ : ∃ z : MS, z = mArr σ3 43 x1.toNatClampNeg (σ3.1 37) := ⟨_, rfl⟩
        rw [← eσ12] at hP
        have h := mlet_at eσ12 h
        refine lv_aload_n hx hb dX3_doubt_58 rfl (lv_at hl 0 rfl) ?_
        refine m_geta hC hP 44 (by decide) rfl q1937 dX3_doubt_59 ?_
        refine lv_aload_n hx hb dX3_doubt_62 rfl (lv_at hl 0 rfl) ?_
        refine m_geti hC hP 37 (by decide) rfl q1930 dX3_doubt_63 ?_
        refine lv_iload_n hx hb dX3_doubt_66 rfl (lv_at hl 1 rfl) ?_
        obtain ⟨c13, h⟩ := mif_n h
        refine m_ast hC hP hS 44 rfl c13 dX3_doubt_67 (fun H locs hP hS => ?_)
        obtain ⟨σ14, eσ14⟩ : ∃ z : MS, z = mArr σ12 44 (σ12.1 37).toNatClampNeg x1 := ⟨_, rfl⟩
        rw [← eσ14] at hP
        have h := mlet_at eσ14 h
        refine lv_aload_n hx hb dX3_doubt_68 rfl (lv_at hl 0 rfl) ?_
        refine m_geta hC hP 45 (by decide) rfl q1938 dX3_doubt_69 ?_
        refine lv_aload_n hx hb dX3_doubt_72 rfl (lv_at hl 0 rfl) ?_
        refine m_geti hC hP 37 (by decide) rfl q1930 dX3_doubt_73 ?_
        refine lv_iconst (v := (-1)) hx hb dX3_doubt_76 (by decide) ?_
        obtain ⟨c15, h⟩ := mif_n h
        refine m_ast hC hP hS 45 rfl c15 dX3_doubt_77 (fun H locs hP hS => ?_)
        obtain ⟨σ16, eσ16⟩ : ∃ z : MS, z = mArr σ14 45 (σ14.1 37).toNatClampNeg (-1) := ⟨_, rfl⟩
        rw [← eσ16] at hP
        have h := mlet_at eσ16 h
        refine lv_iconst (v := 0) hx hb dX3_doubt_78 (by decide) ?_
        refine lv_istore_n (lv' := [(2, .int 0), (0, .ref (mh E)), (1, .int x1)]) hx hb dX3_doubt_79 rfl hl (by decide) rfl (fun ls hl => ?_)
        exact w_doubt_80 hC hR N N σ16 x1 0 h _ _ hP hS _ (lv_sub hl [1, 2, 0] rfl)
      · have h := mif_t c10 h
        refine lv_aload_n hx hb dX3_doubt_42 rfl (lv_at hl 0 rfl) ?_
        refine lv_iconst (v := 3) hx hb dX3_doubt_43 (by decide) ?_
        obtain ⟨r19, σ17, c18, h⟩ := mcall_n h
        refine m_calli (As := [.int 3]) (rest := []) hC (met_no l N E H.size σ3 3 r19 σ17 c18) (cwV 1 hts (lw_V q2138 q2140 qs41 q103 q2141) rfl rfl rfl (by decide +kernel) ⟨Nat.le_trans (Nat.le_of_ble_eq_true rfl) hR.1, Nat.le_trans (Nat.le_of_ble_eq_true rfl) hR.2⟩) hP hS rfl hl.1 rfl (Nat.le_of_ble_eq_true rfl) dX3_doubt_44 (fun H locs hP hS => ?_)
        cases h
        exact m_iret hC hP hS dX3_doubt_47
    · have h := mif_f c9 h
      refine lv_aload_n hx hb dX3_doubt_28 rfl (lv_at hl 0 rfl) ?_
      refine lv_iconst (v := 5) hx hb dX3_doubt_29 (by decide) ?_
      obtain ⟨r22, σ20, c21, h⟩ := mcall_n h
      refine m_calli (As := [.int 5]) (rest := []) hC (met_no l N E H.size σ3 5 r22 σ20 c21) (cwV 1 hts (lw_V q2138 q2140 qs41 q103 q2141) rfl rfl rfl (by decide +kernel) ⟨Nat.le_trans (Nat.le_of_ble_eq_true rfl) hR.1, Nat.le_trans (Nat.le_of_ble_eq_true rfl) hR.2⟩) hP hS rfl hl.1 rfl (Nat.le_of_ble_eq_true rfl) dX3_doubt_30 (fun H locs hP hS => ?_)
      cases h
      exact m_iret hC hP hS dX3_doubt_33
  · have h := mif_t c6 h
    refine lv_aload_n hx hb dX3_doubt_12 rfl (lv_at hl 0 rfl) ?_
    refine lv_iconst (v := 1) hx hb dX3_doubt_13 (by decide) ?_
    obtain ⟨r25, σ23, c24, h⟩ := mcall_n h
    refine m_calli (As := [.int 1]) (rest := []) hC (met_no l N E H.size σ3 1 r25 σ23 c24) (cwV 1 hts (lw_V q2138 q2140 qs41 q103 q2141) rfl rfl rfl (by decide +kernel) ⟨Nat.le_trans (Nat.le_of_ble_eq_true rfl) hR.1, Nat.le_trans (Nat.le_of_ble_eq_true rfl) hR.2⟩) hP hS rfl hl.1 rfl (Nat.le_of_ble_eq_true rfl) dX3_doubt_14 (fun H locs hP hS => ?_)
    cases h
    exact m_iret hC hP hS dX3_doubt_17
theorem met_doubt (l : Launch) (N : Nat) (E : mE) (sz : Nat) (σ : MS) (x1 : Int32) (r : Int32) (σ' : MS) (h : f_doubt N σ x1 = some (r, σ')) : Met l yX3_doubt (ws_ yX3_doubt cX3_doubt 3 (some .int)) ({ frames := 2, cells := 0, slots := 0, locals := 43 }) (mPc E sz σ [.ref (mh E), .int x1]) (mQi E sz r σ') 0 0 (mA E sz) :=
  m_met (Qc := fun z => mQi E z r σ') (by decide) rfl (Nat.le_of_ble_eq_true rfl) (fun hC ls hl hP => w_doubt_0 hC ⟨Nat.le_refl _, Nat.le_refl _⟩ N σ x1 h hP va_S.rf hl)
def f_isDoubt_26 (N : Nat) (σ : MS) (s0 : Int32) : Option (Int32 × MS) :=
    if mBit s0 = true then
    some (s0, σ)
    else none
set_option maxHeartbeats 4000000 in
set_option maxRecDepth 100000 in
theorem w_isDoubt_26 {p : Program} {l : Launch} {e : Env} {R : Room} {s : State} {m : MethodId} {args : Array Value} {below : List Frame} {meth : Method} {c : Code} {E : mE} {σ' : MS} {r : Int32} (hC : mC p s m args meth c E cX3_isDoubt 2 (some .boolean)) (hR : 1 ≤ R.frames ∧ 22 ≤ R.locals) (N : Nat) (σ : MS) (s0 : Int32) (h : f_isDoubt_26 N σ s0 = some (r, σ')) {H : Heap} {locs : List Loc} (hP : mP E σ H) (hS : va_S (mA E s.heap.size) s.heap H locs) {ls : Array Slot} (hl : lv_has ls 2 []) : W p l e R s m args below meth c H locs 0 0 (MQ below (mQi E s.heap.size r σ') args s 0 0 (mA E s.heap.size)) (F0 m 26 ls [.int s0]) := by
  obtain ⟨⟨hx, hb, hml, hown, hts⟩, hK, hD, hr, hlk⟩ := id hC
  unfold f_isDoubt_26 at h
  obtain ⟨c1, h⟩ := mif_n h
  cases h
  exact m_zret hC c1 hP hS dX3_isDoubt_26
def f_isDoubt_25 (N : Nat) (σ : MS) : Option (Int32 × MS) :=
    f_isDoubt_26 N σ 0
set_option maxHeartbeats 4000000 in
set_option maxRecDepth 100000 in
theorem w_isDoubt_25 {p : Program} {l : Launch} {e : Env} {R : Room} {s : State} {m : MethodId} {args : Array Value} {below : List Frame} {meth : Method} {c : Code} {E : mE} {σ' : MS} {r : Int32} (hC : mC p s m args meth c E cX3_isDoubt 2 (some .boolean)) (hR : 1 ≤ R.frames ∧ 22 ≤ R.locals) (N : Nat) (σ : MS) (h : f_isDoubt_25 N σ = some (r, σ')) {H : Heap} {locs : List Loc} (hP : mP E σ H) (hS : va_S (mA E s.heap.size) s.heap H locs) {ls : Array Slot} (hl : lv_has ls 2 []) : W p l e R s m args below meth c H locs 0 0 (MQ below (mQi E s.heap.size r σ') args s 0 0 (mA E s.heap.size)) (F0 m 25 ls []) := by
  obtain ⟨⟨hx, hb, hml, hown, hts⟩, hK, hD, hr, hlk⟩ := id hC
  unfold f_isDoubt_25 at h
  refine lv_iconst (v := 0) hx hb dX3_isDoubt_25 (by decide) ?_
  exact w_isDoubt_26 hC hR N σ 0 h hP hS (lv_sub hl [] rfl)
def f_isDoubt (N : Nat) (σ : MS) (x1 : Int32) : Option (Int32 × MS) :=
    if (σ.1 34) = 0 then
    f_isDoubt_25 N σ
    else
    mcall (f_within N σ x1 0 ((σ.1 37) - 1)) fun r4 σ2 =>
    if r4 = 0 then
    f_isDoubt_25 N σ2
    else
    f_isDoubt_26 N σ2 1
set_option maxHeartbeats 4000000 in
set_option maxRecDepth 100000 in
theorem w_isDoubt_0 {p : Program} {l : Launch} {e : Env} {R : Room} {s : State} {m : MethodId} {args : Array Value} {below : List Frame} {meth : Method} {c : Code} {E : mE} {σ' : MS} {r : Int32} (hC : mC p s m args meth c E cX3_isDoubt 2 (some .boolean)) (hR : 1 ≤ R.frames ∧ 22 ≤ R.locals) (N : Nat) (σ : MS) (x1 : Int32) (h : f_isDoubt N σ x1 = some (r, σ')) {H : Heap} {locs : List Loc} (hP : mP E σ H) (hS : va_S (mA E s.heap.size) s.heap H locs) {ls : Array Slot} (hl : lv_has ls 2 [(0, .ref (mh E)), (1, .int x1)]) : W p l e R s m args below meth c H locs 0 0 (MQ below (mQi E s.heap.size r σ') args s 0 0 (mA E s.heap.size)) (F0 m 0 ls []) := by
  obtain ⟨⟨hx, hb, hml, hown, hts⟩, hK, hD, hr, hlk⟩ := id hC
  unfold f_isDoubt at h
  refine lv_aload_n hx hb dX3_isDoubt_0 rfl (lv_at hl 0 rfl) ?_
  refine m_geti hC hP 34 (by decide) rfl q1927 dX3_isDoubt_1 ?_
  refine lv_if_eq (tgt := 25) hx hb dX3_isDoubt_4 (by decide) (fun c1 => ?_) (fun c1 => ?_)
  · have h := mif_t c1 h
    exact w_isDoubt_25 hC hR N σ h hP hS (lv_sub hl [] rfl)
  · have h := mif_f c1 h
    refine lv_iload_n hx hb dX3_isDoubt_7 rfl (lv_at hl 1 rfl) ?_
    refine lv_iconst (v := 0) hx hb dX3_isDoubt_8 (by decide) ?_
    refine lv_aload_n hx hb dX3_isDoubt_9 rfl (lv_at hl 0 rfl) ?_
    refine m_geti hC hP 37 (by decide) rfl q1930 dX3_isDoubt_10 ?_
    refine lv_iconst (v := 1) hx hb dX3_isDoubt_13 (by decide) ?_
    refine lv_isub hx hb dX3_isDoubt_14 ?_
    obtain ⟨r4, σ2, c3, h⟩ := mcall_n h
    refine m_callsi (As := [.int x1, .int 0, .int ((σ.1 37) - 1)]) (rest := []) hC (met_within l N E H.size σ x1 0 ((σ.1 37) - 1) r4 σ2 c3) (va_cwS 3 hts (lw_S q2135 q2136 q103 q2137) rfl rfl rfl (by decide +kernel) ⟨Nat.le_trans (Nat.le_of_ble_eq_true rfl) hR.1, Nat.le_trans (Nat.le_of_ble_eq_true rfl) hR.2⟩) hP hS rfl hl.1 rfl (Nat.le_of_ble_eq_true rfl) dX3_isDoubt_15 (fun H locs hP hS => ?_)
    refine lv_if_eq (tgt := 25) hx hb dX3_isDoubt_18 (by decide) (fun c5 => ?_) (fun c5 => ?_)
    · have h := mif_t c5 h
      exact w_isDoubt_25 hC hR N σ2 h hP hS (lv_sub hl [] rfl)
    · have h := mif_f c5 h
      refine lv_iconst (v := 1) hx hb dX3_isDoubt_21 (by decide) ?_
      refine lv_goto (tgt := 26) hx hb dX3_isDoubt_22 (by decide) ?_
      exact w_isDoubt_26 hC hR N σ2 1 h hP hS (lv_sub hl [] rfl)
theorem met_isDoubt (l : Launch) (N : Nat) (E : mE) (sz : Nat) (σ : MS) (x1 : Int32) (r : Int32) (σ' : MS) (h : f_isDoubt N σ x1 = some (r, σ')) : Met l yX3_isDoubt (ws_ yX3_isDoubt cX3_isDoubt 2 (some .boolean)) ({ frames := 1, cells := 0, slots := 0, locals := 22 }) (mPc E sz σ [.ref (mh E), .int x1]) (mQi E sz r σ') 0 0 (mA E sz) :=
  m_met (Qc := fun z => mQi E z r σ') (by decide) rfl (Nat.le_of_ble_eq_true rfl) (fun hC ls hl hP => w_isDoubt_0 hC ⟨Nat.le_refl _, Nat.le_refl _⟩ N σ x1 h hP va_S.rf hl)
def f_weigh_20 (N : Nat) (σ : MS) : Option (Int32 × MS) :=
    mcall (f_not N σ 1) fun r3 σ1 =>
    if mBit r3 = true then
    some (r3, σ1)
    else none
set_option maxHeartbeats 4000000 in
set_option maxRecDepth 100000 in
theorem w_weigh_20 {p : Program} {l : Launch} {e : Env} {R : Room} {s : State} {m : MethodId} {args : Array Value} {below : List Frame} {meth : Method} {c : Code} {E : mE} {σ' : MS} {r : Int32} (hC : mC p s m args meth c E cX3_weigh 6 (some .boolean)) (hR : 2 ≤ R.frames ∧ 43 ≤ R.locals) (N : Nat) (σ : MS) (h : f_weigh_20 N σ = some (r, σ')) {H : Heap} {locs : List Loc} (hP : mP E σ H) (hS : va_S (mA E s.heap.size) s.heap H locs) {ls : Array Slot} (hl : lv_has ls 6 [(0, .ref (mh E))]) : W p l e R s m args below meth c H locs 0 0 (MQ below (mQi E s.heap.size r σ') args s 0 0 (mA E s.heap.size)) (F0 m 20 ls []) := by
  obtain ⟨⟨hx, hb, hml, hown, hts⟩, hK, hD, hr, hlk⟩ := id hC
  unfold f_weigh_20 at h
  refine lv_aload_n hx hb dX3_weigh_20 rfl (lv_at hl 0 rfl) ?_
  refine lv_iconst (v := 1) hx hb dX3_weigh_21 (by decide) ?_
  obtain ⟨r3, σ1, c2, h⟩ := mcall_n h
  refine m_calli (As := [.int 1]) (rest := []) hC (met_not l N E H.size σ 1 r3 σ1 c2) (cwV 1 hts (lw_V q2264 q2266 qs59 q103 q2267) rfl rfl rfl (by decide +kernel) ⟨Nat.le_trans (Nat.le_of_ble_eq_true rfl) hR.1, Nat.le_trans (Nat.le_of_ble_eq_true rfl) hR.2⟩) hP hS rfl hl.1 rfl (Nat.le_of_ble_eq_true rfl) dX3_weigh_22 (fun H locs hP hS => ?_)
  obtain ⟨c4, h⟩ := mif_n h
  cases h
  exact m_zret hC c4 hP hS dX3_weigh_25
def f_weigh_126 (N : Nat) (σ : MS) : Option (Int32 × MS) :=
    mcall (f_not N σ 5) fun r3 σ1 =>
    if mBit r3 = true then
    some (r3, σ1)
    else none
set_option maxHeartbeats 4000000 in
set_option maxRecDepth 100000 in
theorem w_weigh_126 {p : Program} {l : Launch} {e : Env} {R : Room} {s : State} {m : MethodId} {args : Array Value} {below : List Frame} {meth : Method} {c : Code} {E : mE} {σ' : MS} {r : Int32} (hC : mC p s m args meth c E cX3_weigh 6 (some .boolean)) (hR : 2 ≤ R.frames ∧ 43 ≤ R.locals) (N : Nat) (σ : MS) (h : f_weigh_126 N σ = some (r, σ')) {H : Heap} {locs : List Loc} (hP : mP E σ H) (hS : va_S (mA E s.heap.size) s.heap H locs) {ls : Array Slot} (hl : lv_has ls 6 [(0, .ref (mh E))]) : W p l e R s m args below meth c H locs 0 0 (MQ below (mQi E s.heap.size r σ') args s 0 0 (mA E s.heap.size)) (F0 m 126 ls []) := by
  obtain ⟨⟨hx, hb, hml, hown, hts⟩, hK, hD, hr, hlk⟩ := id hC
  unfold f_weigh_126 at h
  refine lv_aload_n hx hb dX3_weigh_126 rfl (lv_at hl 0 rfl) ?_
  refine lv_iconst (v := 5) hx hb dX3_weigh_127 (by decide) ?_
  obtain ⟨r3, σ1, c2, h⟩ := mcall_n h
  refine m_calli (As := [.int 5]) (rest := []) hC (met_not l N E H.size σ 5 r3 σ1 c2) (cwV 1 hts (lw_V q2264 q2266 qs59 q103 q2267) rfl rfl rfl (by decide +kernel) ⟨Nat.le_trans (Nat.le_of_ble_eq_true rfl) hR.1, Nat.le_trans (Nat.le_of_ble_eq_true rfl) hR.2⟩) hP hS rfl hl.1 rfl (Nat.le_of_ble_eq_true rfl) dX3_weigh_128 (fun H locs hP hS => ?_)
  obtain ⟨c4, h⟩ := mif_n h
  cases h
  exact m_zret hC c4 hP hS dX3_weigh_131
def f_weigh_132 (N : Nat) (σ : MS) (x1 : Int32) (x2 : Int32) (x3 : Int32) : Option (Int32 × MS) :=
    if mIn ((8 * x1) + x2) (mLen 46) = true then mlet (mArr σ 46 ((8 * x1) + x2).toNatClampNeg x3) fun σ2 =>
    mlet (mSet σ2 51 0) fun σ3 =>
    some (1, σ3)
    else none
set_option maxHeartbeats 4000000 in
set_option maxRecDepth 100000 in
theorem w_weigh_132 {p : Program} {l : Launch} {e : Env} {R : Room} {s : State} {m : MethodId} {args : Array Value} {below : List Frame} {meth : Method} {c : Code} {E : mE} {σ' : MS} {r : Int32} (hC : mC p s m args meth c E cX3_weigh 6 (some .boolean)) (hR : 2 ≤ R.frames ∧ 43 ≤ R.locals) (N : Nat) (σ : MS) (x1 : Int32) (x2 : Int32) (x3 : Int32) (h : f_weigh_132 N σ x1 x2 x3 = some (r, σ')) {H : Heap} {locs : List Loc} (hP : mP E σ H) (hS : va_S (mA E s.heap.size) s.heap H locs) {ls : Array Slot} (hl : lv_has ls 6 [(0, .ref (mh E)), (1, .int x1), (2, .int x2), (3, .int x3)]) : W p l e R s m args below meth c H locs 0 0 (MQ below (mQi E s.heap.size r σ') args s 0 0 (mA E s.heap.size)) (F0 m 132 ls []) := by
  obtain ⟨⟨hx, hb, hml, hown, hts⟩, hK, hD, hr, hlk⟩ := id hC
  unfold f_weigh_132 at h
  refine lv_aload_n hx hb dX3_weigh_132 rfl (lv_at hl 0 rfl) ?_
  refine m_geta hC hP 46 (by decide) rfl q1939 dX3_weigh_133 ?_
  refine lv_bipush (v := 8) hx hb dX3_weigh_136 (by decide) ?_
  refine lv_iload_n hx hb dX3_weigh_138 rfl (lv_at hl 1 rfl) ?_
  refine lv_imul hx hb dX3_weigh_139 ?_
  refine lv_iload_n hx hb dX3_weigh_140 rfl (lv_at hl 2 rfl) ?_
  refine lv_iadd hx hb dX3_weigh_141 ?_
  refine lv_iload_n hx hb dX3_weigh_142 rfl (lv_at hl 3 rfl) ?_
  obtain ⟨c1, h⟩ := mif_n h
  refine m_ast hC hP hS 46 rfl c1 dX3_weigh_143 (fun H locs hP hS => ?_)
  obtain ⟨σ2, eσ2⟩ : ∃ z : MS, z = mArr σ 46 ((8 * x1) + x2).toNatClampNeg x3 := ⟨_, rfl⟩
  rw [← eσ2] at hP
  have h := mlet_at eσ2 h
  refine lv_aload_n hx hb dX3_weigh_144 rfl (lv_at hl 0 rfl) ?_
  refine lv_iconst (v := 0) hx hb dX3_weigh_145 (by decide) ?_
  refine m_put hC hP hS 51 (by decide) rfl q1944 rfl (ty := .boolean) (tyX3_ok 51 (by decide)) (mBit_n rfl) dX3_weigh_146 (fun H locs hP hS => ?_)
  obtain ⟨σ3, eσ3⟩ : ∃ z : MS, z = mSet σ2 51 0 := ⟨_, rfl⟩
  rw [← eσ3] at hP
  have h := mlet_at eσ3 h
  refine lv_iconst (v := 1) hx hb dX3_weigh_149 (by decide) ?_
  cases h
  exact m_zret hC rfl hP hS dX3_weigh_150
def f_weigh_91 (N : Nat) (k56 : MS → Int32 → Int32 → Int32 → Int32 → Int32 → Option (Int32 × MS)) (σ : MS) (x1 : Int32) (x2 : Int32) (x3 : Int32) (x5 : Int32) (s0 : Int32) (s1 : Int32) : Option (Int32 × MS) :=
    mlet (s1 + s0) fun y1 =>
    mlet (x5 + 1) fun y2 =>
    k56 σ x1 x2 x3 y1 y2
set_option maxHeartbeats 4000000 in
set_option maxRecDepth 100000 in
theorem w_weigh_91 {p : Program} {l : Launch} {e : Env} {R : Room} {s : State} {m : MethodId} {args : Array Value} {below : List Frame} {meth : Method} {c : Code} {E : mE} {σ' : MS} {r : Int32} (hC : mC p s m args meth c E cX3_weigh 6 (some .boolean)) (hR : 2 ≤ R.frames ∧ 43 ≤ R.locals) (N : Nat) (k56 : MS → Int32 → Int32 → Int32 → Int32 → Int32 → Option (Int32 × MS)) (hk56 : ∀ (σ : MS) (x1 : Int32) (x2 : Int32) (x3 : Int32) (x4 : Int32) (x5 : Int32), k56 σ x1 x2 x3 x4 x5 = some (r, σ') → ∀ (H : Heap) (locs : List Loc), mP E σ H → va_S (mA E s.heap.size) s.heap H locs → ∀ ls : Array Slot, lv_has ls 6 [(0, .ref (mh E)), (1, .int x1), (2, .int x2), (3, .int x3), (4, .int x4), (5, .int x5)] → W p l e R s m args below meth c H locs 0 0 (MQ below (mQi E s.heap.size r σ') args s 0 0 (mA E s.heap.size)) (F0 m 56 ls [])) (σ : MS) (x1 : Int32) (x2 : Int32) (x3 : Int32) (x5 : Int32) (s0 : Int32) (s1 : Int32) (h : f_weigh_91 N k56 σ x1 x2 x3 x5 s0 s1 = some (r, σ')) {H : Heap} {locs : List Loc} (hP : mP E σ H) (hS : va_S (mA E s.heap.size) s.heap H locs) {ls : Array Slot} (hl : lv_has ls 6 [(0, .ref (mh E)), (1, .int x1), (2, .int x2), (3, .int x3), (5, .int x5)]) : W p l e R s m args below meth c H locs 0 0 (MQ below (mQi E s.heap.size r σ') args s 0 0 (mA E s.heap.size)) (F0 m 91 ls [.int s0, .int s1]) := by
  obtain ⟨⟨hx, hb, hml, hown, hts⟩, hK, hD, hr, hlk⟩ := id hC
  unfold f_weigh_91 at h
  refine lv_iadd hx hb dX3_weigh_91 ?_
  refine lv_topi (fun y1 ey1 => ?_)
  have h := mlet_at ey1 h
  refine lv_istore (lv' := [(4, .int y1), (0, .ref (mh E)), (1, .int x1), (2, .int x2), (3, .int x3), (5, .int x5)]) hx hb dX3_weigh_92 hl (by decide) rfl (fun ls hl => ?_)
  obtain ⟨y2, ey2⟩ : ∃ z : Int32, z = x5 + 1 := ⟨_, rfl⟩
  have h := mlet_at ey2 h
  refine lv_iinc (v := y2) (lv' := [(5, .int y2), (4, .int y1), (0, .ref (mh E)), (1, .int x1), (2, .int x2), (3, .int x3)]) hx hb dX3_weigh_94 hl (k := 5) rfl (by rw [ey2]; rfl) (by decide) rfl (fun ls hl => ?_)
  refine lv_goto (tgt := 56) hx hb dX3_weigh_97 (by decide) ?_
  exact hk56 σ x1 x2 x3 y1 y2 h _ _ hP hS _ (lv_sub hl [2, 3, 4, 5, 1, 0] rfl)
def f_weigh_90 (N : Nat) (k56 : MS → Int32 → Int32 → Int32 → Int32 → Int32 → Option (Int32 × MS)) (σ : MS) (x1 : Int32) (x2 : Int32) (x3 : Int32) (x5 : Int32) (s0 : Int32) : Option (Int32 × MS) :=
    f_weigh_91 N k56 σ x1 x2 x3 x5 0 s0
set_option maxHeartbeats 4000000 in
set_option maxRecDepth 100000 in
theorem w_weigh_90 {p : Program} {l : Launch} {e : Env} {R : Room} {s : State} {m : MethodId} {args : Array Value} {below : List Frame} {meth : Method} {c : Code} {E : mE} {σ' : MS} {r : Int32} (hC : mC p s m args meth c E cX3_weigh 6 (some .boolean)) (hR : 2 ≤ R.frames ∧ 43 ≤ R.locals) (N : Nat) (k56 : MS → Int32 → Int32 → Int32 → Int32 → Int32 → Option (Int32 × MS)) (hk56 : ∀ (σ : MS) (x1 : Int32) (x2 : Int32) (x3 : Int32) (x4 : Int32) (x5 : Int32), k56 σ x1 x2 x3 x4 x5 = some (r, σ') → ∀ (H : Heap) (locs : List Loc), mP E σ H → va_S (mA E s.heap.size) s.heap H locs → ∀ ls : Array Slot, lv_has ls 6 [(0, .ref (mh E)), (1, .int x1), (2, .int x2), (3, .int x3), (4, .int x4), (5, .int x5)] → W p l e R s m args below meth c H locs 0 0 (MQ below (mQi E s.heap.size r σ') args s 0 0 (mA E s.heap.size)) (F0 m 56 ls [])) (σ : MS) (x1 : Int32) (x2 : Int32) (x3 : Int32) (x5 : Int32) (s0 : Int32) (h : f_weigh_90 N k56 σ x1 x2 x3 x5 s0 = some (r, σ')) {H : Heap} {locs : List Loc} (hP : mP E σ H) (hS : va_S (mA E s.heap.size) s.heap H locs) {ls : Array Slot} (hl : lv_has ls 6 [(0, .ref (mh E)), (1, .int x1), (2, .int x2), (3, .int x3), (5, .int x5)]) : W p l e R s m args below meth c H locs 0 0 (MQ below (mQi E s.heap.size r σ') args s 0 0 (mA E s.heap.size)) (F0 m 90 ls [.int s0]) := by
  obtain ⟨⟨hx, hb, hml, hown, hts⟩, hK, hD, hr, hlk⟩ := id hC
  unfold f_weigh_90 at h
  refine lv_iconst (v := 0) hx hb dX3_weigh_90 (by decide) ?_
  exact w_weigh_91 hC hR N k56 hk56 σ x1 x2 x3 x5 0 s0 h hP hS (lv_sub hl [0, 1, 2, 3, 4] rfl)
def f_weigh_56 (N : Nat) : Nat → MS → Int32 → Int32 → Int32 → Int32 → Int32 → Option (Int32 × MS)
  | 0, _, _, _, _, _, _ => none
  | n + 1, σ, x1, x2, x3, x4, x5 =>
    if 8 ≤ x5 then
    if x4 < 1 then
    f_weigh_126 N σ
    else
    if 3 < x4 then
    f_weigh_126 N σ
    else
    if x3 = 0 then
    if mIn x1 (mLen 45) = true then mlet (σ.2.1 45 x1.toNatClampNeg) fun y6 =>
    if y6 = x2 then
    f_weigh_126 N σ
    else
    f_weigh_132 N σ x1 x2 x3
    else none
    else
    f_weigh_132 N σ x1 x2 x3
    else
    if x5 = x2 then
    f_weigh_90 N (f_weigh_56 N n) σ x1 x2 x3 x5 x4
    else
    if mIn ((8 * x1) + x5) (mLen 46) = true then mlet (σ.2.1 46 ((8 * x1) + x5).toNatClampNeg) fun y10 =>
    if y10 ≤ 0 then
    f_weigh_90 N (f_weigh_56 N n) σ x1 x2 x3 x5 x4
    else
    f_weigh_91 N (f_weigh_56 N n) σ x1 x2 x3 x5 1 x4
    else none
set_option maxHeartbeats 4000000 in
set_option maxRecDepth 100000 in
theorem w_weigh_56 {p : Program} {l : Launch} {e : Env} {R : Room} {s : State} {m : MethodId} {args : Array Value} {below : List Frame} {meth : Method} {c : Code} {E : mE} {σ' : MS} {r : Int32} (hC : mC p s m args meth c E cX3_weigh 6 (some .boolean)) (hR : 2 ≤ R.frames ∧ 43 ≤ R.locals) (N : Nat) : ∀ (n : Nat) (σ : MS) (x1 : Int32) (x2 : Int32) (x3 : Int32) (x4 : Int32) (x5 : Int32), f_weigh_56 N n σ x1 x2 x3 x4 x5 = some (r, σ') → ∀ (H : Heap) (locs : List Loc), mP E σ H → va_S (mA E s.heap.size) s.heap H locs → ∀ ls : Array Slot, lv_has ls 6 [(0, .ref (mh E)), (1, .int x1), (2, .int x2), (3, .int x3), (4, .int x4), (5, .int x5)] → W p l e R s m args below meth c H locs 0 0 (MQ below (mQi E s.heap.size r σ') args s 0 0 (mA E s.heap.size)) (F0 m 56 ls []) := by
  obtain ⟨⟨hx, hb, hml, hown, hts⟩, hK, hD, hr, hlk⟩ := id hC
  intro n
  induction n with
  | zero =>
    intro σ x1 x2 x3 x4 x5 h
    cases h
  | succ n ih =>
    intro σ x1 x2 x3 x4 x5 h H locs hP hS ls hl
    unfold f_weigh_56 at h
    refine lv_iload hx hb dX3_weigh_56 (lv_at hl 5 rfl) ?_
    refine lv_bipush (v := 8) hx hb dX3_weigh_58 (by decide) ?_
    refine lv_icmp_ge (tgt := 100) hx hb dX3_weigh_60 (by decide) (fun c1 => ?_) (fun c1 => ?_)
    · have h := mif_t c1 h
      refine lv_iload hx hb dX3_weigh_100 (lv_at hl 4 rfl) ?_
      refine lv_iconst (v := 1) hx hb dX3_weigh_102 (by decide) ?_
      refine lv_icmp_lt (tgt := 126) hx hb dX3_weigh_103 (by decide) (fun c2 => ?_) (fun c2 => ?_)
      · have h := mif_t c2 h
        exact w_weigh_126 hC hR N σ h hP hS (lv_sub hl [0] rfl)
      · have h := mif_f c2 h
        refine lv_iload hx hb dX3_weigh_106 (lv_at hl 4 rfl) ?_
        refine lv_iconst (v := 3) hx hb dX3_weigh_108 (by decide) ?_
        refine lv_icmp_gt (tgt := 126) hx hb dX3_weigh_109 (by decide) (fun c3 => ?_) (fun c3 => ?_)
        · have h := mif_t c3 h
          exact w_weigh_126 hC hR N σ h hP hS (lv_sub hl [0] rfl)
        · have h := mif_f c3 h
          refine lv_iload_n hx hb dX3_weigh_112 rfl (lv_at hl 3 rfl) ?_
          refine lv_if_ne (tgt := 132) hx hb dX3_weigh_113 (by decide) (fun c4 => ?_) (fun c4 => ?_)
          · have h := mif_f c4 h
            exact w_weigh_132 hC hR N σ x1 x2 x3 h hP hS (lv_sub hl [0, 1, 2, 3] rfl)
          · have h := mif_t c4 h
            refine lv_aload_n hx hb dX3_weigh_116 rfl (lv_at hl 0 rfl) ?_
            refine m_geta hC hP 45 (by decide) rfl q1938 dX3_weigh_117 ?_
            refine lv_iload_n hx hb dX3_weigh_120 rfl (lv_at hl 1 rfl) ?_
            obtain ⟨c5, h⟩ := mif_n h
            refine m_ald hC hP 45 rfl c5 dX3_weigh_121 ?_
            refine lv_topi (fun y6 ey6 => ?_)
            have h := mlet_at ey6 h
            refine lv_iload_n hx hb dX3_weigh_122 rfl (lv_at hl 2 rfl) ?_
            refine lv_icmp_ne (tgt := 132) hx hb dX3_weigh_123 (by decide) (fun c7 => ?_) (fun c7 => ?_)
            · have h := mif_f c7 h
              exact w_weigh_132 hC hR N σ x1 x2 x3 h hP hS (lv_sub hl [0, 1, 2, 3] rfl)
            · have h := mif_t c7 h
              exact w_weigh_126 hC hR N σ h hP hS (lv_sub hl [0] rfl)
    · have h := mif_f c1 h
      refine lv_iload hx hb dX3_weigh_63 (lv_at hl 4 rfl) ?_
      refine lv_iload hx hb dX3_weigh_65 (lv_at hl 5 rfl) ?_
      refine lv_iload_n hx hb dX3_weigh_67 rfl (lv_at hl 2 rfl) ?_
      refine lv_icmp_eq (tgt := 90) hx hb dX3_weigh_68 (by decide) (fun c8 => ?_) (fun c8 => ?_)
      · have h := mif_t c8 h
        exact w_weigh_90 hC hR N (f_weigh_56 N n) ih σ x1 x2 x3 x5 x4 h hP hS (lv_sub hl [0, 1, 2, 3, 5] rfl)
      · have h := mif_f c8 h
        refine lv_aload_n hx hb dX3_weigh_71 rfl (lv_at hl 0 rfl) ?_
        refine m_geta hC hP 46 (by decide) rfl q1939 dX3_weigh_72 ?_
        refine lv_bipush (v := 8) hx hb dX3_weigh_75 (by decide) ?_
        refine lv_iload_n hx hb dX3_weigh_77 rfl (lv_at hl 1 rfl) ?_
        refine lv_imul hx hb dX3_weigh_78 ?_
        refine lv_iload hx hb dX3_weigh_79 (lv_at hl 5 rfl) ?_
        refine lv_iadd hx hb dX3_weigh_81 ?_
        obtain ⟨c9, h⟩ := mif_n h
        refine m_ald hC hP 46 rfl c9 dX3_weigh_82 ?_
        refine lv_topi (fun y10 ey10 => ?_)
        have h := mlet_at ey10 h
        refine lv_if_le (tgt := 90) hx hb dX3_weigh_83 (by decide) (fun c11 => ?_) (fun c11 => ?_)
        · have h := mif_t c11 h
          exact w_weigh_90 hC hR N (f_weigh_56 N n) ih σ x1 x2 x3 x5 x4 h hP hS (lv_sub hl [0, 1, 2, 3, 5] rfl)
        · have h := mif_f c11 h
          refine lv_iconst (v := 1) hx hb dX3_weigh_86 (by decide) ?_
          refine lv_goto (tgt := 91) hx hb dX3_weigh_87 (by decide) ?_
          exact w_weigh_91 hC hR N (f_weigh_56 N n) ih σ x1 x2 x3 x5 1 x4 h hP hS (lv_sub hl [0, 1, 2, 3, 5] rfl)
def f_weigh_51 (N : Nat) (σ : MS) (x1 : Int32) (x2 : Int32) (x3 : Int32) (s0 : Int32) : Option (Int32 × MS) :=
    f_weigh_56 N N σ x1 x2 x3 s0 0
set_option maxHeartbeats 4000000 in
set_option maxRecDepth 100000 in
theorem w_weigh_51 {p : Program} {l : Launch} {e : Env} {R : Room} {s : State} {m : MethodId} {args : Array Value} {below : List Frame} {meth : Method} {c : Code} {E : mE} {σ' : MS} {r : Int32} (hC : mC p s m args meth c E cX3_weigh 6 (some .boolean)) (hR : 2 ≤ R.frames ∧ 43 ≤ R.locals) (N : Nat) (σ : MS) (x1 : Int32) (x2 : Int32) (x3 : Int32) (s0 : Int32) (h : f_weigh_51 N σ x1 x2 x3 s0 = some (r, σ')) {H : Heap} {locs : List Loc} (hP : mP E σ H) (hS : va_S (mA E s.heap.size) s.heap H locs) {ls : Array Slot} (hl : lv_has ls 6 [(0, .ref (mh E)), (1, .int x1), (2, .int x2), (3, .int x3)]) : W p l e R s m args below meth c H locs 0 0 (MQ below (mQi E s.heap.size r σ') args s 0 0 (mA E s.heap.size)) (F0 m 51 ls [.int s0]) := by
  obtain ⟨⟨hx, hb, hml, hown, hts⟩, hK, hD, hr, hlk⟩ := id hC
  unfold f_weigh_51 at h
  refine lv_istore (lv' := [(4, .int s0), (0, .ref (mh E)), (1, .int x1), (2, .int x2), (3, .int x3)]) hx hb dX3_weigh_51 hl (by decide) rfl (fun ls hl => ?_)
  refine lv_iconst (v := 0) hx hb dX3_weigh_53 (by decide) ?_
  refine lv_istore (lv' := [(5, .int 0), (4, .int s0), (0, .ref (mh E)), (1, .int x1), (2, .int x2), (3, .int x3)]) hx hb dX3_weigh_54 hl (by decide) rfl (fun ls hl => ?_)
  exact w_weigh_56 hC hR N N σ x1 x2 x3 s0 0 h _ _ hP hS _ (lv_sub hl [2, 3, 4, 5, 1, 0] rfl)
def f_weigh (N : Nat) (σ : MS) (x1 : Int32) (x2 : Int32) (x3 : Int32) : Option (Int32 × MS) :=
    mcallv (f_good N σ) fun σ1 =>
    mcall (f_isDoubt N σ1 x1) fun r5 σ3 =>
    if r5 = 0 then
    f_weigh_20 N σ3
    else
    mcall (f_isGround N σ3 x2) fun r9 σ7 =>
    if r9 = 0 then
    f_weigh_20 N σ7
    else
    mcall (f_within N σ7 x3 0 9) fun r13 σ11 =>
    if r13 = 0 then
    mcall (f_not N σ11 2) fun r18 σ16 =>
    if mBit r18 = true then
    some (r18, σ16)
    else none
    else
    if x3 ≤ 0 then
    f_weigh_51 N σ11 x1 x2 x3 0
    else
    f_weigh_51 N σ11 x1 x2 x3 1
set_option maxHeartbeats 4000000 in
set_option maxRecDepth 100000 in
theorem w_weigh_0 {p : Program} {l : Launch} {e : Env} {R : Room} {s : State} {m : MethodId} {args : Array Value} {below : List Frame} {meth : Method} {c : Code} {E : mE} {σ' : MS} {r : Int32} (hC : mC p s m args meth c E cX3_weigh 6 (some .boolean)) (hR : 2 ≤ R.frames ∧ 43 ≤ R.locals) (N : Nat) (σ : MS) (x1 : Int32) (x2 : Int32) (x3 : Int32) (h : f_weigh N σ x1 x2 x3 = some (r, σ')) {H : Heap} {locs : List Loc} (hP : mP E σ H) (hS : va_S (mA E s.heap.size) s.heap H locs) {ls : Array Slot} (hl : lv_has ls 6 [(0, .ref (mh E)), (1, .int x1), (2, .int x2), (3, .int x3)]) : W p l e R s m args below meth c H locs 0 0 (MQ below (mQi E s.heap.size r σ') args s 0 0 (mA E s.heap.size)) (F0 m 0 ls []) := by
  obtain ⟨⟨hx, hb, hml, hown, hts⟩, hK, hD, hr, hlk⟩ := id hC
  unfold f_weigh at h
  refine lv_aload_n hx hb dX3_weigh_0 rfl (lv_at hl 0 rfl) ?_
  obtain ⟨σ1, c2, h⟩ := mcallv_n h
  refine m_callv (As := []) (rest := []) hC (met_good l N E H.size σ σ1 c2) (cwV 0 hts (lw_V q2131 q2133 qs40 q103 q2134) rfl rfl rfl (by decide +kernel) ⟨Nat.le_trans (Nat.le_of_ble_eq_true rfl) hR.1, Nat.le_trans (Nat.le_of_ble_eq_true rfl) hR.2⟩) hP hS rfl hl.1 rfl (Nat.le_of_ble_eq_true rfl) dX3_weigh_1 (fun H locs hP hS => ?_)
  refine lv_aload_n hx hb dX3_weigh_4 rfl (lv_at hl 0 rfl) ?_
  refine lv_iload_n hx hb dX3_weigh_5 rfl (lv_at hl 1 rfl) ?_
  obtain ⟨r5, σ3, c4, h⟩ := mcall_n h
  refine m_calli (As := [.int x1]) (rest := []) hC (met_isDoubt l N E H.size σ1 x1 r5 σ3 c4) (cwV 1 hts (lw_V q2292 q2294 qs61 q103 q2295) rfl rfl rfl (by decide +kernel) ⟨Nat.le_trans (Nat.le_of_ble_eq_true rfl) hR.1, Nat.le_trans (Nat.le_of_ble_eq_true rfl) hR.2⟩) hP hS rfl hl.1 rfl (Nat.le_of_ble_eq_true rfl) dX3_weigh_6 (fun H locs hP hS => ?_)
  refine lv_if_eq (tgt := 20) hx hb dX3_weigh_9 (by decide) (fun c6 => ?_) (fun c6 => ?_)
  · have h := mif_t c6 h
    exact w_weigh_20 hC hR N σ3 h hP hS (lv_sub hl [0] rfl)
  · have h := mif_f c6 h
    refine lv_aload_n hx hb dX3_weigh_12 rfl (lv_at hl 0 rfl) ?_
    refine lv_iload_n hx hb dX3_weigh_13 rfl (lv_at hl 2 rfl) ?_
    obtain ⟨r9, σ7, c8, h⟩ := mcall_n h
    refine m_calli (As := [.int x2]) (rest := []) hC (met_isGround l N E H.size σ3 x2 r9 σ7 c8) (cwV 1 hts (lw_V q2246 q2248 qs58 q103 q2249) rfl rfl rfl (by decide +kernel) ⟨Nat.le_trans (Nat.le_of_ble_eq_true rfl) hR.1, Nat.le_trans (Nat.le_of_ble_eq_true rfl) hR.2⟩) hP hS rfl hl.1 rfl (Nat.le_of_ble_eq_true rfl) dX3_weigh_14 (fun H locs hP hS => ?_)
    refine lv_if_ne (tgt := 26) hx hb dX3_weigh_17 (by decide) (fun c10 => ?_) (fun c10 => ?_)
    · have h := mif_f c10 h
      refine lv_iload_n hx hb dX3_weigh_26 rfl (lv_at hl 3 rfl) ?_
      refine lv_iconst (v := 0) hx hb dX3_weigh_27 (by decide) ?_
      refine lv_bipush (v := 9) hx hb dX3_weigh_28 (by decide) ?_
      obtain ⟨r13, σ11, c12, h⟩ := mcall_n h
      refine m_callsi (As := [.int x3, .int 0, .int 9]) (rest := []) hC (met_within l N E H.size σ7 x3 0 9 r13 σ11 c12) (va_cwS 3 hts (lw_S q2135 q2136 q103 q2137) rfl rfl rfl (by decide +kernel) ⟨Nat.le_trans (Nat.le_of_ble_eq_true rfl) hR.1, Nat.le_trans (Nat.le_of_ble_eq_true rfl) hR.2⟩) hP hS rfl hl.1 rfl (Nat.le_of_ble_eq_true rfl) dX3_weigh_30 (fun H locs hP hS => ?_)
      refine lv_if_ne (tgt := 42) hx hb dX3_weigh_33 (by decide) (fun c14 => ?_) (fun c14 => ?_)
      · have h := mif_f c14 h
        refine lv_iload_n hx hb dX3_weigh_42 rfl (lv_at hl 3 rfl) ?_
        refine lv_if_le (tgt := 50) hx hb dX3_weigh_43 (by decide) (fun c15 => ?_) (fun c15 => ?_)
        · have h := mif_t c15 h
          refine lv_iconst (v := 0) hx hb dX3_weigh_50 (by decide) ?_
          exact w_weigh_51 hC hR N σ11 x1 x2 x3 0 h hP hS (lv_sub hl [0, 1, 2, 3] rfl)
        · have h := mif_f c15 h
          refine lv_iconst (v := 1) hx hb dX3_weigh_46 (by decide) ?_
          refine lv_goto (tgt := 51) hx hb dX3_weigh_47 (by decide) ?_
          exact w_weigh_51 hC hR N σ11 x1 x2 x3 1 h hP hS (lv_sub hl [0, 1, 2, 3] rfl)
      · have h := mif_t c14 h
        refine lv_aload_n hx hb dX3_weigh_36 rfl (lv_at hl 0 rfl) ?_
        refine lv_iconst (v := 2) hx hb dX3_weigh_37 (by decide) ?_
        obtain ⟨r18, σ16, c17, h⟩ := mcall_n h
        refine m_calli (As := [.int 2]) (rest := []) hC (met_not l N E H.size σ11 2 r18 σ16 c17) (cwV 1 hts (lw_V q2264 q2266 qs59 q103 q2267) rfl rfl rfl (by decide +kernel) ⟨Nat.le_trans (Nat.le_of_ble_eq_true rfl) hR.1, Nat.le_trans (Nat.le_of_ble_eq_true rfl) hR.2⟩) hP hS rfl hl.1 rfl (Nat.le_of_ble_eq_true rfl) dX3_weigh_38 (fun H locs hP hS => ?_)
        obtain ⟨c19, h⟩ := mif_n h
        cases h
        exact m_zret hC c19 hP hS dX3_weigh_41
    · have h := mif_t c10 h
      exact w_weigh_20 hC hR N σ7 h hP hS (lv_sub hl [0] rfl)
theorem met_weigh (l : Launch) (N : Nat) (E : mE) (sz : Nat) (σ : MS) (x1 : Int32) (x2 : Int32) (x3 : Int32) (r : Int32) (σ' : MS) (h : f_weigh N σ x1 x2 x3 = some (r, σ')) : Met l yX3_weigh (ws_ yX3_weigh cX3_weigh 6 (some .boolean)) ({ frames := 2, cells := 0, slots := 0, locals := 43 }) (mPc E sz σ [.ref (mh E), .int x1, .int x2, .int x3]) (mQi E sz r σ') 0 0 (mA E sz) :=
  m_met (Qc := fun z => mQi E z r σ') (by decide) rfl (Nat.le_of_ble_eq_true rfl) (fun hC ls hl hP => w_weigh_0 hC ⟨Nat.le_refl _, Nat.le_refl _⟩ N σ x1 x2 x3 h hP va_S.rf hl)
def f_told_20 (N : Nat) (σ : MS) : Option (Int32 × MS) :=
    mcall (f_not N σ 1) fun r3 σ1 =>
    if mBit r3 = true then
    some (r3, σ1)
    else none
set_option maxHeartbeats 4000000 in
set_option maxRecDepth 100000 in
theorem w_told_20 {p : Program} {l : Launch} {e : Env} {R : Room} {s : State} {m : MethodId} {args : Array Value} {below : List Frame} {meth : Method} {c : Code} {E : mE} {σ' : MS} {r : Int32} (hC : mC p s m args meth c E cX3_told 3 (some .boolean)) (hR : 2 ≤ R.frames ∧ 43 ≤ R.locals) (N : Nat) (σ : MS) (h : f_told_20 N σ = some (r, σ')) {H : Heap} {locs : List Loc} (hP : mP E σ H) (hS : va_S (mA E s.heap.size) s.heap H locs) {ls : Array Slot} (hl : lv_has ls 3 [(0, .ref (mh E))]) : W p l e R s m args below meth c H locs 0 0 (MQ below (mQi E s.heap.size r σ') args s 0 0 (mA E s.heap.size)) (F0 m 20 ls []) := by
  obtain ⟨⟨hx, hb, hml, hown, hts⟩, hK, hD, hr, hlk⟩ := id hC
  unfold f_told_20 at h
  refine lv_aload_n hx hb dX3_told_20 rfl (lv_at hl 0 rfl) ?_
  refine lv_iconst (v := 1) hx hb dX3_told_21 (by decide) ?_
  obtain ⟨r3, σ1, c2, h⟩ := mcall_n h
  refine m_calli (As := [.int 1]) (rest := []) hC (met_not l N E H.size σ 1 r3 σ1 c2) (cwV 1 hts (lw_V q2264 q2266 qs59 q103 q2267) rfl rfl rfl (by decide +kernel) ⟨Nat.le_trans (Nat.le_of_ble_eq_true rfl) hR.1, Nat.le_trans (Nat.le_of_ble_eq_true rfl) hR.2⟩) hP hS rfl hl.1 rfl (Nat.le_of_ble_eq_true rfl) dX3_told_22 (fun H locs hP hS => ?_)
  obtain ⟨c4, h⟩ := mif_n h
  cases h
  exact m_zret hC c4 hP hS dX3_told_25
def f_told (N : Nat) (σ : MS) (x1 : Int32) (x2 : Int32) : Option (Int32 × MS) :=
    mcallv (f_good N σ) fun σ1 =>
    mcall (f_isDoubt N σ1 x1) fun r5 σ3 =>
    if r5 = 0 then
    f_told_20 N σ3
    else
    mcall (f_isGround N σ3 x2) fun r9 σ7 =>
    if r9 = 0 then
    f_told_20 N σ7
    else
    if mIn ((8 * x1) + x2) (mLen 46) = true then mlet (σ7.2.1 46 ((8 * x1) + x2).toNatClampNeg) fun y12 =>
    if y12 = 0 then
    mcall (f_not N σ7 5) fun r19 σ17 =>
    if mBit r19 = true then
    some (r19, σ17)
    else none
    else
    if mIn x1 (mLen 45) = true then mlet (mArr σ7 45 x1.toNatClampNeg x2) fun σ15 =>
    mlet (mSet σ15 51 0) fun σ16 =>
    some (1, σ16)
    else none
    else none
set_option maxHeartbeats 4000000 in
set_option maxRecDepth 100000 in
theorem w_told_0 {p : Program} {l : Launch} {e : Env} {R : Room} {s : State} {m : MethodId} {args : Array Value} {below : List Frame} {meth : Method} {c : Code} {E : mE} {σ' : MS} {r : Int32} (hC : mC p s m args meth c E cX3_told 3 (some .boolean)) (hR : 2 ≤ R.frames ∧ 43 ≤ R.locals) (N : Nat) (σ : MS) (x1 : Int32) (x2 : Int32) (h : f_told N σ x1 x2 = some (r, σ')) {H : Heap} {locs : List Loc} (hP : mP E σ H) (hS : va_S (mA E s.heap.size) s.heap H locs) {ls : Array Slot} (hl : lv_has ls 3 [(0, .ref (mh E)), (1, .int x1), (2, .int x2)]) : W p l e R s m args below meth c H locs 0 0 (MQ below (mQi E s.heap.size r σ') args s 0 0 (mA E s.heap.size)) (F0 m 0 ls []) := by
  obtain ⟨⟨hx, hb, hml, hown, hts⟩, hK, hD, hr, hlk⟩ := id hC
  unfold f_told at h
  refine lv_aload_n hx hb dX3_told_0 rfl (lv_at hl 0 rfl) ?_
  obtain ⟨σ1, c2, h⟩ := mcallv_n h
  refine m_callv (As := []) (rest := []) hC (met_good l N E H.size σ σ1 c2) (cwV 0 hts (lw_V q2131 q2133 qs40 q103 q2134) rfl rfl rfl (by decide +kernel) ⟨Nat.le_trans (Nat.le_of_ble_eq_true rfl) hR.1, Nat.le_trans (Nat.le_of_ble_eq_true rfl) hR.2⟩) hP hS rfl hl.1 rfl (Nat.le_of_ble_eq_true rfl) dX3_told_1 (fun H locs hP hS => ?_)
  refine lv_aload_n hx hb dX3_told_4 rfl (lv_at hl 0 rfl) ?_
  refine lv_iload_n hx hb dX3_told_5 rfl (lv_at hl 1 rfl) ?_
  obtain ⟨r5, σ3, c4, h⟩ := mcall_n h
  refine m_calli (As := [.int x1]) (rest := []) hC (met_isDoubt l N E H.size σ1 x1 r5 σ3 c4) (cwV 1 hts (lw_V q2292 q2294 qs61 q103 q2295) rfl rfl rfl (by decide +kernel) ⟨Nat.le_trans (Nat.le_of_ble_eq_true rfl) hR.1, Nat.le_trans (Nat.le_of_ble_eq_true rfl) hR.2⟩) hP hS rfl hl.1 rfl (Nat.le_of_ble_eq_true rfl) dX3_told_6 (fun H locs hP hS => ?_)
  refine lv_if_eq (tgt := 20) hx hb dX3_told_9 (by decide) (fun c6 => ?_) (fun c6 => ?_)
  · have h := mif_t c6 h
    exact w_told_20 hC hR N σ3 h hP hS (lv_sub hl [0] rfl)
  · have h := mif_f c6 h
    refine lv_aload_n hx hb dX3_told_12 rfl (lv_at hl 0 rfl) ?_
    refine lv_iload_n hx hb dX3_told_13 rfl (lv_at hl 2 rfl) ?_
    obtain ⟨r9, σ7, c8, h⟩ := mcall_n h
    refine m_calli (As := [.int x2]) (rest := []) hC (met_isGround l N E H.size σ3 x2 r9 σ7 c8) (cwV 1 hts (lw_V q2246 q2248 qs58 q103 q2249) rfl rfl rfl (by decide +kernel) ⟨Nat.le_trans (Nat.le_of_ble_eq_true rfl) hR.1, Nat.le_trans (Nat.le_of_ble_eq_true rfl) hR.2⟩) hP hS rfl hl.1 rfl (Nat.le_of_ble_eq_true rfl) dX3_told_14 (fun H locs hP hS => ?_)
    refine lv_if_ne (tgt := 26) hx hb dX3_told_17 (by decide) (fun c10 => ?_) (fun c10 => ?_)
    · have h := mif_f c10 h
      refine lv_aload_n hx hb dX3_told_26 rfl (lv_at hl 0 rfl) ?_
      refine m_geta hC hP 46 (by decide) rfl q1939 dX3_told_27 ?_
      refine lv_bipush (v := 8) hx hb dX3_told_30 (by decide) ?_
      refine lv_iload_n hx hb dX3_told_32 rfl (lv_at hl 1 rfl) ?_
      refine lv_imul hx hb dX3_told_33 ?_
      refine lv_iload_n hx hb dX3_told_34 rfl (lv_at hl 2 rfl) ?_
      refine lv_iadd hx hb dX3_told_35 ?_
      obtain ⟨c11, h⟩ := mif_n h
      refine m_ald hC hP 46 rfl c11 dX3_told_36 ?_
      refine lv_topi (fun y12 ey12 => ?_)
      have h := mlet_at ey12 h
      refine lv_if_ne (tgt := 46) hx hb dX3_told_37 (by decide) (fun c13 => ?_) (fun c13 => ?_)
      · have h := mif_f c13 h
        refine lv_aload_n hx hb dX3_told_46 rfl (lv_at hl 0 rfl) ?_
        refine m_geta hC hP 45 (by decide) rfl q1938 dX3_told_47 ?_
        refine lv_iload_n hx hb dX3_told_50 rfl (lv_at hl 1 rfl) ?_
        refine lv_iload_n hx hb dX3_told_51 rfl (lv_at hl 2 rfl) ?_
        obtain ⟨c14, h⟩ := mif_n h
        refine m_ast hC hP hS 45 rfl c14 dX3_told_52 (fun H locs hP hS => ?_)
        obtain ⟨σ15, eσ15⟩ : ∃ z : MS, z = mArr σ7 45 x1.toNatClampNeg x2 := ⟨_, rfl⟩
        rw [← eσ15] at hP
        have h := mlet_at eσ15 h
        refine lv_aload_n hx hb dX3_told_53 rfl (lv_at hl 0 rfl) ?_
        refine lv_iconst (v := 0) hx hb dX3_told_54 (by decide) ?_
        refine m_put hC hP hS 51 (by decide) rfl q1944 rfl (ty := .boolean) (tyX3_ok 51 (by decide)) (mBit_n rfl) dX3_told_55 (fun H locs hP hS => ?_)
        obtain ⟨σ16, eσ16⟩ : ∃ z : MS, z = mSet σ15 51 0 := ⟨_, rfl⟩
        rw [← eσ16] at hP
        have h := mlet_at eσ16 h
        refine lv_iconst (v := 1) hx hb dX3_told_58 (by decide) ?_
        cases h
        exact m_zret hC rfl hP hS dX3_told_59
      · have h := mif_t c13 h
        refine lv_aload_n hx hb dX3_told_40 rfl (lv_at hl 0 rfl) ?_
        refine lv_iconst (v := 5) hx hb dX3_told_41 (by decide) ?_
        obtain ⟨r19, σ17, c18, h⟩ := mcall_n h
        refine m_calli (As := [.int 5]) (rest := []) hC (met_not l N E H.size σ7 5 r19 σ17 c18) (cwV 1 hts (lw_V q2264 q2266 qs59 q103 q2267) rfl rfl rfl (by decide +kernel) ⟨Nat.le_trans (Nat.le_of_ble_eq_true rfl) hR.1, Nat.le_trans (Nat.le_of_ble_eq_true rfl) hR.2⟩) hP hS rfl hl.1 rfl (Nat.le_of_ble_eq_true rfl) dX3_told_42 (fun H locs hP hS => ?_)
        obtain ⟨c20, h⟩ := mif_n h
        cases h
        exact m_zret hC c20 hP hS dX3_told_45
    · have h := mif_t c10 h
      exact w_told_20 hC hR N σ7 h hP hS (lv_sub hl [0] rfl)
theorem met_told (l : Launch) (N : Nat) (E : mE) (sz : Nat) (σ : MS) (x1 : Int32) (x2 : Int32) (r : Int32) (σ' : MS) (h : f_told N σ x1 x2 = some (r, σ')) : Met l yX3_told (ws_ yX3_told cX3_told 3 (some .boolean)) ({ frames := 2, cells := 0, slots := 0, locals := 43 }) (mPc E sz σ [.ref (mh E), .int x1, .int x2]) (mQi E sz r σ') 0 0 (mA E sz) :=
  m_met (Qc := fun z => mQi E z r σ') (by decide) rfl (Nat.le_of_ble_eq_true rfl) (fun hC ls hl hP => w_told_0 hC ⟨Nat.le_refl _, Nat.le_refl _⟩ N σ x1 x2 h hP va_S.rf hl)
def f_forget (N : Nat) (σ : MS) (x1 : Int32) : Option (Int32 × MS) :=
    mcallv (f_good N σ) fun σ1 =>
    mcall (f_isDoubt N σ1 x1) fun r5 σ3 =>
    if r5 = 0 then
    mcall (f_not N σ3 1) fun r19 σ17 =>
    if mBit r19 = true then
    some (r19, σ17)
    else none
    else
    if mIn x1 (mLen 45) = true then mlet (σ3.2.1 45 x1.toNatClampNeg) fun y8 =>
    if y8 = (-1) then
    mcall (f_not N σ3 5) fun r15 σ13 =>
    if mBit r15 = true then
    some (r15, σ13)
    else none
    else
    if mIn x1 (mLen 45) = true then mlet (mArr σ3 45 x1.toNatClampNeg (-1)) fun σ11 =>
    mlet (mSet σ11 51 0) fun σ12 =>
    some (1, σ12)
    else none
    else none
set_option maxHeartbeats 4000000 in
set_option maxRecDepth 100000 in
theorem w_forget_0 {p : Program} {l : Launch} {e : Env} {R : Room} {s : State} {m : MethodId} {args : Array Value} {below : List Frame} {meth : Method} {c : Code} {E : mE} {σ' : MS} {r : Int32} (hC : mC p s m args meth c E cX3_forget 2 (some .boolean)) (hR : 2 ≤ R.frames ∧ 43 ≤ R.locals) (N : Nat) (σ : MS) (x1 : Int32) (h : f_forget N σ x1 = some (r, σ')) {H : Heap} {locs : List Loc} (hP : mP E σ H) (hS : va_S (mA E s.heap.size) s.heap H locs) {ls : Array Slot} (hl : lv_has ls 2 [(0, .ref (mh E)), (1, .int x1)]) : W p l e R s m args below meth c H locs 0 0 (MQ below (mQi E s.heap.size r σ') args s 0 0 (mA E s.heap.size)) (F0 m 0 ls []) := by
  obtain ⟨⟨hx, hb, hml, hown, hts⟩, hK, hD, hr, hlk⟩ := id hC
  unfold f_forget at h
  refine lv_aload_n hx hb dX3_forget_0 rfl (lv_at hl 0 rfl) ?_
  obtain ⟨σ1, c2, h⟩ := mcallv_n h
  refine m_callv (As := []) (rest := []) hC (met_good l N E H.size σ σ1 c2) (cwV 0 hts (lw_V q2131 q2133 qs40 q103 q2134) rfl rfl rfl (by decide +kernel) ⟨Nat.le_trans (Nat.le_of_ble_eq_true rfl) hR.1, Nat.le_trans (Nat.le_of_ble_eq_true rfl) hR.2⟩) hP hS rfl hl.1 rfl (Nat.le_of_ble_eq_true rfl) dX3_forget_1 (fun H locs hP hS => ?_)
  refine lv_aload_n hx hb dX3_forget_4 rfl (lv_at hl 0 rfl) ?_
  refine lv_iload_n hx hb dX3_forget_5 rfl (lv_at hl 1 rfl) ?_
  obtain ⟨r5, σ3, c4, h⟩ := mcall_n h
  refine m_calli (As := [.int x1]) (rest := []) hC (met_isDoubt l N E H.size σ1 x1 r5 σ3 c4) (cwV 1 hts (lw_V q2292 q2294 qs61 q103 q2295) rfl rfl rfl (by decide +kernel) ⟨Nat.le_trans (Nat.le_of_ble_eq_true rfl) hR.1, Nat.le_trans (Nat.le_of_ble_eq_true rfl) hR.2⟩) hP hS rfl hl.1 rfl (Nat.le_of_ble_eq_true rfl) dX3_forget_6 (fun H locs hP hS => ?_)
  refine lv_if_ne (tgt := 18) hx hb dX3_forget_9 (by decide) (fun c6 => ?_) (fun c6 => ?_)
  · have h := mif_f c6 h
    refine lv_aload_n hx hb dX3_forget_18 rfl (lv_at hl 0 rfl) ?_
    refine m_geta hC hP 45 (by decide) rfl q1938 dX3_forget_19 ?_
    refine lv_iload_n hx hb dX3_forget_22 rfl (lv_at hl 1 rfl) ?_
    obtain ⟨c7, h⟩ := mif_n h
    refine m_ald hC hP 45 rfl c7 dX3_forget_23 ?_
    refine lv_topi (fun y8 ey8 => ?_)
    have h := mlet_at ey8 h
    refine lv_iconst (v := (-1)) hx hb dX3_forget_24 (by decide) ?_
    refine lv_icmp_ne (tgt := 34) hx hb dX3_forget_25 (by decide) (fun c9 => ?_) (fun c9 => ?_)
    · have h := mif_f c9 h
      refine lv_aload_n hx hb dX3_forget_34 rfl (lv_at hl 0 rfl) ?_
      refine m_geta hC hP 45 (by decide) rfl q1938 dX3_forget_35 ?_
      refine lv_iload_n hx hb dX3_forget_38 rfl (lv_at hl 1 rfl) ?_
      refine lv_iconst (v := (-1)) hx hb dX3_forget_39 (by decide) ?_
      obtain ⟨c10, h⟩ := mif_n h
      refine m_ast hC hP hS 45 rfl c10 dX3_forget_40 (fun H locs hP hS => ?_)
      obtain ⟨σ11, eσ11⟩ : ∃ z : MS, z = mArr σ3 45 x1.toNatClampNeg (-1) := ⟨_, rfl⟩
      rw [← eσ11] at hP
      have h := mlet_at eσ11 h
      refine lv_aload_n hx hb dX3_forget_41 rfl (lv_at hl 0 rfl) ?_
      refine lv_iconst (v := 0) hx hb dX3_forget_42 (by decide) ?_
      refine m_put hC hP hS 51 (by decide) rfl q1944 rfl (ty := .boolean) (tyX3_ok 51 (by decide)) (mBit_n rfl) dX3_forget_43 (fun H locs hP hS => ?_)
      obtain ⟨σ12, eσ12⟩ : ∃ z : MS, z = mSet σ11 51 0 := ⟨_, rfl⟩
      rw [← eσ12] at hP
      have h := mlet_at eσ12 h
      refine lv_iconst (v := 1) hx hb dX3_forget_46 (by decide) ?_
      cases h
      exact m_zret hC rfl hP hS dX3_forget_47
    · have h := mif_t c9 h
      refine lv_aload_n hx hb dX3_forget_28 rfl (lv_at hl 0 rfl) ?_
      refine lv_iconst (v := 5) hx hb dX3_forget_29 (by decide) ?_
      obtain ⟨r15, σ13, c14, h⟩ := mcall_n h
      refine m_calli (As := [.int 5]) (rest := []) hC (met_not l N E H.size σ3 5 r15 σ13 c14) (cwV 1 hts (lw_V q2264 q2266 qs59 q103 q2267) rfl rfl rfl (by decide +kernel) ⟨Nat.le_trans (Nat.le_of_ble_eq_true rfl) hR.1, Nat.le_trans (Nat.le_of_ble_eq_true rfl) hR.2⟩) hP hS rfl hl.1 rfl (Nat.le_of_ble_eq_true rfl) dX3_forget_30 (fun H locs hP hS => ?_)
      obtain ⟨c16, h⟩ := mif_n h
      cases h
      exact m_zret hC c16 hP hS dX3_forget_33
  · have h := mif_t c6 h
    refine lv_aload_n hx hb dX3_forget_12 rfl (lv_at hl 0 rfl) ?_
    refine lv_iconst (v := 1) hx hb dX3_forget_13 (by decide) ?_
    obtain ⟨r19, σ17, c18, h⟩ := mcall_n h
    refine m_calli (As := [.int 1]) (rest := []) hC (met_not l N E H.size σ3 1 r19 σ17 c18) (cwV 1 hts (lw_V q2264 q2266 qs59 q103 q2267) rfl rfl rfl (by decide +kernel) ⟨Nat.le_trans (Nat.le_of_ble_eq_true rfl) hR.1, Nat.le_trans (Nat.le_of_ble_eq_true rfl) hR.2⟩) hP hS rfl hl.1 rfl (Nat.le_of_ble_eq_true rfl) dX3_forget_14 (fun H locs hP hS => ?_)
    obtain ⟨c20, h⟩ := mif_n h
    cases h
    exact m_zret hC c20 hP hS dX3_forget_17
theorem met_forget (l : Launch) (N : Nat) (E : mE) (sz : Nat) (σ : MS) (x1 : Int32) (r : Int32) (σ' : MS) (h : f_forget N σ x1 = some (r, σ')) : Met l yX3_forget (ws_ yX3_forget cX3_forget 2 (some .boolean)) ({ frames := 2, cells := 0, slots := 0, locals := 43 }) (mPc E sz σ [.ref (mh E), .int x1]) (mQi E sz r σ') 0 0 (mA E sz) :=
  m_met (Qc := fun z => mQi E z r σ') (by decide) rfl (Nat.le_of_ble_eq_true rfl) (fun hC ls hl hP => w_forget_0 hC ⟨Nat.le_refl _, Nat.le_refl _⟩ N σ x1 h hP va_S.rf hl)
def f_of_94 (N : Nat) (σ : MS) (s0 : Int32) : Option (Int32 × MS) :=
    some (s0, σ)
set_option maxHeartbeats 4000000 in
set_option maxRecDepth 100000 in
theorem w_of_94 {p : Program} {l : Launch} {e : Env} {R : Room} {s : State} {m : MethodId} {args : Array Value} {below : List Frame} {meth : Method} {c : Code} {E : mE} {σ' : MS} {r : Int32} (hC : mC p s m args meth c E cX3_of 4 (some .int)) (hR : 2 ≤ R.frames ∧ 43 ≤ R.locals) (N : Nat) (σ : MS) (s0 : Int32) (h : f_of_94 N σ s0 = some (r, σ')) {H : Heap} {locs : List Loc} (hP : mP E σ H) (hS : va_S (mA E s.heap.size) s.heap H locs) {ls : Array Slot} (hl : lv_has ls 4 []) : W p l e R s m args below meth c H locs 0 0 (MQ below (mQi E s.heap.size r σ') args s 0 0 (mA E s.heap.size)) (F0 m 94 ls [.int s0]) := by
  obtain ⟨⟨hx, hb, hml, hown, hts⟩, hK, hD, hr, hlk⟩ := id hC
  unfold f_of_94 at h
  cases h
  exact m_iret hC hP hS dX3_of_94
def f_of_73 (N : Nat) (σ : MS) (s0 : Int32) : Option (Int32 × MS) :=
    some (s0, σ)
set_option maxHeartbeats 4000000 in
set_option maxRecDepth 100000 in
theorem w_of_73 {p : Program} {l : Launch} {e : Env} {R : Room} {s : State} {m : MethodId} {args : Array Value} {below : List Frame} {meth : Method} {c : Code} {E : mE} {σ' : MS} {r : Int32} (hC : mC p s m args meth c E cX3_of 4 (some .int)) (hR : 2 ≤ R.frames ∧ 43 ≤ R.locals) (N : Nat) (σ : MS) (s0 : Int32) (h : f_of_73 N σ s0 = some (r, σ')) {H : Heap} {locs : List Loc} (hP : mP E σ H) (hS : va_S (mA E s.heap.size) s.heap H locs) {ls : Array Slot} (hl : lv_has ls 4 []) : W p l e R s m args below meth c H locs 0 0 (MQ below (mQi E s.heap.size r σ') args s 0 0 (mA E s.heap.size)) (F0 m 73 ls [.int s0]) := by
  obtain ⟨⟨hx, hb, hml, hown, hts⟩, hK, hD, hr, hlk⟩ := id hC
  unfold f_of_73 at h
  cases h
  exact m_iret hC hP hS dX3_of_73
def f_of (N : Nat) (σ : MS) (x1 : Int32) (x2 : Int32) : Option (Int32 × MS) :=
    mlet (mSet σ 0 0) fun σ1 =>
    mcall (f_isCell N σ1 x1) fun r4 σ2 =>
    if r4 = 0 then
    some ((-1), σ2)
    else
    if mIn x1 (mLen 43) = true then mlet (σ2.2.1 43 x1.toNatClampNeg) fun y7 =>
    if x2 = 0 then
    if mIn x1 (mLen 41) = true then mlet (σ2.2.1 41 x1.toNatClampNeg) fun y21 =>
    some (y21, σ2)
    else none
    else
    if x2 = 1 then
    if y7 = (-1) then
    if mIn x1 (mLen 42) = true then mlet (σ2.2.1 42 x1.toNatClampNeg) fun y19 =>
    f_of_73 N σ2 y19
    else none
    else
    if mIn y7 (mLen 45) = true then mlet (σ2.2.1 45 y7.toNatClampNeg) fun y14 =>
    if y14 = (-1) then
    f_of_73 N σ2 (-2)
    else
    if mIn y7 (mLen 45) = true then mlet (σ2.2.1 45 y7.toNatClampNeg) fun y17 =>
    f_of_73 N σ2 y17
    else none
    else none
    else
    if x2 = 2 then
    if y7 = (-1) then
    f_of_94 N σ2 (-2)
    else
    f_of_94 N σ2 y7
    else
    f_of_94 N σ2 (-1)
    else none
set_option maxHeartbeats 4000000 in
set_option maxRecDepth 100000 in
theorem w_of_0 {p : Program} {l : Launch} {e : Env} {R : Room} {s : State} {m : MethodId} {args : Array Value} {below : List Frame} {meth : Method} {c : Code} {E : mE} {σ' : MS} {r : Int32} (hC : mC p s m args meth c E cX3_of 4 (some .int)) (hR : 2 ≤ R.frames ∧ 43 ≤ R.locals) (N : Nat) (σ : MS) (x1 : Int32) (x2 : Int32) (h : f_of N σ x1 x2 = some (r, σ')) {H : Heap} {locs : List Loc} (hP : mP E σ H) (hS : va_S (mA E s.heap.size) s.heap H locs) {ls : Array Slot} (hl : lv_has ls 4 [(0, .ref (mh E)), (1, .int x1), (2, .int x2)]) : W p l e R s m args below meth c H locs 0 0 (MQ below (mQi E s.heap.size r σ') args s 0 0 (mA E s.heap.size)) (F0 m 0 ls []) := by
  obtain ⟨⟨hx, hb, hml, hown, hts⟩, hK, hD, hr, hlk⟩ := id hC
  unfold f_of at h
  refine lv_aload_n hx hb dX3_of_0 rfl (lv_at hl 0 rfl) ?_
  refine lv_iconst (v := 0) hx hb dX3_of_1 (by decide) ?_
  refine m_put hC hP hS 0 (by decide) rfl q1893 rfl (ty := .int) (tyX3_ok 0 (by decide)) ⟨rfl, rfl⟩ dX3_of_2 (fun H locs hP hS => ?_)
  obtain ⟨σ1, eσ1⟩ : ∃ z : MS, z = mSet σ 0 0 := ⟨_, rfl⟩
  rw [← eσ1] at hP
  have h := mlet_at eσ1 h
  refine lv_aload_n hx hb dX3_of_5 rfl (lv_at hl 0 rfl) ?_
  refine lv_iload_n hx hb dX3_of_6 rfl (lv_at hl 1 rfl) ?_
  obtain ⟨r4, σ2, c3, h⟩ := mcall_n h
  refine m_calli (As := [.int x1]) (rest := []) hC (met_isCell l N E H.size σ1 x1 r4 σ2 c3) (cwV 1 hts (lw_V q2276 q2278 qs60 q103 q2279) rfl rfl rfl (by decide +kernel) ⟨Nat.le_trans (Nat.le_of_ble_eq_true rfl) hR.1, Nat.le_trans (Nat.le_of_ble_eq_true rfl) hR.2⟩) hP hS rfl hl.1 rfl (Nat.le_of_ble_eq_true rfl) dX3_of_7 (fun H locs hP hS => ?_)
  refine lv_if_ne (tgt := 15) hx hb dX3_of_10 (by decide) (fun c5 => ?_) (fun c5 => ?_)
  · have h := mif_f c5 h
    refine lv_aload_n hx hb dX3_of_15 rfl (lv_at hl 0 rfl) ?_
    refine m_geta hC hP 43 (by decide) rfl q1936 dX3_of_16 ?_
    refine lv_iload_n hx hb dX3_of_19 rfl (lv_at hl 1 rfl) ?_
    obtain ⟨c6, h⟩ := mif_n h
    refine m_ald hC hP 43 rfl c6 dX3_of_20 ?_
    refine lv_topi (fun y7 ey7 => ?_)
    have h := mlet_at ey7 h
    refine lv_istore_n (lv' := [(3, .int y7), (0, .ref (mh E)), (1, .int x1), (2, .int x2)]) hx hb dX3_of_21 rfl hl (by decide) rfl (fun ls hl => ?_)
    refine lv_iload_n hx hb dX3_of_22 rfl (lv_at hl 3 rfl) ?_
    refine lv_if_ne (tgt := 33) hx hb dX3_of_23 (by decide) (fun c8 => ?_) (fun c8 => ?_)
    · have h := mif_f c8 h
      refine lv_iload_n hx hb dX3_of_33 rfl (lv_at hl 3 rfl) ?_
      refine lv_iconst (v := 1) hx hb dX3_of_34 (by decide) ?_
      refine lv_icmp_ne (tgt := 74) hx hb dX3_of_35 (by decide) (fun c9 => ?_) (fun c9 => ?_)
      · have h := mif_f c9 h
        refine lv_iload_n hx hb dX3_of_74 rfl (lv_at hl 3 rfl) ?_
        refine lv_iconst (v := 2) hx hb dX3_of_75 (by decide) ?_
        refine lv_icmp_ne (tgt := 93) hx hb dX3_of_76 (by decide) (fun c10 => ?_) (fun c10 => ?_)
        · have h := mif_f c10 h
          refine lv_iconst (v := (-1)) hx hb dX3_of_93 (by decide) ?_
          exact w_of_94 hC hR N σ2 (-1) h hP hS (lv_sub hl [] rfl)
        · have h := mif_t c10 h
          refine lv_iload_n hx hb dX3_of_79 rfl (lv_at hl 0 rfl) ?_
          refine lv_iconst (v := (-1)) hx hb dX3_of_80 (by decide) ?_
          refine lv_icmp_ne (tgt := 89) hx hb dX3_of_81 (by decide) (fun c11 => ?_) (fun c11 => ?_)
          · have h := mif_f c11 h
            refine lv_iload_n hx hb dX3_of_89 rfl (lv_at hl 0 rfl) ?_
            refine lv_goto (tgt := 94) hx hb dX3_of_90 (by decide) ?_
            exact w_of_94 hC hR N σ2 y7 h hP hS (lv_sub hl [] rfl)
          · have h := mif_t c11 h
            refine lv_bipush (v := (-2)) hx hb dX3_of_84 (by decide) ?_
            refine lv_goto (tgt := 94) hx hb dX3_of_86 (by decide) ?_
            exact w_of_94 hC hR N σ2 (-2) h hP hS (lv_sub hl [] rfl)
      · have h := mif_t c9 h
        refine lv_iload_n hx hb dX3_of_38 rfl (lv_at hl 0 rfl) ?_
        refine lv_iconst (v := (-1)) hx hb dX3_of_39 (by decide) ?_
        refine lv_icmp_ne (tgt := 52) hx hb dX3_of_40 (by decide) (fun c12 => ?_) (fun c12 => ?_)
        · have h := mif_f c12 h
          refine lv_aload_n hx hb dX3_of_52 rfl (lv_at hl 1 rfl) ?_
          refine m_geta hC hP 45 (by decide) rfl q1938 dX3_of_53 ?_
          refine lv_iload_n hx hb dX3_of_56 rfl (lv_at hl 0 rfl) ?_
          obtain ⟨c13, h⟩ := mif_n h
          refine m_ald hC hP 45 rfl c13 dX3_of_57 ?_
          refine lv_topi (fun y14 ey14 => ?_)
          have h := mlet_at ey14 h
          refine lv_iconst (v := (-1)) hx hb dX3_of_58 (by decide) ?_
          refine lv_icmp_ne (tgt := 67) hx hb dX3_of_59 (by decide) (fun c15 => ?_) (fun c15 => ?_)
          · have h := mif_f c15 h
            refine lv_aload_n hx hb dX3_of_67 rfl (lv_at hl 1 rfl) ?_
            refine m_geta hC hP 45 (by decide) rfl q1938 dX3_of_68 ?_
            refine lv_iload_n hx hb dX3_of_71 rfl (lv_at hl 0 rfl) ?_
            obtain ⟨c16, h⟩ := mif_n h
            refine m_ald hC hP 45 rfl c16 dX3_of_72 ?_
            refine lv_topi (fun y17 ey17 => ?_)
            have h := mlet_at ey17 h
            exact w_of_73 hC hR N σ2 y17 h hP hS (lv_sub hl [] rfl)
          · have h := mif_t c15 h
            refine lv_bipush (v := (-2)) hx hb dX3_of_62 (by decide) ?_
            refine lv_goto (tgt := 73) hx hb dX3_of_64 (by decide) ?_
            exact w_of_73 hC hR N σ2 (-2) h hP hS (lv_sub hl [] rfl)
        · have h := mif_t c12 h
          refine lv_aload_n hx hb dX3_of_43 rfl (lv_at hl 1 rfl) ?_
          refine m_geta hC hP 42 (by decide) rfl q1935 dX3_of_44 ?_
          refine lv_iload_n hx hb dX3_of_47 rfl (lv_at hl 2 rfl) ?_
          obtain ⟨c18, h⟩ := mif_n h
          refine m_ald hC hP 42 rfl c18 dX3_of_48 ?_
          refine lv_topi (fun y19 ey19 => ?_)
          have h := mlet_at ey19 h
          refine lv_goto (tgt := 73) hx hb dX3_of_49 (by decide) ?_
          exact w_of_73 hC hR N σ2 y19 h hP hS (lv_sub hl [] rfl)
    · have h := mif_t c8 h
      refine lv_aload_n hx hb dX3_of_26 rfl (lv_at hl 1 rfl) ?_
      refine m_geta hC hP 41 (by decide) rfl q1934 dX3_of_27 ?_
      refine lv_iload_n hx hb dX3_of_30 rfl (lv_at hl 2 rfl) ?_
      obtain ⟨c20, h⟩ := mif_n h
      refine m_ald hC hP 41 rfl c20 dX3_of_31 ?_
      refine lv_topi (fun y21 ey21 => ?_)
      have h := mlet_at ey21 h
      cases h
      exact m_iret hC hP hS dX3_of_32
  · have h := mif_t c5 h
    refine lv_iconst (v := (-1)) hx hb dX3_of_13 (by decide) ?_
    cases h
    exact m_iret hC hP hS dX3_of_14
theorem met_of (l : Launch) (N : Nat) (E : mE) (sz : Nat) (σ : MS) (x1 : Int32) (x2 : Int32) (r : Int32) (σ' : MS) (h : f_of N σ x1 x2 = some (r, σ')) : Met l yX3_of (ws_ yX3_of cX3_of 4 (some .int)) ({ frames := 2, cells := 0, slots := 0, locals := 43 }) (mPc E sz σ [.ref (mh E), .int x1, .int x2]) (mQi E sz r σ') 0 0 (mA E sz) :=
  m_met (Qc := fun z => mQi E z r σ') (by decide) rfl (Nat.le_of_ble_eq_true rfl) (fun hC ls hl hP => w_of_0 hC ⟨Nat.le_refl _, Nat.le_refl _⟩ N σ x1 x2 h hP va_S.rf hl)

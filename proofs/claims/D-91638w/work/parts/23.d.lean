/-! BY gen_model.py: need slip barred cost step lists isNear prepares digit canBe floorOf lays news power weightOf -/
def f_need_62 (N : Nat) (σ : MS) (s0 : Int32) : Option (Int32 × MS) :=
    some (s0, σ)
set_option maxHeartbeats 4000000 in
set_option maxRecDepth 100000 in
theorem w_need_62 {p : Program} {l : Launch} {e : Env} {R : Room} {s : State} {m : MethodId} {args : Array Value} {below : List Frame} {meth : Method} {c : Code} {E : mE} {σ' : MS} {r : Int32} (hC : mC p s m args meth c E cX3_need 5 (some .int)) (hR : 2 ≤ R.frames ∧ 51 ≤ R.locals) (N : Nat) (σ : MS) (s0 : Int32) (h : f_need_62 N σ s0 = some (r, σ')) {H : Heap} {locs : List Loc} (hP : mP E σ H) (hS : va_S (mA E s.heap.size) s.heap H locs) {ls : Array Slot} (hl : lv_has ls 5 []) : W p l e R s m args below meth c H locs 0 0 (MQ below (mQi E s.heap.size r σ') args s 0 0 (mA E s.heap.size)) (F0 m 62 ls [.int s0]) := by
  obtain ⟨⟨hx, hb, hml, hown, hts⟩, hK, hD, hr, hlk⟩ := id hC
  unfold f_need_62 at h
  cases h
  exact m_iret hC hP hS dX3_need_62
def f_need (N : Nat) (σ : MS) (x1 : Int32) (x2 : Int32) : Option (Int32 × MS) :=
    if ¬ (σ.1 24) = 0 then
    mlet ((σ.1 25) / (σ.1 24)) fun y2 =>
    if mIn x2 (mLen 18) = true then mlet (σ.2.1 18 x2.toNatClampNeg) fun y4 =>
    mcall (f_between N 20 σ x2 y4 y2) fun r7 σ5 =>
    mcall (f_down N σ5 ((σ.1 25) * (x1 + r7)) 10) fun r10 σ8 =>
    mlet (r10 + (((σ8.1 38) * y2) * (σ8.1 28))) fun y11 =>
    if 0 ≤ y11 then
    f_need_62 N σ8 y11
    else
    f_need_62 N σ8 0
    else none
    else none
set_option maxHeartbeats 4000000 in
set_option maxRecDepth 100000 in
theorem w_need_0 {p : Program} {l : Launch} {e : Env} {R : Room} {s : State} {m : MethodId} {args : Array Value} {below : List Frame} {meth : Method} {c : Code} {E : mE} {σ' : MS} {r : Int32} (hC : mC p s m args meth c E cX3_need 5 (some .int)) (hR : 2 ≤ R.frames ∧ 51 ≤ R.locals) (N : Nat) (σ : MS) (x1 : Int32) (x2 : Int32) (h : f_need N σ x1 x2 = some (r, σ')) {H : Heap} {locs : List Loc} (hP : mP E σ H) (hS : va_S (mA E s.heap.size) s.heap H locs) {ls : Array Slot} (hl : lv_has ls 5 [(0, .ref (mh E)), (1, .int x1), (2, .int x2)]) : W p l e R s m args below meth c H locs 0 0 (MQ below (mQi E s.heap.size r σ') args s 0 0 (mA E s.heap.size)) (F0 m 0 ls []) := by
  obtain ⟨⟨hx, hb, hml, hown, hts⟩, hK, hD, hr, hlk⟩ := id hC
  unfold f_need at h
  refine lv_aload_n hx hb dX3_need_0 rfl (lv_at hl 0 rfl) ?_
  refine m_geti hC hP 25 (by decide) rfl q1918 dX3_need_1 ?_
  refine lv_aload_n hx hb dX3_need_4 rfl (lv_at hl 0 rfl) ?_
  refine m_geti hC hP 24 (by decide) rfl q1917 dX3_need_5 ?_
  obtain ⟨c1, h⟩ := mif_n h
  refine lv_idiv hx hb dX3_need_8 c1 ?_
  refine lv_topi (fun y2 ey2 => ?_)
  have h := mlet_at ey2 h
  refine lv_istore_n (lv' := [(3, .int y2), (0, .ref (mh E)), (1, .int x1), (2, .int x2)]) hx hb dX3_need_9 rfl hl (by decide) rfl (fun ls hl => ?_)
  refine lv_aload_n hx hb dX3_need_10 rfl (lv_at hl 1 rfl) ?_
  refine m_geti hC hP 25 (by decide) rfl q1918 dX3_need_11 ?_
  refine lv_iload_n hx hb dX3_need_14 rfl (lv_at hl 2 rfl) ?_
  refine lv_aload_n hx hb dX3_need_15 rfl (lv_at hl 1 rfl) ?_
  refine m_geta hC hP 20 (by decide) rfl q1913 dX3_need_16 ?_
  refine lv_iload_n hx hb dX3_need_19 rfl (lv_at hl 3 rfl) ?_
  refine lv_aload_n hx hb dX3_need_20 rfl (lv_at hl 1 rfl) ?_
  refine m_geta hC hP 18 (by decide) rfl q1911 dX3_need_21 ?_
  refine lv_iload_n hx hb dX3_need_24 rfl (lv_at hl 3 rfl) ?_
  obtain ⟨c3, h⟩ := mif_n h
  refine m_ald hC hP 18 rfl c3 dX3_need_25 ?_
  refine lv_topi (fun y4 ey4 => ?_)
  have h := mlet_at ey4 h
  refine lv_iload_n hx hb dX3_need_26 rfl (lv_at hl 0 rfl) ?_
  obtain ⟨r7, σ5, c6, h⟩ := mcall_n h
  refine m_callsi (As := [.ref (mad E 20), .int x2, .int y4, .int y2]) (rest := [.int x1, .int (σ.1 25)]) hC (met_between l N E H.size σ (rfl : mInt 20 = true) x2 y4 y2 r7 σ5 c6) (va_cwS 4 hts (lw_S q2250 q2251 q103 q2252) rfl rfl rfl (by decide +kernel) ⟨Nat.le_trans (Nat.le_of_ble_eq_true rfl) hR.1, Nat.le_trans (Nat.le_of_ble_eq_true rfl) hR.2⟩) hP hS rfl hl.1 rfl (Nat.le_of_ble_eq_true rfl) dX3_need_27 (fun H locs hP hS => ?_)
  refine lv_iadd hx hb dX3_need_30 ?_
  refine lv_imul hx hb dX3_need_31 ?_
  refine lv_bipush (v := 10) hx hb dX3_need_32 (by decide) ?_
  obtain ⟨r10, σ8, c9, h⟩ := mcall_n h
  refine m_callsi (As := [.int ((σ.1 25) * (x1 + r7)), .int 10]) (rest := []) hC (met_down l N E H.size σ5 ((σ.1 25) * (x1 + r7)) 10 r10 σ8 c9) (va_cwS 2 hts (lw_S q2253 q2254 q103 q2255) rfl rfl rfl (by decide +kernel) ⟨Nat.le_trans (Nat.le_of_ble_eq_true rfl) hR.1, Nat.le_trans (Nat.le_of_ble_eq_true rfl) hR.2⟩) hP hS rfl hl.1 rfl (Nat.le_of_ble_eq_true rfl) dX3_need_34 (fun H locs hP hS => ?_)
  refine lv_aload_n hx hb dX3_need_37 rfl (lv_at hl 1 rfl) ?_
  refine m_geti hC hP 38 (by decide) rfl q1931 dX3_need_38 ?_
  refine lv_iload_n hx hb dX3_need_41 rfl (lv_at hl 0 rfl) ?_
  refine lv_imul hx hb dX3_need_42 ?_
  refine lv_aload_n hx hb dX3_need_43 rfl (lv_at hl 1 rfl) ?_
  refine m_geti hC hP 28 (by decide) rfl q1921 dX3_need_44 ?_
  refine lv_imul hx hb dX3_need_47 ?_
  refine lv_iadd hx hb dX3_need_48 ?_
  refine lv_topi (fun y11 ey11 => ?_)
  have h := mlet_at ey11 h
  refine lv_istore (lv' := [(4, .int y11), (3, .int y2), (0, .ref (mh E)), (1, .int x1), (2, .int x2)]) hx hb dX3_need_49 hl (by decide) rfl (fun ls hl => ?_)
  refine lv_iload hx hb dX3_need_51 (lv_at hl 0 rfl) ?_
  refine lv_if_ge (tgt := 60) hx hb dX3_need_53 (by decide) (fun c12 => ?_) (fun c12 => ?_)
  · have h := mif_t c12 h
    refine lv_iload hx hb dX3_need_60 (lv_at hl 0 rfl) ?_
    exact w_need_62 hC hR N σ8 y11 h hP hS (lv_sub hl [] rfl)
  · have h := mif_f c12 h
    refine lv_iconst (v := 0) hx hb dX3_need_56 (by decide) ?_
    refine lv_goto (tgt := 62) hx hb dX3_need_57 (by decide) ?_
    exact w_need_62 hC hR N σ8 0 h hP hS (lv_sub hl [] rfl)
theorem met_need (l : Launch) (N : Nat) (E : mE) (sz : Nat) (σ : MS) (x1 : Int32) (x2 : Int32) (r : Int32) (σ' : MS) (h : f_need N σ x1 x2 = some (r, σ')) : Met l yX3_need (ws_ yX3_need cX3_need 5 (some .int)) ({ frames := 2, cells := 0, slots := 0, locals := 51 }) (mPc E sz σ [.ref (mh E), .int x1, .int x2]) (mQi E sz r σ') 0 0 (mA E sz) :=
  m_met (Qc := fun z => mQi E z r σ') (by decide) rfl (Nat.le_of_ble_eq_true rfl) (fun hC ls hl hP => w_need_0 hC ⟨Nat.le_refl _, Nat.le_refl _⟩ N σ x1 x2 h hP va_S.rf hl)
def f_slip_23 (N : Nat) : Nat → MS → Int32 → Int32 → Int32 → Int32 → Option (Int32 × MS)
  | 0, _, _, _, _, _ => none
  | n + 1, σ, x1, x2, x3, x4 =>
    if 90 < x4 then
    some ((-1), σ)
    else
    if mIn x2 (mLen 19) = true then mlet (σ.2.1 19 x2.toNatClampNeg) fun y3 =>
    mcall (f_between N 21 σ x2 y3 x4) fun r6 σ4 =>
    if (x3 * r6) < x1 then
    mlet (x4 + 1) fun y8 =>
    f_slip_23 N n σ4 x1 x2 x3 y8
    else
    some (x4, σ4)
    else none
set_option maxHeartbeats 4000000 in
set_option maxRecDepth 100000 in
theorem w_slip_23 {p : Program} {l : Launch} {e : Env} {R : Room} {s : State} {m : MethodId} {args : Array Value} {below : List Frame} {meth : Method} {c : Code} {E : mE} {σ' : MS} {r : Int32} (hC : mC p s m args meth c E cX3_slip 5 (some .int)) (hR : 2 ≤ R.frames ∧ 51 ≤ R.locals) (N : Nat) : ∀ (n : Nat) (σ : MS) (x1 : Int32) (x2 : Int32) (x3 : Int32) (x4 : Int32), f_slip_23 N n σ x1 x2 x3 x4 = some (r, σ') → ∀ (H : Heap) (locs : List Loc), mP E σ H → va_S (mA E s.heap.size) s.heap H locs → ∀ ls : Array Slot, lv_has ls 5 [(0, .ref (mh E)), (1, .int x1), (2, .int x2), (3, .int x3), (4, .int x4)] → W p l e R s m args below meth c H locs 0 0 (MQ below (mQi E s.heap.size r σ') args s 0 0 (mA E s.heap.size)) (F0 m 23 ls []) := by
  obtain ⟨⟨hx, hb, hml, hown, hts⟩, hK, hD, hr, hlk⟩ := id hC
  intro n
  induction n with
  | zero =>
    intro σ x1 x2 x3 x4 h
    cases h
  | succ n ih =>
    intro σ x1 x2 x3 x4 h H locs hP hS ls hl
    unfold f_slip_23 at h
    refine lv_iload hx hb dX3_slip_23 (lv_at hl 4 rfl) ?_
    refine lv_bipush (v := 90) hx hb dX3_slip_25 (by decide) ?_
    refine lv_icmp_gt (tgt := 61) hx hb dX3_slip_27 (by decide) (fun c1 => ?_) (fun c1 => ?_)
    · have h := mif_t c1 h
      refine lv_iconst (v := (-1)) hx hb dX3_slip_61 (by decide) ?_
      cases h
      exact m_iret hC hP hS dX3_slip_62
    · have h := mif_f c1 h
      refine lv_iload_n hx hb dX3_slip_30 rfl (lv_at hl 3 rfl) ?_
      refine lv_aload_n hx hb dX3_slip_31 rfl (lv_at hl 0 rfl) ?_
      refine m_geta hC hP 21 (by decide) rfl q1914 dX3_slip_32 ?_
      refine lv_iload_n hx hb dX3_slip_35 rfl (lv_at hl 2 rfl) ?_
      refine lv_aload_n hx hb dX3_slip_36 rfl (lv_at hl 0 rfl) ?_
      refine m_geta hC hP 19 (by decide) rfl q1912 dX3_slip_37 ?_
      refine lv_iload_n hx hb dX3_slip_40 rfl (lv_at hl 2 rfl) ?_
      obtain ⟨c2, h⟩ := mif_n h
      refine m_ald hC hP 19 rfl c2 dX3_slip_41 ?_
      refine lv_topi (fun y3 ey3 => ?_)
      have h := mlet_at ey3 h
      refine lv_iload hx hb dX3_slip_42 (lv_at hl 4 rfl) ?_
      obtain ⟨r6, σ4, c5, h⟩ := mcall_n h
      refine m_callsi (As := [.ref (mad E 21), .int x2, .int y3, .int x4]) (rest := [.int x3]) hC (met_between l N E H.size σ (rfl : mInt 21 = true) x2 y3 x4 r6 σ4 c5) (va_cwS 4 hts (lw_S q2250 q2251 q103 q2252) rfl rfl rfl (by decide +kernel) ⟨Nat.le_trans (Nat.le_of_ble_eq_true rfl) hR.1, Nat.le_trans (Nat.le_of_ble_eq_true rfl) hR.2⟩) hP hS rfl hl.1 rfl (Nat.le_of_ble_eq_true rfl) dX3_slip_44 (fun H locs hP hS => ?_)
      refine lv_imul hx hb dX3_slip_47 ?_
      refine lv_iload_n hx hb dX3_slip_48 rfl (lv_at hl 1 rfl) ?_
      refine lv_icmp_lt (tgt := 55) hx hb dX3_slip_49 (by decide) (fun c7 => ?_) (fun c7 => ?_)
      · have h := mif_t c7 h
        obtain ⟨y8, ey8⟩ : ∃ z : Int32, z = x4 + 1 := ⟨_, rfl⟩
        have h := mlet_at ey8 h
        refine lv_iinc (v := y8) (lv' := [(4, .int y8), (0, .ref (mh E)), (1, .int x1), (2, .int x2), (3, .int x3)]) hx hb dX3_slip_55 hl (k := 4) rfl (by rw [ey8]; rfl) (by decide) rfl (fun ls hl => ?_)
        refine lv_goto (tgt := 23) hx hb dX3_slip_58 (by decide) ?_
        exact ih σ4 x1 x2 x3 y8 h _ _ hP hS _ (lv_sub hl [1, 2, 3, 4, 0] rfl)
      · have h := mif_f c7 h
        refine lv_iload hx hb dX3_slip_52 (lv_at hl 4 rfl) ?_
        cases h
        exact m_iret hC hP hS dX3_slip_54
def f_slip (N : Nat) (σ : MS) (x1 : Int32) (x2 : Int32) : Option (Int32 × MS) :=
    if ¬ (σ.1 24) = 0 then
    mlet (((σ.1 25) / (σ.1 24)) * ((σ.1 24) - (σ.1 38))) fun y2 =>
    f_slip_23 N N σ x1 x2 y2 0
    else none
set_option maxHeartbeats 4000000 in
set_option maxRecDepth 100000 in
theorem w_slip_0 {p : Program} {l : Launch} {e : Env} {R : Room} {s : State} {m : MethodId} {args : Array Value} {below : List Frame} {meth : Method} {c : Code} {E : mE} {σ' : MS} {r : Int32} (hC : mC p s m args meth c E cX3_slip 5 (some .int)) (hR : 2 ≤ R.frames ∧ 51 ≤ R.locals) (N : Nat) (σ : MS) (x1 : Int32) (x2 : Int32) (h : f_slip N σ x1 x2 = some (r, σ')) {H : Heap} {locs : List Loc} (hP : mP E σ H) (hS : va_S (mA E s.heap.size) s.heap H locs) {ls : Array Slot} (hl : lv_has ls 5 [(0, .ref (mh E)), (1, .int x1), (2, .int x2)]) : W p l e R s m args below meth c H locs 0 0 (MQ below (mQi E s.heap.size r σ') args s 0 0 (mA E s.heap.size)) (F0 m 0 ls []) := by
  obtain ⟨⟨hx, hb, hml, hown, hts⟩, hK, hD, hr, hlk⟩ := id hC
  unfold f_slip at h
  refine lv_aload_n hx hb dX3_slip_0 rfl (lv_at hl 0 rfl) ?_
  refine m_geti hC hP 25 (by decide) rfl q1918 dX3_slip_1 ?_
  refine lv_aload_n hx hb dX3_slip_4 rfl (lv_at hl 0 rfl) ?_
  refine m_geti hC hP 24 (by decide) rfl q1917 dX3_slip_5 ?_
  obtain ⟨c1, h⟩ := mif_n h
  refine lv_idiv hx hb dX3_slip_8 c1 ?_
  refine lv_aload_n hx hb dX3_slip_9 rfl (lv_at hl 0 rfl) ?_
  refine m_geti hC hP 24 (by decide) rfl q1917 dX3_slip_10 ?_
  refine lv_aload_n hx hb dX3_slip_13 rfl (lv_at hl 0 rfl) ?_
  refine m_geti hC hP 38 (by decide) rfl q1931 dX3_slip_14 ?_
  refine lv_isub hx hb dX3_slip_17 ?_
  refine lv_imul hx hb dX3_slip_18 ?_
  refine lv_topi (fun y2 ey2 => ?_)
  have h := mlet_at ey2 h
  refine lv_istore_n (lv' := [(3, .int y2), (0, .ref (mh E)), (1, .int x1), (2, .int x2)]) hx hb dX3_slip_19 rfl hl (by decide) rfl (fun ls hl => ?_)
  refine lv_iconst (v := 0) hx hb dX3_slip_20 (by decide) ?_
  refine lv_istore (lv' := [(4, .int 0), (3, .int y2), (0, .ref (mh E)), (1, .int x1), (2, .int x2)]) hx hb dX3_slip_21 hl (by decide) rfl (fun ls hl => ?_)
  exact w_slip_23 hC hR N N σ x1 x2 y2 0 h _ _ hP hS _ (lv_sub hl [2, 3, 4, 1, 0] rfl)
theorem met_slip (l : Launch) (N : Nat) (E : mE) (sz : Nat) (σ : MS) (x1 : Int32) (x2 : Int32) (r : Int32) (σ' : MS) (h : f_slip N σ x1 x2 = some (r, σ')) : Met l yX3_slip (ws_ yX3_slip cX3_slip 5 (some .int)) ({ frames := 2, cells := 0, slots := 0, locals := 51 }) (mPc E sz σ [.ref (mh E), .int x1, .int x2]) (mQi E sz r σ') 0 0 (mA E sz) :=
  m_met (Qc := fun z => mQi E z r σ') (by decide) rfl (Nat.le_of_ble_eq_true rfl) (fun hC ls hl hP => w_slip_0 hC ⟨Nat.le_refl _, Nat.le_refl _⟩ N σ x1 x2 h hP va_S.rf hl)
def f_barred_50 (N : Nat) (σ : MS) : Option (Int32 × MS) :=
    some (2, σ)
set_option maxHeartbeats 4000000 in
set_option maxRecDepth 100000 in
theorem w_barred_50 {p : Program} {l : Launch} {e : Env} {R : Room} {s : State} {m : MethodId} {args : Array Value} {below : List Frame} {meth : Method} {c : Code} {E : mE} {σ' : MS} {r : Int32} (hC : mC p s m args meth c E cX3_barred 6 (some .int)) (hR : 3 ≤ R.frames ∧ 75 ≤ R.locals) (N : Nat) (σ : MS) (h : f_barred_50 N σ = some (r, σ')) {H : Heap} {locs : List Loc} (hP : mP E σ H) (hS : va_S (mA E s.heap.size) s.heap H locs) {ls : Array Slot} (hl : lv_has ls 6 []) : W p l e R s m args below meth c H locs 0 0 (MQ below (mQi E s.heap.size r σ') args s 0 0 (mA E s.heap.size)) (F0 m 50 ls []) := by
  obtain ⟨⟨hx, hb, hml, hown, hts⟩, hK, hD, hr, hlk⟩ := id hC
  unfold f_barred_50 at h
  refine lv_iconst (v := 2) hx hb dX3_barred_50 (by decide) ?_
  cases h
  exact m_iret hC hP hS dX3_barred_51
def f_barred_104 (N : Nat) (σ : MS) (s0 : Int32) : Option (Int32 × MS) :=
    some (s0, σ)
set_option maxHeartbeats 4000000 in
set_option maxRecDepth 100000 in
theorem w_barred_104 {p : Program} {l : Launch} {e : Env} {R : Room} {s : State} {m : MethodId} {args : Array Value} {below : List Frame} {meth : Method} {c : Code} {E : mE} {σ' : MS} {r : Int32} (hC : mC p s m args meth c E cX3_barred 6 (some .int)) (hR : 3 ≤ R.frames ∧ 75 ≤ R.locals) (N : Nat) (σ : MS) (s0 : Int32) (h : f_barred_104 N σ s0 = some (r, σ')) {H : Heap} {locs : List Loc} (hP : mP E σ H) (hS : va_S (mA E s.heap.size) s.heap H locs) {ls : Array Slot} (hl : lv_has ls 6 []) : W p l e R s m args below meth c H locs 0 0 (MQ below (mQi E s.heap.size r σ') args s 0 0 (mA E s.heap.size)) (F0 m 104 ls [.int s0]) := by
  obtain ⟨⟨hx, hb, hml, hown, hts⟩, hK, hD, hr, hlk⟩ := id hC
  unfold f_barred_104 at h
  cases h
  exact m_iret hC hP hS dX3_barred_104
def f_barred (N : Nat) (σ : MS) (x1 : Int32) (x2 : Int32) (x3 : Int32) : Option (Int32 × MS) :=
    mcall (f_beside N σ x1 x2) fun r3 σ1 =>
    if 0 ≤ r3 then
    if mIn r3 (mLen 41) = true then mlet (σ1.2.1 41 r3.toNatClampNeg) fun y6 =>
    if mIn x1 (mLen 41) = true then mlet (σ1.2.1 41 x1.toNatClampNeg) fun y8 =>
    mlet (y6 - y8) fun y9 =>
    if (σ1.1 27) < y9 then
    f_barred_50 N σ1
    else
    if (-y9) ≤ (σ1.1 27) then
    if mIn x3 (mLen 18) = true then mlet (σ1.2.1 18 x3.toNatClampNeg) fun y13 =>
    if ¬ (σ1.1 24) = 0 then
    mcall (f_between N 20 σ1 x3 y13 ((σ1.1 25) / (σ1.1 24))) fun r17 σ15 =>
    if r17 ≤ (σ15.1 26) then
    mcall (f_need N σ15 y9 x3) fun r21 σ19 =>
    mcall (f_slip N σ19 r21 x3) fun r24 σ22 =>
    if 0 ≤ r24 then
    f_barred_104 N σ22 0
    else
    f_barred_104 N σ22 4
    else
    some (3, σ15)
    else none
    else none
    else
    f_barred_50 N σ1
    else none
    else none
    else
    some (1, σ1)
set_option maxHeartbeats 4000000 in
set_option maxRecDepth 100000 in
theorem w_barred_0 {p : Program} {l : Launch} {e : Env} {R : Room} {s : State} {m : MethodId} {args : Array Value} {below : List Frame} {meth : Method} {c : Code} {E : mE} {σ' : MS} {r : Int32} (hC : mC p s m args meth c E cX3_barred 6 (some .int)) (hR : 3 ≤ R.frames ∧ 75 ≤ R.locals) (N : Nat) (σ : MS) (x1 : Int32) (x2 : Int32) (x3 : Int32) (h : f_barred N σ x1 x2 x3 = some (r, σ')) {H : Heap} {locs : List Loc} (hP : mP E σ H) (hS : va_S (mA E s.heap.size) s.heap H locs) {ls : Array Slot} (hl : lv_has ls 6 [(0, .ref (mh E)), (1, .int x1), (2, .int x2), (3, .int x3)]) : W p l e R s m args below meth c H locs 0 0 (MQ below (mQi E s.heap.size r σ') args s 0 0 (mA E s.heap.size)) (F0 m 0 ls []) := by
  obtain ⟨⟨hx, hb, hml, hown, hts⟩, hK, hD, hr, hlk⟩ := id hC
  unfold f_barred at h
  refine lv_aload_n hx hb dX3_barred_0 rfl (lv_at hl 0 rfl) ?_
  refine lv_iload_n hx hb dX3_barred_1 rfl (lv_at hl 1 rfl) ?_
  refine lv_iload_n hx hb dX3_barred_2 rfl (lv_at hl 2 rfl) ?_
  obtain ⟨r3, σ1, c2, h⟩ := mcall_n h
  refine m_calli (As := [.int x1, .int x2]) (rest := []) hC (met_beside l N E H.size σ x1 x2 r3 σ1 c2) (cwV 2 hts (lw_V q2316 q2318 qs63 q103 q2319) rfl rfl rfl (by decide +kernel) ⟨Nat.le_trans (Nat.le_of_ble_eq_true rfl) hR.1, Nat.le_trans (Nat.le_of_ble_eq_true rfl) hR.2⟩) hP hS rfl hl.1 rfl (Nat.le_of_ble_eq_true rfl) dX3_barred_3 (fun H locs hP hS => ?_)
  refine lv_istore (lv' := [(4, .int r3), (0, .ref (mh E)), (1, .int x1), (2, .int x2), (3, .int x3)]) hx hb dX3_barred_6 hl (by decide) rfl (fun ls hl => ?_)
  refine lv_iload hx hb dX3_barred_8 (lv_at hl 0 rfl) ?_
  refine lv_if_ge (tgt := 15) hx hb dX3_barred_10 (by decide) (fun c4 => ?_) (fun c4 => ?_)
  · have h := mif_t c4 h
    refine lv_aload_n hx hb dX3_barred_15 rfl (lv_at hl 1 rfl) ?_
    refine m_geta hC hP 41 (by decide) rfl q1934 dX3_barred_16 ?_
    refine lv_iload hx hb dX3_barred_19 (lv_at hl 0 rfl) ?_
    obtain ⟨c5, h⟩ := mif_n h
    refine m_ald hC hP 41 rfl c5 dX3_barred_21 ?_
    refine lv_topi (fun y6 ey6 => ?_)
    have h := mlet_at ey6 h
    refine lv_aload_n hx hb dX3_barred_22 rfl (lv_at hl 1 rfl) ?_
    refine m_geta hC hP 41 (by decide) rfl q1934 dX3_barred_23 ?_
    refine lv_iload_n hx hb dX3_barred_26 rfl (lv_at hl 2 rfl) ?_
    obtain ⟨c7, h⟩ := mif_n h
    refine m_ald hC hP 41 rfl c7 dX3_barred_27 ?_
    refine lv_topi (fun y8 ey8 => ?_)
    have h := mlet_at ey8 h
    refine lv_isub hx hb dX3_barred_28 ?_
    refine lv_topi (fun y9 ey9 => ?_)
    have h := mlet_at ey9 h
    refine lv_istore (lv' := [(5, .int y9), (4, .int r3), (0, .ref (mh E)), (1, .int x1), (2, .int x2), (3, .int x3)]) hx hb dX3_barred_29 hl (by decide) rfl (fun ls hl => ?_)
    refine lv_iload hx hb dX3_barred_31 (lv_at hl 0 rfl) ?_
    refine lv_aload_n hx hb dX3_barred_33 rfl (lv_at hl 2 rfl) ?_
    refine m_geti hC hP 27 (by decide) rfl q1920 dX3_barred_34 ?_
    refine lv_icmp_gt (tgt := 50) hx hb dX3_barred_37 (by decide) (fun c10 => ?_) (fun c10 => ?_)
    · have h := mif_t c10 h
      exact w_barred_50 hC hR N σ1 h hP hS (lv_sub hl [] rfl)
    · have h := mif_f c10 h
      refine lv_iload hx hb dX3_barred_40 (lv_at hl 0 rfl) ?_
      refine lv_ineg hx hb dX3_barred_42 ?_
      refine lv_aload_n hx hb dX3_barred_43 rfl (lv_at hl 2 rfl) ?_
      refine m_geti hC hP 27 (by decide) rfl q1920 dX3_barred_44 ?_
      refine lv_icmp_le (tgt := 52) hx hb dX3_barred_47 (by decide) (fun c11 => ?_) (fun c11 => ?_)
      · have h := mif_t c11 h
        refine lv_aload_n hx hb dX3_barred_52 rfl (lv_at hl 2 rfl) ?_
        refine m_geta hC hP 20 (by decide) rfl q1913 dX3_barred_53 ?_
        refine lv_iload_n hx hb dX3_barred_56 rfl (lv_at hl 5 rfl) ?_
        refine lv_aload_n hx hb dX3_barred_57 rfl (lv_at hl 2 rfl) ?_
        refine m_geta hC hP 18 (by decide) rfl q1911 dX3_barred_58 ?_
        refine lv_iload_n hx hb dX3_barred_61 rfl (lv_at hl 5 rfl) ?_
        obtain ⟨c12, h⟩ := mif_n h
        refine m_ald hC hP 18 rfl c12 dX3_barred_62 ?_
        refine lv_topi (fun y13 ey13 => ?_)
        have h := mlet_at ey13 h
        refine lv_aload_n hx hb dX3_barred_63 rfl (lv_at hl 2 rfl) ?_
        refine m_geti hC hP 25 (by decide) rfl q1918 dX3_barred_64 ?_
        refine lv_aload_n hx hb dX3_barred_67 rfl (lv_at hl 2 rfl) ?_
        refine m_geti hC hP 24 (by decide) rfl q1917 dX3_barred_68 ?_
        obtain ⟨c14, h⟩ := mif_n h
        refine lv_idiv hx hb dX3_barred_71 c14 ?_
        obtain ⟨r17, σ15, c16, h⟩ := mcall_n h
        refine m_callsi (As := [.ref (mad E 20), .int x3, .int y13, .int ((σ1.1 25) / (σ1.1 24))]) (rest := []) hC (met_between l N E H.size σ1 (rfl : mInt 20 = true) x3 y13 ((σ1.1 25) / (σ1.1 24)) r17 σ15 c16) (va_cwS 4 hts (lw_S q2250 q2251 q103 q2252) rfl rfl rfl (by decide +kernel) ⟨Nat.le_trans (Nat.le_of_ble_eq_true rfl) hR.1, Nat.le_trans (Nat.le_of_ble_eq_true rfl) hR.2⟩) hP hS rfl hl.1 rfl (Nat.le_of_ble_eq_true rfl) dX3_barred_72 (fun H locs hP hS => ?_)
        refine lv_aload_n hx hb dX3_barred_75 rfl (lv_at hl 2 rfl) ?_
        refine m_geti hC hP 26 (by decide) rfl q1919 dX3_barred_76 ?_
        refine lv_icmp_le (tgt := 84) hx hb dX3_barred_79 (by decide) (fun c18 => ?_) (fun c18 => ?_)
        · have h := mif_t c18 h
          refine lv_aload_n hx hb dX3_barred_84 rfl (lv_at hl 2 rfl) ?_
          refine lv_aload_n hx hb dX3_barred_85 rfl (lv_at hl 2 rfl) ?_
          refine lv_iload hx hb dX3_barred_86 (lv_at hl 0 rfl) ?_
          refine lv_iload_n hx hb dX3_barred_88 rfl (lv_at hl 5 rfl) ?_
          obtain ⟨r21, σ19, c20, h⟩ := mcall_n h
          refine m_calli (As := [.int y9, .int x3]) (rest := [.ref (mh E)]) hC (met_need l N E H.size σ15 y9 x3 r21 σ19 c20) (cwV 2 hts (lw_V q2320 q2322 qs64 q103 q2323) rfl rfl rfl (by decide +kernel) ⟨Nat.le_trans (Nat.le_of_ble_eq_true rfl) hR.1, Nat.le_trans (Nat.le_of_ble_eq_true rfl) hR.2⟩) hP hS rfl hl.1 rfl (Nat.le_of_ble_eq_true rfl) dX3_barred_89 (fun H locs hP hS => ?_)
          refine lv_iload_n hx hb dX3_barred_92 rfl (lv_at hl 5 rfl) ?_
          obtain ⟨r24, σ22, c23, h⟩ := mcall_n h
          refine m_calli (As := [.int r21, .int x3]) (rest := []) hC (met_slip l N E H.size σ19 r21 x3 r24 σ22 c23) (cwV 2 hts (lw_V q2324 q2326 qs65 q103 q2327) rfl rfl rfl (by decide +kernel) ⟨Nat.le_trans (Nat.le_of_ble_eq_true rfl) hR.1, Nat.le_trans (Nat.le_of_ble_eq_true rfl) hR.2⟩) hP hS rfl hl.1 rfl (Nat.le_of_ble_eq_true rfl) dX3_barred_93 (fun H locs hP hS => ?_)
          refine lv_if_ge (tgt := 103) hx hb dX3_barred_96 (by decide) (fun c25 => ?_) (fun c25 => ?_)
          · have h := mif_t c25 h
            refine lv_iconst (v := 0) hx hb dX3_barred_103 (by decide) ?_
            exact w_barred_104 hC hR N σ22 0 h hP hS (lv_sub hl [] rfl)
          · have h := mif_f c25 h
            refine lv_iconst (v := 4) hx hb dX3_barred_99 (by decide) ?_
            refine lv_goto (tgt := 104) hx hb dX3_barred_100 (by decide) ?_
            exact w_barred_104 hC hR N σ22 4 h hP hS (lv_sub hl [] rfl)
        · have h := mif_f c18 h
          refine lv_iconst (v := 3) hx hb dX3_barred_82 (by decide) ?_
          cases h
          exact m_iret hC hP hS dX3_barred_83
      · have h := mif_f c11 h
        exact w_barred_50 hC hR N σ1 h hP hS (lv_sub hl [] rfl)
  · have h := mif_f c4 h
    refine lv_iconst (v := 1) hx hb dX3_barred_13 (by decide) ?_
    cases h
    exact m_iret hC hP hS dX3_barred_14
theorem met_barred (l : Launch) (N : Nat) (E : mE) (sz : Nat) (σ : MS) (x1 : Int32) (x2 : Int32) (x3 : Int32) (r : Int32) (σ' : MS) (h : f_barred N σ x1 x2 x3 = some (r, σ')) : Met l yX3_barred (ws_ yX3_barred cX3_barred 6 (some .int)) ({ frames := 3, cells := 0, slots := 0, locals := 75 }) (mPc E sz σ [.ref (mh E), .int x1, .int x2, .int x3]) (mQi E sz r σ') 0 0 (mA E sz) :=
  m_met (Qc := fun z => mQi E z r σ') (by decide) rfl (Nat.le_of_ble_eq_true rfl) (fun hC ls hl hP => w_barred_0 hC ⟨Nat.le_refl _, Nat.le_refl _⟩ N σ x1 x2 x3 h hP va_S.rf hl)
def f_cost (N : Nat) (σ : MS) (x1 : Int32) (x2 : Int32) (x3 : Int32) : Option (Int32 × MS) :=
    mcall (f_beside N σ x1 x2) fun r3 σ1 =>
    if mIn r3 (mLen 41) = true then mlet (σ1.2.1 41 r3.toNatClampNeg) fun y5 =>
    if mIn x1 (mLen 41) = true then mlet (σ1.2.1 41 x1.toNatClampNeg) fun y7 =>
    mcall (f_need N σ1 (y5 - y7) x3) fun r10 σ8 =>
    mcall (f_slip N σ8 r10 x3) fun r13 σ11 =>
    if ¬ (100 - r13) = 0 then
    some (((1000 + r10) / (100 - r13)) + 1, σ11)
    else none
    else none
    else none
set_option maxHeartbeats 4000000 in
set_option maxRecDepth 100000 in
theorem w_cost_0 {p : Program} {l : Launch} {e : Env} {R : Room} {s : State} {m : MethodId} {args : Array Value} {below : List Frame} {meth : Method} {c : Code} {E : mE} {σ' : MS} {r : Int32} (hC : mC p s m args meth c E cX3_cost 5 (some .int)) (hR : 3 ≤ R.frames ∧ 75 ≤ R.locals) (N : Nat) (σ : MS) (x1 : Int32) (x2 : Int32) (x3 : Int32) (h : f_cost N σ x1 x2 x3 = some (r, σ')) {H : Heap} {locs : List Loc} (hP : mP E σ H) (hS : va_S (mA E s.heap.size) s.heap H locs) {ls : Array Slot} (hl : lv_has ls 5 [(0, .ref (mh E)), (1, .int x1), (2, .int x2), (3, .int x3)]) : W p l e R s m args below meth c H locs 0 0 (MQ below (mQi E s.heap.size r σ') args s 0 0 (mA E s.heap.size)) (F0 m 0 ls []) := by
  obtain ⟨⟨hx, hb, hml, hown, hts⟩, hK, hD, hr, hlk⟩ := id hC
  unfold f_cost at h
  refine lv_aload_n hx hb dX3_cost_0 rfl (lv_at hl 0 rfl) ?_
  refine lv_aload_n hx hb dX3_cost_1 rfl (lv_at hl 0 rfl) ?_
  refine m_geta hC hP 41 (by decide) rfl q1934 dX3_cost_2 ?_
  refine lv_aload_n hx hb dX3_cost_5 rfl (lv_at hl 0 rfl) ?_
  refine lv_iload_n hx hb dX3_cost_6 rfl (lv_at hl 1 rfl) ?_
  refine lv_iload_n hx hb dX3_cost_7 rfl (lv_at hl 2 rfl) ?_
  obtain ⟨r3, σ1, c2, h⟩ := mcall_n h
  refine m_calli (As := [.int x1, .int x2]) (rest := [.ref (mad E 41), .ref (mh E)]) hC (met_beside l N E H.size σ x1 x2 r3 σ1 c2) (cwV 2 hts (lw_V q2316 q2318 qs63 q103 q2319) rfl rfl rfl (by decide +kernel) ⟨Nat.le_trans (Nat.le_of_ble_eq_true rfl) hR.1, Nat.le_trans (Nat.le_of_ble_eq_true rfl) hR.2⟩) hP hS rfl hl.1 rfl (Nat.le_of_ble_eq_true rfl) dX3_cost_8 (fun H locs hP hS => ?_)
  obtain ⟨c4, h⟩ := mif_n h
  refine m_ald hC hP 41 rfl c4 dX3_cost_11 ?_
  refine lv_topi (fun y5 ey5 => ?_)
  have h := mlet_at ey5 h
  refine lv_aload_n hx hb dX3_cost_12 rfl (lv_at hl 0 rfl) ?_
  refine m_geta hC hP 41 (by decide) rfl q1934 dX3_cost_13 ?_
  refine lv_iload_n hx hb dX3_cost_16 rfl (lv_at hl 1 rfl) ?_
  obtain ⟨c6, h⟩ := mif_n h
  refine m_ald hC hP 41 rfl c6 dX3_cost_17 ?_
  refine lv_topi (fun y7 ey7 => ?_)
  have h := mlet_at ey7 h
  refine lv_isub hx hb dX3_cost_18 ?_
  refine lv_iload_n hx hb dX3_cost_19 rfl (lv_at hl 3 rfl) ?_
  obtain ⟨r10, σ8, c9, h⟩ := mcall_n h
  refine m_calli (As := [.int (y5 - y7), .int x3]) (rest := []) hC (met_need l N E H.size σ1 (y5 - y7) x3 r10 σ8 c9) (cwV 2 hts (lw_V q2320 q2322 qs64 q103 q2323) rfl rfl rfl (by decide +kernel) ⟨Nat.le_trans (Nat.le_of_ble_eq_true rfl) hR.1, Nat.le_trans (Nat.le_of_ble_eq_true rfl) hR.2⟩) hP hS rfl hl.1 rfl (Nat.le_of_ble_eq_true rfl) dX3_cost_20 (fun H locs hP hS => ?_)
  refine lv_istore (lv' := [(4, .int r10), (0, .ref (mh E)), (1, .int x1), (2, .int x2), (3, .int x3)]) hx hb dX3_cost_23 hl (by decide) rfl (fun ls hl => ?_)
  refine lv_sipush (v := 1000) hx hb dX3_cost_25 (by decide) ?_
  refine lv_iload hx hb dX3_cost_28 (lv_at hl 0 rfl) ?_
  refine lv_iadd hx hb dX3_cost_30 ?_
  refine lv_bipush (v := 100) hx hb dX3_cost_31 (by decide) ?_
  refine lv_aload_n hx hb dX3_cost_33 rfl (lv_at hl 1 rfl) ?_
  refine lv_iload hx hb dX3_cost_34 (lv_at hl 0 rfl) ?_
  refine lv_iload_n hx hb dX3_cost_36 rfl (lv_at hl 4 rfl) ?_
  obtain ⟨r13, σ11, c12, h⟩ := mcall_n h
  refine m_calli (As := [.int r10, .int x3]) (rest := [.int 100, .int (1000 + r10)]) hC (met_slip l N E H.size σ8 r10 x3 r13 σ11 c12) (cwV 2 hts (lw_V q2324 q2326 qs65 q103 q2327) rfl rfl rfl (by decide +kernel) ⟨Nat.le_trans (Nat.le_of_ble_eq_true rfl) hR.1, Nat.le_trans (Nat.le_of_ble_eq_true rfl) hR.2⟩) hP hS rfl hl.1 rfl (Nat.le_of_ble_eq_true rfl) dX3_cost_37 (fun H locs hP hS => ?_)
  refine lv_isub hx hb dX3_cost_40 ?_
  obtain ⟨c14, h⟩ := mif_n h
  refine lv_idiv hx hb dX3_cost_41 c14 ?_
  refine lv_iconst (v := 1) hx hb dX3_cost_42 (by decide) ?_
  refine lv_iadd hx hb dX3_cost_43 ?_
  cases h
  exact m_iret hC hP hS dX3_cost_44
theorem met_cost (l : Launch) (N : Nat) (E : mE) (sz : Nat) (σ : MS) (x1 : Int32) (x2 : Int32) (x3 : Int32) (r : Int32) (σ' : MS) (h : f_cost N σ x1 x2 x3 = some (r, σ')) : Met l yX3_cost (ws_ yX3_cost cX3_cost 5 (some .int)) ({ frames := 3, cells := 0, slots := 0, locals := 75 }) (mPc E sz σ [.ref (mh E), .int x1, .int x2, .int x3]) (mQi E sz r σ') 0 0 (mA E sz) :=
  m_met (Qc := fun z => mQi E z r σ') (by decide) rfl (Nat.le_of_ble_eq_true rfl) (fun hC ls hl hP => w_cost_0 hC ⟨Nat.le_refl _, Nat.le_refl _⟩ N σ x1 x2 x3 h hP va_S.rf hl)
def f_step_39 (N : Nat) (σ : MS) : Option (Int32 × MS) :=
    mcall (f_no N σ 1) fun r3 σ1 =>
    some (r3, σ1)
set_option maxHeartbeats 4000000 in
set_option maxRecDepth 100000 in
theorem w_step_39 {p : Program} {l : Launch} {e : Env} {R : Room} {s : State} {m : MethodId} {args : Array Value} {below : List Frame} {meth : Method} {c : Code} {E : mE} {σ' : MS} {r : Int32} (hC : mC p s m args meth c E cX3_step 7 (some .int)) (hR : 4 ≤ R.frames ∧ 100 ≤ R.locals) (N : Nat) (σ : MS) (h : f_step_39 N σ = some (r, σ')) {H : Heap} {locs : List Loc} (hP : mP E σ H) (hS : va_S (mA E s.heap.size) s.heap H locs) {ls : Array Slot} (hl : lv_has ls 7 [(0, .ref (mh E))]) : W p l e R s m args below meth c H locs 0 0 (MQ below (mQi E s.heap.size r σ') args s 0 0 (mA E s.heap.size)) (F0 m 39 ls []) := by
  obtain ⟨⟨hx, hb, hml, hown, hts⟩, hK, hD, hr, hlk⟩ := id hC
  unfold f_step_39 at h
  refine lv_aload_n hx hb dX3_step_39 rfl (lv_at hl 0 rfl) ?_
  refine lv_iconst (v := 1) hx hb dX3_step_40 (by decide) ?_
  obtain ⟨r3, σ1, c2, h⟩ := mcall_n h
  refine m_calli (As := [.int 1]) (rest := []) hC (met_no l N E H.size σ 1 r3 σ1 c2) (cwV 1 hts (lw_V q2138 q2140 qs41 q103 q2141) rfl rfl rfl (by decide +kernel) ⟨Nat.le_trans (Nat.le_of_ble_eq_true rfl) hR.1, Nat.le_trans (Nat.le_of_ble_eq_true rfl) hR.2⟩) hP hS rfl hl.1 rfl (Nat.le_of_ble_eq_true rfl) dX3_step_41 (fun H locs hP hS => ?_)
  cases h
  exact m_iret hC hP hS dX3_step_44
def f_step_129 (N : Nat) (σ : MS) (s0 : Int32) : Option (Int32 × MS) :=
    some (s0, σ)
set_option maxHeartbeats 4000000 in
set_option maxRecDepth 100000 in
theorem w_step_129 {p : Program} {l : Launch} {e : Env} {R : Room} {s : State} {m : MethodId} {args : Array Value} {below : List Frame} {meth : Method} {c : Code} {E : mE} {σ' : MS} {r : Int32} (hC : mC p s m args meth c E cX3_step 7 (some .int)) (hR : 4 ≤ R.frames ∧ 100 ≤ R.locals) (N : Nat) (σ : MS) (s0 : Int32) (h : f_step_129 N σ s0 = some (r, σ')) {H : Heap} {locs : List Loc} (hP : mP E σ H) (hS : va_S (mA E s.heap.size) s.heap H locs) {ls : Array Slot} (hl : lv_has ls 7 []) : W p l e R s m args below meth c H locs 0 0 (MQ below (mQi E s.heap.size r σ') args s 0 0 (mA E s.heap.size)) (F0 m 129 ls [.int s0]) := by
  obtain ⟨⟨hx, hb, hml, hown, hts⟩, hK, hD, hr, hlk⟩ := id hC
  unfold f_step_129 at h
  cases h
  exact m_iret hC hP hS dX3_step_129
def f_step (N : Nat) (σ : MS) (x1 : Int32) (x2 : Int32) (x3 : Int32) (x4 : Int32) : Option (Int32 × MS) :=
    mcallv (f_good N σ) fun σ1 =>
    mcall (f_isCell N σ1 x1) fun r5 σ3 =>
    if r5 = 0 then
    f_step_39 N σ3
    else
    mcall (f_within N σ3 x2 0 3) fun r9 σ7 =>
    if r9 = 0 then
    f_step_39 N σ7
    else
    mcall (f_isGround N σ7 x3) fun r13 σ11 =>
    if r13 = 0 then
    f_step_39 N σ11
    else
    mcall (f_within N σ11 x4 0 3) fun r17 σ15 =>
    if r17 = 0 then
    f_step_39 N σ15
    else
    mcall (f_barred N σ15 x1 x2 x3) fun r21 σ19 =>
    if x4 = 0 then
    some (r21, σ19)
    else
    if r21 ≤ 0 then
    mcall (f_beside N σ19 x1 x2) fun r26 σ24 =>
    if mIn r26 (mLen 41) = true then mlet (σ24.2.1 41 r26.toNatClampNeg) fun y28 =>
    if mIn x1 (mLen 41) = true then mlet (σ24.2.1 41 x1.toNatClampNeg) fun y30 =>
    mcall (f_need N σ24 (y28 - y30) x3) fun r33 σ31 =>
    if x4 = 1 then
    f_step_129 N σ31 r33
    else
    if x4 = 2 then
    mcall (f_slip N σ31 r33 x3) fun r41 σ39 =>
    f_step_129 N σ39 r41
    else
    mcall (f_cost N σ31 x1 x2 x3) fun r38 σ36 =>
    f_step_129 N σ36 r38
    else none
    else none
    else
    some ((-2), σ19)
set_option maxHeartbeats 4000000 in
set_option maxRecDepth 100000 in
theorem w_step_0 {p : Program} {l : Launch} {e : Env} {R : Room} {s : State} {m : MethodId} {args : Array Value} {below : List Frame} {meth : Method} {c : Code} {E : mE} {σ' : MS} {r : Int32} (hC : mC p s m args meth c E cX3_step 7 (some .int)) (hR : 4 ≤ R.frames ∧ 100 ≤ R.locals) (N : Nat) (σ : MS) (x1 : Int32) (x2 : Int32) (x3 : Int32) (x4 : Int32) (h : f_step N σ x1 x2 x3 x4 = some (r, σ')) {H : Heap} {locs : List Loc} (hP : mP E σ H) (hS : va_S (mA E s.heap.size) s.heap H locs) {ls : Array Slot} (hl : lv_has ls 7 [(0, .ref (mh E)), (1, .int x1), (2, .int x2), (3, .int x3), (4, .int x4)]) : W p l e R s m args below meth c H locs 0 0 (MQ below (mQi E s.heap.size r σ') args s 0 0 (mA E s.heap.size)) (F0 m 0 ls []) := by
  obtain ⟨⟨hx, hb, hml, hown, hts⟩, hK, hD, hr, hlk⟩ := id hC
  unfold f_step at h
  refine lv_aload_n hx hb dX3_step_0 rfl (lv_at hl 0 rfl) ?_
  obtain ⟨σ1, c2, h⟩ := mcallv_n h
  refine m_callv (As := []) (rest := []) hC (met_good l N E H.size σ σ1 c2) (cwV 0 hts (lw_V q2131 q2133 qs40 q103 q2134) rfl rfl rfl (by decide +kernel) ⟨Nat.le_trans (Nat.le_of_ble_eq_true rfl) hR.1, Nat.le_trans (Nat.le_of_ble_eq_true rfl) hR.2⟩) hP hS rfl hl.1 rfl (Nat.le_of_ble_eq_true rfl) dX3_step_1 (fun H locs hP hS => ?_)
  refine lv_aload_n hx hb dX3_step_4 rfl (lv_at hl 0 rfl) ?_
  refine lv_iload_n hx hb dX3_step_5 rfl (lv_at hl 1 rfl) ?_
  obtain ⟨r5, σ3, c4, h⟩ := mcall_n h
  refine m_calli (As := [.int x1]) (rest := []) hC (met_isCell l N E H.size σ1 x1 r5 σ3 c4) (cwV 1 hts (lw_V q2276 q2278 qs60 q103 q2279) rfl rfl rfl (by decide +kernel) ⟨Nat.le_trans (Nat.le_of_ble_eq_true rfl) hR.1, Nat.le_trans (Nat.le_of_ble_eq_true rfl) hR.2⟩) hP hS rfl hl.1 rfl (Nat.le_of_ble_eq_true rfl) dX3_step_6 (fun H locs hP hS => ?_)
  refine lv_if_eq (tgt := 39) hx hb dX3_step_9 (by decide) (fun c6 => ?_) (fun c6 => ?_)
  · have h := mif_t c6 h
    exact w_step_39 hC hR N σ3 h hP hS (lv_sub hl [0] rfl)
  · have h := mif_f c6 h
    refine lv_iload_n hx hb dX3_step_12 rfl (lv_at hl 2 rfl) ?_
    refine lv_iconst (v := 0) hx hb dX3_step_13 (by decide) ?_
    refine lv_iconst (v := 3) hx hb dX3_step_14 (by decide) ?_
    obtain ⟨r9, σ7, c8, h⟩ := mcall_n h
    refine m_callsi (As := [.int x2, .int 0, .int 3]) (rest := []) hC (met_within l N E H.size σ3 x2 0 3 r9 σ7 c8) (va_cwS 3 hts (lw_S q2135 q2136 q103 q2137) rfl rfl rfl (by decide +kernel) ⟨Nat.le_trans (Nat.le_of_ble_eq_true rfl) hR.1, Nat.le_trans (Nat.le_of_ble_eq_true rfl) hR.2⟩) hP hS rfl hl.1 rfl (Nat.le_of_ble_eq_true rfl) dX3_step_15 (fun H locs hP hS => ?_)
    refine lv_if_eq (tgt := 39) hx hb dX3_step_18 (by decide) (fun c10 => ?_) (fun c10 => ?_)
    · have h := mif_t c10 h
      exact w_step_39 hC hR N σ7 h hP hS (lv_sub hl [0] rfl)
    · have h := mif_f c10 h
      refine lv_aload_n hx hb dX3_step_21 rfl (lv_at hl 0 rfl) ?_
      refine lv_iload_n hx hb dX3_step_22 rfl (lv_at hl 3 rfl) ?_
      obtain ⟨r13, σ11, c12, h⟩ := mcall_n h
      refine m_calli (As := [.int x3]) (rest := []) hC (met_isGround l N E H.size σ7 x3 r13 σ11 c12) (cwV 1 hts (lw_V q2246 q2248 qs58 q103 q2249) rfl rfl rfl (by decide +kernel) ⟨Nat.le_trans (Nat.le_of_ble_eq_true rfl) hR.1, Nat.le_trans (Nat.le_of_ble_eq_true rfl) hR.2⟩) hP hS rfl hl.1 rfl (Nat.le_of_ble_eq_true rfl) dX3_step_23 (fun H locs hP hS => ?_)
      refine lv_if_eq (tgt := 39) hx hb dX3_step_26 (by decide) (fun c14 => ?_) (fun c14 => ?_)
      · have h := mif_t c14 h
        exact w_step_39 hC hR N σ11 h hP hS (lv_sub hl [0] rfl)
      · have h := mif_f c14 h
        refine lv_iload hx hb dX3_step_29 (lv_at hl 4 rfl) ?_
        refine lv_iconst (v := 0) hx hb dX3_step_31 (by decide) ?_
        refine lv_iconst (v := 3) hx hb dX3_step_32 (by decide) ?_
        obtain ⟨r17, σ15, c16, h⟩ := mcall_n h
        refine m_callsi (As := [.int x4, .int 0, .int 3]) (rest := []) hC (met_within l N E H.size σ11 x4 0 3 r17 σ15 c16) (va_cwS 3 hts (lw_S q2135 q2136 q103 q2137) rfl rfl rfl (by decide +kernel) ⟨Nat.le_trans (Nat.le_of_ble_eq_true rfl) hR.1, Nat.le_trans (Nat.le_of_ble_eq_true rfl) hR.2⟩) hP hS rfl hl.1 rfl (Nat.le_of_ble_eq_true rfl) dX3_step_33 (fun H locs hP hS => ?_)
        refine lv_if_ne (tgt := 45) hx hb dX3_step_36 (by decide) (fun c18 => ?_) (fun c18 => ?_)
        · have h := mif_f c18 h
          refine lv_aload_n hx hb dX3_step_45 rfl (lv_at hl 0 rfl) ?_
          refine lv_iload_n hx hb dX3_step_46 rfl (lv_at hl 1 rfl) ?_
          refine lv_iload_n hx hb dX3_step_47 rfl (lv_at hl 2 rfl) ?_
          refine lv_iload_n hx hb dX3_step_48 rfl (lv_at hl 3 rfl) ?_
          obtain ⟨r21, σ19, c20, h⟩ := mcall_n h
          refine m_calli (As := [.int x1, .int x2, .int x3]) (rest := []) hC (met_barred l N E H.size σ15 x1 x2 x3 r21 σ19 c20) (cwV 3 hts (lw_V q2312 q2314 qs62 q103 q2315) rfl rfl rfl (by decide +kernel) ⟨Nat.le_trans (Nat.le_of_ble_eq_true rfl) hR.1, Nat.le_trans (Nat.le_of_ble_eq_true rfl) hR.2⟩) hP hS rfl hl.1 rfl (Nat.le_of_ble_eq_true rfl) dX3_step_49 (fun H locs hP hS => ?_)
          refine lv_istore (lv' := [(5, .int r21), (0, .ref (mh E)), (1, .int x1), (2, .int x2), (3, .int x3), (4, .int x4)]) hx hb dX3_step_52 hl (by decide) rfl (fun ls hl => ?_)
          refine lv_iload hx hb dX3_step_54 (lv_at hl 5 rfl) ?_
          refine lv_if_ne (tgt := 62) hx hb dX3_step_56 (by decide) (fun c22 => ?_) (fun c22 => ?_)
          · have h := mif_f c22 h
            refine lv_iload hx hb dX3_step_62 (lv_at hl 0 rfl) ?_
            refine lv_if_le (tgt := 70) hx hb dX3_step_64 (by decide) (fun c23 => ?_) (fun c23 => ?_)
            · have h := mif_t c23 h
              refine lv_aload_n hx hb dX3_step_70 rfl (lv_at hl 1 rfl) ?_
              refine lv_aload_n hx hb dX3_step_71 rfl (lv_at hl 1 rfl) ?_
              refine m_geta hC hP 41 (by decide) rfl q1934 dX3_step_72 ?_
              refine lv_aload_n hx hb dX3_step_75 rfl (lv_at hl 1 rfl) ?_
              refine lv_iload_n hx hb dX3_step_76 rfl (lv_at hl 2 rfl) ?_
              refine lv_iload_n hx hb dX3_step_77 rfl (lv_at hl 3 rfl) ?_
              obtain ⟨r26, σ24, c25, h⟩ := mcall_n h
              refine m_calli (As := [.int x1, .int x2]) (rest := [.ref (mad E 41), .ref (mh E)]) hC (met_beside l N E H.size σ19 x1 x2 r26 σ24 c25) (cwV 2 hts (lw_V q2316 q2318 qs63 q103 q2319) rfl rfl rfl (by decide +kernel) ⟨Nat.le_trans (Nat.le_of_ble_eq_true rfl) hR.1, Nat.le_trans (Nat.le_of_ble_eq_true rfl) hR.2⟩) hP hS rfl hl.1 rfl (Nat.le_of_ble_eq_true rfl) dX3_step_78 (fun H locs hP hS => ?_)
              obtain ⟨c27, h⟩ := mif_n h
              refine m_ald hC hP 41 rfl c27 dX3_step_81 ?_
              refine lv_topi (fun y28 ey28 => ?_)
              have h := mlet_at ey28 h
              refine lv_aload_n hx hb dX3_step_82 rfl (lv_at hl 1 rfl) ?_
              refine m_geta hC hP 41 (by decide) rfl q1934 dX3_step_83 ?_
              refine lv_iload_n hx hb dX3_step_86 rfl (lv_at hl 2 rfl) ?_
              obtain ⟨c29, h⟩ := mif_n h
              refine m_ald hC hP 41 rfl c29 dX3_step_87 ?_
              refine lv_topi (fun y30 ey30 => ?_)
              have h := mlet_at ey30 h
              refine lv_isub hx hb dX3_step_88 ?_
              refine lv_iload_n hx hb dX3_step_89 rfl (lv_at hl 4 rfl) ?_
              obtain ⟨r33, σ31, c32, h⟩ := mcall_n h
              refine m_calli (As := [.int (y28 - y30), .int x3]) (rest := []) hC (met_need l N E H.size σ24 (y28 - y30) x3 r33 σ31 c32) (cwV 2 hts (lw_V q2320 q2322 qs64 q103 q2323) rfl rfl rfl (by decide +kernel) ⟨Nat.le_trans (Nat.le_of_ble_eq_true rfl) hR.1, Nat.le_trans (Nat.le_of_ble_eq_true rfl) hR.2⟩) hP hS rfl hl.1 rfl (Nat.le_of_ble_eq_true rfl) dX3_step_90 (fun H locs hP hS => ?_)
              refine lv_istore (lv' := [(6, .int r33), (5, .int r21), (0, .ref (mh E)), (1, .int x1), (2, .int x2), (3, .int x3), (4, .int x4)]) hx hb dX3_step_93 hl (by decide) rfl (fun ls hl => ?_)
              refine lv_iload hx hb dX3_step_95 (lv_at hl 6 rfl) ?_
              refine lv_iconst (v := 1) hx hb dX3_step_97 (by decide) ?_
              refine lv_icmp_ne (tgt := 106) hx hb dX3_step_98 (by decide) (fun c34 => ?_) (fun c34 => ?_)
              · have h := mif_f c34 h
                refine lv_iload hx hb dX3_step_106 (lv_at hl 6 rfl) ?_
                refine lv_iconst (v := 2) hx hb dX3_step_108 (by decide) ?_
                refine lv_icmp_ne (tgt := 122) hx hb dX3_step_109 (by decide) (fun c35 => ?_) (fun c35 => ?_)
                · have h := mif_f c35 h
                  refine lv_aload_n hx hb dX3_step_122 rfl (lv_at hl 2 rfl) ?_
                  refine lv_iload_n hx hb dX3_step_123 rfl (lv_at hl 3 rfl) ?_
                  refine lv_iload_n hx hb dX3_step_124 rfl (lv_at hl 4 rfl) ?_
                  refine lv_iload_n hx hb dX3_step_125 rfl (lv_at hl 5 rfl) ?_
                  obtain ⟨r38, σ36, c37, h⟩ := mcall_n h
                  refine m_calli (As := [.int x1, .int x2, .int x3]) (rest := []) hC (met_cost l N E H.size σ31 x1 x2 x3 r38 σ36 c37) (cwV 3 hts (lw_V q2328 q2330 qs66 q103 q2331) rfl rfl rfl (by decide +kernel) ⟨Nat.le_trans (Nat.le_of_ble_eq_true rfl) hR.1, Nat.le_trans (Nat.le_of_ble_eq_true rfl) hR.2⟩) hP hS rfl hl.1 rfl (Nat.le_of_ble_eq_true rfl) dX3_step_126 (fun H locs hP hS => ?_)
                  exact w_step_129 hC hR N σ36 r38 h hP hS (lv_sub hl [] rfl)
                · have h := mif_t c35 h
                  refine lv_aload_n hx hb dX3_step_112 rfl (lv_at hl 2 rfl) ?_
                  refine lv_iload hx hb dX3_step_113 (lv_at hl 0 rfl) ?_
                  refine lv_iload_n hx hb dX3_step_115 rfl (lv_at hl 5 rfl) ?_
                  obtain ⟨r41, σ39, c40, h⟩ := mcall_n h
                  refine m_calli (As := [.int r33, .int x3]) (rest := []) hC (met_slip l N E H.size σ31 r33 x3 r41 σ39 c40) (cwV 2 hts (lw_V q2324 q2326 qs65 q103 q2327) rfl rfl rfl (by decide +kernel) ⟨Nat.le_trans (Nat.le_of_ble_eq_true rfl) hR.1, Nat.le_trans (Nat.le_of_ble_eq_true rfl) hR.2⟩) hP hS rfl hl.1 rfl (Nat.le_of_ble_eq_true rfl) dX3_step_116 (fun H locs hP hS => ?_)
                  refine lv_goto (tgt := 129) hx hb dX3_step_119 (by decide) ?_
                  exact w_step_129 hC hR N σ39 r41 h hP hS (lv_sub hl [] rfl)
              · have h := mif_t c34 h
                refine lv_iload hx hb dX3_step_101 (lv_at hl 0 rfl) ?_
                refine lv_goto (tgt := 129) hx hb dX3_step_103 (by decide) ?_
                exact w_step_129 hC hR N σ31 r33 h hP hS (lv_sub hl [] rfl)
            · have h := mif_f c23 h
              refine lv_bipush (v := (-2)) hx hb dX3_step_67 (by decide) ?_
              cases h
              exact m_iret hC hP hS dX3_step_69
          · have h := mif_t c22 h
            refine lv_iload hx hb dX3_step_59 (lv_at hl 0 rfl) ?_
            cases h
            exact m_iret hC hP hS dX3_step_61
        · have h := mif_t c18 h
          exact w_step_39 hC hR N σ15 h hP hS (lv_sub hl [0] rfl)
theorem met_step (l : Launch) (N : Nat) (E : mE) (sz : Nat) (σ : MS) (x1 : Int32) (x2 : Int32) (x3 : Int32) (x4 : Int32) (r : Int32) (σ' : MS) (h : f_step N σ x1 x2 x3 x4 = some (r, σ')) : Met l yX3_step (ws_ yX3_step cX3_step 7 (some .int)) ({ frames := 4, cells := 0, slots := 0, locals := 100 }) (mPc E sz σ [.ref (mh E), .int x1, .int x2, .int x3, .int x4]) (mQi E sz r σ') 0 0 (mA E sz) :=
  m_met (Qc := fun z => mQi E z r σ') (by decide) rfl (Nat.le_of_ble_eq_true rfl) (fun hC ls hl hP => w_step_0 hC ⟨Nat.le_refl _, Nat.le_refl _⟩ N σ x1 x2 x3 x4 h hP va_S.rf hl)
def f_lists_68 (N : Nat) (k2 : MS → Int32 → Option (MS)) (k19 : MS → Int32 → Int32 → Option (MS)) (σ : MS) (x1 : Int32) (x2 : Int32) : Option (MS) :=
    mlet (x2 + 1) fun y1 =>
    k19 σ x1 y1
set_option maxHeartbeats 4000000 in
set_option maxRecDepth 100000 in
theorem w_lists_68 {p : Program} {l : Launch} {e : Env} {R : Room} {s : State} {m : MethodId} {args : Array Value} {below : List Frame} {meth : Method} {c : Code} {E : mE} {σ' : MS} (hC : mC p s m args meth c E cX3_lists 3 none) (hR : 0 ≤ R.frames ∧ 0 ≤ R.locals) (N : Nat) (k2 : MS → Int32 → Option (MS)) (hk2 : ∀ (σ : MS) (x1 : Int32), k2 σ x1 = some σ' → ∀ (H : Heap) (locs : List Loc), mP E σ H → va_S (mA E s.heap.size) s.heap H locs → ∀ ls : Array Slot, lv_has ls 3 [(0, .ref (mh E)), (1, .int x1)] → W p l e R s m args below meth c H locs 0 0 (MQ below (mQv E s.heap.size σ') args s 0 0 (mA E s.heap.size)) (F0 m 2 ls [])) (k19 : MS → Int32 → Int32 → Option (MS)) (hk19 : ∀ (σ : MS) (x1 : Int32) (x2 : Int32), k19 σ x1 x2 = some σ' → ∀ (H : Heap) (locs : List Loc), mP E σ H → va_S (mA E s.heap.size) s.heap H locs → ∀ ls : Array Slot, lv_has ls 3 [(0, .ref (mh E)), (1, .int x1), (2, .int x2)] → W p l e R s m args below meth c H locs 0 0 (MQ below (mQv E s.heap.size σ') args s 0 0 (mA E s.heap.size)) (F0 m 19 ls [])) (σ : MS) (x1 : Int32) (x2 : Int32) (h : f_lists_68 N k2 k19 σ x1 x2 = some σ') {H : Heap} {locs : List Loc} (hP : mP E σ H) (hS : va_S (mA E s.heap.size) s.heap H locs) {ls : Array Slot} (hl : lv_has ls 3 [(0, .ref (mh E)), (1, .int x1), (2, .int x2)]) : W p l e R s m args below meth c H locs 0 0 (MQ below (mQv E s.heap.size σ') args s 0 0 (mA E s.heap.size)) (F0 m 68 ls []) := by
  obtain ⟨⟨hx, hb, hml, hown, hts⟩, hK, hD, hr, hlk⟩ := id hC
  unfold f_lists_68 at h
  obtain ⟨y1, ey1⟩ : ∃ z : Int32, z = x2 + 1 := ⟨_, rfl⟩
  have h := mlet_at ey1 h
  refine lv_iinc (v := y1) (lv' := [(2, .int y1), (0, .ref (mh E)), (1, .int x1)]) hx hb dX3_lists_68 hl (k := 2) rfl (by rw [ey1]; rfl) (by decide) rfl (fun ls hl => ?_)
  refine lv_goto (tgt := 19) hx hb dX3_lists_71 (by decide) ?_
  exact hk19 σ x1 y1 h _ _ hP hS _ (lv_sub hl [1, 2, 0] rfl)
def f_lists_19 (N : Nat) (k2 : MS → Int32 → Option (MS)) : Nat → MS → Int32 → Int32 → Option (MS)
  | 0, _, _, _ => none
  | n + 1, σ, x1, x2 =>
    if 8 ≤ x2 then
    mlet (x1 + 1) fun y2 =>
    k2 σ y2
    else
    if mIn ((8 * x1) + x2) (mLen 46) = true then mlet (σ.2.1 46 ((8 * x1) + x2).toNatClampNeg) fun y4 =>
    if y4 = 0 then
    f_lists_68 N k2 (f_lists_19 N k2 n) σ x1 x2
    else
    if mIn x1 (mLen 53) = true then mlet (σ.2.1 53 x1.toNatClampNeg) fun y7 =>
    if mIn ((4 * x1) + y7) (mLen 52) = true then mlet (mArr σ 52 ((4 * x1) + y7).toNatClampNeg x2) fun σ9 =>
    if mIn x1 (mLen 53) = true then mlet (σ9.2.1 53 x1.toNatClampNeg) fun y11 =>
    if mIn x1 (mLen 53) = true then mlet (mArr σ9 53 x1.toNatClampNeg (y11 + 1)) fun σ13 =>
    f_lists_68 N k2 (f_lists_19 N k2 n) σ13 x1 x2
    else none
    else none
    else none
    else none
    else none
set_option maxHeartbeats 4000000 in
set_option maxRecDepth 100000 in
theorem w_lists_19 {p : Program} {l : Launch} {e : Env} {R : Room} {s : State} {m : MethodId} {args : Array Value} {below : List Frame} {meth : Method} {c : Code} {E : mE} {σ' : MS} (hC : mC p s m args meth c E cX3_lists 3 none) (hR : 0 ≤ R.frames ∧ 0 ≤ R.locals) (N : Nat) (k2 : MS → Int32 → Option (MS)) (hk2 : ∀ (σ : MS) (x1 : Int32), k2 σ x1 = some σ' → ∀ (H : Heap) (locs : List Loc), mP E σ H → va_S (mA E s.heap.size) s.heap H locs → ∀ ls : Array Slot, lv_has ls 3 [(0, .ref (mh E)), (1, .int x1)] → W p l e R s m args below meth c H locs 0 0 (MQ below (mQv E s.heap.size σ') args s 0 0 (mA E s.heap.size)) (F0 m 2 ls [])) : ∀ (n : Nat) (σ : MS) (x1 : Int32) (x2 : Int32), f_lists_19 N k2 n σ x1 x2 = some σ' → ∀ (H : Heap) (locs : List Loc), mP E σ H → va_S (mA E s.heap.size) s.heap H locs → ∀ ls : Array Slot, lv_has ls 3 [(0, .ref (mh E)), (1, .int x1), (2, .int x2)] → W p l e R s m args below meth c H locs 0 0 (MQ below (mQv E s.heap.size σ') args s 0 0 (mA E s.heap.size)) (F0 m 19 ls []) := by
  obtain ⟨⟨hx, hb, hml, hown, hts⟩, hK, hD, hr, hlk⟩ := id hC
  intro n
  induction n with
  | zero =>
    intro σ x1 x2 h
    cases h
  | succ n ih =>
    intro σ x1 x2 h H locs hP hS ls hl
    unfold f_lists_19 at h
    refine lv_iload_n hx hb dX3_lists_19 rfl (lv_at hl 2 rfl) ?_
    refine lv_bipush (v := 8) hx hb dX3_lists_20 (by decide) ?_
    refine lv_icmp_ge (tgt := 74) hx hb dX3_lists_22 (by decide) (fun c1 => ?_) (fun c1 => ?_)
    · have h := mif_t c1 h
      obtain ⟨y2, ey2⟩ : ∃ z : Int32, z = x1 + 1 := ⟨_, rfl⟩
      have h := mlet_at ey2 h
      refine lv_iinc (v := y2) (lv' := [(1, .int y2), (0, .ref (mh E)), (2, .int x2)]) hx hb dX3_lists_74 hl (k := 1) rfl (by rw [ey2]; rfl) (by decide) rfl (fun ls hl => ?_)
      refine lv_goto (tgt := 2) hx hb dX3_lists_77 (by decide) ?_
      exact hk2 σ y2 h _ _ hP hS _ (lv_sub hl [1, 0] rfl)
    · have h := mif_f c1 h
      refine lv_aload_n hx hb dX3_lists_25 rfl (lv_at hl 0 rfl) ?_
      refine m_geta hC hP 46 (by decide) rfl q1939 dX3_lists_26 ?_
      refine lv_bipush (v := 8) hx hb dX3_lists_29 (by decide) ?_
      refine lv_iload_n hx hb dX3_lists_31 rfl (lv_at hl 1 rfl) ?_
      refine lv_imul hx hb dX3_lists_32 ?_
      refine lv_iload_n hx hb dX3_lists_33 rfl (lv_at hl 2 rfl) ?_
      refine lv_iadd hx hb dX3_lists_34 ?_
      obtain ⟨c3, h⟩ := mif_n h
      refine m_ald hC hP 46 rfl c3 dX3_lists_35 ?_
      refine lv_topi (fun y4 ey4 => ?_)
      have h := mlet_at ey4 h
      refine lv_if_ne (tgt := 42) hx hb dX3_lists_36 (by decide) (fun c5 => ?_) (fun c5 => ?_)
      · have h := mif_f c5 h
        refine lv_aload_n hx hb dX3_lists_42 rfl (lv_at hl 0 rfl) ?_
        refine m_geta hC hP 52 (by decide) rfl q1945 dX3_lists_43 ?_
        refine lv_iconst (v := 4) hx hb dX3_lists_46 (by decide) ?_
        refine lv_iload_n hx hb dX3_lists_47 rfl (lv_at hl 1 rfl) ?_
        refine lv_imul hx hb dX3_lists_48 ?_
        refine lv_aload_n hx hb dX3_lists_49 rfl (lv_at hl 0 rfl) ?_
        refine m_geta hC hP 53 (by decide) rfl q1946 dX3_lists_50 ?_
        refine lv_iload_n hx hb dX3_lists_53 rfl (lv_at hl 1 rfl) ?_
        obtain ⟨c6, h⟩ := mif_n h
        refine m_ald hC hP 53 rfl c6 dX3_lists_54 ?_
        refine lv_topi (fun y7 ey7 => ?_)
        have h := mlet_at ey7 h
        refine lv_iadd hx hb dX3_lists_55 ?_
        refine lv_iload_n hx hb dX3_lists_56 rfl (lv_at hl 2 rfl) ?_
        obtain ⟨c8, h⟩ := mif_n h
        refine m_ast hC hP hS 52 rfl c8 dX3_lists_57 (fun H locs hP hS => ?_)
        obtain ⟨σ9, eσ9⟩ : ∃ z : MS, z = mArr σ 52 ((4 * x1) + y7).toNatClampNeg x2 := ⟨_, rfl⟩
        rw [← eσ9] at hP
        have h := mlet_at eσ9 h
        refine lv_aload_n hx hb dX3_lists_58 rfl (lv_at hl 0 rfl) ?_
        refine m_geta hC hP 53 (by decide) rfl q1946 dX3_lists_59 ?_
        refine lv_iload_n hx hb dX3_lists_62 rfl (lv_at hl 1 rfl) ?_
        refine lv_dup2_11 hx hb dX3_lists_63 rfl rfl ?_
        obtain ⟨c10, h⟩ := mif_n h
        refine m_ald hC hP 53 rfl c10 dX3_lists_64 ?_
        refine lv_topi (fun y11 ey11 => ?_)
        have h := mlet_at ey11 h
        refine lv_iconst (v := 1) hx hb dX3_lists_65 (by decide) ?_
        refine lv_iadd hx hb dX3_lists_66 ?_
        obtain ⟨c12, h⟩ := mif_n h
        refine m_ast hC hP hS 53 rfl c12 dX3_lists_67 (fun H locs hP hS => ?_)
        obtain ⟨σ13, eσ13⟩ : ∃ z : MS, z = mArr σ9 53 x1.toNatClampNeg (y11 + 1) := ⟨_, rfl⟩
        rw [← eσ13] at hP
        have h := mlet_at eσ13 h
        exact w_lists_68 hC hR N k2 hk2 (f_lists_19 N k2 n) ih σ13 x1 x2 h hP hS (lv_sub hl [0, 1, 2] rfl)
      · have h := mif_t c5 h
        refine lv_goto (tgt := 68) hx hb dX3_lists_39 (by decide) ?_
        exact w_lists_68 hC hR N k2 hk2 (f_lists_19 N k2 n) ih σ x1 x2 h hP hS (lv_sub hl [0, 1, 2] rfl)
def f_lists_2 (N : Nat) : Nat → MS → Int32 → Option (MS)
  | 0, _, _ => none
  | n + 1, σ, x1 =>
    if (σ.1 37) ≤ x1 then
    some σ
    else
    if mIn x1 (mLen 53) = true then mlet (mArr σ 53 x1.toNatClampNeg 0) fun σ3 =>
    f_lists_19 N (f_lists_2 N n) N σ3 x1 0
    else none
set_option maxHeartbeats 4000000 in
set_option maxRecDepth 100000 in
theorem w_lists_2 {p : Program} {l : Launch} {e : Env} {R : Room} {s : State} {m : MethodId} {args : Array Value} {below : List Frame} {meth : Method} {c : Code} {E : mE} {σ' : MS} (hC : mC p s m args meth c E cX3_lists 3 none) (hR : 0 ≤ R.frames ∧ 0 ≤ R.locals) (N : Nat) : ∀ (n : Nat) (σ : MS) (x1 : Int32), f_lists_2 N n σ x1 = some σ' → ∀ (H : Heap) (locs : List Loc), mP E σ H → va_S (mA E s.heap.size) s.heap H locs → ∀ ls : Array Slot, lv_has ls 3 [(0, .ref (mh E)), (1, .int x1)] → W p l e R s m args below meth c H locs 0 0 (MQ below (mQv E s.heap.size σ') args s 0 0 (mA E s.heap.size)) (F0 m 2 ls []) := by
  obtain ⟨⟨hx, hb, hml, hown, hts⟩, hK, hD, hr, hlk⟩ := id hC
  intro n
  induction n with
  | zero =>
    intro σ x1 h
    cases h
  | succ n ih =>
    intro σ x1 h H locs hP hS ls hl
    unfold f_lists_2 at h
    refine lv_iload_n hx hb dX3_lists_2 rfl (lv_at hl 1 rfl) ?_
    refine lv_aload_n hx hb dX3_lists_3 rfl (lv_at hl 0 rfl) ?_
    refine m_geti hC hP 37 (by decide) rfl q1930 dX3_lists_4 ?_
    refine lv_icmp_ge (tgt := 80) hx hb dX3_lists_7 (by decide) (fun c1 => ?_) (fun c1 => ?_)
    · have h := mif_t c1 h
      cases h
      exact m_vret hC hP hS dX3_lists_80
    · have h := mif_f c1 h
      refine lv_aload_n hx hb dX3_lists_10 rfl (lv_at hl 0 rfl) ?_
      refine m_geta hC hP 53 (by decide) rfl q1946 dX3_lists_11 ?_
      refine lv_iload_n hx hb dX3_lists_14 rfl (lv_at hl 1 rfl) ?_
      refine lv_iconst (v := 0) hx hb dX3_lists_15 (by decide) ?_
      obtain ⟨c2, h⟩ := mif_n h
      refine m_ast hC hP hS 53 rfl c2 dX3_lists_16 (fun H locs hP hS => ?_)
      obtain ⟨σ3, eσ3⟩ : ∃ z : MS, z = mArr σ 53 x1.toNatClampNeg 0 := ⟨_, rfl⟩
      rw [← eσ3] at hP
      have h := mlet_at eσ3 h
      refine lv_iconst (v := 0) hx hb dX3_lists_17 (by decide) ?_
      refine lv_istore_n (lv' := [(2, .int 0), (0, .ref (mh E)), (1, .int x1)]) hx hb dX3_lists_18 rfl hl (by decide) rfl (fun ls hl => ?_)
      exact w_lists_19 hC hR N (f_lists_2 N n) ih N σ3 x1 0 h _ _ hP hS _ (lv_sub hl [1, 2, 0] rfl)
def f_lists (N : Nat) (σ : MS) : Option (MS) :=
    f_lists_2 N N σ 0
set_option maxHeartbeats 4000000 in
set_option maxRecDepth 100000 in
theorem w_lists_0 {p : Program} {l : Launch} {e : Env} {R : Room} {s : State} {m : MethodId} {args : Array Value} {below : List Frame} {meth : Method} {c : Code} {E : mE} {σ' : MS} (hC : mC p s m args meth c E cX3_lists 3 none) (hR : 0 ≤ R.frames ∧ 0 ≤ R.locals) (N : Nat) (σ : MS) (h : f_lists N σ = some σ') {H : Heap} {locs : List Loc} (hP : mP E σ H) (hS : va_S (mA E s.heap.size) s.heap H locs) {ls : Array Slot} (hl : lv_has ls 3 [(0, .ref (mh E))]) : W p l e R s m args below meth c H locs 0 0 (MQ below (mQv E s.heap.size σ') args s 0 0 (mA E s.heap.size)) (F0 m 0 ls []) := by
  obtain ⟨⟨hx, hb, hml, hown, hts⟩, hK, hD, hr, hlk⟩ := id hC
  unfold f_lists at h
  refine lv_iconst (v := 0) hx hb dX3_lists_0 (by decide) ?_
  refine lv_istore_n (lv' := [(1, .int 0), (0, .ref (mh E))]) hx hb dX3_lists_1 rfl hl (by decide) rfl (fun ls hl => ?_)
  exact w_lists_2 hC hR N N σ 0 h _ _ hP hS _ (lv_sub hl [1, 0] rfl)
theorem met_lists (l : Launch) (N : Nat) (E : mE) (sz : Nat) (σ : MS) (σ' : MS) (h : f_lists N σ = some σ') : Met l yX3_lists (ws_ yX3_lists cX3_lists 3 none) ({ frames := 0, cells := 0, slots := 0, locals := 0 }) (mPc E sz σ [.ref (mh E)]) (mQv E sz σ') 0 0 (mA E sz) :=
  m_met (Qc := fun z => mQv E z σ') (by decide) rfl (Nat.le_of_ble_eq_true rfl) (fun hC ls hl hP => w_lists_0 hC ⟨Nat.le_refl _, Nat.le_refl _⟩ N σ h hP va_S.rf hl)
def f_isNear_48 (N : Nat) (k17 : MS → Int32 → Int32 → Int32 → Int32 → Option (Int32 × MS)) (σ : MS) (x1 : Int32) (x2 : Int32) (x4 : Int32) (s0 : Int32) : Option (Int32 × MS) :=
    mlet (x4 + 1) fun y1 =>
    k17 σ x1 x2 s0 y1
set_option maxHeartbeats 4000000 in
set_option maxRecDepth 100000 in
theorem w_isNear_48 {p : Program} {l : Launch} {e : Env} {R : Room} {s : State} {m : MethodId} {args : Array Value} {below : List Frame} {meth : Method} {c : Code} {E : mE} {σ' : MS} {r : Int32} (hC : mC p s m args meth c E cX3_isNear 5 (some .boolean)) (hR : 2 ≤ R.frames ∧ 46 ≤ R.locals) (N : Nat) (k17 : MS → Int32 → Int32 → Int32 → Int32 → Option (Int32 × MS)) (hk17 : ∀ (σ : MS) (x1 : Int32) (x2 : Int32) (x3 : Int32) (x4 : Int32), k17 σ x1 x2 x3 x4 = some (r, σ') → ∀ (H : Heap) (locs : List Loc), mP E σ H → va_S (mA E s.heap.size) s.heap H locs → ∀ ls : Array Slot, lv_has ls 5 [(0, .ref (mh E)), (1, .int x1), (2, .int x2), (3, .int x3), (4, .int x4)] → W p l e R s m args below meth c H locs 0 0 (MQ below (mQi E s.heap.size r σ') args s 0 0 (mA E s.heap.size)) (F0 m 17 ls [])) (σ : MS) (x1 : Int32) (x2 : Int32) (x4 : Int32) (s0 : Int32) (h : f_isNear_48 N k17 σ x1 x2 x4 s0 = some (r, σ')) {H : Heap} {locs : List Loc} (hP : mP E σ H) (hS : va_S (mA E s.heap.size) s.heap H locs) {ls : Array Slot} (hl : lv_has ls 5 [(0, .ref (mh E)), (1, .int x1), (2, .int x2), (4, .int x4)]) : W p l e R s m args below meth c H locs 0 0 (MQ below (mQi E s.heap.size r σ') args s 0 0 (mA E s.heap.size)) (F0 m 48 ls [.int s0]) := by
  obtain ⟨⟨hx, hb, hml, hown, hts⟩, hK, hD, hr, hlk⟩ := id hC
  unfold f_isNear_48 at h
  refine lv_istore_n (lv' := [(3, .int s0), (0, .ref (mh E)), (1, .int x1), (2, .int x2), (4, .int x4)]) hx hb dX3_isNear_48 rfl hl (by decide) rfl (fun ls hl => ?_)
  obtain ⟨y1, ey1⟩ : ∃ z : Int32, z = x4 + 1 := ⟨_, rfl⟩
  have h := mlet_at ey1 h
  refine lv_iinc (v := y1) (lv' := [(4, .int y1), (3, .int s0), (0, .ref (mh E)), (1, .int x1), (2, .int x2)]) hx hb dX3_isNear_49 hl (k := 4) rfl (by rw [ey1]; rfl) (by decide) rfl (fun ls hl => ?_)
  refine lv_goto (tgt := 17) hx hb dX3_isNear_52 (by decide) ?_
  exact hk17 σ x1 x2 s0 y1 h _ _ hP hS _ (lv_sub hl [2, 3, 4, 1, 0] rfl)
def f_isNear_43 (N : Nat) (k17 : MS → Int32 → Int32 → Int32 → Int32 → Option (Int32 × MS)) (σ : MS) (x1 : Int32) (x2 : Int32) (x4 : Int32) : Option (Int32 × MS) :=
    f_isNear_48 N k17 σ x1 x2 x4 1
set_option maxHeartbeats 4000000 in
set_option maxRecDepth 100000 in
theorem w_isNear_43 {p : Program} {l : Launch} {e : Env} {R : Room} {s : State} {m : MethodId} {args : Array Value} {below : List Frame} {meth : Method} {c : Code} {E : mE} {σ' : MS} {r : Int32} (hC : mC p s m args meth c E cX3_isNear 5 (some .boolean)) (hR : 2 ≤ R.frames ∧ 46 ≤ R.locals) (N : Nat) (k17 : MS → Int32 → Int32 → Int32 → Int32 → Option (Int32 × MS)) (hk17 : ∀ (σ : MS) (x1 : Int32) (x2 : Int32) (x3 : Int32) (x4 : Int32), k17 σ x1 x2 x3 x4 = some (r, σ') → ∀ (H : Heap) (locs : List Loc), mP E σ H → va_S (mA E s.heap.size) s.heap H locs → ∀ ls : Array Slot, lv_has ls 5 [(0, .ref (mh E)), (1, .int x1), (2, .int x2), (3, .int x3), (4, .int x4)] → W p l e R s m args below meth c H locs 0 0 (MQ below (mQi E s.heap.size r σ') args s 0 0 (mA E s.heap.size)) (F0 m 17 ls [])) (σ : MS) (x1 : Int32) (x2 : Int32) (x4 : Int32) (h : f_isNear_43 N k17 σ x1 x2 x4 = some (r, σ')) {H : Heap} {locs : List Loc} (hP : mP E σ H) (hS : va_S (mA E s.heap.size) s.heap H locs) {ls : Array Slot} (hl : lv_has ls 5 [(0, .ref (mh E)), (1, .int x1), (2, .int x2), (4, .int x4)]) : W p l e R s m args below meth c H locs 0 0 (MQ below (mQi E s.heap.size r σ') args s 0 0 (mA E s.heap.size)) (F0 m 43 ls []) := by
  obtain ⟨⟨hx, hb, hml, hown, hts⟩, hK, hD, hr, hlk⟩ := id hC
  unfold f_isNear_43 at h
  refine lv_iconst (v := 1) hx hb dX3_isNear_43 (by decide) ?_
  refine lv_goto (tgt := 48) hx hb dX3_isNear_44 (by decide) ?_
  exact w_isNear_48 hC hR N k17 hk17 σ x1 x2 x4 1 h hP hS (lv_sub hl [0, 1, 2, 3] rfl)
def f_isNear_17 (N : Nat) : Nat → MS → Int32 → Int32 → Int32 → Int32 → Option (Int32 × MS)
  | 0, _, _, _, _, _ => none
  | n + 1, σ, x1, x2, x3, x4 =>
    if 4 ≤ x4 then
    if mBit x3 = true then
    some (x3, σ)
    else none
    else
    if x3 = 0 then
    mcall (f_beside N σ x1 x4) fun r6 σ4 =>
    if mIn x2 (mLen 44) = true then mlet (σ4.2.1 44 x2.toNatClampNeg) fun y8 =>
    if r6 = y8 then
    f_isNear_43 N (f_isNear_17 N n) σ4 x1 x2 x4
    else
    f_isNear_48 N (f_isNear_17 N n) σ4 x1 x2 x4 0
    else none
    else
    f_isNear_43 N (f_isNear_17 N n) σ x1 x2 x4
set_option maxHeartbeats 4000000 in
set_option maxRecDepth 100000 in
theorem w_isNear_17 {p : Program} {l : Launch} {e : Env} {R : Room} {s : State} {m : MethodId} {args : Array Value} {below : List Frame} {meth : Method} {c : Code} {E : mE} {σ' : MS} {r : Int32} (hC : mC p s m args meth c E cX3_isNear 5 (some .boolean)) (hR : 2 ≤ R.frames ∧ 46 ≤ R.locals) (N : Nat) : ∀ (n : Nat) (σ : MS) (x1 : Int32) (x2 : Int32) (x3 : Int32) (x4 : Int32), f_isNear_17 N n σ x1 x2 x3 x4 = some (r, σ') → ∀ (H : Heap) (locs : List Loc), mP E σ H → va_S (mA E s.heap.size) s.heap H locs → ∀ ls : Array Slot, lv_has ls 5 [(0, .ref (mh E)), (1, .int x1), (2, .int x2), (3, .int x3), (4, .int x4)] → W p l e R s m args below meth c H locs 0 0 (MQ below (mQi E s.heap.size r σ') args s 0 0 (mA E s.heap.size)) (F0 m 17 ls []) := by
  obtain ⟨⟨hx, hb, hml, hown, hts⟩, hK, hD, hr, hlk⟩ := id hC
  intro n
  induction n with
  | zero =>
    intro σ x1 x2 x3 x4 h
    cases h
  | succ n ih =>
    intro σ x1 x2 x3 x4 h H locs hP hS ls hl
    unfold f_isNear_17 at h
    refine lv_iload hx hb dX3_isNear_17 (lv_at hl 4 rfl) ?_
    refine lv_iconst (v := 4) hx hb dX3_isNear_19 (by decide) ?_
    refine lv_icmp_ge (tgt := 55) hx hb dX3_isNear_20 (by decide) (fun c1 => ?_) (fun c1 => ?_)
    · have h := mif_t c1 h
      refine lv_iload_n hx hb dX3_isNear_55 rfl (lv_at hl 3 rfl) ?_
      obtain ⟨c2, h⟩ := mif_n h
      cases h
      exact m_zret hC c2 hP hS dX3_isNear_56
    · have h := mif_f c1 h
      refine lv_iload_n hx hb dX3_isNear_23 rfl (lv_at hl 3 rfl) ?_
      refine lv_if_ne (tgt := 43) hx hb dX3_isNear_24 (by decide) (fun c3 => ?_) (fun c3 => ?_)
      · have h := mif_f c3 h
        exact w_isNear_43 hC hR N (f_isNear_17 N n) ih σ x1 x2 x4 h hP hS (lv_sub hl [0, 1, 2, 4] rfl)
      · have h := mif_t c3 h
        refine lv_aload_n hx hb dX3_isNear_27 rfl (lv_at hl 0 rfl) ?_
        refine lv_iload_n hx hb dX3_isNear_28 rfl (lv_at hl 1 rfl) ?_
        refine lv_iload hx hb dX3_isNear_29 (lv_at hl 4 rfl) ?_
        obtain ⟨r6, σ4, c5, h⟩ := mcall_n h
        refine m_calli (As := [.int x1, .int x4]) (rest := []) hC (met_beside l N E H.size σ x1 x4 r6 σ4 c5) (cwV 2 hts (lw_V q2316 q2318 qs63 q103 q2319) rfl rfl rfl (by decide +kernel) ⟨Nat.le_trans (Nat.le_of_ble_eq_true rfl) hR.1, Nat.le_trans (Nat.le_of_ble_eq_true rfl) hR.2⟩) hP hS rfl hl.1 rfl (Nat.le_of_ble_eq_true rfl) dX3_isNear_31 (fun H locs hP hS => ?_)
        refine lv_aload_n hx hb dX3_isNear_34 rfl (lv_at hl 0 rfl) ?_
        refine m_geta hC hP 44 (by decide) rfl q1937 dX3_isNear_35 ?_
        refine lv_iload_n hx hb dX3_isNear_38 rfl (lv_at hl 2 rfl) ?_
        obtain ⟨c7, h⟩ := mif_n h
        refine m_ald hC hP 44 rfl c7 dX3_isNear_39 ?_
        refine lv_topi (fun y8 ey8 => ?_)
        have h := mlet_at ey8 h
        refine lv_icmp_ne (tgt := 47) hx hb dX3_isNear_40 (by decide) (fun c9 => ?_) (fun c9 => ?_)
        · have h := mif_f c9 h
          refine lv_iconst (v := 0) hx hb dX3_isNear_47 (by decide) ?_
          exact w_isNear_48 hC hR N (f_isNear_17 N n) ih σ4 x1 x2 x4 0 h hP hS (lv_sub hl [0, 1, 2, 4] rfl)
        · have h := mif_t c9 h
          exact w_isNear_43 hC hR N (f_isNear_17 N n) ih σ4 x1 x2 x4 h hP hS (lv_sub hl [0, 1, 2, 4] rfl)
def f_isNear (N : Nat) (σ : MS) (x1 : Int32) (x2 : Int32) : Option (Int32 × MS) :=
    if mIn x2 (mLen 44) = true then mlet (σ.2.1 44 x2.toNatClampNeg) fun y2 =>
    if y2 = x1 then
    some (1, σ)
    else
    f_isNear_17 N N σ x1 x2 0 0
    else none
set_option maxHeartbeats 4000000 in
set_option maxRecDepth 100000 in
theorem w_isNear_0 {p : Program} {l : Launch} {e : Env} {R : Room} {s : State} {m : MethodId} {args : Array Value} {below : List Frame} {meth : Method} {c : Code} {E : mE} {σ' : MS} {r : Int32} (hC : mC p s m args meth c E cX3_isNear 5 (some .boolean)) (hR : 2 ≤ R.frames ∧ 46 ≤ R.locals) (N : Nat) (σ : MS) (x1 : Int32) (x2 : Int32) (h : f_isNear N σ x1 x2 = some (r, σ')) {H : Heap} {locs : List Loc} (hP : mP E σ H) (hS : va_S (mA E s.heap.size) s.heap H locs) {ls : Array Slot} (hl : lv_has ls 5 [(0, .ref (mh E)), (1, .int x1), (2, .int x2)]) : W p l e R s m args below meth c H locs 0 0 (MQ below (mQi E s.heap.size r σ') args s 0 0 (mA E s.heap.size)) (F0 m 0 ls []) := by
  obtain ⟨⟨hx, hb, hml, hown, hts⟩, hK, hD, hr, hlk⟩ := id hC
  unfold f_isNear at h
  refine lv_aload_n hx hb dX3_isNear_0 rfl (lv_at hl 0 rfl) ?_
  refine m_geta hC hP 44 (by decide) rfl q1937 dX3_isNear_1 ?_
  refine lv_iload_n hx hb dX3_isNear_4 rfl (lv_at hl 2 rfl) ?_
  obtain ⟨c1, h⟩ := mif_n h
  refine m_ald hC hP 44 rfl c1 dX3_isNear_5 ?_
  refine lv_topi (fun y2 ey2 => ?_)
  have h := mlet_at ey2 h
  refine lv_iload_n hx hb dX3_isNear_6 rfl (lv_at hl 1 rfl) ?_
  refine lv_icmp_ne (tgt := 12) hx hb dX3_isNear_7 (by decide) (fun c3 => ?_) (fun c3 => ?_)
  · have h := mif_f c3 h
    refine lv_iconst (v := 0) hx hb dX3_isNear_12 (by decide) ?_
    refine lv_istore_n (lv' := [(3, .int 0), (0, .ref (mh E)), (1, .int x1), (2, .int x2)]) hx hb dX3_isNear_13 rfl hl (by decide) rfl (fun ls hl => ?_)
    refine lv_iconst (v := 0) hx hb dX3_isNear_14 (by decide) ?_
    refine lv_istore (lv' := [(4, .int 0), (3, .int 0), (0, .ref (mh E)), (1, .int x1), (2, .int x2)]) hx hb dX3_isNear_15 hl (by decide) rfl (fun ls hl => ?_)
    exact w_isNear_17 hC hR N N σ x1 x2 0 0 h _ _ hP hS _ (lv_sub hl [2, 3, 4, 1, 0] rfl)
  · have h := mif_t c3 h
    refine lv_iconst (v := 1) hx hb dX3_isNear_10 (by decide) ?_
    cases h
    exact m_zret hC rfl hP hS dX3_isNear_11
theorem met_isNear (l : Launch) (N : Nat) (E : mE) (sz : Nat) (σ : MS) (x1 : Int32) (x2 : Int32) (r : Int32) (σ' : MS) (h : f_isNear N σ x1 x2 = some (r, σ')) : Met l yX3_isNear (ws_ yX3_isNear cX3_isNear 5 (some .boolean)) ({ frames := 2, cells := 0, slots := 0, locals := 46 }) (mPc E sz σ [.ref (mh E), .int x1, .int x2]) (mQi E sz r σ') 0 0 (mA E sz) :=
  m_met (Qc := fun z => mQi E z r σ') (by decide) rfl (Nat.le_of_ble_eq_true rfl) (fun hC ls hl hP => w_isNear_0 hC ⟨Nat.le_refl _, Nat.le_refl _⟩ N σ x1 x2 h hP va_S.rf hl)
def f_prepares_120 (N : Nat) (k6 : MS → Int32 → Option (MS)) (k69 : MS → Int32 → Int32 → Option (MS)) (k76 : MS → Int32 → Int32 → Int32 → Option (MS)) (σ : MS) (x1 : Int32) (x2 : Int32) (x3 : Int32) (s0 : Int32) (s1 : Int32) : Option (MS) :=
    if mIn s1 (mLen 71) = true then mlet (mArr σ 71 s1.toNatClampNeg s0) fun σ2 =>
    mlet (x3 + 1) fun y3 =>
    k76 σ2 x1 x2 y3
    else none
set_option maxHeartbeats 4000000 in
set_option maxRecDepth 100000 in
theorem w_prepares_120 {p : Program} {l : Launch} {e : Env} {R : Room} {s : State} {m : MethodId} {args : Array Value} {below : List Frame} {meth : Method} {c : Code} {E : mE} {σ' : MS} (hC : mC p s m args meth c E cX3_prepares 4 none) (hR : 4 ≤ R.frames ∧ 100 ≤ R.locals) (N : Nat) (k6 : MS → Int32 → Option (MS)) (hk6 : ∀ (σ : MS) (x1 : Int32), k6 σ x1 = some σ' → ∀ (H : Heap) (locs : List Loc), mP E σ H → va_S (mA E s.heap.size) s.heap H locs → ∀ ls : Array Slot, lv_has ls 4 [(0, .ref (mh E)), (1, .int x1)] → W p l e R s m args below meth c H locs 0 0 (MQ below (mQv E s.heap.size σ') args s 0 0 (mA E s.heap.size)) (F0 m 6 ls [])) (k69 : MS → Int32 → Int32 → Option (MS)) (hk69 : ∀ (σ : MS) (x1 : Int32) (x2 : Int32), k69 σ x1 x2 = some σ' → ∀ (H : Heap) (locs : List Loc), mP E σ H → va_S (mA E s.heap.size) s.heap H locs → ∀ ls : Array Slot, lv_has ls 4 [(0, .ref (mh E)), (1, .int x1), (2, .int x2)] → W p l e R s m args below meth c H locs 0 0 (MQ below (mQv E s.heap.size σ') args s 0 0 (mA E s.heap.size)) (F0 m 69 ls [])) (k76 : MS → Int32 → Int32 → Int32 → Option (MS)) (hk76 : ∀ (σ : MS) (x1 : Int32) (x2 : Int32) (x3 : Int32), k76 σ x1 x2 x3 = some σ' → ∀ (H : Heap) (locs : List Loc), mP E σ H → va_S (mA E s.heap.size) s.heap H locs → ∀ ls : Array Slot, lv_has ls 4 [(0, .ref (mh E)), (1, .int x1), (2, .int x2), (3, .int x3)] → W p l e R s m args below meth c H locs 0 0 (MQ below (mQv E s.heap.size σ') args s 0 0 (mA E s.heap.size)) (F0 m 76 ls [])) (σ : MS) (x1 : Int32) (x2 : Int32) (x3 : Int32) (s0 : Int32) (s1 : Int32) (h : f_prepares_120 N k6 k69 k76 σ x1 x2 x3 s0 s1 = some σ') {H : Heap} {locs : List Loc} (hP : mP E σ H) (hS : va_S (mA E s.heap.size) s.heap H locs) {ls : Array Slot} (hl : lv_has ls 4 [(0, .ref (mh E)), (1, .int x1), (2, .int x2), (3, .int x3)]) : W p l e R s m args below meth c H locs 0 0 (MQ below (mQv E s.heap.size σ') args s 0 0 (mA E s.heap.size)) (F0 m 120 ls [.int s0, .int s1, .ref (mad E 71)]) := by
  obtain ⟨⟨hx, hb, hml, hown, hts⟩, hK, hD, hr, hlk⟩ := id hC
  unfold f_prepares_120 at h
  obtain ⟨c1, h⟩ := mif_n h
  refine m_ast hC hP hS 71 rfl c1 dX3_prepares_120 (fun H locs hP hS => ?_)
  obtain ⟨σ2, eσ2⟩ : ∃ z : MS, z = mArr σ 71 s1.toNatClampNeg s0 := ⟨_, rfl⟩
  rw [← eσ2] at hP
  have h := mlet_at eσ2 h
  obtain ⟨y3, ey3⟩ : ∃ z : Int32, z = x3 + 1 := ⟨_, rfl⟩
  have h := mlet_at ey3 h
  refine lv_iinc (v := y3) (lv' := [(3, .int y3), (0, .ref (mh E)), (1, .int x1), (2, .int x2)]) hx hb dX3_prepares_121 hl (k := 3) rfl (by rw [ey3]; rfl) (by decide) rfl (fun ls hl => ?_)
  refine lv_goto (tgt := 76) hx hb dX3_prepares_124 (by decide) ?_
  exact hk76 σ2 x1 x2 y3 h _ _ hP hS _ (lv_sub hl [1, 2, 3, 0] rfl)
def f_prepares_76 (N : Nat) (k6 : MS → Int32 → Option (MS)) (k69 : MS → Int32 → Int32 → Option (MS)) : Nat → MS → Int32 → Int32 → Int32 → Option (MS)
  | 0, _, _, _, _ => none
  | n + 1, σ, x1, x2, x3 =>
    if (σ.1 22) ≤ x3 then
    mlet (x2 + 1) fun y2 =>
    k69 σ x1 y2
    else
    mcall (f_barred N σ x1 x2 x3) fun r5 σ3 =>
    if r5 = 0 then
    mcall (f_cost N σ3 x1 x2 x3) fun r9 σ7 =>
    f_prepares_120 N k6 k69 (f_prepares_76 N k6 k69 n) σ7 x1 x2 x3 r9 (((32 * x1) + (8 * x2)) + x3)
    else
    f_prepares_120 N k6 k69 (f_prepares_76 N k6 k69 n) σ3 x1 x2 x3 0 (((32 * x1) + (8 * x2)) + x3)
set_option maxHeartbeats 4000000 in
set_option maxRecDepth 100000 in
theorem w_prepares_76 {p : Program} {l : Launch} {e : Env} {R : Room} {s : State} {m : MethodId} {args : Array Value} {below : List Frame} {meth : Method} {c : Code} {E : mE} {σ' : MS} (hC : mC p s m args meth c E cX3_prepares 4 none) (hR : 4 ≤ R.frames ∧ 100 ≤ R.locals) (N : Nat) (k6 : MS → Int32 → Option (MS)) (hk6 : ∀ (σ : MS) (x1 : Int32), k6 σ x1 = some σ' → ∀ (H : Heap) (locs : List Loc), mP E σ H → va_S (mA E s.heap.size) s.heap H locs → ∀ ls : Array Slot, lv_has ls 4 [(0, .ref (mh E)), (1, .int x1)] → W p l e R s m args below meth c H locs 0 0 (MQ below (mQv E s.heap.size σ') args s 0 0 (mA E s.heap.size)) (F0 m 6 ls [])) (k69 : MS → Int32 → Int32 → Option (MS)) (hk69 : ∀ (σ : MS) (x1 : Int32) (x2 : Int32), k69 σ x1 x2 = some σ' → ∀ (H : Heap) (locs : List Loc), mP E σ H → va_S (mA E s.heap.size) s.heap H locs → ∀ ls : Array Slot, lv_has ls 4 [(0, .ref (mh E)), (1, .int x1), (2, .int x2)] → W p l e R s m args below meth c H locs 0 0 (MQ below (mQv E s.heap.size σ') args s 0 0 (mA E s.heap.size)) (F0 m 69 ls [])) : ∀ (n : Nat) (σ : MS) (x1 : Int32) (x2 : Int32) (x3 : Int32), f_prepares_76 N k6 k69 n σ x1 x2 x3 = some σ' → ∀ (H : Heap) (locs : List Loc), mP E σ H → va_S (mA E s.heap.size) s.heap H locs → ∀ ls : Array Slot, lv_has ls 4 [(0, .ref (mh E)), (1, .int x1), (2, .int x2), (3, .int x3)] → W p l e R s m args below meth c H locs 0 0 (MQ below (mQv E s.heap.size σ') args s 0 0 (mA E s.heap.size)) (F0 m 76 ls []) := by
  obtain ⟨⟨hx, hb, hml, hown, hts⟩, hK, hD, hr, hlk⟩ := id hC
  intro n
  induction n with
  | zero =>
    intro σ x1 x2 x3 h
    cases h
  | succ n ih =>
    intro σ x1 x2 x3 h H locs hP hS ls hl
    unfold f_prepares_76 at h
    refine lv_iload_n hx hb dX3_prepares_76 rfl (lv_at hl 3 rfl) ?_
    refine lv_aload_n hx hb dX3_prepares_77 rfl (lv_at hl 0 rfl) ?_
    refine m_geti hC hP 22 (by decide) rfl q1915 dX3_prepares_78 ?_
    refine lv_icmp_ge (tgt := 127) hx hb dX3_prepares_81 (by decide) (fun c1 => ?_) (fun c1 => ?_)
    · have h := mif_t c1 h
      obtain ⟨y2, ey2⟩ : ∃ z : Int32, z = x2 + 1 := ⟨_, rfl⟩
      have h := mlet_at ey2 h
      refine lv_iinc (v := y2) (lv' := [(2, .int y2), (0, .ref (mh E)), (1, .int x1), (3, .int x3)]) hx hb dX3_prepares_127 hl (k := 2) rfl (by rw [ey2]; rfl) (by decide) rfl (fun ls hl => ?_)
      refine lv_goto (tgt := 69) hx hb dX3_prepares_130 (by decide) ?_
      exact hk69 σ x1 y2 h _ _ hP hS _ (lv_sub hl [1, 2, 0] rfl)
    · have h := mif_f c1 h
      refine lv_aload_n hx hb dX3_prepares_84 rfl (lv_at hl 0 rfl) ?_
      refine m_geta hC hP 71 (by decide) rfl q1964 dX3_prepares_85 ?_
      refine lv_bipush (v := 32) hx hb dX3_prepares_88 (by decide) ?_
      refine lv_iload_n hx hb dX3_prepares_90 rfl (lv_at hl 1 rfl) ?_
      refine lv_imul hx hb dX3_prepares_91 ?_
      refine lv_bipush (v := 8) hx hb dX3_prepares_92 (by decide) ?_
      refine lv_iload_n hx hb dX3_prepares_94 rfl (lv_at hl 2 rfl) ?_
      refine lv_imul hx hb dX3_prepares_95 ?_
      refine lv_iadd hx hb dX3_prepares_96 ?_
      refine lv_iload_n hx hb dX3_prepares_97 rfl (lv_at hl 3 rfl) ?_
      refine lv_iadd hx hb dX3_prepares_98 ?_
      refine lv_aload_n hx hb dX3_prepares_99 rfl (lv_at hl 0 rfl) ?_
      refine lv_iload_n hx hb dX3_prepares_100 rfl (lv_at hl 1 rfl) ?_
      refine lv_iload_n hx hb dX3_prepares_101 rfl (lv_at hl 2 rfl) ?_
      refine lv_iload_n hx hb dX3_prepares_102 rfl (lv_at hl 3 rfl) ?_
      obtain ⟨r5, σ3, c4, h⟩ := mcall_n h
      refine m_calli (As := [.int x1, .int x2, .int x3]) (rest := [.int (((32 * x1) + (8 * x2)) + x3), .ref (mad E 71)]) hC (met_barred l N E H.size σ x1 x2 x3 r5 σ3 c4) (cwV 3 hts (lw_V q2312 q2314 qs62 q103 q2315) rfl rfl rfl (by decide +kernel) ⟨Nat.le_trans (Nat.le_of_ble_eq_true rfl) hR.1, Nat.le_trans (Nat.le_of_ble_eq_true rfl) hR.2⟩) hP hS rfl hl.1 rfl (Nat.le_of_ble_eq_true rfl) dX3_prepares_103 (fun H locs hP hS => ?_)
      refine lv_if_ne (tgt := 119) hx hb dX3_prepares_106 (by decide) (fun c6 => ?_) (fun c6 => ?_)
      · have h := mif_f c6 h
        refine lv_iconst (v := 0) hx hb dX3_prepares_119 (by decide) ?_
        exact w_prepares_120 hC hR N k6 hk6 k69 hk69 (f_prepares_76 N k6 k69 n) ih σ3 x1 x2 x3 0 (((32 * x1) + (8 * x2)) + x3) h hP hS (lv_sub hl [0, 1, 2, 3] rfl)
      · have h := mif_t c6 h
        refine lv_aload_n hx hb dX3_prepares_109 rfl (lv_at hl 0 rfl) ?_
        refine lv_iload_n hx hb dX3_prepares_110 rfl (lv_at hl 1 rfl) ?_
        refine lv_iload_n hx hb dX3_prepares_111 rfl (lv_at hl 2 rfl) ?_
        refine lv_iload_n hx hb dX3_prepares_112 rfl (lv_at hl 3 rfl) ?_
        obtain ⟨r9, σ7, c8, h⟩ := mcall_n h
        refine m_calli (As := [.int x1, .int x2, .int x3]) (rest := [.int (((32 * x1) + (8 * x2)) + x3), .ref (mad E 71)]) hC (met_cost l N E H.size σ3 x1 x2 x3 r9 σ7 c8) (cwV 3 hts (lw_V q2328 q2330 qs66 q103 q2331) rfl rfl rfl (by decide +kernel) ⟨Nat.le_trans (Nat.le_of_ble_eq_true rfl) hR.1, Nat.le_trans (Nat.le_of_ble_eq_true rfl) hR.2⟩) hP hS rfl hl.1 rfl (Nat.le_of_ble_eq_true rfl) dX3_prepares_113 (fun H locs hP hS => ?_)
        refine lv_goto (tgt := 120) hx hb dX3_prepares_116 (by decide) ?_
        exact w_prepares_120 hC hR N k6 hk6 k69 hk69 (f_prepares_76 N k6 k69 n) ih σ7 x1 x2 x3 r9 (((32 * x1) + (8 * x2)) + x3) h hP hS (lv_sub hl [0, 1, 2, 3] rfl)
def f_prepares_69 (N : Nat) (k6 : MS → Int32 → Option (MS)) : Nat → MS → Int32 → Int32 → Option (MS)
  | 0, _, _, _ => none
  | n + 1, σ, x1, x2 =>
    if 4 ≤ x2 then
    mlet (x1 + 1) fun y2 =>
    k6 σ y2
    else
    f_prepares_76 N k6 (f_prepares_69 N k6 n) N σ x1 x2 0
set_option maxHeartbeats 4000000 in
set_option maxRecDepth 100000 in
theorem w_prepares_69 {p : Program} {l : Launch} {e : Env} {R : Room} {s : State} {m : MethodId} {args : Array Value} {below : List Frame} {meth : Method} {c : Code} {E : mE} {σ' : MS} (hC : mC p s m args meth c E cX3_prepares 4 none) (hR : 4 ≤ R.frames ∧ 100 ≤ R.locals) (N : Nat) (k6 : MS → Int32 → Option (MS)) (hk6 : ∀ (σ : MS) (x1 : Int32), k6 σ x1 = some σ' → ∀ (H : Heap) (locs : List Loc), mP E σ H → va_S (mA E s.heap.size) s.heap H locs → ∀ ls : Array Slot, lv_has ls 4 [(0, .ref (mh E)), (1, .int x1)] → W p l e R s m args below meth c H locs 0 0 (MQ below (mQv E s.heap.size σ') args s 0 0 (mA E s.heap.size)) (F0 m 6 ls [])) : ∀ (n : Nat) (σ : MS) (x1 : Int32) (x2 : Int32), f_prepares_69 N k6 n σ x1 x2 = some σ' → ∀ (H : Heap) (locs : List Loc), mP E σ H → va_S (mA E s.heap.size) s.heap H locs → ∀ ls : Array Slot, lv_has ls 4 [(0, .ref (mh E)), (1, .int x1), (2, .int x2)] → W p l e R s m args below meth c H locs 0 0 (MQ below (mQv E s.heap.size σ') args s 0 0 (mA E s.heap.size)) (F0 m 69 ls []) := by
  obtain ⟨⟨hx, hb, hml, hown, hts⟩, hK, hD, hr, hlk⟩ := id hC
  intro n
  induction n with
  | zero =>
    intro σ x1 x2 h
    cases h
  | succ n ih =>
    intro σ x1 x2 h H locs hP hS ls hl
    unfold f_prepares_69 at h
    refine lv_iload_n hx hb dX3_prepares_69 rfl (lv_at hl 2 rfl) ?_
    refine lv_iconst (v := 4) hx hb dX3_prepares_70 (by decide) ?_
    refine lv_icmp_ge (tgt := 133) hx hb dX3_prepares_71 (by decide) (fun c1 => ?_) (fun c1 => ?_)
    · have h := mif_t c1 h
      obtain ⟨y2, ey2⟩ : ∃ z : Int32, z = x1 + 1 := ⟨_, rfl⟩
      have h := mlet_at ey2 h
      refine lv_iinc (v := y2) (lv' := [(1, .int y2), (0, .ref (mh E)), (2, .int x2)]) hx hb dX3_prepares_133 hl (k := 1) rfl (by rw [ey2]; rfl) (by decide) rfl (fun ls hl => ?_)
      refine lv_goto (tgt := 6) hx hb dX3_prepares_136 (by decide) ?_
      exact hk6 σ y2 h _ _ hP hS _ (lv_sub hl [1, 0] rfl)
    · have h := mif_f c1 h
      refine lv_iconst (v := 0) hx hb dX3_prepares_74 (by decide) ?_
      refine lv_istore_n (lv' := [(3, .int 0), (0, .ref (mh E)), (1, .int x1), (2, .int x2)]) hx hb dX3_prepares_75 rfl hl (by decide) rfl (fun ls hl => ?_)
      exact w_prepares_76 hC hR N k6 hk6 (f_prepares_69 N k6 n) ih N σ x1 x2 0 h _ _ hP hS _ (lv_sub hl [1, 2, 3, 0] rfl)
def f_prepares_59 (N : Nat) (k6 : MS → Int32 → Option (MS)) (k28 : MS → Int32 → Int32 → Option (MS)) (σ : MS) (x1 : Int32) (x2 : Int32) (s0 : Int32) (s1 : Int32) (s2 : Int32) : Option (MS) :=
    if mIn s2 (mLen 72) = true then mlet (mArr σ 72 s2.toNatClampNeg (s1 ||| s0)) fun σ2 =>
    mlet (x2 + 1) fun y3 =>
    k28 σ2 x1 y3
    else none
set_option maxHeartbeats 4000000 in
set_option maxRecDepth 100000 in
theorem w_prepares_59 {p : Program} {l : Launch} {e : Env} {R : Room} {s : State} {m : MethodId} {args : Array Value} {below : List Frame} {meth : Method} {c : Code} {E : mE} {σ' : MS} (hC : mC p s m args meth c E cX3_prepares 4 none) (hR : 4 ≤ R.frames ∧ 100 ≤ R.locals) (N : Nat) (k6 : MS → Int32 → Option (MS)) (hk6 : ∀ (σ : MS) (x1 : Int32), k6 σ x1 = some σ' → ∀ (H : Heap) (locs : List Loc), mP E σ H → va_S (mA E s.heap.size) s.heap H locs → ∀ ls : Array Slot, lv_has ls 4 [(0, .ref (mh E)), (1, .int x1)] → W p l e R s m args below meth c H locs 0 0 (MQ below (mQv E s.heap.size σ') args s 0 0 (mA E s.heap.size)) (F0 m 6 ls [])) (k28 : MS → Int32 → Int32 → Option (MS)) (hk28 : ∀ (σ : MS) (x1 : Int32) (x2 : Int32), k28 σ x1 x2 = some σ' → ∀ (H : Heap) (locs : List Loc), mP E σ H → va_S (mA E s.heap.size) s.heap H locs → ∀ ls : Array Slot, lv_has ls 4 [(0, .ref (mh E)), (1, .int x1), (2, .int x2)] → W p l e R s m args below meth c H locs 0 0 (MQ below (mQv E s.heap.size σ') args s 0 0 (mA E s.heap.size)) (F0 m 28 ls [])) (σ : MS) (x1 : Int32) (x2 : Int32) (s0 : Int32) (s1 : Int32) (s2 : Int32) (h : f_prepares_59 N k6 k28 σ x1 x2 s0 s1 s2 = some σ') {H : Heap} {locs : List Loc} (hP : mP E σ H) (hS : va_S (mA E s.heap.size) s.heap H locs) {ls : Array Slot} (hl : lv_has ls 4 [(0, .ref (mh E)), (1, .int x1), (2, .int x2)]) : W p l e R s m args below meth c H locs 0 0 (MQ below (mQv E s.heap.size σ') args s 0 0 (mA E s.heap.size)) (F0 m 59 ls [.int s0, .int s1, .int s2, .ref (mad E 72)]) := by
  obtain ⟨⟨hx, hb, hml, hown, hts⟩, hK, hD, hr, hlk⟩ := id hC
  unfold f_prepares_59 at h
  refine lv_ior hx hb dX3_prepares_59 ?_
  obtain ⟨c1, h⟩ := mif_n h
  refine m_ast hC hP hS 72 rfl c1 dX3_prepares_60 (fun H locs hP hS => ?_)
  obtain ⟨σ2, eσ2⟩ : ∃ z : MS, z = mArr σ 72 s2.toNatClampNeg (s1 ||| s0) := ⟨_, rfl⟩
  rw [← eσ2] at hP
  have h := mlet_at eσ2 h
  obtain ⟨y3, ey3⟩ : ∃ z : Int32, z = x2 + 1 := ⟨_, rfl⟩
  have h := mlet_at ey3 h
  refine lv_iinc (v := y3) (lv' := [(2, .int y3), (0, .ref (mh E)), (1, .int x1)]) hx hb dX3_prepares_61 hl (k := 2) rfl (by rw [ey3]; rfl) (by decide) rfl (fun ls hl => ?_)
  refine lv_goto (tgt := 28) hx hb dX3_prepares_64 (by decide) ?_
  exact hk28 σ2 x1 y3 h _ _ hP hS _ (lv_sub hl [1, 2, 0] rfl)
def f_prepares_28 (N : Nat) (k6 : MS → Int32 → Option (MS)) : Nat → MS → Int32 → Int32 → Option (MS)
  | 0, _, _, _ => none
  | n + 1, σ, x1, x2 =>
    if (σ.1 37) ≤ x2 then
    f_prepares_69 N k6 N σ x1 0
    else
    if mIn x1 (mLen 72) = true then mlet (σ.2.1 72 x1.toNatClampNeg) fun y3 =>
    mcall (f_isNear N σ x1 x2) fun r6 σ4 =>
    if r6 = 0 then
    f_prepares_59 N k6 (f_prepares_28 N k6 n) σ4 x1 x2 0 y3 x1
    else
    f_prepares_59 N k6 (f_prepares_28 N k6 n) σ4 x1 x2 (1 <<< (x2 &&& 31)) y3 x1
    else none
set_option maxHeartbeats 4000000 in
set_option maxRecDepth 100000 in
theorem w_prepares_28 {p : Program} {l : Launch} {e : Env} {R : Room} {s : State} {m : MethodId} {args : Array Value} {below : List Frame} {meth : Method} {c : Code} {E : mE} {σ' : MS} (hC : mC p s m args meth c E cX3_prepares 4 none) (hR : 4 ≤ R.frames ∧ 100 ≤ R.locals) (N : Nat) (k6 : MS → Int32 → Option (MS)) (hk6 : ∀ (σ : MS) (x1 : Int32), k6 σ x1 = some σ' → ∀ (H : Heap) (locs : List Loc), mP E σ H → va_S (mA E s.heap.size) s.heap H locs → ∀ ls : Array Slot, lv_has ls 4 [(0, .ref (mh E)), (1, .int x1)] → W p l e R s m args below meth c H locs 0 0 (MQ below (mQv E s.heap.size σ') args s 0 0 (mA E s.heap.size)) (F0 m 6 ls [])) : ∀ (n : Nat) (σ : MS) (x1 : Int32) (x2 : Int32), f_prepares_28 N k6 n σ x1 x2 = some σ' → ∀ (H : Heap) (locs : List Loc), mP E σ H → va_S (mA E s.heap.size) s.heap H locs → ∀ ls : Array Slot, lv_has ls 4 [(0, .ref (mh E)), (1, .int x1), (2, .int x2)] → W p l e R s m args below meth c H locs 0 0 (MQ below (mQv E s.heap.size σ') args s 0 0 (mA E s.heap.size)) (F0 m 28 ls []) := by
  obtain ⟨⟨hx, hb, hml, hown, hts⟩, hK, hD, hr, hlk⟩ := id hC
  intro n
  induction n with
  | zero =>
    intro σ x1 x2 h
    cases h
  | succ n ih =>
    intro σ x1 x2 h H locs hP hS ls hl
    unfold f_prepares_28 at h
    refine lv_iload_n hx hb dX3_prepares_28 rfl (lv_at hl 2 rfl) ?_
    refine lv_aload_n hx hb dX3_prepares_29 rfl (lv_at hl 0 rfl) ?_
    refine m_geti hC hP 37 (by decide) rfl q1930 dX3_prepares_30 ?_
    refine lv_icmp_ge (tgt := 67) hx hb dX3_prepares_33 (by decide) (fun c1 => ?_) (fun c1 => ?_)
    · have h := mif_t c1 h
      refine lv_iconst (v := 0) hx hb dX3_prepares_67 (by decide) ?_
      refine lv_istore_n (lv' := [(2, .int 0), (0, .ref (mh E)), (1, .int x1)]) hx hb dX3_prepares_68 rfl hl (by decide) rfl (fun ls hl => ?_)
      exact w_prepares_69 hC hR N k6 hk6 N σ x1 0 h _ _ hP hS _ (lv_sub hl [1, 2, 0] rfl)
    · have h := mif_f c1 h
      refine lv_aload_n hx hb dX3_prepares_36 rfl (lv_at hl 0 rfl) ?_
      refine m_geta hC hP 72 (by decide) rfl q1965 dX3_prepares_37 ?_
      refine lv_iload_n hx hb dX3_prepares_40 rfl (lv_at hl 1 rfl) ?_
      refine lv_dup2_11 hx hb dX3_prepares_41 rfl rfl ?_
      obtain ⟨c2, h⟩ := mif_n h
      refine m_ald hC hP 72 rfl c2 dX3_prepares_42 ?_
      refine lv_topi (fun y3 ey3 => ?_)
      have h := mlet_at ey3 h
      refine lv_aload_n hx hb dX3_prepares_43 rfl (lv_at hl 0 rfl) ?_
      refine lv_iload_n hx hb dX3_prepares_44 rfl (lv_at hl 1 rfl) ?_
      refine lv_iload_n hx hb dX3_prepares_45 rfl (lv_at hl 2 rfl) ?_
      obtain ⟨r6, σ4, c5, h⟩ := mcall_n h
      refine m_calli (As := [.int x1, .int x2]) (rest := [.int y3, .int x1, .ref (mad E 72)]) hC (met_isNear l N E H.size σ x1 x2 r6 σ4 c5) (cwV 2 hts (lw_V q2352 q2354 qs71 q103 q2355) rfl rfl rfl (by decide +kernel) ⟨Nat.le_trans (Nat.le_of_ble_eq_true rfl) hR.1, Nat.le_trans (Nat.le_of_ble_eq_true rfl) hR.2⟩) hP hS rfl hl.1 rfl (Nat.le_of_ble_eq_true rfl) dX3_prepares_46 (fun H locs hP hS => ?_)
      refine lv_if_eq (tgt := 58) hx hb dX3_prepares_49 (by decide) (fun c7 => ?_) (fun c7 => ?_)
      · have h := mif_t c7 h
        refine lv_iconst (v := 0) hx hb dX3_prepares_58 (by decide) ?_
        exact w_prepares_59 hC hR N k6 hk6 (f_prepares_28 N k6 n) ih σ4 x1 x2 0 y3 x1 h hP hS (lv_sub hl [0, 1, 2] rfl)
      · have h := mif_f c7 h
        refine lv_iconst (v := 1) hx hb dX3_prepares_52 (by decide) ?_
        refine lv_iload_n hx hb dX3_prepares_53 rfl (lv_at hl 2 rfl) ?_
        refine lv_ishl hx hb dX3_prepares_54 ?_
        refine lv_goto (tgt := 59) hx hb dX3_prepares_55 (by decide) ?_
        exact w_prepares_59 hC hR N k6 hk6 (f_prepares_28 N k6 n) ih σ4 x1 x2 (1 <<< (x2 &&& 31)) y3 x1 h hP hS (lv_sub hl [0, 1, 2] rfl)
def f_prepares_6 (N : Nat) : Nat → MS → Int32 → Option (MS)
  | 0, _, _ => none
  | n + 1, σ, x1 =>
    if ((σ.1 35) * (σ.1 36)) ≤ x1 then
    some σ
    else
    if mIn x1 (mLen 72) = true then mlet (mArr σ 72 x1.toNatClampNeg 0) fun σ3 =>
    f_prepares_28 N (f_prepares_6 N n) N σ3 x1 0
    else none
set_option maxHeartbeats 4000000 in
set_option maxRecDepth 100000 in
theorem w_prepares_6 {p : Program} {l : Launch} {e : Env} {R : Room} {s : State} {m : MethodId} {args : Array Value} {below : List Frame} {meth : Method} {c : Code} {E : mE} {σ' : MS} (hC : mC p s m args meth c E cX3_prepares 4 none) (hR : 4 ≤ R.frames ∧ 100 ≤ R.locals) (N : Nat) : ∀ (n : Nat) (σ : MS) (x1 : Int32), f_prepares_6 N n σ x1 = some σ' → ∀ (H : Heap) (locs : List Loc), mP E σ H → va_S (mA E s.heap.size) s.heap H locs → ∀ ls : Array Slot, lv_has ls 4 [(0, .ref (mh E)), (1, .int x1)] → W p l e R s m args below meth c H locs 0 0 (MQ below (mQv E s.heap.size σ') args s 0 0 (mA E s.heap.size)) (F0 m 6 ls []) := by
  obtain ⟨⟨hx, hb, hml, hown, hts⟩, hK, hD, hr, hlk⟩ := id hC
  intro n
  induction n with
  | zero =>
    intro σ x1 h
    cases h
  | succ n ih =>
    intro σ x1 h H locs hP hS ls hl
    unfold f_prepares_6 at h
    refine lv_iload_n hx hb dX3_prepares_6 rfl (lv_at hl 1 rfl) ?_
    refine lv_aload_n hx hb dX3_prepares_7 rfl (lv_at hl 0 rfl) ?_
    refine m_geti hC hP 35 (by decide) rfl q1928 dX3_prepares_8 ?_
    refine lv_aload_n hx hb dX3_prepares_11 rfl (lv_at hl 0 rfl) ?_
    refine m_geti hC hP 36 (by decide) rfl q1929 dX3_prepares_12 ?_
    refine lv_imul hx hb dX3_prepares_15 ?_
    refine lv_icmp_ge (tgt := 139) hx hb dX3_prepares_16 (by decide) (fun c1 => ?_) (fun c1 => ?_)
    · have h := mif_t c1 h
      cases h
      exact m_vret hC hP hS dX3_prepares_139
    · have h := mif_f c1 h
      refine lv_aload_n hx hb dX3_prepares_19 rfl (lv_at hl 0 rfl) ?_
      refine m_geta hC hP 72 (by decide) rfl q1965 dX3_prepares_20 ?_
      refine lv_iload_n hx hb dX3_prepares_23 rfl (lv_at hl 1 rfl) ?_
      refine lv_iconst (v := 0) hx hb dX3_prepares_24 (by decide) ?_
      obtain ⟨c2, h⟩ := mif_n h
      refine m_ast hC hP hS 72 rfl c2 dX3_prepares_25 (fun H locs hP hS => ?_)
      obtain ⟨σ3, eσ3⟩ : ∃ z : MS, z = mArr σ 72 x1.toNatClampNeg 0 := ⟨_, rfl⟩
      rw [← eσ3] at hP
      have h := mlet_at eσ3 h
      refine lv_iconst (v := 0) hx hb dX3_prepares_26 (by decide) ?_
      refine lv_istore_n (lv' := [(2, .int 0), (0, .ref (mh E)), (1, .int x1)]) hx hb dX3_prepares_27 rfl hl (by decide) rfl (fun ls hl => ?_)
      exact w_prepares_28 hC hR N (f_prepares_6 N n) ih N σ3 x1 0 h _ _ hP hS _ (lv_sub hl [1, 2, 0] rfl)
def f_prepares (N : Nat) (σ : MS) : Option (MS) :=
    mcallv (f_lists N σ) fun σ1 =>
    f_prepares_6 N N σ1 0
set_option maxHeartbeats 4000000 in
set_option maxRecDepth 100000 in
theorem w_prepares_0 {p : Program} {l : Launch} {e : Env} {R : Room} {s : State} {m : MethodId} {args : Array Value} {below : List Frame} {meth : Method} {c : Code} {E : mE} {σ' : MS} (hC : mC p s m args meth c E cX3_prepares 4 none) (hR : 4 ≤ R.frames ∧ 100 ≤ R.locals) (N : Nat) (σ : MS) (h : f_prepares N σ = some σ') {H : Heap} {locs : List Loc} (hP : mP E σ H) (hS : va_S (mA E s.heap.size) s.heap H locs) {ls : Array Slot} (hl : lv_has ls 4 [(0, .ref (mh E))]) : W p l e R s m args below meth c H locs 0 0 (MQ below (mQv E s.heap.size σ') args s 0 0 (mA E s.heap.size)) (F0 m 0 ls []) := by
  obtain ⟨⟨hx, hb, hml, hown, hts⟩, hK, hD, hr, hlk⟩ := id hC
  unfold f_prepares at h
  refine lv_aload_n hx hb dX3_prepares_0 rfl (lv_at hl 0 rfl) ?_
  obtain ⟨σ1, c2, h⟩ := mcallv_n h
  refine m_callv (As := []) (rest := []) hC (met_lists l N E H.size σ σ1 c2) (cwV 0 hts (lw_V q2348 q2350 qs70 q103 q2351) rfl rfl rfl (by decide +kernel) ⟨Nat.le_trans (Nat.le_of_ble_eq_true rfl) hR.1, Nat.le_trans (Nat.le_of_ble_eq_true rfl) hR.2⟩) hP hS rfl hl.1 rfl (Nat.le_of_ble_eq_true rfl) dX3_prepares_1 (fun H locs hP hS => ?_)
  refine lv_iconst (v := 0) hx hb dX3_prepares_4 (by decide) ?_
  refine lv_istore_n (lv' := [(1, .int 0), (0, .ref (mh E))]) hx hb dX3_prepares_5 rfl hl (by decide) rfl (fun ls hl => ?_)
  exact w_prepares_6 hC hR N N σ1 0 h _ _ hP hS _ (lv_sub hl [1, 0] rfl)
theorem met_prepares (l : Launch) (N : Nat) (E : mE) (sz : Nat) (σ : MS) (σ' : MS) (h : f_prepares N σ = some σ') : Met l yX3_prepares (ws_ yX3_prepares cX3_prepares 4 none) ({ frames := 4, cells := 0, slots := 0, locals := 100 }) (mPc E sz σ [.ref (mh E)]) (mQv E sz σ') 0 0 (mA E sz) :=
  m_met (Qc := fun z => mQv E z σ') (by decide) rfl (Nat.le_of_ble_eq_true rfl) (fun hC ls hl hP => w_prepares_0 hC ⟨Nat.le_refl _, Nat.le_refl _⟩ N σ h hP va_S.rf hl)
def f_digit (N : Nat) (σ : MS) (x0 : Int32) (x1 : Int32) : Option (Int32 × MS) :=
    some ((x0 >>> ((2 * x1) &&& 31)) &&& 3, σ)
set_option maxHeartbeats 4000000 in
set_option maxRecDepth 100000 in
theorem w_digit_0 {p : Program} {l : Launch} {e : Env} {R : Room} {s : State} {m : MethodId} {args : Array Value} {below : List Frame} {meth : Method} {c : Code} {E : mE} {σ' : MS} {r : Int32} (hC : mC p s m args meth c E cX3_digit 2 (some .int)) (hR : 0 ≤ R.frames ∧ 0 ≤ R.locals) (N : Nat) (σ : MS) (x0 : Int32) (x1 : Int32) (h : f_digit N σ x0 x1 = some (r, σ')) {H : Heap} {locs : List Loc} (hP : mP E σ H) (hS : va_S (mA E s.heap.size) s.heap H locs) {ls : Array Slot} (hl : lv_has ls 2 [(0, .int x0), (1, .int x1)]) : W p l e R s m args below meth c H locs 0 0 (MQ below (mQi E s.heap.size r σ') args s 0 0 (mA E s.heap.size)) (F0 m 0 ls []) := by
  obtain ⟨⟨hx, hb, hml, hown, hts⟩, hK, hD, hr, hlk⟩ := id hC
  unfold f_digit at h
  refine lv_iload_n hx hb dX3_digit_0 rfl (lv_at hl 0 rfl) ?_
  refine lv_iconst (v := 2) hx hb dX3_digit_1 (by decide) ?_
  refine lv_iload_n hx hb dX3_digit_2 rfl (lv_at hl 1 rfl) ?_
  refine lv_imul hx hb dX3_digit_3 ?_
  refine lv_ishr hx hb dX3_digit_4 ?_
  refine lv_iconst (v := 3) hx hb dX3_digit_5 (by decide) ?_
  refine lv_iand hx hb dX3_digit_6 ?_
  cases h
  exact m_iret hC hP hS dX3_digit_7
theorem met_digit (l : Launch) (N : Nat) (E : mE) (sz : Nat) (σ : MS) (x0 : Int32) (x1 : Int32) (r : Int32) (σ' : MS) (h : f_digit N σ x0 x1 = some (r, σ')) : Met l yX3_digit (ws_ yX3_digit cX3_digit 2 (some .int)) ({ frames := 0, cells := 0, slots := 0, locals := 0 }) (mPc E sz σ [.int x0, .int x1]) (mQi E sz r σ') 0 0 (mA E sz) :=
  m_met (Qc := fun z => mQi E z r σ') (by decide) rfl (Nat.le_of_ble_eq_true rfl) (fun hC ls hl hP => w_digit_0 hC ⟨Nat.le_refl _, Nat.le_refl _⟩ N σ x0 x1 h hP va_S.rf hl)
def f_canBe_85 (N : Nat) (k2 : MS → Int32 → Int32 → Option (Int32 × MS)) (σ : MS) (x1 : Int32) (x2 : Int32) : Option (Int32 × MS) :=
    mlet (x2 + 1) fun y1 =>
    k2 σ x1 y1
set_option maxHeartbeats 4000000 in
set_option maxRecDepth 100000 in
theorem w_canBe_85 {p : Program} {l : Launch} {e : Env} {R : Room} {s : State} {m : MethodId} {args : Array Value} {below : List Frame} {meth : Method} {c : Code} {E : mE} {σ' : MS} {r : Int32} (hC : mC p s m args meth c E cX3_canBe 4 (some .boolean)) (hR : 1 ≤ R.frames ∧ 21 ≤ R.locals) (N : Nat) (k2 : MS → Int32 → Int32 → Option (Int32 × MS)) (hk2 : ∀ (σ : MS) (x1 : Int32) (x2 : Int32), k2 σ x1 x2 = some (r, σ') → ∀ (H : Heap) (locs : List Loc), mP E σ H → va_S (mA E s.heap.size) s.heap H locs → ∀ ls : Array Slot, lv_has ls 4 [(0, .ref (mh E)), (1, .int x1), (2, .int x2)] → W p l e R s m args below meth c H locs 0 0 (MQ below (mQi E s.heap.size r σ') args s 0 0 (mA E s.heap.size)) (F0 m 2 ls [])) (σ : MS) (x1 : Int32) (x2 : Int32) (h : f_canBe_85 N k2 σ x1 x2 = some (r, σ')) {H : Heap} {locs : List Loc} (hP : mP E σ H) (hS : va_S (mA E s.heap.size) s.heap H locs) {ls : Array Slot} (hl : lv_has ls 4 [(0, .ref (mh E)), (1, .int x1), (2, .int x2)]) : W p l e R s m args below meth c H locs 0 0 (MQ below (mQi E s.heap.size r σ') args s 0 0 (mA E s.heap.size)) (F0 m 85 ls []) := by
  obtain ⟨⟨hx, hb, hml, hown, hts⟩, hK, hD, hr, hlk⟩ := id hC
  unfold f_canBe_85 at h
  obtain ⟨y1, ey1⟩ : ∃ z : Int32, z = x2 + 1 := ⟨_, rfl⟩
  have h := mlet_at ey1 h
  refine lv_iinc (v := y1) (lv' := [(2, .int y1), (0, .ref (mh E)), (1, .int x1)]) hx hb dX3_canBe_85 hl (k := 2) rfl (by rw [ey1]; rfl) (by decide) rfl (fun ls hl => ?_)
  refine lv_goto (tgt := 2) hx hb dX3_canBe_88 (by decide) ?_
  exact hk2 σ x1 y1 h _ _ hP hS _ (lv_sub hl [1, 2, 0] rfl)
def f_canBe_83 (N : Nat) (σ : MS) : Option (Int32 × MS) :=
    some (0, σ)
set_option maxHeartbeats 4000000 in
set_option maxRecDepth 100000 in
theorem w_canBe_83 {p : Program} {l : Launch} {e : Env} {R : Room} {s : State} {m : MethodId} {args : Array Value} {below : List Frame} {meth : Method} {c : Code} {E : mE} {σ' : MS} {r : Int32} (hC : mC p s m args meth c E cX3_canBe 4 (some .boolean)) (hR : 1 ≤ R.frames ∧ 21 ≤ R.locals) (N : Nat) (σ : MS) (h : f_canBe_83 N σ = some (r, σ')) {H : Heap} {locs : List Loc} (hP : mP E σ H) (hS : va_S (mA E s.heap.size) s.heap H locs) {ls : Array Slot} (hl : lv_has ls 4 []) : W p l e R s m args below meth c H locs 0 0 (MQ below (mQi E s.heap.size r σ') args s 0 0 (mA E s.heap.size)) (F0 m 83 ls []) := by
  obtain ⟨⟨hx, hb, hml, hown, hts⟩, hK, hD, hr, hlk⟩ := id hC
  unfold f_canBe_83 at h
  refine lv_iconst (v := 0) hx hb dX3_canBe_83 (by decide) ?_
  cases h
  exact m_zret hC rfl hP hS dX3_canBe_84
def f_canBe_40 (N : Nat) (k2 : MS → Int32 → Int32 → Option (Int32 × MS)) (σ : MS) (x1 : Int32) (x2 : Int32) (x3 : Int32) : Option (Int32 × MS) :=
    if (σ.1 37) ≤ x2 then
    f_canBe_85 N k2 σ x1 x2
    else
    if mIn x2 (mLen 45) = true then mlet (σ.2.1 45 x2.toNatClampNeg) fun y3 =>
    if y3 = (-1) then
    f_canBe_85 N k2 σ x1 x2
    else
    if x3 = 0 then
    f_canBe_83 N σ
    else
    if mIn (((4 * x2) + x3) - 1) (mLen 52) = true then mlet (σ.2.1 52 (((4 * x2) + x3) - 1).toNatClampNeg) fun y7 =>
    if mIn x2 (mLen 45) = true then mlet (σ.2.1 45 x2.toNatClampNeg) fun y9 =>
    if y7 = y9 then
    f_canBe_85 N k2 σ x1 x2
    else
    f_canBe_83 N σ
    else none
    else none
    else none
set_option maxHeartbeats 4000000 in
set_option maxRecDepth 100000 in
theorem w_canBe_40 {p : Program} {l : Launch} {e : Env} {R : Room} {s : State} {m : MethodId} {args : Array Value} {below : List Frame} {meth : Method} {c : Code} {E : mE} {σ' : MS} {r : Int32} (hC : mC p s m args meth c E cX3_canBe 4 (some .boolean)) (hR : 1 ≤ R.frames ∧ 21 ≤ R.locals) (N : Nat) (k2 : MS → Int32 → Int32 → Option (Int32 × MS)) (hk2 : ∀ (σ : MS) (x1 : Int32) (x2 : Int32), k2 σ x1 x2 = some (r, σ') → ∀ (H : Heap) (locs : List Loc), mP E σ H → va_S (mA E s.heap.size) s.heap H locs → ∀ ls : Array Slot, lv_has ls 4 [(0, .ref (mh E)), (1, .int x1), (2, .int x2)] → W p l e R s m args below meth c H locs 0 0 (MQ below (mQi E s.heap.size r σ') args s 0 0 (mA E s.heap.size)) (F0 m 2 ls [])) (σ : MS) (x1 : Int32) (x2 : Int32) (x3 : Int32) (h : f_canBe_40 N k2 σ x1 x2 x3 = some (r, σ')) {H : Heap} {locs : List Loc} (hP : mP E σ H) (hS : va_S (mA E s.heap.size) s.heap H locs) {ls : Array Slot} (hl : lv_has ls 4 [(0, .ref (mh E)), (1, .int x1), (2, .int x2), (3, .int x3)]) : W p l e R s m args below meth c H locs 0 0 (MQ below (mQi E s.heap.size r σ') args s 0 0 (mA E s.heap.size)) (F0 m 40 ls []) := by
  obtain ⟨⟨hx, hb, hml, hown, hts⟩, hK, hD, hr, hlk⟩ := id hC
  unfold f_canBe_40 at h
  refine lv_iload_n hx hb dX3_canBe_40 rfl (lv_at hl 2 rfl) ?_
  refine lv_aload_n hx hb dX3_canBe_41 rfl (lv_at hl 0 rfl) ?_
  refine m_geti hC hP 37 (by decide) rfl q1930 dX3_canBe_42 ?_
  refine lv_icmp_ge (tgt := 85) hx hb dX3_canBe_45 (by decide) (fun c1 => ?_) (fun c1 => ?_)
  · have h := mif_t c1 h
    exact w_canBe_85 hC hR N k2 hk2 σ x1 x2 h hP hS (lv_sub hl [0, 1, 2] rfl)
  · have h := mif_f c1 h
    refine lv_aload_n hx hb dX3_canBe_48 rfl (lv_at hl 0 rfl) ?_
    refine m_geta hC hP 45 (by decide) rfl q1938 dX3_canBe_49 ?_
    refine lv_iload_n hx hb dX3_canBe_52 rfl (lv_at hl 2 rfl) ?_
    obtain ⟨c2, h⟩ := mif_n h
    refine m_ald hC hP 45 rfl c2 dX3_canBe_53 ?_
    refine lv_topi (fun y3 ey3 => ?_)
    have h := mlet_at ey3 h
    refine lv_iconst (v := (-1)) hx hb dX3_canBe_54 (by decide) ?_
    refine lv_icmp_eq (tgt := 85) hx hb dX3_canBe_55 (by decide) (fun c4 => ?_) (fun c4 => ?_)
    · have h := mif_t c4 h
      exact w_canBe_85 hC hR N k2 hk2 σ x1 x2 h hP hS (lv_sub hl [0, 1, 2] rfl)
    · have h := mif_f c4 h
      refine lv_iload_n hx hb dX3_canBe_58 rfl (lv_at hl 3 rfl) ?_
      refine lv_if_eq (tgt := 83) hx hb dX3_canBe_59 (by decide) (fun c5 => ?_) (fun c5 => ?_)
      · have h := mif_t c5 h
        exact w_canBe_83 hC hR N σ h hP hS (lv_sub hl [] rfl)
      · have h := mif_f c5 h
        refine lv_aload_n hx hb dX3_canBe_62 rfl (lv_at hl 0 rfl) ?_
        refine m_geta hC hP 52 (by decide) rfl q1945 dX3_canBe_63 ?_
        refine lv_iconst (v := 4) hx hb dX3_canBe_66 (by decide) ?_
        refine lv_iload_n hx hb dX3_canBe_67 rfl (lv_at hl 2 rfl) ?_
        refine lv_imul hx hb dX3_canBe_68 ?_
        refine lv_iload_n hx hb dX3_canBe_69 rfl (lv_at hl 3 rfl) ?_
        refine lv_iadd hx hb dX3_canBe_70 ?_
        refine lv_iconst (v := 1) hx hb dX3_canBe_71 (by decide) ?_
        refine lv_isub hx hb dX3_canBe_72 ?_
        obtain ⟨c6, h⟩ := mif_n h
        refine m_ald hC hP 52 rfl c6 dX3_canBe_73 ?_
        refine lv_topi (fun y7 ey7 => ?_)
        have h := mlet_at ey7 h
        refine lv_aload_n hx hb dX3_canBe_74 rfl (lv_at hl 0 rfl) ?_
        refine m_geta hC hP 45 (by decide) rfl q1938 dX3_canBe_75 ?_
        refine lv_iload_n hx hb dX3_canBe_78 rfl (lv_at hl 2 rfl) ?_
        obtain ⟨c8, h⟩ := mif_n h
        refine m_ald hC hP 45 rfl c8 dX3_canBe_79 ?_
        refine lv_topi (fun y9 ey9 => ?_)
        have h := mlet_at ey9 h
        refine lv_icmp_eq (tgt := 85) hx hb dX3_canBe_80 (by decide) (fun c10 => ?_) (fun c10 => ?_)
        · have h := mif_t c10 h
          exact w_canBe_85 hC hR N k2 hk2 σ x1 x2 h hP hS (lv_sub hl [0, 1, 2] rfl)
        · have h := mif_f c10 h
          exact w_canBe_83 hC hR N σ h hP hS (lv_sub hl [] rfl)
def f_canBe_38 (N : Nat) (σ : MS) : Option (Int32 × MS) :=
    some (0, σ)
set_option maxHeartbeats 4000000 in
set_option maxRecDepth 100000 in
theorem w_canBe_38 {p : Program} {l : Launch} {e : Env} {R : Room} {s : State} {m : MethodId} {args : Array Value} {below : List Frame} {meth : Method} {c : Code} {E : mE} {σ' : MS} {r : Int32} (hC : mC p s m args meth c E cX3_canBe 4 (some .boolean)) (hR : 1 ≤ R.frames ∧ 21 ≤ R.locals) (N : Nat) (σ : MS) (h : f_canBe_38 N σ = some (r, σ')) {H : Heap} {locs : List Loc} (hP : mP E σ H) (hS : va_S (mA E s.heap.size) s.heap H locs) {ls : Array Slot} (hl : lv_has ls 4 []) : W p l e R s m args below meth c H locs 0 0 (MQ below (mQi E s.heap.size r σ') args s 0 0 (mA E s.heap.size)) (F0 m 38 ls []) := by
  obtain ⟨⟨hx, hb, hml, hown, hts⟩, hK, hD, hr, hlk⟩ := id hC
  unfold f_canBe_38 at h
  refine lv_iconst (v := 0) hx hb dX3_canBe_38 (by decide) ?_
  cases h
  exact m_zret hC rfl hP hS dX3_canBe_39
def f_canBe_2 (N : Nat) : Nat → MS → Int32 → Int32 → Option (Int32 × MS)
  | 0, _, _, _ => none
  | n + 1, σ, x1, x2 =>
    if 5 ≤ x2 then
    some (1, σ)
    else
    mcall (f_digit N σ x1 x2) fun r4 σ2 =>
    if x2 < (σ2.1 37) then
    if mIn x2 (mLen 53) = true then mlet (σ2.2.1 53 x2.toNatClampNeg) fun y7 =>
    if r4 ≤ y7 then
    f_canBe_40 N (f_canBe_2 N n) σ2 x1 x2 r4
    else
    f_canBe_38 N σ2
    else none
    else
    if r4 ≤ 0 then
    f_canBe_40 N (f_canBe_2 N n) σ2 x1 x2 r4
    else
    f_canBe_38 N σ2
set_option maxHeartbeats 4000000 in
set_option maxRecDepth 100000 in
theorem w_canBe_2 {p : Program} {l : Launch} {e : Env} {R : Room} {s : State} {m : MethodId} {args : Array Value} {below : List Frame} {meth : Method} {c : Code} {E : mE} {σ' : MS} {r : Int32} (hC : mC p s m args meth c E cX3_canBe 4 (some .boolean)) (hR : 1 ≤ R.frames ∧ 21 ≤ R.locals) (N : Nat) : ∀ (n : Nat) (σ : MS) (x1 : Int32) (x2 : Int32), f_canBe_2 N n σ x1 x2 = some (r, σ') → ∀ (H : Heap) (locs : List Loc), mP E σ H → va_S (mA E s.heap.size) s.heap H locs → ∀ ls : Array Slot, lv_has ls 4 [(0, .ref (mh E)), (1, .int x1), (2, .int x2)] → W p l e R s m args below meth c H locs 0 0 (MQ below (mQi E s.heap.size r σ') args s 0 0 (mA E s.heap.size)) (F0 m 2 ls []) := by
  obtain ⟨⟨hx, hb, hml, hown, hts⟩, hK, hD, hr, hlk⟩ := id hC
  intro n
  induction n with
  | zero =>
    intro σ x1 x2 h
    cases h
  | succ n ih =>
    intro σ x1 x2 h H locs hP hS ls hl
    unfold f_canBe_2 at h
    refine lv_iload_n hx hb dX3_canBe_2 rfl (lv_at hl 2 rfl) ?_
    refine lv_iconst (v := 5) hx hb dX3_canBe_3 (by decide) ?_
    refine lv_icmp_ge (tgt := 91) hx hb dX3_canBe_4 (by decide) (fun c1 => ?_) (fun c1 => ?_)
    · have h := mif_t c1 h
      refine lv_iconst (v := 1) hx hb dX3_canBe_91 (by decide) ?_
      cases h
      exact m_zret hC rfl hP hS dX3_canBe_92
    · have h := mif_f c1 h
      refine lv_iload_n hx hb dX3_canBe_7 rfl (lv_at hl 1 rfl) ?_
      refine lv_iload_n hx hb dX3_canBe_8 rfl (lv_at hl 2 rfl) ?_
      obtain ⟨r4, σ2, c3, h⟩ := mcall_n h
      refine m_callsi (As := [.int x1, .int x2]) (rest := []) hC (met_digit l N E H.size σ x1 x2 r4 σ2 c3) (va_cwS 2 hts (lw_S q2360 q2361 q103 q2362) rfl rfl rfl (by decide +kernel) ⟨Nat.le_trans (Nat.le_of_ble_eq_true rfl) hR.1, Nat.le_trans (Nat.le_of_ble_eq_true rfl) hR.2⟩) hP hS rfl hl.1 rfl (Nat.le_of_ble_eq_true rfl) dX3_canBe_9 (fun H locs hP hS => ?_)
      refine lv_istore_n (lv' := [(3, .int r4), (0, .ref (mh E)), (1, .int x1), (2, .int x2)]) hx hb dX3_canBe_12 rfl hl (by decide) rfl (fun ls hl => ?_)
      refine lv_iload_n hx hb dX3_canBe_13 rfl (lv_at hl 3 rfl) ?_
      refine lv_aload_n hx hb dX3_canBe_14 rfl (lv_at hl 1 rfl) ?_
      refine m_geti hC hP 37 (by decide) rfl q1930 dX3_canBe_15 ?_
      refine lv_icmp_lt (tgt := 28) hx hb dX3_canBe_18 (by decide) (fun c5 => ?_) (fun c5 => ?_)
      · have h := mif_t c5 h
        refine lv_iload_n hx hb dX3_canBe_28 rfl (lv_at hl 0 rfl) ?_
        refine lv_aload_n hx hb dX3_canBe_29 rfl (lv_at hl 1 rfl) ?_
        refine m_geta hC hP 53 (by decide) rfl q1946 dX3_canBe_30 ?_
        refine lv_iload_n hx hb dX3_canBe_33 rfl (lv_at hl 3 rfl) ?_
        obtain ⟨c6, h⟩ := mif_n h
        refine m_ald hC hP 53 rfl c6 dX3_canBe_34 ?_
        refine lv_topi (fun y7 ey7 => ?_)
        have h := mlet_at ey7 h
        refine lv_icmp_le (tgt := 40) hx hb dX3_canBe_35 (by decide) (fun c8 => ?_) (fun c8 => ?_)
        · have h := mif_t c8 h
          exact w_canBe_40 hC hR N (f_canBe_2 N n) ih σ2 x1 x2 r4 h hP hS (lv_sub hl [1, 2, 3, 0] rfl)
        · have h := mif_f c8 h
          exact w_canBe_38 hC hR N σ2 h hP hS (lv_sub hl [] rfl)
      · have h := mif_f c5 h
        refine lv_iload_n hx hb dX3_canBe_21 rfl (lv_at hl 0 rfl) ?_
        refine lv_if_le (tgt := 40) hx hb dX3_canBe_22 (by decide) (fun c9 => ?_) (fun c9 => ?_)
        · have h := mif_t c9 h
          exact w_canBe_40 hC hR N (f_canBe_2 N n) ih σ2 x1 x2 r4 h hP hS (lv_sub hl [1, 2, 3, 0] rfl)
        · have h := mif_f c9 h
          refine lv_goto (tgt := 38) hx hb dX3_canBe_25 (by decide) ?_
          exact w_canBe_38 hC hR N σ2 h hP hS (lv_sub hl [] rfl)
def f_canBe (N : Nat) (σ : MS) (x1 : Int32) : Option (Int32 × MS) :=
    f_canBe_2 N N σ x1 0
set_option maxHeartbeats 4000000 in
set_option maxRecDepth 100000 in
theorem w_canBe_0 {p : Program} {l : Launch} {e : Env} {R : Room} {s : State} {m : MethodId} {args : Array Value} {below : List Frame} {meth : Method} {c : Code} {E : mE} {σ' : MS} {r : Int32} (hC : mC p s m args meth c E cX3_canBe 4 (some .boolean)) (hR : 1 ≤ R.frames ∧ 21 ≤ R.locals) (N : Nat) (σ : MS) (x1 : Int32) (h : f_canBe N σ x1 = some (r, σ')) {H : Heap} {locs : List Loc} (hP : mP E σ H) (hS : va_S (mA E s.heap.size) s.heap H locs) {ls : Array Slot} (hl : lv_has ls 4 [(0, .ref (mh E)), (1, .int x1)]) : W p l e R s m args below meth c H locs 0 0 (MQ below (mQi E s.heap.size r σ') args s 0 0 (mA E s.heap.size)) (F0 m 0 ls []) := by
  obtain ⟨⟨hx, hb, hml, hown, hts⟩, hK, hD, hr, hlk⟩ := id hC
  unfold f_canBe at h
  refine lv_iconst (v := 0) hx hb dX3_canBe_0 (by decide) ?_
  refine lv_istore_n (lv' := [(2, .int 0), (0, .ref (mh E)), (1, .int x1)]) hx hb dX3_canBe_1 rfl hl (by decide) rfl (fun ls hl => ?_)
  exact w_canBe_2 hC hR N N σ x1 0 h _ _ hP hS _ (lv_sub hl [1, 2, 0] rfl)
theorem met_canBe (l : Launch) (N : Nat) (E : mE) (sz : Nat) (σ : MS) (x1 : Int32) (r : Int32) (σ' : MS) (h : f_canBe N σ x1 = some (r, σ')) : Met l yX3_canBe (ws_ yX3_canBe cX3_canBe 4 (some .boolean)) ({ frames := 1, cells := 0, slots := 0, locals := 21 }) (mPc E sz σ [.ref (mh E), .int x1]) (mQi E sz r σ') 0 0 (mA E sz) :=
  m_met (Qc := fun z => mQi E z r σ') (by decide) rfl (Nat.le_of_ble_eq_true rfl) (fun hC ls hl hP => w_canBe_0 hC ⟨Nat.le_refl _, Nat.le_refl _⟩ N σ x1 h hP va_S.rf hl)
def f_floorOf_37 (N : Nat) (σ : MS) (s0 : Int32) : Option (Int32 × MS) :=
    some (s0, σ)
set_option maxHeartbeats 4000000 in
set_option maxRecDepth 100000 in
theorem w_floorOf_37 {p : Program} {l : Launch} {e : Env} {R : Room} {s : State} {m : MethodId} {args : Array Value} {below : List Frame} {meth : Method} {c : Code} {E : mE} {σ' : MS} {r : Int32} (hC : mC p s m args meth c E cX3_floorOf 4 (some .int)) (hR : 1 ≤ R.frames ∧ 21 ≤ R.locals) (N : Nat) (σ : MS) (s0 : Int32) (h : f_floorOf_37 N σ s0 = some (r, σ')) {H : Heap} {locs : List Loc} (hP : mP E σ H) (hS : va_S (mA E s.heap.size) s.heap H locs) {ls : Array Slot} (hl : lv_has ls 4 []) : W p l e R s m args below meth c H locs 0 0 (MQ below (mQi E s.heap.size r σ') args s 0 0 (mA E s.heap.size)) (F0 m 37 ls [.int s0]) := by
  obtain ⟨⟨hx, hb, hml, hown, hts⟩, hK, hD, hr, hlk⟩ := id hC
  unfold f_floorOf_37 at h
  cases h
  exact m_iret hC hP hS dX3_floorOf_37
def f_floorOf (N : Nat) (σ : MS) (x1 : Int32) (x2 : Int32) : Option (Int32 × MS) :=
    if mIn x1 (mLen 43) = true then mlet (σ.2.1 43 x1.toNatClampNeg) fun y2 =>
    if y2 = (-1) then
    if mIn x1 (mLen 42) = true then mlet (σ.2.1 42 x1.toNatClampNeg) fun y10 =>
    f_floorOf_37 N σ y10
    else none
    else
    mcall (f_digit N σ x2 y2) fun r6 σ4 =>
    if mIn (((4 * y2) + r6) - 1) (mLen 52) = true then mlet (σ4.2.1 52 (((4 * y2) + r6) - 1).toNatClampNeg) fun y8 =>
    f_floorOf_37 N σ4 y8
    else none
    else none
set_option maxHeartbeats 4000000 in
set_option maxRecDepth 100000 in
theorem w_floorOf_0 {p : Program} {l : Launch} {e : Env} {R : Room} {s : State} {m : MethodId} {args : Array Value} {below : List Frame} {meth : Method} {c : Code} {E : mE} {σ' : MS} {r : Int32} (hC : mC p s m args meth c E cX3_floorOf 4 (some .int)) (hR : 1 ≤ R.frames ∧ 21 ≤ R.locals) (N : Nat) (σ : MS) (x1 : Int32) (x2 : Int32) (h : f_floorOf N σ x1 x2 = some (r, σ')) {H : Heap} {locs : List Loc} (hP : mP E σ H) (hS : va_S (mA E s.heap.size) s.heap H locs) {ls : Array Slot} (hl : lv_has ls 4 [(0, .ref (mh E)), (1, .int x1), (2, .int x2)]) : W p l e R s m args below meth c H locs 0 0 (MQ below (mQi E s.heap.size r σ') args s 0 0 (mA E s.heap.size)) (F0 m 0 ls []) := by
  obtain ⟨⟨hx, hb, hml, hown, hts⟩, hK, hD, hr, hlk⟩ := id hC
  unfold f_floorOf at h
  refine lv_aload_n hx hb dX3_floorOf_0 rfl (lv_at hl 0 rfl) ?_
  refine m_geta hC hP 43 (by decide) rfl q1936 dX3_floorOf_1 ?_
  refine lv_iload_n hx hb dX3_floorOf_4 rfl (lv_at hl 1 rfl) ?_
  obtain ⟨c1, h⟩ := mif_n h
  refine m_ald hC hP 43 rfl c1 dX3_floorOf_5 ?_
  refine lv_topi (fun y2 ey2 => ?_)
  have h := mlet_at ey2 h
  refine lv_istore_n (lv' := [(3, .int y2), (0, .ref (mh E)), (1, .int x1), (2, .int x2)]) hx hb dX3_floorOf_6 rfl hl (by decide) rfl (fun ls hl => ?_)
  refine lv_iload_n hx hb dX3_floorOf_7 rfl (lv_at hl 0 rfl) ?_
  refine lv_iconst (v := (-1)) hx hb dX3_floorOf_8 (by decide) ?_
  refine lv_icmp_ne (tgt := 21) hx hb dX3_floorOf_9 (by decide) (fun c3 => ?_) (fun c3 => ?_)
  · have h := mif_f c3 h
    refine lv_aload_n hx hb dX3_floorOf_21 rfl (lv_at hl 1 rfl) ?_
    refine m_geta hC hP 52 (by decide) rfl q1945 dX3_floorOf_22 ?_
    refine lv_iconst (v := 4) hx hb dX3_floorOf_25 (by decide) ?_
    refine lv_iload_n hx hb dX3_floorOf_26 rfl (lv_at hl 0 rfl) ?_
    refine lv_imul hx hb dX3_floorOf_27 ?_
    refine lv_iload_n hx hb dX3_floorOf_28 rfl (lv_at hl 3 rfl) ?_
    refine lv_iload_n hx hb dX3_floorOf_29 rfl (lv_at hl 0 rfl) ?_
    obtain ⟨r6, σ4, c5, h⟩ := mcall_n h
    refine m_callsi (As := [.int x2, .int y2]) (rest := [.int (4 * y2), .ref (mad E 52)]) hC (met_digit l N E H.size σ x2 y2 r6 σ4 c5) (va_cwS 2 hts (lw_S q2360 q2361 q103 q2362) rfl rfl rfl (by decide +kernel) ⟨Nat.le_trans (Nat.le_of_ble_eq_true rfl) hR.1, Nat.le_trans (Nat.le_of_ble_eq_true rfl) hR.2⟩) hP hS rfl hl.1 rfl (Nat.le_of_ble_eq_true rfl) dX3_floorOf_30 (fun H locs hP hS => ?_)
    refine lv_iadd hx hb dX3_floorOf_33 ?_
    refine lv_iconst (v := 1) hx hb dX3_floorOf_34 (by decide) ?_
    refine lv_isub hx hb dX3_floorOf_35 ?_
    obtain ⟨c7, h⟩ := mif_n h
    refine m_ald hC hP 52 rfl c7 dX3_floorOf_36 ?_
    refine lv_topi (fun y8 ey8 => ?_)
    have h := mlet_at ey8 h
    exact w_floorOf_37 hC hR N σ4 y8 h hP hS (lv_sub hl [] rfl)
  · have h := mif_t c3 h
    refine lv_aload_n hx hb dX3_floorOf_12 rfl (lv_at hl 1 rfl) ?_
    refine m_geta hC hP 42 (by decide) rfl q1935 dX3_floorOf_13 ?_
    refine lv_iload_n hx hb dX3_floorOf_16 rfl (lv_at hl 2 rfl) ?_
    obtain ⟨c9, h⟩ := mif_n h
    refine m_ald hC hP 42 rfl c9 dX3_floorOf_17 ?_
    refine lv_topi (fun y10 ey10 => ?_)
    have h := mlet_at ey10 h
    refine lv_goto (tgt := 37) hx hb dX3_floorOf_18 (by decide) ?_
    exact w_floorOf_37 hC hR N σ y10 h hP hS (lv_sub hl [] rfl)
theorem met_floorOf (l : Launch) (N : Nat) (E : mE) (sz : Nat) (σ : MS) (x1 : Int32) (x2 : Int32) (r : Int32) (σ' : MS) (h : f_floorOf N σ x1 x2 = some (r, σ')) : Met l yX3_floorOf (ws_ yX3_floorOf cX3_floorOf 4 (some .int)) ({ frames := 1, cells := 0, slots := 0, locals := 21 }) (mPc E sz σ [.ref (mh E), .int x1, .int x2]) (mQi E sz r σ') 0 0 (mA E sz) :=
  m_met (Qc := fun z => mQi E z r σ') (by decide) rfl (Nat.le_of_ble_eq_true rfl) (fun hC ls hl hP => w_floorOf_0 hC ⟨Nat.le_refl _, Nat.le_refl _⟩ N σ x1 x2 h hP va_S.rf hl)
def f_lays_106 (N : Nat) (k2 : MS → Int32 → Int32 → Option (MS)) (k17 : MS → Int32 → Int32 → Int32 → Option (MS)) (σ : MS) (x1 : Int32) (x2 : Int32) (x3 : Int32) : Option (MS) :=
    mlet (x3 + 1) fun y1 =>
    k17 σ x1 x2 y1
set_option maxHeartbeats 4000000 in
set_option maxRecDepth 100000 in
theorem w_lays_106 {p : Program} {l : Launch} {e : Env} {R : Room} {s : State} {m : MethodId} {args : Array Value} {below : List Frame} {meth : Method} {c : Code} {E : mE} {σ' : MS} (hC : mC p s m args meth c E cX3_lays 5 none) (hR : 2 ≤ R.frames ∧ 46 ≤ R.locals) (N : Nat) (k2 : MS → Int32 → Int32 → Option (MS)) (hk2 : ∀ (σ : MS) (x1 : Int32) (x2 : Int32), k2 σ x1 x2 = some σ' → ∀ (H : Heap) (locs : List Loc), mP E σ H → va_S (mA E s.heap.size) s.heap H locs → ∀ ls : Array Slot, lv_has ls 5 [(0, .ref (mh E)), (1, .int x1), (2, .int x2)] → W p l e R s m args below meth c H locs 0 0 (MQ below (mQv E s.heap.size σ') args s 0 0 (mA E s.heap.size)) (F0 m 2 ls [])) (k17 : MS → Int32 → Int32 → Int32 → Option (MS)) (hk17 : ∀ (σ : MS) (x1 : Int32) (x2 : Int32) (x3 : Int32), k17 σ x1 x2 x3 = some σ' → ∀ (H : Heap) (locs : List Loc), mP E σ H → va_S (mA E s.heap.size) s.heap H locs → ∀ ls : Array Slot, lv_has ls 5 [(0, .ref (mh E)), (1, .int x1), (2, .int x2), (3, .int x3)] → W p l e R s m args below meth c H locs 0 0 (MQ below (mQv E s.heap.size σ') args s 0 0 (mA E s.heap.size)) (F0 m 17 ls [])) (σ : MS) (x1 : Int32) (x2 : Int32) (x3 : Int32) (h : f_lays_106 N k2 k17 σ x1 x2 x3 = some σ') {H : Heap} {locs : List Loc} (hP : mP E σ H) (hS : va_S (mA E s.heap.size) s.heap H locs) {ls : Array Slot} (hl : lv_has ls 5 [(0, .ref (mh E)), (1, .int x1), (2, .int x2), (3, .int x3)]) : W p l e R s m args below meth c H locs 0 0 (MQ below (mQv E s.heap.size σ') args s 0 0 (mA E s.heap.size)) (F0 m 106 ls []) := by
  obtain ⟨⟨hx, hb, hml, hown, hts⟩, hK, hD, hr, hlk⟩ := id hC
  unfold f_lays_106 at h
  obtain ⟨y1, ey1⟩ : ∃ z : Int32, z = x3 + 1 := ⟨_, rfl⟩
  have h := mlet_at ey1 h
  refine lv_iinc (v := y1) (lv' := [(3, .int y1), (0, .ref (mh E)), (1, .int x1), (2, .int x2)]) hx hb dX3_lays_106 hl (k := 3) rfl (by rw [ey1]; rfl) (by decide) rfl (fun ls hl => ?_)
  refine lv_goto (tgt := 17) hx hb dX3_lays_109 (by decide) ?_
  exact hk17 σ x1 x2 y1 h _ _ hP hS _ (lv_sub hl [1, 2, 3, 0] rfl)
def f_lays_74 (N : Nat) (k2 : MS → Int32 → Int32 → Option (MS)) (k17 : MS → Int32 → Int32 → Int32 → Option (MS)) (σ : MS) (x1 : Int32) (x2 : Int32) (x3 : Int32) (x4 : Int32) : Option (MS) :=
    mcall (f_floorOf N σ x4 x1) fun r3 σ1 =>
    if mIn (((32 * x2) + (8 * x3)) + r3) (mLen 71) = true then mlet (σ1.2.1 71 (((32 * x2) + (8 * x3)) + r3).toNatClampNeg) fun y5 =>
    if mIn ((4 * x2) + x3) (mLen 70) = true then mlet (mArr σ1 70 ((4 * x2) + x3).toNatClampNeg y5) fun σ7 =>
    f_lays_106 N k2 k17 σ7 x1 x2 x3
    else none
    else none
set_option maxHeartbeats 4000000 in
set_option maxRecDepth 100000 in
theorem w_lays_74 {p : Program} {l : Launch} {e : Env} {R : Room} {s : State} {m : MethodId} {args : Array Value} {below : List Frame} {meth : Method} {c : Code} {E : mE} {σ' : MS} (hC : mC p s m args meth c E cX3_lays 5 none) (hR : 2 ≤ R.frames ∧ 46 ≤ R.locals) (N : Nat) (k2 : MS → Int32 → Int32 → Option (MS)) (hk2 : ∀ (σ : MS) (x1 : Int32) (x2 : Int32), k2 σ x1 x2 = some σ' → ∀ (H : Heap) (locs : List Loc), mP E σ H → va_S (mA E s.heap.size) s.heap H locs → ∀ ls : Array Slot, lv_has ls 5 [(0, .ref (mh E)), (1, .int x1), (2, .int x2)] → W p l e R s m args below meth c H locs 0 0 (MQ below (mQv E s.heap.size σ') args s 0 0 (mA E s.heap.size)) (F0 m 2 ls [])) (k17 : MS → Int32 → Int32 → Int32 → Option (MS)) (hk17 : ∀ (σ : MS) (x1 : Int32) (x2 : Int32) (x3 : Int32), k17 σ x1 x2 x3 = some σ' → ∀ (H : Heap) (locs : List Loc), mP E σ H → va_S (mA E s.heap.size) s.heap H locs → ∀ ls : Array Slot, lv_has ls 5 [(0, .ref (mh E)), (1, .int x1), (2, .int x2), (3, .int x3)] → W p l e R s m args below meth c H locs 0 0 (MQ below (mQv E s.heap.size σ') args s 0 0 (mA E s.heap.size)) (F0 m 17 ls [])) (σ : MS) (x1 : Int32) (x2 : Int32) (x3 : Int32) (x4 : Int32) (h : f_lays_74 N k2 k17 σ x1 x2 x3 x4 = some σ') {H : Heap} {locs : List Loc} (hP : mP E σ H) (hS : va_S (mA E s.heap.size) s.heap H locs) {ls : Array Slot} (hl : lv_has ls 5 [(0, .ref (mh E)), (1, .int x1), (2, .int x2), (3, .int x3), (4, .int x4)]) : W p l e R s m args below meth c H locs 0 0 (MQ below (mQv E s.heap.size σ') args s 0 0 (mA E s.heap.size)) (F0 m 74 ls []) := by
  obtain ⟨⟨hx, hb, hml, hown, hts⟩, hK, hD, hr, hlk⟩ := id hC
  unfold f_lays_74 at h
  refine lv_aload_n hx hb dX3_lays_74 rfl (lv_at hl 0 rfl) ?_
  refine m_geta hC hP 70 (by decide) rfl q1963 dX3_lays_75 ?_
  refine lv_iconst (v := 4) hx hb dX3_lays_78 (by decide) ?_
  refine lv_iload_n hx hb dX3_lays_79 rfl (lv_at hl 2 rfl) ?_
  refine lv_imul hx hb dX3_lays_80 ?_
  refine lv_iload_n hx hb dX3_lays_81 rfl (lv_at hl 3 rfl) ?_
  refine lv_iadd hx hb dX3_lays_82 ?_
  refine lv_aload_n hx hb dX3_lays_83 rfl (lv_at hl 0 rfl) ?_
  refine m_geta hC hP 71 (by decide) rfl q1964 dX3_lays_84 ?_
  refine lv_bipush (v := 32) hx hb dX3_lays_87 (by decide) ?_
  refine lv_iload_n hx hb dX3_lays_89 rfl (lv_at hl 2 rfl) ?_
  refine lv_imul hx hb dX3_lays_90 ?_
  refine lv_bipush (v := 8) hx hb dX3_lays_91 (by decide) ?_
  refine lv_iload_n hx hb dX3_lays_93 rfl (lv_at hl 3 rfl) ?_
  refine lv_imul hx hb dX3_lays_94 ?_
  refine lv_iadd hx hb dX3_lays_95 ?_
  refine lv_aload_n hx hb dX3_lays_96 rfl (lv_at hl 0 rfl) ?_
  refine lv_iload hx hb dX3_lays_97 (lv_at hl 4 rfl) ?_
  refine lv_iload_n hx hb dX3_lays_99 rfl (lv_at hl 1 rfl) ?_
  obtain ⟨r3, σ1, c2, h⟩ := mcall_n h
  refine m_calli (As := [.int x4, .int x1]) (rest := [.int ((32 * x2) + (8 * x3)), .ref (mad E 71), .int ((4 * x2) + x3), .ref (mad E 70)]) hC (met_floorOf l N E H.size σ x4 x1 r3 σ1 c2) (cwV 2 hts (lw_V q2367 q2369 qs74 q103 q2370) rfl rfl rfl (by decide +kernel) ⟨Nat.le_trans (Nat.le_of_ble_eq_true rfl) hR.1, Nat.le_trans (Nat.le_of_ble_eq_true rfl) hR.2⟩) hP hS rfl hl.1 rfl (Nat.le_of_ble_eq_true rfl) dX3_lays_100 (fun H locs hP hS => ?_)
  refine lv_iadd hx hb dX3_lays_103 ?_
  obtain ⟨c4, h⟩ := mif_n h
  refine m_ald hC hP 71 rfl c4 dX3_lays_104 ?_
  refine lv_topi (fun y5 ey5 => ?_)
  have h := mlet_at ey5 h
  obtain ⟨c6, h⟩ := mif_n h
  refine m_ast hC hP hS 70 rfl c6 dX3_lays_105 (fun H locs hP hS => ?_)
  obtain ⟨σ7, eσ7⟩ : ∃ z : MS, z = mArr σ1 70 ((4 * x2) + x3).toNatClampNeg y5 := ⟨_, rfl⟩
  rw [← eσ7] at hP
  have h := mlet_at eσ7 h
  exact w_lays_106 hC hR N k2 hk2 k17 hk17 σ7 x1 x2 x3 h hP hS (lv_sub hl [0, 1, 2, 3] rfl)
def f_lays_17 (N : Nat) (k2 : MS → Int32 → Int32 → Option (MS)) : Nat → MS → Int32 → Int32 → Int32 → Option (MS)
  | 0, _, _, _, _ => none
  | n + 1, σ, x1, x2, x3 =>
    if 4 ≤ x3 then
    mlet (x2 + 1) fun y2 =>
    k2 σ x1 y2
    else
    mcall (f_beside N σ x2 x3) fun r5 σ3 =>
    if mIn ((4 * x2) + x3) (mLen 70) = true then mlet (mArr σ3 70 ((4 * x2) + x3).toNatClampNeg 0) fun σ7 =>
    if r5 < 0 then
    f_lays_106 N k2 (f_lays_17 N k2 n) σ7 x1 x2 x3
    else
    if mIn r5 (mLen 43) = true then mlet (σ7.2.1 43 r5.toNatClampNeg) fun y10 =>
    if y10 = (-1) then
    f_lays_74 N k2 (f_lays_17 N k2 n) σ7 x1 x2 x3 r5
    else
    if mIn r5 (mLen 43) = true then mlet (σ7.2.1 43 r5.toNatClampNeg) fun y13 =>
    mcall (f_digit N σ7 x1 y13) fun r16 σ14 =>
    if r16 = 0 then
    f_lays_106 N k2 (f_lays_17 N k2 n) σ14 x1 x2 x3
    else
    f_lays_74 N k2 (f_lays_17 N k2 n) σ14 x1 x2 x3 r5
    else none
    else none
    else none
set_option maxHeartbeats 4000000 in
set_option maxRecDepth 100000 in
theorem w_lays_17 {p : Program} {l : Launch} {e : Env} {R : Room} {s : State} {m : MethodId} {args : Array Value} {below : List Frame} {meth : Method} {c : Code} {E : mE} {σ' : MS} (hC : mC p s m args meth c E cX3_lays 5 none) (hR : 2 ≤ R.frames ∧ 46 ≤ R.locals) (N : Nat) (k2 : MS → Int32 → Int32 → Option (MS)) (hk2 : ∀ (σ : MS) (x1 : Int32) (x2 : Int32), k2 σ x1 x2 = some σ' → ∀ (H : Heap) (locs : List Loc), mP E σ H → va_S (mA E s.heap.size) s.heap H locs → ∀ ls : Array Slot, lv_has ls 5 [(0, .ref (mh E)), (1, .int x1), (2, .int x2)] → W p l e R s m args below meth c H locs 0 0 (MQ below (mQv E s.heap.size σ') args s 0 0 (mA E s.heap.size)) (F0 m 2 ls [])) : ∀ (n : Nat) (σ : MS) (x1 : Int32) (x2 : Int32) (x3 : Int32), f_lays_17 N k2 n σ x1 x2 x3 = some σ' → ∀ (H : Heap) (locs : List Loc), mP E σ H → va_S (mA E s.heap.size) s.heap H locs → ∀ ls : Array Slot, lv_has ls 5 [(0, .ref (mh E)), (1, .int x1), (2, .int x2), (3, .int x3)] → W p l e R s m args below meth c H locs 0 0 (MQ below (mQv E s.heap.size σ') args s 0 0 (mA E s.heap.size)) (F0 m 17 ls []) := by
  obtain ⟨⟨hx, hb, hml, hown, hts⟩, hK, hD, hr, hlk⟩ := id hC
  intro n
  induction n with
  | zero =>
    intro σ x1 x2 x3 h
    cases h
  | succ n ih =>
    intro σ x1 x2 x3 h H locs hP hS ls hl
    unfold f_lays_17 at h
    refine lv_iload_n hx hb dX3_lays_17 rfl (lv_at hl 3 rfl) ?_
    refine lv_iconst (v := 4) hx hb dX3_lays_18 (by decide) ?_
    refine lv_icmp_ge (tgt := 112) hx hb dX3_lays_19 (by decide) (fun c1 => ?_) (fun c1 => ?_)
    · have h := mif_t c1 h
      obtain ⟨y2, ey2⟩ : ∃ z : Int32, z = x2 + 1 := ⟨_, rfl⟩
      have h := mlet_at ey2 h
      refine lv_iinc (v := y2) (lv' := [(2, .int y2), (0, .ref (mh E)), (1, .int x1), (3, .int x3)]) hx hb dX3_lays_112 hl (k := 2) rfl (by rw [ey2]; rfl) (by decide) rfl (fun ls hl => ?_)
      refine lv_goto (tgt := 2) hx hb dX3_lays_115 (by decide) ?_
      exact hk2 σ x1 y2 h _ _ hP hS _ (lv_sub hl [1, 2, 0] rfl)
    · have h := mif_f c1 h
      refine lv_aload_n hx hb dX3_lays_22 rfl (lv_at hl 0 rfl) ?_
      refine lv_iload_n hx hb dX3_lays_23 rfl (lv_at hl 2 rfl) ?_
      refine lv_iload_n hx hb dX3_lays_24 rfl (lv_at hl 3 rfl) ?_
      obtain ⟨r5, σ3, c4, h⟩ := mcall_n h
      refine m_calli (As := [.int x2, .int x3]) (rest := []) hC (met_beside l N E H.size σ x2 x3 r5 σ3 c4) (cwV 2 hts (lw_V q2316 q2318 qs63 q103 q2319) rfl rfl rfl (by decide +kernel) ⟨Nat.le_trans (Nat.le_of_ble_eq_true rfl) hR.1, Nat.le_trans (Nat.le_of_ble_eq_true rfl) hR.2⟩) hP hS rfl hl.1 rfl (Nat.le_of_ble_eq_true rfl) dX3_lays_25 (fun H locs hP hS => ?_)
      refine lv_istore (lv' := [(4, .int r5), (0, .ref (mh E)), (1, .int x1), (2, .int x2), (3, .int x3)]) hx hb dX3_lays_28 hl (by decide) rfl (fun ls hl => ?_)
      refine lv_aload_n hx hb dX3_lays_30 rfl (lv_at hl 1 rfl) ?_
      refine m_geta hC hP 70 (by decide) rfl q1963 dX3_lays_31 ?_
      refine lv_iconst (v := 4) hx hb dX3_lays_34 (by decide) ?_
      refine lv_iload_n hx hb dX3_lays_35 rfl (lv_at hl 3 rfl) ?_
      refine lv_imul hx hb dX3_lays_36 ?_
      refine lv_iload_n hx hb dX3_lays_37 rfl (lv_at hl 4 rfl) ?_
      refine lv_iadd hx hb dX3_lays_38 ?_
      refine lv_iconst (v := 0) hx hb dX3_lays_39 (by decide) ?_
      obtain ⟨c6, h⟩ := mif_n h
      refine m_ast hC hP hS 70 rfl c6 dX3_lays_40 (fun H locs hP hS => ?_)
      obtain ⟨σ7, eσ7⟩ : ∃ z : MS, z = mArr σ3 70 ((4 * x2) + x3).toNatClampNeg 0 := ⟨_, rfl⟩
      rw [← eσ7] at hP
      have h := mlet_at eσ7 h
      refine lv_iload hx hb dX3_lays_41 (lv_at hl 0 rfl) ?_
      refine lv_if_lt (tgt := 106) hx hb dX3_lays_43 (by decide) (fun c8 => ?_) (fun c8 => ?_)
      · have h := mif_t c8 h
        exact w_lays_106 hC hR N k2 hk2 (f_lays_17 N k2 n) ih σ7 x1 x2 x3 h hP hS (lv_sub hl [1, 2, 3, 4] rfl)
      · have h := mif_f c8 h
        refine lv_aload_n hx hb dX3_lays_46 rfl (lv_at hl 1 rfl) ?_
        refine m_geta hC hP 43 (by decide) rfl q1936 dX3_lays_47 ?_
        refine lv_iload hx hb dX3_lays_50 (lv_at hl 0 rfl) ?_
        obtain ⟨c9, h⟩ := mif_n h
        refine m_ald hC hP 43 rfl c9 dX3_lays_52 ?_
        refine lv_topi (fun y10 ey10 => ?_)
        have h := mlet_at ey10 h
        refine lv_iconst (v := (-1)) hx hb dX3_lays_53 (by decide) ?_
        refine lv_icmp_eq (tgt := 74) hx hb dX3_lays_54 (by decide) (fun c11 => ?_) (fun c11 => ?_)
        · have h := mif_t c11 h
          exact w_lays_74 hC hR N k2 hk2 (f_lays_17 N k2 n) ih σ7 x1 x2 x3 r5 h hP hS (lv_sub hl [1, 2, 3, 4, 0] rfl)
        · have h := mif_f c11 h
          refine lv_iload_n hx hb dX3_lays_57 rfl (lv_at hl 2 rfl) ?_
          refine lv_aload_n hx hb dX3_lays_58 rfl (lv_at hl 1 rfl) ?_
          refine m_geta hC hP 43 (by decide) rfl q1936 dX3_lays_59 ?_
          refine lv_iload hx hb dX3_lays_62 (lv_at hl 0 rfl) ?_
          obtain ⟨c12, h⟩ := mif_n h
          refine m_ald hC hP 43 rfl c12 dX3_lays_64 ?_
          refine lv_topi (fun y13 ey13 => ?_)
          have h := mlet_at ey13 h
          obtain ⟨r16, σ14, c15, h⟩ := mcall_n h
          refine m_callsi (As := [.int x1, .int y13]) (rest := []) hC (met_digit l N E H.size σ7 x1 y13 r16 σ14 c15) (va_cwS 2 hts (lw_S q2360 q2361 q103 q2362) rfl rfl rfl (by decide +kernel) ⟨Nat.le_trans (Nat.le_of_ble_eq_true rfl) hR.1, Nat.le_trans (Nat.le_of_ble_eq_true rfl) hR.2⟩) hP hS rfl hl.1 rfl (Nat.le_of_ble_eq_true rfl) dX3_lays_65 (fun H locs hP hS => ?_)
          refine lv_if_ne (tgt := 74) hx hb dX3_lays_68 (by decide) (fun c17 => ?_) (fun c17 => ?_)
          · have h := mif_f c17 h
            exact w_lays_74 hC hR N k2 hk2 (f_lays_17 N k2 n) ih σ14 x1 x2 x3 r5 h hP hS (lv_sub hl [1, 2, 3, 4, 0] rfl)
          · have h := mif_t c17 h
            refine lv_goto (tgt := 106) hx hb dX3_lays_71 (by decide) ?_
            exact w_lays_106 hC hR N k2 hk2 (f_lays_17 N k2 n) ih σ14 x1 x2 x3 h hP hS (lv_sub hl [1, 2, 3, 4] rfl)
def f_lays_2 (N : Nat) : Nat → MS → Int32 → Int32 → Option (MS)
  | 0, _, _, _ => none
  | n + 1, σ, x1, x2 =>
    if ((σ.1 35) * (σ.1 36)) ≤ x2 then
    some σ
    else
    f_lays_17 N (f_lays_2 N n) N σ x1 x2 0
set_option maxHeartbeats 4000000 in
set_option maxRecDepth 100000 in
theorem w_lays_2 {p : Program} {l : Launch} {e : Env} {R : Room} {s : State} {m : MethodId} {args : Array Value} {below : List Frame} {meth : Method} {c : Code} {E : mE} {σ' : MS} (hC : mC p s m args meth c E cX3_lays 5 none) (hR : 2 ≤ R.frames ∧ 46 ≤ R.locals) (N : Nat) : ∀ (n : Nat) (σ : MS) (x1 : Int32) (x2 : Int32), f_lays_2 N n σ x1 x2 = some σ' → ∀ (H : Heap) (locs : List Loc), mP E σ H → va_S (mA E s.heap.size) s.heap H locs → ∀ ls : Array Slot, lv_has ls 5 [(0, .ref (mh E)), (1, .int x1), (2, .int x2)] → W p l e R s m args below meth c H locs 0 0 (MQ below (mQv E s.heap.size σ') args s 0 0 (mA E s.heap.size)) (F0 m 2 ls []) := by
  obtain ⟨⟨hx, hb, hml, hown, hts⟩, hK, hD, hr, hlk⟩ := id hC
  intro n
  induction n with
  | zero =>
    intro σ x1 x2 h
    cases h
  | succ n ih =>
    intro σ x1 x2 h H locs hP hS ls hl
    unfold f_lays_2 at h
    refine lv_iload_n hx hb dX3_lays_2 rfl (lv_at hl 2 rfl) ?_
    refine lv_aload_n hx hb dX3_lays_3 rfl (lv_at hl 0 rfl) ?_
    refine m_geti hC hP 35 (by decide) rfl q1928 dX3_lays_4 ?_
    refine lv_aload_n hx hb dX3_lays_7 rfl (lv_at hl 0 rfl) ?_
    refine m_geti hC hP 36 (by decide) rfl q1929 dX3_lays_8 ?_
    refine lv_imul hx hb dX3_lays_11 ?_
    refine lv_icmp_ge (tgt := 118) hx hb dX3_lays_12 (by decide) (fun c1 => ?_) (fun c1 => ?_)
    · have h := mif_t c1 h
      cases h
      exact m_vret hC hP hS dX3_lays_118
    · have h := mif_f c1 h
      refine lv_iconst (v := 0) hx hb dX3_lays_15 (by decide) ?_
      refine lv_istore_n (lv' := [(3, .int 0), (0, .ref (mh E)), (1, .int x1), (2, .int x2)]) hx hb dX3_lays_16 rfl hl (by decide) rfl (fun ls hl => ?_)
      exact w_lays_17 hC hR N (f_lays_2 N n) ih N σ x1 x2 0 h _ _ hP hS _ (lv_sub hl [1, 2, 3, 0] rfl)
def f_lays (N : Nat) (σ : MS) (x1 : Int32) : Option (MS) :=
    f_lays_2 N N σ x1 0
set_option maxHeartbeats 4000000 in
set_option maxRecDepth 100000 in
theorem w_lays_0 {p : Program} {l : Launch} {e : Env} {R : Room} {s : State} {m : MethodId} {args : Array Value} {below : List Frame} {meth : Method} {c : Code} {E : mE} {σ' : MS} (hC : mC p s m args meth c E cX3_lays 5 none) (hR : 2 ≤ R.frames ∧ 46 ≤ R.locals) (N : Nat) (σ : MS) (x1 : Int32) (h : f_lays N σ x1 = some σ') {H : Heap} {locs : List Loc} (hP : mP E σ H) (hS : va_S (mA E s.heap.size) s.heap H locs) {ls : Array Slot} (hl : lv_has ls 5 [(0, .ref (mh E)), (1, .int x1)]) : W p l e R s m args below meth c H locs 0 0 (MQ below (mQv E s.heap.size σ') args s 0 0 (mA E s.heap.size)) (F0 m 0 ls []) := by
  obtain ⟨⟨hx, hb, hml, hown, hts⟩, hK, hD, hr, hlk⟩ := id hC
  unfold f_lays at h
  refine lv_iconst (v := 0) hx hb dX3_lays_0 (by decide) ?_
  refine lv_istore_n (lv' := [(2, .int 0), (0, .ref (mh E)), (1, .int x1)]) hx hb dX3_lays_1 rfl hl (by decide) rfl (fun ls hl => ?_)
  exact w_lays_2 hC hR N N σ x1 0 h _ _ hP hS _ (lv_sub hl [1, 2, 0] rfl)
theorem met_lays (l : Launch) (N : Nat) (E : mE) (sz : Nat) (σ : MS) (x1 : Int32) (σ' : MS) (h : f_lays N σ x1 = some σ') : Met l yX3_lays (ws_ yX3_lays cX3_lays 5 none) ({ frames := 2, cells := 0, slots := 0, locals := 46 }) (mPc E sz σ [.ref (mh E), .int x1]) (mQv E sz σ') 0 0 (mA E sz) :=
  m_met (Qc := fun z => mQv E z σ') (by decide) rfl (Nat.le_of_ble_eq_true rfl) (fun hC ls hl hP => w_lays_0 hC ⟨Nat.le_refl _, Nat.le_refl _⟩ N σ x1 h hP va_S.rf hl)
def f_news_34 (N : Nat) (k2 : MS → Int32 → Int32 → Int32 → Option (Int32 × MS)) (σ : MS) (x1 : Int32) (x2 : Int32) (x3 : Int32) : Option (Int32 × MS) :=
    mlet (x3 + 1) fun y1 =>
    k2 σ x1 x2 y1
set_option maxHeartbeats 4000000 in
set_option maxRecDepth 100000 in
theorem w_news_34 {p : Program} {l : Launch} {e : Env} {R : Room} {s : State} {m : MethodId} {args : Array Value} {below : List Frame} {meth : Method} {c : Code} {E : mE} {σ' : MS} {r : Int32} (hC : mC p s m args meth c E cX3_news 4 (some .int)) (hR : 1 ≤ R.frames ∧ 21 ≤ R.locals) (N : Nat) (k2 : MS → Int32 → Int32 → Int32 → Option (Int32 × MS)) (hk2 : ∀ (σ : MS) (x1 : Int32) (x2 : Int32) (x3 : Int32), k2 σ x1 x2 x3 = some (r, σ') → ∀ (H : Heap) (locs : List Loc), mP E σ H → va_S (mA E s.heap.size) s.heap H locs → ∀ ls : Array Slot, lv_has ls 4 [(0, .ref (mh E)), (1, .int x1), (2, .int x2), (3, .int x3)] → W p l e R s m args below meth c H locs 0 0 (MQ below (mQi E s.heap.size r σ') args s 0 0 (mA E s.heap.size)) (F0 m 2 ls [])) (σ : MS) (x1 : Int32) (x2 : Int32) (x3 : Int32) (h : f_news_34 N k2 σ x1 x2 x3 = some (r, σ')) {H : Heap} {locs : List Loc} (hP : mP E σ H) (hS : va_S (mA E s.heap.size) s.heap H locs) {ls : Array Slot} (hl : lv_has ls 4 [(0, .ref (mh E)), (1, .int x1), (2, .int x2), (3, .int x3)]) : W p l e R s m args below meth c H locs 0 0 (MQ below (mQi E s.heap.size r σ') args s 0 0 (mA E s.heap.size)) (F0 m 34 ls []) := by
  obtain ⟨⟨hx, hb, hml, hown, hts⟩, hK, hD, hr, hlk⟩ := id hC
  unfold f_news_34 at h
  obtain ⟨y1, ey1⟩ : ∃ z : Int32, z = x3 + 1 := ⟨_, rfl⟩
  have h := mlet_at ey1 h
  refine lv_iinc (v := y1) (lv' := [(3, .int y1), (0, .ref (mh E)), (1, .int x1), (2, .int x2)]) hx hb dX3_news_34 hl (k := 3) rfl (by rw [ey1]; rfl) (by decide) rfl (fun ls hl => ?_)
  refine lv_goto (tgt := 2) hx hb dX3_news_37 (by decide) ?_
  exact hk2 σ x1 x2 y1 h _ _ hP hS _ (lv_sub hl [1, 2, 3, 0] rfl)
def f_news_2 (N : Nat) : Nat → MS → Int32 → Int32 → Int32 → Option (Int32 × MS)
  | 0, _, _, _, _ => none
  | n + 1, σ, x1, x2, x3 =>
    if (σ.1 37) ≤ x3 then
    some ((-1), σ)
    else
    mcall (f_digit N σ x2 x3) fun r4 σ2 =>
    if r4 = 0 then
    if mIn x1 (mLen 72) = true then mlet (σ2.2.1 72 x1.toNatClampNeg) fun y7 =>
    if ((y7 >>> (x3 &&& 31)) &&& 1) = 1 then
    some (x3, σ2)
    else
    f_news_34 N (f_news_2 N n) σ2 x1 x2 x3
    else none
    else
    f_news_34 N (f_news_2 N n) σ2 x1 x2 x3
set_option maxHeartbeats 4000000 in
set_option maxRecDepth 100000 in
theorem w_news_2 {p : Program} {l : Launch} {e : Env} {R : Room} {s : State} {m : MethodId} {args : Array Value} {below : List Frame} {meth : Method} {c : Code} {E : mE} {σ' : MS} {r : Int32} (hC : mC p s m args meth c E cX3_news 4 (some .int)) (hR : 1 ≤ R.frames ∧ 21 ≤ R.locals) (N : Nat) : ∀ (n : Nat) (σ : MS) (x1 : Int32) (x2 : Int32) (x3 : Int32), f_news_2 N n σ x1 x2 x3 = some (r, σ') → ∀ (H : Heap) (locs : List Loc), mP E σ H → va_S (mA E s.heap.size) s.heap H locs → ∀ ls : Array Slot, lv_has ls 4 [(0, .ref (mh E)), (1, .int x1), (2, .int x2), (3, .int x3)] → W p l e R s m args below meth c H locs 0 0 (MQ below (mQi E s.heap.size r σ') args s 0 0 (mA E s.heap.size)) (F0 m 2 ls []) := by
  obtain ⟨⟨hx, hb, hml, hown, hts⟩, hK, hD, hr, hlk⟩ := id hC
  intro n
  induction n with
  | zero =>
    intro σ x1 x2 x3 h
    cases h
  | succ n ih =>
    intro σ x1 x2 x3 h H locs hP hS ls hl
    unfold f_news_2 at h
    refine lv_iload_n hx hb dX3_news_2 rfl (lv_at hl 3 rfl) ?_
    refine lv_aload_n hx hb dX3_news_3 rfl (lv_at hl 0 rfl) ?_
    refine m_geti hC hP 37 (by decide) rfl q1930 dX3_news_4 ?_
    refine lv_icmp_ge (tgt := 40) hx hb dX3_news_7 (by decide) (fun c1 => ?_) (fun c1 => ?_)
    · have h := mif_t c1 h
      refine lv_iconst (v := (-1)) hx hb dX3_news_40 (by decide) ?_
      cases h
      exact m_iret hC hP hS dX3_news_41
    · have h := mif_f c1 h
      refine lv_iload_n hx hb dX3_news_10 rfl (lv_at hl 2 rfl) ?_
      refine lv_iload_n hx hb dX3_news_11 rfl (lv_at hl 3 rfl) ?_
      obtain ⟨r4, σ2, c3, h⟩ := mcall_n h
      refine m_callsi (As := [.int x2, .int x3]) (rest := []) hC (met_digit l N E H.size σ x2 x3 r4 σ2 c3) (va_cwS 2 hts (lw_S q2360 q2361 q103 q2362) rfl rfl rfl (by decide +kernel) ⟨Nat.le_trans (Nat.le_of_ble_eq_true rfl) hR.1, Nat.le_trans (Nat.le_of_ble_eq_true rfl) hR.2⟩) hP hS rfl hl.1 rfl (Nat.le_of_ble_eq_true rfl) dX3_news_12 (fun H locs hP hS => ?_)
      refine lv_if_ne (tgt := 34) hx hb dX3_news_15 (by decide) (fun c5 => ?_) (fun c5 => ?_)
      · have h := mif_f c5 h
        exact w_news_34 hC hR N (f_news_2 N n) ih σ2 x1 x2 x3 h hP hS (lv_sub hl [0, 1, 2, 3] rfl)
      · have h := mif_t c5 h
        refine lv_aload_n hx hb dX3_news_18 rfl (lv_at hl 0 rfl) ?_
        refine m_geta hC hP 72 (by decide) rfl q1965 dX3_news_19 ?_
        refine lv_iload_n hx hb dX3_news_22 rfl (lv_at hl 1 rfl) ?_
        obtain ⟨c6, h⟩ := mif_n h
        refine m_ald hC hP 72 rfl c6 dX3_news_23 ?_
        refine lv_topi (fun y7 ey7 => ?_)
        have h := mlet_at ey7 h
        refine lv_iload_n hx hb dX3_news_24 rfl (lv_at hl 3 rfl) ?_
        refine lv_ishr hx hb dX3_news_25 ?_
        refine lv_iconst (v := 1) hx hb dX3_news_26 (by decide) ?_
        refine lv_iand hx hb dX3_news_27 ?_
        refine lv_iconst (v := 1) hx hb dX3_news_28 (by decide) ?_
        refine lv_icmp_ne (tgt := 34) hx hb dX3_news_29 (by decide) (fun c8 => ?_) (fun c8 => ?_)
        · have h := mif_f c8 h
          exact w_news_34 hC hR N (f_news_2 N n) ih σ2 x1 x2 x3 h hP hS (lv_sub hl [0, 1, 2, 3] rfl)
        · have h := mif_t c8 h
          refine lv_iload_n hx hb dX3_news_32 rfl (lv_at hl 3 rfl) ?_
          cases h
          exact m_iret hC hP hS dX3_news_33
def f_news (N : Nat) (σ : MS) (x1 : Int32) (x2 : Int32) : Option (Int32 × MS) :=
    f_news_2 N N σ x1 x2 0
set_option maxHeartbeats 4000000 in
set_option maxRecDepth 100000 in
theorem w_news_0 {p : Program} {l : Launch} {e : Env} {R : Room} {s : State} {m : MethodId} {args : Array Value} {below : List Frame} {meth : Method} {c : Code} {E : mE} {σ' : MS} {r : Int32} (hC : mC p s m args meth c E cX3_news 4 (some .int)) (hR : 1 ≤ R.frames ∧ 21 ≤ R.locals) (N : Nat) (σ : MS) (x1 : Int32) (x2 : Int32) (h : f_news N σ x1 x2 = some (r, σ')) {H : Heap} {locs : List Loc} (hP : mP E σ H) (hS : va_S (mA E s.heap.size) s.heap H locs) {ls : Array Slot} (hl : lv_has ls 4 [(0, .ref (mh E)), (1, .int x1), (2, .int x2)]) : W p l e R s m args below meth c H locs 0 0 (MQ below (mQi E s.heap.size r σ') args s 0 0 (mA E s.heap.size)) (F0 m 0 ls []) := by
  obtain ⟨⟨hx, hb, hml, hown, hts⟩, hK, hD, hr, hlk⟩ := id hC
  unfold f_news at h
  refine lv_iconst (v := 0) hx hb dX3_news_0 (by decide) ?_
  refine lv_istore_n (lv' := [(3, .int 0), (0, .ref (mh E)), (1, .int x1), (2, .int x2)]) hx hb dX3_news_1 rfl hl (by decide) rfl (fun ls hl => ?_)
  exact w_news_2 hC hR N N σ x1 x2 0 h _ _ hP hS _ (lv_sub hl [1, 2, 3, 0] rfl)
theorem met_news (l : Launch) (N : Nat) (E : mE) (sz : Nat) (σ : MS) (x1 : Int32) (x2 : Int32) (r : Int32) (σ' : MS) (h : f_news N σ x1 x2 = some (r, σ')) : Met l yX3_news (ws_ yX3_news cX3_news 4 (some .int)) ({ frames := 1, cells := 0, slots := 0, locals := 21 }) (mPc E sz σ [.ref (mh E), .int x1, .int x2]) (mQi E sz r σ') 0 0 (mA E sz) :=
  m_met (Qc := fun z => mQi E z r σ') (by decide) rfl (Nat.le_of_ble_eq_true rfl) (fun hC ls hl hP => w_news_0 hC ⟨Nat.le_refl _, Nat.le_refl _⟩ N σ x1 x2 h hP va_S.rf hl)
def f_power (N : Nat) (σ : MS) (x0 : Int32) : Option (Int32 × MS) :=
    some (1 <<< ((2 * x0) &&& 31), σ)
set_option maxHeartbeats 4000000 in
set_option maxRecDepth 100000 in
theorem w_power_0 {p : Program} {l : Launch} {e : Env} {R : Room} {s : State} {m : MethodId} {args : Array Value} {below : List Frame} {meth : Method} {c : Code} {E : mE} {σ' : MS} {r : Int32} (hC : mC p s m args meth c E cX3_power 1 (some .int)) (hR : 0 ≤ R.frames ∧ 0 ≤ R.locals) (N : Nat) (σ : MS) (x0 : Int32) (h : f_power N σ x0 = some (r, σ')) {H : Heap} {locs : List Loc} (hP : mP E σ H) (hS : va_S (mA E s.heap.size) s.heap H locs) {ls : Array Slot} (hl : lv_has ls 1 [(0, .int x0)]) : W p l e R s m args below meth c H locs 0 0 (MQ below (mQi E s.heap.size r σ') args s 0 0 (mA E s.heap.size)) (F0 m 0 ls []) := by
  obtain ⟨⟨hx, hb, hml, hown, hts⟩, hK, hD, hr, hlk⟩ := id hC
  unfold f_power at h
  refine lv_iconst (v := 1) hx hb dX3_power_0 (by decide) ?_
  refine lv_iconst (v := 2) hx hb dX3_power_1 (by decide) ?_
  refine lv_iload_n hx hb dX3_power_2 rfl (lv_at hl 0 rfl) ?_
  refine lv_imul hx hb dX3_power_3 ?_
  refine lv_ishl hx hb dX3_power_4 ?_
  cases h
  exact m_iret hC hP hS dX3_power_5
theorem met_power (l : Launch) (N : Nat) (E : mE) (sz : Nat) (σ : MS) (x0 : Int32) (r : Int32) (σ' : MS) (h : f_power N σ x0 = some (r, σ')) : Met l yX3_power (ws_ yX3_power cX3_power 1 (some .int)) ({ frames := 0, cells := 0, slots := 0, locals := 0 }) (mPc E sz σ [.int x0]) (mQi E sz r σ') 0 0 (mA E sz) :=
  m_met (Qc := fun z => mQi E z r σ') (by decide) rfl (Nat.le_of_ble_eq_true rfl) (fun hC ls hl hP => w_power_0 hC ⟨Nat.le_refl _, Nat.le_refl _⟩ N σ x0 h hP va_S.rf hl)
def f_weightOf (N : Nat) (σ : MS) (x1 : Int32) (x2 : Int32) : Option (Int32 × MS) :=
    if mIn ((4 * x1) + x2) (mLen 52) = true then mlet (σ.2.1 52 ((4 * x1) + x2).toNatClampNeg) fun y2 =>
    if mIn ((8 * x1) + y2) (mLen 46) = true then mlet (σ.2.1 46 ((8 * x1) + y2).toNatClampNeg) fun y4 =>
    some (y4, σ)
    else none
    else none
set_option maxHeartbeats 4000000 in
set_option maxRecDepth 100000 in
theorem w_weightOf_0 {p : Program} {l : Launch} {e : Env} {R : Room} {s : State} {m : MethodId} {args : Array Value} {below : List Frame} {meth : Method} {c : Code} {E : mE} {σ' : MS} {r : Int32} (hC : mC p s m args meth c E cX3_weightOf 3 (some .int)) (hR : 0 ≤ R.frames ∧ 0 ≤ R.locals) (N : Nat) (σ : MS) (x1 : Int32) (x2 : Int32) (h : f_weightOf N σ x1 x2 = some (r, σ')) {H : Heap} {locs : List Loc} (hP : mP E σ H) (hS : va_S (mA E s.heap.size) s.heap H locs) {ls : Array Slot} (hl : lv_has ls 3 [(0, .ref (mh E)), (1, .int x1), (2, .int x2)]) : W p l e R s m args below meth c H locs 0 0 (MQ below (mQi E s.heap.size r σ') args s 0 0 (mA E s.heap.size)) (F0 m 0 ls []) := by
  obtain ⟨⟨hx, hb, hml, hown, hts⟩, hK, hD, hr, hlk⟩ := id hC
  unfold f_weightOf at h
  refine lv_aload_n hx hb dX3_weightOf_0 rfl (lv_at hl 0 rfl) ?_
  refine m_geta hC hP 46 (by decide) rfl q1939 dX3_weightOf_1 ?_
  refine lv_bipush (v := 8) hx hb dX3_weightOf_4 (by decide) ?_
  refine lv_iload_n hx hb dX3_weightOf_6 rfl (lv_at hl 1 rfl) ?_
  refine lv_imul hx hb dX3_weightOf_7 ?_
  refine lv_aload_n hx hb dX3_weightOf_8 rfl (lv_at hl 0 rfl) ?_
  refine m_geta hC hP 52 (by decide) rfl q1945 dX3_weightOf_9 ?_
  refine lv_iconst (v := 4) hx hb dX3_weightOf_12 (by decide) ?_
  refine lv_iload_n hx hb dX3_weightOf_13 rfl (lv_at hl 1 rfl) ?_
  refine lv_imul hx hb dX3_weightOf_14 ?_
  refine lv_iload_n hx hb dX3_weightOf_15 rfl (lv_at hl 2 rfl) ?_
  refine lv_iadd hx hb dX3_weightOf_16 ?_
  obtain ⟨c1, h⟩ := mif_n h
  refine m_ald hC hP 52 rfl c1 dX3_weightOf_17 ?_
  refine lv_topi (fun y2 ey2 => ?_)
  have h := mlet_at ey2 h
  refine lv_iadd hx hb dX3_weightOf_18 ?_
  obtain ⟨c3, h⟩ := mif_n h
  refine m_ald hC hP 46 rfl c3 dX3_weightOf_19 ?_
  refine lv_topi (fun y4 ey4 => ?_)
  have h := mlet_at ey4 h
  cases h
  exact m_iret hC hP hS dX3_weightOf_20
theorem met_weightOf (l : Launch) (N : Nat) (E : mE) (sz : Nat) (σ : MS) (x1 : Int32) (x2 : Int32) (r : Int32) (σ' : MS) (h : f_weightOf N σ x1 x2 = some (r, σ')) : Met l yX3_weightOf (ws_ yX3_weightOf cX3_weightOf 3 (some .int)) ({ frames := 0, cells := 0, slots := 0, locals := 0 }) (mPc E sz σ [.ref (mh E), .int x1, .int x2]) (mQi E sz r σ') 0 0 (mA E sz) :=
  m_met (Qc := fun z => mQi E z r σ') (by decide) rfl (Nat.le_of_ble_eq_true rfl) (fun hC ls hl hP => w_weightOf_0 hC ⟨Nat.le_refl _, Nat.le_refl _⟩ N σ x1 x2 h hP va_S.rf hl)

/-! BY gen_model.py: thrown good within no look isSmall isDigit beside down between -/
def f_thrown (N : Nat) (σ : MS) : Option (Int32 × MS) :=
    some (σ.1 0, σ)
set_option maxHeartbeats 4000000 in
set_option maxRecDepth 100000 in
theorem w_thrown_0 {p : Program} {l : Launch} {e : Env} {R : Room} {s : State} {m : MethodId} {args : Array Value} {below : List Frame} {meth : Method} {c : Code} {E : mE} {σ' : MS} {r : Int32} (hC : mC p s m args meth c E cX3_thrown 1 (some .int)) (hR : 0 ≤ R.frames ∧ 0 ≤ R.locals) (N : Nat) (σ : MS) (h : f_thrown N σ = some (r, σ')) {H : Heap} {locs : List Loc} (hP : mP E σ H) (hS : va_S (mA E s.heap.size) s.heap H locs) {ls : Array Slot} (hl : lv_has ls 1 [(0, .ref (mh E))]) : W p l e R s m args below meth c H locs 0 0 (MQ below (mQi E s.heap.size r σ') args s 0 0 (mA E s.heap.size)) (F0 m 0 ls []) := by
  obtain ⟨⟨hx, hb, hml, hown, hts⟩, hK, hD, hr, hlk⟩ := id hC
  unfold f_thrown at h
  refine lv_aload_n hx hb dX3_thrown_0 rfl (lv_at hl 0 rfl) ?_
  refine m_geti hC hP 0 (by decide) rfl q1893 dX3_thrown_1 ?_
  cases h
  exact m_iret hC hP hS dX3_thrown_4
theorem met_thrown (l : Launch) (N : Nat) (E : mE) (sz : Nat) (σ : MS) (r : Int32) (σ' : MS) (h : f_thrown N σ = some (r, σ')) : Met l yX3_thrown (ws_ yX3_thrown cX3_thrown 1 (some .int)) ({ frames := 0, cells := 0, slots := 0, locals := 0 }) (mPc E sz σ [.ref (mh E)]) (mQi E sz r σ') 0 0 (mA E sz) :=
  m_met (Qc := fun z => mQi E z r σ') (by decide) rfl (Nat.le_of_ble_eq_true rfl) (fun hC ls hl hP => w_thrown_0 hC ⟨Nat.le_refl _, Nat.le_refl _⟩ N σ h hP va_S.rf hl)
def f_good (N : Nat) (σ : MS) : Option (MS) :=
    mlet (mSet σ 0 0) fun σ1 =>
    mlet (mSet σ1 39 0) fun σ2 =>
    some σ2
set_option maxHeartbeats 4000000 in
set_option maxRecDepth 100000 in
theorem w_good_0 {p : Program} {l : Launch} {e : Env} {R : Room} {s : State} {m : MethodId} {args : Array Value} {below : List Frame} {meth : Method} {c : Code} {E : mE} {σ' : MS} (hC : mC p s m args meth c E cX3_good 1 none) (hR : 0 ≤ R.frames ∧ 0 ≤ R.locals) (N : Nat) (σ : MS) (h : f_good N σ = some σ') {H : Heap} {locs : List Loc} (hP : mP E σ H) (hS : va_S (mA E s.heap.size) s.heap H locs) {ls : Array Slot} (hl : lv_has ls 1 [(0, .ref (mh E))]) : W p l e R s m args below meth c H locs 0 0 (MQ below (mQv E s.heap.size σ') args s 0 0 (mA E s.heap.size)) (F0 m 0 ls []) := by
  obtain ⟨⟨hx, hb, hml, hown, hts⟩, hK, hD, hr, hlk⟩ := id hC
  unfold f_good at h
  refine lv_aload_n hx hb dX3_good_0 rfl (lv_at hl 0 rfl) ?_
  refine lv_iconst (v := 0) hx hb dX3_good_1 (by decide) ?_
  refine m_put hC hP hS 0 (by decide) rfl q1893 rfl (ty := .int) (tyX3_ok 0 (by decide)) ⟨rfl, rfl⟩ dX3_good_2 (fun H locs hP hS => ?_)
  obtain ⟨σ1, eσ1⟩ : ∃ z : MS, z = mSet σ 0 0 := ⟨_, rfl⟩
  rw [← eσ1] at hP
  have h := mlet_at eσ1 h
  refine lv_aload_n hx hb dX3_good_5 rfl (lv_at hl 0 rfl) ?_
  refine lv_iconst (v := 0) hx hb dX3_good_6 (by decide) ?_
  refine m_put hC hP hS 39 (by decide) rfl q1932 rfl (ty := .int) (tyX3_ok 39 (by decide)) ⟨rfl, rfl⟩ dX3_good_7 (fun H locs hP hS => ?_)
  obtain ⟨σ2, eσ2⟩ : ∃ z : MS, z = mSet σ1 39 0 := ⟨_, rfl⟩
  rw [← eσ2] at hP
  have h := mlet_at eσ2 h
  cases h
  exact m_vret hC hP hS dX3_good_10
theorem met_good (l : Launch) (N : Nat) (E : mE) (sz : Nat) (σ : MS) (σ' : MS) (h : f_good N σ = some σ') : Met l yX3_good (ws_ yX3_good cX3_good 1 none) ({ frames := 0, cells := 0, slots := 0, locals := 0 }) (mPc E sz σ [.ref (mh E)]) (mQv E sz σ') 0 0 (mA E sz) :=
  m_met (Qc := fun z => mQv E z σ') (by decide) rfl (Nat.le_of_ble_eq_true rfl) (fun hC ls hl hP => w_good_0 hC ⟨Nat.le_refl _, Nat.le_refl _⟩ N σ h hP va_S.rf hl)
def f_within_15 (N : Nat) (σ : MS) (s0 : Int32) : Option (Int32 × MS) :=
    if mBit s0 = true then
    some (s0, σ)
    else none
set_option maxHeartbeats 4000000 in
set_option maxRecDepth 100000 in
theorem w_within_15 {p : Program} {l : Launch} {e : Env} {R : Room} {s : State} {m : MethodId} {args : Array Value} {below : List Frame} {meth : Method} {c : Code} {E : mE} {σ' : MS} {r : Int32} (hC : mC p s m args meth c E cX3_within 3 (some .boolean)) (hR : 0 ≤ R.frames ∧ 0 ≤ R.locals) (N : Nat) (σ : MS) (s0 : Int32) (h : f_within_15 N σ s0 = some (r, σ')) {H : Heap} {locs : List Loc} (hP : mP E σ H) (hS : va_S (mA E s.heap.size) s.heap H locs) {ls : Array Slot} (hl : lv_has ls 3 []) : W p l e R s m args below meth c H locs 0 0 (MQ below (mQi E s.heap.size r σ') args s 0 0 (mA E s.heap.size)) (F0 m 15 ls [.int s0]) := by
  obtain ⟨⟨hx, hb, hml, hown, hts⟩, hK, hD, hr, hlk⟩ := id hC
  unfold f_within_15 at h
  obtain ⟨c1, h⟩ := mif_n h
  cases h
  exact m_zret hC c1 hP hS dX3_within_15
def f_within_14 (N : Nat) (σ : MS) : Option (Int32 × MS) :=
    f_within_15 N σ 0
set_option maxHeartbeats 4000000 in
set_option maxRecDepth 100000 in
theorem w_within_14 {p : Program} {l : Launch} {e : Env} {R : Room} {s : State} {m : MethodId} {args : Array Value} {below : List Frame} {meth : Method} {c : Code} {E : mE} {σ' : MS} {r : Int32} (hC : mC p s m args meth c E cX3_within 3 (some .boolean)) (hR : 0 ≤ R.frames ∧ 0 ≤ R.locals) (N : Nat) (σ : MS) (h : f_within_14 N σ = some (r, σ')) {H : Heap} {locs : List Loc} (hP : mP E σ H) (hS : va_S (mA E s.heap.size) s.heap H locs) {ls : Array Slot} (hl : lv_has ls 3 []) : W p l e R s m args below meth c H locs 0 0 (MQ below (mQi E s.heap.size r σ') args s 0 0 (mA E s.heap.size)) (F0 m 14 ls []) := by
  obtain ⟨⟨hx, hb, hml, hown, hts⟩, hK, hD, hr, hlk⟩ := id hC
  unfold f_within_14 at h
  refine lv_iconst (v := 0) hx hb dX3_within_14 (by decide) ?_
  exact w_within_15 hC hR N σ 0 h hP hS (lv_sub hl [] rfl)
def f_within (N : Nat) (σ : MS) (x0 : Int32) (x1 : Int32) (x2 : Int32) : Option (Int32 × MS) :=
    if x0 < x1 then
    f_within_14 N σ
    else
    if x2 < x0 then
    f_within_14 N σ
    else
    f_within_15 N σ 1
set_option maxHeartbeats 4000000 in
set_option maxRecDepth 100000 in
theorem w_within_0 {p : Program} {l : Launch} {e : Env} {R : Room} {s : State} {m : MethodId} {args : Array Value} {below : List Frame} {meth : Method} {c : Code} {E : mE} {σ' : MS} {r : Int32} (hC : mC p s m args meth c E cX3_within 3 (some .boolean)) (hR : 0 ≤ R.frames ∧ 0 ≤ R.locals) (N : Nat) (σ : MS) (x0 : Int32) (x1 : Int32) (x2 : Int32) (h : f_within N σ x0 x1 x2 = some (r, σ')) {H : Heap} {locs : List Loc} (hP : mP E σ H) (hS : va_S (mA E s.heap.size) s.heap H locs) {ls : Array Slot} (hl : lv_has ls 3 [(0, .int x0), (1, .int x1), (2, .int x2)]) : W p l e R s m args below meth c H locs 0 0 (MQ below (mQi E s.heap.size r σ') args s 0 0 (mA E s.heap.size)) (F0 m 0 ls []) := by
  obtain ⟨⟨hx, hb, hml, hown, hts⟩, hK, hD, hr, hlk⟩ := id hC
  unfold f_within at h
  refine lv_iload_n hx hb dX3_within_0 rfl (lv_at hl 0 rfl) ?_
  refine lv_iload_n hx hb dX3_within_1 rfl (lv_at hl 1 rfl) ?_
  refine lv_icmp_lt (tgt := 14) hx hb dX3_within_2 (by decide) (fun c1 => ?_) (fun c1 => ?_)
  · have h := mif_t c1 h
    exact w_within_14 hC hR N σ h hP hS (lv_sub hl [] rfl)
  · have h := mif_f c1 h
    refine lv_iload_n hx hb dX3_within_5 rfl (lv_at hl 0 rfl) ?_
    refine lv_iload_n hx hb dX3_within_6 rfl (lv_at hl 2 rfl) ?_
    refine lv_icmp_gt (tgt := 14) hx hb dX3_within_7 (by decide) (fun c2 => ?_) (fun c2 => ?_)
    · have h := mif_t c2 h
      exact w_within_14 hC hR N σ h hP hS (lv_sub hl [] rfl)
    · have h := mif_f c2 h
      refine lv_iconst (v := 1) hx hb dX3_within_10 (by decide) ?_
      refine lv_goto (tgt := 15) hx hb dX3_within_11 (by decide) ?_
      exact w_within_15 hC hR N σ 1 h hP hS (lv_sub hl [] rfl)
theorem met_within (l : Launch) (N : Nat) (E : mE) (sz : Nat) (σ : MS) (x0 : Int32) (x1 : Int32) (x2 : Int32) (r : Int32) (σ' : MS) (h : f_within N σ x0 x1 x2 = some (r, σ')) : Met l yX3_within (ws_ yX3_within cX3_within 3 (some .boolean)) ({ frames := 0, cells := 0, slots := 0, locals := 0 }) (mPc E sz σ [.int x0, .int x1, .int x2]) (mQi E sz r σ') 0 0 (mA E sz) :=
  m_met (Qc := fun z => mQi E z r σ') (by decide) rfl (Nat.le_of_ble_eq_true rfl) (fun hC ls hl hP => w_within_0 hC ⟨Nat.le_refl _, Nat.le_refl _⟩ N σ x0 x1 x2 h hP va_S.rf hl)
def f_no (N : Nat) (σ : MS) (x1 : Int32) : Option (Int32 × MS) :=
    mlet (mSet σ 39 x1) fun σ1 =>
    some ((-1), σ1)
set_option maxHeartbeats 4000000 in
set_option maxRecDepth 100000 in
theorem w_no_0 {p : Program} {l : Launch} {e : Env} {R : Room} {s : State} {m : MethodId} {args : Array Value} {below : List Frame} {meth : Method} {c : Code} {E : mE} {σ' : MS} {r : Int32} (hC : mC p s m args meth c E cX3_no 2 (some .int)) (hR : 0 ≤ R.frames ∧ 0 ≤ R.locals) (N : Nat) (σ : MS) (x1 : Int32) (h : f_no N σ x1 = some (r, σ')) {H : Heap} {locs : List Loc} (hP : mP E σ H) (hS : va_S (mA E s.heap.size) s.heap H locs) {ls : Array Slot} (hl : lv_has ls 2 [(0, .ref (mh E)), (1, .int x1)]) : W p l e R s m args below meth c H locs 0 0 (MQ below (mQi E s.heap.size r σ') args s 0 0 (mA E s.heap.size)) (F0 m 0 ls []) := by
  obtain ⟨⟨hx, hb, hml, hown, hts⟩, hK, hD, hr, hlk⟩ := id hC
  unfold f_no at h
  refine lv_aload_n hx hb dX3_no_0 rfl (lv_at hl 0 rfl) ?_
  refine lv_iload_n hx hb dX3_no_1 rfl (lv_at hl 1 rfl) ?_
  refine m_put hC hP hS 39 (by decide) rfl q1932 rfl (ty := .int) (tyX3_ok 39 (by decide)) ⟨rfl, rfl⟩ dX3_no_2 (fun H locs hP hS => ?_)
  obtain ⟨σ1, eσ1⟩ : ∃ z : MS, z = mSet σ 39 x1 := ⟨_, rfl⟩
  rw [← eσ1] at hP
  have h := mlet_at eσ1 h
  refine lv_iconst (v := (-1)) hx hb dX3_no_5 (by decide) ?_
  cases h
  exact m_iret hC hP hS dX3_no_6
theorem met_no (l : Launch) (N : Nat) (E : mE) (sz : Nat) (σ : MS) (x1 : Int32) (r : Int32) (σ' : MS) (h : f_no N σ x1 = some (r, σ')) : Met l yX3_no (ws_ yX3_no cX3_no 2 (some .int)) ({ frames := 0, cells := 0, slots := 0, locals := 0 }) (mPc E sz σ [.ref (mh E), .int x1]) (mQi E sz r σ') 0 0 (mA E sz) :=
  m_met (Qc := fun z => mQi E z r σ') (by decide) rfl (Nat.le_of_ble_eq_true rfl) (fun hC ls hl hP => w_no_0 hC ⟨Nat.le_refl _, Nat.le_refl _⟩ N σ x1 h hP va_S.rf hl)
def f_look_18 (N : Nat) (σ : MS) (s0 : Int32) : Option (Int32 × MS) :=
    some (s0, σ)
set_option maxHeartbeats 4000000 in
set_option maxRecDepth 100000 in
theorem w_look_18 {p : Program} {l : Launch} {e : Env} {R : Room} {s : State} {m : MethodId} {args : Array Value} {below : List Frame} {meth : Method} {c : Code} {E : mE} {σ' : MS} {r : Int32} (hC : mC p s m args meth c E cX3_look 2 (some .int)) (hR : 0 ≤ R.frames ∧ 0 ≤ R.locals) (N : Nat) (σ : MS) (s0 : Int32) (h : f_look_18 N σ s0 = some (r, σ')) {H : Heap} {locs : List Loc} (hP : mP E σ H) (hS : va_S (mA E s.heap.size) s.heap H locs) {ls : Array Slot} (hl : lv_has ls 2 []) : W p l e R s m args below meth c H locs 0 0 (MQ below (mQi E s.heap.size r σ') args s 0 0 (mA E s.heap.size)) (F0 m 18 ls [.int s0]) := by
  obtain ⟨⟨hx, hb, hml, hown, hts⟩, hK, hD, hr, hlk⟩ := id hC
  unfold f_look_18 at h
  cases h
  exact m_iret hC hP hS dX3_look_18
def f_look (N : Nat) (σ : MS) (x1 : Int32) : Option (Int32 × MS) :=
    if (σ.1 3) ≤ x1 then
    f_look_18 N σ (-1)
    else
    if mIn x1 (mLen 1) = true then mlet (σ.2.1 1 x1.toNatClampNeg) fun y3 =>
    f_look_18 N σ y3
    else none
set_option maxHeartbeats 4000000 in
set_option maxRecDepth 100000 in
theorem w_look_0 {p : Program} {l : Launch} {e : Env} {R : Room} {s : State} {m : MethodId} {args : Array Value} {below : List Frame} {meth : Method} {c : Code} {E : mE} {σ' : MS} {r : Int32} (hC : mC p s m args meth c E cX3_look 2 (some .int)) (hR : 0 ≤ R.frames ∧ 0 ≤ R.locals) (N : Nat) (σ : MS) (x1 : Int32) (h : f_look N σ x1 = some (r, σ')) {H : Heap} {locs : List Loc} (hP : mP E σ H) (hS : va_S (mA E s.heap.size) s.heap H locs) {ls : Array Slot} (hl : lv_has ls 2 [(0, .ref (mh E)), (1, .int x1)]) : W p l e R s m args below meth c H locs 0 0 (MQ below (mQi E s.heap.size r σ') args s 0 0 (mA E s.heap.size)) (F0 m 0 ls []) := by
  obtain ⟨⟨hx, hb, hml, hown, hts⟩, hK, hD, hr, hlk⟩ := id hC
  unfold f_look at h
  refine lv_iload_n hx hb dX3_look_0 rfl (lv_at hl 1 rfl) ?_
  refine lv_aload_n hx hb dX3_look_1 rfl (lv_at hl 0 rfl) ?_
  refine m_geti hC hP 3 (by decide) rfl q1896 dX3_look_2 ?_
  refine lv_icmp_ge (tgt := 17) hx hb dX3_look_5 (by decide) (fun c1 => ?_) (fun c1 => ?_)
  · have h := mif_t c1 h
    refine lv_iconst (v := (-1)) hx hb dX3_look_17 (by decide) ?_
    exact w_look_18 hC hR N σ (-1) h hP hS (lv_sub hl [] rfl)
  · have h := mif_f c1 h
    refine lv_aload_n hx hb dX3_look_8 rfl (lv_at hl 0 rfl) ?_
    refine m_geta hC hP 1 (by decide) rfl q1894 dX3_look_9 ?_
    refine lv_iload_n hx hb dX3_look_12 rfl (lv_at hl 1 rfl) ?_
    obtain ⟨c2, h⟩ := mif_n h
    refine m_ald hC hP 1 rfl c2 dX3_look_13 ?_
    refine lv_topi (fun y3 ey3 => ?_)
    have h := mlet_at ey3 h
    refine lv_goto (tgt := 18) hx hb dX3_look_14 (by decide) ?_
    exact w_look_18 hC hR N σ y3 h hP hS (lv_sub hl [] rfl)
theorem met_look (l : Launch) (N : Nat) (E : mE) (sz : Nat) (σ : MS) (x1 : Int32) (r : Int32) (σ' : MS) (h : f_look N σ x1 = some (r, σ')) : Met l yX3_look (ws_ yX3_look cX3_look 2 (some .int)) ({ frames := 0, cells := 0, slots := 0, locals := 0 }) (mPc E sz σ [.ref (mh E), .int x1]) (mQi E sz r σ') 0 0 (mA E sz) :=
  m_met (Qc := fun z => mQi E z r σ') (by decide) rfl (Nat.le_of_ble_eq_true rfl) (fun hC ls hl hP => w_look_0 hC ⟨Nat.le_refl _, Nat.le_refl _⟩ N σ x1 h hP va_S.rf hl)
def f_isSmall_17 (N : Nat) (σ : MS) (s0 : Int32) : Option (Int32 × MS) :=
    if mBit s0 = true then
    some (s0, σ)
    else none
set_option maxHeartbeats 4000000 in
set_option maxRecDepth 100000 in
theorem w_isSmall_17 {p : Program} {l : Launch} {e : Env} {R : Room} {s : State} {m : MethodId} {args : Array Value} {below : List Frame} {meth : Method} {c : Code} {E : mE} {σ' : MS} {r : Int32} (hC : mC p s m args meth c E cX3_isSmall 1 (some .boolean)) (hR : 0 ≤ R.frames ∧ 0 ≤ R.locals) (N : Nat) (σ : MS) (s0 : Int32) (h : f_isSmall_17 N σ s0 = some (r, σ')) {H : Heap} {locs : List Loc} (hP : mP E σ H) (hS : va_S (mA E s.heap.size) s.heap H locs) {ls : Array Slot} (hl : lv_has ls 1 []) : W p l e R s m args below meth c H locs 0 0 (MQ below (mQi E s.heap.size r σ') args s 0 0 (mA E s.heap.size)) (F0 m 17 ls [.int s0]) := by
  obtain ⟨⟨hx, hb, hml, hown, hts⟩, hK, hD, hr, hlk⟩ := id hC
  unfold f_isSmall_17 at h
  obtain ⟨c1, h⟩ := mif_n h
  cases h
  exact m_zret hC c1 hP hS dX3_isSmall_17
def f_isSmall_16 (N : Nat) (σ : MS) : Option (Int32 × MS) :=
    f_isSmall_17 N σ 0
set_option maxHeartbeats 4000000 in
set_option maxRecDepth 100000 in
theorem w_isSmall_16 {p : Program} {l : Launch} {e : Env} {R : Room} {s : State} {m : MethodId} {args : Array Value} {below : List Frame} {meth : Method} {c : Code} {E : mE} {σ' : MS} {r : Int32} (hC : mC p s m args meth c E cX3_isSmall 1 (some .boolean)) (hR : 0 ≤ R.frames ∧ 0 ≤ R.locals) (N : Nat) (σ : MS) (h : f_isSmall_16 N σ = some (r, σ')) {H : Heap} {locs : List Loc} (hP : mP E σ H) (hS : va_S (mA E s.heap.size) s.heap H locs) {ls : Array Slot} (hl : lv_has ls 1 []) : W p l e R s m args below meth c H locs 0 0 (MQ below (mQi E s.heap.size r σ') args s 0 0 (mA E s.heap.size)) (F0 m 16 ls []) := by
  obtain ⟨⟨hx, hb, hml, hown, hts⟩, hK, hD, hr, hlk⟩ := id hC
  unfold f_isSmall_16 at h
  refine lv_iconst (v := 0) hx hb dX3_isSmall_16 (by decide) ?_
  exact w_isSmall_17 hC hR N σ 0 h hP hS (lv_sub hl [] rfl)
def f_isSmall (N : Nat) (σ : MS) (x0 : Int32) : Option (Int32 × MS) :=
    if x0 < 97 then
    f_isSmall_16 N σ
    else
    if 122 < x0 then
    f_isSmall_16 N σ
    else
    f_isSmall_17 N σ 1
set_option maxHeartbeats 4000000 in
set_option maxRecDepth 100000 in
theorem w_isSmall_0 {p : Program} {l : Launch} {e : Env} {R : Room} {s : State} {m : MethodId} {args : Array Value} {below : List Frame} {meth : Method} {c : Code} {E : mE} {σ' : MS} {r : Int32} (hC : mC p s m args meth c E cX3_isSmall 1 (some .boolean)) (hR : 0 ≤ R.frames ∧ 0 ≤ R.locals) (N : Nat) (σ : MS) (x0 : Int32) (h : f_isSmall N σ x0 = some (r, σ')) {H : Heap} {locs : List Loc} (hP : mP E σ H) (hS : va_S (mA E s.heap.size) s.heap H locs) {ls : Array Slot} (hl : lv_has ls 1 [(0, .int x0)]) : W p l e R s m args below meth c H locs 0 0 (MQ below (mQi E s.heap.size r σ') args s 0 0 (mA E s.heap.size)) (F0 m 0 ls []) := by
  obtain ⟨⟨hx, hb, hml, hown, hts⟩, hK, hD, hr, hlk⟩ := id hC
  unfold f_isSmall at h
  refine lv_iload_n hx hb dX3_isSmall_0 rfl (lv_at hl 0 rfl) ?_
  refine lv_bipush (v := 97) hx hb dX3_isSmall_1 (by decide) ?_
  refine lv_icmp_lt (tgt := 16) hx hb dX3_isSmall_3 (by decide) (fun c1 => ?_) (fun c1 => ?_)
  · have h := mif_t c1 h
    exact w_isSmall_16 hC hR N σ h hP hS (lv_sub hl [] rfl)
  · have h := mif_f c1 h
    refine lv_iload_n hx hb dX3_isSmall_6 rfl (lv_at hl 0 rfl) ?_
    refine lv_bipush (v := 122) hx hb dX3_isSmall_7 (by decide) ?_
    refine lv_icmp_gt (tgt := 16) hx hb dX3_isSmall_9 (by decide) (fun c2 => ?_) (fun c2 => ?_)
    · have h := mif_t c2 h
      exact w_isSmall_16 hC hR N σ h hP hS (lv_sub hl [] rfl)
    · have h := mif_f c2 h
      refine lv_iconst (v := 1) hx hb dX3_isSmall_12 (by decide) ?_
      refine lv_goto (tgt := 17) hx hb dX3_isSmall_13 (by decide) ?_
      exact w_isSmall_17 hC hR N σ 1 h hP hS (lv_sub hl [] rfl)
theorem met_isSmall (l : Launch) (N : Nat) (E : mE) (sz : Nat) (σ : MS) (x0 : Int32) (r : Int32) (σ' : MS) (h : f_isSmall N σ x0 = some (r, σ')) : Met l yX3_isSmall (ws_ yX3_isSmall cX3_isSmall 1 (some .boolean)) ({ frames := 0, cells := 0, slots := 0, locals := 0 }) (mPc E sz σ [.int x0]) (mQi E sz r σ') 0 0 (mA E sz) :=
  m_met (Qc := fun z => mQi E z r σ') (by decide) rfl (Nat.le_of_ble_eq_true rfl) (fun hC ls hl hP => w_isSmall_0 hC ⟨Nat.le_refl _, Nat.le_refl _⟩ N σ x0 h hP va_S.rf hl)
def f_isDigit_17 (N : Nat) (σ : MS) (s0 : Int32) : Option (Int32 × MS) :=
    if mBit s0 = true then
    some (s0, σ)
    else none
set_option maxHeartbeats 4000000 in
set_option maxRecDepth 100000 in
theorem w_isDigit_17 {p : Program} {l : Launch} {e : Env} {R : Room} {s : State} {m : MethodId} {args : Array Value} {below : List Frame} {meth : Method} {c : Code} {E : mE} {σ' : MS} {r : Int32} (hC : mC p s m args meth c E cX3_isDigit 1 (some .boolean)) (hR : 0 ≤ R.frames ∧ 0 ≤ R.locals) (N : Nat) (σ : MS) (s0 : Int32) (h : f_isDigit_17 N σ s0 = some (r, σ')) {H : Heap} {locs : List Loc} (hP : mP E σ H) (hS : va_S (mA E s.heap.size) s.heap H locs) {ls : Array Slot} (hl : lv_has ls 1 []) : W p l e R s m args below meth c H locs 0 0 (MQ below (mQi E s.heap.size r σ') args s 0 0 (mA E s.heap.size)) (F0 m 17 ls [.int s0]) := by
  obtain ⟨⟨hx, hb, hml, hown, hts⟩, hK, hD, hr, hlk⟩ := id hC
  unfold f_isDigit_17 at h
  obtain ⟨c1, h⟩ := mif_n h
  cases h
  exact m_zret hC c1 hP hS dX3_isDigit_17
def f_isDigit_16 (N : Nat) (σ : MS) : Option (Int32 × MS) :=
    f_isDigit_17 N σ 0
set_option maxHeartbeats 4000000 in
set_option maxRecDepth 100000 in
theorem w_isDigit_16 {p : Program} {l : Launch} {e : Env} {R : Room} {s : State} {m : MethodId} {args : Array Value} {below : List Frame} {meth : Method} {c : Code} {E : mE} {σ' : MS} {r : Int32} (hC : mC p s m args meth c E cX3_isDigit 1 (some .boolean)) (hR : 0 ≤ R.frames ∧ 0 ≤ R.locals) (N : Nat) (σ : MS) (h : f_isDigit_16 N σ = some (r, σ')) {H : Heap} {locs : List Loc} (hP : mP E σ H) (hS : va_S (mA E s.heap.size) s.heap H locs) {ls : Array Slot} (hl : lv_has ls 1 []) : W p l e R s m args below meth c H locs 0 0 (MQ below (mQi E s.heap.size r σ') args s 0 0 (mA E s.heap.size)) (F0 m 16 ls []) := by
  obtain ⟨⟨hx, hb, hml, hown, hts⟩, hK, hD, hr, hlk⟩ := id hC
  unfold f_isDigit_16 at h
  refine lv_iconst (v := 0) hx hb dX3_isDigit_16 (by decide) ?_
  exact w_isDigit_17 hC hR N σ 0 h hP hS (lv_sub hl [] rfl)
def f_isDigit (N : Nat) (σ : MS) (x0 : Int32) : Option (Int32 × MS) :=
    if x0 < 48 then
    f_isDigit_16 N σ
    else
    if 57 < x0 then
    f_isDigit_16 N σ
    else
    f_isDigit_17 N σ 1
set_option maxHeartbeats 4000000 in
set_option maxRecDepth 100000 in
theorem w_isDigit_0 {p : Program} {l : Launch} {e : Env} {R : Room} {s : State} {m : MethodId} {args : Array Value} {below : List Frame} {meth : Method} {c : Code} {E : mE} {σ' : MS} {r : Int32} (hC : mC p s m args meth c E cX3_isDigit 1 (some .boolean)) (hR : 0 ≤ R.frames ∧ 0 ≤ R.locals) (N : Nat) (σ : MS) (x0 : Int32) (h : f_isDigit N σ x0 = some (r, σ')) {H : Heap} {locs : List Loc} (hP : mP E σ H) (hS : va_S (mA E s.heap.size) s.heap H locs) {ls : Array Slot} (hl : lv_has ls 1 [(0, .int x0)]) : W p l e R s m args below meth c H locs 0 0 (MQ below (mQi E s.heap.size r σ') args s 0 0 (mA E s.heap.size)) (F0 m 0 ls []) := by
  obtain ⟨⟨hx, hb, hml, hown, hts⟩, hK, hD, hr, hlk⟩ := id hC
  unfold f_isDigit at h
  refine lv_iload_n hx hb dX3_isDigit_0 rfl (lv_at hl 0 rfl) ?_
  refine lv_bipush (v := 48) hx hb dX3_isDigit_1 (by decide) ?_
  refine lv_icmp_lt (tgt := 16) hx hb dX3_isDigit_3 (by decide) (fun c1 => ?_) (fun c1 => ?_)
  · have h := mif_t c1 h
    exact w_isDigit_16 hC hR N σ h hP hS (lv_sub hl [] rfl)
  · have h := mif_f c1 h
    refine lv_iload_n hx hb dX3_isDigit_6 rfl (lv_at hl 0 rfl) ?_
    refine lv_bipush (v := 57) hx hb dX3_isDigit_7 (by decide) ?_
    refine lv_icmp_gt (tgt := 16) hx hb dX3_isDigit_9 (by decide) (fun c2 => ?_) (fun c2 => ?_)
    · have h := mif_t c2 h
      exact w_isDigit_16 hC hR N σ h hP hS (lv_sub hl [] rfl)
    · have h := mif_f c2 h
      refine lv_iconst (v := 1) hx hb dX3_isDigit_12 (by decide) ?_
      refine lv_goto (tgt := 17) hx hb dX3_isDigit_13 (by decide) ?_
      exact w_isDigit_17 hC hR N σ 1 h hP hS (lv_sub hl [] rfl)
theorem met_isDigit (l : Launch) (N : Nat) (E : mE) (sz : Nat) (σ : MS) (x0 : Int32) (r : Int32) (σ' : MS) (h : f_isDigit N σ x0 = some (r, σ')) : Met l yX3_isDigit (ws_ yX3_isDigit cX3_isDigit 1 (some .boolean)) ({ frames := 0, cells := 0, slots := 0, locals := 0 }) (mPc E sz σ [.int x0]) (mQi E sz r σ') 0 0 (mA E sz) :=
  m_met (Qc := fun z => mQi E z r σ') (by decide) rfl (Nat.le_of_ble_eq_true rfl) (fun hC ls hl hP => w_isDigit_0 hC ⟨Nat.le_refl _, Nat.le_refl _⟩ N σ x0 h hP va_S.rf hl)
def f_beside_96 (N : Nat) (σ : MS) (s0 : Int32) : Option (Int32 × MS) :=
    some (s0, σ)
set_option maxHeartbeats 4000000 in
set_option maxRecDepth 100000 in
theorem w_beside_96 {p : Program} {l : Launch} {e : Env} {R : Room} {s : State} {m : MethodId} {args : Array Value} {below : List Frame} {meth : Method} {c : Code} {E : mE} {σ' : MS} {r : Int32} (hC : mC p s m args meth c E cX3_beside 5 (some .int)) (hR : 1 ≤ R.frames ∧ 22 ≤ R.locals) (N : Nat) (σ : MS) (s0 : Int32) (h : f_beside_96 N σ s0 = some (r, σ')) {H : Heap} {locs : List Loc} (hP : mP E σ H) (hS : va_S (mA E s.heap.size) s.heap H locs) {ls : Array Slot} (hl : lv_has ls 5 []) : W p l e R s m args below meth c H locs 0 0 (MQ below (mQi E s.heap.size r σ') args s 0 0 (mA E s.heap.size)) (F0 m 96 ls [.int s0]) := by
  obtain ⟨⟨hx, hb, hml, hown, hts⟩, hK, hD, hr, hlk⟩ := id hC
  unfold f_beside_96 at h
  cases h
  exact m_iret hC hP hS dX3_beside_96
def f_beside_95 (N : Nat) (σ : MS) : Option (Int32 × MS) :=
    f_beside_96 N σ (-1)
set_option maxHeartbeats 4000000 in
set_option maxRecDepth 100000 in
theorem w_beside_95 {p : Program} {l : Launch} {e : Env} {R : Room} {s : State} {m : MethodId} {args : Array Value} {below : List Frame} {meth : Method} {c : Code} {E : mE} {σ' : MS} {r : Int32} (hC : mC p s m args meth c E cX3_beside 5 (some .int)) (hR : 1 ≤ R.frames ∧ 22 ≤ R.locals) (N : Nat) (σ : MS) (h : f_beside_95 N σ = some (r, σ')) {H : Heap} {locs : List Loc} (hP : mP E σ H) (hS : va_S (mA E s.heap.size) s.heap H locs) {ls : Array Slot} (hl : lv_has ls 5 []) : W p l e R s m args below meth c H locs 0 0 (MQ below (mQi E s.heap.size r σ') args s 0 0 (mA E s.heap.size)) (F0 m 95 ls []) := by
  obtain ⟨⟨hx, hb, hml, hown, hts⟩, hK, hD, hr, hlk⟩ := id hC
  unfold f_beside_95 at h
  refine lv_iconst (v := (-1)) hx hb dX3_beside_95 (by decide) ?_
  exact w_beside_96 hC hR N σ (-1) h hP hS (lv_sub hl [] rfl)
def f_beside_51 (N : Nat) (σ : MS) (x3 : Int32) (s0 : Int32) (s1 : Int32) : Option (Int32 × MS) :=
    mlet (s1 + s0) fun y1 =>
    mcall (f_within N σ x3 0 ((σ.1 35) - 1)) fun r4 σ2 =>
    if r4 = 0 then
    f_beside_95 N σ2
    else
    mcall (f_within N σ2 y1 0 ((σ2.1 36) - 1)) fun r8 σ6 =>
    if r8 = 0 then
    f_beside_95 N σ6
    else
    f_beside_96 N σ6 (((σ6.1 35) * y1) + x3)
set_option maxHeartbeats 4000000 in
set_option maxRecDepth 100000 in
theorem w_beside_51 {p : Program} {l : Launch} {e : Env} {R : Room} {s : State} {m : MethodId} {args : Array Value} {below : List Frame} {meth : Method} {c : Code} {E : mE} {σ' : MS} {r : Int32} (hC : mC p s m args meth c E cX3_beside 5 (some .int)) (hR : 1 ≤ R.frames ∧ 22 ≤ R.locals) (N : Nat) (σ : MS) (x3 : Int32) (s0 : Int32) (s1 : Int32) (h : f_beside_51 N σ x3 s0 s1 = some (r, σ')) {H : Heap} {locs : List Loc} (hP : mP E σ H) (hS : va_S (mA E s.heap.size) s.heap H locs) {ls : Array Slot} (hl : lv_has ls 5 [(0, .ref (mh E)), (3, .int x3)]) : W p l e R s m args below meth c H locs 0 0 (MQ below (mQi E s.heap.size r σ') args s 0 0 (mA E s.heap.size)) (F0 m 51 ls [.int s0, .int s1]) := by
  obtain ⟨⟨hx, hb, hml, hown, hts⟩, hK, hD, hr, hlk⟩ := id hC
  unfold f_beside_51 at h
  refine lv_iadd hx hb dX3_beside_51 ?_
  refine lv_topi (fun y1 ey1 => ?_)
  have h := mlet_at ey1 h
  refine lv_istore (lv' := [(4, .int y1), (0, .ref (mh E)), (3, .int x3)]) hx hb dX3_beside_52 hl (by decide) rfl (fun ls hl => ?_)
  refine lv_iload_n hx hb dX3_beside_54 rfl (lv_at hl 2 rfl) ?_
  refine lv_iconst (v := 0) hx hb dX3_beside_55 (by decide) ?_
  refine lv_aload_n hx hb dX3_beside_56 rfl (lv_at hl 1 rfl) ?_
  refine m_geti hC hP 35 (by decide) rfl q1928 dX3_beside_57 ?_
  refine lv_iconst (v := 1) hx hb dX3_beside_60 (by decide) ?_
  refine lv_isub hx hb dX3_beside_61 ?_
  obtain ⟨r4, σ2, c3, h⟩ := mcall_n h
  refine m_callsi (As := [.int x3, .int 0, .int ((σ.1 35) - 1)]) (rest := []) hC (met_within l N E H.size σ x3 0 ((σ.1 35) - 1) r4 σ2 c3) (va_cwS 3 hts (lw_S q2135 q2136 q103 q2137) rfl rfl rfl (by decide +kernel) ⟨Nat.le_trans (Nat.le_of_ble_eq_true rfl) hR.1, Nat.le_trans (Nat.le_of_ble_eq_true rfl) hR.2⟩) hP hS rfl hl.1 rfl (Nat.le_of_ble_eq_true rfl) dX3_beside_62 (fun H locs hP hS => ?_)
  refine lv_if_eq (tgt := 95) hx hb dX3_beside_65 (by decide) (fun c5 => ?_) (fun c5 => ?_)
  · have h := mif_t c5 h
    exact w_beside_95 hC hR N σ2 h hP hS (lv_sub hl [] rfl)
  · have h := mif_f c5 h
    refine lv_iload hx hb dX3_beside_68 (lv_at hl 0 rfl) ?_
    refine lv_iconst (v := 0) hx hb dX3_beside_70 (by decide) ?_
    refine lv_aload_n hx hb dX3_beside_71 rfl (lv_at hl 1 rfl) ?_
    refine m_geti hC hP 36 (by decide) rfl q1929 dX3_beside_72 ?_
    refine lv_iconst (v := 1) hx hb dX3_beside_75 (by decide) ?_
    refine lv_isub hx hb dX3_beside_76 ?_
    obtain ⟨r8, σ6, c7, h⟩ := mcall_n h
    refine m_callsi (As := [.int y1, .int 0, .int ((σ2.1 36) - 1)]) (rest := []) hC (met_within l N E H.size σ2 y1 0 ((σ2.1 36) - 1) r8 σ6 c7) (va_cwS 3 hts (lw_S q2135 q2136 q103 q2137) rfl rfl rfl (by decide +kernel) ⟨Nat.le_trans (Nat.le_of_ble_eq_true rfl) hR.1, Nat.le_trans (Nat.le_of_ble_eq_true rfl) hR.2⟩) hP hS rfl hl.1 rfl (Nat.le_of_ble_eq_true rfl) dX3_beside_77 (fun H locs hP hS => ?_)
    refine lv_if_eq (tgt := 95) hx hb dX3_beside_80 (by decide) (fun c9 => ?_) (fun c9 => ?_)
    · have h := mif_t c9 h
      exact w_beside_95 hC hR N σ6 h hP hS (lv_sub hl [] rfl)
    · have h := mif_f c9 h
      refine lv_aload_n hx hb dX3_beside_83 rfl (lv_at hl 1 rfl) ?_
      refine m_geti hC hP 35 (by decide) rfl q1928 dX3_beside_84 ?_
      refine lv_iload hx hb dX3_beside_87 (lv_at hl 0 rfl) ?_
      refine lv_imul hx hb dX3_beside_89 ?_
      refine lv_iload_n hx hb dX3_beside_90 rfl (lv_at hl 2 rfl) ?_
      refine lv_iadd hx hb dX3_beside_91 ?_
      refine lv_goto (tgt := 96) hx hb dX3_beside_92 (by decide) ?_
      exact w_beside_96 hC hR N σ6 (((σ6.1 35) * y1) + x3) h hP hS (lv_sub hl [] rfl)
def f_beside_24 (N : Nat) (σ : MS) (x1 : Int32) (x2 : Int32) (s0 : Int32) (s1 : Int32) : Option (Int32 × MS) :=
    mlet (s1 + s0) fun y1 =>
    if ¬ (σ.1 35) = 0 then
    if x2 = 2 then
    f_beside_51 N σ y1 (-1) (x1 / (σ.1 35))
    else
    if x2 = 3 then
    f_beside_51 N σ y1 1 (x1 / (σ.1 35))
    else
    f_beside_51 N σ y1 0 (x1 / (σ.1 35))
    else none
set_option maxHeartbeats 4000000 in
set_option maxRecDepth 100000 in
theorem w_beside_24 {p : Program} {l : Launch} {e : Env} {R : Room} {s : State} {m : MethodId} {args : Array Value} {below : List Frame} {meth : Method} {c : Code} {E : mE} {σ' : MS} {r : Int32} (hC : mC p s m args meth c E cX3_beside 5 (some .int)) (hR : 1 ≤ R.frames ∧ 22 ≤ R.locals) (N : Nat) (σ : MS) (x1 : Int32) (x2 : Int32) (s0 : Int32) (s1 : Int32) (h : f_beside_24 N σ x1 x2 s0 s1 = some (r, σ')) {H : Heap} {locs : List Loc} (hP : mP E σ H) (hS : va_S (mA E s.heap.size) s.heap H locs) {ls : Array Slot} (hl : lv_has ls 5 [(0, .ref (mh E)), (1, .int x1), (2, .int x2)]) : W p l e R s m args below meth c H locs 0 0 (MQ below (mQi E s.heap.size r σ') args s 0 0 (mA E s.heap.size)) (F0 m 24 ls [.int s0, .int s1]) := by
  obtain ⟨⟨hx, hb, hml, hown, hts⟩, hK, hD, hr, hlk⟩ := id hC
  unfold f_beside_24 at h
  refine lv_iadd hx hb dX3_beside_24 ?_
  refine lv_topi (fun y1 ey1 => ?_)
  have h := mlet_at ey1 h
  refine lv_istore_n (lv' := [(3, .int y1), (0, .ref (mh E)), (1, .int x1), (2, .int x2)]) hx hb dX3_beside_25 rfl hl (by decide) rfl (fun ls hl => ?_)
  refine lv_iload_n hx hb dX3_beside_26 rfl (lv_at hl 2 rfl) ?_
  refine lv_aload_n hx hb dX3_beside_27 rfl (lv_at hl 1 rfl) ?_
  refine m_geti hC hP 35 (by decide) rfl q1928 dX3_beside_28 ?_
  obtain ⟨c2, h⟩ := mif_n h
  refine lv_idiv hx hb dX3_beside_31 c2 ?_
  refine lv_iload_n hx hb dX3_beside_32 rfl (lv_at hl 3 rfl) ?_
  refine lv_iconst (v := 2) hx hb dX3_beside_33 (by decide) ?_
  refine lv_icmp_ne (tgt := 41) hx hb dX3_beside_34 (by decide) (fun c3 => ?_) (fun c3 => ?_)
  · have h := mif_f c3 h
    refine lv_iload_n hx hb dX3_beside_41 rfl (lv_at hl 3 rfl) ?_
    refine lv_iconst (v := 3) hx hb dX3_beside_42 (by decide) ?_
    refine lv_icmp_ne (tgt := 50) hx hb dX3_beside_43 (by decide) (fun c4 => ?_) (fun c4 => ?_)
    · have h := mif_f c4 h
      refine lv_iconst (v := 0) hx hb dX3_beside_50 (by decide) ?_
      exact w_beside_51 hC hR N σ y1 0 (x1 / (σ.1 35)) h hP hS (lv_sub hl [1, 0] rfl)
    · have h := mif_t c4 h
      refine lv_iconst (v := 1) hx hb dX3_beside_46 (by decide) ?_
      refine lv_goto (tgt := 51) hx hb dX3_beside_47 (by decide) ?_
      exact w_beside_51 hC hR N σ y1 1 (x1 / (σ.1 35)) h hP hS (lv_sub hl [1, 0] rfl)
  · have h := mif_t c3 h
    refine lv_iconst (v := (-1)) hx hb dX3_beside_37 (by decide) ?_
    refine lv_goto (tgt := 51) hx hb dX3_beside_38 (by decide) ?_
    exact w_beside_51 hC hR N σ y1 (-1) (x1 / (σ.1 35)) h hP hS (lv_sub hl [1, 0] rfl)
def f_beside (N : Nat) (σ : MS) (x1 : Int32) (x2 : Int32) : Option (Int32 × MS) :=
    if ¬ (σ.1 35) = 0 then
    if x2 = 0 then
    f_beside_24 N σ x1 x2 1 (x1 - x1 / (σ.1 35) * (σ.1 35))
    else
    if x2 = 1 then
    f_beside_24 N σ x1 x2 (-1) (x1 - x1 / (σ.1 35) * (σ.1 35))
    else
    f_beside_24 N σ x1 x2 0 (x1 - x1 / (σ.1 35) * (σ.1 35))
    else none
set_option maxHeartbeats 4000000 in
set_option maxRecDepth 100000 in
theorem w_beside_0 {p : Program} {l : Launch} {e : Env} {R : Room} {s : State} {m : MethodId} {args : Array Value} {below : List Frame} {meth : Method} {c : Code} {E : mE} {σ' : MS} {r : Int32} (hC : mC p s m args meth c E cX3_beside 5 (some .int)) (hR : 1 ≤ R.frames ∧ 22 ≤ R.locals) (N : Nat) (σ : MS) (x1 : Int32) (x2 : Int32) (h : f_beside N σ x1 x2 = some (r, σ')) {H : Heap} {locs : List Loc} (hP : mP E σ H) (hS : va_S (mA E s.heap.size) s.heap H locs) {ls : Array Slot} (hl : lv_has ls 5 [(0, .ref (mh E)), (1, .int x1), (2, .int x2)]) : W p l e R s m args below meth c H locs 0 0 (MQ below (mQi E s.heap.size r σ') args s 0 0 (mA E s.heap.size)) (F0 m 0 ls []) := by
  obtain ⟨⟨hx, hb, hml, hown, hts⟩, hK, hD, hr, hlk⟩ := id hC
  unfold f_beside at h
  refine lv_iload_n hx hb dX3_beside_0 rfl (lv_at hl 1 rfl) ?_
  refine lv_aload_n hx hb dX3_beside_1 rfl (lv_at hl 0 rfl) ?_
  refine m_geti hC hP 35 (by decide) rfl q1928 dX3_beside_2 ?_
  obtain ⟨c1, h⟩ := mif_n h
  refine lv_irem hx hb dX3_beside_5 c1 ?_
  refine lv_iload_n hx hb dX3_beside_6 rfl (lv_at hl 2 rfl) ?_
  refine lv_if_ne (tgt := 14) hx hb dX3_beside_7 (by decide) (fun c2 => ?_) (fun c2 => ?_)
  · have h := mif_f c2 h
    refine lv_iload_n hx hb dX3_beside_14 rfl (lv_at hl 2 rfl) ?_
    refine lv_iconst (v := 1) hx hb dX3_beside_15 (by decide) ?_
    refine lv_icmp_ne (tgt := 23) hx hb dX3_beside_16 (by decide) (fun c3 => ?_) (fun c3 => ?_)
    · have h := mif_f c3 h
      refine lv_iconst (v := 0) hx hb dX3_beside_23 (by decide) ?_
      exact w_beside_24 hC hR N σ x1 x2 0 (x1 - x1 / (σ.1 35) * (σ.1 35)) h hP hS (lv_sub hl [0, 1, 2] rfl)
    · have h := mif_t c3 h
      refine lv_iconst (v := (-1)) hx hb dX3_beside_19 (by decide) ?_
      refine lv_goto (tgt := 24) hx hb dX3_beside_20 (by decide) ?_
      exact w_beside_24 hC hR N σ x1 x2 (-1) (x1 - x1 / (σ.1 35) * (σ.1 35)) h hP hS (lv_sub hl [0, 1, 2] rfl)
  · have h := mif_t c2 h
    refine lv_iconst (v := 1) hx hb dX3_beside_10 (by decide) ?_
    refine lv_goto (tgt := 24) hx hb dX3_beside_11 (by decide) ?_
    exact w_beside_24 hC hR N σ x1 x2 1 (x1 - x1 / (σ.1 35) * (σ.1 35)) h hP hS (lv_sub hl [0, 1, 2] rfl)
theorem met_beside (l : Launch) (N : Nat) (E : mE) (sz : Nat) (σ : MS) (x1 : Int32) (x2 : Int32) (r : Int32) (σ' : MS) (h : f_beside N σ x1 x2 = some (r, σ')) : Met l yX3_beside (ws_ yX3_beside cX3_beside 5 (some .int)) ({ frames := 1, cells := 0, slots := 0, locals := 22 }) (mPc E sz σ [.ref (mh E), .int x1, .int x2]) (mQi E sz r σ') 0 0 (mA E sz) :=
  m_met (Qc := fun z => mQi E z r σ') (by decide) rfl (Nat.le_of_ble_eq_true rfl) (fun hC ls hl hP => w_beside_0 hC ⟨Nat.le_refl _, Nat.le_refl _⟩ N σ x1 x2 h hP va_S.rf hl)
def f_down_21 (N : Nat) (σ : MS) (s0 : Int32) : Option (Int32 × MS) :=
    some (s0, σ)
set_option maxHeartbeats 4000000 in
set_option maxRecDepth 100000 in
theorem w_down_21 {p : Program} {l : Launch} {e : Env} {R : Room} {s : State} {m : MethodId} {args : Array Value} {below : List Frame} {meth : Method} {c : Code} {E : mE} {σ' : MS} {r : Int32} (hC : mC p s m args meth c E cX3_down 3 (some .int)) (hR : 0 ≤ R.frames ∧ 0 ≤ R.locals) (N : Nat) (σ : MS) (s0 : Int32) (h : f_down_21 N σ s0 = some (r, σ')) {H : Heap} {locs : List Loc} (hP : mP E σ H) (hS : va_S (mA E s.heap.size) s.heap H locs) {ls : Array Slot} (hl : lv_has ls 3 []) : W p l e R s m args below meth c H locs 0 0 (MQ below (mQi E s.heap.size r σ') args s 0 0 (mA E s.heap.size)) (F0 m 21 ls [.int s0]) := by
  obtain ⟨⟨hx, hb, hml, hown, hts⟩, hK, hD, hr, hlk⟩ := id hC
  unfold f_down_21 at h
  cases h
  exact m_iret hC hP hS dX3_down_21
def f_down_20 (N : Nat) (σ : MS) (x2 : Int32) : Option (Int32 × MS) :=
    f_down_21 N σ x2
set_option maxHeartbeats 4000000 in
set_option maxRecDepth 100000 in
theorem w_down_20 {p : Program} {l : Launch} {e : Env} {R : Room} {s : State} {m : MethodId} {args : Array Value} {below : List Frame} {meth : Method} {c : Code} {E : mE} {σ' : MS} {r : Int32} (hC : mC p s m args meth c E cX3_down 3 (some .int)) (hR : 0 ≤ R.frames ∧ 0 ≤ R.locals) (N : Nat) (σ : MS) (x2 : Int32) (h : f_down_20 N σ x2 = some (r, σ')) {H : Heap} {locs : List Loc} (hP : mP E σ H) (hS : va_S (mA E s.heap.size) s.heap H locs) {ls : Array Slot} (hl : lv_has ls 3 [(2, .int x2)]) : W p l e R s m args below meth c H locs 0 0 (MQ below (mQi E s.heap.size r σ') args s 0 0 (mA E s.heap.size)) (F0 m 20 ls []) := by
  obtain ⟨⟨hx, hb, hml, hown, hts⟩, hK, hD, hr, hlk⟩ := id hC
  unfold f_down_20 at h
  refine lv_iload_n hx hb dX3_down_20 rfl (lv_at hl 0 rfl) ?_
  exact w_down_21 hC hR N σ x2 h hP hS (lv_sub hl [] rfl)
def f_down (N : Nat) (σ : MS) (x0 : Int32) (x1 : Int32) : Option (Int32 × MS) :=
    if ¬ x1 = 0 then
    mlet (x0 / x1) fun y2 =>
    if ¬ x1 = 0 then
    if (x0 - x0 / x1 * x1) = 0 then
    f_down_20 N σ y2
    else
    if 0 ≤ x0 then
    f_down_20 N σ y2
    else
    f_down_21 N σ (y2 - 1)
    else none
    else none
set_option maxHeartbeats 4000000 in
set_option maxRecDepth 100000 in
theorem w_down_0 {p : Program} {l : Launch} {e : Env} {R : Room} {s : State} {m : MethodId} {args : Array Value} {below : List Frame} {meth : Method} {c : Code} {E : mE} {σ' : MS} {r : Int32} (hC : mC p s m args meth c E cX3_down 3 (some .int)) (hR : 0 ≤ R.frames ∧ 0 ≤ R.locals) (N : Nat) (σ : MS) (x0 : Int32) (x1 : Int32) (h : f_down N σ x0 x1 = some (r, σ')) {H : Heap} {locs : List Loc} (hP : mP E σ H) (hS : va_S (mA E s.heap.size) s.heap H locs) {ls : Array Slot} (hl : lv_has ls 3 [(0, .int x0), (1, .int x1)]) : W p l e R s m args below meth c H locs 0 0 (MQ below (mQi E s.heap.size r σ') args s 0 0 (mA E s.heap.size)) (F0 m 0 ls []) := by
  obtain ⟨⟨hx, hb, hml, hown, hts⟩, hK, hD, hr, hlk⟩ := id hC
  unfold f_down at h
  refine lv_iload_n hx hb dX3_down_0 rfl (lv_at hl 0 rfl) ?_
  refine lv_iload_n hx hb dX3_down_1 rfl (lv_at hl 1 rfl) ?_
  obtain ⟨c1, h⟩ := mif_n h
  refine lv_idiv hx hb dX3_down_2 c1 ?_
  refine lv_topi (fun y2 ey2 => ?_)
  have h := mlet_at ey2 h
  refine lv_istore_n (lv' := [(2, .int y2), (0, .int x0), (1, .int x1)]) hx hb dX3_down_3 rfl hl (by decide) rfl (fun ls hl => ?_)
  refine lv_iload_n hx hb dX3_down_4 rfl (lv_at hl 1 rfl) ?_
  refine lv_iload_n hx hb dX3_down_5 rfl (lv_at hl 2 rfl) ?_
  obtain ⟨c3, h⟩ := mif_n h
  refine lv_irem hx hb dX3_down_6 c3 ?_
  refine lv_if_eq (tgt := 20) hx hb dX3_down_7 (by decide) (fun c4 => ?_) (fun c4 => ?_)
  · have h := mif_t c4 h
    exact w_down_20 hC hR N σ y2 h hP hS (lv_sub hl [0] rfl)
  · have h := mif_f c4 h
    refine lv_iload_n hx hb dX3_down_10 rfl (lv_at hl 1 rfl) ?_
    refine lv_if_ge (tgt := 20) hx hb dX3_down_11 (by decide) (fun c5 => ?_) (fun c5 => ?_)
    · have h := mif_t c5 h
      exact w_down_20 hC hR N σ y2 h hP hS (lv_sub hl [0] rfl)
    · have h := mif_f c5 h
      refine lv_iload_n hx hb dX3_down_14 rfl (lv_at hl 0 rfl) ?_
      refine lv_iconst (v := 1) hx hb dX3_down_15 (by decide) ?_
      refine lv_isub hx hb dX3_down_16 ?_
      refine lv_goto (tgt := 21) hx hb dX3_down_17 (by decide) ?_
      exact w_down_21 hC hR N σ (y2 - 1) h hP hS (lv_sub hl [] rfl)
theorem met_down (l : Launch) (N : Nat) (E : mE) (sz : Nat) (σ : MS) (x0 : Int32) (x1 : Int32) (r : Int32) (σ' : MS) (h : f_down N σ x0 x1 = some (r, σ')) : Met l yX3_down (ws_ yX3_down cX3_down 3 (some .int)) ({ frames := 0, cells := 0, slots := 0, locals := 0 }) (mPc E sz σ [.int x0, .int x1]) (mQi E sz r σ') 0 0 (mA E sz) :=
  m_met (Qc := fun z => mQi E z r σ') (by decide) rfl (Nat.le_of_ble_eq_true rfl) (fun hC ls hl hP => w_down_0 hC ⟨Nat.le_refl _, Nat.le_refl _⟩ N σ x0 x1 h hP va_S.rf hl)
def f_between_24 (N : Nat) (j0 : Nat) : Nat → MS → Int32 → Int32 → Int32 → Int32 → Option (Int32 × MS)
  | 0, _, _, _, _, _ => none
  | n + 1, σ, x2, x3, x4, x5 =>
    if x2 ≤ x5 then
    if mIn ((x4 + (2 * x2)) - 1) (mLen j0) = true then mlet (σ.2.1 j0 ((x4 + (2 * x2)) - 1).toNatClampNeg) fun y3 =>
    some (y3, σ)
    else none
    else
    if mIn ((x4 + (2 * x5)) - 2) (mLen j0) = true then mlet (σ.2.1 j0 ((x4 + (2 * x5)) - 2).toNatClampNeg) fun y5 =>
    if mIn (x4 + (2 * x5)) (mLen j0) = true then mlet (σ.2.1 j0 (x4 + (2 * x5)).toNatClampNeg) fun y7 =>
    if x3 ≤ y7 then
    if mIn ((x4 + (2 * x5)) - 1) (mLen j0) = true then mlet (σ.2.1 j0 ((x4 + (2 * x5)) - 1).toNatClampNeg) fun y10 =>
    if mIn ((x4 + (2 * x5)) + 1) (mLen j0) = true then mlet (σ.2.1 j0 ((x4 + (2 * x5)) + 1).toNatClampNeg) fun y12 =>
    mcall (f_down N σ ((y12 - y10) * (x3 - y5)) (y7 - y5)) fun r15 σ13 =>
    some (y10 + r15, σ13)
    else none
    else none
    else
    mlet (x5 + 1) fun y16 =>
    f_between_24 N j0 n σ x2 x3 x4 y16
    else none
    else none
set_option maxHeartbeats 4000000 in
set_option maxRecDepth 100000 in
theorem w_between_24 {p : Program} {l : Launch} {e : Env} {R : Room} {s : State} {m : MethodId} {args : Array Value} {below : List Frame} {meth : Method} {c : Code} {E : mE} {σ' : MS} {r : Int32} (hC : mC p s m args meth c E cX3_between 10 (some .int)) (hR : 1 ≤ R.frames ∧ 22 ≤ R.locals) (N : Nat) {j0 : Nat} (hj0 : mInt j0 = true) : ∀ (n : Nat) (σ : MS) (x2 : Int32) (x3 : Int32) (x4 : Int32) (x5 : Int32), f_between_24 N j0 n σ x2 x3 x4 x5 = some (r, σ') → ∀ (H : Heap) (locs : List Loc), mP E σ H → va_S (mA E s.heap.size) s.heap H locs → ∀ ls : Array Slot, lv_has ls 10 [(0, .ref (mad E j0)), (2, .int x2), (3, .int x3), (4, .int x4), (5, .int x5)] → W p l e R s m args below meth c H locs 0 0 (MQ below (mQi E s.heap.size r σ') args s 0 0 (mA E s.heap.size)) (F0 m 24 ls []) := by
  obtain ⟨⟨hx, hb, hml, hown, hts⟩, hK, hD, hr, hlk⟩ := id hC
  intro n
  induction n with
  | zero =>
    intro σ x2 x3 x4 x5 h
    cases h
  | succ n ih =>
    intro σ x2 x3 x4 x5 h H locs hP hS ls hl
    unfold f_between_24 at h
    refine lv_iload hx hb dX3_between_24 (lv_at hl 4 rfl) ?_
    refine lv_iload_n hx hb dX3_between_26 rfl (lv_at hl 1 rfl) ?_
    refine lv_icmp_ge (tgt := 117) hx hb dX3_between_27 (by decide) (fun c1 => ?_) (fun c1 => ?_)
    · have h := mif_t c1 h
      refine lv_aload_n hx hb dX3_between_117 rfl (lv_at hl 0 rfl) ?_
      refine lv_iload hx hb dX3_between_118 (lv_at hl 3 rfl) ?_
      refine lv_iconst (v := 2) hx hb dX3_between_120 (by decide) ?_
      refine lv_iload_n hx hb dX3_between_121 rfl (lv_at hl 1 rfl) ?_
      refine lv_imul hx hb dX3_between_122 ?_
      refine lv_iadd hx hb dX3_between_123 ?_
      refine lv_iconst (v := 1) hx hb dX3_between_124 (by decide) ?_
      refine lv_isub hx hb dX3_between_125 ?_
      obtain ⟨c2, h⟩ := mif_n h
      refine m_ald hC hP j0 hj0 c2 dX3_between_126 ?_
      refine lv_topi (fun y3 ey3 => ?_)
      have h := mlet_at ey3 h
      cases h
      exact m_iret hC hP hS dX3_between_127
    · have h := mif_f c1 h
      refine lv_aload_n hx hb dX3_between_30 rfl (lv_at hl 0 rfl) ?_
      refine lv_iload hx hb dX3_between_31 (lv_at hl 3 rfl) ?_
      refine lv_iconst (v := 2) hx hb dX3_between_33 (by decide) ?_
      refine lv_iload hx hb dX3_between_34 (lv_at hl 4 rfl) ?_
      refine lv_imul hx hb dX3_between_36 ?_
      refine lv_iadd hx hb dX3_between_37 ?_
      refine lv_iconst (v := 2) hx hb dX3_between_38 (by decide) ?_
      refine lv_isub hx hb dX3_between_39 ?_
      obtain ⟨c4, h⟩ := mif_n h
      refine m_ald hC hP j0 hj0 c4 dX3_between_40 ?_
      refine lv_topi (fun y5 ey5 => ?_)
      have h := mlet_at ey5 h
      refine lv_istore (lv' := [(6, .int y5), (0, .ref (mad E j0)), (2, .int x2), (3, .int x3), (4, .int x4), (5, .int x5)]) hx hb dX3_between_41 hl (by decide) rfl (fun ls hl => ?_)
      refine lv_aload_n hx hb dX3_between_43 rfl (lv_at hl 1 rfl) ?_
      refine lv_iload hx hb dX3_between_44 (lv_at hl 4 rfl) ?_
      refine lv_iconst (v := 2) hx hb dX3_between_46 (by decide) ?_
      refine lv_iload hx hb dX3_between_47 (lv_at hl 5 rfl) ?_
      refine lv_imul hx hb dX3_between_49 ?_
      refine lv_iadd hx hb dX3_between_50 ?_
      obtain ⟨c6, h⟩ := mif_n h
      refine m_ald hC hP j0 hj0 c6 dX3_between_51 ?_
      refine lv_topi (fun y7 ey7 => ?_)
      have h := mlet_at ey7 h
      refine lv_istore (lv' := [(7, .int y7), (6, .int y5), (0, .ref (mad E j0)), (2, .int x2), (3, .int x3), (4, .int x4), (5, .int x5)]) hx hb dX3_between_52 hl (by decide) rfl (fun ls hl => ?_)
      refine lv_iload_n hx hb dX3_between_54 rfl (lv_at hl 4 rfl) ?_
      refine lv_iload hx hb dX3_between_55 (lv_at hl 0 rfl) ?_
      refine lv_icmp_le (tgt := 63) hx hb dX3_between_57 (by decide) (fun c8 => ?_) (fun c8 => ?_)
      · have h := mif_t c8 h
        refine lv_aload_n hx hb dX3_between_63 rfl (lv_at hl 2 rfl) ?_
        refine lv_iload hx hb dX3_between_64 (lv_at hl 5 rfl) ?_
        refine lv_iconst (v := 2) hx hb dX3_between_66 (by decide) ?_
        refine lv_iload hx hb dX3_between_67 (lv_at hl 6 rfl) ?_
        refine lv_imul hx hb dX3_between_69 ?_
        refine lv_iadd hx hb dX3_between_70 ?_
        refine lv_iconst (v := 1) hx hb dX3_between_71 (by decide) ?_
        refine lv_isub hx hb dX3_between_72 ?_
        obtain ⟨c9, h⟩ := mif_n h
        refine m_ald hC hP j0 hj0 c9 dX3_between_73 ?_
        refine lv_topi (fun y10 ey10 => ?_)
        have h := mlet_at ey10 h
        refine lv_istore (lv' := [(8, .int y10), (7, .int y7), (6, .int y5), (0, .ref (mad E j0)), (2, .int x2), (3, .int x3), (4, .int x4), (5, .int x5)]) hx hb dX3_between_74 hl (by decide) rfl (fun ls hl => ?_)
        refine lv_aload_n hx hb dX3_between_76 rfl (lv_at hl 3 rfl) ?_
        refine lv_iload hx hb dX3_between_77 (lv_at hl 6 rfl) ?_
        refine lv_iconst (v := 2) hx hb dX3_between_79 (by decide) ?_
        refine lv_iload hx hb dX3_between_80 (lv_at hl 7 rfl) ?_
        refine lv_imul hx hb dX3_between_82 ?_
        refine lv_iadd hx hb dX3_between_83 ?_
        refine lv_iconst (v := 1) hx hb dX3_between_84 (by decide) ?_
        refine lv_iadd hx hb dX3_between_85 ?_
        obtain ⟨c11, h⟩ := mif_n h
        refine m_ald hC hP j0 hj0 c11 dX3_between_86 ?_
        refine lv_topi (fun y12 ey12 => ?_)
        have h := mlet_at ey12 h
        refine lv_istore (lv' := [(9, .int y12), (8, .int y10), (7, .int y7), (6, .int y5), (0, .ref (mad E j0)), (2, .int x2), (3, .int x3), (4, .int x4), (5, .int x5)]) hx hb dX3_between_87 hl (by decide) rfl (fun ls hl => ?_)
        refine lv_iload hx hb dX3_between_89 (lv_at hl 1 rfl) ?_
        refine lv_iload hx hb dX3_between_91 (lv_at hl 0 rfl) ?_
        refine lv_iload hx hb dX3_between_93 (lv_at hl 1 rfl) ?_
        refine lv_isub hx hb dX3_between_95 ?_
        refine lv_iload_n hx hb dX3_between_96 rfl (lv_at hl 6 rfl) ?_
        refine lv_iload hx hb dX3_between_97 (lv_at hl 3 rfl) ?_
        refine lv_isub hx hb dX3_between_99 ?_
        refine lv_imul hx hb dX3_between_100 ?_
        refine lv_iload hx hb dX3_between_101 (lv_at hl 2 rfl) ?_
        refine lv_iload hx hb dX3_between_103 (lv_at hl 3 rfl) ?_
        refine lv_isub hx hb dX3_between_105 ?_
        obtain ⟨r15, σ13, c14, h⟩ := mcall_n h
        refine m_callsi (As := [.int ((y12 - y10) * (x3 - y5)), .int (y7 - y5)]) (rest := [.int y10]) hC (met_down l N E H.size σ ((y12 - y10) * (x3 - y5)) (y7 - y5) r15 σ13 c14) (va_cwS 2 hts (lw_S q2253 q2254 q103 q2255) rfl rfl rfl (by decide +kernel) ⟨Nat.le_trans (Nat.le_of_ble_eq_true rfl) hR.1, Nat.le_trans (Nat.le_of_ble_eq_true rfl) hR.2⟩) hP hS rfl hl.1 rfl (Nat.le_of_ble_eq_true rfl) dX3_between_106 (fun H locs hP hS => ?_)
        refine lv_iadd hx hb dX3_between_109 ?_
        cases h
        exact m_iret hC hP hS dX3_between_110
      · have h := mif_f c8 h
        refine lv_goto (tgt := 111) hx hb dX3_between_60 (by decide) ?_
        obtain ⟨y16, ey16⟩ : ∃ z : Int32, z = x5 + 1 := ⟨_, rfl⟩
        have h := mlet_at ey16 h
        refine lv_iinc (v := y16) (lv' := [(5, .int y16), (7, .int y7), (6, .int y5), (0, .ref (mad E j0)), (2, .int x2), (3, .int x3), (4, .int x4)]) hx hb dX3_between_111 hl (k := 6) rfl (by rw [ey16]; rfl) (by decide) rfl (fun ls hl => ?_)
        refine lv_goto (tgt := 24) hx hb dX3_between_114 (by decide) ?_
        exact ih σ x2 x3 x4 y16 h _ _ hP hS _ (lv_sub hl [3, 4, 5, 6, 0] rfl)
def f_between (N : Nat) (j0 : Nat) (σ : MS) (x1 : Int32) (x2 : Int32) (x3 : Int32) : Option (Int32 × MS) :=
    mlet (8 * x1) fun y1 =>
    if mIn y1 (mLen j0) = true then mlet (σ.2.1 j0 y1.toNatClampNeg) fun y3 =>
    if y3 < x3 then
    f_between_24 N j0 N σ x2 x3 y1 1
    else
    if mIn (y1 + 1) (mLen j0) = true then mlet (σ.2.1 j0 (y1 + 1).toNatClampNeg) fun y6 =>
    some (y6, σ)
    else none
    else none
set_option maxHeartbeats 4000000 in
set_option maxRecDepth 100000 in
theorem w_between_0 {p : Program} {l : Launch} {e : Env} {R : Room} {s : State} {m : MethodId} {args : Array Value} {below : List Frame} {meth : Method} {c : Code} {E : mE} {σ' : MS} {r : Int32} (hC : mC p s m args meth c E cX3_between 10 (some .int)) (hR : 1 ≤ R.frames ∧ 22 ≤ R.locals) (N : Nat) {j0 : Nat} (hj0 : mInt j0 = true) (σ : MS) (x1 : Int32) (x2 : Int32) (x3 : Int32) (h : f_between N j0 σ x1 x2 x3 = some (r, σ')) {H : Heap} {locs : List Loc} (hP : mP E σ H) (hS : va_S (mA E s.heap.size) s.heap H locs) {ls : Array Slot} (hl : lv_has ls 10 [(0, .ref (mad E j0)), (1, .int x1), (2, .int x2), (3, .int x3)]) : W p l e R s m args below meth c H locs 0 0 (MQ below (mQi E s.heap.size r σ') args s 0 0 (mA E s.heap.size)) (F0 m 0 ls []) := by
  obtain ⟨⟨hx, hb, hml, hown, hts⟩, hK, hD, hr, hlk⟩ := id hC
  unfold f_between at h
  refine lv_bipush (v := 8) hx hb dX3_between_0 (by decide) ?_
  refine lv_iload_n hx hb dX3_between_2 rfl (lv_at hl 1 rfl) ?_
  refine lv_imul hx hb dX3_between_3 ?_
  refine lv_topi (fun y1 ey1 => ?_)
  have h := mlet_at ey1 h
  refine lv_istore (lv' := [(4, .int y1), (0, .ref (mad E j0)), (1, .int x1), (2, .int x2), (3, .int x3)]) hx hb dX3_between_4 hl (by decide) rfl (fun ls hl => ?_)
  refine lv_iload_n hx hb dX3_between_6 rfl (lv_at hl 4 rfl) ?_
  refine lv_aload_n hx hb dX3_between_7 rfl (lv_at hl 1 rfl) ?_
  refine lv_iload hx hb dX3_between_8 (lv_at hl 0 rfl) ?_
  obtain ⟨c2, h⟩ := mif_n h
  refine m_ald hC hP j0 hj0 c2 dX3_between_10 ?_
  refine lv_topi (fun y3 ey3 => ?_)
  have h := mlet_at ey3 h
  refine lv_icmp_gt (tgt := 21) hx hb dX3_between_11 (by decide) (fun c4 => ?_) (fun c4 => ?_)
  · have h := mif_t c4 h
    refine lv_iconst (v := 1) hx hb dX3_between_21 (by decide) ?_
    refine lv_istore (lv' := [(5, .int 1), (4, .int y1), (0, .ref (mad E j0)), (1, .int x1), (2, .int x2), (3, .int x3)]) hx hb dX3_between_22 hl (by decide) rfl (fun ls hl => ?_)
    exact w_between_24 hC hR N hj0 N σ x2 x3 y1 1 h _ _ hP hS _ (lv_sub hl [2, 4, 5, 1, 0] rfl)
  · have h := mif_f c4 h
    refine lv_aload_n hx hb dX3_between_14 rfl (lv_at hl 1 rfl) ?_
    refine lv_iload hx hb dX3_between_15 (lv_at hl 0 rfl) ?_
    refine lv_iconst (v := 1) hx hb dX3_between_17 (by decide) ?_
    refine lv_iadd hx hb dX3_between_18 ?_
    obtain ⟨c5, h⟩ := mif_n h
    refine m_ald hC hP j0 hj0 c5 dX3_between_19 ?_
    refine lv_topi (fun y6 ey6 => ?_)
    have h := mlet_at ey6 h
    cases h
    exact m_iret hC hP hS dX3_between_20
theorem met_between (l : Launch) (N : Nat) (E : mE) (sz : Nat) (σ : MS) {j0 : Nat} (hj0 : mInt j0 = true) (x1 : Int32) (x2 : Int32) (x3 : Int32) (r : Int32) (σ' : MS) (h : f_between N j0 σ x1 x2 x3 = some (r, σ')) : Met l yX3_between (ws_ yX3_between cX3_between 10 (some .int)) ({ frames := 1, cells := 0, slots := 0, locals := 22 }) (mPc E sz σ [.ref (mad E j0), .int x1, .int x2, .int x3]) (mQi E sz r σ') 0 0 (mA E sz) :=
  m_met (Qc := fun z => mQi E z r σ') (by decide) rfl (Nat.le_of_ble_eq_true rfl) (fun hC ls hl hP => w_between_0 hC ⟨Nat.le_refl _, Nat.le_refl _⟩ N hj0 σ x1 x2 x3 h hP va_S.rf hl)

/-! BY gen_model.py: feed cell store next begins wrong find number pairs -/
def f_feed_76 (N : Nat) (k23 : MS → Int32 → Int32 → Int32 → Int32 → Int32 → Int32 → Option (Int32 × MS)) (σ : MS) (x1 : Int32) (x2 : Int32) (x3 : Int32) (x4 : Int32) (x5 : Int32) (x6 : Int32) (s0 : Int32) : Option (Int32 × MS) :=
    if mIn (σ.1 2) (mLen 1) = true then mlet (mArr σ 1 (σ.1 2).toNatClampNeg ((s0 >>> ((24 - (8 * (x6 - x6 / 4 * 4))) &&& 31)) &&& 255)) fun σ2 =>
    mlet (mSet σ2 2 ((σ2.1 2) + 1)) fun σ3 =>
    mlet (x6 + 1) fun y4 =>
    k23 σ3 x1 x2 x3 x4 x5 y4
    else none
set_option maxHeartbeats 4000000 in
set_option maxRecDepth 100000 in
theorem w_feed_76 {p : Program} {l : Launch} {e : Env} {R : Room} {s : State} {m : MethodId} {args : Array Value} {below : List Frame} {meth : Method} {c : Code} {E : mE} {σ' : MS} {r : Int32} (hC : mC p s m args meth c E cX3_feed 8 (some .int)) (hR : 0 ≤ R.frames ∧ 0 ≤ R.locals) (N : Nat) (k23 : MS → Int32 → Int32 → Int32 → Int32 → Int32 → Int32 → Option (Int32 × MS)) (hk23 : ∀ (σ : MS) (x1 : Int32) (x2 : Int32) (x3 : Int32) (x4 : Int32) (x5 : Int32) (x6 : Int32), k23 σ x1 x2 x3 x4 x5 x6 = some (r, σ') → ∀ (H : Heap) (locs : List Loc), mP E σ H → va_S (mA E s.heap.size) s.heap H locs → ∀ ls : Array Slot, lv_has ls 8 [(0, .ref (mh E)), (1, .int x1), (2, .int x2), (3, .int x3), (4, .int x4), (5, .int x5), (6, .int x6)] → W p l e R s m args below meth c H locs 0 0 (MQ below (mQi E s.heap.size r σ') args s 0 0 (mA E s.heap.size)) (F0 m 23 ls [])) (σ : MS) (x1 : Int32) (x2 : Int32) (x3 : Int32) (x4 : Int32) (x5 : Int32) (x6 : Int32) (s0 : Int32) (h : f_feed_76 N k23 σ x1 x2 x3 x4 x5 x6 s0 = some (r, σ')) {H : Heap} {locs : List Loc} (hP : mP E σ H) (hS : va_S (mA E s.heap.size) s.heap H locs) {ls : Array Slot} (hl : lv_has ls 8 [(0, .ref (mh E)), (1, .int x1), (2, .int x2), (3, .int x3), (4, .int x4), (5, .int x5), (6, .int x6)]) : W p l e R s m args below meth c H locs 0 0 (MQ below (mQi E s.heap.size r σ') args s 0 0 (mA E s.heap.size)) (F0 m 76 ls [.int s0]) := by
  obtain ⟨⟨hx, hb, hml, hown, hts⟩, hK, hD, hr, hlk⟩ := id hC
  unfold f_feed_76 at h
  refine lv_istore (lv' := [(7, .int s0), (0, .ref (mh E)), (1, .int x1), (2, .int x2), (3, .int x3), (4, .int x4), (5, .int x5), (6, .int x6)]) hx hb dX3_feed_76 hl (by decide) rfl (fun ls hl => ?_)
  refine lv_aload_n hx hb dX3_feed_78 rfl (lv_at hl 1 rfl) ?_
  refine m_geta hC hP 1 (by decide) rfl q1894 dX3_feed_79 ?_
  refine lv_aload_n hx hb dX3_feed_82 rfl (lv_at hl 1 rfl) ?_
  refine m_geti hC hP 2 (by decide) rfl q1895 dX3_feed_83 ?_
  refine lv_iload hx hb dX3_feed_86 (lv_at hl 0 rfl) ?_
  refine lv_bipush (v := 24) hx hb dX3_feed_88 (by decide) ?_
  refine lv_bipush (v := 8) hx hb dX3_feed_90 (by decide) ?_
  refine lv_iload hx hb dX3_feed_92 (lv_at hl 7 rfl) ?_
  refine lv_iconst (v := 4) hx hb dX3_feed_94 (by decide) ?_
  refine lv_irem hx hb dX3_feed_95 (by decide) ?_
  refine lv_imul hx hb dX3_feed_96 ?_
  refine lv_isub hx hb dX3_feed_97 ?_
  refine lv_ishr hx hb dX3_feed_98 ?_
  refine lv_sipush (v := 255) hx hb dX3_feed_99 (by decide) ?_
  refine lv_iand hx hb dX3_feed_102 ?_
  obtain ⟨c1, h⟩ := mif_n h
  refine m_ast hC hP hS 1 rfl c1 dX3_feed_103 (fun H locs hP hS => ?_)
  obtain ⟨σ2, eσ2⟩ : ∃ z : MS, z = mArr σ 1 (σ.1 2).toNatClampNeg ((s0 >>> ((24 - (8 * (x6 - x6 / 4 * 4))) &&& 31)) &&& 255) := ⟨_, rfl⟩
  rw [← eσ2] at hP
  have h := mlet_at eσ2 h
  refine lv_aload_n hx hb dX3_feed_104 rfl (lv_at hl 1 rfl) ?_
  refine lv_dup hx hb dX3_feed_105 rfl ?_
  refine m_geti hC hP 2 (by decide) rfl q1895 dX3_feed_106 ?_
  refine lv_iconst (v := 1) hx hb dX3_feed_109 (by decide) ?_
  refine lv_iadd hx hb dX3_feed_110 ?_
  refine m_put hC hP hS 2 (by decide) rfl q1895 rfl (ty := .int) (tyX3_ok 2 (by decide)) ⟨rfl, rfl⟩ dX3_feed_111 (fun H locs hP hS => ?_)
  obtain ⟨σ3, eσ3⟩ : ∃ z : MS, z = mSet σ2 2 ((σ2.1 2) + 1) := ⟨_, rfl⟩
  rw [← eσ3] at hP
  have h := mlet_at eσ3 h
  obtain ⟨y4, ey4⟩ : ∃ z : Int32, z = x6 + 1 := ⟨_, rfl⟩
  have h := mlet_at ey4 h
  refine lv_iinc (v := y4) (lv' := [(6, .int y4), (7, .int s0), (0, .ref (mh E)), (1, .int x1), (2, .int x2), (3, .int x3), (4, .int x4), (5, .int x5)]) hx hb dX3_feed_114 hl (k := 7) rfl (by rw [ey4]; rfl) (by decide) rfl (fun ls hl => ?_)
  refine lv_goto (tgt := 23) hx hb dX3_feed_117 (by decide) ?_
  exact hk23 σ3 x1 x2 x3 x4 x5 y4 h _ _ hP hS _ (lv_sub hl [2, 3, 4, 5, 6, 7, 0] rfl)
def f_feed_23 (N : Nat) : Nat → MS → Int32 → Int32 → Int32 → Int32 → Int32 → Int32 → Option (Int32 × MS)
  | 0, _, _, _, _, _, _, _ => none
  | n + 1, σ, x1, x2, x3, x4, x5, x6 =>
    if 20 ≤ x6 then
    some (σ.1 2, σ)
    else
    if 4 ≤ x6 then
    if 8 ≤ x6 then
    if 12 ≤ x6 then
    if 16 ≤ x6 then
    f_feed_76 N (f_feed_23 N n) σ x1 x2 x3 x4 x5 x6 x5
    else
    f_feed_76 N (f_feed_23 N n) σ x1 x2 x3 x4 x5 x6 x4
    else
    f_feed_76 N (f_feed_23 N n) σ x1 x2 x3 x4 x5 x6 x3
    else
    f_feed_76 N (f_feed_23 N n) σ x1 x2 x3 x4 x5 x6 x2
    else
    f_feed_76 N (f_feed_23 N n) σ x1 x2 x3 x4 x5 x6 x1
set_option maxHeartbeats 4000000 in
set_option maxRecDepth 100000 in
theorem w_feed_23 {p : Program} {l : Launch} {e : Env} {R : Room} {s : State} {m : MethodId} {args : Array Value} {below : List Frame} {meth : Method} {c : Code} {E : mE} {σ' : MS} {r : Int32} (hC : mC p s m args meth c E cX3_feed 8 (some .int)) (hR : 0 ≤ R.frames ∧ 0 ≤ R.locals) (N : Nat) : ∀ (n : Nat) (σ : MS) (x1 : Int32) (x2 : Int32) (x3 : Int32) (x4 : Int32) (x5 : Int32) (x6 : Int32), f_feed_23 N n σ x1 x2 x3 x4 x5 x6 = some (r, σ') → ∀ (H : Heap) (locs : List Loc), mP E σ H → va_S (mA E s.heap.size) s.heap H locs → ∀ ls : Array Slot, lv_has ls 8 [(0, .ref (mh E)), (1, .int x1), (2, .int x2), (3, .int x3), (4, .int x4), (5, .int x5), (6, .int x6)] → W p l e R s m args below meth c H locs 0 0 (MQ below (mQi E s.heap.size r σ') args s 0 0 (mA E s.heap.size)) (F0 m 23 ls []) := by
  obtain ⟨⟨hx, hb, hml, hown, hts⟩, hK, hD, hr, hlk⟩ := id hC
  intro n
  induction n with
  | zero =>
    intro σ x1 x2 x3 x4 x5 x6 h
    cases h
  | succ n ih =>
    intro σ x1 x2 x3 x4 x5 x6 h H locs hP hS ls hl
    unfold f_feed_23 at h
    refine lv_iload hx hb dX3_feed_23 (lv_at hl 6 rfl) ?_
    refine lv_bipush (v := 20) hx hb dX3_feed_25 (by decide) ?_
    refine lv_icmp_ge (tgt := 120) hx hb dX3_feed_27 (by decide) (fun c1 => ?_) (fun c1 => ?_)
    · have h := mif_t c1 h
      refine lv_aload_n hx hb dX3_feed_120 rfl (lv_at hl 0 rfl) ?_
      refine m_geti hC hP 2 (by decide) rfl q1895 dX3_feed_121 ?_
      cases h
      exact m_iret hC hP hS dX3_feed_124
    · have h := mif_f c1 h
      refine lv_iload hx hb dX3_feed_30 (lv_at hl 6 rfl) ?_
      refine lv_iconst (v := 4) hx hb dX3_feed_32 (by decide) ?_
      refine lv_icmp_ge (tgt := 40) hx hb dX3_feed_33 (by decide) (fun c2 => ?_) (fun c2 => ?_)
      · have h := mif_t c2 h
        refine lv_iload hx hb dX3_feed_40 (lv_at hl 6 rfl) ?_
        refine lv_bipush (v := 8) hx hb dX3_feed_42 (by decide) ?_
        refine lv_icmp_ge (tgt := 51) hx hb dX3_feed_44 (by decide) (fun c3 => ?_) (fun c3 => ?_)
        · have h := mif_t c3 h
          refine lv_iload hx hb dX3_feed_51 (lv_at hl 6 rfl) ?_
          refine lv_bipush (v := 12) hx hb dX3_feed_53 (by decide) ?_
          refine lv_icmp_ge (tgt := 62) hx hb dX3_feed_55 (by decide) (fun c4 => ?_) (fun c4 => ?_)
          · have h := mif_t c4 h
            refine lv_iload hx hb dX3_feed_62 (lv_at hl 6 rfl) ?_
            refine lv_bipush (v := 16) hx hb dX3_feed_64 (by decide) ?_
            refine lv_icmp_ge (tgt := 74) hx hb dX3_feed_66 (by decide) (fun c5 => ?_) (fun c5 => ?_)
            · have h := mif_t c5 h
              refine lv_iload hx hb dX3_feed_74 (lv_at hl 5 rfl) ?_
              exact w_feed_76 hC hR N (f_feed_23 N n) ih σ x1 x2 x3 x4 x5 x6 x5 h hP hS (lv_sub hl [0, 1, 2, 3, 4, 5, 6] rfl)
            · have h := mif_f c5 h
              refine lv_iload hx hb dX3_feed_69 (lv_at hl 4 rfl) ?_
              refine lv_goto (tgt := 76) hx hb dX3_feed_71 (by decide) ?_
              exact w_feed_76 hC hR N (f_feed_23 N n) ih σ x1 x2 x3 x4 x5 x6 x4 h hP hS (lv_sub hl [0, 1, 2, 3, 4, 5, 6] rfl)
          · have h := mif_f c4 h
            refine lv_iload_n hx hb dX3_feed_58 rfl (lv_at hl 3 rfl) ?_
            refine lv_goto (tgt := 76) hx hb dX3_feed_59 (by decide) ?_
            exact w_feed_76 hC hR N (f_feed_23 N n) ih σ x1 x2 x3 x4 x5 x6 x3 h hP hS (lv_sub hl [0, 1, 2, 3, 4, 5, 6] rfl)
        · have h := mif_f c3 h
          refine lv_iload_n hx hb dX3_feed_47 rfl (lv_at hl 2 rfl) ?_
          refine lv_goto (tgt := 76) hx hb dX3_feed_48 (by decide) ?_
          exact w_feed_76 hC hR N (f_feed_23 N n) ih σ x1 x2 x3 x4 x5 x6 x2 h hP hS (lv_sub hl [0, 1, 2, 3, 4, 5, 6] rfl)
      · have h := mif_f c2 h
        refine lv_iload_n hx hb dX3_feed_36 rfl (lv_at hl 1 rfl) ?_
        refine lv_goto (tgt := 76) hx hb dX3_feed_37 (by decide) ?_
        exact w_feed_76 hC hR N (f_feed_23 N n) ih σ x1 x2 x3 x4 x5 x6 x1 h hP hS (lv_sub hl [0, 1, 2, 3, 4, 5, 6] rfl)
def f_feed (N : Nat) (σ : MS) (x1 : Int32) (x2 : Int32) (x3 : Int32) (x4 : Int32) (x5 : Int32) : Option (Int32 × MS) :=
    mlet (mSet σ 0 0) fun σ1 =>
    if ((σ1.1 2) + 20) ≤ 500 then
    f_feed_23 N N σ1 x1 x2 x3 x4 x5 0
    else
    some ((-1), σ1)
set_option maxHeartbeats 4000000 in
set_option maxRecDepth 100000 in
theorem w_feed_0 {p : Program} {l : Launch} {e : Env} {R : Room} {s : State} {m : MethodId} {args : Array Value} {below : List Frame} {meth : Method} {c : Code} {E : mE} {σ' : MS} {r : Int32} (hC : mC p s m args meth c E cX3_feed 8 (some .int)) (hR : 0 ≤ R.frames ∧ 0 ≤ R.locals) (N : Nat) (σ : MS) (x1 : Int32) (x2 : Int32) (x3 : Int32) (x4 : Int32) (x5 : Int32) (h : f_feed N σ x1 x2 x3 x4 x5 = some (r, σ')) {H : Heap} {locs : List Loc} (hP : mP E σ H) (hS : va_S (mA E s.heap.size) s.heap H locs) {ls : Array Slot} (hl : lv_has ls 8 [(0, .ref (mh E)), (1, .int x1), (2, .int x2), (3, .int x3), (4, .int x4), (5, .int x5)]) : W p l e R s m args below meth c H locs 0 0 (MQ below (mQi E s.heap.size r σ') args s 0 0 (mA E s.heap.size)) (F0 m 0 ls []) := by
  obtain ⟨⟨hx, hb, hml, hown, hts⟩, hK, hD, hr, hlk⟩ := id hC
  unfold f_feed at h
  refine lv_aload_n hx hb dX3_feed_0 rfl (lv_at hl 0 rfl) ?_
  refine lv_iconst (v := 0) hx hb dX3_feed_1 (by decide) ?_
  refine m_put hC hP hS 0 (by decide) rfl q1893 rfl (ty := .int) (tyX3_ok 0 (by decide)) ⟨rfl, rfl⟩ dX3_feed_2 (fun H locs hP hS => ?_)
  obtain ⟨σ1, eσ1⟩ : ∃ z : MS, z = mSet σ 0 0 := ⟨_, rfl⟩
  rw [← eσ1] at hP
  have h := mlet_at eσ1 h
  refine lv_aload_n hx hb dX3_feed_5 rfl (lv_at hl 0 rfl) ?_
  refine m_geti hC hP 2 (by decide) rfl q1895 dX3_feed_6 ?_
  refine lv_bipush (v := 20) hx hb dX3_feed_9 (by decide) ?_
  refine lv_iadd hx hb dX3_feed_11 ?_
  refine lv_sipush (v := 500) hx hb dX3_feed_12 (by decide) ?_
  refine lv_icmp_le (tgt := 20) hx hb dX3_feed_15 (by decide) (fun c2 => ?_) (fun c2 => ?_)
  · have h := mif_t c2 h
    refine lv_iconst (v := 0) hx hb dX3_feed_20 (by decide) ?_
    refine lv_istore (lv' := [(6, .int 0), (0, .ref (mh E)), (1, .int x1), (2, .int x2), (3, .int x3), (4, .int x4), (5, .int x5)]) hx hb dX3_feed_21 hl (by decide) rfl (fun ls hl => ?_)
    exact w_feed_23 hC hR N N σ1 x1 x2 x3 x4 x5 0 h _ _ hP hS _ (lv_sub hl [1, 2, 3, 4, 5, 6, 0] rfl)
  · have h := mif_f c2 h
    refine lv_iconst (v := (-1)) hx hb dX3_feed_18 (by decide) ?_
    cases h
    exact m_iret hC hP hS dX3_feed_19
theorem met_feed (l : Launch) (N : Nat) (E : mE) (sz : Nat) (σ : MS) (x1 : Int32) (x2 : Int32) (x3 : Int32) (x4 : Int32) (x5 : Int32) (r : Int32) (σ' : MS) (h : f_feed N σ x1 x2 x3 x4 x5 = some (r, σ')) : Met l yX3_feed (ws_ yX3_feed cX3_feed 8 (some .int)) ({ frames := 0, cells := 0, slots := 0, locals := 0 }) (mPc E sz σ [.ref (mh E), .int x1, .int x2, .int x3, .int x4, .int x5]) (mQi E sz r σ') 0 0 (mA E sz) :=
  m_met (Qc := fun z => mQi E z r σ') (by decide) rfl (Nat.le_of_ble_eq_true rfl) (fun hC ls hl hP => w_feed_0 hC ⟨Nat.le_refl _, Nat.le_refl _⟩ N σ x1 x2 x3 x4 x5 h hP va_S.rf hl)
def f_cell_26 (N : Nat) (j1 : Nat) (σ : MS) (x3 : Int32) : Option (Int32 × MS) :=
    some (x3 + 1, σ)
set_option maxHeartbeats 4000000 in
set_option maxRecDepth 100000 in
theorem w_cell_26 {p : Program} {l : Launch} {e : Env} {R : Room} {s : State} {m : MethodId} {args : Array Value} {below : List Frame} {meth : Method} {c : Code} {E : mE} {σ' : MS} {r : Int32} (hC : mC p s m args meth c E cX3_cell 5 (some .int)) (hR : 0 ≤ R.frames ∧ 0 ≤ R.locals) (N : Nat) {j1 : Nat} (hj1 : mInt j1 = true) (σ : MS) (x3 : Int32) (h : f_cell_26 N j1 σ x3 = some (r, σ')) {H : Heap} {locs : List Loc} (hP : mP E σ H) (hS : va_S (mA E s.heap.size) s.heap H locs) {ls : Array Slot} (hl : lv_has ls 5 [(3, .int x3)]) : W p l e R s m args below meth c H locs 0 0 (MQ below (mQi E s.heap.size r σ') args s 0 0 (mA E s.heap.size)) (F0 m 26 ls []) := by
  obtain ⟨⟨hx, hb, hml, hown, hts⟩, hK, hD, hr, hlk⟩ := id hC
  unfold f_cell_26 at h
  refine lv_iload_n hx hb dX3_cell_26 rfl (lv_at hl 0 rfl) ?_
  refine lv_iconst (v := 1) hx hb dX3_cell_27 (by decide) ?_
  refine lv_iadd hx hb dX3_cell_28 ?_
  cases h
  exact m_iret hC hP hS dX3_cell_29
def f_cell (N : Nat) (j1 : Nat) (σ : MS) (x2 : Int32) (x3 : Int32) (x4 : Int32) : Option (Int32 × MS) :=
    if x4 = 0 then
    if mIn x2 (mLen j1) = true then mlet (σ.2.1 j1 x2.toNatClampNeg) fun y3 =>
    if mIn x3 (mLen 33) = true then mlet (mArr σ 33 x3.toNatClampNeg y3) fun σ5 =>
    f_cell_26 N j1 σ5 x3
    else none
    else none
    else
    if mIn x3 (mLen 33) = true then mlet (σ.2.1 33 x3.toNatClampNeg) fun y7 =>
    if mIn x2 (mLen j1) = true then mlet (mArr σ j1 x2.toNatClampNeg y7) fun σ9 =>
    f_cell_26 N j1 σ9 x3
    else none
    else none
set_option maxHeartbeats 4000000 in
set_option maxRecDepth 100000 in
theorem w_cell_0 {p : Program} {l : Launch} {e : Env} {R : Room} {s : State} {m : MethodId} {args : Array Value} {below : List Frame} {meth : Method} {c : Code} {E : mE} {σ' : MS} {r : Int32} (hC : mC p s m args meth c E cX3_cell 5 (some .int)) (hR : 0 ≤ R.frames ∧ 0 ≤ R.locals) (N : Nat) {j1 : Nat} (hj1 : mInt j1 = true) (σ : MS) (x2 : Int32) (x3 : Int32) (x4 : Int32) (h : f_cell N j1 σ x2 x3 x4 = some (r, σ')) {H : Heap} {locs : List Loc} (hP : mP E σ H) (hS : va_S (mA E s.heap.size) s.heap H locs) {ls : Array Slot} (hl : lv_has ls 5 [(0, .ref (mh E)), (1, .ref (mad E j1)), (2, .int x2), (3, .int x3), (4, .int x4)]) : W p l e R s m args below meth c H locs 0 0 (MQ below (mQi E s.heap.size r σ') args s 0 0 (mA E s.heap.size)) (F0 m 0 ls []) := by
  obtain ⟨⟨hx, hb, hml, hown, hts⟩, hK, hD, hr, hlk⟩ := id hC
  unfold f_cell at h
  refine lv_iload hx hb dX3_cell_0 (lv_at hl 4 rfl) ?_
  refine lv_if_eq (tgt := 17) hx hb dX3_cell_2 (by decide) (fun c1 => ?_) (fun c1 => ?_)
  · have h := mif_t c1 h
    refine lv_aload_n hx hb dX3_cell_17 rfl (lv_at hl 0 rfl) ?_
    refine m_geta hC hP 33 (by decide) rfl q1926 dX3_cell_18 ?_
    refine lv_iload_n hx hb dX3_cell_21 rfl (lv_at hl 3 rfl) ?_
    refine lv_aload_n hx hb dX3_cell_22 rfl (lv_at hl 1 rfl) ?_
    refine lv_iload_n hx hb dX3_cell_23 rfl (lv_at hl 2 rfl) ?_
    obtain ⟨c2, h⟩ := mif_n h
    refine m_ald hC hP j1 hj1 c2 dX3_cell_24 ?_
    refine lv_topi (fun y3 ey3 => ?_)
    have h := mlet_at ey3 h
    obtain ⟨c4, h⟩ := mif_n h
    refine m_ast hC hP hS 33 rfl c4 dX3_cell_25 (fun H locs hP hS => ?_)
    obtain ⟨σ5, eσ5⟩ : ∃ z : MS, z = mArr σ 33 x3.toNatClampNeg y3 := ⟨_, rfl⟩
    rw [← eσ5] at hP
    have h := mlet_at eσ5 h
    exact w_cell_26 hC hR N hj1 σ5 x3 h hP hS (lv_sub hl [3] rfl)
  · have h := mif_f c1 h
    refine lv_aload_n hx hb dX3_cell_5 rfl (lv_at hl 1 rfl) ?_
    refine lv_iload_n hx hb dX3_cell_6 rfl (lv_at hl 2 rfl) ?_
    refine lv_aload_n hx hb dX3_cell_7 rfl (lv_at hl 0 rfl) ?_
    refine m_geta hC hP 33 (by decide) rfl q1926 dX3_cell_8 ?_
    refine lv_iload_n hx hb dX3_cell_11 rfl (lv_at hl 3 rfl) ?_
    obtain ⟨c6, h⟩ := mif_n h
    refine m_ald hC hP 33 rfl c6 dX3_cell_12 ?_
    refine lv_topi (fun y7 ey7 => ?_)
    have h := mlet_at ey7 h
    obtain ⟨c8, h⟩ := mif_n h
    refine m_ast hC hP hS j1 hj1 c8 dX3_cell_13 (fun H locs hP hS => ?_)
    obtain ⟨σ9, eσ9⟩ : ∃ z : MS, z = mArr σ j1 x2.toNatClampNeg y7 := ⟨_, rfl⟩
    rw [← eσ9] at hP
    have h := mlet_at eσ9 h
    refine lv_goto (tgt := 26) hx hb dX3_cell_14 (by decide) ?_
    exact w_cell_26 hC hR N hj1 σ9 x3 h hP hS (lv_sub hl [3] rfl)
theorem met_cell (l : Launch) (N : Nat) (E : mE) (sz : Nat) (σ : MS) {j1 : Nat} (hj1 : mInt j1 = true) (x2 : Int32) (x3 : Int32) (x4 : Int32) (r : Int32) (σ' : MS) (h : f_cell N j1 σ x2 x3 x4 = some (r, σ')) : Met l yX3_cell (ws_ yX3_cell cX3_cell 5 (some .int)) ({ frames := 0, cells := 0, slots := 0, locals := 0 }) (mPc E sz σ [.ref (mh E), .ref (mad E j1), .int x2, .int x3, .int x4]) (mQi E sz r σ') 0 0 (mA E sz) :=
  m_met (Qc := fun z => mQi E z r σ') (by decide) rfl (Nat.le_of_ble_eq_true rfl) (fun hC ls hl hP => w_cell_0 hC ⟨Nat.le_refl _, Nat.le_refl _⟩ N hj1 σ x2 x3 x4 h hP va_S.rf hl)
def f_store_349 (N : Nat) (σ : MS) : Option (MS) :=
    some σ
set_option maxHeartbeats 4000000 in
set_option maxRecDepth 100000 in
theorem w_store_349 {p : Program} {l : Launch} {e : Env} {R : Room} {s : State} {m : MethodId} {args : Array Value} {below : List Frame} {meth : Method} {c : Code} {E : mE} {σ' : MS} (hC : mC p s m args meth c E cX3_store 4 none) (hR : 1 ≤ R.frames ∧ 24 ≤ R.locals) (N : Nat) (σ : MS) (h : f_store_349 N σ = some σ') {H : Heap} {locs : List Loc} (hP : mP E σ H) (hS : va_S (mA E s.heap.size) s.heap H locs) {ls : Array Slot} (hl : lv_has ls 4 []) : W p l e R s m args below meth c H locs 0 0 (MQ below (mQv E s.heap.size σ') args s 0 0 (mA E s.heap.size)) (F0 m 349 ls []) := by
  obtain ⟨⟨hx, hb, hml, hown, hts⟩, hK, hD, hr, hlk⟩ := id hC
  unfold f_store_349 at h
  cases h
  exact m_vret hC hP hS dX3_store_349
def f_store_128 (N : Nat) : Nat → MS → Int32 → Int32 → Int32 → Option (MS)
  | 0, _, _, _, _ => none
  | n + 1, σ, x1, x2, x3 =>
    if 6 ≤ x3 then
    if x1 = 0 then
    if mIn x2 (mLen 33) = true then mlet (mArr σ 33 x2.toNatClampNeg (σ.1 22)) fun σ4 =>
    if mIn (x2 + 1) (mLen 33) = true then mlet (mArr σ4 33 (x2 + 1).toNatClampNeg (σ4.1 23)) fun σ6 =>
    if mIn (x2 + 2) (mLen 33) = true then mlet (mArr σ6 33 (x2 + 2).toNatClampNeg (σ6.1 24)) fun σ8 =>
    if mIn (x2 + 3) (mLen 33) = true then mlet (mArr σ8 33 (x2 + 3).toNatClampNeg (σ8.1 25)) fun σ10 =>
    if mIn (x2 + 4) (mLen 33) = true then mlet (mArr σ10 33 (x2 + 4).toNatClampNeg (σ10.1 26)) fun σ12 =>
    if mIn (x2 + 5) (mLen 33) = true then mlet (mArr σ12 33 (x2 + 5).toNatClampNeg (σ12.1 27)) fun σ14 =>
    if mIn (x2 + 6) (mLen 33) = true then mlet (mArr σ14 33 (x2 + 6).toNatClampNeg (σ14.1 28)) fun σ16 =>
    f_store_349 N σ16
    else none
    else none
    else none
    else none
    else none
    else none
    else none
    else
    if mIn x2 (mLen 33) = true then mlet (σ.2.1 33 x2.toNatClampNeg) fun y18 =>
    mlet (mSet σ 22 y18) fun σ19 =>
    if mIn (x2 + 1) (mLen 33) = true then mlet (σ19.2.1 33 (x2 + 1).toNatClampNeg) fun y21 =>
    mlet (mSet σ19 23 y21) fun σ22 =>
    if mIn (x2 + 2) (mLen 33) = true then mlet (σ22.2.1 33 (x2 + 2).toNatClampNeg) fun y24 =>
    mlet (mSet σ22 24 y24) fun σ25 =>
    if mIn (x2 + 3) (mLen 33) = true then mlet (σ25.2.1 33 (x2 + 3).toNatClampNeg) fun y27 =>
    mlet (mSet σ25 25 y27) fun σ28 =>
    if mIn (x2 + 4) (mLen 33) = true then mlet (σ28.2.1 33 (x2 + 4).toNatClampNeg) fun y30 =>
    mlet (mSet σ28 26 y30) fun σ31 =>
    if mIn (x2 + 5) (mLen 33) = true then mlet (σ31.2.1 33 (x2 + 5).toNatClampNeg) fun y33 =>
    mlet (mSet σ31 27 y33) fun σ34 =>
    if mIn (x2 + 6) (mLen 33) = true then mlet (σ34.2.1 33 (x2 + 6).toNatClampNeg) fun y36 =>
    mlet (mSet σ34 28 y36) fun σ37 =>
    f_store_349 N σ37
    else none
    else none
    else none
    else none
    else none
    else none
    else none
    else
    mcall (f_cell N 30 σ x3 x2 x1) fun r40 σ38 =>
    mcall (f_cell N 31 σ38 x3 r40 x1) fun r43 σ41 =>
    mcall (f_cell N 32 σ41 x3 r43 x1) fun r46 σ44 =>
    mlet (x3 + 1) fun y47 =>
    f_store_128 N n σ44 x1 r46 y47
set_option maxHeartbeats 4000000 in
set_option maxRecDepth 100000 in
theorem w_store_128 {p : Program} {l : Launch} {e : Env} {R : Room} {s : State} {m : MethodId} {args : Array Value} {below : List Frame} {meth : Method} {c : Code} {E : mE} {σ' : MS} (hC : mC p s m args meth c E cX3_store 4 none) (hR : 1 ≤ R.frames ∧ 24 ≤ R.locals) (N : Nat) : ∀ (n : Nat) (σ : MS) (x1 : Int32) (x2 : Int32) (x3 : Int32), f_store_128 N n σ x1 x2 x3 = some σ' → ∀ (H : Heap) (locs : List Loc), mP E σ H → va_S (mA E s.heap.size) s.heap H locs → ∀ ls : Array Slot, lv_has ls 4 [(0, .ref (mh E)), (1, .int x1), (2, .int x2), (3, .int x3)] → W p l e R s m args below meth c H locs 0 0 (MQ below (mQv E s.heap.size σ') args s 0 0 (mA E s.heap.size)) (F0 m 128 ls []) := by
  obtain ⟨⟨hx, hb, hml, hown, hts⟩, hK, hD, hr, hlk⟩ := id hC
  intro n
  induction n with
  | zero =>
    intro σ x1 x2 x3 h
    cases h
  | succ n ih =>
    intro σ x1 x2 x3 h H locs hP hS ls hl
    unfold f_store_128 at h
    refine lv_iload_n hx hb dX3_store_128 rfl (lv_at hl 3 rfl) ?_
    refine lv_bipush (v := 6) hx hb dX3_store_129 (by decide) ?_
    refine lv_icmp_ge (tgt := 176) hx hb dX3_store_131 (by decide) (fun c1 => ?_) (fun c1 => ?_)
    · have h := mif_t c1 h
      refine lv_iload_n hx hb dX3_store_176 rfl (lv_at hl 1 rfl) ?_
      refine lv_if_eq (tgt := 266) hx hb dX3_store_177 (by decide) (fun c2 => ?_) (fun c2 => ?_)
      · have h := mif_t c2 h
        refine lv_aload_n hx hb dX3_store_266 rfl (lv_at hl 0 rfl) ?_
        refine m_geta hC hP 33 (by decide) rfl q1926 dX3_store_267 ?_
        refine lv_iload_n hx hb dX3_store_270 rfl (lv_at hl 2 rfl) ?_
        refine lv_aload_n hx hb dX3_store_271 rfl (lv_at hl 0 rfl) ?_
        refine m_geti hC hP 22 (by decide) rfl q1915 dX3_store_272 ?_
        obtain ⟨c3, h⟩ := mif_n h
        refine m_ast hC hP hS 33 rfl c3 dX3_store_275 (fun H locs hP hS => ?_)
        obtain ⟨σ4, eσ4⟩ : ∃ z : MS, z = mArr σ 33 x2.toNatClampNeg (σ.1 22) := ⟨_, rfl⟩
        rw [← eσ4] at hP
        have h := mlet_at eσ4 h
        refine lv_aload_n hx hb dX3_store_276 rfl (lv_at hl 0 rfl) ?_
        refine m_geta hC hP 33 (by decide) rfl q1926 dX3_store_277 ?_
        refine lv_iload_n hx hb dX3_store_280 rfl (lv_at hl 2 rfl) ?_
        refine lv_iconst (v := 1) hx hb dX3_store_281 (by decide) ?_
        refine lv_iadd hx hb dX3_store_282 ?_
        refine lv_aload_n hx hb dX3_store_283 rfl (lv_at hl 0 rfl) ?_
        refine m_geti hC hP 23 (by decide) rfl q1916 dX3_store_284 ?_
        obtain ⟨c5, h⟩ := mif_n h
        refine m_ast hC hP hS 33 rfl c5 dX3_store_287 (fun H locs hP hS => ?_)
        obtain ⟨σ6, eσ6⟩ : ∃ z : MS, z = mArr σ4 33 (x2 + 1).toNatClampNeg (σ4.1 23) := ⟨_, rfl⟩
        rw [← eσ6] at hP
        have h := mlet_at eσ6 h
        refine lv_aload_n hx hb dX3_store_288 rfl (lv_at hl 0 rfl) ?_
        refine m_geta hC hP 33 (by decide) rfl q1926 dX3_store_289 ?_
        refine lv_iload_n hx hb dX3_store_292 rfl (lv_at hl 2 rfl) ?_
        refine lv_iconst (v := 2) hx hb dX3_store_293 (by decide) ?_
        refine lv_iadd hx hb dX3_store_294 ?_
        refine lv_aload_n hx hb dX3_store_295 rfl (lv_at hl 0 rfl) ?_
        refine m_geti hC hP 24 (by decide) rfl q1917 dX3_store_296 ?_
        obtain ⟨c7, h⟩ := mif_n h
        refine m_ast hC hP hS 33 rfl c7 dX3_store_299 (fun H locs hP hS => ?_)
        obtain ⟨σ8, eσ8⟩ : ∃ z : MS, z = mArr σ6 33 (x2 + 2).toNatClampNeg (σ6.1 24) := ⟨_, rfl⟩
        rw [← eσ8] at hP
        have h := mlet_at eσ8 h
        refine lv_aload_n hx hb dX3_store_300 rfl (lv_at hl 0 rfl) ?_
        refine m_geta hC hP 33 (by decide) rfl q1926 dX3_store_301 ?_
        refine lv_iload_n hx hb dX3_store_304 rfl (lv_at hl 2 rfl) ?_
        refine lv_iconst (v := 3) hx hb dX3_store_305 (by decide) ?_
        refine lv_iadd hx hb dX3_store_306 ?_
        refine lv_aload_n hx hb dX3_store_307 rfl (lv_at hl 0 rfl) ?_
        refine m_geti hC hP 25 (by decide) rfl q1918 dX3_store_308 ?_
        obtain ⟨c9, h⟩ := mif_n h
        refine m_ast hC hP hS 33 rfl c9 dX3_store_311 (fun H locs hP hS => ?_)
        obtain ⟨σ10, eσ10⟩ : ∃ z : MS, z = mArr σ8 33 (x2 + 3).toNatClampNeg (σ8.1 25) := ⟨_, rfl⟩
        rw [← eσ10] at hP
        have h := mlet_at eσ10 h
        refine lv_aload_n hx hb dX3_store_312 rfl (lv_at hl 0 rfl) ?_
        refine m_geta hC hP 33 (by decide) rfl q1926 dX3_store_313 ?_
        refine lv_iload_n hx hb dX3_store_316 rfl (lv_at hl 2 rfl) ?_
        refine lv_iconst (v := 4) hx hb dX3_store_317 (by decide) ?_
        refine lv_iadd hx hb dX3_store_318 ?_
        refine lv_aload_n hx hb dX3_store_319 rfl (lv_at hl 0 rfl) ?_
        refine m_geti hC hP 26 (by decide) rfl q1919 dX3_store_320 ?_
        obtain ⟨c11, h⟩ := mif_n h
        refine m_ast hC hP hS 33 rfl c11 dX3_store_323 (fun H locs hP hS => ?_)
        obtain ⟨σ12, eσ12⟩ : ∃ z : MS, z = mArr σ10 33 (x2 + 4).toNatClampNeg (σ10.1 26) := ⟨_, rfl⟩
        rw [← eσ12] at hP
        have h := mlet_at eσ12 h
        refine lv_aload_n hx hb dX3_store_324 rfl (lv_at hl 0 rfl) ?_
        refine m_geta hC hP 33 (by decide) rfl q1926 dX3_store_325 ?_
        refine lv_iload_n hx hb dX3_store_328 rfl (lv_at hl 2 rfl) ?_
        refine lv_iconst (v := 5) hx hb dX3_store_329 (by decide) ?_
        refine lv_iadd hx hb dX3_store_330 ?_
        refine lv_aload_n hx hb dX3_store_331 rfl (lv_at hl 0 rfl) ?_
        refine m_geti hC hP 27 (by decide) rfl q1920 dX3_store_332 ?_
        obtain ⟨c13, h⟩ := mif_n h
        refine m_ast hC hP hS 33 rfl c13 dX3_store_335 (fun H locs hP hS => ?_)
        obtain ⟨σ14, eσ14⟩ : ∃ z : MS, z = mArr σ12 33 (x2 + 5).toNatClampNeg (σ12.1 27) := ⟨_, rfl⟩
        rw [← eσ14] at hP
        have h := mlet_at eσ14 h
        refine lv_aload_n hx hb dX3_store_336 rfl (lv_at hl 0 rfl) ?_
        refine m_geta hC hP 33 (by decide) rfl q1926 dX3_store_337 ?_
        refine lv_iload_n hx hb dX3_store_340 rfl (lv_at hl 2 rfl) ?_
        refine lv_bipush (v := 6) hx hb dX3_store_341 (by decide) ?_
        refine lv_iadd hx hb dX3_store_343 ?_
        refine lv_aload_n hx hb dX3_store_344 rfl (lv_at hl 0 rfl) ?_
        refine m_geti hC hP 28 (by decide) rfl q1921 dX3_store_345 ?_
        obtain ⟨c15, h⟩ := mif_n h
        refine m_ast hC hP hS 33 rfl c15 dX3_store_348 (fun H locs hP hS => ?_)
        obtain ⟨σ16, eσ16⟩ : ∃ z : MS, z = mArr σ14 33 (x2 + 6).toNatClampNeg (σ14.1 28) := ⟨_, rfl⟩
        rw [← eσ16] at hP
        have h := mlet_at eσ16 h
        exact w_store_349 hC hR N σ16 h hP hS (lv_sub hl [] rfl)
      · have h := mif_f c2 h
        refine lv_aload_n hx hb dX3_store_180 rfl (lv_at hl 0 rfl) ?_
        refine lv_aload_n hx hb dX3_store_181 rfl (lv_at hl 0 rfl) ?_
        refine m_geta hC hP 33 (by decide) rfl q1926 dX3_store_182 ?_
        refine lv_iload_n hx hb dX3_store_185 rfl (lv_at hl 2 rfl) ?_
        obtain ⟨c17, h⟩ := mif_n h
        refine m_ald hC hP 33 rfl c17 dX3_store_186 ?_
        refine lv_topi (fun y18 ey18 => ?_)
        have h := mlet_at ey18 h
        refine m_put hC hP hS 22 (by decide) rfl q1915 rfl (ty := .int) (tyX3_ok 22 (by decide)) ⟨rfl, rfl⟩ dX3_store_187 (fun H locs hP hS => ?_)
        obtain ⟨σ19, eσ19⟩ : ∃ z : MS, z = mSet σ 22 y18 := ⟨_, rfl⟩
        rw [← eσ19] at hP
        have h := mlet_at eσ19 h
        refine lv_aload_n hx hb dX3_store_190 rfl (lv_at hl 0 rfl) ?_
        refine lv_aload_n hx hb dX3_store_191 rfl (lv_at hl 0 rfl) ?_
        refine m_geta hC hP 33 (by decide) rfl q1926 dX3_store_192 ?_
        refine lv_iload_n hx hb dX3_store_195 rfl (lv_at hl 2 rfl) ?_
        refine lv_iconst (v := 1) hx hb dX3_store_196 (by decide) ?_
        refine lv_iadd hx hb dX3_store_197 ?_
        obtain ⟨c20, h⟩ := mif_n h
        refine m_ald hC hP 33 rfl c20 dX3_store_198 ?_
        refine lv_topi (fun y21 ey21 => ?_)
        have h := mlet_at ey21 h
        refine m_put hC hP hS 23 (by decide) rfl q1916 rfl (ty := .int) (tyX3_ok 23 (by decide)) ⟨rfl, rfl⟩ dX3_store_199 (fun H locs hP hS => ?_)
        obtain ⟨σ22, eσ22⟩ : ∃ z : MS, z = mSet σ19 23 y21 := ⟨_, rfl⟩
        rw [← eσ22] at hP
        have h := mlet_at eσ22 h
        refine lv_aload_n hx hb dX3_store_202 rfl (lv_at hl 0 rfl) ?_
        refine lv_aload_n hx hb dX3_store_203 rfl (lv_at hl 0 rfl) ?_
        refine m_geta hC hP 33 (by decide) rfl q1926 dX3_store_204 ?_
        refine lv_iload_n hx hb dX3_store_207 rfl (lv_at hl 2 rfl) ?_
        refine lv_iconst (v := 2) hx hb dX3_store_208 (by decide) ?_
        refine lv_iadd hx hb dX3_store_209 ?_
        obtain ⟨c23, h⟩ := mif_n h
        refine m_ald hC hP 33 rfl c23 dX3_store_210 ?_
        refine lv_topi (fun y24 ey24 => ?_)
        have h := mlet_at ey24 h
        refine m_put hC hP hS 24 (by decide) rfl q1917 rfl (ty := .int) (tyX3_ok 24 (by decide)) ⟨rfl, rfl⟩ dX3_store_211 (fun H locs hP hS => ?_)
        obtain ⟨σ25, eσ25⟩ : ∃ z : MS, z = mSet σ22 24 y24 := ⟨_, rfl⟩
        rw [← eσ25] at hP
        have h := mlet_at eσ25 h
        refine lv_aload_n hx hb dX3_store_214 rfl (lv_at hl 0 rfl) ?_
        refine lv_aload_n hx hb dX3_store_215 rfl (lv_at hl 0 rfl) ?_
        refine m_geta hC hP 33 (by decide) rfl q1926 dX3_store_216 ?_
        refine lv_iload_n hx hb dX3_store_219 rfl (lv_at hl 2 rfl) ?_
        refine lv_iconst (v := 3) hx hb dX3_store_220 (by decide) ?_
        refine lv_iadd hx hb dX3_store_221 ?_
        obtain ⟨c26, h⟩ := mif_n h
        refine m_ald hC hP 33 rfl c26 dX3_store_222 ?_
        refine lv_topi (fun y27 ey27 => ?_)
        have h := mlet_at ey27 h
        refine m_put hC hP hS 25 (by decide) rfl q1918 rfl (ty := .int) (tyX3_ok 25 (by decide)) ⟨rfl, rfl⟩ dX3_store_223 (fun H locs hP hS => ?_)
        obtain ⟨σ28, eσ28⟩ : ∃ z : MS, z = mSet σ25 25 y27 := ⟨_, rfl⟩
        rw [← eσ28] at hP
        have h := mlet_at eσ28 h
        refine lv_aload_n hx hb dX3_store_226 rfl (lv_at hl 0 rfl) ?_
        refine lv_aload_n hx hb dX3_store_227 rfl (lv_at hl 0 rfl) ?_
        refine m_geta hC hP 33 (by decide) rfl q1926 dX3_store_228 ?_
        refine lv_iload_n hx hb dX3_store_231 rfl (lv_at hl 2 rfl) ?_
        refine lv_iconst (v := 4) hx hb dX3_store_232 (by decide) ?_
        refine lv_iadd hx hb dX3_store_233 ?_
        obtain ⟨c29, h⟩ := mif_n h
        refine m_ald hC hP 33 rfl c29 dX3_store_234 ?_
        refine lv_topi (fun y30 ey30 => ?_)
        have h := mlet_at ey30 h
        refine m_put hC hP hS 26 (by decide) rfl q1919 rfl (ty := .int) (tyX3_ok 26 (by decide)) ⟨rfl, rfl⟩ dX3_store_235 (fun H locs hP hS => ?_)
        obtain ⟨σ31, eσ31⟩ : ∃ z : MS, z = mSet σ28 26 y30 := ⟨_, rfl⟩
        rw [← eσ31] at hP
        have h := mlet_at eσ31 h
        refine lv_aload_n hx hb dX3_store_238 rfl (lv_at hl 0 rfl) ?_
        refine lv_aload_n hx hb dX3_store_239 rfl (lv_at hl 0 rfl) ?_
        refine m_geta hC hP 33 (by decide) rfl q1926 dX3_store_240 ?_
        refine lv_iload_n hx hb dX3_store_243 rfl (lv_at hl 2 rfl) ?_
        refine lv_iconst (v := 5) hx hb dX3_store_244 (by decide) ?_
        refine lv_iadd hx hb dX3_store_245 ?_
        obtain ⟨c32, h⟩ := mif_n h
        refine m_ald hC hP 33 rfl c32 dX3_store_246 ?_
        refine lv_topi (fun y33 ey33 => ?_)
        have h := mlet_at ey33 h
        refine m_put hC hP hS 27 (by decide) rfl q1920 rfl (ty := .int) (tyX3_ok 27 (by decide)) ⟨rfl, rfl⟩ dX3_store_247 (fun H locs hP hS => ?_)
        obtain ⟨σ34, eσ34⟩ : ∃ z : MS, z = mSet σ31 27 y33 := ⟨_, rfl⟩
        rw [← eσ34] at hP
        have h := mlet_at eσ34 h
        refine lv_aload_n hx hb dX3_store_250 rfl (lv_at hl 0 rfl) ?_
        refine lv_aload_n hx hb dX3_store_251 rfl (lv_at hl 0 rfl) ?_
        refine m_geta hC hP 33 (by decide) rfl q1926 dX3_store_252 ?_
        refine lv_iload_n hx hb dX3_store_255 rfl (lv_at hl 2 rfl) ?_
        refine lv_bipush (v := 6) hx hb dX3_store_256 (by decide) ?_
        refine lv_iadd hx hb dX3_store_258 ?_
        obtain ⟨c35, h⟩ := mif_n h
        refine m_ald hC hP 33 rfl c35 dX3_store_259 ?_
        refine lv_topi (fun y36 ey36 => ?_)
        have h := mlet_at ey36 h
        refine m_put hC hP hS 28 (by decide) rfl q1921 rfl (ty := .int) (tyX3_ok 28 (by decide)) ⟨rfl, rfl⟩ dX3_store_260 (fun H locs hP hS => ?_)
        obtain ⟨σ37, eσ37⟩ : ∃ z : MS, z = mSet σ34 28 y36 := ⟨_, rfl⟩
        rw [← eσ37] at hP
        have h := mlet_at eσ37 h
        refine lv_goto (tgt := 349) hx hb dX3_store_263 (by decide) ?_
        exact w_store_349 hC hR N σ37 h hP hS (lv_sub hl [] rfl)
    · have h := mif_f c1 h
      refine lv_aload_n hx hb dX3_store_134 rfl (lv_at hl 0 rfl) ?_
      refine lv_aload_n hx hb dX3_store_135 rfl (lv_at hl 0 rfl) ?_
      refine m_geta hC hP 30 (by decide) rfl q1923 dX3_store_136 ?_
      refine lv_iload_n hx hb dX3_store_139 rfl (lv_at hl 3 rfl) ?_
      refine lv_iload_n hx hb dX3_store_140 rfl (lv_at hl 2 rfl) ?_
      refine lv_iload_n hx hb dX3_store_141 rfl (lv_at hl 1 rfl) ?_
      obtain ⟨r40, σ38, c39, h⟩ := mcall_n h
      refine m_calli (As := [.ref (mad E 30), .int x3, .int x2, .int x1]) (rest := []) hC (met_cell l N E H.size σ (rfl : mInt 30 = true) x3 x2 x1 r40 σ38 c39) (cwV 4 hts (lw_V q2146 q2148 qs43 q103 q2149) rfl rfl rfl (by decide +kernel) ⟨Nat.le_trans (Nat.le_of_ble_eq_true rfl) hR.1, Nat.le_trans (Nat.le_of_ble_eq_true rfl) hR.2⟩) hP hS rfl hl.1 rfl (Nat.le_of_ble_eq_true rfl) dX3_store_142 (fun H locs hP hS => ?_)
      refine lv_istore_n (lv' := [(2, .int r40), (0, .ref (mh E)), (1, .int x1), (3, .int x3)]) hx hb dX3_store_145 rfl hl (by decide) rfl (fun ls hl => ?_)
      refine lv_aload_n hx hb dX3_store_146 rfl (lv_at hl 1 rfl) ?_
      refine lv_aload_n hx hb dX3_store_147 rfl (lv_at hl 1 rfl) ?_
      refine m_geta hC hP 31 (by decide) rfl q1924 dX3_store_148 ?_
      refine lv_iload_n hx hb dX3_store_151 rfl (lv_at hl 3 rfl) ?_
      refine lv_iload_n hx hb dX3_store_152 rfl (lv_at hl 0 rfl) ?_
      refine lv_iload_n hx hb dX3_store_153 rfl (lv_at hl 2 rfl) ?_
      obtain ⟨r43, σ41, c42, h⟩ := mcall_n h
      refine m_calli (As := [.ref (mad E 31), .int x3, .int r40, .int x1]) (rest := []) hC (met_cell l N E H.size σ38 (rfl : mInt 31 = true) x3 r40 x1 r43 σ41 c42) (cwV 4 hts (lw_V q2146 q2148 qs43 q103 q2149) rfl rfl rfl (by decide +kernel) ⟨Nat.le_trans (Nat.le_of_ble_eq_true rfl) hR.1, Nat.le_trans (Nat.le_of_ble_eq_true rfl) hR.2⟩) hP hS rfl hl.1 rfl (Nat.le_of_ble_eq_true rfl) dX3_store_154 (fun H locs hP hS => ?_)
      refine lv_istore_n (lv' := [(2, .int r43), (0, .ref (mh E)), (1, .int x1), (3, .int x3)]) hx hb dX3_store_157 rfl hl (by decide) rfl (fun ls hl => ?_)
      refine lv_aload_n hx hb dX3_store_158 rfl (lv_at hl 1 rfl) ?_
      refine lv_aload_n hx hb dX3_store_159 rfl (lv_at hl 1 rfl) ?_
      refine m_geta hC hP 32 (by decide) rfl q1925 dX3_store_160 ?_
      refine lv_iload_n hx hb dX3_store_163 rfl (lv_at hl 3 rfl) ?_
      refine lv_iload_n hx hb dX3_store_164 rfl (lv_at hl 0 rfl) ?_
      refine lv_iload_n hx hb dX3_store_165 rfl (lv_at hl 2 rfl) ?_
      obtain ⟨r46, σ44, c45, h⟩ := mcall_n h
      refine m_calli (As := [.ref (mad E 32), .int x3, .int r43, .int x1]) (rest := []) hC (met_cell l N E H.size σ41 (rfl : mInt 32 = true) x3 r43 x1 r46 σ44 c45) (cwV 4 hts (lw_V q2146 q2148 qs43 q103 q2149) rfl rfl rfl (by decide +kernel) ⟨Nat.le_trans (Nat.le_of_ble_eq_true rfl) hR.1, Nat.le_trans (Nat.le_of_ble_eq_true rfl) hR.2⟩) hP hS rfl hl.1 rfl (Nat.le_of_ble_eq_true rfl) dX3_store_166 (fun H locs hP hS => ?_)
      refine lv_istore_n (lv' := [(2, .int r46), (0, .ref (mh E)), (1, .int x1), (3, .int x3)]) hx hb dX3_store_169 rfl hl (by decide) rfl (fun ls hl => ?_)
      obtain ⟨y47, ey47⟩ : ∃ z : Int32, z = x3 + 1 := ⟨_, rfl⟩
      have h := mlet_at ey47 h
      refine lv_iinc (v := y47) (lv' := [(3, .int y47), (2, .int r46), (0, .ref (mh E)), (1, .int x1)]) hx hb dX3_store_170 hl (k := 3) rfl (by rw [ey47]; rfl) (by decide) rfl (fun ls hl => ?_)
      refine lv_goto (tgt := 128) hx hb dX3_store_173 (by decide) ?_
      exact ih σ44 x1 r46 y47 h _ _ hP hS _ (lv_sub hl [2, 3, 1, 0] rfl)
def f_store_66 (N : Nat) : Nat → MS → Int32 → Int32 → Int32 → Option (MS)
  | 0, _, _, _, _ => none
  | n + 1, σ, x1, x2, x3 =>
    if 8 ≤ x3 then
    f_store_128 N N σ x1 x2 0
    else
    mcall (f_cell N 15 σ x3 x2 x1) fun r4 σ2 =>
    mcall (f_cell N 17 σ2 x3 r4 x1) fun r7 σ5 =>
    mcall (f_cell N 18 σ5 x3 r7 x1) fun r10 σ8 =>
    mcall (f_cell N 19 σ8 x3 r10 x1) fun r13 σ11 =>
    mlet (x3 + 1) fun y14 =>
    f_store_66 N n σ11 x1 r13 y14
set_option maxHeartbeats 4000000 in
set_option maxRecDepth 100000 in
theorem w_store_66 {p : Program} {l : Launch} {e : Env} {R : Room} {s : State} {m : MethodId} {args : Array Value} {below : List Frame} {meth : Method} {c : Code} {E : mE} {σ' : MS} (hC : mC p s m args meth c E cX3_store 4 none) (hR : 1 ≤ R.frames ∧ 24 ≤ R.locals) (N : Nat) : ∀ (n : Nat) (σ : MS) (x1 : Int32) (x2 : Int32) (x3 : Int32), f_store_66 N n σ x1 x2 x3 = some σ' → ∀ (H : Heap) (locs : List Loc), mP E σ H → va_S (mA E s.heap.size) s.heap H locs → ∀ ls : Array Slot, lv_has ls 4 [(0, .ref (mh E)), (1, .int x1), (2, .int x2), (3, .int x3)] → W p l e R s m args below meth c H locs 0 0 (MQ below (mQv E s.heap.size σ') args s 0 0 (mA E s.heap.size)) (F0 m 66 ls []) := by
  obtain ⟨⟨hx, hb, hml, hown, hts⟩, hK, hD, hr, hlk⟩ := id hC
  intro n
  induction n with
  | zero =>
    intro σ x1 x2 x3 h
    cases h
  | succ n ih =>
    intro σ x1 x2 x3 h H locs hP hS ls hl
    unfold f_store_66 at h
    refine lv_iload_n hx hb dX3_store_66 rfl (lv_at hl 3 rfl) ?_
    refine lv_bipush (v := 8) hx hb dX3_store_67 (by decide) ?_
    refine lv_icmp_ge (tgt := 126) hx hb dX3_store_69 (by decide) (fun c1 => ?_) (fun c1 => ?_)
    · have h := mif_t c1 h
      refine lv_iconst (v := 0) hx hb dX3_store_126 (by decide) ?_
      refine lv_istore_n (lv' := [(3, .int 0), (0, .ref (mh E)), (1, .int x1), (2, .int x2)]) hx hb dX3_store_127 rfl hl (by decide) rfl (fun ls hl => ?_)
      exact w_store_128 hC hR N N σ x1 x2 0 h _ _ hP hS _ (lv_sub hl [1, 2, 3, 0] rfl)
    · have h := mif_f c1 h
      refine lv_aload_n hx hb dX3_store_72 rfl (lv_at hl 0 rfl) ?_
      refine lv_aload_n hx hb dX3_store_73 rfl (lv_at hl 0 rfl) ?_
      refine m_geta hC hP 15 (by decide) rfl q1908 dX3_store_74 ?_
      refine lv_iload_n hx hb dX3_store_77 rfl (lv_at hl 3 rfl) ?_
      refine lv_iload_n hx hb dX3_store_78 rfl (lv_at hl 2 rfl) ?_
      refine lv_iload_n hx hb dX3_store_79 rfl (lv_at hl 1 rfl) ?_
      obtain ⟨r4, σ2, c3, h⟩ := mcall_n h
      refine m_calli (As := [.ref (mad E 15), .int x3, .int x2, .int x1]) (rest := []) hC (met_cell l N E H.size σ (rfl : mInt 15 = true) x3 x2 x1 r4 σ2 c3) (cwV 4 hts (lw_V q2146 q2148 qs43 q103 q2149) rfl rfl rfl (by decide +kernel) ⟨Nat.le_trans (Nat.le_of_ble_eq_true rfl) hR.1, Nat.le_trans (Nat.le_of_ble_eq_true rfl) hR.2⟩) hP hS rfl hl.1 rfl (Nat.le_of_ble_eq_true rfl) dX3_store_80 (fun H locs hP hS => ?_)
      refine lv_istore_n (lv' := [(2, .int r4), (0, .ref (mh E)), (1, .int x1), (3, .int x3)]) hx hb dX3_store_83 rfl hl (by decide) rfl (fun ls hl => ?_)
      refine lv_aload_n hx hb dX3_store_84 rfl (lv_at hl 1 rfl) ?_
      refine lv_aload_n hx hb dX3_store_85 rfl (lv_at hl 1 rfl) ?_
      refine m_geta hC hP 17 (by decide) rfl q1910 dX3_store_86 ?_
      refine lv_iload_n hx hb dX3_store_89 rfl (lv_at hl 3 rfl) ?_
      refine lv_iload_n hx hb dX3_store_90 rfl (lv_at hl 0 rfl) ?_
      refine lv_iload_n hx hb dX3_store_91 rfl (lv_at hl 2 rfl) ?_
      obtain ⟨r7, σ5, c6, h⟩ := mcall_n h
      refine m_calli (As := [.ref (mad E 17), .int x3, .int r4, .int x1]) (rest := []) hC (met_cell l N E H.size σ2 (rfl : mInt 17 = true) x3 r4 x1 r7 σ5 c6) (cwV 4 hts (lw_V q2146 q2148 qs43 q103 q2149) rfl rfl rfl (by decide +kernel) ⟨Nat.le_trans (Nat.le_of_ble_eq_true rfl) hR.1, Nat.le_trans (Nat.le_of_ble_eq_true rfl) hR.2⟩) hP hS rfl hl.1 rfl (Nat.le_of_ble_eq_true rfl) dX3_store_92 (fun H locs hP hS => ?_)
      refine lv_istore_n (lv' := [(2, .int r7), (0, .ref (mh E)), (1, .int x1), (3, .int x3)]) hx hb dX3_store_95 rfl hl (by decide) rfl (fun ls hl => ?_)
      refine lv_aload_n hx hb dX3_store_96 rfl (lv_at hl 1 rfl) ?_
      refine lv_aload_n hx hb dX3_store_97 rfl (lv_at hl 1 rfl) ?_
      refine m_geta hC hP 18 (by decide) rfl q1911 dX3_store_98 ?_
      refine lv_iload_n hx hb dX3_store_101 rfl (lv_at hl 3 rfl) ?_
      refine lv_iload_n hx hb dX3_store_102 rfl (lv_at hl 0 rfl) ?_
      refine lv_iload_n hx hb dX3_store_103 rfl (lv_at hl 2 rfl) ?_
      obtain ⟨r10, σ8, c9, h⟩ := mcall_n h
      refine m_calli (As := [.ref (mad E 18), .int x3, .int r7, .int x1]) (rest := []) hC (met_cell l N E H.size σ5 (rfl : mInt 18 = true) x3 r7 x1 r10 σ8 c9) (cwV 4 hts (lw_V q2146 q2148 qs43 q103 q2149) rfl rfl rfl (by decide +kernel) ⟨Nat.le_trans (Nat.le_of_ble_eq_true rfl) hR.1, Nat.le_trans (Nat.le_of_ble_eq_true rfl) hR.2⟩) hP hS rfl hl.1 rfl (Nat.le_of_ble_eq_true rfl) dX3_store_104 (fun H locs hP hS => ?_)
      refine lv_istore_n (lv' := [(2, .int r10), (0, .ref (mh E)), (1, .int x1), (3, .int x3)]) hx hb dX3_store_107 rfl hl (by decide) rfl (fun ls hl => ?_)
      refine lv_aload_n hx hb dX3_store_108 rfl (lv_at hl 1 rfl) ?_
      refine lv_aload_n hx hb dX3_store_109 rfl (lv_at hl 1 rfl) ?_
      refine m_geta hC hP 19 (by decide) rfl q1912 dX3_store_110 ?_
      refine lv_iload_n hx hb dX3_store_113 rfl (lv_at hl 3 rfl) ?_
      refine lv_iload_n hx hb dX3_store_114 rfl (lv_at hl 0 rfl) ?_
      refine lv_iload_n hx hb dX3_store_115 rfl (lv_at hl 2 rfl) ?_
      obtain ⟨r13, σ11, c12, h⟩ := mcall_n h
      refine m_calli (As := [.ref (mad E 19), .int x3, .int r10, .int x1]) (rest := []) hC (met_cell l N E H.size σ8 (rfl : mInt 19 = true) x3 r10 x1 r13 σ11 c12) (cwV 4 hts (lw_V q2146 q2148 qs43 q103 q2149) rfl rfl rfl (by decide +kernel) ⟨Nat.le_trans (Nat.le_of_ble_eq_true rfl) hR.1, Nat.le_trans (Nat.le_of_ble_eq_true rfl) hR.2⟩) hP hS rfl hl.1 rfl (Nat.le_of_ble_eq_true rfl) dX3_store_116 (fun H locs hP hS => ?_)
      refine lv_istore_n (lv' := [(2, .int r13), (0, .ref (mh E)), (1, .int x1), (3, .int x3)]) hx hb dX3_store_119 rfl hl (by decide) rfl (fun ls hl => ?_)
      obtain ⟨y14, ey14⟩ : ∃ z : Int32, z = x3 + 1 := ⟨_, rfl⟩
      have h := mlet_at ey14 h
      refine lv_iinc (v := y14) (lv' := [(3, .int y14), (2, .int r13), (0, .ref (mh E)), (1, .int x1)]) hx hb dX3_store_120 hl (k := 3) rfl (by rw [ey14]; rfl) (by decide) rfl (fun ls hl => ?_)
      refine lv_goto (tgt := 66) hx hb dX3_store_123 (by decide) ?_
      exact ih σ11 x1 r13 y14 h _ _ hP hS _ (lv_sub hl [2, 3, 1, 0] rfl)
def f_store_4 (N : Nat) : Nat → MS → Int32 → Int32 → Int32 → Option (MS)
  | 0, _, _, _, _ => none
  | n + 1, σ, x1, x2, x3 =>
    if 64 ≤ x3 then
    f_store_66 N N σ x1 x2 0
    else
    mcall (f_cell N 14 σ x3 x2 x1) fun r4 σ2 =>
    mcall (f_cell N 16 σ2 x3 r4 x1) fun r7 σ5 =>
    mcall (f_cell N 20 σ5 x3 r7 x1) fun r10 σ8 =>
    mcall (f_cell N 21 σ8 x3 r10 x1) fun r13 σ11 =>
    mlet (x3 + 1) fun y14 =>
    f_store_4 N n σ11 x1 r13 y14
set_option maxHeartbeats 4000000 in
set_option maxRecDepth 100000 in
theorem w_store_4 {p : Program} {l : Launch} {e : Env} {R : Room} {s : State} {m : MethodId} {args : Array Value} {below : List Frame} {meth : Method} {c : Code} {E : mE} {σ' : MS} (hC : mC p s m args meth c E cX3_store 4 none) (hR : 1 ≤ R.frames ∧ 24 ≤ R.locals) (N : Nat) : ∀ (n : Nat) (σ : MS) (x1 : Int32) (x2 : Int32) (x3 : Int32), f_store_4 N n σ x1 x2 x3 = some σ' → ∀ (H : Heap) (locs : List Loc), mP E σ H → va_S (mA E s.heap.size) s.heap H locs → ∀ ls : Array Slot, lv_has ls 4 [(0, .ref (mh E)), (1, .int x1), (2, .int x2), (3, .int x3)] → W p l e R s m args below meth c H locs 0 0 (MQ below (mQv E s.heap.size σ') args s 0 0 (mA E s.heap.size)) (F0 m 4 ls []) := by
  obtain ⟨⟨hx, hb, hml, hown, hts⟩, hK, hD, hr, hlk⟩ := id hC
  intro n
  induction n with
  | zero =>
    intro σ x1 x2 x3 h
    cases h
  | succ n ih =>
    intro σ x1 x2 x3 h H locs hP hS ls hl
    unfold f_store_4 at h
    refine lv_iload_n hx hb dX3_store_4 rfl (lv_at hl 3 rfl) ?_
    refine lv_bipush (v := 64) hx hb dX3_store_5 (by decide) ?_
    refine lv_icmp_ge (tgt := 64) hx hb dX3_store_7 (by decide) (fun c1 => ?_) (fun c1 => ?_)
    · have h := mif_t c1 h
      refine lv_iconst (v := 0) hx hb dX3_store_64 (by decide) ?_
      refine lv_istore_n (lv' := [(3, .int 0), (0, .ref (mh E)), (1, .int x1), (2, .int x2)]) hx hb dX3_store_65 rfl hl (by decide) rfl (fun ls hl => ?_)
      exact w_store_66 hC hR N N σ x1 x2 0 h _ _ hP hS _ (lv_sub hl [1, 2, 3, 0] rfl)
    · have h := mif_f c1 h
      refine lv_aload_n hx hb dX3_store_10 rfl (lv_at hl 0 rfl) ?_
      refine lv_aload_n hx hb dX3_store_11 rfl (lv_at hl 0 rfl) ?_
      refine m_geta hC hP 14 (by decide) rfl q1907 dX3_store_12 ?_
      refine lv_iload_n hx hb dX3_store_15 rfl (lv_at hl 3 rfl) ?_
      refine lv_iload_n hx hb dX3_store_16 rfl (lv_at hl 2 rfl) ?_
      refine lv_iload_n hx hb dX3_store_17 rfl (lv_at hl 1 rfl) ?_
      obtain ⟨r4, σ2, c3, h⟩ := mcall_n h
      refine m_calli (As := [.ref (mad E 14), .int x3, .int x2, .int x1]) (rest := []) hC (met_cell l N E H.size σ (rfl : mInt 14 = true) x3 x2 x1 r4 σ2 c3) (cwV 4 hts (lw_V q2146 q2148 qs43 q103 q2149) rfl rfl rfl (by decide +kernel) ⟨Nat.le_trans (Nat.le_of_ble_eq_true rfl) hR.1, Nat.le_trans (Nat.le_of_ble_eq_true rfl) hR.2⟩) hP hS rfl hl.1 rfl (Nat.le_of_ble_eq_true rfl) dX3_store_18 (fun H locs hP hS => ?_)
      refine lv_istore_n (lv' := [(2, .int r4), (0, .ref (mh E)), (1, .int x1), (3, .int x3)]) hx hb dX3_store_21 rfl hl (by decide) rfl (fun ls hl => ?_)
      refine lv_aload_n hx hb dX3_store_22 rfl (lv_at hl 1 rfl) ?_
      refine lv_aload_n hx hb dX3_store_23 rfl (lv_at hl 1 rfl) ?_
      refine m_geta hC hP 16 (by decide) rfl q1909 dX3_store_24 ?_
      refine lv_iload_n hx hb dX3_store_27 rfl (lv_at hl 3 rfl) ?_
      refine lv_iload_n hx hb dX3_store_28 rfl (lv_at hl 0 rfl) ?_
      refine lv_iload_n hx hb dX3_store_29 rfl (lv_at hl 2 rfl) ?_
      obtain ⟨r7, σ5, c6, h⟩ := mcall_n h
      refine m_calli (As := [.ref (mad E 16), .int x3, .int r4, .int x1]) (rest := []) hC (met_cell l N E H.size σ2 (rfl : mInt 16 = true) x3 r4 x1 r7 σ5 c6) (cwV 4 hts (lw_V q2146 q2148 qs43 q103 q2149) rfl rfl rfl (by decide +kernel) ⟨Nat.le_trans (Nat.le_of_ble_eq_true rfl) hR.1, Nat.le_trans (Nat.le_of_ble_eq_true rfl) hR.2⟩) hP hS rfl hl.1 rfl (Nat.le_of_ble_eq_true rfl) dX3_store_30 (fun H locs hP hS => ?_)
      refine lv_istore_n (lv' := [(2, .int r7), (0, .ref (mh E)), (1, .int x1), (3, .int x3)]) hx hb dX3_store_33 rfl hl (by decide) rfl (fun ls hl => ?_)
      refine lv_aload_n hx hb dX3_store_34 rfl (lv_at hl 1 rfl) ?_
      refine lv_aload_n hx hb dX3_store_35 rfl (lv_at hl 1 rfl) ?_
      refine m_geta hC hP 20 (by decide) rfl q1913 dX3_store_36 ?_
      refine lv_iload_n hx hb dX3_store_39 rfl (lv_at hl 3 rfl) ?_
      refine lv_iload_n hx hb dX3_store_40 rfl (lv_at hl 0 rfl) ?_
      refine lv_iload_n hx hb dX3_store_41 rfl (lv_at hl 2 rfl) ?_
      obtain ⟨r10, σ8, c9, h⟩ := mcall_n h
      refine m_calli (As := [.ref (mad E 20), .int x3, .int r7, .int x1]) (rest := []) hC (met_cell l N E H.size σ5 (rfl : mInt 20 = true) x3 r7 x1 r10 σ8 c9) (cwV 4 hts (lw_V q2146 q2148 qs43 q103 q2149) rfl rfl rfl (by decide +kernel) ⟨Nat.le_trans (Nat.le_of_ble_eq_true rfl) hR.1, Nat.le_trans (Nat.le_of_ble_eq_true rfl) hR.2⟩) hP hS rfl hl.1 rfl (Nat.le_of_ble_eq_true rfl) dX3_store_42 (fun H locs hP hS => ?_)
      refine lv_istore_n (lv' := [(2, .int r10), (0, .ref (mh E)), (1, .int x1), (3, .int x3)]) hx hb dX3_store_45 rfl hl (by decide) rfl (fun ls hl => ?_)
      refine lv_aload_n hx hb dX3_store_46 rfl (lv_at hl 1 rfl) ?_
      refine lv_aload_n hx hb dX3_store_47 rfl (lv_at hl 1 rfl) ?_
      refine m_geta hC hP 21 (by decide) rfl q1914 dX3_store_48 ?_
      refine lv_iload_n hx hb dX3_store_51 rfl (lv_at hl 3 rfl) ?_
      refine lv_iload_n hx hb dX3_store_52 rfl (lv_at hl 0 rfl) ?_
      refine lv_iload_n hx hb dX3_store_53 rfl (lv_at hl 2 rfl) ?_
      obtain ⟨r13, σ11, c12, h⟩ := mcall_n h
      refine m_calli (As := [.ref (mad E 21), .int x3, .int r10, .int x1]) (rest := []) hC (met_cell l N E H.size σ8 (rfl : mInt 21 = true) x3 r10 x1 r13 σ11 c12) (cwV 4 hts (lw_V q2146 q2148 qs43 q103 q2149) rfl rfl rfl (by decide +kernel) ⟨Nat.le_trans (Nat.le_of_ble_eq_true rfl) hR.1, Nat.le_trans (Nat.le_of_ble_eq_true rfl) hR.2⟩) hP hS rfl hl.1 rfl (Nat.le_of_ble_eq_true rfl) dX3_store_54 (fun H locs hP hS => ?_)
      refine lv_istore_n (lv' := [(2, .int r13), (0, .ref (mh E)), (1, .int x1), (3, .int x3)]) hx hb dX3_store_57 rfl hl (by decide) rfl (fun ls hl => ?_)
      obtain ⟨y14, ey14⟩ : ∃ z : Int32, z = x3 + 1 := ⟨_, rfl⟩
      have h := mlet_at ey14 h
      refine lv_iinc (v := y14) (lv' := [(3, .int y14), (2, .int r13), (0, .ref (mh E)), (1, .int x1)]) hx hb dX3_store_58 hl (k := 3) rfl (by rw [ey14]; rfl) (by decide) rfl (fun ls hl => ?_)
      refine lv_goto (tgt := 4) hx hb dX3_store_61 (by decide) ?_
      exact ih σ11 x1 r13 y14 h _ _ hP hS _ (lv_sub hl [2, 3, 1, 0] rfl)
def f_store (N : Nat) (σ : MS) (x1 : Int32) : Option (MS) :=
    f_store_4 N N σ x1 0 0
set_option maxHeartbeats 4000000 in
set_option maxRecDepth 100000 in
theorem w_store_0 {p : Program} {l : Launch} {e : Env} {R : Room} {s : State} {m : MethodId} {args : Array Value} {below : List Frame} {meth : Method} {c : Code} {E : mE} {σ' : MS} (hC : mC p s m args meth c E cX3_store 4 none) (hR : 1 ≤ R.frames ∧ 24 ≤ R.locals) (N : Nat) (σ : MS) (x1 : Int32) (h : f_store N σ x1 = some σ') {H : Heap} {locs : List Loc} (hP : mP E σ H) (hS : va_S (mA E s.heap.size) s.heap H locs) {ls : Array Slot} (hl : lv_has ls 4 [(0, .ref (mh E)), (1, .int x1)]) : W p l e R s m args below meth c H locs 0 0 (MQ below (mQv E s.heap.size σ') args s 0 0 (mA E s.heap.size)) (F0 m 0 ls []) := by
  obtain ⟨⟨hx, hb, hml, hown, hts⟩, hK, hD, hr, hlk⟩ := id hC
  unfold f_store at h
  refine lv_iconst (v := 0) hx hb dX3_store_0 (by decide) ?_
  refine lv_istore_n (lv' := [(2, .int 0), (0, .ref (mh E)), (1, .int x1)]) hx hb dX3_store_1 rfl hl (by decide) rfl (fun ls hl => ?_)
  refine lv_iconst (v := 0) hx hb dX3_store_2 (by decide) ?_
  refine lv_istore_n (lv' := [(3, .int 0), (2, .int 0), (0, .ref (mh E)), (1, .int x1)]) hx hb dX3_store_3 rfl hl (by decide) rfl (fun ls hl => ?_)
  exact w_store_4 hC hR N N σ x1 0 0 h _ _ hP hS _ (lv_sub hl [2, 3, 1, 0] rfl)
theorem met_store (l : Launch) (N : Nat) (E : mE) (sz : Nat) (σ : MS) (x1 : Int32) (σ' : MS) (h : f_store N σ x1 = some σ') : Met l yX3_store (ws_ yX3_store cX3_store 4 none) ({ frames := 1, cells := 0, slots := 0, locals := 24 }) (mPc E sz σ [.ref (mh E), .int x1]) (mQv E sz σ') 0 0 (mA E sz) :=
  m_met (Qc := fun z => mQv E z σ') (by decide) rfl (Nat.le_of_ble_eq_true rfl) (fun hC ls hl hP => w_store_0 hC ⟨Nat.le_refl _, Nat.le_refl _⟩ N σ x1 h hP va_S.rf hl)
def f_next_265 (N : Nat) (σ : MS) : Option (MS) :=
    some σ
set_option maxHeartbeats 4000000 in
set_option maxRecDepth 100000 in
theorem w_next_265 {p : Program} {l : Launch} {e : Env} {R : Room} {s : State} {m : MethodId} {args : Array Value} {below : List Frame} {meth : Method} {c : Code} {E : mE} {σ' : MS} (hC : mC p s m args meth c E cX3_next 4 none) (hR : 1 ≤ R.frames ∧ 21 ≤ R.locals) (N : Nat) (σ : MS) (h : f_next_265 N σ = some σ') {H : Heap} {locs : List Loc} (hP : mP E σ H) (hS : va_S (mA E s.heap.size) s.heap H locs) {ls : Array Slot} (hl : lv_has ls 4 []) : W p l e R s m args below meth c H locs 0 0 (MQ below (mQv E s.heap.size σ') args s 0 0 (mA E s.heap.size)) (F0 m 265 ls []) := by
  obtain ⟨⟨hx, hb, hml, hown, hts⟩, hK, hD, hr, hlk⟩ := id hC
  unfold f_next_265 at h
  cases h
  exact m_vret hC hP hS dX3_next_265
def f_next_262 (N : Nat) (σ : MS) (s0 : Int32) : Option (MS) :=
    mlet (mSet σ 6 s0) fun σ1 =>
    f_next_265 N σ1
set_option maxHeartbeats 4000000 in
set_option maxRecDepth 100000 in
theorem w_next_262 {p : Program} {l : Launch} {e : Env} {R : Room} {s : State} {m : MethodId} {args : Array Value} {below : List Frame} {meth : Method} {c : Code} {E : mE} {σ' : MS} (hC : mC p s m args meth c E cX3_next 4 none) (hR : 1 ≤ R.frames ∧ 21 ≤ R.locals) (N : Nat) (σ : MS) (s0 : Int32) (h : f_next_262 N σ s0 = some σ') {H : Heap} {locs : List Loc} (hP : mP E σ H) (hS : va_S (mA E s.heap.size) s.heap H locs) {ls : Array Slot} (hl : lv_has ls 4 []) : W p l e R s m args below meth c H locs 0 0 (MQ below (mQv E s.heap.size σ') args s 0 0 (mA E s.heap.size)) (F0 m 262 ls [.int s0, .ref (mh E)]) := by
  obtain ⟨⟨hx, hb, hml, hown, hts⟩, hK, hD, hr, hlk⟩ := id hC
  unfold f_next_262 at h
  refine m_put hC hP hS 6 (by decide) rfl q1899 rfl (ty := .int) (tyX3_ok 6 (by decide)) ⟨rfl, rfl⟩ dX3_next_262 (fun H locs hP hS => ?_)
  obtain ⟨σ1, eσ1⟩ : ∃ z : MS, z = mSet σ 6 s0 := ⟨_, rfl⟩
  rw [← eσ1] at hP
  have h := mlet_at eσ1 h
  exact w_next_265 hC hR N σ1 h hP hS (lv_sub hl [] rfl)
def f_next_257 (N : Nat) (σ : MS) (x2 : Int32) : Option (MS) :=
    f_next_262 N σ x2
set_option maxHeartbeats 4000000 in
set_option maxRecDepth 100000 in
theorem w_next_257 {p : Program} {l : Launch} {e : Env} {R : Room} {s : State} {m : MethodId} {args : Array Value} {below : List Frame} {meth : Method} {c : Code} {E : mE} {σ' : MS} (hC : mC p s m args meth c E cX3_next 4 none) (hR : 1 ≤ R.frames ∧ 21 ≤ R.locals) (N : Nat) (σ : MS) (x2 : Int32) (h : f_next_257 N σ x2 = some σ') {H : Heap} {locs : List Loc} (hP : mP E σ H) (hS : va_S (mA E s.heap.size) s.heap H locs) {ls : Array Slot} (hl : lv_has ls 4 [(2, .int x2)]) : W p l e R s m args below meth c H locs 0 0 (MQ below (mQv E s.heap.size σ') args s 0 0 (mA E s.heap.size)) (F0 m 257 ls [.ref (mh E)]) := by
  obtain ⟨⟨hx, hb, hml, hown, hts⟩, hK, hD, hr, hlk⟩ := id hC
  unfold f_next_257 at h
  refine lv_iload_n hx hb dX3_next_257 rfl (lv_at hl 0 rfl) ?_
  refine lv_goto (tgt := 262) hx hb dX3_next_258 (by decide) ?_
  exact w_next_262 hC hR N σ x2 h hP hS (lv_sub hl [] rfl)
def f_next_213 (N : Nat) (σ : MS) (s0 : Int32) : Option (MS) :=
    mlet (mSet σ 6 s0) fun σ1 =>
    f_next_265 N σ1
set_option maxHeartbeats 4000000 in
set_option maxRecDepth 100000 in
theorem w_next_213 {p : Program} {l : Launch} {e : Env} {R : Room} {s : State} {m : MethodId} {args : Array Value} {below : List Frame} {meth : Method} {c : Code} {E : mE} {σ' : MS} (hC : mC p s m args meth c E cX3_next 4 none) (hR : 1 ≤ R.frames ∧ 21 ≤ R.locals) (N : Nat) (σ : MS) (s0 : Int32) (h : f_next_213 N σ s0 = some σ') {H : Heap} {locs : List Loc} (hP : mP E σ H) (hS : va_S (mA E s.heap.size) s.heap H locs) {ls : Array Slot} (hl : lv_has ls 4 []) : W p l e R s m args below meth c H locs 0 0 (MQ below (mQv E s.heap.size σ') args s 0 0 (mA E s.heap.size)) (F0 m 213 ls [.int s0, .ref (mh E)]) := by
  obtain ⟨⟨hx, hb, hml, hown, hts⟩, hK, hD, hr, hlk⟩ := id hC
  unfold f_next_213 at h
  refine m_put hC hP hS 6 (by decide) rfl q1899 rfl (ty := .int) (tyX3_ok 6 (by decide)) ⟨rfl, rfl⟩ dX3_next_213 (fun H locs hP hS => ?_)
  obtain ⟨σ1, eσ1⟩ : ∃ z : MS, z = mSet σ 6 s0 := ⟨_, rfl⟩
  rw [← eσ1] at hP
  have h := mlet_at eσ1 h
  refine lv_goto (tgt := 265) hx hb dX3_next_216 (by decide) ?_
  exact w_next_265 hC hR N σ1 h hP hS (lv_sub hl [] rfl)
def f_next_188 (N : Nat) (k152 : MS → Int32 → Int32 → Option (MS)) (σ : MS) (x1 : Int32) (x3 : Int32) : Option (MS) :=
    mlet (x3 + 1) fun y1 =>
    mlet (x1 + 1) fun y2 =>
    k152 σ y2 y1
set_option maxHeartbeats 4000000 in
set_option maxRecDepth 100000 in
theorem w_next_188 {p : Program} {l : Launch} {e : Env} {R : Room} {s : State} {m : MethodId} {args : Array Value} {below : List Frame} {meth : Method} {c : Code} {E : mE} {σ' : MS} (hC : mC p s m args meth c E cX3_next 4 none) (hR : 1 ≤ R.frames ∧ 21 ≤ R.locals) (N : Nat) (k152 : MS → Int32 → Int32 → Option (MS)) (hk152 : ∀ (σ : MS) (x1 : Int32) (x3 : Int32), k152 σ x1 x3 = some σ' → ∀ (H : Heap) (locs : List Loc), mP E σ H → va_S (mA E s.heap.size) s.heap H locs → ∀ ls : Array Slot, lv_has ls 4 [(0, .ref (mh E)), (1, .int x1), (3, .int x3)] → W p l e R s m args below meth c H locs 0 0 (MQ below (mQv E s.heap.size σ') args s 0 0 (mA E s.heap.size)) (F0 m 152 ls [])) (σ : MS) (x1 : Int32) (x3 : Int32) (h : f_next_188 N k152 σ x1 x3 = some σ') {H : Heap} {locs : List Loc} (hP : mP E σ H) (hS : va_S (mA E s.heap.size) s.heap H locs) {ls : Array Slot} (hl : lv_has ls 4 [(0, .ref (mh E)), (1, .int x1), (3, .int x3)]) : W p l e R s m args below meth c H locs 0 0 (MQ below (mQv E s.heap.size σ') args s 0 0 (mA E s.heap.size)) (F0 m 188 ls []) := by
  obtain ⟨⟨hx, hb, hml, hown, hts⟩, hK, hD, hr, hlk⟩ := id hC
  unfold f_next_188 at h
  obtain ⟨y1, ey1⟩ : ∃ z : Int32, z = x3 + 1 := ⟨_, rfl⟩
  have h := mlet_at ey1 h
  refine lv_iinc (v := y1) (lv' := [(3, .int y1), (0, .ref (mh E)), (1, .int x1)]) hx hb dX3_next_188 hl (k := 2) rfl (by rw [ey1]; rfl) (by decide) rfl (fun ls hl => ?_)
  obtain ⟨y2, ey2⟩ : ∃ z : Int32, z = x1 + 1 := ⟨_, rfl⟩
  have h := mlet_at ey2 h
  refine lv_iinc (v := y2) (lv' := [(1, .int y2), (3, .int y1), (0, .ref (mh E))]) hx hb dX3_next_191 hl (k := 2) rfl (by rw [ey2]; rfl) (by decide) rfl (fun ls hl => ?_)
  refine lv_goto (tgt := 152) hx hb dX3_next_194 (by decide) ?_
  exact hk152 σ y2 y1 h _ _ hP hS _ (lv_sub hl [2, 0, 1] rfl)
def f_next_152 (N : Nat) : Nat → MS → Int32 → Int32 → Option (MS)
  | 0, _, _, _ => none
  | n + 1, σ, x1, x3 =>
    mcall (f_look N σ x1) fun r3 σ1 =>
    mcall (f_isDigit N σ1 r3) fun r6 σ4 =>
    if r6 = 0 then
    mlet (mSet σ4 5 x1) fun σ8 =>
    if x3 ≤ 4 then
    f_next_213 N σ8 3
    else
    f_next_213 N σ8 1
    else
    if 4 ≤ x3 then
    f_next_188 N (f_next_152 N n) σ4 x1 x3
    else
    mcall (f_look N σ4 x1) fun r13 σ11 =>
    mlet (mSet σ11 7 (((10 * (σ4.1 7)) + r13) - 48)) fun σ14 =>
    f_next_188 N (f_next_152 N n) σ14 x1 x3
set_option maxHeartbeats 4000000 in
set_option maxRecDepth 100000 in
theorem w_next_152 {p : Program} {l : Launch} {e : Env} {R : Room} {s : State} {m : MethodId} {args : Array Value} {below : List Frame} {meth : Method} {c : Code} {E : mE} {σ' : MS} (hC : mC p s m args meth c E cX3_next 4 none) (hR : 1 ≤ R.frames ∧ 21 ≤ R.locals) (N : Nat) : ∀ (n : Nat) (σ : MS) (x1 : Int32) (x3 : Int32), f_next_152 N n σ x1 x3 = some σ' → ∀ (H : Heap) (locs : List Loc), mP E σ H → va_S (mA E s.heap.size) s.heap H locs → ∀ ls : Array Slot, lv_has ls 4 [(0, .ref (mh E)), (1, .int x1), (3, .int x3)] → W p l e R s m args below meth c H locs 0 0 (MQ below (mQv E s.heap.size σ') args s 0 0 (mA E s.heap.size)) (F0 m 152 ls []) := by
  obtain ⟨⟨hx, hb, hml, hown, hts⟩, hK, hD, hr, hlk⟩ := id hC
  intro n
  induction n with
  | zero =>
    intro σ x1 x3 h
    cases h
  | succ n ih =>
    intro σ x1 x3 h H locs hP hS ls hl
    unfold f_next_152 at h
    refine lv_aload_n hx hb dX3_next_152 rfl (lv_at hl 0 rfl) ?_
    refine lv_iload_n hx hb dX3_next_153 rfl (lv_at hl 1 rfl) ?_
    obtain ⟨r3, σ1, c2, h⟩ := mcall_n h
    refine m_calli (As := [.int x1]) (rest := []) hC (met_look l N E H.size σ x1 r3 σ1 c2) (cwV 1 hts (lw_V q2158 q2160 qs46 q103 q2161) rfl rfl rfl (by decide +kernel) ⟨Nat.le_trans (Nat.le_of_ble_eq_true rfl) hR.1, Nat.le_trans (Nat.le_of_ble_eq_true rfl) hR.2⟩) hP hS rfl hl.1 rfl (Nat.le_of_ble_eq_true rfl) dX3_next_154 (fun H locs hP hS => ?_)
    obtain ⟨r6, σ4, c5, h⟩ := mcall_n h
    refine m_callsi (As := [.int r3]) (rest := []) hC (met_isDigit l N E H.size σ1 r3 r6 σ4 c5) (va_cwS 1 hts (lw_S q2165 q2166 q103 q2167) rfl rfl rfl (by decide +kernel) ⟨Nat.le_trans (Nat.le_of_ble_eq_true rfl) hR.1, Nat.le_trans (Nat.le_of_ble_eq_true rfl) hR.2⟩) hP hS rfl hl.1 rfl (Nat.le_of_ble_eq_true rfl) dX3_next_157 (fun H locs hP hS => ?_)
    refine lv_if_eq (tgt := 197) hx hb dX3_next_160 (by decide) (fun c7 => ?_) (fun c7 => ?_)
    · have h := mif_t c7 h
      refine lv_aload_n hx hb dX3_next_197 rfl (lv_at hl 0 rfl) ?_
      refine lv_iload_n hx hb dX3_next_198 rfl (lv_at hl 1 rfl) ?_
      refine m_put hC hP hS 5 (by decide) rfl q1898 rfl (ty := .int) (tyX3_ok 5 (by decide)) ⟨rfl, rfl⟩ dX3_next_199 (fun H locs hP hS => ?_)
      obtain ⟨σ8, eσ8⟩ : ∃ z : MS, z = mSet σ4 5 x1 := ⟨_, rfl⟩
      rw [← eσ8] at hP
      have h := mlet_at eσ8 h
      refine lv_aload_n hx hb dX3_next_202 rfl (lv_at hl 0 rfl) ?_
      refine lv_iload_n hx hb dX3_next_203 rfl (lv_at hl 2 rfl) ?_
      refine lv_iconst (v := 4) hx hb dX3_next_204 (by decide) ?_
      refine lv_icmp_le (tgt := 212) hx hb dX3_next_205 (by decide) (fun c9 => ?_) (fun c9 => ?_)
      · have h := mif_t c9 h
        refine lv_iconst (v := 3) hx hb dX3_next_212 (by decide) ?_
        exact w_next_213 hC hR N σ8 3 h hP hS (lv_sub hl [] rfl)
      · have h := mif_f c9 h
        refine lv_iconst (v := 1) hx hb dX3_next_208 (by decide) ?_
        refine lv_goto (tgt := 213) hx hb dX3_next_209 (by decide) ?_
        exact w_next_213 hC hR N σ8 1 h hP hS (lv_sub hl [] rfl)
    · have h := mif_f c7 h
      refine lv_iload_n hx hb dX3_next_163 rfl (lv_at hl 2 rfl) ?_
      refine lv_iconst (v := 4) hx hb dX3_next_164 (by decide) ?_
      refine lv_icmp_ge (tgt := 188) hx hb dX3_next_165 (by decide) (fun c10 => ?_) (fun c10 => ?_)
      · have h := mif_t c10 h
        exact w_next_188 hC hR N (f_next_152 N n) ih σ4 x1 x3 h hP hS (lv_sub hl [0, 1, 2] rfl)
      · have h := mif_f c10 h
        refine lv_aload_n hx hb dX3_next_168 rfl (lv_at hl 0 rfl) ?_
        refine lv_bipush (v := 10) hx hb dX3_next_169 (by decide) ?_
        refine lv_aload_n hx hb dX3_next_171 rfl (lv_at hl 0 rfl) ?_
        refine m_geti hC hP 7 (by decide) rfl q1900 dX3_next_172 ?_
        refine lv_imul hx hb dX3_next_175 ?_
        refine lv_aload_n hx hb dX3_next_176 rfl (lv_at hl 0 rfl) ?_
        refine lv_iload_n hx hb dX3_next_177 rfl (lv_at hl 1 rfl) ?_
        obtain ⟨r13, σ11, c12, h⟩ := mcall_n h
        refine m_calli (As := [.int x1]) (rest := [.int (10 * (σ4.1 7)), .ref (mh E)]) hC (met_look l N E H.size σ4 x1 r13 σ11 c12) (cwV 1 hts (lw_V q2158 q2160 qs46 q103 q2161) rfl rfl rfl (by decide +kernel) ⟨Nat.le_trans (Nat.le_of_ble_eq_true rfl) hR.1, Nat.le_trans (Nat.le_of_ble_eq_true rfl) hR.2⟩) hP hS rfl hl.1 rfl (Nat.le_of_ble_eq_true rfl) dX3_next_178 (fun H locs hP hS => ?_)
        refine lv_iadd hx hb dX3_next_181 ?_
        refine lv_bipush (v := 48) hx hb dX3_next_182 (by decide) ?_
        refine lv_isub hx hb dX3_next_184 ?_
        refine m_put hC hP hS 7 (by decide) rfl q1900 rfl (ty := .int) (tyX3_ok 7 (by decide)) ⟨rfl, rfl⟩ dX3_next_185 (fun H locs hP hS => ?_)
        obtain ⟨σ14, eσ14⟩ : ∃ z : MS, z = mSet σ11 7 (((10 * (σ4.1 7)) + r13) - 48) := ⟨_, rfl⟩
        rw [← eσ14] at hP
        have h := mlet_at eσ14 h
        exact w_next_188 hC hR N (f_next_152 N n) ih σ14 x1 x3 h hP hS (lv_sub hl [0, 1, 2] rfl)
def f_next_137 (N : Nat) (σ : MS) (s0 : Int32) : Option (MS) :=
    mlet (mSet σ 6 s0) fun σ1 =>
    f_next_265 N σ1
set_option maxHeartbeats 4000000 in
set_option maxRecDepth 100000 in
theorem w_next_137 {p : Program} {l : Launch} {e : Env} {R : Room} {s : State} {m : MethodId} {args : Array Value} {below : List Frame} {meth : Method} {c : Code} {E : mE} {σ' : MS} (hC : mC p s m args meth c E cX3_next 4 none) (hR : 1 ≤ R.frames ∧ 21 ≤ R.locals) (N : Nat) (σ : MS) (s0 : Int32) (h : f_next_137 N σ s0 = some σ') {H : Heap} {locs : List Loc} (hP : mP E σ H) (hS : va_S (mA E s.heap.size) s.heap H locs) {ls : Array Slot} (hl : lv_has ls 4 []) : W p l e R s m args below meth c H locs 0 0 (MQ below (mQv E s.heap.size σ') args s 0 0 (mA E s.heap.size)) (F0 m 137 ls [.int s0, .ref (mh E)]) := by
  obtain ⟨⟨hx, hb, hml, hown, hts⟩, hK, hD, hr, hlk⟩ := id hC
  unfold f_next_137 at h
  refine m_put hC hP hS 6 (by decide) rfl q1899 rfl (ty := .int) (tyX3_ok 6 (by decide)) ⟨rfl, rfl⟩ dX3_next_137 (fun H locs hP hS => ?_)
  obtain ⟨σ1, eσ1⟩ : ∃ z : MS, z = mSet σ 6 s0 := ⟨_, rfl⟩
  rw [← eσ1] at hP
  have h := mlet_at eσ1 h
  refine lv_goto (tgt := 265) hx hb dX3_next_140 (by decide) ?_
  exact w_next_265 hC hR N σ1 h hP hS (lv_sub hl [] rfl)
def f_next_101 (N : Nat) (k67 : MS → Int32 → Option (MS)) (σ : MS) (x1 : Int32) : Option (MS) :=
    mlet (mSet σ 8 ((σ.1 8) + 1)) fun σ1 =>
    mlet (x1 + 1) fun y2 =>
    k67 σ1 y2
set_option maxHeartbeats 4000000 in
set_option maxRecDepth 100000 in
theorem w_next_101 {p : Program} {l : Launch} {e : Env} {R : Room} {s : State} {m : MethodId} {args : Array Value} {below : List Frame} {meth : Method} {c : Code} {E : mE} {σ' : MS} (hC : mC p s m args meth c E cX3_next 4 none) (hR : 1 ≤ R.frames ∧ 21 ≤ R.locals) (N : Nat) (k67 : MS → Int32 → Option (MS)) (hk67 : ∀ (σ : MS) (x1 : Int32), k67 σ x1 = some σ' → ∀ (H : Heap) (locs : List Loc), mP E σ H → va_S (mA E s.heap.size) s.heap H locs → ∀ ls : Array Slot, lv_has ls 4 [(0, .ref (mh E)), (1, .int x1)] → W p l e R s m args below meth c H locs 0 0 (MQ below (mQv E s.heap.size σ') args s 0 0 (mA E s.heap.size)) (F0 m 67 ls [])) (σ : MS) (x1 : Int32) (h : f_next_101 N k67 σ x1 = some σ') {H : Heap} {locs : List Loc} (hP : mP E σ H) (hS : va_S (mA E s.heap.size) s.heap H locs) {ls : Array Slot} (hl : lv_has ls 4 [(0, .ref (mh E)), (1, .int x1)]) : W p l e R s m args below meth c H locs 0 0 (MQ below (mQv E s.heap.size σ') args s 0 0 (mA E s.heap.size)) (F0 m 101 ls []) := by
  obtain ⟨⟨hx, hb, hml, hown, hts⟩, hK, hD, hr, hlk⟩ := id hC
  unfold f_next_101 at h
  refine lv_aload_n hx hb dX3_next_101 rfl (lv_at hl 0 rfl) ?_
  refine lv_dup hx hb dX3_next_102 rfl ?_
  refine m_geti hC hP 8 (by decide) rfl q1901 dX3_next_103 ?_
  refine lv_iconst (v := 1) hx hb dX3_next_106 (by decide) ?_
  refine lv_iadd hx hb dX3_next_107 ?_
  refine m_put hC hP hS 8 (by decide) rfl q1901 rfl (ty := .int) (tyX3_ok 8 (by decide)) ⟨rfl, rfl⟩ dX3_next_108 (fun H locs hP hS => ?_)
  obtain ⟨σ1, eσ1⟩ : ∃ z : MS, z = mSet σ 8 ((σ.1 8) + 1) := ⟨_, rfl⟩
  rw [← eσ1] at hP
  have h := mlet_at eσ1 h
  obtain ⟨y2, ey2⟩ : ∃ z : Int32, z = x1 + 1 := ⟨_, rfl⟩
  have h := mlet_at ey2 h
  refine lv_iinc (v := y2) (lv' := [(1, .int y2), (0, .ref (mh E))]) hx hb dX3_next_111 hl (k := 1) rfl (by rw [ey2]; rfl) (by decide) rfl (fun ls hl => ?_)
  refine lv_goto (tgt := 67) hx hb dX3_next_114 (by decide) ?_
  exact hk67 σ1 y2 h _ _ hP hS _ (lv_sub hl [1, 0] rfl)
def f_next_67 (N : Nat) : Nat → MS → Int32 → Option (MS)
  | 0, _, _ => none
  | n + 1, σ, x1 =>
    mcall (f_look N σ x1) fun r3 σ1 =>
    mcall (f_isSmall N σ1 r3) fun r6 σ4 =>
    if r6 = 0 then
    mlet (mSet σ4 5 x1) fun σ8 =>
    if (σ8.1 8) ≤ 8 then
    f_next_137 N σ8 2
    else
    f_next_137 N σ8 1
    else
    if 8 ≤ (σ4.1 8) then
    f_next_101 N (f_next_67 N n) σ4 x1
    else
    mcall (f_look N σ4 x1) fun r13 σ11 =>
    if mIn (σ4.1 8) (mLen 11) = true then mlet (mArr σ11 11 (σ4.1 8).toNatClampNeg r13) fun σ15 =>
    f_next_101 N (f_next_67 N n) σ15 x1
    else none
set_option maxHeartbeats 4000000 in
set_option maxRecDepth 100000 in
theorem w_next_67 {p : Program} {l : Launch} {e : Env} {R : Room} {s : State} {m : MethodId} {args : Array Value} {below : List Frame} {meth : Method} {c : Code} {E : mE} {σ' : MS} (hC : mC p s m args meth c E cX3_next 4 none) (hR : 1 ≤ R.frames ∧ 21 ≤ R.locals) (N : Nat) : ∀ (n : Nat) (σ : MS) (x1 : Int32), f_next_67 N n σ x1 = some σ' → ∀ (H : Heap) (locs : List Loc), mP E σ H → va_S (mA E s.heap.size) s.heap H locs → ∀ ls : Array Slot, lv_has ls 4 [(0, .ref (mh E)), (1, .int x1)] → W p l e R s m args below meth c H locs 0 0 (MQ below (mQv E s.heap.size σ') args s 0 0 (mA E s.heap.size)) (F0 m 67 ls []) := by
  obtain ⟨⟨hx, hb, hml, hown, hts⟩, hK, hD, hr, hlk⟩ := id hC
  intro n
  induction n with
  | zero =>
    intro σ x1 h
    cases h
  | succ n ih =>
    intro σ x1 h H locs hP hS ls hl
    unfold f_next_67 at h
    refine lv_aload_n hx hb dX3_next_67 rfl (lv_at hl 0 rfl) ?_
    refine lv_iload_n hx hb dX3_next_68 rfl (lv_at hl 1 rfl) ?_
    obtain ⟨r3, σ1, c2, h⟩ := mcall_n h
    refine m_calli (As := [.int x1]) (rest := []) hC (met_look l N E H.size σ x1 r3 σ1 c2) (cwV 1 hts (lw_V q2158 q2160 qs46 q103 q2161) rfl rfl rfl (by decide +kernel) ⟨Nat.le_trans (Nat.le_of_ble_eq_true rfl) hR.1, Nat.le_trans (Nat.le_of_ble_eq_true rfl) hR.2⟩) hP hS rfl hl.1 rfl (Nat.le_of_ble_eq_true rfl) dX3_next_69 (fun H locs hP hS => ?_)
    obtain ⟨r6, σ4, c5, h⟩ := mcall_n h
    refine m_callsi (As := [.int r3]) (rest := []) hC (met_isSmall l N E H.size σ1 r3 r6 σ4 c5) (va_cwS 1 hts (lw_S q2162 q2163 q103 q2164) rfl rfl rfl (by decide +kernel) ⟨Nat.le_trans (Nat.le_of_ble_eq_true rfl) hR.1, Nat.le_trans (Nat.le_of_ble_eq_true rfl) hR.2⟩) hP hS rfl hl.1 rfl (Nat.le_of_ble_eq_true rfl) dX3_next_72 (fun H locs hP hS => ?_)
    refine lv_if_eq (tgt := 117) hx hb dX3_next_75 (by decide) (fun c7 => ?_) (fun c7 => ?_)
    · have h := mif_t c7 h
      refine lv_aload_n hx hb dX3_next_117 rfl (lv_at hl 0 rfl) ?_
      refine lv_iload_n hx hb dX3_next_118 rfl (lv_at hl 1 rfl) ?_
      refine m_put hC hP hS 5 (by decide) rfl q1898 rfl (ty := .int) (tyX3_ok 5 (by decide)) ⟨rfl, rfl⟩ dX3_next_119 (fun H locs hP hS => ?_)
      obtain ⟨σ8, eσ8⟩ : ∃ z : MS, z = mSet σ4 5 x1 := ⟨_, rfl⟩
      rw [← eσ8] at hP
      have h := mlet_at eσ8 h
      refine lv_aload_n hx hb dX3_next_122 rfl (lv_at hl 0 rfl) ?_
      refine lv_aload_n hx hb dX3_next_123 rfl (lv_at hl 0 rfl) ?_
      refine m_geti hC hP 8 (by decide) rfl q1901 dX3_next_124 ?_
      refine lv_bipush (v := 8) hx hb dX3_next_127 (by decide) ?_
      refine lv_icmp_le (tgt := 136) hx hb dX3_next_129 (by decide) (fun c9 => ?_) (fun c9 => ?_)
      · have h := mif_t c9 h
        refine lv_iconst (v := 2) hx hb dX3_next_136 (by decide) ?_
        exact w_next_137 hC hR N σ8 2 h hP hS (lv_sub hl [] rfl)
      · have h := mif_f c9 h
        refine lv_iconst (v := 1) hx hb dX3_next_132 (by decide) ?_
        refine lv_goto (tgt := 137) hx hb dX3_next_133 (by decide) ?_
        exact w_next_137 hC hR N σ8 1 h hP hS (lv_sub hl [] rfl)
    · have h := mif_f c7 h
      refine lv_aload_n hx hb dX3_next_78 rfl (lv_at hl 0 rfl) ?_
      refine m_geti hC hP 8 (by decide) rfl q1901 dX3_next_79 ?_
      refine lv_bipush (v := 8) hx hb dX3_next_82 (by decide) ?_
      refine lv_icmp_ge (tgt := 101) hx hb dX3_next_84 (by decide) (fun c10 => ?_) (fun c10 => ?_)
      · have h := mif_t c10 h
        exact w_next_101 hC hR N (f_next_67 N n) ih σ4 x1 h hP hS (lv_sub hl [0, 1] rfl)
      · have h := mif_f c10 h
        refine lv_aload_n hx hb dX3_next_87 rfl (lv_at hl 0 rfl) ?_
        refine m_geta hC hP 11 (by decide) rfl q1904 dX3_next_88 ?_
        refine lv_aload_n hx hb dX3_next_91 rfl (lv_at hl 0 rfl) ?_
        refine m_geti hC hP 8 (by decide) rfl q1901 dX3_next_92 ?_
        refine lv_aload_n hx hb dX3_next_95 rfl (lv_at hl 0 rfl) ?_
        refine lv_iload_n hx hb dX3_next_96 rfl (lv_at hl 1 rfl) ?_
        obtain ⟨r13, σ11, c12, h⟩ := mcall_n h
        refine m_calli (As := [.int x1]) (rest := [.int (σ4.1 8), .ref (mad E 11)]) hC (met_look l N E H.size σ4 x1 r13 σ11 c12) (cwV 1 hts (lw_V q2158 q2160 qs46 q103 q2161) rfl rfl rfl (by decide +kernel) ⟨Nat.le_trans (Nat.le_of_ble_eq_true rfl) hR.1, Nat.le_trans (Nat.le_of_ble_eq_true rfl) hR.2⟩) hP hS rfl hl.1 rfl (Nat.le_of_ble_eq_true rfl) dX3_next_97 (fun H locs hP hS => ?_)
        obtain ⟨c14, h⟩ := mif_n h
        refine m_ast hC hP hS 11 rfl c14 dX3_next_100 (fun H locs hP hS => ?_)
        obtain ⟨σ15, eσ15⟩ : ∃ z : MS, z = mArr σ11 11 (σ4.1 8).toNatClampNeg r13 := ⟨_, rfl⟩
        rw [← eσ15] at hP
        have h := mlet_at eσ15 h
        exact w_next_101 hC hR N (f_next_67 N n) ih σ15 x1 h hP hS (lv_sub hl [0, 1] rfl)
def f_next_5 (N : Nat) : Nat → MS → Int32 → Option (MS)
  | 0, _, _ => none
  | n + 1, σ, x1 =>
    mcall (f_look N σ x1) fun r3 σ1 =>
    if r3 = 32 then
    mlet (x1 + 1) fun y28 =>
    f_next_5 N n σ1 y28
    else
    mlet (mSet σ1 4 x1) fun σ5 =>
    mcall (f_look N σ5 x1) fun r8 σ6 =>
    mlet (mSet σ6 8 0) fun σ9 =>
    mlet (mSet σ9 7 0) fun σ10 =>
    if r8 = (-1) then
    mlet (mSet σ10 6 0) fun σ26 =>
    mlet (mSet σ26 5 x1) fun σ27 =>
    f_next_265 N σ27
    else
    mcall (f_isSmall N σ10 r8) fun r14 σ12 =>
    if r14 = 0 then
    mcall (f_isDigit N σ12 r8) fun r18 σ16 =>
    if r18 = 0 then
    mlet (mSet σ16 5 (x1 + 1)) fun σ20 =>
    if r8 = 59 then
    f_next_257 N σ20 r8
    else
    if r8 = 44 then
    f_next_257 N σ20 r8
    else
    if r8 = 45 then
    f_next_257 N σ20 r8
    else
    if r8 = 40 then
    f_next_257 N σ20 r8
    else
    if r8 = 41 then
    f_next_257 N σ20 r8
    else
    f_next_262 N σ20 1
    else
    f_next_152 N N σ16 x1 0
    else
    f_next_67 N N σ12 x1
set_option maxHeartbeats 4000000 in
set_option maxRecDepth 100000 in
theorem w_next_5 {p : Program} {l : Launch} {e : Env} {R : Room} {s : State} {m : MethodId} {args : Array Value} {below : List Frame} {meth : Method} {c : Code} {E : mE} {σ' : MS} (hC : mC p s m args meth c E cX3_next 4 none) (hR : 1 ≤ R.frames ∧ 21 ≤ R.locals) (N : Nat) : ∀ (n : Nat) (σ : MS) (x1 : Int32), f_next_5 N n σ x1 = some σ' → ∀ (H : Heap) (locs : List Loc), mP E σ H → va_S (mA E s.heap.size) s.heap H locs → ∀ ls : Array Slot, lv_has ls 4 [(0, .ref (mh E)), (1, .int x1)] → W p l e R s m args below meth c H locs 0 0 (MQ below (mQv E s.heap.size σ') args s 0 0 (mA E s.heap.size)) (F0 m 5 ls []) := by
  obtain ⟨⟨hx, hb, hml, hown, hts⟩, hK, hD, hr, hlk⟩ := id hC
  intro n
  induction n with
  | zero =>
    intro σ x1 h
    cases h
  | succ n ih =>
    intro σ x1 h H locs hP hS ls hl
    unfold f_next_5 at h
    refine lv_aload_n hx hb dX3_next_5 rfl (lv_at hl 0 rfl) ?_
    refine lv_iload_n hx hb dX3_next_6 rfl (lv_at hl 1 rfl) ?_
    obtain ⟨r3, σ1, c2, h⟩ := mcall_n h
    refine m_calli (As := [.int x1]) (rest := []) hC (met_look l N E H.size σ x1 r3 σ1 c2) (cwV 1 hts (lw_V q2158 q2160 qs46 q103 q2161) rfl rfl rfl (by decide +kernel) ⟨Nat.le_trans (Nat.le_of_ble_eq_true rfl) hR.1, Nat.le_trans (Nat.le_of_ble_eq_true rfl) hR.2⟩) hP hS rfl hl.1 rfl (Nat.le_of_ble_eq_true rfl) dX3_next_7 (fun H locs hP hS => ?_)
    refine lv_bipush (v := 32) hx hb dX3_next_10 (by decide) ?_
    refine lv_icmp_ne (tgt := 21) hx hb dX3_next_12 (by decide) (fun c4 => ?_) (fun c4 => ?_)
    · have h := mif_f c4 h
      refine lv_aload_n hx hb dX3_next_21 rfl (lv_at hl 0 rfl) ?_
      refine lv_iload_n hx hb dX3_next_22 rfl (lv_at hl 1 rfl) ?_
      refine m_put hC hP hS 4 (by decide) rfl q1897 rfl (ty := .int) (tyX3_ok 4 (by decide)) ⟨rfl, rfl⟩ dX3_next_23 (fun H locs hP hS => ?_)
      obtain ⟨σ5, eσ5⟩ : ∃ z : MS, z = mSet σ1 4 x1 := ⟨_, rfl⟩
      rw [← eσ5] at hP
      have h := mlet_at eσ5 h
      refine lv_aload_n hx hb dX3_next_26 rfl (lv_at hl 0 rfl) ?_
      refine lv_iload_n hx hb dX3_next_27 rfl (lv_at hl 1 rfl) ?_
      obtain ⟨r8, σ6, c7, h⟩ := mcall_n h
      refine m_calli (As := [.int x1]) (rest := []) hC (met_look l N E H.size σ5 x1 r8 σ6 c7) (cwV 1 hts (lw_V q2158 q2160 qs46 q103 q2161) rfl rfl rfl (by decide +kernel) ⟨Nat.le_trans (Nat.le_of_ble_eq_true rfl) hR.1, Nat.le_trans (Nat.le_of_ble_eq_true rfl) hR.2⟩) hP hS rfl hl.1 rfl (Nat.le_of_ble_eq_true rfl) dX3_next_28 (fun H locs hP hS => ?_)
      refine lv_istore_n (lv' := [(2, .int r8), (0, .ref (mh E)), (1, .int x1)]) hx hb dX3_next_31 rfl hl (by decide) rfl (fun ls hl => ?_)
      refine lv_aload_n hx hb dX3_next_32 rfl (lv_at hl 1 rfl) ?_
      refine lv_iconst (v := 0) hx hb dX3_next_33 (by decide) ?_
      refine m_put hC hP hS 8 (by decide) rfl q1901 rfl (ty := .int) (tyX3_ok 8 (by decide)) ⟨rfl, rfl⟩ dX3_next_34 (fun H locs hP hS => ?_)
      obtain ⟨σ9, eσ9⟩ : ∃ z : MS, z = mSet σ6 8 0 := ⟨_, rfl⟩
      rw [← eσ9] at hP
      have h := mlet_at eσ9 h
      refine lv_aload_n hx hb dX3_next_37 rfl (lv_at hl 1 rfl) ?_
      refine lv_iconst (v := 0) hx hb dX3_next_38 (by decide) ?_
      refine m_put hC hP hS 7 (by decide) rfl q1900 rfl (ty := .int) (tyX3_ok 7 (by decide)) ⟨rfl, rfl⟩ dX3_next_39 (fun H locs hP hS => ?_)
      obtain ⟨σ10, eσ10⟩ : ∃ z : MS, z = mSet σ9 7 0 := ⟨_, rfl⟩
      rw [← eσ10] at hP
      have h := mlet_at eσ10 h
      refine lv_iload_n hx hb dX3_next_42 rfl (lv_at hl 0 rfl) ?_
      refine lv_iconst (v := (-1)) hx hb dX3_next_43 (by decide) ?_
      refine lv_icmp_ne (tgt := 60) hx hb dX3_next_44 (by decide) (fun c11 => ?_) (fun c11 => ?_)
      · have h := mif_f c11 h
        refine lv_iload_n hx hb dX3_next_60 rfl (lv_at hl 0 rfl) ?_
        obtain ⟨r14, σ12, c13, h⟩ := mcall_n h
        refine m_callsi (As := [.int r8]) (rest := []) hC (met_isSmall l N E H.size σ10 r8 r14 σ12 c13) (va_cwS 1 hts (lw_S q2162 q2163 q103 q2164) rfl rfl rfl (by decide +kernel) ⟨Nat.le_trans (Nat.le_of_ble_eq_true rfl) hR.1, Nat.le_trans (Nat.le_of_ble_eq_true rfl) hR.2⟩) hP hS rfl hl.1 rfl (Nat.le_of_ble_eq_true rfl) dX3_next_61 (fun H locs hP hS => ?_)
        refine lv_if_eq (tgt := 143) hx hb dX3_next_64 (by decide) (fun c15 => ?_) (fun c15 => ?_)
        · have h := mif_t c15 h
          refine lv_iload_n hx hb dX3_next_143 rfl (lv_at hl 0 rfl) ?_
          obtain ⟨r18, σ16, c17, h⟩ := mcall_n h
          refine m_callsi (As := [.int r8]) (rest := []) hC (met_isDigit l N E H.size σ12 r8 r18 σ16 c17) (va_cwS 1 hts (lw_S q2165 q2166 q103 q2167) rfl rfl rfl (by decide +kernel) ⟨Nat.le_trans (Nat.le_of_ble_eq_true rfl) hR.1, Nat.le_trans (Nat.le_of_ble_eq_true rfl) hR.2⟩) hP hS rfl hl.1 rfl (Nat.le_of_ble_eq_true rfl) dX3_next_144 (fun H locs hP hS => ?_)
          refine lv_if_eq (tgt := 219) hx hb dX3_next_147 (by decide) (fun c19 => ?_) (fun c19 => ?_)
          · have h := mif_t c19 h
            refine lv_aload_n hx hb dX3_next_219 rfl (lv_at hl 1 rfl) ?_
            refine lv_iload_n hx hb dX3_next_220 rfl (lv_at hl 2 rfl) ?_
            refine lv_iconst (v := 1) hx hb dX3_next_221 (by decide) ?_
            refine lv_iadd hx hb dX3_next_222 ?_
            refine m_put hC hP hS 5 (by decide) rfl q1898 rfl (ty := .int) (tyX3_ok 5 (by decide)) ⟨rfl, rfl⟩ dX3_next_223 (fun H locs hP hS => ?_)
            obtain ⟨σ20, eσ20⟩ : ∃ z : MS, z = mSet σ16 5 (x1 + 1) := ⟨_, rfl⟩
            rw [← eσ20] at hP
            have h := mlet_at eσ20 h
            refine lv_aload_n hx hb dX3_next_226 rfl (lv_at hl 1 rfl) ?_
            refine lv_iload_n hx hb dX3_next_227 rfl (lv_at hl 0 rfl) ?_
            refine lv_bipush (v := 59) hx hb dX3_next_228 (by decide) ?_
            refine lv_icmp_eq (tgt := 257) hx hb dX3_next_230 (by decide) (fun c21 => ?_) (fun c21 => ?_)
            · have h := mif_t c21 h
              exact w_next_257 hC hR N σ20 r8 h hP hS (lv_sub hl [0] rfl)
            · have h := mif_f c21 h
              refine lv_iload_n hx hb dX3_next_233 rfl (lv_at hl 0 rfl) ?_
              refine lv_bipush (v := 44) hx hb dX3_next_234 (by decide) ?_
              refine lv_icmp_eq (tgt := 257) hx hb dX3_next_236 (by decide) (fun c22 => ?_) (fun c22 => ?_)
              · have h := mif_t c22 h
                exact w_next_257 hC hR N σ20 r8 h hP hS (lv_sub hl [0] rfl)
              · have h := mif_f c22 h
                refine lv_iload_n hx hb dX3_next_239 rfl (lv_at hl 0 rfl) ?_
                refine lv_bipush (v := 45) hx hb dX3_next_240 (by decide) ?_
                refine lv_icmp_eq (tgt := 257) hx hb dX3_next_242 (by decide) (fun c23 => ?_) (fun c23 => ?_)
                · have h := mif_t c23 h
                  exact w_next_257 hC hR N σ20 r8 h hP hS (lv_sub hl [0] rfl)
                · have h := mif_f c23 h
                  refine lv_iload_n hx hb dX3_next_245 rfl (lv_at hl 0 rfl) ?_
                  refine lv_bipush (v := 40) hx hb dX3_next_246 (by decide) ?_
                  refine lv_icmp_eq (tgt := 257) hx hb dX3_next_248 (by decide) (fun c24 => ?_) (fun c24 => ?_)
                  · have h := mif_t c24 h
                    exact w_next_257 hC hR N σ20 r8 h hP hS (lv_sub hl [0] rfl)
                  · have h := mif_f c24 h
                    refine lv_iload_n hx hb dX3_next_251 rfl (lv_at hl 0 rfl) ?_
                    refine lv_bipush (v := 41) hx hb dX3_next_252 (by decide) ?_
                    refine lv_icmp_ne (tgt := 261) hx hb dX3_next_254 (by decide) (fun c25 => ?_) (fun c25 => ?_)
                    · have h := mif_f c25 h
                      refine lv_iconst (v := 1) hx hb dX3_next_261 (by decide) ?_
                      exact w_next_262 hC hR N σ20 1 h hP hS (lv_sub hl [] rfl)
                    · have h := mif_t c25 h
                      exact w_next_257 hC hR N σ20 r8 h hP hS (lv_sub hl [0] rfl)
          · have h := mif_f c19 h
            refine lv_iconst (v := 0) hx hb dX3_next_150 (by decide) ?_
            refine lv_istore_n (lv' := [(3, .int 0), (2, .int r8), (0, .ref (mh E)), (1, .int x1)]) hx hb dX3_next_151 rfl hl (by decide) rfl (fun ls hl => ?_)
            exact w_next_152 hC hR N N σ16 x1 0 h _ _ hP hS _ (lv_sub hl [2, 3, 0] rfl)
        · have h := mif_f c15 h
          exact w_next_67 hC hR N N σ12 x1 h _ _ hP hS _ (lv_sub hl [1, 2] rfl)
      · have h := mif_t c11 h
        refine lv_aload_n hx hb dX3_next_47 rfl (lv_at hl 1 rfl) ?_
        refine lv_iconst (v := 0) hx hb dX3_next_48 (by decide) ?_
        refine m_put hC hP hS 6 (by decide) rfl q1899 rfl (ty := .int) (tyX3_ok 6 (by decide)) ⟨rfl, rfl⟩ dX3_next_49 (fun H locs hP hS => ?_)
        obtain ⟨σ26, eσ26⟩ : ∃ z : MS, z = mSet σ10 6 0 := ⟨_, rfl⟩
        rw [← eσ26] at hP
        have h := mlet_at eσ26 h
        refine lv_aload_n hx hb dX3_next_52 rfl (lv_at hl 1 rfl) ?_
        refine lv_iload_n hx hb dX3_next_53 rfl (lv_at hl 2 rfl) ?_
        refine m_put hC hP hS 5 (by decide) rfl q1898 rfl (ty := .int) (tyX3_ok 5 (by decide)) ⟨rfl, rfl⟩ dX3_next_54 (fun H locs hP hS => ?_)
        obtain ⟨σ27, eσ27⟩ : ∃ z : MS, z = mSet σ26 5 x1 := ⟨_, rfl⟩
        rw [← eσ27] at hP
        have h := mlet_at eσ27 h
        refine lv_goto (tgt := 265) hx hb dX3_next_57 (by decide) ?_
        exact w_next_265 hC hR N σ27 h hP hS (lv_sub hl [] rfl)
    · have h := mif_t c4 h
      obtain ⟨y28, ey28⟩ : ∃ z : Int32, z = x1 + 1 := ⟨_, rfl⟩
      have h := mlet_at ey28 h
      refine lv_iinc (v := y28) (lv' := [(1, .int y28), (0, .ref (mh E))]) hx hb dX3_next_15 hl (k := 1) rfl (by rw [ey28]; rfl) (by decide) rfl (fun ls hl => ?_)
      refine lv_goto (tgt := 5) hx hb dX3_next_18 (by decide) ?_
      exact ih σ1 y28 h _ _ hP hS _ (lv_sub hl [1, 0] rfl)
def f_next (N : Nat) (σ : MS) : Option (MS) :=
    mlet (σ.1 5) fun y1 =>
    f_next_5 N N σ y1
set_option maxHeartbeats 4000000 in
set_option maxRecDepth 100000 in
theorem w_next_0 {p : Program} {l : Launch} {e : Env} {R : Room} {s : State} {m : MethodId} {args : Array Value} {below : List Frame} {meth : Method} {c : Code} {E : mE} {σ' : MS} (hC : mC p s m args meth c E cX3_next 4 none) (hR : 1 ≤ R.frames ∧ 21 ≤ R.locals) (N : Nat) (σ : MS) (h : f_next N σ = some σ') {H : Heap} {locs : List Loc} (hP : mP E σ H) (hS : va_S (mA E s.heap.size) s.heap H locs) {ls : Array Slot} (hl : lv_has ls 4 [(0, .ref (mh E))]) : W p l e R s m args below meth c H locs 0 0 (MQ below (mQv E s.heap.size σ') args s 0 0 (mA E s.heap.size)) (F0 m 0 ls []) := by
  obtain ⟨⟨hx, hb, hml, hown, hts⟩, hK, hD, hr, hlk⟩ := id hC
  unfold f_next at h
  refine lv_aload_n hx hb dX3_next_0 rfl (lv_at hl 0 rfl) ?_
  refine m_geti hC hP 5 (by decide) rfl q1898 dX3_next_1 ?_
  refine lv_topi (fun y1 ey1 => ?_)
  have h := mlet_at ey1 h
  refine lv_istore_n (lv' := [(1, .int y1), (0, .ref (mh E))]) hx hb dX3_next_4 rfl hl (by decide) rfl (fun ls hl => ?_)
  exact w_next_5 hC hR N N σ y1 h _ _ hP hS _ (lv_sub hl [1, 0] rfl)
theorem met_next (l : Launch) (N : Nat) (E : mE) (sz : Nat) (σ : MS) (σ' : MS) (h : f_next N σ = some σ') : Met l yX3_next (ws_ yX3_next cX3_next 4 none) ({ frames := 1, cells := 0, slots := 0, locals := 21 }) (mPc E sz σ [.ref (mh E)]) (mQv E sz σ') 0 0 (mA E sz) :=
  m_met (Qc := fun z => mQv E z σ') (by decide) rfl (Nat.le_of_ble_eq_true rfl) (fun hC ls hl hP => w_next_0 hC ⟨Nat.le_refl _, Nat.le_refl _⟩ N σ h hP va_S.rf hl)
def f_begins (N : Nat) (σ : MS) (x1 : Int32) : Option (MS) :=
    mlet (mSet σ 3 x1) fun σ1 =>
    mlet (mSet σ1 5 0) fun σ2 =>
    mlet (mSet σ2 13 0) fun σ3 =>
    mcallv (f_next N σ3) fun σ4 =>
    some σ4
set_option maxHeartbeats 4000000 in
set_option maxRecDepth 100000 in
theorem w_begins_0 {p : Program} {l : Launch} {e : Env} {R : Room} {s : State} {m : MethodId} {args : Array Value} {below : List Frame} {meth : Method} {c : Code} {E : mE} {σ' : MS} (hC : mC p s m args meth c E cX3_begins 2 none) (hR : 2 ≤ R.frames ∧ 44 ≤ R.locals) (N : Nat) (σ : MS) (x1 : Int32) (h : f_begins N σ x1 = some σ') {H : Heap} {locs : List Loc} (hP : mP E σ H) (hS : va_S (mA E s.heap.size) s.heap H locs) {ls : Array Slot} (hl : lv_has ls 2 [(0, .ref (mh E)), (1, .int x1)]) : W p l e R s m args below meth c H locs 0 0 (MQ below (mQv E s.heap.size σ') args s 0 0 (mA E s.heap.size)) (F0 m 0 ls []) := by
  obtain ⟨⟨hx, hb, hml, hown, hts⟩, hK, hD, hr, hlk⟩ := id hC
  unfold f_begins at h
  refine lv_aload_n hx hb dX3_begins_0 rfl (lv_at hl 0 rfl) ?_
  refine lv_iload_n hx hb dX3_begins_1 rfl (lv_at hl 1 rfl) ?_
  refine m_put hC hP hS 3 (by decide) rfl q1896 rfl (ty := .int) (tyX3_ok 3 (by decide)) ⟨rfl, rfl⟩ dX3_begins_2 (fun H locs hP hS => ?_)
  obtain ⟨σ1, eσ1⟩ : ∃ z : MS, z = mSet σ 3 x1 := ⟨_, rfl⟩
  rw [← eσ1] at hP
  have h := mlet_at eσ1 h
  refine lv_aload_n hx hb dX3_begins_5 rfl (lv_at hl 0 rfl) ?_
  refine lv_iconst (v := 0) hx hb dX3_begins_6 (by decide) ?_
  refine m_put hC hP hS 5 (by decide) rfl q1898 rfl (ty := .int) (tyX3_ok 5 (by decide)) ⟨rfl, rfl⟩ dX3_begins_7 (fun H locs hP hS => ?_)
  obtain ⟨σ2, eσ2⟩ : ∃ z : MS, z = mSet σ1 5 0 := ⟨_, rfl⟩
  rw [← eσ2] at hP
  have h := mlet_at eσ2 h
  refine lv_aload_n hx hb dX3_begins_10 rfl (lv_at hl 0 rfl) ?_
  refine lv_iconst (v := 0) hx hb dX3_begins_11 (by decide) ?_
  refine m_put hC hP hS 13 (by decide) rfl q1906 rfl (ty := .boolean) (tyX3_ok 13 (by decide)) (mBit_n rfl) dX3_begins_12 (fun H locs hP hS => ?_)
  obtain ⟨σ3, eσ3⟩ : ∃ z : MS, z = mSet σ2 13 0 := ⟨_, rfl⟩
  rw [← eσ3] at hP
  have h := mlet_at eσ3 h
  refine lv_aload_n hx hb dX3_begins_15 rfl (lv_at hl 0 rfl) ?_
  obtain ⟨σ4, c5, h⟩ := mcallv_n h
  refine m_callv (As := []) (rest := []) hC (met_next l N E H.size σ3 σ4 c5) (cwV 0 hts (lw_V q2154 q2156 qs45 q103 q2157) rfl rfl rfl (by decide +kernel) ⟨Nat.le_trans (Nat.le_of_ble_eq_true rfl) hR.1, Nat.le_trans (Nat.le_of_ble_eq_true rfl) hR.2⟩) hP hS rfl hl.1 rfl (Nat.le_of_ble_eq_true rfl) dX3_begins_16 (fun H locs hP hS => ?_)
  cases h
  exact m_vret hC hP hS dX3_begins_19
theorem met_begins (l : Launch) (N : Nat) (E : mE) (sz : Nat) (σ : MS) (x1 : Int32) (σ' : MS) (h : f_begins N σ x1 = some σ') : Met l yX3_begins (ws_ yX3_begins cX3_begins 2 none) ({ frames := 2, cells := 0, slots := 0, locals := 44 }) (mPc E sz σ [.ref (mh E), .int x1]) (mQv E sz σ') 0 0 (mA E sz) :=
  m_met (Qc := fun z => mQv E z σ') (by decide) rfl (Nat.le_of_ble_eq_true rfl) (fun hC ls hl hP => w_begins_0 hC ⟨Nat.le_refl _, Nat.le_refl _⟩ N σ x1 h hP va_S.rf hl)
def f_wrong_22 (N : Nat) (σ : MS) : Option (Int32 × MS) :=
    some (0, σ)
set_option maxHeartbeats 4000000 in
set_option maxRecDepth 100000 in
theorem w_wrong_22 {p : Program} {l : Launch} {e : Env} {R : Room} {s : State} {m : MethodId} {args : Array Value} {below : List Frame} {meth : Method} {c : Code} {E : mE} {σ' : MS} {r : Int32} (hC : mC p s m args meth c E cX3_wrong 3 (some .boolean)) (hR : 0 ≤ R.frames ∧ 0 ≤ R.locals) (N : Nat) (σ : MS) (h : f_wrong_22 N σ = some (r, σ')) {H : Heap} {locs : List Loc} (hP : mP E σ H) (hS : va_S (mA E s.heap.size) s.heap H locs) {ls : Array Slot} (hl : lv_has ls 3 []) : W p l e R s m args below meth c H locs 0 0 (MQ below (mQi E s.heap.size r σ') args s 0 0 (mA E s.heap.size)) (F0 m 22 ls []) := by
  obtain ⟨⟨hx, hb, hml, hown, hts⟩, hK, hD, hr, hlk⟩ := id hC
  unfold f_wrong_22 at h
  refine lv_iconst (v := 0) hx hb dX3_wrong_22 (by decide) ?_
  cases h
  exact m_zret hC rfl hP hS dX3_wrong_23
def f_wrong (N : Nat) (σ : MS) (x1 : Int32) (x2 : Int32) : Option (Int32 × MS) :=
    if (σ.1 13) = 0 then
    mlet (mSet σ 13 1) fun σ2 =>
    mlet (mSet σ2 9 x1) fun σ3 =>
    mlet (mSet σ3 10 x2) fun σ4 =>
    f_wrong_22 N σ4
    else
    f_wrong_22 N σ
set_option maxHeartbeats 4000000 in
set_option maxRecDepth 100000 in
theorem w_wrong_0 {p : Program} {l : Launch} {e : Env} {R : Room} {s : State} {m : MethodId} {args : Array Value} {below : List Frame} {meth : Method} {c : Code} {E : mE} {σ' : MS} {r : Int32} (hC : mC p s m args meth c E cX3_wrong 3 (some .boolean)) (hR : 0 ≤ R.frames ∧ 0 ≤ R.locals) (N : Nat) (σ : MS) (x1 : Int32) (x2 : Int32) (h : f_wrong N σ x1 x2 = some (r, σ')) {H : Heap} {locs : List Loc} (hP : mP E σ H) (hS : va_S (mA E s.heap.size) s.heap H locs) {ls : Array Slot} (hl : lv_has ls 3 [(0, .ref (mh E)), (1, .int x1), (2, .int x2)]) : W p l e R s m args below meth c H locs 0 0 (MQ below (mQi E s.heap.size r σ') args s 0 0 (mA E s.heap.size)) (F0 m 0 ls []) := by
  obtain ⟨⟨hx, hb, hml, hown, hts⟩, hK, hD, hr, hlk⟩ := id hC
  unfold f_wrong at h
  refine lv_aload_n hx hb dX3_wrong_0 rfl (lv_at hl 0 rfl) ?_
  refine m_geti hC hP 13 (by decide) rfl q1906 dX3_wrong_1 ?_
  refine lv_if_ne (tgt := 22) hx hb dX3_wrong_4 (by decide) (fun c1 => ?_) (fun c1 => ?_)
  · have h := mif_f c1 h
    exact w_wrong_22 hC hR N σ h hP hS (lv_sub hl [] rfl)
  · have h := mif_t c1 h
    refine lv_aload_n hx hb dX3_wrong_7 rfl (lv_at hl 0 rfl) ?_
    refine lv_iconst (v := 1) hx hb dX3_wrong_8 (by decide) ?_
    refine m_put hC hP hS 13 (by decide) rfl q1906 rfl (ty := .boolean) (tyX3_ok 13 (by decide)) (mBit_n rfl) dX3_wrong_9 (fun H locs hP hS => ?_)
    obtain ⟨σ2, eσ2⟩ : ∃ z : MS, z = mSet σ 13 1 := ⟨_, rfl⟩
    rw [← eσ2] at hP
    have h := mlet_at eσ2 h
    refine lv_aload_n hx hb dX3_wrong_12 rfl (lv_at hl 0 rfl) ?_
    refine lv_iload_n hx hb dX3_wrong_13 rfl (lv_at hl 1 rfl) ?_
    refine m_put hC hP hS 9 (by decide) rfl q1902 rfl (ty := .int) (tyX3_ok 9 (by decide)) ⟨rfl, rfl⟩ dX3_wrong_14 (fun H locs hP hS => ?_)
    obtain ⟨σ3, eσ3⟩ : ∃ z : MS, z = mSet σ2 9 x1 := ⟨_, rfl⟩
    rw [← eσ3] at hP
    have h := mlet_at eσ3 h
    refine lv_aload_n hx hb dX3_wrong_17 rfl (lv_at hl 0 rfl) ?_
    refine lv_iload_n hx hb dX3_wrong_18 rfl (lv_at hl 2 rfl) ?_
    refine m_put hC hP hS 10 (by decide) rfl q1903 rfl (ty := .int) (tyX3_ok 10 (by decide)) ⟨rfl, rfl⟩ dX3_wrong_19 (fun H locs hP hS => ?_)
    obtain ⟨σ4, eσ4⟩ : ∃ z : MS, z = mSet σ3 10 x2 := ⟨_, rfl⟩
    rw [← eσ4] at hP
    have h := mlet_at eσ4 h
    exact w_wrong_22 hC hR N σ4 h hP hS (lv_sub hl [] rfl)
theorem met_wrong (l : Launch) (N : Nat) (E : mE) (sz : Nat) (σ : MS) (x1 : Int32) (x2 : Int32) (r : Int32) (σ' : MS) (h : f_wrong N σ x1 x2 = some (r, σ')) : Met l yX3_wrong (ws_ yX3_wrong cX3_wrong 3 (some .boolean)) ({ frames := 0, cells := 0, slots := 0, locals := 0 }) (mPc E sz σ [.ref (mh E), .int x1, .int x2]) (mQi E sz r σ') 0 0 (mA E sz) :=
  m_met (Qc := fun z => mQi E z r σ') (by decide) rfl (Nat.le_of_ble_eq_true rfl) (fun hC ls hl hP => w_wrong_0 hC ⟨Nat.le_refl _, Nat.le_refl _⟩ N σ x1 x2 h hP va_S.rf hl)
def f_find_77 (N : Nat) (j1 : Nat) (j2 : Nat) (k3 : MS → Int32 → Int32 → Option (Int32 × MS)) (σ : MS) (x3 : Int32) (x4 : Int32) (x5 : Int32) : Option (Int32 × MS) :=
    if x5 = 0 then
    mlet (x4 + 1) fun y2 =>
    k3 σ x3 y2
    else
    some (x4, σ)
set_option maxHeartbeats 4000000 in
set_option maxRecDepth 100000 in
theorem w_find_77 {p : Program} {l : Launch} {e : Env} {R : Room} {s : State} {m : MethodId} {args : Array Value} {below : List Frame} {meth : Method} {c : Code} {E : mE} {σ' : MS} {r : Int32} (hC : mC p s m args meth c E cX3_find 7 (some .int)) (hR : 0 ≤ R.frames ∧ 0 ≤ R.locals) (N : Nat) {j1 : Nat} (hj1 : mInt j1 = true) {j2 : Nat} (hj2 : mInt j2 = true) (k3 : MS → Int32 → Int32 → Option (Int32 × MS)) (hk3 : ∀ (σ : MS) (x3 : Int32) (x4 : Int32), k3 σ x3 x4 = some (r, σ') → ∀ (H : Heap) (locs : List Loc), mP E σ H → va_S (mA E s.heap.size) s.heap H locs → ∀ ls : Array Slot, lv_has ls 7 [(0, .ref (mh E)), (1, .ref (mad E j1)), (2, .ref (mad E j2)), (3, .int x3), (4, .int x4)] → W p l e R s m args below meth c H locs 0 0 (MQ below (mQi E s.heap.size r σ') args s 0 0 (mA E s.heap.size)) (F0 m 3 ls [])) (σ : MS) (x3 : Int32) (x4 : Int32) (x5 : Int32) (h : f_find_77 N j1 j2 k3 σ x3 x4 x5 = some (r, σ')) {H : Heap} {locs : List Loc} (hP : mP E σ H) (hS : va_S (mA E s.heap.size) s.heap H locs) {ls : Array Slot} (hl : lv_has ls 7 [(0, .ref (mh E)), (1, .ref (mad E j1)), (2, .ref (mad E j2)), (3, .int x3), (4, .int x4), (5, .int x5)]) : W p l e R s m args below meth c H locs 0 0 (MQ below (mQi E s.heap.size r σ') args s 0 0 (mA E s.heap.size)) (F0 m 77 ls []) := by
  obtain ⟨⟨hx, hb, hml, hown, hts⟩, hK, hD, hr, hlk⟩ := id hC
  unfold f_find_77 at h
  refine lv_iload hx hb dX3_find_77 (lv_at hl 5 rfl) ?_
  refine lv_if_eq (tgt := 85) hx hb dX3_find_79 (by decide) (fun c1 => ?_) (fun c1 => ?_)
  · have h := mif_t c1 h
    obtain ⟨y2, ey2⟩ : ∃ z : Int32, z = x4 + 1 := ⟨_, rfl⟩
    have h := mlet_at ey2 h
    refine lv_iinc (v := y2) (lv' := [(4, .int y2), (0, .ref (mh E)), (1, .ref (mad E j1)), (2, .ref (mad E j2)), (3, .int x3), (5, .int x5)]) hx hb dX3_find_85 hl (k := 4) rfl (by rw [ey2]; rfl) (by decide) rfl (fun ls hl => ?_)
    refine lv_goto (tgt := 3) hx hb dX3_find_88 (by decide) ?_
    exact hk3 σ x3 y2 h _ _ hP hS _ (lv_sub hl [1, 2, 3, 4, 0] rfl)
  · have h := mif_f c1 h
    refine lv_iload hx hb dX3_find_82 (lv_at hl 4 rfl) ?_
    cases h
    exact m_iret hC hP hS dX3_find_84
def f_find_69 (N : Nat) (j1 : Nat) (j2 : Nat) (k3 : MS → Int32 → Int32 → Option (Int32 × MS)) (k30 : MS → Int32 → Int32 → Int32 → Int32 → Option (Int32 × MS)) (σ : MS) (x3 : Int32) (x4 : Int32) (x6 : Int32) (s0 : Int32) : Option (Int32 × MS) :=
    mlet (x6 + 1) fun y1 =>
    k30 σ x3 x4 s0 y1
set_option maxHeartbeats 4000000 in
set_option maxRecDepth 100000 in
theorem w_find_69 {p : Program} {l : Launch} {e : Env} {R : Room} {s : State} {m : MethodId} {args : Array Value} {below : List Frame} {meth : Method} {c : Code} {E : mE} {σ' : MS} {r : Int32} (hC : mC p s m args meth c E cX3_find 7 (some .int)) (hR : 0 ≤ R.frames ∧ 0 ≤ R.locals) (N : Nat) {j1 : Nat} (hj1 : mInt j1 = true) {j2 : Nat} (hj2 : mInt j2 = true) (k3 : MS → Int32 → Int32 → Option (Int32 × MS)) (hk3 : ∀ (σ : MS) (x3 : Int32) (x4 : Int32), k3 σ x3 x4 = some (r, σ') → ∀ (H : Heap) (locs : List Loc), mP E σ H → va_S (mA E s.heap.size) s.heap H locs → ∀ ls : Array Slot, lv_has ls 7 [(0, .ref (mh E)), (1, .ref (mad E j1)), (2, .ref (mad E j2)), (3, .int x3), (4, .int x4)] → W p l e R s m args below meth c H locs 0 0 (MQ below (mQi E s.heap.size r σ') args s 0 0 (mA E s.heap.size)) (F0 m 3 ls [])) (k30 : MS → Int32 → Int32 → Int32 → Int32 → Option (Int32 × MS)) (hk30 : ∀ (σ : MS) (x3 : Int32) (x4 : Int32) (x5 : Int32) (x6 : Int32), k30 σ x3 x4 x5 x6 = some (r, σ') → ∀ (H : Heap) (locs : List Loc), mP E σ H → va_S (mA E s.heap.size) s.heap H locs → ∀ ls : Array Slot, lv_has ls 7 [(0, .ref (mh E)), (1, .ref (mad E j1)), (2, .ref (mad E j2)), (3, .int x3), (4, .int x4), (5, .int x5), (6, .int x6)] → W p l e R s m args below meth c H locs 0 0 (MQ below (mQi E s.heap.size r σ') args s 0 0 (mA E s.heap.size)) (F0 m 30 ls [])) (σ : MS) (x3 : Int32) (x4 : Int32) (x6 : Int32) (s0 : Int32) (h : f_find_69 N j1 j2 k3 k30 σ x3 x4 x6 s0 = some (r, σ')) {H : Heap} {locs : List Loc} (hP : mP E σ H) (hS : va_S (mA E s.heap.size) s.heap H locs) {ls : Array Slot} (hl : lv_has ls 7 [(0, .ref (mh E)), (1, .ref (mad E j1)), (2, .ref (mad E j2)), (3, .int x3), (4, .int x4), (6, .int x6)]) : W p l e R s m args below meth c H locs 0 0 (MQ below (mQi E s.heap.size r σ') args s 0 0 (mA E s.heap.size)) (F0 m 69 ls [.int s0]) := by
  obtain ⟨⟨hx, hb, hml, hown, hts⟩, hK, hD, hr, hlk⟩ := id hC
  unfold f_find_69 at h
  refine lv_istore (lv' := [(5, .int s0), (0, .ref (mh E)), (1, .ref (mad E j1)), (2, .ref (mad E j2)), (3, .int x3), (4, .int x4), (6, .int x6)]) hx hb dX3_find_69 hl (by decide) rfl (fun ls hl => ?_)
  obtain ⟨y1, ey1⟩ : ∃ z : Int32, z = x6 + 1 := ⟨_, rfl⟩
  have h := mlet_at ey1 h
  refine lv_iinc (v := y1) (lv' := [(6, .int y1), (5, .int s0), (0, .ref (mh E)), (1, .ref (mad E j1)), (2, .ref (mad E j2)), (3, .int x3), (4, .int x4)]) hx hb dX3_find_71 hl (k := 6) rfl (by rw [ey1]; rfl) (by decide) rfl (fun ls hl => ?_)
  refine lv_goto (tgt := 30) hx hb dX3_find_74 (by decide) ?_
  exact hk30 σ x3 x4 s0 y1 h _ _ hP hS _ (lv_sub hl [2, 3, 4, 5, 6, 1, 0] rfl)
def f_find_30 (N : Nat) (j1 : Nat) (j2 : Nat) (k3 : MS → Int32 → Int32 → Option (Int32 × MS)) : Nat → MS → Int32 → Int32 → Int32 → Int32 → Option (Int32 × MS)
  | 0, _, _, _, _, _ => none
  | n + 1, σ, x3, x4, x5, x6 =>
    if (σ.1 8) ≤ x6 then
    f_find_77 N j1 j2 k3 σ x3 x4 x5
    else
    if x5 = 0 then
    f_find_77 N j1 j2 k3 σ x3 x4 x5
    else
    if mIn ((8 * x4) + x6) (mLen j1) = true then mlet (σ.2.1 j1 ((8 * x4) + x6).toNatClampNeg) fun y4 =>
    if mIn x6 (mLen 11) = true then mlet (σ.2.1 11 x6.toNatClampNeg) fun y6 =>
    if y4 = y6 then
    f_find_69 N j1 j2 k3 (f_find_30 N j1 j2 k3 n) σ x3 x4 x6 1
    else
    f_find_69 N j1 j2 k3 (f_find_30 N j1 j2 k3 n) σ x3 x4 x6 0
    else none
    else none
set_option maxHeartbeats 4000000 in
set_option maxRecDepth 100000 in
theorem w_find_30 {p : Program} {l : Launch} {e : Env} {R : Room} {s : State} {m : MethodId} {args : Array Value} {below : List Frame} {meth : Method} {c : Code} {E : mE} {σ' : MS} {r : Int32} (hC : mC p s m args meth c E cX3_find 7 (some .int)) (hR : 0 ≤ R.frames ∧ 0 ≤ R.locals) (N : Nat) {j1 : Nat} (hj1 : mInt j1 = true) {j2 : Nat} (hj2 : mInt j2 = true) (k3 : MS → Int32 → Int32 → Option (Int32 × MS)) (hk3 : ∀ (σ : MS) (x3 : Int32) (x4 : Int32), k3 σ x3 x4 = some (r, σ') → ∀ (H : Heap) (locs : List Loc), mP E σ H → va_S (mA E s.heap.size) s.heap H locs → ∀ ls : Array Slot, lv_has ls 7 [(0, .ref (mh E)), (1, .ref (mad E j1)), (2, .ref (mad E j2)), (3, .int x3), (4, .int x4)] → W p l e R s m args below meth c H locs 0 0 (MQ below (mQi E s.heap.size r σ') args s 0 0 (mA E s.heap.size)) (F0 m 3 ls [])) : ∀ (n : Nat) (σ : MS) (x3 : Int32) (x4 : Int32) (x5 : Int32) (x6 : Int32), f_find_30 N j1 j2 k3 n σ x3 x4 x5 x6 = some (r, σ') → ∀ (H : Heap) (locs : List Loc), mP E σ H → va_S (mA E s.heap.size) s.heap H locs → ∀ ls : Array Slot, lv_has ls 7 [(0, .ref (mh E)), (1, .ref (mad E j1)), (2, .ref (mad E j2)), (3, .int x3), (4, .int x4), (5, .int x5), (6, .int x6)] → W p l e R s m args below meth c H locs 0 0 (MQ below (mQi E s.heap.size r σ') args s 0 0 (mA E s.heap.size)) (F0 m 30 ls []) := by
  obtain ⟨⟨hx, hb, hml, hown, hts⟩, hK, hD, hr, hlk⟩ := id hC
  intro n
  induction n with
  | zero =>
    intro σ x3 x4 x5 x6 h
    cases h
  | succ n ih =>
    intro σ x3 x4 x5 x6 h H locs hP hS ls hl
    unfold f_find_30 at h
    refine lv_iload hx hb dX3_find_30 (lv_at hl 6 rfl) ?_
    refine lv_aload_n hx hb dX3_find_32 rfl (lv_at hl 0 rfl) ?_
    refine m_geti hC hP 8 (by decide) rfl q1901 dX3_find_33 ?_
    refine lv_icmp_ge (tgt := 77) hx hb dX3_find_36 (by decide) (fun c1 => ?_) (fun c1 => ?_)
    · have h := mif_t c1 h
      exact w_find_77 hC hR N hj1 hj2 k3 hk3 σ x3 x4 x5 h hP hS (lv_sub hl [0, 1, 2, 3, 4, 5] rfl)
    · have h := mif_f c1 h
      refine lv_iload hx hb dX3_find_39 (lv_at hl 5 rfl) ?_
      refine lv_if_eq (tgt := 77) hx hb dX3_find_41 (by decide) (fun c2 => ?_) (fun c2 => ?_)
      · have h := mif_t c2 h
        exact w_find_77 hC hR N hj1 hj2 k3 hk3 σ x3 x4 x5 h hP hS (lv_sub hl [0, 1, 2, 3, 4, 5] rfl)
      · have h := mif_f c2 h
        refine lv_aload_n hx hb dX3_find_44 rfl (lv_at hl 1 rfl) ?_
        refine lv_bipush (v := 8) hx hb dX3_find_45 (by decide) ?_
        refine lv_iload hx hb dX3_find_47 (lv_at hl 4 rfl) ?_
        refine lv_imul hx hb dX3_find_49 ?_
        refine lv_iload hx hb dX3_find_50 (lv_at hl 6 rfl) ?_
        refine lv_iadd hx hb dX3_find_52 ?_
        obtain ⟨c3, h⟩ := mif_n h
        refine m_ald hC hP j1 hj1 c3 dX3_find_53 ?_
        refine lv_topi (fun y4 ey4 => ?_)
        have h := mlet_at ey4 h
        refine lv_aload_n hx hb dX3_find_54 rfl (lv_at hl 0 rfl) ?_
        refine m_geta hC hP 11 (by decide) rfl q1904 dX3_find_55 ?_
        refine lv_iload hx hb dX3_find_58 (lv_at hl 6 rfl) ?_
        obtain ⟨c5, h⟩ := mif_n h
        refine m_ald hC hP 11 rfl c5 dX3_find_60 ?_
        refine lv_topi (fun y6 ey6 => ?_)
        have h := mlet_at ey6 h
        refine lv_icmp_ne (tgt := 68) hx hb dX3_find_61 (by decide) (fun c7 => ?_) (fun c7 => ?_)
        · have h := mif_f c7 h
          refine lv_iconst (v := 0) hx hb dX3_find_68 (by decide) ?_
          exact w_find_69 hC hR N hj1 hj2 k3 hk3 (f_find_30 N j1 j2 k3 n) ih σ x3 x4 x6 0 h hP hS (lv_sub hl [0, 1, 2, 3, 4, 6] rfl)
        · have h := mif_t c7 h
          refine lv_iconst (v := 1) hx hb dX3_find_64 (by decide) ?_
          refine lv_goto (tgt := 69) hx hb dX3_find_65 (by decide) ?_
          exact w_find_69 hC hR N hj1 hj2 k3 hk3 (f_find_30 N j1 j2 k3 n) ih σ x3 x4 x6 1 h hP hS (lv_sub hl [0, 1, 2, 3, 4, 6] rfl)
def f_find_25 (N : Nat) (j1 : Nat) (j2 : Nat) (k3 : MS → Int32 → Int32 → Option (Int32 × MS)) (σ : MS) (x3 : Int32) (x4 : Int32) (s0 : Int32) : Option (Int32 × MS) :=
    f_find_30 N j1 j2 k3 N σ x3 x4 s0 0
set_option maxHeartbeats 4000000 in
set_option maxRecDepth 100000 in
theorem w_find_25 {p : Program} {l : Launch} {e : Env} {R : Room} {s : State} {m : MethodId} {args : Array Value} {below : List Frame} {meth : Method} {c : Code} {E : mE} {σ' : MS} {r : Int32} (hC : mC p s m args meth c E cX3_find 7 (some .int)) (hR : 0 ≤ R.frames ∧ 0 ≤ R.locals) (N : Nat) {j1 : Nat} (hj1 : mInt j1 = true) {j2 : Nat} (hj2 : mInt j2 = true) (k3 : MS → Int32 → Int32 → Option (Int32 × MS)) (hk3 : ∀ (σ : MS) (x3 : Int32) (x4 : Int32), k3 σ x3 x4 = some (r, σ') → ∀ (H : Heap) (locs : List Loc), mP E σ H → va_S (mA E s.heap.size) s.heap H locs → ∀ ls : Array Slot, lv_has ls 7 [(0, .ref (mh E)), (1, .ref (mad E j1)), (2, .ref (mad E j2)), (3, .int x3), (4, .int x4)] → W p l e R s m args below meth c H locs 0 0 (MQ below (mQi E s.heap.size r σ') args s 0 0 (mA E s.heap.size)) (F0 m 3 ls [])) (σ : MS) (x3 : Int32) (x4 : Int32) (s0 : Int32) (h : f_find_25 N j1 j2 k3 σ x3 x4 s0 = some (r, σ')) {H : Heap} {locs : List Loc} (hP : mP E σ H) (hS : va_S (mA E s.heap.size) s.heap H locs) {ls : Array Slot} (hl : lv_has ls 7 [(0, .ref (mh E)), (1, .ref (mad E j1)), (2, .ref (mad E j2)), (3, .int x3), (4, .int x4)]) : W p l e R s m args below meth c H locs 0 0 (MQ below (mQi E s.heap.size r σ') args s 0 0 (mA E s.heap.size)) (F0 m 25 ls [.int s0]) := by
  obtain ⟨⟨hx, hb, hml, hown, hts⟩, hK, hD, hr, hlk⟩ := id hC
  unfold f_find_25 at h
  refine lv_istore (lv' := [(5, .int s0), (0, .ref (mh E)), (1, .ref (mad E j1)), (2, .ref (mad E j2)), (3, .int x3), (4, .int x4)]) hx hb dX3_find_25 hl (by decide) rfl (fun ls hl => ?_)
  refine lv_iconst (v := 0) hx hb dX3_find_27 (by decide) ?_
  refine lv_istore (lv' := [(6, .int 0), (5, .int s0), (0, .ref (mh E)), (1, .ref (mad E j1)), (2, .ref (mad E j2)), (3, .int x3), (4, .int x4)]) hx hb dX3_find_28 hl (by decide) rfl (fun ls hl => ?_)
  exact w_find_30 hC hR N hj1 hj2 k3 hk3 N σ x3 x4 s0 0 h _ _ hP hS _ (lv_sub hl [2, 3, 4, 5, 6, 1, 0] rfl)
def f_find_3 (N : Nat) (j1 : Nat) (j2 : Nat) : Nat → MS → Int32 → Int32 → Option (Int32 × MS)
  | 0, _, _, _ => none
  | n + 1, σ, x3, x4 =>
    if x3 ≤ x4 then
    some ((-1), σ)
    else
    if mIn x4 (mLen j2) = true then mlet (σ.2.1 j2 x4.toNatClampNeg) fun y3 =>
    if y3 = (σ.1 8) then
    f_find_25 N j1 j2 (f_find_3 N j1 j2 n) σ x3 x4 1
    else
    f_find_25 N j1 j2 (f_find_3 N j1 j2 n) σ x3 x4 0
    else none
set_option maxHeartbeats 4000000 in
set_option maxRecDepth 100000 in
theorem w_find_3 {p : Program} {l : Launch} {e : Env} {R : Room} {s : State} {m : MethodId} {args : Array Value} {below : List Frame} {meth : Method} {c : Code} {E : mE} {σ' : MS} {r : Int32} (hC : mC p s m args meth c E cX3_find 7 (some .int)) (hR : 0 ≤ R.frames ∧ 0 ≤ R.locals) (N : Nat) {j1 : Nat} (hj1 : mInt j1 = true) {j2 : Nat} (hj2 : mInt j2 = true) : ∀ (n : Nat) (σ : MS) (x3 : Int32) (x4 : Int32), f_find_3 N j1 j2 n σ x3 x4 = some (r, σ') → ∀ (H : Heap) (locs : List Loc), mP E σ H → va_S (mA E s.heap.size) s.heap H locs → ∀ ls : Array Slot, lv_has ls 7 [(0, .ref (mh E)), (1, .ref (mad E j1)), (2, .ref (mad E j2)), (3, .int x3), (4, .int x4)] → W p l e R s m args below meth c H locs 0 0 (MQ below (mQi E s.heap.size r σ') args s 0 0 (mA E s.heap.size)) (F0 m 3 ls []) := by
  obtain ⟨⟨hx, hb, hml, hown, hts⟩, hK, hD, hr, hlk⟩ := id hC
  intro n
  induction n with
  | zero =>
    intro σ x3 x4 h
    cases h
  | succ n ih =>
    intro σ x3 x4 h H locs hP hS ls hl
    unfold f_find_3 at h
    refine lv_iload hx hb dX3_find_3 (lv_at hl 4 rfl) ?_
    refine lv_iload_n hx hb dX3_find_5 rfl (lv_at hl 3 rfl) ?_
    refine lv_icmp_ge (tgt := 91) hx hb dX3_find_6 (by decide) (fun c1 => ?_) (fun c1 => ?_)
    · have h := mif_t c1 h
      refine lv_iconst (v := (-1)) hx hb dX3_find_91 (by decide) ?_
      cases h
      exact m_iret hC hP hS dX3_find_92
    · have h := mif_f c1 h
      refine lv_aload_n hx hb dX3_find_9 rfl (lv_at hl 2 rfl) ?_
      refine lv_iload hx hb dX3_find_10 (lv_at hl 4 rfl) ?_
      obtain ⟨c2, h⟩ := mif_n h
      refine m_ald hC hP j2 hj2 c2 dX3_find_12 ?_
      refine lv_topi (fun y3 ey3 => ?_)
      have h := mlet_at ey3 h
      refine lv_aload_n hx hb dX3_find_13 rfl (lv_at hl 0 rfl) ?_
      refine m_geti hC hP 8 (by decide) rfl q1901 dX3_find_14 ?_
      refine lv_icmp_ne (tgt := 24) hx hb dX3_find_17 (by decide) (fun c4 => ?_) (fun c4 => ?_)
      · have h := mif_f c4 h
        refine lv_iconst (v := 0) hx hb dX3_find_24 (by decide) ?_
        exact w_find_25 hC hR N hj1 hj2 (f_find_3 N j1 j2 n) ih σ x3 x4 0 h hP hS (lv_sub hl [0, 1, 2, 3, 4] rfl)
      · have h := mif_t c4 h
        refine lv_iconst (v := 1) hx hb dX3_find_20 (by decide) ?_
        refine lv_goto (tgt := 25) hx hb dX3_find_21 (by decide) ?_
        exact w_find_25 hC hR N hj1 hj2 (f_find_3 N j1 j2 n) ih σ x3 x4 1 h hP hS (lv_sub hl [0, 1, 2, 3, 4] rfl)
def f_find (N : Nat) (j1 : Nat) (j2 : Nat) (σ : MS) (x3 : Int32) : Option (Int32 × MS) :=
    f_find_3 N j1 j2 N σ x3 0
set_option maxHeartbeats 4000000 in
set_option maxRecDepth 100000 in
theorem w_find_0 {p : Program} {l : Launch} {e : Env} {R : Room} {s : State} {m : MethodId} {args : Array Value} {below : List Frame} {meth : Method} {c : Code} {E : mE} {σ' : MS} {r : Int32} (hC : mC p s m args meth c E cX3_find 7 (some .int)) (hR : 0 ≤ R.frames ∧ 0 ≤ R.locals) (N : Nat) {j1 : Nat} (hj1 : mInt j1 = true) {j2 : Nat} (hj2 : mInt j2 = true) (σ : MS) (x3 : Int32) (h : f_find N j1 j2 σ x3 = some (r, σ')) {H : Heap} {locs : List Loc} (hP : mP E σ H) (hS : va_S (mA E s.heap.size) s.heap H locs) {ls : Array Slot} (hl : lv_has ls 7 [(0, .ref (mh E)), (1, .ref (mad E j1)), (2, .ref (mad E j2)), (3, .int x3)]) : W p l e R s m args below meth c H locs 0 0 (MQ below (mQi E s.heap.size r σ') args s 0 0 (mA E s.heap.size)) (F0 m 0 ls []) := by
  obtain ⟨⟨hx, hb, hml, hown, hts⟩, hK, hD, hr, hlk⟩ := id hC
  unfold f_find at h
  refine lv_iconst (v := 0) hx hb dX3_find_0 (by decide) ?_
  refine lv_istore (lv' := [(4, .int 0), (0, .ref (mh E)), (1, .ref (mad E j1)), (2, .ref (mad E j2)), (3, .int x3)]) hx hb dX3_find_1 hl (by decide) rfl (fun ls hl => ?_)
  exact w_find_3 hC hR N hj1 hj2 N σ x3 0 h _ _ hP hS _ (lv_sub hl [1, 2, 3, 4, 0] rfl)
theorem met_find (l : Launch) (N : Nat) (E : mE) (sz : Nat) (σ : MS) {j1 : Nat} (hj1 : mInt j1 = true) {j2 : Nat} (hj2 : mInt j2 = true) (x3 : Int32) (r : Int32) (σ' : MS) (h : f_find N j1 j2 σ x3 = some (r, σ')) : Met l yX3_find (ws_ yX3_find cX3_find 7 (some .int)) ({ frames := 0, cells := 0, slots := 0, locals := 0 }) (mPc E sz σ [.ref (mh E), .ref (mad E j1), .ref (mad E j2), .int x3]) (mQi E sz r σ') 0 0 (mA E sz) :=
  m_met (Qc := fun z => mQi E z r σ') (by decide) rfl (Nat.le_of_ble_eq_true rfl) (fun hC ls hl hP => w_find_0 hC ⟨Nat.le_refl _, Nat.le_refl _⟩ N hj1 hj2 σ x3 h hP va_S.rf hl)
def f_number (N : Nat) (σ : MS) (x1 : Int32) (x2 : Int32) : Option (Int32 × MS) :=
    if (σ.1 13) = 0 then
    if (σ.1 6) = 3 then
    mlet (σ.1 7) fun y3 =>
    mcall (f_within N σ y3 x1 x2) fun r6 σ4 =>
    if r6 = 0 then
    mcall (f_wrong N σ4 4 (σ4.1 4)) fun r12 σ10 =>
    some (x1, σ10)
    else
    mcallv (f_next N σ4) fun σ8 =>
    some (y3, σ8)
    else
    mcall (f_wrong N σ 1 (σ.1 4)) fun r15 σ13 =>
    some (x1, σ13)
    else
    some (x1, σ)
set_option maxHeartbeats 4000000 in
set_option maxRecDepth 100000 in
theorem w_number_0 {p : Program} {l : Launch} {e : Env} {R : Room} {s : State} {m : MethodId} {args : Array Value} {below : List Frame} {meth : Method} {c : Code} {E : mE} {σ' : MS} {r : Int32} (hC : mC p s m args meth c E cX3_number 4 (some .int)) (hR : 2 ≤ R.frames ∧ 44 ≤ R.locals) (N : Nat) (σ : MS) (x1 : Int32) (x2 : Int32) (h : f_number N σ x1 x2 = some (r, σ')) {H : Heap} {locs : List Loc} (hP : mP E σ H) (hS : va_S (mA E s.heap.size) s.heap H locs) {ls : Array Slot} (hl : lv_has ls 4 [(0, .ref (mh E)), (1, .int x1), (2, .int x2)]) : W p l e R s m args below meth c H locs 0 0 (MQ below (mQi E s.heap.size r σ') args s 0 0 (mA E s.heap.size)) (F0 m 0 ls []) := by
  obtain ⟨⟨hx, hb, hml, hown, hts⟩, hK, hD, hr, hlk⟩ := id hC
  unfold f_number at h
  refine lv_aload_n hx hb dX3_number_0 rfl (lv_at hl 0 rfl) ?_
  refine m_geti hC hP 13 (by decide) rfl q1906 dX3_number_1 ?_
  refine lv_if_eq (tgt := 9) hx hb dX3_number_4 (by decide) (fun c1 => ?_) (fun c1 => ?_)
  · have h := mif_t c1 h
    refine lv_aload_n hx hb dX3_number_9 rfl (lv_at hl 0 rfl) ?_
    refine m_geti hC hP 6 (by decide) rfl q1899 dX3_number_10 ?_
    refine lv_iconst (v := 3) hx hb dX3_number_13 (by decide) ?_
    refine lv_icmp_eq (tgt := 29) hx hb dX3_number_14 (by decide) (fun c2 => ?_) (fun c2 => ?_)
    · have h := mif_t c2 h
      refine lv_aload_n hx hb dX3_number_29 rfl (lv_at hl 0 rfl) ?_
      refine m_geti hC hP 7 (by decide) rfl q1900 dX3_number_30 ?_
      refine lv_topi (fun y3 ey3 => ?_)
      have h := mlet_at ey3 h
      refine lv_istore_n (lv' := [(3, .int y3), (0, .ref (mh E)), (1, .int x1), (2, .int x2)]) hx hb dX3_number_33 rfl hl (by decide) rfl (fun ls hl => ?_)
      refine lv_iload_n hx hb dX3_number_34 rfl (lv_at hl 0 rfl) ?_
      refine lv_iload_n hx hb dX3_number_35 rfl (lv_at hl 2 rfl) ?_
      refine lv_iload_n hx hb dX3_number_36 rfl (lv_at hl 3 rfl) ?_
      obtain ⟨r6, σ4, c5, h⟩ := mcall_n h
      refine m_callsi (As := [.int y3, .int x1, .int x2]) (rest := []) hC (met_within l N E H.size σ y3 x1 x2 r6 σ4 c5) (va_cwS 3 hts (lw_S q2135 q2136 q103 q2137) rfl rfl rfl (by decide +kernel) ⟨Nat.le_trans (Nat.le_of_ble_eq_true rfl) hR.1, Nat.le_trans (Nat.le_of_ble_eq_true rfl) hR.2⟩) hP hS rfl hl.1 rfl (Nat.le_of_ble_eq_true rfl) dX3_number_37 (fun H locs hP hS => ?_)
      refine lv_if_ne (tgt := 55) hx hb dX3_number_40 (by decide) (fun c7 => ?_) (fun c7 => ?_)
      · have h := mif_f c7 h
        refine lv_aload_n hx hb dX3_number_55 rfl (lv_at hl 1 rfl) ?_
        obtain ⟨σ8, c9, h⟩ := mcallv_n h
        refine m_callv (As := []) (rest := []) hC (met_next l N E H.size σ4 σ8 c9) (cwV 0 hts (lw_V q2154 q2156 qs45 q103 q2157) rfl rfl rfl (by decide +kernel) ⟨Nat.le_trans (Nat.le_of_ble_eq_true rfl) hR.1, Nat.le_trans (Nat.le_of_ble_eq_true rfl) hR.2⟩) hP hS rfl hl.1 rfl (Nat.le_of_ble_eq_true rfl) dX3_number_56 (fun H locs hP hS => ?_)
        refine lv_iload_n hx hb dX3_number_59 rfl (lv_at hl 0 rfl) ?_
        cases h
        exact m_iret hC hP hS dX3_number_60
      · have h := mif_t c7 h
        refine lv_aload_n hx hb dX3_number_43 rfl (lv_at hl 1 rfl) ?_
        refine lv_iconst (v := 4) hx hb dX3_number_44 (by decide) ?_
        refine lv_aload_n hx hb dX3_number_45 rfl (lv_at hl 1 rfl) ?_
        refine m_geti hC hP 4 (by decide) rfl q1897 dX3_number_46 ?_
        obtain ⟨r12, σ10, c11, h⟩ := mcall_n h
        refine m_calli (As := [.int 4, .int (σ4.1 4)]) (rest := []) hC (met_wrong l N E H.size σ4 4 (σ4.1 4) r12 σ10 c11) (cwV 2 hts (lw_V q2196 q2198 qs51 q103 q2199) rfl rfl rfl (by decide +kernel) ⟨Nat.le_trans (Nat.le_of_ble_eq_true rfl) hR.1, Nat.le_trans (Nat.le_of_ble_eq_true rfl) hR.2⟩) hP hS rfl hl.1 rfl (Nat.le_of_ble_eq_true rfl) dX3_number_49 (fun H locs hP hS => ?_)
        refine lv_pop hx hb dX3_number_52 rfl ?_
        refine lv_iload_n hx hb dX3_number_53 rfl (lv_at hl 2 rfl) ?_
        cases h
        exact m_iret hC hP hS dX3_number_54
    · have h := mif_f c2 h
      refine lv_aload_n hx hb dX3_number_17 rfl (lv_at hl 0 rfl) ?_
      refine lv_iconst (v := 1) hx hb dX3_number_18 (by decide) ?_
      refine lv_aload_n hx hb dX3_number_19 rfl (lv_at hl 0 rfl) ?_
      refine m_geti hC hP 4 (by decide) rfl q1897 dX3_number_20 ?_
      obtain ⟨r15, σ13, c14, h⟩ := mcall_n h
      refine m_calli (As := [.int 1, .int (σ.1 4)]) (rest := []) hC (met_wrong l N E H.size σ 1 (σ.1 4) r15 σ13 c14) (cwV 2 hts (lw_V q2196 q2198 qs51 q103 q2199) rfl rfl rfl (by decide +kernel) ⟨Nat.le_trans (Nat.le_of_ble_eq_true rfl) hR.1, Nat.le_trans (Nat.le_of_ble_eq_true rfl) hR.2⟩) hP hS rfl hl.1 rfl (Nat.le_of_ble_eq_true rfl) dX3_number_23 (fun H locs hP hS => ?_)
      refine lv_pop hx hb dX3_number_26 rfl ?_
      refine lv_iload_n hx hb dX3_number_27 rfl (lv_at hl 1 rfl) ?_
      cases h
      exact m_iret hC hP hS dX3_number_28
  · have h := mif_f c1 h
    refine lv_iload_n hx hb dX3_number_7 rfl (lv_at hl 1 rfl) ?_
    cases h
    exact m_iret hC hP hS dX3_number_8
theorem met_number (l : Launch) (N : Nat) (E : mE) (sz : Nat) (σ : MS) (x1 : Int32) (x2 : Int32) (r : Int32) (σ' : MS) (h : f_number N σ x1 x2 = some (r, σ')) : Met l yX3_number (ws_ yX3_number cX3_number 4 (some .int)) ({ frames := 2, cells := 0, slots := 0, locals := 44 }) (mPc E sz σ [.ref (mh E), .int x1, .int x2]) (mQi E sz r σ') 0 0 (mA E sz) :=
  m_met (Qc := fun z => mQi E z r σ') (by decide) rfl (Nat.le_of_ble_eq_true rfl) (fun hC ls hl hP => w_number_0 hC ⟨Nat.le_refl _, Nat.le_refl _⟩ N σ x1 x2 h hP va_S.rf hl)
def f_pairs_220 (N : Nat) (j1 : Nat) (k16 : MS → Int32 → Int32 → Int32 → Option (Int32 × MS)) (σ : MS) (x2 : Int32) (x3 : Int32) (x4 : Int32) : Option (Int32 × MS) :=
    k16 σ x2 x3 x4
set_option maxHeartbeats 4000000 in
set_option maxRecDepth 100000 in
theorem w_pairs_220 {p : Program} {l : Launch} {e : Env} {R : Room} {s : State} {m : MethodId} {args : Array Value} {below : List Frame} {meth : Method} {c : Code} {E : mE} {σ' : MS} {r : Int32} (hC : mC p s m args meth c E cX3_pairs 10 (some .int)) (hR : 3 ≤ R.frames ∧ 67 ≤ R.locals) (N : Nat) {j1 : Nat} (hj1 : mInt j1 = true) (k16 : MS → Int32 → Int32 → Int32 → Option (Int32 × MS)) (hk16 : ∀ (σ : MS) (x2 : Int32) (x3 : Int32) (x4 : Int32), k16 σ x2 x3 x4 = some (r, σ') → ∀ (H : Heap) (locs : List Loc), mP E σ H → va_S (mA E s.heap.size) s.heap H locs → ∀ ls : Array Slot, lv_has ls 10 [(0, .ref (mh E)), (1, .ref (mad E j1)), (2, .int x2), (3, .int x3), (4, .int x4)] → W p l e R s m args below meth c H locs 0 0 (MQ below (mQi E s.heap.size r σ') args s 0 0 (mA E s.heap.size)) (F0 m 16 ls [])) (σ : MS) (x2 : Int32) (x3 : Int32) (x4 : Int32) (h : f_pairs_220 N j1 k16 σ x2 x3 x4 = some (r, σ')) {H : Heap} {locs : List Loc} (hP : mP E σ H) (hS : va_S (mA E s.heap.size) s.heap H locs) {ls : Array Slot} (hl : lv_has ls 10 [(0, .ref (mh E)), (1, .ref (mad E j1)), (2, .int x2), (3, .int x3), (4, .int x4)]) : W p l e R s m args below meth c H locs 0 0 (MQ below (mQi E s.heap.size r σ') args s 0 0 (mA E s.heap.size)) (F0 m 220 ls []) := by
  obtain ⟨⟨hx, hb, hml, hown, hts⟩, hK, hD, hr, hlk⟩ := id hC
  unfold f_pairs_220 at h
  refine lv_goto (tgt := 16) hx hb dX3_pairs_220 (by decide) ?_
  exact hk16 σ x2 x3 x4 h _ _ hP hS _ (lv_sub hl [0, 1, 2, 3, 4] rfl)
def f_pairs_209 (N : Nat) (j1 : Nat) (k16 : MS → Int32 → Int32 → Int32 → Option (Int32 × MS)) (σ : MS) (x2 : Int32) (x3 : Int32) (s0 : Int32) : Option (Int32 × MS) :=
    if s0 = 0 then
    f_pairs_220 N j1 k16 σ x2 x3 s0
    else
    mcallv (f_next N σ) fun σ2 =>
    f_pairs_220 N j1 k16 σ2 x2 x3 s0
set_option maxHeartbeats 4000000 in
set_option maxRecDepth 100000 in
theorem w_pairs_209 {p : Program} {l : Launch} {e : Env} {R : Room} {s : State} {m : MethodId} {args : Array Value} {below : List Frame} {meth : Method} {c : Code} {E : mE} {σ' : MS} {r : Int32} (hC : mC p s m args meth c E cX3_pairs 10 (some .int)) (hR : 3 ≤ R.frames ∧ 67 ≤ R.locals) (N : Nat) {j1 : Nat} (hj1 : mInt j1 = true) (k16 : MS → Int32 → Int32 → Int32 → Option (Int32 × MS)) (hk16 : ∀ (σ : MS) (x2 : Int32) (x3 : Int32) (x4 : Int32), k16 σ x2 x3 x4 = some (r, σ') → ∀ (H : Heap) (locs : List Loc), mP E σ H → va_S (mA E s.heap.size) s.heap H locs → ∀ ls : Array Slot, lv_has ls 10 [(0, .ref (mh E)), (1, .ref (mad E j1)), (2, .int x2), (3, .int x3), (4, .int x4)] → W p l e R s m args below meth c H locs 0 0 (MQ below (mQi E s.heap.size r σ') args s 0 0 (mA E s.heap.size)) (F0 m 16 ls [])) (σ : MS) (x2 : Int32) (x3 : Int32) (s0 : Int32) (h : f_pairs_209 N j1 k16 σ x2 x3 s0 = some (r, σ')) {H : Heap} {locs : List Loc} (hP : mP E σ H) (hS : va_S (mA E s.heap.size) s.heap H locs) {ls : Array Slot} (hl : lv_has ls 10 [(0, .ref (mh E)), (1, .ref (mad E j1)), (2, .int x2), (3, .int x3)]) : W p l e R s m args below meth c H locs 0 0 (MQ below (mQi E s.heap.size r σ') args s 0 0 (mA E s.heap.size)) (F0 m 209 ls [.int s0]) := by
  obtain ⟨⟨hx, hb, hml, hown, hts⟩, hK, hD, hr, hlk⟩ := id hC
  unfold f_pairs_209 at h
  refine lv_istore (lv' := [(4, .int s0), (0, .ref (mh E)), (1, .ref (mad E j1)), (2, .int x2), (3, .int x3)]) hx hb dX3_pairs_209 hl (by decide) rfl (fun ls hl => ?_)
  refine lv_iload hx hb dX3_pairs_211 (lv_at hl 0 rfl) ?_
  refine lv_if_eq (tgt := 220) hx hb dX3_pairs_213 (by decide) (fun c1 => ?_) (fun c1 => ?_)
  · have h := mif_t c1 h
    exact w_pairs_220 hC hR N hj1 k16 hk16 σ x2 x3 s0 h hP hS (lv_sub hl [1, 2, 3, 4, 0] rfl)
  · have h := mif_f c1 h
    refine lv_aload_n hx hb dX3_pairs_216 rfl (lv_at hl 1 rfl) ?_
    obtain ⟨σ2, c3, h⟩ := mcallv_n h
    refine m_callv (As := []) (rest := []) hC (met_next l N E H.size σ σ2 c3) (cwV 0 hts (lw_V q2154 q2156 qs45 q103 q2157) rfl rfl rfl (by decide +kernel) ⟨Nat.le_trans (Nat.le_of_ble_eq_true rfl) hR.1, Nat.le_trans (Nat.le_of_ble_eq_true rfl) hR.2⟩) hP hS rfl hl.1 rfl (Nat.le_of_ble_eq_true rfl) dX3_pairs_217 (fun H locs hP hS => ?_)
    exact w_pairs_220 hC hR N hj1 k16 hk16 σ2 x2 x3 s0 h hP hS (lv_sub hl [1, 2, 3, 4, 0] rfl)
def f_pairs_164 (N : Nat) (j1 : Nat) (k16 : MS → Int32 → Int32 → Int32 → Option (Int32 × MS)) (σ : MS) (x2 : Int32) (x3 : Int32) (x5 : Int32) (x8 : Int32) (s0 : Int32) (s1 : Int32) : Option (Int32 × MS) :=
    mcall (f_number N σ s1 s0) fun r3 σ1 =>
    if (σ1.1 13) = 0 then
    if mIn x5 (mLen j1) = true then mlet (mArr σ1 j1 x5.toNatClampNeg x8) fun σ6 =>
    if mIn (x5 + 1) (mLen j1) = true then mlet (mArr σ6 j1 (x5 + 1).toNatClampNeg r3) fun σ8 =>
    mlet (x3 + 1) fun y9 =>
    if (σ8.1 6) = 44 then
    f_pairs_209 N j1 k16 σ8 x2 y9 1
    else
    f_pairs_209 N j1 k16 σ8 x2 y9 0
    else none
    else none
    else
    some (x3, σ1)
set_option maxHeartbeats 4000000 in
set_option maxRecDepth 100000 in
theorem w_pairs_164 {p : Program} {l : Launch} {e : Env} {R : Room} {s : State} {m : MethodId} {args : Array Value} {below : List Frame} {meth : Method} {c : Code} {E : mE} {σ' : MS} {r : Int32} (hC : mC p s m args meth c E cX3_pairs 10 (some .int)) (hR : 3 ≤ R.frames ∧ 67 ≤ R.locals) (N : Nat) {j1 : Nat} (hj1 : mInt j1 = true) (k16 : MS → Int32 → Int32 → Int32 → Option (Int32 × MS)) (hk16 : ∀ (σ : MS) (x2 : Int32) (x3 : Int32) (x4 : Int32), k16 σ x2 x3 x4 = some (r, σ') → ∀ (H : Heap) (locs : List Loc), mP E σ H → va_S (mA E s.heap.size) s.heap H locs → ∀ ls : Array Slot, lv_has ls 10 [(0, .ref (mh E)), (1, .ref (mad E j1)), (2, .int x2), (3, .int x3), (4, .int x4)] → W p l e R s m args below meth c H locs 0 0 (MQ below (mQi E s.heap.size r σ') args s 0 0 (mA E s.heap.size)) (F0 m 16 ls [])) (σ : MS) (x2 : Int32) (x3 : Int32) (x5 : Int32) (x8 : Int32) (s0 : Int32) (s1 : Int32) (h : f_pairs_164 N j1 k16 σ x2 x3 x5 x8 s0 s1 = some (r, σ')) {H : Heap} {locs : List Loc} (hP : mP E σ H) (hS : va_S (mA E s.heap.size) s.heap H locs) {ls : Array Slot} (hl : lv_has ls 10 [(0, .ref (mh E)), (1, .ref (mad E j1)), (2, .int x2), (3, .int x3), (5, .int x5), (8, .int x8)]) : W p l e R s m args below meth c H locs 0 0 (MQ below (mQi E s.heap.size r σ') args s 0 0 (mA E s.heap.size)) (F0 m 164 ls [.int s0, .int s1, .ref (mh E)]) := by
  obtain ⟨⟨hx, hb, hml, hown, hts⟩, hK, hD, hr, hlk⟩ := id hC
  unfold f_pairs_164 at h
  obtain ⟨r3, σ1, c2, h⟩ := mcall_n h
  refine m_calli (As := [.int s1, .int s0]) (rest := []) hC (met_number l N E H.size σ s1 s0 r3 σ1 c2) (cwV 2 hts (lw_V q2213 q2215 qs55 q103 q2216) rfl rfl rfl (by decide +kernel) ⟨Nat.le_trans (Nat.le_of_ble_eq_true rfl) hR.1, Nat.le_trans (Nat.le_of_ble_eq_true rfl) hR.2⟩) hP hS rfl hl.1 rfl (Nat.le_of_ble_eq_true rfl) dX3_pairs_164 (fun H locs hP hS => ?_)
  refine lv_istore (lv' := [(9, .int r3), (0, .ref (mh E)), (1, .ref (mad E j1)), (2, .int x2), (3, .int x3), (5, .int x5), (8, .int x8)]) hx hb dX3_pairs_167 hl (by decide) rfl (fun ls hl => ?_)
  refine lv_aload_n hx hb dX3_pairs_169 rfl (lv_at hl 1 rfl) ?_
  refine m_geti hC hP 13 (by decide) rfl q1906 dX3_pairs_170 ?_
  refine lv_if_eq (tgt := 178) hx hb dX3_pairs_173 (by decide) (fun c4 => ?_) (fun c4 => ?_)
  · have h := mif_t c4 h
    refine lv_aload_n hx hb dX3_pairs_178 rfl (lv_at hl 2 rfl) ?_
    refine lv_iload hx hb dX3_pairs_179 (lv_at hl 5 rfl) ?_
    refine lv_iload hx hb dX3_pairs_181 (lv_at hl 6 rfl) ?_
    obtain ⟨c5, h⟩ := mif_n h
    refine m_ast hC hP hS j1 hj1 c5 dX3_pairs_183 (fun H locs hP hS => ?_)
    obtain ⟨σ6, eσ6⟩ : ∃ z : MS, z = mArr σ1 j1 x5.toNatClampNeg x8 := ⟨_, rfl⟩
    rw [← eσ6] at hP
    have h := mlet_at eσ6 h
    refine lv_aload_n hx hb dX3_pairs_184 rfl (lv_at hl 2 rfl) ?_
    refine lv_iload hx hb dX3_pairs_185 (lv_at hl 5 rfl) ?_
    refine lv_iconst (v := 1) hx hb dX3_pairs_187 (by decide) ?_
    refine lv_iadd hx hb dX3_pairs_188 ?_
    refine lv_iload hx hb dX3_pairs_189 (lv_at hl 0 rfl) ?_
    obtain ⟨c7, h⟩ := mif_n h
    refine m_ast hC hP hS j1 hj1 c7 dX3_pairs_191 (fun H locs hP hS => ?_)
    obtain ⟨σ8, eσ8⟩ : ∃ z : MS, z = mArr σ6 j1 (x5 + 1).toNatClampNeg r3 := ⟨_, rfl⟩
    rw [← eσ8] at hP
    have h := mlet_at eσ8 h
    obtain ⟨y9, ey9⟩ : ∃ z : Int32, z = x3 + 1 := ⟨_, rfl⟩
    have h := mlet_at ey9 h
    refine lv_iinc (v := y9) (lv' := [(3, .int y9), (9, .int r3), (0, .ref (mh E)), (1, .ref (mad E j1)), (2, .int x2), (5, .int x5), (8, .int x8)]) hx hb dX3_pairs_192 hl (k := 4) rfl (by rw [ey9]; rfl) (by decide) rfl (fun ls hl => ?_)
    refine lv_aload_n hx hb dX3_pairs_195 rfl (lv_at hl 2 rfl) ?_
    refine m_geti hC hP 6 (by decide) rfl q1899 dX3_pairs_196 ?_
    refine lv_bipush (v := 44) hx hb dX3_pairs_199 (by decide) ?_
    refine lv_icmp_ne (tgt := 208) hx hb dX3_pairs_201 (by decide) (fun c10 => ?_) (fun c10 => ?_)
    · have h := mif_f c10 h
      refine lv_iconst (v := 0) hx hb dX3_pairs_208 (by decide) ?_
      exact w_pairs_209 hC hR N hj1 k16 hk16 σ8 x2 y9 0 h hP hS (lv_sub hl [2, 3, 4, 0] rfl)
    · have h := mif_t c10 h
      refine lv_iconst (v := 1) hx hb dX3_pairs_204 (by decide) ?_
      refine lv_goto (tgt := 209) hx hb dX3_pairs_205 (by decide) ?_
      exact w_pairs_209 hC hR N hj1 k16 hk16 σ8 x2 y9 1 h hP hS (lv_sub hl [2, 3, 4, 0] rfl)
  · have h := mif_f c4 h
    refine lv_iload_n hx hb dX3_pairs_176 rfl (lv_at hl 4 rfl) ?_
    cases h
    exact m_iret hC hP hS dX3_pairs_177
def f_pairs_151 (N : Nat) (j1 : Nat) (k16 : MS → Int32 → Int32 → Int32 → Option (Int32 × MS)) (σ : MS) (x2 : Int32) (x3 : Int32) (x5 : Int32) (x8 : Int32) (s0 : Int32) : Option (Int32 × MS) :=
    if x2 = 0 then
    f_pairs_164 N j1 k16 σ x2 x3 x5 x8 150 s0
    else
    f_pairs_164 N j1 k16 σ x2 x3 x5 x8 300 s0
set_option maxHeartbeats 4000000 in
set_option maxRecDepth 100000 in
theorem w_pairs_151 {p : Program} {l : Launch} {e : Env} {R : Room} {s : State} {m : MethodId} {args : Array Value} {below : List Frame} {meth : Method} {c : Code} {E : mE} {σ' : MS} {r : Int32} (hC : mC p s m args meth c E cX3_pairs 10 (some .int)) (hR : 3 ≤ R.frames ∧ 67 ≤ R.locals) (N : Nat) {j1 : Nat} (hj1 : mInt j1 = true) (k16 : MS → Int32 → Int32 → Int32 → Option (Int32 × MS)) (hk16 : ∀ (σ : MS) (x2 : Int32) (x3 : Int32) (x4 : Int32), k16 σ x2 x3 x4 = some (r, σ') → ∀ (H : Heap) (locs : List Loc), mP E σ H → va_S (mA E s.heap.size) s.heap H locs → ∀ ls : Array Slot, lv_has ls 10 [(0, .ref (mh E)), (1, .ref (mad E j1)), (2, .int x2), (3, .int x3), (4, .int x4)] → W p l e R s m args below meth c H locs 0 0 (MQ below (mQi E s.heap.size r σ') args s 0 0 (mA E s.heap.size)) (F0 m 16 ls [])) (σ : MS) (x2 : Int32) (x3 : Int32) (x5 : Int32) (x8 : Int32) (s0 : Int32) (h : f_pairs_151 N j1 k16 σ x2 x3 x5 x8 s0 = some (r, σ')) {H : Heap} {locs : List Loc} (hP : mP E σ H) (hS : va_S (mA E s.heap.size) s.heap H locs) {ls : Array Slot} (hl : lv_has ls 10 [(0, .ref (mh E)), (1, .ref (mad E j1)), (2, .int x2), (3, .int x3), (5, .int x5), (8, .int x8)]) : W p l e R s m args below meth c H locs 0 0 (MQ below (mQi E s.heap.size r σ') args s 0 0 (mA E s.heap.size)) (F0 m 151 ls [.int s0, .ref (mh E)]) := by
  obtain ⟨⟨hx, hb, hml, hown, hts⟩, hK, hD, hr, hlk⟩ := id hC
  unfold f_pairs_151 at h
  refine lv_iload_n hx hb dX3_pairs_151 rfl (lv_at hl 2 rfl) ?_
  refine lv_if_eq (tgt := 161) hx hb dX3_pairs_152 (by decide) (fun c1 => ?_) (fun c1 => ?_)
  · have h := mif_t c1 h
    refine lv_sipush (v := 150) hx hb dX3_pairs_161 (by decide) ?_
    exact w_pairs_164 hC hR N hj1 k16 hk16 σ x2 x3 x5 x8 150 s0 h hP hS (lv_sub hl [0, 1, 2, 3, 4, 5] rfl)
  · have h := mif_f c1 h
    refine lv_sipush (v := 300) hx hb dX3_pairs_155 (by decide) ?_
    refine lv_goto (tgt := 164) hx hb dX3_pairs_158 (by decide) ?_
    exact w_pairs_164 hC hR N hj1 k16 hk16 σ x2 x3 x5 x8 300 s0 h hP hS (lv_sub hl [0, 1, 2, 3, 4, 5] rfl)
def f_pairs_150 (N : Nat) (j1 : Nat) (k16 : MS → Int32 → Int32 → Int32 → Option (Int32 × MS)) (σ : MS) (x2 : Int32) (x3 : Int32) (x5 : Int32) (x8 : Int32) : Option (Int32 × MS) :=
    f_pairs_151 N j1 k16 σ x2 x3 x5 x8 0
set_option maxHeartbeats 4000000 in
set_option maxRecDepth 100000 in
theorem w_pairs_150 {p : Program} {l : Launch} {e : Env} {R : Room} {s : State} {m : MethodId} {args : Array Value} {below : List Frame} {meth : Method} {c : Code} {E : mE} {σ' : MS} {r : Int32} (hC : mC p s m args meth c E cX3_pairs 10 (some .int)) (hR : 3 ≤ R.frames ∧ 67 ≤ R.locals) (N : Nat) {j1 : Nat} (hj1 : mInt j1 = true) (k16 : MS → Int32 → Int32 → Int32 → Option (Int32 × MS)) (hk16 : ∀ (σ : MS) (x2 : Int32) (x3 : Int32) (x4 : Int32), k16 σ x2 x3 x4 = some (r, σ') → ∀ (H : Heap) (locs : List Loc), mP E σ H → va_S (mA E s.heap.size) s.heap H locs → ∀ ls : Array Slot, lv_has ls 10 [(0, .ref (mh E)), (1, .ref (mad E j1)), (2, .int x2), (3, .int x3), (4, .int x4)] → W p l e R s m args below meth c H locs 0 0 (MQ below (mQi E s.heap.size r σ') args s 0 0 (mA E s.heap.size)) (F0 m 16 ls [])) (σ : MS) (x2 : Int32) (x3 : Int32) (x5 : Int32) (x8 : Int32) (h : f_pairs_150 N j1 k16 σ x2 x3 x5 x8 = some (r, σ')) {H : Heap} {locs : List Loc} (hP : mP E σ H) (hS : va_S (mA E s.heap.size) s.heap H locs) {ls : Array Slot} (hl : lv_has ls 10 [(0, .ref (mh E)), (1, .ref (mad E j1)), (2, .int x2), (3, .int x3), (5, .int x5), (8, .int x8)]) : W p l e R s m args below meth c H locs 0 0 (MQ below (mQi E s.heap.size r σ') args s 0 0 (mA E s.heap.size)) (F0 m 150 ls [.ref (mh E)]) := by
  obtain ⟨⟨hx, hb, hml, hown, hts⟩, hK, hD, hr, hlk⟩ := id hC
  unfold f_pairs_150 at h
  refine lv_iconst (v := 0) hx hb dX3_pairs_150 (by decide) ?_
  exact w_pairs_151 hC hR N hj1 k16 hk16 σ x2 x3 x5 x8 0 h hP hS (lv_sub hl [0, 1, 2, 3, 4, 5] rfl)
def f_pairs_116 (N : Nat) (j1 : Nat) (k16 : MS → Int32 → Int32 → Int32 → Option (Int32 × MS)) (σ : MS) (x2 : Int32) (x3 : Int32) (x5 : Int32) (x8 : Int32) : Option (Int32 × MS) :=
    if x2 = 0 then
    f_pairs_150 N j1 k16 σ x2 x3 x5 x8
    else
    if x3 ≤ 0 then
    f_pairs_150 N j1 k16 σ x2 x3 x5 x8
    else
    if (σ.1 13) = 0 then
    if mIn (((8 * (σ.1 22)) + (2 * x3)) - 1) (mLen j1) = true then mlet (σ.2.1 j1 (((8 * (σ.1 22)) + (2 * x3)) - 1).toNatClampNeg) fun y5 =>
    f_pairs_151 N j1 k16 σ x2 x3 x5 x8 y5
    else none
    else
    f_pairs_150 N j1 k16 σ x2 x3 x5 x8
set_option maxHeartbeats 4000000 in
set_option maxRecDepth 100000 in
theorem w_pairs_116 {p : Program} {l : Launch} {e : Env} {R : Room} {s : State} {m : MethodId} {args : Array Value} {below : List Frame} {meth : Method} {c : Code} {E : mE} {σ' : MS} {r : Int32} (hC : mC p s m args meth c E cX3_pairs 10 (some .int)) (hR : 3 ≤ R.frames ∧ 67 ≤ R.locals) (N : Nat) {j1 : Nat} (hj1 : mInt j1 = true) (k16 : MS → Int32 → Int32 → Int32 → Option (Int32 × MS)) (hk16 : ∀ (σ : MS) (x2 : Int32) (x3 : Int32) (x4 : Int32), k16 σ x2 x3 x4 = some (r, σ') → ∀ (H : Heap) (locs : List Loc), mP E σ H → va_S (mA E s.heap.size) s.heap H locs → ∀ ls : Array Slot, lv_has ls 10 [(0, .ref (mh E)), (1, .ref (mad E j1)), (2, .int x2), (3, .int x3), (4, .int x4)] → W p l e R s m args below meth c H locs 0 0 (MQ below (mQi E s.heap.size r σ') args s 0 0 (mA E s.heap.size)) (F0 m 16 ls [])) (σ : MS) (x2 : Int32) (x3 : Int32) (x5 : Int32) (x8 : Int32) (h : f_pairs_116 N j1 k16 σ x2 x3 x5 x8 = some (r, σ')) {H : Heap} {locs : List Loc} (hP : mP E σ H) (hS : va_S (mA E s.heap.size) s.heap H locs) {ls : Array Slot} (hl : lv_has ls 10 [(0, .ref (mh E)), (1, .ref (mad E j1)), (2, .int x2), (3, .int x3), (5, .int x5), (8, .int x8)]) : W p l e R s m args below meth c H locs 0 0 (MQ below (mQi E s.heap.size r σ') args s 0 0 (mA E s.heap.size)) (F0 m 116 ls []) := by
  obtain ⟨⟨hx, hb, hml, hown, hts⟩, hK, hD, hr, hlk⟩ := id hC
  unfold f_pairs_116 at h
  refine lv_aload_n hx hb dX3_pairs_116 rfl (lv_at hl 0 rfl) ?_
  refine lv_iload_n hx hb dX3_pairs_117 rfl (lv_at hl 2 rfl) ?_
  refine lv_if_eq (tgt := 150) hx hb dX3_pairs_118 (by decide) (fun c1 => ?_) (fun c1 => ?_)
  · have h := mif_t c1 h
    exact w_pairs_150 hC hR N hj1 k16 hk16 σ x2 x3 x5 x8 h hP hS (lv_sub hl [0, 1, 2, 3, 4, 5] rfl)
  · have h := mif_f c1 h
    refine lv_iload_n hx hb dX3_pairs_121 rfl (lv_at hl 3 rfl) ?_
    refine lv_if_le (tgt := 150) hx hb dX3_pairs_122 (by decide) (fun c2 => ?_) (fun c2 => ?_)
    · have h := mif_t c2 h
      exact w_pairs_150 hC hR N hj1 k16 hk16 σ x2 x3 x5 x8 h hP hS (lv_sub hl [0, 1, 2, 3, 4, 5] rfl)
    · have h := mif_f c2 h
      refine lv_aload_n hx hb dX3_pairs_125 rfl (lv_at hl 0 rfl) ?_
      refine m_geti hC hP 13 (by decide) rfl q1906 dX3_pairs_126 ?_
      refine lv_if_ne (tgt := 150) hx hb dX3_pairs_129 (by decide) (fun c3 => ?_) (fun c3 => ?_)
      · have h := mif_f c3 h
        exact w_pairs_150 hC hR N hj1 k16 hk16 σ x2 x3 x5 x8 h hP hS (lv_sub hl [0, 1, 2, 3, 4, 5] rfl)
      · have h := mif_t c3 h
        refine lv_aload_n hx hb dX3_pairs_132 rfl (lv_at hl 1 rfl) ?_
        refine lv_bipush (v := 8) hx hb dX3_pairs_133 (by decide) ?_
        refine lv_aload_n hx hb dX3_pairs_135 rfl (lv_at hl 0 rfl) ?_
        refine m_geti hC hP 22 (by decide) rfl q1915 dX3_pairs_136 ?_
        refine lv_imul hx hb dX3_pairs_139 ?_
        refine lv_iconst (v := 2) hx hb dX3_pairs_140 (by decide) ?_
        refine lv_iload_n hx hb dX3_pairs_141 rfl (lv_at hl 3 rfl) ?_
        refine lv_imul hx hb dX3_pairs_142 ?_
        refine lv_iadd hx hb dX3_pairs_143 ?_
        refine lv_iconst (v := 1) hx hb dX3_pairs_144 (by decide) ?_
        refine lv_isub hx hb dX3_pairs_145 ?_
        obtain ⟨c4, h⟩ := mif_n h
        refine m_ald hC hP j1 hj1 c4 dX3_pairs_146 ?_
        refine lv_topi (fun y5 ey5 => ?_)
        have h := mlet_at ey5 h
        refine lv_goto (tgt := 151) hx hb dX3_pairs_147 (by decide) ?_
        exact w_pairs_151 hC hR N hj1 k16 hk16 σ x2 x3 x5 x8 y5 h hP hS (lv_sub hl [0, 1, 2, 3, 4, 5] rfl)
def f_pairs_91 (N : Nat) (j1 : Nat) (k16 : MS → Int32 → Int32 → Int32 → Option (Int32 × MS)) (σ : MS) (x2 : Int32) (x3 : Int32) (x5 : Int32) (x7 : Int32) (s0 : Int32) (s1 : Int32) : Option (Int32 × MS) :=
    mcall (f_number N σ s1 s0) fun r3 σ1 =>
    if (σ1.1 13) = 0 then
    if x3 = 4 then
    mcall (f_wrong N σ1 5 x7) fun r8 σ6 =>
    f_pairs_116 N j1 k16 σ6 x2 x3 x5 r3
    else
    f_pairs_116 N j1 k16 σ1 x2 x3 x5 r3
    else
    f_pairs_116 N j1 k16 σ1 x2 x3 x5 r3
set_option maxHeartbeats 4000000 in
set_option maxRecDepth 100000 in
theorem w_pairs_91 {p : Program} {l : Launch} {e : Env} {R : Room} {s : State} {m : MethodId} {args : Array Value} {below : List Frame} {meth : Method} {c : Code} {E : mE} {σ' : MS} {r : Int32} (hC : mC p s m args meth c E cX3_pairs 10 (some .int)) (hR : 3 ≤ R.frames ∧ 67 ≤ R.locals) (N : Nat) {j1 : Nat} (hj1 : mInt j1 = true) (k16 : MS → Int32 → Int32 → Int32 → Option (Int32 × MS)) (hk16 : ∀ (σ : MS) (x2 : Int32) (x3 : Int32) (x4 : Int32), k16 σ x2 x3 x4 = some (r, σ') → ∀ (H : Heap) (locs : List Loc), mP E σ H → va_S (mA E s.heap.size) s.heap H locs → ∀ ls : Array Slot, lv_has ls 10 [(0, .ref (mh E)), (1, .ref (mad E j1)), (2, .int x2), (3, .int x3), (4, .int x4)] → W p l e R s m args below meth c H locs 0 0 (MQ below (mQi E s.heap.size r σ') args s 0 0 (mA E s.heap.size)) (F0 m 16 ls [])) (σ : MS) (x2 : Int32) (x3 : Int32) (x5 : Int32) (x7 : Int32) (s0 : Int32) (s1 : Int32) (h : f_pairs_91 N j1 k16 σ x2 x3 x5 x7 s0 s1 = some (r, σ')) {H : Heap} {locs : List Loc} (hP : mP E σ H) (hS : va_S (mA E s.heap.size) s.heap H locs) {ls : Array Slot} (hl : lv_has ls 10 [(0, .ref (mh E)), (1, .ref (mad E j1)), (2, .int x2), (3, .int x3), (5, .int x5), (7, .int x7)]) : W p l e R s m args below meth c H locs 0 0 (MQ below (mQi E s.heap.size r σ') args s 0 0 (mA E s.heap.size)) (F0 m 91 ls [.int s0, .int s1, .ref (mh E)]) := by
  obtain ⟨⟨hx, hb, hml, hown, hts⟩, hK, hD, hr, hlk⟩ := id hC
  unfold f_pairs_91 at h
  obtain ⟨r3, σ1, c2, h⟩ := mcall_n h
  refine m_calli (As := [.int s1, .int s0]) (rest := []) hC (met_number l N E H.size σ s1 s0 r3 σ1 c2) (cwV 2 hts (lw_V q2213 q2215 qs55 q103 q2216) rfl rfl rfl (by decide +kernel) ⟨Nat.le_trans (Nat.le_of_ble_eq_true rfl) hR.1, Nat.le_trans (Nat.le_of_ble_eq_true rfl) hR.2⟩) hP hS rfl hl.1 rfl (Nat.le_of_ble_eq_true rfl) dX3_pairs_91 (fun H locs hP hS => ?_)
  refine lv_istore (lv' := [(8, .int r3), (0, .ref (mh E)), (1, .ref (mad E j1)), (2, .int x2), (3, .int x3), (5, .int x5), (7, .int x7)]) hx hb dX3_pairs_94 hl (by decide) rfl (fun ls hl => ?_)
  refine lv_aload_n hx hb dX3_pairs_96 rfl (lv_at hl 1 rfl) ?_
  refine m_geti hC hP 13 (by decide) rfl q1906 dX3_pairs_97 ?_
  refine lv_if_ne (tgt := 116) hx hb dX3_pairs_100 (by decide) (fun c4 => ?_) (fun c4 => ?_)
  · have h := mif_f c4 h
    exact w_pairs_116 hC hR N hj1 k16 hk16 σ1 x2 x3 x5 r3 h hP hS (lv_sub hl [1, 2, 3, 4, 5, 0] rfl)
  · have h := mif_t c4 h
    refine lv_iload_n hx hb dX3_pairs_103 rfl (lv_at hl 4 rfl) ?_
    refine lv_iconst (v := 4) hx hb dX3_pairs_104 (by decide) ?_
    refine lv_icmp_ne (tgt := 116) hx hb dX3_pairs_105 (by decide) (fun c5 => ?_) (fun c5 => ?_)
    · have h := mif_f c5 h
      exact w_pairs_116 hC hR N hj1 k16 hk16 σ1 x2 x3 x5 r3 h hP hS (lv_sub hl [1, 2, 3, 4, 5, 0] rfl)
    · have h := mif_t c5 h
      refine lv_aload_n hx hb dX3_pairs_108 rfl (lv_at hl 1 rfl) ?_
      refine lv_iconst (v := 5) hx hb dX3_pairs_109 (by decide) ?_
      refine lv_iload hx hb dX3_pairs_110 (lv_at hl 6 rfl) ?_
      obtain ⟨r8, σ6, c7, h⟩ := mcall_n h
      refine m_calli (As := [.int 5, .int x7]) (rest := []) hC (met_wrong l N E H.size σ1 5 x7 r8 σ6 c7) (cwV 2 hts (lw_V q2196 q2198 qs51 q103 q2199) rfl rfl rfl (by decide +kernel) ⟨Nat.le_trans (Nat.le_of_ble_eq_true rfl) hR.1, Nat.le_trans (Nat.le_of_ble_eq_true rfl) hR.2⟩) hP hS rfl hl.1 rfl (Nat.le_of_ble_eq_true rfl) dX3_pairs_112 (fun H locs hP hS => ?_)
      refine lv_pop hx hb dX3_pairs_115 rfl ?_
      exact w_pairs_116 hC hR N hj1 k16 hk16 σ6 x2 x3 x5 r3 h hP hS (lv_sub hl [1, 2, 3, 4, 5, 0] rfl)
def f_pairs_68 (N : Nat) (j1 : Nat) (k16 : MS → Int32 → Int32 → Int32 → Option (Int32 × MS)) (σ : MS) (x2 : Int32) (x3 : Int32) (x5 : Int32) (s0 : Int32) : Option (Int32 × MS) :=
    mlet (σ.1 4) fun y1 =>
    if x2 = 0 then
    f_pairs_91 N j1 k16 σ x2 x3 x5 y1 90 s0
    else
    f_pairs_91 N j1 k16 σ x2 x3 x5 y1 999 s0
set_option maxHeartbeats 4000000 in
set_option maxRecDepth 100000 in
theorem w_pairs_68 {p : Program} {l : Launch} {e : Env} {R : Room} {s : State} {m : MethodId} {args : Array Value} {below : List Frame} {meth : Method} {c : Code} {E : mE} {σ' : MS} {r : Int32} (hC : mC p s m args meth c E cX3_pairs 10 (some .int)) (hR : 3 ≤ R.frames ∧ 67 ≤ R.locals) (N : Nat) {j1 : Nat} (hj1 : mInt j1 = true) (k16 : MS → Int32 → Int32 → Int32 → Option (Int32 × MS)) (hk16 : ∀ (σ : MS) (x2 : Int32) (x3 : Int32) (x4 : Int32), k16 σ x2 x3 x4 = some (r, σ') → ∀ (H : Heap) (locs : List Loc), mP E σ H → va_S (mA E s.heap.size) s.heap H locs → ∀ ls : Array Slot, lv_has ls 10 [(0, .ref (mh E)), (1, .ref (mad E j1)), (2, .int x2), (3, .int x3), (4, .int x4)] → W p l e R s m args below meth c H locs 0 0 (MQ below (mQi E s.heap.size r σ') args s 0 0 (mA E s.heap.size)) (F0 m 16 ls [])) (σ : MS) (x2 : Int32) (x3 : Int32) (x5 : Int32) (s0 : Int32) (h : f_pairs_68 N j1 k16 σ x2 x3 x5 s0 = some (r, σ')) {H : Heap} {locs : List Loc} (hP : mP E σ H) (hS : va_S (mA E s.heap.size) s.heap H locs) {ls : Array Slot} (hl : lv_has ls 10 [(0, .ref (mh E)), (1, .ref (mad E j1)), (2, .int x2), (3, .int x3), (5, .int x5)]) : W p l e R s m args below meth c H locs 0 0 (MQ below (mQi E s.heap.size r σ') args s 0 0 (mA E s.heap.size)) (F0 m 68 ls [.int s0]) := by
  obtain ⟨⟨hx, hb, hml, hown, hts⟩, hK, hD, hr, hlk⟩ := id hC
  unfold f_pairs_68 at h
  refine lv_istore (lv' := [(6, .int s0), (0, .ref (mh E)), (1, .ref (mad E j1)), (2, .int x2), (3, .int x3), (5, .int x5)]) hx hb dX3_pairs_68 hl (by decide) rfl (fun ls hl => ?_)
  refine lv_aload_n hx hb dX3_pairs_70 rfl (lv_at hl 1 rfl) ?_
  refine m_geti hC hP 4 (by decide) rfl q1897 dX3_pairs_71 ?_
  refine lv_topi (fun y1 ey1 => ?_)
  have h := mlet_at ey1 h
  refine lv_istore (lv' := [(7, .int y1), (6, .int s0), (0, .ref (mh E)), (1, .ref (mad E j1)), (2, .int x2), (3, .int x3), (5, .int x5)]) hx hb dX3_pairs_74 hl (by decide) rfl (fun ls hl => ?_)
  refine lv_aload_n hx hb dX3_pairs_76 rfl (lv_at hl 2 rfl) ?_
  refine lv_iload hx hb dX3_pairs_77 (lv_at hl 1 rfl) ?_
  refine lv_iload_n hx hb dX3_pairs_79 rfl (lv_at hl 4 rfl) ?_
  refine lv_if_eq (tgt := 89) hx hb dX3_pairs_80 (by decide) (fun c2 => ?_) (fun c2 => ?_)
  · have h := mif_t c2 h
    refine lv_bipush (v := 90) hx hb dX3_pairs_89 (by decide) ?_
    exact w_pairs_91 hC hR N hj1 k16 hk16 σ x2 x3 x5 y1 90 s0 h hP hS (lv_sub hl [2, 3, 4, 5, 6, 0] rfl)
  · have h := mif_f c2 h
    refine lv_sipush (v := 999) hx hb dX3_pairs_83 (by decide) ?_
    refine lv_goto (tgt := 91) hx hb dX3_pairs_86 (by decide) ?_
    exact w_pairs_91 hC hR N hj1 k16 hk16 σ x2 x3 x5 y1 999 s0 h hP hS (lv_sub hl [2, 3, 4, 5, 6, 0] rfl)
def f_pairs_39 (N : Nat) (j1 : Nat) (k16 : MS → Int32 → Int32 → Int32 → Option (Int32 × MS)) (σ : MS) (x2 : Int32) (x3 : Int32) (s0 : Int32) (s1 : Int32) (s2 : Int32) : Option (Int32 × MS) :=
    mlet (s2 + (s1 * s0)) fun y1 =>
    if x3 = 0 then
    f_pairs_68 N j1 k16 σ x2 x3 y1 0
    else
    if mIn (((8 * (σ.1 22)) + (2 * x3)) - 2) (mLen j1) = true then mlet (σ.2.1 j1 (((8 * (σ.1 22)) + (2 * x3)) - 2).toNatClampNeg) fun y4 =>
    f_pairs_68 N j1 k16 σ x2 x3 y1 (y4 + 1)
    else none
set_option maxHeartbeats 4000000 in
set_option maxRecDepth 100000 in
theorem w_pairs_39 {p : Program} {l : Launch} {e : Env} {R : Room} {s : State} {m : MethodId} {args : Array Value} {below : List Frame} {meth : Method} {c : Code} {E : mE} {σ' : MS} {r : Int32} (hC : mC p s m args meth c E cX3_pairs 10 (some .int)) (hR : 3 ≤ R.frames ∧ 67 ≤ R.locals) (N : Nat) {j1 : Nat} (hj1 : mInt j1 = true) (k16 : MS → Int32 → Int32 → Int32 → Option (Int32 × MS)) (hk16 : ∀ (σ : MS) (x2 : Int32) (x3 : Int32) (x4 : Int32), k16 σ x2 x3 x4 = some (r, σ') → ∀ (H : Heap) (locs : List Loc), mP E σ H → va_S (mA E s.heap.size) s.heap H locs → ∀ ls : Array Slot, lv_has ls 10 [(0, .ref (mh E)), (1, .ref (mad E j1)), (2, .int x2), (3, .int x3), (4, .int x4)] → W p l e R s m args below meth c H locs 0 0 (MQ below (mQi E s.heap.size r σ') args s 0 0 (mA E s.heap.size)) (F0 m 16 ls [])) (σ : MS) (x2 : Int32) (x3 : Int32) (s0 : Int32) (s1 : Int32) (s2 : Int32) (h : f_pairs_39 N j1 k16 σ x2 x3 s0 s1 s2 = some (r, σ')) {H : Heap} {locs : List Loc} (hP : mP E σ H) (hS : va_S (mA E s.heap.size) s.heap H locs) {ls : Array Slot} (hl : lv_has ls 10 [(0, .ref (mh E)), (1, .ref (mad E j1)), (2, .int x2), (3, .int x3)]) : W p l e R s m args below meth c H locs 0 0 (MQ below (mQi E s.heap.size r σ') args s 0 0 (mA E s.heap.size)) (F0 m 39 ls [.int s0, .int s1, .int s2]) := by
  obtain ⟨⟨hx, hb, hml, hown, hts⟩, hK, hD, hr, hlk⟩ := id hC
  unfold f_pairs_39 at h
  refine lv_imul hx hb dX3_pairs_39 ?_
  refine lv_iadd hx hb dX3_pairs_40 ?_
  refine lv_topi (fun y1 ey1 => ?_)
  have h := mlet_at ey1 h
  refine lv_istore (lv' := [(5, .int y1), (0, .ref (mh E)), (1, .ref (mad E j1)), (2, .int x2), (3, .int x3)]) hx hb dX3_pairs_41 hl (by decide) rfl (fun ls hl => ?_)
  refine lv_iload_n hx hb dX3_pairs_43 rfl (lv_at hl 4 rfl) ?_
  refine lv_if_ne (tgt := 51) hx hb dX3_pairs_44 (by decide) (fun c2 => ?_) (fun c2 => ?_)
  · have h := mif_f c2 h
    refine lv_aload_n hx hb dX3_pairs_51 rfl (lv_at hl 2 rfl) ?_
    refine lv_bipush (v := 8) hx hb dX3_pairs_52 (by decide) ?_
    refine lv_aload_n hx hb dX3_pairs_54 rfl (lv_at hl 1 rfl) ?_
    refine m_geti hC hP 22 (by decide) rfl q1915 dX3_pairs_55 ?_
    refine lv_imul hx hb dX3_pairs_58 ?_
    refine lv_iconst (v := 2) hx hb dX3_pairs_59 (by decide) ?_
    refine lv_iload_n hx hb dX3_pairs_60 rfl (lv_at hl 4 rfl) ?_
    refine lv_imul hx hb dX3_pairs_61 ?_
    refine lv_iadd hx hb dX3_pairs_62 ?_
    refine lv_iconst (v := 2) hx hb dX3_pairs_63 (by decide) ?_
    refine lv_isub hx hb dX3_pairs_64 ?_
    obtain ⟨c3, h⟩ := mif_n h
    refine m_ald hC hP j1 hj1 c3 dX3_pairs_65 ?_
    refine lv_topi (fun y4 ey4 => ?_)
    have h := mlet_at ey4 h
    refine lv_iconst (v := 1) hx hb dX3_pairs_66 (by decide) ?_
    refine lv_iadd hx hb dX3_pairs_67 ?_
    exact w_pairs_68 hC hR N hj1 k16 hk16 σ x2 x3 y1 (y4 + 1) h hP hS (lv_sub hl [1, 2, 3, 4, 0] rfl)
  · have h := mif_t c2 h
    refine lv_iconst (v := 0) hx hb dX3_pairs_47 (by decide) ?_
    refine lv_goto (tgt := 68) hx hb dX3_pairs_48 (by decide) ?_
    exact w_pairs_68 hC hR N hj1 k16 hk16 σ x2 x3 y1 0 h hP hS (lv_sub hl [1, 2, 3, 4, 0] rfl)
def f_pairs_16 (N : Nat) (j1 : Nat) : Nat → MS → Int32 → Int32 → Int32 → Option (Int32 × MS)
  | 0, _, _, _, _ => none
  | n + 1, σ, x2, x3, x4 =>
    if x4 = 0 then
    some (x3, σ)
    else
    if 4 ≤ x3 then
    f_pairs_39 N j1 (f_pairs_16 N j1 n) σ x2 x3 3 2 (8 * (σ.1 22))
    else
    f_pairs_39 N j1 (f_pairs_16 N j1 n) σ x2 x3 x3 2 (8 * (σ.1 22))
set_option maxHeartbeats 4000000 in
set_option maxRecDepth 100000 in
theorem w_pairs_16 {p : Program} {l : Launch} {e : Env} {R : Room} {s : State} {m : MethodId} {args : Array Value} {below : List Frame} {meth : Method} {c : Code} {E : mE} {σ' : MS} {r : Int32} (hC : mC p s m args meth c E cX3_pairs 10 (some .int)) (hR : 3 ≤ R.frames ∧ 67 ≤ R.locals) (N : Nat) {j1 : Nat} (hj1 : mInt j1 = true) : ∀ (n : Nat) (σ : MS) (x2 : Int32) (x3 : Int32) (x4 : Int32), f_pairs_16 N j1 n σ x2 x3 x4 = some (r, σ') → ∀ (H : Heap) (locs : List Loc), mP E σ H → va_S (mA E s.heap.size) s.heap H locs → ∀ ls : Array Slot, lv_has ls 10 [(0, .ref (mh E)), (1, .ref (mad E j1)), (2, .int x2), (3, .int x3), (4, .int x4)] → W p l e R s m args below meth c H locs 0 0 (MQ below (mQi E s.heap.size r σ') args s 0 0 (mA E s.heap.size)) (F0 m 16 ls []) := by
  obtain ⟨⟨hx, hb, hml, hown, hts⟩, hK, hD, hr, hlk⟩ := id hC
  intro n
  induction n with
  | zero =>
    intro σ x2 x3 x4 h
    cases h
  | succ n ih =>
    intro σ x2 x3 x4 h H locs hP hS ls hl
    unfold f_pairs_16 at h
    refine lv_iload hx hb dX3_pairs_16 (lv_at hl 4 rfl) ?_
    refine lv_if_eq (tgt := 223) hx hb dX3_pairs_18 (by decide) (fun c1 => ?_) (fun c1 => ?_)
    · have h := mif_t c1 h
      refine lv_iload_n hx hb dX3_pairs_223 rfl (lv_at hl 3 rfl) ?_
      cases h
      exact m_iret hC hP hS dX3_pairs_224
    · have h := mif_f c1 h
      refine lv_bipush (v := 8) hx hb dX3_pairs_21 (by decide) ?_
      refine lv_aload_n hx hb dX3_pairs_23 rfl (lv_at hl 0 rfl) ?_
      refine m_geti hC hP 22 (by decide) rfl q1915 dX3_pairs_24 ?_
      refine lv_imul hx hb dX3_pairs_27 ?_
      refine lv_iconst (v := 2) hx hb dX3_pairs_28 (by decide) ?_
      refine lv_iload_n hx hb dX3_pairs_29 rfl (lv_at hl 3 rfl) ?_
      refine lv_iconst (v := 4) hx hb dX3_pairs_30 (by decide) ?_
      refine lv_icmp_ge (tgt := 38) hx hb dX3_pairs_31 (by decide) (fun c2 => ?_) (fun c2 => ?_)
      · have h := mif_t c2 h
        refine lv_iconst (v := 3) hx hb dX3_pairs_38 (by decide) ?_
        exact w_pairs_39 hC hR N hj1 (f_pairs_16 N j1 n) ih σ x2 x3 3 2 (8 * (σ.1 22)) h hP hS (lv_sub hl [0, 1, 2, 3] rfl)
      · have h := mif_f c2 h
        refine lv_iload_n hx hb dX3_pairs_34 rfl (lv_at hl 3 rfl) ?_
        refine lv_goto (tgt := 39) hx hb dX3_pairs_35 (by decide) ?_
        exact w_pairs_39 hC hR N hj1 (f_pairs_16 N j1 n) ih σ x2 x3 x3 2 (8 * (σ.1 22)) h hP hS (lv_sub hl [0, 1, 2, 3] rfl)
def f_pairs_14 (N : Nat) (j1 : Nat) (σ : MS) (x2 : Int32) (x3 : Int32) (s0 : Int32) : Option (Int32 × MS) :=
    f_pairs_16 N j1 N σ x2 x3 s0
set_option maxHeartbeats 4000000 in
set_option maxRecDepth 100000 in
theorem w_pairs_14 {p : Program} {l : Launch} {e : Env} {R : Room} {s : State} {m : MethodId} {args : Array Value} {below : List Frame} {meth : Method} {c : Code} {E : mE} {σ' : MS} {r : Int32} (hC : mC p s m args meth c E cX3_pairs 10 (some .int)) (hR : 3 ≤ R.frames ∧ 67 ≤ R.locals) (N : Nat) {j1 : Nat} (hj1 : mInt j1 = true) (σ : MS) (x2 : Int32) (x3 : Int32) (s0 : Int32) (h : f_pairs_14 N j1 σ x2 x3 s0 = some (r, σ')) {H : Heap} {locs : List Loc} (hP : mP E σ H) (hS : va_S (mA E s.heap.size) s.heap H locs) {ls : Array Slot} (hl : lv_has ls 10 [(0, .ref (mh E)), (1, .ref (mad E j1)), (2, .int x2), (3, .int x3)]) : W p l e R s m args below meth c H locs 0 0 (MQ below (mQi E s.heap.size r σ') args s 0 0 (mA E s.heap.size)) (F0 m 14 ls [.int s0]) := by
  obtain ⟨⟨hx, hb, hml, hown, hts⟩, hK, hD, hr, hlk⟩ := id hC
  unfold f_pairs_14 at h
  refine lv_istore (lv' := [(4, .int s0), (0, .ref (mh E)), (1, .ref (mad E j1)), (2, .int x2), (3, .int x3)]) hx hb dX3_pairs_14 hl (by decide) rfl (fun ls hl => ?_)
  exact w_pairs_16 hC hR N hj1 N σ x2 x3 s0 h _ _ hP hS _ (lv_sub hl [1, 2, 3, 4, 0] rfl)
def f_pairs (N : Nat) (j1 : Nat) (σ : MS) (x2 : Int32) : Option (Int32 × MS) :=
    if (σ.1 13) = 0 then
    f_pairs_14 N j1 σ x2 0 1
    else
    f_pairs_14 N j1 σ x2 0 0
set_option maxHeartbeats 4000000 in
set_option maxRecDepth 100000 in
theorem w_pairs_0 {p : Program} {l : Launch} {e : Env} {R : Room} {s : State} {m : MethodId} {args : Array Value} {below : List Frame} {meth : Method} {c : Code} {E : mE} {σ' : MS} {r : Int32} (hC : mC p s m args meth c E cX3_pairs 10 (some .int)) (hR : 3 ≤ R.frames ∧ 67 ≤ R.locals) (N : Nat) {j1 : Nat} (hj1 : mInt j1 = true) (σ : MS) (x2 : Int32) (h : f_pairs N j1 σ x2 = some (r, σ')) {H : Heap} {locs : List Loc} (hP : mP E σ H) (hS : va_S (mA E s.heap.size) s.heap H locs) {ls : Array Slot} (hl : lv_has ls 10 [(0, .ref (mh E)), (1, .ref (mad E j1)), (2, .int x2)]) : W p l e R s m args below meth c H locs 0 0 (MQ below (mQi E s.heap.size r σ') args s 0 0 (mA E s.heap.size)) (F0 m 0 ls []) := by
  obtain ⟨⟨hx, hb, hml, hown, hts⟩, hK, hD, hr, hlk⟩ := id hC
  unfold f_pairs at h
  refine lv_iconst (v := 0) hx hb dX3_pairs_0 (by decide) ?_
  refine lv_istore_n (lv' := [(3, .int 0), (0, .ref (mh E)), (1, .ref (mad E j1)), (2, .int x2)]) hx hb dX3_pairs_1 rfl hl (by decide) rfl (fun ls hl => ?_)
  refine lv_aload_n hx hb dX3_pairs_2 rfl (lv_at hl 1 rfl) ?_
  refine m_geti hC hP 13 (by decide) rfl q1906 dX3_pairs_3 ?_
  refine lv_if_ne (tgt := 13) hx hb dX3_pairs_6 (by decide) (fun c1 => ?_) (fun c1 => ?_)
  · have h := mif_f c1 h
    refine lv_iconst (v := 0) hx hb dX3_pairs_13 (by decide) ?_
    exact w_pairs_14 hC hR N hj1 σ x2 0 0 h hP hS (lv_sub hl [1, 2, 3, 0] rfl)
  · have h := mif_t c1 h
    refine lv_iconst (v := 1) hx hb dX3_pairs_9 (by decide) ?_
    refine lv_goto (tgt := 14) hx hb dX3_pairs_10 (by decide) ?_
    exact w_pairs_14 hC hR N hj1 σ x2 0 1 h hP hS (lv_sub hl [1, 2, 3, 0] rfl)
theorem met_pairs (l : Launch) (N : Nat) (E : mE) (sz : Nat) (σ : MS) {j1 : Nat} (hj1 : mInt j1 = true) (x2 : Int32) (r : Int32) (σ' : MS) (h : f_pairs N j1 σ x2 = some (r, σ')) : Met l yX3_pairs (ws_ yX3_pairs cX3_pairs 10 (some .int)) ({ frames := 3, cells := 0, slots := 0, locals := 67 }) (mPc E sz σ [.ref (mh E), .ref (mad E j1), .int x2]) (mQi E sz r σ') 0 0 (mA E sz) :=
  m_met (Qc := fun z => mQi E z r σ') (by decide) rfl (Nat.le_of_ble_eq_true rfl) (fun hC ls hl hP => w_pairs_0 hC ⟨Nat.le_refl _, Nat.le_refl _⟩ N hj1 σ x2 h hP va_S.rf hl)

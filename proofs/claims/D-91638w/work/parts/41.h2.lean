/-! BY gen_heap.py: J0_init J1_init J10_fill_3 J12_checkIndex J16_checkIndex J17_init J19_numberOfTrailingZeros J2_elementData J2_get J2_init J9_max_2 X1_isCell X1_areCells -/
def f_J0_init (N b : Nat) (g : uEnv) (u : UH) (a0 : Nat) : Option (UH) :=
    some u
set_option maxHeartbeats 4000000 in
set_option maxRecDepth 100000 in
theorem zz_J0_init_0 {G : uG} {a0 : Nat} {uf : UH} (N : Nat) (u : UH) (h : f_J0_init N (ub G) (ug G) u a0 = some uf) : uf.1 = u.1 ∧ uf.2.1 = u.2.1 := by
  unfold f_J0_init at h
  cases h
  exact ⟨by omega, by omega⟩
set_option maxHeartbeats 4000000 in
set_option maxRecDepth 100000 in
theorem w_J0_init_0 {p : Program} {l : Launch} {e : Env} {R : Room} {s : State} {m : MethodId} {args : Array Value} {below : List Frame} {meth : Method} {c : Code} {G : uG} {a0 : Nat} {uf : UH} (hC : uC p s m args meth c G RJ0 cJ0_init 1 none) (hI : meth.name = "<init>") (hR : 1 ≤ R.frames ∧ 20 ≤ R.locals) (N : Nat) (u : UH) (h : f_J0_init N (ub G) (ug G) u a0 = some uf) {H : Heap} {locs : List Loc} (hP : uP G u H) (hS : va_S (uA G) s.heap H locs) {ls : Array Slot} (hl : lv_has ls 1 [(0, va_rf (some a0))]) : W p l e R s m args below meth c H locs 0 0 (MQ below (uQv G uf) args s 0 0 (uA G)) (F0 m 0 ls []) := by
  obtain ⟨⟨hx, hb, hml, hown, hts⟩, hKK⟩ := id hC
  unfold f_J0_init at h
  refine u_aload_n (r := some a0) hx hb dJ0_init_0 rfl (lv_at hl 0 rfl) ?_
  refine W.objInit hx hb hown (hts _ q200) (hts _ q148) (hts _ q149) rfl (by rw [hml]; exact hl.1) rfl dJ0_init_1 (Nat.le_trans (Nat.le_of_ble_eq_true rfl) hR.1) (Nat.le_trans (Nat.le_of_ble_eq_true rfl) hR.2) ?_
  refine W.eq (g2 := F0 m 4 ls []) rfl ?_
  cases h
  exact u_vret hC hP hS dJ0_init_4
theorem zz_J0_init (N b : Nat) (g : uEnv) (u : UH) (a0 : Nat) (uf : UH) (h : f_J0_init N b g u a0 = some uf) : uf.1 = u.1 ∧ uf.2.1 = u.2.1 :=
  zz_J0_init_0 (G := ((fun _ => 0, fun _ _ => 0), fun _ => 0, b, g)) (a0 := a0) N u h
theorem met_J0_init (l : Launch) (N : Nat) (G : uG) (u : UH) (a0 : Nat) (uf : UH) (h : f_J0_init N (ub G) (ug G) u a0 = some uf) : Met l yJ0_init (ws_ yJ0_init cJ0_init 1 none) ({ frames := 1, cells := 0, slots := 0, locals := 20 }) (uPc G u [.ref a0]) (uQv G uf) 0 0 (uA G) := by
  exact u_met (own := RJ0) (by decide +kernel) rfl (Nat.le_of_ble_eq_true rfl) (fun hC hn hsz ls hl hP => w_J0_init_0 hC hn ⟨Nat.le_refl _, Nat.le_refl _⟩ N u h hP va_S.rf hl)
def f_J1_init (N b : Nat) (g : uEnv) (u : UH) (a0 : Nat) : Option (UH) :=
    (f_J0_init N b g u a0).bind fun u1 =>
    (uPut b u1 a0 18 0 (.int 0)).bind fun u3 =>
    some u3
set_option maxHeartbeats 4000000 in
set_option maxRecDepth 100000 in
theorem zz_J1_init_0 {G : uG} {a0 : Nat} {uf : UH} (N : Nat) (u : UH) (h : f_J1_init N (ub G) (ug G) u a0 = some uf) : uf.1 = u.1 ∧ uf.2.1 = u.2.1 := by
  unfold f_J1_init at h
  obtain ⟨u1, c2, h⟩ := mbind_n h
  have zu1 := zz_J0_init N (ub G) (ug G) u a0 u1 c2
  obtain ⟨u3, hu3, h⟩ := mbind_n h
  have zu3 := uPut_sz hu3
  cases h
  exact ⟨by omega, by omega⟩
set_option maxHeartbeats 4000000 in
set_option maxRecDepth 100000 in
theorem w_J1_init_0 {p : Program} {l : Launch} {e : Env} {R : Room} {s : State} {m : MethodId} {args : Array Value} {below : List Frame} {meth : Method} {c : Code} {G : uG} {a0 : Nat} {uf : UH} (hC : uC p s m args meth c G RJ1 cJ1_init 1 none) (hI : meth.name = "<init>") (hR : 2 ≤ R.frames ∧ 40 ≤ R.locals) (N : Nat) (u : UH) (h : f_J1_init N (ub G) (ug G) u a0 = some uf) {H : Heap} {locs : List Loc} (hP : uP G u H) (hS : va_S (uA G) s.heap H locs) {ls : Array Slot} (hl : lv_has ls 1 [(0, va_rf (some a0))]) : W p l e R s m args below meth c H locs 0 0 (MQ below (uQv G uf) args s 0 0 (uA G)) (F0 m 0 ls []) := by
  obtain ⟨⟨hx, hb, hml, hown, hts⟩, hKK⟩ := id hC
  unfold f_J1_init at h
  refine u_aload_n (r := some a0) hx hb dJ1_init_0 rfl (lv_at hl 0 rfl) ?_
  obtain ⟨u1, c2, h⟩ := mbind_n h
  have zu1 := zz_J0_init N (ub G) (ug G) u a0 u1 c2
  refine u_callv (va_runI (As := []) (rest := []) hC.1 (met_J0_init l N G u a0 u1 c2) (cwI 0 hts (lw_meth q199) rfl rfl rfl (hts _ q100) (hts _ q197) (hts _ q198) rfl (by decide +kernel) ⟨Nat.le_trans (Nat.le_of_ble_eq_true rfl) hR.1, Nat.le_trans (Nat.le_of_ble_eq_true rfl) hR.2⟩) ⟨uPc_blind, fun U hU hW => u_pre hC hP hS hU hW⟩ rfl rfl hl.1 rfl (lv_room (Nat.le_of_ble_eq_true rfl)) dJ1_init_1 ⟨Nat.zero_le _, Nat.zero_le _⟩) hS (fun H locs hP hS => ?_)
  refine u_aload_n (r := some a0) hx hb dJ1_init_4 rfl (lv_at hl 0 rfl) ?_
  refine lv_iconst (v := 0) hx hb dJ1_init_5 (by decide) ?_
  obtain ⟨u3, hu3, h⟩ := mbind_n h
  have zu3 := uPut_sz hu3
  refine u_put hC hP hS hu3 rfl in_J2 tyJ2 tyJ2_ok nmJ2 (by decide) q205 (fun _ h => h) rfl (ty := .int) (tyJ2_ok 0 (by decide)) rfl rfl dJ1_init_6 (fun H locs hP hS => ?_)
  cases h
  exact u_vret hC hP hS dJ1_init_9
theorem zz_J1_init (N b : Nat) (g : uEnv) (u : UH) (a0 : Nat) (uf : UH) (h : f_J1_init N b g u a0 = some uf) : uf.1 = u.1 ∧ uf.2.1 = u.2.1 :=
  zz_J1_init_0 (G := ((fun _ => 0, fun _ _ => 0), fun _ => 0, b, g)) (a0 := a0) N u h
theorem met_J1_init (l : Launch) (N : Nat) (G : uG) (u : UH) (a0 : Nat) (uf : UH) (h : f_J1_init N (ub G) (ug G) u a0 = some uf) : Met l yJ1_init (ws_ yJ1_init cJ1_init 1 none) ({ frames := 2, cells := 0, slots := 0, locals := 40 }) (uPc G u [.ref a0]) (uQv G uf) 0 0 (uA G) := by
  exact u_met (own := RJ1) (by decide +kernel) rfl (Nat.le_of_ble_eq_true rfl) (fun hC hn hsz ls hl hP => w_J1_init_0 hC hn ⟨Nat.le_refl _, Nat.le_refl _⟩ N u h hP va_S.rf hl)
def f_J10_fill_3_6 (N b : Nat) (g : uEnv) : Nat → UH → Option Nat → Int64 → Int32 → Int32 → Option (UH)
  | 0, _, _, _, _, _ => none
  | n + 1, u, x0, x1, x3, x4 =>
    if x4 ≤ x3 then
    some u
    else
    (x0).bind fun a2 =>
    (uStL b u a2 3 x3 x1).bind fun u3 =>
    mlet (x3 + 1) fun y4 =>
    f_J10_fill_3_6 N b g n u3 (some a2) x1 y4 x4
set_option maxHeartbeats 4000000 in
set_option maxRecDepth 100000 in
theorem zz_J10_fill_3_6 {G : uG} {uf : UH} (N : Nat) : ∀ (n : Nat) (u : UH) (x0 : Option Nat) (x1 : Int64) (x3 : Int32) (x4 : Int32), f_J10_fill_3_6 N (ub G) (ug G) n u x0 x1 x3 x4 = some uf → uf.1 = u.1 ∧ uf.2.1 = u.2.1 := by
  intro n
  induction n with
  | zero =>
    intro u x0 x1 x3 x4 h
    cases h
  | succ n ih =>
    intro u x0 x1 x3 x4 h
    unfold f_J10_fill_3_6 at h
    by_cases c1 : x4 ≤ x3
    · have h := mif_t c1 h
      cases h
      exact ⟨by omega, by omega⟩
    · have h := mif_f c1 h
      obtain ⟨a2, ha2, hha2⟩ := mbind_n h
      subst ha2
      have h := hha2
      obtain ⟨u3, hu3, h⟩ := mbind_n h
      have zu3 := uStL_sz hu3
      obtain ⟨y4, ey4⟩ : ∃ z : Int32, z = x3 + 1 := ⟨_, rfl⟩
      have h := mlet_at ey4 h
      have hq := ih u3 (some a2) x1 y4 x4 h
      exact ⟨by omega, by omega⟩
set_option maxHeartbeats 4000000 in
set_option maxRecDepth 100000 in
theorem w_J10_fill_3_6 {p : Program} {l : Launch} {e : Env} {R : Room} {s : State} {m : MethodId} {args : Array Value} {below : List Frame} {meth : Method} {c : Code} {G : uG} {uf : UH} (hC : uC p s m args meth c G RJ10 cJ10_fill_3 5 none) (hR : 0 ≤ R.frames ∧ 0 ≤ R.locals) (N : Nat) : ∀ (n : Nat) (u : UH) (x0 : Option Nat) (x1 : Int64) (x3 : Int32) (x4 : Int32), f_J10_fill_3_6 N (ub G) (ug G) n u x0 x1 x3 x4 = some uf → ∀ (H : Heap) (locs : List Loc), uP G u H → va_S (uA G) s.heap H locs → ∀ ls : Array Slot, lv_has ls 5 [(0, va_rf x0), (1, .long x1), (3, .int x3), (4, .int x4)] → W p l e R s m args below meth c H locs 0 0 (MQ below (uQv G uf) args s 0 0 (uA G)) (F0 m 6 ls []) := by
  obtain ⟨⟨hx, hb, hml, hown, hts⟩, hKK⟩ := id hC
  intro n
  induction n with
  | zero =>
    intro u x0 x1 x3 x4 h
    cases h
  | succ n ih =>
    intro u x0 x1 x3 x4 h H locs hP hS ls hl
    unfold f_J10_fill_3_6 at h
    refine lv_iload_n hx hb dJ10_fill_3_6 rfl (lv_at hl 2 rfl) ?_
    refine lv_iload hx hb dJ10_fill_3_7 (lv_at hl 3 rfl) ?_
    refine lv_icmp_ge (tgt := 22) hx hb dJ10_fill_3_9 (by decide) (fun c1 => ?_) (fun c1 => ?_)
    · have h := mif_t c1 h
      cases h
      exact u_vret hC hP hS dJ10_fill_3_22
    · have h := mif_f c1 h
      refine u_aload_n (r := x0) hx hb dJ10_fill_3_12 rfl (lv_at hl 0 rfl) ?_
      refine lv_iload_n hx hb dJ10_fill_3_13 rfl (lv_at hl 2 rfl) ?_
      refine lv_lload_n hx hb dJ10_fill_3_14 rfl (lv_at hl 1 rfl) ?_
      obtain ⟨a2, ha2, hha2⟩ := mbind_n h
      subst ha2
      have h := hha2
      obtain ⟨u3, hu3, h⟩ := mbind_n h
      have zu3 := uStL_sz hu3
      refine u_last hC hP hS hu3 rfl dJ10_fill_3_15 (fun H locs hP hS => ?_)
      obtain ⟨y4, ey4⟩ : ∃ z : Int32, z = x3 + 1 := ⟨_, rfl⟩
      have h := mlet_at ey4 h
      refine lv_iinc (v := y4) (lv' := [(3, .int y4), (0, va_rf (some a2)), (1, .long x1), (4, .int x4)]) hx hb dJ10_fill_3_16 hl (k := 2) rfl (by rw [ey4]; rfl) (by decide) rfl (fun ls hl => ?_)
      refine lv_goto (tgt := 6) hx hb dJ10_fill_3_19 (by decide) ?_
      exact ih u3 (some a2) x1 y4 x4 h _ _ hP hS _ (lv_sub hl [1, 2, 0, 3] rfl)
def f_J10_fill_3 (N b : Nat) (g : uEnv) (u : UH) (x0 : Option Nat) (x1 : Int64) : Option (UH) :=
    (x0).bind fun a1 =>
    (uLen u a1 3).bind fun y2 =>
    f_J10_fill_3_6 N b g N u (some a1) x1 0 y2
set_option maxHeartbeats 4000000 in
set_option maxRecDepth 100000 in
theorem zz_J10_fill_3_0 {G : uG} {uf : UH} (N : Nat) (u : UH) (x0 : Option Nat) (x1 : Int64) (h : f_J10_fill_3 N (ub G) (ug G) u x0 x1 = some uf) : uf.1 = u.1 ∧ uf.2.1 = u.2.1 := by
  unfold f_J10_fill_3 at h
  obtain ⟨a1, ha1, hha1⟩ := mbind_n h
  subst ha1
  have h := hha1
  obtain ⟨y2, hy2, h⟩ := mbind_n h
  have hq := zz_J10_fill_3_6 (G := G) N N u (some a1) x1 0 y2 h
  exact ⟨by omega, by omega⟩
set_option maxHeartbeats 4000000 in
set_option maxRecDepth 100000 in
theorem w_J10_fill_3_0 {p : Program} {l : Launch} {e : Env} {R : Room} {s : State} {m : MethodId} {args : Array Value} {below : List Frame} {meth : Method} {c : Code} {G : uG} {uf : UH} (hC : uC p s m args meth c G RJ10 cJ10_fill_3 5 none) (hR : 0 ≤ R.frames ∧ 0 ≤ R.locals) (N : Nat) (u : UH) (x0 : Option Nat) (x1 : Int64) (h : f_J10_fill_3 N (ub G) (ug G) u x0 x1 = some uf) {H : Heap} {locs : List Loc} (hP : uP G u H) (hS : va_S (uA G) s.heap H locs) {ls : Array Slot} (hl : lv_has ls 5 [(0, va_rf x0), (1, .long x1)]) : W p l e R s m args below meth c H locs 0 0 (MQ below (uQv G uf) args s 0 0 (uA G)) (F0 m 0 ls []) := by
  obtain ⟨⟨hx, hb, hml, hown, hts⟩, hKK⟩ := id hC
  unfold f_J10_fill_3 at h
  refine lv_iconst (v := 0) hx hb dJ10_fill_3_0 (by decide) ?_
  refine lv_istore_n (lv' := [(3, .int 0), (0, va_rf x0), (1, .long x1)]) hx hb dJ10_fill_3_1 rfl hl (by decide) rfl (fun ls hl => ?_)
  refine u_aload_n (r := x0) hx hb dJ10_fill_3_2 rfl (lv_at hl 1 rfl) ?_
  obtain ⟨a1, ha1, hha1⟩ := mbind_n h
  subst ha1
  have h := hha1
  obtain ⟨y2, hy2, h⟩ := mbind_n h
  refine u_alen hC hP hy2 dJ10_fill_3_3 ?_
  refine lv_istore (lv' := [(4, .int y2), (3, .int 0), (0, va_rf (some a1)), (1, .long x1)]) hx hb dJ10_fill_3_4 hl (by decide) rfl (fun ls hl => ?_)
  exact w_J10_fill_3_6 hC hR N N u (some a1) x1 0 y2 h _ _ hP hS _ (lv_sub hl [2, 3, 1, 0] rfl)
theorem zz_J10_fill_3 (N b : Nat) (g : uEnv) (u : UH) (x0 : Option Nat) (x1 : Int64) (uf : UH) (h : f_J10_fill_3 N b g u x0 x1 = some uf) : uf.1 = u.1 ∧ uf.2.1 = u.2.1 :=
  zz_J10_fill_3_0 (G := ((fun _ => 0, fun _ _ => 0), fun _ => 0, b, g)) N u x0 x1 h
theorem met_J10_fill_3 (l : Launch) (N : Nat) (G : uG) (u : UH) (x0 : Option Nat) (x1 : Int64) (uf : UH) (h : f_J10_fill_3 N (ub G) (ug G) u x0 x1 = some uf) : Met l yJ10_fill_3 (ws_ yJ10_fill_3 cJ10_fill_3 5 none) ({ frames := 0, cells := 0, slots := 0, locals := 0 }) (uPc G u [va_rf x0, .long x1]) (uQv G uf) 0 0 (uA G) := by
  rcases x0 with _ | x0 <;> exact u_met (own := RJ10) (by decide +kernel) rfl (Nat.le_of_ble_eq_true rfl) (fun hC hn hsz ls hl hP => w_J10_fill_3_0 hC ⟨Nat.le_refl _, Nat.le_refl _⟩ N u _ x1 h hP va_S.rf hl)
def f_J12_checkIndex_9 (N b : Nat) (g : uEnv) (u : UH) (x0 : Int32) (x1 : Int32) (x2 : Option Nat) : Option (Int32 × UH) :=
    none
set_option maxHeartbeats 4000000 in
set_option maxRecDepth 100000 in
theorem zz_J12_checkIndex_9 {G : uG} {uf : UH} {r : Int32} (N : Nat) (u : UH) (x0 : Int32) (x1 : Int32) (x2 : Option Nat) (h : f_J12_checkIndex_9 N (ub G) (ug G) u x0 x1 x2 = some (r, uf)) : uf.1 = u.1 ∧ uf.2.1 = u.2.1 := by
  unfold f_J12_checkIndex_9 at h
  cases h
set_option maxHeartbeats 4000000 in
set_option maxRecDepth 100000 in
theorem w_J12_checkIndex_9 {p : Program} {l : Launch} {e : Env} {R : Room} {s : State} {m : MethodId} {args : Array Value} {below : List Frame} {meth : Method} {c : Code} {G : uG} {uf : UH} {r : Int32} (hC : uC p s m args meth c G RJ12 cJ12_checkIndex 3 (some .int)) (hR : 0 ≤ R.frames ∧ 0 ≤ R.locals) (N : Nat) (u : UH) (x0 : Int32) (x1 : Int32) (x2 : Option Nat) (h : f_J12_checkIndex_9 N (ub G) (ug G) u x0 x1 x2 = some (r, uf)) {H : Heap} {locs : List Loc} (hP : uP G u H) (hS : va_S (uA G) s.heap H locs) {ls : Array Slot} (hl : lv_has ls 3 [(0, .int x0), (1, .int x1), (2, va_rf x2)]) : W p l e R s m args below meth c H locs 0 0 (MQ below (uQi G r uf) args s 0 0 (uA G)) (F0 m 9 ls []) := by
  obtain ⟨⟨hx, hb, hml, hown, hts⟩, hKK⟩ := id hC
  unfold f_J12_checkIndex_9 at h
  refine u_aload_n (r := x2) hx hb dJ12_checkIndex_9 rfl (lv_at hl 2 rfl) ?_
  refine lv_iload_n hx hb dJ12_checkIndex_10 rfl (lv_at hl 0 rfl) ?_
  refine lv_iload_n hx hb dJ12_checkIndex_11 rfl (lv_at hl 1 rfl) ?_
  cases h
def f_J12_checkIndex (N b : Nat) (g : uEnv) (u : UH) (x0 : Int32) (x1 : Int32) (x2 : Option Nat) : Option (Int32 × UH) :=
    if x0 < 0 then
    f_J12_checkIndex_9 N b g u x0 x1 x2
    else
    if x0 < x1 then
    some (x0, u)
    else
    f_J12_checkIndex_9 N b g u x0 x1 x2
set_option maxHeartbeats 4000000 in
set_option maxRecDepth 100000 in
theorem zz_J12_checkIndex_0 {G : uG} {uf : UH} {r : Int32} (N : Nat) (u : UH) (x0 : Int32) (x1 : Int32) (x2 : Option Nat) (h : f_J12_checkIndex N (ub G) (ug G) u x0 x1 x2 = some (r, uf)) : uf.1 = u.1 ∧ uf.2.1 = u.2.1 := by
  unfold f_J12_checkIndex at h
  by_cases c1 : x0 < 0
  · have h := mif_t c1 h
    have hq := zz_J12_checkIndex_9 (G := G) N u x0 x1 x2 h
    exact ⟨by omega, by omega⟩
  · have h := mif_f c1 h
    by_cases c2 : x0 < x1
    · have h := mif_t c2 h
      obtain ⟨hr1, hr2⟩ := uret_n h
      subst hr2
      exact ⟨by omega, by omega⟩
    · have h := mif_f c2 h
      have hq := zz_J12_checkIndex_9 (G := G) N u x0 x1 x2 h
      exact ⟨by omega, by omega⟩
set_option maxHeartbeats 4000000 in
set_option maxRecDepth 100000 in
theorem w_J12_checkIndex_0 {p : Program} {l : Launch} {e : Env} {R : Room} {s : State} {m : MethodId} {args : Array Value} {below : List Frame} {meth : Method} {c : Code} {G : uG} {uf : UH} {r : Int32} (hC : uC p s m args meth c G RJ12 cJ12_checkIndex 3 (some .int)) (hR : 0 ≤ R.frames ∧ 0 ≤ R.locals) (N : Nat) (u : UH) (x0 : Int32) (x1 : Int32) (x2 : Option Nat) (h : f_J12_checkIndex N (ub G) (ug G) u x0 x1 x2 = some (r, uf)) {H : Heap} {locs : List Loc} (hP : uP G u H) (hS : va_S (uA G) s.heap H locs) {ls : Array Slot} (hl : lv_has ls 3 [(0, .int x0), (1, .int x1), (2, va_rf x2)]) : W p l e R s m args below meth c H locs 0 0 (MQ below (uQi G r uf) args s 0 0 (uA G)) (F0 m 0 ls []) := by
  obtain ⟨⟨hx, hb, hml, hown, hts⟩, hKK⟩ := id hC
  unfold f_J12_checkIndex at h
  refine lv_iload_n hx hb dJ12_checkIndex_0 rfl (lv_at hl 0 rfl) ?_
  refine lv_if_lt (tgt := 9) hx hb dJ12_checkIndex_1 (by decide) (fun c1 => ?_) (fun c1 => ?_)
  · have h := mif_t c1 h
    exact w_J12_checkIndex_9 hC hR N u x0 x1 x2 h hP hS (lv_sub hl [0, 1, 2] rfl)
  · have h := mif_f c1 h
    refine lv_iload_n hx hb dJ12_checkIndex_4 rfl (lv_at hl 0 rfl) ?_
    refine lv_iload_n hx hb dJ12_checkIndex_5 rfl (lv_at hl 1 rfl) ?_
    refine lv_icmp_lt (tgt := 16) hx hb dJ12_checkIndex_6 (by decide) (fun c2 => ?_) (fun c2 => ?_)
    · have h := mif_t c2 h
      refine lv_iload_n hx hb dJ12_checkIndex_16 rfl (lv_at hl 0 rfl) ?_
      obtain ⟨hr1, hr2⟩ := uret_n h
      subst hr1
      subst hr2
      exact u_iret hC hP hS dJ12_checkIndex_17
    · have h := mif_f c2 h
      exact w_J12_checkIndex_9 hC hR N u x0 x1 x2 h hP hS (lv_sub hl [0, 1, 2] rfl)
theorem zz_J12_checkIndex (N b : Nat) (g : uEnv) (u : UH) (x0 : Int32) (x1 : Int32) (x2 : Option Nat) (r : Int32) (uf : UH) (h : f_J12_checkIndex N b g u x0 x1 x2 = some (r, uf)) : uf.1 = u.1 ∧ uf.2.1 = u.2.1 :=
  zz_J12_checkIndex_0 (G := ((fun _ => 0, fun _ _ => 0), fun _ => 0, b, g)) N u x0 x1 x2 h
theorem met_J12_checkIndex (l : Launch) (N : Nat) (G : uG) (u : UH) (x0 : Int32) (x1 : Int32) (x2 : Option Nat) (r : Int32) (uf : UH) (h : f_J12_checkIndex N (ub G) (ug G) u x0 x1 x2 = some (r, uf)) : Met l yJ12_checkIndex (ws_ yJ12_checkIndex cJ12_checkIndex 3 (some .int)) ({ frames := 0, cells := 0, slots := 0, locals := 0 }) (uPc G u [.int x0, .int x1, va_rf x2]) (uQi G r uf) 0 0 (uA G) := by
  rcases x2 with _ | x2 <;> exact u_met (own := RJ12) (by decide +kernel) rfl (Nat.le_of_ble_eq_true rfl) (fun hC hn hsz ls hl hP => w_J12_checkIndex_0 hC ⟨Nat.le_refl _, Nat.le_refl _⟩ N u x0 x1 _ h hP va_S.rf hl)
def f_J16_checkIndex (N b : Nat) (g : uEnv) (u : UH) (x0 : Int32) (x1 : Int32) : Option (Int32 × UH) :=
    ucall (f_J12_checkIndex N b g u x0 x1 none) fun r3 u1 =>
    some (r3, u1)
set_option maxHeartbeats 4000000 in
set_option maxRecDepth 100000 in
theorem zz_J16_checkIndex_0 {G : uG} {uf : UH} {r : Int32} (N : Nat) (u : UH) (x0 : Int32) (x1 : Int32) (h : f_J16_checkIndex N (ub G) (ug G) u x0 x1 = some (r, uf)) : uf.1 = u.1 ∧ uf.2.1 = u.2.1 := by
  unfold f_J16_checkIndex at h
  obtain ⟨r3, u1, c2, h⟩ := ucall_n h
  have zu1 := zz_J12_checkIndex N (ub G) (ug G) u x0 x1 none r3 u1 c2
  obtain ⟨hr1, hr2⟩ := uret_n h
  subst hr2
  exact ⟨by omega, by omega⟩
set_option maxHeartbeats 4000000 in
set_option maxRecDepth 100000 in
theorem w_J16_checkIndex_0 {p : Program} {l : Launch} {e : Env} {R : Room} {s : State} {m : MethodId} {args : Array Value} {below : List Frame} {meth : Method} {c : Code} {G : uG} {uf : UH} {r : Int32} (hC : uC p s m args meth c G RJ16 cJ16_checkIndex 2 (some .int)) (hR : 1 ≤ R.frames ∧ 22 ≤ R.locals) (N : Nat) (u : UH) (x0 : Int32) (x1 : Int32) (h : f_J16_checkIndex N (ub G) (ug G) u x0 x1 = some (r, uf)) {H : Heap} {locs : List Loc} (hP : uP G u H) (hS : va_S (uA G) s.heap H locs) {ls : Array Slot} (hl : lv_has ls 2 [(0, .int x0), (1, .int x1)]) : W p l e R s m args below meth c H locs 0 0 (MQ below (uQi G r uf) args s 0 0 (uA G)) (F0 m 0 ls []) := by
  obtain ⟨⟨hx, hb, hml, hown, hts⟩, hKK⟩ := id hC
  unfold f_J16_checkIndex at h
  refine lv_iload_n hx hb dJ16_checkIndex_0 rfl (lv_at hl 0 rfl) ?_
  refine lv_iload_n hx hb dJ16_checkIndex_1 rfl (lv_at hl 1 rfl) ?_
  refine lv_null hx hb dJ16_checkIndex_2 ?_
  obtain ⟨r3, u1, c2, h⟩ := ucall_n h
  have zu1 := zz_J12_checkIndex N (ub G) (ug G) u x0 x1 none r3 u1 c2
  refine u_calli (va_runS (As := [.int x0, .int x1, va_rf none]) (rest := []) hC.1 (met_J12_checkIndex l N G u x0 x1 none r3 u1 c2) (va_cwS 3 hts (lw_S q904 q482 q117 q483) rfl rfl rfl (by decide +kernel) ⟨Nat.le_trans (Nat.le_of_ble_eq_true rfl) hR.1, Nat.le_trans (Nat.le_of_ble_eq_true rfl) hR.2⟩) ⟨uPc_blind, fun U hU hW => u_pre hC hP hS hU hW⟩ rfl rfl hl.1 rfl (lv_room (Nat.le_of_ble_eq_true rfl)) dJ16_checkIndex_3 ⟨Nat.zero_le _, Nat.zero_le _⟩) hS (fun H locs hP hS => ?_)
  obtain ⟨hr1, hr2⟩ := uret_n h
  subst hr1
  subst hr2
  exact u_iret hC hP hS dJ16_checkIndex_6
theorem zz_J16_checkIndex (N b : Nat) (g : uEnv) (u : UH) (x0 : Int32) (x1 : Int32) (r : Int32) (uf : UH) (h : f_J16_checkIndex N b g u x0 x1 = some (r, uf)) : uf.1 = u.1 ∧ uf.2.1 = u.2.1 :=
  zz_J16_checkIndex_0 (G := ((fun _ => 0, fun _ _ => 0), fun _ => 0, b, g)) N u x0 x1 h
theorem met_J16_checkIndex (l : Launch) (N : Nat) (G : uG) (u : UH) (x0 : Int32) (x1 : Int32) (r : Int32) (uf : UH) (h : f_J16_checkIndex N (ub G) (ug G) u x0 x1 = some (r, uf)) : Met l yJ16_checkIndex (ws_ yJ16_checkIndex cJ16_checkIndex 2 (some .int)) ({ frames := 1, cells := 0, slots := 0, locals := 22 }) (uPc G u [.int x0, .int x1]) (uQi G r uf) 0 0 (uA G) := by
  exact u_met (own := RJ16) (by decide +kernel) rfl (Nat.le_of_ble_eq_true rfl) (fun hC hn hsz ls hl hP => w_J16_checkIndex_0 hC ⟨Nat.le_refl _, Nat.le_refl _⟩ N u x0 x1 h hP va_S.rf hl)
def f_J17_init (N b : Nat) (g : uEnv) (u : UH) (a0 : Nat) : Option (UH) :=
    some u
set_option maxHeartbeats 4000000 in
set_option maxRecDepth 100000 in
theorem zz_J17_init_0 {G : uG} {a0 : Nat} {uf : UH} (N : Nat) (u : UH) (h : f_J17_init N (ub G) (ug G) u a0 = some uf) : uf.1 = u.1 ∧ uf.2.1 = u.2.1 := by
  unfold f_J17_init at h
  cases h
  exact ⟨by omega, by omega⟩
set_option maxHeartbeats 4000000 in
set_option maxRecDepth 100000 in
theorem w_J17_init_0 {p : Program} {l : Launch} {e : Env} {R : Room} {s : State} {m : MethodId} {args : Array Value} {below : List Frame} {meth : Method} {c : Code} {G : uG} {a0 : Nat} {uf : UH} (hC : uC p s m args meth c G RJ17 cJ17_init 1 none) (hI : meth.name = "<init>") (hR : 1 ≤ R.frames ∧ 20 ≤ R.locals) (N : Nat) (u : UH) (h : f_J17_init N (ub G) (ug G) u a0 = some uf) {H : Heap} {locs : List Loc} (hP : uP G u H) (hS : va_S (uA G) s.heap H locs) {ls : Array Slot} (hl : lv_has ls 1 [(0, va_rf (some a0))]) : W p l e R s m args below meth c H locs 0 0 (MQ below (uQv G uf) args s 0 0 (uA G)) (F0 m 0 ls []) := by
  obtain ⟨⟨hx, hb, hml, hown, hts⟩, hKK⟩ := id hC
  unfold f_J17_init at h
  refine u_aload_n (r := some a0) hx hb dJ17_init_0 rfl (lv_at hl 0 rfl) ?_
  refine W.objInit hx hb hown (hts _ q1033) (hts _ q148) (hts _ q149) rfl (by rw [hml]; exact hl.1) rfl dJ17_init_1 (Nat.le_trans (Nat.le_of_ble_eq_true rfl) hR.1) (Nat.le_trans (Nat.le_of_ble_eq_true rfl) hR.2) ?_
  refine W.eq (g2 := F0 m 4 ls []) rfl ?_
  cases h
  exact u_vret hC hP hS dJ17_init_4
theorem zz_J17_init (N b : Nat) (g : uEnv) (u : UH) (a0 : Nat) (uf : UH) (h : f_J17_init N b g u a0 = some uf) : uf.1 = u.1 ∧ uf.2.1 = u.2.1 :=
  zz_J17_init_0 (G := ((fun _ => 0, fun _ _ => 0), fun _ => 0, b, g)) (a0 := a0) N u h
theorem met_J17_init (l : Launch) (N : Nat) (G : uG) (u : UH) (a0 : Nat) (uf : UH) (h : f_J17_init N (ub G) (ug G) u a0 = some uf) : Met l yJ17_init (ws_ yJ17_init cJ17_init 1 none) ({ frames := 1, cells := 0, slots := 0, locals := 20 }) (uPc G u [.ref a0]) (uQv G uf) 0 0 (uA G) := by
  exact u_met (own := RJ17) (by decide +kernel) rfl (Nat.le_of_ble_eq_true rfl) (fun hC hn hsz ls hl hP => w_J17_init_0 hC hn ⟨Nat.le_refl _, Nat.le_refl _⟩ N u h hP va_S.rf hl)
def f_J19_numberOfTrailingZeros_74 (N b : Nat) (g : uEnv) (u : UH) (x0 : Int32) (x1 : Int32) : Option (Int32 × UH) :=
    some (x1 + ((x0.toUInt32 >>> ((1 : Int32).toUInt32 &&& Int32.toUInt32 31)).toInt32), u)
set_option maxHeartbeats 4000000 in
set_option maxRecDepth 100000 in
theorem zz_J19_numberOfTrailingZeros_74 {G : uG} {uf : UH} {r : Int32} (N : Nat) (u : UH) (x0 : Int32) (x1 : Int32) (h : f_J19_numberOfTrailingZeros_74 N (ub G) (ug G) u x0 x1 = some (r, uf)) : uf.1 = u.1 ∧ uf.2.1 = u.2.1 := by
  unfold f_J19_numberOfTrailingZeros_74 at h
  obtain ⟨hr1, hr2⟩ := uret_n h
  subst hr2
  exact ⟨by omega, by omega⟩
set_option maxHeartbeats 4000000 in
set_option maxRecDepth 100000 in
theorem w_J19_numberOfTrailingZeros_74 {p : Program} {l : Launch} {e : Env} {R : Room} {s : State} {m : MethodId} {args : Array Value} {below : List Frame} {meth : Method} {c : Code} {G : uG} {uf : UH} {r : Int32} (hC : uC p s m args meth c G RJ19 cJ19_numberOfTrailingZeros 2 (some .int)) (hR : 0 ≤ R.frames ∧ 0 ≤ R.locals) (N : Nat) (u : UH) (x0 : Int32) (x1 : Int32) (h : f_J19_numberOfTrailingZeros_74 N (ub G) (ug G) u x0 x1 = some (r, uf)) {H : Heap} {locs : List Loc} (hP : uP G u H) (hS : va_S (uA G) s.heap H locs) {ls : Array Slot} (hl : lv_has ls 2 [(0, .int x0), (1, .int x1)]) : W p l e R s m args below meth c H locs 0 0 (MQ below (uQi G r uf) args s 0 0 (uA G)) (F0 m 74 ls []) := by
  obtain ⟨⟨hx, hb, hml, hown, hts⟩, hKK⟩ := id hC
  unfold f_J19_numberOfTrailingZeros_74 at h
  refine lv_iload_n hx hb dJ19_numberOfTrailingZeros_74 rfl (lv_at hl 1 rfl) ?_
  refine lv_iload_n hx hb dJ19_numberOfTrailingZeros_75 rfl (lv_at hl 0 rfl) ?_
  refine lv_iconst (v := 1) hx hb dJ19_numberOfTrailingZeros_76 (by decide) ?_
  refine lv_iushr (v := (x0.toUInt32 >>> ((1 : Int32).toUInt32 &&& Int32.toUInt32 31)).toInt32) hx hb dJ19_numberOfTrailingZeros_77 rfl ?_
  refine lv_iadd hx hb dJ19_numberOfTrailingZeros_78 ?_
  obtain ⟨hr1, hr2⟩ := uret_n h
  subst hr1
  subst hr2
  exact u_iret hC hP hS dJ19_numberOfTrailingZeros_79
def f_J19_numberOfTrailingZeros_62 (N b : Nat) (g : uEnv) (u : UH) (x0 : Int32) (x1 : Int32) : Option (Int32 × UH) :=
    if x0 ≤ 4 then
    f_J19_numberOfTrailingZeros_74 N b g u x0 x1
    else
    mlet (x1 + 2) fun y2 =>
    mlet ((x0.toUInt32 >>> ((2 : Int32).toUInt32 &&& Int32.toUInt32 31)).toInt32) fun y3 =>
    f_J19_numberOfTrailingZeros_74 N b g u y3 y2
set_option maxHeartbeats 4000000 in
set_option maxRecDepth 100000 in
theorem zz_J19_numberOfTrailingZeros_62 {G : uG} {uf : UH} {r : Int32} (N : Nat) (u : UH) (x0 : Int32) (x1 : Int32) (h : f_J19_numberOfTrailingZeros_62 N (ub G) (ug G) u x0 x1 = some (r, uf)) : uf.1 = u.1 ∧ uf.2.1 = u.2.1 := by
  unfold f_J19_numberOfTrailingZeros_62 at h
  by_cases c1 : x0 ≤ 4
  · have h := mif_t c1 h
    have hq := zz_J19_numberOfTrailingZeros_74 (G := G) N u x0 x1 h
    exact ⟨by omega, by omega⟩
  · have h := mif_f c1 h
    obtain ⟨y2, ey2⟩ : ∃ z : Int32, z = x1 + 2 := ⟨_, rfl⟩
    have h := mlet_at ey2 h
    obtain ⟨y3, ey3⟩ : ∃ z, z = (x0.toUInt32 >>> ((2 : Int32).toUInt32 &&& Int32.toUInt32 31)).toInt32 := ⟨_, rfl⟩
    have h := mlet_at ey3 h
    have hq := zz_J19_numberOfTrailingZeros_74 (G := G) N u y3 y2 h
    exact ⟨by omega, by omega⟩
set_option maxHeartbeats 4000000 in
set_option maxRecDepth 100000 in
theorem w_J19_numberOfTrailingZeros_62 {p : Program} {l : Launch} {e : Env} {R : Room} {s : State} {m : MethodId} {args : Array Value} {below : List Frame} {meth : Method} {c : Code} {G : uG} {uf : UH} {r : Int32} (hC : uC p s m args meth c G RJ19 cJ19_numberOfTrailingZeros 2 (some .int)) (hR : 0 ≤ R.frames ∧ 0 ≤ R.locals) (N : Nat) (u : UH) (x0 : Int32) (x1 : Int32) (h : f_J19_numberOfTrailingZeros_62 N (ub G) (ug G) u x0 x1 = some (r, uf)) {H : Heap} {locs : List Loc} (hP : uP G u H) (hS : va_S (uA G) s.heap H locs) {ls : Array Slot} (hl : lv_has ls 2 [(0, .int x0), (1, .int x1)]) : W p l e R s m args below meth c H locs 0 0 (MQ below (uQi G r uf) args s 0 0 (uA G)) (F0 m 62 ls []) := by
  obtain ⟨⟨hx, hb, hml, hown, hts⟩, hKK⟩ := id hC
  unfold f_J19_numberOfTrailingZeros_62 at h
  refine lv_iload_n hx hb dJ19_numberOfTrailingZeros_62 rfl (lv_at hl 0 rfl) ?_
  refine lv_iconst (v := 4) hx hb dJ19_numberOfTrailingZeros_63 (by decide) ?_
  refine lv_icmp_le (tgt := 74) hx hb dJ19_numberOfTrailingZeros_64 (by decide) (fun c1 => ?_) (fun c1 => ?_)
  · have h := mif_t c1 h
    exact w_J19_numberOfTrailingZeros_74 hC hR N u x0 x1 h hP hS (lv_sub hl [0, 1] rfl)
  · have h := mif_f c1 h
    obtain ⟨y2, ey2⟩ : ∃ z : Int32, z = x1 + 2 := ⟨_, rfl⟩
    have h := mlet_at ey2 h
    refine lv_iinc (v := y2) (lv' := [(1, .int y2), (0, .int x0)]) hx hb dJ19_numberOfTrailingZeros_67 hl (k := 1) rfl (by rw [ey2]; rfl) (by decide) rfl (fun ls hl => ?_)
    refine lv_iload_n hx hb dJ19_numberOfTrailingZeros_70 rfl (lv_at hl 1 rfl) ?_
    refine lv_iconst (v := 2) hx hb dJ19_numberOfTrailingZeros_71 (by decide) ?_
    refine lv_iushr (v := (x0.toUInt32 >>> ((2 : Int32).toUInt32 &&& Int32.toUInt32 31)).toInt32) hx hb dJ19_numberOfTrailingZeros_72 rfl ?_
    refine lv_topi (fun y3 ey3 => ?_)
    have h := mlet_at ey3 h
    refine lv_istore_n (lv' := [(0, .int y3), (1, .int y2)]) hx hb dJ19_numberOfTrailingZeros_73 rfl hl (by decide) rfl (fun ls hl => ?_)
    exact w_J19_numberOfTrailingZeros_74 hC hR N u y3 y2 h hP hS (lv_sub hl [0, 1] rfl)
def f_J19_numberOfTrailingZeros_49 (N b : Nat) (g : uEnv) (u : UH) (x0 : Int32) (x1 : Int32) : Option (Int32 × UH) :=
    if x0 ≤ 16 then
    f_J19_numberOfTrailingZeros_62 N b g u x0 x1
    else
    mlet (x1 + 4) fun y2 =>
    mlet ((x0.toUInt32 >>> ((4 : Int32).toUInt32 &&& Int32.toUInt32 31)).toInt32) fun y3 =>
    f_J19_numberOfTrailingZeros_62 N b g u y3 y2
set_option maxHeartbeats 4000000 in
set_option maxRecDepth 100000 in
theorem zz_J19_numberOfTrailingZeros_49 {G : uG} {uf : UH} {r : Int32} (N : Nat) (u : UH) (x0 : Int32) (x1 : Int32) (h : f_J19_numberOfTrailingZeros_49 N (ub G) (ug G) u x0 x1 = some (r, uf)) : uf.1 = u.1 ∧ uf.2.1 = u.2.1 := by
  unfold f_J19_numberOfTrailingZeros_49 at h
  by_cases c1 : x0 ≤ 16
  · have h := mif_t c1 h
    have hq := zz_J19_numberOfTrailingZeros_62 (G := G) N u x0 x1 h
    exact ⟨by omega, by omega⟩
  · have h := mif_f c1 h
    obtain ⟨y2, ey2⟩ : ∃ z : Int32, z = x1 + 4 := ⟨_, rfl⟩
    have h := mlet_at ey2 h
    obtain ⟨y3, ey3⟩ : ∃ z, z = (x0.toUInt32 >>> ((4 : Int32).toUInt32 &&& Int32.toUInt32 31)).toInt32 := ⟨_, rfl⟩
    have h := mlet_at ey3 h
    have hq := zz_J19_numberOfTrailingZeros_62 (G := G) N u y3 y2 h
    exact ⟨by omega, by omega⟩
set_option maxHeartbeats 4000000 in
set_option maxRecDepth 100000 in
theorem w_J19_numberOfTrailingZeros_49 {p : Program} {l : Launch} {e : Env} {R : Room} {s : State} {m : MethodId} {args : Array Value} {below : List Frame} {meth : Method} {c : Code} {G : uG} {uf : UH} {r : Int32} (hC : uC p s m args meth c G RJ19 cJ19_numberOfTrailingZeros 2 (some .int)) (hR : 0 ≤ R.frames ∧ 0 ≤ R.locals) (N : Nat) (u : UH) (x0 : Int32) (x1 : Int32) (h : f_J19_numberOfTrailingZeros_49 N (ub G) (ug G) u x0 x1 = some (r, uf)) {H : Heap} {locs : List Loc} (hP : uP G u H) (hS : va_S (uA G) s.heap H locs) {ls : Array Slot} (hl : lv_has ls 2 [(0, .int x0), (1, .int x1)]) : W p l e R s m args below meth c H locs 0 0 (MQ below (uQi G r uf) args s 0 0 (uA G)) (F0 m 49 ls []) := by
  obtain ⟨⟨hx, hb, hml, hown, hts⟩, hKK⟩ := id hC
  unfold f_J19_numberOfTrailingZeros_49 at h
  refine lv_iload_n hx hb dJ19_numberOfTrailingZeros_49 rfl (lv_at hl 0 rfl) ?_
  refine lv_bipush (v := 16) hx hb dJ19_numberOfTrailingZeros_50 (by decide) ?_
  refine lv_icmp_le (tgt := 62) hx hb dJ19_numberOfTrailingZeros_52 (by decide) (fun c1 => ?_) (fun c1 => ?_)
  · have h := mif_t c1 h
    exact w_J19_numberOfTrailingZeros_62 hC hR N u x0 x1 h hP hS (lv_sub hl [0, 1] rfl)
  · have h := mif_f c1 h
    obtain ⟨y2, ey2⟩ : ∃ z : Int32, z = x1 + 4 := ⟨_, rfl⟩
    have h := mlet_at ey2 h
    refine lv_iinc (v := y2) (lv' := [(1, .int y2), (0, .int x0)]) hx hb dJ19_numberOfTrailingZeros_55 hl (k := 1) rfl (by rw [ey2]; rfl) (by decide) rfl (fun ls hl => ?_)
    refine lv_iload_n hx hb dJ19_numberOfTrailingZeros_58 rfl (lv_at hl 1 rfl) ?_
    refine lv_iconst (v := 4) hx hb dJ19_numberOfTrailingZeros_59 (by decide) ?_
    refine lv_iushr (v := (x0.toUInt32 >>> ((4 : Int32).toUInt32 &&& Int32.toUInt32 31)).toInt32) hx hb dJ19_numberOfTrailingZeros_60 rfl ?_
    refine lv_topi (fun y3 ey3 => ?_)
    have h := mlet_at ey3 h
    refine lv_istore_n (lv' := [(0, .int y3), (1, .int y2)]) hx hb dJ19_numberOfTrailingZeros_61 rfl hl (by decide) rfl (fun ls hl => ?_)
    exact w_J19_numberOfTrailingZeros_62 hC hR N u y3 y2 h hP hS (lv_sub hl [0, 1] rfl)
def f_J19_numberOfTrailingZeros_34 (N b : Nat) (g : uEnv) (u : UH) (x0 : Int32) (x1 : Int32) : Option (Int32 × UH) :=
    if x0 ≤ 256 then
    f_J19_numberOfTrailingZeros_49 N b g u x0 x1
    else
    mlet (x1 + 8) fun y2 =>
    mlet ((x0.toUInt32 >>> ((8 : Int32).toUInt32 &&& Int32.toUInt32 31)).toInt32) fun y3 =>
    f_J19_numberOfTrailingZeros_49 N b g u y3 y2
set_option maxHeartbeats 4000000 in
set_option maxRecDepth 100000 in
theorem zz_J19_numberOfTrailingZeros_34 {G : uG} {uf : UH} {r : Int32} (N : Nat) (u : UH) (x0 : Int32) (x1 : Int32) (h : f_J19_numberOfTrailingZeros_34 N (ub G) (ug G) u x0 x1 = some (r, uf)) : uf.1 = u.1 ∧ uf.2.1 = u.2.1 := by
  unfold f_J19_numberOfTrailingZeros_34 at h
  by_cases c1 : x0 ≤ 256
  · have h := mif_t c1 h
    have hq := zz_J19_numberOfTrailingZeros_49 (G := G) N u x0 x1 h
    exact ⟨by omega, by omega⟩
  · have h := mif_f c1 h
    obtain ⟨y2, ey2⟩ : ∃ z : Int32, z = x1 + 8 := ⟨_, rfl⟩
    have h := mlet_at ey2 h
    obtain ⟨y3, ey3⟩ : ∃ z, z = (x0.toUInt32 >>> ((8 : Int32).toUInt32 &&& Int32.toUInt32 31)).toInt32 := ⟨_, rfl⟩
    have h := mlet_at ey3 h
    have hq := zz_J19_numberOfTrailingZeros_49 (G := G) N u y3 y2 h
    exact ⟨by omega, by omega⟩
set_option maxHeartbeats 4000000 in
set_option maxRecDepth 100000 in
theorem w_J19_numberOfTrailingZeros_34 {p : Program} {l : Launch} {e : Env} {R : Room} {s : State} {m : MethodId} {args : Array Value} {below : List Frame} {meth : Method} {c : Code} {G : uG} {uf : UH} {r : Int32} (hC : uC p s m args meth c G RJ19 cJ19_numberOfTrailingZeros 2 (some .int)) (hR : 0 ≤ R.frames ∧ 0 ≤ R.locals) (N : Nat) (u : UH) (x0 : Int32) (x1 : Int32) (h : f_J19_numberOfTrailingZeros_34 N (ub G) (ug G) u x0 x1 = some (r, uf)) {H : Heap} {locs : List Loc} (hP : uP G u H) (hS : va_S (uA G) s.heap H locs) {ls : Array Slot} (hl : lv_has ls 2 [(0, .int x0), (1, .int x1)]) : W p l e R s m args below meth c H locs 0 0 (MQ below (uQi G r uf) args s 0 0 (uA G)) (F0 m 34 ls []) := by
  obtain ⟨⟨hx, hb, hml, hown, hts⟩, hKK⟩ := id hC
  unfold f_J19_numberOfTrailingZeros_34 at h
  refine lv_iload_n hx hb dJ19_numberOfTrailingZeros_34 rfl (lv_at hl 0 rfl) ?_
  refine lv_sipush (v := 256) hx hb dJ19_numberOfTrailingZeros_35 (by decide) ?_
  refine lv_icmp_le (tgt := 49) hx hb dJ19_numberOfTrailingZeros_38 (by decide) (fun c1 => ?_) (fun c1 => ?_)
  · have h := mif_t c1 h
    exact w_J19_numberOfTrailingZeros_49 hC hR N u x0 x1 h hP hS (lv_sub hl [0, 1] rfl)
  · have h := mif_f c1 h
    obtain ⟨y2, ey2⟩ : ∃ z : Int32, z = x1 + 8 := ⟨_, rfl⟩
    have h := mlet_at ey2 h
    refine lv_iinc (v := y2) (lv' := [(1, .int y2), (0, .int x0)]) hx hb dJ19_numberOfTrailingZeros_41 hl (k := 1) rfl (by rw [ey2]; rfl) (by decide) rfl (fun ls hl => ?_)
    refine lv_iload_n hx hb dJ19_numberOfTrailingZeros_44 rfl (lv_at hl 1 rfl) ?_
    refine lv_bipush (v := 8) hx hb dJ19_numberOfTrailingZeros_45 (by decide) ?_
    refine lv_iushr (v := (x0.toUInt32 >>> ((8 : Int32).toUInt32 &&& Int32.toUInt32 31)).toInt32) hx hb dJ19_numberOfTrailingZeros_47 rfl ?_
    refine lv_topi (fun y3 ey3 => ?_)
    have h := mlet_at ey3 h
    refine lv_istore_n (lv' := [(0, .int y3), (1, .int y2)]) hx hb dJ19_numberOfTrailingZeros_48 rfl hl (by decide) rfl (fun ls hl => ?_)
    exact w_J19_numberOfTrailingZeros_49 hC hR N u y3 y2 h hP hS (lv_sub hl [0, 1] rfl)
def f_J19_numberOfTrailingZeros (N b : Nat) (g : uEnv) (u : UH) (x0 : Int32) : Option (Int32 × UH) :=
    mlet ((x0 ^^^ (-1)) &&& (x0 - 1)) fun y1 =>
    if 0 < y1 then
    if y1 ≤ 65536 then
    f_J19_numberOfTrailingZeros_34 N b g u y1 1
    else
    mlet (1 + 16) fun y4 =>
    mlet ((y1.toUInt32 >>> ((16 : Int32).toUInt32 &&& Int32.toUInt32 31)).toInt32) fun y5 =>
    f_J19_numberOfTrailingZeros_34 N b g u y5 y4
    else
    some (y1 &&& 32, u)
set_option maxHeartbeats 4000000 in
set_option maxRecDepth 100000 in
theorem zz_J19_numberOfTrailingZeros_0 {G : uG} {uf : UH} {r : Int32} (N : Nat) (u : UH) (x0 : Int32) (h : f_J19_numberOfTrailingZeros N (ub G) (ug G) u x0 = some (r, uf)) : uf.1 = u.1 ∧ uf.2.1 = u.2.1 := by
  unfold f_J19_numberOfTrailingZeros at h
  obtain ⟨y1, ey1⟩ : ∃ z, z = (x0 ^^^ (-1)) &&& (x0 - 1) := ⟨_, rfl⟩
  have h := mlet_at ey1 h
  by_cases c2 : 0 < y1
  · have h := mif_t c2 h
    by_cases c3 : y1 ≤ 65536
    · have h := mif_t c3 h
      have hq := zz_J19_numberOfTrailingZeros_34 (G := G) N u y1 1 h
      exact ⟨by omega, by omega⟩
    · have h := mif_f c3 h
      obtain ⟨y4, ey4⟩ : ∃ z : Int32, z = 1 + 16 := ⟨_, rfl⟩
      have h := mlet_at ey4 h
      obtain ⟨y5, ey5⟩ : ∃ z, z = (y1.toUInt32 >>> ((16 : Int32).toUInt32 &&& Int32.toUInt32 31)).toInt32 := ⟨_, rfl⟩
      have h := mlet_at ey5 h
      have hq := zz_J19_numberOfTrailingZeros_34 (G := G) N u y5 y4 h
      exact ⟨by omega, by omega⟩
  · have h := mif_f c2 h
    obtain ⟨hr1, hr2⟩ := uret_n h
    subst hr2
    exact ⟨by omega, by omega⟩
set_option maxHeartbeats 4000000 in
set_option maxRecDepth 100000 in
theorem w_J19_numberOfTrailingZeros_0 {p : Program} {l : Launch} {e : Env} {R : Room} {s : State} {m : MethodId} {args : Array Value} {below : List Frame} {meth : Method} {c : Code} {G : uG} {uf : UH} {r : Int32} (hC : uC p s m args meth c G RJ19 cJ19_numberOfTrailingZeros 2 (some .int)) (hR : 0 ≤ R.frames ∧ 0 ≤ R.locals) (N : Nat) (u : UH) (x0 : Int32) (h : f_J19_numberOfTrailingZeros N (ub G) (ug G) u x0 = some (r, uf)) {H : Heap} {locs : List Loc} (hP : uP G u H) (hS : va_S (uA G) s.heap H locs) {ls : Array Slot} (hl : lv_has ls 2 [(0, .int x0)]) : W p l e R s m args below meth c H locs 0 0 (MQ below (uQi G r uf) args s 0 0 (uA G)) (F0 m 0 ls []) := by
  obtain ⟨⟨hx, hb, hml, hown, hts⟩, hKK⟩ := id hC
  unfold f_J19_numberOfTrailingZeros at h
  refine lv_iload_n hx hb dJ19_numberOfTrailingZeros_0 rfl (lv_at hl 0 rfl) ?_
  refine lv_iconst (v := (-1)) hx hb dJ19_numberOfTrailingZeros_1 (by decide) ?_
  refine lv_ixor hx hb dJ19_numberOfTrailingZeros_2 ?_
  refine lv_iload_n hx hb dJ19_numberOfTrailingZeros_3 rfl (lv_at hl 0 rfl) ?_
  refine lv_iconst (v := 1) hx hb dJ19_numberOfTrailingZeros_4 (by decide) ?_
  refine lv_isub hx hb dJ19_numberOfTrailingZeros_5 ?_
  refine lv_iand hx hb dJ19_numberOfTrailingZeros_6 ?_
  refine lv_topi (fun y1 ey1 => ?_)
  have h := mlet_at ey1 h
  refine lv_istore_n (lv' := [(0, .int y1)]) hx hb dJ19_numberOfTrailingZeros_7 rfl hl (by decide) rfl (fun ls hl => ?_)
  refine lv_iload_n hx hb dJ19_numberOfTrailingZeros_8 rfl (lv_at hl 0 rfl) ?_
  refine lv_if_gt (tgt := 17) hx hb dJ19_numberOfTrailingZeros_9 (by decide) (fun c2 => ?_) (fun c2 => ?_)
  · have h := mif_t c2 h
    refine lv_iconst (v := 1) hx hb dJ19_numberOfTrailingZeros_17 (by decide) ?_
    refine lv_istore_n (lv' := [(1, .int 1), (0, .int y1)]) hx hb dJ19_numberOfTrailingZeros_18 rfl hl (by decide) rfl (fun ls hl => ?_)
    refine lv_iload_n hx hb dJ19_numberOfTrailingZeros_19 rfl (lv_at hl 1 rfl) ?_
    refine lv_ldcw hx hb hown (hts _ q1367) dJ19_numberOfTrailingZeros_20 ?_
    refine lv_icmp_le (tgt := 34) hx hb dJ19_numberOfTrailingZeros_23 (by decide) (fun c3 => ?_) (fun c3 => ?_)
    · have h := mif_t c3 h
      exact w_J19_numberOfTrailingZeros_34 hC hR N u y1 1 h hP hS (lv_sub hl [1, 0] rfl)
    · have h := mif_f c3 h
      obtain ⟨y4, ey4⟩ : ∃ z : Int32, z = 1 + 16 := ⟨_, rfl⟩
      have h := mlet_at ey4 h
      refine lv_iinc (v := y4) (lv' := [(1, .int y4), (0, .int y1)]) hx hb dJ19_numberOfTrailingZeros_26 hl (k := 0) rfl (by rw [ey4]; rfl) (by decide) rfl (fun ls hl => ?_)
      refine lv_iload_n hx hb dJ19_numberOfTrailingZeros_29 rfl (lv_at hl 1 rfl) ?_
      refine lv_bipush (v := 16) hx hb dJ19_numberOfTrailingZeros_30 (by decide) ?_
      refine lv_iushr (v := (y1.toUInt32 >>> ((16 : Int32).toUInt32 &&& Int32.toUInt32 31)).toInt32) hx hb dJ19_numberOfTrailingZeros_32 rfl ?_
      refine lv_topi (fun y5 ey5 => ?_)
      have h := mlet_at ey5 h
      refine lv_istore_n (lv' := [(0, .int y5), (1, .int y4)]) hx hb dJ19_numberOfTrailingZeros_33 rfl hl (by decide) rfl (fun ls hl => ?_)
      exact w_J19_numberOfTrailingZeros_34 hC hR N u y5 y4 h hP hS (lv_sub hl [0, 1] rfl)
  · have h := mif_f c2 h
    refine lv_iload_n hx hb dJ19_numberOfTrailingZeros_12 rfl (lv_at hl 0 rfl) ?_
    refine lv_bipush (v := 32) hx hb dJ19_numberOfTrailingZeros_13 (by decide) ?_
    refine lv_iand hx hb dJ19_numberOfTrailingZeros_15 ?_
    obtain ⟨hr1, hr2⟩ := uret_n h
    subst hr1
    subst hr2
    exact u_iret hC hP hS dJ19_numberOfTrailingZeros_16
theorem zz_J19_numberOfTrailingZeros (N b : Nat) (g : uEnv) (u : UH) (x0 : Int32) (r : Int32) (uf : UH) (h : f_J19_numberOfTrailingZeros N b g u x0 = some (r, uf)) : uf.1 = u.1 ∧ uf.2.1 = u.2.1 :=
  zz_J19_numberOfTrailingZeros_0 (G := ((fun _ => 0, fun _ _ => 0), fun _ => 0, b, g)) N u x0 h
theorem met_J19_numberOfTrailingZeros (l : Launch) (N : Nat) (G : uG) (u : UH) (x0 : Int32) (r : Int32) (uf : UH) (h : f_J19_numberOfTrailingZeros N (ub G) (ug G) u x0 = some (r, uf)) : Met l yJ19_numberOfTrailingZeros (ws_ yJ19_numberOfTrailingZeros cJ19_numberOfTrailingZeros 2 (some .int)) ({ frames := 0, cells := 0, slots := 0, locals := 0 }) (uPc G u [.int x0]) (uQi G r uf) 0 0 (uA G) := by
  exact u_met (own := RJ19) (by decide +kernel) rfl (Nat.le_of_ble_eq_true rfl) (fun hC hn hsz ls hl hP => w_J19_numberOfTrailingZeros_0 hC ⟨Nat.le_refl _, Nat.le_refl _⟩ N u x0 h hP va_S.rf hl)
def f_J2_elementData (N b : Nat) (g : uEnv) (u : UH) (a0 : Nat) (x1 : Int32) : Option (Option Nat × UH) :=
    (uGR u a0 18 1).bind fun o1 =>
    (o1).bind fun a2 =>
    (uLdR u a2 4 x1).bind fun o3 =>
    some (o3, u)
set_option maxHeartbeats 4000000 in
set_option maxRecDepth 100000 in
theorem zz_J2_elementData_0 {G : uG} {a0 : Nat} {uf : UH} {r : Option Nat} (N : Nat) (u : UH) (x1 : Int32) (h : f_J2_elementData N (ub G) (ug G) u a0 x1 = some (r, uf)) : uf.1 = u.1 ∧ uf.2.1 = u.2.1 := by
  unfold f_J2_elementData at h
  obtain ⟨o1, ho1, h⟩ := mbind_n h
  obtain ⟨a2, ha2, hha2⟩ := mbind_n h
  subst ha2
  have h := hha2
  obtain ⟨o3, ho3, h⟩ := mbind_n h
  obtain ⟨hr1, hr2⟩ := uret_n h
  subst hr2
  exact ⟨by omega, by omega⟩
set_option maxHeartbeats 4000000 in
set_option maxRecDepth 100000 in
theorem w_J2_elementData_0 {p : Program} {l : Launch} {e : Env} {R : Room} {s : State} {m : MethodId} {args : Array Value} {below : List Frame} {meth : Method} {c : Code} {G : uG} {a0 : Nat} {uf : UH} {r : Option Nat} (hC : uC p s m args meth c G RJ2 cJ2_elementData 2 (some (.object "java/lang/Object"))) (hR : 0 ≤ R.frames ∧ 0 ≤ R.locals) (N : Nat) (u : UH) (x1 : Int32) (h : f_J2_elementData N (ub G) (ug G) u a0 x1 = some (r, uf)) {H : Heap} {locs : List Loc} (hP : uP G u H) (hS : va_S (uA G) s.heap H locs) {ls : Array Slot} (hl : lv_has ls 2 [(0, va_rf (some a0)), (1, .int x1)]) : W p l e R s m args below meth c H locs 0 0 (MQ below (uQr G r uf) args s 0 0 (uA G)) (F0 m 0 ls []) := by
  obtain ⟨⟨hx, hb, hml, hown, hts⟩, hKK⟩ := id hC
  unfold f_J2_elementData at h
  refine u_aload_n (r := some a0) hx hb dJ2_elementData_0 rfl (lv_at hl 0 rfl) ?_
  obtain ⟨o1, ho1, h⟩ := mbind_n h
  refine u_get hC hP (uGR_n ho1) rfl in_J2 (by decide) q203 (fun _ h => h) dJ2_elementData_1 ?_
  refine lv_iload_n hx hb dJ2_elementData_4 rfl (lv_at hl 1 rfl) ?_
  obtain ⟨a2, ha2, hha2⟩ := mbind_n h
  subst ha2
  have h := hha2
  obtain ⟨o3, ho3, h⟩ := mbind_n h
  refine u_aald hC hP ho3 rfl dJ2_elementData_5 ?_
  obtain ⟨hr1, hr2⟩ := uret_n h
  subst hr1
  subst hr2
  exact u_aret hC (Or.inl ⟨_, rfl⟩) hP hS dJ2_elementData_6
theorem zz_J2_elementData (N b : Nat) (g : uEnv) (u : UH) (a0 : Nat) (x1 : Int32) (r : Option Nat) (uf : UH) (h : f_J2_elementData N b g u a0 x1 = some (r, uf)) : uf.1 = u.1 ∧ uf.2.1 = u.2.1 :=
  zz_J2_elementData_0 (G := ((fun _ => 0, fun _ _ => 0), fun _ => 0, b, g)) (a0 := a0) N u x1 h
theorem met_J2_elementData (l : Launch) (N : Nat) (G : uG) (u : UH) (a0 : Nat) (x1 : Int32) (r : Option Nat) (uf : UH) (h : f_J2_elementData N (ub G) (ug G) u a0 x1 = some (r, uf)) : Met l yJ2_elementData (ws_ yJ2_elementData cJ2_elementData 2 (some (.object "java/lang/Object"))) ({ frames := 0, cells := 0, slots := 0, locals := 0 }) (uPc G u [.ref a0, .int x1]) (uQr G r uf) 0 0 (uA G) := by
  exact u_met (own := RJ2) (by decide +kernel) rfl (Nat.le_of_ble_eq_true rfl) (fun hC hn hsz ls hl hP => w_J2_elementData_0 hC ⟨Nat.le_refl _, Nat.le_refl _⟩ N u x1 h hP va_S.rf hl)
def f_J2_get (N b : Nat) (g : uEnv) (u : UH) (a0 : Nat) (x1 : Int32) : Option (Option Nat × UH) :=
    (uGI u a0 18 2).bind fun y1 =>
    ucall (f_J16_checkIndex N b g u x1 y1) fun r4 u2 =>
    if uIs u2 a0 18 = true then
    ucall (f_J2_elementData N b g u2 a0 x1) fun o8 u6 =>
    some (o8, u6)
    else none
set_option maxHeartbeats 4000000 in
set_option maxRecDepth 100000 in
theorem zz_J2_get_0 {G : uG} {a0 : Nat} {uf : UH} {r : Option Nat} (N : Nat) (u : UH) (x1 : Int32) (h : f_J2_get N (ub G) (ug G) u a0 x1 = some (r, uf)) : uf.1 = u.1 ∧ uf.2.1 = u.2.1 := by
  unfold f_J2_get at h
  obtain ⟨y1, hy1, h⟩ := mbind_n h
  obtain ⟨r4, u2, c3, h⟩ := ucall_n h
  have zu2 := zz_J16_checkIndex N (ub G) (ug G) u x1 y1 r4 u2 c3
  obtain ⟨c5, h⟩ := mif_n h
  obtain ⟨o8, u6, c7, h⟩ := ucall_n h
  have zu6 := zz_J2_elementData N (ub G) (ug G) u2 a0 x1 o8 u6 c7
  obtain ⟨hr1, hr2⟩ := uret_n h
  subst hr2
  exact ⟨by omega, by omega⟩
set_option maxHeartbeats 4000000 in
set_option maxRecDepth 100000 in
theorem w_J2_get_0 {p : Program} {l : Launch} {e : Env} {R : Room} {s : State} {m : MethodId} {args : Array Value} {below : List Frame} {meth : Method} {c : Code} {G : uG} {a0 : Nat} {uf : UH} {r : Option Nat} (hC : uC p s m args meth c G RJ2 cJ2_get 2 (some (.object "java/lang/Object"))) (hR : 2 ≤ R.frames ∧ 43 ≤ R.locals) (N : Nat) (u : UH) (x1 : Int32) (h : f_J2_get N (ub G) (ug G) u a0 x1 = some (r, uf)) {H : Heap} {locs : List Loc} (hP : uP G u H) (hS : va_S (uA G) s.heap H locs) {ls : Array Slot} (hl : lv_has ls 2 [(0, va_rf (some a0)), (1, .int x1)]) : W p l e R s m args below meth c H locs 0 0 (MQ below (uQr G r uf) args s 0 0 (uA G)) (F0 m 0 ls []) := by
  obtain ⟨⟨hx, hb, hml, hown, hts⟩, hKK⟩ := id hC
  unfold f_J2_get at h
  refine lv_iload_n hx hb dJ2_get_0 rfl (lv_at hl 1 rfl) ?_
  refine u_aload_n (r := some a0) hx hb dJ2_get_1 rfl (lv_at hl 0 rfl) ?_
  obtain ⟨y1, hy1, h⟩ := mbind_n h
  refine u_get hC hP (uGI_n hy1) rfl in_J2 (by decide) q204 (fun _ h => h) dJ2_get_2 ?_
  obtain ⟨r4, u2, c3, h⟩ := ucall_n h
  have zu2 := zz_J16_checkIndex N (ub G) (ug G) u x1 y1 r4 u2 c3
  refine u_calli (va_runS (As := [.int x1, .int y1]) (rest := []) hC.1 (met_J16_checkIndex l N G u x1 y1 r4 u2 c3) (va_cwS 2 hts (lw_S q901 q902 q125 q903) rfl rfl rfl (by decide +kernel) ⟨Nat.le_trans (Nat.le_of_ble_eq_true rfl) hR.1, Nat.le_trans (Nat.le_of_ble_eq_true rfl) hR.2⟩) ⟨uPc_blind, fun U hU hW => u_pre hC hP hS hU hW⟩ rfl rfl hl.1 rfl (lv_room (Nat.le_of_ble_eq_true rfl)) dJ2_get_5 ⟨Nat.zero_le _, Nat.zero_le _⟩) hS (fun H locs hP hS => ?_)
  refine lv_pop hx hb dJ2_get_8 rfl ?_
  refine u_aload_n (r := some a0) hx hb dJ2_get_9 rfl (lv_at hl 0 rfl) ?_
  refine lv_iload_n hx hb dJ2_get_10 rfl (lv_at hl 1 rfl) ?_
  obtain ⟨c5, h⟩ := mif_n h
  obtain ⟨o8, u6, c7, h⟩ := ucall_n h
  have zu6 := zz_J2_elementData N (ub G) (ug G) u2 a0 x1 o8 u6 c7
  refine u_callr (va_runV (As := [.int x1]) (rest := []) hC.1 (met_J2_elementData l N G u2 a0 x1 o8 u6 c7) (cwV 1 hts (lw_V q905 q906 q907 q102 q908) rfl rfl rfl (by decide +kernel) ⟨Nat.le_trans (Nat.le_of_ble_eq_true rfl) hR.1, Nat.le_trans (Nat.le_of_ble_eq_true rfl) hR.2⟩) ⟨uPc_blind, u_rcv hC hP c5 rfl, fun U hU hW => u_pre hC hP hS hU hW⟩ rfl rfl hl.1 rfl (lv_room (Nat.le_of_ble_eq_true rfl)) dJ2_get_11 ⟨Nat.zero_le _, Nat.zero_le _⟩) hS (fun H locs hP hS => ?_)
  obtain ⟨hr1, hr2⟩ := uret_n h
  subst hr1
  subst hr2
  exact u_aret hC (Or.inl ⟨_, rfl⟩) hP hS dJ2_get_14
theorem zz_J2_get (N b : Nat) (g : uEnv) (u : UH) (a0 : Nat) (x1 : Int32) (r : Option Nat) (uf : UH) (h : f_J2_get N b g u a0 x1 = some (r, uf)) : uf.1 = u.1 ∧ uf.2.1 = u.2.1 :=
  zz_J2_get_0 (G := ((fun _ => 0, fun _ _ => 0), fun _ => 0, b, g)) (a0 := a0) N u x1 h
theorem met_J2_get (l : Launch) (N : Nat) (G : uG) (u : UH) (a0 : Nat) (x1 : Int32) (r : Option Nat) (uf : UH) (h : f_J2_get N (ub G) (ug G) u a0 x1 = some (r, uf)) : Met l yJ2_get (ws_ yJ2_get cJ2_get 2 (some (.object "java/lang/Object"))) ({ frames := 2, cells := 0, slots := 0, locals := 43 }) (uPc G u [.ref a0, .int x1]) (uQr G r uf) 0 0 (uA G) := by
  exact u_met (own := RJ2) (by decide +kernel) rfl (Nat.le_of_ble_eq_true rfl) (fun hC hn hsz ls hl hP => w_J2_get_0 hC ⟨Nat.le_refl _, Nat.le_refl _⟩ N u x1 h hP va_S.rf hl)
def f_J2_init (N b : Nat) (g : uEnv) (u : UH) (a0 : Nat) : Option (UH) :=
    (f_J1_init N b g u a0).bind fun u1 =>
    mlet (g.1 10) fun o3 =>
    (uPut b u1 a0 18 1 (va_rf o3)).bind fun u4 =>
    some u4
set_option maxHeartbeats 4000000 in
set_option maxRecDepth 100000 in
theorem zz_J2_init_0 {G : uG} {a0 : Nat} {uf : UH} (N : Nat) (u : UH) (h : f_J2_init N (ub G) (ug G) u a0 = some uf) : uf.1 = u.1 ∧ uf.2.1 = u.2.1 := by
  unfold f_J2_init at h
  obtain ⟨u1, c2, h⟩ := mbind_n h
  have zu1 := zz_J1_init N (ub G) (ug G) u a0 u1 c2
  obtain ⟨o3, eo3⟩ : ∃ z, z = (ug G).1 10 := ⟨_, rfl⟩
  have h := mlet_at eo3 h
  obtain ⟨u4, hu4, h⟩ := mbind_n h
  have zu4 := uPut_sz hu4
  cases h
  exact ⟨by omega, by omega⟩
set_option maxHeartbeats 4000000 in
set_option maxRecDepth 100000 in
theorem w_J2_init_0 {p : Program} {l : Launch} {e : Env} {R : Room} {s : State} {m : MethodId} {args : Array Value} {below : List Frame} {meth : Method} {c : Code} {G : uG} {a0 : Nat} {uf : UH} (hC : uC p s m args meth c G RJ2 cJ2_init 1 none) (hI : meth.name = "<init>") (hR : 3 ≤ R.frames ∧ 60 ≤ R.locals) (N : Nat) (u : UH) (h : f_J2_init N (ub G) (ug G) u a0 = some uf) {H : Heap} {locs : List Loc} (hP : uP G u H) (hS : va_S (uA G) s.heap H locs) {ls : Array Slot} (hl : lv_has ls 1 [(0, va_rf (some a0))]) : W p l e R s m args below meth c H locs 0 0 (MQ below (uQv G uf) args s 0 0 (uA G)) (F0 m 0 ls []) := by
  obtain ⟨⟨hx, hb, hml, hown, hts⟩, hKK⟩ := id hC
  unfold f_J2_init at h
  refine u_aload_n (r := some a0) hx hb dJ2_init_0 rfl (lv_at hl 0 rfl) ?_
  obtain ⟨u1, c2, h⟩ := mbind_n h
  have zu1 := zz_J1_init N (ub G) (ug G) u a0 u1 c2
  refine u_callv (va_runI (As := []) (rest := []) hC.1 (met_J1_init l N G u a0 u1 c2) (cwI 0 hts (lw_meth q196) rfl rfl rfl (hts _ q101) (hts _ q194) (hts _ q195) rfl (by decide +kernel) ⟨Nat.le_trans (Nat.le_of_ble_eq_true rfl) hR.1, Nat.le_trans (Nat.le_of_ble_eq_true rfl) hR.2⟩) ⟨uPc_blind, fun U hU hW => u_pre hC hP hS hU hW⟩ rfl rfl hl.1 rfl (lv_room (Nat.le_of_ble_eq_true rfl)) dJ2_init_1 ⟨Nat.zero_le _, Nat.zero_le _⟩) hS (fun H locs hP hS => ?_)
  refine u_aload_n (r := some a0) hx hb dJ2_init_4 rfl (lv_at hl 0 rfl) ?_
  refine u_gets hC hS 10 rfl q201 (fun _ h => h) dJ2_init_5 ?_
  obtain ⟨o3, eo3⟩ : ∃ z, z = (ug G).1 10 := ⟨_, rfl⟩
  have h := mlet_at eo3 h
  rw [← eo3]
  obtain ⟨u4, hu4, h⟩ := mbind_n h
  have zu4 := uPut_sz hu4
  refine u_put hC hP hS hu4 rfl in_J2 tyJ2 tyJ2_ok nmJ2 (by decide) q203 (fun _ h => h) rfl (ty := (.array (.object "java/lang/Object"))) (tyJ2_ok 1 (by decide)) (uNarA _ _).1 (uNarA _ _).2 dJ2_init_8 (fun H locs hP hS => ?_)
  cases h
  exact u_vret hC hP hS dJ2_init_11
theorem zz_J2_init (N b : Nat) (g : uEnv) (u : UH) (a0 : Nat) (uf : UH) (h : f_J2_init N b g u a0 = some uf) : uf.1 = u.1 ∧ uf.2.1 = u.2.1 :=
  zz_J2_init_0 (G := ((fun _ => 0, fun _ _ => 0), fun _ => 0, b, g)) (a0 := a0) N u h
theorem met_J2_init (l : Launch) (N : Nat) (G : uG) (u : UH) (a0 : Nat) (uf : UH) (h : f_J2_init N (ub G) (ug G) u a0 = some uf) : Met l yJ2_init (ws_ yJ2_init cJ2_init 1 none) ({ frames := 3, cells := 0, slots := 0, locals := 60 }) (uPc G u [.ref a0]) (uQv G uf) 0 0 (uA G) := by
  exact u_met (own := RJ2) (by decide +kernel) rfl (Nat.le_of_ble_eq_true rfl) (fun hC hn hsz ls hl hP => w_J2_init_0 hC hn ⟨Nat.le_refl _, Nat.le_refl _⟩ N u h hP va_S.rf hl)
def f_J9_max_2_11 (N b : Nat) (g : uEnv) (u : UH) (s0 : Int64) : Option (Int64 × UH) :=
    some (s0, u)
set_option maxHeartbeats 4000000 in
set_option maxRecDepth 100000 in
theorem zz_J9_max_2_11 {G : uG} {uf : UH} {r : Int64} (N : Nat) (u : UH) (s0 : Int64) (h : f_J9_max_2_11 N (ub G) (ug G) u s0 = some (r, uf)) : uf.1 = u.1 ∧ uf.2.1 = u.2.1 := by
  unfold f_J9_max_2_11 at h
  obtain ⟨hr1, hr2⟩ := uret_n h
  subst hr2
  exact ⟨by omega, by omega⟩
set_option maxHeartbeats 4000000 in
set_option maxRecDepth 100000 in
theorem w_J9_max_2_11 {p : Program} {l : Launch} {e : Env} {R : Room} {s : State} {m : MethodId} {args : Array Value} {below : List Frame} {meth : Method} {c : Code} {G : uG} {uf : UH} {r : Int64} (hC : uC p s m args meth c G RJ9 cJ9_max_2 4 (some .long)) (hR : 0 ≤ R.frames ∧ 0 ≤ R.locals) (N : Nat) (u : UH) (s0 : Int64) (h : f_J9_max_2_11 N (ub G) (ug G) u s0 = some (r, uf)) {H : Heap} {locs : List Loc} (hP : uP G u H) (hS : va_S (uA G) s.heap H locs) {ls : Array Slot} (hl : lv_has ls 4 []) : W p l e R s m args below meth c H locs 0 0 (MQ below (uQl G r uf) args s 0 0 (uA G)) (F0 m 11 ls [.long s0]) := by
  obtain ⟨⟨hx, hb, hml, hown, hts⟩, hKK⟩ := id hC
  unfold f_J9_max_2_11 at h
  obtain ⟨hr1, hr2⟩ := uret_n h
  subst hr1
  subst hr2
  exact u_lret hC hP hS dJ9_max_2_11
def f_J9_max_2 (N b : Nat) (g : uEnv) (u : UH) (x0 : Int64) (x2 : Int64) : Option (Int64 × UH) :=
    if (lg_cmp x0 x2) < 0 then
    f_J9_max_2_11 N b g u x2
    else
    f_J9_max_2_11 N b g u x0
set_option maxHeartbeats 4000000 in
set_option maxRecDepth 100000 in
theorem zz_J9_max_2_0 {G : uG} {uf : UH} {r : Int64} (N : Nat) (u : UH) (x0 : Int64) (x2 : Int64) (h : f_J9_max_2 N (ub G) (ug G) u x0 x2 = some (r, uf)) : uf.1 = u.1 ∧ uf.2.1 = u.2.1 := by
  unfold f_J9_max_2 at h
  by_cases c1 : (lg_cmp x0 x2) < 0
  · have h := mif_t c1 h
    have hq := zz_J9_max_2_11 (G := G) N u x2 h
    exact ⟨by omega, by omega⟩
  · have h := mif_f c1 h
    have hq := zz_J9_max_2_11 (G := G) N u x0 h
    exact ⟨by omega, by omega⟩
set_option maxHeartbeats 4000000 in
set_option maxRecDepth 100000 in
theorem w_J9_max_2_0 {p : Program} {l : Launch} {e : Env} {R : Room} {s : State} {m : MethodId} {args : Array Value} {below : List Frame} {meth : Method} {c : Code} {G : uG} {uf : UH} {r : Int64} (hC : uC p s m args meth c G RJ9 cJ9_max_2 4 (some .long)) (hR : 0 ≤ R.frames ∧ 0 ≤ R.locals) (N : Nat) (u : UH) (x0 : Int64) (x2 : Int64) (h : f_J9_max_2 N (ub G) (ug G) u x0 x2 = some (r, uf)) {H : Heap} {locs : List Loc} (hP : uP G u H) (hS : va_S (uA G) s.heap H locs) {ls : Array Slot} (hl : lv_has ls 4 [(0, .long x0), (2, .long x2)]) : W p l e R s m args below meth c H locs 0 0 (MQ below (uQl G r uf) args s 0 0 (uA G)) (F0 m 0 ls []) := by
  obtain ⟨⟨hx, hb, hml, hown, hts⟩, hKK⟩ := id hC
  unfold f_J9_max_2 at h
  refine lv_lload_n hx hb dJ9_max_2_0 rfl (lv_at hl 0 rfl) ?_
  refine lv_lload_n hx hb dJ9_max_2_1 rfl (lv_at hl 1 rfl) ?_
  refine W.lcmp hx hb dJ9_max_2_2 ?_
  refine lv_if_lt (tgt := 10) hx hb dJ9_max_2_3 (by decide) (fun c1 => ?_) (fun c1 => ?_)
  · have h := mif_t c1 h
    refine lv_lload_n hx hb dJ9_max_2_10 rfl (lv_at hl 1 rfl) ?_
    exact w_J9_max_2_11 hC hR N u x2 h hP hS (lv_sub hl [] rfl)
  · have h := mif_f c1 h
    refine lv_lload_n hx hb dJ9_max_2_6 rfl (lv_at hl 0 rfl) ?_
    refine lv_goto (tgt := 11) hx hb dJ9_max_2_7 (by decide) ?_
    exact w_J9_max_2_11 hC hR N u x0 h hP hS (lv_sub hl [] rfl)
theorem zz_J9_max_2 (N b : Nat) (g : uEnv) (u : UH) (x0 : Int64) (x2 : Int64) (r : Int64) (uf : UH) (h : f_J9_max_2 N b g u x0 x2 = some (r, uf)) : uf.1 = u.1 ∧ uf.2.1 = u.2.1 :=
  zz_J9_max_2_0 (G := ((fun _ => 0, fun _ _ => 0), fun _ => 0, b, g)) N u x0 x2 h
theorem met_J9_max_2 (l : Launch) (N : Nat) (G : uG) (u : UH) (x0 : Int64) (x2 : Int64) (r : Int64) (uf : UH) (h : f_J9_max_2 N (ub G) (ug G) u x0 x2 = some (r, uf)) : Met l yJ9_max_2 (ws_ yJ9_max_2 cJ9_max_2 4 (some .long)) ({ frames := 0, cells := 0, slots := 0, locals := 0 }) (uPc G u [.long x0, .long x2]) (uQl G r uf) 0 0 (uA G) := by
  exact u_met (own := RJ9) (by decide +kernel) rfl (Nat.le_of_ble_eq_true rfl) (fun hC hn hsz ls hl hP => w_J9_max_2_0 hC ⟨Nat.le_refl _, Nat.le_refl _⟩ N u x0 x2 h hP va_S.rf hl)
def f_X1_isCell_29 (N b : Nat) (g : uEnv) (a0 : Nat) (u : UH) (s0 : Int32) : Option (Int32 × UH) :=
    if uFit .boolean s0 = true then
    some (s0, u)
    else none
set_option maxHeartbeats 4000000 in
set_option maxRecDepth 100000 in
theorem zz_X1_isCell_29 {G : uG} {a0 : Nat} {uf : UH} {r : Int32} (N : Nat) (u : UH) (s0 : Int32) (h : f_X1_isCell_29 N (ub G) (ug G) a0 u s0 = some (r, uf)) : uf.1 = u.1 ∧ uf.2.1 = u.2.1 := by
  unfold f_X1_isCell_29 at h
  obtain ⟨c1, h⟩ := mif_n h
  obtain ⟨hr1, hr2⟩ := uret_n h
  subst hr2
  exact ⟨by omega, by omega⟩
set_option maxHeartbeats 4000000 in
set_option maxRecDepth 100000 in
theorem w_X1_isCell_29 {p : Program} {l : Launch} {e : Env} {R : Room} {s : State} {m : MethodId} {args : Array Value} {below : List Frame} {meth : Method} {c : Code} {G : uG} {a0 : Nat} {uf : UH} {r : Int32} (hC : uC p s m args meth c G RX1 cX1_isCell 2 (some .boolean)) (hR : 1 ≤ R.frames ∧ 22 ≤ R.locals) (N : Nat) (u : UH) (s0 : Int32) (h : f_X1_isCell_29 N (ub G) (ug G) a0 u s0 = some (r, uf)) {H : Heap} {locs : List Loc} (hP : uP G u H) (hS : va_S (uA G) s.heap H locs) {ls : Array Slot} (hl : lv_has ls 2 []) : W p l e R s m args below meth c H locs 0 0 (MQ below (uQi G r uf) args s 0 0 (uA G)) (F0 m 29 ls [.int s0]) := by
  obtain ⟨⟨hx, hb, hml, hown, hts⟩, hKK⟩ := id hC
  unfold f_X1_isCell_29 at h
  obtain ⟨c1, h⟩ := mif_n h
  obtain ⟨hr1, hr2⟩ := uret_n h
  subst hr1
  subst hr2
  exact u_zret hC (uFit_n c1).1 hP hS dX1_isCell_29
def f_X1_isCell_28 (N b : Nat) (g : uEnv) (a0 : Nat) (u : UH) : Option (Int32 × UH) :=
    f_X1_isCell_29 N b g a0 u 0
set_option maxHeartbeats 4000000 in
set_option maxRecDepth 100000 in
theorem zz_X1_isCell_28 {G : uG} {a0 : Nat} {uf : UH} {r : Int32} (N : Nat) (u : UH) (h : f_X1_isCell_28 N (ub G) (ug G) a0 u = some (r, uf)) : uf.1 = u.1 ∧ uf.2.1 = u.2.1 := by
  unfold f_X1_isCell_28 at h
  have hq := zz_X1_isCell_29 (G := G) (a0 := a0) N u 0 h
  exact ⟨by omega, by omega⟩
set_option maxHeartbeats 4000000 in
set_option maxRecDepth 100000 in
theorem w_X1_isCell_28 {p : Program} {l : Launch} {e : Env} {R : Room} {s : State} {m : MethodId} {args : Array Value} {below : List Frame} {meth : Method} {c : Code} {G : uG} {a0 : Nat} {uf : UH} {r : Int32} (hC : uC p s m args meth c G RX1 cX1_isCell 2 (some .boolean)) (hR : 1 ≤ R.frames ∧ 22 ≤ R.locals) (N : Nat) (u : UH) (h : f_X1_isCell_28 N (ub G) (ug G) a0 u = some (r, uf)) {H : Heap} {locs : List Loc} (hP : uP G u H) (hS : va_S (uA G) s.heap H locs) {ls : Array Slot} (hl : lv_has ls 2 []) : W p l e R s m args below meth c H locs 0 0 (MQ below (uQi G r uf) args s 0 0 (uA G)) (F0 m 28 ls []) := by
  obtain ⟨⟨hx, hb, hml, hown, hts⟩, hKK⟩ := id hC
  unfold f_X1_isCell_28 at h
  refine lv_iconst (v := 0) hx hb dX1_isCell_28 (by decide) ?_
  exact w_X1_isCell_29 hC hR N u 0 h hP hS (lv_sub hl [] rfl)
def f_X1_isCell (N b : Nat) (g : uEnv) (u : UH) (a0 : Nat) (x1 : Int32) : Option (Int32 × UH) :=
    (uGR u a0 0 7).bind fun o1 =>
    ucase o1 (
    f_X1_isCell_28 N b g a0 u) fun a2 =>
    (uGR u a0 0 7).bind fun o3 =>
    (o3).bind fun a4 =>
    if uIs u a4 12 = true then
    ucall (f_X14_cells N b g u a4) fun r8 u6 =>
    ucall (f_X1_in N b g u6 x1 0 (r8 - 1)) fun r11 u9 =>
    if r11 = 0 then
    f_X1_isCell_28 N b g a0 u9
    else
    f_X1_isCell_29 N b g a0 u9 1
    else none
set_option maxHeartbeats 4000000 in
set_option maxRecDepth 100000 in
theorem zz_X1_isCell_0 {G : uG} {a0 : Nat} {uf : UH} {r : Int32} (N : Nat) (u : UH) (x1 : Int32) (h : f_X1_isCell N (ub G) (ug G) u a0 x1 = some (r, uf)) : uf.1 = u.1 ∧ uf.2.1 = u.2.1 := by
  unfold f_X1_isCell at h
  obtain ⟨o1, ho1, h⟩ := mbind_n h
  rcases o1 with _ | a2
  · have h := ucase_n h
    have hq := zz_X1_isCell_28 (G := G) (a0 := a0) N u h
    exact ⟨by omega, by omega⟩
  · have h := ucase_s h
    obtain ⟨o3, ho3, h⟩ := mbind_n h
    obtain ⟨a4, ha4, hha4⟩ := mbind_n h
    subst ha4
    have h := hha4
    obtain ⟨c5, h⟩ := mif_n h
    obtain ⟨r8, u6, c7, h⟩ := ucall_n h
    have zu6 := zz_X14_cells N (ub G) (ug G) u a4 r8 u6 c7
    obtain ⟨r11, u9, c10, h⟩ := ucall_n h
    have zu9 := zz_X1_in N (ub G) (ug G) u6 x1 0 (r8 - 1) r11 u9 c10
    by_cases c12 : r11 = 0
    · have h := mif_t c12 h
      have hq := zz_X1_isCell_28 (G := G) (a0 := a0) N u9 h
      exact ⟨by omega, by omega⟩
    · have h := mif_f c12 h
      have hq := zz_X1_isCell_29 (G := G) (a0 := a0) N u9 1 h
      exact ⟨by omega, by omega⟩
set_option maxHeartbeats 4000000 in
set_option maxRecDepth 100000 in
theorem w_X1_isCell_0 {p : Program} {l : Launch} {e : Env} {R : Room} {s : State} {m : MethodId} {args : Array Value} {below : List Frame} {meth : Method} {c : Code} {G : uG} {a0 : Nat} {uf : UH} {r : Int32} (hC : uC p s m args meth c G RX1 cX1_isCell 2 (some .boolean)) (hR : 1 ≤ R.frames ∧ 22 ≤ R.locals) (N : Nat) (u : UH) (x1 : Int32) (h : f_X1_isCell N (ub G) (ug G) u a0 x1 = some (r, uf)) {H : Heap} {locs : List Loc} (hP : uP G u H) (hS : va_S (uA G) s.heap H locs) {ls : Array Slot} (hl : lv_has ls 2 [(0, va_rf (some a0)), (1, .int x1)]) : W p l e R s m args below meth c H locs 0 0 (MQ below (uQi G r uf) args s 0 0 (uA G)) (F0 m 0 ls []) := by
  obtain ⟨⟨hx, hb, hml, hown, hts⟩, hKK⟩ := id hC
  unfold f_X1_isCell at h
  refine u_aload_n (r := some a0) hx hb dX1_isCell_0 rfl (lv_at hl 0 rfl) ?_
  obtain ⟨o1, ho1, h⟩ := mbind_n h
  refine u_get hC hP (uGR_n ho1) rfl in_X1 (by decide) q222 (fun _ h => h) dX1_isCell_1 ?_
  rcases o1 with _ | a2
  · have h := ucase_n h
    refine lv_ifnullN (tgt := 28) hx hb dX1_isCell_4 (by decide) ?_
    exact w_X1_isCell_28 hC hR N u h hP hS (lv_sub hl [] rfl)
  · have h := ucase_s h
    refine lv_ifnull hx hb dX1_isCell_4 ?_
    refine lv_iload_n hx hb dX1_isCell_7 rfl (lv_at hl 1 rfl) ?_
    refine lv_iconst (v := 0) hx hb dX1_isCell_8 (by decide) ?_
    refine u_aload_n (r := some a0) hx hb dX1_isCell_9 rfl (lv_at hl 0 rfl) ?_
    obtain ⟨o3, ho3, h⟩ := mbind_n h
    refine u_get hC hP (uGR_n ho3) rfl in_X1 (by decide) q222 (fun _ h => h) dX1_isCell_10 ?_
    obtain ⟨a4, ha4, hha4⟩ := mbind_n h
    subst ha4
    have h := hha4
    obtain ⟨c5, h⟩ := mif_n h
    obtain ⟨r8, u6, c7, h⟩ := ucall_n h
    have zu6 := zz_X14_cells N (ub G) (ug G) u a4 r8 u6 c7
    refine u_calli (va_runV (As := []) (rest := [.int 0, .int x1]) hC.1 (met_X14_cells l N G u a4 r8 u6 c7) (cwV 0 hts (lw_V q1186 q1187 q1188 q131 q1189) rfl rfl rfl (by decide +kernel) ⟨Nat.le_trans (Nat.le_of_ble_eq_true rfl) hR.1, Nat.le_trans (Nat.le_of_ble_eq_true rfl) hR.2⟩) ⟨uPc_blind, u_rcv hC hP c5 rfl, fun U hU hW => u_pre hC hP hS hU hW⟩ rfl rfl hl.1 rfl (lv_room (Nat.le_of_ble_eq_true rfl)) dX1_isCell_13 ⟨Nat.zero_le _, Nat.zero_le _⟩) hS (fun H locs hP hS => ?_)
    refine lv_iconst (v := 1) hx hb dX1_isCell_16 (by decide) ?_
    refine lv_isub hx hb dX1_isCell_17 ?_
    obtain ⟨r11, u9, c10, h⟩ := ucall_n h
    have zu9 := zz_X1_in N (ub G) (ug G) u6 x1 0 (r8 - 1) r11 u9 c10
    refine u_calli (va_runS (As := [.int x1, .int 0, .int (r8 - 1)]) (rest := []) hC.1 (met_X1_in l N G u6 x1 0 (r8 - 1) r11 u9 c10) (va_cwS 3 hts (lw_S q273 q274 q98 q275) rfl rfl rfl (by decide +kernel) ⟨Nat.le_trans (Nat.le_of_ble_eq_true rfl) hR.1, Nat.le_trans (Nat.le_of_ble_eq_true rfl) hR.2⟩) ⟨uPc_blind, fun U hU hW => u_pre hC hP hS hU hW⟩ rfl rfl hl.1 rfl (lv_room (Nat.le_of_ble_eq_true rfl)) dX1_isCell_18 ⟨Nat.zero_le _, Nat.zero_le _⟩) hS (fun H locs hP hS => ?_)
    refine lv_if_eq (tgt := 28) hx hb dX1_isCell_21 (by decide) (fun c12 => ?_) (fun c12 => ?_)
    · have h := mif_t c12 h
      exact w_X1_isCell_28 hC hR N u9 h hP hS (lv_sub hl [] rfl)
    · have h := mif_f c12 h
      refine lv_iconst (v := 1) hx hb dX1_isCell_24 (by decide) ?_
      refine lv_goto (tgt := 29) hx hb dX1_isCell_25 (by decide) ?_
      exact w_X1_isCell_29 hC hR N u9 1 h hP hS (lv_sub hl [] rfl)
theorem zz_X1_isCell (N b : Nat) (g : uEnv) (u : UH) (a0 : Nat) (x1 : Int32) (r : Int32) (uf : UH) (h : f_X1_isCell N b g u a0 x1 = some (r, uf)) : uf.1 = u.1 ∧ uf.2.1 = u.2.1 :=
  zz_X1_isCell_0 (G := ((fun _ => 0, fun _ _ => 0), fun _ => 0, b, g)) (a0 := a0) N u x1 h
theorem met_X1_isCell (l : Launch) (N : Nat) (G : uG) (u : UH) (a0 : Nat) (x1 : Int32) (r : Int32) (uf : UH) (h : f_X1_isCell N (ub G) (ug G) u a0 x1 = some (r, uf)) : Met l yX1_isCell (ws_ yX1_isCell cX1_isCell 2 (some .boolean)) ({ frames := 1, cells := 0, slots := 0, locals := 22 }) (uPc G u [.ref a0, .int x1]) (uQi G r uf) 0 0 (uA G) := by
  exact u_met (own := RX1) (by decide +kernel) rfl (Nat.le_of_ble_eq_true rfl) (fun hC hn hsz ls hl hP => w_X1_isCell_0 hC ⟨Nat.le_refl _, Nat.le_refl _⟩ N u x1 h hP va_S.rf hl)
def f_X1_areCells_21 (N b : Nat) (g : uEnv) (a0 : Nat) (u : UH) (s0 : Int32) : Option (Int32 × UH) :=
    if uFit .boolean s0 = true then
    some (s0, u)
    else none
set_option maxHeartbeats 4000000 in
set_option maxRecDepth 100000 in
theorem zz_X1_areCells_21 {G : uG} {a0 : Nat} {uf : UH} {r : Int32} (N : Nat) (u : UH) (s0 : Int32) (h : f_X1_areCells_21 N (ub G) (ug G) a0 u s0 = some (r, uf)) : uf.1 = u.1 ∧ uf.2.1 = u.2.1 := by
  unfold f_X1_areCells_21 at h
  obtain ⟨c1, h⟩ := mif_n h
  obtain ⟨hr1, hr2⟩ := uret_n h
  subst hr2
  exact ⟨by omega, by omega⟩
set_option maxHeartbeats 4000000 in
set_option maxRecDepth 100000 in
theorem w_X1_areCells_21 {p : Program} {l : Launch} {e : Env} {R : Room} {s : State} {m : MethodId} {args : Array Value} {below : List Frame} {meth : Method} {c : Code} {G : uG} {a0 : Nat} {uf : UH} {r : Int32} (hC : uC p s m args meth c G RX1 cX1_areCells 3 (some .boolean)) (hR : 2 ≤ R.frames ∧ 43 ≤ R.locals) (N : Nat) (u : UH) (s0 : Int32) (h : f_X1_areCells_21 N (ub G) (ug G) a0 u s0 = some (r, uf)) {H : Heap} {locs : List Loc} (hP : uP G u H) (hS : va_S (uA G) s.heap H locs) {ls : Array Slot} (hl : lv_has ls 3 []) : W p l e R s m args below meth c H locs 0 0 (MQ below (uQi G r uf) args s 0 0 (uA G)) (F0 m 21 ls [.int s0]) := by
  obtain ⟨⟨hx, hb, hml, hown, hts⟩, hKK⟩ := id hC
  unfold f_X1_areCells_21 at h
  obtain ⟨c1, h⟩ := mif_n h
  obtain ⟨hr1, hr2⟩ := uret_n h
  subst hr1
  subst hr2
  exact u_zret hC (uFit_n c1).1 hP hS dX1_areCells_21
def f_X1_areCells_20 (N b : Nat) (g : uEnv) (a0 : Nat) (u : UH) : Option (Int32 × UH) :=
    f_X1_areCells_21 N b g a0 u 0
set_option maxHeartbeats 4000000 in
set_option maxRecDepth 100000 in
theorem zz_X1_areCells_20 {G : uG} {a0 : Nat} {uf : UH} {r : Int32} (N : Nat) (u : UH) (h : f_X1_areCells_20 N (ub G) (ug G) a0 u = some (r, uf)) : uf.1 = u.1 ∧ uf.2.1 = u.2.1 := by
  unfold f_X1_areCells_20 at h
  have hq := zz_X1_areCells_21 (G := G) (a0 := a0) N u 0 h
  exact ⟨by omega, by omega⟩
set_option maxHeartbeats 4000000 in
set_option maxRecDepth 100000 in
theorem w_X1_areCells_20 {p : Program} {l : Launch} {e : Env} {R : Room} {s : State} {m : MethodId} {args : Array Value} {below : List Frame} {meth : Method} {c : Code} {G : uG} {a0 : Nat} {uf : UH} {r : Int32} (hC : uC p s m args meth c G RX1 cX1_areCells 3 (some .boolean)) (hR : 2 ≤ R.frames ∧ 43 ≤ R.locals) (N : Nat) (u : UH) (h : f_X1_areCells_20 N (ub G) (ug G) a0 u = some (r, uf)) {H : Heap} {locs : List Loc} (hP : uP G u H) (hS : va_S (uA G) s.heap H locs) {ls : Array Slot} (hl : lv_has ls 3 []) : W p l e R s m args below meth c H locs 0 0 (MQ below (uQi G r uf) args s 0 0 (uA G)) (F0 m 20 ls []) := by
  obtain ⟨⟨hx, hb, hml, hown, hts⟩, hKK⟩ := id hC
  unfold f_X1_areCells_20 at h
  refine lv_iconst (v := 0) hx hb dX1_areCells_20 (by decide) ?_
  exact w_X1_areCells_21 hC hR N u 0 h hP hS (lv_sub hl [] rfl)
def f_X1_areCells (N b : Nat) (g : uEnv) (u : UH) (a0 : Nat) (x1 : Int32) (x2 : Int32) : Option (Int32 × UH) :=
    if uIs u a0 0 = true then
    ucall (f_X1_isCell N b g u a0 x1) fun r4 u2 =>
    if r4 = 0 then
    f_X1_areCells_20 N b g a0 u2
    else
    if uIs u2 a0 0 = true then
    ucall (f_X1_isCell N b g u2 a0 x2) fun r9 u7 =>
    if r9 = 0 then
    f_X1_areCells_20 N b g a0 u7
    else
    f_X1_areCells_21 N b g a0 u7 1
    else none
    else none
set_option maxHeartbeats 4000000 in
set_option maxRecDepth 100000 in
theorem zz_X1_areCells_0 {G : uG} {a0 : Nat} {uf : UH} {r : Int32} (N : Nat) (u : UH) (x1 : Int32) (x2 : Int32) (h : f_X1_areCells N (ub G) (ug G) u a0 x1 x2 = some (r, uf)) : uf.1 = u.1 ∧ uf.2.1 = u.2.1 := by
  unfold f_X1_areCells at h
  obtain ⟨c1, h⟩ := mif_n h
  obtain ⟨r4, u2, c3, h⟩ := ucall_n h
  have zu2 := zz_X1_isCell N (ub G) (ug G) u a0 x1 r4 u2 c3
  by_cases c5 : r4 = 0
  · have h := mif_t c5 h
    have hq := zz_X1_areCells_20 (G := G) (a0 := a0) N u2 h
    exact ⟨by omega, by omega⟩
  · have h := mif_f c5 h
    obtain ⟨c6, h⟩ := mif_n h
    obtain ⟨r9, u7, c8, h⟩ := ucall_n h
    have zu7 := zz_X1_isCell N (ub G) (ug G) u2 a0 x2 r9 u7 c8
    by_cases c10 : r9 = 0
    · have h := mif_t c10 h
      have hq := zz_X1_areCells_20 (G := G) (a0 := a0) N u7 h
      exact ⟨by omega, by omega⟩
    · have h := mif_f c10 h
      have hq := zz_X1_areCells_21 (G := G) (a0 := a0) N u7 1 h
      exact ⟨by omega, by omega⟩
set_option maxHeartbeats 4000000 in
set_option maxRecDepth 100000 in
theorem w_X1_areCells_0 {p : Program} {l : Launch} {e : Env} {R : Room} {s : State} {m : MethodId} {args : Array Value} {below : List Frame} {meth : Method} {c : Code} {G : uG} {a0 : Nat} {uf : UH} {r : Int32} (hC : uC p s m args meth c G RX1 cX1_areCells 3 (some .boolean)) (hR : 2 ≤ R.frames ∧ 43 ≤ R.locals) (N : Nat) (u : UH) (x1 : Int32) (x2 : Int32) (h : f_X1_areCells N (ub G) (ug G) u a0 x1 x2 = some (r, uf)) {H : Heap} {locs : List Loc} (hP : uP G u H) (hS : va_S (uA G) s.heap H locs) {ls : Array Slot} (hl : lv_has ls 3 [(0, va_rf (some a0)), (1, .int x1), (2, .int x2)]) : W p l e R s m args below meth c H locs 0 0 (MQ below (uQi G r uf) args s 0 0 (uA G)) (F0 m 0 ls []) := by
  obtain ⟨⟨hx, hb, hml, hown, hts⟩, hKK⟩ := id hC
  unfold f_X1_areCells at h
  refine u_aload_n (r := some a0) hx hb dX1_areCells_0 rfl (lv_at hl 0 rfl) ?_
  refine lv_iload_n hx hb dX1_areCells_1 rfl (lv_at hl 1 rfl) ?_
  obtain ⟨c1, h⟩ := mif_n h
  obtain ⟨r4, u2, c3, h⟩ := ucall_n h
  have zu2 := zz_X1_isCell N (ub G) (ug G) u a0 x1 r4 u2 c3
  refine u_calli (va_runV (As := [.int x1]) (rest := []) hC.1 (met_X1_isCell l N G u a0 x1 r4 u2 c3) (cwV 1 hts (lw_V q1194 q1196 qs18 q98 q1197) rfl rfl rfl (by decide +kernel) ⟨Nat.le_trans (Nat.le_of_ble_eq_true rfl) hR.1, Nat.le_trans (Nat.le_of_ble_eq_true rfl) hR.2⟩) ⟨uPc_blind, u_rcv hC hP c1 rfl, fun U hU hW => u_pre hC hP hS hU hW⟩ rfl rfl hl.1 rfl (lv_room (Nat.le_of_ble_eq_true rfl)) dX1_areCells_2 ⟨Nat.zero_le _, Nat.zero_le _⟩) hS (fun H locs hP hS => ?_)
  refine lv_if_eq (tgt := 20) hx hb dX1_areCells_5 (by decide) (fun c5 => ?_) (fun c5 => ?_)
  · have h := mif_t c5 h
    exact w_X1_areCells_20 hC hR N u2 h hP hS (lv_sub hl [] rfl)
  · have h := mif_f c5 h
    refine u_aload_n (r := some a0) hx hb dX1_areCells_8 rfl (lv_at hl 0 rfl) ?_
    refine lv_iload_n hx hb dX1_areCells_9 rfl (lv_at hl 2 rfl) ?_
    obtain ⟨c6, h⟩ := mif_n h
    obtain ⟨r9, u7, c8, h⟩ := ucall_n h
    have zu7 := zz_X1_isCell N (ub G) (ug G) u2 a0 x2 r9 u7 c8
    refine u_calli (va_runV (As := [.int x2]) (rest := []) hC.1 (met_X1_isCell l N G u2 a0 x2 r9 u7 c8) (cwV 1 hts (lw_V q1194 q1196 qs18 q98 q1197) rfl rfl rfl (by decide +kernel) ⟨Nat.le_trans (Nat.le_of_ble_eq_true rfl) hR.1, Nat.le_trans (Nat.le_of_ble_eq_true rfl) hR.2⟩) ⟨uPc_blind, u_rcv hC hP c6 rfl, fun U hU hW => u_pre hC hP hS hU hW⟩ rfl rfl hl.1 rfl (lv_room (Nat.le_of_ble_eq_true rfl)) dX1_areCells_10 ⟨Nat.zero_le _, Nat.zero_le _⟩) hS (fun H locs hP hS => ?_)
    refine lv_if_eq (tgt := 20) hx hb dX1_areCells_13 (by decide) (fun c10 => ?_) (fun c10 => ?_)
    · have h := mif_t c10 h
      exact w_X1_areCells_20 hC hR N u7 h hP hS (lv_sub hl [] rfl)
    · have h := mif_f c10 h
      refine lv_iconst (v := 1) hx hb dX1_areCells_16 (by decide) ?_
      refine lv_goto (tgt := 21) hx hb dX1_areCells_17 (by decide) ?_
      exact w_X1_areCells_21 hC hR N u7 1 h hP hS (lv_sub hl [] rfl)
theorem zz_X1_areCells (N b : Nat) (g : uEnv) (u : UH) (a0 : Nat) (x1 : Int32) (x2 : Int32) (r : Int32) (uf : UH) (h : f_X1_areCells N b g u a0 x1 x2 = some (r, uf)) : uf.1 = u.1 ∧ uf.2.1 = u.2.1 :=
  zz_X1_areCells_0 (G := ((fun _ => 0, fun _ _ => 0), fun _ => 0, b, g)) (a0 := a0) N u x1 x2 h
theorem met_X1_areCells (l : Launch) (N : Nat) (G : uG) (u : UH) (a0 : Nat) (x1 : Int32) (x2 : Int32) (r : Int32) (uf : UH) (h : f_X1_areCells N (ub G) (ug G) u a0 x1 x2 = some (r, uf)) : Met l yX1_areCells (ws_ yX1_areCells cX1_areCells 3 (some .boolean)) ({ frames := 2, cells := 0, slots := 0, locals := 43 }) (uPc G u [.ref a0, .int x1, .int x2]) (uQi G r uf) 0 0 (uA G) := by
  exact u_met (own := RX1) (by decide +kernel) rfl (Nat.le_of_ble_eq_true rfl) (fun hC hn hsz ls hl hP => w_X1_areCells_0 hC ⟨Nat.le_refl _, Nat.le_refl _⟩ N u x1 x2 h hP va_S.rf hl)

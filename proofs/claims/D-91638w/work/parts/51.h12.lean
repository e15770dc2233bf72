/-! BY gen_heap.py: X5_nextWord X5_next X5_init X1_reader X5_skips X5_fault X14_truth X1_walk X1_costs X1_doubt X1_failing X1_feed X7_values X14_init X1_map X1_solver X1_mean X19_init X1_pit X1_out X2_goes X1_regret X1_run X1_spared X1_truth X1_tryAt X1_way X1_worst X1_worth -/
def f_X5_nextWord_82 (N b : Nat) (g : uEnv) (a0 : Nat) (u : UH) (s0 : Option Nat) (s1 : Option Nat) : Option (UH) :=
    (s1).bind fun a1 =>
    (uPut b u a1 4 6 (va_rf s0)).bind fun u2 =>
    mlet (g.1 2) fun o3 =>
    (uPut b u2 a0 4 5 (va_rf o3)).bind fun u4 =>
    some u4
set_option maxHeartbeats 4000000 in
set_option maxRecDepth 100000 in
theorem zz_X5_nextWord_82 {G : uG} {a0 : Nat} {uf : UH} (N : Nat) (u : UH) (s0 : Option Nat) (s1 : Option Nat) (h : f_X5_nextWord_82 N (ub G) (ug G) a0 u s0 s1 = some uf) : u.1 ≤ uf.1 ∧ u.2.1 ≤ uf.2.1 := by
  unfold f_X5_nextWord_82 at h
  obtain ⟨a1, ha1, hha1⟩ := mbind_n h
  subst ha1
  have h := hha1
  obtain ⟨u2, hu2, h⟩ := mbind_n h
  have zu2 := uPut_sz hu2
  obtain ⟨o3, eo3⟩ : ∃ z, z = (ug G).1 2 := ⟨_, rfl⟩
  have h := mlet_at eo3 h
  obtain ⟨u4, hu4, h⟩ := mbind_n h
  have zu4 := uPut_sz hu4
  cases h
  exact ⟨by omega, by omega⟩
set_option maxHeartbeats 4000000 in
set_option maxRecDepth 100000 in
theorem w_X5_nextWord_82 {p : Program} {l : Launch} {e : Env} {R : Room} {s : State} {m : MethodId} {args : Array Value} {below : List Frame} {meth : Method} {c : Code} {G : uG} {a0 : Nat} {u0 : UH} {uf : UH} (hC : uC p s m args meth c G RX5 cX5_nextWord 3 none) (hR : 6 ≤ R.frames ∧ 171 ≤ R.locals) (hRm : uf.1 - u0.1 ≤ R.cells ∧ uf.2.1 - u0.2.1 ≤ R.slots) (N : Nat) (u : UH) (s0 : Option Nat) (s1 : Option Nat) (h : f_X5_nextWord_82 N (ub G) (ug G) a0 u s0 s1 = some uf) (hz0 : (u0.1 ≤ u.1 ∧ u0.2.1 ≤ u.2.1)) {H : Heap} {locs : List Loc} (hP : uP G u H) (hS : va_S (uA G) s.heap H locs) {ls : Array Slot} (hl : lv_has ls 3 [(0, va_rf (some a0))]) : W p l e R s m args below meth c H locs (u.1 - u0.1) (u.2.1 - u0.2.1) (MQ below (uQv G uf) args s (uf.1 - u0.1) (uf.2.1 - u0.2.1) (uA G)) (F0 m 82 ls [va_rf s0, va_rf s1]) := by
  obtain ⟨⟨hx, hb, hml, hown, hts⟩, hKK⟩ := id hC
  have hzf := zz_X5_nextWord_82 (G := G) (a0 := a0) N u s0 s1 h
  unfold f_X5_nextWord_82 at h
  obtain ⟨a1, ha1, hha1⟩ := mbind_n h
  subst ha1
  have h := hha1
  obtain ⟨u2, hu2, h⟩ := mbind_n h
  have zu2 := uPut_sz hu2
  refine u_put hC hP hS hu2 rfl in_X5 tyX5 tyX5_ok nmX5 (by decide) q638 (fun _ h => h) rfl (ty := (.object "java/lang/String")) (tyX5_ok 6 (by decide)) (uNarR _ s0).1 (uNarR _ s0).2 dX5_nextWord_82 (fun H locs hP hS => ?_)
  refine W.cs (cells' := u2.1 - u0.1) (slots' := u2.2.1 - u0.2.1) (by omega) (by omega) ?_
  refine u_aload_n (r := some a0) hx hb dX5_nextWord_85 rfl (lv_at hl 0 rfl) ?_
  refine u_gets hC hS 2 rfl q547 (fun _ h => h) dX5_nextWord_86 ?_
  obtain ⟨o3, eo3⟩ : ∃ z, z = (ug G).1 2 := ⟨_, rfl⟩
  have h := mlet_at eo3 h
  rw [← eo3]
  obtain ⟨u4, hu4, h⟩ := mbind_n h
  have zu4 := uPut_sz hu4
  refine u_put hC hP hS hu4 rfl in_X5 tyX5 tyX5_ok nmX5 (by decide) q636 (fun _ h => h) rfl (ty := (.object "SoftWheels$Sort")) (tyX5_ok 5 (by decide)) (uNarR _ o3).1 (uNarR _ o3).2 dX5_nextWord_89 (fun H locs hP hS => ?_)
  refine W.cs (cells' := u4.1 - u0.1) (slots' := u4.2.1 - u0.2.1) (by omega) (by omega) ?_
  cases h
  exact u_vret hC hP hS dX5_nextWord_92
def f_X5_nextWord_70 (N b : Nat) (g : uEnv) (a0 : Nat) (k51 : UH → Option Nat → Int32 → Option (UH)) (u : UH) (x1 : Option Nat) (x2 : Int32) (s0 : Option Nat) : Option (UH) :=
    mlet (x2 + 1) fun y1 =>
    k51 u x1 y1
set_option maxHeartbeats 4000000 in
set_option maxRecDepth 100000 in
theorem zz_X5_nextWord_70 {G : uG} {a0 : Nat} {uf : UH} (N : Nat) (k51 : UH → Option Nat → Int32 → Option (UH)) (hk51 : ∀ (u : UH) (x1 : Option Nat) (x2 : Int32), k51 u x1 x2 = some uf → u.1 ≤ uf.1 ∧ u.2.1 ≤ uf.2.1) (u : UH) (x1 : Option Nat) (x2 : Int32) (s0 : Option Nat) (h : f_X5_nextWord_70 N (ub G) (ug G) a0 k51 u x1 x2 s0 = some uf) : u.1 ≤ uf.1 ∧ u.2.1 ≤ uf.2.1 := by
  unfold f_X5_nextWord_70 at h
  obtain ⟨y1, ey1⟩ : ∃ z : Int32, z = x2 + 1 := ⟨_, rfl⟩
  have h := mlet_at ey1 h
  have hq := hk51 u x1 y1 h
  exact ⟨by omega, by omega⟩
set_option maxHeartbeats 4000000 in
set_option maxRecDepth 100000 in
theorem w_X5_nextWord_70 {p : Program} {l : Launch} {e : Env} {R : Room} {s : State} {m : MethodId} {args : Array Value} {below : List Frame} {meth : Method} {c : Code} {G : uG} {a0 : Nat} {u0 : UH} {uf : UH} (hC : uC p s m args meth c G RX5 cX5_nextWord 3 none) (hR : 6 ≤ R.frames ∧ 171 ≤ R.locals) (hRm : uf.1 - u0.1 ≤ R.cells ∧ uf.2.1 - u0.2.1 ≤ R.slots) (N : Nat) (k51 : UH → Option Nat → Int32 → Option (UH)) (hk51 : ∀ (u : UH) (x1 : Option Nat) (x2 : Int32), k51 u x1 x2 = some uf → (u0.1 ≤ u.1 ∧ u0.2.1 ≤ u.2.1) → ∀ (H : Heap) (locs : List Loc), uP G u H → va_S (uA G) s.heap H locs → ∀ ls : Array Slot, lv_has ls 3 [(0, va_rf (some a0)), (1, va_rf x1), (2, .int x2)] → W p l e R s m args below meth c H locs (u.1 - u0.1) (u.2.1 - u0.2.1) (MQ below (uQv G uf) args s (uf.1 - u0.1) (uf.2.1 - u0.2.1) (uA G)) (F0 m 51 ls [])) (zk51 : ∀ (u : UH) (x1 : Option Nat) (x2 : Int32), k51 u x1 x2 = some uf → u.1 ≤ uf.1 ∧ u.2.1 ≤ uf.2.1) (u : UH) (x1 : Option Nat) (x2 : Int32) (s0 : Option Nat) (h : f_X5_nextWord_70 N (ub G) (ug G) a0 k51 u x1 x2 s0 = some uf) (hz0 : (u0.1 ≤ u.1 ∧ u0.2.1 ≤ u.2.1)) {H : Heap} {locs : List Loc} (hP : uP G u H) (hS : va_S (uA G) s.heap H locs) {ls : Array Slot} (hl : lv_has ls 3 [(0, va_rf (some a0)), (1, va_rf x1), (2, .int x2)]) : W p l e R s m args below meth c H locs (u.1 - u0.1) (u.2.1 - u0.2.1) (MQ below (uQv G uf) args s (uf.1 - u0.1) (uf.2.1 - u0.2.1) (uA G)) (F0 m 70 ls [va_rf s0]) := by
  obtain ⟨⟨hx, hb, hml, hown, hts⟩, hKK⟩ := id hC
  have hzf := zz_X5_nextWord_70 (G := G) (a0 := a0) N k51 zk51 u x1 x2 s0 h
  unfold f_X5_nextWord_70 at h
  refine lv_pop hx hb dX5_nextWord_70 (u_cat _) ?_
  obtain ⟨y1, ey1⟩ : ∃ z : Int32, z = x2 + 1 := ⟨_, rfl⟩
  have h := mlet_at ey1 h
  refine lv_iinc (v := y1) (lv' := [(2, .int y1), (0, va_rf (some a0)), (1, va_rf x1)]) hx hb dX5_nextWord_71 hl (k := 2) rfl (by rw [ey1]; rfl) (by decide) (by simp [List.filter_cons, u_cat]) (fun ls hl => ?_)
  refine lv_goto (tgt := 51) hx hb dX5_nextWord_74 (by decide) ?_
  refine W.cs (cells' := u.1 - u0.1) (slots' := u.2.1 - u0.2.1) (by omega) (by omega) ?_
  exact hk51 u x1 y1 h ⟨by omega, by omega⟩ _ _ hP hS _ (lv_sub hl [1, 2, 0] rfl)
def f_X5_nextWord_51 (N b : Nat) (g : uEnv) (a0 : Nat) : Nat → UH → Option Nat → Int32 → Option (UH)
  | 0, _, _, _ => none
  | n + 1, u, x1, x2 =>
    (uGI u a0 4 2).bind fun y1 =>
    if y1 ≤ x2 then
    (x1).bind fun a3 =>
    if uIs u a3 19 = true then
    ucall (f_J5_toString N b g u a3) fun o7 u5 =>
    f_X5_nextWord_82 N b g a0 u5 o7 (some a0)
    else none
    else
    (uGR u a0 4 0).bind fun o8 =>
    (o8).bind fun a9 =>
    (uLdI u a9 1 x2).bind fun y10 =>
    (x1).bind fun a11 =>
    if uIs u a11 19 = true then
    ucall (f_J5_append N b g u a11 ((y10.toUInt32 % 65536).toInt32)) fun o15 u13 =>
    f_X5_nextWord_70 N b g a0 (f_X5_nextWord_51 N b g a0 n) u13 (some a11) x2 o15
    else none
set_option maxHeartbeats 4000000 in
set_option maxRecDepth 100000 in
theorem zz_X5_nextWord_51 {G : uG} {a0 : Nat} {uf : UH} (N : Nat) : ∀ (n : Nat) (u : UH) (x1 : Option Nat) (x2 : Int32), f_X5_nextWord_51 N (ub G) (ug G) a0 n u x1 x2 = some uf → u.1 ≤ uf.1 ∧ u.2.1 ≤ uf.2.1 := by
  intro n
  induction n with
  | zero =>
    intro u x1 x2 h
    cases h
  | succ n ih =>
    intro u x1 x2 h
    unfold f_X5_nextWord_51 at h
    obtain ⟨y1, hy1, h⟩ := mbind_n h
    by_cases c2 : y1 ≤ x2
    · have h := mif_t c2 h
      obtain ⟨a3, ha3, hha3⟩ := mbind_n h
      subst ha3
      have h := hha3
      obtain ⟨c4, h⟩ := mif_n h
      obtain ⟨o7, u5, c6, h⟩ := ucall_n h
      have zu5 := zz_J5_toString N (ub G) (ug G) u a3 o7 u5 c6
      have hq := zz_X5_nextWord_82 (G := G) (a0 := a0) N u5 o7 (some a0) h
      exact ⟨by omega, by omega⟩
    · have h := mif_f c2 h
      obtain ⟨o8, ho8, h⟩ := mbind_n h
      obtain ⟨a9, ha9, hha9⟩ := mbind_n h
      subst ha9
      have h := hha9
      obtain ⟨y10, hy10, h⟩ := mbind_n h
      obtain ⟨a11, ha11, hha11⟩ := mbind_n h
      subst ha11
      have h := hha11
      obtain ⟨c12, h⟩ := mif_n h
      obtain ⟨o15, u13, c14, h⟩ := ucall_n h
      have zu13 := zz_J5_append N (ub G) (ug G) u a11 ((y10.toUInt32 % 65536).toInt32) o15 u13 c14
      have hq := zz_X5_nextWord_70 (G := G) (a0 := a0) N (f_X5_nextWord_51 N (ub G) (ug G) a0 n) ih u13 (some a11) x2 o15 h
      exact ⟨by omega, by omega⟩
set_option maxHeartbeats 4000000 in
set_option maxRecDepth 100000 in
theorem w_X5_nextWord_51 {p : Program} {l : Launch} {e : Env} {R : Room} {s : State} {m : MethodId} {args : Array Value} {below : List Frame} {meth : Method} {c : Code} {G : uG} {a0 : Nat} {u0 : UH} {uf : UH} (hC : uC p s m args meth c G RX5 cX5_nextWord 3 none) (hR : 6 ≤ R.frames ∧ 171 ≤ R.locals) (hRm : uf.1 - u0.1 ≤ R.cells ∧ uf.2.1 - u0.2.1 ≤ R.slots) (N : Nat) : ∀ (n : Nat) (u : UH) (x1 : Option Nat) (x2 : Int32), f_X5_nextWord_51 N (ub G) (ug G) a0 n u x1 x2 = some uf → (u0.1 ≤ u.1 ∧ u0.2.1 ≤ u.2.1) → ∀ (H : Heap) (locs : List Loc), uP G u H → va_S (uA G) s.heap H locs → ∀ ls : Array Slot, lv_has ls 3 [(0, va_rf (some a0)), (1, va_rf x1), (2, .int x2)] → W p l e R s m args below meth c H locs (u.1 - u0.1) (u.2.1 - u0.2.1) (MQ below (uQv G uf) args s (uf.1 - u0.1) (uf.2.1 - u0.2.1) (uA G)) (F0 m 51 ls []) := by
  obtain ⟨⟨hx, hb, hml, hown, hts⟩, hKK⟩ := id hC
  intro n
  induction n with
  | zero =>
    intro u x1 x2 h
    cases h
  | succ n ih =>
    intro u x1 x2 h hz0 H locs hP hS ls hl
    have hzf := zz_X5_nextWord_51 (G := G) (a0 := a0) N (n + 1) u x1 x2 h
    unfold f_X5_nextWord_51 at h
    refine lv_iload_n hx hb dX5_nextWord_51 rfl (lv_at hl 2 rfl) ?_
    refine u_aload_n (r := some a0) hx hb dX5_nextWord_52 rfl (lv_at hl 0 rfl) ?_
    obtain ⟨y1, hy1, h⟩ := mbind_n h
    refine u_get hC hP (uGI_n hy1) rfl in_X5 (by decide) q629 (fun _ h => h) dX5_nextWord_53 ?_
    refine lv_icmp_ge (tgt := 77) hx hb dX5_nextWord_56 (by decide) (fun c2 => ?_) (fun c2 => ?_)
    · have h := mif_t c2 h
      refine u_aload_n (r := some a0) hx hb dX5_nextWord_77 rfl (lv_at hl 0 rfl) ?_
      refine u_aload_n (r := x1) hx hb dX5_nextWord_78 rfl (lv_at hl 1 rfl) ?_
      obtain ⟨a3, ha3, hha3⟩ := mbind_n h
      subst ha3
      have h := hha3
      obtain ⟨c4, h⟩ := mif_n h
      obtain ⟨o7, u5, c6, h⟩ := ucall_n h
      have zu5 := zz_J5_toString N (ub G) (ug G) u a3 o7 u5 c6
      have hq := zz_X5_nextWord_82 (G := G) (a0 := a0) N u5 o7 (some a0) h
      refine u_callr (va_runV (As := []) (rest := [va_rf (some a0)]) hC.1 (met_J5_toString l N G u a3 o7 u5 c6) (cwV 0 hts (lw_V q484 q485 q486 q109 q487) rfl rfl rfl (by decide +kernel) ⟨Nat.le_trans (Nat.le_of_ble_eq_true rfl) hR.1, Nat.le_trans (Nat.le_of_ble_eq_true rfl) hR.2⟩) ⟨uPc_blind, u_rcv hC hP c4 rfl, fun U hU hW => u_pre hC hP hS hU hW⟩ rfl rfl hl.1 rfl (lv_room (Nat.le_of_ble_eq_true rfl)) dX5_nextWord_79 ⟨by omega, by omega⟩) hS (fun H locs hP hS => ?_)
      refine W.cs (cells' := u5.1 - u0.1) (slots' := u5.2.1 - u0.2.1) (by omega) (by omega) ?_
      refine W.cs (cells' := u5.1 - u0.1) (slots' := u5.2.1 - u0.2.1) (by omega) (by omega) ?_
      exact w_X5_nextWord_82 hC hR hRm N u5 o7 (some a0) h ⟨by omega, by omega⟩ hP hS (lv_sub hl [0] rfl)
    · have h := mif_f c2 h
      refine u_aload_n (r := x1) hx hb dX5_nextWord_59 rfl (lv_at hl 1 rfl) ?_
      refine u_aload_n (r := some a0) hx hb dX5_nextWord_60 rfl (lv_at hl 0 rfl) ?_
      obtain ⟨o8, ho8, h⟩ := mbind_n h
      refine u_get hC hP (uGR_n ho8) rfl in_X5 (by decide) q627 (fun _ h => h) dX5_nextWord_61 ?_
      refine lv_iload_n hx hb dX5_nextWord_64 rfl (lv_at hl 2 rfl) ?_
      obtain ⟨a9, ha9, hha9⟩ := mbind_n h
      subst ha9
      have h := hha9
      obtain ⟨y10, hy10, h⟩ := mbind_n h
      refine u_bald hC hP hy10 rfl dX5_nextWord_65 ?_
      refine lv_i2c (v := (y10.toUInt32 % 65536).toInt32) hx hb dX5_nextWord_66 rfl ?_
      obtain ⟨a11, ha11, hha11⟩ := mbind_n h
      subst ha11
      have h := hha11
      obtain ⟨c12, h⟩ := mif_n h
      obtain ⟨o15, u13, c14, h⟩ := ucall_n h
      have zu13 := zz_J5_append N (ub G) (ug G) u a11 ((y10.toUInt32 % 65536).toInt32) o15 u13 c14
      have hq := zz_X5_nextWord_70 (G := G) (a0 := a0) N (f_X5_nextWord_51 N (ub G) (ug G) a0 n) (zz_X5_nextWord_51 (G := G) (a0 := a0) N n) u13 (some a11) x2 o15 h
      refine u_callr (va_runV (As := [.int ((y10.toUInt32 % 65536).toInt32)]) (rest := []) hC.1 (met_J5_append l N G u a11 ((y10.toUInt32 % 65536).toInt32) o15 u13 c14) (cwV 1 hts (lw_V q389 q390 q391 q109 q392) rfl rfl rfl (by decide +kernel) ⟨Nat.le_trans (Nat.le_of_ble_eq_true rfl) hR.1, Nat.le_trans (Nat.le_of_ble_eq_true rfl) hR.2⟩) ⟨uPc_blind, u_rcv hC hP c12 rfl, fun U hU hW => u_pre hC hP hS hU hW⟩ rfl rfl hl.1 rfl (lv_room (Nat.le_of_ble_eq_true rfl)) dX5_nextWord_67 ⟨by omega, by omega⟩) hS (fun H locs hP hS => ?_)
      refine W.cs (cells' := u13.1 - u0.1) (slots' := u13.2.1 - u0.2.1) (by omega) (by omega) ?_
      refine W.cs (cells' := u13.1 - u0.1) (slots' := u13.2.1 - u0.2.1) (by omega) (by omega) ?_
      exact w_X5_nextWord_70 hC hR hRm N (f_X5_nextWord_51 N (ub G) (ug G) a0 n) ih (zz_X5_nextWord_51 (G := G) (a0 := a0) N n) u13 (some a11) x2 o15 h ⟨by omega, by omega⟩ hP hS (lv_sub hl [0, 1, 2] rfl)
def f_X5_nextWord_45 (N b : Nat) (g : uEnv) (a0 : Nat) (u : UH) (s0 : Option Nat) : Option (UH) :=
    (uGI u a0 4 3).bind fun y1 =>
    f_X5_nextWord_51 N b g a0 N u s0 y1
set_option maxHeartbeats 4000000 in
set_option maxRecDepth 100000 in
theorem zz_X5_nextWord_45 {G : uG} {a0 : Nat} {uf : UH} (N : Nat) (u : UH) (s0 : Option Nat) (h : f_X5_nextWord_45 N (ub G) (ug G) a0 u s0 = some uf) : u.1 ≤ uf.1 ∧ u.2.1 ≤ uf.2.1 := by
  unfold f_X5_nextWord_45 at h
  obtain ⟨y1, hy1, h⟩ := mbind_n h
  have hq := zz_X5_nextWord_51 (G := G) (a0 := a0) N N u s0 y1 h
  exact ⟨by omega, by omega⟩
set_option maxHeartbeats 4000000 in
set_option maxRecDepth 100000 in
theorem w_X5_nextWord_45 {p : Program} {l : Launch} {e : Env} {R : Room} {s : State} {m : MethodId} {args : Array Value} {below : List Frame} {meth : Method} {c : Code} {G : uG} {a0 : Nat} {u0 : UH} {uf : UH} (hC : uC p s m args meth c G RX5 cX5_nextWord 3 none) (hR : 6 ≤ R.frames ∧ 171 ≤ R.locals) (hRm : uf.1 - u0.1 ≤ R.cells ∧ uf.2.1 - u0.2.1 ≤ R.slots) (N : Nat) (u : UH) (s0 : Option Nat) (h : f_X5_nextWord_45 N (ub G) (ug G) a0 u s0 = some uf) (hz0 : (u0.1 ≤ u.1 ∧ u0.2.1 ≤ u.2.1)) {H : Heap} {locs : List Loc} (hP : uP G u H) (hS : va_S (uA G) s.heap H locs) {ls : Array Slot} (hl : lv_has ls 3 [(0, va_rf (some a0))]) : W p l e R s m args below meth c H locs (u.1 - u0.1) (u.2.1 - u0.2.1) (MQ below (uQv G uf) args s (uf.1 - u0.1) (uf.2.1 - u0.2.1) (uA G)) (F0 m 45 ls [va_rf s0]) := by
  obtain ⟨⟨hx, hb, hml, hown, hts⟩, hKK⟩ := id hC
  have hzf := zz_X5_nextWord_45 (G := G) (a0 := a0) N u s0 h
  unfold f_X5_nextWord_45 at h
  refine u_astore_n (i := 1) (r := s0) (lv' := [(1, va_rf s0), (0, va_rf (some a0))]) hx hb dX5_nextWord_45 rfl hl (by decide) rfl (fun ls hl => ?_)
  refine u_aload_n (r := some a0) hx hb dX5_nextWord_46 rfl (lv_at hl 1 rfl) ?_
  obtain ⟨y1, hy1, h⟩ := mbind_n h
  refine u_get hC hP (uGI_n hy1) rfl in_X5 (by decide) q630 (fun _ h => h) dX5_nextWord_47 ?_
  refine lv_istore_n (i := 2) (lv' := [(2, .int y1), (1, va_rf s0), (0, va_rf (some a0))]) hx hb dX5_nextWord_50 rfl hl (by decide) (by simp [List.filter_cons, u_cat]) (fun ls hl => ?_)
  refine W.cs (cells' := u.1 - u0.1) (slots' := u.2.1 - u0.2.1) (by omega) (by omega) ?_
  exact w_X5_nextWord_51 hC hR hRm N N u s0 y1 h ⟨by omega, by omega⟩ _ _ hP hS _ (lv_sub hl [2, 1, 0] rfl)
def f_X5_nextWord_41 (N b : Nat) (g : uEnv) (a0 : Nat) (u : UH) (s0 : Option Nat) : Option (UH) :=
    (s0).bind fun a1 =>
    (f_J5_init N b g u a1).bind fun u2 =>
    f_X5_nextWord_45 N b g a0 u2 (some a1)
set_option maxHeartbeats 4000000 in
set_option maxRecDepth 100000 in
theorem zz_X5_nextWord_41 {G : uG} {a0 : Nat} {uf : UH} (N : Nat) (u : UH) (s0 : Option Nat) (h : f_X5_nextWord_41 N (ub G) (ug G) a0 u s0 = some uf) : u.1 ≤ uf.1 ∧ u.2.1 ≤ uf.2.1 := by
  unfold f_X5_nextWord_41 at h
  obtain ⟨a1, ha1, hha1⟩ := mbind_n h
  subst ha1
  have h := hha1
  obtain ⟨u2, c3, h⟩ := mbind_n h
  have zu2 := zz_J5_init N (ub G) (ug G) u a1 u2 c3
  have hq := zz_X5_nextWord_45 (G := G) (a0 := a0) N u2 (some a1) h
  exact ⟨by omega, by omega⟩
set_option maxHeartbeats 4000000 in
set_option maxRecDepth 100000 in
theorem w_X5_nextWord_41 {p : Program} {l : Launch} {e : Env} {R : Room} {s : State} {m : MethodId} {args : Array Value} {below : List Frame} {meth : Method} {c : Code} {G : uG} {a0 : Nat} {u0 : UH} {uf : UH} (hC : uC p s m args meth c G RX5 cX5_nextWord 3 none) (hR : 6 ≤ R.frames ∧ 171 ≤ R.locals) (hRm : uf.1 - u0.1 ≤ R.cells ∧ uf.2.1 - u0.2.1 ≤ R.slots) (N : Nat) (u : UH) (s0 : Option Nat) (h : f_X5_nextWord_41 N (ub G) (ug G) a0 u s0 = some uf) (hz0 : (u0.1 ≤ u.1 ∧ u0.2.1 ≤ u.2.1)) {H : Heap} {locs : List Loc} (hP : uP G u H) (hS : va_S (uA G) s.heap H locs) {ls : Array Slot} (hl : lv_has ls 3 [(0, va_rf (some a0))]) : W p l e R s m args below meth c H locs (u.1 - u0.1) (u.2.1 - u0.2.1) (MQ below (uQv G uf) args s (uf.1 - u0.1) (uf.2.1 - u0.2.1) (uA G)) (F0 m 41 ls [va_rf s0]) := by
  obtain ⟨⟨hx, hb, hml, hown, hts⟩, hKK⟩ := id hC
  have hzf := zz_X5_nextWord_41 (G := G) (a0 := a0) N u s0 h
  unfold f_X5_nextWord_41 at h
  refine lv_dup hx hb dX5_nextWord_41 (u_cat _) ?_
  obtain ⟨a1, ha1, hha1⟩ := mbind_n h
  subst ha1
  have h := hha1
  obtain ⟨u2, c3, h⟩ := mbind_n h
  have zu2 := zz_J5_init N (ub G) (ug G) u a1 u2 c3
  have hq := zz_X5_nextWord_45 (G := G) (a0 := a0) N u2 (some a1) h
  refine u_callv (va_runI (As := []) (rest := [va_rf (some a1)]) hC.1 (met_J5_init l N G u a1 u2 c3) (cwI 0 hts (lw_meth q362) rfl rfl rfl (hts _ q109) (hts _ q360) (hts _ q361) rfl (by decide +kernel) ⟨Nat.le_trans (Nat.le_of_ble_eq_true rfl) hR.1, Nat.le_trans (Nat.le_of_ble_eq_true rfl) hR.2⟩) ⟨uPc_blind, fun U hU hW => u_pre hC hP hS hU hW⟩ rfl rfl hl.1 rfl (lv_room (Nat.le_of_ble_eq_true rfl)) dX5_nextWord_42 ⟨by omega, by omega⟩) hS (fun H locs hP hS => ?_)
  refine W.cs (cells' := u2.1 - u0.1) (slots' := u2.2.1 - u0.2.1) (by omega) (by omega) ?_
  refine W.cs (cells' := u2.1 - u0.1) (slots' := u2.2.1 - u0.2.1) (by omega) (by omega) ?_
  exact w_X5_nextWord_45 hC hR hRm N u2 (some a1) h ⟨by omega, by omega⟩ hP hS (lv_sub hl [0] rfl)
def f_X5_nextWord_0 (N b : Nat) (g : uEnv) (a0 : Nat) : Nat → UH → Option (UH)
  | 0, _ => none
  | n + 1, u =>
    if uIs u a0 4 = true then
    ucall (f_X5_here N b g u a0) fun r4 u2 =>
    ucall (f_X5_isLetter N b g u2 r4) fun r7 u5 =>
    if r7 = 0 then
    (uGI u5 a0 4 2).bind fun y9 =>
    (uGI u5 a0 4 3).bind fun y10 =>
    if (y9 - y10) ≤ 8 then
    mlet (u5.1) fun a13 =>
    mlet (uNew u5 4 (.inr (19, uDefs tyJ5 4))) fun u12 =>
    f_X5_nextWord_41 N b g a0 u12 (some a13)
    else
    some u5
    else
    (uGI u5 a0 4 2).bind fun y14 =>
    (uPut b u5 a0 4 2 (.int (y14 + 1))).bind fun u15 =>
    f_X5_nextWord_0 N b g a0 n u15
    else none
set_option maxHeartbeats 4000000 in
set_option maxRecDepth 100000 in
theorem zz_X5_nextWord_0 {G : uG} {a0 : Nat} {uf : UH} (N : Nat) : ∀ (n : Nat) (u : UH), f_X5_nextWord_0 N (ub G) (ug G) a0 n u = some uf → u.1 ≤ uf.1 ∧ u.2.1 ≤ uf.2.1 := by
  intro n
  induction n with
  | zero =>
    intro u h
    cases h
  | succ n ih =>
    intro u h
    unfold f_X5_nextWord_0 at h
    obtain ⟨c1, h⟩ := mif_n h
    obtain ⟨r4, u2, c3, h⟩ := ucall_n h
    have zu2 := zz_X5_here N (ub G) (ug G) u a0 r4 u2 c3
    obtain ⟨r7, u5, c6, h⟩ := ucall_n h
    have zu5 := zz_X5_isLetter N (ub G) (ug G) u2 r4 r7 u5 c6
    by_cases c8 : r7 = 0
    · have h := mif_t c8 h
      obtain ⟨y9, hy9, h⟩ := mbind_n h
      obtain ⟨y10, hy10, h⟩ := mbind_n h
      by_cases c11 : (y9 - y10) ≤ 8
      · have h := mif_t c11 h
        obtain ⟨a13, ea13⟩ : ∃ z : Nat, z = u5.1 := ⟨_, rfl⟩
        have h := mlet_at ea13 h
        obtain ⟨u12, eu12⟩ : ∃ z : UH, z = uNew u5 4 (.inr (19, uDefs tyJ5 4)) := ⟨_, rfl⟩
        have h := mlet_at eu12 h
        have zu12 : u12.1 = u5.1 + 1 ∧ u12.2.1 = u5.2.1 + 4 := by rw [eu12]; exact ⟨rfl, rfl⟩
        have hq := zz_X5_nextWord_41 (G := G) (a0 := a0) N u12 (some a13) h
        exact ⟨by omega, by omega⟩
      · have h := mif_f c11 h
        cases h
        exact ⟨by omega, by omega⟩
    · have h := mif_f c8 h
      obtain ⟨y14, hy14, h⟩ := mbind_n h
      obtain ⟨u15, hu15, h⟩ := mbind_n h
      have zu15 := uPut_sz hu15
      have hq := ih u15 h
      exact ⟨by omega, by omega⟩
set_option maxHeartbeats 4000000 in
set_option maxRecDepth 100000 in
theorem w_X5_nextWord_0 {p : Program} {l : Launch} {e : Env} {R : Room} {s : State} {m : MethodId} {args : Array Value} {below : List Frame} {meth : Method} {c : Code} {G : uG} {a0 : Nat} {u0 : UH} {uf : UH} (hC : uC p s m args meth c G RX5 cX5_nextWord 3 none) (hR : 6 ≤ R.frames ∧ 171 ≤ R.locals) (hRm : uf.1 - u0.1 ≤ R.cells ∧ uf.2.1 - u0.2.1 ≤ R.slots) (N : Nat) : ∀ (n : Nat) (u : UH), f_X5_nextWord_0 N (ub G) (ug G) a0 n u = some uf → (u0.1 ≤ u.1 ∧ u0.2.1 ≤ u.2.1) → ∀ (H : Heap) (locs : List Loc), uP G u H → va_S (uA G) s.heap H locs → ∀ ls : Array Slot, lv_has ls 3 [(0, va_rf (some a0))] → W p l e R s m args below meth c H locs (u.1 - u0.1) (u.2.1 - u0.2.1) (MQ below (uQv G uf) args s (uf.1 - u0.1) (uf.2.1 - u0.2.1) (uA G)) (F0 m 0 ls []) := by
  obtain ⟨⟨hx, hb, hml, hown, hts⟩, hKK⟩ := id hC
  intro n
  induction n with
  | zero =>
    intro u h
    cases h
  | succ n ih =>
    intro u h hz0 H locs hP hS ls hl
    have hzf := zz_X5_nextWord_0 (G := G) (a0 := a0) N (n + 1) u h
    unfold f_X5_nextWord_0 at h
    refine u_aload_n (r := some a0) hx hb dX5_nextWord_0 rfl (lv_at hl 0 rfl) ?_
    obtain ⟨c1, h⟩ := mif_n h
    obtain ⟨r4, u2, c3, h⟩ := ucall_n h
    have zu2 := zz_X5_here N (ub G) (ug G) u a0 r4 u2 c3
    refine u_calli (va_runV (As := []) (rest := []) hC.1 (met_X5_here l N G u a0 r4 u2 c3) (cwV 0 hts (lw_V q343 q345 qs2 q105 q346) rfl rfl rfl (by decide +kernel) ⟨Nat.le_trans (Nat.le_of_ble_eq_true rfl) hR.1, Nat.le_trans (Nat.le_of_ble_eq_true rfl) hR.2⟩) ⟨uPc_blind, u_rcv hC hP c1 rfl, fun U hU hW => u_pre hC hP hS hU hW⟩ rfl rfl hl.1 rfl (lv_room (Nat.le_of_ble_eq_true rfl)) dX5_nextWord_1 ⟨by omega, by omega⟩) hS (fun H locs hP hS => ?_)
    refine W.cs (cells' := u2.1 - u0.1) (slots' := u2.2.1 - u0.2.1) (by omega) (by omega) ?_
    obtain ⟨r7, u5, c6, h⟩ := ucall_n h
    have zu5 := zz_X5_isLetter N (ub G) (ug G) u2 r4 r7 u5 c6
    refine u_calli (va_runS (As := [.int r4]) (rest := []) hC.1 (met_X5_isLetter l N G u2 r4 r7 u5 c6) (va_cwS 1 hts (lw_S q351 q352 q105 q353) rfl rfl rfl (by decide +kernel) ⟨Nat.le_trans (Nat.le_of_ble_eq_true rfl) hR.1, Nat.le_trans (Nat.le_of_ble_eq_true rfl) hR.2⟩) ⟨uPc_blind, fun U hU hW => u_pre hC hP hS hU hW⟩ rfl rfl hl.1 rfl (lv_room (Nat.le_of_ble_eq_true rfl)) dX5_nextWord_4 ⟨by omega, by omega⟩) hS (fun H locs hP hS => ?_)
    refine W.cs (cells' := u5.1 - u0.1) (slots' := u5.2.1 - u0.2.1) (by omega) (by omega) ?_
    refine lv_if_eq (tgt := 23) hx hb dX5_nextWord_7 (by decide) (fun c8 => ?_) (fun c8 => ?_)
    · have h := mif_t c8 h
      refine u_aload_n (r := some a0) hx hb dX5_nextWord_23 rfl (lv_at hl 0 rfl) ?_
      obtain ⟨y9, hy9, h⟩ := mbind_n h
      refine u_get hC hP (uGI_n hy9) rfl in_X5 (by decide) q629 (fun _ h => h) dX5_nextWord_24 ?_
      refine u_aload_n (r := some a0) hx hb dX5_nextWord_27 rfl (lv_at hl 0 rfl) ?_
      obtain ⟨y10, hy10, h⟩ := mbind_n h
      refine u_get hC hP (uGI_n hy10) rfl in_X5 (by decide) q630 (fun _ h => h) dX5_nextWord_28 ?_
      refine lv_isub hx hb dX5_nextWord_31 ?_
      refine lv_bipush (v := 8) hx hb dX5_nextWord_32 (by decide) ?_
      refine lv_icmp_le (tgt := 38) hx hb dX5_nextWord_34 (by decide) (fun c11 => ?_) (fun c11 => ?_)
      · have h := mif_t c11 h
        obtain ⟨a13, ea13⟩ : ∃ z : Nat, z = u5.1 := ⟨_, rfl⟩
        have h := mlet_at ea13 h
        obtain ⟨u12, eu12⟩ : ∃ z : UH, z = uNew u5 4 (.inr (19, uDefs tyJ5 4)) := ⟨_, rfl⟩
        have h := mlet_at eu12 h
        have zu12 : u12.1 = u5.1 + 1 ∧ u12.2.1 = u5.2.1 + 4 := by rw [eu12]; exact ⟨rfl, rfl⟩
        have hq := zz_X5_nextWord_41 (G := G) (a0 := a0) N u12 (some a13) h
        refine u_new hC hP hS (T := TJ5) (N := 4) (ci := 19) rfl in_J5 tyJ5 tyJ5_ok q358 q359 q109 (by omega) (by omega) dX5_nextWord_38 (fun H hP hS => ?_)
        rw [← eu12] at hP
        rw [← ea13]
        refine W.cs (cells' := u12.1 - u0.1) (slots' := u12.2.1 - u0.2.1) (by omega) (by omega) ?_
        refine W.cs (cells' := u12.1 - u0.1) (slots' := u12.2.1 - u0.2.1) (by omega) (by omega) ?_
        exact w_X5_nextWord_41 hC hR hRm N u12 (some a13) h ⟨by omega, by omega⟩ hP hS (lv_sub hl [0] rfl)
      · have h := mif_f c11 h
        cases h
        exact u_vret hC hP hS dX5_nextWord_37
    · have h := mif_f c8 h
      refine u_aload_n (r := some a0) hx hb dX5_nextWord_10 rfl (lv_at hl 0 rfl) ?_
      refine lv_dup hx hb dX5_nextWord_11 (u_cat _) ?_
      obtain ⟨y14, hy14, h⟩ := mbind_n h
      refine u_get hC hP (uGI_n hy14) rfl in_X5 (by decide) q629 (fun _ h => h) dX5_nextWord_12 ?_
      refine lv_iconst (v := 1) hx hb dX5_nextWord_15 (by decide) ?_
      refine lv_iadd hx hb dX5_nextWord_16 ?_
      obtain ⟨u15, hu15, h⟩ := mbind_n h
      have zu15 := uPut_sz hu15
      refine u_put hC hP hS hu15 rfl in_X5 tyX5 tyX5_ok nmX5 (by decide) q629 (fun _ h => h) rfl (ty := .int) (tyX5_ok 2 (by decide)) rfl rfl dX5_nextWord_17 (fun H locs hP hS => ?_)
      refine W.cs (cells' := u15.1 - u0.1) (slots' := u15.2.1 - u0.2.1) (by omega) (by omega) ?_
      refine lv_goto (tgt := 0) hx hb dX5_nextWord_20 (by decide) ?_
      refine W.cs (cells' := u15.1 - u0.1) (slots' := u15.2.1 - u0.2.1) (by omega) (by omega) ?_
      exact ih u15 h ⟨by omega, by omega⟩ _ _ hP hS _ (lv_sub hl [0] rfl)
def f_X5_nextWord (N b : Nat) (g : uEnv) (u : UH) (a0 : Nat) : Option (UH) := f_X5_nextWord_0 N b g a0 N u
theorem zz_X5_nextWord (N b : Nat) (g : uEnv) (u : UH) (a0 : Nat) (uf : UH) (h : f_X5_nextWord N b g u a0 = some uf) : u.1 ≤ uf.1 ∧ u.2.1 ≤ uf.2.1 :=
  zz_X5_nextWord_0 (G := ((fun _ => 0, fun _ _ => 0), fun _ => 0, b, g)) (a0 := a0) N N u h
theorem met_X5_nextWord (l : Launch) (N : Nat) (G : uG) (u : UH) (a0 : Nat) (uf : UH) (h : f_X5_nextWord N (ub G) (ug G) u a0 = some uf) : Met l yX5_nextWord (ws_ yX5_nextWord cX5_nextWord 3 none) ({ frames := 6, cells := (uf.1 - u.1), slots := (uf.2.1 - u.2.1), locals := 171 }) (uPc G u [.ref a0]) (uQv G uf) (uf.1 - u.1) (uf.2.1 - u.2.1) (uA G) := by
  exact u_met (own := RX5) (by decide +kernel) rfl (Nat.le_of_ble_eq_true rfl) (fun hC hn hsz ls hl hP => W.cs (Nat.sub_self _).symm (Nat.sub_self _).symm (w_X5_nextWord_0 hC ⟨Nat.le_refl _, Nat.le_refl _⟩ ⟨Nat.le_refl _, Nat.le_refl _⟩ N N u h ⟨Nat.le_refl _, Nat.le_refl _⟩ _ _ hP va_S.rf _ (lv_sub hl [0] rfl)))
def f_X5_next_117 (N b : Nat) (g : uEnv) (a0 : Nat) (u : UH) : Option (UH) :=
    some u
set_option maxHeartbeats 4000000 in
set_option maxRecDepth 100000 in
theorem zz_X5_next_117 {G : uG} {a0 : Nat} {uf : UH} (N : Nat) (u : UH) (h : f_X5_next_117 N (ub G) (ug G) a0 u = some uf) : u.1 ≤ uf.1 ∧ u.2.1 ≤ uf.2.1 := by
  unfold f_X5_next_117 at h
  cases h
  exact ⟨by omega, by omega⟩
set_option maxHeartbeats 4000000 in
set_option maxRecDepth 100000 in
theorem w_X5_next_117 {p : Program} {l : Launch} {e : Env} {R : Room} {s : State} {m : MethodId} {args : Array Value} {below : List Frame} {meth : Method} {c : Code} {G : uG} {a0 : Nat} {u0 : UH} {uf : UH} (hC : uC p s m args meth c G RX5 cX5_next 2 none) (hR : 7 ≤ R.frames ∧ 193 ≤ R.locals) (hRm : uf.1 - u0.1 ≤ R.cells ∧ uf.2.1 - u0.2.1 ≤ R.slots) (N : Nat) (u : UH) (h : f_X5_next_117 N (ub G) (ug G) a0 u = some uf) (hz0 : (u0.1 ≤ u.1 ∧ u0.2.1 ≤ u.2.1)) {H : Heap} {locs : List Loc} (hP : uP G u H) (hS : va_S (uA G) s.heap H locs) {ls : Array Slot} (hl : lv_has ls 2 []) : W p l e R s m args below meth c H locs (u.1 - u0.1) (u.2.1 - u0.2.1) (MQ below (uQv G uf) args s (uf.1 - u0.1) (uf.2.1 - u0.2.1) (uA G)) (F0 m 117 ls []) := by
  obtain ⟨⟨hx, hb, hml, hown, hts⟩, hKK⟩ := id hC
  have hzf := zz_X5_next_117 (G := G) (a0 := a0) N u h
  unfold f_X5_next_117 at h
  cases h
  exact u_vret hC hP hS dX5_next_117
def f_X5_next_68 (N b : Nat) (g : uEnv) (a0 : Nat) (u : UH) : Option (UH) :=
    f_X5_next_117 N b g a0 u
set_option maxHeartbeats 4000000 in
set_option maxRecDepth 100000 in
theorem zz_X5_next_68 {G : uG} {a0 : Nat} {uf : UH} (N : Nat) (u : UH) (h : f_X5_next_68 N (ub G) (ug G) a0 u = some uf) : u.1 ≤ uf.1 ∧ u.2.1 ≤ uf.2.1 := by
  unfold f_X5_next_68 at h
  have hq := zz_X5_next_117 (G := G) (a0 := a0) N u h
  exact ⟨by omega, by omega⟩
set_option maxHeartbeats 4000000 in
set_option maxRecDepth 100000 in
theorem w_X5_next_68 {p : Program} {l : Launch} {e : Env} {R : Room} {s : State} {m : MethodId} {args : Array Value} {below : List Frame} {meth : Method} {c : Code} {G : uG} {a0 : Nat} {u0 : UH} {uf : UH} (hC : uC p s m args meth c G RX5 cX5_next 2 none) (hR : 7 ≤ R.frames ∧ 193 ≤ R.locals) (hRm : uf.1 - u0.1 ≤ R.cells ∧ uf.2.1 - u0.2.1 ≤ R.slots) (N : Nat) (u : UH) (h : f_X5_next_68 N (ub G) (ug G) a0 u = some uf) (hz0 : (u0.1 ≤ u.1 ∧ u0.2.1 ≤ u.2.1)) {H : Heap} {locs : List Loc} (hP : uP G u H) (hS : va_S (uA G) s.heap H locs) {ls : Array Slot} (hl : lv_has ls 2 []) : W p l e R s m args below meth c H locs (u.1 - u0.1) (u.2.1 - u0.2.1) (MQ below (uQv G uf) args s (uf.1 - u0.1) (uf.2.1 - u0.2.1) (uA G)) (F0 m 68 ls []) := by
  obtain ⟨⟨hx, hb, hml, hown, hts⟩, hKK⟩ := id hC
  have hzf := zz_X5_next_68 (G := G) (a0 := a0) N u h
  unfold f_X5_next_68 at h
  refine lv_goto (tgt := 117) hx hb dX5_next_68 (by decide) ?_
  refine W.cs (cells' := u.1 - u0.1) (slots' := u.2.1 - u0.2.1) (by omega) (by omega) ?_
  exact w_X5_next_117 hC hR hRm N u h ⟨by omega, by omega⟩ hP hS (lv_sub hl [] rfl)
def f_X5_next_0 (N b : Nat) (g : uEnv) (a0 : Nat) : Nat → UH → Option (UH)
  | 0, _ => none
  | n + 1, u =>
    if uIs u a0 4 = true then
    ucall (f_X5_here N b g u a0) fun r4 u2 =>
    if r4 = 32 then
    (uGI u2 a0 4 2).bind fun y42 =>
    (uPut b u2 a0 4 2 (.int (y42 + 1))).bind fun u43 =>
    f_X5_next_0 N b g a0 n u43
    else
    (uGI u2 a0 4 2).bind fun y6 =>
    (uPut b u2 a0 4 3 (.int y6)).bind fun u7 =>
    mlet (g.1 0) fun o8 =>
    (uPut b u7 a0 4 5 (va_rf o8)).bind fun u9 =>
    if uIs u9 a0 4 = true then
    ucall (f_X5_here N b g u9 a0) fun r13 u11 =>
    if r13 = (-1) then
    mlet (g.1 1) fun o40 =>
    (uPut b u11 a0 4 5 (va_rf o40)).bind fun u41 =>
    f_X5_next_117 N b g a0 u41
    else
    ucall (f_X5_isLetter N b g u11 r13) fun r17 u15 =>
    if r17 = 0 then
    ucall (f_X5_isDigit N b g u15 r13) fun r21 u19 =>
    if r21 = 0 then
    if uIs u19 (g.2.1 0) 20 = true then
    ucall (f_J6_indexOf N b g u19 (g.2.1 0) r13) fun r26 u24 =>
    if r26 < 0 then
    f_X5_next_117 N b g a0 u24
    else
    mlet (g.1 4) fun o28 =>
    (uPut b u24 a0 4 5 (va_rf o28)).bind fun u29 =>
    if uFit .char ((r13.toUInt32 % 65536).toInt32) = true then
    (uPut b u29 a0 4 7 (.int ((r13.toUInt32 % 65536).toInt32))).bind fun u31 =>
    (uGI u31 a0 4 2).bind fun y32 =>
    (uPut b u31 a0 4 2 (.int (y32 + 1))).bind fun u33 =>
    f_X5_next_117 N b g a0 u33
    else none
    else none
    else
    if uIs u19 a0 4 = true then
    (f_X5_nextWhole N b g u19 a0).bind fun u35 =>
    f_X5_next_117 N b g a0 u35
    else none
    else
    if uIs u15 a0 4 = true then
    (f_X5_nextWord N b g u15 a0).bind fun u38 =>
    f_X5_next_68 N b g a0 u38
    else none
    else none
    else none
set_option maxHeartbeats 4000000 in
set_option maxRecDepth 100000 in
theorem zz_X5_next_0 {G : uG} {a0 : Nat} {uf : UH} (N : Nat) : ∀ (n : Nat) (u : UH), f_X5_next_0 N (ub G) (ug G) a0 n u = some uf → u.1 ≤ uf.1 ∧ u.2.1 ≤ uf.2.1 := by
  intro n
  induction n with
  | zero =>
    intro u h
    cases h
  | succ n ih =>
    intro u h
    unfold f_X5_next_0 at h
    obtain ⟨c1, h⟩ := mif_n h
    obtain ⟨r4, u2, c3, h⟩ := ucall_n h
    have zu2 := zz_X5_here N (ub G) (ug G) u a0 r4 u2 c3
    by_cases c5 : r4 = 32
    · have h := mif_t c5 h
      obtain ⟨y42, hy42, h⟩ := mbind_n h
      obtain ⟨u43, hu43, h⟩ := mbind_n h
      have zu43 := uPut_sz hu43
      have hq := ih u43 h
      exact ⟨by omega, by omega⟩
    · have h := mif_f c5 h
      obtain ⟨y6, hy6, h⟩ := mbind_n h
      obtain ⟨u7, hu7, h⟩ := mbind_n h
      have zu7 := uPut_sz hu7
      obtain ⟨o8, eo8⟩ : ∃ z, z = (ug G).1 0 := ⟨_, rfl⟩
      have h := mlet_at eo8 h
      obtain ⟨u9, hu9, h⟩ := mbind_n h
      have zu9 := uPut_sz hu9
      obtain ⟨c10, h⟩ := mif_n h
      obtain ⟨r13, u11, c12, h⟩ := ucall_n h
      have zu11 := zz_X5_here N (ub G) (ug G) u9 a0 r13 u11 c12
      by_cases c14 : r13 = (-1)
      · have h := mif_t c14 h
        obtain ⟨o40, eo40⟩ : ∃ z, z = (ug G).1 1 := ⟨_, rfl⟩
        have h := mlet_at eo40 h
        obtain ⟨u41, hu41, h⟩ := mbind_n h
        have zu41 := uPut_sz hu41
        have hq := zz_X5_next_117 (G := G) (a0 := a0) N u41 h
        exact ⟨by omega, by omega⟩
      · have h := mif_f c14 h
        obtain ⟨r17, u15, c16, h⟩ := ucall_n h
        have zu15 := zz_X5_isLetter N (ub G) (ug G) u11 r13 r17 u15 c16
        by_cases c18 : r17 = 0
        · have h := mif_t c18 h
          obtain ⟨r21, u19, c20, h⟩ := ucall_n h
          have zu19 := zz_X5_isDigit N (ub G) (ug G) u15 r13 r21 u19 c20
          by_cases c22 : r21 = 0
          · have h := mif_t c22 h
            obtain ⟨c23, h⟩ := mif_n h
            obtain ⟨r26, u24, c25, h⟩ := ucall_n h
            have zu24 := zz_J6_indexOf N (ub G) (ug G) u19 ((ug G).2.1 0) r13 r26 u24 c25
            by_cases c27 : r26 < 0
            · have h := mif_t c27 h
              have hq := zz_X5_next_117 (G := G) (a0 := a0) N u24 h
              exact ⟨by omega, by omega⟩
            · have h := mif_f c27 h
              obtain ⟨o28, eo28⟩ : ∃ z, z = (ug G).1 4 := ⟨_, rfl⟩
              have h := mlet_at eo28 h
              obtain ⟨u29, hu29, h⟩ := mbind_n h
              have zu29 := uPut_sz hu29
              obtain ⟨c30, h⟩ := mif_n h
              obtain ⟨u31, hu31, h⟩ := mbind_n h
              have zu31 := uPut_sz hu31
              obtain ⟨y32, hy32, h⟩ := mbind_n h
              obtain ⟨u33, hu33, h⟩ := mbind_n h
              have zu33 := uPut_sz hu33
              have hq := zz_X5_next_117 (G := G) (a0 := a0) N u33 h
              exact ⟨by omega, by omega⟩
          · have h := mif_f c22 h
            obtain ⟨c34, h⟩ := mif_n h
            obtain ⟨u35, c36, h⟩ := mbind_n h
            have zu35 := zz_X5_nextWhole N (ub G) (ug G) u19 a0 u35 c36
            have hq := zz_X5_next_117 (G := G) (a0 := a0) N u35 h
            exact ⟨by omega, by omega⟩
        · have h := mif_f c18 h
          obtain ⟨c37, h⟩ := mif_n h
          obtain ⟨u38, c39, h⟩ := mbind_n h
          have zu38 := zz_X5_nextWord N (ub G) (ug G) u15 a0 u38 c39
          have hq := zz_X5_next_68 (G := G) (a0 := a0) N u38 h
          exact ⟨by omega, by omega⟩
set_option maxHeartbeats 4000000 in
set_option maxRecDepth 100000 in
theorem w_X5_next_0 {p : Program} {l : Launch} {e : Env} {R : Room} {s : State} {m : MethodId} {args : Array Value} {below : List Frame} {meth : Method} {c : Code} {G : uG} {a0 : Nat} {u0 : UH} {uf : UH} (hC : uC p s m args meth c G RX5 cX5_next 2 none) (hR : 7 ≤ R.frames ∧ 193 ≤ R.locals) (hRm : uf.1 - u0.1 ≤ R.cells ∧ uf.2.1 - u0.2.1 ≤ R.slots) (N : Nat) : ∀ (n : Nat) (u : UH), f_X5_next_0 N (ub G) (ug G) a0 n u = some uf → (u0.1 ≤ u.1 ∧ u0.2.1 ≤ u.2.1) → ∀ (H : Heap) (locs : List Loc), uP G u H → va_S (uA G) s.heap H locs → ∀ ls : Array Slot, lv_has ls 2 [(0, va_rf (some a0))] → W p l e R s m args below meth c H locs (u.1 - u0.1) (u.2.1 - u0.2.1) (MQ below (uQv G uf) args s (uf.1 - u0.1) (uf.2.1 - u0.2.1) (uA G)) (F0 m 0 ls []) := by
  obtain ⟨⟨hx, hb, hml, hown, hts⟩, hKK⟩ := id hC
  intro n
  induction n with
  | zero =>
    intro u h
    cases h
  | succ n ih =>
    intro u h hz0 H locs hP hS ls hl
    have hzf := zz_X5_next_0 (G := G) (a0 := a0) N (n + 1) u h
    unfold f_X5_next_0 at h
    refine u_aload_n (r := some a0) hx hb dX5_next_0 rfl (lv_at hl 0 rfl) ?_
    obtain ⟨c1, h⟩ := mif_n h
    obtain ⟨r4, u2, c3, h⟩ := ucall_n h
    have zu2 := zz_X5_here N (ub G) (ug G) u a0 r4 u2 c3
    refine u_calli (va_runV (As := []) (rest := []) hC.1 (met_X5_here l N G u a0 r4 u2 c3) (cwV 0 hts (lw_V q343 q345 qs2 q105 q346) rfl rfl rfl (by decide +kernel) ⟨Nat.le_trans (Nat.le_of_ble_eq_true rfl) hR.1, Nat.le_trans (Nat.le_of_ble_eq_true rfl) hR.2⟩) ⟨uPc_blind, u_rcv hC hP c1 rfl, fun U hU hW => u_pre hC hP hS hU hW⟩ rfl rfl hl.1 rfl (lv_room (Nat.le_of_ble_eq_true rfl)) dX5_next_1 ⟨by omega, by omega⟩) hS (fun H locs hP hS => ?_)
    refine W.cs (cells' := u2.1 - u0.1) (slots' := u2.2.1 - u0.2.1) (by omega) (by omega) ?_
    refine lv_bipush (v := 32) hx hb dX5_next_4 (by decide) ?_
    refine lv_icmp_ne (tgt := 22) hx hb dX5_next_6 (by decide) (fun c5 => ?_) (fun c5 => ?_)
    · have h := mif_f c5 h
      refine u_aload_n (r := some a0) hx hb dX5_next_22 rfl (lv_at hl 0 rfl) ?_
      refine u_aload_n (r := some a0) hx hb dX5_next_23 rfl (lv_at hl 0 rfl) ?_
      obtain ⟨y6, hy6, h⟩ := mbind_n h
      refine u_get hC hP (uGI_n hy6) rfl in_X5 (by decide) q629 (fun _ h => h) dX5_next_24 ?_
      obtain ⟨u7, hu7, h⟩ := mbind_n h
      have zu7 := uPut_sz hu7
      refine u_put hC hP hS hu7 rfl in_X5 tyX5 tyX5_ok nmX5 (by decide) q630 (fun _ h => h) rfl (ty := .int) (tyX5_ok 3 (by decide)) rfl rfl dX5_next_27 (fun H locs hP hS => ?_)
      refine W.cs (cells' := u7.1 - u0.1) (slots' := u7.2.1 - u0.2.1) (by omega) (by omega) ?_
      refine u_aload_n (r := some a0) hx hb dX5_next_30 rfl (lv_at hl 0 rfl) ?_
      refine u_gets hC hS 0 rfl q347 (fun _ h => h) dX5_next_31 ?_
      obtain ⟨o8, eo8⟩ : ∃ z, z = (ug G).1 0 := ⟨_, rfl⟩
      have h := mlet_at eo8 h
      rw [← eo8]
      obtain ⟨u9, hu9, h⟩ := mbind_n h
      have zu9 := uPut_sz hu9
      refine u_put hC hP hS hu9 rfl in_X5 tyX5 tyX5_ok nmX5 (by decide) q636 (fun _ h => h) rfl (ty := (.object "SoftWheels$Sort")) (tyX5_ok 5 (by decide)) (uNarR _ o8).1 (uNarR _ o8).2 dX5_next_34 (fun H locs hP hS => ?_)
      refine W.cs (cells' := u9.1 - u0.1) (slots' := u9.2.1 - u0.2.1) (by omega) (by omega) ?_
      refine u_aload_n (r := some a0) hx hb dX5_next_37 rfl (lv_at hl 0 rfl) ?_
      obtain ⟨c10, h⟩ := mif_n h
      obtain ⟨r13, u11, c12, h⟩ := ucall_n h
      have zu11 := zz_X5_here N (ub G) (ug G) u9 a0 r13 u11 c12
      refine u_calli (va_runV (As := []) (rest := []) hC.1 (met_X5_here l N G u9 a0 r13 u11 c12) (cwV 0 hts (lw_V q343 q345 qs2 q105 q346) rfl rfl rfl (by decide +kernel) ⟨Nat.le_trans (Nat.le_of_ble_eq_true rfl) hR.1, Nat.le_trans (Nat.le_of_ble_eq_true rfl) hR.2⟩) ⟨uPc_blind, u_rcv hC hP c10 rfl, fun U hU hW => u_pre hC hP hS hU hW⟩ rfl rfl hl.1 rfl (lv_room (Nat.le_of_ble_eq_true rfl)) dX5_next_38 ⟨by omega, by omega⟩) hS (fun H locs hP hS => ?_)
      refine W.cs (cells' := u11.1 - u0.1) (slots' := u11.2.1 - u0.2.1) (by omega) (by omega) ?_
      refine lv_istore_n (i := 1) (lv' := [(1, .int r13), (0, va_rf (some a0))]) hx hb dX5_next_41 rfl hl (by decide) rfl (fun ls hl => ?_)
      refine lv_iload_n hx hb dX5_next_42 rfl (lv_at hl 0 rfl) ?_
      refine lv_iconst (v := (-1)) hx hb dX5_next_43 (by decide) ?_
      refine lv_icmp_ne (tgt := 57) hx hb dX5_next_44 (by decide) (fun c14 => ?_) (fun c14 => ?_)
      · have h := mif_f c14 h
        refine lv_iload_n hx hb dX5_next_57 rfl (lv_at hl 0 rfl) ?_
        obtain ⟨r17, u15, c16, h⟩ := ucall_n h
        have zu15 := zz_X5_isLetter N (ub G) (ug G) u11 r13 r17 u15 c16
        refine u_calli (va_runS (As := [.int r13]) (rest := []) hC.1 (met_X5_isLetter l N G u11 r13 r17 u15 c16) (va_cwS 1 hts (lw_S q351 q352 q105 q353) rfl rfl rfl (by decide +kernel) ⟨Nat.le_trans (Nat.le_of_ble_eq_true rfl) hR.1, Nat.le_trans (Nat.le_of_ble_eq_true rfl) hR.2⟩) ⟨uPc_blind, fun U hU hW => u_pre hC hP hS hU hW⟩ rfl rfl hl.1 rfl (lv_room (Nat.le_of_ble_eq_true rfl)) dX5_next_58 ⟨by omega, by omega⟩) hS (fun H locs hP hS => ?_)
        refine W.cs (cells' := u15.1 - u0.1) (slots' := u15.2.1 - u0.2.1) (by omega) (by omega) ?_
        refine lv_if_eq (tgt := 71) hx hb dX5_next_61 (by decide) (fun c18 => ?_) (fun c18 => ?_)
        · have h := mif_t c18 h
          refine lv_iload_n hx hb dX5_next_71 rfl (lv_at hl 0 rfl) ?_
          obtain ⟨r21, u19, c20, h⟩ := ucall_n h
          have zu19 := zz_X5_isDigit N (ub G) (ug G) u15 r13 r21 u19 c20
          refine u_calli (va_runS (As := [.int r13]) (rest := []) hC.1 (met_X5_isDigit l N G u15 r13 r21 u19 c20) (va_cwS 1 hts (lw_S q549 q550 q105 q551) rfl rfl rfl (by decide +kernel) ⟨Nat.le_trans (Nat.le_of_ble_eq_true rfl) hR.1, Nat.le_trans (Nat.le_of_ble_eq_true rfl) hR.2⟩) ⟨uPc_blind, fun U hU hW => u_pre hC hP hS hU hW⟩ rfl rfl hl.1 rfl (lv_room (Nat.le_of_ble_eq_true rfl)) dX5_next_72 ⟨by omega, by omega⟩) hS (fun H locs hP hS => ?_)
          refine W.cs (cells' := u19.1 - u0.1) (slots' := u19.2.1 - u0.2.1) (by omega) (by omega) ?_
          refine lv_if_eq (tgt := 85) hx hb dX5_next_75 (by decide) (fun c22 => ?_) (fun c22 => ?_)
          · have h := mif_t c22 h
            refine u_ldcS hC 0 rfl dX5_next_85 ?_
            refine lv_iload_n hx hb dX5_next_87 rfl (lv_at hl 0 rfl) ?_
            obtain ⟨c23, h⟩ := mif_n h
            obtain ⟨r26, u24, c25, h⟩ := ucall_n h
            have zu24 := zz_J6_indexOf N (ub G) (ug G) u19 ((ug G).2.1 0) r13 r26 u24 c25
            refine u_calli (va_runV (As := [.int r13]) (rest := []) hC.1 (met_J6_indexOf l N G u19 ((ug G).2.1 0) r13 r26 u24 c25) (cwV 1 hts (lw_V q559 q560 q561 q110 q562) rfl rfl rfl (by decide +kernel) ⟨Nat.le_trans (Nat.le_of_ble_eq_true rfl) hR.1, Nat.le_trans (Nat.le_of_ble_eq_true rfl) hR.2⟩) ⟨uPc_blind, u_rcv hC hP c23 rfl, fun U hU hW => u_pre hC hP hS hU hW⟩ rfl rfl hl.1 rfl (lv_room (Nat.le_of_ble_eq_true rfl)) dX5_next_88 ⟨by omega, by omega⟩) hS (fun H locs hP hS => ?_)
            refine W.cs (cells' := u24.1 - u0.1) (slots' := u24.2.1 - u0.2.1) (by omega) (by omega) ?_
            refine lv_if_lt (tgt := 117) hx hb dX5_next_91 (by decide) (fun c27 => ?_) (fun c27 => ?_)
            · have h := mif_t c27 h
              refine W.cs (cells' := u24.1 - u0.1) (slots' := u24.2.1 - u0.2.1) (by omega) (by omega) ?_
              exact w_X5_next_117 hC hR hRm N u24 h ⟨by omega, by omega⟩ hP hS (lv_sub hl [] rfl)
            · have h := mif_f c27 h
              refine u_aload_n (r := some a0) hx hb dX5_next_94 rfl (lv_at hl 1 rfl) ?_
              refine u_gets hC hS 4 rfl q625 (fun _ h => h) dX5_next_95 ?_
              obtain ⟨o28, eo28⟩ : ∃ z, z = (ug G).1 4 := ⟨_, rfl⟩
              have h := mlet_at eo28 h
              rw [← eo28]
              obtain ⟨u29, hu29, h⟩ := mbind_n h
              have zu29 := uPut_sz hu29
              refine u_put hC hP hS hu29 rfl in_X5 tyX5 tyX5_ok nmX5 (by decide) q636 (fun _ h => h) rfl (ty := (.object "SoftWheels$Sort")) (tyX5_ok 5 (by decide)) (uNarR _ o28).1 (uNarR _ o28).2 dX5_next_98 (fun H locs hP hS => ?_)
              refine W.cs (cells' := u29.1 - u0.1) (slots' := u29.2.1 - u0.2.1) (by omega) (by omega) ?_
              refine u_aload_n (r := some a0) hx hb dX5_next_101 rfl (lv_at hl 1 rfl) ?_
              refine lv_iload_n hx hb dX5_next_102 rfl (lv_at hl 0 rfl) ?_
              refine lv_i2c (v := (r13.toUInt32 % 65536).toInt32) hx hb dX5_next_103 rfl ?_
              obtain ⟨c30, h⟩ := mif_n h
              obtain ⟨u31, hu31, h⟩ := mbind_n h
              have zu31 := uPut_sz hu31
              refine u_put hC hP hS hu31 rfl in_X5 tyX5 tyX5_ok nmX5 (by decide) q639 (fun _ h => h) rfl (ty := .char) (tyX5_ok 7 (by decide)) (uFit_n c30).1 (uFit_n c30).2 dX5_next_104 (fun H locs hP hS => ?_)
              refine W.cs (cells' := u31.1 - u0.1) (slots' := u31.2.1 - u0.2.1) (by omega) (by omega) ?_
              refine u_aload_n (r := some a0) hx hb dX5_next_107 rfl (lv_at hl 1 rfl) ?_
              refine lv_dup hx hb dX5_next_108 (u_cat _) ?_
              obtain ⟨y32, hy32, h⟩ := mbind_n h
              refine u_get hC hP (uGI_n hy32) rfl in_X5 (by decide) q629 (fun _ h => h) dX5_next_109 ?_
              refine lv_iconst (v := 1) hx hb dX5_next_112 (by decide) ?_
              refine lv_iadd hx hb dX5_next_113 ?_
              obtain ⟨u33, hu33, h⟩ := mbind_n h
              have zu33 := uPut_sz hu33
              refine u_put hC hP hS hu33 rfl in_X5 tyX5 tyX5_ok nmX5 (by decide) q629 (fun _ h => h) rfl (ty := .int) (tyX5_ok 2 (by decide)) rfl rfl dX5_next_114 (fun H locs hP hS => ?_)
              refine W.cs (cells' := u33.1 - u0.1) (slots' := u33.2.1 - u0.2.1) (by omega) (by omega) ?_
              refine W.cs (cells' := u33.1 - u0.1) (slots' := u33.2.1 - u0.2.1) (by omega) (by omega) ?_
              exact w_X5_next_117 hC hR hRm N u33 h ⟨by omega, by omega⟩ hP hS (lv_sub hl [] rfl)
          · have h := mif_f c22 h
            refine u_aload_n (r := some a0) hx hb dX5_next_78 rfl (lv_at hl 1 rfl) ?_
            obtain ⟨c34, h⟩ := mif_n h
            obtain ⟨u35, c36, h⟩ := mbind_n h
            have zu35 := zz_X5_nextWhole N (ub G) (ug G) u19 a0 u35 c36
            refine u_callv (va_runV (As := []) (rest := []) hC.1 (met_X5_nextWhole l N G u19 a0 u35 c36) (cwV 0 hts (lw_V q552 q554 qs4 q105 q555) rfl rfl rfl (by decide +kernel) ⟨Nat.le_trans (Nat.le_of_ble_eq_true rfl) hR.1, Nat.le_trans (Nat.le_of_ble_eq_true rfl) hR.2⟩) ⟨uPc_blind, u_rcv hC hP c34 rfl, fun U hU hW => u_pre hC hP hS hU hW⟩ rfl rfl hl.1 rfl (lv_room (Nat.le_of_ble_eq_true rfl)) dX5_next_79 ⟨by omega, by omega⟩) hS (fun H locs hP hS => ?_)
            refine W.cs (cells' := u35.1 - u0.1) (slots' := u35.2.1 - u0.2.1) (by omega) (by omega) ?_
            refine lv_goto (tgt := 117) hx hb dX5_next_82 (by decide) ?_
            refine W.cs (cells' := u35.1 - u0.1) (slots' := u35.2.1 - u0.2.1) (by omega) (by omega) ?_
            exact w_X5_next_117 hC hR hRm N u35 h ⟨by omega, by omega⟩ hP hS (lv_sub hl [] rfl)
        · have h := mif_f c18 h
          refine u_aload_n (r := some a0) hx hb dX5_next_64 rfl (lv_at hl 1 rfl) ?_
          obtain ⟨c37, h⟩ := mif_n h
          obtain ⟨u38, c39, h⟩ := mbind_n h
          have zu38 := zz_X5_nextWord N (ub G) (ug G) u15 a0 u38 c39
          have hq := zz_X5_next_68 (G := G) (a0 := a0) N u38 h
          refine u_callv (va_runV (As := []) (rest := []) hC.1 (met_X5_nextWord l N G u15 a0 u38 c39) (cwV 0 hts (lw_V q354 q356 qs3 q105 q357) rfl rfl rfl (by decide +kernel) ⟨Nat.le_trans (Nat.le_of_ble_eq_true rfl) hR.1, Nat.le_trans (Nat.le_of_ble_eq_true rfl) hR.2⟩) ⟨uPc_blind, u_rcv hC hP c37 rfl, fun U hU hW => u_pre hC hP hS hU hW⟩ rfl rfl hl.1 rfl (lv_room (Nat.le_of_ble_eq_true rfl)) dX5_next_65 ⟨by omega, by omega⟩) hS (fun H locs hP hS => ?_)
          refine W.cs (cells' := u38.1 - u0.1) (slots' := u38.2.1 - u0.2.1) (by omega) (by omega) ?_
          refine W.cs (cells' := u38.1 - u0.1) (slots' := u38.2.1 - u0.2.1) (by omega) (by omega) ?_
          exact w_X5_next_68 hC hR hRm N u38 h ⟨by omega, by omega⟩ hP hS (lv_sub hl [] rfl)
      · have h := mif_t c14 h
        refine u_aload_n (r := some a0) hx hb dX5_next_47 rfl (lv_at hl 1 rfl) ?_
        refine u_gets hC hS 1 rfl q349 (fun _ h => h) dX5_next_48 ?_
        obtain ⟨o40, eo40⟩ : ∃ z, z = (ug G).1 1 := ⟨_, rfl⟩
        have h := mlet_at eo40 h
        rw [← eo40]
        obtain ⟨u41, hu41, h⟩ := mbind_n h
        have zu41 := uPut_sz hu41
        refine u_put hC hP hS hu41 rfl in_X5 tyX5 tyX5_ok nmX5 (by decide) q636 (fun _ h => h) rfl (ty := (.object "SoftWheels$Sort")) (tyX5_ok 5 (by decide)) (uNarR _ o40).1 (uNarR _ o40).2 dX5_next_51 (fun H locs hP hS => ?_)
        refine W.cs (cells' := u41.1 - u0.1) (slots' := u41.2.1 - u0.2.1) (by omega) (by omega) ?_
        refine lv_goto (tgt := 117) hx hb dX5_next_54 (by decide) ?_
        refine W.cs (cells' := u41.1 - u0.1) (slots' := u41.2.1 - u0.2.1) (by omega) (by omega) ?_
        exact w_X5_next_117 hC hR hRm N u41 h ⟨by omega, by omega⟩ hP hS (lv_sub hl [] rfl)
    · have h := mif_t c5 h
      refine u_aload_n (r := some a0) hx hb dX5_next_9 rfl (lv_at hl 0 rfl) ?_
      refine lv_dup hx hb dX5_next_10 (u_cat _) ?_
      obtain ⟨y42, hy42, h⟩ := mbind_n h
      refine u_get hC hP (uGI_n hy42) rfl in_X5 (by decide) q629 (fun _ h => h) dX5_next_11 ?_
      refine lv_iconst (v := 1) hx hb dX5_next_14 (by decide) ?_
      refine lv_iadd hx hb dX5_next_15 ?_
      obtain ⟨u43, hu43, h⟩ := mbind_n h
      have zu43 := uPut_sz hu43
      refine u_put hC hP hS hu43 rfl in_X5 tyX5 tyX5_ok nmX5 (by decide) q629 (fun _ h => h) rfl (ty := .int) (tyX5_ok 2 (by decide)) rfl rfl dX5_next_16 (fun H locs hP hS => ?_)
      refine W.cs (cells' := u43.1 - u0.1) (slots' := u43.2.1 - u0.2.1) (by omega) (by omega) ?_
      refine lv_goto (tgt := 0) hx hb dX5_next_19 (by decide) ?_
      refine W.cs (cells' := u43.1 - u0.1) (slots' := u43.2.1 - u0.2.1) (by omega) (by omega) ?_
      exact ih u43 h ⟨by omega, by omega⟩ _ _ hP hS _ (lv_sub hl [0] rfl)
def f_X5_next (N b : Nat) (g : uEnv) (u : UH) (a0 : Nat) : Option (UH) := f_X5_next_0 N b g a0 N u
theorem zz_X5_next (N b : Nat) (g : uEnv) (u : UH) (a0 : Nat) (uf : UH) (h : f_X5_next N b g u a0 = some uf) : u.1 ≤ uf.1 ∧ u.2.1 ≤ uf.2.1 :=
  zz_X5_next_0 (G := ((fun _ => 0, fun _ _ => 0), fun _ => 0, b, g)) (a0 := a0) N N u h
theorem met_X5_next (l : Launch) (N : Nat) (G : uG) (u : UH) (a0 : Nat) (uf : UH) (h : f_X5_next N (ub G) (ug G) u a0 = some uf) : Met l yX5_next (ws_ yX5_next cX5_next 2 none) ({ frames := 7, cells := (uf.1 - u.1), slots := (uf.2.1 - u.2.1), locals := 193 }) (uPc G u [.ref a0]) (uQv G uf) (uf.1 - u.1) (uf.2.1 - u.2.1) (uA G) := by
  exact u_met (own := RX5) (by decide +kernel) rfl (Nat.le_of_ble_eq_true rfl) (fun hC hn hsz ls hl hP => W.cs (Nat.sub_self _).symm (Nat.sub_self _).symm (w_X5_next_0 hC ⟨Nat.le_refl _, Nat.le_refl _⟩ ⟨Nat.le_refl _, Nat.le_refl _⟩ N N u h ⟨Nat.le_refl _, Nat.le_refl _⟩ _ _ hP va_S.rf _ (lv_sub hl [0] rfl)))
def f_X5_init_18 (N b : Nat) (g : uEnv) (a0 : Nat) (u : UH) : Option (UH) :=
    some u
set_option maxHeartbeats 4000000 in
set_option maxRecDepth 100000 in
theorem zz_X5_init_18 {G : uG} {a0 : Nat} {uf : UH} (N : Nat) (u : UH) (h : f_X5_init_18 N (ub G) (ug G) a0 u = some uf) : u.1 ≤ uf.1 ∧ u.2.1 ≤ uf.2.1 := by
  unfold f_X5_init_18 at h
  cases h
  exact ⟨by omega, by omega⟩
set_option maxHeartbeats 4000000 in
set_option maxRecDepth 100000 in
theorem w_X5_init_18 {p : Program} {l : Launch} {e : Env} {R : Room} {s : State} {m : MethodId} {args : Array Value} {below : List Frame} {meth : Method} {c : Code} {G : uG} {a0 : Nat} {u0 : UH} {uf : UH} (hC : uC p s m args meth c G RX5 cX5_init 3 none) (hI : meth.name = "<init>") (hR : 8 ≤ R.frames ∧ 214 ≤ R.locals) (hRm : uf.1 - u0.1 ≤ R.cells ∧ uf.2.1 - u0.2.1 ≤ R.slots) (N : Nat) (u : UH) (h : f_X5_init_18 N (ub G) (ug G) a0 u = some uf) (hz0 : (u0.1 ≤ u.1 ∧ u0.2.1 ≤ u.2.1)) {H : Heap} {locs : List Loc} (hP : uP G u H) (hS : va_S (uA G) s.heap H locs) {ls : Array Slot} (hl : lv_has ls 3 []) : W p l e R s m args below meth c H locs (u.1 - u0.1) (u.2.1 - u0.2.1) (MQ below (uQv G uf) args s (uf.1 - u0.1) (uf.2.1 - u0.2.1) (uA G)) (F0 m 18 ls []) := by
  obtain ⟨⟨hx, hb, hml, hown, hts⟩, hKK⟩ := id hC
  have hzf := zz_X5_init_18 (G := G) (a0 := a0) N u h
  unfold f_X5_init_18 at h
  cases h
  exact u_vret hC hP hS dX5_init_18
def f_X5_init (N b : Nat) (g : uEnv) (u : UH) (a0 : Nat) (x1 : Option Nat) (x2 : Int32) : Option (UH) :=
    (uPut b u a0 4 0 (va_rf x1)).bind fun u1 =>
    (uPut b u1 a0 4 1 (.int x2)).bind fun u2 =>
    if uIs u2 a0 4 = true then
    (f_X5_next N b g u2 a0).bind fun u4 =>
    f_X5_init_18 N b g a0 u4
    else none
set_option maxHeartbeats 4000000 in
set_option maxRecDepth 100000 in
theorem zz_X5_init_0 {G : uG} {a0 : Nat} {uf : UH} (N : Nat) (u : UH) (x1 : Option Nat) (x2 : Int32) (h : f_X5_init N (ub G) (ug G) u a0 x1 x2 = some uf) : u.1 ≤ uf.1 ∧ u.2.1 ≤ uf.2.1 := by
  unfold f_X5_init at h
  obtain ⟨u1, hu1, h⟩ := mbind_n h
  have zu1 := uPut_sz hu1
  obtain ⟨u2, hu2, h⟩ := mbind_n h
  have zu2 := uPut_sz hu2
  obtain ⟨c3, h⟩ := mif_n h
  obtain ⟨u4, c5, h⟩ := mbind_n h
  have zu4 := zz_X5_next N (ub G) (ug G) u2 a0 u4 c5
  have hq := zz_X5_init_18 (G := G) (a0 := a0) N u4 h
  exact ⟨by omega, by omega⟩
set_option maxHeartbeats 4000000 in
set_option maxRecDepth 100000 in
theorem w_X5_init_0 {p : Program} {l : Launch} {e : Env} {R : Room} {s : State} {m : MethodId} {args : Array Value} {below : List Frame} {meth : Method} {c : Code} {G : uG} {a0 : Nat} {u0 : UH} {uf : UH} (hC : uC p s m args meth c G RX5 cX5_init 3 none) (hI : meth.name = "<init>") (hR : 8 ≤ R.frames ∧ 214 ≤ R.locals) (hRm : uf.1 - u0.1 ≤ R.cells ∧ uf.2.1 - u0.2.1 ≤ R.slots) (N : Nat) (u : UH) (x1 : Option Nat) (x2 : Int32) (h : f_X5_init N (ub G) (ug G) u a0 x1 x2 = some uf) (hz0 : (u0.1 ≤ u.1 ∧ u0.2.1 ≤ u.2.1)) {H : Heap} {locs : List Loc} (hP : uP G u H) (hS : va_S (uA G) s.heap H locs) {ls : Array Slot} (hl : lv_has ls 3 [(0, va_rf (some a0)), (1, va_rf x1), (2, .int x2)]) : W p l e R s m args below meth c H locs (u.1 - u0.1) (u.2.1 - u0.2.1) (MQ below (uQv G uf) args s (uf.1 - u0.1) (uf.2.1 - u0.2.1) (uA G)) (F0 m 0 ls []) := by
  obtain ⟨⟨hx, hb, hml, hown, hts⟩, hKK⟩ := id hC
  have hzf := zz_X5_init_0 (G := G) (a0 := a0) N u x1 x2 h
  unfold f_X5_init at h
  refine u_aload_n (r := some a0) hx hb dX5_init_0 rfl (lv_at hl 0 rfl) ?_
  refine W.objInit hx hb hown (hts _ q338) (hts _ q148) (hts _ q149) rfl (by rw [hml]; exact hl.1) rfl dX5_init_1 (Nat.le_trans (Nat.le_of_ble_eq_true rfl) hR.1) (Nat.le_trans (Nat.le_of_ble_eq_true rfl) hR.2) ?_
  refine W.eq (g2 := F0 m 4 ls []) rfl ?_
  refine u_aload_n (r := some a0) hx hb dX5_init_4 rfl (lv_at hl 0 rfl) ?_
  refine u_aload_n (r := x1) hx hb dX5_init_5 rfl (lv_at hl 1 rfl) ?_
  obtain ⟨u1, hu1, h⟩ := mbind_n h
  have zu1 := uPut_sz hu1
  refine u_putF hC hI hP hS hu1 rfl in_X5 tyX5 tyX5_ok nmX5 (by decide) q627 (fun _ h => h) rfl rfl (ty := (.array .byte)) (tyX5_ok 0 (by decide)) (uNarA _ x1).1 (uNarA _ x1).2 dX5_init_6 (fun H locs hP hS => ?_)
  refine W.cs (cells' := u1.1 - u0.1) (slots' := u1.2.1 - u0.2.1) (by omega) (by omega) ?_
  refine u_aload_n (r := some a0) hx hb dX5_init_9 rfl (lv_at hl 0 rfl) ?_
  refine lv_iload_n hx hb dX5_init_10 rfl (lv_at hl 2 rfl) ?_
  obtain ⟨u2, hu2, h⟩ := mbind_n h
  have zu2 := uPut_sz hu2
  refine u_putF hC hI hP hS hu2 rfl in_X5 tyX5 tyX5_ok nmX5 (by decide) q628 (fun _ h => h) rfl rfl (ty := .int) (tyX5_ok 1 (by decide)) rfl rfl dX5_init_11 (fun H locs hP hS => ?_)
  refine W.cs (cells' := u2.1 - u0.1) (slots' := u2.2.1 - u0.2.1) (by omega) (by omega) ?_
  refine u_aload_n (r := some a0) hx hb dX5_init_14 rfl (lv_at hl 0 rfl) ?_
  obtain ⟨c3, h⟩ := mif_n h
  obtain ⟨u4, c5, h⟩ := mbind_n h
  have zu4 := zz_X5_next N (ub G) (ug G) u2 a0 u4 c5
  have hq := zz_X5_init_18 (G := G) (a0 := a0) N u4 h
  refine u_callv (va_runV (As := []) (rest := []) hC.1 (met_X5_next l N G u2 a0 u4 c5) (cwV 0 hts (lw_V q339 q340 q341 q105 q342) rfl rfl rfl (by decide +kernel) ⟨Nat.le_trans (Nat.le_of_ble_eq_true rfl) hR.1, Nat.le_trans (Nat.le_of_ble_eq_true rfl) hR.2⟩) ⟨uPc_blind, u_rcv hC hP c3 rfl, fun U hU hW => u_pre hC hP hS hU hW⟩ rfl rfl hl.1 rfl (lv_room (Nat.le_of_ble_eq_true rfl)) dX5_init_15 ⟨by omega, by omega⟩) hS (fun H locs hP hS => ?_)
  refine W.cs (cells' := u4.1 - u0.1) (slots' := u4.2.1 - u0.2.1) (by omega) (by omega) ?_
  refine W.cs (cells' := u4.1 - u0.1) (slots' := u4.2.1 - u0.2.1) (by omega) (by omega) ?_
  exact w_X5_init_18 hC hI hR hRm N u4 h ⟨by omega, by omega⟩ hP hS (lv_sub hl [] rfl)
theorem zz_X5_init (N b : Nat) (g : uEnv) (u : UH) (a0 : Nat) (x1 : Option Nat) (x2 : Int32) (uf : UH) (h : f_X5_init N b g u a0 x1 x2 = some uf) : u.1 ≤ uf.1 ∧ u.2.1 ≤ uf.2.1 :=
  zz_X5_init_0 (G := ((fun _ => 0, fun _ _ => 0), fun _ => 0, b, g)) (a0 := a0) N u x1 x2 h
theorem met_X5_init (l : Launch) (N : Nat) (G : uG) (u : UH) (a0 : Nat) (x1 : Option Nat) (x2 : Int32) (uf : UH) (h : f_X5_init N (ub G) (ug G) u a0 x1 x2 = some uf) : Met l yX5_init (ws_ yX5_init cX5_init 3 none) ({ frames := 8, cells := (uf.1 - u.1), slots := (uf.2.1 - u.2.1), locals := 214 }) (uPc G u [.ref a0, va_rf x1, .int x2]) (uQv G uf) (uf.1 - u.1) (uf.2.1 - u.2.1) (uA G) := by
  rcases x1 with _ | x1 <;> exact u_met (own := RX5) (by decide +kernel) rfl (Nat.le_of_ble_eq_true rfl) (fun hC hn hsz ls hl hP => W.cs (Nat.sub_self _).symm (Nat.sub_self _).symm (w_X5_init_0 hC hn ⟨Nat.le_refl _, Nat.le_refl _⟩ ⟨Nat.le_refl _, Nat.le_refl _⟩ N u _ x2 h ⟨Nat.le_refl _, Nat.le_refl _⟩ hP va_S.rf hl))
def f_X1_reader_22 (N b : Nat) (g : uEnv) (a0 : Nat) (u : UH) (s0 : Option Nat) : Option (Option Nat × UH) :=
    some (s0, u)
set_option maxHeartbeats 4000000 in
set_option maxRecDepth 100000 in
theorem zz_X1_reader_22 {G : uG} {a0 : Nat} {uf : UH} {r : Option Nat} (N : Nat) (u : UH) (s0 : Option Nat) (h : f_X1_reader_22 N (ub G) (ug G) a0 u s0 = some (r, uf)) : u.1 ≤ uf.1 ∧ u.2.1 ≤ uf.2.1 := by
  unfold f_X1_reader_22 at h
  obtain ⟨hr1, hr2⟩ := uret_n h
  subst hr2
  exact ⟨by omega, by omega⟩
set_option maxHeartbeats 4000000 in
set_option maxRecDepth 100000 in
theorem w_X1_reader_22 {p : Program} {l : Launch} {e : Env} {R : Room} {s : State} {m : MethodId} {args : Array Value} {below : List Frame} {meth : Method} {c : Code} {G : uG} {a0 : Nat} {u0 : UH} {uf : UH} {r : Option Nat} (hC : uC p s m args meth c G RX1 cX1_reader 2 (some (.object "SoftWheels$Reader"))) (hR : 9 ≤ R.frames ∧ 236 ≤ R.locals) (hRm : uf.1 - u0.1 ≤ R.cells ∧ uf.2.1 - u0.2.1 ≤ R.slots) (N : Nat) (u : UH) (s0 : Option Nat) (h : f_X1_reader_22 N (ub G) (ug G) a0 u s0 = some (r, uf)) (hz0 : (u0.1 ≤ u.1 ∧ u0.2.1 ≤ u.2.1)) {H : Heap} {locs : List Loc} (hP : uP G u H) (hS : va_S (uA G) s.heap H locs) {ls : Array Slot} (hl : lv_has ls 2 []) : W p l e R s m args below meth c H locs (u.1 - u0.1) (u.2.1 - u0.2.1) (MQ below (uQr G r uf) args s (uf.1 - u0.1) (uf.2.1 - u0.2.1) (uA G)) (F0 m 22 ls [va_rf s0]) := by
  obtain ⟨⟨hx, hb, hml, hown, hts⟩, hKK⟩ := id hC
  have hzf := zz_X1_reader_22 (G := G) (a0 := a0) N u s0 h
  unfold f_X1_reader_22 at h
  obtain ⟨hr1, hr2⟩ := uret_n h
  subst hr1
  subst hr2
  exact u_aret hC (Or.inl ⟨_, rfl⟩) hP hS dX1_reader_22
def f_X1_reader_13 (N b : Nat) (g : uEnv) (a0 : Nat) (u : UH) (x1 : Int32) (s0 : Option Nat) : Option (Option Nat × UH) :=
    (uGR u a0 0 4).bind fun o1 =>
    (s0).bind fun a2 =>
    (f_X5_init N b g u a2 o1 x1).bind fun u3 =>
    f_X1_reader_22 N b g a0 u3 (some a2)
set_option maxHeartbeats 4000000 in
set_option maxRecDepth 100000 in
theorem zz_X1_reader_13 {G : uG} {a0 : Nat} {uf : UH} {r : Option Nat} (N : Nat) (u : UH) (x1 : Int32) (s0 : Option Nat) (h : f_X1_reader_13 N (ub G) (ug G) a0 u x1 s0 = some (r, uf)) : u.1 ≤ uf.1 ∧ u.2.1 ≤ uf.2.1 := by
  unfold f_X1_reader_13 at h
  obtain ⟨o1, ho1, h⟩ := mbind_n h
  obtain ⟨a2, ha2, hha2⟩ := mbind_n h
  subst ha2
  have h := hha2
  obtain ⟨u3, c4, h⟩ := mbind_n h
  have zu3 := zz_X5_init N (ub G) (ug G) u a2 o1 x1 u3 c4
  have hq := zz_X1_reader_22 (G := G) (a0 := a0) N u3 (some a2) h
  exact ⟨by omega, by omega⟩
set_option maxHeartbeats 4000000 in
set_option maxRecDepth 100000 in
theorem w_X1_reader_13 {p : Program} {l : Launch} {e : Env} {R : Room} {s : State} {m : MethodId} {args : Array Value} {below : List Frame} {meth : Method} {c : Code} {G : uG} {a0 : Nat} {u0 : UH} {uf : UH} {r : Option Nat} (hC : uC p s m args meth c G RX1 cX1_reader 2 (some (.object "SoftWheels$Reader"))) (hR : 9 ≤ R.frames ∧ 236 ≤ R.locals) (hRm : uf.1 - u0.1 ≤ R.cells ∧ uf.2.1 - u0.2.1 ≤ R.slots) (N : Nat) (u : UH) (x1 : Int32) (s0 : Option Nat) (h : f_X1_reader_13 N (ub G) (ug G) a0 u x1 s0 = some (r, uf)) (hz0 : (u0.1 ≤ u.1 ∧ u0.2.1 ≤ u.2.1)) {H : Heap} {locs : List Loc} (hP : uP G u H) (hS : va_S (uA G) s.heap H locs) {ls : Array Slot} (hl : lv_has ls 2 [(0, va_rf (some a0)), (1, .int x1)]) : W p l e R s m args below meth c H locs (u.1 - u0.1) (u.2.1 - u0.2.1) (MQ below (uQr G r uf) args s (uf.1 - u0.1) (uf.2.1 - u0.2.1) (uA G)) (F0 m 13 ls [va_rf s0]) := by
  obtain ⟨⟨hx, hb, hml, hown, hts⟩, hKK⟩ := id hC
  have hzf := zz_X1_reader_13 (G := G) (a0 := a0) N u x1 s0 h
  unfold f_X1_reader_13 at h
  refine lv_dup hx hb dX1_reader_13 (u_cat _) ?_
  refine u_aload_n (r := some a0) hx hb dX1_reader_14 rfl (lv_at hl 0 rfl) ?_
  obtain ⟨o1, ho1, h⟩ := mbind_n h
  refine u_get hC hP (uGR_n ho1) rfl in_X1 (by decide) q219 (fun _ h => h) dX1_reader_15 ?_
  refine lv_iload_n hx hb dX1_reader_18 rfl (lv_at hl 1 rfl) ?_
  obtain ⟨a2, ha2, hha2⟩ := mbind_n h
  subst ha2
  have h := hha2
  obtain ⟨u3, c4, h⟩ := mbind_n h
  have zu3 := zz_X5_init N (ub G) (ug G) u a2 o1 x1 u3 c4
  have hq := zz_X1_reader_22 (G := G) (a0 := a0) N u3 (some a2) h
  refine u_callv (va_runI (As := [va_rf o1, .int x1]) (rest := [va_rf (some a2)]) hC.1 (met_X5_init l N G u a2 o1 x1 u3 c4) (cwI 2 hts (lw_meth q337) rfl rfl rfl (hts _ q105) (hts _ q335) (hts _ q336) rfl (by decide +kernel) ⟨Nat.le_trans (Nat.le_of_ble_eq_true rfl) hR.1, Nat.le_trans (Nat.le_of_ble_eq_true rfl) hR.2⟩) ⟨uPc_blind, fun U hU hW => u_pre hC hP hS hU hW⟩ rfl rfl hl.1 rfl (lv_room (Nat.le_of_ble_eq_true rfl)) dX1_reader_19 ⟨by omega, by omega⟩) hS (fun H locs hP hS => ?_)
  refine W.cs (cells' := u3.1 - u0.1) (slots' := u3.2.1 - u0.2.1) (by omega) (by omega) ?_
  refine W.cs (cells' := u3.1 - u0.1) (slots' := u3.2.1 - u0.2.1) (by omega) (by omega) ?_
  exact w_X1_reader_22 hC hR hRm N u3 (some a2) h ⟨by omega, by omega⟩ hP hS (lv_sub hl [] rfl)
def f_X1_reader (N b : Nat) (g : uEnv) (u : UH) (a0 : Nat) (x1 : Int32) : Option (Option Nat × UH) :=
    (uPut b u a0 0 5 (.int 0)).bind fun u1 =>
    (uPut b u1 a0 0 6 (.int 0)).bind fun u2 =>
    mlet (u2.1) fun a4 =>
    mlet (uNew u2 8 (.inr (4, uDefs tyX5 8))) fun u3 =>
    f_X1_reader_13 N b g a0 u3 x1 (some a4)
set_option maxHeartbeats 4000000 in
set_option maxRecDepth 100000 in
theorem zz_X1_reader_0 {G : uG} {a0 : Nat} {uf : UH} {r : Option Nat} (N : Nat) (u : UH) (x1 : Int32) (h : f_X1_reader N (ub G) (ug G) u a0 x1 = some (r, uf)) : u.1 ≤ uf.1 ∧ u.2.1 ≤ uf.2.1 := by
  unfold f_X1_reader at h
  obtain ⟨u1, hu1, h⟩ := mbind_n h
  have zu1 := uPut_sz hu1
  obtain ⟨u2, hu2, h⟩ := mbind_n h
  have zu2 := uPut_sz hu2
  obtain ⟨a4, ea4⟩ : ∃ z : Nat, z = u2.1 := ⟨_, rfl⟩
  have h := mlet_at ea4 h
  obtain ⟨u3, eu3⟩ : ∃ z : UH, z = uNew u2 8 (.inr (4, uDefs tyX5 8)) := ⟨_, rfl⟩
  have h := mlet_at eu3 h
  have zu3 : u3.1 = u2.1 + 1 ∧ u3.2.1 = u2.2.1 + 8 := by rw [eu3]; exact ⟨rfl, rfl⟩
  have hq := zz_X1_reader_13 (G := G) (a0 := a0) N u3 x1 (some a4) h
  exact ⟨by omega, by omega⟩
set_option maxHeartbeats 4000000 in
set_option maxRecDepth 100000 in
theorem w_X1_reader_0 {p : Program} {l : Launch} {e : Env} {R : Room} {s : State} {m : MethodId} {args : Array Value} {below : List Frame} {meth : Method} {c : Code} {G : uG} {a0 : Nat} {u0 : UH} {uf : UH} {r : Option Nat} (hC : uC p s m args meth c G RX1 cX1_reader 2 (some (.object "SoftWheels$Reader"))) (hR : 9 ≤ R.frames ∧ 236 ≤ R.locals) (hRm : uf.1 - u0.1 ≤ R.cells ∧ uf.2.1 - u0.2.1 ≤ R.slots) (N : Nat) (u : UH) (x1 : Int32) (h : f_X1_reader N (ub G) (ug G) u a0 x1 = some (r, uf)) (hz0 : (u0.1 ≤ u.1 ∧ u0.2.1 ≤ u.2.1)) {H : Heap} {locs : List Loc} (hP : uP G u H) (hS : va_S (uA G) s.heap H locs) {ls : Array Slot} (hl : lv_has ls 2 [(0, va_rf (some a0)), (1, .int x1)]) : W p l e R s m args below meth c H locs (u.1 - u0.1) (u.2.1 - u0.2.1) (MQ below (uQr G r uf) args s (uf.1 - u0.1) (uf.2.1 - u0.2.1) (uA G)) (F0 m 0 ls []) := by
  obtain ⟨⟨hx, hb, hml, hown, hts⟩, hKK⟩ := id hC
  have hzf := zz_X1_reader_0 (G := G) (a0 := a0) N u x1 h
  unfold f_X1_reader at h
  refine u_aload_n (r := some a0) hx hb dX1_reader_0 rfl (lv_at hl 0 rfl) ?_
  refine lv_iconst (v := 0) hx hb dX1_reader_1 (by decide) ?_
  obtain ⟨u1, hu1, h⟩ := mbind_n h
  have zu1 := uPut_sz hu1
  refine u_put hC hP hS hu1 rfl in_X1 tyX1 tyX1_ok nmX1 (by decide) q220 (fun _ h => h) rfl (ty := .int) (tyX1_ok 5 (by decide)) rfl rfl dX1_reader_2 (fun H locs hP hS => ?_)
  refine W.cs (cells' := u1.1 - u0.1) (slots' := u1.2.1 - u0.2.1) (by omega) (by omega) ?_
  refine u_aload_n (r := some a0) hx hb dX1_reader_5 rfl (lv_at hl 0 rfl) ?_
  refine lv_iconst (v := 0) hx hb dX1_reader_6 (by decide) ?_
  obtain ⟨u2, hu2, h⟩ := mbind_n h
  have zu2 := uPut_sz hu2
  refine u_put hC hP hS hu2 rfl in_X1 tyX1 tyX1_ok nmX1 (by decide) q221 (fun _ h => h) rfl (ty := .int) (tyX1_ok 6 (by decide)) rfl rfl dX1_reader_7 (fun H locs hP hS => ?_)
  refine W.cs (cells' := u2.1 - u0.1) (slots' := u2.2.1 - u0.2.1) (by omega) (by omega) ?_
  obtain ⟨a4, ea4⟩ : ∃ z : Nat, z = u2.1 := ⟨_, rfl⟩
  have h := mlet_at ea4 h
  obtain ⟨u3, eu3⟩ : ∃ z : UH, z = uNew u2 8 (.inr (4, uDefs tyX5 8)) := ⟨_, rfl⟩
  have h := mlet_at eu3 h
  have zu3 : u3.1 = u2.1 + 1 ∧ u3.2.1 = u2.2.1 + 8 := by rw [eu3]; exact ⟨rfl, rfl⟩
  have hq := zz_X1_reader_13 (G := G) (a0 := a0) N u3 x1 (some a4) h
  refine u_new hC hP hS (T := TX5) (N := 8) (ci := 4) rfl in_X5 tyX5 tyX5_ok q333 q334 q105 (by omega) (by omega) dX1_reader_10 (fun H hP hS => ?_)
  rw [← eu3] at hP
  rw [← ea4]
  refine W.cs (cells' := u3.1 - u0.1) (slots' := u3.2.1 - u0.2.1) (by omega) (by omega) ?_
  refine W.cs (cells' := u3.1 - u0.1) (slots' := u3.2.1 - u0.2.1) (by omega) (by omega) ?_
  exact w_X1_reader_13 hC hR hRm N u3 x1 (some a4) h ⟨by omega, by omega⟩ hP hS (lv_sub hl [0, 1] rfl)
theorem zz_X1_reader (N b : Nat) (g : uEnv) (u : UH) (a0 : Nat) (x1 : Int32) (r : Option Nat) (uf : UH) (h : f_X1_reader N b g u a0 x1 = some (r, uf)) : u.1 ≤ uf.1 ∧ u.2.1 ≤ uf.2.1 :=
  zz_X1_reader_0 (G := ((fun _ => 0, fun _ _ => 0), fun _ => 0, b, g)) (a0 := a0) N u x1 h
theorem met_X1_reader (l : Launch) (N : Nat) (G : uG) (u : UH) (a0 : Nat) (x1 : Int32) (r : Option Nat) (uf : UH) (h : f_X1_reader N (ub G) (ug G) u a0 x1 = some (r, uf)) : Met l yX1_reader (ws_ yX1_reader cX1_reader 2 (some (.object "SoftWheels$Reader"))) ({ frames := 9, cells := (uf.1 - u.1), slots := (uf.2.1 - u.2.1), locals := 236 }) (uPc G u [.ref a0, .int x1]) (uQr G r uf) (uf.1 - u.1) (uf.2.1 - u.2.1) (uA G) := by
  exact u_met (own := RX1) (by decide +kernel) rfl (Nat.le_of_ble_eq_true rfl) (fun hC hn hsz ls hl hP => W.cs (Nat.sub_self _).symm (Nat.sub_self _).symm (w_X1_reader_0 hC ⟨Nat.le_refl _, Nat.le_refl _⟩ ⟨Nat.le_refl _, Nat.le_refl _⟩ N u x1 h ⟨Nat.le_refl _, Nat.le_refl _⟩ hP va_S.rf hl))
def f_X5_skips_34 (N b : Nat) (g : uEnv) (a0 : Nat) (u : UH) (x2 : Int32) : Option (Int32 × UH) :=
    if uFit .boolean x2 = true then
    some (x2, u)
    else none
set_option maxHeartbeats 4000000 in
set_option maxRecDepth 100000 in
theorem zz_X5_skips_34 {G : uG} {a0 : Nat} {uf : UH} {r : Int32} (N : Nat) (u : UH) (x2 : Int32) (h : f_X5_skips_34 N (ub G) (ug G) a0 u x2 = some (r, uf)) : u.1 ≤ uf.1 ∧ u.2.1 ≤ uf.2.1 := by
  unfold f_X5_skips_34 at h
  obtain ⟨c1, h⟩ := mif_n h
  obtain ⟨hr1, hr2⟩ := uret_n h
  subst hr2
  exact ⟨by omega, by omega⟩
set_option maxHeartbeats 4000000 in
set_option maxRecDepth 100000 in
theorem w_X5_skips_34 {p : Program} {l : Launch} {e : Env} {R : Room} {s : State} {m : MethodId} {args : Array Value} {below : List Frame} {meth : Method} {c : Code} {G : uG} {a0 : Nat} {u0 : UH} {uf : UH} {r : Int32} (hC : uC p s m args meth c G RX5 cX5_skips 3 (some .boolean)) (hR : 8 ≤ R.frames ∧ 214 ≤ R.locals) (hRm : uf.1 - u0.1 ≤ R.cells ∧ uf.2.1 - u0.2.1 ≤ R.slots) (N : Nat) (u : UH) (x2 : Int32) (h : f_X5_skips_34 N (ub G) (ug G) a0 u x2 = some (r, uf)) (hz0 : (u0.1 ≤ u.1 ∧ u0.2.1 ≤ u.2.1)) {H : Heap} {locs : List Loc} (hP : uP G u H) (hS : va_S (uA G) s.heap H locs) {ls : Array Slot} (hl : lv_has ls 3 [(2, .int x2)]) : W p l e R s m args below meth c H locs (u.1 - u0.1) (u.2.1 - u0.2.1) (MQ below (uQi G r uf) args s (uf.1 - u0.1) (uf.2.1 - u0.2.1) (uA G)) (F0 m 34 ls []) := by
  obtain ⟨⟨hx, hb, hml, hown, hts⟩, hKK⟩ := id hC
  have hzf := zz_X5_skips_34 (G := G) (a0 := a0) N u x2 h
  unfold f_X5_skips_34 at h
  refine lv_iload_n hx hb dX5_skips_34 rfl (lv_at hl 0 rfl) ?_
  obtain ⟨c1, h⟩ := mif_n h
  obtain ⟨hr1, hr2⟩ := uret_n h
  subst hr1
  subst hr2
  exact u_zret hC (uFit_n c1).1 hP hS dX5_skips_35
def f_X5_skips_25 (N b : Nat) (g : uEnv) (a0 : Nat) (u : UH) (s0 : Int32) : Option (Int32 × UH) :=
    if s0 = 0 then
    f_X5_skips_34 N b g a0 u s0
    else
    if uIs u a0 4 = true then
    (f_X5_next N b g u a0).bind fun u3 =>
    f_X5_skips_34 N b g a0 u3 s0
    else none
set_option maxHeartbeats 4000000 in
set_option maxRecDepth 100000 in
theorem zz_X5_skips_25 {G : uG} {a0 : Nat} {uf : UH} {r : Int32} (N : Nat) (u : UH) (s0 : Int32) (h : f_X5_skips_25 N (ub G) (ug G) a0 u s0 = some (r, uf)) : u.1 ≤ uf.1 ∧ u.2.1 ≤ uf.2.1 := by
  unfold f_X5_skips_25 at h
  by_cases c1 : s0 = 0
  · have h := mif_t c1 h
    have hq := zz_X5_skips_34 (G := G) (a0 := a0) N u s0 h
    exact ⟨by omega, by omega⟩
  · have h := mif_f c1 h
    obtain ⟨c2, h⟩ := mif_n h
    obtain ⟨u3, c4, h⟩ := mbind_n h
    have zu3 := zz_X5_next N (ub G) (ug G) u a0 u3 c4
    have hq := zz_X5_skips_34 (G := G) (a0 := a0) N u3 s0 h
    exact ⟨by omega, by omega⟩
set_option maxHeartbeats 4000000 in
set_option maxRecDepth 100000 in
theorem w_X5_skips_25 {p : Program} {l : Launch} {e : Env} {R : Room} {s : State} {m : MethodId} {args : Array Value} {below : List Frame} {meth : Method} {c : Code} {G : uG} {a0 : Nat} {u0 : UH} {uf : UH} {r : Int32} (hC : uC p s m args meth c G RX5 cX5_skips 3 (some .boolean)) (hR : 8 ≤ R.frames ∧ 214 ≤ R.locals) (hRm : uf.1 - u0.1 ≤ R.cells ∧ uf.2.1 - u0.2.1 ≤ R.slots) (N : Nat) (u : UH) (s0 : Int32) (h : f_X5_skips_25 N (ub G) (ug G) a0 u s0 = some (r, uf)) (hz0 : (u0.1 ≤ u.1 ∧ u0.2.1 ≤ u.2.1)) {H : Heap} {locs : List Loc} (hP : uP G u H) (hS : va_S (uA G) s.heap H locs) {ls : Array Slot} (hl : lv_has ls 3 [(0, va_rf (some a0))]) : W p l e R s m args below meth c H locs (u.1 - u0.1) (u.2.1 - u0.2.1) (MQ below (uQi G r uf) args s (uf.1 - u0.1) (uf.2.1 - u0.2.1) (uA G)) (F0 m 25 ls [.int s0]) := by
  obtain ⟨⟨hx, hb, hml, hown, hts⟩, hKK⟩ := id hC
  have hzf := zz_X5_skips_25 (G := G) (a0 := a0) N u s0 h
  unfold f_X5_skips_25 at h
  refine lv_istore_n (i := 2) (lv' := [(2, .int s0), (0, va_rf (some a0))]) hx hb dX5_skips_25 rfl hl (by decide) rfl (fun ls hl => ?_)
  refine lv_iload_n hx hb dX5_skips_26 rfl (lv_at hl 0 rfl) ?_
  refine lv_if_eq (tgt := 34) hx hb dX5_skips_27 (by decide) (fun c1 => ?_) (fun c1 => ?_)
  · have h := mif_t c1 h
    refine W.cs (cells' := u.1 - u0.1) (slots' := u.2.1 - u0.2.1) (by omega) (by omega) ?_
    exact w_X5_skips_34 hC hR hRm N u s0 h ⟨by omega, by omega⟩ hP hS (lv_sub hl [0] rfl)
  · have h := mif_f c1 h
    refine u_aload_n (r := some a0) hx hb dX5_skips_30 rfl (lv_at hl 1 rfl) ?_
    obtain ⟨c2, h⟩ := mif_n h
    obtain ⟨u3, c4, h⟩ := mbind_n h
    have zu3 := zz_X5_next N (ub G) (ug G) u a0 u3 c4
    have hq := zz_X5_skips_34 (G := G) (a0 := a0) N u3 s0 h
    refine u_callv (va_runV (As := []) (rest := []) hC.1 (met_X5_next l N G u a0 u3 c4) (cwV 0 hts (lw_V q339 q340 q341 q105 q342) rfl rfl rfl (by decide +kernel) ⟨Nat.le_trans (Nat.le_of_ble_eq_true rfl) hR.1, Nat.le_trans (Nat.le_of_ble_eq_true rfl) hR.2⟩) ⟨uPc_blind, u_rcv hC hP c2 rfl, fun U hU hW => u_pre hC hP hS hU hW⟩ rfl rfl hl.1 rfl (lv_room (Nat.le_of_ble_eq_true rfl)) dX5_skips_31 ⟨by omega, by omega⟩) hS (fun H locs hP hS => ?_)
    refine W.cs (cells' := u3.1 - u0.1) (slots' := u3.2.1 - u0.2.1) (by omega) (by omega) ?_
    refine W.cs (cells' := u3.1 - u0.1) (slots' := u3.2.1 - u0.2.1) (by omega) (by omega) ?_
    exact w_X5_skips_34 hC hR hRm N u3 s0 h ⟨by omega, by omega⟩ hP hS (lv_sub hl [0] rfl)
def f_X5_skips (N b : Nat) (g : uEnv) (u : UH) (a0 : Nat) (x1 : Option Nat) : Option (Int32 × UH) :=
    (x1).bind fun a1 =>
    if uIs u a1 20 = true then
    ucall (f_J6_length N b g u a1) fun r5 u3 =>
    if r5 ≤ 1 then
    if uIs u3 a1 20 = true then
    ucall (f_J6_charAt N b g u3 a1 0) fun r10 u8 =>
    if uIs u8 a0 4 = true then
    ucall (f_X5_is_2 N b g u8 a0 r10) fun r14 u12 =>
    f_X5_skips_25 N b g a0 u12 r14
    else none
    else none
    else
    if uIs u3 a0 4 = true then
    ucall (f_X5_is N b g u3 a0 (some a1)) fun r18 u16 =>
    f_X5_skips_25 N b g a0 u16 r18
    else none
    else none
set_option maxHeartbeats 4000000 in
set_option maxRecDepth 100000 in
theorem zz_X5_skips_0 {G : uG} {a0 : Nat} {uf : UH} {r : Int32} (N : Nat) (u : UH) (x1 : Option Nat) (h : f_X5_skips N (ub G) (ug G) u a0 x1 = some (r, uf)) : u.1 ≤ uf.1 ∧ u.2.1 ≤ uf.2.1 := by
  unfold f_X5_skips at h
  obtain ⟨a1, ha1, hha1⟩ := mbind_n h
  subst ha1
  have h := hha1
  obtain ⟨c2, h⟩ := mif_n h
  obtain ⟨r5, u3, c4, h⟩ := ucall_n h
  have zu3 := zz_J6_length N (ub G) (ug G) u a1 r5 u3 c4
  by_cases c6 : r5 ≤ 1
  · have h := mif_t c6 h
    obtain ⟨c7, h⟩ := mif_n h
    obtain ⟨r10, u8, c9, h⟩ := ucall_n h
    have zu8 := zz_J6_charAt N (ub G) (ug G) u3 a1 0 r10 u8 c9
    obtain ⟨c11, h⟩ := mif_n h
    obtain ⟨r14, u12, c13, h⟩ := ucall_n h
    have zu12 := zz_X5_is_2 N (ub G) (ug G) u8 a0 r10 r14 u12 c13
    have hq := zz_X5_skips_25 (G := G) (a0 := a0) N u12 r14 h
    exact ⟨by omega, by omega⟩
  · have h := mif_f c6 h
    obtain ⟨c15, h⟩ := mif_n h
    obtain ⟨r18, u16, c17, h⟩ := ucall_n h
    have zu16 := zz_X5_is N (ub G) (ug G) u3 a0 (some a1) r18 u16 c17
    have hq := zz_X5_skips_25 (G := G) (a0 := a0) N u16 r18 h
    exact ⟨by omega, by omega⟩
set_option maxHeartbeats 4000000 in
set_option maxRecDepth 100000 in
theorem w_X5_skips_0 {p : Program} {l : Launch} {e : Env} {R : Room} {s : State} {m : MethodId} {args : Array Value} {below : List Frame} {meth : Method} {c : Code} {G : uG} {a0 : Nat} {u0 : UH} {uf : UH} {r : Int32} (hC : uC p s m args meth c G RX5 cX5_skips 3 (some .boolean)) (hR : 8 ≤ R.frames ∧ 214 ≤ R.locals) (hRm : uf.1 - u0.1 ≤ R.cells ∧ uf.2.1 - u0.2.1 ≤ R.slots) (N : Nat) (u : UH) (x1 : Option Nat) (h : f_X5_skips N (ub G) (ug G) u a0 x1 = some (r, uf)) (hz0 : (u0.1 ≤ u.1 ∧ u0.2.1 ≤ u.2.1)) {H : Heap} {locs : List Loc} (hP : uP G u H) (hS : va_S (uA G) s.heap H locs) {ls : Array Slot} (hl : lv_has ls 3 [(0, va_rf (some a0)), (1, va_rf x1)]) : W p l e R s m args below meth c H locs (u.1 - u0.1) (u.2.1 - u0.2.1) (MQ below (uQi G r uf) args s (uf.1 - u0.1) (uf.2.1 - u0.2.1) (uA G)) (F0 m 0 ls []) := by
  obtain ⟨⟨hx, hb, hml, hown, hts⟩, hKK⟩ := id hC
  have hzf := zz_X5_skips_0 (G := G) (a0 := a0) N u x1 h
  unfold f_X5_skips at h
  refine u_aload_n (r := x1) hx hb dX5_skips_0 rfl (lv_at hl 1 rfl) ?_
  obtain ⟨a1, ha1, hha1⟩ := mbind_n h
  subst ha1
  have h := hha1
  obtain ⟨c2, h⟩ := mif_n h
  obtain ⟨r5, u3, c4, h⟩ := ucall_n h
  have zu3 := zz_J6_length N (ub G) (ug G) u a1 r5 u3 c4
  refine u_calli (va_runV (As := []) (rest := []) hC.1 (met_J6_length l N G u a1 r5 u3 c4) (cwV 0 hts (lw_V q666 q572 q573 q110 q574) rfl rfl rfl (by decide +kernel) ⟨Nat.le_trans (Nat.le_of_ble_eq_true rfl) hR.1, Nat.le_trans (Nat.le_of_ble_eq_true rfl) hR.2⟩) ⟨uPc_blind, u_rcv hC hP c2 rfl, fun U hU hW => u_pre hC hP hS hU hW⟩ rfl rfl hl.1 rfl (lv_room (Nat.le_of_ble_eq_true rfl)) dX5_skips_1 ⟨by omega, by omega⟩) hS (fun H locs hP hS => ?_)
  refine W.cs (cells' := u3.1 - u0.1) (slots' := u3.2.1 - u0.2.1) (by omega) (by omega) ?_
  refine lv_iconst (v := 1) hx hb dX5_skips_4 (by decide) ?_
  refine lv_icmp_le (tgt := 16) hx hb dX5_skips_5 (by decide) (fun c6 => ?_) (fun c6 => ?_)
  · have h := mif_t c6 h
    refine u_aload_n (r := some a0) hx hb dX5_skips_16 rfl (lv_at hl 0 rfl) ?_
    refine u_aload_n (r := some a1) hx hb dX5_skips_17 rfl (lv_at hl 1 rfl) ?_
    refine lv_iconst (v := 0) hx hb dX5_skips_18 (by decide) ?_
    obtain ⟨c7, h⟩ := mif_n h
    obtain ⟨r10, u8, c9, h⟩ := ucall_n h
    have zu8 := zz_J6_charAt N (ub G) (ug G) u3 a1 0 r10 u8 c9
    refine u_calli (va_runV (As := [.int 0]) (rest := [va_rf (some a0)]) hC.1 (met_J6_charAt l N G u3 a1 0 r10 u8 c9) (cwV 1 hts (lw_V q679 q680 q681 q110 q682) rfl rfl rfl (by decide +kernel) ⟨Nat.le_trans (Nat.le_of_ble_eq_true rfl) hR.1, Nat.le_trans (Nat.le_of_ble_eq_true rfl) hR.2⟩) ⟨uPc_blind, u_rcv hC hP c7 rfl, fun U hU hW => u_pre hC hP hS hU hW⟩ rfl rfl hl.1 rfl (lv_room (Nat.le_of_ble_eq_true rfl)) dX5_skips_19 ⟨by omega, by omega⟩) hS (fun H locs hP hS => ?_)
    refine W.cs (cells' := u8.1 - u0.1) (slots' := u8.2.1 - u0.2.1) (by omega) (by omega) ?_
    obtain ⟨c11, h⟩ := mif_n h
    obtain ⟨r14, u12, c13, h⟩ := ucall_n h
    have zu12 := zz_X5_is_2 N (ub G) (ug G) u8 a0 r10 r14 u12 c13
    refine u_calli (va_runV (As := [.int r10]) (rest := []) hC.1 (met_X5_is_2 l N G u8 a0 r10 r14 u12 c13) (cwV 1 hts (lw_V q690 q691 q692 q105 q693) rfl rfl rfl (by decide +kernel) ⟨Nat.le_trans (Nat.le_of_ble_eq_true rfl) hR.1, Nat.le_trans (Nat.le_of_ble_eq_true rfl) hR.2⟩) ⟨uPc_blind, u_rcv hC hP c11 rfl, fun U hU hW => u_pre hC hP hS hU hW⟩ rfl rfl hl.1 rfl (lv_room (Nat.le_of_ble_eq_true rfl)) dX5_skips_22 ⟨by omega, by omega⟩) hS (fun H locs hP hS => ?_)
    refine W.cs (cells' := u12.1 - u0.1) (slots' := u12.2.1 - u0.2.1) (by omega) (by omega) ?_
    refine W.cs (cells' := u12.1 - u0.1) (slots' := u12.2.1 - u0.2.1) (by omega) (by omega) ?_
    exact w_X5_skips_25 hC hR hRm N u12 r14 h ⟨by omega, by omega⟩ hP hS (lv_sub hl [0] rfl)
  · have h := mif_f c6 h
    refine u_aload_n (r := some a0) hx hb dX5_skips_8 rfl (lv_at hl 0 rfl) ?_
    refine u_aload_n (r := some a1) hx hb dX5_skips_9 rfl (lv_at hl 1 rfl) ?_
    obtain ⟨c15, h⟩ := mif_n h
    obtain ⟨r18, u16, c17, h⟩ := ucall_n h
    have zu16 := zz_X5_is N (ub G) (ug G) u3 a0 (some a1) r18 u16 c17
    refine u_calli (va_runV (As := [va_rf (some a1)]) (rest := []) hC.1 (met_X5_is l N G u3 a0 (some a1) r18 u16 c17) (cwV 1 hts (lw_V q667 q668 q669 q105 q670) rfl rfl rfl (by decide +kernel) ⟨Nat.le_trans (Nat.le_of_ble_eq_true rfl) hR.1, Nat.le_trans (Nat.le_of_ble_eq_true rfl) hR.2⟩) ⟨uPc_blind, u_rcv hC hP c15 rfl, fun U hU hW => u_pre hC hP hS hU hW⟩ rfl rfl hl.1 rfl (lv_room (Nat.le_of_ble_eq_true rfl)) dX5_skips_10 ⟨by omega, by omega⟩) hS (fun H locs hP hS => ?_)
    refine W.cs (cells' := u16.1 - u0.1) (slots' := u16.2.1 - u0.2.1) (by omega) (by omega) ?_
    refine lv_goto (tgt := 25) hx hb dX5_skips_13 (by decide) ?_
    refine W.cs (cells' := u16.1 - u0.1) (slots' := u16.2.1 - u0.2.1) (by omega) (by omega) ?_
    exact w_X5_skips_25 hC hR hRm N u16 r18 h ⟨by omega, by omega⟩ hP hS (lv_sub hl [0] rfl)
theorem zz_X5_skips (N b : Nat) (g : uEnv) (u : UH) (a0 : Nat) (x1 : Option Nat) (r : Int32) (uf : UH) (h : f_X5_skips N b g u a0 x1 = some (r, uf)) : u.1 ≤ uf.1 ∧ u.2.1 ≤ uf.2.1 :=
  zz_X5_skips_0 (G := ((fun _ => 0, fun _ _ => 0), fun _ => 0, b, g)) (a0 := a0) N u x1 h
theorem met_X5_skips (l : Launch) (N : Nat) (G : uG) (u : UH) (a0 : Nat) (x1 : Option Nat) (r : Int32) (uf : UH) (h : f_X5_skips N (ub G) (ug G) u a0 x1 = some (r, uf)) : Met l yX5_skips (ws_ yX5_skips cX5_skips 3 (some .boolean)) ({ frames := 8, cells := (uf.1 - u.1), slots := (uf.2.1 - u.2.1), locals := 214 }) (uPc G u [.ref a0, va_rf x1]) (uQi G r uf) (uf.1 - u.1) (uf.2.1 - u.2.1) (uA G) := by
  rcases x1 with _ | x1 <;> exact u_met (own := RX5) (by decide +kernel) rfl (Nat.le_of_ble_eq_true rfl) (fun hC hn hsz ls hl hP => W.cs (Nat.sub_self _).symm (Nat.sub_self _).symm (w_X5_skips_0 hC ⟨Nat.le_refl _, Nat.le_refl _⟩ ⟨Nat.le_refl _, Nat.le_refl _⟩ N u _ h ⟨Nat.le_refl _, Nat.le_refl _⟩ hP va_S.rf hl))
def f_X5_fault_3 (N b : Nat) (g : uEnv) (a0 : Nat) (u : UH) (x1 : Int32) (s0 : Option Nat) : Option (Option Nat × UH) :=
    (uGI u a0 4 3).bind fun y1 =>
    (s0).bind fun a2 =>
    (f_X8_init N b g u a2 x1 y1).bind fun u3 =>
    some (some a2, u3)
set_option maxHeartbeats 4000000 in
set_option maxRecDepth 100000 in
theorem zz_X5_fault_3 {G : uG} {a0 : Nat} {uf : UH} {r : Option Nat} (N : Nat) (u : UH) (x1 : Int32) (s0 : Option Nat) (h : f_X5_fault_3 N (ub G) (ug G) a0 u x1 s0 = some (r, uf)) : u.1 ≤ uf.1 ∧ u.2.1 ≤ uf.2.1 := by
  unfold f_X5_fault_3 at h
  obtain ⟨y1, hy1, h⟩ := mbind_n h
  obtain ⟨a2, ha2, hha2⟩ := mbind_n h
  subst ha2
  have h := hha2
  obtain ⟨u3, c4, h⟩ := mbind_n h
  have zu3 := zz_X8_init N (ub G) (ug G) u a2 x1 y1 u3 c4
  obtain ⟨hr1, hr2⟩ := uret_n h
  subst hr2
  exact ⟨by omega, by omega⟩
set_option maxHeartbeats 4000000 in
set_option maxRecDepth 100000 in
theorem w_X5_fault_3 {p : Program} {l : Launch} {e : Env} {R : Room} {s : State} {m : MethodId} {args : Array Value} {below : List Frame} {meth : Method} {c : Code} {G : uG} {a0 : Nat} {u0 : UH} {uf : UH} {r : Option Nat} (hC : uC p s m args meth c G RX5 cX5_fault 2 (some (.object "SoftWheels$Fault"))) (hR : 4 ≤ R.frames ∧ 90 ≤ R.locals) (hRm : uf.1 - u0.1 ≤ R.cells ∧ uf.2.1 - u0.2.1 ≤ R.slots) (N : Nat) (u : UH) (x1 : Int32) (s0 : Option Nat) (h : f_X5_fault_3 N (ub G) (ug G) a0 u x1 s0 = some (r, uf)) (hz0 : (u0.1 ≤ u.1 ∧ u0.2.1 ≤ u.2.1)) {H : Heap} {locs : List Loc} (hP : uP G u H) (hS : va_S (uA G) s.heap H locs) {ls : Array Slot} (hl : lv_has ls 2 [(0, va_rf (some a0)), (1, .int x1)]) : W p l e R s m args below meth c H locs (u.1 - u0.1) (u.2.1 - u0.2.1) (MQ below (uQr G r uf) args s (uf.1 - u0.1) (uf.2.1 - u0.2.1) (uA G)) (F0 m 3 ls [va_rf s0]) := by
  obtain ⟨⟨hx, hb, hml, hown, hts⟩, hKK⟩ := id hC
  have hzf := zz_X5_fault_3 (G := G) (a0 := a0) N u x1 s0 h
  unfold f_X5_fault_3 at h
  refine lv_dup hx hb dX5_fault_3 (u_cat _) ?_
  refine lv_iload_n hx hb dX5_fault_4 rfl (lv_at hl 1 rfl) ?_
  refine u_aload_n (r := some a0) hx hb dX5_fault_5 rfl (lv_at hl 0 rfl) ?_
  obtain ⟨y1, hy1, h⟩ := mbind_n h
  refine u_get hC hP (uGI_n hy1) rfl in_X5 (by decide) q630 (fun _ h => h) dX5_fault_6 ?_
  obtain ⟨a2, ha2, hha2⟩ := mbind_n h
  subst ha2
  have h := hha2
  obtain ⟨u3, c4, h⟩ := mbind_n h
  have zu3 := zz_X8_init N (ub G) (ug G) u a2 x1 y1 u3 c4
  refine u_callv (va_runI (As := [.int x1, .int y1]) (rest := [va_rf (some a2)]) hC.1 (met_X8_init l N G u a2 x1 y1 u3 c4) (cwI 2 hts (lw_meth q824) rfl rfl rfl (hts _ q123) (hts _ q822) (hts _ q823) rfl (by decide +kernel) ⟨Nat.le_trans (Nat.le_of_ble_eq_true rfl) hR.1, Nat.le_trans (Nat.le_of_ble_eq_true rfl) hR.2⟩) ⟨uPc_blind, fun U hU hW => u_pre hC hP hS hU hW⟩ rfl rfl hl.1 rfl (lv_room (Nat.le_of_ble_eq_true rfl)) dX5_fault_9 ⟨by omega, by omega⟩) hS (fun H locs hP hS => ?_)
  refine W.cs (cells' := u3.1 - u0.1) (slots' := u3.2.1 - u0.2.1) (by omega) (by omega) ?_
  obtain ⟨hr1, hr2⟩ := uret_n h
  subst hr1
  subst hr2
  exact u_aret hC (Or.inl ⟨_, rfl⟩) hP hS dX5_fault_12
def f_X5_fault (N b : Nat) (g : uEnv) (u : UH) (a0 : Nat) (x1 : Int32) : Option (Option Nat × UH) :=
    mlet (u.1) fun a2 =>
    mlet (uNew u 8 (.inr (6, uDefs tyX8 8))) fun u1 =>
    f_X5_fault_3 N b g a0 u1 x1 (some a2)
set_option maxHeartbeats 4000000 in
set_option maxRecDepth 100000 in
theorem zz_X5_fault_0 {G : uG} {a0 : Nat} {uf : UH} {r : Option Nat} (N : Nat) (u : UH) (x1 : Int32) (h : f_X5_fault N (ub G) (ug G) u a0 x1 = some (r, uf)) : u.1 ≤ uf.1 ∧ u.2.1 ≤ uf.2.1 := by
  unfold f_X5_fault at h
  obtain ⟨a2, ea2⟩ : ∃ z : Nat, z = u.1 := ⟨_, rfl⟩
  have h := mlet_at ea2 h
  obtain ⟨u1, eu1⟩ : ∃ z : UH, z = uNew u 8 (.inr (6, uDefs tyX8 8)) := ⟨_, rfl⟩
  have h := mlet_at eu1 h
  have zu1 : u1.1 = u.1 + 1 ∧ u1.2.1 = u.2.1 + 8 := by rw [eu1]; exact ⟨rfl, rfl⟩
  have hq := zz_X5_fault_3 (G := G) (a0 := a0) N u1 x1 (some a2) h
  exact ⟨by omega, by omega⟩
set_option maxHeartbeats 4000000 in
set_option maxRecDepth 100000 in
theorem w_X5_fault_0 {p : Program} {l : Launch} {e : Env} {R : Room} {s : State} {m : MethodId} {args : Array Value} {below : List Frame} {meth : Method} {c : Code} {G : uG} {a0 : Nat} {u0 : UH} {uf : UH} {r : Option Nat} (hC : uC p s m args meth c G RX5 cX5_fault 2 (some (.object "SoftWheels$Fault"))) (hR : 4 ≤ R.frames ∧ 90 ≤ R.locals) (hRm : uf.1 - u0.1 ≤ R.cells ∧ uf.2.1 - u0.2.1 ≤ R.slots) (N : Nat) (u : UH) (x1 : Int32) (h : f_X5_fault N (ub G) (ug G) u a0 x1 = some (r, uf)) (hz0 : (u0.1 ≤ u.1 ∧ u0.2.1 ≤ u.2.1)) {H : Heap} {locs : List Loc} (hP : uP G u H) (hS : va_S (uA G) s.heap H locs) {ls : Array Slot} (hl : lv_has ls 2 [(0, va_rf (some a0)), (1, .int x1)]) : W p l e R s m args below meth c H locs (u.1 - u0.1) (u.2.1 - u0.2.1) (MQ below (uQr G r uf) args s (uf.1 - u0.1) (uf.2.1 - u0.2.1) (uA G)) (F0 m 0 ls []) := by
  obtain ⟨⟨hx, hb, hml, hown, hts⟩, hKK⟩ := id hC
  have hzf := zz_X5_fault_0 (G := G) (a0 := a0) N u x1 h
  unfold f_X5_fault at h
  obtain ⟨a2, ea2⟩ : ∃ z : Nat, z = u.1 := ⟨_, rfl⟩
  have h := mlet_at ea2 h
  obtain ⟨u1, eu1⟩ : ∃ z : UH, z = uNew u 8 (.inr (6, uDefs tyX8 8)) := ⟨_, rfl⟩
  have h := mlet_at eu1 h
  have zu1 : u1.1 = u.1 + 1 ∧ u1.2.1 = u.2.1 + 8 := by rw [eu1]; exact ⟨rfl, rfl⟩
  have hq := zz_X5_fault_3 (G := G) (a0 := a0) N u1 x1 (some a2) h
  refine u_new hC hP hS (T := TX8) (N := 8) (ci := 6) rfl in_X8 tyX8 tyX8_ok q784 q785 q123 (by omega) (by omega) dX5_fault_0 (fun H hP hS => ?_)
  rw [← eu1] at hP
  rw [← ea2]
  refine W.cs (cells' := u1.1 - u0.1) (slots' := u1.2.1 - u0.2.1) (by omega) (by omega) ?_
  refine W.cs (cells' := u1.1 - u0.1) (slots' := u1.2.1 - u0.2.1) (by omega) (by omega) ?_
  exact w_X5_fault_3 hC hR hRm N u1 x1 (some a2) h ⟨by omega, by omega⟩ hP hS (lv_sub hl [0, 1] rfl)
theorem zz_X5_fault (N b : Nat) (g : uEnv) (u : UH) (a0 : Nat) (x1 : Int32) (r : Option Nat) (uf : UH) (h : f_X5_fault N b g u a0 x1 = some (r, uf)) : u.1 ≤ uf.1 ∧ u.2.1 ≤ uf.2.1 :=
  zz_X5_fault_0 (G := ((fun _ => 0, fun _ _ => 0), fun _ => 0, b, g)) (a0 := a0) N u x1 h
theorem met_X5_fault (l : Launch) (N : Nat) (G : uG) (u : UH) (a0 : Nat) (x1 : Int32) (r : Option Nat) (uf : UH) (h : f_X5_fault N (ub G) (ug G) u a0 x1 = some (r, uf)) : Met l yX5_fault (ws_ yX5_fault cX5_fault 2 (some (.object "SoftWheels$Fault"))) ({ frames := 4, cells := (uf.1 - u.1), slots := (uf.2.1 - u.2.1), locals := 90 }) (uPc G u [.ref a0, .int x1]) (uQr G r uf) (uf.1 - u.1) (uf.2.1 - u.2.1) (uA G) := by
  exact u_met (own := RX5) (by decide +kernel) rfl (Nat.le_of_ble_eq_true rfl) (fun hC hn hsz ls hl hP => W.cs (Nat.sub_self _).symm (Nat.sub_self _).symm (w_X5_fault_0 hC ⟨Nat.le_refl _, Nat.le_refl _⟩ ⟨Nat.le_refl _, Nat.le_refl _⟩ N u x1 h ⟨Nat.le_refl _, Nat.le_refl _⟩ hP va_S.rf hl))
def f_X14_truth_81 (N b : Nat) (g : uEnv) (a0 : Nat) (k17 : UH → Option Nat → Int32 → Int32 → Option (Option Nat × UH)) (u : UH) (x2 : Option Nat) (x3 : Int32) (x4 : Int32) : Option (Option Nat × UH) :=
    mlet (x4 + (-1)) fun y1 =>
    k17 u x2 x3 y1
set_option maxHeartbeats 4000000 in
set_option maxRecDepth 100000 in
theorem zz_X14_truth_81 {G : uG} {a0 : Nat} {uf : UH} {r : Option Nat} (N : Nat) (k17 : UH → Option Nat → Int32 → Int32 → Option (Option Nat × UH)) (hk17 : ∀ (u : UH) (x2 : Option Nat) (x3 : Int32) (x4 : Int32), k17 u x2 x3 x4 = some (r, uf) → u.1 ≤ uf.1 ∧ u.2.1 ≤ uf.2.1) (u : UH) (x2 : Option Nat) (x3 : Int32) (x4 : Int32) (h : f_X14_truth_81 N (ub G) (ug G) a0 k17 u x2 x3 x4 = some (r, uf)) : u.1 ≤ uf.1 ∧ u.2.1 ≤ uf.2.1 := by
  unfold f_X14_truth_81 at h
  obtain ⟨y1, ey1⟩ : ∃ z : Int32, z = x4 + (-1) := ⟨_, rfl⟩
  have h := mlet_at ey1 h
  have hq := hk17 u x2 x3 y1 h
  exact ⟨by omega, by omega⟩
set_option maxHeartbeats 4000000 in
set_option maxRecDepth 100000 in
theorem w_X14_truth_81 {p : Program} {l : Launch} {e : Env} {R : Room} {s : State} {m : MethodId} {args : Array Value} {below : List Frame} {meth : Method} {c : Code} {G : uG} {a0 : Nat} {u0 : UH} {uf : UH} {r : Option Nat} (hC : uC p s m args meth c G RX14 cX14_truth 6 (some (.array .int))) (hR : 3 ≤ R.frames ∧ 64 ≤ R.locals) (hRm : uf.1 - u0.1 ≤ R.cells ∧ uf.2.1 - u0.2.1 ≤ R.slots) (N : Nat) (k17 : UH → Option Nat → Int32 → Int32 → Option (Option Nat × UH)) (hk17 : ∀ (u : UH) (x2 : Option Nat) (x3 : Int32) (x4 : Int32), k17 u x2 x3 x4 = some (r, uf) → (u0.1 ≤ u.1 ∧ u0.2.1 ≤ u.2.1) → ∀ (H : Heap) (locs : List Loc), uP G u H → va_S (uA G) s.heap H locs → ∀ ls : Array Slot, lv_has ls 6 [(0, va_rf (some a0)), (2, va_rf x2), (3, .int x3), (4, .int x4)] → W p l e R s m args below meth c H locs (u.1 - u0.1) (u.2.1 - u0.2.1) (MQ below (uQr G r uf) args s (uf.1 - u0.1) (uf.2.1 - u0.2.1) (uA G)) (F0 m 17 ls [])) (zk17 : ∀ (u : UH) (x2 : Option Nat) (x3 : Int32) (x4 : Int32), k17 u x2 x3 x4 = some (r, uf) → u.1 ≤ uf.1 ∧ u.2.1 ≤ uf.2.1) (u : UH) (x2 : Option Nat) (x3 : Int32) (x4 : Int32) (h : f_X14_truth_81 N (ub G) (ug G) a0 k17 u x2 x3 x4 = some (r, uf)) (hz0 : (u0.1 ≤ u.1 ∧ u0.2.1 ≤ u.2.1)) {H : Heap} {locs : List Loc} (hP : uP G u H) (hS : va_S (uA G) s.heap H locs) {ls : Array Slot} (hl : lv_has ls 6 [(0, va_rf (some a0)), (2, va_rf x2), (3, .int x3), (4, .int x4)]) : W p l e R s m args below meth c H locs (u.1 - u0.1) (u.2.1 - u0.2.1) (MQ below (uQr G r uf) args s (uf.1 - u0.1) (uf.2.1 - u0.2.1) (uA G)) (F0 m 81 ls []) := by
  obtain ⟨⟨hx, hb, hml, hown, hts⟩, hKK⟩ := id hC
  have hzf := zz_X14_truth_81 (G := G) (a0 := a0) N k17 zk17 u x2 x3 x4 h
  unfold f_X14_truth_81 at h
  obtain ⟨y1, ey1⟩ : ∃ z : Int32, z = x4 + (-1) := ⟨_, rfl⟩
  have h := mlet_at ey1 h
  refine lv_iinc (v := y1) (lv' := [(4, .int y1), (0, va_rf (some a0)), (2, va_rf x2), (3, .int x3)]) hx hb dX14_truth_81 hl (k := 3) rfl (by rw [ey1]; rfl) (by decide) rfl (fun ls hl => ?_)
  refine lv_goto (tgt := 17) hx hb dX14_truth_84 (by decide) ?_
  refine W.cs (cells' := u.1 - u0.1) (slots' := u.2.1 - u0.2.1) (by omega) (by omega) ?_
  exact hk17 u x2 x3 y1 h ⟨by omega, by omega⟩ _ _ hP hS _ (lv_sub hl [1, 2, 3, 0] rfl)
def f_X14_truth_17 (N b : Nat) (g : uEnv) (a0 : Nat) : Nat → UH → Option Nat → Int32 → Int32 → Option (Option Nat × UH)
  | 0, _, _, _, _ => none
  | n + 1, u, x2, x3, x4 =>
    if x4 < 0 then
    some (x2, u)
    else
    (uGR u a0 12 6).bind fun o2 =>
    (o2).bind fun a3 =>
    if uIs u a3 18 = true then
    ucall (f_J2_get N b g u a3 x4) fun o7 u5 =>
    (o7).bind fun a8 =>
    if uIs u5 a8 13 = true then
    (uGI u5 a8 13 2).bind fun y10 =>
    if y10 = (-1) then
    if uIs u5 a8 13 = true then
    ucall (f_X15_kinds N b g u5 a8) fun r15 u13 =>
    if ¬ r15 = 0 then
    if uIs u13 a8 13 = true then
    ucall (f_X15_kind N b g u13 a8 (x3 - x3 / r15 * r15)) fun r20 u18 =>
    (x2).bind fun a21 =>
    (uStI b u18 a21 0 x4 r20).bind fun u22 =>
    if uIs u22 a8 13 = true then
    ucall (f_X15_kinds N b g u22 a8) fun r26 u24 =>
    if ¬ r26 = 0 then
    mlet (x3 / r26) fun y28 =>
    f_X14_truth_81 N b g a0 (f_X14_truth_17 N b g a0 n) u24 (some a21) y28 x4
    else none
    else none
    else none
    else none
    else none
    else
    (uGI u5 a8 13 2).bind fun y29 =>
    (x2).bind fun a30 =>
    (uStI b u5 a30 0 x4 y29).bind fun u31 =>
    f_X14_truth_81 N b g a0 (f_X14_truth_17 N b g a0 n) u31 (some a30) x3 x4
    else none
    else none
set_option maxHeartbeats 4000000 in
set_option maxRecDepth 100000 in
theorem zz_X14_truth_17 {G : uG} {a0 : Nat} {uf : UH} {r : Option Nat} (N : Nat) : ∀ (n : Nat) (u : UH) (x2 : Option Nat) (x3 : Int32) (x4 : Int32), f_X14_truth_17 N (ub G) (ug G) a0 n u x2 x3 x4 = some (r, uf) → u.1 ≤ uf.1 ∧ u.2.1 ≤ uf.2.1 := by
  intro n
  induction n with
  | zero =>
    intro u x2 x3 x4 h
    cases h
  | succ n ih =>
    intro u x2 x3 x4 h
    unfold f_X14_truth_17 at h
    by_cases c1 : x4 < 0
    · have h := mif_t c1 h
      obtain ⟨hr1, hr2⟩ := uret_n h
      subst hr2
      exact ⟨by omega, by omega⟩
    · have h := mif_f c1 h
      obtain ⟨o2, ho2, h⟩ := mbind_n h
      obtain ⟨a3, ha3, hha3⟩ := mbind_n h
      subst ha3
      have h := hha3
      obtain ⟨c4, h⟩ := mif_n h
      obtain ⟨o7, u5, c6, h⟩ := ucall_n h
      have zu5 := zz_J2_get N (ub G) (ug G) u a3 x4 o7 u5 c6
      obtain ⟨a8, ha8, hha8⟩ := mbind_n h
      subst ha8
      have h := hha8
      obtain ⟨c9, h⟩ := mif_n h
      obtain ⟨y10, hy10, h⟩ := mbind_n h
      by_cases c11 : y10 = (-1)
      · have h := mif_t c11 h
        obtain ⟨c12, h⟩ := mif_n h
        obtain ⟨r15, u13, c14, h⟩ := ucall_n h
        have zu13 := zz_X15_kinds N (ub G) (ug G) u5 a8 r15 u13 c14
        obtain ⟨c16, h⟩ := mif_n h
        obtain ⟨c17, h⟩ := mif_n h
        obtain ⟨r20, u18, c19, h⟩ := ucall_n h
        have zu18 := zz_X15_kind N (ub G) (ug G) u13 a8 (x3 - x3 / r15 * r15) r20 u18 c19
        obtain ⟨a21, ha21, hha21⟩ := mbind_n h
        subst ha21
        have h := hha21
        obtain ⟨u22, hu22, h⟩ := mbind_n h
        have zu22 := uStI_sz hu22
        obtain ⟨c23, h⟩ := mif_n h
        obtain ⟨r26, u24, c25, h⟩ := ucall_n h
        have zu24 := zz_X15_kinds N (ub G) (ug G) u22 a8 r26 u24 c25
        obtain ⟨c27, h⟩ := mif_n h
        obtain ⟨y28, ey28⟩ : ∃ z, z = x3 / r26 := ⟨_, rfl⟩
        have h := mlet_at ey28 h
        have hq := zz_X14_truth_81 (G := G) (a0 := a0) N (f_X14_truth_17 N (ub G) (ug G) a0 n) ih u24 (some a21) y28 x4 h
        exact ⟨by omega, by omega⟩
      · have h := mif_f c11 h
        obtain ⟨y29, hy29, h⟩ := mbind_n h
        obtain ⟨a30, ha30, hha30⟩ := mbind_n h
        subst ha30
        have h := hha30
        obtain ⟨u31, hu31, h⟩ := mbind_n h
        have zu31 := uStI_sz hu31
        have hq := zz_X14_truth_81 (G := G) (a0 := a0) N (f_X14_truth_17 N (ub G) (ug G) a0 n) ih u31 (some a30) x3 x4 h
        exact ⟨by omega, by omega⟩
set_option maxHeartbeats 4000000 in
set_option maxRecDepth 100000 in
theorem w_X14_truth_17 {p : Program} {l : Launch} {e : Env} {R : Room} {s : State} {m : MethodId} {args : Array Value} {below : List Frame} {meth : Method} {c : Code} {G : uG} {a0 : Nat} {u0 : UH} {uf : UH} {r : Option Nat} (hC : uC p s m args meth c G RX14 cX14_truth 6 (some (.array .int))) (hR : 3 ≤ R.frames ∧ 64 ≤ R.locals) (hRm : uf.1 - u0.1 ≤ R.cells ∧ uf.2.1 - u0.2.1 ≤ R.slots) (N : Nat) : ∀ (n : Nat) (u : UH) (x2 : Option Nat) (x3 : Int32) (x4 : Int32), f_X14_truth_17 N (ub G) (ug G) a0 n u x2 x3 x4 = some (r, uf) → (u0.1 ≤ u.1 ∧ u0.2.1 ≤ u.2.1) → ∀ (H : Heap) (locs : List Loc), uP G u H → va_S (uA G) s.heap H locs → ∀ ls : Array Slot, lv_has ls 6 [(0, va_rf (some a0)), (2, va_rf x2), (3, .int x3), (4, .int x4)] → W p l e R s m args below meth c H locs (u.1 - u0.1) (u.2.1 - u0.2.1) (MQ below (uQr G r uf) args s (uf.1 - u0.1) (uf.2.1 - u0.2.1) (uA G)) (F0 m 17 ls []) := by
  obtain ⟨⟨hx, hb, hml, hown, hts⟩, hKK⟩ := id hC
  intro n
  induction n with
  | zero =>
    intro u x2 x3 x4 h
    cases h
  | succ n ih =>
    intro u x2 x3 x4 h hz0 H locs hP hS ls hl
    have hzf := zz_X14_truth_17 (G := G) (a0 := a0) N (n + 1) u x2 x3 x4 h
    unfold f_X14_truth_17 at h
    refine lv_iload hx hb dX14_truth_17 (lv_at hl 3 rfl) ?_
    refine lv_if_lt (tgt := 87) hx hb dX14_truth_19 (by decide) (fun c1 => ?_) (fun c1 => ?_)
    · have h := mif_t c1 h
      refine u_aload_n (r := x2) hx hb dX14_truth_87 rfl (lv_at hl 1 rfl) ?_
      obtain ⟨hr1, hr2⟩ := uret_n h
      subst hr1
      subst hr2
      exact u_aret hC (Or.inr ⟨_, rfl⟩) hP hS dX14_truth_88
    · have h := mif_f c1 h
      refine u_aload_n (r := some a0) hx hb dX14_truth_22 rfl (lv_at hl 0 rfl) ?_
      obtain ⟨o2, ho2, h⟩ := mbind_n h
      refine u_get hC hP (uGR_n ho2) rfl in_X14 (by decide) q1148 (fun _ h => h) dX14_truth_23 ?_
      refine lv_iload hx hb dX14_truth_26 (lv_at hl 3 rfl) ?_
      obtain ⟨a3, ha3, hha3⟩ := mbind_n h
      subst ha3
      have h := hha3
      obtain ⟨c4, h⟩ := mif_n h
      obtain ⟨o7, u5, c6, h⟩ := ucall_n h
      have zu5 := zz_J2_get N (ub G) (ug G) u a3 x4 o7 u5 c6
      refine u_callr (va_runV (As := [.int x4]) (rest := []) hC.1 (met_J2_get l N G u a3 x4 o7 u5 c6) (cwV 1 hts (lw_V q1272 q898 q899 q102 q900) rfl rfl rfl (by decide +kernel) ⟨Nat.le_trans (Nat.le_of_ble_eq_true rfl) hR.1, Nat.le_trans (Nat.le_of_ble_eq_true rfl) hR.2⟩) ⟨uPc_blind, u_rcv hC hP c4 rfl, fun U hU hW => u_pre hC hP hS hU hW⟩ rfl rfl hl.1 rfl (lv_room (Nat.le_of_ble_eq_true rfl)) dX14_truth_28 ⟨by omega, by omega⟩) hS (fun H locs hP hS => ?_)
      refine W.cs (cells' := u5.1 - u0.1) (slots' := u5.2.1 - u0.2.1) (by omega) (by omega) ?_
      obtain ⟨a8, ha8, hha8⟩ := mbind_n h
      subst ha8
      have h := hha8
      obtain ⟨c9, h⟩ := mif_n h
      refine u_castS hC hP c9 rfl q1132 dX14_truth_31 ?_
      refine u_astore (r := some a8) (lv' := [(5, va_rf (some a8)), (0, va_rf (some a0)), (2, va_rf x2), (3, .int x3), (4, .int x4)]) hx hb dX14_truth_34 hl (by decide) rfl (fun ls hl => ?_)
      refine u_aload (r := some a8) hx hb dX14_truth_36 (lv_at hl 0 rfl) ?_
      obtain ⟨y10, hy10, h⟩ := mbind_n h
      refine u_getN hC hP (uGI_n hy10) rfl in_X15 (by decide) q1221 (fun _ h => h) dX14_truth_38 ?_
      refine lv_iconst (v := (-1)) hx hb dX14_truth_41 (by decide) ?_
      refine lv_icmp_eq (tgt := 57) hx hb dX14_truth_42 (by decide) (fun c11 => ?_) (fun c11 => ?_)
      · have h := mif_t c11 h
        refine u_aload_n (r := x2) hx hb dX14_truth_57 rfl (lv_at hl 2 rfl) ?_
        refine lv_iload hx hb dX14_truth_58 (lv_at hl 4 rfl) ?_
        refine u_aload (r := some a8) hx hb dX14_truth_60 (lv_at hl 0 rfl) ?_
        refine lv_iload_n hx hb dX14_truth_62 rfl (lv_at hl 3 rfl) ?_
        refine u_aload (r := some a8) hx hb dX14_truth_63 (lv_at hl 0 rfl) ?_
        obtain ⟨c12, h⟩ := mif_n h
        obtain ⟨r15, u13, c14, h⟩ := ucall_n h
        have zu13 := zz_X15_kinds N (ub G) (ug G) u5 a8 r15 u13 c14
        refine u_calli (va_runV (As := []) (rest := [.int x3, va_rf (some a8), .int x4, va_rf x2]) hC.1 (met_X15_kinds l N G u5 a8 r15 u13 c14) (cwV 0 hts (lw_V q1469 q1241 q1242 q132 q1243) rfl rfl rfl (by decide +kernel) ⟨Nat.le_trans (Nat.le_of_ble_eq_true rfl) hR.1, Nat.le_trans (Nat.le_of_ble_eq_true rfl) hR.2⟩) ⟨uPc_blind, u_rcv hC hP c12 rfl, fun U hU hW => u_pre hC hP hS hU hW⟩ rfl rfl hl.1 rfl (lv_room (by simp only [List.map, u_cat]; exact Nat.le_of_ble_eq_true rfl)) dX14_truth_65 ⟨by omega, by omega⟩) hS (fun H locs hP hS => ?_)
        refine W.cs (cells' := u13.1 - u0.1) (slots' := u13.2.1 - u0.2.1) (by omega) (by omega) ?_
        obtain ⟨c16, h⟩ := mif_n h
        refine lv_irem hx hb dX14_truth_68 c16 ?_
        obtain ⟨c17, h⟩ := mif_n h
        obtain ⟨r20, u18, c19, h⟩ := ucall_n h
        have zu18 := zz_X15_kind N (ub G) (ug G) u13 a8 (x3 - x3 / r15 * r15) r20 u18 c19
        refine u_calli (va_runV (As := [.int (x3 - x3 / r15 * r15)]) (rest := [.int x4, va_rf x2]) hC.1 (met_X15_kind l N G u13 a8 (x3 - x3 / r15 * r15) r20 u18 c19) (cwV 1 hts (lw_V q1478 q1341 q1342 q132 q1343) rfl rfl rfl (by decide +kernel) ⟨Nat.le_trans (Nat.le_of_ble_eq_true rfl) hR.1, Nat.le_trans (Nat.le_of_ble_eq_true rfl) hR.2⟩) ⟨uPc_blind, u_rcv hC hP c17 rfl, fun U hU hW => u_pre hC hP hS hU hW⟩ rfl rfl hl.1 rfl (lv_room (by simp only [List.map, u_cat]; exact Nat.le_of_ble_eq_true rfl)) dX14_truth_69 ⟨by omega, by omega⟩) hS (fun H locs hP hS => ?_)
        refine W.cs (cells' := u18.1 - u0.1) (slots' := u18.2.1 - u0.2.1) (by omega) (by omega) ?_
        obtain ⟨a21, ha21, hha21⟩ := mbind_n h
        subst ha21
        have h := hha21
        obtain ⟨u22, hu22, h⟩ := mbind_n h
        have zu22 := uStI_sz hu22
        refine u_iast hC hP hS hu22 rfl dX14_truth_72 (fun H locs hP hS => ?_)
        refine W.cs (cells' := u22.1 - u0.1) (slots' := u22.2.1 - u0.2.1) (by omega) (by omega) ?_
        refine lv_iload_n hx hb dX14_truth_73 rfl (lv_at hl 3 rfl) ?_
        refine u_aload (r := some a8) hx hb dX14_truth_74 (lv_at hl 0 rfl) ?_
        obtain ⟨c23, h⟩ := mif_n h
        obtain ⟨r26, u24, c25, h⟩ := ucall_n h
        have zu24 := zz_X15_kinds N (ub G) (ug G) u22 a8 r26 u24 c25
        refine u_calli (va_runV (As := []) (rest := [.int x3]) hC.1 (met_X15_kinds l N G u22 a8 r26 u24 c25) (cwV 0 hts (lw_V q1469 q1241 q1242 q132 q1243) rfl rfl rfl (by decide +kernel) ⟨Nat.le_trans (Nat.le_of_ble_eq_true rfl) hR.1, Nat.le_trans (Nat.le_of_ble_eq_true rfl) hR.2⟩) ⟨uPc_blind, u_rcv hC hP c23 rfl, fun U hU hW => u_pre hC hP hS hU hW⟩ rfl rfl hl.1 rfl (lv_room (Nat.le_of_ble_eq_true rfl)) dX14_truth_76 ⟨by omega, by omega⟩) hS (fun H locs hP hS => ?_)
        refine W.cs (cells' := u24.1 - u0.1) (slots' := u24.2.1 - u0.2.1) (by omega) (by omega) ?_
        obtain ⟨c27, h⟩ := mif_n h
        refine lv_idiv hx hb dX14_truth_79 c27 ?_
        refine lv_topi (fun y28 ey28 => ?_)
        have h := mlet_at ey28 h
        refine lv_istore_n (i := 3) (lv' := [(3, .int y28), (5, va_rf (some a8)), (0, va_rf (some a0)), (2, va_rf (some a21)), (4, .int x4)]) hx hb dX14_truth_80 rfl hl (by decide) rfl (fun ls hl => ?_)
        refine W.cs (cells' := u24.1 - u0.1) (slots' := u24.2.1 - u0.2.1) (by omega) (by omega) ?_
        exact w_X14_truth_81 hC hR hRm N (f_X14_truth_17 N (ub G) (ug G) a0 n) ih (zz_X14_truth_17 (G := G) (a0 := a0) N n) u24 (some a21) y28 x4 h ⟨by omega, by omega⟩ hP hS (lv_sub hl [2, 3, 0, 4] rfl)
      · have h := mif_f c11 h
        refine u_aload_n (r := x2) hx hb dX14_truth_45 rfl (lv_at hl 2 rfl) ?_
        refine lv_iload hx hb dX14_truth_46 (lv_at hl 4 rfl) ?_
        refine u_aload (r := some a8) hx hb dX14_truth_48 (lv_at hl 0 rfl) ?_
        obtain ⟨y29, hy29, h⟩ := mbind_n h
        refine u_getN hC hP (uGI_n hy29) rfl in_X15 (by decide) q1221 (fun _ h => h) dX14_truth_50 ?_
        obtain ⟨a30, ha30, hha30⟩ := mbind_n h
        subst ha30
        have h := hha30
        obtain ⟨u31, hu31, h⟩ := mbind_n h
        have zu31 := uStI_sz hu31
        refine u_iast hC hP hS hu31 rfl dX14_truth_53 (fun H locs hP hS => ?_)
        refine W.cs (cells' := u31.1 - u0.1) (slots' := u31.2.1 - u0.2.1) (by omega) (by omega) ?_
        refine lv_goto (tgt := 81) hx hb dX14_truth_54 (by decide) ?_
        refine W.cs (cells' := u31.1 - u0.1) (slots' := u31.2.1 - u0.2.1) (by omega) (by omega) ?_
        exact w_X14_truth_81 hC hR hRm N (f_X14_truth_17 N (ub G) (ug G) a0 n) ih (zz_X14_truth_17 (G := G) (a0 := a0) N n) u31 (some a30) x3 x4 h ⟨by omega, by omega⟩ hP hS (lv_sub hl [1, 2, 3, 4] rfl)
def f_X14_truth_3 (N b : Nat) (g : uEnv) (a0 : Nat) (u : UH) (x1 : Int32) (s0 : Option Nat) : Option (Option Nat × UH) :=
    (uGR u a0 12 6).bind fun o1 =>
    (o1).bind fun a2 =>
    if uIs u a2 18 = true then
    ucall (f_J2_size N b g u a2) fun r6 u4 =>
    mlet (r6 - 1) fun y7 =>
    f_X14_truth_17 N b g a0 N u4 s0 x1 y7
    else none
set_option maxHeartbeats 4000000 in
set_option maxRecDepth 100000 in
theorem zz_X14_truth_3 {G : uG} {a0 : Nat} {uf : UH} {r : Option Nat} (N : Nat) (u : UH) (x1 : Int32) (s0 : Option Nat) (h : f_X14_truth_3 N (ub G) (ug G) a0 u x1 s0 = some (r, uf)) : u.1 ≤ uf.1 ∧ u.2.1 ≤ uf.2.1 := by
  unfold f_X14_truth_3 at h
  obtain ⟨o1, ho1, h⟩ := mbind_n h
  obtain ⟨a2, ha2, hha2⟩ := mbind_n h
  subst ha2
  have h := hha2
  obtain ⟨c3, h⟩ := mif_n h
  obtain ⟨r6, u4, c5, h⟩ := ucall_n h
  have zu4 := zz_J2_size N (ub G) (ug G) u a2 r6 u4 c5
  obtain ⟨y7, ey7⟩ : ∃ z, z = r6 - 1 := ⟨_, rfl⟩
  have h := mlet_at ey7 h
  have hq := zz_X14_truth_17 (G := G) (a0 := a0) N N u4 s0 x1 y7 h
  exact ⟨by omega, by omega⟩
set_option maxHeartbeats 4000000 in
set_option maxRecDepth 100000 in
theorem w_X14_truth_3 {p : Program} {l : Launch} {e : Env} {R : Room} {s : State} {m : MethodId} {args : Array Value} {below : List Frame} {meth : Method} {c : Code} {G : uG} {a0 : Nat} {u0 : UH} {uf : UH} {r : Option Nat} (hC : uC p s m args meth c G RX14 cX14_truth 6 (some (.array .int))) (hR : 3 ≤ R.frames ∧ 64 ≤ R.locals) (hRm : uf.1 - u0.1 ≤ R.cells ∧ uf.2.1 - u0.2.1 ≤ R.slots) (N : Nat) (u : UH) (x1 : Int32) (s0 : Option Nat) (h : f_X14_truth_3 N (ub G) (ug G) a0 u x1 s0 = some (r, uf)) (hz0 : (u0.1 ≤ u.1 ∧ u0.2.1 ≤ u.2.1)) {H : Heap} {locs : List Loc} (hP : uP G u H) (hS : va_S (uA G) s.heap H locs) {ls : Array Slot} (hl : lv_has ls 6 [(0, va_rf (some a0)), (1, .int x1)]) : W p l e R s m args below meth c H locs (u.1 - u0.1) (u.2.1 - u0.2.1) (MQ below (uQr G r uf) args s (uf.1 - u0.1) (uf.2.1 - u0.2.1) (uA G)) (F0 m 3 ls [va_rf s0]) := by
  obtain ⟨⟨hx, hb, hml, hown, hts⟩, hKK⟩ := id hC
  have hzf := zz_X14_truth_3 (G := G) (a0 := a0) N u x1 s0 h
  unfold f_X14_truth_3 at h
  refine u_astore_n (i := 2) (r := s0) (lv' := [(2, va_rf s0), (0, va_rf (some a0)), (1, .int x1)]) hx hb dX14_truth_3 rfl hl (by decide) rfl (fun ls hl => ?_)
  refine lv_iload_n hx hb dX14_truth_4 rfl (lv_at hl 2 rfl) ?_
  refine lv_istore_n (i := 3) (lv' := [(3, .int x1), (2, va_rf s0), (0, va_rf (some a0)), (1, .int x1)]) hx hb dX14_truth_5 rfl hl (by decide) (by simp [List.filter_cons, u_cat]) (fun ls hl => ?_)
  refine u_aload_n (r := some a0) hx hb dX14_truth_6 rfl (lv_at hl 2 rfl) ?_
  obtain ⟨o1, ho1, h⟩ := mbind_n h
  refine u_get hC hP (uGR_n ho1) rfl in_X14 (by decide) q1148 (fun _ h => h) dX14_truth_7 ?_
  obtain ⟨a2, ha2, hha2⟩ := mbind_n h
  subst ha2
  have h := hha2
  obtain ⟨c3, h⟩ := mif_n h
  obtain ⟨r6, u4, c5, h⟩ := ucall_n h
  have zu4 := zz_J2_size N (ub G) (ug G) u a2 r6 u4 c5
  refine u_calli (va_runV (As := []) (rest := []) hC.1 (met_J2_size l N G u a2 r6 u4 c5) (cwV 0 hts (lw_V q1455 q894 q895 q102 q896) rfl rfl rfl (by decide +kernel) ⟨Nat.le_trans (Nat.le_of_ble_eq_true rfl) hR.1, Nat.le_trans (Nat.le_of_ble_eq_true rfl) hR.2⟩) ⟨uPc_blind, u_rcv hC hP c3 rfl, fun U hU hW => u_pre hC hP hS hU hW⟩ rfl rfl hl.1 rfl (lv_room (Nat.le_of_ble_eq_true rfl)) dX14_truth_10 ⟨by omega, by omega⟩) hS (fun H locs hP hS => ?_)
  refine W.cs (cells' := u4.1 - u0.1) (slots' := u4.2.1 - u0.2.1) (by omega) (by omega) ?_
  refine lv_iconst (v := 1) hx hb dX14_truth_13 (by decide) ?_
  refine lv_isub hx hb dX14_truth_14 ?_
  refine lv_topi (fun y7 ey7 => ?_)
  have h := mlet_at ey7 h
  refine lv_istore (lv' := [(4, .int y7), (3, .int x1), (2, va_rf s0), (0, va_rf (some a0)), (1, .int x1)]) hx hb dX14_truth_15 hl (by decide) rfl (fun ls hl => ?_)
  refine W.cs (cells' := u4.1 - u0.1) (slots' := u4.2.1 - u0.2.1) (by omega) (by omega) ?_
  exact w_X14_truth_17 hC hR hRm N N u4 s0 x1 y7 h ⟨by omega, by omega⟩ _ _ hP hS _ (lv_sub hl [3, 2, 1, 0] rfl)
def f_X14_truth (N b : Nat) (g : uEnv) (u : UH) (a0 : Nat) (x1 : Int32) : Option (Option Nat × UH) :=
    if ¬ (5 : Int32) < 0 ∧ (5 : Int32).toNatClampNeg ≤ 60000000 then
    mlet (u.1) fun a3 =>
    mlet (uNew u (5 : Int32).toNatClampNeg (.inl (0, (5 : Int32).toNatClampNeg, .inl (fun _ => 0)))) fun u1 =>
    f_X14_truth_3 N b g a0 u1 x1 (some a3)
    else none
set_option maxHeartbeats 4000000 in
set_option maxRecDepth 100000 in
theorem zz_X14_truth_0 {G : uG} {a0 : Nat} {uf : UH} {r : Option Nat} (N : Nat) (u : UH) (x1 : Int32) (h : f_X14_truth N (ub G) (ug G) u a0 x1 = some (r, uf)) : u.1 ≤ uf.1 ∧ u.2.1 ≤ uf.2.1 := by
  unfold f_X14_truth at h
  obtain ⟨c2, h⟩ := mif_n h
  obtain ⟨a3, ea3⟩ : ∃ z : Nat, z = u.1 := ⟨_, rfl⟩
  have h := mlet_at ea3 h
  obtain ⟨u1, eu1⟩ : ∃ z : UH, z = uNew u (5 : Int32).toNatClampNeg (.inl (0, (5 : Int32).toNatClampNeg, .inl (fun _ => 0))) := ⟨_, rfl⟩
  have h := mlet_at eu1 h
  have zu1 : u1.1 = u.1 + 1 ∧ u1.2.1 = u.2.1 + (5 : Int32).toNatClampNeg := by rw [eu1]; exact ⟨rfl, rfl⟩
  have hq := zz_X14_truth_3 (G := G) (a0 := a0) N u1 x1 (some a3) h
  exact ⟨by omega, by omega⟩
set_option maxHeartbeats 4000000 in
set_option maxRecDepth 100000 in
theorem w_X14_truth_0 {p : Program} {l : Launch} {e : Env} {R : Room} {s : State} {m : MethodId} {args : Array Value} {below : List Frame} {meth : Method} {c : Code} {G : uG} {a0 : Nat} {u0 : UH} {uf : UH} {r : Option Nat} (hC : uC p s m args meth c G RX14 cX14_truth 6 (some (.array .int))) (hR : 3 ≤ R.frames ∧ 64 ≤ R.locals) (hRm : uf.1 - u0.1 ≤ R.cells ∧ uf.2.1 - u0.2.1 ≤ R.slots) (N : Nat) (u : UH) (x1 : Int32) (h : f_X14_truth N (ub G) (ug G) u a0 x1 = some (r, uf)) (hz0 : (u0.1 ≤ u.1 ∧ u0.2.1 ≤ u.2.1)) {H : Heap} {locs : List Loc} (hP : uP G u H) (hS : va_S (uA G) s.heap H locs) {ls : Array Slot} (hl : lv_has ls 6 [(0, va_rf (some a0)), (1, .int x1)]) : W p l e R s m args below meth c H locs (u.1 - u0.1) (u.2.1 - u0.2.1) (MQ below (uQr G r uf) args s (uf.1 - u0.1) (uf.2.1 - u0.2.1) (uA G)) (F0 m 0 ls []) := by
  obtain ⟨⟨hx, hb, hml, hown, hts⟩, hKK⟩ := id hC
  have hzf := zz_X14_truth_0 (G := G) (a0 := a0) N u x1 h
  unfold f_X14_truth at h
  refine lv_iconst (v := 5) hx hb dX14_truth_0 (by decide) ?_
  obtain ⟨c2, h⟩ := mif_n h
  obtain ⟨a3, ea3⟩ : ∃ z : Nat, z = u.1 := ⟨_, rfl⟩
  have h := mlet_at ea3 h
  obtain ⟨u1, eu1⟩ : ∃ z : UH, z = uNew u (5 : Int32).toNatClampNeg (.inl (0, (5 : Int32).toNatClampNeg, .inl (fun _ => 0))) := ⟨_, rfl⟩
  have h := mlet_at eu1 h
  have zu1 : u1.1 = u.1 + 1 ∧ u1.2.1 = u.2.1 + (5 : Int32).toNatClampNeg := by rw [eu1]; exact ⟨rfl, rfl⟩
  have hq := zz_X14_truth_3 (G := G) (a0 := a0) N u1 x1 (some a3) h
  refine u_newa (atype := .int) hC hP hS (t := 0) q188 rfl (N := (5 : Int32).toNatClampNeg) (x := .inl (fun _ => 0)) (fun _ => rfl) c2.1 rfl (by have := c2.2; show _ * 4 ≤ _; omega) (by omega) (by omega) dX14_truth_1 (fun H hP hS => ?_)
  rw [← eu1] at hP
  rw [← ea3]
  refine W.cs (cells' := u1.1 - u0.1) (slots' := u1.2.1 - u0.2.1) (by omega) (by omega) ?_
  refine W.cs (cells' := u1.1 - u0.1) (slots' := u1.2.1 - u0.2.1) (by omega) (by omega) ?_
  exact w_X14_truth_3 hC hR hRm N u1 x1 (some a3) h ⟨by omega, by omega⟩ hP hS (lv_sub hl [0, 1] rfl)
theorem zz_X14_truth (N b : Nat) (g : uEnv) (u : UH) (a0 : Nat) (x1 : Int32) (r : Option Nat) (uf : UH) (h : f_X14_truth N b g u a0 x1 = some (r, uf)) : u.1 ≤ uf.1 ∧ u.2.1 ≤ uf.2.1 :=
  zz_X14_truth_0 (G := ((fun _ => 0, fun _ _ => 0), fun _ => 0, b, g)) (a0 := a0) N u x1 h
theorem met_X14_truth (l : Launch) (N : Nat) (G : uG) (u : UH) (a0 : Nat) (x1 : Int32) (r : Option Nat) (uf : UH) (h : f_X14_truth N (ub G) (ug G) u a0 x1 = some (r, uf)) : Met l yX14_truth (ws_ yX14_truth cX14_truth 6 (some (.array .int))) ({ frames := 3, cells := (uf.1 - u.1), slots := (uf.2.1 - u.2.1), locals := 64 }) (uPc G u [.ref a0, .int x1]) (uQr G r uf) (uf.1 - u.1) (uf.2.1 - u.2.1) (uA G) := by
  exact u_met (own := RX14) (by decide +kernel) rfl (Nat.le_of_ble_eq_true rfl) (fun hC hn hsz ls hl hP => W.cs (Nat.sub_self _).symm (Nat.sub_self _).symm (w_X14_truth_0 hC ⟨Nat.le_refl _, Nat.le_refl _⟩ ⟨Nat.le_refl _, Nat.le_refl _⟩ N u x1 h ⟨Nat.le_refl _, Nat.le_refl _⟩ hP va_S.rf hl))
def f_X1_walk_21 (N b : Nat) (g : uEnv) (a0 : Nat) (u : UH) (x1 : Int32) (s0 : Option Nat) (s1 : Int32) (s2 : Int32) (s3 : Option Nat) (s4 : Option Nat) (s5 : Option Nat) : Option (Option Nat × UH) :=
    (s4).bind fun a1 =>
    (f_X18_init N b g u a1 s3 s2 s1 s0).bind fun u2 =>
    (uGR u2 a0 0 10).bind fun o4 =>
    (o4).bind fun a5 =>
    if uIs u2 a5 18 = true then
    ucall (f_J2_get N b g u2 a5 x1) fun o9 u7 =>
    (o9).bind fun a10 =>
    if uIs u7 a10 18 = true then
    (s5).bind fun a12 =>
    if uIs u7 a12 16 = true then
    ucall (f_X18_does N b g u7 a12 (some a10)) fun o16 u14 =>
    some (o16, u14)
    else none
    else none
    else none
set_option maxHeartbeats 4000000 in
set_option maxRecDepth 100000 in
theorem zz_X1_walk_21 {G : uG} {a0 : Nat} {uf : UH} {r : Option Nat} (N : Nat) (u : UH) (x1 : Int32) (s0 : Option Nat) (s1 : Int32) (s2 : Int32) (s3 : Option Nat) (s4 : Option Nat) (s5 : Option Nat) (h : f_X1_walk_21 N (ub G) (ug G) a0 u x1 s0 s1 s2 s3 s4 s5 = some (r, uf)) : u.1 ≤ uf.1 ∧ u.2.1 ≤ uf.2.1 := by
  unfold f_X1_walk_21 at h
  obtain ⟨a1, ha1, hha1⟩ := mbind_n h
  subst ha1
  have h := hha1
  obtain ⟨u2, c3, h⟩ := mbind_n h
  have zu2 := zz_X18_init N (ub G) (ug G) u a1 s3 s2 s1 s0 u2 c3
  obtain ⟨o4, ho4, h⟩ := mbind_n h
  obtain ⟨a5, ha5, hha5⟩ := mbind_n h
  subst ha5
  have h := hha5
  obtain ⟨c6, h⟩ := mif_n h
  obtain ⟨o9, u7, c8, h⟩ := ucall_n h
  have zu7 := zz_J2_get N (ub G) (ug G) u2 a5 x1 o9 u7 c8
  obtain ⟨a10, ha10, hha10⟩ := mbind_n h
  subst ha10
  have h := hha10
  obtain ⟨c11, h⟩ := mif_n h
  obtain ⟨a12, ha12, hha12⟩ := mbind_n h
  subst ha12
  have h := hha12
  obtain ⟨c13, h⟩ := mif_n h
  obtain ⟨o16, u14, c15, h⟩ := ucall_n h
  have zu14 := zz_X18_does N (ub G) (ug G) u7 a12 (some a10) o16 u14 c15
  obtain ⟨hr1, hr2⟩ := uret_n h
  subst hr2
  exact ⟨by omega, by omega⟩
set_option maxHeartbeats 4000000 in
set_option maxRecDepth 100000 in
theorem w_X1_walk_21 {p : Program} {l : Launch} {e : Env} {R : Room} {s : State} {m : MethodId} {args : Array Value} {below : List Frame} {meth : Method} {c : Code} {G : uG} {a0 : Nat} {u0 : UH} {uf : UH} {r : Option Nat} (hC : uC p s m args meth c G RX1 cX1_walk 4 (some (.object "SoftWheels$Walk"))) (hR : 27 ≤ R.frames ∧ 1361 ≤ R.locals) (hRm : uf.1 - u0.1 ≤ R.cells ∧ uf.2.1 - u0.2.1 ≤ R.slots) (N : Nat) (u : UH) (x1 : Int32) (s0 : Option Nat) (s1 : Int32) (s2 : Int32) (s3 : Option Nat) (s4 : Option Nat) (s5 : Option Nat) (h : f_X1_walk_21 N (ub G) (ug G) a0 u x1 s0 s1 s2 s3 s4 s5 = some (r, uf)) (hz0 : (u0.1 ≤ u.1 ∧ u0.2.1 ≤ u.2.1)) {H : Heap} {locs : List Loc} (hP : uP G u H) (hS : va_S (uA G) s.heap H locs) {ls : Array Slot} (hl : lv_has ls 4 [(0, va_rf (some a0)), (1, .int x1)]) : W p l e R s m args below meth c H locs (u.1 - u0.1) (u.2.1 - u0.2.1) (MQ below (uQr G r uf) args s (uf.1 - u0.1) (uf.2.1 - u0.2.1) (uA G)) (F0 m 21 ls [va_rf s0, .int s1, .int s2, va_rf s3, va_rf s4, va_rf s5]) := by
  obtain ⟨⟨hx, hb, hml, hown, hts⟩, hKK⟩ := id hC
  have hzf := zz_X1_walk_21 (G := G) (a0 := a0) N u x1 s0 s1 s2 s3 s4 s5 h
  unfold f_X1_walk_21 at h
  obtain ⟨a1, ha1, hha1⟩ := mbind_n h
  subst ha1
  have h := hha1
  obtain ⟨u2, c3, h⟩ := mbind_n h
  have zu2 := zz_X18_init N (ub G) (ug G) u a1 s3 s2 s1 s0 u2 c3
  refine u_callv (va_runI (As := [va_rf s3, .int s2, .int s1, va_rf s0]) (rest := [va_rf s5]) hC.1 (met_X18_init l N G u a1 s3 s2 s1 s0 u2 c3) (cwI 4 hts (lw_meth q1649) rfl rfl rfl (hts _ q140) (hts _ q1647) (hts _ q1648) rfl (by decide +kernel) ⟨Nat.le_trans (Nat.le_of_ble_eq_true rfl) hR.1, Nat.le_trans (Nat.le_of_ble_eq_true rfl) hR.2⟩) ⟨uPc_blind, fun U hU hW => u_pre hC hP hS hU hW⟩ rfl rfl hl.1 rfl (lv_room (by simp only [List.map, u_cat]; exact Nat.le_of_ble_eq_true rfl)) dX1_walk_21 ⟨by omega, by omega⟩) hS (fun H locs hP hS => ?_)
  refine W.cs (cells' := u2.1 - u0.1) (slots' := u2.2.1 - u0.2.1) (by omega) (by omega) ?_
  refine u_aload_n (r := some a0) hx hb dX1_walk_24 rfl (lv_at hl 0 rfl) ?_
  obtain ⟨o4, ho4, h⟩ := mbind_n h
  refine u_get hC hP (uGR_n ho4) rfl in_X1 (by decide) q225 (fun _ h => h) dX1_walk_25 ?_
  refine lv_iload_n hx hb dX1_walk_28 rfl (lv_at hl 1 rfl) ?_
  obtain ⟨a5, ha5, hha5⟩ := mbind_n h
  subst ha5
  have h := hha5
  obtain ⟨c6, h⟩ := mif_n h
  obtain ⟨o9, u7, c8, h⟩ := ucall_n h
  have zu7 := zz_J2_get N (ub G) (ug G) u2 a5 x1 o9 u7 c8
  refine u_callr (va_runV (As := [.int x1]) (rest := [va_rf s5]) hC.1 (met_J2_get l N G u2 a5 x1 o9 u7 c8) (cwV 1 hts (lw_V q1084 q898 q899 q102 q900) rfl rfl rfl (by decide +kernel) ⟨Nat.le_trans (Nat.le_of_ble_eq_true rfl) hR.1, Nat.le_trans (Nat.le_of_ble_eq_true rfl) hR.2⟩) ⟨uPc_blind, u_rcv hC hP c6 rfl, fun U hU hW => u_pre hC hP hS hU hW⟩ rfl rfl hl.1 rfl (lv_room (by simp only [List.map, u_cat]; exact Nat.le_of_ble_eq_true rfl)) dX1_walk_29 ⟨by omega, by omega⟩) hS (fun H locs hP hS => ?_)
  refine W.cs (cells' := u7.1 - u0.1) (slots' := u7.2.1 - u0.2.1) (by omega) (by omega) ?_
  obtain ⟨a10, ha10, hha10⟩ := mbind_n h
  subst ha10
  have h := hha10
  obtain ⟨c11, h⟩ := mif_n h
  refine u_castY hC hP c11 rfl q1512 q1681 dX1_walk_32 ?_
  obtain ⟨a12, ha12, hha12⟩ := mbind_n h
  subst ha12
  have h := hha12
  obtain ⟨c13, h⟩ := mif_n h
  obtain ⟨o16, u14, c15, h⟩ := ucall_n h
  have zu14 := zz_X18_does N (ub G) (ug G) u7 a12 (some a10) o16 u14 c15
  refine u_callr (va_runV (As := [va_rf (some a10)]) (rest := []) hC.1 (met_X18_does l N G u7 a12 (some a10) o16 u14 c15) (cwV 1 hts (lw_V q1682 q1683 q1684 q140 q1685) rfl rfl rfl (by decide +kernel) ⟨Nat.le_trans (Nat.le_of_ble_eq_true rfl) hR.1, Nat.le_trans (Nat.le_of_ble_eq_true rfl) hR.2⟩) ⟨uPc_blind, u_rcv hC hP c13 rfl, fun U hU hW => u_pre hC hP hS hU hW⟩ rfl rfl hl.1 rfl (lv_room (Nat.le_of_ble_eq_true rfl)) dX1_walk_35 ⟨by omega, by omega⟩) hS (fun H locs hP hS => ?_)
  refine W.cs (cells' := u14.1 - u0.1) (slots' := u14.2.1 - u0.2.1) (by omega) (by omega) ?_
  obtain ⟨hr1, hr2⟩ := uret_n h
  subst hr1
  subst hr2
  exact u_aret hC (Or.inl ⟨_, rfl⟩) hP hS dX1_walk_38
def f_X1_walk_3 (N b : Nat) (g : uEnv) (a0 : Nat) (u : UH) (x1 : Int32) (x2 : Int32) (x3 : Int32) (s0 : Option Nat) : Option (Option Nat × UH) :=
    (uGR u a0 0 7).bind fun o1 =>
    (uGI u a0 0 3).bind fun y2 =>
    (uGR u a0 0 7).bind fun o3 =>
    (o3).bind fun a4 =>
    if uIs u a4 12 = true then
    ucall (f_X14_truth N b g u a4 x3) fun o8 u6 =>
    f_X1_walk_21 N b g a0 u6 x1 o8 x2 y2 o1 s0 s0
    else none
set_option maxHeartbeats 4000000 in
set_option maxRecDepth 100000 in
theorem zz_X1_walk_3 {G : uG} {a0 : Nat} {uf : UH} {r : Option Nat} (N : Nat) (u : UH) (x1 : Int32) (x2 : Int32) (x3 : Int32) (s0 : Option Nat) (h : f_X1_walk_3 N (ub G) (ug G) a0 u x1 x2 x3 s0 = some (r, uf)) : u.1 ≤ uf.1 ∧ u.2.1 ≤ uf.2.1 := by
  unfold f_X1_walk_3 at h
  obtain ⟨o1, ho1, h⟩ := mbind_n h
  obtain ⟨y2, hy2, h⟩ := mbind_n h
  obtain ⟨o3, ho3, h⟩ := mbind_n h
  obtain ⟨a4, ha4, hha4⟩ := mbind_n h
  subst ha4
  have h := hha4
  obtain ⟨c5, h⟩ := mif_n h
  obtain ⟨o8, u6, c7, h⟩ := ucall_n h
  have zu6 := zz_X14_truth N (ub G) (ug G) u a4 x3 o8 u6 c7
  have hq := zz_X1_walk_21 (G := G) (a0 := a0) N u6 x1 o8 x2 y2 o1 s0 s0 h
  exact ⟨by omega, by omega⟩
set_option maxHeartbeats 4000000 in
set_option maxRecDepth 100000 in
theorem w_X1_walk_3 {p : Program} {l : Launch} {e : Env} {R : Room} {s : State} {m : MethodId} {args : Array Value} {below : List Frame} {meth : Method} {c : Code} {G : uG} {a0 : Nat} {u0 : UH} {uf : UH} {r : Option Nat} (hC : uC p s m args meth c G RX1 cX1_walk 4 (some (.object "SoftWheels$Walk"))) (hR : 27 ≤ R.frames ∧ 1361 ≤ R.locals) (hRm : uf.1 - u0.1 ≤ R.cells ∧ uf.2.1 - u0.2.1 ≤ R.slots) (N : Nat) (u : UH) (x1 : Int32) (x2 : Int32) (x3 : Int32) (s0 : Option Nat) (h : f_X1_walk_3 N (ub G) (ug G) a0 u x1 x2 x3 s0 = some (r, uf)) (hz0 : (u0.1 ≤ u.1 ∧ u0.2.1 ≤ u.2.1)) {H : Heap} {locs : List Loc} (hP : uP G u H) (hS : va_S (uA G) s.heap H locs) {ls : Array Slot} (hl : lv_has ls 4 [(0, va_rf (some a0)), (1, .int x1), (2, .int x2), (3, .int x3)]) : W p l e R s m args below meth c H locs (u.1 - u0.1) (u.2.1 - u0.2.1) (MQ below (uQr G r uf) args s (uf.1 - u0.1) (uf.2.1 - u0.2.1) (uA G)) (F0 m 3 ls [va_rf s0]) := by
  obtain ⟨⟨hx, hb, hml, hown, hts⟩, hKK⟩ := id hC
  have hzf := zz_X1_walk_3 (G := G) (a0 := a0) N u x1 x2 x3 s0 h
  unfold f_X1_walk_3 at h
  refine lv_dup hx hb dX1_walk_3 (u_cat _) ?_
  refine u_aload_n (r := some a0) hx hb dX1_walk_4 rfl (lv_at hl 0 rfl) ?_
  obtain ⟨o1, ho1, h⟩ := mbind_n h
  refine u_get hC hP (uGR_n ho1) rfl in_X1 (by decide) q222 (fun _ h => h) dX1_walk_5 ?_
  refine u_aload_n (r := some a0) hx hb dX1_walk_8 rfl (lv_at hl 0 rfl) ?_
  obtain ⟨y2, hy2, h⟩ := mbind_n h
  refine u_get hC hP (uGI_n hy2) rfl in_X1 (by decide) q218 (fun _ h => h) dX1_walk_9 ?_
  refine lv_iload_n hx hb dX1_walk_12 rfl (lv_at hl 2 rfl) ?_
  refine u_aload_n (r := some a0) hx hb dX1_walk_13 rfl (lv_at hl 0 rfl) ?_
  obtain ⟨o3, ho3, h⟩ := mbind_n h
  refine u_get hC hP (uGR_n ho3) rfl in_X1 (by decide) q222 (fun _ h => h) dX1_walk_14 ?_
  refine lv_iload_n hx hb dX1_walk_17 rfl (lv_at hl 3 rfl) ?_
  obtain ⟨a4, ha4, hha4⟩ := mbind_n h
  subst ha4
  have h := hha4
  obtain ⟨c5, h⟩ := mif_n h
  obtain ⟨o8, u6, c7, h⟩ := ucall_n h
  have zu6 := zz_X14_truth N (ub G) (ug G) u a4 x3 o8 u6 c7
  have hq := zz_X1_walk_21 (G := G) (a0 := a0) N u6 x1 o8 x2 y2 o1 s0 s0 h
  refine u_callr (va_runV (As := [.int x3]) (rest := [.int x2, .int y2, va_rf o1, va_rf s0, va_rf s0]) hC.1 (met_X14_truth l N G u a4 x3 o8 u6 c7) (cwV 1 hts (lw_V q1474 q1475 q1476 q131 q1477) rfl rfl rfl (by decide +kernel) ⟨Nat.le_trans (Nat.le_of_ble_eq_true rfl) hR.1, Nat.le_trans (Nat.le_of_ble_eq_true rfl) hR.2⟩) ⟨uPc_blind, u_rcv hC hP c5 rfl, fun U hU hW => u_pre hC hP hS hU hW⟩ rfl rfl hl.1 rfl (lv_room (by simp only [List.map, u_cat]; exact Nat.le_of_ble_eq_true rfl)) dX1_walk_18 ⟨by omega, by omega⟩) hS (fun H locs hP hS => ?_)
  refine W.cs (cells' := u6.1 - u0.1) (slots' := u6.2.1 - u0.2.1) (by omega) (by omega) ?_
  refine W.cs (cells' := u6.1 - u0.1) (slots' := u6.2.1 - u0.2.1) (by omega) (by omega) ?_
  exact w_X1_walk_21 hC hR hRm N u6 x1 o8 x2 y2 o1 s0 s0 h ⟨by omega, by omega⟩ hP hS (lv_sub hl [0, 1] rfl)
def f_X1_walk (N b : Nat) (g : uEnv) (u : UH) (a0 : Nat) (x1 : Int32) (x2 : Int32) (x3 : Int32) : Option (Option Nat × UH) :=
    mlet (u.1) fun a2 =>
    mlet (uNew u 8 (.inr (16, uDefs tyX18 8))) fun u1 =>
    f_X1_walk_3 N b g a0 u1 x1 x2 x3 (some a2)
set_option maxHeartbeats 4000000 in
set_option maxRecDepth 100000 in
theorem zz_X1_walk_0 {G : uG} {a0 : Nat} {uf : UH} {r : Option Nat} (N : Nat) (u : UH) (x1 : Int32) (x2 : Int32) (x3 : Int32) (h : f_X1_walk N (ub G) (ug G) u a0 x1 x2 x3 = some (r, uf)) : u.1 ≤ uf.1 ∧ u.2.1 ≤ uf.2.1 := by
  unfold f_X1_walk at h
  obtain ⟨a2, ea2⟩ : ∃ z : Nat, z = u.1 := ⟨_, rfl⟩
  have h := mlet_at ea2 h
  obtain ⟨u1, eu1⟩ : ∃ z : UH, z = uNew u 8 (.inr (16, uDefs tyX18 8)) := ⟨_, rfl⟩
  have h := mlet_at eu1 h
  have zu1 : u1.1 = u.1 + 1 ∧ u1.2.1 = u.2.1 + 8 := by rw [eu1]; exact ⟨rfl, rfl⟩
  have hq := zz_X1_walk_3 (G := G) (a0 := a0) N u1 x1 x2 x3 (some a2) h
  exact ⟨by omega, by omega⟩
set_option maxHeartbeats 4000000 in
set_option maxRecDepth 100000 in
theorem w_X1_walk_0 {p : Program} {l : Launch} {e : Env} {R : Room} {s : State} {m : MethodId} {args : Array Value} {below : List Frame} {meth : Method} {c : Code} {G : uG} {a0 : Nat} {u0 : UH} {uf : UH} {r : Option Nat} (hC : uC p s m args meth c G RX1 cX1_walk 4 (some (.object "SoftWheels$Walk"))) (hR : 27 ≤ R.frames ∧ 1361 ≤ R.locals) (hRm : uf.1 - u0.1 ≤ R.cells ∧ uf.2.1 - u0.2.1 ≤ R.slots) (N : Nat) (u : UH) (x1 : Int32) (x2 : Int32) (x3 : Int32) (h : f_X1_walk N (ub G) (ug G) u a0 x1 x2 x3 = some (r, uf)) (hz0 : (u0.1 ≤ u.1 ∧ u0.2.1 ≤ u.2.1)) {H : Heap} {locs : List Loc} (hP : uP G u H) (hS : va_S (uA G) s.heap H locs) {ls : Array Slot} (hl : lv_has ls 4 [(0, va_rf (some a0)), (1, .int x1), (2, .int x2), (3, .int x3)]) : W p l e R s m args below meth c H locs (u.1 - u0.1) (u.2.1 - u0.2.1) (MQ below (uQr G r uf) args s (uf.1 - u0.1) (uf.2.1 - u0.2.1) (uA G)) (F0 m 0 ls []) := by
  obtain ⟨⟨hx, hb, hml, hown, hts⟩, hKK⟩ := id hC
  have hzf := zz_X1_walk_0 (G := G) (a0 := a0) N u x1 x2 x3 h
  unfold f_X1_walk at h
  obtain ⟨a2, ea2⟩ : ∃ z : Nat, z = u.1 := ⟨_, rfl⟩
  have h := mlet_at ea2 h
  obtain ⟨u1, eu1⟩ : ∃ z : UH, z = uNew u 8 (.inr (16, uDefs tyX18 8)) := ⟨_, rfl⟩
  have h := mlet_at eu1 h
  have zu1 : u1.1 = u.1 + 1 ∧ u1.2.1 = u.2.1 + 8 := by rw [eu1]; exact ⟨rfl, rfl⟩
  have hq := zz_X1_walk_3 (G := G) (a0 := a0) N u1 x1 x2 x3 (some a2) h
  refine u_new hC hP hS (T := TX18) (N := 8) (ci := 16) rfl in_X18 tyX18 tyX18_ok q1645 q1646 q140 (by omega) (by omega) dX1_walk_0 (fun H hP hS => ?_)
  rw [← eu1] at hP
  rw [← ea2]
  refine W.cs (cells' := u1.1 - u0.1) (slots' := u1.2.1 - u0.2.1) (by omega) (by omega) ?_
  refine W.cs (cells' := u1.1 - u0.1) (slots' := u1.2.1 - u0.2.1) (by omega) (by omega) ?_
  exact w_X1_walk_3 hC hR hRm N u1 x1 x2 x3 (some a2) h ⟨by omega, by omega⟩ hP hS (lv_sub hl [0, 1, 2, 3] rfl)
theorem zz_X1_walk (N b : Nat) (g : uEnv) (u : UH) (a0 : Nat) (x1 : Int32) (x2 : Int32) (x3 : Int32) (r : Option Nat) (uf : UH) (h : f_X1_walk N b g u a0 x1 x2 x3 = some (r, uf)) : u.1 ≤ uf.1 ∧ u.2.1 ≤ uf.2.1 :=
  zz_X1_walk_0 (G := ((fun _ => 0, fun _ _ => 0), fun _ => 0, b, g)) (a0 := a0) N u x1 x2 x3 h
theorem met_X1_walk (l : Launch) (N : Nat) (G : uG) (u : UH) (a0 : Nat) (x1 : Int32) (x2 : Int32) (x3 : Int32) (r : Option Nat) (uf : UH) (h : f_X1_walk N (ub G) (ug G) u a0 x1 x2 x3 = some (r, uf)) : Met l yX1_walk (ws_ yX1_walk cX1_walk 4 (some (.object "SoftWheels$Walk"))) ({ frames := 27, cells := (uf.1 - u.1), slots := (uf.2.1 - u.2.1), locals := 1361 }) (uPc G u [.ref a0, .int x1, .int x2, .int x3]) (uQr G r uf) (uf.1 - u.1) (uf.2.1 - u.2.1) (uA G) := by
  exact u_met (own := RX1) (by decide +kernel) rfl (Nat.le_of_ble_eq_true rfl) (fun hC hn hsz ls hl hP => W.cs (Nat.sub_self _).symm (Nat.sub_self _).symm (w_X1_walk_0 hC ⟨Nat.le_refl _, Nat.le_refl _⟩ ⟨Nat.le_refl _, Nat.le_refl _⟩ N u x1 x2 x3 h ⟨Nat.le_refl _, Nat.le_refl _⟩ hP va_S.rf hl))
def f_X1_costs_17 (N b : Nat) (g : uEnv) (a0 : Nat) (u : UH) : Option (Int32 × UH) :=
    if uIs u a0 0 = true then
    ucall (f_X1_refused N b g u a0 1) fun r4 u2 =>
    some (r4, u2)
    else none
set_option maxHeartbeats 4000000 in
set_option maxRecDepth 100000 in
theorem zz_X1_costs_17 {G : uG} {a0 : Nat} {uf : UH} {r : Int32} (N : Nat) (u : UH) (h : f_X1_costs_17 N (ub G) (ug G) a0 u = some (r, uf)) : u.1 ≤ uf.1 ∧ u.2.1 ≤ uf.2.1 := by
  unfold f_X1_costs_17 at h
  obtain ⟨c1, h⟩ := mif_n h
  obtain ⟨r4, u2, c3, h⟩ := ucall_n h
  have zu2 := zz_X1_refused N (ub G) (ug G) u a0 1 r4 u2 c3
  obtain ⟨hr1, hr2⟩ := uret_n h
  subst hr2
  exact ⟨by omega, by omega⟩
set_option maxHeartbeats 4000000 in
set_option maxRecDepth 100000 in
theorem w_X1_costs_17 {p : Program} {l : Launch} {e : Env} {R : Room} {s : State} {m : MethodId} {args : Array Value} {below : List Frame} {meth : Method} {c : Code} {G : uG} {a0 : Nat} {u0 : UH} {uf : UH} {r : Int32} (hC : uC p s m args meth c G RX1 cX1_costs 7 (some .int)) (hR : 28 ≤ R.frames ∧ 1384 ≤ R.locals) (hRm : uf.1 - u0.1 ≤ R.cells ∧ uf.2.1 - u0.2.1 ≤ R.slots) (N : Nat) (u : UH) (h : f_X1_costs_17 N (ub G) (ug G) a0 u = some (r, uf)) (hz0 : (u0.1 ≤ u.1 ∧ u0.2.1 ≤ u.2.1)) {H : Heap} {locs : List Loc} (hP : uP G u H) (hS : va_S (uA G) s.heap H locs) {ls : Array Slot} (hl : lv_has ls 7 [(0, va_rf (some a0))]) : W p l e R s m args below meth c H locs (u.1 - u0.1) (u.2.1 - u0.2.1) (MQ below (uQi G r uf) args s (uf.1 - u0.1) (uf.2.1 - u0.2.1) (uA G)) (F0 m 17 ls []) := by
  obtain ⟨⟨hx, hb, hml, hown, hts⟩, hKK⟩ := id hC
  have hzf := zz_X1_costs_17 (G := G) (a0 := a0) N u h
  unfold f_X1_costs_17 at h
  refine u_aload_n (r := some a0) hx hb dX1_costs_17 rfl (lv_at hl 0 rfl) ?_
  refine lv_iconst (v := 1) hx hb dX1_costs_18 (by decide) ?_
  obtain ⟨c1, h⟩ := mif_n h
  obtain ⟨r4, u2, c3, h⟩ := ucall_n h
  have zu2 := zz_X1_refused N (ub G) (ug G) u a0 1 r4 u2 c3
  refine u_calli (va_runV (As := [.int 1]) (rest := []) hC.1 (met_X1_refused l N G u a0 1 r4 u2 c3) (cwV 1 hts (lw_V q276 q278 qs0 q98 q279) rfl rfl rfl (by decide +kernel) ⟨Nat.le_trans (Nat.le_of_ble_eq_true rfl) hR.1, Nat.le_trans (Nat.le_of_ble_eq_true rfl) hR.2⟩) ⟨uPc_blind, u_rcv hC hP c1 rfl, fun U hU hW => u_pre hC hP hS hU hW⟩ rfl rfl hl.1 rfl (lv_room (Nat.le_of_ble_eq_true rfl)) dX1_costs_19 ⟨by omega, by omega⟩) hS (fun H locs hP hS => ?_)
  refine W.cs (cells' := u2.1 - u0.1) (slots' := u2.2.1 - u0.2.1) (by omega) (by omega) ?_
  obtain ⟨hr1, hr2⟩ := uret_n h
  subst hr1
  subst hr2
  exact u_iret hC hP hS dX1_costs_22
def f_X1_costs_49 (N b : Nat) (g : uEnv) (a0 : Nat) (k29 : UH → Int32 → Int32 → Int32 → Int32 → Int32 → Option (Int32 × UH)) (u : UH) (x1 : Int32) (x2 : Int32) (x3 : Int32) (x4 : Int32) (x5 : Int32) (s0 : Option Nat) : Option (Int32 × UH) :=
    (s0).bind fun a1 =>
    if uIs u a1 16 = true then
    ucall (f_X18_fails N b g u a1 x3 2147483647) fun r5 u3 =>
    if r5 = 0 then
    (uGI u3 a1 16 5).bind fun y7 =>
    ucall (f_J9_max N b g u3 x4 y7) fun r10 u8 =>
    mlet (x5 + 1) fun y11 =>
    k29 u8 x1 x2 x3 r10 y11
    else
    if uIs u3 a0 0 = true then
    ucall (f_X1_refused N b g u3 a0 6) fun r15 u13 =>
    some (r15, u13)
    else none
    else none
set_option maxHeartbeats 4000000 in
set_option maxRecDepth 100000 in
theorem zz_X1_costs_49 {G : uG} {a0 : Nat} {uf : UH} {r : Int32} (N : Nat) (k29 : UH → Int32 → Int32 → Int32 → Int32 → Int32 → Option (Int32 × UH)) (hk29 : ∀ (u : UH) (x1 : Int32) (x2 : Int32) (x3 : Int32) (x4 : Int32) (x5 : Int32), k29 u x1 x2 x3 x4 x5 = some (r, uf) → u.1 ≤ uf.1 ∧ u.2.1 ≤ uf.2.1) (u : UH) (x1 : Int32) (x2 : Int32) (x3 : Int32) (x4 : Int32) (x5 : Int32) (s0 : Option Nat) (h : f_X1_costs_49 N (ub G) (ug G) a0 k29 u x1 x2 x3 x4 x5 s0 = some (r, uf)) : u.1 ≤ uf.1 ∧ u.2.1 ≤ uf.2.1 := by
  unfold f_X1_costs_49 at h
  obtain ⟨a1, ha1, hha1⟩ := mbind_n h
  subst ha1
  have h := hha1
  obtain ⟨c2, h⟩ := mif_n h
  obtain ⟨r5, u3, c4, h⟩ := ucall_n h
  have zu3 := zz_X18_fails N (ub G) (ug G) u a1 x3 2147483647 r5 u3 c4
  by_cases c6 : r5 = 0
  · have h := mif_t c6 h
    obtain ⟨y7, hy7, h⟩ := mbind_n h
    obtain ⟨r10, u8, c9, h⟩ := ucall_n h
    have zu8 := zz_J9_max N (ub G) (ug G) u3 x4 y7 r10 u8 c9
    obtain ⟨y11, ey11⟩ : ∃ z : Int32, z = x5 + 1 := ⟨_, rfl⟩
    have h := mlet_at ey11 h
    have hq := hk29 u8 x1 x2 x3 r10 y11 h
    exact ⟨by omega, by omega⟩
  · have h := mif_f c6 h
    obtain ⟨c12, h⟩ := mif_n h
    obtain ⟨r15, u13, c14, h⟩ := ucall_n h
    have zu13 := zz_X1_refused N (ub G) (ug G) u3 a0 6 r15 u13 c14
    obtain ⟨hr1, hr2⟩ := uret_n h
    subst hr2
    exact ⟨by omega, by omega⟩
set_option maxHeartbeats 4000000 in
set_option maxRecDepth 100000 in
theorem w_X1_costs_49 {p : Program} {l : Launch} {e : Env} {R : Room} {s : State} {m : MethodId} {args : Array Value} {below : List Frame} {meth : Method} {c : Code} {G : uG} {a0 : Nat} {u0 : UH} {uf : UH} {r : Int32} (hC : uC p s m args meth c G RX1 cX1_costs 7 (some .int)) (hR : 28 ≤ R.frames ∧ 1384 ≤ R.locals) (hRm : uf.1 - u0.1 ≤ R.cells ∧ uf.2.1 - u0.2.1 ≤ R.slots) (N : Nat) (k29 : UH → Int32 → Int32 → Int32 → Int32 → Int32 → Option (Int32 × UH)) (hk29 : ∀ (u : UH) (x1 : Int32) (x2 : Int32) (x3 : Int32) (x4 : Int32) (x5 : Int32), k29 u x1 x2 x3 x4 x5 = some (r, uf) → (u0.1 ≤ u.1 ∧ u0.2.1 ≤ u.2.1) → ∀ (H : Heap) (locs : List Loc), uP G u H → va_S (uA G) s.heap H locs → ∀ ls : Array Slot, lv_has ls 7 [(0, va_rf (some a0)), (1, .int x1), (2, .int x2), (3, .int x3), (4, .int x4), (5, .int x5)] → W p l e R s m args below meth c H locs (u.1 - u0.1) (u.2.1 - u0.2.1) (MQ below (uQi G r uf) args s (uf.1 - u0.1) (uf.2.1 - u0.2.1) (uA G)) (F0 m 29 ls [])) (zk29 : ∀ (u : UH) (x1 : Int32) (x2 : Int32) (x3 : Int32) (x4 : Int32) (x5 : Int32), k29 u x1 x2 x3 x4 x5 = some (r, uf) → u.1 ≤ uf.1 ∧ u.2.1 ≤ uf.2.1) (u : UH) (x1 : Int32) (x2 : Int32) (x3 : Int32) (x4 : Int32) (x5 : Int32) (s0 : Option Nat) (h : f_X1_costs_49 N (ub G) (ug G) a0 k29 u x1 x2 x3 x4 x5 s0 = some (r, uf)) (hz0 : (u0.1 ≤ u.1 ∧ u0.2.1 ≤ u.2.1)) {H : Heap} {locs : List Loc} (hP : uP G u H) (hS : va_S (uA G) s.heap H locs) {ls : Array Slot} (hl : lv_has ls 7 [(0, va_rf (some a0)), (1, .int x1), (2, .int x2), (3, .int x3), (4, .int x4), (5, .int x5)]) : W p l e R s m args below meth c H locs (u.1 - u0.1) (u.2.1 - u0.2.1) (MQ below (uQi G r uf) args s (uf.1 - u0.1) (uf.2.1 - u0.2.1) (uA G)) (F0 m 49 ls [va_rf s0]) := by
  obtain ⟨⟨hx, hb, hml, hown, hts⟩, hKK⟩ := id hC
  have hzf := zz_X1_costs_49 (G := G) (a0 := a0) N k29 zk29 u x1 x2 x3 x4 x5 s0 h
  unfold f_X1_costs_49 at h
  refine u_astore (r := s0) (lv' := [(6, va_rf s0), (0, va_rf (some a0)), (1, .int x1), (2, .int x2), (3, .int x3), (4, .int x4), (5, .int x5)]) hx hb dX1_costs_49 hl (by decide) rfl (fun ls hl => ?_)
  refine u_aload (r := s0) hx hb dX1_costs_51 (lv_at hl 0 rfl) ?_
  refine lv_iload_n hx hb dX1_costs_53 rfl (lv_at hl 4 rfl) ?_
  refine lv_ldcw hx hb hown (hts _ q1744) dX1_costs_54 ?_
  obtain ⟨a1, ha1, hha1⟩ := mbind_n h
  subst ha1
  have h := hha1
  obtain ⟨c2, h⟩ := mif_n h
  obtain ⟨r5, u3, c4, h⟩ := ucall_n h
  have zu3 := zz_X18_fails N (ub G) (ug G) u a1 x3 2147483647 r5 u3 c4
  refine u_calli (va_runV (As := [.int x3, .int 2147483647]) (rest := []) hC.1 (met_X18_fails l N G u a1 x3 2147483647 r5 u3 c4) (cwV 2 hts (lw_V q1732 q1733 q1734 q140 q1735) rfl rfl rfl (by decide +kernel) ⟨Nat.le_trans (Nat.le_of_ble_eq_true rfl) hR.1, Nat.le_trans (Nat.le_of_ble_eq_true rfl) hR.2⟩) ⟨uPc_blind, u_rcv hC hP c2 rfl, fun U hU hW => u_pre hC hP hS hU hW⟩ rfl rfl hl.1 rfl (lv_room (Nat.le_of_ble_eq_true rfl)) dX1_costs_57 ⟨by omega, by omega⟩) hS (fun H locs hP hS => ?_)
  refine W.cs (cells' := u3.1 - u0.1) (slots' := u3.2.1 - u0.2.1) (by omega) (by omega) ?_
  refine lv_if_eq (tgt := 70) hx hb dX1_costs_60 (by decide) (fun c6 => ?_) (fun c6 => ?_)
  · have h := mif_t c6 h
    refine lv_iload hx hb dX1_costs_70 (lv_at hl 5 rfl) ?_
    refine u_aload (r := some a1) hx hb dX1_costs_72 (lv_at hl 0 rfl) ?_
    obtain ⟨y7, hy7, h⟩ := mbind_n h
    refine u_getN hC hP (uGI_n hy7) rfl in_X18 (by decide) q1659 (fun _ h => h) dX1_costs_74 ?_
    obtain ⟨r10, u8, c9, h⟩ := ucall_n h
    have zu8 := zz_J9_max N (ub G) (ug G) u3 x4 y7 r10 u8 c9
    refine u_calli (va_runS (As := [.int x4, .int y7]) (rest := []) hC.1 (met_J9_max l N G u3 x4 y7 r10 u8 c9) (va_cwS 2 hts (lw_S q1745 q408 q113 q409) rfl rfl rfl (by decide +kernel) ⟨Nat.le_trans (Nat.le_of_ble_eq_true rfl) hR.1, Nat.le_trans (Nat.le_of_ble_eq_true rfl) hR.2⟩) ⟨uPc_blind, fun U hU hW => u_pre hC hP hS hU hW⟩ rfl rfl hl.1 rfl (lv_room (Nat.le_of_ble_eq_true rfl)) dX1_costs_77 ⟨by omega, by omega⟩) hS (fun H locs hP hS => ?_)
    refine W.cs (cells' := u8.1 - u0.1) (slots' := u8.2.1 - u0.2.1) (by omega) (by omega) ?_
    refine lv_istore (lv' := [(4, .int r10), (6, va_rf (some a1)), (0, va_rf (some a0)), (1, .int x1), (2, .int x2), (3, .int x3), (5, .int x5)]) hx hb dX1_costs_80 hl (by decide) rfl (fun ls hl => ?_)
    obtain ⟨y11, ey11⟩ : ∃ z : Int32, z = x5 + 1 := ⟨_, rfl⟩
    have h := mlet_at ey11 h
    refine lv_iinc (v := y11) (lv' := [(5, .int y11), (4, .int r10), (6, va_rf (some a1)), (0, va_rf (some a0)), (1, .int x1), (2, .int x2), (3, .int x3)]) hx hb dX1_costs_82 hl (k := 6) rfl (by rw [ey11]; rfl) (by decide) rfl (fun ls hl => ?_)
    refine lv_goto (tgt := 29) hx hb dX1_costs_85 (by decide) ?_
    refine W.cs (cells' := u8.1 - u0.1) (slots' := u8.2.1 - u0.2.1) (by omega) (by omega) ?_
    exact hk29 u8 x1 x2 x3 r10 y11 h ⟨by omega, by omega⟩ _ _ hP hS _ (lv_sub hl [3, 4, 5, 6, 1, 0] rfl)
  · have h := mif_f c6 h
    refine u_aload_n (r := some a0) hx hb dX1_costs_63 rfl (lv_at hl 1 rfl) ?_
    refine lv_bipush (v := 6) hx hb dX1_costs_64 (by decide) ?_
    obtain ⟨c12, h⟩ := mif_n h
    obtain ⟨r15, u13, c14, h⟩ := ucall_n h
    have zu13 := zz_X1_refused N (ub G) (ug G) u3 a0 6 r15 u13 c14
    refine u_calli (va_runV (As := [.int 6]) (rest := []) hC.1 (met_X1_refused l N G u3 a0 6 r15 u13 c14) (cwV 1 hts (lw_V q276 q278 qs0 q98 q279) rfl rfl rfl (by decide +kernel) ⟨Nat.le_trans (Nat.le_of_ble_eq_true rfl) hR.1, Nat.le_trans (Nat.le_of_ble_eq_true rfl) hR.2⟩) ⟨uPc_blind, u_rcv hC hP c12 rfl, fun U hU hW => u_pre hC hP hS hU hW⟩ rfl rfl hl.1 rfl (lv_room (Nat.le_of_ble_eq_true rfl)) dX1_costs_66 ⟨by omega, by omega⟩) hS (fun H locs hP hS => ?_)
    refine W.cs (cells' := u13.1 - u0.1) (slots' := u13.2.1 - u0.2.1) (by omega) (by omega) ?_
    obtain ⟨hr1, hr2⟩ := uret_n h
    subst hr1
    subst hr2
    exact u_iret hC hP hS dX1_costs_69
def f_X1_costs_29 (N b : Nat) (g : uEnv) (a0 : Nat) : Nat → UH → Int32 → Int32 → Int32 → Int32 → Int32 → Option (Int32 × UH)
  | 0, _, _, _, _, _, _ => none
  | n + 1, u, x1, x2, x3, x4, x5 =>
    (uGR u a0 0 7).bind fun o1 =>
    (o1).bind fun a2 =>
    if uIs u a2 12 = true then
    ucall (f_X14_truths N b g u a2) fun r6 u4 =>
    if r6 ≤ x5 then
    if uIs u4 a0 0 = true then
    ucall (f_X1_done N b g u4 a0 x4) fun r11 u9 =>
    some (r11, u9)
    else none
    else
    if uIs u4 a0 0 = true then
    ucall (f_X1_walk N b g u4 a0 x1 x2 x5) fun o15 u13 =>
    f_X1_costs_49 N b g a0 (f_X1_costs_29 N b g a0 n) u13 x1 x2 x3 x4 x5 o15
    else none
    else none
set_option maxHeartbeats 4000000 in
set_option maxRecDepth 100000 in
theorem zz_X1_costs_29 {G : uG} {a0 : Nat} {uf : UH} {r : Int32} (N : Nat) : ∀ (n : Nat) (u : UH) (x1 : Int32) (x2 : Int32) (x3 : Int32) (x4 : Int32) (x5 : Int32), f_X1_costs_29 N (ub G) (ug G) a0 n u x1 x2 x3 x4 x5 = some (r, uf) → u.1 ≤ uf.1 ∧ u.2.1 ≤ uf.2.1 := by
  intro n
  induction n with
  | zero =>
    intro u x1 x2 x3 x4 x5 h
    cases h
  | succ n ih =>
    intro u x1 x2 x3 x4 x5 h
    unfold f_X1_costs_29 at h
    obtain ⟨o1, ho1, h⟩ := mbind_n h
    obtain ⟨a2, ha2, hha2⟩ := mbind_n h
    subst ha2
    have h := hha2
    obtain ⟨c3, h⟩ := mif_n h
    obtain ⟨r6, u4, c5, h⟩ := ucall_n h
    have zu4 := zz_X14_truths N (ub G) (ug G) u a2 r6 u4 c5
    by_cases c7 : r6 ≤ x5
    · have h := mif_t c7 h
      obtain ⟨c8, h⟩ := mif_n h
      obtain ⟨r11, u9, c10, h⟩ := ucall_n h
      have zu9 := zz_X1_done N (ub G) (ug G) u4 a0 x4 r11 u9 c10
      obtain ⟨hr1, hr2⟩ := uret_n h
      subst hr2
      exact ⟨by omega, by omega⟩
    · have h := mif_f c7 h
      obtain ⟨c12, h⟩ := mif_n h
      obtain ⟨o15, u13, c14, h⟩ := ucall_n h
      have zu13 := zz_X1_walk N (ub G) (ug G) u4 a0 x1 x2 x5 o15 u13 c14
      have hq := zz_X1_costs_49 (G := G) (a0 := a0) N (f_X1_costs_29 N (ub G) (ug G) a0 n) ih u13 x1 x2 x3 x4 x5 o15 h
      exact ⟨by omega, by omega⟩
set_option maxHeartbeats 4000000 in
set_option maxRecDepth 100000 in
theorem w_X1_costs_29 {p : Program} {l : Launch} {e : Env} {R : Room} {s : State} {m : MethodId} {args : Array Value} {below : List Frame} {meth : Method} {c : Code} {G : uG} {a0 : Nat} {u0 : UH} {uf : UH} {r : Int32} (hC : uC p s m args meth c G RX1 cX1_costs 7 (some .int)) (hR : 28 ≤ R.frames ∧ 1384 ≤ R.locals) (hRm : uf.1 - u0.1 ≤ R.cells ∧ uf.2.1 - u0.2.1 ≤ R.slots) (N : Nat) : ∀ (n : Nat) (u : UH) (x1 : Int32) (x2 : Int32) (x3 : Int32) (x4 : Int32) (x5 : Int32), f_X1_costs_29 N (ub G) (ug G) a0 n u x1 x2 x3 x4 x5 = some (r, uf) → (u0.1 ≤ u.1 ∧ u0.2.1 ≤ u.2.1) → ∀ (H : Heap) (locs : List Loc), uP G u H → va_S (uA G) s.heap H locs → ∀ ls : Array Slot, lv_has ls 7 [(0, va_rf (some a0)), (1, .int x1), (2, .int x2), (3, .int x3), (4, .int x4), (5, .int x5)] → W p l e R s m args below meth c H locs (u.1 - u0.1) (u.2.1 - u0.2.1) (MQ below (uQi G r uf) args s (uf.1 - u0.1) (uf.2.1 - u0.2.1) (uA G)) (F0 m 29 ls []) := by
  obtain ⟨⟨hx, hb, hml, hown, hts⟩, hKK⟩ := id hC
  intro n
  induction n with
  | zero =>
    intro u x1 x2 x3 x4 x5 h
    cases h
  | succ n ih =>
    intro u x1 x2 x3 x4 x5 h hz0 H locs hP hS ls hl
    have hzf := zz_X1_costs_29 (G := G) (a0 := a0) N (n + 1) u x1 x2 x3 x4 x5 h
    unfold f_X1_costs_29 at h
    refine lv_iload hx hb dX1_costs_29 (lv_at hl 5 rfl) ?_
    refine u_aload_n (r := some a0) hx hb dX1_costs_31 rfl (lv_at hl 0 rfl) ?_
    obtain ⟨o1, ho1, h⟩ := mbind_n h
    refine u_get hC hP (uGR_n ho1) rfl in_X1 (by decide) q222 (fun _ h => h) dX1_costs_32 ?_
    obtain ⟨a2, ha2, hha2⟩ := mbind_n h
    subst ha2
    have h := hha2
    obtain ⟨c3, h⟩ := mif_n h
    obtain ⟨r6, u4, c5, h⟩ := ucall_n h
    have zu4 := zz_X14_truths N (ub G) (ug G) u a2 r6 u4 c5
    refine u_calli (va_runV (As := []) (rest := [.int x5]) hC.1 (met_X14_truths l N G u a2 r6 u4 c5) (cwV 0 hts (lw_V q1465 q1466 q1467 q131 q1468) rfl rfl rfl (by decide +kernel) ⟨Nat.le_trans (Nat.le_of_ble_eq_true rfl) hR.1, Nat.le_trans (Nat.le_of_ble_eq_true rfl) hR.2⟩) ⟨uPc_blind, u_rcv hC hP c3 rfl, fun U hU hW => u_pre hC hP hS hU hW⟩ rfl rfl hl.1 rfl (lv_room (Nat.le_of_ble_eq_true rfl)) dX1_costs_35 ⟨by omega, by omega⟩) hS (fun H locs hP hS => ?_)
    refine W.cs (cells' := u4.1 - u0.1) (slots' := u4.2.1 - u0.2.1) (by omega) (by omega) ?_
    refine lv_icmp_ge (tgt := 88) hx hb dX1_costs_38 (by decide) (fun c7 => ?_) (fun c7 => ?_)
    · have h := mif_t c7 h
      refine u_aload_n (r := some a0) hx hb dX1_costs_88 rfl (lv_at hl 0 rfl) ?_
      refine lv_iload hx hb dX1_costs_89 (lv_at hl 4 rfl) ?_
      obtain ⟨c8, h⟩ := mif_n h
      obtain ⟨r11, u9, c10, h⟩ := ucall_n h
      have zu9 := zz_X1_done N (ub G) (ug G) u4 a0 x4 r11 u9 c10
      refine u_calli (va_runV (As := [.int x4]) (rest := []) hC.1 (met_X1_done l N G u4 a0 x4 r11 u9 c10) (cwV 1 hts (lw_V q1064 q1066 qs14 q98 q1067) rfl rfl rfl (by decide +kernel) ⟨Nat.le_trans (Nat.le_of_ble_eq_true rfl) hR.1, Nat.le_trans (Nat.le_of_ble_eq_true rfl) hR.2⟩) ⟨uPc_blind, u_rcv hC hP c8 rfl, fun U hU hW => u_pre hC hP hS hU hW⟩ rfl rfl hl.1 rfl (lv_room (Nat.le_of_ble_eq_true rfl)) dX1_costs_91 ⟨by omega, by omega⟩) hS (fun H locs hP hS => ?_)
      refine W.cs (cells' := u9.1 - u0.1) (slots' := u9.2.1 - u0.2.1) (by omega) (by omega) ?_
      obtain ⟨hr1, hr2⟩ := uret_n h
      subst hr1
      subst hr2
      exact u_iret hC hP hS dX1_costs_94
    · have h := mif_f c7 h
      refine u_aload_n (r := some a0) hx hb dX1_costs_41 rfl (lv_at hl 0 rfl) ?_
      refine lv_iload_n hx hb dX1_costs_42 rfl (lv_at hl 1 rfl) ?_
      refine lv_iload_n hx hb dX1_costs_43 rfl (lv_at hl 2 rfl) ?_
      refine lv_iload hx hb dX1_costs_44 (lv_at hl 5 rfl) ?_
      obtain ⟨c12, h⟩ := mif_n h
      obtain ⟨o15, u13, c14, h⟩ := ucall_n h
      have zu13 := zz_X1_walk N (ub G) (ug G) u4 a0 x1 x2 x5 o15 u13 c14
      have hq := zz_X1_costs_49 (G := G) (a0 := a0) N (f_X1_costs_29 N (ub G) (ug G) a0 n) (zz_X1_costs_29 (G := G) (a0 := a0) N n) u13 x1 x2 x3 x4 x5 o15 h
      refine u_callr (va_runV (As := [.int x1, .int x2, .int x5]) (rest := []) hC.1 (met_X1_walk l N G u4 a0 x1 x2 x5 o15 u13 c14) (cwV 3 hts (lw_V q1641 q1643 qs34 q98 q1644) rfl rfl rfl (by decide +kernel) ⟨Nat.le_trans (Nat.le_of_ble_eq_true rfl) hR.1, Nat.le_trans (Nat.le_of_ble_eq_true rfl) hR.2⟩) ⟨uPc_blind, u_rcv hC hP c12 rfl, fun U hU hW => u_pre hC hP hS hU hW⟩ rfl rfl hl.1 rfl (lv_room (Nat.le_of_ble_eq_true rfl)) dX1_costs_46 ⟨by omega, by omega⟩) hS (fun H locs hP hS => ?_)
      refine W.cs (cells' := u13.1 - u0.1) (slots' := u13.2.1 - u0.2.1) (by omega) (by omega) ?_
      refine W.cs (cells' := u13.1 - u0.1) (slots' := u13.2.1 - u0.2.1) (by omega) (by omega) ?_
      exact w_X1_costs_49 hC hR hRm N (f_X1_costs_29 N (ub G) (ug G) a0 n) ih (zz_X1_costs_29 (G := G) (a0 := a0) N n) u13 x1 x2 x3 x4 x5 o15 h ⟨by omega, by omega⟩ hP hS (lv_sub hl [0, 1, 2, 3, 4, 5] rfl)
def f_X1_costs (N b : Nat) (g : uEnv) (u : UH) (a0 : Nat) (x1 : Int32) (x2 : Int32) (x3 : Int32) : Option (Int32 × UH) :=
    if uIs u a0 0 = true then
    ucall (f_X1_isPlan N b g u a0 x1) fun r4 u2 =>
    if r4 = 0 then
    f_X1_costs_17 N b g a0 u2
    else
    if uIs u2 a0 0 = true then
    ucall (f_X1_areCells N b g u2 a0 x2 x3) fun r9 u7 =>
    if r9 = 0 then
    f_X1_costs_17 N b g a0 u7
    else
    f_X1_costs_29 N b g a0 N u7 x1 x2 x3 0 0
    else none
    else none
set_option maxHeartbeats 4000000 in
set_option maxRecDepth 100000 in
theorem zz_X1_costs_0 {G : uG} {a0 : Nat} {uf : UH} {r : Int32} (N : Nat) (u : UH) (x1 : Int32) (x2 : Int32) (x3 : Int32) (h : f_X1_costs N (ub G) (ug G) u a0 x1 x2 x3 = some (r, uf)) : u.1 ≤ uf.1 ∧ u.2.1 ≤ uf.2.1 := by
  unfold f_X1_costs at h
  obtain ⟨c1, h⟩ := mif_n h
  obtain ⟨r4, u2, c3, h⟩ := ucall_n h
  have zu2 := zz_X1_isPlan N (ub G) (ug G) u a0 x1 r4 u2 c3
  by_cases c5 : r4 = 0
  · have h := mif_t c5 h
    have hq := zz_X1_costs_17 (G := G) (a0 := a0) N u2 h
    exact ⟨by omega, by omega⟩
  · have h := mif_f c5 h
    obtain ⟨c6, h⟩ := mif_n h
    obtain ⟨r9, u7, c8, h⟩ := ucall_n h
    have zu7 := zz_X1_areCells N (ub G) (ug G) u2 a0 x2 x3 r9 u7 c8
    by_cases c10 : r9 = 0
    · have h := mif_t c10 h
      have hq := zz_X1_costs_17 (G := G) (a0 := a0) N u7 h
      exact ⟨by omega, by omega⟩
    · have h := mif_f c10 h
      have hq := zz_X1_costs_29 (G := G) (a0 := a0) N N u7 x1 x2 x3 0 0 h
      exact ⟨by omega, by omega⟩
set_option maxHeartbeats 4000000 in
set_option maxRecDepth 100000 in
theorem w_X1_costs_0 {p : Program} {l : Launch} {e : Env} {R : Room} {s : State} {m : MethodId} {args : Array Value} {below : List Frame} {meth : Method} {c : Code} {G : uG} {a0 : Nat} {u0 : UH} {uf : UH} {r : Int32} (hC : uC p s m args meth c G RX1 cX1_costs 7 (some .int)) (hR : 28 ≤ R.frames ∧ 1384 ≤ R.locals) (hRm : uf.1 - u0.1 ≤ R.cells ∧ uf.2.1 - u0.2.1 ≤ R.slots) (N : Nat) (u : UH) (x1 : Int32) (x2 : Int32) (x3 : Int32) (h : f_X1_costs N (ub G) (ug G) u a0 x1 x2 x3 = some (r, uf)) (hz0 : (u0.1 ≤ u.1 ∧ u0.2.1 ≤ u.2.1)) {H : Heap} {locs : List Loc} (hP : uP G u H) (hS : va_S (uA G) s.heap H locs) {ls : Array Slot} (hl : lv_has ls 7 [(0, va_rf (some a0)), (1, .int x1), (2, .int x2), (3, .int x3)]) : W p l e R s m args below meth c H locs (u.1 - u0.1) (u.2.1 - u0.2.1) (MQ below (uQi G r uf) args s (uf.1 - u0.1) (uf.2.1 - u0.2.1) (uA G)) (F0 m 0 ls []) := by
  obtain ⟨⟨hx, hb, hml, hown, hts⟩, hKK⟩ := id hC
  have hzf := zz_X1_costs_0 (G := G) (a0 := a0) N u x1 x2 x3 h
  unfold f_X1_costs at h
  refine u_aload_n (r := some a0) hx hb dX1_costs_0 rfl (lv_at hl 0 rfl) ?_
  refine lv_iload_n hx hb dX1_costs_1 rfl (lv_at hl 1 rfl) ?_
  obtain ⟨c1, h⟩ := mif_n h
  obtain ⟨r4, u2, c3, h⟩ := ucall_n h
  have zu2 := zz_X1_isPlan N (ub G) (ug G) u a0 x1 r4 u2 c3
  refine u_calli (va_runV (As := [.int x1]) (rest := []) hC.1 (met_X1_isPlan l N G u a0 x1 r4 u2 c3) (cwV 1 hts (lw_V q1636 q1638 qs33 q98 q1639) rfl rfl rfl (by decide +kernel) ⟨Nat.le_trans (Nat.le_of_ble_eq_true rfl) hR.1, Nat.le_trans (Nat.le_of_ble_eq_true rfl) hR.2⟩) ⟨uPc_blind, u_rcv hC hP c1 rfl, fun U hU hW => u_pre hC hP hS hU hW⟩ rfl rfl hl.1 rfl (lv_room (Nat.le_of_ble_eq_true rfl)) dX1_costs_2 ⟨by omega, by omega⟩) hS (fun H locs hP hS => ?_)
  refine W.cs (cells' := u2.1 - u0.1) (slots' := u2.2.1 - u0.2.1) (by omega) (by omega) ?_
  refine lv_if_eq (tgt := 17) hx hb dX1_costs_5 (by decide) (fun c5 => ?_) (fun c5 => ?_)
  · have h := mif_t c5 h
    refine W.cs (cells' := u2.1 - u0.1) (slots' := u2.2.1 - u0.2.1) (by omega) (by omega) ?_
    exact w_X1_costs_17 hC hR hRm N u2 h ⟨by omega, by omega⟩ hP hS (lv_sub hl [0] rfl)
  · have h := mif_f c5 h
    refine u_aload_n (r := some a0) hx hb dX1_costs_8 rfl (lv_at hl 0 rfl) ?_
    refine lv_iload_n hx hb dX1_costs_9 rfl (lv_at hl 2 rfl) ?_
    refine lv_iload_n hx hb dX1_costs_10 rfl (lv_at hl 3 rfl) ?_
    obtain ⟨c6, h⟩ := mif_n h
    obtain ⟨r9, u7, c8, h⟩ := ucall_n h
    have zu7 := zz_X1_areCells N (ub G) (ug G) u2 a0 x2 x3 r9 u7 c8
    refine u_calli (va_runV (As := [.int x2, .int x3]) (rest := []) hC.1 (met_X1_areCells l N G u2 a0 x2 x3 r9 u7 c8) (cwV 2 hts (lw_V q1285 q1287 qs20 q98 q1288) rfl rfl rfl (by decide +kernel) ⟨Nat.le_trans (Nat.le_of_ble_eq_true rfl) hR.1, Nat.le_trans (Nat.le_of_ble_eq_true rfl) hR.2⟩) ⟨uPc_blind, u_rcv hC hP c6 rfl, fun U hU hW => u_pre hC hP hS hU hW⟩ rfl rfl hl.1 rfl (lv_room (Nat.le_of_ble_eq_true rfl)) dX1_costs_11 ⟨by omega, by omega⟩) hS (fun H locs hP hS => ?_)
    refine W.cs (cells' := u7.1 - u0.1) (slots' := u7.2.1 - u0.2.1) (by omega) (by omega) ?_
    refine lv_if_ne (tgt := 23) hx hb dX1_costs_14 (by decide) (fun c10 => ?_) (fun c10 => ?_)
    · have h := mif_f c10 h
      refine lv_iconst (v := 0) hx hb dX1_costs_23 (by decide) ?_
      refine lv_istore (lv' := [(4, .int 0), (0, va_rf (some a0)), (1, .int x1), (2, .int x2), (3, .int x3)]) hx hb dX1_costs_24 hl (by decide) rfl (fun ls hl => ?_)
      refine lv_iconst (v := 0) hx hb dX1_costs_26 (by decide) ?_
      refine lv_istore (lv' := [(5, .int 0), (4, .int 0), (0, va_rf (some a0)), (1, .int x1), (2, .int x2), (3, .int x3)]) hx hb dX1_costs_27 hl (by decide) rfl (fun ls hl => ?_)
      refine W.cs (cells' := u7.1 - u0.1) (slots' := u7.2.1 - u0.2.1) (by omega) (by omega) ?_
      exact w_X1_costs_29 hC hR hRm N N u7 x1 x2 x3 0 0 h ⟨by omega, by omega⟩ _ _ hP hS _ (lv_sub hl [2, 3, 4, 5, 1, 0] rfl)
    · have h := mif_t c10 h
      refine W.cs (cells' := u7.1 - u0.1) (slots' := u7.2.1 - u0.2.1) (by omega) (by omega) ?_
      exact w_X1_costs_17 hC hR hRm N u7 h ⟨by omega, by omega⟩ hP hS (lv_sub hl [0] rfl)
theorem zz_X1_costs (N b : Nat) (g : uEnv) (u : UH) (a0 : Nat) (x1 : Int32) (x2 : Int32) (x3 : Int32) (r : Int32) (uf : UH) (h : f_X1_costs N b g u a0 x1 x2 x3 = some (r, uf)) : u.1 ≤ uf.1 ∧ u.2.1 ≤ uf.2.1 :=
  zz_X1_costs_0 (G := ((fun _ => 0, fun _ _ => 0), fun _ => 0, b, g)) (a0 := a0) N u x1 x2 x3 h
theorem met_X1_costs (l : Launch) (N : Nat) (G : uG) (u : UH) (a0 : Nat) (x1 : Int32) (x2 : Int32) (x3 : Int32) (r : Int32) (uf : UH) (h : f_X1_costs N (ub G) (ug G) u a0 x1 x2 x3 = some (r, uf)) : Met l yX1_costs (ws_ yX1_costs cX1_costs 7 (some .int)) ({ frames := 28, cells := (uf.1 - u.1), slots := (uf.2.1 - u.2.1), locals := 1384 }) (uPc G u [.ref a0, .int x1, .int x2, .int x3]) (uQi G r uf) (uf.1 - u.1) (uf.2.1 - u.2.1) (uA G) := by
  exact u_met (own := RX1) (by decide +kernel) rfl (Nat.le_of_ble_eq_true rfl) (fun hC hn hsz ls hl hP => W.cs (Nat.sub_self _).symm (Nat.sub_self _).symm (w_X1_costs_0 hC ⟨Nat.le_refl _, Nat.le_refl _⟩ ⟨Nat.le_refl _, Nat.le_refl _⟩ N u x1 x2 x3 h ⟨Nat.le_refl _, Nat.le_refl _⟩ hP va_S.rf hl))
def f_X1_doubt_100 (N b : Nat) (g : uEnv) (a0 : Nat) (u : UH) (x2 : Option Nat) (s0 : Int32) : Option (Int32 × UH) :=
    (x2).bind fun a1 =>
    (uGI u a1 13 0).bind fun y2 =>
    if uIs u a0 0 = true then
    ucall (f_X1_done N b g u a0 y2) fun r6 u4 =>
    some (r6, u4)
    else none
set_option maxHeartbeats 4000000 in
set_option maxRecDepth 100000 in
theorem zz_X1_doubt_100 {G : uG} {a0 : Nat} {uf : UH} {r : Int32} (N : Nat) (u : UH) (x2 : Option Nat) (s0 : Int32) (h : f_X1_doubt_100 N (ub G) (ug G) a0 u x2 s0 = some (r, uf)) : u.1 ≤ uf.1 ∧ u.2.1 ≤ uf.2.1 := by
  unfold f_X1_doubt_100 at h
  obtain ⟨a1, ha1, hha1⟩ := mbind_n h
  subst ha1
  have h := hha1
  obtain ⟨y2, hy2, h⟩ := mbind_n h
  obtain ⟨c3, h⟩ := mif_n h
  obtain ⟨r6, u4, c5, h⟩ := ucall_n h
  have zu4 := zz_X1_done N (ub G) (ug G) u a0 y2 r6 u4 c5
  obtain ⟨hr1, hr2⟩ := uret_n h
  subst hr2
  exact ⟨by omega, by omega⟩
set_option maxHeartbeats 4000000 in
set_option maxRecDepth 100000 in
theorem w_X1_doubt_100 {p : Program} {l : Launch} {e : Env} {R : Room} {s : State} {m : MethodId} {args : Array Value} {below : List Frame} {meth : Method} {c : Code} {G : uG} {a0 : Nat} {u0 : UH} {uf : UH} {r : Int32} (hC : uC p s m args meth c G RX1 cX1_doubt 3 (some .int)) (hR : 7 ≤ R.frames ∧ 191 ≤ R.locals) (hRm : uf.1 - u0.1 ≤ R.cells ∧ uf.2.1 - u0.2.1 ≤ R.slots) (N : Nat) (u : UH) (x2 : Option Nat) (s0 : Int32) (h : f_X1_doubt_100 N (ub G) (ug G) a0 u x2 s0 = some (r, uf)) (hz0 : (u0.1 ≤ u.1 ∧ u0.2.1 ≤ u.2.1)) {H : Heap} {locs : List Loc} (hP : uP G u H) (hS : va_S (uA G) s.heap H locs) {ls : Array Slot} (hl : lv_has ls 3 [(0, va_rf (some a0)), (2, va_rf x2)]) : W p l e R s m args below meth c H locs (u.1 - u0.1) (u.2.1 - u0.2.1) (MQ below (uQi G r uf) args s (uf.1 - u0.1) (uf.2.1 - u0.2.1) (uA G)) (F0 m 100 ls [.int s0]) := by
  obtain ⟨⟨hx, hb, hml, hown, hts⟩, hKK⟩ := id hC
  have hzf := zz_X1_doubt_100 (G := G) (a0 := a0) N u x2 s0 h
  unfold f_X1_doubt_100 at h
  refine lv_pop hx hb dX1_doubt_100 rfl ?_
  refine u_aload_n (r := some a0) hx hb dX1_doubt_101 rfl (lv_at hl 0 rfl) ?_
  refine u_aload_n (r := x2) hx hb dX1_doubt_102 rfl (lv_at hl 1 rfl) ?_
  obtain ⟨a1, ha1, hha1⟩ := mbind_n h
  subst ha1
  have h := hha1
  obtain ⟨y2, hy2, h⟩ := mbind_n h
  refine u_getN hC hP (uGI_n hy2) rfl in_X15 (by decide) q1216 (fun _ h => h) dX1_doubt_103 ?_
  obtain ⟨c3, h⟩ := mif_n h
  obtain ⟨r6, u4, c5, h⟩ := ucall_n h
  have zu4 := zz_X1_done N (ub G) (ug G) u a0 y2 r6 u4 c5
  refine u_calli (va_runV (As := [.int y2]) (rest := []) hC.1 (met_X1_done l N G u a0 y2 r6 u4 c5) (cwV 1 hts (lw_V q1064 q1066 qs14 q98 q1067) rfl rfl rfl (by decide +kernel) ⟨Nat.le_trans (Nat.le_of_ble_eq_true rfl) hR.1, Nat.le_trans (Nat.le_of_ble_eq_true rfl) hR.2⟩) ⟨uPc_blind, u_rcv hC hP c3 rfl, fun U hU hW => u_pre hC hP hS hU hW⟩ rfl rfl hl.1 rfl (lv_room (Nat.le_of_ble_eq_true rfl)) dX1_doubt_106 ⟨by omega, by omega⟩) hS (fun H locs hP hS => ?_)
  refine W.cs (cells' := u4.1 - u0.1) (slots' := u4.2.1 - u0.2.1) (by omega) (by omega) ?_
  obtain ⟨hr1, hr2⟩ := uret_n h
  subst hr1
  subst hr2
  exact u_iret hC hP hS dX1_doubt_109
def f_X1_doubt_78 (N b : Nat) (g : uEnv) (a0 : Nat) (u : UH) (x1 : Int32) (s0 : Option Nat) : Option (Int32 × UH) :=
    (uGR u a0 0 7).bind fun o1 =>
    (o1).bind fun a2 =>
    (uGR u a2 12 5).bind fun o3 =>
    (o3).bind fun a4 =>
    (s0).bind fun a5 =>
    if uIs u a5 13 = true then
    (uStR b u a4 6 x1 (some a5)).bind fun u7 =>
    (uGR u7 a0 0 7).bind fun o8 =>
    (o8).bind fun a9 =>
    (uGR u7 a9 12 6).bind fun o10 =>
    (o10).bind fun a11 =>
    if uIs u7 a11 18 = true then
    ucall (f_J2_add N b g u7 a11 (some a5)) fun r15 u13 =>
    f_X1_doubt_100 N b g a0 u13 (some a5) r15
    else none
    else none
set_option maxHeartbeats 4000000 in
set_option maxRecDepth 100000 in
theorem zz_X1_doubt_78 {G : uG} {a0 : Nat} {uf : UH} {r : Int32} (N : Nat) (u : UH) (x1 : Int32) (s0 : Option Nat) (h : f_X1_doubt_78 N (ub G) (ug G) a0 u x1 s0 = some (r, uf)) : u.1 ≤ uf.1 ∧ u.2.1 ≤ uf.2.1 := by
  unfold f_X1_doubt_78 at h
  obtain ⟨o1, ho1, h⟩ := mbind_n h
  obtain ⟨a2, ha2, hha2⟩ := mbind_n h
  subst ha2
  have h := hha2
  obtain ⟨o3, ho3, h⟩ := mbind_n h
  obtain ⟨a4, ha4, hha4⟩ := mbind_n h
  subst ha4
  have h := hha4
  obtain ⟨a5, ha5, hha5⟩ := mbind_n h
  subst ha5
  have h := hha5
  obtain ⟨c6, h⟩ := mif_n h
  obtain ⟨u7, hu7, h⟩ := mbind_n h
  have zu7 := uStR_sz hu7
  obtain ⟨o8, ho8, h⟩ := mbind_n h
  obtain ⟨a9, ha9, hha9⟩ := mbind_n h
  subst ha9
  have h := hha9
  obtain ⟨o10, ho10, h⟩ := mbind_n h
  obtain ⟨a11, ha11, hha11⟩ := mbind_n h
  subst ha11
  have h := hha11
  obtain ⟨c12, h⟩ := mif_n h
  obtain ⟨r15, u13, c14, h⟩ := ucall_n h
  have zu13 := zz_J2_add N (ub G) (ug G) u7 a11 (some a5) r15 u13 c14
  have hq := zz_X1_doubt_100 (G := G) (a0 := a0) N u13 (some a5) r15 h
  exact ⟨by omega, by omega⟩
set_option maxHeartbeats 4000000 in
set_option maxRecDepth 100000 in
theorem w_X1_doubt_78 {p : Program} {l : Launch} {e : Env} {R : Room} {s : State} {m : MethodId} {args : Array Value} {below : List Frame} {meth : Method} {c : Code} {G : uG} {a0 : Nat} {u0 : UH} {uf : UH} {r : Int32} (hC : uC p s m args meth c G RX1 cX1_doubt 3 (some .int)) (hR : 7 ≤ R.frames ∧ 191 ≤ R.locals) (hRm : uf.1 - u0.1 ≤ R.cells ∧ uf.2.1 - u0.2.1 ≤ R.slots) (N : Nat) (u : UH) (x1 : Int32) (s0 : Option Nat) (h : f_X1_doubt_78 N (ub G) (ug G) a0 u x1 s0 = some (r, uf)) (hz0 : (u0.1 ≤ u.1 ∧ u0.2.1 ≤ u.2.1)) {H : Heap} {locs : List Loc} (hP : uP G u H) (hS : va_S (uA G) s.heap H locs) {ls : Array Slot} (hl : lv_has ls 3 [(0, va_rf (some a0)), (1, .int x1)]) : W p l e R s m args below meth c H locs (u.1 - u0.1) (u.2.1 - u0.2.1) (MQ below (uQi G r uf) args s (uf.1 - u0.1) (uf.2.1 - u0.2.1) (uA G)) (F0 m 78 ls [va_rf s0]) := by
  obtain ⟨⟨hx, hb, hml, hown, hts⟩, hKK⟩ := id hC
  have hzf := zz_X1_doubt_78 (G := G) (a0 := a0) N u x1 s0 h
  unfold f_X1_doubt_78 at h
  refine u_astore_n (i := 2) (r := s0) (lv' := [(2, va_rf s0), (0, va_rf (some a0)), (1, .int x1)]) hx hb dX1_doubt_78 rfl hl (by decide) rfl (fun ls hl => ?_)
  refine u_aload_n (r := some a0) hx hb dX1_doubt_79 rfl (lv_at hl 1 rfl) ?_
  obtain ⟨o1, ho1, h⟩ := mbind_n h
  refine u_get hC hP (uGR_n ho1) rfl in_X1 (by decide) q222 (fun _ h => h) dX1_doubt_80 ?_
  obtain ⟨a2, ha2, hha2⟩ := mbind_n h
  subst ha2
  have h := hha2
  obtain ⟨o3, ho3, h⟩ := mbind_n h
  refine u_getN hC hP (uGR_n ho3) rfl in_X14 (by decide) q1147 (fun _ h => h) dX1_doubt_83 ?_
  refine lv_iload_n hx hb dX1_doubt_86 rfl (lv_at hl 2 rfl) ?_
  refine u_aload_n (r := s0) hx hb dX1_doubt_87 rfl (lv_at hl 0 rfl) ?_
  obtain ⟨a4, ha4, hha4⟩ := mbind_n h
  subst ha4
  have h := hha4
  obtain ⟨a5, ha5, hha5⟩ := mbind_n h
  subst ha5
  have h := hha5
  obtain ⟨c6, h⟩ := mif_n h
  obtain ⟨u7, hu7, h⟩ := mbind_n h
  have zu7 := uStR_sz hu7
  refine u_aast hC hP hS hu7 rfl (u_anyS hC hP (ci := 13) c6 rfl) dX1_doubt_88 (fun H locs hP hS => ?_)
  refine W.cs (cells' := u7.1 - u0.1) (slots' := u7.2.1 - u0.2.1) (by omega) (by omega) ?_
  refine u_aload_n (r := some a0) hx hb dX1_doubt_89 rfl (lv_at hl 1 rfl) ?_
  obtain ⟨o8, ho8, h⟩ := mbind_n h
  refine u_get hC hP (uGR_n ho8) rfl in_X1 (by decide) q222 (fun _ h => h) dX1_doubt_90 ?_
  obtain ⟨a9, ha9, hha9⟩ := mbind_n h
  subst ha9
  have h := hha9
  obtain ⟨o10, ho10, h⟩ := mbind_n h
  refine u_getN hC hP (uGR_n ho10) rfl in_X14 (by decide) q1151 (fun _ h => h) dX1_doubt_93 ?_
  refine u_aload_n (r := some a5) hx hb dX1_doubt_96 rfl (lv_at hl 0 rfl) ?_
  obtain ⟨a11, ha11, hha11⟩ := mbind_n h
  subst ha11
  have h := hha11
  obtain ⟨c12, h⟩ := mif_n h
  obtain ⟨r15, u13, c14, h⟩ := ucall_n h
  have zu13 := zz_J2_add N (ub G) (ug G) u7 a11 (some a5) r15 u13 c14
  have hq := zz_X1_doubt_100 (G := G) (a0 := a0) N u13 (some a5) r15 h
  refine u_calli (va_runV (As := [va_rf (some a5)]) (rest := []) hC.1 (met_J2_add l N G u7 a11 (some a5) r15 u13 c14) (cwV 1 hts (lw_V q1231 q935 q936 q102 q937) rfl rfl rfl (by decide +kernel) ⟨Nat.le_trans (Nat.le_of_ble_eq_true rfl) hR.1, Nat.le_trans (Nat.le_of_ble_eq_true rfl) hR.2⟩) ⟨uPc_blind, u_rcv hC hP c12 rfl, fun U hU hW => u_pre hC hP hS hU hW⟩ rfl rfl hl.1 rfl (lv_room (Nat.le_of_ble_eq_true rfl)) dX1_doubt_97 ⟨by omega, by omega⟩) hS (fun H locs hP hS => ?_)
  refine W.cs (cells' := u13.1 - u0.1) (slots' := u13.2.1 - u0.2.1) (by omega) (by omega) ?_
  refine W.cs (cells' := u13.1 - u0.1) (slots' := u13.2.1 - u0.2.1) (by omega) (by omega) ?_
  exact w_X1_doubt_100 hC hR hRm N u13 (some a5) r15 h ⟨by omega, by omega⟩ hP hS (lv_sub hl [1, 0] rfl)
def f_X1_doubt_55 (N b : Nat) (g : uEnv) (a0 : Nat) (u : UH) (x1 : Int32) (s0 : Option Nat) : Option (Int32 × UH) :=
    (uGR u a0 0 7).bind fun o1 =>
    (o1).bind fun a2 =>
    (uGR u a2 12 6).bind fun o3 =>
    (o3).bind fun a4 =>
    if uIs u a4 18 = true then
    ucall (f_J2_size N b g u a4) fun r8 u6 =>
    (uGR u6 a0 0 7).bind fun o9 =>
    (o9).bind fun a10 =>
    (uGR u6 a10 12 4).bind fun o11 =>
    (o11).bind fun a12 =>
    (uLdI u6 a12 0 x1).bind fun y13 =>
    (s0).bind fun a14 =>
    (f_X15_init N b g u6 a14 r8 y13).bind fun u15 =>
    f_X1_doubt_78 N b g a0 u15 x1 (some a14)
    else none
set_option maxHeartbeats 4000000 in
set_option maxRecDepth 100000 in
theorem zz_X1_doubt_55 {G : uG} {a0 : Nat} {uf : UH} {r : Int32} (N : Nat) (u : UH) (x1 : Int32) (s0 : Option Nat) (h : f_X1_doubt_55 N (ub G) (ug G) a0 u x1 s0 = some (r, uf)) : u.1 ≤ uf.1 ∧ u.2.1 ≤ uf.2.1 := by
  unfold f_X1_doubt_55 at h
  obtain ⟨o1, ho1, h⟩ := mbind_n h
  obtain ⟨a2, ha2, hha2⟩ := mbind_n h
  subst ha2
  have h := hha2
  obtain ⟨o3, ho3, h⟩ := mbind_n h
  obtain ⟨a4, ha4, hha4⟩ := mbind_n h
  subst ha4
  have h := hha4
  obtain ⟨c5, h⟩ := mif_n h
  obtain ⟨r8, u6, c7, h⟩ := ucall_n h
  have zu6 := zz_J2_size N (ub G) (ug G) u a4 r8 u6 c7
  obtain ⟨o9, ho9, h⟩ := mbind_n h
  obtain ⟨a10, ha10, hha10⟩ := mbind_n h
  subst ha10
  have h := hha10
  obtain ⟨o11, ho11, h⟩ := mbind_n h
  obtain ⟨a12, ha12, hha12⟩ := mbind_n h
  subst ha12
  have h := hha12
  obtain ⟨y13, hy13, h⟩ := mbind_n h
  obtain ⟨a14, ha14, hha14⟩ := mbind_n h
  subst ha14
  have h := hha14
  obtain ⟨u15, c16, h⟩ := mbind_n h
  have zu15 := zz_X15_init N (ub G) (ug G) u6 a14 r8 y13 u15 c16
  have hq := zz_X1_doubt_78 (G := G) (a0 := a0) N u15 x1 (some a14) h
  exact ⟨by omega, by omega⟩
set_option maxHeartbeats 4000000 in
set_option maxRecDepth 100000 in
theorem w_X1_doubt_55 {p : Program} {l : Launch} {e : Env} {R : Room} {s : State} {m : MethodId} {args : Array Value} {below : List Frame} {meth : Method} {c : Code} {G : uG} {a0 : Nat} {u0 : UH} {uf : UH} {r : Int32} (hC : uC p s m args meth c G RX1 cX1_doubt 3 (some .int)) (hR : 7 ≤ R.frames ∧ 191 ≤ R.locals) (hRm : uf.1 - u0.1 ≤ R.cells ∧ uf.2.1 - u0.2.1 ≤ R.slots) (N : Nat) (u : UH) (x1 : Int32) (s0 : Option Nat) (h : f_X1_doubt_55 N (ub G) (ug G) a0 u x1 s0 = some (r, uf)) (hz0 : (u0.1 ≤ u.1 ∧ u0.2.1 ≤ u.2.1)) {H : Heap} {locs : List Loc} (hP : uP G u H) (hS : va_S (uA G) s.heap H locs) {ls : Array Slot} (hl : lv_has ls 3 [(0, va_rf (some a0)), (1, .int x1)]) : W p l e R s m args below meth c H locs (u.1 - u0.1) (u.2.1 - u0.2.1) (MQ below (uQi G r uf) args s (uf.1 - u0.1) (uf.2.1 - u0.2.1) (uA G)) (F0 m 55 ls [va_rf s0]) := by
  obtain ⟨⟨hx, hb, hml, hown, hts⟩, hKK⟩ := id hC
  have hzf := zz_X1_doubt_55 (G := G) (a0 := a0) N u x1 s0 h
  unfold f_X1_doubt_55 at h
  refine lv_dup hx hb dX1_doubt_55 (u_cat _) ?_
  refine u_aload_n (r := some a0) hx hb dX1_doubt_56 rfl (lv_at hl 0 rfl) ?_
  obtain ⟨o1, ho1, h⟩ := mbind_n h
  refine u_get hC hP (uGR_n ho1) rfl in_X1 (by decide) q222 (fun _ h => h) dX1_doubt_57 ?_
  obtain ⟨a2, ha2, hha2⟩ := mbind_n h
  subst ha2
  have h := hha2
  obtain ⟨o3, ho3, h⟩ := mbind_n h
  refine u_getN hC hP (uGR_n ho3) rfl in_X14 (by decide) q1151 (fun _ h => h) dX1_doubt_60 ?_
  obtain ⟨a4, ha4, hha4⟩ := mbind_n h
  subst ha4
  have h := hha4
  obtain ⟨c5, h⟩ := mif_n h
  obtain ⟨r8, u6, c7, h⟩ := ucall_n h
  have zu6 := zz_J2_size N (ub G) (ug G) u a4 r8 u6 c7
  refine u_calli (va_runV (As := []) (rest := [va_rf s0, va_rf s0]) hC.1 (met_J2_size l N G u a4 r8 u6 c7) (cwV 0 hts (lw_V q1063 q894 q895 q102 q896) rfl rfl rfl (by decide +kernel) ⟨Nat.le_trans (Nat.le_of_ble_eq_true rfl) hR.1, Nat.le_trans (Nat.le_of_ble_eq_true rfl) hR.2⟩) ⟨uPc_blind, u_rcv hC hP c5 rfl, fun U hU hW => u_pre hC hP hS hU hW⟩ rfl rfl hl.1 rfl (lv_room (by simp only [List.map, u_cat]; exact Nat.le_of_ble_eq_true rfl)) dX1_doubt_63 ⟨by omega, by omega⟩) hS (fun H locs hP hS => ?_)
  refine W.cs (cells' := u6.1 - u0.1) (slots' := u6.2.1 - u0.2.1) (by omega) (by omega) ?_
  refine u_aload_n (r := some a0) hx hb dX1_doubt_66 rfl (lv_at hl 0 rfl) ?_
  obtain ⟨o9, ho9, h⟩ := mbind_n h
  refine u_get hC hP (uGR_n ho9) rfl in_X1 (by decide) q222 (fun _ h => h) dX1_doubt_67 ?_
  obtain ⟨a10, ha10, hha10⟩ := mbind_n h
  subst ha10
  have h := hha10
  obtain ⟨o11, ho11, h⟩ := mbind_n h
  refine u_getN hC hP (uGR_n ho11) rfl in_X14 (by decide) q1143 (fun _ h => h) dX1_doubt_70 ?_
  refine lv_iload_n hx hb dX1_doubt_73 rfl (lv_at hl 1 rfl) ?_
  obtain ⟨a12, ha12, hha12⟩ := mbind_n h
  subst ha12
  have h := hha12
  obtain ⟨y13, hy13, h⟩ := mbind_n h
  refine u_iald hC hP hy13 rfl dX1_doubt_74 ?_
  obtain ⟨a14, ha14, hha14⟩ := mbind_n h
  subst ha14
  have h := hha14
  obtain ⟨u15, c16, h⟩ := mbind_n h
  have zu15 := zz_X15_init N (ub G) (ug G) u6 a14 r8 y13 u15 c16
  have hq := zz_X1_doubt_78 (G := G) (a0 := a0) N u15 x1 (some a14) h
  refine u_callv (va_runI (As := [.int r8, .int y13]) (rest := [va_rf (some a14)]) hC.1 (met_X15_init l N G u6 a14 r8 y13 u15 c16) (cwI 2 hts (lw_meth q1210) rfl rfl rfl (hts _ q132) (hts _ q1208) (hts _ q1209) rfl (by decide +kernel) ⟨Nat.le_trans (Nat.le_of_ble_eq_true rfl) hR.1, Nat.le_trans (Nat.le_of_ble_eq_true rfl) hR.2⟩) ⟨uPc_blind, fun U hU hW => u_pre hC hP hS hU hW⟩ rfl rfl hl.1 rfl (lv_room (Nat.le_of_ble_eq_true rfl)) dX1_doubt_75 ⟨by omega, by omega⟩) hS (fun H locs hP hS => ?_)
  refine W.cs (cells' := u15.1 - u0.1) (slots' := u15.2.1 - u0.2.1) (by omega) (by omega) ?_
  refine W.cs (cells' := u15.1 - u0.1) (slots' := u15.2.1 - u0.2.1) (by omega) (by omega) ?_
  exact w_X1_doubt_78 hC hR hRm N u15 x1 (some a14) h ⟨by omega, by omega⟩ hP hS (lv_sub hl [0, 1] rfl)
def f_X1_doubt (N b : Nat) (g : uEnv) (u : UH) (a0 : Nat) (x1 : Int32) : Option (Int32 × UH) :=
    if uIs u a0 0 = true then
    ucall (f_X1_isCell N b g u a0 x1) fun r4 u2 =>
    if r4 = 0 then
    if uIs u2 a0 0 = true then
    ucall (f_X1_refused N b g u2 a0 1) fun r34 u32 =>
    some (r34, u32)
    else none
    else
    (uGR u2 a0 0 7).bind fun o6 =>
    (o6).bind fun a7 =>
    (uGR u2 a7 12 5).bind fun o8 =>
    (o8).bind fun a9 =>
    (uLdR u2 a9 6 x1).bind fun o10 =>
    ucase o10 (
    (uGR u2 a0 0 7).bind fun o12 =>
    (o12).bind fun a13 =>
    (uGR u2 a13 12 6).bind fun o14 =>
    (o14).bind fun a15 =>
    if uIs u2 a15 18 = true then
    ucall (f_J2_size N b g u2 a15) fun r19 u17 =>
    if r19 = 5 then
    if uIs u17 a0 0 = true then
    ucall (f_X1_refused N b g u17 a0 3) fun r26 u24 =>
    some (r26, u24)
    else none
    else
    mlet (u17.1) fun a22 =>
    mlet (uNew u17 3 (.inr (13, uDefs tyX15 3))) fun u21 =>
    f_X1_doubt_55 N b g a0 u21 x1 (some a22)
    else none) fun a11 =>
    if uIs u2 a0 0 = true then
    ucall (f_X1_refused N b g u2 a0 5) fun r30 u28 =>
    some (r30, u28)
    else none
    else none
set_option maxHeartbeats 4000000 in
set_option maxRecDepth 100000 in
theorem zz_X1_doubt_0 {G : uG} {a0 : Nat} {uf : UH} {r : Int32} (N : Nat) (u : UH) (x1 : Int32) (h : f_X1_doubt N (ub G) (ug G) u a0 x1 = some (r, uf)) : u.1 ≤ uf.1 ∧ u.2.1 ≤ uf.2.1 := by
  unfold f_X1_doubt at h
  obtain ⟨c1, h⟩ := mif_n h
  obtain ⟨r4, u2, c3, h⟩ := ucall_n h
  have zu2 := zz_X1_isCell N (ub G) (ug G) u a0 x1 r4 u2 c3
  by_cases c5 : r4 = 0
  · have h := mif_t c5 h
    obtain ⟨c31, h⟩ := mif_n h
    obtain ⟨r34, u32, c33, h⟩ := ucall_n h
    have zu32 := zz_X1_refused N (ub G) (ug G) u2 a0 1 r34 u32 c33
    obtain ⟨hr1, hr2⟩ := uret_n h
    subst hr2
    exact ⟨by omega, by omega⟩
  · have h := mif_f c5 h
    obtain ⟨o6, ho6, h⟩ := mbind_n h
    obtain ⟨a7, ha7, hha7⟩ := mbind_n h
    subst ha7
    have h := hha7
    obtain ⟨o8, ho8, h⟩ := mbind_n h
    obtain ⟨a9, ha9, hha9⟩ := mbind_n h
    subst ha9
    have h := hha9
    obtain ⟨o10, ho10, h⟩ := mbind_n h
    rcases o10 with _ | a11
    · have h := ucase_n h
      obtain ⟨o12, ho12, h⟩ := mbind_n h
      obtain ⟨a13, ha13, hha13⟩ := mbind_n h
      subst ha13
      have h := hha13
      obtain ⟨o14, ho14, h⟩ := mbind_n h
      obtain ⟨a15, ha15, hha15⟩ := mbind_n h
      subst ha15
      have h := hha15
      obtain ⟨c16, h⟩ := mif_n h
      obtain ⟨r19, u17, c18, h⟩ := ucall_n h
      have zu17 := zz_J2_size N (ub G) (ug G) u2 a15 r19 u17 c18
      by_cases c20 : r19 = 5
      · have h := mif_t c20 h
        obtain ⟨c23, h⟩ := mif_n h
        obtain ⟨r26, u24, c25, h⟩ := ucall_n h
        have zu24 := zz_X1_refused N (ub G) (ug G) u17 a0 3 r26 u24 c25
        obtain ⟨hr1, hr2⟩ := uret_n h
        subst hr2
        exact ⟨by omega, by omega⟩
      · have h := mif_f c20 h
        obtain ⟨a22, ea22⟩ : ∃ z : Nat, z = u17.1 := ⟨_, rfl⟩
        have h := mlet_at ea22 h
        obtain ⟨u21, eu21⟩ : ∃ z : UH, z = uNew u17 3 (.inr (13, uDefs tyX15 3)) := ⟨_, rfl⟩
        have h := mlet_at eu21 h
        have zu21 : u21.1 = u17.1 + 1 ∧ u21.2.1 = u17.2.1 + 3 := by rw [eu21]; exact ⟨rfl, rfl⟩
        have hq := zz_X1_doubt_55 (G := G) (a0 := a0) N u21 x1 (some a22) h
        exact ⟨by omega, by omega⟩
    · have h := ucase_s h
      obtain ⟨c27, h⟩ := mif_n h
      obtain ⟨r30, u28, c29, h⟩ := ucall_n h
      have zu28 := zz_X1_refused N (ub G) (ug G) u2 a0 5 r30 u28 c29
      obtain ⟨hr1, hr2⟩ := uret_n h
      subst hr2
      exact ⟨by omega, by omega⟩
set_option maxHeartbeats 4000000 in
set_option maxRecDepth 100000 in
theorem w_X1_doubt_0 {p : Program} {l : Launch} {e : Env} {R : Room} {s : State} {m : MethodId} {args : Array Value} {below : List Frame} {meth : Method} {c : Code} {G : uG} {a0 : Nat} {u0 : UH} {uf : UH} {r : Int32} (hC : uC p s m args meth c G RX1 cX1_doubt 3 (some .int)) (hR : 7 ≤ R.frames ∧ 191 ≤ R.locals) (hRm : uf.1 - u0.1 ≤ R.cells ∧ uf.2.1 - u0.2.1 ≤ R.slots) (N : Nat) (u : UH) (x1 : Int32) (h : f_X1_doubt N (ub G) (ug G) u a0 x1 = some (r, uf)) (hz0 : (u0.1 ≤ u.1 ∧ u0.2.1 ≤ u.2.1)) {H : Heap} {locs : List Loc} (hP : uP G u H) (hS : va_S (uA G) s.heap H locs) {ls : Array Slot} (hl : lv_has ls 3 [(0, va_rf (some a0)), (1, .int x1)]) : W p l e R s m args below meth c H locs (u.1 - u0.1) (u.2.1 - u0.2.1) (MQ below (uQi G r uf) args s (uf.1 - u0.1) (uf.2.1 - u0.2.1) (uA G)) (F0 m 0 ls []) := by
  obtain ⟨⟨hx, hb, hml, hown, hts⟩, hKK⟩ := id hC
  have hzf := zz_X1_doubt_0 (G := G) (a0 := a0) N u x1 h
  unfold f_X1_doubt at h
  refine u_aload_n (r := some a0) hx hb dX1_doubt_0 rfl (lv_at hl 0 rfl) ?_
  refine lv_iload_n hx hb dX1_doubt_1 rfl (lv_at hl 1 rfl) ?_
  obtain ⟨c1, h⟩ := mif_n h
  obtain ⟨r4, u2, c3, h⟩ := ucall_n h
  have zu2 := zz_X1_isCell N (ub G) (ug G) u a0 x1 r4 u2 c3
  refine u_calli (va_runV (As := [.int x1]) (rest := []) hC.1 (met_X1_isCell l N G u a0 x1 r4 u2 c3) (cwV 1 hts (lw_V q1194 q1196 qs18 q98 q1197) rfl rfl rfl (by decide +kernel) ⟨Nat.le_trans (Nat.le_of_ble_eq_true rfl) hR.1, Nat.le_trans (Nat.le_of_ble_eq_true rfl) hR.2⟩) ⟨uPc_blind, u_rcv hC hP c1 rfl, fun U hU hW => u_pre hC hP hS hU hW⟩ rfl rfl hl.1 rfl (lv_room (Nat.le_of_ble_eq_true rfl)) dX1_doubt_2 ⟨by omega, by omega⟩) hS (fun H locs hP hS => ?_)
  refine W.cs (cells' := u2.1 - u0.1) (slots' := u2.2.1 - u0.2.1) (by omega) (by omega) ?_
  refine lv_if_ne (tgt := 14) hx hb dX1_doubt_5 (by decide) (fun c5 => ?_) (fun c5 => ?_)
  · have h := mif_f c5 h
    refine u_aload_n (r := some a0) hx hb dX1_doubt_14 rfl (lv_at hl 0 rfl) ?_
    obtain ⟨o6, ho6, h⟩ := mbind_n h
    refine u_get hC hP (uGR_n ho6) rfl in_X1 (by decide) q222 (fun _ h => h) dX1_doubt_15 ?_
    obtain ⟨a7, ha7, hha7⟩ := mbind_n h
    subst ha7
    have h := hha7
    obtain ⟨o8, ho8, h⟩ := mbind_n h
    refine u_getN hC hP (uGR_n ho8) rfl in_X14 (by decide) q1147 (fun _ h => h) dX1_doubt_18 ?_
    refine lv_iload_n hx hb dX1_doubt_21 rfl (lv_at hl 1 rfl) ?_
    obtain ⟨a9, ha9, hha9⟩ := mbind_n h
    subst ha9
    have h := hha9
    obtain ⟨o10, ho10, h⟩ := mbind_n h
    refine u_aald hC hP ho10 rfl dX1_doubt_22 ?_
    rcases o10 with _ | a11
    · have h := ucase_n h
      refine lv_ifnullN (tgt := 32) hx hb dX1_doubt_23 (by decide) ?_
      refine u_aload_n (r := some a0) hx hb dX1_doubt_32 rfl (lv_at hl 0 rfl) ?_
      obtain ⟨o12, ho12, h⟩ := mbind_n h
      refine u_get hC hP (uGR_n ho12) rfl in_X1 (by decide) q222 (fun _ h => h) dX1_doubt_33 ?_
      obtain ⟨a13, ha13, hha13⟩ := mbind_n h
      subst ha13
      have h := hha13
      obtain ⟨o14, ho14, h⟩ := mbind_n h
      refine u_getN hC hP (uGR_n ho14) rfl in_X14 (by decide) q1151 (fun _ h => h) dX1_doubt_36 ?_
      obtain ⟨a15, ha15, hha15⟩ := mbind_n h
      subst ha15
      have h := hha15
      obtain ⟨c16, h⟩ := mif_n h
      obtain ⟨r19, u17, c18, h⟩ := ucall_n h
      have zu17 := zz_J2_size N (ub G) (ug G) u2 a15 r19 u17 c18
      refine u_calli (va_runV (As := []) (rest := []) hC.1 (met_J2_size l N G u2 a15 r19 u17 c18) (cwV 0 hts (lw_V q1063 q894 q895 q102 q896) rfl rfl rfl (by decide +kernel) ⟨Nat.le_trans (Nat.le_of_ble_eq_true rfl) hR.1, Nat.le_trans (Nat.le_of_ble_eq_true rfl) hR.2⟩) ⟨uPc_blind, u_rcv hC hP c16 rfl, fun U hU hW => u_pre hC hP hS hU hW⟩ rfl rfl hl.1 rfl (lv_room (Nat.le_of_ble_eq_true rfl)) dX1_doubt_39 ⟨by omega, by omega⟩) hS (fun H locs hP hS => ?_)
      refine W.cs (cells' := u17.1 - u0.1) (slots' := u17.2.1 - u0.2.1) (by omega) (by omega) ?_
      refine lv_iconst (v := 5) hx hb dX1_doubt_42 (by decide) ?_
      refine lv_icmp_ne (tgt := 52) hx hb dX1_doubt_43 (by decide) (fun c20 => ?_) (fun c20 => ?_)
      · have h := mif_f c20 h
        obtain ⟨a22, ea22⟩ : ∃ z : Nat, z = u17.1 := ⟨_, rfl⟩
        have h := mlet_at ea22 h
        obtain ⟨u21, eu21⟩ : ∃ z : UH, z = uNew u17 3 (.inr (13, uDefs tyX15 3)) := ⟨_, rfl⟩
        have h := mlet_at eu21 h
        have zu21 : u21.1 = u17.1 + 1 ∧ u21.2.1 = u17.2.1 + 3 := by rw [eu21]; exact ⟨rfl, rfl⟩
        have hq := zz_X1_doubt_55 (G := G) (a0 := a0) N u21 x1 (some a22) h
        refine u_new hC hP hS (T := TX15) (N := 3) (ci := 13) rfl in_X15 tyX15 tyX15_ok q1206 q1207 q132 (by omega) (by omega) dX1_doubt_52 (fun H hP hS => ?_)
        rw [← eu21] at hP
        rw [← ea22]
        refine W.cs (cells' := u21.1 - u0.1) (slots' := u21.2.1 - u0.2.1) (by omega) (by omega) ?_
        refine W.cs (cells' := u21.1 - u0.1) (slots' := u21.2.1 - u0.2.1) (by omega) (by omega) ?_
        exact w_X1_doubt_55 hC hR hRm N u21 x1 (some a22) h ⟨by omega, by omega⟩ hP hS (lv_sub hl [0, 1] rfl)
      · have h := mif_t c20 h
        refine u_aload_n (r := some a0) hx hb dX1_doubt_46 rfl (lv_at hl 0 rfl) ?_
        refine lv_iconst (v := 3) hx hb dX1_doubt_47 (by decide) ?_
        obtain ⟨c23, h⟩ := mif_n h
        obtain ⟨r26, u24, c25, h⟩ := ucall_n h
        have zu24 := zz_X1_refused N (ub G) (ug G) u17 a0 3 r26 u24 c25
        refine u_calli (va_runV (As := [.int 3]) (rest := []) hC.1 (met_X1_refused l N G u17 a0 3 r26 u24 c25) (cwV 1 hts (lw_V q276 q278 qs0 q98 q279) rfl rfl rfl (by decide +kernel) ⟨Nat.le_trans (Nat.le_of_ble_eq_true rfl) hR.1, Nat.le_trans (Nat.le_of_ble_eq_true rfl) hR.2⟩) ⟨uPc_blind, u_rcv hC hP c23 rfl, fun U hU hW => u_pre hC hP hS hU hW⟩ rfl rfl hl.1 rfl (lv_room (Nat.le_of_ble_eq_true rfl)) dX1_doubt_48 ⟨by omega, by omega⟩) hS (fun H locs hP hS => ?_)
        refine W.cs (cells' := u24.1 - u0.1) (slots' := u24.2.1 - u0.2.1) (by omega) (by omega) ?_
        obtain ⟨hr1, hr2⟩ := uret_n h
        subst hr1
        subst hr2
        exact u_iret hC hP hS dX1_doubt_51
    · have h := ucase_s h
      refine lv_ifnull hx hb dX1_doubt_23 ?_
      refine u_aload_n (r := some a0) hx hb dX1_doubt_26 rfl (lv_at hl 0 rfl) ?_
      refine lv_iconst (v := 5) hx hb dX1_doubt_27 (by decide) ?_
      obtain ⟨c27, h⟩ := mif_n h
      obtain ⟨r30, u28, c29, h⟩ := ucall_n h
      have zu28 := zz_X1_refused N (ub G) (ug G) u2 a0 5 r30 u28 c29
      refine u_calli (va_runV (As := [.int 5]) (rest := []) hC.1 (met_X1_refused l N G u2 a0 5 r30 u28 c29) (cwV 1 hts (lw_V q276 q278 qs0 q98 q279) rfl rfl rfl (by decide +kernel) ⟨Nat.le_trans (Nat.le_of_ble_eq_true rfl) hR.1, Nat.le_trans (Nat.le_of_ble_eq_true rfl) hR.2⟩) ⟨uPc_blind, u_rcv hC hP c27 rfl, fun U hU hW => u_pre hC hP hS hU hW⟩ rfl rfl hl.1 rfl (lv_room (Nat.le_of_ble_eq_true rfl)) dX1_doubt_28 ⟨by omega, by omega⟩) hS (fun H locs hP hS => ?_)
      refine W.cs (cells' := u28.1 - u0.1) (slots' := u28.2.1 - u0.2.1) (by omega) (by omega) ?_
      obtain ⟨hr1, hr2⟩ := uret_n h
      subst hr1
      subst hr2
      exact u_iret hC hP hS dX1_doubt_31
  · have h := mif_t c5 h
    refine u_aload_n (r := some a0) hx hb dX1_doubt_8 rfl (lv_at hl 0 rfl) ?_
    refine lv_iconst (v := 1) hx hb dX1_doubt_9 (by decide) ?_
    obtain ⟨c31, h⟩ := mif_n h
    obtain ⟨r34, u32, c33, h⟩ := ucall_n h
    have zu32 := zz_X1_refused N (ub G) (ug G) u2 a0 1 r34 u32 c33
    refine u_calli (va_runV (As := [.int 1]) (rest := []) hC.1 (met_X1_refused l N G u2 a0 1 r34 u32 c33) (cwV 1 hts (lw_V q276 q278 qs0 q98 q279) rfl rfl rfl (by decide +kernel) ⟨Nat.le_trans (Nat.le_of_ble_eq_true rfl) hR.1, Nat.le_trans (Nat.le_of_ble_eq_true rfl) hR.2⟩) ⟨uPc_blind, u_rcv hC hP c31 rfl, fun U hU hW => u_pre hC hP hS hU hW⟩ rfl rfl hl.1 rfl (lv_room (Nat.le_of_ble_eq_true rfl)) dX1_doubt_10 ⟨by omega, by omega⟩) hS (fun H locs hP hS => ?_)
    refine W.cs (cells' := u32.1 - u0.1) (slots' := u32.2.1 - u0.2.1) (by omega) (by omega) ?_
    obtain ⟨hr1, hr2⟩ := uret_n h
    subst hr1
    subst hr2
    exact u_iret hC hP hS dX1_doubt_13
theorem zz_X1_doubt (N b : Nat) (g : uEnv) (u : UH) (a0 : Nat) (x1 : Int32) (r : Int32) (uf : UH) (h : f_X1_doubt N b g u a0 x1 = some (r, uf)) : u.1 ≤ uf.1 ∧ u.2.1 ≤ uf.2.1 :=
  zz_X1_doubt_0 (G := ((fun _ => 0, fun _ _ => 0), fun _ => 0, b, g)) (a0 := a0) N u x1 h
theorem met_X1_doubt (l : Launch) (N : Nat) (G : uG) (u : UH) (a0 : Nat) (x1 : Int32) (r : Int32) (uf : UH) (h : f_X1_doubt N (ub G) (ug G) u a0 x1 = some (r, uf)) : Met l yX1_doubt (ws_ yX1_doubt cX1_doubt 3 (some .int)) ({ frames := 7, cells := (uf.1 - u.1), slots := (uf.2.1 - u.2.1), locals := 191 }) (uPc G u [.ref a0, .int x1]) (uQi G r uf) (uf.1 - u.1) (uf.2.1 - u.2.1) (uA G) := by
  exact u_met (own := RX1) (by decide +kernel) rfl (Nat.le_of_ble_eq_true rfl) (fun hC hn hsz ls hl hP => W.cs (Nat.sub_self _).symm (Nat.sub_self _).symm (w_X1_doubt_0 hC ⟨Nat.le_refl _, Nat.le_refl _⟩ ⟨Nat.le_refl _, Nat.le_refl _⟩ N u x1 h ⟨Nat.le_refl _, Nat.le_refl _⟩ hP va_S.rf hl))
def f_X1_failing_17 (N b : Nat) (g : uEnv) (a0 : Nat) (u : UH) : Option (Int32 × UH) :=
    if uIs u a0 0 = true then
    ucall (f_X1_refused N b g u a0 1) fun r4 u2 =>
    some (r4, u2)
    else none
set_option maxHeartbeats 4000000 in
set_option maxRecDepth 100000 in
theorem zz_X1_failing_17 {G : uG} {a0 : Nat} {uf : UH} {r : Int32} (N : Nat) (u : UH) (h : f_X1_failing_17 N (ub G) (ug G) a0 u = some (r, uf)) : u.1 ≤ uf.1 ∧ u.2.1 ≤ uf.2.1 := by
  unfold f_X1_failing_17 at h
  obtain ⟨c1, h⟩ := mif_n h
  obtain ⟨r4, u2, c3, h⟩ := ucall_n h
  have zu2 := zz_X1_refused N (ub G) (ug G) u a0 1 r4 u2 c3
  obtain ⟨hr1, hr2⟩ := uret_n h
  subst hr2
  exact ⟨by omega, by omega⟩
set_option maxHeartbeats 4000000 in
set_option maxRecDepth 100000 in
theorem w_X1_failing_17 {p : Program} {l : Launch} {e : Env} {R : Room} {s : State} {m : MethodId} {args : Array Value} {below : List Frame} {meth : Method} {c : Code} {G : uG} {a0 : Nat} {u0 : UH} {uf : UH} {r : Int32} (hC : uC p s m args meth c G RX1 cX1_failing 9 (some .int)) (hR : 28 ≤ R.frames ∧ 1384 ≤ R.locals) (hRm : uf.1 - u0.1 ≤ R.cells ∧ uf.2.1 - u0.2.1 ≤ R.slots) (N : Nat) (u : UH) (h : f_X1_failing_17 N (ub G) (ug G) a0 u = some (r, uf)) (hz0 : (u0.1 ≤ u.1 ∧ u0.2.1 ≤ u.2.1)) {H : Heap} {locs : List Loc} (hP : uP G u H) (hS : va_S (uA G) s.heap H locs) {ls : Array Slot} (hl : lv_has ls 9 [(0, va_rf (some a0))]) : W p l e R s m args below meth c H locs (u.1 - u0.1) (u.2.1 - u0.2.1) (MQ below (uQi G r uf) args s (uf.1 - u0.1) (uf.2.1 - u0.2.1) (uA G)) (F0 m 17 ls []) := by
  obtain ⟨⟨hx, hb, hml, hown, hts⟩, hKK⟩ := id hC
  have hzf := zz_X1_failing_17 (G := G) (a0 := a0) N u h
  unfold f_X1_failing_17 at h
  refine u_aload_n (r := some a0) hx hb dX1_failing_17 rfl (lv_at hl 0 rfl) ?_
  refine lv_iconst (v := 1) hx hb dX1_failing_18 (by decide) ?_
  obtain ⟨c1, h⟩ := mif_n h
  obtain ⟨r4, u2, c3, h⟩ := ucall_n h
  have zu2 := zz_X1_refused N (ub G) (ug G) u a0 1 r4 u2 c3
  refine u_calli (va_runV (As := [.int 1]) (rest := []) hC.1 (met_X1_refused l N G u a0 1 r4 u2 c3) (cwV 1 hts (lw_V q276 q278 qs0 q98 q279) rfl rfl rfl (by decide +kernel) ⟨Nat.le_trans (Nat.le_of_ble_eq_true rfl) hR.1, Nat.le_trans (Nat.le_of_ble_eq_true rfl) hR.2⟩) ⟨uPc_blind, u_rcv hC hP c1 rfl, fun U hU hW => u_pre hC hP hS hU hW⟩ rfl rfl hl.1 rfl (lv_room (Nat.le_of_ble_eq_true rfl)) dX1_failing_19 ⟨by omega, by omega⟩) hS (fun H locs hP hS => ?_)
  refine W.cs (cells' := u2.1 - u0.1) (slots' := u2.2.1 - u0.2.1) (by omega) (by omega) ?_
  obtain ⟨hr1, hr2⟩ := uret_n h
  subst hr1
  subst hr2
  exact u_iret hC hP hS dX1_failing_22
def f_X1_failing_134 (N b : Nat) (g : uEnv) (a0 : Nat) (k65 : UH → Int32 → Int32 → Int32 → Int32 → Int32 → Int32 → Option (Int32 × UH)) (u : UH) (x1 : Int32) (x2 : Int32) (x3 : Int32) (x4 : Int32) (x5 : Int32) (x6 : Int32) : Option (Int32 × UH) :=
    mlet (x6 + 1) fun y1 =>
    k65 u x1 x2 x3 x4 x5 y1
set_option maxHeartbeats 4000000 in
set_option maxRecDepth 100000 in
theorem zz_X1_failing_134 {G : uG} {a0 : Nat} {uf : UH} {r : Int32} (N : Nat) (k65 : UH → Int32 → Int32 → Int32 → Int32 → Int32 → Int32 → Option (Int32 × UH)) (hk65 : ∀ (u : UH) (x1 : Int32) (x2 : Int32) (x3 : Int32) (x4 : Int32) (x5 : Int32) (x6 : Int32), k65 u x1 x2 x3 x4 x5 x6 = some (r, uf) → u.1 ≤ uf.1 ∧ u.2.1 ≤ uf.2.1) (u : UH) (x1 : Int32) (x2 : Int32) (x3 : Int32) (x4 : Int32) (x5 : Int32) (x6 : Int32) (h : f_X1_failing_134 N (ub G) (ug G) a0 k65 u x1 x2 x3 x4 x5 x6 = some (r, uf)) : u.1 ≤ uf.1 ∧ u.2.1 ≤ uf.2.1 := by
  unfold f_X1_failing_134 at h
  obtain ⟨y1, ey1⟩ : ∃ z : Int32, z = x6 + 1 := ⟨_, rfl⟩
  have h := mlet_at ey1 h
  have hq := hk65 u x1 x2 x3 x4 x5 y1 h
  exact ⟨by omega, by omega⟩
set_option maxHeartbeats 4000000 in
set_option maxRecDepth 100000 in
theorem w_X1_failing_134 {p : Program} {l : Launch} {e : Env} {R : Room} {s : State} {m : MethodId} {args : Array Value} {below : List Frame} {meth : Method} {c : Code} {G : uG} {a0 : Nat} {u0 : UH} {uf : UH} {r : Int32} (hC : uC p s m args meth c G RX1 cX1_failing 9 (some .int)) (hR : 28 ≤ R.frames ∧ 1384 ≤ R.locals) (hRm : uf.1 - u0.1 ≤ R.cells ∧ uf.2.1 - u0.2.1 ≤ R.slots) (N : Nat) (k65 : UH → Int32 → Int32 → Int32 → Int32 → Int32 → Int32 → Option (Int32 × UH)) (hk65 : ∀ (u : UH) (x1 : Int32) (x2 : Int32) (x3 : Int32) (x4 : Int32) (x5 : Int32) (x6 : Int32), k65 u x1 x2 x3 x4 x5 x6 = some (r, uf) → (u0.1 ≤ u.1 ∧ u0.2.1 ≤ u.2.1) → ∀ (H : Heap) (locs : List Loc), uP G u H → va_S (uA G) s.heap H locs → ∀ ls : Array Slot, lv_has ls 9 [(0, va_rf (some a0)), (1, .int x1), (2, .int x2), (3, .int x3), (4, .int x4), (5, .int x5), (6, .int x6)] → W p l e R s m args below meth c H locs (u.1 - u0.1) (u.2.1 - u0.2.1) (MQ below (uQi G r uf) args s (uf.1 - u0.1) (uf.2.1 - u0.2.1) (uA G)) (F0 m 65 ls [])) (zk65 : ∀ (u : UH) (x1 : Int32) (x2 : Int32) (x3 : Int32) (x4 : Int32) (x5 : Int32) (x6 : Int32), k65 u x1 x2 x3 x4 x5 x6 = some (r, uf) → u.1 ≤ uf.1 ∧ u.2.1 ≤ uf.2.1) (u : UH) (x1 : Int32) (x2 : Int32) (x3 : Int32) (x4 : Int32) (x5 : Int32) (x6 : Int32) (h : f_X1_failing_134 N (ub G) (ug G) a0 k65 u x1 x2 x3 x4 x5 x6 = some (r, uf)) (hz0 : (u0.1 ≤ u.1 ∧ u0.2.1 ≤ u.2.1)) {H : Heap} {locs : List Loc} (hP : uP G u H) (hS : va_S (uA G) s.heap H locs) {ls : Array Slot} (hl : lv_has ls 9 [(0, va_rf (some a0)), (1, .int x1), (2, .int x2), (3, .int x3), (4, .int x4), (5, .int x5), (6, .int x6)]) : W p l e R s m args below meth c H locs (u.1 - u0.1) (u.2.1 - u0.2.1) (MQ below (uQi G r uf) args s (uf.1 - u0.1) (uf.2.1 - u0.2.1) (uA G)) (F0 m 134 ls []) := by
  obtain ⟨⟨hx, hb, hml, hown, hts⟩, hKK⟩ := id hC
  have hzf := zz_X1_failing_134 (G := G) (a0 := a0) N k65 zk65 u x1 x2 x3 x4 x5 x6 h
  unfold f_X1_failing_134 at h
  obtain ⟨y1, ey1⟩ : ∃ z : Int32, z = x6 + 1 := ⟨_, rfl⟩
  have h := mlet_at ey1 h
  refine lv_iinc (v := y1) (lv' := [(6, .int y1), (0, va_rf (some a0)), (1, .int x1), (2, .int x2), (3, .int x3), (4, .int x4), (5, .int x5)]) hx hb dX1_failing_134 hl (k := 6) rfl (by rw [ey1]; rfl) (by decide) rfl (fun ls hl => ?_)
  refine lv_goto (tgt := 65) hx hb dX1_failing_137 (by decide) ?_
  refine W.cs (cells' := u.1 - u0.1) (slots' := u.2.1 - u0.2.1) (by omega) (by omega) ?_
  exact hk65 u x1 x2 x3 x4 x5 y1 h ⟨by omega, by omega⟩ _ _ hP hS _ (lv_sub hl [1, 2, 3, 4, 5, 6, 0] rfl)
def f_X1_failing_131 (N b : Nat) (g : uEnv) (a0 : Nat) (k65 : UH → Int32 → Int32 → Int32 → Int32 → Int32 → Int32 → Option (Int32 × UH)) (u : UH) (x1 : Int32) (x2 : Int32) (x3 : Int32) (x4 : Int32) (x5 : Int32) (x6 : Int32) : Option (Int32 × UH) :=
    mlet (x5 + 1) fun y1 =>
    f_X1_failing_134 N b g a0 k65 u x1 x2 x3 x4 y1 x6
set_option maxHeartbeats 4000000 in
set_option maxRecDepth 100000 in
theorem zz_X1_failing_131 {G : uG} {a0 : Nat} {uf : UH} {r : Int32} (N : Nat) (k65 : UH → Int32 → Int32 → Int32 → Int32 → Int32 → Int32 → Option (Int32 × UH)) (hk65 : ∀ (u : UH) (x1 : Int32) (x2 : Int32) (x3 : Int32) (x4 : Int32) (x5 : Int32) (x6 : Int32), k65 u x1 x2 x3 x4 x5 x6 = some (r, uf) → u.1 ≤ uf.1 ∧ u.2.1 ≤ uf.2.1) (u : UH) (x1 : Int32) (x2 : Int32) (x3 : Int32) (x4 : Int32) (x5 : Int32) (x6 : Int32) (h : f_X1_failing_131 N (ub G) (ug G) a0 k65 u x1 x2 x3 x4 x5 x6 = some (r, uf)) : u.1 ≤ uf.1 ∧ u.2.1 ≤ uf.2.1 := by
  unfold f_X1_failing_131 at h
  obtain ⟨y1, ey1⟩ : ∃ z : Int32, z = x5 + 1 := ⟨_, rfl⟩
  have h := mlet_at ey1 h
  have hq := zz_X1_failing_134 (G := G) (a0 := a0) N k65 hk65 u x1 x2 x3 x4 y1 x6 h
  exact ⟨by omega, by omega⟩
set_option maxHeartbeats 4000000 in
set_option maxRecDepth 100000 in
theorem w_X1_failing_131 {p : Program} {l : Launch} {e : Env} {R : Room} {s : State} {m : MethodId} {args : Array Value} {below : List Frame} {meth : Method} {c : Code} {G : uG} {a0 : Nat} {u0 : UH} {uf : UH} {r : Int32} (hC : uC p s m args meth c G RX1 cX1_failing 9 (some .int)) (hR : 28 ≤ R.frames ∧ 1384 ≤ R.locals) (hRm : uf.1 - u0.1 ≤ R.cells ∧ uf.2.1 - u0.2.1 ≤ R.slots) (N : Nat) (k65 : UH → Int32 → Int32 → Int32 → Int32 → Int32 → Int32 → Option (Int32 × UH)) (hk65 : ∀ (u : UH) (x1 : Int32) (x2 : Int32) (x3 : Int32) (x4 : Int32) (x5 : Int32) (x6 : Int32), k65 u x1 x2 x3 x4 x5 x6 = some (r, uf) → (u0.1 ≤ u.1 ∧ u0.2.1 ≤ u.2.1) → ∀ (H : Heap) (locs : List Loc), uP G u H → va_S (uA G) s.heap H locs → ∀ ls : Array Slot, lv_has ls 9 [(0, va_rf (some a0)), (1, .int x1), (2, .int x2), (3, .int x3), (4, .int x4), (5, .int x5), (6, .int x6)] → W p l e R s m args below meth c H locs (u.1 - u0.1) (u.2.1 - u0.2.1) (MQ below (uQi G r uf) args s (uf.1 - u0.1) (uf.2.1 - u0.2.1) (uA G)) (F0 m 65 ls [])) (zk65 : ∀ (u : UH) (x1 : Int32) (x2 : Int32) (x3 : Int32) (x4 : Int32) (x5 : Int32) (x6 : Int32), k65 u x1 x2 x3 x4 x5 x6 = some (r, uf) → u.1 ≤ uf.1 ∧ u.2.1 ≤ uf.2.1) (u : UH) (x1 : Int32) (x2 : Int32) (x3 : Int32) (x4 : Int32) (x5 : Int32) (x6 : Int32) (h : f_X1_failing_131 N (ub G) (ug G) a0 k65 u x1 x2 x3 x4 x5 x6 = some (r, uf)) (hz0 : (u0.1 ≤ u.1 ∧ u0.2.1 ≤ u.2.1)) {H : Heap} {locs : List Loc} (hP : uP G u H) (hS : va_S (uA G) s.heap H locs) {ls : Array Slot} (hl : lv_has ls 9 [(0, va_rf (some a0)), (1, .int x1), (2, .int x2), (3, .int x3), (4, .int x4), (5, .int x5), (6, .int x6)]) : W p l e R s m args below meth c H locs (u.1 - u0.1) (u.2.1 - u0.2.1) (MQ below (uQi G r uf) args s (uf.1 - u0.1) (uf.2.1 - u0.2.1) (uA G)) (F0 m 131 ls []) := by
  obtain ⟨⟨hx, hb, hml, hown, hts⟩, hKK⟩ := id hC
  have hzf := zz_X1_failing_131 (G := G) (a0 := a0) N k65 zk65 u x1 x2 x3 x4 x5 x6 h
  unfold f_X1_failing_131 at h
  obtain ⟨y1, ey1⟩ : ∃ z : Int32, z = x5 + 1 := ⟨_, rfl⟩
  have h := mlet_at ey1 h
  refine lv_iinc (v := y1) (lv' := [(5, .int y1), (0, va_rf (some a0)), (1, .int x1), (2, .int x2), (3, .int x3), (4, .int x4), (6, .int x6)]) hx hb dX1_failing_131 hl (k := 5) rfl (by rw [ey1]; rfl) (by decide) rfl (fun ls hl => ?_)
  refine W.cs (cells' := u.1 - u0.1) (slots' := u.2.1 - u0.2.1) (by omega) (by omega) ?_
  exact w_X1_failing_134 hC hR hRm N k65 hk65 zk65 u x1 x2 x3 x4 y1 x6 h ⟨by omega, by omega⟩ hP hS (lv_sub hl [1, 2, 3, 4, 5, 0, 6] rfl)
def f_X1_failing_85 (N b : Nat) (g : uEnv) (a0 : Nat) (k65 : UH → Int32 → Int32 → Int32 → Int32 → Int32 → Int32 → Option (Int32 × UH)) (u : UH) (x1 : Int32) (x2 : Int32) (x3 : Int32) (x4 : Int32) (x5 : Int32) (x6 : Int32) (s0 : Option Nat) : Option (Int32 × UH) :=
    (s0).bind fun a1 =>
    if uIs u a1 16 = true then
    ucall (f_X18_fails N b g u a1 x3 x4) fun r5 u3 =>
    if r5 = 0 then
    f_X1_failing_134 N b g a0 k65 u3 x1 x2 x3 x4 x5 x6
    else
    if x5 = 0 then
    (uPut b u3 a0 0 11 (.int x6)).bind fun u8 =>
    (uPut b u8 a0 0 12 (.int r5)).bind fun u9 =>
    (uGI u9 a1 16 6).bind fun y10 =>
    (uPut b u9 a0 0 13 (.int y10)).bind fun u11 =>
    f_X1_failing_131 N b g a0 k65 u11 x1 x2 x3 x4 x5 x6
    else
    f_X1_failing_131 N b g a0 k65 u3 x1 x2 x3 x4 x5 x6
    else none
set_option maxHeartbeats 4000000 in
set_option maxRecDepth 100000 in
theorem zz_X1_failing_85 {G : uG} {a0 : Nat} {uf : UH} {r : Int32} (N : Nat) (k65 : UH → Int32 → Int32 → Int32 → Int32 → Int32 → Int32 → Option (Int32 × UH)) (hk65 : ∀ (u : UH) (x1 : Int32) (x2 : Int32) (x3 : Int32) (x4 : Int32) (x5 : Int32) (x6 : Int32), k65 u x1 x2 x3 x4 x5 x6 = some (r, uf) → u.1 ≤ uf.1 ∧ u.2.1 ≤ uf.2.1) (u : UH) (x1 : Int32) (x2 : Int32) (x3 : Int32) (x4 : Int32) (x5 : Int32) (x6 : Int32) (s0 : Option Nat) (h : f_X1_failing_85 N (ub G) (ug G) a0 k65 u x1 x2 x3 x4 x5 x6 s0 = some (r, uf)) : u.1 ≤ uf.1 ∧ u.2.1 ≤ uf.2.1 := by
  unfold f_X1_failing_85 at h
  obtain ⟨a1, ha1, hha1⟩ := mbind_n h
  subst ha1
  have h := hha1
  obtain ⟨c2, h⟩ := mif_n h
  obtain ⟨r5, u3, c4, h⟩ := ucall_n h
  have zu3 := zz_X18_fails N (ub G) (ug G) u a1 x3 x4 r5 u3 c4
  by_cases c6 : r5 = 0
  · have h := mif_t c6 h
    have hq := zz_X1_failing_134 (G := G) (a0 := a0) N k65 hk65 u3 x1 x2 x3 x4 x5 x6 h
    exact ⟨by omega, by omega⟩
  · have h := mif_f c6 h
    by_cases c7 : x5 = 0
    · have h := mif_t c7 h
      obtain ⟨u8, hu8, h⟩ := mbind_n h
      have zu8 := uPut_sz hu8
      obtain ⟨u9, hu9, h⟩ := mbind_n h
      have zu9 := uPut_sz hu9
      obtain ⟨y10, hy10, h⟩ := mbind_n h
      obtain ⟨u11, hu11, h⟩ := mbind_n h
      have zu11 := uPut_sz hu11
      have hq := zz_X1_failing_131 (G := G) (a0 := a0) N k65 hk65 u11 x1 x2 x3 x4 x5 x6 h
      exact ⟨by omega, by omega⟩
    · have h := mif_f c7 h
      have hq := zz_X1_failing_131 (G := G) (a0 := a0) N k65 hk65 u3 x1 x2 x3 x4 x5 x6 h
      exact ⟨by omega, by omega⟩
set_option maxHeartbeats 4000000 in
set_option maxRecDepth 100000 in
theorem w_X1_failing_85 {p : Program} {l : Launch} {e : Env} {R : Room} {s : State} {m : MethodId} {args : Array Value} {below : List Frame} {meth : Method} {c : Code} {G : uG} {a0 : Nat} {u0 : UH} {uf : UH} {r : Int32} (hC : uC p s m args meth c G RX1 cX1_failing 9 (some .int)) (hR : 28 ≤ R.frames ∧ 1384 ≤ R.locals) (hRm : uf.1 - u0.1 ≤ R.cells ∧ uf.2.1 - u0.2.1 ≤ R.slots) (N : Nat) (k65 : UH → Int32 → Int32 → Int32 → Int32 → Int32 → Int32 → Option (Int32 × UH)) (hk65 : ∀ (u : UH) (x1 : Int32) (x2 : Int32) (x3 : Int32) (x4 : Int32) (x5 : Int32) (x6 : Int32), k65 u x1 x2 x3 x4 x5 x6 = some (r, uf) → (u0.1 ≤ u.1 ∧ u0.2.1 ≤ u.2.1) → ∀ (H : Heap) (locs : List Loc), uP G u H → va_S (uA G) s.heap H locs → ∀ ls : Array Slot, lv_has ls 9 [(0, va_rf (some a0)), (1, .int x1), (2, .int x2), (3, .int x3), (4, .int x4), (5, .int x5), (6, .int x6)] → W p l e R s m args below meth c H locs (u.1 - u0.1) (u.2.1 - u0.2.1) (MQ below (uQi G r uf) args s (uf.1 - u0.1) (uf.2.1 - u0.2.1) (uA G)) (F0 m 65 ls [])) (zk65 : ∀ (u : UH) (x1 : Int32) (x2 : Int32) (x3 : Int32) (x4 : Int32) (x5 : Int32) (x6 : Int32), k65 u x1 x2 x3 x4 x5 x6 = some (r, uf) → u.1 ≤ uf.1 ∧ u.2.1 ≤ uf.2.1) (u : UH) (x1 : Int32) (x2 : Int32) (x3 : Int32) (x4 : Int32) (x5 : Int32) (x6 : Int32) (s0 : Option Nat) (h : f_X1_failing_85 N (ub G) (ug G) a0 k65 u x1 x2 x3 x4 x5 x6 s0 = some (r, uf)) (hz0 : (u0.1 ≤ u.1 ∧ u0.2.1 ≤ u.2.1)) {H : Heap} {locs : List Loc} (hP : uP G u H) (hS : va_S (uA G) s.heap H locs) {ls : Array Slot} (hl : lv_has ls 9 [(0, va_rf (some a0)), (1, .int x1), (2, .int x2), (3, .int x3), (4, .int x4), (5, .int x5), (6, .int x6)]) : W p l e R s m args below meth c H locs (u.1 - u0.1) (u.2.1 - u0.2.1) (MQ below (uQi G r uf) args s (uf.1 - u0.1) (uf.2.1 - u0.2.1) (uA G)) (F0 m 85 ls [va_rf s0]) := by
  obtain ⟨⟨hx, hb, hml, hown, hts⟩, hKK⟩ := id hC
  have hzf := zz_X1_failing_85 (G := G) (a0 := a0) N k65 zk65 u x1 x2 x3 x4 x5 x6 s0 h
  unfold f_X1_failing_85 at h
  refine u_astore (r := s0) (lv' := [(7, va_rf s0), (0, va_rf (some a0)), (1, .int x1), (2, .int x2), (3, .int x3), (4, .int x4), (5, .int x5), (6, .int x6)]) hx hb dX1_failing_85 hl (by decide) rfl (fun ls hl => ?_)
  refine u_aload (r := s0) hx hb dX1_failing_87 (lv_at hl 0 rfl) ?_
  refine lv_iload_n hx hb dX1_failing_89 rfl (lv_at hl 4 rfl) ?_
  refine lv_iload hx hb dX1_failing_90 (lv_at hl 5 rfl) ?_
  obtain ⟨a1, ha1, hha1⟩ := mbind_n h
  subst ha1
  have h := hha1
  obtain ⟨c2, h⟩ := mif_n h
  obtain ⟨r5, u3, c4, h⟩ := ucall_n h
  have zu3 := zz_X18_fails N (ub G) (ug G) u a1 x3 x4 r5 u3 c4
  refine u_calli (va_runV (As := [.int x3, .int x4]) (rest := []) hC.1 (met_X18_fails l N G u a1 x3 x4 r5 u3 c4) (cwV 2 hts (lw_V q1732 q1733 q1734 q140 q1735) rfl rfl rfl (by decide +kernel) ⟨Nat.le_trans (Nat.le_of_ble_eq_true rfl) hR.1, Nat.le_trans (Nat.le_of_ble_eq_true rfl) hR.2⟩) ⟨uPc_blind, u_rcv hC hP c2 rfl, fun U hU hW => u_pre hC hP hS hU hW⟩ rfl rfl hl.1 rfl (lv_room (Nat.le_of_ble_eq_true rfl)) dX1_failing_92 ⟨by omega, by omega⟩) hS (fun H locs hP hS => ?_)
  refine W.cs (cells' := u3.1 - u0.1) (slots' := u3.2.1 - u0.2.1) (by omega) (by omega) ?_
  refine lv_istore (lv' := [(8, .int r5), (7, va_rf (some a1)), (0, va_rf (some a0)), (1, .int x1), (2, .int x2), (3, .int x3), (4, .int x4), (5, .int x5), (6, .int x6)]) hx hb dX1_failing_95 hl (by decide) rfl (fun ls hl => ?_)
  refine lv_iload hx hb dX1_failing_97 (lv_at hl 0 rfl) ?_
  refine lv_if_ne (tgt := 105) hx hb dX1_failing_99 (by decide) (fun c6 => ?_) (fun c6 => ?_)
  · have h := mif_f c6 h
    refine lv_iload hx hb dX1_failing_105 (lv_at hl 7 rfl) ?_
    refine lv_if_ne (tgt := 131) hx hb dX1_failing_107 (by decide) (fun c7 => ?_) (fun c7 => ?_)
    · have h := mif_f c7 h
      refine W.cs (cells' := u3.1 - u0.1) (slots' := u3.2.1 - u0.2.1) (by omega) (by omega) ?_
      exact w_X1_failing_131 hC hR hRm N k65 hk65 zk65 u3 x1 x2 x3 x4 x5 x6 h ⟨by omega, by omega⟩ hP hS (lv_sub hl [2, 3, 4, 5, 6, 7, 8] rfl)
    · have h := mif_t c7 h
      refine u_aload_n (r := some a0) hx hb dX1_failing_110 rfl (lv_at hl 2 rfl) ?_
      refine lv_iload hx hb dX1_failing_111 (lv_at hl 8 rfl) ?_
      obtain ⟨u8, hu8, h⟩ := mbind_n h
      have zu8 := uPut_sz hu8
      refine u_put hC hP hS hu8 rfl in_X1 tyX1 tyX1_ok nmX1 (by decide) q226 (fun _ h => h) rfl (ty := .int) (tyX1_ok 11 (by decide)) rfl rfl dX1_failing_113 (fun H locs hP hS => ?_)
      refine W.cs (cells' := u8.1 - u0.1) (slots' := u8.2.1 - u0.2.1) (by omega) (by omega) ?_
      refine u_aload_n (r := some a0) hx hb dX1_failing_116 rfl (lv_at hl 2 rfl) ?_
      refine lv_iload hx hb dX1_failing_117 (lv_at hl 0 rfl) ?_
      obtain ⟨u9, hu9, h⟩ := mbind_n h
      have zu9 := uPut_sz hu9
      refine u_put hC hP hS hu9 rfl in_X1 tyX1 tyX1_ok nmX1 (by decide) q227 (fun _ h => h) rfl (ty := .int) (tyX1_ok 12 (by decide)) rfl rfl dX1_failing_119 (fun H locs hP hS => ?_)
      refine W.cs (cells' := u9.1 - u0.1) (slots' := u9.2.1 - u0.2.1) (by omega) (by omega) ?_
      refine u_aload_n (r := some a0) hx hb dX1_failing_122 rfl (lv_at hl 2 rfl) ?_
      refine u_aload (r := some a1) hx hb dX1_failing_123 (lv_at hl 1 rfl) ?_
      obtain ⟨y10, hy10, h⟩ := mbind_n h
      refine u_getN hC hP (uGI_n hy10) rfl in_X18 (by decide) q1661 (fun _ h => h) dX1_failing_125 ?_
      obtain ⟨u11, hu11, h⟩ := mbind_n h
      have zu11 := uPut_sz hu11
      refine u_put hC hP hS hu11 rfl in_X1 tyX1 tyX1_ok nmX1 (by decide) q228 (fun _ h => h) rfl (ty := .int) (tyX1_ok 13 (by decide)) rfl rfl dX1_failing_128 (fun H locs hP hS => ?_)
      refine W.cs (cells' := u11.1 - u0.1) (slots' := u11.2.1 - u0.2.1) (by omega) (by omega) ?_
      refine W.cs (cells' := u11.1 - u0.1) (slots' := u11.2.1 - u0.2.1) (by omega) (by omega) ?_
      exact w_X1_failing_131 hC hR hRm N k65 hk65 zk65 u11 x1 x2 x3 x4 x5 x6 h ⟨by omega, by omega⟩ hP hS (lv_sub hl [2, 3, 4, 5, 6, 7, 8] rfl)
  · have h := mif_t c6 h
    refine lv_goto (tgt := 134) hx hb dX1_failing_102 (by decide) ?_
    refine W.cs (cells' := u3.1 - u0.1) (slots' := u3.2.1 - u0.2.1) (by omega) (by omega) ?_
    exact w_X1_failing_134 hC hR hRm N k65 hk65 zk65 u3 x1 x2 x3 x4 x5 x6 h ⟨by omega, by omega⟩ hP hS (lv_sub hl [2, 3, 4, 5, 6, 7, 8] rfl)
def f_X1_failing_65 (N b : Nat) (g : uEnv) (a0 : Nat) : Nat → UH → Int32 → Int32 → Int32 → Int32 → Int32 → Int32 → Option (Int32 × UH)
  | 0, _, _, _, _, _, _, _ => none
  | n + 1, u, x1, x2, x3, x4, x5, x6 =>
    (uGR u a0 0 7).bind fun o1 =>
    (o1).bind fun a2 =>
    if uIs u a2 12 = true then
    ucall (f_X14_truths N b g u a2) fun r6 u4 =>
    if r6 ≤ x6 then
    if uIs u4 a0 0 = true then
    ucall (f_X1_done N b g u4 a0 x5) fun r11 u9 =>
    some (r11, u9)
    else none
    else
    if uIs u4 a0 0 = true then
    ucall (f_X1_walk N b g u4 a0 x1 x2 x6) fun o15 u13 =>
    f_X1_failing_85 N b g a0 (f_X1_failing_65 N b g a0 n) u13 x1 x2 x3 x4 x5 x6 o15
    else none
    else none
set_option maxHeartbeats 4000000 in
set_option maxRecDepth 100000 in
theorem zz_X1_failing_65 {G : uG} {a0 : Nat} {uf : UH} {r : Int32} (N : Nat) : ∀ (n : Nat) (u : UH) (x1 : Int32) (x2 : Int32) (x3 : Int32) (x4 : Int32) (x5 : Int32) (x6 : Int32), f_X1_failing_65 N (ub G) (ug G) a0 n u x1 x2 x3 x4 x5 x6 = some (r, uf) → u.1 ≤ uf.1 ∧ u.2.1 ≤ uf.2.1 := by
  intro n
  induction n with
  | zero =>
    intro u x1 x2 x3 x4 x5 x6 h
    cases h
  | succ n ih =>
    intro u x1 x2 x3 x4 x5 x6 h
    unfold f_X1_failing_65 at h
    obtain ⟨o1, ho1, h⟩ := mbind_n h
    obtain ⟨a2, ha2, hha2⟩ := mbind_n h
    subst ha2
    have h := hha2
    obtain ⟨c3, h⟩ := mif_n h
    obtain ⟨r6, u4, c5, h⟩ := ucall_n h
    have zu4 := zz_X14_truths N (ub G) (ug G) u a2 r6 u4 c5
    by_cases c7 : r6 ≤ x6
    · have h := mif_t c7 h
      obtain ⟨c8, h⟩ := mif_n h
      obtain ⟨r11, u9, c10, h⟩ := ucall_n h
      have zu9 := zz_X1_done N (ub G) (ug G) u4 a0 x5 r11 u9 c10
      obtain ⟨hr1, hr2⟩ := uret_n h
      subst hr2
      exact ⟨by omega, by omega⟩
    · have h := mif_f c7 h
      obtain ⟨c12, h⟩ := mif_n h
      obtain ⟨o15, u13, c14, h⟩ := ucall_n h
      have zu13 := zz_X1_walk N (ub G) (ug G) u4 a0 x1 x2 x6 o15 u13 c14
      have hq := zz_X1_failing_85 (G := G) (a0 := a0) N (f_X1_failing_65 N (ub G) (ug G) a0 n) ih u13 x1 x2 x3 x4 x5 x6 o15 h
      exact ⟨by omega, by omega⟩
set_option maxHeartbeats 4000000 in
set_option maxRecDepth 100000 in
theorem w_X1_failing_65 {p : Program} {l : Launch} {e : Env} {R : Room} {s : State} {m : MethodId} {args : Array Value} {below : List Frame} {meth : Method} {c : Code} {G : uG} {a0 : Nat} {u0 : UH} {uf : UH} {r : Int32} (hC : uC p s m args meth c G RX1 cX1_failing 9 (some .int)) (hR : 28 ≤ R.frames ∧ 1384 ≤ R.locals) (hRm : uf.1 - u0.1 ≤ R.cells ∧ uf.2.1 - u0.2.1 ≤ R.slots) (N : Nat) : ∀ (n : Nat) (u : UH) (x1 : Int32) (x2 : Int32) (x3 : Int32) (x4 : Int32) (x5 : Int32) (x6 : Int32), f_X1_failing_65 N (ub G) (ug G) a0 n u x1 x2 x3 x4 x5 x6 = some (r, uf) → (u0.1 ≤ u.1 ∧ u0.2.1 ≤ u.2.1) → ∀ (H : Heap) (locs : List Loc), uP G u H → va_S (uA G) s.heap H locs → ∀ ls : Array Slot, lv_has ls 9 [(0, va_rf (some a0)), (1, .int x1), (2, .int x2), (3, .int x3), (4, .int x4), (5, .int x5), (6, .int x6)] → W p l e R s m args below meth c H locs (u.1 - u0.1) (u.2.1 - u0.2.1) (MQ below (uQi G r uf) args s (uf.1 - u0.1) (uf.2.1 - u0.2.1) (uA G)) (F0 m 65 ls []) := by
  obtain ⟨⟨hx, hb, hml, hown, hts⟩, hKK⟩ := id hC
  intro n
  induction n with
  | zero =>
    intro u x1 x2 x3 x4 x5 x6 h
    cases h
  | succ n ih =>
    intro u x1 x2 x3 x4 x5 x6 h hz0 H locs hP hS ls hl
    have hzf := zz_X1_failing_65 (G := G) (a0 := a0) N (n + 1) u x1 x2 x3 x4 x5 x6 h
    unfold f_X1_failing_65 at h
    refine lv_iload hx hb dX1_failing_65 (lv_at hl 6 rfl) ?_
    refine u_aload_n (r := some a0) hx hb dX1_failing_67 rfl (lv_at hl 0 rfl) ?_
    obtain ⟨o1, ho1, h⟩ := mbind_n h
    refine u_get hC hP (uGR_n ho1) rfl in_X1 (by decide) q222 (fun _ h => h) dX1_failing_68 ?_
    obtain ⟨a2, ha2, hha2⟩ := mbind_n h
    subst ha2
    have h := hha2
    obtain ⟨c3, h⟩ := mif_n h
    obtain ⟨r6, u4, c5, h⟩ := ucall_n h
    have zu4 := zz_X14_truths N (ub G) (ug G) u a2 r6 u4 c5
    refine u_calli (va_runV (As := []) (rest := [.int x6]) hC.1 (met_X14_truths l N G u a2 r6 u4 c5) (cwV 0 hts (lw_V q1465 q1466 q1467 q131 q1468) rfl rfl rfl (by decide +kernel) ⟨Nat.le_trans (Nat.le_of_ble_eq_true rfl) hR.1, Nat.le_trans (Nat.le_of_ble_eq_true rfl) hR.2⟩) ⟨uPc_blind, u_rcv hC hP c3 rfl, fun U hU hW => u_pre hC hP hS hU hW⟩ rfl rfl hl.1 rfl (lv_room (Nat.le_of_ble_eq_true rfl)) dX1_failing_71 ⟨by omega, by omega⟩) hS (fun H locs hP hS => ?_)
    refine W.cs (cells' := u4.1 - u0.1) (slots' := u4.2.1 - u0.2.1) (by omega) (by omega) ?_
    refine lv_icmp_ge (tgt := 140) hx hb dX1_failing_74 (by decide) (fun c7 => ?_) (fun c7 => ?_)
    · have h := mif_t c7 h
      refine u_aload_n (r := some a0) hx hb dX1_failing_140 rfl (lv_at hl 0 rfl) ?_
      refine lv_iload hx hb dX1_failing_141 (lv_at hl 5 rfl) ?_
      obtain ⟨c8, h⟩ := mif_n h
      obtain ⟨r11, u9, c10, h⟩ := ucall_n h
      have zu9 := zz_X1_done N (ub G) (ug G) u4 a0 x5 r11 u9 c10
      refine u_calli (va_runV (As := [.int x5]) (rest := []) hC.1 (met_X1_done l N G u4 a0 x5 r11 u9 c10) (cwV 1 hts (lw_V q1064 q1066 qs14 q98 q1067) rfl rfl rfl (by decide +kernel) ⟨Nat.le_trans (Nat.le_of_ble_eq_true rfl) hR.1, Nat.le_trans (Nat.le_of_ble_eq_true rfl) hR.2⟩) ⟨uPc_blind, u_rcv hC hP c8 rfl, fun U hU hW => u_pre hC hP hS hU hW⟩ rfl rfl hl.1 rfl (lv_room (Nat.le_of_ble_eq_true rfl)) dX1_failing_143 ⟨by omega, by omega⟩) hS (fun H locs hP hS => ?_)
      refine W.cs (cells' := u9.1 - u0.1) (slots' := u9.2.1 - u0.2.1) (by omega) (by omega) ?_
      obtain ⟨hr1, hr2⟩ := uret_n h
      subst hr1
      subst hr2
      exact u_iret hC hP hS dX1_failing_146
    · have h := mif_f c7 h
      refine u_aload_n (r := some a0) hx hb dX1_failing_77 rfl (lv_at hl 0 rfl) ?_
      refine lv_iload_n hx hb dX1_failing_78 rfl (lv_at hl 1 rfl) ?_
      refine lv_iload_n hx hb dX1_failing_79 rfl (lv_at hl 2 rfl) ?_
      refine lv_iload hx hb dX1_failing_80 (lv_at hl 6 rfl) ?_
      obtain ⟨c12, h⟩ := mif_n h
      obtain ⟨o15, u13, c14, h⟩ := ucall_n h
      have zu13 := zz_X1_walk N (ub G) (ug G) u4 a0 x1 x2 x6 o15 u13 c14
      have hq := zz_X1_failing_85 (G := G) (a0 := a0) N (f_X1_failing_65 N (ub G) (ug G) a0 n) (zz_X1_failing_65 (G := G) (a0 := a0) N n) u13 x1 x2 x3 x4 x5 x6 o15 h
      refine u_callr (va_runV (As := [.int x1, .int x2, .int x6]) (rest := []) hC.1 (met_X1_walk l N G u4 a0 x1 x2 x6 o15 u13 c14) (cwV 3 hts (lw_V q1641 q1643 qs34 q98 q1644) rfl rfl rfl (by decide +kernel) ⟨Nat.le_trans (Nat.le_of_ble_eq_true rfl) hR.1, Nat.le_trans (Nat.le_of_ble_eq_true rfl) hR.2⟩) ⟨uPc_blind, u_rcv hC hP c12 rfl, fun U hU hW => u_pre hC hP hS hU hW⟩ rfl rfl hl.1 rfl (lv_room (Nat.le_of_ble_eq_true rfl)) dX1_failing_82 ⟨by omega, by omega⟩) hS (fun H locs hP hS => ?_)
      refine W.cs (cells' := u13.1 - u0.1) (slots' := u13.2.1 - u0.2.1) (by omega) (by omega) ?_
      refine W.cs (cells' := u13.1 - u0.1) (slots' := u13.2.1 - u0.2.1) (by omega) (by omega) ?_
      exact w_X1_failing_85 hC hR hRm N (f_X1_failing_65 N (ub G) (ug G) a0 n) ih (zz_X1_failing_65 (G := G) (a0 := a0) N n) u13 x1 x2 x3 x4 x5 x6 o15 h ⟨by omega, by omega⟩ hP hS (lv_sub hl [0, 1, 2, 3, 4, 5, 6] rfl)
def f_X1_failing (N b : Nat) (g : uEnv) (u : UH) (a0 : Nat) (x1 : Int32) (x2 : Int32) (x3 : Int32) (x4 : Int32) : Option (Int32 × UH) :=
    if uIs u a0 0 = true then
    ucall (f_X1_isPlan N b g u a0 x1) fun r4 u2 =>
    if r4 = 0 then
    f_X1_failing_17 N b g a0 u2
    else
    if uIs u2 a0 0 = true then
    ucall (f_X1_areCells N b g u2 a0 x2 x3) fun r9 u7 =>
    if r9 = 0 then
    f_X1_failing_17 N b g a0 u7
    else
    ucall (f_X1_in N b g u7 x4 0 9999999) fun r13 u11 =>
    if r13 = 0 then
    if uIs u11 a0 0 = true then
    ucall (f_X1_refused N b g u11 a0 2) fun r21 u19 =>
    some (r21, u19)
    else none
    else
    (uPut b u11 a0 0 11 (.int (-2))).bind fun u15 =>
    (uPut b u15 a0 0 12 (.int (-2))).bind fun u16 =>
    (uPut b u16 a0 0 13 (.int (-2))).bind fun u17 =>
    f_X1_failing_65 N b g a0 N u17 x1 x2 x3 x4 0 0
    else none
    else none
set_option maxHeartbeats 4000000 in
set_option maxRecDepth 100000 in
theorem zz_X1_failing_0 {G : uG} {a0 : Nat} {uf : UH} {r : Int32} (N : Nat) (u : UH) (x1 : Int32) (x2 : Int32) (x3 : Int32) (x4 : Int32) (h : f_X1_failing N (ub G) (ug G) u a0 x1 x2 x3 x4 = some (r, uf)) : u.1 ≤ uf.1 ∧ u.2.1 ≤ uf.2.1 := by
  unfold f_X1_failing at h
  obtain ⟨c1, h⟩ := mif_n h
  obtain ⟨r4, u2, c3, h⟩ := ucall_n h
  have zu2 := zz_X1_isPlan N (ub G) (ug G) u a0 x1 r4 u2 c3
  by_cases c5 : r4 = 0
  · have h := mif_t c5 h
    have hq := zz_X1_failing_17 (G := G) (a0 := a0) N u2 h
    exact ⟨by omega, by omega⟩
  · have h := mif_f c5 h
    obtain ⟨c6, h⟩ := mif_n h
    obtain ⟨r9, u7, c8, h⟩ := ucall_n h
    have zu7 := zz_X1_areCells N (ub G) (ug G) u2 a0 x2 x3 r9 u7 c8
    by_cases c10 : r9 = 0
    · have h := mif_t c10 h
      have hq := zz_X1_failing_17 (G := G) (a0 := a0) N u7 h
      exact ⟨by omega, by omega⟩
    · have h := mif_f c10 h
      obtain ⟨r13, u11, c12, h⟩ := ucall_n h
      have zu11 := zz_X1_in N (ub G) (ug G) u7 x4 0 9999999 r13 u11 c12
      by_cases c14 : r13 = 0
      · have h := mif_t c14 h
        obtain ⟨c18, h⟩ := mif_n h
        obtain ⟨r21, u19, c20, h⟩ := ucall_n h
        have zu19 := zz_X1_refused N (ub G) (ug G) u11 a0 2 r21 u19 c20
        obtain ⟨hr1, hr2⟩ := uret_n h
        subst hr2
        exact ⟨by omega, by omega⟩
      · have h := mif_f c14 h
        obtain ⟨u15, hu15, h⟩ := mbind_n h
        have zu15 := uPut_sz hu15
        obtain ⟨u16, hu16, h⟩ := mbind_n h
        have zu16 := uPut_sz hu16
        obtain ⟨u17, hu17, h⟩ := mbind_n h
        have zu17 := uPut_sz hu17
        have hq := zz_X1_failing_65 (G := G) (a0 := a0) N N u17 x1 x2 x3 x4 0 0 h
        exact ⟨by omega, by omega⟩
set_option maxHeartbeats 4000000 in
set_option maxRecDepth 100000 in
theorem w_X1_failing_0 {p : Program} {l : Launch} {e : Env} {R : Room} {s : State} {m : MethodId} {args : Array Value} {below : List Frame} {meth : Method} {c : Code} {G : uG} {a0 : Nat} {u0 : UH} {uf : UH} {r : Int32} (hC : uC p s m args meth c G RX1 cX1_failing 9 (some .int)) (hR : 28 ≤ R.frames ∧ 1384 ≤ R.locals) (hRm : uf.1 - u0.1 ≤ R.cells ∧ uf.2.1 - u0.2.1 ≤ R.slots) (N : Nat) (u : UH) (x1 : Int32) (x2 : Int32) (x3 : Int32) (x4 : Int32) (h : f_X1_failing N (ub G) (ug G) u a0 x1 x2 x3 x4 = some (r, uf)) (hz0 : (u0.1 ≤ u.1 ∧ u0.2.1 ≤ u.2.1)) {H : Heap} {locs : List Loc} (hP : uP G u H) (hS : va_S (uA G) s.heap H locs) {ls : Array Slot} (hl : lv_has ls 9 [(0, va_rf (some a0)), (1, .int x1), (2, .int x2), (3, .int x3), (4, .int x4)]) : W p l e R s m args below meth c H locs (u.1 - u0.1) (u.2.1 - u0.2.1) (MQ below (uQi G r uf) args s (uf.1 - u0.1) (uf.2.1 - u0.2.1) (uA G)) (F0 m 0 ls []) := by
  obtain ⟨⟨hx, hb, hml, hown, hts⟩, hKK⟩ := id hC
  have hzf := zz_X1_failing_0 (G := G) (a0 := a0) N u x1 x2 x3 x4 h
  unfold f_X1_failing at h
  refine u_aload_n (r := some a0) hx hb dX1_failing_0 rfl (lv_at hl 0 rfl) ?_
  refine lv_iload_n hx hb dX1_failing_1 rfl (lv_at hl 1 rfl) ?_
  obtain ⟨c1, h⟩ := mif_n h
  obtain ⟨r4, u2, c3, h⟩ := ucall_n h
  have zu2 := zz_X1_isPlan N (ub G) (ug G) u a0 x1 r4 u2 c3
  refine u_calli (va_runV (As := [.int x1]) (rest := []) hC.1 (met_X1_isPlan l N G u a0 x1 r4 u2 c3) (cwV 1 hts (lw_V q1636 q1638 qs33 q98 q1639) rfl rfl rfl (by decide +kernel) ⟨Nat.le_trans (Nat.le_of_ble_eq_true rfl) hR.1, Nat.le_trans (Nat.le_of_ble_eq_true rfl) hR.2⟩) ⟨uPc_blind, u_rcv hC hP c1 rfl, fun U hU hW => u_pre hC hP hS hU hW⟩ rfl rfl hl.1 rfl (lv_room (Nat.le_of_ble_eq_true rfl)) dX1_failing_2 ⟨by omega, by omega⟩) hS (fun H locs hP hS => ?_)
  refine W.cs (cells' := u2.1 - u0.1) (slots' := u2.2.1 - u0.2.1) (by omega) (by omega) ?_
  refine lv_if_eq (tgt := 17) hx hb dX1_failing_5 (by decide) (fun c5 => ?_) (fun c5 => ?_)
  · have h := mif_t c5 h
    refine W.cs (cells' := u2.1 - u0.1) (slots' := u2.2.1 - u0.2.1) (by omega) (by omega) ?_
    exact w_X1_failing_17 hC hR hRm N u2 h ⟨by omega, by omega⟩ hP hS (lv_sub hl [0] rfl)
  · have h := mif_f c5 h
    refine u_aload_n (r := some a0) hx hb dX1_failing_8 rfl (lv_at hl 0 rfl) ?_
    refine lv_iload_n hx hb dX1_failing_9 rfl (lv_at hl 2 rfl) ?_
    refine lv_iload_n hx hb dX1_failing_10 rfl (lv_at hl 3 rfl) ?_
    obtain ⟨c6, h⟩ := mif_n h
    obtain ⟨r9, u7, c8, h⟩ := ucall_n h
    have zu7 := zz_X1_areCells N (ub G) (ug G) u2 a0 x2 x3 r9 u7 c8
    refine u_calli (va_runV (As := [.int x2, .int x3]) (rest := []) hC.1 (met_X1_areCells l N G u2 a0 x2 x3 r9 u7 c8) (cwV 2 hts (lw_V q1285 q1287 qs20 q98 q1288) rfl rfl rfl (by decide +kernel) ⟨Nat.le_trans (Nat.le_of_ble_eq_true rfl) hR.1, Nat.le_trans (Nat.le_of_ble_eq_true rfl) hR.2⟩) ⟨uPc_blind, u_rcv hC hP c6 rfl, fun U hU hW => u_pre hC hP hS hU hW⟩ rfl rfl hl.1 rfl (lv_room (Nat.le_of_ble_eq_true rfl)) dX1_failing_11 ⟨by omega, by omega⟩) hS (fun H locs hP hS => ?_)
    refine W.cs (cells' := u7.1 - u0.1) (slots' := u7.2.1 - u0.2.1) (by omega) (by omega) ?_
    refine lv_if_ne (tgt := 23) hx hb dX1_failing_14 (by decide) (fun c10 => ?_) (fun c10 => ?_)
    · have h := mif_f c10 h
      refine lv_iload hx hb dX1_failing_23 (lv_at hl 4 rfl) ?_
      refine lv_iconst (v := 0) hx hb dX1_failing_25 (by decide) ?_
      refine lv_ldcw hx hb hown (hts _ q1640) dX1_failing_26 ?_
      obtain ⟨r13, u11, c12, h⟩ := ucall_n h
      have zu11 := zz_X1_in N (ub G) (ug G) u7 x4 0 9999999 r13 u11 c12
      refine u_calli (va_runS (As := [.int x4, .int 0, .int 9999999]) (rest := []) hC.1 (met_X1_in l N G u7 x4 0 9999999 r13 u11 c12) (va_cwS 3 hts (lw_S q273 q274 q98 q275) rfl rfl rfl (by decide +kernel) ⟨Nat.le_trans (Nat.le_of_ble_eq_true rfl) hR.1, Nat.le_trans (Nat.le_of_ble_eq_true rfl) hR.2⟩) ⟨uPc_blind, fun U hU hW => u_pre hC hP hS hU hW⟩ rfl rfl hl.1 rfl (lv_room (Nat.le_of_ble_eq_true rfl)) dX1_failing_29 ⟨by omega, by omega⟩) hS (fun H locs hP hS => ?_)
      refine W.cs (cells' := u11.1 - u0.1) (slots' := u11.2.1 - u0.2.1) (by omega) (by omega) ?_
      refine lv_if_ne (tgt := 41) hx hb dX1_failing_32 (by decide) (fun c14 => ?_) (fun c14 => ?_)
      · have h := mif_f c14 h
        refine u_aload_n (r := some a0) hx hb dX1_failing_41 rfl (lv_at hl 0 rfl) ?_
        refine lv_bipush (v := (-2)) hx hb dX1_failing_42 (by decide) ?_
        obtain ⟨u15, hu15, h⟩ := mbind_n h
        have zu15 := uPut_sz hu15
        refine u_put hC hP hS hu15 rfl in_X1 tyX1 tyX1_ok nmX1 (by decide) q226 (fun _ h => h) rfl (ty := .int) (tyX1_ok 11 (by decide)) rfl rfl dX1_failing_44 (fun H locs hP hS => ?_)
        refine W.cs (cells' := u15.1 - u0.1) (slots' := u15.2.1 - u0.2.1) (by omega) (by omega) ?_
        refine u_aload_n (r := some a0) hx hb dX1_failing_47 rfl (lv_at hl 0 rfl) ?_
        refine lv_bipush (v := (-2)) hx hb dX1_failing_48 (by decide) ?_
        obtain ⟨u16, hu16, h⟩ := mbind_n h
        have zu16 := uPut_sz hu16
        refine u_put hC hP hS hu16 rfl in_X1 tyX1 tyX1_ok nmX1 (by decide) q227 (fun _ h => h) rfl (ty := .int) (tyX1_ok 12 (by decide)) rfl rfl dX1_failing_50 (fun H locs hP hS => ?_)
        refine W.cs (cells' := u16.1 - u0.1) (slots' := u16.2.1 - u0.2.1) (by omega) (by omega) ?_
        refine u_aload_n (r := some a0) hx hb dX1_failing_53 rfl (lv_at hl 0 rfl) ?_
        refine lv_bipush (v := (-2)) hx hb dX1_failing_54 (by decide) ?_
        obtain ⟨u17, hu17, h⟩ := mbind_n h
        have zu17 := uPut_sz hu17
        refine u_put hC hP hS hu17 rfl in_X1 tyX1 tyX1_ok nmX1 (by decide) q228 (fun _ h => h) rfl (ty := .int) (tyX1_ok 13 (by decide)) rfl rfl dX1_failing_56 (fun H locs hP hS => ?_)
        refine W.cs (cells' := u17.1 - u0.1) (slots' := u17.2.1 - u0.2.1) (by omega) (by omega) ?_
        refine lv_iconst (v := 0) hx hb dX1_failing_59 (by decide) ?_
        refine lv_istore (lv' := [(5, .int 0), (0, va_rf (some a0)), (1, .int x1), (2, .int x2), (3, .int x3), (4, .int x4)]) hx hb dX1_failing_60 hl (by decide) rfl (fun ls hl => ?_)
        refine lv_iconst (v := 0) hx hb dX1_failing_62 (by decide) ?_
        refine lv_istore (lv' := [(6, .int 0), (5, .int 0), (0, va_rf (some a0)), (1, .int x1), (2, .int x2), (3, .int x3), (4, .int x4)]) hx hb dX1_failing_63 hl (by decide) rfl (fun ls hl => ?_)
        refine W.cs (cells' := u17.1 - u0.1) (slots' := u17.2.1 - u0.2.1) (by omega) (by omega) ?_
        exact w_X1_failing_65 hC hR hRm N N u17 x1 x2 x3 x4 0 0 h ⟨by omega, by omega⟩ _ _ hP hS _ (lv_sub hl [2, 3, 4, 5, 6, 1, 0] rfl)
      · have h := mif_t c14 h
        refine u_aload_n (r := some a0) hx hb dX1_failing_35 rfl (lv_at hl 0 rfl) ?_
        refine lv_iconst (v := 2) hx hb dX1_failing_36 (by decide) ?_
        obtain ⟨c18, h⟩ := mif_n h
        obtain ⟨r21, u19, c20, h⟩ := ucall_n h
        have zu19 := zz_X1_refused N (ub G) (ug G) u11 a0 2 r21 u19 c20
        refine u_calli (va_runV (As := [.int 2]) (rest := []) hC.1 (met_X1_refused l N G u11 a0 2 r21 u19 c20) (cwV 1 hts (lw_V q276 q278 qs0 q98 q279) rfl rfl rfl (by decide +kernel) ⟨Nat.le_trans (Nat.le_of_ble_eq_true rfl) hR.1, Nat.le_trans (Nat.le_of_ble_eq_true rfl) hR.2⟩) ⟨uPc_blind, u_rcv hC hP c18 rfl, fun U hU hW => u_pre hC hP hS hU hW⟩ rfl rfl hl.1 rfl (lv_room (Nat.le_of_ble_eq_true rfl)) dX1_failing_37 ⟨by omega, by omega⟩) hS (fun H locs hP hS => ?_)
        refine W.cs (cells' := u19.1 - u0.1) (slots' := u19.2.1 - u0.2.1) (by omega) (by omega) ?_
        obtain ⟨hr1, hr2⟩ := uret_n h
        subst hr1
        subst hr2
        exact u_iret hC hP hS dX1_failing_40
    · have h := mif_t c10 h
      refine W.cs (cells' := u7.1 - u0.1) (slots' := u7.2.1 - u0.2.1) (by omega) (by omega) ?_
      exact w_X1_failing_17 hC hR hRm N u7 h ⟨by omega, by omega⟩ hP hS (lv_sub hl [0] rfl)
theorem zz_X1_failing (N b : Nat) (g : uEnv) (u : UH) (a0 : Nat) (x1 : Int32) (x2 : Int32) (x3 : Int32) (x4 : Int32) (r : Int32) (uf : UH) (h : f_X1_failing N b g u a0 x1 x2 x3 x4 = some (r, uf)) : u.1 ≤ uf.1 ∧ u.2.1 ≤ uf.2.1 :=
  zz_X1_failing_0 (G := ((fun _ => 0, fun _ _ => 0), fun _ => 0, b, g)) (a0 := a0) N u x1 x2 x3 x4 h
theorem met_X1_failing (l : Launch) (N : Nat) (G : uG) (u : UH) (a0 : Nat) (x1 : Int32) (x2 : Int32) (x3 : Int32) (x4 : Int32) (r : Int32) (uf : UH) (h : f_X1_failing N (ub G) (ug G) u a0 x1 x2 x3 x4 = some (r, uf)) : Met l yX1_failing (ws_ yX1_failing cX1_failing 9 (some .int)) ({ frames := 28, cells := (uf.1 - u.1), slots := (uf.2.1 - u.2.1), locals := 1384 }) (uPc G u [.ref a0, .int x1, .int x2, .int x3, .int x4]) (uQi G r uf) (uf.1 - u.1) (uf.2.1 - u.2.1) (uA G) := by
  exact u_met (own := RX1) (by decide +kernel) rfl (Nat.le_of_ble_eq_true rfl) (fun hC hn hsz ls hl hP => W.cs (Nat.sub_self _).symm (Nat.sub_self _).symm (w_X1_failing_0 hC ⟨Nat.le_refl _, Nat.le_refl _⟩ ⟨Nat.le_refl _, Nat.le_refl _⟩ N u x1 x2 x3 x4 h ⟨Nat.le_refl _, Nat.le_refl _⟩ hP va_S.rf hl))
def f_X1_feed_72 (N b : Nat) (g : uEnv) (a0 : Nat) (k54 : UH → Option Nat → Int32 → Int32 → Option (Int32 × UH)) : Nat → UH → Option Nat → Int32 → Int32 → Int32 → Int32 → Option (Int32 × UH)
  | 0, _, _, _, _, _, _ => none
  | n + 1, u, x7, x8, x9, x10, x11 =>
    if x11 < 0 then
    mlet (x9 + 1) fun y2 =>
    k54 u x7 x8 y2
    else
    (uGR u a0 0 4).bind fun o3 =>
    (uGI u a0 0 5).bind fun y4 =>
    (uPut b u a0 0 5 (.int (y4 + 1))).bind fun u5 =>
    (o3).bind fun a6 =>
    (uStI b u5 a6 1 y4 (vp_nar .byte ((x10 >>> (x11 &&& 31)).toInt8.toInt32))).bind fun u7 =>
    mlet (x11 + (-8)) fun y8 =>
    f_X1_feed_72 N b g a0 k54 n u7 x7 x8 x9 x10 y8
set_option maxHeartbeats 4000000 in
set_option maxRecDepth 100000 in
theorem zz_X1_feed_72 {G : uG} {a0 : Nat} {uf : UH} {r : Int32} (N : Nat) (k54 : UH → Option Nat → Int32 → Int32 → Option (Int32 × UH)) (hk54 : ∀ (u : UH) (x7 : Option Nat) (x8 : Int32) (x9 : Int32), k54 u x7 x8 x9 = some (r, uf) → u.1 ≤ uf.1 ∧ u.2.1 ≤ uf.2.1) : ∀ (n : Nat) (u : UH) (x7 : Option Nat) (x8 : Int32) (x9 : Int32) (x10 : Int32) (x11 : Int32), f_X1_feed_72 N (ub G) (ug G) a0 k54 n u x7 x8 x9 x10 x11 = some (r, uf) → u.1 ≤ uf.1 ∧ u.2.1 ≤ uf.2.1 := by
  intro n
  induction n with
  | zero =>
    intro u x7 x8 x9 x10 x11 h
    cases h
  | succ n ih =>
    intro u x7 x8 x9 x10 x11 h
    unfold f_X1_feed_72 at h
    by_cases c1 : x11 < 0
    · have h := mif_t c1 h
      obtain ⟨y2, ey2⟩ : ∃ z : Int32, z = x9 + 1 := ⟨_, rfl⟩
      have h := mlet_at ey2 h
      have hq := hk54 u x7 x8 y2 h
      exact ⟨by omega, by omega⟩
    · have h := mif_f c1 h
      obtain ⟨o3, ho3, h⟩ := mbind_n h
      obtain ⟨y4, hy4, h⟩ := mbind_n h
      obtain ⟨u5, hu5, h⟩ := mbind_n h
      have zu5 := uPut_sz hu5
      obtain ⟨a6, ha6, hha6⟩ := mbind_n h
      subst ha6
      have h := hha6
      obtain ⟨u7, hu7, h⟩ := mbind_n h
      have zu7 := uStI_sz hu7
      obtain ⟨y8, ey8⟩ : ∃ z : Int32, z = x11 + (-8) := ⟨_, rfl⟩
      have h := mlet_at ey8 h
      have hq := ih u7 x7 x8 x9 x10 y8 h
      exact ⟨by omega, by omega⟩
set_option maxHeartbeats 4000000 in
set_option maxRecDepth 100000 in
theorem w_X1_feed_72 {p : Program} {l : Launch} {e : Env} {R : Room} {s : State} {m : MethodId} {args : Array Value} {below : List Frame} {meth : Method} {c : Code} {G : uG} {a0 : Nat} {u0 : UH} {uf : UH} {r : Int32} (hC : uC p s m args meth c G RX1 cX1_feed 12 (some .int)) (hR : 0 ≤ R.frames ∧ 0 ≤ R.locals) (hRm : uf.1 - u0.1 ≤ R.cells ∧ uf.2.1 - u0.2.1 ≤ R.slots) (N : Nat) (k54 : UH → Option Nat → Int32 → Int32 → Option (Int32 × UH)) (hk54 : ∀ (u : UH) (x7 : Option Nat) (x8 : Int32) (x9 : Int32), k54 u x7 x8 x9 = some (r, uf) → (u0.1 ≤ u.1 ∧ u0.2.1 ≤ u.2.1) → ∀ (H : Heap) (locs : List Loc), uP G u H → va_S (uA G) s.heap H locs → ∀ ls : Array Slot, lv_has ls 12 [(0, va_rf (some a0)), (7, va_rf x7), (8, .int x8), (9, .int x9)] → W p l e R s m args below meth c H locs (u.1 - u0.1) (u.2.1 - u0.2.1) (MQ below (uQi G r uf) args s (uf.1 - u0.1) (uf.2.1 - u0.2.1) (uA G)) (F0 m 54 ls [])) (zk54 : ∀ (u : UH) (x7 : Option Nat) (x8 : Int32) (x9 : Int32), k54 u x7 x8 x9 = some (r, uf) → u.1 ≤ uf.1 ∧ u.2.1 ≤ uf.2.1) : ∀ (n : Nat) (u : UH) (x7 : Option Nat) (x8 : Int32) (x9 : Int32) (x10 : Int32) (x11 : Int32), f_X1_feed_72 N (ub G) (ug G) a0 k54 n u x7 x8 x9 x10 x11 = some (r, uf) → (u0.1 ≤ u.1 ∧ u0.2.1 ≤ u.2.1) → ∀ (H : Heap) (locs : List Loc), uP G u H → va_S (uA G) s.heap H locs → ∀ ls : Array Slot, lv_has ls 12 [(0, va_rf (some a0)), (7, va_rf x7), (8, .int x8), (9, .int x9), (10, .int x10), (11, .int x11)] → W p l e R s m args below meth c H locs (u.1 - u0.1) (u.2.1 - u0.2.1) (MQ below (uQi G r uf) args s (uf.1 - u0.1) (uf.2.1 - u0.2.1) (uA G)) (F0 m 72 ls []) := by
  obtain ⟨⟨hx, hb, hml, hown, hts⟩, hKK⟩ := id hC
  intro n
  induction n with
  | zero =>
    intro u x7 x8 x9 x10 x11 h
    cases h
  | succ n ih =>
    intro u x7 x8 x9 x10 x11 h hz0 H locs hP hS ls hl
    have hzf := zz_X1_feed_72 (G := G) (a0 := a0) N k54 zk54 (n + 1) u x7 x8 x9 x10 x11 h
    unfold f_X1_feed_72 at h
    refine lv_iload hx hb dX1_feed_72 (lv_at hl 5 rfl) ?_
    refine lv_if_lt (tgt := 105) hx hb dX1_feed_74 (by decide) (fun c1 => ?_) (fun c1 => ?_)
    · have h := mif_t c1 h
      obtain ⟨y2, ey2⟩ : ∃ z : Int32, z = x9 + 1 := ⟨_, rfl⟩
      have h := mlet_at ey2 h
      refine lv_iinc (v := y2) (lv' := [(9, .int y2), (0, va_rf (some a0)), (7, va_rf x7), (8, .int x8), (10, .int x10), (11, .int x11)]) hx hb dX1_feed_105 hl (k := 3) rfl (by rw [ey2]; rfl) (by decide) rfl (fun ls hl => ?_)
      refine lv_goto (tgt := 54) hx hb dX1_feed_108 (by decide) ?_
      refine W.cs (cells' := u.1 - u0.1) (slots' := u.2.1 - u0.2.1) (by omega) (by omega) ?_
      exact hk54 u x7 x8 y2 h ⟨by omega, by omega⟩ _ _ hP hS _ (lv_sub hl [1, 2, 3, 0] rfl)
    · have h := mif_f c1 h
      refine u_aload_n (r := some a0) hx hb dX1_feed_77 rfl (lv_at hl 0 rfl) ?_
      obtain ⟨o3, ho3, h⟩ := mbind_n h
      refine u_get hC hP (uGR_n ho3) rfl in_X1 (by decide) q219 (fun _ h => h) dX1_feed_78 ?_
      refine u_aload_n (r := some a0) hx hb dX1_feed_81 rfl (lv_at hl 0 rfl) ?_
      refine lv_dup hx hb dX1_feed_82 (u_cat _) ?_
      obtain ⟨y4, hy4, h⟩ := mbind_n h
      refine u_get hC hP (uGI_n hy4) rfl in_X1 (by decide) q220 (fun _ h => h) dX1_feed_83 ?_
      refine lv_dup_x1 hx hb dX1_feed_86 rfl (u_cat _) ?_
      refine lv_iconst (v := 1) hx hb dX1_feed_87 (by decide) ?_
      refine lv_iadd hx hb dX1_feed_88 ?_
      obtain ⟨u5, hu5, h⟩ := mbind_n h
      have zu5 := uPut_sz hu5
      refine u_put hC hP hS hu5 rfl in_X1 tyX1 tyX1_ok nmX1 (by decide) q220 (fun _ h => h) rfl (ty := .int) (tyX1_ok 5 (by decide)) rfl rfl dX1_feed_89 (fun H locs hP hS => ?_)
      refine W.cs (cells' := u5.1 - u0.1) (slots' := u5.2.1 - u0.2.1) (by omega) (by omega) ?_
      refine lv_iload hx hb dX1_feed_92 (lv_at hl 4 rfl) ?_
      refine lv_iload hx hb dX1_feed_94 (lv_at hl 5 rfl) ?_
      refine lv_ishr hx hb dX1_feed_96 ?_
      refine lv_i2b (v := (x10 >>> (x11 &&& 31)).toInt8.toInt32) hx hb dX1_feed_97 rfl ?_
      obtain ⟨a6, ha6, hha6⟩ := mbind_n h
      subst ha6
      have h := hha6
      obtain ⟨u7, hu7, h⟩ := mbind_n h
      have zu7 := uStI_sz hu7
      refine u_bast hC hP hS hu7 rfl dX1_feed_98 (fun H locs hP hS => ?_)
      refine W.cs (cells' := u7.1 - u0.1) (slots' := u7.2.1 - u0.2.1) (by omega) (by omega) ?_
      obtain ⟨y8, ey8⟩ : ∃ z : Int32, z = x11 + (-8) := ⟨_, rfl⟩
      have h := mlet_at ey8 h
      refine lv_iinc (v := y8) (lv' := [(11, .int y8), (0, va_rf (some a0)), (7, va_rf x7), (8, .int x8), (9, .int x9), (10, .int x10)]) hx hb dX1_feed_99 hl (k := 5) rfl (by rw [ey8]; rfl) (by decide) rfl (fun ls hl => ?_)
      refine lv_goto (tgt := 72) hx hb dX1_feed_102 (by decide) ?_
      refine W.cs (cells' := u7.1 - u0.1) (slots' := u7.2.1 - u0.2.1) (by omega) (by omega) ?_
      exact ih u7 x7 x8 x9 x10 y8 h ⟨by omega, by omega⟩ _ _ hP hS _ (lv_sub hl [1, 2, 3, 4, 5, 0] rfl)
def f_X1_feed_54 (N b : Nat) (g : uEnv) (a0 : Nat) : Nat → UH → Option Nat → Int32 → Int32 → Option (Int32 × UH)
  | 0, _, _, _, _ => none
  | n + 1, u, x7, x8, x9 =>
    if x8 ≤ x9 then
    (uGI u a0 0 5).bind fun y2 =>
    some (y2, u)
    else
    (x7).bind fun a3 =>
    (uLdI u a3 0 x9).bind fun y4 =>
    f_X1_feed_72 N b g a0 (f_X1_feed_54 N b g a0 n) N u (some a3) x8 x9 y4 24
set_option maxHeartbeats 4000000 in
set_option maxRecDepth 100000 in
theorem zz_X1_feed_54 {G : uG} {a0 : Nat} {uf : UH} {r : Int32} (N : Nat) : ∀ (n : Nat) (u : UH) (x7 : Option Nat) (x8 : Int32) (x9 : Int32), f_X1_feed_54 N (ub G) (ug G) a0 n u x7 x8 x9 = some (r, uf) → u.1 ≤ uf.1 ∧ u.2.1 ≤ uf.2.1 := by
  intro n
  induction n with
  | zero =>
    intro u x7 x8 x9 h
    cases h
  | succ n ih =>
    intro u x7 x8 x9 h
    unfold f_X1_feed_54 at h
    by_cases c1 : x8 ≤ x9
    · have h := mif_t c1 h
      obtain ⟨y2, hy2, h⟩ := mbind_n h
      obtain ⟨hr1, hr2⟩ := uret_n h
      subst hr2
      exact ⟨by omega, by omega⟩
    · have h := mif_f c1 h
      obtain ⟨a3, ha3, hha3⟩ := mbind_n h
      subst ha3
      have h := hha3
      obtain ⟨y4, hy4, h⟩ := mbind_n h
      have hq := zz_X1_feed_72 (G := G) (a0 := a0) N (f_X1_feed_54 N (ub G) (ug G) a0 n) ih N u (some a3) x8 x9 y4 24 h
      exact ⟨by omega, by omega⟩
set_option maxHeartbeats 4000000 in
set_option maxRecDepth 100000 in
theorem w_X1_feed_54 {p : Program} {l : Launch} {e : Env} {R : Room} {s : State} {m : MethodId} {args : Array Value} {below : List Frame} {meth : Method} {c : Code} {G : uG} {a0 : Nat} {u0 : UH} {uf : UH} {r : Int32} (hC : uC p s m args meth c G RX1 cX1_feed 12 (some .int)) (hR : 0 ≤ R.frames ∧ 0 ≤ R.locals) (hRm : uf.1 - u0.1 ≤ R.cells ∧ uf.2.1 - u0.2.1 ≤ R.slots) (N : Nat) : ∀ (n : Nat) (u : UH) (x7 : Option Nat) (x8 : Int32) (x9 : Int32), f_X1_feed_54 N (ub G) (ug G) a0 n u x7 x8 x9 = some (r, uf) → (u0.1 ≤ u.1 ∧ u0.2.1 ≤ u.2.1) → ∀ (H : Heap) (locs : List Loc), uP G u H → va_S (uA G) s.heap H locs → ∀ ls : Array Slot, lv_has ls 12 [(0, va_rf (some a0)), (7, va_rf x7), (8, .int x8), (9, .int x9)] → W p l e R s m args below meth c H locs (u.1 - u0.1) (u.2.1 - u0.2.1) (MQ below (uQi G r uf) args s (uf.1 - u0.1) (uf.2.1 - u0.2.1) (uA G)) (F0 m 54 ls []) := by
  obtain ⟨⟨hx, hb, hml, hown, hts⟩, hKK⟩ := id hC
  intro n
  induction n with
  | zero =>
    intro u x7 x8 x9 h
    cases h
  | succ n ih =>
    intro u x7 x8 x9 h hz0 H locs hP hS ls hl
    have hzf := zz_X1_feed_54 (G := G) (a0 := a0) N (n + 1) u x7 x8 x9 h
    unfold f_X1_feed_54 at h
    refine lv_iload hx hb dX1_feed_54 (lv_at hl 3 rfl) ?_
    refine lv_iload hx hb dX1_feed_56 (lv_at hl 2 rfl) ?_
    refine lv_icmp_ge (tgt := 111) hx hb dX1_feed_58 (by decide) (fun c1 => ?_) (fun c1 => ?_)
    · have h := mif_t c1 h
      refine u_aload_n (r := some a0) hx hb dX1_feed_111 rfl (lv_at hl 0 rfl) ?_
      obtain ⟨y2, hy2, h⟩ := mbind_n h
      refine u_get hC hP (uGI_n hy2) rfl in_X1 (by decide) q220 (fun _ h => h) dX1_feed_112 ?_
      obtain ⟨hr1, hr2⟩ := uret_n h
      subst hr1
      subst hr2
      exact u_iret hC hP hS dX1_feed_115
    · have h := mif_f c1 h
      refine u_aload (r := x7) hx hb dX1_feed_61 (lv_at hl 1 rfl) ?_
      refine lv_iload hx hb dX1_feed_63 (lv_at hl 3 rfl) ?_
      obtain ⟨a3, ha3, hha3⟩ := mbind_n h
      subst ha3
      have h := hha3
      obtain ⟨y4, hy4, h⟩ := mbind_n h
      refine u_iald hC hP hy4 rfl dX1_feed_65 ?_
      refine lv_istore (lv' := [(10, .int y4), (0, va_rf (some a0)), (7, va_rf (some a3)), (8, .int x8), (9, .int x9)]) hx hb dX1_feed_66 hl (by decide) rfl (fun ls hl => ?_)
      refine lv_bipush (v := 24) hx hb dX1_feed_68 (by decide) ?_
      refine lv_istore (lv' := [(11, .int 24), (10, .int y4), (0, va_rf (some a0)), (7, va_rf (some a3)), (8, .int x8), (9, .int x9)]) hx hb dX1_feed_70 hl (by decide) rfl (fun ls hl => ?_)
      refine W.cs (cells' := u.1 - u0.1) (slots' := u.2.1 - u0.2.1) (by omega) (by omega) ?_
      exact w_X1_feed_72 hC hR hRm N (f_X1_feed_54 N (ub G) (ug G) a0 n) ih (zz_X1_feed_54 (G := G) (a0 := a0) N n) N u (some a3) x8 x9 y4 24 h ⟨by omega, by omega⟩ _ _ hP hS _ (lv_sub hl [2, 3, 4, 5, 1, 0] rfl)
def f_X1_feed_18 (N b : Nat) (g : uEnv) (a0 : Nat) (u : UH) (x1 : Int32) (x2 : Int32) (x3 : Int32) (x4 : Int32) (x5 : Int32) (s0 : Option Nat) : Option (Int32 × UH) :=
    (s0).bind fun a1 =>
    (uStI b u a1 0 0 x1).bind fun u2 =>
    (uStI b u2 a1 0 1 x2).bind fun u3 =>
    (uStI b u3 a1 0 2 x3).bind fun u4 =>
    (uStI b u4 a1 0 3 x4).bind fun u5 =>
    (uStI b u5 a1 0 4 x5).bind fun u6 =>
    (uLen u6 a1 0).bind fun y7 =>
    f_X1_feed_54 N b g a0 N u6 (some a1) y7 0
set_option maxHeartbeats 4000000 in
set_option maxRecDepth 100000 in
theorem zz_X1_feed_18 {G : uG} {a0 : Nat} {uf : UH} {r : Int32} (N : Nat) (u : UH) (x1 : Int32) (x2 : Int32) (x3 : Int32) (x4 : Int32) (x5 : Int32) (s0 : Option Nat) (h : f_X1_feed_18 N (ub G) (ug G) a0 u x1 x2 x3 x4 x5 s0 = some (r, uf)) : u.1 ≤ uf.1 ∧ u.2.1 ≤ uf.2.1 := by
  unfold f_X1_feed_18 at h
  obtain ⟨a1, ha1, hha1⟩ := mbind_n h
  subst ha1
  have h := hha1
  obtain ⟨u2, hu2, h⟩ := mbind_n h
  have zu2 := uStI_sz hu2
  obtain ⟨u3, hu3, h⟩ := mbind_n h
  have zu3 := uStI_sz hu3
  obtain ⟨u4, hu4, h⟩ := mbind_n h
  have zu4 := uStI_sz hu4
  obtain ⟨u5, hu5, h⟩ := mbind_n h
  have zu5 := uStI_sz hu5
  obtain ⟨u6, hu6, h⟩ := mbind_n h
  have zu6 := uStI_sz hu6
  obtain ⟨y7, hy7, h⟩ := mbind_n h
  have hq := zz_X1_feed_54 (G := G) (a0 := a0) N N u6 (some a1) y7 0 h
  exact ⟨by omega, by omega⟩
set_option maxHeartbeats 4000000 in
set_option maxRecDepth 100000 in
theorem w_X1_feed_18 {p : Program} {l : Launch} {e : Env} {R : Room} {s : State} {m : MethodId} {args : Array Value} {below : List Frame} {meth : Method} {c : Code} {G : uG} {a0 : Nat} {u0 : UH} {uf : UH} {r : Int32} (hC : uC p s m args meth c G RX1 cX1_feed 12 (some .int)) (hR : 0 ≤ R.frames ∧ 0 ≤ R.locals) (hRm : uf.1 - u0.1 ≤ R.cells ∧ uf.2.1 - u0.2.1 ≤ R.slots) (N : Nat) (u : UH) (x1 : Int32) (x2 : Int32) (x3 : Int32) (x4 : Int32) (x5 : Int32) (s0 : Option Nat) (h : f_X1_feed_18 N (ub G) (ug G) a0 u x1 x2 x3 x4 x5 s0 = some (r, uf)) (hz0 : (u0.1 ≤ u.1 ∧ u0.2.1 ≤ u.2.1)) {H : Heap} {locs : List Loc} (hP : uP G u H) (hS : va_S (uA G) s.heap H locs) {ls : Array Slot} (hl : lv_has ls 12 [(0, va_rf (some a0)), (1, .int x1), (2, .int x2), (3, .int x3), (4, .int x4), (5, .int x5)]) : W p l e R s m args below meth c H locs (u.1 - u0.1) (u.2.1 - u0.2.1) (MQ below (uQi G r uf) args s (uf.1 - u0.1) (uf.2.1 - u0.2.1) (uA G)) (F0 m 18 ls [va_rf s0]) := by
  obtain ⟨⟨hx, hb, hml, hown, hts⟩, hKK⟩ := id hC
  have hzf := zz_X1_feed_18 (G := G) (a0 := a0) N u x1 x2 x3 x4 x5 s0 h
  unfold f_X1_feed_18 at h
  refine lv_dup hx hb dX1_feed_18 (u_cat _) ?_
  refine lv_iconst (v := 0) hx hb dX1_feed_19 (by decide) ?_
  refine lv_iload_n hx hb dX1_feed_20 rfl (lv_at hl 1 rfl) ?_
  obtain ⟨a1, ha1, hha1⟩ := mbind_n h
  subst ha1
  have h := hha1
  obtain ⟨u2, hu2, h⟩ := mbind_n h
  have zu2 := uStI_sz hu2
  refine u_iast hC hP hS hu2 rfl dX1_feed_21 (fun H locs hP hS => ?_)
  refine W.cs (cells' := u2.1 - u0.1) (slots' := u2.2.1 - u0.2.1) (by omega) (by omega) ?_
  refine lv_dup hx hb dX1_feed_22 (u_cat _) ?_
  refine lv_iconst (v := 1) hx hb dX1_feed_23 (by decide) ?_
  refine lv_iload_n hx hb dX1_feed_24 rfl (lv_at hl 2 rfl) ?_
  obtain ⟨u3, hu3, h⟩ := mbind_n h
  have zu3 := uStI_sz hu3
  refine u_iast hC hP hS hu3 rfl dX1_feed_25 (fun H locs hP hS => ?_)
  refine W.cs (cells' := u3.1 - u0.1) (slots' := u3.2.1 - u0.2.1) (by omega) (by omega) ?_
  refine lv_dup hx hb dX1_feed_26 (u_cat _) ?_
  refine lv_iconst (v := 2) hx hb dX1_feed_27 (by decide) ?_
  refine lv_iload_n hx hb dX1_feed_28 rfl (lv_at hl 3 rfl) ?_
  obtain ⟨u4, hu4, h⟩ := mbind_n h
  have zu4 := uStI_sz hu4
  refine u_iast hC hP hS hu4 rfl dX1_feed_29 (fun H locs hP hS => ?_)
  refine W.cs (cells' := u4.1 - u0.1) (slots' := u4.2.1 - u0.2.1) (by omega) (by omega) ?_
  refine lv_dup hx hb dX1_feed_30 (u_cat _) ?_
  refine lv_iconst (v := 3) hx hb dX1_feed_31 (by decide) ?_
  refine lv_iload hx hb dX1_feed_32 (lv_at hl 4 rfl) ?_
  obtain ⟨u5, hu5, h⟩ := mbind_n h
  have zu5 := uStI_sz hu5
  refine u_iast hC hP hS hu5 rfl dX1_feed_34 (fun H locs hP hS => ?_)
  refine W.cs (cells' := u5.1 - u0.1) (slots' := u5.2.1 - u0.2.1) (by omega) (by omega) ?_
  refine lv_dup hx hb dX1_feed_35 (u_cat _) ?_
  refine lv_iconst (v := 4) hx hb dX1_feed_36 (by decide) ?_
  refine lv_iload hx hb dX1_feed_37 (lv_at hl 5 rfl) ?_
  obtain ⟨u6, hu6, h⟩ := mbind_n h
  have zu6 := uStI_sz hu6
  refine u_iast hC hP hS hu6 rfl dX1_feed_39 (fun H locs hP hS => ?_)
  refine W.cs (cells' := u6.1 - u0.1) (slots' := u6.2.1 - u0.2.1) (by omega) (by omega) ?_
  refine u_astore (r := some a1) (lv' := [(6, va_rf (some a1)), (0, va_rf (some a0)), (1, .int x1), (2, .int x2), (3, .int x3), (4, .int x4), (5, .int x5)]) hx hb dX1_feed_40 hl (by decide) rfl (fun ls hl => ?_)
  refine u_aload (r := some a1) hx hb dX1_feed_42 (lv_at hl 0 rfl) ?_
  refine u_astore (r := some a1) (lv' := [(7, va_rf (some a1)), (6, va_rf (some a1)), (0, va_rf (some a0)), (1, .int x1), (2, .int x2), (3, .int x3), (4, .int x4), (5, .int x5)]) hx hb dX1_feed_44 hl (by decide) rfl (fun ls hl => ?_)
  refine u_aload (r := some a1) hx hb dX1_feed_46 (lv_at hl 0 rfl) ?_
  obtain ⟨y7, hy7, h⟩ := mbind_n h
  refine u_alen hC hP hy7 dX1_feed_48 ?_
  refine lv_istore (lv' := [(8, .int y7), (7, va_rf (some a1)), (6, va_rf (some a1)), (0, va_rf (some a0)), (1, .int x1), (2, .int x2), (3, .int x3), (4, .int x4), (5, .int x5)]) hx hb dX1_feed_49 hl (by decide) rfl (fun ls hl => ?_)
  refine lv_iconst (v := 0) hx hb dX1_feed_51 (by decide) ?_
  refine lv_istore (lv' := [(9, .int 0), (8, .int y7), (7, va_rf (some a1)), (6, va_rf (some a1)), (0, va_rf (some a0)), (1, .int x1), (2, .int x2), (3, .int x3), (4, .int x4), (5, .int x5)]) hx hb dX1_feed_52 hl (by decide) rfl (fun ls hl => ?_)
  refine W.cs (cells' := u6.1 - u0.1) (slots' := u6.2.1 - u0.2.1) (by omega) (by omega) ?_
  exact w_X1_feed_54 hC hR hRm N N u6 (some a1) y7 0 h ⟨by omega, by omega⟩ _ _ hP hS _ (lv_sub hl [4, 2, 1, 0] rfl)
def f_X1_feed (N b : Nat) (g : uEnv) (u : UH) (a0 : Nat) (x1 : Int32) (x2 : Int32) (x3 : Int32) (x4 : Int32) (x5 : Int32) : Option (Int32 × UH) :=
    (uGI u a0 0 5).bind fun y1 =>
    if (y1 + 20) ≤ 500 then
    if ¬ (5 : Int32) < 0 ∧ (5 : Int32).toNatClampNeg ≤ 60000000 then
    mlet (u.1) fun a5 =>
    mlet (uNew u (5 : Int32).toNatClampNeg (.inl (0, (5 : Int32).toNatClampNeg, .inl (fun _ => 0)))) fun u3 =>
    f_X1_feed_18 N b g a0 u3 x1 x2 x3 x4 x5 (some a5)
    else none
    else
    some ((-1), u)
set_option maxHeartbeats 4000000 in
set_option maxRecDepth 100000 in
theorem zz_X1_feed_0 {G : uG} {a0 : Nat} {uf : UH} {r : Int32} (N : Nat) (u : UH) (x1 : Int32) (x2 : Int32) (x3 : Int32) (x4 : Int32) (x5 : Int32) (h : f_X1_feed N (ub G) (ug G) u a0 x1 x2 x3 x4 x5 = some (r, uf)) : u.1 ≤ uf.1 ∧ u.2.1 ≤ uf.2.1 := by
  unfold f_X1_feed at h
  obtain ⟨y1, hy1, h⟩ := mbind_n h
  by_cases c2 : (y1 + 20) ≤ 500
  · have h := mif_t c2 h
    obtain ⟨c4, h⟩ := mif_n h
    obtain ⟨a5, ea5⟩ : ∃ z : Nat, z = u.1 := ⟨_, rfl⟩
    have h := mlet_at ea5 h
    obtain ⟨u3, eu3⟩ : ∃ z : UH, z = uNew u (5 : Int32).toNatClampNeg (.inl (0, (5 : Int32).toNatClampNeg, .inl (fun _ => 0))) := ⟨_, rfl⟩
    have h := mlet_at eu3 h
    have zu3 : u3.1 = u.1 + 1 ∧ u3.2.1 = u.2.1 + (5 : Int32).toNatClampNeg := by rw [eu3]; exact ⟨rfl, rfl⟩
    have hq := zz_X1_feed_18 (G := G) (a0 := a0) N u3 x1 x2 x3 x4 x5 (some a5) h
    exact ⟨by omega, by omega⟩
  · have h := mif_f c2 h
    obtain ⟨hr1, hr2⟩ := uret_n h
    subst hr2
    exact ⟨by omega, by omega⟩
set_option maxHeartbeats 4000000 in
set_option maxRecDepth 100000 in
theorem w_X1_feed_0 {p : Program} {l : Launch} {e : Env} {R : Room} {s : State} {m : MethodId} {args : Array Value} {below : List Frame} {meth : Method} {c : Code} {G : uG} {a0 : Nat} {u0 : UH} {uf : UH} {r : Int32} (hC : uC p s m args meth c G RX1 cX1_feed 12 (some .int)) (hR : 0 ≤ R.frames ∧ 0 ≤ R.locals) (hRm : uf.1 - u0.1 ≤ R.cells ∧ uf.2.1 - u0.2.1 ≤ R.slots) (N : Nat) (u : UH) (x1 : Int32) (x2 : Int32) (x3 : Int32) (x4 : Int32) (x5 : Int32) (h : f_X1_feed N (ub G) (ug G) u a0 x1 x2 x3 x4 x5 = some (r, uf)) (hz0 : (u0.1 ≤ u.1 ∧ u0.2.1 ≤ u.2.1)) {H : Heap} {locs : List Loc} (hP : uP G u H) (hS : va_S (uA G) s.heap H locs) {ls : Array Slot} (hl : lv_has ls 12 [(0, va_rf (some a0)), (1, .int x1), (2, .int x2), (3, .int x3), (4, .int x4), (5, .int x5)]) : W p l e R s m args below meth c H locs (u.1 - u0.1) (u.2.1 - u0.2.1) (MQ below (uQi G r uf) args s (uf.1 - u0.1) (uf.2.1 - u0.2.1) (uA G)) (F0 m 0 ls []) := by
  obtain ⟨⟨hx, hb, hml, hown, hts⟩, hKK⟩ := id hC
  have hzf := zz_X1_feed_0 (G := G) (a0 := a0) N u x1 x2 x3 x4 x5 h
  unfold f_X1_feed at h
  refine u_aload_n (r := some a0) hx hb dX1_feed_0 rfl (lv_at hl 0 rfl) ?_
  obtain ⟨y1, hy1, h⟩ := mbind_n h
  refine u_get hC hP (uGI_n hy1) rfl in_X1 (by decide) q220 (fun _ h => h) dX1_feed_1 ?_
  refine lv_bipush (v := 20) hx hb dX1_feed_4 (by decide) ?_
  refine lv_iadd hx hb dX1_feed_6 ?_
  refine lv_sipush (v := 500) hx hb dX1_feed_7 (by decide) ?_
  refine lv_icmp_le (tgt := 15) hx hb dX1_feed_10 (by decide) (fun c2 => ?_) (fun c2 => ?_)
  · have h := mif_t c2 h
    refine lv_iconst (v := 5) hx hb dX1_feed_15 (by decide) ?_
    obtain ⟨c4, h⟩ := mif_n h
    obtain ⟨a5, ea5⟩ : ∃ z : Nat, z = u.1 := ⟨_, rfl⟩
    have h := mlet_at ea5 h
    obtain ⟨u3, eu3⟩ : ∃ z : UH, z = uNew u (5 : Int32).toNatClampNeg (.inl (0, (5 : Int32).toNatClampNeg, .inl (fun _ => 0))) := ⟨_, rfl⟩
    have h := mlet_at eu3 h
    have zu3 : u3.1 = u.1 + 1 ∧ u3.2.1 = u.2.1 + (5 : Int32).toNatClampNeg := by rw [eu3]; exact ⟨rfl, rfl⟩
    have hq := zz_X1_feed_18 (G := G) (a0 := a0) N u3 x1 x2 x3 x4 x5 (some a5) h
    refine u_newa (atype := .int) hC hP hS (t := 0) q188 rfl (N := (5 : Int32).toNatClampNeg) (x := .inl (fun _ => 0)) (fun _ => rfl) c4.1 rfl (by have := c4.2; show _ * 4 ≤ _; omega) (by omega) (by omega) dX1_feed_16 (fun H hP hS => ?_)
    rw [← eu3] at hP
    rw [← ea5]
    refine W.cs (cells' := u3.1 - u0.1) (slots' := u3.2.1 - u0.2.1) (by omega) (by omega) ?_
    refine W.cs (cells' := u3.1 - u0.1) (slots' := u3.2.1 - u0.2.1) (by omega) (by omega) ?_
    exact w_X1_feed_18 hC hR hRm N u3 x1 x2 x3 x4 x5 (some a5) h ⟨by omega, by omega⟩ hP hS (lv_sub hl [0, 1, 2, 3, 4, 5] rfl)
  · have h := mif_f c2 h
    refine lv_iconst (v := (-1)) hx hb dX1_feed_13 (by decide) ?_
    obtain ⟨hr1, hr2⟩ := uret_n h
    subst hr1
    subst hr2
    exact u_iret hC hP hS dX1_feed_14
theorem zz_X1_feed (N b : Nat) (g : uEnv) (u : UH) (a0 : Nat) (x1 : Int32) (x2 : Int32) (x3 : Int32) (x4 : Int32) (x5 : Int32) (r : Int32) (uf : UH) (h : f_X1_feed N b g u a0 x1 x2 x3 x4 x5 = some (r, uf)) : u.1 ≤ uf.1 ∧ u.2.1 ≤ uf.2.1 :=
  zz_X1_feed_0 (G := ((fun _ => 0, fun _ _ => 0), fun _ => 0, b, g)) (a0 := a0) N u x1 x2 x3 x4 x5 h
theorem met_X1_feed (l : Launch) (N : Nat) (G : uG) (u : UH) (a0 : Nat) (x1 : Int32) (x2 : Int32) (x3 : Int32) (x4 : Int32) (x5 : Int32) (r : Int32) (uf : UH) (h : f_X1_feed N (ub G) (ug G) u a0 x1 x2 x3 x4 x5 = some (r, uf)) : Met l yX1_feed (ws_ yX1_feed cX1_feed 12 (some .int)) ({ frames := 0, cells := (uf.1 - u.1), slots := (uf.2.1 - u.2.1), locals := 0 }) (uPc G u [.ref a0, .int x1, .int x2, .int x3, .int x4, .int x5]) (uQi G r uf) (uf.1 - u.1) (uf.2.1 - u.2.1) (uA G) := by
  exact u_met (own := RX1) (by decide +kernel) rfl (Nat.le_of_ble_eq_true rfl) (fun hC hn hsz ls hl hP => W.cs (Nat.sub_self _).symm (Nat.sub_self _).symm (w_X1_feed_0 hC ⟨Nat.le_refl _, Nat.le_refl _⟩ ⟨Nat.le_refl _, Nat.le_refl _⟩ N u x1 x2 x3 x4 x5 h ⟨Nat.le_refl _, Nat.le_refl _⟩ hP va_S.rf hl))
def f_X7_values_6 (N b : Nat) (g : uEnv) (u : UH) (s0 : Option Nat) : Option (Option Nat × UH) :=
    (s0).bind fun a1 =>
    if uIsA u a1 5 = true then
    some (some a1, u)
    else none
set_option maxHeartbeats 4000000 in
set_option maxRecDepth 100000 in
theorem zz_X7_values_6 {G : uG} {uf : UH} {r : Option Nat} (N : Nat) (u : UH) (s0 : Option Nat) (h : f_X7_values_6 N (ub G) (ug G) u s0 = some (r, uf)) : u.1 ≤ uf.1 ∧ u.2.1 ≤ uf.2.1 := by
  unfold f_X7_values_6 at h
  obtain ⟨a1, ha1, hha1⟩ := mbind_n h
  subst ha1
  have h := hha1
  obtain ⟨c2, h⟩ := mif_n h
  obtain ⟨hr1, hr2⟩ := uret_n h
  subst hr2
  exact ⟨by omega, by omega⟩
set_option maxHeartbeats 4000000 in
set_option maxRecDepth 100000 in
theorem w_X7_values_6 {p : Program} {l : Launch} {e : Env} {R : Room} {s : State} {m : MethodId} {args : Array Value} {below : List Frame} {meth : Method} {c : Code} {G : uG} {u0 : UH} {uf : UH} {r : Option Nat} (hC : uC p s m args meth c G RX7 cX7_values 0 (some (.array (.object "SoftWheels$Way")))) (hR : 1 ≤ R.frames ∧ 60 ≤ R.locals) (hRm : uf.1 - u0.1 ≤ R.cells ∧ uf.2.1 - u0.2.1 ≤ R.slots) (N : Nat) (u : UH) (s0 : Option Nat) (h : f_X7_values_6 N (ub G) (ug G) u s0 = some (r, uf)) (hz0 : (u0.1 ≤ u.1 ∧ u0.2.1 ≤ u.2.1)) {H : Heap} {locs : List Loc} (hP : uP G u H) (hS : va_S (uA G) s.heap H locs) {ls : Array Slot} (hl : lv_has ls 0 []) : W p l e R s m args below meth c H locs (u.1 - u0.1) (u.2.1 - u0.2.1) (MQ below (uQr G r uf) args s (uf.1 - u0.1) (uf.2.1 - u0.2.1) (uA G)) (F0 m 6 ls [va_rf s0]) := by
  obtain ⟨⟨hx, hb, hml, hown, hts⟩, hKK⟩ := id hC
  have hzf := zz_X7_values_6 (G := G) N u s0 h
  unfold f_X7_values_6 at h
  obtain ⟨a1, ha1, hha1⟩ := mbind_n h
  subst ha1
  have h := hha1
  obtain ⟨c2, h⟩ := mif_n h
  refine u_castW hC hP c2 q1131 dX7_values_6 ?_
  obtain ⟨hr1, hr2⟩ := uret_n h
  subst hr1
  subst hr2
  exact u_aret hC (Or.inr ⟨_, rfl⟩) hP hS dX7_values_9
def f_X7_values (N b : Nat) (g : uEnv) (u : UH) : Option (Option Nat × UH) :=
    mlet (g.1 9) fun o1 =>
    (o1).bind fun a2 =>
    mlet (u.1) fun a3 =>
    (uClW g u a2).bind fun u4 =>
    f_X7_values_6 N b g u4 (some a3)
set_option maxHeartbeats 4000000 in
set_option maxRecDepth 100000 in
theorem zz_X7_values_0 {G : uG} {uf : UH} {r : Option Nat} (N : Nat) (u : UH) (h : f_X7_values N (ub G) (ug G) u = some (r, uf)) : u.1 ≤ uf.1 ∧ u.2.1 ≤ uf.2.1 := by
  unfold f_X7_values at h
  obtain ⟨o1, eo1⟩ : ∃ z, z = (ug G).1 9 := ⟨_, rfl⟩
  have h := mlet_at eo1 h
  obtain ⟨a2, ha2, hha2⟩ := mbind_n h
  subst ha2
  have h := hha2
  obtain ⟨a3, ea3⟩ : ∃ z : Nat, z = u.1 := ⟨_, rfl⟩
  have h := mlet_at ea3 h
  obtain ⟨u4, hu4, h⟩ := mbind_n h
  have zu4 := uClW_sz hu4
  have hq := zz_X7_values_6 (G := G) N u4 (some a3) h
  exact ⟨by omega, by omega⟩
set_option maxHeartbeats 4000000 in
set_option maxRecDepth 100000 in
theorem w_X7_values_0 {p : Program} {l : Launch} {e : Env} {R : Room} {s : State} {m : MethodId} {args : Array Value} {below : List Frame} {meth : Method} {c : Code} {G : uG} {u0 : UH} {uf : UH} {r : Option Nat} (hC : uC p s m args meth c G RX7 cX7_values 0 (some (.array (.object "SoftWheels$Way")))) (hR : 1 ≤ R.frames ∧ 60 ≤ R.locals) (hRm : uf.1 - u0.1 ≤ R.cells ∧ uf.2.1 - u0.2.1 ≤ R.slots) (N : Nat) (u : UH) (h : f_X7_values N (ub G) (ug G) u = some (r, uf)) (hz0 : (u0.1 ≤ u.1 ∧ u0.2.1 ≤ u.2.1)) {H : Heap} {locs : List Loc} (hP : uP G u H) (hS : va_S (uA G) s.heap H locs) {ls : Array Slot} (hl : lv_has ls 0 []) : W p l e R s m args below meth c H locs (u.1 - u0.1) (u.2.1 - u0.2.1) (MQ below (uQr G r uf) args s (uf.1 - u0.1) (uf.2.1 - u0.2.1) (uA G)) (F0 m 0 ls []) := by
  obtain ⟨⟨hx, hb, hml, hown, hts⟩, hKK⟩ := id hC
  have hzf := zz_X7_values_0 (G := G) N u h
  unfold f_X7_values at h
  refine u_gets hC hS 9 rfl q1124 (fun _ h => h) dX7_values_0 ?_
  obtain ⟨o1, eo1⟩ : ∃ z, z = (ug G).1 9 := ⟨_, rfl⟩
  have h := mlet_at eo1 h
  rw [← eo1]
  obtain ⟨a2, ha2, hha2⟩ := mbind_n h
  subst ha2
  have h := hha2
  obtain ⟨a3, ea3⟩ : ∃ z : Nat, z = u.1 := ⟨_, rfl⟩
  have h := mlet_at ea3 h
  obtain ⟨u4, hu4, h⟩ := mbind_n h
  have zu4 := uClW_sz hu4
  have hq := zz_X7_values_6 (G := G) N u4 (some a3) h
  refine u_cloneW hC hP hS hu4 q1126 hl.1 (Nat.le_trans (Nat.le_of_ble_eq_true rfl) hR.1) (Nat.le_trans (by decide +kernel) hR.2) (by omega) (by omega) dX7_values_3 (fun H hP hS => ?_)
  rw [← ea3]
  refine W.cs (cells' := u4.1 - u0.1) (slots' := u4.2.1 - u0.2.1) (by omega) (by omega) ?_
  refine W.cs (cells' := u4.1 - u0.1) (slots' := u4.2.1 - u0.2.1) (by omega) (by omega) ?_
  exact w_X7_values_6 hC hR hRm N u4 (some a3) h ⟨by omega, by omega⟩ hP hS (lv_sub hl [] rfl)
theorem zz_X7_values (N b : Nat) (g : uEnv) (u : UH) (r : Option Nat) (uf : UH) (h : f_X7_values N b g u = some (r, uf)) : u.1 ≤ uf.1 ∧ u.2.1 ≤ uf.2.1 :=
  zz_X7_values_0 (G := ((fun _ => 0, fun _ _ => 0), fun _ => 0, b, g)) N u h
theorem met_X7_values (l : Launch) (N : Nat) (G : uG) (u : UH) (r : Option Nat) (uf : UH) (h : f_X7_values N (ub G) (ug G) u = some (r, uf)) : Met l yX7_values (ws_ yX7_values cX7_values 0 (some (.array (.object "SoftWheels$Way")))) ({ frames := 1, cells := (uf.1 - u.1), slots := (uf.2.1 - u.2.1), locals := 60 }) (uPc G u []) (uQr G r uf) (uf.1 - u.1) (uf.2.1 - u.2.1) (uA G) := by
  exact u_met (own := RX7) (by decide +kernel) rfl (Nat.le_of_ble_eq_true rfl) (fun hC hn hsz ls hl hP => W.cs (Nat.sub_self _).symm (Nat.sub_self _).symm (w_X7_values_0 hC ⟨Nat.le_refl _, Nat.le_refl _⟩ ⟨Nat.le_refl _, Nat.le_refl _⟩ N u h ⟨Nat.le_refl _, Nat.le_refl _⟩ hP va_S.rf hl))
def f_X14_init_62 (N b : Nat) (g : uEnv) (a0 : Nat) (u : UH) (s0 : Option Nat) (s1 : Option Nat) : Option (UH) :=
    (s1).bind fun a1 =>
    (uPut b u a1 12 5 (va_rf s0)).bind fun u2 =>
    some u2
set_option maxHeartbeats 4000000 in
set_option maxRecDepth 100000 in
theorem zz_X14_init_62 {G : uG} {a0 : Nat} {uf : UH} (N : Nat) (u : UH) (s0 : Option Nat) (s1 : Option Nat) (h : f_X14_init_62 N (ub G) (ug G) a0 u s0 s1 = some uf) : u.1 ≤ uf.1 ∧ u.2.1 ≤ uf.2.1 := by
  unfold f_X14_init_62 at h
  obtain ⟨a1, ha1, hha1⟩ := mbind_n h
  subst ha1
  have h := hha1
  obtain ⟨u2, hu2, h⟩ := mbind_n h
  have zu2 := uPut_sz hu2
  cases h
  exact ⟨by omega, by omega⟩
set_option maxHeartbeats 4000000 in
set_option maxRecDepth 100000 in
theorem w_X14_init_62 {p : Program} {l : Launch} {e : Env} {R : Room} {s : State} {m : MethodId} {args : Array Value} {below : List Frame} {meth : Method} {c : Code} {G : uG} {a0 : Nat} {u0 : UH} {uf : UH} (hC : uC p s m args meth c G RX14 cX14_init 4 none) (hI : meth.name = "<init>") (hR : 4 ≤ R.frames ∧ 80 ≤ R.locals) (hRm : uf.1 - u0.1 ≤ R.cells ∧ uf.2.1 - u0.2.1 ≤ R.slots) (N : Nat) (u : UH) (s0 : Option Nat) (s1 : Option Nat) (h : f_X14_init_62 N (ub G) (ug G) a0 u s0 s1 = some uf) (hz0 : (u0.1 ≤ u.1 ∧ u0.2.1 ≤ u.2.1)) {H : Heap} {locs : List Loc} (hP : uP G u H) (hS : va_S (uA G) s.heap H locs) {ls : Array Slot} (hl : lv_has ls 4 []) : W p l e R s m args below meth c H locs (u.1 - u0.1) (u.2.1 - u0.2.1) (MQ below (uQv G uf) args s (uf.1 - u0.1) (uf.2.1 - u0.2.1) (uA G)) (F0 m 62 ls [va_rf s0, va_rf s1]) := by
  obtain ⟨⟨hx, hb, hml, hown, hts⟩, hKK⟩ := id hC
  have hzf := zz_X14_init_62 (G := G) (a0 := a0) N u s0 s1 h
  unfold f_X14_init_62 at h
  obtain ⟨a1, ha1, hha1⟩ := mbind_n h
  subst ha1
  have h := hha1
  obtain ⟨u2, hu2, h⟩ := mbind_n h
  have zu2 := uPut_sz hu2
  refine u_putF hC hI hP hS hu2 rfl in_X14 tyX14 tyX14_ok nmX14 (by decide) q1144 (fun _ h => h) rfl rfl (ty := (.array (.object "SoftWheels$Doubt"))) (tyX14_ok 5 (by decide)) (uNarA _ s0).1 (uNarA _ s0).2 dX14_init_62 (fun H locs hP hS => ?_)
  refine W.cs (cells' := u2.1 - u0.1) (slots' := u2.2.1 - u0.2.1) (by omega) (by omega) ?_
  cases h
  exact u_vret hC hP hS dX14_init_65
def f_X14_init_52 (N b : Nat) (g : uEnv) (a0 : Nat) (u : UH) (x2 : Int32) (x3 : Int32) (s0 : Option Nat) (s1 : Option Nat) : Option (UH) :=
    (s1).bind fun a1 =>
    (uPut b u a1 12 4 (va_rf s0)).bind fun u2 =>
    if ¬ (x2 * x3) < 0 ∧ (x2 * x3).toNatClampNeg ≤ 60000000 then
    mlet (u2.1) fun a5 =>
    mlet (uNew u2 (x2 * x3).toNatClampNeg (.inl (6, (x2 * x3).toNatClampNeg, .inr (.inr (.inr (.inr (fun _ => none))))))) fun u3 =>
    f_X14_init_62 N b g a0 u3 (some a5) (some a0)
    else none
set_option maxHeartbeats 4000000 in
set_option maxRecDepth 100000 in
theorem zz_X14_init_52 {G : uG} {a0 : Nat} {uf : UH} (N : Nat) (u : UH) (x2 : Int32) (x3 : Int32) (s0 : Option Nat) (s1 : Option Nat) (h : f_X14_init_52 N (ub G) (ug G) a0 u x2 x3 s0 s1 = some uf) : u.1 ≤ uf.1 ∧ u.2.1 ≤ uf.2.1 := by
  unfold f_X14_init_52 at h
  obtain ⟨a1, ha1, hha1⟩ := mbind_n h
  subst ha1
  have h := hha1
  obtain ⟨u2, hu2, h⟩ := mbind_n h
  have zu2 := uPut_sz hu2
  obtain ⟨c4, h⟩ := mif_n h
  obtain ⟨a5, ea5⟩ : ∃ z : Nat, z = u2.1 := ⟨_, rfl⟩
  have h := mlet_at ea5 h
  obtain ⟨u3, eu3⟩ : ∃ z : UH, z = uNew u2 (x2 * x3).toNatClampNeg (.inl (6, (x2 * x3).toNatClampNeg, .inr (.inr (.inr (.inr (fun _ => none)))))) := ⟨_, rfl⟩
  have h := mlet_at eu3 h
  have zu3 : u3.1 = u2.1 + 1 ∧ u3.2.1 = u2.2.1 + (x2 * x3).toNatClampNeg := by rw [eu3]; exact ⟨rfl, rfl⟩
  have hq := zz_X14_init_62 (G := G) (a0 := a0) N u3 (some a5) (some a0) h
  exact ⟨by omega, by omega⟩
set_option maxHeartbeats 4000000 in
set_option maxRecDepth 100000 in
theorem w_X14_init_52 {p : Program} {l : Launch} {e : Env} {R : Room} {s : State} {m : MethodId} {args : Array Value} {below : List Frame} {meth : Method} {c : Code} {G : uG} {a0 : Nat} {u0 : UH} {uf : UH} (hC : uC p s m args meth c G RX14 cX14_init 4 none) (hI : meth.name = "<init>") (hR : 4 ≤ R.frames ∧ 80 ≤ R.locals) (hRm : uf.1 - u0.1 ≤ R.cells ∧ uf.2.1 - u0.2.1 ≤ R.slots) (N : Nat) (u : UH) (x2 : Int32) (x3 : Int32) (s0 : Option Nat) (s1 : Option Nat) (h : f_X14_init_52 N (ub G) (ug G) a0 u x2 x3 s0 s1 = some uf) (hz0 : (u0.1 ≤ u.1 ∧ u0.2.1 ≤ u.2.1)) {H : Heap} {locs : List Loc} (hP : uP G u H) (hS : va_S (uA G) s.heap H locs) {ls : Array Slot} (hl : lv_has ls 4 [(0, va_rf (some a0)), (2, .int x2), (3, .int x3)]) : W p l e R s m args below meth c H locs (u.1 - u0.1) (u.2.1 - u0.2.1) (MQ below (uQv G uf) args s (uf.1 - u0.1) (uf.2.1 - u0.2.1) (uA G)) (F0 m 52 ls [va_rf s0, va_rf s1]) := by
  obtain ⟨⟨hx, hb, hml, hown, hts⟩, hKK⟩ := id hC
  have hzf := zz_X14_init_52 (G := G) (a0 := a0) N u x2 x3 s0 s1 h
  unfold f_X14_init_52 at h
  obtain ⟨a1, ha1, hha1⟩ := mbind_n h
  subst ha1
  have h := hha1
  obtain ⟨u2, hu2, h⟩ := mbind_n h
  have zu2 := uPut_sz hu2
  refine u_putF hC hI hP hS hu2 rfl in_X14 tyX14 tyX14_ok nmX14 (by decide) q1140 (fun _ h => h) rfl rfl (ty := (.array .int)) (tyX14_ok 4 (by decide)) (uNarA _ s0).1 (uNarA _ s0).2 dX14_init_52 (fun H locs hP hS => ?_)
  refine W.cs (cells' := u2.1 - u0.1) (slots' := u2.2.1 - u0.2.1) (by omega) (by omega) ?_
  refine u_aload_n (r := some a0) hx hb dX14_init_55 rfl (lv_at hl 0 rfl) ?_
  refine lv_iload_n hx hb dX14_init_56 rfl (lv_at hl 1 rfl) ?_
  refine lv_iload_n hx hb dX14_init_57 rfl (lv_at hl 2 rfl) ?_
  refine lv_imul hx hb dX14_init_58 ?_
  obtain ⟨c4, h⟩ := mif_n h
  obtain ⟨a5, ea5⟩ : ∃ z : Nat, z = u2.1 := ⟨_, rfl⟩
  have h := mlet_at ea5 h
  obtain ⟨u3, eu3⟩ : ∃ z : UH, z = uNew u2 (x2 * x3).toNatClampNeg (.inl (6, (x2 * x3).toNatClampNeg, .inr (.inr (.inr (.inr (fun _ => none)))))) := ⟨_, rfl⟩
  have h := mlet_at eu3 h
  have zu3 : u3.1 = u2.1 + 1 ∧ u3.2.1 = u2.2.1 + (x2 * x3).toNatClampNeg := by rw [eu3]; exact ⟨rfl, rfl⟩
  have hq := zz_X14_init_62 (G := G) (a0 := a0) N u3 (some a5) (some a0) h
  refine u_anew hC hP hS (t := 6) q1132 hC.2.1.2.2.2.2.1 rfl (N := (x2 * x3).toNatClampNeg) c4.1 rfl (by have := c4.2; omega) (by omega) (by omega) dX14_init_59 (fun H hP hS => ?_)
  rw [← eu3] at hP
  rw [← ea5]
  refine W.cs (cells' := u3.1 - u0.1) (slots' := u3.2.1 - u0.2.1) (by omega) (by omega) ?_
  refine W.cs (cells' := u3.1 - u0.1) (slots' := u3.2.1 - u0.2.1) (by omega) (by omega) ?_
  exact w_X14_init_62 hC hI hR hRm N u3 (some a5) (some a0) h ⟨by omega, by omega⟩ hP hS (lv_sub hl [] rfl)
def f_X14_init_43 (N b : Nat) (g : uEnv) (a0 : Nat) (u : UH) (x2 : Int32) (x3 : Int32) (s0 : Option Nat) (s1 : Option Nat) : Option (UH) :=
    (s1).bind fun a1 =>
    (uPut b u a1 12 3 (va_rf s0)).bind fun u2 =>
    if ¬ (x2 * x3) < 0 ∧ (x2 * x3).toNatClampNeg ≤ 60000000 then
    mlet (u2.1) fun a5 =>
    mlet (uNew u2 (x2 * x3).toNatClampNeg (.inl (0, (x2 * x3).toNatClampNeg, .inl (fun _ => 0)))) fun u3 =>
    f_X14_init_52 N b g a0 u3 x2 x3 (some a5) (some a0)
    else none
set_option maxHeartbeats 4000000 in
set_option maxRecDepth 100000 in
theorem zz_X14_init_43 {G : uG} {a0 : Nat} {uf : UH} (N : Nat) (u : UH) (x2 : Int32) (x3 : Int32) (s0 : Option Nat) (s1 : Option Nat) (h : f_X14_init_43 N (ub G) (ug G) a0 u x2 x3 s0 s1 = some uf) : u.1 ≤ uf.1 ∧ u.2.1 ≤ uf.2.1 := by
  unfold f_X14_init_43 at h
  obtain ⟨a1, ha1, hha1⟩ := mbind_n h
  subst ha1
  have h := hha1
  obtain ⟨u2, hu2, h⟩ := mbind_n h
  have zu2 := uPut_sz hu2
  obtain ⟨c4, h⟩ := mif_n h
  obtain ⟨a5, ea5⟩ : ∃ z : Nat, z = u2.1 := ⟨_, rfl⟩
  have h := mlet_at ea5 h
  obtain ⟨u3, eu3⟩ : ∃ z : UH, z = uNew u2 (x2 * x3).toNatClampNeg (.inl (0, (x2 * x3).toNatClampNeg, .inl (fun _ => 0))) := ⟨_, rfl⟩
  have h := mlet_at eu3 h
  have zu3 : u3.1 = u2.1 + 1 ∧ u3.2.1 = u2.2.1 + (x2 * x3).toNatClampNeg := by rw [eu3]; exact ⟨rfl, rfl⟩
  have hq := zz_X14_init_52 (G := G) (a0 := a0) N u3 x2 x3 (some a5) (some a0) h
  exact ⟨by omega, by omega⟩
set_option maxHeartbeats 4000000 in
set_option maxRecDepth 100000 in
theorem w_X14_init_43 {p : Program} {l : Launch} {e : Env} {R : Room} {s : State} {m : MethodId} {args : Array Value} {below : List Frame} {meth : Method} {c : Code} {G : uG} {a0 : Nat} {u0 : UH} {uf : UH} (hC : uC p s m args meth c G RX14 cX14_init 4 none) (hI : meth.name = "<init>") (hR : 4 ≤ R.frames ∧ 80 ≤ R.locals) (hRm : uf.1 - u0.1 ≤ R.cells ∧ uf.2.1 - u0.2.1 ≤ R.slots) (N : Nat) (u : UH) (x2 : Int32) (x3 : Int32) (s0 : Option Nat) (s1 : Option Nat) (h : f_X14_init_43 N (ub G) (ug G) a0 u x2 x3 s0 s1 = some uf) (hz0 : (u0.1 ≤ u.1 ∧ u0.2.1 ≤ u.2.1)) {H : Heap} {locs : List Loc} (hP : uP G u H) (hS : va_S (uA G) s.heap H locs) {ls : Array Slot} (hl : lv_has ls 4 [(0, va_rf (some a0)), (2, .int x2), (3, .int x3)]) : W p l e R s m args below meth c H locs (u.1 - u0.1) (u.2.1 - u0.2.1) (MQ below (uQv G uf) args s (uf.1 - u0.1) (uf.2.1 - u0.2.1) (uA G)) (F0 m 43 ls [va_rf s0, va_rf s1]) := by
  obtain ⟨⟨hx, hb, hml, hown, hts⟩, hKK⟩ := id hC
  have hzf := zz_X14_init_43 (G := G) (a0 := a0) N u x2 x3 s0 s1 h
  unfold f_X14_init_43 at h
  obtain ⟨a1, ha1, hha1⟩ := mbind_n h
  subst ha1
  have h := hha1
  obtain ⟨u2, hu2, h⟩ := mbind_n h
  have zu2 := uPut_sz hu2
  refine u_putF hC hI hP hS hu2 rfl in_X14 tyX14 tyX14_ok nmX14 (by decide) q1138 (fun _ h => h) rfl rfl (ty := (.array .int)) (tyX14_ok 3 (by decide)) (uNarA _ s0).1 (uNarA _ s0).2 dX14_init_43 (fun H locs hP hS => ?_)
  refine W.cs (cells' := u2.1 - u0.1) (slots' := u2.2.1 - u0.2.1) (by omega) (by omega) ?_
  refine u_aload_n (r := some a0) hx hb dX14_init_46 rfl (lv_at hl 0 rfl) ?_
  refine lv_iload_n hx hb dX14_init_47 rfl (lv_at hl 1 rfl) ?_
  refine lv_iload_n hx hb dX14_init_48 rfl (lv_at hl 2 rfl) ?_
  refine lv_imul hx hb dX14_init_49 ?_
  obtain ⟨c4, h⟩ := mif_n h
  obtain ⟨a5, ea5⟩ : ∃ z : Nat, z = u2.1 := ⟨_, rfl⟩
  have h := mlet_at ea5 h
  obtain ⟨u3, eu3⟩ : ∃ z : UH, z = uNew u2 (x2 * x3).toNatClampNeg (.inl (0, (x2 * x3).toNatClampNeg, .inl (fun _ => 0))) := ⟨_, rfl⟩
  have h := mlet_at eu3 h
  have zu3 : u3.1 = u2.1 + 1 ∧ u3.2.1 = u2.2.1 + (x2 * x3).toNatClampNeg := by rw [eu3]; exact ⟨rfl, rfl⟩
  have hq := zz_X14_init_52 (G := G) (a0 := a0) N u3 x2 x3 (some a5) (some a0) h
  refine u_newa (atype := .int) hC hP hS (t := 0) q188 rfl (N := (x2 * x3).toNatClampNeg) (x := .inl (fun _ => 0)) (fun _ => rfl) c4.1 rfl (by have := c4.2; show _ * 4 ≤ _; omega) (by omega) (by omega) dX14_init_50 (fun H hP hS => ?_)
  rw [← eu3] at hP
  rw [← ea5]
  refine W.cs (cells' := u3.1 - u0.1) (slots' := u3.2.1 - u0.2.1) (by omega) (by omega) ?_
  refine W.cs (cells' := u3.1 - u0.1) (slots' := u3.2.1 - u0.2.1) (by omega) (by omega) ?_
  exact w_X14_init_52 hC hI hR hRm N u3 x2 x3 (some a5) (some a0) h ⟨by omega, by omega⟩ hP hS (lv_sub hl [0, 1, 2] rfl)
def f_X14_init_19 (N b : Nat) (g : uEnv) (a0 : Nat) (u : UH) (x1 : Option Nat) (x2 : Int32) (x3 : Int32) (s0 : Option Nat) (s1 : Option Nat) : Option (UH) :=
    (s1).bind fun a1 =>
    (uPut b u a1 12 7 (va_rf s0)).bind fun u2 =>
    (uPut b u2 a0 12 0 (va_rf x1)).bind fun u3 =>
    (uPut b u3 a0 12 1 (.int x2)).bind fun u4 =>
    (uPut b u4 a0 12 2 (.int x3)).bind fun u5 =>
    if ¬ (x2 * x3) < 0 ∧ (x2 * x3).toNatClampNeg ≤ 60000000 then
    mlet (u5.1) fun a8 =>
    mlet (uNew u5 (x2 * x3).toNatClampNeg (.inl (0, (x2 * x3).toNatClampNeg, .inl (fun _ => 0)))) fun u6 =>
    f_X14_init_43 N b g a0 u6 x2 x3 (some a8) (some a0)
    else none
set_option maxHeartbeats 4000000 in
set_option maxRecDepth 100000 in
theorem zz_X14_init_19 {G : uG} {a0 : Nat} {uf : UH} (N : Nat) (u : UH) (x1 : Option Nat) (x2 : Int32) (x3 : Int32) (s0 : Option Nat) (s1 : Option Nat) (h : f_X14_init_19 N (ub G) (ug G) a0 u x1 x2 x3 s0 s1 = some uf) : u.1 ≤ uf.1 ∧ u.2.1 ≤ uf.2.1 := by
  unfold f_X14_init_19 at h
  obtain ⟨a1, ha1, hha1⟩ := mbind_n h
  subst ha1
  have h := hha1
  obtain ⟨u2, hu2, h⟩ := mbind_n h
  have zu2 := uPut_sz hu2
  obtain ⟨u3, hu3, h⟩ := mbind_n h
  have zu3 := uPut_sz hu3
  obtain ⟨u4, hu4, h⟩ := mbind_n h
  have zu4 := uPut_sz hu4
  obtain ⟨u5, hu5, h⟩ := mbind_n h
  have zu5 := uPut_sz hu5
  obtain ⟨c7, h⟩ := mif_n h
  obtain ⟨a8, ea8⟩ : ∃ z : Nat, z = u5.1 := ⟨_, rfl⟩
  have h := mlet_at ea8 h
  obtain ⟨u6, eu6⟩ : ∃ z : UH, z = uNew u5 (x2 * x3).toNatClampNeg (.inl (0, (x2 * x3).toNatClampNeg, .inl (fun _ => 0))) := ⟨_, rfl⟩
  have h := mlet_at eu6 h
  have zu6 : u6.1 = u5.1 + 1 ∧ u6.2.1 = u5.2.1 + (x2 * x3).toNatClampNeg := by rw [eu6]; exact ⟨rfl, rfl⟩
  have hq := zz_X14_init_43 (G := G) (a0 := a0) N u6 x2 x3 (some a8) (some a0) h
  exact ⟨by omega, by omega⟩
set_option maxHeartbeats 4000000 in
set_option maxRecDepth 100000 in
theorem w_X14_init_19 {p : Program} {l : Launch} {e : Env} {R : Room} {s : State} {m : MethodId} {args : Array Value} {below : List Frame} {meth : Method} {c : Code} {G : uG} {a0 : Nat} {u0 : UH} {uf : UH} (hC : uC p s m args meth c G RX14 cX14_init 4 none) (hI : meth.name = "<init>") (hR : 4 ≤ R.frames ∧ 80 ≤ R.locals) (hRm : uf.1 - u0.1 ≤ R.cells ∧ uf.2.1 - u0.2.1 ≤ R.slots) (N : Nat) (u : UH) (x1 : Option Nat) (x2 : Int32) (x3 : Int32) (s0 : Option Nat) (s1 : Option Nat) (h : f_X14_init_19 N (ub G) (ug G) a0 u x1 x2 x3 s0 s1 = some uf) (hz0 : (u0.1 ≤ u.1 ∧ u0.2.1 ≤ u.2.1)) {H : Heap} {locs : List Loc} (hP : uP G u H) (hS : va_S (uA G) s.heap H locs) {ls : Array Slot} (hl : lv_has ls 4 [(0, va_rf (some a0)), (1, va_rf x1), (2, .int x2), (3, .int x3)]) : W p l e R s m args below meth c H locs (u.1 - u0.1) (u.2.1 - u0.2.1) (MQ below (uQv G uf) args s (uf.1 - u0.1) (uf.2.1 - u0.2.1) (uA G)) (F0 m 19 ls [va_rf s0, va_rf s1]) := by
  obtain ⟨⟨hx, hb, hml, hown, hts⟩, hKK⟩ := id hC
  have hzf := zz_X14_init_19 (G := G) (a0 := a0) N u x1 x2 x3 s0 s1 h
  unfold f_X14_init_19 at h
  obtain ⟨a1, ha1, hha1⟩ := mbind_n h
  subst ha1
  have h := hha1
  obtain ⟨u2, hu2, h⟩ := mbind_n h
  have zu2 := uPut_sz hu2
  refine u_putF hC hI hP hS hu2 rfl in_X14 tyX14 tyX14_ok nmX14 (by decide) q1152 (fun _ h => h) rfl rfl (ty := (.array (.object "SoftWheels$Way"))) (tyX14_ok 7 (by decide)) (uNarA _ s0).1 (uNarA _ s0).2 dX14_init_19 (fun H locs hP hS => ?_)
  refine W.cs (cells' := u2.1 - u0.1) (slots' := u2.2.1 - u0.2.1) (by omega) (by omega) ?_
  refine u_aload_n (r := some a0) hx hb dX14_init_22 rfl (lv_at hl 0 rfl) ?_
  refine u_aload_n (r := x1) hx hb dX14_init_23 rfl (lv_at hl 1 rfl) ?_
  obtain ⟨u3, hu3, h⟩ := mbind_n h
  have zu3 := uPut_sz hu3
  refine u_putF hC hI hP hS hu3 rfl in_X14 tyX14 tyX14_ok nmX14 (by decide) q1134 (fun _ h => h) rfl rfl (ty := (.object "SoftWheels$Book")) (tyX14_ok 0 (by decide)) (uNarR _ x1).1 (uNarR _ x1).2 dX14_init_24 (fun H locs hP hS => ?_)
  refine W.cs (cells' := u3.1 - u0.1) (slots' := u3.2.1 - u0.2.1) (by omega) (by omega) ?_
  refine u_aload_n (r := some a0) hx hb dX14_init_27 rfl (lv_at hl 0 rfl) ?_
  refine lv_iload_n hx hb dX14_init_28 rfl (lv_at hl 2 rfl) ?_
  obtain ⟨u4, hu4, h⟩ := mbind_n h
  have zu4 := uPut_sz hu4
  refine u_putF hC hI hP hS hu4 rfl in_X14 tyX14 tyX14_ok nmX14 (by decide) q1136 (fun _ h => h) rfl rfl (ty := .int) (tyX14_ok 1 (by decide)) rfl rfl dX14_init_29 (fun H locs hP hS => ?_)
  refine W.cs (cells' := u4.1 - u0.1) (slots' := u4.2.1 - u0.2.1) (by omega) (by omega) ?_
  refine u_aload_n (r := some a0) hx hb dX14_init_32 rfl (lv_at hl 0 rfl) ?_
  refine lv_iload_n hx hb dX14_init_33 rfl (lv_at hl 3 rfl) ?_
  obtain ⟨u5, hu5, h⟩ := mbind_n h
  have zu5 := uPut_sz hu5
  refine u_putF hC hI hP hS hu5 rfl in_X14 tyX14 tyX14_ok nmX14 (by decide) q1137 (fun _ h => h) rfl rfl (ty := .int) (tyX14_ok 2 (by decide)) rfl rfl dX14_init_34 (fun H locs hP hS => ?_)
  refine W.cs (cells' := u5.1 - u0.1) (slots' := u5.2.1 - u0.2.1) (by omega) (by omega) ?_
  refine u_aload_n (r := some a0) hx hb dX14_init_37 rfl (lv_at hl 0 rfl) ?_
  refine lv_iload_n hx hb dX14_init_38 rfl (lv_at hl 2 rfl) ?_
  refine lv_iload_n hx hb dX14_init_39 rfl (lv_at hl 3 rfl) ?_
  refine lv_imul hx hb dX14_init_40 ?_
  obtain ⟨c7, h⟩ := mif_n h
  obtain ⟨a8, ea8⟩ : ∃ z : Nat, z = u5.1 := ⟨_, rfl⟩
  have h := mlet_at ea8 h
  obtain ⟨u6, eu6⟩ : ∃ z : UH, z = uNew u5 (x2 * x3).toNatClampNeg (.inl (0, (x2 * x3).toNatClampNeg, .inl (fun _ => 0))) := ⟨_, rfl⟩
  have h := mlet_at eu6 h
  have zu6 : u6.1 = u5.1 + 1 ∧ u6.2.1 = u5.2.1 + (x2 * x3).toNatClampNeg := by rw [eu6]; exact ⟨rfl, rfl⟩
  have hq := zz_X14_init_43 (G := G) (a0 := a0) N u6 x2 x3 (some a8) (some a0) h
  refine u_newa (atype := .int) hC hP hS (t := 0) q188 rfl (N := (x2 * x3).toNatClampNeg) (x := .inl (fun _ => 0)) (fun _ => rfl) c7.1 rfl (by have := c7.2; show _ * 4 ≤ _; omega) (by omega) (by omega) dX14_init_41 (fun H hP hS => ?_)
  rw [← eu6] at hP
  rw [← ea8]
  refine W.cs (cells' := u6.1 - u0.1) (slots' := u6.2.1 - u0.2.1) (by omega) (by omega) ?_
  refine W.cs (cells' := u6.1 - u0.1) (slots' := u6.2.1 - u0.2.1) (by omega) (by omega) ?_
  exact w_X14_init_43 hC hI hR hRm N u6 x2 x3 (some a8) (some a0) h ⟨by omega, by omega⟩ hP hS (lv_sub hl [0, 2, 3] rfl)
def f_X14_init_8 (N b : Nat) (g : uEnv) (a0 : Nat) (u : UH) (x1 : Option Nat) (x2 : Int32) (x3 : Int32) (s0 : Option Nat) (s1 : Option Nat) : Option (UH) :=
    (s0).bind fun a1 =>
    (f_J2_init N b g u a1).bind fun u2 =>
    (s1).bind fun a4 =>
    (uPut b u2 a4 12 6 (va_rf (some a1))).bind fun u5 =>
    ucall (f_X7_values N b g u5) fun o8 u6 =>
    f_X14_init_19 N b g a0 u6 x1 x2 x3 o8 (some a0)
set_option maxHeartbeats 4000000 in
set_option maxRecDepth 100000 in
theorem zz_X14_init_8 {G : uG} {a0 : Nat} {uf : UH} (N : Nat) (u : UH) (x1 : Option Nat) (x2 : Int32) (x3 : Int32) (s0 : Option Nat) (s1 : Option Nat) (h : f_X14_init_8 N (ub G) (ug G) a0 u x1 x2 x3 s0 s1 = some uf) : u.1 ≤ uf.1 ∧ u.2.1 ≤ uf.2.1 := by
  unfold f_X14_init_8 at h
  obtain ⟨a1, ha1, hha1⟩ := mbind_n h
  subst ha1
  have h := hha1
  obtain ⟨u2, c3, h⟩ := mbind_n h
  have zu2 := zz_J2_init N (ub G) (ug G) u a1 u2 c3
  obtain ⟨a4, ha4, hha4⟩ := mbind_n h
  subst ha4
  have h := hha4
  obtain ⟨u5, hu5, h⟩ := mbind_n h
  have zu5 := uPut_sz hu5
  obtain ⟨o8, u6, c7, h⟩ := ucall_n h
  have zu6 := zz_X7_values N (ub G) (ug G) u5 o8 u6 c7
  have hq := zz_X14_init_19 (G := G) (a0 := a0) N u6 x1 x2 x3 o8 (some a0) h
  exact ⟨by omega, by omega⟩
set_option maxHeartbeats 4000000 in
set_option maxRecDepth 100000 in
theorem w_X14_init_8 {p : Program} {l : Launch} {e : Env} {R : Room} {s : State} {m : MethodId} {args : Array Value} {below : List Frame} {meth : Method} {c : Code} {G : uG} {a0 : Nat} {u0 : UH} {uf : UH} (hC : uC p s m args meth c G RX14 cX14_init 4 none) (hI : meth.name = "<init>") (hR : 4 ≤ R.frames ∧ 80 ≤ R.locals) (hRm : uf.1 - u0.1 ≤ R.cells ∧ uf.2.1 - u0.2.1 ≤ R.slots) (N : Nat) (u : UH) (x1 : Option Nat) (x2 : Int32) (x3 : Int32) (s0 : Option Nat) (s1 : Option Nat) (h : f_X14_init_8 N (ub G) (ug G) a0 u x1 x2 x3 s0 s1 = some uf) (hz0 : (u0.1 ≤ u.1 ∧ u0.2.1 ≤ u.2.1)) {H : Heap} {locs : List Loc} (hP : uP G u H) (hS : va_S (uA G) s.heap H locs) {ls : Array Slot} (hl : lv_has ls 4 [(0, va_rf (some a0)), (1, va_rf x1), (2, .int x2), (3, .int x3)]) : W p l e R s m args below meth c H locs (u.1 - u0.1) (u.2.1 - u0.2.1) (MQ below (uQv G uf) args s (uf.1 - u0.1) (uf.2.1 - u0.2.1) (uA G)) (F0 m 8 ls [va_rf s0, va_rf s1]) := by
  obtain ⟨⟨hx, hb, hml, hown, hts⟩, hKK⟩ := id hC
  have hzf := zz_X14_init_8 (G := G) (a0 := a0) N u x1 x2 x3 s0 s1 h
  unfold f_X14_init_8 at h
  refine lv_dup hx hb dX14_init_8 (u_cat _) ?_
  obtain ⟨a1, ha1, hha1⟩ := mbind_n h
  subst ha1
  have h := hha1
  obtain ⟨u2, c3, h⟩ := mbind_n h
  have zu2 := zz_J2_init N (ub G) (ug G) u a1 u2 c3
  refine u_callv (va_runI (As := []) (rest := [va_rf (some a1), va_rf s1]) hC.1 (met_J2_init l N G u a1 u2 c3) (cwI 0 hts (lw_meth q193) rfl rfl rfl (hts _ q102) (hts _ q1120) (hts _ q192) rfl (by decide +kernel) ⟨Nat.le_trans (Nat.le_of_ble_eq_true rfl) hR.1, Nat.le_trans (Nat.le_of_ble_eq_true rfl) hR.2⟩) ⟨uPc_blind, fun U hU hW => u_pre hC hP hS hU hW⟩ rfl rfl hl.1 rfl (lv_room (by simp only [List.map, u_cat]; exact Nat.le_of_ble_eq_true rfl)) dX14_init_9 ⟨by omega, by omega⟩) hS (fun H locs hP hS => ?_)
  refine W.cs (cells' := u2.1 - u0.1) (slots' := u2.2.1 - u0.2.1) (by omega) (by omega) ?_
  obtain ⟨a4, ha4, hha4⟩ := mbind_n h
  subst ha4
  have h := hha4
  obtain ⟨u5, hu5, h⟩ := mbind_n h
  have zu5 := uPut_sz hu5
  refine u_putF hC hI hP hS hu5 rfl in_X14 tyX14 tyX14_ok nmX14 (by decide) q1148 (fun _ h => h) rfl rfl (ty := (.object "java/util/ArrayList")) (tyX14_ok 6 (by decide)) (uNarR _ (some a1)).1 (uNarR _ (some a1)).2 dX14_init_12 (fun H locs hP hS => ?_)
  refine W.cs (cells' := u5.1 - u0.1) (slots' := u5.2.1 - u0.2.1) (by omega) (by omega) ?_
  refine u_aload_n (r := some a0) hx hb dX14_init_15 rfl (lv_at hl 0 rfl) ?_
  obtain ⟨o8, u6, c7, h⟩ := ucall_n h
  have zu6 := zz_X7_values N (ub G) (ug G) u5 o8 u6 c7
  have hq := zz_X14_init_19 (G := G) (a0 := a0) N u6 x1 x2 x3 o8 (some a0) h
  refine u_callr (va_runS (As := []) (rest := [va_rf (some a0)]) hC.1 (met_X7_values l N G u5 o8 u6 c7) (va_cwS 0 hts (lw_S q1121 q1122 q120 q1123) rfl rfl rfl (by decide +kernel) ⟨Nat.le_trans (Nat.le_of_ble_eq_true rfl) hR.1, Nat.le_trans (Nat.le_of_ble_eq_true rfl) hR.2⟩) ⟨uPc_blind, fun U hU hW => u_pre hC hP hS hU hW⟩ rfl rfl hl.1 rfl (lv_room (Nat.le_of_ble_eq_true rfl)) dX14_init_16 ⟨by omega, by omega⟩) hS (fun H locs hP hS => ?_)
  refine W.cs (cells' := u6.1 - u0.1) (slots' := u6.2.1 - u0.2.1) (by omega) (by omega) ?_
  refine W.cs (cells' := u6.1 - u0.1) (slots' := u6.2.1 - u0.2.1) (by omega) (by omega) ?_
  exact w_X14_init_19 hC hI hR hRm N u6 x1 x2 x3 o8 (some a0) h ⟨by omega, by omega⟩ hP hS (lv_sub hl [0, 1, 2, 3] rfl)
def f_X14_init (N b : Nat) (g : uEnv) (u : UH) (a0 : Nat) (x1 : Option Nat) (x2 : Int32) (x3 : Int32) : Option (UH) :=
    mlet (u.1) fun a2 =>
    mlet (uNew u 3 (.inr (18, uDefs tyJ2 3))) fun u1 =>
    f_X14_init_8 N b g a0 u1 x1 x2 x3 (some a2) (some a0)
set_option maxHeartbeats 4000000 in
set_option maxRecDepth 100000 in
theorem zz_X14_init_0 {G : uG} {a0 : Nat} {uf : UH} (N : Nat) (u : UH) (x1 : Option Nat) (x2 : Int32) (x3 : Int32) (h : f_X14_init N (ub G) (ug G) u a0 x1 x2 x3 = some uf) : u.1 ≤ uf.1 ∧ u.2.1 ≤ uf.2.1 := by
  unfold f_X14_init at h
  obtain ⟨a2, ea2⟩ : ∃ z : Nat, z = u.1 := ⟨_, rfl⟩
  have h := mlet_at ea2 h
  obtain ⟨u1, eu1⟩ : ∃ z : UH, z = uNew u 3 (.inr (18, uDefs tyJ2 3)) := ⟨_, rfl⟩
  have h := mlet_at eu1 h
  have zu1 : u1.1 = u.1 + 1 ∧ u1.2.1 = u.2.1 + 3 := by rw [eu1]; exact ⟨rfl, rfl⟩
  have hq := zz_X14_init_8 (G := G) (a0 := a0) N u1 x1 x2 x3 (some a2) (some a0) h
  exact ⟨by omega, by omega⟩
set_option maxHeartbeats 4000000 in
set_option maxRecDepth 100000 in
theorem w_X14_init_0 {p : Program} {l : Launch} {e : Env} {R : Room} {s : State} {m : MethodId} {args : Array Value} {below : List Frame} {meth : Method} {c : Code} {G : uG} {a0 : Nat} {u0 : UH} {uf : UH} (hC : uC p s m args meth c G RX14 cX14_init 4 none) (hI : meth.name = "<init>") (hR : 4 ≤ R.frames ∧ 80 ≤ R.locals) (hRm : uf.1 - u0.1 ≤ R.cells ∧ uf.2.1 - u0.2.1 ≤ R.slots) (N : Nat) (u : UH) (x1 : Option Nat) (x2 : Int32) (x3 : Int32) (h : f_X14_init N (ub G) (ug G) u a0 x1 x2 x3 = some uf) (hz0 : (u0.1 ≤ u.1 ∧ u0.2.1 ≤ u.2.1)) {H : Heap} {locs : List Loc} (hP : uP G u H) (hS : va_S (uA G) s.heap H locs) {ls : Array Slot} (hl : lv_has ls 4 [(0, va_rf (some a0)), (1, va_rf x1), (2, .int x2), (3, .int x3)]) : W p l e R s m args below meth c H locs (u.1 - u0.1) (u.2.1 - u0.2.1) (MQ below (uQv G uf) args s (uf.1 - u0.1) (uf.2.1 - u0.2.1) (uA G)) (F0 m 0 ls []) := by
  obtain ⟨⟨hx, hb, hml, hown, hts⟩, hKK⟩ := id hC
  have hzf := zz_X14_init_0 (G := G) (a0 := a0) N u x1 x2 x3 h
  unfold f_X14_init at h
  refine u_aload_n (r := some a0) hx hb dX14_init_0 rfl (lv_at hl 0 rfl) ?_
  refine W.objInit hx hb hown (hts _ q1118) (hts _ q148) (hts _ q149) rfl (by rw [hml]; exact hl.1) rfl dX14_init_1 (Nat.le_trans (Nat.le_of_ble_eq_true rfl) hR.1) (Nat.le_trans (Nat.le_of_ble_eq_true rfl) hR.2) ?_
  refine W.eq (g2 := F0 m 4 ls []) rfl ?_
  refine u_aload_n (r := some a0) hx hb dX14_init_4 rfl (lv_at hl 0 rfl) ?_
  obtain ⟨a2, ea2⟩ : ∃ z : Nat, z = u.1 := ⟨_, rfl⟩
  have h := mlet_at ea2 h
  obtain ⟨u1, eu1⟩ : ∃ z : UH, z = uNew u 3 (.inr (18, uDefs tyJ2 3)) := ⟨_, rfl⟩
  have h := mlet_at eu1 h
  have zu1 : u1.1 = u.1 + 1 ∧ u1.2.1 = u.2.1 + 3 := by rw [eu1]; exact ⟨rfl, rfl⟩
  have hq := zz_X14_init_8 (G := G) (a0 := a0) N u1 x1 x2 x3 (some a2) (some a0) h
  refine u_new hC hP hS (T := TJ2) (N := 3) (ci := 18) rfl in_J2 tyJ2 tyJ2_ok q1119 q190 q102 (by omega) (by omega) dX14_init_5 (fun H hP hS => ?_)
  rw [← eu1] at hP
  rw [← ea2]
  refine W.cs (cells' := u1.1 - u0.1) (slots' := u1.2.1 - u0.2.1) (by omega) (by omega) ?_
  refine W.cs (cells' := u1.1 - u0.1) (slots' := u1.2.1 - u0.2.1) (by omega) (by omega) ?_
  exact w_X14_init_8 hC hI hR hRm N u1 x1 x2 x3 (some a2) (some a0) h ⟨by omega, by omega⟩ hP hS (lv_sub hl [0, 1, 2, 3] rfl)
theorem zz_X14_init (N b : Nat) (g : uEnv) (u : UH) (a0 : Nat) (x1 : Option Nat) (x2 : Int32) (x3 : Int32) (uf : UH) (h : f_X14_init N b g u a0 x1 x2 x3 = some uf) : u.1 ≤ uf.1 ∧ u.2.1 ≤ uf.2.1 :=
  zz_X14_init_0 (G := ((fun _ => 0, fun _ _ => 0), fun _ => 0, b, g)) (a0 := a0) N u x1 x2 x3 h
theorem met_X14_init (l : Launch) (N : Nat) (G : uG) (u : UH) (a0 : Nat) (x1 : Option Nat) (x2 : Int32) (x3 : Int32) (uf : UH) (h : f_X14_init N (ub G) (ug G) u a0 x1 x2 x3 = some uf) : Met l yX14_init (ws_ yX14_init cX14_init 4 none) ({ frames := 4, cells := (uf.1 - u.1), slots := (uf.2.1 - u.2.1), locals := 80 }) (uPc G u [.ref a0, va_rf x1, .int x2, .int x3]) (uQv G uf) (uf.1 - u.1) (uf.2.1 - u.2.1) (uA G) := by
  rcases x1 with _ | x1 <;> exact u_met (own := RX14) (by decide +kernel) rfl (Nat.le_of_ble_eq_true rfl) (fun hC hn hsz ls hl hP => W.cs (Nat.sub_self _).symm (Nat.sub_self _).symm (w_X14_init_0 hC hn ⟨Nat.le_refl _, Nat.le_refl _⟩ ⟨Nat.le_refl _, Nat.le_refl _⟩ N u _ x2 x3 h ⟨Nat.le_refl _, Nat.le_refl _⟩ hP va_S.rf hl))
def f_X1_map_34 (N b : Nat) (g : uEnv) (a0 : Nat) (u : UH) : Option (Int32 × UH) :=
    if uIs u a0 0 = true then
    ucall (f_X1_refused N b g u a0 2) fun r4 u2 =>
    some (r4, u2)
    else none
set_option maxHeartbeats 4000000 in
set_option maxRecDepth 100000 in
theorem zz_X1_map_34 {G : uG} {a0 : Nat} {uf : UH} {r : Int32} (N : Nat) (u : UH) (h : f_X1_map_34 N (ub G) (ug G) a0 u = some (r, uf)) : u.1 ≤ uf.1 ∧ u.2.1 ≤ uf.2.1 := by
  unfold f_X1_map_34 at h
  obtain ⟨c1, h⟩ := mif_n h
  obtain ⟨r4, u2, c3, h⟩ := ucall_n h
  have zu2 := zz_X1_refused N (ub G) (ug G) u a0 2 r4 u2 c3
  obtain ⟨hr1, hr2⟩ := uret_n h
  subst hr2
  exact ⟨by omega, by omega⟩
set_option maxHeartbeats 4000000 in
set_option maxRecDepth 100000 in
theorem w_X1_map_34 {p : Program} {l : Launch} {e : Env} {R : Room} {s : State} {m : MethodId} {args : Array Value} {below : List Frame} {meth : Method} {c : Code} {G : uG} {a0 : Nat} {u0 : UH} {uf : UH} {r : Int32} (hC : uC p s m args meth c G RX1 cX1_map 3 (some .int)) (hR : 5 ≤ R.frames ∧ 103 ≤ R.locals) (hRm : uf.1 - u0.1 ≤ R.cells ∧ uf.2.1 - u0.2.1 ≤ R.slots) (N : Nat) (u : UH) (h : f_X1_map_34 N (ub G) (ug G) a0 u = some (r, uf)) (hz0 : (u0.1 ≤ u.1 ∧ u0.2.1 ≤ u.2.1)) {H : Heap} {locs : List Loc} (hP : uP G u H) (hS : va_S (uA G) s.heap H locs) {ls : Array Slot} (hl : lv_has ls 3 [(0, va_rf (some a0))]) : W p l e R s m args below meth c H locs (u.1 - u0.1) (u.2.1 - u0.2.1) (MQ below (uQi G r uf) args s (uf.1 - u0.1) (uf.2.1 - u0.2.1) (uA G)) (F0 m 34 ls []) := by
  obtain ⟨⟨hx, hb, hml, hown, hts⟩, hKK⟩ := id hC
  have hzf := zz_X1_map_34 (G := G) (a0 := a0) N u h
  unfold f_X1_map_34 at h
  refine u_aload_n (r := some a0) hx hb dX1_map_34 rfl (lv_at hl 0 rfl) ?_
  refine lv_iconst (v := 2) hx hb dX1_map_35 (by decide) ?_
  obtain ⟨c1, h⟩ := mif_n h
  obtain ⟨r4, u2, c3, h⟩ := ucall_n h
  have zu2 := zz_X1_refused N (ub G) (ug G) u a0 2 r4 u2 c3
  refine u_calli (va_runV (As := [.int 2]) (rest := []) hC.1 (met_X1_refused l N G u a0 2 r4 u2 c3) (cwV 1 hts (lw_V q276 q278 qs0 q98 q279) rfl rfl rfl (by decide +kernel) ⟨Nat.le_trans (Nat.le_of_ble_eq_true rfl) hR.1, Nat.le_trans (Nat.le_of_ble_eq_true rfl) hR.2⟩) ⟨uPc_blind, u_rcv hC hP c1 rfl, fun U hU hW => u_pre hC hP hS hU hW⟩ rfl rfl hl.1 rfl (lv_room (Nat.le_of_ble_eq_true rfl)) dX1_map_36 ⟨by omega, by omega⟩) hS (fun H locs hP hS => ?_)
  refine W.cs (cells' := u2.1 - u0.1) (slots' := u2.2.1 - u0.2.1) (by omega) (by omega) ?_
  obtain ⟨hr1, hr2⟩ := uret_n h
  subst hr1
  subst hr2
  exact u_iret hC hP hS dX1_map_39
def f_X1_map_54 (N b : Nat) (g : uEnv) (a0 : Nat) (u : UH) (s0 : Option Nat) (s1 : Option Nat) : Option (Int32 × UH) :=
    (s1).bind fun a1 =>
    (uPut b u a1 0 7 (va_rf s0)).bind fun u2 =>
    (uGR u2 a0 0 10).bind fun o3 =>
    (o3).bind fun a4 =>
    if uIs u2 a4 18 = true then
    (f_J2_clear N b g u2 a4).bind fun u6 =>
    (uGR u6 a0 0 7).bind fun o8 =>
    (o8).bind fun a9 =>
    if uIs u6 a9 12 = true then
    ucall (f_X14_cells N b g u6 a9) fun r13 u11 =>
    if uIs u11 a0 0 = true then
    ucall (f_X1_done N b g u11 a0 r13) fun r17 u15 =>
    some (r17, u15)
    else none
    else none
    else none
set_option maxHeartbeats 4000000 in
set_option maxRecDepth 100000 in
theorem zz_X1_map_54 {G : uG} {a0 : Nat} {uf : UH} {r : Int32} (N : Nat) (u : UH) (s0 : Option Nat) (s1 : Option Nat) (h : f_X1_map_54 N (ub G) (ug G) a0 u s0 s1 = some (r, uf)) : u.1 ≤ uf.1 ∧ u.2.1 ≤ uf.2.1 := by
  unfold f_X1_map_54 at h
  obtain ⟨a1, ha1, hha1⟩ := mbind_n h
  subst ha1
  have h := hha1
  obtain ⟨u2, hu2, h⟩ := mbind_n h
  have zu2 := uPut_sz hu2
  obtain ⟨o3, ho3, h⟩ := mbind_n h
  obtain ⟨a4, ha4, hha4⟩ := mbind_n h
  subst ha4
  have h := hha4
  obtain ⟨c5, h⟩ := mif_n h
  obtain ⟨u6, c7, h⟩ := mbind_n h
  have zu6 := zz_J2_clear N (ub G) (ug G) u2 a4 u6 c7
  obtain ⟨o8, ho8, h⟩ := mbind_n h
  obtain ⟨a9, ha9, hha9⟩ := mbind_n h
  subst ha9
  have h := hha9
  obtain ⟨c10, h⟩ := mif_n h
  obtain ⟨r13, u11, c12, h⟩ := ucall_n h
  have zu11 := zz_X14_cells N (ub G) (ug G) u6 a9 r13 u11 c12
  obtain ⟨c14, h⟩ := mif_n h
  obtain ⟨r17, u15, c16, h⟩ := ucall_n h
  have zu15 := zz_X1_done N (ub G) (ug G) u11 a0 r13 r17 u15 c16
  obtain ⟨hr1, hr2⟩ := uret_n h
  subst hr2
  exact ⟨by omega, by omega⟩
set_option maxHeartbeats 4000000 in
set_option maxRecDepth 100000 in
theorem w_X1_map_54 {p : Program} {l : Launch} {e : Env} {R : Room} {s : State} {m : MethodId} {args : Array Value} {below : List Frame} {meth : Method} {c : Code} {G : uG} {a0 : Nat} {u0 : UH} {uf : UH} {r : Int32} (hC : uC p s m args meth c G RX1 cX1_map 3 (some .int)) (hR : 5 ≤ R.frames ∧ 103 ≤ R.locals) (hRm : uf.1 - u0.1 ≤ R.cells ∧ uf.2.1 - u0.2.1 ≤ R.slots) (N : Nat) (u : UH) (s0 : Option Nat) (s1 : Option Nat) (h : f_X1_map_54 N (ub G) (ug G) a0 u s0 s1 = some (r, uf)) (hz0 : (u0.1 ≤ u.1 ∧ u0.2.1 ≤ u.2.1)) {H : Heap} {locs : List Loc} (hP : uP G u H) (hS : va_S (uA G) s.heap H locs) {ls : Array Slot} (hl : lv_has ls 3 [(0, va_rf (some a0))]) : W p l e R s m args below meth c H locs (u.1 - u0.1) (u.2.1 - u0.2.1) (MQ below (uQi G r uf) args s (uf.1 - u0.1) (uf.2.1 - u0.2.1) (uA G)) (F0 m 54 ls [va_rf s0, va_rf s1]) := by
  obtain ⟨⟨hx, hb, hml, hown, hts⟩, hKK⟩ := id hC
  have hzf := zz_X1_map_54 (G := G) (a0 := a0) N u s0 s1 h
  unfold f_X1_map_54 at h
  obtain ⟨a1, ha1, hha1⟩ := mbind_n h
  subst ha1
  have h := hha1
  obtain ⟨u2, hu2, h⟩ := mbind_n h
  have zu2 := uPut_sz hu2
  refine u_put hC hP hS hu2 rfl in_X1 tyX1 tyX1_ok nmX1 (by decide) q222 (fun _ h => h) rfl (ty := (.object "SoftWheels$Land")) (tyX1_ok 7 (by decide)) (uNarR _ s0).1 (uNarR _ s0).2 dX1_map_54 (fun H locs hP hS => ?_)
  refine W.cs (cells' := u2.1 - u0.1) (slots' := u2.2.1 - u0.2.1) (by omega) (by omega) ?_
  refine u_aload_n (r := some a0) hx hb dX1_map_57 rfl (lv_at hl 0 rfl) ?_
  obtain ⟨o3, ho3, h⟩ := mbind_n h
  refine u_get hC hP (uGR_n ho3) rfl in_X1 (by decide) q225 (fun _ h => h) dX1_map_58 ?_
  obtain ⟨a4, ha4, hha4⟩ := mbind_n h
  subst ha4
  have h := hha4
  obtain ⟨c5, h⟩ := mif_n h
  obtain ⟨u6, c7, h⟩ := mbind_n h
  have zu6 := zz_J2_clear N (ub G) (ug G) u2 a4 u6 c7
  refine u_callv (va_runV (As := []) (rest := []) hC.1 (met_J2_clear l N G u2 a4 u6 c7) (cwV 0 hts (lw_V q1059 q1060 q1061 q102 q1062) rfl rfl rfl (by decide +kernel) ⟨Nat.le_trans (Nat.le_of_ble_eq_true rfl) hR.1, Nat.le_trans (Nat.le_of_ble_eq_true rfl) hR.2⟩) ⟨uPc_blind, u_rcv hC hP c5 rfl, fun U hU hW => u_pre hC hP hS hU hW⟩ rfl rfl hl.1 rfl (lv_room (Nat.le_of_ble_eq_true rfl)) dX1_map_61 ⟨by omega, by omega⟩) hS (fun H locs hP hS => ?_)
  refine W.cs (cells' := u6.1 - u0.1) (slots' := u6.2.1 - u0.2.1) (by omega) (by omega) ?_
  refine u_aload_n (r := some a0) hx hb dX1_map_64 rfl (lv_at hl 0 rfl) ?_
  refine u_aload_n (r := some a0) hx hb dX1_map_65 rfl (lv_at hl 0 rfl) ?_
  obtain ⟨o8, ho8, h⟩ := mbind_n h
  refine u_get hC hP (uGR_n ho8) rfl in_X1 (by decide) q222 (fun _ h => h) dX1_map_66 ?_
  obtain ⟨a9, ha9, hha9⟩ := mbind_n h
  subst ha9
  have h := hha9
  obtain ⟨c10, h⟩ := mif_n h
  obtain ⟨r13, u11, c12, h⟩ := ucall_n h
  have zu11 := zz_X14_cells N (ub G) (ug G) u6 a9 r13 u11 c12
  refine u_calli (va_runV (As := []) (rest := [va_rf (some a0)]) hC.1 (met_X14_cells l N G u6 a9 r13 u11 c12) (cwV 0 hts (lw_V q1186 q1187 q1188 q131 q1189) rfl rfl rfl (by decide +kernel) ⟨Nat.le_trans (Nat.le_of_ble_eq_true rfl) hR.1, Nat.le_trans (Nat.le_of_ble_eq_true rfl) hR.2⟩) ⟨uPc_blind, u_rcv hC hP c10 rfl, fun U hU hW => u_pre hC hP hS hU hW⟩ rfl rfl hl.1 rfl (lv_room (Nat.le_of_ble_eq_true rfl)) dX1_map_69 ⟨by omega, by omega⟩) hS (fun H locs hP hS => ?_)
  refine W.cs (cells' := u11.1 - u0.1) (slots' := u11.2.1 - u0.2.1) (by omega) (by omega) ?_
  obtain ⟨c14, h⟩ := mif_n h
  obtain ⟨r17, u15, c16, h⟩ := ucall_n h
  have zu15 := zz_X1_done N (ub G) (ug G) u11 a0 r13 r17 u15 c16
  refine u_calli (va_runV (As := [.int r13]) (rest := []) hC.1 (met_X1_done l N G u11 a0 r13 r17 u15 c16) (cwV 1 hts (lw_V q1064 q1066 qs14 q98 q1067) rfl rfl rfl (by decide +kernel) ⟨Nat.le_trans (Nat.le_of_ble_eq_true rfl) hR.1, Nat.le_trans (Nat.le_of_ble_eq_true rfl) hR.2⟩) ⟨uPc_blind, u_rcv hC hP c14 rfl, fun U hU hW => u_pre hC hP hS hU hW⟩ rfl rfl hl.1 rfl (lv_room (Nat.le_of_ble_eq_true rfl)) dX1_map_72 ⟨by omega, by omega⟩) hS (fun H locs hP hS => ?_)
  refine W.cs (cells' := u15.1 - u0.1) (slots' := u15.2.1 - u0.2.1) (by omega) (by omega) ?_
  obtain ⟨hr1, hr2⟩ := uret_n h
  subst hr1
  subst hr2
  exact u_iret hC hP hS dX1_map_75
def f_X1_map_44 (N b : Nat) (g : uEnv) (a0 : Nat) (u : UH) (x1 : Int32) (x2 : Int32) (s0 : Option Nat) (s1 : Option Nat) : Option (Int32 × UH) :=
    (uGR u a0 0 2).bind fun o1 =>
    (s0).bind fun a2 =>
    (f_X14_init N b g u a2 o1 x1 x2).bind fun u3 =>
    f_X1_map_54 N b g a0 u3 (some a2) s1
set_option maxHeartbeats 4000000 in
set_option maxRecDepth 100000 in
theorem zz_X1_map_44 {G : uG} {a0 : Nat} {uf : UH} {r : Int32} (N : Nat) (u : UH) (x1 : Int32) (x2 : Int32) (s0 : Option Nat) (s1 : Option Nat) (h : f_X1_map_44 N (ub G) (ug G) a0 u x1 x2 s0 s1 = some (r, uf)) : u.1 ≤ uf.1 ∧ u.2.1 ≤ uf.2.1 := by
  unfold f_X1_map_44 at h
  obtain ⟨o1, ho1, h⟩ := mbind_n h
  obtain ⟨a2, ha2, hha2⟩ := mbind_n h
  subst ha2
  have h := hha2
  obtain ⟨u3, c4, h⟩ := mbind_n h
  have zu3 := zz_X14_init N (ub G) (ug G) u a2 o1 x1 x2 u3 c4
  have hq := zz_X1_map_54 (G := G) (a0 := a0) N u3 (some a2) s1 h
  exact ⟨by omega, by omega⟩
set_option maxHeartbeats 4000000 in
set_option maxRecDepth 100000 in
theorem w_X1_map_44 {p : Program} {l : Launch} {e : Env} {R : Room} {s : State} {m : MethodId} {args : Array Value} {below : List Frame} {meth : Method} {c : Code} {G : uG} {a0 : Nat} {u0 : UH} {uf : UH} {r : Int32} (hC : uC p s m args meth c G RX1 cX1_map 3 (some .int)) (hR : 5 ≤ R.frames ∧ 103 ≤ R.locals) (hRm : uf.1 - u0.1 ≤ R.cells ∧ uf.2.1 - u0.2.1 ≤ R.slots) (N : Nat) (u : UH) (x1 : Int32) (x2 : Int32) (s0 : Option Nat) (s1 : Option Nat) (h : f_X1_map_44 N (ub G) (ug G) a0 u x1 x2 s0 s1 = some (r, uf)) (hz0 : (u0.1 ≤ u.1 ∧ u0.2.1 ≤ u.2.1)) {H : Heap} {locs : List Loc} (hP : uP G u H) (hS : va_S (uA G) s.heap H locs) {ls : Array Slot} (hl : lv_has ls 3 [(0, va_rf (some a0)), (1, .int x1), (2, .int x2)]) : W p l e R s m args below meth c H locs (u.1 - u0.1) (u.2.1 - u0.2.1) (MQ below (uQi G r uf) args s (uf.1 - u0.1) (uf.2.1 - u0.2.1) (uA G)) (F0 m 44 ls [va_rf s0, va_rf s1]) := by
  obtain ⟨⟨hx, hb, hml, hown, hts⟩, hKK⟩ := id hC
  have hzf := zz_X1_map_44 (G := G) (a0 := a0) N u x1 x2 s0 s1 h
  unfold f_X1_map_44 at h
  refine lv_dup hx hb dX1_map_44 (u_cat _) ?_
  refine u_aload_n (r := some a0) hx hb dX1_map_45 rfl (lv_at hl 0 rfl) ?_
  obtain ⟨o1, ho1, h⟩ := mbind_n h
  refine u_get hC hP (uGR_n ho1) rfl in_X1 (by decide) q217 (fun _ h => h) dX1_map_46 ?_
  refine lv_iload_n hx hb dX1_map_49 rfl (lv_at hl 1 rfl) ?_
  refine lv_iload_n hx hb dX1_map_50 rfl (lv_at hl 2 rfl) ?_
  obtain ⟨a2, ha2, hha2⟩ := mbind_n h
  subst ha2
  have h := hha2
  obtain ⟨u3, c4, h⟩ := mbind_n h
  have zu3 := zz_X14_init N (ub G) (ug G) u a2 o1 x1 x2 u3 c4
  have hq := zz_X1_map_54 (G := G) (a0 := a0) N u3 (some a2) s1 h
  refine u_callv (va_runI (As := [va_rf o1, .int x1, .int x2]) (rest := [va_rf (some a2), va_rf s1]) hC.1 (met_X14_init l N G u a2 o1 x1 x2 u3 c4) (cwI 3 hts (lw_meth q1117) rfl rfl rfl (hts _ q131) (hts _ q1115) (hts _ q1116) rfl (by decide +kernel) ⟨Nat.le_trans (Nat.le_of_ble_eq_true rfl) hR.1, Nat.le_trans (Nat.le_of_ble_eq_true rfl) hR.2⟩) ⟨uPc_blind, fun U hU hW => u_pre hC hP hS hU hW⟩ rfl rfl hl.1 rfl (lv_room (by simp only [List.map, u_cat]; exact Nat.le_of_ble_eq_true rfl)) dX1_map_51 ⟨by omega, by omega⟩) hS (fun H locs hP hS => ?_)
  refine W.cs (cells' := u3.1 - u0.1) (slots' := u3.2.1 - u0.2.1) (by omega) (by omega) ?_
  refine W.cs (cells' := u3.1 - u0.1) (slots' := u3.2.1 - u0.2.1) (by omega) (by omega) ?_
  exact w_X1_map_54 hC hR hRm N u3 (some a2) s1 h ⟨by omega, by omega⟩ hP hS (lv_sub hl [0] rfl)
def f_X1_map (N b : Nat) (g : uEnv) (u : UH) (a0 : Nat) (x1 : Int32) (x2 : Int32) : Option (Int32 × UH) :=
    if uIs u a0 0 = true then
    ucall (f_X1_isGround N b g u a0 0) fun r4 u2 =>
    if r4 = 0 then
    if uIs u2 a0 0 = true then
    ucall (f_X1_refused N b g u2 a0 1) fun r19 u17 =>
    some (r19, u17)
    else none
    else
    ucall (f_X1_in N b g u2 x1 1 10) fun r8 u6 =>
    if r8 = 0 then
    f_X1_map_34 N b g a0 u6
    else
    ucall (f_X1_in N b g u6 x2 1 10) fun r12 u10 =>
    if r12 = 0 then
    f_X1_map_34 N b g a0 u10
    else
    mlet (u10.1) fun a15 =>
    mlet (uNew u10 11 (.inr (12, uDefs tyX14 11))) fun u14 =>
    f_X1_map_44 N b g a0 u14 x1 x2 (some a15) (some a0)
    else none
set_option maxHeartbeats 4000000 in
set_option maxRecDepth 100000 in
theorem zz_X1_map_0 {G : uG} {a0 : Nat} {uf : UH} {r : Int32} (N : Nat) (u : UH) (x1 : Int32) (x2 : Int32) (h : f_X1_map N (ub G) (ug G) u a0 x1 x2 = some (r, uf)) : u.1 ≤ uf.1 ∧ u.2.1 ≤ uf.2.1 := by
  unfold f_X1_map at h
  obtain ⟨c1, h⟩ := mif_n h
  obtain ⟨r4, u2, c3, h⟩ := ucall_n h
  have zu2 := zz_X1_isGround N (ub G) (ug G) u a0 0 r4 u2 c3
  by_cases c5 : r4 = 0
  · have h := mif_t c5 h
    obtain ⟨c16, h⟩ := mif_n h
    obtain ⟨r19, u17, c18, h⟩ := ucall_n h
    have zu17 := zz_X1_refused N (ub G) (ug G) u2 a0 1 r19 u17 c18
    obtain ⟨hr1, hr2⟩ := uret_n h
    subst hr2
    exact ⟨by omega, by omega⟩
  · have h := mif_f c5 h
    obtain ⟨r8, u6, c7, h⟩ := ucall_n h
    have zu6 := zz_X1_in N (ub G) (ug G) u2 x1 1 10 r8 u6 c7
    by_cases c9 : r8 = 0
    · have h := mif_t c9 h
      have hq := zz_X1_map_34 (G := G) (a0 := a0) N u6 h
      exact ⟨by omega, by omega⟩
    · have h := mif_f c9 h
      obtain ⟨r12, u10, c11, h⟩ := ucall_n h
      have zu10 := zz_X1_in N (ub G) (ug G) u6 x2 1 10 r12 u10 c11
      by_cases c13 : r12 = 0
      · have h := mif_t c13 h
        have hq := zz_X1_map_34 (G := G) (a0 := a0) N u10 h
        exact ⟨by omega, by omega⟩
      · have h := mif_f c13 h
        obtain ⟨a15, ea15⟩ : ∃ z : Nat, z = u10.1 := ⟨_, rfl⟩
        have h := mlet_at ea15 h
        obtain ⟨u14, eu14⟩ : ∃ z : UH, z = uNew u10 11 (.inr (12, uDefs tyX14 11)) := ⟨_, rfl⟩
        have h := mlet_at eu14 h
        have zu14 : u14.1 = u10.1 + 1 ∧ u14.2.1 = u10.2.1 + 11 := by rw [eu14]; exact ⟨rfl, rfl⟩
        have hq := zz_X1_map_44 (G := G) (a0 := a0) N u14 x1 x2 (some a15) (some a0) h
        exact ⟨by omega, by omega⟩
set_option maxHeartbeats 4000000 in
set_option maxRecDepth 100000 in
theorem w_X1_map_0 {p : Program} {l : Launch} {e : Env} {R : Room} {s : State} {m : MethodId} {args : Array Value} {below : List Frame} {meth : Method} {c : Code} {G : uG} {a0 : Nat} {u0 : UH} {uf : UH} {r : Int32} (hC : uC p s m args meth c G RX1 cX1_map 3 (some .int)) (hR : 5 ≤ R.frames ∧ 103 ≤ R.locals) (hRm : uf.1 - u0.1 ≤ R.cells ∧ uf.2.1 - u0.2.1 ≤ R.slots) (N : Nat) (u : UH) (x1 : Int32) (x2 : Int32) (h : f_X1_map N (ub G) (ug G) u a0 x1 x2 = some (r, uf)) (hz0 : (u0.1 ≤ u.1 ∧ u0.2.1 ≤ u.2.1)) {H : Heap} {locs : List Loc} (hP : uP G u H) (hS : va_S (uA G) s.heap H locs) {ls : Array Slot} (hl : lv_has ls 3 [(0, va_rf (some a0)), (1, .int x1), (2, .int x2)]) : W p l e R s m args below meth c H locs (u.1 - u0.1) (u.2.1 - u0.2.1) (MQ below (uQi G r uf) args s (uf.1 - u0.1) (uf.2.1 - u0.2.1) (uA G)) (F0 m 0 ls []) := by
  obtain ⟨⟨hx, hb, hml, hown, hts⟩, hKK⟩ := id hC
  have hzf := zz_X1_map_0 (G := G) (a0 := a0) N u x1 x2 h
  unfold f_X1_map at h
  refine u_aload_n (r := some a0) hx hb dX1_map_0 rfl (lv_at hl 0 rfl) ?_
  refine lv_iconst (v := 0) hx hb dX1_map_1 (by decide) ?_
  obtain ⟨c1, h⟩ := mif_n h
  obtain ⟨r4, u2, c3, h⟩ := ucall_n h
  have zu2 := zz_X1_isGround N (ub G) (ug G) u a0 0 r4 u2 c3
  refine u_calli (va_runV (As := [.int 0]) (rest := []) hC.1 (met_X1_isGround l N G u a0 0 r4 u2 c3) (cwV 1 hts (lw_V q1080 q1082 qs15 q98 q1083) rfl rfl rfl (by decide +kernel) ⟨Nat.le_trans (Nat.le_of_ble_eq_true rfl) hR.1, Nat.le_trans (Nat.le_of_ble_eq_true rfl) hR.2⟩) ⟨uPc_blind, u_rcv hC hP c1 rfl, fun U hU hW => u_pre hC hP hS hU hW⟩ rfl rfl hl.1 rfl (lv_room (Nat.le_of_ble_eq_true rfl)) dX1_map_2 ⟨by omega, by omega⟩) hS (fun H locs hP hS => ?_)
  refine W.cs (cells' := u2.1 - u0.1) (slots' := u2.2.1 - u0.2.1) (by omega) (by omega) ?_
  refine lv_if_ne (tgt := 14) hx hb dX1_map_5 (by decide) (fun c5 => ?_) (fun c5 => ?_)
  · have h := mif_f c5 h
    refine lv_iload_n hx hb dX1_map_14 rfl (lv_at hl 1 rfl) ?_
    refine lv_iconst (v := 1) hx hb dX1_map_15 (by decide) ?_
    refine lv_bipush (v := 10) hx hb dX1_map_16 (by decide) ?_
    obtain ⟨r8, u6, c7, h⟩ := ucall_n h
    have zu6 := zz_X1_in N (ub G) (ug G) u2 x1 1 10 r8 u6 c7
    refine u_calli (va_runS (As := [.int x1, .int 1, .int 10]) (rest := []) hC.1 (met_X1_in l N G u2 x1 1 10 r8 u6 c7) (va_cwS 3 hts (lw_S q273 q274 q98 q275) rfl rfl rfl (by decide +kernel) ⟨Nat.le_trans (Nat.le_of_ble_eq_true rfl) hR.1, Nat.le_trans (Nat.le_of_ble_eq_true rfl) hR.2⟩) ⟨uPc_blind, fun U hU hW => u_pre hC hP hS hU hW⟩ rfl rfl hl.1 rfl (lv_room (Nat.le_of_ble_eq_true rfl)) dX1_map_18 ⟨by omega, by omega⟩) hS (fun H locs hP hS => ?_)
    refine W.cs (cells' := u6.1 - u0.1) (slots' := u6.2.1 - u0.2.1) (by omega) (by omega) ?_
    refine lv_if_eq (tgt := 34) hx hb dX1_map_21 (by decide) (fun c9 => ?_) (fun c9 => ?_)
    · have h := mif_t c9 h
      refine W.cs (cells' := u6.1 - u0.1) (slots' := u6.2.1 - u0.2.1) (by omega) (by omega) ?_
      exact w_X1_map_34 hC hR hRm N u6 h ⟨by omega, by omega⟩ hP hS (lv_sub hl [0] rfl)
    · have h := mif_f c9 h
      refine lv_iload_n hx hb dX1_map_24 rfl (lv_at hl 2 rfl) ?_
      refine lv_iconst (v := 1) hx hb dX1_map_25 (by decide) ?_
      refine lv_bipush (v := 10) hx hb dX1_map_26 (by decide) ?_
      obtain ⟨r12, u10, c11, h⟩ := ucall_n h
      have zu10 := zz_X1_in N (ub G) (ug G) u6 x2 1 10 r12 u10 c11
      refine u_calli (va_runS (As := [.int x2, .int 1, .int 10]) (rest := []) hC.1 (met_X1_in l N G u6 x2 1 10 r12 u10 c11) (va_cwS 3 hts (lw_S q273 q274 q98 q275) rfl rfl rfl (by decide +kernel) ⟨Nat.le_trans (Nat.le_of_ble_eq_true rfl) hR.1, Nat.le_trans (Nat.le_of_ble_eq_true rfl) hR.2⟩) ⟨uPc_blind, fun U hU hW => u_pre hC hP hS hU hW⟩ rfl rfl hl.1 rfl (lv_room (Nat.le_of_ble_eq_true rfl)) dX1_map_28 ⟨by omega, by omega⟩) hS (fun H locs hP hS => ?_)
      refine W.cs (cells' := u10.1 - u0.1) (slots' := u10.2.1 - u0.2.1) (by omega) (by omega) ?_
      refine lv_if_ne (tgt := 40) hx hb dX1_map_31 (by decide) (fun c13 => ?_) (fun c13 => ?_)
      · have h := mif_f c13 h
        refine u_aload_n (r := some a0) hx hb dX1_map_40 rfl (lv_at hl 0 rfl) ?_
        obtain ⟨a15, ea15⟩ : ∃ z : Nat, z = u10.1 := ⟨_, rfl⟩
        have h := mlet_at ea15 h
        obtain ⟨u14, eu14⟩ : ∃ z : UH, z = uNew u10 11 (.inr (12, uDefs tyX14 11)) := ⟨_, rfl⟩
        have h := mlet_at eu14 h
        have zu14 : u14.1 = u10.1 + 1 ∧ u14.2.1 = u10.2.1 + 11 := by rw [eu14]; exact ⟨rfl, rfl⟩
        have hq := zz_X1_map_44 (G := G) (a0 := a0) N u14 x1 x2 (some a15) (some a0) h
        refine u_new hC hP hS (T := TX14) (N := 11) (ci := 12) rfl in_X14 tyX14 tyX14_ok q1113 q1114 q131 (by omega) (by omega) dX1_map_41 (fun H hP hS => ?_)
        rw [← eu14] at hP
        rw [← ea15]
        refine W.cs (cells' := u14.1 - u0.1) (slots' := u14.2.1 - u0.2.1) (by omega) (by omega) ?_
        refine W.cs (cells' := u14.1 - u0.1) (slots' := u14.2.1 - u0.2.1) (by omega) (by omega) ?_
        exact w_X1_map_44 hC hR hRm N u14 x1 x2 (some a15) (some a0) h ⟨by omega, by omega⟩ hP hS (lv_sub hl [0, 1, 2] rfl)
      · have h := mif_t c13 h
        refine W.cs (cells' := u10.1 - u0.1) (slots' := u10.2.1 - u0.2.1) (by omega) (by omega) ?_
        exact w_X1_map_34 hC hR hRm N u10 h ⟨by omega, by omega⟩ hP hS (lv_sub hl [0] rfl)
  · have h := mif_t c5 h
    refine u_aload_n (r := some a0) hx hb dX1_map_8 rfl (lv_at hl 0 rfl) ?_
    refine lv_iconst (v := 1) hx hb dX1_map_9 (by decide) ?_
    obtain ⟨c16, h⟩ := mif_n h
    obtain ⟨r19, u17, c18, h⟩ := ucall_n h
    have zu17 := zz_X1_refused N (ub G) (ug G) u2 a0 1 r19 u17 c18
    refine u_calli (va_runV (As := [.int 1]) (rest := []) hC.1 (met_X1_refused l N G u2 a0 1 r19 u17 c18) (cwV 1 hts (lw_V q276 q278 qs0 q98 q279) rfl rfl rfl (by decide +kernel) ⟨Nat.le_trans (Nat.le_of_ble_eq_true rfl) hR.1, Nat.le_trans (Nat.le_of_ble_eq_true rfl) hR.2⟩) ⟨uPc_blind, u_rcv hC hP c16 rfl, fun U hU hW => u_pre hC hP hS hU hW⟩ rfl rfl hl.1 rfl (lv_room (Nat.le_of_ble_eq_true rfl)) dX1_map_10 ⟨by omega, by omega⟩) hS (fun H locs hP hS => ?_)
    refine W.cs (cells' := u17.1 - u0.1) (slots' := u17.2.1 - u0.2.1) (by omega) (by omega) ?_
    obtain ⟨hr1, hr2⟩ := uret_n h
    subst hr1
    subst hr2
    exact u_iret hC hP hS dX1_map_13
theorem zz_X1_map (N b : Nat) (g : uEnv) (u : UH) (a0 : Nat) (x1 : Int32) (x2 : Int32) (r : Int32) (uf : UH) (h : f_X1_map N b g u a0 x1 x2 = some (r, uf)) : u.1 ≤ uf.1 ∧ u.2.1 ≤ uf.2.1 :=
  zz_X1_map_0 (G := ((fun _ => 0, fun _ _ => 0), fun _ => 0, b, g)) (a0 := a0) N u x1 x2 h
theorem met_X1_map (l : Launch) (N : Nat) (G : uG) (u : UH) (a0 : Nat) (x1 : Int32) (x2 : Int32) (r : Int32) (uf : UH) (h : f_X1_map N (ub G) (ug G) u a0 x1 x2 = some (r, uf)) : Met l yX1_map (ws_ yX1_map cX1_map 3 (some .int)) ({ frames := 5, cells := (uf.1 - u.1), slots := (uf.2.1 - u.2.1), locals := 103 }) (uPc G u [.ref a0, .int x1, .int x2]) (uQi G r uf) (uf.1 - u.1) (uf.2.1 - u.2.1) (uA G) := by
  exact u_met (own := RX1) (by decide +kernel) rfl (Nat.le_of_ble_eq_true rfl) (fun hC hn hsz ls hl hP => W.cs (Nat.sub_self _).symm (Nat.sub_self _).symm (w_X1_map_0 hC ⟨Nat.le_refl _, Nat.le_refl _⟩ ⟨Nat.le_refl _, Nat.le_refl _⟩ N u x1 x2 h ⟨Nat.le_refl _, Nat.le_refl _⟩ hP va_S.rf hl))
def f_X1_solver_34 (N b : Nat) (g : uEnv) (a0 : Nat) (u : UH) (s0 : Option Nat) (s1 : Int32) (s2 : Int32) (s3 : Option Nat) (s4 : Option Nat) : Option (Option Nat × UH) :=
    (s4).bind fun a1 =>
    if uIs u a1 1 = true then
    ucall (f_X2_begin N b g u a1 s3 s2 s1 s0) fun o5 u3 =>
    some (o5, u3)
    else none
set_option maxHeartbeats 4000000 in
set_option maxRecDepth 100000 in
theorem zz_X1_solver_34 {G : uG} {a0 : Nat} {uf : UH} {r : Option Nat} (N : Nat) (u : UH) (s0 : Option Nat) (s1 : Int32) (s2 : Int32) (s3 : Option Nat) (s4 : Option Nat) (h : f_X1_solver_34 N (ub G) (ug G) a0 u s0 s1 s2 s3 s4 = some (r, uf)) : u.1 ≤ uf.1 ∧ u.2.1 ≤ uf.2.1 := by
  unfold f_X1_solver_34 at h
  obtain ⟨a1, ha1, hha1⟩ := mbind_n h
  subst ha1
  have h := hha1
  obtain ⟨c2, h⟩ := mif_n h
  obtain ⟨o5, u3, c4, h⟩ := ucall_n h
  have zu3 := zz_X2_begin N (ub G) (ug G) u a1 s3 s2 s1 s0 o5 u3 c4
  obtain ⟨hr1, hr2⟩ := uret_n h
  subst hr2
  exact ⟨by omega, by omega⟩
set_option maxHeartbeats 4000000 in
set_option maxRecDepth 100000 in
theorem w_X1_solver_34 {p : Program} {l : Launch} {e : Env} {R : Room} {s : State} {m : MethodId} {args : Array Value} {below : List Frame} {meth : Method} {c : Code} {G : uG} {a0 : Nat} {u0 : UH} {uf : UH} {r : Option Nat} (hC : uC p s m args meth c G RX1 cX1_solver 3 (some (.object "SoftWheels$Solver"))) (hR : 5 ≤ R.frames ∧ 125 ≤ R.locals) (hRm : uf.1 - u0.1 ≤ R.cells ∧ uf.2.1 - u0.2.1 ≤ R.slots) (N : Nat) (u : UH) (s0 : Option Nat) (s1 : Int32) (s2 : Int32) (s3 : Option Nat) (s4 : Option Nat) (h : f_X1_solver_34 N (ub G) (ug G) a0 u s0 s1 s2 s3 s4 = some (r, uf)) (hz0 : (u0.1 ≤ u.1 ∧ u0.2.1 ≤ u.2.1)) {H : Heap} {locs : List Loc} (hP : uP G u H) (hS : va_S (uA G) s.heap H locs) {ls : Array Slot} (hl : lv_has ls 3 []) : W p l e R s m args below meth c H locs (u.1 - u0.1) (u.2.1 - u0.2.1) (MQ below (uQr G r uf) args s (uf.1 - u0.1) (uf.2.1 - u0.2.1) (uA G)) (F0 m 34 ls [va_rf s0, .int s1, .int s2, va_rf s3, va_rf s4]) := by
  obtain ⟨⟨hx, hb, hml, hown, hts⟩, hKK⟩ := id hC
  have hzf := zz_X1_solver_34 (G := G) (a0 := a0) N u s0 s1 s2 s3 s4 h
  unfold f_X1_solver_34 at h
  obtain ⟨a1, ha1, hha1⟩ := mbind_n h
  subst ha1
  have h := hha1
  obtain ⟨c2, h⟩ := mif_n h
  obtain ⟨o5, u3, c4, h⟩ := ucall_n h
  have zu3 := zz_X2_begin N (ub G) (ug G) u a1 s3 s2 s1 s0 o5 u3 c4
  refine u_callr (va_runV (As := [va_rf s3, .int s2, .int s1, va_rf s0]) (rest := []) hC.1 (met_X2_begin l N G u a1 s3 s2 s1 s0 o5 u3 c4) (cwV 4 hts (lw_V q1307 q1308 q1309 q99 q1310) rfl rfl rfl (by decide +kernel) ⟨Nat.le_trans (Nat.le_of_ble_eq_true rfl) hR.1, Nat.le_trans (Nat.le_of_ble_eq_true rfl) hR.2⟩) ⟨uPc_blind, u_rcv hC hP c2 rfl, fun U hU hW => u_pre hC hP hS hU hW⟩ rfl rfl hl.1 rfl (lv_room (Nat.le_of_ble_eq_true rfl)) dX1_solver_34 ⟨by omega, by omega⟩) hS (fun H locs hP hS => ?_)
  refine W.cs (cells' := u3.1 - u0.1) (slots' := u3.2.1 - u0.2.1) (by omega) (by omega) ?_
  obtain ⟨hr1, hr2⟩ := uret_n h
  subst hr1
  subst hr2
  exact u_aret hC (Or.inl ⟨_, rfl⟩) hP hS dX1_solver_37
def f_X1_solver_30 (N b : Nat) (g : uEnv) (a0 : Nat) (u : UH) (s0 : Option Nat) (s1 : Int32) (s2 : Int32) (s3 : Option Nat) (s4 : Option Nat) : Option (Option Nat × UH) :=
    (s0).bind fun a1 =>
    (f_X17_init N b g u a1).bind fun u2 =>
    f_X1_solver_34 N b g a0 u2 (some a1) s1 s2 s3 s4
set_option maxHeartbeats 4000000 in
set_option maxRecDepth 100000 in
theorem zz_X1_solver_30 {G : uG} {a0 : Nat} {uf : UH} {r : Option Nat} (N : Nat) (u : UH) (s0 : Option Nat) (s1 : Int32) (s2 : Int32) (s3 : Option Nat) (s4 : Option Nat) (h : f_X1_solver_30 N (ub G) (ug G) a0 u s0 s1 s2 s3 s4 = some (r, uf)) : u.1 ≤ uf.1 ∧ u.2.1 ≤ uf.2.1 := by
  unfold f_X1_solver_30 at h
  obtain ⟨a1, ha1, hha1⟩ := mbind_n h
  subst ha1
  have h := hha1
  obtain ⟨u2, c3, h⟩ := mbind_n h
  have zu2 := zz_X17_init N (ub G) (ug G) u a1 u2 c3
  have hq := zz_X1_solver_34 (G := G) (a0 := a0) N u2 (some a1) s1 s2 s3 s4 h
  exact ⟨by omega, by omega⟩
set_option maxHeartbeats 4000000 in
set_option maxRecDepth 100000 in
theorem w_X1_solver_30 {p : Program} {l : Launch} {e : Env} {R : Room} {s : State} {m : MethodId} {args : Array Value} {below : List Frame} {meth : Method} {c : Code} {G : uG} {a0 : Nat} {u0 : UH} {uf : UH} {r : Option Nat} (hC : uC p s m args meth c G RX1 cX1_solver 3 (some (.object "SoftWheels$Solver"))) (hR : 5 ≤ R.frames ∧ 125 ≤ R.locals) (hRm : uf.1 - u0.1 ≤ R.cells ∧ uf.2.1 - u0.2.1 ≤ R.slots) (N : Nat) (u : UH) (s0 : Option Nat) (s1 : Int32) (s2 : Int32) (s3 : Option Nat) (s4 : Option Nat) (h : f_X1_solver_30 N (ub G) (ug G) a0 u s0 s1 s2 s3 s4 = some (r, uf)) (hz0 : (u0.1 ≤ u.1 ∧ u0.2.1 ≤ u.2.1)) {H : Heap} {locs : List Loc} (hP : uP G u H) (hS : va_S (uA G) s.heap H locs) {ls : Array Slot} (hl : lv_has ls 3 []) : W p l e R s m args below meth c H locs (u.1 - u0.1) (u.2.1 - u0.2.1) (MQ below (uQr G r uf) args s (uf.1 - u0.1) (uf.2.1 - u0.2.1) (uA G)) (F0 m 30 ls [va_rf s0, .int s1, .int s2, va_rf s3, va_rf s4]) := by
  obtain ⟨⟨hx, hb, hml, hown, hts⟩, hKK⟩ := id hC
  have hzf := zz_X1_solver_30 (G := G) (a0 := a0) N u s0 s1 s2 s3 s4 h
  unfold f_X1_solver_30 at h
  refine lv_dup hx hb dX1_solver_30 (u_cat _) ?_
  obtain ⟨a1, ha1, hha1⟩ := mbind_n h
  subst ha1
  have h := hha1
  obtain ⟨u2, c3, h⟩ := mbind_n h
  have zu2 := zz_X17_init N (ub G) (ug G) u a1 u2 c3
  refine u_callv (va_runIN (As := []) (rest := [va_rf (some a1), .int s1, .int s2, va_rf s3, va_rf s4]) hC.1 (met_X17_init l N G u a1 u2 c3) ⟨va_cnB 0 hts (lw_meth q1304) rfl rfl rfl (hC.2.1.2.1 _ q1302 rfl) (hts _ q134) (by decide +kernel) ⟨Nat.le_trans (Nat.le_of_ble_eq_true rfl) hR.1, Nat.le_trans (Nat.le_of_ble_eq_true rfl) hR.2⟩, rfl, hts _ q1303⟩ ⟨uPc_blind, fun U hU hW => u_pre hC hP hS hU hW⟩ rfl rfl hl.1 rfl (lv_room (by simp only [List.map, u_cat]; exact Nat.le_of_ble_eq_true rfl)) dX1_solver_31 ⟨by omega, by omega⟩) hS (fun H locs hP hS => ?_)
  refine W.cs (cells' := u2.1 - u0.1) (slots' := u2.2.1 - u0.2.1) (by omega) (by omega) ?_
  refine W.cs (cells' := u2.1 - u0.1) (slots' := u2.2.1 - u0.2.1) (by omega) (by omega) ?_
  exact w_X1_solver_34 hC hR hRm N u2 (some a1) s1 s2 s3 s4 h ⟨by omega, by omega⟩ hP hS (lv_sub hl [] rfl)
def f_X1_solver_20 (N b : Nat) (g : uEnv) (a0 : Nat) (u : UH) (s0 : Option Nat) (s1 : Int32) (s2 : Int32) (s3 : Option Nat) (s4 : Option Nat) : Option (Option Nat × UH) :=
    (s0).bind fun a1 =>
    (f_X16_init N b g u a1).bind fun u2 =>
    f_X1_solver_34 N b g a0 u2 (some a1) s1 s2 s3 s4
set_option maxHeartbeats 4000000 in
set_option maxRecDepth 100000 in
theorem zz_X1_solver_20 {G : uG} {a0 : Nat} {uf : UH} {r : Option Nat} (N : Nat) (u : UH) (s0 : Option Nat) (s1 : Int32) (s2 : Int32) (s3 : Option Nat) (s4 : Option Nat) (h : f_X1_solver_20 N (ub G) (ug G) a0 u s0 s1 s2 s3 s4 = some (r, uf)) : u.1 ≤ uf.1 ∧ u.2.1 ≤ uf.2.1 := by
  unfold f_X1_solver_20 at h
  obtain ⟨a1, ha1, hha1⟩ := mbind_n h
  subst ha1
  have h := hha1
  obtain ⟨u2, c3, h⟩ := mbind_n h
  have zu2 := zz_X16_init N (ub G) (ug G) u a1 u2 c3
  have hq := zz_X1_solver_34 (G := G) (a0 := a0) N u2 (some a1) s1 s2 s3 s4 h
  exact ⟨by omega, by omega⟩
set_option maxHeartbeats 4000000 in
set_option maxRecDepth 100000 in
theorem w_X1_solver_20 {p : Program} {l : Launch} {e : Env} {R : Room} {s : State} {m : MethodId} {args : Array Value} {below : List Frame} {meth : Method} {c : Code} {G : uG} {a0 : Nat} {u0 : UH} {uf : UH} {r : Option Nat} (hC : uC p s m args meth c G RX1 cX1_solver 3 (some (.object "SoftWheels$Solver"))) (hR : 5 ≤ R.frames ∧ 125 ≤ R.locals) (hRm : uf.1 - u0.1 ≤ R.cells ∧ uf.2.1 - u0.2.1 ≤ R.slots) (N : Nat) (u : UH) (s0 : Option Nat) (s1 : Int32) (s2 : Int32) (s3 : Option Nat) (s4 : Option Nat) (h : f_X1_solver_20 N (ub G) (ug G) a0 u s0 s1 s2 s3 s4 = some (r, uf)) (hz0 : (u0.1 ≤ u.1 ∧ u0.2.1 ≤ u.2.1)) {H : Heap} {locs : List Loc} (hP : uP G u H) (hS : va_S (uA G) s.heap H locs) {ls : Array Slot} (hl : lv_has ls 3 []) : W p l e R s m args below meth c H locs (u.1 - u0.1) (u.2.1 - u0.2.1) (MQ below (uQr G r uf) args s (uf.1 - u0.1) (uf.2.1 - u0.2.1) (uA G)) (F0 m 20 ls [va_rf s0, .int s1, .int s2, va_rf s3, va_rf s4]) := by
  obtain ⟨⟨hx, hb, hml, hown, hts⟩, hKK⟩ := id hC
  have hzf := zz_X1_solver_20 (G := G) (a0 := a0) N u s0 s1 s2 s3 s4 h
  unfold f_X1_solver_20 at h
  refine lv_dup hx hb dX1_solver_20 (u_cat _) ?_
  obtain ⟨a1, ha1, hha1⟩ := mbind_n h
  subst ha1
  have h := hha1
  obtain ⟨u2, c3, h⟩ := mbind_n h
  have zu2 := zz_X16_init N (ub G) (ug G) u a1 u2 c3
  refine u_callv (va_runIN (As := []) (rest := [va_rf (some a1), .int s1, .int s2, va_rf s3, va_rf s4]) hC.1 (met_X16_init l N G u a1 u2 c3) ⟨va_cnB 0 hts (lw_meth q1297) rfl rfl rfl (hC.2.1.2.1 _ q1295 rfl) (hts _ q133) (by decide +kernel) ⟨Nat.le_trans (Nat.le_of_ble_eq_true rfl) hR.1, Nat.le_trans (Nat.le_of_ble_eq_true rfl) hR.2⟩, rfl, hts _ q1296⟩ ⟨uPc_blind, fun U hU hW => u_pre hC hP hS hU hW⟩ rfl rfl hl.1 rfl (lv_room (by simp only [List.map, u_cat]; exact Nat.le_of_ble_eq_true rfl)) dX1_solver_21 ⟨by omega, by omega⟩) hS (fun H locs hP hS => ?_)
  refine W.cs (cells' := u2.1 - u0.1) (slots' := u2.2.1 - u0.2.1) (by omega) (by omega) ?_
  refine lv_goto (tgt := 34) hx hb dX1_solver_24 (by decide) ?_
  refine W.cs (cells' := u2.1 - u0.1) (slots' := u2.2.1 - u0.2.1) (by omega) (by omega) ?_
  exact w_X1_solver_34 hC hR hRm N u2 (some a1) s1 s2 s3 s4 h ⟨by omega, by omega⟩ hP hS (lv_sub hl [] rfl)
def f_X1_solver (N b : Nat) (g : uEnv) (u : UH) (a0 : Nat) (x1 : Int32) (x2 : Int32) : Option (Option Nat × UH) :=
    (uGR u a0 0 8).bind fun o1 =>
    (uGR u a0 0 7).bind fun o2 =>
    (uGI u a0 0 3).bind fun y3 =>
    if x2 = 0 then
    mlet (u.1) fun a6 =>
    mlet (uNew u 0 (.inr (15, uDefs tyX15 0))) fun u5 =>
    f_X1_solver_30 N b g a0 u5 (some a6) y3 x1 o2 o1
    else
    mlet (u.1) fun a8 =>
    mlet (uNew u 0 (.inr (14, uDefs tyX15 0))) fun u7 =>
    f_X1_solver_20 N b g a0 u7 (some a8) y3 x1 o2 o1
set_option maxHeartbeats 4000000 in
set_option maxRecDepth 100000 in
theorem zz_X1_solver_0 {G : uG} {a0 : Nat} {uf : UH} {r : Option Nat} (N : Nat) (u : UH) (x1 : Int32) (x2 : Int32) (h : f_X1_solver N (ub G) (ug G) u a0 x1 x2 = some (r, uf)) : u.1 ≤ uf.1 ∧ u.2.1 ≤ uf.2.1 := by
  unfold f_X1_solver at h
  obtain ⟨o1, ho1, h⟩ := mbind_n h
  obtain ⟨o2, ho2, h⟩ := mbind_n h
  obtain ⟨y3, hy3, h⟩ := mbind_n h
  by_cases c4 : x2 = 0
  · have h := mif_t c4 h
    obtain ⟨a6, ea6⟩ : ∃ z : Nat, z = u.1 := ⟨_, rfl⟩
    have h := mlet_at ea6 h
    obtain ⟨u5, eu5⟩ : ∃ z : UH, z = uNew u 0 (.inr (15, uDefs tyX15 0)) := ⟨_, rfl⟩
    have h := mlet_at eu5 h
    have zu5 : u5.1 = u.1 + 1 ∧ u5.2.1 = u.2.1 + 0 := by rw [eu5]; exact ⟨rfl, rfl⟩
    have hq := zz_X1_solver_30 (G := G) (a0 := a0) N u5 (some a6) y3 x1 o2 o1 h
    exact ⟨by omega, by omega⟩
  · have h := mif_f c4 h
    obtain ⟨a8, ea8⟩ : ∃ z : Nat, z = u.1 := ⟨_, rfl⟩
    have h := mlet_at ea8 h
    obtain ⟨u7, eu7⟩ : ∃ z : UH, z = uNew u 0 (.inr (14, uDefs tyX15 0)) := ⟨_, rfl⟩
    have h := mlet_at eu7 h
    have zu7 : u7.1 = u.1 + 1 ∧ u7.2.1 = u.2.1 + 0 := by rw [eu7]; exact ⟨rfl, rfl⟩
    have hq := zz_X1_solver_20 (G := G) (a0 := a0) N u7 (some a8) y3 x1 o2 o1 h
    exact ⟨by omega, by omega⟩
set_option maxHeartbeats 4000000 in
set_option maxRecDepth 100000 in
theorem w_X1_solver_0 {p : Program} {l : Launch} {e : Env} {R : Room} {s : State} {m : MethodId} {args : Array Value} {below : List Frame} {meth : Method} {c : Code} {G : uG} {a0 : Nat} {u0 : UH} {uf : UH} {r : Option Nat} (hC : uC p s m args meth c G RX1 cX1_solver 3 (some (.object "SoftWheels$Solver"))) (hR : 5 ≤ R.frames ∧ 125 ≤ R.locals) (hRm : uf.1 - u0.1 ≤ R.cells ∧ uf.2.1 - u0.2.1 ≤ R.slots) (N : Nat) (u : UH) (x1 : Int32) (x2 : Int32) (h : f_X1_solver N (ub G) (ug G) u a0 x1 x2 = some (r, uf)) (hz0 : (u0.1 ≤ u.1 ∧ u0.2.1 ≤ u.2.1)) {H : Heap} {locs : List Loc} (hP : uP G u H) (hS : va_S (uA G) s.heap H locs) {ls : Array Slot} (hl : lv_has ls 3 [(0, va_rf (some a0)), (1, .int x1), (2, .int x2)]) : W p l e R s m args below meth c H locs (u.1 - u0.1) (u.2.1 - u0.2.1) (MQ below (uQr G r uf) args s (uf.1 - u0.1) (uf.2.1 - u0.2.1) (uA G)) (F0 m 0 ls []) := by
  obtain ⟨⟨hx, hb, hml, hown, hts⟩, hKK⟩ := id hC
  have hzf := zz_X1_solver_0 (G := G) (a0 := a0) N u x1 x2 h
  unfold f_X1_solver at h
  refine u_aload_n (r := some a0) hx hb dX1_solver_0 rfl (lv_at hl 0 rfl) ?_
  obtain ⟨o1, ho1, h⟩ := mbind_n h
  refine u_get hC hP (uGR_n ho1) rfl in_X1 (by decide) q223 (fun _ h => h) dX1_solver_1 ?_
  refine u_aload_n (r := some a0) hx hb dX1_solver_4 rfl (lv_at hl 0 rfl) ?_
  obtain ⟨o2, ho2, h⟩ := mbind_n h
  refine u_get hC hP (uGR_n ho2) rfl in_X1 (by decide) q222 (fun _ h => h) dX1_solver_5 ?_
  refine lv_iload_n hx hb dX1_solver_8 rfl (lv_at hl 1 rfl) ?_
  refine u_aload_n (r := some a0) hx hb dX1_solver_9 rfl (lv_at hl 0 rfl) ?_
  obtain ⟨y3, hy3, h⟩ := mbind_n h
  refine u_get hC hP (uGI_n hy3) rfl in_X1 (by decide) q218 (fun _ h => h) dX1_solver_10 ?_
  refine lv_iload_n hx hb dX1_solver_13 rfl (lv_at hl 2 rfl) ?_
  refine lv_if_eq (tgt := 27) hx hb dX1_solver_14 (by decide) (fun c4 => ?_) (fun c4 => ?_)
  · have h := mif_t c4 h
    obtain ⟨a6, ea6⟩ : ∃ z : Nat, z = u.1 := ⟨_, rfl⟩
    have h := mlet_at ea6 h
    obtain ⟨u5, eu5⟩ : ∃ z : UH, z = uNew u 0 (.inr (15, uDefs tyX15 0)) := ⟨_, rfl⟩
    have h := mlet_at eu5 h
    have zu5 : u5.1 = u.1 + 1 ∧ u5.2.1 = u.2.1 + 0 := by rw [eu5]; exact ⟨rfl, rfl⟩
    have hq := zz_X1_solver_30 (G := G) (a0 := a0) N u5 (some a6) y3 x1 o2 o1 h
    refine u_new hC hP hS (T := TX15) (N := 0) (ci := 15) rfl (fun _ h => absurd h List.not_mem_nil) tyX15 (fun _ h => absurd h (Nat.not_lt_zero _)) q1300 q1301 q134 (by omega) (by omega) dX1_solver_27 (fun H hP hS => ?_)
    rw [← eu5] at hP
    rw [← ea6]
    refine W.cs (cells' := u5.1 - u0.1) (slots' := u5.2.1 - u0.2.1) (by omega) (by omega) ?_
    refine W.cs (cells' := u5.1 - u0.1) (slots' := u5.2.1 - u0.2.1) (by omega) (by omega) ?_
    exact w_X1_solver_30 hC hR hRm N u5 (some a6) y3 x1 o2 o1 h ⟨by omega, by omega⟩ hP hS (lv_sub hl [] rfl)
  · have h := mif_f c4 h
    obtain ⟨a8, ea8⟩ : ∃ z : Nat, z = u.1 := ⟨_, rfl⟩
    have h := mlet_at ea8 h
    obtain ⟨u7, eu7⟩ : ∃ z : UH, z = uNew u 0 (.inr (14, uDefs tyX15 0)) := ⟨_, rfl⟩
    have h := mlet_at eu7 h
    have zu7 : u7.1 = u.1 + 1 ∧ u7.2.1 = u.2.1 + 0 := by rw [eu7]; exact ⟨rfl, rfl⟩
    have hq := zz_X1_solver_20 (G := G) (a0 := a0) N u7 (some a8) y3 x1 o2 o1 h
    refine u_new hC hP hS (T := TX15) (N := 0) (ci := 14) rfl (fun _ h => absurd h List.not_mem_nil) tyX15 (fun _ h => absurd h (Nat.not_lt_zero _)) q1293 q1294 q133 (by omega) (by omega) dX1_solver_17 (fun H hP hS => ?_)
    rw [← eu7] at hP
    rw [← ea8]
    refine W.cs (cells' := u7.1 - u0.1) (slots' := u7.2.1 - u0.2.1) (by omega) (by omega) ?_
    refine W.cs (cells' := u7.1 - u0.1) (slots' := u7.2.1 - u0.2.1) (by omega) (by omega) ?_
    exact w_X1_solver_20 hC hR hRm N u7 (some a8) y3 x1 o2 o1 h ⟨by omega, by omega⟩ hP hS (lv_sub hl [] rfl)
theorem zz_X1_solver (N b : Nat) (g : uEnv) (u : UH) (a0 : Nat) (x1 : Int32) (x2 : Int32) (r : Option Nat) (uf : UH) (h : f_X1_solver N b g u a0 x1 x2 = some (r, uf)) : u.1 ≤ uf.1 ∧ u.2.1 ≤ uf.2.1 :=
  zz_X1_solver_0 (G := ((fun _ => 0, fun _ _ => 0), fun _ => 0, b, g)) (a0 := a0) N u x1 x2 h
theorem met_X1_solver (l : Launch) (N : Nat) (G : uG) (u : UH) (a0 : Nat) (x1 : Int32) (x2 : Int32) (r : Option Nat) (uf : UH) (h : f_X1_solver N (ub G) (ug G) u a0 x1 x2 = some (r, uf)) : Met l yX1_solver (ws_ yX1_solver cX1_solver 3 (some (.object "SoftWheels$Solver"))) ({ frames := 5, cells := (uf.1 - u.1), slots := (uf.2.1 - u.2.1), locals := 125 }) (uPc G u [.ref a0, .int x1, .int x2]) (uQr G r uf) (uf.1 - u.1) (uf.2.1 - u.2.1) (uA G) := by
  exact u_met (own := RX1) (by decide +kernel) rfl (Nat.le_of_ble_eq_true rfl) (fun hC hn hsz ls hl hP => W.cs (Nat.sub_self _).symm (Nat.sub_self _).symm (w_X1_solver_0 hC ⟨Nat.le_refl _, Nat.le_refl _⟩ ⟨Nat.le_refl _, Nat.le_refl _⟩ N u x1 x2 h ⟨Nat.le_refl _, Nat.le_refl _⟩ hP va_S.rf hl))
def f_X1_mean_71 (N b : Nat) (g : uEnv) (a0 : Nat) (u : UH) (s0 : Int64) : Option (Int64 × UH) :=
    some (s0, u)
set_option maxHeartbeats 4000000 in
set_option maxRecDepth 100000 in
theorem zz_X1_mean_71 {G : uG} {a0 : Nat} {uf : UH} {r : Int64} (N : Nat) (u : UH) (s0 : Int64) (h : f_X1_mean_71 N (ub G) (ug G) a0 u s0 = some (r, uf)) : u.1 ≤ uf.1 ∧ u.2.1 ≤ uf.2.1 := by
  unfold f_X1_mean_71 at h
  obtain ⟨hr1, hr2⟩ := uret_n h
  subst hr2
  exact ⟨by omega, by omega⟩
set_option maxHeartbeats 4000000 in
set_option maxRecDepth 100000 in
theorem w_X1_mean_71 {p : Program} {l : Launch} {e : Env} {R : Room} {s : State} {m : MethodId} {args : Array Value} {below : List Frame} {meth : Method} {c : Code} {G : uG} {a0 : Nat} {u0 : UH} {uf : UH} {r : Int64} (hC : uC p s m args meth c G RX1 cX1_mean 7 (some .long)) (hR : 102 ≤ R.frames ∧ 6050 ≤ R.locals) (hRm : uf.1 - u0.1 ≤ R.cells ∧ uf.2.1 - u0.2.1 ≤ R.slots) (N : Nat) (u : UH) (s0 : Int64) (h : f_X1_mean_71 N (ub G) (ug G) a0 u s0 = some (r, uf)) (hz0 : (u0.1 ≤ u.1 ∧ u0.2.1 ≤ u.2.1)) {H : Heap} {locs : List Loc} (hP : uP G u H) (hS : va_S (uA G) s.heap H locs) {ls : Array Slot} (hl : lv_has ls 7 []) : W p l e R s m args below meth c H locs (u.1 - u0.1) (u.2.1 - u0.2.1) (MQ below (uQl G r uf) args s (uf.1 - u0.1) (uf.2.1 - u0.2.1) (uA G)) (F0 m 71 ls [.long s0]) := by
  obtain ⟨⟨hx, hb, hml, hown, hts⟩, hKK⟩ := id hC
  have hzf := zz_X1_mean_71 (G := G) (a0 := a0) N u s0 h
  unfold f_X1_mean_71 at h
  obtain ⟨hr1, hr2⟩ := uret_n h
  subst hr1
  subst hr2
  exact u_lret hC hP hS dX1_mean_71
def f_X1_mean_21 (N b : Nat) (g : uEnv) (a0 : Nat) (u : UH) (x1 : Int32) (x3 : Int32) (s0 : Option Nat) : Option (Int64 × UH) :=
    (s0).bind fun a1 =>
    if uIs u a1 1 = true then
    ucall (f_X2_known N b g u a1) fun r5 u3 =>
    if uIs u3 a1 1 = true then
    ucall (f_X2_of N b g u3 a1 x1 r5) fun r9 u7 =>
    if (lg_cmp r9 9223372036854775807) = 0 then
    if uIs u7 a0 0 = true then
    ucall (f_X1_lost N b g u7 a0 6) fun r26 u24 =>
    f_X1_mean_71 N b g a0 u24 r26
    else none
    else
    if uIs u7 a1 1 = true then
    ucall (f_X2_known N b g u7 a1) fun r14 u12 =>
    if uIs u12 a1 1 = true then
    ucall (f_X2_scale N b g u12 a1 r14) fun r18 u16 =>
    if uIs u16 a0 0 = true then
    ucall (f_X1_part N b g u16 a0 r9 r18 x3) fun r22 u20 =>
    f_X1_mean_71 N b g a0 u20 r22
    else none
    else none
    else none
    else none
    else none
set_option maxHeartbeats 4000000 in
set_option maxRecDepth 100000 in
theorem zz_X1_mean_21 {G : uG} {a0 : Nat} {uf : UH} {r : Int64} (N : Nat) (u : UH) (x1 : Int32) (x3 : Int32) (s0 : Option Nat) (h : f_X1_mean_21 N (ub G) (ug G) a0 u x1 x3 s0 = some (r, uf)) : u.1 ≤ uf.1 ∧ u.2.1 ≤ uf.2.1 := by
  unfold f_X1_mean_21 at h
  obtain ⟨a1, ha1, hha1⟩ := mbind_n h
  subst ha1
  have h := hha1
  obtain ⟨c2, h⟩ := mif_n h
  obtain ⟨r5, u3, c4, h⟩ := ucall_n h
  have zu3 := zz_X2_known N (ub G) (ug G) u a1 r5 u3 c4
  obtain ⟨c6, h⟩ := mif_n h
  obtain ⟨r9, u7, c8, h⟩ := ucall_n h
  have zu7 := zz_X2_of N (ub G) (ug G) u3 a1 x1 r5 r9 u7 c8
  by_cases c10 : (lg_cmp r9 9223372036854775807) = 0
  · have h := mif_t c10 h
    obtain ⟨c23, h⟩ := mif_n h
    obtain ⟨r26, u24, c25, h⟩ := ucall_n h
    have zu24 := zz_X1_lost N (ub G) (ug G) u7 a0 6 r26 u24 c25
    have hq := zz_X1_mean_71 (G := G) (a0 := a0) N u24 r26 h
    exact ⟨by omega, by omega⟩
  · have h := mif_f c10 h
    obtain ⟨c11, h⟩ := mif_n h
    obtain ⟨r14, u12, c13, h⟩ := ucall_n h
    have zu12 := zz_X2_known N (ub G) (ug G) u7 a1 r14 u12 c13
    obtain ⟨c15, h⟩ := mif_n h
    obtain ⟨r18, u16, c17, h⟩ := ucall_n h
    have zu16 := zz_X2_scale N (ub G) (ug G) u12 a1 r14 r18 u16 c17
    obtain ⟨c19, h⟩ := mif_n h
    obtain ⟨r22, u20, c21, h⟩ := ucall_n h
    have zu20 := zz_X1_part N (ub G) (ug G) u16 a0 r9 r18 x3 r22 u20 c21
    have hq := zz_X1_mean_71 (G := G) (a0 := a0) N u20 r22 h
    exact ⟨by omega, by omega⟩
set_option maxHeartbeats 4000000 in
set_option maxRecDepth 100000 in
theorem w_X1_mean_21 {p : Program} {l : Launch} {e : Env} {R : Room} {s : State} {m : MethodId} {args : Array Value} {below : List Frame} {meth : Method} {c : Code} {G : uG} {a0 : Nat} {u0 : UH} {uf : UH} {r : Int64} (hC : uC p s m args meth c G RX1 cX1_mean 7 (some .long)) (hR : 102 ≤ R.frames ∧ 6050 ≤ R.locals) (hRm : uf.1 - u0.1 ≤ R.cells ∧ uf.2.1 - u0.2.1 ≤ R.slots) (N : Nat) (u : UH) (x1 : Int32) (x3 : Int32) (s0 : Option Nat) (h : f_X1_mean_21 N (ub G) (ug G) a0 u x1 x3 s0 = some (r, uf)) (hz0 : (u0.1 ≤ u.1 ∧ u0.2.1 ≤ u.2.1)) {H : Heap} {locs : List Loc} (hP : uP G u H) (hS : va_S (uA G) s.heap H locs) {ls : Array Slot} (hl : lv_has ls 7 [(0, va_rf (some a0)), (1, .int x1), (3, .int x3)]) : W p l e R s m args below meth c H locs (u.1 - u0.1) (u.2.1 - u0.2.1) (MQ below (uQl G r uf) args s (uf.1 - u0.1) (uf.2.1 - u0.2.1) (uA G)) (F0 m 21 ls [va_rf s0]) := by
  obtain ⟨⟨hx, hb, hml, hown, hts⟩, hKK⟩ := id hC
  have hzf := zz_X1_mean_21 (G := G) (a0 := a0) N u x1 x3 s0 h
  unfold f_X1_mean_21 at h
  refine u_astore (r := s0) (lv' := [(4, va_rf s0), (0, va_rf (some a0)), (1, .int x1), (3, .int x3)]) hx hb dX1_mean_21 hl (by decide) rfl (fun ls hl => ?_)
  refine u_aload (r := s0) hx hb dX1_mean_23 (lv_at hl 0 rfl) ?_
  refine lv_iload_n hx hb dX1_mean_25 rfl (lv_at hl 2 rfl) ?_
  refine u_aload (r := s0) hx hb dX1_mean_26 (lv_at hl 0 rfl) ?_
  obtain ⟨a1, ha1, hha1⟩ := mbind_n h
  subst ha1
  have h := hha1
  obtain ⟨c2, h⟩ := mif_n h
  obtain ⟨r5, u3, c4, h⟩ := ucall_n h
  have zu3 := zz_X2_known N (ub G) (ug G) u a1 r5 u3 c4
  refine u_calli (va_runV (As := []) (rest := [.int x1, va_rf (some a1)]) hC.1 (met_X2_known l N G u a1 r5 u3 c4) (cwV 0 hts (lw_V q1330 q1331 q1332 q99 q1333) rfl rfl rfl (by decide +kernel) ⟨Nat.le_trans (Nat.le_of_ble_eq_true rfl) hR.1, Nat.le_trans (Nat.le_of_ble_eq_true rfl) hR.2⟩) ⟨uPc_blind, u_rcv hC hP c2 rfl, fun U hU hW => u_pre hC hP hS hU hW⟩ rfl rfl hl.1 rfl (lv_room (Nat.le_of_ble_eq_true rfl)) dX1_mean_28 ⟨by omega, by omega⟩) hS (fun H locs hP hS => ?_)
  refine W.cs (cells' := u3.1 - u0.1) (slots' := u3.2.1 - u0.2.1) (by omega) (by omega) ?_
  obtain ⟨c6, h⟩ := mif_n h
  obtain ⟨r9, u7, c8, h⟩ := ucall_n h
  have zu7 := zz_X2_of N (ub G) (ug G) u3 a1 x1 r5 r9 u7 c8
  refine u_calll (va_runV (As := [.int x1, .int r5]) (rest := []) hC.1 (met_X2_of l N G u3 a1 x1 r5 r9 u7 c8) (cwV 2 hts (lw_V q1344 q1345 q1346 q99 q1347) rfl rfl rfl (by decide +kernel) ⟨Nat.le_trans (Nat.le_of_ble_eq_true rfl) hR.1, Nat.le_trans (Nat.le_of_ble_eq_true rfl) hR.2⟩) ⟨uPc_blind, u_rcv hC hP c6 rfl, fun U hU hW => u_pre hC hP hS hU hW⟩ rfl rfl hl.1 rfl (lv_room (Nat.le_of_ble_eq_true rfl)) dX1_mean_31 ⟨by omega, by omega⟩) hS (fun H locs hP hS => ?_)
  refine W.cs (cells' := u7.1 - u0.1) (slots' := u7.2.1 - u0.2.1) (by omega) (by omega) ?_
  refine lv_lstore (lv' := [(5, .long r9), (4, va_rf (some a1)), (0, va_rf (some a0)), (1, .int x1), (3, .int x3)]) hx hb dX1_mean_34 hl (by decide) rfl (fun ls hl => ?_)
  refine lv_lload hx hb dX1_mean_36 (lv_at hl 0 rfl) ?_
  refine lv_ldc2 hx hb hown (hts _ q1424) dX1_mean_38 ?_
  refine W.lcmp hx hb dX1_mean_41 ?_
  refine lv_if_ne (tgt := 54) hx hb dX1_mean_42 (by decide) (fun c10 => ?_) (fun c10 => ?_)
  · have h := mif_f c10 h
    refine u_aload_n (r := some a0) hx hb dX1_mean_54 rfl (lv_at hl 2 rfl) ?_
    refine lv_lload hx hb dX1_mean_55 (lv_at hl 0 rfl) ?_
    refine u_aload (r := some a1) hx hb dX1_mean_57 (lv_at hl 1 rfl) ?_
    refine u_aload (r := some a1) hx hb dX1_mean_59 (lv_at hl 1 rfl) ?_
    obtain ⟨c11, h⟩ := mif_n h
    obtain ⟨r14, u12, c13, h⟩ := ucall_n h
    have zu12 := zz_X2_known N (ub G) (ug G) u7 a1 r14 u12 c13
    refine u_calli (va_runV (As := []) (rest := [va_rf (some a1), .long r9, va_rf (some a0)]) hC.1 (met_X2_known l N G u7 a1 r14 u12 c13) (cwV 0 hts (lw_V q1330 q1331 q1332 q99 q1333) rfl rfl rfl (by decide +kernel) ⟨Nat.le_trans (Nat.le_of_ble_eq_true rfl) hR.1, Nat.le_trans (Nat.le_of_ble_eq_true rfl) hR.2⟩) ⟨uPc_blind, u_rcv hC hP c11 rfl, fun U hU hW => u_pre hC hP hS hU hW⟩ rfl rfl hl.1 rfl (lv_room (Nat.le_of_ble_eq_true rfl)) dX1_mean_61 ⟨by omega, by omega⟩) hS (fun H locs hP hS => ?_)
    refine W.cs (cells' := u12.1 - u0.1) (slots' := u12.2.1 - u0.2.1) (by omega) (by omega) ?_
    obtain ⟨c15, h⟩ := mif_n h
    obtain ⟨r18, u16, c17, h⟩ := ucall_n h
    have zu16 := zz_X2_scale N (ub G) (ug G) u12 a1 r14 r18 u16 c17
    refine u_calll (va_runV (As := [.int r14]) (rest := [.long r9, va_rf (some a0)]) hC.1 (met_X2_scale l N G u12 a1 r14 r18 u16 c17) (cwV 1 hts (lw_V q1434 q1391 q1392 q99 q1393) rfl rfl rfl (by decide +kernel) ⟨Nat.le_trans (Nat.le_of_ble_eq_true rfl) hR.1, Nat.le_trans (Nat.le_of_ble_eq_true rfl) hR.2⟩) ⟨uPc_blind, u_rcv hC hP c15 rfl, fun U hU hW => u_pre hC hP hS hU hW⟩ rfl rfl hl.1 rfl (lv_room (Nat.le_of_ble_eq_true rfl)) dX1_mean_64 ⟨by omega, by omega⟩) hS (fun H locs hP hS => ?_)
    refine W.cs (cells' := u16.1 - u0.1) (slots' := u16.2.1 - u0.2.1) (by omega) (by omega) ?_
    refine lv_iload_n hx hb dX1_mean_67 rfl (lv_at hl 4 rfl) ?_
    obtain ⟨c19, h⟩ := mif_n h
    obtain ⟨r22, u20, c21, h⟩ := ucall_n h
    have zu20 := zz_X1_part N (ub G) (ug G) u16 a0 r9 r18 x3 r22 u20 c21
    refine u_calll (va_runV (As := [.long r9, .long r18, .int x3]) (rest := []) hC.1 (met_X1_part l N G u16 a0 r9 r18 x3 r22 u20 c21) (cwV 3 hts (lw_V q1435 q1437 qs28 q98 q1438) rfl rfl rfl (by decide +kernel) ⟨Nat.le_trans (Nat.le_of_ble_eq_true rfl) hR.1, Nat.le_trans (Nat.le_of_ble_eq_true rfl) hR.2⟩) ⟨uPc_blind, u_rcv hC hP c19 rfl, fun U hU hW => u_pre hC hP hS hU hW⟩ rfl rfl hl.1 rfl (lv_room (Nat.le_of_ble_eq_true rfl)) dX1_mean_68 ⟨by omega, by omega⟩) hS (fun H locs hP hS => ?_)
    refine W.cs (cells' := u20.1 - u0.1) (slots' := u20.2.1 - u0.2.1) (by omega) (by omega) ?_
    refine W.cs (cells' := u20.1 - u0.1) (slots' := u20.2.1 - u0.2.1) (by omega) (by omega) ?_
    exact w_X1_mean_71 hC hR hRm N u20 r22 h ⟨by omega, by omega⟩ hP hS (lv_sub hl [] rfl)
  · have h := mif_t c10 h
    refine u_aload_n (r := some a0) hx hb dX1_mean_45 rfl (lv_at hl 2 rfl) ?_
    refine lv_bipush (v := 6) hx hb dX1_mean_46 (by decide) ?_
    obtain ⟨c23, h⟩ := mif_n h
    obtain ⟨r26, u24, c25, h⟩ := ucall_n h
    have zu24 := zz_X1_lost N (ub G) (ug G) u7 a0 6 r26 u24 c25
    refine u_calll (va_runV (As := [.int 6]) (rest := []) hC.1 (met_X1_lost l N G u7 a0 6 r26 u24 c25) (cwV 1 hts (lw_V q1429 q1431 qs27 q98 q1432) rfl rfl rfl (by decide +kernel) ⟨Nat.le_trans (Nat.le_of_ble_eq_true rfl) hR.1, Nat.le_trans (Nat.le_of_ble_eq_true rfl) hR.2⟩) ⟨uPc_blind, u_rcv hC hP c23 rfl, fun U hU hW => u_pre hC hP hS hU hW⟩ rfl rfl hl.1 rfl (lv_room (Nat.le_of_ble_eq_true rfl)) dX1_mean_48 ⟨by omega, by omega⟩) hS (fun H locs hP hS => ?_)
    refine W.cs (cells' := u24.1 - u0.1) (slots' := u24.2.1 - u0.2.1) (by omega) (by omega) ?_
    refine lv_goto (tgt := 71) hx hb dX1_mean_51 (by decide) ?_
    refine W.cs (cells' := u24.1 - u0.1) (slots' := u24.2.1 - u0.2.1) (by omega) (by omega) ?_
    exact w_X1_mean_71 hC hR hRm N u24 r26 h ⟨by omega, by omega⟩ hP hS (lv_sub hl [] rfl)
def f_X1_mean (N b : Nat) (g : uEnv) (u : UH) (a0 : Nat) (x1 : Int32) (x2 : Int32) (x3 : Int32) : Option (Int64 × UH) :=
    if uIs u a0 0 = true then
    ucall (f_X1_areCells N b g u a0 x1 x2) fun r4 u2 =>
    if r4 = 0 then
    if uIs u2 a0 0 = true then
    ucall (f_X1_lost N b g u2 a0 1) fun r13 u11 =>
    some (r13, u11)
    else none
    else
    if uIs u2 a0 0 = true then
    ucall (f_X1_solver N b g u2 a0 x2 1) fun o9 u7 =>
    f_X1_mean_21 N b g a0 u7 x1 x3 o9
    else none
    else none
set_option maxHeartbeats 4000000 in
set_option maxRecDepth 100000 in
theorem zz_X1_mean_0 {G : uG} {a0 : Nat} {uf : UH} {r : Int64} (N : Nat) (u : UH) (x1 : Int32) (x2 : Int32) (x3 : Int32) (h : f_X1_mean N (ub G) (ug G) u a0 x1 x2 x3 = some (r, uf)) : u.1 ≤ uf.1 ∧ u.2.1 ≤ uf.2.1 := by
  unfold f_X1_mean at h
  obtain ⟨c1, h⟩ := mif_n h
  obtain ⟨r4, u2, c3, h⟩ := ucall_n h
  have zu2 := zz_X1_areCells N (ub G) (ug G) u a0 x1 x2 r4 u2 c3
  by_cases c5 : r4 = 0
  · have h := mif_t c5 h
    obtain ⟨c10, h⟩ := mif_n h
    obtain ⟨r13, u11, c12, h⟩ := ucall_n h
    have zu11 := zz_X1_lost N (ub G) (ug G) u2 a0 1 r13 u11 c12
    obtain ⟨hr1, hr2⟩ := uret_n h
    subst hr2
    exact ⟨by omega, by omega⟩
  · have h := mif_f c5 h
    obtain ⟨c6, h⟩ := mif_n h
    obtain ⟨o9, u7, c8, h⟩ := ucall_n h
    have zu7 := zz_X1_solver N (ub G) (ug G) u2 a0 x2 1 o9 u7 c8
    have hq := zz_X1_mean_21 (G := G) (a0 := a0) N u7 x1 x3 o9 h
    exact ⟨by omega, by omega⟩
set_option maxHeartbeats 4000000 in
set_option maxRecDepth 100000 in
theorem w_X1_mean_0 {p : Program} {l : Launch} {e : Env} {R : Room} {s : State} {m : MethodId} {args : Array Value} {below : List Frame} {meth : Method} {c : Code} {G : uG} {a0 : Nat} {u0 : UH} {uf : UH} {r : Int64} (hC : uC p s m args meth c G RX1 cX1_mean 7 (some .long)) (hR : 102 ≤ R.frames ∧ 6050 ≤ R.locals) (hRm : uf.1 - u0.1 ≤ R.cells ∧ uf.2.1 - u0.2.1 ≤ R.slots) (N : Nat) (u : UH) (x1 : Int32) (x2 : Int32) (x3 : Int32) (h : f_X1_mean N (ub G) (ug G) u a0 x1 x2 x3 = some (r, uf)) (hz0 : (u0.1 ≤ u.1 ∧ u0.2.1 ≤ u.2.1)) {H : Heap} {locs : List Loc} (hP : uP G u H) (hS : va_S (uA G) s.heap H locs) {ls : Array Slot} (hl : lv_has ls 7 [(0, va_rf (some a0)), (1, .int x1), (2, .int x2), (3, .int x3)]) : W p l e R s m args below meth c H locs (u.1 - u0.1) (u.2.1 - u0.2.1) (MQ below (uQl G r uf) args s (uf.1 - u0.1) (uf.2.1 - u0.2.1) (uA G)) (F0 m 0 ls []) := by
  obtain ⟨⟨hx, hb, hml, hown, hts⟩, hKK⟩ := id hC
  have hzf := zz_X1_mean_0 (G := G) (a0 := a0) N u x1 x2 x3 h
  unfold f_X1_mean at h
  refine u_aload_n (r := some a0) hx hb dX1_mean_0 rfl (lv_at hl 0 rfl) ?_
  refine lv_iload_n hx hb dX1_mean_1 rfl (lv_at hl 1 rfl) ?_
  refine lv_iload_n hx hb dX1_mean_2 rfl (lv_at hl 2 rfl) ?_
  obtain ⟨c1, h⟩ := mif_n h
  obtain ⟨r4, u2, c3, h⟩ := ucall_n h
  have zu2 := zz_X1_areCells N (ub G) (ug G) u a0 x1 x2 r4 u2 c3
  refine u_calli (va_runV (As := [.int x1, .int x2]) (rest := []) hC.1 (met_X1_areCells l N G u a0 x1 x2 r4 u2 c3) (cwV 2 hts (lw_V q1285 q1287 qs20 q98 q1288) rfl rfl rfl (by decide +kernel) ⟨Nat.le_trans (Nat.le_of_ble_eq_true rfl) hR.1, Nat.le_trans (Nat.le_of_ble_eq_true rfl) hR.2⟩) ⟨uPc_blind, u_rcv hC hP c1 rfl, fun U hU hW => u_pre hC hP hS hU hW⟩ rfl rfl hl.1 rfl (lv_room (Nat.le_of_ble_eq_true rfl)) dX1_mean_3 ⟨by omega, by omega⟩) hS (fun H locs hP hS => ?_)
  refine W.cs (cells' := u2.1 - u0.1) (slots' := u2.2.1 - u0.2.1) (by omega) (by omega) ?_
  refine lv_if_ne (tgt := 15) hx hb dX1_mean_6 (by decide) (fun c5 => ?_) (fun c5 => ?_)
  · have h := mif_f c5 h
    refine u_aload_n (r := some a0) hx hb dX1_mean_15 rfl (lv_at hl 0 rfl) ?_
    refine lv_iload_n hx hb dX1_mean_16 rfl (lv_at hl 2 rfl) ?_
    refine lv_iconst (v := 1) hx hb dX1_mean_17 (by decide) ?_
    obtain ⟨c6, h⟩ := mif_n h
    obtain ⟨o9, u7, c8, h⟩ := ucall_n h
    have zu7 := zz_X1_solver N (ub G) (ug G) u2 a0 x2 1 o9 u7 c8
    have hq := zz_X1_mean_21 (G := G) (a0 := a0) N u7 x1 x3 o9 h
    refine u_callr (va_runV (As := [.int x2, .int 1]) (rest := []) hC.1 (met_X1_solver l N G u2 a0 x2 1 o9 u7 c8) (cwV 2 hts (lw_V q1289 q1291 qs21 q98 q1292) rfl rfl rfl (by decide +kernel) ⟨Nat.le_trans (Nat.le_of_ble_eq_true rfl) hR.1, Nat.le_trans (Nat.le_of_ble_eq_true rfl) hR.2⟩) ⟨uPc_blind, u_rcv hC hP c6 rfl, fun U hU hW => u_pre hC hP hS hU hW⟩ rfl rfl hl.1 rfl (lv_room (Nat.le_of_ble_eq_true rfl)) dX1_mean_18 ⟨by omega, by omega⟩) hS (fun H locs hP hS => ?_)
    refine W.cs (cells' := u7.1 - u0.1) (slots' := u7.2.1 - u0.2.1) (by omega) (by omega) ?_
    refine W.cs (cells' := u7.1 - u0.1) (slots' := u7.2.1 - u0.2.1) (by omega) (by omega) ?_
    exact w_X1_mean_21 hC hR hRm N u7 x1 x3 o9 h ⟨by omega, by omega⟩ hP hS (lv_sub hl [0, 1, 3] rfl)
  · have h := mif_t c5 h
    refine u_aload_n (r := some a0) hx hb dX1_mean_9 rfl (lv_at hl 0 rfl) ?_
    refine lv_iconst (v := 1) hx hb dX1_mean_10 (by decide) ?_
    obtain ⟨c10, h⟩ := mif_n h
    obtain ⟨r13, u11, c12, h⟩ := ucall_n h
    have zu11 := zz_X1_lost N (ub G) (ug G) u2 a0 1 r13 u11 c12
    refine u_calll (va_runV (As := [.int 1]) (rest := []) hC.1 (met_X1_lost l N G u2 a0 1 r13 u11 c12) (cwV 1 hts (lw_V q1429 q1431 qs27 q98 q1432) rfl rfl rfl (by decide +kernel) ⟨Nat.le_trans (Nat.le_of_ble_eq_true rfl) hR.1, Nat.le_trans (Nat.le_of_ble_eq_true rfl) hR.2⟩) ⟨uPc_blind, u_rcv hC hP c10 rfl, fun U hU hW => u_pre hC hP hS hU hW⟩ rfl rfl hl.1 rfl (lv_room (Nat.le_of_ble_eq_true rfl)) dX1_mean_11 ⟨by omega, by omega⟩) hS (fun H locs hP hS => ?_)
    refine W.cs (cells' := u11.1 - u0.1) (slots' := u11.2.1 - u0.2.1) (by omega) (by omega) ?_
    obtain ⟨hr1, hr2⟩ := uret_n h
    subst hr1
    subst hr2
    exact u_lret hC hP hS dX1_mean_14
theorem zz_X1_mean (N b : Nat) (g : uEnv) (u : UH) (a0 : Nat) (x1 : Int32) (x2 : Int32) (x3 : Int32) (r : Int64) (uf : UH) (h : f_X1_mean N b g u a0 x1 x2 x3 = some (r, uf)) : u.1 ≤ uf.1 ∧ u.2.1 ≤ uf.2.1 :=
  zz_X1_mean_0 (G := ((fun _ => 0, fun _ _ => 0), fun _ => 0, b, g)) (a0 := a0) N u x1 x2 x3 h
theorem met_X1_mean (l : Launch) (N : Nat) (G : uG) (u : UH) (a0 : Nat) (x1 : Int32) (x2 : Int32) (x3 : Int32) (r : Int64) (uf : UH) (h : f_X1_mean N (ub G) (ug G) u a0 x1 x2 x3 = some (r, uf)) : Met l yX1_mean (ws_ yX1_mean cX1_mean 7 (some .long)) ({ frames := 102, cells := (uf.1 - u.1), slots := (uf.2.1 - u.2.1), locals := 6050 }) (uPc G u [.ref a0, .int x1, .int x2, .int x3]) (uQl G r uf) (uf.1 - u.1) (uf.2.1 - u.2.1) (uA G) := by
  exact u_met (own := RX1) (by decide +kernel) rfl (Nat.le_of_ble_eq_true rfl) (fun hC hn hsz ls hl hP => W.cs (Nat.sub_self _).symm (Nat.sub_self _).symm (w_X1_mean_0 hC ⟨Nat.le_refl _, Nat.le_refl _⟩ ⟨Nat.le_refl _, Nat.le_refl _⟩ N u x1 x2 x3 h ⟨Nat.le_refl _, Nat.le_refl _⟩ hP va_S.rf hl))
def f_X19_init_81 (N b : Nat) (g : uEnv) (a0 : Nat) (u : UH) : Option (UH) :=
    some u
set_option maxHeartbeats 4000000 in
set_option maxRecDepth 100000 in
theorem zz_X19_init_81 {G : uG} {a0 : Nat} {uf : UH} (N : Nat) (u : UH) (h : f_X19_init_81 N (ub G) (ug G) a0 u = some uf) : u.1 ≤ uf.1 ∧ u.2.1 ≤ uf.2.1 := by
  unfold f_X19_init_81 at h
  cases h
  exact ⟨by omega, by omega⟩
set_option maxHeartbeats 4000000 in
set_option maxRecDepth 100000 in
theorem w_X19_init_81 {p : Program} {l : Launch} {e : Env} {R : Room} {s : State} {m : MethodId} {args : Array Value} {below : List Frame} {meth : Method} {c : Code} {G : uG} {a0 : Nat} {u0 : UH} {uf : UH} (hC : uC p s m args meth c G RX19 cX19_init 5 none) (hI : meth.name = "<init>") (hR : 5 ≤ R.frames ∧ 112 ≤ R.locals) (hRm : uf.1 - u0.1 ≤ R.cells ∧ uf.2.1 - u0.2.1 ≤ R.slots) (N : Nat) (u : UH) (h : f_X19_init_81 N (ub G) (ug G) a0 u = some uf) (hz0 : (u0.1 ≤ u.1 ∧ u0.2.1 ≤ u.2.1)) {H : Heap} {locs : List Loc} (hP : uP G u H) (hS : va_S (uA G) s.heap H locs) {ls : Array Slot} (hl : lv_has ls 5 []) : W p l e R s m args below meth c H locs (u.1 - u0.1) (u.2.1 - u0.2.1) (MQ below (uQv G uf) args s (uf.1 - u0.1) (uf.2.1 - u0.2.1) (uA G)) (F0 m 81 ls []) := by
  obtain ⟨⟨hx, hb, hml, hown, hts⟩, hKK⟩ := id hC
  have hzf := zz_X19_init_81 (G := G) (a0 := a0) N u h
  unfold f_X19_init_81 at h
  cases h
  exact u_vret hC hP hS dX19_init_81
def f_X19_init_60 (N b : Nat) (g : uEnv) (a0 : Nat) : Nat → UH → Int32 → Int32 → Int32 → Option (UH)
  | 0, _, _, _, _ => none
  | n + 1, u, x2, x3, x4 =>
    if x2 ≤ x4 then
    f_X19_init_81 N b g a0 u
    else
    if x3 = 0 then
    f_X19_init_81 N b g a0 u
    else
    if uIs u a0 17 = true then
    ucall (f_X19_lowers N b g u a0) fun r6 u4 =>
    mlet (x4 + 1) fun y7 =>
    f_X19_init_60 N b g a0 n u4 x2 r6 y7
    else none
set_option maxHeartbeats 4000000 in
set_option maxRecDepth 100000 in
theorem zz_X19_init_60 {G : uG} {a0 : Nat} {uf : UH} (N : Nat) : ∀ (n : Nat) (u : UH) (x2 : Int32) (x3 : Int32) (x4 : Int32), f_X19_init_60 N (ub G) (ug G) a0 n u x2 x3 x4 = some uf → u.1 ≤ uf.1 ∧ u.2.1 ≤ uf.2.1 := by
  intro n
  induction n with
  | zero =>
    intro u x2 x3 x4 h
    cases h
  | succ n ih =>
    intro u x2 x3 x4 h
    unfold f_X19_init_60 at h
    by_cases c1 : x2 ≤ x4
    · have h := mif_t c1 h
      have hq := zz_X19_init_81 (G := G) (a0 := a0) N u h
      exact ⟨by omega, by omega⟩
    · have h := mif_f c1 h
      by_cases c2 : x3 = 0
      · have h := mif_t c2 h
        have hq := zz_X19_init_81 (G := G) (a0 := a0) N u h
        exact ⟨by omega, by omega⟩
      · have h := mif_f c2 h
        obtain ⟨c3, h⟩ := mif_n h
        obtain ⟨r6, u4, c5, h⟩ := ucall_n h
        have zu4 := zz_X19_lowers N (ub G) (ug G) u a0 r6 u4 c5
        obtain ⟨y7, ey7⟩ : ∃ z : Int32, z = x4 + 1 := ⟨_, rfl⟩
        have h := mlet_at ey7 h
        have hq := ih u4 x2 r6 y7 h
        exact ⟨by omega, by omega⟩
set_option maxHeartbeats 4000000 in
set_option maxRecDepth 100000 in
theorem w_X19_init_60 {p : Program} {l : Launch} {e : Env} {R : Room} {s : State} {m : MethodId} {args : Array Value} {below : List Frame} {meth : Method} {c : Code} {G : uG} {a0 : Nat} {u0 : UH} {uf : UH} (hC : uC p s m args meth c G RX19 cX19_init 5 none) (hI : meth.name = "<init>") (hR : 5 ≤ R.frames ∧ 112 ≤ R.locals) (hRm : uf.1 - u0.1 ≤ R.cells ∧ uf.2.1 - u0.2.1 ≤ R.slots) (N : Nat) : ∀ (n : Nat) (u : UH) (x2 : Int32) (x3 : Int32) (x4 : Int32), f_X19_init_60 N (ub G) (ug G) a0 n u x2 x3 x4 = some uf → (u0.1 ≤ u.1 ∧ u0.2.1 ≤ u.2.1) → ∀ (H : Heap) (locs : List Loc), uP G u H → va_S (uA G) s.heap H locs → ∀ ls : Array Slot, lv_has ls 5 [(0, va_rf (some a0)), (2, .int x2), (3, .int x3), (4, .int x4)] → W p l e R s m args below meth c H locs (u.1 - u0.1) (u.2.1 - u0.2.1) (MQ below (uQv G uf) args s (uf.1 - u0.1) (uf.2.1 - u0.2.1) (uA G)) (F0 m 60 ls []) := by
  obtain ⟨⟨hx, hb, hml, hown, hts⟩, hKK⟩ := id hC
  intro n
  induction n with
  | zero =>
    intro u x2 x3 x4 h
    cases h
  | succ n ih =>
    intro u x2 x3 x4 h hz0 H locs hP hS ls hl
    have hzf := zz_X19_init_60 (G := G) (a0 := a0) N (n + 1) u x2 x3 x4 h
    unfold f_X19_init_60 at h
    refine lv_iload hx hb dX19_init_60 (lv_at hl 3 rfl) ?_
    refine lv_iload_n hx hb dX19_init_62 rfl (lv_at hl 1 rfl) ?_
    refine lv_icmp_ge (tgt := 81) hx hb dX19_init_63 (by decide) (fun c1 => ?_) (fun c1 => ?_)
    · have h := mif_t c1 h
      refine W.cs (cells' := u.1 - u0.1) (slots' := u.2.1 - u0.2.1) (by omega) (by omega) ?_
      exact w_X19_init_81 hC hI hR hRm N u h ⟨by omega, by omega⟩ hP hS (lv_sub hl [] rfl)
    · have h := mif_f c1 h
      refine lv_iload_n hx hb dX19_init_66 rfl (lv_at hl 2 rfl) ?_
      refine lv_if_eq (tgt := 81) hx hb dX19_init_67 (by decide) (fun c2 => ?_) (fun c2 => ?_)
      · have h := mif_t c2 h
        refine W.cs (cells' := u.1 - u0.1) (slots' := u.2.1 - u0.2.1) (by omega) (by omega) ?_
        exact w_X19_init_81 hC hI hR hRm N u h ⟨by omega, by omega⟩ hP hS (lv_sub hl [] rfl)
      · have h := mif_f c2 h
        refine u_aload_n (r := some a0) hx hb dX19_init_70 rfl (lv_at hl 0 rfl) ?_
        obtain ⟨c3, h⟩ := mif_n h
        obtain ⟨r6, u4, c5, h⟩ := ucall_n h
        have zu4 := zz_X19_lowers N (ub G) (ug G) u a0 r6 u4 c5
        refine u_calli (va_runV (As := []) (rest := []) hC.1 (met_X19_lowers l N G u a0 r6 u4 c5) (cwV 0 hts (lw_V q1768 q1770 qs37 q141 q1771) rfl rfl rfl (by decide +kernel) ⟨Nat.le_trans (Nat.le_of_ble_eq_true rfl) hR.1, Nat.le_trans (Nat.le_of_ble_eq_true rfl) hR.2⟩) ⟨uPc_blind, u_rcv hC hP c3 rfl, fun U hU hW => u_pre hC hP hS hU hW⟩ rfl rfl hl.1 rfl (lv_room (Nat.le_of_ble_eq_true rfl)) dX19_init_71 ⟨by omega, by omega⟩) hS (fun H locs hP hS => ?_)
        refine W.cs (cells' := u4.1 - u0.1) (slots' := u4.2.1 - u0.2.1) (by omega) (by omega) ?_
        refine lv_istore_n (i := 3) (lv' := [(3, .int r6), (0, va_rf (some a0)), (2, .int x2), (4, .int x4)]) hx hb dX19_init_74 rfl hl (by decide) rfl (fun ls hl => ?_)
        obtain ⟨y7, ey7⟩ : ∃ z : Int32, z = x4 + 1 := ⟨_, rfl⟩
        have h := mlet_at ey7 h
        refine lv_iinc (v := y7) (lv' := [(4, .int y7), (3, .int r6), (0, va_rf (some a0)), (2, .int x2)]) hx hb dX19_init_75 hl (k := 3) rfl (by rw [ey7]; rfl) (by decide) rfl (fun ls hl => ?_)
        refine lv_goto (tgt := 60) hx hb dX19_init_78 (by decide) ?_
        refine W.cs (cells' := u4.1 - u0.1) (slots' := u4.2.1 - u0.2.1) (by omega) (by omega) ?_
        exact ih u4 x2 r6 y7 h ⟨by omega, by omega⟩ _ _ hP hS _ (lv_sub hl [2, 3, 1, 0] rfl)
def f_X19_init_35 (N b : Nat) (g : uEnv) (a0 : Nat) (u : UH) (x2 : Int32) (s0 : Option Nat) (s1 : Option Nat) : Option (UH) :=
    (s1).bind fun a1 =>
    (uPut b u a1 17 1 (va_rf s0)).bind fun u2 =>
    (uGR u2 a0 17 1).bind fun o3 =>
    (f_J10_fill_3 N b g u2 o3 1152921504606846976).bind fun u4 =>
    (uGR u4 a0 17 1).bind fun o6 =>
    (o6).bind fun a7 =>
    (uStL b u4 a7 3 0 0).bind fun u8 =>
    f_X19_init_60 N b g a0 N u8 x2 1 0
set_option maxHeartbeats 4000000 in
set_option maxRecDepth 100000 in
theorem zz_X19_init_35 {G : uG} {a0 : Nat} {uf : UH} (N : Nat) (u : UH) (x2 : Int32) (s0 : Option Nat) (s1 : Option Nat) (h : f_X19_init_35 N (ub G) (ug G) a0 u x2 s0 s1 = some uf) : u.1 ≤ uf.1 ∧ u.2.1 ≤ uf.2.1 := by
  unfold f_X19_init_35 at h
  obtain ⟨a1, ha1, hha1⟩ := mbind_n h
  subst ha1
  have h := hha1
  obtain ⟨u2, hu2, h⟩ := mbind_n h
  have zu2 := uPut_sz hu2
  obtain ⟨o3, ho3, h⟩ := mbind_n h
  obtain ⟨u4, c5, h⟩ := mbind_n h
  have zu4 := zz_J10_fill_3 N (ub G) (ug G) u2 o3 1152921504606846976 u4 c5
  obtain ⟨o6, ho6, h⟩ := mbind_n h
  obtain ⟨a7, ha7, hha7⟩ := mbind_n h
  subst ha7
  have h := hha7
  obtain ⟨u8, hu8, h⟩ := mbind_n h
  have zu8 := uStL_sz hu8
  have hq := zz_X19_init_60 (G := G) (a0 := a0) N N u8 x2 1 0 h
  exact ⟨by omega, by omega⟩
set_option maxHeartbeats 4000000 in
set_option maxRecDepth 100000 in
theorem w_X19_init_35 {p : Program} {l : Launch} {e : Env} {R : Room} {s : State} {m : MethodId} {args : Array Value} {below : List Frame} {meth : Method} {c : Code} {G : uG} {a0 : Nat} {u0 : UH} {uf : UH} (hC : uC p s m args meth c G RX19 cX19_init 5 none) (hI : meth.name = "<init>") (hR : 5 ≤ R.frames ∧ 112 ≤ R.locals) (hRm : uf.1 - u0.1 ≤ R.cells ∧ uf.2.1 - u0.2.1 ≤ R.slots) (N : Nat) (u : UH) (x2 : Int32) (s0 : Option Nat) (s1 : Option Nat) (h : f_X19_init_35 N (ub G) (ug G) a0 u x2 s0 s1 = some uf) (hz0 : (u0.1 ≤ u.1 ∧ u0.2.1 ≤ u.2.1)) {H : Heap} {locs : List Loc} (hP : uP G u H) (hS : va_S (uA G) s.heap H locs) {ls : Array Slot} (hl : lv_has ls 5 [(0, va_rf (some a0)), (2, .int x2)]) : W p l e R s m args below meth c H locs (u.1 - u0.1) (u.2.1 - u0.2.1) (MQ below (uQv G uf) args s (uf.1 - u0.1) (uf.2.1 - u0.2.1) (uA G)) (F0 m 35 ls [va_rf s0, va_rf s1]) := by
  obtain ⟨⟨hx, hb, hml, hown, hts⟩, hKK⟩ := id hC
  have hzf := zz_X19_init_35 (G := G) (a0 := a0) N u x2 s0 s1 h
  unfold f_X19_init_35 at h
  obtain ⟨a1, ha1, hha1⟩ := mbind_n h
  subst ha1
  have h := hha1
  obtain ⟨u2, hu2, h⟩ := mbind_n h
  have zu2 := uPut_sz hu2
  refine u_putF hC hI hP hS hu2 rfl in_X19 tyX19 tyX19_ok nmX19 (by decide) q1806 (fun _ h => h) rfl rfl (ty := (.array .long)) (tyX19_ok 1 (by decide)) (uNarA _ s0).1 (uNarA _ s0).2 dX19_init_35 (fun H locs hP hS => ?_)
  refine W.cs (cells' := u2.1 - u0.1) (slots' := u2.2.1 - u0.2.1) (by omega) (by omega) ?_
  refine u_aload_n (r := some a0) hx hb dX19_init_38 rfl (lv_at hl 0 rfl) ?_
  obtain ⟨o3, ho3, h⟩ := mbind_n h
  refine u_get hC hP (uGR_n ho3) rfl in_X19 (by decide) q1806 (fun _ h => h) dX19_init_39 ?_
  refine lv_ldc2 hx hb hown (hts _ q1764) dX19_init_42 ?_
  obtain ⟨u4, c5, h⟩ := mbind_n h
  have zu4 := zz_J10_fill_3 N (ub G) (ug G) u2 o3 1152921504606846976 u4 c5
  refine u_callv (va_runS (As := [va_rf o3, .long 1152921504606846976]) (rest := []) hC.1 (met_J10_fill_3 l N G u2 o3 1152921504606846976 u4 c5) (va_cwS 2 hts (lw_S q1765 q1766 q114 q1767) rfl rfl rfl (by decide +kernel) ⟨Nat.le_trans (Nat.le_of_ble_eq_true rfl) hR.1, Nat.le_trans (Nat.le_of_ble_eq_true rfl) hR.2⟩) ⟨uPc_blind, fun U hU hW => u_pre hC hP hS hU hW⟩ rfl rfl hl.1 rfl (lv_room (Nat.le_of_ble_eq_true rfl)) dX19_init_45 ⟨by omega, by omega⟩) hS (fun H locs hP hS => ?_)
  refine W.cs (cells' := u4.1 - u0.1) (slots' := u4.2.1 - u0.2.1) (by omega) (by omega) ?_
  refine u_aload_n (r := some a0) hx hb dX19_init_48 rfl (lv_at hl 0 rfl) ?_
  obtain ⟨o6, ho6, h⟩ := mbind_n h
  refine u_get hC hP (uGR_n ho6) rfl in_X19 (by decide) q1806 (fun _ h => h) dX19_init_49 ?_
  refine lv_iconst (v := 0) hx hb dX19_init_52 (by decide) ?_
  refine lv_lconst (v := 0) hx hb dX19_init_53 (by decide) ?_
  obtain ⟨a7, ha7, hha7⟩ := mbind_n h
  subst ha7
  have h := hha7
  obtain ⟨u8, hu8, h⟩ := mbind_n h
  have zu8 := uStL_sz hu8
  refine u_last hC hP hS hu8 rfl dX19_init_54 (fun H locs hP hS => ?_)
  refine W.cs (cells' := u8.1 - u0.1) (slots' := u8.2.1 - u0.2.1) (by omega) (by omega) ?_
  refine lv_iconst (v := 1) hx hb dX19_init_55 (by decide) ?_
  refine lv_istore_n (i := 3) (lv' := [(3, .int 1), (0, va_rf (some a0)), (2, .int x2)]) hx hb dX19_init_56 rfl hl (by decide) rfl (fun ls hl => ?_)
  refine lv_iconst (v := 0) hx hb dX19_init_57 (by decide) ?_
  refine lv_istore (lv' := [(4, .int 0), (3, .int 1), (0, va_rf (some a0)), (2, .int x2)]) hx hb dX19_init_58 hl (by decide) rfl (fun ls hl => ?_)
  refine W.cs (cells' := u8.1 - u0.1) (slots' := u8.2.1 - u0.2.1) (by omega) (by omega) ?_
  exact w_X19_init_60 hC hI hR hRm N N u8 x2 1 0 h ⟨by omega, by omega⟩ _ _ hP hS _ (lv_sub hl [2, 3, 1, 0] rfl)
def f_X19_init_13 (N b : Nat) (g : uEnv) (a0 : Nat) : Nat → UH → Option Nat → Int32 → Int32 → Option (UH)
  | 0, _, _, _, _ => none
  | n + 1, u, x1, x2, x3 =>
    (x1).bind fun a1 =>
    (uGI u a1 3 3).bind fun y2 =>
    if y2 ≤ x3 then
    if ¬ x2 < 0 ∧ x2.toNatClampNeg ≤ 60000000 then
    mlet (u.1) fun a6 =>
    mlet (uNew u x2.toNatClampNeg (.inl (3, x2.toNatClampNeg, .inr (.inl (fun _ => 0))))) fun u4 =>
    f_X19_init_35 N b g a0 u4 x2 (some a6) (some a0)
    else none
    else
    mlet (x2 * 5) fun y7 =>
    mlet (x3 + 1) fun y8 =>
    f_X19_init_13 N b g a0 n u (some a1) y7 y8
set_option maxHeartbeats 4000000 in
set_option maxRecDepth 100000 in
theorem zz_X19_init_13 {G : uG} {a0 : Nat} {uf : UH} (N : Nat) : ∀ (n : Nat) (u : UH) (x1 : Option Nat) (x2 : Int32) (x3 : Int32), f_X19_init_13 N (ub G) (ug G) a0 n u x1 x2 x3 = some uf → u.1 ≤ uf.1 ∧ u.2.1 ≤ uf.2.1 := by
  intro n
  induction n with
  | zero =>
    intro u x1 x2 x3 h
    cases h
  | succ n ih =>
    intro u x1 x2 x3 h
    unfold f_X19_init_13 at h
    obtain ⟨a1, ha1, hha1⟩ := mbind_n h
    subst ha1
    have h := hha1
    obtain ⟨y2, hy2, h⟩ := mbind_n h
    by_cases c3 : y2 ≤ x3
    · have h := mif_t c3 h
      obtain ⟨c5, h⟩ := mif_n h
      obtain ⟨a6, ea6⟩ : ∃ z : Nat, z = u.1 := ⟨_, rfl⟩
      have h := mlet_at ea6 h
      obtain ⟨u4, eu4⟩ : ∃ z : UH, z = uNew u x2.toNatClampNeg (.inl (3, x2.toNatClampNeg, .inr (.inl (fun _ => 0)))) := ⟨_, rfl⟩
      have h := mlet_at eu4 h
      have zu4 : u4.1 = u.1 + 1 ∧ u4.2.1 = u.2.1 + x2.toNatClampNeg := by rw [eu4]; exact ⟨rfl, rfl⟩
      have hq := zz_X19_init_35 (G := G) (a0 := a0) N u4 x2 (some a6) (some a0) h
      exact ⟨by omega, by omega⟩
    · have h := mif_f c3 h
      obtain ⟨y7, ey7⟩ : ∃ z, z = x2 * 5 := ⟨_, rfl⟩
      have h := mlet_at ey7 h
      obtain ⟨y8, ey8⟩ : ∃ z : Int32, z = x3 + 1 := ⟨_, rfl⟩
      have h := mlet_at ey8 h
      have hq := ih u (some a1) y7 y8 h
      exact ⟨by omega, by omega⟩
set_option maxHeartbeats 4000000 in
set_option maxRecDepth 100000 in
theorem w_X19_init_13 {p : Program} {l : Launch} {e : Env} {R : Room} {s : State} {m : MethodId} {args : Array Value} {below : List Frame} {meth : Method} {c : Code} {G : uG} {a0 : Nat} {u0 : UH} {uf : UH} (hC : uC p s m args meth c G RX19 cX19_init 5 none) (hI : meth.name = "<init>") (hR : 5 ≤ R.frames ∧ 112 ≤ R.locals) (hRm : uf.1 - u0.1 ≤ R.cells ∧ uf.2.1 - u0.2.1 ≤ R.slots) (N : Nat) : ∀ (n : Nat) (u : UH) (x1 : Option Nat) (x2 : Int32) (x3 : Int32), f_X19_init_13 N (ub G) (ug G) a0 n u x1 x2 x3 = some uf → (u0.1 ≤ u.1 ∧ u0.2.1 ≤ u.2.1) → ∀ (H : Heap) (locs : List Loc), uP G u H → va_S (uA G) s.heap H locs → ∀ ls : Array Slot, lv_has ls 5 [(0, va_rf (some a0)), (1, va_rf x1), (2, .int x2), (3, .int x3)] → W p l e R s m args below meth c H locs (u.1 - u0.1) (u.2.1 - u0.2.1) (MQ below (uQv G uf) args s (uf.1 - u0.1) (uf.2.1 - u0.2.1) (uA G)) (F0 m 13 ls []) := by
  obtain ⟨⟨hx, hb, hml, hown, hts⟩, hKK⟩ := id hC
  intro n
  induction n with
  | zero =>
    intro u x1 x2 x3 h
    cases h
  | succ n ih =>
    intro u x1 x2 x3 h hz0 H locs hP hS ls hl
    have hzf := zz_X19_init_13 (G := G) (a0 := a0) N (n + 1) u x1 x2 x3 h
    unfold f_X19_init_13 at h
    refine lv_iload_n hx hb dX19_init_13 rfl (lv_at hl 3 rfl) ?_
    refine u_aload_n (r := x1) hx hb dX19_init_14 rfl (lv_at hl 1 rfl) ?_
    obtain ⟨a1, ha1, hha1⟩ := mbind_n h
    subst ha1
    have h := hha1
    obtain ⟨y2, hy2, h⟩ := mbind_n h
    refine u_getN hC hP (uGI_n hy2) rfl in_X4 (by decide) q296 (fun _ h => h) dX19_init_15 ?_
    refine lv_icmp_ge (tgt := 31) hx hb dX19_init_18 (by decide) (fun c3 => ?_) (fun c3 => ?_)
    · have h := mif_t c3 h
      refine u_aload_n (r := some a0) hx hb dX19_init_31 rfl (lv_at hl 0 rfl) ?_
      refine lv_iload_n hx hb dX19_init_32 rfl (lv_at hl 2 rfl) ?_
      obtain ⟨c5, h⟩ := mif_n h
      obtain ⟨a6, ea6⟩ : ∃ z : Nat, z = u.1 := ⟨_, rfl⟩
      have h := mlet_at ea6 h
      obtain ⟨u4, eu4⟩ : ∃ z : UH, z = uNew u x2.toNatClampNeg (.inl (3, x2.toNatClampNeg, .inr (.inl (fun _ => 0)))) := ⟨_, rfl⟩
      have h := mlet_at eu4 h
      have zu4 : u4.1 = u.1 + 1 ∧ u4.2.1 = u.2.1 + x2.toNatClampNeg := by rw [eu4]; exact ⟨rfl, rfl⟩
      have hq := zz_X19_init_35 (G := G) (a0 := a0) N u4 x2 (some a6) (some a0) h
      refine u_newa (atype := .long) hC hP hS (t := 3) q186 rfl (N := x2.toNatClampNeg) (x := .inr (.inl (fun _ => 0))) (fun _ => rfl) c5.1 rfl (by have := c5.2; show _ * 8 ≤ _; omega) (by omega) (by omega) dX19_init_33 (fun H hP hS => ?_)
      rw [← eu4] at hP
      rw [← ea6]
      refine W.cs (cells' := u4.1 - u0.1) (slots' := u4.2.1 - u0.2.1) (by omega) (by omega) ?_
      refine W.cs (cells' := u4.1 - u0.1) (slots' := u4.2.1 - u0.2.1) (by omega) (by omega) ?_
      exact w_X19_init_35 hC hI hR hRm N u4 x2 (some a6) (some a0) h ⟨by omega, by omega⟩ hP hS (lv_sub hl [0, 2] rfl)
    · have h := mif_f c3 h
      refine lv_iload_n hx hb dX19_init_21 rfl (lv_at hl 2 rfl) ?_
      refine lv_iconst (v := 5) hx hb dX19_init_22 (by decide) ?_
      refine lv_imul hx hb dX19_init_23 ?_
      refine lv_topi (fun y7 ey7 => ?_)
      have h := mlet_at ey7 h
      refine lv_istore_n (i := 2) (lv' := [(2, .int y7), (0, va_rf (some a0)), (1, va_rf (some a1)), (3, .int x3)]) hx hb dX19_init_24 rfl hl (by decide) rfl (fun ls hl => ?_)
      obtain ⟨y8, ey8⟩ : ∃ z : Int32, z = x3 + 1 := ⟨_, rfl⟩
      have h := mlet_at ey8 h
      refine lv_iinc (v := y8) (lv' := [(3, .int y8), (2, .int y7), (0, va_rf (some a0)), (1, va_rf (some a1))]) hx hb dX19_init_25 hl (k := 3) rfl (by rw [ey8]; rfl) (by decide) rfl (fun ls hl => ?_)
      refine lv_goto (tgt := 13) hx hb dX19_init_28 (by decide) ?_
      refine W.cs (cells' := u.1 - u0.1) (slots' := u.2.1 - u0.2.1) (by omega) (by omega) ?_
      exact ih u (some a1) y7 y8 h ⟨by omega, by omega⟩ _ _ hP hS _ (lv_sub hl [2, 3, 1, 0] rfl)
def f_X19_init (N b : Nat) (g : uEnv) (u : UH) (a0 : Nat) (x1 : Option Nat) : Option (UH) :=
    (uPut b u a0 17 0 (va_rf x1)).bind fun u1 =>
    f_X19_init_13 N b g a0 N u1 x1 1 0
set_option maxHeartbeats 4000000 in
set_option maxRecDepth 100000 in
theorem zz_X19_init_0 {G : uG} {a0 : Nat} {uf : UH} (N : Nat) (u : UH) (x1 : Option Nat) (h : f_X19_init N (ub G) (ug G) u a0 x1 = some uf) : u.1 ≤ uf.1 ∧ u.2.1 ≤ uf.2.1 := by
  unfold f_X19_init at h
  obtain ⟨u1, hu1, h⟩ := mbind_n h
  have zu1 := uPut_sz hu1
  have hq := zz_X19_init_13 (G := G) (a0 := a0) N N u1 x1 1 0 h
  exact ⟨by omega, by omega⟩
set_option maxHeartbeats 4000000 in
set_option maxRecDepth 100000 in
theorem w_X19_init_0 {p : Program} {l : Launch} {e : Env} {R : Room} {s : State} {m : MethodId} {args : Array Value} {below : List Frame} {meth : Method} {c : Code} {G : uG} {a0 : Nat} {u0 : UH} {uf : UH} (hC : uC p s m args meth c G RX19 cX19_init 5 none) (hI : meth.name = "<init>") (hR : 5 ≤ R.frames ∧ 112 ≤ R.locals) (hRm : uf.1 - u0.1 ≤ R.cells ∧ uf.2.1 - u0.2.1 ≤ R.slots) (N : Nat) (u : UH) (x1 : Option Nat) (h : f_X19_init N (ub G) (ug G) u a0 x1 = some uf) (hz0 : (u0.1 ≤ u.1 ∧ u0.2.1 ≤ u.2.1)) {H : Heap} {locs : List Loc} (hP : uP G u H) (hS : va_S (uA G) s.heap H locs) {ls : Array Slot} (hl : lv_has ls 5 [(0, va_rf (some a0)), (1, va_rf x1)]) : W p l e R s m args below meth c H locs (u.1 - u0.1) (u.2.1 - u0.2.1) (MQ below (uQv G uf) args s (uf.1 - u0.1) (uf.2.1 - u0.2.1) (uA G)) (F0 m 0 ls []) := by
  obtain ⟨⟨hx, hb, hml, hown, hts⟩, hKK⟩ := id hC
  have hzf := zz_X19_init_0 (G := G) (a0 := a0) N u x1 h
  unfold f_X19_init at h
  refine u_aload_n (r := some a0) hx hb dX19_init_0 rfl (lv_at hl 0 rfl) ?_
  refine W.objInit hx hb hown (hts _ q1763) (hts _ q148) (hts _ q149) rfl (by rw [hml]; exact hl.1) rfl dX19_init_1 (Nat.le_trans (Nat.le_of_ble_eq_true rfl) hR.1) (Nat.le_trans (Nat.le_of_ble_eq_true rfl) hR.2) ?_
  refine W.eq (g2 := F0 m 4 ls []) rfl ?_
  refine u_aload_n (r := some a0) hx hb dX19_init_4 rfl (lv_at hl 0 rfl) ?_
  refine u_aload_n (r := x1) hx hb dX19_init_5 rfl (lv_at hl 1 rfl) ?_
  obtain ⟨u1, hu1, h⟩ := mbind_n h
  have zu1 := uPut_sz hu1
  refine u_putF hC hI hP hS hu1 rfl in_X19 tyX19 tyX19_ok nmX19 (by decide) q1804 (fun _ h => h) rfl rfl (ty := (.object "SoftWheels$Book")) (tyX19_ok 0 (by decide)) (uNarR _ x1).1 (uNarR _ x1).2 dX19_init_6 (fun H locs hP hS => ?_)
  refine W.cs (cells' := u1.1 - u0.1) (slots' := u1.2.1 - u0.2.1) (by omega) (by omega) ?_
  refine lv_iconst (v := 1) hx hb dX19_init_9 (by decide) ?_
  refine lv_istore_n (i := 2) (lv' := [(2, .int 1), (0, va_rf (some a0)), (1, va_rf x1)]) hx hb dX19_init_10 rfl hl (by decide) (by simp [List.filter_cons, u_cat]) (fun ls hl => ?_)
  refine lv_iconst (v := 0) hx hb dX19_init_11 (by decide) ?_
  refine lv_istore_n (i := 3) (lv' := [(3, .int 0), (2, .int 1), (0, va_rf (some a0)), (1, va_rf x1)]) hx hb dX19_init_12 rfl hl (by decide) rfl (fun ls hl => ?_)
  refine W.cs (cells' := u1.1 - u0.1) (slots' := u1.2.1 - u0.2.1) (by omega) (by omega) ?_
  exact w_X19_init_13 hC hI hR hRm N N u1 x1 1 0 h ⟨by omega, by omega⟩ _ _ hP hS _ (lv_sub hl [2, 3, 1, 0] rfl)
theorem zz_X19_init (N b : Nat) (g : uEnv) (u : UH) (a0 : Nat) (x1 : Option Nat) (uf : UH) (h : f_X19_init N b g u a0 x1 = some uf) : u.1 ≤ uf.1 ∧ u.2.1 ≤ uf.2.1 :=
  zz_X19_init_0 (G := ((fun _ => 0, fun _ _ => 0), fun _ => 0, b, g)) (a0 := a0) N u x1 h
theorem met_X19_init (l : Launch) (N : Nat) (G : uG) (u : UH) (a0 : Nat) (x1 : Option Nat) (uf : UH) (h : f_X19_init N (ub G) (ug G) u a0 x1 = some uf) : Met l yX19_init (ws_ yX19_init cX19_init 5 none) ({ frames := 5, cells := (uf.1 - u.1), slots := (uf.2.1 - u.2.1), locals := 112 }) (uPc G u [.ref a0, va_rf x1]) (uQv G uf) (uf.1 - u.1) (uf.2.1 - u.2.1) (uA G) := by
  rcases x1 with _ | x1 <;> exact u_met (own := RX19) (by decide +kernel) rfl (Nat.le_of_ble_eq_true rfl) (fun hC hn hsz ls hl hP => W.cs (Nat.sub_self _).symm (Nat.sub_self _).symm (w_X19_init_0 hC hn ⟨Nat.le_refl _, Nat.le_refl _⟩ ⟨Nat.le_refl _, Nat.le_refl _⟩ N u _ h ⟨Nat.le_refl _, Nat.le_refl _⟩ hP va_S.rf hl))
def f_X1_pit_36 (N b : Nat) (g : uEnv) (a0 : Nat) (u : UH) : Option (Option Nat × UH) :=
    (uGR u a0 0 15).bind fun o1 =>
    some (o1, u)
set_option maxHeartbeats 4000000 in
set_option maxRecDepth 100000 in
theorem zz_X1_pit_36 {G : uG} {a0 : Nat} {uf : UH} {r : Option Nat} (N : Nat) (u : UH) (h : f_X1_pit_36 N (ub G) (ug G) a0 u = some (r, uf)) : u.1 ≤ uf.1 ∧ u.2.1 ≤ uf.2.1 := by
  unfold f_X1_pit_36 at h
  obtain ⟨o1, ho1, h⟩ := mbind_n h
  obtain ⟨hr1, hr2⟩ := uret_n h
  subst hr2
  exact ⟨by omega, by omega⟩
set_option maxHeartbeats 4000000 in
set_option maxRecDepth 100000 in
theorem w_X1_pit_36 {p : Program} {l : Launch} {e : Env} {R : Room} {s : State} {m : MethodId} {args : Array Value} {below : List Frame} {meth : Method} {c : Code} {G : uG} {a0 : Nat} {u0 : UH} {uf : UH} {r : Option Nat} (hC : uC p s m args meth c G RX1 cX1_pit 1 (some (.object "SoftWheels$Pit"))) (hR : 6 ≤ R.frames ∧ 136 ≤ R.locals) (hRm : uf.1 - u0.1 ≤ R.cells ∧ uf.2.1 - u0.2.1 ≤ R.slots) (N : Nat) (u : UH) (h : f_X1_pit_36 N (ub G) (ug G) a0 u = some (r, uf)) (hz0 : (u0.1 ≤ u.1 ∧ u0.2.1 ≤ u.2.1)) {H : Heap} {locs : List Loc} (hP : uP G u H) (hS : va_S (uA G) s.heap H locs) {ls : Array Slot} (hl : lv_has ls 1 [(0, va_rf (some a0))]) : W p l e R s m args below meth c H locs (u.1 - u0.1) (u.2.1 - u0.2.1) (MQ below (uQr G r uf) args s (uf.1 - u0.1) (uf.2.1 - u0.2.1) (uA G)) (F0 m 36 ls []) := by
  obtain ⟨⟨hx, hb, hml, hown, hts⟩, hKK⟩ := id hC
  have hzf := zz_X1_pit_36 (G := G) (a0 := a0) N u h
  unfold f_X1_pit_36 at h
  refine u_aload_n (r := some a0) hx hb dX1_pit_36 rfl (lv_at hl 0 rfl) ?_
  obtain ⟨o1, ho1, h⟩ := mbind_n h
  refine u_get hC hP (uGR_n ho1) rfl in_X1 (by decide) q230 (fun _ h => h) dX1_pit_37 ?_
  obtain ⟨hr1, hr2⟩ := uret_n h
  subst hr1
  subst hr2
  exact u_aret hC (Or.inl ⟨_, rfl⟩) hP hS dX1_pit_40
def f_X1_pit_33 (N b : Nat) (g : uEnv) (a0 : Nat) (u : UH) (s0 : Option Nat) (s1 : Option Nat) : Option (Option Nat × UH) :=
    (s1).bind fun a1 =>
    (uPut b u a1 0 15 (va_rf s0)).bind fun u2 =>
    f_X1_pit_36 N b g a0 u2
set_option maxHeartbeats 4000000 in
set_option maxRecDepth 100000 in
theorem zz_X1_pit_33 {G : uG} {a0 : Nat} {uf : UH} {r : Option Nat} (N : Nat) (u : UH) (s0 : Option Nat) (s1 : Option Nat) (h : f_X1_pit_33 N (ub G) (ug G) a0 u s0 s1 = some (r, uf)) : u.1 ≤ uf.1 ∧ u.2.1 ≤ uf.2.1 := by
  unfold f_X1_pit_33 at h
  obtain ⟨a1, ha1, hha1⟩ := mbind_n h
  subst ha1
  have h := hha1
  obtain ⟨u2, hu2, h⟩ := mbind_n h
  have zu2 := uPut_sz hu2
  have hq := zz_X1_pit_36 (G := G) (a0 := a0) N u2 h
  exact ⟨by omega, by omega⟩
set_option maxHeartbeats 4000000 in
set_option maxRecDepth 100000 in
theorem w_X1_pit_33 {p : Program} {l : Launch} {e : Env} {R : Room} {s : State} {m : MethodId} {args : Array Value} {below : List Frame} {meth : Method} {c : Code} {G : uG} {a0 : Nat} {u0 : UH} {uf : UH} {r : Option Nat} (hC : uC p s m args meth c G RX1 cX1_pit 1 (some (.object "SoftWheels$Pit"))) (hR : 6 ≤ R.frames ∧ 136 ≤ R.locals) (hRm : uf.1 - u0.1 ≤ R.cells ∧ uf.2.1 - u0.2.1 ≤ R.slots) (N : Nat) (u : UH) (s0 : Option Nat) (s1 : Option Nat) (h : f_X1_pit_33 N (ub G) (ug G) a0 u s0 s1 = some (r, uf)) (hz0 : (u0.1 ≤ u.1 ∧ u0.2.1 ≤ u.2.1)) {H : Heap} {locs : List Loc} (hP : uP G u H) (hS : va_S (uA G) s.heap H locs) {ls : Array Slot} (hl : lv_has ls 1 [(0, va_rf (some a0))]) : W p l e R s m args below meth c H locs (u.1 - u0.1) (u.2.1 - u0.2.1) (MQ below (uQr G r uf) args s (uf.1 - u0.1) (uf.2.1 - u0.2.1) (uA G)) (F0 m 33 ls [va_rf s0, va_rf s1]) := by
  obtain ⟨⟨hx, hb, hml, hown, hts⟩, hKK⟩ := id hC
  have hzf := zz_X1_pit_33 (G := G) (a0 := a0) N u s0 s1 h
  unfold f_X1_pit_33 at h
  obtain ⟨a1, ha1, hha1⟩ := mbind_n h
  subst ha1
  have h := hha1
  obtain ⟨u2, hu2, h⟩ := mbind_n h
  have zu2 := uPut_sz hu2
  refine u_put hC hP hS hu2 rfl in_X1 tyX1 tyX1_ok nmX1 (by decide) q230 (fun _ h => h) rfl (ty := (.object "SoftWheels$Pit")) (tyX1_ok 15 (by decide)) (uNarR _ s0).1 (uNarR _ s0).2 dX1_pit_33 (fun H locs hP hS => ?_)
  refine W.cs (cells' := u2.1 - u0.1) (slots' := u2.2.1 - u0.2.1) (by omega) (by omega) ?_
  refine W.cs (cells' := u2.1 - u0.1) (slots' := u2.2.1 - u0.2.1) (by omega) (by omega) ?_
  exact w_X1_pit_36 hC hR hRm N u2 h ⟨by omega, by omega⟩ hP hS (lv_sub hl [0] rfl)
def f_X1_pit_25 (N b : Nat) (g : uEnv) (a0 : Nat) (u : UH) (s0 : Option Nat) (s1 : Option Nat) : Option (Option Nat × UH) :=
    (uGR u a0 0 2).bind fun o1 =>
    (s0).bind fun a2 =>
    (f_X19_init N b g u a2 o1).bind fun u3 =>
    f_X1_pit_33 N b g a0 u3 (some a2) s1
set_option maxHeartbeats 4000000 in
set_option maxRecDepth 100000 in
theorem zz_X1_pit_25 {G : uG} {a0 : Nat} {uf : UH} {r : Option Nat} (N : Nat) (u : UH) (s0 : Option Nat) (s1 : Option Nat) (h : f_X1_pit_25 N (ub G) (ug G) a0 u s0 s1 = some (r, uf)) : u.1 ≤ uf.1 ∧ u.2.1 ≤ uf.2.1 := by
  unfold f_X1_pit_25 at h
  obtain ⟨o1, ho1, h⟩ := mbind_n h
  obtain ⟨a2, ha2, hha2⟩ := mbind_n h
  subst ha2
  have h := hha2
  obtain ⟨u3, c4, h⟩ := mbind_n h
  have zu3 := zz_X19_init N (ub G) (ug G) u a2 o1 u3 c4
  have hq := zz_X1_pit_33 (G := G) (a0 := a0) N u3 (some a2) s1 h
  exact ⟨by omega, by omega⟩
set_option maxHeartbeats 4000000 in
set_option maxRecDepth 100000 in
theorem w_X1_pit_25 {p : Program} {l : Launch} {e : Env} {R : Room} {s : State} {m : MethodId} {args : Array Value} {below : List Frame} {meth : Method} {c : Code} {G : uG} {a0 : Nat} {u0 : UH} {uf : UH} {r : Option Nat} (hC : uC p s m args meth c G RX1 cX1_pit 1 (some (.object "SoftWheels$Pit"))) (hR : 6 ≤ R.frames ∧ 136 ≤ R.locals) (hRm : uf.1 - u0.1 ≤ R.cells ∧ uf.2.1 - u0.2.1 ≤ R.slots) (N : Nat) (u : UH) (s0 : Option Nat) (s1 : Option Nat) (h : f_X1_pit_25 N (ub G) (ug G) a0 u s0 s1 = some (r, uf)) (hz0 : (u0.1 ≤ u.1 ∧ u0.2.1 ≤ u.2.1)) {H : Heap} {locs : List Loc} (hP : uP G u H) (hS : va_S (uA G) s.heap H locs) {ls : Array Slot} (hl : lv_has ls 1 [(0, va_rf (some a0))]) : W p l e R s m args below meth c H locs (u.1 - u0.1) (u.2.1 - u0.2.1) (MQ below (uQr G r uf) args s (uf.1 - u0.1) (uf.2.1 - u0.2.1) (uA G)) (F0 m 25 ls [va_rf s0, va_rf s1]) := by
  obtain ⟨⟨hx, hb, hml, hown, hts⟩, hKK⟩ := id hC
  have hzf := zz_X1_pit_25 (G := G) (a0 := a0) N u s0 s1 h
  unfold f_X1_pit_25 at h
  refine lv_dup hx hb dX1_pit_25 (u_cat _) ?_
  refine u_aload_n (r := some a0) hx hb dX1_pit_26 rfl (lv_at hl 0 rfl) ?_
  obtain ⟨o1, ho1, h⟩ := mbind_n h
  refine u_get hC hP (uGR_n ho1) rfl in_X1 (by decide) q217 (fun _ h => h) dX1_pit_27 ?_
  obtain ⟨a2, ha2, hha2⟩ := mbind_n h
  subst ha2
  have h := hha2
  obtain ⟨u3, c4, h⟩ := mbind_n h
  have zu3 := zz_X19_init N (ub G) (ug G) u a2 o1 u3 c4
  have hq := zz_X1_pit_33 (G := G) (a0 := a0) N u3 (some a2) s1 h
  refine u_callv (va_runI (As := [va_rf o1]) (rest := [va_rf (some a2), va_rf s1]) hC.1 (met_X19_init l N G u a2 o1 u3 c4) (cwI 1 hts (lw_meth q1762) rfl rfl rfl (hts _ q141) (hts _ q1760) (hts _ q1761) rfl (by decide +kernel) ⟨Nat.le_trans (Nat.le_of_ble_eq_true rfl) hR.1, Nat.le_trans (Nat.le_of_ble_eq_true rfl) hR.2⟩) ⟨uPc_blind, fun U hU hW => u_pre hC hP hS hU hW⟩ rfl rfl hl.1 rfl (lv_room (by simp only [List.map, u_cat]; exact Nat.le_of_ble_eq_true rfl)) dX1_pit_30 ⟨by omega, by omega⟩) hS (fun H locs hP hS => ?_)
  refine W.cs (cells' := u3.1 - u0.1) (slots' := u3.2.1 - u0.2.1) (by omega) (by omega) ?_
  refine W.cs (cells' := u3.1 - u0.1) (slots' := u3.2.1 - u0.2.1) (by omega) (by omega) ?_
  exact w_X1_pit_33 hC hR hRm N u3 (some a2) s1 h ⟨by omega, by omega⟩ hP hS (lv_sub hl [0] rfl)
def f_X1_pit_21 (N b : Nat) (g : uEnv) (a0 : Nat) (u : UH) : Option (Option Nat × UH) :=
    mlet (u.1) fun a2 =>
    mlet (uNew u 2 (.inr (17, uDefs tyX19 2))) fun u1 =>
    f_X1_pit_25 N b g a0 u1 (some a2) (some a0)
set_option maxHeartbeats 4000000 in
set_option maxRecDepth 100000 in
theorem zz_X1_pit_21 {G : uG} {a0 : Nat} {uf : UH} {r : Option Nat} (N : Nat) (u : UH) (h : f_X1_pit_21 N (ub G) (ug G) a0 u = some (r, uf)) : u.1 ≤ uf.1 ∧ u.2.1 ≤ uf.2.1 := by
  unfold f_X1_pit_21 at h
  obtain ⟨a2, ea2⟩ : ∃ z : Nat, z = u.1 := ⟨_, rfl⟩
  have h := mlet_at ea2 h
  obtain ⟨u1, eu1⟩ : ∃ z : UH, z = uNew u 2 (.inr (17, uDefs tyX19 2)) := ⟨_, rfl⟩
  have h := mlet_at eu1 h
  have zu1 : u1.1 = u.1 + 1 ∧ u1.2.1 = u.2.1 + 2 := by rw [eu1]; exact ⟨rfl, rfl⟩
  have hq := zz_X1_pit_25 (G := G) (a0 := a0) N u1 (some a2) (some a0) h
  exact ⟨by omega, by omega⟩
set_option maxHeartbeats 4000000 in
set_option maxRecDepth 100000 in
theorem w_X1_pit_21 {p : Program} {l : Launch} {e : Env} {R : Room} {s : State} {m : MethodId} {args : Array Value} {below : List Frame} {meth : Method} {c : Code} {G : uG} {a0 : Nat} {u0 : UH} {uf : UH} {r : Option Nat} (hC : uC p s m args meth c G RX1 cX1_pit 1 (some (.object "SoftWheels$Pit"))) (hR : 6 ≤ R.frames ∧ 136 ≤ R.locals) (hRm : uf.1 - u0.1 ≤ R.cells ∧ uf.2.1 - u0.2.1 ≤ R.slots) (N : Nat) (u : UH) (h : f_X1_pit_21 N (ub G) (ug G) a0 u = some (r, uf)) (hz0 : (u0.1 ≤ u.1 ∧ u0.2.1 ≤ u.2.1)) {H : Heap} {locs : List Loc} (hP : uP G u H) (hS : va_S (uA G) s.heap H locs) {ls : Array Slot} (hl : lv_has ls 1 [(0, va_rf (some a0))]) : W p l e R s m args below meth c H locs (u.1 - u0.1) (u.2.1 - u0.2.1) (MQ below (uQr G r uf) args s (uf.1 - u0.1) (uf.2.1 - u0.2.1) (uA G)) (F0 m 21 ls []) := by
  obtain ⟨⟨hx, hb, hml, hown, hts⟩, hKK⟩ := id hC
  have hzf := zz_X1_pit_21 (G := G) (a0 := a0) N u h
  unfold f_X1_pit_21 at h
  refine u_aload_n (r := some a0) hx hb dX1_pit_21 rfl (lv_at hl 0 rfl) ?_
  obtain ⟨a2, ea2⟩ : ∃ z : Nat, z = u.1 := ⟨_, rfl⟩
  have h := mlet_at ea2 h
  obtain ⟨u1, eu1⟩ : ∃ z : UH, z = uNew u 2 (.inr (17, uDefs tyX19 2)) := ⟨_, rfl⟩
  have h := mlet_at eu1 h
  have zu1 : u1.1 = u.1 + 1 ∧ u1.2.1 = u.2.1 + 2 := by rw [eu1]; exact ⟨rfl, rfl⟩
  have hq := zz_X1_pit_25 (G := G) (a0 := a0) N u1 (some a2) (some a0) h
  refine u_new hC hP hS (T := TX19) (N := 2) (ci := 17) rfl in_X19 tyX19 tyX19_ok q1758 q1759 q141 (by omega) (by omega) dX1_pit_22 (fun H hP hS => ?_)
  rw [← eu1] at hP
  rw [← ea2]
  refine W.cs (cells' := u1.1 - u0.1) (slots' := u1.2.1 - u0.2.1) (by omega) (by omega) ?_
  refine W.cs (cells' := u1.1 - u0.1) (slots' := u1.2.1 - u0.2.1) (by omega) (by omega) ?_
  exact w_X1_pit_25 hC hR hRm N u1 (some a2) (some a0) h ⟨by omega, by omega⟩ hP hS (lv_sub hl [0] rfl)
def f_X1_pit (N b : Nat) (g : uEnv) (u : UH) (a0 : Nat) : Option (Option Nat × UH) :=
    (uGR u a0 0 15).bind fun o1 =>
    ucase o1 (
    f_X1_pit_21 N b g a0 u) fun a2 =>
    (uGR u a0 0 15).bind fun o3 =>
    (o3).bind fun a4 =>
    (uGR u a4 17 0).bind fun o5 =>
    (uGR u a0 0 2).bind fun o6 =>
    if o5 = o6 then
    f_X1_pit_36 N b g a0 u
    else
    f_X1_pit_21 N b g a0 u
set_option maxHeartbeats 4000000 in
set_option maxRecDepth 100000 in
theorem zz_X1_pit_0 {G : uG} {a0 : Nat} {uf : UH} {r : Option Nat} (N : Nat) (u : UH) (h : f_X1_pit N (ub G) (ug G) u a0 = some (r, uf)) : u.1 ≤ uf.1 ∧ u.2.1 ≤ uf.2.1 := by
  unfold f_X1_pit at h
  obtain ⟨o1, ho1, h⟩ := mbind_n h
  rcases o1 with _ | a2
  · have h := ucase_n h
    have hq := zz_X1_pit_21 (G := G) (a0 := a0) N u h
    exact ⟨by omega, by omega⟩
  · have h := ucase_s h
    obtain ⟨o3, ho3, h⟩ := mbind_n h
    obtain ⟨a4, ha4, hha4⟩ := mbind_n h
    subst ha4
    have h := hha4
    obtain ⟨o5, ho5, h⟩ := mbind_n h
    obtain ⟨o6, ho6, h⟩ := mbind_n h
    by_cases c7 : o5 = o6
    · have h := mif_t c7 h
      have hq := zz_X1_pit_36 (G := G) (a0 := a0) N u h
      exact ⟨by omega, by omega⟩
    · have h := mif_f c7 h
      have hq := zz_X1_pit_21 (G := G) (a0 := a0) N u h
      exact ⟨by omega, by omega⟩
set_option maxHeartbeats 4000000 in
set_option maxRecDepth 100000 in
theorem w_X1_pit_0 {p : Program} {l : Launch} {e : Env} {R : Room} {s : State} {m : MethodId} {args : Array Value} {below : List Frame} {meth : Method} {c : Code} {G : uG} {a0 : Nat} {u0 : UH} {uf : UH} {r : Option Nat} (hC : uC p s m args meth c G RX1 cX1_pit 1 (some (.object "SoftWheels$Pit"))) (hR : 6 ≤ R.frames ∧ 136 ≤ R.locals) (hRm : uf.1 - u0.1 ≤ R.cells ∧ uf.2.1 - u0.2.1 ≤ R.slots) (N : Nat) (u : UH) (h : f_X1_pit N (ub G) (ug G) u a0 = some (r, uf)) (hz0 : (u0.1 ≤ u.1 ∧ u0.2.1 ≤ u.2.1)) {H : Heap} {locs : List Loc} (hP : uP G u H) (hS : va_S (uA G) s.heap H locs) {ls : Array Slot} (hl : lv_has ls 1 [(0, va_rf (some a0))]) : W p l e R s m args below meth c H locs (u.1 - u0.1) (u.2.1 - u0.2.1) (MQ below (uQr G r uf) args s (uf.1 - u0.1) (uf.2.1 - u0.2.1) (uA G)) (F0 m 0 ls []) := by
  obtain ⟨⟨hx, hb, hml, hown, hts⟩, hKK⟩ := id hC
  have hzf := zz_X1_pit_0 (G := G) (a0 := a0) N u h
  unfold f_X1_pit at h
  refine u_aload_n (r := some a0) hx hb dX1_pit_0 rfl (lv_at hl 0 rfl) ?_
  obtain ⟨o1, ho1, h⟩ := mbind_n h
  refine u_get hC hP (uGR_n ho1) rfl in_X1 (by decide) q230 (fun _ h => h) dX1_pit_1 ?_
  rcases o1 with _ | a2
  · have h := ucase_n h
    refine lv_ifnullN (tgt := 21) hx hb dX1_pit_4 (by decide) ?_
    refine W.cs (cells' := u.1 - u0.1) (slots' := u.2.1 - u0.2.1) (by omega) (by omega) ?_
    exact w_X1_pit_21 hC hR hRm N u h ⟨by omega, by omega⟩ hP hS (lv_sub hl [0] rfl)
  · have h := ucase_s h
    refine lv_ifnull hx hb dX1_pit_4 ?_
    refine u_aload_n (r := some a0) hx hb dX1_pit_7 rfl (lv_at hl 0 rfl) ?_
    obtain ⟨o3, ho3, h⟩ := mbind_n h
    refine u_get hC hP (uGR_n ho3) rfl in_X1 (by decide) q230 (fun _ h => h) dX1_pit_8 ?_
    obtain ⟨a4, ha4, hha4⟩ := mbind_n h
    subst ha4
    have h := hha4
    obtain ⟨o5, ho5, h⟩ := mbind_n h
    refine u_getN hC hP (uGR_n ho5) rfl in_X19 (by decide) q1805 (fun _ h => h) dX1_pit_11 ?_
    refine u_aload_n (r := some a0) hx hb dX1_pit_14 rfl (lv_at hl 0 rfl) ?_
    obtain ⟨o6, ho6, h⟩ := mbind_n h
    refine u_get hC hP (uGR_n ho6) rfl in_X1 (by decide) q217 (fun _ h => h) dX1_pit_15 ?_
    refine lv_acmp_eq (rx := o5) (ry := o6) (tgt := 36) hx hb dX1_pit_18 (by decide) (fun c7 => ?_) (fun c7 => ?_)
    · have h := mif_t c7 h
      refine W.cs (cells' := u.1 - u0.1) (slots' := u.2.1 - u0.2.1) (by omega) (by omega) ?_
      exact w_X1_pit_36 hC hR hRm N u h ⟨by omega, by omega⟩ hP hS (lv_sub hl [0] rfl)
    · have h := mif_f c7 h
      refine W.cs (cells' := u.1 - u0.1) (slots' := u.2.1 - u0.2.1) (by omega) (by omega) ?_
      exact w_X1_pit_21 hC hR hRm N u h ⟨by omega, by omega⟩ hP hS (lv_sub hl [0] rfl)
theorem zz_X1_pit (N b : Nat) (g : uEnv) (u : UH) (a0 : Nat) (r : Option Nat) (uf : UH) (h : f_X1_pit N b g u a0 = some (r, uf)) : u.1 ≤ uf.1 ∧ u.2.1 ≤ uf.2.1 :=
  zz_X1_pit_0 (G := ((fun _ => 0, fun _ _ => 0), fun _ => 0, b, g)) (a0 := a0) N u h
theorem met_X1_pit (l : Launch) (N : Nat) (G : uG) (u : UH) (a0 : Nat) (r : Option Nat) (uf : UH) (h : f_X1_pit N (ub G) (ug G) u a0 = some (r, uf)) : Met l yX1_pit (ws_ yX1_pit cX1_pit 1 (some (.object "SoftWheels$Pit"))) ({ frames := 6, cells := (uf.1 - u.1), slots := (uf.2.1 - u.2.1), locals := 136 }) (uPc G u [.ref a0]) (uQr G r uf) (uf.1 - u.1) (uf.2.1 - u.2.1) (uA G) := by
  exact u_met (own := RX1) (by decide +kernel) rfl (Nat.le_of_ble_eq_true rfl) (fun hC hn hsz ls hl hP => W.cs (Nat.sub_self _).symm (Nat.sub_self _).symm (w_X1_pit_0 hC ⟨Nat.le_refl _, Nat.le_refl _⟩ ⟨Nat.le_refl _, Nat.le_refl _⟩ N u h ⟨Nat.le_refl _, Nat.le_refl _⟩ hP va_S.rf hl))
def f_X1_out_52 (N b : Nat) (g : uEnv) (a0 : Nat) (u : UH) (s0 : Int32) : Option (Int32 × UH) :=
    some (s0, u)
set_option maxHeartbeats 4000000 in
set_option maxRecDepth 100000 in
theorem zz_X1_out_52 {G : uG} {a0 : Nat} {uf : UH} {r : Int32} (N : Nat) (u : UH) (s0 : Int32) (h : f_X1_out_52 N (ub G) (ug G) a0 u s0 = some (r, uf)) : u.1 ≤ uf.1 ∧ u.2.1 ≤ uf.2.1 := by
  unfold f_X1_out_52 at h
  obtain ⟨hr1, hr2⟩ := uret_n h
  subst hr2
  exact ⟨by omega, by omega⟩
set_option maxHeartbeats 4000000 in
set_option maxRecDepth 100000 in
theorem w_X1_out_52 {p : Program} {l : Launch} {e : Env} {R : Room} {s : State} {m : MethodId} {args : Array Value} {below : List Frame} {meth : Method} {c : Code} {G : uG} {a0 : Nat} {u0 : UH} {uf : UH} {r : Int32} (hC : uC p s m args meth c G RX1 cX1_out 3 (some .int)) (hR : 7 ≤ R.frames ∧ 156 ≤ R.locals) (hRm : uf.1 - u0.1 ≤ R.cells ∧ uf.2.1 - u0.2.1 ≤ R.slots) (N : Nat) (u : UH) (s0 : Int32) (h : f_X1_out_52 N (ub G) (ug G) a0 u s0 = some (r, uf)) (hz0 : (u0.1 ≤ u.1 ∧ u0.2.1 ≤ u.2.1)) {H : Heap} {locs : List Loc} (hP : uP G u H) (hS : va_S (uA G) s.heap H locs) {ls : Array Slot} (hl : lv_has ls 3 []) : W p l e R s m args below meth c H locs (u.1 - u0.1) (u.2.1 - u0.2.1) (MQ below (uQi G r uf) args s (uf.1 - u0.1) (uf.2.1 - u0.2.1) (uA G)) (F0 m 52 ls [.int s0]) := by
  obtain ⟨⟨hx, hb, hml, hown, hts⟩, hKK⟩ := id hC
  have hzf := zz_X1_out_52 (G := G) (a0 := a0) N u s0 h
  unfold f_X1_out_52 at h
  obtain ⟨hr1, hr2⟩ := uret_n h
  subst hr1
  subst hr2
  exact u_iret hC hP hS dX1_out_52
def f_X1_out_17 (N b : Nat) (g : uEnv) (a0 : Nat) (u : UH) (s0 : Option Nat) : Option (Int32 × UH) :=
    (s0).bind fun a1 =>
    (uGR u a1 17 1).bind fun o2 =>
    if uIs u a0 0 = true then
    ucall (f_X1_state N b g u a0) fun r6 u4 =>
    (o2).bind fun a7 =>
    (uLdL u4 a7 3 r6).bind fun y8 =>
    if (lg_cmp y8 1152921504606846976) = 0 then
    if uIs u4 a0 0 = true then
    ucall (f_X1_refused N b g u4 a0 6) fun r17 u15 =>
    f_X1_out_52 N b g a0 u15 r17
    else none
    else
    if uIs u4 a0 0 = true then
    ucall (f_X1_done N b g u4 a0 ((y8 >>> ((20 : Int32).toInt64 &&& 63)).toInt32)) fun r13 u11 =>
    f_X1_out_52 N b g a0 u11 r13
    else none
    else none
set_option maxHeartbeats 4000000 in
set_option maxRecDepth 100000 in
theorem zz_X1_out_17 {G : uG} {a0 : Nat} {uf : UH} {r : Int32} (N : Nat) (u : UH) (s0 : Option Nat) (h : f_X1_out_17 N (ub G) (ug G) a0 u s0 = some (r, uf)) : u.1 ≤ uf.1 ∧ u.2.1 ≤ uf.2.1 := by
  unfold f_X1_out_17 at h
  obtain ⟨a1, ha1, hha1⟩ := mbind_n h
  subst ha1
  have h := hha1
  obtain ⟨o2, ho2, h⟩ := mbind_n h
  obtain ⟨c3, h⟩ := mif_n h
  obtain ⟨r6, u4, c5, h⟩ := ucall_n h
  have zu4 := zz_X1_state N (ub G) (ug G) u a0 r6 u4 c5
  obtain ⟨a7, ha7, hha7⟩ := mbind_n h
  subst ha7
  have h := hha7
  obtain ⟨y8, hy8, h⟩ := mbind_n h
  by_cases c9 : (lg_cmp y8 1152921504606846976) = 0
  · have h := mif_t c9 h
    obtain ⟨c14, h⟩ := mif_n h
    obtain ⟨r17, u15, c16, h⟩ := ucall_n h
    have zu15 := zz_X1_refused N (ub G) (ug G) u4 a0 6 r17 u15 c16
    have hq := zz_X1_out_52 (G := G) (a0 := a0) N u15 r17 h
    exact ⟨by omega, by omega⟩
  · have h := mif_f c9 h
    obtain ⟨c10, h⟩ := mif_n h
    obtain ⟨r13, u11, c12, h⟩ := ucall_n h
    have zu11 := zz_X1_done N (ub G) (ug G) u4 a0 ((y8 >>> ((20 : Int32).toInt64 &&& 63)).toInt32) r13 u11 c12
    have hq := zz_X1_out_52 (G := G) (a0 := a0) N u11 r13 h
    exact ⟨by omega, by omega⟩
set_option maxHeartbeats 4000000 in
set_option maxRecDepth 100000 in
theorem w_X1_out_17 {p : Program} {l : Launch} {e : Env} {R : Room} {s : State} {m : MethodId} {args : Array Value} {below : List Frame} {meth : Method} {c : Code} {G : uG} {a0 : Nat} {u0 : UH} {uf : UH} {r : Int32} (hC : uC p s m args meth c G RX1 cX1_out 3 (some .int)) (hR : 7 ≤ R.frames ∧ 156 ≤ R.locals) (hRm : uf.1 - u0.1 ≤ R.cells ∧ uf.2.1 - u0.2.1 ≤ R.slots) (N : Nat) (u : UH) (s0 : Option Nat) (h : f_X1_out_17 N (ub G) (ug G) a0 u s0 = some (r, uf)) (hz0 : (u0.1 ≤ u.1 ∧ u0.2.1 ≤ u.2.1)) {H : Heap} {locs : List Loc} (hP : uP G u H) (hS : va_S (uA G) s.heap H locs) {ls : Array Slot} (hl : lv_has ls 3 [(0, va_rf (some a0))]) : W p l e R s m args below meth c H locs (u.1 - u0.1) (u.2.1 - u0.2.1) (MQ below (uQi G r uf) args s (uf.1 - u0.1) (uf.2.1 - u0.2.1) (uA G)) (F0 m 17 ls [va_rf s0]) := by
  obtain ⟨⟨hx, hb, hml, hown, hts⟩, hKK⟩ := id hC
  have hzf := zz_X1_out_17 (G := G) (a0 := a0) N u s0 h
  unfold f_X1_out_17 at h
  obtain ⟨a1, ha1, hha1⟩ := mbind_n h
  subst ha1
  have h := hha1
  obtain ⟨o2, ho2, h⟩ := mbind_n h
  refine u_getN hC hP (uGR_n ho2) rfl in_X19 (by decide) q1807 (fun _ h => h) dX1_out_17 ?_
  refine u_aload_n (r := some a0) hx hb dX1_out_20 rfl (lv_at hl 0 rfl) ?_
  obtain ⟨c3, h⟩ := mif_n h
  obtain ⟨r6, u4, c5, h⟩ := ucall_n h
  have zu4 := zz_X1_state N (ub G) (ug G) u a0 r6 u4 c5
  refine u_calli (va_runV (As := []) (rest := [va_rf o2]) hC.1 (met_X1_state l N G u a0 r6 u4 c5) (cwV 0 hts (lw_V q1813 q1815 qs38 q98 q1816) rfl rfl rfl (by decide +kernel) ⟨Nat.le_trans (Nat.le_of_ble_eq_true rfl) hR.1, Nat.le_trans (Nat.le_of_ble_eq_true rfl) hR.2⟩) ⟨uPc_blind, u_rcv hC hP c3 rfl, fun U hU hW => u_pre hC hP hS hU hW⟩ rfl rfl hl.1 rfl (lv_room (by simp only [List.map, u_cat]; exact Nat.le_of_ble_eq_true rfl)) dX1_out_21 ⟨by omega, by omega⟩) hS (fun H locs hP hS => ?_)
  refine W.cs (cells' := u4.1 - u0.1) (slots' := u4.2.1 - u0.2.1) (by omega) (by omega) ?_
  obtain ⟨a7, ha7, hha7⟩ := mbind_n h
  subst ha7
  have h := hha7
  obtain ⟨y8, hy8, h⟩ := mbind_n h
  refine u_lald hC hP hy8 rfl dX1_out_24 ?_
  refine lv_lstore_n (i := 1) (lv' := [(1, .long y8), (0, va_rf (some a0))]) hx hb dX1_out_25 rfl hl (by decide) rfl (fun ls hl => ?_)
  refine lv_lload_n hx hb dX1_out_26 rfl (lv_at hl 0 rfl) ?_
  refine lv_ldc2 hx hb hown (hts _ q1817) dX1_out_27 ?_
  refine W.lcmp hx hb dX1_out_30 ?_
  refine lv_if_ne (tgt := 43) hx hb dX1_out_31 (by decide) (fun c9 => ?_) (fun c9 => ?_)
  · have h := mif_f c9 h
    refine u_aload_n (r := some a0) hx hb dX1_out_43 rfl (lv_at hl 1 rfl) ?_
    refine lv_lload_n hx hb dX1_out_44 rfl (lv_at hl 0 rfl) ?_
    refine lv_bipush (v := 20) hx hb dX1_out_45 (by decide) ?_
    refine lv_lshr (v := y8 >>> ((20 : Int32).toInt64 &&& 63)) hx hb dX1_out_47 rfl ?_
    refine lv_l2i (v := (y8 >>> ((20 : Int32).toInt64 &&& 63)).toInt32) hx hb dX1_out_48 rfl ?_
    obtain ⟨c10, h⟩ := mif_n h
    obtain ⟨r13, u11, c12, h⟩ := ucall_n h
    have zu11 := zz_X1_done N (ub G) (ug G) u4 a0 ((y8 >>> ((20 : Int32).toInt64 &&& 63)).toInt32) r13 u11 c12
    refine u_calli (va_runV (As := [.int ((y8 >>> ((20 : Int32).toInt64 &&& 63)).toInt32)]) (rest := []) hC.1 (met_X1_done l N G u4 a0 ((y8 >>> ((20 : Int32).toInt64 &&& 63)).toInt32) r13 u11 c12) (cwV 1 hts (lw_V q1064 q1066 qs14 q98 q1067) rfl rfl rfl (by decide +kernel) ⟨Nat.le_trans (Nat.le_of_ble_eq_true rfl) hR.1, Nat.le_trans (Nat.le_of_ble_eq_true rfl) hR.2⟩) ⟨uPc_blind, u_rcv hC hP c10 rfl, fun U hU hW => u_pre hC hP hS hU hW⟩ rfl rfl hl.1 rfl (lv_room (Nat.le_of_ble_eq_true rfl)) dX1_out_49 ⟨by omega, by omega⟩) hS (fun H locs hP hS => ?_)
    refine W.cs (cells' := u11.1 - u0.1) (slots' := u11.2.1 - u0.2.1) (by omega) (by omega) ?_
    refine W.cs (cells' := u11.1 - u0.1) (slots' := u11.2.1 - u0.2.1) (by omega) (by omega) ?_
    exact w_X1_out_52 hC hR hRm N u11 r13 h ⟨by omega, by omega⟩ hP hS (lv_sub hl [] rfl)
  · have h := mif_t c9 h
    refine u_aload_n (r := some a0) hx hb dX1_out_34 rfl (lv_at hl 1 rfl) ?_
    refine lv_bipush (v := 6) hx hb dX1_out_35 (by decide) ?_
    obtain ⟨c14, h⟩ := mif_n h
    obtain ⟨r17, u15, c16, h⟩ := ucall_n h
    have zu15 := zz_X1_refused N (ub G) (ug G) u4 a0 6 r17 u15 c16
    refine u_calli (va_runV (As := [.int 6]) (rest := []) hC.1 (met_X1_refused l N G u4 a0 6 r17 u15 c16) (cwV 1 hts (lw_V q276 q278 qs0 q98 q279) rfl rfl rfl (by decide +kernel) ⟨Nat.le_trans (Nat.le_of_ble_eq_true rfl) hR.1, Nat.le_trans (Nat.le_of_ble_eq_true rfl) hR.2⟩) ⟨uPc_blind, u_rcv hC hP c14 rfl, fun U hU hW => u_pre hC hP hS hU hW⟩ rfl rfl hl.1 rfl (lv_room (Nat.le_of_ble_eq_true rfl)) dX1_out_37 ⟨by omega, by omega⟩) hS (fun H locs hP hS => ?_)
    refine W.cs (cells' := u15.1 - u0.1) (slots' := u15.2.1 - u0.2.1) (by omega) (by omega) ?_
    refine lv_goto (tgt := 52) hx hb dX1_out_40 (by decide) ?_
    refine W.cs (cells' := u15.1 - u0.1) (slots' := u15.2.1 - u0.2.1) (by omega) (by omega) ?_
    exact w_X1_out_52 hC hR hRm N u15 r17 h ⟨by omega, by omega⟩ hP hS (lv_sub hl [] rfl)
def f_X1_out (N b : Nat) (g : uEnv) (u : UH) (a0 : Nat) : Option (Int32 × UH) :=
    (uGR u a0 0 2).bind fun o1 =>
    ucase o1 (
    if uIs u a0 0 = true then
    ucall (f_X1_refused N b g u a0 1) fun r6 u4 =>
    some (r6, u4)
    else none) fun a2 =>
    if uIs u a0 0 = true then
    ucall (f_X1_pit N b g u a0) fun o10 u8 =>
    f_X1_out_17 N b g a0 u8 o10
    else none
set_option maxHeartbeats 4000000 in
set_option maxRecDepth 100000 in
theorem zz_X1_out_0 {G : uG} {a0 : Nat} {uf : UH} {r : Int32} (N : Nat) (u : UH) (h : f_X1_out N (ub G) (ug G) u a0 = some (r, uf)) : u.1 ≤ uf.1 ∧ u.2.1 ≤ uf.2.1 := by
  unfold f_X1_out at h
  obtain ⟨o1, ho1, h⟩ := mbind_n h
  rcases o1 with _ | a2
  · have h := ucase_n h
    obtain ⟨c3, h⟩ := mif_n h
    obtain ⟨r6, u4, c5, h⟩ := ucall_n h
    have zu4 := zz_X1_refused N (ub G) (ug G) u a0 1 r6 u4 c5
    obtain ⟨hr1, hr2⟩ := uret_n h
    subst hr2
    exact ⟨by omega, by omega⟩
  · have h := ucase_s h
    obtain ⟨c7, h⟩ := mif_n h
    obtain ⟨o10, u8, c9, h⟩ := ucall_n h
    have zu8 := zz_X1_pit N (ub G) (ug G) u a0 o10 u8 c9
    have hq := zz_X1_out_17 (G := G) (a0 := a0) N u8 o10 h
    exact ⟨by omega, by omega⟩
set_option maxHeartbeats 4000000 in
set_option maxRecDepth 100000 in
theorem w_X1_out_0 {p : Program} {l : Launch} {e : Env} {R : Room} {s : State} {m : MethodId} {args : Array Value} {below : List Frame} {meth : Method} {c : Code} {G : uG} {a0 : Nat} {u0 : UH} {uf : UH} {r : Int32} (hC : uC p s m args meth c G RX1 cX1_out 3 (some .int)) (hR : 7 ≤ R.frames ∧ 156 ≤ R.locals) (hRm : uf.1 - u0.1 ≤ R.cells ∧ uf.2.1 - u0.2.1 ≤ R.slots) (N : Nat) (u : UH) (h : f_X1_out N (ub G) (ug G) u a0 = some (r, uf)) (hz0 : (u0.1 ≤ u.1 ∧ u0.2.1 ≤ u.2.1)) {H : Heap} {locs : List Loc} (hP : uP G u H) (hS : va_S (uA G) s.heap H locs) {ls : Array Slot} (hl : lv_has ls 3 [(0, va_rf (some a0))]) : W p l e R s m args below meth c H locs (u.1 - u0.1) (u.2.1 - u0.2.1) (MQ below (uQi G r uf) args s (uf.1 - u0.1) (uf.2.1 - u0.2.1) (uA G)) (F0 m 0 ls []) := by
  obtain ⟨⟨hx, hb, hml, hown, hts⟩, hKK⟩ := id hC
  have hzf := zz_X1_out_0 (G := G) (a0 := a0) N u h
  unfold f_X1_out at h
  refine u_aload_n (r := some a0) hx hb dX1_out_0 rfl (lv_at hl 0 rfl) ?_
  obtain ⟨o1, ho1, h⟩ := mbind_n h
  refine u_get hC hP (uGR_n ho1) rfl in_X1 (by decide) q217 (fun _ h => h) dX1_out_1 ?_
  rcases o1 with _ | a2
  · have h := ucase_n h
    refine lv_ifnonnullN hx hb dX1_out_4 ?_
    refine u_aload_n (r := some a0) hx hb dX1_out_7 rfl (lv_at hl 0 rfl) ?_
    refine lv_iconst (v := 1) hx hb dX1_out_8 (by decide) ?_
    obtain ⟨c3, h⟩ := mif_n h
    obtain ⟨r6, u4, c5, h⟩ := ucall_n h
    have zu4 := zz_X1_refused N (ub G) (ug G) u a0 1 r6 u4 c5
    refine u_calli (va_runV (As := [.int 1]) (rest := []) hC.1 (met_X1_refused l N G u a0 1 r6 u4 c5) (cwV 1 hts (lw_V q276 q278 qs0 q98 q279) rfl rfl rfl (by decide +kernel) ⟨Nat.le_trans (Nat.le_of_ble_eq_true rfl) hR.1, Nat.le_trans (Nat.le_of_ble_eq_true rfl) hR.2⟩) ⟨uPc_blind, u_rcv hC hP c3 rfl, fun U hU hW => u_pre hC hP hS hU hW⟩ rfl rfl hl.1 rfl (lv_room (Nat.le_of_ble_eq_true rfl)) dX1_out_9 ⟨by omega, by omega⟩) hS (fun H locs hP hS => ?_)
    refine W.cs (cells' := u4.1 - u0.1) (slots' := u4.2.1 - u0.2.1) (by omega) (by omega) ?_
    obtain ⟨hr1, hr2⟩ := uret_n h
    subst hr1
    subst hr2
    exact u_iret hC hP hS dX1_out_12
  · have h := ucase_s h
    refine lv_ifnonnull (tgt := 13) hx hb dX1_out_4 (by decide) ?_
    refine u_aload_n (r := some a0) hx hb dX1_out_13 rfl (lv_at hl 0 rfl) ?_
    obtain ⟨c7, h⟩ := mif_n h
    obtain ⟨o10, u8, c9, h⟩ := ucall_n h
    have zu8 := zz_X1_pit N (ub G) (ug G) u a0 o10 u8 c9
    have hq := zz_X1_out_17 (G := G) (a0 := a0) N u8 o10 h
    refine u_callr (va_runV (As := []) (rest := []) hC.1 (met_X1_pit l N G u a0 o10 u8 c9) (cwV 0 hts (lw_V q1754 q1756 qs36 q98 q1757) rfl rfl rfl (by decide +kernel) ⟨Nat.le_trans (Nat.le_of_ble_eq_true rfl) hR.1, Nat.le_trans (Nat.le_of_ble_eq_true rfl) hR.2⟩) ⟨uPc_blind, u_rcv hC hP c7 rfl, fun U hU hW => u_pre hC hP hS hU hW⟩ rfl rfl hl.1 rfl (lv_room (Nat.le_of_ble_eq_true rfl)) dX1_out_14 ⟨by omega, by omega⟩) hS (fun H locs hP hS => ?_)
    refine W.cs (cells' := u8.1 - u0.1) (slots' := u8.2.1 - u0.2.1) (by omega) (by omega) ?_
    refine W.cs (cells' := u8.1 - u0.1) (slots' := u8.2.1 - u0.2.1) (by omega) (by omega) ?_
    exact w_X1_out_17 hC hR hRm N u8 o10 h ⟨by omega, by omega⟩ hP hS (lv_sub hl [0] rfl)
theorem zz_X1_out (N b : Nat) (g : uEnv) (u : UH) (a0 : Nat) (r : Int32) (uf : UH) (h : f_X1_out N b g u a0 = some (r, uf)) : u.1 ≤ uf.1 ∧ u.2.1 ≤ uf.2.1 :=
  zz_X1_out_0 (G := ((fun _ => 0, fun _ _ => 0), fun _ => 0, b, g)) (a0 := a0) N u h
theorem met_X1_out (l : Launch) (N : Nat) (G : uG) (u : UH) (a0 : Nat) (r : Int32) (uf : UH) (h : f_X1_out N (ub G) (ug G) u a0 = some (r, uf)) : Met l yX1_out (ws_ yX1_out cX1_out 3 (some .int)) ({ frames := 7, cells := (uf.1 - u.1), slots := (uf.2.1 - u.2.1), locals := 156 }) (uPc G u [.ref a0]) (uQi G r uf) (uf.1 - u.1) (uf.2.1 - u.2.1) (uA G) := by
  exact u_met (own := RX1) (by decide +kernel) rfl (Nat.le_of_ble_eq_true rfl) (fun hC hn hsz ls hl hP => W.cs (Nat.sub_self _).symm (Nat.sub_self _).symm (w_X1_out_0 hC ⟨Nat.le_refl _, Nat.le_refl _⟩ ⟨Nat.le_refl _, Nat.le_refl _⟩ N u h ⟨Nat.le_refl _, Nat.le_refl _⟩ hP va_S.rf hl))
def f_X2_goes_93 (N b : Nat) (g : uEnv) (a0 : Nat) (k24 : UH → Option Nat → Option Nat → Int32 → Int32 → Int32 → Option (Int32 × UH)) (u : UH) (x2 : Option Nat) (x3 : Option Nat) (x4 : Int32) (x5 : Int32) (x6 : Int32) (s0 : Int32) : Option (Int32 × UH) :=
    k24 u x2 x3 x4 x5 x6
set_option maxHeartbeats 4000000 in
set_option maxRecDepth 100000 in
theorem zz_X2_goes_93 {G : uG} {a0 : Nat} {uf : UH} {r : Int32} (N : Nat) (k24 : UH → Option Nat → Option Nat → Int32 → Int32 → Int32 → Option (Int32 × UH)) (hk24 : ∀ (u : UH) (x2 : Option Nat) (x3 : Option Nat) (x4 : Int32) (x5 : Int32) (x6 : Int32), k24 u x2 x3 x4 x5 x6 = some (r, uf) → u.1 ≤ uf.1 ∧ u.2.1 ≤ uf.2.1) (u : UH) (x2 : Option Nat) (x3 : Option Nat) (x4 : Int32) (x5 : Int32) (x6 : Int32) (s0 : Int32) (h : f_X2_goes_93 N (ub G) (ug G) a0 k24 u x2 x3 x4 x5 x6 s0 = some (r, uf)) : u.1 ≤ uf.1 ∧ u.2.1 ≤ uf.2.1 := by
  unfold f_X2_goes_93 at h
  have hq := hk24 u x2 x3 x4 x5 x6 h
  exact ⟨by omega, by omega⟩
set_option maxHeartbeats 4000000 in
set_option maxRecDepth 100000 in
theorem w_X2_goes_93 {p : Program} {l : Launch} {e : Env} {R : Room} {s : State} {m : MethodId} {args : Array Value} {below : List Frame} {meth : Method} {c : Code} {G : uG} {a0 : Nat} {u0 : UH} {uf : UH} {r : Int32} (hC : uC p s m args meth c G RX2 cX2_goes 8 (some .int)) (hR : 46 ≤ R.frames ∧ 2545 ≤ R.locals) (hRm : uf.1 - u0.1 ≤ R.cells ∧ uf.2.1 - u0.2.1 ≤ R.slots) (N : Nat) (k24 : UH → Option Nat → Option Nat → Int32 → Int32 → Int32 → Option (Int32 × UH)) (hk24 : ∀ (u : UH) (x2 : Option Nat) (x3 : Option Nat) (x4 : Int32) (x5 : Int32) (x6 : Int32), k24 u x2 x3 x4 x5 x6 = some (r, uf) → (u0.1 ≤ u.1 ∧ u0.2.1 ≤ u.2.1) → ∀ (H : Heap) (locs : List Loc), uP G u H → va_S (uA G) s.heap H locs → ∀ ls : Array Slot, lv_has ls 8 [(0, va_rf (some a0)), (2, va_rf x2), (3, va_rf x3), (4, .int x4), (5, .int x5), (6, .int x6)] → W p l e R s m args below meth c H locs (u.1 - u0.1) (u.2.1 - u0.2.1) (MQ below (uQi G r uf) args s (uf.1 - u0.1) (uf.2.1 - u0.2.1) (uA G)) (F0 m 24 ls [])) (zk24 : ∀ (u : UH) (x2 : Option Nat) (x3 : Option Nat) (x4 : Int32) (x5 : Int32) (x6 : Int32), k24 u x2 x3 x4 x5 x6 = some (r, uf) → u.1 ≤ uf.1 ∧ u.2.1 ≤ uf.2.1) (u : UH) (x2 : Option Nat) (x3 : Option Nat) (x4 : Int32) (x5 : Int32) (x6 : Int32) (s0 : Int32) (h : f_X2_goes_93 N (ub G) (ug G) a0 k24 u x2 x3 x4 x5 x6 s0 = some (r, uf)) (hz0 : (u0.1 ≤ u.1 ∧ u0.2.1 ≤ u.2.1)) {H : Heap} {locs : List Loc} (hP : uP G u H) (hS : va_S (uA G) s.heap H locs) {ls : Array Slot} (hl : lv_has ls 8 [(0, va_rf (some a0)), (2, va_rf x2), (3, va_rf x3), (4, .int x4), (5, .int x5), (6, .int x6)]) : W p l e R s m args below meth c H locs (u.1 - u0.1) (u.2.1 - u0.2.1) (MQ below (uQi G r uf) args s (uf.1 - u0.1) (uf.2.1 - u0.2.1) (uA G)) (F0 m 93 ls [.int s0]) := by
  obtain ⟨⟨hx, hb, hml, hown, hts⟩, hKK⟩ := id hC
  have hzf := zz_X2_goes_93 (G := G) (a0 := a0) N k24 zk24 u x2 x3 x4 x5 x6 s0 h
  unfold f_X2_goes_93 at h
  refine lv_pop hx hb dX2_goes_93 rfl ?_
  refine lv_goto (tgt := 24) hx hb dX2_goes_94 (by decide) ?_
  refine W.cs (cells' := u.1 - u0.1) (slots' := u.2.1 - u0.2.1) (by omega) (by omega) ?_
  exact hk24 u x2 x3 x4 x5 x6 h ⟨by omega, by omega⟩ _ _ hP hS _ (lv_sub hl [0, 1, 2, 3, 4, 5] rfl)
def f_X2_goes_24 (N b : Nat) (g : uEnv) (a0 : Nat) : Nat → UH → Option Nat → Option Nat → Int32 → Int32 → Int32 → Option (Int32 × UH)
  | 0, _, _, _, _, _, _ => none
  | n + 1, u, x2, x3, x4, x5, x6 =>
    (uGI u a0 1 1).bind fun y1 =>
    if x4 = y1 then
    some (x6, u)
    else
    if uIs u a0 1 = true then
    ucall (f_X2_look N b g u a0 x4 x5 x2) fun r6 u4 =>
    if uIs u4 a0 1 = true then
    ucall (f_X2_best N b g u4 a0 x4 r6) fun o10 u8 =>
    if uIs u8 a0 1 = true then
    ucall (f_X2_cost N b g u8 a0 x4 o10 r6) fun r14 u12 =>
    mlet (x6 + r14) fun y15 =>
    (uGR u12 a0 1 0).bind fun o16 =>
    (o16).bind fun a17 =>
    if uIs u12 a17 12 = true then
    ucall (f_X14_beside N b g u12 a17 x4 o10) fun r21 u19 =>
    ucall (f_J19_valueOf N b g u19 r21) fun o24 u22 =>
    (x3).bind fun a25 =>
    if uIs u22 a25 18 = true then
    ucall (f_J2_add N b g u22 a25 o24) fun r29 u27 =>
    f_X2_goes_93 N b g a0 (f_X2_goes_24 N b g a0 n) u27 x2 (some a25) r21 r6 y15 r29
    else none
    else none
    else none
    else none
    else none
set_option maxHeartbeats 4000000 in
set_option maxRecDepth 100000 in
theorem zz_X2_goes_24 {G : uG} {a0 : Nat} {uf : UH} {r : Int32} (N : Nat) : ∀ (n : Nat) (u : UH) (x2 : Option Nat) (x3 : Option Nat) (x4 : Int32) (x5 : Int32) (x6 : Int32), f_X2_goes_24 N (ub G) (ug G) a0 n u x2 x3 x4 x5 x6 = some (r, uf) → u.1 ≤ uf.1 ∧ u.2.1 ≤ uf.2.1 := by
  intro n
  induction n with
  | zero =>
    intro u x2 x3 x4 x5 x6 h
    cases h
  | succ n ih =>
    intro u x2 x3 x4 x5 x6 h
    unfold f_X2_goes_24 at h
    obtain ⟨y1, hy1, h⟩ := mbind_n h
    by_cases c2 : x4 = y1
    · have h := mif_t c2 h
      obtain ⟨hr1, hr2⟩ := uret_n h
      subst hr2
      exact ⟨by omega, by omega⟩
    · have h := mif_f c2 h
      obtain ⟨c3, h⟩ := mif_n h
      obtain ⟨r6, u4, c5, h⟩ := ucall_n h
      have zu4 := zz_X2_look N (ub G) (ug G) u a0 x4 x5 x2 r6 u4 c5
      obtain ⟨c7, h⟩ := mif_n h
      obtain ⟨o10, u8, c9, h⟩ := ucall_n h
      have zu8 := zz_X2_best N (ub G) (ug G) u4 a0 x4 r6 o10 u8 c9
      obtain ⟨c11, h⟩ := mif_n h
      obtain ⟨r14, u12, c13, h⟩ := ucall_n h
      have zu12 := zz_X2_cost N (ub G) (ug G) u8 a0 x4 o10 r6 r14 u12 c13
      obtain ⟨y15, ey15⟩ : ∃ z, z = x6 + r14 := ⟨_, rfl⟩
      have h := mlet_at ey15 h
      obtain ⟨o16, ho16, h⟩ := mbind_n h
      obtain ⟨a17, ha17, hha17⟩ := mbind_n h
      subst ha17
      have h := hha17
      obtain ⟨c18, h⟩ := mif_n h
      obtain ⟨r21, u19, c20, h⟩ := ucall_n h
      have zu19 := zz_X14_beside N (ub G) (ug G) u12 a17 x4 o10 r21 u19 c20
      obtain ⟨o24, u22, c23, h⟩ := ucall_n h
      have zu22 := zz_J19_valueOf N (ub G) (ug G) u19 r21 o24 u22 c23
      obtain ⟨a25, ha25, hha25⟩ := mbind_n h
      subst ha25
      have h := hha25
      obtain ⟨c26, h⟩ := mif_n h
      obtain ⟨r29, u27, c28, h⟩ := ucall_n h
      have zu27 := zz_J2_add N (ub G) (ug G) u22 a25 o24 r29 u27 c28
      have hq := zz_X2_goes_93 (G := G) (a0 := a0) N (f_X2_goes_24 N (ub G) (ug G) a0 n) ih u27 x2 (some a25) r21 r6 y15 r29 h
      exact ⟨by omega, by omega⟩
set_option maxHeartbeats 4000000 in
set_option maxRecDepth 100000 in
theorem w_X2_goes_24 {p : Program} {l : Launch} {e : Env} {R : Room} {s : State} {m : MethodId} {args : Array Value} {below : List Frame} {meth : Method} {c : Code} {G : uG} {a0 : Nat} {u0 : UH} {uf : UH} {r : Int32} (hC : uC p s m args meth c G RX2 cX2_goes 8 (some .int)) (hR : 46 ≤ R.frames ∧ 2545 ≤ R.locals) (hRm : uf.1 - u0.1 ≤ R.cells ∧ uf.2.1 - u0.2.1 ≤ R.slots) (N : Nat) : ∀ (n : Nat) (u : UH) (x2 : Option Nat) (x3 : Option Nat) (x4 : Int32) (x5 : Int32) (x6 : Int32), f_X2_goes_24 N (ub G) (ug G) a0 n u x2 x3 x4 x5 x6 = some (r, uf) → (u0.1 ≤ u.1 ∧ u0.2.1 ≤ u.2.1) → ∀ (H : Heap) (locs : List Loc), uP G u H → va_S (uA G) s.heap H locs → ∀ ls : Array Slot, lv_has ls 8 [(0, va_rf (some a0)), (2, va_rf x2), (3, va_rf x3), (4, .int x4), (5, .int x5), (6, .int x6)] → W p l e R s m args below meth c H locs (u.1 - u0.1) (u.2.1 - u0.2.1) (MQ below (uQi G r uf) args s (uf.1 - u0.1) (uf.2.1 - u0.2.1) (uA G)) (F0 m 24 ls []) := by
  obtain ⟨⟨hx, hb, hml, hown, hts⟩, hKK⟩ := id hC
  intro n
  induction n with
  | zero =>
    intro u x2 x3 x4 x5 x6 h
    cases h
  | succ n ih =>
    intro u x2 x3 x4 x5 x6 h hz0 H locs hP hS ls hl
    have hzf := zz_X2_goes_24 (G := G) (a0 := a0) N (n + 1) u x2 x3 x4 x5 x6 h
    unfold f_X2_goes_24 at h
    refine lv_iload hx hb dX2_goes_24 (lv_at hl 3 rfl) ?_
    refine u_aload_n (r := some a0) hx hb dX2_goes_26 rfl (lv_at hl 0 rfl) ?_
    obtain ⟨y1, hy1, h⟩ := mbind_n h
    refine u_get hC hP (uGI_n hy1) rfl in_X2 (by decide) q158 (fun _ h => h) dX2_goes_27 ?_
    refine lv_icmp_eq (tgt := 97) hx hb dX2_goes_30 (by decide) (fun c2 => ?_) (fun c2 => ?_)
    · have h := mif_t c2 h
      refine lv_iload hx hb dX2_goes_97 (lv_at hl 5 rfl) ?_
      obtain ⟨hr1, hr2⟩ := uret_n h
      subst hr1
      subst hr2
      exact u_iret hC hP hS dX2_goes_99
    · have h := mif_f c2 h
      refine u_aload_n (r := some a0) hx hb dX2_goes_33 rfl (lv_at hl 0 rfl) ?_
      refine lv_iload hx hb dX2_goes_34 (lv_at hl 3 rfl) ?_
      refine lv_iload hx hb dX2_goes_36 (lv_at hl 4 rfl) ?_
      refine u_aload_n (r := x2) hx hb dX2_goes_38 rfl (lv_at hl 1 rfl) ?_
      obtain ⟨c3, h⟩ := mif_n h
      obtain ⟨r6, u4, c5, h⟩ := ucall_n h
      have zu4 := zz_X2_look N (ub G) (ug G) u a0 x4 x5 x2 r6 u4 c5
      refine u_calli (va_runV (As := [.int x4, .int x5, va_rf x2]) (rest := []) hC.1 (met_X2_look l N G u a0 x4 x5 x2 r6 u4 c5) (cwV 3 hts (lw_V q1516 q1517 q1518 q99 q1519) rfl rfl rfl (by decide +kernel) ⟨Nat.le_trans (Nat.le_of_ble_eq_true rfl) hR.1, Nat.le_trans (Nat.le_of_ble_eq_true rfl) hR.2⟩) ⟨uPc_blind, u_rcv hC hP c3 rfl, fun U hU hW => u_pre hC hP hS hU hW⟩ rfl rfl hl.1 rfl (lv_room (Nat.le_of_ble_eq_true rfl)) dX2_goes_39 ⟨by omega, by omega⟩) hS (fun H locs hP hS => ?_)
      refine W.cs (cells' := u4.1 - u0.1) (slots' := u4.2.1 - u0.2.1) (by omega) (by omega) ?_
      refine lv_istore (lv' := [(5, .int r6), (0, va_rf (some a0)), (2, va_rf x2), (3, va_rf x3), (4, .int x4), (6, .int x6)]) hx hb dX2_goes_42 hl (by decide) rfl (fun ls hl => ?_)
      refine u_aload_n (r := some a0) hx hb dX2_goes_44 rfl (lv_at hl 1 rfl) ?_
      refine lv_iload hx hb dX2_goes_45 (lv_at hl 4 rfl) ?_
      refine lv_iload hx hb dX2_goes_47 (lv_at hl 0 rfl) ?_
      obtain ⟨c7, h⟩ := mif_n h
      obtain ⟨o10, u8, c9, h⟩ := ucall_n h
      have zu8 := zz_X2_best N (ub G) (ug G) u4 a0 x4 r6 o10 u8 c9
      refine u_callr (va_runV (As := [.int x4, .int r6]) (rest := []) hC.1 (met_X2_best l N G u4 a0 x4 r6 o10 u8 c9) (cwV 2 hts (lw_V q1520 q1457 q1458 q99 q1459) rfl rfl rfl (by decide +kernel) ⟨Nat.le_trans (Nat.le_of_ble_eq_true rfl) hR.1, Nat.le_trans (Nat.le_of_ble_eq_true rfl) hR.2⟩) ⟨uPc_blind, u_rcv hC hP c7 rfl, fun U hU hW => u_pre hC hP hS hU hW⟩ rfl rfl hl.1 rfl (lv_room (Nat.le_of_ble_eq_true rfl)) dX2_goes_49 ⟨by omega, by omega⟩) hS (fun H locs hP hS => ?_)
      refine W.cs (cells' := u8.1 - u0.1) (slots' := u8.2.1 - u0.2.1) (by omega) (by omega) ?_
      refine u_astore (r := o10) (lv' := [(7, va_rf o10), (5, .int r6), (0, va_rf (some a0)), (2, va_rf x2), (3, va_rf x3), (4, .int x4), (6, .int x6)]) hx hb dX2_goes_52 hl (by decide) rfl (fun ls hl => ?_)
      refine lv_iload hx hb dX2_goes_54 (lv_at hl 6 rfl) ?_
      refine u_aload_n (r := some a0) hx hb dX2_goes_56 rfl (lv_at hl 2 rfl) ?_
      refine lv_iload hx hb dX2_goes_57 (lv_at hl 5 rfl) ?_
      refine u_aload (r := o10) hx hb dX2_goes_59 (lv_at hl 0 rfl) ?_
      refine lv_iload hx hb dX2_goes_61 (lv_at hl 1 rfl) ?_
      obtain ⟨c11, h⟩ := mif_n h
      obtain ⟨r14, u12, c13, h⟩ := ucall_n h
      have zu12 := zz_X2_cost N (ub G) (ug G) u8 a0 x4 o10 r6 r14 u12 c13
      refine u_calli (va_runV (As := [.int x4, va_rf o10, .int r6]) (rest := [.int x6]) hC.1 (met_X2_cost l N G u8 a0 x4 o10 r6 r14 u12 c13) (cwV 3 hts (lw_V q1399 q1401 qs25 q99 q1402) rfl rfl rfl (by decide +kernel) ⟨Nat.le_trans (Nat.le_of_ble_eq_true rfl) hR.1, Nat.le_trans (Nat.le_of_ble_eq_true rfl) hR.2⟩) ⟨uPc_blind, u_rcv hC hP c11 rfl, fun U hU hW => u_pre hC hP hS hU hW⟩ rfl rfl hl.1 rfl (lv_room (Nat.le_of_ble_eq_true rfl)) dX2_goes_63 ⟨by omega, by omega⟩) hS (fun H locs hP hS => ?_)
      refine W.cs (cells' := u12.1 - u0.1) (slots' := u12.2.1 - u0.2.1) (by omega) (by omega) ?_
      refine lv_iadd hx hb dX2_goes_66 ?_
      refine lv_topi (fun y15 ey15 => ?_)
      have h := mlet_at ey15 h
      refine lv_istore (lv' := [(6, .int y15), (7, va_rf o10), (5, .int r6), (0, va_rf (some a0)), (2, va_rf x2), (3, va_rf x3), (4, .int x4)]) hx hb dX2_goes_67 hl (by decide) rfl (fun ls hl => ?_)
      refine u_aload_n (r := some a0) hx hb dX2_goes_69 rfl (lv_at hl 3 rfl) ?_
      obtain ⟨o16, ho16, h⟩ := mbind_n h
      refine u_get hC hP (uGR_n ho16) rfl in_X2 (by decide) q157 (fun _ h => h) dX2_goes_70 ?_
      refine lv_iload hx hb dX2_goes_73 (lv_at hl 6 rfl) ?_
      refine u_aload (r := o10) hx hb dX2_goes_75 (lv_at hl 1 rfl) ?_
      obtain ⟨a17, ha17, hha17⟩ := mbind_n h
      subst ha17
      have h := hha17
      obtain ⟨c18, h⟩ := mif_n h
      obtain ⟨r21, u19, c20, h⟩ := ucall_n h
      have zu19 := zz_X14_beside N (ub G) (ug G) u12 a17 x4 o10 r21 u19 c20
      refine u_calli (va_runV (As := [.int x4, va_rf o10]) (rest := []) hC.1 (met_X14_beside l N G u12 a17 x4 o10 r21 u19 c20) (cwV 2 hts (lw_V q1398 q1265 q1266 q131 q1267) rfl rfl rfl (by decide +kernel) ⟨Nat.le_trans (Nat.le_of_ble_eq_true rfl) hR.1, Nat.le_trans (Nat.le_of_ble_eq_true rfl) hR.2⟩) ⟨uPc_blind, u_rcv hC hP c18 rfl, fun U hU hW => u_pre hC hP hS hU hW⟩ rfl rfl hl.1 rfl (lv_room (Nat.le_of_ble_eq_true rfl)) dX2_goes_77 ⟨by omega, by omega⟩) hS (fun H locs hP hS => ?_)
      refine W.cs (cells' := u19.1 - u0.1) (slots' := u19.2.1 - u0.2.1) (by omega) (by omega) ?_
      refine lv_istore (lv' := [(4, .int r21), (6, .int y15), (7, va_rf o10), (5, .int r6), (0, va_rf (some a0)), (2, va_rf x2), (3, va_rf x3)]) hx hb dX2_goes_80 hl (by decide) (by simp [List.filter_cons, u_cat]) (fun ls hl => ?_)
      refine u_aload_n (r := x3) hx hb dX2_goes_82 rfl (lv_at hl 6 rfl) ?_
      refine lv_iload hx hb dX2_goes_83 (lv_at hl 0 rfl) ?_
      obtain ⟨o24, u22, c23, h⟩ := ucall_n h
      have zu22 := zz_J19_valueOf N (ub G) (ug G) u19 r21 o24 u22 c23
      refine u_callr (va_runS (As := [.int r21]) (rest := [va_rf x3]) hC.1 (met_J19_valueOf l N G u19 r21 o24 u22 c23) (va_cwS 1 hts (lw_S q1488 q1489 q136 q1490) rfl rfl rfl (by decide +kernel) ⟨Nat.le_trans (Nat.le_of_ble_eq_true rfl) hR.1, Nat.le_trans (Nat.le_of_ble_eq_true rfl) hR.2⟩) ⟨uPc_blind, fun U hU hW => u_pre hC hP hS hU hW⟩ rfl rfl hl.1 rfl (lv_room (by simp only [List.map, u_cat]; exact Nat.le_of_ble_eq_true rfl)) dX2_goes_85 ⟨by omega, by omega⟩) hS (fun H locs hP hS => ?_)
      refine W.cs (cells' := u22.1 - u0.1) (slots' := u22.2.1 - u0.2.1) (by omega) (by omega) ?_
      obtain ⟨a25, ha25, hha25⟩ := mbind_n h
      subst ha25
      have h := hha25
      obtain ⟨c26, h⟩ := mif_n h
      obtain ⟨r29, u27, c28, h⟩ := ucall_n h
      have zu27 := zz_J2_add N (ub G) (ug G) u22 a25 o24 r29 u27 c28
      have hq := zz_X2_goes_93 (G := G) (a0 := a0) N (f_X2_goes_24 N (ub G) (ug G) a0 n) (zz_X2_goes_24 (G := G) (a0 := a0) N n) u27 x2 (some a25) r21 r6 y15 r29 h
      refine u_callFi (va_runF (As := [va_rf o24]) (rest := []) (C := RJ2) (hC.2.1.1.1 18 _ rfl).2 hC.1 (met_J2_add l N G u22 a25 o24 r29 u27 c28) (va_cwF 1 hts (lw_F q1509 q1513 q935 q102 q937) rfl rfl rfl (hC.2.1.2.2.1 _ (List.mem_of_getElem? (i := 0) rfl)) (by decide +kernel) ⟨Nat.le_trans (Nat.le_of_ble_eq_true rfl) hR.1, Nat.le_trans (Nat.le_of_ble_eq_true rfl) hR.2⟩) ⟨uPc_blind, u_rcv hC hP c26 rfl, fun U hU hW => u_pre hC hP hS hU hW⟩ rfl rfl hl.1 rfl (lv_room (Nat.le_of_ble_eq_true rfl)) dX2_goes_88 ⟨by omega, by omega⟩) hS (fun H locs hP hS => ?_)
      refine W.cs (cells' := u27.1 - u0.1) (slots' := u27.2.1 - u0.2.1) (by omega) (by omega) ?_
      refine W.cs (cells' := u27.1 - u0.1) (slots' := u27.2.1 - u0.2.1) (by omega) (by omega) ?_
      exact w_X2_goes_93 hC hR hRm N (f_X2_goes_24 N (ub G) (ug G) a0 n) ih (zz_X2_goes_24 (G := G) (a0 := a0) N n) u27 x2 (some a25) r21 r6 y15 r29 h ⟨by omega, by omega⟩ hP hS (lv_sub hl [4, 5, 6, 0, 3, 1] rfl)
def f_X2_goes_23 (N b : Nat) (g : uEnv) (a0 : Nat) (u : UH) (x2 : Option Nat) (x3 : Option Nat) (x4 : Int32) (x5 : Int32) (x6 : Int32) (s0 : Int32) : Option (Int32 × UH) :=
    f_X2_goes_24 N b g a0 N u x2 x3 x4 x5 x6
set_option maxHeartbeats 4000000 in
set_option maxRecDepth 100000 in
theorem zz_X2_goes_23 {G : uG} {a0 : Nat} {uf : UH} {r : Int32} (N : Nat) (u : UH) (x2 : Option Nat) (x3 : Option Nat) (x4 : Int32) (x5 : Int32) (x6 : Int32) (s0 : Int32) (h : f_X2_goes_23 N (ub G) (ug G) a0 u x2 x3 x4 x5 x6 s0 = some (r, uf)) : u.1 ≤ uf.1 ∧ u.2.1 ≤ uf.2.1 := by
  unfold f_X2_goes_23 at h
  have hq := zz_X2_goes_24 (G := G) (a0 := a0) N N u x2 x3 x4 x5 x6 h
  exact ⟨by omega, by omega⟩
set_option maxHeartbeats 4000000 in
set_option maxRecDepth 100000 in
theorem w_X2_goes_23 {p : Program} {l : Launch} {e : Env} {R : Room} {s : State} {m : MethodId} {args : Array Value} {below : List Frame} {meth : Method} {c : Code} {G : uG} {a0 : Nat} {u0 : UH} {uf : UH} {r : Int32} (hC : uC p s m args meth c G RX2 cX2_goes 8 (some .int)) (hR : 46 ≤ R.frames ∧ 2545 ≤ R.locals) (hRm : uf.1 - u0.1 ≤ R.cells ∧ uf.2.1 - u0.2.1 ≤ R.slots) (N : Nat) (u : UH) (x2 : Option Nat) (x3 : Option Nat) (x4 : Int32) (x5 : Int32) (x6 : Int32) (s0 : Int32) (h : f_X2_goes_23 N (ub G) (ug G) a0 u x2 x3 x4 x5 x6 s0 = some (r, uf)) (hz0 : (u0.1 ≤ u.1 ∧ u0.2.1 ≤ u.2.1)) {H : Heap} {locs : List Loc} (hP : uP G u H) (hS : va_S (uA G) s.heap H locs) {ls : Array Slot} (hl : lv_has ls 8 [(0, va_rf (some a0)), (2, va_rf x2), (3, va_rf x3), (4, .int x4), (5, .int x5), (6, .int x6)]) : W p l e R s m args below meth c H locs (u.1 - u0.1) (u.2.1 - u0.2.1) (MQ below (uQi G r uf) args s (uf.1 - u0.1) (uf.2.1 - u0.2.1) (uA G)) (F0 m 23 ls [.int s0]) := by
  obtain ⟨⟨hx, hb, hml, hown, hts⟩, hKK⟩ := id hC
  have hzf := zz_X2_goes_23 (G := G) (a0 := a0) N u x2 x3 x4 x5 x6 s0 h
  unfold f_X2_goes_23 at h
  refine lv_pop hx hb dX2_goes_23 rfl ?_
  refine W.cs (cells' := u.1 - u0.1) (slots' := u.2.1 - u0.2.1) (by omega) (by omega) ?_
  exact w_X2_goes_24 hC hR hRm N N u x2 x3 x4 x5 x6 h ⟨by omega, by omega⟩ _ _ hP hS _ (lv_sub hl [0, 1, 2, 3, 4, 5] rfl)
def f_X2_goes (N b : Nat) (g : uEnv) (u : UH) (a0 : Nat) (x1 : Int32) (x2 : Option Nat) (x3 : Option Nat) : Option (Int32 × UH) :=
    if uIs u a0 1 = true then
    ucall (f_X2_known N b g u a0) fun r4 u2 =>
    ucall (f_J19_valueOf N b g u2 x1) fun o7 u5 =>
    (x3).bind fun a8 =>
    if uIs u5 a8 18 = true then
    ucall (f_J2_add N b g u5 a8 o7) fun r12 u10 =>
    f_X2_goes_23 N b g a0 u10 x2 (some a8) x1 r4 0 r12
    else none
    else none
set_option maxHeartbeats 4000000 in
set_option maxRecDepth 100000 in
theorem zz_X2_goes_0 {G : uG} {a0 : Nat} {uf : UH} {r : Int32} (N : Nat) (u : UH) (x1 : Int32) (x2 : Option Nat) (x3 : Option Nat) (h : f_X2_goes N (ub G) (ug G) u a0 x1 x2 x3 = some (r, uf)) : u.1 ≤ uf.1 ∧ u.2.1 ≤ uf.2.1 := by
  unfold f_X2_goes at h
  obtain ⟨c1, h⟩ := mif_n h
  obtain ⟨r4, u2, c3, h⟩ := ucall_n h
  have zu2 := zz_X2_known N (ub G) (ug G) u a0 r4 u2 c3
  obtain ⟨o7, u5, c6, h⟩ := ucall_n h
  have zu5 := zz_J19_valueOf N (ub G) (ug G) u2 x1 o7 u5 c6
  obtain ⟨a8, ha8, hha8⟩ := mbind_n h
  subst ha8
  have h := hha8
  obtain ⟨c9, h⟩ := mif_n h
  obtain ⟨r12, u10, c11, h⟩ := ucall_n h
  have zu10 := zz_J2_add N (ub G) (ug G) u5 a8 o7 r12 u10 c11
  have hq := zz_X2_goes_23 (G := G) (a0 := a0) N u10 x2 (some a8) x1 r4 0 r12 h
  exact ⟨by omega, by omega⟩
set_option maxHeartbeats 4000000 in
set_option maxRecDepth 100000 in
theorem w_X2_goes_0 {p : Program} {l : Launch} {e : Env} {R : Room} {s : State} {m : MethodId} {args : Array Value} {below : List Frame} {meth : Method} {c : Code} {G : uG} {a0 : Nat} {u0 : UH} {uf : UH} {r : Int32} (hC : uC p s m args meth c G RX2 cX2_goes 8 (some .int)) (hR : 46 ≤ R.frames ∧ 2545 ≤ R.locals) (hRm : uf.1 - u0.1 ≤ R.cells ∧ uf.2.1 - u0.2.1 ≤ R.slots) (N : Nat) (u : UH) (x1 : Int32) (x2 : Option Nat) (x3 : Option Nat) (h : f_X2_goes N (ub G) (ug G) u a0 x1 x2 x3 = some (r, uf)) (hz0 : (u0.1 ≤ u.1 ∧ u0.2.1 ≤ u.2.1)) {H : Heap} {locs : List Loc} (hP : uP G u H) (hS : va_S (uA G) s.heap H locs) {ls : Array Slot} (hl : lv_has ls 8 [(0, va_rf (some a0)), (1, .int x1), (2, va_rf x2), (3, va_rf x3)]) : W p l e R s m args below meth c H locs (u.1 - u0.1) (u.2.1 - u0.2.1) (MQ below (uQi G r uf) args s (uf.1 - u0.1) (uf.2.1 - u0.2.1) (uA G)) (F0 m 0 ls []) := by
  obtain ⟨⟨hx, hb, hml, hown, hts⟩, hKK⟩ := id hC
  have hzf := zz_X2_goes_0 (G := G) (a0 := a0) N u x1 x2 x3 h
  unfold f_X2_goes at h
  refine lv_iload_n hx hb dX2_goes_0 rfl (lv_at hl 1 rfl) ?_
  refine lv_istore (lv' := [(4, .int x1), (0, va_rf (some a0)), (1, .int x1), (2, va_rf x2), (3, va_rf x3)]) hx hb dX2_goes_1 hl (by decide) (by simp [List.filter_cons, u_cat]) (fun ls hl => ?_)
  refine u_aload_n (r := some a0) hx hb dX2_goes_3 rfl (lv_at hl 1 rfl) ?_
  obtain ⟨c1, h⟩ := mif_n h
  obtain ⟨r4, u2, c3, h⟩ := ucall_n h
  have zu2 := zz_X2_known N (ub G) (ug G) u a0 r4 u2 c3
  refine u_calli (va_runV (As := []) (rest := []) hC.1 (met_X2_known l N G u a0 r4 u2 c3) (cwV 0 hts (lw_V q1487 q1331 q1332 q99 q1333) rfl rfl rfl (by decide +kernel) ⟨Nat.le_trans (Nat.le_of_ble_eq_true rfl) hR.1, Nat.le_trans (Nat.le_of_ble_eq_true rfl) hR.2⟩) ⟨uPc_blind, u_rcv hC hP c1 rfl, fun U hU hW => u_pre hC hP hS hU hW⟩ rfl rfl hl.1 rfl (lv_room (Nat.le_of_ble_eq_true rfl)) dX2_goes_4 ⟨by omega, by omega⟩) hS (fun H locs hP hS => ?_)
  refine W.cs (cells' := u2.1 - u0.1) (slots' := u2.2.1 - u0.2.1) (by omega) (by omega) ?_
  refine lv_istore (lv' := [(5, .int r4), (4, .int x1), (0, va_rf (some a0)), (1, .int x1), (2, va_rf x2), (3, va_rf x3)]) hx hb dX2_goes_7 hl (by decide) rfl (fun ls hl => ?_)
  refine lv_iconst (v := 0) hx hb dX2_goes_9 (by decide) ?_
  refine lv_istore (lv' := [(6, .int 0), (5, .int r4), (4, .int x1), (0, va_rf (some a0)), (1, .int x1), (2, va_rf x2), (3, va_rf x3)]) hx hb dX2_goes_10 hl (by decide) rfl (fun ls hl => ?_)
  refine u_aload_n (r := x3) hx hb dX2_goes_12 rfl (lv_at hl 6 rfl) ?_
  refine lv_iload hx hb dX2_goes_13 (lv_at hl 2 rfl) ?_
  obtain ⟨o7, u5, c6, h⟩ := ucall_n h
  have zu5 := zz_J19_valueOf N (ub G) (ug G) u2 x1 o7 u5 c6
  refine u_callr (va_runS (As := [.int x1]) (rest := [va_rf x3]) hC.1 (met_J19_valueOf l N G u2 x1 o7 u5 c6) (va_cwS 1 hts (lw_S q1488 q1489 q136 q1490) rfl rfl rfl (by decide +kernel) ⟨Nat.le_trans (Nat.le_of_ble_eq_true rfl) hR.1, Nat.le_trans (Nat.le_of_ble_eq_true rfl) hR.2⟩) ⟨uPc_blind, fun U hU hW => u_pre hC hP hS hU hW⟩ rfl rfl hl.1 rfl (lv_room (by simp only [List.map, u_cat]; exact Nat.le_of_ble_eq_true rfl)) dX2_goes_15 ⟨by omega, by omega⟩) hS (fun H locs hP hS => ?_)
  refine W.cs (cells' := u5.1 - u0.1) (slots' := u5.2.1 - u0.2.1) (by omega) (by omega) ?_
  obtain ⟨a8, ha8, hha8⟩ := mbind_n h
  subst ha8
  have h := hha8
  obtain ⟨c9, h⟩ := mif_n h
  obtain ⟨r12, u10, c11, h⟩ := ucall_n h
  have zu10 := zz_J2_add N (ub G) (ug G) u5 a8 o7 r12 u10 c11
  have hq := zz_X2_goes_23 (G := G) (a0 := a0) N u10 x2 (some a8) x1 r4 0 r12 h
  refine u_callFi (va_runF (As := [va_rf o7]) (rest := []) (C := RJ2) (hC.2.1.1.1 18 _ rfl).2 hC.1 (met_J2_add l N G u5 a8 o7 r12 u10 c11) (va_cwF 1 hts (lw_F q1509 q1513 q935 q102 q937) rfl rfl rfl (hC.2.1.2.2.1 _ (List.mem_of_getElem? (i := 0) rfl)) (by decide +kernel) ⟨Nat.le_trans (Nat.le_of_ble_eq_true rfl) hR.1, Nat.le_trans (Nat.le_of_ble_eq_true rfl) hR.2⟩) ⟨uPc_blind, u_rcv hC hP c9 rfl, fun U hU hW => u_pre hC hP hS hU hW⟩ rfl rfl hl.1 rfl (lv_room (Nat.le_of_ble_eq_true rfl)) dX2_goes_18 ⟨by omega, by omega⟩) hS (fun H locs hP hS => ?_)
  refine W.cs (cells' := u10.1 - u0.1) (slots' := u10.2.1 - u0.2.1) (by omega) (by omega) ?_
  refine W.cs (cells' := u10.1 - u0.1) (slots' := u10.2.1 - u0.2.1) (by omega) (by omega) ?_
  exact w_X2_goes_23 hC hR hRm N u10 x2 (some a8) x1 r4 0 r12 h ⟨by omega, by omega⟩ hP hS (lv_sub hl [3, 5, 6, 2, 1, 0] rfl)
theorem zz_X2_goes (N b : Nat) (g : uEnv) (u : UH) (a0 : Nat) (x1 : Int32) (x2 : Option Nat) (x3 : Option Nat) (r : Int32) (uf : UH) (h : f_X2_goes N b g u a0 x1 x2 x3 = some (r, uf)) : u.1 ≤ uf.1 ∧ u.2.1 ≤ uf.2.1 :=
  zz_X2_goes_0 (G := ((fun _ => 0, fun _ _ => 0), fun _ => 0, b, g)) (a0 := a0) N u x1 x2 x3 h
theorem met_X2_goes (l : Launch) (N : Nat) (G : uG) (u : UH) (a0 : Nat) (x1 : Int32) (x2 : Option Nat) (x3 : Option Nat) (r : Int32) (uf : UH) (h : f_X2_goes N (ub G) (ug G) u a0 x1 x2 x3 = some (r, uf)) : Met l yX2_goes (ws_ yX2_goes cX2_goes 8 (some .int)) ({ frames := 46, cells := (uf.1 - u.1), slots := (uf.2.1 - u.2.1), locals := 2545 }) (uPc G u [.ref a0, .int x1, va_rf x2, va_rf x3]) (uQi G r uf) (uf.1 - u.1) (uf.2.1 - u.2.1) (uA G) := by
  rcases x2 with _ | x2 <;> rcases x3 with _ | x3 <;> exact u_met (own := RX2) (by decide +kernel) rfl (Nat.le_of_ble_eq_true rfl) (fun hC hn hsz ls hl hP => W.cs (Nat.sub_self _).symm (Nat.sub_self _).symm (w_X2_goes_0 hC ⟨Nat.le_refl _, Nat.le_refl _⟩ ⟨Nat.le_refl _, Nat.le_refl _⟩ N u x1 _ _ h ⟨Nat.le_refl _, Nat.le_refl _⟩ hP va_S.rf hl))
def f_X1_regret_132 (N b : Nat) (g : uEnv) (a0 : Nat) (k51 : UH → Int32 → Option Nat → Int64 → Int32 → Option (Int32 × UH)) (u : UH) (x1 : Int32) (x3 : Option Nat) (x6 : Int32) (x8 : Int32) (s0 : Int32) (s1 : Int64) : Option (Int32 × UH) :=
    (x3).bind fun a1 =>
    if uIs u a1 1 = true then
    ucall (f_X2_of N b g u a1 x1 x8) fun r5 u3 =>
    ucall (f_J9_max_2 N b g u3 s1 ((s0.toInt64) - r5)) fun r8 u6 =>
    mlet (x6 + 1) fun y9 =>
    k51 u6 x1 (some a1) r8 y9
    else none
set_option maxHeartbeats 4000000 in
set_option maxRecDepth 100000 in
theorem zz_X1_regret_132 {G : uG} {a0 : Nat} {uf : UH} {r : Int32} (N : Nat) (k51 : UH → Int32 → Option Nat → Int64 → Int32 → Option (Int32 × UH)) (hk51 : ∀ (u : UH) (x1 : Int32) (x3 : Option Nat) (x4 : Int64) (x6 : Int32), k51 u x1 x3 x4 x6 = some (r, uf) → u.1 ≤ uf.1 ∧ u.2.1 ≤ uf.2.1) (u : UH) (x1 : Int32) (x3 : Option Nat) (x6 : Int32) (x8 : Int32) (s0 : Int32) (s1 : Int64) (h : f_X1_regret_132 N (ub G) (ug G) a0 k51 u x1 x3 x6 x8 s0 s1 = some (r, uf)) : u.1 ≤ uf.1 ∧ u.2.1 ≤ uf.2.1 := by
  unfold f_X1_regret_132 at h
  obtain ⟨a1, ha1, hha1⟩ := mbind_n h
  subst ha1
  have h := hha1
  obtain ⟨c2, h⟩ := mif_n h
  obtain ⟨r5, u3, c4, h⟩ := ucall_n h
  have zu3 := zz_X2_of N (ub G) (ug G) u a1 x1 x8 r5 u3 c4
  obtain ⟨r8, u6, c7, h⟩ := ucall_n h
  have zu6 := zz_J9_max_2 N (ub G) (ug G) u3 s1 ((s0.toInt64) - r5) r8 u6 c7
  obtain ⟨y9, ey9⟩ : ∃ z : Int32, z = x6 + 1 := ⟨_, rfl⟩
  have h := mlet_at ey9 h
  have hq := hk51 u6 x1 (some a1) r8 y9 h
  exact ⟨by omega, by omega⟩
set_option maxHeartbeats 4000000 in
set_option maxRecDepth 100000 in
theorem w_X1_regret_132 {p : Program} {l : Launch} {e : Env} {R : Room} {s : State} {m : MethodId} {args : Array Value} {below : List Frame} {meth : Method} {c : Code} {G : uG} {a0 : Nat} {u0 : UH} {uf : UH} {r : Int32} (hC : uC p s m args meth c G RX1 cX1_regret 10 (some .int)) (hR : 47 ≤ R.frames ∧ 2572 ≤ R.locals) (hRm : uf.1 - u0.1 ≤ R.cells ∧ uf.2.1 - u0.2.1 ≤ R.slots) (N : Nat) (k51 : UH → Int32 → Option Nat → Int64 → Int32 → Option (Int32 × UH)) (hk51 : ∀ (u : UH) (x1 : Int32) (x3 : Option Nat) (x4 : Int64) (x6 : Int32), k51 u x1 x3 x4 x6 = some (r, uf) → (u0.1 ≤ u.1 ∧ u0.2.1 ≤ u.2.1) → ∀ (H : Heap) (locs : List Loc), uP G u H → va_S (uA G) s.heap H locs → ∀ ls : Array Slot, lv_has ls 10 [(0, va_rf (some a0)), (1, .int x1), (3, va_rf x3), (4, .long x4), (6, .int x6)] → W p l e R s m args below meth c H locs (u.1 - u0.1) (u.2.1 - u0.2.1) (MQ below (uQi G r uf) args s (uf.1 - u0.1) (uf.2.1 - u0.2.1) (uA G)) (F0 m 51 ls [])) (zk51 : ∀ (u : UH) (x1 : Int32) (x3 : Option Nat) (x4 : Int64) (x6 : Int32), k51 u x1 x3 x4 x6 = some (r, uf) → u.1 ≤ uf.1 ∧ u.2.1 ≤ uf.2.1) (u : UH) (x1 : Int32) (x3 : Option Nat) (x6 : Int32) (x8 : Int32) (s0 : Int32) (s1 : Int64) (h : f_X1_regret_132 N (ub G) (ug G) a0 k51 u x1 x3 x6 x8 s0 s1 = some (r, uf)) (hz0 : (u0.1 ≤ u.1 ∧ u0.2.1 ≤ u.2.1)) {H : Heap} {locs : List Loc} (hP : uP G u H) (hS : va_S (uA G) s.heap H locs) {ls : Array Slot} (hl : lv_has ls 10 [(0, va_rf (some a0)), (1, .int x1), (3, va_rf x3), (6, .int x6), (8, .int x8)]) : W p l e R s m args below meth c H locs (u.1 - u0.1) (u.2.1 - u0.2.1) (MQ below (uQi G r uf) args s (uf.1 - u0.1) (uf.2.1 - u0.2.1) (uA G)) (F0 m 132 ls [.int s0, .long s1]) := by
  obtain ⟨⟨hx, hb, hml, hown, hts⟩, hKK⟩ := id hC
  have hzf := zz_X1_regret_132 (G := G) (a0 := a0) N k51 zk51 u x1 x3 x6 x8 s0 s1 h
  unfold f_X1_regret_132 at h
  refine lv_i2l (v := s0.toInt64) hx hb dX1_regret_132 rfl ?_
  refine u_aload_n (r := x3) hx hb dX1_regret_133 rfl (lv_at hl 2 rfl) ?_
  refine lv_iload_n hx hb dX1_regret_134 rfl (lv_at hl 1 rfl) ?_
  refine lv_iload hx hb dX1_regret_135 (lv_at hl 4 rfl) ?_
  obtain ⟨a1, ha1, hha1⟩ := mbind_n h
  subst ha1
  have h := hha1
  obtain ⟨c2, h⟩ := mif_n h
  obtain ⟨r5, u3, c4, h⟩ := ucall_n h
  have zu3 := zz_X2_of N (ub G) (ug G) u a1 x1 x8 r5 u3 c4
  refine u_calll (va_runV (As := [.int x1, .int x8]) (rest := [.long (s0.toInt64), .long s1]) hC.1 (met_X2_of l N G u a1 x1 x8 r5 u3 c4) (cwV 2 hts (lw_V q1344 q1345 q1346 q99 q1347) rfl rfl rfl (by decide +kernel) ⟨Nat.le_trans (Nat.le_of_ble_eq_true rfl) hR.1, Nat.le_trans (Nat.le_of_ble_eq_true rfl) hR.2⟩) ⟨uPc_blind, u_rcv hC hP c2 rfl, fun U hU hW => u_pre hC hP hS hU hW⟩ rfl rfl hl.1 rfl (lv_room (Nat.le_of_ble_eq_true rfl)) dX1_regret_137 ⟨by omega, by omega⟩) hS (fun H locs hP hS => ?_)
  refine W.cs (cells' := u3.1 - u0.1) (slots' := u3.2.1 - u0.2.1) (by omega) (by omega) ?_
  refine lv_lsub hx hb dX1_regret_140 ?_
  obtain ⟨r8, u6, c7, h⟩ := ucall_n h
  have zu6 := zz_J9_max_2 N (ub G) (ug G) u3 s1 ((s0.toInt64) - r5) r8 u6 c7
  refine u_calll (va_runS (As := [.long s1, .long ((s0.toInt64) - r5)]) (rest := []) hC.1 (met_J9_max_2 l N G u3 s1 ((s0.toInt64) - r5) r8 u6 c7) (va_cwS 2 hts (lw_S q1526 q1387 q113 q1388) rfl rfl rfl (by decide +kernel) ⟨Nat.le_trans (Nat.le_of_ble_eq_true rfl) hR.1, Nat.le_trans (Nat.le_of_ble_eq_true rfl) hR.2⟩) ⟨uPc_blind, fun U hU hW => u_pre hC hP hS hU hW⟩ rfl rfl hl.1 rfl (lv_room (Nat.le_of_ble_eq_true rfl)) dX1_regret_141 ⟨by omega, by omega⟩) hS (fun H locs hP hS => ?_)
  refine W.cs (cells' := u6.1 - u0.1) (slots' := u6.2.1 - u0.2.1) (by omega) (by omega) ?_
  refine lv_lstore (lv' := [(4, .long r8), (0, va_rf (some a0)), (1, .int x1), (3, va_rf (some a1)), (6, .int x6), (8, .int x8)]) hx hb dX1_regret_144 hl (by decide) rfl (fun ls hl => ?_)
  obtain ⟨y9, ey9⟩ : ∃ z : Int32, z = x6 + 1 := ⟨_, rfl⟩
  have h := mlet_at ey9 h
  refine lv_iinc (v := y9) (lv' := [(6, .int y9), (4, .long r8), (0, va_rf (some a0)), (1, .int x1), (3, va_rf (some a1)), (8, .int x8)]) hx hb dX1_regret_146 hl (k := 4) rfl (by rw [ey9]; rfl) (by decide) rfl (fun ls hl => ?_)
  refine lv_goto (tgt := 51) hx hb dX1_regret_149 (by decide) ?_
  refine W.cs (cells' := u6.1 - u0.1) (slots' := u6.2.1 - u0.2.1) (by omega) (by omega) ?_
  exact hk51 u6 x1 (some a1) r8 y9 h ⟨by omega, by omega⟩ _ _ hP hS _ (lv_sub hl [2, 3, 4, 1, 0] rfl)
def f_X1_regret_125 (N b : Nat) (g : uEnv) (a0 : Nat) (k51 : UH → Int32 → Option Nat → Int64 → Int32 → Option (Int32 × UH)) (u : UH) (x1 : Int32) (x3 : Option Nat) (x6 : Int32) (x8 : Int32) (s0 : Option Nat) (s1 : Option Nat) (s2 : Int32) (s3 : Option Nat) (s4 : Int64) : Option (Int32 × UH) :=
    (s0).bind fun a1 =>
    (f_J2_init N b g u a1).bind fun u2 =>
    (s3).bind fun a4 =>
    if uIs u2 a4 1 = true then
    ucall (f_X2_goes N b g u2 a4 s2 s1 (some a1)) fun r8 u6 =>
    f_X1_regret_132 N b g a0 k51 u6 x1 x3 x6 x8 r8 s4
    else none
set_option maxHeartbeats 4000000 in
set_option maxRecDepth 100000 in
theorem zz_X1_regret_125 {G : uG} {a0 : Nat} {uf : UH} {r : Int32} (N : Nat) (k51 : UH → Int32 → Option Nat → Int64 → Int32 → Option (Int32 × UH)) (hk51 : ∀ (u : UH) (x1 : Int32) (x3 : Option Nat) (x4 : Int64) (x6 : Int32), k51 u x1 x3 x4 x6 = some (r, uf) → u.1 ≤ uf.1 ∧ u.2.1 ≤ uf.2.1) (u : UH) (x1 : Int32) (x3 : Option Nat) (x6 : Int32) (x8 : Int32) (s0 : Option Nat) (s1 : Option Nat) (s2 : Int32) (s3 : Option Nat) (s4 : Int64) (h : f_X1_regret_125 N (ub G) (ug G) a0 k51 u x1 x3 x6 x8 s0 s1 s2 s3 s4 = some (r, uf)) : u.1 ≤ uf.1 ∧ u.2.1 ≤ uf.2.1 := by
  unfold f_X1_regret_125 at h
  obtain ⟨a1, ha1, hha1⟩ := mbind_n h
  subst ha1
  have h := hha1
  obtain ⟨u2, c3, h⟩ := mbind_n h
  have zu2 := zz_J2_init N (ub G) (ug G) u a1 u2 c3
  obtain ⟨a4, ha4, hha4⟩ := mbind_n h
  subst ha4
  have h := hha4
  obtain ⟨c5, h⟩ := mif_n h
  obtain ⟨r8, u6, c7, h⟩ := ucall_n h
  have zu6 := zz_X2_goes N (ub G) (ug G) u2 a4 s2 s1 (some a1) r8 u6 c7
  have hq := zz_X1_regret_132 (G := G) (a0 := a0) N k51 hk51 u6 x1 x3 x6 x8 r8 s4 h
  exact ⟨by omega, by omega⟩
set_option maxHeartbeats 4000000 in
set_option maxRecDepth 100000 in
theorem w_X1_regret_125 {p : Program} {l : Launch} {e : Env} {R : Room} {s : State} {m : MethodId} {args : Array Value} {below : List Frame} {meth : Method} {c : Code} {G : uG} {a0 : Nat} {u0 : UH} {uf : UH} {r : Int32} (hC : uC p s m args meth c G RX1 cX1_regret 10 (some .int)) (hR : 47 ≤ R.frames ∧ 2572 ≤ R.locals) (hRm : uf.1 - u0.1 ≤ R.cells ∧ uf.2.1 - u0.2.1 ≤ R.slots) (N : Nat) (k51 : UH → Int32 → Option Nat → Int64 → Int32 → Option (Int32 × UH)) (hk51 : ∀ (u : UH) (x1 : Int32) (x3 : Option Nat) (x4 : Int64) (x6 : Int32), k51 u x1 x3 x4 x6 = some (r, uf) → (u0.1 ≤ u.1 ∧ u0.2.1 ≤ u.2.1) → ∀ (H : Heap) (locs : List Loc), uP G u H → va_S (uA G) s.heap H locs → ∀ ls : Array Slot, lv_has ls 10 [(0, va_rf (some a0)), (1, .int x1), (3, va_rf x3), (4, .long x4), (6, .int x6)] → W p l e R s m args below meth c H locs (u.1 - u0.1) (u.2.1 - u0.2.1) (MQ below (uQi G r uf) args s (uf.1 - u0.1) (uf.2.1 - u0.2.1) (uA G)) (F0 m 51 ls [])) (zk51 : ∀ (u : UH) (x1 : Int32) (x3 : Option Nat) (x4 : Int64) (x6 : Int32), k51 u x1 x3 x4 x6 = some (r, uf) → u.1 ≤ uf.1 ∧ u.2.1 ≤ uf.2.1) (u : UH) (x1 : Int32) (x3 : Option Nat) (x6 : Int32) (x8 : Int32) (s0 : Option Nat) (s1 : Option Nat) (s2 : Int32) (s3 : Option Nat) (s4 : Int64) (h : f_X1_regret_125 N (ub G) (ug G) a0 k51 u x1 x3 x6 x8 s0 s1 s2 s3 s4 = some (r, uf)) (hz0 : (u0.1 ≤ u.1 ∧ u0.2.1 ≤ u.2.1)) {H : Heap} {locs : List Loc} (hP : uP G u H) (hS : va_S (uA G) s.heap H locs) {ls : Array Slot} (hl : lv_has ls 10 [(0, va_rf (some a0)), (1, .int x1), (3, va_rf x3), (6, .int x6), (8, .int x8)]) : W p l e R s m args below meth c H locs (u.1 - u0.1) (u.2.1 - u0.2.1) (MQ below (uQi G r uf) args s (uf.1 - u0.1) (uf.2.1 - u0.2.1) (uA G)) (F0 m 125 ls [va_rf s0, va_rf s1, .int s2, va_rf s3, .long s4]) := by
  obtain ⟨⟨hx, hb, hml, hown, hts⟩, hKK⟩ := id hC
  have hzf := zz_X1_regret_125 (G := G) (a0 := a0) N k51 zk51 u x1 x3 x6 x8 s0 s1 s2 s3 s4 h
  unfold f_X1_regret_125 at h
  refine lv_dup hx hb dX1_regret_125 (u_cat _) ?_
  obtain ⟨a1, ha1, hha1⟩ := mbind_n h
  subst ha1
  have h := hha1
  obtain ⟨u2, c3, h⟩ := mbind_n h
  have zu2 := zz_J2_init N (ub G) (ug G) u a1 u2 c3
  refine u_callv (va_runI (As := []) (rest := [va_rf (some a1), va_rf s1, .int s2, va_rf s3, .long s4]) hC.1 (met_J2_init l N G u a1 u2 c3) (cwI 0 hts (lw_meth q193) rfl rfl rfl (hts _ q102) (hts _ q191) (hts _ q192) rfl (by decide +kernel) ⟨Nat.le_trans (Nat.le_of_ble_eq_true rfl) hR.1, Nat.le_trans (Nat.le_of_ble_eq_true rfl) hR.2⟩) ⟨uPc_blind, fun U hU hW => u_pre hC hP hS hU hW⟩ rfl rfl hl.1 rfl (lv_room (by simp only [List.map, u_cat]; exact Nat.le_of_ble_eq_true rfl)) dX1_regret_126 ⟨by omega, by omega⟩) hS (fun H locs hP hS => ?_)
  refine W.cs (cells' := u2.1 - u0.1) (slots' := u2.2.1 - u0.2.1) (by omega) (by omega) ?_
  obtain ⟨a4, ha4, hha4⟩ := mbind_n h
  subst ha4
  have h := hha4
  obtain ⟨c5, h⟩ := mif_n h
  obtain ⟨r8, u6, c7, h⟩ := ucall_n h
  have zu6 := zz_X2_goes N (ub G) (ug G) u2 a4 s2 s1 (some a1) r8 u6 c7
  have hq := zz_X1_regret_132 (G := G) (a0 := a0) N k51 zk51 u6 x1 x3 x6 x8 r8 s4 h
  refine u_calli (va_runV (As := [.int s2, va_rf s1, va_rf (some a1)]) (rest := [.long s4]) hC.1 (met_X2_goes l N G u2 a4 s2 s1 (some a1) r8 u6 c7) (cwV 3 hts (lw_V q1483 q1484 q1485 q99 q1486) rfl rfl rfl (by decide +kernel) ⟨Nat.le_trans (Nat.le_of_ble_eq_true rfl) hR.1, Nat.le_trans (Nat.le_of_ble_eq_true rfl) hR.2⟩) ⟨uPc_blind, u_rcv hC hP c5 rfl, fun U hU hW => u_pre hC hP hS hU hW⟩ rfl rfl hl.1 rfl (lv_room (Nat.le_of_ble_eq_true rfl)) dX1_regret_129 ⟨by omega, by omega⟩) hS (fun H locs hP hS => ?_)
  refine W.cs (cells' := u6.1 - u0.1) (slots' := u6.2.1 - u0.2.1) (by omega) (by omega) ?_
  refine W.cs (cells' := u6.1 - u0.1) (slots' := u6.2.1 - u0.2.1) (by omega) (by omega) ?_
  exact w_X1_regret_132 hC hR hRm N k51 hk51 zk51 u6 x1 x3 x6 x8 r8 s4 h ⟨by omega, by omega⟩ hP hS (lv_sub hl [0, 1, 2, 3, 4] rfl)
def f_X1_regret_80 (N b : Nat) (g : uEnv) (a0 : Nat) (k51 : UH → Int32 → Option Nat → Int64 → Int32 → Option (Int32 × UH)) : Nat → UH → Int32 → Option Nat → Int64 → Int32 → Option Nat → Int32 → Int32 → Option (Int32 × UH)
  | 0, _, _, _, _, _, _, _, _ => none
  | n + 1, u, x1, x3, x4, x6, x7, x8, x9 =>
    (uGR u a0 0 7).bind fun o1 =>
    (o1).bind fun a2 =>
    (uGR u a2 12 6).bind fun o3 =>
    (o3).bind fun a4 =>
    if uIs u a4 18 = true then
    ucall (f_J2_size N b g u a4) fun r8 u6 =>
    if r8 ≤ x9 then
    mlet (u6.1) fun a11 =>
    mlet (uNew u6 3 (.inr (18, uDefs tyJ2 3))) fun u10 =>
    f_X1_regret_125 N b g a0 k51 u10 x1 x3 x6 x8 (some a11) x7 x1 x3 x4
    else
    (x7).bind fun a12 =>
    (uLdI u6 a12 0 x9).bind fun y13 =>
    (x3).bind fun a14 =>
    if uIs u6 a14 1 = true then
    ucall (f_X2_knows N b g u6 a14 x8 x9 y13) fun r18 u16 =>
    mlet (x9 + 1) fun y19 =>
    f_X1_regret_80 N b g a0 k51 n u16 x1 (some a14) x4 x6 (some a12) r18 y19
    else none
    else none
set_option maxHeartbeats 4000000 in
set_option maxRecDepth 100000 in
theorem zz_X1_regret_80 {G : uG} {a0 : Nat} {uf : UH} {r : Int32} (N : Nat) (k51 : UH → Int32 → Option Nat → Int64 → Int32 → Option (Int32 × UH)) (hk51 : ∀ (u : UH) (x1 : Int32) (x3 : Option Nat) (x4 : Int64) (x6 : Int32), k51 u x1 x3 x4 x6 = some (r, uf) → u.1 ≤ uf.1 ∧ u.2.1 ≤ uf.2.1) : ∀ (n : Nat) (u : UH) (x1 : Int32) (x3 : Option Nat) (x4 : Int64) (x6 : Int32) (x7 : Option Nat) (x8 : Int32) (x9 : Int32), f_X1_regret_80 N (ub G) (ug G) a0 k51 n u x1 x3 x4 x6 x7 x8 x9 = some (r, uf) → u.1 ≤ uf.1 ∧ u.2.1 ≤ uf.2.1 := by
  intro n
  induction n with
  | zero =>
    intro u x1 x3 x4 x6 x7 x8 x9 h
    cases h
  | succ n ih =>
    intro u x1 x3 x4 x6 x7 x8 x9 h
    unfold f_X1_regret_80 at h
    obtain ⟨o1, ho1, h⟩ := mbind_n h
    obtain ⟨a2, ha2, hha2⟩ := mbind_n h
    subst ha2
    have h := hha2
    obtain ⟨o3, ho3, h⟩ := mbind_n h
    obtain ⟨a4, ha4, hha4⟩ := mbind_n h
    subst ha4
    have h := hha4
    obtain ⟨c5, h⟩ := mif_n h
    obtain ⟨r8, u6, c7, h⟩ := ucall_n h
    have zu6 := zz_J2_size N (ub G) (ug G) u a4 r8 u6 c7
    by_cases c9 : r8 ≤ x9
    · have h := mif_t c9 h
      obtain ⟨a11, ea11⟩ : ∃ z : Nat, z = u6.1 := ⟨_, rfl⟩
      have h := mlet_at ea11 h
      obtain ⟨u10, eu10⟩ : ∃ z : UH, z = uNew u6 3 (.inr (18, uDefs tyJ2 3)) := ⟨_, rfl⟩
      have h := mlet_at eu10 h
      have zu10 : u10.1 = u6.1 + 1 ∧ u10.2.1 = u6.2.1 + 3 := by rw [eu10]; exact ⟨rfl, rfl⟩
      have hq := zz_X1_regret_125 (G := G) (a0 := a0) N k51 hk51 u10 x1 x3 x6 x8 (some a11) x7 x1 x3 x4 h
      exact ⟨by omega, by omega⟩
    · have h := mif_f c9 h
      obtain ⟨a12, ha12, hha12⟩ := mbind_n h
      subst ha12
      have h := hha12
      obtain ⟨y13, hy13, h⟩ := mbind_n h
      obtain ⟨a14, ha14, hha14⟩ := mbind_n h
      subst ha14
      have h := hha14
      obtain ⟨c15, h⟩ := mif_n h
      obtain ⟨r18, u16, c17, h⟩ := ucall_n h
      have zu16 := zz_X2_knows N (ub G) (ug G) u6 a14 x8 x9 y13 r18 u16 c17
      obtain ⟨y19, ey19⟩ : ∃ z : Int32, z = x9 + 1 := ⟨_, rfl⟩
      have h := mlet_at ey19 h
      have hq := ih u16 x1 (some a14) x4 x6 (some a12) r18 y19 h
      exact ⟨by omega, by omega⟩
set_option maxHeartbeats 4000000 in
set_option maxRecDepth 100000 in
theorem w_X1_regret_80 {p : Program} {l : Launch} {e : Env} {R : Room} {s : State} {m : MethodId} {args : Array Value} {below : List Frame} {meth : Method} {c : Code} {G : uG} {a0 : Nat} {u0 : UH} {uf : UH} {r : Int32} (hC : uC p s m args meth c G RX1 cX1_regret 10 (some .int)) (hR : 47 ≤ R.frames ∧ 2572 ≤ R.locals) (hRm : uf.1 - u0.1 ≤ R.cells ∧ uf.2.1 - u0.2.1 ≤ R.slots) (N : Nat) (k51 : UH → Int32 → Option Nat → Int64 → Int32 → Option (Int32 × UH)) (hk51 : ∀ (u : UH) (x1 : Int32) (x3 : Option Nat) (x4 : Int64) (x6 : Int32), k51 u x1 x3 x4 x6 = some (r, uf) → (u0.1 ≤ u.1 ∧ u0.2.1 ≤ u.2.1) → ∀ (H : Heap) (locs : List Loc), uP G u H → va_S (uA G) s.heap H locs → ∀ ls : Array Slot, lv_has ls 10 [(0, va_rf (some a0)), (1, .int x1), (3, va_rf x3), (4, .long x4), (6, .int x6)] → W p l e R s m args below meth c H locs (u.1 - u0.1) (u.2.1 - u0.2.1) (MQ below (uQi G r uf) args s (uf.1 - u0.1) (uf.2.1 - u0.2.1) (uA G)) (F0 m 51 ls [])) (zk51 : ∀ (u : UH) (x1 : Int32) (x3 : Option Nat) (x4 : Int64) (x6 : Int32), k51 u x1 x3 x4 x6 = some (r, uf) → u.1 ≤ uf.1 ∧ u.2.1 ≤ uf.2.1) : ∀ (n : Nat) (u : UH) (x1 : Int32) (x3 : Option Nat) (x4 : Int64) (x6 : Int32) (x7 : Option Nat) (x8 : Int32) (x9 : Int32), f_X1_regret_80 N (ub G) (ug G) a0 k51 n u x1 x3 x4 x6 x7 x8 x9 = some (r, uf) → (u0.1 ≤ u.1 ∧ u0.2.1 ≤ u.2.1) → ∀ (H : Heap) (locs : List Loc), uP G u H → va_S (uA G) s.heap H locs → ∀ ls : Array Slot, lv_has ls 10 [(0, va_rf (some a0)), (1, .int x1), (3, va_rf x3), (4, .long x4), (6, .int x6), (7, va_rf x7), (8, .int x8), (9, .int x9)] → W p l e R s m args below meth c H locs (u.1 - u0.1) (u.2.1 - u0.2.1) (MQ below (uQi G r uf) args s (uf.1 - u0.1) (uf.2.1 - u0.2.1) (uA G)) (F0 m 80 ls []) := by
  obtain ⟨⟨hx, hb, hml, hown, hts⟩, hKK⟩ := id hC
  intro n
  induction n with
  | zero =>
    intro u x1 x3 x4 x6 x7 x8 x9 h
    cases h
  | succ n ih =>
    intro u x1 x3 x4 x6 x7 x8 x9 h hz0 H locs hP hS ls hl
    have hzf := zz_X1_regret_80 (G := G) (a0 := a0) N k51 zk51 (n + 1) u x1 x3 x4 x6 x7 x8 x9 h
    unfold f_X1_regret_80 at h
    refine lv_iload hx hb dX1_regret_80 (lv_at hl 7 rfl) ?_
    refine u_aload_n (r := some a0) hx hb dX1_regret_82 rfl (lv_at hl 0 rfl) ?_
    obtain ⟨o1, ho1, h⟩ := mbind_n h
    refine u_get hC hP (uGR_n ho1) rfl in_X1 (by decide) q222 (fun _ h => h) dX1_regret_83 ?_
    obtain ⟨a2, ha2, hha2⟩ := mbind_n h
    subst ha2
    have h := hha2
    obtain ⟨o3, ho3, h⟩ := mbind_n h
    refine u_getN hC hP (uGR_n ho3) rfl in_X14 (by decide) q1151 (fun _ h => h) dX1_regret_86 ?_
    obtain ⟨a4, ha4, hha4⟩ := mbind_n h
    subst ha4
    have h := hha4
    obtain ⟨c5, h⟩ := mif_n h
    obtain ⟨r8, u6, c7, h⟩ := ucall_n h
    have zu6 := zz_J2_size N (ub G) (ug G) u a4 r8 u6 c7
    refine u_calli (va_runV (As := []) (rest := [.int x9]) hC.1 (met_J2_size l N G u a4 r8 u6 c7) (cwV 0 hts (lw_V q1063 q894 q895 q102 q896) rfl rfl rfl (by decide +kernel) ⟨Nat.le_trans (Nat.le_of_ble_eq_true rfl) hR.1, Nat.le_trans (Nat.le_of_ble_eq_true rfl) hR.2⟩) ⟨uPc_blind, u_rcv hC hP c5 rfl, fun U hU hW => u_pre hC hP hS hU hW⟩ rfl rfl hl.1 rfl (lv_room (Nat.le_of_ble_eq_true rfl)) dX1_regret_89 ⟨by omega, by omega⟩) hS (fun H locs hP hS => ?_)
    refine W.cs (cells' := u6.1 - u0.1) (slots' := u6.2.1 - u0.2.1) (by omega) (by omega) ?_
    refine lv_icmp_ge (tgt := 116) hx hb dX1_regret_92 (by decide) (fun c9 => ?_) (fun c9 => ?_)
    · have h := mif_t c9 h
      refine lv_lload hx hb dX1_regret_116 (lv_at hl 3 rfl) ?_
      refine u_aload_n (r := x3) hx hb dX1_regret_118 rfl (lv_at hl 2 rfl) ?_
      refine lv_iload_n hx hb dX1_regret_119 rfl (lv_at hl 1 rfl) ?_
      refine u_aload (r := x7) hx hb dX1_regret_120 (lv_at hl 5 rfl) ?_
      obtain ⟨a11, ea11⟩ : ∃ z : Nat, z = u6.1 := ⟨_, rfl⟩
      have h := mlet_at ea11 h
      obtain ⟨u10, eu10⟩ : ∃ z : UH, z = uNew u6 3 (.inr (18, uDefs tyJ2 3)) := ⟨_, rfl⟩
      have h := mlet_at eu10 h
      have zu10 : u10.1 = u6.1 + 1 ∧ u10.2.1 = u6.2.1 + 3 := by rw [eu10]; exact ⟨rfl, rfl⟩
      have hq := zz_X1_regret_125 (G := G) (a0 := a0) N k51 zk51 u10 x1 x3 x6 x8 (some a11) x7 x1 x3 x4 h
      refine u_new hC hP hS (T := TJ2) (N := 3) (ci := 18) rfl in_J2 tyJ2 tyJ2_ok q189 q190 q102 (by omega) (by omega) dX1_regret_122 (fun H hP hS => ?_)
      rw [← eu10] at hP
      rw [← ea11]
      refine W.cs (cells' := u10.1 - u0.1) (slots' := u10.2.1 - u0.2.1) (by omega) (by omega) ?_
      refine W.cs (cells' := u10.1 - u0.1) (slots' := u10.2.1 - u0.2.1) (by omega) (by omega) ?_
      exact w_X1_regret_125 hC hR hRm N k51 hk51 zk51 u10 x1 x3 x6 x8 (some a11) x7 x1 x3 x4 h ⟨by omega, by omega⟩ hP hS (lv_sub hl [0, 1, 2, 4, 6] rfl)
    · have h := mif_f c9 h
      refine u_aload_n (r := x3) hx hb dX1_regret_95 rfl (lv_at hl 2 rfl) ?_
      refine lv_iload hx hb dX1_regret_96 (lv_at hl 6 rfl) ?_
      refine lv_iload hx hb dX1_regret_98 (lv_at hl 7 rfl) ?_
      refine u_aload (r := x7) hx hb dX1_regret_100 (lv_at hl 5 rfl) ?_
      refine lv_iload hx hb dX1_regret_102 (lv_at hl 7 rfl) ?_
      obtain ⟨a12, ha12, hha12⟩ := mbind_n h
      subst ha12
      have h := hha12
      obtain ⟨y13, hy13, h⟩ := mbind_n h
      refine u_iald hC hP hy13 rfl dX1_regret_104 ?_
      obtain ⟨a14, ha14, hha14⟩ := mbind_n h
      subst ha14
      have h := hha14
      obtain ⟨c15, h⟩ := mif_n h
      obtain ⟨r18, u16, c17, h⟩ := ucall_n h
      have zu16 := zz_X2_knows N (ub G) (ug G) u6 a14 x8 x9 y13 r18 u16 c17
      refine u_calli (va_runV (As := [.int x8, .int x9, .int y13]) (rest := []) hC.1 (met_X2_knows l N G u6 a14 x8 x9 y13 r18 u16 c17) (cwV 3 hts (lw_V q1525 q1337 q1338 q99 q1339) rfl rfl rfl (by decide +kernel) ⟨Nat.le_trans (Nat.le_of_ble_eq_true rfl) hR.1, Nat.le_trans (Nat.le_of_ble_eq_true rfl) hR.2⟩) ⟨uPc_blind, u_rcv hC hP c15 rfl, fun U hU hW => u_pre hC hP hS hU hW⟩ rfl rfl hl.1 rfl (lv_room (Nat.le_of_ble_eq_true rfl)) dX1_regret_105 ⟨by omega, by omega⟩) hS (fun H locs hP hS => ?_)
      refine W.cs (cells' := u16.1 - u0.1) (slots' := u16.2.1 - u0.2.1) (by omega) (by omega) ?_
      refine lv_istore (lv' := [(8, .int r18), (0, va_rf (some a0)), (1, .int x1), (3, va_rf (some a14)), (4, .long x4), (6, .int x6), (7, va_rf (some a12)), (9, .int x9)]) hx hb dX1_regret_108 hl (by decide) rfl (fun ls hl => ?_)
      obtain ⟨y19, ey19⟩ : ∃ z : Int32, z = x9 + 1 := ⟨_, rfl⟩
      have h := mlet_at ey19 h
      refine lv_iinc (v := y19) (lv' := [(9, .int y19), (8, .int r18), (0, va_rf (some a0)), (1, .int x1), (3, va_rf (some a14)), (4, .long x4), (6, .int x6), (7, va_rf (some a12))]) hx hb dX1_regret_110 hl (k := 7) rfl (by rw [ey19]; rfl) (by decide) rfl (fun ls hl => ?_)
      refine lv_goto (tgt := 80) hx hb dX1_regret_113 (by decide) ?_
      refine W.cs (cells' := u16.1 - u0.1) (slots' := u16.2.1 - u0.2.1) (by omega) (by omega) ?_
      exact ih u16 x1 (some a14) x4 x6 (some a12) r18 y19 h ⟨by omega, by omega⟩ _ _ hP hS _ (lv_sub hl [2, 3, 4, 5, 6, 7, 1, 0] rfl)
def f_X1_regret_72 (N b : Nat) (g : uEnv) (a0 : Nat) (k51 : UH → Int32 → Option Nat → Int64 → Int32 → Option (Int32 × UH)) (u : UH) (x1 : Int32) (x3 : Option Nat) (x4 : Int64) (x6 : Int32) (s0 : Option Nat) : Option (Int32 × UH) :=
    f_X1_regret_80 N b g a0 k51 N u x1 x3 x4 x6 s0 0 0
set_option maxHeartbeats 4000000 in
set_option maxRecDepth 100000 in
theorem zz_X1_regret_72 {G : uG} {a0 : Nat} {uf : UH} {r : Int32} (N : Nat) (k51 : UH → Int32 → Option Nat → Int64 → Int32 → Option (Int32 × UH)) (hk51 : ∀ (u : UH) (x1 : Int32) (x3 : Option Nat) (x4 : Int64) (x6 : Int32), k51 u x1 x3 x4 x6 = some (r, uf) → u.1 ≤ uf.1 ∧ u.2.1 ≤ uf.2.1) (u : UH) (x1 : Int32) (x3 : Option Nat) (x4 : Int64) (x6 : Int32) (s0 : Option Nat) (h : f_X1_regret_72 N (ub G) (ug G) a0 k51 u x1 x3 x4 x6 s0 = some (r, uf)) : u.1 ≤ uf.1 ∧ u.2.1 ≤ uf.2.1 := by
  unfold f_X1_regret_72 at h
  have hq := zz_X1_regret_80 (G := G) (a0 := a0) N k51 hk51 N u x1 x3 x4 x6 s0 0 0 h
  exact ⟨by omega, by omega⟩
set_option maxHeartbeats 4000000 in
set_option maxRecDepth 100000 in
theorem w_X1_regret_72 {p : Program} {l : Launch} {e : Env} {R : Room} {s : State} {m : MethodId} {args : Array Value} {below : List Frame} {meth : Method} {c : Code} {G : uG} {a0 : Nat} {u0 : UH} {uf : UH} {r : Int32} (hC : uC p s m args meth c G RX1 cX1_regret 10 (some .int)) (hR : 47 ≤ R.frames ∧ 2572 ≤ R.locals) (hRm : uf.1 - u0.1 ≤ R.cells ∧ uf.2.1 - u0.2.1 ≤ R.slots) (N : Nat) (k51 : UH → Int32 → Option Nat → Int64 → Int32 → Option (Int32 × UH)) (hk51 : ∀ (u : UH) (x1 : Int32) (x3 : Option Nat) (x4 : Int64) (x6 : Int32), k51 u x1 x3 x4 x6 = some (r, uf) → (u0.1 ≤ u.1 ∧ u0.2.1 ≤ u.2.1) → ∀ (H : Heap) (locs : List Loc), uP G u H → va_S (uA G) s.heap H locs → ∀ ls : Array Slot, lv_has ls 10 [(0, va_rf (some a0)), (1, .int x1), (3, va_rf x3), (4, .long x4), (6, .int x6)] → W p l e R s m args below meth c H locs (u.1 - u0.1) (u.2.1 - u0.2.1) (MQ below (uQi G r uf) args s (uf.1 - u0.1) (uf.2.1 - u0.2.1) (uA G)) (F0 m 51 ls [])) (zk51 : ∀ (u : UH) (x1 : Int32) (x3 : Option Nat) (x4 : Int64) (x6 : Int32), k51 u x1 x3 x4 x6 = some (r, uf) → u.1 ≤ uf.1 ∧ u.2.1 ≤ uf.2.1) (u : UH) (x1 : Int32) (x3 : Option Nat) (x4 : Int64) (x6 : Int32) (s0 : Option Nat) (h : f_X1_regret_72 N (ub G) (ug G) a0 k51 u x1 x3 x4 x6 s0 = some (r, uf)) (hz0 : (u0.1 ≤ u.1 ∧ u0.2.1 ≤ u.2.1)) {H : Heap} {locs : List Loc} (hP : uP G u H) (hS : va_S (uA G) s.heap H locs) {ls : Array Slot} (hl : lv_has ls 10 [(0, va_rf (some a0)), (1, .int x1), (3, va_rf x3), (4, .long x4), (6, .int x6)]) : W p l e R s m args below meth c H locs (u.1 - u0.1) (u.2.1 - u0.2.1) (MQ below (uQi G r uf) args s (uf.1 - u0.1) (uf.2.1 - u0.2.1) (uA G)) (F0 m 72 ls [va_rf s0]) := by
  obtain ⟨⟨hx, hb, hml, hown, hts⟩, hKK⟩ := id hC
  have hzf := zz_X1_regret_72 (G := G) (a0 := a0) N k51 zk51 u x1 x3 x4 x6 s0 h
  unfold f_X1_regret_72 at h
  refine u_astore (r := s0) (lv' := [(7, va_rf s0), (0, va_rf (some a0)), (1, .int x1), (3, va_rf x3), (4, .long x4), (6, .int x6)]) hx hb dX1_regret_72 hl (by decide) rfl (fun ls hl => ?_)
  refine lv_iconst (v := 0) hx hb dX1_regret_74 (by decide) ?_
  refine lv_istore (lv' := [(8, .int 0), (7, va_rf s0), (0, va_rf (some a0)), (1, .int x1), (3, va_rf x3), (4, .long x4), (6, .int x6)]) hx hb dX1_regret_75 hl (by decide) (by simp [List.filter_cons, u_cat]) (fun ls hl => ?_)
  refine lv_iconst (v := 0) hx hb dX1_regret_77 (by decide) ?_
  refine lv_istore (lv' := [(9, .int 0), (8, .int 0), (7, va_rf s0), (0, va_rf (some a0)), (1, .int x1), (3, va_rf x3), (4, .long x4), (6, .int x6)]) hx hb dX1_regret_78 hl (by decide) rfl (fun ls hl => ?_)
  refine W.cs (cells' := u.1 - u0.1) (slots' := u.2.1 - u0.2.1) (by omega) (by omega) ?_
  exact w_X1_regret_80 hC hR hRm N k51 hk51 zk51 N u x1 x3 x4 x6 s0 0 0 h ⟨by omega, by omega⟩ _ _ hP hS _ (lv_sub hl [3, 4, 5, 6, 7, 2, 1, 0] rfl)
def f_X1_regret_51 (N b : Nat) (g : uEnv) (a0 : Nat) : Nat → UH → Int32 → Option Nat → Int64 → Int32 → Option (Int32 × UH)
  | 0, _, _, _, _, _ => none
  | n + 1, u, x1, x3, x4, x6 =>
    (uGR u a0 0 7).bind fun o1 =>
    (o1).bind fun a2 =>
    if uIs u a2 12 = true then
    ucall (f_X14_truths N b g u a2) fun r6 u4 =>
    if r6 ≤ x6 then
    if uIs u4 a0 0 = true then
    ucall (f_X1_done N b g u4 a0 (x4.toInt32)) fun r11 u9 =>
    some (r11, u9)
    else none
    else
    (uGR u4 a0 0 7).bind fun o12 =>
    (o12).bind fun a13 =>
    if uIs u4 a13 12 = true then
    ucall (f_X14_truth N b g u4 a13 x6) fun o17 u15 =>
    f_X1_regret_72 N b g a0 (f_X1_regret_51 N b g a0 n) u15 x1 x3 x4 x6 o17
    else none
    else none
set_option maxHeartbeats 4000000 in
set_option maxRecDepth 100000 in
theorem zz_X1_regret_51 {G : uG} {a0 : Nat} {uf : UH} {r : Int32} (N : Nat) : ∀ (n : Nat) (u : UH) (x1 : Int32) (x3 : Option Nat) (x4 : Int64) (x6 : Int32), f_X1_regret_51 N (ub G) (ug G) a0 n u x1 x3 x4 x6 = some (r, uf) → u.1 ≤ uf.1 ∧ u.2.1 ≤ uf.2.1 := by
  intro n
  induction n with
  | zero =>
    intro u x1 x3 x4 x6 h
    cases h
  | succ n ih =>
    intro u x1 x3 x4 x6 h
    unfold f_X1_regret_51 at h
    obtain ⟨o1, ho1, h⟩ := mbind_n h
    obtain ⟨a2, ha2, hha2⟩ := mbind_n h
    subst ha2
    have h := hha2
    obtain ⟨c3, h⟩ := mif_n h
    obtain ⟨r6, u4, c5, h⟩ := ucall_n h
    have zu4 := zz_X14_truths N (ub G) (ug G) u a2 r6 u4 c5
    by_cases c7 : r6 ≤ x6
    · have h := mif_t c7 h
      obtain ⟨c8, h⟩ := mif_n h
      obtain ⟨r11, u9, c10, h⟩ := ucall_n h
      have zu9 := zz_X1_done N (ub G) (ug G) u4 a0 (x4.toInt32) r11 u9 c10
      obtain ⟨hr1, hr2⟩ := uret_n h
      subst hr2
      exact ⟨by omega, by omega⟩
    · have h := mif_f c7 h
      obtain ⟨o12, ho12, h⟩ := mbind_n h
      obtain ⟨a13, ha13, hha13⟩ := mbind_n h
      subst ha13
      have h := hha13
      obtain ⟨c14, h⟩ := mif_n h
      obtain ⟨o17, u15, c16, h⟩ := ucall_n h
      have zu15 := zz_X14_truth N (ub G) (ug G) u4 a13 x6 o17 u15 c16
      have hq := zz_X1_regret_72 (G := G) (a0 := a0) N (f_X1_regret_51 N (ub G) (ug G) a0 n) ih u15 x1 x3 x4 x6 o17 h
      exact ⟨by omega, by omega⟩
set_option maxHeartbeats 4000000 in
set_option maxRecDepth 100000 in
theorem w_X1_regret_51 {p : Program} {l : Launch} {e : Env} {R : Room} {s : State} {m : MethodId} {args : Array Value} {below : List Frame} {meth : Method} {c : Code} {G : uG} {a0 : Nat} {u0 : UH} {uf : UH} {r : Int32} (hC : uC p s m args meth c G RX1 cX1_regret 10 (some .int)) (hR : 47 ≤ R.frames ∧ 2572 ≤ R.locals) (hRm : uf.1 - u0.1 ≤ R.cells ∧ uf.2.1 - u0.2.1 ≤ R.slots) (N : Nat) : ∀ (n : Nat) (u : UH) (x1 : Int32) (x3 : Option Nat) (x4 : Int64) (x6 : Int32), f_X1_regret_51 N (ub G) (ug G) a0 n u x1 x3 x4 x6 = some (r, uf) → (u0.1 ≤ u.1 ∧ u0.2.1 ≤ u.2.1) → ∀ (H : Heap) (locs : List Loc), uP G u H → va_S (uA G) s.heap H locs → ∀ ls : Array Slot, lv_has ls 10 [(0, va_rf (some a0)), (1, .int x1), (3, va_rf x3), (4, .long x4), (6, .int x6)] → W p l e R s m args below meth c H locs (u.1 - u0.1) (u.2.1 - u0.2.1) (MQ below (uQi G r uf) args s (uf.1 - u0.1) (uf.2.1 - u0.2.1) (uA G)) (F0 m 51 ls []) := by
  obtain ⟨⟨hx, hb, hml, hown, hts⟩, hKK⟩ := id hC
  intro n
  induction n with
  | zero =>
    intro u x1 x3 x4 x6 h
    cases h
  | succ n ih =>
    intro u x1 x3 x4 x6 h hz0 H locs hP hS ls hl
    have hzf := zz_X1_regret_51 (G := G) (a0 := a0) N (n + 1) u x1 x3 x4 x6 h
    unfold f_X1_regret_51 at h
    refine lv_iload hx hb dX1_regret_51 (lv_at hl 4 rfl) ?_
    refine u_aload_n (r := some a0) hx hb dX1_regret_53 rfl (lv_at hl 0 rfl) ?_
    obtain ⟨o1, ho1, h⟩ := mbind_n h
    refine u_get hC hP (uGR_n ho1) rfl in_X1 (by decide) q222 (fun _ h => h) dX1_regret_54 ?_
    obtain ⟨a2, ha2, hha2⟩ := mbind_n h
    subst ha2
    have h := hha2
    obtain ⟨c3, h⟩ := mif_n h
    obtain ⟨r6, u4, c5, h⟩ := ucall_n h
    have zu4 := zz_X14_truths N (ub G) (ug G) u a2 r6 u4 c5
    refine u_calli (va_runV (As := []) (rest := [.int x6]) hC.1 (met_X14_truths l N G u a2 r6 u4 c5) (cwV 0 hts (lw_V q1465 q1466 q1467 q131 q1468) rfl rfl rfl (by decide +kernel) ⟨Nat.le_trans (Nat.le_of_ble_eq_true rfl) hR.1, Nat.le_trans (Nat.le_of_ble_eq_true rfl) hR.2⟩) ⟨uPc_blind, u_rcv hC hP c3 rfl, fun U hU hW => u_pre hC hP hS hU hW⟩ rfl rfl hl.1 rfl (lv_room (Nat.le_of_ble_eq_true rfl)) dX1_regret_57 ⟨by omega, by omega⟩) hS (fun H locs hP hS => ?_)
    refine W.cs (cells' := u4.1 - u0.1) (slots' := u4.2.1 - u0.2.1) (by omega) (by omega) ?_
    refine lv_icmp_ge (tgt := 152) hx hb dX1_regret_60 (by decide) (fun c7 => ?_) (fun c7 => ?_)
    · have h := mif_t c7 h
      refine u_aload_n (r := some a0) hx hb dX1_regret_152 rfl (lv_at hl 0 rfl) ?_
      refine lv_lload hx hb dX1_regret_153 (lv_at hl 3 rfl) ?_
      refine lv_l2i (v := x4.toInt32) hx hb dX1_regret_155 rfl ?_
      obtain ⟨c8, h⟩ := mif_n h
      obtain ⟨r11, u9, c10, h⟩ := ucall_n h
      have zu9 := zz_X1_done N (ub G) (ug G) u4 a0 (x4.toInt32) r11 u9 c10
      refine u_calli (va_runV (As := [.int (x4.toInt32)]) (rest := []) hC.1 (met_X1_done l N G u4 a0 (x4.toInt32) r11 u9 c10) (cwV 1 hts (lw_V q1064 q1066 qs14 q98 q1067) rfl rfl rfl (by decide +kernel) ⟨Nat.le_trans (Nat.le_of_ble_eq_true rfl) hR.1, Nat.le_trans (Nat.le_of_ble_eq_true rfl) hR.2⟩) ⟨uPc_blind, u_rcv hC hP c8 rfl, fun U hU hW => u_pre hC hP hS hU hW⟩ rfl rfl hl.1 rfl (lv_room (Nat.le_of_ble_eq_true rfl)) dX1_regret_156 ⟨by omega, by omega⟩) hS (fun H locs hP hS => ?_)
      refine W.cs (cells' := u9.1 - u0.1) (slots' := u9.2.1 - u0.2.1) (by omega) (by omega) ?_
      obtain ⟨hr1, hr2⟩ := uret_n h
      subst hr1
      subst hr2
      exact u_iret hC hP hS dX1_regret_159
    · have h := mif_f c7 h
      refine u_aload_n (r := some a0) hx hb dX1_regret_63 rfl (lv_at hl 0 rfl) ?_
      obtain ⟨o12, ho12, h⟩ := mbind_n h
      refine u_get hC hP (uGR_n ho12) rfl in_X1 (by decide) q222 (fun _ h => h) dX1_regret_64 ?_
      refine lv_iload hx hb dX1_regret_67 (lv_at hl 4 rfl) ?_
      obtain ⟨a13, ha13, hha13⟩ := mbind_n h
      subst ha13
      have h := hha13
      obtain ⟨c14, h⟩ := mif_n h
      obtain ⟨o17, u15, c16, h⟩ := ucall_n h
      have zu15 := zz_X14_truth N (ub G) (ug G) u4 a13 x6 o17 u15 c16
      have hq := zz_X1_regret_72 (G := G) (a0 := a0) N (f_X1_regret_51 N (ub G) (ug G) a0 n) (zz_X1_regret_51 (G := G) (a0 := a0) N n) u15 x1 x3 x4 x6 o17 h
      refine u_callr (va_runV (As := [.int x6]) (rest := []) hC.1 (met_X14_truth l N G u4 a13 x6 o17 u15 c16) (cwV 1 hts (lw_V q1474 q1475 q1476 q131 q1477) rfl rfl rfl (by decide +kernel) ⟨Nat.le_trans (Nat.le_of_ble_eq_true rfl) hR.1, Nat.le_trans (Nat.le_of_ble_eq_true rfl) hR.2⟩) ⟨uPc_blind, u_rcv hC hP c14 rfl, fun U hU hW => u_pre hC hP hS hU hW⟩ rfl rfl hl.1 rfl (lv_room (Nat.le_of_ble_eq_true rfl)) dX1_regret_69 ⟨by omega, by omega⟩) hS (fun H locs hP hS => ?_)
      refine W.cs (cells' := u15.1 - u0.1) (slots' := u15.2.1 - u0.2.1) (by omega) (by omega) ?_
      refine W.cs (cells' := u15.1 - u0.1) (slots' := u15.2.1 - u0.2.1) (by omega) (by omega) ?_
      exact w_X1_regret_72 hC hR hRm N (f_X1_regret_51 N (ub G) (ug G) a0 n) ih (zz_X1_regret_51 (G := G) (a0 := a0) N n) u15 x1 x3 x4 x6 o17 h ⟨by omega, by omega⟩ hP hS (lv_sub hl [0, 1, 2, 3, 4] rfl)
def f_X1_regret_21 (N b : Nat) (g : uEnv) (a0 : Nat) (u : UH) (x1 : Int32) (s0 : Option Nat) : Option (Int32 × UH) :=
    (s0).bind fun a1 =>
    if uIs u a1 1 = true then
    ucall (f_X2_known N b g u a1) fun r5 u3 =>
    if uIs u3 a1 1 = true then
    ucall (f_X2_of N b g u3 a1 x1 r5) fun r9 u7 =>
    if (lg_cmp r9 9223372036854775807) = 0 then
    if uIs u7 a0 0 = true then
    ucall (f_X1_refused N b g u7 a0 6) fun r14 u12 =>
    some (r14, u12)
    else none
    else
    f_X1_regret_51 N b g a0 N u7 x1 (some a1) 0 0
    else none
    else none
set_option maxHeartbeats 4000000 in
set_option maxRecDepth 100000 in
theorem zz_X1_regret_21 {G : uG} {a0 : Nat} {uf : UH} {r : Int32} (N : Nat) (u : UH) (x1 : Int32) (s0 : Option Nat) (h : f_X1_regret_21 N (ub G) (ug G) a0 u x1 s0 = some (r, uf)) : u.1 ≤ uf.1 ∧ u.2.1 ≤ uf.2.1 := by
  unfold f_X1_regret_21 at h
  obtain ⟨a1, ha1, hha1⟩ := mbind_n h
  subst ha1
  have h := hha1
  obtain ⟨c2, h⟩ := mif_n h
  obtain ⟨r5, u3, c4, h⟩ := ucall_n h
  have zu3 := zz_X2_known N (ub G) (ug G) u a1 r5 u3 c4
  obtain ⟨c6, h⟩ := mif_n h
  obtain ⟨r9, u7, c8, h⟩ := ucall_n h
  have zu7 := zz_X2_of N (ub G) (ug G) u3 a1 x1 r5 r9 u7 c8
  by_cases c10 : (lg_cmp r9 9223372036854775807) = 0
  · have h := mif_t c10 h
    obtain ⟨c11, h⟩ := mif_n h
    obtain ⟨r14, u12, c13, h⟩ := ucall_n h
    have zu12 := zz_X1_refused N (ub G) (ug G) u7 a0 6 r14 u12 c13
    obtain ⟨hr1, hr2⟩ := uret_n h
    subst hr2
    exact ⟨by omega, by omega⟩
  · have h := mif_f c10 h
    have hq := zz_X1_regret_51 (G := G) (a0 := a0) N N u7 x1 (some a1) 0 0 h
    exact ⟨by omega, by omega⟩
set_option maxHeartbeats 4000000 in
set_option maxRecDepth 100000 in
theorem w_X1_regret_21 {p : Program} {l : Launch} {e : Env} {R : Room} {s : State} {m : MethodId} {args : Array Value} {below : List Frame} {meth : Method} {c : Code} {G : uG} {a0 : Nat} {u0 : UH} {uf : UH} {r : Int32} (hC : uC p s m args meth c G RX1 cX1_regret 10 (some .int)) (hR : 47 ≤ R.frames ∧ 2572 ≤ R.locals) (hRm : uf.1 - u0.1 ≤ R.cells ∧ uf.2.1 - u0.2.1 ≤ R.slots) (N : Nat) (u : UH) (x1 : Int32) (s0 : Option Nat) (h : f_X1_regret_21 N (ub G) (ug G) a0 u x1 s0 = some (r, uf)) (hz0 : (u0.1 ≤ u.1 ∧ u0.2.1 ≤ u.2.1)) {H : Heap} {locs : List Loc} (hP : uP G u H) (hS : va_S (uA G) s.heap H locs) {ls : Array Slot} (hl : lv_has ls 10 [(0, va_rf (some a0)), (1, .int x1)]) : W p l e R s m args below meth c H locs (u.1 - u0.1) (u.2.1 - u0.2.1) (MQ below (uQi G r uf) args s (uf.1 - u0.1) (uf.2.1 - u0.2.1) (uA G)) (F0 m 21 ls [va_rf s0]) := by
  obtain ⟨⟨hx, hb, hml, hown, hts⟩, hKK⟩ := id hC
  have hzf := zz_X1_regret_21 (G := G) (a0 := a0) N u x1 s0 h
  unfold f_X1_regret_21 at h
  refine u_astore_n (i := 3) (r := s0) (lv' := [(3, va_rf s0), (0, va_rf (some a0)), (1, .int x1)]) hx hb dX1_regret_21 rfl hl (by decide) rfl (fun ls hl => ?_)
  refine u_aload_n (r := s0) hx hb dX1_regret_22 rfl (lv_at hl 0 rfl) ?_
  refine lv_iload_n hx hb dX1_regret_23 rfl (lv_at hl 2 rfl) ?_
  refine u_aload_n (r := s0) hx hb dX1_regret_24 rfl (lv_at hl 0 rfl) ?_
  obtain ⟨a1, ha1, hha1⟩ := mbind_n h
  subst ha1
  have h := hha1
  obtain ⟨c2, h⟩ := mif_n h
  obtain ⟨r5, u3, c4, h⟩ := ucall_n h
  have zu3 := zz_X2_known N (ub G) (ug G) u a1 r5 u3 c4
  refine u_calli (va_runV (As := []) (rest := [.int x1, va_rf (some a1)]) hC.1 (met_X2_known l N G u a1 r5 u3 c4) (cwV 0 hts (lw_V q1330 q1331 q1332 q99 q1333) rfl rfl rfl (by decide +kernel) ⟨Nat.le_trans (Nat.le_of_ble_eq_true rfl) hR.1, Nat.le_trans (Nat.le_of_ble_eq_true rfl) hR.2⟩) ⟨uPc_blind, u_rcv hC hP c2 rfl, fun U hU hW => u_pre hC hP hS hU hW⟩ rfl rfl hl.1 rfl (lv_room (Nat.le_of_ble_eq_true rfl)) dX1_regret_25 ⟨by omega, by omega⟩) hS (fun H locs hP hS => ?_)
  refine W.cs (cells' := u3.1 - u0.1) (slots' := u3.2.1 - u0.2.1) (by omega) (by omega) ?_
  obtain ⟨c6, h⟩ := mif_n h
  obtain ⟨r9, u7, c8, h⟩ := ucall_n h
  have zu7 := zz_X2_of N (ub G) (ug G) u3 a1 x1 r5 r9 u7 c8
  refine u_calll (va_runV (As := [.int x1, .int r5]) (rest := []) hC.1 (met_X2_of l N G u3 a1 x1 r5 r9 u7 c8) (cwV 2 hts (lw_V q1344 q1345 q1346 q99 q1347) rfl rfl rfl (by decide +kernel) ⟨Nat.le_trans (Nat.le_of_ble_eq_true rfl) hR.1, Nat.le_trans (Nat.le_of_ble_eq_true rfl) hR.2⟩) ⟨uPc_blind, u_rcv hC hP c6 rfl, fun U hU hW => u_pre hC hP hS hU hW⟩ rfl rfl hl.1 rfl (lv_room (Nat.le_of_ble_eq_true rfl)) dX1_regret_28 ⟨by omega, by omega⟩) hS (fun H locs hP hS => ?_)
  refine W.cs (cells' := u7.1 - u0.1) (slots' := u7.2.1 - u0.2.1) (by omega) (by omega) ?_
  refine lv_ldc2 hx hb hown (hts _ q1424) dX1_regret_31 ?_
  refine W.lcmp hx hb dX1_regret_34 ?_
  refine lv_if_ne (tgt := 45) hx hb dX1_regret_35 (by decide) (fun c10 => ?_) (fun c10 => ?_)
  · have h := mif_f c10 h
    refine lv_lconst (v := 0) hx hb dX1_regret_45 (by decide) ?_
    refine lv_lstore (lv' := [(4, .long 0), (3, va_rf (some a1)), (0, va_rf (some a0)), (1, .int x1)]) hx hb dX1_regret_46 hl (by decide) rfl (fun ls hl => ?_)
    refine lv_iconst (v := 0) hx hb dX1_regret_48 (by decide) ?_
    refine lv_istore (lv' := [(6, .int 0), (4, .long 0), (3, va_rf (some a1)), (0, va_rf (some a0)), (1, .int x1)]) hx hb dX1_regret_49 hl (by decide) rfl (fun ls hl => ?_)
    refine W.cs (cells' := u7.1 - u0.1) (slots' := u7.2.1 - u0.2.1) (by omega) (by omega) ?_
    exact w_X1_regret_51 hC hR hRm N N u7 x1 (some a1) 0 0 h ⟨by omega, by omega⟩ _ _ hP hS _ (lv_sub hl [3, 4, 2, 1, 0] rfl)
  · have h := mif_t c10 h
    refine u_aload_n (r := some a0) hx hb dX1_regret_38 rfl (lv_at hl 1 rfl) ?_
    refine lv_bipush (v := 6) hx hb dX1_regret_39 (by decide) ?_
    obtain ⟨c11, h⟩ := mif_n h
    obtain ⟨r14, u12, c13, h⟩ := ucall_n h
    have zu12 := zz_X1_refused N (ub G) (ug G) u7 a0 6 r14 u12 c13
    refine u_calli (va_runV (As := [.int 6]) (rest := []) hC.1 (met_X1_refused l N G u7 a0 6 r14 u12 c13) (cwV 1 hts (lw_V q276 q278 qs0 q98 q279) rfl rfl rfl (by decide +kernel) ⟨Nat.le_trans (Nat.le_of_ble_eq_true rfl) hR.1, Nat.le_trans (Nat.le_of_ble_eq_true rfl) hR.2⟩) ⟨uPc_blind, u_rcv hC hP c11 rfl, fun U hU hW => u_pre hC hP hS hU hW⟩ rfl rfl hl.1 rfl (lv_room (Nat.le_of_ble_eq_true rfl)) dX1_regret_41 ⟨by omega, by omega⟩) hS (fun H locs hP hS => ?_)
    refine W.cs (cells' := u12.1 - u0.1) (slots' := u12.2.1 - u0.2.1) (by omega) (by omega) ?_
    obtain ⟨hr1, hr2⟩ := uret_n h
    subst hr1
    subst hr2
    exact u_iret hC hP hS dX1_regret_44
def f_X1_regret (N b : Nat) (g : uEnv) (u : UH) (a0 : Nat) (x1 : Int32) (x2 : Int32) : Option (Int32 × UH) :=
    if uIs u a0 0 = true then
    ucall (f_X1_areCells N b g u a0 x1 x2) fun r4 u2 =>
    if r4 = 0 then
    if uIs u2 a0 0 = true then
    ucall (f_X1_refused N b g u2 a0 1) fun r13 u11 =>
    some (r13, u11)
    else none
    else
    if uIs u2 a0 0 = true then
    ucall (f_X1_solver N b g u2 a0 x2 0) fun o9 u7 =>
    f_X1_regret_21 N b g a0 u7 x1 o9
    else none
    else none
set_option maxHeartbeats 4000000 in
set_option maxRecDepth 100000 in
theorem zz_X1_regret_0 {G : uG} {a0 : Nat} {uf : UH} {r : Int32} (N : Nat) (u : UH) (x1 : Int32) (x2 : Int32) (h : f_X1_regret N (ub G) (ug G) u a0 x1 x2 = some (r, uf)) : u.1 ≤ uf.1 ∧ u.2.1 ≤ uf.2.1 := by
  unfold f_X1_regret at h
  obtain ⟨c1, h⟩ := mif_n h
  obtain ⟨r4, u2, c3, h⟩ := ucall_n h
  have zu2 := zz_X1_areCells N (ub G) (ug G) u a0 x1 x2 r4 u2 c3
  by_cases c5 : r4 = 0
  · have h := mif_t c5 h
    obtain ⟨c10, h⟩ := mif_n h
    obtain ⟨r13, u11, c12, h⟩ := ucall_n h
    have zu11 := zz_X1_refused N (ub G) (ug G) u2 a0 1 r13 u11 c12
    obtain ⟨hr1, hr2⟩ := uret_n h
    subst hr2
    exact ⟨by omega, by omega⟩
  · have h := mif_f c5 h
    obtain ⟨c6, h⟩ := mif_n h
    obtain ⟨o9, u7, c8, h⟩ := ucall_n h
    have zu7 := zz_X1_solver N (ub G) (ug G) u2 a0 x2 0 o9 u7 c8
    have hq := zz_X1_regret_21 (G := G) (a0 := a0) N u7 x1 o9 h
    exact ⟨by omega, by omega⟩
set_option maxHeartbeats 4000000 in
set_option maxRecDepth 100000 in
theorem w_X1_regret_0 {p : Program} {l : Launch} {e : Env} {R : Room} {s : State} {m : MethodId} {args : Array Value} {below : List Frame} {meth : Method} {c : Code} {G : uG} {a0 : Nat} {u0 : UH} {uf : UH} {r : Int32} (hC : uC p s m args meth c G RX1 cX1_regret 10 (some .int)) (hR : 47 ≤ R.frames ∧ 2572 ≤ R.locals) (hRm : uf.1 - u0.1 ≤ R.cells ∧ uf.2.1 - u0.2.1 ≤ R.slots) (N : Nat) (u : UH) (x1 : Int32) (x2 : Int32) (h : f_X1_regret N (ub G) (ug G) u a0 x1 x2 = some (r, uf)) (hz0 : (u0.1 ≤ u.1 ∧ u0.2.1 ≤ u.2.1)) {H : Heap} {locs : List Loc} (hP : uP G u H) (hS : va_S (uA G) s.heap H locs) {ls : Array Slot} (hl : lv_has ls 10 [(0, va_rf (some a0)), (1, .int x1), (2, .int x2)]) : W p l e R s m args below meth c H locs (u.1 - u0.1) (u.2.1 - u0.2.1) (MQ below (uQi G r uf) args s (uf.1 - u0.1) (uf.2.1 - u0.2.1) (uA G)) (F0 m 0 ls []) := by
  obtain ⟨⟨hx, hb, hml, hown, hts⟩, hKK⟩ := id hC
  have hzf := zz_X1_regret_0 (G := G) (a0 := a0) N u x1 x2 h
  unfold f_X1_regret at h
  refine u_aload_n (r := some a0) hx hb dX1_regret_0 rfl (lv_at hl 0 rfl) ?_
  refine lv_iload_n hx hb dX1_regret_1 rfl (lv_at hl 1 rfl) ?_
  refine lv_iload_n hx hb dX1_regret_2 rfl (lv_at hl 2 rfl) ?_
  obtain ⟨c1, h⟩ := mif_n h
  obtain ⟨r4, u2, c3, h⟩ := ucall_n h
  have zu2 := zz_X1_areCells N (ub G) (ug G) u a0 x1 x2 r4 u2 c3
  refine u_calli (va_runV (As := [.int x1, .int x2]) (rest := []) hC.1 (met_X1_areCells l N G u a0 x1 x2 r4 u2 c3) (cwV 2 hts (lw_V q1285 q1287 qs20 q98 q1288) rfl rfl rfl (by decide +kernel) ⟨Nat.le_trans (Nat.le_of_ble_eq_true rfl) hR.1, Nat.le_trans (Nat.le_of_ble_eq_true rfl) hR.2⟩) ⟨uPc_blind, u_rcv hC hP c1 rfl, fun U hU hW => u_pre hC hP hS hU hW⟩ rfl rfl hl.1 rfl (lv_room (Nat.le_of_ble_eq_true rfl)) dX1_regret_3 ⟨by omega, by omega⟩) hS (fun H locs hP hS => ?_)
  refine W.cs (cells' := u2.1 - u0.1) (slots' := u2.2.1 - u0.2.1) (by omega) (by omega) ?_
  refine lv_if_ne (tgt := 15) hx hb dX1_regret_6 (by decide) (fun c5 => ?_) (fun c5 => ?_)
  · have h := mif_f c5 h
    refine u_aload_n (r := some a0) hx hb dX1_regret_15 rfl (lv_at hl 0 rfl) ?_
    refine lv_iload_n hx hb dX1_regret_16 rfl (lv_at hl 2 rfl) ?_
    refine lv_iconst (v := 0) hx hb dX1_regret_17 (by decide) ?_
    obtain ⟨c6, h⟩ := mif_n h
    obtain ⟨o9, u7, c8, h⟩ := ucall_n h
    have zu7 := zz_X1_solver N (ub G) (ug G) u2 a0 x2 0 o9 u7 c8
    have hq := zz_X1_regret_21 (G := G) (a0 := a0) N u7 x1 o9 h
    refine u_callr (va_runV (As := [.int x2, .int 0]) (rest := []) hC.1 (met_X1_solver l N G u2 a0 x2 0 o9 u7 c8) (cwV 2 hts (lw_V q1289 q1291 qs21 q98 q1292) rfl rfl rfl (by decide +kernel) ⟨Nat.le_trans (Nat.le_of_ble_eq_true rfl) hR.1, Nat.le_trans (Nat.le_of_ble_eq_true rfl) hR.2⟩) ⟨uPc_blind, u_rcv hC hP c6 rfl, fun U hU hW => u_pre hC hP hS hU hW⟩ rfl rfl hl.1 rfl (lv_room (Nat.le_of_ble_eq_true rfl)) dX1_regret_18 ⟨by omega, by omega⟩) hS (fun H locs hP hS => ?_)
    refine W.cs (cells' := u7.1 - u0.1) (slots' := u7.2.1 - u0.2.1) (by omega) (by omega) ?_
    refine W.cs (cells' := u7.1 - u0.1) (slots' := u7.2.1 - u0.2.1) (by omega) (by omega) ?_
    exact w_X1_regret_21 hC hR hRm N u7 x1 o9 h ⟨by omega, by omega⟩ hP hS (lv_sub hl [0, 1] rfl)
  · have h := mif_t c5 h
    refine u_aload_n (r := some a0) hx hb dX1_regret_9 rfl (lv_at hl 0 rfl) ?_
    refine lv_iconst (v := 1) hx hb dX1_regret_10 (by decide) ?_
    obtain ⟨c10, h⟩ := mif_n h
    obtain ⟨r13, u11, c12, h⟩ := ucall_n h
    have zu11 := zz_X1_refused N (ub G) (ug G) u2 a0 1 r13 u11 c12
    refine u_calli (va_runV (As := [.int 1]) (rest := []) hC.1 (met_X1_refused l N G u2 a0 1 r13 u11 c12) (cwV 1 hts (lw_V q276 q278 qs0 q98 q279) rfl rfl rfl (by decide +kernel) ⟨Nat.le_trans (Nat.le_of_ble_eq_true rfl) hR.1, Nat.le_trans (Nat.le_of_ble_eq_true rfl) hR.2⟩) ⟨uPc_blind, u_rcv hC hP c10 rfl, fun U hU hW => u_pre hC hP hS hU hW⟩ rfl rfl hl.1 rfl (lv_room (Nat.le_of_ble_eq_true rfl)) dX1_regret_11 ⟨by omega, by omega⟩) hS (fun H locs hP hS => ?_)
    refine W.cs (cells' := u11.1 - u0.1) (slots' := u11.2.1 - u0.2.1) (by omega) (by omega) ?_
    obtain ⟨hr1, hr2⟩ := uret_n h
    subst hr1
    subst hr2
    exact u_iret hC hP hS dX1_regret_14
theorem zz_X1_regret (N b : Nat) (g : uEnv) (u : UH) (a0 : Nat) (x1 : Int32) (x2 : Int32) (r : Int32) (uf : UH) (h : f_X1_regret N b g u a0 x1 x2 = some (r, uf)) : u.1 ≤ uf.1 ∧ u.2.1 ≤ uf.2.1 :=
  zz_X1_regret_0 (G := ((fun _ => 0, fun _ _ => 0), fun _ => 0, b, g)) (a0 := a0) N u x1 x2 h
theorem met_X1_regret (l : Launch) (N : Nat) (G : uG) (u : UH) (a0 : Nat) (x1 : Int32) (x2 : Int32) (r : Int32) (uf : UH) (h : f_X1_regret N (ub G) (ug G) u a0 x1 x2 = some (r, uf)) : Met l yX1_regret (ws_ yX1_regret cX1_regret 10 (some .int)) ({ frames := 47, cells := (uf.1 - u.1), slots := (uf.2.1 - u.2.1), locals := 2572 }) (uPc G u [.ref a0, .int x1, .int x2]) (uQi G r uf) (uf.1 - u.1) (uf.2.1 - u.2.1) (uA G) := by
  exact u_met (own := RX1) (by decide +kernel) rfl (Nat.le_of_ble_eq_true rfl) (fun hC hn hsz ls hl hP => W.cs (Nat.sub_self _).symm (Nat.sub_self _).symm (w_X1_regret_0 hC ⟨Nat.le_refl _, Nat.le_refl _⟩ ⟨Nat.le_refl _, Nat.le_refl _⟩ N u x1 x2 h ⟨Nat.le_refl _, Nat.le_refl _⟩ hP va_S.rf hl))
def f_X1_run_27 (N b : Nat) (g : uEnv) (a0 : Nat) (u : UH) : Option (Int32 × UH) :=
    if uIs u a0 0 = true then
    ucall (f_X1_refused N b g u a0 1) fun r4 u2 =>
    some (r4, u2)
    else none
set_option maxHeartbeats 4000000 in
set_option maxRecDepth 100000 in
theorem zz_X1_run_27 {G : uG} {a0 : Nat} {uf : UH} {r : Int32} (N : Nat) (u : UH) (h : f_X1_run_27 N (ub G) (ug G) a0 u = some (r, uf)) : u.1 ≤ uf.1 ∧ u.2.1 ≤ uf.2.1 := by
  unfold f_X1_run_27 at h
  obtain ⟨c1, h⟩ := mif_n h
  obtain ⟨r4, u2, c3, h⟩ := ucall_n h
  have zu2 := zz_X1_refused N (ub G) (ug G) u a0 1 r4 u2 c3
  obtain ⟨hr1, hr2⟩ := uret_n h
  subst hr2
  exact ⟨by omega, by omega⟩
set_option maxHeartbeats 4000000 in
set_option maxRecDepth 100000 in
theorem w_X1_run_27 {p : Program} {l : Launch} {e : Env} {R : Room} {s : State} {m : MethodId} {args : Array Value} {below : List Frame} {meth : Method} {c : Code} {G : uG} {a0 : Nat} {u0 : UH} {uf : UH} {r : Int32} (hC : uC p s m args meth c G RX1 cX1_run 6 (some .int)) (hR : 47 ≤ R.frames ∧ 2572 ≤ R.locals) (hRm : uf.1 - u0.1 ≤ R.cells ∧ uf.2.1 - u0.2.1 ≤ R.slots) (N : Nat) (u : UH) (h : f_X1_run_27 N (ub G) (ug G) a0 u = some (r, uf)) (hz0 : (u0.1 ≤ u.1 ∧ u0.2.1 ≤ u.2.1)) {H : Heap} {locs : List Loc} (hP : uP G u H) (hS : va_S (uA G) s.heap H locs) {ls : Array Slot} (hl : lv_has ls 6 [(0, va_rf (some a0))]) : W p l e R s m args below meth c H locs (u.1 - u0.1) (u.2.1 - u0.2.1) (MQ below (uQi G r uf) args s (uf.1 - u0.1) (uf.2.1 - u0.2.1) (uA G)) (F0 m 27 ls []) := by
  obtain ⟨⟨hx, hb, hml, hown, hts⟩, hKK⟩ := id hC
  have hzf := zz_X1_run_27 (G := G) (a0 := a0) N u h
  unfold f_X1_run_27 at h
  refine u_aload_n (r := some a0) hx hb dX1_run_27 rfl (lv_at hl 0 rfl) ?_
  refine lv_iconst (v := 1) hx hb dX1_run_28 (by decide) ?_
  obtain ⟨c1, h⟩ := mif_n h
  obtain ⟨r4, u2, c3, h⟩ := ucall_n h
  have zu2 := zz_X1_refused N (ub G) (ug G) u a0 1 r4 u2 c3
  refine u_calli (va_runV (As := [.int 1]) (rest := []) hC.1 (met_X1_refused l N G u a0 1 r4 u2 c3) (cwV 1 hts (lw_V q276 q278 qs0 q98 q279) rfl rfl rfl (by decide +kernel) ⟨Nat.le_trans (Nat.le_of_ble_eq_true rfl) hR.1, Nat.le_trans (Nat.le_of_ble_eq_true rfl) hR.2⟩) ⟨uPc_blind, u_rcv hC hP c1 rfl, fun U hU hW => u_pre hC hP hS hU hW⟩ rfl rfl hl.1 rfl (lv_room (Nat.le_of_ble_eq_true rfl)) dX1_run_29 ⟨by omega, by omega⟩) hS (fun H locs hP hS => ?_)
  refine W.cs (cells' := u2.1 - u0.1) (slots' := u2.2.1 - u0.2.1) (by omega) (by omega) ?_
  obtain ⟨hr1, hr2⟩ := uret_n h
  subst hr1
  subst hr2
  exact u_iret hC hP hS dX1_run_32
def f_X1_run_93 (N b : Nat) (g : uEnv) (a0 : Nat) (u : UH) (s0 : Int32) (s1 : Option Nat) : Option (Int32 × UH) :=
    (s1).bind fun a1 =>
    if uIs u a1 0 = true then
    ucall (f_X1_done N b g u a1 s0) fun r5 u3 =>
    some (r5, u3)
    else none
set_option maxHeartbeats 4000000 in
set_option maxRecDepth 100000 in
theorem zz_X1_run_93 {G : uG} {a0 : Nat} {uf : UH} {r : Int32} (N : Nat) (u : UH) (s0 : Int32) (s1 : Option Nat) (h : f_X1_run_93 N (ub G) (ug G) a0 u s0 s1 = some (r, uf)) : u.1 ≤ uf.1 ∧ u.2.1 ≤ uf.2.1 := by
  unfold f_X1_run_93 at h
  obtain ⟨a1, ha1, hha1⟩ := mbind_n h
  subst ha1
  have h := hha1
  obtain ⟨c2, h⟩ := mif_n h
  obtain ⟨r5, u3, c4, h⟩ := ucall_n h
  have zu3 := zz_X1_done N (ub G) (ug G) u a1 s0 r5 u3 c4
  obtain ⟨hr1, hr2⟩ := uret_n h
  subst hr2
  exact ⟨by omega, by omega⟩
set_option maxHeartbeats 4000000 in
set_option maxRecDepth 100000 in
theorem w_X1_run_93 {p : Program} {l : Launch} {e : Env} {R : Room} {s : State} {m : MethodId} {args : Array Value} {below : List Frame} {meth : Method} {c : Code} {G : uG} {a0 : Nat} {u0 : UH} {uf : UH} {r : Int32} (hC : uC p s m args meth c G RX1 cX1_run 6 (some .int)) (hR : 47 ≤ R.frames ∧ 2572 ≤ R.locals) (hRm : uf.1 - u0.1 ≤ R.cells ∧ uf.2.1 - u0.2.1 ≤ R.slots) (N : Nat) (u : UH) (s0 : Int32) (s1 : Option Nat) (h : f_X1_run_93 N (ub G) (ug G) a0 u s0 s1 = some (r, uf)) (hz0 : (u0.1 ≤ u.1 ∧ u0.2.1 ≤ u.2.1)) {H : Heap} {locs : List Loc} (hP : uP G u H) (hS : va_S (uA G) s.heap H locs) {ls : Array Slot} (hl : lv_has ls 6 []) : W p l e R s m args below meth c H locs (u.1 - u0.1) (u.2.1 - u0.2.1) (MQ below (uQi G r uf) args s (uf.1 - u0.1) (uf.2.1 - u0.2.1) (uA G)) (F0 m 93 ls [.int s0, va_rf s1]) := by
  obtain ⟨⟨hx, hb, hml, hown, hts⟩, hKK⟩ := id hC
  have hzf := zz_X1_run_93 (G := G) (a0 := a0) N u s0 s1 h
  unfold f_X1_run_93 at h
  obtain ⟨a1, ha1, hha1⟩ := mbind_n h
  subst ha1
  have h := hha1
  obtain ⟨c2, h⟩ := mif_n h
  obtain ⟨r5, u3, c4, h⟩ := ucall_n h
  have zu3 := zz_X1_done N (ub G) (ug G) u a1 s0 r5 u3 c4
  refine u_calli (va_runV (As := [.int s0]) (rest := []) hC.1 (met_X1_done l N G u a1 s0 r5 u3 c4) (cwV 1 hts (lw_V q1064 q1066 qs14 q98 q1067) rfl rfl rfl (by decide +kernel) ⟨Nat.le_trans (Nat.le_of_ble_eq_true rfl) hR.1, Nat.le_trans (Nat.le_of_ble_eq_true rfl) hR.2⟩) ⟨uPc_blind, u_rcv hC hP c2 rfl, fun U hU hW => u_pre hC hP hS hU hW⟩ rfl rfl hl.1 rfl (lv_room (Nat.le_of_ble_eq_true rfl)) dX1_run_93 ⟨by omega, by omega⟩) hS (fun H locs hP hS => ?_)
  refine W.cs (cells' := u3.1 - u0.1) (slots' := u3.2.1 - u0.2.1) (by omega) (by omega) ?_
  obtain ⟨hr1, hr2⟩ := uret_n h
  subst hr1
  subst hr2
  exact u_iret hC hP hS dX1_run_96
def f_X1_run_86 (N b : Nat) (g : uEnv) (a0 : Nat) (u : UH) (s0 : Option Nat) (s1 : Int32) (s2 : Option Nat) (s3 : Option Nat) : Option (Int32 × UH) :=
    (uGR u a0 0 9).bind fun o1 =>
    (s2).bind fun a2 =>
    if uIs u a2 1 = true then
    ucall (f_X2_goes N b g u a2 s1 s0 o1) fun r6 u4 =>
    f_X1_run_93 N b g a0 u4 r6 s3
    else none
set_option maxHeartbeats 4000000 in
set_option maxRecDepth 100000 in
theorem zz_X1_run_86 {G : uG} {a0 : Nat} {uf : UH} {r : Int32} (N : Nat) (u : UH) (s0 : Option Nat) (s1 : Int32) (s2 : Option Nat) (s3 : Option Nat) (h : f_X1_run_86 N (ub G) (ug G) a0 u s0 s1 s2 s3 = some (r, uf)) : u.1 ≤ uf.1 ∧ u.2.1 ≤ uf.2.1 := by
  unfold f_X1_run_86 at h
  obtain ⟨o1, ho1, h⟩ := mbind_n h
  obtain ⟨a2, ha2, hha2⟩ := mbind_n h
  subst ha2
  have h := hha2
  obtain ⟨c3, h⟩ := mif_n h
  obtain ⟨r6, u4, c5, h⟩ := ucall_n h
  have zu4 := zz_X2_goes N (ub G) (ug G) u a2 s1 s0 o1 r6 u4 c5
  have hq := zz_X1_run_93 (G := G) (a0 := a0) N u4 r6 s3 h
  exact ⟨by omega, by omega⟩
set_option maxHeartbeats 4000000 in
set_option maxRecDepth 100000 in
theorem w_X1_run_86 {p : Program} {l : Launch} {e : Env} {R : Room} {s : State} {m : MethodId} {args : Array Value} {below : List Frame} {meth : Method} {c : Code} {G : uG} {a0 : Nat} {u0 : UH} {uf : UH} {r : Int32} (hC : uC p s m args meth c G RX1 cX1_run 6 (some .int)) (hR : 47 ≤ R.frames ∧ 2572 ≤ R.locals) (hRm : uf.1 - u0.1 ≤ R.cells ∧ uf.2.1 - u0.2.1 ≤ R.slots) (N : Nat) (u : UH) (s0 : Option Nat) (s1 : Int32) (s2 : Option Nat) (s3 : Option Nat) (h : f_X1_run_86 N (ub G) (ug G) a0 u s0 s1 s2 s3 = some (r, uf)) (hz0 : (u0.1 ≤ u.1 ∧ u0.2.1 ≤ u.2.1)) {H : Heap} {locs : List Loc} (hP : uP G u H) (hS : va_S (uA G) s.heap H locs) {ls : Array Slot} (hl : lv_has ls 6 [(0, va_rf (some a0))]) : W p l e R s m args below meth c H locs (u.1 - u0.1) (u.2.1 - u0.2.1) (MQ below (uQi G r uf) args s (uf.1 - u0.1) (uf.2.1 - u0.2.1) (uA G)) (F0 m 86 ls [va_rf s0, .int s1, va_rf s2, va_rf s3]) := by
  obtain ⟨⟨hx, hb, hml, hown, hts⟩, hKK⟩ := id hC
  have hzf := zz_X1_run_86 (G := G) (a0 := a0) N u s0 s1 s2 s3 h
  unfold f_X1_run_86 at h
  refine u_aload_n (r := some a0) hx hb dX1_run_86 rfl (lv_at hl 0 rfl) ?_
  obtain ⟨o1, ho1, h⟩ := mbind_n h
  refine u_get hC hP (uGR_n ho1) rfl in_X1 (by decide) q224 (fun _ h => h) dX1_run_87 ?_
  obtain ⟨a2, ha2, hha2⟩ := mbind_n h
  subst ha2
  have h := hha2
  obtain ⟨c3, h⟩ := mif_n h
  obtain ⟨r6, u4, c5, h⟩ := ucall_n h
  have zu4 := zz_X2_goes N (ub G) (ug G) u a2 s1 s0 o1 r6 u4 c5
  have hq := zz_X1_run_93 (G := G) (a0 := a0) N u4 r6 s3 h
  refine u_calli (va_runV (As := [.int s1, va_rf s0, va_rf o1]) (rest := [va_rf s3]) hC.1 (met_X2_goes l N G u a2 s1 s0 o1 r6 u4 c5) (cwV 3 hts (lw_V q1483 q1484 q1485 q99 q1486) rfl rfl rfl (by decide +kernel) ⟨Nat.le_trans (Nat.le_of_ble_eq_true rfl) hR.1, Nat.le_trans (Nat.le_of_ble_eq_true rfl) hR.2⟩) ⟨uPc_blind, u_rcv hC hP c3 rfl, fun U hU hW => u_pre hC hP hS hU hW⟩ rfl rfl hl.1 rfl (lv_room (by simp only [List.map, u_cat]; exact Nat.le_of_ble_eq_true rfl)) dX1_run_90 ⟨by omega, by omega⟩) hS (fun H locs hP hS => ?_)
  refine W.cs (cells' := u4.1 - u0.1) (slots' := u4.2.1 - u0.2.1) (by omega) (by omega) ?_
  refine W.cs (cells' := u4.1 - u0.1) (slots' := u4.2.1 - u0.2.1) (by omega) (by omega) ?_
  exact w_X1_run_93 hC hR hRm N u4 r6 s3 h ⟨by omega, by omega⟩ hP hS (lv_sub hl [] rfl)
def f_X1_run_39 (N b : Nat) (g : uEnv) (a0 : Nat) (u : UH) (x1 : Int32) (x4 : Int32) (s0 : Option Nat) : Option (Int32 × UH) :=
    (s0).bind fun a1 =>
    if uIs u a1 1 = true then
    ucall (f_X2_known N b g u a1) fun r5 u3 =>
    if uIs u3 a1 1 = true then
    ucall (f_X2_of N b g u3 a1 x1 r5) fun r9 u7 =>
    if (lg_cmp r9 9223372036854775807) = 0 then
    if uIs u7 a0 0 = true then
    ucall (f_X1_refused N b g u7 a0 6) fun r25 u23 =>
    some (r25, u23)
    else none
    else
    (uGR u7 a0 0 9).bind fun o11 =>
    (o11).bind fun a12 =>
    if uIs u7 a12 18 = true then
    (f_J2_clear N b g u7 a12).bind fun u14 =>
    (uGR u14 a0 0 7).bind fun o16 =>
    (o16).bind fun a17 =>
    if uIs u14 a17 12 = true then
    ucall (f_X14_truth N b g u14 a17 x4) fun o21 u19 =>
    f_X1_run_86 N b g a0 u19 o21 x1 (some a1) (some a0)
    else none
    else none
    else none
    else none
set_option maxHeartbeats 4000000 in
set_option maxRecDepth 100000 in
theorem zz_X1_run_39 {G : uG} {a0 : Nat} {uf : UH} {r : Int32} (N : Nat) (u : UH) (x1 : Int32) (x4 : Int32) (s0 : Option Nat) (h : f_X1_run_39 N (ub G) (ug G) a0 u x1 x4 s0 = some (r, uf)) : u.1 ≤ uf.1 ∧ u.2.1 ≤ uf.2.1 := by
  unfold f_X1_run_39 at h
  obtain ⟨a1, ha1, hha1⟩ := mbind_n h
  subst ha1
  have h := hha1
  obtain ⟨c2, h⟩ := mif_n h
  obtain ⟨r5, u3, c4, h⟩ := ucall_n h
  have zu3 := zz_X2_known N (ub G) (ug G) u a1 r5 u3 c4
  obtain ⟨c6, h⟩ := mif_n h
  obtain ⟨r9, u7, c8, h⟩ := ucall_n h
  have zu7 := zz_X2_of N (ub G) (ug G) u3 a1 x1 r5 r9 u7 c8
  by_cases c10 : (lg_cmp r9 9223372036854775807) = 0
  · have h := mif_t c10 h
    obtain ⟨c22, h⟩ := mif_n h
    obtain ⟨r25, u23, c24, h⟩ := ucall_n h
    have zu23 := zz_X1_refused N (ub G) (ug G) u7 a0 6 r25 u23 c24
    obtain ⟨hr1, hr2⟩ := uret_n h
    subst hr2
    exact ⟨by omega, by omega⟩
  · have h := mif_f c10 h
    obtain ⟨o11, ho11, h⟩ := mbind_n h
    obtain ⟨a12, ha12, hha12⟩ := mbind_n h
    subst ha12
    have h := hha12
    obtain ⟨c13, h⟩ := mif_n h
    obtain ⟨u14, c15, h⟩ := mbind_n h
    have zu14 := zz_J2_clear N (ub G) (ug G) u7 a12 u14 c15
    obtain ⟨o16, ho16, h⟩ := mbind_n h
    obtain ⟨a17, ha17, hha17⟩ := mbind_n h
    subst ha17
    have h := hha17
    obtain ⟨c18, h⟩ := mif_n h
    obtain ⟨o21, u19, c20, h⟩ := ucall_n h
    have zu19 := zz_X14_truth N (ub G) (ug G) u14 a17 x4 o21 u19 c20
    have hq := zz_X1_run_86 (G := G) (a0 := a0) N u19 o21 x1 (some a1) (some a0) h
    exact ⟨by omega, by omega⟩
set_option maxHeartbeats 4000000 in
set_option maxRecDepth 100000 in
theorem w_X1_run_39 {p : Program} {l : Launch} {e : Env} {R : Room} {s : State} {m : MethodId} {args : Array Value} {below : List Frame} {meth : Method} {c : Code} {G : uG} {a0 : Nat} {u0 : UH} {uf : UH} {r : Int32} (hC : uC p s m args meth c G RX1 cX1_run 6 (some .int)) (hR : 47 ≤ R.frames ∧ 2572 ≤ R.locals) (hRm : uf.1 - u0.1 ≤ R.cells ∧ uf.2.1 - u0.2.1 ≤ R.slots) (N : Nat) (u : UH) (x1 : Int32) (x4 : Int32) (s0 : Option Nat) (h : f_X1_run_39 N (ub G) (ug G) a0 u x1 x4 s0 = some (r, uf)) (hz0 : (u0.1 ≤ u.1 ∧ u0.2.1 ≤ u.2.1)) {H : Heap} {locs : List Loc} (hP : uP G u H) (hS : va_S (uA G) s.heap H locs) {ls : Array Slot} (hl : lv_has ls 6 [(0, va_rf (some a0)), (1, .int x1), (4, .int x4)]) : W p l e R s m args below meth c H locs (u.1 - u0.1) (u.2.1 - u0.2.1) (MQ below (uQi G r uf) args s (uf.1 - u0.1) (uf.2.1 - u0.2.1) (uA G)) (F0 m 39 ls [va_rf s0]) := by
  obtain ⟨⟨hx, hb, hml, hown, hts⟩, hKK⟩ := id hC
  have hzf := zz_X1_run_39 (G := G) (a0 := a0) N u x1 x4 s0 h
  unfold f_X1_run_39 at h
  refine u_astore (r := s0) (lv' := [(5, va_rf s0), (0, va_rf (some a0)), (1, .int x1), (4, .int x4)]) hx hb dX1_run_39 hl (by decide) rfl (fun ls hl => ?_)
  refine u_aload (r := s0) hx hb dX1_run_41 (lv_at hl 0 rfl) ?_
  refine lv_iload_n hx hb dX1_run_43 rfl (lv_at hl 2 rfl) ?_
  refine u_aload (r := s0) hx hb dX1_run_44 (lv_at hl 0 rfl) ?_
  obtain ⟨a1, ha1, hha1⟩ := mbind_n h
  subst ha1
  have h := hha1
  obtain ⟨c2, h⟩ := mif_n h
  obtain ⟨r5, u3, c4, h⟩ := ucall_n h
  have zu3 := zz_X2_known N (ub G) (ug G) u a1 r5 u3 c4
  refine u_calli (va_runV (As := []) (rest := [.int x1, va_rf (some a1)]) hC.1 (met_X2_known l N G u a1 r5 u3 c4) (cwV 0 hts (lw_V q1330 q1331 q1332 q99 q1333) rfl rfl rfl (by decide +kernel) ⟨Nat.le_trans (Nat.le_of_ble_eq_true rfl) hR.1, Nat.le_trans (Nat.le_of_ble_eq_true rfl) hR.2⟩) ⟨uPc_blind, u_rcv hC hP c2 rfl, fun U hU hW => u_pre hC hP hS hU hW⟩ rfl rfl hl.1 rfl (lv_room (Nat.le_of_ble_eq_true rfl)) dX1_run_46 ⟨by omega, by omega⟩) hS (fun H locs hP hS => ?_)
  refine W.cs (cells' := u3.1 - u0.1) (slots' := u3.2.1 - u0.2.1) (by omega) (by omega) ?_
  obtain ⟨c6, h⟩ := mif_n h
  obtain ⟨r9, u7, c8, h⟩ := ucall_n h
  have zu7 := zz_X2_of N (ub G) (ug G) u3 a1 x1 r5 r9 u7 c8
  refine u_calll (va_runV (As := [.int x1, .int r5]) (rest := []) hC.1 (met_X2_of l N G u3 a1 x1 r5 r9 u7 c8) (cwV 2 hts (lw_V q1344 q1345 q1346 q99 q1347) rfl rfl rfl (by decide +kernel) ⟨Nat.le_trans (Nat.le_of_ble_eq_true rfl) hR.1, Nat.le_trans (Nat.le_of_ble_eq_true rfl) hR.2⟩) ⟨uPc_blind, u_rcv hC hP c6 rfl, fun U hU hW => u_pre hC hP hS hU hW⟩ rfl rfl hl.1 rfl (lv_room (Nat.le_of_ble_eq_true rfl)) dX1_run_49 ⟨by omega, by omega⟩) hS (fun H locs hP hS => ?_)
  refine W.cs (cells' := u7.1 - u0.1) (slots' := u7.2.1 - u0.2.1) (by omega) (by omega) ?_
  refine lv_ldc2 hx hb hown (hts _ q1424) dX1_run_52 ?_
  refine W.lcmp hx hb dX1_run_55 ?_
  refine lv_if_ne (tgt := 66) hx hb dX1_run_56 (by decide) (fun c10 => ?_) (fun c10 => ?_)
  · have h := mif_f c10 h
    refine u_aload_n (r := some a0) hx hb dX1_run_66 rfl (lv_at hl 1 rfl) ?_
    obtain ⟨o11, ho11, h⟩ := mbind_n h
    refine u_get hC hP (uGR_n ho11) rfl in_X1 (by decide) q224 (fun _ h => h) dX1_run_67 ?_
    obtain ⟨a12, ha12, hha12⟩ := mbind_n h
    subst ha12
    have h := hha12
    obtain ⟨c13, h⟩ := mif_n h
    obtain ⟨u14, c15, h⟩ := mbind_n h
    have zu14 := zz_J2_clear N (ub G) (ug G) u7 a12 u14 c15
    refine u_callv (va_runV (As := []) (rest := []) hC.1 (met_J2_clear l N G u7 a12 u14 c15) (cwV 0 hts (lw_V q1059 q1060 q1061 q102 q1062) rfl rfl rfl (by decide +kernel) ⟨Nat.le_trans (Nat.le_of_ble_eq_true rfl) hR.1, Nat.le_trans (Nat.le_of_ble_eq_true rfl) hR.2⟩) ⟨uPc_blind, u_rcv hC hP c13 rfl, fun U hU hW => u_pre hC hP hS hU hW⟩ rfl rfl hl.1 rfl (lv_room (Nat.le_of_ble_eq_true rfl)) dX1_run_70 ⟨by omega, by omega⟩) hS (fun H locs hP hS => ?_)
    refine W.cs (cells' := u14.1 - u0.1) (slots' := u14.2.1 - u0.2.1) (by omega) (by omega) ?_
    refine u_aload_n (r := some a0) hx hb dX1_run_73 rfl (lv_at hl 1 rfl) ?_
    refine u_aload (r := some a1) hx hb dX1_run_74 (lv_at hl 0 rfl) ?_
    refine lv_iload_n hx hb dX1_run_76 rfl (lv_at hl 2 rfl) ?_
    refine u_aload_n (r := some a0) hx hb dX1_run_77 rfl (lv_at hl 1 rfl) ?_
    obtain ⟨o16, ho16, h⟩ := mbind_n h
    refine u_get hC hP (uGR_n ho16) rfl in_X1 (by decide) q222 (fun _ h => h) dX1_run_78 ?_
    refine lv_iload hx hb dX1_run_81 (lv_at hl 3 rfl) ?_
    obtain ⟨a17, ha17, hha17⟩ := mbind_n h
    subst ha17
    have h := hha17
    obtain ⟨c18, h⟩ := mif_n h
    obtain ⟨o21, u19, c20, h⟩ := ucall_n h
    have zu19 := zz_X14_truth N (ub G) (ug G) u14 a17 x4 o21 u19 c20
    have hq := zz_X1_run_86 (G := G) (a0 := a0) N u19 o21 x1 (some a1) (some a0) h
    refine u_callr (va_runV (As := [.int x4]) (rest := [.int x1, va_rf (some a1), va_rf (some a0)]) hC.1 (met_X14_truth l N G u14 a17 x4 o21 u19 c20) (cwV 1 hts (lw_V q1474 q1475 q1476 q131 q1477) rfl rfl rfl (by decide +kernel) ⟨Nat.le_trans (Nat.le_of_ble_eq_true rfl) hR.1, Nat.le_trans (Nat.le_of_ble_eq_true rfl) hR.2⟩) ⟨uPc_blind, u_rcv hC hP c18 rfl, fun U hU hW => u_pre hC hP hS hU hW⟩ rfl rfl hl.1 rfl (lv_room (Nat.le_of_ble_eq_true rfl)) dX1_run_83 ⟨by omega, by omega⟩) hS (fun H locs hP hS => ?_)
    refine W.cs (cells' := u19.1 - u0.1) (slots' := u19.2.1 - u0.2.1) (by omega) (by omega) ?_
    refine W.cs (cells' := u19.1 - u0.1) (slots' := u19.2.1 - u0.2.1) (by omega) (by omega) ?_
    exact w_X1_run_86 hC hR hRm N u19 o21 x1 (some a1) (some a0) h ⟨by omega, by omega⟩ hP hS (lv_sub hl [1] rfl)
  · have h := mif_t c10 h
    refine u_aload_n (r := some a0) hx hb dX1_run_59 rfl (lv_at hl 1 rfl) ?_
    refine lv_bipush (v := 6) hx hb dX1_run_60 (by decide) ?_
    obtain ⟨c22, h⟩ := mif_n h
    obtain ⟨r25, u23, c24, h⟩ := ucall_n h
    have zu23 := zz_X1_refused N (ub G) (ug G) u7 a0 6 r25 u23 c24
    refine u_calli (va_runV (As := [.int 6]) (rest := []) hC.1 (met_X1_refused l N G u7 a0 6 r25 u23 c24) (cwV 1 hts (lw_V q276 q278 qs0 q98 q279) rfl rfl rfl (by decide +kernel) ⟨Nat.le_trans (Nat.le_of_ble_eq_true rfl) hR.1, Nat.le_trans (Nat.le_of_ble_eq_true rfl) hR.2⟩) ⟨uPc_blind, u_rcv hC hP c22 rfl, fun U hU hW => u_pre hC hP hS hU hW⟩ rfl rfl hl.1 rfl (lv_room (Nat.le_of_ble_eq_true rfl)) dX1_run_62 ⟨by omega, by omega⟩) hS (fun H locs hP hS => ?_)
    refine W.cs (cells' := u23.1 - u0.1) (slots' := u23.2.1 - u0.2.1) (by omega) (by omega) ?_
    obtain ⟨hr1, hr2⟩ := uret_n h
    subst hr1
    subst hr2
    exact u_iret hC hP hS dX1_run_65
def f_X1_run (N b : Nat) (g : uEnv) (u : UH) (a0 : Nat) (x1 : Int32) (x2 : Int32) (x3 : Int32) (x4 : Int32) : Option (Int32 × UH) :=
    if uIs u a0 0 = true then
    ucall (f_X1_areCells N b g u a0 x1 x2) fun r4 u2 =>
    if r4 = 0 then
    f_X1_run_27 N b g a0 u2
    else
    (uGR u2 a0 0 7).bind fun o6 =>
    (o6).bind fun a7 =>
    if uIs u2 a7 12 = true then
    ucall (f_X14_truths N b g u2 a7) fun r11 u9 =>
    ucall (f_X1_in N b g u9 x4 0 (r11 - 1)) fun r14 u12 =>
    if r14 = 0 then
    f_X1_run_27 N b g a0 u12
    else
    if uIs u12 a0 0 = true then
    ucall (f_X1_solver N b g u12 a0 x2 x3) fun o19 u17 =>
    f_X1_run_39 N b g a0 u17 x1 x4 o19
    else none
    else none
    else none
set_option maxHeartbeats 4000000 in
set_option maxRecDepth 100000 in
theorem zz_X1_run_0 {G : uG} {a0 : Nat} {uf : UH} {r : Int32} (N : Nat) (u : UH) (x1 : Int32) (x2 : Int32) (x3 : Int32) (x4 : Int32) (h : f_X1_run N (ub G) (ug G) u a0 x1 x2 x3 x4 = some (r, uf)) : u.1 ≤ uf.1 ∧ u.2.1 ≤ uf.2.1 := by
  unfold f_X1_run at h
  obtain ⟨c1, h⟩ := mif_n h
  obtain ⟨r4, u2, c3, h⟩ := ucall_n h
  have zu2 := zz_X1_areCells N (ub G) (ug G) u a0 x1 x2 r4 u2 c3
  by_cases c5 : r4 = 0
  · have h := mif_t c5 h
    have hq := zz_X1_run_27 (G := G) (a0 := a0) N u2 h
    exact ⟨by omega, by omega⟩
  · have h := mif_f c5 h
    obtain ⟨o6, ho6, h⟩ := mbind_n h
    obtain ⟨a7, ha7, hha7⟩ := mbind_n h
    subst ha7
    have h := hha7
    obtain ⟨c8, h⟩ := mif_n h
    obtain ⟨r11, u9, c10, h⟩ := ucall_n h
    have zu9 := zz_X14_truths N (ub G) (ug G) u2 a7 r11 u9 c10
    obtain ⟨r14, u12, c13, h⟩ := ucall_n h
    have zu12 := zz_X1_in N (ub G) (ug G) u9 x4 0 (r11 - 1) r14 u12 c13
    by_cases c15 : r14 = 0
    · have h := mif_t c15 h
      have hq := zz_X1_run_27 (G := G) (a0 := a0) N u12 h
      exact ⟨by omega, by omega⟩
    · have h := mif_f c15 h
      obtain ⟨c16, h⟩ := mif_n h
      obtain ⟨o19, u17, c18, h⟩ := ucall_n h
      have zu17 := zz_X1_solver N (ub G) (ug G) u12 a0 x2 x3 o19 u17 c18
      have hq := zz_X1_run_39 (G := G) (a0 := a0) N u17 x1 x4 o19 h
      exact ⟨by omega, by omega⟩
set_option maxHeartbeats 4000000 in
set_option maxRecDepth 100000 in
theorem w_X1_run_0 {p : Program} {l : Launch} {e : Env} {R : Room} {s : State} {m : MethodId} {args : Array Value} {below : List Frame} {meth : Method} {c : Code} {G : uG} {a0 : Nat} {u0 : UH} {uf : UH} {r : Int32} (hC : uC p s m args meth c G RX1 cX1_run 6 (some .int)) (hR : 47 ≤ R.frames ∧ 2572 ≤ R.locals) (hRm : uf.1 - u0.1 ≤ R.cells ∧ uf.2.1 - u0.2.1 ≤ R.slots) (N : Nat) (u : UH) (x1 : Int32) (x2 : Int32) (x3 : Int32) (x4 : Int32) (h : f_X1_run N (ub G) (ug G) u a0 x1 x2 x3 x4 = some (r, uf)) (hz0 : (u0.1 ≤ u.1 ∧ u0.2.1 ≤ u.2.1)) {H : Heap} {locs : List Loc} (hP : uP G u H) (hS : va_S (uA G) s.heap H locs) {ls : Array Slot} (hl : lv_has ls 6 [(0, va_rf (some a0)), (1, .int x1), (2, .int x2), (3, .int x3), (4, .int x4)]) : W p l e R s m args below meth c H locs (u.1 - u0.1) (u.2.1 - u0.2.1) (MQ below (uQi G r uf) args s (uf.1 - u0.1) (uf.2.1 - u0.2.1) (uA G)) (F0 m 0 ls []) := by
  obtain ⟨⟨hx, hb, hml, hown, hts⟩, hKK⟩ := id hC
  have hzf := zz_X1_run_0 (G := G) (a0 := a0) N u x1 x2 x3 x4 h
  unfold f_X1_run at h
  refine u_aload_n (r := some a0) hx hb dX1_run_0 rfl (lv_at hl 0 rfl) ?_
  refine lv_iload_n hx hb dX1_run_1 rfl (lv_at hl 1 rfl) ?_
  refine lv_iload_n hx hb dX1_run_2 rfl (lv_at hl 2 rfl) ?_
  obtain ⟨c1, h⟩ := mif_n h
  obtain ⟨r4, u2, c3, h⟩ := ucall_n h
  have zu2 := zz_X1_areCells N (ub G) (ug G) u a0 x1 x2 r4 u2 c3
  refine u_calli (va_runV (As := [.int x1, .int x2]) (rest := []) hC.1 (met_X1_areCells l N G u a0 x1 x2 r4 u2 c3) (cwV 2 hts (lw_V q1285 q1287 qs20 q98 q1288) rfl rfl rfl (by decide +kernel) ⟨Nat.le_trans (Nat.le_of_ble_eq_true rfl) hR.1, Nat.le_trans (Nat.le_of_ble_eq_true rfl) hR.2⟩) ⟨uPc_blind, u_rcv hC hP c1 rfl, fun U hU hW => u_pre hC hP hS hU hW⟩ rfl rfl hl.1 rfl (lv_room (Nat.le_of_ble_eq_true rfl)) dX1_run_3 ⟨by omega, by omega⟩) hS (fun H locs hP hS => ?_)
  refine W.cs (cells' := u2.1 - u0.1) (slots' := u2.2.1 - u0.2.1) (by omega) (by omega) ?_
  refine lv_if_eq (tgt := 27) hx hb dX1_run_6 (by decide) (fun c5 => ?_) (fun c5 => ?_)
  · have h := mif_t c5 h
    refine W.cs (cells' := u2.1 - u0.1) (slots' := u2.2.1 - u0.2.1) (by omega) (by omega) ?_
    exact w_X1_run_27 hC hR hRm N u2 h ⟨by omega, by omega⟩ hP hS (lv_sub hl [0] rfl)
  · have h := mif_f c5 h
    refine lv_iload hx hb dX1_run_9 (lv_at hl 4 rfl) ?_
    refine lv_iconst (v := 0) hx hb dX1_run_11 (by decide) ?_
    refine u_aload_n (r := some a0) hx hb dX1_run_12 rfl (lv_at hl 0 rfl) ?_
    obtain ⟨o6, ho6, h⟩ := mbind_n h
    refine u_get hC hP (uGR_n ho6) rfl in_X1 (by decide) q222 (fun _ h => h) dX1_run_13 ?_
    obtain ⟨a7, ha7, hha7⟩ := mbind_n h
    subst ha7
    have h := hha7
    obtain ⟨c8, h⟩ := mif_n h
    obtain ⟨r11, u9, c10, h⟩ := ucall_n h
    have zu9 := zz_X14_truths N (ub G) (ug G) u2 a7 r11 u9 c10
    refine u_calli (va_runV (As := []) (rest := [.int 0, .int x4]) hC.1 (met_X14_truths l N G u2 a7 r11 u9 c10) (cwV 0 hts (lw_V q1465 q1466 q1467 q131 q1468) rfl rfl rfl (by decide +kernel) ⟨Nat.le_trans (Nat.le_of_ble_eq_true rfl) hR.1, Nat.le_trans (Nat.le_of_ble_eq_true rfl) hR.2⟩) ⟨uPc_blind, u_rcv hC hP c8 rfl, fun U hU hW => u_pre hC hP hS hU hW⟩ rfl rfl hl.1 rfl (lv_room (Nat.le_of_ble_eq_true rfl)) dX1_run_16 ⟨by omega, by omega⟩) hS (fun H locs hP hS => ?_)
    refine W.cs (cells' := u9.1 - u0.1) (slots' := u9.2.1 - u0.2.1) (by omega) (by omega) ?_
    refine lv_iconst (v := 1) hx hb dX1_run_19 (by decide) ?_
    refine lv_isub hx hb dX1_run_20 ?_
    obtain ⟨r14, u12, c13, h⟩ := ucall_n h
    have zu12 := zz_X1_in N (ub G) (ug G) u9 x4 0 (r11 - 1) r14 u12 c13
    refine u_calli (va_runS (As := [.int x4, .int 0, .int (r11 - 1)]) (rest := []) hC.1 (met_X1_in l N G u9 x4 0 (r11 - 1) r14 u12 c13) (va_cwS 3 hts (lw_S q273 q274 q98 q275) rfl rfl rfl (by decide +kernel) ⟨Nat.le_trans (Nat.le_of_ble_eq_true rfl) hR.1, Nat.le_trans (Nat.le_of_ble_eq_true rfl) hR.2⟩) ⟨uPc_blind, fun U hU hW => u_pre hC hP hS hU hW⟩ rfl rfl hl.1 rfl (lv_room (Nat.le_of_ble_eq_true rfl)) dX1_run_21 ⟨by omega, by omega⟩) hS (fun H locs hP hS => ?_)
    refine W.cs (cells' := u12.1 - u0.1) (slots' := u12.2.1 - u0.2.1) (by omega) (by omega) ?_
    refine lv_if_ne (tgt := 33) hx hb dX1_run_24 (by decide) (fun c15 => ?_) (fun c15 => ?_)
    · have h := mif_f c15 h
      refine u_aload_n (r := some a0) hx hb dX1_run_33 rfl (lv_at hl 0 rfl) ?_
      refine lv_iload_n hx hb dX1_run_34 rfl (lv_at hl 2 rfl) ?_
      refine lv_iload_n hx hb dX1_run_35 rfl (lv_at hl 3 rfl) ?_
      obtain ⟨c16, h⟩ := mif_n h
      obtain ⟨o19, u17, c18, h⟩ := ucall_n h
      have zu17 := zz_X1_solver N (ub G) (ug G) u12 a0 x2 x3 o19 u17 c18
      have hq := zz_X1_run_39 (G := G) (a0 := a0) N u17 x1 x4 o19 h
      refine u_callr (va_runV (As := [.int x2, .int x3]) (rest := []) hC.1 (met_X1_solver l N G u12 a0 x2 x3 o19 u17 c18) (cwV 2 hts (lw_V q1289 q1291 qs21 q98 q1292) rfl rfl rfl (by decide +kernel) ⟨Nat.le_trans (Nat.le_of_ble_eq_true rfl) hR.1, Nat.le_trans (Nat.le_of_ble_eq_true rfl) hR.2⟩) ⟨uPc_blind, u_rcv hC hP c16 rfl, fun U hU hW => u_pre hC hP hS hU hW⟩ rfl rfl hl.1 rfl (lv_room (Nat.le_of_ble_eq_true rfl)) dX1_run_36 ⟨by omega, by omega⟩) hS (fun H locs hP hS => ?_)
      refine W.cs (cells' := u17.1 - u0.1) (slots' := u17.2.1 - u0.2.1) (by omega) (by omega) ?_
      refine W.cs (cells' := u17.1 - u0.1) (slots' := u17.2.1 - u0.2.1) (by omega) (by omega) ?_
      exact w_X1_run_39 hC hR hRm N u17 x1 x4 o19 h ⟨by omega, by omega⟩ hP hS (lv_sub hl [0, 1, 4] rfl)
    · have h := mif_t c15 h
      refine W.cs (cells' := u12.1 - u0.1) (slots' := u12.2.1 - u0.2.1) (by omega) (by omega) ?_
      exact w_X1_run_27 hC hR hRm N u12 h ⟨by omega, by omega⟩ hP hS (lv_sub hl [0] rfl)
theorem zz_X1_run (N b : Nat) (g : uEnv) (u : UH) (a0 : Nat) (x1 : Int32) (x2 : Int32) (x3 : Int32) (x4 : Int32) (r : Int32) (uf : UH) (h : f_X1_run N b g u a0 x1 x2 x3 x4 = some (r, uf)) : u.1 ≤ uf.1 ∧ u.2.1 ≤ uf.2.1 :=
  zz_X1_run_0 (G := ((fun _ => 0, fun _ _ => 0), fun _ => 0, b, g)) (a0 := a0) N u x1 x2 x3 x4 h
theorem met_X1_run (l : Launch) (N : Nat) (G : uG) (u : UH) (a0 : Nat) (x1 : Int32) (x2 : Int32) (x3 : Int32) (x4 : Int32) (r : Int32) (uf : UH) (h : f_X1_run N (ub G) (ug G) u a0 x1 x2 x3 x4 = some (r, uf)) : Met l yX1_run (ws_ yX1_run cX1_run 6 (some .int)) ({ frames := 47, cells := (uf.1 - u.1), slots := (uf.2.1 - u.2.1), locals := 2572 }) (uPc G u [.ref a0, .int x1, .int x2, .int x3, .int x4]) (uQi G r uf) (uf.1 - u.1) (uf.2.1 - u.2.1) (uA G) := by
  exact u_met (own := RX1) (by decide +kernel) rfl (Nat.le_of_ble_eq_true rfl) (fun hC hn hsz ls hl hP => W.cs (Nat.sub_self _).symm (Nat.sub_self _).symm (w_X1_run_0 hC ⟨Nat.le_refl _, Nat.le_refl _⟩ ⟨Nat.le_refl _, Nat.le_refl _⟩ N u x1 x2 x3 x4 h ⟨Nat.le_refl _, Nat.le_refl _⟩ hP va_S.rf hl))
def f_X1_spared_17 (N b : Nat) (g : uEnv) (a0 : Nat) (u : UH) : Option (Int32 × UH) :=
    if uIs u a0 0 = true then
    ucall (f_X1_refused N b g u a0 1) fun r4 u2 =>
    some (r4, u2)
    else none
set_option maxHeartbeats 4000000 in
set_option maxRecDepth 100000 in
theorem zz_X1_spared_17 {G : uG} {a0 : Nat} {uf : UH} {r : Int32} (N : Nat) (u : UH) (h : f_X1_spared_17 N (ub G) (ug G) a0 u = some (r, uf)) : u.1 ≤ uf.1 ∧ u.2.1 ≤ uf.2.1 := by
  unfold f_X1_spared_17 at h
  obtain ⟨c1, h⟩ := mif_n h
  obtain ⟨r4, u2, c3, h⟩ := ucall_n h
  have zu2 := zz_X1_refused N (ub G) (ug G) u a0 1 r4 u2 c3
  obtain ⟨hr1, hr2⟩ := uret_n h
  subst hr2
  exact ⟨by omega, by omega⟩
set_option maxHeartbeats 4000000 in
set_option maxRecDepth 100000 in
theorem w_X1_spared_17 {p : Program} {l : Launch} {e : Env} {R : Room} {s : State} {m : MethodId} {args : Array Value} {below : List Frame} {meth : Method} {c : Code} {G : uG} {a0 : Nat} {u0 : UH} {uf : UH} {r : Int32} (hC : uC p s m args meth c G RX1 cX1_spared 12 (some .int)) (hR : 45 ≤ R.frames ∧ 2511 ≤ R.locals) (hRm : uf.1 - u0.1 ≤ R.cells ∧ uf.2.1 - u0.2.1 ≤ R.slots) (N : Nat) (u : UH) (h : f_X1_spared_17 N (ub G) (ug G) a0 u = some (r, uf)) (hz0 : (u0.1 ≤ u.1 ∧ u0.2.1 ≤ u.2.1)) {H : Heap} {locs : List Loc} (hP : uP G u H) (hS : va_S (uA G) s.heap H locs) {ls : Array Slot} (hl : lv_has ls 12 [(0, va_rf (some a0))]) : W p l e R s m args below meth c H locs (u.1 - u0.1) (u.2.1 - u0.2.1) (MQ below (uQi G r uf) args s (uf.1 - u0.1) (uf.2.1 - u0.2.1) (uA G)) (F0 m 17 ls []) := by
  obtain ⟨⟨hx, hb, hml, hown, hts⟩, hKK⟩ := id hC
  have hzf := zz_X1_spared_17 (G := G) (a0 := a0) N u h
  unfold f_X1_spared_17 at h
  refine u_aload_n (r := some a0) hx hb dX1_spared_17 rfl (lv_at hl 0 rfl) ?_
  refine lv_iconst (v := 1) hx hb dX1_spared_18 (by decide) ?_
  obtain ⟨c1, h⟩ := mif_n h
  obtain ⟨r4, u2, c3, h⟩ := ucall_n h
  have zu2 := zz_X1_refused N (ub G) (ug G) u a0 1 r4 u2 c3
  refine u_calli (va_runV (As := [.int 1]) (rest := []) hC.1 (met_X1_refused l N G u a0 1 r4 u2 c3) (cwV 1 hts (lw_V q276 q278 qs0 q98 q279) rfl rfl rfl (by decide +kernel) ⟨Nat.le_trans (Nat.le_of_ble_eq_true rfl) hR.1, Nat.le_trans (Nat.le_of_ble_eq_true rfl) hR.2⟩) ⟨uPc_blind, u_rcv hC hP c1 rfl, fun U hU hW => u_pre hC hP hS hU hW⟩ rfl rfl hl.1 rfl (lv_room (Nat.le_of_ble_eq_true rfl)) dX1_spared_19 ⟨by omega, by omega⟩) hS (fun H locs hP hS => ?_)
  refine W.cs (cells' := u2.1 - u0.1) (slots' := u2.2.1 - u0.2.1) (by omega) (by omega) ?_
  obtain ⟨hr1, hr2⟩ := uret_n h
  subst hr1
  subst hr2
  exact u_iret hC hP hS dX1_spared_22
def f_X1_spared_142 (N b : Nat) (g : uEnv) (a0 : Nat) (k101 : UH → Int32 → Int32 → Option Nat → Option Nat → Int32 → Int64 → Int64 → Int32 → Option (Int32 × UH)) (u : UH) (x1 : Int32) (x2 : Int32) (x4 : Option Nat) (x5 : Option Nat) (x6 : Int32) (x7 : Int64) (x9 : Int64) (x11 : Int32) : Option (Int32 × UH) :=
    mlet (x11 + 1) fun y1 =>
    k101 u x1 x2 x4 x5 x6 x7 x9 y1
set_option maxHeartbeats 4000000 in
set_option maxRecDepth 100000 in
theorem zz_X1_spared_142 {G : uG} {a0 : Nat} {uf : UH} {r : Int32} (N : Nat) (k101 : UH → Int32 → Int32 → Option Nat → Option Nat → Int32 → Int64 → Int64 → Int32 → Option (Int32 × UH)) (hk101 : ∀ (u : UH) (x1 : Int32) (x2 : Int32) (x4 : Option Nat) (x5 : Option Nat) (x6 : Int32) (x7 : Int64) (x9 : Int64) (x11 : Int32), k101 u x1 x2 x4 x5 x6 x7 x9 x11 = some (r, uf) → u.1 ≤ uf.1 ∧ u.2.1 ≤ uf.2.1) (u : UH) (x1 : Int32) (x2 : Int32) (x4 : Option Nat) (x5 : Option Nat) (x6 : Int32) (x7 : Int64) (x9 : Int64) (x11 : Int32) (h : f_X1_spared_142 N (ub G) (ug G) a0 k101 u x1 x2 x4 x5 x6 x7 x9 x11 = some (r, uf)) : u.1 ≤ uf.1 ∧ u.2.1 ≤ uf.2.1 := by
  unfold f_X1_spared_142 at h
  obtain ⟨y1, ey1⟩ : ∃ z : Int32, z = x11 + 1 := ⟨_, rfl⟩
  have h := mlet_at ey1 h
  have hq := hk101 u x1 x2 x4 x5 x6 x7 x9 y1 h
  exact ⟨by omega, by omega⟩
set_option maxHeartbeats 4000000 in
set_option maxRecDepth 100000 in
theorem w_X1_spared_142 {p : Program} {l : Launch} {e : Env} {R : Room} {s : State} {m : MethodId} {args : Array Value} {below : List Frame} {meth : Method} {c : Code} {G : uG} {a0 : Nat} {u0 : UH} {uf : UH} {r : Int32} (hC : uC p s m args meth c G RX1 cX1_spared 12 (some .int)) (hR : 45 ≤ R.frames ∧ 2511 ≤ R.locals) (hRm : uf.1 - u0.1 ≤ R.cells ∧ uf.2.1 - u0.2.1 ≤ R.slots) (N : Nat) (k101 : UH → Int32 → Int32 → Option Nat → Option Nat → Int32 → Int64 → Int64 → Int32 → Option (Int32 × UH)) (hk101 : ∀ (u : UH) (x1 : Int32) (x2 : Int32) (x4 : Option Nat) (x5 : Option Nat) (x6 : Int32) (x7 : Int64) (x9 : Int64) (x11 : Int32), k101 u x1 x2 x4 x5 x6 x7 x9 x11 = some (r, uf) → (u0.1 ≤ u.1 ∧ u0.2.1 ≤ u.2.1) → ∀ (H : Heap) (locs : List Loc), uP G u H → va_S (uA G) s.heap H locs → ∀ ls : Array Slot, lv_has ls 12 [(0, va_rf (some a0)), (1, .int x1), (2, .int x2), (4, va_rf x4), (5, va_rf x5), (6, .int x6), (7, .long x7), (9, .long x9), (11, .int x11)] → W p l e R s m args below meth c H locs (u.1 - u0.1) (u.2.1 - u0.2.1) (MQ below (uQi G r uf) args s (uf.1 - u0.1) (uf.2.1 - u0.2.1) (uA G)) (F0 m 101 ls [])) (zk101 : ∀ (u : UH) (x1 : Int32) (x2 : Int32) (x4 : Option Nat) (x5 : Option Nat) (x6 : Int32) (x7 : Int64) (x9 : Int64) (x11 : Int32), k101 u x1 x2 x4 x5 x6 x7 x9 x11 = some (r, uf) → u.1 ≤ uf.1 ∧ u.2.1 ≤ uf.2.1) (u : UH) (x1 : Int32) (x2 : Int32) (x4 : Option Nat) (x5 : Option Nat) (x6 : Int32) (x7 : Int64) (x9 : Int64) (x11 : Int32) (h : f_X1_spared_142 N (ub G) (ug G) a0 k101 u x1 x2 x4 x5 x6 x7 x9 x11 = some (r, uf)) (hz0 : (u0.1 ≤ u.1 ∧ u0.2.1 ≤ u.2.1)) {H : Heap} {locs : List Loc} (hP : uP G u H) (hS : va_S (uA G) s.heap H locs) {ls : Array Slot} (hl : lv_has ls 12 [(0, va_rf (some a0)), (1, .int x1), (2, .int x2), (4, va_rf x4), (5, va_rf x5), (6, .int x6), (7, .long x7), (9, .long x9), (11, .int x11)]) : W p l e R s m args below meth c H locs (u.1 - u0.1) (u.2.1 - u0.2.1) (MQ below (uQi G r uf) args s (uf.1 - u0.1) (uf.2.1 - u0.2.1) (uA G)) (F0 m 142 ls []) := by
  obtain ⟨⟨hx, hb, hml, hown, hts⟩, hKK⟩ := id hC
  have hzf := zz_X1_spared_142 (G := G) (a0 := a0) N k101 zk101 u x1 x2 x4 x5 x6 x7 x9 x11 h
  unfold f_X1_spared_142 at h
  obtain ⟨y1, ey1⟩ : ∃ z : Int32, z = x11 + 1 := ⟨_, rfl⟩
  have h := mlet_at ey1 h
  refine lv_iinc (v := y1) (lv' := [(11, .int y1), (0, va_rf (some a0)), (1, .int x1), (2, .int x2), (4, va_rf x4), (5, va_rf x5), (6, .int x6), (7, .long x7), (9, .long x9)]) hx hb dX1_spared_142 hl (k := 8) rfl (by rw [ey1]; rfl) (by decide) rfl (fun ls hl => ?_)
  refine lv_goto (tgt := 101) hx hb dX1_spared_145 (by decide) ?_
  refine W.cs (cells' := u.1 - u0.1) (slots' := u.2.1 - u0.2.1) (by omega) (by omega) ?_
  exact hk101 u x1 x2 x4 x5 x6 x7 x9 y1 h ⟨by omega, by omega⟩ _ _ hP hS _ (lv_sub hl [1, 2, 3, 4, 5, 6, 7, 8, 0] rfl)
def f_X1_spared_101 (N b : Nat) (g : uEnv) (a0 : Nat) : Nat → UH → Int32 → Int32 → Option Nat → Option Nat → Int32 → Int64 → Int64 → Int32 → Option (Int32 × UH)
  | 0, _, _, _, _, _, _, _, _, _ => none
  | n + 1, u, x1, x2, x4, x5, x6, x7, x9, x11 =>
    if 8 ≤ x11 then
    if uIs u a0 0 = true then
    ucall (f_X1_done N b g u a0 ((x7 - x9).toInt32)) fun r5 u3 =>
    some (r5, u3)
    else none
    else
    (x4).bind fun a6 =>
    (uGR u a6 13 1).bind fun o7 =>
    (o7).bind fun a8 =>
    (uLdI u a8 0 x11).bind fun y9 =>
    if y9 ≤ 0 then
    f_X1_spared_142 N b g a0 (f_X1_spared_101 N b g a0 n) u x1 x2 (some a6) x5 x6 x7 x9 x11
    else
    (x5).bind fun a11 =>
    if uIs u a11 1 = true then
    ucall (f_X2_knows N b g u a11 x6 x1 x11) fun r15 u13 =>
    if uIs u13 a11 1 = true then
    ucall (f_X2_of N b g u13 a11 x2 r15) fun r19 u17 =>
    ucall (f_J9_max_2 N b g u17 x9 r19) fun r22 u20 =>
    f_X1_spared_142 N b g a0 (f_X1_spared_101 N b g a0 n) u20 x1 x2 (some a6) (some a11) x6 x7 r22 x11
    else none
    else none
set_option maxHeartbeats 4000000 in
set_option maxRecDepth 100000 in
theorem zz_X1_spared_101 {G : uG} {a0 : Nat} {uf : UH} {r : Int32} (N : Nat) : ∀ (n : Nat) (u : UH) (x1 : Int32) (x2 : Int32) (x4 : Option Nat) (x5 : Option Nat) (x6 : Int32) (x7 : Int64) (x9 : Int64) (x11 : Int32), f_X1_spared_101 N (ub G) (ug G) a0 n u x1 x2 x4 x5 x6 x7 x9 x11 = some (r, uf) → u.1 ≤ uf.1 ∧ u.2.1 ≤ uf.2.1 := by
  intro n
  induction n with
  | zero =>
    intro u x1 x2 x4 x5 x6 x7 x9 x11 h
    cases h
  | succ n ih =>
    intro u x1 x2 x4 x5 x6 x7 x9 x11 h
    unfold f_X1_spared_101 at h
    by_cases c1 : 8 ≤ x11
    · have h := mif_t c1 h
      obtain ⟨c2, h⟩ := mif_n h
      obtain ⟨r5, u3, c4, h⟩ := ucall_n h
      have zu3 := zz_X1_done N (ub G) (ug G) u a0 ((x7 - x9).toInt32) r5 u3 c4
      obtain ⟨hr1, hr2⟩ := uret_n h
      subst hr2
      exact ⟨by omega, by omega⟩
    · have h := mif_f c1 h
      obtain ⟨a6, ha6, hha6⟩ := mbind_n h
      subst ha6
      have h := hha6
      obtain ⟨o7, ho7, h⟩ := mbind_n h
      obtain ⟨a8, ha8, hha8⟩ := mbind_n h
      subst ha8
      have h := hha8
      obtain ⟨y9, hy9, h⟩ := mbind_n h
      by_cases c10 : y9 ≤ 0
      · have h := mif_t c10 h
        have hq := zz_X1_spared_142 (G := G) (a0 := a0) N (f_X1_spared_101 N (ub G) (ug G) a0 n) ih u x1 x2 (some a6) x5 x6 x7 x9 x11 h
        exact ⟨by omega, by omega⟩
      · have h := mif_f c10 h
        obtain ⟨a11, ha11, hha11⟩ := mbind_n h
        subst ha11
        have h := hha11
        obtain ⟨c12, h⟩ := mif_n h
        obtain ⟨r15, u13, c14, h⟩ := ucall_n h
        have zu13 := zz_X2_knows N (ub G) (ug G) u a11 x6 x1 x11 r15 u13 c14
        obtain ⟨c16, h⟩ := mif_n h
        obtain ⟨r19, u17, c18, h⟩ := ucall_n h
        have zu17 := zz_X2_of N (ub G) (ug G) u13 a11 x2 r15 r19 u17 c18
        obtain ⟨r22, u20, c21, h⟩ := ucall_n h
        have zu20 := zz_J9_max_2 N (ub G) (ug G) u17 x9 r19 r22 u20 c21
        have hq := zz_X1_spared_142 (G := G) (a0 := a0) N (f_X1_spared_101 N (ub G) (ug G) a0 n) ih u20 x1 x2 (some a6) (some a11) x6 x7 r22 x11 h
        exact ⟨by omega, by omega⟩
set_option maxHeartbeats 4000000 in
set_option maxRecDepth 100000 in
theorem w_X1_spared_101 {p : Program} {l : Launch} {e : Env} {R : Room} {s : State} {m : MethodId} {args : Array Value} {below : List Frame} {meth : Method} {c : Code} {G : uG} {a0 : Nat} {u0 : UH} {uf : UH} {r : Int32} (hC : uC p s m args meth c G RX1 cX1_spared 12 (some .int)) (hR : 45 ≤ R.frames ∧ 2511 ≤ R.locals) (hRm : uf.1 - u0.1 ≤ R.cells ∧ uf.2.1 - u0.2.1 ≤ R.slots) (N : Nat) : ∀ (n : Nat) (u : UH) (x1 : Int32) (x2 : Int32) (x4 : Option Nat) (x5 : Option Nat) (x6 : Int32) (x7 : Int64) (x9 : Int64) (x11 : Int32), f_X1_spared_101 N (ub G) (ug G) a0 n u x1 x2 x4 x5 x6 x7 x9 x11 = some (r, uf) → (u0.1 ≤ u.1 ∧ u0.2.1 ≤ u.2.1) → ∀ (H : Heap) (locs : List Loc), uP G u H → va_S (uA G) s.heap H locs → ∀ ls : Array Slot, lv_has ls 12 [(0, va_rf (some a0)), (1, .int x1), (2, .int x2), (4, va_rf x4), (5, va_rf x5), (6, .int x6), (7, .long x7), (9, .long x9), (11, .int x11)] → W p l e R s m args below meth c H locs (u.1 - u0.1) (u.2.1 - u0.2.1) (MQ below (uQi G r uf) args s (uf.1 - u0.1) (uf.2.1 - u0.2.1) (uA G)) (F0 m 101 ls []) := by
  obtain ⟨⟨hx, hb, hml, hown, hts⟩, hKK⟩ := id hC
  intro n
  induction n with
  | zero =>
    intro u x1 x2 x4 x5 x6 x7 x9 x11 h
    cases h
  | succ n ih =>
    intro u x1 x2 x4 x5 x6 x7 x9 x11 h hz0 H locs hP hS ls hl
    have hzf := zz_X1_spared_101 (G := G) (a0 := a0) N (n + 1) u x1 x2 x4 x5 x6 x7 x9 x11 h
    unfold f_X1_spared_101 at h
    refine lv_iload hx hb dX1_spared_101 (lv_at hl 8 rfl) ?_
    refine lv_bipush (v := 8) hx hb dX1_spared_103 (by decide) ?_
    refine lv_icmp_ge (tgt := 148) hx hb dX1_spared_105 (by decide) (fun c1 => ?_) (fun c1 => ?_)
    · have h := mif_t c1 h
      refine u_aload_n (r := some a0) hx hb dX1_spared_148 rfl (lv_at hl 0 rfl) ?_
      refine lv_lload hx hb dX1_spared_149 (lv_at hl 6 rfl) ?_
      refine lv_lload hx hb dX1_spared_151 (lv_at hl 7 rfl) ?_
      refine lv_lsub hx hb dX1_spared_153 ?_
      refine lv_l2i (v := (x7 - x9).toInt32) hx hb dX1_spared_154 rfl ?_
      obtain ⟨c2, h⟩ := mif_n h
      obtain ⟨r5, u3, c4, h⟩ := ucall_n h
      have zu3 := zz_X1_done N (ub G) (ug G) u a0 ((x7 - x9).toInt32) r5 u3 c4
      refine u_calli (va_runV (As := [.int ((x7 - x9).toInt32)]) (rest := []) hC.1 (met_X1_done l N G u a0 ((x7 - x9).toInt32) r5 u3 c4) (cwV 1 hts (lw_V q1064 q1066 qs14 q98 q1067) rfl rfl rfl (by decide +kernel) ⟨Nat.le_trans (Nat.le_of_ble_eq_true rfl) hR.1, Nat.le_trans (Nat.le_of_ble_eq_true rfl) hR.2⟩) ⟨uPc_blind, u_rcv hC hP c2 rfl, fun U hU hW => u_pre hC hP hS hU hW⟩ rfl rfl hl.1 rfl (lv_room (Nat.le_of_ble_eq_true rfl)) dX1_spared_155 ⟨by omega, by omega⟩) hS (fun H locs hP hS => ?_)
      refine W.cs (cells' := u3.1 - u0.1) (slots' := u3.2.1 - u0.2.1) (by omega) (by omega) ?_
      obtain ⟨hr1, hr2⟩ := uret_n h
      subst hr1
      subst hr2
      exact u_iret hC hP hS dX1_spared_158
    · have h := mif_f c1 h
      refine u_aload (r := x4) hx hb dX1_spared_108 (lv_at hl 3 rfl) ?_
      obtain ⟨a6, ha6, hha6⟩ := mbind_n h
      subst ha6
      have h := hha6
      obtain ⟨o7, ho7, h⟩ := mbind_n h
      refine u_getN hC hP (uGR_n ho7) rfl in_X15 (by decide) q1219 (fun _ h => h) dX1_spared_110 ?_
      refine lv_iload hx hb dX1_spared_113 (lv_at hl 8 rfl) ?_
      obtain ⟨a8, ha8, hha8⟩ := mbind_n h
      subst ha8
      have h := hha8
      obtain ⟨y9, hy9, h⟩ := mbind_n h
      refine u_iald hC hP hy9 rfl dX1_spared_115 ?_
      refine lv_if_le (tgt := 142) hx hb dX1_spared_116 (by decide) (fun c10 => ?_) (fun c10 => ?_)
      · have h := mif_t c10 h
        refine W.cs (cells' := u.1 - u0.1) (slots' := u.2.1 - u0.2.1) (by omega) (by omega) ?_
        exact w_X1_spared_142 hC hR hRm N (f_X1_spared_101 N (ub G) (ug G) a0 n) ih (zz_X1_spared_101 (G := G) (a0 := a0) N n) u x1 x2 (some a6) x5 x6 x7 x9 x11 h ⟨by omega, by omega⟩ hP hS (lv_sub hl [0, 1, 2, 3, 4, 5, 6, 7, 8] rfl)
      · have h := mif_f c10 h
        refine lv_lload hx hb dX1_spared_119 (lv_at hl 7 rfl) ?_
        refine u_aload (r := x5) hx hb dX1_spared_121 (lv_at hl 4 rfl) ?_
        refine lv_iload_n hx hb dX1_spared_123 rfl (lv_at hl 2 rfl) ?_
        refine u_aload (r := x5) hx hb dX1_spared_124 (lv_at hl 4 rfl) ?_
        refine lv_iload hx hb dX1_spared_126 (lv_at hl 5 rfl) ?_
        refine lv_iload_n hx hb dX1_spared_128 rfl (lv_at hl 1 rfl) ?_
        refine lv_iload hx hb dX1_spared_129 (lv_at hl 8 rfl) ?_
        obtain ⟨a11, ha11, hha11⟩ := mbind_n h
        subst ha11
        have h := hha11
        obtain ⟨c12, h⟩ := mif_n h
        obtain ⟨r15, u13, c14, h⟩ := ucall_n h
        have zu13 := zz_X2_knows N (ub G) (ug G) u a11 x6 x1 x11 r15 u13 c14
        refine u_calli (va_runV (As := [.int x6, .int x1, .int x11]) (rest := [.int x2, va_rf (some a11), .long x9]) hC.1 (met_X2_knows l N G u a11 x6 x1 x11 r15 u13 c14) (cwV 3 hts (lw_V q1525 q1337 q1338 q99 q1339) rfl rfl rfl (by decide +kernel) ⟨Nat.le_trans (Nat.le_of_ble_eq_true rfl) hR.1, Nat.le_trans (Nat.le_of_ble_eq_true rfl) hR.2⟩) ⟨uPc_blind, u_rcv hC hP c12 rfl, fun U hU hW => u_pre hC hP hS hU hW⟩ rfl rfl hl.1 rfl (lv_room (Nat.le_of_ble_eq_true rfl)) dX1_spared_131 ⟨by omega, by omega⟩) hS (fun H locs hP hS => ?_)
        refine W.cs (cells' := u13.1 - u0.1) (slots' := u13.2.1 - u0.2.1) (by omega) (by omega) ?_
        obtain ⟨c16, h⟩ := mif_n h
        obtain ⟨r19, u17, c18, h⟩ := ucall_n h
        have zu17 := zz_X2_of N (ub G) (ug G) u13 a11 x2 r15 r19 u17 c18
        refine u_calll (va_runV (As := [.int x2, .int r15]) (rest := [.long x9]) hC.1 (met_X2_of l N G u13 a11 x2 r15 r19 u17 c18) (cwV 2 hts (lw_V q1344 q1345 q1346 q99 q1347) rfl rfl rfl (by decide +kernel) ⟨Nat.le_trans (Nat.le_of_ble_eq_true rfl) hR.1, Nat.le_trans (Nat.le_of_ble_eq_true rfl) hR.2⟩) ⟨uPc_blind, u_rcv hC hP c16 rfl, fun U hU hW => u_pre hC hP hS hU hW⟩ rfl rfl hl.1 rfl (lv_room (Nat.le_of_ble_eq_true rfl)) dX1_spared_134 ⟨by omega, by omega⟩) hS (fun H locs hP hS => ?_)
        refine W.cs (cells' := u17.1 - u0.1) (slots' := u17.2.1 - u0.2.1) (by omega) (by omega) ?_
        obtain ⟨r22, u20, c21, h⟩ := ucall_n h
        have zu20 := zz_J9_max_2 N (ub G) (ug G) u17 x9 r19 r22 u20 c21
        refine u_calll (va_runS (As := [.long x9, .long r19]) (rest := []) hC.1 (met_J9_max_2 l N G u17 x9 r19 r22 u20 c21) (va_cwS 2 hts (lw_S q1526 q1387 q113 q1388) rfl rfl rfl (by decide +kernel) ⟨Nat.le_trans (Nat.le_of_ble_eq_true rfl) hR.1, Nat.le_trans (Nat.le_of_ble_eq_true rfl) hR.2⟩) ⟨uPc_blind, fun U hU hW => u_pre hC hP hS hU hW⟩ rfl rfl hl.1 rfl (lv_room (Nat.le_of_ble_eq_true rfl)) dX1_spared_137 ⟨by omega, by omega⟩) hS (fun H locs hP hS => ?_)
        refine W.cs (cells' := u20.1 - u0.1) (slots' := u20.2.1 - u0.2.1) (by omega) (by omega) ?_
        refine lv_lstore (lv' := [(9, .long r22), (0, va_rf (some a0)), (1, .int x1), (2, .int x2), (4, va_rf (some a6)), (5, va_rf (some a11)), (6, .int x6), (7, .long x7), (11, .int x11)]) hx hb dX1_spared_140 hl (by decide) rfl (fun ls hl => ?_)
        refine W.cs (cells' := u20.1 - u0.1) (slots' := u20.2.1 - u0.2.1) (by omega) (by omega) ?_
        exact w_X1_spared_142 hC hR hRm N (f_X1_spared_101 N (ub G) (ug G) a0 n) ih (zz_X1_spared_101 (G := G) (a0 := a0) N n) u20 x1 x2 (some a6) (some a11) x6 x7 r22 x11 h ⟨by omega, by omega⟩ hP hS (lv_sub hl [1, 2, 3, 4, 5, 6, 7, 0, 8] rfl)
def f_X1_spared_60 (N b : Nat) (g : uEnv) (a0 : Nat) (u : UH) (x1 : Int32) (x2 : Int32) (x4 : Option Nat) (s0 : Option Nat) : Option (Int32 × UH) :=
    (s0).bind fun a1 =>
    if uIs u a1 1 = true then
    ucall (f_X2_known N b g u a1) fun r5 u3 =>
    if uIs u3 a1 1 = true then
    ucall (f_X2_of N b g u3 a1 x2 r5) fun r9 u7 =>
    if (lg_cmp r9 9223372036854775807) = 0 then
    if uIs u7 a0 0 = true then
    ucall (f_X1_refused N b g u7 a0 6) fun r14 u12 =>
    some (r14, u12)
    else none
    else
    f_X1_spared_101 N b g a0 N u7 x1 x2 x4 (some a1) r5 r9 0 0
    else none
    else none
set_option maxHeartbeats 4000000 in
set_option maxRecDepth 100000 in
theorem zz_X1_spared_60 {G : uG} {a0 : Nat} {uf : UH} {r : Int32} (N : Nat) (u : UH) (x1 : Int32) (x2 : Int32) (x4 : Option Nat) (s0 : Option Nat) (h : f_X1_spared_60 N (ub G) (ug G) a0 u x1 x2 x4 s0 = some (r, uf)) : u.1 ≤ uf.1 ∧ u.2.1 ≤ uf.2.1 := by
  unfold f_X1_spared_60 at h
  obtain ⟨a1, ha1, hha1⟩ := mbind_n h
  subst ha1
  have h := hha1
  obtain ⟨c2, h⟩ := mif_n h
  obtain ⟨r5, u3, c4, h⟩ := ucall_n h
  have zu3 := zz_X2_known N (ub G) (ug G) u a1 r5 u3 c4
  obtain ⟨c6, h⟩ := mif_n h
  obtain ⟨r9, u7, c8, h⟩ := ucall_n h
  have zu7 := zz_X2_of N (ub G) (ug G) u3 a1 x2 r5 r9 u7 c8
  by_cases c10 : (lg_cmp r9 9223372036854775807) = 0
  · have h := mif_t c10 h
    obtain ⟨c11, h⟩ := mif_n h
    obtain ⟨r14, u12, c13, h⟩ := ucall_n h
    have zu12 := zz_X1_refused N (ub G) (ug G) u7 a0 6 r14 u12 c13
    obtain ⟨hr1, hr2⟩ := uret_n h
    subst hr2
    exact ⟨by omega, by omega⟩
  · have h := mif_f c10 h
    have hq := zz_X1_spared_101 (G := G) (a0 := a0) N N u7 x1 x2 x4 (some a1) r5 r9 0 0 h
    exact ⟨by omega, by omega⟩
set_option maxHeartbeats 4000000 in
set_option maxRecDepth 100000 in
theorem w_X1_spared_60 {p : Program} {l : Launch} {e : Env} {R : Room} {s : State} {m : MethodId} {args : Array Value} {below : List Frame} {meth : Method} {c : Code} {G : uG} {a0 : Nat} {u0 : UH} {uf : UH} {r : Int32} (hC : uC p s m args meth c G RX1 cX1_spared 12 (some .int)) (hR : 45 ≤ R.frames ∧ 2511 ≤ R.locals) (hRm : uf.1 - u0.1 ≤ R.cells ∧ uf.2.1 - u0.2.1 ≤ R.slots) (N : Nat) (u : UH) (x1 : Int32) (x2 : Int32) (x4 : Option Nat) (s0 : Option Nat) (h : f_X1_spared_60 N (ub G) (ug G) a0 u x1 x2 x4 s0 = some (r, uf)) (hz0 : (u0.1 ≤ u.1 ∧ u0.2.1 ≤ u.2.1)) {H : Heap} {locs : List Loc} (hP : uP G u H) (hS : va_S (uA G) s.heap H locs) {ls : Array Slot} (hl : lv_has ls 12 [(0, va_rf (some a0)), (1, .int x1), (2, .int x2), (4, va_rf x4)]) : W p l e R s m args below meth c H locs (u.1 - u0.1) (u.2.1 - u0.2.1) (MQ below (uQi G r uf) args s (uf.1 - u0.1) (uf.2.1 - u0.2.1) (uA G)) (F0 m 60 ls [va_rf s0]) := by
  obtain ⟨⟨hx, hb, hml, hown, hts⟩, hKK⟩ := id hC
  have hzf := zz_X1_spared_60 (G := G) (a0 := a0) N u x1 x2 x4 s0 h
  unfold f_X1_spared_60 at h
  refine u_astore (r := s0) (lv' := [(5, va_rf s0), (0, va_rf (some a0)), (1, .int x1), (2, .int x2), (4, va_rf x4)]) hx hb dX1_spared_60 hl (by decide) (by simp [List.filter_cons, u_cat]) (fun ls hl => ?_)
  refine u_aload (r := s0) hx hb dX1_spared_62 (lv_at hl 0 rfl) ?_
  obtain ⟨a1, ha1, hha1⟩ := mbind_n h
  subst ha1
  have h := hha1
  obtain ⟨c2, h⟩ := mif_n h
  obtain ⟨r5, u3, c4, h⟩ := ucall_n h
  have zu3 := zz_X2_known N (ub G) (ug G) u a1 r5 u3 c4
  refine u_calli (va_runV (As := []) (rest := []) hC.1 (met_X2_known l N G u a1 r5 u3 c4) (cwV 0 hts (lw_V q1330 q1331 q1332 q99 q1333) rfl rfl rfl (by decide +kernel) ⟨Nat.le_trans (Nat.le_of_ble_eq_true rfl) hR.1, Nat.le_trans (Nat.le_of_ble_eq_true rfl) hR.2⟩) ⟨uPc_blind, u_rcv hC hP c2 rfl, fun U hU hW => u_pre hC hP hS hU hW⟩ rfl rfl hl.1 rfl (lv_room (Nat.le_of_ble_eq_true rfl)) dX1_spared_64 ⟨by omega, by omega⟩) hS (fun H locs hP hS => ?_)
  refine W.cs (cells' := u3.1 - u0.1) (slots' := u3.2.1 - u0.2.1) (by omega) (by omega) ?_
  refine lv_istore (lv' := [(6, .int r5), (5, va_rf (some a1)), (0, va_rf (some a0)), (1, .int x1), (2, .int x2), (4, va_rf x4)]) hx hb dX1_spared_67 hl (by decide) rfl (fun ls hl => ?_)
  refine u_aload (r := some a1) hx hb dX1_spared_69 (lv_at hl 1 rfl) ?_
  refine lv_iload_n hx hb dX1_spared_71 rfl (lv_at hl 4 rfl) ?_
  refine lv_iload hx hb dX1_spared_72 (lv_at hl 0 rfl) ?_
  obtain ⟨c6, h⟩ := mif_n h
  obtain ⟨r9, u7, c8, h⟩ := ucall_n h
  have zu7 := zz_X2_of N (ub G) (ug G) u3 a1 x2 r5 r9 u7 c8
  refine u_calll (va_runV (As := [.int x2, .int r5]) (rest := []) hC.1 (met_X2_of l N G u3 a1 x2 r5 r9 u7 c8) (cwV 2 hts (lw_V q1344 q1345 q1346 q99 q1347) rfl rfl rfl (by decide +kernel) ⟨Nat.le_trans (Nat.le_of_ble_eq_true rfl) hR.1, Nat.le_trans (Nat.le_of_ble_eq_true rfl) hR.2⟩) ⟨uPc_blind, u_rcv hC hP c6 rfl, fun U hU hW => u_pre hC hP hS hU hW⟩ rfl rfl hl.1 rfl (lv_room (Nat.le_of_ble_eq_true rfl)) dX1_spared_74 ⟨by omega, by omega⟩) hS (fun H locs hP hS => ?_)
  refine W.cs (cells' := u7.1 - u0.1) (slots' := u7.2.1 - u0.2.1) (by omega) (by omega) ?_
  refine lv_lstore (lv' := [(7, .long r9), (6, .int r5), (5, va_rf (some a1)), (0, va_rf (some a0)), (1, .int x1), (2, .int x2), (4, va_rf x4)]) hx hb dX1_spared_77 hl (by decide) rfl (fun ls hl => ?_)
  refine lv_lload hx hb dX1_spared_79 (lv_at hl 0 rfl) ?_
  refine lv_ldc2 hx hb hown (hts _ q1424) dX1_spared_81 ?_
  refine W.lcmp hx hb dX1_spared_84 ?_
  refine lv_if_ne (tgt := 95) hx hb dX1_spared_85 (by decide) (fun c10 => ?_) (fun c10 => ?_)
  · have h := mif_f c10 h
    refine lv_lconst (v := 0) hx hb dX1_spared_95 (by decide) ?_
    refine lv_lstore (lv' := [(9, .long 0), (7, .long r9), (6, .int r5), (5, va_rf (some a1)), (0, va_rf (some a0)), (1, .int x1), (2, .int x2), (4, va_rf x4)]) hx hb dX1_spared_96 hl (by decide) rfl (fun ls hl => ?_)
    refine lv_iconst (v := 0) hx hb dX1_spared_98 (by decide) ?_
    refine lv_istore (lv' := [(11, .int 0), (9, .long 0), (7, .long r9), (6, .int r5), (5, va_rf (some a1)), (0, va_rf (some a0)), (1, .int x1), (2, .int x2), (4, va_rf x4)]) hx hb dX1_spared_99 hl (by decide) rfl (fun ls hl => ?_)
    refine W.cs (cells' := u7.1 - u0.1) (slots' := u7.2.1 - u0.2.1) (by omega) (by omega) ?_
    exact w_X1_spared_101 hC hR hRm N N u7 x1 x2 x4 (some a1) r5 r9 0 0 h ⟨by omega, by omega⟩ _ _ hP hS _ (lv_sub hl [5, 6, 7, 8, 4, 3, 2, 1, 0] rfl)
  · have h := mif_t c10 h
    refine u_aload_n (r := some a0) hx hb dX1_spared_88 rfl (lv_at hl 3 rfl) ?_
    refine lv_bipush (v := 6) hx hb dX1_spared_89 (by decide) ?_
    obtain ⟨c11, h⟩ := mif_n h
    obtain ⟨r14, u12, c13, h⟩ := ucall_n h
    have zu12 := zz_X1_refused N (ub G) (ug G) u7 a0 6 r14 u12 c13
    refine u_calli (va_runV (As := [.int 6]) (rest := []) hC.1 (met_X1_refused l N G u7 a0 6 r14 u12 c13) (cwV 1 hts (lw_V q276 q278 qs0 q98 q279) rfl rfl rfl (by decide +kernel) ⟨Nat.le_trans (Nat.le_of_ble_eq_true rfl) hR.1, Nat.le_trans (Nat.le_of_ble_eq_true rfl) hR.2⟩) ⟨uPc_blind, u_rcv hC hP c11 rfl, fun U hU hW => u_pre hC hP hS hU hW⟩ rfl rfl hl.1 rfl (lv_room (Nat.le_of_ble_eq_true rfl)) dX1_spared_91 ⟨by omega, by omega⟩) hS (fun H locs hP hS => ?_)
    refine W.cs (cells' := u12.1 - u0.1) (slots' := u12.2.1 - u0.2.1) (by omega) (by omega) ?_
    obtain ⟨hr1, hr2⟩ := uret_n h
    subst hr1
    subst hr2
    exact u_iret hC hP hS dX1_spared_94
def f_X1_spared (N b : Nat) (g : uEnv) (u : UH) (a0 : Nat) (x1 : Int32) (x2 : Int32) (x3 : Int32) : Option (Int32 × UH) :=
    if uIs u a0 0 = true then
    ucall (f_X1_isDoubt N b g u a0 x1) fun r4 u2 =>
    if r4 = 0 then
    f_X1_spared_17 N b g a0 u2
    else
    if uIs u2 a0 0 = true then
    ucall (f_X1_areCells N b g u2 a0 x2 x3) fun r9 u7 =>
    if r9 = 0 then
    f_X1_spared_17 N b g a0 u7
    else
    (uGR u7 a0 0 7).bind fun o11 =>
    (o11).bind fun a12 =>
    (uGR u7 a12 12 6).bind fun o13 =>
    (o13).bind fun a14 =>
    if uIs u7 a14 18 = true then
    ucall (f_J2_get N b g u7 a14 x1) fun o18 u16 =>
    (o18).bind fun a19 =>
    if uIs u16 a19 13 = true then
    (uGI u16 a19 13 2).bind fun y21 =>
    if y21 = (-1) then
    if uIs u16 a0 0 = true then
    ucall (f_X1_solver N b g u16 a0 x3 0) fun o26 u24 =>
    f_X1_spared_60 N b g a0 u24 x1 x2 (some a19) o26
    else none
    else
    if uIs u16 a0 0 = true then
    ucall (f_X1_refused N b g u16 a0 5) fun r30 u28 =>
    some (r30, u28)
    else none
    else none
    else none
    else none
    else none
set_option maxHeartbeats 4000000 in
set_option maxRecDepth 100000 in
theorem zz_X1_spared_0 {G : uG} {a0 : Nat} {uf : UH} {r : Int32} (N : Nat) (u : UH) (x1 : Int32) (x2 : Int32) (x3 : Int32) (h : f_X1_spared N (ub G) (ug G) u a0 x1 x2 x3 = some (r, uf)) : u.1 ≤ uf.1 ∧ u.2.1 ≤ uf.2.1 := by
  unfold f_X1_spared at h
  obtain ⟨c1, h⟩ := mif_n h
  obtain ⟨r4, u2, c3, h⟩ := ucall_n h
  have zu2 := zz_X1_isDoubt N (ub G) (ug G) u a0 x1 r4 u2 c3
  by_cases c5 : r4 = 0
  · have h := mif_t c5 h
    have hq := zz_X1_spared_17 (G := G) (a0 := a0) N u2 h
    exact ⟨by omega, by omega⟩
  · have h := mif_f c5 h
    obtain ⟨c6, h⟩ := mif_n h
    obtain ⟨r9, u7, c8, h⟩ := ucall_n h
    have zu7 := zz_X1_areCells N (ub G) (ug G) u2 a0 x2 x3 r9 u7 c8
    by_cases c10 : r9 = 0
    · have h := mif_t c10 h
      have hq := zz_X1_spared_17 (G := G) (a0 := a0) N u7 h
      exact ⟨by omega, by omega⟩
    · have h := mif_f c10 h
      obtain ⟨o11, ho11, h⟩ := mbind_n h
      obtain ⟨a12, ha12, hha12⟩ := mbind_n h
      subst ha12
      have h := hha12
      obtain ⟨o13, ho13, h⟩ := mbind_n h
      obtain ⟨a14, ha14, hha14⟩ := mbind_n h
      subst ha14
      have h := hha14
      obtain ⟨c15, h⟩ := mif_n h
      obtain ⟨o18, u16, c17, h⟩ := ucall_n h
      have zu16 := zz_J2_get N (ub G) (ug G) u7 a14 x1 o18 u16 c17
      obtain ⟨a19, ha19, hha19⟩ := mbind_n h
      subst ha19
      have h := hha19
      obtain ⟨c20, h⟩ := mif_n h
      obtain ⟨y21, hy21, h⟩ := mbind_n h
      by_cases c22 : y21 = (-1)
      · have h := mif_t c22 h
        obtain ⟨c23, h⟩ := mif_n h
        obtain ⟨o26, u24, c25, h⟩ := ucall_n h
        have zu24 := zz_X1_solver N (ub G) (ug G) u16 a0 x3 0 o26 u24 c25
        have hq := zz_X1_spared_60 (G := G) (a0 := a0) N u24 x1 x2 (some a19) o26 h
        exact ⟨by omega, by omega⟩
      · have h := mif_f c22 h
        obtain ⟨c27, h⟩ := mif_n h
        obtain ⟨r30, u28, c29, h⟩ := ucall_n h
        have zu28 := zz_X1_refused N (ub G) (ug G) u16 a0 5 r30 u28 c29
        obtain ⟨hr1, hr2⟩ := uret_n h
        subst hr2
        exact ⟨by omega, by omega⟩
set_option maxHeartbeats 4000000 in
set_option maxRecDepth 100000 in
theorem w_X1_spared_0 {p : Program} {l : Launch} {e : Env} {R : Room} {s : State} {m : MethodId} {args : Array Value} {below : List Frame} {meth : Method} {c : Code} {G : uG} {a0 : Nat} {u0 : UH} {uf : UH} {r : Int32} (hC : uC p s m args meth c G RX1 cX1_spared 12 (some .int)) (hR : 45 ≤ R.frames ∧ 2511 ≤ R.locals) (hRm : uf.1 - u0.1 ≤ R.cells ∧ uf.2.1 - u0.2.1 ≤ R.slots) (N : Nat) (u : UH) (x1 : Int32) (x2 : Int32) (x3 : Int32) (h : f_X1_spared N (ub G) (ug G) u a0 x1 x2 x3 = some (r, uf)) (hz0 : (u0.1 ≤ u.1 ∧ u0.2.1 ≤ u.2.1)) {H : Heap} {locs : List Loc} (hP : uP G u H) (hS : va_S (uA G) s.heap H locs) {ls : Array Slot} (hl : lv_has ls 12 [(0, va_rf (some a0)), (1, .int x1), (2, .int x2), (3, .int x3)]) : W p l e R s m args below meth c H locs (u.1 - u0.1) (u.2.1 - u0.2.1) (MQ below (uQi G r uf) args s (uf.1 - u0.1) (uf.2.1 - u0.2.1) (uA G)) (F0 m 0 ls []) := by
  obtain ⟨⟨hx, hb, hml, hown, hts⟩, hKK⟩ := id hC
  have hzf := zz_X1_spared_0 (G := G) (a0 := a0) N u x1 x2 x3 h
  unfold f_X1_spared at h
  refine u_aload_n (r := some a0) hx hb dX1_spared_0 rfl (lv_at hl 0 rfl) ?_
  refine lv_iload_n hx hb dX1_spared_1 rfl (lv_at hl 1 rfl) ?_
  obtain ⟨c1, h⟩ := mif_n h
  obtain ⟨r4, u2, c3, h⟩ := ucall_n h
  have zu2 := zz_X1_isDoubt N (ub G) (ug G) u a0 x1 r4 u2 c3
  refine u_calli (va_runV (As := [.int x1]) (rest := []) hC.1 (met_X1_isDoubt l N G u a0 x1 r4 u2 c3) (cwV 1 hts (lw_V q1236 q1238 qs19 q98 q1239) rfl rfl rfl (by decide +kernel) ⟨Nat.le_trans (Nat.le_of_ble_eq_true rfl) hR.1, Nat.le_trans (Nat.le_of_ble_eq_true rfl) hR.2⟩) ⟨uPc_blind, u_rcv hC hP c1 rfl, fun U hU hW => u_pre hC hP hS hU hW⟩ rfl rfl hl.1 rfl (lv_room (Nat.le_of_ble_eq_true rfl)) dX1_spared_2 ⟨by omega, by omega⟩) hS (fun H locs hP hS => ?_)
  refine W.cs (cells' := u2.1 - u0.1) (slots' := u2.2.1 - u0.2.1) (by omega) (by omega) ?_
  refine lv_if_eq (tgt := 17) hx hb dX1_spared_5 (by decide) (fun c5 => ?_) (fun c5 => ?_)
  · have h := mif_t c5 h
    refine W.cs (cells' := u2.1 - u0.1) (slots' := u2.2.1 - u0.2.1) (by omega) (by omega) ?_
    exact w_X1_spared_17 hC hR hRm N u2 h ⟨by omega, by omega⟩ hP hS (lv_sub hl [0] rfl)
  · have h := mif_f c5 h
    refine u_aload_n (r := some a0) hx hb dX1_spared_8 rfl (lv_at hl 0 rfl) ?_
    refine lv_iload_n hx hb dX1_spared_9 rfl (lv_at hl 2 rfl) ?_
    refine lv_iload_n hx hb dX1_spared_10 rfl (lv_at hl 3 rfl) ?_
    obtain ⟨c6, h⟩ := mif_n h
    obtain ⟨r9, u7, c8, h⟩ := ucall_n h
    have zu7 := zz_X1_areCells N (ub G) (ug G) u2 a0 x2 x3 r9 u7 c8
    refine u_calli (va_runV (As := [.int x2, .int x3]) (rest := []) hC.1 (met_X1_areCells l N G u2 a0 x2 x3 r9 u7 c8) (cwV 2 hts (lw_V q1285 q1287 qs20 q98 q1288) rfl rfl rfl (by decide +kernel) ⟨Nat.le_trans (Nat.le_of_ble_eq_true rfl) hR.1, Nat.le_trans (Nat.le_of_ble_eq_true rfl) hR.2⟩) ⟨uPc_blind, u_rcv hC hP c6 rfl, fun U hU hW => u_pre hC hP hS hU hW⟩ rfl rfl hl.1 rfl (lv_room (Nat.le_of_ble_eq_true rfl)) dX1_spared_11 ⟨by omega, by omega⟩) hS (fun H locs hP hS => ?_)
    refine W.cs (cells' := u7.1 - u0.1) (slots' := u7.2.1 - u0.2.1) (by omega) (by omega) ?_
    refine lv_if_ne (tgt := 23) hx hb dX1_spared_14 (by decide) (fun c10 => ?_) (fun c10 => ?_)
    · have h := mif_f c10 h
      refine u_aload_n (r := some a0) hx hb dX1_spared_23 rfl (lv_at hl 0 rfl) ?_
      obtain ⟨o11, ho11, h⟩ := mbind_n h
      refine u_get hC hP (uGR_n ho11) rfl in_X1 (by decide) q222 (fun _ h => h) dX1_spared_24 ?_
      obtain ⟨a12, ha12, hha12⟩ := mbind_n h
      subst ha12
      have h := hha12
      obtain ⟨o13, ho13, h⟩ := mbind_n h
      refine u_getN hC hP (uGR_n ho13) rfl in_X14 (by decide) q1151 (fun _ h => h) dX1_spared_27 ?_
      refine lv_iload_n hx hb dX1_spared_30 rfl (lv_at hl 1 rfl) ?_
      obtain ⟨a14, ha14, hha14⟩ := mbind_n h
      subst ha14
      have h := hha14
      obtain ⟨c15, h⟩ := mif_n h
      obtain ⟨o18, u16, c17, h⟩ := ucall_n h
      have zu16 := zz_J2_get N (ub G) (ug G) u7 a14 x1 o18 u16 c17
      refine u_callr (va_runV (As := [.int x1]) (rest := []) hC.1 (met_J2_get l N G u7 a14 x1 o18 u16 c17) (cwV 1 hts (lw_V q1084 q898 q899 q102 q900) rfl rfl rfl (by decide +kernel) ⟨Nat.le_trans (Nat.le_of_ble_eq_true rfl) hR.1, Nat.le_trans (Nat.le_of_ble_eq_true rfl) hR.2⟩) ⟨uPc_blind, u_rcv hC hP c15 rfl, fun U hU hW => u_pre hC hP hS hU hW⟩ rfl rfl hl.1 rfl (lv_room (Nat.le_of_ble_eq_true rfl)) dX1_spared_31 ⟨by omega, by omega⟩) hS (fun H locs hP hS => ?_)
      refine W.cs (cells' := u16.1 - u0.1) (slots' := u16.2.1 - u0.2.1) (by omega) (by omega) ?_
      obtain ⟨a19, ha19, hha19⟩ := mbind_n h
      subst ha19
      have h := hha19
      obtain ⟨c20, h⟩ := mif_n h
      refine u_castS hC hP c20 rfl q1206 dX1_spared_34 ?_
      refine u_astore (r := some a19) (lv' := [(4, va_rf (some a19)), (0, va_rf (some a0)), (1, .int x1), (2, .int x2), (3, .int x3)]) hx hb dX1_spared_37 hl (by decide) rfl (fun ls hl => ?_)
      refine u_aload (r := some a19) hx hb dX1_spared_39 (lv_at hl 0 rfl) ?_
      obtain ⟨y21, hy21, h⟩ := mbind_n h
      refine u_getN hC hP (uGI_n hy21) rfl in_X15 (by decide) q1223 (fun _ h => h) dX1_spared_41 ?_
      refine lv_iconst (v := (-1)) hx hb dX1_spared_44 (by decide) ?_
      refine lv_icmp_eq (tgt := 54) hx hb dX1_spared_45 (by decide) (fun c22 => ?_) (fun c22 => ?_)
      · have h := mif_t c22 h
        refine u_aload_n (r := some a0) hx hb dX1_spared_54 rfl (lv_at hl 1 rfl) ?_
        refine lv_iload_n hx hb dX1_spared_55 rfl (lv_at hl 4 rfl) ?_
        refine lv_iconst (v := 0) hx hb dX1_spared_56 (by decide) ?_
        obtain ⟨c23, h⟩ := mif_n h
        obtain ⟨o26, u24, c25, h⟩ := ucall_n h
        have zu24 := zz_X1_solver N (ub G) (ug G) u16 a0 x3 0 o26 u24 c25
        have hq := zz_X1_spared_60 (G := G) (a0 := a0) N u24 x1 x2 (some a19) o26 h
        refine u_callr (va_runV (As := [.int x3, .int 0]) (rest := []) hC.1 (met_X1_solver l N G u16 a0 x3 0 o26 u24 c25) (cwV 2 hts (lw_V q1289 q1291 qs21 q98 q1292) rfl rfl rfl (by decide +kernel) ⟨Nat.le_trans (Nat.le_of_ble_eq_true rfl) hR.1, Nat.le_trans (Nat.le_of_ble_eq_true rfl) hR.2⟩) ⟨uPc_blind, u_rcv hC hP c23 rfl, fun U hU hW => u_pre hC hP hS hU hW⟩ rfl rfl hl.1 rfl (lv_room (Nat.le_of_ble_eq_true rfl)) dX1_spared_57 ⟨by omega, by omega⟩) hS (fun H locs hP hS => ?_)
        refine W.cs (cells' := u24.1 - u0.1) (slots' := u24.2.1 - u0.2.1) (by omega) (by omega) ?_
        refine W.cs (cells' := u24.1 - u0.1) (slots' := u24.2.1 - u0.2.1) (by omega) (by omega) ?_
        exact w_X1_spared_60 hC hR hRm N u24 x1 x2 (some a19) o26 h ⟨by omega, by omega⟩ hP hS (lv_sub hl [1, 2, 3, 0] rfl)
      · have h := mif_f c22 h
        refine u_aload_n (r := some a0) hx hb dX1_spared_48 rfl (lv_at hl 1 rfl) ?_
        refine lv_iconst (v := 5) hx hb dX1_spared_49 (by decide) ?_
        obtain ⟨c27, h⟩ := mif_n h
        obtain ⟨r30, u28, c29, h⟩ := ucall_n h
        have zu28 := zz_X1_refused N (ub G) (ug G) u16 a0 5 r30 u28 c29
        refine u_calli (va_runV (As := [.int 5]) (rest := []) hC.1 (met_X1_refused l N G u16 a0 5 r30 u28 c29) (cwV 1 hts (lw_V q276 q278 qs0 q98 q279) rfl rfl rfl (by decide +kernel) ⟨Nat.le_trans (Nat.le_of_ble_eq_true rfl) hR.1, Nat.le_trans (Nat.le_of_ble_eq_true rfl) hR.2⟩) ⟨uPc_blind, u_rcv hC hP c27 rfl, fun U hU hW => u_pre hC hP hS hU hW⟩ rfl rfl hl.1 rfl (lv_room (Nat.le_of_ble_eq_true rfl)) dX1_spared_50 ⟨by omega, by omega⟩) hS (fun H locs hP hS => ?_)
        refine W.cs (cells' := u28.1 - u0.1) (slots' := u28.2.1 - u0.2.1) (by omega) (by omega) ?_
        obtain ⟨hr1, hr2⟩ := uret_n h
        subst hr1
        subst hr2
        exact u_iret hC hP hS dX1_spared_53
    · have h := mif_t c10 h
      refine W.cs (cells' := u7.1 - u0.1) (slots' := u7.2.1 - u0.2.1) (by omega) (by omega) ?_
      exact w_X1_spared_17 hC hR hRm N u7 h ⟨by omega, by omega⟩ hP hS (lv_sub hl [0] rfl)
theorem zz_X1_spared (N b : Nat) (g : uEnv) (u : UH) (a0 : Nat) (x1 : Int32) (x2 : Int32) (x3 : Int32) (r : Int32) (uf : UH) (h : f_X1_spared N b g u a0 x1 x2 x3 = some (r, uf)) : u.1 ≤ uf.1 ∧ u.2.1 ≤ uf.2.1 :=
  zz_X1_spared_0 (G := ((fun _ => 0, fun _ _ => 0), fun _ => 0, b, g)) (a0 := a0) N u x1 x2 x3 h
theorem met_X1_spared (l : Launch) (N : Nat) (G : uG) (u : UH) (a0 : Nat) (x1 : Int32) (x2 : Int32) (x3 : Int32) (r : Int32) (uf : UH) (h : f_X1_spared N (ub G) (ug G) u a0 x1 x2 x3 = some (r, uf)) : Met l yX1_spared (ws_ yX1_spared cX1_spared 12 (some .int)) ({ frames := 45, cells := (uf.1 - u.1), slots := (uf.2.1 - u.2.1), locals := 2511 }) (uPc G u [.ref a0, .int x1, .int x2, .int x3]) (uQi G r uf) (uf.1 - u.1) (uf.2.1 - u.2.1) (uA G) := by
  exact u_met (own := RX1) (by decide +kernel) rfl (Nat.le_of_ble_eq_true rfl) (fun hC hn hsz ls hl hP => W.cs (Nat.sub_self _).symm (Nat.sub_self _).symm (w_X1_spared_0 hC ⟨Nat.le_refl _, Nat.le_refl _⟩ ⟨Nat.le_refl _, Nat.le_refl _⟩ N u x1 x2 x3 h ⟨Nat.le_refl _, Nat.le_refl _⟩ hP va_S.rf hl))
def f_X1_truth_39 (N b : Nat) (g : uEnv) (a0 : Nat) (u : UH) (s0 : Int32) : Option (Int32 × UH) :=
    some (s0, u)
set_option maxHeartbeats 4000000 in
set_option maxRecDepth 100000 in
theorem zz_X1_truth_39 {G : uG} {a0 : Nat} {uf : UH} {r : Int32} (N : Nat) (u : UH) (s0 : Int32) (h : f_X1_truth_39 N (ub G) (ug G) a0 u s0 = some (r, uf)) : u.1 ≤ uf.1 ∧ u.2.1 ≤ uf.2.1 := by
  unfold f_X1_truth_39 at h
  obtain ⟨hr1, hr2⟩ := uret_n h
  subst hr2
  exact ⟨by omega, by omega⟩
set_option maxHeartbeats 4000000 in
set_option maxRecDepth 100000 in
theorem w_X1_truth_39 {p : Program} {l : Launch} {e : Env} {R : Room} {s : State} {m : MethodId} {args : Array Value} {below : List Frame} {meth : Method} {c : Code} {G : uG} {a0 : Nat} {u0 : UH} {uf : UH} {r : Int32} (hC : uC p s m args meth c G RX1 cX1_truth 3 (some .int)) (hR : 4 ≤ R.frames ∧ 89 ≤ R.locals) (hRm : uf.1 - u0.1 ≤ R.cells ∧ uf.2.1 - u0.2.1 ≤ R.slots) (N : Nat) (u : UH) (s0 : Int32) (h : f_X1_truth_39 N (ub G) (ug G) a0 u s0 = some (r, uf)) (hz0 : (u0.1 ≤ u.1 ∧ u0.2.1 ≤ u.2.1)) {H : Heap} {locs : List Loc} (hP : uP G u H) (hS : va_S (uA G) s.heap H locs) {ls : Array Slot} (hl : lv_has ls 3 []) : W p l e R s m args below meth c H locs (u.1 - u0.1) (u.2.1 - u0.2.1) (MQ below (uQi G r uf) args s (uf.1 - u0.1) (uf.2.1 - u0.2.1) (uA G)) (F0 m 39 ls [.int s0]) := by
  obtain ⟨⟨hx, hb, hml, hown, hts⟩, hKK⟩ := id hC
  have hzf := zz_X1_truth_39 (G := G) (a0 := a0) N u s0 h
  unfold f_X1_truth_39 at h
  obtain ⟨hr1, hr2⟩ := uret_n h
  subst hr1
  subst hr2
  exact u_iret hC hP hS dX1_truth_39
def f_X1_truth_38 (N b : Nat) (g : uEnv) (a0 : Nat) (u : UH) : Option (Int32 × UH) :=
    f_X1_truth_39 N b g a0 u (-1)
set_option maxHeartbeats 4000000 in
set_option maxRecDepth 100000 in
theorem zz_X1_truth_38 {G : uG} {a0 : Nat} {uf : UH} {r : Int32} (N : Nat) (u : UH) (h : f_X1_truth_38 N (ub G) (ug G) a0 u = some (r, uf)) : u.1 ≤ uf.1 ∧ u.2.1 ≤ uf.2.1 := by
  unfold f_X1_truth_38 at h
  have hq := zz_X1_truth_39 (G := G) (a0 := a0) N u (-1) h
  exact ⟨by omega, by omega⟩
set_option maxHeartbeats 4000000 in
set_option maxRecDepth 100000 in
theorem w_X1_truth_38 {p : Program} {l : Launch} {e : Env} {R : Room} {s : State} {m : MethodId} {args : Array Value} {below : List Frame} {meth : Method} {c : Code} {G : uG} {a0 : Nat} {u0 : UH} {uf : UH} {r : Int32} (hC : uC p s m args meth c G RX1 cX1_truth 3 (some .int)) (hR : 4 ≤ R.frames ∧ 89 ≤ R.locals) (hRm : uf.1 - u0.1 ≤ R.cells ∧ uf.2.1 - u0.2.1 ≤ R.slots) (N : Nat) (u : UH) (h : f_X1_truth_38 N (ub G) (ug G) a0 u = some (r, uf)) (hz0 : (u0.1 ≤ u.1 ∧ u0.2.1 ≤ u.2.1)) {H : Heap} {locs : List Loc} (hP : uP G u H) (hS : va_S (uA G) s.heap H locs) {ls : Array Slot} (hl : lv_has ls 3 []) : W p l e R s m args below meth c H locs (u.1 - u0.1) (u.2.1 - u0.2.1) (MQ below (uQi G r uf) args s (uf.1 - u0.1) (uf.2.1 - u0.2.1) (uA G)) (F0 m 38 ls []) := by
  obtain ⟨⟨hx, hb, hml, hown, hts⟩, hKK⟩ := id hC
  have hzf := zz_X1_truth_38 (G := G) (a0 := a0) N u h
  unfold f_X1_truth_38 at h
  refine lv_iconst (v := (-1)) hx hb dX1_truth_38 (by decide) ?_
  refine W.cs (cells' := u.1 - u0.1) (slots' := u.2.1 - u0.2.1) (by omega) (by omega) ?_
  exact w_X1_truth_39 hC hR hRm N u (-1) h ⟨by omega, by omega⟩ hP hS (lv_sub hl [] rfl)
def f_X1_truth_33 (N b : Nat) (g : uEnv) (a0 : Nat) (u : UH) (x2 : Int32) (s0 : Option Nat) : Option (Int32 × UH) :=
    (s0).bind fun a1 =>
    (uLdI u a1 0 x2).bind fun y2 =>
    f_X1_truth_39 N b g a0 u y2
set_option maxHeartbeats 4000000 in
set_option maxRecDepth 100000 in
theorem zz_X1_truth_33 {G : uG} {a0 : Nat} {uf : UH} {r : Int32} (N : Nat) (u : UH) (x2 : Int32) (s0 : Option Nat) (h : f_X1_truth_33 N (ub G) (ug G) a0 u x2 s0 = some (r, uf)) : u.1 ≤ uf.1 ∧ u.2.1 ≤ uf.2.1 := by
  unfold f_X1_truth_33 at h
  obtain ⟨a1, ha1, hha1⟩ := mbind_n h
  subst ha1
  have h := hha1
  obtain ⟨y2, hy2, h⟩ := mbind_n h
  have hq := zz_X1_truth_39 (G := G) (a0 := a0) N u y2 h
  exact ⟨by omega, by omega⟩
set_option maxHeartbeats 4000000 in
set_option maxRecDepth 100000 in
theorem w_X1_truth_33 {p : Program} {l : Launch} {e : Env} {R : Room} {s : State} {m : MethodId} {args : Array Value} {below : List Frame} {meth : Method} {c : Code} {G : uG} {a0 : Nat} {u0 : UH} {uf : UH} {r : Int32} (hC : uC p s m args meth c G RX1 cX1_truth 3 (some .int)) (hR : 4 ≤ R.frames ∧ 89 ≤ R.locals) (hRm : uf.1 - u0.1 ≤ R.cells ∧ uf.2.1 - u0.2.1 ≤ R.slots) (N : Nat) (u : UH) (x2 : Int32) (s0 : Option Nat) (h : f_X1_truth_33 N (ub G) (ug G) a0 u x2 s0 = some (r, uf)) (hz0 : (u0.1 ≤ u.1 ∧ u0.2.1 ≤ u.2.1)) {H : Heap} {locs : List Loc} (hP : uP G u H) (hS : va_S (uA G) s.heap H locs) {ls : Array Slot} (hl : lv_has ls 3 [(2, .int x2)]) : W p l e R s m args below meth c H locs (u.1 - u0.1) (u.2.1 - u0.2.1) (MQ below (uQi G r uf) args s (uf.1 - u0.1) (uf.2.1 - u0.2.1) (uA G)) (F0 m 33 ls [va_rf s0]) := by
  obtain ⟨⟨hx, hb, hml, hown, hts⟩, hKK⟩ := id hC
  have hzf := zz_X1_truth_33 (G := G) (a0 := a0) N u x2 s0 h
  unfold f_X1_truth_33 at h
  refine lv_iload_n hx hb dX1_truth_33 rfl (lv_at hl 0 rfl) ?_
  obtain ⟨a1, ha1, hha1⟩ := mbind_n h
  subst ha1
  have h := hha1
  obtain ⟨y2, hy2, h⟩ := mbind_n h
  refine u_iald hC hP hy2 rfl dX1_truth_34 ?_
  refine lv_goto (tgt := 39) hx hb dX1_truth_35 (by decide) ?_
  refine W.cs (cells' := u.1 - u0.1) (slots' := u.2.1 - u0.2.1) (by omega) (by omega) ?_
  exact w_X1_truth_39 hC hR hRm N u y2 h ⟨by omega, by omega⟩ hP hS (lv_sub hl [] rfl)
def f_X1_truth (N b : Nat) (g : uEnv) (u : UH) (a0 : Nat) (x1 : Int32) (x2 : Int32) : Option (Int32 × UH) :=
    if uIs u a0 0 = true then
    ucall (f_X1_isDoubt N b g u a0 x2) fun r4 u2 =>
    if r4 = 0 then
    f_X1_truth_38 N b g a0 u2
    else
    (uGR u2 a0 0 7).bind fun o6 =>
    (o6).bind fun a7 =>
    if uIs u2 a7 12 = true then
    ucall (f_X14_truths N b g u2 a7) fun r11 u9 =>
    ucall (f_X1_in N b g u9 x1 0 (r11 - 1)) fun r14 u12 =>
    if r14 = 0 then
    f_X1_truth_38 N b g a0 u12
    else
    (uGR u12 a0 0 7).bind fun o16 =>
    (o16).bind fun a17 =>
    if uIs u12 a17 12 = true then
    ucall (f_X14_truth N b g u12 a17 x1) fun o21 u19 =>
    f_X1_truth_33 N b g a0 u19 x2 o21
    else none
    else none
    else none
set_option maxHeartbeats 4000000 in
set_option maxRecDepth 100000 in
theorem zz_X1_truth_0 {G : uG} {a0 : Nat} {uf : UH} {r : Int32} (N : Nat) (u : UH) (x1 : Int32) (x2 : Int32) (h : f_X1_truth N (ub G) (ug G) u a0 x1 x2 = some (r, uf)) : u.1 ≤ uf.1 ∧ u.2.1 ≤ uf.2.1 := by
  unfold f_X1_truth at h
  obtain ⟨c1, h⟩ := mif_n h
  obtain ⟨r4, u2, c3, h⟩ := ucall_n h
  have zu2 := zz_X1_isDoubt N (ub G) (ug G) u a0 x2 r4 u2 c3
  by_cases c5 : r4 = 0
  · have h := mif_t c5 h
    have hq := zz_X1_truth_38 (G := G) (a0 := a0) N u2 h
    exact ⟨by omega, by omega⟩
  · have h := mif_f c5 h
    obtain ⟨o6, ho6, h⟩ := mbind_n h
    obtain ⟨a7, ha7, hha7⟩ := mbind_n h
    subst ha7
    have h := hha7
    obtain ⟨c8, h⟩ := mif_n h
    obtain ⟨r11, u9, c10, h⟩ := ucall_n h
    have zu9 := zz_X14_truths N (ub G) (ug G) u2 a7 r11 u9 c10
    obtain ⟨r14, u12, c13, h⟩ := ucall_n h
    have zu12 := zz_X1_in N (ub G) (ug G) u9 x1 0 (r11 - 1) r14 u12 c13
    by_cases c15 : r14 = 0
    · have h := mif_t c15 h
      have hq := zz_X1_truth_38 (G := G) (a0 := a0) N u12 h
      exact ⟨by omega, by omega⟩
    · have h := mif_f c15 h
      obtain ⟨o16, ho16, h⟩ := mbind_n h
      obtain ⟨a17, ha17, hha17⟩ := mbind_n h
      subst ha17
      have h := hha17
      obtain ⟨c18, h⟩ := mif_n h
      obtain ⟨o21, u19, c20, h⟩ := ucall_n h
      have zu19 := zz_X14_truth N (ub G) (ug G) u12 a17 x1 o21 u19 c20
      have hq := zz_X1_truth_33 (G := G) (a0 := a0) N u19 x2 o21 h
      exact ⟨by omega, by omega⟩
set_option maxHeartbeats 4000000 in
set_option maxRecDepth 100000 in
theorem w_X1_truth_0 {p : Program} {l : Launch} {e : Env} {R : Room} {s : State} {m : MethodId} {args : Array Value} {below : List Frame} {meth : Method} {c : Code} {G : uG} {a0 : Nat} {u0 : UH} {uf : UH} {r : Int32} (hC : uC p s m args meth c G RX1 cX1_truth 3 (some .int)) (hR : 4 ≤ R.frames ∧ 89 ≤ R.locals) (hRm : uf.1 - u0.1 ≤ R.cells ∧ uf.2.1 - u0.2.1 ≤ R.slots) (N : Nat) (u : UH) (x1 : Int32) (x2 : Int32) (h : f_X1_truth N (ub G) (ug G) u a0 x1 x2 = some (r, uf)) (hz0 : (u0.1 ≤ u.1 ∧ u0.2.1 ≤ u.2.1)) {H : Heap} {locs : List Loc} (hP : uP G u H) (hS : va_S (uA G) s.heap H locs) {ls : Array Slot} (hl : lv_has ls 3 [(0, va_rf (some a0)), (1, .int x1), (2, .int x2)]) : W p l e R s m args below meth c H locs (u.1 - u0.1) (u.2.1 - u0.2.1) (MQ below (uQi G r uf) args s (uf.1 - u0.1) (uf.2.1 - u0.2.1) (uA G)) (F0 m 0 ls []) := by
  obtain ⟨⟨hx, hb, hml, hown, hts⟩, hKK⟩ := id hC
  have hzf := zz_X1_truth_0 (G := G) (a0 := a0) N u x1 x2 h
  unfold f_X1_truth at h
  refine u_aload_n (r := some a0) hx hb dX1_truth_0 rfl (lv_at hl 0 rfl) ?_
  refine lv_iload_n hx hb dX1_truth_1 rfl (lv_at hl 2 rfl) ?_
  obtain ⟨c1, h⟩ := mif_n h
  obtain ⟨r4, u2, c3, h⟩ := ucall_n h
  have zu2 := zz_X1_isDoubt N (ub G) (ug G) u a0 x2 r4 u2 c3
  refine u_calli (va_runV (As := [.int x2]) (rest := []) hC.1 (met_X1_isDoubt l N G u a0 x2 r4 u2 c3) (cwV 1 hts (lw_V q1236 q1238 qs19 q98 q1239) rfl rfl rfl (by decide +kernel) ⟨Nat.le_trans (Nat.le_of_ble_eq_true rfl) hR.1, Nat.le_trans (Nat.le_of_ble_eq_true rfl) hR.2⟩) ⟨uPc_blind, u_rcv hC hP c1 rfl, fun U hU hW => u_pre hC hP hS hU hW⟩ rfl rfl hl.1 rfl (lv_room (Nat.le_of_ble_eq_true rfl)) dX1_truth_2 ⟨by omega, by omega⟩) hS (fun H locs hP hS => ?_)
  refine W.cs (cells' := u2.1 - u0.1) (slots' := u2.2.1 - u0.2.1) (by omega) (by omega) ?_
  refine lv_if_eq (tgt := 38) hx hb dX1_truth_5 (by decide) (fun c5 => ?_) (fun c5 => ?_)
  · have h := mif_t c5 h
    refine W.cs (cells' := u2.1 - u0.1) (slots' := u2.2.1 - u0.2.1) (by omega) (by omega) ?_
    exact w_X1_truth_38 hC hR hRm N u2 h ⟨by omega, by omega⟩ hP hS (lv_sub hl [] rfl)
  · have h := mif_f c5 h
    refine lv_iload_n hx hb dX1_truth_8 rfl (lv_at hl 1 rfl) ?_
    refine lv_iconst (v := 0) hx hb dX1_truth_9 (by decide) ?_
    refine u_aload_n (r := some a0) hx hb dX1_truth_10 rfl (lv_at hl 0 rfl) ?_
    obtain ⟨o6, ho6, h⟩ := mbind_n h
    refine u_get hC hP (uGR_n ho6) rfl in_X1 (by decide) q222 (fun _ h => h) dX1_truth_11 ?_
    obtain ⟨a7, ha7, hha7⟩ := mbind_n h
    subst ha7
    have h := hha7
    obtain ⟨c8, h⟩ := mif_n h
    obtain ⟨r11, u9, c10, h⟩ := ucall_n h
    have zu9 := zz_X14_truths N (ub G) (ug G) u2 a7 r11 u9 c10
    refine u_calli (va_runV (As := []) (rest := [.int 0, .int x1]) hC.1 (met_X14_truths l N G u2 a7 r11 u9 c10) (cwV 0 hts (lw_V q1465 q1466 q1467 q131 q1468) rfl rfl rfl (by decide +kernel) ⟨Nat.le_trans (Nat.le_of_ble_eq_true rfl) hR.1, Nat.le_trans (Nat.le_of_ble_eq_true rfl) hR.2⟩) ⟨uPc_blind, u_rcv hC hP c8 rfl, fun U hU hW => u_pre hC hP hS hU hW⟩ rfl rfl hl.1 rfl (lv_room (Nat.le_of_ble_eq_true rfl)) dX1_truth_14 ⟨by omega, by omega⟩) hS (fun H locs hP hS => ?_)
    refine W.cs (cells' := u9.1 - u0.1) (slots' := u9.2.1 - u0.2.1) (by omega) (by omega) ?_
    refine lv_iconst (v := 1) hx hb dX1_truth_17 (by decide) ?_
    refine lv_isub hx hb dX1_truth_18 ?_
    obtain ⟨r14, u12, c13, h⟩ := ucall_n h
    have zu12 := zz_X1_in N (ub G) (ug G) u9 x1 0 (r11 - 1) r14 u12 c13
    refine u_calli (va_runS (As := [.int x1, .int 0, .int (r11 - 1)]) (rest := []) hC.1 (met_X1_in l N G u9 x1 0 (r11 - 1) r14 u12 c13) (va_cwS 3 hts (lw_S q273 q274 q98 q275) rfl rfl rfl (by decide +kernel) ⟨Nat.le_trans (Nat.le_of_ble_eq_true rfl) hR.1, Nat.le_trans (Nat.le_of_ble_eq_true rfl) hR.2⟩) ⟨uPc_blind, fun U hU hW => u_pre hC hP hS hU hW⟩ rfl rfl hl.1 rfl (lv_room (Nat.le_of_ble_eq_true rfl)) dX1_truth_19 ⟨by omega, by omega⟩) hS (fun H locs hP hS => ?_)
    refine W.cs (cells' := u12.1 - u0.1) (slots' := u12.2.1 - u0.2.1) (by omega) (by omega) ?_
    refine lv_if_eq (tgt := 38) hx hb dX1_truth_22 (by decide) (fun c15 => ?_) (fun c15 => ?_)
    · have h := mif_t c15 h
      refine W.cs (cells' := u12.1 - u0.1) (slots' := u12.2.1 - u0.2.1) (by omega) (by omega) ?_
      exact w_X1_truth_38 hC hR hRm N u12 h ⟨by omega, by omega⟩ hP hS (lv_sub hl [] rfl)
    · have h := mif_f c15 h
      refine u_aload_n (r := some a0) hx hb dX1_truth_25 rfl (lv_at hl 0 rfl) ?_
      obtain ⟨o16, ho16, h⟩ := mbind_n h
      refine u_get hC hP (uGR_n ho16) rfl in_X1 (by decide) q222 (fun _ h => h) dX1_truth_26 ?_
      refine lv_iload_n hx hb dX1_truth_29 rfl (lv_at hl 1 rfl) ?_
      obtain ⟨a17, ha17, hha17⟩ := mbind_n h
      subst ha17
      have h := hha17
      obtain ⟨c18, h⟩ := mif_n h
      obtain ⟨o21, u19, c20, h⟩ := ucall_n h
      have zu19 := zz_X14_truth N (ub G) (ug G) u12 a17 x1 o21 u19 c20
      have hq := zz_X1_truth_33 (G := G) (a0 := a0) N u19 x2 o21 h
      refine u_callr (va_runV (As := [.int x1]) (rest := []) hC.1 (met_X14_truth l N G u12 a17 x1 o21 u19 c20) (cwV 1 hts (lw_V q1474 q1475 q1476 q131 q1477) rfl rfl rfl (by decide +kernel) ⟨Nat.le_trans (Nat.le_of_ble_eq_true rfl) hR.1, Nat.le_trans (Nat.le_of_ble_eq_true rfl) hR.2⟩) ⟨uPc_blind, u_rcv hC hP c18 rfl, fun U hU hW => u_pre hC hP hS hU hW⟩ rfl rfl hl.1 rfl (lv_room (Nat.le_of_ble_eq_true rfl)) dX1_truth_30 ⟨by omega, by omega⟩) hS (fun H locs hP hS => ?_)
      refine W.cs (cells' := u19.1 - u0.1) (slots' := u19.2.1 - u0.2.1) (by omega) (by omega) ?_
      refine W.cs (cells' := u19.1 - u0.1) (slots' := u19.2.1 - u0.2.1) (by omega) (by omega) ?_
      exact w_X1_truth_33 hC hR hRm N u19 x2 o21 h ⟨by omega, by omega⟩ hP hS (lv_sub hl [2] rfl)
theorem zz_X1_truth (N b : Nat) (g : uEnv) (u : UH) (a0 : Nat) (x1 : Int32) (x2 : Int32) (r : Int32) (uf : UH) (h : f_X1_truth N b g u a0 x1 x2 = some (r, uf)) : u.1 ≤ uf.1 ∧ u.2.1 ≤ uf.2.1 :=
  zz_X1_truth_0 (G := ((fun _ => 0, fun _ _ => 0), fun _ => 0, b, g)) (a0 := a0) N u x1 x2 h
theorem met_X1_truth (l : Launch) (N : Nat) (G : uG) (u : UH) (a0 : Nat) (x1 : Int32) (x2 : Int32) (r : Int32) (uf : UH) (h : f_X1_truth N (ub G) (ug G) u a0 x1 x2 = some (r, uf)) : Met l yX1_truth (ws_ yX1_truth cX1_truth 3 (some .int)) ({ frames := 4, cells := (uf.1 - u.1), slots := (uf.2.1 - u.2.1), locals := 89 }) (uPc G u [.ref a0, .int x1, .int x2]) (uQi G r uf) (uf.1 - u.1) (uf.2.1 - u.2.1) (uA G) := by
  exact u_met (own := RX1) (by decide +kernel) rfl (Nat.le_of_ble_eq_true rfl) (fun hC hn hsz ls hl hP => W.cs (Nat.sub_self _).symm (Nat.sub_self _).symm (w_X1_truth_0 hC ⟨Nat.le_refl _, Nat.le_refl _⟩ ⟨Nat.le_refl _, Nat.le_refl _⟩ N u x1 x2 h ⟨Nat.le_refl _, Nat.le_refl _⟩ hP va_S.rf hl))
def f_X1_tryAt_11 (N b : Nat) (g : uEnv) (a0 : Nat) (u : UH) : Option (Int32 × UH) :=
    if uIs u a0 0 = true then
    ucall (f_X1_refused N b g u a0 1) fun r4 u2 =>
    some (r4, u2)
    else none
set_option maxHeartbeats 4000000 in
set_option maxRecDepth 100000 in
theorem zz_X1_tryAt_11 {G : uG} {a0 : Nat} {uf : UH} {r : Int32} (N : Nat) (u : UH) (h : f_X1_tryAt_11 N (ub G) (ug G) a0 u = some (r, uf)) : u.1 ≤ uf.1 ∧ u.2.1 ≤ uf.2.1 := by
  unfold f_X1_tryAt_11 at h
  obtain ⟨c1, h⟩ := mif_n h
  obtain ⟨r4, u2, c3, h⟩ := ucall_n h
  have zu2 := zz_X1_refused N (ub G) (ug G) u a0 1 r4 u2 c3
  obtain ⟨hr1, hr2⟩ := uret_n h
  subst hr2
  exact ⟨by omega, by omega⟩
set_option maxHeartbeats 4000000 in
set_option maxRecDepth 100000 in
theorem w_X1_tryAt_11 {p : Program} {l : Launch} {e : Env} {R : Room} {s : State} {m : MethodId} {args : Array Value} {below : List Frame} {meth : Method} {c : Code} {G : uG} {a0 : Nat} {u0 : UH} {uf : UH} {r : Int32} (hC : uC p s m args meth c G RX1 cX1_tryAt 8 (some .int)) (hR : 7 ≤ R.frames ∧ 156 ≤ R.locals) (hRm : uf.1 - u0.1 ≤ R.cells ∧ uf.2.1 - u0.2.1 ≤ R.slots) (N : Nat) (u : UH) (h : f_X1_tryAt_11 N (ub G) (ug G) a0 u = some (r, uf)) (hz0 : (u0.1 ≤ u.1 ∧ u0.2.1 ≤ u.2.1)) {H : Heap} {locs : List Loc} (hP : uP G u H) (hS : va_S (uA G) s.heap H locs) {ls : Array Slot} (hl : lv_has ls 8 [(0, va_rf (some a0))]) : W p l e R s m args below meth c H locs (u.1 - u0.1) (u.2.1 - u0.2.1) (MQ below (uQi G r uf) args s (uf.1 - u0.1) (uf.2.1 - u0.2.1) (uA G)) (F0 m 11 ls []) := by
  obtain ⟨⟨hx, hb, hml, hown, hts⟩, hKK⟩ := id hC
  have hzf := zz_X1_tryAt_11 (G := G) (a0 := a0) N u h
  unfold f_X1_tryAt_11 at h
  refine u_aload_n (r := some a0) hx hb dX1_tryAt_11 rfl (lv_at hl 0 rfl) ?_
  refine lv_iconst (v := 1) hx hb dX1_tryAt_12 (by decide) ?_
  obtain ⟨c1, h⟩ := mif_n h
  obtain ⟨r4, u2, c3, h⟩ := ucall_n h
  have zu2 := zz_X1_refused N (ub G) (ug G) u a0 1 r4 u2 c3
  refine u_calli (va_runV (As := [.int 1]) (rest := []) hC.1 (met_X1_refused l N G u a0 1 r4 u2 c3) (cwV 1 hts (lw_V q276 q278 qs0 q98 q279) rfl rfl rfl (by decide +kernel) ⟨Nat.le_trans (Nat.le_of_ble_eq_true rfl) hR.1, Nat.le_trans (Nat.le_of_ble_eq_true rfl) hR.2⟩) ⟨uPc_blind, u_rcv hC hP c1 rfl, fun U hU hW => u_pre hC hP hS hU hW⟩ rfl rfl hl.1 rfl (lv_room (Nat.le_of_ble_eq_true rfl)) dX1_tryAt_13 ⟨by omega, by omega⟩) hS (fun H locs hP hS => ?_)
  refine W.cs (cells' := u2.1 - u0.1) (slots' := u2.2.1 - u0.2.1) (by omega) (by omega) ?_
  obtain ⟨hr1, hr2⟩ := uret_n h
  subst hr1
  subst hr2
  exact u_iret hC hP hS dX1_tryAt_16
def f_X1_tryAt_174 (N b : Nat) (g : uEnv) (a0 : Nat) (k50 : UH → Int32 → Option Nat → Int32 → Int32 → Option (Int32 × UH)) (u : UH) (x1 : Int32) (x2 : Option Nat) (x4 : Int32) (x5 : Int32) (x6 : Int32) : Option (Int32 × UH) :=
    if x4 = x1 then
    if uIs u a0 0 = true then
    ucall (f_X1_done N b g u a0 x5) fun r6 u4 =>
    some (r6, u4)
    else none
    else
    mlet (x4 + 1) fun y2 =>
    k50 u x1 x2 x6 y2
set_option maxHeartbeats 4000000 in
set_option maxRecDepth 100000 in
theorem zz_X1_tryAt_174 {G : uG} {a0 : Nat} {uf : UH} {r : Int32} (N : Nat) (k50 : UH → Int32 → Option Nat → Int32 → Int32 → Option (Int32 × UH)) (hk50 : ∀ (u : UH) (x1 : Int32) (x2 : Option Nat) (x3 : Int32) (x4 : Int32), k50 u x1 x2 x3 x4 = some (r, uf) → u.1 ≤ uf.1 ∧ u.2.1 ≤ uf.2.1) (u : UH) (x1 : Int32) (x2 : Option Nat) (x4 : Int32) (x5 : Int32) (x6 : Int32) (h : f_X1_tryAt_174 N (ub G) (ug G) a0 k50 u x1 x2 x4 x5 x6 = some (r, uf)) : u.1 ≤ uf.1 ∧ u.2.1 ≤ uf.2.1 := by
  unfold f_X1_tryAt_174 at h
  by_cases c1 : x4 = x1
  · have h := mif_t c1 h
    obtain ⟨c3, h⟩ := mif_n h
    obtain ⟨r6, u4, c5, h⟩ := ucall_n h
    have zu4 := zz_X1_done N (ub G) (ug G) u a0 x5 r6 u4 c5
    obtain ⟨hr1, hr2⟩ := uret_n h
    subst hr2
    exact ⟨by omega, by omega⟩
  · have h := mif_f c1 h
    obtain ⟨y2, ey2⟩ : ∃ z : Int32, z = x4 + 1 := ⟨_, rfl⟩
    have h := mlet_at ey2 h
    have hq := hk50 u x1 x2 x6 y2 h
    exact ⟨by omega, by omega⟩
set_option maxHeartbeats 4000000 in
set_option maxRecDepth 100000 in
theorem w_X1_tryAt_174 {p : Program} {l : Launch} {e : Env} {R : Room} {s : State} {m : MethodId} {args : Array Value} {below : List Frame} {meth : Method} {c : Code} {G : uG} {a0 : Nat} {u0 : UH} {uf : UH} {r : Int32} (hC : uC p s m args meth c G RX1 cX1_tryAt 8 (some .int)) (hR : 7 ≤ R.frames ∧ 156 ≤ R.locals) (hRm : uf.1 - u0.1 ≤ R.cells ∧ uf.2.1 - u0.2.1 ≤ R.slots) (N : Nat) (k50 : UH → Int32 → Option Nat → Int32 → Int32 → Option (Int32 × UH)) (hk50 : ∀ (u : UH) (x1 : Int32) (x2 : Option Nat) (x3 : Int32) (x4 : Int32), k50 u x1 x2 x3 x4 = some (r, uf) → (u0.1 ≤ u.1 ∧ u0.2.1 ≤ u.2.1) → ∀ (H : Heap) (locs : List Loc), uP G u H → va_S (uA G) s.heap H locs → ∀ ls : Array Slot, lv_has ls 8 [(0, va_rf (some a0)), (1, .int x1), (2, va_rf x2), (3, .int x3), (4, .int x4)] → W p l e R s m args below meth c H locs (u.1 - u0.1) (u.2.1 - u0.2.1) (MQ below (uQi G r uf) args s (uf.1 - u0.1) (uf.2.1 - u0.2.1) (uA G)) (F0 m 50 ls [])) (zk50 : ∀ (u : UH) (x1 : Int32) (x2 : Option Nat) (x3 : Int32) (x4 : Int32), k50 u x1 x2 x3 x4 = some (r, uf) → u.1 ≤ uf.1 ∧ u.2.1 ≤ uf.2.1) (u : UH) (x1 : Int32) (x2 : Option Nat) (x4 : Int32) (x5 : Int32) (x6 : Int32) (h : f_X1_tryAt_174 N (ub G) (ug G) a0 k50 u x1 x2 x4 x5 x6 = some (r, uf)) (hz0 : (u0.1 ≤ u.1 ∧ u0.2.1 ≤ u.2.1)) {H : Heap} {locs : List Loc} (hP : uP G u H) (hS : va_S (uA G) s.heap H locs) {ls : Array Slot} (hl : lv_has ls 8 [(0, va_rf (some a0)), (1, .int x1), (2, va_rf x2), (4, .int x4), (5, .int x5), (6, .int x6)]) : W p l e R s m args below meth c H locs (u.1 - u0.1) (u.2.1 - u0.2.1) (MQ below (uQi G r uf) args s (uf.1 - u0.1) (uf.2.1 - u0.2.1) (uA G)) (F0 m 174 ls []) := by
  obtain ⟨⟨hx, hb, hml, hown, hts⟩, hKK⟩ := id hC
  have hzf := zz_X1_tryAt_174 (G := G) (a0 := a0) N k50 zk50 u x1 x2 x4 x5 x6 h
  unfold f_X1_tryAt_174 at h
  refine lv_iload hx hb dX1_tryAt_174 (lv_at hl 3 rfl) ?_
  refine lv_iload_n hx hb dX1_tryAt_176 rfl (lv_at hl 1 rfl) ?_
  refine lv_icmp_ne (tgt := 187) hx hb dX1_tryAt_177 (by decide) (fun c1 => ?_) (fun c1 => ?_)
  · have h := mif_f c1 h
    refine lv_iload hx hb dX1_tryAt_187 (lv_at hl 5 rfl) ?_
    refine lv_istore_n (i := 3) (lv' := [(3, .int x6), (0, va_rf (some a0)), (1, .int x1), (2, va_rf x2), (4, .int x4), (5, .int x5), (6, .int x6)]) hx hb dX1_tryAt_189 rfl hl (by decide) (by simp [List.filter_cons, u_cat]) (fun ls hl => ?_)
    obtain ⟨y2, ey2⟩ : ∃ z : Int32, z = x4 + 1 := ⟨_, rfl⟩
    have h := mlet_at ey2 h
    refine lv_iinc (v := y2) (lv' := [(4, .int y2), (3, .int x6), (0, va_rf (some a0)), (1, .int x1), (2, va_rf x2), (5, .int x5), (6, .int x6)]) hx hb dX1_tryAt_190 hl (k := 4) rfl (by rw [ey2]; rfl) (by decide) rfl (fun ls hl => ?_)
    refine lv_goto (tgt := 50) hx hb dX1_tryAt_193 (by decide) ?_
    refine W.cs (cells' := u.1 - u0.1) (slots' := u.2.1 - u0.2.1) (by omega) (by omega) ?_
    exact hk50 u x1 x2 x6 y2 h ⟨by omega, by omega⟩ _ _ hP hS _ (lv_sub hl [2, 3, 4, 1, 0] rfl)
  · have h := mif_t c1 h
    refine u_aload_n (r := some a0) hx hb dX1_tryAt_180 rfl (lv_at hl 0 rfl) ?_
    refine lv_iload hx hb dX1_tryAt_181 (lv_at hl 4 rfl) ?_
    obtain ⟨c3, h⟩ := mif_n h
    obtain ⟨r6, u4, c5, h⟩ := ucall_n h
    have zu4 := zz_X1_done N (ub G) (ug G) u a0 x5 r6 u4 c5
    refine u_calli (va_runV (As := [.int x5]) (rest := []) hC.1 (met_X1_done l N G u a0 x5 r6 u4 c5) (cwV 1 hts (lw_V q1064 q1066 qs14 q98 q1067) rfl rfl rfl (by decide +kernel) ⟨Nat.le_trans (Nat.le_of_ble_eq_true rfl) hR.1, Nat.le_trans (Nat.le_of_ble_eq_true rfl) hR.2⟩) ⟨uPc_blind, u_rcv hC hP c3 rfl, fun U hU hW => u_pre hC hP hS hU hW⟩ rfl rfl hl.1 rfl (lv_room (Nat.le_of_ble_eq_true rfl)) dX1_tryAt_183 ⟨by omega, by omega⟩) hS (fun H locs hP hS => ?_)
    refine W.cs (cells' := u4.1 - u0.1) (slots' := u4.2.1 - u0.2.1) (by omega) (by omega) ?_
    obtain ⟨hr1, hr2⟩ := uret_n h
    subst hr1
    subst hr2
    exact u_iret hC hP hS dX1_tryAt_186
def f_X1_tryAt_168 (N b : Nat) (g : uEnv) (a0 : Nat) (k50 : UH → Int32 → Option Nat → Int32 → Int32 → Option (Int32 × UH)) (k63 : UH → Int32 → Option Nat → Int32 → Int32 → Int32 → Int32 → Int32 → Option (Int32 × UH)) (u : UH) (x1 : Int32) (x2 : Option Nat) (x3 : Int32) (x4 : Int32) (x5 : Int32) (x6 : Int32) (x7 : Int32) : Option (Int32 × UH) :=
    mlet (x7 + 1) fun y1 =>
    k63 u x1 x2 x3 x4 x5 x6 y1
set_option maxHeartbeats 4000000 in
set_option maxRecDepth 100000 in
theorem zz_X1_tryAt_168 {G : uG} {a0 : Nat} {uf : UH} {r : Int32} (N : Nat) (k50 : UH → Int32 → Option Nat → Int32 → Int32 → Option (Int32 × UH)) (hk50 : ∀ (u : UH) (x1 : Int32) (x2 : Option Nat) (x3 : Int32) (x4 : Int32), k50 u x1 x2 x3 x4 = some (r, uf) → u.1 ≤ uf.1 ∧ u.2.1 ≤ uf.2.1) (k63 : UH → Int32 → Option Nat → Int32 → Int32 → Int32 → Int32 → Int32 → Option (Int32 × UH)) (hk63 : ∀ (u : UH) (x1 : Int32) (x2 : Option Nat) (x3 : Int32) (x4 : Int32) (x5 : Int32) (x6 : Int32) (x7 : Int32), k63 u x1 x2 x3 x4 x5 x6 x7 = some (r, uf) → u.1 ≤ uf.1 ∧ u.2.1 ≤ uf.2.1) (u : UH) (x1 : Int32) (x2 : Option Nat) (x3 : Int32) (x4 : Int32) (x5 : Int32) (x6 : Int32) (x7 : Int32) (h : f_X1_tryAt_168 N (ub G) (ug G) a0 k50 k63 u x1 x2 x3 x4 x5 x6 x7 = some (r, uf)) : u.1 ≤ uf.1 ∧ u.2.1 ≤ uf.2.1 := by
  unfold f_X1_tryAt_168 at h
  obtain ⟨y1, ey1⟩ : ∃ z : Int32, z = x7 + 1 := ⟨_, rfl⟩
  have h := mlet_at ey1 h
  have hq := hk63 u x1 x2 x3 x4 x5 x6 y1 h
  exact ⟨by omega, by omega⟩
set_option maxHeartbeats 4000000 in
set_option maxRecDepth 100000 in
theorem w_X1_tryAt_168 {p : Program} {l : Launch} {e : Env} {R : Room} {s : State} {m : MethodId} {args : Array Value} {below : List Frame} {meth : Method} {c : Code} {G : uG} {a0 : Nat} {u0 : UH} {uf : UH} {r : Int32} (hC : uC p s m args meth c G RX1 cX1_tryAt 8 (some .int)) (hR : 7 ≤ R.frames ∧ 156 ≤ R.locals) (hRm : uf.1 - u0.1 ≤ R.cells ∧ uf.2.1 - u0.2.1 ≤ R.slots) (N : Nat) (k50 : UH → Int32 → Option Nat → Int32 → Int32 → Option (Int32 × UH)) (hk50 : ∀ (u : UH) (x1 : Int32) (x2 : Option Nat) (x3 : Int32) (x4 : Int32), k50 u x1 x2 x3 x4 = some (r, uf) → (u0.1 ≤ u.1 ∧ u0.2.1 ≤ u.2.1) → ∀ (H : Heap) (locs : List Loc), uP G u H → va_S (uA G) s.heap H locs → ∀ ls : Array Slot, lv_has ls 8 [(0, va_rf (some a0)), (1, .int x1), (2, va_rf x2), (3, .int x3), (4, .int x4)] → W p l e R s m args below meth c H locs (u.1 - u0.1) (u.2.1 - u0.2.1) (MQ below (uQi G r uf) args s (uf.1 - u0.1) (uf.2.1 - u0.2.1) (uA G)) (F0 m 50 ls [])) (zk50 : ∀ (u : UH) (x1 : Int32) (x2 : Option Nat) (x3 : Int32) (x4 : Int32), k50 u x1 x2 x3 x4 = some (r, uf) → u.1 ≤ uf.1 ∧ u.2.1 ≤ uf.2.1) (k63 : UH → Int32 → Option Nat → Int32 → Int32 → Int32 → Int32 → Int32 → Option (Int32 × UH)) (hk63 : ∀ (u : UH) (x1 : Int32) (x2 : Option Nat) (x3 : Int32) (x4 : Int32) (x5 : Int32) (x6 : Int32) (x7 : Int32), k63 u x1 x2 x3 x4 x5 x6 x7 = some (r, uf) → (u0.1 ≤ u.1 ∧ u0.2.1 ≤ u.2.1) → ∀ (H : Heap) (locs : List Loc), uP G u H → va_S (uA G) s.heap H locs → ∀ ls : Array Slot, lv_has ls 8 [(0, va_rf (some a0)), (1, .int x1), (2, va_rf x2), (3, .int x3), (4, .int x4), (5, .int x5), (6, .int x6), (7, .int x7)] → W p l e R s m args below meth c H locs (u.1 - u0.1) (u.2.1 - u0.2.1) (MQ below (uQi G r uf) args s (uf.1 - u0.1) (uf.2.1 - u0.2.1) (uA G)) (F0 m 63 ls [])) (zk63 : ∀ (u : UH) (x1 : Int32) (x2 : Option Nat) (x3 : Int32) (x4 : Int32) (x5 : Int32) (x6 : Int32) (x7 : Int32), k63 u x1 x2 x3 x4 x5 x6 x7 = some (r, uf) → u.1 ≤ uf.1 ∧ u.2.1 ≤ uf.2.1) (u : UH) (x1 : Int32) (x2 : Option Nat) (x3 : Int32) (x4 : Int32) (x5 : Int32) (x6 : Int32) (x7 : Int32) (h : f_X1_tryAt_168 N (ub G) (ug G) a0 k50 k63 u x1 x2 x3 x4 x5 x6 x7 = some (r, uf)) (hz0 : (u0.1 ≤ u.1 ∧ u0.2.1 ≤ u.2.1)) {H : Heap} {locs : List Loc} (hP : uP G u H) (hS : va_S (uA G) s.heap H locs) {ls : Array Slot} (hl : lv_has ls 8 [(0, va_rf (some a0)), (1, .int x1), (2, va_rf x2), (3, .int x3), (4, .int x4), (5, .int x5), (6, .int x6), (7, .int x7)]) : W p l e R s m args below meth c H locs (u.1 - u0.1) (u.2.1 - u0.2.1) (MQ below (uQi G r uf) args s (uf.1 - u0.1) (uf.2.1 - u0.2.1) (uA G)) (F0 m 168 ls []) := by
  obtain ⟨⟨hx, hb, hml, hown, hts⟩, hKK⟩ := id hC
  have hzf := zz_X1_tryAt_168 (G := G) (a0 := a0) N k50 zk50 k63 zk63 u x1 x2 x3 x4 x5 x6 x7 h
  unfold f_X1_tryAt_168 at h
  obtain ⟨y1, ey1⟩ : ∃ z : Int32, z = x7 + 1 := ⟨_, rfl⟩
  have h := mlet_at ey1 h
  refine lv_iinc (v := y1) (lv' := [(7, .int y1), (0, va_rf (some a0)), (1, .int x1), (2, va_rf x2), (3, .int x3), (4, .int x4), (5, .int x5), (6, .int x6)]) hx hb dX1_tryAt_168 hl (k := 7) rfl (by rw [ey1]; rfl) (by decide) rfl (fun ls hl => ?_)
  refine lv_goto (tgt := 63) hx hb dX1_tryAt_171 (by decide) ?_
  refine W.cs (cells' := u.1 - u0.1) (slots' := u.2.1 - u0.2.1) (by omega) (by omega) ?_
  exact hk63 u x1 x2 x3 x4 x5 x6 y1 h ⟨by omega, by omega⟩ _ _ hP hS _ (lv_sub hl [1, 2, 3, 4, 5, 6, 7, 0] rfl)
def f_X1_tryAt_63 (N b : Nat) (g : uEnv) (a0 : Nat) (k50 : UH → Int32 → Option Nat → Int32 → Int32 → Option (Int32 × UH)) : Nat → UH → Int32 → Option Nat → Int32 → Int32 → Int32 → Int32 → Int32 → Option (Int32 × UH)
  | 0, _, _, _, _, _, _, _, _ => none
  | n + 1, u, x1, x2, x3, x4, x5, x6, x7 =>
    (x2).bind fun a1 =>
    if uIs u a1 17 = true then
    ucall (f_X19_many N b g u a1) fun r5 u3 =>
    if r5 ≤ x7 then
    f_X1_tryAt_174 N b g a0 k50 u3 x1 (some a1) x4 x5 x6
    else
    if x5 = (-1) then
    if uIs u3 a1 17 = true then
    ucall (f_X19_attempt N b g u3 a1 x7) fun o11 u9 =>
    (uGR u9 a0 0 2).bind fun o12 =>
    (o12).bind fun a13 =>
    (uGI u9 a13 3 3).bind fun y14 =>
    if ¬ y14 = 0 then
    if uIs u9 a1 17 = true then
    ucall (f_X19_next N b g u9 a1 x3 o11 (x7 - x7 / y14 * y14)) fun r19 u17 =>
    (uGR u17 a1 17 1).bind fun o20 =>
    (o20).bind fun a21 =>
    (uLdL u17 a21 3 r19).bind fun y22 =>
    if (lg_cmp y22 1152921504606846976) = 0 then
    f_X1_tryAt_168 N b g a0 k50 (f_X1_tryAt_63 N b g a0 k50 n) u17 x1 (some a1) x3 x4 x5 r19 x7
    else
    (uGR u17 a1 17 1).bind fun o24 =>
    (o24).bind fun a25 =>
    (uLdL u17 a25 3 r19).bind fun y26 =>
    if uIs u17 a1 17 = true then
    ucall (f_X19_attempt N b g u17 a1 x7) fun o30 u28 =>
    ucall (f_X19_cost N b g u28 o30) fun r33 u31 =>
    (uGR u31 a1 17 1).bind fun o34 =>
    (o34).bind fun a35 =>
    (uLdL u31 a35 3 x3).bind fun y36 =>
    if (lg_cmp (y26 + r33) y36) = 0 then
    (uGR u31 a0 0 2).bind fun o38 =>
    (o38).bind fun a39 =>
    (uGI u31 a39 3 3).bind fun y40 =>
    if ¬ y40 = 0 then
    (uGR u31 a0 0 2).bind fun o42 =>
    (o42).bind fun a43 =>
    (uGI u31 a43 3 3).bind fun y44 =>
    if ¬ y44 = 0 then
    mlet ((10 * (x7 / y40)) + (x7 - x7 / y44 * y44)) fun y46 =>
    f_X1_tryAt_168 N b g a0 k50 (f_X1_tryAt_63 N b g a0 k50 n) u31 x1 (some a1) x3 x4 y46 r19 x7
    else none
    else none
    else
    f_X1_tryAt_168 N b g a0 k50 (f_X1_tryAt_63 N b g a0 k50 n) u31 x1 (some a1) x3 x4 x5 r19 x7
    else none
    else none
    else none
    else none
    else
    f_X1_tryAt_174 N b g a0 k50 u3 x1 (some a1) x4 x5 x6
    else none
set_option maxHeartbeats 4000000 in
set_option maxRecDepth 100000 in
theorem zz_X1_tryAt_63 {G : uG} {a0 : Nat} {uf : UH} {r : Int32} (N : Nat) (k50 : UH → Int32 → Option Nat → Int32 → Int32 → Option (Int32 × UH)) (hk50 : ∀ (u : UH) (x1 : Int32) (x2 : Option Nat) (x3 : Int32) (x4 : Int32), k50 u x1 x2 x3 x4 = some (r, uf) → u.1 ≤ uf.1 ∧ u.2.1 ≤ uf.2.1) : ∀ (n : Nat) (u : UH) (x1 : Int32) (x2 : Option Nat) (x3 : Int32) (x4 : Int32) (x5 : Int32) (x6 : Int32) (x7 : Int32), f_X1_tryAt_63 N (ub G) (ug G) a0 k50 n u x1 x2 x3 x4 x5 x6 x7 = some (r, uf) → u.1 ≤ uf.1 ∧ u.2.1 ≤ uf.2.1 := by
  intro n
  induction n with
  | zero =>
    intro u x1 x2 x3 x4 x5 x6 x7 h
    cases h
  | succ n ih =>
    intro u x1 x2 x3 x4 x5 x6 x7 h
    unfold f_X1_tryAt_63 at h
    obtain ⟨a1, ha1, hha1⟩ := mbind_n h
    subst ha1
    have h := hha1
    obtain ⟨c2, h⟩ := mif_n h
    obtain ⟨r5, u3, c4, h⟩ := ucall_n h
    have zu3 := zz_X19_many N (ub G) (ug G) u a1 r5 u3 c4
    by_cases c6 : r5 ≤ x7
    · have h := mif_t c6 h
      have hq := zz_X1_tryAt_174 (G := G) (a0 := a0) N k50 hk50 u3 x1 (some a1) x4 x5 x6 h
      exact ⟨by omega, by omega⟩
    · have h := mif_f c6 h
      by_cases c7 : x5 = (-1)
      · have h := mif_t c7 h
        obtain ⟨c8, h⟩ := mif_n h
        obtain ⟨o11, u9, c10, h⟩ := ucall_n h
        have zu9 := zz_X19_attempt N (ub G) (ug G) u3 a1 x7 o11 u9 c10
        obtain ⟨o12, ho12, h⟩ := mbind_n h
        obtain ⟨a13, ha13, hha13⟩ := mbind_n h
        subst ha13
        have h := hha13
        obtain ⟨y14, hy14, h⟩ := mbind_n h
        obtain ⟨c15, h⟩ := mif_n h
        obtain ⟨c16, h⟩ := mif_n h
        obtain ⟨r19, u17, c18, h⟩ := ucall_n h
        have zu17 := zz_X19_next N (ub G) (ug G) u9 a1 x3 o11 (x7 - x7 / y14 * y14) r19 u17 c18
        obtain ⟨o20, ho20, h⟩ := mbind_n h
        obtain ⟨a21, ha21, hha21⟩ := mbind_n h
        subst ha21
        have h := hha21
        obtain ⟨y22, hy22, h⟩ := mbind_n h
        by_cases c23 : (lg_cmp y22 1152921504606846976) = 0
        · have h := mif_t c23 h
          have hq := zz_X1_tryAt_168 (G := G) (a0 := a0) N k50 hk50 (f_X1_tryAt_63 N (ub G) (ug G) a0 k50 n) ih u17 x1 (some a1) x3 x4 x5 r19 x7 h
          exact ⟨by omega, by omega⟩
        · have h := mif_f c23 h
          obtain ⟨o24, ho24, h⟩ := mbind_n h
          obtain ⟨a25, ha25, hha25⟩ := mbind_n h
          subst ha25
          have h := hha25
          obtain ⟨y26, hy26, h⟩ := mbind_n h
          obtain ⟨c27, h⟩ := mif_n h
          obtain ⟨o30, u28, c29, h⟩ := ucall_n h
          have zu28 := zz_X19_attempt N (ub G) (ug G) u17 a1 x7 o30 u28 c29
          obtain ⟨r33, u31, c32, h⟩ := ucall_n h
          have zu31 := zz_X19_cost N (ub G) (ug G) u28 o30 r33 u31 c32
          obtain ⟨o34, ho34, h⟩ := mbind_n h
          obtain ⟨a35, ha35, hha35⟩ := mbind_n h
          subst ha35
          have h := hha35
          obtain ⟨y36, hy36, h⟩ := mbind_n h
          by_cases c37 : (lg_cmp (y26 + r33) y36) = 0
          · have h := mif_t c37 h
            obtain ⟨o38, ho38, h⟩ := mbind_n h
            obtain ⟨a39, ha39, hha39⟩ := mbind_n h
            subst ha39
            have h := hha39
            obtain ⟨y40, hy40, h⟩ := mbind_n h
            obtain ⟨c41, h⟩ := mif_n h
            obtain ⟨o42, ho42, h⟩ := mbind_n h
            obtain ⟨a43, ha43, hha43⟩ := mbind_n h
            subst ha43
            have h := hha43
            obtain ⟨y44, hy44, h⟩ := mbind_n h
            obtain ⟨c45, h⟩ := mif_n h
            obtain ⟨y46, ey46⟩ : ∃ z, z = (10 * (x7 / y40)) + (x7 - x7 / y44 * y44) := ⟨_, rfl⟩
            have h := mlet_at ey46 h
            have hq := zz_X1_tryAt_168 (G := G) (a0 := a0) N k50 hk50 (f_X1_tryAt_63 N (ub G) (ug G) a0 k50 n) ih u31 x1 (some a1) x3 x4 y46 r19 x7 h
            exact ⟨by omega, by omega⟩
          · have h := mif_f c37 h
            have hq := zz_X1_tryAt_168 (G := G) (a0 := a0) N k50 hk50 (f_X1_tryAt_63 N (ub G) (ug G) a0 k50 n) ih u31 x1 (some a1) x3 x4 x5 r19 x7 h
            exact ⟨by omega, by omega⟩
      · have h := mif_f c7 h
        have hq := zz_X1_tryAt_174 (G := G) (a0 := a0) N k50 hk50 u3 x1 (some a1) x4 x5 x6 h
        exact ⟨by omega, by omega⟩
set_option maxHeartbeats 4000000 in
set_option maxRecDepth 100000 in
theorem w_X1_tryAt_63 {p : Program} {l : Launch} {e : Env} {R : Room} {s : State} {m : MethodId} {args : Array Value} {below : List Frame} {meth : Method} {c : Code} {G : uG} {a0 : Nat} {u0 : UH} {uf : UH} {r : Int32} (hC : uC p s m args meth c G RX1 cX1_tryAt 8 (some .int)) (hR : 7 ≤ R.frames ∧ 156 ≤ R.locals) (hRm : uf.1 - u0.1 ≤ R.cells ∧ uf.2.1 - u0.2.1 ≤ R.slots) (N : Nat) (k50 : UH → Int32 → Option Nat → Int32 → Int32 → Option (Int32 × UH)) (hk50 : ∀ (u : UH) (x1 : Int32) (x2 : Option Nat) (x3 : Int32) (x4 : Int32), k50 u x1 x2 x3 x4 = some (r, uf) → (u0.1 ≤ u.1 ∧ u0.2.1 ≤ u.2.1) → ∀ (H : Heap) (locs : List Loc), uP G u H → va_S (uA G) s.heap H locs → ∀ ls : Array Slot, lv_has ls 8 [(0, va_rf (some a0)), (1, .int x1), (2, va_rf x2), (3, .int x3), (4, .int x4)] → W p l e R s m args below meth c H locs (u.1 - u0.1) (u.2.1 - u0.2.1) (MQ below (uQi G r uf) args s (uf.1 - u0.1) (uf.2.1 - u0.2.1) (uA G)) (F0 m 50 ls [])) (zk50 : ∀ (u : UH) (x1 : Int32) (x2 : Option Nat) (x3 : Int32) (x4 : Int32), k50 u x1 x2 x3 x4 = some (r, uf) → u.1 ≤ uf.1 ∧ u.2.1 ≤ uf.2.1) : ∀ (n : Nat) (u : UH) (x1 : Int32) (x2 : Option Nat) (x3 : Int32) (x4 : Int32) (x5 : Int32) (x6 : Int32) (x7 : Int32), f_X1_tryAt_63 N (ub G) (ug G) a0 k50 n u x1 x2 x3 x4 x5 x6 x7 = some (r, uf) → (u0.1 ≤ u.1 ∧ u0.2.1 ≤ u.2.1) → ∀ (H : Heap) (locs : List Loc), uP G u H → va_S (uA G) s.heap H locs → ∀ ls : Array Slot, lv_has ls 8 [(0, va_rf (some a0)), (1, .int x1), (2, va_rf x2), (3, .int x3), (4, .int x4), (5, .int x5), (6, .int x6), (7, .int x7)] → W p l e R s m args below meth c H locs (u.1 - u0.1) (u.2.1 - u0.2.1) (MQ below (uQi G r uf) args s (uf.1 - u0.1) (uf.2.1 - u0.2.1) (uA G)) (F0 m 63 ls []) := by
  obtain ⟨⟨hx, hb, hml, hown, hts⟩, hKK⟩ := id hC
  intro n
  induction n with
  | zero =>
    intro u x1 x2 x3 x4 x5 x6 x7 h
    cases h
  | succ n ih =>
    intro u x1 x2 x3 x4 x5 x6 x7 h hz0 H locs hP hS ls hl
    have hzf := zz_X1_tryAt_63 (G := G) (a0 := a0) N k50 zk50 (n + 1) u x1 x2 x3 x4 x5 x6 x7 h
    unfold f_X1_tryAt_63 at h
    refine lv_iload hx hb dX1_tryAt_63 (lv_at hl 7 rfl) ?_
    refine u_aload_n (r := x2) hx hb dX1_tryAt_65 rfl (lv_at hl 2 rfl) ?_
    obtain ⟨a1, ha1, hha1⟩ := mbind_n h
    subst ha1
    have h := hha1
    obtain ⟨c2, h⟩ := mif_n h
    obtain ⟨r5, u3, c4, h⟩ := ucall_n h
    have zu3 := zz_X19_many N (ub G) (ug G) u a1 r5 u3 c4
    refine u_calli (va_runV (As := []) (rest := [.int x7]) hC.1 (met_X19_many l N G u a1 r5 u3 c4) (cwV 0 hts (lw_V q1822 q1773 q1774 q141 q1775) rfl rfl rfl (by decide +kernel) ⟨Nat.le_trans (Nat.le_of_ble_eq_true rfl) hR.1, Nat.le_trans (Nat.le_of_ble_eq_true rfl) hR.2⟩) ⟨uPc_blind, u_rcv hC hP c2 rfl, fun U hU hW => u_pre hC hP hS hU hW⟩ rfl rfl hl.1 rfl (lv_room (Nat.le_of_ble_eq_true rfl)) dX1_tryAt_66 ⟨by omega, by omega⟩) hS (fun H locs hP hS => ?_)
    refine W.cs (cells' := u3.1 - u0.1) (slots' := u3.2.1 - u0.2.1) (by omega) (by omega) ?_
    refine lv_icmp_ge (tgt := 174) hx hb dX1_tryAt_69 (by decide) (fun c6 => ?_) (fun c6 => ?_)
    · have h := mif_t c6 h
      refine W.cs (cells' := u3.1 - u0.1) (slots' := u3.2.1 - u0.2.1) (by omega) (by omega) ?_
      exact w_X1_tryAt_174 hC hR hRm N k50 hk50 zk50 u3 x1 (some a1) x4 x5 x6 h ⟨by omega, by omega⟩ hP hS (lv_sub hl [0, 1, 2, 4, 5, 6] rfl)
    · have h := mif_f c6 h
      refine lv_iload hx hb dX1_tryAt_72 (lv_at hl 5 rfl) ?_
      refine lv_iconst (v := (-1)) hx hb dX1_tryAt_74 (by decide) ?_
      refine lv_icmp_ne (tgt := 174) hx hb dX1_tryAt_75 (by decide) (fun c7 => ?_) (fun c7 => ?_)
      · have h := mif_f c7 h
        refine W.cs (cells' := u3.1 - u0.1) (slots' := u3.2.1 - u0.2.1) (by omega) (by omega) ?_
        exact w_X1_tryAt_174 hC hR hRm N k50 hk50 zk50 u3 x1 (some a1) x4 x5 x6 h ⟨by omega, by omega⟩ hP hS (lv_sub hl [0, 1, 2, 4, 5, 6] rfl)
      · have h := mif_t c7 h
        refine u_aload_n (r := some a1) hx hb dX1_tryAt_78 rfl (lv_at hl 2 rfl) ?_
        refine lv_iload_n hx hb dX1_tryAt_79 rfl (lv_at hl 3 rfl) ?_
        refine u_aload_n (r := some a1) hx hb dX1_tryAt_80 rfl (lv_at hl 2 rfl) ?_
        refine lv_iload hx hb dX1_tryAt_81 (lv_at hl 7 rfl) ?_
        obtain ⟨c8, h⟩ := mif_n h
        obtain ⟨o11, u9, c10, h⟩ := ucall_n h
        have zu9 := zz_X19_attempt N (ub G) (ug G) u3 a1 x7 o11 u9 c10
        refine u_callr (va_runV (As := [.int x7]) (rest := [.int x3, va_rf (some a1)]) hC.1 (met_X19_attempt l N G u3 a1 x7 o11 u9 c10) (cwV 1 hts (lw_V q1823 q1778 q1779 q141 q1780) rfl rfl rfl (by decide +kernel) ⟨Nat.le_trans (Nat.le_of_ble_eq_true rfl) hR.1, Nat.le_trans (Nat.le_of_ble_eq_true rfl) hR.2⟩) ⟨uPc_blind, u_rcv hC hP c8 rfl, fun U hU hW => u_pre hC hP hS hU hW⟩ rfl rfl hl.1 rfl (lv_room (Nat.le_of_ble_eq_true rfl)) dX1_tryAt_83 ⟨by omega, by omega⟩) hS (fun H locs hP hS => ?_)
        refine W.cs (cells' := u9.1 - u0.1) (slots' := u9.2.1 - u0.2.1) (by omega) (by omega) ?_
        refine lv_iload hx hb dX1_tryAt_86 (lv_at hl 7 rfl) ?_
        refine u_aload_n (r := some a0) hx hb dX1_tryAt_88 rfl (lv_at hl 0 rfl) ?_
        obtain ⟨o12, ho12, h⟩ := mbind_n h
        refine u_get hC hP (uGR_n ho12) rfl in_X1 (by decide) q217 (fun _ h => h) dX1_tryAt_89 ?_
        obtain ⟨a13, ha13, hha13⟩ := mbind_n h
        subst ha13
        have h := hha13
        obtain ⟨y14, hy14, h⟩ := mbind_n h
        refine u_getN hC hP (uGI_n hy14) rfl in_X4 (by decide) q299 (fun _ h => h) dX1_tryAt_92 ?_
        obtain ⟨c15, h⟩ := mif_n h
        refine lv_irem hx hb dX1_tryAt_95 c15 ?_
        obtain ⟨c16, h⟩ := mif_n h
        obtain ⟨r19, u17, c18, h⟩ := ucall_n h
        have zu17 := zz_X19_next N (ub G) (ug G) u9 a1 x3 o11 (x7 - x7 / y14 * y14) r19 u17 c18
        refine u_calli (va_runV (As := [.int x3, va_rf o11, .int (x7 - x7 / y14 * y14)]) (rest := []) hC.1 (met_X19_next l N G u9 a1 x3 o11 (x7 - x7 / y14 * y14) r19 u17 c18) (cwV 3 hts (lw_V q1824 q1791 q1792 q141 q1793) rfl rfl rfl (by decide +kernel) ⟨Nat.le_trans (Nat.le_of_ble_eq_true rfl) hR.1, Nat.le_trans (Nat.le_of_ble_eq_true rfl) hR.2⟩) ⟨uPc_blind, u_rcv hC hP c16 rfl, fun U hU hW => u_pre hC hP hS hU hW⟩ rfl rfl hl.1 rfl (lv_room (Nat.le_of_ble_eq_true rfl)) dX1_tryAt_96 ⟨by omega, by omega⟩) hS (fun H locs hP hS => ?_)
        refine W.cs (cells' := u17.1 - u0.1) (slots' := u17.2.1 - u0.2.1) (by omega) (by omega) ?_
        refine lv_istore (lv' := [(6, .int r19), (0, va_rf (some a0)), (1, .int x1), (2, va_rf (some a1)), (3, .int x3), (4, .int x4), (5, .int x5), (7, .int x7)]) hx hb dX1_tryAt_99 hl (by decide) rfl (fun ls hl => ?_)
        refine u_aload_n (r := some a1) hx hb dX1_tryAt_101 rfl (lv_at hl 3 rfl) ?_
        obtain ⟨o20, ho20, h⟩ := mbind_n h
        refine u_getN hC hP (uGR_n ho20) rfl in_X19 (by decide) q1807 (fun _ h => h) dX1_tryAt_102 ?_
        refine lv_iload hx hb dX1_tryAt_105 (lv_at hl 0 rfl) ?_
        obtain ⟨a21, ha21, hha21⟩ := mbind_n h
        subst ha21
        have h := hha21
        obtain ⟨y22, hy22, h⟩ := mbind_n h
        refine u_lald hC hP hy22 rfl dX1_tryAt_107 ?_
        refine lv_ldc2 hx hb hown (hts _ q1817) dX1_tryAt_108 ?_
        refine W.lcmp hx hb dX1_tryAt_111 ?_
        refine lv_if_eq (tgt := 168) hx hb dX1_tryAt_112 (by decide) (fun c23 => ?_) (fun c23 => ?_)
        · have h := mif_t c23 h
          refine W.cs (cells' := u17.1 - u0.1) (slots' := u17.2.1 - u0.2.1) (by omega) (by omega) ?_
          exact w_X1_tryAt_168 hC hR hRm N k50 hk50 zk50 (f_X1_tryAt_63 N (ub G) (ug G) a0 k50 n) ih (zz_X1_tryAt_63 (G := G) (a0 := a0) N k50 zk50 n) u17 x1 (some a1) x3 x4 x5 r19 x7 h ⟨by omega, by omega⟩ hP hS (lv_sub hl [1, 2, 3, 4, 5, 6, 0, 7] rfl)
        · have h := mif_f c23 h
          refine u_aload_n (r := some a1) hx hb dX1_tryAt_115 rfl (lv_at hl 3 rfl) ?_
          obtain ⟨o24, ho24, h⟩ := mbind_n h
          refine u_getN hC hP (uGR_n ho24) rfl in_X19 (by decide) q1807 (fun _ h => h) dX1_tryAt_116 ?_
          refine lv_iload hx hb dX1_tryAt_119 (lv_at hl 0 rfl) ?_
          obtain ⟨a25, ha25, hha25⟩ := mbind_n h
          subst ha25
          have h := hha25
          obtain ⟨y26, hy26, h⟩ := mbind_n h
          refine u_lald hC hP hy26 rfl dX1_tryAt_121 ?_
          refine u_aload_n (r := some a1) hx hb dX1_tryAt_122 rfl (lv_at hl 3 rfl) ?_
          refine lv_iload hx hb dX1_tryAt_123 (lv_at hl 7 rfl) ?_
          obtain ⟨c27, h⟩ := mif_n h
          obtain ⟨o30, u28, c29, h⟩ := ucall_n h
          have zu28 := zz_X19_attempt N (ub G) (ug G) u17 a1 x7 o30 u28 c29
          refine u_callr (va_runV (As := [.int x7]) (rest := [.long y26]) hC.1 (met_X19_attempt l N G u17 a1 x7 o30 u28 c29) (cwV 1 hts (lw_V q1823 q1778 q1779 q141 q1780) rfl rfl rfl (by decide +kernel) ⟨Nat.le_trans (Nat.le_of_ble_eq_true rfl) hR.1, Nat.le_trans (Nat.le_of_ble_eq_true rfl) hR.2⟩) ⟨uPc_blind, u_rcv hC hP c27 rfl, fun U hU hW => u_pre hC hP hS hU hW⟩ rfl rfl hl.1 rfl (lv_room (Nat.le_of_ble_eq_true rfl)) dX1_tryAt_125 ⟨by omega, by omega⟩) hS (fun H locs hP hS => ?_)
          refine W.cs (cells' := u28.1 - u0.1) (slots' := u28.2.1 - u0.2.1) (by omega) (by omega) ?_
          obtain ⟨r33, u31, c32, h⟩ := ucall_n h
          have zu31 := zz_X19_cost N (ub G) (ug G) u28 o30 r33 u31 c32
          refine u_calll (va_runS (As := [va_rf o30]) (rest := [.long y26]) hC.1 (met_X19_cost l N G u28 o30 r33 u31 c32) (va_cwS 1 hts (lw_S q1825 q1784 q141 q1785) rfl rfl rfl (by decide +kernel) ⟨Nat.le_trans (Nat.le_of_ble_eq_true rfl) hR.1, Nat.le_trans (Nat.le_of_ble_eq_true rfl) hR.2⟩) ⟨uPc_blind, fun U hU hW => u_pre hC hP hS hU hW⟩ rfl rfl hl.1 rfl (lv_room (Nat.le_of_ble_eq_true rfl)) dX1_tryAt_128 ⟨by omega, by omega⟩) hS (fun H locs hP hS => ?_)
          refine W.cs (cells' := u31.1 - u0.1) (slots' := u31.2.1 - u0.2.1) (by omega) (by omega) ?_
          refine lv_ladd hx hb dX1_tryAt_131 ?_
          refine u_aload_n (r := some a1) hx hb dX1_tryAt_132 rfl (lv_at hl 3 rfl) ?_
          obtain ⟨o34, ho34, h⟩ := mbind_n h
          refine u_getN hC hP (uGR_n ho34) rfl in_X19 (by decide) q1807 (fun _ h => h) dX1_tryAt_133 ?_
          refine lv_iload_n hx hb dX1_tryAt_136 rfl (lv_at hl 4 rfl) ?_
          obtain ⟨a35, ha35, hha35⟩ := mbind_n h
          subst ha35
          have h := hha35
          obtain ⟨y36, hy36, h⟩ := mbind_n h
          refine u_lald hC hP hy36 rfl dX1_tryAt_137 ?_
          refine W.lcmp hx hb dX1_tryAt_138 ?_
          refine lv_if_ne (tgt := 168) hx hb dX1_tryAt_139 (by decide) (fun c37 => ?_) (fun c37 => ?_)
          · have h := mif_f c37 h
            refine W.cs (cells' := u31.1 - u0.1) (slots' := u31.2.1 - u0.2.1) (by omega) (by omega) ?_
            exact w_X1_tryAt_168 hC hR hRm N k50 hk50 zk50 (f_X1_tryAt_63 N (ub G) (ug G) a0 k50 n) ih (zz_X1_tryAt_63 (G := G) (a0 := a0) N k50 zk50 n) u31 x1 (some a1) x3 x4 x5 r19 x7 h ⟨by omega, by omega⟩ hP hS (lv_sub hl [1, 2, 3, 4, 5, 6, 0, 7] rfl)
          · have h := mif_t c37 h
            refine lv_bipush (v := 10) hx hb dX1_tryAt_142 (by decide) ?_
            refine lv_iload hx hb dX1_tryAt_144 (lv_at hl 7 rfl) ?_
            refine u_aload_n (r := some a0) hx hb dX1_tryAt_146 rfl (lv_at hl 1 rfl) ?_
            obtain ⟨o38, ho38, h⟩ := mbind_n h
            refine u_get hC hP (uGR_n ho38) rfl in_X1 (by decide) q217 (fun _ h => h) dX1_tryAt_147 ?_
            obtain ⟨a39, ha39, hha39⟩ := mbind_n h
            subst ha39
            have h := hha39
            obtain ⟨y40, hy40, h⟩ := mbind_n h
            refine u_getN hC hP (uGI_n hy40) rfl in_X4 (by decide) q299 (fun _ h => h) dX1_tryAt_150 ?_
            obtain ⟨c41, h⟩ := mif_n h
            refine lv_idiv hx hb dX1_tryAt_153 c41 ?_
            refine lv_imul hx hb dX1_tryAt_154 ?_
            refine lv_iload hx hb dX1_tryAt_155 (lv_at hl 7 rfl) ?_
            refine u_aload_n (r := some a0) hx hb dX1_tryAt_157 rfl (lv_at hl 1 rfl) ?_
            obtain ⟨o42, ho42, h⟩ := mbind_n h
            refine u_get hC hP (uGR_n ho42) rfl in_X1 (by decide) q217 (fun _ h => h) dX1_tryAt_158 ?_
            obtain ⟨a43, ha43, hha43⟩ := mbind_n h
            subst ha43
            have h := hha43
            obtain ⟨y44, hy44, h⟩ := mbind_n h
            refine u_getN hC hP (uGI_n hy44) rfl in_X4 (by decide) q299 (fun _ h => h) dX1_tryAt_161 ?_
            obtain ⟨c45, h⟩ := mif_n h
            refine lv_irem hx hb dX1_tryAt_164 c45 ?_
            refine lv_iadd hx hb dX1_tryAt_165 ?_
            refine lv_topi (fun y46 ey46 => ?_)
            have h := mlet_at ey46 h
            refine lv_istore (lv' := [(5, .int y46), (6, .int r19), (0, va_rf (some a0)), (1, .int x1), (2, va_rf (some a1)), (3, .int x3), (4, .int x4), (7, .int x7)]) hx hb dX1_tryAt_166 hl (by decide) rfl (fun ls hl => ?_)
            refine W.cs (cells' := u31.1 - u0.1) (slots' := u31.2.1 - u0.2.1) (by omega) (by omega) ?_
            exact w_X1_tryAt_168 hC hR hRm N k50 hk50 zk50 (f_X1_tryAt_63 N (ub G) (ug G) a0 k50 n) ih (zz_X1_tryAt_63 (G := G) (a0 := a0) N k50 zk50 n) u31 x1 (some a1) x3 x4 y46 r19 x7 h ⟨by omega, by omega⟩ hP hS (lv_sub hl [2, 3, 4, 5, 6, 0, 1, 7] rfl)
def f_X1_tryAt_50 (N b : Nat) (g : uEnv) (a0 : Nat) : Nat → UH → Int32 → Option Nat → Int32 → Int32 → Option (Int32 × UH)
  | 0, _, _, _, _, _ => none
  | n + 1, u, x1, x2, x3, x4 =>
    if x3 = 0 then
    if uIs u a0 0 = true then
    ucall (f_X1_done N b g u a0 (-2)) fun r5 u3 =>
    some (r5, u3)
    else none
    else
    f_X1_tryAt_63 N b g a0 (f_X1_tryAt_50 N b g a0 n) N u x1 x2 x3 x4 (-1) x3 0
set_option maxHeartbeats 4000000 in
set_option maxRecDepth 100000 in
theorem zz_X1_tryAt_50 {G : uG} {a0 : Nat} {uf : UH} {r : Int32} (N : Nat) : ∀ (n : Nat) (u : UH) (x1 : Int32) (x2 : Option Nat) (x3 : Int32) (x4 : Int32), f_X1_tryAt_50 N (ub G) (ug G) a0 n u x1 x2 x3 x4 = some (r, uf) → u.1 ≤ uf.1 ∧ u.2.1 ≤ uf.2.1 := by
  intro n
  induction n with
  | zero =>
    intro u x1 x2 x3 x4 h
    cases h
  | succ n ih =>
    intro u x1 x2 x3 x4 h
    unfold f_X1_tryAt_50 at h
    by_cases c1 : x3 = 0
    · have h := mif_t c1 h
      obtain ⟨c2, h⟩ := mif_n h
      obtain ⟨r5, u3, c4, h⟩ := ucall_n h
      have zu3 := zz_X1_done N (ub G) (ug G) u a0 (-2) r5 u3 c4
      obtain ⟨hr1, hr2⟩ := uret_n h
      subst hr2
      exact ⟨by omega, by omega⟩
    · have h := mif_f c1 h
      have hq := zz_X1_tryAt_63 (G := G) (a0 := a0) N (f_X1_tryAt_50 N (ub G) (ug G) a0 n) ih N u x1 x2 x3 x4 (-1) x3 0 h
      exact ⟨by omega, by omega⟩
set_option maxHeartbeats 4000000 in
set_option maxRecDepth 100000 in
theorem w_X1_tryAt_50 {p : Program} {l : Launch} {e : Env} {R : Room} {s : State} {m : MethodId} {args : Array Value} {below : List Frame} {meth : Method} {c : Code} {G : uG} {a0 : Nat} {u0 : UH} {uf : UH} {r : Int32} (hC : uC p s m args meth c G RX1 cX1_tryAt 8 (some .int)) (hR : 7 ≤ R.frames ∧ 156 ≤ R.locals) (hRm : uf.1 - u0.1 ≤ R.cells ∧ uf.2.1 - u0.2.1 ≤ R.slots) (N : Nat) : ∀ (n : Nat) (u : UH) (x1 : Int32) (x2 : Option Nat) (x3 : Int32) (x4 : Int32), f_X1_tryAt_50 N (ub G) (ug G) a0 n u x1 x2 x3 x4 = some (r, uf) → (u0.1 ≤ u.1 ∧ u0.2.1 ≤ u.2.1) → ∀ (H : Heap) (locs : List Loc), uP G u H → va_S (uA G) s.heap H locs → ∀ ls : Array Slot, lv_has ls 8 [(0, va_rf (some a0)), (1, .int x1), (2, va_rf x2), (3, .int x3), (4, .int x4)] → W p l e R s m args below meth c H locs (u.1 - u0.1) (u.2.1 - u0.2.1) (MQ below (uQi G r uf) args s (uf.1 - u0.1) (uf.2.1 - u0.2.1) (uA G)) (F0 m 50 ls []) := by
  obtain ⟨⟨hx, hb, hml, hown, hts⟩, hKK⟩ := id hC
  intro n
  induction n with
  | zero =>
    intro u x1 x2 x3 x4 h
    cases h
  | succ n ih =>
    intro u x1 x2 x3 x4 h hz0 H locs hP hS ls hl
    have hzf := zz_X1_tryAt_50 (G := G) (a0 := a0) N (n + 1) u x1 x2 x3 x4 h
    unfold f_X1_tryAt_50 at h
    refine lv_iload_n hx hb dX1_tryAt_50 rfl (lv_at hl 3 rfl) ?_
    refine lv_if_eq (tgt := 196) hx hb dX1_tryAt_51 (by decide) (fun c1 => ?_) (fun c1 => ?_)
    · have h := mif_t c1 h
      refine u_aload_n (r := some a0) hx hb dX1_tryAt_196 rfl (lv_at hl 0 rfl) ?_
      refine lv_bipush (v := (-2)) hx hb dX1_tryAt_197 (by decide) ?_
      obtain ⟨c2, h⟩ := mif_n h
      obtain ⟨r5, u3, c4, h⟩ := ucall_n h
      have zu3 := zz_X1_done N (ub G) (ug G) u a0 (-2) r5 u3 c4
      refine u_calli (va_runV (As := [.int (-2)]) (rest := []) hC.1 (met_X1_done l N G u a0 (-2) r5 u3 c4) (cwV 1 hts (lw_V q1064 q1066 qs14 q98 q1067) rfl rfl rfl (by decide +kernel) ⟨Nat.le_trans (Nat.le_of_ble_eq_true rfl) hR.1, Nat.le_trans (Nat.le_of_ble_eq_true rfl) hR.2⟩) ⟨uPc_blind, u_rcv hC hP c2 rfl, fun U hU hW => u_pre hC hP hS hU hW⟩ rfl rfl hl.1 rfl (lv_room (Nat.le_of_ble_eq_true rfl)) dX1_tryAt_199 ⟨by omega, by omega⟩) hS (fun H locs hP hS => ?_)
      refine W.cs (cells' := u3.1 - u0.1) (slots' := u3.2.1 - u0.2.1) (by omega) (by omega) ?_
      obtain ⟨hr1, hr2⟩ := uret_n h
      subst hr1
      subst hr2
      exact u_iret hC hP hS dX1_tryAt_202
    · have h := mif_f c1 h
      refine lv_iconst (v := (-1)) hx hb dX1_tryAt_54 (by decide) ?_
      refine lv_istore (lv' := [(5, .int (-1)), (0, va_rf (some a0)), (1, .int x1), (2, va_rf x2), (3, .int x3), (4, .int x4)]) hx hb dX1_tryAt_55 hl (by decide) rfl (fun ls hl => ?_)
      refine lv_iload_n hx hb dX1_tryAt_57 rfl (lv_at hl 4 rfl) ?_
      refine lv_istore (lv' := [(6, .int x3), (5, .int (-1)), (0, va_rf (some a0)), (1, .int x1), (2, va_rf x2), (3, .int x3), (4, .int x4)]) hx hb dX1_tryAt_58 hl (by decide) rfl (fun ls hl => ?_)
      refine lv_iconst (v := 0) hx hb dX1_tryAt_60 (by decide) ?_
      refine lv_istore (lv' := [(7, .int 0), (6, .int x3), (5, .int (-1)), (0, va_rf (some a0)), (1, .int x1), (2, va_rf x2), (3, .int x3), (4, .int x4)]) hx hb dX1_tryAt_61 hl (by decide) rfl (fun ls hl => ?_)
      refine W.cs (cells' := u.1 - u0.1) (slots' := u.2.1 - u0.2.1) (by omega) (by omega) ?_
      exact w_X1_tryAt_63 hC hR hRm N (f_X1_tryAt_50 N (ub G) (ug G) a0 n) ih (zz_X1_tryAt_50 (G := G) (a0 := a0) N n) N u x1 x2 x3 x4 (-1) x3 0 h ⟨by omega, by omega⟩ _ _ hP hS _ (lv_sub hl [3, 4, 5, 6, 7, 2, 1, 0] rfl)
def f_X1_tryAt_21 (N b : Nat) (g : uEnv) (a0 : Nat) (u : UH) (x1 : Int32) (s0 : Option Nat) : Option (Int32 × UH) :=
    if uIs u a0 0 = true then
    ucall (f_X1_state N b g u a0) fun r4 u2 =>
    (s0).bind fun a5 =>
    (uGR u2 a5 17 1).bind fun o6 =>
    (o6).bind fun a7 =>
    (uLdL u2 a7 3 r4).bind fun y8 =>
    if (lg_cmp y8 1152921504606846976) = 0 then
    if uIs u2 a0 0 = true then
    ucall (f_X1_done N b g u2 a0 (-2)) fun r13 u11 =>
    some (r13, u11)
    else none
    else
    f_X1_tryAt_50 N b g a0 N u2 x1 (some a5) r4 0
    else none
set_option maxHeartbeats 4000000 in
set_option maxRecDepth 100000 in
theorem zz_X1_tryAt_21 {G : uG} {a0 : Nat} {uf : UH} {r : Int32} (N : Nat) (u : UH) (x1 : Int32) (s0 : Option Nat) (h : f_X1_tryAt_21 N (ub G) (ug G) a0 u x1 s0 = some (r, uf)) : u.1 ≤ uf.1 ∧ u.2.1 ≤ uf.2.1 := by
  unfold f_X1_tryAt_21 at h
  obtain ⟨c1, h⟩ := mif_n h
  obtain ⟨r4, u2, c3, h⟩ := ucall_n h
  have zu2 := zz_X1_state N (ub G) (ug G) u a0 r4 u2 c3
  obtain ⟨a5, ha5, hha5⟩ := mbind_n h
  subst ha5
  have h := hha5
  obtain ⟨o6, ho6, h⟩ := mbind_n h
  obtain ⟨a7, ha7, hha7⟩ := mbind_n h
  subst ha7
  have h := hha7
  obtain ⟨y8, hy8, h⟩ := mbind_n h
  by_cases c9 : (lg_cmp y8 1152921504606846976) = 0
  · have h := mif_t c9 h
    obtain ⟨c10, h⟩ := mif_n h
    obtain ⟨r13, u11, c12, h⟩ := ucall_n h
    have zu11 := zz_X1_done N (ub G) (ug G) u2 a0 (-2) r13 u11 c12
    obtain ⟨hr1, hr2⟩ := uret_n h
    subst hr2
    exact ⟨by omega, by omega⟩
  · have h := mif_f c9 h
    have hq := zz_X1_tryAt_50 (G := G) (a0 := a0) N N u2 x1 (some a5) r4 0 h
    exact ⟨by omega, by omega⟩
set_option maxHeartbeats 4000000 in
set_option maxRecDepth 100000 in
theorem w_X1_tryAt_21 {p : Program} {l : Launch} {e : Env} {R : Room} {s : State} {m : MethodId} {args : Array Value} {below : List Frame} {meth : Method} {c : Code} {G : uG} {a0 : Nat} {u0 : UH} {uf : UH} {r : Int32} (hC : uC p s m args meth c G RX1 cX1_tryAt 8 (some .int)) (hR : 7 ≤ R.frames ∧ 156 ≤ R.locals) (hRm : uf.1 - u0.1 ≤ R.cells ∧ uf.2.1 - u0.2.1 ≤ R.slots) (N : Nat) (u : UH) (x1 : Int32) (s0 : Option Nat) (h : f_X1_tryAt_21 N (ub G) (ug G) a0 u x1 s0 = some (r, uf)) (hz0 : (u0.1 ≤ u.1 ∧ u0.2.1 ≤ u.2.1)) {H : Heap} {locs : List Loc} (hP : uP G u H) (hS : va_S (uA G) s.heap H locs) {ls : Array Slot} (hl : lv_has ls 8 [(0, va_rf (some a0)), (1, .int x1)]) : W p l e R s m args below meth c H locs (u.1 - u0.1) (u.2.1 - u0.2.1) (MQ below (uQi G r uf) args s (uf.1 - u0.1) (uf.2.1 - u0.2.1) (uA G)) (F0 m 21 ls [va_rf s0]) := by
  obtain ⟨⟨hx, hb, hml, hown, hts⟩, hKK⟩ := id hC
  have hzf := zz_X1_tryAt_21 (G := G) (a0 := a0) N u x1 s0 h
  unfold f_X1_tryAt_21 at h
  refine u_astore_n (i := 2) (r := s0) (lv' := [(2, va_rf s0), (0, va_rf (some a0)), (1, .int x1)]) hx hb dX1_tryAt_21 rfl hl (by decide) rfl (fun ls hl => ?_)
  refine u_aload_n (r := some a0) hx hb dX1_tryAt_22 rfl (lv_at hl 1 rfl) ?_
  obtain ⟨c1, h⟩ := mif_n h
  obtain ⟨r4, u2, c3, h⟩ := ucall_n h
  have zu2 := zz_X1_state N (ub G) (ug G) u a0 r4 u2 c3
  refine u_calli (va_runV (As := []) (rest := []) hC.1 (met_X1_state l N G u a0 r4 u2 c3) (cwV 0 hts (lw_V q1813 q1815 qs38 q98 q1816) rfl rfl rfl (by decide +kernel) ⟨Nat.le_trans (Nat.le_of_ble_eq_true rfl) hR.1, Nat.le_trans (Nat.le_of_ble_eq_true rfl) hR.2⟩) ⟨uPc_blind, u_rcv hC hP c1 rfl, fun U hU hW => u_pre hC hP hS hU hW⟩ rfl rfl hl.1 rfl (lv_room (Nat.le_of_ble_eq_true rfl)) dX1_tryAt_23 ⟨by omega, by omega⟩) hS (fun H locs hP hS => ?_)
  refine W.cs (cells' := u2.1 - u0.1) (slots' := u2.2.1 - u0.2.1) (by omega) (by omega) ?_
  refine lv_istore_n (i := 3) (lv' := [(3, .int r4), (2, va_rf s0), (0, va_rf (some a0)), (1, .int x1)]) hx hb dX1_tryAt_26 rfl hl (by decide) (by simp [List.filter_cons, u_cat]) (fun ls hl => ?_)
  refine u_aload_n (r := s0) hx hb dX1_tryAt_27 rfl (lv_at hl 1 rfl) ?_
  obtain ⟨a5, ha5, hha5⟩ := mbind_n h
  subst ha5
  have h := hha5
  obtain ⟨o6, ho6, h⟩ := mbind_n h
  refine u_getN hC hP (uGR_n ho6) rfl in_X19 (by decide) q1807 (fun _ h => h) dX1_tryAt_28 ?_
  refine lv_iload_n hx hb dX1_tryAt_31 rfl (lv_at hl 0 rfl) ?_
  obtain ⟨a7, ha7, hha7⟩ := mbind_n h
  subst ha7
  have h := hha7
  obtain ⟨y8, hy8, h⟩ := mbind_n h
  refine u_lald hC hP hy8 rfl dX1_tryAt_32 ?_
  refine lv_ldc2 hx hb hown (hts _ q1817) dX1_tryAt_33 ?_
  refine W.lcmp hx hb dX1_tryAt_36 ?_
  refine lv_if_ne (tgt := 47) hx hb dX1_tryAt_37 (by decide) (fun c9 => ?_) (fun c9 => ?_)
  · have h := mif_f c9 h
    refine lv_iconst (v := 0) hx hb dX1_tryAt_47 (by decide) ?_
    refine lv_istore (lv' := [(4, .int 0), (3, .int r4), (2, va_rf (some a5)), (0, va_rf (some a0)), (1, .int x1)]) hx hb dX1_tryAt_48 hl (by decide) rfl (fun ls hl => ?_)
    refine W.cs (cells' := u2.1 - u0.1) (slots' := u2.2.1 - u0.2.1) (by omega) (by omega) ?_
    exact w_X1_tryAt_50 hC hR hRm N N u2 x1 (some a5) r4 0 h ⟨by omega, by omega⟩ _ _ hP hS _ (lv_sub hl [3, 4, 2, 1, 0] rfl)
  · have h := mif_t c9 h
    refine u_aload_n (r := some a0) hx hb dX1_tryAt_40 rfl (lv_at hl 2 rfl) ?_
    refine lv_bipush (v := (-2)) hx hb dX1_tryAt_41 (by decide) ?_
    obtain ⟨c10, h⟩ := mif_n h
    obtain ⟨r13, u11, c12, h⟩ := ucall_n h
    have zu11 := zz_X1_done N (ub G) (ug G) u2 a0 (-2) r13 u11 c12
    refine u_calli (va_runV (As := [.int (-2)]) (rest := []) hC.1 (met_X1_done l N G u2 a0 (-2) r13 u11 c12) (cwV 1 hts (lw_V q1064 q1066 qs14 q98 q1067) rfl rfl rfl (by decide +kernel) ⟨Nat.le_trans (Nat.le_of_ble_eq_true rfl) hR.1, Nat.le_trans (Nat.le_of_ble_eq_true rfl) hR.2⟩) ⟨uPc_blind, u_rcv hC hP c10 rfl, fun U hU hW => u_pre hC hP hS hU hW⟩ rfl rfl hl.1 rfl (lv_room (Nat.le_of_ble_eq_true rfl)) dX1_tryAt_43 ⟨by omega, by omega⟩) hS (fun H locs hP hS => ?_)
    refine W.cs (cells' := u11.1 - u0.1) (slots' := u11.2.1 - u0.2.1) (by omega) (by omega) ?_
    obtain ⟨hr1, hr2⟩ := uret_n h
    subst hr1
    subst hr2
    exact u_iret hC hP hS dX1_tryAt_46
def f_X1_tryAt (N b : Nat) (g : uEnv) (u : UH) (a0 : Nat) (x1 : Int32) : Option (Int32 × UH) :=
    (uGR u a0 0 2).bind fun o1 =>
    ucase o1 (
    f_X1_tryAt_11 N b g a0 u) fun a2 =>
    if 0 ≤ x1 then
    if uIs u a0 0 = true then
    ucall (f_X1_pit N b g u a0) fun o7 u5 =>
    f_X1_tryAt_21 N b g a0 u5 x1 o7
    else none
    else
    f_X1_tryAt_11 N b g a0 u
set_option maxHeartbeats 4000000 in
set_option maxRecDepth 100000 in
theorem zz_X1_tryAt_0 {G : uG} {a0 : Nat} {uf : UH} {r : Int32} (N : Nat) (u : UH) (x1 : Int32) (h : f_X1_tryAt N (ub G) (ug G) u a0 x1 = some (r, uf)) : u.1 ≤ uf.1 ∧ u.2.1 ≤ uf.2.1 := by
  unfold f_X1_tryAt at h
  obtain ⟨o1, ho1, h⟩ := mbind_n h
  rcases o1 with _ | a2
  · have h := ucase_n h
    have hq := zz_X1_tryAt_11 (G := G) (a0 := a0) N u h
    exact ⟨by omega, by omega⟩
  · have h := ucase_s h
    by_cases c3 : 0 ≤ x1
    · have h := mif_t c3 h
      obtain ⟨c4, h⟩ := mif_n h
      obtain ⟨o7, u5, c6, h⟩ := ucall_n h
      have zu5 := zz_X1_pit N (ub G) (ug G) u a0 o7 u5 c6
      have hq := zz_X1_tryAt_21 (G := G) (a0 := a0) N u5 x1 o7 h
      exact ⟨by omega, by omega⟩
    · have h := mif_f c3 h
      have hq := zz_X1_tryAt_11 (G := G) (a0 := a0) N u h
      exact ⟨by omega, by omega⟩
set_option maxHeartbeats 4000000 in
set_option maxRecDepth 100000 in
theorem w_X1_tryAt_0 {p : Program} {l : Launch} {e : Env} {R : Room} {s : State} {m : MethodId} {args : Array Value} {below : List Frame} {meth : Method} {c : Code} {G : uG} {a0 : Nat} {u0 : UH} {uf : UH} {r : Int32} (hC : uC p s m args meth c G RX1 cX1_tryAt 8 (some .int)) (hR : 7 ≤ R.frames ∧ 156 ≤ R.locals) (hRm : uf.1 - u0.1 ≤ R.cells ∧ uf.2.1 - u0.2.1 ≤ R.slots) (N : Nat) (u : UH) (x1 : Int32) (h : f_X1_tryAt N (ub G) (ug G) u a0 x1 = some (r, uf)) (hz0 : (u0.1 ≤ u.1 ∧ u0.2.1 ≤ u.2.1)) {H : Heap} {locs : List Loc} (hP : uP G u H) (hS : va_S (uA G) s.heap H locs) {ls : Array Slot} (hl : lv_has ls 8 [(0, va_rf (some a0)), (1, .int x1)]) : W p l e R s m args below meth c H locs (u.1 - u0.1) (u.2.1 - u0.2.1) (MQ below (uQi G r uf) args s (uf.1 - u0.1) (uf.2.1 - u0.2.1) (uA G)) (F0 m 0 ls []) := by
  obtain ⟨⟨hx, hb, hml, hown, hts⟩, hKK⟩ := id hC
  have hzf := zz_X1_tryAt_0 (G := G) (a0 := a0) N u x1 h
  unfold f_X1_tryAt at h
  refine u_aload_n (r := some a0) hx hb dX1_tryAt_0 rfl (lv_at hl 0 rfl) ?_
  obtain ⟨o1, ho1, h⟩ := mbind_n h
  refine u_get hC hP (uGR_n ho1) rfl in_X1 (by decide) q217 (fun _ h => h) dX1_tryAt_1 ?_
  rcases o1 with _ | a2
  · have h := ucase_n h
    refine lv_ifnullN (tgt := 11) hx hb dX1_tryAt_4 (by decide) ?_
    refine W.cs (cells' := u.1 - u0.1) (slots' := u.2.1 - u0.2.1) (by omega) (by omega) ?_
    exact w_X1_tryAt_11 hC hR hRm N u h ⟨by omega, by omega⟩ hP hS (lv_sub hl [0] rfl)
  · have h := ucase_s h
    refine lv_ifnull hx hb dX1_tryAt_4 ?_
    refine lv_iload_n hx hb dX1_tryAt_7 rfl (lv_at hl 1 rfl) ?_
    refine lv_if_ge (tgt := 17) hx hb dX1_tryAt_8 (by decide) (fun c3 => ?_) (fun c3 => ?_)
    · have h := mif_t c3 h
      refine u_aload_n (r := some a0) hx hb dX1_tryAt_17 rfl (lv_at hl 0 rfl) ?_
      obtain ⟨c4, h⟩ := mif_n h
      obtain ⟨o7, u5, c6, h⟩ := ucall_n h
      have zu5 := zz_X1_pit N (ub G) (ug G) u a0 o7 u5 c6
      have hq := zz_X1_tryAt_21 (G := G) (a0 := a0) N u5 x1 o7 h
      refine u_callr (va_runV (As := []) (rest := []) hC.1 (met_X1_pit l N G u a0 o7 u5 c6) (cwV 0 hts (lw_V q1754 q1756 qs36 q98 q1757) rfl rfl rfl (by decide +kernel) ⟨Nat.le_trans (Nat.le_of_ble_eq_true rfl) hR.1, Nat.le_trans (Nat.le_of_ble_eq_true rfl) hR.2⟩) ⟨uPc_blind, u_rcv hC hP c4 rfl, fun U hU hW => u_pre hC hP hS hU hW⟩ rfl rfl hl.1 rfl (lv_room (Nat.le_of_ble_eq_true rfl)) dX1_tryAt_18 ⟨by omega, by omega⟩) hS (fun H locs hP hS => ?_)
      refine W.cs (cells' := u5.1 - u0.1) (slots' := u5.2.1 - u0.2.1) (by omega) (by omega) ?_
      refine W.cs (cells' := u5.1 - u0.1) (slots' := u5.2.1 - u0.2.1) (by omega) (by omega) ?_
      exact w_X1_tryAt_21 hC hR hRm N u5 x1 o7 h ⟨by omega, by omega⟩ hP hS (lv_sub hl [0, 1] rfl)
    · have h := mif_f c3 h
      refine W.cs (cells' := u.1 - u0.1) (slots' := u.2.1 - u0.2.1) (by omega) (by omega) ?_
      exact w_X1_tryAt_11 hC hR hRm N u h ⟨by omega, by omega⟩ hP hS (lv_sub hl [0] rfl)
theorem zz_X1_tryAt (N b : Nat) (g : uEnv) (u : UH) (a0 : Nat) (x1 : Int32) (r : Int32) (uf : UH) (h : f_X1_tryAt N b g u a0 x1 = some (r, uf)) : u.1 ≤ uf.1 ∧ u.2.1 ≤ uf.2.1 :=
  zz_X1_tryAt_0 (G := ((fun _ => 0, fun _ _ => 0), fun _ => 0, b, g)) (a0 := a0) N u x1 h
theorem met_X1_tryAt (l : Launch) (N : Nat) (G : uG) (u : UH) (a0 : Nat) (x1 : Int32) (r : Int32) (uf : UH) (h : f_X1_tryAt N (ub G) (ug G) u a0 x1 = some (r, uf)) : Met l yX1_tryAt (ws_ yX1_tryAt cX1_tryAt 8 (some .int)) ({ frames := 7, cells := (uf.1 - u.1), slots := (uf.2.1 - u.2.1), locals := 156 }) (uPc G u [.ref a0, .int x1]) (uQi G r uf) (uf.1 - u.1) (uf.2.1 - u.2.1) (uA G) := by
  exact u_met (own := RX1) (by decide +kernel) rfl (Nat.le_of_ble_eq_true rfl) (fun hC hn hsz ls hl hP => W.cs (Nat.sub_self _).symm (Nat.sub_self _).symm (w_X1_tryAt_0 hC ⟨Nat.le_refl _, Nat.le_refl _⟩ ⟨Nat.le_refl _, Nat.le_refl _⟩ N u x1 h ⟨Nat.le_refl _, Nat.le_refl _⟩ hP va_S.rf hl))
def f_X1_way_95 (N b : Nat) (g : uEnv) (a0 : Nat) (u : UH) (s0 : Int32) : Option (Int32 × UH) :=
    some (s0, u)
set_option maxHeartbeats 4000000 in
set_option maxRecDepth 100000 in
theorem zz_X1_way_95 {G : uG} {a0 : Nat} {uf : UH} {r : Int32} (N : Nat) (u : UH) (s0 : Int32) (h : f_X1_way_95 N (ub G) (ug G) a0 u s0 = some (r, uf)) : u.1 ≤ uf.1 ∧ u.2.1 ≤ uf.2.1 := by
  unfold f_X1_way_95 at h
  obtain ⟨hr1, hr2⟩ := uret_n h
  subst hr2
  exact ⟨by omega, by omega⟩
set_option maxHeartbeats 4000000 in
set_option maxRecDepth 100000 in
theorem w_X1_way_95 {p : Program} {l : Launch} {e : Env} {R : Room} {s : State} {m : MethodId} {args : Array Value} {below : List Frame} {meth : Method} {c : Code} {G : uG} {a0 : Nat} {u0 : UH} {uf : UH} {r : Int32} (hC : uC p s m args meth c G RX1 cX1_way 6 (some .int)) (hR : 46 ≤ R.frames ∧ 2545 ≤ R.locals) (hRm : uf.1 - u0.1 ≤ R.cells ∧ uf.2.1 - u0.2.1 ≤ R.slots) (N : Nat) (u : UH) (s0 : Int32) (h : f_X1_way_95 N (ub G) (ug G) a0 u s0 = some (r, uf)) (hz0 : (u0.1 ≤ u.1 ∧ u0.2.1 ≤ u.2.1)) {H : Heap} {locs : List Loc} (hP : uP G u H) (hS : va_S (uA G) s.heap H locs) {ls : Array Slot} (hl : lv_has ls 6 []) : W p l e R s m args below meth c H locs (u.1 - u0.1) (u.2.1 - u0.2.1) (MQ below (uQi G r uf) args s (uf.1 - u0.1) (uf.2.1 - u0.2.1) (uA G)) (F0 m 95 ls [.int s0]) := by
  obtain ⟨⟨hx, hb, hml, hown, hts⟩, hKK⟩ := id hC
  have hzf := zz_X1_way_95 (G := G) (a0 := a0) N u s0 h
  unfold f_X1_way_95 at h
  obtain ⟨hr1, hr2⟩ := uret_n h
  subst hr1
  subst hr2
  exact u_iret hC hP hS dX1_way_95
def f_X1_way_57 (N b : Nat) (g : uEnv) (a0 : Nat) (u : UH) (x1 : Int32) (s0 : Option Nat) : Option (Int32 × UH) :=
    (s0).bind fun a1 =>
    if uIs u a1 1 = true then
    ucall (f_X2_known N b g u a1) fun r5 u3 =>
    if uIs u3 a1 1 = true then
    ucall (f_X2_best N b g u3 a1 x1 r5) fun o9 u7 =>
    ucase o9 (
    if uIs u7 a0 0 = true then
    ucall (f_X1_refused N b g u7 a0 6) fun r14 u12 =>
    f_X1_way_95 N b g a0 u12 r14
    else none) fun a10 =>
    ucall (f_J3_ordinal N b g u7 a10) fun r17 u15 =>
    if uIs u15 a0 0 = true then
    ucall (f_X1_done N b g u15 a0 r17) fun r21 u19 =>
    f_X1_way_95 N b g a0 u19 r21
    else none
    else none
    else none
set_option maxHeartbeats 4000000 in
set_option maxRecDepth 100000 in
theorem zz_X1_way_57 {G : uG} {a0 : Nat} {uf : UH} {r : Int32} (N : Nat) (u : UH) (x1 : Int32) (s0 : Option Nat) (h : f_X1_way_57 N (ub G) (ug G) a0 u x1 s0 = some (r, uf)) : u.1 ≤ uf.1 ∧ u.2.1 ≤ uf.2.1 := by
  unfold f_X1_way_57 at h
  obtain ⟨a1, ha1, hha1⟩ := mbind_n h
  subst ha1
  have h := hha1
  obtain ⟨c2, h⟩ := mif_n h
  obtain ⟨r5, u3, c4, h⟩ := ucall_n h
  have zu3 := zz_X2_known N (ub G) (ug G) u a1 r5 u3 c4
  obtain ⟨c6, h⟩ := mif_n h
  obtain ⟨o9, u7, c8, h⟩ := ucall_n h
  have zu7 := zz_X2_best N (ub G) (ug G) u3 a1 x1 r5 o9 u7 c8
  rcases o9 with _ | a10
  · have h := ucase_n h
    obtain ⟨c11, h⟩ := mif_n h
    obtain ⟨r14, u12, c13, h⟩ := ucall_n h
    have zu12 := zz_X1_refused N (ub G) (ug G) u7 a0 6 r14 u12 c13
    have hq := zz_X1_way_95 (G := G) (a0 := a0) N u12 r14 h
    exact ⟨by omega, by omega⟩
  · have h := ucase_s h
    obtain ⟨r17, u15, c16, h⟩ := ucall_n h
    have zu15 := zz_J3_ordinal N (ub G) (ug G) u7 a10 r17 u15 c16
    obtain ⟨c18, h⟩ := mif_n h
    obtain ⟨r21, u19, c20, h⟩ := ucall_n h
    have zu19 := zz_X1_done N (ub G) (ug G) u15 a0 r17 r21 u19 c20
    have hq := zz_X1_way_95 (G := G) (a0 := a0) N u19 r21 h
    exact ⟨by omega, by omega⟩
set_option maxHeartbeats 4000000 in
set_option maxRecDepth 100000 in
theorem w_X1_way_57 {p : Program} {l : Launch} {e : Env} {R : Room} {s : State} {m : MethodId} {args : Array Value} {below : List Frame} {meth : Method} {c : Code} {G : uG} {a0 : Nat} {u0 : UH} {uf : UH} {r : Int32} (hC : uC p s m args meth c G RX1 cX1_way 6 (some .int)) (hR : 46 ≤ R.frames ∧ 2545 ≤ R.locals) (hRm : uf.1 - u0.1 ≤ R.cells ∧ uf.2.1 - u0.2.1 ≤ R.slots) (N : Nat) (u : UH) (x1 : Int32) (s0 : Option Nat) (h : f_X1_way_57 N (ub G) (ug G) a0 u x1 s0 = some (r, uf)) (hz0 : (u0.1 ≤ u.1 ∧ u0.2.1 ≤ u.2.1)) {H : Heap} {locs : List Loc} (hP : uP G u H) (hS : va_S (uA G) s.heap H locs) {ls : Array Slot} (hl : lv_has ls 6 [(0, va_rf (some a0)), (1, .int x1)]) : W p l e R s m args below meth c H locs (u.1 - u0.1) (u.2.1 - u0.2.1) (MQ below (uQi G r uf) args s (uf.1 - u0.1) (uf.2.1 - u0.2.1) (uA G)) (F0 m 57 ls [va_rf s0]) := by
  obtain ⟨⟨hx, hb, hml, hown, hts⟩, hKK⟩ := id hC
  have hzf := zz_X1_way_57 (G := G) (a0 := a0) N u x1 s0 h
  unfold f_X1_way_57 at h
  refine u_astore (r := s0) (lv' := [(4, va_rf s0), (0, va_rf (some a0)), (1, .int x1)]) hx hb dX1_way_57 hl (by decide) rfl (fun ls hl => ?_)
  refine u_aload (r := s0) hx hb dX1_way_59 (lv_at hl 0 rfl) ?_
  refine lv_iload_n hx hb dX1_way_61 rfl (lv_at hl 2 rfl) ?_
  refine u_aload (r := s0) hx hb dX1_way_62 (lv_at hl 0 rfl) ?_
  obtain ⟨a1, ha1, hha1⟩ := mbind_n h
  subst ha1
  have h := hha1
  obtain ⟨c2, h⟩ := mif_n h
  obtain ⟨r5, u3, c4, h⟩ := ucall_n h
  have zu3 := zz_X2_known N (ub G) (ug G) u a1 r5 u3 c4
  refine u_calli (va_runV (As := []) (rest := [.int x1, va_rf (some a1)]) hC.1 (met_X2_known l N G u a1 r5 u3 c4) (cwV 0 hts (lw_V q1330 q1331 q1332 q99 q1333) rfl rfl rfl (by decide +kernel) ⟨Nat.le_trans (Nat.le_of_ble_eq_true rfl) hR.1, Nat.le_trans (Nat.le_of_ble_eq_true rfl) hR.2⟩) ⟨uPc_blind, u_rcv hC hP c2 rfl, fun U hU hW => u_pre hC hP hS hU hW⟩ rfl rfl hl.1 rfl (lv_room (Nat.le_of_ble_eq_true rfl)) dX1_way_64 ⟨by omega, by omega⟩) hS (fun H locs hP hS => ?_)
  refine W.cs (cells' := u3.1 - u0.1) (slots' := u3.2.1 - u0.2.1) (by omega) (by omega) ?_
  obtain ⟨c6, h⟩ := mif_n h
  obtain ⟨o9, u7, c8, h⟩ := ucall_n h
  have zu7 := zz_X2_best N (ub G) (ug G) u3 a1 x1 r5 o9 u7 c8
  refine u_callr (va_runV (As := [.int x1, .int r5]) (rest := []) hC.1 (met_X2_best l N G u3 a1 x1 r5 o9 u7 c8) (cwV 2 hts (lw_V q1456 q1457 q1458 q99 q1459) rfl rfl rfl (by decide +kernel) ⟨Nat.le_trans (Nat.le_of_ble_eq_true rfl) hR.1, Nat.le_trans (Nat.le_of_ble_eq_true rfl) hR.2⟩) ⟨uPc_blind, u_rcv hC hP c6 rfl, fun U hU hW => u_pre hC hP hS hU hW⟩ rfl rfl hl.1 rfl (lv_room (Nat.le_of_ble_eq_true rfl)) dX1_way_67 ⟨by omega, by omega⟩) hS (fun H locs hP hS => ?_)
  refine W.cs (cells' := u7.1 - u0.1) (slots' := u7.2.1 - u0.2.1) (by omega) (by omega) ?_
  refine u_astore (r := o9) (lv' := [(5, va_rf o9), (4, va_rf (some a1)), (0, va_rf (some a0)), (1, .int x1)]) hx hb dX1_way_70 hl (by decide) rfl (fun ls hl => ?_)
  refine u_aload (r := o9) hx hb dX1_way_72 (lv_at hl 0 rfl) ?_
  rcases o9 with _ | a10
  · have h := ucase_n h
    refine lv_ifnonnullN hx hb dX1_way_74 ?_
    refine u_aload_n (r := some a0) hx hb dX1_way_77 rfl (lv_at hl 2 rfl) ?_
    refine lv_bipush (v := 6) hx hb dX1_way_78 (by decide) ?_
    obtain ⟨c11, h⟩ := mif_n h
    obtain ⟨r14, u12, c13, h⟩ := ucall_n h
    have zu12 := zz_X1_refused N (ub G) (ug G) u7 a0 6 r14 u12 c13
    refine u_calli (va_runV (As := [.int 6]) (rest := []) hC.1 (met_X1_refused l N G u7 a0 6 r14 u12 c13) (cwV 1 hts (lw_V q276 q278 qs0 q98 q279) rfl rfl rfl (by decide +kernel) ⟨Nat.le_trans (Nat.le_of_ble_eq_true rfl) hR.1, Nat.le_trans (Nat.le_of_ble_eq_true rfl) hR.2⟩) ⟨uPc_blind, u_rcv hC hP c11 rfl, fun U hU hW => u_pre hC hP hS hU hW⟩ rfl rfl hl.1 rfl (lv_room (Nat.le_of_ble_eq_true rfl)) dX1_way_80 ⟨by omega, by omega⟩) hS (fun H locs hP hS => ?_)
    refine W.cs (cells' := u12.1 - u0.1) (slots' := u12.2.1 - u0.2.1) (by omega) (by omega) ?_
    refine lv_goto (tgt := 95) hx hb dX1_way_83 (by decide) ?_
    refine W.cs (cells' := u12.1 - u0.1) (slots' := u12.2.1 - u0.2.1) (by omega) (by omega) ?_
    exact w_X1_way_95 hC hR hRm N u12 r14 h ⟨by omega, by omega⟩ hP hS (lv_sub hl [] rfl)
  · have h := ucase_s h
    refine lv_ifnonnull (tgt := 86) hx hb dX1_way_74 (by decide) ?_
    refine u_aload_n (r := some a0) hx hb dX1_way_86 rfl (lv_at hl 2 rfl) ?_
    refine u_aload (r := some a10) hx hb dX1_way_87 (lv_at hl 0 rfl) ?_
    obtain ⟨r17, u15, c16, h⟩ := ucall_n h
    have zu15 := zz_J3_ordinal N (ub G) (ug G) u7 a10 r17 u15 c16
    refine u_calli (va_runU (As := []) (rest := [va_rf (some a0)]) hC.1 (met_J3_ordinal l N G u7 a10 r17 u15 c16) (va_cwU 0 hts (lw_U q1460 q1324 q1326 q1327 q106 q1328) rfl rfl rfl rfl (by decide +kernel) ⟨Nat.le_trans (Nat.le_of_ble_eq_true rfl) hR.1, Nat.le_trans (Nat.le_of_ble_eq_true rfl) hR.2⟩) ⟨uPc_blind, u_rcvW hC hS c16, fun U hU hW => u_pre hC hP hS hU hW⟩ rfl rfl hl.1 rfl (lv_room (Nat.le_of_ble_eq_true rfl)) dX1_way_89 ⟨by omega, by omega⟩) hS (fun H locs hP hS => ?_)
    refine W.cs (cells' := u15.1 - u0.1) (slots' := u15.2.1 - u0.2.1) (by omega) (by omega) ?_
    obtain ⟨c18, h⟩ := mif_n h
    obtain ⟨r21, u19, c20, h⟩ := ucall_n h
    have zu19 := zz_X1_done N (ub G) (ug G) u15 a0 r17 r21 u19 c20
    refine u_calli (va_runV (As := [.int r17]) (rest := []) hC.1 (met_X1_done l N G u15 a0 r17 r21 u19 c20) (cwV 1 hts (lw_V q1064 q1066 qs14 q98 q1067) rfl rfl rfl (by decide +kernel) ⟨Nat.le_trans (Nat.le_of_ble_eq_true rfl) hR.1, Nat.le_trans (Nat.le_of_ble_eq_true rfl) hR.2⟩) ⟨uPc_blind, u_rcv hC hP c18 rfl, fun U hU hW => u_pre hC hP hS hU hW⟩ rfl rfl hl.1 rfl (lv_room (Nat.le_of_ble_eq_true rfl)) dX1_way_92 ⟨by omega, by omega⟩) hS (fun H locs hP hS => ?_)
    refine W.cs (cells' := u19.1 - u0.1) (slots' := u19.2.1 - u0.2.1) (by omega) (by omega) ?_
    refine W.cs (cells' := u19.1 - u0.1) (slots' := u19.2.1 - u0.2.1) (by omega) (by omega) ?_
    exact w_X1_way_95 hC hR hRm N u19 r21 h ⟨by omega, by omega⟩ hP hS (lv_sub hl [] rfl)
def f_X1_way (N b : Nat) (g : uEnv) (u : UH) (a0 : Nat) (x1 : Int32) (x2 : Int32) (x3 : Int32) : Option (Int32 × UH) :=
    if uIs u a0 0 = true then
    ucall (f_X1_areCells N b g u a0 x1 x2) fun r4 u2 =>
    if r4 = 0 then
    if uIs u2 a0 0 = true then
    ucall (f_X1_refused N b g u2 a0 1) fun r35 u33 =>
    some (r35, u33)
    else none
    else
    (uGR u2 a0 0 7).bind fun o6 =>
    (o6).bind fun a7 =>
    if uIs u2 a7 12 = true then
    ucall (f_X14_sees N b g u2 a7 x1) fun r11 u9 =>
    (uGR u9 a0 0 7).bind fun o12 =>
    (o12).bind fun a13 =>
    if uIs u9 a13 12 = true then
    ucall (f_X14_open N b g u9 a13) fun r17 u15 =>
    if (r11 &&& r17) = 0 then
    if x1 = x2 then
    if uIs u15 a0 0 = true then
    ucall (f_X1_done N b g u15 a0 4) fun r27 u25 =>
    some (r27, u25)
    else none
    else
    if uIs u15 a0 0 = true then
    ucall (f_X1_solver N b g u15 a0 x2 x3) fun o23 u21 =>
    f_X1_way_57 N b g a0 u21 x1 o23
    else none
    else
    if uIs u15 a0 0 = true then
    ucall (f_X1_refused N b g u15 a0 5) fun r31 u29 =>
    some (r31, u29)
    else none
    else none
    else none
    else none
set_option maxHeartbeats 4000000 in
set_option maxRecDepth 100000 in
theorem zz_X1_way_0 {G : uG} {a0 : Nat} {uf : UH} {r : Int32} (N : Nat) (u : UH) (x1 : Int32) (x2 : Int32) (x3 : Int32) (h : f_X1_way N (ub G) (ug G) u a0 x1 x2 x3 = some (r, uf)) : u.1 ≤ uf.1 ∧ u.2.1 ≤ uf.2.1 := by
  unfold f_X1_way at h
  obtain ⟨c1, h⟩ := mif_n h
  obtain ⟨r4, u2, c3, h⟩ := ucall_n h
  have zu2 := zz_X1_areCells N (ub G) (ug G) u a0 x1 x2 r4 u2 c3
  by_cases c5 : r4 = 0
  · have h := mif_t c5 h
    obtain ⟨c32, h⟩ := mif_n h
    obtain ⟨r35, u33, c34, h⟩ := ucall_n h
    have zu33 := zz_X1_refused N (ub G) (ug G) u2 a0 1 r35 u33 c34
    obtain ⟨hr1, hr2⟩ := uret_n h
    subst hr2
    exact ⟨by omega, by omega⟩
  · have h := mif_f c5 h
    obtain ⟨o6, ho6, h⟩ := mbind_n h
    obtain ⟨a7, ha7, hha7⟩ := mbind_n h
    subst ha7
    have h := hha7
    obtain ⟨c8, h⟩ := mif_n h
    obtain ⟨r11, u9, c10, h⟩ := ucall_n h
    have zu9 := zz_X14_sees N (ub G) (ug G) u2 a7 x1 r11 u9 c10
    obtain ⟨o12, ho12, h⟩ := mbind_n h
    obtain ⟨a13, ha13, hha13⟩ := mbind_n h
    subst ha13
    have h := hha13
    obtain ⟨c14, h⟩ := mif_n h
    obtain ⟨r17, u15, c16, h⟩ := ucall_n h
    have zu15 := zz_X14_open N (ub G) (ug G) u9 a13 r17 u15 c16
    by_cases c18 : (r11 &&& r17) = 0
    · have h := mif_t c18 h
      by_cases c19 : x1 = x2
      · have h := mif_t c19 h
        obtain ⟨c24, h⟩ := mif_n h
        obtain ⟨r27, u25, c26, h⟩ := ucall_n h
        have zu25 := zz_X1_done N (ub G) (ug G) u15 a0 4 r27 u25 c26
        obtain ⟨hr1, hr2⟩ := uret_n h
        subst hr2
        exact ⟨by omega, by omega⟩
      · have h := mif_f c19 h
        obtain ⟨c20, h⟩ := mif_n h
        obtain ⟨o23, u21, c22, h⟩ := ucall_n h
        have zu21 := zz_X1_solver N (ub G) (ug G) u15 a0 x2 x3 o23 u21 c22
        have hq := zz_X1_way_57 (G := G) (a0 := a0) N u21 x1 o23 h
        exact ⟨by omega, by omega⟩
    · have h := mif_f c18 h
      obtain ⟨c28, h⟩ := mif_n h
      obtain ⟨r31, u29, c30, h⟩ := ucall_n h
      have zu29 := zz_X1_refused N (ub G) (ug G) u15 a0 5 r31 u29 c30
      obtain ⟨hr1, hr2⟩ := uret_n h
      subst hr2
      exact ⟨by omega, by omega⟩
set_option maxHeartbeats 4000000 in
set_option maxRecDepth 100000 in
theorem w_X1_way_0 {p : Program} {l : Launch} {e : Env} {R : Room} {s : State} {m : MethodId} {args : Array Value} {below : List Frame} {meth : Method} {c : Code} {G : uG} {a0 : Nat} {u0 : UH} {uf : UH} {r : Int32} (hC : uC p s m args meth c G RX1 cX1_way 6 (some .int)) (hR : 46 ≤ R.frames ∧ 2545 ≤ R.locals) (hRm : uf.1 - u0.1 ≤ R.cells ∧ uf.2.1 - u0.2.1 ≤ R.slots) (N : Nat) (u : UH) (x1 : Int32) (x2 : Int32) (x3 : Int32) (h : f_X1_way N (ub G) (ug G) u a0 x1 x2 x3 = some (r, uf)) (hz0 : (u0.1 ≤ u.1 ∧ u0.2.1 ≤ u.2.1)) {H : Heap} {locs : List Loc} (hP : uP G u H) (hS : va_S (uA G) s.heap H locs) {ls : Array Slot} (hl : lv_has ls 6 [(0, va_rf (some a0)), (1, .int x1), (2, .int x2), (3, .int x3)]) : W p l e R s m args below meth c H locs (u.1 - u0.1) (u.2.1 - u0.2.1) (MQ below (uQi G r uf) args s (uf.1 - u0.1) (uf.2.1 - u0.2.1) (uA G)) (F0 m 0 ls []) := by
  obtain ⟨⟨hx, hb, hml, hown, hts⟩, hKK⟩ := id hC
  have hzf := zz_X1_way_0 (G := G) (a0 := a0) N u x1 x2 x3 h
  unfold f_X1_way at h
  refine u_aload_n (r := some a0) hx hb dX1_way_0 rfl (lv_at hl 0 rfl) ?_
  refine lv_iload_n hx hb dX1_way_1 rfl (lv_at hl 1 rfl) ?_
  refine lv_iload_n hx hb dX1_way_2 rfl (lv_at hl 2 rfl) ?_
  obtain ⟨c1, h⟩ := mif_n h
  obtain ⟨r4, u2, c3, h⟩ := ucall_n h
  have zu2 := zz_X1_areCells N (ub G) (ug G) u a0 x1 x2 r4 u2 c3
  refine u_calli (va_runV (As := [.int x1, .int x2]) (rest := []) hC.1 (met_X1_areCells l N G u a0 x1 x2 r4 u2 c3) (cwV 2 hts (lw_V q1285 q1287 qs20 q98 q1288) rfl rfl rfl (by decide +kernel) ⟨Nat.le_trans (Nat.le_of_ble_eq_true rfl) hR.1, Nat.le_trans (Nat.le_of_ble_eq_true rfl) hR.2⟩) ⟨uPc_blind, u_rcv hC hP c1 rfl, fun U hU hW => u_pre hC hP hS hU hW⟩ rfl rfl hl.1 rfl (lv_room (Nat.le_of_ble_eq_true rfl)) dX1_way_3 ⟨by omega, by omega⟩) hS (fun H locs hP hS => ?_)
  refine W.cs (cells' := u2.1 - u0.1) (slots' := u2.2.1 - u0.2.1) (by omega) (by omega) ?_
  refine lv_if_ne (tgt := 15) hx hb dX1_way_6 (by decide) (fun c5 => ?_) (fun c5 => ?_)
  · have h := mif_f c5 h
    refine u_aload_n (r := some a0) hx hb dX1_way_15 rfl (lv_at hl 0 rfl) ?_
    obtain ⟨o6, ho6, h⟩ := mbind_n h
    refine u_get hC hP (uGR_n ho6) rfl in_X1 (by decide) q222 (fun _ h => h) dX1_way_16 ?_
    refine lv_iload_n hx hb dX1_way_19 rfl (lv_at hl 1 rfl) ?_
    obtain ⟨a7, ha7, hha7⟩ := mbind_n h
    subst ha7
    have h := hha7
    obtain ⟨c8, h⟩ := mif_n h
    obtain ⟨r11, u9, c10, h⟩ := ucall_n h
    have zu9 := zz_X14_sees N (ub G) (ug G) u2 a7 x1 r11 u9 c10
    refine u_calli (va_runV (As := [.int x1]) (rest := []) hC.1 (met_X14_sees l N G u2 a7 x1 r11 u9 c10) (cwV 1 hts (lw_V q1450 q1316 q1317 q131 q1318) rfl rfl rfl (by decide +kernel) ⟨Nat.le_trans (Nat.le_of_ble_eq_true rfl) hR.1, Nat.le_trans (Nat.le_of_ble_eq_true rfl) hR.2⟩) ⟨uPc_blind, u_rcv hC hP c8 rfl, fun U hU hW => u_pre hC hP hS hU hW⟩ rfl rfl hl.1 rfl (lv_room (Nat.le_of_ble_eq_true rfl)) dX1_way_20 ⟨by omega, by omega⟩) hS (fun H locs hP hS => ?_)
    refine W.cs (cells' := u9.1 - u0.1) (slots' := u9.2.1 - u0.2.1) (by omega) (by omega) ?_
    refine u_aload_n (r := some a0) hx hb dX1_way_23 rfl (lv_at hl 0 rfl) ?_
    obtain ⟨o12, ho12, h⟩ := mbind_n h
    refine u_get hC hP (uGR_n ho12) rfl in_X1 (by decide) q222 (fun _ h => h) dX1_way_24 ?_
    obtain ⟨a13, ha13, hha13⟩ := mbind_n h
    subst ha13
    have h := hha13
    obtain ⟨c14, h⟩ := mif_n h
    obtain ⟨r17, u15, c16, h⟩ := ucall_n h
    have zu15 := zz_X14_open N (ub G) (ug G) u9 a13 r17 u15 c16
    refine u_calli (va_runV (As := []) (rest := [.int r11]) hC.1 (met_X14_open l N G u9 a13 r17 u15 c16) (cwV 0 hts (lw_V q1451 q1452 q1453 q131 q1454) rfl rfl rfl (by decide +kernel) ⟨Nat.le_trans (Nat.le_of_ble_eq_true rfl) hR.1, Nat.le_trans (Nat.le_of_ble_eq_true rfl) hR.2⟩) ⟨uPc_blind, u_rcv hC hP c14 rfl, fun U hU hW => u_pre hC hP hS hU hW⟩ rfl rfl hl.1 rfl (lv_room (Nat.le_of_ble_eq_true rfl)) dX1_way_27 ⟨by omega, by omega⟩) hS (fun H locs hP hS => ?_)
    refine W.cs (cells' := u15.1 - u0.1) (slots' := u15.2.1 - u0.2.1) (by omega) (by omega) ?_
    refine lv_iand hx hb dX1_way_30 ?_
    refine lv_if_eq (tgt := 40) hx hb dX1_way_31 (by decide) (fun c18 => ?_) (fun c18 => ?_)
    · have h := mif_t c18 h
      refine lv_iload_n hx hb dX1_way_40 rfl (lv_at hl 1 rfl) ?_
      refine lv_iload_n hx hb dX1_way_41 rfl (lv_at hl 2 rfl) ?_
      refine lv_icmp_ne (tgt := 51) hx hb dX1_way_42 (by decide) (fun c19 => ?_) (fun c19 => ?_)
      · have h := mif_f c19 h
        refine u_aload_n (r := some a0) hx hb dX1_way_51 rfl (lv_at hl 0 rfl) ?_
        refine lv_iload_n hx hb dX1_way_52 rfl (lv_at hl 2 rfl) ?_
        refine lv_iload_n hx hb dX1_way_53 rfl (lv_at hl 3 rfl) ?_
        obtain ⟨c20, h⟩ := mif_n h
        obtain ⟨o23, u21, c22, h⟩ := ucall_n h
        have zu21 := zz_X1_solver N (ub G) (ug G) u15 a0 x2 x3 o23 u21 c22
        have hq := zz_X1_way_57 (G := G) (a0 := a0) N u21 x1 o23 h
        refine u_callr (va_runV (As := [.int x2, .int x3]) (rest := []) hC.1 (met_X1_solver l N G u15 a0 x2 x3 o23 u21 c22) (cwV 2 hts (lw_V q1289 q1291 qs21 q98 q1292) rfl rfl rfl (by decide +kernel) ⟨Nat.le_trans (Nat.le_of_ble_eq_true rfl) hR.1, Nat.le_trans (Nat.le_of_ble_eq_true rfl) hR.2⟩) ⟨uPc_blind, u_rcv hC hP c20 rfl, fun U hU hW => u_pre hC hP hS hU hW⟩ rfl rfl hl.1 rfl (lv_room (Nat.le_of_ble_eq_true rfl)) dX1_way_54 ⟨by omega, by omega⟩) hS (fun H locs hP hS => ?_)
        refine W.cs (cells' := u21.1 - u0.1) (slots' := u21.2.1 - u0.2.1) (by omega) (by omega) ?_
        refine W.cs (cells' := u21.1 - u0.1) (slots' := u21.2.1 - u0.2.1) (by omega) (by omega) ?_
        exact w_X1_way_57 hC hR hRm N u21 x1 o23 h ⟨by omega, by omega⟩ hP hS (lv_sub hl [0, 1] rfl)
      · have h := mif_t c19 h
        refine u_aload_n (r := some a0) hx hb dX1_way_45 rfl (lv_at hl 0 rfl) ?_
        refine lv_iconst (v := 4) hx hb dX1_way_46 (by decide) ?_
        obtain ⟨c24, h⟩ := mif_n h
        obtain ⟨r27, u25, c26, h⟩ := ucall_n h
        have zu25 := zz_X1_done N (ub G) (ug G) u15 a0 4 r27 u25 c26
        refine u_calli (va_runV (As := [.int 4]) (rest := []) hC.1 (met_X1_done l N G u15 a0 4 r27 u25 c26) (cwV 1 hts (lw_V q1064 q1066 qs14 q98 q1067) rfl rfl rfl (by decide +kernel) ⟨Nat.le_trans (Nat.le_of_ble_eq_true rfl) hR.1, Nat.le_trans (Nat.le_of_ble_eq_true rfl) hR.2⟩) ⟨uPc_blind, u_rcv hC hP c24 rfl, fun U hU hW => u_pre hC hP hS hU hW⟩ rfl rfl hl.1 rfl (lv_room (Nat.le_of_ble_eq_true rfl)) dX1_way_47 ⟨by omega, by omega⟩) hS (fun H locs hP hS => ?_)
        refine W.cs (cells' := u25.1 - u0.1) (slots' := u25.2.1 - u0.2.1) (by omega) (by omega) ?_
        obtain ⟨hr1, hr2⟩ := uret_n h
        subst hr1
        subst hr2
        exact u_iret hC hP hS dX1_way_50
    · have h := mif_f c18 h
      refine u_aload_n (r := some a0) hx hb dX1_way_34 rfl (lv_at hl 0 rfl) ?_
      refine lv_iconst (v := 5) hx hb dX1_way_35 (by decide) ?_
      obtain ⟨c28, h⟩ := mif_n h
      obtain ⟨r31, u29, c30, h⟩ := ucall_n h
      have zu29 := zz_X1_refused N (ub G) (ug G) u15 a0 5 r31 u29 c30
      refine u_calli (va_runV (As := [.int 5]) (rest := []) hC.1 (met_X1_refused l N G u15 a0 5 r31 u29 c30) (cwV 1 hts (lw_V q276 q278 qs0 q98 q279) rfl rfl rfl (by decide +kernel) ⟨Nat.le_trans (Nat.le_of_ble_eq_true rfl) hR.1, Nat.le_trans (Nat.le_of_ble_eq_true rfl) hR.2⟩) ⟨uPc_blind, u_rcv hC hP c28 rfl, fun U hU hW => u_pre hC hP hS hU hW⟩ rfl rfl hl.1 rfl (lv_room (Nat.le_of_ble_eq_true rfl)) dX1_way_36 ⟨by omega, by omega⟩) hS (fun H locs hP hS => ?_)
      refine W.cs (cells' := u29.1 - u0.1) (slots' := u29.2.1 - u0.2.1) (by omega) (by omega) ?_
      obtain ⟨hr1, hr2⟩ := uret_n h
      subst hr1
      subst hr2
      exact u_iret hC hP hS dX1_way_39
  · have h := mif_t c5 h
    refine u_aload_n (r := some a0) hx hb dX1_way_9 rfl (lv_at hl 0 rfl) ?_
    refine lv_iconst (v := 1) hx hb dX1_way_10 (by decide) ?_
    obtain ⟨c32, h⟩ := mif_n h
    obtain ⟨r35, u33, c34, h⟩ := ucall_n h
    have zu33 := zz_X1_refused N (ub G) (ug G) u2 a0 1 r35 u33 c34
    refine u_calli (va_runV (As := [.int 1]) (rest := []) hC.1 (met_X1_refused l N G u2 a0 1 r35 u33 c34) (cwV 1 hts (lw_V q276 q278 qs0 q98 q279) rfl rfl rfl (by decide +kernel) ⟨Nat.le_trans (Nat.le_of_ble_eq_true rfl) hR.1, Nat.le_trans (Nat.le_of_ble_eq_true rfl) hR.2⟩) ⟨uPc_blind, u_rcv hC hP c32 rfl, fun U hU hW => u_pre hC hP hS hU hW⟩ rfl rfl hl.1 rfl (lv_room (Nat.le_of_ble_eq_true rfl)) dX1_way_11 ⟨by omega, by omega⟩) hS (fun H locs hP hS => ?_)
    refine W.cs (cells' := u33.1 - u0.1) (slots' := u33.2.1 - u0.2.1) (by omega) (by omega) ?_
    obtain ⟨hr1, hr2⟩ := uret_n h
    subst hr1
    subst hr2
    exact u_iret hC hP hS dX1_way_14
theorem zz_X1_way (N b : Nat) (g : uEnv) (u : UH) (a0 : Nat) (x1 : Int32) (x2 : Int32) (x3 : Int32) (r : Int32) (uf : UH) (h : f_X1_way N b g u a0 x1 x2 x3 = some (r, uf)) : u.1 ≤ uf.1 ∧ u.2.1 ≤ uf.2.1 :=
  zz_X1_way_0 (G := ((fun _ => 0, fun _ _ => 0), fun _ => 0, b, g)) (a0 := a0) N u x1 x2 x3 h
theorem met_X1_way (l : Launch) (N : Nat) (G : uG) (u : UH) (a0 : Nat) (x1 : Int32) (x2 : Int32) (x3 : Int32) (r : Int32) (uf : UH) (h : f_X1_way N (ub G) (ug G) u a0 x1 x2 x3 = some (r, uf)) : Met l yX1_way (ws_ yX1_way cX1_way 6 (some .int)) ({ frames := 46, cells := (uf.1 - u.1), slots := (uf.2.1 - u.2.1), locals := 2545 }) (uPc G u [.ref a0, .int x1, .int x2, .int x3]) (uQi G r uf) (uf.1 - u.1) (uf.2.1 - u.2.1) (uA G) := by
  exact u_met (own := RX1) (by decide +kernel) rfl (Nat.le_of_ble_eq_true rfl) (fun hC hn hsz ls hl hP => W.cs (Nat.sub_self _).symm (Nat.sub_self _).symm (w_X1_way_0 hC ⟨Nat.le_refl _, Nat.le_refl _⟩ ⟨Nat.le_refl _, Nat.le_refl _⟩ N u x1 x2 x3 h ⟨Nat.le_refl _, Nat.le_refl _⟩ hP va_S.rf hl))
def f_X1_worst_58 (N b : Nat) (g : uEnv) (a0 : Nat) (u : UH) (s0 : Int32) : Option (Int32 × UH) :=
    some (s0, u)
set_option maxHeartbeats 4000000 in
set_option maxRecDepth 100000 in
theorem zz_X1_worst_58 {G : uG} {a0 : Nat} {uf : UH} {r : Int32} (N : Nat) (u : UH) (s0 : Int32) (h : f_X1_worst_58 N (ub G) (ug G) a0 u s0 = some (r, uf)) : u.1 ≤ uf.1 ∧ u.2.1 ≤ uf.2.1 := by
  unfold f_X1_worst_58 at h
  obtain ⟨hr1, hr2⟩ := uret_n h
  subst hr2
  exact ⟨by omega, by omega⟩
set_option maxHeartbeats 4000000 in
set_option maxRecDepth 100000 in
theorem w_X1_worst_58 {p : Program} {l : Launch} {e : Env} {R : Room} {s : State} {m : MethodId} {args : Array Value} {below : List Frame} {meth : Method} {c : Code} {G : uG} {a0 : Nat} {u0 : UH} {uf : UH} {r : Int32} (hC : uC p s m args meth c G RX1 cX1_worst 6 (some .int)) (hR : 45 ≤ R.frames ∧ 2511 ≤ R.locals) (hRm : uf.1 - u0.1 ≤ R.cells ∧ uf.2.1 - u0.2.1 ≤ R.slots) (N : Nat) (u : UH) (s0 : Int32) (h : f_X1_worst_58 N (ub G) (ug G) a0 u s0 = some (r, uf)) (hz0 : (u0.1 ≤ u.1 ∧ u0.2.1 ≤ u.2.1)) {H : Heap} {locs : List Loc} (hP : uP G u H) (hS : va_S (uA G) s.heap H locs) {ls : Array Slot} (hl : lv_has ls 6 []) : W p l e R s m args below meth c H locs (u.1 - u0.1) (u.2.1 - u0.2.1) (MQ below (uQi G r uf) args s (uf.1 - u0.1) (uf.2.1 - u0.2.1) (uA G)) (F0 m 58 ls [.int s0]) := by
  obtain ⟨⟨hx, hb, hml, hown, hts⟩, hKK⟩ := id hC
  have hzf := zz_X1_worst_58 (G := G) (a0 := a0) N u s0 h
  unfold f_X1_worst_58 at h
  obtain ⟨hr1, hr2⟩ := uret_n h
  subst hr1
  subst hr2
  exact u_iret hC hP hS dX1_worst_58
def f_X1_worst_21 (N b : Nat) (g : uEnv) (a0 : Nat) (u : UH) (x1 : Int32) (s0 : Option Nat) : Option (Int32 × UH) :=
    (s0).bind fun a1 =>
    if uIs u a1 1 = true then
    ucall (f_X2_known N b g u a1) fun r5 u3 =>
    if uIs u3 a1 1 = true then
    ucall (f_X2_of N b g u3 a1 x1 r5) fun r9 u7 =>
    if (lg_cmp r9 9223372036854775807) = 0 then
    if uIs u7 a0 0 = true then
    ucall (f_X1_refused N b g u7 a0 6) fun r18 u16 =>
    f_X1_worst_58 N b g a0 u16 r18
    else none
    else
    if uIs u7 a0 0 = true then
    ucall (f_X1_done N b g u7 a0 (r9.toInt32)) fun r14 u12 =>
    f_X1_worst_58 N b g a0 u12 r14
    else none
    else none
    else none
set_option maxHeartbeats 4000000 in
set_option maxRecDepth 100000 in
theorem zz_X1_worst_21 {G : uG} {a0 : Nat} {uf : UH} {r : Int32} (N : Nat) (u : UH) (x1 : Int32) (s0 : Option Nat) (h : f_X1_worst_21 N (ub G) (ug G) a0 u x1 s0 = some (r, uf)) : u.1 ≤ uf.1 ∧ u.2.1 ≤ uf.2.1 := by
  unfold f_X1_worst_21 at h
  obtain ⟨a1, ha1, hha1⟩ := mbind_n h
  subst ha1
  have h := hha1
  obtain ⟨c2, h⟩ := mif_n h
  obtain ⟨r5, u3, c4, h⟩ := ucall_n h
  have zu3 := zz_X2_known N (ub G) (ug G) u a1 r5 u3 c4
  obtain ⟨c6, h⟩ := mif_n h
  obtain ⟨r9, u7, c8, h⟩ := ucall_n h
  have zu7 := zz_X2_of N (ub G) (ug G) u3 a1 x1 r5 r9 u7 c8
  by_cases c10 : (lg_cmp r9 9223372036854775807) = 0
  · have h := mif_t c10 h
    obtain ⟨c15, h⟩ := mif_n h
    obtain ⟨r18, u16, c17, h⟩ := ucall_n h
    have zu16 := zz_X1_refused N (ub G) (ug G) u7 a0 6 r18 u16 c17
    have hq := zz_X1_worst_58 (G := G) (a0 := a0) N u16 r18 h
    exact ⟨by omega, by omega⟩
  · have h := mif_f c10 h
    obtain ⟨c11, h⟩ := mif_n h
    obtain ⟨r14, u12, c13, h⟩ := ucall_n h
    have zu12 := zz_X1_done N (ub G) (ug G) u7 a0 (r9.toInt32) r14 u12 c13
    have hq := zz_X1_worst_58 (G := G) (a0 := a0) N u12 r14 h
    exact ⟨by omega, by omega⟩
set_option maxHeartbeats 4000000 in
set_option maxRecDepth 100000 in
theorem w_X1_worst_21 {p : Program} {l : Launch} {e : Env} {R : Room} {s : State} {m : MethodId} {args : Array Value} {below : List Frame} {meth : Method} {c : Code} {G : uG} {a0 : Nat} {u0 : UH} {uf : UH} {r : Int32} (hC : uC p s m args meth c G RX1 cX1_worst 6 (some .int)) (hR : 45 ≤ R.frames ∧ 2511 ≤ R.locals) (hRm : uf.1 - u0.1 ≤ R.cells ∧ uf.2.1 - u0.2.1 ≤ R.slots) (N : Nat) (u : UH) (x1 : Int32) (s0 : Option Nat) (h : f_X1_worst_21 N (ub G) (ug G) a0 u x1 s0 = some (r, uf)) (hz0 : (u0.1 ≤ u.1 ∧ u0.2.1 ≤ u.2.1)) {H : Heap} {locs : List Loc} (hP : uP G u H) (hS : va_S (uA G) s.heap H locs) {ls : Array Slot} (hl : lv_has ls 6 [(0, va_rf (some a0)), (1, .int x1)]) : W p l e R s m args below meth c H locs (u.1 - u0.1) (u.2.1 - u0.2.1) (MQ below (uQi G r uf) args s (uf.1 - u0.1) (uf.2.1 - u0.2.1) (uA G)) (F0 m 21 ls [va_rf s0]) := by
  obtain ⟨⟨hx, hb, hml, hown, hts⟩, hKK⟩ := id hC
  have hzf := zz_X1_worst_21 (G := G) (a0 := a0) N u x1 s0 h
  unfold f_X1_worst_21 at h
  refine u_astore_n (i := 3) (r := s0) (lv' := [(3, va_rf s0), (0, va_rf (some a0)), (1, .int x1)]) hx hb dX1_worst_21 rfl hl (by decide) rfl (fun ls hl => ?_)
  refine u_aload_n (r := s0) hx hb dX1_worst_22 rfl (lv_at hl 0 rfl) ?_
  refine lv_iload_n hx hb dX1_worst_23 rfl (lv_at hl 2 rfl) ?_
  refine u_aload_n (r := s0) hx hb dX1_worst_24 rfl (lv_at hl 0 rfl) ?_
  obtain ⟨a1, ha1, hha1⟩ := mbind_n h
  subst ha1
  have h := hha1
  obtain ⟨c2, h⟩ := mif_n h
  obtain ⟨r5, u3, c4, h⟩ := ucall_n h
  have zu3 := zz_X2_known N (ub G) (ug G) u a1 r5 u3 c4
  refine u_calli (va_runV (As := []) (rest := [.int x1, va_rf (some a1)]) hC.1 (met_X2_known l N G u a1 r5 u3 c4) (cwV 0 hts (lw_V q1330 q1331 q1332 q99 q1333) rfl rfl rfl (by decide +kernel) ⟨Nat.le_trans (Nat.le_of_ble_eq_true rfl) hR.1, Nat.le_trans (Nat.le_of_ble_eq_true rfl) hR.2⟩) ⟨uPc_blind, u_rcv hC hP c2 rfl, fun U hU hW => u_pre hC hP hS hU hW⟩ rfl rfl hl.1 rfl (lv_room (Nat.le_of_ble_eq_true rfl)) dX1_worst_25 ⟨by omega, by omega⟩) hS (fun H locs hP hS => ?_)
  refine W.cs (cells' := u3.1 - u0.1) (slots' := u3.2.1 - u0.2.1) (by omega) (by omega) ?_
  obtain ⟨c6, h⟩ := mif_n h
  obtain ⟨r9, u7, c8, h⟩ := ucall_n h
  have zu7 := zz_X2_of N (ub G) (ug G) u3 a1 x1 r5 r9 u7 c8
  refine u_calll (va_runV (As := [.int x1, .int r5]) (rest := []) hC.1 (met_X2_of l N G u3 a1 x1 r5 r9 u7 c8) (cwV 2 hts (lw_V q1344 q1345 q1346 q99 q1347) rfl rfl rfl (by decide +kernel) ⟨Nat.le_trans (Nat.le_of_ble_eq_true rfl) hR.1, Nat.le_trans (Nat.le_of_ble_eq_true rfl) hR.2⟩) ⟨uPc_blind, u_rcv hC hP c6 rfl, fun U hU hW => u_pre hC hP hS hU hW⟩ rfl rfl hl.1 rfl (lv_room (Nat.le_of_ble_eq_true rfl)) dX1_worst_28 ⟨by omega, by omega⟩) hS (fun H locs hP hS => ?_)
  refine W.cs (cells' := u7.1 - u0.1) (slots' := u7.2.1 - u0.2.1) (by omega) (by omega) ?_
  refine lv_lstore (lv' := [(4, .long r9), (3, va_rf (some a1)), (0, va_rf (some a0)), (1, .int x1)]) hx hb dX1_worst_31 hl (by decide) rfl (fun ls hl => ?_)
  refine lv_lload hx hb dX1_worst_33 (lv_at hl 0 rfl) ?_
  refine lv_ldc2 hx hb hown (hts _ q1424) dX1_worst_35 ?_
  refine W.lcmp hx hb dX1_worst_38 ?_
  refine lv_if_ne (tgt := 51) hx hb dX1_worst_39 (by decide) (fun c10 => ?_) (fun c10 => ?_)
  · have h := mif_f c10 h
    refine u_aload_n (r := some a0) hx hb dX1_worst_51 rfl (lv_at hl 2 rfl) ?_
    refine lv_lload hx hb dX1_worst_52 (lv_at hl 0 rfl) ?_
    refine lv_l2i (v := r9.toInt32) hx hb dX1_worst_54 rfl ?_
    obtain ⟨c11, h⟩ := mif_n h
    obtain ⟨r14, u12, c13, h⟩ := ucall_n h
    have zu12 := zz_X1_done N (ub G) (ug G) u7 a0 (r9.toInt32) r14 u12 c13
    refine u_calli (va_runV (As := [.int (r9.toInt32)]) (rest := []) hC.1 (met_X1_done l N G u7 a0 (r9.toInt32) r14 u12 c13) (cwV 1 hts (lw_V q1064 q1066 qs14 q98 q1067) rfl rfl rfl (by decide +kernel) ⟨Nat.le_trans (Nat.le_of_ble_eq_true rfl) hR.1, Nat.le_trans (Nat.le_of_ble_eq_true rfl) hR.2⟩) ⟨uPc_blind, u_rcv hC hP c11 rfl, fun U hU hW => u_pre hC hP hS hU hW⟩ rfl rfl hl.1 rfl (lv_room (Nat.le_of_ble_eq_true rfl)) dX1_worst_55 ⟨by omega, by omega⟩) hS (fun H locs hP hS => ?_)
    refine W.cs (cells' := u12.1 - u0.1) (slots' := u12.2.1 - u0.2.1) (by omega) (by omega) ?_
    refine W.cs (cells' := u12.1 - u0.1) (slots' := u12.2.1 - u0.2.1) (by omega) (by omega) ?_
    exact w_X1_worst_58 hC hR hRm N u12 r14 h ⟨by omega, by omega⟩ hP hS (lv_sub hl [] rfl)
  · have h := mif_t c10 h
    refine u_aload_n (r := some a0) hx hb dX1_worst_42 rfl (lv_at hl 2 rfl) ?_
    refine lv_bipush (v := 6) hx hb dX1_worst_43 (by decide) ?_
    obtain ⟨c15, h⟩ := mif_n h
    obtain ⟨r18, u16, c17, h⟩ := ucall_n h
    have zu16 := zz_X1_refused N (ub G) (ug G) u7 a0 6 r18 u16 c17
    refine u_calli (va_runV (As := [.int 6]) (rest := []) hC.1 (met_X1_refused l N G u7 a0 6 r18 u16 c17) (cwV 1 hts (lw_V q276 q278 qs0 q98 q279) rfl rfl rfl (by decide +kernel) ⟨Nat.le_trans (Nat.le_of_ble_eq_true rfl) hR.1, Nat.le_trans (Nat.le_of_ble_eq_true rfl) hR.2⟩) ⟨uPc_blind, u_rcv hC hP c15 rfl, fun U hU hW => u_pre hC hP hS hU hW⟩ rfl rfl hl.1 rfl (lv_room (Nat.le_of_ble_eq_true rfl)) dX1_worst_45 ⟨by omega, by omega⟩) hS (fun H locs hP hS => ?_)
    refine W.cs (cells' := u16.1 - u0.1) (slots' := u16.2.1 - u0.2.1) (by omega) (by omega) ?_
    refine lv_goto (tgt := 58) hx hb dX1_worst_48 (by decide) ?_
    refine W.cs (cells' := u16.1 - u0.1) (slots' := u16.2.1 - u0.2.1) (by omega) (by omega) ?_
    exact w_X1_worst_58 hC hR hRm N u16 r18 h ⟨by omega, by omega⟩ hP hS (lv_sub hl [] rfl)
def f_X1_worst (N b : Nat) (g : uEnv) (u : UH) (a0 : Nat) (x1 : Int32) (x2 : Int32) : Option (Int32 × UH) :=
    if uIs u a0 0 = true then
    ucall (f_X1_areCells N b g u a0 x1 x2) fun r4 u2 =>
    if r4 = 0 then
    if uIs u2 a0 0 = true then
    ucall (f_X1_refused N b g u2 a0 1) fun r13 u11 =>
    some (r13, u11)
    else none
    else
    if uIs u2 a0 0 = true then
    ucall (f_X1_solver N b g u2 a0 x2 0) fun o9 u7 =>
    f_X1_worst_21 N b g a0 u7 x1 o9
    else none
    else none
set_option maxHeartbeats 4000000 in
set_option maxRecDepth 100000 in
theorem zz_X1_worst_0 {G : uG} {a0 : Nat} {uf : UH} {r : Int32} (N : Nat) (u : UH) (x1 : Int32) (x2 : Int32) (h : f_X1_worst N (ub G) (ug G) u a0 x1 x2 = some (r, uf)) : u.1 ≤ uf.1 ∧ u.2.1 ≤ uf.2.1 := by
  unfold f_X1_worst at h
  obtain ⟨c1, h⟩ := mif_n h
  obtain ⟨r4, u2, c3, h⟩ := ucall_n h
  have zu2 := zz_X1_areCells N (ub G) (ug G) u a0 x1 x2 r4 u2 c3
  by_cases c5 : r4 = 0
  · have h := mif_t c5 h
    obtain ⟨c10, h⟩ := mif_n h
    obtain ⟨r13, u11, c12, h⟩ := ucall_n h
    have zu11 := zz_X1_refused N (ub G) (ug G) u2 a0 1 r13 u11 c12
    obtain ⟨hr1, hr2⟩ := uret_n h
    subst hr2
    exact ⟨by omega, by omega⟩
  · have h := mif_f c5 h
    obtain ⟨c6, h⟩ := mif_n h
    obtain ⟨o9, u7, c8, h⟩ := ucall_n h
    have zu7 := zz_X1_solver N (ub G) (ug G) u2 a0 x2 0 o9 u7 c8
    have hq := zz_X1_worst_21 (G := G) (a0 := a0) N u7 x1 o9 h
    exact ⟨by omega, by omega⟩
set_option maxHeartbeats 4000000 in
set_option maxRecDepth 100000 in
theorem w_X1_worst_0 {p : Program} {l : Launch} {e : Env} {R : Room} {s : State} {m : MethodId} {args : Array Value} {below : List Frame} {meth : Method} {c : Code} {G : uG} {a0 : Nat} {u0 : UH} {uf : UH} {r : Int32} (hC : uC p s m args meth c G RX1 cX1_worst 6 (some .int)) (hR : 45 ≤ R.frames ∧ 2511 ≤ R.locals) (hRm : uf.1 - u0.1 ≤ R.cells ∧ uf.2.1 - u0.2.1 ≤ R.slots) (N : Nat) (u : UH) (x1 : Int32) (x2 : Int32) (h : f_X1_worst N (ub G) (ug G) u a0 x1 x2 = some (r, uf)) (hz0 : (u0.1 ≤ u.1 ∧ u0.2.1 ≤ u.2.1)) {H : Heap} {locs : List Loc} (hP : uP G u H) (hS : va_S (uA G) s.heap H locs) {ls : Array Slot} (hl : lv_has ls 6 [(0, va_rf (some a0)), (1, .int x1), (2, .int x2)]) : W p l e R s m args below meth c H locs (u.1 - u0.1) (u.2.1 - u0.2.1) (MQ below (uQi G r uf) args s (uf.1 - u0.1) (uf.2.1 - u0.2.1) (uA G)) (F0 m 0 ls []) := by
  obtain ⟨⟨hx, hb, hml, hown, hts⟩, hKK⟩ := id hC
  have hzf := zz_X1_worst_0 (G := G) (a0 := a0) N u x1 x2 h
  unfold f_X1_worst at h
  refine u_aload_n (r := some a0) hx hb dX1_worst_0 rfl (lv_at hl 0 rfl) ?_
  refine lv_iload_n hx hb dX1_worst_1 rfl (lv_at hl 1 rfl) ?_
  refine lv_iload_n hx hb dX1_worst_2 rfl (lv_at hl 2 rfl) ?_
  obtain ⟨c1, h⟩ := mif_n h
  obtain ⟨r4, u2, c3, h⟩ := ucall_n h
  have zu2 := zz_X1_areCells N (ub G) (ug G) u a0 x1 x2 r4 u2 c3
  refine u_calli (va_runV (As := [.int x1, .int x2]) (rest := []) hC.1 (met_X1_areCells l N G u a0 x1 x2 r4 u2 c3) (cwV 2 hts (lw_V q1285 q1287 qs20 q98 q1288) rfl rfl rfl (by decide +kernel) ⟨Nat.le_trans (Nat.le_of_ble_eq_true rfl) hR.1, Nat.le_trans (Nat.le_of_ble_eq_true rfl) hR.2⟩) ⟨uPc_blind, u_rcv hC hP c1 rfl, fun U hU hW => u_pre hC hP hS hU hW⟩ rfl rfl hl.1 rfl (lv_room (Nat.le_of_ble_eq_true rfl)) dX1_worst_3 ⟨by omega, by omega⟩) hS (fun H locs hP hS => ?_)
  refine W.cs (cells' := u2.1 - u0.1) (slots' := u2.2.1 - u0.2.1) (by omega) (by omega) ?_
  refine lv_if_ne (tgt := 15) hx hb dX1_worst_6 (by decide) (fun c5 => ?_) (fun c5 => ?_)
  · have h := mif_f c5 h
    refine u_aload_n (r := some a0) hx hb dX1_worst_15 rfl (lv_at hl 0 rfl) ?_
    refine lv_iload_n hx hb dX1_worst_16 rfl (lv_at hl 2 rfl) ?_
    refine lv_iconst (v := 0) hx hb dX1_worst_17 (by decide) ?_
    obtain ⟨c6, h⟩ := mif_n h
    obtain ⟨o9, u7, c8, h⟩ := ucall_n h
    have zu7 := zz_X1_solver N (ub G) (ug G) u2 a0 x2 0 o9 u7 c8
    have hq := zz_X1_worst_21 (G := G) (a0 := a0) N u7 x1 o9 h
    refine u_callr (va_runV (As := [.int x2, .int 0]) (rest := []) hC.1 (met_X1_solver l N G u2 a0 x2 0 o9 u7 c8) (cwV 2 hts (lw_V q1289 q1291 qs21 q98 q1292) rfl rfl rfl (by decide +kernel) ⟨Nat.le_trans (Nat.le_of_ble_eq_true rfl) hR.1, Nat.le_trans (Nat.le_of_ble_eq_true rfl) hR.2⟩) ⟨uPc_blind, u_rcv hC hP c6 rfl, fun U hU hW => u_pre hC hP hS hU hW⟩ rfl rfl hl.1 rfl (lv_room (Nat.le_of_ble_eq_true rfl)) dX1_worst_18 ⟨by omega, by omega⟩) hS (fun H locs hP hS => ?_)
    refine W.cs (cells' := u7.1 - u0.1) (slots' := u7.2.1 - u0.2.1) (by omega) (by omega) ?_
    refine W.cs (cells' := u7.1 - u0.1) (slots' := u7.2.1 - u0.2.1) (by omega) (by omega) ?_
    exact w_X1_worst_21 hC hR hRm N u7 x1 o9 h ⟨by omega, by omega⟩ hP hS (lv_sub hl [0, 1] rfl)
  · have h := mif_t c5 h
    refine u_aload_n (r := some a0) hx hb dX1_worst_9 rfl (lv_at hl 0 rfl) ?_
    refine lv_iconst (v := 1) hx hb dX1_worst_10 (by decide) ?_
    obtain ⟨c10, h⟩ := mif_n h
    obtain ⟨r13, u11, c12, h⟩ := ucall_n h
    have zu11 := zz_X1_refused N (ub G) (ug G) u2 a0 1 r13 u11 c12
    refine u_calli (va_runV (As := [.int 1]) (rest := []) hC.1 (met_X1_refused l N G u2 a0 1 r13 u11 c12) (cwV 1 hts (lw_V q276 q278 qs0 q98 q279) rfl rfl rfl (by decide +kernel) ⟨Nat.le_trans (Nat.le_of_ble_eq_true rfl) hR.1, Nat.le_trans (Nat.le_of_ble_eq_true rfl) hR.2⟩) ⟨uPc_blind, u_rcv hC hP c10 rfl, fun U hU hW => u_pre hC hP hS hU hW⟩ rfl rfl hl.1 rfl (lv_room (Nat.le_of_ble_eq_true rfl)) dX1_worst_11 ⟨by omega, by omega⟩) hS (fun H locs hP hS => ?_)
    refine W.cs (cells' := u11.1 - u0.1) (slots' := u11.2.1 - u0.2.1) (by omega) (by omega) ?_
    obtain ⟨hr1, hr2⟩ := uret_n h
    subst hr1
    subst hr2
    exact u_iret hC hP hS dX1_worst_14
theorem zz_X1_worst (N b : Nat) (g : uEnv) (u : UH) (a0 : Nat) (x1 : Int32) (x2 : Int32) (r : Int32) (uf : UH) (h : f_X1_worst N b g u a0 x1 x2 = some (r, uf)) : u.1 ≤ uf.1 ∧ u.2.1 ≤ uf.2.1 :=
  zz_X1_worst_0 (G := ((fun _ => 0, fun _ _ => 0), fun _ => 0, b, g)) (a0 := a0) N u x1 x2 h
theorem met_X1_worst (l : Launch) (N : Nat) (G : uG) (u : UH) (a0 : Nat) (x1 : Int32) (x2 : Int32) (r : Int32) (uf : UH) (h : f_X1_worst N (ub G) (ug G) u a0 x1 x2 = some (r, uf)) : Met l yX1_worst (ws_ yX1_worst cX1_worst 6 (some .int)) ({ frames := 45, cells := (uf.1 - u.1), slots := (uf.2.1 - u.2.1), locals := 2511 }) (uPc G u [.ref a0, .int x1, .int x2]) (uQi G r uf) (uf.1 - u.1) (uf.2.1 - u.2.1) (uA G) := by
  exact u_met (own := RX1) (by decide +kernel) rfl (Nat.le_of_ble_eq_true rfl) (fun hC hn hsz ls hl hP => W.cs (Nat.sub_self _).symm (Nat.sub_self _).symm (w_X1_worst_0 hC ⟨Nat.le_refl _, Nat.le_refl _⟩ ⟨Nat.le_refl _, Nat.le_refl _⟩ N u x1 x2 h ⟨Nat.le_refl _, Nat.le_refl _⟩ hP va_S.rf hl))
def f_X1_worth_17 (N b : Nat) (g : uEnv) (a0 : Nat) (u : UH) : Option (Int64 × UH) :=
    if uIs u a0 0 = true then
    ucall (f_X1_lost N b g u a0 1) fun r4 u2 =>
    some (r4, u2)
    else none
set_option maxHeartbeats 4000000 in
set_option maxRecDepth 100000 in
theorem zz_X1_worth_17 {G : uG} {a0 : Nat} {uf : UH} {r : Int64} (N : Nat) (u : UH) (h : f_X1_worth_17 N (ub G) (ug G) a0 u = some (r, uf)) : u.1 ≤ uf.1 ∧ u.2.1 ≤ uf.2.1 := by
  unfold f_X1_worth_17 at h
  obtain ⟨c1, h⟩ := mif_n h
  obtain ⟨r4, u2, c3, h⟩ := ucall_n h
  have zu2 := zz_X1_lost N (ub G) (ug G) u a0 1 r4 u2 c3
  obtain ⟨hr1, hr2⟩ := uret_n h
  subst hr2
  exact ⟨by omega, by omega⟩
set_option maxHeartbeats 4000000 in
set_option maxRecDepth 100000 in
theorem w_X1_worth_17 {p : Program} {l : Launch} {e : Env} {R : Room} {s : State} {m : MethodId} {args : Array Value} {below : List Frame} {meth : Method} {c : Code} {G : uG} {a0 : Nat} {u0 : UH} {uf : UH} {r : Int64} (hC : uC p s m args meth c G RX1 cX1_worth 11 (some .long)) (hR : 102 ≤ R.frames ∧ 6050 ≤ R.locals) (hRm : uf.1 - u0.1 ≤ R.cells ∧ uf.2.1 - u0.2.1 ≤ R.slots) (N : Nat) (u : UH) (h : f_X1_worth_17 N (ub G) (ug G) a0 u = some (r, uf)) (hz0 : (u0.1 ≤ u.1 ∧ u0.2.1 ≤ u.2.1)) {H : Heap} {locs : List Loc} (hP : uP G u H) (hS : va_S (uA G) s.heap H locs) {ls : Array Slot} (hl : lv_has ls 11 [(0, va_rf (some a0))]) : W p l e R s m args below meth c H locs (u.1 - u0.1) (u.2.1 - u0.2.1) (MQ below (uQl G r uf) args s (uf.1 - u0.1) (uf.2.1 - u0.2.1) (uA G)) (F0 m 17 ls []) := by
  obtain ⟨⟨hx, hb, hml, hown, hts⟩, hKK⟩ := id hC
  have hzf := zz_X1_worth_17 (G := G) (a0 := a0) N u h
  unfold f_X1_worth_17 at h
  refine u_aload_n (r := some a0) hx hb dX1_worth_17 rfl (lv_at hl 0 rfl) ?_
  refine lv_iconst (v := 1) hx hb dX1_worth_18 (by decide) ?_
  obtain ⟨c1, h⟩ := mif_n h
  obtain ⟨r4, u2, c3, h⟩ := ucall_n h
  have zu2 := zz_X1_lost N (ub G) (ug G) u a0 1 r4 u2 c3
  refine u_calll (va_runV (As := [.int 1]) (rest := []) hC.1 (met_X1_lost l N G u a0 1 r4 u2 c3) (cwV 1 hts (lw_V q1429 q1431 qs27 q98 q1432) rfl rfl rfl (by decide +kernel) ⟨Nat.le_trans (Nat.le_of_ble_eq_true rfl) hR.1, Nat.le_trans (Nat.le_of_ble_eq_true rfl) hR.2⟩) ⟨uPc_blind, u_rcv hC hP c1 rfl, fun U hU hW => u_pre hC hP hS hU hW⟩ rfl rfl hl.1 rfl (lv_room (Nat.le_of_ble_eq_true rfl)) dX1_worth_19 ⟨by omega, by omega⟩) hS (fun H locs hP hS => ?_)
  refine W.cs (cells' := u2.1 - u0.1) (slots' := u2.2.1 - u0.2.1) (by omega) (by omega) ?_
  obtain ⟨hr1, hr2⟩ := uret_n h
  subst hr1
  subst hr2
  exact u_lret hC hP hS dX1_worth_22
def f_X1_worth_147 (N b : Nat) (g : uEnv) (a0 : Nat) (k98 : UH → Int32 → Int32 → Int32 → Option Nat → Option Nat → Int32 → Int64 → Int32 → Option (Int64 × UH)) (u : UH) (x1 : Int32) (x2 : Int32) (x4 : Int32) (x5 : Option Nat) (x6 : Option Nat) (x7 : Int32) (x8 : Int64) (x10 : Int32) : Option (Int64 × UH) :=
    mlet (x10 + 1) fun y1 =>
    k98 u x1 x2 x4 x5 x6 x7 x8 y1
set_option maxHeartbeats 4000000 in
set_option maxRecDepth 100000 in
theorem zz_X1_worth_147 {G : uG} {a0 : Nat} {uf : UH} {r : Int64} (N : Nat) (k98 : UH → Int32 → Int32 → Int32 → Option Nat → Option Nat → Int32 → Int64 → Int32 → Option (Int64 × UH)) (hk98 : ∀ (u : UH) (x1 : Int32) (x2 : Int32) (x4 : Int32) (x5 : Option Nat) (x6 : Option Nat) (x7 : Int32) (x8 : Int64) (x10 : Int32), k98 u x1 x2 x4 x5 x6 x7 x8 x10 = some (r, uf) → u.1 ≤ uf.1 ∧ u.2.1 ≤ uf.2.1) (u : UH) (x1 : Int32) (x2 : Int32) (x4 : Int32) (x5 : Option Nat) (x6 : Option Nat) (x7 : Int32) (x8 : Int64) (x10 : Int32) (h : f_X1_worth_147 N (ub G) (ug G) a0 k98 u x1 x2 x4 x5 x6 x7 x8 x10 = some (r, uf)) : u.1 ≤ uf.1 ∧ u.2.1 ≤ uf.2.1 := by
  unfold f_X1_worth_147 at h
  obtain ⟨y1, ey1⟩ : ∃ z : Int32, z = x10 + 1 := ⟨_, rfl⟩
  have h := mlet_at ey1 h
  have hq := hk98 u x1 x2 x4 x5 x6 x7 x8 y1 h
  exact ⟨by omega, by omega⟩
set_option maxHeartbeats 4000000 in
set_option maxRecDepth 100000 in
theorem w_X1_worth_147 {p : Program} {l : Launch} {e : Env} {R : Room} {s : State} {m : MethodId} {args : Array Value} {below : List Frame} {meth : Method} {c : Code} {G : uG} {a0 : Nat} {u0 : UH} {uf : UH} {r : Int64} (hC : uC p s m args meth c G RX1 cX1_worth 11 (some .long)) (hR : 102 ≤ R.frames ∧ 6050 ≤ R.locals) (hRm : uf.1 - u0.1 ≤ R.cells ∧ uf.2.1 - u0.2.1 ≤ R.slots) (N : Nat) (k98 : UH → Int32 → Int32 → Int32 → Option Nat → Option Nat → Int32 → Int64 → Int32 → Option (Int64 × UH)) (hk98 : ∀ (u : UH) (x1 : Int32) (x2 : Int32) (x4 : Int32) (x5 : Option Nat) (x6 : Option Nat) (x7 : Int32) (x8 : Int64) (x10 : Int32), k98 u x1 x2 x4 x5 x6 x7 x8 x10 = some (r, uf) → (u0.1 ≤ u.1 ∧ u0.2.1 ≤ u.2.1) → ∀ (H : Heap) (locs : List Loc), uP G u H → va_S (uA G) s.heap H locs → ∀ ls : Array Slot, lv_has ls 11 [(0, va_rf (some a0)), (1, .int x1), (2, .int x2), (4, .int x4), (5, va_rf x5), (6, va_rf x6), (7, .int x7), (8, .long x8), (10, .int x10)] → W p l e R s m args below meth c H locs (u.1 - u0.1) (u.2.1 - u0.2.1) (MQ below (uQl G r uf) args s (uf.1 - u0.1) (uf.2.1 - u0.2.1) (uA G)) (F0 m 98 ls [])) (zk98 : ∀ (u : UH) (x1 : Int32) (x2 : Int32) (x4 : Int32) (x5 : Option Nat) (x6 : Option Nat) (x7 : Int32) (x8 : Int64) (x10 : Int32), k98 u x1 x2 x4 x5 x6 x7 x8 x10 = some (r, uf) → u.1 ≤ uf.1 ∧ u.2.1 ≤ uf.2.1) (u : UH) (x1 : Int32) (x2 : Int32) (x4 : Int32) (x5 : Option Nat) (x6 : Option Nat) (x7 : Int32) (x8 : Int64) (x10 : Int32) (h : f_X1_worth_147 N (ub G) (ug G) a0 k98 u x1 x2 x4 x5 x6 x7 x8 x10 = some (r, uf)) (hz0 : (u0.1 ≤ u.1 ∧ u0.2.1 ≤ u.2.1)) {H : Heap} {locs : List Loc} (hP : uP G u H) (hS : va_S (uA G) s.heap H locs) {ls : Array Slot} (hl : lv_has ls 11 [(0, va_rf (some a0)), (1, .int x1), (2, .int x2), (4, .int x4), (5, va_rf x5), (6, va_rf x6), (7, .int x7), (8, .long x8), (10, .int x10)]) : W p l e R s m args below meth c H locs (u.1 - u0.1) (u.2.1 - u0.2.1) (MQ below (uQl G r uf) args s (uf.1 - u0.1) (uf.2.1 - u0.2.1) (uA G)) (F0 m 147 ls []) := by
  obtain ⟨⟨hx, hb, hml, hown, hts⟩, hKK⟩ := id hC
  have hzf := zz_X1_worth_147 (G := G) (a0 := a0) N k98 zk98 u x1 x2 x4 x5 x6 x7 x8 x10 h
  unfold f_X1_worth_147 at h
  obtain ⟨y1, ey1⟩ : ∃ z : Int32, z = x10 + 1 := ⟨_, rfl⟩
  have h := mlet_at ey1 h
  refine lv_iinc (v := y1) (lv' := [(10, .int y1), (0, va_rf (some a0)), (1, .int x1), (2, .int x2), (4, .int x4), (5, va_rf x5), (6, va_rf x6), (7, .int x7), (8, .long x8)]) hx hb dX1_worth_147 hl (k := 8) rfl (by rw [ey1]; rfl) (by decide) rfl (fun ls hl => ?_)
  refine lv_goto (tgt := 98) hx hb dX1_worth_150 (by decide) ?_
  refine W.cs (cells' := u.1 - u0.1) (slots' := u.2.1 - u0.2.1) (by omega) (by omega) ?_
  exact hk98 u x1 x2 x4 x5 x6 x7 x8 y1 h ⟨by omega, by omega⟩ _ _ hP hS _ (lv_sub hl [1, 2, 3, 4, 5, 6, 7, 8, 0] rfl)
def f_X1_worth_98 (N b : Nat) (g : uEnv) (a0 : Nat) : Nat → UH → Int32 → Int32 → Int32 → Option Nat → Option Nat → Int32 → Int64 → Int32 → Option (Int64 × UH)
  | 0, _, _, _, _, _, _, _, _, _ => none
  | n + 1, u, x1, x2, x4, x5, x6, x7, x8, x10 =>
    if 8 ≤ x10 then
    (x6).bind fun a2 =>
    if uIs u a2 1 = true then
    ucall (f_X2_scale N b g u a2 x7) fun r6 u4 =>
    if uIs u4 a0 0 = true then
    ucall (f_X1_part N b g u4 a0 x8 r6 x4) fun r10 u8 =>
    some (r10, u8)
    else none
    else none
    else
    (x5).bind fun a11 =>
    (uGR u a11 13 1).bind fun o12 =>
    (o12).bind fun a13 =>
    (uLdI u a13 0 x10).bind fun y14 =>
    if y14 ≤ 0 then
    f_X1_worth_147 N b g a0 (f_X1_worth_98 N b g a0 n) u x1 x2 x4 (some a11) x6 x7 x8 x10
    else
    (uGR u a11 13 1).bind fun o16 =>
    (o16).bind fun a17 =>
    (uLdI u a17 0 x10).bind fun y18 =>
    (x6).bind fun a19 =>
    if uIs u a19 1 = true then
    ucall (f_X2_knows N b g u a19 x7 x1 x10) fun r23 u21 =>
    if uIs u21 a19 1 = true then
    ucall (f_X2_of N b g u21 a19 x2 r23) fun r27 u25 =>
    mlet (x8 - ((y18.toInt64) * r27)) fun y28 =>
    f_X1_worth_147 N b g a0 (f_X1_worth_98 N b g a0 n) u25 x1 x2 x4 (some a11) (some a19) x7 y28 x10
    else none
    else none
set_option maxHeartbeats 4000000 in
set_option maxRecDepth 100000 in
theorem zz_X1_worth_98 {G : uG} {a0 : Nat} {uf : UH} {r : Int64} (N : Nat) : ∀ (n : Nat) (u : UH) (x1 : Int32) (x2 : Int32) (x4 : Int32) (x5 : Option Nat) (x6 : Option Nat) (x7 : Int32) (x8 : Int64) (x10 : Int32), f_X1_worth_98 N (ub G) (ug G) a0 n u x1 x2 x4 x5 x6 x7 x8 x10 = some (r, uf) → u.1 ≤ uf.1 ∧ u.2.1 ≤ uf.2.1 := by
  intro n
  induction n with
  | zero =>
    intro u x1 x2 x4 x5 x6 x7 x8 x10 h
    cases h
  | succ n ih =>
    intro u x1 x2 x4 x5 x6 x7 x8 x10 h
    unfold f_X1_worth_98 at h
    by_cases c1 : 8 ≤ x10
    · have h := mif_t c1 h
      obtain ⟨a2, ha2, hha2⟩ := mbind_n h
      subst ha2
      have h := hha2
      obtain ⟨c3, h⟩ := mif_n h
      obtain ⟨r6, u4, c5, h⟩ := ucall_n h
      have zu4 := zz_X2_scale N (ub G) (ug G) u a2 x7 r6 u4 c5
      obtain ⟨c7, h⟩ := mif_n h
      obtain ⟨r10, u8, c9, h⟩ := ucall_n h
      have zu8 := zz_X1_part N (ub G) (ug G) u4 a0 x8 r6 x4 r10 u8 c9
      obtain ⟨hr1, hr2⟩ := uret_n h
      subst hr2
      exact ⟨by omega, by omega⟩
    · have h := mif_f c1 h
      obtain ⟨a11, ha11, hha11⟩ := mbind_n h
      subst ha11
      have h := hha11
      obtain ⟨o12, ho12, h⟩ := mbind_n h
      obtain ⟨a13, ha13, hha13⟩ := mbind_n h
      subst ha13
      have h := hha13
      obtain ⟨y14, hy14, h⟩ := mbind_n h
      by_cases c15 : y14 ≤ 0
      · have h := mif_t c15 h
        have hq := zz_X1_worth_147 (G := G) (a0 := a0) N (f_X1_worth_98 N (ub G) (ug G) a0 n) ih u x1 x2 x4 (some a11) x6 x7 x8 x10 h
        exact ⟨by omega, by omega⟩
      · have h := mif_f c15 h
        obtain ⟨o16, ho16, h⟩ := mbind_n h
        obtain ⟨a17, ha17, hha17⟩ := mbind_n h
        subst ha17
        have h := hha17
        obtain ⟨y18, hy18, h⟩ := mbind_n h
        obtain ⟨a19, ha19, hha19⟩ := mbind_n h
        subst ha19
        have h := hha19
        obtain ⟨c20, h⟩ := mif_n h
        obtain ⟨r23, u21, c22, h⟩ := ucall_n h
        have zu21 := zz_X2_knows N (ub G) (ug G) u a19 x7 x1 x10 r23 u21 c22
        obtain ⟨c24, h⟩ := mif_n h
        obtain ⟨r27, u25, c26, h⟩ := ucall_n h
        have zu25 := zz_X2_of N (ub G) (ug G) u21 a19 x2 r23 r27 u25 c26
        obtain ⟨y28, ey28⟩ : ∃ z, z = x8 - ((y18.toInt64) * r27) := ⟨_, rfl⟩
        have h := mlet_at ey28 h
        have hq := zz_X1_worth_147 (G := G) (a0 := a0) N (f_X1_worth_98 N (ub G) (ug G) a0 n) ih u25 x1 x2 x4 (some a11) (some a19) x7 y28 x10 h
        exact ⟨by omega, by omega⟩
set_option maxHeartbeats 4000000 in
set_option maxRecDepth 100000 in
theorem w_X1_worth_98 {p : Program} {l : Launch} {e : Env} {R : Room} {s : State} {m : MethodId} {args : Array Value} {below : List Frame} {meth : Method} {c : Code} {G : uG} {a0 : Nat} {u0 : UH} {uf : UH} {r : Int64} (hC : uC p s m args meth c G RX1 cX1_worth 11 (some .long)) (hR : 102 ≤ R.frames ∧ 6050 ≤ R.locals) (hRm : uf.1 - u0.1 ≤ R.cells ∧ uf.2.1 - u0.2.1 ≤ R.slots) (N : Nat) : ∀ (n : Nat) (u : UH) (x1 : Int32) (x2 : Int32) (x4 : Int32) (x5 : Option Nat) (x6 : Option Nat) (x7 : Int32) (x8 : Int64) (x10 : Int32), f_X1_worth_98 N (ub G) (ug G) a0 n u x1 x2 x4 x5 x6 x7 x8 x10 = some (r, uf) → (u0.1 ≤ u.1 ∧ u0.2.1 ≤ u.2.1) → ∀ (H : Heap) (locs : List Loc), uP G u H → va_S (uA G) s.heap H locs → ∀ ls : Array Slot, lv_has ls 11 [(0, va_rf (some a0)), (1, .int x1), (2, .int x2), (4, .int x4), (5, va_rf x5), (6, va_rf x6), (7, .int x7), (8, .long x8), (10, .int x10)] → W p l e R s m args below meth c H locs (u.1 - u0.1) (u.2.1 - u0.2.1) (MQ below (uQl G r uf) args s (uf.1 - u0.1) (uf.2.1 - u0.2.1) (uA G)) (F0 m 98 ls []) := by
  obtain ⟨⟨hx, hb, hml, hown, hts⟩, hKK⟩ := id hC
  intro n
  induction n with
  | zero =>
    intro u x1 x2 x4 x5 x6 x7 x8 x10 h
    cases h
  | succ n ih =>
    intro u x1 x2 x4 x5 x6 x7 x8 x10 h hz0 H locs hP hS ls hl
    have hzf := zz_X1_worth_98 (G := G) (a0 := a0) N (n + 1) u x1 x2 x4 x5 x6 x7 x8 x10 h
    unfold f_X1_worth_98 at h
    refine lv_iload hx hb dX1_worth_98 (lv_at hl 8 rfl) ?_
    refine lv_bipush (v := 8) hx hb dX1_worth_100 (by decide) ?_
    refine lv_icmp_ge (tgt := 153) hx hb dX1_worth_102 (by decide) (fun c1 => ?_) (fun c1 => ?_)
    · have h := mif_t c1 h
      refine u_aload_n (r := some a0) hx hb dX1_worth_153 rfl (lv_at hl 0 rfl) ?_
      refine lv_lload hx hb dX1_worth_154 (lv_at hl 7 rfl) ?_
      refine u_aload (r := x6) hx hb dX1_worth_156 (lv_at hl 5 rfl) ?_
      refine lv_iload hx hb dX1_worth_158 (lv_at hl 6 rfl) ?_
      obtain ⟨a2, ha2, hha2⟩ := mbind_n h
      subst ha2
      have h := hha2
      obtain ⟨c3, h⟩ := mif_n h
      obtain ⟨r6, u4, c5, h⟩ := ucall_n h
      have zu4 := zz_X2_scale N (ub G) (ug G) u a2 x7 r6 u4 c5
      refine u_calll (va_runV (As := [.int x7]) (rest := [.long x8, va_rf (some a0)]) hC.1 (met_X2_scale l N G u a2 x7 r6 u4 c5) (cwV 1 hts (lw_V q1434 q1391 q1392 q99 q1393) rfl rfl rfl (by decide +kernel) ⟨Nat.le_trans (Nat.le_of_ble_eq_true rfl) hR.1, Nat.le_trans (Nat.le_of_ble_eq_true rfl) hR.2⟩) ⟨uPc_blind, u_rcv hC hP c3 rfl, fun U hU hW => u_pre hC hP hS hU hW⟩ rfl rfl hl.1 rfl (lv_room (Nat.le_of_ble_eq_true rfl)) dX1_worth_160 ⟨by omega, by omega⟩) hS (fun H locs hP hS => ?_)
      refine W.cs (cells' := u4.1 - u0.1) (slots' := u4.2.1 - u0.2.1) (by omega) (by omega) ?_
      refine lv_iload hx hb dX1_worth_163 (lv_at hl 3 rfl) ?_
      obtain ⟨c7, h⟩ := mif_n h
      obtain ⟨r10, u8, c9, h⟩ := ucall_n h
      have zu8 := zz_X1_part N (ub G) (ug G) u4 a0 x8 r6 x4 r10 u8 c9
      refine u_calll (va_runV (As := [.long x8, .long r6, .int x4]) (rest := []) hC.1 (met_X1_part l N G u4 a0 x8 r6 x4 r10 u8 c9) (cwV 3 hts (lw_V q1435 q1437 qs28 q98 q1438) rfl rfl rfl (by decide +kernel) ⟨Nat.le_trans (Nat.le_of_ble_eq_true rfl) hR.1, Nat.le_trans (Nat.le_of_ble_eq_true rfl) hR.2⟩) ⟨uPc_blind, u_rcv hC hP c7 rfl, fun U hU hW => u_pre hC hP hS hU hW⟩ rfl rfl hl.1 rfl (lv_room (Nat.le_of_ble_eq_true rfl)) dX1_worth_165 ⟨by omega, by omega⟩) hS (fun H locs hP hS => ?_)
      refine W.cs (cells' := u8.1 - u0.1) (slots' := u8.2.1 - u0.2.1) (by omega) (by omega) ?_
      obtain ⟨hr1, hr2⟩ := uret_n h
      subst hr1
      subst hr2
      exact u_lret hC hP hS dX1_worth_168
    · have h := mif_f c1 h
      refine u_aload (r := x5) hx hb dX1_worth_105 (lv_at hl 4 rfl) ?_
      obtain ⟨a11, ha11, hha11⟩ := mbind_n h
      subst ha11
      have h := hha11
      obtain ⟨o12, ho12, h⟩ := mbind_n h
      refine u_getN hC hP (uGR_n ho12) rfl in_X15 (by decide) q1219 (fun _ h => h) dX1_worth_107 ?_
      refine lv_iload hx hb dX1_worth_110 (lv_at hl 8 rfl) ?_
      obtain ⟨a13, ha13, hha13⟩ := mbind_n h
      subst ha13
      have h := hha13
      obtain ⟨y14, hy14, h⟩ := mbind_n h
      refine u_iald hC hP hy14 rfl dX1_worth_112 ?_
      refine lv_if_le (tgt := 147) hx hb dX1_worth_113 (by decide) (fun c15 => ?_) (fun c15 => ?_)
      · have h := mif_t c15 h
        refine W.cs (cells' := u.1 - u0.1) (slots' := u.2.1 - u0.2.1) (by omega) (by omega) ?_
        exact w_X1_worth_147 hC hR hRm N (f_X1_worth_98 N (ub G) (ug G) a0 n) ih (zz_X1_worth_98 (G := G) (a0 := a0) N n) u x1 x2 x4 (some a11) x6 x7 x8 x10 h ⟨by omega, by omega⟩ hP hS (lv_sub hl [0, 1, 2, 3, 4, 5, 6, 7, 8] rfl)
      · have h := mif_f c15 h
        refine lv_lload hx hb dX1_worth_116 (lv_at hl 7 rfl) ?_
        refine u_aload (r := some a11) hx hb dX1_worth_118 (lv_at hl 4 rfl) ?_
        obtain ⟨o16, ho16, h⟩ := mbind_n h
        refine u_getN hC hP (uGR_n ho16) rfl in_X15 (by decide) q1219 (fun _ h => h) dX1_worth_120 ?_
        refine lv_iload hx hb dX1_worth_123 (lv_at hl 8 rfl) ?_
        obtain ⟨a17, ha17, hha17⟩ := mbind_n h
        subst ha17
        have h := hha17
        obtain ⟨y18, hy18, h⟩ := mbind_n h
        refine u_iald hC hP hy18 rfl dX1_worth_125 ?_
        refine lv_i2l (v := y18.toInt64) hx hb dX1_worth_126 rfl ?_
        refine u_aload (r := x6) hx hb dX1_worth_127 (lv_at hl 5 rfl) ?_
        refine lv_iload_n hx hb dX1_worth_129 rfl (lv_at hl 2 rfl) ?_
        refine u_aload (r := x6) hx hb dX1_worth_130 (lv_at hl 5 rfl) ?_
        refine lv_iload hx hb dX1_worth_132 (lv_at hl 6 rfl) ?_
        refine lv_iload_n hx hb dX1_worth_134 rfl (lv_at hl 1 rfl) ?_
        refine lv_iload hx hb dX1_worth_135 (lv_at hl 8 rfl) ?_
        obtain ⟨a19, ha19, hha19⟩ := mbind_n h
        subst ha19
        have h := hha19
        obtain ⟨c20, h⟩ := mif_n h
        obtain ⟨r23, u21, c22, h⟩ := ucall_n h
        have zu21 := zz_X2_knows N (ub G) (ug G) u a19 x7 x1 x10 r23 u21 c22
        refine u_calli (va_runV (As := [.int x7, .int x1, .int x10]) (rest := [.int x2, va_rf (some a19), .long (y18.toInt64), .long x8]) hC.1 (met_X2_knows l N G u a19 x7 x1 x10 r23 u21 c22) (cwV 3 hts (lw_V q1525 q1337 q1338 q99 q1339) rfl rfl rfl (by decide +kernel) ⟨Nat.le_trans (Nat.le_of_ble_eq_true rfl) hR.1, Nat.le_trans (Nat.le_of_ble_eq_true rfl) hR.2⟩) ⟨uPc_blind, u_rcv hC hP c20 rfl, fun U hU hW => u_pre hC hP hS hU hW⟩ rfl rfl hl.1 rfl (lv_room (Nat.le_of_ble_eq_true rfl)) dX1_worth_137 ⟨by omega, by omega⟩) hS (fun H locs hP hS => ?_)
        refine W.cs (cells' := u21.1 - u0.1) (slots' := u21.2.1 - u0.2.1) (by omega) (by omega) ?_
        obtain ⟨c24, h⟩ := mif_n h
        obtain ⟨r27, u25, c26, h⟩ := ucall_n h
        have zu25 := zz_X2_of N (ub G) (ug G) u21 a19 x2 r23 r27 u25 c26
        refine u_calll (va_runV (As := [.int x2, .int r23]) (rest := [.long (y18.toInt64), .long x8]) hC.1 (met_X2_of l N G u21 a19 x2 r23 r27 u25 c26) (cwV 2 hts (lw_V q1344 q1345 q1346 q99 q1347) rfl rfl rfl (by decide +kernel) ⟨Nat.le_trans (Nat.le_of_ble_eq_true rfl) hR.1, Nat.le_trans (Nat.le_of_ble_eq_true rfl) hR.2⟩) ⟨uPc_blind, u_rcv hC hP c24 rfl, fun U hU hW => u_pre hC hP hS hU hW⟩ rfl rfl hl.1 rfl (lv_room (Nat.le_of_ble_eq_true rfl)) dX1_worth_140 ⟨by omega, by omega⟩) hS (fun H locs hP hS => ?_)
        refine W.cs (cells' := u25.1 - u0.1) (slots' := u25.2.1 - u0.2.1) (by omega) (by omega) ?_
        refine lv_lmul hx hb dX1_worth_143 ?_
        refine lv_lsub hx hb dX1_worth_144 ?_
        refine lv_topl (fun y28 ey28 => ?_)
        have h := mlet_at ey28 h
        refine lv_lstore (lv' := [(8, .long y28), (0, va_rf (some a0)), (1, .int x1), (2, .int x2), (4, .int x4), (5, va_rf (some a11)), (6, va_rf (some a19)), (7, .int x7), (10, .int x10)]) hx hb dX1_worth_145 hl (by decide) rfl (fun ls hl => ?_)
        refine W.cs (cells' := u25.1 - u0.1) (slots' := u25.2.1 - u0.2.1) (by omega) (by omega) ?_
        exact w_X1_worth_147 hC hR hRm N (f_X1_worth_98 N (ub G) (ug G) a0 n) ih (zz_X1_worth_98 (G := G) (a0 := a0) N n) u25 x1 x2 x4 (some a11) (some a19) x7 y28 x10 h ⟨by omega, by omega⟩ hP hS (lv_sub hl [1, 2, 3, 4, 5, 6, 7, 0, 8] rfl)
def f_X1_worth_60 (N b : Nat) (g : uEnv) (a0 : Nat) (u : UH) (x1 : Int32) (x2 : Int32) (x4 : Int32) (x5 : Option Nat) (s0 : Option Nat) : Option (Int64 × UH) :=
    (s0).bind fun a1 =>
    if uIs u a1 1 = true then
    ucall (f_X2_known N b g u a1) fun r5 u3 =>
    if uIs u3 a1 1 = true then
    ucall (f_X2_of N b g u3 a1 x2 r5) fun r9 u7 =>
    if (lg_cmp r9 9223372036854775807) = 0 then
    if uIs u7 a0 0 = true then
    ucall (f_X1_lost N b g u7 a0 6) fun r14 u12 =>
    some (r14, u12)
    else none
    else
    f_X1_worth_98 N b g a0 N u7 x1 x2 x4 x5 (some a1) r5 r9 0
    else none
    else none
set_option maxHeartbeats 4000000 in
set_option maxRecDepth 100000 in
theorem zz_X1_worth_60 {G : uG} {a0 : Nat} {uf : UH} {r : Int64} (N : Nat) (u : UH) (x1 : Int32) (x2 : Int32) (x4 : Int32) (x5 : Option Nat) (s0 : Option Nat) (h : f_X1_worth_60 N (ub G) (ug G) a0 u x1 x2 x4 x5 s0 = some (r, uf)) : u.1 ≤ uf.1 ∧ u.2.1 ≤ uf.2.1 := by
  unfold f_X1_worth_60 at h
  obtain ⟨a1, ha1, hha1⟩ := mbind_n h
  subst ha1
  have h := hha1
  obtain ⟨c2, h⟩ := mif_n h
  obtain ⟨r5, u3, c4, h⟩ := ucall_n h
  have zu3 := zz_X2_known N (ub G) (ug G) u a1 r5 u3 c4
  obtain ⟨c6, h⟩ := mif_n h
  obtain ⟨r9, u7, c8, h⟩ := ucall_n h
  have zu7 := zz_X2_of N (ub G) (ug G) u3 a1 x2 r5 r9 u7 c8
  by_cases c10 : (lg_cmp r9 9223372036854775807) = 0
  · have h := mif_t c10 h
    obtain ⟨c11, h⟩ := mif_n h
    obtain ⟨r14, u12, c13, h⟩ := ucall_n h
    have zu12 := zz_X1_lost N (ub G) (ug G) u7 a0 6 r14 u12 c13
    obtain ⟨hr1, hr2⟩ := uret_n h
    subst hr2
    exact ⟨by omega, by omega⟩
  · have h := mif_f c10 h
    have hq := zz_X1_worth_98 (G := G) (a0 := a0) N N u7 x1 x2 x4 x5 (some a1) r5 r9 0 h
    exact ⟨by omega, by omega⟩
set_option maxHeartbeats 4000000 in
set_option maxRecDepth 100000 in
theorem w_X1_worth_60 {p : Program} {l : Launch} {e : Env} {R : Room} {s : State} {m : MethodId} {args : Array Value} {below : List Frame} {meth : Method} {c : Code} {G : uG} {a0 : Nat} {u0 : UH} {uf : UH} {r : Int64} (hC : uC p s m args meth c G RX1 cX1_worth 11 (some .long)) (hR : 102 ≤ R.frames ∧ 6050 ≤ R.locals) (hRm : uf.1 - u0.1 ≤ R.cells ∧ uf.2.1 - u0.2.1 ≤ R.slots) (N : Nat) (u : UH) (x1 : Int32) (x2 : Int32) (x4 : Int32) (x5 : Option Nat) (s0 : Option Nat) (h : f_X1_worth_60 N (ub G) (ug G) a0 u x1 x2 x4 x5 s0 = some (r, uf)) (hz0 : (u0.1 ≤ u.1 ∧ u0.2.1 ≤ u.2.1)) {H : Heap} {locs : List Loc} (hP : uP G u H) (hS : va_S (uA G) s.heap H locs) {ls : Array Slot} (hl : lv_has ls 11 [(0, va_rf (some a0)), (1, .int x1), (2, .int x2), (4, .int x4), (5, va_rf x5)]) : W p l e R s m args below meth c H locs (u.1 - u0.1) (u.2.1 - u0.2.1) (MQ below (uQl G r uf) args s (uf.1 - u0.1) (uf.2.1 - u0.2.1) (uA G)) (F0 m 60 ls [va_rf s0]) := by
  obtain ⟨⟨hx, hb, hml, hown, hts⟩, hKK⟩ := id hC
  have hzf := zz_X1_worth_60 (G := G) (a0 := a0) N u x1 x2 x4 x5 s0 h
  unfold f_X1_worth_60 at h
  refine u_astore (r := s0) (lv' := [(6, va_rf s0), (0, va_rf (some a0)), (1, .int x1), (2, .int x2), (4, .int x4), (5, va_rf x5)]) hx hb dX1_worth_60 hl (by decide) (by simp [List.filter_cons, u_cat]) (fun ls hl => ?_)
  refine u_aload (r := s0) hx hb dX1_worth_62 (lv_at hl 0 rfl) ?_
  obtain ⟨a1, ha1, hha1⟩ := mbind_n h
  subst ha1
  have h := hha1
  obtain ⟨c2, h⟩ := mif_n h
  obtain ⟨r5, u3, c4, h⟩ := ucall_n h
  have zu3 := zz_X2_known N (ub G) (ug G) u a1 r5 u3 c4
  refine u_calli (va_runV (As := []) (rest := []) hC.1 (met_X2_known l N G u a1 r5 u3 c4) (cwV 0 hts (lw_V q1330 q1331 q1332 q99 q1333) rfl rfl rfl (by decide +kernel) ⟨Nat.le_trans (Nat.le_of_ble_eq_true rfl) hR.1, Nat.le_trans (Nat.le_of_ble_eq_true rfl) hR.2⟩) ⟨uPc_blind, u_rcv hC hP c2 rfl, fun U hU hW => u_pre hC hP hS hU hW⟩ rfl rfl hl.1 rfl (lv_room (Nat.le_of_ble_eq_true rfl)) dX1_worth_64 ⟨by omega, by omega⟩) hS (fun H locs hP hS => ?_)
  refine W.cs (cells' := u3.1 - u0.1) (slots' := u3.2.1 - u0.2.1) (by omega) (by omega) ?_
  refine lv_istore (lv' := [(7, .int r5), (6, va_rf (some a1)), (0, va_rf (some a0)), (1, .int x1), (2, .int x2), (4, .int x4), (5, va_rf x5)]) hx hb dX1_worth_67 hl (by decide) rfl (fun ls hl => ?_)
  refine u_aload (r := some a1) hx hb dX1_worth_69 (lv_at hl 1 rfl) ?_
  refine lv_iload_n hx hb dX1_worth_71 rfl (lv_at hl 4 rfl) ?_
  refine lv_iload hx hb dX1_worth_72 (lv_at hl 0 rfl) ?_
  obtain ⟨c6, h⟩ := mif_n h
  obtain ⟨r9, u7, c8, h⟩ := ucall_n h
  have zu7 := zz_X2_of N (ub G) (ug G) u3 a1 x2 r5 r9 u7 c8
  refine u_calll (va_runV (As := [.int x2, .int r5]) (rest := []) hC.1 (met_X2_of l N G u3 a1 x2 r5 r9 u7 c8) (cwV 2 hts (lw_V q1344 q1345 q1346 q99 q1347) rfl rfl rfl (by decide +kernel) ⟨Nat.le_trans (Nat.le_of_ble_eq_true rfl) hR.1, Nat.le_trans (Nat.le_of_ble_eq_true rfl) hR.2⟩) ⟨uPc_blind, u_rcv hC hP c6 rfl, fun U hU hW => u_pre hC hP hS hU hW⟩ rfl rfl hl.1 rfl (lv_room (Nat.le_of_ble_eq_true rfl)) dX1_worth_74 ⟨by omega, by omega⟩) hS (fun H locs hP hS => ?_)
  refine W.cs (cells' := u7.1 - u0.1) (slots' := u7.2.1 - u0.2.1) (by omega) (by omega) ?_
  refine lv_lstore (lv' := [(8, .long r9), (7, .int r5), (6, va_rf (some a1)), (0, va_rf (some a0)), (1, .int x1), (2, .int x2), (4, .int x4), (5, va_rf x5)]) hx hb dX1_worth_77 hl (by decide) rfl (fun ls hl => ?_)
  refine lv_lload hx hb dX1_worth_79 (lv_at hl 0 rfl) ?_
  refine lv_ldc2 hx hb hown (hts _ q1424) dX1_worth_81 ?_
  refine W.lcmp hx hb dX1_worth_84 ?_
  refine lv_if_ne (tgt := 95) hx hb dX1_worth_85 (by decide) (fun c10 => ?_) (fun c10 => ?_)
  · have h := mif_f c10 h
    refine lv_iconst (v := 0) hx hb dX1_worth_95 (by decide) ?_
    refine lv_istore (lv' := [(10, .int 0), (8, .long r9), (7, .int r5), (6, va_rf (some a1)), (0, va_rf (some a0)), (1, .int x1), (2, .int x2), (4, .int x4), (5, va_rf x5)]) hx hb dX1_worth_96 hl (by decide) rfl (fun ls hl => ?_)
    refine W.cs (cells' := u7.1 - u0.1) (slots' := u7.2.1 - u0.2.1) (by omega) (by omega) ?_
    exact w_X1_worth_98 hC hR hRm N N u7 x1 x2 x4 x5 (some a1) r5 r9 0 h ⟨by omega, by omega⟩ _ _ hP hS _ (lv_sub hl [4, 5, 6, 7, 8, 3, 2, 1, 0] rfl)
  · have h := mif_t c10 h
    refine u_aload_n (r := some a0) hx hb dX1_worth_88 rfl (lv_at hl 3 rfl) ?_
    refine lv_bipush (v := 6) hx hb dX1_worth_89 (by decide) ?_
    obtain ⟨c11, h⟩ := mif_n h
    obtain ⟨r14, u12, c13, h⟩ := ucall_n h
    have zu12 := zz_X1_lost N (ub G) (ug G) u7 a0 6 r14 u12 c13
    refine u_calll (va_runV (As := [.int 6]) (rest := []) hC.1 (met_X1_lost l N G u7 a0 6 r14 u12 c13) (cwV 1 hts (lw_V q1429 q1431 qs27 q98 q1432) rfl rfl rfl (by decide +kernel) ⟨Nat.le_trans (Nat.le_of_ble_eq_true rfl) hR.1, Nat.le_trans (Nat.le_of_ble_eq_true rfl) hR.2⟩) ⟨uPc_blind, u_rcv hC hP c11 rfl, fun U hU hW => u_pre hC hP hS hU hW⟩ rfl rfl hl.1 rfl (lv_room (Nat.le_of_ble_eq_true rfl)) dX1_worth_91 ⟨by omega, by omega⟩) hS (fun H locs hP hS => ?_)
    refine W.cs (cells' := u12.1 - u0.1) (slots' := u12.2.1 - u0.2.1) (by omega) (by omega) ?_
    obtain ⟨hr1, hr2⟩ := uret_n h
    subst hr1
    subst hr2
    exact u_lret hC hP hS dX1_worth_94
def f_X1_worth (N b : Nat) (g : uEnv) (u : UH) (a0 : Nat) (x1 : Int32) (x2 : Int32) (x3 : Int32) (x4 : Int32) : Option (Int64 × UH) :=
    if uIs u a0 0 = true then
    ucall (f_X1_isDoubt N b g u a0 x1) fun r4 u2 =>
    if r4 = 0 then
    f_X1_worth_17 N b g a0 u2
    else
    if uIs u2 a0 0 = true then
    ucall (f_X1_areCells N b g u2 a0 x2 x3) fun r9 u7 =>
    if r9 = 0 then
    f_X1_worth_17 N b g a0 u7
    else
    (uGR u7 a0 0 7).bind fun o11 =>
    (o11).bind fun a12 =>
    (uGR u7 a12 12 6).bind fun o13 =>
    (o13).bind fun a14 =>
    if uIs u7 a14 18 = true then
    ucall (f_J2_get N b g u7 a14 x1) fun o18 u16 =>
    (o18).bind fun a19 =>
    if uIs u16 a19 13 = true then
    (uGI u16 a19 13 2).bind fun y21 =>
    if y21 = (-1) then
    if uIs u16 a0 0 = true then
    ucall (f_X1_solver N b g u16 a0 x3 1) fun o26 u24 =>
    f_X1_worth_60 N b g a0 u24 x1 x2 x4 (some a19) o26
    else none
    else
    if uIs u16 a0 0 = true then
    ucall (f_X1_lost N b g u16 a0 5) fun r30 u28 =>
    some (r30, u28)
    else none
    else none
    else none
    else none
    else none
set_option maxHeartbeats 4000000 in
set_option maxRecDepth 100000 in
theorem zz_X1_worth_0 {G : uG} {a0 : Nat} {uf : UH} {r : Int64} (N : Nat) (u : UH) (x1 : Int32) (x2 : Int32) (x3 : Int32) (x4 : Int32) (h : f_X1_worth N (ub G) (ug G) u a0 x1 x2 x3 x4 = some (r, uf)) : u.1 ≤ uf.1 ∧ u.2.1 ≤ uf.2.1 := by
  unfold f_X1_worth at h
  obtain ⟨c1, h⟩ := mif_n h
  obtain ⟨r4, u2, c3, h⟩ := ucall_n h
  have zu2 := zz_X1_isDoubt N (ub G) (ug G) u a0 x1 r4 u2 c3
  by_cases c5 : r4 = 0
  · have h := mif_t c5 h
    have hq := zz_X1_worth_17 (G := G) (a0 := a0) N u2 h
    exact ⟨by omega, by omega⟩
  · have h := mif_f c5 h
    obtain ⟨c6, h⟩ := mif_n h
    obtain ⟨r9, u7, c8, h⟩ := ucall_n h
    have zu7 := zz_X1_areCells N (ub G) (ug G) u2 a0 x2 x3 r9 u7 c8
    by_cases c10 : r9 = 0
    · have h := mif_t c10 h
      have hq := zz_X1_worth_17 (G := G) (a0 := a0) N u7 h
      exact ⟨by omega, by omega⟩
    · have h := mif_f c10 h
      obtain ⟨o11, ho11, h⟩ := mbind_n h
      obtain ⟨a12, ha12, hha12⟩ := mbind_n h
      subst ha12
      have h := hha12
      obtain ⟨o13, ho13, h⟩ := mbind_n h
      obtain ⟨a14, ha14, hha14⟩ := mbind_n h
      subst ha14
      have h := hha14
      obtain ⟨c15, h⟩ := mif_n h
      obtain ⟨o18, u16, c17, h⟩ := ucall_n h
      have zu16 := zz_J2_get N (ub G) (ug G) u7 a14 x1 o18 u16 c17
      obtain ⟨a19, ha19, hha19⟩ := mbind_n h
      subst ha19
      have h := hha19
      obtain ⟨c20, h⟩ := mif_n h
      obtain ⟨y21, hy21, h⟩ := mbind_n h
      by_cases c22 : y21 = (-1)
      · have h := mif_t c22 h
        obtain ⟨c23, h⟩ := mif_n h
        obtain ⟨o26, u24, c25, h⟩ := ucall_n h
        have zu24 := zz_X1_solver N (ub G) (ug G) u16 a0 x3 1 o26 u24 c25
        have hq := zz_X1_worth_60 (G := G) (a0 := a0) N u24 x1 x2 x4 (some a19) o26 h
        exact ⟨by omega, by omega⟩
      · have h := mif_f c22 h
        obtain ⟨c27, h⟩ := mif_n h
        obtain ⟨r30, u28, c29, h⟩ := ucall_n h
        have zu28 := zz_X1_lost N (ub G) (ug G) u16 a0 5 r30 u28 c29
        obtain ⟨hr1, hr2⟩ := uret_n h
        subst hr2
        exact ⟨by omega, by omega⟩
set_option maxHeartbeats 4000000 in
set_option maxRecDepth 100000 in
theorem w_X1_worth_0 {p : Program} {l : Launch} {e : Env} {R : Room} {s : State} {m : MethodId} {args : Array Value} {below : List Frame} {meth : Method} {c : Code} {G : uG} {a0 : Nat} {u0 : UH} {uf : UH} {r : Int64} (hC : uC p s m args meth c G RX1 cX1_worth 11 (some .long)) (hR : 102 ≤ R.frames ∧ 6050 ≤ R.locals) (hRm : uf.1 - u0.1 ≤ R.cells ∧ uf.2.1 - u0.2.1 ≤ R.slots) (N : Nat) (u : UH) (x1 : Int32) (x2 : Int32) (x3 : Int32) (x4 : Int32) (h : f_X1_worth N (ub G) (ug G) u a0 x1 x2 x3 x4 = some (r, uf)) (hz0 : (u0.1 ≤ u.1 ∧ u0.2.1 ≤ u.2.1)) {H : Heap} {locs : List Loc} (hP : uP G u H) (hS : va_S (uA G) s.heap H locs) {ls : Array Slot} (hl : lv_has ls 11 [(0, va_rf (some a0)), (1, .int x1), (2, .int x2), (3, .int x3), (4, .int x4)]) : W p l e R s m args below meth c H locs (u.1 - u0.1) (u.2.1 - u0.2.1) (MQ below (uQl G r uf) args s (uf.1 - u0.1) (uf.2.1 - u0.2.1) (uA G)) (F0 m 0 ls []) := by
  obtain ⟨⟨hx, hb, hml, hown, hts⟩, hKK⟩ := id hC
  have hzf := zz_X1_worth_0 (G := G) (a0 := a0) N u x1 x2 x3 x4 h
  unfold f_X1_worth at h
  refine u_aload_n (r := some a0) hx hb dX1_worth_0 rfl (lv_at hl 0 rfl) ?_
  refine lv_iload_n hx hb dX1_worth_1 rfl (lv_at hl 1 rfl) ?_
  obtain ⟨c1, h⟩ := mif_n h
  obtain ⟨r4, u2, c3, h⟩ := ucall_n h
  have zu2 := zz_X1_isDoubt N (ub G) (ug G) u a0 x1 r4 u2 c3
  refine u_calli (va_runV (As := [.int x1]) (rest := []) hC.1 (met_X1_isDoubt l N G u a0 x1 r4 u2 c3) (cwV 1 hts (lw_V q1236 q1238 qs19 q98 q1239) rfl rfl rfl (by decide +kernel) ⟨Nat.le_trans (Nat.le_of_ble_eq_true rfl) hR.1, Nat.le_trans (Nat.le_of_ble_eq_true rfl) hR.2⟩) ⟨uPc_blind, u_rcv hC hP c1 rfl, fun U hU hW => u_pre hC hP hS hU hW⟩ rfl rfl hl.1 rfl (lv_room (Nat.le_of_ble_eq_true rfl)) dX1_worth_2 ⟨by omega, by omega⟩) hS (fun H locs hP hS => ?_)
  refine W.cs (cells' := u2.1 - u0.1) (slots' := u2.2.1 - u0.2.1) (by omega) (by omega) ?_
  refine lv_if_eq (tgt := 17) hx hb dX1_worth_5 (by decide) (fun c5 => ?_) (fun c5 => ?_)
  · have h := mif_t c5 h
    refine W.cs (cells' := u2.1 - u0.1) (slots' := u2.2.1 - u0.2.1) (by omega) (by omega) ?_
    exact w_X1_worth_17 hC hR hRm N u2 h ⟨by omega, by omega⟩ hP hS (lv_sub hl [0] rfl)
  · have h := mif_f c5 h
    refine u_aload_n (r := some a0) hx hb dX1_worth_8 rfl (lv_at hl 0 rfl) ?_
    refine lv_iload_n hx hb dX1_worth_9 rfl (lv_at hl 2 rfl) ?_
    refine lv_iload_n hx hb dX1_worth_10 rfl (lv_at hl 3 rfl) ?_
    obtain ⟨c6, h⟩ := mif_n h
    obtain ⟨r9, u7, c8, h⟩ := ucall_n h
    have zu7 := zz_X1_areCells N (ub G) (ug G) u2 a0 x2 x3 r9 u7 c8
    refine u_calli (va_runV (As := [.int x2, .int x3]) (rest := []) hC.1 (met_X1_areCells l N G u2 a0 x2 x3 r9 u7 c8) (cwV 2 hts (lw_V q1285 q1287 qs20 q98 q1288) rfl rfl rfl (by decide +kernel) ⟨Nat.le_trans (Nat.le_of_ble_eq_true rfl) hR.1, Nat.le_trans (Nat.le_of_ble_eq_true rfl) hR.2⟩) ⟨uPc_blind, u_rcv hC hP c6 rfl, fun U hU hW => u_pre hC hP hS hU hW⟩ rfl rfl hl.1 rfl (lv_room (Nat.le_of_ble_eq_true rfl)) dX1_worth_11 ⟨by omega, by omega⟩) hS (fun H locs hP hS => ?_)
    refine W.cs (cells' := u7.1 - u0.1) (slots' := u7.2.1 - u0.2.1) (by omega) (by omega) ?_
    refine lv_if_ne (tgt := 23) hx hb dX1_worth_14 (by decide) (fun c10 => ?_) (fun c10 => ?_)
    · have h := mif_f c10 h
      refine u_aload_n (r := some a0) hx hb dX1_worth_23 rfl (lv_at hl 0 rfl) ?_
      obtain ⟨o11, ho11, h⟩ := mbind_n h
      refine u_get hC hP (uGR_n ho11) rfl in_X1 (by decide) q222 (fun _ h => h) dX1_worth_24 ?_
      obtain ⟨a12, ha12, hha12⟩ := mbind_n h
      subst ha12
      have h := hha12
      obtain ⟨o13, ho13, h⟩ := mbind_n h
      refine u_getN hC hP (uGR_n ho13) rfl in_X14 (by decide) q1151 (fun _ h => h) dX1_worth_27 ?_
      refine lv_iload_n hx hb dX1_worth_30 rfl (lv_at hl 1 rfl) ?_
      obtain ⟨a14, ha14, hha14⟩ := mbind_n h
      subst ha14
      have h := hha14
      obtain ⟨c15, h⟩ := mif_n h
      obtain ⟨o18, u16, c17, h⟩ := ucall_n h
      have zu16 := zz_J2_get N (ub G) (ug G) u7 a14 x1 o18 u16 c17
      refine u_callr (va_runV (As := [.int x1]) (rest := []) hC.1 (met_J2_get l N G u7 a14 x1 o18 u16 c17) (cwV 1 hts (lw_V q1084 q898 q899 q102 q900) rfl rfl rfl (by decide +kernel) ⟨Nat.le_trans (Nat.le_of_ble_eq_true rfl) hR.1, Nat.le_trans (Nat.le_of_ble_eq_true rfl) hR.2⟩) ⟨uPc_blind, u_rcv hC hP c15 rfl, fun U hU hW => u_pre hC hP hS hU hW⟩ rfl rfl hl.1 rfl (lv_room (Nat.le_of_ble_eq_true rfl)) dX1_worth_31 ⟨by omega, by omega⟩) hS (fun H locs hP hS => ?_)
      refine W.cs (cells' := u16.1 - u0.1) (slots' := u16.2.1 - u0.2.1) (by omega) (by omega) ?_
      obtain ⟨a19, ha19, hha19⟩ := mbind_n h
      subst ha19
      have h := hha19
      obtain ⟨c20, h⟩ := mif_n h
      refine u_castS hC hP c20 rfl q1206 dX1_worth_34 ?_
      refine u_astore (r := some a19) (lv' := [(5, va_rf (some a19)), (0, va_rf (some a0)), (1, .int x1), (2, .int x2), (3, .int x3), (4, .int x4)]) hx hb dX1_worth_37 hl (by decide) rfl (fun ls hl => ?_)
      refine u_aload (r := some a19) hx hb dX1_worth_39 (lv_at hl 0 rfl) ?_
      obtain ⟨y21, hy21, h⟩ := mbind_n h
      refine u_getN hC hP (uGI_n hy21) rfl in_X15 (by decide) q1223 (fun _ h => h) dX1_worth_41 ?_
      refine lv_iconst (v := (-1)) hx hb dX1_worth_44 (by decide) ?_
      refine lv_icmp_eq (tgt := 54) hx hb dX1_worth_45 (by decide) (fun c22 => ?_) (fun c22 => ?_)
      · have h := mif_t c22 h
        refine u_aload_n (r := some a0) hx hb dX1_worth_54 rfl (lv_at hl 1 rfl) ?_
        refine lv_iload_n hx hb dX1_worth_55 rfl (lv_at hl 4 rfl) ?_
        refine lv_iconst (v := 1) hx hb dX1_worth_56 (by decide) ?_
        obtain ⟨c23, h⟩ := mif_n h
        obtain ⟨o26, u24, c25, h⟩ := ucall_n h
        have zu24 := zz_X1_solver N (ub G) (ug G) u16 a0 x3 1 o26 u24 c25
        have hq := zz_X1_worth_60 (G := G) (a0 := a0) N u24 x1 x2 x4 (some a19) o26 h
        refine u_callr (va_runV (As := [.int x3, .int 1]) (rest := []) hC.1 (met_X1_solver l N G u16 a0 x3 1 o26 u24 c25) (cwV 2 hts (lw_V q1289 q1291 qs21 q98 q1292) rfl rfl rfl (by decide +kernel) ⟨Nat.le_trans (Nat.le_of_ble_eq_true rfl) hR.1, Nat.le_trans (Nat.le_of_ble_eq_true rfl) hR.2⟩) ⟨uPc_blind, u_rcv hC hP c23 rfl, fun U hU hW => u_pre hC hP hS hU hW⟩ rfl rfl hl.1 rfl (lv_room (Nat.le_of_ble_eq_true rfl)) dX1_worth_57 ⟨by omega, by omega⟩) hS (fun H locs hP hS => ?_)
        refine W.cs (cells' := u24.1 - u0.1) (slots' := u24.2.1 - u0.2.1) (by omega) (by omega) ?_
        refine W.cs (cells' := u24.1 - u0.1) (slots' := u24.2.1 - u0.2.1) (by omega) (by omega) ?_
        exact w_X1_worth_60 hC hR hRm N u24 x1 x2 x4 (some a19) o26 h ⟨by omega, by omega⟩ hP hS (lv_sub hl [1, 2, 3, 5, 0] rfl)
      · have h := mif_f c22 h
        refine u_aload_n (r := some a0) hx hb dX1_worth_48 rfl (lv_at hl 1 rfl) ?_
        refine lv_iconst (v := 5) hx hb dX1_worth_49 (by decide) ?_
        obtain ⟨c27, h⟩ := mif_n h
        obtain ⟨r30, u28, c29, h⟩ := ucall_n h
        have zu28 := zz_X1_lost N (ub G) (ug G) u16 a0 5 r30 u28 c29
        refine u_calll (va_runV (As := [.int 5]) (rest := []) hC.1 (met_X1_lost l N G u16 a0 5 r30 u28 c29) (cwV 1 hts (lw_V q1429 q1431 qs27 q98 q1432) rfl rfl rfl (by decide +kernel) ⟨Nat.le_trans (Nat.le_of_ble_eq_true rfl) hR.1, Nat.le_trans (Nat.le_of_ble_eq_true rfl) hR.2⟩) ⟨uPc_blind, u_rcv hC hP c27 rfl, fun U hU hW => u_pre hC hP hS hU hW⟩ rfl rfl hl.1 rfl (lv_room (Nat.le_of_ble_eq_true rfl)) dX1_worth_50 ⟨by omega, by omega⟩) hS (fun H locs hP hS => ?_)
        refine W.cs (cells' := u28.1 - u0.1) (slots' := u28.2.1 - u0.2.1) (by omega) (by omega) ?_
        obtain ⟨hr1, hr2⟩ := uret_n h
        subst hr1
        subst hr2
        exact u_lret hC hP hS dX1_worth_53
    · have h := mif_t c10 h
      refine W.cs (cells' := u7.1 - u0.1) (slots' := u7.2.1 - u0.2.1) (by omega) (by omega) ?_
      exact w_X1_worth_17 hC hR hRm N u7 h ⟨by omega, by omega⟩ hP hS (lv_sub hl [0] rfl)
theorem zz_X1_worth (N b : Nat) (g : uEnv) (u : UH) (a0 : Nat) (x1 : Int32) (x2 : Int32) (x3 : Int32) (x4 : Int32) (r : Int64) (uf : UH) (h : f_X1_worth N b g u a0 x1 x2 x3 x4 = some (r, uf)) : u.1 ≤ uf.1 ∧ u.2.1 ≤ uf.2.1 :=
  zz_X1_worth_0 (G := ((fun _ => 0, fun _ _ => 0), fun _ => 0, b, g)) (a0 := a0) N u x1 x2 x3 x4 h
theorem met_X1_worth (l : Launch) (N : Nat) (G : uG) (u : UH) (a0 : Nat) (x1 : Int32) (x2 : Int32) (x3 : Int32) (x4 : Int32) (r : Int64) (uf : UH) (h : f_X1_worth N (ub G) (ug G) u a0 x1 x2 x3 x4 = some (r, uf)) : Met l yX1_worth (ws_ yX1_worth cX1_worth 11 (some .long)) ({ frames := 102, cells := (uf.1 - u.1), slots := (uf.2.1 - u.2.1), locals := 6050 }) (uPc G u [.ref a0, .int x1, .int x2, .int x3, .int x4]) (uQl G r uf) (uf.1 - u.1) (uf.2.1 - u.2.1) (uA G) := by
  exact u_met (own := RX1) (by decide +kernel) rfl (Nat.le_of_ble_eq_true rfl) (fun hC hn hsz ls hl hP => W.cs (Nat.sub_self _).symm (Nat.sub_self _).symm (w_X1_worth_0 hC ⟨Nat.le_refl _, Nat.le_refl _⟩ ⟨Nat.le_refl _, Nat.le_refl _⟩ N u x1 x2 x3 x4 h ⟨Nat.le_refl _, Nat.le_refl _⟩ hP va_S.rf hl))

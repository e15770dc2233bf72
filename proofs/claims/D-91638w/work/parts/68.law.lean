def R_law : String := "SoftWheelsLaw"
/-! BY gen_heap.py: L_law -/
def f_L_law_1593 (N b : Nat) (g : uEnv) (k23 : UH → Option Nat → Option Nat → Option Nat → Option Nat → Int32 → Option (Int32 × UH)) (u : UH) (x0 : Option Nat) (x1 : Option Nat) (x2 : Option Nat) (x3 : Option Nat) (x4 : Int32) : Option (Int32 × UH) :=
    mlet (x4 + 6) fun y1 =>
    k23 u x0 x1 x2 x3 y1
set_option maxHeartbeats 4000000 in
set_option maxRecDepth 100000 in
theorem zz_L_law_1593 {G : uG} {uf : UH} {r : Int32} (N : Nat) (k23 : UH → Option Nat → Option Nat → Option Nat → Option Nat → Int32 → Option (Int32 × UH)) (hk23 : ∀ (u : UH) (x0 : Option Nat) (x1 : Option Nat) (x2 : Option Nat) (x3 : Option Nat) (x4 : Int32), k23 u x0 x1 x2 x3 x4 = some (r, uf) → u.1 ≤ uf.1 ∧ u.2.1 ≤ uf.2.1) (u : UH) (x0 : Option Nat) (x1 : Option Nat) (x2 : Option Nat) (x3 : Option Nat) (x4 : Int32) (h : f_L_law_1593 N (ub G) (ug G) k23 u x0 x1 x2 x3 x4 = some (r, uf)) : u.1 ≤ uf.1 ∧ u.2.1 ≤ uf.2.1 := by
  unfold f_L_law_1593 at h
  obtain ⟨y1, ey1⟩ : ∃ z : Int32, z = x4 + 6 := ⟨_, rfl⟩
  have h := mlet_at ey1 h
  have hq := hk23 u x0 x1 x2 x3 y1 h
  exact ⟨by omega, by omega⟩
set_option maxHeartbeats 4000000 in
set_option maxRecDepth 100000 in
theorem w_L_law_1593 {p : Program} {l : Launch} {e : Env} {R : Room} {s : State} {m : MethodId} {args : Array Value} {below : List Frame} {meth : Method} {c : Code} {G : uG} {u0 : UH} {uf : UH} {r : Int32} (hC : uC p s m args meth c G R_law cL_law 7 (some .boolean)) (hled : uLedOK l) (hR : 103 ≤ R.frames ∧ 6080 ≤ R.locals) (hRm : uf.1 - u0.1 ≤ R.cells ∧ uf.2.1 - u0.2.1 ≤ R.slots) (N : Nat) (k23 : UH → Option Nat → Option Nat → Option Nat → Option Nat → Int32 → Option (Int32 × UH)) (hk23 : ∀ (u : UH) (x0 : Option Nat) (x1 : Option Nat) (x2 : Option Nat) (x3 : Option Nat) (x4 : Int32), k23 u x0 x1 x2 x3 x4 = some (r, uf) → (u0.1 ≤ u.1 ∧ u0.2.1 ≤ u.2.1) → ∀ (H : Heap) (locs : List Loc), uP G u H → va_S (uA G) s.heap H locs → ∀ ls : Array Slot, lv_has ls 7 [(0, va_rf x0), (1, va_rf x1), (2, va_rf x2), (3, va_rf x3), (4, .int x4)] → W p l e R s m args below meth c H locs (u.1 - u0.1) (u.2.1 - u0.2.1) (MQ below (uQi G r uf) args s (uf.1 - u0.1) (uf.2.1 - u0.2.1) (uA G)) (F0 m 23 ls [])) (zk23 : ∀ (u : UH) (x0 : Option Nat) (x1 : Option Nat) (x2 : Option Nat) (x3 : Option Nat) (x4 : Int32), k23 u x0 x1 x2 x3 x4 = some (r, uf) → u.1 ≤ uf.1 ∧ u.2.1 ≤ uf.2.1) (u : UH) (x0 : Option Nat) (x1 : Option Nat) (x2 : Option Nat) (x3 : Option Nat) (x4 : Int32) (h : f_L_law_1593 N (ub G) (ug G) k23 u x0 x1 x2 x3 x4 = some (r, uf)) (hz0 : (u0.1 ≤ u.1 ∧ u0.2.1 ≤ u.2.1)) {H : Heap} {locs : List Loc} (hP : uP G u H) (hS : va_S (uA G) s.heap H locs) {ls : Array Slot} (hl : lv_has ls 7 [(0, va_rf x0), (1, va_rf x1), (2, va_rf x2), (3, va_rf x3), (4, .int x4)]) : W p l e R s m args below meth c H locs (u.1 - u0.1) (u.2.1 - u0.2.1) (MQ below (uQi G r uf) args s (uf.1 - u0.1) (uf.2.1 - u0.2.1) (uA G)) (F0 m 1593 ls []) := by
  obtain ⟨⟨hx, hb, hml, hown, hts⟩, hKK⟩ := id hC
  have hzf := zz_L_law_1593 (G := G) N k23 zk23 u x0 x1 x2 x3 x4 h
  unfold f_L_law_1593 at h
  obtain ⟨y1, ey1⟩ : ∃ z : Int32, z = x4 + 6 := ⟨_, rfl⟩
  have h := mlet_at ey1 h
  refine lv_iinc (v := y1) (lv' := [(4, .int y1), (0, va_rf x0), (1, va_rf x1), (2, va_rf x2), (3, va_rf x3)]) hx hb dL_law_1593 hl (k := 4) rfl (by rw [ey1]; rfl) (by decide) (by simp [List.filter_cons, u_cat]) (fun ls hl => ?_)
  refine lv_goto (tgt := 23) hx hb dL_law_1596 (by decide) ?_
  refine W.cs (cells' := u.1 - u0.1) (slots' := u.2.1 - u0.2.1) (by omega) (by omega) ?_
  exact hk23 u x0 x1 x2 x3 y1 h ⟨by omega, by omega⟩ _ _ hP hS _ (lv_sub hl [1, 2, 3, 4, 0] rfl)
def f_L_law_234 (N b : Nat) (g : uEnv) (k23 : UH → Option Nat → Option Nat → Option Nat → Option Nat → Int32 → Option (Int32 × UH)) (u : UH) (x0 : Option Nat) (x1 : Option Nat) (x2 : Option Nat) (x3 : Option Nat) (x4 : Int32) (s0 : Int32) : Option (Int32 × UH) :=
    (x0).bind fun a1 =>
    (uLdI u a1 7 (x4 + 1)).bind fun y2 =>
    (uLdI u a1 7 (x4 + 2)).bind fun y3 =>
    (uLdI u a1 7 (x4 + 3)).bind fun y4 =>
    (uLdI u a1 7 (x4 + 4)).bind fun y5 =>
    (uLdI u a1 7 (x4 + 5)).bind fun y6 =>
    (x2).bind fun a7 =>
    if uIs u a7 2 = true then
    ucall (f_X3_feed N b g u a7 y2 y3 y4 y5 y6) fun r11 u9 =>
    if s0 = r11 then
    f_L_law_1593 N b g k23 u9 (some a1) x1 (some a7) x3 x4
    else
    some (0, u9)
    else none
set_option maxHeartbeats 4000000 in
set_option maxRecDepth 100000 in
theorem zz_L_law_234 {G : uG} {uf : UH} {r : Int32} (N : Nat) (k23 : UH → Option Nat → Option Nat → Option Nat → Option Nat → Int32 → Option (Int32 × UH)) (hk23 : ∀ (u : UH) (x0 : Option Nat) (x1 : Option Nat) (x2 : Option Nat) (x3 : Option Nat) (x4 : Int32), k23 u x0 x1 x2 x3 x4 = some (r, uf) → u.1 ≤ uf.1 ∧ u.2.1 ≤ uf.2.1) (u : UH) (x0 : Option Nat) (x1 : Option Nat) (x2 : Option Nat) (x3 : Option Nat) (x4 : Int32) (s0 : Int32) (h : f_L_law_234 N (ub G) (ug G) k23 u x0 x1 x2 x3 x4 s0 = some (r, uf)) : u.1 ≤ uf.1 ∧ u.2.1 ≤ uf.2.1 := by
  unfold f_L_law_234 at h
  obtain ⟨a1, ha1, hha1⟩ := mbind_n h
  subst ha1
  have h := hha1
  obtain ⟨y2, hy2, h⟩ := mbind_n h
  obtain ⟨y3, hy3, h⟩ := mbind_n h
  obtain ⟨y4, hy4, h⟩ := mbind_n h
  obtain ⟨y5, hy5, h⟩ := mbind_n h
  obtain ⟨y6, hy6, h⟩ := mbind_n h
  obtain ⟨a7, ha7, hha7⟩ := mbind_n h
  subst ha7
  have h := hha7
  obtain ⟨c8, h⟩ := mif_n h
  obtain ⟨r11, u9, c10, h⟩ := ucall_n h
  have zu9 := zz_X3_feed N (ub G) (ug G) u a7 y2 y3 y4 y5 y6 r11 u9 c10
  by_cases c12 : s0 = r11
  · have h := mif_t c12 h
    have hq := zz_L_law_1593 (G := G) N k23 hk23 u9 (some a1) x1 (some a7) x3 x4 h
    exact ⟨by omega, by omega⟩
  · have h := mif_f c12 h
    obtain ⟨hr1, hr2⟩ := uret_n h
    subst hr2
    exact ⟨by omega, by omega⟩
set_option maxHeartbeats 4000000 in
set_option maxRecDepth 100000 in
theorem w_L_law_234 {p : Program} {l : Launch} {e : Env} {R : Room} {s : State} {m : MethodId} {args : Array Value} {below : List Frame} {meth : Method} {c : Code} {G : uG} {u0 : UH} {uf : UH} {r : Int32} (hC : uC p s m args meth c G R_law cL_law 7 (some .boolean)) (hled : uLedOK l) (hR : 103 ≤ R.frames ∧ 6080 ≤ R.locals) (hRm : uf.1 - u0.1 ≤ R.cells ∧ uf.2.1 - u0.2.1 ≤ R.slots) (N : Nat) (k23 : UH → Option Nat → Option Nat → Option Nat → Option Nat → Int32 → Option (Int32 × UH)) (hk23 : ∀ (u : UH) (x0 : Option Nat) (x1 : Option Nat) (x2 : Option Nat) (x3 : Option Nat) (x4 : Int32), k23 u x0 x1 x2 x3 x4 = some (r, uf) → (u0.1 ≤ u.1 ∧ u0.2.1 ≤ u.2.1) → ∀ (H : Heap) (locs : List Loc), uP G u H → va_S (uA G) s.heap H locs → ∀ ls : Array Slot, lv_has ls 7 [(0, va_rf x0), (1, va_rf x1), (2, va_rf x2), (3, va_rf x3), (4, .int x4)] → W p l e R s m args below meth c H locs (u.1 - u0.1) (u.2.1 - u0.2.1) (MQ below (uQi G r uf) args s (uf.1 - u0.1) (uf.2.1 - u0.2.1) (uA G)) (F0 m 23 ls [])) (zk23 : ∀ (u : UH) (x0 : Option Nat) (x1 : Option Nat) (x2 : Option Nat) (x3 : Option Nat) (x4 : Int32), k23 u x0 x1 x2 x3 x4 = some (r, uf) → u.1 ≤ uf.1 ∧ u.2.1 ≤ uf.2.1) (u : UH) (x0 : Option Nat) (x1 : Option Nat) (x2 : Option Nat) (x3 : Option Nat) (x4 : Int32) (s0 : Int32) (h : f_L_law_234 N (ub G) (ug G) k23 u x0 x1 x2 x3 x4 s0 = some (r, uf)) (hz0 : (u0.1 ≤ u.1 ∧ u0.2.1 ≤ u.2.1)) {H : Heap} {locs : List Loc} (hP : uP G u H) (hS : va_S (uA G) s.heap H locs) {ls : Array Slot} (hl : lv_has ls 7 [(0, va_rf x0), (1, va_rf x1), (2, va_rf x2), (3, va_rf x3), (4, .int x4)]) : W p l e R s m args below meth c H locs (u.1 - u0.1) (u.2.1 - u0.2.1) (MQ below (uQi G r uf) args s (uf.1 - u0.1) (uf.2.1 - u0.2.1) (uA G)) (F0 m 234 ls [.int s0]) := by
  obtain ⟨⟨hx, hb, hml, hown, hts⟩, hKK⟩ := id hC
  have hzf := zz_L_law_234 (G := G) N k23 zk23 u x0 x1 x2 x3 x4 s0 h
  unfold f_L_law_234 at h
  refine u_aload_n (r := x2) hx hb dL_law_234 rfl (lv_at hl 2 rfl) ?_
  refine u_aload_n (r := x0) hx hb dL_law_235 rfl (lv_at hl 0 rfl) ?_
  refine lv_iload hx hb dL_law_236 (lv_at hl 4 rfl) ?_
  refine lv_iconst (v := 1) hx hb dL_law_238 (by decide) ?_
  refine lv_iadd hx hb dL_law_239 ?_
  obtain ⟨a1, ha1, hha1⟩ := mbind_n h
  subst ha1
  have h := hha1
  obtain ⟨y2, hy2, h⟩ := mbind_n h
  refine u_iald hC hP hy2 rfl dL_law_240 ?_
  refine u_aload_n (r := some a1) hx hb dL_law_241 rfl (lv_at hl 0 rfl) ?_
  refine lv_iload hx hb dL_law_242 (lv_at hl 4 rfl) ?_
  refine lv_iconst (v := 2) hx hb dL_law_244 (by decide) ?_
  refine lv_iadd hx hb dL_law_245 ?_
  obtain ⟨y3, hy3, h⟩ := mbind_n h
  refine u_iald hC hP hy3 rfl dL_law_246 ?_
  refine u_aload_n (r := some a1) hx hb dL_law_247 rfl (lv_at hl 0 rfl) ?_
  refine lv_iload hx hb dL_law_248 (lv_at hl 4 rfl) ?_
  refine lv_iconst (v := 3) hx hb dL_law_250 (by decide) ?_
  refine lv_iadd hx hb dL_law_251 ?_
  obtain ⟨y4, hy4, h⟩ := mbind_n h
  refine u_iald hC hP hy4 rfl dL_law_252 ?_
  refine u_aload_n (r := some a1) hx hb dL_law_253 rfl (lv_at hl 0 rfl) ?_
  refine lv_iload hx hb dL_law_254 (lv_at hl 4 rfl) ?_
  refine lv_iconst (v := 4) hx hb dL_law_256 (by decide) ?_
  refine lv_iadd hx hb dL_law_257 ?_
  obtain ⟨y5, hy5, h⟩ := mbind_n h
  refine u_iald hC hP hy5 rfl dL_law_258 ?_
  refine u_aload_n (r := some a1) hx hb dL_law_259 rfl (lv_at hl 0 rfl) ?_
  refine lv_iload hx hb dL_law_260 (lv_at hl 4 rfl) ?_
  refine lv_iconst (v := 5) hx hb dL_law_262 (by decide) ?_
  refine lv_iadd hx hb dL_law_263 ?_
  obtain ⟨y6, hy6, h⟩ := mbind_n h
  refine u_iald hC hP hy6 rfl dL_law_264 ?_
  obtain ⟨a7, ha7, hha7⟩ := mbind_n h
  subst ha7
  have h := hha7
  obtain ⟨c8, h⟩ := mif_n h
  obtain ⟨r11, u9, c10, h⟩ := ucall_n h
  have zu9 := zz_X3_feed N (ub G) (ug G) u a7 y2 y3 y4 y5 y6 r11 u9 c10
  refine u_calli (va_runV (As := [.int y2, .int y3, .int y4, .int y5, .int y6]) (rest := [.int s0]) hC.1 (met_X3_feed l N G u a7 y2 y3 y4 y5 y6 r11 u9 c10) (cwV 5 hts (lw_V q2123 q2124 q2125 q103 q2126) rfl rfl rfl (by decide +kernel) ⟨Nat.le_trans (Nat.le_of_ble_eq_true rfl) hR.1, Nat.le_trans (Nat.le_of_ble_eq_true rfl) hR.2⟩) ⟨uPc_blind, u_rcv hC hP c8 rfl, fun U hU hW => u_pre hC hP hS hU hW⟩ rfl rfl hl.1 rfl (lv_room (Nat.le_of_ble_eq_true rfl)) dL_law_265 ⟨by omega, by omega⟩) hS (fun H locs hP hS => ?_)
  refine W.cs (cells' := u9.1 - u0.1) (slots' := u9.2.1 - u0.2.1) (by omega) (by omega) ?_
  refine lv_icmp_eq (tgt := 1593) hx hb dL_law_268 (by decide) (fun c12 => ?_) (fun c12 => ?_)
  · have h := mif_t c12 h
    refine W.cs (cells' := u9.1 - u0.1) (slots' := u9.2.1 - u0.2.1) (by omega) (by omega) ?_
    exact w_L_law_1593 hC hled hR hRm N k23 hk23 zk23 u9 (some a1) x1 (some a7) x3 x4 h ⟨by omega, by omega⟩ hP hS (lv_sub hl [0, 1, 2, 3, 4] rfl)
  · have h := mif_f c12 h
    refine lv_iconst (v := 0) hx hb dL_law_271 (by decide) ?_
    obtain ⟨hr1, hr2⟩ := uret_n h
    subst hr1
    subst hr2
    exact u_zret hC (uFit_n (ty := .boolean) (v := 0) rfl).1 hP hS dL_law_272
def f_L_law_283 (N b : Nat) (g : uEnv) (k23 : UH → Option Nat → Option Nat → Option Nat → Option Nat → Int32 → Option (Int32 × UH)) (u : UH) (x0 : Option Nat) (x1 : Option Nat) (x2 : Option Nat) (x3 : Option Nat) (x4 : Int32) (s0 : Int32) : Option (Int32 × UH) :=
    (x0).bind fun a1 =>
    (uLdI u a1 7 (x4 + 1)).bind fun y2 =>
    (x2).bind fun a3 =>
    if uIs u a3 2 = true then
    ucall (f_X3_book N b g u a3 y2) fun r7 u5 =>
    if s0 = r7 then
    f_L_law_1593 N b g k23 u5 (some a1) x1 (some a3) x3 x4
    else
    some (0, u5)
    else none
set_option maxHeartbeats 4000000 in
set_option maxRecDepth 100000 in
theorem zz_L_law_283 {G : uG} {uf : UH} {r : Int32} (N : Nat) (k23 : UH → Option Nat → Option Nat → Option Nat → Option Nat → Int32 → Option (Int32 × UH)) (hk23 : ∀ (u : UH) (x0 : Option Nat) (x1 : Option Nat) (x2 : Option Nat) (x3 : Option Nat) (x4 : Int32), k23 u x0 x1 x2 x3 x4 = some (r, uf) → u.1 ≤ uf.1 ∧ u.2.1 ≤ uf.2.1) (u : UH) (x0 : Option Nat) (x1 : Option Nat) (x2 : Option Nat) (x3 : Option Nat) (x4 : Int32) (s0 : Int32) (h : f_L_law_283 N (ub G) (ug G) k23 u x0 x1 x2 x3 x4 s0 = some (r, uf)) : u.1 ≤ uf.1 ∧ u.2.1 ≤ uf.2.1 := by
  unfold f_L_law_283 at h
  obtain ⟨a1, ha1, hha1⟩ := mbind_n h
  subst ha1
  have h := hha1
  obtain ⟨y2, hy2, h⟩ := mbind_n h
  obtain ⟨a3, ha3, hha3⟩ := mbind_n h
  subst ha3
  have h := hha3
  obtain ⟨c4, h⟩ := mif_n h
  obtain ⟨r7, u5, c6, h⟩ := ucall_n h
  have zu5 := zz_X3_book N (ub G) (ug G) u a3 y2 r7 u5 c6
  by_cases c8 : s0 = r7
  · have h := mif_t c8 h
    have hq := zz_L_law_1593 (G := G) N k23 hk23 u5 (some a1) x1 (some a3) x3 x4 h
    exact ⟨by omega, by omega⟩
  · have h := mif_f c8 h
    obtain ⟨hr1, hr2⟩ := uret_n h
    subst hr2
    exact ⟨by omega, by omega⟩
set_option maxHeartbeats 4000000 in
set_option maxRecDepth 100000 in
theorem w_L_law_283 {p : Program} {l : Launch} {e : Env} {R : Room} {s : State} {m : MethodId} {args : Array Value} {below : List Frame} {meth : Method} {c : Code} {G : uG} {u0 : UH} {uf : UH} {r : Int32} (hC : uC p s m args meth c G R_law cL_law 7 (some .boolean)) (hled : uLedOK l) (hR : 103 ≤ R.frames ∧ 6080 ≤ R.locals) (hRm : uf.1 - u0.1 ≤ R.cells ∧ uf.2.1 - u0.2.1 ≤ R.slots) (N : Nat) (k23 : UH → Option Nat → Option Nat → Option Nat → Option Nat → Int32 → Option (Int32 × UH)) (hk23 : ∀ (u : UH) (x0 : Option Nat) (x1 : Option Nat) (x2 : Option Nat) (x3 : Option Nat) (x4 : Int32), k23 u x0 x1 x2 x3 x4 = some (r, uf) → (u0.1 ≤ u.1 ∧ u0.2.1 ≤ u.2.1) → ∀ (H : Heap) (locs : List Loc), uP G u H → va_S (uA G) s.heap H locs → ∀ ls : Array Slot, lv_has ls 7 [(0, va_rf x0), (1, va_rf x1), (2, va_rf x2), (3, va_rf x3), (4, .int x4)] → W p l e R s m args below meth c H locs (u.1 - u0.1) (u.2.1 - u0.2.1) (MQ below (uQi G r uf) args s (uf.1 - u0.1) (uf.2.1 - u0.2.1) (uA G)) (F0 m 23 ls [])) (zk23 : ∀ (u : UH) (x0 : Option Nat) (x1 : Option Nat) (x2 : Option Nat) (x3 : Option Nat) (x4 : Int32), k23 u x0 x1 x2 x3 x4 = some (r, uf) → u.1 ≤ uf.1 ∧ u.2.1 ≤ uf.2.1) (u : UH) (x0 : Option Nat) (x1 : Option Nat) (x2 : Option Nat) (x3 : Option Nat) (x4 : Int32) (s0 : Int32) (h : f_L_law_283 N (ub G) (ug G) k23 u x0 x1 x2 x3 x4 s0 = some (r, uf)) (hz0 : (u0.1 ≤ u.1 ∧ u0.2.1 ≤ u.2.1)) {H : Heap} {locs : List Loc} (hP : uP G u H) (hS : va_S (uA G) s.heap H locs) {ls : Array Slot} (hl : lv_has ls 7 [(0, va_rf x0), (1, va_rf x1), (2, va_rf x2), (3, va_rf x3), (4, .int x4)]) : W p l e R s m args below meth c H locs (u.1 - u0.1) (u.2.1 - u0.2.1) (MQ below (uQi G r uf) args s (uf.1 - u0.1) (uf.2.1 - u0.2.1) (uA G)) (F0 m 283 ls [.int s0]) := by
  obtain ⟨⟨hx, hb, hml, hown, hts⟩, hKK⟩ := id hC
  have hzf := zz_L_law_283 (G := G) N k23 zk23 u x0 x1 x2 x3 x4 s0 h
  unfold f_L_law_283 at h
  refine u_aload_n (r := x2) hx hb dL_law_283 rfl (lv_at hl 2 rfl) ?_
  refine u_aload_n (r := x0) hx hb dL_law_284 rfl (lv_at hl 0 rfl) ?_
  refine lv_iload hx hb dL_law_285 (lv_at hl 4 rfl) ?_
  refine lv_iconst (v := 1) hx hb dL_law_287 (by decide) ?_
  refine lv_iadd hx hb dL_law_288 ?_
  obtain ⟨a1, ha1, hha1⟩ := mbind_n h
  subst ha1
  have h := hha1
  obtain ⟨y2, hy2, h⟩ := mbind_n h
  refine u_iald hC hP hy2 rfl dL_law_289 ?_
  obtain ⟨a3, ha3, hha3⟩ := mbind_n h
  subst ha3
  have h := hha3
  obtain ⟨c4, h⟩ := mif_n h
  obtain ⟨r7, u5, c6, h⟩ := ucall_n h
  have zu5 := zz_X3_book N (ub G) (ug G) u a3 y2 r7 u5 c6
  refine u_calli (va_runV (As := [.int y2]) (rest := [.int s0]) hC.1 (met_X3_book l N G u a3 y2 r7 u5 c6) (cwV 1 hts (lw_V q2127 q2128 q2129 q103 q2130) rfl rfl rfl (by decide +kernel) ⟨Nat.le_trans (Nat.le_of_ble_eq_true rfl) hR.1, Nat.le_trans (Nat.le_of_ble_eq_true rfl) hR.2⟩) ⟨uPc_blind, u_rcv hC hP c4 rfl, fun U hU hW => u_pre hC hP hS hU hW⟩ rfl rfl hl.1 rfl (lv_room (Nat.le_of_ble_eq_true rfl)) dL_law_290 ⟨by omega, by omega⟩) hS (fun H locs hP hS => ?_)
  refine W.cs (cells' := u5.1 - u0.1) (slots' := u5.2.1 - u0.2.1) (by omega) (by omega) ?_
  refine lv_icmp_eq (tgt := 1593) hx hb dL_law_293 (by decide) (fun c8 => ?_) (fun c8 => ?_)
  · have h := mif_t c8 h
    refine W.cs (cells' := u5.1 - u0.1) (slots' := u5.2.1 - u0.2.1) (by omega) (by omega) ?_
    exact w_L_law_1593 hC hled hR hRm N k23 hk23 zk23 u5 (some a1) x1 (some a3) x3 x4 h ⟨by omega, by omega⟩ hP hS (lv_sub hl [0, 1, 2, 3, 4] rfl)
  · have h := mif_f c8 h
    refine lv_iconst (v := 0) hx hb dL_law_296 (by decide) ?_
    obtain ⟨hr1, hr2⟩ := uret_n h
    subst hr1
    subst hr2
    exact u_zret hC (uFit_n (ty := .boolean) (v := 0) rfl).1 hP hS dL_law_297
def f_L_law_308 (N b : Nat) (g : uEnv) (k23 : UH → Option Nat → Option Nat → Option Nat → Option Nat → Int32 → Option (Int32 × UH)) (u : UH) (x0 : Option Nat) (x1 : Option Nat) (x2 : Option Nat) (x3 : Option Nat) (x4 : Int32) (s0 : Int32) : Option (Int32 × UH) :=
    (x0).bind fun a1 =>
    (uLdI u a1 7 (x4 + 1)).bind fun y2 =>
    (x2).bind fun a3 =>
    if uIs u a3 2 = true then
    ucall (f_X3_plan N b g u a3 y2) fun r7 u5 =>
    if s0 = r7 then
    f_L_law_1593 N b g k23 u5 (some a1) x1 (some a3) x3 x4
    else
    some (0, u5)
    else none
set_option maxHeartbeats 4000000 in
set_option maxRecDepth 100000 in
theorem zz_L_law_308 {G : uG} {uf : UH} {r : Int32} (N : Nat) (k23 : UH → Option Nat → Option Nat → Option Nat → Option Nat → Int32 → Option (Int32 × UH)) (hk23 : ∀ (u : UH) (x0 : Option Nat) (x1 : Option Nat) (x2 : Option Nat) (x3 : Option Nat) (x4 : Int32), k23 u x0 x1 x2 x3 x4 = some (r, uf) → u.1 ≤ uf.1 ∧ u.2.1 ≤ uf.2.1) (u : UH) (x0 : Option Nat) (x1 : Option Nat) (x2 : Option Nat) (x3 : Option Nat) (x4 : Int32) (s0 : Int32) (h : f_L_law_308 N (ub G) (ug G) k23 u x0 x1 x2 x3 x4 s0 = some (r, uf)) : u.1 ≤ uf.1 ∧ u.2.1 ≤ uf.2.1 := by
  unfold f_L_law_308 at h
  obtain ⟨a1, ha1, hha1⟩ := mbind_n h
  subst ha1
  have h := hha1
  obtain ⟨y2, hy2, h⟩ := mbind_n h
  obtain ⟨a3, ha3, hha3⟩ := mbind_n h
  subst ha3
  have h := hha3
  obtain ⟨c4, h⟩ := mif_n h
  obtain ⟨r7, u5, c6, h⟩ := ucall_n h
  have zu5 := zz_X3_plan N (ub G) (ug G) u a3 y2 r7 u5 c6
  by_cases c8 : s0 = r7
  · have h := mif_t c8 h
    have hq := zz_L_law_1593 (G := G) N k23 hk23 u5 (some a1) x1 (some a3) x3 x4 h
    exact ⟨by omega, by omega⟩
  · have h := mif_f c8 h
    obtain ⟨hr1, hr2⟩ := uret_n h
    subst hr2
    exact ⟨by omega, by omega⟩
set_option maxHeartbeats 4000000 in
set_option maxRecDepth 100000 in
theorem w_L_law_308 {p : Program} {l : Launch} {e : Env} {R : Room} {s : State} {m : MethodId} {args : Array Value} {below : List Frame} {meth : Method} {c : Code} {G : uG} {u0 : UH} {uf : UH} {r : Int32} (hC : uC p s m args meth c G R_law cL_law 7 (some .boolean)) (hled : uLedOK l) (hR : 103 ≤ R.frames ∧ 6080 ≤ R.locals) (hRm : uf.1 - u0.1 ≤ R.cells ∧ uf.2.1 - u0.2.1 ≤ R.slots) (N : Nat) (k23 : UH → Option Nat → Option Nat → Option Nat → Option Nat → Int32 → Option (Int32 × UH)) (hk23 : ∀ (u : UH) (x0 : Option Nat) (x1 : Option Nat) (x2 : Option Nat) (x3 : Option Nat) (x4 : Int32), k23 u x0 x1 x2 x3 x4 = some (r, uf) → (u0.1 ≤ u.1 ∧ u0.2.1 ≤ u.2.1) → ∀ (H : Heap) (locs : List Loc), uP G u H → va_S (uA G) s.heap H locs → ∀ ls : Array Slot, lv_has ls 7 [(0, va_rf x0), (1, va_rf x1), (2, va_rf x2), (3, va_rf x3), (4, .int x4)] → W p l e R s m args below meth c H locs (u.1 - u0.1) (u.2.1 - u0.2.1) (MQ below (uQi G r uf) args s (uf.1 - u0.1) (uf.2.1 - u0.2.1) (uA G)) (F0 m 23 ls [])) (zk23 : ∀ (u : UH) (x0 : Option Nat) (x1 : Option Nat) (x2 : Option Nat) (x3 : Option Nat) (x4 : Int32), k23 u x0 x1 x2 x3 x4 = some (r, uf) → u.1 ≤ uf.1 ∧ u.2.1 ≤ uf.2.1) (u : UH) (x0 : Option Nat) (x1 : Option Nat) (x2 : Option Nat) (x3 : Option Nat) (x4 : Int32) (s0 : Int32) (h : f_L_law_308 N (ub G) (ug G) k23 u x0 x1 x2 x3 x4 s0 = some (r, uf)) (hz0 : (u0.1 ≤ u.1 ∧ u0.2.1 ≤ u.2.1)) {H : Heap} {locs : List Loc} (hP : uP G u H) (hS : va_S (uA G) s.heap H locs) {ls : Array Slot} (hl : lv_has ls 7 [(0, va_rf x0), (1, va_rf x1), (2, va_rf x2), (3, va_rf x3), (4, .int x4)]) : W p l e R s m args below meth c H locs (u.1 - u0.1) (u.2.1 - u0.2.1) (MQ below (uQi G r uf) args s (uf.1 - u0.1) (uf.2.1 - u0.2.1) (uA G)) (F0 m 308 ls [.int s0]) := by
  obtain ⟨⟨hx, hb, hml, hown, hts⟩, hKK⟩ := id hC
  have hzf := zz_L_law_308 (G := G) N k23 zk23 u x0 x1 x2 x3 x4 s0 h
  unfold f_L_law_308 at h
  refine u_aload_n (r := x2) hx hb dL_law_308 rfl (lv_at hl 2 rfl) ?_
  refine u_aload_n (r := x0) hx hb dL_law_309 rfl (lv_at hl 0 rfl) ?_
  refine lv_iload hx hb dL_law_310 (lv_at hl 4 rfl) ?_
  refine lv_iconst (v := 1) hx hb dL_law_312 (by decide) ?_
  refine lv_iadd hx hb dL_law_313 ?_
  obtain ⟨a1, ha1, hha1⟩ := mbind_n h
  subst ha1
  have h := hha1
  obtain ⟨y2, hy2, h⟩ := mbind_n h
  refine u_iald hC hP hy2 rfl dL_law_314 ?_
  obtain ⟨a3, ha3, hha3⟩ := mbind_n h
  subst ha3
  have h := hha3
  obtain ⟨c4, h⟩ := mif_n h
  obtain ⟨r7, u5, c6, h⟩ := ucall_n h
  have zu5 := zz_X3_plan N (ub G) (ug G) u a3 y2 r7 u5 c6
  refine u_calli (va_runV (As := [.int y2]) (rest := [.int s0]) hC.1 (met_X3_plan l N G u a3 y2 r7 u5 c6) (cwV 1 hts (lw_V q2467 q2468 q2469 q103 q2470) rfl rfl rfl (by decide +kernel) ⟨Nat.le_trans (Nat.le_of_ble_eq_true rfl) hR.1, Nat.le_trans (Nat.le_of_ble_eq_true rfl) hR.2⟩) ⟨uPc_blind, u_rcv hC hP c4 rfl, fun U hU hW => u_pre hC hP hS hU hW⟩ rfl rfl hl.1 rfl (lv_room (Nat.le_of_ble_eq_true rfl)) dL_law_315 ⟨by omega, by omega⟩) hS (fun H locs hP hS => ?_)
  refine W.cs (cells' := u5.1 - u0.1) (slots' := u5.2.1 - u0.2.1) (by omega) (by omega) ?_
  refine lv_icmp_eq (tgt := 1593) hx hb dL_law_318 (by decide) (fun c8 => ?_) (fun c8 => ?_)
  · have h := mif_t c8 h
    refine W.cs (cells' := u5.1 - u0.1) (slots' := u5.2.1 - u0.2.1) (by omega) (by omega) ?_
    exact w_L_law_1593 hC hled hR hRm N k23 hk23 zk23 u5 (some a1) x1 (some a3) x3 x4 h ⟨by omega, by omega⟩ hP hS (lv_sub hl [0, 1, 2, 3, 4] rfl)
  · have h := mif_f c8 h
    refine lv_iconst (v := 0) hx hb dL_law_321 (by decide) ?_
    obtain ⟨hr1, hr2⟩ := uret_n h
    subst hr1
    subst hr2
    exact u_zret hC (uFit_n (ty := .boolean) (v := 0) rfl).1 hP hS dL_law_322
def f_L_law_464 (N b : Nat) (g : uEnv) (k23 : UH → Option Nat → Option Nat → Option Nat → Option Nat → Int32 → Option (Int32 × UH)) (u : UH) (x0 : Option Nat) (x1 : Option Nat) (x2 : Option Nat) (x3 : Option Nat) (x4 : Int32) (s0 : Int32) : Option (Int32 × UH) :=
    (x0).bind fun a1 =>
    (uLdI u a1 7 (x4 + 1)).bind fun y2 =>
    (uLdI u a1 7 (x4 + 2)).bind fun y3 =>
    (x2).bind fun a4 =>
    if uIs u a4 2 = true then
    ucall (f_X3_map N b g u a4 y2 y3) fun r8 u6 =>
    if s0 = r8 then
    f_L_law_1593 N b g k23 u6 (some a1) x1 (some a4) x3 x4
    else
    some (0, u6)
    else none
set_option maxHeartbeats 4000000 in
set_option maxRecDepth 100000 in
theorem zz_L_law_464 {G : uG} {uf : UH} {r : Int32} (N : Nat) (k23 : UH → Option Nat → Option Nat → Option Nat → Option Nat → Int32 → Option (Int32 × UH)) (hk23 : ∀ (u : UH) (x0 : Option Nat) (x1 : Option Nat) (x2 : Option Nat) (x3 : Option Nat) (x4 : Int32), k23 u x0 x1 x2 x3 x4 = some (r, uf) → u.1 ≤ uf.1 ∧ u.2.1 ≤ uf.2.1) (u : UH) (x0 : Option Nat) (x1 : Option Nat) (x2 : Option Nat) (x3 : Option Nat) (x4 : Int32) (s0 : Int32) (h : f_L_law_464 N (ub G) (ug G) k23 u x0 x1 x2 x3 x4 s0 = some (r, uf)) : u.1 ≤ uf.1 ∧ u.2.1 ≤ uf.2.1 := by
  unfold f_L_law_464 at h
  obtain ⟨a1, ha1, hha1⟩ := mbind_n h
  subst ha1
  have h := hha1
  obtain ⟨y2, hy2, h⟩ := mbind_n h
  obtain ⟨y3, hy3, h⟩ := mbind_n h
  obtain ⟨a4, ha4, hha4⟩ := mbind_n h
  subst ha4
  have h := hha4
  obtain ⟨c5, h⟩ := mif_n h
  obtain ⟨r8, u6, c7, h⟩ := ucall_n h
  have zu6 := zz_X3_map N (ub G) (ug G) u a4 y2 y3 r8 u6 c7
  by_cases c9 : s0 = r8
  · have h := mif_t c9 h
    have hq := zz_L_law_1593 (G := G) N k23 hk23 u6 (some a1) x1 (some a4) x3 x4 h
    exact ⟨by omega, by omega⟩
  · have h := mif_f c9 h
    obtain ⟨hr1, hr2⟩ := uret_n h
    subst hr2
    exact ⟨by omega, by omega⟩
set_option maxHeartbeats 4000000 in
set_option maxRecDepth 100000 in
theorem w_L_law_464 {p : Program} {l : Launch} {e : Env} {R : Room} {s : State} {m : MethodId} {args : Array Value} {below : List Frame} {meth : Method} {c : Code} {G : uG} {u0 : UH} {uf : UH} {r : Int32} (hC : uC p s m args meth c G R_law cL_law 7 (some .boolean)) (hled : uLedOK l) (hR : 103 ≤ R.frames ∧ 6080 ≤ R.locals) (hRm : uf.1 - u0.1 ≤ R.cells ∧ uf.2.1 - u0.2.1 ≤ R.slots) (N : Nat) (k23 : UH → Option Nat → Option Nat → Option Nat → Option Nat → Int32 → Option (Int32 × UH)) (hk23 : ∀ (u : UH) (x0 : Option Nat) (x1 : Option Nat) (x2 : Option Nat) (x3 : Option Nat) (x4 : Int32), k23 u x0 x1 x2 x3 x4 = some (r, uf) → (u0.1 ≤ u.1 ∧ u0.2.1 ≤ u.2.1) → ∀ (H : Heap) (locs : List Loc), uP G u H → va_S (uA G) s.heap H locs → ∀ ls : Array Slot, lv_has ls 7 [(0, va_rf x0), (1, va_rf x1), (2, va_rf x2), (3, va_rf x3), (4, .int x4)] → W p l e R s m args below meth c H locs (u.1 - u0.1) (u.2.1 - u0.2.1) (MQ below (uQi G r uf) args s (uf.1 - u0.1) (uf.2.1 - u0.2.1) (uA G)) (F0 m 23 ls [])) (zk23 : ∀ (u : UH) (x0 : Option Nat) (x1 : Option Nat) (x2 : Option Nat) (x3 : Option Nat) (x4 : Int32), k23 u x0 x1 x2 x3 x4 = some (r, uf) → u.1 ≤ uf.1 ∧ u.2.1 ≤ uf.2.1) (u : UH) (x0 : Option Nat) (x1 : Option Nat) (x2 : Option Nat) (x3 : Option Nat) (x4 : Int32) (s0 : Int32) (h : f_L_law_464 N (ub G) (ug G) k23 u x0 x1 x2 x3 x4 s0 = some (r, uf)) (hz0 : (u0.1 ≤ u.1 ∧ u0.2.1 ≤ u.2.1)) {H : Heap} {locs : List Loc} (hP : uP G u H) (hS : va_S (uA G) s.heap H locs) {ls : Array Slot} (hl : lv_has ls 7 [(0, va_rf x0), (1, va_rf x1), (2, va_rf x2), (3, va_rf x3), (4, .int x4)]) : W p l e R s m args below meth c H locs (u.1 - u0.1) (u.2.1 - u0.2.1) (MQ below (uQi G r uf) args s (uf.1 - u0.1) (uf.2.1 - u0.2.1) (uA G)) (F0 m 464 ls [.int s0]) := by
  obtain ⟨⟨hx, hb, hml, hown, hts⟩, hKK⟩ := id hC
  have hzf := zz_L_law_464 (G := G) N k23 zk23 u x0 x1 x2 x3 x4 s0 h
  unfold f_L_law_464 at h
  refine u_aload_n (r := x2) hx hb dL_law_464 rfl (lv_at hl 2 rfl) ?_
  refine u_aload_n (r := x0) hx hb dL_law_465 rfl (lv_at hl 0 rfl) ?_
  refine lv_iload hx hb dL_law_466 (lv_at hl 4 rfl) ?_
  refine lv_iconst (v := 1) hx hb dL_law_468 (by decide) ?_
  refine lv_iadd hx hb dL_law_469 ?_
  obtain ⟨a1, ha1, hha1⟩ := mbind_n h
  subst ha1
  have h := hha1
  obtain ⟨y2, hy2, h⟩ := mbind_n h
  refine u_iald hC hP hy2 rfl dL_law_470 ?_
  refine u_aload_n (r := some a1) hx hb dL_law_471 rfl (lv_at hl 0 rfl) ?_
  refine lv_iload hx hb dL_law_472 (lv_at hl 4 rfl) ?_
  refine lv_iconst (v := 2) hx hb dL_law_474 (by decide) ?_
  refine lv_iadd hx hb dL_law_475 ?_
  obtain ⟨y3, hy3, h⟩ := mbind_n h
  refine u_iald hC hP hy3 rfl dL_law_476 ?_
  obtain ⟨a4, ha4, hha4⟩ := mbind_n h
  subst ha4
  have h := hha4
  obtain ⟨c5, h⟩ := mif_n h
  obtain ⟨r8, u6, c7, h⟩ := ucall_n h
  have zu6 := zz_X3_map N (ub G) (ug G) u a4 y2 y3 r8 u6 c7
  refine u_calli (va_runV (As := [.int y2, .int y3]) (rest := [.int s0]) hC.1 (met_X3_map l N G u a4 y2 y3 r8 u6 c7) (cwV 2 hts (lw_V q2268 q2269 q2270 q103 q2271) rfl rfl rfl (by decide +kernel) ⟨Nat.le_trans (Nat.le_of_ble_eq_true rfl) hR.1, Nat.le_trans (Nat.le_of_ble_eq_true rfl) hR.2⟩) ⟨uPc_blind, u_rcv hC hP c5 rfl, fun U hU hW => u_pre hC hP hS hU hW⟩ rfl rfl hl.1 rfl (lv_room (Nat.le_of_ble_eq_true rfl)) dL_law_477 ⟨by omega, by omega⟩) hS (fun H locs hP hS => ?_)
  refine W.cs (cells' := u6.1 - u0.1) (slots' := u6.2.1 - u0.2.1) (by omega) (by omega) ?_
  refine lv_icmp_eq (tgt := 1593) hx hb dL_law_480 (by decide) (fun c9 => ?_) (fun c9 => ?_)
  · have h := mif_t c9 h
    refine W.cs (cells' := u6.1 - u0.1) (slots' := u6.2.1 - u0.2.1) (by omega) (by omega) ?_
    exact w_L_law_1593 hC hled hR hRm N k23 hk23 zk23 u6 (some a1) x1 (some a4) x3 x4 h ⟨by omega, by omega⟩ hP hS (lv_sub hl [0, 1, 2, 3, 4] rfl)
  · have h := mif_f c9 h
    refine lv_iconst (v := 0) hx hb dL_law_483 (by decide) ?_
    obtain ⟨hr1, hr2⟩ := uret_n h
    subst hr1
    subst hr2
    exact u_zret hC (uFit_n (ty := .boolean) (v := 0) rfl).1 hP hS dL_law_484
def f_L_law_569 (N b : Nat) (g : uEnv) (k23 : UH → Option Nat → Option Nat → Option Nat → Option Nat → Int32 → Option (Int32 × UH)) (u : UH) (x0 : Option Nat) (x1 : Option Nat) (x2 : Option Nat) (x3 : Option Nat) (x4 : Int32) (s0 : Int32) : Option (Int32 × UH) :=
    (x0).bind fun a1 =>
    (uLdI u a1 7 (x4 + 1)).bind fun y2 =>
    (x2).bind fun a3 =>
    if uIs u a3 2 = true then
    ucall (f_X3_doubt N b g u a3 y2) fun r7 u5 =>
    if s0 = r7 then
    f_L_law_1593 N b g k23 u5 (some a1) x1 (some a3) x3 x4
    else
    some (0, u5)
    else none
set_option maxHeartbeats 4000000 in
set_option maxRecDepth 100000 in
theorem zz_L_law_569 {G : uG} {uf : UH} {r : Int32} (N : Nat) (k23 : UH → Option Nat → Option Nat → Option Nat → Option Nat → Int32 → Option (Int32 × UH)) (hk23 : ∀ (u : UH) (x0 : Option Nat) (x1 : Option Nat) (x2 : Option Nat) (x3 : Option Nat) (x4 : Int32), k23 u x0 x1 x2 x3 x4 = some (r, uf) → u.1 ≤ uf.1 ∧ u.2.1 ≤ uf.2.1) (u : UH) (x0 : Option Nat) (x1 : Option Nat) (x2 : Option Nat) (x3 : Option Nat) (x4 : Int32) (s0 : Int32) (h : f_L_law_569 N (ub G) (ug G) k23 u x0 x1 x2 x3 x4 s0 = some (r, uf)) : u.1 ≤ uf.1 ∧ u.2.1 ≤ uf.2.1 := by
  unfold f_L_law_569 at h
  obtain ⟨a1, ha1, hha1⟩ := mbind_n h
  subst ha1
  have h := hha1
  obtain ⟨y2, hy2, h⟩ := mbind_n h
  obtain ⟨a3, ha3, hha3⟩ := mbind_n h
  subst ha3
  have h := hha3
  obtain ⟨c4, h⟩ := mif_n h
  obtain ⟨r7, u5, c6, h⟩ := ucall_n h
  have zu5 := zz_X3_doubt N (ub G) (ug G) u a3 y2 r7 u5 c6
  by_cases c8 : s0 = r7
  · have h := mif_t c8 h
    have hq := zz_L_law_1593 (G := G) N k23 hk23 u5 (some a1) x1 (some a3) x3 x4 h
    exact ⟨by omega, by omega⟩
  · have h := mif_f c8 h
    obtain ⟨hr1, hr2⟩ := uret_n h
    subst hr2
    exact ⟨by omega, by omega⟩
set_option maxHeartbeats 4000000 in
set_option maxRecDepth 100000 in
theorem w_L_law_569 {p : Program} {l : Launch} {e : Env} {R : Room} {s : State} {m : MethodId} {args : Array Value} {below : List Frame} {meth : Method} {c : Code} {G : uG} {u0 : UH} {uf : UH} {r : Int32} (hC : uC p s m args meth c G R_law cL_law 7 (some .boolean)) (hled : uLedOK l) (hR : 103 ≤ R.frames ∧ 6080 ≤ R.locals) (hRm : uf.1 - u0.1 ≤ R.cells ∧ uf.2.1 - u0.2.1 ≤ R.slots) (N : Nat) (k23 : UH → Option Nat → Option Nat → Option Nat → Option Nat → Int32 → Option (Int32 × UH)) (hk23 : ∀ (u : UH) (x0 : Option Nat) (x1 : Option Nat) (x2 : Option Nat) (x3 : Option Nat) (x4 : Int32), k23 u x0 x1 x2 x3 x4 = some (r, uf) → (u0.1 ≤ u.1 ∧ u0.2.1 ≤ u.2.1) → ∀ (H : Heap) (locs : List Loc), uP G u H → va_S (uA G) s.heap H locs → ∀ ls : Array Slot, lv_has ls 7 [(0, va_rf x0), (1, va_rf x1), (2, va_rf x2), (3, va_rf x3), (4, .int x4)] → W p l e R s m args below meth c H locs (u.1 - u0.1) (u.2.1 - u0.2.1) (MQ below (uQi G r uf) args s (uf.1 - u0.1) (uf.2.1 - u0.2.1) (uA G)) (F0 m 23 ls [])) (zk23 : ∀ (u : UH) (x0 : Option Nat) (x1 : Option Nat) (x2 : Option Nat) (x3 : Option Nat) (x4 : Int32), k23 u x0 x1 x2 x3 x4 = some (r, uf) → u.1 ≤ uf.1 ∧ u.2.1 ≤ uf.2.1) (u : UH) (x0 : Option Nat) (x1 : Option Nat) (x2 : Option Nat) (x3 : Option Nat) (x4 : Int32) (s0 : Int32) (h : f_L_law_569 N (ub G) (ug G) k23 u x0 x1 x2 x3 x4 s0 = some (r, uf)) (hz0 : (u0.1 ≤ u.1 ∧ u0.2.1 ≤ u.2.1)) {H : Heap} {locs : List Loc} (hP : uP G u H) (hS : va_S (uA G) s.heap H locs) {ls : Array Slot} (hl : lv_has ls 7 [(0, va_rf x0), (1, va_rf x1), (2, va_rf x2), (3, va_rf x3), (4, .int x4)]) : W p l e R s m args below meth c H locs (u.1 - u0.1) (u.2.1 - u0.2.1) (MQ below (uQi G r uf) args s (uf.1 - u0.1) (uf.2.1 - u0.2.1) (uA G)) (F0 m 569 ls [.int s0]) := by
  obtain ⟨⟨hx, hb, hml, hown, hts⟩, hKK⟩ := id hC
  have hzf := zz_L_law_569 (G := G) N k23 zk23 u x0 x1 x2 x3 x4 s0 h
  unfold f_L_law_569 at h
  refine u_aload_n (r := x2) hx hb dL_law_569 rfl (lv_at hl 2 rfl) ?_
  refine u_aload_n (r := x0) hx hb dL_law_570 rfl (lv_at hl 0 rfl) ?_
  refine lv_iload hx hb dL_law_571 (lv_at hl 4 rfl) ?_
  refine lv_iconst (v := 1) hx hb dL_law_573 (by decide) ?_
  refine lv_iadd hx hb dL_law_574 ?_
  obtain ⟨a1, ha1, hha1⟩ := mbind_n h
  subst ha1
  have h := hha1
  obtain ⟨y2, hy2, h⟩ := mbind_n h
  refine u_iald hC hP hy2 rfl dL_law_575 ?_
  obtain ⟨a3, ha3, hha3⟩ := mbind_n h
  subst ha3
  have h := hha3
  obtain ⟨c4, h⟩ := mif_n h
  obtain ⟨r7, u5, c6, h⟩ := ucall_n h
  have zu5 := zz_X3_doubt N (ub G) (ug G) u a3 y2 r7 u5 c6
  refine u_calli (va_runV (As := [.int y2]) (rest := [.int s0]) hC.1 (met_X3_doubt l N G u a3 y2 r7 u5 c6) (cwV 1 hts (lw_V q2284 q2285 q2286 q103 q2287) rfl rfl rfl (by decide +kernel) ⟨Nat.le_trans (Nat.le_of_ble_eq_true rfl) hR.1, Nat.le_trans (Nat.le_of_ble_eq_true rfl) hR.2⟩) ⟨uPc_blind, u_rcv hC hP c4 rfl, fun U hU hW => u_pre hC hP hS hU hW⟩ rfl rfl hl.1 rfl (lv_room (Nat.le_of_ble_eq_true rfl)) dL_law_576 ⟨by omega, by omega⟩) hS (fun H locs hP hS => ?_)
  refine W.cs (cells' := u5.1 - u0.1) (slots' := u5.2.1 - u0.2.1) (by omega) (by omega) ?_
  refine lv_icmp_eq (tgt := 1593) hx hb dL_law_579 (by decide) (fun c8 => ?_) (fun c8 => ?_)
  · have h := mif_t c8 h
    refine W.cs (cells' := u5.1 - u0.1) (slots' := u5.2.1 - u0.2.1) (by omega) (by omega) ?_
    exact w_L_law_1593 hC hled hR hRm N k23 hk23 zk23 u5 (some a1) x1 (some a3) x3 x4 h ⟨by omega, by omega⟩ hP hS (lv_sub hl [0, 1, 2, 3, 4] rfl)
  · have h := mif_f c8 h
    refine lv_iconst (v := 0) hx hb dL_law_582 (by decide) ?_
    obtain ⟨hr1, hr2⟩ := uret_n h
    subst hr1
    subst hr2
    exact u_zret hC (uFit_n (ty := .boolean) (v := 0) rfl).1 hP hS dL_law_583
def f_L_law_809 (N b : Nat) (g : uEnv) (k23 : UH → Option Nat → Option Nat → Option Nat → Option Nat → Int32 → Option (Int32 × UH)) (u : UH) (x0 : Option Nat) (x1 : Option Nat) (x2 : Option Nat) (x3 : Option Nat) (x4 : Int32) (s0 : Int32) : Option (Int32 × UH) :=
    (x0).bind fun a1 =>
    (uLdI u a1 7 (x4 + 1)).bind fun y2 =>
    (uLdI u a1 7 (x4 + 2)).bind fun y3 =>
    (x2).bind fun a4 =>
    if uIs u a4 2 = true then
    ucall (f_X3_worst N b g u a4 y2 y3) fun r8 u6 =>
    if s0 = r8 then
    f_L_law_1593 N b g k23 u6 (some a1) x1 (some a4) x3 x4
    else
    some (0, u6)
    else none
set_option maxHeartbeats 4000000 in
set_option maxRecDepth 100000 in
theorem zz_L_law_809 {G : uG} {uf : UH} {r : Int32} (N : Nat) (k23 : UH → Option Nat → Option Nat → Option Nat → Option Nat → Int32 → Option (Int32 × UH)) (hk23 : ∀ (u : UH) (x0 : Option Nat) (x1 : Option Nat) (x2 : Option Nat) (x3 : Option Nat) (x4 : Int32), k23 u x0 x1 x2 x3 x4 = some (r, uf) → u.1 ≤ uf.1 ∧ u.2.1 ≤ uf.2.1) (u : UH) (x0 : Option Nat) (x1 : Option Nat) (x2 : Option Nat) (x3 : Option Nat) (x4 : Int32) (s0 : Int32) (h : f_L_law_809 N (ub G) (ug G) k23 u x0 x1 x2 x3 x4 s0 = some (r, uf)) : u.1 ≤ uf.1 ∧ u.2.1 ≤ uf.2.1 := by
  unfold f_L_law_809 at h
  obtain ⟨a1, ha1, hha1⟩ := mbind_n h
  subst ha1
  have h := hha1
  obtain ⟨y2, hy2, h⟩ := mbind_n h
  obtain ⟨y3, hy3, h⟩ := mbind_n h
  obtain ⟨a4, ha4, hha4⟩ := mbind_n h
  subst ha4
  have h := hha4
  obtain ⟨c5, h⟩ := mif_n h
  obtain ⟨r8, u6, c7, h⟩ := ucall_n h
  have zu6 := zz_X3_worst N (ub G) (ug G) u a4 y2 y3 r8 u6 c7
  by_cases c9 : s0 = r8
  · have h := mif_t c9 h
    have hq := zz_L_law_1593 (G := G) N k23 hk23 u6 (some a1) x1 (some a4) x3 x4 h
    exact ⟨by omega, by omega⟩
  · have h := mif_f c9 h
    obtain ⟨hr1, hr2⟩ := uret_n h
    subst hr2
    exact ⟨by omega, by omega⟩
set_option maxHeartbeats 4000000 in
set_option maxRecDepth 100000 in
theorem w_L_law_809 {p : Program} {l : Launch} {e : Env} {R : Room} {s : State} {m : MethodId} {args : Array Value} {below : List Frame} {meth : Method} {c : Code} {G : uG} {u0 : UH} {uf : UH} {r : Int32} (hC : uC p s m args meth c G R_law cL_law 7 (some .boolean)) (hled : uLedOK l) (hR : 103 ≤ R.frames ∧ 6080 ≤ R.locals) (hRm : uf.1 - u0.1 ≤ R.cells ∧ uf.2.1 - u0.2.1 ≤ R.slots) (N : Nat) (k23 : UH → Option Nat → Option Nat → Option Nat → Option Nat → Int32 → Option (Int32 × UH)) (hk23 : ∀ (u : UH) (x0 : Option Nat) (x1 : Option Nat) (x2 : Option Nat) (x3 : Option Nat) (x4 : Int32), k23 u x0 x1 x2 x3 x4 = some (r, uf) → (u0.1 ≤ u.1 ∧ u0.2.1 ≤ u.2.1) → ∀ (H : Heap) (locs : List Loc), uP G u H → va_S (uA G) s.heap H locs → ∀ ls : Array Slot, lv_has ls 7 [(0, va_rf x0), (1, va_rf x1), (2, va_rf x2), (3, va_rf x3), (4, .int x4)] → W p l e R s m args below meth c H locs (u.1 - u0.1) (u.2.1 - u0.2.1) (MQ below (uQi G r uf) args s (uf.1 - u0.1) (uf.2.1 - u0.2.1) (uA G)) (F0 m 23 ls [])) (zk23 : ∀ (u : UH) (x0 : Option Nat) (x1 : Option Nat) (x2 : Option Nat) (x3 : Option Nat) (x4 : Int32), k23 u x0 x1 x2 x3 x4 = some (r, uf) → u.1 ≤ uf.1 ∧ u.2.1 ≤ uf.2.1) (u : UH) (x0 : Option Nat) (x1 : Option Nat) (x2 : Option Nat) (x3 : Option Nat) (x4 : Int32) (s0 : Int32) (h : f_L_law_809 N (ub G) (ug G) k23 u x0 x1 x2 x3 x4 s0 = some (r, uf)) (hz0 : (u0.1 ≤ u.1 ∧ u0.2.1 ≤ u.2.1)) {H : Heap} {locs : List Loc} (hP : uP G u H) (hS : va_S (uA G) s.heap H locs) {ls : Array Slot} (hl : lv_has ls 7 [(0, va_rf x0), (1, va_rf x1), (2, va_rf x2), (3, va_rf x3), (4, .int x4)]) : W p l e R s m args below meth c H locs (u.1 - u0.1) (u.2.1 - u0.2.1) (MQ below (uQi G r uf) args s (uf.1 - u0.1) (uf.2.1 - u0.2.1) (uA G)) (F0 m 809 ls [.int s0]) := by
  obtain ⟨⟨hx, hb, hml, hown, hts⟩, hKK⟩ := id hC
  have hzf := zz_L_law_809 (G := G) N k23 zk23 u x0 x1 x2 x3 x4 s0 h
  unfold f_L_law_809 at h
  refine u_aload_n (r := x2) hx hb dL_law_809 rfl (lv_at hl 2 rfl) ?_
  refine u_aload_n (r := x0) hx hb dL_law_810 rfl (lv_at hl 0 rfl) ?_
  refine lv_iload hx hb dL_law_811 (lv_at hl 4 rfl) ?_
  refine lv_iconst (v := 1) hx hb dL_law_813 (by decide) ?_
  refine lv_iadd hx hb dL_law_814 ?_
  obtain ⟨a1, ha1, hha1⟩ := mbind_n h
  subst ha1
  have h := hha1
  obtain ⟨y2, hy2, h⟩ := mbind_n h
  refine u_iald hC hP hy2 rfl dL_law_815 ?_
  refine u_aload_n (r := some a1) hx hb dL_law_816 rfl (lv_at hl 0 rfl) ?_
  refine lv_iload hx hb dL_law_817 (lv_at hl 4 rfl) ?_
  refine lv_iconst (v := 2) hx hb dL_law_819 (by decide) ?_
  refine lv_iadd hx hb dL_law_820 ?_
  obtain ⟨y3, hy3, h⟩ := mbind_n h
  refine u_iald hC hP hy3 rfl dL_law_821 ?_
  obtain ⟨a4, ha4, hha4⟩ := mbind_n h
  subst ha4
  have h := hha4
  obtain ⟨c5, h⟩ := mif_n h
  obtain ⟨r8, u6, c7, h⟩ := ucall_n h
  have zu6 := zz_X3_worst N (ub G) (ug G) u a4 y2 y3 r8 u6 c7
  refine u_calli (va_runV (As := [.int y2, .int y3]) (rest := [.int s0]) hC.1 (met_X3_worst l N G u a4 y2 y3 r8 u6 c7) (cwV 2 hts (lw_V q2332 q2333 q2334 q103 q2335) rfl rfl rfl (by decide +kernel) ⟨Nat.le_trans (Nat.le_of_ble_eq_true rfl) hR.1, Nat.le_trans (Nat.le_of_ble_eq_true rfl) hR.2⟩) ⟨uPc_blind, u_rcv hC hP c5 rfl, fun U hU hW => u_pre hC hP hS hU hW⟩ rfl rfl hl.1 rfl (lv_room (Nat.le_of_ble_eq_true rfl)) dL_law_822 ⟨by omega, by omega⟩) hS (fun H locs hP hS => ?_)
  refine W.cs (cells' := u6.1 - u0.1) (slots' := u6.2.1 - u0.2.1) (by omega) (by omega) ?_
  refine lv_icmp_eq (tgt := 1593) hx hb dL_law_825 (by decide) (fun c9 => ?_) (fun c9 => ?_)
  · have h := mif_t c9 h
    refine W.cs (cells' := u6.1 - u0.1) (slots' := u6.2.1 - u0.2.1) (by omega) (by omega) ?_
    exact w_L_law_1593 hC hled hR hRm N k23 hk23 zk23 u6 (some a1) x1 (some a4) x3 x4 h ⟨by omega, by omega⟩ hP hS (lv_sub hl [0, 1, 2, 3, 4] rfl)
  · have h := mif_f c9 h
    refine lv_iconst (v := 0) hx hb dL_law_828 (by decide) ?_
    obtain ⟨hr1, hr2⟩ := uret_n h
    subst hr1
    subst hr2
    exact u_zret hC (uFit_n (ty := .boolean) (v := 0) rfl).1 hP hS dL_law_829
def f_L_law_887 (N b : Nat) (g : uEnv) (k23 : UH → Option Nat → Option Nat → Option Nat → Option Nat → Int32 → Option (Int32 × UH)) (u : UH) (x0 : Option Nat) (x1 : Option Nat) (x2 : Option Nat) (x3 : Option Nat) (x4 : Int32) (s0 : Int32) (s1 : Int32) (s2 : Int32) (s3 : Option Nat) (s4 : Int64) : Option (Int32 × UH) :=
    (s3).bind fun a1 =>
    if uIs u a1 2 = true then
    ucall (f_X3_mean N b g u a1 s2 s1 s0) fun r5 u3 =>
    if (lg_cmp s4 r5) = 0 then
    f_L_law_1593 N b g k23 u3 x0 x1 x2 x3 x4
    else
    some (0, u3)
    else none
set_option maxHeartbeats 4000000 in
set_option maxRecDepth 100000 in
theorem zz_L_law_887 {G : uG} {uf : UH} {r : Int32} (N : Nat) (k23 : UH → Option Nat → Option Nat → Option Nat → Option Nat → Int32 → Option (Int32 × UH)) (hk23 : ∀ (u : UH) (x0 : Option Nat) (x1 : Option Nat) (x2 : Option Nat) (x3 : Option Nat) (x4 : Int32), k23 u x0 x1 x2 x3 x4 = some (r, uf) → u.1 ≤ uf.1 ∧ u.2.1 ≤ uf.2.1) (u : UH) (x0 : Option Nat) (x1 : Option Nat) (x2 : Option Nat) (x3 : Option Nat) (x4 : Int32) (s0 : Int32) (s1 : Int32) (s2 : Int32) (s3 : Option Nat) (s4 : Int64) (h : f_L_law_887 N (ub G) (ug G) k23 u x0 x1 x2 x3 x4 s0 s1 s2 s3 s4 = some (r, uf)) : u.1 ≤ uf.1 ∧ u.2.1 ≤ uf.2.1 := by
  unfold f_L_law_887 at h
  obtain ⟨a1, ha1, hha1⟩ := mbind_n h
  subst ha1
  have h := hha1
  obtain ⟨c2, h⟩ := mif_n h
  obtain ⟨r5, u3, c4, h⟩ := ucall_n h
  have zu3 := zz_X3_mean N (ub G) (ug G) u a1 s2 s1 s0 r5 u3 c4
  by_cases c6 : (lg_cmp s4 r5) = 0
  · have h := mif_t c6 h
    have hq := zz_L_law_1593 (G := G) N k23 hk23 u3 x0 x1 x2 x3 x4 h
    exact ⟨by omega, by omega⟩
  · have h := mif_f c6 h
    obtain ⟨hr1, hr2⟩ := uret_n h
    subst hr2
    exact ⟨by omega, by omega⟩
set_option maxHeartbeats 4000000 in
set_option maxRecDepth 100000 in
theorem w_L_law_887 {p : Program} {l : Launch} {e : Env} {R : Room} {s : State} {m : MethodId} {args : Array Value} {below : List Frame} {meth : Method} {c : Code} {G : uG} {u0 : UH} {uf : UH} {r : Int32} (hC : uC p s m args meth c G R_law cL_law 7 (some .boolean)) (hled : uLedOK l) (hR : 103 ≤ R.frames ∧ 6080 ≤ R.locals) (hRm : uf.1 - u0.1 ≤ R.cells ∧ uf.2.1 - u0.2.1 ≤ R.slots) (N : Nat) (k23 : UH → Option Nat → Option Nat → Option Nat → Option Nat → Int32 → Option (Int32 × UH)) (hk23 : ∀ (u : UH) (x0 : Option Nat) (x1 : Option Nat) (x2 : Option Nat) (x3 : Option Nat) (x4 : Int32), k23 u x0 x1 x2 x3 x4 = some (r, uf) → (u0.1 ≤ u.1 ∧ u0.2.1 ≤ u.2.1) → ∀ (H : Heap) (locs : List Loc), uP G u H → va_S (uA G) s.heap H locs → ∀ ls : Array Slot, lv_has ls 7 [(0, va_rf x0), (1, va_rf x1), (2, va_rf x2), (3, va_rf x3), (4, .int x4)] → W p l e R s m args below meth c H locs (u.1 - u0.1) (u.2.1 - u0.2.1) (MQ below (uQi G r uf) args s (uf.1 - u0.1) (uf.2.1 - u0.2.1) (uA G)) (F0 m 23 ls [])) (zk23 : ∀ (u : UH) (x0 : Option Nat) (x1 : Option Nat) (x2 : Option Nat) (x3 : Option Nat) (x4 : Int32), k23 u x0 x1 x2 x3 x4 = some (r, uf) → u.1 ≤ uf.1 ∧ u.2.1 ≤ uf.2.1) (u : UH) (x0 : Option Nat) (x1 : Option Nat) (x2 : Option Nat) (x3 : Option Nat) (x4 : Int32) (s0 : Int32) (s1 : Int32) (s2 : Int32) (s3 : Option Nat) (s4 : Int64) (h : f_L_law_887 N (ub G) (ug G) k23 u x0 x1 x2 x3 x4 s0 s1 s2 s3 s4 = some (r, uf)) (hz0 : (u0.1 ≤ u.1 ∧ u0.2.1 ≤ u.2.1)) {H : Heap} {locs : List Loc} (hP : uP G u H) (hS : va_S (uA G) s.heap H locs) {ls : Array Slot} (hl : lv_has ls 7 [(0, va_rf x0), (1, va_rf x1), (2, va_rf x2), (3, va_rf x3), (4, .int x4)]) : W p l e R s m args below meth c H locs (u.1 - u0.1) (u.2.1 - u0.2.1) (MQ below (uQi G r uf) args s (uf.1 - u0.1) (uf.2.1 - u0.2.1) (uA G)) (F0 m 887 ls [.int s0, .int s1, .int s2, va_rf s3, .long s4]) := by
  obtain ⟨⟨hx, hb, hml, hown, hts⟩, hKK⟩ := id hC
  have hzf := zz_L_law_887 (G := G) N k23 zk23 u x0 x1 x2 x3 x4 s0 s1 s2 s3 s4 h
  unfold f_L_law_887 at h
  obtain ⟨a1, ha1, hha1⟩ := mbind_n h
  subst ha1
  have h := hha1
  obtain ⟨c2, h⟩ := mif_n h
  obtain ⟨r5, u3, c4, h⟩ := ucall_n h
  have zu3 := zz_X3_mean N (ub G) (ug G) u a1 s2 s1 s0 r5 u3 c4
  refine u_calll (va_runV (As := [.int s2, .int s1, .int s0]) (rest := [.long s4]) hC.1 (met_X3_mean l N G u a1 s2 s1 s0 r5 u3 c4) (cwV 3 hts (lw_V q2404 q2405 q2406 q103 q2407) rfl rfl rfl (by decide +kernel) ⟨Nat.le_trans (Nat.le_of_ble_eq_true rfl) hR.1, Nat.le_trans (Nat.le_of_ble_eq_true rfl) hR.2⟩) ⟨uPc_blind, u_rcv hC hP c2 rfl, fun U hU hW => u_pre hC hP hS hU hW⟩ rfl rfl hl.1 rfl (lv_room (Nat.le_of_ble_eq_true rfl)) dL_law_887 ⟨by omega, by omega⟩) hS (fun H locs hP hS => ?_)
  refine W.cs (cells' := u3.1 - u0.1) (slots' := u3.2.1 - u0.2.1) (by omega) (by omega) ?_
  refine W.lcmp hx hb dL_law_890 ?_
  refine lv_if_eq (tgt := 1593) hx hb dL_law_891 (by decide) (fun c6 => ?_) (fun c6 => ?_)
  · have h := mif_t c6 h
    refine W.cs (cells' := u3.1 - u0.1) (slots' := u3.2.1 - u0.2.1) (by omega) (by omega) ?_
    exact w_L_law_1593 hC hled hR hRm N k23 hk23 zk23 u3 x0 x1 x2 x3 x4 h ⟨by omega, by omega⟩ hP hS (lv_sub hl [0, 1, 2, 3, 4] rfl)
  · have h := mif_f c6 h
    refine lv_iconst (v := 0) hx hb dL_law_894 (by decide) ?_
    obtain ⟨hr1, hr2⟩ := uret_n h
    subst hr1
    subst hr2
    exact u_zret hC (uFit_n (ty := .boolean) (v := 0) rfl).1 hP hS dL_law_895
def f_L_law_860 (N b : Nat) (g : uEnv) (k23 : UH → Option Nat → Option Nat → Option Nat → Option Nat → Int32 → Option (Int32 × UH)) (u : UH) (x0 : Option Nat) (x1 : Option Nat) (x2 : Option Nat) (x3 : Option Nat) (x4 : Int32) (s0 : Int64) : Option (Int32 × UH) :=
    (x0).bind fun a1 =>
    (uLdI u a1 7 (x4 + 1)).bind fun y2 =>
    (uLdI u a1 7 (x4 + 2)).bind fun y3 =>
    (uLdI u a1 7 (x4 + 3)).bind fun y4 =>
    if y4 = 0 then
    f_L_law_887 N b g k23 u (some a1) x1 x2 x3 x4 0 y3 y2 x2 s0
    else
    f_L_law_887 N b g k23 u (some a1) x1 x2 x3 x4 1 y3 y2 x2 s0
set_option maxHeartbeats 4000000 in
set_option maxRecDepth 100000 in
theorem zz_L_law_860 {G : uG} {uf : UH} {r : Int32} (N : Nat) (k23 : UH → Option Nat → Option Nat → Option Nat → Option Nat → Int32 → Option (Int32 × UH)) (hk23 : ∀ (u : UH) (x0 : Option Nat) (x1 : Option Nat) (x2 : Option Nat) (x3 : Option Nat) (x4 : Int32), k23 u x0 x1 x2 x3 x4 = some (r, uf) → u.1 ≤ uf.1 ∧ u.2.1 ≤ uf.2.1) (u : UH) (x0 : Option Nat) (x1 : Option Nat) (x2 : Option Nat) (x3 : Option Nat) (x4 : Int32) (s0 : Int64) (h : f_L_law_860 N (ub G) (ug G) k23 u x0 x1 x2 x3 x4 s0 = some (r, uf)) : u.1 ≤ uf.1 ∧ u.2.1 ≤ uf.2.1 := by
  unfold f_L_law_860 at h
  obtain ⟨a1, ha1, hha1⟩ := mbind_n h
  subst ha1
  have h := hha1
  obtain ⟨y2, hy2, h⟩ := mbind_n h
  obtain ⟨y3, hy3, h⟩ := mbind_n h
  obtain ⟨y4, hy4, h⟩ := mbind_n h
  by_cases c5 : y4 = 0
  · have h := mif_t c5 h
    have hq := zz_L_law_887 (G := G) N k23 hk23 u (some a1) x1 x2 x3 x4 0 y3 y2 x2 s0 h
    exact ⟨by omega, by omega⟩
  · have h := mif_f c5 h
    have hq := zz_L_law_887 (G := G) N k23 hk23 u (some a1) x1 x2 x3 x4 1 y3 y2 x2 s0 h
    exact ⟨by omega, by omega⟩
set_option maxHeartbeats 4000000 in
set_option maxRecDepth 100000 in
theorem w_L_law_860 {p : Program} {l : Launch} {e : Env} {R : Room} {s : State} {m : MethodId} {args : Array Value} {below : List Frame} {meth : Method} {c : Code} {G : uG} {u0 : UH} {uf : UH} {r : Int32} (hC : uC p s m args meth c G R_law cL_law 7 (some .boolean)) (hled : uLedOK l) (hR : 103 ≤ R.frames ∧ 6080 ≤ R.locals) (hRm : uf.1 - u0.1 ≤ R.cells ∧ uf.2.1 - u0.2.1 ≤ R.slots) (N : Nat) (k23 : UH → Option Nat → Option Nat → Option Nat → Option Nat → Int32 → Option (Int32 × UH)) (hk23 : ∀ (u : UH) (x0 : Option Nat) (x1 : Option Nat) (x2 : Option Nat) (x3 : Option Nat) (x4 : Int32), k23 u x0 x1 x2 x3 x4 = some (r, uf) → (u0.1 ≤ u.1 ∧ u0.2.1 ≤ u.2.1) → ∀ (H : Heap) (locs : List Loc), uP G u H → va_S (uA G) s.heap H locs → ∀ ls : Array Slot, lv_has ls 7 [(0, va_rf x0), (1, va_rf x1), (2, va_rf x2), (3, va_rf x3), (4, .int x4)] → W p l e R s m args below meth c H locs (u.1 - u0.1) (u.2.1 - u0.2.1) (MQ below (uQi G r uf) args s (uf.1 - u0.1) (uf.2.1 - u0.2.1) (uA G)) (F0 m 23 ls [])) (zk23 : ∀ (u : UH) (x0 : Option Nat) (x1 : Option Nat) (x2 : Option Nat) (x3 : Option Nat) (x4 : Int32), k23 u x0 x1 x2 x3 x4 = some (r, uf) → u.1 ≤ uf.1 ∧ u.2.1 ≤ uf.2.1) (u : UH) (x0 : Option Nat) (x1 : Option Nat) (x2 : Option Nat) (x3 : Option Nat) (x4 : Int32) (s0 : Int64) (h : f_L_law_860 N (ub G) (ug G) k23 u x0 x1 x2 x3 x4 s0 = some (r, uf)) (hz0 : (u0.1 ≤ u.1 ∧ u0.2.1 ≤ u.2.1)) {H : Heap} {locs : List Loc} (hP : uP G u H) (hS : va_S (uA G) s.heap H locs) {ls : Array Slot} (hl : lv_has ls 7 [(0, va_rf x0), (1, va_rf x1), (2, va_rf x2), (3, va_rf x3), (4, .int x4)]) : W p l e R s m args below meth c H locs (u.1 - u0.1) (u.2.1 - u0.2.1) (MQ below (uQi G r uf) args s (uf.1 - u0.1) (uf.2.1 - u0.2.1) (uA G)) (F0 m 860 ls [.long s0]) := by
  obtain ⟨⟨hx, hb, hml, hown, hts⟩, hKK⟩ := id hC
  have hzf := zz_L_law_860 (G := G) N k23 zk23 u x0 x1 x2 x3 x4 s0 h
  unfold f_L_law_860 at h
  refine u_aload_n (r := x2) hx hb dL_law_860 rfl (lv_at hl 2 rfl) ?_
  refine u_aload_n (r := x0) hx hb dL_law_861 rfl (lv_at hl 0 rfl) ?_
  refine lv_iload hx hb dL_law_862 (lv_at hl 4 rfl) ?_
  refine lv_iconst (v := 1) hx hb dL_law_864 (by decide) ?_
  refine lv_iadd hx hb dL_law_865 ?_
  obtain ⟨a1, ha1, hha1⟩ := mbind_n h
  subst ha1
  have h := hha1
  obtain ⟨y2, hy2, h⟩ := mbind_n h
  refine u_iald hC hP hy2 rfl dL_law_866 ?_
  refine u_aload_n (r := some a1) hx hb dL_law_867 rfl (lv_at hl 0 rfl) ?_
  refine lv_iload hx hb dL_law_868 (lv_at hl 4 rfl) ?_
  refine lv_iconst (v := 2) hx hb dL_law_870 (by decide) ?_
  refine lv_iadd hx hb dL_law_871 ?_
  obtain ⟨y3, hy3, h⟩ := mbind_n h
  refine u_iald hC hP hy3 rfl dL_law_872 ?_
  refine u_aload_n (r := some a1) hx hb dL_law_873 rfl (lv_at hl 0 rfl) ?_
  refine lv_iload hx hb dL_law_874 (lv_at hl 4 rfl) ?_
  refine lv_iconst (v := 3) hx hb dL_law_876 (by decide) ?_
  refine lv_iadd hx hb dL_law_877 ?_
  obtain ⟨y4, hy4, h⟩ := mbind_n h
  refine u_iald hC hP hy4 rfl dL_law_878 ?_
  refine lv_if_eq (tgt := 886) hx hb dL_law_879 (by decide) (fun c5 => ?_) (fun c5 => ?_)
  · have h := mif_t c5 h
    refine lv_iconst (v := 0) hx hb dL_law_886 (by decide) ?_
    refine W.cs (cells' := u.1 - u0.1) (slots' := u.2.1 - u0.2.1) (by omega) (by omega) ?_
    exact w_L_law_887 hC hled hR hRm N k23 hk23 zk23 u (some a1) x1 x2 x3 x4 0 y3 y2 x2 s0 h ⟨by omega, by omega⟩ hP hS (lv_sub hl [0, 1, 2, 3, 4] rfl)
  · have h := mif_f c5 h
    refine lv_iconst (v := 1) hx hb dL_law_882 (by decide) ?_
    refine lv_goto (tgt := 887) hx hb dL_law_883 (by decide) ?_
    refine W.cs (cells' := u.1 - u0.1) (slots' := u.2.1 - u0.2.1) (by omega) (by omega) ?_
    exact w_L_law_887 hC hled hR hRm N k23 hk23 zk23 u (some a1) x1 x2 x3 x4 1 y3 y2 x2 s0 h ⟨by omega, by omega⟩ hP hS (lv_sub hl [0, 1, 2, 3, 4] rfl)
def f_L_law_857 (N b : Nat) (g : uEnv) (k23 : UH → Option Nat → Option Nat → Option Nat → Option Nat → Int32 → Option (Int32 × UH)) (u : UH) (x0 : Option Nat) (x1 : Option Nat) (x2 : Option Nat) (x3 : Option Nat) (x4 : Int32) (s0 : Int32) (s1 : Int32) (s2 : Int32) (s3 : Option Nat) : Option (Int32 × UH) :=
    (s3).bind fun a1 =>
    if uIs u a1 0 = true then
    ucall (f_X1_mean N b g u a1 s2 s1 s0) fun r5 u3 =>
    f_L_law_860 N b g k23 u3 x0 x1 x2 x3 x4 r5
    else none
set_option maxHeartbeats 4000000 in
set_option maxRecDepth 100000 in
theorem zz_L_law_857 {G : uG} {uf : UH} {r : Int32} (N : Nat) (k23 : UH → Option Nat → Option Nat → Option Nat → Option Nat → Int32 → Option (Int32 × UH)) (hk23 : ∀ (u : UH) (x0 : Option Nat) (x1 : Option Nat) (x2 : Option Nat) (x3 : Option Nat) (x4 : Int32), k23 u x0 x1 x2 x3 x4 = some (r, uf) → u.1 ≤ uf.1 ∧ u.2.1 ≤ uf.2.1) (u : UH) (x0 : Option Nat) (x1 : Option Nat) (x2 : Option Nat) (x3 : Option Nat) (x4 : Int32) (s0 : Int32) (s1 : Int32) (s2 : Int32) (s3 : Option Nat) (h : f_L_law_857 N (ub G) (ug G) k23 u x0 x1 x2 x3 x4 s0 s1 s2 s3 = some (r, uf)) : u.1 ≤ uf.1 ∧ u.2.1 ≤ uf.2.1 := by
  unfold f_L_law_857 at h
  obtain ⟨a1, ha1, hha1⟩ := mbind_n h
  subst ha1
  have h := hha1
  obtain ⟨c2, h⟩ := mif_n h
  obtain ⟨r5, u3, c4, h⟩ := ucall_n h
  have zu3 := zz_X1_mean N (ub G) (ug G) u a1 s2 s1 s0 r5 u3 c4
  have hq := zz_L_law_860 (G := G) N k23 hk23 u3 x0 x1 x2 x3 x4 r5 h
  exact ⟨by omega, by omega⟩
set_option maxHeartbeats 4000000 in
set_option maxRecDepth 100000 in
theorem w_L_law_857 {p : Program} {l : Launch} {e : Env} {R : Room} {s : State} {m : MethodId} {args : Array Value} {below : List Frame} {meth : Method} {c : Code} {G : uG} {u0 : UH} {uf : UH} {r : Int32} (hC : uC p s m args meth c G R_law cL_law 7 (some .boolean)) (hled : uLedOK l) (hR : 103 ≤ R.frames ∧ 6080 ≤ R.locals) (hRm : uf.1 - u0.1 ≤ R.cells ∧ uf.2.1 - u0.2.1 ≤ R.slots) (N : Nat) (k23 : UH → Option Nat → Option Nat → Option Nat → Option Nat → Int32 → Option (Int32 × UH)) (hk23 : ∀ (u : UH) (x0 : Option Nat) (x1 : Option Nat) (x2 : Option Nat) (x3 : Option Nat) (x4 : Int32), k23 u x0 x1 x2 x3 x4 = some (r, uf) → (u0.1 ≤ u.1 ∧ u0.2.1 ≤ u.2.1) → ∀ (H : Heap) (locs : List Loc), uP G u H → va_S (uA G) s.heap H locs → ∀ ls : Array Slot, lv_has ls 7 [(0, va_rf x0), (1, va_rf x1), (2, va_rf x2), (3, va_rf x3), (4, .int x4)] → W p l e R s m args below meth c H locs (u.1 - u0.1) (u.2.1 - u0.2.1) (MQ below (uQi G r uf) args s (uf.1 - u0.1) (uf.2.1 - u0.2.1) (uA G)) (F0 m 23 ls [])) (zk23 : ∀ (u : UH) (x0 : Option Nat) (x1 : Option Nat) (x2 : Option Nat) (x3 : Option Nat) (x4 : Int32), k23 u x0 x1 x2 x3 x4 = some (r, uf) → u.1 ≤ uf.1 ∧ u.2.1 ≤ uf.2.1) (u : UH) (x0 : Option Nat) (x1 : Option Nat) (x2 : Option Nat) (x3 : Option Nat) (x4 : Int32) (s0 : Int32) (s1 : Int32) (s2 : Int32) (s3 : Option Nat) (h : f_L_law_857 N (ub G) (ug G) k23 u x0 x1 x2 x3 x4 s0 s1 s2 s3 = some (r, uf)) (hz0 : (u0.1 ≤ u.1 ∧ u0.2.1 ≤ u.2.1)) {H : Heap} {locs : List Loc} (hP : uP G u H) (hS : va_S (uA G) s.heap H locs) {ls : Array Slot} (hl : lv_has ls 7 [(0, va_rf x0), (1, va_rf x1), (2, va_rf x2), (3, va_rf x3), (4, .int x4)]) : W p l e R s m args below meth c H locs (u.1 - u0.1) (u.2.1 - u0.2.1) (MQ below (uQi G r uf) args s (uf.1 - u0.1) (uf.2.1 - u0.2.1) (uA G)) (F0 m 857 ls [.int s0, .int s1, .int s2, va_rf s3]) := by
  obtain ⟨⟨hx, hb, hml, hown, hts⟩, hKK⟩ := id hC
  have hzf := zz_L_law_857 (G := G) N k23 zk23 u x0 x1 x2 x3 x4 s0 s1 s2 s3 h
  unfold f_L_law_857 at h
  obtain ⟨a1, ha1, hha1⟩ := mbind_n h
  subst ha1
  have h := hha1
  obtain ⟨c2, h⟩ := mif_n h
  obtain ⟨r5, u3, c4, h⟩ := ucall_n h
  have zu3 := zz_X1_mean N (ub G) (ug G) u a1 s2 s1 s0 r5 u3 c4
  have hq := zz_L_law_860 (G := G) N k23 zk23 u3 x0 x1 x2 x3 x4 r5 h
  refine u_calll (va_runV (As := [.int s2, .int s1, .int s0]) (rest := []) hC.1 (met_X1_mean l N G u a1 s2 s1 s0 r5 u3 c4) (cwV 3 hts (lw_V q1425 q1426 q1427 q98 q1428) rfl rfl rfl (by decide +kernel) ⟨Nat.le_trans (Nat.le_of_ble_eq_true rfl) hR.1, Nat.le_trans (Nat.le_of_ble_eq_true rfl) hR.2⟩) ⟨uPc_blind, u_rcv hC hP c2 rfl, fun U hU hW => u_pre hC hP hS hU hW⟩ rfl rfl hl.1 rfl (lv_room (Nat.le_of_ble_eq_true rfl)) dL_law_857 ⟨by omega, by omega⟩) hS (fun H locs hP hS => ?_)
  refine W.cs (cells' := u3.1 - u0.1) (slots' := u3.2.1 - u0.2.1) (by omega) (by omega) ?_
  refine W.cs (cells' := u3.1 - u0.1) (slots' := u3.2.1 - u0.2.1) (by omega) (by omega) ?_
  exact w_L_law_860 hC hled hR hRm N k23 hk23 zk23 u3 x0 x1 x2 x3 x4 r5 h ⟨by omega, by omega⟩ hP hS (lv_sub hl [0, 1, 2, 3, 4] rfl)
def f_L_law_953 (N b : Nat) (g : uEnv) (k23 : UH → Option Nat → Option Nat → Option Nat → Option Nat → Int32 → Option (Int32 × UH)) (u : UH) (x0 : Option Nat) (x1 : Option Nat) (x2 : Option Nat) (x3 : Option Nat) (x4 : Int32) (s0 : Int32) (s1 : Int32) (s2 : Int32) (s3 : Option Nat) (s4 : Int32) : Option (Int32 × UH) :=
    (s3).bind fun a1 =>
    if uIs u a1 2 = true then
    ucall (f_X3_way N b g u a1 s2 s1 s0) fun r5 u3 =>
    if s4 = r5 then
    f_L_law_1593 N b g k23 u3 x0 x1 x2 x3 x4
    else
    some (0, u3)
    else none
set_option maxHeartbeats 4000000 in
set_option maxRecDepth 100000 in
theorem zz_L_law_953 {G : uG} {uf : UH} {r : Int32} (N : Nat) (k23 : UH → Option Nat → Option Nat → Option Nat → Option Nat → Int32 → Option (Int32 × UH)) (hk23 : ∀ (u : UH) (x0 : Option Nat) (x1 : Option Nat) (x2 : Option Nat) (x3 : Option Nat) (x4 : Int32), k23 u x0 x1 x2 x3 x4 = some (r, uf) → u.1 ≤ uf.1 ∧ u.2.1 ≤ uf.2.1) (u : UH) (x0 : Option Nat) (x1 : Option Nat) (x2 : Option Nat) (x3 : Option Nat) (x4 : Int32) (s0 : Int32) (s1 : Int32) (s2 : Int32) (s3 : Option Nat) (s4 : Int32) (h : f_L_law_953 N (ub G) (ug G) k23 u x0 x1 x2 x3 x4 s0 s1 s2 s3 s4 = some (r, uf)) : u.1 ≤ uf.1 ∧ u.2.1 ≤ uf.2.1 := by
  unfold f_L_law_953 at h
  obtain ⟨a1, ha1, hha1⟩ := mbind_n h
  subst ha1
  have h := hha1
  obtain ⟨c2, h⟩ := mif_n h
  obtain ⟨r5, u3, c4, h⟩ := ucall_n h
  have zu3 := zz_X3_way N (ub G) (ug G) u a1 s2 s1 s0 r5 u3 c4
  by_cases c6 : s4 = r5
  · have h := mif_t c6 h
    have hq := zz_L_law_1593 (G := G) N k23 hk23 u3 x0 x1 x2 x3 x4 h
    exact ⟨by omega, by omega⟩
  · have h := mif_f c6 h
    obtain ⟨hr1, hr2⟩ := uret_n h
    subst hr2
    exact ⟨by omega, by omega⟩
set_option maxHeartbeats 4000000 in
set_option maxRecDepth 100000 in
theorem w_L_law_953 {p : Program} {l : Launch} {e : Env} {R : Room} {s : State} {m : MethodId} {args : Array Value} {below : List Frame} {meth : Method} {c : Code} {G : uG} {u0 : UH} {uf : UH} {r : Int32} (hC : uC p s m args meth c G R_law cL_law 7 (some .boolean)) (hled : uLedOK l) (hR : 103 ≤ R.frames ∧ 6080 ≤ R.locals) (hRm : uf.1 - u0.1 ≤ R.cells ∧ uf.2.1 - u0.2.1 ≤ R.slots) (N : Nat) (k23 : UH → Option Nat → Option Nat → Option Nat → Option Nat → Int32 → Option (Int32 × UH)) (hk23 : ∀ (u : UH) (x0 : Option Nat) (x1 : Option Nat) (x2 : Option Nat) (x3 : Option Nat) (x4 : Int32), k23 u x0 x1 x2 x3 x4 = some (r, uf) → (u0.1 ≤ u.1 ∧ u0.2.1 ≤ u.2.1) → ∀ (H : Heap) (locs : List Loc), uP G u H → va_S (uA G) s.heap H locs → ∀ ls : Array Slot, lv_has ls 7 [(0, va_rf x0), (1, va_rf x1), (2, va_rf x2), (3, va_rf x3), (4, .int x4)] → W p l e R s m args below meth c H locs (u.1 - u0.1) (u.2.1 - u0.2.1) (MQ below (uQi G r uf) args s (uf.1 - u0.1) (uf.2.1 - u0.2.1) (uA G)) (F0 m 23 ls [])) (zk23 : ∀ (u : UH) (x0 : Option Nat) (x1 : Option Nat) (x2 : Option Nat) (x3 : Option Nat) (x4 : Int32), k23 u x0 x1 x2 x3 x4 = some (r, uf) → u.1 ≤ uf.1 ∧ u.2.1 ≤ uf.2.1) (u : UH) (x0 : Option Nat) (x1 : Option Nat) (x2 : Option Nat) (x3 : Option Nat) (x4 : Int32) (s0 : Int32) (s1 : Int32) (s2 : Int32) (s3 : Option Nat) (s4 : Int32) (h : f_L_law_953 N (ub G) (ug G) k23 u x0 x1 x2 x3 x4 s0 s1 s2 s3 s4 = some (r, uf)) (hz0 : (u0.1 ≤ u.1 ∧ u0.2.1 ≤ u.2.1)) {H : Heap} {locs : List Loc} (hP : uP G u H) (hS : va_S (uA G) s.heap H locs) {ls : Array Slot} (hl : lv_has ls 7 [(0, va_rf x0), (1, va_rf x1), (2, va_rf x2), (3, va_rf x3), (4, .int x4)]) : W p l e R s m args below meth c H locs (u.1 - u0.1) (u.2.1 - u0.2.1) (MQ below (uQi G r uf) args s (uf.1 - u0.1) (uf.2.1 - u0.2.1) (uA G)) (F0 m 953 ls [.int s0, .int s1, .int s2, va_rf s3, .int s4]) := by
  obtain ⟨⟨hx, hb, hml, hown, hts⟩, hKK⟩ := id hC
  have hzf := zz_L_law_953 (G := G) N k23 zk23 u x0 x1 x2 x3 x4 s0 s1 s2 s3 s4 h
  unfold f_L_law_953 at h
  obtain ⟨a1, ha1, hha1⟩ := mbind_n h
  subst ha1
  have h := hha1
  obtain ⟨c2, h⟩ := mif_n h
  obtain ⟨r5, u3, c4, h⟩ := ucall_n h
  have zu3 := zz_X3_way N (ub G) (ug G) u a1 s2 s1 s0 r5 u3 c4
  refine u_calli (va_runV (As := [.int s2, .int s1, .int s0]) (rest := [.int s4]) hC.1 (met_X3_way l N G u a1 s2 s1 s0 r5 u3 c4) (cwV 3 hts (lw_V q2415 q2416 q2417 q103 q2418) rfl rfl rfl (by decide +kernel) ⟨Nat.le_trans (Nat.le_of_ble_eq_true rfl) hR.1, Nat.le_trans (Nat.le_of_ble_eq_true rfl) hR.2⟩) ⟨uPc_blind, u_rcv hC hP c2 rfl, fun U hU hW => u_pre hC hP hS hU hW⟩ rfl rfl hl.1 rfl (lv_room (Nat.le_of_ble_eq_true rfl)) dL_law_953 ⟨by omega, by omega⟩) hS (fun H locs hP hS => ?_)
  refine W.cs (cells' := u3.1 - u0.1) (slots' := u3.2.1 - u0.2.1) (by omega) (by omega) ?_
  refine lv_icmp_eq (tgt := 1593) hx hb dL_law_956 (by decide) (fun c6 => ?_) (fun c6 => ?_)
  · have h := mif_t c6 h
    refine W.cs (cells' := u3.1 - u0.1) (slots' := u3.2.1 - u0.2.1) (by omega) (by omega) ?_
    exact w_L_law_1593 hC hled hR hRm N k23 hk23 zk23 u3 x0 x1 x2 x3 x4 h ⟨by omega, by omega⟩ hP hS (lv_sub hl [0, 1, 2, 3, 4] rfl)
  · have h := mif_f c6 h
    refine lv_iconst (v := 0) hx hb dL_law_959 (by decide) ?_
    obtain ⟨hr1, hr2⟩ := uret_n h
    subst hr1
    subst hr2
    exact u_zret hC (uFit_n (ty := .boolean) (v := 0) rfl).1 hP hS dL_law_960
def f_L_law_926 (N b : Nat) (g : uEnv) (k23 : UH → Option Nat → Option Nat → Option Nat → Option Nat → Int32 → Option (Int32 × UH)) (u : UH) (x0 : Option Nat) (x1 : Option Nat) (x2 : Option Nat) (x3 : Option Nat) (x4 : Int32) (s0 : Int32) : Option (Int32 × UH) :=
    (x0).bind fun a1 =>
    (uLdI u a1 7 (x4 + 1)).bind fun y2 =>
    (uLdI u a1 7 (x4 + 2)).bind fun y3 =>
    (uLdI u a1 7 (x4 + 3)).bind fun y4 =>
    if y4 = 0 then
    f_L_law_953 N b g k23 u (some a1) x1 x2 x3 x4 0 y3 y2 x2 s0
    else
    f_L_law_953 N b g k23 u (some a1) x1 x2 x3 x4 1 y3 y2 x2 s0
set_option maxHeartbeats 4000000 in
set_option maxRecDepth 100000 in
theorem zz_L_law_926 {G : uG} {uf : UH} {r : Int32} (N : Nat) (k23 : UH → Option Nat → Option Nat → Option Nat → Option Nat → Int32 → Option (Int32 × UH)) (hk23 : ∀ (u : UH) (x0 : Option Nat) (x1 : Option Nat) (x2 : Option Nat) (x3 : Option Nat) (x4 : Int32), k23 u x0 x1 x2 x3 x4 = some (r, uf) → u.1 ≤ uf.1 ∧ u.2.1 ≤ uf.2.1) (u : UH) (x0 : Option Nat) (x1 : Option Nat) (x2 : Option Nat) (x3 : Option Nat) (x4 : Int32) (s0 : Int32) (h : f_L_law_926 N (ub G) (ug G) k23 u x0 x1 x2 x3 x4 s0 = some (r, uf)) : u.1 ≤ uf.1 ∧ u.2.1 ≤ uf.2.1 := by
  unfold f_L_law_926 at h
  obtain ⟨a1, ha1, hha1⟩ := mbind_n h
  subst ha1
  have h := hha1
  obtain ⟨y2, hy2, h⟩ := mbind_n h
  obtain ⟨y3, hy3, h⟩ := mbind_n h
  obtain ⟨y4, hy4, h⟩ := mbind_n h
  by_cases c5 : y4 = 0
  · have h := mif_t c5 h
    have hq := zz_L_law_953 (G := G) N k23 hk23 u (some a1) x1 x2 x3 x4 0 y3 y2 x2 s0 h
    exact ⟨by omega, by omega⟩
  · have h := mif_f c5 h
    have hq := zz_L_law_953 (G := G) N k23 hk23 u (some a1) x1 x2 x3 x4 1 y3 y2 x2 s0 h
    exact ⟨by omega, by omega⟩
set_option maxHeartbeats 4000000 in
set_option maxRecDepth 100000 in
theorem w_L_law_926 {p : Program} {l : Launch} {e : Env} {R : Room} {s : State} {m : MethodId} {args : Array Value} {below : List Frame} {meth : Method} {c : Code} {G : uG} {u0 : UH} {uf : UH} {r : Int32} (hC : uC p s m args meth c G R_law cL_law 7 (some .boolean)) (hled : uLedOK l) (hR : 103 ≤ R.frames ∧ 6080 ≤ R.locals) (hRm : uf.1 - u0.1 ≤ R.cells ∧ uf.2.1 - u0.2.1 ≤ R.slots) (N : Nat) (k23 : UH → Option Nat → Option Nat → Option Nat → Option Nat → Int32 → Option (Int32 × UH)) (hk23 : ∀ (u : UH) (x0 : Option Nat) (x1 : Option Nat) (x2 : Option Nat) (x3 : Option Nat) (x4 : Int32), k23 u x0 x1 x2 x3 x4 = some (r, uf) → (u0.1 ≤ u.1 ∧ u0.2.1 ≤ u.2.1) → ∀ (H : Heap) (locs : List Loc), uP G u H → va_S (uA G) s.heap H locs → ∀ ls : Array Slot, lv_has ls 7 [(0, va_rf x0), (1, va_rf x1), (2, va_rf x2), (3, va_rf x3), (4, .int x4)] → W p l e R s m args below meth c H locs (u.1 - u0.1) (u.2.1 - u0.2.1) (MQ below (uQi G r uf) args s (uf.1 - u0.1) (uf.2.1 - u0.2.1) (uA G)) (F0 m 23 ls [])) (zk23 : ∀ (u : UH) (x0 : Option Nat) (x1 : Option Nat) (x2 : Option Nat) (x3 : Option Nat) (x4 : Int32), k23 u x0 x1 x2 x3 x4 = some (r, uf) → u.1 ≤ uf.1 ∧ u.2.1 ≤ uf.2.1) (u : UH) (x0 : Option Nat) (x1 : Option Nat) (x2 : Option Nat) (x3 : Option Nat) (x4 : Int32) (s0 : Int32) (h : f_L_law_926 N (ub G) (ug G) k23 u x0 x1 x2 x3 x4 s0 = some (r, uf)) (hz0 : (u0.1 ≤ u.1 ∧ u0.2.1 ≤ u.2.1)) {H : Heap} {locs : List Loc} (hP : uP G u H) (hS : va_S (uA G) s.heap H locs) {ls : Array Slot} (hl : lv_has ls 7 [(0, va_rf x0), (1, va_rf x1), (2, va_rf x2), (3, va_rf x3), (4, .int x4)]) : W p l e R s m args below meth c H locs (u.1 - u0.1) (u.2.1 - u0.2.1) (MQ below (uQi G r uf) args s (uf.1 - u0.1) (uf.2.1 - u0.2.1) (uA G)) (F0 m 926 ls [.int s0]) := by
  obtain ⟨⟨hx, hb, hml, hown, hts⟩, hKK⟩ := id hC
  have hzf := zz_L_law_926 (G := G) N k23 zk23 u x0 x1 x2 x3 x4 s0 h
  unfold f_L_law_926 at h
  refine u_aload_n (r := x2) hx hb dL_law_926 rfl (lv_at hl 2 rfl) ?_
  refine u_aload_n (r := x0) hx hb dL_law_927 rfl (lv_at hl 0 rfl) ?_
  refine lv_iload hx hb dL_law_928 (lv_at hl 4 rfl) ?_
  refine lv_iconst (v := 1) hx hb dL_law_930 (by decide) ?_
  refine lv_iadd hx hb dL_law_931 ?_
  obtain ⟨a1, ha1, hha1⟩ := mbind_n h
  subst ha1
  have h := hha1
  obtain ⟨y2, hy2, h⟩ := mbind_n h
  refine u_iald hC hP hy2 rfl dL_law_932 ?_
  refine u_aload_n (r := some a1) hx hb dL_law_933 rfl (lv_at hl 0 rfl) ?_
  refine lv_iload hx hb dL_law_934 (lv_at hl 4 rfl) ?_
  refine lv_iconst (v := 2) hx hb dL_law_936 (by decide) ?_
  refine lv_iadd hx hb dL_law_937 ?_
  obtain ⟨y3, hy3, h⟩ := mbind_n h
  refine u_iald hC hP hy3 rfl dL_law_938 ?_
  refine u_aload_n (r := some a1) hx hb dL_law_939 rfl (lv_at hl 0 rfl) ?_
  refine lv_iload hx hb dL_law_940 (lv_at hl 4 rfl) ?_
  refine lv_iconst (v := 3) hx hb dL_law_942 (by decide) ?_
  refine lv_iadd hx hb dL_law_943 ?_
  obtain ⟨y4, hy4, h⟩ := mbind_n h
  refine u_iald hC hP hy4 rfl dL_law_944 ?_
  refine lv_if_eq (tgt := 952) hx hb dL_law_945 (by decide) (fun c5 => ?_) (fun c5 => ?_)
  · have h := mif_t c5 h
    refine lv_iconst (v := 0) hx hb dL_law_952 (by decide) ?_
    refine W.cs (cells' := u.1 - u0.1) (slots' := u.2.1 - u0.2.1) (by omega) (by omega) ?_
    exact w_L_law_953 hC hled hR hRm N k23 hk23 zk23 u (some a1) x1 x2 x3 x4 0 y3 y2 x2 s0 h ⟨by omega, by omega⟩ hP hS (lv_sub hl [0, 1, 2, 3, 4] rfl)
  · have h := mif_f c5 h
    refine lv_iconst (v := 1) hx hb dL_law_948 (by decide) ?_
    refine lv_goto (tgt := 953) hx hb dL_law_949 (by decide) ?_
    refine W.cs (cells' := u.1 - u0.1) (slots' := u.2.1 - u0.2.1) (by omega) (by omega) ?_
    exact w_L_law_953 hC hled hR hRm N k23 hk23 zk23 u (some a1) x1 x2 x3 x4 1 y3 y2 x2 s0 h ⟨by omega, by omega⟩ hP hS (lv_sub hl [0, 1, 2, 3, 4] rfl)
def f_L_law_923 (N b : Nat) (g : uEnv) (k23 : UH → Option Nat → Option Nat → Option Nat → Option Nat → Int32 → Option (Int32 × UH)) (u : UH) (x0 : Option Nat) (x1 : Option Nat) (x2 : Option Nat) (x3 : Option Nat) (x4 : Int32) (s0 : Int32) (s1 : Int32) (s2 : Int32) (s3 : Option Nat) : Option (Int32 × UH) :=
    (s3).bind fun a1 =>
    if uIs u a1 0 = true then
    ucall (f_X1_way N b g u a1 s2 s1 s0) fun r5 u3 =>
    f_L_law_926 N b g k23 u3 x0 x1 x2 x3 x4 r5
    else none
set_option maxHeartbeats 4000000 in
set_option maxRecDepth 100000 in
theorem zz_L_law_923 {G : uG} {uf : UH} {r : Int32} (N : Nat) (k23 : UH → Option Nat → Option Nat → Option Nat → Option Nat → Int32 → Option (Int32 × UH)) (hk23 : ∀ (u : UH) (x0 : Option Nat) (x1 : Option Nat) (x2 : Option Nat) (x3 : Option Nat) (x4 : Int32), k23 u x0 x1 x2 x3 x4 = some (r, uf) → u.1 ≤ uf.1 ∧ u.2.1 ≤ uf.2.1) (u : UH) (x0 : Option Nat) (x1 : Option Nat) (x2 : Option Nat) (x3 : Option Nat) (x4 : Int32) (s0 : Int32) (s1 : Int32) (s2 : Int32) (s3 : Option Nat) (h : f_L_law_923 N (ub G) (ug G) k23 u x0 x1 x2 x3 x4 s0 s1 s2 s3 = some (r, uf)) : u.1 ≤ uf.1 ∧ u.2.1 ≤ uf.2.1 := by
  unfold f_L_law_923 at h
  obtain ⟨a1, ha1, hha1⟩ := mbind_n h
  subst ha1
  have h := hha1
  obtain ⟨c2, h⟩ := mif_n h
  obtain ⟨r5, u3, c4, h⟩ := ucall_n h
  have zu3 := zz_X1_way N (ub G) (ug G) u a1 s2 s1 s0 r5 u3 c4
  have hq := zz_L_law_926 (G := G) N k23 hk23 u3 x0 x1 x2 x3 x4 r5 h
  exact ⟨by omega, by omega⟩
set_option maxHeartbeats 4000000 in
set_option maxRecDepth 100000 in
theorem w_L_law_923 {p : Program} {l : Launch} {e : Env} {R : Room} {s : State} {m : MethodId} {args : Array Value} {below : List Frame} {meth : Method} {c : Code} {G : uG} {u0 : UH} {uf : UH} {r : Int32} (hC : uC p s m args meth c G R_law cL_law 7 (some .boolean)) (hled : uLedOK l) (hR : 103 ≤ R.frames ∧ 6080 ≤ R.locals) (hRm : uf.1 - u0.1 ≤ R.cells ∧ uf.2.1 - u0.2.1 ≤ R.slots) (N : Nat) (k23 : UH → Option Nat → Option Nat → Option Nat → Option Nat → Int32 → Option (Int32 × UH)) (hk23 : ∀ (u : UH) (x0 : Option Nat) (x1 : Option Nat) (x2 : Option Nat) (x3 : Option Nat) (x4 : Int32), k23 u x0 x1 x2 x3 x4 = some (r, uf) → (u0.1 ≤ u.1 ∧ u0.2.1 ≤ u.2.1) → ∀ (H : Heap) (locs : List Loc), uP G u H → va_S (uA G) s.heap H locs → ∀ ls : Array Slot, lv_has ls 7 [(0, va_rf x0), (1, va_rf x1), (2, va_rf x2), (3, va_rf x3), (4, .int x4)] → W p l e R s m args below meth c H locs (u.1 - u0.1) (u.2.1 - u0.2.1) (MQ below (uQi G r uf) args s (uf.1 - u0.1) (uf.2.1 - u0.2.1) (uA G)) (F0 m 23 ls [])) (zk23 : ∀ (u : UH) (x0 : Option Nat) (x1 : Option Nat) (x2 : Option Nat) (x3 : Option Nat) (x4 : Int32), k23 u x0 x1 x2 x3 x4 = some (r, uf) → u.1 ≤ uf.1 ∧ u.2.1 ≤ uf.2.1) (u : UH) (x0 : Option Nat) (x1 : Option Nat) (x2 : Option Nat) (x3 : Option Nat) (x4 : Int32) (s0 : Int32) (s1 : Int32) (s2 : Int32) (s3 : Option Nat) (h : f_L_law_923 N (ub G) (ug G) k23 u x0 x1 x2 x3 x4 s0 s1 s2 s3 = some (r, uf)) (hz0 : (u0.1 ≤ u.1 ∧ u0.2.1 ≤ u.2.1)) {H : Heap} {locs : List Loc} (hP : uP G u H) (hS : va_S (uA G) s.heap H locs) {ls : Array Slot} (hl : lv_has ls 7 [(0, va_rf x0), (1, va_rf x1), (2, va_rf x2), (3, va_rf x3), (4, .int x4)]) : W p l e R s m args below meth c H locs (u.1 - u0.1) (u.2.1 - u0.2.1) (MQ below (uQi G r uf) args s (uf.1 - u0.1) (uf.2.1 - u0.2.1) (uA G)) (F0 m 923 ls [.int s0, .int s1, .int s2, va_rf s3]) := by
  obtain ⟨⟨hx, hb, hml, hown, hts⟩, hKK⟩ := id hC
  have hzf := zz_L_law_923 (G := G) N k23 zk23 u x0 x1 x2 x3 x4 s0 s1 s2 s3 h
  unfold f_L_law_923 at h
  obtain ⟨a1, ha1, hha1⟩ := mbind_n h
  subst ha1
  have h := hha1
  obtain ⟨c2, h⟩ := mif_n h
  obtain ⟨r5, u3, c4, h⟩ := ucall_n h
  have zu3 := zz_X1_way N (ub G) (ug G) u a1 s2 s1 s0 r5 u3 c4
  have hq := zz_L_law_926 (G := G) N k23 zk23 u3 x0 x1 x2 x3 x4 r5 h
  refine u_calli (va_runV (As := [.int s2, .int s1, .int s0]) (rest := []) hC.1 (met_X1_way l N G u a1 s2 s1 s0 r5 u3 c4) (cwV 3 hts (lw_V q1446 q1447 q1448 q98 q1449) rfl rfl rfl (by decide +kernel) ⟨Nat.le_trans (Nat.le_of_ble_eq_true rfl) hR.1, Nat.le_trans (Nat.le_of_ble_eq_true rfl) hR.2⟩) ⟨uPc_blind, u_rcv hC hP c2 rfl, fun U hU hW => u_pre hC hP hS hU hW⟩ rfl rfl hl.1 rfl (lv_room (Nat.le_of_ble_eq_true rfl)) dL_law_923 ⟨by omega, by omega⟩) hS (fun H locs hP hS => ?_)
  refine W.cs (cells' := u3.1 - u0.1) (slots' := u3.2.1 - u0.2.1) (by omega) (by omega) ?_
  refine W.cs (cells' := u3.1 - u0.1) (slots' := u3.2.1 - u0.2.1) (by omega) (by omega) ?_
  exact w_L_law_926 hC hled hR hRm N k23 hk23 zk23 u3 x0 x1 x2 x3 x4 r5 h ⟨by omega, by omega⟩ hP hS (lv_sub hl [0, 1, 2, 3, 4] rfl)
def f_L_law_990 (N b : Nat) (g : uEnv) (k23 : UH → Option Nat → Option Nat → Option Nat → Option Nat → Int32 → Option (Int32 × UH)) (u : UH) (x0 : Option Nat) (x1 : Option Nat) (x2 : Option Nat) (x3 : Option Nat) (x4 : Int32) (s0 : Int32) : Option (Int32 × UH) :=
    (x0).bind fun a1 =>
    (uLdI u a1 7 (x4 + 1)).bind fun y2 =>
    (uLdI u a1 7 (x4 + 2)).bind fun y3 =>
    (x2).bind fun a4 =>
    if uIs u a4 2 = true then
    ucall (f_X3_truth N b g u a4 y2 y3) fun r8 u6 =>
    if s0 = r8 then
    f_L_law_1593 N b g k23 u6 (some a1) x1 (some a4) x3 x4
    else
    some (0, u6)
    else none
set_option maxHeartbeats 4000000 in
set_option maxRecDepth 100000 in
theorem zz_L_law_990 {G : uG} {uf : UH} {r : Int32} (N : Nat) (k23 : UH → Option Nat → Option Nat → Option Nat → Option Nat → Int32 → Option (Int32 × UH)) (hk23 : ∀ (u : UH) (x0 : Option Nat) (x1 : Option Nat) (x2 : Option Nat) (x3 : Option Nat) (x4 : Int32), k23 u x0 x1 x2 x3 x4 = some (r, uf) → u.1 ≤ uf.1 ∧ u.2.1 ≤ uf.2.1) (u : UH) (x0 : Option Nat) (x1 : Option Nat) (x2 : Option Nat) (x3 : Option Nat) (x4 : Int32) (s0 : Int32) (h : f_L_law_990 N (ub G) (ug G) k23 u x0 x1 x2 x3 x4 s0 = some (r, uf)) : u.1 ≤ uf.1 ∧ u.2.1 ≤ uf.2.1 := by
  unfold f_L_law_990 at h
  obtain ⟨a1, ha1, hha1⟩ := mbind_n h
  subst ha1
  have h := hha1
  obtain ⟨y2, hy2, h⟩ := mbind_n h
  obtain ⟨y3, hy3, h⟩ := mbind_n h
  obtain ⟨a4, ha4, hha4⟩ := mbind_n h
  subst ha4
  have h := hha4
  obtain ⟨c5, h⟩ := mif_n h
  obtain ⟨r8, u6, c7, h⟩ := ucall_n h
  have zu6 := zz_X3_truth N (ub G) (ug G) u a4 y2 y3 r8 u6 c7
  by_cases c9 : s0 = r8
  · have h := mif_t c9 h
    have hq := zz_L_law_1593 (G := G) N k23 hk23 u6 (some a1) x1 (some a4) x3 x4 h
    exact ⟨by omega, by omega⟩
  · have h := mif_f c9 h
    obtain ⟨hr1, hr2⟩ := uret_n h
    subst hr2
    exact ⟨by omega, by omega⟩
set_option maxHeartbeats 4000000 in
set_option maxRecDepth 100000 in
theorem w_L_law_990 {p : Program} {l : Launch} {e : Env} {R : Room} {s : State} {m : MethodId} {args : Array Value} {below : List Frame} {meth : Method} {c : Code} {G : uG} {u0 : UH} {uf : UH} {r : Int32} (hC : uC p s m args meth c G R_law cL_law 7 (some .boolean)) (hled : uLedOK l) (hR : 103 ≤ R.frames ∧ 6080 ≤ R.locals) (hRm : uf.1 - u0.1 ≤ R.cells ∧ uf.2.1 - u0.2.1 ≤ R.slots) (N : Nat) (k23 : UH → Option Nat → Option Nat → Option Nat → Option Nat → Int32 → Option (Int32 × UH)) (hk23 : ∀ (u : UH) (x0 : Option Nat) (x1 : Option Nat) (x2 : Option Nat) (x3 : Option Nat) (x4 : Int32), k23 u x0 x1 x2 x3 x4 = some (r, uf) → (u0.1 ≤ u.1 ∧ u0.2.1 ≤ u.2.1) → ∀ (H : Heap) (locs : List Loc), uP G u H → va_S (uA G) s.heap H locs → ∀ ls : Array Slot, lv_has ls 7 [(0, va_rf x0), (1, va_rf x1), (2, va_rf x2), (3, va_rf x3), (4, .int x4)] → W p l e R s m args below meth c H locs (u.1 - u0.1) (u.2.1 - u0.2.1) (MQ below (uQi G r uf) args s (uf.1 - u0.1) (uf.2.1 - u0.2.1) (uA G)) (F0 m 23 ls [])) (zk23 : ∀ (u : UH) (x0 : Option Nat) (x1 : Option Nat) (x2 : Option Nat) (x3 : Option Nat) (x4 : Int32), k23 u x0 x1 x2 x3 x4 = some (r, uf) → u.1 ≤ uf.1 ∧ u.2.1 ≤ uf.2.1) (u : UH) (x0 : Option Nat) (x1 : Option Nat) (x2 : Option Nat) (x3 : Option Nat) (x4 : Int32) (s0 : Int32) (h : f_L_law_990 N (ub G) (ug G) k23 u x0 x1 x2 x3 x4 s0 = some (r, uf)) (hz0 : (u0.1 ≤ u.1 ∧ u0.2.1 ≤ u.2.1)) {H : Heap} {locs : List Loc} (hP : uP G u H) (hS : va_S (uA G) s.heap H locs) {ls : Array Slot} (hl : lv_has ls 7 [(0, va_rf x0), (1, va_rf x1), (2, va_rf x2), (3, va_rf x3), (4, .int x4)]) : W p l e R s m args below meth c H locs (u.1 - u0.1) (u.2.1 - u0.2.1) (MQ below (uQi G r uf) args s (uf.1 - u0.1) (uf.2.1 - u0.2.1) (uA G)) (F0 m 990 ls [.int s0]) := by
  obtain ⟨⟨hx, hb, hml, hown, hts⟩, hKK⟩ := id hC
  have hzf := zz_L_law_990 (G := G) N k23 zk23 u x0 x1 x2 x3 x4 s0 h
  unfold f_L_law_990 at h
  refine u_aload_n (r := x2) hx hb dL_law_990 rfl (lv_at hl 2 rfl) ?_
  refine u_aload_n (r := x0) hx hb dL_law_991 rfl (lv_at hl 0 rfl) ?_
  refine lv_iload hx hb dL_law_992 (lv_at hl 4 rfl) ?_
  refine lv_iconst (v := 1) hx hb dL_law_994 (by decide) ?_
  refine lv_iadd hx hb dL_law_995 ?_
  obtain ⟨a1, ha1, hha1⟩ := mbind_n h
  subst ha1
  have h := hha1
  obtain ⟨y2, hy2, h⟩ := mbind_n h
  refine u_iald hC hP hy2 rfl dL_law_996 ?_
  refine u_aload_n (r := some a1) hx hb dL_law_997 rfl (lv_at hl 0 rfl) ?_
  refine lv_iload hx hb dL_law_998 (lv_at hl 4 rfl) ?_
  refine lv_iconst (v := 2) hx hb dL_law_1000 (by decide) ?_
  refine lv_iadd hx hb dL_law_1001 ?_
  obtain ⟨y3, hy3, h⟩ := mbind_n h
  refine u_iald hC hP hy3 rfl dL_law_1002 ?_
  obtain ⟨a4, ha4, hha4⟩ := mbind_n h
  subst ha4
  have h := hha4
  obtain ⟨c5, h⟩ := mif_n h
  obtain ⟨r8, u6, c7, h⟩ := ucall_n h
  have zu6 := zz_X3_truth N (ub G) (ug G) u a4 y2 y3 r8 u6 c7
  refine u_calli (va_runV (As := [.int y2, .int y3]) (rest := [.int s0]) hC.1 (met_X3_truth l N G u a4 y2 y3 r8 u6 c7) (cwV 2 hts (lw_V q2431 q2432 q2433 q103 q2434) rfl rfl rfl (by decide +kernel) ⟨Nat.le_trans (Nat.le_of_ble_eq_true rfl) hR.1, Nat.le_trans (Nat.le_of_ble_eq_true rfl) hR.2⟩) ⟨uPc_blind, u_rcv hC hP c5 rfl, fun U hU hW => u_pre hC hP hS hU hW⟩ rfl rfl hl.1 rfl (lv_room (Nat.le_of_ble_eq_true rfl)) dL_law_1003 ⟨by omega, by omega⟩) hS (fun H locs hP hS => ?_)
  refine W.cs (cells' := u6.1 - u0.1) (slots' := u6.2.1 - u0.2.1) (by omega) (by omega) ?_
  refine lv_icmp_eq (tgt := 1593) hx hb dL_law_1006 (by decide) (fun c9 => ?_) (fun c9 => ?_)
  · have h := mif_t c9 h
    refine W.cs (cells' := u6.1 - u0.1) (slots' := u6.2.1 - u0.2.1) (by omega) (by omega) ?_
    exact w_L_law_1593 hC hled hR hRm N k23 hk23 zk23 u6 (some a1) x1 (some a4) x3 x4 h ⟨by omega, by omega⟩ hP hS (lv_sub hl [0, 1, 2, 3, 4] rfl)
  · have h := mif_f c9 h
    refine lv_iconst (v := 0) hx hb dL_law_1009 (by decide) ?_
    obtain ⟨hr1, hr2⟩ := uret_n h
    subst hr1
    subst hr2
    exact u_zret hC (uFit_n (ty := .boolean) (v := 0) rfl).1 hP hS dL_law_1010
def f_L_law_1074 (N b : Nat) (g : uEnv) (k23 : UH → Option Nat → Option Nat → Option Nat → Option Nat → Int32 → Option (Int32 × UH)) (u : UH) (x0 : Option Nat) (x1 : Option Nat) (x2 : Option Nat) (x3 : Option Nat) (x4 : Int32) (s0 : Int32) (s1 : Int32) (s2 : Int32) (s3 : Option Nat) (s4 : Int32) : Option (Int32 × UH) :=
    (x0).bind fun a1 =>
    (uLdI u a1 7 (x4 + 4)).bind fun y2 =>
    (s3).bind fun a3 =>
    if uIs u a3 2 = true then
    ucall (f_X3_run N b g u a3 s2 s1 s0 y2) fun r7 u5 =>
    if s4 = r7 then
    f_L_law_1593 N b g k23 u5 (some a1) x1 x2 x3 x4
    else
    some (0, u5)
    else none
set_option maxHeartbeats 4000000 in
set_option maxRecDepth 100000 in
theorem zz_L_law_1074 {G : uG} {uf : UH} {r : Int32} (N : Nat) (k23 : UH → Option Nat → Option Nat → Option Nat → Option Nat → Int32 → Option (Int32 × UH)) (hk23 : ∀ (u : UH) (x0 : Option Nat) (x1 : Option Nat) (x2 : Option Nat) (x3 : Option Nat) (x4 : Int32), k23 u x0 x1 x2 x3 x4 = some (r, uf) → u.1 ≤ uf.1 ∧ u.2.1 ≤ uf.2.1) (u : UH) (x0 : Option Nat) (x1 : Option Nat) (x2 : Option Nat) (x3 : Option Nat) (x4 : Int32) (s0 : Int32) (s1 : Int32) (s2 : Int32) (s3 : Option Nat) (s4 : Int32) (h : f_L_law_1074 N (ub G) (ug G) k23 u x0 x1 x2 x3 x4 s0 s1 s2 s3 s4 = some (r, uf)) : u.1 ≤ uf.1 ∧ u.2.1 ≤ uf.2.1 := by
  unfold f_L_law_1074 at h
  obtain ⟨a1, ha1, hha1⟩ := mbind_n h
  subst ha1
  have h := hha1
  obtain ⟨y2, hy2, h⟩ := mbind_n h
  obtain ⟨a3, ha3, hha3⟩ := mbind_n h
  subst ha3
  have h := hha3
  obtain ⟨c4, h⟩ := mif_n h
  obtain ⟨r7, u5, c6, h⟩ := ucall_n h
  have zu5 := zz_X3_run N (ub G) (ug G) u a3 s2 s1 s0 y2 r7 u5 c6
  by_cases c8 : s4 = r7
  · have h := mif_t c8 h
    have hq := zz_L_law_1593 (G := G) N k23 hk23 u5 (some a1) x1 x2 x3 x4 h
    exact ⟨by omega, by omega⟩
  · have h := mif_f c8 h
    obtain ⟨hr1, hr2⟩ := uret_n h
    subst hr2
    exact ⟨by omega, by omega⟩
set_option maxHeartbeats 4000000 in
set_option maxRecDepth 100000 in
theorem w_L_law_1074 {p : Program} {l : Launch} {e : Env} {R : Room} {s : State} {m : MethodId} {args : Array Value} {below : List Frame} {meth : Method} {c : Code} {G : uG} {u0 : UH} {uf : UH} {r : Int32} (hC : uC p s m args meth c G R_law cL_law 7 (some .boolean)) (hled : uLedOK l) (hR : 103 ≤ R.frames ∧ 6080 ≤ R.locals) (hRm : uf.1 - u0.1 ≤ R.cells ∧ uf.2.1 - u0.2.1 ≤ R.slots) (N : Nat) (k23 : UH → Option Nat → Option Nat → Option Nat → Option Nat → Int32 → Option (Int32 × UH)) (hk23 : ∀ (u : UH) (x0 : Option Nat) (x1 : Option Nat) (x2 : Option Nat) (x3 : Option Nat) (x4 : Int32), k23 u x0 x1 x2 x3 x4 = some (r, uf) → (u0.1 ≤ u.1 ∧ u0.2.1 ≤ u.2.1) → ∀ (H : Heap) (locs : List Loc), uP G u H → va_S (uA G) s.heap H locs → ∀ ls : Array Slot, lv_has ls 7 [(0, va_rf x0), (1, va_rf x1), (2, va_rf x2), (3, va_rf x3), (4, .int x4)] → W p l e R s m args below meth c H locs (u.1 - u0.1) (u.2.1 - u0.2.1) (MQ below (uQi G r uf) args s (uf.1 - u0.1) (uf.2.1 - u0.2.1) (uA G)) (F0 m 23 ls [])) (zk23 : ∀ (u : UH) (x0 : Option Nat) (x1 : Option Nat) (x2 : Option Nat) (x3 : Option Nat) (x4 : Int32), k23 u x0 x1 x2 x3 x4 = some (r, uf) → u.1 ≤ uf.1 ∧ u.2.1 ≤ uf.2.1) (u : UH) (x0 : Option Nat) (x1 : Option Nat) (x2 : Option Nat) (x3 : Option Nat) (x4 : Int32) (s0 : Int32) (s1 : Int32) (s2 : Int32) (s3 : Option Nat) (s4 : Int32) (h : f_L_law_1074 N (ub G) (ug G) k23 u x0 x1 x2 x3 x4 s0 s1 s2 s3 s4 = some (r, uf)) (hz0 : (u0.1 ≤ u.1 ∧ u0.2.1 ≤ u.2.1)) {H : Heap} {locs : List Loc} (hP : uP G u H) (hS : va_S (uA G) s.heap H locs) {ls : Array Slot} (hl : lv_has ls 7 [(0, va_rf x0), (1, va_rf x1), (2, va_rf x2), (3, va_rf x3), (4, .int x4)]) : W p l e R s m args below meth c H locs (u.1 - u0.1) (u.2.1 - u0.2.1) (MQ below (uQi G r uf) args s (uf.1 - u0.1) (uf.2.1 - u0.2.1) (uA G)) (F0 m 1074 ls [.int s0, .int s1, .int s2, va_rf s3, .int s4]) := by
  obtain ⟨⟨hx, hb, hml, hown, hts⟩, hKK⟩ := id hC
  have hzf := zz_L_law_1074 (G := G) N k23 zk23 u x0 x1 x2 x3 x4 s0 s1 s2 s3 s4 h
  unfold f_L_law_1074 at h
  refine u_aload_n (r := x0) hx hb dL_law_1074 rfl (lv_at hl 0 rfl) ?_
  refine lv_iload hx hb dL_law_1075 (lv_at hl 4 rfl) ?_
  refine lv_iconst (v := 4) hx hb dL_law_1077 (by decide) ?_
  refine lv_iadd hx hb dL_law_1078 ?_
  obtain ⟨a1, ha1, hha1⟩ := mbind_n h
  subst ha1
  have h := hha1
  obtain ⟨y2, hy2, h⟩ := mbind_n h
  refine u_iald hC hP hy2 rfl dL_law_1079 ?_
  obtain ⟨a3, ha3, hha3⟩ := mbind_n h
  subst ha3
  have h := hha3
  obtain ⟨c4, h⟩ := mif_n h
  obtain ⟨r7, u5, c6, h⟩ := ucall_n h
  have zu5 := zz_X3_run N (ub G) (ug G) u a3 s2 s1 s0 y2 r7 u5 c6
  refine u_calli (va_runV (As := [.int s2, .int s1, .int s0, .int y2]) (rest := [.int s4]) hC.1 (met_X3_run l N G u a3 s2 s1 s0 y2 r7 u5 c6) (cwV 4 hts (lw_V q2439 q2440 q2441 q103 q2442) rfl rfl rfl (by decide +kernel) ⟨Nat.le_trans (Nat.le_of_ble_eq_true rfl) hR.1, Nat.le_trans (Nat.le_of_ble_eq_true rfl) hR.2⟩) ⟨uPc_blind, u_rcv hC hP c4 rfl, fun U hU hW => u_pre hC hP hS hU hW⟩ rfl rfl hl.1 rfl (lv_room (Nat.le_of_ble_eq_true rfl)) dL_law_1080 ⟨by omega, by omega⟩) hS (fun H locs hP hS => ?_)
  refine W.cs (cells' := u5.1 - u0.1) (slots' := u5.2.1 - u0.2.1) (by omega) (by omega) ?_
  refine lv_icmp_eq (tgt := 1593) hx hb dL_law_1083 (by decide) (fun c8 => ?_) (fun c8 => ?_)
  · have h := mif_t c8 h
    refine W.cs (cells' := u5.1 - u0.1) (slots' := u5.2.1 - u0.2.1) (by omega) (by omega) ?_
    exact w_L_law_1593 hC hled hR hRm N k23 hk23 zk23 u5 (some a1) x1 x2 x3 x4 h ⟨by omega, by omega⟩ hP hS (lv_sub hl [0, 1, 2, 3, 4] rfl)
  · have h := mif_f c8 h
    refine lv_iconst (v := 0) hx hb dL_law_1086 (by decide) ?_
    obtain ⟨hr1, hr2⟩ := uret_n h
    subst hr1
    subst hr2
    exact u_zret hC (uFit_n (ty := .boolean) (v := 0) rfl).1 hP hS dL_law_1087
def f_L_law_1047 (N b : Nat) (g : uEnv) (k23 : UH → Option Nat → Option Nat → Option Nat → Option Nat → Int32 → Option (Int32 × UH)) (u : UH) (x0 : Option Nat) (x1 : Option Nat) (x2 : Option Nat) (x3 : Option Nat) (x4 : Int32) (s0 : Int32) : Option (Int32 × UH) :=
    (x0).bind fun a1 =>
    (uLdI u a1 7 (x4 + 1)).bind fun y2 =>
    (uLdI u a1 7 (x4 + 2)).bind fun y3 =>
    (uLdI u a1 7 (x4 + 3)).bind fun y4 =>
    if y4 = 0 then
    f_L_law_1074 N b g k23 u (some a1) x1 x2 x3 x4 0 y3 y2 x2 s0
    else
    f_L_law_1074 N b g k23 u (some a1) x1 x2 x3 x4 1 y3 y2 x2 s0
set_option maxHeartbeats 4000000 in
set_option maxRecDepth 100000 in
theorem zz_L_law_1047 {G : uG} {uf : UH} {r : Int32} (N : Nat) (k23 : UH → Option Nat → Option Nat → Option Nat → Option Nat → Int32 → Option (Int32 × UH)) (hk23 : ∀ (u : UH) (x0 : Option Nat) (x1 : Option Nat) (x2 : Option Nat) (x3 : Option Nat) (x4 : Int32), k23 u x0 x1 x2 x3 x4 = some (r, uf) → u.1 ≤ uf.1 ∧ u.2.1 ≤ uf.2.1) (u : UH) (x0 : Option Nat) (x1 : Option Nat) (x2 : Option Nat) (x3 : Option Nat) (x4 : Int32) (s0 : Int32) (h : f_L_law_1047 N (ub G) (ug G) k23 u x0 x1 x2 x3 x4 s0 = some (r, uf)) : u.1 ≤ uf.1 ∧ u.2.1 ≤ uf.2.1 := by
  unfold f_L_law_1047 at h
  obtain ⟨a1, ha1, hha1⟩ := mbind_n h
  subst ha1
  have h := hha1
  obtain ⟨y2, hy2, h⟩ := mbind_n h
  obtain ⟨y3, hy3, h⟩ := mbind_n h
  obtain ⟨y4, hy4, h⟩ := mbind_n h
  by_cases c5 : y4 = 0
  · have h := mif_t c5 h
    have hq := zz_L_law_1074 (G := G) N k23 hk23 u (some a1) x1 x2 x3 x4 0 y3 y2 x2 s0 h
    exact ⟨by omega, by omega⟩
  · have h := mif_f c5 h
    have hq := zz_L_law_1074 (G := G) N k23 hk23 u (some a1) x1 x2 x3 x4 1 y3 y2 x2 s0 h
    exact ⟨by omega, by omega⟩
set_option maxHeartbeats 4000000 in
set_option maxRecDepth 100000 in
theorem w_L_law_1047 {p : Program} {l : Launch} {e : Env} {R : Room} {s : State} {m : MethodId} {args : Array Value} {below : List Frame} {meth : Method} {c : Code} {G : uG} {u0 : UH} {uf : UH} {r : Int32} (hC : uC p s m args meth c G R_law cL_law 7 (some .boolean)) (hled : uLedOK l) (hR : 103 ≤ R.frames ∧ 6080 ≤ R.locals) (hRm : uf.1 - u0.1 ≤ R.cells ∧ uf.2.1 - u0.2.1 ≤ R.slots) (N : Nat) (k23 : UH → Option Nat → Option Nat → Option Nat → Option Nat → Int32 → Option (Int32 × UH)) (hk23 : ∀ (u : UH) (x0 : Option Nat) (x1 : Option Nat) (x2 : Option Nat) (x3 : Option Nat) (x4 : Int32), k23 u x0 x1 x2 x3 x4 = some (r, uf) → (u0.1 ≤ u.1 ∧ u0.2.1 ≤ u.2.1) → ∀ (H : Heap) (locs : List Loc), uP G u H → va_S (uA G) s.heap H locs → ∀ ls : Array Slot, lv_has ls 7 [(0, va_rf x0), (1, va_rf x1), (2, va_rf x2), (3, va_rf x3), (4, .int x4)] → W p l e R s m args below meth c H locs (u.1 - u0.1) (u.2.1 - u0.2.1) (MQ below (uQi G r uf) args s (uf.1 - u0.1) (uf.2.1 - u0.2.1) (uA G)) (F0 m 23 ls [])) (zk23 : ∀ (u : UH) (x0 : Option Nat) (x1 : Option Nat) (x2 : Option Nat) (x3 : Option Nat) (x4 : Int32), k23 u x0 x1 x2 x3 x4 = some (r, uf) → u.1 ≤ uf.1 ∧ u.2.1 ≤ uf.2.1) (u : UH) (x0 : Option Nat) (x1 : Option Nat) (x2 : Option Nat) (x3 : Option Nat) (x4 : Int32) (s0 : Int32) (h : f_L_law_1047 N (ub G) (ug G) k23 u x0 x1 x2 x3 x4 s0 = some (r, uf)) (hz0 : (u0.1 ≤ u.1 ∧ u0.2.1 ≤ u.2.1)) {H : Heap} {locs : List Loc} (hP : uP G u H) (hS : va_S (uA G) s.heap H locs) {ls : Array Slot} (hl : lv_has ls 7 [(0, va_rf x0), (1, va_rf x1), (2, va_rf x2), (3, va_rf x3), (4, .int x4)]) : W p l e R s m args below meth c H locs (u.1 - u0.1) (u.2.1 - u0.2.1) (MQ below (uQi G r uf) args s (uf.1 - u0.1) (uf.2.1 - u0.2.1) (uA G)) (F0 m 1047 ls [.int s0]) := by
  obtain ⟨⟨hx, hb, hml, hown, hts⟩, hKK⟩ := id hC
  have hzf := zz_L_law_1047 (G := G) N k23 zk23 u x0 x1 x2 x3 x4 s0 h
  unfold f_L_law_1047 at h
  refine u_aload_n (r := x2) hx hb dL_law_1047 rfl (lv_at hl 2 rfl) ?_
  refine u_aload_n (r := x0) hx hb dL_law_1048 rfl (lv_at hl 0 rfl) ?_
  refine lv_iload hx hb dL_law_1049 (lv_at hl 4 rfl) ?_
  refine lv_iconst (v := 1) hx hb dL_law_1051 (by decide) ?_
  refine lv_iadd hx hb dL_law_1052 ?_
  obtain ⟨a1, ha1, hha1⟩ := mbind_n h
  subst ha1
  have h := hha1
  obtain ⟨y2, hy2, h⟩ := mbind_n h
  refine u_iald hC hP hy2 rfl dL_law_1053 ?_
  refine u_aload_n (r := some a1) hx hb dL_law_1054 rfl (lv_at hl 0 rfl) ?_
  refine lv_iload hx hb dL_law_1055 (lv_at hl 4 rfl) ?_
  refine lv_iconst (v := 2) hx hb dL_law_1057 (by decide) ?_
  refine lv_iadd hx hb dL_law_1058 ?_
  obtain ⟨y3, hy3, h⟩ := mbind_n h
  refine u_iald hC hP hy3 rfl dL_law_1059 ?_
  refine u_aload_n (r := some a1) hx hb dL_law_1060 rfl (lv_at hl 0 rfl) ?_
  refine lv_iload hx hb dL_law_1061 (lv_at hl 4 rfl) ?_
  refine lv_iconst (v := 3) hx hb dL_law_1063 (by decide) ?_
  refine lv_iadd hx hb dL_law_1064 ?_
  obtain ⟨y4, hy4, h⟩ := mbind_n h
  refine u_iald hC hP hy4 rfl dL_law_1065 ?_
  refine lv_if_eq (tgt := 1073) hx hb dL_law_1066 (by decide) (fun c5 => ?_) (fun c5 => ?_)
  · have h := mif_t c5 h
    refine lv_iconst (v := 0) hx hb dL_law_1073 (by decide) ?_
    refine W.cs (cells' := u.1 - u0.1) (slots' := u.2.1 - u0.2.1) (by omega) (by omega) ?_
    exact w_L_law_1074 hC hled hR hRm N k23 hk23 zk23 u (some a1) x1 x2 x3 x4 0 y3 y2 x2 s0 h ⟨by omega, by omega⟩ hP hS (lv_sub hl [0, 1, 2, 3, 4] rfl)
  · have h := mif_f c5 h
    refine lv_iconst (v := 1) hx hb dL_law_1069 (by decide) ?_
    refine lv_goto (tgt := 1074) hx hb dL_law_1070 (by decide) ?_
    refine W.cs (cells' := u.1 - u0.1) (slots' := u.2.1 - u0.2.1) (by omega) (by omega) ?_
    exact w_L_law_1074 hC hled hR hRm N k23 hk23 zk23 u (some a1) x1 x2 x3 x4 1 y3 y2 x2 s0 h ⟨by omega, by omega⟩ hP hS (lv_sub hl [0, 1, 2, 3, 4] rfl)
def f_L_law_1038 (N b : Nat) (g : uEnv) (k23 : UH → Option Nat → Option Nat → Option Nat → Option Nat → Int32 → Option (Int32 × UH)) (u : UH) (x0 : Option Nat) (x1 : Option Nat) (x2 : Option Nat) (x3 : Option Nat) (x4 : Int32) (s0 : Int32) (s1 : Int32) (s2 : Int32) (s3 : Option Nat) : Option (Int32 × UH) :=
    (x0).bind fun a1 =>
    (uLdI u a1 7 (x4 + 4)).bind fun y2 =>
    (s3).bind fun a3 =>
    if uIs u a3 0 = true then
    ucall (f_X1_run N b g u a3 s2 s1 s0 y2) fun r7 u5 =>
    f_L_law_1047 N b g k23 u5 (some a1) x1 x2 x3 x4 r7
    else none
set_option maxHeartbeats 4000000 in
set_option maxRecDepth 100000 in
theorem zz_L_law_1038 {G : uG} {uf : UH} {r : Int32} (N : Nat) (k23 : UH → Option Nat → Option Nat → Option Nat → Option Nat → Int32 → Option (Int32 × UH)) (hk23 : ∀ (u : UH) (x0 : Option Nat) (x1 : Option Nat) (x2 : Option Nat) (x3 : Option Nat) (x4 : Int32), k23 u x0 x1 x2 x3 x4 = some (r, uf) → u.1 ≤ uf.1 ∧ u.2.1 ≤ uf.2.1) (u : UH) (x0 : Option Nat) (x1 : Option Nat) (x2 : Option Nat) (x3 : Option Nat) (x4 : Int32) (s0 : Int32) (s1 : Int32) (s2 : Int32) (s3 : Option Nat) (h : f_L_law_1038 N (ub G) (ug G) k23 u x0 x1 x2 x3 x4 s0 s1 s2 s3 = some (r, uf)) : u.1 ≤ uf.1 ∧ u.2.1 ≤ uf.2.1 := by
  unfold f_L_law_1038 at h
  obtain ⟨a1, ha1, hha1⟩ := mbind_n h
  subst ha1
  have h := hha1
  obtain ⟨y2, hy2, h⟩ := mbind_n h
  obtain ⟨a3, ha3, hha3⟩ := mbind_n h
  subst ha3
  have h := hha3
  obtain ⟨c4, h⟩ := mif_n h
  obtain ⟨r7, u5, c6, h⟩ := ucall_n h
  have zu5 := zz_X1_run N (ub G) (ug G) u a3 s2 s1 s0 y2 r7 u5 c6
  have hq := zz_L_law_1047 (G := G) N k23 hk23 u5 (some a1) x1 x2 x3 x4 r7 h
  exact ⟨by omega, by omega⟩
set_option maxHeartbeats 4000000 in
set_option maxRecDepth 100000 in
theorem w_L_law_1038 {p : Program} {l : Launch} {e : Env} {R : Room} {s : State} {m : MethodId} {args : Array Value} {below : List Frame} {meth : Method} {c : Code} {G : uG} {u0 : UH} {uf : UH} {r : Int32} (hC : uC p s m args meth c G R_law cL_law 7 (some .boolean)) (hled : uLedOK l) (hR : 103 ≤ R.frames ∧ 6080 ≤ R.locals) (hRm : uf.1 - u0.1 ≤ R.cells ∧ uf.2.1 - u0.2.1 ≤ R.slots) (N : Nat) (k23 : UH → Option Nat → Option Nat → Option Nat → Option Nat → Int32 → Option (Int32 × UH)) (hk23 : ∀ (u : UH) (x0 : Option Nat) (x1 : Option Nat) (x2 : Option Nat) (x3 : Option Nat) (x4 : Int32), k23 u x0 x1 x2 x3 x4 = some (r, uf) → (u0.1 ≤ u.1 ∧ u0.2.1 ≤ u.2.1) → ∀ (H : Heap) (locs : List Loc), uP G u H → va_S (uA G) s.heap H locs → ∀ ls : Array Slot, lv_has ls 7 [(0, va_rf x0), (1, va_rf x1), (2, va_rf x2), (3, va_rf x3), (4, .int x4)] → W p l e R s m args below meth c H locs (u.1 - u0.1) (u.2.1 - u0.2.1) (MQ below (uQi G r uf) args s (uf.1 - u0.1) (uf.2.1 - u0.2.1) (uA G)) (F0 m 23 ls [])) (zk23 : ∀ (u : UH) (x0 : Option Nat) (x1 : Option Nat) (x2 : Option Nat) (x3 : Option Nat) (x4 : Int32), k23 u x0 x1 x2 x3 x4 = some (r, uf) → u.1 ≤ uf.1 ∧ u.2.1 ≤ uf.2.1) (u : UH) (x0 : Option Nat) (x1 : Option Nat) (x2 : Option Nat) (x3 : Option Nat) (x4 : Int32) (s0 : Int32) (s1 : Int32) (s2 : Int32) (s3 : Option Nat) (h : f_L_law_1038 N (ub G) (ug G) k23 u x0 x1 x2 x3 x4 s0 s1 s2 s3 = some (r, uf)) (hz0 : (u0.1 ≤ u.1 ∧ u0.2.1 ≤ u.2.1)) {H : Heap} {locs : List Loc} (hP : uP G u H) (hS : va_S (uA G) s.heap H locs) {ls : Array Slot} (hl : lv_has ls 7 [(0, va_rf x0), (1, va_rf x1), (2, va_rf x2), (3, va_rf x3), (4, .int x4)]) : W p l e R s m args below meth c H locs (u.1 - u0.1) (u.2.1 - u0.2.1) (MQ below (uQi G r uf) args s (uf.1 - u0.1) (uf.2.1 - u0.2.1) (uA G)) (F0 m 1038 ls [.int s0, .int s1, .int s2, va_rf s3]) := by
  obtain ⟨⟨hx, hb, hml, hown, hts⟩, hKK⟩ := id hC
  have hzf := zz_L_law_1038 (G := G) N k23 zk23 u x0 x1 x2 x3 x4 s0 s1 s2 s3 h
  unfold f_L_law_1038 at h
  refine u_aload_n (r := x0) hx hb dL_law_1038 rfl (lv_at hl 0 rfl) ?_
  refine lv_iload hx hb dL_law_1039 (lv_at hl 4 rfl) ?_
  refine lv_iconst (v := 4) hx hb dL_law_1041 (by decide) ?_
  refine lv_iadd hx hb dL_law_1042 ?_
  obtain ⟨a1, ha1, hha1⟩ := mbind_n h
  subst ha1
  have h := hha1
  obtain ⟨y2, hy2, h⟩ := mbind_n h
  refine u_iald hC hP hy2 rfl dL_law_1043 ?_
  obtain ⟨a3, ha3, hha3⟩ := mbind_n h
  subst ha3
  have h := hha3
  obtain ⟨c4, h⟩ := mif_n h
  obtain ⟨r7, u5, c6, h⟩ := ucall_n h
  have zu5 := zz_X1_run N (ub G) (ug G) u a3 s2 s1 s0 y2 r7 u5 c6
  have hq := zz_L_law_1047 (G := G) N k23 zk23 u5 (some a1) x1 x2 x3 x4 r7 h
  refine u_calli (va_runV (As := [.int s2, .int s1, .int s0, .int y2]) (rest := []) hC.1 (met_X1_run l N G u a3 s2 s1 s0 y2 r7 u5 c6) (cwV 4 hts (lw_V q1479 q1480 q1481 q98 q1482) rfl rfl rfl (by decide +kernel) ⟨Nat.le_trans (Nat.le_of_ble_eq_true rfl) hR.1, Nat.le_trans (Nat.le_of_ble_eq_true rfl) hR.2⟩) ⟨uPc_blind, u_rcv hC hP c4 rfl, fun U hU hW => u_pre hC hP hS hU hW⟩ rfl rfl hl.1 rfl (lv_room (Nat.le_of_ble_eq_true rfl)) dL_law_1044 ⟨by omega, by omega⟩) hS (fun H locs hP hS => ?_)
  refine W.cs (cells' := u5.1 - u0.1) (slots' := u5.2.1 - u0.2.1) (by omega) (by omega) ?_
  refine W.cs (cells' := u5.1 - u0.1) (slots' := u5.2.1 - u0.2.1) (by omega) (by omega) ?_
  exact w_L_law_1047 hC hled hR hRm N k23 hk23 zk23 u5 (some a1) x1 x2 x3 x4 r7 h ⟨by omega, by omega⟩ hP hS (lv_sub hl [0, 1, 2, 3, 4] rfl)
def f_L_law_1141 (N b : Nat) (g : uEnv) (k23 : UH → Option Nat → Option Nat → Option Nat → Option Nat → Int32 → Option (Int32 × UH)) (u : UH) (x0 : Option Nat) (x1 : Option Nat) (x2 : Option Nat) (x3 : Option Nat) (x4 : Int32) : Option (Int32 × UH) :=
    f_L_law_1593 N b g k23 u x0 x1 x2 x3 x4
set_option maxHeartbeats 4000000 in
set_option maxRecDepth 100000 in
theorem zz_L_law_1141 {G : uG} {uf : UH} {r : Int32} (N : Nat) (k23 : UH → Option Nat → Option Nat → Option Nat → Option Nat → Int32 → Option (Int32 × UH)) (hk23 : ∀ (u : UH) (x0 : Option Nat) (x1 : Option Nat) (x2 : Option Nat) (x3 : Option Nat) (x4 : Int32), k23 u x0 x1 x2 x3 x4 = some (r, uf) → u.1 ≤ uf.1 ∧ u.2.1 ≤ uf.2.1) (u : UH) (x0 : Option Nat) (x1 : Option Nat) (x2 : Option Nat) (x3 : Option Nat) (x4 : Int32) (h : f_L_law_1141 N (ub G) (ug G) k23 u x0 x1 x2 x3 x4 = some (r, uf)) : u.1 ≤ uf.1 ∧ u.2.1 ≤ uf.2.1 := by
  unfold f_L_law_1141 at h
  have hq := zz_L_law_1593 (G := G) N k23 hk23 u x0 x1 x2 x3 x4 h
  exact ⟨by omega, by omega⟩
set_option maxHeartbeats 4000000 in
set_option maxRecDepth 100000 in
theorem w_L_law_1141 {p : Program} {l : Launch} {e : Env} {R : Room} {s : State} {m : MethodId} {args : Array Value} {below : List Frame} {meth : Method} {c : Code} {G : uG} {u0 : UH} {uf : UH} {r : Int32} (hC : uC p s m args meth c G R_law cL_law 7 (some .boolean)) (hled : uLedOK l) (hR : 103 ≤ R.frames ∧ 6080 ≤ R.locals) (hRm : uf.1 - u0.1 ≤ R.cells ∧ uf.2.1 - u0.2.1 ≤ R.slots) (N : Nat) (k23 : UH → Option Nat → Option Nat → Option Nat → Option Nat → Int32 → Option (Int32 × UH)) (hk23 : ∀ (u : UH) (x0 : Option Nat) (x1 : Option Nat) (x2 : Option Nat) (x3 : Option Nat) (x4 : Int32), k23 u x0 x1 x2 x3 x4 = some (r, uf) → (u0.1 ≤ u.1 ∧ u0.2.1 ≤ u.2.1) → ∀ (H : Heap) (locs : List Loc), uP G u H → va_S (uA G) s.heap H locs → ∀ ls : Array Slot, lv_has ls 7 [(0, va_rf x0), (1, va_rf x1), (2, va_rf x2), (3, va_rf x3), (4, .int x4)] → W p l e R s m args below meth c H locs (u.1 - u0.1) (u.2.1 - u0.2.1) (MQ below (uQi G r uf) args s (uf.1 - u0.1) (uf.2.1 - u0.2.1) (uA G)) (F0 m 23 ls [])) (zk23 : ∀ (u : UH) (x0 : Option Nat) (x1 : Option Nat) (x2 : Option Nat) (x3 : Option Nat) (x4 : Int32), k23 u x0 x1 x2 x3 x4 = some (r, uf) → u.1 ≤ uf.1 ∧ u.2.1 ≤ uf.2.1) (u : UH) (x0 : Option Nat) (x1 : Option Nat) (x2 : Option Nat) (x3 : Option Nat) (x4 : Int32) (h : f_L_law_1141 N (ub G) (ug G) k23 u x0 x1 x2 x3 x4 = some (r, uf)) (hz0 : (u0.1 ≤ u.1 ∧ u0.2.1 ≤ u.2.1)) {H : Heap} {locs : List Loc} (hP : uP G u H) (hS : va_S (uA G) s.heap H locs) {ls : Array Slot} (hl : lv_has ls 7 [(0, va_rf x0), (1, va_rf x1), (2, va_rf x2), (3, va_rf x3), (4, .int x4)]) : W p l e R s m args below meth c H locs (u.1 - u0.1) (u.2.1 - u0.2.1) (MQ below (uQi G r uf) args s (uf.1 - u0.1) (uf.2.1 - u0.2.1) (uA G)) (F0 m 1141 ls []) := by
  obtain ⟨⟨hx, hb, hml, hown, hts⟩, hKK⟩ := id hC
  have hzf := zz_L_law_1141 (G := G) N k23 zk23 u x0 x1 x2 x3 x4 h
  unfold f_L_law_1141 at h
  refine lv_goto (tgt := 1593) hx hb dL_law_1141 (by decide) ?_
  refine W.cs (cells' := u.1 - u0.1) (slots' := u.2.1 - u0.2.1) (by omega) (by omega) ?_
  exact w_L_law_1593 hC hled hR hRm N k23 hk23 zk23 u x0 x1 x2 x3 x4 h ⟨by omega, by omega⟩ hP hS (lv_sub hl [0, 1, 2, 3, 4] rfl)
def f_L_law_1099 (N b : Nat) (g : uEnv) (k23 : UH → Option Nat → Option Nat → Option Nat → Option Nat → Int32 → Option (Int32 × UH)) (u : UH) (x0 : Option Nat) (x1 : Option Nat) (x2 : Option Nat) (x3 : Option Nat) (x4 : Int32) (s0 : Int32) : Option (Int32 × UH) :=
    (x0).bind fun a1 =>
    (uLdI u a1 7 (x4 + 1)).bind fun y2 =>
    (x2).bind fun a3 =>
    if uIs u a3 2 = true then
    ucall (f_X3_led N b g u a3 y2) fun r7 u5 =>
    if uIs u5 a3 2 = true then
    ucall (f_X3_thrown N b g u5 a3) fun r11 u9 =>
    if r11 = s0 then
    if s0 = 0 then
    (x3).bind fun a14 =>
    (uLdL u9 a14 3 0).bind fun y15 =>
    if (lg_cmp y15 (r7.toInt64)) = 0 then
    f_L_law_1141 N b g k23 u9 (some a1) x1 (some a3) (some a14) x4
    else
    some (0, u9)
    else
    f_L_law_1141 N b g k23 u9 (some a1) x1 (some a3) x3 x4
    else
    some (0, u9)
    else none
    else none
set_option maxHeartbeats 4000000 in
set_option maxRecDepth 100000 in
theorem zz_L_law_1099 {G : uG} {uf : UH} {r : Int32} (N : Nat) (k23 : UH → Option Nat → Option Nat → Option Nat → Option Nat → Int32 → Option (Int32 × UH)) (hk23 : ∀ (u : UH) (x0 : Option Nat) (x1 : Option Nat) (x2 : Option Nat) (x3 : Option Nat) (x4 : Int32), k23 u x0 x1 x2 x3 x4 = some (r, uf) → u.1 ≤ uf.1 ∧ u.2.1 ≤ uf.2.1) (u : UH) (x0 : Option Nat) (x1 : Option Nat) (x2 : Option Nat) (x3 : Option Nat) (x4 : Int32) (s0 : Int32) (h : f_L_law_1099 N (ub G) (ug G) k23 u x0 x1 x2 x3 x4 s0 = some (r, uf)) : u.1 ≤ uf.1 ∧ u.2.1 ≤ uf.2.1 := by
  unfold f_L_law_1099 at h
  obtain ⟨a1, ha1, hha1⟩ := mbind_n h
  subst ha1
  have h := hha1
  obtain ⟨y2, hy2, h⟩ := mbind_n h
  obtain ⟨a3, ha3, hha3⟩ := mbind_n h
  subst ha3
  have h := hha3
  obtain ⟨c4, h⟩ := mif_n h
  obtain ⟨r7, u5, c6, h⟩ := ucall_n h
  have zu5 := zz_X3_led N (ub G) (ug G) u a3 y2 r7 u5 c6
  obtain ⟨c8, h⟩ := mif_n h
  obtain ⟨r11, u9, c10, h⟩ := ucall_n h
  have zu9 := zz_X3_thrown N (ub G) (ug G) u5 a3 r11 u9 c10
  by_cases c12 : r11 = s0
  · have h := mif_t c12 h
    by_cases c13 : s0 = 0
    · have h := mif_t c13 h
      obtain ⟨a14, ha14, hha14⟩ := mbind_n h
      subst ha14
      have h := hha14
      obtain ⟨y15, hy15, h⟩ := mbind_n h
      by_cases c16 : (lg_cmp y15 (r7.toInt64)) = 0
      · have h := mif_t c16 h
        have hq := zz_L_law_1141 (G := G) N k23 hk23 u9 (some a1) x1 (some a3) (some a14) x4 h
        exact ⟨by omega, by omega⟩
      · have h := mif_f c16 h
        obtain ⟨hr1, hr2⟩ := uret_n h
        subst hr2
        exact ⟨by omega, by omega⟩
    · have h := mif_f c13 h
      have hq := zz_L_law_1141 (G := G) N k23 hk23 u9 (some a1) x1 (some a3) x3 x4 h
      exact ⟨by omega, by omega⟩
  · have h := mif_f c12 h
    obtain ⟨hr1, hr2⟩ := uret_n h
    subst hr2
    exact ⟨by omega, by omega⟩
set_option maxHeartbeats 4000000 in
set_option maxRecDepth 100000 in
theorem w_L_law_1099 {p : Program} {l : Launch} {e : Env} {R : Room} {s : State} {m : MethodId} {args : Array Value} {below : List Frame} {meth : Method} {c : Code} {G : uG} {u0 : UH} {uf : UH} {r : Int32} (hC : uC p s m args meth c G R_law cL_law 7 (some .boolean)) (hled : uLedOK l) (hR : 103 ≤ R.frames ∧ 6080 ≤ R.locals) (hRm : uf.1 - u0.1 ≤ R.cells ∧ uf.2.1 - u0.2.1 ≤ R.slots) (N : Nat) (k23 : UH → Option Nat → Option Nat → Option Nat → Option Nat → Int32 → Option (Int32 × UH)) (hk23 : ∀ (u : UH) (x0 : Option Nat) (x1 : Option Nat) (x2 : Option Nat) (x3 : Option Nat) (x4 : Int32), k23 u x0 x1 x2 x3 x4 = some (r, uf) → (u0.1 ≤ u.1 ∧ u0.2.1 ≤ u.2.1) → ∀ (H : Heap) (locs : List Loc), uP G u H → va_S (uA G) s.heap H locs → ∀ ls : Array Slot, lv_has ls 7 [(0, va_rf x0), (1, va_rf x1), (2, va_rf x2), (3, va_rf x3), (4, .int x4)] → W p l e R s m args below meth c H locs (u.1 - u0.1) (u.2.1 - u0.2.1) (MQ below (uQi G r uf) args s (uf.1 - u0.1) (uf.2.1 - u0.2.1) (uA G)) (F0 m 23 ls [])) (zk23 : ∀ (u : UH) (x0 : Option Nat) (x1 : Option Nat) (x2 : Option Nat) (x3 : Option Nat) (x4 : Int32), k23 u x0 x1 x2 x3 x4 = some (r, uf) → u.1 ≤ uf.1 ∧ u.2.1 ≤ uf.2.1) (u : UH) (x0 : Option Nat) (x1 : Option Nat) (x2 : Option Nat) (x3 : Option Nat) (x4 : Int32) (s0 : Int32) (h : f_L_law_1099 N (ub G) (ug G) k23 u x0 x1 x2 x3 x4 s0 = some (r, uf)) (hz0 : (u0.1 ≤ u.1 ∧ u0.2.1 ≤ u.2.1)) {H : Heap} {locs : List Loc} (hP : uP G u H) (hS : va_S (uA G) s.heap H locs) {ls : Array Slot} (hl : lv_has ls 7 [(0, va_rf x0), (1, va_rf x1), (2, va_rf x2), (3, va_rf x3), (4, .int x4)]) : W p l e R s m args below meth c H locs (u.1 - u0.1) (u.2.1 - u0.2.1) (MQ below (uQi G r uf) args s (uf.1 - u0.1) (uf.2.1 - u0.2.1) (uA G)) (F0 m 1099 ls [.int s0]) := by
  obtain ⟨⟨hx, hb, hml, hown, hts⟩, hKK⟩ := id hC
  have hzf := zz_L_law_1099 (G := G) N k23 zk23 u x0 x1 x2 x3 x4 s0 h
  unfold f_L_law_1099 at h
  refine lv_istore (lv' := [(5, .int s0), (0, va_rf x0), (1, va_rf x1), (2, va_rf x2), (3, va_rf x3), (4, .int x4)]) hx hb dL_law_1099 hl (by decide) rfl (fun ls hl => ?_)
  refine u_aload_n (r := x2) hx hb dL_law_1101 rfl (lv_at hl 3 rfl) ?_
  refine u_aload_n (r := x0) hx hb dL_law_1102 rfl (lv_at hl 1 rfl) ?_
  refine lv_iload hx hb dL_law_1103 (lv_at hl 5 rfl) ?_
  refine lv_iconst (v := 1) hx hb dL_law_1105 (by decide) ?_
  refine lv_iadd hx hb dL_law_1106 ?_
  obtain ⟨a1, ha1, hha1⟩ := mbind_n h
  subst ha1
  have h := hha1
  obtain ⟨y2, hy2, h⟩ := mbind_n h
  refine u_iald hC hP hy2 rfl dL_law_1107 ?_
  obtain ⟨a3, ha3, hha3⟩ := mbind_n h
  subst ha3
  have h := hha3
  obtain ⟨c4, h⟩ := mif_n h
  obtain ⟨r7, u5, c6, h⟩ := ucall_n h
  have zu5 := zz_X3_led N (ub G) (ug G) u a3 y2 r7 u5 c6
  refine u_calli (va_runV (As := [.int y2]) (rest := []) hC.1 (met_X3_led l N G u a3 y2 r7 u5 c6) (cwV 1 hts (lw_V q2451 q2452 q2453 q103 q2454) rfl rfl rfl (by decide +kernel) ⟨Nat.le_trans (Nat.le_of_ble_eq_true rfl) hR.1, Nat.le_trans (Nat.le_of_ble_eq_true rfl) hR.2⟩) ⟨uPc_blind, u_rcv hC hP c4 rfl, fun U hU hW => u_pre hC hP hS hU hW⟩ rfl rfl hl.1 rfl (lv_room (Nat.le_of_ble_eq_true rfl)) dL_law_1108 ⟨by omega, by omega⟩) hS (fun H locs hP hS => ?_)
  refine W.cs (cells' := u5.1 - u0.1) (slots' := u5.2.1 - u0.2.1) (by omega) (by omega) ?_
  refine lv_istore (lv' := [(6, .int r7), (5, .int s0), (0, va_rf (some a1)), (1, va_rf x1), (2, va_rf (some a3)), (3, va_rf x3), (4, .int x4)]) hx hb dL_law_1111 hl (by decide) rfl (fun ls hl => ?_)
  refine u_aload_n (r := some a3) hx hb dL_law_1113 rfl (lv_at hl 4 rfl) ?_
  obtain ⟨c8, h⟩ := mif_n h
  obtain ⟨r11, u9, c10, h⟩ := ucall_n h
  have zu9 := zz_X3_thrown N (ub G) (ug G) u5 a3 r11 u9 c10
  refine u_calli (va_runV (As := []) (rest := []) hC.1 (met_X3_thrown l N G u5 a3 r11 u9 c10) (cwV 0 hts (lw_V q2119 q2120 q2121 q103 q2122) rfl rfl rfl (by decide +kernel) ⟨Nat.le_trans (Nat.le_of_ble_eq_true rfl) hR.1, Nat.le_trans (Nat.le_of_ble_eq_true rfl) hR.2⟩) ⟨uPc_blind, u_rcv hC hP c8 rfl, fun U hU hW => u_pre hC hP hS hU hW⟩ rfl rfl hl.1 rfl (lv_room (Nat.le_of_ble_eq_true rfl)) dL_law_1114 ⟨by omega, by omega⟩) hS (fun H locs hP hS => ?_)
  refine W.cs (cells' := u9.1 - u0.1) (slots' := u9.2.1 - u0.2.1) (by omega) (by omega) ?_
  refine lv_iload hx hb dL_law_1117 (lv_at hl 1 rfl) ?_
  refine lv_icmp_eq (tgt := 1124) hx hb dL_law_1119 (by decide) (fun c12 => ?_) (fun c12 => ?_)
  · have h := mif_t c12 h
    refine lv_iload hx hb dL_law_1124 (lv_at hl 1 rfl) ?_
    refine lv_if_ne (tgt := 1141) hx hb dL_law_1126 (by decide) (fun c13 => ?_) (fun c13 => ?_)
    · have h := mif_f c13 h
      refine W.cs (cells' := u9.1 - u0.1) (slots' := u9.2.1 - u0.2.1) (by omega) (by omega) ?_
      exact w_L_law_1141 hC hled hR hRm N k23 hk23 zk23 u9 (some a1) x1 (some a3) x3 x4 h ⟨by omega, by omega⟩ hP hS (lv_sub hl [2, 3, 4, 5, 6] rfl)
    · have h := mif_t c13 h
      refine u_aload_n (r := x3) hx hb dL_law_1129 rfl (lv_at hl 5 rfl) ?_
      refine lv_iconst (v := 0) hx hb dL_law_1130 (by decide) ?_
      obtain ⟨a14, ha14, hha14⟩ := mbind_n h
      subst ha14
      have h := hha14
      obtain ⟨y15, hy15, h⟩ := mbind_n h
      refine u_lald hC hP hy15 rfl dL_law_1131 ?_
      refine lv_iload hx hb dL_law_1132 (lv_at hl 0 rfl) ?_
      refine lv_i2l (v := r7.toInt64) hx hb dL_law_1134 rfl ?_
      refine W.lcmp hx hb dL_law_1135 ?_
      refine lv_if_eq (tgt := 1141) hx hb dL_law_1136 (by decide) (fun c16 => ?_) (fun c16 => ?_)
      · have h := mif_t c16 h
        refine W.cs (cells' := u9.1 - u0.1) (slots' := u9.2.1 - u0.2.1) (by omega) (by omega) ?_
        exact w_L_law_1141 hC hled hR hRm N k23 hk23 zk23 u9 (some a1) x1 (some a3) (some a14) x4 h ⟨by omega, by omega⟩ hP hS (lv_sub hl [2, 3, 4, 5, 6] rfl)
      · have h := mif_f c16 h
        refine lv_iconst (v := 0) hx hb dL_law_1139 (by decide) ?_
        obtain ⟨hr1, hr2⟩ := uret_n h
        subst hr1
        subst hr2
        exact u_zret hC (uFit_n (ty := .boolean) (v := 0) rfl).1 hP hS dL_law_1140
  · have h := mif_f c12 h
    refine lv_iconst (v := 0) hx hb dL_law_1122 (by decide) ?_
    obtain ⟨hr1, hr2⟩ := uret_n h
    subst hr1
    subst hr2
    exact u_zret hC (uFit_n (ty := .boolean) (v := 0) rfl).1 hP hS dL_law_1123
def f_L_law_1160 (N b : Nat) (g : uEnv) (k23 : UH → Option Nat → Option Nat → Option Nat → Option Nat → Int32 → Option (Int32 × UH)) (u : UH) (x0 : Option Nat) (x1 : Option Nat) (x2 : Option Nat) (x3 : Option Nat) (x4 : Int32) (s0 : Int32) : Option (Int32 × UH) :=
    (x0).bind fun a1 =>
    (uLdI u a1 7 (x4 + 1)).bind fun y2 =>
    (uLdI u a1 7 (x4 + 2)).bind fun y3 =>
    (x2).bind fun a4 =>
    if uIs u a4 2 = true then
    ucall (f_X3_regret N b g u a4 y2 y3) fun r8 u6 =>
    if s0 = r8 then
    f_L_law_1593 N b g k23 u6 (some a1) x1 (some a4) x3 x4
    else
    some (0, u6)
    else none
set_option maxHeartbeats 4000000 in
set_option maxRecDepth 100000 in
theorem zz_L_law_1160 {G : uG} {uf : UH} {r : Int32} (N : Nat) (k23 : UH → Option Nat → Option Nat → Option Nat → Option Nat → Int32 → Option (Int32 × UH)) (hk23 : ∀ (u : UH) (x0 : Option Nat) (x1 : Option Nat) (x2 : Option Nat) (x3 : Option Nat) (x4 : Int32), k23 u x0 x1 x2 x3 x4 = some (r, uf) → u.1 ≤ uf.1 ∧ u.2.1 ≤ uf.2.1) (u : UH) (x0 : Option Nat) (x1 : Option Nat) (x2 : Option Nat) (x3 : Option Nat) (x4 : Int32) (s0 : Int32) (h : f_L_law_1160 N (ub G) (ug G) k23 u x0 x1 x2 x3 x4 s0 = some (r, uf)) : u.1 ≤ uf.1 ∧ u.2.1 ≤ uf.2.1 := by
  unfold f_L_law_1160 at h
  obtain ⟨a1, ha1, hha1⟩ := mbind_n h
  subst ha1
  have h := hha1
  obtain ⟨y2, hy2, h⟩ := mbind_n h
  obtain ⟨y3, hy3, h⟩ := mbind_n h
  obtain ⟨a4, ha4, hha4⟩ := mbind_n h
  subst ha4
  have h := hha4
  obtain ⟨c5, h⟩ := mif_n h
  obtain ⟨r8, u6, c7, h⟩ := ucall_n h
  have zu6 := zz_X3_regret N (ub G) (ug G) u a4 y2 y3 r8 u6 c7
  by_cases c9 : s0 = r8
  · have h := mif_t c9 h
    have hq := zz_L_law_1593 (G := G) N k23 hk23 u6 (some a1) x1 (some a4) x3 x4 h
    exact ⟨by omega, by omega⟩
  · have h := mif_f c9 h
    obtain ⟨hr1, hr2⟩ := uret_n h
    subst hr2
    exact ⟨by omega, by omega⟩
set_option maxHeartbeats 4000000 in
set_option maxRecDepth 100000 in
theorem w_L_law_1160 {p : Program} {l : Launch} {e : Env} {R : Room} {s : State} {m : MethodId} {args : Array Value} {below : List Frame} {meth : Method} {c : Code} {G : uG} {u0 : UH} {uf : UH} {r : Int32} (hC : uC p s m args meth c G R_law cL_law 7 (some .boolean)) (hled : uLedOK l) (hR : 103 ≤ R.frames ∧ 6080 ≤ R.locals) (hRm : uf.1 - u0.1 ≤ R.cells ∧ uf.2.1 - u0.2.1 ≤ R.slots) (N : Nat) (k23 : UH → Option Nat → Option Nat → Option Nat → Option Nat → Int32 → Option (Int32 × UH)) (hk23 : ∀ (u : UH) (x0 : Option Nat) (x1 : Option Nat) (x2 : Option Nat) (x3 : Option Nat) (x4 : Int32), k23 u x0 x1 x2 x3 x4 = some (r, uf) → (u0.1 ≤ u.1 ∧ u0.2.1 ≤ u.2.1) → ∀ (H : Heap) (locs : List Loc), uP G u H → va_S (uA G) s.heap H locs → ∀ ls : Array Slot, lv_has ls 7 [(0, va_rf x0), (1, va_rf x1), (2, va_rf x2), (3, va_rf x3), (4, .int x4)] → W p l e R s m args below meth c H locs (u.1 - u0.1) (u.2.1 - u0.2.1) (MQ below (uQi G r uf) args s (uf.1 - u0.1) (uf.2.1 - u0.2.1) (uA G)) (F0 m 23 ls [])) (zk23 : ∀ (u : UH) (x0 : Option Nat) (x1 : Option Nat) (x2 : Option Nat) (x3 : Option Nat) (x4 : Int32), k23 u x0 x1 x2 x3 x4 = some (r, uf) → u.1 ≤ uf.1 ∧ u.2.1 ≤ uf.2.1) (u : UH) (x0 : Option Nat) (x1 : Option Nat) (x2 : Option Nat) (x3 : Option Nat) (x4 : Int32) (s0 : Int32) (h : f_L_law_1160 N (ub G) (ug G) k23 u x0 x1 x2 x3 x4 s0 = some (r, uf)) (hz0 : (u0.1 ≤ u.1 ∧ u0.2.1 ≤ u.2.1)) {H : Heap} {locs : List Loc} (hP : uP G u H) (hS : va_S (uA G) s.heap H locs) {ls : Array Slot} (hl : lv_has ls 7 [(0, va_rf x0), (1, va_rf x1), (2, va_rf x2), (3, va_rf x3), (4, .int x4)]) : W p l e R s m args below meth c H locs (u.1 - u0.1) (u.2.1 - u0.2.1) (MQ below (uQi G r uf) args s (uf.1 - u0.1) (uf.2.1 - u0.2.1) (uA G)) (F0 m 1160 ls [.int s0]) := by
  obtain ⟨⟨hx, hb, hml, hown, hts⟩, hKK⟩ := id hC
  have hzf := zz_L_law_1160 (G := G) N k23 zk23 u x0 x1 x2 x3 x4 s0 h
  unfold f_L_law_1160 at h
  refine u_aload_n (r := x2) hx hb dL_law_1160 rfl (lv_at hl 2 rfl) ?_
  refine u_aload_n (r := x0) hx hb dL_law_1161 rfl (lv_at hl 0 rfl) ?_
  refine lv_iload hx hb dL_law_1162 (lv_at hl 4 rfl) ?_
  refine lv_iconst (v := 1) hx hb dL_law_1164 (by decide) ?_
  refine lv_iadd hx hb dL_law_1165 ?_
  obtain ⟨a1, ha1, hha1⟩ := mbind_n h
  subst ha1
  have h := hha1
  obtain ⟨y2, hy2, h⟩ := mbind_n h
  refine u_iald hC hP hy2 rfl dL_law_1166 ?_
  refine u_aload_n (r := some a1) hx hb dL_law_1167 rfl (lv_at hl 0 rfl) ?_
  refine lv_iload hx hb dL_law_1168 (lv_at hl 4 rfl) ?_
  refine lv_iconst (v := 2) hx hb dL_law_1170 (by decide) ?_
  refine lv_iadd hx hb dL_law_1171 ?_
  obtain ⟨y3, hy3, h⟩ := mbind_n h
  refine u_iald hC hP hy3 rfl dL_law_1172 ?_
  obtain ⟨a4, ha4, hha4⟩ := mbind_n h
  subst ha4
  have h := hha4
  obtain ⟨c5, h⟩ := mif_n h
  obtain ⟨r8, u6, c7, h⟩ := ucall_n h
  have zu6 := zz_X3_regret N (ub G) (ug G) u a4 y2 y3 r8 u6 c7
  refine u_calli (va_runV (As := [.int y2, .int y3]) (rest := [.int s0]) hC.1 (met_X3_regret l N G u a4 y2 y3 r8 u6 c7) (cwV 2 hts (lw_V q2455 q2456 q2457 q103 q2458) rfl rfl rfl (by decide +kernel) ⟨Nat.le_trans (Nat.le_of_ble_eq_true rfl) hR.1, Nat.le_trans (Nat.le_of_ble_eq_true rfl) hR.2⟩) ⟨uPc_blind, u_rcv hC hP c5 rfl, fun U hU hW => u_pre hC hP hS hU hW⟩ rfl rfl hl.1 rfl (lv_room (Nat.le_of_ble_eq_true rfl)) dL_law_1173 ⟨by omega, by omega⟩) hS (fun H locs hP hS => ?_)
  refine W.cs (cells' := u6.1 - u0.1) (slots' := u6.2.1 - u0.2.1) (by omega) (by omega) ?_
  refine lv_icmp_eq (tgt := 1593) hx hb dL_law_1176 (by decide) (fun c9 => ?_) (fun c9 => ?_)
  · have h := mif_t c9 h
    refine W.cs (cells' := u6.1 - u0.1) (slots' := u6.2.1 - u0.2.1) (by omega) (by omega) ?_
    exact w_L_law_1593 hC hled hR hRm N k23 hk23 zk23 u6 (some a1) x1 (some a4) x3 x4 h ⟨by omega, by omega⟩ hP hS (lv_sub hl [0, 1, 2, 3, 4] rfl)
  · have h := mif_f c9 h
    refine lv_iconst (v := 0) hx hb dL_law_1179 (by decide) ?_
    obtain ⟨hr1, hr2⟩ := uret_n h
    subst hr1
    subst hr2
    exact u_zret hC (uFit_n (ty := .boolean) (v := 0) rfl).1 hP hS dL_law_1180
def f_L_law_1250 (N b : Nat) (g : uEnv) (k23 : UH → Option Nat → Option Nat → Option Nat → Option Nat → Int32 → Option (Int32 × UH)) (u : UH) (x0 : Option Nat) (x1 : Option Nat) (x2 : Option Nat) (x3 : Option Nat) (x4 : Int32) (s0 : Int32) (s1 : Int32) (s2 : Int32) (s3 : Int32) (s4 : Option Nat) (s5 : Int64) : Option (Int32 × UH) :=
    (s4).bind fun a1 =>
    if uIs u a1 2 = true then
    ucall (f_X3_worth N b g u a1 s3 s2 s1 s0) fun r5 u3 =>
    if (lg_cmp s5 r5) = 0 then
    f_L_law_1593 N b g k23 u3 x0 x1 x2 x3 x4
    else
    some (0, u3)
    else none
set_option maxHeartbeats 4000000 in
set_option maxRecDepth 100000 in
theorem zz_L_law_1250 {G : uG} {uf : UH} {r : Int32} (N : Nat) (k23 : UH → Option Nat → Option Nat → Option Nat → Option Nat → Int32 → Option (Int32 × UH)) (hk23 : ∀ (u : UH) (x0 : Option Nat) (x1 : Option Nat) (x2 : Option Nat) (x3 : Option Nat) (x4 : Int32), k23 u x0 x1 x2 x3 x4 = some (r, uf) → u.1 ≤ uf.1 ∧ u.2.1 ≤ uf.2.1) (u : UH) (x0 : Option Nat) (x1 : Option Nat) (x2 : Option Nat) (x3 : Option Nat) (x4 : Int32) (s0 : Int32) (s1 : Int32) (s2 : Int32) (s3 : Int32) (s4 : Option Nat) (s5 : Int64) (h : f_L_law_1250 N (ub G) (ug G) k23 u x0 x1 x2 x3 x4 s0 s1 s2 s3 s4 s5 = some (r, uf)) : u.1 ≤ uf.1 ∧ u.2.1 ≤ uf.2.1 := by
  unfold f_L_law_1250 at h
  obtain ⟨a1, ha1, hha1⟩ := mbind_n h
  subst ha1
  have h := hha1
  obtain ⟨c2, h⟩ := mif_n h
  obtain ⟨r5, u3, c4, h⟩ := ucall_n h
  have zu3 := zz_X3_worth N (ub G) (ug G) u a1 s3 s2 s1 s0 r5 u3 c4
  by_cases c6 : (lg_cmp s5 r5) = 0
  · have h := mif_t c6 h
    have hq := zz_L_law_1593 (G := G) N k23 hk23 u3 x0 x1 x2 x3 x4 h
    exact ⟨by omega, by omega⟩
  · have h := mif_f c6 h
    obtain ⟨hr1, hr2⟩ := uret_n h
    subst hr2
    exact ⟨by omega, by omega⟩
set_option maxHeartbeats 4000000 in
set_option maxRecDepth 100000 in
theorem w_L_law_1250 {p : Program} {l : Launch} {e : Env} {R : Room} {s : State} {m : MethodId} {args : Array Value} {below : List Frame} {meth : Method} {c : Code} {G : uG} {u0 : UH} {uf : UH} {r : Int32} (hC : uC p s m args meth c G R_law cL_law 7 (some .boolean)) (hled : uLedOK l) (hR : 103 ≤ R.frames ∧ 6080 ≤ R.locals) (hRm : uf.1 - u0.1 ≤ R.cells ∧ uf.2.1 - u0.2.1 ≤ R.slots) (N : Nat) (k23 : UH → Option Nat → Option Nat → Option Nat → Option Nat → Int32 → Option (Int32 × UH)) (hk23 : ∀ (u : UH) (x0 : Option Nat) (x1 : Option Nat) (x2 : Option Nat) (x3 : Option Nat) (x4 : Int32), k23 u x0 x1 x2 x3 x4 = some (r, uf) → (u0.1 ≤ u.1 ∧ u0.2.1 ≤ u.2.1) → ∀ (H : Heap) (locs : List Loc), uP G u H → va_S (uA G) s.heap H locs → ∀ ls : Array Slot, lv_has ls 7 [(0, va_rf x0), (1, va_rf x1), (2, va_rf x2), (3, va_rf x3), (4, .int x4)] → W p l e R s m args below meth c H locs (u.1 - u0.1) (u.2.1 - u0.2.1) (MQ below (uQi G r uf) args s (uf.1 - u0.1) (uf.2.1 - u0.2.1) (uA G)) (F0 m 23 ls [])) (zk23 : ∀ (u : UH) (x0 : Option Nat) (x1 : Option Nat) (x2 : Option Nat) (x3 : Option Nat) (x4 : Int32), k23 u x0 x1 x2 x3 x4 = some (r, uf) → u.1 ≤ uf.1 ∧ u.2.1 ≤ uf.2.1) (u : UH) (x0 : Option Nat) (x1 : Option Nat) (x2 : Option Nat) (x3 : Option Nat) (x4 : Int32) (s0 : Int32) (s1 : Int32) (s2 : Int32) (s3 : Int32) (s4 : Option Nat) (s5 : Int64) (h : f_L_law_1250 N (ub G) (ug G) k23 u x0 x1 x2 x3 x4 s0 s1 s2 s3 s4 s5 = some (r, uf)) (hz0 : (u0.1 ≤ u.1 ∧ u0.2.1 ≤ u.2.1)) {H : Heap} {locs : List Loc} (hP : uP G u H) (hS : va_S (uA G) s.heap H locs) {ls : Array Slot} (hl : lv_has ls 7 [(0, va_rf x0), (1, va_rf x1), (2, va_rf x2), (3, va_rf x3), (4, .int x4)]) : W p l e R s m args below meth c H locs (u.1 - u0.1) (u.2.1 - u0.2.1) (MQ below (uQi G r uf) args s (uf.1 - u0.1) (uf.2.1 - u0.2.1) (uA G)) (F0 m 1250 ls [.int s0, .int s1, .int s2, .int s3, va_rf s4, .long s5]) := by
  obtain ⟨⟨hx, hb, hml, hown, hts⟩, hKK⟩ := id hC
  have hzf := zz_L_law_1250 (G := G) N k23 zk23 u x0 x1 x2 x3 x4 s0 s1 s2 s3 s4 s5 h
  unfold f_L_law_1250 at h
  obtain ⟨a1, ha1, hha1⟩ := mbind_n h
  subst ha1
  have h := hha1
  obtain ⟨c2, h⟩ := mif_n h
  obtain ⟨r5, u3, c4, h⟩ := ucall_n h
  have zu3 := zz_X3_worth N (ub G) (ug G) u a1 s3 s2 s1 s0 r5 u3 c4
  refine u_calll (va_runV (As := [.int s3, .int s2, .int s1, .int s0]) (rest := [.long s5]) hC.1 (met_X3_worth l N G u a1 s3 s2 s1 s0 r5 u3 c4) (cwV 4 hts (lw_V q2459 q2460 q2461 q103 q2462) rfl rfl rfl (by decide +kernel) ⟨Nat.le_trans (Nat.le_of_ble_eq_true rfl) hR.1, Nat.le_trans (Nat.le_of_ble_eq_true rfl) hR.2⟩) ⟨uPc_blind, u_rcv hC hP c2 rfl, fun U hU hW => u_pre hC hP hS hU hW⟩ rfl rfl hl.1 rfl (lv_room (Nat.le_of_ble_eq_true rfl)) dL_law_1250 ⟨by omega, by omega⟩) hS (fun H locs hP hS => ?_)
  refine W.cs (cells' := u3.1 - u0.1) (slots' := u3.2.1 - u0.2.1) (by omega) (by omega) ?_
  refine W.lcmp hx hb dL_law_1253 ?_
  refine lv_if_eq (tgt := 1593) hx hb dL_law_1254 (by decide) (fun c6 => ?_) (fun c6 => ?_)
  · have h := mif_t c6 h
    refine W.cs (cells' := u3.1 - u0.1) (slots' := u3.2.1 - u0.2.1) (by omega) (by omega) ?_
    exact w_L_law_1593 hC hled hR hRm N k23 hk23 zk23 u3 x0 x1 x2 x3 x4 h ⟨by omega, by omega⟩ hP hS (lv_sub hl [0, 1, 2, 3, 4] rfl)
  · have h := mif_f c6 h
    refine lv_iconst (v := 0) hx hb dL_law_1257 (by decide) ?_
    obtain ⟨hr1, hr2⟩ := uret_n h
    subst hr1
    subst hr2
    exact u_zret hC (uFit_n (ty := .boolean) (v := 0) rfl).1 hP hS dL_law_1258
def f_L_law_1217 (N b : Nat) (g : uEnv) (k23 : UH → Option Nat → Option Nat → Option Nat → Option Nat → Int32 → Option (Int32 × UH)) (u : UH) (x0 : Option Nat) (x1 : Option Nat) (x2 : Option Nat) (x3 : Option Nat) (x4 : Int32) (s0 : Int64) : Option (Int32 × UH) :=
    (x0).bind fun a1 =>
    (uLdI u a1 7 (x4 + 1)).bind fun y2 =>
    (uLdI u a1 7 (x4 + 2)).bind fun y3 =>
    (uLdI u a1 7 (x4 + 3)).bind fun y4 =>
    (uLdI u a1 7 (x4 + 4)).bind fun y5 =>
    if y5 = 0 then
    f_L_law_1250 N b g k23 u (some a1) x1 x2 x3 x4 0 y4 y3 y2 x2 s0
    else
    f_L_law_1250 N b g k23 u (some a1) x1 x2 x3 x4 1 y4 y3 y2 x2 s0
set_option maxHeartbeats 4000000 in
set_option maxRecDepth 100000 in
theorem zz_L_law_1217 {G : uG} {uf : UH} {r : Int32} (N : Nat) (k23 : UH → Option Nat → Option Nat → Option Nat → Option Nat → Int32 → Option (Int32 × UH)) (hk23 : ∀ (u : UH) (x0 : Option Nat) (x1 : Option Nat) (x2 : Option Nat) (x3 : Option Nat) (x4 : Int32), k23 u x0 x1 x2 x3 x4 = some (r, uf) → u.1 ≤ uf.1 ∧ u.2.1 ≤ uf.2.1) (u : UH) (x0 : Option Nat) (x1 : Option Nat) (x2 : Option Nat) (x3 : Option Nat) (x4 : Int32) (s0 : Int64) (h : f_L_law_1217 N (ub G) (ug G) k23 u x0 x1 x2 x3 x4 s0 = some (r, uf)) : u.1 ≤ uf.1 ∧ u.2.1 ≤ uf.2.1 := by
  unfold f_L_law_1217 at h
  obtain ⟨a1, ha1, hha1⟩ := mbind_n h
  subst ha1
  have h := hha1
  obtain ⟨y2, hy2, h⟩ := mbind_n h
  obtain ⟨y3, hy3, h⟩ := mbind_n h
  obtain ⟨y4, hy4, h⟩ := mbind_n h
  obtain ⟨y5, hy5, h⟩ := mbind_n h
  by_cases c6 : y5 = 0
  · have h := mif_t c6 h
    have hq := zz_L_law_1250 (G := G) N k23 hk23 u (some a1) x1 x2 x3 x4 0 y4 y3 y2 x2 s0 h
    exact ⟨by omega, by omega⟩
  · have h := mif_f c6 h
    have hq := zz_L_law_1250 (G := G) N k23 hk23 u (some a1) x1 x2 x3 x4 1 y4 y3 y2 x2 s0 h
    exact ⟨by omega, by omega⟩
set_option maxHeartbeats 4000000 in
set_option maxRecDepth 100000 in
theorem w_L_law_1217 {p : Program} {l : Launch} {e : Env} {R : Room} {s : State} {m : MethodId} {args : Array Value} {below : List Frame} {meth : Method} {c : Code} {G : uG} {u0 : UH} {uf : UH} {r : Int32} (hC : uC p s m args meth c G R_law cL_law 7 (some .boolean)) (hled : uLedOK l) (hR : 103 ≤ R.frames ∧ 6080 ≤ R.locals) (hRm : uf.1 - u0.1 ≤ R.cells ∧ uf.2.1 - u0.2.1 ≤ R.slots) (N : Nat) (k23 : UH → Option Nat → Option Nat → Option Nat → Option Nat → Int32 → Option (Int32 × UH)) (hk23 : ∀ (u : UH) (x0 : Option Nat) (x1 : Option Nat) (x2 : Option Nat) (x3 : Option Nat) (x4 : Int32), k23 u x0 x1 x2 x3 x4 = some (r, uf) → (u0.1 ≤ u.1 ∧ u0.2.1 ≤ u.2.1) → ∀ (H : Heap) (locs : List Loc), uP G u H → va_S (uA G) s.heap H locs → ∀ ls : Array Slot, lv_has ls 7 [(0, va_rf x0), (1, va_rf x1), (2, va_rf x2), (3, va_rf x3), (4, .int x4)] → W p l e R s m args below meth c H locs (u.1 - u0.1) (u.2.1 - u0.2.1) (MQ below (uQi G r uf) args s (uf.1 - u0.1) (uf.2.1 - u0.2.1) (uA G)) (F0 m 23 ls [])) (zk23 : ∀ (u : UH) (x0 : Option Nat) (x1 : Option Nat) (x2 : Option Nat) (x3 : Option Nat) (x4 : Int32), k23 u x0 x1 x2 x3 x4 = some (r, uf) → u.1 ≤ uf.1 ∧ u.2.1 ≤ uf.2.1) (u : UH) (x0 : Option Nat) (x1 : Option Nat) (x2 : Option Nat) (x3 : Option Nat) (x4 : Int32) (s0 : Int64) (h : f_L_law_1217 N (ub G) (ug G) k23 u x0 x1 x2 x3 x4 s0 = some (r, uf)) (hz0 : (u0.1 ≤ u.1 ∧ u0.2.1 ≤ u.2.1)) {H : Heap} {locs : List Loc} (hP : uP G u H) (hS : va_S (uA G) s.heap H locs) {ls : Array Slot} (hl : lv_has ls 7 [(0, va_rf x0), (1, va_rf x1), (2, va_rf x2), (3, va_rf x3), (4, .int x4)]) : W p l e R s m args below meth c H locs (u.1 - u0.1) (u.2.1 - u0.2.1) (MQ below (uQi G r uf) args s (uf.1 - u0.1) (uf.2.1 - u0.2.1) (uA G)) (F0 m 1217 ls [.long s0]) := by
  obtain ⟨⟨hx, hb, hml, hown, hts⟩, hKK⟩ := id hC
  have hzf := zz_L_law_1217 (G := G) N k23 zk23 u x0 x1 x2 x3 x4 s0 h
  unfold f_L_law_1217 at h
  refine u_aload_n (r := x2) hx hb dL_law_1217 rfl (lv_at hl 2 rfl) ?_
  refine u_aload_n (r := x0) hx hb dL_law_1218 rfl (lv_at hl 0 rfl) ?_
  refine lv_iload hx hb dL_law_1219 (lv_at hl 4 rfl) ?_
  refine lv_iconst (v := 1) hx hb dL_law_1221 (by decide) ?_
  refine lv_iadd hx hb dL_law_1222 ?_
  obtain ⟨a1, ha1, hha1⟩ := mbind_n h
  subst ha1
  have h := hha1
  obtain ⟨y2, hy2, h⟩ := mbind_n h
  refine u_iald hC hP hy2 rfl dL_law_1223 ?_
  refine u_aload_n (r := some a1) hx hb dL_law_1224 rfl (lv_at hl 0 rfl) ?_
  refine lv_iload hx hb dL_law_1225 (lv_at hl 4 rfl) ?_
  refine lv_iconst (v := 2) hx hb dL_law_1227 (by decide) ?_
  refine lv_iadd hx hb dL_law_1228 ?_
  obtain ⟨y3, hy3, h⟩ := mbind_n h
  refine u_iald hC hP hy3 rfl dL_law_1229 ?_
  refine u_aload_n (r := some a1) hx hb dL_law_1230 rfl (lv_at hl 0 rfl) ?_
  refine lv_iload hx hb dL_law_1231 (lv_at hl 4 rfl) ?_
  refine lv_iconst (v := 3) hx hb dL_law_1233 (by decide) ?_
  refine lv_iadd hx hb dL_law_1234 ?_
  obtain ⟨y4, hy4, h⟩ := mbind_n h
  refine u_iald hC hP hy4 rfl dL_law_1235 ?_
  refine u_aload_n (r := some a1) hx hb dL_law_1236 rfl (lv_at hl 0 rfl) ?_
  refine lv_iload hx hb dL_law_1237 (lv_at hl 4 rfl) ?_
  refine lv_iconst (v := 4) hx hb dL_law_1239 (by decide) ?_
  refine lv_iadd hx hb dL_law_1240 ?_
  obtain ⟨y5, hy5, h⟩ := mbind_n h
  refine u_iald hC hP hy5 rfl dL_law_1241 ?_
  refine lv_if_eq (tgt := 1249) hx hb dL_law_1242 (by decide) (fun c6 => ?_) (fun c6 => ?_)
  · have h := mif_t c6 h
    refine lv_iconst (v := 0) hx hb dL_law_1249 (by decide) ?_
    refine W.cs (cells' := u.1 - u0.1) (slots' := u.2.1 - u0.2.1) (by omega) (by omega) ?_
    exact w_L_law_1250 hC hled hR hRm N k23 hk23 zk23 u (some a1) x1 x2 x3 x4 0 y4 y3 y2 x2 s0 h ⟨by omega, by omega⟩ hP hS (lv_sub hl [0, 1, 2, 3, 4] rfl)
  · have h := mif_f c6 h
    refine lv_iconst (v := 1) hx hb dL_law_1245 (by decide) ?_
    refine lv_goto (tgt := 1250) hx hb dL_law_1246 (by decide) ?_
    refine W.cs (cells' := u.1 - u0.1) (slots' := u.2.1 - u0.2.1) (by omega) (by omega) ?_
    exact w_L_law_1250 hC hled hR hRm N k23 hk23 zk23 u (some a1) x1 x2 x3 x4 1 y4 y3 y2 x2 s0 h ⟨by omega, by omega⟩ hP hS (lv_sub hl [0, 1, 2, 3, 4] rfl)
def f_L_law_1214 (N b : Nat) (g : uEnv) (k23 : UH → Option Nat → Option Nat → Option Nat → Option Nat → Int32 → Option (Int32 × UH)) (u : UH) (x0 : Option Nat) (x1 : Option Nat) (x2 : Option Nat) (x3 : Option Nat) (x4 : Int32) (s0 : Int32) (s1 : Int32) (s2 : Int32) (s3 : Int32) (s4 : Option Nat) : Option (Int32 × UH) :=
    (s4).bind fun a1 =>
    if uIs u a1 0 = true then
    ucall (f_X1_worth N b g u a1 s3 s2 s1 s0) fun r5 u3 =>
    f_L_law_1217 N b g k23 u3 x0 x1 x2 x3 x4 r5
    else none
set_option maxHeartbeats 4000000 in
set_option maxRecDepth 100000 in
theorem zz_L_law_1214 {G : uG} {uf : UH} {r : Int32} (N : Nat) (k23 : UH → Option Nat → Option Nat → Option Nat → Option Nat → Int32 → Option (Int32 × UH)) (hk23 : ∀ (u : UH) (x0 : Option Nat) (x1 : Option Nat) (x2 : Option Nat) (x3 : Option Nat) (x4 : Int32), k23 u x0 x1 x2 x3 x4 = some (r, uf) → u.1 ≤ uf.1 ∧ u.2.1 ≤ uf.2.1) (u : UH) (x0 : Option Nat) (x1 : Option Nat) (x2 : Option Nat) (x3 : Option Nat) (x4 : Int32) (s0 : Int32) (s1 : Int32) (s2 : Int32) (s3 : Int32) (s4 : Option Nat) (h : f_L_law_1214 N (ub G) (ug G) k23 u x0 x1 x2 x3 x4 s0 s1 s2 s3 s4 = some (r, uf)) : u.1 ≤ uf.1 ∧ u.2.1 ≤ uf.2.1 := by
  unfold f_L_law_1214 at h
  obtain ⟨a1, ha1, hha1⟩ := mbind_n h
  subst ha1
  have h := hha1
  obtain ⟨c2, h⟩ := mif_n h
  obtain ⟨r5, u3, c4, h⟩ := ucall_n h
  have zu3 := zz_X1_worth N (ub G) (ug G) u a1 s3 s2 s1 s0 r5 u3 c4
  have hq := zz_L_law_1217 (G := G) N k23 hk23 u3 x0 x1 x2 x3 x4 r5 h
  exact ⟨by omega, by omega⟩
set_option maxHeartbeats 4000000 in
set_option maxRecDepth 100000 in
theorem w_L_law_1214 {p : Program} {l : Launch} {e : Env} {R : Room} {s : State} {m : MethodId} {args : Array Value} {below : List Frame} {meth : Method} {c : Code} {G : uG} {u0 : UH} {uf : UH} {r : Int32} (hC : uC p s m args meth c G R_law cL_law 7 (some .boolean)) (hled : uLedOK l) (hR : 103 ≤ R.frames ∧ 6080 ≤ R.locals) (hRm : uf.1 - u0.1 ≤ R.cells ∧ uf.2.1 - u0.2.1 ≤ R.slots) (N : Nat) (k23 : UH → Option Nat → Option Nat → Option Nat → Option Nat → Int32 → Option (Int32 × UH)) (hk23 : ∀ (u : UH) (x0 : Option Nat) (x1 : Option Nat) (x2 : Option Nat) (x3 : Option Nat) (x4 : Int32), k23 u x0 x1 x2 x3 x4 = some (r, uf) → (u0.1 ≤ u.1 ∧ u0.2.1 ≤ u.2.1) → ∀ (H : Heap) (locs : List Loc), uP G u H → va_S (uA G) s.heap H locs → ∀ ls : Array Slot, lv_has ls 7 [(0, va_rf x0), (1, va_rf x1), (2, va_rf x2), (3, va_rf x3), (4, .int x4)] → W p l e R s m args below meth c H locs (u.1 - u0.1) (u.2.1 - u0.2.1) (MQ below (uQi G r uf) args s (uf.1 - u0.1) (uf.2.1 - u0.2.1) (uA G)) (F0 m 23 ls [])) (zk23 : ∀ (u : UH) (x0 : Option Nat) (x1 : Option Nat) (x2 : Option Nat) (x3 : Option Nat) (x4 : Int32), k23 u x0 x1 x2 x3 x4 = some (r, uf) → u.1 ≤ uf.1 ∧ u.2.1 ≤ uf.2.1) (u : UH) (x0 : Option Nat) (x1 : Option Nat) (x2 : Option Nat) (x3 : Option Nat) (x4 : Int32) (s0 : Int32) (s1 : Int32) (s2 : Int32) (s3 : Int32) (s4 : Option Nat) (h : f_L_law_1214 N (ub G) (ug G) k23 u x0 x1 x2 x3 x4 s0 s1 s2 s3 s4 = some (r, uf)) (hz0 : (u0.1 ≤ u.1 ∧ u0.2.1 ≤ u.2.1)) {H : Heap} {locs : List Loc} (hP : uP G u H) (hS : va_S (uA G) s.heap H locs) {ls : Array Slot} (hl : lv_has ls 7 [(0, va_rf x0), (1, va_rf x1), (2, va_rf x2), (3, va_rf x3), (4, .int x4)]) : W p l e R s m args below meth c H locs (u.1 - u0.1) (u.2.1 - u0.2.1) (MQ below (uQi G r uf) args s (uf.1 - u0.1) (uf.2.1 - u0.2.1) (uA G)) (F0 m 1214 ls [.int s0, .int s1, .int s2, .int s3, va_rf s4]) := by
  obtain ⟨⟨hx, hb, hml, hown, hts⟩, hKK⟩ := id hC
  have hzf := zz_L_law_1214 (G := G) N k23 zk23 u x0 x1 x2 x3 x4 s0 s1 s2 s3 s4 h
  unfold f_L_law_1214 at h
  obtain ⟨a1, ha1, hha1⟩ := mbind_n h
  subst ha1
  have h := hha1
  obtain ⟨c2, h⟩ := mif_n h
  obtain ⟨r5, u3, c4, h⟩ := ucall_n h
  have zu3 := zz_X1_worth N (ub G) (ug G) u a1 s3 s2 s1 s0 r5 u3 c4
  have hq := zz_L_law_1217 (G := G) N k23 zk23 u3 x0 x1 x2 x3 x4 r5 h
  refine u_calll (va_runV (As := [.int s3, .int s2, .int s1, .int s0]) (rest := []) hC.1 (met_X1_worth l N G u a1 s3 s2 s1 s0 r5 u3 c4) (cwV 4 hts (lw_V q1527 q1528 q1529 q98 q1530) rfl rfl rfl (by decide +kernel) ⟨Nat.le_trans (Nat.le_of_ble_eq_true rfl) hR.1, Nat.le_trans (Nat.le_of_ble_eq_true rfl) hR.2⟩) ⟨uPc_blind, u_rcv hC hP c2 rfl, fun U hU hW => u_pre hC hP hS hU hW⟩ rfl rfl hl.1 rfl (lv_room (Nat.le_of_ble_eq_true rfl)) dL_law_1214 ⟨by omega, by omega⟩) hS (fun H locs hP hS => ?_)
  refine W.cs (cells' := u3.1 - u0.1) (slots' := u3.2.1 - u0.2.1) (by omega) (by omega) ?_
  refine W.cs (cells' := u3.1 - u0.1) (slots' := u3.2.1 - u0.2.1) (by omega) (by omega) ?_
  exact w_L_law_1217 hC hled hR hRm N k23 hk23 zk23 u3 x0 x1 x2 x3 x4 r5 h ⟨by omega, by omega⟩ hP hS (lv_sub hl [0, 1, 2, 3, 4] rfl)
def f_L_law_1281 (N b : Nat) (g : uEnv) (k23 : UH → Option Nat → Option Nat → Option Nat → Option Nat → Int32 → Option (Int32 × UH)) (u : UH) (x0 : Option Nat) (x1 : Option Nat) (x2 : Option Nat) (x3 : Option Nat) (x4 : Int32) (s0 : Int32) : Option (Int32 × UH) :=
    (x0).bind fun a1 =>
    (uLdI u a1 7 (x4 + 1)).bind fun y2 =>
    (uLdI u a1 7 (x4 + 2)).bind fun y3 =>
    (uLdI u a1 7 (x4 + 3)).bind fun y4 =>
    (x2).bind fun a5 =>
    if uIs u a5 2 = true then
    ucall (f_X3_spared N b g u a5 y2 y3 y4) fun r9 u7 =>
    if s0 = r9 then
    f_L_law_1593 N b g k23 u7 (some a1) x1 (some a5) x3 x4
    else
    some (0, u7)
    else none
set_option maxHeartbeats 4000000 in
set_option maxRecDepth 100000 in
theorem zz_L_law_1281 {G : uG} {uf : UH} {r : Int32} (N : Nat) (k23 : UH → Option Nat → Option Nat → Option Nat → Option Nat → Int32 → Option (Int32 × UH)) (hk23 : ∀ (u : UH) (x0 : Option Nat) (x1 : Option Nat) (x2 : Option Nat) (x3 : Option Nat) (x4 : Int32), k23 u x0 x1 x2 x3 x4 = some (r, uf) → u.1 ≤ uf.1 ∧ u.2.1 ≤ uf.2.1) (u : UH) (x0 : Option Nat) (x1 : Option Nat) (x2 : Option Nat) (x3 : Option Nat) (x4 : Int32) (s0 : Int32) (h : f_L_law_1281 N (ub G) (ug G) k23 u x0 x1 x2 x3 x4 s0 = some (r, uf)) : u.1 ≤ uf.1 ∧ u.2.1 ≤ uf.2.1 := by
  unfold f_L_law_1281 at h
  obtain ⟨a1, ha1, hha1⟩ := mbind_n h
  subst ha1
  have h := hha1
  obtain ⟨y2, hy2, h⟩ := mbind_n h
  obtain ⟨y3, hy3, h⟩ := mbind_n h
  obtain ⟨y4, hy4, h⟩ := mbind_n h
  obtain ⟨a5, ha5, hha5⟩ := mbind_n h
  subst ha5
  have h := hha5
  obtain ⟨c6, h⟩ := mif_n h
  obtain ⟨r9, u7, c8, h⟩ := ucall_n h
  have zu7 := zz_X3_spared N (ub G) (ug G) u a5 y2 y3 y4 r9 u7 c8
  by_cases c10 : s0 = r9
  · have h := mif_t c10 h
    have hq := zz_L_law_1593 (G := G) N k23 hk23 u7 (some a1) x1 (some a5) x3 x4 h
    exact ⟨by omega, by omega⟩
  · have h := mif_f c10 h
    obtain ⟨hr1, hr2⟩ := uret_n h
    subst hr2
    exact ⟨by omega, by omega⟩
set_option maxHeartbeats 4000000 in
set_option maxRecDepth 100000 in
theorem w_L_law_1281 {p : Program} {l : Launch} {e : Env} {R : Room} {s : State} {m : MethodId} {args : Array Value} {below : List Frame} {meth : Method} {c : Code} {G : uG} {u0 : UH} {uf : UH} {r : Int32} (hC : uC p s m args meth c G R_law cL_law 7 (some .boolean)) (hled : uLedOK l) (hR : 103 ≤ R.frames ∧ 6080 ≤ R.locals) (hRm : uf.1 - u0.1 ≤ R.cells ∧ uf.2.1 - u0.2.1 ≤ R.slots) (N : Nat) (k23 : UH → Option Nat → Option Nat → Option Nat → Option Nat → Int32 → Option (Int32 × UH)) (hk23 : ∀ (u : UH) (x0 : Option Nat) (x1 : Option Nat) (x2 : Option Nat) (x3 : Option Nat) (x4 : Int32), k23 u x0 x1 x2 x3 x4 = some (r, uf) → (u0.1 ≤ u.1 ∧ u0.2.1 ≤ u.2.1) → ∀ (H : Heap) (locs : List Loc), uP G u H → va_S (uA G) s.heap H locs → ∀ ls : Array Slot, lv_has ls 7 [(0, va_rf x0), (1, va_rf x1), (2, va_rf x2), (3, va_rf x3), (4, .int x4)] → W p l e R s m args below meth c H locs (u.1 - u0.1) (u.2.1 - u0.2.1) (MQ below (uQi G r uf) args s (uf.1 - u0.1) (uf.2.1 - u0.2.1) (uA G)) (F0 m 23 ls [])) (zk23 : ∀ (u : UH) (x0 : Option Nat) (x1 : Option Nat) (x2 : Option Nat) (x3 : Option Nat) (x4 : Int32), k23 u x0 x1 x2 x3 x4 = some (r, uf) → u.1 ≤ uf.1 ∧ u.2.1 ≤ uf.2.1) (u : UH) (x0 : Option Nat) (x1 : Option Nat) (x2 : Option Nat) (x3 : Option Nat) (x4 : Int32) (s0 : Int32) (h : f_L_law_1281 N (ub G) (ug G) k23 u x0 x1 x2 x3 x4 s0 = some (r, uf)) (hz0 : (u0.1 ≤ u.1 ∧ u0.2.1 ≤ u.2.1)) {H : Heap} {locs : List Loc} (hP : uP G u H) (hS : va_S (uA G) s.heap H locs) {ls : Array Slot} (hl : lv_has ls 7 [(0, va_rf x0), (1, va_rf x1), (2, va_rf x2), (3, va_rf x3), (4, .int x4)]) : W p l e R s m args below meth c H locs (u.1 - u0.1) (u.2.1 - u0.2.1) (MQ below (uQi G r uf) args s (uf.1 - u0.1) (uf.2.1 - u0.2.1) (uA G)) (F0 m 1281 ls [.int s0]) := by
  obtain ⟨⟨hx, hb, hml, hown, hts⟩, hKK⟩ := id hC
  have hzf := zz_L_law_1281 (G := G) N k23 zk23 u x0 x1 x2 x3 x4 s0 h
  unfold f_L_law_1281 at h
  refine u_aload_n (r := x2) hx hb dL_law_1281 rfl (lv_at hl 2 rfl) ?_
  refine u_aload_n (r := x0) hx hb dL_law_1282 rfl (lv_at hl 0 rfl) ?_
  refine lv_iload hx hb dL_law_1283 (lv_at hl 4 rfl) ?_
  refine lv_iconst (v := 1) hx hb dL_law_1285 (by decide) ?_
  refine lv_iadd hx hb dL_law_1286 ?_
  obtain ⟨a1, ha1, hha1⟩ := mbind_n h
  subst ha1
  have h := hha1
  obtain ⟨y2, hy2, h⟩ := mbind_n h
  refine u_iald hC hP hy2 rfl dL_law_1287 ?_
  refine u_aload_n (r := some a1) hx hb dL_law_1288 rfl (lv_at hl 0 rfl) ?_
  refine lv_iload hx hb dL_law_1289 (lv_at hl 4 rfl) ?_
  refine lv_iconst (v := 2) hx hb dL_law_1291 (by decide) ?_
  refine lv_iadd hx hb dL_law_1292 ?_
  obtain ⟨y3, hy3, h⟩ := mbind_n h
  refine u_iald hC hP hy3 rfl dL_law_1293 ?_
  refine u_aload_n (r := some a1) hx hb dL_law_1294 rfl (lv_at hl 0 rfl) ?_
  refine lv_iload hx hb dL_law_1295 (lv_at hl 4 rfl) ?_
  refine lv_iconst (v := 3) hx hb dL_law_1297 (by decide) ?_
  refine lv_iadd hx hb dL_law_1298 ?_
  obtain ⟨y4, hy4, h⟩ := mbind_n h
  refine u_iald hC hP hy4 rfl dL_law_1299 ?_
  obtain ⟨a5, ha5, hha5⟩ := mbind_n h
  subst ha5
  have h := hha5
  obtain ⟨c6, h⟩ := mif_n h
  obtain ⟨r9, u7, c8, h⟩ := ucall_n h
  have zu7 := zz_X3_spared N (ub G) (ug G) u a5 y2 y3 y4 r9 u7 c8
  refine u_calli (va_runV (As := [.int y2, .int y3, .int y4]) (rest := [.int s0]) hC.1 (met_X3_spared l N G u a5 y2 y3 y4 r9 u7 c8) (cwV 3 hts (lw_V q2463 q2464 q2465 q103 q2466) rfl rfl rfl (by decide +kernel) ⟨Nat.le_trans (Nat.le_of_ble_eq_true rfl) hR.1, Nat.le_trans (Nat.le_of_ble_eq_true rfl) hR.2⟩) ⟨uPc_blind, u_rcv hC hP c6 rfl, fun U hU hW => u_pre hC hP hS hU hW⟩ rfl rfl hl.1 rfl (lv_room (Nat.le_of_ble_eq_true rfl)) dL_law_1300 ⟨by omega, by omega⟩) hS (fun H locs hP hS => ?_)
  refine W.cs (cells' := u7.1 - u0.1) (slots' := u7.2.1 - u0.2.1) (by omega) (by omega) ?_
  refine lv_icmp_eq (tgt := 1593) hx hb dL_law_1303 (by decide) (fun c10 => ?_) (fun c10 => ?_)
  · have h := mif_t c10 h
    refine W.cs (cells' := u7.1 - u0.1) (slots' := u7.2.1 - u0.2.1) (by omega) (by omega) ?_
    exact w_L_law_1593 hC hled hR hRm N k23 hk23 zk23 u7 (some a1) x1 (some a5) x3 x4 h ⟨by omega, by omega⟩ hP hS (lv_sub hl [0, 1, 2, 3, 4] rfl)
  · have h := mif_f c10 h
    refine lv_iconst (v := 0) hx hb dL_law_1306 (by decide) ?_
    obtain ⟨hr1, hr2⟩ := uret_n h
    subst hr1
    subst hr2
    exact u_zret hC (uFit_n (ty := .boolean) (v := 0) rfl).1 hP hS dL_law_1307
def f_L_law_1336 (N b : Nat) (g : uEnv) (k23 : UH → Option Nat → Option Nat → Option Nat → Option Nat → Int32 → Option (Int32 × UH)) (u : UH) (x0 : Option Nat) (x1 : Option Nat) (x2 : Option Nat) (x3 : Option Nat) (x4 : Int32) (s0 : Int32) : Option (Int32 × UH) :=
    (x0).bind fun a1 =>
    (uLdI u a1 7 (x4 + 1)).bind fun y2 =>
    (uLdI u a1 7 (x4 + 2)).bind fun y3 =>
    (uLdI u a1 7 (x4 + 3)).bind fun y4 =>
    (uLdI u a1 7 (x4 + 4)).bind fun y5 =>
    (x2).bind fun a6 =>
    if uIs u a6 2 = true then
    ucall (f_X3_failing N b g u a6 y2 y3 y4 y5) fun r10 u8 =>
    if s0 = r10 then
    f_L_law_1593 N b g k23 u8 (some a1) x1 (some a6) x3 x4
    else
    some (0, u8)
    else none
set_option maxHeartbeats 4000000 in
set_option maxRecDepth 100000 in
theorem zz_L_law_1336 {G : uG} {uf : UH} {r : Int32} (N : Nat) (k23 : UH → Option Nat → Option Nat → Option Nat → Option Nat → Int32 → Option (Int32 × UH)) (hk23 : ∀ (u : UH) (x0 : Option Nat) (x1 : Option Nat) (x2 : Option Nat) (x3 : Option Nat) (x4 : Int32), k23 u x0 x1 x2 x3 x4 = some (r, uf) → u.1 ≤ uf.1 ∧ u.2.1 ≤ uf.2.1) (u : UH) (x0 : Option Nat) (x1 : Option Nat) (x2 : Option Nat) (x3 : Option Nat) (x4 : Int32) (s0 : Int32) (h : f_L_law_1336 N (ub G) (ug G) k23 u x0 x1 x2 x3 x4 s0 = some (r, uf)) : u.1 ≤ uf.1 ∧ u.2.1 ≤ uf.2.1 := by
  unfold f_L_law_1336 at h
  obtain ⟨a1, ha1, hha1⟩ := mbind_n h
  subst ha1
  have h := hha1
  obtain ⟨y2, hy2, h⟩ := mbind_n h
  obtain ⟨y3, hy3, h⟩ := mbind_n h
  obtain ⟨y4, hy4, h⟩ := mbind_n h
  obtain ⟨y5, hy5, h⟩ := mbind_n h
  obtain ⟨a6, ha6, hha6⟩ := mbind_n h
  subst ha6
  have h := hha6
  obtain ⟨c7, h⟩ := mif_n h
  obtain ⟨r10, u8, c9, h⟩ := ucall_n h
  have zu8 := zz_X3_failing N (ub G) (ug G) u a6 y2 y3 y4 y5 r10 u8 c9
  by_cases c11 : s0 = r10
  · have h := mif_t c11 h
    have hq := zz_L_law_1593 (G := G) N k23 hk23 u8 (some a1) x1 (some a6) x3 x4 h
    exact ⟨by omega, by omega⟩
  · have h := mif_f c11 h
    obtain ⟨hr1, hr2⟩ := uret_n h
    subst hr2
    exact ⟨by omega, by omega⟩
set_option maxHeartbeats 4000000 in
set_option maxRecDepth 100000 in
theorem w_L_law_1336 {p : Program} {l : Launch} {e : Env} {R : Room} {s : State} {m : MethodId} {args : Array Value} {below : List Frame} {meth : Method} {c : Code} {G : uG} {u0 : UH} {uf : UH} {r : Int32} (hC : uC p s m args meth c G R_law cL_law 7 (some .boolean)) (hled : uLedOK l) (hR : 103 ≤ R.frames ∧ 6080 ≤ R.locals) (hRm : uf.1 - u0.1 ≤ R.cells ∧ uf.2.1 - u0.2.1 ≤ R.slots) (N : Nat) (k23 : UH → Option Nat → Option Nat → Option Nat → Option Nat → Int32 → Option (Int32 × UH)) (hk23 : ∀ (u : UH) (x0 : Option Nat) (x1 : Option Nat) (x2 : Option Nat) (x3 : Option Nat) (x4 : Int32), k23 u x0 x1 x2 x3 x4 = some (r, uf) → (u0.1 ≤ u.1 ∧ u0.2.1 ≤ u.2.1) → ∀ (H : Heap) (locs : List Loc), uP G u H → va_S (uA G) s.heap H locs → ∀ ls : Array Slot, lv_has ls 7 [(0, va_rf x0), (1, va_rf x1), (2, va_rf x2), (3, va_rf x3), (4, .int x4)] → W p l e R s m args below meth c H locs (u.1 - u0.1) (u.2.1 - u0.2.1) (MQ below (uQi G r uf) args s (uf.1 - u0.1) (uf.2.1 - u0.2.1) (uA G)) (F0 m 23 ls [])) (zk23 : ∀ (u : UH) (x0 : Option Nat) (x1 : Option Nat) (x2 : Option Nat) (x3 : Option Nat) (x4 : Int32), k23 u x0 x1 x2 x3 x4 = some (r, uf) → u.1 ≤ uf.1 ∧ u.2.1 ≤ uf.2.1) (u : UH) (x0 : Option Nat) (x1 : Option Nat) (x2 : Option Nat) (x3 : Option Nat) (x4 : Int32) (s0 : Int32) (h : f_L_law_1336 N (ub G) (ug G) k23 u x0 x1 x2 x3 x4 s0 = some (r, uf)) (hz0 : (u0.1 ≤ u.1 ∧ u0.2.1 ≤ u.2.1)) {H : Heap} {locs : List Loc} (hP : uP G u H) (hS : va_S (uA G) s.heap H locs) {ls : Array Slot} (hl : lv_has ls 7 [(0, va_rf x0), (1, va_rf x1), (2, va_rf x2), (3, va_rf x3), (4, .int x4)]) : W p l e R s m args below meth c H locs (u.1 - u0.1) (u.2.1 - u0.2.1) (MQ below (uQi G r uf) args s (uf.1 - u0.1) (uf.2.1 - u0.2.1) (uA G)) (F0 m 1336 ls [.int s0]) := by
  obtain ⟨⟨hx, hb, hml, hown, hts⟩, hKK⟩ := id hC
  have hzf := zz_L_law_1336 (G := G) N k23 zk23 u x0 x1 x2 x3 x4 s0 h
  unfold f_L_law_1336 at h
  refine u_aload_n (r := x2) hx hb dL_law_1336 rfl (lv_at hl 2 rfl) ?_
  refine u_aload_n (r := x0) hx hb dL_law_1337 rfl (lv_at hl 0 rfl) ?_
  refine lv_iload hx hb dL_law_1338 (lv_at hl 4 rfl) ?_
  refine lv_iconst (v := 1) hx hb dL_law_1340 (by decide) ?_
  refine lv_iadd hx hb dL_law_1341 ?_
  obtain ⟨a1, ha1, hha1⟩ := mbind_n h
  subst ha1
  have h := hha1
  obtain ⟨y2, hy2, h⟩ := mbind_n h
  refine u_iald hC hP hy2 rfl dL_law_1342 ?_
  refine u_aload_n (r := some a1) hx hb dL_law_1343 rfl (lv_at hl 0 rfl) ?_
  refine lv_iload hx hb dL_law_1344 (lv_at hl 4 rfl) ?_
  refine lv_iconst (v := 2) hx hb dL_law_1346 (by decide) ?_
  refine lv_iadd hx hb dL_law_1347 ?_
  obtain ⟨y3, hy3, h⟩ := mbind_n h
  refine u_iald hC hP hy3 rfl dL_law_1348 ?_
  refine u_aload_n (r := some a1) hx hb dL_law_1349 rfl (lv_at hl 0 rfl) ?_
  refine lv_iload hx hb dL_law_1350 (lv_at hl 4 rfl) ?_
  refine lv_iconst (v := 3) hx hb dL_law_1352 (by decide) ?_
  refine lv_iadd hx hb dL_law_1353 ?_
  obtain ⟨y4, hy4, h⟩ := mbind_n h
  refine u_iald hC hP hy4 rfl dL_law_1354 ?_
  refine u_aload_n (r := some a1) hx hb dL_law_1355 rfl (lv_at hl 0 rfl) ?_
  refine lv_iload hx hb dL_law_1356 (lv_at hl 4 rfl) ?_
  refine lv_iconst (v := 4) hx hb dL_law_1358 (by decide) ?_
  refine lv_iadd hx hb dL_law_1359 ?_
  obtain ⟨y5, hy5, h⟩ := mbind_n h
  refine u_iald hC hP hy5 rfl dL_law_1360 ?_
  obtain ⟨a6, ha6, hha6⟩ := mbind_n h
  subst ha6
  have h := hha6
  obtain ⟨c7, h⟩ := mif_n h
  obtain ⟨r10, u8, c9, h⟩ := ucall_n h
  have zu8 := zz_X3_failing N (ub G) (ug G) u a6 y2 y3 y4 y5 r10 u8 c9
  refine u_calli (va_runV (As := [.int y2, .int y3, .int y4, .int y5]) (rest := [.int s0]) hC.1 (met_X3_failing l N G u a6 y2 y3 y4 y5 r10 u8 c9) (cwV 4 hts (lw_V q2491 q2492 q2493 q103 q2494) rfl rfl rfl (by decide +kernel) ⟨Nat.le_trans (Nat.le_of_ble_eq_true rfl) hR.1, Nat.le_trans (Nat.le_of_ble_eq_true rfl) hR.2⟩) ⟨uPc_blind, u_rcv hC hP c7 rfl, fun U hU hW => u_pre hC hP hS hU hW⟩ rfl rfl hl.1 rfl (lv_room (Nat.le_of_ble_eq_true rfl)) dL_law_1361 ⟨by omega, by omega⟩) hS (fun H locs hP hS => ?_)
  refine W.cs (cells' := u8.1 - u0.1) (slots' := u8.2.1 - u0.2.1) (by omega) (by omega) ?_
  refine lv_icmp_eq (tgt := 1593) hx hb dL_law_1364 (by decide) (fun c11 => ?_) (fun c11 => ?_)
  · have h := mif_t c11 h
    refine W.cs (cells' := u8.1 - u0.1) (slots' := u8.2.1 - u0.2.1) (by omega) (by omega) ?_
    exact w_L_law_1593 hC hled hR hRm N k23 hk23 zk23 u8 (some a1) x1 (some a6) x3 x4 h ⟨by omega, by omega⟩ hP hS (lv_sub hl [0, 1, 2, 3, 4] rfl)
  · have h := mif_f c11 h
    refine lv_iconst (v := 0) hx hb dL_law_1367 (by decide) ?_
    obtain ⟨hr1, hr2⟩ := uret_n h
    subst hr1
    subst hr2
    exact u_zret hC (uFit_n (ty := .boolean) (v := 0) rfl).1 hP hS dL_law_1368
def f_L_law_1416 (N b : Nat) (g : uEnv) (k23 : UH → Option Nat → Option Nat → Option Nat → Option Nat → Int32 → Option (Int32 × UH)) (u : UH) (x0 : Option Nat) (x1 : Option Nat) (x2 : Option Nat) (x3 : Option Nat) (x4 : Int32) (s0 : Int32) : Option (Int32 × UH) :=
    (x0).bind fun a1 =>
    (uLdI u a1 7 (x4 + 1)).bind fun y2 =>
    (uLdI u a1 7 (x4 + 2)).bind fun y3 =>
    (uLdI u a1 7 (x4 + 3)).bind fun y4 =>
    (x2).bind fun a5 =>
    if uIs u a5 2 = true then
    ucall (f_X3_costs N b g u a5 y2 y3 y4) fun r9 u7 =>
    if s0 = r9 then
    f_L_law_1593 N b g k23 u7 (some a1) x1 (some a5) x3 x4
    else
    some (0, u7)
    else none
set_option maxHeartbeats 4000000 in
set_option maxRecDepth 100000 in
theorem zz_L_law_1416 {G : uG} {uf : UH} {r : Int32} (N : Nat) (k23 : UH → Option Nat → Option Nat → Option Nat → Option Nat → Int32 → Option (Int32 × UH)) (hk23 : ∀ (u : UH) (x0 : Option Nat) (x1 : Option Nat) (x2 : Option Nat) (x3 : Option Nat) (x4 : Int32), k23 u x0 x1 x2 x3 x4 = some (r, uf) → u.1 ≤ uf.1 ∧ u.2.1 ≤ uf.2.1) (u : UH) (x0 : Option Nat) (x1 : Option Nat) (x2 : Option Nat) (x3 : Option Nat) (x4 : Int32) (s0 : Int32) (h : f_L_law_1416 N (ub G) (ug G) k23 u x0 x1 x2 x3 x4 s0 = some (r, uf)) : u.1 ≤ uf.1 ∧ u.2.1 ≤ uf.2.1 := by
  unfold f_L_law_1416 at h
  obtain ⟨a1, ha1, hha1⟩ := mbind_n h
  subst ha1
  have h := hha1
  obtain ⟨y2, hy2, h⟩ := mbind_n h
  obtain ⟨y3, hy3, h⟩ := mbind_n h
  obtain ⟨y4, hy4, h⟩ := mbind_n h
  obtain ⟨a5, ha5, hha5⟩ := mbind_n h
  subst ha5
  have h := hha5
  obtain ⟨c6, h⟩ := mif_n h
  obtain ⟨r9, u7, c8, h⟩ := ucall_n h
  have zu7 := zz_X3_costs N (ub G) (ug G) u a5 y2 y3 y4 r9 u7 c8
  by_cases c10 : s0 = r9
  · have h := mif_t c10 h
    have hq := zz_L_law_1593 (G := G) N k23 hk23 u7 (some a1) x1 (some a5) x3 x4 h
    exact ⟨by omega, by omega⟩
  · have h := mif_f c10 h
    obtain ⟨hr1, hr2⟩ := uret_n h
    subst hr2
    exact ⟨by omega, by omega⟩
set_option maxHeartbeats 4000000 in
set_option maxRecDepth 100000 in
theorem w_L_law_1416 {p : Program} {l : Launch} {e : Env} {R : Room} {s : State} {m : MethodId} {args : Array Value} {below : List Frame} {meth : Method} {c : Code} {G : uG} {u0 : UH} {uf : UH} {r : Int32} (hC : uC p s m args meth c G R_law cL_law 7 (some .boolean)) (hled : uLedOK l) (hR : 103 ≤ R.frames ∧ 6080 ≤ R.locals) (hRm : uf.1 - u0.1 ≤ R.cells ∧ uf.2.1 - u0.2.1 ≤ R.slots) (N : Nat) (k23 : UH → Option Nat → Option Nat → Option Nat → Option Nat → Int32 → Option (Int32 × UH)) (hk23 : ∀ (u : UH) (x0 : Option Nat) (x1 : Option Nat) (x2 : Option Nat) (x3 : Option Nat) (x4 : Int32), k23 u x0 x1 x2 x3 x4 = some (r, uf) → (u0.1 ≤ u.1 ∧ u0.2.1 ≤ u.2.1) → ∀ (H : Heap) (locs : List Loc), uP G u H → va_S (uA G) s.heap H locs → ∀ ls : Array Slot, lv_has ls 7 [(0, va_rf x0), (1, va_rf x1), (2, va_rf x2), (3, va_rf x3), (4, .int x4)] → W p l e R s m args below meth c H locs (u.1 - u0.1) (u.2.1 - u0.2.1) (MQ below (uQi G r uf) args s (uf.1 - u0.1) (uf.2.1 - u0.2.1) (uA G)) (F0 m 23 ls [])) (zk23 : ∀ (u : UH) (x0 : Option Nat) (x1 : Option Nat) (x2 : Option Nat) (x3 : Option Nat) (x4 : Int32), k23 u x0 x1 x2 x3 x4 = some (r, uf) → u.1 ≤ uf.1 ∧ u.2.1 ≤ uf.2.1) (u : UH) (x0 : Option Nat) (x1 : Option Nat) (x2 : Option Nat) (x3 : Option Nat) (x4 : Int32) (s0 : Int32) (h : f_L_law_1416 N (ub G) (ug G) k23 u x0 x1 x2 x3 x4 s0 = some (r, uf)) (hz0 : (u0.1 ≤ u.1 ∧ u0.2.1 ≤ u.2.1)) {H : Heap} {locs : List Loc} (hP : uP G u H) (hS : va_S (uA G) s.heap H locs) {ls : Array Slot} (hl : lv_has ls 7 [(0, va_rf x0), (1, va_rf x1), (2, va_rf x2), (3, va_rf x3), (4, .int x4)]) : W p l e R s m args below meth c H locs (u.1 - u0.1) (u.2.1 - u0.2.1) (MQ below (uQi G r uf) args s (uf.1 - u0.1) (uf.2.1 - u0.2.1) (uA G)) (F0 m 1416 ls [.int s0]) := by
  obtain ⟨⟨hx, hb, hml, hown, hts⟩, hKK⟩ := id hC
  have hzf := zz_L_law_1416 (G := G) N k23 zk23 u x0 x1 x2 x3 x4 s0 h
  unfold f_L_law_1416 at h
  refine u_aload_n (r := x2) hx hb dL_law_1416 rfl (lv_at hl 2 rfl) ?_
  refine u_aload_n (r := x0) hx hb dL_law_1417 rfl (lv_at hl 0 rfl) ?_
  refine lv_iload hx hb dL_law_1418 (lv_at hl 4 rfl) ?_
  refine lv_iconst (v := 1) hx hb dL_law_1420 (by decide) ?_
  refine lv_iadd hx hb dL_law_1421 ?_
  obtain ⟨a1, ha1, hha1⟩ := mbind_n h
  subst ha1
  have h := hha1
  obtain ⟨y2, hy2, h⟩ := mbind_n h
  refine u_iald hC hP hy2 rfl dL_law_1422 ?_
  refine u_aload_n (r := some a1) hx hb dL_law_1423 rfl (lv_at hl 0 rfl) ?_
  refine lv_iload hx hb dL_law_1424 (lv_at hl 4 rfl) ?_
  refine lv_iconst (v := 2) hx hb dL_law_1426 (by decide) ?_
  refine lv_iadd hx hb dL_law_1427 ?_
  obtain ⟨y3, hy3, h⟩ := mbind_n h
  refine u_iald hC hP hy3 rfl dL_law_1428 ?_
  refine u_aload_n (r := some a1) hx hb dL_law_1429 rfl (lv_at hl 0 rfl) ?_
  refine lv_iload hx hb dL_law_1430 (lv_at hl 4 rfl) ?_
  refine lv_iconst (v := 3) hx hb dL_law_1432 (by decide) ?_
  refine lv_iadd hx hb dL_law_1433 ?_
  obtain ⟨y4, hy4, h⟩ := mbind_n h
  refine u_iald hC hP hy4 rfl dL_law_1434 ?_
  obtain ⟨a5, ha5, hha5⟩ := mbind_n h
  subst ha5
  have h := hha5
  obtain ⟨c6, h⟩ := mif_n h
  obtain ⟨r9, u7, c8, h⟩ := ucall_n h
  have zu7 := zz_X3_costs N (ub G) (ug G) u a5 y2 y3 y4 r9 u7 c8
  refine u_calli (va_runV (As := [.int y2, .int y3, .int y4]) (rest := [.int s0]) hC.1 (met_X3_costs l N G u a5 y2 y3 y4 r9 u7 c8) (cwV 3 hts (lw_V q2504 q2505 q2506 q103 q2507) rfl rfl rfl (by decide +kernel) ⟨Nat.le_trans (Nat.le_of_ble_eq_true rfl) hR.1, Nat.le_trans (Nat.le_of_ble_eq_true rfl) hR.2⟩) ⟨uPc_blind, u_rcv hC hP c6 rfl, fun U hU hW => u_pre hC hP hS hU hW⟩ rfl rfl hl.1 rfl (lv_room (Nat.le_of_ble_eq_true rfl)) dL_law_1435 ⟨by omega, by omega⟩) hS (fun H locs hP hS => ?_)
  refine W.cs (cells' := u7.1 - u0.1) (slots' := u7.2.1 - u0.2.1) (by omega) (by omega) ?_
  refine lv_icmp_eq (tgt := 1593) hx hb dL_law_1438 (by decide) (fun c10 => ?_) (fun c10 => ?_)
  · have h := mif_t c10 h
    refine W.cs (cells' := u7.1 - u0.1) (slots' := u7.2.1 - u0.2.1) (by omega) (by omega) ?_
    exact w_L_law_1593 hC hled hR hRm N k23 hk23 zk23 u7 (some a1) x1 (some a5) x3 x4 h ⟨by omega, by omega⟩ hP hS (lv_sub hl [0, 1, 2, 3, 4] rfl)
  · have h := mif_f c10 h
    refine lv_iconst (v := 0) hx hb dL_law_1441 (by decide) ?_
    obtain ⟨hr1, hr2⟩ := uret_n h
    subst hr1
    subst hr2
    exact u_zret hC (uFit_n (ty := .boolean) (v := 0) rfl).1 hP hS dL_law_1442
def f_L_law_1484 (N b : Nat) (g : uEnv) (k23 : UH → Option Nat → Option Nat → Option Nat → Option Nat → Int32 → Option (Int32 × UH)) (u : UH) (x0 : Option Nat) (x1 : Option Nat) (x2 : Option Nat) (x3 : Option Nat) (x4 : Int32) (s0 : Int32) : Option (Int32 × UH) :=
    (x2).bind fun a1 =>
    if uIs u a1 2 = true then
    ucall (f_X3_out N b g u a1) fun r5 u3 =>
    if s0 = r5 then
    f_L_law_1593 N b g k23 u3 x0 x1 (some a1) x3 x4
    else
    some (0, u3)
    else none
set_option maxHeartbeats 4000000 in
set_option maxRecDepth 100000 in
theorem zz_L_law_1484 {G : uG} {uf : UH} {r : Int32} (N : Nat) (k23 : UH → Option Nat → Option Nat → Option Nat → Option Nat → Int32 → Option (Int32 × UH)) (hk23 : ∀ (u : UH) (x0 : Option Nat) (x1 : Option Nat) (x2 : Option Nat) (x3 : Option Nat) (x4 : Int32), k23 u x0 x1 x2 x3 x4 = some (r, uf) → u.1 ≤ uf.1 ∧ u.2.1 ≤ uf.2.1) (u : UH) (x0 : Option Nat) (x1 : Option Nat) (x2 : Option Nat) (x3 : Option Nat) (x4 : Int32) (s0 : Int32) (h : f_L_law_1484 N (ub G) (ug G) k23 u x0 x1 x2 x3 x4 s0 = some (r, uf)) : u.1 ≤ uf.1 ∧ u.2.1 ≤ uf.2.1 := by
  unfold f_L_law_1484 at h
  obtain ⟨a1, ha1, hha1⟩ := mbind_n h
  subst ha1
  have h := hha1
  obtain ⟨c2, h⟩ := mif_n h
  obtain ⟨r5, u3, c4, h⟩ := ucall_n h
  have zu3 := zz_X3_out N (ub G) (ug G) u a1 r5 u3 c4
  by_cases c6 : s0 = r5
  · have h := mif_t c6 h
    have hq := zz_L_law_1593 (G := G) N k23 hk23 u3 x0 x1 (some a1) x3 x4 h
    exact ⟨by omega, by omega⟩
  · have h := mif_f c6 h
    obtain ⟨hr1, hr2⟩ := uret_n h
    subst hr2
    exact ⟨by omega, by omega⟩
set_option maxHeartbeats 4000000 in
set_option maxRecDepth 100000 in
theorem w_L_law_1484 {p : Program} {l : Launch} {e : Env} {R : Room} {s : State} {m : MethodId} {args : Array Value} {below : List Frame} {meth : Method} {c : Code} {G : uG} {u0 : UH} {uf : UH} {r : Int32} (hC : uC p s m args meth c G R_law cL_law 7 (some .boolean)) (hled : uLedOK l) (hR : 103 ≤ R.frames ∧ 6080 ≤ R.locals) (hRm : uf.1 - u0.1 ≤ R.cells ∧ uf.2.1 - u0.2.1 ≤ R.slots) (N : Nat) (k23 : UH → Option Nat → Option Nat → Option Nat → Option Nat → Int32 → Option (Int32 × UH)) (hk23 : ∀ (u : UH) (x0 : Option Nat) (x1 : Option Nat) (x2 : Option Nat) (x3 : Option Nat) (x4 : Int32), k23 u x0 x1 x2 x3 x4 = some (r, uf) → (u0.1 ≤ u.1 ∧ u0.2.1 ≤ u.2.1) → ∀ (H : Heap) (locs : List Loc), uP G u H → va_S (uA G) s.heap H locs → ∀ ls : Array Slot, lv_has ls 7 [(0, va_rf x0), (1, va_rf x1), (2, va_rf x2), (3, va_rf x3), (4, .int x4)] → W p l e R s m args below meth c H locs (u.1 - u0.1) (u.2.1 - u0.2.1) (MQ below (uQi G r uf) args s (uf.1 - u0.1) (uf.2.1 - u0.2.1) (uA G)) (F0 m 23 ls [])) (zk23 : ∀ (u : UH) (x0 : Option Nat) (x1 : Option Nat) (x2 : Option Nat) (x3 : Option Nat) (x4 : Int32), k23 u x0 x1 x2 x3 x4 = some (r, uf) → u.1 ≤ uf.1 ∧ u.2.1 ≤ uf.2.1) (u : UH) (x0 : Option Nat) (x1 : Option Nat) (x2 : Option Nat) (x3 : Option Nat) (x4 : Int32) (s0 : Int32) (h : f_L_law_1484 N (ub G) (ug G) k23 u x0 x1 x2 x3 x4 s0 = some (r, uf)) (hz0 : (u0.1 ≤ u.1 ∧ u0.2.1 ≤ u.2.1)) {H : Heap} {locs : List Loc} (hP : uP G u H) (hS : va_S (uA G) s.heap H locs) {ls : Array Slot} (hl : lv_has ls 7 [(0, va_rf x0), (1, va_rf x1), (2, va_rf x2), (3, va_rf x3), (4, .int x4)]) : W p l e R s m args below meth c H locs (u.1 - u0.1) (u.2.1 - u0.2.1) (MQ below (uQi G r uf) args s (uf.1 - u0.1) (uf.2.1 - u0.2.1) (uA G)) (F0 m 1484 ls [.int s0]) := by
  obtain ⟨⟨hx, hb, hml, hown, hts⟩, hKK⟩ := id hC
  have hzf := zz_L_law_1484 (G := G) N k23 zk23 u x0 x1 x2 x3 x4 s0 h
  unfold f_L_law_1484 at h
  refine u_aload_n (r := x2) hx hb dL_law_1484 rfl (lv_at hl 2 rfl) ?_
  obtain ⟨a1, ha1, hha1⟩ := mbind_n h
  subst ha1
  have h := hha1
  obtain ⟨c2, h⟩ := mif_n h
  obtain ⟨r5, u3, c4, h⟩ := ucall_n h
  have zu3 := zz_X3_out N (ub G) (ug G) u a1 r5 u3 c4
  refine u_calli (va_runV (As := []) (rest := [.int s0]) hC.1 (met_X3_out l N G u a1 r5 u3 c4) (cwV 0 hts (lw_V q2512 q2513 q2514 q103 q2515) rfl rfl rfl (by decide +kernel) ⟨Nat.le_trans (Nat.le_of_ble_eq_true rfl) hR.1, Nat.le_trans (Nat.le_of_ble_eq_true rfl) hR.2⟩) ⟨uPc_blind, u_rcv hC hP c2 rfl, fun U hU hW => u_pre hC hP hS hU hW⟩ rfl rfl hl.1 rfl (lv_room (Nat.le_of_ble_eq_true rfl)) dL_law_1485 ⟨by omega, by omega⟩) hS (fun H locs hP hS => ?_)
  refine W.cs (cells' := u3.1 - u0.1) (slots' := u3.2.1 - u0.2.1) (by omega) (by omega) ?_
  refine lv_icmp_eq (tgt := 1593) hx hb dL_law_1488 (by decide) (fun c6 => ?_) (fun c6 => ?_)
  · have h := mif_t c6 h
    refine W.cs (cells' := u3.1 - u0.1) (slots' := u3.2.1 - u0.2.1) (by omega) (by omega) ?_
    exact w_L_law_1593 hC hled hR hRm N k23 hk23 zk23 u3 x0 x1 (some a1) x3 x4 h ⟨by omega, by omega⟩ hP hS (lv_sub hl [0, 1, 2, 3, 4] rfl)
  · have h := mif_f c6 h
    refine lv_iconst (v := 0) hx hb dL_law_1491 (by decide) ?_
    obtain ⟨hr1, hr2⟩ := uret_n h
    subst hr1
    subst hr2
    exact u_zret hC (uFit_n (ty := .boolean) (v := 0) rfl).1 hP hS dL_law_1492
def f_L_law_1503 (N b : Nat) (g : uEnv) (k23 : UH → Option Nat → Option Nat → Option Nat → Option Nat → Int32 → Option (Int32 × UH)) (u : UH) (x0 : Option Nat) (x1 : Option Nat) (x2 : Option Nat) (x3 : Option Nat) (x4 : Int32) (s0 : Int32) : Option (Int32 × UH) :=
    (x0).bind fun a1 =>
    (uLdI u a1 7 (x4 + 1)).bind fun y2 =>
    (x2).bind fun a3 =>
    if uIs u a3 2 = true then
    ucall (f_X3_tryAt N b g u a3 y2) fun r7 u5 =>
    if s0 = r7 then
    f_L_law_1593 N b g k23 u5 (some a1) x1 (some a3) x3 x4
    else
    some (0, u5)
    else none
set_option maxHeartbeats 4000000 in
set_option maxRecDepth 100000 in
theorem zz_L_law_1503 {G : uG} {uf : UH} {r : Int32} (N : Nat) (k23 : UH → Option Nat → Option Nat → Option Nat → Option Nat → Int32 → Option (Int32 × UH)) (hk23 : ∀ (u : UH) (x0 : Option Nat) (x1 : Option Nat) (x2 : Option Nat) (x3 : Option Nat) (x4 : Int32), k23 u x0 x1 x2 x3 x4 = some (r, uf) → u.1 ≤ uf.1 ∧ u.2.1 ≤ uf.2.1) (u : UH) (x0 : Option Nat) (x1 : Option Nat) (x2 : Option Nat) (x3 : Option Nat) (x4 : Int32) (s0 : Int32) (h : f_L_law_1503 N (ub G) (ug G) k23 u x0 x1 x2 x3 x4 s0 = some (r, uf)) : u.1 ≤ uf.1 ∧ u.2.1 ≤ uf.2.1 := by
  unfold f_L_law_1503 at h
  obtain ⟨a1, ha1, hha1⟩ := mbind_n h
  subst ha1
  have h := hha1
  obtain ⟨y2, hy2, h⟩ := mbind_n h
  obtain ⟨a3, ha3, hha3⟩ := mbind_n h
  subst ha3
  have h := hha3
  obtain ⟨c4, h⟩ := mif_n h
  obtain ⟨r7, u5, c6, h⟩ := ucall_n h
  have zu5 := zz_X3_tryAt N (ub G) (ug G) u a3 y2 r7 u5 c6
  by_cases c8 : s0 = r7
  · have h := mif_t c8 h
    have hq := zz_L_law_1593 (G := G) N k23 hk23 u5 (some a1) x1 (some a3) x3 x4 h
    exact ⟨by omega, by omega⟩
  · have h := mif_f c8 h
    obtain ⟨hr1, hr2⟩ := uret_n h
    subst hr2
    exact ⟨by omega, by omega⟩
set_option maxHeartbeats 4000000 in
set_option maxRecDepth 100000 in
theorem w_L_law_1503 {p : Program} {l : Launch} {e : Env} {R : Room} {s : State} {m : MethodId} {args : Array Value} {below : List Frame} {meth : Method} {c : Code} {G : uG} {u0 : UH} {uf : UH} {r : Int32} (hC : uC p s m args meth c G R_law cL_law 7 (some .boolean)) (hled : uLedOK l) (hR : 103 ≤ R.frames ∧ 6080 ≤ R.locals) (hRm : uf.1 - u0.1 ≤ R.cells ∧ uf.2.1 - u0.2.1 ≤ R.slots) (N : Nat) (k23 : UH → Option Nat → Option Nat → Option Nat → Option Nat → Int32 → Option (Int32 × UH)) (hk23 : ∀ (u : UH) (x0 : Option Nat) (x1 : Option Nat) (x2 : Option Nat) (x3 : Option Nat) (x4 : Int32), k23 u x0 x1 x2 x3 x4 = some (r, uf) → (u0.1 ≤ u.1 ∧ u0.2.1 ≤ u.2.1) → ∀ (H : Heap) (locs : List Loc), uP G u H → va_S (uA G) s.heap H locs → ∀ ls : Array Slot, lv_has ls 7 [(0, va_rf x0), (1, va_rf x1), (2, va_rf x2), (3, va_rf x3), (4, .int x4)] → W p l e R s m args below meth c H locs (u.1 - u0.1) (u.2.1 - u0.2.1) (MQ below (uQi G r uf) args s (uf.1 - u0.1) (uf.2.1 - u0.2.1) (uA G)) (F0 m 23 ls [])) (zk23 : ∀ (u : UH) (x0 : Option Nat) (x1 : Option Nat) (x2 : Option Nat) (x3 : Option Nat) (x4 : Int32), k23 u x0 x1 x2 x3 x4 = some (r, uf) → u.1 ≤ uf.1 ∧ u.2.1 ≤ uf.2.1) (u : UH) (x0 : Option Nat) (x1 : Option Nat) (x2 : Option Nat) (x3 : Option Nat) (x4 : Int32) (s0 : Int32) (h : f_L_law_1503 N (ub G) (ug G) k23 u x0 x1 x2 x3 x4 s0 = some (r, uf)) (hz0 : (u0.1 ≤ u.1 ∧ u0.2.1 ≤ u.2.1)) {H : Heap} {locs : List Loc} (hP : uP G u H) (hS : va_S (uA G) s.heap H locs) {ls : Array Slot} (hl : lv_has ls 7 [(0, va_rf x0), (1, va_rf x1), (2, va_rf x2), (3, va_rf x3), (4, .int x4)]) : W p l e R s m args below meth c H locs (u.1 - u0.1) (u.2.1 - u0.2.1) (MQ below (uQi G r uf) args s (uf.1 - u0.1) (uf.2.1 - u0.2.1) (uA G)) (F0 m 1503 ls [.int s0]) := by
  obtain ⟨⟨hx, hb, hml, hown, hts⟩, hKK⟩ := id hC
  have hzf := zz_L_law_1503 (G := G) N k23 zk23 u x0 x1 x2 x3 x4 s0 h
  unfold f_L_law_1503 at h
  refine u_aload_n (r := x2) hx hb dL_law_1503 rfl (lv_at hl 2 rfl) ?_
  refine u_aload_n (r := x0) hx hb dL_law_1504 rfl (lv_at hl 0 rfl) ?_
  refine lv_iload hx hb dL_law_1505 (lv_at hl 4 rfl) ?_
  refine lv_iconst (v := 1) hx hb dL_law_1507 (by decide) ?_
  refine lv_iadd hx hb dL_law_1508 ?_
  obtain ⟨a1, ha1, hha1⟩ := mbind_n h
  subst ha1
  have h := hha1
  obtain ⟨y2, hy2, h⟩ := mbind_n h
  refine u_iald hC hP hy2 rfl dL_law_1509 ?_
  obtain ⟨a3, ha3, hha3⟩ := mbind_n h
  subst ha3
  have h := hha3
  obtain ⟨c4, h⟩ := mif_n h
  obtain ⟨r7, u5, c6, h⟩ := ucall_n h
  have zu5 := zz_X3_tryAt N (ub G) (ug G) u a3 y2 r7 u5 c6
  refine u_calli (va_runV (As := [.int y2]) (rest := [.int s0]) hC.1 (met_X3_tryAt l N G u a3 y2 r7 u5 c6) (cwV 1 hts (lw_V q2529 q2530 q2531 q103 q2532) rfl rfl rfl (by decide +kernel) ⟨Nat.le_trans (Nat.le_of_ble_eq_true rfl) hR.1, Nat.le_trans (Nat.le_of_ble_eq_true rfl) hR.2⟩) ⟨uPc_blind, u_rcv hC hP c4 rfl, fun U hU hW => u_pre hC hP hS hU hW⟩ rfl rfl hl.1 rfl (lv_room (Nat.le_of_ble_eq_true rfl)) dL_law_1510 ⟨by omega, by omega⟩) hS (fun H locs hP hS => ?_)
  refine W.cs (cells' := u5.1 - u0.1) (slots' := u5.2.1 - u0.2.1) (by omega) (by omega) ?_
  refine lv_icmp_eq (tgt := 1593) hx hb dL_law_1513 (by decide) (fun c8 => ?_) (fun c8 => ?_)
  · have h := mif_t c8 h
    refine W.cs (cells' := u5.1 - u0.1) (slots' := u5.2.1 - u0.2.1) (by omega) (by omega) ?_
    exact w_L_law_1593 hC hled hR hRm N k23 hk23 zk23 u5 (some a1) x1 (some a3) x3 x4 h ⟨by omega, by omega⟩ hP hS (lv_sub hl [0, 1, 2, 3, 4] rfl)
  · have h := mif_f c8 h
    refine lv_iconst (v := 0) hx hb dL_law_1516 (by decide) ?_
    obtain ⟨hr1, hr2⟩ := uret_n h
    subst hr1
    subst hr2
    exact u_zret hC (uFit_n (ty := .boolean) (v := 0) rfl).1 hP hS dL_law_1517
def f_L_law_23 (N b : Nat) (g : uEnv) : Nat → UH → Option Nat → Option Nat → Option Nat → Option Nat → Int32 → Option (Int32 × UH)
  | 0, _, _, _, _, _, _ => none
  | n + 1, u, x0, x1, x2, x3, x4 =>
    (x0).bind fun a1 =>
    (uLen u a1 7).bind fun y2 =>
    if (y2 - 6) < x4 then
    some (1, u)
    else
    (uLdI u a1 7 x4).bind fun y4 =>
    if (y4 &&& 63) = 0 then
    (uLdI u a1 7 (x4 + 1)).bind fun y6 =>
    (uLdI u a1 7 (x4 + 2)).bind fun y7 =>
    (uLdI u a1 7 (x4 + 3)).bind fun y8 =>
    (uLdI u a1 7 (x4 + 4)).bind fun y9 =>
    (uLdI u a1 7 (x4 + 5)).bind fun y10 =>
    (x1).bind fun a11 =>
    if uIs u a11 0 = true then
    ucall (f_X1_feed N b g u a11 y6 y7 y8 y9 y10) fun r15 u13 =>
    f_L_law_234 N b g (f_L_law_23 N b g n) u13 (some a1) (some a11) x2 x3 x4 r15
    else none
    else
    if (y4 &&& 63) = 1 then
    (uLdI u a1 7 (x4 + 1)).bind fun y17 =>
    (x1).bind fun a18 =>
    if uIs u a18 0 = true then
    ucall (f_X1_book N b g u a18 y17) fun r22 u20 =>
    f_L_law_283 N b g (f_L_law_23 N b g n) u20 (some a1) (some a18) x2 x3 x4 r22
    else none
    else
    if (y4 &&& 63) = 2 then
    (uLdI u a1 7 (x4 + 1)).bind fun y24 =>
    (x1).bind fun a25 =>
    if uIs u a25 0 = true then
    ucall (f_X1_plan N b g u a25 y24) fun r29 u27 =>
    f_L_law_308 N b g (f_L_law_23 N b g n) u27 (some a1) (some a25) x2 x3 x4 r29
    else none
    else
    if (y4 &&& 63) = 3 then
    (x1).bind fun a31 =>
    if uIs u a31 0 = true then
    ucall (f_X1_fault N b g u a31) fun r35 u33 =>
    (x2).bind fun a36 =>
    if uIs u33 a36 2 = true then
    ucall (f_X3_fault N b g u33 a36) fun r40 u38 =>
    if r35 = r40 then
    f_L_law_1593 N b g (f_L_law_23 N b g n) u38 (some a1) (some a31) (some a36) x3 x4
    else
    some (0, u38)
    else none
    else none
    else
    if (y4 &&& 63) = 4 then
    (x1).bind fun a43 =>
    if uIs u a43 0 = true then
    ucall (f_X1_where N b g u a43) fun r47 u45 =>
    (x2).bind fun a48 =>
    if uIs u45 a48 2 = true then
    ucall (f_X3_where N b g u45 a48) fun r52 u50 =>
    if r47 = r52 then
    f_L_law_1593 N b g (f_L_law_23 N b g n) u50 (some a1) (some a43) (some a48) x3 x4
    else
    some (0, u50)
    else none
    else none
    else
    if (y4 &&& 63) = 5 then
    (uLdI u a1 7 (x4 + 1)).bind fun y55 =>
    (uLdI u a1 7 (x4 + 2)).bind fun y56 =>
    (x1).bind fun a57 =>
    if uIs u a57 0 = true then
    ucall (f_X1_sink N b g u a57 y55 y56) fun r61 u59 =>
    (uLdI u59 a1 7 (x4 + 1)).bind fun y62 =>
    (uLdI u59 a1 7 (x4 + 2)).bind fun y63 =>
    (x2).bind fun a64 =>
    if uIs u59 a64 2 = true then
    ucall (f_X3_sink N b g u59 a64 y62 y63) fun r68 u66 =>
    if r61 = r68 then
    f_L_law_1593 N b g (f_L_law_23 N b g n) u66 (some a1) (some a57) (some a64) x3 x4
    else
    some (0, u66)
    else none
    else none
    else
    if (y4 &&& 63) = 6 then
    (uLdI u a1 7 (x4 + 1)).bind fun y71 =>
    (uLdI u a1 7 (x4 + 2)).bind fun y72 =>
    (x1).bind fun a73 =>
    if uIs u a73 0 = true then
    ucall (f_X1_grip N b g u a73 y71 y72) fun r77 u75 =>
    (uLdI u75 a1 7 (x4 + 1)).bind fun y78 =>
    (uLdI u75 a1 7 (x4 + 2)).bind fun y79 =>
    (x2).bind fun a80 =>
    if uIs u75 a80 2 = true then
    ucall (f_X3_grip N b g u75 a80 y78 y79) fun r84 u82 =>
    if r77 = r84 then
    f_L_law_1593 N b g (f_L_law_23 N b g n) u82 (some a1) (some a73) (some a80) x3 x4
    else
    some (0, u82)
    else none
    else none
    else
    if (y4 &&& 63) = 7 then
    (uLdI u a1 7 (x4 + 1)).bind fun y87 =>
    (x1).bind fun a88 =>
    if uIs u a88 0 = true then
    ucall (f_X1_dead N b g u a88 y87) fun r92 u90 =>
    (uLdI u90 a1 7 (x4 + 1)).bind fun y93 =>
    (x2).bind fun a94 =>
    if uIs u90 a94 2 = true then
    ucall (f_X3_dead N b g u90 a94 y93) fun r98 u96 =>
    if r92 = r98 then
    f_L_law_1593 N b g (f_L_law_23 N b g n) u96 (some a1) (some a88) (some a94) x3 x4
    else
    some (0, u96)
    else none
    else none
    else
    if (y4 &&& 63) = 8 then
    (uLdI u a1 7 (x4 + 1)).bind fun y101 =>
    (uLdI u a1 7 (x4 + 2)).bind fun y102 =>
    (x1).bind fun a103 =>
    if uIs u a103 0 = true then
    ucall (f_X1_map N b g u a103 y101 y102) fun r107 u105 =>
    f_L_law_464 N b g (f_L_law_23 N b g n) u105 (some a1) (some a103) x2 x3 x4 r107
    else none
    else
    if (y4 &&& 63) = 9 then
    (uLdI u a1 7 (x4 + 1)).bind fun y109 =>
    (uLdI u a1 7 (x4 + 2)).bind fun y110 =>
    (x1).bind fun a111 =>
    if uIs u a111 0 = true then
    ucall (f_X1_height N b g u a111 y109 y110) fun r115 u113 =>
    (uLdI u113 a1 7 (x4 + 1)).bind fun y116 =>
    (uLdI u113 a1 7 (x4 + 2)).bind fun y117 =>
    (x2).bind fun a118 =>
    if uIs u113 a118 2 = true then
    ucall (f_X3_height N b g u113 a118 y116 y117) fun r122 u120 =>
    if r115 = r122 then
    f_L_law_1593 N b g (f_L_law_23 N b g n) u120 (some a1) (some a111) (some a118) x3 x4
    else
    some (0, u120)
    else none
    else none
    else
    if (y4 &&& 63) = 10 then
    (uLdI u a1 7 (x4 + 1)).bind fun y125 =>
    (uLdI u a1 7 (x4 + 2)).bind fun y126 =>
    (x1).bind fun a127 =>
    if uIs u a127 0 = true then
    ucall (f_X1_ground N b g u a127 y125 y126) fun r131 u129 =>
    (uLdI u129 a1 7 (x4 + 1)).bind fun y132 =>
    (uLdI u129 a1 7 (x4 + 2)).bind fun y133 =>
    (x2).bind fun a134 =>
    if uIs u129 a134 2 = true then
    ucall (f_X3_ground N b g u129 a134 y132 y133) fun r138 u136 =>
    if r131 = r138 then
    f_L_law_1593 N b g (f_L_law_23 N b g n) u136 (some a1) (some a127) (some a134) x3 x4
    else
    some (0, u136)
    else none
    else none
    else
    if (y4 &&& 63) = 11 then
    (uLdI u a1 7 (x4 + 1)).bind fun y141 =>
    (x1).bind fun a142 =>
    if uIs u a142 0 = true then
    ucall (f_X1_doubt N b g u a142 y141) fun r146 u144 =>
    f_L_law_569 N b g (f_L_law_23 N b g n) u144 (some a1) (some a142) x2 x3 x4 r146
    else none
    else
    if (y4 &&& 63) = 12 then
    (uLdI u a1 7 (x4 + 1)).bind fun y148 =>
    (uLdI u a1 7 (x4 + 2)).bind fun y149 =>
    (uLdI u a1 7 (x4 + 3)).bind fun y150 =>
    (x1).bind fun a151 =>
    if uIs u a151 0 = true then
    ucall (f_X1_weigh N b g u a151 y148 y149 y150) fun r155 u153 =>
    (uLdI u153 a1 7 (x4 + 1)).bind fun y156 =>
    (uLdI u153 a1 7 (x4 + 2)).bind fun y157 =>
    (uLdI u153 a1 7 (x4 + 3)).bind fun y158 =>
    (x2).bind fun a159 =>
    if uIs u153 a159 2 = true then
    ucall (f_X3_weigh N b g u153 a159 y156 y157 y158) fun r163 u161 =>
    if r155 = r163 then
    f_L_law_1593 N b g (f_L_law_23 N b g n) u161 (some a1) (some a151) (some a159) x3 x4
    else
    some (0, u161)
    else none
    else none
    else
    if (y4 &&& 63) = 13 then
    (uLdI u a1 7 (x4 + 1)).bind fun y166 =>
    (uLdI u a1 7 (x4 + 2)).bind fun y167 =>
    (x1).bind fun a168 =>
    if uIs u a168 0 = true then
    ucall (f_X1_told N b g u a168 y166 y167) fun r172 u170 =>
    (uLdI u170 a1 7 (x4 + 1)).bind fun y173 =>
    (uLdI u170 a1 7 (x4 + 2)).bind fun y174 =>
    (x2).bind fun a175 =>
    if uIs u170 a175 2 = true then
    ucall (f_X3_told N b g u170 a175 y173 y174) fun r179 u177 =>
    if r172 = r179 then
    f_L_law_1593 N b g (f_L_law_23 N b g n) u177 (some a1) (some a168) (some a175) x3 x4
    else
    some (0, u177)
    else none
    else none
    else
    if (y4 &&& 63) = 14 then
    (uLdI u a1 7 (x4 + 1)).bind fun y182 =>
    (x1).bind fun a183 =>
    if uIs u a183 0 = true then
    ucall (f_X1_forget N b g u a183 y182) fun r187 u185 =>
    (uLdI u185 a1 7 (x4 + 1)).bind fun y188 =>
    (x2).bind fun a189 =>
    if uIs u185 a189 2 = true then
    ucall (f_X3_forget N b g u185 a189 y188) fun r193 u191 =>
    if r187 = r193 then
    f_L_law_1593 N b g (f_L_law_23 N b g n) u191 (some a1) (some a183) (some a189) x3 x4
    else
    some (0, u191)
    else none
    else none
    else
    if (y4 &&& 63) = 15 then
    (uLdI u a1 7 (x4 + 1)).bind fun y196 =>
    (uLdI u a1 7 (x4 + 2)).bind fun y197 =>
    (x1).bind fun a198 =>
    if uIs u a198 0 = true then
    ucall (f_X1_of N b g u a198 y196 y197) fun r202 u200 =>
    (uLdI u200 a1 7 (x4 + 1)).bind fun y203 =>
    (uLdI u200 a1 7 (x4 + 2)).bind fun y204 =>
    (x2).bind fun a205 =>
    if uIs u200 a205 2 = true then
    ucall (f_X3_of N b g u200 a205 y203 y204) fun r209 u207 =>
    if r202 = r209 then
    f_L_law_1593 N b g (f_L_law_23 N b g n) u207 (some a1) (some a198) (some a205) x3 x4
    else
    some (0, u207)
    else none
    else none
    else
    if (y4 &&& 63) = 16 then
    (uLdI u a1 7 (x4 + 1)).bind fun y212 =>
    (uLdI u a1 7 (x4 + 2)).bind fun y213 =>
    (uLdI u a1 7 (x4 + 3)).bind fun y214 =>
    (uLdI u a1 7 (x4 + 4)).bind fun y215 =>
    (x1).bind fun a216 =>
    if uIs u a216 0 = true then
    ucall (f_X1_step N b g u a216 y212 y213 y214 y215) fun r220 u218 =>
    (uLdI u218 a1 7 (x4 + 1)).bind fun y221 =>
    (uLdI u218 a1 7 (x4 + 2)).bind fun y222 =>
    (uLdI u218 a1 7 (x4 + 3)).bind fun y223 =>
    (uLdI u218 a1 7 (x4 + 4)).bind fun y224 =>
    (x2).bind fun a225 =>
    if uIs u218 a225 2 = true then
    ucall (f_X3_step N b g u218 a225 y221 y222 y223 y224) fun r229 u227 =>
    if r220 = r229 then
    f_L_law_1593 N b g (f_L_law_23 N b g n) u227 (some a1) (some a216) (some a225) x3 x4
    else
    some (0, u227)
    else none
    else none
    else
    if (y4 &&& 63) = 17 then
    (uLdI u a1 7 (x4 + 1)).bind fun y232 =>
    (uLdI u a1 7 (x4 + 2)).bind fun y233 =>
    (x1).bind fun a234 =>
    if uIs u a234 0 = true then
    ucall (f_X1_worst N b g u a234 y232 y233) fun r238 u236 =>
    f_L_law_809 N b g (f_L_law_23 N b g n) u236 (some a1) (some a234) x2 x3 x4 r238
    else none
    else
    if (y4 &&& 63) = 18 then
    (uLdI u a1 7 (x4 + 1)).bind fun y240 =>
    (uLdI u a1 7 (x4 + 2)).bind fun y241 =>
    (uLdI u a1 7 (x4 + 3)).bind fun y242 =>
    if y242 = 0 then
    f_L_law_857 N b g (f_L_law_23 N b g n) u (some a1) x1 x2 x3 x4 0 y241 y240 x1
    else
    f_L_law_857 N b g (f_L_law_23 N b g n) u (some a1) x1 x2 x3 x4 1 y241 y240 x1
    else
    if (y4 &&& 63) = 19 then
    (uLdI u a1 7 (x4 + 1)).bind fun y245 =>
    (uLdI u a1 7 (x4 + 2)).bind fun y246 =>
    (uLdI u a1 7 (x4 + 3)).bind fun y247 =>
    if y247 = 0 then
    f_L_law_923 N b g (f_L_law_23 N b g n) u (some a1) x1 x2 x3 x4 0 y246 y245 x1
    else
    f_L_law_923 N b g (f_L_law_23 N b g n) u (some a1) x1 x2 x3 x4 1 y246 y245 x1
    else
    if (y4 &&& 63) = 20 then
    (x1).bind fun a250 =>
    if uIs u a250 0 = true then
    ucall (f_X1_truths N b g u a250) fun r254 u252 =>
    (x2).bind fun a255 =>
    if uIs u252 a255 2 = true then
    ucall (f_X3_truths N b g u252 a255) fun r259 u257 =>
    if r254 = r259 then
    f_L_law_1593 N b g (f_L_law_23 N b g n) u257 (some a1) (some a250) (some a255) x3 x4
    else
    some (0, u257)
    else none
    else none
    else
    if (y4 &&& 63) = 21 then
    (uLdI u a1 7 (x4 + 1)).bind fun y262 =>
    (uLdI u a1 7 (x4 + 2)).bind fun y263 =>
    (x1).bind fun a264 =>
    if uIs u a264 0 = true then
    ucall (f_X1_truth N b g u a264 y262 y263) fun r268 u266 =>
    f_L_law_990 N b g (f_L_law_23 N b g n) u266 (some a1) (some a264) x2 x3 x4 r268
    else none
    else
    if (y4 &&& 63) = 22 then
    (uLdI u a1 7 (x4 + 1)).bind fun y270 =>
    (uLdI u a1 7 (x4 + 2)).bind fun y271 =>
    (uLdI u a1 7 (x4 + 3)).bind fun y272 =>
    if y272 = 0 then
    f_L_law_1038 N b g (f_L_law_23 N b g n) u (some a1) x1 x2 x3 x4 0 y271 y270 x1
    else
    f_L_law_1038 N b g (f_L_law_23 N b g n) u (some a1) x1 x2 x3 x4 1 y271 y270 x1
    else
    if (y4 &&& 63) = 23 then
    (uLdI u a1 7 (x4 + 1)).bind fun y275 =>
    ucall (f_X0_led N b g u x1 y275 x3) fun r278 u276 =>
    f_L_law_1099 N b g (f_L_law_23 N b g n) u276 (some a1) x1 x2 x3 x4 r278
    else
    if (y4 &&& 63) = 24 then
    (uLdI u a1 7 (x4 + 1)).bind fun y280 =>
    (uLdI u a1 7 (x4 + 2)).bind fun y281 =>
    (x1).bind fun a282 =>
    if uIs u a282 0 = true then
    ucall (f_X1_regret N b g u a282 y280 y281) fun r286 u284 =>
    f_L_law_1160 N b g (f_L_law_23 N b g n) u284 (some a1) (some a282) x2 x3 x4 r286
    else none
    else
    if (y4 &&& 63) = 25 then
    (uLdI u a1 7 (x4 + 1)).bind fun y288 =>
    (uLdI u a1 7 (x4 + 2)).bind fun y289 =>
    (uLdI u a1 7 (x4 + 3)).bind fun y290 =>
    (uLdI u a1 7 (x4 + 4)).bind fun y291 =>
    if y291 = 0 then
    f_L_law_1214 N b g (f_L_law_23 N b g n) u (some a1) x1 x2 x3 x4 0 y290 y289 y288 x1
    else
    f_L_law_1214 N b g (f_L_law_23 N b g n) u (some a1) x1 x2 x3 x4 1 y290 y289 y288 x1
    else
    if (y4 &&& 63) = 26 then
    (uLdI u a1 7 (x4 + 1)).bind fun y294 =>
    (uLdI u a1 7 (x4 + 2)).bind fun y295 =>
    (uLdI u a1 7 (x4 + 3)).bind fun y296 =>
    (x1).bind fun a297 =>
    if uIs u a297 0 = true then
    ucall (f_X1_spared N b g u a297 y294 y295 y296) fun r301 u299 =>
    f_L_law_1281 N b g (f_L_law_23 N b g n) u299 (some a1) (some a297) x2 x3 x4 r301
    else none
    else
    if (y4 &&& 63) = 27 then
    (uLdI u a1 7 (x4 + 1)).bind fun y303 =>
    (uLdI u a1 7 (x4 + 2)).bind fun y304 =>
    (uLdI u a1 7 (x4 + 3)).bind fun y305 =>
    (uLdI u a1 7 (x4 + 4)).bind fun y306 =>
    (x1).bind fun a307 =>
    if uIs u a307 0 = true then
    ucall (f_X1_failing N b g u a307 y303 y304 y305 y306) fun r311 u309 =>
    f_L_law_1336 N b g (f_L_law_23 N b g n) u309 (some a1) (some a307) x2 x3 x4 r311
    else none
    else
    if (y4 &&& 63) = 28 then
    (uLdI u a1 7 (x4 + 1)).bind fun y313 =>
    (x1).bind fun a314 =>
    if uIs u a314 0 = true then
    ucall (f_X1_first N b g u a314 y313) fun r318 u316 =>
    (uLdI u316 a1 7 (x4 + 1)).bind fun y319 =>
    (x2).bind fun a320 =>
    if uIs u316 a320 2 = true then
    ucall (f_X3_first N b g u316 a320 y319) fun r324 u322 =>
    if r318 = r324 then
    f_L_law_1593 N b g (f_L_law_23 N b g n) u322 (some a1) (some a314) (some a320) x3 x4
    else
    some (0, u322)
    else none
    else none
    else
    if (y4 &&& 63) = 29 then
    (uLdI u a1 7 (x4 + 1)).bind fun y327 =>
    (uLdI u a1 7 (x4 + 2)).bind fun y328 =>
    (uLdI u a1 7 (x4 + 3)).bind fun y329 =>
    (x1).bind fun a330 =>
    if uIs u a330 0 = true then
    ucall (f_X1_costs N b g u a330 y327 y328 y329) fun r334 u332 =>
    f_L_law_1416 N b g (f_L_law_23 N b g n) u332 (some a1) (some a330) x2 x3 x4 r334
    else none
    else
    if (y4 &&& 63) = 30 then
    (uLdI u a1 7 (x4 + 1)).bind fun y336 =>
    (uLdI u a1 7 (x4 + 2)).bind fun y337 =>
    (x1).bind fun a338 =>
    if uIs u a338 0 = true then
    ucall (f_X1_dig N b g u a338 y336 y337) fun r342 u340 =>
    (uLdI u340 a1 7 (x4 + 1)).bind fun y343 =>
    (uLdI u340 a1 7 (x4 + 2)).bind fun y344 =>
    (x2).bind fun a345 =>
    if uIs u340 a345 2 = true then
    ucall (f_X3_dig N b g u340 a345 y343 y344) fun r349 u347 =>
    if r342 = r349 then
    f_L_law_1593 N b g (f_L_law_23 N b g n) u347 (some a1) (some a338) (some a345) x3 x4
    else
    some (0, u347)
    else none
    else none
    else
    if (y4 &&& 63) = 31 then
    (x1).bind fun a352 =>
    if uIs u a352 0 = true then
    ucall (f_X1_out N b g u a352) fun r356 u354 =>
    f_L_law_1484 N b g (f_L_law_23 N b g n) u354 (some a1) (some a352) x2 x3 x4 r356
    else none
    else
    if (y4 &&& 63) = 32 then
    (uLdI u a1 7 (x4 + 1)).bind fun y358 =>
    (x1).bind fun a359 =>
    if uIs u a359 0 = true then
    ucall (f_X1_tryAt N b g u a359 y358) fun r363 u361 =>
    f_L_law_1503 N b g (f_L_law_23 N b g n) u361 (some a1) (some a359) x2 x3 x4 r363
    else none
    else
    if (y4 &&& 63) = 33 then
    (uLdI u a1 7 (x4 + 1)).bind fun y365 =>
    (uLdI u a1 7 (x4 + 2)).bind fun y366 =>
    (x1).bind fun a367 =>
    if uIs u a367 0 = true then
    ucall (f_X1_make N b g u a367 y365 y366) fun r371 u369 =>
    (uLdI u369 a1 7 (x4 + 1)).bind fun y372 =>
    (uLdI u369 a1 7 (x4 + 2)).bind fun y373 =>
    (x2).bind fun a374 =>
    if uIs u369 a374 2 = true then
    ucall (f_X3_make N b g u369 a374 y372 y373) fun r378 u376 =>
    if r371 = r378 then
    f_L_law_1593 N b g (f_L_law_23 N b g n) u376 (some a1) (some a367) (some a374) x3 x4
    else
    some (0, u376)
    else none
    else none
    else
    if (y4 &&& 63) = 34 then
    (uLdI u a1 7 (x4 + 1)).bind fun y381 =>
    (x1).bind fun a382 =>
    if uIs u a382 0 = true then
    ucall (f_X1_count N b g u a382 y381) fun r386 u384 =>
    (uLdI u384 a1 7 (x4 + 1)).bind fun y387 =>
    (x2).bind fun a388 =>
    if uIs u384 a388 2 = true then
    ucall (f_X3_count N b g u384 a388 y387) fun r392 u390 =>
    if r386 = r392 then
    f_L_law_1593 N b g (f_L_law_23 N b g n) u390 (some a1) (some a382) (some a388) x3 x4
    else
    some (0, u390)
    else none
    else none
    else
    if (y4 &&& 63) = 35 then
    (x1).bind fun a395 =>
    if uIs u a395 0 = true then
    ucall (f_X1_trouble N b g u a395) fun r399 u397 =>
    (x2).bind fun a400 =>
    if uIs u397 a400 2 = true then
    ucall (f_X3_trouble N b g u397 a400) fun r404 u402 =>
    if r399 = r404 then
    f_L_law_1593 N b g (f_L_law_23 N b g n) u402 (some a1) (some a395) (some a400) x3 x4
    else
    some (0, u402)
    else none
    else none
    else
    f_L_law_1593 N b g (f_L_law_23 N b g n) u (some a1) x1 x2 x3 x4
set_option maxHeartbeats 4000000 in
set_option maxRecDepth 100000 in
theorem zz_L_law_23 {G : uG} {uf : UH} {r : Int32} (N : Nat) : ∀ (n : Nat) (u : UH) (x0 : Option Nat) (x1 : Option Nat) (x2 : Option Nat) (x3 : Option Nat) (x4 : Int32), f_L_law_23 N (ub G) (ug G) n u x0 x1 x2 x3 x4 = some (r, uf) → u.1 ≤ uf.1 ∧ u.2.1 ≤ uf.2.1 := by
  intro n
  induction n with
  | zero =>
    intro u x0 x1 x2 x3 x4 h
    cases h
  | succ n ih =>
    intro u x0 x1 x2 x3 x4 h
    unfold f_L_law_23 at h
    obtain ⟨a1, ha1, hha1⟩ := mbind_n h
    subst ha1
    have h := hha1
    obtain ⟨y2, hy2, h⟩ := mbind_n h
    by_cases c3 : (y2 - 6) < x4
    · have h := mif_t c3 h
      obtain ⟨hr1, hr2⟩ := uret_n h
      subst hr2
      exact ⟨by omega, by omega⟩
    · have h := mif_f c3 h
      obtain ⟨y4, hy4, h⟩ := mbind_n h
      by_cases c5 : (y4 &&& 63) = 0
      · have h := mif_t c5 h
        obtain ⟨y6, hy6, h⟩ := mbind_n h
        obtain ⟨y7, hy7, h⟩ := mbind_n h
        obtain ⟨y8, hy8, h⟩ := mbind_n h
        obtain ⟨y9, hy9, h⟩ := mbind_n h
        obtain ⟨y10, hy10, h⟩ := mbind_n h
        obtain ⟨a11, ha11, hha11⟩ := mbind_n h
        subst ha11
        have h := hha11
        obtain ⟨c12, h⟩ := mif_n h
        obtain ⟨r15, u13, c14, h⟩ := ucall_n h
        have zu13 := zz_X1_feed N (ub G) (ug G) u a11 y6 y7 y8 y9 y10 r15 u13 c14
        have hq := zz_L_law_234 (G := G) N (f_L_law_23 N (ub G) (ug G) n) ih u13 (some a1) (some a11) x2 x3 x4 r15 h
        exact ⟨by omega, by omega⟩
      have h := mif_f c5 h
      by_cases c16 : (y4 &&& 63) = 1
      · have h := mif_t c16 h
        obtain ⟨y17, hy17, h⟩ := mbind_n h
        obtain ⟨a18, ha18, hha18⟩ := mbind_n h
        subst ha18
        have h := hha18
        obtain ⟨c19, h⟩ := mif_n h
        obtain ⟨r22, u20, c21, h⟩ := ucall_n h
        have zu20 := zz_X1_book N (ub G) (ug G) u a18 y17 r22 u20 c21
        have hq := zz_L_law_283 (G := G) N (f_L_law_23 N (ub G) (ug G) n) ih u20 (some a1) (some a18) x2 x3 x4 r22 h
        exact ⟨by omega, by omega⟩
      have h := mif_f c16 h
      by_cases c23 : (y4 &&& 63) = 2
      · have h := mif_t c23 h
        obtain ⟨y24, hy24, h⟩ := mbind_n h
        obtain ⟨a25, ha25, hha25⟩ := mbind_n h
        subst ha25
        have h := hha25
        obtain ⟨c26, h⟩ := mif_n h
        obtain ⟨r29, u27, c28, h⟩ := ucall_n h
        have zu27 := zz_X1_plan N (ub G) (ug G) u a25 y24 r29 u27 c28
        have hq := zz_L_law_308 (G := G) N (f_L_law_23 N (ub G) (ug G) n) ih u27 (some a1) (some a25) x2 x3 x4 r29 h
        exact ⟨by omega, by omega⟩
      have h := mif_f c23 h
      by_cases c30 : (y4 &&& 63) = 3
      · have h := mif_t c30 h
        obtain ⟨a31, ha31, hha31⟩ := mbind_n h
        subst ha31
        have h := hha31
        obtain ⟨c32, h⟩ := mif_n h
        obtain ⟨r35, u33, c34, h⟩ := ucall_n h
        have zu33 := zz_X1_fault N (ub G) (ug G) u a31 r35 u33 c34
        obtain ⟨a36, ha36, hha36⟩ := mbind_n h
        subst ha36
        have h := hha36
        obtain ⟨c37, h⟩ := mif_n h
        obtain ⟨r40, u38, c39, h⟩ := ucall_n h
        have zu38 := zz_X3_fault N (ub G) (ug G) u33 a36 r40 u38 c39
        by_cases c41 : r35 = r40
        · have h := mif_t c41 h
          have hq := zz_L_law_1593 (G := G) N (f_L_law_23 N (ub G) (ug G) n) ih u38 (some a1) (some a31) (some a36) x3 x4 h
          exact ⟨by omega, by omega⟩
        · have h := mif_f c41 h
          obtain ⟨hr1, hr2⟩ := uret_n h
          subst hr2
          exact ⟨by omega, by omega⟩
      have h := mif_f c30 h
      by_cases c42 : (y4 &&& 63) = 4
      · have h := mif_t c42 h
        obtain ⟨a43, ha43, hha43⟩ := mbind_n h
        subst ha43
        have h := hha43
        obtain ⟨c44, h⟩ := mif_n h
        obtain ⟨r47, u45, c46, h⟩ := ucall_n h
        have zu45 := zz_X1_where N (ub G) (ug G) u a43 r47 u45 c46
        obtain ⟨a48, ha48, hha48⟩ := mbind_n h
        subst ha48
        have h := hha48
        obtain ⟨c49, h⟩ := mif_n h
        obtain ⟨r52, u50, c51, h⟩ := ucall_n h
        have zu50 := zz_X3_where N (ub G) (ug G) u45 a48 r52 u50 c51
        by_cases c53 : r47 = r52
        · have h := mif_t c53 h
          have hq := zz_L_law_1593 (G := G) N (f_L_law_23 N (ub G) (ug G) n) ih u50 (some a1) (some a43) (some a48) x3 x4 h
          exact ⟨by omega, by omega⟩
        · have h := mif_f c53 h
          obtain ⟨hr1, hr2⟩ := uret_n h
          subst hr2
          exact ⟨by omega, by omega⟩
      have h := mif_f c42 h
      by_cases c54 : (y4 &&& 63) = 5
      · have h := mif_t c54 h
        obtain ⟨y55, hy55, h⟩ := mbind_n h
        obtain ⟨y56, hy56, h⟩ := mbind_n h
        obtain ⟨a57, ha57, hha57⟩ := mbind_n h
        subst ha57
        have h := hha57
        obtain ⟨c58, h⟩ := mif_n h
        obtain ⟨r61, u59, c60, h⟩ := ucall_n h
        have zu59 := zz_X1_sink N (ub G) (ug G) u a57 y55 y56 r61 u59 c60
        obtain ⟨y62, hy62, h⟩ := mbind_n h
        obtain ⟨y63, hy63, h⟩ := mbind_n h
        obtain ⟨a64, ha64, hha64⟩ := mbind_n h
        subst ha64
        have h := hha64
        obtain ⟨c65, h⟩ := mif_n h
        obtain ⟨r68, u66, c67, h⟩ := ucall_n h
        have zu66 := zz_X3_sink N (ub G) (ug G) u59 a64 y62 y63 r68 u66 c67
        by_cases c69 : r61 = r68
        · have h := mif_t c69 h
          have hq := zz_L_law_1593 (G := G) N (f_L_law_23 N (ub G) (ug G) n) ih u66 (some a1) (some a57) (some a64) x3 x4 h
          exact ⟨by omega, by omega⟩
        · have h := mif_f c69 h
          obtain ⟨hr1, hr2⟩ := uret_n h
          subst hr2
          exact ⟨by omega, by omega⟩
      have h := mif_f c54 h
      by_cases c70 : (y4 &&& 63) = 6
      · have h := mif_t c70 h
        obtain ⟨y71, hy71, h⟩ := mbind_n h
        obtain ⟨y72, hy72, h⟩ := mbind_n h
        obtain ⟨a73, ha73, hha73⟩ := mbind_n h
        subst ha73
        have h := hha73
        obtain ⟨c74, h⟩ := mif_n h
        obtain ⟨r77, u75, c76, h⟩ := ucall_n h
        have zu75 := zz_X1_grip N (ub G) (ug G) u a73 y71 y72 r77 u75 c76
        obtain ⟨y78, hy78, h⟩ := mbind_n h
        obtain ⟨y79, hy79, h⟩ := mbind_n h
        obtain ⟨a80, ha80, hha80⟩ := mbind_n h
        subst ha80
        have h := hha80
        obtain ⟨c81, h⟩ := mif_n h
        obtain ⟨r84, u82, c83, h⟩ := ucall_n h
        have zu82 := zz_X3_grip N (ub G) (ug G) u75 a80 y78 y79 r84 u82 c83
        by_cases c85 : r77 = r84
        · have h := mif_t c85 h
          have hq := zz_L_law_1593 (G := G) N (f_L_law_23 N (ub G) (ug G) n) ih u82 (some a1) (some a73) (some a80) x3 x4 h
          exact ⟨by omega, by omega⟩
        · have h := mif_f c85 h
          obtain ⟨hr1, hr2⟩ := uret_n h
          subst hr2
          exact ⟨by omega, by omega⟩
      have h := mif_f c70 h
      by_cases c86 : (y4 &&& 63) = 7
      · have h := mif_t c86 h
        obtain ⟨y87, hy87, h⟩ := mbind_n h
        obtain ⟨a88, ha88, hha88⟩ := mbind_n h
        subst ha88
        have h := hha88
        obtain ⟨c89, h⟩ := mif_n h
        obtain ⟨r92, u90, c91, h⟩ := ucall_n h
        have zu90 := zz_X1_dead N (ub G) (ug G) u a88 y87 r92 u90 c91
        obtain ⟨y93, hy93, h⟩ := mbind_n h
        obtain ⟨a94, ha94, hha94⟩ := mbind_n h
        subst ha94
        have h := hha94
        obtain ⟨c95, h⟩ := mif_n h
        obtain ⟨r98, u96, c97, h⟩ := ucall_n h
        have zu96 := zz_X3_dead N (ub G) (ug G) u90 a94 y93 r98 u96 c97
        by_cases c99 : r92 = r98
        · have h := mif_t c99 h
          have hq := zz_L_law_1593 (G := G) N (f_L_law_23 N (ub G) (ug G) n) ih u96 (some a1) (some a88) (some a94) x3 x4 h
          exact ⟨by omega, by omega⟩
        · have h := mif_f c99 h
          obtain ⟨hr1, hr2⟩ := uret_n h
          subst hr2
          exact ⟨by omega, by omega⟩
      have h := mif_f c86 h
      by_cases c100 : (y4 &&& 63) = 8
      · have h := mif_t c100 h
        obtain ⟨y101, hy101, h⟩ := mbind_n h
        obtain ⟨y102, hy102, h⟩ := mbind_n h
        obtain ⟨a103, ha103, hha103⟩ := mbind_n h
        subst ha103
        have h := hha103
        obtain ⟨c104, h⟩ := mif_n h
        obtain ⟨r107, u105, c106, h⟩ := ucall_n h
        have zu105 := zz_X1_map N (ub G) (ug G) u a103 y101 y102 r107 u105 c106
        have hq := zz_L_law_464 (G := G) N (f_L_law_23 N (ub G) (ug G) n) ih u105 (some a1) (some a103) x2 x3 x4 r107 h
        exact ⟨by omega, by omega⟩
      have h := mif_f c100 h
      by_cases c108 : (y4 &&& 63) = 9
      · have h := mif_t c108 h
        obtain ⟨y109, hy109, h⟩ := mbind_n h
        obtain ⟨y110, hy110, h⟩ := mbind_n h
        obtain ⟨a111, ha111, hha111⟩ := mbind_n h
        subst ha111
        have h := hha111
        obtain ⟨c112, h⟩ := mif_n h
        obtain ⟨r115, u113, c114, h⟩ := ucall_n h
        have zu113 := zz_X1_height N (ub G) (ug G) u a111 y109 y110 r115 u113 c114
        obtain ⟨y116, hy116, h⟩ := mbind_n h
        obtain ⟨y117, hy117, h⟩ := mbind_n h
        obtain ⟨a118, ha118, hha118⟩ := mbind_n h
        subst ha118
        have h := hha118
        obtain ⟨c119, h⟩ := mif_n h
        obtain ⟨r122, u120, c121, h⟩ := ucall_n h
        have zu120 := zz_X3_height N (ub G) (ug G) u113 a118 y116 y117 r122 u120 c121
        by_cases c123 : r115 = r122
        · have h := mif_t c123 h
          have hq := zz_L_law_1593 (G := G) N (f_L_law_23 N (ub G) (ug G) n) ih u120 (some a1) (some a111) (some a118) x3 x4 h
          exact ⟨by omega, by omega⟩
        · have h := mif_f c123 h
          obtain ⟨hr1, hr2⟩ := uret_n h
          subst hr2
          exact ⟨by omega, by omega⟩
      have h := mif_f c108 h
      by_cases c124 : (y4 &&& 63) = 10
      · have h := mif_t c124 h
        obtain ⟨y125, hy125, h⟩ := mbind_n h
        obtain ⟨y126, hy126, h⟩ := mbind_n h
        obtain ⟨a127, ha127, hha127⟩ := mbind_n h
        subst ha127
        have h := hha127
        obtain ⟨c128, h⟩ := mif_n h
        obtain ⟨r131, u129, c130, h⟩ := ucall_n h
        have zu129 := zz_X1_ground N (ub G) (ug G) u a127 y125 y126 r131 u129 c130
        obtain ⟨y132, hy132, h⟩ := mbind_n h
        obtain ⟨y133, hy133, h⟩ := mbind_n h
        obtain ⟨a134, ha134, hha134⟩ := mbind_n h
        subst ha134
        have h := hha134
        obtain ⟨c135, h⟩ := mif_n h
        obtain ⟨r138, u136, c137, h⟩ := ucall_n h
        have zu136 := zz_X3_ground N (ub G) (ug G) u129 a134 y132 y133 r138 u136 c137
        by_cases c139 : r131 = r138
        · have h := mif_t c139 h
          have hq := zz_L_law_1593 (G := G) N (f_L_law_23 N (ub G) (ug G) n) ih u136 (some a1) (some a127) (some a134) x3 x4 h
          exact ⟨by omega, by omega⟩
        · have h := mif_f c139 h
          obtain ⟨hr1, hr2⟩ := uret_n h
          subst hr2
          exact ⟨by omega, by omega⟩
      have h := mif_f c124 h
      by_cases c140 : (y4 &&& 63) = 11
      · have h := mif_t c140 h
        obtain ⟨y141, hy141, h⟩ := mbind_n h
        obtain ⟨a142, ha142, hha142⟩ := mbind_n h
        subst ha142
        have h := hha142
        obtain ⟨c143, h⟩ := mif_n h
        obtain ⟨r146, u144, c145, h⟩ := ucall_n h
        have zu144 := zz_X1_doubt N (ub G) (ug G) u a142 y141 r146 u144 c145
        have hq := zz_L_law_569 (G := G) N (f_L_law_23 N (ub G) (ug G) n) ih u144 (some a1) (some a142) x2 x3 x4 r146 h
        exact ⟨by omega, by omega⟩
      have h := mif_f c140 h
      by_cases c147 : (y4 &&& 63) = 12
      · have h := mif_t c147 h
        obtain ⟨y148, hy148, h⟩ := mbind_n h
        obtain ⟨y149, hy149, h⟩ := mbind_n h
        obtain ⟨y150, hy150, h⟩ := mbind_n h
        obtain ⟨a151, ha151, hha151⟩ := mbind_n h
        subst ha151
        have h := hha151
        obtain ⟨c152, h⟩ := mif_n h
        obtain ⟨r155, u153, c154, h⟩ := ucall_n h
        have zu153 := zz_X1_weigh N (ub G) (ug G) u a151 y148 y149 y150 r155 u153 c154
        obtain ⟨y156, hy156, h⟩ := mbind_n h
        obtain ⟨y157, hy157, h⟩ := mbind_n h
        obtain ⟨y158, hy158, h⟩ := mbind_n h
        obtain ⟨a159, ha159, hha159⟩ := mbind_n h
        subst ha159
        have h := hha159
        obtain ⟨c160, h⟩ := mif_n h
        obtain ⟨r163, u161, c162, h⟩ := ucall_n h
        have zu161 := zz_X3_weigh N (ub G) (ug G) u153 a159 y156 y157 y158 r163 u161 c162
        by_cases c164 : r155 = r163
        · have h := mif_t c164 h
          have hq := zz_L_law_1593 (G := G) N (f_L_law_23 N (ub G) (ug G) n) ih u161 (some a1) (some a151) (some a159) x3 x4 h
          exact ⟨by omega, by omega⟩
        · have h := mif_f c164 h
          obtain ⟨hr1, hr2⟩ := uret_n h
          subst hr2
          exact ⟨by omega, by omega⟩
      have h := mif_f c147 h
      by_cases c165 : (y4 &&& 63) = 13
      · have h := mif_t c165 h
        obtain ⟨y166, hy166, h⟩ := mbind_n h
        obtain ⟨y167, hy167, h⟩ := mbind_n h
        obtain ⟨a168, ha168, hha168⟩ := mbind_n h
        subst ha168
        have h := hha168
        obtain ⟨c169, h⟩ := mif_n h
        obtain ⟨r172, u170, c171, h⟩ := ucall_n h
        have zu170 := zz_X1_told N (ub G) (ug G) u a168 y166 y167 r172 u170 c171
        obtain ⟨y173, hy173, h⟩ := mbind_n h
        obtain ⟨y174, hy174, h⟩ := mbind_n h
        obtain ⟨a175, ha175, hha175⟩ := mbind_n h
        subst ha175
        have h := hha175
        obtain ⟨c176, h⟩ := mif_n h
        obtain ⟨r179, u177, c178, h⟩ := ucall_n h
        have zu177 := zz_X3_told N (ub G) (ug G) u170 a175 y173 y174 r179 u177 c178
        by_cases c180 : r172 = r179
        · have h := mif_t c180 h
          have hq := zz_L_law_1593 (G := G) N (f_L_law_23 N (ub G) (ug G) n) ih u177 (some a1) (some a168) (some a175) x3 x4 h
          exact ⟨by omega, by omega⟩
        · have h := mif_f c180 h
          obtain ⟨hr1, hr2⟩ := uret_n h
          subst hr2
          exact ⟨by omega, by omega⟩
      have h := mif_f c165 h
      by_cases c181 : (y4 &&& 63) = 14
      · have h := mif_t c181 h
        obtain ⟨y182, hy182, h⟩ := mbind_n h
        obtain ⟨a183, ha183, hha183⟩ := mbind_n h
        subst ha183
        have h := hha183
        obtain ⟨c184, h⟩ := mif_n h
        obtain ⟨r187, u185, c186, h⟩ := ucall_n h
        have zu185 := zz_X1_forget N (ub G) (ug G) u a183 y182 r187 u185 c186
        obtain ⟨y188, hy188, h⟩ := mbind_n h
        obtain ⟨a189, ha189, hha189⟩ := mbind_n h
        subst ha189
        have h := hha189
        obtain ⟨c190, h⟩ := mif_n h
        obtain ⟨r193, u191, c192, h⟩ := ucall_n h
        have zu191 := zz_X3_forget N (ub G) (ug G) u185 a189 y188 r193 u191 c192
        by_cases c194 : r187 = r193
        · have h := mif_t c194 h
          have hq := zz_L_law_1593 (G := G) N (f_L_law_23 N (ub G) (ug G) n) ih u191 (some a1) (some a183) (some a189) x3 x4 h
          exact ⟨by omega, by omega⟩
        · have h := mif_f c194 h
          obtain ⟨hr1, hr2⟩ := uret_n h
          subst hr2
          exact ⟨by omega, by omega⟩
      have h := mif_f c181 h
      by_cases c195 : (y4 &&& 63) = 15
      · have h := mif_t c195 h
        obtain ⟨y196, hy196, h⟩ := mbind_n h
        obtain ⟨y197, hy197, h⟩ := mbind_n h
        obtain ⟨a198, ha198, hha198⟩ := mbind_n h
        subst ha198
        have h := hha198
        obtain ⟨c199, h⟩ := mif_n h
        obtain ⟨r202, u200, c201, h⟩ := ucall_n h
        have zu200 := zz_X1_of N (ub G) (ug G) u a198 y196 y197 r202 u200 c201
        obtain ⟨y203, hy203, h⟩ := mbind_n h
        obtain ⟨y204, hy204, h⟩ := mbind_n h
        obtain ⟨a205, ha205, hha205⟩ := mbind_n h
        subst ha205
        have h := hha205
        obtain ⟨c206, h⟩ := mif_n h
        obtain ⟨r209, u207, c208, h⟩ := ucall_n h
        have zu207 := zz_X3_of N (ub G) (ug G) u200 a205 y203 y204 r209 u207 c208
        by_cases c210 : r202 = r209
        · have h := mif_t c210 h
          have hq := zz_L_law_1593 (G := G) N (f_L_law_23 N (ub G) (ug G) n) ih u207 (some a1) (some a198) (some a205) x3 x4 h
          exact ⟨by omega, by omega⟩
        · have h := mif_f c210 h
          obtain ⟨hr1, hr2⟩ := uret_n h
          subst hr2
          exact ⟨by omega, by omega⟩
      have h := mif_f c195 h
      by_cases c211 : (y4 &&& 63) = 16
      · have h := mif_t c211 h
        obtain ⟨y212, hy212, h⟩ := mbind_n h
        obtain ⟨y213, hy213, h⟩ := mbind_n h
        obtain ⟨y214, hy214, h⟩ := mbind_n h
        obtain ⟨y215, hy215, h⟩ := mbind_n h
        obtain ⟨a216, ha216, hha216⟩ := mbind_n h
        subst ha216
        have h := hha216
        obtain ⟨c217, h⟩ := mif_n h
        obtain ⟨r220, u218, c219, h⟩ := ucall_n h
        have zu218 := zz_X1_step N (ub G) (ug G) u a216 y212 y213 y214 y215 r220 u218 c219
        obtain ⟨y221, hy221, h⟩ := mbind_n h
        obtain ⟨y222, hy222, h⟩ := mbind_n h
        obtain ⟨y223, hy223, h⟩ := mbind_n h
        obtain ⟨y224, hy224, h⟩ := mbind_n h
        obtain ⟨a225, ha225, hha225⟩ := mbind_n h
        subst ha225
        have h := hha225
        obtain ⟨c226, h⟩ := mif_n h
        obtain ⟨r229, u227, c228, h⟩ := ucall_n h
        have zu227 := zz_X3_step N (ub G) (ug G) u218 a225 y221 y222 y223 y224 r229 u227 c228
        by_cases c230 : r220 = r229
        · have h := mif_t c230 h
          have hq := zz_L_law_1593 (G := G) N (f_L_law_23 N (ub G) (ug G) n) ih u227 (some a1) (some a216) (some a225) x3 x4 h
          exact ⟨by omega, by omega⟩
        · have h := mif_f c230 h
          obtain ⟨hr1, hr2⟩ := uret_n h
          subst hr2
          exact ⟨by omega, by omega⟩
      have h := mif_f c211 h
      by_cases c231 : (y4 &&& 63) = 17
      · have h := mif_t c231 h
        obtain ⟨y232, hy232, h⟩ := mbind_n h
        obtain ⟨y233, hy233, h⟩ := mbind_n h
        obtain ⟨a234, ha234, hha234⟩ := mbind_n h
        subst ha234
        have h := hha234
        obtain ⟨c235, h⟩ := mif_n h
        obtain ⟨r238, u236, c237, h⟩ := ucall_n h
        have zu236 := zz_X1_worst N (ub G) (ug G) u a234 y232 y233 r238 u236 c237
        have hq := zz_L_law_809 (G := G) N (f_L_law_23 N (ub G) (ug G) n) ih u236 (some a1) (some a234) x2 x3 x4 r238 h
        exact ⟨by omega, by omega⟩
      have h := mif_f c231 h
      by_cases c239 : (y4 &&& 63) = 18
      · have h := mif_t c239 h
        obtain ⟨y240, hy240, h⟩ := mbind_n h
        obtain ⟨y241, hy241, h⟩ := mbind_n h
        obtain ⟨y242, hy242, h⟩ := mbind_n h
        by_cases c243 : y242 = 0
        · have h := mif_t c243 h
          have hq := zz_L_law_857 (G := G) N (f_L_law_23 N (ub G) (ug G) n) ih u (some a1) x1 x2 x3 x4 0 y241 y240 x1 h
          exact ⟨by omega, by omega⟩
        · have h := mif_f c243 h
          have hq := zz_L_law_857 (G := G) N (f_L_law_23 N (ub G) (ug G) n) ih u (some a1) x1 x2 x3 x4 1 y241 y240 x1 h
          exact ⟨by omega, by omega⟩
      have h := mif_f c239 h
      by_cases c244 : (y4 &&& 63) = 19
      · have h := mif_t c244 h
        obtain ⟨y245, hy245, h⟩ := mbind_n h
        obtain ⟨y246, hy246, h⟩ := mbind_n h
        obtain ⟨y247, hy247, h⟩ := mbind_n h
        by_cases c248 : y247 = 0
        · have h := mif_t c248 h
          have hq := zz_L_law_923 (G := G) N (f_L_law_23 N (ub G) (ug G) n) ih u (some a1) x1 x2 x3 x4 0 y246 y245 x1 h
          exact ⟨by omega, by omega⟩
        · have h := mif_f c248 h
          have hq := zz_L_law_923 (G := G) N (f_L_law_23 N (ub G) (ug G) n) ih u (some a1) x1 x2 x3 x4 1 y246 y245 x1 h
          exact ⟨by omega, by omega⟩
      have h := mif_f c244 h
      by_cases c249 : (y4 &&& 63) = 20
      · have h := mif_t c249 h
        obtain ⟨a250, ha250, hha250⟩ := mbind_n h
        subst ha250
        have h := hha250
        obtain ⟨c251, h⟩ := mif_n h
        obtain ⟨r254, u252, c253, h⟩ := ucall_n h
        have zu252 := zz_X1_truths N (ub G) (ug G) u a250 r254 u252 c253
        obtain ⟨a255, ha255, hha255⟩ := mbind_n h
        subst ha255
        have h := hha255
        obtain ⟨c256, h⟩ := mif_n h
        obtain ⟨r259, u257, c258, h⟩ := ucall_n h
        have zu257 := zz_X3_truths N (ub G) (ug G) u252 a255 r259 u257 c258
        by_cases c260 : r254 = r259
        · have h := mif_t c260 h
          have hq := zz_L_law_1593 (G := G) N (f_L_law_23 N (ub G) (ug G) n) ih u257 (some a1) (some a250) (some a255) x3 x4 h
          exact ⟨by omega, by omega⟩
        · have h := mif_f c260 h
          obtain ⟨hr1, hr2⟩ := uret_n h
          subst hr2
          exact ⟨by omega, by omega⟩
      have h := mif_f c249 h
      by_cases c261 : (y4 &&& 63) = 21
      · have h := mif_t c261 h
        obtain ⟨y262, hy262, h⟩ := mbind_n h
        obtain ⟨y263, hy263, h⟩ := mbind_n h
        obtain ⟨a264, ha264, hha264⟩ := mbind_n h
        subst ha264
        have h := hha264
        obtain ⟨c265, h⟩ := mif_n h
        obtain ⟨r268, u266, c267, h⟩ := ucall_n h
        have zu266 := zz_X1_truth N (ub G) (ug G) u a264 y262 y263 r268 u266 c267
        have hq := zz_L_law_990 (G := G) N (f_L_law_23 N (ub G) (ug G) n) ih u266 (some a1) (some a264) x2 x3 x4 r268 h
        exact ⟨by omega, by omega⟩
      have h := mif_f c261 h
      by_cases c269 : (y4 &&& 63) = 22
      · have h := mif_t c269 h
        obtain ⟨y270, hy270, h⟩ := mbind_n h
        obtain ⟨y271, hy271, h⟩ := mbind_n h
        obtain ⟨y272, hy272, h⟩ := mbind_n h
        by_cases c273 : y272 = 0
        · have h := mif_t c273 h
          have hq := zz_L_law_1038 (G := G) N (f_L_law_23 N (ub G) (ug G) n) ih u (some a1) x1 x2 x3 x4 0 y271 y270 x1 h
          exact ⟨by omega, by omega⟩
        · have h := mif_f c273 h
          have hq := zz_L_law_1038 (G := G) N (f_L_law_23 N (ub G) (ug G) n) ih u (some a1) x1 x2 x3 x4 1 y271 y270 x1 h
          exact ⟨by omega, by omega⟩
      have h := mif_f c269 h
      by_cases c274 : (y4 &&& 63) = 23
      · have h := mif_t c274 h
        obtain ⟨y275, hy275, h⟩ := mbind_n h
        obtain ⟨r278, u276, c277, h⟩ := ucall_n h
        have zu276 := zz_X0_led N (ub G) (ug G) u x1 y275 x3 r278 u276 c277
        have hq := zz_L_law_1099 (G := G) N (f_L_law_23 N (ub G) (ug G) n) ih u276 (some a1) x1 x2 x3 x4 r278 h
        exact ⟨by omega, by omega⟩
      have h := mif_f c274 h
      by_cases c279 : (y4 &&& 63) = 24
      · have h := mif_t c279 h
        obtain ⟨y280, hy280, h⟩ := mbind_n h
        obtain ⟨y281, hy281, h⟩ := mbind_n h
        obtain ⟨a282, ha282, hha282⟩ := mbind_n h
        subst ha282
        have h := hha282
        obtain ⟨c283, h⟩ := mif_n h
        obtain ⟨r286, u284, c285, h⟩ := ucall_n h
        have zu284 := zz_X1_regret N (ub G) (ug G) u a282 y280 y281 r286 u284 c285
        have hq := zz_L_law_1160 (G := G) N (f_L_law_23 N (ub G) (ug G) n) ih u284 (some a1) (some a282) x2 x3 x4 r286 h
        exact ⟨by omega, by omega⟩
      have h := mif_f c279 h
      by_cases c287 : (y4 &&& 63) = 25
      · have h := mif_t c287 h
        obtain ⟨y288, hy288, h⟩ := mbind_n h
        obtain ⟨y289, hy289, h⟩ := mbind_n h
        obtain ⟨y290, hy290, h⟩ := mbind_n h
        obtain ⟨y291, hy291, h⟩ := mbind_n h
        by_cases c292 : y291 = 0
        · have h := mif_t c292 h
          have hq := zz_L_law_1214 (G := G) N (f_L_law_23 N (ub G) (ug G) n) ih u (some a1) x1 x2 x3 x4 0 y290 y289 y288 x1 h
          exact ⟨by omega, by omega⟩
        · have h := mif_f c292 h
          have hq := zz_L_law_1214 (G := G) N (f_L_law_23 N (ub G) (ug G) n) ih u (some a1) x1 x2 x3 x4 1 y290 y289 y288 x1 h
          exact ⟨by omega, by omega⟩
      have h := mif_f c287 h
      by_cases c293 : (y4 &&& 63) = 26
      · have h := mif_t c293 h
        obtain ⟨y294, hy294, h⟩ := mbind_n h
        obtain ⟨y295, hy295, h⟩ := mbind_n h
        obtain ⟨y296, hy296, h⟩ := mbind_n h
        obtain ⟨a297, ha297, hha297⟩ := mbind_n h
        subst ha297
        have h := hha297
        obtain ⟨c298, h⟩ := mif_n h
        obtain ⟨r301, u299, c300, h⟩ := ucall_n h
        have zu299 := zz_X1_spared N (ub G) (ug G) u a297 y294 y295 y296 r301 u299 c300
        have hq := zz_L_law_1281 (G := G) N (f_L_law_23 N (ub G) (ug G) n) ih u299 (some a1) (some a297) x2 x3 x4 r301 h
        exact ⟨by omega, by omega⟩
      have h := mif_f c293 h
      by_cases c302 : (y4 &&& 63) = 27
      · have h := mif_t c302 h
        obtain ⟨y303, hy303, h⟩ := mbind_n h
        obtain ⟨y304, hy304, h⟩ := mbind_n h
        obtain ⟨y305, hy305, h⟩ := mbind_n h
        obtain ⟨y306, hy306, h⟩ := mbind_n h
        obtain ⟨a307, ha307, hha307⟩ := mbind_n h
        subst ha307
        have h := hha307
        obtain ⟨c308, h⟩ := mif_n h
        obtain ⟨r311, u309, c310, h⟩ := ucall_n h
        have zu309 := zz_X1_failing N (ub G) (ug G) u a307 y303 y304 y305 y306 r311 u309 c310
        have hq := zz_L_law_1336 (G := G) N (f_L_law_23 N (ub G) (ug G) n) ih u309 (some a1) (some a307) x2 x3 x4 r311 h
        exact ⟨by omega, by omega⟩
      have h := mif_f c302 h
      by_cases c312 : (y4 &&& 63) = 28
      · have h := mif_t c312 h
        obtain ⟨y313, hy313, h⟩ := mbind_n h
        obtain ⟨a314, ha314, hha314⟩ := mbind_n h
        subst ha314
        have h := hha314
        obtain ⟨c315, h⟩ := mif_n h
        obtain ⟨r318, u316, c317, h⟩ := ucall_n h
        have zu316 := zz_X1_first N (ub G) (ug G) u a314 y313 r318 u316 c317
        obtain ⟨y319, hy319, h⟩ := mbind_n h
        obtain ⟨a320, ha320, hha320⟩ := mbind_n h
        subst ha320
        have h := hha320
        obtain ⟨c321, h⟩ := mif_n h
        obtain ⟨r324, u322, c323, h⟩ := ucall_n h
        have zu322 := zz_X3_first N (ub G) (ug G) u316 a320 y319 r324 u322 c323
        by_cases c325 : r318 = r324
        · have h := mif_t c325 h
          have hq := zz_L_law_1593 (G := G) N (f_L_law_23 N (ub G) (ug G) n) ih u322 (some a1) (some a314) (some a320) x3 x4 h
          exact ⟨by omega, by omega⟩
        · have h := mif_f c325 h
          obtain ⟨hr1, hr2⟩ := uret_n h
          subst hr2
          exact ⟨by omega, by omega⟩
      have h := mif_f c312 h
      by_cases c326 : (y4 &&& 63) = 29
      · have h := mif_t c326 h
        obtain ⟨y327, hy327, h⟩ := mbind_n h
        obtain ⟨y328, hy328, h⟩ := mbind_n h
        obtain ⟨y329, hy329, h⟩ := mbind_n h
        obtain ⟨a330, ha330, hha330⟩ := mbind_n h
        subst ha330
        have h := hha330
        obtain ⟨c331, h⟩ := mif_n h
        obtain ⟨r334, u332, c333, h⟩ := ucall_n h
        have zu332 := zz_X1_costs N (ub G) (ug G) u a330 y327 y328 y329 r334 u332 c333
        have hq := zz_L_law_1416 (G := G) N (f_L_law_23 N (ub G) (ug G) n) ih u332 (some a1) (some a330) x2 x3 x4 r334 h
        exact ⟨by omega, by omega⟩
      have h := mif_f c326 h
      by_cases c335 : (y4 &&& 63) = 30
      · have h := mif_t c335 h
        obtain ⟨y336, hy336, h⟩ := mbind_n h
        obtain ⟨y337, hy337, h⟩ := mbind_n h
        obtain ⟨a338, ha338, hha338⟩ := mbind_n h
        subst ha338
        have h := hha338
        obtain ⟨c339, h⟩ := mif_n h
        obtain ⟨r342, u340, c341, h⟩ := ucall_n h
        have zu340 := zz_X1_dig N (ub G) (ug G) u a338 y336 y337 r342 u340 c341
        obtain ⟨y343, hy343, h⟩ := mbind_n h
        obtain ⟨y344, hy344, h⟩ := mbind_n h
        obtain ⟨a345, ha345, hha345⟩ := mbind_n h
        subst ha345
        have h := hha345
        obtain ⟨c346, h⟩ := mif_n h
        obtain ⟨r349, u347, c348, h⟩ := ucall_n h
        have zu347 := zz_X3_dig N (ub G) (ug G) u340 a345 y343 y344 r349 u347 c348
        by_cases c350 : r342 = r349
        · have h := mif_t c350 h
          have hq := zz_L_law_1593 (G := G) N (f_L_law_23 N (ub G) (ug G) n) ih u347 (some a1) (some a338) (some a345) x3 x4 h
          exact ⟨by omega, by omega⟩
        · have h := mif_f c350 h
          obtain ⟨hr1, hr2⟩ := uret_n h
          subst hr2
          exact ⟨by omega, by omega⟩
      have h := mif_f c335 h
      by_cases c351 : (y4 &&& 63) = 31
      · have h := mif_t c351 h
        obtain ⟨a352, ha352, hha352⟩ := mbind_n h
        subst ha352
        have h := hha352
        obtain ⟨c353, h⟩ := mif_n h
        obtain ⟨r356, u354, c355, h⟩ := ucall_n h
        have zu354 := zz_X1_out N (ub G) (ug G) u a352 r356 u354 c355
        have hq := zz_L_law_1484 (G := G) N (f_L_law_23 N (ub G) (ug G) n) ih u354 (some a1) (some a352) x2 x3 x4 r356 h
        exact ⟨by omega, by omega⟩
      have h := mif_f c351 h
      by_cases c357 : (y4 &&& 63) = 32
      · have h := mif_t c357 h
        obtain ⟨y358, hy358, h⟩ := mbind_n h
        obtain ⟨a359, ha359, hha359⟩ := mbind_n h
        subst ha359
        have h := hha359
        obtain ⟨c360, h⟩ := mif_n h
        obtain ⟨r363, u361, c362, h⟩ := ucall_n h
        have zu361 := zz_X1_tryAt N (ub G) (ug G) u a359 y358 r363 u361 c362
        have hq := zz_L_law_1503 (G := G) N (f_L_law_23 N (ub G) (ug G) n) ih u361 (some a1) (some a359) x2 x3 x4 r363 h
        exact ⟨by omega, by omega⟩
      have h := mif_f c357 h
      by_cases c364 : (y4 &&& 63) = 33
      · have h := mif_t c364 h
        obtain ⟨y365, hy365, h⟩ := mbind_n h
        obtain ⟨y366, hy366, h⟩ := mbind_n h
        obtain ⟨a367, ha367, hha367⟩ := mbind_n h
        subst ha367
        have h := hha367
        obtain ⟨c368, h⟩ := mif_n h
        obtain ⟨r371, u369, c370, h⟩ := ucall_n h
        have zu369 := zz_X1_make N (ub G) (ug G) u a367 y365 y366 r371 u369 c370
        obtain ⟨y372, hy372, h⟩ := mbind_n h
        obtain ⟨y373, hy373, h⟩ := mbind_n h
        obtain ⟨a374, ha374, hha374⟩ := mbind_n h
        subst ha374
        have h := hha374
        obtain ⟨c375, h⟩ := mif_n h
        obtain ⟨r378, u376, c377, h⟩ := ucall_n h
        have zu376 := zz_X3_make N (ub G) (ug G) u369 a374 y372 y373 r378 u376 c377
        by_cases c379 : r371 = r378
        · have h := mif_t c379 h
          have hq := zz_L_law_1593 (G := G) N (f_L_law_23 N (ub G) (ug G) n) ih u376 (some a1) (some a367) (some a374) x3 x4 h
          exact ⟨by omega, by omega⟩
        · have h := mif_f c379 h
          obtain ⟨hr1, hr2⟩ := uret_n h
          subst hr2
          exact ⟨by omega, by omega⟩
      have h := mif_f c364 h
      by_cases c380 : (y4 &&& 63) = 34
      · have h := mif_t c380 h
        obtain ⟨y381, hy381, h⟩ := mbind_n h
        obtain ⟨a382, ha382, hha382⟩ := mbind_n h
        subst ha382
        have h := hha382
        obtain ⟨c383, h⟩ := mif_n h
        obtain ⟨r386, u384, c385, h⟩ := ucall_n h
        have zu384 := zz_X1_count N (ub G) (ug G) u a382 y381 r386 u384 c385
        obtain ⟨y387, hy387, h⟩ := mbind_n h
        obtain ⟨a388, ha388, hha388⟩ := mbind_n h
        subst ha388
        have h := hha388
        obtain ⟨c389, h⟩ := mif_n h
        obtain ⟨r392, u390, c391, h⟩ := ucall_n h
        have zu390 := zz_X3_count N (ub G) (ug G) u384 a388 y387 r392 u390 c391
        by_cases c393 : r386 = r392
        · have h := mif_t c393 h
          have hq := zz_L_law_1593 (G := G) N (f_L_law_23 N (ub G) (ug G) n) ih u390 (some a1) (some a382) (some a388) x3 x4 h
          exact ⟨by omega, by omega⟩
        · have h := mif_f c393 h
          obtain ⟨hr1, hr2⟩ := uret_n h
          subst hr2
          exact ⟨by omega, by omega⟩
      have h := mif_f c380 h
      by_cases c394 : (y4 &&& 63) = 35
      · have h := mif_t c394 h
        obtain ⟨a395, ha395, hha395⟩ := mbind_n h
        subst ha395
        have h := hha395
        obtain ⟨c396, h⟩ := mif_n h
        obtain ⟨r399, u397, c398, h⟩ := ucall_n h
        have zu397 := zz_X1_trouble N (ub G) (ug G) u a395 r399 u397 c398
        obtain ⟨a400, ha400, hha400⟩ := mbind_n h
        subst ha400
        have h := hha400
        obtain ⟨c401, h⟩ := mif_n h
        obtain ⟨r404, u402, c403, h⟩ := ucall_n h
        have zu402 := zz_X3_trouble N (ub G) (ug G) u397 a400 r404 u402 c403
        by_cases c405 : r399 = r404
        · have h := mif_t c405 h
          have hq := zz_L_law_1593 (G := G) N (f_L_law_23 N (ub G) (ug G) n) ih u402 (some a1) (some a395) (some a400) x3 x4 h
          exact ⟨by omega, by omega⟩
        · have h := mif_f c405 h
          obtain ⟨hr1, hr2⟩ := uret_n h
          subst hr2
          exact ⟨by omega, by omega⟩
      have h := mif_f c394 h
      have hq := zz_L_law_1593 (G := G) N (f_L_law_23 N (ub G) (ug G) n) ih u (some a1) x1 x2 x3 x4 h
      exact ⟨by omega, by omega⟩
set_option maxHeartbeats 4000000 in
set_option maxRecDepth 100000 in
theorem w_L_law_23 {p : Program} {l : Launch} {e : Env} {R : Room} {s : State} {m : MethodId} {args : Array Value} {below : List Frame} {meth : Method} {c : Code} {G : uG} {u0 : UH} {uf : UH} {r : Int32} (hC : uC p s m args meth c G R_law cL_law 7 (some .boolean)) (hled : uLedOK l) (hR : 103 ≤ R.frames ∧ 6080 ≤ R.locals) (hRm : uf.1 - u0.1 ≤ R.cells ∧ uf.2.1 - u0.2.1 ≤ R.slots) (N : Nat) : ∀ (n : Nat) (u : UH) (x0 : Option Nat) (x1 : Option Nat) (x2 : Option Nat) (x3 : Option Nat) (x4 : Int32), f_L_law_23 N (ub G) (ug G) n u x0 x1 x2 x3 x4 = some (r, uf) → (u0.1 ≤ u.1 ∧ u0.2.1 ≤ u.2.1) → ∀ (H : Heap) (locs : List Loc), uP G u H → va_S (uA G) s.heap H locs → ∀ ls : Array Slot, lv_has ls 7 [(0, va_rf x0), (1, va_rf x1), (2, va_rf x2), (3, va_rf x3), (4, .int x4)] → W p l e R s m args below meth c H locs (u.1 - u0.1) (u.2.1 - u0.2.1) (MQ below (uQi G r uf) args s (uf.1 - u0.1) (uf.2.1 - u0.2.1) (uA G)) (F0 m 23 ls []) := by
  obtain ⟨⟨hx, hb, hml, hown, hts⟩, hKK⟩ := id hC
  intro n
  induction n with
  | zero =>
    intro u x0 x1 x2 x3 x4 h
    cases h
  | succ n ih =>
    intro u x0 x1 x2 x3 x4 h hz0 H locs hP hS ls hl
    have hzf := zz_L_law_23 (G := G) N (n + 1) u x0 x1 x2 x3 x4 h
    unfold f_L_law_23 at h
    refine lv_iload hx hb dL_law_23 (lv_at hl 4 rfl) ?_
    refine u_aload_n (r := x0) hx hb dL_law_25 rfl (lv_at hl 0 rfl) ?_
    obtain ⟨a1, ha1, hha1⟩ := mbind_n h
    subst ha1
    have h := hha1
    obtain ⟨y2, hy2, h⟩ := mbind_n h
    refine u_alen hC hP hy2 dL_law_26 ?_
    refine lv_bipush (v := 6) hx hb dL_law_27 (by decide) ?_
    refine lv_isub hx hb dL_law_29 ?_
    refine lv_icmp_gt (tgt := 1599) hx hb dL_law_30 (by decide) (fun c3 => ?_) (fun c3 => ?_)
    · have h := mif_t c3 h
      refine lv_iconst (v := 1) hx hb dL_law_1599 (by decide) ?_
      obtain ⟨hr1, hr2⟩ := uret_n h
      subst hr1
      subst hr2
      exact u_zret hC (uFit_n (ty := .boolean) (v := 1) rfl).1 hP hS dL_law_1600
    · have h := mif_f c3 h
      refine u_aload_n (r := some a1) hx hb dL_law_33 rfl (lv_at hl 0 rfl) ?_
      refine lv_iload hx hb dL_law_34 (lv_at hl 4 rfl) ?_
      obtain ⟨y4, hy4, h⟩ := mbind_n h
      refine u_iald hC hP hy4 rfl dL_law_36 ?_
      refine lv_bipush (v := 63) hx hb dL_law_37 (by decide) ?_
      refine lv_iand hx hb dL_law_39 ?_
      by_cases c5 : (y4 &&& 63) = 0
      · have h := mif_t c5 h
        refine lv_tableIn (tgt := 200) hx hb dL_law_40 (by rw [c5]; decide) (by rw [c5]; decide) (by rw [c5]; rfl) (by decide) ?_
        refine u_aload_n (r := x1) hx hb dL_law_200 rfl (lv_at hl 1 rfl) ?_
        refine u_aload_n (r := some a1) hx hb dL_law_201 rfl (lv_at hl 0 rfl) ?_
        refine lv_iload hx hb dL_law_202 (lv_at hl 4 rfl) ?_
        refine lv_iconst (v := 1) hx hb dL_law_204 (by decide) ?_
        refine lv_iadd hx hb dL_law_205 ?_
        obtain ⟨y6, hy6, h⟩ := mbind_n h
        refine u_iald hC hP hy6 rfl dL_law_206 ?_
        refine u_aload_n (r := some a1) hx hb dL_law_207 rfl (lv_at hl 0 rfl) ?_
        refine lv_iload hx hb dL_law_208 (lv_at hl 4 rfl) ?_
        refine lv_iconst (v := 2) hx hb dL_law_210 (by decide) ?_
        refine lv_iadd hx hb dL_law_211 ?_
        obtain ⟨y7, hy7, h⟩ := mbind_n h
        refine u_iald hC hP hy7 rfl dL_law_212 ?_
        refine u_aload_n (r := some a1) hx hb dL_law_213 rfl (lv_at hl 0 rfl) ?_
        refine lv_iload hx hb dL_law_214 (lv_at hl 4 rfl) ?_
        refine lv_iconst (v := 3) hx hb dL_law_216 (by decide) ?_
        refine lv_iadd hx hb dL_law_217 ?_
        obtain ⟨y8, hy8, h⟩ := mbind_n h
        refine u_iald hC hP hy8 rfl dL_law_218 ?_
        refine u_aload_n (r := some a1) hx hb dL_law_219 rfl (lv_at hl 0 rfl) ?_
        refine lv_iload hx hb dL_law_220 (lv_at hl 4 rfl) ?_
        refine lv_iconst (v := 4) hx hb dL_law_222 (by decide) ?_
        refine lv_iadd hx hb dL_law_223 ?_
        obtain ⟨y9, hy9, h⟩ := mbind_n h
        refine u_iald hC hP hy9 rfl dL_law_224 ?_
        refine u_aload_n (r := some a1) hx hb dL_law_225 rfl (lv_at hl 0 rfl) ?_
        refine lv_iload hx hb dL_law_226 (lv_at hl 4 rfl) ?_
        refine lv_iconst (v := 5) hx hb dL_law_228 (by decide) ?_
        refine lv_iadd hx hb dL_law_229 ?_
        obtain ⟨y10, hy10, h⟩ := mbind_n h
        refine u_iald hC hP hy10 rfl dL_law_230 ?_
        obtain ⟨a11, ha11, hha11⟩ := mbind_n h
        subst ha11
        have h := hha11
        obtain ⟨c12, h⟩ := mif_n h
        obtain ⟨r15, u13, c14, h⟩ := ucall_n h
        have zu13 := zz_X1_feed N (ub G) (ug G) u a11 y6 y7 y8 y9 y10 r15 u13 c14
        have hq := zz_L_law_234 (G := G) N (f_L_law_23 N (ub G) (ug G) n) (zz_L_law_23 (G := G) N n) u13 (some a1) (some a11) x2 x3 x4 r15 h
        refine u_calli (va_runV (As := [.int y6, .int y7, .int y8, .int y9, .int y10]) (rest := []) hC.1 (met_X1_feed l N G u a11 y6 y7 y8 y9 y10 r15 u13 c14) (cwV 5 hts (lw_V q264 q265 q266 q98 q267) rfl rfl rfl (by decide +kernel) ⟨Nat.le_trans (Nat.le_of_ble_eq_true rfl) hR.1, Nat.le_trans (Nat.le_of_ble_eq_true rfl) hR.2⟩) ⟨uPc_blind, u_rcv hC hP c12 rfl, fun U hU hW => u_pre hC hP hS hU hW⟩ rfl rfl hl.1 rfl (lv_room (Nat.le_of_ble_eq_true rfl)) dL_law_231 ⟨by omega, by omega⟩) hS (fun H locs hP hS => ?_)
        refine W.cs (cells' := u13.1 - u0.1) (slots' := u13.2.1 - u0.2.1) (by omega) (by omega) ?_
        refine W.cs (cells' := u13.1 - u0.1) (slots' := u13.2.1 - u0.2.1) (by omega) (by omega) ?_
        exact w_L_law_234 hC hled hR hRm N (f_L_law_23 N (ub G) (ug G) n) ih (zz_L_law_23 (G := G) N n) u13 (some a1) (some a11) x2 x3 x4 r15 h ⟨by omega, by omega⟩ hP hS (lv_sub hl [0, 1, 2, 3, 4] rfl)
      have h := mif_f c5 h
      by_cases c16 : (y4 &&& 63) = 1
      · have h := mif_t c16 h
        refine lv_tableIn (tgt := 273) hx hb dL_law_40 (by rw [c16]; decide) (by rw [c16]; decide) (by rw [c16]; rfl) (by decide) ?_
        refine u_aload_n (r := x1) hx hb dL_law_273 rfl (lv_at hl 1 rfl) ?_
        refine u_aload_n (r := some a1) hx hb dL_law_274 rfl (lv_at hl 0 rfl) ?_
        refine lv_iload hx hb dL_law_275 (lv_at hl 4 rfl) ?_
        refine lv_iconst (v := 1) hx hb dL_law_277 (by decide) ?_
        refine lv_iadd hx hb dL_law_278 ?_
        obtain ⟨y17, hy17, h⟩ := mbind_n h
        refine u_iald hC hP hy17 rfl dL_law_279 ?_
        obtain ⟨a18, ha18, hha18⟩ := mbind_n h
        subst ha18
        have h := hha18
        obtain ⟨c19, h⟩ := mif_n h
        obtain ⟨r22, u20, c21, h⟩ := ucall_n h
        have zu20 := zz_X1_book N (ub G) (ug G) u a18 y17 r22 u20 c21
        have hq := zz_L_law_283 (G := G) N (f_L_law_23 N (ub G) (ug G) n) (zz_L_law_23 (G := G) N n) u20 (some a1) (some a18) x2 x3 x4 r22 h
        refine u_calli (u_runVW (As := [.int y17]) (rest := []) 1 hC.1 (met_X1_book l N G u a18 y17 r22 u20 c21) q268 q269 q270 q98 q271 rfl rfl (by decide +kernel) ⟨Nat.le_trans (Nat.le_of_ble_eq_true rfl) hR.1, Nat.le_trans (Nat.le_of_ble_eq_true rfl) hR.2⟩ ⟨uPc_blind, u_rcv hC hP c19 rfl, fun U hU hW => u_pre hC hP hS hU hW⟩ rfl rfl hl.1 rfl (lv_room (Nat.le_of_ble_eq_true rfl)) dL_law_280 ⟨by omega, by omega⟩) hS (fun H locs hP hS => ?_)
        refine W.cs (cells' := u20.1 - u0.1) (slots' := u20.2.1 - u0.2.1) (by omega) (by omega) ?_
        refine W.cs (cells' := u20.1 - u0.1) (slots' := u20.2.1 - u0.2.1) (by omega) (by omega) ?_
        exact w_L_law_283 hC hled hR hRm N (f_L_law_23 N (ub G) (ug G) n) ih (zz_L_law_23 (G := G) N n) u20 (some a1) (some a18) x2 x3 x4 r22 h ⟨by omega, by omega⟩ hP hS (lv_sub hl [0, 1, 2, 3, 4] rfl)
      have h := mif_f c16 h
      by_cases c23 : (y4 &&& 63) = 2
      · have h := mif_t c23 h
        refine lv_tableIn (tgt := 298) hx hb dL_law_40 (by rw [c23]; decide) (by rw [c23]; decide) (by rw [c23]; rfl) (by decide) ?_
        refine u_aload_n (r := x1) hx hb dL_law_298 rfl (lv_at hl 1 rfl) ?_
        refine u_aload_n (r := some a1) hx hb dL_law_299 rfl (lv_at hl 0 rfl) ?_
        refine lv_iload hx hb dL_law_300 (lv_at hl 4 rfl) ?_
        refine lv_iconst (v := 1) hx hb dL_law_302 (by decide) ?_
        refine lv_iadd hx hb dL_law_303 ?_
        obtain ⟨y24, hy24, h⟩ := mbind_n h
        refine u_iald hC hP hy24 rfl dL_law_304 ?_
        obtain ⟨a25, ha25, hha25⟩ := mbind_n h
        subst ha25
        have h := hha25
        obtain ⟨c26, h⟩ := mif_n h
        obtain ⟨r29, u27, c28, h⟩ := ucall_n h
        have zu27 := zz_X1_plan N (ub G) (ug G) u a25 y24 r29 u27 c28
        have hq := zz_L_law_308 (G := G) N (f_L_law_23 N (ub G) (ug G) n) (zz_L_law_23 (G := G) N n) u27 (some a1) (some a25) x2 x3 x4 r29 h
        refine u_calli (u_runVW (As := [.int y24]) (rest := []) 1 hC.1 (met_X1_plan l N G u a25 y24 r29 u27 c28) q1535 q1536 q1537 q98 q1538 rfl rfl (by decide +kernel) ⟨Nat.le_trans (Nat.le_of_ble_eq_true rfl) hR.1, Nat.le_trans (Nat.le_of_ble_eq_true rfl) hR.2⟩ ⟨uPc_blind, u_rcv hC hP c26 rfl, fun U hU hW => u_pre hC hP hS hU hW⟩ rfl rfl hl.1 rfl (lv_room (Nat.le_of_ble_eq_true rfl)) dL_law_305 ⟨by omega, by omega⟩) hS (fun H locs hP hS => ?_)
        refine W.cs (cells' := u27.1 - u0.1) (slots' := u27.2.1 - u0.2.1) (by omega) (by omega) ?_
        refine W.cs (cells' := u27.1 - u0.1) (slots' := u27.2.1 - u0.2.1) (by omega) (by omega) ?_
        exact w_L_law_308 hC hled hR hRm N (f_L_law_23 N (ub G) (ug G) n) ih (zz_L_law_23 (G := G) N n) u27 (some a1) (some a25) x2 x3 x4 r29 h ⟨by omega, by omega⟩ hP hS (lv_sub hl [0, 1, 2, 3, 4] rfl)
      have h := mif_f c23 h
      by_cases c30 : (y4 &&& 63) = 3
      · have h := mif_t c30 h
        refine lv_tableIn (tgt := 323) hx hb dL_law_40 (by rw [c30]; decide) (by rw [c30]; decide) (by rw [c30]; rfl) (by decide) ?_
        refine u_aload_n (r := x1) hx hb dL_law_323 rfl (lv_at hl 1 rfl) ?_
        obtain ⟨a31, ha31, hha31⟩ := mbind_n h
        subst ha31
        have h := hha31
        obtain ⟨c32, h⟩ := mif_n h
        obtain ⟨r35, u33, c34, h⟩ := ucall_n h
        have zu33 := zz_X1_fault N (ub G) (ug G) u a31 r35 u33 c34
        refine u_calli (va_runV (As := []) (rest := []) hC.1 (met_X1_fault l N G u a31 r35 u33 c34) (cwV 0 hts (lw_V q1068 q1069 q1070 q98 q1071) rfl rfl rfl (by decide +kernel) ⟨Nat.le_trans (Nat.le_of_ble_eq_true rfl) hR.1, Nat.le_trans (Nat.le_of_ble_eq_true rfl) hR.2⟩) ⟨uPc_blind, u_rcv hC hP c32 rfl, fun U hU hW => u_pre hC hP hS hU hW⟩ rfl rfl hl.1 rfl (lv_room (Nat.le_of_ble_eq_true rfl)) dL_law_324 ⟨by omega, by omega⟩) hS (fun H locs hP hS => ?_)
        refine W.cs (cells' := u33.1 - u0.1) (slots' := u33.2.1 - u0.2.1) (by omega) (by omega) ?_
        refine u_aload_n (r := x2) hx hb dL_law_327 rfl (lv_at hl 2 rfl) ?_
        obtain ⟨a36, ha36, hha36⟩ := mbind_n h
        subst ha36
        have h := hha36
        obtain ⟨c37, h⟩ := mif_n h
        obtain ⟨r40, u38, c39, h⟩ := ucall_n h
        have zu38 := zz_X3_fault N (ub G) (ug G) u33 a36 r40 u38 c39
        refine u_calli (va_runV (As := []) (rest := [.int r35]) hC.1 (met_X3_fault l N G u33 a36 r40 u38 c39) (cwV 0 hts (lw_V q2234 q2235 q2236 q103 q2237) rfl rfl rfl (by decide +kernel) ⟨Nat.le_trans (Nat.le_of_ble_eq_true rfl) hR.1, Nat.le_trans (Nat.le_of_ble_eq_true rfl) hR.2⟩) ⟨uPc_blind, u_rcv hC hP c37 rfl, fun U hU hW => u_pre hC hP hS hU hW⟩ rfl rfl hl.1 rfl (lv_room (Nat.le_of_ble_eq_true rfl)) dL_law_328 ⟨by omega, by omega⟩) hS (fun H locs hP hS => ?_)
        refine W.cs (cells' := u38.1 - u0.1) (slots' := u38.2.1 - u0.2.1) (by omega) (by omega) ?_
        refine lv_icmp_eq (tgt := 1593) hx hb dL_law_331 (by decide) (fun c41 => ?_) (fun c41 => ?_)
        · have h := mif_t c41 h
          refine W.cs (cells' := u38.1 - u0.1) (slots' := u38.2.1 - u0.2.1) (by omega) (by omega) ?_
          exact w_L_law_1593 hC hled hR hRm N (f_L_law_23 N (ub G) (ug G) n) ih (zz_L_law_23 (G := G) N n) u38 (some a1) (some a31) (some a36) x3 x4 h ⟨by omega, by omega⟩ hP hS (lv_sub hl [0, 1, 2, 3, 4] rfl)
        · have h := mif_f c41 h
          refine lv_iconst (v := 0) hx hb dL_law_334 (by decide) ?_
          obtain ⟨hr1, hr2⟩ := uret_n h
          subst hr1
          subst hr2
          exact u_zret hC (uFit_n (ty := .boolean) (v := 0) rfl).1 hP hS dL_law_335
      have h := mif_f c30 h
      by_cases c42 : (y4 &&& 63) = 4
      · have h := mif_t c42 h
        refine lv_tableIn (tgt := 336) hx hb dL_law_40 (by rw [c42]; decide) (by rw [c42]; decide) (by rw [c42]; rfl) (by decide) ?_
        refine u_aload_n (r := x1) hx hb dL_law_336 rfl (lv_at hl 1 rfl) ?_
        obtain ⟨a43, ha43, hha43⟩ := mbind_n h
        subst ha43
        have h := hha43
        obtain ⟨c44, h⟩ := mif_n h
        obtain ⟨r47, u45, c46, h⟩ := ucall_n h
        have zu45 := zz_X1_where N (ub G) (ug G) u a43 r47 u45 c46
        refine u_calli (va_runV (As := []) (rest := []) hC.1 (met_X1_where l N G u a43 r47 u45 c46) (cwV 0 hts (lw_V q1072 q1073 q1074 q98 q1075) rfl rfl rfl (by decide +kernel) ⟨Nat.le_trans (Nat.le_of_ble_eq_true rfl) hR.1, Nat.le_trans (Nat.le_of_ble_eq_true rfl) hR.2⟩) ⟨uPc_blind, u_rcv hC hP c44 rfl, fun U hU hW => u_pre hC hP hS hU hW⟩ rfl rfl hl.1 rfl (lv_room (Nat.le_of_ble_eq_true rfl)) dL_law_337 ⟨by omega, by omega⟩) hS (fun H locs hP hS => ?_)
        refine W.cs (cells' := u45.1 - u0.1) (slots' := u45.2.1 - u0.2.1) (by omega) (by omega) ?_
        refine u_aload_n (r := x2) hx hb dL_law_340 rfl (lv_at hl 2 rfl) ?_
        obtain ⟨a48, ha48, hha48⟩ := mbind_n h
        subst ha48
        have h := hha48
        obtain ⟨c49, h⟩ := mif_n h
        obtain ⟨r52, u50, c51, h⟩ := ucall_n h
        have zu50 := zz_X3_where N (ub G) (ug G) u45 a48 r52 u50 c51
        refine u_calli (va_runV (As := []) (rest := [.int r47]) hC.1 (met_X3_where l N G u45 a48 r52 u50 c51) (cwV 0 hts (lw_V q2238 q2239 q2240 q103 q2241) rfl rfl rfl (by decide +kernel) ⟨Nat.le_trans (Nat.le_of_ble_eq_true rfl) hR.1, Nat.le_trans (Nat.le_of_ble_eq_true rfl) hR.2⟩) ⟨uPc_blind, u_rcv hC hP c49 rfl, fun U hU hW => u_pre hC hP hS hU hW⟩ rfl rfl hl.1 rfl (lv_room (Nat.le_of_ble_eq_true rfl)) dL_law_341 ⟨by omega, by omega⟩) hS (fun H locs hP hS => ?_)
        refine W.cs (cells' := u50.1 - u0.1) (slots' := u50.2.1 - u0.2.1) (by omega) (by omega) ?_
        refine lv_icmp_eq (tgt := 1593) hx hb dL_law_344 (by decide) (fun c53 => ?_) (fun c53 => ?_)
        · have h := mif_t c53 h
          refine W.cs (cells' := u50.1 - u0.1) (slots' := u50.2.1 - u0.2.1) (by omega) (by omega) ?_
          exact w_L_law_1593 hC hled hR hRm N (f_L_law_23 N (ub G) (ug G) n) ih (zz_L_law_23 (G := G) N n) u50 (some a1) (some a43) (some a48) x3 x4 h ⟨by omega, by omega⟩ hP hS (lv_sub hl [0, 1, 2, 3, 4] rfl)
        · have h := mif_f c53 h
          refine lv_iconst (v := 0) hx hb dL_law_347 (by decide) ?_
          obtain ⟨hr1, hr2⟩ := uret_n h
          subst hr1
          subst hr2
          exact u_zret hC (uFit_n (ty := .boolean) (v := 0) rfl).1 hP hS dL_law_348
      have h := mif_f c42 h
      by_cases c54 : (y4 &&& 63) = 5
      · have h := mif_t c54 h
        refine lv_tableIn (tgt := 349) hx hb dL_law_40 (by rw [c54]; decide) (by rw [c54]; decide) (by rw [c54]; rfl) (by decide) ?_
        refine u_aload_n (r := x1) hx hb dL_law_349 rfl (lv_at hl 1 rfl) ?_
        refine u_aload_n (r := some a1) hx hb dL_law_350 rfl (lv_at hl 0 rfl) ?_
        refine lv_iload hx hb dL_law_351 (lv_at hl 4 rfl) ?_
        refine lv_iconst (v := 1) hx hb dL_law_353 (by decide) ?_
        refine lv_iadd hx hb dL_law_354 ?_
        obtain ⟨y55, hy55, h⟩ := mbind_n h
        refine u_iald hC hP hy55 rfl dL_law_355 ?_
        refine u_aload_n (r := some a1) hx hb dL_law_356 rfl (lv_at hl 0 rfl) ?_
        refine lv_iload hx hb dL_law_357 (lv_at hl 4 rfl) ?_
        refine lv_iconst (v := 2) hx hb dL_law_359 (by decide) ?_
        refine lv_iadd hx hb dL_law_360 ?_
        obtain ⟨y56, hy56, h⟩ := mbind_n h
        refine u_iald hC hP hy56 rfl dL_law_361 ?_
        obtain ⟨a57, ha57, hha57⟩ := mbind_n h
        subst ha57
        have h := hha57
        obtain ⟨c58, h⟩ := mif_n h
        obtain ⟨r61, u59, c60, h⟩ := ucall_n h
        have zu59 := zz_X1_sink N (ub G) (ug G) u a57 y55 y56 r61 u59 c60
        refine u_calli (va_runV (As := [.int y55, .int y56]) (rest := []) hC.1 (met_X1_sink l N G u a57 y55 y56 r61 u59 c60) (cwV 2 hts (lw_V q1076 q1077 q1078 q98 q1079) rfl rfl rfl (by decide +kernel) ⟨Nat.le_trans (Nat.le_of_ble_eq_true rfl) hR.1, Nat.le_trans (Nat.le_of_ble_eq_true rfl) hR.2⟩) ⟨uPc_blind, u_rcv hC hP c58 rfl, fun U hU hW => u_pre hC hP hS hU hW⟩ rfl rfl hl.1 rfl (lv_room (Nat.le_of_ble_eq_true rfl)) dL_law_362 ⟨by omega, by omega⟩) hS (fun H locs hP hS => ?_)
        refine W.cs (cells' := u59.1 - u0.1) (slots' := u59.2.1 - u0.2.1) (by omega) (by omega) ?_
        refine u_aload_n (r := x2) hx hb dL_law_365 rfl (lv_at hl 2 rfl) ?_
        refine u_aload_n (r := some a1) hx hb dL_law_366 rfl (lv_at hl 0 rfl) ?_
        refine lv_iload hx hb dL_law_367 (lv_at hl 4 rfl) ?_
        refine lv_iconst (v := 1) hx hb dL_law_369 (by decide) ?_
        refine lv_iadd hx hb dL_law_370 ?_
        obtain ⟨y62, hy62, h⟩ := mbind_n h
        refine u_iald hC hP hy62 rfl dL_law_371 ?_
        refine u_aload_n (r := some a1) hx hb dL_law_372 rfl (lv_at hl 0 rfl) ?_
        refine lv_iload hx hb dL_law_373 (lv_at hl 4 rfl) ?_
        refine lv_iconst (v := 2) hx hb dL_law_375 (by decide) ?_
        refine lv_iadd hx hb dL_law_376 ?_
        obtain ⟨y63, hy63, h⟩ := mbind_n h
        refine u_iald hC hP hy63 rfl dL_law_377 ?_
        obtain ⟨a64, ha64, hha64⟩ := mbind_n h
        subst ha64
        have h := hha64
        obtain ⟨c65, h⟩ := mif_n h
        obtain ⟨r68, u66, c67, h⟩ := ucall_n h
        have zu66 := zz_X3_sink N (ub G) (ug G) u59 a64 y62 y63 r68 u66 c67
        refine u_calli (va_runV (As := [.int y62, .int y63]) (rest := [.int r61]) hC.1 (met_X3_sink l N G u59 a64 y62 y63 r68 u66 c67) (cwV 2 hts (lw_V q2242 q2243 q2244 q103 q2245) rfl rfl rfl (by decide +kernel) ⟨Nat.le_trans (Nat.le_of_ble_eq_true rfl) hR.1, Nat.le_trans (Nat.le_of_ble_eq_true rfl) hR.2⟩) ⟨uPc_blind, u_rcv hC hP c65 rfl, fun U hU hW => u_pre hC hP hS hU hW⟩ rfl rfl hl.1 rfl (lv_room (Nat.le_of_ble_eq_true rfl)) dL_law_378 ⟨by omega, by omega⟩) hS (fun H locs hP hS => ?_)
        refine W.cs (cells' := u66.1 - u0.1) (slots' := u66.2.1 - u0.2.1) (by omega) (by omega) ?_
        refine lv_icmp_eq (tgt := 1593) hx hb dL_law_381 (by decide) (fun c69 => ?_) (fun c69 => ?_)
        · have h := mif_t c69 h
          refine W.cs (cells' := u66.1 - u0.1) (slots' := u66.2.1 - u0.2.1) (by omega) (by omega) ?_
          exact w_L_law_1593 hC hled hR hRm N (f_L_law_23 N (ub G) (ug G) n) ih (zz_L_law_23 (G := G) N n) u66 (some a1) (some a57) (some a64) x3 x4 h ⟨by omega, by omega⟩ hP hS (lv_sub hl [0, 1, 2, 3, 4] rfl)
        · have h := mif_f c69 h
          refine lv_iconst (v := 0) hx hb dL_law_384 (by decide) ?_
          obtain ⟨hr1, hr2⟩ := uret_n h
          subst hr1
          subst hr2
          exact u_zret hC (uFit_n (ty := .boolean) (v := 0) rfl).1 hP hS dL_law_385
      have h := mif_f c54 h
      by_cases c70 : (y4 &&& 63) = 6
      · have h := mif_t c70 h
        refine lv_tableIn (tgt := 386) hx hb dL_law_40 (by rw [c70]; decide) (by rw [c70]; decide) (by rw [c70]; rfl) (by decide) ?_
        refine u_aload_n (r := x1) hx hb dL_law_386 rfl (lv_at hl 1 rfl) ?_
        refine u_aload_n (r := some a1) hx hb dL_law_387 rfl (lv_at hl 0 rfl) ?_
        refine lv_iload hx hb dL_law_388 (lv_at hl 4 rfl) ?_
        refine lv_iconst (v := 1) hx hb dL_law_390 (by decide) ?_
        refine lv_iadd hx hb dL_law_391 ?_
        obtain ⟨y71, hy71, h⟩ := mbind_n h
        refine u_iald hC hP hy71 rfl dL_law_392 ?_
        refine u_aload_n (r := some a1) hx hb dL_law_393 rfl (lv_at hl 0 rfl) ?_
        refine lv_iload hx hb dL_law_394 (lv_at hl 4 rfl) ?_
        refine lv_iconst (v := 2) hx hb dL_law_396 (by decide) ?_
        refine lv_iadd hx hb dL_law_397 ?_
        obtain ⟨y72, hy72, h⟩ := mbind_n h
        refine u_iald hC hP hy72 rfl dL_law_398 ?_
        obtain ⟨a73, ha73, hha73⟩ := mbind_n h
        subst ha73
        have h := hha73
        obtain ⟨c74, h⟩ := mif_n h
        obtain ⟨r77, u75, c76, h⟩ := ucall_n h
        have zu75 := zz_X1_grip N (ub G) (ug G) u a73 y71 y72 r77 u75 c76
        refine u_calli (va_runV (As := [.int y71, .int y72]) (rest := []) hC.1 (met_X1_grip l N G u a73 y71 y72 r77 u75 c76) (cwV 2 hts (lw_V q1093 q1094 q1095 q98 q1096) rfl rfl rfl (by decide +kernel) ⟨Nat.le_trans (Nat.le_of_ble_eq_true rfl) hR.1, Nat.le_trans (Nat.le_of_ble_eq_true rfl) hR.2⟩) ⟨uPc_blind, u_rcv hC hP c74 rfl, fun U hU hW => u_pre hC hP hS hU hW⟩ rfl rfl hl.1 rfl (lv_room (Nat.le_of_ble_eq_true rfl)) dL_law_399 ⟨by omega, by omega⟩) hS (fun H locs hP hS => ?_)
        refine W.cs (cells' := u75.1 - u0.1) (slots' := u75.2.1 - u0.2.1) (by omega) (by omega) ?_
        refine u_aload_n (r := x2) hx hb dL_law_402 rfl (lv_at hl 2 rfl) ?_
        refine u_aload_n (r := some a1) hx hb dL_law_403 rfl (lv_at hl 0 rfl) ?_
        refine lv_iload hx hb dL_law_404 (lv_at hl 4 rfl) ?_
        refine lv_iconst (v := 1) hx hb dL_law_406 (by decide) ?_
        refine lv_iadd hx hb dL_law_407 ?_
        obtain ⟨y78, hy78, h⟩ := mbind_n h
        refine u_iald hC hP hy78 rfl dL_law_408 ?_
        refine u_aload_n (r := some a1) hx hb dL_law_409 rfl (lv_at hl 0 rfl) ?_
        refine lv_iload hx hb dL_law_410 (lv_at hl 4 rfl) ?_
        refine lv_iconst (v := 2) hx hb dL_law_412 (by decide) ?_
        refine lv_iadd hx hb dL_law_413 ?_
        obtain ⟨y79, hy79, h⟩ := mbind_n h
        refine u_iald hC hP hy79 rfl dL_law_414 ?_
        obtain ⟨a80, ha80, hha80⟩ := mbind_n h
        subst ha80
        have h := hha80
        obtain ⟨c81, h⟩ := mif_n h
        obtain ⟨r84, u82, c83, h⟩ := ucall_n h
        have zu82 := zz_X3_grip N (ub G) (ug G) u75 a80 y78 y79 r84 u82 c83
        refine u_calli (va_runV (As := [.int y78, .int y79]) (rest := [.int r77]) hC.1 (met_X3_grip l N G u75 a80 y78 y79 r84 u82 c83) (cwV 2 hts (lw_V q2256 q2257 q2258 q103 q2259) rfl rfl rfl (by decide +kernel) ⟨Nat.le_trans (Nat.le_of_ble_eq_true rfl) hR.1, Nat.le_trans (Nat.le_of_ble_eq_true rfl) hR.2⟩) ⟨uPc_blind, u_rcv hC hP c81 rfl, fun U hU hW => u_pre hC hP hS hU hW⟩ rfl rfl hl.1 rfl (lv_room (Nat.le_of_ble_eq_true rfl)) dL_law_415 ⟨by omega, by omega⟩) hS (fun H locs hP hS => ?_)
        refine W.cs (cells' := u82.1 - u0.1) (slots' := u82.2.1 - u0.2.1) (by omega) (by omega) ?_
        refine lv_icmp_eq (tgt := 1593) hx hb dL_law_418 (by decide) (fun c85 => ?_) (fun c85 => ?_)
        · have h := mif_t c85 h
          refine W.cs (cells' := u82.1 - u0.1) (slots' := u82.2.1 - u0.2.1) (by omega) (by omega) ?_
          exact w_L_law_1593 hC hled hR hRm N (f_L_law_23 N (ub G) (ug G) n) ih (zz_L_law_23 (G := G) N n) u82 (some a1) (some a73) (some a80) x3 x4 h ⟨by omega, by omega⟩ hP hS (lv_sub hl [0, 1, 2, 3, 4] rfl)
        · have h := mif_f c85 h
          refine lv_iconst (v := 0) hx hb dL_law_421 (by decide) ?_
          obtain ⟨hr1, hr2⟩ := uret_n h
          subst hr1
          subst hr2
          exact u_zret hC (uFit_n (ty := .boolean) (v := 0) rfl).1 hP hS dL_law_422
      have h := mif_f c70 h
      by_cases c86 : (y4 &&& 63) = 7
      · have h := mif_t c86 h
        refine lv_tableIn (tgt := 423) hx hb dL_law_40 (by rw [c86]; decide) (by rw [c86]; decide) (by rw [c86]; rfl) (by decide) ?_
        refine u_aload_n (r := x1) hx hb dL_law_423 rfl (lv_at hl 1 rfl) ?_
        refine u_aload_n (r := some a1) hx hb dL_law_424 rfl (lv_at hl 0 rfl) ?_
        refine lv_iload hx hb dL_law_425 (lv_at hl 4 rfl) ?_
        refine lv_iconst (v := 1) hx hb dL_law_427 (by decide) ?_
        refine lv_iadd hx hb dL_law_428 ?_
        obtain ⟨y87, hy87, h⟩ := mbind_n h
        refine u_iald hC hP hy87 rfl dL_law_429 ?_
        obtain ⟨a88, ha88, hha88⟩ := mbind_n h
        subst ha88
        have h := hha88
        obtain ⟨c89, h⟩ := mif_n h
        obtain ⟨r92, u90, c91, h⟩ := ucall_n h
        have zu90 := zz_X1_dead N (ub G) (ug G) u a88 y87 r92 u90 c91
        refine u_calli (va_runV (As := [.int y87]) (rest := []) hC.1 (met_X1_dead l N G u a88 y87 r92 u90 c91) (cwV 1 hts (lw_V q1097 q1098 q1099 q98 q1100) rfl rfl rfl (by decide +kernel) ⟨Nat.le_trans (Nat.le_of_ble_eq_true rfl) hR.1, Nat.le_trans (Nat.le_of_ble_eq_true rfl) hR.2⟩) ⟨uPc_blind, u_rcv hC hP c89 rfl, fun U hU hW => u_pre hC hP hS hU hW⟩ rfl rfl hl.1 rfl (lv_room (Nat.le_of_ble_eq_true rfl)) dL_law_430 ⟨by omega, by omega⟩) hS (fun H locs hP hS => ?_)
        refine W.cs (cells' := u90.1 - u0.1) (slots' := u90.2.1 - u0.2.1) (by omega) (by omega) ?_
        refine u_aload_n (r := x2) hx hb dL_law_433 rfl (lv_at hl 2 rfl) ?_
        refine u_aload_n (r := some a1) hx hb dL_law_434 rfl (lv_at hl 0 rfl) ?_
        refine lv_iload hx hb dL_law_435 (lv_at hl 4 rfl) ?_
        refine lv_iconst (v := 1) hx hb dL_law_437 (by decide) ?_
        refine lv_iadd hx hb dL_law_438 ?_
        obtain ⟨y93, hy93, h⟩ := mbind_n h
        refine u_iald hC hP hy93 rfl dL_law_439 ?_
        obtain ⟨a94, ha94, hha94⟩ := mbind_n h
        subst ha94
        have h := hha94
        obtain ⟨c95, h⟩ := mif_n h
        obtain ⟨r98, u96, c97, h⟩ := ucall_n h
        have zu96 := zz_X3_dead N (ub G) (ug G) u90 a94 y93 r98 u96 c97
        refine u_calli (va_runV (As := [.int y93]) (rest := [.int r92]) hC.1 (met_X3_dead l N G u90 a94 y93 r98 u96 c97) (cwV 1 hts (lw_V q2260 q2261 q2262 q103 q2263) rfl rfl rfl (by decide +kernel) ⟨Nat.le_trans (Nat.le_of_ble_eq_true rfl) hR.1, Nat.le_trans (Nat.le_of_ble_eq_true rfl) hR.2⟩) ⟨uPc_blind, u_rcv hC hP c95 rfl, fun U hU hW => u_pre hC hP hS hU hW⟩ rfl rfl hl.1 rfl (lv_room (Nat.le_of_ble_eq_true rfl)) dL_law_440 ⟨by omega, by omega⟩) hS (fun H locs hP hS => ?_)
        refine W.cs (cells' := u96.1 - u0.1) (slots' := u96.2.1 - u0.2.1) (by omega) (by omega) ?_
        refine lv_icmp_eq (tgt := 1593) hx hb dL_law_443 (by decide) (fun c99 => ?_) (fun c99 => ?_)
        · have h := mif_t c99 h
          refine W.cs (cells' := u96.1 - u0.1) (slots' := u96.2.1 - u0.2.1) (by omega) (by omega) ?_
          exact w_L_law_1593 hC hled hR hRm N (f_L_law_23 N (ub G) (ug G) n) ih (zz_L_law_23 (G := G) N n) u96 (some a1) (some a88) (some a94) x3 x4 h ⟨by omega, by omega⟩ hP hS (lv_sub hl [0, 1, 2, 3, 4] rfl)
        · have h := mif_f c99 h
          refine lv_iconst (v := 0) hx hb dL_law_446 (by decide) ?_
          obtain ⟨hr1, hr2⟩ := uret_n h
          subst hr1
          subst hr2
          exact u_zret hC (uFit_n (ty := .boolean) (v := 0) rfl).1 hP hS dL_law_447
      have h := mif_f c86 h
      by_cases c100 : (y4 &&& 63) = 8
      · have h := mif_t c100 h
        refine lv_tableIn (tgt := 448) hx hb dL_law_40 (by rw [c100]; decide) (by rw [c100]; decide) (by rw [c100]; rfl) (by decide) ?_
        refine u_aload_n (r := x1) hx hb dL_law_448 rfl (lv_at hl 1 rfl) ?_
        refine u_aload_n (r := some a1) hx hb dL_law_449 rfl (lv_at hl 0 rfl) ?_
        refine lv_iload hx hb dL_law_450 (lv_at hl 4 rfl) ?_
        refine lv_iconst (v := 1) hx hb dL_law_452 (by decide) ?_
        refine lv_iadd hx hb dL_law_453 ?_
        obtain ⟨y101, hy101, h⟩ := mbind_n h
        refine u_iald hC hP hy101 rfl dL_law_454 ?_
        refine u_aload_n (r := some a1) hx hb dL_law_455 rfl (lv_at hl 0 rfl) ?_
        refine lv_iload hx hb dL_law_456 (lv_at hl 4 rfl) ?_
        refine lv_iconst (v := 2) hx hb dL_law_458 (by decide) ?_
        refine lv_iadd hx hb dL_law_459 ?_
        obtain ⟨y102, hy102, h⟩ := mbind_n h
        refine u_iald hC hP hy102 rfl dL_law_460 ?_
        obtain ⟨a103, ha103, hha103⟩ := mbind_n h
        subst ha103
        have h := hha103
        obtain ⟨c104, h⟩ := mif_n h
        obtain ⟨r107, u105, c106, h⟩ := ucall_n h
        have zu105 := zz_X1_map N (ub G) (ug G) u a103 y101 y102 r107 u105 c106
        have hq := zz_L_law_464 (G := G) N (f_L_law_23 N (ub G) (ug G) n) (zz_L_law_23 (G := G) N n) u105 (some a1) (some a103) x2 x3 x4 r107 h
        refine u_calli (va_runV (As := [.int y101, .int y102]) (rest := []) hC.1 (met_X1_map l N G u a103 y101 y102 r107 u105 c106) (cwV 2 hts (lw_V q1109 q1110 q1111 q98 q1112) rfl rfl rfl (by decide +kernel) ⟨Nat.le_trans (Nat.le_of_ble_eq_true rfl) hR.1, Nat.le_trans (Nat.le_of_ble_eq_true rfl) hR.2⟩) ⟨uPc_blind, u_rcv hC hP c104 rfl, fun U hU hW => u_pre hC hP hS hU hW⟩ rfl rfl hl.1 rfl (lv_room (Nat.le_of_ble_eq_true rfl)) dL_law_461 ⟨by omega, by omega⟩) hS (fun H locs hP hS => ?_)
        refine W.cs (cells' := u105.1 - u0.1) (slots' := u105.2.1 - u0.2.1) (by omega) (by omega) ?_
        refine W.cs (cells' := u105.1 - u0.1) (slots' := u105.2.1 - u0.2.1) (by omega) (by omega) ?_
        exact w_L_law_464 hC hled hR hRm N (f_L_law_23 N (ub G) (ug G) n) ih (zz_L_law_23 (G := G) N n) u105 (some a1) (some a103) x2 x3 x4 r107 h ⟨by omega, by omega⟩ hP hS (lv_sub hl [0, 1, 2, 3, 4] rfl)
      have h := mif_f c100 h
      by_cases c108 : (y4 &&& 63) = 9
      · have h := mif_t c108 h
        refine lv_tableIn (tgt := 485) hx hb dL_law_40 (by rw [c108]; decide) (by rw [c108]; decide) (by rw [c108]; rfl) (by decide) ?_
        refine u_aload_n (r := x1) hx hb dL_law_485 rfl (lv_at hl 1 rfl) ?_
        refine u_aload_n (r := some a1) hx hb dL_law_486 rfl (lv_at hl 0 rfl) ?_
        refine lv_iload hx hb dL_law_487 (lv_at hl 4 rfl) ?_
        refine lv_iconst (v := 1) hx hb dL_law_489 (by decide) ?_
        refine lv_iadd hx hb dL_law_490 ?_
        obtain ⟨y109, hy109, h⟩ := mbind_n h
        refine u_iald hC hP hy109 rfl dL_law_491 ?_
        refine u_aload_n (r := some a1) hx hb dL_law_492 rfl (lv_at hl 0 rfl) ?_
        refine lv_iload hx hb dL_law_493 (lv_at hl 4 rfl) ?_
        refine lv_iconst (v := 2) hx hb dL_law_495 (by decide) ?_
        refine lv_iadd hx hb dL_law_496 ?_
        obtain ⟨y110, hy110, h⟩ := mbind_n h
        refine u_iald hC hP hy110 rfl dL_law_497 ?_
        obtain ⟨a111, ha111, hha111⟩ := mbind_n h
        subst ha111
        have h := hha111
        obtain ⟨c112, h⟩ := mif_n h
        obtain ⟨r115, u113, c114, h⟩ := ucall_n h
        have zu113 := zz_X1_height N (ub G) (ug G) u a111 y109 y110 r115 u113 c114
        refine u_calli (va_runV (As := [.int y109, .int y110]) (rest := []) hC.1 (met_X1_height l N G u a111 y109 y110 r115 u113 c114) (cwV 2 hts (lw_V q1190 q1191 q1192 q98 q1193) rfl rfl rfl (by decide +kernel) ⟨Nat.le_trans (Nat.le_of_ble_eq_true rfl) hR.1, Nat.le_trans (Nat.le_of_ble_eq_true rfl) hR.2⟩) ⟨uPc_blind, u_rcv hC hP c112 rfl, fun U hU hW => u_pre hC hP hS hU hW⟩ rfl rfl hl.1 rfl (lv_room (Nat.le_of_ble_eq_true rfl)) dL_law_498 ⟨by omega, by omega⟩) hS (fun H locs hP hS => ?_)
        refine W.cs (cells' := u113.1 - u0.1) (slots' := u113.2.1 - u0.2.1) (by omega) (by omega) ?_
        refine u_aload_n (r := x2) hx hb dL_law_501 rfl (lv_at hl 2 rfl) ?_
        refine u_aload_n (r := some a1) hx hb dL_law_502 rfl (lv_at hl 0 rfl) ?_
        refine lv_iload hx hb dL_law_503 (lv_at hl 4 rfl) ?_
        refine lv_iconst (v := 1) hx hb dL_law_505 (by decide) ?_
        refine lv_iadd hx hb dL_law_506 ?_
        obtain ⟨y116, hy116, h⟩ := mbind_n h
        refine u_iald hC hP hy116 rfl dL_law_507 ?_
        refine u_aload_n (r := some a1) hx hb dL_law_508 rfl (lv_at hl 0 rfl) ?_
        refine lv_iload hx hb dL_law_509 (lv_at hl 4 rfl) ?_
        refine lv_iconst (v := 2) hx hb dL_law_511 (by decide) ?_
        refine lv_iadd hx hb dL_law_512 ?_
        obtain ⟨y117, hy117, h⟩ := mbind_n h
        refine u_iald hC hP hy117 rfl dL_law_513 ?_
        obtain ⟨a118, ha118, hha118⟩ := mbind_n h
        subst ha118
        have h := hha118
        obtain ⟨c119, h⟩ := mif_n h
        obtain ⟨r122, u120, c121, h⟩ := ucall_n h
        have zu120 := zz_X3_height N (ub G) (ug G) u113 a118 y116 y117 r122 u120 c121
        refine u_calli (va_runV (As := [.int y116, .int y117]) (rest := [.int r115]) hC.1 (met_X3_height l N G u113 a118 y116 y117 r122 u120 c121) (cwV 2 hts (lw_V q2272 q2273 q2274 q103 q2275) rfl rfl rfl (by decide +kernel) ⟨Nat.le_trans (Nat.le_of_ble_eq_true rfl) hR.1, Nat.le_trans (Nat.le_of_ble_eq_true rfl) hR.2⟩) ⟨uPc_blind, u_rcv hC hP c119 rfl, fun U hU hW => u_pre hC hP hS hU hW⟩ rfl rfl hl.1 rfl (lv_room (Nat.le_of_ble_eq_true rfl)) dL_law_514 ⟨by omega, by omega⟩) hS (fun H locs hP hS => ?_)
        refine W.cs (cells' := u120.1 - u0.1) (slots' := u120.2.1 - u0.2.1) (by omega) (by omega) ?_
        refine lv_icmp_eq (tgt := 1593) hx hb dL_law_517 (by decide) (fun c123 => ?_) (fun c123 => ?_)
        · have h := mif_t c123 h
          refine W.cs (cells' := u120.1 - u0.1) (slots' := u120.2.1 - u0.2.1) (by omega) (by omega) ?_
          exact w_L_law_1593 hC hled hR hRm N (f_L_law_23 N (ub G) (ug G) n) ih (zz_L_law_23 (G := G) N n) u120 (some a1) (some a111) (some a118) x3 x4 h ⟨by omega, by omega⟩ hP hS (lv_sub hl [0, 1, 2, 3, 4] rfl)
        · have h := mif_f c123 h
          refine lv_iconst (v := 0) hx hb dL_law_520 (by decide) ?_
          obtain ⟨hr1, hr2⟩ := uret_n h
          subst hr1
          subst hr2
          exact u_zret hC (uFit_n (ty := .boolean) (v := 0) rfl).1 hP hS dL_law_521
      have h := mif_f c108 h
      by_cases c124 : (y4 &&& 63) = 10
      · have h := mif_t c124 h
        refine lv_tableIn (tgt := 522) hx hb dL_law_40 (by rw [c124]; decide) (by rw [c124]; decide) (by rw [c124]; rfl) (by decide) ?_
        refine u_aload_n (r := x1) hx hb dL_law_522 rfl (lv_at hl 1 rfl) ?_
        refine u_aload_n (r := some a1) hx hb dL_law_523 rfl (lv_at hl 0 rfl) ?_
        refine lv_iload hx hb dL_law_524 (lv_at hl 4 rfl) ?_
        refine lv_iconst (v := 1) hx hb dL_law_526 (by decide) ?_
        refine lv_iadd hx hb dL_law_527 ?_
        obtain ⟨y125, hy125, h⟩ := mbind_n h
        refine u_iald hC hP hy125 rfl dL_law_528 ?_
        refine u_aload_n (r := some a1) hx hb dL_law_529 rfl (lv_at hl 0 rfl) ?_
        refine lv_iload hx hb dL_law_530 (lv_at hl 4 rfl) ?_
        refine lv_iconst (v := 2) hx hb dL_law_532 (by decide) ?_
        refine lv_iadd hx hb dL_law_533 ?_
        obtain ⟨y126, hy126, h⟩ := mbind_n h
        refine u_iald hC hP hy126 rfl dL_law_534 ?_
        obtain ⟨a127, ha127, hha127⟩ := mbind_n h
        subst ha127
        have h := hha127
        obtain ⟨c128, h⟩ := mif_n h
        obtain ⟨r131, u129, c130, h⟩ := ucall_n h
        have zu129 := zz_X1_ground N (ub G) (ug G) u a127 y125 y126 r131 u129 c130
        refine u_calli (va_runV (As := [.int y125, .int y126]) (rest := []) hC.1 (met_X1_ground l N G u a127 y125 y126 r131 u129 c130) (cwV 2 hts (lw_V q1198 q1199 q1200 q98 q1201) rfl rfl rfl (by decide +kernel) ⟨Nat.le_trans (Nat.le_of_ble_eq_true rfl) hR.1, Nat.le_trans (Nat.le_of_ble_eq_true rfl) hR.2⟩) ⟨uPc_blind, u_rcv hC hP c128 rfl, fun U hU hW => u_pre hC hP hS hU hW⟩ rfl rfl hl.1 rfl (lv_room (Nat.le_of_ble_eq_true rfl)) dL_law_535 ⟨by omega, by omega⟩) hS (fun H locs hP hS => ?_)
        refine W.cs (cells' := u129.1 - u0.1) (slots' := u129.2.1 - u0.2.1) (by omega) (by omega) ?_
        refine u_aload_n (r := x2) hx hb dL_law_538 rfl (lv_at hl 2 rfl) ?_
        refine u_aload_n (r := some a1) hx hb dL_law_539 rfl (lv_at hl 0 rfl) ?_
        refine lv_iload hx hb dL_law_540 (lv_at hl 4 rfl) ?_
        refine lv_iconst (v := 1) hx hb dL_law_542 (by decide) ?_
        refine lv_iadd hx hb dL_law_543 ?_
        obtain ⟨y132, hy132, h⟩ := mbind_n h
        refine u_iald hC hP hy132 rfl dL_law_544 ?_
        refine u_aload_n (r := some a1) hx hb dL_law_545 rfl (lv_at hl 0 rfl) ?_
        refine lv_iload hx hb dL_law_546 (lv_at hl 4 rfl) ?_
        refine lv_iconst (v := 2) hx hb dL_law_548 (by decide) ?_
        refine lv_iadd hx hb dL_law_549 ?_
        obtain ⟨y133, hy133, h⟩ := mbind_n h
        refine u_iald hC hP hy133 rfl dL_law_550 ?_
        obtain ⟨a134, ha134, hha134⟩ := mbind_n h
        subst ha134
        have h := hha134
        obtain ⟨c135, h⟩ := mif_n h
        obtain ⟨r138, u136, c137, h⟩ := ucall_n h
        have zu136 := zz_X3_ground N (ub G) (ug G) u129 a134 y132 y133 r138 u136 c137
        refine u_calli (va_runV (As := [.int y132, .int y133]) (rest := [.int r131]) hC.1 (met_X3_ground l N G u129 a134 y132 y133 r138 u136 c137) (cwV 2 hts (lw_V q2280 q2281 q2282 q103 q2283) rfl rfl rfl (by decide +kernel) ⟨Nat.le_trans (Nat.le_of_ble_eq_true rfl) hR.1, Nat.le_trans (Nat.le_of_ble_eq_true rfl) hR.2⟩) ⟨uPc_blind, u_rcv hC hP c135 rfl, fun U hU hW => u_pre hC hP hS hU hW⟩ rfl rfl hl.1 rfl (lv_room (Nat.le_of_ble_eq_true rfl)) dL_law_551 ⟨by omega, by omega⟩) hS (fun H locs hP hS => ?_)
        refine W.cs (cells' := u136.1 - u0.1) (slots' := u136.2.1 - u0.2.1) (by omega) (by omega) ?_
        refine lv_icmp_eq (tgt := 1593) hx hb dL_law_554 (by decide) (fun c139 => ?_) (fun c139 => ?_)
        · have h := mif_t c139 h
          refine W.cs (cells' := u136.1 - u0.1) (slots' := u136.2.1 - u0.2.1) (by omega) (by omega) ?_
          exact w_L_law_1593 hC hled hR hRm N (f_L_law_23 N (ub G) (ug G) n) ih (zz_L_law_23 (G := G) N n) u136 (some a1) (some a127) (some a134) x3 x4 h ⟨by omega, by omega⟩ hP hS (lv_sub hl [0, 1, 2, 3, 4] rfl)
        · have h := mif_f c139 h
          refine lv_iconst (v := 0) hx hb dL_law_557 (by decide) ?_
          obtain ⟨hr1, hr2⟩ := uret_n h
          subst hr1
          subst hr2
          exact u_zret hC (uFit_n (ty := .boolean) (v := 0) rfl).1 hP hS dL_law_558
      have h := mif_f c124 h
      by_cases c140 : (y4 &&& 63) = 11
      · have h := mif_t c140 h
        refine lv_tableIn (tgt := 559) hx hb dL_law_40 (by rw [c140]; decide) (by rw [c140]; decide) (by rw [c140]; rfl) (by decide) ?_
        refine u_aload_n (r := x1) hx hb dL_law_559 rfl (lv_at hl 1 rfl) ?_
        refine u_aload_n (r := some a1) hx hb dL_law_560 rfl (lv_at hl 0 rfl) ?_
        refine lv_iload hx hb dL_law_561 (lv_at hl 4 rfl) ?_
        refine lv_iconst (v := 1) hx hb dL_law_563 (by decide) ?_
        refine lv_iadd hx hb dL_law_564 ?_
        obtain ⟨y141, hy141, h⟩ := mbind_n h
        refine u_iald hC hP hy141 rfl dL_law_565 ?_
        obtain ⟨a142, ha142, hha142⟩ := mbind_n h
        subst ha142
        have h := hha142
        obtain ⟨c143, h⟩ := mif_n h
        obtain ⟨r146, u144, c145, h⟩ := ucall_n h
        have zu144 := zz_X1_doubt N (ub G) (ug G) u a142 y141 r146 u144 c145
        have hq := zz_L_law_569 (G := G) N (f_L_law_23 N (ub G) (ug G) n) (zz_L_law_23 (G := G) N n) u144 (some a1) (some a142) x2 x3 x4 r146 h
        refine u_calli (va_runV (As := [.int y141]) (rest := []) hC.1 (met_X1_doubt l N G u a142 y141 r146 u144 c145) (cwV 1 hts (lw_V q1202 q1203 q1204 q98 q1205) rfl rfl rfl (by decide +kernel) ⟨Nat.le_trans (Nat.le_of_ble_eq_true rfl) hR.1, Nat.le_trans (Nat.le_of_ble_eq_true rfl) hR.2⟩) ⟨uPc_blind, u_rcv hC hP c143 rfl, fun U hU hW => u_pre hC hP hS hU hW⟩ rfl rfl hl.1 rfl (lv_room (Nat.le_of_ble_eq_true rfl)) dL_law_566 ⟨by omega, by omega⟩) hS (fun H locs hP hS => ?_)
        refine W.cs (cells' := u144.1 - u0.1) (slots' := u144.2.1 - u0.2.1) (by omega) (by omega) ?_
        refine W.cs (cells' := u144.1 - u0.1) (slots' := u144.2.1 - u0.2.1) (by omega) (by omega) ?_
        exact w_L_law_569 hC hled hR hRm N (f_L_law_23 N (ub G) (ug G) n) ih (zz_L_law_23 (G := G) N n) u144 (some a1) (some a142) x2 x3 x4 r146 h ⟨by omega, by omega⟩ hP hS (lv_sub hl [0, 1, 2, 3, 4] rfl)
      have h := mif_f c140 h
      by_cases c147 : (y4 &&& 63) = 12
      · have h := mif_t c147 h
        refine lv_tableIn (tgt := 584) hx hb dL_law_40 (by rw [c147]; decide) (by rw [c147]; decide) (by rw [c147]; rfl) (by decide) ?_
        refine u_aload_n (r := x1) hx hb dL_law_584 rfl (lv_at hl 1 rfl) ?_
        refine u_aload_n (r := some a1) hx hb dL_law_585 rfl (lv_at hl 0 rfl) ?_
        refine lv_iload hx hb dL_law_586 (lv_at hl 4 rfl) ?_
        refine lv_iconst (v := 1) hx hb dL_law_588 (by decide) ?_
        refine lv_iadd hx hb dL_law_589 ?_
        obtain ⟨y148, hy148, h⟩ := mbind_n h
        refine u_iald hC hP hy148 rfl dL_law_590 ?_
        refine u_aload_n (r := some a1) hx hb dL_law_591 rfl (lv_at hl 0 rfl) ?_
        refine lv_iload hx hb dL_law_592 (lv_at hl 4 rfl) ?_
        refine lv_iconst (v := 2) hx hb dL_law_594 (by decide) ?_
        refine lv_iadd hx hb dL_law_595 ?_
        obtain ⟨y149, hy149, h⟩ := mbind_n h
        refine u_iald hC hP hy149 rfl dL_law_596 ?_
        refine u_aload_n (r := some a1) hx hb dL_law_597 rfl (lv_at hl 0 rfl) ?_
        refine lv_iload hx hb dL_law_598 (lv_at hl 4 rfl) ?_
        refine lv_iconst (v := 3) hx hb dL_law_600 (by decide) ?_
        refine lv_iadd hx hb dL_law_601 ?_
        obtain ⟨y150, hy150, h⟩ := mbind_n h
        refine u_iald hC hP hy150 rfl dL_law_602 ?_
        obtain ⟨a151, ha151, hha151⟩ := mbind_n h
        subst ha151
        have h := hha151
        obtain ⟨c152, h⟩ := mif_n h
        obtain ⟨r155, u153, c154, h⟩ := ucall_n h
        have zu153 := zz_X1_weigh N (ub G) (ug G) u a151 y148 y149 y150 r155 u153 c154
        refine u_calli (va_runV (As := [.int y148, .int y149, .int y150]) (rest := []) hC.1 (met_X1_weigh l N G u a151 y148 y149 y150 r155 u153 c154) (cwV 3 hts (lw_V q1232 q1233 q1234 q98 q1235) rfl rfl rfl (by decide +kernel) ⟨Nat.le_trans (Nat.le_of_ble_eq_true rfl) hR.1, Nat.le_trans (Nat.le_of_ble_eq_true rfl) hR.2⟩) ⟨uPc_blind, u_rcv hC hP c152 rfl, fun U hU hW => u_pre hC hP hS hU hW⟩ rfl rfl hl.1 rfl (lv_room (Nat.le_of_ble_eq_true rfl)) dL_law_603 ⟨by omega, by omega⟩) hS (fun H locs hP hS => ?_)
        refine W.cs (cells' := u153.1 - u0.1) (slots' := u153.2.1 - u0.2.1) (by omega) (by omega) ?_
        refine u_aload_n (r := x2) hx hb dL_law_606 rfl (lv_at hl 2 rfl) ?_
        refine u_aload_n (r := some a1) hx hb dL_law_607 rfl (lv_at hl 0 rfl) ?_
        refine lv_iload hx hb dL_law_608 (lv_at hl 4 rfl) ?_
        refine lv_iconst (v := 1) hx hb dL_law_610 (by decide) ?_
        refine lv_iadd hx hb dL_law_611 ?_
        obtain ⟨y156, hy156, h⟩ := mbind_n h
        refine u_iald hC hP hy156 rfl dL_law_612 ?_
        refine u_aload_n (r := some a1) hx hb dL_law_613 rfl (lv_at hl 0 rfl) ?_
        refine lv_iload hx hb dL_law_614 (lv_at hl 4 rfl) ?_
        refine lv_iconst (v := 2) hx hb dL_law_616 (by decide) ?_
        refine lv_iadd hx hb dL_law_617 ?_
        obtain ⟨y157, hy157, h⟩ := mbind_n h
        refine u_iald hC hP hy157 rfl dL_law_618 ?_
        refine u_aload_n (r := some a1) hx hb dL_law_619 rfl (lv_at hl 0 rfl) ?_
        refine lv_iload hx hb dL_law_620 (lv_at hl 4 rfl) ?_
        refine lv_iconst (v := 3) hx hb dL_law_622 (by decide) ?_
        refine lv_iadd hx hb dL_law_623 ?_
        obtain ⟨y158, hy158, h⟩ := mbind_n h
        refine u_iald hC hP hy158 rfl dL_law_624 ?_
        obtain ⟨a159, ha159, hha159⟩ := mbind_n h
        subst ha159
        have h := hha159
        obtain ⟨c160, h⟩ := mif_n h
        obtain ⟨r163, u161, c162, h⟩ := ucall_n h
        have zu161 := zz_X3_weigh N (ub G) (ug G) u153 a159 y156 y157 y158 r163 u161 c162
        refine u_calli (va_runV (As := [.int y156, .int y157, .int y158]) (rest := [.int r155]) hC.1 (met_X3_weigh l N G u153 a159 y156 y157 y158 r163 u161 c162) (cwV 3 hts (lw_V q2288 q2289 q2290 q103 q2291) rfl rfl rfl (by decide +kernel) ⟨Nat.le_trans (Nat.le_of_ble_eq_true rfl) hR.1, Nat.le_trans (Nat.le_of_ble_eq_true rfl) hR.2⟩) ⟨uPc_blind, u_rcv hC hP c160 rfl, fun U hU hW => u_pre hC hP hS hU hW⟩ rfl rfl hl.1 rfl (lv_room (Nat.le_of_ble_eq_true rfl)) dL_law_625 ⟨by omega, by omega⟩) hS (fun H locs hP hS => ?_)
        refine W.cs (cells' := u161.1 - u0.1) (slots' := u161.2.1 - u0.2.1) (by omega) (by omega) ?_
        refine lv_icmp_eq (tgt := 1593) hx hb dL_law_628 (by decide) (fun c164 => ?_) (fun c164 => ?_)
        · have h := mif_t c164 h
          refine W.cs (cells' := u161.1 - u0.1) (slots' := u161.2.1 - u0.2.1) (by omega) (by omega) ?_
          exact w_L_law_1593 hC hled hR hRm N (f_L_law_23 N (ub G) (ug G) n) ih (zz_L_law_23 (G := G) N n) u161 (some a1) (some a151) (some a159) x3 x4 h ⟨by omega, by omega⟩ hP hS (lv_sub hl [0, 1, 2, 3, 4] rfl)
        · have h := mif_f c164 h
          refine lv_iconst (v := 0) hx hb dL_law_631 (by decide) ?_
          obtain ⟨hr1, hr2⟩ := uret_n h
          subst hr1
          subst hr2
          exact u_zret hC (uFit_n (ty := .boolean) (v := 0) rfl).1 hP hS dL_law_632
      have h := mif_f c147 h
      by_cases c165 : (y4 &&& 63) = 13
      · have h := mif_t c165 h
        refine lv_tableIn (tgt := 633) hx hb dL_law_40 (by rw [c165]; decide) (by rw [c165]; decide) (by rw [c165]; rfl) (by decide) ?_
        refine u_aload_n (r := x1) hx hb dL_law_633 rfl (lv_at hl 1 rfl) ?_
        refine u_aload_n (r := some a1) hx hb dL_law_634 rfl (lv_at hl 0 rfl) ?_
        refine lv_iload hx hb dL_law_635 (lv_at hl 4 rfl) ?_
        refine lv_iconst (v := 1) hx hb dL_law_637 (by decide) ?_
        refine lv_iadd hx hb dL_law_638 ?_
        obtain ⟨y166, hy166, h⟩ := mbind_n h
        refine u_iald hC hP hy166 rfl dL_law_639 ?_
        refine u_aload_n (r := some a1) hx hb dL_law_640 rfl (lv_at hl 0 rfl) ?_
        refine lv_iload hx hb dL_law_641 (lv_at hl 4 rfl) ?_
        refine lv_iconst (v := 2) hx hb dL_law_643 (by decide) ?_
        refine lv_iadd hx hb dL_law_644 ?_
        obtain ⟨y167, hy167, h⟩ := mbind_n h
        refine u_iald hC hP hy167 rfl dL_law_645 ?_
        obtain ⟨a168, ha168, hha168⟩ := mbind_n h
        subst ha168
        have h := hha168
        obtain ⟨c169, h⟩ := mif_n h
        obtain ⟨r172, u170, c171, h⟩ := ucall_n h
        have zu170 := zz_X1_told N (ub G) (ug G) u a168 y166 y167 r172 u170 c171
        refine u_calli (va_runV (As := [.int y166, .int y167]) (rest := []) hC.1 (met_X1_told l N G u a168 y166 y167 r172 u170 c171) (cwV 2 hts (lw_V q1244 q1245 q1246 q98 q1247) rfl rfl rfl (by decide +kernel) ⟨Nat.le_trans (Nat.le_of_ble_eq_true rfl) hR.1, Nat.le_trans (Nat.le_of_ble_eq_true rfl) hR.2⟩) ⟨uPc_blind, u_rcv hC hP c169 rfl, fun U hU hW => u_pre hC hP hS hU hW⟩ rfl rfl hl.1 rfl (lv_room (Nat.le_of_ble_eq_true rfl)) dL_law_646 ⟨by omega, by omega⟩) hS (fun H locs hP hS => ?_)
        refine W.cs (cells' := u170.1 - u0.1) (slots' := u170.2.1 - u0.2.1) (by omega) (by omega) ?_
        refine u_aload_n (r := x2) hx hb dL_law_649 rfl (lv_at hl 2 rfl) ?_
        refine u_aload_n (r := some a1) hx hb dL_law_650 rfl (lv_at hl 0 rfl) ?_
        refine lv_iload hx hb dL_law_651 (lv_at hl 4 rfl) ?_
        refine lv_iconst (v := 1) hx hb dL_law_653 (by decide) ?_
        refine lv_iadd hx hb dL_law_654 ?_
        obtain ⟨y173, hy173, h⟩ := mbind_n h
        refine u_iald hC hP hy173 rfl dL_law_655 ?_
        refine u_aload_n (r := some a1) hx hb dL_law_656 rfl (lv_at hl 0 rfl) ?_
        refine lv_iload hx hb dL_law_657 (lv_at hl 4 rfl) ?_
        refine lv_iconst (v := 2) hx hb dL_law_659 (by decide) ?_
        refine lv_iadd hx hb dL_law_660 ?_
        obtain ⟨y174, hy174, h⟩ := mbind_n h
        refine u_iald hC hP hy174 rfl dL_law_661 ?_
        obtain ⟨a175, ha175, hha175⟩ := mbind_n h
        subst ha175
        have h := hha175
        obtain ⟨c176, h⟩ := mif_n h
        obtain ⟨r179, u177, c178, h⟩ := ucall_n h
        have zu177 := zz_X3_told N (ub G) (ug G) u170 a175 y173 y174 r179 u177 c178
        refine u_calli (va_runV (As := [.int y173, .int y174]) (rest := [.int r172]) hC.1 (met_X3_told l N G u170 a175 y173 y174 r179 u177 c178) (cwV 2 hts (lw_V q2296 q2297 q2298 q103 q2299) rfl rfl rfl (by decide +kernel) ⟨Nat.le_trans (Nat.le_of_ble_eq_true rfl) hR.1, Nat.le_trans (Nat.le_of_ble_eq_true rfl) hR.2⟩) ⟨uPc_blind, u_rcv hC hP c176 rfl, fun U hU hW => u_pre hC hP hS hU hW⟩ rfl rfl hl.1 rfl (lv_room (Nat.le_of_ble_eq_true rfl)) dL_law_662 ⟨by omega, by omega⟩) hS (fun H locs hP hS => ?_)
        refine W.cs (cells' := u177.1 - u0.1) (slots' := u177.2.1 - u0.2.1) (by omega) (by omega) ?_
        refine lv_icmp_eq (tgt := 1593) hx hb dL_law_665 (by decide) (fun c180 => ?_) (fun c180 => ?_)
        · have h := mif_t c180 h
          refine W.cs (cells' := u177.1 - u0.1) (slots' := u177.2.1 - u0.2.1) (by omega) (by omega) ?_
          exact w_L_law_1593 hC hled hR hRm N (f_L_law_23 N (ub G) (ug G) n) ih (zz_L_law_23 (G := G) N n) u177 (some a1) (some a168) (some a175) x3 x4 h ⟨by omega, by omega⟩ hP hS (lv_sub hl [0, 1, 2, 3, 4] rfl)
        · have h := mif_f c180 h
          refine lv_iconst (v := 0) hx hb dL_law_668 (by decide) ?_
          obtain ⟨hr1, hr2⟩ := uret_n h
          subst hr1
          subst hr2
          exact u_zret hC (uFit_n (ty := .boolean) (v := 0) rfl).1 hP hS dL_law_669
      have h := mif_f c165 h
      by_cases c181 : (y4 &&& 63) = 14
      · have h := mif_t c181 h
        refine lv_tableIn (tgt := 670) hx hb dL_law_40 (by rw [c181]; decide) (by rw [c181]; decide) (by rw [c181]; rfl) (by decide) ?_
        refine u_aload_n (r := x1) hx hb dL_law_670 rfl (lv_at hl 1 rfl) ?_
        refine u_aload_n (r := some a1) hx hb dL_law_671 rfl (lv_at hl 0 rfl) ?_
        refine lv_iload hx hb dL_law_672 (lv_at hl 4 rfl) ?_
        refine lv_iconst (v := 1) hx hb dL_law_674 (by decide) ?_
        refine lv_iadd hx hb dL_law_675 ?_
        obtain ⟨y182, hy182, h⟩ := mbind_n h
        refine u_iald hC hP hy182 rfl dL_law_676 ?_
        obtain ⟨a183, ha183, hha183⟩ := mbind_n h
        subst ha183
        have h := hha183
        obtain ⟨c184, h⟩ := mif_n h
        obtain ⟨r187, u185, c186, h⟩ := ucall_n h
        have zu185 := zz_X1_forget N (ub G) (ug G) u a183 y182 r187 u185 c186
        refine u_calli (va_runV (As := [.int y182]) (rest := []) hC.1 (met_X1_forget l N G u a183 y182 r187 u185 c186) (cwV 1 hts (lw_V q1248 q1249 q1250 q98 q1251) rfl rfl rfl (by decide +kernel) ⟨Nat.le_trans (Nat.le_of_ble_eq_true rfl) hR.1, Nat.le_trans (Nat.le_of_ble_eq_true rfl) hR.2⟩) ⟨uPc_blind, u_rcv hC hP c184 rfl, fun U hU hW => u_pre hC hP hS hU hW⟩ rfl rfl hl.1 rfl (lv_room (Nat.le_of_ble_eq_true rfl)) dL_law_677 ⟨by omega, by omega⟩) hS (fun H locs hP hS => ?_)
        refine W.cs (cells' := u185.1 - u0.1) (slots' := u185.2.1 - u0.2.1) (by omega) (by omega) ?_
        refine u_aload_n (r := x2) hx hb dL_law_680 rfl (lv_at hl 2 rfl) ?_
        refine u_aload_n (r := some a1) hx hb dL_law_681 rfl (lv_at hl 0 rfl) ?_
        refine lv_iload hx hb dL_law_682 (lv_at hl 4 rfl) ?_
        refine lv_iconst (v := 1) hx hb dL_law_684 (by decide) ?_
        refine lv_iadd hx hb dL_law_685 ?_
        obtain ⟨y188, hy188, h⟩ := mbind_n h
        refine u_iald hC hP hy188 rfl dL_law_686 ?_
        obtain ⟨a189, ha189, hha189⟩ := mbind_n h
        subst ha189
        have h := hha189
        obtain ⟨c190, h⟩ := mif_n h
        obtain ⟨r193, u191, c192, h⟩ := ucall_n h
        have zu191 := zz_X3_forget N (ub G) (ug G) u185 a189 y188 r193 u191 c192
        refine u_calli (va_runV (As := [.int y188]) (rest := [.int r187]) hC.1 (met_X3_forget l N G u185 a189 y188 r193 u191 c192) (cwV 1 hts (lw_V q2300 q2301 q2302 q103 q2303) rfl rfl rfl (by decide +kernel) ⟨Nat.le_trans (Nat.le_of_ble_eq_true rfl) hR.1, Nat.le_trans (Nat.le_of_ble_eq_true rfl) hR.2⟩) ⟨uPc_blind, u_rcv hC hP c190 rfl, fun U hU hW => u_pre hC hP hS hU hW⟩ rfl rfl hl.1 rfl (lv_room (Nat.le_of_ble_eq_true rfl)) dL_law_687 ⟨by omega, by omega⟩) hS (fun H locs hP hS => ?_)
        refine W.cs (cells' := u191.1 - u0.1) (slots' := u191.2.1 - u0.2.1) (by omega) (by omega) ?_
        refine lv_icmp_eq (tgt := 1593) hx hb dL_law_690 (by decide) (fun c194 => ?_) (fun c194 => ?_)
        · have h := mif_t c194 h
          refine W.cs (cells' := u191.1 - u0.1) (slots' := u191.2.1 - u0.2.1) (by omega) (by omega) ?_
          exact w_L_law_1593 hC hled hR hRm N (f_L_law_23 N (ub G) (ug G) n) ih (zz_L_law_23 (G := G) N n) u191 (some a1) (some a183) (some a189) x3 x4 h ⟨by omega, by omega⟩ hP hS (lv_sub hl [0, 1, 2, 3, 4] rfl)
        · have h := mif_f c194 h
          refine lv_iconst (v := 0) hx hb dL_law_693 (by decide) ?_
          obtain ⟨hr1, hr2⟩ := uret_n h
          subst hr1
          subst hr2
          exact u_zret hC (uFit_n (ty := .boolean) (v := 0) rfl).1 hP hS dL_law_694
      have h := mif_f c181 h
      by_cases c195 : (y4 &&& 63) = 15
      · have h := mif_t c195 h
        refine lv_tableIn (tgt := 695) hx hb dL_law_40 (by rw [c195]; decide) (by rw [c195]; decide) (by rw [c195]; rfl) (by decide) ?_
        refine u_aload_n (r := x1) hx hb dL_law_695 rfl (lv_at hl 1 rfl) ?_
        refine u_aload_n (r := some a1) hx hb dL_law_696 rfl (lv_at hl 0 rfl) ?_
        refine lv_iload hx hb dL_law_697 (lv_at hl 4 rfl) ?_
        refine lv_iconst (v := 1) hx hb dL_law_699 (by decide) ?_
        refine lv_iadd hx hb dL_law_700 ?_
        obtain ⟨y196, hy196, h⟩ := mbind_n h
        refine u_iald hC hP hy196 rfl dL_law_701 ?_
        refine u_aload_n (r := some a1) hx hb dL_law_702 rfl (lv_at hl 0 rfl) ?_
        refine lv_iload hx hb dL_law_703 (lv_at hl 4 rfl) ?_
        refine lv_iconst (v := 2) hx hb dL_law_705 (by decide) ?_
        refine lv_iadd hx hb dL_law_706 ?_
        obtain ⟨y197, hy197, h⟩ := mbind_n h
        refine u_iald hC hP hy197 rfl dL_law_707 ?_
        obtain ⟨a198, ha198, hha198⟩ := mbind_n h
        subst ha198
        have h := hha198
        obtain ⟨c199, h⟩ := mif_n h
        obtain ⟨r202, u200, c201, h⟩ := ucall_n h
        have zu200 := zz_X1_of N (ub G) (ug G) u a198 y196 y197 r202 u200 c201
        refine u_calli (va_runV (As := [.int y196, .int y197]) (rest := []) hC.1 (met_X1_of l N G u a198 y196 y197 r202 u200 c201) (cwV 2 hts (lw_V q1252 q1253 q1254 q98 q1255) rfl rfl rfl (by decide +kernel) ⟨Nat.le_trans (Nat.le_of_ble_eq_true rfl) hR.1, Nat.le_trans (Nat.le_of_ble_eq_true rfl) hR.2⟩) ⟨uPc_blind, u_rcv hC hP c199 rfl, fun U hU hW => u_pre hC hP hS hU hW⟩ rfl rfl hl.1 rfl (lv_room (Nat.le_of_ble_eq_true rfl)) dL_law_708 ⟨by omega, by omega⟩) hS (fun H locs hP hS => ?_)
        refine W.cs (cells' := u200.1 - u0.1) (slots' := u200.2.1 - u0.2.1) (by omega) (by omega) ?_
        refine u_aload_n (r := x2) hx hb dL_law_711 rfl (lv_at hl 2 rfl) ?_
        refine u_aload_n (r := some a1) hx hb dL_law_712 rfl (lv_at hl 0 rfl) ?_
        refine lv_iload hx hb dL_law_713 (lv_at hl 4 rfl) ?_
        refine lv_iconst (v := 1) hx hb dL_law_715 (by decide) ?_
        refine lv_iadd hx hb dL_law_716 ?_
        obtain ⟨y203, hy203, h⟩ := mbind_n h
        refine u_iald hC hP hy203 rfl dL_law_717 ?_
        refine u_aload_n (r := some a1) hx hb dL_law_718 rfl (lv_at hl 0 rfl) ?_
        refine lv_iload hx hb dL_law_719 (lv_at hl 4 rfl) ?_
        refine lv_iconst (v := 2) hx hb dL_law_721 (by decide) ?_
        refine lv_iadd hx hb dL_law_722 ?_
        obtain ⟨y204, hy204, h⟩ := mbind_n h
        refine u_iald hC hP hy204 rfl dL_law_723 ?_
        obtain ⟨a205, ha205, hha205⟩ := mbind_n h
        subst ha205
        have h := hha205
        obtain ⟨c206, h⟩ := mif_n h
        obtain ⟨r209, u207, c208, h⟩ := ucall_n h
        have zu207 := zz_X3_of N (ub G) (ug G) u200 a205 y203 y204 r209 u207 c208
        refine u_calli (va_runV (As := [.int y203, .int y204]) (rest := [.int r202]) hC.1 (met_X3_of l N G u200 a205 y203 y204 r209 u207 c208) (cwV 2 hts (lw_V q2304 q2305 q2306 q103 q2307) rfl rfl rfl (by decide +kernel) ⟨Nat.le_trans (Nat.le_of_ble_eq_true rfl) hR.1, Nat.le_trans (Nat.le_of_ble_eq_true rfl) hR.2⟩) ⟨uPc_blind, u_rcv hC hP c206 rfl, fun U hU hW => u_pre hC hP hS hU hW⟩ rfl rfl hl.1 rfl (lv_room (Nat.le_of_ble_eq_true rfl)) dL_law_724 ⟨by omega, by omega⟩) hS (fun H locs hP hS => ?_)
        refine W.cs (cells' := u207.1 - u0.1) (slots' := u207.2.1 - u0.2.1) (by omega) (by omega) ?_
        refine lv_icmp_eq (tgt := 1593) hx hb dL_law_727 (by decide) (fun c210 => ?_) (fun c210 => ?_)
        · have h := mif_t c210 h
          refine W.cs (cells' := u207.1 - u0.1) (slots' := u207.2.1 - u0.2.1) (by omega) (by omega) ?_
          exact w_L_law_1593 hC hled hR hRm N (f_L_law_23 N (ub G) (ug G) n) ih (zz_L_law_23 (G := G) N n) u207 (some a1) (some a198) (some a205) x3 x4 h ⟨by omega, by omega⟩ hP hS (lv_sub hl [0, 1, 2, 3, 4] rfl)
        · have h := mif_f c210 h
          refine lv_iconst (v := 0) hx hb dL_law_730 (by decide) ?_
          obtain ⟨hr1, hr2⟩ := uret_n h
          subst hr1
          subst hr2
          exact u_zret hC (uFit_n (ty := .boolean) (v := 0) rfl).1 hP hS dL_law_731
      have h := mif_f c195 h
      by_cases c211 : (y4 &&& 63) = 16
      · have h := mif_t c211 h
        refine lv_tableIn (tgt := 732) hx hb dL_law_40 (by rw [c211]; decide) (by rw [c211]; decide) (by rw [c211]; rfl) (by decide) ?_
        refine u_aload_n (r := x1) hx hb dL_law_732 rfl (lv_at hl 1 rfl) ?_
        refine u_aload_n (r := some a1) hx hb dL_law_733 rfl (lv_at hl 0 rfl) ?_
        refine lv_iload hx hb dL_law_734 (lv_at hl 4 rfl) ?_
        refine lv_iconst (v := 1) hx hb dL_law_736 (by decide) ?_
        refine lv_iadd hx hb dL_law_737 ?_
        obtain ⟨y212, hy212, h⟩ := mbind_n h
        refine u_iald hC hP hy212 rfl dL_law_738 ?_
        refine u_aload_n (r := some a1) hx hb dL_law_739 rfl (lv_at hl 0 rfl) ?_
        refine lv_iload hx hb dL_law_740 (lv_at hl 4 rfl) ?_
        refine lv_iconst (v := 2) hx hb dL_law_742 (by decide) ?_
        refine lv_iadd hx hb dL_law_743 ?_
        obtain ⟨y213, hy213, h⟩ := mbind_n h
        refine u_iald hC hP hy213 rfl dL_law_744 ?_
        refine u_aload_n (r := some a1) hx hb dL_law_745 rfl (lv_at hl 0 rfl) ?_
        refine lv_iload hx hb dL_law_746 (lv_at hl 4 rfl) ?_
        refine lv_iconst (v := 3) hx hb dL_law_748 (by decide) ?_
        refine lv_iadd hx hb dL_law_749 ?_
        obtain ⟨y214, hy214, h⟩ := mbind_n h
        refine u_iald hC hP hy214 rfl dL_law_750 ?_
        refine u_aload_n (r := some a1) hx hb dL_law_751 rfl (lv_at hl 0 rfl) ?_
        refine lv_iload hx hb dL_law_752 (lv_at hl 4 rfl) ?_
        refine lv_iconst (v := 4) hx hb dL_law_754 (by decide) ?_
        refine lv_iadd hx hb dL_law_755 ?_
        obtain ⟨y215, hy215, h⟩ := mbind_n h
        refine u_iald hC hP hy215 rfl dL_law_756 ?_
        obtain ⟨a216, ha216, hha216⟩ := mbind_n h
        subst ha216
        have h := hha216
        obtain ⟨c217, h⟩ := mif_n h
        obtain ⟨r220, u218, c219, h⟩ := ucall_n h
        have zu218 := zz_X1_step N (ub G) (ug G) u a216 y212 y213 y214 y215 r220 u218 c219
        refine u_calli (va_runV (As := [.int y212, .int y213, .int y214, .int y215]) (rest := []) hC.1 (met_X1_step l N G u a216 y212 y213 y214 y215 r220 u218 c219) (cwV 4 hts (lw_V q1256 q1257 q1258 q98 q1259) rfl rfl rfl (by decide +kernel) ⟨Nat.le_trans (Nat.le_of_ble_eq_true rfl) hR.1, Nat.le_trans (Nat.le_of_ble_eq_true rfl) hR.2⟩) ⟨uPc_blind, u_rcv hC hP c217 rfl, fun U hU hW => u_pre hC hP hS hU hW⟩ rfl rfl hl.1 rfl (lv_room (Nat.le_of_ble_eq_true rfl)) dL_law_757 ⟨by omega, by omega⟩) hS (fun H locs hP hS => ?_)
        refine W.cs (cells' := u218.1 - u0.1) (slots' := u218.2.1 - u0.2.1) (by omega) (by omega) ?_
        refine u_aload_n (r := x2) hx hb dL_law_760 rfl (lv_at hl 2 rfl) ?_
        refine u_aload_n (r := some a1) hx hb dL_law_761 rfl (lv_at hl 0 rfl) ?_
        refine lv_iload hx hb dL_law_762 (lv_at hl 4 rfl) ?_
        refine lv_iconst (v := 1) hx hb dL_law_764 (by decide) ?_
        refine lv_iadd hx hb dL_law_765 ?_
        obtain ⟨y221, hy221, h⟩ := mbind_n h
        refine u_iald hC hP hy221 rfl dL_law_766 ?_
        refine u_aload_n (r := some a1) hx hb dL_law_767 rfl (lv_at hl 0 rfl) ?_
        refine lv_iload hx hb dL_law_768 (lv_at hl 4 rfl) ?_
        refine lv_iconst (v := 2) hx hb dL_law_770 (by decide) ?_
        refine lv_iadd hx hb dL_law_771 ?_
        obtain ⟨y222, hy222, h⟩ := mbind_n h
        refine u_iald hC hP hy222 rfl dL_law_772 ?_
        refine u_aload_n (r := some a1) hx hb dL_law_773 rfl (lv_at hl 0 rfl) ?_
        refine lv_iload hx hb dL_law_774 (lv_at hl 4 rfl) ?_
        refine lv_iconst (v := 3) hx hb dL_law_776 (by decide) ?_
        refine lv_iadd hx hb dL_law_777 ?_
        obtain ⟨y223, hy223, h⟩ := mbind_n h
        refine u_iald hC hP hy223 rfl dL_law_778 ?_
        refine u_aload_n (r := some a1) hx hb dL_law_779 rfl (lv_at hl 0 rfl) ?_
        refine lv_iload hx hb dL_law_780 (lv_at hl 4 rfl) ?_
        refine lv_iconst (v := 4) hx hb dL_law_782 (by decide) ?_
        refine lv_iadd hx hb dL_law_783 ?_
        obtain ⟨y224, hy224, h⟩ := mbind_n h
        refine u_iald hC hP hy224 rfl dL_law_784 ?_
        obtain ⟨a225, ha225, hha225⟩ := mbind_n h
        subst ha225
        have h := hha225
        obtain ⟨c226, h⟩ := mif_n h
        obtain ⟨r229, u227, c228, h⟩ := ucall_n h
        have zu227 := zz_X3_step N (ub G) (ug G) u218 a225 y221 y222 y223 y224 r229 u227 c228
        refine u_calli (va_runV (As := [.int y221, .int y222, .int y223, .int y224]) (rest := [.int r220]) hC.1 (met_X3_step l N G u218 a225 y221 y222 y223 y224 r229 u227 c228) (cwV 4 hts (lw_V q2308 q2309 q2310 q103 q2311) rfl rfl rfl (by decide +kernel) ⟨Nat.le_trans (Nat.le_of_ble_eq_true rfl) hR.1, Nat.le_trans (Nat.le_of_ble_eq_true rfl) hR.2⟩) ⟨uPc_blind, u_rcv hC hP c226 rfl, fun U hU hW => u_pre hC hP hS hU hW⟩ rfl rfl hl.1 rfl (lv_room (Nat.le_of_ble_eq_true rfl)) dL_law_785 ⟨by omega, by omega⟩) hS (fun H locs hP hS => ?_)
        refine W.cs (cells' := u227.1 - u0.1) (slots' := u227.2.1 - u0.2.1) (by omega) (by omega) ?_
        refine lv_icmp_eq (tgt := 1593) hx hb dL_law_788 (by decide) (fun c230 => ?_) (fun c230 => ?_)
        · have h := mif_t c230 h
          refine W.cs (cells' := u227.1 - u0.1) (slots' := u227.2.1 - u0.2.1) (by omega) (by omega) ?_
          exact w_L_law_1593 hC hled hR hRm N (f_L_law_23 N (ub G) (ug G) n) ih (zz_L_law_23 (G := G) N n) u227 (some a1) (some a216) (some a225) x3 x4 h ⟨by omega, by omega⟩ hP hS (lv_sub hl [0, 1, 2, 3, 4] rfl)
        · have h := mif_f c230 h
          refine lv_iconst (v := 0) hx hb dL_law_791 (by decide) ?_
          obtain ⟨hr1, hr2⟩ := uret_n h
          subst hr1
          subst hr2
          exact u_zret hC (uFit_n (ty := .boolean) (v := 0) rfl).1 hP hS dL_law_792
      have h := mif_f c211 h
      by_cases c231 : (y4 &&& 63) = 17
      · have h := mif_t c231 h
        refine lv_tableIn (tgt := 793) hx hb dL_law_40 (by rw [c231]; decide) (by rw [c231]; decide) (by rw [c231]; rfl) (by decide) ?_
        refine u_aload_n (r := x1) hx hb dL_law_793 rfl (lv_at hl 1 rfl) ?_
        refine u_aload_n (r := some a1) hx hb dL_law_794 rfl (lv_at hl 0 rfl) ?_
        refine lv_iload hx hb dL_law_795 (lv_at hl 4 rfl) ?_
        refine lv_iconst (v := 1) hx hb dL_law_797 (by decide) ?_
        refine lv_iadd hx hb dL_law_798 ?_
        obtain ⟨y232, hy232, h⟩ := mbind_n h
        refine u_iald hC hP hy232 rfl dL_law_799 ?_
        refine u_aload_n (r := some a1) hx hb dL_law_800 rfl (lv_at hl 0 rfl) ?_
        refine lv_iload hx hb dL_law_801 (lv_at hl 4 rfl) ?_
        refine lv_iconst (v := 2) hx hb dL_law_803 (by decide) ?_
        refine lv_iadd hx hb dL_law_804 ?_
        obtain ⟨y233, hy233, h⟩ := mbind_n h
        refine u_iald hC hP hy233 rfl dL_law_805 ?_
        obtain ⟨a234, ha234, hha234⟩ := mbind_n h
        subst ha234
        have h := hha234
        obtain ⟨c235, h⟩ := mif_n h
        obtain ⟨r238, u236, c237, h⟩ := ucall_n h
        have zu236 := zz_X1_worst N (ub G) (ug G) u a234 y232 y233 r238 u236 c237
        have hq := zz_L_law_809 (G := G) N (f_L_law_23 N (ub G) (ug G) n) (zz_L_law_23 (G := G) N n) u236 (some a1) (some a234) x2 x3 x4 r238 h
        refine u_calli (va_runV (As := [.int y232, .int y233]) (rest := []) hC.1 (met_X1_worst l N G u a234 y232 y233 r238 u236 c237) (cwV 2 hts (lw_V q1281 q1282 q1283 q98 q1284) rfl rfl rfl (by decide +kernel) ⟨Nat.le_trans (Nat.le_of_ble_eq_true rfl) hR.1, Nat.le_trans (Nat.le_of_ble_eq_true rfl) hR.2⟩) ⟨uPc_blind, u_rcv hC hP c235 rfl, fun U hU hW => u_pre hC hP hS hU hW⟩ rfl rfl hl.1 rfl (lv_room (Nat.le_of_ble_eq_true rfl)) dL_law_806 ⟨by omega, by omega⟩) hS (fun H locs hP hS => ?_)
        refine W.cs (cells' := u236.1 - u0.1) (slots' := u236.2.1 - u0.2.1) (by omega) (by omega) ?_
        refine W.cs (cells' := u236.1 - u0.1) (slots' := u236.2.1 - u0.2.1) (by omega) (by omega) ?_
        exact w_L_law_809 hC hled hR hRm N (f_L_law_23 N (ub G) (ug G) n) ih (zz_L_law_23 (G := G) N n) u236 (some a1) (some a234) x2 x3 x4 r238 h ⟨by omega, by omega⟩ hP hS (lv_sub hl [0, 1, 2, 3, 4] rfl)
      have h := mif_f c231 h
      by_cases c239 : (y4 &&& 63) = 18
      · have h := mif_t c239 h
        refine lv_tableIn (tgt := 830) hx hb dL_law_40 (by rw [c239]; decide) (by rw [c239]; decide) (by rw [c239]; rfl) (by decide) ?_
        refine u_aload_n (r := x1) hx hb dL_law_830 rfl (lv_at hl 1 rfl) ?_
        refine u_aload_n (r := some a1) hx hb dL_law_831 rfl (lv_at hl 0 rfl) ?_
        refine lv_iload hx hb dL_law_832 (lv_at hl 4 rfl) ?_
        refine lv_iconst (v := 1) hx hb dL_law_834 (by decide) ?_
        refine lv_iadd hx hb dL_law_835 ?_
        obtain ⟨y240, hy240, h⟩ := mbind_n h
        refine u_iald hC hP hy240 rfl dL_law_836 ?_
        refine u_aload_n (r := some a1) hx hb dL_law_837 rfl (lv_at hl 0 rfl) ?_
        refine lv_iload hx hb dL_law_838 (lv_at hl 4 rfl) ?_
        refine lv_iconst (v := 2) hx hb dL_law_840 (by decide) ?_
        refine lv_iadd hx hb dL_law_841 ?_
        obtain ⟨y241, hy241, h⟩ := mbind_n h
        refine u_iald hC hP hy241 rfl dL_law_842 ?_
        refine u_aload_n (r := some a1) hx hb dL_law_843 rfl (lv_at hl 0 rfl) ?_
        refine lv_iload hx hb dL_law_844 (lv_at hl 4 rfl) ?_
        refine lv_iconst (v := 3) hx hb dL_law_846 (by decide) ?_
        refine lv_iadd hx hb dL_law_847 ?_
        obtain ⟨y242, hy242, h⟩ := mbind_n h
        refine u_iald hC hP hy242 rfl dL_law_848 ?_
        refine lv_if_eq (tgt := 856) hx hb dL_law_849 (by decide) (fun c243 => ?_) (fun c243 => ?_)
        · have h := mif_t c243 h
          refine lv_iconst (v := 0) hx hb dL_law_856 (by decide) ?_
          refine W.cs (cells' := u.1 - u0.1) (slots' := u.2.1 - u0.2.1) (by omega) (by omega) ?_
          exact w_L_law_857 hC hled hR hRm N (f_L_law_23 N (ub G) (ug G) n) ih (zz_L_law_23 (G := G) N n) u (some a1) x1 x2 x3 x4 0 y241 y240 x1 h ⟨by omega, by omega⟩ hP hS (lv_sub hl [0, 1, 2, 3, 4] rfl)
        · have h := mif_f c243 h
          refine lv_iconst (v := 1) hx hb dL_law_852 (by decide) ?_
          refine lv_goto (tgt := 857) hx hb dL_law_853 (by decide) ?_
          refine W.cs (cells' := u.1 - u0.1) (slots' := u.2.1 - u0.2.1) (by omega) (by omega) ?_
          exact w_L_law_857 hC hled hR hRm N (f_L_law_23 N (ub G) (ug G) n) ih (zz_L_law_23 (G := G) N n) u (some a1) x1 x2 x3 x4 1 y241 y240 x1 h ⟨by omega, by omega⟩ hP hS (lv_sub hl [0, 1, 2, 3, 4] rfl)
      have h := mif_f c239 h
      by_cases c244 : (y4 &&& 63) = 19
      · have h := mif_t c244 h
        refine lv_tableIn (tgt := 896) hx hb dL_law_40 (by rw [c244]; decide) (by rw [c244]; decide) (by rw [c244]; rfl) (by decide) ?_
        refine u_aload_n (r := x1) hx hb dL_law_896 rfl (lv_at hl 1 rfl) ?_
        refine u_aload_n (r := some a1) hx hb dL_law_897 rfl (lv_at hl 0 rfl) ?_
        refine lv_iload hx hb dL_law_898 (lv_at hl 4 rfl) ?_
        refine lv_iconst (v := 1) hx hb dL_law_900 (by decide) ?_
        refine lv_iadd hx hb dL_law_901 ?_
        obtain ⟨y245, hy245, h⟩ := mbind_n h
        refine u_iald hC hP hy245 rfl dL_law_902 ?_
        refine u_aload_n (r := some a1) hx hb dL_law_903 rfl (lv_at hl 0 rfl) ?_
        refine lv_iload hx hb dL_law_904 (lv_at hl 4 rfl) ?_
        refine lv_iconst (v := 2) hx hb dL_law_906 (by decide) ?_
        refine lv_iadd hx hb dL_law_907 ?_
        obtain ⟨y246, hy246, h⟩ := mbind_n h
        refine u_iald hC hP hy246 rfl dL_law_908 ?_
        refine u_aload_n (r := some a1) hx hb dL_law_909 rfl (lv_at hl 0 rfl) ?_
        refine lv_iload hx hb dL_law_910 (lv_at hl 4 rfl) ?_
        refine lv_iconst (v := 3) hx hb dL_law_912 (by decide) ?_
        refine lv_iadd hx hb dL_law_913 ?_
        obtain ⟨y247, hy247, h⟩ := mbind_n h
        refine u_iald hC hP hy247 rfl dL_law_914 ?_
        refine lv_if_eq (tgt := 922) hx hb dL_law_915 (by decide) (fun c248 => ?_) (fun c248 => ?_)
        · have h := mif_t c248 h
          refine lv_iconst (v := 0) hx hb dL_law_922 (by decide) ?_
          refine W.cs (cells' := u.1 - u0.1) (slots' := u.2.1 - u0.2.1) (by omega) (by omega) ?_
          exact w_L_law_923 hC hled hR hRm N (f_L_law_23 N (ub G) (ug G) n) ih (zz_L_law_23 (G := G) N n) u (some a1) x1 x2 x3 x4 0 y246 y245 x1 h ⟨by omega, by omega⟩ hP hS (lv_sub hl [0, 1, 2, 3, 4] rfl)
        · have h := mif_f c248 h
          refine lv_iconst (v := 1) hx hb dL_law_918 (by decide) ?_
          refine lv_goto (tgt := 923) hx hb dL_law_919 (by decide) ?_
          refine W.cs (cells' := u.1 - u0.1) (slots' := u.2.1 - u0.2.1) (by omega) (by omega) ?_
          exact w_L_law_923 hC hled hR hRm N (f_L_law_23 N (ub G) (ug G) n) ih (zz_L_law_23 (G := G) N n) u (some a1) x1 x2 x3 x4 1 y246 y245 x1 h ⟨by omega, by omega⟩ hP hS (lv_sub hl [0, 1, 2, 3, 4] rfl)
      have h := mif_f c244 h
      by_cases c249 : (y4 &&& 63) = 20
      · have h := mif_t c249 h
        refine lv_tableIn (tgt := 961) hx hb dL_law_40 (by rw [c249]; decide) (by rw [c249]; decide) (by rw [c249]; rfl) (by decide) ?_
        refine u_aload_n (r := x1) hx hb dL_law_961 rfl (lv_at hl 1 rfl) ?_
        obtain ⟨a250, ha250, hha250⟩ := mbind_n h
        subst ha250
        have h := hha250
        obtain ⟨c251, h⟩ := mif_n h
        obtain ⟨r254, u252, c253, h⟩ := ucall_n h
        have zu252 := zz_X1_truths N (ub G) (ug G) u a250 r254 u252 c253
        refine u_calli (va_runV (As := []) (rest := []) hC.1 (met_X1_truths l N G u a250 r254 u252 c253) (cwV 0 hts (lw_V q1461 q1462 q1463 q98 q1464) rfl rfl rfl (by decide +kernel) ⟨Nat.le_trans (Nat.le_of_ble_eq_true rfl) hR.1, Nat.le_trans (Nat.le_of_ble_eq_true rfl) hR.2⟩) ⟨uPc_blind, u_rcv hC hP c251 rfl, fun U hU hW => u_pre hC hP hS hU hW⟩ rfl rfl hl.1 rfl (lv_room (Nat.le_of_ble_eq_true rfl)) dL_law_962 ⟨by omega, by omega⟩) hS (fun H locs hP hS => ?_)
        refine W.cs (cells' := u252.1 - u0.1) (slots' := u252.2.1 - u0.2.1) (by omega) (by omega) ?_
        refine u_aload_n (r := x2) hx hb dL_law_965 rfl (lv_at hl 2 rfl) ?_
        obtain ⟨a255, ha255, hha255⟩ := mbind_n h
        subst ha255
        have h := hha255
        obtain ⟨c256, h⟩ := mif_n h
        obtain ⟨r259, u257, c258, h⟩ := ucall_n h
        have zu257 := zz_X3_truths N (ub G) (ug G) u252 a255 r259 u257 c258
        refine u_calli (va_runV (As := []) (rest := [.int r254]) hC.1 (met_X3_truths l N G u252 a255 r259 u257 c258) (cwV 0 hts (lw_V q2423 q2424 q2425 q103 q2426) rfl rfl rfl (by decide +kernel) ⟨Nat.le_trans (Nat.le_of_ble_eq_true rfl) hR.1, Nat.le_trans (Nat.le_of_ble_eq_true rfl) hR.2⟩) ⟨uPc_blind, u_rcv hC hP c256 rfl, fun U hU hW => u_pre hC hP hS hU hW⟩ rfl rfl hl.1 rfl (lv_room (Nat.le_of_ble_eq_true rfl)) dL_law_966 ⟨by omega, by omega⟩) hS (fun H locs hP hS => ?_)
        refine W.cs (cells' := u257.1 - u0.1) (slots' := u257.2.1 - u0.2.1) (by omega) (by omega) ?_
        refine lv_icmp_eq (tgt := 1593) hx hb dL_law_969 (by decide) (fun c260 => ?_) (fun c260 => ?_)
        · have h := mif_t c260 h
          refine W.cs (cells' := u257.1 - u0.1) (slots' := u257.2.1 - u0.2.1) (by omega) (by omega) ?_
          exact w_L_law_1593 hC hled hR hRm N (f_L_law_23 N (ub G) (ug G) n) ih (zz_L_law_23 (G := G) N n) u257 (some a1) (some a250) (some a255) x3 x4 h ⟨by omega, by omega⟩ hP hS (lv_sub hl [0, 1, 2, 3, 4] rfl)
        · have h := mif_f c260 h
          refine lv_iconst (v := 0) hx hb dL_law_972 (by decide) ?_
          obtain ⟨hr1, hr2⟩ := uret_n h
          subst hr1
          subst hr2
          exact u_zret hC (uFit_n (ty := .boolean) (v := 0) rfl).1 hP hS dL_law_973
      have h := mif_f c249 h
      by_cases c261 : (y4 &&& 63) = 21
      · have h := mif_t c261 h
        refine lv_tableIn (tgt := 974) hx hb dL_law_40 (by rw [c261]; decide) (by rw [c261]; decide) (by rw [c261]; rfl) (by decide) ?_
        refine u_aload_n (r := x1) hx hb dL_law_974 rfl (lv_at hl 1 rfl) ?_
        refine u_aload_n (r := some a1) hx hb dL_law_975 rfl (lv_at hl 0 rfl) ?_
        refine lv_iload hx hb dL_law_976 (lv_at hl 4 rfl) ?_
        refine lv_iconst (v := 1) hx hb dL_law_978 (by decide) ?_
        refine lv_iadd hx hb dL_law_979 ?_
        obtain ⟨y262, hy262, h⟩ := mbind_n h
        refine u_iald hC hP hy262 rfl dL_law_980 ?_
        refine u_aload_n (r := some a1) hx hb dL_law_981 rfl (lv_at hl 0 rfl) ?_
        refine lv_iload hx hb dL_law_982 (lv_at hl 4 rfl) ?_
        refine lv_iconst (v := 2) hx hb dL_law_984 (by decide) ?_
        refine lv_iadd hx hb dL_law_985 ?_
        obtain ⟨y263, hy263, h⟩ := mbind_n h
        refine u_iald hC hP hy263 rfl dL_law_986 ?_
        obtain ⟨a264, ha264, hha264⟩ := mbind_n h
        subst ha264
        have h := hha264
        obtain ⟨c265, h⟩ := mif_n h
        obtain ⟨r268, u266, c267, h⟩ := ucall_n h
        have zu266 := zz_X1_truth N (ub G) (ug G) u a264 y262 y263 r268 u266 c267
        have hq := zz_L_law_990 (G := G) N (f_L_law_23 N (ub G) (ug G) n) (zz_L_law_23 (G := G) N n) u266 (some a1) (some a264) x2 x3 x4 r268 h
        refine u_calli (va_runV (As := [.int y262, .int y263]) (rest := []) hC.1 (met_X1_truth l N G u a264 y262 y263 r268 u266 c267) (cwV 2 hts (lw_V q1470 q1471 q1472 q98 q1473) rfl rfl rfl (by decide +kernel) ⟨Nat.le_trans (Nat.le_of_ble_eq_true rfl) hR.1, Nat.le_trans (Nat.le_of_ble_eq_true rfl) hR.2⟩) ⟨uPc_blind, u_rcv hC hP c265 rfl, fun U hU hW => u_pre hC hP hS hU hW⟩ rfl rfl hl.1 rfl (lv_room (Nat.le_of_ble_eq_true rfl)) dL_law_987 ⟨by omega, by omega⟩) hS (fun H locs hP hS => ?_)
        refine W.cs (cells' := u266.1 - u0.1) (slots' := u266.2.1 - u0.2.1) (by omega) (by omega) ?_
        refine W.cs (cells' := u266.1 - u0.1) (slots' := u266.2.1 - u0.2.1) (by omega) (by omega) ?_
        exact w_L_law_990 hC hled hR hRm N (f_L_law_23 N (ub G) (ug G) n) ih (zz_L_law_23 (G := G) N n) u266 (some a1) (some a264) x2 x3 x4 r268 h ⟨by omega, by omega⟩ hP hS (lv_sub hl [0, 1, 2, 3, 4] rfl)
      have h := mif_f c261 h
      by_cases c269 : (y4 &&& 63) = 22
      · have h := mif_t c269 h
        refine lv_tableIn (tgt := 1011) hx hb dL_law_40 (by rw [c269]; decide) (by rw [c269]; decide) (by rw [c269]; rfl) (by decide) ?_
        refine u_aload_n (r := x1) hx hb dL_law_1011 rfl (lv_at hl 1 rfl) ?_
        refine u_aload_n (r := some a1) hx hb dL_law_1012 rfl (lv_at hl 0 rfl) ?_
        refine lv_iload hx hb dL_law_1013 (lv_at hl 4 rfl) ?_
        refine lv_iconst (v := 1) hx hb dL_law_1015 (by decide) ?_
        refine lv_iadd hx hb dL_law_1016 ?_
        obtain ⟨y270, hy270, h⟩ := mbind_n h
        refine u_iald hC hP hy270 rfl dL_law_1017 ?_
        refine u_aload_n (r := some a1) hx hb dL_law_1018 rfl (lv_at hl 0 rfl) ?_
        refine lv_iload hx hb dL_law_1019 (lv_at hl 4 rfl) ?_
        refine lv_iconst (v := 2) hx hb dL_law_1021 (by decide) ?_
        refine lv_iadd hx hb dL_law_1022 ?_
        obtain ⟨y271, hy271, h⟩ := mbind_n h
        refine u_iald hC hP hy271 rfl dL_law_1023 ?_
        refine u_aload_n (r := some a1) hx hb dL_law_1024 rfl (lv_at hl 0 rfl) ?_
        refine lv_iload hx hb dL_law_1025 (lv_at hl 4 rfl) ?_
        refine lv_iconst (v := 3) hx hb dL_law_1027 (by decide) ?_
        refine lv_iadd hx hb dL_law_1028 ?_
        obtain ⟨y272, hy272, h⟩ := mbind_n h
        refine u_iald hC hP hy272 rfl dL_law_1029 ?_
        refine lv_if_eq (tgt := 1037) hx hb dL_law_1030 (by decide) (fun c273 => ?_) (fun c273 => ?_)
        · have h := mif_t c273 h
          refine lv_iconst (v := 0) hx hb dL_law_1037 (by decide) ?_
          refine W.cs (cells' := u.1 - u0.1) (slots' := u.2.1 - u0.2.1) (by omega) (by omega) ?_
          exact w_L_law_1038 hC hled hR hRm N (f_L_law_23 N (ub G) (ug G) n) ih (zz_L_law_23 (G := G) N n) u (some a1) x1 x2 x3 x4 0 y271 y270 x1 h ⟨by omega, by omega⟩ hP hS (lv_sub hl [0, 1, 2, 3, 4] rfl)
        · have h := mif_f c273 h
          refine lv_iconst (v := 1) hx hb dL_law_1033 (by decide) ?_
          refine lv_goto (tgt := 1038) hx hb dL_law_1034 (by decide) ?_
          refine W.cs (cells' := u.1 - u0.1) (slots' := u.2.1 - u0.2.1) (by omega) (by omega) ?_
          exact w_L_law_1038 hC hled hR hRm N (f_L_law_23 N (ub G) (ug G) n) ih (zz_L_law_23 (G := G) N n) u (some a1) x1 x2 x3 x4 1 y271 y270 x1 h ⟨by omega, by omega⟩ hP hS (lv_sub hl [0, 1, 2, 3, 4] rfl)
      have h := mif_f c269 h
      by_cases c274 : (y4 &&& 63) = 23
      · have h := mif_t c274 h
        refine lv_tableIn (tgt := 1088) hx hb dL_law_40 (by rw [c274]; decide) (by rw [c274]; decide) (by rw [c274]; rfl) (by decide) ?_
        refine u_aload_n (r := x1) hx hb dL_law_1088 rfl (lv_at hl 1 rfl) ?_
        refine u_aload_n (r := some a1) hx hb dL_law_1089 rfl (lv_at hl 0 rfl) ?_
        refine lv_iload hx hb dL_law_1090 (lv_at hl 4 rfl) ?_
        refine lv_iconst (v := 1) hx hb dL_law_1092 (by decide) ?_
        refine lv_iadd hx hb dL_law_1093 ?_
        obtain ⟨y275, hy275, h⟩ := mbind_n h
        refine u_iald hC hP hy275 rfl dL_law_1094 ?_
        refine u_aload_n (r := x3) hx hb dL_law_1095 rfl (lv_at hl 3 rfl) ?_
        obtain ⟨r278, u276, c277, h⟩ := ucall_n h
        have zu276 := zz_X0_led N (ub G) (ug G) u x1 y275 x3 r278 u276 c277
        have hq := zz_L_law_1099 (G := G) N (f_L_law_23 N (ub G) (ug G) n) (zz_L_law_23 (G := G) N n) u276 (some a1) x1 x2 x3 x4 r278 h
        refine u_calli (u_runSW (As := [va_rf x1, .int y275, va_rf x3]) (rest := []) 3 hC.1 (met_X0_led l hled N G u x1 y275 x3 r278 u276 c277) q1850 q1851 q97 q1852 rfl rfl (by decide +kernel) ⟨Nat.le_trans (Nat.le_of_ble_eq_true rfl) hR.1, Nat.le_trans (Nat.le_of_ble_eq_true rfl) hR.2⟩ ⟨uPc_blind, fun U hU hW => u_pre hC hP hS hU hW⟩ rfl rfl hl.1 rfl (lv_room (Nat.le_of_ble_eq_true rfl)) dL_law_1096 ⟨by omega, by omega⟩) hS (fun H locs hP hS => ?_)
        refine W.cs (cells' := u276.1 - u0.1) (slots' := u276.2.1 - u0.2.1) (by omega) (by omega) ?_
        refine W.cs (cells' := u276.1 - u0.1) (slots' := u276.2.1 - u0.2.1) (by omega) (by omega) ?_
        exact w_L_law_1099 hC hled hR hRm N (f_L_law_23 N (ub G) (ug G) n) ih (zz_L_law_23 (G := G) N n) u276 (some a1) x1 x2 x3 x4 r278 h ⟨by omega, by omega⟩ hP hS (lv_sub hl [0, 1, 2, 3, 4] rfl)
      have h := mif_f c274 h
      by_cases c279 : (y4 &&& 63) = 24
      · have h := mif_t c279 h
        refine lv_tableIn (tgt := 1144) hx hb dL_law_40 (by rw [c279]; decide) (by rw [c279]; decide) (by rw [c279]; rfl) (by decide) ?_
        refine u_aload_n (r := x1) hx hb dL_law_1144 rfl (lv_at hl 1 rfl) ?_
        refine u_aload_n (r := some a1) hx hb dL_law_1145 rfl (lv_at hl 0 rfl) ?_
        refine lv_iload hx hb dL_law_1146 (lv_at hl 4 rfl) ?_
        refine lv_iconst (v := 1) hx hb dL_law_1148 (by decide) ?_
        refine lv_iadd hx hb dL_law_1149 ?_
        obtain ⟨y280, hy280, h⟩ := mbind_n h
        refine u_iald hC hP hy280 rfl dL_law_1150 ?_
        refine u_aload_n (r := some a1) hx hb dL_law_1151 rfl (lv_at hl 0 rfl) ?_
        refine lv_iload hx hb dL_law_1152 (lv_at hl 4 rfl) ?_
        refine lv_iconst (v := 2) hx hb dL_law_1154 (by decide) ?_
        refine lv_iadd hx hb dL_law_1155 ?_
        obtain ⟨y281, hy281, h⟩ := mbind_n h
        refine u_iald hC hP hy281 rfl dL_law_1156 ?_
        obtain ⟨a282, ha282, hha282⟩ := mbind_n h
        subst ha282
        have h := hha282
        obtain ⟨c283, h⟩ := mif_n h
        obtain ⟨r286, u284, c285, h⟩ := ucall_n h
        have zu284 := zz_X1_regret N (ub G) (ug G) u a282 y280 y281 r286 u284 c285
        have hq := zz_L_law_1160 (G := G) N (f_L_law_23 N (ub G) (ug G) n) (zz_L_law_23 (G := G) N n) u284 (some a1) (some a282) x2 x3 x4 r286 h
        refine u_calli (va_runV (As := [.int y280, .int y281]) (rest := []) hC.1 (met_X1_regret l N G u a282 y280 y281 r286 u284 c285) (cwV 2 hts (lw_V q1521 q1522 q1523 q98 q1524) rfl rfl rfl (by decide +kernel) ⟨Nat.le_trans (Nat.le_of_ble_eq_true rfl) hR.1, Nat.le_trans (Nat.le_of_ble_eq_true rfl) hR.2⟩) ⟨uPc_blind, u_rcv hC hP c283 rfl, fun U hU hW => u_pre hC hP hS hU hW⟩ rfl rfl hl.1 rfl (lv_room (Nat.le_of_ble_eq_true rfl)) dL_law_1157 ⟨by omega, by omega⟩) hS (fun H locs hP hS => ?_)
        refine W.cs (cells' := u284.1 - u0.1) (slots' := u284.2.1 - u0.2.1) (by omega) (by omega) ?_
        refine W.cs (cells' := u284.1 - u0.1) (slots' := u284.2.1 - u0.2.1) (by omega) (by omega) ?_
        exact w_L_law_1160 hC hled hR hRm N (f_L_law_23 N (ub G) (ug G) n) ih (zz_L_law_23 (G := G) N n) u284 (some a1) (some a282) x2 x3 x4 r286 h ⟨by omega, by omega⟩ hP hS (lv_sub hl [0, 1, 2, 3, 4] rfl)
      have h := mif_f c279 h
      by_cases c287 : (y4 &&& 63) = 25
      · have h := mif_t c287 h
        refine lv_tableIn (tgt := 1181) hx hb dL_law_40 (by rw [c287]; decide) (by rw [c287]; decide) (by rw [c287]; rfl) (by decide) ?_
        refine u_aload_n (r := x1) hx hb dL_law_1181 rfl (lv_at hl 1 rfl) ?_
        refine u_aload_n (r := some a1) hx hb dL_law_1182 rfl (lv_at hl 0 rfl) ?_
        refine lv_iload hx hb dL_law_1183 (lv_at hl 4 rfl) ?_
        refine lv_iconst (v := 1) hx hb dL_law_1185 (by decide) ?_
        refine lv_iadd hx hb dL_law_1186 ?_
        obtain ⟨y288, hy288, h⟩ := mbind_n h
        refine u_iald hC hP hy288 rfl dL_law_1187 ?_
        refine u_aload_n (r := some a1) hx hb dL_law_1188 rfl (lv_at hl 0 rfl) ?_
        refine lv_iload hx hb dL_law_1189 (lv_at hl 4 rfl) ?_
        refine lv_iconst (v := 2) hx hb dL_law_1191 (by decide) ?_
        refine lv_iadd hx hb dL_law_1192 ?_
        obtain ⟨y289, hy289, h⟩ := mbind_n h
        refine u_iald hC hP hy289 rfl dL_law_1193 ?_
        refine u_aload_n (r := some a1) hx hb dL_law_1194 rfl (lv_at hl 0 rfl) ?_
        refine lv_iload hx hb dL_law_1195 (lv_at hl 4 rfl) ?_
        refine lv_iconst (v := 3) hx hb dL_law_1197 (by decide) ?_
        refine lv_iadd hx hb dL_law_1198 ?_
        obtain ⟨y290, hy290, h⟩ := mbind_n h
        refine u_iald hC hP hy290 rfl dL_law_1199 ?_
        refine u_aload_n (r := some a1) hx hb dL_law_1200 rfl (lv_at hl 0 rfl) ?_
        refine lv_iload hx hb dL_law_1201 (lv_at hl 4 rfl) ?_
        refine lv_iconst (v := 4) hx hb dL_law_1203 (by decide) ?_
        refine lv_iadd hx hb dL_law_1204 ?_
        obtain ⟨y291, hy291, h⟩ := mbind_n h
        refine u_iald hC hP hy291 rfl dL_law_1205 ?_
        refine lv_if_eq (tgt := 1213) hx hb dL_law_1206 (by decide) (fun c292 => ?_) (fun c292 => ?_)
        · have h := mif_t c292 h
          refine lv_iconst (v := 0) hx hb dL_law_1213 (by decide) ?_
          refine W.cs (cells' := u.1 - u0.1) (slots' := u.2.1 - u0.2.1) (by omega) (by omega) ?_
          exact w_L_law_1214 hC hled hR hRm N (f_L_law_23 N (ub G) (ug G) n) ih (zz_L_law_23 (G := G) N n) u (some a1) x1 x2 x3 x4 0 y290 y289 y288 x1 h ⟨by omega, by omega⟩ hP hS (lv_sub hl [0, 1, 2, 3, 4] rfl)
        · have h := mif_f c292 h
          refine lv_iconst (v := 1) hx hb dL_law_1209 (by decide) ?_
          refine lv_goto (tgt := 1214) hx hb dL_law_1210 (by decide) ?_
          refine W.cs (cells' := u.1 - u0.1) (slots' := u.2.1 - u0.2.1) (by omega) (by omega) ?_
          exact w_L_law_1214 hC hled hR hRm N (f_L_law_23 N (ub G) (ug G) n) ih (zz_L_law_23 (G := G) N n) u (some a1) x1 x2 x3 x4 1 y290 y289 y288 x1 h ⟨by omega, by omega⟩ hP hS (lv_sub hl [0, 1, 2, 3, 4] rfl)
      have h := mif_f c287 h
      by_cases c293 : (y4 &&& 63) = 26
      · have h := mif_t c293 h
        refine lv_tableIn (tgt := 1259) hx hb dL_law_40 (by rw [c293]; decide) (by rw [c293]; decide) (by rw [c293]; rfl) (by decide) ?_
        refine u_aload_n (r := x1) hx hb dL_law_1259 rfl (lv_at hl 1 rfl) ?_
        refine u_aload_n (r := some a1) hx hb dL_law_1260 rfl (lv_at hl 0 rfl) ?_
        refine lv_iload hx hb dL_law_1261 (lv_at hl 4 rfl) ?_
        refine lv_iconst (v := 1) hx hb dL_law_1263 (by decide) ?_
        refine lv_iadd hx hb dL_law_1264 ?_
        obtain ⟨y294, hy294, h⟩ := mbind_n h
        refine u_iald hC hP hy294 rfl dL_law_1265 ?_
        refine u_aload_n (r := some a1) hx hb dL_law_1266 rfl (lv_at hl 0 rfl) ?_
        refine lv_iload hx hb dL_law_1267 (lv_at hl 4 rfl) ?_
        refine lv_iconst (v := 2) hx hb dL_law_1269 (by decide) ?_
        refine lv_iadd hx hb dL_law_1270 ?_
        obtain ⟨y295, hy295, h⟩ := mbind_n h
        refine u_iald hC hP hy295 rfl dL_law_1271 ?_
        refine u_aload_n (r := some a1) hx hb dL_law_1272 rfl (lv_at hl 0 rfl) ?_
        refine lv_iload hx hb dL_law_1273 (lv_at hl 4 rfl) ?_
        refine lv_iconst (v := 3) hx hb dL_law_1275 (by decide) ?_
        refine lv_iadd hx hb dL_law_1276 ?_
        obtain ⟨y296, hy296, h⟩ := mbind_n h
        refine u_iald hC hP hy296 rfl dL_law_1277 ?_
        obtain ⟨a297, ha297, hha297⟩ := mbind_n h
        subst ha297
        have h := hha297
        obtain ⟨c298, h⟩ := mif_n h
        obtain ⟨r301, u299, c300, h⟩ := ucall_n h
        have zu299 := zz_X1_spared N (ub G) (ug G) u a297 y294 y295 y296 r301 u299 c300
        have hq := zz_L_law_1281 (G := G) N (f_L_law_23 N (ub G) (ug G) n) (zz_L_law_23 (G := G) N n) u299 (some a1) (some a297) x2 x3 x4 r301 h
        refine u_calli (va_runV (As := [.int y294, .int y295, .int y296]) (rest := []) hC.1 (met_X1_spared l N G u a297 y294 y295 y296 r301 u299 c300) (cwV 3 hts (lw_V q1531 q1532 q1533 q98 q1534) rfl rfl rfl (by decide +kernel) ⟨Nat.le_trans (Nat.le_of_ble_eq_true rfl) hR.1, Nat.le_trans (Nat.le_of_ble_eq_true rfl) hR.2⟩) ⟨uPc_blind, u_rcv hC hP c298 rfl, fun U hU hW => u_pre hC hP hS hU hW⟩ rfl rfl hl.1 rfl (lv_room (Nat.le_of_ble_eq_true rfl)) dL_law_1278 ⟨by omega, by omega⟩) hS (fun H locs hP hS => ?_)
        refine W.cs (cells' := u299.1 - u0.1) (slots' := u299.2.1 - u0.2.1) (by omega) (by omega) ?_
        refine W.cs (cells' := u299.1 - u0.1) (slots' := u299.2.1 - u0.2.1) (by omega) (by omega) ?_
        exact w_L_law_1281 hC hled hR hRm N (f_L_law_23 N (ub G) (ug G) n) ih (zz_L_law_23 (G := G) N n) u299 (some a1) (some a297) x2 x3 x4 r301 h ⟨by omega, by omega⟩ hP hS (lv_sub hl [0, 1, 2, 3, 4] rfl)
      have h := mif_f c293 h
      by_cases c302 : (y4 &&& 63) = 27
      · have h := mif_t c302 h
        refine lv_tableIn (tgt := 1308) hx hb dL_law_40 (by rw [c302]; decide) (by rw [c302]; decide) (by rw [c302]; rfl) (by decide) ?_
        refine u_aload_n (r := x1) hx hb dL_law_1308 rfl (lv_at hl 1 rfl) ?_
        refine u_aload_n (r := some a1) hx hb dL_law_1309 rfl (lv_at hl 0 rfl) ?_
        refine lv_iload hx hb dL_law_1310 (lv_at hl 4 rfl) ?_
        refine lv_iconst (v := 1) hx hb dL_law_1312 (by decide) ?_
        refine lv_iadd hx hb dL_law_1313 ?_
        obtain ⟨y303, hy303, h⟩ := mbind_n h
        refine u_iald hC hP hy303 rfl dL_law_1314 ?_
        refine u_aload_n (r := some a1) hx hb dL_law_1315 rfl (lv_at hl 0 rfl) ?_
        refine lv_iload hx hb dL_law_1316 (lv_at hl 4 rfl) ?_
        refine lv_iconst (v := 2) hx hb dL_law_1318 (by decide) ?_
        refine lv_iadd hx hb dL_law_1319 ?_
        obtain ⟨y304, hy304, h⟩ := mbind_n h
        refine u_iald hC hP hy304 rfl dL_law_1320 ?_
        refine u_aload_n (r := some a1) hx hb dL_law_1321 rfl (lv_at hl 0 rfl) ?_
        refine lv_iload hx hb dL_law_1322 (lv_at hl 4 rfl) ?_
        refine lv_iconst (v := 3) hx hb dL_law_1324 (by decide) ?_
        refine lv_iadd hx hb dL_law_1325 ?_
        obtain ⟨y305, hy305, h⟩ := mbind_n h
        refine u_iald hC hP hy305 rfl dL_law_1326 ?_
        refine u_aload_n (r := some a1) hx hb dL_law_1327 rfl (lv_at hl 0 rfl) ?_
        refine lv_iload hx hb dL_law_1328 (lv_at hl 4 rfl) ?_
        refine lv_iconst (v := 4) hx hb dL_law_1330 (by decide) ?_
        refine lv_iadd hx hb dL_law_1331 ?_
        obtain ⟨y306, hy306, h⟩ := mbind_n h
        refine u_iald hC hP hy306 rfl dL_law_1332 ?_
        obtain ⟨a307, ha307, hha307⟩ := mbind_n h
        subst ha307
        have h := hha307
        obtain ⟨c308, h⟩ := mif_n h
        obtain ⟨r311, u309, c310, h⟩ := ucall_n h
        have zu309 := zz_X1_failing N (ub G) (ug G) u a307 y303 y304 y305 y306 r311 u309 c310
        have hq := zz_L_law_1336 (G := G) N (f_L_law_23 N (ub G) (ug G) n) (zz_L_law_23 (G := G) N n) u309 (some a1) (some a307) x2 x3 x4 r311 h
        refine u_calli (va_runV (As := [.int y303, .int y304, .int y305, .int y306]) (rest := []) hC.1 (met_X1_failing l N G u a307 y303 y304 y305 y306 r311 u309 c310) (cwV 4 hts (lw_V q1632 q1633 q1634 q98 q1635) rfl rfl rfl (by decide +kernel) ⟨Nat.le_trans (Nat.le_of_ble_eq_true rfl) hR.1, Nat.le_trans (Nat.le_of_ble_eq_true rfl) hR.2⟩) ⟨uPc_blind, u_rcv hC hP c308 rfl, fun U hU hW => u_pre hC hP hS hU hW⟩ rfl rfl hl.1 rfl (lv_room (Nat.le_of_ble_eq_true rfl)) dL_law_1333 ⟨by omega, by omega⟩) hS (fun H locs hP hS => ?_)
        refine W.cs (cells' := u309.1 - u0.1) (slots' := u309.2.1 - u0.2.1) (by omega) (by omega) ?_
        refine W.cs (cells' := u309.1 - u0.1) (slots' := u309.2.1 - u0.2.1) (by omega) (by omega) ?_
        exact w_L_law_1336 hC hled hR hRm N (f_L_law_23 N (ub G) (ug G) n) ih (zz_L_law_23 (G := G) N n) u309 (some a1) (some a307) x2 x3 x4 r311 h ⟨by omega, by omega⟩ hP hS (lv_sub hl [0, 1, 2, 3, 4] rfl)
      have h := mif_f c302 h
      by_cases c312 : (y4 &&& 63) = 28
      · have h := mif_t c312 h
        refine lv_tableIn (tgt := 1369) hx hb dL_law_40 (by rw [c312]; decide) (by rw [c312]; decide) (by rw [c312]; rfl) (by decide) ?_
        refine u_aload_n (r := x1) hx hb dL_law_1369 rfl (lv_at hl 1 rfl) ?_
        refine u_aload_n (r := some a1) hx hb dL_law_1370 rfl (lv_at hl 0 rfl) ?_
        refine lv_iload hx hb dL_law_1371 (lv_at hl 4 rfl) ?_
        refine lv_iconst (v := 1) hx hb dL_law_1373 (by decide) ?_
        refine lv_iadd hx hb dL_law_1374 ?_
        obtain ⟨y313, hy313, h⟩ := mbind_n h
        refine u_iald hC hP hy313 rfl dL_law_1375 ?_
        obtain ⟨a314, ha314, hha314⟩ := mbind_n h
        subst ha314
        have h := hha314
        obtain ⟨c315, h⟩ := mif_n h
        obtain ⟨r318, u316, c317, h⟩ := ucall_n h
        have zu316 := zz_X1_first N (ub G) (ug G) u a314 y313 r318 u316 c317
        refine u_calli (va_runV (As := [.int y313]) (rest := []) hC.1 (met_X1_first l N G u a314 y313 r318 u316 c317) (cwV 1 hts (lw_V q1736 q1737 q1738 q98 q1739) rfl rfl rfl (by decide +kernel) ⟨Nat.le_trans (Nat.le_of_ble_eq_true rfl) hR.1, Nat.le_trans (Nat.le_of_ble_eq_true rfl) hR.2⟩) ⟨uPc_blind, u_rcv hC hP c315 rfl, fun U hU hW => u_pre hC hP hS hU hW⟩ rfl rfl hl.1 rfl (lv_room (Nat.le_of_ble_eq_true rfl)) dL_law_1376 ⟨by omega, by omega⟩) hS (fun H locs hP hS => ?_)
        refine W.cs (cells' := u316.1 - u0.1) (slots' := u316.2.1 - u0.2.1) (by omega) (by omega) ?_
        refine u_aload_n (r := x2) hx hb dL_law_1379 rfl (lv_at hl 2 rfl) ?_
        refine u_aload_n (r := some a1) hx hb dL_law_1380 rfl (lv_at hl 0 rfl) ?_
        refine lv_iload hx hb dL_law_1381 (lv_at hl 4 rfl) ?_
        refine lv_iconst (v := 1) hx hb dL_law_1383 (by decide) ?_
        refine lv_iadd hx hb dL_law_1384 ?_
        obtain ⟨y319, hy319, h⟩ := mbind_n h
        refine u_iald hC hP hy319 rfl dL_law_1385 ?_
        obtain ⟨a320, ha320, hha320⟩ := mbind_n h
        subst ha320
        have h := hha320
        obtain ⟨c321, h⟩ := mif_n h
        obtain ⟨r324, u322, c323, h⟩ := ucall_n h
        have zu322 := zz_X3_first N (ub G) (ug G) u316 a320 y319 r324 u322 c323
        refine u_calli (va_runV (As := [.int y319]) (rest := [.int r318]) hC.1 (met_X3_first l N G u316 a320 y319 r324 u322 c323) (cwV 1 hts (lw_V q2500 q2501 q2502 q103 q2503) rfl rfl rfl (by decide +kernel) ⟨Nat.le_trans (Nat.le_of_ble_eq_true rfl) hR.1, Nat.le_trans (Nat.le_of_ble_eq_true rfl) hR.2⟩) ⟨uPc_blind, u_rcv hC hP c321 rfl, fun U hU hW => u_pre hC hP hS hU hW⟩ rfl rfl hl.1 rfl (lv_room (Nat.le_of_ble_eq_true rfl)) dL_law_1386 ⟨by omega, by omega⟩) hS (fun H locs hP hS => ?_)
        refine W.cs (cells' := u322.1 - u0.1) (slots' := u322.2.1 - u0.2.1) (by omega) (by omega) ?_
        refine lv_icmp_eq (tgt := 1593) hx hb dL_law_1389 (by decide) (fun c325 => ?_) (fun c325 => ?_)
        · have h := mif_t c325 h
          refine W.cs (cells' := u322.1 - u0.1) (slots' := u322.2.1 - u0.2.1) (by omega) (by omega) ?_
          exact w_L_law_1593 hC hled hR hRm N (f_L_law_23 N (ub G) (ug G) n) ih (zz_L_law_23 (G := G) N n) u322 (some a1) (some a314) (some a320) x3 x4 h ⟨by omega, by omega⟩ hP hS (lv_sub hl [0, 1, 2, 3, 4] rfl)
        · have h := mif_f c325 h
          refine lv_iconst (v := 0) hx hb dL_law_1392 (by decide) ?_
          obtain ⟨hr1, hr2⟩ := uret_n h
          subst hr1
          subst hr2
          exact u_zret hC (uFit_n (ty := .boolean) (v := 0) rfl).1 hP hS dL_law_1393
      have h := mif_f c312 h
      by_cases c326 : (y4 &&& 63) = 29
      · have h := mif_t c326 h
        refine lv_tableIn (tgt := 1394) hx hb dL_law_40 (by rw [c326]; decide) (by rw [c326]; decide) (by rw [c326]; rfl) (by decide) ?_
        refine u_aload_n (r := x1) hx hb dL_law_1394 rfl (lv_at hl 1 rfl) ?_
        refine u_aload_n (r := some a1) hx hb dL_law_1395 rfl (lv_at hl 0 rfl) ?_
        refine lv_iload hx hb dL_law_1396 (lv_at hl 4 rfl) ?_
        refine lv_iconst (v := 1) hx hb dL_law_1398 (by decide) ?_
        refine lv_iadd hx hb dL_law_1399 ?_
        obtain ⟨y327, hy327, h⟩ := mbind_n h
        refine u_iald hC hP hy327 rfl dL_law_1400 ?_
        refine u_aload_n (r := some a1) hx hb dL_law_1401 rfl (lv_at hl 0 rfl) ?_
        refine lv_iload hx hb dL_law_1402 (lv_at hl 4 rfl) ?_
        refine lv_iconst (v := 2) hx hb dL_law_1404 (by decide) ?_
        refine lv_iadd hx hb dL_law_1405 ?_
        obtain ⟨y328, hy328, h⟩ := mbind_n h
        refine u_iald hC hP hy328 rfl dL_law_1406 ?_
        refine u_aload_n (r := some a1) hx hb dL_law_1407 rfl (lv_at hl 0 rfl) ?_
        refine lv_iload hx hb dL_law_1408 (lv_at hl 4 rfl) ?_
        refine lv_iconst (v := 3) hx hb dL_law_1410 (by decide) ?_
        refine lv_iadd hx hb dL_law_1411 ?_
        obtain ⟨y329, hy329, h⟩ := mbind_n h
        refine u_iald hC hP hy329 rfl dL_law_1412 ?_
        obtain ⟨a330, ha330, hha330⟩ := mbind_n h
        subst ha330
        have h := hha330
        obtain ⟨c331, h⟩ := mif_n h
        obtain ⟨r334, u332, c333, h⟩ := ucall_n h
        have zu332 := zz_X1_costs N (ub G) (ug G) u a330 y327 y328 y329 r334 u332 c333
        have hq := zz_L_law_1416 (G := G) N (f_L_law_23 N (ub G) (ug G) n) (zz_L_law_23 (G := G) N n) u332 (some a1) (some a330) x2 x3 x4 r334 h
        refine u_calli (va_runV (As := [.int y327, .int y328, .int y329]) (rest := []) hC.1 (met_X1_costs l N G u a330 y327 y328 y329 r334 u332 c333) (cwV 3 hts (lw_V q1740 q1741 q1742 q98 q1743) rfl rfl rfl (by decide +kernel) ⟨Nat.le_trans (Nat.le_of_ble_eq_true rfl) hR.1, Nat.le_trans (Nat.le_of_ble_eq_true rfl) hR.2⟩) ⟨uPc_blind, u_rcv hC hP c331 rfl, fun U hU hW => u_pre hC hP hS hU hW⟩ rfl rfl hl.1 rfl (lv_room (Nat.le_of_ble_eq_true rfl)) dL_law_1413 ⟨by omega, by omega⟩) hS (fun H locs hP hS => ?_)
        refine W.cs (cells' := u332.1 - u0.1) (slots' := u332.2.1 - u0.2.1) (by omega) (by omega) ?_
        refine W.cs (cells' := u332.1 - u0.1) (slots' := u332.2.1 - u0.2.1) (by omega) (by omega) ?_
        exact w_L_law_1416 hC hled hR hRm N (f_L_law_23 N (ub G) (ug G) n) ih (zz_L_law_23 (G := G) N n) u332 (some a1) (some a330) x2 x3 x4 r334 h ⟨by omega, by omega⟩ hP hS (lv_sub hl [0, 1, 2, 3, 4] rfl)
      have h := mif_f c326 h
      by_cases c335 : (y4 &&& 63) = 30
      · have h := mif_t c335 h
        refine lv_tableIn (tgt := 1443) hx hb dL_law_40 (by rw [c335]; decide) (by rw [c335]; decide) (by rw [c335]; rfl) (by decide) ?_
        refine u_aload_n (r := x1) hx hb dL_law_1443 rfl (lv_at hl 1 rfl) ?_
        refine u_aload_n (r := some a1) hx hb dL_law_1444 rfl (lv_at hl 0 rfl) ?_
        refine lv_iload hx hb dL_law_1445 (lv_at hl 4 rfl) ?_
        refine lv_iconst (v := 1) hx hb dL_law_1447 (by decide) ?_
        refine lv_iadd hx hb dL_law_1448 ?_
        obtain ⟨y336, hy336, h⟩ := mbind_n h
        refine u_iald hC hP hy336 rfl dL_law_1449 ?_
        refine u_aload_n (r := some a1) hx hb dL_law_1450 rfl (lv_at hl 0 rfl) ?_
        refine lv_iload hx hb dL_law_1451 (lv_at hl 4 rfl) ?_
        refine lv_iconst (v := 2) hx hb dL_law_1453 (by decide) ?_
        refine lv_iadd hx hb dL_law_1454 ?_
        obtain ⟨y337, hy337, h⟩ := mbind_n h
        refine u_iald hC hP hy337 rfl dL_law_1455 ?_
        obtain ⟨a338, ha338, hha338⟩ := mbind_n h
        subst ha338
        have h := hha338
        obtain ⟨c339, h⟩ := mif_n h
        obtain ⟨r342, u340, c341, h⟩ := ucall_n h
        have zu340 := zz_X1_dig N (ub G) (ug G) u a338 y336 y337 r342 u340 c341
        refine u_calli (va_runV (As := [.int y336, .int y337]) (rest := []) hC.1 (met_X1_dig l N G u a338 y336 y337 r342 u340 c341) (cwV 2 hts (lw_V q1746 q1747 q1748 q98 q1749) rfl rfl rfl (by decide +kernel) ⟨Nat.le_trans (Nat.le_of_ble_eq_true rfl) hR.1, Nat.le_trans (Nat.le_of_ble_eq_true rfl) hR.2⟩) ⟨uPc_blind, u_rcv hC hP c339 rfl, fun U hU hW => u_pre hC hP hS hU hW⟩ rfl rfl hl.1 rfl (lv_room (Nat.le_of_ble_eq_true rfl)) dL_law_1456 ⟨by omega, by omega⟩) hS (fun H locs hP hS => ?_)
        refine W.cs (cells' := u340.1 - u0.1) (slots' := u340.2.1 - u0.2.1) (by omega) (by omega) ?_
        refine u_aload_n (r := x2) hx hb dL_law_1459 rfl (lv_at hl 2 rfl) ?_
        refine u_aload_n (r := some a1) hx hb dL_law_1460 rfl (lv_at hl 0 rfl) ?_
        refine lv_iload hx hb dL_law_1461 (lv_at hl 4 rfl) ?_
        refine lv_iconst (v := 1) hx hb dL_law_1463 (by decide) ?_
        refine lv_iadd hx hb dL_law_1464 ?_
        obtain ⟨y343, hy343, h⟩ := mbind_n h
        refine u_iald hC hP hy343 rfl dL_law_1465 ?_
        refine u_aload_n (r := some a1) hx hb dL_law_1466 rfl (lv_at hl 0 rfl) ?_
        refine lv_iload hx hb dL_law_1467 (lv_at hl 4 rfl) ?_
        refine lv_iconst (v := 2) hx hb dL_law_1469 (by decide) ?_
        refine lv_iadd hx hb dL_law_1470 ?_
        obtain ⟨y344, hy344, h⟩ := mbind_n h
        refine u_iald hC hP hy344 rfl dL_law_1471 ?_
        obtain ⟨a345, ha345, hha345⟩ := mbind_n h
        subst ha345
        have h := hha345
        obtain ⟨c346, h⟩ := mif_n h
        obtain ⟨r349, u347, c348, h⟩ := ucall_n h
        have zu347 := zz_X3_dig N (ub G) (ug G) u340 a345 y343 y344 r349 u347 c348
        refine u_calli (va_runV (As := [.int y343, .int y344]) (rest := [.int r342]) hC.1 (met_X3_dig l N G u340 a345 y343 y344 r349 u347 c348) (cwV 2 hts (lw_V q2508 q2509 q2510 q103 q2511) rfl rfl rfl (by decide +kernel) ⟨Nat.le_trans (Nat.le_of_ble_eq_true rfl) hR.1, Nat.le_trans (Nat.le_of_ble_eq_true rfl) hR.2⟩) ⟨uPc_blind, u_rcv hC hP c346 rfl, fun U hU hW => u_pre hC hP hS hU hW⟩ rfl rfl hl.1 rfl (lv_room (Nat.le_of_ble_eq_true rfl)) dL_law_1472 ⟨by omega, by omega⟩) hS (fun H locs hP hS => ?_)
        refine W.cs (cells' := u347.1 - u0.1) (slots' := u347.2.1 - u0.2.1) (by omega) (by omega) ?_
        refine lv_icmp_eq (tgt := 1593) hx hb dL_law_1475 (by decide) (fun c350 => ?_) (fun c350 => ?_)
        · have h := mif_t c350 h
          refine W.cs (cells' := u347.1 - u0.1) (slots' := u347.2.1 - u0.2.1) (by omega) (by omega) ?_
          exact w_L_law_1593 hC hled hR hRm N (f_L_law_23 N (ub G) (ug G) n) ih (zz_L_law_23 (G := G) N n) u347 (some a1) (some a338) (some a345) x3 x4 h ⟨by omega, by omega⟩ hP hS (lv_sub hl [0, 1, 2, 3, 4] rfl)
        · have h := mif_f c350 h
          refine lv_iconst (v := 0) hx hb dL_law_1478 (by decide) ?_
          obtain ⟨hr1, hr2⟩ := uret_n h
          subst hr1
          subst hr2
          exact u_zret hC (uFit_n (ty := .boolean) (v := 0) rfl).1 hP hS dL_law_1479
      have h := mif_f c335 h
      by_cases c351 : (y4 &&& 63) = 31
      · have h := mif_t c351 h
        refine lv_tableIn (tgt := 1480) hx hb dL_law_40 (by rw [c351]; decide) (by rw [c351]; decide) (by rw [c351]; rfl) (by decide) ?_
        refine u_aload_n (r := x1) hx hb dL_law_1480 rfl (lv_at hl 1 rfl) ?_
        obtain ⟨a352, ha352, hha352⟩ := mbind_n h
        subst ha352
        have h := hha352
        obtain ⟨c353, h⟩ := mif_n h
        obtain ⟨r356, u354, c355, h⟩ := ucall_n h
        have zu354 := zz_X1_out N (ub G) (ug G) u a352 r356 u354 c355
        have hq := zz_L_law_1484 (G := G) N (f_L_law_23 N (ub G) (ug G) n) (zz_L_law_23 (G := G) N n) u354 (some a1) (some a352) x2 x3 x4 r356 h
        refine u_calli (va_runV (As := []) (rest := []) hC.1 (met_X1_out l N G u a352 r356 u354 c355) (cwV 0 hts (lw_V q1750 q1751 q1752 q98 q1753) rfl rfl rfl (by decide +kernel) ⟨Nat.le_trans (Nat.le_of_ble_eq_true rfl) hR.1, Nat.le_trans (Nat.le_of_ble_eq_true rfl) hR.2⟩) ⟨uPc_blind, u_rcv hC hP c353 rfl, fun U hU hW => u_pre hC hP hS hU hW⟩ rfl rfl hl.1 rfl (lv_room (Nat.le_of_ble_eq_true rfl)) dL_law_1481 ⟨by omega, by omega⟩) hS (fun H locs hP hS => ?_)
        refine W.cs (cells' := u354.1 - u0.1) (slots' := u354.2.1 - u0.2.1) (by omega) (by omega) ?_
        refine W.cs (cells' := u354.1 - u0.1) (slots' := u354.2.1 - u0.2.1) (by omega) (by omega) ?_
        exact w_L_law_1484 hC hled hR hRm N (f_L_law_23 N (ub G) (ug G) n) ih (zz_L_law_23 (G := G) N n) u354 (some a1) (some a352) x2 x3 x4 r356 h ⟨by omega, by omega⟩ hP hS (lv_sub hl [0, 1, 2, 3, 4] rfl)
      have h := mif_f c351 h
      by_cases c357 : (y4 &&& 63) = 32
      · have h := mif_t c357 h
        refine lv_tableIn (tgt := 1493) hx hb dL_law_40 (by rw [c357]; decide) (by rw [c357]; decide) (by rw [c357]; rfl) (by decide) ?_
        refine u_aload_n (r := x1) hx hb dL_law_1493 rfl (lv_at hl 1 rfl) ?_
        refine u_aload_n (r := some a1) hx hb dL_law_1494 rfl (lv_at hl 0 rfl) ?_
        refine lv_iload hx hb dL_law_1495 (lv_at hl 4 rfl) ?_
        refine lv_iconst (v := 1) hx hb dL_law_1497 (by decide) ?_
        refine lv_iadd hx hb dL_law_1498 ?_
        obtain ⟨y358, hy358, h⟩ := mbind_n h
        refine u_iald hC hP hy358 rfl dL_law_1499 ?_
        obtain ⟨a359, ha359, hha359⟩ := mbind_n h
        subst ha359
        have h := hha359
        obtain ⟨c360, h⟩ := mif_n h
        obtain ⟨r363, u361, c362, h⟩ := ucall_n h
        have zu361 := zz_X1_tryAt N (ub G) (ug G) u a359 y358 r363 u361 c362
        have hq := zz_L_law_1503 (G := G) N (f_L_law_23 N (ub G) (ug G) n) (zz_L_law_23 (G := G) N n) u361 (some a1) (some a359) x2 x3 x4 r363 h
        refine u_calli (va_runV (As := [.int y358]) (rest := []) hC.1 (met_X1_tryAt l N G u a359 y358 r363 u361 c362) (cwV 1 hts (lw_V q1818 q1819 q1820 q98 q1821) rfl rfl rfl (by decide +kernel) ⟨Nat.le_trans (Nat.le_of_ble_eq_true rfl) hR.1, Nat.le_trans (Nat.le_of_ble_eq_true rfl) hR.2⟩) ⟨uPc_blind, u_rcv hC hP c360 rfl, fun U hU hW => u_pre hC hP hS hU hW⟩ rfl rfl hl.1 rfl (lv_room (Nat.le_of_ble_eq_true rfl)) dL_law_1500 ⟨by omega, by omega⟩) hS (fun H locs hP hS => ?_)
        refine W.cs (cells' := u361.1 - u0.1) (slots' := u361.2.1 - u0.2.1) (by omega) (by omega) ?_
        refine W.cs (cells' := u361.1 - u0.1) (slots' := u361.2.1 - u0.2.1) (by omega) (by omega) ?_
        exact w_L_law_1503 hC hled hR hRm N (f_L_law_23 N (ub G) (ug G) n) ih (zz_L_law_23 (G := G) N n) u361 (some a1) (some a359) x2 x3 x4 r363 h ⟨by omega, by omega⟩ hP hS (lv_sub hl [0, 1, 2, 3, 4] rfl)
      have h := mif_f c357 h
      by_cases c364 : (y4 &&& 63) = 33
      · have h := mif_t c364 h
        refine lv_tableIn (tgt := 1518) hx hb dL_law_40 (by rw [c364]; decide) (by rw [c364]; decide) (by rw [c364]; rfl) (by decide) ?_
        refine u_aload_n (r := x1) hx hb dL_law_1518 rfl (lv_at hl 1 rfl) ?_
        refine u_aload_n (r := some a1) hx hb dL_law_1519 rfl (lv_at hl 0 rfl) ?_
        refine lv_iload hx hb dL_law_1520 (lv_at hl 4 rfl) ?_
        refine lv_iconst (v := 1) hx hb dL_law_1522 (by decide) ?_
        refine lv_iadd hx hb dL_law_1523 ?_
        obtain ⟨y365, hy365, h⟩ := mbind_n h
        refine u_iald hC hP hy365 rfl dL_law_1524 ?_
        refine u_aload_n (r := some a1) hx hb dL_law_1525 rfl (lv_at hl 0 rfl) ?_
        refine lv_iload hx hb dL_law_1526 (lv_at hl 4 rfl) ?_
        refine lv_iconst (v := 2) hx hb dL_law_1528 (by decide) ?_
        refine lv_iadd hx hb dL_law_1529 ?_
        obtain ⟨y366, hy366, h⟩ := mbind_n h
        refine u_iald hC hP hy366 rfl dL_law_1530 ?_
        obtain ⟨a367, ha367, hha367⟩ := mbind_n h
        subst ha367
        have h := hha367
        obtain ⟨c368, h⟩ := mif_n h
        obtain ⟨r371, u369, c370, h⟩ := ucall_n h
        have zu369 := zz_X1_make N (ub G) (ug G) u a367 y365 y366 r371 u369 c370
        refine u_calli (va_runV (As := [.int y365, .int y366]) (rest := []) hC.1 (met_X1_make l N G u a367 y365 y366 r371 u369 c370) (cwV 2 hts (lw_V q1826 q1827 q1828 q98 q1829) rfl rfl rfl (by decide +kernel) ⟨Nat.le_trans (Nat.le_of_ble_eq_true rfl) hR.1, Nat.le_trans (Nat.le_of_ble_eq_true rfl) hR.2⟩) ⟨uPc_blind, u_rcv hC hP c368 rfl, fun U hU hW => u_pre hC hP hS hU hW⟩ rfl rfl hl.1 rfl (lv_room (Nat.le_of_ble_eq_true rfl)) dL_law_1531 ⟨by omega, by omega⟩) hS (fun H locs hP hS => ?_)
        refine W.cs (cells' := u369.1 - u0.1) (slots' := u369.2.1 - u0.2.1) (by omega) (by omega) ?_
        refine u_aload_n (r := x2) hx hb dL_law_1534 rfl (lv_at hl 2 rfl) ?_
        refine u_aload_n (r := some a1) hx hb dL_law_1535 rfl (lv_at hl 0 rfl) ?_
        refine lv_iload hx hb dL_law_1536 (lv_at hl 4 rfl) ?_
        refine lv_iconst (v := 1) hx hb dL_law_1538 (by decide) ?_
        refine lv_iadd hx hb dL_law_1539 ?_
        obtain ⟨y372, hy372, h⟩ := mbind_n h
        refine u_iald hC hP hy372 rfl dL_law_1540 ?_
        refine u_aload_n (r := some a1) hx hb dL_law_1541 rfl (lv_at hl 0 rfl) ?_
        refine lv_iload hx hb dL_law_1542 (lv_at hl 4 rfl) ?_
        refine lv_iconst (v := 2) hx hb dL_law_1544 (by decide) ?_
        refine lv_iadd hx hb dL_law_1545 ?_
        obtain ⟨y373, hy373, h⟩ := mbind_n h
        refine u_iald hC hP hy373 rfl dL_law_1546 ?_
        obtain ⟨a374, ha374, hha374⟩ := mbind_n h
        subst ha374
        have h := hha374
        obtain ⟨c375, h⟩ := mif_n h
        obtain ⟨r378, u376, c377, h⟩ := ucall_n h
        have zu376 := zz_X3_make N (ub G) (ug G) u369 a374 y372 y373 r378 u376 c377
        refine u_calli (va_runV (As := [.int y372, .int y373]) (rest := [.int r371]) hC.1 (met_X3_make l N G u369 a374 y372 y373 r378 u376 c377) (cwV 2 hts (lw_V q2533 q2534 q2535 q103 q2536) rfl rfl rfl (by decide +kernel) ⟨Nat.le_trans (Nat.le_of_ble_eq_true rfl) hR.1, Nat.le_trans (Nat.le_of_ble_eq_true rfl) hR.2⟩) ⟨uPc_blind, u_rcv hC hP c375 rfl, fun U hU hW => u_pre hC hP hS hU hW⟩ rfl rfl hl.1 rfl (lv_room (Nat.le_of_ble_eq_true rfl)) dL_law_1547 ⟨by omega, by omega⟩) hS (fun H locs hP hS => ?_)
        refine W.cs (cells' := u376.1 - u0.1) (slots' := u376.2.1 - u0.2.1) (by omega) (by omega) ?_
        refine lv_icmp_eq (tgt := 1593) hx hb dL_law_1550 (by decide) (fun c379 => ?_) (fun c379 => ?_)
        · have h := mif_t c379 h
          refine W.cs (cells' := u376.1 - u0.1) (slots' := u376.2.1 - u0.2.1) (by omega) (by omega) ?_
          exact w_L_law_1593 hC hled hR hRm N (f_L_law_23 N (ub G) (ug G) n) ih (zz_L_law_23 (G := G) N n) u376 (some a1) (some a367) (some a374) x3 x4 h ⟨by omega, by omega⟩ hP hS (lv_sub hl [0, 1, 2, 3, 4] rfl)
        · have h := mif_f c379 h
          refine lv_iconst (v := 0) hx hb dL_law_1553 (by decide) ?_
          obtain ⟨hr1, hr2⟩ := uret_n h
          subst hr1
          subst hr2
          exact u_zret hC (uFit_n (ty := .boolean) (v := 0) rfl).1 hP hS dL_law_1554
      have h := mif_f c364 h
      by_cases c380 : (y4 &&& 63) = 34
      · have h := mif_t c380 h
        refine lv_tableIn (tgt := 1555) hx hb dL_law_40 (by rw [c380]; decide) (by rw [c380]; decide) (by rw [c380]; rfl) (by decide) ?_
        refine u_aload_n (r := x1) hx hb dL_law_1555 rfl (lv_at hl 1 rfl) ?_
        refine u_aload_n (r := some a1) hx hb dL_law_1556 rfl (lv_at hl 0 rfl) ?_
        refine lv_iload hx hb dL_law_1557 (lv_at hl 4 rfl) ?_
        refine lv_iconst (v := 1) hx hb dL_law_1559 (by decide) ?_
        refine lv_iadd hx hb dL_law_1560 ?_
        obtain ⟨y381, hy381, h⟩ := mbind_n h
        refine u_iald hC hP hy381 rfl dL_law_1561 ?_
        obtain ⟨a382, ha382, hha382⟩ := mbind_n h
        subst ha382
        have h := hha382
        obtain ⟨c383, h⟩ := mif_n h
        obtain ⟨r386, u384, c385, h⟩ := ucall_n h
        have zu384 := zz_X1_count N (ub G) (ug G) u a382 y381 r386 u384 c385
        refine u_calli (va_runV (As := [.int y381]) (rest := []) hC.1 (met_X1_count l N G u a382 y381 r386 u384 c385) (cwV 1 hts (lw_V q1838 q1839 q1840 q98 q1841) rfl rfl rfl (by decide +kernel) ⟨Nat.le_trans (Nat.le_of_ble_eq_true rfl) hR.1, Nat.le_trans (Nat.le_of_ble_eq_true rfl) hR.2⟩) ⟨uPc_blind, u_rcv hC hP c383 rfl, fun U hU hW => u_pre hC hP hS hU hW⟩ rfl rfl hl.1 rfl (lv_room (Nat.le_of_ble_eq_true rfl)) dL_law_1562 ⟨by omega, by omega⟩) hS (fun H locs hP hS => ?_)
        refine W.cs (cells' := u384.1 - u0.1) (slots' := u384.2.1 - u0.2.1) (by omega) (by omega) ?_
        refine u_aload_n (r := x2) hx hb dL_law_1565 rfl (lv_at hl 2 rfl) ?_
        refine u_aload_n (r := some a1) hx hb dL_law_1566 rfl (lv_at hl 0 rfl) ?_
        refine lv_iload hx hb dL_law_1567 (lv_at hl 4 rfl) ?_
        refine lv_iconst (v := 1) hx hb dL_law_1569 (by decide) ?_
        refine lv_iadd hx hb dL_law_1570 ?_
        obtain ⟨y387, hy387, h⟩ := mbind_n h
        refine u_iald hC hP hy387 rfl dL_law_1571 ?_
        obtain ⟨a388, ha388, hha388⟩ := mbind_n h
        subst ha388
        have h := hha388
        obtain ⟨c389, h⟩ := mif_n h
        obtain ⟨r392, u390, c391, h⟩ := ucall_n h
        have zu390 := zz_X3_count N (ub G) (ug G) u384 a388 y387 r392 u390 c391
        refine u_calli (va_runV (As := [.int y387]) (rest := [.int r386]) hC.1 (met_X3_count l N G u384 a388 y387 r392 u390 c391) (cwV 1 hts (lw_V q2541 q2542 q2543 q103 q2544) rfl rfl rfl (by decide +kernel) ⟨Nat.le_trans (Nat.le_of_ble_eq_true rfl) hR.1, Nat.le_trans (Nat.le_of_ble_eq_true rfl) hR.2⟩) ⟨uPc_blind, u_rcv hC hP c389 rfl, fun U hU hW => u_pre hC hP hS hU hW⟩ rfl rfl hl.1 rfl (lv_room (Nat.le_of_ble_eq_true rfl)) dL_law_1572 ⟨by omega, by omega⟩) hS (fun H locs hP hS => ?_)
        refine W.cs (cells' := u390.1 - u0.1) (slots' := u390.2.1 - u0.2.1) (by omega) (by omega) ?_
        refine lv_icmp_eq (tgt := 1593) hx hb dL_law_1575 (by decide) (fun c393 => ?_) (fun c393 => ?_)
        · have h := mif_t c393 h
          refine W.cs (cells' := u390.1 - u0.1) (slots' := u390.2.1 - u0.2.1) (by omega) (by omega) ?_
          exact w_L_law_1593 hC hled hR hRm N (f_L_law_23 N (ub G) (ug G) n) ih (zz_L_law_23 (G := G) N n) u390 (some a1) (some a382) (some a388) x3 x4 h ⟨by omega, by omega⟩ hP hS (lv_sub hl [0, 1, 2, 3, 4] rfl)
        · have h := mif_f c393 h
          refine lv_iconst (v := 0) hx hb dL_law_1578 (by decide) ?_
          obtain ⟨hr1, hr2⟩ := uret_n h
          subst hr1
          subst hr2
          exact u_zret hC (uFit_n (ty := .boolean) (v := 0) rfl).1 hP hS dL_law_1579
      have h := mif_f c380 h
      by_cases c394 : (y4 &&& 63) = 35
      · have h := mif_t c394 h
        refine lv_tableIn (tgt := 1580) hx hb dL_law_40 (by rw [c394]; decide) (by rw [c394]; decide) (by rw [c394]; rfl) (by decide) ?_
        refine u_aload_n (r := x1) hx hb dL_law_1580 rfl (lv_at hl 1 rfl) ?_
        obtain ⟨a395, ha395, hha395⟩ := mbind_n h
        subst ha395
        have h := hha395
        obtain ⟨c396, h⟩ := mif_n h
        obtain ⟨r399, u397, c398, h⟩ := ucall_n h
        have zu397 := zz_X1_trouble N (ub G) (ug G) u a395 r399 u397 c398
        refine u_calli (va_runV (As := []) (rest := []) hC.1 (met_X1_trouble l N G u a395 r399 u397 c398) (cwV 0 hts (lw_V q1846 q1847 q1848 q98 q1849) rfl rfl rfl (by decide +kernel) ⟨Nat.le_trans (Nat.le_of_ble_eq_true rfl) hR.1, Nat.le_trans (Nat.le_of_ble_eq_true rfl) hR.2⟩) ⟨uPc_blind, u_rcv hC hP c396 rfl, fun U hU hW => u_pre hC hP hS hU hW⟩ rfl rfl hl.1 rfl (lv_room (Nat.le_of_ble_eq_true rfl)) dL_law_1581 ⟨by omega, by omega⟩) hS (fun H locs hP hS => ?_)
        refine W.cs (cells' := u397.1 - u0.1) (slots' := u397.2.1 - u0.2.1) (by omega) (by omega) ?_
        refine u_aload_n (r := x2) hx hb dL_law_1584 rfl (lv_at hl 2 rfl) ?_
        obtain ⟨a400, ha400, hha400⟩ := mbind_n h
        subst ha400
        have h := hha400
        obtain ⟨c401, h⟩ := mif_n h
        obtain ⟨r404, u402, c403, h⟩ := ucall_n h
        have zu402 := zz_X3_trouble N (ub G) (ug G) u397 a400 r404 u402 c403
        refine u_calli (va_runV (As := []) (rest := [.int r399]) hC.1 (met_X3_trouble l N G u397 a400 r404 u402 c403) (cwV 0 hts (lw_V q2545 q2546 q2547 q103 q2548) rfl rfl rfl (by decide +kernel) ⟨Nat.le_trans (Nat.le_of_ble_eq_true rfl) hR.1, Nat.le_trans (Nat.le_of_ble_eq_true rfl) hR.2⟩) ⟨uPc_blind, u_rcv hC hP c401 rfl, fun U hU hW => u_pre hC hP hS hU hW⟩ rfl rfl hl.1 rfl (lv_room (Nat.le_of_ble_eq_true rfl)) dL_law_1585 ⟨by omega, by omega⟩) hS (fun H locs hP hS => ?_)
        refine W.cs (cells' := u402.1 - u0.1) (slots' := u402.2.1 - u0.2.1) (by omega) (by omega) ?_
        refine lv_icmp_eq (tgt := 1593) hx hb dL_law_1588 (by decide) (fun c405 => ?_) (fun c405 => ?_)
        · have h := mif_t c405 h
          refine W.cs (cells' := u402.1 - u0.1) (slots' := u402.2.1 - u0.2.1) (by omega) (by omega) ?_
          exact w_L_law_1593 hC hled hR hRm N (f_L_law_23 N (ub G) (ug G) n) ih (zz_L_law_23 (G := G) N n) u402 (some a1) (some a395) (some a400) x3 x4 h ⟨by omega, by omega⟩ hP hS (lv_sub hl [0, 1, 2, 3, 4] rfl)
        · have h := mif_f c405 h
          refine lv_iconst (v := 0) hx hb dL_law_1591 (by decide) ?_
          obtain ⟨hr1, hr2⟩ := uret_n h
          subst hr1
          subst hr2
          exact u_zret hC (uFit_n (ty := .boolean) (v := 0) rfl).1 hP hS dL_law_1592
      have h := mif_f c394 h
      refine lv_tableOut (tgt := 1593) hx hb dL_law_40 (m_out 0 35 [0, 1, 2, 3, 4, 5, 6, 7, 8, 9, 10, 11, 12, 13, 14, 15, 16, 17, 18, 19, 20, 21, 22, 23, 24, 25, 26, 27, 28, 29, 30, 31, 32, 33, 34, 35] 36 (by decide) (by decide) (fun z hz => ?_)) (by decide) ?_
      · simp only [List.mem_cons, List.not_mem_nil, or_false] at hz
        rcases hz with rfl | rfl | rfl | rfl | rfl | rfl | rfl | rfl | rfl | rfl | rfl | rfl | rfl | rfl | rfl | rfl | rfl | rfl | rfl | rfl | rfl | rfl | rfl | rfl | rfl | rfl | rfl | rfl | rfl | rfl | rfl | rfl | rfl | rfl | rfl | rfl
        · exact c5
        · exact c16
        · exact c23
        · exact c30
        · exact c42
        · exact c54
        · exact c70
        · exact c86
        · exact c100
        · exact c108
        · exact c124
        · exact c140
        · exact c147
        · exact c165
        · exact c181
        · exact c195
        · exact c211
        · exact c231
        · exact c239
        · exact c244
        · exact c249
        · exact c261
        · exact c269
        · exact c274
        · exact c279
        · exact c287
        · exact c293
        · exact c302
        · exact c312
        · exact c326
        · exact c335
        · exact c351
        · exact c357
        · exact c364
        · exact c380
        · exact c394
      · refine W.cs (cells' := u.1 - u0.1) (slots' := u.2.1 - u0.2.1) (by omega) (by omega) ?_
        exact w_L_law_1593 hC hled hR hRm N (f_L_law_23 N (ub G) (ug G) n) ih (zz_L_law_23 (G := G) N n) u (some a1) x1 x2 x3 x4 h ⟨by omega, by omega⟩ hP hS (lv_sub hl [0, 1, 2, 3, 4] rfl)
def f_L_law_19 (N b : Nat) (g : uEnv) (u : UH) (x0 : Option Nat) (x1 : Option Nat) (x2 : Option Nat) (s0 : Option Nat) : Option (Int32 × UH) :=
    f_L_law_23 N b g N u x0 x1 x2 s0 0
set_option maxHeartbeats 4000000 in
set_option maxRecDepth 100000 in
theorem zz_L_law_19 {G : uG} {uf : UH} {r : Int32} (N : Nat) (u : UH) (x0 : Option Nat) (x1 : Option Nat) (x2 : Option Nat) (s0 : Option Nat) (h : f_L_law_19 N (ub G) (ug G) u x0 x1 x2 s0 = some (r, uf)) : u.1 ≤ uf.1 ∧ u.2.1 ≤ uf.2.1 := by
  unfold f_L_law_19 at h
  have hq := zz_L_law_23 (G := G) N N u x0 x1 x2 s0 0 h
  exact ⟨by omega, by omega⟩
set_option maxHeartbeats 4000000 in
set_option maxRecDepth 100000 in
theorem w_L_law_19 {p : Program} {l : Launch} {e : Env} {R : Room} {s : State} {m : MethodId} {args : Array Value} {below : List Frame} {meth : Method} {c : Code} {G : uG} {u0 : UH} {uf : UH} {r : Int32} (hC : uC p s m args meth c G R_law cL_law 7 (some .boolean)) (hled : uLedOK l) (hR : 103 ≤ R.frames ∧ 6080 ≤ R.locals) (hRm : uf.1 - u0.1 ≤ R.cells ∧ uf.2.1 - u0.2.1 ≤ R.slots) (N : Nat) (u : UH) (x0 : Option Nat) (x1 : Option Nat) (x2 : Option Nat) (s0 : Option Nat) (h : f_L_law_19 N (ub G) (ug G) u x0 x1 x2 s0 = some (r, uf)) (hz0 : (u0.1 ≤ u.1 ∧ u0.2.1 ≤ u.2.1)) {H : Heap} {locs : List Loc} (hP : uP G u H) (hS : va_S (uA G) s.heap H locs) {ls : Array Slot} (hl : lv_has ls 7 [(0, va_rf x0), (1, va_rf x1), (2, va_rf x2)]) : W p l e R s m args below meth c H locs (u.1 - u0.1) (u.2.1 - u0.2.1) (MQ below (uQi G r uf) args s (uf.1 - u0.1) (uf.2.1 - u0.2.1) (uA G)) (F0 m 19 ls [va_rf s0]) := by
  obtain ⟨⟨hx, hb, hml, hown, hts⟩, hKK⟩ := id hC
  have hzf := zz_L_law_19 (G := G) N u x0 x1 x2 s0 h
  unfold f_L_law_19 at h
  refine u_astore_n (i := 3) (r := s0) (lv' := [(3, va_rf s0), (0, va_rf x0), (1, va_rf x1), (2, va_rf x2)]) hx hb dL_law_19 rfl hl (by decide) (by simp [List.filter_cons, u_cat]) (fun ls hl => ?_)
  refine lv_iconst (v := 0) hx hb dL_law_20 (by decide) ?_
  refine lv_istore (lv' := [(4, .int 0), (3, va_rf s0), (0, va_rf x0), (1, va_rf x1), (2, va_rf x2)]) hx hb dL_law_21 hl (by decide) (by simp [List.filter_cons, u_cat]) (fun ls hl => ?_)
  refine W.cs (cells' := u.1 - u0.1) (slots' := u.2.1 - u0.2.1) (by omega) (by omega) ?_
  exact w_L_law_23 hC hled hR hRm N N u x0 x1 x2 s0 0 h ⟨by omega, by omega⟩ _ _ hP hS _ (lv_sub hl [2, 3, 4, 1, 0] rfl)
def f_L_law_15 (N b : Nat) (g : uEnv) (u : UH) (x0 : Option Nat) (x1 : Option Nat) (s0 : Option Nat) : Option (Int32 × UH) :=
    if ¬ (1 : Int32) < 0 ∧ (1 : Int32).toNatClampNeg ≤ 60000000 then
    mlet (u.1) fun a3 =>
    mlet (uNew u (1 : Int32).toNatClampNeg (.inl (3, (1 : Int32).toNatClampNeg, .inr (.inl (fun _ => 0))))) fun u1 =>
    f_L_law_19 N b g u1 x0 x1 s0 (some a3)
    else none
set_option maxHeartbeats 4000000 in
set_option maxRecDepth 100000 in
theorem zz_L_law_15 {G : uG} {uf : UH} {r : Int32} (N : Nat) (u : UH) (x0 : Option Nat) (x1 : Option Nat) (s0 : Option Nat) (h : f_L_law_15 N (ub G) (ug G) u x0 x1 s0 = some (r, uf)) : u.1 ≤ uf.1 ∧ u.2.1 ≤ uf.2.1 := by
  unfold f_L_law_15 at h
  obtain ⟨c2, h⟩ := mif_n h
  obtain ⟨a3, ea3⟩ : ∃ z : Nat, z = u.1 := ⟨_, rfl⟩
  have h := mlet_at ea3 h
  obtain ⟨u1, eu1⟩ : ∃ z : UH, z = uNew u (1 : Int32).toNatClampNeg (.inl (3, (1 : Int32).toNatClampNeg, .inr (.inl (fun _ => 0)))) := ⟨_, rfl⟩
  have h := mlet_at eu1 h
  have zu1 : u1.1 = u.1 + 1 ∧ u1.2.1 = u.2.1 + (1 : Int32).toNatClampNeg := by rw [eu1]; exact ⟨rfl, rfl⟩
  have hq := zz_L_law_19 (G := G) N u1 x0 x1 s0 (some a3) h
  exact ⟨by omega, by omega⟩
set_option maxHeartbeats 4000000 in
set_option maxRecDepth 100000 in
theorem w_L_law_15 {p : Program} {l : Launch} {e : Env} {R : Room} {s : State} {m : MethodId} {args : Array Value} {below : List Frame} {meth : Method} {c : Code} {G : uG} {u0 : UH} {uf : UH} {r : Int32} (hC : uC p s m args meth c G R_law cL_law 7 (some .boolean)) (hled : uLedOK l) (hR : 103 ≤ R.frames ∧ 6080 ≤ R.locals) (hRm : uf.1 - u0.1 ≤ R.cells ∧ uf.2.1 - u0.2.1 ≤ R.slots) (N : Nat) (u : UH) (x0 : Option Nat) (x1 : Option Nat) (s0 : Option Nat) (h : f_L_law_15 N (ub G) (ug G) u x0 x1 s0 = some (r, uf)) (hz0 : (u0.1 ≤ u.1 ∧ u0.2.1 ≤ u.2.1)) {H : Heap} {locs : List Loc} (hP : uP G u H) (hS : va_S (uA G) s.heap H locs) {ls : Array Slot} (hl : lv_has ls 7 [(0, va_rf x0), (1, va_rf x1)]) : W p l e R s m args below meth c H locs (u.1 - u0.1) (u.2.1 - u0.2.1) (MQ below (uQi G r uf) args s (uf.1 - u0.1) (uf.2.1 - u0.2.1) (uA G)) (F0 m 15 ls [va_rf s0]) := by
  obtain ⟨⟨hx, hb, hml, hown, hts⟩, hKK⟩ := id hC
  have hzf := zz_L_law_15 (G := G) N u x0 x1 s0 h
  unfold f_L_law_15 at h
  refine u_astore_n (i := 2) (r := s0) (lv' := [(2, va_rf s0), (0, va_rf x0), (1, va_rf x1)]) hx hb dL_law_15 rfl hl (by decide) (by simp [List.filter_cons, u_cat]) (fun ls hl => ?_)
  refine lv_iconst (v := 1) hx hb dL_law_16 (by decide) ?_
  obtain ⟨c2, h⟩ := mif_n h
  obtain ⟨a3, ea3⟩ : ∃ z : Nat, z = u.1 := ⟨_, rfl⟩
  have h := mlet_at ea3 h
  obtain ⟨u1, eu1⟩ : ∃ z : UH, z = uNew u (1 : Int32).toNatClampNeg (.inl (3, (1 : Int32).toNatClampNeg, .inr (.inl (fun _ => 0)))) := ⟨_, rfl⟩
  have h := mlet_at eu1 h
  have zu1 : u1.1 = u.1 + 1 ∧ u1.2.1 = u.2.1 + (1 : Int32).toNatClampNeg := by rw [eu1]; exact ⟨rfl, rfl⟩
  have hq := zz_L_law_19 (G := G) N u1 x0 x1 s0 (some a3) h
  refine u_newa (atype := .long) hC hP hS (t := 3) q186 rfl (N := (1 : Int32).toNatClampNeg) (x := .inr (.inl (fun _ => 0))) (fun _ => rfl) c2.1 rfl (by have := c2.2; show _ * 8 ≤ _; omega) (by omega) (by omega) dL_law_17 (fun H hP hS => ?_)
  rw [← eu1] at hP
  rw [← ea3]
  refine W.cs (cells' := u1.1 - u0.1) (slots' := u1.2.1 - u0.2.1) (by omega) (by omega) ?_
  refine W.cs (cells' := u1.1 - u0.1) (slots' := u1.2.1 - u0.2.1) (by omega) (by omega) ?_
  exact w_L_law_19 hC hled hR hRm N u1 x0 x1 s0 (some a3) h ⟨by omega, by omega⟩ hP hS (lv_sub hl [1, 2, 0] rfl)
def f_L_law_11 (N b : Nat) (g : uEnv) (u : UH) (x0 : Option Nat) (x1 : Option Nat) (s0 : Option Nat) : Option (Int32 × UH) :=
    (s0).bind fun a1 =>
    (f_X3_init N b g u a1).bind fun u2 =>
    f_L_law_15 N b g u2 x0 x1 (some a1)
set_option maxHeartbeats 4000000 in
set_option maxRecDepth 100000 in
theorem zz_L_law_11 {G : uG} {uf : UH} {r : Int32} (N : Nat) (u : UH) (x0 : Option Nat) (x1 : Option Nat) (s0 : Option Nat) (h : f_L_law_11 N (ub G) (ug G) u x0 x1 s0 = some (r, uf)) : u.1 ≤ uf.1 ∧ u.2.1 ≤ uf.2.1 := by
  unfold f_L_law_11 at h
  obtain ⟨a1, ha1, hha1⟩ := mbind_n h
  subst ha1
  have h := hha1
  obtain ⟨u2, c3, h⟩ := mbind_n h
  have zu2 := zz_X3_init N (ub G) (ug G) u a1 u2 c3
  have hq := zz_L_law_15 (G := G) N u2 x0 x1 (some a1) h
  exact ⟨by omega, by omega⟩
set_option maxHeartbeats 4000000 in
set_option maxRecDepth 100000 in
theorem w_L_law_11 {p : Program} {l : Launch} {e : Env} {R : Room} {s : State} {m : MethodId} {args : Array Value} {below : List Frame} {meth : Method} {c : Code} {G : uG} {u0 : UH} {uf : UH} {r : Int32} (hC : uC p s m args meth c G R_law cL_law 7 (some .boolean)) (hled : uLedOK l) (hR : 103 ≤ R.frames ∧ 6080 ≤ R.locals) (hRm : uf.1 - u0.1 ≤ R.cells ∧ uf.2.1 - u0.2.1 ≤ R.slots) (N : Nat) (u : UH) (x0 : Option Nat) (x1 : Option Nat) (s0 : Option Nat) (h : f_L_law_11 N (ub G) (ug G) u x0 x1 s0 = some (r, uf)) (hz0 : (u0.1 ≤ u.1 ∧ u0.2.1 ≤ u.2.1)) {H : Heap} {locs : List Loc} (hP : uP G u H) (hS : va_S (uA G) s.heap H locs) {ls : Array Slot} (hl : lv_has ls 7 [(0, va_rf x0), (1, va_rf x1)]) : W p l e R s m args below meth c H locs (u.1 - u0.1) (u.2.1 - u0.2.1) (MQ below (uQi G r uf) args s (uf.1 - u0.1) (uf.2.1 - u0.2.1) (uA G)) (F0 m 11 ls [va_rf s0]) := by
  obtain ⟨⟨hx, hb, hml, hown, hts⟩, hKK⟩ := id hC
  have hzf := zz_L_law_11 (G := G) N u x0 x1 s0 h
  unfold f_L_law_11 at h
  refine lv_dup hx hb dL_law_11 (u_cat _) ?_
  obtain ⟨a1, ha1, hha1⟩ := mbind_n h
  subst ha1
  have h := hha1
  obtain ⟨u2, c3, h⟩ := mbind_n h
  have zu2 := zz_X3_init N (ub G) (ug G) u a1 u2 c3
  have hq := zz_L_law_15 (G := G) N u2 x0 x1 (some a1) h
  refine u_callv (va_runI (As := []) (rest := [va_rf (some a1)]) hC.1 (met_X3_init l N G u a1 u2 c3) (cwI 0 hts (lw_meth q1890) rfl rfl rfl (hts _ q103) (hts _ q1888) (hts _ q1889) rfl (by decide +kernel) ⟨Nat.le_trans (Nat.le_of_ble_eq_true rfl) hR.1, Nat.le_trans (Nat.le_of_ble_eq_true rfl) hR.2⟩) ⟨uPc_blind, fun U hU hW => u_pre hC hP hS hU hW⟩ rfl rfl hl.1 rfl (lv_room (Nat.le_of_ble_eq_true rfl)) dL_law_12 ⟨by omega, by omega⟩) hS (fun H locs hP hS => ?_)
  refine W.cs (cells' := u2.1 - u0.1) (slots' := u2.2.1 - u0.2.1) (by omega) (by omega) ?_
  refine W.cs (cells' := u2.1 - u0.1) (slots' := u2.2.1 - u0.2.1) (by omega) (by omega) ?_
  exact w_L_law_15 hC hled hR hRm N u2 x0 x1 (some a1) h ⟨by omega, by omega⟩ hP hS (lv_sub hl [0, 1] rfl)
def f_L_law_7 (N b : Nat) (g : uEnv) (u : UH) (x0 : Option Nat) (s0 : Option Nat) : Option (Int32 × UH) :=
    mlet (u.1) fun a2 =>
    mlet (uNew u 75 (.inr (2, uDefs tyX3 75))) fun u1 =>
    f_L_law_11 N b g u1 x0 s0 (some a2)
set_option maxHeartbeats 4000000 in
set_option maxRecDepth 100000 in
theorem zz_L_law_7 {G : uG} {uf : UH} {r : Int32} (N : Nat) (u : UH) (x0 : Option Nat) (s0 : Option Nat) (h : f_L_law_7 N (ub G) (ug G) u x0 s0 = some (r, uf)) : u.1 ≤ uf.1 ∧ u.2.1 ≤ uf.2.1 := by
  unfold f_L_law_7 at h
  obtain ⟨a2, ea2⟩ : ∃ z : Nat, z = u.1 := ⟨_, rfl⟩
  have h := mlet_at ea2 h
  obtain ⟨u1, eu1⟩ : ∃ z : UH, z = uNew u 75 (.inr (2, uDefs tyX3 75)) := ⟨_, rfl⟩
  have h := mlet_at eu1 h
  have zu1 : u1.1 = u.1 + 1 ∧ u1.2.1 = u.2.1 + 75 := by rw [eu1]; exact ⟨rfl, rfl⟩
  have hq := zz_L_law_11 (G := G) N u1 x0 s0 (some a2) h
  exact ⟨by omega, by omega⟩
set_option maxHeartbeats 4000000 in
set_option maxRecDepth 100000 in
theorem w_L_law_7 {p : Program} {l : Launch} {e : Env} {R : Room} {s : State} {m : MethodId} {args : Array Value} {below : List Frame} {meth : Method} {c : Code} {G : uG} {u0 : UH} {uf : UH} {r : Int32} (hC : uC p s m args meth c G R_law cL_law 7 (some .boolean)) (hled : uLedOK l) (hR : 103 ≤ R.frames ∧ 6080 ≤ R.locals) (hRm : uf.1 - u0.1 ≤ R.cells ∧ uf.2.1 - u0.2.1 ≤ R.slots) (N : Nat) (u : UH) (x0 : Option Nat) (s0 : Option Nat) (h : f_L_law_7 N (ub G) (ug G) u x0 s0 = some (r, uf)) (hz0 : (u0.1 ≤ u.1 ∧ u0.2.1 ≤ u.2.1)) {H : Heap} {locs : List Loc} (hP : uP G u H) (hS : va_S (uA G) s.heap H locs) {ls : Array Slot} (hl : lv_has ls 7 [(0, va_rf x0)]) : W p l e R s m args below meth c H locs (u.1 - u0.1) (u.2.1 - u0.2.1) (MQ below (uQi G r uf) args s (uf.1 - u0.1) (uf.2.1 - u0.2.1) (uA G)) (F0 m 7 ls [va_rf s0]) := by
  obtain ⟨⟨hx, hb, hml, hown, hts⟩, hKK⟩ := id hC
  have hzf := zz_L_law_7 (G := G) N u x0 s0 h
  unfold f_L_law_7 at h
  refine u_astore_n (i := 1) (r := s0) (lv' := [(1, va_rf s0), (0, va_rf x0)]) hx hb dL_law_7 rfl hl (by decide) (by simp [List.filter_cons, u_cat]) (fun ls hl => ?_)
  obtain ⟨a2, ea2⟩ : ∃ z : Nat, z = u.1 := ⟨_, rfl⟩
  have h := mlet_at ea2 h
  obtain ⟨u1, eu1⟩ : ∃ z : UH, z = uNew u 75 (.inr (2, uDefs tyX3 75)) := ⟨_, rfl⟩
  have h := mlet_at eu1 h
  have zu1 : u1.1 = u.1 + 1 ∧ u1.2.1 = u.2.1 + 75 := by rw [eu1]; exact ⟨rfl, rfl⟩
  have hq := zz_L_law_11 (G := G) N u1 x0 s0 (some a2) h
  refine u_new hC hP hS (T := TX3) (N := 75) (ci := 2) rfl in_X3 tyX3 tyX3_ok q1886 q1887 q103 (by omega) (by omega) dL_law_8 (fun H hP hS => ?_)
  rw [← eu1] at hP
  rw [← ea2]
  refine W.cs (cells' := u1.1 - u0.1) (slots' := u1.2.1 - u0.2.1) (by omega) (by omega) ?_
  refine W.cs (cells' := u1.1 - u0.1) (slots' := u1.2.1 - u0.2.1) (by omega) (by omega) ?_
  exact w_L_law_11 hC hled hR hRm N u1 x0 s0 (some a2) h ⟨by omega, by omega⟩ hP hS (lv_sub hl [1, 0] rfl)
def f_L_law_3 (N b : Nat) (g : uEnv) (u : UH) (x0 : Option Nat) (s0 : Option Nat) : Option (Int32 × UH) :=
    (s0).bind fun a1 =>
    (f_X1_init N b g u a1).bind fun u2 =>
    f_L_law_7 N b g u2 x0 (some a1)
set_option maxHeartbeats 4000000 in
set_option maxRecDepth 100000 in
theorem zz_L_law_3 {G : uG} {uf : UH} {r : Int32} (N : Nat) (u : UH) (x0 : Option Nat) (s0 : Option Nat) (h : f_L_law_3 N (ub G) (ug G) u x0 s0 = some (r, uf)) : u.1 ≤ uf.1 ∧ u.2.1 ≤ uf.2.1 := by
  unfold f_L_law_3 at h
  obtain ⟨a1, ha1, hha1⟩ := mbind_n h
  subst ha1
  have h := hha1
  obtain ⟨u2, c3, h⟩ := mbind_n h
  have zu2 := zz_X1_init N (ub G) (ug G) u a1 u2 c3
  have hq := zz_L_law_7 (G := G) N u2 x0 (some a1) h
  exact ⟨by omega, by omega⟩
set_option maxHeartbeats 4000000 in
set_option maxRecDepth 100000 in
theorem w_L_law_3 {p : Program} {l : Launch} {e : Env} {R : Room} {s : State} {m : MethodId} {args : Array Value} {below : List Frame} {meth : Method} {c : Code} {G : uG} {u0 : UH} {uf : UH} {r : Int32} (hC : uC p s m args meth c G R_law cL_law 7 (some .boolean)) (hled : uLedOK l) (hR : 103 ≤ R.frames ∧ 6080 ≤ R.locals) (hRm : uf.1 - u0.1 ≤ R.cells ∧ uf.2.1 - u0.2.1 ≤ R.slots) (N : Nat) (u : UH) (x0 : Option Nat) (s0 : Option Nat) (h : f_L_law_3 N (ub G) (ug G) u x0 s0 = some (r, uf)) (hz0 : (u0.1 ≤ u.1 ∧ u0.2.1 ≤ u.2.1)) {H : Heap} {locs : List Loc} (hP : uP G u H) (hS : va_S (uA G) s.heap H locs) {ls : Array Slot} (hl : lv_has ls 7 [(0, va_rf x0)]) : W p l e R s m args below meth c H locs (u.1 - u0.1) (u.2.1 - u0.2.1) (MQ below (uQi G r uf) args s (uf.1 - u0.1) (uf.2.1 - u0.2.1) (uA G)) (F0 m 3 ls [va_rf s0]) := by
  obtain ⟨⟨hx, hb, hml, hown, hts⟩, hKK⟩ := id hC
  have hzf := zz_L_law_3 (G := G) N u x0 s0 h
  unfold f_L_law_3 at h
  refine lv_dup hx hb dL_law_3 (u_cat _) ?_
  obtain ⟨a1, ha1, hha1⟩ := mbind_n h
  subst ha1
  have h := hha1
  obtain ⟨u2, c3, h⟩ := mbind_n h
  have zu2 := zz_X1_init N (ub G) (ug G) u a1 u2 c3
  have hq := zz_L_law_7 (G := G) N u2 x0 (some a1) h
  refine u_callv (va_runI (As := []) (rest := [va_rf (some a1)]) hC.1 (met_X1_init l N G u a1 u2 c3) (cwI 0 hts (lw_meth q146) rfl rfl rfl (hts _ q98) (hts _ q144) (hts _ q145) rfl (by decide +kernel) ⟨Nat.le_trans (Nat.le_of_ble_eq_true rfl) hR.1, Nat.le_trans (Nat.le_of_ble_eq_true rfl) hR.2⟩) ⟨uPc_blind, fun U hU hW => u_pre hC hP hS hU hW⟩ rfl rfl hl.1 rfl (lv_room (Nat.le_of_ble_eq_true rfl)) dL_law_4 ⟨by omega, by omega⟩) hS (fun H locs hP hS => ?_)
  refine W.cs (cells' := u2.1 - u0.1) (slots' := u2.2.1 - u0.2.1) (by omega) (by omega) ?_
  refine W.cs (cells' := u2.1 - u0.1) (slots' := u2.2.1 - u0.2.1) (by omega) (by omega) ?_
  exact w_L_law_7 hC hled hR hRm N u2 x0 (some a1) h ⟨by omega, by omega⟩ hP hS (lv_sub hl [0] rfl)
def f_L_law (N b : Nat) (g : uEnv) (u : UH) (x0 : Option Nat) : Option (Int32 × UH) :=
    mlet (u.1) fun a2 =>
    mlet (uNew u 16 (.inr (0, uDefs tyX1 16))) fun u1 =>
    f_L_law_3 N b g u1 x0 (some a2)
set_option maxHeartbeats 4000000 in
set_option maxRecDepth 100000 in
theorem zz_L_law_0 {G : uG} {uf : UH} {r : Int32} (N : Nat) (u : UH) (x0 : Option Nat) (h : f_L_law N (ub G) (ug G) u x0 = some (r, uf)) : u.1 ≤ uf.1 ∧ u.2.1 ≤ uf.2.1 := by
  unfold f_L_law at h
  obtain ⟨a2, ea2⟩ : ∃ z : Nat, z = u.1 := ⟨_, rfl⟩
  have h := mlet_at ea2 h
  obtain ⟨u1, eu1⟩ : ∃ z : UH, z = uNew u 16 (.inr (0, uDefs tyX1 16)) := ⟨_, rfl⟩
  have h := mlet_at eu1 h
  have zu1 : u1.1 = u.1 + 1 ∧ u1.2.1 = u.2.1 + 16 := by rw [eu1]; exact ⟨rfl, rfl⟩
  have hq := zz_L_law_3 (G := G) N u1 x0 (some a2) h
  exact ⟨by omega, by omega⟩
set_option maxHeartbeats 4000000 in
set_option maxRecDepth 100000 in
theorem w_L_law_0 {p : Program} {l : Launch} {e : Env} {R : Room} {s : State} {m : MethodId} {args : Array Value} {below : List Frame} {meth : Method} {c : Code} {G : uG} {u0 : UH} {uf : UH} {r : Int32} (hC : uC p s m args meth c G R_law cL_law 7 (some .boolean)) (hled : uLedOK l) (hR : 103 ≤ R.frames ∧ 6080 ≤ R.locals) (hRm : uf.1 - u0.1 ≤ R.cells ∧ uf.2.1 - u0.2.1 ≤ R.slots) (N : Nat) (u : UH) (x0 : Option Nat) (h : f_L_law N (ub G) (ug G) u x0 = some (r, uf)) (hz0 : (u0.1 ≤ u.1 ∧ u0.2.1 ≤ u.2.1)) {H : Heap} {locs : List Loc} (hP : uP G u H) (hS : va_S (uA G) s.heap H locs) {ls : Array Slot} (hl : lv_has ls 7 [(0, va_rf x0)]) : W p l e R s m args below meth c H locs (u.1 - u0.1) (u.2.1 - u0.2.1) (MQ below (uQi G r uf) args s (uf.1 - u0.1) (uf.2.1 - u0.2.1) (uA G)) (F0 m 0 ls []) := by
  obtain ⟨⟨hx, hb, hml, hown, hts⟩, hKK⟩ := id hC
  have hzf := zz_L_law_0 (G := G) N u x0 h
  unfold f_L_law at h
  obtain ⟨a2, ea2⟩ : ∃ z : Nat, z = u.1 := ⟨_, rfl⟩
  have h := mlet_at ea2 h
  obtain ⟨u1, eu1⟩ : ∃ z : UH, z = uNew u 16 (.inr (0, uDefs tyX1 16)) := ⟨_, rfl⟩
  have h := mlet_at eu1 h
  have zu1 : u1.1 = u.1 + 1 ∧ u1.2.1 = u.2.1 + 16 := by rw [eu1]; exact ⟨rfl, rfl⟩
  have hq := zz_L_law_3 (G := G) N u1 x0 (some a2) h
  refine u_new hC hP hS (T := TX1) (N := 16) (ci := 0) rfl in_X1 tyX1 tyX1_ok q142 q143 q98 (by omega) (by omega) dL_law_0 (fun H hP hS => ?_)
  rw [← eu1] at hP
  rw [← ea2]
  refine W.cs (cells' := u1.1 - u0.1) (slots' := u1.2.1 - u0.2.1) (by omega) (by omega) ?_
  refine W.cs (cells' := u1.1 - u0.1) (slots' := u1.2.1 - u0.2.1) (by omega) (by omega) ?_
  exact w_L_law_3 hC hled hR hRm N u1 x0 (some a2) h ⟨by omega, by omega⟩ hP hS (lv_sub hl [0] rfl)

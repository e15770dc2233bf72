/-! BY gen_heap.py: X3_book X3_canBe X3_common X3_isCell X3_lists X3_truthMany X3_costs X3_mostDug X3_count X3_not X3_dead X3_dig X3_digState X3_digs X3_doubt -/
def f_X3_book_195 (N b : Nat) (g : uEnv) (a0 : Nat) : Nat → UH → Int32 → Option (Int32 × UH)
  | 0, _, _ => none
  | n + 1, u, x2 =>
    if 6 ≤ x2 then
    (uGI u a0 2 22).bind fun y2 =>
    some (y2, u)
    else
    (uGR u a0 2 47).bind fun o3 =>
    (o3).bind fun a4 =>
    (uStI b u a4 0 x2 0).bind fun u5 =>
    mlet (x2 + 1) fun y6 =>
    f_X3_book_195 N b g a0 n u5 y6
set_option maxHeartbeats 4000000 in
set_option maxRecDepth 100000 in
theorem zz_X3_book_195 {G : uG} {a0 : Nat} {uf : UH} {r : Int32} (N : Nat) : ∀ (n : Nat) (u : UH) (x2 : Int32), f_X3_book_195 N (ub G) (ug G) a0 n u x2 = some (r, uf) → uf.1 = u.1 ∧ uf.2.1 = u.2.1 := by
  intro n
  induction n with
  | zero =>
    intro u x2 h
    cases h
  | succ n ih =>
    intro u x2 h
    unfold f_X3_book_195 at h
    by_cases c1 : 6 ≤ x2
    · have h := mif_t c1 h
      obtain ⟨y2, hy2, h⟩ := mbind_n h
      obtain ⟨hr1, hr2⟩ := uret_n h
      subst hr2
      exact ⟨by omega, by omega⟩
    · have h := mif_f c1 h
      obtain ⟨o3, ho3, h⟩ := mbind_n h
      obtain ⟨a4, ha4, hha4⟩ := mbind_n h
      subst ha4
      have h := hha4
      obtain ⟨u5, hu5, h⟩ := mbind_n h
      have zu5 := uStI_sz hu5
      obtain ⟨y6, ey6⟩ : ∃ z : Int32, z = x2 + 1 := ⟨_, rfl⟩
      have h := mlet_at ey6 h
      have hq := ih u5 y6 h
      exact ⟨by omega, by omega⟩
set_option maxHeartbeats 4000000 in
set_option maxRecDepth 100000 in
theorem w_X3_book_195 {p : Program} {l : Launch} {e : Env} {R : Room} {s : State} {m : MethodId} {args : Array Value} {below : List Frame} {meth : Method} {c : Code} {G : uG} {a0 : Nat} {uf : UH} {r : Int32} (hC : uC p s m args meth c G RX3 cX3_book 3 (some .int)) (hR : 8 ≤ R.frames ∧ 170 ≤ R.locals) (N : Nat) : ∀ (n : Nat) (u : UH) (x2 : Int32), f_X3_book_195 N (ub G) (ug G) a0 n u x2 = some (r, uf) → ∀ (H : Heap) (locs : List Loc), uP G u H → va_S (uA G) s.heap H locs → ∀ ls : Array Slot, lv_has ls 3 [(0, va_rf (some a0)), (2, .int x2)] → W p l e R s m args below meth c H locs 0 0 (MQ below (uQi G r uf) args s 0 0 (uA G)) (F0 m 195 ls []) := by
  obtain ⟨⟨hx, hb, hml, hown, hts⟩, hKK⟩ := id hC
  intro n
  induction n with
  | zero =>
    intro u x2 h
    cases h
  | succ n ih =>
    intro u x2 h H locs hP hS ls hl
    unfold f_X3_book_195 at h
    refine lv_iload_n hx hb dX3_book_195 rfl (lv_at hl 1 rfl) ?_
    refine lv_bipush (v := 6) hx hb dX3_book_196 (by decide) ?_
    refine lv_icmp_ge (tgt := 214) hx hb dX3_book_198 (by decide) (fun c1 => ?_) (fun c1 => ?_)
    · have h := mif_t c1 h
      refine u_aload_n (r := some a0) hx hb dX3_book_214 rfl (lv_at hl 0 rfl) ?_
      obtain ⟨y2, hy2, h⟩ := mbind_n h
      refine u_get hC hP (uGI_n hy2) rfl in_X3 (by decide) q1915 (fun _ h => h) dX3_book_215 ?_
      obtain ⟨hr1, hr2⟩ := uret_n h
      subst hr1
      subst hr2
      exact u_iret hC hP hS dX3_book_218
    · have h := mif_f c1 h
      refine u_aload_n (r := some a0) hx hb dX3_book_201 rfl (lv_at hl 0 rfl) ?_
      obtain ⟨o3, ho3, h⟩ := mbind_n h
      refine u_get hC hP (uGR_n ho3) rfl in_X3 (by decide) q1940 (fun _ h => h) dX3_book_202 ?_
      refine lv_iload_n hx hb dX3_book_205 rfl (lv_at hl 1 rfl) ?_
      refine lv_iconst (v := 0) hx hb dX3_book_206 (by decide) ?_
      obtain ⟨a4, ha4, hha4⟩ := mbind_n h
      subst ha4
      have h := hha4
      obtain ⟨u5, hu5, h⟩ := mbind_n h
      have zu5 := uStI_sz hu5
      refine u_iast hC hP hS hu5 rfl dX3_book_207 (fun H locs hP hS => ?_)
      obtain ⟨y6, ey6⟩ : ∃ z : Int32, z = x2 + 1 := ⟨_, rfl⟩
      have h := mlet_at ey6 h
      refine lv_iinc (v := y6) (lv' := [(2, .int y6), (0, va_rf (some a0))]) hx hb dX3_book_208 hl (k := 1) rfl (by rw [ey6]; rfl) (by decide) rfl (fun ls hl => ?_)
      refine lv_goto (tgt := 195) hx hb dX3_book_211 (by decide) ?_
      exact ih u5 y6 h _ _ hP hS _ (lv_sub hl [1, 0] rfl)
def f_X3_book_140 (N b : Nat) (g : uEnv) (a0 : Nat) (u : UH) : Option (Int32 × UH) :=
    (uGI u a0 2 13).bind fun y1 =>
    if y1 = 0 then
    (uPut b u a0 2 12 (.int 1)).bind fun u3 =>
    (uPut b u3 a0 2 69 (.int 0)).bind fun u4 =>
    (uPut b u4 a0 2 34 (.int 0)).bind fun u5 =>
    (uPut b u5 a0 2 40 (.int 0)).bind fun u6 =>
    (uPut b u6 a0 2 37 (.int 0)).bind fun u7 =>
    (uPut b u7 a0 2 38 (.int 0)).bind fun u8 =>
    (uPut b u8 a0 2 51 (.int 0)).bind fun u9 =>
    f_X3_book_195 N b g a0 N u9 0
    else
    if uIs u a0 2 = true then
    (f_X3_store N b g u a0 1).bind fun u11 =>
    if uIs u11 a0 2 = true then
    ucall (f_X3_no N b g u11 a0 4) fun r16 u14 =>
    some (r16, u14)
    else none
    else none
set_option maxHeartbeats 4000000 in
set_option maxRecDepth 100000 in
theorem zz_X3_book_140 {G : uG} {a0 : Nat} {uf : UH} {r : Int32} (N : Nat) (u : UH) (h : f_X3_book_140 N (ub G) (ug G) a0 u = some (r, uf)) : uf.1 = u.1 ∧ uf.2.1 = u.2.1 := by
  unfold f_X3_book_140 at h
  obtain ⟨y1, hy1, h⟩ := mbind_n h
  by_cases c2 : y1 = 0
  · have h := mif_t c2 h
    obtain ⟨u3, hu3, h⟩ := mbind_n h
    have zu3 := uPut_sz hu3
    obtain ⟨u4, hu4, h⟩ := mbind_n h
    have zu4 := uPut_sz hu4
    obtain ⟨u5, hu5, h⟩ := mbind_n h
    have zu5 := uPut_sz hu5
    obtain ⟨u6, hu6, h⟩ := mbind_n h
    have zu6 := uPut_sz hu6
    obtain ⟨u7, hu7, h⟩ := mbind_n h
    have zu7 := uPut_sz hu7
    obtain ⟨u8, hu8, h⟩ := mbind_n h
    have zu8 := uPut_sz hu8
    obtain ⟨u9, hu9, h⟩ := mbind_n h
    have zu9 := uPut_sz hu9
    have hq := zz_X3_book_195 (G := G) (a0 := a0) N N u9 0 h
    exact ⟨by omega, by omega⟩
  · have h := mif_f c2 h
    obtain ⟨c10, h⟩ := mif_n h
    obtain ⟨u11, c12, h⟩ := mbind_n h
    have zu11 := zz_X3_store N (ub G) (ug G) u a0 1 u11 c12
    obtain ⟨c13, h⟩ := mif_n h
    obtain ⟨r16, u14, c15, h⟩ := ucall_n h
    have zu14 := zz_X3_no N (ub G) (ug G) u11 a0 4 r16 u14 c15
    obtain ⟨hr1, hr2⟩ := uret_n h
    subst hr2
    exact ⟨by omega, by omega⟩
set_option maxHeartbeats 4000000 in
set_option maxRecDepth 100000 in
theorem w_X3_book_140 {p : Program} {l : Launch} {e : Env} {R : Room} {s : State} {m : MethodId} {args : Array Value} {below : List Frame} {meth : Method} {c : Code} {G : uG} {a0 : Nat} {uf : UH} {r : Int32} (hC : uC p s m args meth c G RX3 cX3_book 3 (some .int)) (hR : 8 ≤ R.frames ∧ 170 ≤ R.locals) (N : Nat) (u : UH) (h : f_X3_book_140 N (ub G) (ug G) a0 u = some (r, uf)) {H : Heap} {locs : List Loc} (hP : uP G u H) (hS : va_S (uA G) s.heap H locs) {ls : Array Slot} (hl : lv_has ls 3 [(0, va_rf (some a0))]) : W p l e R s m args below meth c H locs 0 0 (MQ below (uQi G r uf) args s 0 0 (uA G)) (F0 m 140 ls []) := by
  obtain ⟨⟨hx, hb, hml, hown, hts⟩, hKK⟩ := id hC
  unfold f_X3_book_140 at h
  refine u_aload_n (r := some a0) hx hb dX3_book_140 rfl (lv_at hl 0 rfl) ?_
  obtain ⟨y1, hy1, h⟩ := mbind_n h
  refine u_get hC hP (uGI_n hy1) rfl in_X3 (by decide) q1906 (fun _ h => h) dX3_book_141 ?_
  refine lv_if_eq (tgt := 158) hx hb dX3_book_144 (by decide) (fun c2 => ?_) (fun c2 => ?_)
  · have h := mif_t c2 h
    refine u_aload_n (r := some a0) hx hb dX3_book_158 rfl (lv_at hl 0 rfl) ?_
    refine lv_iconst (v := 1) hx hb dX3_book_159 (by decide) ?_
    obtain ⟨u3, hu3, h⟩ := mbind_n h
    have zu3 := uPut_sz hu3
    refine u_put hC hP hS hu3 rfl in_X3 tyX3 tyX3_ok nmX3 (by decide) q1905 (fun _ h => h) rfl (ty := .boolean) (tyX3_ok 12 (by decide)) (uFit_n (ty := .boolean) (v := 1) rfl).1 (uFit_n (ty := .boolean) (v := 1) rfl).2 dX3_book_160 (fun H locs hP hS => ?_)
    refine u_aload_n (r := some a0) hx hb dX3_book_163 rfl (lv_at hl 0 rfl) ?_
    refine lv_iconst (v := 0) hx hb dX3_book_164 (by decide) ?_
    obtain ⟨u4, hu4, h⟩ := mbind_n h
    have zu4 := uPut_sz hu4
    refine u_put hC hP hS hu4 rfl in_X3 tyX3 tyX3_ok nmX3 (by decide) q1962 (fun _ h => h) rfl (ty := .boolean) (tyX3_ok 69 (by decide)) (uFit_n (ty := .boolean) (v := 0) rfl).1 (uFit_n (ty := .boolean) (v := 0) rfl).2 dX3_book_165 (fun H locs hP hS => ?_)
    refine u_aload_n (r := some a0) hx hb dX3_book_168 rfl (lv_at hl 0 rfl) ?_
    refine lv_iconst (v := 0) hx hb dX3_book_169 (by decide) ?_
    obtain ⟨u5, hu5, h⟩ := mbind_n h
    have zu5 := uPut_sz hu5
    refine u_put hC hP hS hu5 rfl in_X3 tyX3 tyX3_ok nmX3 (by decide) q1927 (fun _ h => h) rfl (ty := .boolean) (tyX3_ok 34 (by decide)) (uFit_n (ty := .boolean) (v := 0) rfl).1 (uFit_n (ty := .boolean) (v := 0) rfl).2 dX3_book_170 (fun H locs hP hS => ?_)
    refine u_aload_n (r := some a0) hx hb dX3_book_173 rfl (lv_at hl 0 rfl) ?_
    refine lv_iconst (v := 0) hx hb dX3_book_174 (by decide) ?_
    obtain ⟨u6, hu6, h⟩ := mbind_n h
    have zu6 := uPut_sz hu6
    refine u_put hC hP hS hu6 rfl in_X3 tyX3 tyX3_ok nmX3 (by decide) q1933 (fun _ h => h) rfl (ty := .int) (tyX3_ok 40 (by decide)) rfl rfl dX3_book_175 (fun H locs hP hS => ?_)
    refine u_aload_n (r := some a0) hx hb dX3_book_178 rfl (lv_at hl 0 rfl) ?_
    refine lv_iconst (v := 0) hx hb dX3_book_179 (by decide) ?_
    obtain ⟨u7, hu7, h⟩ := mbind_n h
    have zu7 := uPut_sz hu7
    refine u_put hC hP hS hu7 rfl in_X3 tyX3 tyX3_ok nmX3 (by decide) q1930 (fun _ h => h) rfl (ty := .int) (tyX3_ok 37 (by decide)) rfl rfl dX3_book_180 (fun H locs hP hS => ?_)
    refine u_aload_n (r := some a0) hx hb dX3_book_183 rfl (lv_at hl 0 rfl) ?_
    refine lv_iconst (v := 0) hx hb dX3_book_184 (by decide) ?_
    obtain ⟨u8, hu8, h⟩ := mbind_n h
    have zu8 := uPut_sz hu8
    refine u_put hC hP hS hu8 rfl in_X3 tyX3 tyX3_ok nmX3 (by decide) q1931 (fun _ h => h) rfl (ty := .int) (tyX3_ok 38 (by decide)) rfl rfl dX3_book_185 (fun H locs hP hS => ?_)
    refine u_aload_n (r := some a0) hx hb dX3_book_188 rfl (lv_at hl 0 rfl) ?_
    refine lv_iconst (v := 0) hx hb dX3_book_189 (by decide) ?_
    obtain ⟨u9, hu9, h⟩ := mbind_n h
    have zu9 := uPut_sz hu9
    refine u_put hC hP hS hu9 rfl in_X3 tyX3 tyX3_ok nmX3 (by decide) q1944 (fun _ h => h) rfl (ty := .boolean) (tyX3_ok 51 (by decide)) (uFit_n (ty := .boolean) (v := 0) rfl).1 (uFit_n (ty := .boolean) (v := 0) rfl).2 dX3_book_190 (fun H locs hP hS => ?_)
    refine lv_iconst (v := 0) hx hb dX3_book_193 (by decide) ?_
    refine lv_istore_n (i := 2) (lv' := [(2, .int 0), (0, va_rf (some a0))]) hx hb dX3_book_194 rfl hl (by decide) rfl (fun ls hl => ?_)
    exact w_X3_book_195 hC hR N N u9 0 h _ _ hP hS _ (lv_sub hl [1, 0] rfl)
  · have h := mif_f c2 h
    refine u_aload_n (r := some a0) hx hb dX3_book_147 rfl (lv_at hl 0 rfl) ?_
    refine lv_iconst (v := 1) hx hb dX3_book_148 (by decide) ?_
    obtain ⟨c10, h⟩ := mif_n h
    obtain ⟨u11, c12, h⟩ := mbind_n h
    have zu11 := zz_X3_store N (ub G) (ug G) u a0 1 u11 c12
    refine u_callv (va_runV (As := [.int 1]) (rest := []) hC.1 (met_X3_store l N G u a0 1 u11 c12) (cwV 1 hts (lw_V q2142 q2144 qs42 q103 q2145) rfl rfl rfl (by decide +kernel) ⟨Nat.le_trans (Nat.le_of_ble_eq_true rfl) hR.1, Nat.le_trans (Nat.le_of_ble_eq_true rfl) hR.2⟩) ⟨uPc_blind, u_rcv hC hP c10 rfl, fun U hU hW => u_pre hC hP hS hU hW⟩ rfl rfl hl.1 rfl (lv_room (Nat.le_of_ble_eq_true rfl)) dX3_book_149 ⟨Nat.zero_le _, Nat.zero_le _⟩) hS (fun H locs hP hS => ?_)
    refine u_aload_n (r := some a0) hx hb dX3_book_152 rfl (lv_at hl 0 rfl) ?_
    refine lv_iconst (v := 4) hx hb dX3_book_153 (by decide) ?_
    obtain ⟨c13, h⟩ := mif_n h
    obtain ⟨r16, u14, c15, h⟩ := ucall_n h
    have zu14 := zz_X3_no N (ub G) (ug G) u11 a0 4 r16 u14 c15
    refine u_calli (va_runV (As := [.int 4]) (rest := []) hC.1 (met_X3_no l N G u11 a0 4 r16 u14 c15) (cwV 1 hts (lw_V q2138 q2140 qs41 q103 q2141) rfl rfl rfl (by decide +kernel) ⟨Nat.le_trans (Nat.le_of_ble_eq_true rfl) hR.1, Nat.le_trans (Nat.le_of_ble_eq_true rfl) hR.2⟩) ⟨uPc_blind, u_rcv hC hP c13 rfl, fun U hU hW => u_pre hC hP hS hU hW⟩ rfl rfl hl.1 rfl (lv_room (Nat.le_of_ble_eq_true rfl)) dX3_book_154 ⟨Nat.zero_le _, Nat.zero_le _⟩) hS (fun H locs hP hS => ?_)
    obtain ⟨hr1, hr2⟩ := uret_n h
    subst hr1
    subst hr2
    exact u_iret hC hP hS dX3_book_157
def f_X3_book_116 (N b : Nat) (g : uEnv) (a0 : Nat) (u : UH) : Option (Int32 × UH) :=
    (uGI u a0 2 13).bind fun y1 =>
    if y1 = 0 then
    (uGI u a0 2 6).bind fun y3 =>
    if y3 = 0 then
    f_X3_book_140 N b g a0 u
    else
    (uGI u a0 2 4).bind fun y5 =>
    if uIs u a0 2 = true then
    ucall (f_X3_wrong N b g u a0 1 y5) fun r9 u7 =>
    f_X3_book_140 N b g a0 u7
    else none
    else
    f_X3_book_140 N b g a0 u
set_option maxHeartbeats 4000000 in
set_option maxRecDepth 100000 in
theorem zz_X3_book_116 {G : uG} {a0 : Nat} {uf : UH} {r : Int32} (N : Nat) (u : UH) (h : f_X3_book_116 N (ub G) (ug G) a0 u = some (r, uf)) : uf.1 = u.1 ∧ uf.2.1 = u.2.1 := by
  unfold f_X3_book_116 at h
  obtain ⟨y1, hy1, h⟩ := mbind_n h
  by_cases c2 : y1 = 0
  · have h := mif_t c2 h
    obtain ⟨y3, hy3, h⟩ := mbind_n h
    by_cases c4 : y3 = 0
    · have h := mif_t c4 h
      have hq := zz_X3_book_140 (G := G) (a0 := a0) N u h
      exact ⟨by omega, by omega⟩
    · have h := mif_f c4 h
      obtain ⟨y5, hy5, h⟩ := mbind_n h
      obtain ⟨c6, h⟩ := mif_n h
      obtain ⟨r9, u7, c8, h⟩ := ucall_n h
      have zu7 := zz_X3_wrong N (ub G) (ug G) u a0 1 y5 r9 u7 c8
      have hq := zz_X3_book_140 (G := G) (a0 := a0) N u7 h
      exact ⟨by omega, by omega⟩
  · have h := mif_f c2 h
    have hq := zz_X3_book_140 (G := G) (a0 := a0) N u h
    exact ⟨by omega, by omega⟩
set_option maxHeartbeats 4000000 in
set_option maxRecDepth 100000 in
theorem w_X3_book_116 {p : Program} {l : Launch} {e : Env} {R : Room} {s : State} {m : MethodId} {args : Array Value} {below : List Frame} {meth : Method} {c : Code} {G : uG} {a0 : Nat} {uf : UH} {r : Int32} (hC : uC p s m args meth c G RX3 cX3_book 3 (some .int)) (hR : 8 ≤ R.frames ∧ 170 ≤ R.locals) (N : Nat) (u : UH) (h : f_X3_book_116 N (ub G) (ug G) a0 u = some (r, uf)) {H : Heap} {locs : List Loc} (hP : uP G u H) (hS : va_S (uA G) s.heap H locs) {ls : Array Slot} (hl : lv_has ls 3 [(0, va_rf (some a0))]) : W p l e R s m args below meth c H locs 0 0 (MQ below (uQi G r uf) args s 0 0 (uA G)) (F0 m 116 ls []) := by
  obtain ⟨⟨hx, hb, hml, hown, hts⟩, hKK⟩ := id hC
  unfold f_X3_book_116 at h
  refine u_aload_n (r := some a0) hx hb dX3_book_116 rfl (lv_at hl 0 rfl) ?_
  obtain ⟨y1, hy1, h⟩ := mbind_n h
  refine u_get hC hP (uGI_n hy1) rfl in_X3 (by decide) q1906 (fun _ h => h) dX3_book_117 ?_
  refine lv_if_ne (tgt := 140) hx hb dX3_book_120 (by decide) (fun c2 => ?_) (fun c2 => ?_)
  · have h := mif_f c2 h
    exact w_X3_book_140 hC hR N u h hP hS (lv_sub hl [0] rfl)
  · have h := mif_t c2 h
    refine u_aload_n (r := some a0) hx hb dX3_book_123 rfl (lv_at hl 0 rfl) ?_
    obtain ⟨y3, hy3, h⟩ := mbind_n h
    refine u_get hC hP (uGI_n hy3) rfl in_X3 (by decide) q1899 (fun _ h => h) dX3_book_124 ?_
    refine lv_if_eq (tgt := 140) hx hb dX3_book_127 (by decide) (fun c4 => ?_) (fun c4 => ?_)
    · have h := mif_t c4 h
      exact w_X3_book_140 hC hR N u h hP hS (lv_sub hl [0] rfl)
    · have h := mif_f c4 h
      refine u_aload_n (r := some a0) hx hb dX3_book_130 rfl (lv_at hl 0 rfl) ?_
      refine lv_iconst (v := 1) hx hb dX3_book_131 (by decide) ?_
      refine u_aload_n (r := some a0) hx hb dX3_book_132 rfl (lv_at hl 0 rfl) ?_
      obtain ⟨y5, hy5, h⟩ := mbind_n h
      refine u_get hC hP (uGI_n hy5) rfl in_X3 (by decide) q1897 (fun _ h => h) dX3_book_133 ?_
      obtain ⟨c6, h⟩ := mif_n h
      obtain ⟨r9, u7, c8, h⟩ := ucall_n h
      have zu7 := zz_X3_wrong N (ub G) (ug G) u a0 1 y5 r9 u7 c8
      refine u_calli (va_runV (As := [.int 1, .int y5]) (rest := []) hC.1 (met_X3_wrong l N G u a0 1 y5 r9 u7 c8) (cwV 2 hts (lw_V q2196 q2198 qs51 q103 q2199) rfl rfl rfl (by decide +kernel) ⟨Nat.le_trans (Nat.le_of_ble_eq_true rfl) hR.1, Nat.le_trans (Nat.le_of_ble_eq_true rfl) hR.2⟩) ⟨uPc_blind, u_rcv hC hP c6 rfl, fun U hU hW => u_pre hC hP hS hU hW⟩ rfl rfl hl.1 rfl (lv_room (Nat.le_of_ble_eq_true rfl)) dX3_book_136 ⟨Nat.zero_le _, Nat.zero_le _⟩) hS (fun H locs hP hS => ?_)
      refine lv_pop hx hb dX3_book_139 rfl ?_
      exact w_X3_book_140 hC hR N u7 h hP hS (lv_sub hl [0] rfl)
def f_X3_book_89 (N b : Nat) (g : uEnv) (a0 : Nat) : Nat → UH → Option (Int32 × UH)
  | 0, _ => none
  | n + 1, u =>
    (uGI u a0 2 13).bind fun y1 =>
    if y1 = 0 then
    (uGI u a0 2 6).bind fun y3 =>
    if y3 = 59 then
    if uIs u a0 2 = true then
    (f_X3_next N b g u a0).bind fun u6 =>
    if uIs u6 a0 2 = true then
    (f_X3_line N b g u6 a0).bind fun u9 =>
    f_X3_book_89 N b g a0 n u9
    else none
    else none
    else
    f_X3_book_116 N b g a0 u
    else
    f_X3_book_116 N b g a0 u
set_option maxHeartbeats 4000000 in
set_option maxRecDepth 100000 in
theorem zz_X3_book_89 {G : uG} {a0 : Nat} {uf : UH} {r : Int32} (N : Nat) : ∀ (n : Nat) (u : UH), f_X3_book_89 N (ub G) (ug G) a0 n u = some (r, uf) → uf.1 = u.1 ∧ uf.2.1 = u.2.1 := by
  intro n
  induction n with
  | zero =>
    intro u h
    cases h
  | succ n ih =>
    intro u h
    unfold f_X3_book_89 at h
    obtain ⟨y1, hy1, h⟩ := mbind_n h
    by_cases c2 : y1 = 0
    · have h := mif_t c2 h
      obtain ⟨y3, hy3, h⟩ := mbind_n h
      by_cases c4 : y3 = 59
      · have h := mif_t c4 h
        obtain ⟨c5, h⟩ := mif_n h
        obtain ⟨u6, c7, h⟩ := mbind_n h
        have zu6 := zz_X3_next N (ub G) (ug G) u a0 u6 c7
        obtain ⟨c8, h⟩ := mif_n h
        obtain ⟨u9, c10, h⟩ := mbind_n h
        have zu9 := zz_X3_line N (ub G) (ug G) u6 a0 u9 c10
        have hq := ih u9 h
        exact ⟨by omega, by omega⟩
      · have h := mif_f c4 h
        have hq := zz_X3_book_116 (G := G) (a0 := a0) N u h
        exact ⟨by omega, by omega⟩
    · have h := mif_f c2 h
      have hq := zz_X3_book_116 (G := G) (a0 := a0) N u h
      exact ⟨by omega, by omega⟩
set_option maxHeartbeats 4000000 in
set_option maxRecDepth 100000 in
theorem w_X3_book_89 {p : Program} {l : Launch} {e : Env} {R : Room} {s : State} {m : MethodId} {args : Array Value} {below : List Frame} {meth : Method} {c : Code} {G : uG} {a0 : Nat} {uf : UH} {r : Int32} (hC : uC p s m args meth c G RX3 cX3_book 3 (some .int)) (hR : 8 ≤ R.frames ∧ 170 ≤ R.locals) (N : Nat) : ∀ (n : Nat) (u : UH), f_X3_book_89 N (ub G) (ug G) a0 n u = some (r, uf) → ∀ (H : Heap) (locs : List Loc), uP G u H → va_S (uA G) s.heap H locs → ∀ ls : Array Slot, lv_has ls 3 [(0, va_rf (some a0))] → W p l e R s m args below meth c H locs 0 0 (MQ below (uQi G r uf) args s 0 0 (uA G)) (F0 m 89 ls []) := by
  obtain ⟨⟨hx, hb, hml, hown, hts⟩, hKK⟩ := id hC
  intro n
  induction n with
  | zero =>
    intro u h
    cases h
  | succ n ih =>
    intro u h H locs hP hS ls hl
    unfold f_X3_book_89 at h
    refine u_aload_n (r := some a0) hx hb dX3_book_89 rfl (lv_at hl 0 rfl) ?_
    obtain ⟨y1, hy1, h⟩ := mbind_n h
    refine u_get hC hP (uGI_n hy1) rfl in_X3 (by decide) q1906 (fun _ h => h) dX3_book_90 ?_
    refine lv_if_ne (tgt := 116) hx hb dX3_book_93 (by decide) (fun c2 => ?_) (fun c2 => ?_)
    · have h := mif_f c2 h
      exact w_X3_book_116 hC hR N u h hP hS (lv_sub hl [0] rfl)
    · have h := mif_t c2 h
      refine u_aload_n (r := some a0) hx hb dX3_book_96 rfl (lv_at hl 0 rfl) ?_
      obtain ⟨y3, hy3, h⟩ := mbind_n h
      refine u_get hC hP (uGI_n hy3) rfl in_X3 (by decide) q1899 (fun _ h => h) dX3_book_97 ?_
      refine lv_bipush (v := 59) hx hb dX3_book_100 (by decide) ?_
      refine lv_icmp_ne (tgt := 116) hx hb dX3_book_102 (by decide) (fun c4 => ?_) (fun c4 => ?_)
      · have h := mif_f c4 h
        exact w_X3_book_116 hC hR N u h hP hS (lv_sub hl [0] rfl)
      · have h := mif_t c4 h
        refine u_aload_n (r := some a0) hx hb dX3_book_105 rfl (lv_at hl 0 rfl) ?_
        obtain ⟨c5, h⟩ := mif_n h
        obtain ⟨u6, c7, h⟩ := mbind_n h
        have zu6 := zz_X3_next N (ub G) (ug G) u a0 u6 c7
        refine u_callv (va_runV (As := []) (rest := []) hC.1 (met_X3_next l N G u a0 u6 c7) (cwV 0 hts (lw_V q2154 q2156 qs45 q103 q2157) rfl rfl rfl (by decide +kernel) ⟨Nat.le_trans (Nat.le_of_ble_eq_true rfl) hR.1, Nat.le_trans (Nat.le_of_ble_eq_true rfl) hR.2⟩) ⟨uPc_blind, u_rcv hC hP c5 rfl, fun U hU hW => u_pre hC hP hS hU hW⟩ rfl rfl hl.1 rfl (lv_room (Nat.le_of_ble_eq_true rfl)) dX3_book_106 ⟨Nat.zero_le _, Nat.zero_le _⟩) hS (fun H locs hP hS => ?_)
        refine u_aload_n (r := some a0) hx hb dX3_book_109 rfl (lv_at hl 0 rfl) ?_
        obtain ⟨c8, h⟩ := mif_n h
        obtain ⟨u9, c10, h⟩ := mbind_n h
        have zu9 := zz_X3_line N (ub G) (ug G) u6 a0 u9 c10
        refine u_callv (va_runV (As := []) (rest := []) hC.1 (met_X3_line l N G u6 a0 u9 c10) (cwV 0 hts (lw_V q2168 q2170 qs47 q103 q2171) rfl rfl rfl (by decide +kernel) ⟨Nat.le_trans (Nat.le_of_ble_eq_true rfl) hR.1, Nat.le_trans (Nat.le_of_ble_eq_true rfl) hR.2⟩) ⟨uPc_blind, u_rcv hC hP c8 rfl, fun U hU hW => u_pre hC hP hS hU hW⟩ rfl rfl hl.1 rfl (lv_room (Nat.le_of_ble_eq_true rfl)) dX3_book_110 ⟨Nat.zero_le _, Nat.zero_le _⟩) hS (fun H locs hP hS => ?_)
        refine lv_goto (tgt := 89) hx hb dX3_book_113 (by decide) ?_
        exact ih u9 h _ _ hP hS _ (lv_sub hl [0] rfl)
def f_X3_book (N b : Nat) (g : uEnv) (u : UH) (a0 : Nat) (x1 : Int32) : Option (Int32 × UH) :=
    if uIs u a0 2 = true then
    (f_X3_good N b g u a0).bind fun u2 =>
    (uGI u2 a0 2 2).bind fun y4 =>
    ucall (f_X3_within N b g u2 x1 0 y4) fun r7 u5 =>
    if r7 = 0 then
    if uIs u5 a0 2 = true then
    ucall (f_X3_no N b g u5 a0 2) fun r31 u29 =>
    some (r31, u29)
    else none
    else
    (uPut b u5 a0 2 2 (.int 0)).bind fun u9 =>
    (uPut b u9 a0 2 9 (.int 0)).bind fun u10 =>
    if uIs u10 a0 2 = true then
    (f_X3_store N b g u10 a0 0).bind fun u12 =>
    (uPut b u12 a0 2 22 (.int 0)).bind fun u14 =>
    (uPut b u14 a0 2 23 (.int 0)).bind fun u15 =>
    (uPut b u15 a0 2 24 (.int 4)).bind fun u16 =>
    (uPut b u16 a0 2 25 (.int 100)).bind fun u17 =>
    (uPut b u17 a0 2 26 (.int 100)).bind fun u18 =>
    (uPut b u18 a0 2 27 (.int 100)).bind fun u19 =>
    (uPut b u19 a0 2 28 (.int 0)).bind fun u20 =>
    (uPut b u20 a0 2 29 (.int 0)).bind fun u21 =>
    if uIs u21 a0 2 = true then
    (f_X3_begins N b g u21 a0 x1).bind fun u23 =>
    if uIs u23 a0 2 = true then
    (f_X3_line N b g u23 a0).bind fun u26 =>
    f_X3_book_89 N b g a0 N u26
    else none
    else none
    else none
    else none
set_option maxHeartbeats 4000000 in
set_option maxRecDepth 100000 in
theorem zz_X3_book_0 {G : uG} {a0 : Nat} {uf : UH} {r : Int32} (N : Nat) (u : UH) (x1 : Int32) (h : f_X3_book N (ub G) (ug G) u a0 x1 = some (r, uf)) : uf.1 = u.1 ∧ uf.2.1 = u.2.1 := by
  unfold f_X3_book at h
  obtain ⟨c1, h⟩ := mif_n h
  obtain ⟨u2, c3, h⟩ := mbind_n h
  have zu2 := zz_X3_good N (ub G) (ug G) u a0 u2 c3
  obtain ⟨y4, hy4, h⟩ := mbind_n h
  obtain ⟨r7, u5, c6, h⟩ := ucall_n h
  have zu5 := zz_X3_within N (ub G) (ug G) u2 x1 0 y4 r7 u5 c6
  by_cases c8 : r7 = 0
  · have h := mif_t c8 h
    obtain ⟨c28, h⟩ := mif_n h
    obtain ⟨r31, u29, c30, h⟩ := ucall_n h
    have zu29 := zz_X3_no N (ub G) (ug G) u5 a0 2 r31 u29 c30
    obtain ⟨hr1, hr2⟩ := uret_n h
    subst hr2
    exact ⟨by omega, by omega⟩
  · have h := mif_f c8 h
    obtain ⟨u9, hu9, h⟩ := mbind_n h
    have zu9 := uPut_sz hu9
    obtain ⟨u10, hu10, h⟩ := mbind_n h
    have zu10 := uPut_sz hu10
    obtain ⟨c11, h⟩ := mif_n h
    obtain ⟨u12, c13, h⟩ := mbind_n h
    have zu12 := zz_X3_store N (ub G) (ug G) u10 a0 0 u12 c13
    obtain ⟨u14, hu14, h⟩ := mbind_n h
    have zu14 := uPut_sz hu14
    obtain ⟨u15, hu15, h⟩ := mbind_n h
    have zu15 := uPut_sz hu15
    obtain ⟨u16, hu16, h⟩ := mbind_n h
    have zu16 := uPut_sz hu16
    obtain ⟨u17, hu17, h⟩ := mbind_n h
    have zu17 := uPut_sz hu17
    obtain ⟨u18, hu18, h⟩ := mbind_n h
    have zu18 := uPut_sz hu18
    obtain ⟨u19, hu19, h⟩ := mbind_n h
    have zu19 := uPut_sz hu19
    obtain ⟨u20, hu20, h⟩ := mbind_n h
    have zu20 := uPut_sz hu20
    obtain ⟨u21, hu21, h⟩ := mbind_n h
    have zu21 := uPut_sz hu21
    obtain ⟨c22, h⟩ := mif_n h
    obtain ⟨u23, c24, h⟩ := mbind_n h
    have zu23 := zz_X3_begins N (ub G) (ug G) u21 a0 x1 u23 c24
    obtain ⟨c25, h⟩ := mif_n h
    obtain ⟨u26, c27, h⟩ := mbind_n h
    have zu26 := zz_X3_line N (ub G) (ug G) u23 a0 u26 c27
    have hq := zz_X3_book_89 (G := G) (a0 := a0) N N u26 h
    exact ⟨by omega, by omega⟩
set_option maxHeartbeats 4000000 in
set_option maxRecDepth 100000 in
theorem w_X3_book_0 {p : Program} {l : Launch} {e : Env} {R : Room} {s : State} {m : MethodId} {args : Array Value} {below : List Frame} {meth : Method} {c : Code} {G : uG} {a0 : Nat} {uf : UH} {r : Int32} (hC : uC p s m args meth c G RX3 cX3_book 3 (some .int)) (hR : 8 ≤ R.frames ∧ 170 ≤ R.locals) (N : Nat) (u : UH) (x1 : Int32) (h : f_X3_book N (ub G) (ug G) u a0 x1 = some (r, uf)) {H : Heap} {locs : List Loc} (hP : uP G u H) (hS : va_S (uA G) s.heap H locs) {ls : Array Slot} (hl : lv_has ls 3 [(0, va_rf (some a0)), (1, .int x1)]) : W p l e R s m args below meth c H locs 0 0 (MQ below (uQi G r uf) args s 0 0 (uA G)) (F0 m 0 ls []) := by
  obtain ⟨⟨hx, hb, hml, hown, hts⟩, hKK⟩ := id hC
  unfold f_X3_book at h
  refine u_aload_n (r := some a0) hx hb dX3_book_0 rfl (lv_at hl 0 rfl) ?_
  obtain ⟨c1, h⟩ := mif_n h
  obtain ⟨u2, c3, h⟩ := mbind_n h
  have zu2 := zz_X3_good N (ub G) (ug G) u a0 u2 c3
  refine u_callv (va_runV (As := []) (rest := []) hC.1 (met_X3_good l N G u a0 u2 c3) (cwV 0 hts (lw_V q2131 q2133 qs40 q103 q2134) rfl rfl rfl (by decide +kernel) ⟨Nat.le_trans (Nat.le_of_ble_eq_true rfl) hR.1, Nat.le_trans (Nat.le_of_ble_eq_true rfl) hR.2⟩) ⟨uPc_blind, u_rcv hC hP c1 rfl, fun U hU hW => u_pre hC hP hS hU hW⟩ rfl rfl hl.1 rfl (lv_room (Nat.le_of_ble_eq_true rfl)) dX3_book_1 ⟨Nat.zero_le _, Nat.zero_le _⟩) hS (fun H locs hP hS => ?_)
  refine lv_iload_n hx hb dX3_book_4 rfl (lv_at hl 1 rfl) ?_
  refine lv_iconst (v := 0) hx hb dX3_book_5 (by decide) ?_
  refine u_aload_n (r := some a0) hx hb dX3_book_6 rfl (lv_at hl 0 rfl) ?_
  obtain ⟨y4, hy4, h⟩ := mbind_n h
  refine u_get hC hP (uGI_n hy4) rfl in_X3 (by decide) q1895 (fun _ h => h) dX3_book_7 ?_
  obtain ⟨r7, u5, c6, h⟩ := ucall_n h
  have zu5 := zz_X3_within N (ub G) (ug G) u2 x1 0 y4 r7 u5 c6
  refine u_calli (va_runS (As := [.int x1, .int 0, .int y4]) (rest := []) hC.1 (met_X3_within l N G u2 x1 0 y4 r7 u5 c6) (va_cwS 3 hts (lw_S q2135 q2136 q103 q2137) rfl rfl rfl (by decide +kernel) ⟨Nat.le_trans (Nat.le_of_ble_eq_true rfl) hR.1, Nat.le_trans (Nat.le_of_ble_eq_true rfl) hR.2⟩) ⟨uPc_blind, fun U hU hW => u_pre hC hP hS hU hW⟩ rfl rfl hl.1 rfl (lv_room (Nat.le_of_ble_eq_true rfl)) dX3_book_10 ⟨Nat.zero_le _, Nat.zero_le _⟩) hS (fun H locs hP hS => ?_)
  refine lv_if_ne (tgt := 22) hx hb dX3_book_13 (by decide) (fun c8 => ?_) (fun c8 => ?_)
  · have h := mif_f c8 h
    refine u_aload_n (r := some a0) hx hb dX3_book_22 rfl (lv_at hl 0 rfl) ?_
    refine lv_iconst (v := 0) hx hb dX3_book_23 (by decide) ?_
    obtain ⟨u9, hu9, h⟩ := mbind_n h
    have zu9 := uPut_sz hu9
    refine u_put hC hP hS hu9 rfl in_X3 tyX3 tyX3_ok nmX3 (by decide) q1895 (fun _ h => h) rfl (ty := .int) (tyX3_ok 2 (by decide)) rfl rfl dX3_book_24 (fun H locs hP hS => ?_)
    refine u_aload_n (r := some a0) hx hb dX3_book_27 rfl (lv_at hl 0 rfl) ?_
    refine lv_iconst (v := 0) hx hb dX3_book_28 (by decide) ?_
    obtain ⟨u10, hu10, h⟩ := mbind_n h
    have zu10 := uPut_sz hu10
    refine u_put hC hP hS hu10 rfl in_X3 tyX3 tyX3_ok nmX3 (by decide) q1902 (fun _ h => h) rfl (ty := .int) (tyX3_ok 9 (by decide)) rfl rfl dX3_book_29 (fun H locs hP hS => ?_)
    refine u_aload_n (r := some a0) hx hb dX3_book_32 rfl (lv_at hl 0 rfl) ?_
    refine lv_iconst (v := 0) hx hb dX3_book_33 (by decide) ?_
    obtain ⟨c11, h⟩ := mif_n h
    obtain ⟨u12, c13, h⟩ := mbind_n h
    have zu12 := zz_X3_store N (ub G) (ug G) u10 a0 0 u12 c13
    refine u_callv (va_runV (As := [.int 0]) (rest := []) hC.1 (met_X3_store l N G u10 a0 0 u12 c13) (cwV 1 hts (lw_V q2142 q2144 qs42 q103 q2145) rfl rfl rfl (by decide +kernel) ⟨Nat.le_trans (Nat.le_of_ble_eq_true rfl) hR.1, Nat.le_trans (Nat.le_of_ble_eq_true rfl) hR.2⟩) ⟨uPc_blind, u_rcv hC hP c11 rfl, fun U hU hW => u_pre hC hP hS hU hW⟩ rfl rfl hl.1 rfl (lv_room (Nat.le_of_ble_eq_true rfl)) dX3_book_34 ⟨Nat.zero_le _, Nat.zero_le _⟩) hS (fun H locs hP hS => ?_)
    refine u_aload_n (r := some a0) hx hb dX3_book_37 rfl (lv_at hl 0 rfl) ?_
    refine lv_iconst (v := 0) hx hb dX3_book_38 (by decide) ?_
    obtain ⟨u14, hu14, h⟩ := mbind_n h
    have zu14 := uPut_sz hu14
    refine u_put hC hP hS hu14 rfl in_X3 tyX3 tyX3_ok nmX3 (by decide) q1915 (fun _ h => h) rfl (ty := .int) (tyX3_ok 22 (by decide)) rfl rfl dX3_book_39 (fun H locs hP hS => ?_)
    refine u_aload_n (r := some a0) hx hb dX3_book_42 rfl (lv_at hl 0 rfl) ?_
    refine lv_iconst (v := 0) hx hb dX3_book_43 (by decide) ?_
    obtain ⟨u15, hu15, h⟩ := mbind_n h
    have zu15 := uPut_sz hu15
    refine u_put hC hP hS hu15 rfl in_X3 tyX3 tyX3_ok nmX3 (by decide) q1916 (fun _ h => h) rfl (ty := .int) (tyX3_ok 23 (by decide)) rfl rfl dX3_book_44 (fun H locs hP hS => ?_)
    refine u_aload_n (r := some a0) hx hb dX3_book_47 rfl (lv_at hl 0 rfl) ?_
    refine lv_iconst (v := 4) hx hb dX3_book_48 (by decide) ?_
    obtain ⟨u16, hu16, h⟩ := mbind_n h
    have zu16 := uPut_sz hu16
    refine u_put hC hP hS hu16 rfl in_X3 tyX3 tyX3_ok nmX3 (by decide) q1917 (fun _ h => h) rfl (ty := .int) (tyX3_ok 24 (by decide)) rfl rfl dX3_book_49 (fun H locs hP hS => ?_)
    refine u_aload_n (r := some a0) hx hb dX3_book_52 rfl (lv_at hl 0 rfl) ?_
    refine lv_bipush (v := 100) hx hb dX3_book_53 (by decide) ?_
    obtain ⟨u17, hu17, h⟩ := mbind_n h
    have zu17 := uPut_sz hu17
    refine u_put hC hP hS hu17 rfl in_X3 tyX3 tyX3_ok nmX3 (by decide) q1918 (fun _ h => h) rfl (ty := .int) (tyX3_ok 25 (by decide)) rfl rfl dX3_book_55 (fun H locs hP hS => ?_)
    refine u_aload_n (r := some a0) hx hb dX3_book_58 rfl (lv_at hl 0 rfl) ?_
    refine lv_bipush (v := 100) hx hb dX3_book_59 (by decide) ?_
    obtain ⟨u18, hu18, h⟩ := mbind_n h
    have zu18 := uPut_sz hu18
    refine u_put hC hP hS hu18 rfl in_X3 tyX3 tyX3_ok nmX3 (by decide) q1919 (fun _ h => h) rfl (ty := .int) (tyX3_ok 26 (by decide)) rfl rfl dX3_book_61 (fun H locs hP hS => ?_)
    refine u_aload_n (r := some a0) hx hb dX3_book_64 rfl (lv_at hl 0 rfl) ?_
    refine lv_bipush (v := 100) hx hb dX3_book_65 (by decide) ?_
    obtain ⟨u19, hu19, h⟩ := mbind_n h
    have zu19 := uPut_sz hu19
    refine u_put hC hP hS hu19 rfl in_X3 tyX3 tyX3_ok nmX3 (by decide) q1920 (fun _ h => h) rfl (ty := .int) (tyX3_ok 27 (by decide)) rfl rfl dX3_book_67 (fun H locs hP hS => ?_)
    refine u_aload_n (r := some a0) hx hb dX3_book_70 rfl (lv_at hl 0 rfl) ?_
    refine lv_iconst (v := 0) hx hb dX3_book_71 (by decide) ?_
    obtain ⟨u20, hu20, h⟩ := mbind_n h
    have zu20 := uPut_sz hu20
    refine u_put hC hP hS hu20 rfl in_X3 tyX3 tyX3_ok nmX3 (by decide) q1921 (fun _ h => h) rfl (ty := .int) (tyX3_ok 28 (by decide)) rfl rfl dX3_book_72 (fun H locs hP hS => ?_)
    refine u_aload_n (r := some a0) hx hb dX3_book_75 rfl (lv_at hl 0 rfl) ?_
    refine lv_iconst (v := 0) hx hb dX3_book_76 (by decide) ?_
    obtain ⟨u21, hu21, h⟩ := mbind_n h
    have zu21 := uPut_sz hu21
    refine u_put hC hP hS hu21 rfl in_X3 tyX3 tyX3_ok nmX3 (by decide) q1922 (fun _ h => h) rfl (ty := .boolean) (tyX3_ok 29 (by decide)) (uFit_n (ty := .boolean) (v := 0) rfl).1 (uFit_n (ty := .boolean) (v := 0) rfl).2 dX3_book_77 (fun H locs hP hS => ?_)
    refine u_aload_n (r := some a0) hx hb dX3_book_80 rfl (lv_at hl 0 rfl) ?_
    refine lv_iload_n hx hb dX3_book_81 rfl (lv_at hl 1 rfl) ?_
    obtain ⟨c22, h⟩ := mif_n h
    obtain ⟨u23, c24, h⟩ := mbind_n h
    have zu23 := zz_X3_begins N (ub G) (ug G) u21 a0 x1 u23 c24
    refine u_callv (va_runV (As := [.int x1]) (rest := []) hC.1 (met_X3_begins l N G u21 a0 x1 u23 c24) (cwV 1 hts (lw_V q2150 q2152 qs44 q103 q2153) rfl rfl rfl (by decide +kernel) ⟨Nat.le_trans (Nat.le_of_ble_eq_true rfl) hR.1, Nat.le_trans (Nat.le_of_ble_eq_true rfl) hR.2⟩) ⟨uPc_blind, u_rcv hC hP c22 rfl, fun U hU hW => u_pre hC hP hS hU hW⟩ rfl rfl hl.1 rfl (lv_room (Nat.le_of_ble_eq_true rfl)) dX3_book_82 ⟨Nat.zero_le _, Nat.zero_le _⟩) hS (fun H locs hP hS => ?_)
    refine u_aload_n (r := some a0) hx hb dX3_book_85 rfl (lv_at hl 0 rfl) ?_
    obtain ⟨c25, h⟩ := mif_n h
    obtain ⟨u26, c27, h⟩ := mbind_n h
    have zu26 := zz_X3_line N (ub G) (ug G) u23 a0 u26 c27
    refine u_callv (va_runV (As := []) (rest := []) hC.1 (met_X3_line l N G u23 a0 u26 c27) (cwV 0 hts (lw_V q2168 q2170 qs47 q103 q2171) rfl rfl rfl (by decide +kernel) ⟨Nat.le_trans (Nat.le_of_ble_eq_true rfl) hR.1, Nat.le_trans (Nat.le_of_ble_eq_true rfl) hR.2⟩) ⟨uPc_blind, u_rcv hC hP c25 rfl, fun U hU hW => u_pre hC hP hS hU hW⟩ rfl rfl hl.1 rfl (lv_room (Nat.le_of_ble_eq_true rfl)) dX3_book_86 ⟨Nat.zero_le _, Nat.zero_le _⟩) hS (fun H locs hP hS => ?_)
    exact w_X3_book_89 hC hR N N u26 h _ _ hP hS _ (lv_sub hl [0] rfl)
  · have h := mif_t c8 h
    refine u_aload_n (r := some a0) hx hb dX3_book_16 rfl (lv_at hl 0 rfl) ?_
    refine lv_iconst (v := 2) hx hb dX3_book_17 (by decide) ?_
    obtain ⟨c28, h⟩ := mif_n h
    obtain ⟨r31, u29, c30, h⟩ := ucall_n h
    have zu29 := zz_X3_no N (ub G) (ug G) u5 a0 2 r31 u29 c30
    refine u_calli (va_runV (As := [.int 2]) (rest := []) hC.1 (met_X3_no l N G u5 a0 2 r31 u29 c30) (cwV 1 hts (lw_V q2138 q2140 qs41 q103 q2141) rfl rfl rfl (by decide +kernel) ⟨Nat.le_trans (Nat.le_of_ble_eq_true rfl) hR.1, Nat.le_trans (Nat.le_of_ble_eq_true rfl) hR.2⟩) ⟨uPc_blind, u_rcv hC hP c28 rfl, fun U hU hW => u_pre hC hP hS hU hW⟩ rfl rfl hl.1 rfl (lv_room (Nat.le_of_ble_eq_true rfl)) dX3_book_18 ⟨Nat.zero_le _, Nat.zero_le _⟩) hS (fun H locs hP hS => ?_)
    obtain ⟨hr1, hr2⟩ := uret_n h
    subst hr1
    subst hr2
    exact u_iret hC hP hS dX3_book_21
theorem zz_X3_book (N b : Nat) (g : uEnv) (u : UH) (a0 : Nat) (x1 : Int32) (r : Int32) (uf : UH) (h : f_X3_book N b g u a0 x1 = some (r, uf)) : uf.1 = u.1 ∧ uf.2.1 = u.2.1 :=
  zz_X3_book_0 (G := ((fun _ => 0, fun _ _ => 0), fun _ => 0, b, g)) (a0 := a0) N u x1 h
theorem met_X3_book (l : Launch) (N : Nat) (G : uG) (u : UH) (a0 : Nat) (x1 : Int32) (r : Int32) (uf : UH) (h : f_X3_book N (ub G) (ug G) u a0 x1 = some (r, uf)) : Met l yX3_book (ws_ yX3_book cX3_book 3 (some .int)) ({ frames := 8, cells := 0, slots := 0, locals := 170 }) (uPc G u [.ref a0, .int x1]) (uQi G r uf) 0 0 (uA G) := by
  exact u_met (own := RX3) (by decide +kernel) rfl (Nat.le_of_ble_eq_true rfl) (fun hC hn hsz ls hl hP => w_X3_book_0 hC ⟨Nat.le_refl _, Nat.le_refl _⟩ N u x1 h hP va_S.rf hl)
def f_X3_canBe_85 (N b : Nat) (g : uEnv) (a0 : Nat) (k2 : UH → Int32 → Int32 → Option (Int32 × UH)) (u : UH) (x1 : Int32) (x2 : Int32) : Option (Int32 × UH) :=
    mlet (x2 + 1) fun y1 =>
    k2 u x1 y1
set_option maxHeartbeats 4000000 in
set_option maxRecDepth 100000 in
theorem zz_X3_canBe_85 {G : uG} {a0 : Nat} {uf : UH} {r : Int32} (N : Nat) (k2 : UH → Int32 → Int32 → Option (Int32 × UH)) (hk2 : ∀ (u : UH) (x1 : Int32) (x2 : Int32), k2 u x1 x2 = some (r, uf) → uf.1 = u.1 ∧ uf.2.1 = u.2.1) (u : UH) (x1 : Int32) (x2 : Int32) (h : f_X3_canBe_85 N (ub G) (ug G) a0 k2 u x1 x2 = some (r, uf)) : uf.1 = u.1 ∧ uf.2.1 = u.2.1 := by
  unfold f_X3_canBe_85 at h
  obtain ⟨y1, ey1⟩ : ∃ z : Int32, z = x2 + 1 := ⟨_, rfl⟩
  have h := mlet_at ey1 h
  have hq := hk2 u x1 y1 h
  exact ⟨by omega, by omega⟩
set_option maxHeartbeats 4000000 in
set_option maxRecDepth 100000 in
theorem w_X3_canBe_85 {p : Program} {l : Launch} {e : Env} {R : Room} {s : State} {m : MethodId} {args : Array Value} {below : List Frame} {meth : Method} {c : Code} {G : uG} {a0 : Nat} {uf : UH} {r : Int32} (hC : uC p s m args meth c G RX3 cX3_canBe 4 (some .boolean)) (hR : 1 ≤ R.frames ∧ 21 ≤ R.locals) (N : Nat) (k2 : UH → Int32 → Int32 → Option (Int32 × UH)) (hk2 : ∀ (u : UH) (x1 : Int32) (x2 : Int32), k2 u x1 x2 = some (r, uf) → ∀ (H : Heap) (locs : List Loc), uP G u H → va_S (uA G) s.heap H locs → ∀ ls : Array Slot, lv_has ls 4 [(0, va_rf (some a0)), (1, .int x1), (2, .int x2)] → W p l e R s m args below meth c H locs 0 0 (MQ below (uQi G r uf) args s 0 0 (uA G)) (F0 m 2 ls [])) (u : UH) (x1 : Int32) (x2 : Int32) (h : f_X3_canBe_85 N (ub G) (ug G) a0 k2 u x1 x2 = some (r, uf)) {H : Heap} {locs : List Loc} (hP : uP G u H) (hS : va_S (uA G) s.heap H locs) {ls : Array Slot} (hl : lv_has ls 4 [(0, va_rf (some a0)), (1, .int x1), (2, .int x2)]) : W p l e R s m args below meth c H locs 0 0 (MQ below (uQi G r uf) args s 0 0 (uA G)) (F0 m 85 ls []) := by
  obtain ⟨⟨hx, hb, hml, hown, hts⟩, hKK⟩ := id hC
  unfold f_X3_canBe_85 at h
  obtain ⟨y1, ey1⟩ : ∃ z : Int32, z = x2 + 1 := ⟨_, rfl⟩
  have h := mlet_at ey1 h
  refine lv_iinc (v := y1) (lv' := [(2, .int y1), (0, va_rf (some a0)), (1, .int x1)]) hx hb dX3_canBe_85 hl (k := 2) rfl (by rw [ey1]; rfl) (by decide) rfl (fun ls hl => ?_)
  refine lv_goto (tgt := 2) hx hb dX3_canBe_88 (by decide) ?_
  exact hk2 u x1 y1 h _ _ hP hS _ (lv_sub hl [1, 2, 0] rfl)
def f_X3_canBe_83 (N b : Nat) (g : uEnv) (a0 : Nat) (u : UH) : Option (Int32 × UH) :=
    some (0, u)
set_option maxHeartbeats 4000000 in
set_option maxRecDepth 100000 in
theorem zz_X3_canBe_83 {G : uG} {a0 : Nat} {uf : UH} {r : Int32} (N : Nat) (u : UH) (h : f_X3_canBe_83 N (ub G) (ug G) a0 u = some (r, uf)) : uf.1 = u.1 ∧ uf.2.1 = u.2.1 := by
  unfold f_X3_canBe_83 at h
  obtain ⟨hr1, hr2⟩ := uret_n h
  subst hr2
  exact ⟨by omega, by omega⟩
set_option maxHeartbeats 4000000 in
set_option maxRecDepth 100000 in
theorem w_X3_canBe_83 {p : Program} {l : Launch} {e : Env} {R : Room} {s : State} {m : MethodId} {args : Array Value} {below : List Frame} {meth : Method} {c : Code} {G : uG} {a0 : Nat} {uf : UH} {r : Int32} (hC : uC p s m args meth c G RX3 cX3_canBe 4 (some .boolean)) (hR : 1 ≤ R.frames ∧ 21 ≤ R.locals) (N : Nat) (u : UH) (h : f_X3_canBe_83 N (ub G) (ug G) a0 u = some (r, uf)) {H : Heap} {locs : List Loc} (hP : uP G u H) (hS : va_S (uA G) s.heap H locs) {ls : Array Slot} (hl : lv_has ls 4 []) : W p l e R s m args below meth c H locs 0 0 (MQ below (uQi G r uf) args s 0 0 (uA G)) (F0 m 83 ls []) := by
  obtain ⟨⟨hx, hb, hml, hown, hts⟩, hKK⟩ := id hC
  unfold f_X3_canBe_83 at h
  refine lv_iconst (v := 0) hx hb dX3_canBe_83 (by decide) ?_
  obtain ⟨hr1, hr2⟩ := uret_n h
  subst hr1
  subst hr2
  exact u_zret hC (uFit_n (ty := .boolean) (v := 0) rfl).1 hP hS dX3_canBe_84
def f_X3_canBe_40 (N b : Nat) (g : uEnv) (a0 : Nat) (k2 : UH → Int32 → Int32 → Option (Int32 × UH)) (u : UH) (x1 : Int32) (x2 : Int32) (x3 : Int32) : Option (Int32 × UH) :=
    (uGI u a0 2 37).bind fun y1 =>
    if y1 ≤ x2 then
    f_X3_canBe_85 N b g a0 k2 u x1 x2
    else
    (uGR u a0 2 45).bind fun o3 =>
    (o3).bind fun a4 =>
    (uLdI u a4 0 x2).bind fun y5 =>
    if y5 = (-1) then
    f_X3_canBe_85 N b g a0 k2 u x1 x2
    else
    if x3 = 0 then
    f_X3_canBe_83 N b g a0 u
    else
    (uGR u a0 2 52).bind fun o8 =>
    (o8).bind fun a9 =>
    (uLdI u a9 0 (((4 * x2) + x3) - 1)).bind fun y10 =>
    (uGR u a0 2 45).bind fun o11 =>
    (o11).bind fun a12 =>
    (uLdI u a12 0 x2).bind fun y13 =>
    if y10 = y13 then
    f_X3_canBe_85 N b g a0 k2 u x1 x2
    else
    f_X3_canBe_83 N b g a0 u
set_option maxHeartbeats 4000000 in
set_option maxRecDepth 100000 in
theorem zz_X3_canBe_40 {G : uG} {a0 : Nat} {uf : UH} {r : Int32} (N : Nat) (k2 : UH → Int32 → Int32 → Option (Int32 × UH)) (hk2 : ∀ (u : UH) (x1 : Int32) (x2 : Int32), k2 u x1 x2 = some (r, uf) → uf.1 = u.1 ∧ uf.2.1 = u.2.1) (u : UH) (x1 : Int32) (x2 : Int32) (x3 : Int32) (h : f_X3_canBe_40 N (ub G) (ug G) a0 k2 u x1 x2 x3 = some (r, uf)) : uf.1 = u.1 ∧ uf.2.1 = u.2.1 := by
  unfold f_X3_canBe_40 at h
  obtain ⟨y1, hy1, h⟩ := mbind_n h
  by_cases c2 : y1 ≤ x2
  · have h := mif_t c2 h
    have hq := zz_X3_canBe_85 (G := G) (a0 := a0) N k2 hk2 u x1 x2 h
    exact ⟨by omega, by omega⟩
  · have h := mif_f c2 h
    obtain ⟨o3, ho3, h⟩ := mbind_n h
    obtain ⟨a4, ha4, hha4⟩ := mbind_n h
    subst ha4
    have h := hha4
    obtain ⟨y5, hy5, h⟩ := mbind_n h
    by_cases c6 : y5 = (-1)
    · have h := mif_t c6 h
      have hq := zz_X3_canBe_85 (G := G) (a0 := a0) N k2 hk2 u x1 x2 h
      exact ⟨by omega, by omega⟩
    · have h := mif_f c6 h
      by_cases c7 : x3 = 0
      · have h := mif_t c7 h
        have hq := zz_X3_canBe_83 (G := G) (a0 := a0) N u h
        exact ⟨by omega, by omega⟩
      · have h := mif_f c7 h
        obtain ⟨o8, ho8, h⟩ := mbind_n h
        obtain ⟨a9, ha9, hha9⟩ := mbind_n h
        subst ha9
        have h := hha9
        obtain ⟨y10, hy10, h⟩ := mbind_n h
        obtain ⟨o11, ho11, h⟩ := mbind_n h
        obtain ⟨a12, ha12, hha12⟩ := mbind_n h
        subst ha12
        have h := hha12
        obtain ⟨y13, hy13, h⟩ := mbind_n h
        by_cases c14 : y10 = y13
        · have h := mif_t c14 h
          have hq := zz_X3_canBe_85 (G := G) (a0 := a0) N k2 hk2 u x1 x2 h
          exact ⟨by omega, by omega⟩
        · have h := mif_f c14 h
          have hq := zz_X3_canBe_83 (G := G) (a0 := a0) N u h
          exact ⟨by omega, by omega⟩
set_option maxHeartbeats 4000000 in
set_option maxRecDepth 100000 in
theorem w_X3_canBe_40 {p : Program} {l : Launch} {e : Env} {R : Room} {s : State} {m : MethodId} {args : Array Value} {below : List Frame} {meth : Method} {c : Code} {G : uG} {a0 : Nat} {uf : UH} {r : Int32} (hC : uC p s m args meth c G RX3 cX3_canBe 4 (some .boolean)) (hR : 1 ≤ R.frames ∧ 21 ≤ R.locals) (N : Nat) (k2 : UH → Int32 → Int32 → Option (Int32 × UH)) (hk2 : ∀ (u : UH) (x1 : Int32) (x2 : Int32), k2 u x1 x2 = some (r, uf) → ∀ (H : Heap) (locs : List Loc), uP G u H → va_S (uA G) s.heap H locs → ∀ ls : Array Slot, lv_has ls 4 [(0, va_rf (some a0)), (1, .int x1), (2, .int x2)] → W p l e R s m args below meth c H locs 0 0 (MQ below (uQi G r uf) args s 0 0 (uA G)) (F0 m 2 ls [])) (u : UH) (x1 : Int32) (x2 : Int32) (x3 : Int32) (h : f_X3_canBe_40 N (ub G) (ug G) a0 k2 u x1 x2 x3 = some (r, uf)) {H : Heap} {locs : List Loc} (hP : uP G u H) (hS : va_S (uA G) s.heap H locs) {ls : Array Slot} (hl : lv_has ls 4 [(0, va_rf (some a0)), (1, .int x1), (2, .int x2), (3, .int x3)]) : W p l e R s m args below meth c H locs 0 0 (MQ below (uQi G r uf) args s 0 0 (uA G)) (F0 m 40 ls []) := by
  obtain ⟨⟨hx, hb, hml, hown, hts⟩, hKK⟩ := id hC
  unfold f_X3_canBe_40 at h
  refine lv_iload_n hx hb dX3_canBe_40 rfl (lv_at hl 2 rfl) ?_
  refine u_aload_n (r := some a0) hx hb dX3_canBe_41 rfl (lv_at hl 0 rfl) ?_
  obtain ⟨y1, hy1, h⟩ := mbind_n h
  refine u_get hC hP (uGI_n hy1) rfl in_X3 (by decide) q1930 (fun _ h => h) dX3_canBe_42 ?_
  refine lv_icmp_ge (tgt := 85) hx hb dX3_canBe_45 (by decide) (fun c2 => ?_) (fun c2 => ?_)
  · have h := mif_t c2 h
    exact w_X3_canBe_85 hC hR N k2 hk2 u x1 x2 h hP hS (lv_sub hl [0, 1, 2] rfl)
  · have h := mif_f c2 h
    refine u_aload_n (r := some a0) hx hb dX3_canBe_48 rfl (lv_at hl 0 rfl) ?_
    obtain ⟨o3, ho3, h⟩ := mbind_n h
    refine u_get hC hP (uGR_n ho3) rfl in_X3 (by decide) q1938 (fun _ h => h) dX3_canBe_49 ?_
    refine lv_iload_n hx hb dX3_canBe_52 rfl (lv_at hl 2 rfl) ?_
    obtain ⟨a4, ha4, hha4⟩ := mbind_n h
    subst ha4
    have h := hha4
    obtain ⟨y5, hy5, h⟩ := mbind_n h
    refine u_iald hC hP hy5 rfl dX3_canBe_53 ?_
    refine lv_iconst (v := (-1)) hx hb dX3_canBe_54 (by decide) ?_
    refine lv_icmp_eq (tgt := 85) hx hb dX3_canBe_55 (by decide) (fun c6 => ?_) (fun c6 => ?_)
    · have h := mif_t c6 h
      exact w_X3_canBe_85 hC hR N k2 hk2 u x1 x2 h hP hS (lv_sub hl [0, 1, 2] rfl)
    · have h := mif_f c6 h
      refine lv_iload_n hx hb dX3_canBe_58 rfl (lv_at hl 3 rfl) ?_
      refine lv_if_eq (tgt := 83) hx hb dX3_canBe_59 (by decide) (fun c7 => ?_) (fun c7 => ?_)
      · have h := mif_t c7 h
        exact w_X3_canBe_83 hC hR N u h hP hS (lv_sub hl [] rfl)
      · have h := mif_f c7 h
        refine u_aload_n (r := some a0) hx hb dX3_canBe_62 rfl (lv_at hl 0 rfl) ?_
        obtain ⟨o8, ho8, h⟩ := mbind_n h
        refine u_get hC hP (uGR_n ho8) rfl in_X3 (by decide) q1945 (fun _ h => h) dX3_canBe_63 ?_
        refine lv_iconst (v := 4) hx hb dX3_canBe_66 (by decide) ?_
        refine lv_iload_n hx hb dX3_canBe_67 rfl (lv_at hl 2 rfl) ?_
        refine lv_imul hx hb dX3_canBe_68 ?_
        refine lv_iload_n hx hb dX3_canBe_69 rfl (lv_at hl 3 rfl) ?_
        refine lv_iadd hx hb dX3_canBe_70 ?_
        refine lv_iconst (v := 1) hx hb dX3_canBe_71 (by decide) ?_
        refine lv_isub hx hb dX3_canBe_72 ?_
        obtain ⟨a9, ha9, hha9⟩ := mbind_n h
        subst ha9
        have h := hha9
        obtain ⟨y10, hy10, h⟩ := mbind_n h
        refine u_iald hC hP hy10 rfl dX3_canBe_73 ?_
        refine u_aload_n (r := some a0) hx hb dX3_canBe_74 rfl (lv_at hl 0 rfl) ?_
        obtain ⟨o11, ho11, h⟩ := mbind_n h
        refine u_get hC hP (uGR_n ho11) rfl in_X3 (by decide) q1938 (fun _ h => h) dX3_canBe_75 ?_
        refine lv_iload_n hx hb dX3_canBe_78 rfl (lv_at hl 2 rfl) ?_
        obtain ⟨a12, ha12, hha12⟩ := mbind_n h
        subst ha12
        have h := hha12
        obtain ⟨y13, hy13, h⟩ := mbind_n h
        refine u_iald hC hP hy13 rfl dX3_canBe_79 ?_
        refine lv_icmp_eq (tgt := 85) hx hb dX3_canBe_80 (by decide) (fun c14 => ?_) (fun c14 => ?_)
        · have h := mif_t c14 h
          exact w_X3_canBe_85 hC hR N k2 hk2 u x1 x2 h hP hS (lv_sub hl [0, 1, 2] rfl)
        · have h := mif_f c14 h
          exact w_X3_canBe_83 hC hR N u h hP hS (lv_sub hl [] rfl)
def f_X3_canBe_38 (N b : Nat) (g : uEnv) (a0 : Nat) (u : UH) : Option (Int32 × UH) :=
    some (0, u)
set_option maxHeartbeats 4000000 in
set_option maxRecDepth 100000 in
theorem zz_X3_canBe_38 {G : uG} {a0 : Nat} {uf : UH} {r : Int32} (N : Nat) (u : UH) (h : f_X3_canBe_38 N (ub G) (ug G) a0 u = some (r, uf)) : uf.1 = u.1 ∧ uf.2.1 = u.2.1 := by
  unfold f_X3_canBe_38 at h
  obtain ⟨hr1, hr2⟩ := uret_n h
  subst hr2
  exact ⟨by omega, by omega⟩
set_option maxHeartbeats 4000000 in
set_option maxRecDepth 100000 in
theorem w_X3_canBe_38 {p : Program} {l : Launch} {e : Env} {R : Room} {s : State} {m : MethodId} {args : Array Value} {below : List Frame} {meth : Method} {c : Code} {G : uG} {a0 : Nat} {uf : UH} {r : Int32} (hC : uC p s m args meth c G RX3 cX3_canBe 4 (some .boolean)) (hR : 1 ≤ R.frames ∧ 21 ≤ R.locals) (N : Nat) (u : UH) (h : f_X3_canBe_38 N (ub G) (ug G) a0 u = some (r, uf)) {H : Heap} {locs : List Loc} (hP : uP G u H) (hS : va_S (uA G) s.heap H locs) {ls : Array Slot} (hl : lv_has ls 4 []) : W p l e R s m args below meth c H locs 0 0 (MQ below (uQi G r uf) args s 0 0 (uA G)) (F0 m 38 ls []) := by
  obtain ⟨⟨hx, hb, hml, hown, hts⟩, hKK⟩ := id hC
  unfold f_X3_canBe_38 at h
  refine lv_iconst (v := 0) hx hb dX3_canBe_38 (by decide) ?_
  obtain ⟨hr1, hr2⟩ := uret_n h
  subst hr1
  subst hr2
  exact u_zret hC (uFit_n (ty := .boolean) (v := 0) rfl).1 hP hS dX3_canBe_39
def f_X3_canBe_2 (N b : Nat) (g : uEnv) (a0 : Nat) : Nat → UH → Int32 → Int32 → Option (Int32 × UH)
  | 0, _, _, _ => none
  | n + 1, u, x1, x2 =>
    if 5 ≤ x2 then
    some (1, u)
    else
    ucall (f_X3_digit N b g u x1 x2) fun r4 u2 =>
    (uGI u2 a0 2 37).bind fun y5 =>
    if x2 < y5 then
    (uGR u2 a0 2 53).bind fun o7 =>
    (o7).bind fun a8 =>
    (uLdI u2 a8 0 x2).bind fun y9 =>
    if r4 ≤ y9 then
    f_X3_canBe_40 N b g a0 (f_X3_canBe_2 N b g a0 n) u2 x1 x2 r4
    else
    f_X3_canBe_38 N b g a0 u2
    else
    if r4 ≤ 0 then
    f_X3_canBe_40 N b g a0 (f_X3_canBe_2 N b g a0 n) u2 x1 x2 r4
    else
    f_X3_canBe_38 N b g a0 u2
set_option maxHeartbeats 4000000 in
set_option maxRecDepth 100000 in
theorem zz_X3_canBe_2 {G : uG} {a0 : Nat} {uf : UH} {r : Int32} (N : Nat) : ∀ (n : Nat) (u : UH) (x1 : Int32) (x2 : Int32), f_X3_canBe_2 N (ub G) (ug G) a0 n u x1 x2 = some (r, uf) → uf.1 = u.1 ∧ uf.2.1 = u.2.1 := by
  intro n
  induction n with
  | zero =>
    intro u x1 x2 h
    cases h
  | succ n ih =>
    intro u x1 x2 h
    unfold f_X3_canBe_2 at h
    by_cases c1 : 5 ≤ x2
    · have h := mif_t c1 h
      obtain ⟨hr1, hr2⟩ := uret_n h
      subst hr2
      exact ⟨by omega, by omega⟩
    · have h := mif_f c1 h
      obtain ⟨r4, u2, c3, h⟩ := ucall_n h
      have zu2 := zz_X3_digit N (ub G) (ug G) u x1 x2 r4 u2 c3
      obtain ⟨y5, hy5, h⟩ := mbind_n h
      by_cases c6 : x2 < y5
      · have h := mif_t c6 h
        obtain ⟨o7, ho7, h⟩ := mbind_n h
        obtain ⟨a8, ha8, hha8⟩ := mbind_n h
        subst ha8
        have h := hha8
        obtain ⟨y9, hy9, h⟩ := mbind_n h
        by_cases c10 : r4 ≤ y9
        · have h := mif_t c10 h
          have hq := zz_X3_canBe_40 (G := G) (a0 := a0) N (f_X3_canBe_2 N (ub G) (ug G) a0 n) ih u2 x1 x2 r4 h
          exact ⟨by omega, by omega⟩
        · have h := mif_f c10 h
          have hq := zz_X3_canBe_38 (G := G) (a0 := a0) N u2 h
          exact ⟨by omega, by omega⟩
      · have h := mif_f c6 h
        by_cases c11 : r4 ≤ 0
        · have h := mif_t c11 h
          have hq := zz_X3_canBe_40 (G := G) (a0 := a0) N (f_X3_canBe_2 N (ub G) (ug G) a0 n) ih u2 x1 x2 r4 h
          exact ⟨by omega, by omega⟩
        · have h := mif_f c11 h
          have hq := zz_X3_canBe_38 (G := G) (a0 := a0) N u2 h
          exact ⟨by omega, by omega⟩
set_option maxHeartbeats 4000000 in
set_option maxRecDepth 100000 in
theorem w_X3_canBe_2 {p : Program} {l : Launch} {e : Env} {R : Room} {s : State} {m : MethodId} {args : Array Value} {below : List Frame} {meth : Method} {c : Code} {G : uG} {a0 : Nat} {uf : UH} {r : Int32} (hC : uC p s m args meth c G RX3 cX3_canBe 4 (some .boolean)) (hR : 1 ≤ R.frames ∧ 21 ≤ R.locals) (N : Nat) : ∀ (n : Nat) (u : UH) (x1 : Int32) (x2 : Int32), f_X3_canBe_2 N (ub G) (ug G) a0 n u x1 x2 = some (r, uf) → ∀ (H : Heap) (locs : List Loc), uP G u H → va_S (uA G) s.heap H locs → ∀ ls : Array Slot, lv_has ls 4 [(0, va_rf (some a0)), (1, .int x1), (2, .int x2)] → W p l e R s m args below meth c H locs 0 0 (MQ below (uQi G r uf) args s 0 0 (uA G)) (F0 m 2 ls []) := by
  obtain ⟨⟨hx, hb, hml, hown, hts⟩, hKK⟩ := id hC
  intro n
  induction n with
  | zero =>
    intro u x1 x2 h
    cases h
  | succ n ih =>
    intro u x1 x2 h H locs hP hS ls hl
    unfold f_X3_canBe_2 at h
    refine lv_iload_n hx hb dX3_canBe_2 rfl (lv_at hl 2 rfl) ?_
    refine lv_iconst (v := 5) hx hb dX3_canBe_3 (by decide) ?_
    refine lv_icmp_ge (tgt := 91) hx hb dX3_canBe_4 (by decide) (fun c1 => ?_) (fun c1 => ?_)
    · have h := mif_t c1 h
      refine lv_iconst (v := 1) hx hb dX3_canBe_91 (by decide) ?_
      obtain ⟨hr1, hr2⟩ := uret_n h
      subst hr1
      subst hr2
      exact u_zret hC (uFit_n (ty := .boolean) (v := 1) rfl).1 hP hS dX3_canBe_92
    · have h := mif_f c1 h
      refine lv_iload_n hx hb dX3_canBe_7 rfl (lv_at hl 1 rfl) ?_
      refine lv_iload_n hx hb dX3_canBe_8 rfl (lv_at hl 2 rfl) ?_
      obtain ⟨r4, u2, c3, h⟩ := ucall_n h
      have zu2 := zz_X3_digit N (ub G) (ug G) u x1 x2 r4 u2 c3
      refine u_calli (va_runS (As := [.int x1, .int x2]) (rest := []) hC.1 (met_X3_digit l N G u x1 x2 r4 u2 c3) (va_cwS 2 hts (lw_S q2360 q2361 q103 q2362) rfl rfl rfl (by decide +kernel) ⟨Nat.le_trans (Nat.le_of_ble_eq_true rfl) hR.1, Nat.le_trans (Nat.le_of_ble_eq_true rfl) hR.2⟩) ⟨uPc_blind, fun U hU hW => u_pre hC hP hS hU hW⟩ rfl rfl hl.1 rfl (lv_room (Nat.le_of_ble_eq_true rfl)) dX3_canBe_9 ⟨Nat.zero_le _, Nat.zero_le _⟩) hS (fun H locs hP hS => ?_)
      refine lv_istore_n (i := 3) (lv' := [(3, .int r4), (0, va_rf (some a0)), (1, .int x1), (2, .int x2)]) hx hb dX3_canBe_12 rfl hl (by decide) rfl (fun ls hl => ?_)
      refine lv_iload_n hx hb dX3_canBe_13 rfl (lv_at hl 3 rfl) ?_
      refine u_aload_n (r := some a0) hx hb dX3_canBe_14 rfl (lv_at hl 1 rfl) ?_
      obtain ⟨y5, hy5, h⟩ := mbind_n h
      refine u_get hC hP (uGI_n hy5) rfl in_X3 (by decide) q1930 (fun _ h => h) dX3_canBe_15 ?_
      refine lv_icmp_lt (tgt := 28) hx hb dX3_canBe_18 (by decide) (fun c6 => ?_) (fun c6 => ?_)
      · have h := mif_t c6 h
        refine lv_iload_n hx hb dX3_canBe_28 rfl (lv_at hl 0 rfl) ?_
        refine u_aload_n (r := some a0) hx hb dX3_canBe_29 rfl (lv_at hl 1 rfl) ?_
        obtain ⟨o7, ho7, h⟩ := mbind_n h
        refine u_get hC hP (uGR_n ho7) rfl in_X3 (by decide) q1946 (fun _ h => h) dX3_canBe_30 ?_
        refine lv_iload_n hx hb dX3_canBe_33 rfl (lv_at hl 3 rfl) ?_
        obtain ⟨a8, ha8, hha8⟩ := mbind_n h
        subst ha8
        have h := hha8
        obtain ⟨y9, hy9, h⟩ := mbind_n h
        refine u_iald hC hP hy9 rfl dX3_canBe_34 ?_
        refine lv_icmp_le (tgt := 40) hx hb dX3_canBe_35 (by decide) (fun c10 => ?_) (fun c10 => ?_)
        · have h := mif_t c10 h
          exact w_X3_canBe_40 hC hR N (f_X3_canBe_2 N (ub G) (ug G) a0 n) ih u2 x1 x2 r4 h hP hS (lv_sub hl [1, 2, 3, 0] rfl)
        · have h := mif_f c10 h
          exact w_X3_canBe_38 hC hR N u2 h hP hS (lv_sub hl [] rfl)
      · have h := mif_f c6 h
        refine lv_iload_n hx hb dX3_canBe_21 rfl (lv_at hl 0 rfl) ?_
        refine lv_if_le (tgt := 40) hx hb dX3_canBe_22 (by decide) (fun c11 => ?_) (fun c11 => ?_)
        · have h := mif_t c11 h
          exact w_X3_canBe_40 hC hR N (f_X3_canBe_2 N (ub G) (ug G) a0 n) ih u2 x1 x2 r4 h hP hS (lv_sub hl [1, 2, 3, 0] rfl)
        · have h := mif_f c11 h
          refine lv_goto (tgt := 38) hx hb dX3_canBe_25 (by decide) ?_
          exact w_X3_canBe_38 hC hR N u2 h hP hS (lv_sub hl [] rfl)
def f_X3_canBe (N b : Nat) (g : uEnv) (u : UH) (a0 : Nat) (x1 : Int32) : Option (Int32 × UH) :=
    f_X3_canBe_2 N b g a0 N u x1 0
set_option maxHeartbeats 4000000 in
set_option maxRecDepth 100000 in
theorem zz_X3_canBe_0 {G : uG} {a0 : Nat} {uf : UH} {r : Int32} (N : Nat) (u : UH) (x1 : Int32) (h : f_X3_canBe N (ub G) (ug G) u a0 x1 = some (r, uf)) : uf.1 = u.1 ∧ uf.2.1 = u.2.1 := by
  unfold f_X3_canBe at h
  have hq := zz_X3_canBe_2 (G := G) (a0 := a0) N N u x1 0 h
  exact ⟨by omega, by omega⟩
set_option maxHeartbeats 4000000 in
set_option maxRecDepth 100000 in
theorem w_X3_canBe_0 {p : Program} {l : Launch} {e : Env} {R : Room} {s : State} {m : MethodId} {args : Array Value} {below : List Frame} {meth : Method} {c : Code} {G : uG} {a0 : Nat} {uf : UH} {r : Int32} (hC : uC p s m args meth c G RX3 cX3_canBe 4 (some .boolean)) (hR : 1 ≤ R.frames ∧ 21 ≤ R.locals) (N : Nat) (u : UH) (x1 : Int32) (h : f_X3_canBe N (ub G) (ug G) u a0 x1 = some (r, uf)) {H : Heap} {locs : List Loc} (hP : uP G u H) (hS : va_S (uA G) s.heap H locs) {ls : Array Slot} (hl : lv_has ls 4 [(0, va_rf (some a0)), (1, .int x1)]) : W p l e R s m args below meth c H locs 0 0 (MQ below (uQi G r uf) args s 0 0 (uA G)) (F0 m 0 ls []) := by
  obtain ⟨⟨hx, hb, hml, hown, hts⟩, hKK⟩ := id hC
  unfold f_X3_canBe at h
  refine lv_iconst (v := 0) hx hb dX3_canBe_0 (by decide) ?_
  refine lv_istore_n (i := 2) (lv' := [(2, .int 0), (0, va_rf (some a0)), (1, .int x1)]) hx hb dX3_canBe_1 rfl hl (by decide) rfl (fun ls hl => ?_)
  exact w_X3_canBe_2 hC hR N N u x1 0 h _ _ hP hS _ (lv_sub hl [1, 2, 0] rfl)
theorem zz_X3_canBe (N b : Nat) (g : uEnv) (u : UH) (a0 : Nat) (x1 : Int32) (r : Int32) (uf : UH) (h : f_X3_canBe N b g u a0 x1 = some (r, uf)) : uf.1 = u.1 ∧ uf.2.1 = u.2.1 :=
  zz_X3_canBe_0 (G := ((fun _ => 0, fun _ _ => 0), fun _ => 0, b, g)) (a0 := a0) N u x1 h
theorem met_X3_canBe (l : Launch) (N : Nat) (G : uG) (u : UH) (a0 : Nat) (x1 : Int32) (r : Int32) (uf : UH) (h : f_X3_canBe N (ub G) (ug G) u a0 x1 = some (r, uf)) : Met l yX3_canBe (ws_ yX3_canBe cX3_canBe 4 (some .boolean)) ({ frames := 1, cells := 0, slots := 0, locals := 21 }) (uPc G u [.ref a0, .int x1]) (uQi G r uf) 0 0 (uA G) := by
  exact u_met (own := RX3) (by decide +kernel) rfl (Nat.le_of_ble_eq_true rfl) (fun hC hn hsz ls hl hP => w_X3_canBe_0 hC ⟨Nat.le_refl _, Nat.le_refl _⟩ N u x1 h hP va_S.rf hl)
def f_X3_common_17 (N b : Nat) (g : uEnv) : Nat → UH → Int64 → Int64 → Option (Int64 × UH)
  | 0, _, _, _ => none
  | n + 1, u, x4, x6 =>
    if (lg_cmp x6 0) = 0 then
    some (x4, u)
    else
    if ¬ x6 = 0 then
    mlet (x4 - x4 / x6 * x6) fun y3 =>
    f_X3_common_17 N b g n u x6 y3
    else none
set_option maxHeartbeats 4000000 in
set_option maxRecDepth 100000 in
theorem zz_X3_common_17 {G : uG} {uf : UH} {r : Int64} (N : Nat) : ∀ (n : Nat) (u : UH) (x4 : Int64) (x6 : Int64), f_X3_common_17 N (ub G) (ug G) n u x4 x6 = some (r, uf) → uf.1 = u.1 ∧ uf.2.1 = u.2.1 := by
  intro n
  induction n with
  | zero =>
    intro u x4 x6 h
    cases h
  | succ n ih =>
    intro u x4 x6 h
    unfold f_X3_common_17 at h
    by_cases c1 : (lg_cmp x6 0) = 0
    · have h := mif_t c1 h
      obtain ⟨hr1, hr2⟩ := uret_n h
      subst hr2
      exact ⟨by omega, by omega⟩
    · have h := mif_f c1 h
      obtain ⟨c2, h⟩ := mif_n h
      obtain ⟨y3, ey3⟩ : ∃ z, z = x4 - x4 / x6 * x6 := ⟨_, rfl⟩
      have h := mlet_at ey3 h
      have hq := ih u x6 y3 h
      exact ⟨by omega, by omega⟩
set_option maxHeartbeats 4000000 in
set_option maxRecDepth 100000 in
theorem w_X3_common_17 {p : Program} {l : Launch} {e : Env} {R : Room} {s : State} {m : MethodId} {args : Array Value} {below : List Frame} {meth : Method} {c : Code} {G : uG} {uf : UH} {r : Int64} (hC : uC p s m args meth c G RX3 cX3_common 10 (some .long)) (hR : 0 ≤ R.frames ∧ 0 ≤ R.locals) (N : Nat) : ∀ (n : Nat) (u : UH) (x4 : Int64) (x6 : Int64), f_X3_common_17 N (ub G) (ug G) n u x4 x6 = some (r, uf) → ∀ (H : Heap) (locs : List Loc), uP G u H → va_S (uA G) s.heap H locs → ∀ ls : Array Slot, lv_has ls 10 [(4, .long x4), (6, .long x6)] → W p l e R s m args below meth c H locs 0 0 (MQ below (uQl G r uf) args s 0 0 (uA G)) (F0 m 17 ls []) := by
  obtain ⟨⟨hx, hb, hml, hown, hts⟩, hKK⟩ := id hC
  intro n
  induction n with
  | zero =>
    intro u x4 x6 h
    cases h
  | succ n ih =>
    intro u x4 x6 h H locs hP hS ls hl
    unfold f_X3_common_17 at h
    refine lv_lload hx hb dX3_common_17 (lv_at hl 1 rfl) ?_
    refine lv_lconst (v := 0) hx hb dX3_common_19 (by decide) ?_
    refine W.lcmp hx hb dX3_common_20 ?_
    refine lv_if_eq (tgt := 42) hx hb dX3_common_21 (by decide) (fun c1 => ?_) (fun c1 => ?_)
    · have h := mif_t c1 h
      refine lv_lload hx hb dX3_common_42 (lv_at hl 0 rfl) ?_
      obtain ⟨hr1, hr2⟩ := uret_n h
      subst hr1
      subst hr2
      exact u_lret hC hP hS dX3_common_44
    · have h := mif_f c1 h
      refine lv_lload hx hb dX3_common_24 (lv_at hl 0 rfl) ?_
      refine lv_lload hx hb dX3_common_26 (lv_at hl 1 rfl) ?_
      obtain ⟨c2, h⟩ := mif_n h
      refine lv_lrem hx hb dX3_common_28 c2 ?_
      refine lv_topl (fun y3 ey3 => ?_)
      have h := mlet_at ey3 h
      refine lv_lstore (lv' := [(8, .long y3), (4, .long x4), (6, .long x6)]) hx hb dX3_common_29 hl (by decide) rfl (fun ls hl => ?_)
      refine lv_lload hx hb dX3_common_31 (lv_at hl 2 rfl) ?_
      refine lv_lstore (lv' := [(4, .long x6), (8, .long y3), (6, .long x6)]) hx hb dX3_common_33 hl (by decide) rfl (fun ls hl => ?_)
      refine lv_lload hx hb dX3_common_35 (lv_at hl 1 rfl) ?_
      refine lv_lstore (lv' := [(6, .long y3), (4, .long x6), (8, .long y3)]) hx hb dX3_common_37 hl (by decide) rfl (fun ls hl => ?_)
      refine lv_goto (tgt := 17) hx hb dX3_common_39 (by decide) ?_
      exact ih u x6 y3 h _ _ hP hS _ (lv_sub hl [1, 0] rfl)
def f_X3_common_12 (N b : Nat) (g : uEnv) (u : UH) (x2 : Int64) (s0 : Int64) : Option (Int64 × UH) :=
    f_X3_common_17 N b g N u s0 x2
set_option maxHeartbeats 4000000 in
set_option maxRecDepth 100000 in
theorem zz_X3_common_12 {G : uG} {uf : UH} {r : Int64} (N : Nat) (u : UH) (x2 : Int64) (s0 : Int64) (h : f_X3_common_12 N (ub G) (ug G) u x2 s0 = some (r, uf)) : uf.1 = u.1 ∧ uf.2.1 = u.2.1 := by
  unfold f_X3_common_12 at h
  have hq := zz_X3_common_17 (G := G) N N u s0 x2 h
  exact ⟨by omega, by omega⟩
set_option maxHeartbeats 4000000 in
set_option maxRecDepth 100000 in
theorem w_X3_common_12 {p : Program} {l : Launch} {e : Env} {R : Room} {s : State} {m : MethodId} {args : Array Value} {below : List Frame} {meth : Method} {c : Code} {G : uG} {uf : UH} {r : Int64} (hC : uC p s m args meth c G RX3 cX3_common 10 (some .long)) (hR : 0 ≤ R.frames ∧ 0 ≤ R.locals) (N : Nat) (u : UH) (x2 : Int64) (s0 : Int64) (h : f_X3_common_12 N (ub G) (ug G) u x2 s0 = some (r, uf)) {H : Heap} {locs : List Loc} (hP : uP G u H) (hS : va_S (uA G) s.heap H locs) {ls : Array Slot} (hl : lv_has ls 10 [(2, .long x2)]) : W p l e R s m args below meth c H locs 0 0 (MQ below (uQl G r uf) args s 0 0 (uA G)) (F0 m 12 ls [.long s0]) := by
  obtain ⟨⟨hx, hb, hml, hown, hts⟩, hKK⟩ := id hC
  unfold f_X3_common_12 at h
  refine lv_lstore (lv' := [(4, .long s0), (2, .long x2)]) hx hb dX3_common_12 hl (by decide) rfl (fun ls hl => ?_)
  refine lv_lload_n hx hb dX3_common_14 rfl (lv_at hl 1 rfl) ?_
  refine lv_lstore (lv' := [(6, .long x2), (4, .long s0), (2, .long x2)]) hx hb dX3_common_15 hl (by decide) rfl (fun ls hl => ?_)
  exact w_X3_common_17 hC hR N N u s0 x2 h _ _ hP hS _ (lv_sub hl [1, 0] rfl)
def f_X3_common (N b : Nat) (g : uEnv) (u : UH) (x0 : Int64) (x2 : Int64) : Option (Int64 × UH) :=
    if 0 ≤ (lg_cmp x0 0) then
    f_X3_common_12 N b g u x2 x0
    else
    f_X3_common_12 N b g u x2 (-x0)
set_option maxHeartbeats 4000000 in
set_option maxRecDepth 100000 in
theorem zz_X3_common_0 {G : uG} {uf : UH} {r : Int64} (N : Nat) (u : UH) (x0 : Int64) (x2 : Int64) (h : f_X3_common N (ub G) (ug G) u x0 x2 = some (r, uf)) : uf.1 = u.1 ∧ uf.2.1 = u.2.1 := by
  unfold f_X3_common at h
  by_cases c1 : 0 ≤ (lg_cmp x0 0)
  · have h := mif_t c1 h
    have hq := zz_X3_common_12 (G := G) N u x2 x0 h
    exact ⟨by omega, by omega⟩
  · have h := mif_f c1 h
    have hq := zz_X3_common_12 (G := G) N u x2 (-x0) h
    exact ⟨by omega, by omega⟩
set_option maxHeartbeats 4000000 in
set_option maxRecDepth 100000 in
theorem w_X3_common_0 {p : Program} {l : Launch} {e : Env} {R : Room} {s : State} {m : MethodId} {args : Array Value} {below : List Frame} {meth : Method} {c : Code} {G : uG} {uf : UH} {r : Int64} (hC : uC p s m args meth c G RX3 cX3_common 10 (some .long)) (hR : 0 ≤ R.frames ∧ 0 ≤ R.locals) (N : Nat) (u : UH) (x0 : Int64) (x2 : Int64) (h : f_X3_common N (ub G) (ug G) u x0 x2 = some (r, uf)) {H : Heap} {locs : List Loc} (hP : uP G u H) (hS : va_S (uA G) s.heap H locs) {ls : Array Slot} (hl : lv_has ls 10 [(0, .long x0), (2, .long x2)]) : W p l e R s m args below meth c H locs 0 0 (MQ below (uQl G r uf) args s 0 0 (uA G)) (F0 m 0 ls []) := by
  obtain ⟨⟨hx, hb, hml, hown, hts⟩, hKK⟩ := id hC
  unfold f_X3_common at h
  refine lv_lload_n hx hb dX3_common_0 rfl (lv_at hl 0 rfl) ?_
  refine lv_lconst (v := 0) hx hb dX3_common_1 (by decide) ?_
  refine W.lcmp hx hb dX3_common_2 ?_
  refine lv_if_ge (tgt := 11) hx hb dX3_common_3 (by decide) (fun c1 => ?_) (fun c1 => ?_)
  · have h := mif_t c1 h
    refine lv_lload_n hx hb dX3_common_11 rfl (lv_at hl 0 rfl) ?_
    exact w_X3_common_12 hC hR N u x2 x0 h hP hS (lv_sub hl [1] rfl)
  · have h := mif_f c1 h
    refine lv_lload_n hx hb dX3_common_6 rfl (lv_at hl 0 rfl) ?_
    refine lv_lneg hx hb dX3_common_7 ?_
    refine lv_goto (tgt := 12) hx hb dX3_common_8 (by decide) ?_
    exact w_X3_common_12 hC hR N u x2 (-x0) h hP hS (lv_sub hl [1] rfl)
theorem zz_X3_common (N b : Nat) (g : uEnv) (u : UH) (x0 : Int64) (x2 : Int64) (r : Int64) (uf : UH) (h : f_X3_common N b g u x0 x2 = some (r, uf)) : uf.1 = u.1 ∧ uf.2.1 = u.2.1 :=
  zz_X3_common_0 (G := ((fun _ => 0, fun _ _ => 0), fun _ => 0, b, g)) N u x0 x2 h
theorem met_X3_common (l : Launch) (N : Nat) (G : uG) (u : UH) (x0 : Int64) (x2 : Int64) (r : Int64) (uf : UH) (h : f_X3_common N (ub G) (ug G) u x0 x2 = some (r, uf)) : Met l yX3_common (ws_ yX3_common cX3_common 10 (some .long)) ({ frames := 0, cells := 0, slots := 0, locals := 0 }) (uPc G u [.long x0, .long x2]) (uQl G r uf) 0 0 (uA G) := by
  exact u_met (own := RX3) (by decide +kernel) rfl (Nat.le_of_ble_eq_true rfl) (fun hC hn hsz ls hl hP => w_X3_common_0 hC ⟨Nat.le_refl _, Nat.le_refl _⟩ N u x0 x2 h hP va_S.rf hl)
def f_X3_isCell_31 (N b : Nat) (g : uEnv) (a0 : Nat) (u : UH) (s0 : Int32) : Option (Int32 × UH) :=
    if uFit .boolean s0 = true then
    some (s0, u)
    else none
set_option maxHeartbeats 4000000 in
set_option maxRecDepth 100000 in
theorem zz_X3_isCell_31 {G : uG} {a0 : Nat} {uf : UH} {r : Int32} (N : Nat) (u : UH) (s0 : Int32) (h : f_X3_isCell_31 N (ub G) (ug G) a0 u s0 = some (r, uf)) : uf.1 = u.1 ∧ uf.2.1 = u.2.1 := by
  unfold f_X3_isCell_31 at h
  obtain ⟨c1, h⟩ := mif_n h
  obtain ⟨hr1, hr2⟩ := uret_n h
  subst hr2
  exact ⟨by omega, by omega⟩
set_option maxHeartbeats 4000000 in
set_option maxRecDepth 100000 in
theorem w_X3_isCell_31 {p : Program} {l : Launch} {e : Env} {R : Room} {s : State} {m : MethodId} {args : Array Value} {below : List Frame} {meth : Method} {c : Code} {G : uG} {a0 : Nat} {uf : UH} {r : Int32} (hC : uC p s m args meth c G RX3 cX3_isCell 2 (some .boolean)) (hR : 1 ≤ R.frames ∧ 22 ≤ R.locals) (N : Nat) (u : UH) (s0 : Int32) (h : f_X3_isCell_31 N (ub G) (ug G) a0 u s0 = some (r, uf)) {H : Heap} {locs : List Loc} (hP : uP G u H) (hS : va_S (uA G) s.heap H locs) {ls : Array Slot} (hl : lv_has ls 2 []) : W p l e R s m args below meth c H locs 0 0 (MQ below (uQi G r uf) args s 0 0 (uA G)) (F0 m 31 ls [.int s0]) := by
  obtain ⟨⟨hx, hb, hml, hown, hts⟩, hKK⟩ := id hC
  unfold f_X3_isCell_31 at h
  obtain ⟨c1, h⟩ := mif_n h
  obtain ⟨hr1, hr2⟩ := uret_n h
  subst hr1
  subst hr2
  exact u_zret hC (uFit_n c1).1 hP hS dX3_isCell_31
def f_X3_isCell_30 (N b : Nat) (g : uEnv) (a0 : Nat) (u : UH) : Option (Int32 × UH) :=
    f_X3_isCell_31 N b g a0 u 0
set_option maxHeartbeats 4000000 in
set_option maxRecDepth 100000 in
theorem zz_X3_isCell_30 {G : uG} {a0 : Nat} {uf : UH} {r : Int32} (N : Nat) (u : UH) (h : f_X3_isCell_30 N (ub G) (ug G) a0 u = some (r, uf)) : uf.1 = u.1 ∧ uf.2.1 = u.2.1 := by
  unfold f_X3_isCell_30 at h
  have hq := zz_X3_isCell_31 (G := G) (a0 := a0) N u 0 h
  exact ⟨by omega, by omega⟩
set_option maxHeartbeats 4000000 in
set_option maxRecDepth 100000 in
theorem w_X3_isCell_30 {p : Program} {l : Launch} {e : Env} {R : Room} {s : State} {m : MethodId} {args : Array Value} {below : List Frame} {meth : Method} {c : Code} {G : uG} {a0 : Nat} {uf : UH} {r : Int32} (hC : uC p s m args meth c G RX3 cX3_isCell 2 (some .boolean)) (hR : 1 ≤ R.frames ∧ 22 ≤ R.locals) (N : Nat) (u : UH) (h : f_X3_isCell_30 N (ub G) (ug G) a0 u = some (r, uf)) {H : Heap} {locs : List Loc} (hP : uP G u H) (hS : va_S (uA G) s.heap H locs) {ls : Array Slot} (hl : lv_has ls 2 []) : W p l e R s m args below meth c H locs 0 0 (MQ below (uQi G r uf) args s 0 0 (uA G)) (F0 m 30 ls []) := by
  obtain ⟨⟨hx, hb, hml, hown, hts⟩, hKK⟩ := id hC
  unfold f_X3_isCell_30 at h
  refine lv_iconst (v := 0) hx hb dX3_isCell_30 (by decide) ?_
  exact w_X3_isCell_31 hC hR N u 0 h hP hS (lv_sub hl [] rfl)
def f_X3_isCell (N b : Nat) (g : uEnv) (u : UH) (a0 : Nat) (x1 : Int32) : Option (Int32 × UH) :=
    (uGI u a0 2 34).bind fun y1 =>
    if y1 = 0 then
    f_X3_isCell_30 N b g a0 u
    else
    (uGI u a0 2 35).bind fun y3 =>
    (uGI u a0 2 36).bind fun y4 =>
    ucall (f_X3_within N b g u x1 0 ((y3 * y4) - 1)) fun r7 u5 =>
    if r7 = 0 then
    f_X3_isCell_30 N b g a0 u5
    else
    f_X3_isCell_31 N b g a0 u5 1
set_option maxHeartbeats 4000000 in
set_option maxRecDepth 100000 in
theorem zz_X3_isCell_0 {G : uG} {a0 : Nat} {uf : UH} {r : Int32} (N : Nat) (u : UH) (x1 : Int32) (h : f_X3_isCell N (ub G) (ug G) u a0 x1 = some (r, uf)) : uf.1 = u.1 ∧ uf.2.1 = u.2.1 := by
  unfold f_X3_isCell at h
  obtain ⟨y1, hy1, h⟩ := mbind_n h
  by_cases c2 : y1 = 0
  · have h := mif_t c2 h
    have hq := zz_X3_isCell_30 (G := G) (a0 := a0) N u h
    exact ⟨by omega, by omega⟩
  · have h := mif_f c2 h
    obtain ⟨y3, hy3, h⟩ := mbind_n h
    obtain ⟨y4, hy4, h⟩ := mbind_n h
    obtain ⟨r7, u5, c6, h⟩ := ucall_n h
    have zu5 := zz_X3_within N (ub G) (ug G) u x1 0 ((y3 * y4) - 1) r7 u5 c6
    by_cases c8 : r7 = 0
    · have h := mif_t c8 h
      have hq := zz_X3_isCell_30 (G := G) (a0 := a0) N u5 h
      exact ⟨by omega, by omega⟩
    · have h := mif_f c8 h
      have hq := zz_X3_isCell_31 (G := G) (a0 := a0) N u5 1 h
      exact ⟨by omega, by omega⟩
set_option maxHeartbeats 4000000 in
set_option maxRecDepth 100000 in
theorem w_X3_isCell_0 {p : Program} {l : Launch} {e : Env} {R : Room} {s : State} {m : MethodId} {args : Array Value} {below : List Frame} {meth : Method} {c : Code} {G : uG} {a0 : Nat} {uf : UH} {r : Int32} (hC : uC p s m args meth c G RX3 cX3_isCell 2 (some .boolean)) (hR : 1 ≤ R.frames ∧ 22 ≤ R.locals) (N : Nat) (u : UH) (x1 : Int32) (h : f_X3_isCell N (ub G) (ug G) u a0 x1 = some (r, uf)) {H : Heap} {locs : List Loc} (hP : uP G u H) (hS : va_S (uA G) s.heap H locs) {ls : Array Slot} (hl : lv_has ls 2 [(0, va_rf (some a0)), (1, .int x1)]) : W p l e R s m args below meth c H locs 0 0 (MQ below (uQi G r uf) args s 0 0 (uA G)) (F0 m 0 ls []) := by
  obtain ⟨⟨hx, hb, hml, hown, hts⟩, hKK⟩ := id hC
  unfold f_X3_isCell at h
  refine u_aload_n (r := some a0) hx hb dX3_isCell_0 rfl (lv_at hl 0 rfl) ?_
  obtain ⟨y1, hy1, h⟩ := mbind_n h
  refine u_get hC hP (uGI_n hy1) rfl in_X3 (by decide) q1927 (fun _ h => h) dX3_isCell_1 ?_
  refine lv_if_eq (tgt := 30) hx hb dX3_isCell_4 (by decide) (fun c2 => ?_) (fun c2 => ?_)
  · have h := mif_t c2 h
    exact w_X3_isCell_30 hC hR N u h hP hS (lv_sub hl [] rfl)
  · have h := mif_f c2 h
    refine lv_iload_n hx hb dX3_isCell_7 rfl (lv_at hl 1 rfl) ?_
    refine lv_iconst (v := 0) hx hb dX3_isCell_8 (by decide) ?_
    refine u_aload_n (r := some a0) hx hb dX3_isCell_9 rfl (lv_at hl 0 rfl) ?_
    obtain ⟨y3, hy3, h⟩ := mbind_n h
    refine u_get hC hP (uGI_n hy3) rfl in_X3 (by decide) q1928 (fun _ h => h) dX3_isCell_10 ?_
    refine u_aload_n (r := some a0) hx hb dX3_isCell_13 rfl (lv_at hl 0 rfl) ?_
    obtain ⟨y4, hy4, h⟩ := mbind_n h
    refine u_get hC hP (uGI_n hy4) rfl in_X3 (by decide) q1929 (fun _ h => h) dX3_isCell_14 ?_
    refine lv_imul hx hb dX3_isCell_17 ?_
    refine lv_iconst (v := 1) hx hb dX3_isCell_18 (by decide) ?_
    refine lv_isub hx hb dX3_isCell_19 ?_
    obtain ⟨r7, u5, c6, h⟩ := ucall_n h
    have zu5 := zz_X3_within N (ub G) (ug G) u x1 0 ((y3 * y4) - 1) r7 u5 c6
    refine u_calli (va_runS (As := [.int x1, .int 0, .int ((y3 * y4) - 1)]) (rest := []) hC.1 (met_X3_within l N G u x1 0 ((y3 * y4) - 1) r7 u5 c6) (va_cwS 3 hts (lw_S q2135 q2136 q103 q2137) rfl rfl rfl (by decide +kernel) ⟨Nat.le_trans (Nat.le_of_ble_eq_true rfl) hR.1, Nat.le_trans (Nat.le_of_ble_eq_true rfl) hR.2⟩) ⟨uPc_blind, fun U hU hW => u_pre hC hP hS hU hW⟩ rfl rfl hl.1 rfl (lv_room (Nat.le_of_ble_eq_true rfl)) dX3_isCell_20 ⟨Nat.zero_le _, Nat.zero_le _⟩) hS (fun H locs hP hS => ?_)
    refine lv_if_eq (tgt := 30) hx hb dX3_isCell_23 (by decide) (fun c8 => ?_) (fun c8 => ?_)
    · have h := mif_t c8 h
      exact w_X3_isCell_30 hC hR N u5 h hP hS (lv_sub hl [] rfl)
    · have h := mif_f c8 h
      refine lv_iconst (v := 1) hx hb dX3_isCell_26 (by decide) ?_
      refine lv_goto (tgt := 31) hx hb dX3_isCell_27 (by decide) ?_
      exact w_X3_isCell_31 hC hR N u5 1 h hP hS (lv_sub hl [] rfl)
theorem zz_X3_isCell (N b : Nat) (g : uEnv) (u : UH) (a0 : Nat) (x1 : Int32) (r : Int32) (uf : UH) (h : f_X3_isCell N b g u a0 x1 = some (r, uf)) : uf.1 = u.1 ∧ uf.2.1 = u.2.1 :=
  zz_X3_isCell_0 (G := ((fun _ => 0, fun _ _ => 0), fun _ => 0, b, g)) (a0 := a0) N u x1 h
theorem met_X3_isCell (l : Launch) (N : Nat) (G : uG) (u : UH) (a0 : Nat) (x1 : Int32) (r : Int32) (uf : UH) (h : f_X3_isCell N (ub G) (ug G) u a0 x1 = some (r, uf)) : Met l yX3_isCell (ws_ yX3_isCell cX3_isCell 2 (some .boolean)) ({ frames := 1, cells := 0, slots := 0, locals := 22 }) (uPc G u [.ref a0, .int x1]) (uQi G r uf) 0 0 (uA G) := by
  exact u_met (own := RX3) (by decide +kernel) rfl (Nat.le_of_ble_eq_true rfl) (fun hC hn hsz ls hl hP => w_X3_isCell_0 hC ⟨Nat.le_refl _, Nat.le_refl _⟩ N u x1 h hP va_S.rf hl)
def f_X3_lists_68 (N b : Nat) (g : uEnv) (a0 : Nat) (k2 : UH → Int32 → Option (UH)) (k19 : UH → Int32 → Int32 → Option (UH)) (u : UH) (x1 : Int32) (x2 : Int32) : Option (UH) :=
    mlet (x2 + 1) fun y1 =>
    k19 u x1 y1
set_option maxHeartbeats 4000000 in
set_option maxRecDepth 100000 in
theorem zz_X3_lists_68 {G : uG} {a0 : Nat} {uf : UH} (N : Nat) (k2 : UH → Int32 → Option (UH)) (hk2 : ∀ (u : UH) (x1 : Int32), k2 u x1 = some uf → uf.1 = u.1 ∧ uf.2.1 = u.2.1) (k19 : UH → Int32 → Int32 → Option (UH)) (hk19 : ∀ (u : UH) (x1 : Int32) (x2 : Int32), k19 u x1 x2 = some uf → uf.1 = u.1 ∧ uf.2.1 = u.2.1) (u : UH) (x1 : Int32) (x2 : Int32) (h : f_X3_lists_68 N (ub G) (ug G) a0 k2 k19 u x1 x2 = some uf) : uf.1 = u.1 ∧ uf.2.1 = u.2.1 := by
  unfold f_X3_lists_68 at h
  obtain ⟨y1, ey1⟩ : ∃ z : Int32, z = x2 + 1 := ⟨_, rfl⟩
  have h := mlet_at ey1 h
  have hq := hk19 u x1 y1 h
  exact ⟨by omega, by omega⟩
set_option maxHeartbeats 4000000 in
set_option maxRecDepth 100000 in
theorem w_X3_lists_68 {p : Program} {l : Launch} {e : Env} {R : Room} {s : State} {m : MethodId} {args : Array Value} {below : List Frame} {meth : Method} {c : Code} {G : uG} {a0 : Nat} {uf : UH} (hC : uC p s m args meth c G RX3 cX3_lists 3 none) (hR : 0 ≤ R.frames ∧ 0 ≤ R.locals) (N : Nat) (k2 : UH → Int32 → Option (UH)) (hk2 : ∀ (u : UH) (x1 : Int32), k2 u x1 = some uf → ∀ (H : Heap) (locs : List Loc), uP G u H → va_S (uA G) s.heap H locs → ∀ ls : Array Slot, lv_has ls 3 [(0, va_rf (some a0)), (1, .int x1)] → W p l e R s m args below meth c H locs 0 0 (MQ below (uQv G uf) args s 0 0 (uA G)) (F0 m 2 ls [])) (k19 : UH → Int32 → Int32 → Option (UH)) (hk19 : ∀ (u : UH) (x1 : Int32) (x2 : Int32), k19 u x1 x2 = some uf → ∀ (H : Heap) (locs : List Loc), uP G u H → va_S (uA G) s.heap H locs → ∀ ls : Array Slot, lv_has ls 3 [(0, va_rf (some a0)), (1, .int x1), (2, .int x2)] → W p l e R s m args below meth c H locs 0 0 (MQ below (uQv G uf) args s 0 0 (uA G)) (F0 m 19 ls [])) (u : UH) (x1 : Int32) (x2 : Int32) (h : f_X3_lists_68 N (ub G) (ug G) a0 k2 k19 u x1 x2 = some uf) {H : Heap} {locs : List Loc} (hP : uP G u H) (hS : va_S (uA G) s.heap H locs) {ls : Array Slot} (hl : lv_has ls 3 [(0, va_rf (some a0)), (1, .int x1), (2, .int x2)]) : W p l e R s m args below meth c H locs 0 0 (MQ below (uQv G uf) args s 0 0 (uA G)) (F0 m 68 ls []) := by
  obtain ⟨⟨hx, hb, hml, hown, hts⟩, hKK⟩ := id hC
  unfold f_X3_lists_68 at h
  obtain ⟨y1, ey1⟩ : ∃ z : Int32, z = x2 + 1 := ⟨_, rfl⟩
  have h := mlet_at ey1 h
  refine lv_iinc (v := y1) (lv' := [(2, .int y1), (0, va_rf (some a0)), (1, .int x1)]) hx hb dX3_lists_68 hl (k := 2) rfl (by rw [ey1]; rfl) (by decide) rfl (fun ls hl => ?_)
  refine lv_goto (tgt := 19) hx hb dX3_lists_71 (by decide) ?_
  exact hk19 u x1 y1 h _ _ hP hS _ (lv_sub hl [1, 2, 0] rfl)
def f_X3_lists_19 (N b : Nat) (g : uEnv) (a0 : Nat) (k2 : UH → Int32 → Option (UH)) : Nat → UH → Int32 → Int32 → Option (UH)
  | 0, _, _, _ => none
  | n + 1, u, x1, x2 =>
    if 8 ≤ x2 then
    mlet (x1 + 1) fun y2 =>
    k2 u y2
    else
    (uGR u a0 2 46).bind fun o3 =>
    (o3).bind fun a4 =>
    (uLdI u a4 0 ((8 * x1) + x2)).bind fun y5 =>
    if y5 = 0 then
    f_X3_lists_68 N b g a0 k2 (f_X3_lists_19 N b g a0 k2 n) u x1 x2
    else
    (uGR u a0 2 52).bind fun o7 =>
    (uGR u a0 2 53).bind fun o8 =>
    (o8).bind fun a9 =>
    (uLdI u a9 0 x1).bind fun y10 =>
    (o7).bind fun a11 =>
    (uStI b u a11 0 ((4 * x1) + y10) x2).bind fun u12 =>
    (uGR u12 a0 2 53).bind fun o13 =>
    (o13).bind fun a14 =>
    (uLdI u12 a14 0 x1).bind fun y15 =>
    (uStI b u12 a14 0 x1 (y15 + 1)).bind fun u16 =>
    f_X3_lists_68 N b g a0 k2 (f_X3_lists_19 N b g a0 k2 n) u16 x1 x2
set_option maxHeartbeats 4000000 in
set_option maxRecDepth 100000 in
theorem zz_X3_lists_19 {G : uG} {a0 : Nat} {uf : UH} (N : Nat) (k2 : UH → Int32 → Option (UH)) (hk2 : ∀ (u : UH) (x1 : Int32), k2 u x1 = some uf → uf.1 = u.1 ∧ uf.2.1 = u.2.1) : ∀ (n : Nat) (u : UH) (x1 : Int32) (x2 : Int32), f_X3_lists_19 N (ub G) (ug G) a0 k2 n u x1 x2 = some uf → uf.1 = u.1 ∧ uf.2.1 = u.2.1 := by
  intro n
  induction n with
  | zero =>
    intro u x1 x2 h
    cases h
  | succ n ih =>
    intro u x1 x2 h
    unfold f_X3_lists_19 at h
    by_cases c1 : 8 ≤ x2
    · have h := mif_t c1 h
      obtain ⟨y2, ey2⟩ : ∃ z : Int32, z = x1 + 1 := ⟨_, rfl⟩
      have h := mlet_at ey2 h
      have hq := hk2 u y2 h
      exact ⟨by omega, by omega⟩
    · have h := mif_f c1 h
      obtain ⟨o3, ho3, h⟩ := mbind_n h
      obtain ⟨a4, ha4, hha4⟩ := mbind_n h
      subst ha4
      have h := hha4
      obtain ⟨y5, hy5, h⟩ := mbind_n h
      by_cases c6 : y5 = 0
      · have h := mif_t c6 h
        have hq := zz_X3_lists_68 (G := G) (a0 := a0) N k2 hk2 (f_X3_lists_19 N (ub G) (ug G) a0 k2 n) ih u x1 x2 h
        exact ⟨by omega, by omega⟩
      · have h := mif_f c6 h
        obtain ⟨o7, ho7, h⟩ := mbind_n h
        obtain ⟨o8, ho8, h⟩ := mbind_n h
        obtain ⟨a9, ha9, hha9⟩ := mbind_n h
        subst ha9
        have h := hha9
        obtain ⟨y10, hy10, h⟩ := mbind_n h
        obtain ⟨a11, ha11, hha11⟩ := mbind_n h
        subst ha11
        have h := hha11
        obtain ⟨u12, hu12, h⟩ := mbind_n h
        have zu12 := uStI_sz hu12
        obtain ⟨o13, ho13, h⟩ := mbind_n h
        obtain ⟨a14, ha14, hha14⟩ := mbind_n h
        subst ha14
        have h := hha14
        obtain ⟨y15, hy15, h⟩ := mbind_n h
        obtain ⟨u16, hu16, h⟩ := mbind_n h
        have zu16 := uStI_sz hu16
        have hq := zz_X3_lists_68 (G := G) (a0 := a0) N k2 hk2 (f_X3_lists_19 N (ub G) (ug G) a0 k2 n) ih u16 x1 x2 h
        exact ⟨by omega, by omega⟩
set_option maxHeartbeats 4000000 in
set_option maxRecDepth 100000 in
theorem w_X3_lists_19 {p : Program} {l : Launch} {e : Env} {R : Room} {s : State} {m : MethodId} {args : Array Value} {below : List Frame} {meth : Method} {c : Code} {G : uG} {a0 : Nat} {uf : UH} (hC : uC p s m args meth c G RX3 cX3_lists 3 none) (hR : 0 ≤ R.frames ∧ 0 ≤ R.locals) (N : Nat) (k2 : UH → Int32 → Option (UH)) (hk2 : ∀ (u : UH) (x1 : Int32), k2 u x1 = some uf → ∀ (H : Heap) (locs : List Loc), uP G u H → va_S (uA G) s.heap H locs → ∀ ls : Array Slot, lv_has ls 3 [(0, va_rf (some a0)), (1, .int x1)] → W p l e R s m args below meth c H locs 0 0 (MQ below (uQv G uf) args s 0 0 (uA G)) (F0 m 2 ls [])) : ∀ (n : Nat) (u : UH) (x1 : Int32) (x2 : Int32), f_X3_lists_19 N (ub G) (ug G) a0 k2 n u x1 x2 = some uf → ∀ (H : Heap) (locs : List Loc), uP G u H → va_S (uA G) s.heap H locs → ∀ ls : Array Slot, lv_has ls 3 [(0, va_rf (some a0)), (1, .int x1), (2, .int x2)] → W p l e R s m args below meth c H locs 0 0 (MQ below (uQv G uf) args s 0 0 (uA G)) (F0 m 19 ls []) := by
  obtain ⟨⟨hx, hb, hml, hown, hts⟩, hKK⟩ := id hC
  intro n
  induction n with
  | zero =>
    intro u x1 x2 h
    cases h
  | succ n ih =>
    intro u x1 x2 h H locs hP hS ls hl
    unfold f_X3_lists_19 at h
    refine lv_iload_n hx hb dX3_lists_19 rfl (lv_at hl 2 rfl) ?_
    refine lv_bipush (v := 8) hx hb dX3_lists_20 (by decide) ?_
    refine lv_icmp_ge (tgt := 74) hx hb dX3_lists_22 (by decide) (fun c1 => ?_) (fun c1 => ?_)
    · have h := mif_t c1 h
      obtain ⟨y2, ey2⟩ : ∃ z : Int32, z = x1 + 1 := ⟨_, rfl⟩
      have h := mlet_at ey2 h
      refine lv_iinc (v := y2) (lv' := [(1, .int y2), (0, va_rf (some a0)), (2, .int x2)]) hx hb dX3_lists_74 hl (k := 1) rfl (by rw [ey2]; rfl) (by decide) rfl (fun ls hl => ?_)
      refine lv_goto (tgt := 2) hx hb dX3_lists_77 (by decide) ?_
      exact hk2 u y2 h _ _ hP hS _ (lv_sub hl [1, 0] rfl)
    · have h := mif_f c1 h
      refine u_aload_n (r := some a0) hx hb dX3_lists_25 rfl (lv_at hl 0 rfl) ?_
      obtain ⟨o3, ho3, h⟩ := mbind_n h
      refine u_get hC hP (uGR_n ho3) rfl in_X3 (by decide) q1939 (fun _ h => h) dX3_lists_26 ?_
      refine lv_bipush (v := 8) hx hb dX3_lists_29 (by decide) ?_
      refine lv_iload_n hx hb dX3_lists_31 rfl (lv_at hl 1 rfl) ?_
      refine lv_imul hx hb dX3_lists_32 ?_
      refine lv_iload_n hx hb dX3_lists_33 rfl (lv_at hl 2 rfl) ?_
      refine lv_iadd hx hb dX3_lists_34 ?_
      obtain ⟨a4, ha4, hha4⟩ := mbind_n h
      subst ha4
      have h := hha4
      obtain ⟨y5, hy5, h⟩ := mbind_n h
      refine u_iald hC hP hy5 rfl dX3_lists_35 ?_
      refine lv_if_ne (tgt := 42) hx hb dX3_lists_36 (by decide) (fun c6 => ?_) (fun c6 => ?_)
      · have h := mif_f c6 h
        refine u_aload_n (r := some a0) hx hb dX3_lists_42 rfl (lv_at hl 0 rfl) ?_
        obtain ⟨o7, ho7, h⟩ := mbind_n h
        refine u_get hC hP (uGR_n ho7) rfl in_X3 (by decide) q1945 (fun _ h => h) dX3_lists_43 ?_
        refine lv_iconst (v := 4) hx hb dX3_lists_46 (by decide) ?_
        refine lv_iload_n hx hb dX3_lists_47 rfl (lv_at hl 1 rfl) ?_
        refine lv_imul hx hb dX3_lists_48 ?_
        refine u_aload_n (r := some a0) hx hb dX3_lists_49 rfl (lv_at hl 0 rfl) ?_
        obtain ⟨o8, ho8, h⟩ := mbind_n h
        refine u_get hC hP (uGR_n ho8) rfl in_X3 (by decide) q1946 (fun _ h => h) dX3_lists_50 ?_
        refine lv_iload_n hx hb dX3_lists_53 rfl (lv_at hl 1 rfl) ?_
        obtain ⟨a9, ha9, hha9⟩ := mbind_n h
        subst ha9
        have h := hha9
        obtain ⟨y10, hy10, h⟩ := mbind_n h
        refine u_iald hC hP hy10 rfl dX3_lists_54 ?_
        refine lv_iadd hx hb dX3_lists_55 ?_
        refine lv_iload_n hx hb dX3_lists_56 rfl (lv_at hl 2 rfl) ?_
        obtain ⟨a11, ha11, hha11⟩ := mbind_n h
        subst ha11
        have h := hha11
        obtain ⟨u12, hu12, h⟩ := mbind_n h
        have zu12 := uStI_sz hu12
        refine u_iast hC hP hS hu12 rfl dX3_lists_57 (fun H locs hP hS => ?_)
        refine u_aload_n (r := some a0) hx hb dX3_lists_58 rfl (lv_at hl 0 rfl) ?_
        obtain ⟨o13, ho13, h⟩ := mbind_n h
        refine u_get hC hP (uGR_n ho13) rfl in_X3 (by decide) q1946 (fun _ h => h) dX3_lists_59 ?_
        refine lv_iload_n hx hb dX3_lists_62 rfl (lv_at hl 1 rfl) ?_
        refine lv_dup2_11 hx hb dX3_lists_63 rfl (u_cat _) ?_
        obtain ⟨a14, ha14, hha14⟩ := mbind_n h
        subst ha14
        have h := hha14
        obtain ⟨y15, hy15, h⟩ := mbind_n h
        refine u_iald hC hP hy15 rfl dX3_lists_64 ?_
        refine lv_iconst (v := 1) hx hb dX3_lists_65 (by decide) ?_
        refine lv_iadd hx hb dX3_lists_66 ?_
        obtain ⟨u16, hu16, h⟩ := mbind_n h
        have zu16 := uStI_sz hu16
        refine u_iast hC hP hS hu16 rfl dX3_lists_67 (fun H locs hP hS => ?_)
        exact w_X3_lists_68 hC hR N k2 hk2 (f_X3_lists_19 N (ub G) (ug G) a0 k2 n) ih u16 x1 x2 h hP hS (lv_sub hl [0, 1, 2] rfl)
      · have h := mif_t c6 h
        refine lv_goto (tgt := 68) hx hb dX3_lists_39 (by decide) ?_
        exact w_X3_lists_68 hC hR N k2 hk2 (f_X3_lists_19 N (ub G) (ug G) a0 k2 n) ih u x1 x2 h hP hS (lv_sub hl [0, 1, 2] rfl)
def f_X3_lists_2 (N b : Nat) (g : uEnv) (a0 : Nat) : Nat → UH → Int32 → Option (UH)
  | 0, _, _ => none
  | n + 1, u, x1 =>
    (uGI u a0 2 37).bind fun y1 =>
    if y1 ≤ x1 then
    some u
    else
    (uGR u a0 2 53).bind fun o3 =>
    (o3).bind fun a4 =>
    (uStI b u a4 0 x1 0).bind fun u5 =>
    f_X3_lists_19 N b g a0 (f_X3_lists_2 N b g a0 n) N u5 x1 0
set_option maxHeartbeats 4000000 in
set_option maxRecDepth 100000 in
theorem zz_X3_lists_2 {G : uG} {a0 : Nat} {uf : UH} (N : Nat) : ∀ (n : Nat) (u : UH) (x1 : Int32), f_X3_lists_2 N (ub G) (ug G) a0 n u x1 = some uf → uf.1 = u.1 ∧ uf.2.1 = u.2.1 := by
  intro n
  induction n with
  | zero =>
    intro u x1 h
    cases h
  | succ n ih =>
    intro u x1 h
    unfold f_X3_lists_2 at h
    obtain ⟨y1, hy1, h⟩ := mbind_n h
    by_cases c2 : y1 ≤ x1
    · have h := mif_t c2 h
      cases h
      exact ⟨by omega, by omega⟩
    · have h := mif_f c2 h
      obtain ⟨o3, ho3, h⟩ := mbind_n h
      obtain ⟨a4, ha4, hha4⟩ := mbind_n h
      subst ha4
      have h := hha4
      obtain ⟨u5, hu5, h⟩ := mbind_n h
      have zu5 := uStI_sz hu5
      have hq := zz_X3_lists_19 (G := G) (a0 := a0) N (f_X3_lists_2 N (ub G) (ug G) a0 n) ih N u5 x1 0 h
      exact ⟨by omega, by omega⟩
set_option maxHeartbeats 4000000 in
set_option maxRecDepth 100000 in
theorem w_X3_lists_2 {p : Program} {l : Launch} {e : Env} {R : Room} {s : State} {m : MethodId} {args : Array Value} {below : List Frame} {meth : Method} {c : Code} {G : uG} {a0 : Nat} {uf : UH} (hC : uC p s m args meth c G RX3 cX3_lists 3 none) (hR : 0 ≤ R.frames ∧ 0 ≤ R.locals) (N : Nat) : ∀ (n : Nat) (u : UH) (x1 : Int32), f_X3_lists_2 N (ub G) (ug G) a0 n u x1 = some uf → ∀ (H : Heap) (locs : List Loc), uP G u H → va_S (uA G) s.heap H locs → ∀ ls : Array Slot, lv_has ls 3 [(0, va_rf (some a0)), (1, .int x1)] → W p l e R s m args below meth c H locs 0 0 (MQ below (uQv G uf) args s 0 0 (uA G)) (F0 m 2 ls []) := by
  obtain ⟨⟨hx, hb, hml, hown, hts⟩, hKK⟩ := id hC
  intro n
  induction n with
  | zero =>
    intro u x1 h
    cases h
  | succ n ih =>
    intro u x1 h H locs hP hS ls hl
    unfold f_X3_lists_2 at h
    refine lv_iload_n hx hb dX3_lists_2 rfl (lv_at hl 1 rfl) ?_
    refine u_aload_n (r := some a0) hx hb dX3_lists_3 rfl (lv_at hl 0 rfl) ?_
    obtain ⟨y1, hy1, h⟩ := mbind_n h
    refine u_get hC hP (uGI_n hy1) rfl in_X3 (by decide) q1930 (fun _ h => h) dX3_lists_4 ?_
    refine lv_icmp_ge (tgt := 80) hx hb dX3_lists_7 (by decide) (fun c2 => ?_) (fun c2 => ?_)
    · have h := mif_t c2 h
      cases h
      exact u_vret hC hP hS dX3_lists_80
    · have h := mif_f c2 h
      refine u_aload_n (r := some a0) hx hb dX3_lists_10 rfl (lv_at hl 0 rfl) ?_
      obtain ⟨o3, ho3, h⟩ := mbind_n h
      refine u_get hC hP (uGR_n ho3) rfl in_X3 (by decide) q1946 (fun _ h => h) dX3_lists_11 ?_
      refine lv_iload_n hx hb dX3_lists_14 rfl (lv_at hl 1 rfl) ?_
      refine lv_iconst (v := 0) hx hb dX3_lists_15 (by decide) ?_
      obtain ⟨a4, ha4, hha4⟩ := mbind_n h
      subst ha4
      have h := hha4
      obtain ⟨u5, hu5, h⟩ := mbind_n h
      have zu5 := uStI_sz hu5
      refine u_iast hC hP hS hu5 rfl dX3_lists_16 (fun H locs hP hS => ?_)
      refine lv_iconst (v := 0) hx hb dX3_lists_17 (by decide) ?_
      refine lv_istore_n (i := 2) (lv' := [(2, .int 0), (0, va_rf (some a0)), (1, .int x1)]) hx hb dX3_lists_18 rfl hl (by decide) rfl (fun ls hl => ?_)
      exact w_X3_lists_19 hC hR N (f_X3_lists_2 N (ub G) (ug G) a0 n) ih N u5 x1 0 h _ _ hP hS _ (lv_sub hl [1, 2, 0] rfl)
def f_X3_lists (N b : Nat) (g : uEnv) (u : UH) (a0 : Nat) : Option (UH) :=
    f_X3_lists_2 N b g a0 N u 0
set_option maxHeartbeats 4000000 in
set_option maxRecDepth 100000 in
theorem zz_X3_lists_0 {G : uG} {a0 : Nat} {uf : UH} (N : Nat) (u : UH) (h : f_X3_lists N (ub G) (ug G) u a0 = some uf) : uf.1 = u.1 ∧ uf.2.1 = u.2.1 := by
  unfold f_X3_lists at h
  have hq := zz_X3_lists_2 (G := G) (a0 := a0) N N u 0 h
  exact ⟨by omega, by omega⟩
set_option maxHeartbeats 4000000 in
set_option maxRecDepth 100000 in
theorem w_X3_lists_0 {p : Program} {l : Launch} {e : Env} {R : Room} {s : State} {m : MethodId} {args : Array Value} {below : List Frame} {meth : Method} {c : Code} {G : uG} {a0 : Nat} {uf : UH} (hC : uC p s m args meth c G RX3 cX3_lists 3 none) (hR : 0 ≤ R.frames ∧ 0 ≤ R.locals) (N : Nat) (u : UH) (h : f_X3_lists N (ub G) (ug G) u a0 = some uf) {H : Heap} {locs : List Loc} (hP : uP G u H) (hS : va_S (uA G) s.heap H locs) {ls : Array Slot} (hl : lv_has ls 3 [(0, va_rf (some a0))]) : W p l e R s m args below meth c H locs 0 0 (MQ below (uQv G uf) args s 0 0 (uA G)) (F0 m 0 ls []) := by
  obtain ⟨⟨hx, hb, hml, hown, hts⟩, hKK⟩ := id hC
  unfold f_X3_lists at h
  refine lv_iconst (v := 0) hx hb dX3_lists_0 (by decide) ?_
  refine lv_istore_n (i := 1) (lv' := [(1, .int 0), (0, va_rf (some a0))]) hx hb dX3_lists_1 rfl hl (by decide) rfl (fun ls hl => ?_)
  exact w_X3_lists_2 hC hR N N u 0 h _ _ hP hS _ (lv_sub hl [1, 0] rfl)
theorem zz_X3_lists (N b : Nat) (g : uEnv) (u : UH) (a0 : Nat) (uf : UH) (h : f_X3_lists N b g u a0 = some uf) : uf.1 = u.1 ∧ uf.2.1 = u.2.1 :=
  zz_X3_lists_0 (G := ((fun _ => 0, fun _ _ => 0), fun _ => 0, b, g)) (a0 := a0) N u h
theorem met_X3_lists (l : Launch) (N : Nat) (G : uG) (u : UH) (a0 : Nat) (uf : UH) (h : f_X3_lists N (ub G) (ug G) u a0 = some uf) : Met l yX3_lists (ws_ yX3_lists cX3_lists 3 none) ({ frames := 0, cells := 0, slots := 0, locals := 0 }) (uPc G u [.ref a0]) (uQv G uf) 0 0 (uA G) := by
  exact u_met (own := RX3) (by decide +kernel) rfl (Nat.le_of_ble_eq_true rfl) (fun hC hn hsz ls hl hP => w_X3_lists_0 hC ⟨Nat.le_refl _, Nat.le_refl _⟩ N u h hP va_S.rf hl)
def f_X3_truthMany_34 (N b : Nat) (g : uEnv) (a0 : Nat) (k4 : UH → Int32 → Int32 → Option (Int32 × UH)) (u : UH) (x2 : Int32) (s0 : Int32) : Option (Int32 × UH) :=
    mlet (x2 + 1) fun y1 =>
    k4 u s0 y1
set_option maxHeartbeats 4000000 in
set_option maxRecDepth 100000 in
theorem zz_X3_truthMany_34 {G : uG} {a0 : Nat} {uf : UH} {r : Int32} (N : Nat) (k4 : UH → Int32 → Int32 → Option (Int32 × UH)) (hk4 : ∀ (u : UH) (x1 : Int32) (x2 : Int32), k4 u x1 x2 = some (r, uf) → uf.1 = u.1 ∧ uf.2.1 = u.2.1) (u : UH) (x2 : Int32) (s0 : Int32) (h : f_X3_truthMany_34 N (ub G) (ug G) a0 k4 u x2 s0 = some (r, uf)) : uf.1 = u.1 ∧ uf.2.1 = u.2.1 := by
  unfold f_X3_truthMany_34 at h
  obtain ⟨y1, ey1⟩ : ∃ z : Int32, z = x2 + 1 := ⟨_, rfl⟩
  have h := mlet_at ey1 h
  have hq := hk4 u s0 y1 h
  exact ⟨by omega, by omega⟩
set_option maxHeartbeats 4000000 in
set_option maxRecDepth 100000 in
theorem w_X3_truthMany_34 {p : Program} {l : Launch} {e : Env} {R : Room} {s : State} {m : MethodId} {args : Array Value} {below : List Frame} {meth : Method} {c : Code} {G : uG} {a0 : Nat} {uf : UH} {r : Int32} (hC : uC p s m args meth c G RX3 cX3_truthMany 3 (some .int)) (hR : 0 ≤ R.frames ∧ 0 ≤ R.locals) (N : Nat) (k4 : UH → Int32 → Int32 → Option (Int32 × UH)) (hk4 : ∀ (u : UH) (x1 : Int32) (x2 : Int32), k4 u x1 x2 = some (r, uf) → ∀ (H : Heap) (locs : List Loc), uP G u H → va_S (uA G) s.heap H locs → ∀ ls : Array Slot, lv_has ls 3 [(0, va_rf (some a0)), (1, .int x1), (2, .int x2)] → W p l e R s m args below meth c H locs 0 0 (MQ below (uQi G r uf) args s 0 0 (uA G)) (F0 m 4 ls [])) (u : UH) (x2 : Int32) (s0 : Int32) (h : f_X3_truthMany_34 N (ub G) (ug G) a0 k4 u x2 s0 = some (r, uf)) {H : Heap} {locs : List Loc} (hP : uP G u H) (hS : va_S (uA G) s.heap H locs) {ls : Array Slot} (hl : lv_has ls 3 [(0, va_rf (some a0)), (2, .int x2)]) : W p l e R s m args below meth c H locs 0 0 (MQ below (uQi G r uf) args s 0 0 (uA G)) (F0 m 34 ls [.int s0]) := by
  obtain ⟨⟨hx, hb, hml, hown, hts⟩, hKK⟩ := id hC
  unfold f_X3_truthMany_34 at h
  refine lv_istore_n (i := 1) (lv' := [(1, .int s0), (0, va_rf (some a0)), (2, .int x2)]) hx hb dX3_truthMany_34 rfl hl (by decide) rfl (fun ls hl => ?_)
  obtain ⟨y1, ey1⟩ : ∃ z : Int32, z = x2 + 1 := ⟨_, rfl⟩
  have h := mlet_at ey1 h
  refine lv_iinc (v := y1) (lv' := [(2, .int y1), (1, .int s0), (0, va_rf (some a0))]) hx hb dX3_truthMany_35 hl (k := 2) rfl (by rw [ey1]; rfl) (by decide) rfl (fun ls hl => ?_)
  refine lv_goto (tgt := 4) hx hb dX3_truthMany_38 (by decide) ?_
  exact hk4 u s0 y1 h _ _ hP hS _ (lv_sub hl [2, 1, 0] rfl)
def f_X3_truthMany_4 (N b : Nat) (g : uEnv) (a0 : Nat) : Nat → UH → Int32 → Int32 → Option (Int32 × UH)
  | 0, _, _, _ => none
  | n + 1, u, x1, x2 =>
    (uGI u a0 2 37).bind fun y1 =>
    if y1 ≤ x2 then
    some (x1, u)
    else
    (uGR u a0 2 45).bind fun o3 =>
    (o3).bind fun a4 =>
    (uLdI u a4 0 x2).bind fun y5 =>
    if y5 = (-1) then
    (uGR u a0 2 53).bind fun o7 =>
    (o7).bind fun a8 =>
    (uLdI u a8 0 x2).bind fun y9 =>
    f_X3_truthMany_34 N b g a0 (f_X3_truthMany_4 N b g a0 n) u x2 (x1 * y9)
    else
    f_X3_truthMany_34 N b g a0 (f_X3_truthMany_4 N b g a0 n) u x2 x1
set_option maxHeartbeats 4000000 in
set_option maxRecDepth 100000 in
theorem zz_X3_truthMany_4 {G : uG} {a0 : Nat} {uf : UH} {r : Int32} (N : Nat) : ∀ (n : Nat) (u : UH) (x1 : Int32) (x2 : Int32), f_X3_truthMany_4 N (ub G) (ug G) a0 n u x1 x2 = some (r, uf) → uf.1 = u.1 ∧ uf.2.1 = u.2.1 := by
  intro n
  induction n with
  | zero =>
    intro u x1 x2 h
    cases h
  | succ n ih =>
    intro u x1 x2 h
    unfold f_X3_truthMany_4 at h
    obtain ⟨y1, hy1, h⟩ := mbind_n h
    by_cases c2 : y1 ≤ x2
    · have h := mif_t c2 h
      obtain ⟨hr1, hr2⟩ := uret_n h
      subst hr2
      exact ⟨by omega, by omega⟩
    · have h := mif_f c2 h
      obtain ⟨o3, ho3, h⟩ := mbind_n h
      obtain ⟨a4, ha4, hha4⟩ := mbind_n h
      subst ha4
      have h := hha4
      obtain ⟨y5, hy5, h⟩ := mbind_n h
      by_cases c6 : y5 = (-1)
      · have h := mif_t c6 h
        obtain ⟨o7, ho7, h⟩ := mbind_n h
        obtain ⟨a8, ha8, hha8⟩ := mbind_n h
        subst ha8
        have h := hha8
        obtain ⟨y9, hy9, h⟩ := mbind_n h
        have hq := zz_X3_truthMany_34 (G := G) (a0 := a0) N (f_X3_truthMany_4 N (ub G) (ug G) a0 n) ih u x2 (x1 * y9) h
        exact ⟨by omega, by omega⟩
      · have h := mif_f c6 h
        have hq := zz_X3_truthMany_34 (G := G) (a0 := a0) N (f_X3_truthMany_4 N (ub G) (ug G) a0 n) ih u x2 x1 h
        exact ⟨by omega, by omega⟩
set_option maxHeartbeats 4000000 in
set_option maxRecDepth 100000 in
theorem w_X3_truthMany_4 {p : Program} {l : Launch} {e : Env} {R : Room} {s : State} {m : MethodId} {args : Array Value} {below : List Frame} {meth : Method} {c : Code} {G : uG} {a0 : Nat} {uf : UH} {r : Int32} (hC : uC p s m args meth c G RX3 cX3_truthMany 3 (some .int)) (hR : 0 ≤ R.frames ∧ 0 ≤ R.locals) (N : Nat) : ∀ (n : Nat) (u : UH) (x1 : Int32) (x2 : Int32), f_X3_truthMany_4 N (ub G) (ug G) a0 n u x1 x2 = some (r, uf) → ∀ (H : Heap) (locs : List Loc), uP G u H → va_S (uA G) s.heap H locs → ∀ ls : Array Slot, lv_has ls 3 [(0, va_rf (some a0)), (1, .int x1), (2, .int x2)] → W p l e R s m args below meth c H locs 0 0 (MQ below (uQi G r uf) args s 0 0 (uA G)) (F0 m 4 ls []) := by
  obtain ⟨⟨hx, hb, hml, hown, hts⟩, hKK⟩ := id hC
  intro n
  induction n with
  | zero =>
    intro u x1 x2 h
    cases h
  | succ n ih =>
    intro u x1 x2 h H locs hP hS ls hl
    unfold f_X3_truthMany_4 at h
    refine lv_iload_n hx hb dX3_truthMany_4 rfl (lv_at hl 2 rfl) ?_
    refine u_aload_n (r := some a0) hx hb dX3_truthMany_5 rfl (lv_at hl 0 rfl) ?_
    obtain ⟨y1, hy1, h⟩ := mbind_n h
    refine u_get hC hP (uGI_n hy1) rfl in_X3 (by decide) q1930 (fun _ h => h) dX3_truthMany_6 ?_
    refine lv_icmp_ge (tgt := 41) hx hb dX3_truthMany_9 (by decide) (fun c2 => ?_) (fun c2 => ?_)
    · have h := mif_t c2 h
      refine lv_iload_n hx hb dX3_truthMany_41 rfl (lv_at hl 1 rfl) ?_
      obtain ⟨hr1, hr2⟩ := uret_n h
      subst hr1
      subst hr2
      exact u_iret hC hP hS dX3_truthMany_42
    · have h := mif_f c2 h
      refine u_aload_n (r := some a0) hx hb dX3_truthMany_12 rfl (lv_at hl 0 rfl) ?_
      obtain ⟨o3, ho3, h⟩ := mbind_n h
      refine u_get hC hP (uGR_n ho3) rfl in_X3 (by decide) q1938 (fun _ h => h) dX3_truthMany_13 ?_
      refine lv_iload_n hx hb dX3_truthMany_16 rfl (lv_at hl 2 rfl) ?_
      obtain ⟨a4, ha4, hha4⟩ := mbind_n h
      subst ha4
      have h := hha4
      obtain ⟨y5, hy5, h⟩ := mbind_n h
      refine u_iald hC hP hy5 rfl dX3_truthMany_17 ?_
      refine lv_iconst (v := (-1)) hx hb dX3_truthMany_18 (by decide) ?_
      refine lv_icmp_ne (tgt := 33) hx hb dX3_truthMany_19 (by decide) (fun c6 => ?_) (fun c6 => ?_)
      · have h := mif_f c6 h
        refine lv_iload_n hx hb dX3_truthMany_33 rfl (lv_at hl 1 rfl) ?_
        exact w_X3_truthMany_34 hC hR N (f_X3_truthMany_4 N (ub G) (ug G) a0 n) ih u x2 x1 h hP hS (lv_sub hl [0, 2] rfl)
      · have h := mif_t c6 h
        refine lv_iload_n hx hb dX3_truthMany_22 rfl (lv_at hl 1 rfl) ?_
        refine u_aload_n (r := some a0) hx hb dX3_truthMany_23 rfl (lv_at hl 0 rfl) ?_
        obtain ⟨o7, ho7, h⟩ := mbind_n h
        refine u_get hC hP (uGR_n ho7) rfl in_X3 (by decide) q1946 (fun _ h => h) dX3_truthMany_24 ?_
        refine lv_iload_n hx hb dX3_truthMany_27 rfl (lv_at hl 2 rfl) ?_
        obtain ⟨a8, ha8, hha8⟩ := mbind_n h
        subst ha8
        have h := hha8
        obtain ⟨y9, hy9, h⟩ := mbind_n h
        refine u_iald hC hP hy9 rfl dX3_truthMany_28 ?_
        refine lv_imul hx hb dX3_truthMany_29 ?_
        refine lv_goto (tgt := 34) hx hb dX3_truthMany_30 (by decide) ?_
        exact w_X3_truthMany_34 hC hR N (f_X3_truthMany_4 N (ub G) (ug G) a0 n) ih u x2 (x1 * y9) h hP hS (lv_sub hl [0, 2] rfl)
def f_X3_truthMany (N b : Nat) (g : uEnv) (u : UH) (a0 : Nat) : Option (Int32 × UH) :=
    f_X3_truthMany_4 N b g a0 N u 1 0
set_option maxHeartbeats 4000000 in
set_option maxRecDepth 100000 in
theorem zz_X3_truthMany_0 {G : uG} {a0 : Nat} {uf : UH} {r : Int32} (N : Nat) (u : UH) (h : f_X3_truthMany N (ub G) (ug G) u a0 = some (r, uf)) : uf.1 = u.1 ∧ uf.2.1 = u.2.1 := by
  unfold f_X3_truthMany at h
  have hq := zz_X3_truthMany_4 (G := G) (a0 := a0) N N u 1 0 h
  exact ⟨by omega, by omega⟩
set_option maxHeartbeats 4000000 in
set_option maxRecDepth 100000 in
theorem w_X3_truthMany_0 {p : Program} {l : Launch} {e : Env} {R : Room} {s : State} {m : MethodId} {args : Array Value} {below : List Frame} {meth : Method} {c : Code} {G : uG} {a0 : Nat} {uf : UH} {r : Int32} (hC : uC p s m args meth c G RX3 cX3_truthMany 3 (some .int)) (hR : 0 ≤ R.frames ∧ 0 ≤ R.locals) (N : Nat) (u : UH) (h : f_X3_truthMany N (ub G) (ug G) u a0 = some (r, uf)) {H : Heap} {locs : List Loc} (hP : uP G u H) (hS : va_S (uA G) s.heap H locs) {ls : Array Slot} (hl : lv_has ls 3 [(0, va_rf (some a0))]) : W p l e R s m args below meth c H locs 0 0 (MQ below (uQi G r uf) args s 0 0 (uA G)) (F0 m 0 ls []) := by
  obtain ⟨⟨hx, hb, hml, hown, hts⟩, hKK⟩ := id hC
  unfold f_X3_truthMany at h
  refine lv_iconst (v := 1) hx hb dX3_truthMany_0 (by decide) ?_
  refine lv_istore_n (i := 1) (lv' := [(1, .int 1), (0, va_rf (some a0))]) hx hb dX3_truthMany_1 rfl hl (by decide) rfl (fun ls hl => ?_)
  refine lv_iconst (v := 0) hx hb dX3_truthMany_2 (by decide) ?_
  refine lv_istore_n (i := 2) (lv' := [(2, .int 0), (1, .int 1), (0, va_rf (some a0))]) hx hb dX3_truthMany_3 rfl hl (by decide) rfl (fun ls hl => ?_)
  exact w_X3_truthMany_4 hC hR N N u 1 0 h _ _ hP hS _ (lv_sub hl [2, 1, 0] rfl)
theorem zz_X3_truthMany (N b : Nat) (g : uEnv) (u : UH) (a0 : Nat) (r : Int32) (uf : UH) (h : f_X3_truthMany N b g u a0 = some (r, uf)) : uf.1 = u.1 ∧ uf.2.1 = u.2.1 :=
  zz_X3_truthMany_0 (G := ((fun _ => 0, fun _ _ => 0), fun _ => 0, b, g)) (a0 := a0) N u h
theorem met_X3_truthMany (l : Launch) (N : Nat) (G : uG) (u : UH) (a0 : Nat) (r : Int32) (uf : UH) (h : f_X3_truthMany N (ub G) (ug G) u a0 = some (r, uf)) : Met l yX3_truthMany (ws_ yX3_truthMany cX3_truthMany 3 (some .int)) ({ frames := 0, cells := 0, slots := 0, locals := 0 }) (uPc G u [.ref a0]) (uQi G r uf) 0 0 (uA G) := by
  exact u_met (own := RX3) (by decide +kernel) rfl (Nat.le_of_ble_eq_true rfl) (fun hC hn hsz ls hl hP => w_X3_truthMany_0 hC ⟨Nat.le_refl _, Nat.le_refl _⟩ N u h hP va_S.rf hl)
def f_X3_costs_41 (N b : Nat) (g : uEnv) (a0 : Nat) (u : UH) : Option (Int32 × UH) :=
    if uIs u a0 2 = true then
    ucall (f_X3_no N b g u a0 1) fun r4 u2 =>
    some (r4, u2)
    else none
set_option maxHeartbeats 4000000 in
set_option maxRecDepth 100000 in
theorem zz_X3_costs_41 {G : uG} {a0 : Nat} {uf : UH} {r : Int32} (N : Nat) (u : UH) (h : f_X3_costs_41 N (ub G) (ug G) a0 u = some (r, uf)) : uf.1 = u.1 ∧ uf.2.1 = u.2.1 := by
  unfold f_X3_costs_41 at h
  obtain ⟨c1, h⟩ := mif_n h
  obtain ⟨r4, u2, c3, h⟩ := ucall_n h
  have zu2 := zz_X3_no N (ub G) (ug G) u a0 1 r4 u2 c3
  obtain ⟨hr1, hr2⟩ := uret_n h
  subst hr2
  exact ⟨by omega, by omega⟩
set_option maxHeartbeats 4000000 in
set_option maxRecDepth 100000 in
theorem w_X3_costs_41 {p : Program} {l : Launch} {e : Env} {R : Room} {s : State} {m : MethodId} {args : Array Value} {below : List Frame} {meth : Method} {c : Code} {G : uG} {a0 : Nat} {uf : UH} {r : Int32} (hC : uC p s m args meth c G RX3 cX3_costs 6 (some .int)) (hR : 5 ≤ R.frames ∧ 134 ≤ R.locals) (N : Nat) (u : UH) (h : f_X3_costs_41 N (ub G) (ug G) a0 u = some (r, uf)) {H : Heap} {locs : List Loc} (hP : uP G u H) (hS : va_S (uA G) s.heap H locs) {ls : Array Slot} (hl : lv_has ls 6 [(0, va_rf (some a0))]) : W p l e R s m args below meth c H locs 0 0 (MQ below (uQi G r uf) args s 0 0 (uA G)) (F0 m 41 ls []) := by
  obtain ⟨⟨hx, hb, hml, hown, hts⟩, hKK⟩ := id hC
  unfold f_X3_costs_41 at h
  refine u_aload_n (r := some a0) hx hb dX3_costs_41 rfl (lv_at hl 0 rfl) ?_
  refine lv_iconst (v := 1) hx hb dX3_costs_42 (by decide) ?_
  obtain ⟨c1, h⟩ := mif_n h
  obtain ⟨r4, u2, c3, h⟩ := ucall_n h
  have zu2 := zz_X3_no N (ub G) (ug G) u a0 1 r4 u2 c3
  refine u_calli (va_runV (As := [.int 1]) (rest := []) hC.1 (met_X3_no l N G u a0 1 r4 u2 c3) (cwV 1 hts (lw_V q2138 q2140 qs41 q103 q2141) rfl rfl rfl (by decide +kernel) ⟨Nat.le_trans (Nat.le_of_ble_eq_true rfl) hR.1, Nat.le_trans (Nat.le_of_ble_eq_true rfl) hR.2⟩) ⟨uPc_blind, u_rcv hC hP c1 rfl, fun U hU hW => u_pre hC hP hS hU hW⟩ rfl rfl hl.1 rfl (lv_room (Nat.le_of_ble_eq_true rfl)) dX3_costs_43 ⟨Nat.zero_le _, Nat.zero_le _⟩) hS (fun H locs hP hS => ?_)
  obtain ⟨hr1, hr2⟩ := uret_n h
  subst hr1
  subst hr2
  exact u_iret hC hP hS dX3_costs_46
def f_X3_costs_103 (N b : Nat) (g : uEnv) (a0 : Nat) (k57 : UH → Int32 → Int32 → Int32 → Int32 → Int32 → Option (Int32 × UH)) (u : UH) (x1 : Int32) (x2 : Int32) (x3 : Int32) (x5 : Int32) (s0 : Int32) : Option (Int32 × UH) :=
    mlet (x5 + 1) fun y1 =>
    k57 u x1 x2 x3 s0 y1
set_option maxHeartbeats 4000000 in
set_option maxRecDepth 100000 in
theorem zz_X3_costs_103 {G : uG} {a0 : Nat} {uf : UH} {r : Int32} (N : Nat) (k57 : UH → Int32 → Int32 → Int32 → Int32 → Int32 → Option (Int32 × UH)) (hk57 : ∀ (u : UH) (x1 : Int32) (x2 : Int32) (x3 : Int32) (x4 : Int32) (x5 : Int32), k57 u x1 x2 x3 x4 x5 = some (r, uf) → uf.1 = u.1 ∧ uf.2.1 = u.2.1) (u : UH) (x1 : Int32) (x2 : Int32) (x3 : Int32) (x5 : Int32) (s0 : Int32) (h : f_X3_costs_103 N (ub G) (ug G) a0 k57 u x1 x2 x3 x5 s0 = some (r, uf)) : uf.1 = u.1 ∧ uf.2.1 = u.2.1 := by
  unfold f_X3_costs_103 at h
  obtain ⟨y1, ey1⟩ : ∃ z : Int32, z = x5 + 1 := ⟨_, rfl⟩
  have h := mlet_at ey1 h
  have hq := hk57 u x1 x2 x3 s0 y1 h
  exact ⟨by omega, by omega⟩
set_option maxHeartbeats 4000000 in
set_option maxRecDepth 100000 in
theorem w_X3_costs_103 {p : Program} {l : Launch} {e : Env} {R : Room} {s : State} {m : MethodId} {args : Array Value} {below : List Frame} {meth : Method} {c : Code} {G : uG} {a0 : Nat} {uf : UH} {r : Int32} (hC : uC p s m args meth c G RX3 cX3_costs 6 (some .int)) (hR : 5 ≤ R.frames ∧ 134 ≤ R.locals) (N : Nat) (k57 : UH → Int32 → Int32 → Int32 → Int32 → Int32 → Option (Int32 × UH)) (hk57 : ∀ (u : UH) (x1 : Int32) (x2 : Int32) (x3 : Int32) (x4 : Int32) (x5 : Int32), k57 u x1 x2 x3 x4 x5 = some (r, uf) → ∀ (H : Heap) (locs : List Loc), uP G u H → va_S (uA G) s.heap H locs → ∀ ls : Array Slot, lv_has ls 6 [(0, va_rf (some a0)), (1, .int x1), (2, .int x2), (3, .int x3), (4, .int x4), (5, .int x5)] → W p l e R s m args below meth c H locs 0 0 (MQ below (uQi G r uf) args s 0 0 (uA G)) (F0 m 57 ls [])) (u : UH) (x1 : Int32) (x2 : Int32) (x3 : Int32) (x5 : Int32) (s0 : Int32) (h : f_X3_costs_103 N (ub G) (ug G) a0 k57 u x1 x2 x3 x5 s0 = some (r, uf)) {H : Heap} {locs : List Loc} (hP : uP G u H) (hS : va_S (uA G) s.heap H locs) {ls : Array Slot} (hl : lv_has ls 6 [(0, va_rf (some a0)), (1, .int x1), (2, .int x2), (3, .int x3), (5, .int x5)]) : W p l e R s m args below meth c H locs 0 0 (MQ below (uQi G r uf) args s 0 0 (uA G)) (F0 m 103 ls [.int s0]) := by
  obtain ⟨⟨hx, hb, hml, hown, hts⟩, hKK⟩ := id hC
  unfold f_X3_costs_103 at h
  refine lv_istore (lv' := [(4, .int s0), (0, va_rf (some a0)), (1, .int x1), (2, .int x2), (3, .int x3), (5, .int x5)]) hx hb dX3_costs_103 hl (by decide) rfl (fun ls hl => ?_)
  obtain ⟨y1, ey1⟩ : ∃ z : Int32, z = x5 + 1 := ⟨_, rfl⟩
  have h := mlet_at ey1 h
  refine lv_iinc (v := y1) (lv' := [(5, .int y1), (4, .int s0), (0, va_rf (some a0)), (1, .int x1), (2, .int x2), (3, .int x3)]) hx hb dX3_costs_105 hl (k := 5) rfl (by rw [ey1]; rfl) (by decide) rfl (fun ls hl => ?_)
  refine lv_goto (tgt := 57) hx hb dX3_costs_108 (by decide) ?_
  exact hk57 u x1 x2 x3 s0 y1 h _ _ hP hS _ (lv_sub hl [2, 3, 4, 5, 1, 0] rfl)
def f_X3_costs_57 (N b : Nat) (g : uEnv) (a0 : Nat) : Nat → UH → Int32 → Int32 → Int32 → Int32 → Int32 → Option (Int32 × UH)
  | 0, _, _, _, _, _, _ => none
  | n + 1, u, x1, x2, x3, x4, x5 =>
    if uIs u a0 2 = true then
    ucall (f_X3_truthMany N b g u a0) fun r4 u2 =>
    if r4 ≤ x5 then
    some (x4, u2)
    else
    if uIs u2 a0 2 = true then
    ucall (f_X3_acts N b g u2 a0 x1 x2 x3 x5) fun r9 u7 =>
    if r9 ≤ 0 then
    (uGI u7 a0 2 67).bind fun y11 =>
    if y11 ≤ x4 then
    f_X3_costs_103 N b g a0 (f_X3_costs_57 N b g a0 n) u7 x1 x2 x3 x5 x4
    else
    (uGI u7 a0 2 67).bind fun y13 =>
    f_X3_costs_103 N b g a0 (f_X3_costs_57 N b g a0 n) u7 x1 x2 x3 x5 y13
    else
    if uIs u7 a0 2 = true then
    ucall (f_X3_no N b g u7 a0 6) fun r17 u15 =>
    some (r17, u15)
    else none
    else none
    else none
set_option maxHeartbeats 4000000 in
set_option maxRecDepth 100000 in
theorem zz_X3_costs_57 {G : uG} {a0 : Nat} {uf : UH} {r : Int32} (N : Nat) : ∀ (n : Nat) (u : UH) (x1 : Int32) (x2 : Int32) (x3 : Int32) (x4 : Int32) (x5 : Int32), f_X3_costs_57 N (ub G) (ug G) a0 n u x1 x2 x3 x4 x5 = some (r, uf) → uf.1 = u.1 ∧ uf.2.1 = u.2.1 := by
  intro n
  induction n with
  | zero =>
    intro u x1 x2 x3 x4 x5 h
    cases h
  | succ n ih =>
    intro u x1 x2 x3 x4 x5 h
    unfold f_X3_costs_57 at h
    obtain ⟨c1, h⟩ := mif_n h
    obtain ⟨r4, u2, c3, h⟩ := ucall_n h
    have zu2 := zz_X3_truthMany N (ub G) (ug G) u a0 r4 u2 c3
    by_cases c5 : r4 ≤ x5
    · have h := mif_t c5 h
      obtain ⟨hr1, hr2⟩ := uret_n h
      subst hr2
      exact ⟨by omega, by omega⟩
    · have h := mif_f c5 h
      obtain ⟨c6, h⟩ := mif_n h
      obtain ⟨r9, u7, c8, h⟩ := ucall_n h
      have zu7 := zz_X3_acts N (ub G) (ug G) u2 a0 x1 x2 x3 x5 r9 u7 c8
      by_cases c10 : r9 ≤ 0
      · have h := mif_t c10 h
        obtain ⟨y11, hy11, h⟩ := mbind_n h
        by_cases c12 : y11 ≤ x4
        · have h := mif_t c12 h
          have hq := zz_X3_costs_103 (G := G) (a0 := a0) N (f_X3_costs_57 N (ub G) (ug G) a0 n) ih u7 x1 x2 x3 x5 x4 h
          exact ⟨by omega, by omega⟩
        · have h := mif_f c12 h
          obtain ⟨y13, hy13, h⟩ := mbind_n h
          have hq := zz_X3_costs_103 (G := G) (a0 := a0) N (f_X3_costs_57 N (ub G) (ug G) a0 n) ih u7 x1 x2 x3 x5 y13 h
          exact ⟨by omega, by omega⟩
      · have h := mif_f c10 h
        obtain ⟨c14, h⟩ := mif_n h
        obtain ⟨r17, u15, c16, h⟩ := ucall_n h
        have zu15 := zz_X3_no N (ub G) (ug G) u7 a0 6 r17 u15 c16
        obtain ⟨hr1, hr2⟩ := uret_n h
        subst hr2
        exact ⟨by omega, by omega⟩
set_option maxHeartbeats 4000000 in
set_option maxRecDepth 100000 in
theorem w_X3_costs_57 {p : Program} {l : Launch} {e : Env} {R : Room} {s : State} {m : MethodId} {args : Array Value} {below : List Frame} {meth : Method} {c : Code} {G : uG} {a0 : Nat} {uf : UH} {r : Int32} (hC : uC p s m args meth c G RX3 cX3_costs 6 (some .int)) (hR : 5 ≤ R.frames ∧ 134 ≤ R.locals) (N : Nat) : ∀ (n : Nat) (u : UH) (x1 : Int32) (x2 : Int32) (x3 : Int32) (x4 : Int32) (x5 : Int32), f_X3_costs_57 N (ub G) (ug G) a0 n u x1 x2 x3 x4 x5 = some (r, uf) → ∀ (H : Heap) (locs : List Loc), uP G u H → va_S (uA G) s.heap H locs → ∀ ls : Array Slot, lv_has ls 6 [(0, va_rf (some a0)), (1, .int x1), (2, .int x2), (3, .int x3), (4, .int x4), (5, .int x5)] → W p l e R s m args below meth c H locs 0 0 (MQ below (uQi G r uf) args s 0 0 (uA G)) (F0 m 57 ls []) := by
  obtain ⟨⟨hx, hb, hml, hown, hts⟩, hKK⟩ := id hC
  intro n
  induction n with
  | zero =>
    intro u x1 x2 x3 x4 x5 h
    cases h
  | succ n ih =>
    intro u x1 x2 x3 x4 x5 h H locs hP hS ls hl
    unfold f_X3_costs_57 at h
    refine lv_iload hx hb dX3_costs_57 (lv_at hl 5 rfl) ?_
    refine u_aload_n (r := some a0) hx hb dX3_costs_59 rfl (lv_at hl 0 rfl) ?_
    obtain ⟨c1, h⟩ := mif_n h
    obtain ⟨r4, u2, c3, h⟩ := ucall_n h
    have zu2 := zz_X3_truthMany N (ub G) (ug G) u a0 r4 u2 c3
    refine u_calli (va_runV (As := []) (rest := [.int x5]) hC.1 (met_X3_truthMany l N G u a0 r4 u2 c3) (cwV 0 hts (lw_V q2427 q2429 qs83 q103 q2430) rfl rfl rfl (by decide +kernel) ⟨Nat.le_trans (Nat.le_of_ble_eq_true rfl) hR.1, Nat.le_trans (Nat.le_of_ble_eq_true rfl) hR.2⟩) ⟨uPc_blind, u_rcv hC hP c1 rfl, fun U hU hW => u_pre hC hP hS hU hW⟩ rfl rfl hl.1 rfl (lv_room (Nat.le_of_ble_eq_true rfl)) dX3_costs_60 ⟨Nat.zero_le _, Nat.zero_le _⟩) hS (fun H locs hP hS => ?_)
    refine lv_icmp_ge (tgt := 111) hx hb dX3_costs_63 (by decide) (fun c5 => ?_) (fun c5 => ?_)
    · have h := mif_t c5 h
      refine lv_iload hx hb dX3_costs_111 (lv_at hl 4 rfl) ?_
      obtain ⟨hr1, hr2⟩ := uret_n h
      subst hr1
      subst hr2
      exact u_iret hC hP hS dX3_costs_113
    · have h := mif_f c5 h
      refine u_aload_n (r := some a0) hx hb dX3_costs_66 rfl (lv_at hl 0 rfl) ?_
      refine lv_iload_n hx hb dX3_costs_67 rfl (lv_at hl 1 rfl) ?_
      refine lv_iload_n hx hb dX3_costs_68 rfl (lv_at hl 2 rfl) ?_
      refine lv_iload_n hx hb dX3_costs_69 rfl (lv_at hl 3 rfl) ?_
      refine lv_iload hx hb dX3_costs_70 (lv_at hl 5 rfl) ?_
      obtain ⟨c6, h⟩ := mif_n h
      obtain ⟨r9, u7, c8, h⟩ := ucall_n h
      have zu7 := zz_X3_acts N (ub G) (ug G) u2 a0 x1 x2 x3 x5 r9 u7 c8
      refine u_calli (va_runV (As := [.int x1, .int x2, .int x3, .int x5]) (rest := []) hC.1 (met_X3_acts l N G u2 a0 x1 x2 x3 x5 r9 u7 c8) (cwV 4 hts (lw_V q2496 q2498 qs92 q103 q2499) rfl rfl rfl (by decide +kernel) ⟨Nat.le_trans (Nat.le_of_ble_eq_true rfl) hR.1, Nat.le_trans (Nat.le_of_ble_eq_true rfl) hR.2⟩) ⟨uPc_blind, u_rcv hC hP c6 rfl, fun U hU hW => u_pre hC hP hS hU hW⟩ rfl rfl hl.1 rfl (lv_room (Nat.le_of_ble_eq_true rfl)) dX3_costs_72 ⟨Nat.zero_le _, Nat.zero_le _⟩) hS (fun H locs hP hS => ?_)
      refine lv_if_le (tgt := 85) hx hb dX3_costs_75 (by decide) (fun c10 => ?_) (fun c10 => ?_)
      · have h := mif_t c10 h
        refine u_aload_n (r := some a0) hx hb dX3_costs_85 rfl (lv_at hl 0 rfl) ?_
        obtain ⟨y11, hy11, h⟩ := mbind_n h
        refine u_get hC hP (uGI_n hy11) rfl in_X3 (by decide) q1960 (fun _ h => h) dX3_costs_86 ?_
        refine lv_iload hx hb dX3_costs_89 (lv_at hl 4 rfl) ?_
        refine lv_icmp_le (tgt := 101) hx hb dX3_costs_91 (by decide) (fun c12 => ?_) (fun c12 => ?_)
        · have h := mif_t c12 h
          refine lv_iload hx hb dX3_costs_101 (lv_at hl 4 rfl) ?_
          exact w_X3_costs_103 hC hR N (f_X3_costs_57 N (ub G) (ug G) a0 n) ih u7 x1 x2 x3 x5 x4 h hP hS (lv_sub hl [0, 1, 2, 3, 5] rfl)
        · have h := mif_f c12 h
          refine u_aload_n (r := some a0) hx hb dX3_costs_94 rfl (lv_at hl 0 rfl) ?_
          obtain ⟨y13, hy13, h⟩ := mbind_n h
          refine u_get hC hP (uGI_n hy13) rfl in_X3 (by decide) q1960 (fun _ h => h) dX3_costs_95 ?_
          refine lv_goto (tgt := 103) hx hb dX3_costs_98 (by decide) ?_
          exact w_X3_costs_103 hC hR N (f_X3_costs_57 N (ub G) (ug G) a0 n) ih u7 x1 x2 x3 x5 y13 h hP hS (lv_sub hl [0, 1, 2, 3, 5] rfl)
      · have h := mif_f c10 h
        refine u_aload_n (r := some a0) hx hb dX3_costs_78 rfl (lv_at hl 0 rfl) ?_
        refine lv_bipush (v := 6) hx hb dX3_costs_79 (by decide) ?_
        obtain ⟨c14, h⟩ := mif_n h
        obtain ⟨r17, u15, c16, h⟩ := ucall_n h
        have zu15 := zz_X3_no N (ub G) (ug G) u7 a0 6 r17 u15 c16
        refine u_calli (va_runV (As := [.int 6]) (rest := []) hC.1 (met_X3_no l N G u7 a0 6 r17 u15 c16) (cwV 1 hts (lw_V q2138 q2140 qs41 q103 q2141) rfl rfl rfl (by decide +kernel) ⟨Nat.le_trans (Nat.le_of_ble_eq_true rfl) hR.1, Nat.le_trans (Nat.le_of_ble_eq_true rfl) hR.2⟩) ⟨uPc_blind, u_rcv hC hP c14 rfl, fun U hU hW => u_pre hC hP hS hU hW⟩ rfl rfl hl.1 rfl (lv_room (Nat.le_of_ble_eq_true rfl)) dX3_costs_81 ⟨Nat.zero_le _, Nat.zero_le _⟩) hS (fun H locs hP hS => ?_)
        obtain ⟨hr1, hr2⟩ := uret_n h
        subst hr1
        subst hr2
        exact u_iret hC hP hS dX3_costs_84
def f_X3_costs (N b : Nat) (g : uEnv) (u : UH) (a0 : Nat) (x1 : Int32) (x2 : Int32) (x3 : Int32) : Option (Int32 × UH) :=
    if uIs u a0 2 = true then
    (f_X3_good N b g u a0).bind fun u2 =>
    (uGI u2 a0 2 34).bind fun y4 =>
    if y4 = 0 then
    f_X3_costs_41 N b g a0 u2
    else
    (uGI u2 a0 2 40).bind fun y6 =>
    ucall (f_X3_within N b g u2 x1 0 (y6 - 1)) fun r9 u7 =>
    if r9 = 0 then
    f_X3_costs_41 N b g a0 u7
    else
    if uIs u7 a0 2 = true then
    ucall (f_X3_isCell N b g u7 a0 x2) fun r14 u12 =>
    if r14 = 0 then
    f_X3_costs_41 N b g a0 u12
    else
    if uIs u12 a0 2 = true then
    ucall (f_X3_isCell N b g u12 a0 x3) fun r19 u17 =>
    if r19 = 0 then
    f_X3_costs_41 N b g a0 u17
    else
    if uIs u17 a0 2 = true then
    (f_X3_lists N b g u17 a0).bind fun u22 =>
    f_X3_costs_57 N b g a0 N u22 x1 x2 x3 0 0
    else none
    else none
    else none
    else none
set_option maxHeartbeats 4000000 in
set_option maxRecDepth 100000 in
theorem zz_X3_costs_0 {G : uG} {a0 : Nat} {uf : UH} {r : Int32} (N : Nat) (u : UH) (x1 : Int32) (x2 : Int32) (x3 : Int32) (h : f_X3_costs N (ub G) (ug G) u a0 x1 x2 x3 = some (r, uf)) : uf.1 = u.1 ∧ uf.2.1 = u.2.1 := by
  unfold f_X3_costs at h
  obtain ⟨c1, h⟩ := mif_n h
  obtain ⟨u2, c3, h⟩ := mbind_n h
  have zu2 := zz_X3_good N (ub G) (ug G) u a0 u2 c3
  obtain ⟨y4, hy4, h⟩ := mbind_n h
  by_cases c5 : y4 = 0
  · have h := mif_t c5 h
    have hq := zz_X3_costs_41 (G := G) (a0 := a0) N u2 h
    exact ⟨by omega, by omega⟩
  · have h := mif_f c5 h
    obtain ⟨y6, hy6, h⟩ := mbind_n h
    obtain ⟨r9, u7, c8, h⟩ := ucall_n h
    have zu7 := zz_X3_within N (ub G) (ug G) u2 x1 0 (y6 - 1) r9 u7 c8
    by_cases c10 : r9 = 0
    · have h := mif_t c10 h
      have hq := zz_X3_costs_41 (G := G) (a0 := a0) N u7 h
      exact ⟨by omega, by omega⟩
    · have h := mif_f c10 h
      obtain ⟨c11, h⟩ := mif_n h
      obtain ⟨r14, u12, c13, h⟩ := ucall_n h
      have zu12 := zz_X3_isCell N (ub G) (ug G) u7 a0 x2 r14 u12 c13
      by_cases c15 : r14 = 0
      · have h := mif_t c15 h
        have hq := zz_X3_costs_41 (G := G) (a0 := a0) N u12 h
        exact ⟨by omega, by omega⟩
      · have h := mif_f c15 h
        obtain ⟨c16, h⟩ := mif_n h
        obtain ⟨r19, u17, c18, h⟩ := ucall_n h
        have zu17 := zz_X3_isCell N (ub G) (ug G) u12 a0 x3 r19 u17 c18
        by_cases c20 : r19 = 0
        · have h := mif_t c20 h
          have hq := zz_X3_costs_41 (G := G) (a0 := a0) N u17 h
          exact ⟨by omega, by omega⟩
        · have h := mif_f c20 h
          obtain ⟨c21, h⟩ := mif_n h
          obtain ⟨u22, c23, h⟩ := mbind_n h
          have zu22 := zz_X3_lists N (ub G) (ug G) u17 a0 u22 c23
          have hq := zz_X3_costs_57 (G := G) (a0 := a0) N N u22 x1 x2 x3 0 0 h
          exact ⟨by omega, by omega⟩
set_option maxHeartbeats 4000000 in
set_option maxRecDepth 100000 in
theorem w_X3_costs_0 {p : Program} {l : Launch} {e : Env} {R : Room} {s : State} {m : MethodId} {args : Array Value} {below : List Frame} {meth : Method} {c : Code} {G : uG} {a0 : Nat} {uf : UH} {r : Int32} (hC : uC p s m args meth c G RX3 cX3_costs 6 (some .int)) (hR : 5 ≤ R.frames ∧ 134 ≤ R.locals) (N : Nat) (u : UH) (x1 : Int32) (x2 : Int32) (x3 : Int32) (h : f_X3_costs N (ub G) (ug G) u a0 x1 x2 x3 = some (r, uf)) {H : Heap} {locs : List Loc} (hP : uP G u H) (hS : va_S (uA G) s.heap H locs) {ls : Array Slot} (hl : lv_has ls 6 [(0, va_rf (some a0)), (1, .int x1), (2, .int x2), (3, .int x3)]) : W p l e R s m args below meth c H locs 0 0 (MQ below (uQi G r uf) args s 0 0 (uA G)) (F0 m 0 ls []) := by
  obtain ⟨⟨hx, hb, hml, hown, hts⟩, hKK⟩ := id hC
  unfold f_X3_costs at h
  refine u_aload_n (r := some a0) hx hb dX3_costs_0 rfl (lv_at hl 0 rfl) ?_
  obtain ⟨c1, h⟩ := mif_n h
  obtain ⟨u2, c3, h⟩ := mbind_n h
  have zu2 := zz_X3_good N (ub G) (ug G) u a0 u2 c3
  refine u_callv (va_runV (As := []) (rest := []) hC.1 (met_X3_good l N G u a0 u2 c3) (cwV 0 hts (lw_V q2131 q2133 qs40 q103 q2134) rfl rfl rfl (by decide +kernel) ⟨Nat.le_trans (Nat.le_of_ble_eq_true rfl) hR.1, Nat.le_trans (Nat.le_of_ble_eq_true rfl) hR.2⟩) ⟨uPc_blind, u_rcv hC hP c1 rfl, fun U hU hW => u_pre hC hP hS hU hW⟩ rfl rfl hl.1 rfl (lv_room (Nat.le_of_ble_eq_true rfl)) dX3_costs_1 ⟨Nat.zero_le _, Nat.zero_le _⟩) hS (fun H locs hP hS => ?_)
  refine u_aload_n (r := some a0) hx hb dX3_costs_4 rfl (lv_at hl 0 rfl) ?_
  obtain ⟨y4, hy4, h⟩ := mbind_n h
  refine u_get hC hP (uGI_n hy4) rfl in_X3 (by decide) q1927 (fun _ h => h) dX3_costs_5 ?_
  refine lv_if_eq (tgt := 41) hx hb dX3_costs_8 (by decide) (fun c5 => ?_) (fun c5 => ?_)
  · have h := mif_t c5 h
    exact w_X3_costs_41 hC hR N u2 h hP hS (lv_sub hl [0] rfl)
  · have h := mif_f c5 h
    refine lv_iload_n hx hb dX3_costs_11 rfl (lv_at hl 1 rfl) ?_
    refine lv_iconst (v := 0) hx hb dX3_costs_12 (by decide) ?_
    refine u_aload_n (r := some a0) hx hb dX3_costs_13 rfl (lv_at hl 0 rfl) ?_
    obtain ⟨y6, hy6, h⟩ := mbind_n h
    refine u_get hC hP (uGI_n hy6) rfl in_X3 (by decide) q1933 (fun _ h => h) dX3_costs_14 ?_
    refine lv_iconst (v := 1) hx hb dX3_costs_17 (by decide) ?_
    refine lv_isub hx hb dX3_costs_18 ?_
    obtain ⟨r9, u7, c8, h⟩ := ucall_n h
    have zu7 := zz_X3_within N (ub G) (ug G) u2 x1 0 (y6 - 1) r9 u7 c8
    refine u_calli (va_runS (As := [.int x1, .int 0, .int (y6 - 1)]) (rest := []) hC.1 (met_X3_within l N G u2 x1 0 (y6 - 1) r9 u7 c8) (va_cwS 3 hts (lw_S q2135 q2136 q103 q2137) rfl rfl rfl (by decide +kernel) ⟨Nat.le_trans (Nat.le_of_ble_eq_true rfl) hR.1, Nat.le_trans (Nat.le_of_ble_eq_true rfl) hR.2⟩) ⟨uPc_blind, fun U hU hW => u_pre hC hP hS hU hW⟩ rfl rfl hl.1 rfl (lv_room (Nat.le_of_ble_eq_true rfl)) dX3_costs_19 ⟨Nat.zero_le _, Nat.zero_le _⟩) hS (fun H locs hP hS => ?_)
    refine lv_if_eq (tgt := 41) hx hb dX3_costs_22 (by decide) (fun c10 => ?_) (fun c10 => ?_)
    · have h := mif_t c10 h
      exact w_X3_costs_41 hC hR N u7 h hP hS (lv_sub hl [0] rfl)
    · have h := mif_f c10 h
      refine u_aload_n (r := some a0) hx hb dX3_costs_25 rfl (lv_at hl 0 rfl) ?_
      refine lv_iload_n hx hb dX3_costs_26 rfl (lv_at hl 2 rfl) ?_
      obtain ⟨c11, h⟩ := mif_n h
      obtain ⟨r14, u12, c13, h⟩ := ucall_n h
      have zu12 := zz_X3_isCell N (ub G) (ug G) u7 a0 x2 r14 u12 c13
      refine u_calli (va_runV (As := [.int x2]) (rest := []) hC.1 (met_X3_isCell l N G u7 a0 x2 r14 u12 c13) (cwV 1 hts (lw_V q2276 q2278 qs60 q103 q2279) rfl rfl rfl (by decide +kernel) ⟨Nat.le_trans (Nat.le_of_ble_eq_true rfl) hR.1, Nat.le_trans (Nat.le_of_ble_eq_true rfl) hR.2⟩) ⟨uPc_blind, u_rcv hC hP c11 rfl, fun U hU hW => u_pre hC hP hS hU hW⟩ rfl rfl hl.1 rfl (lv_room (Nat.le_of_ble_eq_true rfl)) dX3_costs_27 ⟨Nat.zero_le _, Nat.zero_le _⟩) hS (fun H locs hP hS => ?_)
      refine lv_if_eq (tgt := 41) hx hb dX3_costs_30 (by decide) (fun c15 => ?_) (fun c15 => ?_)
      · have h := mif_t c15 h
        exact w_X3_costs_41 hC hR N u12 h hP hS (lv_sub hl [0] rfl)
      · have h := mif_f c15 h
        refine u_aload_n (r := some a0) hx hb dX3_costs_33 rfl (lv_at hl 0 rfl) ?_
        refine lv_iload_n hx hb dX3_costs_34 rfl (lv_at hl 3 rfl) ?_
        obtain ⟨c16, h⟩ := mif_n h
        obtain ⟨r19, u17, c18, h⟩ := ucall_n h
        have zu17 := zz_X3_isCell N (ub G) (ug G) u12 a0 x3 r19 u17 c18
        refine u_calli (va_runV (As := [.int x3]) (rest := []) hC.1 (met_X3_isCell l N G u12 a0 x3 r19 u17 c18) (cwV 1 hts (lw_V q2276 q2278 qs60 q103 q2279) rfl rfl rfl (by decide +kernel) ⟨Nat.le_trans (Nat.le_of_ble_eq_true rfl) hR.1, Nat.le_trans (Nat.le_of_ble_eq_true rfl) hR.2⟩) ⟨uPc_blind, u_rcv hC hP c16 rfl, fun U hU hW => u_pre hC hP hS hU hW⟩ rfl rfl hl.1 rfl (lv_room (Nat.le_of_ble_eq_true rfl)) dX3_costs_35 ⟨Nat.zero_le _, Nat.zero_le _⟩) hS (fun H locs hP hS => ?_)
        refine lv_if_ne (tgt := 47) hx hb dX3_costs_38 (by decide) (fun c20 => ?_) (fun c20 => ?_)
        · have h := mif_f c20 h
          refine u_aload_n (r := some a0) hx hb dX3_costs_47 rfl (lv_at hl 0 rfl) ?_
          obtain ⟨c21, h⟩ := mif_n h
          obtain ⟨u22, c23, h⟩ := mbind_n h
          have zu22 := zz_X3_lists N (ub G) (ug G) u17 a0 u22 c23
          refine u_callv (va_runV (As := []) (rest := []) hC.1 (met_X3_lists l N G u17 a0 u22 c23) (cwV 0 hts (lw_V q2348 q2350 qs70 q103 q2351) rfl rfl rfl (by decide +kernel) ⟨Nat.le_trans (Nat.le_of_ble_eq_true rfl) hR.1, Nat.le_trans (Nat.le_of_ble_eq_true rfl) hR.2⟩) ⟨uPc_blind, u_rcv hC hP c21 rfl, fun U hU hW => u_pre hC hP hS hU hW⟩ rfl rfl hl.1 rfl (lv_room (Nat.le_of_ble_eq_true rfl)) dX3_costs_48 ⟨Nat.zero_le _, Nat.zero_le _⟩) hS (fun H locs hP hS => ?_)
          refine lv_iconst (v := 0) hx hb dX3_costs_51 (by decide) ?_
          refine lv_istore (lv' := [(4, .int 0), (0, va_rf (some a0)), (1, .int x1), (2, .int x2), (3, .int x3)]) hx hb dX3_costs_52 hl (by decide) rfl (fun ls hl => ?_)
          refine lv_iconst (v := 0) hx hb dX3_costs_54 (by decide) ?_
          refine lv_istore (lv' := [(5, .int 0), (4, .int 0), (0, va_rf (some a0)), (1, .int x1), (2, .int x2), (3, .int x3)]) hx hb dX3_costs_55 hl (by decide) rfl (fun ls hl => ?_)
          exact w_X3_costs_57 hC hR N N u22 x1 x2 x3 0 0 h _ _ hP hS _ (lv_sub hl [2, 3, 4, 5, 1, 0] rfl)
        · have h := mif_t c20 h
          exact w_X3_costs_41 hC hR N u17 h hP hS (lv_sub hl [0] rfl)
theorem zz_X3_costs (N b : Nat) (g : uEnv) (u : UH) (a0 : Nat) (x1 : Int32) (x2 : Int32) (x3 : Int32) (r : Int32) (uf : UH) (h : f_X3_costs N b g u a0 x1 x2 x3 = some (r, uf)) : uf.1 = u.1 ∧ uf.2.1 = u.2.1 :=
  zz_X3_costs_0 (G := ((fun _ => 0, fun _ _ => 0), fun _ => 0, b, g)) (a0 := a0) N u x1 x2 x3 h
theorem met_X3_costs (l : Launch) (N : Nat) (G : uG) (u : UH) (a0 : Nat) (x1 : Int32) (x2 : Int32) (x3 : Int32) (r : Int32) (uf : UH) (h : f_X3_costs N (ub G) (ug G) u a0 x1 x2 x3 = some (r, uf)) : Met l yX3_costs (ws_ yX3_costs cX3_costs 6 (some .int)) ({ frames := 5, cells := 0, slots := 0, locals := 134 }) (uPc G u [.ref a0, .int x1, .int x2, .int x3]) (uQi G r uf) 0 0 (uA G) := by
  exact u_met (own := RX3) (by decide +kernel) rfl (Nat.le_of_ble_eq_true rfl) (fun hC hn hsz ls hl hP => w_X3_costs_0 hC ⟨Nat.le_refl _, Nat.le_refl _⟩ N u x1 x2 x3 h hP va_S.rf hl)
def f_X3_mostDug_46 (N b : Nat) (g : uEnv) (a0 : Nat) (u : UH) (x1 : Int32) : Option (Int32 × UH) :=
    some (x1, u)
set_option maxHeartbeats 4000000 in
set_option maxRecDepth 100000 in
theorem zz_X3_mostDug_46 {G : uG} {a0 : Nat} {uf : UH} {r : Int32} (N : Nat) (u : UH) (x1 : Int32) (h : f_X3_mostDug_46 N (ub G) (ug G) a0 u x1 = some (r, uf)) : uf.1 = u.1 ∧ uf.2.1 = u.2.1 := by
  unfold f_X3_mostDug_46 at h
  obtain ⟨hr1, hr2⟩ := uret_n h
  subst hr2
  exact ⟨by omega, by omega⟩
set_option maxHeartbeats 4000000 in
set_option maxRecDepth 100000 in
theorem w_X3_mostDug_46 {p : Program} {l : Launch} {e : Env} {R : Room} {s : State} {m : MethodId} {args : Array Value} {below : List Frame} {meth : Method} {c : Code} {G : uG} {a0 : Nat} {uf : UH} {r : Int32} (hC : uC p s m args meth c G RX3 cX3_mostDug 3 (some .int)) (hR : 0 ≤ R.frames ∧ 0 ≤ R.locals) (N : Nat) (u : UH) (x1 : Int32) (h : f_X3_mostDug_46 N (ub G) (ug G) a0 u x1 = some (r, uf)) {H : Heap} {locs : List Loc} (hP : uP G u H) (hS : va_S (uA G) s.heap H locs) {ls : Array Slot} (hl : lv_has ls 3 [(1, .int x1)]) : W p l e R s m args below meth c H locs 0 0 (MQ below (uQi G r uf) args s 0 0 (uA G)) (F0 m 46 ls []) := by
  obtain ⟨⟨hx, hb, hml, hown, hts⟩, hKK⟩ := id hC
  unfold f_X3_mostDug_46 at h
  refine lv_iload_n hx hb dX3_mostDug_46 rfl (lv_at hl 0 rfl) ?_
  obtain ⟨hr1, hr2⟩ := uret_n h
  subst hr1
  subst hr2
  exact u_iret hC hP hS dX3_mostDug_47
def f_X3_mostDug_39 (N b : Nat) (g : uEnv) (a0 : Nat) (k4 : UH → Int32 → Int32 → Option (Int32 × UH)) (u : UH) (x2 : Int32) (s0 : Int32) : Option (Int32 × UH) :=
    mlet (x2 + 1) fun y1 =>
    k4 u s0 y1
set_option maxHeartbeats 4000000 in
set_option maxRecDepth 100000 in
theorem zz_X3_mostDug_39 {G : uG} {a0 : Nat} {uf : UH} {r : Int32} (N : Nat) (k4 : UH → Int32 → Int32 → Option (Int32 × UH)) (hk4 : ∀ (u : UH) (x1 : Int32) (x2 : Int32), k4 u x1 x2 = some (r, uf) → uf.1 = u.1 ∧ uf.2.1 = u.2.1) (u : UH) (x2 : Int32) (s0 : Int32) (h : f_X3_mostDug_39 N (ub G) (ug G) a0 k4 u x2 s0 = some (r, uf)) : uf.1 = u.1 ∧ uf.2.1 = u.2.1 := by
  unfold f_X3_mostDug_39 at h
  obtain ⟨y1, ey1⟩ : ∃ z : Int32, z = x2 + 1 := ⟨_, rfl⟩
  have h := mlet_at ey1 h
  have hq := hk4 u s0 y1 h
  exact ⟨by omega, by omega⟩
set_option maxHeartbeats 4000000 in
set_option maxRecDepth 100000 in
theorem w_X3_mostDug_39 {p : Program} {l : Launch} {e : Env} {R : Room} {s : State} {m : MethodId} {args : Array Value} {below : List Frame} {meth : Method} {c : Code} {G : uG} {a0 : Nat} {uf : UH} {r : Int32} (hC : uC p s m args meth c G RX3 cX3_mostDug 3 (some .int)) (hR : 0 ≤ R.frames ∧ 0 ≤ R.locals) (N : Nat) (k4 : UH → Int32 → Int32 → Option (Int32 × UH)) (hk4 : ∀ (u : UH) (x1 : Int32) (x2 : Int32), k4 u x1 x2 = some (r, uf) → ∀ (H : Heap) (locs : List Loc), uP G u H → va_S (uA G) s.heap H locs → ∀ ls : Array Slot, lv_has ls 3 [(0, va_rf (some a0)), (1, .int x1), (2, .int x2)] → W p l e R s m args below meth c H locs 0 0 (MQ below (uQi G r uf) args s 0 0 (uA G)) (F0 m 4 ls [])) (u : UH) (x2 : Int32) (s0 : Int32) (h : f_X3_mostDug_39 N (ub G) (ug G) a0 k4 u x2 s0 = some (r, uf)) {H : Heap} {locs : List Loc} (hP : uP G u H) (hS : va_S (uA G) s.heap H locs) {ls : Array Slot} (hl : lv_has ls 3 [(0, va_rf (some a0)), (2, .int x2)]) : W p l e R s m args below meth c H locs 0 0 (MQ below (uQi G r uf) args s 0 0 (uA G)) (F0 m 39 ls [.int s0]) := by
  obtain ⟨⟨hx, hb, hml, hown, hts⟩, hKK⟩ := id hC
  unfold f_X3_mostDug_39 at h
  refine lv_istore_n (i := 1) (lv' := [(1, .int s0), (0, va_rf (some a0)), (2, .int x2)]) hx hb dX3_mostDug_39 rfl hl (by decide) rfl (fun ls hl => ?_)
  obtain ⟨y1, ey1⟩ : ∃ z : Int32, z = x2 + 1 := ⟨_, rfl⟩
  have h := mlet_at ey1 h
  refine lv_iinc (v := y1) (lv' := [(2, .int y1), (1, .int s0), (0, va_rf (some a0))]) hx hb dX3_mostDug_40 hl (k := 2) rfl (by rw [ey1]; rfl) (by decide) rfl (fun ls hl => ?_)
  refine lv_goto (tgt := 4) hx hb dX3_mostDug_43 (by decide) ?_
  exact hk4 u s0 y1 h _ _ hP hS _ (lv_sub hl [2, 1, 0] rfl)
def f_X3_mostDug_4 (N b : Nat) (g : uEnv) (a0 : Nat) : Nat → UH → Int32 → Int32 → Option (Int32 × UH)
  | 0, _, _, _ => none
  | n + 1, u, x1, x2 =>
    (uGI u a0 2 24).bind fun y1 =>
    if y1 ≤ x2 then
    f_X3_mostDug_46 N b g a0 u x1
    else
    (uGI u a0 2 12).bind fun y3 =>
    if y3 = 0 then
    f_X3_mostDug_46 N b g a0 u x1
    else
    (uGR u a0 2 47).bind fun o5 =>
    (o5).bind fun a6 =>
    (uLdI u a6 0 x2).bind fun y7 =>
    if y7 ≤ x1 then
    f_X3_mostDug_39 N b g a0 (f_X3_mostDug_4 N b g a0 n) u x2 x1
    else
    (uGR u a0 2 47).bind fun o9 =>
    (o9).bind fun a10 =>
    (uLdI u a10 0 x2).bind fun y11 =>
    f_X3_mostDug_39 N b g a0 (f_X3_mostDug_4 N b g a0 n) u x2 y11
set_option maxHeartbeats 4000000 in
set_option maxRecDepth 100000 in
theorem zz_X3_mostDug_4 {G : uG} {a0 : Nat} {uf : UH} {r : Int32} (N : Nat) : ∀ (n : Nat) (u : UH) (x1 : Int32) (x2 : Int32), f_X3_mostDug_4 N (ub G) (ug G) a0 n u x1 x2 = some (r, uf) → uf.1 = u.1 ∧ uf.2.1 = u.2.1 := by
  intro n
  induction n with
  | zero =>
    intro u x1 x2 h
    cases h
  | succ n ih =>
    intro u x1 x2 h
    unfold f_X3_mostDug_4 at h
    obtain ⟨y1, hy1, h⟩ := mbind_n h
    by_cases c2 : y1 ≤ x2
    · have h := mif_t c2 h
      have hq := zz_X3_mostDug_46 (G := G) (a0 := a0) N u x1 h
      exact ⟨by omega, by omega⟩
    · have h := mif_f c2 h
      obtain ⟨y3, hy3, h⟩ := mbind_n h
      by_cases c4 : y3 = 0
      · have h := mif_t c4 h
        have hq := zz_X3_mostDug_46 (G := G) (a0 := a0) N u x1 h
        exact ⟨by omega, by omega⟩
      · have h := mif_f c4 h
        obtain ⟨o5, ho5, h⟩ := mbind_n h
        obtain ⟨a6, ha6, hha6⟩ := mbind_n h
        subst ha6
        have h := hha6
        obtain ⟨y7, hy7, h⟩ := mbind_n h
        by_cases c8 : y7 ≤ x1
        · have h := mif_t c8 h
          have hq := zz_X3_mostDug_39 (G := G) (a0 := a0) N (f_X3_mostDug_4 N (ub G) (ug G) a0 n) ih u x2 x1 h
          exact ⟨by omega, by omega⟩
        · have h := mif_f c8 h
          obtain ⟨o9, ho9, h⟩ := mbind_n h
          obtain ⟨a10, ha10, hha10⟩ := mbind_n h
          subst ha10
          have h := hha10
          obtain ⟨y11, hy11, h⟩ := mbind_n h
          have hq := zz_X3_mostDug_39 (G := G) (a0 := a0) N (f_X3_mostDug_4 N (ub G) (ug G) a0 n) ih u x2 y11 h
          exact ⟨by omega, by omega⟩
set_option maxHeartbeats 4000000 in
set_option maxRecDepth 100000 in
theorem w_X3_mostDug_4 {p : Program} {l : Launch} {e : Env} {R : Room} {s : State} {m : MethodId} {args : Array Value} {below : List Frame} {meth : Method} {c : Code} {G : uG} {a0 : Nat} {uf : UH} {r : Int32} (hC : uC p s m args meth c G RX3 cX3_mostDug 3 (some .int)) (hR : 0 ≤ R.frames ∧ 0 ≤ R.locals) (N : Nat) : ∀ (n : Nat) (u : UH) (x1 : Int32) (x2 : Int32), f_X3_mostDug_4 N (ub G) (ug G) a0 n u x1 x2 = some (r, uf) → ∀ (H : Heap) (locs : List Loc), uP G u H → va_S (uA G) s.heap H locs → ∀ ls : Array Slot, lv_has ls 3 [(0, va_rf (some a0)), (1, .int x1), (2, .int x2)] → W p l e R s m args below meth c H locs 0 0 (MQ below (uQi G r uf) args s 0 0 (uA G)) (F0 m 4 ls []) := by
  obtain ⟨⟨hx, hb, hml, hown, hts⟩, hKK⟩ := id hC
  intro n
  induction n with
  | zero =>
    intro u x1 x2 h
    cases h
  | succ n ih =>
    intro u x1 x2 h H locs hP hS ls hl
    unfold f_X3_mostDug_4 at h
    refine lv_iload_n hx hb dX3_mostDug_4 rfl (lv_at hl 2 rfl) ?_
    refine u_aload_n (r := some a0) hx hb dX3_mostDug_5 rfl (lv_at hl 0 rfl) ?_
    obtain ⟨y1, hy1, h⟩ := mbind_n h
    refine u_get hC hP (uGI_n hy1) rfl in_X3 (by decide) q1917 (fun _ h => h) dX3_mostDug_6 ?_
    refine lv_icmp_ge (tgt := 46) hx hb dX3_mostDug_9 (by decide) (fun c2 => ?_) (fun c2 => ?_)
    · have h := mif_t c2 h
      exact w_X3_mostDug_46 hC hR N u x1 h hP hS (lv_sub hl [1] rfl)
    · have h := mif_f c2 h
      refine u_aload_n (r := some a0) hx hb dX3_mostDug_12 rfl (lv_at hl 0 rfl) ?_
      obtain ⟨y3, hy3, h⟩ := mbind_n h
      refine u_get hC hP (uGI_n hy3) rfl in_X3 (by decide) q1905 (fun _ h => h) dX3_mostDug_13 ?_
      refine lv_if_eq (tgt := 46) hx hb dX3_mostDug_16 (by decide) (fun c4 => ?_) (fun c4 => ?_)
      · have h := mif_t c4 h
        exact w_X3_mostDug_46 hC hR N u x1 h hP hS (lv_sub hl [1] rfl)
      · have h := mif_f c4 h
        refine u_aload_n (r := some a0) hx hb dX3_mostDug_19 rfl (lv_at hl 0 rfl) ?_
        obtain ⟨o5, ho5, h⟩ := mbind_n h
        refine u_get hC hP (uGR_n ho5) rfl in_X3 (by decide) q1940 (fun _ h => h) dX3_mostDug_20 ?_
        refine lv_iload_n hx hb dX3_mostDug_23 rfl (lv_at hl 2 rfl) ?_
        obtain ⟨a6, ha6, hha6⟩ := mbind_n h
        subst ha6
        have h := hha6
        obtain ⟨y7, hy7, h⟩ := mbind_n h
        refine u_iald hC hP hy7 rfl dX3_mostDug_24 ?_
        refine lv_iload_n hx hb dX3_mostDug_25 rfl (lv_at hl 1 rfl) ?_
        refine lv_icmp_le (tgt := 38) hx hb dX3_mostDug_26 (by decide) (fun c8 => ?_) (fun c8 => ?_)
        · have h := mif_t c8 h
          refine lv_iload_n hx hb dX3_mostDug_38 rfl (lv_at hl 1 rfl) ?_
          exact w_X3_mostDug_39 hC hR N (f_X3_mostDug_4 N (ub G) (ug G) a0 n) ih u x2 x1 h hP hS (lv_sub hl [0, 2] rfl)
        · have h := mif_f c8 h
          refine u_aload_n (r := some a0) hx hb dX3_mostDug_29 rfl (lv_at hl 0 rfl) ?_
          obtain ⟨o9, ho9, h⟩ := mbind_n h
          refine u_get hC hP (uGR_n ho9) rfl in_X3 (by decide) q1940 (fun _ h => h) dX3_mostDug_30 ?_
          refine lv_iload_n hx hb dX3_mostDug_33 rfl (lv_at hl 2 rfl) ?_
          obtain ⟨a10, ha10, hha10⟩ := mbind_n h
          subst ha10
          have h := hha10
          obtain ⟨y11, hy11, h⟩ := mbind_n h
          refine u_iald hC hP hy11 rfl dX3_mostDug_34 ?_
          refine lv_goto (tgt := 39) hx hb dX3_mostDug_35 (by decide) ?_
          exact w_X3_mostDug_39 hC hR N (f_X3_mostDug_4 N (ub G) (ug G) a0 n) ih u x2 y11 h hP hS (lv_sub hl [0, 2] rfl)
def f_X3_mostDug (N b : Nat) (g : uEnv) (u : UH) (a0 : Nat) : Option (Int32 × UH) :=
    f_X3_mostDug_4 N b g a0 N u 0 0
set_option maxHeartbeats 4000000 in
set_option maxRecDepth 100000 in
theorem zz_X3_mostDug_0 {G : uG} {a0 : Nat} {uf : UH} {r : Int32} (N : Nat) (u : UH) (h : f_X3_mostDug N (ub G) (ug G) u a0 = some (r, uf)) : uf.1 = u.1 ∧ uf.2.1 = u.2.1 := by
  unfold f_X3_mostDug at h
  have hq := zz_X3_mostDug_4 (G := G) (a0 := a0) N N u 0 0 h
  exact ⟨by omega, by omega⟩
set_option maxHeartbeats 4000000 in
set_option maxRecDepth 100000 in
theorem w_X3_mostDug_0 {p : Program} {l : Launch} {e : Env} {R : Room} {s : State} {m : MethodId} {args : Array Value} {below : List Frame} {meth : Method} {c : Code} {G : uG} {a0 : Nat} {uf : UH} {r : Int32} (hC : uC p s m args meth c G RX3 cX3_mostDug 3 (some .int)) (hR : 0 ≤ R.frames ∧ 0 ≤ R.locals) (N : Nat) (u : UH) (h : f_X3_mostDug N (ub G) (ug G) u a0 = some (r, uf)) {H : Heap} {locs : List Loc} (hP : uP G u H) (hS : va_S (uA G) s.heap H locs) {ls : Array Slot} (hl : lv_has ls 3 [(0, va_rf (some a0))]) : W p l e R s m args below meth c H locs 0 0 (MQ below (uQi G r uf) args s 0 0 (uA G)) (F0 m 0 ls []) := by
  obtain ⟨⟨hx, hb, hml, hown, hts⟩, hKK⟩ := id hC
  unfold f_X3_mostDug at h
  refine lv_iconst (v := 0) hx hb dX3_mostDug_0 (by decide) ?_
  refine lv_istore_n (i := 1) (lv' := [(1, .int 0), (0, va_rf (some a0))]) hx hb dX3_mostDug_1 rfl hl (by decide) rfl (fun ls hl => ?_)
  refine lv_iconst (v := 0) hx hb dX3_mostDug_2 (by decide) ?_
  refine lv_istore_n (i := 2) (lv' := [(2, .int 0), (1, .int 0), (0, va_rf (some a0))]) hx hb dX3_mostDug_3 rfl hl (by decide) rfl (fun ls hl => ?_)
  exact w_X3_mostDug_4 hC hR N N u 0 0 h _ _ hP hS _ (lv_sub hl [2, 1, 0] rfl)
theorem zz_X3_mostDug (N b : Nat) (g : uEnv) (u : UH) (a0 : Nat) (r : Int32) (uf : UH) (h : f_X3_mostDug N b g u a0 = some (r, uf)) : uf.1 = u.1 ∧ uf.2.1 = u.2.1 :=
  zz_X3_mostDug_0 (G := ((fun _ => 0, fun _ _ => 0), fun _ => 0, b, g)) (a0 := a0) N u h
theorem met_X3_mostDug (l : Launch) (N : Nat) (G : uG) (u : UH) (a0 : Nat) (r : Int32) (uf : UH) (h : f_X3_mostDug N (ub G) (ug G) u a0 = some (r, uf)) : Met l yX3_mostDug (ws_ yX3_mostDug cX3_mostDug 3 (some .int)) ({ frames := 0, cells := 0, slots := 0, locals := 0 }) (uPc G u [.ref a0]) (uQi G r uf) 0 0 (uA G) := by
  exact u_met (own := RX3) (by decide +kernel) rfl (Nat.le_of_ble_eq_true rfl) (fun hC hn hsz ls hl hP => w_X3_mostDug_0 hC ⟨Nat.le_refl _, Nat.le_refl _⟩ N u h hP va_S.rf hl)
def f_X3_count_135 (N b : Nat) (g : uEnv) (a0 : Nat) (u : UH) (s0 : Int32) : Option (Int32 × UH) :=
    some (s0, u)
set_option maxHeartbeats 4000000 in
set_option maxRecDepth 100000 in
theorem zz_X3_count_135 {G : uG} {a0 : Nat} {uf : UH} {r : Int32} (N : Nat) (u : UH) (s0 : Int32) (h : f_X3_count_135 N (ub G) (ug G) a0 u s0 = some (r, uf)) : uf.1 = u.1 ∧ uf.2.1 = u.2.1 := by
  unfold f_X3_count_135 at h
  obtain ⟨hr1, hr2⟩ := uret_n h
  subst hr2
  exact ⟨by omega, by omega⟩
set_option maxHeartbeats 4000000 in
set_option maxRecDepth 100000 in
theorem w_X3_count_135 {p : Program} {l : Launch} {e : Env} {R : Room} {s : State} {m : MethodId} {args : Array Value} {below : List Frame} {meth : Method} {c : Code} {G : uG} {a0 : Nat} {uf : UH} {r : Int32} (hC : uC p s m args meth c G RX3 cX3_count 4 (some .int)) (hR : 1 ≤ R.frames ∧ 22 ≤ R.locals) (N : Nat) (u : UH) (s0 : Int32) (h : f_X3_count_135 N (ub G) (ug G) a0 u s0 = some (r, uf)) {H : Heap} {locs : List Loc} (hP : uP G u H) (hS : va_S (uA G) s.heap H locs) {ls : Array Slot} (hl : lv_has ls 4 []) : W p l e R s m args below meth c H locs 0 0 (MQ below (uQi G r uf) args s 0 0 (uA G)) (F0 m 135 ls [.int s0]) := by
  obtain ⟨⟨hx, hb, hml, hown, hts⟩, hKK⟩ := id hC
  unfold f_X3_count_135 at h
  obtain ⟨hr1, hr2⟩ := uret_n h
  subst hr1
  subst hr2
  exact u_iret hC hP hS dX3_count_135
def f_X3_count_151 (N b : Nat) (g : uEnv) (a0 : Nat) (u : UH) (s0 : Int32) : Option (Int32 × UH) :=
    some (s0, u)
set_option maxHeartbeats 4000000 in
set_option maxRecDepth 100000 in
theorem zz_X3_count_151 {G : uG} {a0 : Nat} {uf : UH} {r : Int32} (N : Nat) (u : UH) (s0 : Int32) (h : f_X3_count_151 N (ub G) (ug G) a0 u s0 = some (r, uf)) : uf.1 = u.1 ∧ uf.2.1 = u.2.1 := by
  unfold f_X3_count_151 at h
  obtain ⟨hr1, hr2⟩ := uret_n h
  subst hr2
  exact ⟨by omega, by omega⟩
set_option maxHeartbeats 4000000 in
set_option maxRecDepth 100000 in
theorem w_X3_count_151 {p : Program} {l : Launch} {e : Env} {R : Room} {s : State} {m : MethodId} {args : Array Value} {below : List Frame} {meth : Method} {c : Code} {G : uG} {a0 : Nat} {uf : UH} {r : Int32} (hC : uC p s m args meth c G RX3 cX3_count 4 (some .int)) (hR : 1 ≤ R.frames ∧ 22 ≤ R.locals) (N : Nat) (u : UH) (s0 : Int32) (h : f_X3_count_151 N (ub G) (ug G) a0 u s0 = some (r, uf)) {H : Heap} {locs : List Loc} (hP : uP G u H) (hS : va_S (uA G) s.heap H locs) {ls : Array Slot} (hl : lv_has ls 4 []) : W p l e R s m args below meth c H locs 0 0 (MQ below (uQi G r uf) args s 0 0 (uA G)) (F0 m 151 ls [.int s0]) := by
  obtain ⟨⟨hx, hb, hml, hown, hts⟩, hKK⟩ := id hC
  unfold f_X3_count_151 at h
  obtain ⟨hr1, hr2⟩ := uret_n h
  subst hr1
  subst hr2
  exact u_iret hC hP hS dX3_count_151
def f_X3_count_167 (N b : Nat) (g : uEnv) (a0 : Nat) (u : UH) (s0 : Int32) : Option (Int32 × UH) :=
    some (s0, u)
set_option maxHeartbeats 4000000 in
set_option maxRecDepth 100000 in
theorem zz_X3_count_167 {G : uG} {a0 : Nat} {uf : UH} {r : Int32} (N : Nat) (u : UH) (s0 : Int32) (h : f_X3_count_167 N (ub G) (ug G) a0 u s0 = some (r, uf)) : uf.1 = u.1 ∧ uf.2.1 = u.2.1 := by
  unfold f_X3_count_167 at h
  obtain ⟨hr1, hr2⟩ := uret_n h
  subst hr2
  exact ⟨by omega, by omega⟩
set_option maxHeartbeats 4000000 in
set_option maxRecDepth 100000 in
theorem w_X3_count_167 {p : Program} {l : Launch} {e : Env} {R : Room} {s : State} {m : MethodId} {args : Array Value} {below : List Frame} {meth : Method} {c : Code} {G : uG} {a0 : Nat} {uf : UH} {r : Int32} (hC : uC p s m args meth c G RX3 cX3_count 4 (some .int)) (hR : 1 ≤ R.frames ∧ 22 ≤ R.locals) (N : Nat) (u : UH) (s0 : Int32) (h : f_X3_count_167 N (ub G) (ug G) a0 u s0 = some (r, uf)) {H : Heap} {locs : List Loc} (hP : uP G u H) (hS : va_S (uA G) s.heap H locs) {ls : Array Slot} (hl : lv_has ls 4 []) : W p l e R s m args below meth c H locs 0 0 (MQ below (uQi G r uf) args s 0 0 (uA G)) (F0 m 167 ls [.int s0]) := by
  obtain ⟨⟨hx, hb, hml, hown, hts⟩, hKK⟩ := id hC
  unfold f_X3_count_167 at h
  obtain ⟨hr1, hr2⟩ := uret_n h
  subst hr1
  subst hr2
  exact u_iret hC hP hS dX3_count_167
def f_X3_count_183 (N b : Nat) (g : uEnv) (a0 : Nat) (u : UH) (s0 : Int32) : Option (Int32 × UH) :=
    some (s0, u)
set_option maxHeartbeats 4000000 in
set_option maxRecDepth 100000 in
theorem zz_X3_count_183 {G : uG} {a0 : Nat} {uf : UH} {r : Int32} (N : Nat) (u : UH) (s0 : Int32) (h : f_X3_count_183 N (ub G) (ug G) a0 u s0 = some (r, uf)) : uf.1 = u.1 ∧ uf.2.1 = u.2.1 := by
  unfold f_X3_count_183 at h
  obtain ⟨hr1, hr2⟩ := uret_n h
  subst hr2
  exact ⟨by omega, by omega⟩
set_option maxHeartbeats 4000000 in
set_option maxRecDepth 100000 in
theorem w_X3_count_183 {p : Program} {l : Launch} {e : Env} {R : Room} {s : State} {m : MethodId} {args : Array Value} {below : List Frame} {meth : Method} {c : Code} {G : uG} {a0 : Nat} {uf : UH} {r : Int32} (hC : uC p s m args meth c G RX3 cX3_count 4 (some .int)) (hR : 1 ≤ R.frames ∧ 22 ≤ R.locals) (N : Nat) (u : UH) (s0 : Int32) (h : f_X3_count_183 N (ub G) (ug G) a0 u s0 = some (r, uf)) {H : Heap} {locs : List Loc} (hP : uP G u H) (hS : va_S (uA G) s.heap H locs) {ls : Array Slot} (hl : lv_has ls 4 []) : W p l e R s m args below meth c H locs 0 0 (MQ below (uQi G r uf) args s 0 0 (uA G)) (F0 m 183 ls [.int s0]) := by
  obtain ⟨⟨hx, hb, hml, hown, hts⟩, hKK⟩ := id hC
  unfold f_X3_count_183 at h
  obtain ⟨hr1, hr2⟩ := uret_n h
  subst hr1
  subst hr2
  exact u_iret hC hP hS dX3_count_183
def f_X3_count_199 (N b : Nat) (g : uEnv) (a0 : Nat) (u : UH) (s0 : Int32) : Option (Int32 × UH) :=
    some (s0, u)
set_option maxHeartbeats 4000000 in
set_option maxRecDepth 100000 in
theorem zz_X3_count_199 {G : uG} {a0 : Nat} {uf : UH} {r : Int32} (N : Nat) (u : UH) (s0 : Int32) (h : f_X3_count_199 N (ub G) (ug G) a0 u s0 = some (r, uf)) : uf.1 = u.1 ∧ uf.2.1 = u.2.1 := by
  unfold f_X3_count_199 at h
  obtain ⟨hr1, hr2⟩ := uret_n h
  subst hr2
  exact ⟨by omega, by omega⟩
set_option maxHeartbeats 4000000 in
set_option maxRecDepth 100000 in
theorem w_X3_count_199 {p : Program} {l : Launch} {e : Env} {R : Room} {s : State} {m : MethodId} {args : Array Value} {below : List Frame} {meth : Method} {c : Code} {G : uG} {a0 : Nat} {uf : UH} {r : Int32} (hC : uC p s m args meth c G RX3 cX3_count 4 (some .int)) (hR : 1 ≤ R.frames ∧ 22 ≤ R.locals) (N : Nat) (u : UH) (s0 : Int32) (h : f_X3_count_199 N (ub G) (ug G) a0 u s0 = some (r, uf)) {H : Heap} {locs : List Loc} (hP : uP G u H) (hS : va_S (uA G) s.heap H locs) {ls : Array Slot} (hl : lv_has ls 4 []) : W p l e R s m args below meth c H locs 0 0 (MQ below (uQi G r uf) args s 0 0 (uA G)) (F0 m 199 ls [.int s0]) := by
  obtain ⟨⟨hx, hb, hml, hown, hts⟩, hKK⟩ := id hC
  unfold f_X3_count_199 at h
  obtain ⟨hr1, hr2⟩ := uret_n h
  subst hr1
  subst hr2
  exact u_iret hC hP hS dX3_count_199
def f_X3_count_215 (N b : Nat) (g : uEnv) (a0 : Nat) (u : UH) (s0 : Int32) : Option (Int32 × UH) :=
    some (s0, u)
set_option maxHeartbeats 4000000 in
set_option maxRecDepth 100000 in
theorem zz_X3_count_215 {G : uG} {a0 : Nat} {uf : UH} {r : Int32} (N : Nat) (u : UH) (s0 : Int32) (h : f_X3_count_215 N (ub G) (ug G) a0 u s0 = some (r, uf)) : uf.1 = u.1 ∧ uf.2.1 = u.2.1 := by
  unfold f_X3_count_215 at h
  obtain ⟨hr1, hr2⟩ := uret_n h
  subst hr2
  exact ⟨by omega, by omega⟩
set_option maxHeartbeats 4000000 in
set_option maxRecDepth 100000 in
theorem w_X3_count_215 {p : Program} {l : Launch} {e : Env} {R : Room} {s : State} {m : MethodId} {args : Array Value} {below : List Frame} {meth : Method} {c : Code} {G : uG} {a0 : Nat} {uf : UH} {r : Int32} (hC : uC p s m args meth c G RX3 cX3_count 4 (some .int)) (hR : 1 ≤ R.frames ∧ 22 ≤ R.locals) (N : Nat) (u : UH) (s0 : Int32) (h : f_X3_count_215 N (ub G) (ug G) a0 u s0 = some (r, uf)) {H : Heap} {locs : List Loc} (hP : uP G u H) (hS : va_S (uA G) s.heap H locs) {ls : Array Slot} (hl : lv_has ls 4 []) : W p l e R s m args below meth c H locs 0 0 (MQ below (uQi G r uf) args s 0 0 (uA G)) (F0 m 215 ls [.int s0]) := by
  obtain ⟨⟨hx, hb, hml, hown, hts⟩, hKK⟩ := id hC
  unfold f_X3_count_215 at h
  obtain ⟨hr1, hr2⟩ := uret_n h
  subst hr1
  subst hr2
  exact u_iret hC hP hS dX3_count_215
def f_X3_count_231 (N b : Nat) (g : uEnv) (a0 : Nat) (u : UH) (s0 : Int32) : Option (Int32 × UH) :=
    some (s0, u)
set_option maxHeartbeats 4000000 in
set_option maxRecDepth 100000 in
theorem zz_X3_count_231 {G : uG} {a0 : Nat} {uf : UH} {r : Int32} (N : Nat) (u : UH) (s0 : Int32) (h : f_X3_count_231 N (ub G) (ug G) a0 u s0 = some (r, uf)) : uf.1 = u.1 ∧ uf.2.1 = u.2.1 := by
  unfold f_X3_count_231 at h
  obtain ⟨hr1, hr2⟩ := uret_n h
  subst hr2
  exact ⟨by omega, by omega⟩
set_option maxHeartbeats 4000000 in
set_option maxRecDepth 100000 in
theorem w_X3_count_231 {p : Program} {l : Launch} {e : Env} {R : Room} {s : State} {m : MethodId} {args : Array Value} {below : List Frame} {meth : Method} {c : Code} {G : uG} {a0 : Nat} {uf : UH} {r : Int32} (hC : uC p s m args meth c G RX3 cX3_count 4 (some .int)) (hR : 1 ≤ R.frames ∧ 22 ≤ R.locals) (N : Nat) (u : UH) (s0 : Int32) (h : f_X3_count_231 N (ub G) (ug G) a0 u s0 = some (r, uf)) {H : Heap} {locs : List Loc} (hP : uP G u H) (hS : va_S (uA G) s.heap H locs) {ls : Array Slot} (hl : lv_has ls 4 []) : W p l e R s m args below meth c H locs 0 0 (MQ below (uQi G r uf) args s 0 0 (uA G)) (F0 m 231 ls [.int s0]) := by
  obtain ⟨⟨hx, hb, hml, hown, hts⟩, hKK⟩ := id hC
  unfold f_X3_count_231 at h
  obtain ⟨hr1, hr2⟩ := uret_n h
  subst hr1
  subst hr2
  exact u_iret hC hP hS dX3_count_231
def f_X3_count_257 (N b : Nat) (g : uEnv) (a0 : Nat) (u : UH) (s0 : Int32) : Option (Int32 × UH) :=
    some (s0, u)
set_option maxHeartbeats 4000000 in
set_option maxRecDepth 100000 in
theorem zz_X3_count_257 {G : uG} {a0 : Nat} {uf : UH} {r : Int32} (N : Nat) (u : UH) (s0 : Int32) (h : f_X3_count_257 N (ub G) (ug G) a0 u s0 = some (r, uf)) : uf.1 = u.1 ∧ uf.2.1 = u.2.1 := by
  unfold f_X3_count_257 at h
  obtain ⟨hr1, hr2⟩ := uret_n h
  subst hr2
  exact ⟨by omega, by omega⟩
set_option maxHeartbeats 4000000 in
set_option maxRecDepth 100000 in
theorem w_X3_count_257 {p : Program} {l : Launch} {e : Env} {R : Room} {s : State} {m : MethodId} {args : Array Value} {below : List Frame} {meth : Method} {c : Code} {G : uG} {a0 : Nat} {uf : UH} {r : Int32} (hC : uC p s m args meth c G RX3 cX3_count 4 (some .int)) (hR : 1 ≤ R.frames ∧ 22 ≤ R.locals) (N : Nat) (u : UH) (s0 : Int32) (h : f_X3_count_257 N (ub G) (ug G) a0 u s0 = some (r, uf)) {H : Heap} {locs : List Loc} (hP : uP G u H) (hS : va_S (uA G) s.heap H locs) {ls : Array Slot} (hl : lv_has ls 4 []) : W p l e R s m args below meth c H locs 0 0 (MQ below (uQi G r uf) args s 0 0 (uA G)) (F0 m 257 ls [.int s0]) := by
  obtain ⟨⟨hx, hb, hml, hown, hts⟩, hKK⟩ := id hC
  unfold f_X3_count_257 at h
  obtain ⟨hr1, hr2⟩ := uret_n h
  subst hr1
  subst hr2
  exact u_iret hC hP hS dX3_count_257
def f_X3_count_273 (N b : Nat) (g : uEnv) (a0 : Nat) (u : UH) (s0 : Int32) : Option (Int32 × UH) :=
    some (s0, u)
set_option maxHeartbeats 4000000 in
set_option maxRecDepth 100000 in
theorem zz_X3_count_273 {G : uG} {a0 : Nat} {uf : UH} {r : Int32} (N : Nat) (u : UH) (s0 : Int32) (h : f_X3_count_273 N (ub G) (ug G) a0 u s0 = some (r, uf)) : uf.1 = u.1 ∧ uf.2.1 = u.2.1 := by
  unfold f_X3_count_273 at h
  obtain ⟨hr1, hr2⟩ := uret_n h
  subst hr2
  exact ⟨by omega, by omega⟩
set_option maxHeartbeats 4000000 in
set_option maxRecDepth 100000 in
theorem w_X3_count_273 {p : Program} {l : Launch} {e : Env} {R : Room} {s : State} {m : MethodId} {args : Array Value} {below : List Frame} {meth : Method} {c : Code} {G : uG} {a0 : Nat} {uf : UH} {r : Int32} (hC : uC p s m args meth c G RX3 cX3_count 4 (some .int)) (hR : 1 ≤ R.frames ∧ 22 ≤ R.locals) (N : Nat) (u : UH) (s0 : Int32) (h : f_X3_count_273 N (ub G) (ug G) a0 u s0 = some (r, uf)) {H : Heap} {locs : List Loc} (hP : uP G u H) (hS : va_S (uA G) s.heap H locs) {ls : Array Slot} (hl : lv_has ls 4 []) : W p l e R s m args below meth c H locs 0 0 (MQ below (uQi G r uf) args s 0 0 (uA G)) (F0 m 273 ls [.int s0]) := by
  obtain ⟨⟨hx, hb, hml, hown, hts⟩, hKK⟩ := id hC
  unfold f_X3_count_273 at h
  obtain ⟨hr1, hr2⟩ := uret_n h
  subst hr1
  subst hr2
  exact u_iret hC hP hS dX3_count_273
def f_X3_count_48 (N b : Nat) (g : uEnv) (a0 : Nat) (u : UH) (x1 : Int32) (x2 : Int32) : Option (Int32 × UH) :=
    if x1 = 0 then
    (uGI u a0 2 12).bind fun y2 =>
    if y2 = 0 then
    f_X3_count_135 N b g a0 u 0
    else
    (uGI u a0 2 22).bind fun y4 =>
    f_X3_count_135 N b g a0 u y4
    else
    if x1 = 1 then
    (uGI u a0 2 12).bind fun y6 =>
    if y6 = 0 then
    f_X3_count_151 N b g a0 u 0
    else
    (uGI u a0 2 23).bind fun y8 =>
    f_X3_count_151 N b g a0 u y8
    else
    if x1 = 2 then
    (uGI u a0 2 12).bind fun y10 =>
    if y10 = 0 then
    f_X3_count_167 N b g a0 u 0
    else
    (uGI u a0 2 24).bind fun y12 =>
    f_X3_count_167 N b g a0 u y12
    else
    if x1 = 3 then
    (uGI u a0 2 12).bind fun y14 =>
    if y14 = 0 then
    f_X3_count_183 N b g a0 u 0
    else
    (uGI u a0 2 25).bind fun y16 =>
    f_X3_count_183 N b g a0 u y16
    else
    if x1 = 4 then
    (uGI u a0 2 12).bind fun y18 =>
    if y18 = 0 then
    f_X3_count_199 N b g a0 u 0
    else
    (uGI u a0 2 26).bind fun y20 =>
    f_X3_count_199 N b g a0 u y20
    else
    if x1 = 5 then
    (uGI u a0 2 12).bind fun y22 =>
    if y22 = 0 then
    f_X3_count_215 N b g a0 u 0
    else
    (uGI u a0 2 27).bind fun y24 =>
    f_X3_count_215 N b g a0 u y24
    else
    if x1 = 6 then
    (uGI u a0 2 12).bind fun y26 =>
    if y26 = 0 then
    f_X3_count_231 N b g a0 u 0
    else
    (uGI u a0 2 28).bind fun y28 =>
    f_X3_count_231 N b g a0 u y28
    else
    if x1 = 7 then
    (uGI u a0 2 38).bind fun y30 =>
    some (y30, u)
    else
    if x1 = 8 then
    (uGI u a0 2 34).bind fun y32 =>
    if y32 = 0 then
    f_X3_count_257 N b g a0 u 0
    else
    (uGI u a0 2 35).bind fun y34 =>
    (uGI u a0 2 36).bind fun y35 =>
    f_X3_count_257 N b g a0 u (y34 * y35)
    else
    if x1 = 9 then
    (uGI u a0 2 34).bind fun y37 =>
    if y37 = 0 then
    f_X3_count_273 N b g a0 u 0
    else
    (uGI u a0 2 37).bind fun y39 =>
    f_X3_count_273 N b g a0 u y39
    else
    if x1 = 10 then
    some (x2, u)
    else
    if x1 = 11 then
    (uGI u a0 2 40).bind fun y42 =>
    some (y42, u)
    else
    if x1 = 12 then
    if uIs u a0 2 = true then
    ucall (f_X3_mostDug N b g u a0) fun r47 u45 =>
    some (r47, u45)
    else none
    else
    if x1 = 13 then
    (uGI u a0 2 2).bind fun y49 =>
    some (y49, u)
    else
    some ((-1), u)
set_option maxHeartbeats 4000000 in
set_option maxRecDepth 100000 in
theorem zz_X3_count_48 {G : uG} {a0 : Nat} {uf : UH} {r : Int32} (N : Nat) (u : UH) (x1 : Int32) (x2 : Int32) (h : f_X3_count_48 N (ub G) (ug G) a0 u x1 x2 = some (r, uf)) : uf.1 = u.1 ∧ uf.2.1 = u.2.1 := by
  unfold f_X3_count_48 at h
  by_cases c1 : x1 = 0
  · have h := mif_t c1 h
    obtain ⟨y2, hy2, h⟩ := mbind_n h
    by_cases c3 : y2 = 0
    · have h := mif_t c3 h
      have hq := zz_X3_count_135 (G := G) (a0 := a0) N u 0 h
      exact ⟨by omega, by omega⟩
    · have h := mif_f c3 h
      obtain ⟨y4, hy4, h⟩ := mbind_n h
      have hq := zz_X3_count_135 (G := G) (a0 := a0) N u y4 h
      exact ⟨by omega, by omega⟩
  have h := mif_f c1 h
  by_cases c5 : x1 = 1
  · have h := mif_t c5 h
    obtain ⟨y6, hy6, h⟩ := mbind_n h
    by_cases c7 : y6 = 0
    · have h := mif_t c7 h
      have hq := zz_X3_count_151 (G := G) (a0 := a0) N u 0 h
      exact ⟨by omega, by omega⟩
    · have h := mif_f c7 h
      obtain ⟨y8, hy8, h⟩ := mbind_n h
      have hq := zz_X3_count_151 (G := G) (a0 := a0) N u y8 h
      exact ⟨by omega, by omega⟩
  have h := mif_f c5 h
  by_cases c9 : x1 = 2
  · have h := mif_t c9 h
    obtain ⟨y10, hy10, h⟩ := mbind_n h
    by_cases c11 : y10 = 0
    · have h := mif_t c11 h
      have hq := zz_X3_count_167 (G := G) (a0 := a0) N u 0 h
      exact ⟨by omega, by omega⟩
    · have h := mif_f c11 h
      obtain ⟨y12, hy12, h⟩ := mbind_n h
      have hq := zz_X3_count_167 (G := G) (a0 := a0) N u y12 h
      exact ⟨by omega, by omega⟩
  have h := mif_f c9 h
  by_cases c13 : x1 = 3
  · have h := mif_t c13 h
    obtain ⟨y14, hy14, h⟩ := mbind_n h
    by_cases c15 : y14 = 0
    · have h := mif_t c15 h
      have hq := zz_X3_count_183 (G := G) (a0 := a0) N u 0 h
      exact ⟨by omega, by omega⟩
    · have h := mif_f c15 h
      obtain ⟨y16, hy16, h⟩ := mbind_n h
      have hq := zz_X3_count_183 (G := G) (a0 := a0) N u y16 h
      exact ⟨by omega, by omega⟩
  have h := mif_f c13 h
  by_cases c17 : x1 = 4
  · have h := mif_t c17 h
    obtain ⟨y18, hy18, h⟩ := mbind_n h
    by_cases c19 : y18 = 0
    · have h := mif_t c19 h
      have hq := zz_X3_count_199 (G := G) (a0 := a0) N u 0 h
      exact ⟨by omega, by omega⟩
    · have h := mif_f c19 h
      obtain ⟨y20, hy20, h⟩ := mbind_n h
      have hq := zz_X3_count_199 (G := G) (a0 := a0) N u y20 h
      exact ⟨by omega, by omega⟩
  have h := mif_f c17 h
  by_cases c21 : x1 = 5
  · have h := mif_t c21 h
    obtain ⟨y22, hy22, h⟩ := mbind_n h
    by_cases c23 : y22 = 0
    · have h := mif_t c23 h
      have hq := zz_X3_count_215 (G := G) (a0 := a0) N u 0 h
      exact ⟨by omega, by omega⟩
    · have h := mif_f c23 h
      obtain ⟨y24, hy24, h⟩ := mbind_n h
      have hq := zz_X3_count_215 (G := G) (a0 := a0) N u y24 h
      exact ⟨by omega, by omega⟩
  have h := mif_f c21 h
  by_cases c25 : x1 = 6
  · have h := mif_t c25 h
    obtain ⟨y26, hy26, h⟩ := mbind_n h
    by_cases c27 : y26 = 0
    · have h := mif_t c27 h
      have hq := zz_X3_count_231 (G := G) (a0 := a0) N u 0 h
      exact ⟨by omega, by omega⟩
    · have h := mif_f c27 h
      obtain ⟨y28, hy28, h⟩ := mbind_n h
      have hq := zz_X3_count_231 (G := G) (a0 := a0) N u y28 h
      exact ⟨by omega, by omega⟩
  have h := mif_f c25 h
  by_cases c29 : x1 = 7
  · have h := mif_t c29 h
    obtain ⟨y30, hy30, h⟩ := mbind_n h
    obtain ⟨hr1, hr2⟩ := uret_n h
    subst hr2
    exact ⟨by omega, by omega⟩
  have h := mif_f c29 h
  by_cases c31 : x1 = 8
  · have h := mif_t c31 h
    obtain ⟨y32, hy32, h⟩ := mbind_n h
    by_cases c33 : y32 = 0
    · have h := mif_t c33 h
      have hq := zz_X3_count_257 (G := G) (a0 := a0) N u 0 h
      exact ⟨by omega, by omega⟩
    · have h := mif_f c33 h
      obtain ⟨y34, hy34, h⟩ := mbind_n h
      obtain ⟨y35, hy35, h⟩ := mbind_n h
      have hq := zz_X3_count_257 (G := G) (a0 := a0) N u (y34 * y35) h
      exact ⟨by omega, by omega⟩
  have h := mif_f c31 h
  by_cases c36 : x1 = 9
  · have h := mif_t c36 h
    obtain ⟨y37, hy37, h⟩ := mbind_n h
    by_cases c38 : y37 = 0
    · have h := mif_t c38 h
      have hq := zz_X3_count_273 (G := G) (a0 := a0) N u 0 h
      exact ⟨by omega, by omega⟩
    · have h := mif_f c38 h
      obtain ⟨y39, hy39, h⟩ := mbind_n h
      have hq := zz_X3_count_273 (G := G) (a0 := a0) N u y39 h
      exact ⟨by omega, by omega⟩
  have h := mif_f c36 h
  by_cases c40 : x1 = 10
  · have h := mif_t c40 h
    obtain ⟨hr1, hr2⟩ := uret_n h
    subst hr2
    exact ⟨by omega, by omega⟩
  have h := mif_f c40 h
  by_cases c41 : x1 = 11
  · have h := mif_t c41 h
    obtain ⟨y42, hy42, h⟩ := mbind_n h
    obtain ⟨hr1, hr2⟩ := uret_n h
    subst hr2
    exact ⟨by omega, by omega⟩
  have h := mif_f c41 h
  by_cases c43 : x1 = 12
  · have h := mif_t c43 h
    obtain ⟨c44, h⟩ := mif_n h
    obtain ⟨r47, u45, c46, h⟩ := ucall_n h
    have zu45 := zz_X3_mostDug N (ub G) (ug G) u a0 r47 u45 c46
    obtain ⟨hr1, hr2⟩ := uret_n h
    subst hr2
    exact ⟨by omega, by omega⟩
  have h := mif_f c43 h
  by_cases c48 : x1 = 13
  · have h := mif_t c48 h
    obtain ⟨y49, hy49, h⟩ := mbind_n h
    obtain ⟨hr1, hr2⟩ := uret_n h
    subst hr2
    exact ⟨by omega, by omega⟩
  have h := mif_f c48 h
  obtain ⟨hr1, hr2⟩ := uret_n h
  subst hr2
  exact ⟨by omega, by omega⟩
set_option maxHeartbeats 4000000 in
set_option maxRecDepth 100000 in
theorem w_X3_count_48 {p : Program} {l : Launch} {e : Env} {R : Room} {s : State} {m : MethodId} {args : Array Value} {below : List Frame} {meth : Method} {c : Code} {G : uG} {a0 : Nat} {uf : UH} {r : Int32} (hC : uC p s m args meth c G RX3 cX3_count 4 (some .int)) (hR : 1 ≤ R.frames ∧ 22 ≤ R.locals) (N : Nat) (u : UH) (x1 : Int32) (x2 : Int32) (h : f_X3_count_48 N (ub G) (ug G) a0 u x1 x2 = some (r, uf)) {H : Heap} {locs : List Loc} (hP : uP G u H) (hS : va_S (uA G) s.heap H locs) {ls : Array Slot} (hl : lv_has ls 4 [(0, va_rf (some a0)), (1, .int x1), (2, .int x2)]) : W p l e R s m args below meth c H locs 0 0 (MQ below (uQi G r uf) args s 0 0 (uA G)) (F0 m 48 ls []) := by
  obtain ⟨⟨hx, hb, hml, hown, hts⟩, hKK⟩ := id hC
  unfold f_X3_count_48 at h
  refine lv_iload_n hx hb dX3_count_48 rfl (lv_at hl 1 rfl) ?_
  by_cases c1 : x1 = 0
  · have h := mif_t c1 h
    refine lv_tableIn (tgt := 120) hx hb dX3_count_49 (by rw [c1]; decide) (by rw [c1]; decide) (by rw [c1]; rfl) (by decide) ?_
    refine u_aload_n (r := some a0) hx hb dX3_count_120 rfl (lv_at hl 0 rfl) ?_
    obtain ⟨y2, hy2, h⟩ := mbind_n h
    refine u_get hC hP (uGI_n hy2) rfl in_X3 (by decide) q1905 (fun _ h => h) dX3_count_121 ?_
    refine lv_if_eq (tgt := 134) hx hb dX3_count_124 (by decide) (fun c3 => ?_) (fun c3 => ?_)
    · have h := mif_t c3 h
      refine lv_iconst (v := 0) hx hb dX3_count_134 (by decide) ?_
      exact w_X3_count_135 hC hR N u 0 h hP hS (lv_sub hl [] rfl)
    · have h := mif_f c3 h
      refine u_aload_n (r := some a0) hx hb dX3_count_127 rfl (lv_at hl 0 rfl) ?_
      obtain ⟨y4, hy4, h⟩ := mbind_n h
      refine u_get hC hP (uGI_n hy4) rfl in_X3 (by decide) q1915 (fun _ h => h) dX3_count_128 ?_
      refine lv_goto (tgt := 135) hx hb dX3_count_131 (by decide) ?_
      exact w_X3_count_135 hC hR N u y4 h hP hS (lv_sub hl [] rfl)
  have h := mif_f c1 h
  by_cases c5 : x1 = 1
  · have h := mif_t c5 h
    refine lv_tableIn (tgt := 136) hx hb dX3_count_49 (by rw [c5]; decide) (by rw [c5]; decide) (by rw [c5]; rfl) (by decide) ?_
    refine u_aload_n (r := some a0) hx hb dX3_count_136 rfl (lv_at hl 0 rfl) ?_
    obtain ⟨y6, hy6, h⟩ := mbind_n h
    refine u_get hC hP (uGI_n hy6) rfl in_X3 (by decide) q1905 (fun _ h => h) dX3_count_137 ?_
    refine lv_if_eq (tgt := 150) hx hb dX3_count_140 (by decide) (fun c7 => ?_) (fun c7 => ?_)
    · have h := mif_t c7 h
      refine lv_iconst (v := 0) hx hb dX3_count_150 (by decide) ?_
      exact w_X3_count_151 hC hR N u 0 h hP hS (lv_sub hl [] rfl)
    · have h := mif_f c7 h
      refine u_aload_n (r := some a0) hx hb dX3_count_143 rfl (lv_at hl 0 rfl) ?_
      obtain ⟨y8, hy8, h⟩ := mbind_n h
      refine u_get hC hP (uGI_n hy8) rfl in_X3 (by decide) q1916 (fun _ h => h) dX3_count_144 ?_
      refine lv_goto (tgt := 151) hx hb dX3_count_147 (by decide) ?_
      exact w_X3_count_151 hC hR N u y8 h hP hS (lv_sub hl [] rfl)
  have h := mif_f c5 h
  by_cases c9 : x1 = 2
  · have h := mif_t c9 h
    refine lv_tableIn (tgt := 152) hx hb dX3_count_49 (by rw [c9]; decide) (by rw [c9]; decide) (by rw [c9]; rfl) (by decide) ?_
    refine u_aload_n (r := some a0) hx hb dX3_count_152 rfl (lv_at hl 0 rfl) ?_
    obtain ⟨y10, hy10, h⟩ := mbind_n h
    refine u_get hC hP (uGI_n hy10) rfl in_X3 (by decide) q1905 (fun _ h => h) dX3_count_153 ?_
    refine lv_if_eq (tgt := 166) hx hb dX3_count_156 (by decide) (fun c11 => ?_) (fun c11 => ?_)
    · have h := mif_t c11 h
      refine lv_iconst (v := 0) hx hb dX3_count_166 (by decide) ?_
      exact w_X3_count_167 hC hR N u 0 h hP hS (lv_sub hl [] rfl)
    · have h := mif_f c11 h
      refine u_aload_n (r := some a0) hx hb dX3_count_159 rfl (lv_at hl 0 rfl) ?_
      obtain ⟨y12, hy12, h⟩ := mbind_n h
      refine u_get hC hP (uGI_n hy12) rfl in_X3 (by decide) q1917 (fun _ h => h) dX3_count_160 ?_
      refine lv_goto (tgt := 167) hx hb dX3_count_163 (by decide) ?_
      exact w_X3_count_167 hC hR N u y12 h hP hS (lv_sub hl [] rfl)
  have h := mif_f c9 h
  by_cases c13 : x1 = 3
  · have h := mif_t c13 h
    refine lv_tableIn (tgt := 168) hx hb dX3_count_49 (by rw [c13]; decide) (by rw [c13]; decide) (by rw [c13]; rfl) (by decide) ?_
    refine u_aload_n (r := some a0) hx hb dX3_count_168 rfl (lv_at hl 0 rfl) ?_
    obtain ⟨y14, hy14, h⟩ := mbind_n h
    refine u_get hC hP (uGI_n hy14) rfl in_X3 (by decide) q1905 (fun _ h => h) dX3_count_169 ?_
    refine lv_if_eq (tgt := 182) hx hb dX3_count_172 (by decide) (fun c15 => ?_) (fun c15 => ?_)
    · have h := mif_t c15 h
      refine lv_iconst (v := 0) hx hb dX3_count_182 (by decide) ?_
      exact w_X3_count_183 hC hR N u 0 h hP hS (lv_sub hl [] rfl)
    · have h := mif_f c15 h
      refine u_aload_n (r := some a0) hx hb dX3_count_175 rfl (lv_at hl 0 rfl) ?_
      obtain ⟨y16, hy16, h⟩ := mbind_n h
      refine u_get hC hP (uGI_n hy16) rfl in_X3 (by decide) q1918 (fun _ h => h) dX3_count_176 ?_
      refine lv_goto (tgt := 183) hx hb dX3_count_179 (by decide) ?_
      exact w_X3_count_183 hC hR N u y16 h hP hS (lv_sub hl [] rfl)
  have h := mif_f c13 h
  by_cases c17 : x1 = 4
  · have h := mif_t c17 h
    refine lv_tableIn (tgt := 184) hx hb dX3_count_49 (by rw [c17]; decide) (by rw [c17]; decide) (by rw [c17]; rfl) (by decide) ?_
    refine u_aload_n (r := some a0) hx hb dX3_count_184 rfl (lv_at hl 0 rfl) ?_
    obtain ⟨y18, hy18, h⟩ := mbind_n h
    refine u_get hC hP (uGI_n hy18) rfl in_X3 (by decide) q1905 (fun _ h => h) dX3_count_185 ?_
    refine lv_if_eq (tgt := 198) hx hb dX3_count_188 (by decide) (fun c19 => ?_) (fun c19 => ?_)
    · have h := mif_t c19 h
      refine lv_iconst (v := 0) hx hb dX3_count_198 (by decide) ?_
      exact w_X3_count_199 hC hR N u 0 h hP hS (lv_sub hl [] rfl)
    · have h := mif_f c19 h
      refine u_aload_n (r := some a0) hx hb dX3_count_191 rfl (lv_at hl 0 rfl) ?_
      obtain ⟨y20, hy20, h⟩ := mbind_n h
      refine u_get hC hP (uGI_n hy20) rfl in_X3 (by decide) q1919 (fun _ h => h) dX3_count_192 ?_
      refine lv_goto (tgt := 199) hx hb dX3_count_195 (by decide) ?_
      exact w_X3_count_199 hC hR N u y20 h hP hS (lv_sub hl [] rfl)
  have h := mif_f c17 h
  by_cases c21 : x1 = 5
  · have h := mif_t c21 h
    refine lv_tableIn (tgt := 200) hx hb dX3_count_49 (by rw [c21]; decide) (by rw [c21]; decide) (by rw [c21]; rfl) (by decide) ?_
    refine u_aload_n (r := some a0) hx hb dX3_count_200 rfl (lv_at hl 0 rfl) ?_
    obtain ⟨y22, hy22, h⟩ := mbind_n h
    refine u_get hC hP (uGI_n hy22) rfl in_X3 (by decide) q1905 (fun _ h => h) dX3_count_201 ?_
    refine lv_if_eq (tgt := 214) hx hb dX3_count_204 (by decide) (fun c23 => ?_) (fun c23 => ?_)
    · have h := mif_t c23 h
      refine lv_iconst (v := 0) hx hb dX3_count_214 (by decide) ?_
      exact w_X3_count_215 hC hR N u 0 h hP hS (lv_sub hl [] rfl)
    · have h := mif_f c23 h
      refine u_aload_n (r := some a0) hx hb dX3_count_207 rfl (lv_at hl 0 rfl) ?_
      obtain ⟨y24, hy24, h⟩ := mbind_n h
      refine u_get hC hP (uGI_n hy24) rfl in_X3 (by decide) q1920 (fun _ h => h) dX3_count_208 ?_
      refine lv_goto (tgt := 215) hx hb dX3_count_211 (by decide) ?_
      exact w_X3_count_215 hC hR N u y24 h hP hS (lv_sub hl [] rfl)
  have h := mif_f c21 h
  by_cases c25 : x1 = 6
  · have h := mif_t c25 h
    refine lv_tableIn (tgt := 216) hx hb dX3_count_49 (by rw [c25]; decide) (by rw [c25]; decide) (by rw [c25]; rfl) (by decide) ?_
    refine u_aload_n (r := some a0) hx hb dX3_count_216 rfl (lv_at hl 0 rfl) ?_
    obtain ⟨y26, hy26, h⟩ := mbind_n h
    refine u_get hC hP (uGI_n hy26) rfl in_X3 (by decide) q1905 (fun _ h => h) dX3_count_217 ?_
    refine lv_if_eq (tgt := 230) hx hb dX3_count_220 (by decide) (fun c27 => ?_) (fun c27 => ?_)
    · have h := mif_t c27 h
      refine lv_iconst (v := 0) hx hb dX3_count_230 (by decide) ?_
      exact w_X3_count_231 hC hR N u 0 h hP hS (lv_sub hl [] rfl)
    · have h := mif_f c27 h
      refine u_aload_n (r := some a0) hx hb dX3_count_223 rfl (lv_at hl 0 rfl) ?_
      obtain ⟨y28, hy28, h⟩ := mbind_n h
      refine u_get hC hP (uGI_n hy28) rfl in_X3 (by decide) q1921 (fun _ h => h) dX3_count_224 ?_
      refine lv_goto (tgt := 231) hx hb dX3_count_227 (by decide) ?_
      exact w_X3_count_231 hC hR N u y28 h hP hS (lv_sub hl [] rfl)
  have h := mif_f c25 h
  by_cases c29 : x1 = 7
  · have h := mif_t c29 h
    refine lv_tableIn (tgt := 232) hx hb dX3_count_49 (by rw [c29]; decide) (by rw [c29]; decide) (by rw [c29]; rfl) (by decide) ?_
    refine u_aload_n (r := some a0) hx hb dX3_count_232 rfl (lv_at hl 0 rfl) ?_
    obtain ⟨y30, hy30, h⟩ := mbind_n h
    refine u_get hC hP (uGI_n hy30) rfl in_X3 (by decide) q1931 (fun _ h => h) dX3_count_233 ?_
    obtain ⟨hr1, hr2⟩ := uret_n h
    subst hr1
    subst hr2
    exact u_iret hC hP hS dX3_count_236
  have h := mif_f c29 h
  by_cases c31 : x1 = 8
  · have h := mif_t c31 h
    refine lv_tableIn (tgt := 237) hx hb dX3_count_49 (by rw [c31]; decide) (by rw [c31]; decide) (by rw [c31]; rfl) (by decide) ?_
    refine u_aload_n (r := some a0) hx hb dX3_count_237 rfl (lv_at hl 0 rfl) ?_
    obtain ⟨y32, hy32, h⟩ := mbind_n h
    refine u_get hC hP (uGI_n hy32) rfl in_X3 (by decide) q1927 (fun _ h => h) dX3_count_238 ?_
    refine lv_if_eq (tgt := 256) hx hb dX3_count_241 (by decide) (fun c33 => ?_) (fun c33 => ?_)
    · have h := mif_t c33 h
      refine lv_iconst (v := 0) hx hb dX3_count_256 (by decide) ?_
      exact w_X3_count_257 hC hR N u 0 h hP hS (lv_sub hl [] rfl)
    · have h := mif_f c33 h
      refine u_aload_n (r := some a0) hx hb dX3_count_244 rfl (lv_at hl 0 rfl) ?_
      obtain ⟨y34, hy34, h⟩ := mbind_n h
      refine u_get hC hP (uGI_n hy34) rfl in_X3 (by decide) q1928 (fun _ h => h) dX3_count_245 ?_
      refine u_aload_n (r := some a0) hx hb dX3_count_248 rfl (lv_at hl 0 rfl) ?_
      obtain ⟨y35, hy35, h⟩ := mbind_n h
      refine u_get hC hP (uGI_n hy35) rfl in_X3 (by decide) q1929 (fun _ h => h) dX3_count_249 ?_
      refine lv_imul hx hb dX3_count_252 ?_
      refine lv_goto (tgt := 257) hx hb dX3_count_253 (by decide) ?_
      exact w_X3_count_257 hC hR N u (y34 * y35) h hP hS (lv_sub hl [] rfl)
  have h := mif_f c31 h
  by_cases c36 : x1 = 9
  · have h := mif_t c36 h
    refine lv_tableIn (tgt := 258) hx hb dX3_count_49 (by rw [c36]; decide) (by rw [c36]; decide) (by rw [c36]; rfl) (by decide) ?_
    refine u_aload_n (r := some a0) hx hb dX3_count_258 rfl (lv_at hl 0 rfl) ?_
    obtain ⟨y37, hy37, h⟩ := mbind_n h
    refine u_get hC hP (uGI_n hy37) rfl in_X3 (by decide) q1927 (fun _ h => h) dX3_count_259 ?_
    refine lv_if_eq (tgt := 272) hx hb dX3_count_262 (by decide) (fun c38 => ?_) (fun c38 => ?_)
    · have h := mif_t c38 h
      refine lv_iconst (v := 0) hx hb dX3_count_272 (by decide) ?_
      exact w_X3_count_273 hC hR N u 0 h hP hS (lv_sub hl [] rfl)
    · have h := mif_f c38 h
      refine u_aload_n (r := some a0) hx hb dX3_count_265 rfl (lv_at hl 0 rfl) ?_
      obtain ⟨y39, hy39, h⟩ := mbind_n h
      refine u_get hC hP (uGI_n hy39) rfl in_X3 (by decide) q1930 (fun _ h => h) dX3_count_266 ?_
      refine lv_goto (tgt := 273) hx hb dX3_count_269 (by decide) ?_
      exact w_X3_count_273 hC hR N u y39 h hP hS (lv_sub hl [] rfl)
  have h := mif_f c36 h
  by_cases c40 : x1 = 10
  · have h := mif_t c40 h
    refine lv_tableIn (tgt := 274) hx hb dX3_count_49 (by rw [c40]; decide) (by rw [c40]; decide) (by rw [c40]; rfl) (by decide) ?_
    refine lv_iload_n hx hb dX3_count_274 rfl (lv_at hl 2 rfl) ?_
    obtain ⟨hr1, hr2⟩ := uret_n h
    subst hr1
    subst hr2
    exact u_iret hC hP hS dX3_count_275
  have h := mif_f c40 h
  by_cases c41 : x1 = 11
  · have h := mif_t c41 h
    refine lv_tableIn (tgt := 276) hx hb dX3_count_49 (by rw [c41]; decide) (by rw [c41]; decide) (by rw [c41]; rfl) (by decide) ?_
    refine u_aload_n (r := some a0) hx hb dX3_count_276 rfl (lv_at hl 0 rfl) ?_
    obtain ⟨y42, hy42, h⟩ := mbind_n h
    refine u_get hC hP (uGI_n hy42) rfl in_X3 (by decide) q1933 (fun _ h => h) dX3_count_277 ?_
    obtain ⟨hr1, hr2⟩ := uret_n h
    subst hr1
    subst hr2
    exact u_iret hC hP hS dX3_count_280
  have h := mif_f c41 h
  by_cases c43 : x1 = 12
  · have h := mif_t c43 h
    refine lv_tableIn (tgt := 281) hx hb dX3_count_49 (by rw [c43]; decide) (by rw [c43]; decide) (by rw [c43]; rfl) (by decide) ?_
    refine u_aload_n (r := some a0) hx hb dX3_count_281 rfl (lv_at hl 0 rfl) ?_
    obtain ⟨c44, h⟩ := mif_n h
    obtain ⟨r47, u45, c46, h⟩ := ucall_n h
    have zu45 := zz_X3_mostDug N (ub G) (ug G) u a0 r47 u45 c46
    refine u_calli (va_runV (As := []) (rest := []) hC.1 (met_X3_mostDug l N G u a0 r47 u45 c46) (cwV 0 hts (lw_V q2537 q2539 qs96 q103 q2540) rfl rfl rfl (by decide +kernel) ⟨Nat.le_trans (Nat.le_of_ble_eq_true rfl) hR.1, Nat.le_trans (Nat.le_of_ble_eq_true rfl) hR.2⟩) ⟨uPc_blind, u_rcv hC hP c44 rfl, fun U hU hW => u_pre hC hP hS hU hW⟩ rfl rfl hl.1 rfl (lv_room (Nat.le_of_ble_eq_true rfl)) dX3_count_282 ⟨Nat.zero_le _, Nat.zero_le _⟩) hS (fun H locs hP hS => ?_)
    obtain ⟨hr1, hr2⟩ := uret_n h
    subst hr1
    subst hr2
    exact u_iret hC hP hS dX3_count_285
  have h := mif_f c43 h
  by_cases c48 : x1 = 13
  · have h := mif_t c48 h
    refine lv_tableIn (tgt := 286) hx hb dX3_count_49 (by rw [c48]; decide) (by rw [c48]; decide) (by rw [c48]; rfl) (by decide) ?_
    refine u_aload_n (r := some a0) hx hb dX3_count_286 rfl (lv_at hl 0 rfl) ?_
    obtain ⟨y49, hy49, h⟩ := mbind_n h
    refine u_get hC hP (uGI_n hy49) rfl in_X3 (by decide) q1895 (fun _ h => h) dX3_count_287 ?_
    obtain ⟨hr1, hr2⟩ := uret_n h
    subst hr1
    subst hr2
    exact u_iret hC hP hS dX3_count_290
  have h := mif_f c48 h
  refine lv_tableOut (tgt := 291) hx hb dX3_count_49 (m_out 0 13 [0, 1, 2, 3, 4, 5, 6, 7, 8, 9, 10, 11, 12, 13] 14 (by decide) (by decide) (fun z hz => ?_)) (by decide) ?_
  · simp only [List.mem_cons, List.not_mem_nil, or_false] at hz
    rcases hz with rfl | rfl | rfl | rfl | rfl | rfl | rfl | rfl | rfl | rfl | rfl | rfl | rfl | rfl
    · exact c1
    · exact c5
    · exact c9
    · exact c13
    · exact c17
    · exact c21
    · exact c25
    · exact c29
    · exact c31
    · exact c36
    · exact c40
    · exact c41
    · exact c43
    · exact c48
  · refine lv_iconst (v := (-1)) hx hb dX3_count_291 (by decide) ?_
    obtain ⟨hr1, hr2⟩ := uret_n h
    subst hr1
    subst hr2
    exact u_iret hC hP hS dX3_count_292
def f_X3_count_40 (N b : Nat) (g : uEnv) (a0 : Nat) (k9 : UH → Int32 → Int32 → Int32 → Option (Int32 × UH)) (u : UH) (x1 : Int32) (x3 : Int32) (s0 : Int32) (s1 : Int32) : Option (Int32 × UH) :=
    mlet (s1 + s0) fun y1 =>
    mlet (x3 + 1) fun y2 =>
    k9 u x1 y1 y2
set_option maxHeartbeats 4000000 in
set_option maxRecDepth 100000 in
theorem zz_X3_count_40 {G : uG} {a0 : Nat} {uf : UH} {r : Int32} (N : Nat) (k9 : UH → Int32 → Int32 → Int32 → Option (Int32 × UH)) (hk9 : ∀ (u : UH) (x1 : Int32) (x2 : Int32) (x3 : Int32), k9 u x1 x2 x3 = some (r, uf) → uf.1 = u.1 ∧ uf.2.1 = u.2.1) (u : UH) (x1 : Int32) (x3 : Int32) (s0 : Int32) (s1 : Int32) (h : f_X3_count_40 N (ub G) (ug G) a0 k9 u x1 x3 s0 s1 = some (r, uf)) : uf.1 = u.1 ∧ uf.2.1 = u.2.1 := by
  unfold f_X3_count_40 at h
  obtain ⟨y1, ey1⟩ : ∃ z, z = s1 + s0 := ⟨_, rfl⟩
  have h := mlet_at ey1 h
  obtain ⟨y2, ey2⟩ : ∃ z : Int32, z = x3 + 1 := ⟨_, rfl⟩
  have h := mlet_at ey2 h
  have hq := hk9 u x1 y1 y2 h
  exact ⟨by omega, by omega⟩
set_option maxHeartbeats 4000000 in
set_option maxRecDepth 100000 in
theorem w_X3_count_40 {p : Program} {l : Launch} {e : Env} {R : Room} {s : State} {m : MethodId} {args : Array Value} {below : List Frame} {meth : Method} {c : Code} {G : uG} {a0 : Nat} {uf : UH} {r : Int32} (hC : uC p s m args meth c G RX3 cX3_count 4 (some .int)) (hR : 1 ≤ R.frames ∧ 22 ≤ R.locals) (N : Nat) (k9 : UH → Int32 → Int32 → Int32 → Option (Int32 × UH)) (hk9 : ∀ (u : UH) (x1 : Int32) (x2 : Int32) (x3 : Int32), k9 u x1 x2 x3 = some (r, uf) → ∀ (H : Heap) (locs : List Loc), uP G u H → va_S (uA G) s.heap H locs → ∀ ls : Array Slot, lv_has ls 4 [(0, va_rf (some a0)), (1, .int x1), (2, .int x2), (3, .int x3)] → W p l e R s m args below meth c H locs 0 0 (MQ below (uQi G r uf) args s 0 0 (uA G)) (F0 m 9 ls [])) (u : UH) (x1 : Int32) (x3 : Int32) (s0 : Int32) (s1 : Int32) (h : f_X3_count_40 N (ub G) (ug G) a0 k9 u x1 x3 s0 s1 = some (r, uf)) {H : Heap} {locs : List Loc} (hP : uP G u H) (hS : va_S (uA G) s.heap H locs) {ls : Array Slot} (hl : lv_has ls 4 [(0, va_rf (some a0)), (1, .int x1), (3, .int x3)]) : W p l e R s m args below meth c H locs 0 0 (MQ below (uQi G r uf) args s 0 0 (uA G)) (F0 m 40 ls [.int s0, .int s1]) := by
  obtain ⟨⟨hx, hb, hml, hown, hts⟩, hKK⟩ := id hC
  unfold f_X3_count_40 at h
  refine lv_iadd hx hb dX3_count_40 ?_
  refine lv_topi (fun y1 ey1 => ?_)
  have h := mlet_at ey1 h
  refine lv_istore_n (i := 2) (lv' := [(2, .int y1), (0, va_rf (some a0)), (1, .int x1), (3, .int x3)]) hx hb dX3_count_41 rfl hl (by decide) rfl (fun ls hl => ?_)
  obtain ⟨y2, ey2⟩ : ∃ z : Int32, z = x3 + 1 := ⟨_, rfl⟩
  have h := mlet_at ey2 h
  refine lv_iinc (v := y2) (lv' := [(3, .int y2), (2, .int y1), (0, va_rf (some a0)), (1, .int x1)]) hx hb dX3_count_42 hl (k := 3) rfl (by rw [ey2]; rfl) (by decide) rfl (fun ls hl => ?_)
  refine lv_goto (tgt := 9) hx hb dX3_count_45 (by decide) ?_
  exact hk9 u x1 y1 y2 h _ _ hP hS _ (lv_sub hl [2, 3, 1, 0] rfl)
def f_X3_count_9 (N b : Nat) (g : uEnv) (a0 : Nat) : Nat → UH → Int32 → Int32 → Int32 → Option (Int32 × UH)
  | 0, _, _, _, _ => none
  | n + 1, u, x1, x2, x3 =>
    (uGI u a0 2 37).bind fun y1 =>
    if y1 ≤ x3 then
    f_X3_count_48 N b g a0 u x1 x2
    else
    (uGI u a0 2 34).bind fun y3 =>
    if y3 = 0 then
    f_X3_count_48 N b g a0 u x1 x2
    else
    (uGR u a0 2 45).bind fun o5 =>
    (o5).bind fun a6 =>
    (uLdI u a6 0 x3).bind fun y7 =>
    if y7 = (-1) then
    f_X3_count_40 N b g a0 (f_X3_count_9 N b g a0 n) u x1 x3 1 x2
    else
    f_X3_count_40 N b g a0 (f_X3_count_9 N b g a0 n) u x1 x3 0 x2
set_option maxHeartbeats 4000000 in
set_option maxRecDepth 100000 in
theorem zz_X3_count_9 {G : uG} {a0 : Nat} {uf : UH} {r : Int32} (N : Nat) : ∀ (n : Nat) (u : UH) (x1 : Int32) (x2 : Int32) (x3 : Int32), f_X3_count_9 N (ub G) (ug G) a0 n u x1 x2 x3 = some (r, uf) → uf.1 = u.1 ∧ uf.2.1 = u.2.1 := by
  intro n
  induction n with
  | zero =>
    intro u x1 x2 x3 h
    cases h
  | succ n ih =>
    intro u x1 x2 x3 h
    unfold f_X3_count_9 at h
    obtain ⟨y1, hy1, h⟩ := mbind_n h
    by_cases c2 : y1 ≤ x3
    · have h := mif_t c2 h
      have hq := zz_X3_count_48 (G := G) (a0 := a0) N u x1 x2 h
      exact ⟨by omega, by omega⟩
    · have h := mif_f c2 h
      obtain ⟨y3, hy3, h⟩ := mbind_n h
      by_cases c4 : y3 = 0
      · have h := mif_t c4 h
        have hq := zz_X3_count_48 (G := G) (a0 := a0) N u x1 x2 h
        exact ⟨by omega, by omega⟩
      · have h := mif_f c4 h
        obtain ⟨o5, ho5, h⟩ := mbind_n h
        obtain ⟨a6, ha6, hha6⟩ := mbind_n h
        subst ha6
        have h := hha6
        obtain ⟨y7, hy7, h⟩ := mbind_n h
        by_cases c8 : y7 = (-1)
        · have h := mif_t c8 h
          have hq := zz_X3_count_40 (G := G) (a0 := a0) N (f_X3_count_9 N (ub G) (ug G) a0 n) ih u x1 x3 1 x2 h
          exact ⟨by omega, by omega⟩
        · have h := mif_f c8 h
          have hq := zz_X3_count_40 (G := G) (a0 := a0) N (f_X3_count_9 N (ub G) (ug G) a0 n) ih u x1 x3 0 x2 h
          exact ⟨by omega, by omega⟩
set_option maxHeartbeats 4000000 in
set_option maxRecDepth 100000 in
theorem w_X3_count_9 {p : Program} {l : Launch} {e : Env} {R : Room} {s : State} {m : MethodId} {args : Array Value} {below : List Frame} {meth : Method} {c : Code} {G : uG} {a0 : Nat} {uf : UH} {r : Int32} (hC : uC p s m args meth c G RX3 cX3_count 4 (some .int)) (hR : 1 ≤ R.frames ∧ 22 ≤ R.locals) (N : Nat) : ∀ (n : Nat) (u : UH) (x1 : Int32) (x2 : Int32) (x3 : Int32), f_X3_count_9 N (ub G) (ug G) a0 n u x1 x2 x3 = some (r, uf) → ∀ (H : Heap) (locs : List Loc), uP G u H → va_S (uA G) s.heap H locs → ∀ ls : Array Slot, lv_has ls 4 [(0, va_rf (some a0)), (1, .int x1), (2, .int x2), (3, .int x3)] → W p l e R s m args below meth c H locs 0 0 (MQ below (uQi G r uf) args s 0 0 (uA G)) (F0 m 9 ls []) := by
  obtain ⟨⟨hx, hb, hml, hown, hts⟩, hKK⟩ := id hC
  intro n
  induction n with
  | zero =>
    intro u x1 x2 x3 h
    cases h
  | succ n ih =>
    intro u x1 x2 x3 h H locs hP hS ls hl
    unfold f_X3_count_9 at h
    refine lv_iload_n hx hb dX3_count_9 rfl (lv_at hl 3 rfl) ?_
    refine u_aload_n (r := some a0) hx hb dX3_count_10 rfl (lv_at hl 0 rfl) ?_
    obtain ⟨y1, hy1, h⟩ := mbind_n h
    refine u_get hC hP (uGI_n hy1) rfl in_X3 (by decide) q1930 (fun _ h => h) dX3_count_11 ?_
    refine lv_icmp_ge (tgt := 48) hx hb dX3_count_14 (by decide) (fun c2 => ?_) (fun c2 => ?_)
    · have h := mif_t c2 h
      exact w_X3_count_48 hC hR N u x1 x2 h hP hS (lv_sub hl [0, 1, 2] rfl)
    · have h := mif_f c2 h
      refine u_aload_n (r := some a0) hx hb dX3_count_17 rfl (lv_at hl 0 rfl) ?_
      obtain ⟨y3, hy3, h⟩ := mbind_n h
      refine u_get hC hP (uGI_n hy3) rfl in_X3 (by decide) q1927 (fun _ h => h) dX3_count_18 ?_
      refine lv_if_eq (tgt := 48) hx hb dX3_count_21 (by decide) (fun c4 => ?_) (fun c4 => ?_)
      · have h := mif_t c4 h
        exact w_X3_count_48 hC hR N u x1 x2 h hP hS (lv_sub hl [0, 1, 2] rfl)
      · have h := mif_f c4 h
        refine lv_iload_n hx hb dX3_count_24 rfl (lv_at hl 2 rfl) ?_
        refine u_aload_n (r := some a0) hx hb dX3_count_25 rfl (lv_at hl 0 rfl) ?_
        obtain ⟨o5, ho5, h⟩ := mbind_n h
        refine u_get hC hP (uGR_n ho5) rfl in_X3 (by decide) q1938 (fun _ h => h) dX3_count_26 ?_
        refine lv_iload_n hx hb dX3_count_29 rfl (lv_at hl 3 rfl) ?_
        obtain ⟨a6, ha6, hha6⟩ := mbind_n h
        subst ha6
        have h := hha6
        obtain ⟨y7, hy7, h⟩ := mbind_n h
        refine u_iald hC hP hy7 rfl dX3_count_30 ?_
        refine lv_iconst (v := (-1)) hx hb dX3_count_31 (by decide) ?_
        refine lv_icmp_ne (tgt := 39) hx hb dX3_count_32 (by decide) (fun c8 => ?_) (fun c8 => ?_)
        · have h := mif_f c8 h
          refine lv_iconst (v := 0) hx hb dX3_count_39 (by decide) ?_
          exact w_X3_count_40 hC hR N (f_X3_count_9 N (ub G) (ug G) a0 n) ih u x1 x3 0 x2 h hP hS (lv_sub hl [0, 1, 3] rfl)
        · have h := mif_t c8 h
          refine lv_iconst (v := 1) hx hb dX3_count_35 (by decide) ?_
          refine lv_goto (tgt := 40) hx hb dX3_count_36 (by decide) ?_
          exact w_X3_count_40 hC hR N (f_X3_count_9 N (ub G) (ug G) a0 n) ih u x1 x3 1 x2 h hP hS (lv_sub hl [0, 1, 3] rfl)
def f_X3_count (N b : Nat) (g : uEnv) (u : UH) (a0 : Nat) (x1 : Int32) : Option (Int32 × UH) :=
    (uPut b u a0 2 0 (.int 0)).bind fun u1 =>
    f_X3_count_9 N b g a0 N u1 x1 0 0
set_option maxHeartbeats 4000000 in
set_option maxRecDepth 100000 in
theorem zz_X3_count_0 {G : uG} {a0 : Nat} {uf : UH} {r : Int32} (N : Nat) (u : UH) (x1 : Int32) (h : f_X3_count N (ub G) (ug G) u a0 x1 = some (r, uf)) : uf.1 = u.1 ∧ uf.2.1 = u.2.1 := by
  unfold f_X3_count at h
  obtain ⟨u1, hu1, h⟩ := mbind_n h
  have zu1 := uPut_sz hu1
  have hq := zz_X3_count_9 (G := G) (a0 := a0) N N u1 x1 0 0 h
  exact ⟨by omega, by omega⟩
set_option maxHeartbeats 4000000 in
set_option maxRecDepth 100000 in
theorem w_X3_count_0 {p : Program} {l : Launch} {e : Env} {R : Room} {s : State} {m : MethodId} {args : Array Value} {below : List Frame} {meth : Method} {c : Code} {G : uG} {a0 : Nat} {uf : UH} {r : Int32} (hC : uC p s m args meth c G RX3 cX3_count 4 (some .int)) (hR : 1 ≤ R.frames ∧ 22 ≤ R.locals) (N : Nat) (u : UH) (x1 : Int32) (h : f_X3_count N (ub G) (ug G) u a0 x1 = some (r, uf)) {H : Heap} {locs : List Loc} (hP : uP G u H) (hS : va_S (uA G) s.heap H locs) {ls : Array Slot} (hl : lv_has ls 4 [(0, va_rf (some a0)), (1, .int x1)]) : W p l e R s m args below meth c H locs 0 0 (MQ below (uQi G r uf) args s 0 0 (uA G)) (F0 m 0 ls []) := by
  obtain ⟨⟨hx, hb, hml, hown, hts⟩, hKK⟩ := id hC
  unfold f_X3_count at h
  refine u_aload_n (r := some a0) hx hb dX3_count_0 rfl (lv_at hl 0 rfl) ?_
  refine lv_iconst (v := 0) hx hb dX3_count_1 (by decide) ?_
  obtain ⟨u1, hu1, h⟩ := mbind_n h
  have zu1 := uPut_sz hu1
  refine u_put hC hP hS hu1 rfl in_X3 tyX3 tyX3_ok nmX3 (by decide) q1893 (fun _ h => h) rfl (ty := .int) (tyX3_ok 0 (by decide)) rfl rfl dX3_count_2 (fun H locs hP hS => ?_)
  refine lv_iconst (v := 0) hx hb dX3_count_5 (by decide) ?_
  refine lv_istore_n (i := 2) (lv' := [(2, .int 0), (0, va_rf (some a0)), (1, .int x1)]) hx hb dX3_count_6 rfl hl (by decide) rfl (fun ls hl => ?_)
  refine lv_iconst (v := 0) hx hb dX3_count_7 (by decide) ?_
  refine lv_istore_n (i := 3) (lv' := [(3, .int 0), (2, .int 0), (0, va_rf (some a0)), (1, .int x1)]) hx hb dX3_count_8 rfl hl (by decide) rfl (fun ls hl => ?_)
  exact w_X3_count_9 hC hR N N u1 x1 0 0 h _ _ hP hS _ (lv_sub hl [2, 3, 1, 0] rfl)
theorem zz_X3_count (N b : Nat) (g : uEnv) (u : UH) (a0 : Nat) (x1 : Int32) (r : Int32) (uf : UH) (h : f_X3_count N b g u a0 x1 = some (r, uf)) : uf.1 = u.1 ∧ uf.2.1 = u.2.1 :=
  zz_X3_count_0 (G := ((fun _ => 0, fun _ _ => 0), fun _ => 0, b, g)) (a0 := a0) N u x1 h
theorem met_X3_count (l : Launch) (N : Nat) (G : uG) (u : UH) (a0 : Nat) (x1 : Int32) (r : Int32) (uf : UH) (h : f_X3_count N (ub G) (ug G) u a0 x1 = some (r, uf)) : Met l yX3_count (ws_ yX3_count cX3_count 4 (some .int)) ({ frames := 1, cells := 0, slots := 0, locals := 22 }) (uPc G u [.ref a0, .int x1]) (uQi G r uf) 0 0 (uA G) := by
  exact u_met (own := RX3) (by decide +kernel) rfl (Nat.le_of_ble_eq_true rfl) (fun hC hn hsz ls hl hP => w_X3_count_0 hC ⟨Nat.le_refl _, Nat.le_refl _⟩ N u x1 h hP va_S.rf hl)
def f_X3_not (N b : Nat) (g : uEnv) (u : UH) (a0 : Nat) (x1 : Int32) : Option (Int32 × UH) :=
    (uPut b u a0 2 39 (.int x1)).bind fun u1 =>
    some (0, u1)
set_option maxHeartbeats 4000000 in
set_option maxRecDepth 100000 in
theorem zz_X3_not_0 {G : uG} {a0 : Nat} {uf : UH} {r : Int32} (N : Nat) (u : UH) (x1 : Int32) (h : f_X3_not N (ub G) (ug G) u a0 x1 = some (r, uf)) : uf.1 = u.1 ∧ uf.2.1 = u.2.1 := by
  unfold f_X3_not at h
  obtain ⟨u1, hu1, h⟩ := mbind_n h
  have zu1 := uPut_sz hu1
  obtain ⟨hr1, hr2⟩ := uret_n h
  subst hr2
  exact ⟨by omega, by omega⟩
set_option maxHeartbeats 4000000 in
set_option maxRecDepth 100000 in
theorem w_X3_not_0 {p : Program} {l : Launch} {e : Env} {R : Room} {s : State} {m : MethodId} {args : Array Value} {below : List Frame} {meth : Method} {c : Code} {G : uG} {a0 : Nat} {uf : UH} {r : Int32} (hC : uC p s m args meth c G RX3 cX3_not 2 (some .boolean)) (hR : 0 ≤ R.frames ∧ 0 ≤ R.locals) (N : Nat) (u : UH) (x1 : Int32) (h : f_X3_not N (ub G) (ug G) u a0 x1 = some (r, uf)) {H : Heap} {locs : List Loc} (hP : uP G u H) (hS : va_S (uA G) s.heap H locs) {ls : Array Slot} (hl : lv_has ls 2 [(0, va_rf (some a0)), (1, .int x1)]) : W p l e R s m args below meth c H locs 0 0 (MQ below (uQi G r uf) args s 0 0 (uA G)) (F0 m 0 ls []) := by
  obtain ⟨⟨hx, hb, hml, hown, hts⟩, hKK⟩ := id hC
  unfold f_X3_not at h
  refine u_aload_n (r := some a0) hx hb dX3_not_0 rfl (lv_at hl 0 rfl) ?_
  refine lv_iload_n hx hb dX3_not_1 rfl (lv_at hl 1 rfl) ?_
  obtain ⟨u1, hu1, h⟩ := mbind_n h
  have zu1 := uPut_sz hu1
  refine u_put hC hP hS hu1 rfl in_X3 tyX3 tyX3_ok nmX3 (by decide) q1932 (fun _ h => h) rfl (ty := .int) (tyX3_ok 39 (by decide)) rfl rfl dX3_not_2 (fun H locs hP hS => ?_)
  refine lv_iconst (v := 0) hx hb dX3_not_5 (by decide) ?_
  obtain ⟨hr1, hr2⟩ := uret_n h
  subst hr1
  subst hr2
  exact u_zret hC (uFit_n (ty := .boolean) (v := 0) rfl).1 hP hS dX3_not_6
theorem zz_X3_not (N b : Nat) (g : uEnv) (u : UH) (a0 : Nat) (x1 : Int32) (r : Int32) (uf : UH) (h : f_X3_not N b g u a0 x1 = some (r, uf)) : uf.1 = u.1 ∧ uf.2.1 = u.2.1 :=
  zz_X3_not_0 (G := ((fun _ => 0, fun _ _ => 0), fun _ => 0, b, g)) (a0 := a0) N u x1 h
theorem met_X3_not (l : Launch) (N : Nat) (G : uG) (u : UH) (a0 : Nat) (x1 : Int32) (r : Int32) (uf : UH) (h : f_X3_not N (ub G) (ug G) u a0 x1 = some (r, uf)) : Met l yX3_not (ws_ yX3_not cX3_not 2 (some .boolean)) ({ frames := 0, cells := 0, slots := 0, locals := 0 }) (uPc G u [.ref a0, .int x1]) (uQi G r uf) 0 0 (uA G) := by
  exact u_met (own := RX3) (by decide +kernel) rfl (Nat.le_of_ble_eq_true rfl) (fun hC hn hsz ls hl hP => w_X3_not_0 hC ⟨Nat.le_refl _, Nat.le_refl _⟩ N u x1 h hP va_S.rf hl)
def f_X3_dead (N b : Nat) (g : uEnv) (u : UH) (a0 : Nat) (x1 : Int32) : Option (Int32 × UH) :=
    if uIs u a0 2 = true then
    (f_X3_good N b g u a0).bind fun u2 =>
    (uGI u2 a0 2 12).bind fun y4 =>
    if y4 = 0 then
    if uIs u2 a0 2 = true then
    ucall (f_X3_not N b g u2 a0 1) fun r21 u19 =>
    if uFit .boolean r21 = true then
    some (r21, u19)
    else none
    else none
    else
    (uGI u2 a0 2 24).bind fun y6 =>
    ucall (f_X3_within N b g u2 x1 0 (y6 - 1)) fun r9 u7 =>
    if r9 = 0 then
    if uIs u7 a0 2 = true then
    ucall (f_X3_not N b g u7 a0 2) fun r16 u14 =>
    if uFit .boolean r16 = true then
    some (r16, u14)
    else none
    else none
    else
    (uPut b u7 a0 2 38 (.int x1)).bind fun u11 =>
    (uPut b u11 a0 2 51 (.int 0)).bind fun u12 =>
    some (1, u12)
    else none
set_option maxHeartbeats 4000000 in
set_option maxRecDepth 100000 in
theorem zz_X3_dead_0 {G : uG} {a0 : Nat} {uf : UH} {r : Int32} (N : Nat) (u : UH) (x1 : Int32) (h : f_X3_dead N (ub G) (ug G) u a0 x1 = some (r, uf)) : uf.1 = u.1 ∧ uf.2.1 = u.2.1 := by
  unfold f_X3_dead at h
  obtain ⟨c1, h⟩ := mif_n h
  obtain ⟨u2, c3, h⟩ := mbind_n h
  have zu2 := zz_X3_good N (ub G) (ug G) u a0 u2 c3
  obtain ⟨y4, hy4, h⟩ := mbind_n h
  by_cases c5 : y4 = 0
  · have h := mif_t c5 h
    obtain ⟨c18, h⟩ := mif_n h
    obtain ⟨r21, u19, c20, h⟩ := ucall_n h
    have zu19 := zz_X3_not N (ub G) (ug G) u2 a0 1 r21 u19 c20
    obtain ⟨c22, h⟩ := mif_n h
    obtain ⟨hr1, hr2⟩ := uret_n h
    subst hr2
    exact ⟨by omega, by omega⟩
  · have h := mif_f c5 h
    obtain ⟨y6, hy6, h⟩ := mbind_n h
    obtain ⟨r9, u7, c8, h⟩ := ucall_n h
    have zu7 := zz_X3_within N (ub G) (ug G) u2 x1 0 (y6 - 1) r9 u7 c8
    by_cases c10 : r9 = 0
    · have h := mif_t c10 h
      obtain ⟨c13, h⟩ := mif_n h
      obtain ⟨r16, u14, c15, h⟩ := ucall_n h
      have zu14 := zz_X3_not N (ub G) (ug G) u7 a0 2 r16 u14 c15
      obtain ⟨c17, h⟩ := mif_n h
      obtain ⟨hr1, hr2⟩ := uret_n h
      subst hr2
      exact ⟨by omega, by omega⟩
    · have h := mif_f c10 h
      obtain ⟨u11, hu11, h⟩ := mbind_n h
      have zu11 := uPut_sz hu11
      obtain ⟨u12, hu12, h⟩ := mbind_n h
      have zu12 := uPut_sz hu12
      obtain ⟨hr1, hr2⟩ := uret_n h
      subst hr2
      exact ⟨by omega, by omega⟩
set_option maxHeartbeats 4000000 in
set_option maxRecDepth 100000 in
theorem w_X3_dead_0 {p : Program} {l : Launch} {e : Env} {R : Room} {s : State} {m : MethodId} {args : Array Value} {below : List Frame} {meth : Method} {c : Code} {G : uG} {a0 : Nat} {uf : UH} {r : Int32} (hC : uC p s m args meth c G RX3 cX3_dead 2 (some .boolean)) (hR : 1 ≤ R.frames ∧ 22 ≤ R.locals) (N : Nat) (u : UH) (x1 : Int32) (h : f_X3_dead N (ub G) (ug G) u a0 x1 = some (r, uf)) {H : Heap} {locs : List Loc} (hP : uP G u H) (hS : va_S (uA G) s.heap H locs) {ls : Array Slot} (hl : lv_has ls 2 [(0, va_rf (some a0)), (1, .int x1)]) : W p l e R s m args below meth c H locs 0 0 (MQ below (uQi G r uf) args s 0 0 (uA G)) (F0 m 0 ls []) := by
  obtain ⟨⟨hx, hb, hml, hown, hts⟩, hKK⟩ := id hC
  unfold f_X3_dead at h
  refine u_aload_n (r := some a0) hx hb dX3_dead_0 rfl (lv_at hl 0 rfl) ?_
  obtain ⟨c1, h⟩ := mif_n h
  obtain ⟨u2, c3, h⟩ := mbind_n h
  have zu2 := zz_X3_good N (ub G) (ug G) u a0 u2 c3
  refine u_callv (va_runV (As := []) (rest := []) hC.1 (met_X3_good l N G u a0 u2 c3) (cwV 0 hts (lw_V q2131 q2133 qs40 q103 q2134) rfl rfl rfl (by decide +kernel) ⟨Nat.le_trans (Nat.le_of_ble_eq_true rfl) hR.1, Nat.le_trans (Nat.le_of_ble_eq_true rfl) hR.2⟩) ⟨uPc_blind, u_rcv hC hP c1 rfl, fun U hU hW => u_pre hC hP hS hU hW⟩ rfl rfl hl.1 rfl (lv_room (Nat.le_of_ble_eq_true rfl)) dX3_dead_1 ⟨Nat.zero_le _, Nat.zero_le _⟩) hS (fun H locs hP hS => ?_)
  refine u_aload_n (r := some a0) hx hb dX3_dead_4 rfl (lv_at hl 0 rfl) ?_
  obtain ⟨y4, hy4, h⟩ := mbind_n h
  refine u_get hC hP (uGI_n hy4) rfl in_X3 (by decide) q1905 (fun _ h => h) dX3_dead_5 ?_
  refine lv_if_ne (tgt := 17) hx hb dX3_dead_8 (by decide) (fun c5 => ?_) (fun c5 => ?_)
  · have h := mif_f c5 h
    refine lv_iload_n hx hb dX3_dead_17 rfl (lv_at hl 1 rfl) ?_
    refine lv_iconst (v := 0) hx hb dX3_dead_18 (by decide) ?_
    refine u_aload_n (r := some a0) hx hb dX3_dead_19 rfl (lv_at hl 0 rfl) ?_
    obtain ⟨y6, hy6, h⟩ := mbind_n h
    refine u_get hC hP (uGI_n hy6) rfl in_X3 (by decide) q1917 (fun _ h => h) dX3_dead_20 ?_
    refine lv_iconst (v := 1) hx hb dX3_dead_23 (by decide) ?_
    refine lv_isub hx hb dX3_dead_24 ?_
    obtain ⟨r9, u7, c8, h⟩ := ucall_n h
    have zu7 := zz_X3_within N (ub G) (ug G) u2 x1 0 (y6 - 1) r9 u7 c8
    refine u_calli (va_runS (As := [.int x1, .int 0, .int (y6 - 1)]) (rest := []) hC.1 (met_X3_within l N G u2 x1 0 (y6 - 1) r9 u7 c8) (va_cwS 3 hts (lw_S q2135 q2136 q103 q2137) rfl rfl rfl (by decide +kernel) ⟨Nat.le_trans (Nat.le_of_ble_eq_true rfl) hR.1, Nat.le_trans (Nat.le_of_ble_eq_true rfl) hR.2⟩) ⟨uPc_blind, fun U hU hW => u_pre hC hP hS hU hW⟩ rfl rfl hl.1 rfl (lv_room (Nat.le_of_ble_eq_true rfl)) dX3_dead_25 ⟨Nat.zero_le _, Nat.zero_le _⟩) hS (fun H locs hP hS => ?_)
    refine lv_if_ne (tgt := 37) hx hb dX3_dead_28 (by decide) (fun c10 => ?_) (fun c10 => ?_)
    · have h := mif_f c10 h
      refine u_aload_n (r := some a0) hx hb dX3_dead_37 rfl (lv_at hl 0 rfl) ?_
      refine lv_iload_n hx hb dX3_dead_38 rfl (lv_at hl 1 rfl) ?_
      obtain ⟨u11, hu11, h⟩ := mbind_n h
      have zu11 := uPut_sz hu11
      refine u_put hC hP hS hu11 rfl in_X3 tyX3 tyX3_ok nmX3 (by decide) q1931 (fun _ h => h) rfl (ty := .int) (tyX3_ok 38 (by decide)) rfl rfl dX3_dead_39 (fun H locs hP hS => ?_)
      refine u_aload_n (r := some a0) hx hb dX3_dead_42 rfl (lv_at hl 0 rfl) ?_
      refine lv_iconst (v := 0) hx hb dX3_dead_43 (by decide) ?_
      obtain ⟨u12, hu12, h⟩ := mbind_n h
      have zu12 := uPut_sz hu12
      refine u_put hC hP hS hu12 rfl in_X3 tyX3 tyX3_ok nmX3 (by decide) q1944 (fun _ h => h) rfl (ty := .boolean) (tyX3_ok 51 (by decide)) (uFit_n (ty := .boolean) (v := 0) rfl).1 (uFit_n (ty := .boolean) (v := 0) rfl).2 dX3_dead_44 (fun H locs hP hS => ?_)
      refine lv_iconst (v := 1) hx hb dX3_dead_47 (by decide) ?_
      obtain ⟨hr1, hr2⟩ := uret_n h
      subst hr1
      subst hr2
      exact u_zret hC (uFit_n (ty := .boolean) (v := 1) rfl).1 hP hS dX3_dead_48
    · have h := mif_t c10 h
      refine u_aload_n (r := some a0) hx hb dX3_dead_31 rfl (lv_at hl 0 rfl) ?_
      refine lv_iconst (v := 2) hx hb dX3_dead_32 (by decide) ?_
      obtain ⟨c13, h⟩ := mif_n h
      obtain ⟨r16, u14, c15, h⟩ := ucall_n h
      have zu14 := zz_X3_not N (ub G) (ug G) u7 a0 2 r16 u14 c15
      refine u_calli (va_runV (As := [.int 2]) (rest := []) hC.1 (met_X3_not l N G u7 a0 2 r16 u14 c15) (cwV 1 hts (lw_V q2264 q2266 qs59 q103 q2267) rfl rfl rfl (by decide +kernel) ⟨Nat.le_trans (Nat.le_of_ble_eq_true rfl) hR.1, Nat.le_trans (Nat.le_of_ble_eq_true rfl) hR.2⟩) ⟨uPc_blind, u_rcv hC hP c13 rfl, fun U hU hW => u_pre hC hP hS hU hW⟩ rfl rfl hl.1 rfl (lv_room (Nat.le_of_ble_eq_true rfl)) dX3_dead_33 ⟨Nat.zero_le _, Nat.zero_le _⟩) hS (fun H locs hP hS => ?_)
      obtain ⟨c17, h⟩ := mif_n h
      obtain ⟨hr1, hr2⟩ := uret_n h
      subst hr1
      subst hr2
      exact u_zret hC (uFit_n c17).1 hP hS dX3_dead_36
  · have h := mif_t c5 h
    refine u_aload_n (r := some a0) hx hb dX3_dead_11 rfl (lv_at hl 0 rfl) ?_
    refine lv_iconst (v := 1) hx hb dX3_dead_12 (by decide) ?_
    obtain ⟨c18, h⟩ := mif_n h
    obtain ⟨r21, u19, c20, h⟩ := ucall_n h
    have zu19 := zz_X3_not N (ub G) (ug G) u2 a0 1 r21 u19 c20
    refine u_calli (va_runV (As := [.int 1]) (rest := []) hC.1 (met_X3_not l N G u2 a0 1 r21 u19 c20) (cwV 1 hts (lw_V q2264 q2266 qs59 q103 q2267) rfl rfl rfl (by decide +kernel) ⟨Nat.le_trans (Nat.le_of_ble_eq_true rfl) hR.1, Nat.le_trans (Nat.le_of_ble_eq_true rfl) hR.2⟩) ⟨uPc_blind, u_rcv hC hP c18 rfl, fun U hU hW => u_pre hC hP hS hU hW⟩ rfl rfl hl.1 rfl (lv_room (Nat.le_of_ble_eq_true rfl)) dX3_dead_13 ⟨Nat.zero_le _, Nat.zero_le _⟩) hS (fun H locs hP hS => ?_)
    obtain ⟨c22, h⟩ := mif_n h
    obtain ⟨hr1, hr2⟩ := uret_n h
    subst hr1
    subst hr2
    exact u_zret hC (uFit_n c22).1 hP hS dX3_dead_16
theorem zz_X3_dead (N b : Nat) (g : uEnv) (u : UH) (a0 : Nat) (x1 : Int32) (r : Int32) (uf : UH) (h : f_X3_dead N b g u a0 x1 = some (r, uf)) : uf.1 = u.1 ∧ uf.2.1 = u.2.1 :=
  zz_X3_dead_0 (G := ((fun _ => 0, fun _ _ => 0), fun _ => 0, b, g)) (a0 := a0) N u x1 h
theorem met_X3_dead (l : Launch) (N : Nat) (G : uG) (u : UH) (a0 : Nat) (x1 : Int32) (r : Int32) (uf : UH) (h : f_X3_dead N (ub G) (ug G) u a0 x1 = some (r, uf)) : Met l yX3_dead (ws_ yX3_dead cX3_dead 2 (some .boolean)) ({ frames := 1, cells := 0, slots := 0, locals := 22 }) (uPc G u [.ref a0, .int x1]) (uQi G r uf) 0 0 (uA G) := by
  exact u_met (own := RX3) (by decide +kernel) rfl (Nat.le_of_ble_eq_true rfl) (fun hC hn hsz ls hl hP => w_X3_dead_0 hC ⟨Nat.le_refl _, Nat.le_refl _⟩ N u x1 h hP va_S.rf hl)
def f_X3_dig_25 (N b : Nat) (g : uEnv) (a0 : Nat) (u : UH) : Option (Int32 × UH) :=
    if uIs u a0 2 = true then
    ucall (f_X3_not N b g u a0 1) fun r4 u2 =>
    if uFit .boolean r4 = true then
    some (r4, u2)
    else none
    else none
set_option maxHeartbeats 4000000 in
set_option maxRecDepth 100000 in
theorem zz_X3_dig_25 {G : uG} {a0 : Nat} {uf : UH} {r : Int32} (N : Nat) (u : UH) (h : f_X3_dig_25 N (ub G) (ug G) a0 u = some (r, uf)) : uf.1 = u.1 ∧ uf.2.1 = u.2.1 := by
  unfold f_X3_dig_25 at h
  obtain ⟨c1, h⟩ := mif_n h
  obtain ⟨r4, u2, c3, h⟩ := ucall_n h
  have zu2 := zz_X3_not N (ub G) (ug G) u a0 1 r4 u2 c3
  obtain ⟨c5, h⟩ := mif_n h
  obtain ⟨hr1, hr2⟩ := uret_n h
  subst hr2
  exact ⟨by omega, by omega⟩
set_option maxHeartbeats 4000000 in
set_option maxRecDepth 100000 in
theorem w_X3_dig_25 {p : Program} {l : Launch} {e : Env} {R : Room} {s : State} {m : MethodId} {args : Array Value} {below : List Frame} {meth : Method} {c : Code} {G : uG} {a0 : Nat} {uf : UH} {r : Int32} (hC : uC p s m args meth c G RX3 cX3_dig 3 (some .boolean)) (hR : 1 ≤ R.frames ∧ 22 ≤ R.locals) (N : Nat) (u : UH) (h : f_X3_dig_25 N (ub G) (ug G) a0 u = some (r, uf)) {H : Heap} {locs : List Loc} (hP : uP G u H) (hS : va_S (uA G) s.heap H locs) {ls : Array Slot} (hl : lv_has ls 3 [(0, va_rf (some a0))]) : W p l e R s m args below meth c H locs 0 0 (MQ below (uQi G r uf) args s 0 0 (uA G)) (F0 m 25 ls []) := by
  obtain ⟨⟨hx, hb, hml, hown, hts⟩, hKK⟩ := id hC
  unfold f_X3_dig_25 at h
  refine u_aload_n (r := some a0) hx hb dX3_dig_25 rfl (lv_at hl 0 rfl) ?_
  refine lv_iconst (v := 1) hx hb dX3_dig_26 (by decide) ?_
  obtain ⟨c1, h⟩ := mif_n h
  obtain ⟨r4, u2, c3, h⟩ := ucall_n h
  have zu2 := zz_X3_not N (ub G) (ug G) u a0 1 r4 u2 c3
  refine u_calli (va_runV (As := [.int 1]) (rest := []) hC.1 (met_X3_not l N G u a0 1 r4 u2 c3) (cwV 1 hts (lw_V q2264 q2266 qs59 q103 q2267) rfl rfl rfl (by decide +kernel) ⟨Nat.le_trans (Nat.le_of_ble_eq_true rfl) hR.1, Nat.le_trans (Nat.le_of_ble_eq_true rfl) hR.2⟩) ⟨uPc_blind, u_rcv hC hP c1 rfl, fun U hU hW => u_pre hC hP hS hU hW⟩ rfl rfl hl.1 rfl (lv_room (Nat.le_of_ble_eq_true rfl)) dX3_dig_27 ⟨Nat.zero_le _, Nat.zero_le _⟩) hS (fun H locs hP hS => ?_)
  obtain ⟨c5, h⟩ := mif_n h
  obtain ⟨hr1, hr2⟩ := uret_n h
  subst hr1
  subst hr2
  exact u_zret hC (uFit_n c5).1 hP hS dX3_dig_30
def f_X3_dig (N b : Nat) (g : uEnv) (u : UH) (a0 : Nat) (x1 : Int32) (x2 : Int32) : Option (Int32 × UH) :=
    if uIs u a0 2 = true then
    (f_X3_good N b g u a0).bind fun u2 =>
    (uGI u2 a0 2 12).bind fun y4 =>
    if y4 = 0 then
    f_X3_dig_25 N b g a0 u2
    else
    (uGI u2 a0 2 24).bind fun y6 =>
    ucall (f_X3_within N b g u2 x1 0 (y6 - 1)) fun r9 u7 =>
    if r9 = 0 then
    f_X3_dig_25 N b g a0 u7
    else
    ucall (f_X3_within N b g u7 x2 0 4) fun r13 u11 =>
    if r13 = 0 then
    if uIs u11 a0 2 = true then
    ucall (f_X3_not N b g u11 a0 2) fun r21 u19 =>
    if uFit .boolean r21 = true then
    some (r21, u19)
    else none
    else none
    else
    (uGR u11 a0 2 47).bind fun o15 =>
    (o15).bind fun a16 =>
    (uStI b u11 a16 0 x1 x2).bind fun u17 =>
    some (1, u17)
    else none
set_option maxHeartbeats 4000000 in
set_option maxRecDepth 100000 in
theorem zz_X3_dig_0 {G : uG} {a0 : Nat} {uf : UH} {r : Int32} (N : Nat) (u : UH) (x1 : Int32) (x2 : Int32) (h : f_X3_dig N (ub G) (ug G) u a0 x1 x2 = some (r, uf)) : uf.1 = u.1 ∧ uf.2.1 = u.2.1 := by
  unfold f_X3_dig at h
  obtain ⟨c1, h⟩ := mif_n h
  obtain ⟨u2, c3, h⟩ := mbind_n h
  have zu2 := zz_X3_good N (ub G) (ug G) u a0 u2 c3
  obtain ⟨y4, hy4, h⟩ := mbind_n h
  by_cases c5 : y4 = 0
  · have h := mif_t c5 h
    have hq := zz_X3_dig_25 (G := G) (a0 := a0) N u2 h
    exact ⟨by omega, by omega⟩
  · have h := mif_f c5 h
    obtain ⟨y6, hy6, h⟩ := mbind_n h
    obtain ⟨r9, u7, c8, h⟩ := ucall_n h
    have zu7 := zz_X3_within N (ub G) (ug G) u2 x1 0 (y6 - 1) r9 u7 c8
    by_cases c10 : r9 = 0
    · have h := mif_t c10 h
      have hq := zz_X3_dig_25 (G := G) (a0 := a0) N u7 h
      exact ⟨by omega, by omega⟩
    · have h := mif_f c10 h
      obtain ⟨r13, u11, c12, h⟩ := ucall_n h
      have zu11 := zz_X3_within N (ub G) (ug G) u7 x2 0 4 r13 u11 c12
      by_cases c14 : r13 = 0
      · have h := mif_t c14 h
        obtain ⟨c18, h⟩ := mif_n h
        obtain ⟨r21, u19, c20, h⟩ := ucall_n h
        have zu19 := zz_X3_not N (ub G) (ug G) u11 a0 2 r21 u19 c20
        obtain ⟨c22, h⟩ := mif_n h
        obtain ⟨hr1, hr2⟩ := uret_n h
        subst hr2
        exact ⟨by omega, by omega⟩
      · have h := mif_f c14 h
        obtain ⟨o15, ho15, h⟩ := mbind_n h
        obtain ⟨a16, ha16, hha16⟩ := mbind_n h
        subst ha16
        have h := hha16
        obtain ⟨u17, hu17, h⟩ := mbind_n h
        have zu17 := uStI_sz hu17
        obtain ⟨hr1, hr2⟩ := uret_n h
        subst hr2
        exact ⟨by omega, by omega⟩
set_option maxHeartbeats 4000000 in
set_option maxRecDepth 100000 in
theorem w_X3_dig_0 {p : Program} {l : Launch} {e : Env} {R : Room} {s : State} {m : MethodId} {args : Array Value} {below : List Frame} {meth : Method} {c : Code} {G : uG} {a0 : Nat} {uf : UH} {r : Int32} (hC : uC p s m args meth c G RX3 cX3_dig 3 (some .boolean)) (hR : 1 ≤ R.frames ∧ 22 ≤ R.locals) (N : Nat) (u : UH) (x1 : Int32) (x2 : Int32) (h : f_X3_dig N (ub G) (ug G) u a0 x1 x2 = some (r, uf)) {H : Heap} {locs : List Loc} (hP : uP G u H) (hS : va_S (uA G) s.heap H locs) {ls : Array Slot} (hl : lv_has ls 3 [(0, va_rf (some a0)), (1, .int x1), (2, .int x2)]) : W p l e R s m args below meth c H locs 0 0 (MQ below (uQi G r uf) args s 0 0 (uA G)) (F0 m 0 ls []) := by
  obtain ⟨⟨hx, hb, hml, hown, hts⟩, hKK⟩ := id hC
  unfold f_X3_dig at h
  refine u_aload_n (r := some a0) hx hb dX3_dig_0 rfl (lv_at hl 0 rfl) ?_
  obtain ⟨c1, h⟩ := mif_n h
  obtain ⟨u2, c3, h⟩ := mbind_n h
  have zu2 := zz_X3_good N (ub G) (ug G) u a0 u2 c3
  refine u_callv (va_runV (As := []) (rest := []) hC.1 (met_X3_good l N G u a0 u2 c3) (cwV 0 hts (lw_V q2131 q2133 qs40 q103 q2134) rfl rfl rfl (by decide +kernel) ⟨Nat.le_trans (Nat.le_of_ble_eq_true rfl) hR.1, Nat.le_trans (Nat.le_of_ble_eq_true rfl) hR.2⟩) ⟨uPc_blind, u_rcv hC hP c1 rfl, fun U hU hW => u_pre hC hP hS hU hW⟩ rfl rfl hl.1 rfl (lv_room (Nat.le_of_ble_eq_true rfl)) dX3_dig_1 ⟨Nat.zero_le _, Nat.zero_le _⟩) hS (fun H locs hP hS => ?_)
  refine u_aload_n (r := some a0) hx hb dX3_dig_4 rfl (lv_at hl 0 rfl) ?_
  obtain ⟨y4, hy4, h⟩ := mbind_n h
  refine u_get hC hP (uGI_n hy4) rfl in_X3 (by decide) q1905 (fun _ h => h) dX3_dig_5 ?_
  refine lv_if_eq (tgt := 25) hx hb dX3_dig_8 (by decide) (fun c5 => ?_) (fun c5 => ?_)
  · have h := mif_t c5 h
    exact w_X3_dig_25 hC hR N u2 h hP hS (lv_sub hl [0] rfl)
  · have h := mif_f c5 h
    refine lv_iload_n hx hb dX3_dig_11 rfl (lv_at hl 1 rfl) ?_
    refine lv_iconst (v := 0) hx hb dX3_dig_12 (by decide) ?_
    refine u_aload_n (r := some a0) hx hb dX3_dig_13 rfl (lv_at hl 0 rfl) ?_
    obtain ⟨y6, hy6, h⟩ := mbind_n h
    refine u_get hC hP (uGI_n hy6) rfl in_X3 (by decide) q1917 (fun _ h => h) dX3_dig_14 ?_
    refine lv_iconst (v := 1) hx hb dX3_dig_17 (by decide) ?_
    refine lv_isub hx hb dX3_dig_18 ?_
    obtain ⟨r9, u7, c8, h⟩ := ucall_n h
    have zu7 := zz_X3_within N (ub G) (ug G) u2 x1 0 (y6 - 1) r9 u7 c8
    refine u_calli (va_runS (As := [.int x1, .int 0, .int (y6 - 1)]) (rest := []) hC.1 (met_X3_within l N G u2 x1 0 (y6 - 1) r9 u7 c8) (va_cwS 3 hts (lw_S q2135 q2136 q103 q2137) rfl rfl rfl (by decide +kernel) ⟨Nat.le_trans (Nat.le_of_ble_eq_true rfl) hR.1, Nat.le_trans (Nat.le_of_ble_eq_true rfl) hR.2⟩) ⟨uPc_blind, fun U hU hW => u_pre hC hP hS hU hW⟩ rfl rfl hl.1 rfl (lv_room (Nat.le_of_ble_eq_true rfl)) dX3_dig_19 ⟨Nat.zero_le _, Nat.zero_le _⟩) hS (fun H locs hP hS => ?_)
    refine lv_if_ne (tgt := 31) hx hb dX3_dig_22 (by decide) (fun c10 => ?_) (fun c10 => ?_)
    · have h := mif_f c10 h
      refine lv_iload_n hx hb dX3_dig_31 rfl (lv_at hl 2 rfl) ?_
      refine lv_iconst (v := 0) hx hb dX3_dig_32 (by decide) ?_
      refine lv_iconst (v := 4) hx hb dX3_dig_33 (by decide) ?_
      obtain ⟨r13, u11, c12, h⟩ := ucall_n h
      have zu11 := zz_X3_within N (ub G) (ug G) u7 x2 0 4 r13 u11 c12
      refine u_calli (va_runS (As := [.int x2, .int 0, .int 4]) (rest := []) hC.1 (met_X3_within l N G u7 x2 0 4 r13 u11 c12) (va_cwS 3 hts (lw_S q2135 q2136 q103 q2137) rfl rfl rfl (by decide +kernel) ⟨Nat.le_trans (Nat.le_of_ble_eq_true rfl) hR.1, Nat.le_trans (Nat.le_of_ble_eq_true rfl) hR.2⟩) ⟨uPc_blind, fun U hU hW => u_pre hC hP hS hU hW⟩ rfl rfl hl.1 rfl (lv_room (Nat.le_of_ble_eq_true rfl)) dX3_dig_34 ⟨Nat.zero_le _, Nat.zero_le _⟩) hS (fun H locs hP hS => ?_)
      refine lv_if_ne (tgt := 46) hx hb dX3_dig_37 (by decide) (fun c14 => ?_) (fun c14 => ?_)
      · have h := mif_f c14 h
        refine u_aload_n (r := some a0) hx hb dX3_dig_46 rfl (lv_at hl 0 rfl) ?_
        obtain ⟨o15, ho15, h⟩ := mbind_n h
        refine u_get hC hP (uGR_n ho15) rfl in_X3 (by decide) q1940 (fun _ h => h) dX3_dig_47 ?_
        refine lv_iload_n hx hb dX3_dig_50 rfl (lv_at hl 1 rfl) ?_
        refine lv_iload_n hx hb dX3_dig_51 rfl (lv_at hl 2 rfl) ?_
        obtain ⟨a16, ha16, hha16⟩ := mbind_n h
        subst ha16
        have h := hha16
        obtain ⟨u17, hu17, h⟩ := mbind_n h
        have zu17 := uStI_sz hu17
        refine u_iast hC hP hS hu17 rfl dX3_dig_52 (fun H locs hP hS => ?_)
        refine lv_iconst (v := 1) hx hb dX3_dig_53 (by decide) ?_
        obtain ⟨hr1, hr2⟩ := uret_n h
        subst hr1
        subst hr2
        exact u_zret hC (uFit_n (ty := .boolean) (v := 1) rfl).1 hP hS dX3_dig_54
      · have h := mif_t c14 h
        refine u_aload_n (r := some a0) hx hb dX3_dig_40 rfl (lv_at hl 0 rfl) ?_
        refine lv_iconst (v := 2) hx hb dX3_dig_41 (by decide) ?_
        obtain ⟨c18, h⟩ := mif_n h
        obtain ⟨r21, u19, c20, h⟩ := ucall_n h
        have zu19 := zz_X3_not N (ub G) (ug G) u11 a0 2 r21 u19 c20
        refine u_calli (va_runV (As := [.int 2]) (rest := []) hC.1 (met_X3_not l N G u11 a0 2 r21 u19 c20) (cwV 1 hts (lw_V q2264 q2266 qs59 q103 q2267) rfl rfl rfl (by decide +kernel) ⟨Nat.le_trans (Nat.le_of_ble_eq_true rfl) hR.1, Nat.le_trans (Nat.le_of_ble_eq_true rfl) hR.2⟩) ⟨uPc_blind, u_rcv hC hP c18 rfl, fun U hU hW => u_pre hC hP hS hU hW⟩ rfl rfl hl.1 rfl (lv_room (Nat.le_of_ble_eq_true rfl)) dX3_dig_42 ⟨Nat.zero_le _, Nat.zero_le _⟩) hS (fun H locs hP hS => ?_)
        obtain ⟨c22, h⟩ := mif_n h
        obtain ⟨hr1, hr2⟩ := uret_n h
        subst hr1
        subst hr2
        exact u_zret hC (uFit_n c22).1 hP hS dX3_dig_45
    · have h := mif_t c10 h
      exact w_X3_dig_25 hC hR N u7 h hP hS (lv_sub hl [0] rfl)
theorem zz_X3_dig (N b : Nat) (g : uEnv) (u : UH) (a0 : Nat) (x1 : Int32) (x2 : Int32) (r : Int32) (uf : UH) (h : f_X3_dig N b g u a0 x1 x2 = some (r, uf)) : uf.1 = u.1 ∧ uf.2.1 = u.2.1 :=
  zz_X3_dig_0 (G := ((fun _ => 0, fun _ _ => 0), fun _ => 0, b, g)) (a0 := a0) N u x1 x2 h
theorem met_X3_dig (l : Launch) (N : Nat) (G : uG) (u : UH) (a0 : Nat) (x1 : Int32) (x2 : Int32) (r : Int32) (uf : UH) (h : f_X3_dig N (ub G) (ug G) u a0 x1 x2 = some (r, uf)) : Met l yX3_dig (ws_ yX3_dig cX3_dig 3 (some .boolean)) ({ frames := 1, cells := 0, slots := 0, locals := 22 }) (uPc G u [.ref a0, .int x1, .int x2]) (uQi G r uf) 0 0 (uA G) := by
  exact u_met (own := RX3) (by decide +kernel) rfl (Nat.le_of_ble_eq_true rfl) (fun hC hn hsz ls hl hP => w_X3_dig_0 hC ⟨Nat.le_refl _, Nat.le_refl _⟩ N u x1 x2 h hP va_S.rf hl)
def f_X3_digState_9 (N b : Nat) (g : uEnv) (a0 : Nat) : Nat → UH → Int32 → Int32 → Option (Int32 × UH)
  | 0, _, _, _ => none
  | n + 1, u, x1, x2 =>
    if x2 < 0 then
    some (x1, u)
    else
    (uGR u a0 2 47).bind fun o2 =>
    (o2).bind fun a3 =>
    (uLdI u a3 0 x2).bind fun y4 =>
    mlet ((5 * x1) + y4) fun y5 =>
    mlet (x2 + (-1)) fun y6 =>
    f_X3_digState_9 N b g a0 n u y5 y6
set_option maxHeartbeats 4000000 in
set_option maxRecDepth 100000 in
theorem zz_X3_digState_9 {G : uG} {a0 : Nat} {uf : UH} {r : Int32} (N : Nat) : ∀ (n : Nat) (u : UH) (x1 : Int32) (x2 : Int32), f_X3_digState_9 N (ub G) (ug G) a0 n u x1 x2 = some (r, uf) → uf.1 = u.1 ∧ uf.2.1 = u.2.1 := by
  intro n
  induction n with
  | zero =>
    intro u x1 x2 h
    cases h
  | succ n ih =>
    intro u x1 x2 h
    unfold f_X3_digState_9 at h
    by_cases c1 : x2 < 0
    · have h := mif_t c1 h
      obtain ⟨hr1, hr2⟩ := uret_n h
      subst hr2
      exact ⟨by omega, by omega⟩
    · have h := mif_f c1 h
      obtain ⟨o2, ho2, h⟩ := mbind_n h
      obtain ⟨a3, ha3, hha3⟩ := mbind_n h
      subst ha3
      have h := hha3
      obtain ⟨y4, hy4, h⟩ := mbind_n h
      obtain ⟨y5, ey5⟩ : ∃ z, z = (5 * x1) + y4 := ⟨_, rfl⟩
      have h := mlet_at ey5 h
      obtain ⟨y6, ey6⟩ : ∃ z : Int32, z = x2 + (-1) := ⟨_, rfl⟩
      have h := mlet_at ey6 h
      have hq := ih u y5 y6 h
      exact ⟨by omega, by omega⟩
set_option maxHeartbeats 4000000 in
set_option maxRecDepth 100000 in
theorem w_X3_digState_9 {p : Program} {l : Launch} {e : Env} {R : Room} {s : State} {m : MethodId} {args : Array Value} {below : List Frame} {meth : Method} {c : Code} {G : uG} {a0 : Nat} {uf : UH} {r : Int32} (hC : uC p s m args meth c G RX3 cX3_digState 3 (some .int)) (hR : 0 ≤ R.frames ∧ 0 ≤ R.locals) (N : Nat) : ∀ (n : Nat) (u : UH) (x1 : Int32) (x2 : Int32), f_X3_digState_9 N (ub G) (ug G) a0 n u x1 x2 = some (r, uf) → ∀ (H : Heap) (locs : List Loc), uP G u H → va_S (uA G) s.heap H locs → ∀ ls : Array Slot, lv_has ls 3 [(0, va_rf (some a0)), (1, .int x1), (2, .int x2)] → W p l e R s m args below meth c H locs 0 0 (MQ below (uQi G r uf) args s 0 0 (uA G)) (F0 m 9 ls []) := by
  obtain ⟨⟨hx, hb, hml, hown, hts⟩, hKK⟩ := id hC
  intro n
  induction n with
  | zero =>
    intro u x1 x2 h
    cases h
  | succ n ih =>
    intro u x1 x2 h H locs hP hS ls hl
    unfold f_X3_digState_9 at h
    refine lv_iload_n hx hb dX3_digState_9 rfl (lv_at hl 2 rfl) ?_
    refine lv_if_lt (tgt := 30) hx hb dX3_digState_10 (by decide) (fun c1 => ?_) (fun c1 => ?_)
    · have h := mif_t c1 h
      refine lv_iload_n hx hb dX3_digState_30 rfl (lv_at hl 1 rfl) ?_
      obtain ⟨hr1, hr2⟩ := uret_n h
      subst hr1
      subst hr2
      exact u_iret hC hP hS dX3_digState_31
    · have h := mif_f c1 h
      refine lv_iconst (v := 5) hx hb dX3_digState_13 (by decide) ?_
      refine lv_iload_n hx hb dX3_digState_14 rfl (lv_at hl 1 rfl) ?_
      refine lv_imul hx hb dX3_digState_15 ?_
      refine u_aload_n (r := some a0) hx hb dX3_digState_16 rfl (lv_at hl 0 rfl) ?_
      obtain ⟨o2, ho2, h⟩ := mbind_n h
      refine u_get hC hP (uGR_n ho2) rfl in_X3 (by decide) q1940 (fun _ h => h) dX3_digState_17 ?_
      refine lv_iload_n hx hb dX3_digState_20 rfl (lv_at hl 2 rfl) ?_
      obtain ⟨a3, ha3, hha3⟩ := mbind_n h
      subst ha3
      have h := hha3
      obtain ⟨y4, hy4, h⟩ := mbind_n h
      refine u_iald hC hP hy4 rfl dX3_digState_21 ?_
      refine lv_iadd hx hb dX3_digState_22 ?_
      refine lv_topi (fun y5 ey5 => ?_)
      have h := mlet_at ey5 h
      refine lv_istore_n (i := 1) (lv' := [(1, .int y5), (0, va_rf (some a0)), (2, .int x2)]) hx hb dX3_digState_23 rfl hl (by decide) rfl (fun ls hl => ?_)
      obtain ⟨y6, ey6⟩ : ∃ z : Int32, z = x2 + (-1) := ⟨_, rfl⟩
      have h := mlet_at ey6 h
      refine lv_iinc (v := y6) (lv' := [(2, .int y6), (1, .int y5), (0, va_rf (some a0))]) hx hb dX3_digState_24 hl (k := 2) rfl (by rw [ey6]; rfl) (by decide) rfl (fun ls hl => ?_)
      refine lv_goto (tgt := 9) hx hb dX3_digState_27 (by decide) ?_
      exact ih u y5 y6 h _ _ hP hS _ (lv_sub hl [2, 1, 0] rfl)
def f_X3_digState (N b : Nat) (g : uEnv) (u : UH) (a0 : Nat) : Option (Int32 × UH) :=
    (uGI u a0 2 24).bind fun y1 =>
    mlet (y1 - 1) fun y2 =>
    f_X3_digState_9 N b g a0 N u 0 y2
set_option maxHeartbeats 4000000 in
set_option maxRecDepth 100000 in
theorem zz_X3_digState_0 {G : uG} {a0 : Nat} {uf : UH} {r : Int32} (N : Nat) (u : UH) (h : f_X3_digState N (ub G) (ug G) u a0 = some (r, uf)) : uf.1 = u.1 ∧ uf.2.1 = u.2.1 := by
  unfold f_X3_digState at h
  obtain ⟨y1, hy1, h⟩ := mbind_n h
  obtain ⟨y2, ey2⟩ : ∃ z, z = y1 - 1 := ⟨_, rfl⟩
  have h := mlet_at ey2 h
  have hq := zz_X3_digState_9 (G := G) (a0 := a0) N N u 0 y2 h
  exact ⟨by omega, by omega⟩
set_option maxHeartbeats 4000000 in
set_option maxRecDepth 100000 in
theorem w_X3_digState_0 {p : Program} {l : Launch} {e : Env} {R : Room} {s : State} {m : MethodId} {args : Array Value} {below : List Frame} {meth : Method} {c : Code} {G : uG} {a0 : Nat} {uf : UH} {r : Int32} (hC : uC p s m args meth c G RX3 cX3_digState 3 (some .int)) (hR : 0 ≤ R.frames ∧ 0 ≤ R.locals) (N : Nat) (u : UH) (h : f_X3_digState N (ub G) (ug G) u a0 = some (r, uf)) {H : Heap} {locs : List Loc} (hP : uP G u H) (hS : va_S (uA G) s.heap H locs) {ls : Array Slot} (hl : lv_has ls 3 [(0, va_rf (some a0))]) : W p l e R s m args below meth c H locs 0 0 (MQ below (uQi G r uf) args s 0 0 (uA G)) (F0 m 0 ls []) := by
  obtain ⟨⟨hx, hb, hml, hown, hts⟩, hKK⟩ := id hC
  unfold f_X3_digState at h
  refine lv_iconst (v := 0) hx hb dX3_digState_0 (by decide) ?_
  refine lv_istore_n (i := 1) (lv' := [(1, .int 0), (0, va_rf (some a0))]) hx hb dX3_digState_1 rfl hl (by decide) rfl (fun ls hl => ?_)
  refine u_aload_n (r := some a0) hx hb dX3_digState_2 rfl (lv_at hl 1 rfl) ?_
  obtain ⟨y1, hy1, h⟩ := mbind_n h
  refine u_get hC hP (uGI_n hy1) rfl in_X3 (by decide) q1917 (fun _ h => h) dX3_digState_3 ?_
  refine lv_iconst (v := 1) hx hb dX3_digState_6 (by decide) ?_
  refine lv_isub hx hb dX3_digState_7 ?_
  refine lv_topi (fun y2 ey2 => ?_)
  have h := mlet_at ey2 h
  refine lv_istore_n (i := 2) (lv' := [(2, .int y2), (1, .int 0), (0, va_rf (some a0))]) hx hb dX3_digState_8 rfl hl (by decide) rfl (fun ls hl => ?_)
  exact w_X3_digState_9 hC hR N N u 0 y2 h _ _ hP hS _ (lv_sub hl [2, 1, 0] rfl)
theorem zz_X3_digState (N b : Nat) (g : uEnv) (u : UH) (a0 : Nat) (r : Int32) (uf : UH) (h : f_X3_digState N b g u a0 = some (r, uf)) : uf.1 = u.1 ∧ uf.2.1 = u.2.1 :=
  zz_X3_digState_0 (G := ((fun _ => 0, fun _ _ => 0), fun _ => 0, b, g)) (a0 := a0) N u h
theorem met_X3_digState (l : Launch) (N : Nat) (G : uG) (u : UH) (a0 : Nat) (r : Int32) (uf : UH) (h : f_X3_digState N (ub G) (ug G) u a0 = some (r, uf)) : Met l yX3_digState (ws_ yX3_digState cX3_digState 3 (some .int)) ({ frames := 0, cells := 0, slots := 0, locals := 0 }) (uPc G u [.ref a0]) (uQi G r uf) 0 0 (uA G) := by
  exact u_met (own := RX3) (by decide +kernel) rfl (Nat.le_of_ble_eq_true rfl) (fun hC hn hsz ls hl hP => w_X3_digState_0 hC ⟨Nat.le_refl _, Nat.le_refl _⟩ N u h hP va_S.rf hl)
def f_X3_digs_180 (N b : Nat) (g : uEnv) (a0 : Nat) (k67 : UH → Int32 → Int32 → Option (UH)) (k75 : UH → Int32 → Int32 → Int32 → Option (UH)) (k83 : UH → Int32 → Int32 → Int32 → Int32 → Option (UH)) (k95 : UH → Int32 → Int32 → Int32 → Int32 → Int32 → Option (UH)) (u : UH) (x1 : Int32) (x2 : Int32) (x3 : Int32) (x4 : Int32) (x5 : Int32) : Option (UH) :=
    mlet (x5 + 1) fun y1 =>
    k95 u x1 x2 x3 x4 y1
set_option maxHeartbeats 4000000 in
set_option maxRecDepth 100000 in
theorem zz_X3_digs_180 {G : uG} {a0 : Nat} {uf : UH} (N : Nat) (k67 : UH → Int32 → Int32 → Option (UH)) (hk67 : ∀ (u : UH) (x1 : Int32) (x2 : Int32), k67 u x1 x2 = some uf → uf.1 = u.1 ∧ uf.2.1 = u.2.1) (k75 : UH → Int32 → Int32 → Int32 → Option (UH)) (hk75 : ∀ (u : UH) (x1 : Int32) (x2 : Int32) (x3 : Int32), k75 u x1 x2 x3 = some uf → uf.1 = u.1 ∧ uf.2.1 = u.2.1) (k83 : UH → Int32 → Int32 → Int32 → Int32 → Option (UH)) (hk83 : ∀ (u : UH) (x1 : Int32) (x2 : Int32) (x3 : Int32) (x4 : Int32), k83 u x1 x2 x3 x4 = some uf → uf.1 = u.1 ∧ uf.2.1 = u.2.1) (k95 : UH → Int32 → Int32 → Int32 → Int32 → Int32 → Option (UH)) (hk95 : ∀ (u : UH) (x1 : Int32) (x2 : Int32) (x3 : Int32) (x4 : Int32) (x5 : Int32), k95 u x1 x2 x3 x4 x5 = some uf → uf.1 = u.1 ∧ uf.2.1 = u.2.1) (u : UH) (x1 : Int32) (x2 : Int32) (x3 : Int32) (x4 : Int32) (x5 : Int32) (h : f_X3_digs_180 N (ub G) (ug G) a0 k67 k75 k83 k95 u x1 x2 x3 x4 x5 = some uf) : uf.1 = u.1 ∧ uf.2.1 = u.2.1 := by
  unfold f_X3_digs_180 at h
  obtain ⟨y1, ey1⟩ : ∃ z : Int32, z = x5 + 1 := ⟨_, rfl⟩
  have h := mlet_at ey1 h
  have hq := hk95 u x1 x2 x3 x4 y1 h
  exact ⟨by omega, by omega⟩
set_option maxHeartbeats 4000000 in
set_option maxRecDepth 100000 in
theorem w_X3_digs_180 {p : Program} {l : Launch} {e : Env} {R : Room} {s : State} {m : MethodId} {args : Array Value} {below : List Frame} {meth : Method} {c : Code} {G : uG} {a0 : Nat} {uf : UH} (hC : uC p s m args meth c G RX3 cX3_digs 7 none) (hR : 1 ≤ R.frames ∧ 28 ≤ R.locals) (N : Nat) (k67 : UH → Int32 → Int32 → Option (UH)) (hk67 : ∀ (u : UH) (x1 : Int32) (x2 : Int32), k67 u x1 x2 = some uf → ∀ (H : Heap) (locs : List Loc), uP G u H → va_S (uA G) s.heap H locs → ∀ ls : Array Slot, lv_has ls 7 [(0, va_rf (some a0)), (1, .int x1), (2, .int x2)] → W p l e R s m args below meth c H locs 0 0 (MQ below (uQv G uf) args s 0 0 (uA G)) (F0 m 67 ls [])) (k75 : UH → Int32 → Int32 → Int32 → Option (UH)) (hk75 : ∀ (u : UH) (x1 : Int32) (x2 : Int32) (x3 : Int32), k75 u x1 x2 x3 = some uf → ∀ (H : Heap) (locs : List Loc), uP G u H → va_S (uA G) s.heap H locs → ∀ ls : Array Slot, lv_has ls 7 [(0, va_rf (some a0)), (1, .int x1), (2, .int x2), (3, .int x3)] → W p l e R s m args below meth c H locs 0 0 (MQ below (uQv G uf) args s 0 0 (uA G)) (F0 m 75 ls [])) (k83 : UH → Int32 → Int32 → Int32 → Int32 → Option (UH)) (hk83 : ∀ (u : UH) (x1 : Int32) (x2 : Int32) (x3 : Int32) (x4 : Int32), k83 u x1 x2 x3 x4 = some uf → ∀ (H : Heap) (locs : List Loc), uP G u H → va_S (uA G) s.heap H locs → ∀ ls : Array Slot, lv_has ls 7 [(0, va_rf (some a0)), (1, .int x1), (2, .int x2), (3, .int x3), (4, .int x4)] → W p l e R s m args below meth c H locs 0 0 (MQ below (uQv G uf) args s 0 0 (uA G)) (F0 m 83 ls [])) (k95 : UH → Int32 → Int32 → Int32 → Int32 → Int32 → Option (UH)) (hk95 : ∀ (u : UH) (x1 : Int32) (x2 : Int32) (x3 : Int32) (x4 : Int32) (x5 : Int32), k95 u x1 x2 x3 x4 x5 = some uf → ∀ (H : Heap) (locs : List Loc), uP G u H → va_S (uA G) s.heap H locs → ∀ ls : Array Slot, lv_has ls 7 [(0, va_rf (some a0)), (1, .int x1), (2, .int x2), (3, .int x3), (4, .int x4), (5, .int x5)] → W p l e R s m args below meth c H locs 0 0 (MQ below (uQv G uf) args s 0 0 (uA G)) (F0 m 95 ls [])) (u : UH) (x1 : Int32) (x2 : Int32) (x3 : Int32) (x4 : Int32) (x5 : Int32) (h : f_X3_digs_180 N (ub G) (ug G) a0 k67 k75 k83 k95 u x1 x2 x3 x4 x5 = some uf) {H : Heap} {locs : List Loc} (hP : uP G u H) (hS : va_S (uA G) s.heap H locs) {ls : Array Slot} (hl : lv_has ls 7 [(0, va_rf (some a0)), (1, .int x1), (2, .int x2), (3, .int x3), (4, .int x4), (5, .int x5)]) : W p l e R s m args below meth c H locs 0 0 (MQ below (uQv G uf) args s 0 0 (uA G)) (F0 m 180 ls []) := by
  obtain ⟨⟨hx, hb, hml, hown, hts⟩, hKK⟩ := id hC
  unfold f_X3_digs_180 at h
  obtain ⟨y1, ey1⟩ : ∃ z : Int32, z = x5 + 1 := ⟨_, rfl⟩
  have h := mlet_at ey1 h
  refine lv_iinc (v := y1) (lv' := [(5, .int y1), (0, va_rf (some a0)), (1, .int x1), (2, .int x2), (3, .int x3), (4, .int x4)]) hx hb dX3_digs_180 hl (k := 5) rfl (by rw [ey1]; rfl) (by decide) rfl (fun ls hl => ?_)
  refine lv_goto (tgt := 95) hx hb dX3_digs_183 (by decide) ?_
  exact hk95 u x1 x2 x3 x4 y1 h _ _ hP hS _ (lv_sub hl [1, 2, 3, 4, 5, 0] rfl)
def f_X3_digs_95 (N b : Nat) (g : uEnv) (a0 : Nat) (k67 : UH → Int32 → Int32 → Option (UH)) (k75 : UH → Int32 → Int32 → Int32 → Option (UH)) (k83 : UH → Int32 → Int32 → Int32 → Int32 → Option (UH)) : Nat → UH → Int32 → Int32 → Int32 → Int32 → Int32 → Option (UH)
  | 0, _, _, _, _, _, _ => none
  | n + 1, u, x1, x2, x3, x4, x5 =>
    (uGI u a0 2 24).bind fun y1 =>
    if y1 ≤ x5 then
    mlet (x4 + 1) fun y3 =>
    k83 u x1 x2 x3 y3
    else
    (uGR u a0 2 68).bind fun o4 =>
    if uIs u a0 2 = true then
    ucall (f_X3_behind N b g u a0 x3 x4 x5) fun r8 u6 =>
    (o4).bind fun a9 =>
    (uLdI u6 a9 0 r8).bind fun y10 =>
    if y10 = 2000000000 then
    f_X3_digs_180 N b g a0 k67 k75 k83 (f_X3_digs_95 N b g a0 k67 k75 k83 n) u6 x1 x2 x3 x4 x5
    else
    (uGR u6 a0 2 32).bind fun o12 =>
    (o12).bind fun a13 =>
    (uLdI u6 a13 0 x4).bind fun y14 =>
    (uGR u6 a0 2 68).bind fun o15 =>
    (o15).bind fun a16 =>
    (uLdI u6 a16 0 x3).bind fun y17 =>
    if ((y10 + (10000 * y14)) + 1) < y17 then
    (uGR u6 a0 2 68).bind fun o19 =>
    (uGR u6 a0 2 32).bind fun o20 =>
    (o20).bind fun a21 =>
    (uLdI u6 a21 0 x4).bind fun y22 =>
    (o19).bind fun a23 =>
    (uStI b u6 a23 0 x3 ((y10 + (10000 * y22)) + 1)).bind fun u24 =>
    f_X3_digs_180 N b g a0 k67 k75 k83 (f_X3_digs_95 N b g a0 k67 k75 k83 n) u24 x1 1 x3 x4 x5
    else
    f_X3_digs_180 N b g a0 k67 k75 k83 (f_X3_digs_95 N b g a0 k67 k75 k83 n) u6 x1 x2 x3 x4 x5
    else none
set_option maxHeartbeats 4000000 in
set_option maxRecDepth 100000 in
theorem zz_X3_digs_95 {G : uG} {a0 : Nat} {uf : UH} (N : Nat) (k67 : UH → Int32 → Int32 → Option (UH)) (hk67 : ∀ (u : UH) (x1 : Int32) (x2 : Int32), k67 u x1 x2 = some uf → uf.1 = u.1 ∧ uf.2.1 = u.2.1) (k75 : UH → Int32 → Int32 → Int32 → Option (UH)) (hk75 : ∀ (u : UH) (x1 : Int32) (x2 : Int32) (x3 : Int32), k75 u x1 x2 x3 = some uf → uf.1 = u.1 ∧ uf.2.1 = u.2.1) (k83 : UH → Int32 → Int32 → Int32 → Int32 → Option (UH)) (hk83 : ∀ (u : UH) (x1 : Int32) (x2 : Int32) (x3 : Int32) (x4 : Int32), k83 u x1 x2 x3 x4 = some uf → uf.1 = u.1 ∧ uf.2.1 = u.2.1) : ∀ (n : Nat) (u : UH) (x1 : Int32) (x2 : Int32) (x3 : Int32) (x4 : Int32) (x5 : Int32), f_X3_digs_95 N (ub G) (ug G) a0 k67 k75 k83 n u x1 x2 x3 x4 x5 = some uf → uf.1 = u.1 ∧ uf.2.1 = u.2.1 := by
  intro n
  induction n with
  | zero =>
    intro u x1 x2 x3 x4 x5 h
    cases h
  | succ n ih =>
    intro u x1 x2 x3 x4 x5 h
    unfold f_X3_digs_95 at h
    obtain ⟨y1, hy1, h⟩ := mbind_n h
    by_cases c2 : y1 ≤ x5
    · have h := mif_t c2 h
      obtain ⟨y3, ey3⟩ : ∃ z : Int32, z = x4 + 1 := ⟨_, rfl⟩
      have h := mlet_at ey3 h
      have hq := hk83 u x1 x2 x3 y3 h
      exact ⟨by omega, by omega⟩
    · have h := mif_f c2 h
      obtain ⟨o4, ho4, h⟩ := mbind_n h
      obtain ⟨c5, h⟩ := mif_n h
      obtain ⟨r8, u6, c7, h⟩ := ucall_n h
      have zu6 := zz_X3_behind N (ub G) (ug G) u a0 x3 x4 x5 r8 u6 c7
      obtain ⟨a9, ha9, hha9⟩ := mbind_n h
      subst ha9
      have h := hha9
      obtain ⟨y10, hy10, h⟩ := mbind_n h
      by_cases c11 : y10 = 2000000000
      · have h := mif_t c11 h
        have hq := zz_X3_digs_180 (G := G) (a0 := a0) N k67 hk67 k75 hk75 k83 hk83 (f_X3_digs_95 N (ub G) (ug G) a0 k67 k75 k83 n) ih u6 x1 x2 x3 x4 x5 h
        exact ⟨by omega, by omega⟩
      · have h := mif_f c11 h
        obtain ⟨o12, ho12, h⟩ := mbind_n h
        obtain ⟨a13, ha13, hha13⟩ := mbind_n h
        subst ha13
        have h := hha13
        obtain ⟨y14, hy14, h⟩ := mbind_n h
        obtain ⟨o15, ho15, h⟩ := mbind_n h
        obtain ⟨a16, ha16, hha16⟩ := mbind_n h
        subst ha16
        have h := hha16
        obtain ⟨y17, hy17, h⟩ := mbind_n h
        by_cases c18 : ((y10 + (10000 * y14)) + 1) < y17
        · have h := mif_t c18 h
          obtain ⟨o19, ho19, h⟩ := mbind_n h
          obtain ⟨o20, ho20, h⟩ := mbind_n h
          obtain ⟨a21, ha21, hha21⟩ := mbind_n h
          subst ha21
          have h := hha21
          obtain ⟨y22, hy22, h⟩ := mbind_n h
          obtain ⟨a23, ha23, hha23⟩ := mbind_n h
          subst ha23
          have h := hha23
          obtain ⟨u24, hu24, h⟩ := mbind_n h
          have zu24 := uStI_sz hu24
          have hq := zz_X3_digs_180 (G := G) (a0 := a0) N k67 hk67 k75 hk75 k83 hk83 (f_X3_digs_95 N (ub G) (ug G) a0 k67 k75 k83 n) ih u24 x1 1 x3 x4 x5 h
          exact ⟨by omega, by omega⟩
        · have h := mif_f c18 h
          have hq := zz_X3_digs_180 (G := G) (a0 := a0) N k67 hk67 k75 hk75 k83 hk83 (f_X3_digs_95 N (ub G) (ug G) a0 k67 k75 k83 n) ih u6 x1 x2 x3 x4 x5 h
          exact ⟨by omega, by omega⟩
set_option maxHeartbeats 4000000 in
set_option maxRecDepth 100000 in
theorem w_X3_digs_95 {p : Program} {l : Launch} {e : Env} {R : Room} {s : State} {m : MethodId} {args : Array Value} {below : List Frame} {meth : Method} {c : Code} {G : uG} {a0 : Nat} {uf : UH} (hC : uC p s m args meth c G RX3 cX3_digs 7 none) (hR : 1 ≤ R.frames ∧ 28 ≤ R.locals) (N : Nat) (k67 : UH → Int32 → Int32 → Option (UH)) (hk67 : ∀ (u : UH) (x1 : Int32) (x2 : Int32), k67 u x1 x2 = some uf → ∀ (H : Heap) (locs : List Loc), uP G u H → va_S (uA G) s.heap H locs → ∀ ls : Array Slot, lv_has ls 7 [(0, va_rf (some a0)), (1, .int x1), (2, .int x2)] → W p l e R s m args below meth c H locs 0 0 (MQ below (uQv G uf) args s 0 0 (uA G)) (F0 m 67 ls [])) (k75 : UH → Int32 → Int32 → Int32 → Option (UH)) (hk75 : ∀ (u : UH) (x1 : Int32) (x2 : Int32) (x3 : Int32), k75 u x1 x2 x3 = some uf → ∀ (H : Heap) (locs : List Loc), uP G u H → va_S (uA G) s.heap H locs → ∀ ls : Array Slot, lv_has ls 7 [(0, va_rf (some a0)), (1, .int x1), (2, .int x2), (3, .int x3)] → W p l e R s m args below meth c H locs 0 0 (MQ below (uQv G uf) args s 0 0 (uA G)) (F0 m 75 ls [])) (k83 : UH → Int32 → Int32 → Int32 → Int32 → Option (UH)) (hk83 : ∀ (u : UH) (x1 : Int32) (x2 : Int32) (x3 : Int32) (x4 : Int32), k83 u x1 x2 x3 x4 = some uf → ∀ (H : Heap) (locs : List Loc), uP G u H → va_S (uA G) s.heap H locs → ∀ ls : Array Slot, lv_has ls 7 [(0, va_rf (some a0)), (1, .int x1), (2, .int x2), (3, .int x3), (4, .int x4)] → W p l e R s m args below meth c H locs 0 0 (MQ below (uQv G uf) args s 0 0 (uA G)) (F0 m 83 ls [])) : ∀ (n : Nat) (u : UH) (x1 : Int32) (x2 : Int32) (x3 : Int32) (x4 : Int32) (x5 : Int32), f_X3_digs_95 N (ub G) (ug G) a0 k67 k75 k83 n u x1 x2 x3 x4 x5 = some uf → ∀ (H : Heap) (locs : List Loc), uP G u H → va_S (uA G) s.heap H locs → ∀ ls : Array Slot, lv_has ls 7 [(0, va_rf (some a0)), (1, .int x1), (2, .int x2), (3, .int x3), (4, .int x4), (5, .int x5)] → W p l e R s m args below meth c H locs 0 0 (MQ below (uQv G uf) args s 0 0 (uA G)) (F0 m 95 ls []) := by
  obtain ⟨⟨hx, hb, hml, hown, hts⟩, hKK⟩ := id hC
  intro n
  induction n with
  | zero =>
    intro u x1 x2 x3 x4 x5 h
    cases h
  | succ n ih =>
    intro u x1 x2 x3 x4 x5 h H locs hP hS ls hl
    unfold f_X3_digs_95 at h
    refine lv_iload hx hb dX3_digs_95 (lv_at hl 5 rfl) ?_
    refine u_aload_n (r := some a0) hx hb dX3_digs_97 rfl (lv_at hl 0 rfl) ?_
    obtain ⟨y1, hy1, h⟩ := mbind_n h
    refine u_get hC hP (uGI_n hy1) rfl in_X3 (by decide) q1917 (fun _ h => h) dX3_digs_98 ?_
    refine lv_icmp_ge (tgt := 186) hx hb dX3_digs_101 (by decide) (fun c2 => ?_) (fun c2 => ?_)
    · have h := mif_t c2 h
      obtain ⟨y3, ey3⟩ : ∃ z : Int32, z = x4 + 1 := ⟨_, rfl⟩
      have h := mlet_at ey3 h
      refine lv_iinc (v := y3) (lv' := [(4, .int y3), (0, va_rf (some a0)), (1, .int x1), (2, .int x2), (3, .int x3), (5, .int x5)]) hx hb dX3_digs_186 hl (k := 4) rfl (by rw [ey3]; rfl) (by decide) rfl (fun ls hl => ?_)
      refine lv_goto (tgt := 83) hx hb dX3_digs_189 (by decide) ?_
      exact hk83 u x1 x2 x3 y3 h _ _ hP hS _ (lv_sub hl [1, 2, 3, 4, 0] rfl)
    · have h := mif_f c2 h
      refine u_aload_n (r := some a0) hx hb dX3_digs_104 rfl (lv_at hl 0 rfl) ?_
      obtain ⟨o4, ho4, h⟩ := mbind_n h
      refine u_get hC hP (uGR_n ho4) rfl in_X3 (by decide) q1961 (fun _ h => h) dX3_digs_105 ?_
      refine u_aload_n (r := some a0) hx hb dX3_digs_108 rfl (lv_at hl 0 rfl) ?_
      refine lv_iload_n hx hb dX3_digs_109 rfl (lv_at hl 3 rfl) ?_
      refine lv_iload hx hb dX3_digs_110 (lv_at hl 4 rfl) ?_
      refine lv_iload hx hb dX3_digs_112 (lv_at hl 5 rfl) ?_
      obtain ⟨c5, h⟩ := mif_n h
      obtain ⟨r8, u6, c7, h⟩ := ucall_n h
      have zu6 := zz_X3_behind N (ub G) (ug G) u a0 x3 x4 x5 r8 u6 c7
      refine u_calli (va_runV (As := [.int x3, .int x4, .int x5]) (rest := [va_rf o4]) hC.1 (met_X3_behind l N G u a0 x3 x4 x5 r8 u6 c7) (cwV 3 hts (lw_V q2521 q2523 qs94 q103 q2524) rfl rfl rfl (by decide +kernel) ⟨Nat.le_trans (Nat.le_of_ble_eq_true rfl) hR.1, Nat.le_trans (Nat.le_of_ble_eq_true rfl) hR.2⟩) ⟨uPc_blind, u_rcv hC hP c5 rfl, fun U hU hW => u_pre hC hP hS hU hW⟩ rfl rfl hl.1 rfl (lv_room (by simp only [List.map, u_cat]; exact Nat.le_of_ble_eq_true rfl)) dX3_digs_114 ⟨Nat.zero_le _, Nat.zero_le _⟩) hS (fun H locs hP hS => ?_)
      obtain ⟨a9, ha9, hha9⟩ := mbind_n h
      subst ha9
      have h := hha9
      obtain ⟨y10, hy10, h⟩ := mbind_n h
      refine u_iald hC hP hy10 rfl dX3_digs_117 ?_
      refine lv_istore (lv' := [(6, .int y10), (0, va_rf (some a0)), (1, .int x1), (2, .int x2), (3, .int x3), (4, .int x4), (5, .int x5)]) hx hb dX3_digs_118 hl (by decide) rfl (fun ls hl => ?_)
      refine lv_iload hx hb dX3_digs_120 (lv_at hl 0 rfl) ?_
      refine lv_ldcw hx hb hown (hts _ q2520) dX3_digs_122 ?_
      refine lv_icmp_eq (tgt := 180) hx hb dX3_digs_125 (by decide) (fun c11 => ?_) (fun c11 => ?_)
      · have h := mif_t c11 h
        exact w_X3_digs_180 hC hR N k67 hk67 k75 hk75 k83 hk83 (f_X3_digs_95 N (ub G) (ug G) a0 k67 k75 k83 n) ih u6 x1 x2 x3 x4 x5 h hP hS (lv_sub hl [1, 2, 3, 4, 5, 6] rfl)
      · have h := mif_f c11 h
        refine lv_iload hx hb dX3_digs_128 (lv_at hl 0 rfl) ?_
        refine lv_sipush (v := 10000) hx hb dX3_digs_130 (by decide) ?_
        refine u_aload_n (r := some a0) hx hb dX3_digs_133 rfl (lv_at hl 1 rfl) ?_
        obtain ⟨o12, ho12, h⟩ := mbind_n h
        refine u_get hC hP (uGR_n ho12) rfl in_X3 (by decide) q1925 (fun _ h => h) dX3_digs_134 ?_
        refine lv_iload hx hb dX3_digs_137 (lv_at hl 5 rfl) ?_
        obtain ⟨a13, ha13, hha13⟩ := mbind_n h
        subst ha13
        have h := hha13
        obtain ⟨y14, hy14, h⟩ := mbind_n h
        refine u_iald hC hP hy14 rfl dX3_digs_139 ?_
        refine lv_imul hx hb dX3_digs_140 ?_
        refine lv_iadd hx hb dX3_digs_141 ?_
        refine lv_iconst (v := 1) hx hb dX3_digs_142 (by decide) ?_
        refine lv_iadd hx hb dX3_digs_143 ?_
        refine u_aload_n (r := some a0) hx hb dX3_digs_144 rfl (lv_at hl 1 rfl) ?_
        obtain ⟨o15, ho15, h⟩ := mbind_n h
        refine u_get hC hP (uGR_n ho15) rfl in_X3 (by decide) q1961 (fun _ h => h) dX3_digs_145 ?_
        refine lv_iload_n hx hb dX3_digs_148 rfl (lv_at hl 4 rfl) ?_
        obtain ⟨a16, ha16, hha16⟩ := mbind_n h
        subst ha16
        have h := hha16
        obtain ⟨y17, hy17, h⟩ := mbind_n h
        refine u_iald hC hP hy17 rfl dX3_digs_149 ?_
        refine lv_icmp_lt (tgt := 156) hx hb dX3_digs_150 (by decide) (fun c18 => ?_) (fun c18 => ?_)
        · have h := mif_t c18 h
          refine u_aload_n (r := some a0) hx hb dX3_digs_156 rfl (lv_at hl 1 rfl) ?_
          obtain ⟨o19, ho19, h⟩ := mbind_n h
          refine u_get hC hP (uGR_n ho19) rfl in_X3 (by decide) q1961 (fun _ h => h) dX3_digs_157 ?_
          refine lv_iload_n hx hb dX3_digs_160 rfl (lv_at hl 4 rfl) ?_
          refine lv_iload hx hb dX3_digs_161 (lv_at hl 0 rfl) ?_
          refine lv_sipush (v := 10000) hx hb dX3_digs_163 (by decide) ?_
          refine u_aload_n (r := some a0) hx hb dX3_digs_166 rfl (lv_at hl 1 rfl) ?_
          obtain ⟨o20, ho20, h⟩ := mbind_n h
          refine u_get hC hP (uGR_n ho20) rfl in_X3 (by decide) q1925 (fun _ h => h) dX3_digs_167 ?_
          refine lv_iload hx hb dX3_digs_170 (lv_at hl 5 rfl) ?_
          obtain ⟨a21, ha21, hha21⟩ := mbind_n h
          subst ha21
          have h := hha21
          obtain ⟨y22, hy22, h⟩ := mbind_n h
          refine u_iald hC hP hy22 rfl dX3_digs_172 ?_
          refine lv_imul hx hb dX3_digs_173 ?_
          refine lv_iadd hx hb dX3_digs_174 ?_
          refine lv_iconst (v := 1) hx hb dX3_digs_175 (by decide) ?_
          refine lv_iadd hx hb dX3_digs_176 ?_
          obtain ⟨a23, ha23, hha23⟩ := mbind_n h
          subst ha23
          have h := hha23
          obtain ⟨u24, hu24, h⟩ := mbind_n h
          have zu24 := uStI_sz hu24
          refine u_iast hC hP hS hu24 rfl dX3_digs_177 (fun H locs hP hS => ?_)
          refine lv_iconst (v := 1) hx hb dX3_digs_178 (by decide) ?_
          refine lv_istore_n (i := 2) (lv' := [(2, .int 1), (6, .int y10), (0, va_rf (some a0)), (1, .int x1), (3, .int x3), (4, .int x4), (5, .int x5)]) hx hb dX3_digs_179 rfl hl (by decide) rfl (fun ls hl => ?_)
          exact w_X3_digs_180 hC hR N k67 hk67 k75 hk75 k83 hk83 (f_X3_digs_95 N (ub G) (ug G) a0 k67 k75 k83 n) ih u24 x1 1 x3 x4 x5 h hP hS (lv_sub hl [2, 3, 0, 4, 5, 6] rfl)
        · have h := mif_f c18 h
          refine lv_goto (tgt := 180) hx hb dX3_digs_153 (by decide) ?_
          exact w_X3_digs_180 hC hR N k67 hk67 k75 hk75 k83 hk83 (f_X3_digs_95 N (ub G) (ug G) a0 k67 k75 k83 n) ih u6 x1 x2 x3 x4 x5 h hP hS (lv_sub hl [1, 2, 3, 4, 5, 6] rfl)
def f_X3_digs_83 (N b : Nat) (g : uEnv) (a0 : Nat) (k67 : UH → Int32 → Int32 → Option (UH)) (k75 : UH → Int32 → Int32 → Int32 → Option (UH)) : Nat → UH → Int32 → Int32 → Int32 → Int32 → Option (UH)
  | 0, _, _, _, _, _ => none
  | n + 1, u, x1, x2, x3, x4 =>
    (uGI u a0 2 23).bind fun y1 =>
    if y1 ≤ x4 then
    mlet (x3 + 1) fun y3 =>
    k75 u x1 x2 y3
    else
    f_X3_digs_95 N b g a0 k67 k75 (f_X3_digs_83 N b g a0 k67 k75 n) N u x1 x2 x3 x4 0
set_option maxHeartbeats 4000000 in
set_option maxRecDepth 100000 in
theorem zz_X3_digs_83 {G : uG} {a0 : Nat} {uf : UH} (N : Nat) (k67 : UH → Int32 → Int32 → Option (UH)) (hk67 : ∀ (u : UH) (x1 : Int32) (x2 : Int32), k67 u x1 x2 = some uf → uf.1 = u.1 ∧ uf.2.1 = u.2.1) (k75 : UH → Int32 → Int32 → Int32 → Option (UH)) (hk75 : ∀ (u : UH) (x1 : Int32) (x2 : Int32) (x3 : Int32), k75 u x1 x2 x3 = some uf → uf.1 = u.1 ∧ uf.2.1 = u.2.1) : ∀ (n : Nat) (u : UH) (x1 : Int32) (x2 : Int32) (x3 : Int32) (x4 : Int32), f_X3_digs_83 N (ub G) (ug G) a0 k67 k75 n u x1 x2 x3 x4 = some uf → uf.1 = u.1 ∧ uf.2.1 = u.2.1 := by
  intro n
  induction n with
  | zero =>
    intro u x1 x2 x3 x4 h
    cases h
  | succ n ih =>
    intro u x1 x2 x3 x4 h
    unfold f_X3_digs_83 at h
    obtain ⟨y1, hy1, h⟩ := mbind_n h
    by_cases c2 : y1 ≤ x4
    · have h := mif_t c2 h
      obtain ⟨y3, ey3⟩ : ∃ z : Int32, z = x3 + 1 := ⟨_, rfl⟩
      have h := mlet_at ey3 h
      have hq := hk75 u x1 x2 y3 h
      exact ⟨by omega, by omega⟩
    · have h := mif_f c2 h
      have hq := zz_X3_digs_95 (G := G) (a0 := a0) N k67 hk67 k75 hk75 (f_X3_digs_83 N (ub G) (ug G) a0 k67 k75 n) ih N u x1 x2 x3 x4 0 h
      exact ⟨by omega, by omega⟩
set_option maxHeartbeats 4000000 in
set_option maxRecDepth 100000 in
theorem w_X3_digs_83 {p : Program} {l : Launch} {e : Env} {R : Room} {s : State} {m : MethodId} {args : Array Value} {below : List Frame} {meth : Method} {c : Code} {G : uG} {a0 : Nat} {uf : UH} (hC : uC p s m args meth c G RX3 cX3_digs 7 none) (hR : 1 ≤ R.frames ∧ 28 ≤ R.locals) (N : Nat) (k67 : UH → Int32 → Int32 → Option (UH)) (hk67 : ∀ (u : UH) (x1 : Int32) (x2 : Int32), k67 u x1 x2 = some uf → ∀ (H : Heap) (locs : List Loc), uP G u H → va_S (uA G) s.heap H locs → ∀ ls : Array Slot, lv_has ls 7 [(0, va_rf (some a0)), (1, .int x1), (2, .int x2)] → W p l e R s m args below meth c H locs 0 0 (MQ below (uQv G uf) args s 0 0 (uA G)) (F0 m 67 ls [])) (k75 : UH → Int32 → Int32 → Int32 → Option (UH)) (hk75 : ∀ (u : UH) (x1 : Int32) (x2 : Int32) (x3 : Int32), k75 u x1 x2 x3 = some uf → ∀ (H : Heap) (locs : List Loc), uP G u H → va_S (uA G) s.heap H locs → ∀ ls : Array Slot, lv_has ls 7 [(0, va_rf (some a0)), (1, .int x1), (2, .int x2), (3, .int x3)] → W p l e R s m args below meth c H locs 0 0 (MQ below (uQv G uf) args s 0 0 (uA G)) (F0 m 75 ls [])) : ∀ (n : Nat) (u : UH) (x1 : Int32) (x2 : Int32) (x3 : Int32) (x4 : Int32), f_X3_digs_83 N (ub G) (ug G) a0 k67 k75 n u x1 x2 x3 x4 = some uf → ∀ (H : Heap) (locs : List Loc), uP G u H → va_S (uA G) s.heap H locs → ∀ ls : Array Slot, lv_has ls 7 [(0, va_rf (some a0)), (1, .int x1), (2, .int x2), (3, .int x3), (4, .int x4)] → W p l e R s m args below meth c H locs 0 0 (MQ below (uQv G uf) args s 0 0 (uA G)) (F0 m 83 ls []) := by
  obtain ⟨⟨hx, hb, hml, hown, hts⟩, hKK⟩ := id hC
  intro n
  induction n with
  | zero =>
    intro u x1 x2 x3 x4 h
    cases h
  | succ n ih =>
    intro u x1 x2 x3 x4 h H locs hP hS ls hl
    unfold f_X3_digs_83 at h
    refine lv_iload hx hb dX3_digs_83 (lv_at hl 4 rfl) ?_
    refine u_aload_n (r := some a0) hx hb dX3_digs_85 rfl (lv_at hl 0 rfl) ?_
    obtain ⟨y1, hy1, h⟩ := mbind_n h
    refine u_get hC hP (uGI_n hy1) rfl in_X3 (by decide) q1916 (fun _ h => h) dX3_digs_86 ?_
    refine lv_icmp_ge (tgt := 192) hx hb dX3_digs_89 (by decide) (fun c2 => ?_) (fun c2 => ?_)
    · have h := mif_t c2 h
      obtain ⟨y3, ey3⟩ : ∃ z : Int32, z = x3 + 1 := ⟨_, rfl⟩
      have h := mlet_at ey3 h
      refine lv_iinc (v := y3) (lv' := [(3, .int y3), (0, va_rf (some a0)), (1, .int x1), (2, .int x2), (4, .int x4)]) hx hb dX3_digs_192 hl (k := 3) rfl (by rw [ey3]; rfl) (by decide) rfl (fun ls hl => ?_)
      refine lv_goto (tgt := 75) hx hb dX3_digs_195 (by decide) ?_
      exact hk75 u x1 x2 y3 h _ _ hP hS _ (lv_sub hl [1, 2, 3, 0] rfl)
    · have h := mif_f c2 h
      refine lv_iconst (v := 0) hx hb dX3_digs_92 (by decide) ?_
      refine lv_istore (lv' := [(5, .int 0), (0, va_rf (some a0)), (1, .int x1), (2, .int x2), (3, .int x3), (4, .int x4)]) hx hb dX3_digs_93 hl (by decide) rfl (fun ls hl => ?_)
      exact w_X3_digs_95 hC hR N k67 hk67 k75 hk75 (f_X3_digs_83 N (ub G) (ug G) a0 k67 k75 n) ih N u x1 x2 x3 x4 0 h _ _ hP hS _ (lv_sub hl [1, 2, 3, 4, 5, 0] rfl)
def f_X3_digs_75 (N b : Nat) (g : uEnv) (a0 : Nat) (k67 : UH → Int32 → Int32 → Option (UH)) : Nat → UH → Int32 → Int32 → Int32 → Option (UH)
  | 0, _, _, _, _ => none
  | n + 1, u, x1, x2, x3 =>
    if x1 ≤ x3 then
    k67 u x1 x2
    else
    f_X3_digs_83 N b g a0 k67 (f_X3_digs_75 N b g a0 k67 n) N u x1 x2 x3 0
set_option maxHeartbeats 4000000 in
set_option maxRecDepth 100000 in
theorem zz_X3_digs_75 {G : uG} {a0 : Nat} {uf : UH} (N : Nat) (k67 : UH → Int32 → Int32 → Option (UH)) (hk67 : ∀ (u : UH) (x1 : Int32) (x2 : Int32), k67 u x1 x2 = some uf → uf.1 = u.1 ∧ uf.2.1 = u.2.1) : ∀ (n : Nat) (u : UH) (x1 : Int32) (x2 : Int32) (x3 : Int32), f_X3_digs_75 N (ub G) (ug G) a0 k67 n u x1 x2 x3 = some uf → uf.1 = u.1 ∧ uf.2.1 = u.2.1 := by
  intro n
  induction n with
  | zero =>
    intro u x1 x2 x3 h
    cases h
  | succ n ih =>
    intro u x1 x2 x3 h
    unfold f_X3_digs_75 at h
    by_cases c1 : x1 ≤ x3
    · have h := mif_t c1 h
      have hq := hk67 u x1 x2 h
      exact ⟨by omega, by omega⟩
    · have h := mif_f c1 h
      have hq := zz_X3_digs_83 (G := G) (a0 := a0) N k67 hk67 (f_X3_digs_75 N (ub G) (ug G) a0 k67 n) ih N u x1 x2 x3 0 h
      exact ⟨by omega, by omega⟩
set_option maxHeartbeats 4000000 in
set_option maxRecDepth 100000 in
theorem w_X3_digs_75 {p : Program} {l : Launch} {e : Env} {R : Room} {s : State} {m : MethodId} {args : Array Value} {below : List Frame} {meth : Method} {c : Code} {G : uG} {a0 : Nat} {uf : UH} (hC : uC p s m args meth c G RX3 cX3_digs 7 none) (hR : 1 ≤ R.frames ∧ 28 ≤ R.locals) (N : Nat) (k67 : UH → Int32 → Int32 → Option (UH)) (hk67 : ∀ (u : UH) (x1 : Int32) (x2 : Int32), k67 u x1 x2 = some uf → ∀ (H : Heap) (locs : List Loc), uP G u H → va_S (uA G) s.heap H locs → ∀ ls : Array Slot, lv_has ls 7 [(0, va_rf (some a0)), (1, .int x1), (2, .int x2)] → W p l e R s m args below meth c H locs 0 0 (MQ below (uQv G uf) args s 0 0 (uA G)) (F0 m 67 ls [])) : ∀ (n : Nat) (u : UH) (x1 : Int32) (x2 : Int32) (x3 : Int32), f_X3_digs_75 N (ub G) (ug G) a0 k67 n u x1 x2 x3 = some uf → ∀ (H : Heap) (locs : List Loc), uP G u H → va_S (uA G) s.heap H locs → ∀ ls : Array Slot, lv_has ls 7 [(0, va_rf (some a0)), (1, .int x1), (2, .int x2), (3, .int x3)] → W p l e R s m args below meth c H locs 0 0 (MQ below (uQv G uf) args s 0 0 (uA G)) (F0 m 75 ls []) := by
  obtain ⟨⟨hx, hb, hml, hown, hts⟩, hKK⟩ := id hC
  intro n
  induction n with
  | zero =>
    intro u x1 x2 x3 h
    cases h
  | succ n ih =>
    intro u x1 x2 x3 h H locs hP hS ls hl
    unfold f_X3_digs_75 at h
    refine lv_iload_n hx hb dX3_digs_75 rfl (lv_at hl 3 rfl) ?_
    refine lv_iload_n hx hb dX3_digs_76 rfl (lv_at hl 1 rfl) ?_
    refine lv_icmp_ge (tgt := 198) hx hb dX3_digs_77 (by decide) (fun c1 => ?_) (fun c1 => ?_)
    · have h := mif_t c1 h
      refine lv_goto (tgt := 67) hx hb dX3_digs_198 (by decide) ?_
      exact hk67 u x1 x2 h _ _ hP hS _ (lv_sub hl [0, 1, 2] rfl)
    · have h := mif_f c1 h
      refine lv_iconst (v := 0) hx hb dX3_digs_80 (by decide) ?_
      refine lv_istore (lv' := [(4, .int 0), (0, va_rf (some a0)), (1, .int x1), (2, .int x2), (3, .int x3)]) hx hb dX3_digs_81 hl (by decide) rfl (fun ls hl => ?_)
      exact w_X3_digs_83 hC hR N k67 hk67 (f_X3_digs_75 N (ub G) (ug G) a0 k67 n) ih N u x1 x2 x3 0 h _ _ hP hS _ (lv_sub hl [1, 2, 3, 4, 0] rfl)
def f_X3_digs_67 (N b : Nat) (g : uEnv) (a0 : Nat) : Nat → UH → Int32 → Int32 → Option (UH)
  | 0, _, _, _ => none
  | n + 1, u, x1, x2 =>
    if x2 = 0 then
    some u
    else
    f_X3_digs_75 N b g a0 (f_X3_digs_67 N b g a0 n) N u x1 0 1
set_option maxHeartbeats 4000000 in
set_option maxRecDepth 100000 in
theorem zz_X3_digs_67 {G : uG} {a0 : Nat} {uf : UH} (N : Nat) : ∀ (n : Nat) (u : UH) (x1 : Int32) (x2 : Int32), f_X3_digs_67 N (ub G) (ug G) a0 n u x1 x2 = some uf → uf.1 = u.1 ∧ uf.2.1 = u.2.1 := by
  intro n
  induction n with
  | zero =>
    intro u x1 x2 h
    cases h
  | succ n ih =>
    intro u x1 x2 h
    unfold f_X3_digs_67 at h
    by_cases c1 : x2 = 0
    · have h := mif_t c1 h
      cases h
      exact ⟨by omega, by omega⟩
    · have h := mif_f c1 h
      have hq := zz_X3_digs_75 (G := G) (a0 := a0) N (f_X3_digs_67 N (ub G) (ug G) a0 n) ih N u x1 0 1 h
      exact ⟨by omega, by omega⟩
set_option maxHeartbeats 4000000 in
set_option maxRecDepth 100000 in
theorem w_X3_digs_67 {p : Program} {l : Launch} {e : Env} {R : Room} {s : State} {m : MethodId} {args : Array Value} {below : List Frame} {meth : Method} {c : Code} {G : uG} {a0 : Nat} {uf : UH} (hC : uC p s m args meth c G RX3 cX3_digs 7 none) (hR : 1 ≤ R.frames ∧ 28 ≤ R.locals) (N : Nat) : ∀ (n : Nat) (u : UH) (x1 : Int32) (x2 : Int32), f_X3_digs_67 N (ub G) (ug G) a0 n u x1 x2 = some uf → ∀ (H : Heap) (locs : List Loc), uP G u H → va_S (uA G) s.heap H locs → ∀ ls : Array Slot, lv_has ls 7 [(0, va_rf (some a0)), (1, .int x1), (2, .int x2)] → W p l e R s m args below meth c H locs 0 0 (MQ below (uQv G uf) args s 0 0 (uA G)) (F0 m 67 ls []) := by
  obtain ⟨⟨hx, hb, hml, hown, hts⟩, hKK⟩ := id hC
  intro n
  induction n with
  | zero =>
    intro u x1 x2 h
    cases h
  | succ n ih =>
    intro u x1 x2 h H locs hP hS ls hl
    unfold f_X3_digs_67 at h
    refine lv_iload_n hx hb dX3_digs_67 rfl (lv_at hl 2 rfl) ?_
    refine lv_if_eq (tgt := 201) hx hb dX3_digs_68 (by decide) (fun c1 => ?_) (fun c1 => ?_)
    · have h := mif_t c1 h
      cases h
      exact u_vret hC hP hS dX3_digs_201
    · have h := mif_f c1 h
      refine lv_iconst (v := 0) hx hb dX3_digs_71 (by decide) ?_
      refine lv_istore_n (i := 2) (lv' := [(2, .int 0), (0, va_rf (some a0)), (1, .int x1)]) hx hb dX3_digs_72 rfl hl (by decide) rfl (fun ls hl => ?_)
      refine lv_iconst (v := 1) hx hb dX3_digs_73 (by decide) ?_
      refine lv_istore_n (i := 3) (lv' := [(3, .int 1), (2, .int 0), (0, va_rf (some a0)), (1, .int x1)]) hx hb dX3_digs_74 rfl hl (by decide) rfl (fun ls hl => ?_)
      exact w_X3_digs_75 hC hR N (f_X3_digs_67 N (ub G) (ug G) a0 n) ih N u x1 0 1 h _ _ hP hS _ (lv_sub hl [2, 3, 1, 0] rfl)
def f_X3_digs_58 (N b : Nat) (g : uEnv) (a0 : Nat) (k37 : UH → Int32 → Int32 → Option (UH)) (u : UH) (x1 : Int32) (x2 : Int32) (s0 : Int32) (s1 : Int32) (s2 : Option Nat) : Option (UH) :=
    (s2).bind fun a1 =>
    (uStI b u a1 0 s1 s0).bind fun u2 =>
    mlet (x2 + 1) fun y3 =>
    k37 u2 x1 y3
set_option maxHeartbeats 4000000 in
set_option maxRecDepth 100000 in
theorem zz_X3_digs_58 {G : uG} {a0 : Nat} {uf : UH} (N : Nat) (k37 : UH → Int32 → Int32 → Option (UH)) (hk37 : ∀ (u : UH) (x1 : Int32) (x2 : Int32), k37 u x1 x2 = some uf → uf.1 = u.1 ∧ uf.2.1 = u.2.1) (u : UH) (x1 : Int32) (x2 : Int32) (s0 : Int32) (s1 : Int32) (s2 : Option Nat) (h : f_X3_digs_58 N (ub G) (ug G) a0 k37 u x1 x2 s0 s1 s2 = some uf) : uf.1 = u.1 ∧ uf.2.1 = u.2.1 := by
  unfold f_X3_digs_58 at h
  obtain ⟨a1, ha1, hha1⟩ := mbind_n h
  subst ha1
  have h := hha1
  obtain ⟨u2, hu2, h⟩ := mbind_n h
  have zu2 := uStI_sz hu2
  obtain ⟨y3, ey3⟩ : ∃ z : Int32, z = x2 + 1 := ⟨_, rfl⟩
  have h := mlet_at ey3 h
  have hq := hk37 u2 x1 y3 h
  exact ⟨by omega, by omega⟩
set_option maxHeartbeats 4000000 in
set_option maxRecDepth 100000 in
theorem w_X3_digs_58 {p : Program} {l : Launch} {e : Env} {R : Room} {s : State} {m : MethodId} {args : Array Value} {below : List Frame} {meth : Method} {c : Code} {G : uG} {a0 : Nat} {uf : UH} (hC : uC p s m args meth c G RX3 cX3_digs 7 none) (hR : 1 ≤ R.frames ∧ 28 ≤ R.locals) (N : Nat) (k37 : UH → Int32 → Int32 → Option (UH)) (hk37 : ∀ (u : UH) (x1 : Int32) (x2 : Int32), k37 u x1 x2 = some uf → ∀ (H : Heap) (locs : List Loc), uP G u H → va_S (uA G) s.heap H locs → ∀ ls : Array Slot, lv_has ls 7 [(0, va_rf (some a0)), (1, .int x1), (2, .int x2)] → W p l e R s m args below meth c H locs 0 0 (MQ below (uQv G uf) args s 0 0 (uA G)) (F0 m 37 ls [])) (u : UH) (x1 : Int32) (x2 : Int32) (s0 : Int32) (s1 : Int32) (s2 : Option Nat) (h : f_X3_digs_58 N (ub G) (ug G) a0 k37 u x1 x2 s0 s1 s2 = some uf) {H : Heap} {locs : List Loc} (hP : uP G u H) (hS : va_S (uA G) s.heap H locs) {ls : Array Slot} (hl : lv_has ls 7 [(0, va_rf (some a0)), (1, .int x1), (2, .int x2)]) : W p l e R s m args below meth c H locs 0 0 (MQ below (uQv G uf) args s 0 0 (uA G)) (F0 m 58 ls [.int s0, .int s1, va_rf s2]) := by
  obtain ⟨⟨hx, hb, hml, hown, hts⟩, hKK⟩ := id hC
  unfold f_X3_digs_58 at h
  obtain ⟨a1, ha1, hha1⟩ := mbind_n h
  subst ha1
  have h := hha1
  obtain ⟨u2, hu2, h⟩ := mbind_n h
  have zu2 := uStI_sz hu2
  refine u_iast hC hP hS hu2 rfl dX3_digs_58 (fun H locs hP hS => ?_)
  obtain ⟨y3, ey3⟩ : ∃ z : Int32, z = x2 + 1 := ⟨_, rfl⟩
  have h := mlet_at ey3 h
  refine lv_iinc (v := y3) (lv' := [(2, .int y3), (0, va_rf (some a0)), (1, .int x1)]) hx hb dX3_digs_59 hl (k := 2) rfl (by rw [ey3]; rfl) (by decide) rfl (fun ls hl => ?_)
  refine lv_goto (tgt := 37) hx hb dX3_digs_62 (by decide) ?_
  exact hk37 u2 x1 y3 h _ _ hP hS _ (lv_sub hl [1, 2, 0] rfl)
def f_X3_digs_37 (N b : Nat) (g : uEnv) (a0 : Nat) : Nat → UH → Int32 → Int32 → Option (UH)
  | 0, _, _, _ => none
  | n + 1, u, x1, x2 =>
    if x1 ≤ x2 then
    f_X3_digs_67 N b g a0 N u x1 1
    else
    (uGR u a0 2 68).bind fun o2 =>
    if x2 = 0 then
    f_X3_digs_58 N b g a0 (f_X3_digs_37 N b g a0 n) u x1 x2 0 x2 o2
    else
    f_X3_digs_58 N b g a0 (f_X3_digs_37 N b g a0 n) u x1 x2 2000000000 x2 o2
set_option maxHeartbeats 4000000 in
set_option maxRecDepth 100000 in
theorem zz_X3_digs_37 {G : uG} {a0 : Nat} {uf : UH} (N : Nat) : ∀ (n : Nat) (u : UH) (x1 : Int32) (x2 : Int32), f_X3_digs_37 N (ub G) (ug G) a0 n u x1 x2 = some uf → uf.1 = u.1 ∧ uf.2.1 = u.2.1 := by
  intro n
  induction n with
  | zero =>
    intro u x1 x2 h
    cases h
  | succ n ih =>
    intro u x1 x2 h
    unfold f_X3_digs_37 at h
    by_cases c1 : x1 ≤ x2
    · have h := mif_t c1 h
      have hq := zz_X3_digs_67 (G := G) (a0 := a0) N N u x1 1 h
      exact ⟨by omega, by omega⟩
    · have h := mif_f c1 h
      obtain ⟨o2, ho2, h⟩ := mbind_n h
      by_cases c3 : x2 = 0
      · have h := mif_t c3 h
        have hq := zz_X3_digs_58 (G := G) (a0 := a0) N (f_X3_digs_37 N (ub G) (ug G) a0 n) ih u x1 x2 0 x2 o2 h
        exact ⟨by omega, by omega⟩
      · have h := mif_f c3 h
        have hq := zz_X3_digs_58 (G := G) (a0 := a0) N (f_X3_digs_37 N (ub G) (ug G) a0 n) ih u x1 x2 2000000000 x2 o2 h
        exact ⟨by omega, by omega⟩
set_option maxHeartbeats 4000000 in
set_option maxRecDepth 100000 in
theorem w_X3_digs_37 {p : Program} {l : Launch} {e : Env} {R : Room} {s : State} {m : MethodId} {args : Array Value} {below : List Frame} {meth : Method} {c : Code} {G : uG} {a0 : Nat} {uf : UH} (hC : uC p s m args meth c G RX3 cX3_digs 7 none) (hR : 1 ≤ R.frames ∧ 28 ≤ R.locals) (N : Nat) : ∀ (n : Nat) (u : UH) (x1 : Int32) (x2 : Int32), f_X3_digs_37 N (ub G) (ug G) a0 n u x1 x2 = some uf → ∀ (H : Heap) (locs : List Loc), uP G u H → va_S (uA G) s.heap H locs → ∀ ls : Array Slot, lv_has ls 7 [(0, va_rf (some a0)), (1, .int x1), (2, .int x2)] → W p l e R s m args below meth c H locs 0 0 (MQ below (uQv G uf) args s 0 0 (uA G)) (F0 m 37 ls []) := by
  obtain ⟨⟨hx, hb, hml, hown, hts⟩, hKK⟩ := id hC
  intro n
  induction n with
  | zero =>
    intro u x1 x2 h
    cases h
  | succ n ih =>
    intro u x1 x2 h H locs hP hS ls hl
    unfold f_X3_digs_37 at h
    refine lv_iload_n hx hb dX3_digs_37 rfl (lv_at hl 2 rfl) ?_
    refine lv_iload_n hx hb dX3_digs_38 rfl (lv_at hl 1 rfl) ?_
    refine lv_icmp_ge (tgt := 65) hx hb dX3_digs_39 (by decide) (fun c1 => ?_) (fun c1 => ?_)
    · have h := mif_t c1 h
      refine lv_iconst (v := 1) hx hb dX3_digs_65 (by decide) ?_
      refine lv_istore_n (i := 2) (lv' := [(2, .int 1), (0, va_rf (some a0)), (1, .int x1)]) hx hb dX3_digs_66 rfl hl (by decide) rfl (fun ls hl => ?_)
      exact w_X3_digs_67 hC hR N N u x1 1 h _ _ hP hS _ (lv_sub hl [1, 2, 0] rfl)
    · have h := mif_f c1 h
      refine u_aload_n (r := some a0) hx hb dX3_digs_42 rfl (lv_at hl 0 rfl) ?_
      obtain ⟨o2, ho2, h⟩ := mbind_n h
      refine u_get hC hP (uGR_n ho2) rfl in_X3 (by decide) q1961 (fun _ h => h) dX3_digs_43 ?_
      refine lv_iload_n hx hb dX3_digs_46 rfl (lv_at hl 2 rfl) ?_
      refine lv_iload_n hx hb dX3_digs_47 rfl (lv_at hl 2 rfl) ?_
      refine lv_if_ne (tgt := 55) hx hb dX3_digs_48 (by decide) (fun c3 => ?_) (fun c3 => ?_)
      · have h := mif_f c3 h
        refine lv_ldcw hx hb hown (hts _ q2520) dX3_digs_55 ?_
        exact w_X3_digs_58 hC hR N (f_X3_digs_37 N (ub G) (ug G) a0 n) ih u x1 x2 2000000000 x2 o2 h hP hS (lv_sub hl [0, 1, 2] rfl)
      · have h := mif_t c3 h
        refine lv_iconst (v := 0) hx hb dX3_digs_51 (by decide) ?_
        refine lv_goto (tgt := 58) hx hb dX3_digs_52 (by decide) ?_
        exact w_X3_digs_58 hC hR N (f_X3_digs_37 N (ub G) (ug G) a0 n) ih u x1 x2 0 x2 o2 h hP hS (lv_sub hl [0, 1, 2] rfl)
def f_X3_digs_17 (N b : Nat) (g : uEnv) (a0 : Nat) : Nat → UH → Int32 → Int32 → Option (UH)
  | 0, _, _, _ => none
  | n + 1, u, x1, x2 =>
    (uGI u a0 2 24).bind fun y1 =>
    if y1 ≤ x2 then
    f_X3_digs_37 N b g a0 N u x1 0
    else
    mlet (x1 * 5) fun y3 =>
    mlet (x2 + 1) fun y4 =>
    f_X3_digs_17 N b g a0 n u y3 y4
set_option maxHeartbeats 4000000 in
set_option maxRecDepth 100000 in
theorem zz_X3_digs_17 {G : uG} {a0 : Nat} {uf : UH} (N : Nat) : ∀ (n : Nat) (u : UH) (x1 : Int32) (x2 : Int32), f_X3_digs_17 N (ub G) (ug G) a0 n u x1 x2 = some uf → uf.1 = u.1 ∧ uf.2.1 = u.2.1 := by
  intro n
  induction n with
  | zero =>
    intro u x1 x2 h
    cases h
  | succ n ih =>
    intro u x1 x2 h
    unfold f_X3_digs_17 at h
    obtain ⟨y1, hy1, h⟩ := mbind_n h
    by_cases c2 : y1 ≤ x2
    · have h := mif_t c2 h
      have hq := zz_X3_digs_37 (G := G) (a0 := a0) N N u x1 0 h
      exact ⟨by omega, by omega⟩
    · have h := mif_f c2 h
      obtain ⟨y3, ey3⟩ : ∃ z, z = x1 * 5 := ⟨_, rfl⟩
      have h := mlet_at ey3 h
      obtain ⟨y4, ey4⟩ : ∃ z : Int32, z = x2 + 1 := ⟨_, rfl⟩
      have h := mlet_at ey4 h
      have hq := ih u y3 y4 h
      exact ⟨by omega, by omega⟩
set_option maxHeartbeats 4000000 in
set_option maxRecDepth 100000 in
theorem w_X3_digs_17 {p : Program} {l : Launch} {e : Env} {R : Room} {s : State} {m : MethodId} {args : Array Value} {below : List Frame} {meth : Method} {c : Code} {G : uG} {a0 : Nat} {uf : UH} (hC : uC p s m args meth c G RX3 cX3_digs 7 none) (hR : 1 ≤ R.frames ∧ 28 ≤ R.locals) (N : Nat) : ∀ (n : Nat) (u : UH) (x1 : Int32) (x2 : Int32), f_X3_digs_17 N (ub G) (ug G) a0 n u x1 x2 = some uf → ∀ (H : Heap) (locs : List Loc), uP G u H → va_S (uA G) s.heap H locs → ∀ ls : Array Slot, lv_has ls 7 [(0, va_rf (some a0)), (1, .int x1), (2, .int x2)] → W p l e R s m args below meth c H locs 0 0 (MQ below (uQv G uf) args s 0 0 (uA G)) (F0 m 17 ls []) := by
  obtain ⟨⟨hx, hb, hml, hown, hts⟩, hKK⟩ := id hC
  intro n
  induction n with
  | zero =>
    intro u x1 x2 h
    cases h
  | succ n ih =>
    intro u x1 x2 h H locs hP hS ls hl
    unfold f_X3_digs_17 at h
    refine lv_iload_n hx hb dX3_digs_17 rfl (lv_at hl 2 rfl) ?_
    refine u_aload_n (r := some a0) hx hb dX3_digs_18 rfl (lv_at hl 0 rfl) ?_
    obtain ⟨y1, hy1, h⟩ := mbind_n h
    refine u_get hC hP (uGI_n hy1) rfl in_X3 (by decide) q1917 (fun _ h => h) dX3_digs_19 ?_
    refine lv_icmp_ge (tgt := 35) hx hb dX3_digs_22 (by decide) (fun c2 => ?_) (fun c2 => ?_)
    · have h := mif_t c2 h
      refine lv_iconst (v := 0) hx hb dX3_digs_35 (by decide) ?_
      refine lv_istore_n (i := 2) (lv' := [(2, .int 0), (0, va_rf (some a0)), (1, .int x1)]) hx hb dX3_digs_36 rfl hl (by decide) rfl (fun ls hl => ?_)
      exact w_X3_digs_37 hC hR N N u x1 0 h _ _ hP hS _ (lv_sub hl [1, 2, 0] rfl)
    · have h := mif_f c2 h
      refine lv_iload_n hx hb dX3_digs_25 rfl (lv_at hl 1 rfl) ?_
      refine lv_iconst (v := 5) hx hb dX3_digs_26 (by decide) ?_
      refine lv_imul hx hb dX3_digs_27 ?_
      refine lv_topi (fun y3 ey3 => ?_)
      have h := mlet_at ey3 h
      refine lv_istore_n (i := 1) (lv' := [(1, .int y3), (0, va_rf (some a0)), (2, .int x2)]) hx hb dX3_digs_28 rfl hl (by decide) rfl (fun ls hl => ?_)
      obtain ⟨y4, ey4⟩ : ∃ z : Int32, z = x2 + 1 := ⟨_, rfl⟩
      have h := mlet_at ey4 h
      refine lv_iinc (v := y4) (lv' := [(2, .int y4), (1, .int y3), (0, va_rf (some a0))]) hx hb dX3_digs_29 hl (k := 2) rfl (by rw [ey4]; rfl) (by decide) rfl (fun ls hl => ?_)
      refine lv_goto (tgt := 17) hx hb dX3_digs_32 (by decide) ?_
      exact ih u y3 y4 h _ _ hP hS _ (lv_sub hl [2, 1, 0] rfl)
def f_X3_digs (N b : Nat) (g : uEnv) (u : UH) (a0 : Nat) : Option (UH) :=
    (uGI u a0 2 69).bind fun y1 =>
    if y1 = 0 then
    (uPut b u a0 2 69 (.int 1)).bind fun u3 =>
    f_X3_digs_17 N b g a0 N u3 1 0
    else
    some u
set_option maxHeartbeats 4000000 in
set_option maxRecDepth 100000 in
theorem zz_X3_digs_0 {G : uG} {a0 : Nat} {uf : UH} (N : Nat) (u : UH) (h : f_X3_digs N (ub G) (ug G) u a0 = some uf) : uf.1 = u.1 ∧ uf.2.1 = u.2.1 := by
  unfold f_X3_digs at h
  obtain ⟨y1, hy1, h⟩ := mbind_n h
  by_cases c2 : y1 = 0
  · have h := mif_t c2 h
    obtain ⟨u3, hu3, h⟩ := mbind_n h
    have zu3 := uPut_sz hu3
    have hq := zz_X3_digs_17 (G := G) (a0 := a0) N N u3 1 0 h
    exact ⟨by omega, by omega⟩
  · have h := mif_f c2 h
    cases h
    exact ⟨by omega, by omega⟩
set_option maxHeartbeats 4000000 in
set_option maxRecDepth 100000 in
theorem w_X3_digs_0 {p : Program} {l : Launch} {e : Env} {R : Room} {s : State} {m : MethodId} {args : Array Value} {below : List Frame} {meth : Method} {c : Code} {G : uG} {a0 : Nat} {uf : UH} (hC : uC p s m args meth c G RX3 cX3_digs 7 none) (hR : 1 ≤ R.frames ∧ 28 ≤ R.locals) (N : Nat) (u : UH) (h : f_X3_digs N (ub G) (ug G) u a0 = some uf) {H : Heap} {locs : List Loc} (hP : uP G u H) (hS : va_S (uA G) s.heap H locs) {ls : Array Slot} (hl : lv_has ls 7 [(0, va_rf (some a0))]) : W p l e R s m args below meth c H locs 0 0 (MQ below (uQv G uf) args s 0 0 (uA G)) (F0 m 0 ls []) := by
  obtain ⟨⟨hx, hb, hml, hown, hts⟩, hKK⟩ := id hC
  unfold f_X3_digs at h
  refine u_aload_n (r := some a0) hx hb dX3_digs_0 rfl (lv_at hl 0 rfl) ?_
  obtain ⟨y1, hy1, h⟩ := mbind_n h
  refine u_get hC hP (uGI_n hy1) rfl in_X3 (by decide) q1962 (fun _ h => h) dX3_digs_1 ?_
  refine lv_if_eq (tgt := 8) hx hb dX3_digs_4 (by decide) (fun c2 => ?_) (fun c2 => ?_)
  · have h := mif_t c2 h
    refine u_aload_n (r := some a0) hx hb dX3_digs_8 rfl (lv_at hl 0 rfl) ?_
    refine lv_iconst (v := 1) hx hb dX3_digs_9 (by decide) ?_
    obtain ⟨u3, hu3, h⟩ := mbind_n h
    have zu3 := uPut_sz hu3
    refine u_put hC hP hS hu3 rfl in_X3 tyX3 tyX3_ok nmX3 (by decide) q1962 (fun _ h => h) rfl (ty := .boolean) (tyX3_ok 69 (by decide)) (uFit_n (ty := .boolean) (v := 1) rfl).1 (uFit_n (ty := .boolean) (v := 1) rfl).2 dX3_digs_10 (fun H locs hP hS => ?_)
    refine lv_iconst (v := 1) hx hb dX3_digs_13 (by decide) ?_
    refine lv_istore_n (i := 1) (lv' := [(1, .int 1), (0, va_rf (some a0))]) hx hb dX3_digs_14 rfl hl (by decide) rfl (fun ls hl => ?_)
    refine lv_iconst (v := 0) hx hb dX3_digs_15 (by decide) ?_
    refine lv_istore_n (i := 2) (lv' := [(2, .int 0), (1, .int 1), (0, va_rf (some a0))]) hx hb dX3_digs_16 rfl hl (by decide) rfl (fun ls hl => ?_)
    exact w_X3_digs_17 hC hR N N u3 1 0 h _ _ hP hS _ (lv_sub hl [2, 1, 0] rfl)
  · have h := mif_f c2 h
    cases h
    exact u_vret hC hP hS dX3_digs_7
theorem zz_X3_digs (N b : Nat) (g : uEnv) (u : UH) (a0 : Nat) (uf : UH) (h : f_X3_digs N b g u a0 = some uf) : uf.1 = u.1 ∧ uf.2.1 = u.2.1 :=
  zz_X3_digs_0 (G := ((fun _ => 0, fun _ _ => 0), fun _ => 0, b, g)) (a0 := a0) N u h
theorem met_X3_digs (l : Launch) (N : Nat) (G : uG) (u : UH) (a0 : Nat) (uf : UH) (h : f_X3_digs N (ub G) (ug G) u a0 = some uf) : Met l yX3_digs (ws_ yX3_digs cX3_digs 7 none) ({ frames := 1, cells := 0, slots := 0, locals := 28 }) (uPc G u [.ref a0]) (uQv G uf) 0 0 (uA G) := by
  exact u_met (own := RX3) (by decide +kernel) rfl (Nat.le_of_ble_eq_true rfl) (fun hC hn hsz ls hl hP => w_X3_digs_0 hC ⟨Nat.le_refl _, Nat.le_refl _⟩ N u h hP va_S.rf hl)
def f_X3_doubt_114 (N b : Nat) (g : uEnv) (a0 : Nat) (k80 : UH → Int32 → Int32 → Option (Int32 × UH)) (u : UH) (x1 : Int32) (x2 : Int32) (s0 : Int32) (s1 : Int32) (s2 : Option Nat) : Option (Int32 × UH) :=
    (s2).bind fun a1 =>
    (uStI b u a1 0 s1 s0).bind fun u2 =>
    mlet (x2 + 1) fun y3 =>
    k80 u2 x1 y3
set_option maxHeartbeats 4000000 in
set_option maxRecDepth 100000 in
theorem zz_X3_doubt_114 {G : uG} {a0 : Nat} {uf : UH} {r : Int32} (N : Nat) (k80 : UH → Int32 → Int32 → Option (Int32 × UH)) (hk80 : ∀ (u : UH) (x1 : Int32) (x2 : Int32), k80 u x1 x2 = some (r, uf) → uf.1 = u.1 ∧ uf.2.1 = u.2.1) (u : UH) (x1 : Int32) (x2 : Int32) (s0 : Int32) (s1 : Int32) (s2 : Option Nat) (h : f_X3_doubt_114 N (ub G) (ug G) a0 k80 u x1 x2 s0 s1 s2 = some (r, uf)) : uf.1 = u.1 ∧ uf.2.1 = u.2.1 := by
  unfold f_X3_doubt_114 at h
  obtain ⟨a1, ha1, hha1⟩ := mbind_n h
  subst ha1
  have h := hha1
  obtain ⟨u2, hu2, h⟩ := mbind_n h
  have zu2 := uStI_sz hu2
  obtain ⟨y3, ey3⟩ : ∃ z : Int32, z = x2 + 1 := ⟨_, rfl⟩
  have h := mlet_at ey3 h
  have hq := hk80 u2 x1 y3 h
  exact ⟨by omega, by omega⟩
set_option maxHeartbeats 4000000 in
set_option maxRecDepth 100000 in
theorem w_X3_doubt_114 {p : Program} {l : Launch} {e : Env} {R : Room} {s : State} {m : MethodId} {args : Array Value} {below : List Frame} {meth : Method} {c : Code} {G : uG} {a0 : Nat} {uf : UH} {r : Int32} (hC : uC p s m args meth c G RX3 cX3_doubt 3 (some .int)) (hR : 2 ≤ R.frames ∧ 43 ≤ R.locals) (N : Nat) (k80 : UH → Int32 → Int32 → Option (Int32 × UH)) (hk80 : ∀ (u : UH) (x1 : Int32) (x2 : Int32), k80 u x1 x2 = some (r, uf) → ∀ (H : Heap) (locs : List Loc), uP G u H → va_S (uA G) s.heap H locs → ∀ ls : Array Slot, lv_has ls 3 [(0, va_rf (some a0)), (1, .int x1), (2, .int x2)] → W p l e R s m args below meth c H locs 0 0 (MQ below (uQi G r uf) args s 0 0 (uA G)) (F0 m 80 ls [])) (u : UH) (x1 : Int32) (x2 : Int32) (s0 : Int32) (s1 : Int32) (s2 : Option Nat) (h : f_X3_doubt_114 N (ub G) (ug G) a0 k80 u x1 x2 s0 s1 s2 = some (r, uf)) {H : Heap} {locs : List Loc} (hP : uP G u H) (hS : va_S (uA G) s.heap H locs) {ls : Array Slot} (hl : lv_has ls 3 [(0, va_rf (some a0)), (1, .int x1), (2, .int x2)]) : W p l e R s m args below meth c H locs 0 0 (MQ below (uQi G r uf) args s 0 0 (uA G)) (F0 m 114 ls [.int s0, .int s1, va_rf s2]) := by
  obtain ⟨⟨hx, hb, hml, hown, hts⟩, hKK⟩ := id hC
  unfold f_X3_doubt_114 at h
  obtain ⟨a1, ha1, hha1⟩ := mbind_n h
  subst ha1
  have h := hha1
  obtain ⟨u2, hu2, h⟩ := mbind_n h
  have zu2 := uStI_sz hu2
  refine u_iast hC hP hS hu2 rfl dX3_doubt_114 (fun H locs hP hS => ?_)
  obtain ⟨y3, ey3⟩ : ∃ z : Int32, z = x2 + 1 := ⟨_, rfl⟩
  have h := mlet_at ey3 h
  refine lv_iinc (v := y3) (lv' := [(2, .int y3), (0, va_rf (some a0)), (1, .int x1)]) hx hb dX3_doubt_115 hl (k := 2) rfl (by rw [ey3]; rfl) (by decide) rfl (fun ls hl => ?_)
  refine lv_goto (tgt := 80) hx hb dX3_doubt_118 (by decide) ?_
  exact hk80 u2 x1 y3 h _ _ hP hS _ (lv_sub hl [1, 2, 0] rfl)
def f_X3_doubt_80 (N b : Nat) (g : uEnv) (a0 : Nat) : Nat → UH → Int32 → Int32 → Option (Int32 × UH)
  | 0, _, _, _ => none
  | n + 1, u, x1, x2 =>
    if 8 ≤ x2 then
    (uGI u a0 2 37).bind fun y2 =>
    (uPut b u a0 2 37 (.int (y2 + 1))).bind fun u3 =>
    (uPut b u3 a0 2 51 (.int 0)).bind fun u4 =>
    (uGI u4 a0 2 37).bind fun y5 =>
    some (y5 - 1, u4)
    else
    (uGR u a0 2 46).bind fun o6 =>
    (uGI u a0 2 37).bind fun y7 =>
    (uGR u a0 2 42).bind fun o8 =>
    (o8).bind fun a9 =>
    (uLdI u a9 0 x1).bind fun y10 =>
    if x2 = y10 then
    f_X3_doubt_114 N b g a0 (f_X3_doubt_80 N b g a0 n) u x1 x2 1 ((8 * y7) + x2) o6
    else
    f_X3_doubt_114 N b g a0 (f_X3_doubt_80 N b g a0 n) u x1 x2 0 ((8 * y7) + x2) o6
set_option maxHeartbeats 4000000 in
set_option maxRecDepth 100000 in
theorem zz_X3_doubt_80 {G : uG} {a0 : Nat} {uf : UH} {r : Int32} (N : Nat) : ∀ (n : Nat) (u : UH) (x1 : Int32) (x2 : Int32), f_X3_doubt_80 N (ub G) (ug G) a0 n u x1 x2 = some (r, uf) → uf.1 = u.1 ∧ uf.2.1 = u.2.1 := by
  intro n
  induction n with
  | zero =>
    intro u x1 x2 h
    cases h
  | succ n ih =>
    intro u x1 x2 h
    unfold f_X3_doubt_80 at h
    by_cases c1 : 8 ≤ x2
    · have h := mif_t c1 h
      obtain ⟨y2, hy2, h⟩ := mbind_n h
      obtain ⟨u3, hu3, h⟩ := mbind_n h
      have zu3 := uPut_sz hu3
      obtain ⟨u4, hu4, h⟩ := mbind_n h
      have zu4 := uPut_sz hu4
      obtain ⟨y5, hy5, h⟩ := mbind_n h
      obtain ⟨hr1, hr2⟩ := uret_n h
      subst hr2
      exact ⟨by omega, by omega⟩
    · have h := mif_f c1 h
      obtain ⟨o6, ho6, h⟩ := mbind_n h
      obtain ⟨y7, hy7, h⟩ := mbind_n h
      obtain ⟨o8, ho8, h⟩ := mbind_n h
      obtain ⟨a9, ha9, hha9⟩ := mbind_n h
      subst ha9
      have h := hha9
      obtain ⟨y10, hy10, h⟩ := mbind_n h
      by_cases c11 : x2 = y10
      · have h := mif_t c11 h
        have hq := zz_X3_doubt_114 (G := G) (a0 := a0) N (f_X3_doubt_80 N (ub G) (ug G) a0 n) ih u x1 x2 1 ((8 * y7) + x2) o6 h
        exact ⟨by omega, by omega⟩
      · have h := mif_f c11 h
        have hq := zz_X3_doubt_114 (G := G) (a0 := a0) N (f_X3_doubt_80 N (ub G) (ug G) a0 n) ih u x1 x2 0 ((8 * y7) + x2) o6 h
        exact ⟨by omega, by omega⟩
set_option maxHeartbeats 4000000 in
set_option maxRecDepth 100000 in
theorem w_X3_doubt_80 {p : Program} {l : Launch} {e : Env} {R : Room} {s : State} {m : MethodId} {args : Array Value} {below : List Frame} {meth : Method} {c : Code} {G : uG} {a0 : Nat} {uf : UH} {r : Int32} (hC : uC p s m args meth c G RX3 cX3_doubt 3 (some .int)) (hR : 2 ≤ R.frames ∧ 43 ≤ R.locals) (N : Nat) : ∀ (n : Nat) (u : UH) (x1 : Int32) (x2 : Int32), f_X3_doubt_80 N (ub G) (ug G) a0 n u x1 x2 = some (r, uf) → ∀ (H : Heap) (locs : List Loc), uP G u H → va_S (uA G) s.heap H locs → ∀ ls : Array Slot, lv_has ls 3 [(0, va_rf (some a0)), (1, .int x1), (2, .int x2)] → W p l e R s m args below meth c H locs 0 0 (MQ below (uQi G r uf) args s 0 0 (uA G)) (F0 m 80 ls []) := by
  obtain ⟨⟨hx, hb, hml, hown, hts⟩, hKK⟩ := id hC
  intro n
  induction n with
  | zero =>
    intro u x1 x2 h
    cases h
  | succ n ih =>
    intro u x1 x2 h H locs hP hS ls hl
    unfold f_X3_doubt_80 at h
    refine lv_iload_n hx hb dX3_doubt_80 rfl (lv_at hl 2 rfl) ?_
    refine lv_bipush (v := 8) hx hb dX3_doubt_81 (by decide) ?_
    refine lv_icmp_ge (tgt := 121) hx hb dX3_doubt_83 (by decide) (fun c1 => ?_) (fun c1 => ?_)
    · have h := mif_t c1 h
      refine u_aload_n (r := some a0) hx hb dX3_doubt_121 rfl (lv_at hl 0 rfl) ?_
      refine lv_dup hx hb dX3_doubt_122 (u_cat _) ?_
      obtain ⟨y2, hy2, h⟩ := mbind_n h
      refine u_get hC hP (uGI_n hy2) rfl in_X3 (by decide) q1930 (fun _ h => h) dX3_doubt_123 ?_
      refine lv_iconst (v := 1) hx hb dX3_doubt_126 (by decide) ?_
      refine lv_iadd hx hb dX3_doubt_127 ?_
      obtain ⟨u3, hu3, h⟩ := mbind_n h
      have zu3 := uPut_sz hu3
      refine u_put hC hP hS hu3 rfl in_X3 tyX3 tyX3_ok nmX3 (by decide) q1930 (fun _ h => h) rfl (ty := .int) (tyX3_ok 37 (by decide)) rfl rfl dX3_doubt_128 (fun H locs hP hS => ?_)
      refine u_aload_n (r := some a0) hx hb dX3_doubt_131 rfl (lv_at hl 0 rfl) ?_
      refine lv_iconst (v := 0) hx hb dX3_doubt_132 (by decide) ?_
      obtain ⟨u4, hu4, h⟩ := mbind_n h
      have zu4 := uPut_sz hu4
      refine u_put hC hP hS hu4 rfl in_X3 tyX3 tyX3_ok nmX3 (by decide) q1944 (fun _ h => h) rfl (ty := .boolean) (tyX3_ok 51 (by decide)) (uFit_n (ty := .boolean) (v := 0) rfl).1 (uFit_n (ty := .boolean) (v := 0) rfl).2 dX3_doubt_133 (fun H locs hP hS => ?_)
      refine u_aload_n (r := some a0) hx hb dX3_doubt_136 rfl (lv_at hl 0 rfl) ?_
      obtain ⟨y5, hy5, h⟩ := mbind_n h
      refine u_get hC hP (uGI_n hy5) rfl in_X3 (by decide) q1930 (fun _ h => h) dX3_doubt_137 ?_
      refine lv_iconst (v := 1) hx hb dX3_doubt_140 (by decide) ?_
      refine lv_isub hx hb dX3_doubt_141 ?_
      obtain ⟨hr1, hr2⟩ := uret_n h
      subst hr1
      subst hr2
      exact u_iret hC hP hS dX3_doubt_142
    · have h := mif_f c1 h
      refine u_aload_n (r := some a0) hx hb dX3_doubt_86 rfl (lv_at hl 0 rfl) ?_
      obtain ⟨o6, ho6, h⟩ := mbind_n h
      refine u_get hC hP (uGR_n ho6) rfl in_X3 (by decide) q1939 (fun _ h => h) dX3_doubt_87 ?_
      refine lv_bipush (v := 8) hx hb dX3_doubt_90 (by decide) ?_
      refine u_aload_n (r := some a0) hx hb dX3_doubt_92 rfl (lv_at hl 0 rfl) ?_
      obtain ⟨y7, hy7, h⟩ := mbind_n h
      refine u_get hC hP (uGI_n hy7) rfl in_X3 (by decide) q1930 (fun _ h => h) dX3_doubt_93 ?_
      refine lv_imul hx hb dX3_doubt_96 ?_
      refine lv_iload_n hx hb dX3_doubt_97 rfl (lv_at hl 2 rfl) ?_
      refine lv_iadd hx hb dX3_doubt_98 ?_
      refine lv_iload_n hx hb dX3_doubt_99 rfl (lv_at hl 2 rfl) ?_
      refine u_aload_n (r := some a0) hx hb dX3_doubt_100 rfl (lv_at hl 0 rfl) ?_
      obtain ⟨o8, ho8, h⟩ := mbind_n h
      refine u_get hC hP (uGR_n ho8) rfl in_X3 (by decide) q1935 (fun _ h => h) dX3_doubt_101 ?_
      refine lv_iload_n hx hb dX3_doubt_104 rfl (lv_at hl 1 rfl) ?_
      obtain ⟨a9, ha9, hha9⟩ := mbind_n h
      subst ha9
      have h := hha9
      obtain ⟨y10, hy10, h⟩ := mbind_n h
      refine u_iald hC hP hy10 rfl dX3_doubt_105 ?_
      refine lv_icmp_ne (tgt := 113) hx hb dX3_doubt_106 (by decide) (fun c11 => ?_) (fun c11 => ?_)
      · have h := mif_f c11 h
        refine lv_iconst (v := 0) hx hb dX3_doubt_113 (by decide) ?_
        exact w_X3_doubt_114 hC hR N (f_X3_doubt_80 N (ub G) (ug G) a0 n) ih u x1 x2 0 ((8 * y7) + x2) o6 h hP hS (lv_sub hl [0, 1, 2] rfl)
      · have h := mif_t c11 h
        refine lv_iconst (v := 1) hx hb dX3_doubt_109 (by decide) ?_
        refine lv_goto (tgt := 114) hx hb dX3_doubt_110 (by decide) ?_
        exact w_X3_doubt_114 hC hR N (f_X3_doubt_80 N (ub G) (ug G) a0 n) ih u x1 x2 1 ((8 * y7) + x2) o6 h hP hS (lv_sub hl [0, 1, 2] rfl)
def f_X3_doubt (N b : Nat) (g : uEnv) (u : UH) (a0 : Nat) (x1 : Int32) : Option (Int32 × UH) :=
    if uIs u a0 2 = true then
    (f_X3_good N b g u a0).bind fun u2 =>
    if uIs u2 a0 2 = true then
    ucall (f_X3_isCell N b g u2 a0 x1) fun r7 u5 =>
    if r7 = 0 then
    if uIs u5 a0 2 = true then
    ucall (f_X3_no N b g u5 a0 1) fun r38 u36 =>
    some (r38, u36)
    else none
    else
    (uGR u5 a0 2 43).bind fun o9 =>
    (o9).bind fun a10 =>
    (uLdI u5 a10 0 x1).bind fun y11 =>
    if y11 = (-1) then
    (uGI u5 a0 2 37).bind fun y13 =>
    if y13 = 5 then
    if uIs u5 a0 2 = true then
    ucall (f_X3_no N b g u5 a0 3) fun r30 u28 =>
    some (r30, u28)
    else none
    else
    (uGR u5 a0 2 43).bind fun o15 =>
    (uGI u5 a0 2 37).bind fun y16 =>
    (o15).bind fun a17 =>
    (uStI b u5 a17 0 x1 y16).bind fun u18 =>
    (uGR u18 a0 2 44).bind fun o19 =>
    (uGI u18 a0 2 37).bind fun y20 =>
    (o19).bind fun a21 =>
    (uStI b u18 a21 0 y20 x1).bind fun u22 =>
    (uGR u22 a0 2 45).bind fun o23 =>
    (uGI u22 a0 2 37).bind fun y24 =>
    (o23).bind fun a25 =>
    (uStI b u22 a25 0 y24 (-1)).bind fun u26 =>
    f_X3_doubt_80 N b g a0 N u26 x1 0
    else
    if uIs u5 a0 2 = true then
    ucall (f_X3_no N b g u5 a0 5) fun r34 u32 =>
    some (r34, u32)
    else none
    else none
    else none
set_option maxHeartbeats 4000000 in
set_option maxRecDepth 100000 in
theorem zz_X3_doubt_0 {G : uG} {a0 : Nat} {uf : UH} {r : Int32} (N : Nat) (u : UH) (x1 : Int32) (h : f_X3_doubt N (ub G) (ug G) u a0 x1 = some (r, uf)) : uf.1 = u.1 ∧ uf.2.1 = u.2.1 := by
  unfold f_X3_doubt at h
  obtain ⟨c1, h⟩ := mif_n h
  obtain ⟨u2, c3, h⟩ := mbind_n h
  have zu2 := zz_X3_good N (ub G) (ug G) u a0 u2 c3
  obtain ⟨c4, h⟩ := mif_n h
  obtain ⟨r7, u5, c6, h⟩ := ucall_n h
  have zu5 := zz_X3_isCell N (ub G) (ug G) u2 a0 x1 r7 u5 c6
  by_cases c8 : r7 = 0
  · have h := mif_t c8 h
    obtain ⟨c35, h⟩ := mif_n h
    obtain ⟨r38, u36, c37, h⟩ := ucall_n h
    have zu36 := zz_X3_no N (ub G) (ug G) u5 a0 1 r38 u36 c37
    obtain ⟨hr1, hr2⟩ := uret_n h
    subst hr2
    exact ⟨by omega, by omega⟩
  · have h := mif_f c8 h
    obtain ⟨o9, ho9, h⟩ := mbind_n h
    obtain ⟨a10, ha10, hha10⟩ := mbind_n h
    subst ha10
    have h := hha10
    obtain ⟨y11, hy11, h⟩ := mbind_n h
    by_cases c12 : y11 = (-1)
    · have h := mif_t c12 h
      obtain ⟨y13, hy13, h⟩ := mbind_n h
      by_cases c14 : y13 = 5
      · have h := mif_t c14 h
        obtain ⟨c27, h⟩ := mif_n h
        obtain ⟨r30, u28, c29, h⟩ := ucall_n h
        have zu28 := zz_X3_no N (ub G) (ug G) u5 a0 3 r30 u28 c29
        obtain ⟨hr1, hr2⟩ := uret_n h
        subst hr2
        exact ⟨by omega, by omega⟩
      · have h := mif_f c14 h
        obtain ⟨o15, ho15, h⟩ := mbind_n h
        obtain ⟨y16, hy16, h⟩ := mbind_n h
        obtain ⟨a17, ha17, hha17⟩ := mbind_n h
        subst ha17
        have h := hha17
        obtain ⟨u18, hu18, h⟩ := mbind_n h
        have zu18 := uStI_sz hu18
        obtain ⟨o19, ho19, h⟩ := mbind_n h
        obtain ⟨y20, hy20, h⟩ := mbind_n h
        obtain ⟨a21, ha21, hha21⟩ := mbind_n h
        subst ha21
        have h := hha21
        obtain ⟨u22, hu22, h⟩ := mbind_n h
        have zu22 := uStI_sz hu22
        obtain ⟨o23, ho23, h⟩ := mbind_n h
        obtain ⟨y24, hy24, h⟩ := mbind_n h
        obtain ⟨a25, ha25, hha25⟩ := mbind_n h
        subst ha25
        have h := hha25
        obtain ⟨u26, hu26, h⟩ := mbind_n h
        have zu26 := uStI_sz hu26
        have hq := zz_X3_doubt_80 (G := G) (a0 := a0) N N u26 x1 0 h
        exact ⟨by omega, by omega⟩
    · have h := mif_f c12 h
      obtain ⟨c31, h⟩ := mif_n h
      obtain ⟨r34, u32, c33, h⟩ := ucall_n h
      have zu32 := zz_X3_no N (ub G) (ug G) u5 a0 5 r34 u32 c33
      obtain ⟨hr1, hr2⟩ := uret_n h
      subst hr2
      exact ⟨by omega, by omega⟩
set_option maxHeartbeats 4000000 in
set_option maxRecDepth 100000 in
theorem w_X3_doubt_0 {p : Program} {l : Launch} {e : Env} {R : Room} {s : State} {m : MethodId} {args : Array Value} {below : List Frame} {meth : Method} {c : Code} {G : uG} {a0 : Nat} {uf : UH} {r : Int32} (hC : uC p s m args meth c G RX3 cX3_doubt 3 (some .int)) (hR : 2 ≤ R.frames ∧ 43 ≤ R.locals) (N : Nat) (u : UH) (x1 : Int32) (h : f_X3_doubt N (ub G) (ug G) u a0 x1 = some (r, uf)) {H : Heap} {locs : List Loc} (hP : uP G u H) (hS : va_S (uA G) s.heap H locs) {ls : Array Slot} (hl : lv_has ls 3 [(0, va_rf (some a0)), (1, .int x1)]) : W p l e R s m args below meth c H locs 0 0 (MQ below (uQi G r uf) args s 0 0 (uA G)) (F0 m 0 ls []) := by
  obtain ⟨⟨hx, hb, hml, hown, hts⟩, hKK⟩ := id hC
  unfold f_X3_doubt at h
  refine u_aload_n (r := some a0) hx hb dX3_doubt_0 rfl (lv_at hl 0 rfl) ?_
  obtain ⟨c1, h⟩ := mif_n h
  obtain ⟨u2, c3, h⟩ := mbind_n h
  have zu2 := zz_X3_good N (ub G) (ug G) u a0 u2 c3
  refine u_callv (va_runV (As := []) (rest := []) hC.1 (met_X3_good l N G u a0 u2 c3) (cwV 0 hts (lw_V q2131 q2133 qs40 q103 q2134) rfl rfl rfl (by decide +kernel) ⟨Nat.le_trans (Nat.le_of_ble_eq_true rfl) hR.1, Nat.le_trans (Nat.le_of_ble_eq_true rfl) hR.2⟩) ⟨uPc_blind, u_rcv hC hP c1 rfl, fun U hU hW => u_pre hC hP hS hU hW⟩ rfl rfl hl.1 rfl (lv_room (Nat.le_of_ble_eq_true rfl)) dX3_doubt_1 ⟨Nat.zero_le _, Nat.zero_le _⟩) hS (fun H locs hP hS => ?_)
  refine u_aload_n (r := some a0) hx hb dX3_doubt_4 rfl (lv_at hl 0 rfl) ?_
  refine lv_iload_n hx hb dX3_doubt_5 rfl (lv_at hl 1 rfl) ?_
  obtain ⟨c4, h⟩ := mif_n h
  obtain ⟨r7, u5, c6, h⟩ := ucall_n h
  have zu5 := zz_X3_isCell N (ub G) (ug G) u2 a0 x1 r7 u5 c6
  refine u_calli (va_runV (As := [.int x1]) (rest := []) hC.1 (met_X3_isCell l N G u2 a0 x1 r7 u5 c6) (cwV 1 hts (lw_V q2276 q2278 qs60 q103 q2279) rfl rfl rfl (by decide +kernel) ⟨Nat.le_trans (Nat.le_of_ble_eq_true rfl) hR.1, Nat.le_trans (Nat.le_of_ble_eq_true rfl) hR.2⟩) ⟨uPc_blind, u_rcv hC hP c4 rfl, fun U hU hW => u_pre hC hP hS hU hW⟩ rfl rfl hl.1 rfl (lv_room (Nat.le_of_ble_eq_true rfl)) dX3_doubt_6 ⟨Nat.zero_le _, Nat.zero_le _⟩) hS (fun H locs hP hS => ?_)
  refine lv_if_ne (tgt := 18) hx hb dX3_doubt_9 (by decide) (fun c8 => ?_) (fun c8 => ?_)
  · have h := mif_f c8 h
    refine u_aload_n (r := some a0) hx hb dX3_doubt_18 rfl (lv_at hl 0 rfl) ?_
    obtain ⟨o9, ho9, h⟩ := mbind_n h
    refine u_get hC hP (uGR_n ho9) rfl in_X3 (by decide) q1936 (fun _ h => h) dX3_doubt_19 ?_
    refine lv_iload_n hx hb dX3_doubt_22 rfl (lv_at hl 1 rfl) ?_
    obtain ⟨a10, ha10, hha10⟩ := mbind_n h
    subst ha10
    have h := hha10
    obtain ⟨y11, hy11, h⟩ := mbind_n h
    refine u_iald hC hP hy11 rfl dX3_doubt_23 ?_
    refine lv_iconst (v := (-1)) hx hb dX3_doubt_24 (by decide) ?_
    refine lv_icmp_eq (tgt := 34) hx hb dX3_doubt_25 (by decide) (fun c12 => ?_) (fun c12 => ?_)
    · have h := mif_t c12 h
      refine u_aload_n (r := some a0) hx hb dX3_doubt_34 rfl (lv_at hl 0 rfl) ?_
      obtain ⟨y13, hy13, h⟩ := mbind_n h
      refine u_get hC hP (uGI_n hy13) rfl in_X3 (by decide) q1930 (fun _ h => h) dX3_doubt_35 ?_
      refine lv_iconst (v := 5) hx hb dX3_doubt_38 (by decide) ?_
      refine lv_icmp_ne (tgt := 48) hx hb dX3_doubt_39 (by decide) (fun c14 => ?_) (fun c14 => ?_)
      · have h := mif_f c14 h
        refine u_aload_n (r := some a0) hx hb dX3_doubt_48 rfl (lv_at hl 0 rfl) ?_
        obtain ⟨o15, ho15, h⟩ := mbind_n h
        refine u_get hC hP (uGR_n ho15) rfl in_X3 (by decide) q1936 (fun _ h => h) dX3_doubt_49 ?_
        refine lv_iload_n hx hb dX3_doubt_52 rfl (lv_at hl 1 rfl) ?_
        refine u_aload_n (r := some a0) hx hb dX3_doubt_53 rfl (lv_at hl 0 rfl) ?_
        obtain ⟨y16, hy16, h⟩ := mbind_n h
        refine u_get hC hP (uGI_n hy16) rfl in_X3 (by decide) q1930 (fun _ h => h) dX3_doubt_54 ?_
        obtain ⟨a17, ha17, hha17⟩ := mbind_n h
        subst ha17
        have h := hha17
        obtain ⟨u18, hu18, h⟩ := mbind_n h
        have zu18 := uStI_sz hu18
        refine u_iast hC hP hS hu18 rfl dX3_doubt_57 (fun H locs hP hS => ?_)
        refine u_aload_n (r := some a0) hx hb dX3_doubt_58 rfl (lv_at hl 0 rfl) ?_
        obtain ⟨o19, ho19, h⟩ := mbind_n h
        refine u_get hC hP (uGR_n ho19) rfl in_X3 (by decide) q1937 (fun _ h => h) dX3_doubt_59 ?_
        refine u_aload_n (r := some a0) hx hb dX3_doubt_62 rfl (lv_at hl 0 rfl) ?_
        obtain ⟨y20, hy20, h⟩ := mbind_n h
        refine u_get hC hP (uGI_n hy20) rfl in_X3 (by decide) q1930 (fun _ h => h) dX3_doubt_63 ?_
        refine lv_iload_n hx hb dX3_doubt_66 rfl (lv_at hl 1 rfl) ?_
        obtain ⟨a21, ha21, hha21⟩ := mbind_n h
        subst ha21
        have h := hha21
        obtain ⟨u22, hu22, h⟩ := mbind_n h
        have zu22 := uStI_sz hu22
        refine u_iast hC hP hS hu22 rfl dX3_doubt_67 (fun H locs hP hS => ?_)
        refine u_aload_n (r := some a0) hx hb dX3_doubt_68 rfl (lv_at hl 0 rfl) ?_
        obtain ⟨o23, ho23, h⟩ := mbind_n h
        refine u_get hC hP (uGR_n ho23) rfl in_X3 (by decide) q1938 (fun _ h => h) dX3_doubt_69 ?_
        refine u_aload_n (r := some a0) hx hb dX3_doubt_72 rfl (lv_at hl 0 rfl) ?_
        obtain ⟨y24, hy24, h⟩ := mbind_n h
        refine u_get hC hP (uGI_n hy24) rfl in_X3 (by decide) q1930 (fun _ h => h) dX3_doubt_73 ?_
        refine lv_iconst (v := (-1)) hx hb dX3_doubt_76 (by decide) ?_
        obtain ⟨a25, ha25, hha25⟩ := mbind_n h
        subst ha25
        have h := hha25
        obtain ⟨u26, hu26, h⟩ := mbind_n h
        have zu26 := uStI_sz hu26
        refine u_iast hC hP hS hu26 rfl dX3_doubt_77 (fun H locs hP hS => ?_)
        refine lv_iconst (v := 0) hx hb dX3_doubt_78 (by decide) ?_
        refine lv_istore_n (i := 2) (lv' := [(2, .int 0), (0, va_rf (some a0)), (1, .int x1)]) hx hb dX3_doubt_79 rfl hl (by decide) rfl (fun ls hl => ?_)
        exact w_X3_doubt_80 hC hR N N u26 x1 0 h _ _ hP hS _ (lv_sub hl [1, 2, 0] rfl)
      · have h := mif_t c14 h
        refine u_aload_n (r := some a0) hx hb dX3_doubt_42 rfl (lv_at hl 0 rfl) ?_
        refine lv_iconst (v := 3) hx hb dX3_doubt_43 (by decide) ?_
        obtain ⟨c27, h⟩ := mif_n h
        obtain ⟨r30, u28, c29, h⟩ := ucall_n h
        have zu28 := zz_X3_no N (ub G) (ug G) u5 a0 3 r30 u28 c29
        refine u_calli (va_runV (As := [.int 3]) (rest := []) hC.1 (met_X3_no l N G u5 a0 3 r30 u28 c29) (cwV 1 hts (lw_V q2138 q2140 qs41 q103 q2141) rfl rfl rfl (by decide +kernel) ⟨Nat.le_trans (Nat.le_of_ble_eq_true rfl) hR.1, Nat.le_trans (Nat.le_of_ble_eq_true rfl) hR.2⟩) ⟨uPc_blind, u_rcv hC hP c27 rfl, fun U hU hW => u_pre hC hP hS hU hW⟩ rfl rfl hl.1 rfl (lv_room (Nat.le_of_ble_eq_true rfl)) dX3_doubt_44 ⟨Nat.zero_le _, Nat.zero_le _⟩) hS (fun H locs hP hS => ?_)
        obtain ⟨hr1, hr2⟩ := uret_n h
        subst hr1
        subst hr2
        exact u_iret hC hP hS dX3_doubt_47
    · have h := mif_f c12 h
      refine u_aload_n (r := some a0) hx hb dX3_doubt_28 rfl (lv_at hl 0 rfl) ?_
      refine lv_iconst (v := 5) hx hb dX3_doubt_29 (by decide) ?_
      obtain ⟨c31, h⟩ := mif_n h
      obtain ⟨r34, u32, c33, h⟩ := ucall_n h
      have zu32 := zz_X3_no N (ub G) (ug G) u5 a0 5 r34 u32 c33
      refine u_calli (va_runV (As := [.int 5]) (rest := []) hC.1 (met_X3_no l N G u5 a0 5 r34 u32 c33) (cwV 1 hts (lw_V q2138 q2140 qs41 q103 q2141) rfl rfl rfl (by decide +kernel) ⟨Nat.le_trans (Nat.le_of_ble_eq_true rfl) hR.1, Nat.le_trans (Nat.le_of_ble_eq_true rfl) hR.2⟩) ⟨uPc_blind, u_rcv hC hP c31 rfl, fun U hU hW => u_pre hC hP hS hU hW⟩ rfl rfl hl.1 rfl (lv_room (Nat.le_of_ble_eq_true rfl)) dX3_doubt_30 ⟨Nat.zero_le _, Nat.zero_le _⟩) hS (fun H locs hP hS => ?_)
      obtain ⟨hr1, hr2⟩ := uret_n h
      subst hr1
      subst hr2
      exact u_iret hC hP hS dX3_doubt_33
  · have h := mif_t c8 h
    refine u_aload_n (r := some a0) hx hb dX3_doubt_12 rfl (lv_at hl 0 rfl) ?_
    refine lv_iconst (v := 1) hx hb dX3_doubt_13 (by decide) ?_
    obtain ⟨c35, h⟩ := mif_n h
    obtain ⟨r38, u36, c37, h⟩ := ucall_n h
    have zu36 := zz_X3_no N (ub G) (ug G) u5 a0 1 r38 u36 c37
    refine u_calli (va_runV (As := [.int 1]) (rest := []) hC.1 (met_X3_no l N G u5 a0 1 r38 u36 c37) (cwV 1 hts (lw_V q2138 q2140 qs41 q103 q2141) rfl rfl rfl (by decide +kernel) ⟨Nat.le_trans (Nat.le_of_ble_eq_true rfl) hR.1, Nat.le_trans (Nat.le_of_ble_eq_true rfl) hR.2⟩) ⟨uPc_blind, u_rcv hC hP c35 rfl, fun U hU hW => u_pre hC hP hS hU hW⟩ rfl rfl hl.1 rfl (lv_room (Nat.le_of_ble_eq_true rfl)) dX3_doubt_14 ⟨Nat.zero_le _, Nat.zero_le _⟩) hS (fun H locs hP hS => ?_)
    obtain ⟨hr1, hr2⟩ := uret_n h
    subst hr1
    subst hr2
    exact u_iret hC hP hS dX3_doubt_17
theorem zz_X3_doubt (N b : Nat) (g : uEnv) (u : UH) (a0 : Nat) (x1 : Int32) (r : Int32) (uf : UH) (h : f_X3_doubt N b g u a0 x1 = some (r, uf)) : uf.1 = u.1 ∧ uf.2.1 = u.2.1 :=
  zz_X3_doubt_0 (G := ((fun _ => 0, fun _ _ => 0), fun _ => 0, b, g)) (a0 := a0) N u x1 h
theorem met_X3_doubt (l : Launch) (N : Nat) (G : uG) (u : UH) (a0 : Nat) (x1 : Int32) (r : Int32) (uf : UH) (h : f_X3_doubt N (ub G) (ug G) u a0 x1 = some (r, uf)) : Met l yX3_doubt (ws_ yX3_doubt cX3_doubt 3 (some .int)) ({ frames := 2, cells := 0, slots := 0, locals := 43 }) (uPc G u [.ref a0, .int x1]) (uQi G r uf) 0 0 (uA G) := by
  exact u_met (own := RX3) (by decide +kernel) rfl (Nat.le_of_ble_eq_true rfl) (fun hC hn hsz ls hl hP => w_X3_doubt_0 hC ⟨Nat.le_refl _, Nat.le_refl _⟩ N u x1 h hP va_S.rf hl)

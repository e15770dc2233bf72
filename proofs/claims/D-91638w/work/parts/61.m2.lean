/-! BY gen_heap.py: X3_cell X3_store X3_word X3_isName X3_wrong X3_find X3_must X3_number X3_pairs X3_groundLine X3_signed X3_tryLine X3_line -/
def f_X3_cell_26 (N b : Nat) (g : uEnv) (a0 : Nat) (u : UH) (x3 : Int32) : Option (Int32 × UH) :=
    some (x3 + 1, u)
set_option maxHeartbeats 4000000 in
set_option maxRecDepth 100000 in
theorem zz_X3_cell_26 {G : uG} {a0 : Nat} {uf : UH} {r : Int32} (N : Nat) (u : UH) (x3 : Int32) (h : f_X3_cell_26 N (ub G) (ug G) a0 u x3 = some (r, uf)) : uf.1 = u.1 ∧ uf.2.1 = u.2.1 := by
  unfold f_X3_cell_26 at h
  obtain ⟨hr1, hr2⟩ := uret_n h
  subst hr2
  exact ⟨by omega, by omega⟩
set_option maxHeartbeats 4000000 in
set_option maxRecDepth 100000 in
theorem w_X3_cell_26 {p : Program} {l : Launch} {e : Env} {R : Room} {s : State} {m : MethodId} {args : Array Value} {below : List Frame} {meth : Method} {c : Code} {G : uG} {a0 : Nat} {uf : UH} {r : Int32} (hC : uC p s m args meth c G RX3 cX3_cell 5 (some .int)) (hR : 0 ≤ R.frames ∧ 0 ≤ R.locals) (N : Nat) (u : UH) (x3 : Int32) (h : f_X3_cell_26 N (ub G) (ug G) a0 u x3 = some (r, uf)) {H : Heap} {locs : List Loc} (hP : uP G u H) (hS : va_S (uA G) s.heap H locs) {ls : Array Slot} (hl : lv_has ls 5 [(3, .int x3)]) : W p l e R s m args below meth c H locs 0 0 (MQ below (uQi G r uf) args s 0 0 (uA G)) (F0 m 26 ls []) := by
  obtain ⟨⟨hx, hb, hml, hown, hts⟩, hKK⟩ := id hC
  unfold f_X3_cell_26 at h
  refine lv_iload_n hx hb dX3_cell_26 rfl (lv_at hl 0 rfl) ?_
  refine lv_iconst (v := 1) hx hb dX3_cell_27 (by decide) ?_
  refine lv_iadd hx hb dX3_cell_28 ?_
  obtain ⟨hr1, hr2⟩ := uret_n h
  subst hr1
  subst hr2
  exact u_iret hC hP hS dX3_cell_29
def f_X3_cell (N b : Nat) (g : uEnv) (u : UH) (a0 : Nat) (x1 : Option Nat) (x2 : Int32) (x3 : Int32) (x4 : Int32) : Option (Int32 × UH) :=
    if x4 = 0 then
    (uGR u a0 2 33).bind fun o2 =>
    (x1).bind fun a3 =>
    (uLdI u a3 0 x2).bind fun y4 =>
    (o2).bind fun a5 =>
    (uStI b u a5 0 x3 y4).bind fun u6 =>
    f_X3_cell_26 N b g a0 u6 x3
    else
    (uGR u a0 2 33).bind fun o7 =>
    (o7).bind fun a8 =>
    (uLdI u a8 0 x3).bind fun y9 =>
    (x1).bind fun a10 =>
    (uStI b u a10 0 x2 y9).bind fun u11 =>
    f_X3_cell_26 N b g a0 u11 x3
set_option maxHeartbeats 4000000 in
set_option maxRecDepth 100000 in
theorem zz_X3_cell_0 {G : uG} {a0 : Nat} {uf : UH} {r : Int32} (N : Nat) (u : UH) (x1 : Option Nat) (x2 : Int32) (x3 : Int32) (x4 : Int32) (h : f_X3_cell N (ub G) (ug G) u a0 x1 x2 x3 x4 = some (r, uf)) : uf.1 = u.1 ∧ uf.2.1 = u.2.1 := by
  unfold f_X3_cell at h
  by_cases c1 : x4 = 0
  · have h := mif_t c1 h
    obtain ⟨o2, ho2, h⟩ := mbind_n h
    obtain ⟨a3, ha3, hha3⟩ := mbind_n h
    subst ha3
    have h := hha3
    obtain ⟨y4, hy4, h⟩ := mbind_n h
    obtain ⟨a5, ha5, hha5⟩ := mbind_n h
    subst ha5
    have h := hha5
    obtain ⟨u6, hu6, h⟩ := mbind_n h
    have zu6 := uStI_sz hu6
    have hq := zz_X3_cell_26 (G := G) (a0 := a0) N u6 x3 h
    exact ⟨by omega, by omega⟩
  · have h := mif_f c1 h
    obtain ⟨o7, ho7, h⟩ := mbind_n h
    obtain ⟨a8, ha8, hha8⟩ := mbind_n h
    subst ha8
    have h := hha8
    obtain ⟨y9, hy9, h⟩ := mbind_n h
    obtain ⟨a10, ha10, hha10⟩ := mbind_n h
    subst ha10
    have h := hha10
    obtain ⟨u11, hu11, h⟩ := mbind_n h
    have zu11 := uStI_sz hu11
    have hq := zz_X3_cell_26 (G := G) (a0 := a0) N u11 x3 h
    exact ⟨by omega, by omega⟩
set_option maxHeartbeats 4000000 in
set_option maxRecDepth 100000 in
theorem w_X3_cell_0 {p : Program} {l : Launch} {e : Env} {R : Room} {s : State} {m : MethodId} {args : Array Value} {below : List Frame} {meth : Method} {c : Code} {G : uG} {a0 : Nat} {uf : UH} {r : Int32} (hC : uC p s m args meth c G RX3 cX3_cell 5 (some .int)) (hR : 0 ≤ R.frames ∧ 0 ≤ R.locals) (N : Nat) (u : UH) (x1 : Option Nat) (x2 : Int32) (x3 : Int32) (x4 : Int32) (h : f_X3_cell N (ub G) (ug G) u a0 x1 x2 x3 x4 = some (r, uf)) {H : Heap} {locs : List Loc} (hP : uP G u H) (hS : va_S (uA G) s.heap H locs) {ls : Array Slot} (hl : lv_has ls 5 [(0, va_rf (some a0)), (1, va_rf x1), (2, .int x2), (3, .int x3), (4, .int x4)]) : W p l e R s m args below meth c H locs 0 0 (MQ below (uQi G r uf) args s 0 0 (uA G)) (F0 m 0 ls []) := by
  obtain ⟨⟨hx, hb, hml, hown, hts⟩, hKK⟩ := id hC
  unfold f_X3_cell at h
  refine lv_iload hx hb dX3_cell_0 (lv_at hl 4 rfl) ?_
  refine lv_if_eq (tgt := 17) hx hb dX3_cell_2 (by decide) (fun c1 => ?_) (fun c1 => ?_)
  · have h := mif_t c1 h
    refine u_aload_n (r := some a0) hx hb dX3_cell_17 rfl (lv_at hl 0 rfl) ?_
    obtain ⟨o2, ho2, h⟩ := mbind_n h
    refine u_get hC hP (uGR_n ho2) rfl in_X3 (by decide) q1926 (fun _ h => h) dX3_cell_18 ?_
    refine lv_iload_n hx hb dX3_cell_21 rfl (lv_at hl 3 rfl) ?_
    refine u_aload_n (r := x1) hx hb dX3_cell_22 rfl (lv_at hl 1 rfl) ?_
    refine lv_iload_n hx hb dX3_cell_23 rfl (lv_at hl 2 rfl) ?_
    obtain ⟨a3, ha3, hha3⟩ := mbind_n h
    subst ha3
    have h := hha3
    obtain ⟨y4, hy4, h⟩ := mbind_n h
    refine u_iald hC hP hy4 rfl dX3_cell_24 ?_
    obtain ⟨a5, ha5, hha5⟩ := mbind_n h
    subst ha5
    have h := hha5
    obtain ⟨u6, hu6, h⟩ := mbind_n h
    have zu6 := uStI_sz hu6
    refine u_iast hC hP hS hu6 rfl dX3_cell_25 (fun H locs hP hS => ?_)
    exact w_X3_cell_26 hC hR N u6 x3 h hP hS (lv_sub hl [3] rfl)
  · have h := mif_f c1 h
    refine u_aload_n (r := x1) hx hb dX3_cell_5 rfl (lv_at hl 1 rfl) ?_
    refine lv_iload_n hx hb dX3_cell_6 rfl (lv_at hl 2 rfl) ?_
    refine u_aload_n (r := some a0) hx hb dX3_cell_7 rfl (lv_at hl 0 rfl) ?_
    obtain ⟨o7, ho7, h⟩ := mbind_n h
    refine u_get hC hP (uGR_n ho7) rfl in_X3 (by decide) q1926 (fun _ h => h) dX3_cell_8 ?_
    refine lv_iload_n hx hb dX3_cell_11 rfl (lv_at hl 3 rfl) ?_
    obtain ⟨a8, ha8, hha8⟩ := mbind_n h
    subst ha8
    have h := hha8
    obtain ⟨y9, hy9, h⟩ := mbind_n h
    refine u_iald hC hP hy9 rfl dX3_cell_12 ?_
    obtain ⟨a10, ha10, hha10⟩ := mbind_n h
    subst ha10
    have h := hha10
    obtain ⟨u11, hu11, h⟩ := mbind_n h
    have zu11 := uStI_sz hu11
    refine u_iast hC hP hS hu11 rfl dX3_cell_13 (fun H locs hP hS => ?_)
    refine lv_goto (tgt := 26) hx hb dX3_cell_14 (by decide) ?_
    exact w_X3_cell_26 hC hR N u11 x3 h hP hS (lv_sub hl [3] rfl)
theorem zz_X3_cell (N b : Nat) (g : uEnv) (u : UH) (a0 : Nat) (x1 : Option Nat) (x2 : Int32) (x3 : Int32) (x4 : Int32) (r : Int32) (uf : UH) (h : f_X3_cell N b g u a0 x1 x2 x3 x4 = some (r, uf)) : uf.1 = u.1 ∧ uf.2.1 = u.2.1 :=
  zz_X3_cell_0 (G := ((fun _ => 0, fun _ _ => 0), fun _ => 0, b, g)) (a0 := a0) N u x1 x2 x3 x4 h
theorem met_X3_cell (l : Launch) (N : Nat) (G : uG) (u : UH) (a0 : Nat) (x1 : Option Nat) (x2 : Int32) (x3 : Int32) (x4 : Int32) (r : Int32) (uf : UH) (h : f_X3_cell N (ub G) (ug G) u a0 x1 x2 x3 x4 = some (r, uf)) : Met l yX3_cell (ws_ yX3_cell cX3_cell 5 (some .int)) ({ frames := 0, cells := 0, slots := 0, locals := 0 }) (uPc G u [.ref a0, va_rf x1, .int x2, .int x3, .int x4]) (uQi G r uf) 0 0 (uA G) := by
  rcases x1 with _ | x1 <;> exact u_met (own := RX3) (by decide +kernel) rfl (Nat.le_of_ble_eq_true rfl) (fun hC hn hsz ls hl hP => w_X3_cell_0 hC ⟨Nat.le_refl _, Nat.le_refl _⟩ N u _ x2 x3 x4 h hP va_S.rf hl)
def f_X3_store_349 (N b : Nat) (g : uEnv) (a0 : Nat) (u : UH) : Option (UH) :=
    some u
set_option maxHeartbeats 4000000 in
set_option maxRecDepth 100000 in
theorem zz_X3_store_349 {G : uG} {a0 : Nat} {uf : UH} (N : Nat) (u : UH) (h : f_X3_store_349 N (ub G) (ug G) a0 u = some uf) : uf.1 = u.1 ∧ uf.2.1 = u.2.1 := by
  unfold f_X3_store_349 at h
  cases h
  exact ⟨by omega, by omega⟩
set_option maxHeartbeats 4000000 in
set_option maxRecDepth 100000 in
theorem w_X3_store_349 {p : Program} {l : Launch} {e : Env} {R : Room} {s : State} {m : MethodId} {args : Array Value} {below : List Frame} {meth : Method} {c : Code} {G : uG} {a0 : Nat} {uf : UH} (hC : uC p s m args meth c G RX3 cX3_store 4 none) (hR : 1 ≤ R.frames ∧ 24 ≤ R.locals) (N : Nat) (u : UH) (h : f_X3_store_349 N (ub G) (ug G) a0 u = some uf) {H : Heap} {locs : List Loc} (hP : uP G u H) (hS : va_S (uA G) s.heap H locs) {ls : Array Slot} (hl : lv_has ls 4 []) : W p l e R s m args below meth c H locs 0 0 (MQ below (uQv G uf) args s 0 0 (uA G)) (F0 m 349 ls []) := by
  obtain ⟨⟨hx, hb, hml, hown, hts⟩, hKK⟩ := id hC
  unfold f_X3_store_349 at h
  cases h
  exact u_vret hC hP hS dX3_store_349
def f_X3_store_128 (N b : Nat) (g : uEnv) (a0 : Nat) : Nat → UH → Int32 → Int32 → Int32 → Option (UH)
  | 0, _, _, _, _ => none
  | n + 1, u, x1, x2, x3 =>
    if 6 ≤ x3 then
    if x1 = 0 then
    (uGR u a0 2 33).bind fun o3 =>
    (uGI u a0 2 22).bind fun y4 =>
    (o3).bind fun a5 =>
    (uStI b u a5 0 x2 y4).bind fun u6 =>
    (uGR u6 a0 2 33).bind fun o7 =>
    (uGI u6 a0 2 23).bind fun y8 =>
    (o7).bind fun a9 =>
    (uStI b u6 a9 0 (x2 + 1) y8).bind fun u10 =>
    (uGR u10 a0 2 33).bind fun o11 =>
    (uGI u10 a0 2 24).bind fun y12 =>
    (o11).bind fun a13 =>
    (uStI b u10 a13 0 (x2 + 2) y12).bind fun u14 =>
    (uGR u14 a0 2 33).bind fun o15 =>
    (uGI u14 a0 2 25).bind fun y16 =>
    (o15).bind fun a17 =>
    (uStI b u14 a17 0 (x2 + 3) y16).bind fun u18 =>
    (uGR u18 a0 2 33).bind fun o19 =>
    (uGI u18 a0 2 26).bind fun y20 =>
    (o19).bind fun a21 =>
    (uStI b u18 a21 0 (x2 + 4) y20).bind fun u22 =>
    (uGR u22 a0 2 33).bind fun o23 =>
    (uGI u22 a0 2 27).bind fun y24 =>
    (o23).bind fun a25 =>
    (uStI b u22 a25 0 (x2 + 5) y24).bind fun u26 =>
    (uGR u26 a0 2 33).bind fun o27 =>
    (uGI u26 a0 2 28).bind fun y28 =>
    (o27).bind fun a29 =>
    (uStI b u26 a29 0 (x2 + 6) y28).bind fun u30 =>
    f_X3_store_349 N b g a0 u30
    else
    (uGR u a0 2 33).bind fun o31 =>
    (o31).bind fun a32 =>
    (uLdI u a32 0 x2).bind fun y33 =>
    (uPut b u a0 2 22 (.int y33)).bind fun u34 =>
    (uGR u34 a0 2 33).bind fun o35 =>
    (o35).bind fun a36 =>
    (uLdI u34 a36 0 (x2 + 1)).bind fun y37 =>
    (uPut b u34 a0 2 23 (.int y37)).bind fun u38 =>
    (uGR u38 a0 2 33).bind fun o39 =>
    (o39).bind fun a40 =>
    (uLdI u38 a40 0 (x2 + 2)).bind fun y41 =>
    (uPut b u38 a0 2 24 (.int y41)).bind fun u42 =>
    (uGR u42 a0 2 33).bind fun o43 =>
    (o43).bind fun a44 =>
    (uLdI u42 a44 0 (x2 + 3)).bind fun y45 =>
    (uPut b u42 a0 2 25 (.int y45)).bind fun u46 =>
    (uGR u46 a0 2 33).bind fun o47 =>
    (o47).bind fun a48 =>
    (uLdI u46 a48 0 (x2 + 4)).bind fun y49 =>
    (uPut b u46 a0 2 26 (.int y49)).bind fun u50 =>
    (uGR u50 a0 2 33).bind fun o51 =>
    (o51).bind fun a52 =>
    (uLdI u50 a52 0 (x2 + 5)).bind fun y53 =>
    (uPut b u50 a0 2 27 (.int y53)).bind fun u54 =>
    (uGR u54 a0 2 33).bind fun o55 =>
    (o55).bind fun a56 =>
    (uLdI u54 a56 0 (x2 + 6)).bind fun y57 =>
    (uPut b u54 a0 2 28 (.int y57)).bind fun u58 =>
    f_X3_store_349 N b g a0 u58
    else
    (uGR u a0 2 30).bind fun o59 =>
    if uIs u a0 2 = true then
    ucall (f_X3_cell N b g u a0 o59 x3 x2 x1) fun r63 u61 =>
    (uGR u61 a0 2 31).bind fun o64 =>
    if uIs u61 a0 2 = true then
    ucall (f_X3_cell N b g u61 a0 o64 x3 r63 x1) fun r68 u66 =>
    (uGR u66 a0 2 32).bind fun o69 =>
    if uIs u66 a0 2 = true then
    ucall (f_X3_cell N b g u66 a0 o69 x3 r68 x1) fun r73 u71 =>
    mlet (x3 + 1) fun y74 =>
    f_X3_store_128 N b g a0 n u71 x1 r73 y74
    else none
    else none
    else none
set_option maxHeartbeats 4000000 in
set_option maxRecDepth 100000 in
theorem zz_X3_store_128 {G : uG} {a0 : Nat} {uf : UH} (N : Nat) : ∀ (n : Nat) (u : UH) (x1 : Int32) (x2 : Int32) (x3 : Int32), f_X3_store_128 N (ub G) (ug G) a0 n u x1 x2 x3 = some uf → uf.1 = u.1 ∧ uf.2.1 = u.2.1 := by
  intro n
  induction n with
  | zero =>
    intro u x1 x2 x3 h
    cases h
  | succ n ih =>
    intro u x1 x2 x3 h
    unfold f_X3_store_128 at h
    by_cases c1 : 6 ≤ x3
    · have h := mif_t c1 h
      by_cases c2 : x1 = 0
      · have h := mif_t c2 h
        obtain ⟨o3, ho3, h⟩ := mbind_n h
        obtain ⟨y4, hy4, h⟩ := mbind_n h
        obtain ⟨a5, ha5, hha5⟩ := mbind_n h
        subst ha5
        have h := hha5
        obtain ⟨u6, hu6, h⟩ := mbind_n h
        have zu6 := uStI_sz hu6
        obtain ⟨o7, ho7, h⟩ := mbind_n h
        obtain ⟨y8, hy8, h⟩ := mbind_n h
        obtain ⟨a9, ha9, hha9⟩ := mbind_n h
        subst ha9
        have h := hha9
        obtain ⟨u10, hu10, h⟩ := mbind_n h
        have zu10 := uStI_sz hu10
        obtain ⟨o11, ho11, h⟩ := mbind_n h
        obtain ⟨y12, hy12, h⟩ := mbind_n h
        obtain ⟨a13, ha13, hha13⟩ := mbind_n h
        subst ha13
        have h := hha13
        obtain ⟨u14, hu14, h⟩ := mbind_n h
        have zu14 := uStI_sz hu14
        obtain ⟨o15, ho15, h⟩ := mbind_n h
        obtain ⟨y16, hy16, h⟩ := mbind_n h
        obtain ⟨a17, ha17, hha17⟩ := mbind_n h
        subst ha17
        have h := hha17
        obtain ⟨u18, hu18, h⟩ := mbind_n h
        have zu18 := uStI_sz hu18
        obtain ⟨o19, ho19, h⟩ := mbind_n h
        obtain ⟨y20, hy20, h⟩ := mbind_n h
        obtain ⟨a21, ha21, hha21⟩ := mbind_n h
        subst ha21
        have h := hha21
        obtain ⟨u22, hu22, h⟩ := mbind_n h
        have zu22 := uStI_sz hu22
        obtain ⟨o23, ho23, h⟩ := mbind_n h
        obtain ⟨y24, hy24, h⟩ := mbind_n h
        obtain ⟨a25, ha25, hha25⟩ := mbind_n h
        subst ha25
        have h := hha25
        obtain ⟨u26, hu26, h⟩ := mbind_n h
        have zu26 := uStI_sz hu26
        obtain ⟨o27, ho27, h⟩ := mbind_n h
        obtain ⟨y28, hy28, h⟩ := mbind_n h
        obtain ⟨a29, ha29, hha29⟩ := mbind_n h
        subst ha29
        have h := hha29
        obtain ⟨u30, hu30, h⟩ := mbind_n h
        have zu30 := uStI_sz hu30
        have hq := zz_X3_store_349 (G := G) (a0 := a0) N u30 h
        exact ⟨by omega, by omega⟩
      · have h := mif_f c2 h
        obtain ⟨o31, ho31, h⟩ := mbind_n h
        obtain ⟨a32, ha32, hha32⟩ := mbind_n h
        subst ha32
        have h := hha32
        obtain ⟨y33, hy33, h⟩ := mbind_n h
        obtain ⟨u34, hu34, h⟩ := mbind_n h
        have zu34 := uPut_sz hu34
        obtain ⟨o35, ho35, h⟩ := mbind_n h
        obtain ⟨a36, ha36, hha36⟩ := mbind_n h
        subst ha36
        have h := hha36
        obtain ⟨y37, hy37, h⟩ := mbind_n h
        obtain ⟨u38, hu38, h⟩ := mbind_n h
        have zu38 := uPut_sz hu38
        obtain ⟨o39, ho39, h⟩ := mbind_n h
        obtain ⟨a40, ha40, hha40⟩ := mbind_n h
        subst ha40
        have h := hha40
        obtain ⟨y41, hy41, h⟩ := mbind_n h
        obtain ⟨u42, hu42, h⟩ := mbind_n h
        have zu42 := uPut_sz hu42
        obtain ⟨o43, ho43, h⟩ := mbind_n h
        obtain ⟨a44, ha44, hha44⟩ := mbind_n h
        subst ha44
        have h := hha44
        obtain ⟨y45, hy45, h⟩ := mbind_n h
        obtain ⟨u46, hu46, h⟩ := mbind_n h
        have zu46 := uPut_sz hu46
        obtain ⟨o47, ho47, h⟩ := mbind_n h
        obtain ⟨a48, ha48, hha48⟩ := mbind_n h
        subst ha48
        have h := hha48
        obtain ⟨y49, hy49, h⟩ := mbind_n h
        obtain ⟨u50, hu50, h⟩ := mbind_n h
        have zu50 := uPut_sz hu50
        obtain ⟨o51, ho51, h⟩ := mbind_n h
        obtain ⟨a52, ha52, hha52⟩ := mbind_n h
        subst ha52
        have h := hha52
        obtain ⟨y53, hy53, h⟩ := mbind_n h
        obtain ⟨u54, hu54, h⟩ := mbind_n h
        have zu54 := uPut_sz hu54
        obtain ⟨o55, ho55, h⟩ := mbind_n h
        obtain ⟨a56, ha56, hha56⟩ := mbind_n h
        subst ha56
        have h := hha56
        obtain ⟨y57, hy57, h⟩ := mbind_n h
        obtain ⟨u58, hu58, h⟩ := mbind_n h
        have zu58 := uPut_sz hu58
        have hq := zz_X3_store_349 (G := G) (a0 := a0) N u58 h
        exact ⟨by omega, by omega⟩
    · have h := mif_f c1 h
      obtain ⟨o59, ho59, h⟩ := mbind_n h
      obtain ⟨c60, h⟩ := mif_n h
      obtain ⟨r63, u61, c62, h⟩ := ucall_n h
      have zu61 := zz_X3_cell N (ub G) (ug G) u a0 o59 x3 x2 x1 r63 u61 c62
      obtain ⟨o64, ho64, h⟩ := mbind_n h
      obtain ⟨c65, h⟩ := mif_n h
      obtain ⟨r68, u66, c67, h⟩ := ucall_n h
      have zu66 := zz_X3_cell N (ub G) (ug G) u61 a0 o64 x3 r63 x1 r68 u66 c67
      obtain ⟨o69, ho69, h⟩ := mbind_n h
      obtain ⟨c70, h⟩ := mif_n h
      obtain ⟨r73, u71, c72, h⟩ := ucall_n h
      have zu71 := zz_X3_cell N (ub G) (ug G) u66 a0 o69 x3 r68 x1 r73 u71 c72
      obtain ⟨y74, ey74⟩ : ∃ z : Int32, z = x3 + 1 := ⟨_, rfl⟩
      have h := mlet_at ey74 h
      have hq := ih u71 x1 r73 y74 h
      exact ⟨by omega, by omega⟩
set_option maxHeartbeats 4000000 in
set_option maxRecDepth 100000 in
theorem w_X3_store_128 {p : Program} {l : Launch} {e : Env} {R : Room} {s : State} {m : MethodId} {args : Array Value} {below : List Frame} {meth : Method} {c : Code} {G : uG} {a0 : Nat} {uf : UH} (hC : uC p s m args meth c G RX3 cX3_store 4 none) (hR : 1 ≤ R.frames ∧ 24 ≤ R.locals) (N : Nat) : ∀ (n : Nat) (u : UH) (x1 : Int32) (x2 : Int32) (x3 : Int32), f_X3_store_128 N (ub G) (ug G) a0 n u x1 x2 x3 = some uf → ∀ (H : Heap) (locs : List Loc), uP G u H → va_S (uA G) s.heap H locs → ∀ ls : Array Slot, lv_has ls 4 [(0, va_rf (some a0)), (1, .int x1), (2, .int x2), (3, .int x3)] → W p l e R s m args below meth c H locs 0 0 (MQ below (uQv G uf) args s 0 0 (uA G)) (F0 m 128 ls []) := by
  obtain ⟨⟨hx, hb, hml, hown, hts⟩, hKK⟩ := id hC
  intro n
  induction n with
  | zero =>
    intro u x1 x2 x3 h
    cases h
  | succ n ih =>
    intro u x1 x2 x3 h H locs hP hS ls hl
    unfold f_X3_store_128 at h
    refine lv_iload_n hx hb dX3_store_128 rfl (lv_at hl 3 rfl) ?_
    refine lv_bipush (v := 6) hx hb dX3_store_129 (by decide) ?_
    refine lv_icmp_ge (tgt := 176) hx hb dX3_store_131 (by decide) (fun c1 => ?_) (fun c1 => ?_)
    · have h := mif_t c1 h
      refine lv_iload_n hx hb dX3_store_176 rfl (lv_at hl 1 rfl) ?_
      refine lv_if_eq (tgt := 266) hx hb dX3_store_177 (by decide) (fun c2 => ?_) (fun c2 => ?_)
      · have h := mif_t c2 h
        refine u_aload_n (r := some a0) hx hb dX3_store_266 rfl (lv_at hl 0 rfl) ?_
        obtain ⟨o3, ho3, h⟩ := mbind_n h
        refine u_get hC hP (uGR_n ho3) rfl in_X3 (by decide) q1926 (fun _ h => h) dX3_store_267 ?_
        refine lv_iload_n hx hb dX3_store_270 rfl (lv_at hl 2 rfl) ?_
        refine u_aload_n (r := some a0) hx hb dX3_store_271 rfl (lv_at hl 0 rfl) ?_
        obtain ⟨y4, hy4, h⟩ := mbind_n h
        refine u_get hC hP (uGI_n hy4) rfl in_X3 (by decide) q1915 (fun _ h => h) dX3_store_272 ?_
        obtain ⟨a5, ha5, hha5⟩ := mbind_n h
        subst ha5
        have h := hha5
        obtain ⟨u6, hu6, h⟩ := mbind_n h
        have zu6 := uStI_sz hu6
        refine u_iast hC hP hS hu6 rfl dX3_store_275 (fun H locs hP hS => ?_)
        refine u_aload_n (r := some a0) hx hb dX3_store_276 rfl (lv_at hl 0 rfl) ?_
        obtain ⟨o7, ho7, h⟩ := mbind_n h
        refine u_get hC hP (uGR_n ho7) rfl in_X3 (by decide) q1926 (fun _ h => h) dX3_store_277 ?_
        refine lv_iload_n hx hb dX3_store_280 rfl (lv_at hl 2 rfl) ?_
        refine lv_iconst (v := 1) hx hb dX3_store_281 (by decide) ?_
        refine lv_iadd hx hb dX3_store_282 ?_
        refine u_aload_n (r := some a0) hx hb dX3_store_283 rfl (lv_at hl 0 rfl) ?_
        obtain ⟨y8, hy8, h⟩ := mbind_n h
        refine u_get hC hP (uGI_n hy8) rfl in_X3 (by decide) q1916 (fun _ h => h) dX3_store_284 ?_
        obtain ⟨a9, ha9, hha9⟩ := mbind_n h
        subst ha9
        have h := hha9
        obtain ⟨u10, hu10, h⟩ := mbind_n h
        have zu10 := uStI_sz hu10
        refine u_iast hC hP hS hu10 rfl dX3_store_287 (fun H locs hP hS => ?_)
        refine u_aload_n (r := some a0) hx hb dX3_store_288 rfl (lv_at hl 0 rfl) ?_
        obtain ⟨o11, ho11, h⟩ := mbind_n h
        refine u_get hC hP (uGR_n ho11) rfl in_X3 (by decide) q1926 (fun _ h => h) dX3_store_289 ?_
        refine lv_iload_n hx hb dX3_store_292 rfl (lv_at hl 2 rfl) ?_
        refine lv_iconst (v := 2) hx hb dX3_store_293 (by decide) ?_
        refine lv_iadd hx hb dX3_store_294 ?_
        refine u_aload_n (r := some a0) hx hb dX3_store_295 rfl (lv_at hl 0 rfl) ?_
        obtain ⟨y12, hy12, h⟩ := mbind_n h
        refine u_get hC hP (uGI_n hy12) rfl in_X3 (by decide) q1917 (fun _ h => h) dX3_store_296 ?_
        obtain ⟨a13, ha13, hha13⟩ := mbind_n h
        subst ha13
        have h := hha13
        obtain ⟨u14, hu14, h⟩ := mbind_n h
        have zu14 := uStI_sz hu14
        refine u_iast hC hP hS hu14 rfl dX3_store_299 (fun H locs hP hS => ?_)
        refine u_aload_n (r := some a0) hx hb dX3_store_300 rfl (lv_at hl 0 rfl) ?_
        obtain ⟨o15, ho15, h⟩ := mbind_n h
        refine u_get hC hP (uGR_n ho15) rfl in_X3 (by decide) q1926 (fun _ h => h) dX3_store_301 ?_
        refine lv_iload_n hx hb dX3_store_304 rfl (lv_at hl 2 rfl) ?_
        refine lv_iconst (v := 3) hx hb dX3_store_305 (by decide) ?_
        refine lv_iadd hx hb dX3_store_306 ?_
        refine u_aload_n (r := some a0) hx hb dX3_store_307 rfl (lv_at hl 0 rfl) ?_
        obtain ⟨y16, hy16, h⟩ := mbind_n h
        refine u_get hC hP (uGI_n hy16) rfl in_X3 (by decide) q1918 (fun _ h => h) dX3_store_308 ?_
        obtain ⟨a17, ha17, hha17⟩ := mbind_n h
        subst ha17
        have h := hha17
        obtain ⟨u18, hu18, h⟩ := mbind_n h
        have zu18 := uStI_sz hu18
        refine u_iast hC hP hS hu18 rfl dX3_store_311 (fun H locs hP hS => ?_)
        refine u_aload_n (r := some a0) hx hb dX3_store_312 rfl (lv_at hl 0 rfl) ?_
        obtain ⟨o19, ho19, h⟩ := mbind_n h
        refine u_get hC hP (uGR_n ho19) rfl in_X3 (by decide) q1926 (fun _ h => h) dX3_store_313 ?_
        refine lv_iload_n hx hb dX3_store_316 rfl (lv_at hl 2 rfl) ?_
        refine lv_iconst (v := 4) hx hb dX3_store_317 (by decide) ?_
        refine lv_iadd hx hb dX3_store_318 ?_
        refine u_aload_n (r := some a0) hx hb dX3_store_319 rfl (lv_at hl 0 rfl) ?_
        obtain ⟨y20, hy20, h⟩ := mbind_n h
        refine u_get hC hP (uGI_n hy20) rfl in_X3 (by decide) q1919 (fun _ h => h) dX3_store_320 ?_
        obtain ⟨a21, ha21, hha21⟩ := mbind_n h
        subst ha21
        have h := hha21
        obtain ⟨u22, hu22, h⟩ := mbind_n h
        have zu22 := uStI_sz hu22
        refine u_iast hC hP hS hu22 rfl dX3_store_323 (fun H locs hP hS => ?_)
        refine u_aload_n (r := some a0) hx hb dX3_store_324 rfl (lv_at hl 0 rfl) ?_
        obtain ⟨o23, ho23, h⟩ := mbind_n h
        refine u_get hC hP (uGR_n ho23) rfl in_X3 (by decide) q1926 (fun _ h => h) dX3_store_325 ?_
        refine lv_iload_n hx hb dX3_store_328 rfl (lv_at hl 2 rfl) ?_
        refine lv_iconst (v := 5) hx hb dX3_store_329 (by decide) ?_
        refine lv_iadd hx hb dX3_store_330 ?_
        refine u_aload_n (r := some a0) hx hb dX3_store_331 rfl (lv_at hl 0 rfl) ?_
        obtain ⟨y24, hy24, h⟩ := mbind_n h
        refine u_get hC hP (uGI_n hy24) rfl in_X3 (by decide) q1920 (fun _ h => h) dX3_store_332 ?_
        obtain ⟨a25, ha25, hha25⟩ := mbind_n h
        subst ha25
        have h := hha25
        obtain ⟨u26, hu26, h⟩ := mbind_n h
        have zu26 := uStI_sz hu26
        refine u_iast hC hP hS hu26 rfl dX3_store_335 (fun H locs hP hS => ?_)
        refine u_aload_n (r := some a0) hx hb dX3_store_336 rfl (lv_at hl 0 rfl) ?_
        obtain ⟨o27, ho27, h⟩ := mbind_n h
        refine u_get hC hP (uGR_n ho27) rfl in_X3 (by decide) q1926 (fun _ h => h) dX3_store_337 ?_
        refine lv_iload_n hx hb dX3_store_340 rfl (lv_at hl 2 rfl) ?_
        refine lv_bipush (v := 6) hx hb dX3_store_341 (by decide) ?_
        refine lv_iadd hx hb dX3_store_343 ?_
        refine u_aload_n (r := some a0) hx hb dX3_store_344 rfl (lv_at hl 0 rfl) ?_
        obtain ⟨y28, hy28, h⟩ := mbind_n h
        refine u_get hC hP (uGI_n hy28) rfl in_X3 (by decide) q1921 (fun _ h => h) dX3_store_345 ?_
        obtain ⟨a29, ha29, hha29⟩ := mbind_n h
        subst ha29
        have h := hha29
        obtain ⟨u30, hu30, h⟩ := mbind_n h
        have zu30 := uStI_sz hu30
        refine u_iast hC hP hS hu30 rfl dX3_store_348 (fun H locs hP hS => ?_)
        exact w_X3_store_349 hC hR N u30 h hP hS (lv_sub hl [] rfl)
      · have h := mif_f c2 h
        refine u_aload_n (r := some a0) hx hb dX3_store_180 rfl (lv_at hl 0 rfl) ?_
        refine u_aload_n (r := some a0) hx hb dX3_store_181 rfl (lv_at hl 0 rfl) ?_
        obtain ⟨o31, ho31, h⟩ := mbind_n h
        refine u_get hC hP (uGR_n ho31) rfl in_X3 (by decide) q1926 (fun _ h => h) dX3_store_182 ?_
        refine lv_iload_n hx hb dX3_store_185 rfl (lv_at hl 2 rfl) ?_
        obtain ⟨a32, ha32, hha32⟩ := mbind_n h
        subst ha32
        have h := hha32
        obtain ⟨y33, hy33, h⟩ := mbind_n h
        refine u_iald hC hP hy33 rfl dX3_store_186 ?_
        obtain ⟨u34, hu34, h⟩ := mbind_n h
        have zu34 := uPut_sz hu34
        refine u_put hC hP hS hu34 rfl in_X3 tyX3 tyX3_ok nmX3 (by decide) q1915 (fun _ h => h) rfl (ty := .int) (tyX3_ok 22 (by decide)) rfl rfl dX3_store_187 (fun H locs hP hS => ?_)
        refine u_aload_n (r := some a0) hx hb dX3_store_190 rfl (lv_at hl 0 rfl) ?_
        refine u_aload_n (r := some a0) hx hb dX3_store_191 rfl (lv_at hl 0 rfl) ?_
        obtain ⟨o35, ho35, h⟩ := mbind_n h
        refine u_get hC hP (uGR_n ho35) rfl in_X3 (by decide) q1926 (fun _ h => h) dX3_store_192 ?_
        refine lv_iload_n hx hb dX3_store_195 rfl (lv_at hl 2 rfl) ?_
        refine lv_iconst (v := 1) hx hb dX3_store_196 (by decide) ?_
        refine lv_iadd hx hb dX3_store_197 ?_
        obtain ⟨a36, ha36, hha36⟩ := mbind_n h
        subst ha36
        have h := hha36
        obtain ⟨y37, hy37, h⟩ := mbind_n h
        refine u_iald hC hP hy37 rfl dX3_store_198 ?_
        obtain ⟨u38, hu38, h⟩ := mbind_n h
        have zu38 := uPut_sz hu38
        refine u_put hC hP hS hu38 rfl in_X3 tyX3 tyX3_ok nmX3 (by decide) q1916 (fun _ h => h) rfl (ty := .int) (tyX3_ok 23 (by decide)) rfl rfl dX3_store_199 (fun H locs hP hS => ?_)
        refine u_aload_n (r := some a0) hx hb dX3_store_202 rfl (lv_at hl 0 rfl) ?_
        refine u_aload_n (r := some a0) hx hb dX3_store_203 rfl (lv_at hl 0 rfl) ?_
        obtain ⟨o39, ho39, h⟩ := mbind_n h
        refine u_get hC hP (uGR_n ho39) rfl in_X3 (by decide) q1926 (fun _ h => h) dX3_store_204 ?_
        refine lv_iload_n hx hb dX3_store_207 rfl (lv_at hl 2 rfl) ?_
        refine lv_iconst (v := 2) hx hb dX3_store_208 (by decide) ?_
        refine lv_iadd hx hb dX3_store_209 ?_
        obtain ⟨a40, ha40, hha40⟩ := mbind_n h
        subst ha40
        have h := hha40
        obtain ⟨y41, hy41, h⟩ := mbind_n h
        refine u_iald hC hP hy41 rfl dX3_store_210 ?_
        obtain ⟨u42, hu42, h⟩ := mbind_n h
        have zu42 := uPut_sz hu42
        refine u_put hC hP hS hu42 rfl in_X3 tyX3 tyX3_ok nmX3 (by decide) q1917 (fun _ h => h) rfl (ty := .int) (tyX3_ok 24 (by decide)) rfl rfl dX3_store_211 (fun H locs hP hS => ?_)
        refine u_aload_n (r := some a0) hx hb dX3_store_214 rfl (lv_at hl 0 rfl) ?_
        refine u_aload_n (r := some a0) hx hb dX3_store_215 rfl (lv_at hl 0 rfl) ?_
        obtain ⟨o43, ho43, h⟩ := mbind_n h
        refine u_get hC hP (uGR_n ho43) rfl in_X3 (by decide) q1926 (fun _ h => h) dX3_store_216 ?_
        refine lv_iload_n hx hb dX3_store_219 rfl (lv_at hl 2 rfl) ?_
        refine lv_iconst (v := 3) hx hb dX3_store_220 (by decide) ?_
        refine lv_iadd hx hb dX3_store_221 ?_
        obtain ⟨a44, ha44, hha44⟩ := mbind_n h
        subst ha44
        have h := hha44
        obtain ⟨y45, hy45, h⟩ := mbind_n h
        refine u_iald hC hP hy45 rfl dX3_store_222 ?_
        obtain ⟨u46, hu46, h⟩ := mbind_n h
        have zu46 := uPut_sz hu46
        refine u_put hC hP hS hu46 rfl in_X3 tyX3 tyX3_ok nmX3 (by decide) q1918 (fun _ h => h) rfl (ty := .int) (tyX3_ok 25 (by decide)) rfl rfl dX3_store_223 (fun H locs hP hS => ?_)
        refine u_aload_n (r := some a0) hx hb dX3_store_226 rfl (lv_at hl 0 rfl) ?_
        refine u_aload_n (r := some a0) hx hb dX3_store_227 rfl (lv_at hl 0 rfl) ?_
        obtain ⟨o47, ho47, h⟩ := mbind_n h
        refine u_get hC hP (uGR_n ho47) rfl in_X3 (by decide) q1926 (fun _ h => h) dX3_store_228 ?_
        refine lv_iload_n hx hb dX3_store_231 rfl (lv_at hl 2 rfl) ?_
        refine lv_iconst (v := 4) hx hb dX3_store_232 (by decide) ?_
        refine lv_iadd hx hb dX3_store_233 ?_
        obtain ⟨a48, ha48, hha48⟩ := mbind_n h
        subst ha48
        have h := hha48
        obtain ⟨y49, hy49, h⟩ := mbind_n h
        refine u_iald hC hP hy49 rfl dX3_store_234 ?_
        obtain ⟨u50, hu50, h⟩ := mbind_n h
        have zu50 := uPut_sz hu50
        refine u_put hC hP hS hu50 rfl in_X3 tyX3 tyX3_ok nmX3 (by decide) q1919 (fun _ h => h) rfl (ty := .int) (tyX3_ok 26 (by decide)) rfl rfl dX3_store_235 (fun H locs hP hS => ?_)
        refine u_aload_n (r := some a0) hx hb dX3_store_238 rfl (lv_at hl 0 rfl) ?_
        refine u_aload_n (r := some a0) hx hb dX3_store_239 rfl (lv_at hl 0 rfl) ?_
        obtain ⟨o51, ho51, h⟩ := mbind_n h
        refine u_get hC hP (uGR_n ho51) rfl in_X3 (by decide) q1926 (fun _ h => h) dX3_store_240 ?_
        refine lv_iload_n hx hb dX3_store_243 rfl (lv_at hl 2 rfl) ?_
        refine lv_iconst (v := 5) hx hb dX3_store_244 (by decide) ?_
        refine lv_iadd hx hb dX3_store_245 ?_
        obtain ⟨a52, ha52, hha52⟩ := mbind_n h
        subst ha52
        have h := hha52
        obtain ⟨y53, hy53, h⟩ := mbind_n h
        refine u_iald hC hP hy53 rfl dX3_store_246 ?_
        obtain ⟨u54, hu54, h⟩ := mbind_n h
        have zu54 := uPut_sz hu54
        refine u_put hC hP hS hu54 rfl in_X3 tyX3 tyX3_ok nmX3 (by decide) q1920 (fun _ h => h) rfl (ty := .int) (tyX3_ok 27 (by decide)) rfl rfl dX3_store_247 (fun H locs hP hS => ?_)
        refine u_aload_n (r := some a0) hx hb dX3_store_250 rfl (lv_at hl 0 rfl) ?_
        refine u_aload_n (r := some a0) hx hb dX3_store_251 rfl (lv_at hl 0 rfl) ?_
        obtain ⟨o55, ho55, h⟩ := mbind_n h
        refine u_get hC hP (uGR_n ho55) rfl in_X3 (by decide) q1926 (fun _ h => h) dX3_store_252 ?_
        refine lv_iload_n hx hb dX3_store_255 rfl (lv_at hl 2 rfl) ?_
        refine lv_bipush (v := 6) hx hb dX3_store_256 (by decide) ?_
        refine lv_iadd hx hb dX3_store_258 ?_
        obtain ⟨a56, ha56, hha56⟩ := mbind_n h
        subst ha56
        have h := hha56
        obtain ⟨y57, hy57, h⟩ := mbind_n h
        refine u_iald hC hP hy57 rfl dX3_store_259 ?_
        obtain ⟨u58, hu58, h⟩ := mbind_n h
        have zu58 := uPut_sz hu58
        refine u_put hC hP hS hu58 rfl in_X3 tyX3 tyX3_ok nmX3 (by decide) q1921 (fun _ h => h) rfl (ty := .int) (tyX3_ok 28 (by decide)) rfl rfl dX3_store_260 (fun H locs hP hS => ?_)
        refine lv_goto (tgt := 349) hx hb dX3_store_263 (by decide) ?_
        exact w_X3_store_349 hC hR N u58 h hP hS (lv_sub hl [] rfl)
    · have h := mif_f c1 h
      refine u_aload_n (r := some a0) hx hb dX3_store_134 rfl (lv_at hl 0 rfl) ?_
      refine u_aload_n (r := some a0) hx hb dX3_store_135 rfl (lv_at hl 0 rfl) ?_
      obtain ⟨o59, ho59, h⟩ := mbind_n h
      refine u_get hC hP (uGR_n ho59) rfl in_X3 (by decide) q1923 (fun _ h => h) dX3_store_136 ?_
      refine lv_iload_n hx hb dX3_store_139 rfl (lv_at hl 3 rfl) ?_
      refine lv_iload_n hx hb dX3_store_140 rfl (lv_at hl 2 rfl) ?_
      refine lv_iload_n hx hb dX3_store_141 rfl (lv_at hl 1 rfl) ?_
      obtain ⟨c60, h⟩ := mif_n h
      obtain ⟨r63, u61, c62, h⟩ := ucall_n h
      have zu61 := zz_X3_cell N (ub G) (ug G) u a0 o59 x3 x2 x1 r63 u61 c62
      refine u_calli (va_runV (As := [va_rf o59, .int x3, .int x2, .int x1]) (rest := []) hC.1 (met_X3_cell l N G u a0 o59 x3 x2 x1 r63 u61 c62) (cwV 4 hts (lw_V q2146 q2148 qs43 q103 q2149) rfl rfl rfl (by decide +kernel) ⟨Nat.le_trans (Nat.le_of_ble_eq_true rfl) hR.1, Nat.le_trans (Nat.le_of_ble_eq_true rfl) hR.2⟩) ⟨uPc_blind, u_rcv hC hP c60 rfl, fun U hU hW => u_pre hC hP hS hU hW⟩ rfl rfl hl.1 rfl (lv_room (Nat.le_of_ble_eq_true rfl)) dX3_store_142 ⟨Nat.zero_le _, Nat.zero_le _⟩) hS (fun H locs hP hS => ?_)
      refine lv_istore_n (i := 2) (lv' := [(2, .int r63), (0, va_rf (some a0)), (1, .int x1), (3, .int x3)]) hx hb dX3_store_145 rfl hl (by decide) rfl (fun ls hl => ?_)
      refine u_aload_n (r := some a0) hx hb dX3_store_146 rfl (lv_at hl 1 rfl) ?_
      refine u_aload_n (r := some a0) hx hb dX3_store_147 rfl (lv_at hl 1 rfl) ?_
      obtain ⟨o64, ho64, h⟩ := mbind_n h
      refine u_get hC hP (uGR_n ho64) rfl in_X3 (by decide) q1924 (fun _ h => h) dX3_store_148 ?_
      refine lv_iload_n hx hb dX3_store_151 rfl (lv_at hl 3 rfl) ?_
      refine lv_iload_n hx hb dX3_store_152 rfl (lv_at hl 0 rfl) ?_
      refine lv_iload_n hx hb dX3_store_153 rfl (lv_at hl 2 rfl) ?_
      obtain ⟨c65, h⟩ := mif_n h
      obtain ⟨r68, u66, c67, h⟩ := ucall_n h
      have zu66 := zz_X3_cell N (ub G) (ug G) u61 a0 o64 x3 r63 x1 r68 u66 c67
      refine u_calli (va_runV (As := [va_rf o64, .int x3, .int r63, .int x1]) (rest := []) hC.1 (met_X3_cell l N G u61 a0 o64 x3 r63 x1 r68 u66 c67) (cwV 4 hts (lw_V q2146 q2148 qs43 q103 q2149) rfl rfl rfl (by decide +kernel) ⟨Nat.le_trans (Nat.le_of_ble_eq_true rfl) hR.1, Nat.le_trans (Nat.le_of_ble_eq_true rfl) hR.2⟩) ⟨uPc_blind, u_rcv hC hP c65 rfl, fun U hU hW => u_pre hC hP hS hU hW⟩ rfl rfl hl.1 rfl (lv_room (Nat.le_of_ble_eq_true rfl)) dX3_store_154 ⟨Nat.zero_le _, Nat.zero_le _⟩) hS (fun H locs hP hS => ?_)
      refine lv_istore_n (i := 2) (lv' := [(2, .int r68), (0, va_rf (some a0)), (1, .int x1), (3, .int x3)]) hx hb dX3_store_157 rfl hl (by decide) rfl (fun ls hl => ?_)
      refine u_aload_n (r := some a0) hx hb dX3_store_158 rfl (lv_at hl 1 rfl) ?_
      refine u_aload_n (r := some a0) hx hb dX3_store_159 rfl (lv_at hl 1 rfl) ?_
      obtain ⟨o69, ho69, h⟩ := mbind_n h
      refine u_get hC hP (uGR_n ho69) rfl in_X3 (by decide) q1925 (fun _ h => h) dX3_store_160 ?_
      refine lv_iload_n hx hb dX3_store_163 rfl (lv_at hl 3 rfl) ?_
      refine lv_iload_n hx hb dX3_store_164 rfl (lv_at hl 0 rfl) ?_
      refine lv_iload_n hx hb dX3_store_165 rfl (lv_at hl 2 rfl) ?_
      obtain ⟨c70, h⟩ := mif_n h
      obtain ⟨r73, u71, c72, h⟩ := ucall_n h
      have zu71 := zz_X3_cell N (ub G) (ug G) u66 a0 o69 x3 r68 x1 r73 u71 c72
      refine u_calli (va_runV (As := [va_rf o69, .int x3, .int r68, .int x1]) (rest := []) hC.1 (met_X3_cell l N G u66 a0 o69 x3 r68 x1 r73 u71 c72) (cwV 4 hts (lw_V q2146 q2148 qs43 q103 q2149) rfl rfl rfl (by decide +kernel) ⟨Nat.le_trans (Nat.le_of_ble_eq_true rfl) hR.1, Nat.le_trans (Nat.le_of_ble_eq_true rfl) hR.2⟩) ⟨uPc_blind, u_rcv hC hP c70 rfl, fun U hU hW => u_pre hC hP hS hU hW⟩ rfl rfl hl.1 rfl (lv_room (Nat.le_of_ble_eq_true rfl)) dX3_store_166 ⟨Nat.zero_le _, Nat.zero_le _⟩) hS (fun H locs hP hS => ?_)
      refine lv_istore_n (i := 2) (lv' := [(2, .int r73), (0, va_rf (some a0)), (1, .int x1), (3, .int x3)]) hx hb dX3_store_169 rfl hl (by decide) rfl (fun ls hl => ?_)
      obtain ⟨y74, ey74⟩ : ∃ z : Int32, z = x3 + 1 := ⟨_, rfl⟩
      have h := mlet_at ey74 h
      refine lv_iinc (v := y74) (lv' := [(3, .int y74), (2, .int r73), (0, va_rf (some a0)), (1, .int x1)]) hx hb dX3_store_170 hl (k := 3) rfl (by rw [ey74]; rfl) (by decide) rfl (fun ls hl => ?_)
      refine lv_goto (tgt := 128) hx hb dX3_store_173 (by decide) ?_
      exact ih u71 x1 r73 y74 h _ _ hP hS _ (lv_sub hl [2, 3, 1, 0] rfl)
def f_X3_store_66 (N b : Nat) (g : uEnv) (a0 : Nat) : Nat → UH → Int32 → Int32 → Int32 → Option (UH)
  | 0, _, _, _, _ => none
  | n + 1, u, x1, x2, x3 =>
    if 8 ≤ x3 then
    f_X3_store_128 N b g a0 N u x1 x2 0
    else
    (uGR u a0 2 15).bind fun o2 =>
    if uIs u a0 2 = true then
    ucall (f_X3_cell N b g u a0 o2 x3 x2 x1) fun r6 u4 =>
    (uGR u4 a0 2 17).bind fun o7 =>
    if uIs u4 a0 2 = true then
    ucall (f_X3_cell N b g u4 a0 o7 x3 r6 x1) fun r11 u9 =>
    (uGR u9 a0 2 18).bind fun o12 =>
    if uIs u9 a0 2 = true then
    ucall (f_X3_cell N b g u9 a0 o12 x3 r11 x1) fun r16 u14 =>
    (uGR u14 a0 2 19).bind fun o17 =>
    if uIs u14 a0 2 = true then
    ucall (f_X3_cell N b g u14 a0 o17 x3 r16 x1) fun r21 u19 =>
    mlet (x3 + 1) fun y22 =>
    f_X3_store_66 N b g a0 n u19 x1 r21 y22
    else none
    else none
    else none
    else none
set_option maxHeartbeats 4000000 in
set_option maxRecDepth 100000 in
theorem zz_X3_store_66 {G : uG} {a0 : Nat} {uf : UH} (N : Nat) : ∀ (n : Nat) (u : UH) (x1 : Int32) (x2 : Int32) (x3 : Int32), f_X3_store_66 N (ub G) (ug G) a0 n u x1 x2 x3 = some uf → uf.1 = u.1 ∧ uf.2.1 = u.2.1 := by
  intro n
  induction n with
  | zero =>
    intro u x1 x2 x3 h
    cases h
  | succ n ih =>
    intro u x1 x2 x3 h
    unfold f_X3_store_66 at h
    by_cases c1 : 8 ≤ x3
    · have h := mif_t c1 h
      have hq := zz_X3_store_128 (G := G) (a0 := a0) N N u x1 x2 0 h
      exact ⟨by omega, by omega⟩
    · have h := mif_f c1 h
      obtain ⟨o2, ho2, h⟩ := mbind_n h
      obtain ⟨c3, h⟩ := mif_n h
      obtain ⟨r6, u4, c5, h⟩ := ucall_n h
      have zu4 := zz_X3_cell N (ub G) (ug G) u a0 o2 x3 x2 x1 r6 u4 c5
      obtain ⟨o7, ho7, h⟩ := mbind_n h
      obtain ⟨c8, h⟩ := mif_n h
      obtain ⟨r11, u9, c10, h⟩ := ucall_n h
      have zu9 := zz_X3_cell N (ub G) (ug G) u4 a0 o7 x3 r6 x1 r11 u9 c10
      obtain ⟨o12, ho12, h⟩ := mbind_n h
      obtain ⟨c13, h⟩ := mif_n h
      obtain ⟨r16, u14, c15, h⟩ := ucall_n h
      have zu14 := zz_X3_cell N (ub G) (ug G) u9 a0 o12 x3 r11 x1 r16 u14 c15
      obtain ⟨o17, ho17, h⟩ := mbind_n h
      obtain ⟨c18, h⟩ := mif_n h
      obtain ⟨r21, u19, c20, h⟩ := ucall_n h
      have zu19 := zz_X3_cell N (ub G) (ug G) u14 a0 o17 x3 r16 x1 r21 u19 c20
      obtain ⟨y22, ey22⟩ : ∃ z : Int32, z = x3 + 1 := ⟨_, rfl⟩
      have h := mlet_at ey22 h
      have hq := ih u19 x1 r21 y22 h
      exact ⟨by omega, by omega⟩
set_option maxHeartbeats 4000000 in
set_option maxRecDepth 100000 in
theorem w_X3_store_66 {p : Program} {l : Launch} {e : Env} {R : Room} {s : State} {m : MethodId} {args : Array Value} {below : List Frame} {meth : Method} {c : Code} {G : uG} {a0 : Nat} {uf : UH} (hC : uC p s m args meth c G RX3 cX3_store 4 none) (hR : 1 ≤ R.frames ∧ 24 ≤ R.locals) (N : Nat) : ∀ (n : Nat) (u : UH) (x1 : Int32) (x2 : Int32) (x3 : Int32), f_X3_store_66 N (ub G) (ug G) a0 n u x1 x2 x3 = some uf → ∀ (H : Heap) (locs : List Loc), uP G u H → va_S (uA G) s.heap H locs → ∀ ls : Array Slot, lv_has ls 4 [(0, va_rf (some a0)), (1, .int x1), (2, .int x2), (3, .int x3)] → W p l e R s m args below meth c H locs 0 0 (MQ below (uQv G uf) args s 0 0 (uA G)) (F0 m 66 ls []) := by
  obtain ⟨⟨hx, hb, hml, hown, hts⟩, hKK⟩ := id hC
  intro n
  induction n with
  | zero =>
    intro u x1 x2 x3 h
    cases h
  | succ n ih =>
    intro u x1 x2 x3 h H locs hP hS ls hl
    unfold f_X3_store_66 at h
    refine lv_iload_n hx hb dX3_store_66 rfl (lv_at hl 3 rfl) ?_
    refine lv_bipush (v := 8) hx hb dX3_store_67 (by decide) ?_
    refine lv_icmp_ge (tgt := 126) hx hb dX3_store_69 (by decide) (fun c1 => ?_) (fun c1 => ?_)
    · have h := mif_t c1 h
      refine lv_iconst (v := 0) hx hb dX3_store_126 (by decide) ?_
      refine lv_istore_n (i := 3) (lv' := [(3, .int 0), (0, va_rf (some a0)), (1, .int x1), (2, .int x2)]) hx hb dX3_store_127 rfl hl (by decide) rfl (fun ls hl => ?_)
      exact w_X3_store_128 hC hR N N u x1 x2 0 h _ _ hP hS _ (lv_sub hl [1, 2, 3, 0] rfl)
    · have h := mif_f c1 h
      refine u_aload_n (r := some a0) hx hb dX3_store_72 rfl (lv_at hl 0 rfl) ?_
      refine u_aload_n (r := some a0) hx hb dX3_store_73 rfl (lv_at hl 0 rfl) ?_
      obtain ⟨o2, ho2, h⟩ := mbind_n h
      refine u_get hC hP (uGR_n ho2) rfl in_X3 (by decide) q1908 (fun _ h => h) dX3_store_74 ?_
      refine lv_iload_n hx hb dX3_store_77 rfl (lv_at hl 3 rfl) ?_
      refine lv_iload_n hx hb dX3_store_78 rfl (lv_at hl 2 rfl) ?_
      refine lv_iload_n hx hb dX3_store_79 rfl (lv_at hl 1 rfl) ?_
      obtain ⟨c3, h⟩ := mif_n h
      obtain ⟨r6, u4, c5, h⟩ := ucall_n h
      have zu4 := zz_X3_cell N (ub G) (ug G) u a0 o2 x3 x2 x1 r6 u4 c5
      refine u_calli (va_runV (As := [va_rf o2, .int x3, .int x2, .int x1]) (rest := []) hC.1 (met_X3_cell l N G u a0 o2 x3 x2 x1 r6 u4 c5) (cwV 4 hts (lw_V q2146 q2148 qs43 q103 q2149) rfl rfl rfl (by decide +kernel) ⟨Nat.le_trans (Nat.le_of_ble_eq_true rfl) hR.1, Nat.le_trans (Nat.le_of_ble_eq_true rfl) hR.2⟩) ⟨uPc_blind, u_rcv hC hP c3 rfl, fun U hU hW => u_pre hC hP hS hU hW⟩ rfl rfl hl.1 rfl (lv_room (Nat.le_of_ble_eq_true rfl)) dX3_store_80 ⟨Nat.zero_le _, Nat.zero_le _⟩) hS (fun H locs hP hS => ?_)
      refine lv_istore_n (i := 2) (lv' := [(2, .int r6), (0, va_rf (some a0)), (1, .int x1), (3, .int x3)]) hx hb dX3_store_83 rfl hl (by decide) rfl (fun ls hl => ?_)
      refine u_aload_n (r := some a0) hx hb dX3_store_84 rfl (lv_at hl 1 rfl) ?_
      refine u_aload_n (r := some a0) hx hb dX3_store_85 rfl (lv_at hl 1 rfl) ?_
      obtain ⟨o7, ho7, h⟩ := mbind_n h
      refine u_get hC hP (uGR_n ho7) rfl in_X3 (by decide) q1910 (fun _ h => h) dX3_store_86 ?_
      refine lv_iload_n hx hb dX3_store_89 rfl (lv_at hl 3 rfl) ?_
      refine lv_iload_n hx hb dX3_store_90 rfl (lv_at hl 0 rfl) ?_
      refine lv_iload_n hx hb dX3_store_91 rfl (lv_at hl 2 rfl) ?_
      obtain ⟨c8, h⟩ := mif_n h
      obtain ⟨r11, u9, c10, h⟩ := ucall_n h
      have zu9 := zz_X3_cell N (ub G) (ug G) u4 a0 o7 x3 r6 x1 r11 u9 c10
      refine u_calli (va_runV (As := [va_rf o7, .int x3, .int r6, .int x1]) (rest := []) hC.1 (met_X3_cell l N G u4 a0 o7 x3 r6 x1 r11 u9 c10) (cwV 4 hts (lw_V q2146 q2148 qs43 q103 q2149) rfl rfl rfl (by decide +kernel) ⟨Nat.le_trans (Nat.le_of_ble_eq_true rfl) hR.1, Nat.le_trans (Nat.le_of_ble_eq_true rfl) hR.2⟩) ⟨uPc_blind, u_rcv hC hP c8 rfl, fun U hU hW => u_pre hC hP hS hU hW⟩ rfl rfl hl.1 rfl (lv_room (Nat.le_of_ble_eq_true rfl)) dX3_store_92 ⟨Nat.zero_le _, Nat.zero_le _⟩) hS (fun H locs hP hS => ?_)
      refine lv_istore_n (i := 2) (lv' := [(2, .int r11), (0, va_rf (some a0)), (1, .int x1), (3, .int x3)]) hx hb dX3_store_95 rfl hl (by decide) rfl (fun ls hl => ?_)
      refine u_aload_n (r := some a0) hx hb dX3_store_96 rfl (lv_at hl 1 rfl) ?_
      refine u_aload_n (r := some a0) hx hb dX3_store_97 rfl (lv_at hl 1 rfl) ?_
      obtain ⟨o12, ho12, h⟩ := mbind_n h
      refine u_get hC hP (uGR_n ho12) rfl in_X3 (by decide) q1911 (fun _ h => h) dX3_store_98 ?_
      refine lv_iload_n hx hb dX3_store_101 rfl (lv_at hl 3 rfl) ?_
      refine lv_iload_n hx hb dX3_store_102 rfl (lv_at hl 0 rfl) ?_
      refine lv_iload_n hx hb dX3_store_103 rfl (lv_at hl 2 rfl) ?_
      obtain ⟨c13, h⟩ := mif_n h
      obtain ⟨r16, u14, c15, h⟩ := ucall_n h
      have zu14 := zz_X3_cell N (ub G) (ug G) u9 a0 o12 x3 r11 x1 r16 u14 c15
      refine u_calli (va_runV (As := [va_rf o12, .int x3, .int r11, .int x1]) (rest := []) hC.1 (met_X3_cell l N G u9 a0 o12 x3 r11 x1 r16 u14 c15) (cwV 4 hts (lw_V q2146 q2148 qs43 q103 q2149) rfl rfl rfl (by decide +kernel) ⟨Nat.le_trans (Nat.le_of_ble_eq_true rfl) hR.1, Nat.le_trans (Nat.le_of_ble_eq_true rfl) hR.2⟩) ⟨uPc_blind, u_rcv hC hP c13 rfl, fun U hU hW => u_pre hC hP hS hU hW⟩ rfl rfl hl.1 rfl (lv_room (Nat.le_of_ble_eq_true rfl)) dX3_store_104 ⟨Nat.zero_le _, Nat.zero_le _⟩) hS (fun H locs hP hS => ?_)
      refine lv_istore_n (i := 2) (lv' := [(2, .int r16), (0, va_rf (some a0)), (1, .int x1), (3, .int x3)]) hx hb dX3_store_107 rfl hl (by decide) rfl (fun ls hl => ?_)
      refine u_aload_n (r := some a0) hx hb dX3_store_108 rfl (lv_at hl 1 rfl) ?_
      refine u_aload_n (r := some a0) hx hb dX3_store_109 rfl (lv_at hl 1 rfl) ?_
      obtain ⟨o17, ho17, h⟩ := mbind_n h
      refine u_get hC hP (uGR_n ho17) rfl in_X3 (by decide) q1912 (fun _ h => h) dX3_store_110 ?_
      refine lv_iload_n hx hb dX3_store_113 rfl (lv_at hl 3 rfl) ?_
      refine lv_iload_n hx hb dX3_store_114 rfl (lv_at hl 0 rfl) ?_
      refine lv_iload_n hx hb dX3_store_115 rfl (lv_at hl 2 rfl) ?_
      obtain ⟨c18, h⟩ := mif_n h
      obtain ⟨r21, u19, c20, h⟩ := ucall_n h
      have zu19 := zz_X3_cell N (ub G) (ug G) u14 a0 o17 x3 r16 x1 r21 u19 c20
      refine u_calli (va_runV (As := [va_rf o17, .int x3, .int r16, .int x1]) (rest := []) hC.1 (met_X3_cell l N G u14 a0 o17 x3 r16 x1 r21 u19 c20) (cwV 4 hts (lw_V q2146 q2148 qs43 q103 q2149) rfl rfl rfl (by decide +kernel) ⟨Nat.le_trans (Nat.le_of_ble_eq_true rfl) hR.1, Nat.le_trans (Nat.le_of_ble_eq_true rfl) hR.2⟩) ⟨uPc_blind, u_rcv hC hP c18 rfl, fun U hU hW => u_pre hC hP hS hU hW⟩ rfl rfl hl.1 rfl (lv_room (Nat.le_of_ble_eq_true rfl)) dX3_store_116 ⟨Nat.zero_le _, Nat.zero_le _⟩) hS (fun H locs hP hS => ?_)
      refine lv_istore_n (i := 2) (lv' := [(2, .int r21), (0, va_rf (some a0)), (1, .int x1), (3, .int x3)]) hx hb dX3_store_119 rfl hl (by decide) rfl (fun ls hl => ?_)
      obtain ⟨y22, ey22⟩ : ∃ z : Int32, z = x3 + 1 := ⟨_, rfl⟩
      have h := mlet_at ey22 h
      refine lv_iinc (v := y22) (lv' := [(3, .int y22), (2, .int r21), (0, va_rf (some a0)), (1, .int x1)]) hx hb dX3_store_120 hl (k := 3) rfl (by rw [ey22]; rfl) (by decide) rfl (fun ls hl => ?_)
      refine lv_goto (tgt := 66) hx hb dX3_store_123 (by decide) ?_
      exact ih u19 x1 r21 y22 h _ _ hP hS _ (lv_sub hl [2, 3, 1, 0] rfl)
def f_X3_store_4 (N b : Nat) (g : uEnv) (a0 : Nat) : Nat → UH → Int32 → Int32 → Int32 → Option (UH)
  | 0, _, _, _, _ => none
  | n + 1, u, x1, x2, x3 =>
    if 64 ≤ x3 then
    f_X3_store_66 N b g a0 N u x1 x2 0
    else
    (uGR u a0 2 14).bind fun o2 =>
    if uIs u a0 2 = true then
    ucall (f_X3_cell N b g u a0 o2 x3 x2 x1) fun r6 u4 =>
    (uGR u4 a0 2 16).bind fun o7 =>
    if uIs u4 a0 2 = true then
    ucall (f_X3_cell N b g u4 a0 o7 x3 r6 x1) fun r11 u9 =>
    (uGR u9 a0 2 20).bind fun o12 =>
    if uIs u9 a0 2 = true then
    ucall (f_X3_cell N b g u9 a0 o12 x3 r11 x1) fun r16 u14 =>
    (uGR u14 a0 2 21).bind fun o17 =>
    if uIs u14 a0 2 = true then
    ucall (f_X3_cell N b g u14 a0 o17 x3 r16 x1) fun r21 u19 =>
    mlet (x3 + 1) fun y22 =>
    f_X3_store_4 N b g a0 n u19 x1 r21 y22
    else none
    else none
    else none
    else none
set_option maxHeartbeats 4000000 in
set_option maxRecDepth 100000 in
theorem zz_X3_store_4 {G : uG} {a0 : Nat} {uf : UH} (N : Nat) : ∀ (n : Nat) (u : UH) (x1 : Int32) (x2 : Int32) (x3 : Int32), f_X3_store_4 N (ub G) (ug G) a0 n u x1 x2 x3 = some uf → uf.1 = u.1 ∧ uf.2.1 = u.2.1 := by
  intro n
  induction n with
  | zero =>
    intro u x1 x2 x3 h
    cases h
  | succ n ih =>
    intro u x1 x2 x3 h
    unfold f_X3_store_4 at h
    by_cases c1 : 64 ≤ x3
    · have h := mif_t c1 h
      have hq := zz_X3_store_66 (G := G) (a0 := a0) N N u x1 x2 0 h
      exact ⟨by omega, by omega⟩
    · have h := mif_f c1 h
      obtain ⟨o2, ho2, h⟩ := mbind_n h
      obtain ⟨c3, h⟩ := mif_n h
      obtain ⟨r6, u4, c5, h⟩ := ucall_n h
      have zu4 := zz_X3_cell N (ub G) (ug G) u a0 o2 x3 x2 x1 r6 u4 c5
      obtain ⟨o7, ho7, h⟩ := mbind_n h
      obtain ⟨c8, h⟩ := mif_n h
      obtain ⟨r11, u9, c10, h⟩ := ucall_n h
      have zu9 := zz_X3_cell N (ub G) (ug G) u4 a0 o7 x3 r6 x1 r11 u9 c10
      obtain ⟨o12, ho12, h⟩ := mbind_n h
      obtain ⟨c13, h⟩ := mif_n h
      obtain ⟨r16, u14, c15, h⟩ := ucall_n h
      have zu14 := zz_X3_cell N (ub G) (ug G) u9 a0 o12 x3 r11 x1 r16 u14 c15
      obtain ⟨o17, ho17, h⟩ := mbind_n h
      obtain ⟨c18, h⟩ := mif_n h
      obtain ⟨r21, u19, c20, h⟩ := ucall_n h
      have zu19 := zz_X3_cell N (ub G) (ug G) u14 a0 o17 x3 r16 x1 r21 u19 c20
      obtain ⟨y22, ey22⟩ : ∃ z : Int32, z = x3 + 1 := ⟨_, rfl⟩
      have h := mlet_at ey22 h
      have hq := ih u19 x1 r21 y22 h
      exact ⟨by omega, by omega⟩
set_option maxHeartbeats 4000000 in
set_option maxRecDepth 100000 in
theorem w_X3_store_4 {p : Program} {l : Launch} {e : Env} {R : Room} {s : State} {m : MethodId} {args : Array Value} {below : List Frame} {meth : Method} {c : Code} {G : uG} {a0 : Nat} {uf : UH} (hC : uC p s m args meth c G RX3 cX3_store 4 none) (hR : 1 ≤ R.frames ∧ 24 ≤ R.locals) (N : Nat) : ∀ (n : Nat) (u : UH) (x1 : Int32) (x2 : Int32) (x3 : Int32), f_X3_store_4 N (ub G) (ug G) a0 n u x1 x2 x3 = some uf → ∀ (H : Heap) (locs : List Loc), uP G u H → va_S (uA G) s.heap H locs → ∀ ls : Array Slot, lv_has ls 4 [(0, va_rf (some a0)), (1, .int x1), (2, .int x2), (3, .int x3)] → W p l e R s m args below meth c H locs 0 0 (MQ below (uQv G uf) args s 0 0 (uA G)) (F0 m 4 ls []) := by
  obtain ⟨⟨hx, hb, hml, hown, hts⟩, hKK⟩ := id hC
  intro n
  induction n with
  | zero =>
    intro u x1 x2 x3 h
    cases h
  | succ n ih =>
    intro u x1 x2 x3 h H locs hP hS ls hl
    unfold f_X3_store_4 at h
    refine lv_iload_n hx hb dX3_store_4 rfl (lv_at hl 3 rfl) ?_
    refine lv_bipush (v := 64) hx hb dX3_store_5 (by decide) ?_
    refine lv_icmp_ge (tgt := 64) hx hb dX3_store_7 (by decide) (fun c1 => ?_) (fun c1 => ?_)
    · have h := mif_t c1 h
      refine lv_iconst (v := 0) hx hb dX3_store_64 (by decide) ?_
      refine lv_istore_n (i := 3) (lv' := [(3, .int 0), (0, va_rf (some a0)), (1, .int x1), (2, .int x2)]) hx hb dX3_store_65 rfl hl (by decide) rfl (fun ls hl => ?_)
      exact w_X3_store_66 hC hR N N u x1 x2 0 h _ _ hP hS _ (lv_sub hl [1, 2, 3, 0] rfl)
    · have h := mif_f c1 h
      refine u_aload_n (r := some a0) hx hb dX3_store_10 rfl (lv_at hl 0 rfl) ?_
      refine u_aload_n (r := some a0) hx hb dX3_store_11 rfl (lv_at hl 0 rfl) ?_
      obtain ⟨o2, ho2, h⟩ := mbind_n h
      refine u_get hC hP (uGR_n ho2) rfl in_X3 (by decide) q1907 (fun _ h => h) dX3_store_12 ?_
      refine lv_iload_n hx hb dX3_store_15 rfl (lv_at hl 3 rfl) ?_
      refine lv_iload_n hx hb dX3_store_16 rfl (lv_at hl 2 rfl) ?_
      refine lv_iload_n hx hb dX3_store_17 rfl (lv_at hl 1 rfl) ?_
      obtain ⟨c3, h⟩ := mif_n h
      obtain ⟨r6, u4, c5, h⟩ := ucall_n h
      have zu4 := zz_X3_cell N (ub G) (ug G) u a0 o2 x3 x2 x1 r6 u4 c5
      refine u_calli (va_runV (As := [va_rf o2, .int x3, .int x2, .int x1]) (rest := []) hC.1 (met_X3_cell l N G u a0 o2 x3 x2 x1 r6 u4 c5) (cwV 4 hts (lw_V q2146 q2148 qs43 q103 q2149) rfl rfl rfl (by decide +kernel) ⟨Nat.le_trans (Nat.le_of_ble_eq_true rfl) hR.1, Nat.le_trans (Nat.le_of_ble_eq_true rfl) hR.2⟩) ⟨uPc_blind, u_rcv hC hP c3 rfl, fun U hU hW => u_pre hC hP hS hU hW⟩ rfl rfl hl.1 rfl (lv_room (Nat.le_of_ble_eq_true rfl)) dX3_store_18 ⟨Nat.zero_le _, Nat.zero_le _⟩) hS (fun H locs hP hS => ?_)
      refine lv_istore_n (i := 2) (lv' := [(2, .int r6), (0, va_rf (some a0)), (1, .int x1), (3, .int x3)]) hx hb dX3_store_21 rfl hl (by decide) rfl (fun ls hl => ?_)
      refine u_aload_n (r := some a0) hx hb dX3_store_22 rfl (lv_at hl 1 rfl) ?_
      refine u_aload_n (r := some a0) hx hb dX3_store_23 rfl (lv_at hl 1 rfl) ?_
      obtain ⟨o7, ho7, h⟩ := mbind_n h
      refine u_get hC hP (uGR_n ho7) rfl in_X3 (by decide) q1909 (fun _ h => h) dX3_store_24 ?_
      refine lv_iload_n hx hb dX3_store_27 rfl (lv_at hl 3 rfl) ?_
      refine lv_iload_n hx hb dX3_store_28 rfl (lv_at hl 0 rfl) ?_
      refine lv_iload_n hx hb dX3_store_29 rfl (lv_at hl 2 rfl) ?_
      obtain ⟨c8, h⟩ := mif_n h
      obtain ⟨r11, u9, c10, h⟩ := ucall_n h
      have zu9 := zz_X3_cell N (ub G) (ug G) u4 a0 o7 x3 r6 x1 r11 u9 c10
      refine u_calli (va_runV (As := [va_rf o7, .int x3, .int r6, .int x1]) (rest := []) hC.1 (met_X3_cell l N G u4 a0 o7 x3 r6 x1 r11 u9 c10) (cwV 4 hts (lw_V q2146 q2148 qs43 q103 q2149) rfl rfl rfl (by decide +kernel) ⟨Nat.le_trans (Nat.le_of_ble_eq_true rfl) hR.1, Nat.le_trans (Nat.le_of_ble_eq_true rfl) hR.2⟩) ⟨uPc_blind, u_rcv hC hP c8 rfl, fun U hU hW => u_pre hC hP hS hU hW⟩ rfl rfl hl.1 rfl (lv_room (Nat.le_of_ble_eq_true rfl)) dX3_store_30 ⟨Nat.zero_le _, Nat.zero_le _⟩) hS (fun H locs hP hS => ?_)
      refine lv_istore_n (i := 2) (lv' := [(2, .int r11), (0, va_rf (some a0)), (1, .int x1), (3, .int x3)]) hx hb dX3_store_33 rfl hl (by decide) rfl (fun ls hl => ?_)
      refine u_aload_n (r := some a0) hx hb dX3_store_34 rfl (lv_at hl 1 rfl) ?_
      refine u_aload_n (r := some a0) hx hb dX3_store_35 rfl (lv_at hl 1 rfl) ?_
      obtain ⟨o12, ho12, h⟩ := mbind_n h
      refine u_get hC hP (uGR_n ho12) rfl in_X3 (by decide) q1913 (fun _ h => h) dX3_store_36 ?_
      refine lv_iload_n hx hb dX3_store_39 rfl (lv_at hl 3 rfl) ?_
      refine lv_iload_n hx hb dX3_store_40 rfl (lv_at hl 0 rfl) ?_
      refine lv_iload_n hx hb dX3_store_41 rfl (lv_at hl 2 rfl) ?_
      obtain ⟨c13, h⟩ := mif_n h
      obtain ⟨r16, u14, c15, h⟩ := ucall_n h
      have zu14 := zz_X3_cell N (ub G) (ug G) u9 a0 o12 x3 r11 x1 r16 u14 c15
      refine u_calli (va_runV (As := [va_rf o12, .int x3, .int r11, .int x1]) (rest := []) hC.1 (met_X3_cell l N G u9 a0 o12 x3 r11 x1 r16 u14 c15) (cwV 4 hts (lw_V q2146 q2148 qs43 q103 q2149) rfl rfl rfl (by decide +kernel) ⟨Nat.le_trans (Nat.le_of_ble_eq_true rfl) hR.1, Nat.le_trans (Nat.le_of_ble_eq_true rfl) hR.2⟩) ⟨uPc_blind, u_rcv hC hP c13 rfl, fun U hU hW => u_pre hC hP hS hU hW⟩ rfl rfl hl.1 rfl (lv_room (Nat.le_of_ble_eq_true rfl)) dX3_store_42 ⟨Nat.zero_le _, Nat.zero_le _⟩) hS (fun H locs hP hS => ?_)
      refine lv_istore_n (i := 2) (lv' := [(2, .int r16), (0, va_rf (some a0)), (1, .int x1), (3, .int x3)]) hx hb dX3_store_45 rfl hl (by decide) rfl (fun ls hl => ?_)
      refine u_aload_n (r := some a0) hx hb dX3_store_46 rfl (lv_at hl 1 rfl) ?_
      refine u_aload_n (r := some a0) hx hb dX3_store_47 rfl (lv_at hl 1 rfl) ?_
      obtain ⟨o17, ho17, h⟩ := mbind_n h
      refine u_get hC hP (uGR_n ho17) rfl in_X3 (by decide) q1914 (fun _ h => h) dX3_store_48 ?_
      refine lv_iload_n hx hb dX3_store_51 rfl (lv_at hl 3 rfl) ?_
      refine lv_iload_n hx hb dX3_store_52 rfl (lv_at hl 0 rfl) ?_
      refine lv_iload_n hx hb dX3_store_53 rfl (lv_at hl 2 rfl) ?_
      obtain ⟨c18, h⟩ := mif_n h
      obtain ⟨r21, u19, c20, h⟩ := ucall_n h
      have zu19 := zz_X3_cell N (ub G) (ug G) u14 a0 o17 x3 r16 x1 r21 u19 c20
      refine u_calli (va_runV (As := [va_rf o17, .int x3, .int r16, .int x1]) (rest := []) hC.1 (met_X3_cell l N G u14 a0 o17 x3 r16 x1 r21 u19 c20) (cwV 4 hts (lw_V q2146 q2148 qs43 q103 q2149) rfl rfl rfl (by decide +kernel) ⟨Nat.le_trans (Nat.le_of_ble_eq_true rfl) hR.1, Nat.le_trans (Nat.le_of_ble_eq_true rfl) hR.2⟩) ⟨uPc_blind, u_rcv hC hP c18 rfl, fun U hU hW => u_pre hC hP hS hU hW⟩ rfl rfl hl.1 rfl (lv_room (Nat.le_of_ble_eq_true rfl)) dX3_store_54 ⟨Nat.zero_le _, Nat.zero_le _⟩) hS (fun H locs hP hS => ?_)
      refine lv_istore_n (i := 2) (lv' := [(2, .int r21), (0, va_rf (some a0)), (1, .int x1), (3, .int x3)]) hx hb dX3_store_57 rfl hl (by decide) rfl (fun ls hl => ?_)
      obtain ⟨y22, ey22⟩ : ∃ z : Int32, z = x3 + 1 := ⟨_, rfl⟩
      have h := mlet_at ey22 h
      refine lv_iinc (v := y22) (lv' := [(3, .int y22), (2, .int r21), (0, va_rf (some a0)), (1, .int x1)]) hx hb dX3_store_58 hl (k := 3) rfl (by rw [ey22]; rfl) (by decide) rfl (fun ls hl => ?_)
      refine lv_goto (tgt := 4) hx hb dX3_store_61 (by decide) ?_
      exact ih u19 x1 r21 y22 h _ _ hP hS _ (lv_sub hl [2, 3, 1, 0] rfl)
def f_X3_store (N b : Nat) (g : uEnv) (u : UH) (a0 : Nat) (x1 : Int32) : Option (UH) :=
    f_X3_store_4 N b g a0 N u x1 0 0
set_option maxHeartbeats 4000000 in
set_option maxRecDepth 100000 in
theorem zz_X3_store_0 {G : uG} {a0 : Nat} {uf : UH} (N : Nat) (u : UH) (x1 : Int32) (h : f_X3_store N (ub G) (ug G) u a0 x1 = some uf) : uf.1 = u.1 ∧ uf.2.1 = u.2.1 := by
  unfold f_X3_store at h
  have hq := zz_X3_store_4 (G := G) (a0 := a0) N N u x1 0 0 h
  exact ⟨by omega, by omega⟩
set_option maxHeartbeats 4000000 in
set_option maxRecDepth 100000 in
theorem w_X3_store_0 {p : Program} {l : Launch} {e : Env} {R : Room} {s : State} {m : MethodId} {args : Array Value} {below : List Frame} {meth : Method} {c : Code} {G : uG} {a0 : Nat} {uf : UH} (hC : uC p s m args meth c G RX3 cX3_store 4 none) (hR : 1 ≤ R.frames ∧ 24 ≤ R.locals) (N : Nat) (u : UH) (x1 : Int32) (h : f_X3_store N (ub G) (ug G) u a0 x1 = some uf) {H : Heap} {locs : List Loc} (hP : uP G u H) (hS : va_S (uA G) s.heap H locs) {ls : Array Slot} (hl : lv_has ls 4 [(0, va_rf (some a0)), (1, .int x1)]) : W p l e R s m args below meth c H locs 0 0 (MQ below (uQv G uf) args s 0 0 (uA G)) (F0 m 0 ls []) := by
  obtain ⟨⟨hx, hb, hml, hown, hts⟩, hKK⟩ := id hC
  unfold f_X3_store at h
  refine lv_iconst (v := 0) hx hb dX3_store_0 (by decide) ?_
  refine lv_istore_n (i := 2) (lv' := [(2, .int 0), (0, va_rf (some a0)), (1, .int x1)]) hx hb dX3_store_1 rfl hl (by decide) rfl (fun ls hl => ?_)
  refine lv_iconst (v := 0) hx hb dX3_store_2 (by decide) ?_
  refine lv_istore_n (i := 3) (lv' := [(3, .int 0), (2, .int 0), (0, va_rf (some a0)), (1, .int x1)]) hx hb dX3_store_3 rfl hl (by decide) rfl (fun ls hl => ?_)
  exact w_X3_store_4 hC hR N N u x1 0 0 h _ _ hP hS _ (lv_sub hl [2, 3, 1, 0] rfl)
theorem zz_X3_store (N b : Nat) (g : uEnv) (u : UH) (a0 : Nat) (x1 : Int32) (uf : UH) (h : f_X3_store N b g u a0 x1 = some uf) : uf.1 = u.1 ∧ uf.2.1 = u.2.1 :=
  zz_X3_store_0 (G := ((fun _ => 0, fun _ _ => 0), fun _ => 0, b, g)) (a0 := a0) N u x1 h
theorem met_X3_store (l : Launch) (N : Nat) (G : uG) (u : UH) (a0 : Nat) (x1 : Int32) (uf : UH) (h : f_X3_store N (ub G) (ug G) u a0 x1 = some uf) : Met l yX3_store (ws_ yX3_store cX3_store 4 none) ({ frames := 1, cells := 0, slots := 0, locals := 24 }) (uPc G u [.ref a0, .int x1]) (uQv G uf) 0 0 (uA G) := by
  exact u_met (own := RX3) (by decide +kernel) rfl (Nat.le_of_ble_eq_true rfl) (fun hC hn hsz ls hl hP => w_X3_store_0 hC ⟨Nat.le_refl _, Nat.le_refl _⟩ N u x1 h hP va_S.rf hl)
def f_X3_word_26 (N b : Nat) (g : uEnv) (a0 : Nat) (u : UH) : Option (Int32 × UH) :=
    some (0, u)
set_option maxHeartbeats 4000000 in
set_option maxRecDepth 100000 in
theorem zz_X3_word_26 {G : uG} {a0 : Nat} {uf : UH} {r : Int32} (N : Nat) (u : UH) (h : f_X3_word_26 N (ub G) (ug G) a0 u = some (r, uf)) : uf.1 = u.1 ∧ uf.2.1 = u.2.1 := by
  unfold f_X3_word_26 at h
  obtain ⟨hr1, hr2⟩ := uret_n h
  subst hr2
  exact ⟨by omega, by omega⟩
set_option maxHeartbeats 4000000 in
set_option maxRecDepth 100000 in
theorem w_X3_word_26 {p : Program} {l : Launch} {e : Env} {R : Room} {s : State} {m : MethodId} {args : Array Value} {below : List Frame} {meth : Method} {c : Code} {G : uG} {a0 : Nat} {uf : UH} {r : Int32} (hC : uC p s m args meth c G RX3 cX3_word 4 (some .boolean)) (hR : 4 ≤ R.frames ∧ 85 ≤ R.locals) (N : Nat) (u : UH) (h : f_X3_word_26 N (ub G) (ug G) a0 u = some (r, uf)) {H : Heap} {locs : List Loc} (hP : uP G u H) (hS : va_S (uA G) s.heap H locs) {ls : Array Slot} (hl : lv_has ls 4 []) : W p l e R s m args below meth c H locs 0 0 (MQ below (uQi G r uf) args s 0 0 (uA G)) (F0 m 26 ls []) := by
  obtain ⟨⟨hx, hb, hml, hown, hts⟩, hKK⟩ := id hC
  unfold f_X3_word_26 at h
  refine lv_iconst (v := 0) hx hb dX3_word_26 (by decide) ?_
  obtain ⟨hr1, hr2⟩ := uret_n h
  subst hr1
  subst hr2
  exact u_zret hC (uFit_n (ty := .boolean) (v := 0) rfl).1 hP hS dX3_word_27
def f_X3_word_63 (N b : Nat) (g : uEnv) (a0 : Nat) (k32 : UH → Option Nat → Int32 → Int32 → Option (Int32 × UH)) (u : UH) (x1 : Option Nat) (x3 : Int32) (s0 : Int32) : Option (Int32 × UH) :=
    mlet (x3 + 1) fun y1 =>
    k32 u x1 s0 y1
set_option maxHeartbeats 4000000 in
set_option maxRecDepth 100000 in
theorem zz_X3_word_63 {G : uG} {a0 : Nat} {uf : UH} {r : Int32} (N : Nat) (k32 : UH → Option Nat → Int32 → Int32 → Option (Int32 × UH)) (hk32 : ∀ (u : UH) (x1 : Option Nat) (x2 : Int32) (x3 : Int32), k32 u x1 x2 x3 = some (r, uf) → uf.1 = u.1 ∧ uf.2.1 = u.2.1) (u : UH) (x1 : Option Nat) (x3 : Int32) (s0 : Int32) (h : f_X3_word_63 N (ub G) (ug G) a0 k32 u x1 x3 s0 = some (r, uf)) : uf.1 = u.1 ∧ uf.2.1 = u.2.1 := by
  unfold f_X3_word_63 at h
  obtain ⟨y1, ey1⟩ : ∃ z : Int32, z = x3 + 1 := ⟨_, rfl⟩
  have h := mlet_at ey1 h
  have hq := hk32 u x1 s0 y1 h
  exact ⟨by omega, by omega⟩
set_option maxHeartbeats 4000000 in
set_option maxRecDepth 100000 in
theorem w_X3_word_63 {p : Program} {l : Launch} {e : Env} {R : Room} {s : State} {m : MethodId} {args : Array Value} {below : List Frame} {meth : Method} {c : Code} {G : uG} {a0 : Nat} {uf : UH} {r : Int32} (hC : uC p s m args meth c G RX3 cX3_word 4 (some .boolean)) (hR : 4 ≤ R.frames ∧ 85 ≤ R.locals) (N : Nat) (k32 : UH → Option Nat → Int32 → Int32 → Option (Int32 × UH)) (hk32 : ∀ (u : UH) (x1 : Option Nat) (x2 : Int32) (x3 : Int32), k32 u x1 x2 x3 = some (r, uf) → ∀ (H : Heap) (locs : List Loc), uP G u H → va_S (uA G) s.heap H locs → ∀ ls : Array Slot, lv_has ls 4 [(0, va_rf (some a0)), (1, va_rf x1), (2, .int x2), (3, .int x3)] → W p l e R s m args below meth c H locs 0 0 (MQ below (uQi G r uf) args s 0 0 (uA G)) (F0 m 32 ls [])) (u : UH) (x1 : Option Nat) (x3 : Int32) (s0 : Int32) (h : f_X3_word_63 N (ub G) (ug G) a0 k32 u x1 x3 s0 = some (r, uf)) {H : Heap} {locs : List Loc} (hP : uP G u H) (hS : va_S (uA G) s.heap H locs) {ls : Array Slot} (hl : lv_has ls 4 [(0, va_rf (some a0)), (1, va_rf x1), (3, .int x3)]) : W p l e R s m args below meth c H locs 0 0 (MQ below (uQi G r uf) args s 0 0 (uA G)) (F0 m 63 ls [.int s0]) := by
  obtain ⟨⟨hx, hb, hml, hown, hts⟩, hKK⟩ := id hC
  unfold f_X3_word_63 at h
  refine lv_istore_n (i := 2) (lv' := [(2, .int s0), (0, va_rf (some a0)), (1, va_rf x1), (3, .int x3)]) hx hb dX3_word_63 rfl hl (by decide) (by simp [List.filter_cons, u_cat]) (fun ls hl => ?_)
  obtain ⟨y1, ey1⟩ : ∃ z : Int32, z = x3 + 1 := ⟨_, rfl⟩
  have h := mlet_at ey1 h
  refine lv_iinc (v := y1) (lv' := [(3, .int y1), (2, .int s0), (0, va_rf (some a0)), (1, va_rf x1)]) hx hb dX3_word_64 hl (k := 3) rfl (by rw [ey1]; rfl) (by decide) rfl (fun ls hl => ?_)
  refine lv_goto (tgt := 32) hx hb dX3_word_67 (by decide) ?_
  exact hk32 u x1 s0 y1 h _ _ hP hS _ (lv_sub hl [2, 3, 1, 0] rfl)
def f_X3_word_62 (N b : Nat) (g : uEnv) (a0 : Nat) (k32 : UH → Option Nat → Int32 → Int32 → Option (Int32 × UH)) (u : UH) (x1 : Option Nat) (x3 : Int32) : Option (Int32 × UH) :=
    f_X3_word_63 N b g a0 k32 u x1 x3 0
set_option maxHeartbeats 4000000 in
set_option maxRecDepth 100000 in
theorem zz_X3_word_62 {G : uG} {a0 : Nat} {uf : UH} {r : Int32} (N : Nat) (k32 : UH → Option Nat → Int32 → Int32 → Option (Int32 × UH)) (hk32 : ∀ (u : UH) (x1 : Option Nat) (x2 : Int32) (x3 : Int32), k32 u x1 x2 x3 = some (r, uf) → uf.1 = u.1 ∧ uf.2.1 = u.2.1) (u : UH) (x1 : Option Nat) (x3 : Int32) (h : f_X3_word_62 N (ub G) (ug G) a0 k32 u x1 x3 = some (r, uf)) : uf.1 = u.1 ∧ uf.2.1 = u.2.1 := by
  unfold f_X3_word_62 at h
  have hq := zz_X3_word_63 (G := G) (a0 := a0) N k32 hk32 u x1 x3 0 h
  exact ⟨by omega, by omega⟩
set_option maxHeartbeats 4000000 in
set_option maxRecDepth 100000 in
theorem w_X3_word_62 {p : Program} {l : Launch} {e : Env} {R : Room} {s : State} {m : MethodId} {args : Array Value} {below : List Frame} {meth : Method} {c : Code} {G : uG} {a0 : Nat} {uf : UH} {r : Int32} (hC : uC p s m args meth c G RX3 cX3_word 4 (some .boolean)) (hR : 4 ≤ R.frames ∧ 85 ≤ R.locals) (N : Nat) (k32 : UH → Option Nat → Int32 → Int32 → Option (Int32 × UH)) (hk32 : ∀ (u : UH) (x1 : Option Nat) (x2 : Int32) (x3 : Int32), k32 u x1 x2 x3 = some (r, uf) → ∀ (H : Heap) (locs : List Loc), uP G u H → va_S (uA G) s.heap H locs → ∀ ls : Array Slot, lv_has ls 4 [(0, va_rf (some a0)), (1, va_rf x1), (2, .int x2), (3, .int x3)] → W p l e R s m args below meth c H locs 0 0 (MQ below (uQi G r uf) args s 0 0 (uA G)) (F0 m 32 ls [])) (u : UH) (x1 : Option Nat) (x3 : Int32) (h : f_X3_word_62 N (ub G) (ug G) a0 k32 u x1 x3 = some (r, uf)) {H : Heap} {locs : List Loc} (hP : uP G u H) (hS : va_S (uA G) s.heap H locs) {ls : Array Slot} (hl : lv_has ls 4 [(0, va_rf (some a0)), (1, va_rf x1), (3, .int x3)]) : W p l e R s m args below meth c H locs 0 0 (MQ below (uQi G r uf) args s 0 0 (uA G)) (F0 m 62 ls []) := by
  obtain ⟨⟨hx, hb, hml, hown, hts⟩, hKK⟩ := id hC
  unfold f_X3_word_62 at h
  refine lv_iconst (v := 0) hx hb dX3_word_62 (by decide) ?_
  exact w_X3_word_63 hC hR N k32 hk32 u x1 x3 0 h hP hS (lv_sub hl [0, 1, 2] rfl)
def f_X3_word_32 (N b : Nat) (g : uEnv) (a0 : Nat) : Nat → UH → Option Nat → Int32 → Int32 → Option (Int32 × UH)
  | 0, _, _, _, _ => none
  | n + 1, u, x1, x2, x3 =>
    (uGI u a0 2 8).bind fun y1 =>
    if y1 ≤ x3 then
    if uFit .boolean x2 = true then
    some (x2, u)
    else none
    else
    if x2 = 0 then
    f_X3_word_62 N b g a0 (f_X3_word_32 N b g a0 n) u x1 x3
    else
    (uGR u a0 2 11).bind fun o5 =>
    (o5).bind fun a6 =>
    (uLdI u a6 0 x3).bind fun y7 =>
    (x1).bind fun a8 =>
    if uIs u a8 20 = true then
    ucall (f_J6_charAt N b g u a8 x3) fun r12 u10 =>
    if y7 = r12 then
    f_X3_word_63 N b g a0 (f_X3_word_32 N b g a0 n) u10 (some a8) x3 1
    else
    f_X3_word_62 N b g a0 (f_X3_word_32 N b g a0 n) u10 (some a8) x3
    else none
set_option maxHeartbeats 4000000 in
set_option maxRecDepth 100000 in
theorem zz_X3_word_32 {G : uG} {a0 : Nat} {uf : UH} {r : Int32} (N : Nat) : ∀ (n : Nat) (u : UH) (x1 : Option Nat) (x2 : Int32) (x3 : Int32), f_X3_word_32 N (ub G) (ug G) a0 n u x1 x2 x3 = some (r, uf) → uf.1 = u.1 ∧ uf.2.1 = u.2.1 := by
  intro n
  induction n with
  | zero =>
    intro u x1 x2 x3 h
    cases h
  | succ n ih =>
    intro u x1 x2 x3 h
    unfold f_X3_word_32 at h
    obtain ⟨y1, hy1, h⟩ := mbind_n h
    by_cases c2 : y1 ≤ x3
    · have h := mif_t c2 h
      obtain ⟨c3, h⟩ := mif_n h
      obtain ⟨hr1, hr2⟩ := uret_n h
      subst hr2
      exact ⟨by omega, by omega⟩
    · have h := mif_f c2 h
      by_cases c4 : x2 = 0
      · have h := mif_t c4 h
        have hq := zz_X3_word_62 (G := G) (a0 := a0) N (f_X3_word_32 N (ub G) (ug G) a0 n) ih u x1 x3 h
        exact ⟨by omega, by omega⟩
      · have h := mif_f c4 h
        obtain ⟨o5, ho5, h⟩ := mbind_n h
        obtain ⟨a6, ha6, hha6⟩ := mbind_n h
        subst ha6
        have h := hha6
        obtain ⟨y7, hy7, h⟩ := mbind_n h
        obtain ⟨a8, ha8, hha8⟩ := mbind_n h
        subst ha8
        have h := hha8
        obtain ⟨c9, h⟩ := mif_n h
        obtain ⟨r12, u10, c11, h⟩ := ucall_n h
        have zu10 := zz_J6_charAt N (ub G) (ug G) u a8 x3 r12 u10 c11
        by_cases c13 : y7 = r12
        · have h := mif_t c13 h
          have hq := zz_X3_word_63 (G := G) (a0 := a0) N (f_X3_word_32 N (ub G) (ug G) a0 n) ih u10 (some a8) x3 1 h
          exact ⟨by omega, by omega⟩
        · have h := mif_f c13 h
          have hq := zz_X3_word_62 (G := G) (a0 := a0) N (f_X3_word_32 N (ub G) (ug G) a0 n) ih u10 (some a8) x3 h
          exact ⟨by omega, by omega⟩
set_option maxHeartbeats 4000000 in
set_option maxRecDepth 100000 in
theorem w_X3_word_32 {p : Program} {l : Launch} {e : Env} {R : Room} {s : State} {m : MethodId} {args : Array Value} {below : List Frame} {meth : Method} {c : Code} {G : uG} {a0 : Nat} {uf : UH} {r : Int32} (hC : uC p s m args meth c G RX3 cX3_word 4 (some .boolean)) (hR : 4 ≤ R.frames ∧ 85 ≤ R.locals) (N : Nat) : ∀ (n : Nat) (u : UH) (x1 : Option Nat) (x2 : Int32) (x3 : Int32), f_X3_word_32 N (ub G) (ug G) a0 n u x1 x2 x3 = some (r, uf) → ∀ (H : Heap) (locs : List Loc), uP G u H → va_S (uA G) s.heap H locs → ∀ ls : Array Slot, lv_has ls 4 [(0, va_rf (some a0)), (1, va_rf x1), (2, .int x2), (3, .int x3)] → W p l e R s m args below meth c H locs 0 0 (MQ below (uQi G r uf) args s 0 0 (uA G)) (F0 m 32 ls []) := by
  obtain ⟨⟨hx, hb, hml, hown, hts⟩, hKK⟩ := id hC
  intro n
  induction n with
  | zero =>
    intro u x1 x2 x3 h
    cases h
  | succ n ih =>
    intro u x1 x2 x3 h H locs hP hS ls hl
    unfold f_X3_word_32 at h
    refine lv_iload_n hx hb dX3_word_32 rfl (lv_at hl 3 rfl) ?_
    refine u_aload_n (r := some a0) hx hb dX3_word_33 rfl (lv_at hl 0 rfl) ?_
    obtain ⟨y1, hy1, h⟩ := mbind_n h
    refine u_get hC hP (uGI_n hy1) rfl in_X3 (by decide) q1901 (fun _ h => h) dX3_word_34 ?_
    refine lv_icmp_ge (tgt := 70) hx hb dX3_word_37 (by decide) (fun c2 => ?_) (fun c2 => ?_)
    · have h := mif_t c2 h
      refine lv_iload_n hx hb dX3_word_70 rfl (lv_at hl 2 rfl) ?_
      obtain ⟨c3, h⟩ := mif_n h
      obtain ⟨hr1, hr2⟩ := uret_n h
      subst hr1
      subst hr2
      exact u_zret hC (uFit_n c3).1 hP hS dX3_word_71
    · have h := mif_f c2 h
      refine lv_iload_n hx hb dX3_word_40 rfl (lv_at hl 2 rfl) ?_
      refine lv_if_eq (tgt := 62) hx hb dX3_word_41 (by decide) (fun c4 => ?_) (fun c4 => ?_)
      · have h := mif_t c4 h
        exact w_X3_word_62 hC hR N (f_X3_word_32 N (ub G) (ug G) a0 n) ih u x1 x3 h hP hS (lv_sub hl [0, 1, 3] rfl)
      · have h := mif_f c4 h
        refine u_aload_n (r := some a0) hx hb dX3_word_44 rfl (lv_at hl 0 rfl) ?_
        obtain ⟨o5, ho5, h⟩ := mbind_n h
        refine u_get hC hP (uGR_n ho5) rfl in_X3 (by decide) q1904 (fun _ h => h) dX3_word_45 ?_
        refine lv_iload_n hx hb dX3_word_48 rfl (lv_at hl 3 rfl) ?_
        obtain ⟨a6, ha6, hha6⟩ := mbind_n h
        subst ha6
        have h := hha6
        obtain ⟨y7, hy7, h⟩ := mbind_n h
        refine u_iald hC hP hy7 rfl dX3_word_49 ?_
        refine u_aload_n (r := x1) hx hb dX3_word_50 rfl (lv_at hl 1 rfl) ?_
        refine lv_iload_n hx hb dX3_word_51 rfl (lv_at hl 3 rfl) ?_
        obtain ⟨a8, ha8, hha8⟩ := mbind_n h
        subst ha8
        have h := hha8
        obtain ⟨c9, h⟩ := mif_n h
        obtain ⟨r12, u10, c11, h⟩ := ucall_n h
        have zu10 := zz_J6_charAt N (ub G) (ug G) u a8 x3 r12 u10 c11
        refine u_calli (va_runV (As := [.int x3]) (rest := [.int y7]) hC.1 (met_J6_charAt l N G u a8 x3 r12 u10 c11) (cwV 1 hts (lw_V q2178 q680 q681 q110 q682) rfl rfl rfl (by decide +kernel) ⟨Nat.le_trans (Nat.le_of_ble_eq_true rfl) hR.1, Nat.le_trans (Nat.le_of_ble_eq_true rfl) hR.2⟩) ⟨uPc_blind, u_rcv hC hP c9 rfl, fun U hU hW => u_pre hC hP hS hU hW⟩ rfl rfl hl.1 rfl (lv_room (Nat.le_of_ble_eq_true rfl)) dX3_word_52 ⟨Nat.zero_le _, Nat.zero_le _⟩) hS (fun H locs hP hS => ?_)
        refine lv_icmp_ne (tgt := 62) hx hb dX3_word_55 (by decide) (fun c13 => ?_) (fun c13 => ?_)
        · have h := mif_f c13 h
          exact w_X3_word_62 hC hR N (f_X3_word_32 N (ub G) (ug G) a0 n) ih u10 (some a8) x3 h hP hS (lv_sub hl [0, 1, 3] rfl)
        · have h := mif_t c13 h
          refine lv_iconst (v := 1) hx hb dX3_word_58 (by decide) ?_
          refine lv_goto (tgt := 63) hx hb dX3_word_59 (by decide) ?_
          exact w_X3_word_63 hC hR N (f_X3_word_32 N (ub G) (ug G) a0 n) ih u10 (some a8) x3 1 h hP hS (lv_sub hl [0, 1, 3] rfl)
def f_X3_word (N b : Nat) (g : uEnv) (u : UH) (a0 : Nat) (x1 : Option Nat) : Option (Int32 × UH) :=
    (uGI u a0 2 13).bind fun y1 =>
    if y1 = 0 then
    (uGI u a0 2 6).bind fun y3 =>
    if y3 = 2 then
    (uGI u a0 2 8).bind fun y5 =>
    (x1).bind fun a6 =>
    if uIs u a6 20 = true then
    ucall (f_J6_length N b g u a6) fun r10 u8 =>
    if y5 = r10 then
    f_X3_word_32 N b g a0 N u8 (some a6) 1 0
    else
    f_X3_word_26 N b g a0 u8
    else none
    else
    f_X3_word_26 N b g a0 u
    else
    f_X3_word_26 N b g a0 u
set_option maxHeartbeats 4000000 in
set_option maxRecDepth 100000 in
theorem zz_X3_word_0 {G : uG} {a0 : Nat} {uf : UH} {r : Int32} (N : Nat) (u : UH) (x1 : Option Nat) (h : f_X3_word N (ub G) (ug G) u a0 x1 = some (r, uf)) : uf.1 = u.1 ∧ uf.2.1 = u.2.1 := by
  unfold f_X3_word at h
  obtain ⟨y1, hy1, h⟩ := mbind_n h
  by_cases c2 : y1 = 0
  · have h := mif_t c2 h
    obtain ⟨y3, hy3, h⟩ := mbind_n h
    by_cases c4 : y3 = 2
    · have h := mif_t c4 h
      obtain ⟨y5, hy5, h⟩ := mbind_n h
      obtain ⟨a6, ha6, hha6⟩ := mbind_n h
      subst ha6
      have h := hha6
      obtain ⟨c7, h⟩ := mif_n h
      obtain ⟨r10, u8, c9, h⟩ := ucall_n h
      have zu8 := zz_J6_length N (ub G) (ug G) u a6 r10 u8 c9
      by_cases c11 : y5 = r10
      · have h := mif_t c11 h
        have hq := zz_X3_word_32 (G := G) (a0 := a0) N N u8 (some a6) 1 0 h
        exact ⟨by omega, by omega⟩
      · have h := mif_f c11 h
        have hq := zz_X3_word_26 (G := G) (a0 := a0) N u8 h
        exact ⟨by omega, by omega⟩
    · have h := mif_f c4 h
      have hq := zz_X3_word_26 (G := G) (a0 := a0) N u h
      exact ⟨by omega, by omega⟩
  · have h := mif_f c2 h
    have hq := zz_X3_word_26 (G := G) (a0 := a0) N u h
    exact ⟨by omega, by omega⟩
set_option maxHeartbeats 4000000 in
set_option maxRecDepth 100000 in
theorem w_X3_word_0 {p : Program} {l : Launch} {e : Env} {R : Room} {s : State} {m : MethodId} {args : Array Value} {below : List Frame} {meth : Method} {c : Code} {G : uG} {a0 : Nat} {uf : UH} {r : Int32} (hC : uC p s m args meth c G RX3 cX3_word 4 (some .boolean)) (hR : 4 ≤ R.frames ∧ 85 ≤ R.locals) (N : Nat) (u : UH) (x1 : Option Nat) (h : f_X3_word N (ub G) (ug G) u a0 x1 = some (r, uf)) {H : Heap} {locs : List Loc} (hP : uP G u H) (hS : va_S (uA G) s.heap H locs) {ls : Array Slot} (hl : lv_has ls 4 [(0, va_rf (some a0)), (1, va_rf x1)]) : W p l e R s m args below meth c H locs 0 0 (MQ below (uQi G r uf) args s 0 0 (uA G)) (F0 m 0 ls []) := by
  obtain ⟨⟨hx, hb, hml, hown, hts⟩, hKK⟩ := id hC
  unfold f_X3_word at h
  refine u_aload_n (r := some a0) hx hb dX3_word_0 rfl (lv_at hl 0 rfl) ?_
  obtain ⟨y1, hy1, h⟩ := mbind_n h
  refine u_get hC hP (uGI_n hy1) rfl in_X3 (by decide) q1906 (fun _ h => h) dX3_word_1 ?_
  refine lv_if_ne (tgt := 26) hx hb dX3_word_4 (by decide) (fun c2 => ?_) (fun c2 => ?_)
  · have h := mif_f c2 h
    exact w_X3_word_26 hC hR N u h hP hS (lv_sub hl [] rfl)
  · have h := mif_t c2 h
    refine u_aload_n (r := some a0) hx hb dX3_word_7 rfl (lv_at hl 0 rfl) ?_
    obtain ⟨y3, hy3, h⟩ := mbind_n h
    refine u_get hC hP (uGI_n hy3) rfl in_X3 (by decide) q1899 (fun _ h => h) dX3_word_8 ?_
    refine lv_iconst (v := 2) hx hb dX3_word_11 (by decide) ?_
    refine lv_icmp_ne (tgt := 26) hx hb dX3_word_12 (by decide) (fun c4 => ?_) (fun c4 => ?_)
    · have h := mif_f c4 h
      exact w_X3_word_26 hC hR N u h hP hS (lv_sub hl [] rfl)
    · have h := mif_t c4 h
      refine u_aload_n (r := some a0) hx hb dX3_word_15 rfl (lv_at hl 0 rfl) ?_
      obtain ⟨y5, hy5, h⟩ := mbind_n h
      refine u_get hC hP (uGI_n hy5) rfl in_X3 (by decide) q1901 (fun _ h => h) dX3_word_16 ?_
      refine u_aload_n (r := x1) hx hb dX3_word_19 rfl (lv_at hl 1 rfl) ?_
      obtain ⟨a6, ha6, hha6⟩ := mbind_n h
      subst ha6
      have h := hha6
      obtain ⟨c7, h⟩ := mif_n h
      obtain ⟨r10, u8, c9, h⟩ := ucall_n h
      have zu8 := zz_J6_length N (ub G) (ug G) u a6 r10 u8 c9
      refine u_calli (va_runV (As := []) (rest := [.int y5]) hC.1 (met_J6_length l N G u a6 r10 u8 c9) (cwV 0 hts (lw_V q2177 q572 q573 q110 q574) rfl rfl rfl (by decide +kernel) ⟨Nat.le_trans (Nat.le_of_ble_eq_true rfl) hR.1, Nat.le_trans (Nat.le_of_ble_eq_true rfl) hR.2⟩) ⟨uPc_blind, u_rcv hC hP c7 rfl, fun U hU hW => u_pre hC hP hS hU hW⟩ rfl rfl hl.1 rfl (lv_room (Nat.le_of_ble_eq_true rfl)) dX3_word_20 ⟨Nat.zero_le _, Nat.zero_le _⟩) hS (fun H locs hP hS => ?_)
      refine lv_icmp_eq (tgt := 28) hx hb dX3_word_23 (by decide) (fun c11 => ?_) (fun c11 => ?_)
      · have h := mif_t c11 h
        refine lv_iconst (v := 1) hx hb dX3_word_28 (by decide) ?_
        refine lv_istore_n (i := 2) (lv' := [(2, .int 1), (0, va_rf (some a0)), (1, va_rf (some a6))]) hx hb dX3_word_29 rfl hl (by decide) rfl (fun ls hl => ?_)
        refine lv_iconst (v := 0) hx hb dX3_word_30 (by decide) ?_
        refine lv_istore_n (i := 3) (lv' := [(3, .int 0), (2, .int 1), (0, va_rf (some a0)), (1, va_rf (some a6))]) hx hb dX3_word_31 rfl hl (by decide) rfl (fun ls hl => ?_)
        exact w_X3_word_32 hC hR N N u8 (some a6) 1 0 h _ _ hP hS _ (lv_sub hl [2, 3, 1, 0] rfl)
      · have h := mif_f c11 h
        exact w_X3_word_26 hC hR N u8 h hP hS (lv_sub hl [] rfl)
theorem zz_X3_word (N b : Nat) (g : uEnv) (u : UH) (a0 : Nat) (x1 : Option Nat) (r : Int32) (uf : UH) (h : f_X3_word N b g u a0 x1 = some (r, uf)) : uf.1 = u.1 ∧ uf.2.1 = u.2.1 :=
  zz_X3_word_0 (G := ((fun _ => 0, fun _ _ => 0), fun _ => 0, b, g)) (a0 := a0) N u x1 h
theorem met_X3_word (l : Launch) (N : Nat) (G : uG) (u : UH) (a0 : Nat) (x1 : Option Nat) (r : Int32) (uf : UH) (h : f_X3_word N (ub G) (ug G) u a0 x1 = some (r, uf)) : Met l yX3_word (ws_ yX3_word cX3_word 4 (some .boolean)) ({ frames := 4, cells := 0, slots := 0, locals := 85 }) (uPc G u [.ref a0, va_rf x1]) (uQi G r uf) 0 0 (uA G) := by
  rcases x1 with _ | x1 <;> exact u_met (own := RX3) (by decide +kernel) rfl (Nat.le_of_ble_eq_true rfl) (fun hC hn hsz ls hl hP => w_X3_word_0 hC ⟨Nat.le_refl _, Nat.le_refl _⟩ N u _ h hP va_S.rf hl)
def f_X3_isName_113 (N b : Nat) (g : uEnv) (a0 : Nat) (u : UH) (s0 : Int32) : Option (Int32 × UH) :=
    if uFit .boolean s0 = true then
    some (s0, u)
    else none
set_option maxHeartbeats 4000000 in
set_option maxRecDepth 100000 in
theorem zz_X3_isName_113 {G : uG} {a0 : Nat} {uf : UH} {r : Int32} (N : Nat) (u : UH) (s0 : Int32) (h : f_X3_isName_113 N (ub G) (ug G) a0 u s0 = some (r, uf)) : uf.1 = u.1 ∧ uf.2.1 = u.2.1 := by
  unfold f_X3_isName_113 at h
  obtain ⟨c1, h⟩ := mif_n h
  obtain ⟨hr1, hr2⟩ := uret_n h
  subst hr2
  exact ⟨by omega, by omega⟩
set_option maxHeartbeats 4000000 in
set_option maxRecDepth 100000 in
theorem w_X3_isName_113 {p : Program} {l : Launch} {e : Env} {R : Room} {s : State} {m : MethodId} {args : Array Value} {below : List Frame} {meth : Method} {c : Code} {G : uG} {a0 : Nat} {uf : UH} {r : Int32} (hC : uC p s m args meth c G RX3 cX3_isName 2 (some .boolean)) (hR : 5 ≤ R.frames ∧ 108 ≤ R.locals) (N : Nat) (u : UH) (s0 : Int32) (h : f_X3_isName_113 N (ub G) (ug G) a0 u s0 = some (r, uf)) {H : Heap} {locs : List Loc} (hP : uP G u H) (hS : va_S (uA G) s.heap H locs) {ls : Array Slot} (hl : lv_has ls 2 []) : W p l e R s m args below meth c H locs 0 0 (MQ below (uQi G r uf) args s 0 0 (uA G)) (F0 m 113 ls [.int s0]) := by
  obtain ⟨⟨hx, hb, hml, hown, hts⟩, hKK⟩ := id hC
  unfold f_X3_isName_113 at h
  obtain ⟨c1, h⟩ := mif_n h
  obtain ⟨hr1, hr2⟩ := uret_n h
  subst hr1
  subst hr2
  exact u_zret hC (uFit_n c1).1 hP hS dX3_isName_113
def f_X3_isName_112 (N b : Nat) (g : uEnv) (a0 : Nat) (u : UH) : Option (Int32 × UH) :=
    f_X3_isName_113 N b g a0 u 0
set_option maxHeartbeats 4000000 in
set_option maxRecDepth 100000 in
theorem zz_X3_isName_112 {G : uG} {a0 : Nat} {uf : UH} {r : Int32} (N : Nat) (u : UH) (h : f_X3_isName_112 N (ub G) (ug G) a0 u = some (r, uf)) : uf.1 = u.1 ∧ uf.2.1 = u.2.1 := by
  unfold f_X3_isName_112 at h
  have hq := zz_X3_isName_113 (G := G) (a0 := a0) N u 0 h
  exact ⟨by omega, by omega⟩
set_option maxHeartbeats 4000000 in
set_option maxRecDepth 100000 in
theorem w_X3_isName_112 {p : Program} {l : Launch} {e : Env} {R : Room} {s : State} {m : MethodId} {args : Array Value} {below : List Frame} {meth : Method} {c : Code} {G : uG} {a0 : Nat} {uf : UH} {r : Int32} (hC : uC p s m args meth c G RX3 cX3_isName 2 (some .boolean)) (hR : 5 ≤ R.frames ∧ 108 ≤ R.locals) (N : Nat) (u : UH) (h : f_X3_isName_112 N (ub G) (ug G) a0 u = some (r, uf)) {H : Heap} {locs : List Loc} (hP : uP G u H) (hS : va_S (uA G) s.heap H locs) {ls : Array Slot} (hl : lv_has ls 2 []) : W p l e R s m args below meth c H locs 0 0 (MQ below (uQi G r uf) args s 0 0 (uA G)) (F0 m 112 ls []) := by
  obtain ⟨⟨hx, hb, hml, hown, hts⟩, hKK⟩ := id hC
  unfold f_X3_isName_112 at h
  refine lv_iconst (v := 0) hx hb dX3_isName_112 (by decide) ?_
  exact w_X3_isName_113 hC hR N u 0 h hP hS (lv_sub hl [] rfl)
def f_X3_isName_95 (N b : Nat) (g : uEnv) (a0 : Nat) (u : UH) (s0 : Int32) : Option (Int32 × UH) :=
    (uGI u a0 2 6).bind fun y1 =>
    if y1 = 2 then
    if s0 = 0 then
    f_X3_isName_113 N b g a0 u 1
    else
    f_X3_isName_112 N b g a0 u
    else
    f_X3_isName_112 N b g a0 u
set_option maxHeartbeats 4000000 in
set_option maxRecDepth 100000 in
theorem zz_X3_isName_95 {G : uG} {a0 : Nat} {uf : UH} {r : Int32} (N : Nat) (u : UH) (s0 : Int32) (h : f_X3_isName_95 N (ub G) (ug G) a0 u s0 = some (r, uf)) : uf.1 = u.1 ∧ uf.2.1 = u.2.1 := by
  unfold f_X3_isName_95 at h
  obtain ⟨y1, hy1, h⟩ := mbind_n h
  by_cases c2 : y1 = 2
  · have h := mif_t c2 h
    by_cases c3 : s0 = 0
    · have h := mif_t c3 h
      have hq := zz_X3_isName_113 (G := G) (a0 := a0) N u 1 h
      exact ⟨by omega, by omega⟩
    · have h := mif_f c3 h
      have hq := zz_X3_isName_112 (G := G) (a0 := a0) N u h
      exact ⟨by omega, by omega⟩
  · have h := mif_f c2 h
    have hq := zz_X3_isName_112 (G := G) (a0 := a0) N u h
    exact ⟨by omega, by omega⟩
set_option maxHeartbeats 4000000 in
set_option maxRecDepth 100000 in
theorem w_X3_isName_95 {p : Program} {l : Launch} {e : Env} {R : Room} {s : State} {m : MethodId} {args : Array Value} {below : List Frame} {meth : Method} {c : Code} {G : uG} {a0 : Nat} {uf : UH} {r : Int32} (hC : uC p s m args meth c G RX3 cX3_isName 2 (some .boolean)) (hR : 5 ≤ R.frames ∧ 108 ≤ R.locals) (N : Nat) (u : UH) (s0 : Int32) (h : f_X3_isName_95 N (ub G) (ug G) a0 u s0 = some (r, uf)) {H : Heap} {locs : List Loc} (hP : uP G u H) (hS : va_S (uA G) s.heap H locs) {ls : Array Slot} (hl : lv_has ls 2 [(0, va_rf (some a0))]) : W p l e R s m args below meth c H locs 0 0 (MQ below (uQi G r uf) args s 0 0 (uA G)) (F0 m 95 ls [.int s0]) := by
  obtain ⟨⟨hx, hb, hml, hown, hts⟩, hKK⟩ := id hC
  unfold f_X3_isName_95 at h
  refine lv_istore_n (i := 1) (lv' := [(1, .int s0), (0, va_rf (some a0))]) hx hb dX3_isName_95 rfl hl (by decide) rfl (fun ls hl => ?_)
  refine u_aload_n (r := some a0) hx hb dX3_isName_96 rfl (lv_at hl 1 rfl) ?_
  obtain ⟨y1, hy1, h⟩ := mbind_n h
  refine u_get hC hP (uGI_n hy1) rfl in_X3 (by decide) q1899 (fun _ h => h) dX3_isName_97 ?_
  refine lv_iconst (v := 2) hx hb dX3_isName_100 (by decide) ?_
  refine lv_icmp_ne (tgt := 112) hx hb dX3_isName_101 (by decide) (fun c2 => ?_) (fun c2 => ?_)
  · have h := mif_f c2 h
    exact w_X3_isName_112 hC hR N u h hP hS (lv_sub hl [] rfl)
  · have h := mif_t c2 h
    refine lv_iload_n hx hb dX3_isName_104 rfl (lv_at hl 0 rfl) ?_
    refine lv_if_ne (tgt := 112) hx hb dX3_isName_105 (by decide) (fun c3 => ?_) (fun c3 => ?_)
    · have h := mif_f c3 h
      exact w_X3_isName_112 hC hR N u h hP hS (lv_sub hl [] rfl)
    · have h := mif_t c3 h
      refine lv_iconst (v := 1) hx hb dX3_isName_108 (by decide) ?_
      refine lv_goto (tgt := 113) hx hb dX3_isName_109 (by decide) ?_
      exact w_X3_isName_113 hC hR N u 1 h hP hS (lv_sub hl [] rfl)
def f_X3_isName_90 (N b : Nat) (g : uEnv) (a0 : Nat) (u : UH) : Option (Int32 × UH) :=
    f_X3_isName_95 N b g a0 u 1
set_option maxHeartbeats 4000000 in
set_option maxRecDepth 100000 in
theorem zz_X3_isName_90 {G : uG} {a0 : Nat} {uf : UH} {r : Int32} (N : Nat) (u : UH) (h : f_X3_isName_90 N (ub G) (ug G) a0 u = some (r, uf)) : uf.1 = u.1 ∧ uf.2.1 = u.2.1 := by
  unfold f_X3_isName_90 at h
  have hq := zz_X3_isName_95 (G := G) (a0 := a0) N u 1 h
  exact ⟨by omega, by omega⟩
set_option maxHeartbeats 4000000 in
set_option maxRecDepth 100000 in
theorem w_X3_isName_90 {p : Program} {l : Launch} {e : Env} {R : Room} {s : State} {m : MethodId} {args : Array Value} {below : List Frame} {meth : Method} {c : Code} {G : uG} {a0 : Nat} {uf : UH} {r : Int32} (hC : uC p s m args meth c G RX3 cX3_isName 2 (some .boolean)) (hR : 5 ≤ R.frames ∧ 108 ≤ R.locals) (N : Nat) (u : UH) (h : f_X3_isName_90 N (ub G) (ug G) a0 u = some (r, uf)) {H : Heap} {locs : List Loc} (hP : uP G u H) (hS : va_S (uA G) s.heap H locs) {ls : Array Slot} (hl : lv_has ls 2 [(0, va_rf (some a0))]) : W p l e R s m args below meth c H locs 0 0 (MQ below (uQi G r uf) args s 0 0 (uA G)) (F0 m 90 ls []) := by
  obtain ⟨⟨hx, hb, hml, hown, hts⟩, hKK⟩ := id hC
  unfold f_X3_isName_90 at h
  refine lv_iconst (v := 1) hx hb dX3_isName_90 (by decide) ?_
  refine lv_goto (tgt := 95) hx hb dX3_isName_91 (by decide) ?_
  exact w_X3_isName_95 hC hR N u 1 h hP hS (lv_sub hl [0] rfl)
def f_X3_isName (N b : Nat) (g : uEnv) (u : UH) (a0 : Nat) : Option (Int32 × UH) :=
    if uIs u a0 2 = true then
    ucall (f_X3_word N b g u a0 (some (g.2.1 32))) fun r4 u2 =>
    if r4 = 0 then
    if uIs u2 a0 2 = true then
    ucall (f_X3_word N b g u2 a0 (some (g.2.1 33))) fun r9 u7 =>
    if r9 = 0 then
    if uIs u7 a0 2 = true then
    ucall (f_X3_word N b g u7 a0 (some (g.2.1 34))) fun r14 u12 =>
    if r14 = 0 then
    if uIs u12 a0 2 = true then
    ucall (f_X3_word N b g u12 a0 (some (g.2.1 35))) fun r19 u17 =>
    if r19 = 0 then
    if uIs u17 a0 2 = true then
    ucall (f_X3_word N b g u17 a0 (some (g.2.1 36))) fun r24 u22 =>
    if r24 = 0 then
    if uIs u22 a0 2 = true then
    ucall (f_X3_word N b g u22 a0 (some (g.2.1 37))) fun r29 u27 =>
    if r29 = 0 then
    if uIs u27 a0 2 = true then
    ucall (f_X3_word N b g u27 a0 (some (g.2.1 38))) fun r34 u32 =>
    if r34 = 0 then
    if uIs u32 a0 2 = true then
    ucall (f_X3_word N b g u32 a0 (some (g.2.1 39))) fun r39 u37 =>
    if r39 = 0 then
    if uIs u37 a0 2 = true then
    ucall (f_X3_word N b g u37 a0 (some (g.2.1 40))) fun r44 u42 =>
    if r44 = 0 then
    if uIs u42 a0 2 = true then
    ucall (f_X3_word N b g u42 a0 (some (g.2.1 41))) fun r49 u47 =>
    if r49 = 0 then
    f_X3_isName_95 N b g a0 u47 0
    else
    f_X3_isName_90 N b g a0 u47
    else none
    else
    f_X3_isName_90 N b g a0 u42
    else none
    else
    f_X3_isName_90 N b g a0 u37
    else none
    else
    f_X3_isName_90 N b g a0 u32
    else none
    else
    f_X3_isName_90 N b g a0 u27
    else none
    else
    f_X3_isName_90 N b g a0 u22
    else none
    else
    f_X3_isName_90 N b g a0 u17
    else none
    else
    f_X3_isName_90 N b g a0 u12
    else none
    else
    f_X3_isName_90 N b g a0 u7
    else none
    else
    f_X3_isName_90 N b g a0 u2
    else none
set_option maxHeartbeats 4000000 in
set_option maxRecDepth 100000 in
theorem zz_X3_isName_0 {G : uG} {a0 : Nat} {uf : UH} {r : Int32} (N : Nat) (u : UH) (h : f_X3_isName N (ub G) (ug G) u a0 = some (r, uf)) : uf.1 = u.1 ∧ uf.2.1 = u.2.1 := by
  unfold f_X3_isName at h
  obtain ⟨c1, h⟩ := mif_n h
  obtain ⟨r4, u2, c3, h⟩ := ucall_n h
  have zu2 := zz_X3_word N (ub G) (ug G) u a0 (some ((ug G).2.1 32)) r4 u2 c3
  by_cases c5 : r4 = 0
  · have h := mif_t c5 h
    obtain ⟨c6, h⟩ := mif_n h
    obtain ⟨r9, u7, c8, h⟩ := ucall_n h
    have zu7 := zz_X3_word N (ub G) (ug G) u2 a0 (some ((ug G).2.1 33)) r9 u7 c8
    by_cases c10 : r9 = 0
    · have h := mif_t c10 h
      obtain ⟨c11, h⟩ := mif_n h
      obtain ⟨r14, u12, c13, h⟩ := ucall_n h
      have zu12 := zz_X3_word N (ub G) (ug G) u7 a0 (some ((ug G).2.1 34)) r14 u12 c13
      by_cases c15 : r14 = 0
      · have h := mif_t c15 h
        obtain ⟨c16, h⟩ := mif_n h
        obtain ⟨r19, u17, c18, h⟩ := ucall_n h
        have zu17 := zz_X3_word N (ub G) (ug G) u12 a0 (some ((ug G).2.1 35)) r19 u17 c18
        by_cases c20 : r19 = 0
        · have h := mif_t c20 h
          obtain ⟨c21, h⟩ := mif_n h
          obtain ⟨r24, u22, c23, h⟩ := ucall_n h
          have zu22 := zz_X3_word N (ub G) (ug G) u17 a0 (some ((ug G).2.1 36)) r24 u22 c23
          by_cases c25 : r24 = 0
          · have h := mif_t c25 h
            obtain ⟨c26, h⟩ := mif_n h
            obtain ⟨r29, u27, c28, h⟩ := ucall_n h
            have zu27 := zz_X3_word N (ub G) (ug G) u22 a0 (some ((ug G).2.1 37)) r29 u27 c28
            by_cases c30 : r29 = 0
            · have h := mif_t c30 h
              obtain ⟨c31, h⟩ := mif_n h
              obtain ⟨r34, u32, c33, h⟩ := ucall_n h
              have zu32 := zz_X3_word N (ub G) (ug G) u27 a0 (some ((ug G).2.1 38)) r34 u32 c33
              by_cases c35 : r34 = 0
              · have h := mif_t c35 h
                obtain ⟨c36, h⟩ := mif_n h
                obtain ⟨r39, u37, c38, h⟩ := ucall_n h
                have zu37 := zz_X3_word N (ub G) (ug G) u32 a0 (some ((ug G).2.1 39)) r39 u37 c38
                by_cases c40 : r39 = 0
                · have h := mif_t c40 h
                  obtain ⟨c41, h⟩ := mif_n h
                  obtain ⟨r44, u42, c43, h⟩ := ucall_n h
                  have zu42 := zz_X3_word N (ub G) (ug G) u37 a0 (some ((ug G).2.1 40)) r44 u42 c43
                  by_cases c45 : r44 = 0
                  · have h := mif_t c45 h
                    obtain ⟨c46, h⟩ := mif_n h
                    obtain ⟨r49, u47, c48, h⟩ := ucall_n h
                    have zu47 := zz_X3_word N (ub G) (ug G) u42 a0 (some ((ug G).2.1 41)) r49 u47 c48
                    by_cases c50 : r49 = 0
                    · have h := mif_t c50 h
                      have hq := zz_X3_isName_95 (G := G) (a0 := a0) N u47 0 h
                      exact ⟨by omega, by omega⟩
                    · have h := mif_f c50 h
                      have hq := zz_X3_isName_90 (G := G) (a0 := a0) N u47 h
                      exact ⟨by omega, by omega⟩
                  · have h := mif_f c45 h
                    have hq := zz_X3_isName_90 (G := G) (a0 := a0) N u42 h
                    exact ⟨by omega, by omega⟩
                · have h := mif_f c40 h
                  have hq := zz_X3_isName_90 (G := G) (a0 := a0) N u37 h
                  exact ⟨by omega, by omega⟩
              · have h := mif_f c35 h
                have hq := zz_X3_isName_90 (G := G) (a0 := a0) N u32 h
                exact ⟨by omega, by omega⟩
            · have h := mif_f c30 h
              have hq := zz_X3_isName_90 (G := G) (a0 := a0) N u27 h
              exact ⟨by omega, by omega⟩
          · have h := mif_f c25 h
            have hq := zz_X3_isName_90 (G := G) (a0 := a0) N u22 h
            exact ⟨by omega, by omega⟩
        · have h := mif_f c20 h
          have hq := zz_X3_isName_90 (G := G) (a0 := a0) N u17 h
          exact ⟨by omega, by omega⟩
      · have h := mif_f c15 h
        have hq := zz_X3_isName_90 (G := G) (a0 := a0) N u12 h
        exact ⟨by omega, by omega⟩
    · have h := mif_f c10 h
      have hq := zz_X3_isName_90 (G := G) (a0 := a0) N u7 h
      exact ⟨by omega, by omega⟩
  · have h := mif_f c5 h
    have hq := zz_X3_isName_90 (G := G) (a0 := a0) N u2 h
    exact ⟨by omega, by omega⟩
set_option maxHeartbeats 4000000 in
set_option maxRecDepth 100000 in
theorem w_X3_isName_0 {p : Program} {l : Launch} {e : Env} {R : Room} {s : State} {m : MethodId} {args : Array Value} {below : List Frame} {meth : Method} {c : Code} {G : uG} {a0 : Nat} {uf : UH} {r : Int32} (hC : uC p s m args meth c G RX3 cX3_isName 2 (some .boolean)) (hR : 5 ≤ R.frames ∧ 108 ≤ R.locals) (N : Nat) (u : UH) (h : f_X3_isName N (ub G) (ug G) u a0 = some (r, uf)) {H : Heap} {locs : List Loc} (hP : uP G u H) (hS : va_S (uA G) s.heap H locs) {ls : Array Slot} (hl : lv_has ls 2 [(0, va_rf (some a0))]) : W p l e R s m args below meth c H locs 0 0 (MQ below (uQi G r uf) args s 0 0 (uA G)) (F0 m 0 ls []) := by
  obtain ⟨⟨hx, hb, hml, hown, hts⟩, hKK⟩ := id hC
  unfold f_X3_isName at h
  refine u_aload_n (r := some a0) hx hb dX3_isName_0 rfl (lv_at hl 0 rfl) ?_
  refine u_ldcS hC 32 rfl dX3_isName_1 ?_
  obtain ⟨c1, h⟩ := mif_n h
  obtain ⟨r4, u2, c3, h⟩ := ucall_n h
  have zu2 := zz_X3_word N (ub G) (ug G) u a0 (some ((ug G).2.1 32)) r4 u2 c3
  refine u_calli (va_runV (As := [va_rf (some ((ug G).2.1 32))]) (rest := []) hC.1 (met_X3_word l N G u a0 (some ((ug G).2.1 32)) r4 u2 c3) (cwV 1 hts (lw_V q2173 q2175 qs48 q103 q2176) rfl rfl rfl (by decide +kernel) ⟨Nat.le_trans (Nat.le_of_ble_eq_true rfl) hR.1, Nat.le_trans (Nat.le_of_ble_eq_true rfl) hR.2⟩) ⟨uPc_blind, u_rcv hC hP c1 rfl, fun U hU hW => u_pre hC hP hS hU hW⟩ rfl rfl hl.1 rfl (lv_room (Nat.le_of_ble_eq_true rfl)) dX3_isName_3 ⟨Nat.zero_le _, Nat.zero_le _⟩) hS (fun H locs hP hS => ?_)
  refine lv_if_ne (tgt := 90) hx hb dX3_isName_6 (by decide) (fun c5 => ?_) (fun c5 => ?_)
  · have h := mif_f c5 h
    exact w_X3_isName_90 hC hR N u2 h hP hS (lv_sub hl [0] rfl)
  · have h := mif_t c5 h
    refine u_aload_n (r := some a0) hx hb dX3_isName_9 rfl (lv_at hl 0 rfl) ?_
    refine u_ldcS hC 33 rfl dX3_isName_10 ?_
    obtain ⟨c6, h⟩ := mif_n h
    obtain ⟨r9, u7, c8, h⟩ := ucall_n h
    have zu7 := zz_X3_word N (ub G) (ug G) u2 a0 (some ((ug G).2.1 33)) r9 u7 c8
    refine u_calli (va_runV (As := [va_rf (some ((ug G).2.1 33))]) (rest := []) hC.1 (met_X3_word l N G u2 a0 (some ((ug G).2.1 33)) r9 u7 c8) (cwV 1 hts (lw_V q2173 q2175 qs48 q103 q2176) rfl rfl rfl (by decide +kernel) ⟨Nat.le_trans (Nat.le_of_ble_eq_true rfl) hR.1, Nat.le_trans (Nat.le_of_ble_eq_true rfl) hR.2⟩) ⟨uPc_blind, u_rcv hC hP c6 rfl, fun U hU hW => u_pre hC hP hS hU hW⟩ rfl rfl hl.1 rfl (lv_room (Nat.le_of_ble_eq_true rfl)) dX3_isName_12 ⟨Nat.zero_le _, Nat.zero_le _⟩) hS (fun H locs hP hS => ?_)
    refine lv_if_ne (tgt := 90) hx hb dX3_isName_15 (by decide) (fun c10 => ?_) (fun c10 => ?_)
    · have h := mif_f c10 h
      exact w_X3_isName_90 hC hR N u7 h hP hS (lv_sub hl [0] rfl)
    · have h := mif_t c10 h
      refine u_aload_n (r := some a0) hx hb dX3_isName_18 rfl (lv_at hl 0 rfl) ?_
      refine u_ldcS hC 34 rfl dX3_isName_19 ?_
      obtain ⟨c11, h⟩ := mif_n h
      obtain ⟨r14, u12, c13, h⟩ := ucall_n h
      have zu12 := zz_X3_word N (ub G) (ug G) u7 a0 (some ((ug G).2.1 34)) r14 u12 c13
      refine u_calli (va_runV (As := [va_rf (some ((ug G).2.1 34))]) (rest := []) hC.1 (met_X3_word l N G u7 a0 (some ((ug G).2.1 34)) r14 u12 c13) (cwV 1 hts (lw_V q2173 q2175 qs48 q103 q2176) rfl rfl rfl (by decide +kernel) ⟨Nat.le_trans (Nat.le_of_ble_eq_true rfl) hR.1, Nat.le_trans (Nat.le_of_ble_eq_true rfl) hR.2⟩) ⟨uPc_blind, u_rcv hC hP c11 rfl, fun U hU hW => u_pre hC hP hS hU hW⟩ rfl rfl hl.1 rfl (lv_room (Nat.le_of_ble_eq_true rfl)) dX3_isName_21 ⟨Nat.zero_le _, Nat.zero_le _⟩) hS (fun H locs hP hS => ?_)
      refine lv_if_ne (tgt := 90) hx hb dX3_isName_24 (by decide) (fun c15 => ?_) (fun c15 => ?_)
      · have h := mif_f c15 h
        exact w_X3_isName_90 hC hR N u12 h hP hS (lv_sub hl [0] rfl)
      · have h := mif_t c15 h
        refine u_aload_n (r := some a0) hx hb dX3_isName_27 rfl (lv_at hl 0 rfl) ?_
        refine u_ldcS hC 35 rfl dX3_isName_28 ?_
        obtain ⟨c16, h⟩ := mif_n h
        obtain ⟨r19, u17, c18, h⟩ := ucall_n h
        have zu17 := zz_X3_word N (ub G) (ug G) u12 a0 (some ((ug G).2.1 35)) r19 u17 c18
        refine u_calli (va_runV (As := [va_rf (some ((ug G).2.1 35))]) (rest := []) hC.1 (met_X3_word l N G u12 a0 (some ((ug G).2.1 35)) r19 u17 c18) (cwV 1 hts (lw_V q2173 q2175 qs48 q103 q2176) rfl rfl rfl (by decide +kernel) ⟨Nat.le_trans (Nat.le_of_ble_eq_true rfl) hR.1, Nat.le_trans (Nat.le_of_ble_eq_true rfl) hR.2⟩) ⟨uPc_blind, u_rcv hC hP c16 rfl, fun U hU hW => u_pre hC hP hS hU hW⟩ rfl rfl hl.1 rfl (lv_room (Nat.le_of_ble_eq_true rfl)) dX3_isName_30 ⟨Nat.zero_le _, Nat.zero_le _⟩) hS (fun H locs hP hS => ?_)
        refine lv_if_ne (tgt := 90) hx hb dX3_isName_33 (by decide) (fun c20 => ?_) (fun c20 => ?_)
        · have h := mif_f c20 h
          exact w_X3_isName_90 hC hR N u17 h hP hS (lv_sub hl [0] rfl)
        · have h := mif_t c20 h
          refine u_aload_n (r := some a0) hx hb dX3_isName_36 rfl (lv_at hl 0 rfl) ?_
          refine u_ldcS hC 36 rfl dX3_isName_37 ?_
          obtain ⟨c21, h⟩ := mif_n h
          obtain ⟨r24, u22, c23, h⟩ := ucall_n h
          have zu22 := zz_X3_word N (ub G) (ug G) u17 a0 (some ((ug G).2.1 36)) r24 u22 c23
          refine u_calli (va_runV (As := [va_rf (some ((ug G).2.1 36))]) (rest := []) hC.1 (met_X3_word l N G u17 a0 (some ((ug G).2.1 36)) r24 u22 c23) (cwV 1 hts (lw_V q2173 q2175 qs48 q103 q2176) rfl rfl rfl (by decide +kernel) ⟨Nat.le_trans (Nat.le_of_ble_eq_true rfl) hR.1, Nat.le_trans (Nat.le_of_ble_eq_true rfl) hR.2⟩) ⟨uPc_blind, u_rcv hC hP c21 rfl, fun U hU hW => u_pre hC hP hS hU hW⟩ rfl rfl hl.1 rfl (lv_room (Nat.le_of_ble_eq_true rfl)) dX3_isName_39 ⟨Nat.zero_le _, Nat.zero_le _⟩) hS (fun H locs hP hS => ?_)
          refine lv_if_ne (tgt := 90) hx hb dX3_isName_42 (by decide) (fun c25 => ?_) (fun c25 => ?_)
          · have h := mif_f c25 h
            exact w_X3_isName_90 hC hR N u22 h hP hS (lv_sub hl [0] rfl)
          · have h := mif_t c25 h
            refine u_aload_n (r := some a0) hx hb dX3_isName_45 rfl (lv_at hl 0 rfl) ?_
            refine u_ldcS hC 37 rfl dX3_isName_46 ?_
            obtain ⟨c26, h⟩ := mif_n h
            obtain ⟨r29, u27, c28, h⟩ := ucall_n h
            have zu27 := zz_X3_word N (ub G) (ug G) u22 a0 (some ((ug G).2.1 37)) r29 u27 c28
            refine u_calli (va_runV (As := [va_rf (some ((ug G).2.1 37))]) (rest := []) hC.1 (met_X3_word l N G u22 a0 (some ((ug G).2.1 37)) r29 u27 c28) (cwV 1 hts (lw_V q2173 q2175 qs48 q103 q2176) rfl rfl rfl (by decide +kernel) ⟨Nat.le_trans (Nat.le_of_ble_eq_true rfl) hR.1, Nat.le_trans (Nat.le_of_ble_eq_true rfl) hR.2⟩) ⟨uPc_blind, u_rcv hC hP c26 rfl, fun U hU hW => u_pre hC hP hS hU hW⟩ rfl rfl hl.1 rfl (lv_room (Nat.le_of_ble_eq_true rfl)) dX3_isName_48 ⟨Nat.zero_le _, Nat.zero_le _⟩) hS (fun H locs hP hS => ?_)
            refine lv_if_ne (tgt := 90) hx hb dX3_isName_51 (by decide) (fun c30 => ?_) (fun c30 => ?_)
            · have h := mif_f c30 h
              exact w_X3_isName_90 hC hR N u27 h hP hS (lv_sub hl [0] rfl)
            · have h := mif_t c30 h
              refine u_aload_n (r := some a0) hx hb dX3_isName_54 rfl (lv_at hl 0 rfl) ?_
              refine u_ldcS hC 38 rfl dX3_isName_55 ?_
              obtain ⟨c31, h⟩ := mif_n h
              obtain ⟨r34, u32, c33, h⟩ := ucall_n h
              have zu32 := zz_X3_word N (ub G) (ug G) u27 a0 (some ((ug G).2.1 38)) r34 u32 c33
              refine u_calli (va_runV (As := [va_rf (some ((ug G).2.1 38))]) (rest := []) hC.1 (met_X3_word l N G u27 a0 (some ((ug G).2.1 38)) r34 u32 c33) (cwV 1 hts (lw_V q2173 q2175 qs48 q103 q2176) rfl rfl rfl (by decide +kernel) ⟨Nat.le_trans (Nat.le_of_ble_eq_true rfl) hR.1, Nat.le_trans (Nat.le_of_ble_eq_true rfl) hR.2⟩) ⟨uPc_blind, u_rcv hC hP c31 rfl, fun U hU hW => u_pre hC hP hS hU hW⟩ rfl rfl hl.1 rfl (lv_room (Nat.le_of_ble_eq_true rfl)) dX3_isName_57 ⟨Nat.zero_le _, Nat.zero_le _⟩) hS (fun H locs hP hS => ?_)
              refine lv_if_ne (tgt := 90) hx hb dX3_isName_60 (by decide) (fun c35 => ?_) (fun c35 => ?_)
              · have h := mif_f c35 h
                exact w_X3_isName_90 hC hR N u32 h hP hS (lv_sub hl [0] rfl)
              · have h := mif_t c35 h
                refine u_aload_n (r := some a0) hx hb dX3_isName_63 rfl (lv_at hl 0 rfl) ?_
                refine u_ldcS hC 39 rfl dX3_isName_64 ?_
                obtain ⟨c36, h⟩ := mif_n h
                obtain ⟨r39, u37, c38, h⟩ := ucall_n h
                have zu37 := zz_X3_word N (ub G) (ug G) u32 a0 (some ((ug G).2.1 39)) r39 u37 c38
                refine u_calli (va_runV (As := [va_rf (some ((ug G).2.1 39))]) (rest := []) hC.1 (met_X3_word l N G u32 a0 (some ((ug G).2.1 39)) r39 u37 c38) (cwV 1 hts (lw_V q2173 q2175 qs48 q103 q2176) rfl rfl rfl (by decide +kernel) ⟨Nat.le_trans (Nat.le_of_ble_eq_true rfl) hR.1, Nat.le_trans (Nat.le_of_ble_eq_true rfl) hR.2⟩) ⟨uPc_blind, u_rcv hC hP c36 rfl, fun U hU hW => u_pre hC hP hS hU hW⟩ rfl rfl hl.1 rfl (lv_room (Nat.le_of_ble_eq_true rfl)) dX3_isName_66 ⟨Nat.zero_le _, Nat.zero_le _⟩) hS (fun H locs hP hS => ?_)
                refine lv_if_ne (tgt := 90) hx hb dX3_isName_69 (by decide) (fun c40 => ?_) (fun c40 => ?_)
                · have h := mif_f c40 h
                  exact w_X3_isName_90 hC hR N u37 h hP hS (lv_sub hl [0] rfl)
                · have h := mif_t c40 h
                  refine u_aload_n (r := some a0) hx hb dX3_isName_72 rfl (lv_at hl 0 rfl) ?_
                  refine u_ldcS hC 40 rfl dX3_isName_73 ?_
                  obtain ⟨c41, h⟩ := mif_n h
                  obtain ⟨r44, u42, c43, h⟩ := ucall_n h
                  have zu42 := zz_X3_word N (ub G) (ug G) u37 a0 (some ((ug G).2.1 40)) r44 u42 c43
                  refine u_calli (va_runV (As := [va_rf (some ((ug G).2.1 40))]) (rest := []) hC.1 (met_X3_word l N G u37 a0 (some ((ug G).2.1 40)) r44 u42 c43) (cwV 1 hts (lw_V q2173 q2175 qs48 q103 q2176) rfl rfl rfl (by decide +kernel) ⟨Nat.le_trans (Nat.le_of_ble_eq_true rfl) hR.1, Nat.le_trans (Nat.le_of_ble_eq_true rfl) hR.2⟩) ⟨uPc_blind, u_rcv hC hP c41 rfl, fun U hU hW => u_pre hC hP hS hU hW⟩ rfl rfl hl.1 rfl (lv_room (Nat.le_of_ble_eq_true rfl)) dX3_isName_75 ⟨Nat.zero_le _, Nat.zero_le _⟩) hS (fun H locs hP hS => ?_)
                  refine lv_if_ne (tgt := 90) hx hb dX3_isName_78 (by decide) (fun c45 => ?_) (fun c45 => ?_)
                  · have h := mif_f c45 h
                    exact w_X3_isName_90 hC hR N u42 h hP hS (lv_sub hl [0] rfl)
                  · have h := mif_t c45 h
                    refine u_aload_n (r := some a0) hx hb dX3_isName_81 rfl (lv_at hl 0 rfl) ?_
                    refine u_ldcS hC 41 rfl dX3_isName_82 ?_
                    obtain ⟨c46, h⟩ := mif_n h
                    obtain ⟨r49, u47, c48, h⟩ := ucall_n h
                    have zu47 := zz_X3_word N (ub G) (ug G) u42 a0 (some ((ug G).2.1 41)) r49 u47 c48
                    refine u_calli (va_runV (As := [va_rf (some ((ug G).2.1 41))]) (rest := []) hC.1 (met_X3_word l N G u42 a0 (some ((ug G).2.1 41)) r49 u47 c48) (cwV 1 hts (lw_V q2173 q2175 qs48 q103 q2176) rfl rfl rfl (by decide +kernel) ⟨Nat.le_trans (Nat.le_of_ble_eq_true rfl) hR.1, Nat.le_trans (Nat.le_of_ble_eq_true rfl) hR.2⟩) ⟨uPc_blind, u_rcv hC hP c46 rfl, fun U hU hW => u_pre hC hP hS hU hW⟩ rfl rfl hl.1 rfl (lv_room (Nat.le_of_ble_eq_true rfl)) dX3_isName_84 ⟨Nat.zero_le _, Nat.zero_le _⟩) hS (fun H locs hP hS => ?_)
                    refine lv_if_eq (tgt := 94) hx hb dX3_isName_87 (by decide) (fun c50 => ?_) (fun c50 => ?_)
                    · have h := mif_t c50 h
                      refine lv_iconst (v := 0) hx hb dX3_isName_94 (by decide) ?_
                      exact w_X3_isName_95 hC hR N u47 0 h hP hS (lv_sub hl [0] rfl)
                    · have h := mif_f c50 h
                      exact w_X3_isName_90 hC hR N u47 h hP hS (lv_sub hl [0] rfl)
theorem zz_X3_isName (N b : Nat) (g : uEnv) (u : UH) (a0 : Nat) (r : Int32) (uf : UH) (h : f_X3_isName N b g u a0 = some (r, uf)) : uf.1 = u.1 ∧ uf.2.1 = u.2.1 :=
  zz_X3_isName_0 (G := ((fun _ => 0, fun _ _ => 0), fun _ => 0, b, g)) (a0 := a0) N u h
theorem met_X3_isName (l : Launch) (N : Nat) (G : uG) (u : UH) (a0 : Nat) (r : Int32) (uf : UH) (h : f_X3_isName N (ub G) (ug G) u a0 = some (r, uf)) : Met l yX3_isName (ws_ yX3_isName cX3_isName 2 (some .boolean)) ({ frames := 5, cells := 0, slots := 0, locals := 108 }) (uPc G u [.ref a0]) (uQi G r uf) 0 0 (uA G) := by
  exact u_met (own := RX3) (by decide +kernel) rfl (Nat.le_of_ble_eq_true rfl) (fun hC hn hsz ls hl hP => w_X3_isName_0 hC ⟨Nat.le_refl _, Nat.le_refl _⟩ N u h hP va_S.rf hl)
def f_X3_wrong_22 (N b : Nat) (g : uEnv) (a0 : Nat) (u : UH) : Option (Int32 × UH) :=
    some (0, u)
set_option maxHeartbeats 4000000 in
set_option maxRecDepth 100000 in
theorem zz_X3_wrong_22 {G : uG} {a0 : Nat} {uf : UH} {r : Int32} (N : Nat) (u : UH) (h : f_X3_wrong_22 N (ub G) (ug G) a0 u = some (r, uf)) : uf.1 = u.1 ∧ uf.2.1 = u.2.1 := by
  unfold f_X3_wrong_22 at h
  obtain ⟨hr1, hr2⟩ := uret_n h
  subst hr2
  exact ⟨by omega, by omega⟩
set_option maxHeartbeats 4000000 in
set_option maxRecDepth 100000 in
theorem w_X3_wrong_22 {p : Program} {l : Launch} {e : Env} {R : Room} {s : State} {m : MethodId} {args : Array Value} {below : List Frame} {meth : Method} {c : Code} {G : uG} {a0 : Nat} {uf : UH} {r : Int32} (hC : uC p s m args meth c G RX3 cX3_wrong 3 (some .boolean)) (hR : 0 ≤ R.frames ∧ 0 ≤ R.locals) (N : Nat) (u : UH) (h : f_X3_wrong_22 N (ub G) (ug G) a0 u = some (r, uf)) {H : Heap} {locs : List Loc} (hP : uP G u H) (hS : va_S (uA G) s.heap H locs) {ls : Array Slot} (hl : lv_has ls 3 []) : W p l e R s m args below meth c H locs 0 0 (MQ below (uQi G r uf) args s 0 0 (uA G)) (F0 m 22 ls []) := by
  obtain ⟨⟨hx, hb, hml, hown, hts⟩, hKK⟩ := id hC
  unfold f_X3_wrong_22 at h
  refine lv_iconst (v := 0) hx hb dX3_wrong_22 (by decide) ?_
  obtain ⟨hr1, hr2⟩ := uret_n h
  subst hr1
  subst hr2
  exact u_zret hC (uFit_n (ty := .boolean) (v := 0) rfl).1 hP hS dX3_wrong_23
def f_X3_wrong (N b : Nat) (g : uEnv) (u : UH) (a0 : Nat) (x1 : Int32) (x2 : Int32) : Option (Int32 × UH) :=
    (uGI u a0 2 13).bind fun y1 =>
    if y1 = 0 then
    (uPut b u a0 2 13 (.int 1)).bind fun u3 =>
    (uPut b u3 a0 2 9 (.int x1)).bind fun u4 =>
    (uPut b u4 a0 2 10 (.int x2)).bind fun u5 =>
    f_X3_wrong_22 N b g a0 u5
    else
    f_X3_wrong_22 N b g a0 u
set_option maxHeartbeats 4000000 in
set_option maxRecDepth 100000 in
theorem zz_X3_wrong_0 {G : uG} {a0 : Nat} {uf : UH} {r : Int32} (N : Nat) (u : UH) (x1 : Int32) (x2 : Int32) (h : f_X3_wrong N (ub G) (ug G) u a0 x1 x2 = some (r, uf)) : uf.1 = u.1 ∧ uf.2.1 = u.2.1 := by
  unfold f_X3_wrong at h
  obtain ⟨y1, hy1, h⟩ := mbind_n h
  by_cases c2 : y1 = 0
  · have h := mif_t c2 h
    obtain ⟨u3, hu3, h⟩ := mbind_n h
    have zu3 := uPut_sz hu3
    obtain ⟨u4, hu4, h⟩ := mbind_n h
    have zu4 := uPut_sz hu4
    obtain ⟨u5, hu5, h⟩ := mbind_n h
    have zu5 := uPut_sz hu5
    have hq := zz_X3_wrong_22 (G := G) (a0 := a0) N u5 h
    exact ⟨by omega, by omega⟩
  · have h := mif_f c2 h
    have hq := zz_X3_wrong_22 (G := G) (a0 := a0) N u h
    exact ⟨by omega, by omega⟩
set_option maxHeartbeats 4000000 in
set_option maxRecDepth 100000 in
theorem w_X3_wrong_0 {p : Program} {l : Launch} {e : Env} {R : Room} {s : State} {m : MethodId} {args : Array Value} {below : List Frame} {meth : Method} {c : Code} {G : uG} {a0 : Nat} {uf : UH} {r : Int32} (hC : uC p s m args meth c G RX3 cX3_wrong 3 (some .boolean)) (hR : 0 ≤ R.frames ∧ 0 ≤ R.locals) (N : Nat) (u : UH) (x1 : Int32) (x2 : Int32) (h : f_X3_wrong N (ub G) (ug G) u a0 x1 x2 = some (r, uf)) {H : Heap} {locs : List Loc} (hP : uP G u H) (hS : va_S (uA G) s.heap H locs) {ls : Array Slot} (hl : lv_has ls 3 [(0, va_rf (some a0)), (1, .int x1), (2, .int x2)]) : W p l e R s m args below meth c H locs 0 0 (MQ below (uQi G r uf) args s 0 0 (uA G)) (F0 m 0 ls []) := by
  obtain ⟨⟨hx, hb, hml, hown, hts⟩, hKK⟩ := id hC
  unfold f_X3_wrong at h
  refine u_aload_n (r := some a0) hx hb dX3_wrong_0 rfl (lv_at hl 0 rfl) ?_
  obtain ⟨y1, hy1, h⟩ := mbind_n h
  refine u_get hC hP (uGI_n hy1) rfl in_X3 (by decide) q1906 (fun _ h => h) dX3_wrong_1 ?_
  refine lv_if_ne (tgt := 22) hx hb dX3_wrong_4 (by decide) (fun c2 => ?_) (fun c2 => ?_)
  · have h := mif_f c2 h
    exact w_X3_wrong_22 hC hR N u h hP hS (lv_sub hl [] rfl)
  · have h := mif_t c2 h
    refine u_aload_n (r := some a0) hx hb dX3_wrong_7 rfl (lv_at hl 0 rfl) ?_
    refine lv_iconst (v := 1) hx hb dX3_wrong_8 (by decide) ?_
    obtain ⟨u3, hu3, h⟩ := mbind_n h
    have zu3 := uPut_sz hu3
    refine u_put hC hP hS hu3 rfl in_X3 tyX3 tyX3_ok nmX3 (by decide) q1906 (fun _ h => h) rfl (ty := .boolean) (tyX3_ok 13 (by decide)) (uFit_n (ty := .boolean) (v := 1) rfl).1 (uFit_n (ty := .boolean) (v := 1) rfl).2 dX3_wrong_9 (fun H locs hP hS => ?_)
    refine u_aload_n (r := some a0) hx hb dX3_wrong_12 rfl (lv_at hl 0 rfl) ?_
    refine lv_iload_n hx hb dX3_wrong_13 rfl (lv_at hl 1 rfl) ?_
    obtain ⟨u4, hu4, h⟩ := mbind_n h
    have zu4 := uPut_sz hu4
    refine u_put hC hP hS hu4 rfl in_X3 tyX3 tyX3_ok nmX3 (by decide) q1902 (fun _ h => h) rfl (ty := .int) (tyX3_ok 9 (by decide)) rfl rfl dX3_wrong_14 (fun H locs hP hS => ?_)
    refine u_aload_n (r := some a0) hx hb dX3_wrong_17 rfl (lv_at hl 0 rfl) ?_
    refine lv_iload_n hx hb dX3_wrong_18 rfl (lv_at hl 2 rfl) ?_
    obtain ⟨u5, hu5, h⟩ := mbind_n h
    have zu5 := uPut_sz hu5
    refine u_put hC hP hS hu5 rfl in_X3 tyX3 tyX3_ok nmX3 (by decide) q1903 (fun _ h => h) rfl (ty := .int) (tyX3_ok 10 (by decide)) rfl rfl dX3_wrong_19 (fun H locs hP hS => ?_)
    exact w_X3_wrong_22 hC hR N u5 h hP hS (lv_sub hl [] rfl)
theorem zz_X3_wrong (N b : Nat) (g : uEnv) (u : UH) (a0 : Nat) (x1 : Int32) (x2 : Int32) (r : Int32) (uf : UH) (h : f_X3_wrong N b g u a0 x1 x2 = some (r, uf)) : uf.1 = u.1 ∧ uf.2.1 = u.2.1 :=
  zz_X3_wrong_0 (G := ((fun _ => 0, fun _ _ => 0), fun _ => 0, b, g)) (a0 := a0) N u x1 x2 h
theorem met_X3_wrong (l : Launch) (N : Nat) (G : uG) (u : UH) (a0 : Nat) (x1 : Int32) (x2 : Int32) (r : Int32) (uf : UH) (h : f_X3_wrong N (ub G) (ug G) u a0 x1 x2 = some (r, uf)) : Met l yX3_wrong (ws_ yX3_wrong cX3_wrong 3 (some .boolean)) ({ frames := 0, cells := 0, slots := 0, locals := 0 }) (uPc G u [.ref a0, .int x1, .int x2]) (uQi G r uf) 0 0 (uA G) := by
  exact u_met (own := RX3) (by decide +kernel) rfl (Nat.le_of_ble_eq_true rfl) (fun hC hn hsz ls hl hP => w_X3_wrong_0 hC ⟨Nat.le_refl _, Nat.le_refl _⟩ N u x1 x2 h hP va_S.rf hl)
def f_X3_find_77 (N b : Nat) (g : uEnv) (a0 : Nat) (k3 : UH → Option Nat → Option Nat → Int32 → Int32 → Option (Int32 × UH)) (u : UH) (x1 : Option Nat) (x2 : Option Nat) (x3 : Int32) (x4 : Int32) (x5 : Int32) : Option (Int32 × UH) :=
    if x5 = 0 then
    mlet (x4 + 1) fun y2 =>
    k3 u x1 x2 x3 y2
    else
    some (x4, u)
set_option maxHeartbeats 4000000 in
set_option maxRecDepth 100000 in
theorem zz_X3_find_77 {G : uG} {a0 : Nat} {uf : UH} {r : Int32} (N : Nat) (k3 : UH → Option Nat → Option Nat → Int32 → Int32 → Option (Int32 × UH)) (hk3 : ∀ (u : UH) (x1 : Option Nat) (x2 : Option Nat) (x3 : Int32) (x4 : Int32), k3 u x1 x2 x3 x4 = some (r, uf) → uf.1 = u.1 ∧ uf.2.1 = u.2.1) (u : UH) (x1 : Option Nat) (x2 : Option Nat) (x3 : Int32) (x4 : Int32) (x5 : Int32) (h : f_X3_find_77 N (ub G) (ug G) a0 k3 u x1 x2 x3 x4 x5 = some (r, uf)) : uf.1 = u.1 ∧ uf.2.1 = u.2.1 := by
  unfold f_X3_find_77 at h
  by_cases c1 : x5 = 0
  · have h := mif_t c1 h
    obtain ⟨y2, ey2⟩ : ∃ z : Int32, z = x4 + 1 := ⟨_, rfl⟩
    have h := mlet_at ey2 h
    have hq := hk3 u x1 x2 x3 y2 h
    exact ⟨by omega, by omega⟩
  · have h := mif_f c1 h
    obtain ⟨hr1, hr2⟩ := uret_n h
    subst hr2
    exact ⟨by omega, by omega⟩
set_option maxHeartbeats 4000000 in
set_option maxRecDepth 100000 in
theorem w_X3_find_77 {p : Program} {l : Launch} {e : Env} {R : Room} {s : State} {m : MethodId} {args : Array Value} {below : List Frame} {meth : Method} {c : Code} {G : uG} {a0 : Nat} {uf : UH} {r : Int32} (hC : uC p s m args meth c G RX3 cX3_find 7 (some .int)) (hR : 0 ≤ R.frames ∧ 0 ≤ R.locals) (N : Nat) (k3 : UH → Option Nat → Option Nat → Int32 → Int32 → Option (Int32 × UH)) (hk3 : ∀ (u : UH) (x1 : Option Nat) (x2 : Option Nat) (x3 : Int32) (x4 : Int32), k3 u x1 x2 x3 x4 = some (r, uf) → ∀ (H : Heap) (locs : List Loc), uP G u H → va_S (uA G) s.heap H locs → ∀ ls : Array Slot, lv_has ls 7 [(0, va_rf (some a0)), (1, va_rf x1), (2, va_rf x2), (3, .int x3), (4, .int x4)] → W p l e R s m args below meth c H locs 0 0 (MQ below (uQi G r uf) args s 0 0 (uA G)) (F0 m 3 ls [])) (u : UH) (x1 : Option Nat) (x2 : Option Nat) (x3 : Int32) (x4 : Int32) (x5 : Int32) (h : f_X3_find_77 N (ub G) (ug G) a0 k3 u x1 x2 x3 x4 x5 = some (r, uf)) {H : Heap} {locs : List Loc} (hP : uP G u H) (hS : va_S (uA G) s.heap H locs) {ls : Array Slot} (hl : lv_has ls 7 [(0, va_rf (some a0)), (1, va_rf x1), (2, va_rf x2), (3, .int x3), (4, .int x4), (5, .int x5)]) : W p l e R s m args below meth c H locs 0 0 (MQ below (uQi G r uf) args s 0 0 (uA G)) (F0 m 77 ls []) := by
  obtain ⟨⟨hx, hb, hml, hown, hts⟩, hKK⟩ := id hC
  unfold f_X3_find_77 at h
  refine lv_iload hx hb dX3_find_77 (lv_at hl 5 rfl) ?_
  refine lv_if_eq (tgt := 85) hx hb dX3_find_79 (by decide) (fun c1 => ?_) (fun c1 => ?_)
  · have h := mif_t c1 h
    obtain ⟨y2, ey2⟩ : ∃ z : Int32, z = x4 + 1 := ⟨_, rfl⟩
    have h := mlet_at ey2 h
    refine lv_iinc (v := y2) (lv' := [(4, .int y2), (0, va_rf (some a0)), (1, va_rf x1), (2, va_rf x2), (3, .int x3), (5, .int x5)]) hx hb dX3_find_85 hl (k := 4) rfl (by rw [ey2]; rfl) (by decide) rfl (fun ls hl => ?_)
    refine lv_goto (tgt := 3) hx hb dX3_find_88 (by decide) ?_
    exact hk3 u x1 x2 x3 y2 h _ _ hP hS _ (lv_sub hl [1, 2, 3, 4, 0] rfl)
  · have h := mif_f c1 h
    refine lv_iload hx hb dX3_find_82 (lv_at hl 4 rfl) ?_
    obtain ⟨hr1, hr2⟩ := uret_n h
    subst hr1
    subst hr2
    exact u_iret hC hP hS dX3_find_84
def f_X3_find_69 (N b : Nat) (g : uEnv) (a0 : Nat) (k3 : UH → Option Nat → Option Nat → Int32 → Int32 → Option (Int32 × UH)) (k30 : UH → Option Nat → Option Nat → Int32 → Int32 → Int32 → Int32 → Option (Int32 × UH)) (u : UH) (x1 : Option Nat) (x2 : Option Nat) (x3 : Int32) (x4 : Int32) (x6 : Int32) (s0 : Int32) : Option (Int32 × UH) :=
    mlet (x6 + 1) fun y1 =>
    k30 u x1 x2 x3 x4 s0 y1
set_option maxHeartbeats 4000000 in
set_option maxRecDepth 100000 in
theorem zz_X3_find_69 {G : uG} {a0 : Nat} {uf : UH} {r : Int32} (N : Nat) (k3 : UH → Option Nat → Option Nat → Int32 → Int32 → Option (Int32 × UH)) (hk3 : ∀ (u : UH) (x1 : Option Nat) (x2 : Option Nat) (x3 : Int32) (x4 : Int32), k3 u x1 x2 x3 x4 = some (r, uf) → uf.1 = u.1 ∧ uf.2.1 = u.2.1) (k30 : UH → Option Nat → Option Nat → Int32 → Int32 → Int32 → Int32 → Option (Int32 × UH)) (hk30 : ∀ (u : UH) (x1 : Option Nat) (x2 : Option Nat) (x3 : Int32) (x4 : Int32) (x5 : Int32) (x6 : Int32), k30 u x1 x2 x3 x4 x5 x6 = some (r, uf) → uf.1 = u.1 ∧ uf.2.1 = u.2.1) (u : UH) (x1 : Option Nat) (x2 : Option Nat) (x3 : Int32) (x4 : Int32) (x6 : Int32) (s0 : Int32) (h : f_X3_find_69 N (ub G) (ug G) a0 k3 k30 u x1 x2 x3 x4 x6 s0 = some (r, uf)) : uf.1 = u.1 ∧ uf.2.1 = u.2.1 := by
  unfold f_X3_find_69 at h
  obtain ⟨y1, ey1⟩ : ∃ z : Int32, z = x6 + 1 := ⟨_, rfl⟩
  have h := mlet_at ey1 h
  have hq := hk30 u x1 x2 x3 x4 s0 y1 h
  exact ⟨by omega, by omega⟩
set_option maxHeartbeats 4000000 in
set_option maxRecDepth 100000 in
theorem w_X3_find_69 {p : Program} {l : Launch} {e : Env} {R : Room} {s : State} {m : MethodId} {args : Array Value} {below : List Frame} {meth : Method} {c : Code} {G : uG} {a0 : Nat} {uf : UH} {r : Int32} (hC : uC p s m args meth c G RX3 cX3_find 7 (some .int)) (hR : 0 ≤ R.frames ∧ 0 ≤ R.locals) (N : Nat) (k3 : UH → Option Nat → Option Nat → Int32 → Int32 → Option (Int32 × UH)) (hk3 : ∀ (u : UH) (x1 : Option Nat) (x2 : Option Nat) (x3 : Int32) (x4 : Int32), k3 u x1 x2 x3 x4 = some (r, uf) → ∀ (H : Heap) (locs : List Loc), uP G u H → va_S (uA G) s.heap H locs → ∀ ls : Array Slot, lv_has ls 7 [(0, va_rf (some a0)), (1, va_rf x1), (2, va_rf x2), (3, .int x3), (4, .int x4)] → W p l e R s m args below meth c H locs 0 0 (MQ below (uQi G r uf) args s 0 0 (uA G)) (F0 m 3 ls [])) (k30 : UH → Option Nat → Option Nat → Int32 → Int32 → Int32 → Int32 → Option (Int32 × UH)) (hk30 : ∀ (u : UH) (x1 : Option Nat) (x2 : Option Nat) (x3 : Int32) (x4 : Int32) (x5 : Int32) (x6 : Int32), k30 u x1 x2 x3 x4 x5 x6 = some (r, uf) → ∀ (H : Heap) (locs : List Loc), uP G u H → va_S (uA G) s.heap H locs → ∀ ls : Array Slot, lv_has ls 7 [(0, va_rf (some a0)), (1, va_rf x1), (2, va_rf x2), (3, .int x3), (4, .int x4), (5, .int x5), (6, .int x6)] → W p l e R s m args below meth c H locs 0 0 (MQ below (uQi G r uf) args s 0 0 (uA G)) (F0 m 30 ls [])) (u : UH) (x1 : Option Nat) (x2 : Option Nat) (x3 : Int32) (x4 : Int32) (x6 : Int32) (s0 : Int32) (h : f_X3_find_69 N (ub G) (ug G) a0 k3 k30 u x1 x2 x3 x4 x6 s0 = some (r, uf)) {H : Heap} {locs : List Loc} (hP : uP G u H) (hS : va_S (uA G) s.heap H locs) {ls : Array Slot} (hl : lv_has ls 7 [(0, va_rf (some a0)), (1, va_rf x1), (2, va_rf x2), (3, .int x3), (4, .int x4), (6, .int x6)]) : W p l e R s m args below meth c H locs 0 0 (MQ below (uQi G r uf) args s 0 0 (uA G)) (F0 m 69 ls [.int s0]) := by
  obtain ⟨⟨hx, hb, hml, hown, hts⟩, hKK⟩ := id hC
  unfold f_X3_find_69 at h
  refine lv_istore (lv' := [(5, .int s0), (0, va_rf (some a0)), (1, va_rf x1), (2, va_rf x2), (3, .int x3), (4, .int x4), (6, .int x6)]) hx hb dX3_find_69 hl (by decide) rfl (fun ls hl => ?_)
  obtain ⟨y1, ey1⟩ : ∃ z : Int32, z = x6 + 1 := ⟨_, rfl⟩
  have h := mlet_at ey1 h
  refine lv_iinc (v := y1) (lv' := [(6, .int y1), (5, .int s0), (0, va_rf (some a0)), (1, va_rf x1), (2, va_rf x2), (3, .int x3), (4, .int x4)]) hx hb dX3_find_71 hl (k := 6) rfl (by rw [ey1]; rfl) (by decide) rfl (fun ls hl => ?_)
  refine lv_goto (tgt := 30) hx hb dX3_find_74 (by decide) ?_
  exact hk30 u x1 x2 x3 x4 s0 y1 h _ _ hP hS _ (lv_sub hl [2, 3, 4, 5, 6, 1, 0] rfl)
def f_X3_find_30 (N b : Nat) (g : uEnv) (a0 : Nat) (k3 : UH → Option Nat → Option Nat → Int32 → Int32 → Option (Int32 × UH)) : Nat → UH → Option Nat → Option Nat → Int32 → Int32 → Int32 → Int32 → Option (Int32 × UH)
  | 0, _, _, _, _, _, _, _ => none
  | n + 1, u, x1, x2, x3, x4, x5, x6 =>
    (uGI u a0 2 8).bind fun y1 =>
    if y1 ≤ x6 then
    f_X3_find_77 N b g a0 k3 u x1 x2 x3 x4 x5
    else
    if x5 = 0 then
    f_X3_find_77 N b g a0 k3 u x1 x2 x3 x4 x5
    else
    (x1).bind fun a4 =>
    (uLdI u a4 0 ((8 * x4) + x6)).bind fun y5 =>
    (uGR u a0 2 11).bind fun o6 =>
    (o6).bind fun a7 =>
    (uLdI u a7 0 x6).bind fun y8 =>
    if y5 = y8 then
    f_X3_find_69 N b g a0 k3 (f_X3_find_30 N b g a0 k3 n) u (some a4) x2 x3 x4 x6 1
    else
    f_X3_find_69 N b g a0 k3 (f_X3_find_30 N b g a0 k3 n) u (some a4) x2 x3 x4 x6 0
set_option maxHeartbeats 4000000 in
set_option maxRecDepth 100000 in
theorem zz_X3_find_30 {G : uG} {a0 : Nat} {uf : UH} {r : Int32} (N : Nat) (k3 : UH → Option Nat → Option Nat → Int32 → Int32 → Option (Int32 × UH)) (hk3 : ∀ (u : UH) (x1 : Option Nat) (x2 : Option Nat) (x3 : Int32) (x4 : Int32), k3 u x1 x2 x3 x4 = some (r, uf) → uf.1 = u.1 ∧ uf.2.1 = u.2.1) : ∀ (n : Nat) (u : UH) (x1 : Option Nat) (x2 : Option Nat) (x3 : Int32) (x4 : Int32) (x5 : Int32) (x6 : Int32), f_X3_find_30 N (ub G) (ug G) a0 k3 n u x1 x2 x3 x4 x5 x6 = some (r, uf) → uf.1 = u.1 ∧ uf.2.1 = u.2.1 := by
  intro n
  induction n with
  | zero =>
    intro u x1 x2 x3 x4 x5 x6 h
    cases h
  | succ n ih =>
    intro u x1 x2 x3 x4 x5 x6 h
    unfold f_X3_find_30 at h
    obtain ⟨y1, hy1, h⟩ := mbind_n h
    by_cases c2 : y1 ≤ x6
    · have h := mif_t c2 h
      have hq := zz_X3_find_77 (G := G) (a0 := a0) N k3 hk3 u x1 x2 x3 x4 x5 h
      exact ⟨by omega, by omega⟩
    · have h := mif_f c2 h
      by_cases c3 : x5 = 0
      · have h := mif_t c3 h
        have hq := zz_X3_find_77 (G := G) (a0 := a0) N k3 hk3 u x1 x2 x3 x4 x5 h
        exact ⟨by omega, by omega⟩
      · have h := mif_f c3 h
        obtain ⟨a4, ha4, hha4⟩ := mbind_n h
        subst ha4
        have h := hha4
        obtain ⟨y5, hy5, h⟩ := mbind_n h
        obtain ⟨o6, ho6, h⟩ := mbind_n h
        obtain ⟨a7, ha7, hha7⟩ := mbind_n h
        subst ha7
        have h := hha7
        obtain ⟨y8, hy8, h⟩ := mbind_n h
        by_cases c9 : y5 = y8
        · have h := mif_t c9 h
          have hq := zz_X3_find_69 (G := G) (a0 := a0) N k3 hk3 (f_X3_find_30 N (ub G) (ug G) a0 k3 n) ih u (some a4) x2 x3 x4 x6 1 h
          exact ⟨by omega, by omega⟩
        · have h := mif_f c9 h
          have hq := zz_X3_find_69 (G := G) (a0 := a0) N k3 hk3 (f_X3_find_30 N (ub G) (ug G) a0 k3 n) ih u (some a4) x2 x3 x4 x6 0 h
          exact ⟨by omega, by omega⟩
set_option maxHeartbeats 4000000 in
set_option maxRecDepth 100000 in
theorem w_X3_find_30 {p : Program} {l : Launch} {e : Env} {R : Room} {s : State} {m : MethodId} {args : Array Value} {below : List Frame} {meth : Method} {c : Code} {G : uG} {a0 : Nat} {uf : UH} {r : Int32} (hC : uC p s m args meth c G RX3 cX3_find 7 (some .int)) (hR : 0 ≤ R.frames ∧ 0 ≤ R.locals) (N : Nat) (k3 : UH → Option Nat → Option Nat → Int32 → Int32 → Option (Int32 × UH)) (hk3 : ∀ (u : UH) (x1 : Option Nat) (x2 : Option Nat) (x3 : Int32) (x4 : Int32), k3 u x1 x2 x3 x4 = some (r, uf) → ∀ (H : Heap) (locs : List Loc), uP G u H → va_S (uA G) s.heap H locs → ∀ ls : Array Slot, lv_has ls 7 [(0, va_rf (some a0)), (1, va_rf x1), (2, va_rf x2), (3, .int x3), (4, .int x4)] → W p l e R s m args below meth c H locs 0 0 (MQ below (uQi G r uf) args s 0 0 (uA G)) (F0 m 3 ls [])) : ∀ (n : Nat) (u : UH) (x1 : Option Nat) (x2 : Option Nat) (x3 : Int32) (x4 : Int32) (x5 : Int32) (x6 : Int32), f_X3_find_30 N (ub G) (ug G) a0 k3 n u x1 x2 x3 x4 x5 x6 = some (r, uf) → ∀ (H : Heap) (locs : List Loc), uP G u H → va_S (uA G) s.heap H locs → ∀ ls : Array Slot, lv_has ls 7 [(0, va_rf (some a0)), (1, va_rf x1), (2, va_rf x2), (3, .int x3), (4, .int x4), (5, .int x5), (6, .int x6)] → W p l e R s m args below meth c H locs 0 0 (MQ below (uQi G r uf) args s 0 0 (uA G)) (F0 m 30 ls []) := by
  obtain ⟨⟨hx, hb, hml, hown, hts⟩, hKK⟩ := id hC
  intro n
  induction n with
  | zero =>
    intro u x1 x2 x3 x4 x5 x6 h
    cases h
  | succ n ih =>
    intro u x1 x2 x3 x4 x5 x6 h H locs hP hS ls hl
    unfold f_X3_find_30 at h
    refine lv_iload hx hb dX3_find_30 (lv_at hl 6 rfl) ?_
    refine u_aload_n (r := some a0) hx hb dX3_find_32 rfl (lv_at hl 0 rfl) ?_
    obtain ⟨y1, hy1, h⟩ := mbind_n h
    refine u_get hC hP (uGI_n hy1) rfl in_X3 (by decide) q1901 (fun _ h => h) dX3_find_33 ?_
    refine lv_icmp_ge (tgt := 77) hx hb dX3_find_36 (by decide) (fun c2 => ?_) (fun c2 => ?_)
    · have h := mif_t c2 h
      exact w_X3_find_77 hC hR N k3 hk3 u x1 x2 x3 x4 x5 h hP hS (lv_sub hl [0, 1, 2, 3, 4, 5] rfl)
    · have h := mif_f c2 h
      refine lv_iload hx hb dX3_find_39 (lv_at hl 5 rfl) ?_
      refine lv_if_eq (tgt := 77) hx hb dX3_find_41 (by decide) (fun c3 => ?_) (fun c3 => ?_)
      · have h := mif_t c3 h
        exact w_X3_find_77 hC hR N k3 hk3 u x1 x2 x3 x4 x5 h hP hS (lv_sub hl [0, 1, 2, 3, 4, 5] rfl)
      · have h := mif_f c3 h
        refine u_aload_n (r := x1) hx hb dX3_find_44 rfl (lv_at hl 1 rfl) ?_
        refine lv_bipush (v := 8) hx hb dX3_find_45 (by decide) ?_
        refine lv_iload hx hb dX3_find_47 (lv_at hl 4 rfl) ?_
        refine lv_imul hx hb dX3_find_49 ?_
        refine lv_iload hx hb dX3_find_50 (lv_at hl 6 rfl) ?_
        refine lv_iadd hx hb dX3_find_52 ?_
        obtain ⟨a4, ha4, hha4⟩ := mbind_n h
        subst ha4
        have h := hha4
        obtain ⟨y5, hy5, h⟩ := mbind_n h
        refine u_iald hC hP hy5 rfl dX3_find_53 ?_
        refine u_aload_n (r := some a0) hx hb dX3_find_54 rfl (lv_at hl 0 rfl) ?_
        obtain ⟨o6, ho6, h⟩ := mbind_n h
        refine u_get hC hP (uGR_n ho6) rfl in_X3 (by decide) q1904 (fun _ h => h) dX3_find_55 ?_
        refine lv_iload hx hb dX3_find_58 (lv_at hl 6 rfl) ?_
        obtain ⟨a7, ha7, hha7⟩ := mbind_n h
        subst ha7
        have h := hha7
        obtain ⟨y8, hy8, h⟩ := mbind_n h
        refine u_iald hC hP hy8 rfl dX3_find_60 ?_
        refine lv_icmp_ne (tgt := 68) hx hb dX3_find_61 (by decide) (fun c9 => ?_) (fun c9 => ?_)
        · have h := mif_f c9 h
          refine lv_iconst (v := 0) hx hb dX3_find_68 (by decide) ?_
          exact w_X3_find_69 hC hR N k3 hk3 (f_X3_find_30 N (ub G) (ug G) a0 k3 n) ih u (some a4) x2 x3 x4 x6 0 h hP hS (lv_sub hl [0, 1, 2, 3, 4, 6] rfl)
        · have h := mif_t c9 h
          refine lv_iconst (v := 1) hx hb dX3_find_64 (by decide) ?_
          refine lv_goto (tgt := 69) hx hb dX3_find_65 (by decide) ?_
          exact w_X3_find_69 hC hR N k3 hk3 (f_X3_find_30 N (ub G) (ug G) a0 k3 n) ih u (some a4) x2 x3 x4 x6 1 h hP hS (lv_sub hl [0, 1, 2, 3, 4, 6] rfl)
def f_X3_find_25 (N b : Nat) (g : uEnv) (a0 : Nat) (k3 : UH → Option Nat → Option Nat → Int32 → Int32 → Option (Int32 × UH)) (u : UH) (x1 : Option Nat) (x2 : Option Nat) (x3 : Int32) (x4 : Int32) (s0 : Int32) : Option (Int32 × UH) :=
    f_X3_find_30 N b g a0 k3 N u x1 x2 x3 x4 s0 0
set_option maxHeartbeats 4000000 in
set_option maxRecDepth 100000 in
theorem zz_X3_find_25 {G : uG} {a0 : Nat} {uf : UH} {r : Int32} (N : Nat) (k3 : UH → Option Nat → Option Nat → Int32 → Int32 → Option (Int32 × UH)) (hk3 : ∀ (u : UH) (x1 : Option Nat) (x2 : Option Nat) (x3 : Int32) (x4 : Int32), k3 u x1 x2 x3 x4 = some (r, uf) → uf.1 = u.1 ∧ uf.2.1 = u.2.1) (u : UH) (x1 : Option Nat) (x2 : Option Nat) (x3 : Int32) (x4 : Int32) (s0 : Int32) (h : f_X3_find_25 N (ub G) (ug G) a0 k3 u x1 x2 x3 x4 s0 = some (r, uf)) : uf.1 = u.1 ∧ uf.2.1 = u.2.1 := by
  unfold f_X3_find_25 at h
  have hq := zz_X3_find_30 (G := G) (a0 := a0) N k3 hk3 N u x1 x2 x3 x4 s0 0 h
  exact ⟨by omega, by omega⟩
set_option maxHeartbeats 4000000 in
set_option maxRecDepth 100000 in
theorem w_X3_find_25 {p : Program} {l : Launch} {e : Env} {R : Room} {s : State} {m : MethodId} {args : Array Value} {below : List Frame} {meth : Method} {c : Code} {G : uG} {a0 : Nat} {uf : UH} {r : Int32} (hC : uC p s m args meth c G RX3 cX3_find 7 (some .int)) (hR : 0 ≤ R.frames ∧ 0 ≤ R.locals) (N : Nat) (k3 : UH → Option Nat → Option Nat → Int32 → Int32 → Option (Int32 × UH)) (hk3 : ∀ (u : UH) (x1 : Option Nat) (x2 : Option Nat) (x3 : Int32) (x4 : Int32), k3 u x1 x2 x3 x4 = some (r, uf) → ∀ (H : Heap) (locs : List Loc), uP G u H → va_S (uA G) s.heap H locs → ∀ ls : Array Slot, lv_has ls 7 [(0, va_rf (some a0)), (1, va_rf x1), (2, va_rf x2), (3, .int x3), (4, .int x4)] → W p l e R s m args below meth c H locs 0 0 (MQ below (uQi G r uf) args s 0 0 (uA G)) (F0 m 3 ls [])) (u : UH) (x1 : Option Nat) (x2 : Option Nat) (x3 : Int32) (x4 : Int32) (s0 : Int32) (h : f_X3_find_25 N (ub G) (ug G) a0 k3 u x1 x2 x3 x4 s0 = some (r, uf)) {H : Heap} {locs : List Loc} (hP : uP G u H) (hS : va_S (uA G) s.heap H locs) {ls : Array Slot} (hl : lv_has ls 7 [(0, va_rf (some a0)), (1, va_rf x1), (2, va_rf x2), (3, .int x3), (4, .int x4)]) : W p l e R s m args below meth c H locs 0 0 (MQ below (uQi G r uf) args s 0 0 (uA G)) (F0 m 25 ls [.int s0]) := by
  obtain ⟨⟨hx, hb, hml, hown, hts⟩, hKK⟩ := id hC
  unfold f_X3_find_25 at h
  refine lv_istore (lv' := [(5, .int s0), (0, va_rf (some a0)), (1, va_rf x1), (2, va_rf x2), (3, .int x3), (4, .int x4)]) hx hb dX3_find_25 hl (by decide) rfl (fun ls hl => ?_)
  refine lv_iconst (v := 0) hx hb dX3_find_27 (by decide) ?_
  refine lv_istore (lv' := [(6, .int 0), (5, .int s0), (0, va_rf (some a0)), (1, va_rf x1), (2, va_rf x2), (3, .int x3), (4, .int x4)]) hx hb dX3_find_28 hl (by decide) rfl (fun ls hl => ?_)
  exact w_X3_find_30 hC hR N k3 hk3 N u x1 x2 x3 x4 s0 0 h _ _ hP hS _ (lv_sub hl [2, 3, 4, 5, 6, 1, 0] rfl)
def f_X3_find_3 (N b : Nat) (g : uEnv) (a0 : Nat) : Nat → UH → Option Nat → Option Nat → Int32 → Int32 → Option (Int32 × UH)
  | 0, _, _, _, _, _ => none
  | n + 1, u, x1, x2, x3, x4 =>
    if x3 ≤ x4 then
    some ((-1), u)
    else
    (x2).bind fun a2 =>
    (uLdI u a2 0 x4).bind fun y3 =>
    (uGI u a0 2 8).bind fun y4 =>
    if y3 = y4 then
    f_X3_find_25 N b g a0 (f_X3_find_3 N b g a0 n) u x1 (some a2) x3 x4 1
    else
    f_X3_find_25 N b g a0 (f_X3_find_3 N b g a0 n) u x1 (some a2) x3 x4 0
set_option maxHeartbeats 4000000 in
set_option maxRecDepth 100000 in
theorem zz_X3_find_3 {G : uG} {a0 : Nat} {uf : UH} {r : Int32} (N : Nat) : ∀ (n : Nat) (u : UH) (x1 : Option Nat) (x2 : Option Nat) (x3 : Int32) (x4 : Int32), f_X3_find_3 N (ub G) (ug G) a0 n u x1 x2 x3 x4 = some (r, uf) → uf.1 = u.1 ∧ uf.2.1 = u.2.1 := by
  intro n
  induction n with
  | zero =>
    intro u x1 x2 x3 x4 h
    cases h
  | succ n ih =>
    intro u x1 x2 x3 x4 h
    unfold f_X3_find_3 at h
    by_cases c1 : x3 ≤ x4
    · have h := mif_t c1 h
      obtain ⟨hr1, hr2⟩ := uret_n h
      subst hr2
      exact ⟨by omega, by omega⟩
    · have h := mif_f c1 h
      obtain ⟨a2, ha2, hha2⟩ := mbind_n h
      subst ha2
      have h := hha2
      obtain ⟨y3, hy3, h⟩ := mbind_n h
      obtain ⟨y4, hy4, h⟩ := mbind_n h
      by_cases c5 : y3 = y4
      · have h := mif_t c5 h
        have hq := zz_X3_find_25 (G := G) (a0 := a0) N (f_X3_find_3 N (ub G) (ug G) a0 n) ih u x1 (some a2) x3 x4 1 h
        exact ⟨by omega, by omega⟩
      · have h := mif_f c5 h
        have hq := zz_X3_find_25 (G := G) (a0 := a0) N (f_X3_find_3 N (ub G) (ug G) a0 n) ih u x1 (some a2) x3 x4 0 h
        exact ⟨by omega, by omega⟩
set_option maxHeartbeats 4000000 in
set_option maxRecDepth 100000 in
theorem w_X3_find_3 {p : Program} {l : Launch} {e : Env} {R : Room} {s : State} {m : MethodId} {args : Array Value} {below : List Frame} {meth : Method} {c : Code} {G : uG} {a0 : Nat} {uf : UH} {r : Int32} (hC : uC p s m args meth c G RX3 cX3_find 7 (some .int)) (hR : 0 ≤ R.frames ∧ 0 ≤ R.locals) (N : Nat) : ∀ (n : Nat) (u : UH) (x1 : Option Nat) (x2 : Option Nat) (x3 : Int32) (x4 : Int32), f_X3_find_3 N (ub G) (ug G) a0 n u x1 x2 x3 x4 = some (r, uf) → ∀ (H : Heap) (locs : List Loc), uP G u H → va_S (uA G) s.heap H locs → ∀ ls : Array Slot, lv_has ls 7 [(0, va_rf (some a0)), (1, va_rf x1), (2, va_rf x2), (3, .int x3), (4, .int x4)] → W p l e R s m args below meth c H locs 0 0 (MQ below (uQi G r uf) args s 0 0 (uA G)) (F0 m 3 ls []) := by
  obtain ⟨⟨hx, hb, hml, hown, hts⟩, hKK⟩ := id hC
  intro n
  induction n with
  | zero =>
    intro u x1 x2 x3 x4 h
    cases h
  | succ n ih =>
    intro u x1 x2 x3 x4 h H locs hP hS ls hl
    unfold f_X3_find_3 at h
    refine lv_iload hx hb dX3_find_3 (lv_at hl 4 rfl) ?_
    refine lv_iload_n hx hb dX3_find_5 rfl (lv_at hl 3 rfl) ?_
    refine lv_icmp_ge (tgt := 91) hx hb dX3_find_6 (by decide) (fun c1 => ?_) (fun c1 => ?_)
    · have h := mif_t c1 h
      refine lv_iconst (v := (-1)) hx hb dX3_find_91 (by decide) ?_
      obtain ⟨hr1, hr2⟩ := uret_n h
      subst hr1
      subst hr2
      exact u_iret hC hP hS dX3_find_92
    · have h := mif_f c1 h
      refine u_aload_n (r := x2) hx hb dX3_find_9 rfl (lv_at hl 2 rfl) ?_
      refine lv_iload hx hb dX3_find_10 (lv_at hl 4 rfl) ?_
      obtain ⟨a2, ha2, hha2⟩ := mbind_n h
      subst ha2
      have h := hha2
      obtain ⟨y3, hy3, h⟩ := mbind_n h
      refine u_iald hC hP hy3 rfl dX3_find_12 ?_
      refine u_aload_n (r := some a0) hx hb dX3_find_13 rfl (lv_at hl 0 rfl) ?_
      obtain ⟨y4, hy4, h⟩ := mbind_n h
      refine u_get hC hP (uGI_n hy4) rfl in_X3 (by decide) q1901 (fun _ h => h) dX3_find_14 ?_
      refine lv_icmp_ne (tgt := 24) hx hb dX3_find_17 (by decide) (fun c5 => ?_) (fun c5 => ?_)
      · have h := mif_f c5 h
        refine lv_iconst (v := 0) hx hb dX3_find_24 (by decide) ?_
        exact w_X3_find_25 hC hR N (f_X3_find_3 N (ub G) (ug G) a0 n) ih u x1 (some a2) x3 x4 0 h hP hS (lv_sub hl [0, 1, 2, 3, 4] rfl)
      · have h := mif_t c5 h
        refine lv_iconst (v := 1) hx hb dX3_find_20 (by decide) ?_
        refine lv_goto (tgt := 25) hx hb dX3_find_21 (by decide) ?_
        exact w_X3_find_25 hC hR N (f_X3_find_3 N (ub G) (ug G) a0 n) ih u x1 (some a2) x3 x4 1 h hP hS (lv_sub hl [0, 1, 2, 3, 4] rfl)
def f_X3_find (N b : Nat) (g : uEnv) (u : UH) (a0 : Nat) (x1 : Option Nat) (x2 : Option Nat) (x3 : Int32) : Option (Int32 × UH) :=
    f_X3_find_3 N b g a0 N u x1 x2 x3 0
set_option maxHeartbeats 4000000 in
set_option maxRecDepth 100000 in
theorem zz_X3_find_0 {G : uG} {a0 : Nat} {uf : UH} {r : Int32} (N : Nat) (u : UH) (x1 : Option Nat) (x2 : Option Nat) (x3 : Int32) (h : f_X3_find N (ub G) (ug G) u a0 x1 x2 x3 = some (r, uf)) : uf.1 = u.1 ∧ uf.2.1 = u.2.1 := by
  unfold f_X3_find at h
  have hq := zz_X3_find_3 (G := G) (a0 := a0) N N u x1 x2 x3 0 h
  exact ⟨by omega, by omega⟩
set_option maxHeartbeats 4000000 in
set_option maxRecDepth 100000 in
theorem w_X3_find_0 {p : Program} {l : Launch} {e : Env} {R : Room} {s : State} {m : MethodId} {args : Array Value} {below : List Frame} {meth : Method} {c : Code} {G : uG} {a0 : Nat} {uf : UH} {r : Int32} (hC : uC p s m args meth c G RX3 cX3_find 7 (some .int)) (hR : 0 ≤ R.frames ∧ 0 ≤ R.locals) (N : Nat) (u : UH) (x1 : Option Nat) (x2 : Option Nat) (x3 : Int32) (h : f_X3_find N (ub G) (ug G) u a0 x1 x2 x3 = some (r, uf)) {H : Heap} {locs : List Loc} (hP : uP G u H) (hS : va_S (uA G) s.heap H locs) {ls : Array Slot} (hl : lv_has ls 7 [(0, va_rf (some a0)), (1, va_rf x1), (2, va_rf x2), (3, .int x3)]) : W p l e R s m args below meth c H locs 0 0 (MQ below (uQi G r uf) args s 0 0 (uA G)) (F0 m 0 ls []) := by
  obtain ⟨⟨hx, hb, hml, hown, hts⟩, hKK⟩ := id hC
  unfold f_X3_find at h
  refine lv_iconst (v := 0) hx hb dX3_find_0 (by decide) ?_
  refine lv_istore (lv' := [(4, .int 0), (0, va_rf (some a0)), (1, va_rf x1), (2, va_rf x2), (3, .int x3)]) hx hb dX3_find_1 hl (by decide) rfl (fun ls hl => ?_)
  exact w_X3_find_3 hC hR N N u x1 x2 x3 0 h _ _ hP hS _ (lv_sub hl [1, 2, 3, 4, 0] rfl)
theorem zz_X3_find (N b : Nat) (g : uEnv) (u : UH) (a0 : Nat) (x1 : Option Nat) (x2 : Option Nat) (x3 : Int32) (r : Int32) (uf : UH) (h : f_X3_find N b g u a0 x1 x2 x3 = some (r, uf)) : uf.1 = u.1 ∧ uf.2.1 = u.2.1 :=
  zz_X3_find_0 (G := ((fun _ => 0, fun _ _ => 0), fun _ => 0, b, g)) (a0 := a0) N u x1 x2 x3 h
theorem met_X3_find (l : Launch) (N : Nat) (G : uG) (u : UH) (a0 : Nat) (x1 : Option Nat) (x2 : Option Nat) (x3 : Int32) (r : Int32) (uf : UH) (h : f_X3_find N (ub G) (ug G) u a0 x1 x2 x3 = some (r, uf)) : Met l yX3_find (ws_ yX3_find cX3_find 7 (some .int)) ({ frames := 0, cells := 0, slots := 0, locals := 0 }) (uPc G u [.ref a0, va_rf x1, va_rf x2, .int x3]) (uQi G r uf) 0 0 (uA G) := by
  rcases x1 with _ | x1 <;> rcases x2 with _ | x2 <;> exact u_met (own := RX3) (by decide +kernel) rfl (Nat.le_of_ble_eq_true rfl) (fun hC hn hsz ls hl hP => w_X3_find_0 hC ⟨Nat.le_refl _, Nat.le_refl _⟩ N u _ _ x3 h hP va_S.rf hl)
def f_X3_must (N b : Nat) (g : uEnv) (u : UH) (a0 : Nat) (x1 : Option Nat) : Option (Int32 × UH) :=
    (uGI u a0 2 13).bind fun y1 =>
    if y1 = 0 then
    if uIs u a0 2 = true then
    ucall (f_X3_word N b g u a0 x1) fun r6 u4 =>
    if r6 = 0 then
    (uGI u4 a0 2 4).bind fun y11 =>
    if uIs u4 a0 2 = true then
    ucall (f_X3_wrong N b g u4 a0 1 y11) fun r15 u13 =>
    if uFit .boolean r15 = true then
    some (r15, u13)
    else none
    else none
    else
    if uIs u4 a0 2 = true then
    (f_X3_next N b g u4 a0).bind fun u9 =>
    some (1, u9)
    else none
    else none
    else
    some (0, u)
set_option maxHeartbeats 4000000 in
set_option maxRecDepth 100000 in
theorem zz_X3_must_0 {G : uG} {a0 : Nat} {uf : UH} {r : Int32} (N : Nat) (u : UH) (x1 : Option Nat) (h : f_X3_must N (ub G) (ug G) u a0 x1 = some (r, uf)) : uf.1 = u.1 ∧ uf.2.1 = u.2.1 := by
  unfold f_X3_must at h
  obtain ⟨y1, hy1, h⟩ := mbind_n h
  by_cases c2 : y1 = 0
  · have h := mif_t c2 h
    obtain ⟨c3, h⟩ := mif_n h
    obtain ⟨r6, u4, c5, h⟩ := ucall_n h
    have zu4 := zz_X3_word N (ub G) (ug G) u a0 x1 r6 u4 c5
    by_cases c7 : r6 = 0
    · have h := mif_t c7 h
      obtain ⟨y11, hy11, h⟩ := mbind_n h
      obtain ⟨c12, h⟩ := mif_n h
      obtain ⟨r15, u13, c14, h⟩ := ucall_n h
      have zu13 := zz_X3_wrong N (ub G) (ug G) u4 a0 1 y11 r15 u13 c14
      obtain ⟨c16, h⟩ := mif_n h
      obtain ⟨hr1, hr2⟩ := uret_n h
      subst hr2
      exact ⟨by omega, by omega⟩
    · have h := mif_f c7 h
      obtain ⟨c8, h⟩ := mif_n h
      obtain ⟨u9, c10, h⟩ := mbind_n h
      have zu9 := zz_X3_next N (ub G) (ug G) u4 a0 u9 c10
      obtain ⟨hr1, hr2⟩ := uret_n h
      subst hr2
      exact ⟨by omega, by omega⟩
  · have h := mif_f c2 h
    obtain ⟨hr1, hr2⟩ := uret_n h
    subst hr2
    exact ⟨by omega, by omega⟩
set_option maxHeartbeats 4000000 in
set_option maxRecDepth 100000 in
theorem w_X3_must_0 {p : Program} {l : Launch} {e : Env} {R : Room} {s : State} {m : MethodId} {args : Array Value} {below : List Frame} {meth : Method} {c : Code} {G : uG} {a0 : Nat} {uf : UH} {r : Int32} (hC : uC p s m args meth c G RX3 cX3_must 2 (some .boolean)) (hR : 5 ≤ R.frames ∧ 108 ≤ R.locals) (N : Nat) (u : UH) (x1 : Option Nat) (h : f_X3_must N (ub G) (ug G) u a0 x1 = some (r, uf)) {H : Heap} {locs : List Loc} (hP : uP G u H) (hS : va_S (uA G) s.heap H locs) {ls : Array Slot} (hl : lv_has ls 2 [(0, va_rf (some a0)), (1, va_rf x1)]) : W p l e R s m args below meth c H locs 0 0 (MQ below (uQi G r uf) args s 0 0 (uA G)) (F0 m 0 ls []) := by
  obtain ⟨⟨hx, hb, hml, hown, hts⟩, hKK⟩ := id hC
  unfold f_X3_must at h
  refine u_aload_n (r := some a0) hx hb dX3_must_0 rfl (lv_at hl 0 rfl) ?_
  obtain ⟨y1, hy1, h⟩ := mbind_n h
  refine u_get hC hP (uGI_n hy1) rfl in_X3 (by decide) q1906 (fun _ h => h) dX3_must_1 ?_
  refine lv_if_eq (tgt := 9) hx hb dX3_must_4 (by decide) (fun c2 => ?_) (fun c2 => ?_)
  · have h := mif_t c2 h
    refine u_aload_n (r := some a0) hx hb dX3_must_9 rfl (lv_at hl 0 rfl) ?_
    refine u_aload_n (r := x1) hx hb dX3_must_10 rfl (lv_at hl 1 rfl) ?_
    obtain ⟨c3, h⟩ := mif_n h
    obtain ⟨r6, u4, c5, h⟩ := ucall_n h
    have zu4 := zz_X3_word N (ub G) (ug G) u a0 x1 r6 u4 c5
    refine u_calli (va_runV (As := [va_rf x1]) (rest := []) hC.1 (met_X3_word l N G u a0 x1 r6 u4 c5) (cwV 1 hts (lw_V q2173 q2175 qs48 q103 q2176) rfl rfl rfl (by decide +kernel) ⟨Nat.le_trans (Nat.le_of_ble_eq_true rfl) hR.1, Nat.le_trans (Nat.le_of_ble_eq_true rfl) hR.2⟩) ⟨uPc_blind, u_rcv hC hP c3 rfl, fun U hU hW => u_pre hC hP hS hU hW⟩ rfl rfl hl.1 rfl (lv_room (Nat.le_of_ble_eq_true rfl)) dX3_must_11 ⟨Nat.zero_le _, Nat.zero_le _⟩) hS (fun H locs hP hS => ?_)
    refine lv_if_ne (tgt := 27) hx hb dX3_must_14 (by decide) (fun c7 => ?_) (fun c7 => ?_)
    · have h := mif_f c7 h
      refine u_aload_n (r := some a0) hx hb dX3_must_27 rfl (lv_at hl 0 rfl) ?_
      obtain ⟨c8, h⟩ := mif_n h
      obtain ⟨u9, c10, h⟩ := mbind_n h
      have zu9 := zz_X3_next N (ub G) (ug G) u4 a0 u9 c10
      refine u_callv (va_runV (As := []) (rest := []) hC.1 (met_X3_next l N G u4 a0 u9 c10) (cwV 0 hts (lw_V q2154 q2156 qs45 q103 q2157) rfl rfl rfl (by decide +kernel) ⟨Nat.le_trans (Nat.le_of_ble_eq_true rfl) hR.1, Nat.le_trans (Nat.le_of_ble_eq_true rfl) hR.2⟩) ⟨uPc_blind, u_rcv hC hP c8 rfl, fun U hU hW => u_pre hC hP hS hU hW⟩ rfl rfl hl.1 rfl (lv_room (Nat.le_of_ble_eq_true rfl)) dX3_must_28 ⟨Nat.zero_le _, Nat.zero_le _⟩) hS (fun H locs hP hS => ?_)
      refine lv_iconst (v := 1) hx hb dX3_must_31 (by decide) ?_
      obtain ⟨hr1, hr2⟩ := uret_n h
      subst hr1
      subst hr2
      exact u_zret hC (uFit_n (ty := .boolean) (v := 1) rfl).1 hP hS dX3_must_32
    · have h := mif_t c7 h
      refine u_aload_n (r := some a0) hx hb dX3_must_17 rfl (lv_at hl 0 rfl) ?_
      refine lv_iconst (v := 1) hx hb dX3_must_18 (by decide) ?_
      refine u_aload_n (r := some a0) hx hb dX3_must_19 rfl (lv_at hl 0 rfl) ?_
      obtain ⟨y11, hy11, h⟩ := mbind_n h
      refine u_get hC hP (uGI_n hy11) rfl in_X3 (by decide) q1897 (fun _ h => h) dX3_must_20 ?_
      obtain ⟨c12, h⟩ := mif_n h
      obtain ⟨r15, u13, c14, h⟩ := ucall_n h
      have zu13 := zz_X3_wrong N (ub G) (ug G) u4 a0 1 y11 r15 u13 c14
      refine u_calli (va_runV (As := [.int 1, .int y11]) (rest := []) hC.1 (met_X3_wrong l N G u4 a0 1 y11 r15 u13 c14) (cwV 2 hts (lw_V q2196 q2198 qs51 q103 q2199) rfl rfl rfl (by decide +kernel) ⟨Nat.le_trans (Nat.le_of_ble_eq_true rfl) hR.1, Nat.le_trans (Nat.le_of_ble_eq_true rfl) hR.2⟩) ⟨uPc_blind, u_rcv hC hP c12 rfl, fun U hU hW => u_pre hC hP hS hU hW⟩ rfl rfl hl.1 rfl (lv_room (Nat.le_of_ble_eq_true rfl)) dX3_must_23 ⟨Nat.zero_le _, Nat.zero_le _⟩) hS (fun H locs hP hS => ?_)
      obtain ⟨c16, h⟩ := mif_n h
      obtain ⟨hr1, hr2⟩ := uret_n h
      subst hr1
      subst hr2
      exact u_zret hC (uFit_n c16).1 hP hS dX3_must_26
  · have h := mif_f c2 h
    refine lv_iconst (v := 0) hx hb dX3_must_7 (by decide) ?_
    obtain ⟨hr1, hr2⟩ := uret_n h
    subst hr1
    subst hr2
    exact u_zret hC (uFit_n (ty := .boolean) (v := 0) rfl).1 hP hS dX3_must_8
theorem zz_X3_must (N b : Nat) (g : uEnv) (u : UH) (a0 : Nat) (x1 : Option Nat) (r : Int32) (uf : UH) (h : f_X3_must N b g u a0 x1 = some (r, uf)) : uf.1 = u.1 ∧ uf.2.1 = u.2.1 :=
  zz_X3_must_0 (G := ((fun _ => 0, fun _ _ => 0), fun _ => 0, b, g)) (a0 := a0) N u x1 h
theorem met_X3_must (l : Launch) (N : Nat) (G : uG) (u : UH) (a0 : Nat) (x1 : Option Nat) (r : Int32) (uf : UH) (h : f_X3_must N (ub G) (ug G) u a0 x1 = some (r, uf)) : Met l yX3_must (ws_ yX3_must cX3_must 2 (some .boolean)) ({ frames := 5, cells := 0, slots := 0, locals := 108 }) (uPc G u [.ref a0, va_rf x1]) (uQi G r uf) 0 0 (uA G) := by
  rcases x1 with _ | x1 <;> exact u_met (own := RX3) (by decide +kernel) rfl (Nat.le_of_ble_eq_true rfl) (fun hC hn hsz ls hl hP => w_X3_must_0 hC ⟨Nat.le_refl _, Nat.le_refl _⟩ N u _ h hP va_S.rf hl)
def f_X3_number (N b : Nat) (g : uEnv) (u : UH) (a0 : Nat) (x1 : Int32) (x2 : Int32) : Option (Int32 × UH) :=
    (uGI u a0 2 13).bind fun y1 =>
    if y1 = 0 then
    (uGI u a0 2 6).bind fun y3 =>
    if y3 = 3 then
    (uGI u a0 2 7).bind fun y5 =>
    ucall (f_X3_within N b g u y5 x1 x2) fun r8 u6 =>
    if r8 = 0 then
    (uGI u6 a0 2 4).bind fun y13 =>
    if uIs u6 a0 2 = true then
    ucall (f_X3_wrong N b g u6 a0 4 y13) fun r17 u15 =>
    some (x1, u15)
    else none
    else
    if uIs u6 a0 2 = true then
    (f_X3_next N b g u6 a0).bind fun u11 =>
    some (y5, u11)
    else none
    else
    (uGI u a0 2 4).bind fun y18 =>
    if uIs u a0 2 = true then
    ucall (f_X3_wrong N b g u a0 1 y18) fun r22 u20 =>
    some (x1, u20)
    else none
    else
    some (x1, u)
set_option maxHeartbeats 4000000 in
set_option maxRecDepth 100000 in
theorem zz_X3_number_0 {G : uG} {a0 : Nat} {uf : UH} {r : Int32} (N : Nat) (u : UH) (x1 : Int32) (x2 : Int32) (h : f_X3_number N (ub G) (ug G) u a0 x1 x2 = some (r, uf)) : uf.1 = u.1 ∧ uf.2.1 = u.2.1 := by
  unfold f_X3_number at h
  obtain ⟨y1, hy1, h⟩ := mbind_n h
  by_cases c2 : y1 = 0
  · have h := mif_t c2 h
    obtain ⟨y3, hy3, h⟩ := mbind_n h
    by_cases c4 : y3 = 3
    · have h := mif_t c4 h
      obtain ⟨y5, hy5, h⟩ := mbind_n h
      obtain ⟨r8, u6, c7, h⟩ := ucall_n h
      have zu6 := zz_X3_within N (ub G) (ug G) u y5 x1 x2 r8 u6 c7
      by_cases c9 : r8 = 0
      · have h := mif_t c9 h
        obtain ⟨y13, hy13, h⟩ := mbind_n h
        obtain ⟨c14, h⟩ := mif_n h
        obtain ⟨r17, u15, c16, h⟩ := ucall_n h
        have zu15 := zz_X3_wrong N (ub G) (ug G) u6 a0 4 y13 r17 u15 c16
        obtain ⟨hr1, hr2⟩ := uret_n h
        subst hr2
        exact ⟨by omega, by omega⟩
      · have h := mif_f c9 h
        obtain ⟨c10, h⟩ := mif_n h
        obtain ⟨u11, c12, h⟩ := mbind_n h
        have zu11 := zz_X3_next N (ub G) (ug G) u6 a0 u11 c12
        obtain ⟨hr1, hr2⟩ := uret_n h
        subst hr2
        exact ⟨by omega, by omega⟩
    · have h := mif_f c4 h
      obtain ⟨y18, hy18, h⟩ := mbind_n h
      obtain ⟨c19, h⟩ := mif_n h
      obtain ⟨r22, u20, c21, h⟩ := ucall_n h
      have zu20 := zz_X3_wrong N (ub G) (ug G) u a0 1 y18 r22 u20 c21
      obtain ⟨hr1, hr2⟩ := uret_n h
      subst hr2
      exact ⟨by omega, by omega⟩
  · have h := mif_f c2 h
    obtain ⟨hr1, hr2⟩ := uret_n h
    subst hr2
    exact ⟨by omega, by omega⟩
set_option maxHeartbeats 4000000 in
set_option maxRecDepth 100000 in
theorem w_X3_number_0 {p : Program} {l : Launch} {e : Env} {R : Room} {s : State} {m : MethodId} {args : Array Value} {below : List Frame} {meth : Method} {c : Code} {G : uG} {a0 : Nat} {uf : UH} {r : Int32} (hC : uC p s m args meth c G RX3 cX3_number 4 (some .int)) (hR : 2 ≤ R.frames ∧ 44 ≤ R.locals) (N : Nat) (u : UH) (x1 : Int32) (x2 : Int32) (h : f_X3_number N (ub G) (ug G) u a0 x1 x2 = some (r, uf)) {H : Heap} {locs : List Loc} (hP : uP G u H) (hS : va_S (uA G) s.heap H locs) {ls : Array Slot} (hl : lv_has ls 4 [(0, va_rf (some a0)), (1, .int x1), (2, .int x2)]) : W p l e R s m args below meth c H locs 0 0 (MQ below (uQi G r uf) args s 0 0 (uA G)) (F0 m 0 ls []) := by
  obtain ⟨⟨hx, hb, hml, hown, hts⟩, hKK⟩ := id hC
  unfold f_X3_number at h
  refine u_aload_n (r := some a0) hx hb dX3_number_0 rfl (lv_at hl 0 rfl) ?_
  obtain ⟨y1, hy1, h⟩ := mbind_n h
  refine u_get hC hP (uGI_n hy1) rfl in_X3 (by decide) q1906 (fun _ h => h) dX3_number_1 ?_
  refine lv_if_eq (tgt := 9) hx hb dX3_number_4 (by decide) (fun c2 => ?_) (fun c2 => ?_)
  · have h := mif_t c2 h
    refine u_aload_n (r := some a0) hx hb dX3_number_9 rfl (lv_at hl 0 rfl) ?_
    obtain ⟨y3, hy3, h⟩ := mbind_n h
    refine u_get hC hP (uGI_n hy3) rfl in_X3 (by decide) q1899 (fun _ h => h) dX3_number_10 ?_
    refine lv_iconst (v := 3) hx hb dX3_number_13 (by decide) ?_
    refine lv_icmp_eq (tgt := 29) hx hb dX3_number_14 (by decide) (fun c4 => ?_) (fun c4 => ?_)
    · have h := mif_t c4 h
      refine u_aload_n (r := some a0) hx hb dX3_number_29 rfl (lv_at hl 0 rfl) ?_
      obtain ⟨y5, hy5, h⟩ := mbind_n h
      refine u_get hC hP (uGI_n hy5) rfl in_X3 (by decide) q1900 (fun _ h => h) dX3_number_30 ?_
      refine lv_istore_n (i := 3) (lv' := [(3, .int y5), (0, va_rf (some a0)), (1, .int x1), (2, .int x2)]) hx hb dX3_number_33 rfl hl (by decide) rfl (fun ls hl => ?_)
      refine lv_iload_n hx hb dX3_number_34 rfl (lv_at hl 0 rfl) ?_
      refine lv_iload_n hx hb dX3_number_35 rfl (lv_at hl 2 rfl) ?_
      refine lv_iload_n hx hb dX3_number_36 rfl (lv_at hl 3 rfl) ?_
      obtain ⟨r8, u6, c7, h⟩ := ucall_n h
      have zu6 := zz_X3_within N (ub G) (ug G) u y5 x1 x2 r8 u6 c7
      refine u_calli (va_runS (As := [.int y5, .int x1, .int x2]) (rest := []) hC.1 (met_X3_within l N G u y5 x1 x2 r8 u6 c7) (va_cwS 3 hts (lw_S q2135 q2136 q103 q2137) rfl rfl rfl (by decide +kernel) ⟨Nat.le_trans (Nat.le_of_ble_eq_true rfl) hR.1, Nat.le_trans (Nat.le_of_ble_eq_true rfl) hR.2⟩) ⟨uPc_blind, fun U hU hW => u_pre hC hP hS hU hW⟩ rfl rfl hl.1 rfl (lv_room (Nat.le_of_ble_eq_true rfl)) dX3_number_37 ⟨Nat.zero_le _, Nat.zero_le _⟩) hS (fun H locs hP hS => ?_)
      refine lv_if_ne (tgt := 55) hx hb dX3_number_40 (by decide) (fun c9 => ?_) (fun c9 => ?_)
      · have h := mif_f c9 h
        refine u_aload_n (r := some a0) hx hb dX3_number_55 rfl (lv_at hl 1 rfl) ?_
        obtain ⟨c10, h⟩ := mif_n h
        obtain ⟨u11, c12, h⟩ := mbind_n h
        have zu11 := zz_X3_next N (ub G) (ug G) u6 a0 u11 c12
        refine u_callv (va_runV (As := []) (rest := []) hC.1 (met_X3_next l N G u6 a0 u11 c12) (cwV 0 hts (lw_V q2154 q2156 qs45 q103 q2157) rfl rfl rfl (by decide +kernel) ⟨Nat.le_trans (Nat.le_of_ble_eq_true rfl) hR.1, Nat.le_trans (Nat.le_of_ble_eq_true rfl) hR.2⟩) ⟨uPc_blind, u_rcv hC hP c10 rfl, fun U hU hW => u_pre hC hP hS hU hW⟩ rfl rfl hl.1 rfl (lv_room (Nat.le_of_ble_eq_true rfl)) dX3_number_56 ⟨Nat.zero_le _, Nat.zero_le _⟩) hS (fun H locs hP hS => ?_)
        refine lv_iload_n hx hb dX3_number_59 rfl (lv_at hl 0 rfl) ?_
        obtain ⟨hr1, hr2⟩ := uret_n h
        subst hr1
        subst hr2
        exact u_iret hC hP hS dX3_number_60
      · have h := mif_t c9 h
        refine u_aload_n (r := some a0) hx hb dX3_number_43 rfl (lv_at hl 1 rfl) ?_
        refine lv_iconst (v := 4) hx hb dX3_number_44 (by decide) ?_
        refine u_aload_n (r := some a0) hx hb dX3_number_45 rfl (lv_at hl 1 rfl) ?_
        obtain ⟨y13, hy13, h⟩ := mbind_n h
        refine u_get hC hP (uGI_n hy13) rfl in_X3 (by decide) q1897 (fun _ h => h) dX3_number_46 ?_
        obtain ⟨c14, h⟩ := mif_n h
        obtain ⟨r17, u15, c16, h⟩ := ucall_n h
        have zu15 := zz_X3_wrong N (ub G) (ug G) u6 a0 4 y13 r17 u15 c16
        refine u_calli (va_runV (As := [.int 4, .int y13]) (rest := []) hC.1 (met_X3_wrong l N G u6 a0 4 y13 r17 u15 c16) (cwV 2 hts (lw_V q2196 q2198 qs51 q103 q2199) rfl rfl rfl (by decide +kernel) ⟨Nat.le_trans (Nat.le_of_ble_eq_true rfl) hR.1, Nat.le_trans (Nat.le_of_ble_eq_true rfl) hR.2⟩) ⟨uPc_blind, u_rcv hC hP c14 rfl, fun U hU hW => u_pre hC hP hS hU hW⟩ rfl rfl hl.1 rfl (lv_room (Nat.le_of_ble_eq_true rfl)) dX3_number_49 ⟨Nat.zero_le _, Nat.zero_le _⟩) hS (fun H locs hP hS => ?_)
        refine lv_pop hx hb dX3_number_52 rfl ?_
        refine lv_iload_n hx hb dX3_number_53 rfl (lv_at hl 2 rfl) ?_
        obtain ⟨hr1, hr2⟩ := uret_n h
        subst hr1
        subst hr2
        exact u_iret hC hP hS dX3_number_54
    · have h := mif_f c4 h
      refine u_aload_n (r := some a0) hx hb dX3_number_17 rfl (lv_at hl 0 rfl) ?_
      refine lv_iconst (v := 1) hx hb dX3_number_18 (by decide) ?_
      refine u_aload_n (r := some a0) hx hb dX3_number_19 rfl (lv_at hl 0 rfl) ?_
      obtain ⟨y18, hy18, h⟩ := mbind_n h
      refine u_get hC hP (uGI_n hy18) rfl in_X3 (by decide) q1897 (fun _ h => h) dX3_number_20 ?_
      obtain ⟨c19, h⟩ := mif_n h
      obtain ⟨r22, u20, c21, h⟩ := ucall_n h
      have zu20 := zz_X3_wrong N (ub G) (ug G) u a0 1 y18 r22 u20 c21
      refine u_calli (va_runV (As := [.int 1, .int y18]) (rest := []) hC.1 (met_X3_wrong l N G u a0 1 y18 r22 u20 c21) (cwV 2 hts (lw_V q2196 q2198 qs51 q103 q2199) rfl rfl rfl (by decide +kernel) ⟨Nat.le_trans (Nat.le_of_ble_eq_true rfl) hR.1, Nat.le_trans (Nat.le_of_ble_eq_true rfl) hR.2⟩) ⟨uPc_blind, u_rcv hC hP c19 rfl, fun U hU hW => u_pre hC hP hS hU hW⟩ rfl rfl hl.1 rfl (lv_room (Nat.le_of_ble_eq_true rfl)) dX3_number_23 ⟨Nat.zero_le _, Nat.zero_le _⟩) hS (fun H locs hP hS => ?_)
      refine lv_pop hx hb dX3_number_26 rfl ?_
      refine lv_iload_n hx hb dX3_number_27 rfl (lv_at hl 1 rfl) ?_
      obtain ⟨hr1, hr2⟩ := uret_n h
      subst hr1
      subst hr2
      exact u_iret hC hP hS dX3_number_28
  · have h := mif_f c2 h
    refine lv_iload_n hx hb dX3_number_7 rfl (lv_at hl 1 rfl) ?_
    obtain ⟨hr1, hr2⟩ := uret_n h
    subst hr1
    subst hr2
    exact u_iret hC hP hS dX3_number_8
theorem zz_X3_number (N b : Nat) (g : uEnv) (u : UH) (a0 : Nat) (x1 : Int32) (x2 : Int32) (r : Int32) (uf : UH) (h : f_X3_number N b g u a0 x1 x2 = some (r, uf)) : uf.1 = u.1 ∧ uf.2.1 = u.2.1 :=
  zz_X3_number_0 (G := ((fun _ => 0, fun _ _ => 0), fun _ => 0, b, g)) (a0 := a0) N u x1 x2 h
theorem met_X3_number (l : Launch) (N : Nat) (G : uG) (u : UH) (a0 : Nat) (x1 : Int32) (x2 : Int32) (r : Int32) (uf : UH) (h : f_X3_number N (ub G) (ug G) u a0 x1 x2 = some (r, uf)) : Met l yX3_number (ws_ yX3_number cX3_number 4 (some .int)) ({ frames := 2, cells := 0, slots := 0, locals := 44 }) (uPc G u [.ref a0, .int x1, .int x2]) (uQi G r uf) 0 0 (uA G) := by
  exact u_met (own := RX3) (by decide +kernel) rfl (Nat.le_of_ble_eq_true rfl) (fun hC hn hsz ls hl hP => w_X3_number_0 hC ⟨Nat.le_refl _, Nat.le_refl _⟩ N u x1 x2 h hP va_S.rf hl)
def f_X3_pairs_220 (N b : Nat) (g : uEnv) (a0 : Nat) (k16 : UH → Option Nat → Int32 → Int32 → Int32 → Option (Int32 × UH)) (u : UH) (x1 : Option Nat) (x2 : Int32) (x3 : Int32) (x4 : Int32) : Option (Int32 × UH) :=
    k16 u x1 x2 x3 x4
set_option maxHeartbeats 4000000 in
set_option maxRecDepth 100000 in
theorem zz_X3_pairs_220 {G : uG} {a0 : Nat} {uf : UH} {r : Int32} (N : Nat) (k16 : UH → Option Nat → Int32 → Int32 → Int32 → Option (Int32 × UH)) (hk16 : ∀ (u : UH) (x1 : Option Nat) (x2 : Int32) (x3 : Int32) (x4 : Int32), k16 u x1 x2 x3 x4 = some (r, uf) → uf.1 = u.1 ∧ uf.2.1 = u.2.1) (u : UH) (x1 : Option Nat) (x2 : Int32) (x3 : Int32) (x4 : Int32) (h : f_X3_pairs_220 N (ub G) (ug G) a0 k16 u x1 x2 x3 x4 = some (r, uf)) : uf.1 = u.1 ∧ uf.2.1 = u.2.1 := by
  unfold f_X3_pairs_220 at h
  have hq := hk16 u x1 x2 x3 x4 h
  exact ⟨by omega, by omega⟩
set_option maxHeartbeats 4000000 in
set_option maxRecDepth 100000 in
theorem w_X3_pairs_220 {p : Program} {l : Launch} {e : Env} {R : Room} {s : State} {m : MethodId} {args : Array Value} {below : List Frame} {meth : Method} {c : Code} {G : uG} {a0 : Nat} {uf : UH} {r : Int32} (hC : uC p s m args meth c G RX3 cX3_pairs 10 (some .int)) (hR : 3 ≤ R.frames ∧ 67 ≤ R.locals) (N : Nat) (k16 : UH → Option Nat → Int32 → Int32 → Int32 → Option (Int32 × UH)) (hk16 : ∀ (u : UH) (x1 : Option Nat) (x2 : Int32) (x3 : Int32) (x4 : Int32), k16 u x1 x2 x3 x4 = some (r, uf) → ∀ (H : Heap) (locs : List Loc), uP G u H → va_S (uA G) s.heap H locs → ∀ ls : Array Slot, lv_has ls 10 [(0, va_rf (some a0)), (1, va_rf x1), (2, .int x2), (3, .int x3), (4, .int x4)] → W p l e R s m args below meth c H locs 0 0 (MQ below (uQi G r uf) args s 0 0 (uA G)) (F0 m 16 ls [])) (u : UH) (x1 : Option Nat) (x2 : Int32) (x3 : Int32) (x4 : Int32) (h : f_X3_pairs_220 N (ub G) (ug G) a0 k16 u x1 x2 x3 x4 = some (r, uf)) {H : Heap} {locs : List Loc} (hP : uP G u H) (hS : va_S (uA G) s.heap H locs) {ls : Array Slot} (hl : lv_has ls 10 [(0, va_rf (some a0)), (1, va_rf x1), (2, .int x2), (3, .int x3), (4, .int x4)]) : W p l e R s m args below meth c H locs 0 0 (MQ below (uQi G r uf) args s 0 0 (uA G)) (F0 m 220 ls []) := by
  obtain ⟨⟨hx, hb, hml, hown, hts⟩, hKK⟩ := id hC
  unfold f_X3_pairs_220 at h
  refine lv_goto (tgt := 16) hx hb dX3_pairs_220 (by decide) ?_
  exact hk16 u x1 x2 x3 x4 h _ _ hP hS _ (lv_sub hl [0, 1, 2, 3, 4] rfl)
def f_X3_pairs_209 (N b : Nat) (g : uEnv) (a0 : Nat) (k16 : UH → Option Nat → Int32 → Int32 → Int32 → Option (Int32 × UH)) (u : UH) (x1 : Option Nat) (x2 : Int32) (x3 : Int32) (s0 : Int32) : Option (Int32 × UH) :=
    if s0 = 0 then
    f_X3_pairs_220 N b g a0 k16 u x1 x2 x3 s0
    else
    if uIs u a0 2 = true then
    (f_X3_next N b g u a0).bind fun u3 =>
    f_X3_pairs_220 N b g a0 k16 u3 x1 x2 x3 s0
    else none
set_option maxHeartbeats 4000000 in
set_option maxRecDepth 100000 in
theorem zz_X3_pairs_209 {G : uG} {a0 : Nat} {uf : UH} {r : Int32} (N : Nat) (k16 : UH → Option Nat → Int32 → Int32 → Int32 → Option (Int32 × UH)) (hk16 : ∀ (u : UH) (x1 : Option Nat) (x2 : Int32) (x3 : Int32) (x4 : Int32), k16 u x1 x2 x3 x4 = some (r, uf) → uf.1 = u.1 ∧ uf.2.1 = u.2.1) (u : UH) (x1 : Option Nat) (x2 : Int32) (x3 : Int32) (s0 : Int32) (h : f_X3_pairs_209 N (ub G) (ug G) a0 k16 u x1 x2 x3 s0 = some (r, uf)) : uf.1 = u.1 ∧ uf.2.1 = u.2.1 := by
  unfold f_X3_pairs_209 at h
  by_cases c1 : s0 = 0
  · have h := mif_t c1 h
    have hq := zz_X3_pairs_220 (G := G) (a0 := a0) N k16 hk16 u x1 x2 x3 s0 h
    exact ⟨by omega, by omega⟩
  · have h := mif_f c1 h
    obtain ⟨c2, h⟩ := mif_n h
    obtain ⟨u3, c4, h⟩ := mbind_n h
    have zu3 := zz_X3_next N (ub G) (ug G) u a0 u3 c4
    have hq := zz_X3_pairs_220 (G := G) (a0 := a0) N k16 hk16 u3 x1 x2 x3 s0 h
    exact ⟨by omega, by omega⟩
set_option maxHeartbeats 4000000 in
set_option maxRecDepth 100000 in
theorem w_X3_pairs_209 {p : Program} {l : Launch} {e : Env} {R : Room} {s : State} {m : MethodId} {args : Array Value} {below : List Frame} {meth : Method} {c : Code} {G : uG} {a0 : Nat} {uf : UH} {r : Int32} (hC : uC p s m args meth c G RX3 cX3_pairs 10 (some .int)) (hR : 3 ≤ R.frames ∧ 67 ≤ R.locals) (N : Nat) (k16 : UH → Option Nat → Int32 → Int32 → Int32 → Option (Int32 × UH)) (hk16 : ∀ (u : UH) (x1 : Option Nat) (x2 : Int32) (x3 : Int32) (x4 : Int32), k16 u x1 x2 x3 x4 = some (r, uf) → ∀ (H : Heap) (locs : List Loc), uP G u H → va_S (uA G) s.heap H locs → ∀ ls : Array Slot, lv_has ls 10 [(0, va_rf (some a0)), (1, va_rf x1), (2, .int x2), (3, .int x3), (4, .int x4)] → W p l e R s m args below meth c H locs 0 0 (MQ below (uQi G r uf) args s 0 0 (uA G)) (F0 m 16 ls [])) (u : UH) (x1 : Option Nat) (x2 : Int32) (x3 : Int32) (s0 : Int32) (h : f_X3_pairs_209 N (ub G) (ug G) a0 k16 u x1 x2 x3 s0 = some (r, uf)) {H : Heap} {locs : List Loc} (hP : uP G u H) (hS : va_S (uA G) s.heap H locs) {ls : Array Slot} (hl : lv_has ls 10 [(0, va_rf (some a0)), (1, va_rf x1), (2, .int x2), (3, .int x3)]) : W p l e R s m args below meth c H locs 0 0 (MQ below (uQi G r uf) args s 0 0 (uA G)) (F0 m 209 ls [.int s0]) := by
  obtain ⟨⟨hx, hb, hml, hown, hts⟩, hKK⟩ := id hC
  unfold f_X3_pairs_209 at h
  refine lv_istore (lv' := [(4, .int s0), (0, va_rf (some a0)), (1, va_rf x1), (2, .int x2), (3, .int x3)]) hx hb dX3_pairs_209 hl (by decide) rfl (fun ls hl => ?_)
  refine lv_iload hx hb dX3_pairs_211 (lv_at hl 0 rfl) ?_
  refine lv_if_eq (tgt := 220) hx hb dX3_pairs_213 (by decide) (fun c1 => ?_) (fun c1 => ?_)
  · have h := mif_t c1 h
    exact w_X3_pairs_220 hC hR N k16 hk16 u x1 x2 x3 s0 h hP hS (lv_sub hl [1, 2, 3, 4, 0] rfl)
  · have h := mif_f c1 h
    refine u_aload_n (r := some a0) hx hb dX3_pairs_216 rfl (lv_at hl 1 rfl) ?_
    obtain ⟨c2, h⟩ := mif_n h
    obtain ⟨u3, c4, h⟩ := mbind_n h
    have zu3 := zz_X3_next N (ub G) (ug G) u a0 u3 c4
    refine u_callv (va_runV (As := []) (rest := []) hC.1 (met_X3_next l N G u a0 u3 c4) (cwV 0 hts (lw_V q2154 q2156 qs45 q103 q2157) rfl rfl rfl (by decide +kernel) ⟨Nat.le_trans (Nat.le_of_ble_eq_true rfl) hR.1, Nat.le_trans (Nat.le_of_ble_eq_true rfl) hR.2⟩) ⟨uPc_blind, u_rcv hC hP c2 rfl, fun U hU hW => u_pre hC hP hS hU hW⟩ rfl rfl hl.1 rfl (lv_room (Nat.le_of_ble_eq_true rfl)) dX3_pairs_217 ⟨Nat.zero_le _, Nat.zero_le _⟩) hS (fun H locs hP hS => ?_)
    exact w_X3_pairs_220 hC hR N k16 hk16 u3 x1 x2 x3 s0 h hP hS (lv_sub hl [1, 2, 3, 4, 0] rfl)
def f_X3_pairs_164 (N b : Nat) (g : uEnv) (a0 : Nat) (k16 : UH → Option Nat → Int32 → Int32 → Int32 → Option (Int32 × UH)) (u : UH) (x1 : Option Nat) (x2 : Int32) (x3 : Int32) (x5 : Int32) (x8 : Int32) (s0 : Int32) (s1 : Int32) (s2 : Option Nat) : Option (Int32 × UH) :=
    (s2).bind fun a1 =>
    if uIs u a1 2 = true then
    ucall (f_X3_number N b g u a1 s1 s0) fun r5 u3 =>
    (uGI u3 a0 2 13).bind fun y6 =>
    if y6 = 0 then
    (x1).bind fun a8 =>
    (uStI b u3 a8 0 x5 x8).bind fun u9 =>
    (uStI b u9 a8 0 (x5 + 1) r5).bind fun u10 =>
    mlet (x3 + 1) fun y11 =>
    (uGI u10 a0 2 6).bind fun y12 =>
    if y12 = 44 then
    f_X3_pairs_209 N b g a0 k16 u10 (some a8) x2 y11 1
    else
    f_X3_pairs_209 N b g a0 k16 u10 (some a8) x2 y11 0
    else
    some (x3, u3)
    else none
set_option maxHeartbeats 4000000 in
set_option maxRecDepth 100000 in
theorem zz_X3_pairs_164 {G : uG} {a0 : Nat} {uf : UH} {r : Int32} (N : Nat) (k16 : UH → Option Nat → Int32 → Int32 → Int32 → Option (Int32 × UH)) (hk16 : ∀ (u : UH) (x1 : Option Nat) (x2 : Int32) (x3 : Int32) (x4 : Int32), k16 u x1 x2 x3 x4 = some (r, uf) → uf.1 = u.1 ∧ uf.2.1 = u.2.1) (u : UH) (x1 : Option Nat) (x2 : Int32) (x3 : Int32) (x5 : Int32) (x8 : Int32) (s0 : Int32) (s1 : Int32) (s2 : Option Nat) (h : f_X3_pairs_164 N (ub G) (ug G) a0 k16 u x1 x2 x3 x5 x8 s0 s1 s2 = some (r, uf)) : uf.1 = u.1 ∧ uf.2.1 = u.2.1 := by
  unfold f_X3_pairs_164 at h
  obtain ⟨a1, ha1, hha1⟩ := mbind_n h
  subst ha1
  have h := hha1
  obtain ⟨c2, h⟩ := mif_n h
  obtain ⟨r5, u3, c4, h⟩ := ucall_n h
  have zu3 := zz_X3_number N (ub G) (ug G) u a1 s1 s0 r5 u3 c4
  obtain ⟨y6, hy6, h⟩ := mbind_n h
  by_cases c7 : y6 = 0
  · have h := mif_t c7 h
    obtain ⟨a8, ha8, hha8⟩ := mbind_n h
    subst ha8
    have h := hha8
    obtain ⟨u9, hu9, h⟩ := mbind_n h
    have zu9 := uStI_sz hu9
    obtain ⟨u10, hu10, h⟩ := mbind_n h
    have zu10 := uStI_sz hu10
    obtain ⟨y11, ey11⟩ : ∃ z : Int32, z = x3 + 1 := ⟨_, rfl⟩
    have h := mlet_at ey11 h
    obtain ⟨y12, hy12, h⟩ := mbind_n h
    by_cases c13 : y12 = 44
    · have h := mif_t c13 h
      have hq := zz_X3_pairs_209 (G := G) (a0 := a0) N k16 hk16 u10 (some a8) x2 y11 1 h
      exact ⟨by omega, by omega⟩
    · have h := mif_f c13 h
      have hq := zz_X3_pairs_209 (G := G) (a0 := a0) N k16 hk16 u10 (some a8) x2 y11 0 h
      exact ⟨by omega, by omega⟩
  · have h := mif_f c7 h
    obtain ⟨hr1, hr2⟩ := uret_n h
    subst hr2
    exact ⟨by omega, by omega⟩
set_option maxHeartbeats 4000000 in
set_option maxRecDepth 100000 in
theorem w_X3_pairs_164 {p : Program} {l : Launch} {e : Env} {R : Room} {s : State} {m : MethodId} {args : Array Value} {below : List Frame} {meth : Method} {c : Code} {G : uG} {a0 : Nat} {uf : UH} {r : Int32} (hC : uC p s m args meth c G RX3 cX3_pairs 10 (some .int)) (hR : 3 ≤ R.frames ∧ 67 ≤ R.locals) (N : Nat) (k16 : UH → Option Nat → Int32 → Int32 → Int32 → Option (Int32 × UH)) (hk16 : ∀ (u : UH) (x1 : Option Nat) (x2 : Int32) (x3 : Int32) (x4 : Int32), k16 u x1 x2 x3 x4 = some (r, uf) → ∀ (H : Heap) (locs : List Loc), uP G u H → va_S (uA G) s.heap H locs → ∀ ls : Array Slot, lv_has ls 10 [(0, va_rf (some a0)), (1, va_rf x1), (2, .int x2), (3, .int x3), (4, .int x4)] → W p l e R s m args below meth c H locs 0 0 (MQ below (uQi G r uf) args s 0 0 (uA G)) (F0 m 16 ls [])) (u : UH) (x1 : Option Nat) (x2 : Int32) (x3 : Int32) (x5 : Int32) (x8 : Int32) (s0 : Int32) (s1 : Int32) (s2 : Option Nat) (h : f_X3_pairs_164 N (ub G) (ug G) a0 k16 u x1 x2 x3 x5 x8 s0 s1 s2 = some (r, uf)) {H : Heap} {locs : List Loc} (hP : uP G u H) (hS : va_S (uA G) s.heap H locs) {ls : Array Slot} (hl : lv_has ls 10 [(0, va_rf (some a0)), (1, va_rf x1), (2, .int x2), (3, .int x3), (5, .int x5), (8, .int x8)]) : W p l e R s m args below meth c H locs 0 0 (MQ below (uQi G r uf) args s 0 0 (uA G)) (F0 m 164 ls [.int s0, .int s1, va_rf s2]) := by
  obtain ⟨⟨hx, hb, hml, hown, hts⟩, hKK⟩ := id hC
  unfold f_X3_pairs_164 at h
  obtain ⟨a1, ha1, hha1⟩ := mbind_n h
  subst ha1
  have h := hha1
  obtain ⟨c2, h⟩ := mif_n h
  obtain ⟨r5, u3, c4, h⟩ := ucall_n h
  have zu3 := zz_X3_number N (ub G) (ug G) u a1 s1 s0 r5 u3 c4
  refine u_calli (va_runV (As := [.int s1, .int s0]) (rest := []) hC.1 (met_X3_number l N G u a1 s1 s0 r5 u3 c4) (cwV 2 hts (lw_V q2213 q2215 qs55 q103 q2216) rfl rfl rfl (by decide +kernel) ⟨Nat.le_trans (Nat.le_of_ble_eq_true rfl) hR.1, Nat.le_trans (Nat.le_of_ble_eq_true rfl) hR.2⟩) ⟨uPc_blind, u_rcv hC hP c2 rfl, fun U hU hW => u_pre hC hP hS hU hW⟩ rfl rfl hl.1 rfl (lv_room (Nat.le_of_ble_eq_true rfl)) dX3_pairs_164 ⟨Nat.zero_le _, Nat.zero_le _⟩) hS (fun H locs hP hS => ?_)
  refine lv_istore (lv' := [(9, .int r5), (0, va_rf (some a0)), (1, va_rf x1), (2, .int x2), (3, .int x3), (5, .int x5), (8, .int x8)]) hx hb dX3_pairs_167 hl (by decide) rfl (fun ls hl => ?_)
  refine u_aload_n (r := some a0) hx hb dX3_pairs_169 rfl (lv_at hl 1 rfl) ?_
  obtain ⟨y6, hy6, h⟩ := mbind_n h
  refine u_get hC hP (uGI_n hy6) rfl in_X3 (by decide) q1906 (fun _ h => h) dX3_pairs_170 ?_
  refine lv_if_eq (tgt := 178) hx hb dX3_pairs_173 (by decide) (fun c7 => ?_) (fun c7 => ?_)
  · have h := mif_t c7 h
    refine u_aload_n (r := x1) hx hb dX3_pairs_178 rfl (lv_at hl 2 rfl) ?_
    refine lv_iload hx hb dX3_pairs_179 (lv_at hl 5 rfl) ?_
    refine lv_iload hx hb dX3_pairs_181 (lv_at hl 6 rfl) ?_
    obtain ⟨a8, ha8, hha8⟩ := mbind_n h
    subst ha8
    have h := hha8
    obtain ⟨u9, hu9, h⟩ := mbind_n h
    have zu9 := uStI_sz hu9
    refine u_iast hC hP hS hu9 rfl dX3_pairs_183 (fun H locs hP hS => ?_)
    refine u_aload_n (r := some a8) hx hb dX3_pairs_184 rfl (lv_at hl 2 rfl) ?_
    refine lv_iload hx hb dX3_pairs_185 (lv_at hl 5 rfl) ?_
    refine lv_iconst (v := 1) hx hb dX3_pairs_187 (by decide) ?_
    refine lv_iadd hx hb dX3_pairs_188 ?_
    refine lv_iload hx hb dX3_pairs_189 (lv_at hl 0 rfl) ?_
    obtain ⟨u10, hu10, h⟩ := mbind_n h
    have zu10 := uStI_sz hu10
    refine u_iast hC hP hS hu10 rfl dX3_pairs_191 (fun H locs hP hS => ?_)
    obtain ⟨y11, ey11⟩ : ∃ z : Int32, z = x3 + 1 := ⟨_, rfl⟩
    have h := mlet_at ey11 h
    refine lv_iinc (v := y11) (lv' := [(3, .int y11), (9, .int r5), (0, va_rf (some a0)), (1, va_rf (some a8)), (2, .int x2), (5, .int x5), (8, .int x8)]) hx hb dX3_pairs_192 hl (k := 4) rfl (by rw [ey11]; rfl) (by decide) rfl (fun ls hl => ?_)
    refine u_aload_n (r := some a0) hx hb dX3_pairs_195 rfl (lv_at hl 2 rfl) ?_
    obtain ⟨y12, hy12, h⟩ := mbind_n h
    refine u_get hC hP (uGI_n hy12) rfl in_X3 (by decide) q1899 (fun _ h => h) dX3_pairs_196 ?_
    refine lv_bipush (v := 44) hx hb dX3_pairs_199 (by decide) ?_
    refine lv_icmp_ne (tgt := 208) hx hb dX3_pairs_201 (by decide) (fun c13 => ?_) (fun c13 => ?_)
    · have h := mif_f c13 h
      refine lv_iconst (v := 0) hx hb dX3_pairs_208 (by decide) ?_
      exact w_X3_pairs_209 hC hR N k16 hk16 u10 (some a8) x2 y11 0 h hP hS (lv_sub hl [2, 3, 4, 0] rfl)
    · have h := mif_t c13 h
      refine lv_iconst (v := 1) hx hb dX3_pairs_204 (by decide) ?_
      refine lv_goto (tgt := 209) hx hb dX3_pairs_205 (by decide) ?_
      exact w_X3_pairs_209 hC hR N k16 hk16 u10 (some a8) x2 y11 1 h hP hS (lv_sub hl [2, 3, 4, 0] rfl)
  · have h := mif_f c7 h
    refine lv_iload_n hx hb dX3_pairs_176 rfl (lv_at hl 4 rfl) ?_
    obtain ⟨hr1, hr2⟩ := uret_n h
    subst hr1
    subst hr2
    exact u_iret hC hP hS dX3_pairs_177
def f_X3_pairs_151 (N b : Nat) (g : uEnv) (a0 : Nat) (k16 : UH → Option Nat → Int32 → Int32 → Int32 → Option (Int32 × UH)) (u : UH) (x1 : Option Nat) (x2 : Int32) (x3 : Int32) (x5 : Int32) (x8 : Int32) (s0 : Int32) (s1 : Option Nat) : Option (Int32 × UH) :=
    if x2 = 0 then
    f_X3_pairs_164 N b g a0 k16 u x1 x2 x3 x5 x8 150 s0 s1
    else
    f_X3_pairs_164 N b g a0 k16 u x1 x2 x3 x5 x8 300 s0 s1
set_option maxHeartbeats 4000000 in
set_option maxRecDepth 100000 in
theorem zz_X3_pairs_151 {G : uG} {a0 : Nat} {uf : UH} {r : Int32} (N : Nat) (k16 : UH → Option Nat → Int32 → Int32 → Int32 → Option (Int32 × UH)) (hk16 : ∀ (u : UH) (x1 : Option Nat) (x2 : Int32) (x3 : Int32) (x4 : Int32), k16 u x1 x2 x3 x4 = some (r, uf) → uf.1 = u.1 ∧ uf.2.1 = u.2.1) (u : UH) (x1 : Option Nat) (x2 : Int32) (x3 : Int32) (x5 : Int32) (x8 : Int32) (s0 : Int32) (s1 : Option Nat) (h : f_X3_pairs_151 N (ub G) (ug G) a0 k16 u x1 x2 x3 x5 x8 s0 s1 = some (r, uf)) : uf.1 = u.1 ∧ uf.2.1 = u.2.1 := by
  unfold f_X3_pairs_151 at h
  by_cases c1 : x2 = 0
  · have h := mif_t c1 h
    have hq := zz_X3_pairs_164 (G := G) (a0 := a0) N k16 hk16 u x1 x2 x3 x5 x8 150 s0 s1 h
    exact ⟨by omega, by omega⟩
  · have h := mif_f c1 h
    have hq := zz_X3_pairs_164 (G := G) (a0 := a0) N k16 hk16 u x1 x2 x3 x5 x8 300 s0 s1 h
    exact ⟨by omega, by omega⟩
set_option maxHeartbeats 4000000 in
set_option maxRecDepth 100000 in
theorem w_X3_pairs_151 {p : Program} {l : Launch} {e : Env} {R : Room} {s : State} {m : MethodId} {args : Array Value} {below : List Frame} {meth : Method} {c : Code} {G : uG} {a0 : Nat} {uf : UH} {r : Int32} (hC : uC p s m args meth c G RX3 cX3_pairs 10 (some .int)) (hR : 3 ≤ R.frames ∧ 67 ≤ R.locals) (N : Nat) (k16 : UH → Option Nat → Int32 → Int32 → Int32 → Option (Int32 × UH)) (hk16 : ∀ (u : UH) (x1 : Option Nat) (x2 : Int32) (x3 : Int32) (x4 : Int32), k16 u x1 x2 x3 x4 = some (r, uf) → ∀ (H : Heap) (locs : List Loc), uP G u H → va_S (uA G) s.heap H locs → ∀ ls : Array Slot, lv_has ls 10 [(0, va_rf (some a0)), (1, va_rf x1), (2, .int x2), (3, .int x3), (4, .int x4)] → W p l e R s m args below meth c H locs 0 0 (MQ below (uQi G r uf) args s 0 0 (uA G)) (F0 m 16 ls [])) (u : UH) (x1 : Option Nat) (x2 : Int32) (x3 : Int32) (x5 : Int32) (x8 : Int32) (s0 : Int32) (s1 : Option Nat) (h : f_X3_pairs_151 N (ub G) (ug G) a0 k16 u x1 x2 x3 x5 x8 s0 s1 = some (r, uf)) {H : Heap} {locs : List Loc} (hP : uP G u H) (hS : va_S (uA G) s.heap H locs) {ls : Array Slot} (hl : lv_has ls 10 [(0, va_rf (some a0)), (1, va_rf x1), (2, .int x2), (3, .int x3), (5, .int x5), (8, .int x8)]) : W p l e R s m args below meth c H locs 0 0 (MQ below (uQi G r uf) args s 0 0 (uA G)) (F0 m 151 ls [.int s0, va_rf s1]) := by
  obtain ⟨⟨hx, hb, hml, hown, hts⟩, hKK⟩ := id hC
  unfold f_X3_pairs_151 at h
  refine lv_iload_n hx hb dX3_pairs_151 rfl (lv_at hl 2 rfl) ?_
  refine lv_if_eq (tgt := 161) hx hb dX3_pairs_152 (by decide) (fun c1 => ?_) (fun c1 => ?_)
  · have h := mif_t c1 h
    refine lv_sipush (v := 150) hx hb dX3_pairs_161 (by decide) ?_
    exact w_X3_pairs_164 hC hR N k16 hk16 u x1 x2 x3 x5 x8 150 s0 s1 h hP hS (lv_sub hl [0, 1, 2, 3, 4, 5] rfl)
  · have h := mif_f c1 h
    refine lv_sipush (v := 300) hx hb dX3_pairs_155 (by decide) ?_
    refine lv_goto (tgt := 164) hx hb dX3_pairs_158 (by decide) ?_
    exact w_X3_pairs_164 hC hR N k16 hk16 u x1 x2 x3 x5 x8 300 s0 s1 h hP hS (lv_sub hl [0, 1, 2, 3, 4, 5] rfl)
def f_X3_pairs_150 (N b : Nat) (g : uEnv) (a0 : Nat) (k16 : UH → Option Nat → Int32 → Int32 → Int32 → Option (Int32 × UH)) (u : UH) (x1 : Option Nat) (x2 : Int32) (x3 : Int32) (x5 : Int32) (x8 : Int32) (s0 : Option Nat) : Option (Int32 × UH) :=
    f_X3_pairs_151 N b g a0 k16 u x1 x2 x3 x5 x8 0 s0
set_option maxHeartbeats 4000000 in
set_option maxRecDepth 100000 in
theorem zz_X3_pairs_150 {G : uG} {a0 : Nat} {uf : UH} {r : Int32} (N : Nat) (k16 : UH → Option Nat → Int32 → Int32 → Int32 → Option (Int32 × UH)) (hk16 : ∀ (u : UH) (x1 : Option Nat) (x2 : Int32) (x3 : Int32) (x4 : Int32), k16 u x1 x2 x3 x4 = some (r, uf) → uf.1 = u.1 ∧ uf.2.1 = u.2.1) (u : UH) (x1 : Option Nat) (x2 : Int32) (x3 : Int32) (x5 : Int32) (x8 : Int32) (s0 : Option Nat) (h : f_X3_pairs_150 N (ub G) (ug G) a0 k16 u x1 x2 x3 x5 x8 s0 = some (r, uf)) : uf.1 = u.1 ∧ uf.2.1 = u.2.1 := by
  unfold f_X3_pairs_150 at h
  have hq := zz_X3_pairs_151 (G := G) (a0 := a0) N k16 hk16 u x1 x2 x3 x5 x8 0 s0 h
  exact ⟨by omega, by omega⟩
set_option maxHeartbeats 4000000 in
set_option maxRecDepth 100000 in
theorem w_X3_pairs_150 {p : Program} {l : Launch} {e : Env} {R : Room} {s : State} {m : MethodId} {args : Array Value} {below : List Frame} {meth : Method} {c : Code} {G : uG} {a0 : Nat} {uf : UH} {r : Int32} (hC : uC p s m args meth c G RX3 cX3_pairs 10 (some .int)) (hR : 3 ≤ R.frames ∧ 67 ≤ R.locals) (N : Nat) (k16 : UH → Option Nat → Int32 → Int32 → Int32 → Option (Int32 × UH)) (hk16 : ∀ (u : UH) (x1 : Option Nat) (x2 : Int32) (x3 : Int32) (x4 : Int32), k16 u x1 x2 x3 x4 = some (r, uf) → ∀ (H : Heap) (locs : List Loc), uP G u H → va_S (uA G) s.heap H locs → ∀ ls : Array Slot, lv_has ls 10 [(0, va_rf (some a0)), (1, va_rf x1), (2, .int x2), (3, .int x3), (4, .int x4)] → W p l e R s m args below meth c H locs 0 0 (MQ below (uQi G r uf) args s 0 0 (uA G)) (F0 m 16 ls [])) (u : UH) (x1 : Option Nat) (x2 : Int32) (x3 : Int32) (x5 : Int32) (x8 : Int32) (s0 : Option Nat) (h : f_X3_pairs_150 N (ub G) (ug G) a0 k16 u x1 x2 x3 x5 x8 s0 = some (r, uf)) {H : Heap} {locs : List Loc} (hP : uP G u H) (hS : va_S (uA G) s.heap H locs) {ls : Array Slot} (hl : lv_has ls 10 [(0, va_rf (some a0)), (1, va_rf x1), (2, .int x2), (3, .int x3), (5, .int x5), (8, .int x8)]) : W p l e R s m args below meth c H locs 0 0 (MQ below (uQi G r uf) args s 0 0 (uA G)) (F0 m 150 ls [va_rf s0]) := by
  obtain ⟨⟨hx, hb, hml, hown, hts⟩, hKK⟩ := id hC
  unfold f_X3_pairs_150 at h
  refine lv_iconst (v := 0) hx hb dX3_pairs_150 (by decide) ?_
  exact w_X3_pairs_151 hC hR N k16 hk16 u x1 x2 x3 x5 x8 0 s0 h hP hS (lv_sub hl [0, 1, 2, 3, 4, 5] rfl)
def f_X3_pairs_116 (N b : Nat) (g : uEnv) (a0 : Nat) (k16 : UH → Option Nat → Int32 → Int32 → Int32 → Option (Int32 × UH)) (u : UH) (x1 : Option Nat) (x2 : Int32) (x3 : Int32) (x5 : Int32) (x8 : Int32) : Option (Int32 × UH) :=
    if x2 = 0 then
    f_X3_pairs_150 N b g a0 k16 u x1 x2 x3 x5 x8 (some a0)
    else
    if x3 ≤ 0 then
    f_X3_pairs_150 N b g a0 k16 u x1 x2 x3 x5 x8 (some a0)
    else
    (uGI u a0 2 13).bind fun y3 =>
    if y3 = 0 then
    (uGI u a0 2 22).bind fun y5 =>
    (x1).bind fun a6 =>
    (uLdI u a6 0 (((8 * y5) + (2 * x3)) - 1)).bind fun y7 =>
    f_X3_pairs_151 N b g a0 k16 u (some a6) x2 x3 x5 x8 y7 (some a0)
    else
    f_X3_pairs_150 N b g a0 k16 u x1 x2 x3 x5 x8 (some a0)
set_option maxHeartbeats 4000000 in
set_option maxRecDepth 100000 in
theorem zz_X3_pairs_116 {G : uG} {a0 : Nat} {uf : UH} {r : Int32} (N : Nat) (k16 : UH → Option Nat → Int32 → Int32 → Int32 → Option (Int32 × UH)) (hk16 : ∀ (u : UH) (x1 : Option Nat) (x2 : Int32) (x3 : Int32) (x4 : Int32), k16 u x1 x2 x3 x4 = some (r, uf) → uf.1 = u.1 ∧ uf.2.1 = u.2.1) (u : UH) (x1 : Option Nat) (x2 : Int32) (x3 : Int32) (x5 : Int32) (x8 : Int32) (h : f_X3_pairs_116 N (ub G) (ug G) a0 k16 u x1 x2 x3 x5 x8 = some (r, uf)) : uf.1 = u.1 ∧ uf.2.1 = u.2.1 := by
  unfold f_X3_pairs_116 at h
  by_cases c1 : x2 = 0
  · have h := mif_t c1 h
    have hq := zz_X3_pairs_150 (G := G) (a0 := a0) N k16 hk16 u x1 x2 x3 x5 x8 (some a0) h
    exact ⟨by omega, by omega⟩
  · have h := mif_f c1 h
    by_cases c2 : x3 ≤ 0
    · have h := mif_t c2 h
      have hq := zz_X3_pairs_150 (G := G) (a0 := a0) N k16 hk16 u x1 x2 x3 x5 x8 (some a0) h
      exact ⟨by omega, by omega⟩
    · have h := mif_f c2 h
      obtain ⟨y3, hy3, h⟩ := mbind_n h
      by_cases c4 : y3 = 0
      · have h := mif_t c4 h
        obtain ⟨y5, hy5, h⟩ := mbind_n h
        obtain ⟨a6, ha6, hha6⟩ := mbind_n h
        subst ha6
        have h := hha6
        obtain ⟨y7, hy7, h⟩ := mbind_n h
        have hq := zz_X3_pairs_151 (G := G) (a0 := a0) N k16 hk16 u (some a6) x2 x3 x5 x8 y7 (some a0) h
        exact ⟨by omega, by omega⟩
      · have h := mif_f c4 h
        have hq := zz_X3_pairs_150 (G := G) (a0 := a0) N k16 hk16 u x1 x2 x3 x5 x8 (some a0) h
        exact ⟨by omega, by omega⟩
set_option maxHeartbeats 4000000 in
set_option maxRecDepth 100000 in
theorem w_X3_pairs_116 {p : Program} {l : Launch} {e : Env} {R : Room} {s : State} {m : MethodId} {args : Array Value} {below : List Frame} {meth : Method} {c : Code} {G : uG} {a0 : Nat} {uf : UH} {r : Int32} (hC : uC p s m args meth c G RX3 cX3_pairs 10 (some .int)) (hR : 3 ≤ R.frames ∧ 67 ≤ R.locals) (N : Nat) (k16 : UH → Option Nat → Int32 → Int32 → Int32 → Option (Int32 × UH)) (hk16 : ∀ (u : UH) (x1 : Option Nat) (x2 : Int32) (x3 : Int32) (x4 : Int32), k16 u x1 x2 x3 x4 = some (r, uf) → ∀ (H : Heap) (locs : List Loc), uP G u H → va_S (uA G) s.heap H locs → ∀ ls : Array Slot, lv_has ls 10 [(0, va_rf (some a0)), (1, va_rf x1), (2, .int x2), (3, .int x3), (4, .int x4)] → W p l e R s m args below meth c H locs 0 0 (MQ below (uQi G r uf) args s 0 0 (uA G)) (F0 m 16 ls [])) (u : UH) (x1 : Option Nat) (x2 : Int32) (x3 : Int32) (x5 : Int32) (x8 : Int32) (h : f_X3_pairs_116 N (ub G) (ug G) a0 k16 u x1 x2 x3 x5 x8 = some (r, uf)) {H : Heap} {locs : List Loc} (hP : uP G u H) (hS : va_S (uA G) s.heap H locs) {ls : Array Slot} (hl : lv_has ls 10 [(0, va_rf (some a0)), (1, va_rf x1), (2, .int x2), (3, .int x3), (5, .int x5), (8, .int x8)]) : W p l e R s m args below meth c H locs 0 0 (MQ below (uQi G r uf) args s 0 0 (uA G)) (F0 m 116 ls []) := by
  obtain ⟨⟨hx, hb, hml, hown, hts⟩, hKK⟩ := id hC
  unfold f_X3_pairs_116 at h
  refine u_aload_n (r := some a0) hx hb dX3_pairs_116 rfl (lv_at hl 0 rfl) ?_
  refine lv_iload_n hx hb dX3_pairs_117 rfl (lv_at hl 2 rfl) ?_
  refine lv_if_eq (tgt := 150) hx hb dX3_pairs_118 (by decide) (fun c1 => ?_) (fun c1 => ?_)
  · have h := mif_t c1 h
    exact w_X3_pairs_150 hC hR N k16 hk16 u x1 x2 x3 x5 x8 (some a0) h hP hS (lv_sub hl [0, 1, 2, 3, 4, 5] rfl)
  · have h := mif_f c1 h
    refine lv_iload_n hx hb dX3_pairs_121 rfl (lv_at hl 3 rfl) ?_
    refine lv_if_le (tgt := 150) hx hb dX3_pairs_122 (by decide) (fun c2 => ?_) (fun c2 => ?_)
    · have h := mif_t c2 h
      exact w_X3_pairs_150 hC hR N k16 hk16 u x1 x2 x3 x5 x8 (some a0) h hP hS (lv_sub hl [0, 1, 2, 3, 4, 5] rfl)
    · have h := mif_f c2 h
      refine u_aload_n (r := some a0) hx hb dX3_pairs_125 rfl (lv_at hl 0 rfl) ?_
      obtain ⟨y3, hy3, h⟩ := mbind_n h
      refine u_get hC hP (uGI_n hy3) rfl in_X3 (by decide) q1906 (fun _ h => h) dX3_pairs_126 ?_
      refine lv_if_ne (tgt := 150) hx hb dX3_pairs_129 (by decide) (fun c4 => ?_) (fun c4 => ?_)
      · have h := mif_f c4 h
        exact w_X3_pairs_150 hC hR N k16 hk16 u x1 x2 x3 x5 x8 (some a0) h hP hS (lv_sub hl [0, 1, 2, 3, 4, 5] rfl)
      · have h := mif_t c4 h
        refine u_aload_n (r := x1) hx hb dX3_pairs_132 rfl (lv_at hl 1 rfl) ?_
        refine lv_bipush (v := 8) hx hb dX3_pairs_133 (by decide) ?_
        refine u_aload_n (r := some a0) hx hb dX3_pairs_135 rfl (lv_at hl 0 rfl) ?_
        obtain ⟨y5, hy5, h⟩ := mbind_n h
        refine u_get hC hP (uGI_n hy5) rfl in_X3 (by decide) q1915 (fun _ h => h) dX3_pairs_136 ?_
        refine lv_imul hx hb dX3_pairs_139 ?_
        refine lv_iconst (v := 2) hx hb dX3_pairs_140 (by decide) ?_
        refine lv_iload_n hx hb dX3_pairs_141 rfl (lv_at hl 3 rfl) ?_
        refine lv_imul hx hb dX3_pairs_142 ?_
        refine lv_iadd hx hb dX3_pairs_143 ?_
        refine lv_iconst (v := 1) hx hb dX3_pairs_144 (by decide) ?_
        refine lv_isub hx hb dX3_pairs_145 ?_
        obtain ⟨a6, ha6, hha6⟩ := mbind_n h
        subst ha6
        have h := hha6
        obtain ⟨y7, hy7, h⟩ := mbind_n h
        refine u_iald hC hP hy7 rfl dX3_pairs_146 ?_
        refine lv_goto (tgt := 151) hx hb dX3_pairs_147 (by decide) ?_
        exact w_X3_pairs_151 hC hR N k16 hk16 u (some a6) x2 x3 x5 x8 y7 (some a0) h hP hS (lv_sub hl [0, 1, 2, 3, 4, 5] rfl)
def f_X3_pairs_91 (N b : Nat) (g : uEnv) (a0 : Nat) (k16 : UH → Option Nat → Int32 → Int32 → Int32 → Option (Int32 × UH)) (u : UH) (x1 : Option Nat) (x2 : Int32) (x3 : Int32) (x5 : Int32) (x7 : Int32) (s0 : Int32) (s1 : Int32) (s2 : Option Nat) : Option (Int32 × UH) :=
    (s2).bind fun a1 =>
    if uIs u a1 2 = true then
    ucall (f_X3_number N b g u a1 s1 s0) fun r5 u3 =>
    (uGI u3 a0 2 13).bind fun y6 =>
    if y6 = 0 then
    if x3 = 4 then
    if uIs u3 a0 2 = true then
    ucall (f_X3_wrong N b g u3 a0 5 x7) fun r12 u10 =>
    f_X3_pairs_116 N b g a0 k16 u10 x1 x2 x3 x5 r5
    else none
    else
    f_X3_pairs_116 N b g a0 k16 u3 x1 x2 x3 x5 r5
    else
    f_X3_pairs_116 N b g a0 k16 u3 x1 x2 x3 x5 r5
    else none
set_option maxHeartbeats 4000000 in
set_option maxRecDepth 100000 in
theorem zz_X3_pairs_91 {G : uG} {a0 : Nat} {uf : UH} {r : Int32} (N : Nat) (k16 : UH → Option Nat → Int32 → Int32 → Int32 → Option (Int32 × UH)) (hk16 : ∀ (u : UH) (x1 : Option Nat) (x2 : Int32) (x3 : Int32) (x4 : Int32), k16 u x1 x2 x3 x4 = some (r, uf) → uf.1 = u.1 ∧ uf.2.1 = u.2.1) (u : UH) (x1 : Option Nat) (x2 : Int32) (x3 : Int32) (x5 : Int32) (x7 : Int32) (s0 : Int32) (s1 : Int32) (s2 : Option Nat) (h : f_X3_pairs_91 N (ub G) (ug G) a0 k16 u x1 x2 x3 x5 x7 s0 s1 s2 = some (r, uf)) : uf.1 = u.1 ∧ uf.2.1 = u.2.1 := by
  unfold f_X3_pairs_91 at h
  obtain ⟨a1, ha1, hha1⟩ := mbind_n h
  subst ha1
  have h := hha1
  obtain ⟨c2, h⟩ := mif_n h
  obtain ⟨r5, u3, c4, h⟩ := ucall_n h
  have zu3 := zz_X3_number N (ub G) (ug G) u a1 s1 s0 r5 u3 c4
  obtain ⟨y6, hy6, h⟩ := mbind_n h
  by_cases c7 : y6 = 0
  · have h := mif_t c7 h
    by_cases c8 : x3 = 4
    · have h := mif_t c8 h
      obtain ⟨c9, h⟩ := mif_n h
      obtain ⟨r12, u10, c11, h⟩ := ucall_n h
      have zu10 := zz_X3_wrong N (ub G) (ug G) u3 a0 5 x7 r12 u10 c11
      have hq := zz_X3_pairs_116 (G := G) (a0 := a0) N k16 hk16 u10 x1 x2 x3 x5 r5 h
      exact ⟨by omega, by omega⟩
    · have h := mif_f c8 h
      have hq := zz_X3_pairs_116 (G := G) (a0 := a0) N k16 hk16 u3 x1 x2 x3 x5 r5 h
      exact ⟨by omega, by omega⟩
  · have h := mif_f c7 h
    have hq := zz_X3_pairs_116 (G := G) (a0 := a0) N k16 hk16 u3 x1 x2 x3 x5 r5 h
    exact ⟨by omega, by omega⟩
set_option maxHeartbeats 4000000 in
set_option maxRecDepth 100000 in
theorem w_X3_pairs_91 {p : Program} {l : Launch} {e : Env} {R : Room} {s : State} {m : MethodId} {args : Array Value} {below : List Frame} {meth : Method} {c : Code} {G : uG} {a0 : Nat} {uf : UH} {r : Int32} (hC : uC p s m args meth c G RX3 cX3_pairs 10 (some .int)) (hR : 3 ≤ R.frames ∧ 67 ≤ R.locals) (N : Nat) (k16 : UH → Option Nat → Int32 → Int32 → Int32 → Option (Int32 × UH)) (hk16 : ∀ (u : UH) (x1 : Option Nat) (x2 : Int32) (x3 : Int32) (x4 : Int32), k16 u x1 x2 x3 x4 = some (r, uf) → ∀ (H : Heap) (locs : List Loc), uP G u H → va_S (uA G) s.heap H locs → ∀ ls : Array Slot, lv_has ls 10 [(0, va_rf (some a0)), (1, va_rf x1), (2, .int x2), (3, .int x3), (4, .int x4)] → W p l e R s m args below meth c H locs 0 0 (MQ below (uQi G r uf) args s 0 0 (uA G)) (F0 m 16 ls [])) (u : UH) (x1 : Option Nat) (x2 : Int32) (x3 : Int32) (x5 : Int32) (x7 : Int32) (s0 : Int32) (s1 : Int32) (s2 : Option Nat) (h : f_X3_pairs_91 N (ub G) (ug G) a0 k16 u x1 x2 x3 x5 x7 s0 s1 s2 = some (r, uf)) {H : Heap} {locs : List Loc} (hP : uP G u H) (hS : va_S (uA G) s.heap H locs) {ls : Array Slot} (hl : lv_has ls 10 [(0, va_rf (some a0)), (1, va_rf x1), (2, .int x2), (3, .int x3), (5, .int x5), (7, .int x7)]) : W p l e R s m args below meth c H locs 0 0 (MQ below (uQi G r uf) args s 0 0 (uA G)) (F0 m 91 ls [.int s0, .int s1, va_rf s2]) := by
  obtain ⟨⟨hx, hb, hml, hown, hts⟩, hKK⟩ := id hC
  unfold f_X3_pairs_91 at h
  obtain ⟨a1, ha1, hha1⟩ := mbind_n h
  subst ha1
  have h := hha1
  obtain ⟨c2, h⟩ := mif_n h
  obtain ⟨r5, u3, c4, h⟩ := ucall_n h
  have zu3 := zz_X3_number N (ub G) (ug G) u a1 s1 s0 r5 u3 c4
  refine u_calli (va_runV (As := [.int s1, .int s0]) (rest := []) hC.1 (met_X3_number l N G u a1 s1 s0 r5 u3 c4) (cwV 2 hts (lw_V q2213 q2215 qs55 q103 q2216) rfl rfl rfl (by decide +kernel) ⟨Nat.le_trans (Nat.le_of_ble_eq_true rfl) hR.1, Nat.le_trans (Nat.le_of_ble_eq_true rfl) hR.2⟩) ⟨uPc_blind, u_rcv hC hP c2 rfl, fun U hU hW => u_pre hC hP hS hU hW⟩ rfl rfl hl.1 rfl (lv_room (Nat.le_of_ble_eq_true rfl)) dX3_pairs_91 ⟨Nat.zero_le _, Nat.zero_le _⟩) hS (fun H locs hP hS => ?_)
  refine lv_istore (lv' := [(8, .int r5), (0, va_rf (some a0)), (1, va_rf x1), (2, .int x2), (3, .int x3), (5, .int x5), (7, .int x7)]) hx hb dX3_pairs_94 hl (by decide) rfl (fun ls hl => ?_)
  refine u_aload_n (r := some a0) hx hb dX3_pairs_96 rfl (lv_at hl 1 rfl) ?_
  obtain ⟨y6, hy6, h⟩ := mbind_n h
  refine u_get hC hP (uGI_n hy6) rfl in_X3 (by decide) q1906 (fun _ h => h) dX3_pairs_97 ?_
  refine lv_if_ne (tgt := 116) hx hb dX3_pairs_100 (by decide) (fun c7 => ?_) (fun c7 => ?_)
  · have h := mif_f c7 h
    exact w_X3_pairs_116 hC hR N k16 hk16 u3 x1 x2 x3 x5 r5 h hP hS (lv_sub hl [1, 2, 3, 4, 5, 0] rfl)
  · have h := mif_t c7 h
    refine lv_iload_n hx hb dX3_pairs_103 rfl (lv_at hl 4 rfl) ?_
    refine lv_iconst (v := 4) hx hb dX3_pairs_104 (by decide) ?_
    refine lv_icmp_ne (tgt := 116) hx hb dX3_pairs_105 (by decide) (fun c8 => ?_) (fun c8 => ?_)
    · have h := mif_f c8 h
      exact w_X3_pairs_116 hC hR N k16 hk16 u3 x1 x2 x3 x5 r5 h hP hS (lv_sub hl [1, 2, 3, 4, 5, 0] rfl)
    · have h := mif_t c8 h
      refine u_aload_n (r := some a0) hx hb dX3_pairs_108 rfl (lv_at hl 1 rfl) ?_
      refine lv_iconst (v := 5) hx hb dX3_pairs_109 (by decide) ?_
      refine lv_iload hx hb dX3_pairs_110 (lv_at hl 6 rfl) ?_
      obtain ⟨c9, h⟩ := mif_n h
      obtain ⟨r12, u10, c11, h⟩ := ucall_n h
      have zu10 := zz_X3_wrong N (ub G) (ug G) u3 a0 5 x7 r12 u10 c11
      refine u_calli (va_runV (As := [.int 5, .int x7]) (rest := []) hC.1 (met_X3_wrong l N G u3 a0 5 x7 r12 u10 c11) (cwV 2 hts (lw_V q2196 q2198 qs51 q103 q2199) rfl rfl rfl (by decide +kernel) ⟨Nat.le_trans (Nat.le_of_ble_eq_true rfl) hR.1, Nat.le_trans (Nat.le_of_ble_eq_true rfl) hR.2⟩) ⟨uPc_blind, u_rcv hC hP c9 rfl, fun U hU hW => u_pre hC hP hS hU hW⟩ rfl rfl hl.1 rfl (lv_room (Nat.le_of_ble_eq_true rfl)) dX3_pairs_112 ⟨Nat.zero_le _, Nat.zero_le _⟩) hS (fun H locs hP hS => ?_)
      refine lv_pop hx hb dX3_pairs_115 rfl ?_
      exact w_X3_pairs_116 hC hR N k16 hk16 u10 x1 x2 x3 x5 r5 h hP hS (lv_sub hl [1, 2, 3, 4, 5, 0] rfl)
def f_X3_pairs_68 (N b : Nat) (g : uEnv) (a0 : Nat) (k16 : UH → Option Nat → Int32 → Int32 → Int32 → Option (Int32 × UH)) (u : UH) (x1 : Option Nat) (x2 : Int32) (x3 : Int32) (x5 : Int32) (s0 : Int32) : Option (Int32 × UH) :=
    (uGI u a0 2 4).bind fun y1 =>
    if x2 = 0 then
    f_X3_pairs_91 N b g a0 k16 u x1 x2 x3 x5 y1 90 s0 (some a0)
    else
    f_X3_pairs_91 N b g a0 k16 u x1 x2 x3 x5 y1 999 s0 (some a0)
set_option maxHeartbeats 4000000 in
set_option maxRecDepth 100000 in
theorem zz_X3_pairs_68 {G : uG} {a0 : Nat} {uf : UH} {r : Int32} (N : Nat) (k16 : UH → Option Nat → Int32 → Int32 → Int32 → Option (Int32 × UH)) (hk16 : ∀ (u : UH) (x1 : Option Nat) (x2 : Int32) (x3 : Int32) (x4 : Int32), k16 u x1 x2 x3 x4 = some (r, uf) → uf.1 = u.1 ∧ uf.2.1 = u.2.1) (u : UH) (x1 : Option Nat) (x2 : Int32) (x3 : Int32) (x5 : Int32) (s0 : Int32) (h : f_X3_pairs_68 N (ub G) (ug G) a0 k16 u x1 x2 x3 x5 s0 = some (r, uf)) : uf.1 = u.1 ∧ uf.2.1 = u.2.1 := by
  unfold f_X3_pairs_68 at h
  obtain ⟨y1, hy1, h⟩ := mbind_n h
  by_cases c2 : x2 = 0
  · have h := mif_t c2 h
    have hq := zz_X3_pairs_91 (G := G) (a0 := a0) N k16 hk16 u x1 x2 x3 x5 y1 90 s0 (some a0) h
    exact ⟨by omega, by omega⟩
  · have h := mif_f c2 h
    have hq := zz_X3_pairs_91 (G := G) (a0 := a0) N k16 hk16 u x1 x2 x3 x5 y1 999 s0 (some a0) h
    exact ⟨by omega, by omega⟩
set_option maxHeartbeats 4000000 in
set_option maxRecDepth 100000 in
theorem w_X3_pairs_68 {p : Program} {l : Launch} {e : Env} {R : Room} {s : State} {m : MethodId} {args : Array Value} {below : List Frame} {meth : Method} {c : Code} {G : uG} {a0 : Nat} {uf : UH} {r : Int32} (hC : uC p s m args meth c G RX3 cX3_pairs 10 (some .int)) (hR : 3 ≤ R.frames ∧ 67 ≤ R.locals) (N : Nat) (k16 : UH → Option Nat → Int32 → Int32 → Int32 → Option (Int32 × UH)) (hk16 : ∀ (u : UH) (x1 : Option Nat) (x2 : Int32) (x3 : Int32) (x4 : Int32), k16 u x1 x2 x3 x4 = some (r, uf) → ∀ (H : Heap) (locs : List Loc), uP G u H → va_S (uA G) s.heap H locs → ∀ ls : Array Slot, lv_has ls 10 [(0, va_rf (some a0)), (1, va_rf x1), (2, .int x2), (3, .int x3), (4, .int x4)] → W p l e R s m args below meth c H locs 0 0 (MQ below (uQi G r uf) args s 0 0 (uA G)) (F0 m 16 ls [])) (u : UH) (x1 : Option Nat) (x2 : Int32) (x3 : Int32) (x5 : Int32) (s0 : Int32) (h : f_X3_pairs_68 N (ub G) (ug G) a0 k16 u x1 x2 x3 x5 s0 = some (r, uf)) {H : Heap} {locs : List Loc} (hP : uP G u H) (hS : va_S (uA G) s.heap H locs) {ls : Array Slot} (hl : lv_has ls 10 [(0, va_rf (some a0)), (1, va_rf x1), (2, .int x2), (3, .int x3), (5, .int x5)]) : W p l e R s m args below meth c H locs 0 0 (MQ below (uQi G r uf) args s 0 0 (uA G)) (F0 m 68 ls [.int s0]) := by
  obtain ⟨⟨hx, hb, hml, hown, hts⟩, hKK⟩ := id hC
  unfold f_X3_pairs_68 at h
  refine lv_istore (lv' := [(6, .int s0), (0, va_rf (some a0)), (1, va_rf x1), (2, .int x2), (3, .int x3), (5, .int x5)]) hx hb dX3_pairs_68 hl (by decide) rfl (fun ls hl => ?_)
  refine u_aload_n (r := some a0) hx hb dX3_pairs_70 rfl (lv_at hl 1 rfl) ?_
  obtain ⟨y1, hy1, h⟩ := mbind_n h
  refine u_get hC hP (uGI_n hy1) rfl in_X3 (by decide) q1897 (fun _ h => h) dX3_pairs_71 ?_
  refine lv_istore (lv' := [(7, .int y1), (6, .int s0), (0, va_rf (some a0)), (1, va_rf x1), (2, .int x2), (3, .int x3), (5, .int x5)]) hx hb dX3_pairs_74 hl (by decide) rfl (fun ls hl => ?_)
  refine u_aload_n (r := some a0) hx hb dX3_pairs_76 rfl (lv_at hl 2 rfl) ?_
  refine lv_iload hx hb dX3_pairs_77 (lv_at hl 1 rfl) ?_
  refine lv_iload_n hx hb dX3_pairs_79 rfl (lv_at hl 4 rfl) ?_
  refine lv_if_eq (tgt := 89) hx hb dX3_pairs_80 (by decide) (fun c2 => ?_) (fun c2 => ?_)
  · have h := mif_t c2 h
    refine lv_bipush (v := 90) hx hb dX3_pairs_89 (by decide) ?_
    exact w_X3_pairs_91 hC hR N k16 hk16 u x1 x2 x3 x5 y1 90 s0 (some a0) h hP hS (lv_sub hl [2, 3, 4, 5, 6, 0] rfl)
  · have h := mif_f c2 h
    refine lv_sipush (v := 999) hx hb dX3_pairs_83 (by decide) ?_
    refine lv_goto (tgt := 91) hx hb dX3_pairs_86 (by decide) ?_
    exact w_X3_pairs_91 hC hR N k16 hk16 u x1 x2 x3 x5 y1 999 s0 (some a0) h hP hS (lv_sub hl [2, 3, 4, 5, 6, 0] rfl)
def f_X3_pairs_39 (N b : Nat) (g : uEnv) (a0 : Nat) (k16 : UH → Option Nat → Int32 → Int32 → Int32 → Option (Int32 × UH)) (u : UH) (x1 : Option Nat) (x2 : Int32) (x3 : Int32) (s0 : Int32) (s1 : Int32) (s2 : Int32) : Option (Int32 × UH) :=
    mlet (s2 + (s1 * s0)) fun y1 =>
    if x3 = 0 then
    f_X3_pairs_68 N b g a0 k16 u x1 x2 x3 y1 0
    else
    (uGI u a0 2 22).bind fun y3 =>
    (x1).bind fun a4 =>
    (uLdI u a4 0 (((8 * y3) + (2 * x3)) - 2)).bind fun y5 =>
    f_X3_pairs_68 N b g a0 k16 u (some a4) x2 x3 y1 (y5 + 1)
set_option maxHeartbeats 4000000 in
set_option maxRecDepth 100000 in
theorem zz_X3_pairs_39 {G : uG} {a0 : Nat} {uf : UH} {r : Int32} (N : Nat) (k16 : UH → Option Nat → Int32 → Int32 → Int32 → Option (Int32 × UH)) (hk16 : ∀ (u : UH) (x1 : Option Nat) (x2 : Int32) (x3 : Int32) (x4 : Int32), k16 u x1 x2 x3 x4 = some (r, uf) → uf.1 = u.1 ∧ uf.2.1 = u.2.1) (u : UH) (x1 : Option Nat) (x2 : Int32) (x3 : Int32) (s0 : Int32) (s1 : Int32) (s2 : Int32) (h : f_X3_pairs_39 N (ub G) (ug G) a0 k16 u x1 x2 x3 s0 s1 s2 = some (r, uf)) : uf.1 = u.1 ∧ uf.2.1 = u.2.1 := by
  unfold f_X3_pairs_39 at h
  obtain ⟨y1, ey1⟩ : ∃ z, z = s2 + (s1 * s0) := ⟨_, rfl⟩
  have h := mlet_at ey1 h
  by_cases c2 : x3 = 0
  · have h := mif_t c2 h
    have hq := zz_X3_pairs_68 (G := G) (a0 := a0) N k16 hk16 u x1 x2 x3 y1 0 h
    exact ⟨by omega, by omega⟩
  · have h := mif_f c2 h
    obtain ⟨y3, hy3, h⟩ := mbind_n h
    obtain ⟨a4, ha4, hha4⟩ := mbind_n h
    subst ha4
    have h := hha4
    obtain ⟨y5, hy5, h⟩ := mbind_n h
    have hq := zz_X3_pairs_68 (G := G) (a0 := a0) N k16 hk16 u (some a4) x2 x3 y1 (y5 + 1) h
    exact ⟨by omega, by omega⟩
set_option maxHeartbeats 4000000 in
set_option maxRecDepth 100000 in
theorem w_X3_pairs_39 {p : Program} {l : Launch} {e : Env} {R : Room} {s : State} {m : MethodId} {args : Array Value} {below : List Frame} {meth : Method} {c : Code} {G : uG} {a0 : Nat} {uf : UH} {r : Int32} (hC : uC p s m args meth c G RX3 cX3_pairs 10 (some .int)) (hR : 3 ≤ R.frames ∧ 67 ≤ R.locals) (N : Nat) (k16 : UH → Option Nat → Int32 → Int32 → Int32 → Option (Int32 × UH)) (hk16 : ∀ (u : UH) (x1 : Option Nat) (x2 : Int32) (x3 : Int32) (x4 : Int32), k16 u x1 x2 x3 x4 = some (r, uf) → ∀ (H : Heap) (locs : List Loc), uP G u H → va_S (uA G) s.heap H locs → ∀ ls : Array Slot, lv_has ls 10 [(0, va_rf (some a0)), (1, va_rf x1), (2, .int x2), (3, .int x3), (4, .int x4)] → W p l e R s m args below meth c H locs 0 0 (MQ below (uQi G r uf) args s 0 0 (uA G)) (F0 m 16 ls [])) (u : UH) (x1 : Option Nat) (x2 : Int32) (x3 : Int32) (s0 : Int32) (s1 : Int32) (s2 : Int32) (h : f_X3_pairs_39 N (ub G) (ug G) a0 k16 u x1 x2 x3 s0 s1 s2 = some (r, uf)) {H : Heap} {locs : List Loc} (hP : uP G u H) (hS : va_S (uA G) s.heap H locs) {ls : Array Slot} (hl : lv_has ls 10 [(0, va_rf (some a0)), (1, va_rf x1), (2, .int x2), (3, .int x3)]) : W p l e R s m args below meth c H locs 0 0 (MQ below (uQi G r uf) args s 0 0 (uA G)) (F0 m 39 ls [.int s0, .int s1, .int s2]) := by
  obtain ⟨⟨hx, hb, hml, hown, hts⟩, hKK⟩ := id hC
  unfold f_X3_pairs_39 at h
  refine lv_imul hx hb dX3_pairs_39 ?_
  refine lv_iadd hx hb dX3_pairs_40 ?_
  refine lv_topi (fun y1 ey1 => ?_)
  have h := mlet_at ey1 h
  refine lv_istore (lv' := [(5, .int y1), (0, va_rf (some a0)), (1, va_rf x1), (2, .int x2), (3, .int x3)]) hx hb dX3_pairs_41 hl (by decide) rfl (fun ls hl => ?_)
  refine lv_iload_n hx hb dX3_pairs_43 rfl (lv_at hl 4 rfl) ?_
  refine lv_if_ne (tgt := 51) hx hb dX3_pairs_44 (by decide) (fun c2 => ?_) (fun c2 => ?_)
  · have h := mif_f c2 h
    refine u_aload_n (r := x1) hx hb dX3_pairs_51 rfl (lv_at hl 2 rfl) ?_
    refine lv_bipush (v := 8) hx hb dX3_pairs_52 (by decide) ?_
    refine u_aload_n (r := some a0) hx hb dX3_pairs_54 rfl (lv_at hl 1 rfl) ?_
    obtain ⟨y3, hy3, h⟩ := mbind_n h
    refine u_get hC hP (uGI_n hy3) rfl in_X3 (by decide) q1915 (fun _ h => h) dX3_pairs_55 ?_
    refine lv_imul hx hb dX3_pairs_58 ?_
    refine lv_iconst (v := 2) hx hb dX3_pairs_59 (by decide) ?_
    refine lv_iload_n hx hb dX3_pairs_60 rfl (lv_at hl 4 rfl) ?_
    refine lv_imul hx hb dX3_pairs_61 ?_
    refine lv_iadd hx hb dX3_pairs_62 ?_
    refine lv_iconst (v := 2) hx hb dX3_pairs_63 (by decide) ?_
    refine lv_isub hx hb dX3_pairs_64 ?_
    obtain ⟨a4, ha4, hha4⟩ := mbind_n h
    subst ha4
    have h := hha4
    obtain ⟨y5, hy5, h⟩ := mbind_n h
    refine u_iald hC hP hy5 rfl dX3_pairs_65 ?_
    refine lv_iconst (v := 1) hx hb dX3_pairs_66 (by decide) ?_
    refine lv_iadd hx hb dX3_pairs_67 ?_
    exact w_X3_pairs_68 hC hR N k16 hk16 u (some a4) x2 x3 y1 (y5 + 1) h hP hS (lv_sub hl [1, 2, 3, 4, 0] rfl)
  · have h := mif_t c2 h
    refine lv_iconst (v := 0) hx hb dX3_pairs_47 (by decide) ?_
    refine lv_goto (tgt := 68) hx hb dX3_pairs_48 (by decide) ?_
    exact w_X3_pairs_68 hC hR N k16 hk16 u x1 x2 x3 y1 0 h hP hS (lv_sub hl [1, 2, 3, 4, 0] rfl)
def f_X3_pairs_16 (N b : Nat) (g : uEnv) (a0 : Nat) : Nat → UH → Option Nat → Int32 → Int32 → Int32 → Option (Int32 × UH)
  | 0, _, _, _, _, _ => none
  | n + 1, u, x1, x2, x3, x4 =>
    if x4 = 0 then
    some (x3, u)
    else
    (uGI u a0 2 22).bind fun y2 =>
    if 4 ≤ x3 then
    f_X3_pairs_39 N b g a0 (f_X3_pairs_16 N b g a0 n) u x1 x2 x3 3 2 (8 * y2)
    else
    f_X3_pairs_39 N b g a0 (f_X3_pairs_16 N b g a0 n) u x1 x2 x3 x3 2 (8 * y2)
set_option maxHeartbeats 4000000 in
set_option maxRecDepth 100000 in
theorem zz_X3_pairs_16 {G : uG} {a0 : Nat} {uf : UH} {r : Int32} (N : Nat) : ∀ (n : Nat) (u : UH) (x1 : Option Nat) (x2 : Int32) (x3 : Int32) (x4 : Int32), f_X3_pairs_16 N (ub G) (ug G) a0 n u x1 x2 x3 x4 = some (r, uf) → uf.1 = u.1 ∧ uf.2.1 = u.2.1 := by
  intro n
  induction n with
  | zero =>
    intro u x1 x2 x3 x4 h
    cases h
  | succ n ih =>
    intro u x1 x2 x3 x4 h
    unfold f_X3_pairs_16 at h
    by_cases c1 : x4 = 0
    · have h := mif_t c1 h
      obtain ⟨hr1, hr2⟩ := uret_n h
      subst hr2
      exact ⟨by omega, by omega⟩
    · have h := mif_f c1 h
      obtain ⟨y2, hy2, h⟩ := mbind_n h
      by_cases c3 : 4 ≤ x3
      · have h := mif_t c3 h
        have hq := zz_X3_pairs_39 (G := G) (a0 := a0) N (f_X3_pairs_16 N (ub G) (ug G) a0 n) ih u x1 x2 x3 3 2 (8 * y2) h
        exact ⟨by omega, by omega⟩
      · have h := mif_f c3 h
        have hq := zz_X3_pairs_39 (G := G) (a0 := a0) N (f_X3_pairs_16 N (ub G) (ug G) a0 n) ih u x1 x2 x3 x3 2 (8 * y2) h
        exact ⟨by omega, by omega⟩
set_option maxHeartbeats 4000000 in
set_option maxRecDepth 100000 in
theorem w_X3_pairs_16 {p : Program} {l : Launch} {e : Env} {R : Room} {s : State} {m : MethodId} {args : Array Value} {below : List Frame} {meth : Method} {c : Code} {G : uG} {a0 : Nat} {uf : UH} {r : Int32} (hC : uC p s m args meth c G RX3 cX3_pairs 10 (some .int)) (hR : 3 ≤ R.frames ∧ 67 ≤ R.locals) (N : Nat) : ∀ (n : Nat) (u : UH) (x1 : Option Nat) (x2 : Int32) (x3 : Int32) (x4 : Int32), f_X3_pairs_16 N (ub G) (ug G) a0 n u x1 x2 x3 x4 = some (r, uf) → ∀ (H : Heap) (locs : List Loc), uP G u H → va_S (uA G) s.heap H locs → ∀ ls : Array Slot, lv_has ls 10 [(0, va_rf (some a0)), (1, va_rf x1), (2, .int x2), (3, .int x3), (4, .int x4)] → W p l e R s m args below meth c H locs 0 0 (MQ below (uQi G r uf) args s 0 0 (uA G)) (F0 m 16 ls []) := by
  obtain ⟨⟨hx, hb, hml, hown, hts⟩, hKK⟩ := id hC
  intro n
  induction n with
  | zero =>
    intro u x1 x2 x3 x4 h
    cases h
  | succ n ih =>
    intro u x1 x2 x3 x4 h H locs hP hS ls hl
    unfold f_X3_pairs_16 at h
    refine lv_iload hx hb dX3_pairs_16 (lv_at hl 4 rfl) ?_
    refine lv_if_eq (tgt := 223) hx hb dX3_pairs_18 (by decide) (fun c1 => ?_) (fun c1 => ?_)
    · have h := mif_t c1 h
      refine lv_iload_n hx hb dX3_pairs_223 rfl (lv_at hl 3 rfl) ?_
      obtain ⟨hr1, hr2⟩ := uret_n h
      subst hr1
      subst hr2
      exact u_iret hC hP hS dX3_pairs_224
    · have h := mif_f c1 h
      refine lv_bipush (v := 8) hx hb dX3_pairs_21 (by decide) ?_
      refine u_aload_n (r := some a0) hx hb dX3_pairs_23 rfl (lv_at hl 0 rfl) ?_
      obtain ⟨y2, hy2, h⟩ := mbind_n h
      refine u_get hC hP (uGI_n hy2) rfl in_X3 (by decide) q1915 (fun _ h => h) dX3_pairs_24 ?_
      refine lv_imul hx hb dX3_pairs_27 ?_
      refine lv_iconst (v := 2) hx hb dX3_pairs_28 (by decide) ?_
      refine lv_iload_n hx hb dX3_pairs_29 rfl (lv_at hl 3 rfl) ?_
      refine lv_iconst (v := 4) hx hb dX3_pairs_30 (by decide) ?_
      refine lv_icmp_ge (tgt := 38) hx hb dX3_pairs_31 (by decide) (fun c3 => ?_) (fun c3 => ?_)
      · have h := mif_t c3 h
        refine lv_iconst (v := 3) hx hb dX3_pairs_38 (by decide) ?_
        exact w_X3_pairs_39 hC hR N (f_X3_pairs_16 N (ub G) (ug G) a0 n) ih u x1 x2 x3 3 2 (8 * y2) h hP hS (lv_sub hl [0, 1, 2, 3] rfl)
      · have h := mif_f c3 h
        refine lv_iload_n hx hb dX3_pairs_34 rfl (lv_at hl 3 rfl) ?_
        refine lv_goto (tgt := 39) hx hb dX3_pairs_35 (by decide) ?_
        exact w_X3_pairs_39 hC hR N (f_X3_pairs_16 N (ub G) (ug G) a0 n) ih u x1 x2 x3 x3 2 (8 * y2) h hP hS (lv_sub hl [0, 1, 2, 3] rfl)
def f_X3_pairs_14 (N b : Nat) (g : uEnv) (a0 : Nat) (u : UH) (x1 : Option Nat) (x2 : Int32) (x3 : Int32) (s0 : Int32) : Option (Int32 × UH) :=
    f_X3_pairs_16 N b g a0 N u x1 x2 x3 s0
set_option maxHeartbeats 4000000 in
set_option maxRecDepth 100000 in
theorem zz_X3_pairs_14 {G : uG} {a0 : Nat} {uf : UH} {r : Int32} (N : Nat) (u : UH) (x1 : Option Nat) (x2 : Int32) (x3 : Int32) (s0 : Int32) (h : f_X3_pairs_14 N (ub G) (ug G) a0 u x1 x2 x3 s0 = some (r, uf)) : uf.1 = u.1 ∧ uf.2.1 = u.2.1 := by
  unfold f_X3_pairs_14 at h
  have hq := zz_X3_pairs_16 (G := G) (a0 := a0) N N u x1 x2 x3 s0 h
  exact ⟨by omega, by omega⟩
set_option maxHeartbeats 4000000 in
set_option maxRecDepth 100000 in
theorem w_X3_pairs_14 {p : Program} {l : Launch} {e : Env} {R : Room} {s : State} {m : MethodId} {args : Array Value} {below : List Frame} {meth : Method} {c : Code} {G : uG} {a0 : Nat} {uf : UH} {r : Int32} (hC : uC p s m args meth c G RX3 cX3_pairs 10 (some .int)) (hR : 3 ≤ R.frames ∧ 67 ≤ R.locals) (N : Nat) (u : UH) (x1 : Option Nat) (x2 : Int32) (x3 : Int32) (s0 : Int32) (h : f_X3_pairs_14 N (ub G) (ug G) a0 u x1 x2 x3 s0 = some (r, uf)) {H : Heap} {locs : List Loc} (hP : uP G u H) (hS : va_S (uA G) s.heap H locs) {ls : Array Slot} (hl : lv_has ls 10 [(0, va_rf (some a0)), (1, va_rf x1), (2, .int x2), (3, .int x3)]) : W p l e R s m args below meth c H locs 0 0 (MQ below (uQi G r uf) args s 0 0 (uA G)) (F0 m 14 ls [.int s0]) := by
  obtain ⟨⟨hx, hb, hml, hown, hts⟩, hKK⟩ := id hC
  unfold f_X3_pairs_14 at h
  refine lv_istore (lv' := [(4, .int s0), (0, va_rf (some a0)), (1, va_rf x1), (2, .int x2), (3, .int x3)]) hx hb dX3_pairs_14 hl (by decide) rfl (fun ls hl => ?_)
  exact w_X3_pairs_16 hC hR N N u x1 x2 x3 s0 h _ _ hP hS _ (lv_sub hl [1, 2, 3, 4, 0] rfl)
def f_X3_pairs (N b : Nat) (g : uEnv) (u : UH) (a0 : Nat) (x1 : Option Nat) (x2 : Int32) : Option (Int32 × UH) :=
    (uGI u a0 2 13).bind fun y1 =>
    if y1 = 0 then
    f_X3_pairs_14 N b g a0 u x1 x2 0 1
    else
    f_X3_pairs_14 N b g a0 u x1 x2 0 0
set_option maxHeartbeats 4000000 in
set_option maxRecDepth 100000 in
theorem zz_X3_pairs_0 {G : uG} {a0 : Nat} {uf : UH} {r : Int32} (N : Nat) (u : UH) (x1 : Option Nat) (x2 : Int32) (h : f_X3_pairs N (ub G) (ug G) u a0 x1 x2 = some (r, uf)) : uf.1 = u.1 ∧ uf.2.1 = u.2.1 := by
  unfold f_X3_pairs at h
  obtain ⟨y1, hy1, h⟩ := mbind_n h
  by_cases c2 : y1 = 0
  · have h := mif_t c2 h
    have hq := zz_X3_pairs_14 (G := G) (a0 := a0) N u x1 x2 0 1 h
    exact ⟨by omega, by omega⟩
  · have h := mif_f c2 h
    have hq := zz_X3_pairs_14 (G := G) (a0 := a0) N u x1 x2 0 0 h
    exact ⟨by omega, by omega⟩
set_option maxHeartbeats 4000000 in
set_option maxRecDepth 100000 in
theorem w_X3_pairs_0 {p : Program} {l : Launch} {e : Env} {R : Room} {s : State} {m : MethodId} {args : Array Value} {below : List Frame} {meth : Method} {c : Code} {G : uG} {a0 : Nat} {uf : UH} {r : Int32} (hC : uC p s m args meth c G RX3 cX3_pairs 10 (some .int)) (hR : 3 ≤ R.frames ∧ 67 ≤ R.locals) (N : Nat) (u : UH) (x1 : Option Nat) (x2 : Int32) (h : f_X3_pairs N (ub G) (ug G) u a0 x1 x2 = some (r, uf)) {H : Heap} {locs : List Loc} (hP : uP G u H) (hS : va_S (uA G) s.heap H locs) {ls : Array Slot} (hl : lv_has ls 10 [(0, va_rf (some a0)), (1, va_rf x1), (2, .int x2)]) : W p l e R s m args below meth c H locs 0 0 (MQ below (uQi G r uf) args s 0 0 (uA G)) (F0 m 0 ls []) := by
  obtain ⟨⟨hx, hb, hml, hown, hts⟩, hKK⟩ := id hC
  unfold f_X3_pairs at h
  refine lv_iconst (v := 0) hx hb dX3_pairs_0 (by decide) ?_
  refine lv_istore_n (i := 3) (lv' := [(3, .int 0), (0, va_rf (some a0)), (1, va_rf x1), (2, .int x2)]) hx hb dX3_pairs_1 rfl hl (by decide) rfl (fun ls hl => ?_)
  refine u_aload_n (r := some a0) hx hb dX3_pairs_2 rfl (lv_at hl 1 rfl) ?_
  obtain ⟨y1, hy1, h⟩ := mbind_n h
  refine u_get hC hP (uGI_n hy1) rfl in_X3 (by decide) q1906 (fun _ h => h) dX3_pairs_3 ?_
  refine lv_if_ne (tgt := 13) hx hb dX3_pairs_6 (by decide) (fun c2 => ?_) (fun c2 => ?_)
  · have h := mif_f c2 h
    refine lv_iconst (v := 0) hx hb dX3_pairs_13 (by decide) ?_
    exact w_X3_pairs_14 hC hR N u x1 x2 0 0 h hP hS (lv_sub hl [1, 2, 3, 0] rfl)
  · have h := mif_t c2 h
    refine lv_iconst (v := 1) hx hb dX3_pairs_9 (by decide) ?_
    refine lv_goto (tgt := 14) hx hb dX3_pairs_10 (by decide) ?_
    exact w_X3_pairs_14 hC hR N u x1 x2 0 1 h hP hS (lv_sub hl [1, 2, 3, 0] rfl)
theorem zz_X3_pairs (N b : Nat) (g : uEnv) (u : UH) (a0 : Nat) (x1 : Option Nat) (x2 : Int32) (r : Int32) (uf : UH) (h : f_X3_pairs N b g u a0 x1 x2 = some (r, uf)) : uf.1 = u.1 ∧ uf.2.1 = u.2.1 :=
  zz_X3_pairs_0 (G := ((fun _ => 0, fun _ _ => 0), fun _ => 0, b, g)) (a0 := a0) N u x1 x2 h
theorem met_X3_pairs (l : Launch) (N : Nat) (G : uG) (u : UH) (a0 : Nat) (x1 : Option Nat) (x2 : Int32) (r : Int32) (uf : UH) (h : f_X3_pairs N (ub G) (ug G) u a0 x1 x2 = some (r, uf)) : Met l yX3_pairs (ws_ yX3_pairs cX3_pairs 10 (some .int)) ({ frames := 3, cells := 0, slots := 0, locals := 67 }) (uPc G u [.ref a0, va_rf x1, .int x2]) (uQi G r uf) 0 0 (uA G) := by
  rcases x1 with _ | x1 <;> exact u_met (own := RX3) (by decide +kernel) rfl (Nat.le_of_ble_eq_true rfl) (fun hC hn hsz ls hl hP => w_X3_pairs_0 hC ⟨Nat.le_refl _, Nat.le_refl _⟩ N u _ x2 h hP va_S.rf hl)
def f_X3_groundLine_203 (N b : Nat) (g : uEnv) (a0 : Nat) (u : UH) : Option (UH) :=
    some u
set_option maxHeartbeats 4000000 in
set_option maxRecDepth 100000 in
theorem zz_X3_groundLine_203 {G : uG} {a0 : Nat} {uf : UH} (N : Nat) (u : UH) (h : f_X3_groundLine_203 N (ub G) (ug G) a0 u = some uf) : uf.1 = u.1 ∧ uf.2.1 = u.2.1 := by
  unfold f_X3_groundLine_203 at h
  cases h
  exact ⟨by omega, by omega⟩
set_option maxHeartbeats 4000000 in
set_option maxRecDepth 100000 in
theorem w_X3_groundLine_203 {p : Program} {l : Launch} {e : Env} {R : Room} {s : State} {m : MethodId} {args : Array Value} {below : List Frame} {meth : Method} {c : Code} {G : uG} {a0 : Nat} {uf : UH} (hC : uC p s m args meth c G RX3 cX3_groundLine 2 none) (hR : 6 ≤ R.frames ∧ 129 ≤ R.locals) (N : Nat) (u : UH) (h : f_X3_groundLine_203 N (ub G) (ug G) a0 u = some uf) {H : Heap} {locs : List Loc} (hP : uP G u H) (hS : va_S (uA G) s.heap H locs) {ls : Array Slot} (hl : lv_has ls 2 []) : W p l e R s m args below meth c H locs 0 0 (MQ below (uQv G uf) args s 0 0 (uA G)) (F0 m 203 ls []) := by
  obtain ⟨⟨hx, hb, hml, hown, hts⟩, hKK⟩ := id hC
  unfold f_X3_groundLine_203 at h
  cases h
  exact u_vret hC hP hS dX3_groundLine_203
def f_X3_groundLine_83 (N b : Nat) (g : uEnv) (a0 : Nat) : Nat → UH → Int32 → Option (UH)
  | 0, _, _ => none
  | n + 1, u, x1 =>
    (uGI u a0 2 8).bind fun y1 =>
    if y1 ≤ x1 then
    (uGR u a0 2 15).bind fun o3 =>
    (uGI u a0 2 22).bind fun y4 =>
    (uGI u a0 2 8).bind fun y5 =>
    (o3).bind fun a6 =>
    (uStI b u a6 0 y4 y5).bind fun u7 =>
    if uIs u7 a0 2 = true then
    (f_X3_next N b g u7 a0).bind fun u9 =>
    if uIs u9 a0 2 = true then
    ucall (f_X3_must N b g u9 a0 (some (g.2.1 42))) fun r14 u12 =>
    (uGR u12 a0 2 18).bind fun o15 =>
    (uGI u12 a0 2 22).bind fun y16 =>
    (uGR u12 a0 2 20).bind fun o17 =>
    if uIs u12 a0 2 = true then
    ucall (f_X3_pairs N b g u12 a0 o17 1) fun r21 u19 =>
    (o15).bind fun a22 =>
    (uStI b u19 a22 0 y16 r21).bind fun u23 =>
    if uIs u23 a0 2 = true then
    ucall (f_X3_must N b g u23 a0 (some (g.2.1 43))) fun r27 u25 =>
    (uGR u25 a0 2 19).bind fun o28 =>
    (uGI u25 a0 2 22).bind fun y29 =>
    (uGR u25 a0 2 21).bind fun o30 =>
    if uIs u25 a0 2 = true then
    ucall (f_X3_pairs N b g u25 a0 o30 0) fun r34 u32 =>
    (o28).bind fun a35 =>
    (uStI b u32 a35 0 y29 r34).bind fun u36 =>
    (uGI u36 a0 2 13).bind fun y37 =>
    if y37 = 0 then
    (uGI u36 a0 2 22).bind fun y39 =>
    (uPut b u36 a0 2 22 (.int (y39 + 1))).bind fun u40 =>
    f_X3_groundLine_203 N b g a0 u40
    else
    f_X3_groundLine_203 N b g a0 u36
    else none
    else none
    else none
    else none
    else none
    else
    (uGR u a0 2 14).bind fun o41 =>
    (uGI u a0 2 22).bind fun y42 =>
    (uGR u a0 2 11).bind fun o43 =>
    (o43).bind fun a44 =>
    (uLdI u a44 0 x1).bind fun y45 =>
    (o41).bind fun a46 =>
    (uStI b u a46 0 ((8 * y42) + x1) y45).bind fun u47 =>
    mlet (x1 + 1) fun y48 =>
    f_X3_groundLine_83 N b g a0 n u47 y48
set_option maxHeartbeats 4000000 in
set_option maxRecDepth 100000 in
theorem zz_X3_groundLine_83 {G : uG} {a0 : Nat} {uf : UH} (N : Nat) : ∀ (n : Nat) (u : UH) (x1 : Int32), f_X3_groundLine_83 N (ub G) (ug G) a0 n u x1 = some uf → uf.1 = u.1 ∧ uf.2.1 = u.2.1 := by
  intro n
  induction n with
  | zero =>
    intro u x1 h
    cases h
  | succ n ih =>
    intro u x1 h
    unfold f_X3_groundLine_83 at h
    obtain ⟨y1, hy1, h⟩ := mbind_n h
    by_cases c2 : y1 ≤ x1
    · have h := mif_t c2 h
      obtain ⟨o3, ho3, h⟩ := mbind_n h
      obtain ⟨y4, hy4, h⟩ := mbind_n h
      obtain ⟨y5, hy5, h⟩ := mbind_n h
      obtain ⟨a6, ha6, hha6⟩ := mbind_n h
      subst ha6
      have h := hha6
      obtain ⟨u7, hu7, h⟩ := mbind_n h
      have zu7 := uStI_sz hu7
      obtain ⟨c8, h⟩ := mif_n h
      obtain ⟨u9, c10, h⟩ := mbind_n h
      have zu9 := zz_X3_next N (ub G) (ug G) u7 a0 u9 c10
      obtain ⟨c11, h⟩ := mif_n h
      obtain ⟨r14, u12, c13, h⟩ := ucall_n h
      have zu12 := zz_X3_must N (ub G) (ug G) u9 a0 (some ((ug G).2.1 42)) r14 u12 c13
      obtain ⟨o15, ho15, h⟩ := mbind_n h
      obtain ⟨y16, hy16, h⟩ := mbind_n h
      obtain ⟨o17, ho17, h⟩ := mbind_n h
      obtain ⟨c18, h⟩ := mif_n h
      obtain ⟨r21, u19, c20, h⟩ := ucall_n h
      have zu19 := zz_X3_pairs N (ub G) (ug G) u12 a0 o17 1 r21 u19 c20
      obtain ⟨a22, ha22, hha22⟩ := mbind_n h
      subst ha22
      have h := hha22
      obtain ⟨u23, hu23, h⟩ := mbind_n h
      have zu23 := uStI_sz hu23
      obtain ⟨c24, h⟩ := mif_n h
      obtain ⟨r27, u25, c26, h⟩ := ucall_n h
      have zu25 := zz_X3_must N (ub G) (ug G) u23 a0 (some ((ug G).2.1 43)) r27 u25 c26
      obtain ⟨o28, ho28, h⟩ := mbind_n h
      obtain ⟨y29, hy29, h⟩ := mbind_n h
      obtain ⟨o30, ho30, h⟩ := mbind_n h
      obtain ⟨c31, h⟩ := mif_n h
      obtain ⟨r34, u32, c33, h⟩ := ucall_n h
      have zu32 := zz_X3_pairs N (ub G) (ug G) u25 a0 o30 0 r34 u32 c33
      obtain ⟨a35, ha35, hha35⟩ := mbind_n h
      subst ha35
      have h := hha35
      obtain ⟨u36, hu36, h⟩ := mbind_n h
      have zu36 := uStI_sz hu36
      obtain ⟨y37, hy37, h⟩ := mbind_n h
      by_cases c38 : y37 = 0
      · have h := mif_t c38 h
        obtain ⟨y39, hy39, h⟩ := mbind_n h
        obtain ⟨u40, hu40, h⟩ := mbind_n h
        have zu40 := uPut_sz hu40
        have hq := zz_X3_groundLine_203 (G := G) (a0 := a0) N u40 h
        exact ⟨by omega, by omega⟩
      · have h := mif_f c38 h
        have hq := zz_X3_groundLine_203 (G := G) (a0 := a0) N u36 h
        exact ⟨by omega, by omega⟩
    · have h := mif_f c2 h
      obtain ⟨o41, ho41, h⟩ := mbind_n h
      obtain ⟨y42, hy42, h⟩ := mbind_n h
      obtain ⟨o43, ho43, h⟩ := mbind_n h
      obtain ⟨a44, ha44, hha44⟩ := mbind_n h
      subst ha44
      have h := hha44
      obtain ⟨y45, hy45, h⟩ := mbind_n h
      obtain ⟨a46, ha46, hha46⟩ := mbind_n h
      subst ha46
      have h := hha46
      obtain ⟨u47, hu47, h⟩ := mbind_n h
      have zu47 := uStI_sz hu47
      obtain ⟨y48, ey48⟩ : ∃ z : Int32, z = x1 + 1 := ⟨_, rfl⟩
      have h := mlet_at ey48 h
      have hq := ih u47 y48 h
      exact ⟨by omega, by omega⟩
set_option maxHeartbeats 4000000 in
set_option maxRecDepth 100000 in
theorem w_X3_groundLine_83 {p : Program} {l : Launch} {e : Env} {R : Room} {s : State} {m : MethodId} {args : Array Value} {below : List Frame} {meth : Method} {c : Code} {G : uG} {a0 : Nat} {uf : UH} (hC : uC p s m args meth c G RX3 cX3_groundLine 2 none) (hR : 6 ≤ R.frames ∧ 129 ≤ R.locals) (N : Nat) : ∀ (n : Nat) (u : UH) (x1 : Int32), f_X3_groundLine_83 N (ub G) (ug G) a0 n u x1 = some uf → ∀ (H : Heap) (locs : List Loc), uP G u H → va_S (uA G) s.heap H locs → ∀ ls : Array Slot, lv_has ls 2 [(0, va_rf (some a0)), (1, .int x1)] → W p l e R s m args below meth c H locs 0 0 (MQ below (uQv G uf) args s 0 0 (uA G)) (F0 m 83 ls []) := by
  obtain ⟨⟨hx, hb, hml, hown, hts⟩, hKK⟩ := id hC
  intro n
  induction n with
  | zero =>
    intro u x1 h
    cases h
  | succ n ih =>
    intro u x1 h H locs hP hS ls hl
    unfold f_X3_groundLine_83 at h
    refine lv_iload_n hx hb dX3_groundLine_83 rfl (lv_at hl 1 rfl) ?_
    refine u_aload_n (r := some a0) hx hb dX3_groundLine_84 rfl (lv_at hl 0 rfl) ?_
    obtain ⟨y1, hy1, h⟩ := mbind_n h
    refine u_get hC hP (uGI_n hy1) rfl in_X3 (by decide) q1901 (fun _ h => h) dX3_groundLine_85 ?_
    refine lv_icmp_ge (tgt := 117) hx hb dX3_groundLine_88 (by decide) (fun c2 => ?_) (fun c2 => ?_)
    · have h := mif_t c2 h
      refine u_aload_n (r := some a0) hx hb dX3_groundLine_117 rfl (lv_at hl 0 rfl) ?_
      obtain ⟨o3, ho3, h⟩ := mbind_n h
      refine u_get hC hP (uGR_n ho3) rfl in_X3 (by decide) q1908 (fun _ h => h) dX3_groundLine_118 ?_
      refine u_aload_n (r := some a0) hx hb dX3_groundLine_121 rfl (lv_at hl 0 rfl) ?_
      obtain ⟨y4, hy4, h⟩ := mbind_n h
      refine u_get hC hP (uGI_n hy4) rfl in_X3 (by decide) q1915 (fun _ h => h) dX3_groundLine_122 ?_
      refine u_aload_n (r := some a0) hx hb dX3_groundLine_125 rfl (lv_at hl 0 rfl) ?_
      obtain ⟨y5, hy5, h⟩ := mbind_n h
      refine u_get hC hP (uGI_n hy5) rfl in_X3 (by decide) q1901 (fun _ h => h) dX3_groundLine_126 ?_
      obtain ⟨a6, ha6, hha6⟩ := mbind_n h
      subst ha6
      have h := hha6
      obtain ⟨u7, hu7, h⟩ := mbind_n h
      have zu7 := uStI_sz hu7
      refine u_iast hC hP hS hu7 rfl dX3_groundLine_129 (fun H locs hP hS => ?_)
      refine u_aload_n (r := some a0) hx hb dX3_groundLine_130 rfl (lv_at hl 0 rfl) ?_
      obtain ⟨c8, h⟩ := mif_n h
      obtain ⟨u9, c10, h⟩ := mbind_n h
      have zu9 := zz_X3_next N (ub G) (ug G) u7 a0 u9 c10
      refine u_callv (va_runV (As := []) (rest := []) hC.1 (met_X3_next l N G u7 a0 u9 c10) (cwV 0 hts (lw_V q2154 q2156 qs45 q103 q2157) rfl rfl rfl (by decide +kernel) ⟨Nat.le_trans (Nat.le_of_ble_eq_true rfl) hR.1, Nat.le_trans (Nat.le_of_ble_eq_true rfl) hR.2⟩) ⟨uPc_blind, u_rcv hC hP c8 rfl, fun U hU hW => u_pre hC hP hS hU hW⟩ rfl rfl hl.1 rfl (lv_room (Nat.le_of_ble_eq_true rfl)) dX3_groundLine_131 ⟨Nat.zero_le _, Nat.zero_le _⟩) hS (fun H locs hP hS => ?_)
      refine u_aload_n (r := some a0) hx hb dX3_groundLine_134 rfl (lv_at hl 0 rfl) ?_
      refine u_ldcSw hC 42 rfl dX3_groundLine_135 ?_
      obtain ⟨c11, h⟩ := mif_n h
      obtain ⟨r14, u12, c13, h⟩ := ucall_n h
      have zu12 := zz_X3_must N (ub G) (ug G) u9 a0 (some ((ug G).2.1 42)) r14 u12 c13
      refine u_calli (va_runV (As := [va_rf (some ((ug G).2.1 42))]) (rest := []) hC.1 (met_X3_must l N G u9 a0 (some ((ug G).2.1 42)) r14 u12 c13) (cwV 1 hts (lw_V q2205 q2207 qs53 q103 q2208) rfl rfl rfl (by decide +kernel) ⟨Nat.le_trans (Nat.le_of_ble_eq_true rfl) hR.1, Nat.le_trans (Nat.le_of_ble_eq_true rfl) hR.2⟩) ⟨uPc_blind, u_rcv hC hP c11 rfl, fun U hU hW => u_pre hC hP hS hU hW⟩ rfl rfl hl.1 rfl (lv_room (Nat.le_of_ble_eq_true rfl)) dX3_groundLine_138 ⟨Nat.zero_le _, Nat.zero_le _⟩) hS (fun H locs hP hS => ?_)
      refine lv_pop hx hb dX3_groundLine_141 rfl ?_
      refine u_aload_n (r := some a0) hx hb dX3_groundLine_142 rfl (lv_at hl 0 rfl) ?_
      obtain ⟨o15, ho15, h⟩ := mbind_n h
      refine u_get hC hP (uGR_n ho15) rfl in_X3 (by decide) q1911 (fun _ h => h) dX3_groundLine_143 ?_
      refine u_aload_n (r := some a0) hx hb dX3_groundLine_146 rfl (lv_at hl 0 rfl) ?_
      obtain ⟨y16, hy16, h⟩ := mbind_n h
      refine u_get hC hP (uGI_n hy16) rfl in_X3 (by decide) q1915 (fun _ h => h) dX3_groundLine_147 ?_
      refine u_aload_n (r := some a0) hx hb dX3_groundLine_150 rfl (lv_at hl 0 rfl) ?_
      refine u_aload_n (r := some a0) hx hb dX3_groundLine_151 rfl (lv_at hl 0 rfl) ?_
      obtain ⟨o17, ho17, h⟩ := mbind_n h
      refine u_get hC hP (uGR_n ho17) rfl in_X3 (by decide) q1913 (fun _ h => h) dX3_groundLine_152 ?_
      refine lv_iconst (v := 1) hx hb dX3_groundLine_155 (by decide) ?_
      obtain ⟨c18, h⟩ := mif_n h
      obtain ⟨r21, u19, c20, h⟩ := ucall_n h
      have zu19 := zz_X3_pairs N (ub G) (ug G) u12 a0 o17 1 r21 u19 c20
      refine u_calli (va_runV (As := [va_rf o17, .int 1]) (rest := [.int y16, va_rf o15]) hC.1 (met_X3_pairs l N G u12 a0 o17 1 r21 u19 c20) (cwV 2 hts (lw_V q2209 q2211 qs54 q103 q2212) rfl rfl rfl (by decide +kernel) ⟨Nat.le_trans (Nat.le_of_ble_eq_true rfl) hR.1, Nat.le_trans (Nat.le_of_ble_eq_true rfl) hR.2⟩) ⟨uPc_blind, u_rcv hC hP c18 rfl, fun U hU hW => u_pre hC hP hS hU hW⟩ rfl rfl hl.1 rfl (lv_room (by simp only [List.map, u_cat]; exact Nat.le_of_ble_eq_true rfl)) dX3_groundLine_156 ⟨Nat.zero_le _, Nat.zero_le _⟩) hS (fun H locs hP hS => ?_)
      obtain ⟨a22, ha22, hha22⟩ := mbind_n h
      subst ha22
      have h := hha22
      obtain ⟨u23, hu23, h⟩ := mbind_n h
      have zu23 := uStI_sz hu23
      refine u_iast hC hP hS hu23 rfl dX3_groundLine_159 (fun H locs hP hS => ?_)
      refine u_aload_n (r := some a0) hx hb dX3_groundLine_160 rfl (lv_at hl 0 rfl) ?_
      refine u_ldcSw hC 43 rfl dX3_groundLine_161 ?_
      obtain ⟨c24, h⟩ := mif_n h
      obtain ⟨r27, u25, c26, h⟩ := ucall_n h
      have zu25 := zz_X3_must N (ub G) (ug G) u23 a0 (some ((ug G).2.1 43)) r27 u25 c26
      refine u_calli (va_runV (As := [va_rf (some ((ug G).2.1 43))]) (rest := []) hC.1 (met_X3_must l N G u23 a0 (some ((ug G).2.1 43)) r27 u25 c26) (cwV 1 hts (lw_V q2205 q2207 qs53 q103 q2208) rfl rfl rfl (by decide +kernel) ⟨Nat.le_trans (Nat.le_of_ble_eq_true rfl) hR.1, Nat.le_trans (Nat.le_of_ble_eq_true rfl) hR.2⟩) ⟨uPc_blind, u_rcv hC hP c24 rfl, fun U hU hW => u_pre hC hP hS hU hW⟩ rfl rfl hl.1 rfl (lv_room (Nat.le_of_ble_eq_true rfl)) dX3_groundLine_164 ⟨Nat.zero_le _, Nat.zero_le _⟩) hS (fun H locs hP hS => ?_)
      refine lv_pop hx hb dX3_groundLine_167 rfl ?_
      refine u_aload_n (r := some a0) hx hb dX3_groundLine_168 rfl (lv_at hl 0 rfl) ?_
      obtain ⟨o28, ho28, h⟩ := mbind_n h
      refine u_get hC hP (uGR_n ho28) rfl in_X3 (by decide) q1912 (fun _ h => h) dX3_groundLine_169 ?_
      refine u_aload_n (r := some a0) hx hb dX3_groundLine_172 rfl (lv_at hl 0 rfl) ?_
      obtain ⟨y29, hy29, h⟩ := mbind_n h
      refine u_get hC hP (uGI_n hy29) rfl in_X3 (by decide) q1915 (fun _ h => h) dX3_groundLine_173 ?_
      refine u_aload_n (r := some a0) hx hb dX3_groundLine_176 rfl (lv_at hl 0 rfl) ?_
      refine u_aload_n (r := some a0) hx hb dX3_groundLine_177 rfl (lv_at hl 0 rfl) ?_
      obtain ⟨o30, ho30, h⟩ := mbind_n h
      refine u_get hC hP (uGR_n ho30) rfl in_X3 (by decide) q1914 (fun _ h => h) dX3_groundLine_178 ?_
      refine lv_iconst (v := 0) hx hb dX3_groundLine_181 (by decide) ?_
      obtain ⟨c31, h⟩ := mif_n h
      obtain ⟨r34, u32, c33, h⟩ := ucall_n h
      have zu32 := zz_X3_pairs N (ub G) (ug G) u25 a0 o30 0 r34 u32 c33
      refine u_calli (va_runV (As := [va_rf o30, .int 0]) (rest := [.int y29, va_rf o28]) hC.1 (met_X3_pairs l N G u25 a0 o30 0 r34 u32 c33) (cwV 2 hts (lw_V q2209 q2211 qs54 q103 q2212) rfl rfl rfl (by decide +kernel) ⟨Nat.le_trans (Nat.le_of_ble_eq_true rfl) hR.1, Nat.le_trans (Nat.le_of_ble_eq_true rfl) hR.2⟩) ⟨uPc_blind, u_rcv hC hP c31 rfl, fun U hU hW => u_pre hC hP hS hU hW⟩ rfl rfl hl.1 rfl (lv_room (by simp only [List.map, u_cat]; exact Nat.le_of_ble_eq_true rfl)) dX3_groundLine_182 ⟨Nat.zero_le _, Nat.zero_le _⟩) hS (fun H locs hP hS => ?_)
      obtain ⟨a35, ha35, hha35⟩ := mbind_n h
      subst ha35
      have h := hha35
      obtain ⟨u36, hu36, h⟩ := mbind_n h
      have zu36 := uStI_sz hu36
      refine u_iast hC hP hS hu36 rfl dX3_groundLine_185 (fun H locs hP hS => ?_)
      refine u_aload_n (r := some a0) hx hb dX3_groundLine_186 rfl (lv_at hl 0 rfl) ?_
      obtain ⟨y37, hy37, h⟩ := mbind_n h
      refine u_get hC hP (uGI_n hy37) rfl in_X3 (by decide) q1906 (fun _ h => h) dX3_groundLine_187 ?_
      refine lv_if_ne (tgt := 203) hx hb dX3_groundLine_190 (by decide) (fun c38 => ?_) (fun c38 => ?_)
      · have h := mif_f c38 h
        exact w_X3_groundLine_203 hC hR N u36 h hP hS (lv_sub hl [] rfl)
      · have h := mif_t c38 h
        refine u_aload_n (r := some a0) hx hb dX3_groundLine_193 rfl (lv_at hl 0 rfl) ?_
        refine lv_dup hx hb dX3_groundLine_194 (u_cat _) ?_
        obtain ⟨y39, hy39, h⟩ := mbind_n h
        refine u_get hC hP (uGI_n hy39) rfl in_X3 (by decide) q1915 (fun _ h => h) dX3_groundLine_195 ?_
        refine lv_iconst (v := 1) hx hb dX3_groundLine_198 (by decide) ?_
        refine lv_iadd hx hb dX3_groundLine_199 ?_
        obtain ⟨u40, hu40, h⟩ := mbind_n h
        have zu40 := uPut_sz hu40
        refine u_put hC hP hS hu40 rfl in_X3 tyX3 tyX3_ok nmX3 (by decide) q1915 (fun _ h => h) rfl (ty := .int) (tyX3_ok 22 (by decide)) rfl rfl dX3_groundLine_200 (fun H locs hP hS => ?_)
        exact w_X3_groundLine_203 hC hR N u40 h hP hS (lv_sub hl [] rfl)
    · have h := mif_f c2 h
      refine u_aload_n (r := some a0) hx hb dX3_groundLine_91 rfl (lv_at hl 0 rfl) ?_
      obtain ⟨o41, ho41, h⟩ := mbind_n h
      refine u_get hC hP (uGR_n ho41) rfl in_X3 (by decide) q1907 (fun _ h => h) dX3_groundLine_92 ?_
      refine lv_bipush (v := 8) hx hb dX3_groundLine_95 (by decide) ?_
      refine u_aload_n (r := some a0) hx hb dX3_groundLine_97 rfl (lv_at hl 0 rfl) ?_
      obtain ⟨y42, hy42, h⟩ := mbind_n h
      refine u_get hC hP (uGI_n hy42) rfl in_X3 (by decide) q1915 (fun _ h => h) dX3_groundLine_98 ?_
      refine lv_imul hx hb dX3_groundLine_101 ?_
      refine lv_iload_n hx hb dX3_groundLine_102 rfl (lv_at hl 1 rfl) ?_
      refine lv_iadd hx hb dX3_groundLine_103 ?_
      refine u_aload_n (r := some a0) hx hb dX3_groundLine_104 rfl (lv_at hl 0 rfl) ?_
      obtain ⟨o43, ho43, h⟩ := mbind_n h
      refine u_get hC hP (uGR_n ho43) rfl in_X3 (by decide) q1904 (fun _ h => h) dX3_groundLine_105 ?_
      refine lv_iload_n hx hb dX3_groundLine_108 rfl (lv_at hl 1 rfl) ?_
      obtain ⟨a44, ha44, hha44⟩ := mbind_n h
      subst ha44
      have h := hha44
      obtain ⟨y45, hy45, h⟩ := mbind_n h
      refine u_iald hC hP hy45 rfl dX3_groundLine_109 ?_
      obtain ⟨a46, ha46, hha46⟩ := mbind_n h
      subst ha46
      have h := hha46
      obtain ⟨u47, hu47, h⟩ := mbind_n h
      have zu47 := uStI_sz hu47
      refine u_iast hC hP hS hu47 rfl dX3_groundLine_110 (fun H locs hP hS => ?_)
      obtain ⟨y48, ey48⟩ : ∃ z : Int32, z = x1 + 1 := ⟨_, rfl⟩
      have h := mlet_at ey48 h
      refine lv_iinc (v := y48) (lv' := [(1, .int y48), (0, va_rf (some a0))]) hx hb dX3_groundLine_111 hl (k := 1) rfl (by rw [ey48]; rfl) (by decide) rfl (fun ls hl => ?_)
      refine lv_goto (tgt := 83) hx hb dX3_groundLine_114 (by decide) ?_
      exact ih u47 y48 h _ _ hP hS _ (lv_sub hl [1, 0] rfl)
def f_X3_groundLine_73 (N b : Nat) (g : uEnv) (a0 : Nat) (u : UH) : Option (UH) :=
    (uGI u a0 2 13).bind fun y1 =>
    if y1 = 0 then
    f_X3_groundLine_83 N b g a0 N u 0
    else
    some u
set_option maxHeartbeats 4000000 in
set_option maxRecDepth 100000 in
theorem zz_X3_groundLine_73 {G : uG} {a0 : Nat} {uf : UH} (N : Nat) (u : UH) (h : f_X3_groundLine_73 N (ub G) (ug G) a0 u = some uf) : uf.1 = u.1 ∧ uf.2.1 = u.2.1 := by
  unfold f_X3_groundLine_73 at h
  obtain ⟨y1, hy1, h⟩ := mbind_n h
  by_cases c2 : y1 = 0
  · have h := mif_t c2 h
    have hq := zz_X3_groundLine_83 (G := G) (a0 := a0) N N u 0 h
    exact ⟨by omega, by omega⟩
  · have h := mif_f c2 h
    cases h
    exact ⟨by omega, by omega⟩
set_option maxHeartbeats 4000000 in
set_option maxRecDepth 100000 in
theorem w_X3_groundLine_73 {p : Program} {l : Launch} {e : Env} {R : Room} {s : State} {m : MethodId} {args : Array Value} {below : List Frame} {meth : Method} {c : Code} {G : uG} {a0 : Nat} {uf : UH} (hC : uC p s m args meth c G RX3 cX3_groundLine 2 none) (hR : 6 ≤ R.frames ∧ 129 ≤ R.locals) (N : Nat) (u : UH) (h : f_X3_groundLine_73 N (ub G) (ug G) a0 u = some uf) {H : Heap} {locs : List Loc} (hP : uP G u H) (hS : va_S (uA G) s.heap H locs) {ls : Array Slot} (hl : lv_has ls 2 [(0, va_rf (some a0))]) : W p l e R s m args below meth c H locs 0 0 (MQ below (uQv G uf) args s 0 0 (uA G)) (F0 m 73 ls []) := by
  obtain ⟨⟨hx, hb, hml, hown, hts⟩, hKK⟩ := id hC
  unfold f_X3_groundLine_73 at h
  refine u_aload_n (r := some a0) hx hb dX3_groundLine_73 rfl (lv_at hl 0 rfl) ?_
  obtain ⟨y1, hy1, h⟩ := mbind_n h
  refine u_get hC hP (uGI_n hy1) rfl in_X3 (by decide) q1906 (fun _ h => h) dX3_groundLine_74 ?_
  refine lv_if_eq (tgt := 81) hx hb dX3_groundLine_77 (by decide) (fun c2 => ?_) (fun c2 => ?_)
  · have h := mif_t c2 h
    refine lv_iconst (v := 0) hx hb dX3_groundLine_81 (by decide) ?_
    refine lv_istore_n (i := 1) (lv' := [(1, .int 0), (0, va_rf (some a0))]) hx hb dX3_groundLine_82 rfl hl (by decide) rfl (fun ls hl => ?_)
    exact w_X3_groundLine_83 hC hR N N u 0 h _ _ hP hS _ (lv_sub hl [1, 0] rfl)
  · have h := mif_f c2 h
    cases h
    exact u_vret hC hP hS dX3_groundLine_80
def f_X3_groundLine_47 (N b : Nat) (g : uEnv) (a0 : Nat) (u : UH) : Option (UH) :=
    (uGI u a0 2 13).bind fun y1 =>
    if y1 = 0 then
    (uGI u a0 2 22).bind fun y3 =>
    if y3 = 8 then
    (uGI u a0 2 4).bind fun y5 =>
    if uIs u a0 2 = true then
    ucall (f_X3_wrong N b g u a0 5 y5) fun r9 u7 =>
    f_X3_groundLine_73 N b g a0 u7
    else none
    else
    f_X3_groundLine_73 N b g a0 u
    else
    f_X3_groundLine_73 N b g a0 u
set_option maxHeartbeats 4000000 in
set_option maxRecDepth 100000 in
theorem zz_X3_groundLine_47 {G : uG} {a0 : Nat} {uf : UH} (N : Nat) (u : UH) (h : f_X3_groundLine_47 N (ub G) (ug G) a0 u = some uf) : uf.1 = u.1 ∧ uf.2.1 = u.2.1 := by
  unfold f_X3_groundLine_47 at h
  obtain ⟨y1, hy1, h⟩ := mbind_n h
  by_cases c2 : y1 = 0
  · have h := mif_t c2 h
    obtain ⟨y3, hy3, h⟩ := mbind_n h
    by_cases c4 : y3 = 8
    · have h := mif_t c4 h
      obtain ⟨y5, hy5, h⟩ := mbind_n h
      obtain ⟨c6, h⟩ := mif_n h
      obtain ⟨r9, u7, c8, h⟩ := ucall_n h
      have zu7 := zz_X3_wrong N (ub G) (ug G) u a0 5 y5 r9 u7 c8
      have hq := zz_X3_groundLine_73 (G := G) (a0 := a0) N u7 h
      exact ⟨by omega, by omega⟩
    · have h := mif_f c4 h
      have hq := zz_X3_groundLine_73 (G := G) (a0 := a0) N u h
      exact ⟨by omega, by omega⟩
  · have h := mif_f c2 h
    have hq := zz_X3_groundLine_73 (G := G) (a0 := a0) N u h
    exact ⟨by omega, by omega⟩
set_option maxHeartbeats 4000000 in
set_option maxRecDepth 100000 in
theorem w_X3_groundLine_47 {p : Program} {l : Launch} {e : Env} {R : Room} {s : State} {m : MethodId} {args : Array Value} {below : List Frame} {meth : Method} {c : Code} {G : uG} {a0 : Nat} {uf : UH} (hC : uC p s m args meth c G RX3 cX3_groundLine 2 none) (hR : 6 ≤ R.frames ∧ 129 ≤ R.locals) (N : Nat) (u : UH) (h : f_X3_groundLine_47 N (ub G) (ug G) a0 u = some uf) {H : Heap} {locs : List Loc} (hP : uP G u H) (hS : va_S (uA G) s.heap H locs) {ls : Array Slot} (hl : lv_has ls 2 [(0, va_rf (some a0))]) : W p l e R s m args below meth c H locs 0 0 (MQ below (uQv G uf) args s 0 0 (uA G)) (F0 m 47 ls []) := by
  obtain ⟨⟨hx, hb, hml, hown, hts⟩, hKK⟩ := id hC
  unfold f_X3_groundLine_47 at h
  refine u_aload_n (r := some a0) hx hb dX3_groundLine_47 rfl (lv_at hl 0 rfl) ?_
  obtain ⟨y1, hy1, h⟩ := mbind_n h
  refine u_get hC hP (uGI_n hy1) rfl in_X3 (by decide) q1906 (fun _ h => h) dX3_groundLine_48 ?_
  refine lv_if_ne (tgt := 73) hx hb dX3_groundLine_51 (by decide) (fun c2 => ?_) (fun c2 => ?_)
  · have h := mif_f c2 h
    exact w_X3_groundLine_73 hC hR N u h hP hS (lv_sub hl [0] rfl)
  · have h := mif_t c2 h
    refine u_aload_n (r := some a0) hx hb dX3_groundLine_54 rfl (lv_at hl 0 rfl) ?_
    obtain ⟨y3, hy3, h⟩ := mbind_n h
    refine u_get hC hP (uGI_n hy3) rfl in_X3 (by decide) q1915 (fun _ h => h) dX3_groundLine_55 ?_
    refine lv_bipush (v := 8) hx hb dX3_groundLine_58 (by decide) ?_
    refine lv_icmp_ne (tgt := 73) hx hb dX3_groundLine_60 (by decide) (fun c4 => ?_) (fun c4 => ?_)
    · have h := mif_f c4 h
      exact w_X3_groundLine_73 hC hR N u h hP hS (lv_sub hl [0] rfl)
    · have h := mif_t c4 h
      refine u_aload_n (r := some a0) hx hb dX3_groundLine_63 rfl (lv_at hl 0 rfl) ?_
      refine lv_iconst (v := 5) hx hb dX3_groundLine_64 (by decide) ?_
      refine u_aload_n (r := some a0) hx hb dX3_groundLine_65 rfl (lv_at hl 0 rfl) ?_
      obtain ⟨y5, hy5, h⟩ := mbind_n h
      refine u_get hC hP (uGI_n hy5) rfl in_X3 (by decide) q1897 (fun _ h => h) dX3_groundLine_66 ?_
      obtain ⟨c6, h⟩ := mif_n h
      obtain ⟨r9, u7, c8, h⟩ := ucall_n h
      have zu7 := zz_X3_wrong N (ub G) (ug G) u a0 5 y5 r9 u7 c8
      refine u_calli (va_runV (As := [.int 5, .int y5]) (rest := []) hC.1 (met_X3_wrong l N G u a0 5 y5 r9 u7 c8) (cwV 2 hts (lw_V q2196 q2198 qs51 q103 q2199) rfl rfl rfl (by decide +kernel) ⟨Nat.le_trans (Nat.le_of_ble_eq_true rfl) hR.1, Nat.le_trans (Nat.le_of_ble_eq_true rfl) hR.2⟩) ⟨uPc_blind, u_rcv hC hP c6 rfl, fun U hU hW => u_pre hC hP hS hU hW⟩ rfl rfl hl.1 rfl (lv_room (Nat.le_of_ble_eq_true rfl)) dX3_groundLine_69 ⟨Nat.zero_le _, Nat.zero_le _⟩) hS (fun H locs hP hS => ?_)
      refine lv_pop hx hb dX3_groundLine_72 rfl ?_
      exact w_X3_groundLine_73 hC hR N u7 h hP hS (lv_sub hl [0] rfl)
def f_X3_groundLine (N b : Nat) (g : uEnv) (u : UH) (a0 : Nat) : Option (UH) :=
    if uIs u a0 2 = true then
    ucall (f_X3_isName N b g u a0) fun r4 u2 =>
    if r4 = 0 then
    (uGI u2 a0 2 4).bind fun y19 =>
    if uIs u2 a0 2 = true then
    ucall (f_X3_wrong N b g u2 a0 1 y19) fun r23 u21 =>
    some u21
    else none
    else
    (uGR u2 a0 2 14).bind fun o6 =>
    (uGR u2 a0 2 15).bind fun o7 =>
    (uGI u2 a0 2 22).bind fun y8 =>
    if uIs u2 a0 2 = true then
    ucall (f_X3_find N b g u2 a0 o6 o7 y8) fun r12 u10 =>
    if r12 < 0 then
    f_X3_groundLine_47 N b g a0 u10
    else
    (uGI u10 a0 2 4).bind fun y14 =>
    if uIs u10 a0 2 = true then
    ucall (f_X3_wrong N b g u10 a0 3 y14) fun r18 u16 =>
    f_X3_groundLine_47 N b g a0 u16
    else none
    else none
    else none
set_option maxHeartbeats 4000000 in
set_option maxRecDepth 100000 in
theorem zz_X3_groundLine_0 {G : uG} {a0 : Nat} {uf : UH} (N : Nat) (u : UH) (h : f_X3_groundLine N (ub G) (ug G) u a0 = some uf) : uf.1 = u.1 ∧ uf.2.1 = u.2.1 := by
  unfold f_X3_groundLine at h
  obtain ⟨c1, h⟩ := mif_n h
  obtain ⟨r4, u2, c3, h⟩ := ucall_n h
  have zu2 := zz_X3_isName N (ub G) (ug G) u a0 r4 u2 c3
  by_cases c5 : r4 = 0
  · have h := mif_t c5 h
    obtain ⟨y19, hy19, h⟩ := mbind_n h
    obtain ⟨c20, h⟩ := mif_n h
    obtain ⟨r23, u21, c22, h⟩ := ucall_n h
    have zu21 := zz_X3_wrong N (ub G) (ug G) u2 a0 1 y19 r23 u21 c22
    cases h
    exact ⟨by omega, by omega⟩
  · have h := mif_f c5 h
    obtain ⟨o6, ho6, h⟩ := mbind_n h
    obtain ⟨o7, ho7, h⟩ := mbind_n h
    obtain ⟨y8, hy8, h⟩ := mbind_n h
    obtain ⟨c9, h⟩ := mif_n h
    obtain ⟨r12, u10, c11, h⟩ := ucall_n h
    have zu10 := zz_X3_find N (ub G) (ug G) u2 a0 o6 o7 y8 r12 u10 c11
    by_cases c13 : r12 < 0
    · have h := mif_t c13 h
      have hq := zz_X3_groundLine_47 (G := G) (a0 := a0) N u10 h
      exact ⟨by omega, by omega⟩
    · have h := mif_f c13 h
      obtain ⟨y14, hy14, h⟩ := mbind_n h
      obtain ⟨c15, h⟩ := mif_n h
      obtain ⟨r18, u16, c17, h⟩ := ucall_n h
      have zu16 := zz_X3_wrong N (ub G) (ug G) u10 a0 3 y14 r18 u16 c17
      have hq := zz_X3_groundLine_47 (G := G) (a0 := a0) N u16 h
      exact ⟨by omega, by omega⟩
set_option maxHeartbeats 4000000 in
set_option maxRecDepth 100000 in
theorem w_X3_groundLine_0 {p : Program} {l : Launch} {e : Env} {R : Room} {s : State} {m : MethodId} {args : Array Value} {below : List Frame} {meth : Method} {c : Code} {G : uG} {a0 : Nat} {uf : UH} (hC : uC p s m args meth c G RX3 cX3_groundLine 2 none) (hR : 6 ≤ R.frames ∧ 129 ≤ R.locals) (N : Nat) (u : UH) (h : f_X3_groundLine N (ub G) (ug G) u a0 = some uf) {H : Heap} {locs : List Loc} (hP : uP G u H) (hS : va_S (uA G) s.heap H locs) {ls : Array Slot} (hl : lv_has ls 2 [(0, va_rf (some a0))]) : W p l e R s m args below meth c H locs 0 0 (MQ below (uQv G uf) args s 0 0 (uA G)) (F0 m 0 ls []) := by
  obtain ⟨⟨hx, hb, hml, hown, hts⟩, hKK⟩ := id hC
  unfold f_X3_groundLine at h
  refine u_aload_n (r := some a0) hx hb dX3_groundLine_0 rfl (lv_at hl 0 rfl) ?_
  obtain ⟨c1, h⟩ := mif_n h
  obtain ⟨r4, u2, c3, h⟩ := ucall_n h
  have zu2 := zz_X3_isName N (ub G) (ug G) u a0 r4 u2 c3
  refine u_calli (va_runV (As := []) (rest := []) hC.1 (met_X3_isName l N G u a0 r4 u2 c3) (cwV 0 hts (lw_V q2183 q2185 qs50 q103 q2186) rfl rfl rfl (by decide +kernel) ⟨Nat.le_trans (Nat.le_of_ble_eq_true rfl) hR.1, Nat.le_trans (Nat.le_of_ble_eq_true rfl) hR.2⟩) ⟨uPc_blind, u_rcv hC hP c1 rfl, fun U hU hW => u_pre hC hP hS hU hW⟩ rfl rfl hl.1 rfl (lv_room (Nat.le_of_ble_eq_true rfl)) dX3_groundLine_1 ⟨Nat.zero_le _, Nat.zero_le _⟩) hS (fun H locs hP hS => ?_)
  refine lv_if_ne (tgt := 18) hx hb dX3_groundLine_4 (by decide) (fun c5 => ?_) (fun c5 => ?_)
  · have h := mif_f c5 h
    refine u_aload_n (r := some a0) hx hb dX3_groundLine_18 rfl (lv_at hl 0 rfl) ?_
    refine u_aload_n (r := some a0) hx hb dX3_groundLine_19 rfl (lv_at hl 0 rfl) ?_
    obtain ⟨o6, ho6, h⟩ := mbind_n h
    refine u_get hC hP (uGR_n ho6) rfl in_X3 (by decide) q1907 (fun _ h => h) dX3_groundLine_20 ?_
    refine u_aload_n (r := some a0) hx hb dX3_groundLine_23 rfl (lv_at hl 0 rfl) ?_
    obtain ⟨o7, ho7, h⟩ := mbind_n h
    refine u_get hC hP (uGR_n ho7) rfl in_X3 (by decide) q1908 (fun _ h => h) dX3_groundLine_24 ?_
    refine u_aload_n (r := some a0) hx hb dX3_groundLine_27 rfl (lv_at hl 0 rfl) ?_
    obtain ⟨y8, hy8, h⟩ := mbind_n h
    refine u_get hC hP (uGI_n hy8) rfl in_X3 (by decide) q1915 (fun _ h => h) dX3_groundLine_28 ?_
    obtain ⟨c9, h⟩ := mif_n h
    obtain ⟨r12, u10, c11, h⟩ := ucall_n h
    have zu10 := zz_X3_find N (ub G) (ug G) u2 a0 o6 o7 y8 r12 u10 c11
    refine u_calli (va_runV (As := [va_rf o6, va_rf o7, .int y8]) (rest := []) hC.1 (met_X3_find l N G u2 a0 o6 o7 y8 r12 u10 c11) (cwV 3 hts (lw_V q2200 q2202 qs52 q103 q2203) rfl rfl rfl (by decide +kernel) ⟨Nat.le_trans (Nat.le_of_ble_eq_true rfl) hR.1, Nat.le_trans (Nat.le_of_ble_eq_true rfl) hR.2⟩) ⟨uPc_blind, u_rcv hC hP c9 rfl, fun U hU hW => u_pre hC hP hS hU hW⟩ rfl rfl hl.1 rfl (lv_room (Nat.le_of_ble_eq_true rfl)) dX3_groundLine_31 ⟨Nat.zero_le _, Nat.zero_le _⟩) hS (fun H locs hP hS => ?_)
    refine lv_if_lt (tgt := 47) hx hb dX3_groundLine_34 (by decide) (fun c13 => ?_) (fun c13 => ?_)
    · have h := mif_t c13 h
      exact w_X3_groundLine_47 hC hR N u10 h hP hS (lv_sub hl [0] rfl)
    · have h := mif_f c13 h
      refine u_aload_n (r := some a0) hx hb dX3_groundLine_37 rfl (lv_at hl 0 rfl) ?_
      refine lv_iconst (v := 3) hx hb dX3_groundLine_38 (by decide) ?_
      refine u_aload_n (r := some a0) hx hb dX3_groundLine_39 rfl (lv_at hl 0 rfl) ?_
      obtain ⟨y14, hy14, h⟩ := mbind_n h
      refine u_get hC hP (uGI_n hy14) rfl in_X3 (by decide) q1897 (fun _ h => h) dX3_groundLine_40 ?_
      obtain ⟨c15, h⟩ := mif_n h
      obtain ⟨r18, u16, c17, h⟩ := ucall_n h
      have zu16 := zz_X3_wrong N (ub G) (ug G) u10 a0 3 y14 r18 u16 c17
      refine u_calli (va_runV (As := [.int 3, .int y14]) (rest := []) hC.1 (met_X3_wrong l N G u10 a0 3 y14 r18 u16 c17) (cwV 2 hts (lw_V q2196 q2198 qs51 q103 q2199) rfl rfl rfl (by decide +kernel) ⟨Nat.le_trans (Nat.le_of_ble_eq_true rfl) hR.1, Nat.le_trans (Nat.le_of_ble_eq_true rfl) hR.2⟩) ⟨uPc_blind, u_rcv hC hP c15 rfl, fun U hU hW => u_pre hC hP hS hU hW⟩ rfl rfl hl.1 rfl (lv_room (Nat.le_of_ble_eq_true rfl)) dX3_groundLine_43 ⟨Nat.zero_le _, Nat.zero_le _⟩) hS (fun H locs hP hS => ?_)
      refine lv_pop hx hb dX3_groundLine_46 rfl ?_
      exact w_X3_groundLine_47 hC hR N u16 h hP hS (lv_sub hl [0] rfl)
  · have h := mif_t c5 h
    refine u_aload_n (r := some a0) hx hb dX3_groundLine_7 rfl (lv_at hl 0 rfl) ?_
    refine lv_iconst (v := 1) hx hb dX3_groundLine_8 (by decide) ?_
    refine u_aload_n (r := some a0) hx hb dX3_groundLine_9 rfl (lv_at hl 0 rfl) ?_
    obtain ⟨y19, hy19, h⟩ := mbind_n h
    refine u_get hC hP (uGI_n hy19) rfl in_X3 (by decide) q1897 (fun _ h => h) dX3_groundLine_10 ?_
    obtain ⟨c20, h⟩ := mif_n h
    obtain ⟨r23, u21, c22, h⟩ := ucall_n h
    have zu21 := zz_X3_wrong N (ub G) (ug G) u2 a0 1 y19 r23 u21 c22
    refine u_calli (va_runV (As := [.int 1, .int y19]) (rest := []) hC.1 (met_X3_wrong l N G u2 a0 1 y19 r23 u21 c22) (cwV 2 hts (lw_V q2196 q2198 qs51 q103 q2199) rfl rfl rfl (by decide +kernel) ⟨Nat.le_trans (Nat.le_of_ble_eq_true rfl) hR.1, Nat.le_trans (Nat.le_of_ble_eq_true rfl) hR.2⟩) ⟨uPc_blind, u_rcv hC hP c20 rfl, fun U hU hW => u_pre hC hP hS hU hW⟩ rfl rfl hl.1 rfl (lv_room (Nat.le_of_ble_eq_true rfl)) dX3_groundLine_13 ⟨Nat.zero_le _, Nat.zero_le _⟩) hS (fun H locs hP hS => ?_)
    refine lv_pop hx hb dX3_groundLine_16 rfl ?_
    cases h
    exact u_vret hC hP hS dX3_groundLine_17
theorem zz_X3_groundLine (N b : Nat) (g : uEnv) (u : UH) (a0 : Nat) (uf : UH) (h : f_X3_groundLine N b g u a0 = some uf) : uf.1 = u.1 ∧ uf.2.1 = u.2.1 :=
  zz_X3_groundLine_0 (G := ((fun _ => 0, fun _ _ => 0), fun _ => 0, b, g)) (a0 := a0) N u h
theorem met_X3_groundLine (l : Launch) (N : Nat) (G : uG) (u : UH) (a0 : Nat) (uf : UH) (h : f_X3_groundLine N (ub G) (ug G) u a0 = some uf) : Met l yX3_groundLine (ws_ yX3_groundLine cX3_groundLine 2 none) ({ frames := 6, cells := 0, slots := 0, locals := 129 }) (uPc G u [.ref a0]) (uQv G uf) 0 0 (uA G) := by
  exact u_met (own := RX3) (by decide +kernel) rfl (Nat.le_of_ble_eq_true rfl) (fun hC hn hsz ls hl hP => w_X3_groundLine_0 hC ⟨Nat.le_refl _, Nat.le_refl _⟩ N u h hP va_S.rf hl)
def f_X3_signed_76 (N b : Nat) (g : uEnv) (a0 : Nat) (u : UH) (x1 : Int32) (x2 : Int32) (x3 : Int32) (s0 : Int32) : Option (Int32 × UH) :=
    ucall (f_X3_within N b g u s0 x1 x2) fun r3 u1 =>
    if r3 = 0 then
    if uIs u1 a0 2 = true then
    ucall (f_X3_wrong N b g u1 a0 4 x3) fun r11 u9 =>
    some (0, u9)
    else none
    else
    if uIs u1 a0 2 = true then
    (f_X3_next N b g u1 a0).bind fun u6 =>
    some (s0, u6)
    else none
set_option maxHeartbeats 4000000 in
set_option maxRecDepth 100000 in
theorem zz_X3_signed_76 {G : uG} {a0 : Nat} {uf : UH} {r : Int32} (N : Nat) (u : UH) (x1 : Int32) (x2 : Int32) (x3 : Int32) (s0 : Int32) (h : f_X3_signed_76 N (ub G) (ug G) a0 u x1 x2 x3 s0 = some (r, uf)) : uf.1 = u.1 ∧ uf.2.1 = u.2.1 := by
  unfold f_X3_signed_76 at h
  obtain ⟨r3, u1, c2, h⟩ := ucall_n h
  have zu1 := zz_X3_within N (ub G) (ug G) u s0 x1 x2 r3 u1 c2
  by_cases c4 : r3 = 0
  · have h := mif_t c4 h
    obtain ⟨c8, h⟩ := mif_n h
    obtain ⟨r11, u9, c10, h⟩ := ucall_n h
    have zu9 := zz_X3_wrong N (ub G) (ug G) u1 a0 4 x3 r11 u9 c10
    obtain ⟨hr1, hr2⟩ := uret_n h
    subst hr2
    exact ⟨by omega, by omega⟩
  · have h := mif_f c4 h
    obtain ⟨c5, h⟩ := mif_n h
    obtain ⟨u6, c7, h⟩ := mbind_n h
    have zu6 := zz_X3_next N (ub G) (ug G) u1 a0 u6 c7
    obtain ⟨hr1, hr2⟩ := uret_n h
    subst hr2
    exact ⟨by omega, by omega⟩
set_option maxHeartbeats 4000000 in
set_option maxRecDepth 100000 in
theorem w_X3_signed_76 {p : Program} {l : Launch} {e : Env} {R : Room} {s : State} {m : MethodId} {args : Array Value} {below : List Frame} {meth : Method} {c : Code} {G : uG} {a0 : Nat} {uf : UH} {r : Int32} (hC : uC p s m args meth c G RX3 cX3_signed 6 (some .int)) (hR : 2 ≤ R.frames ∧ 44 ≤ R.locals) (N : Nat) (u : UH) (x1 : Int32) (x2 : Int32) (x3 : Int32) (s0 : Int32) (h : f_X3_signed_76 N (ub G) (ug G) a0 u x1 x2 x3 s0 = some (r, uf)) {H : Heap} {locs : List Loc} (hP : uP G u H) (hS : va_S (uA G) s.heap H locs) {ls : Array Slot} (hl : lv_has ls 6 [(0, va_rf (some a0)), (1, .int x1), (2, .int x2), (3, .int x3)]) : W p l e R s m args below meth c H locs 0 0 (MQ below (uQi G r uf) args s 0 0 (uA G)) (F0 m 76 ls [.int s0]) := by
  obtain ⟨⟨hx, hb, hml, hown, hts⟩, hKK⟩ := id hC
  unfold f_X3_signed_76 at h
  refine lv_istore (lv' := [(5, .int s0), (0, va_rf (some a0)), (1, .int x1), (2, .int x2), (3, .int x3)]) hx hb dX3_signed_76 hl (by decide) rfl (fun ls hl => ?_)
  refine lv_iload hx hb dX3_signed_78 (lv_at hl 0 rfl) ?_
  refine lv_iload_n hx hb dX3_signed_80 rfl (lv_at hl 2 rfl) ?_
  refine lv_iload_n hx hb dX3_signed_81 rfl (lv_at hl 3 rfl) ?_
  obtain ⟨r3, u1, c2, h⟩ := ucall_n h
  have zu1 := zz_X3_within N (ub G) (ug G) u s0 x1 x2 r3 u1 c2
  refine u_calli (va_runS (As := [.int s0, .int x1, .int x2]) (rest := []) hC.1 (met_X3_within l N G u s0 x1 x2 r3 u1 c2) (va_cwS 3 hts (lw_S q2135 q2136 q103 q2137) rfl rfl rfl (by decide +kernel) ⟨Nat.le_trans (Nat.le_of_ble_eq_true rfl) hR.1, Nat.le_trans (Nat.le_of_ble_eq_true rfl) hR.2⟩) ⟨uPc_blind, fun U hU hW => u_pre hC hP hS hU hW⟩ rfl rfl hl.1 rfl (lv_room (Nat.le_of_ble_eq_true rfl)) dX3_signed_82 ⟨Nat.zero_le _, Nat.zero_le _⟩) hS (fun H locs hP hS => ?_)
  refine lv_if_ne (tgt := 97) hx hb dX3_signed_85 (by decide) (fun c4 => ?_) (fun c4 => ?_)
  · have h := mif_f c4 h
    refine u_aload_n (r := some a0) hx hb dX3_signed_97 rfl (lv_at hl 1 rfl) ?_
    obtain ⟨c5, h⟩ := mif_n h
    obtain ⟨u6, c7, h⟩ := mbind_n h
    have zu6 := zz_X3_next N (ub G) (ug G) u1 a0 u6 c7
    refine u_callv (va_runV (As := []) (rest := []) hC.1 (met_X3_next l N G u1 a0 u6 c7) (cwV 0 hts (lw_V q2154 q2156 qs45 q103 q2157) rfl rfl rfl (by decide +kernel) ⟨Nat.le_trans (Nat.le_of_ble_eq_true rfl) hR.1, Nat.le_trans (Nat.le_of_ble_eq_true rfl) hR.2⟩) ⟨uPc_blind, u_rcv hC hP c5 rfl, fun U hU hW => u_pre hC hP hS hU hW⟩ rfl rfl hl.1 rfl (lv_room (Nat.le_of_ble_eq_true rfl)) dX3_signed_98 ⟨Nat.zero_le _, Nat.zero_le _⟩) hS (fun H locs hP hS => ?_)
    refine lv_iload hx hb dX3_signed_101 (lv_at hl 0 rfl) ?_
    obtain ⟨hr1, hr2⟩ := uret_n h
    subst hr1
    subst hr2
    exact u_iret hC hP hS dX3_signed_103
  · have h := mif_t c4 h
    refine u_aload_n (r := some a0) hx hb dX3_signed_88 rfl (lv_at hl 1 rfl) ?_
    refine lv_iconst (v := 4) hx hb dX3_signed_89 (by decide) ?_
    refine lv_iload_n hx hb dX3_signed_90 rfl (lv_at hl 4 rfl) ?_
    obtain ⟨c8, h⟩ := mif_n h
    obtain ⟨r11, u9, c10, h⟩ := ucall_n h
    have zu9 := zz_X3_wrong N (ub G) (ug G) u1 a0 4 x3 r11 u9 c10
    refine u_calli (va_runV (As := [.int 4, .int x3]) (rest := []) hC.1 (met_X3_wrong l N G u1 a0 4 x3 r11 u9 c10) (cwV 2 hts (lw_V q2196 q2198 qs51 q103 q2199) rfl rfl rfl (by decide +kernel) ⟨Nat.le_trans (Nat.le_of_ble_eq_true rfl) hR.1, Nat.le_trans (Nat.le_of_ble_eq_true rfl) hR.2⟩) ⟨uPc_blind, u_rcv hC hP c8 rfl, fun U hU hW => u_pre hC hP hS hU hW⟩ rfl rfl hl.1 rfl (lv_room (Nat.le_of_ble_eq_true rfl)) dX3_signed_91 ⟨Nat.zero_le _, Nat.zero_le _⟩) hS (fun H locs hP hS => ?_)
    refine lv_pop hx hb dX3_signed_94 rfl ?_
    refine lv_iconst (v := 0) hx hb dX3_signed_95 (by decide) ?_
    obtain ⟨hr1, hr2⟩ := uret_n h
    subst hr1
    subst hr2
    exact u_iret hC hP hS dX3_signed_96
def f_X3_signed_39 (N b : Nat) (g : uEnv) (a0 : Nat) (u : UH) (x1 : Int32) (x2 : Int32) (x3 : Int32) (x4 : Int32) : Option (Int32 × UH) :=
    (uGI u a0 2 6).bind fun y1 =>
    if y1 = 3 then
    if x4 = 0 then
    (uGI u a0 2 7).bind fun y4 =>
    f_X3_signed_76 N b g a0 u x1 x2 x3 y4
    else
    (uGI u a0 2 7).bind fun y5 =>
    f_X3_signed_76 N b g a0 u x1 x2 x3 (-y5)
    else
    (uGI u a0 2 4).bind fun y6 =>
    if uIs u a0 2 = true then
    ucall (f_X3_wrong N b g u a0 1 y6) fun r10 u8 =>
    some (0, u8)
    else none
set_option maxHeartbeats 4000000 in
set_option maxRecDepth 100000 in
theorem zz_X3_signed_39 {G : uG} {a0 : Nat} {uf : UH} {r : Int32} (N : Nat) (u : UH) (x1 : Int32) (x2 : Int32) (x3 : Int32) (x4 : Int32) (h : f_X3_signed_39 N (ub G) (ug G) a0 u x1 x2 x3 x4 = some (r, uf)) : uf.1 = u.1 ∧ uf.2.1 = u.2.1 := by
  unfold f_X3_signed_39 at h
  obtain ⟨y1, hy1, h⟩ := mbind_n h
  by_cases c2 : y1 = 3
  · have h := mif_t c2 h
    by_cases c3 : x4 = 0
    · have h := mif_t c3 h
      obtain ⟨y4, hy4, h⟩ := mbind_n h
      have hq := zz_X3_signed_76 (G := G) (a0 := a0) N u x1 x2 x3 y4 h
      exact ⟨by omega, by omega⟩
    · have h := mif_f c3 h
      obtain ⟨y5, hy5, h⟩ := mbind_n h
      have hq := zz_X3_signed_76 (G := G) (a0 := a0) N u x1 x2 x3 (-y5) h
      exact ⟨by omega, by omega⟩
  · have h := mif_f c2 h
    obtain ⟨y6, hy6, h⟩ := mbind_n h
    obtain ⟨c7, h⟩ := mif_n h
    obtain ⟨r10, u8, c9, h⟩ := ucall_n h
    have zu8 := zz_X3_wrong N (ub G) (ug G) u a0 1 y6 r10 u8 c9
    obtain ⟨hr1, hr2⟩ := uret_n h
    subst hr2
    exact ⟨by omega, by omega⟩
set_option maxHeartbeats 4000000 in
set_option maxRecDepth 100000 in
theorem w_X3_signed_39 {p : Program} {l : Launch} {e : Env} {R : Room} {s : State} {m : MethodId} {args : Array Value} {below : List Frame} {meth : Method} {c : Code} {G : uG} {a0 : Nat} {uf : UH} {r : Int32} (hC : uC p s m args meth c G RX3 cX3_signed 6 (some .int)) (hR : 2 ≤ R.frames ∧ 44 ≤ R.locals) (N : Nat) (u : UH) (x1 : Int32) (x2 : Int32) (x3 : Int32) (x4 : Int32) (h : f_X3_signed_39 N (ub G) (ug G) a0 u x1 x2 x3 x4 = some (r, uf)) {H : Heap} {locs : List Loc} (hP : uP G u H) (hS : va_S (uA G) s.heap H locs) {ls : Array Slot} (hl : lv_has ls 6 [(0, va_rf (some a0)), (1, .int x1), (2, .int x2), (3, .int x3), (4, .int x4)]) : W p l e R s m args below meth c H locs 0 0 (MQ below (uQi G r uf) args s 0 0 (uA G)) (F0 m 39 ls []) := by
  obtain ⟨⟨hx, hb, hml, hown, hts⟩, hKK⟩ := id hC
  unfold f_X3_signed_39 at h
  refine u_aload_n (r := some a0) hx hb dX3_signed_39 rfl (lv_at hl 0 rfl) ?_
  obtain ⟨y1, hy1, h⟩ := mbind_n h
  refine u_get hC hP (uGI_n hy1) rfl in_X3 (by decide) q1899 (fun _ h => h) dX3_signed_40 ?_
  refine lv_iconst (v := 3) hx hb dX3_signed_43 (by decide) ?_
  refine lv_icmp_eq (tgt := 59) hx hb dX3_signed_44 (by decide) (fun c2 => ?_) (fun c2 => ?_)
  · have h := mif_t c2 h
    refine lv_iload hx hb dX3_signed_59 (lv_at hl 4 rfl) ?_
    refine lv_if_eq (tgt := 72) hx hb dX3_signed_61 (by decide) (fun c3 => ?_) (fun c3 => ?_)
    · have h := mif_t c3 h
      refine u_aload_n (r := some a0) hx hb dX3_signed_72 rfl (lv_at hl 0 rfl) ?_
      obtain ⟨y4, hy4, h⟩ := mbind_n h
      refine u_get hC hP (uGI_n hy4) rfl in_X3 (by decide) q1900 (fun _ h => h) dX3_signed_73 ?_
      exact w_X3_signed_76 hC hR N u x1 x2 x3 y4 h hP hS (lv_sub hl [0, 1, 2, 3] rfl)
    · have h := mif_f c3 h
      refine u_aload_n (r := some a0) hx hb dX3_signed_64 rfl (lv_at hl 0 rfl) ?_
      obtain ⟨y5, hy5, h⟩ := mbind_n h
      refine u_get hC hP (uGI_n hy5) rfl in_X3 (by decide) q1900 (fun _ h => h) dX3_signed_65 ?_
      refine lv_ineg hx hb dX3_signed_68 ?_
      refine lv_goto (tgt := 76) hx hb dX3_signed_69 (by decide) ?_
      exact w_X3_signed_76 hC hR N u x1 x2 x3 (-y5) h hP hS (lv_sub hl [0, 1, 2, 3] rfl)
  · have h := mif_f c2 h
    refine u_aload_n (r := some a0) hx hb dX3_signed_47 rfl (lv_at hl 0 rfl) ?_
    refine lv_iconst (v := 1) hx hb dX3_signed_48 (by decide) ?_
    refine u_aload_n (r := some a0) hx hb dX3_signed_49 rfl (lv_at hl 0 rfl) ?_
    obtain ⟨y6, hy6, h⟩ := mbind_n h
    refine u_get hC hP (uGI_n hy6) rfl in_X3 (by decide) q1897 (fun _ h => h) dX3_signed_50 ?_
    obtain ⟨c7, h⟩ := mif_n h
    obtain ⟨r10, u8, c9, h⟩ := ucall_n h
    have zu8 := zz_X3_wrong N (ub G) (ug G) u a0 1 y6 r10 u8 c9
    refine u_calli (va_runV (As := [.int 1, .int y6]) (rest := []) hC.1 (met_X3_wrong l N G u a0 1 y6 r10 u8 c9) (cwV 2 hts (lw_V q2196 q2198 qs51 q103 q2199) rfl rfl rfl (by decide +kernel) ⟨Nat.le_trans (Nat.le_of_ble_eq_true rfl) hR.1, Nat.le_trans (Nat.le_of_ble_eq_true rfl) hR.2⟩) ⟨uPc_blind, u_rcv hC hP c7 rfl, fun U hU hW => u_pre hC hP hS hU hW⟩ rfl rfl hl.1 rfl (lv_room (Nat.le_of_ble_eq_true rfl)) dX3_signed_53 ⟨Nat.zero_le _, Nat.zero_le _⟩) hS (fun H locs hP hS => ?_)
    refine lv_pop hx hb dX3_signed_56 rfl ?_
    refine lv_iconst (v := 0) hx hb dX3_signed_57 (by decide) ?_
    obtain ⟨hr1, hr2⟩ := uret_n h
    subst hr1
    subst hr2
    exact u_iret hC hP hS dX3_signed_58
def f_X3_signed_28 (N b : Nat) (g : uEnv) (a0 : Nat) (u : UH) (x1 : Int32) (x2 : Int32) (x3 : Int32) (s0 : Int32) : Option (Int32 × UH) :=
    if s0 = 0 then
    f_X3_signed_39 N b g a0 u x1 x2 x3 s0
    else
    if uIs u a0 2 = true then
    (f_X3_next N b g u a0).bind fun u3 =>
    f_X3_signed_39 N b g a0 u3 x1 x2 x3 s0
    else none
set_option maxHeartbeats 4000000 in
set_option maxRecDepth 100000 in
theorem zz_X3_signed_28 {G : uG} {a0 : Nat} {uf : UH} {r : Int32} (N : Nat) (u : UH) (x1 : Int32) (x2 : Int32) (x3 : Int32) (s0 : Int32) (h : f_X3_signed_28 N (ub G) (ug G) a0 u x1 x2 x3 s0 = some (r, uf)) : uf.1 = u.1 ∧ uf.2.1 = u.2.1 := by
  unfold f_X3_signed_28 at h
  by_cases c1 : s0 = 0
  · have h := mif_t c1 h
    have hq := zz_X3_signed_39 (G := G) (a0 := a0) N u x1 x2 x3 s0 h
    exact ⟨by omega, by omega⟩
  · have h := mif_f c1 h
    obtain ⟨c2, h⟩ := mif_n h
    obtain ⟨u3, c4, h⟩ := mbind_n h
    have zu3 := zz_X3_next N (ub G) (ug G) u a0 u3 c4
    have hq := zz_X3_signed_39 (G := G) (a0 := a0) N u3 x1 x2 x3 s0 h
    exact ⟨by omega, by omega⟩
set_option maxHeartbeats 4000000 in
set_option maxRecDepth 100000 in
theorem w_X3_signed_28 {p : Program} {l : Launch} {e : Env} {R : Room} {s : State} {m : MethodId} {args : Array Value} {below : List Frame} {meth : Method} {c : Code} {G : uG} {a0 : Nat} {uf : UH} {r : Int32} (hC : uC p s m args meth c G RX3 cX3_signed 6 (some .int)) (hR : 2 ≤ R.frames ∧ 44 ≤ R.locals) (N : Nat) (u : UH) (x1 : Int32) (x2 : Int32) (x3 : Int32) (s0 : Int32) (h : f_X3_signed_28 N (ub G) (ug G) a0 u x1 x2 x3 s0 = some (r, uf)) {H : Heap} {locs : List Loc} (hP : uP G u H) (hS : va_S (uA G) s.heap H locs) {ls : Array Slot} (hl : lv_has ls 6 [(0, va_rf (some a0)), (1, .int x1), (2, .int x2), (3, .int x3)]) : W p l e R s m args below meth c H locs 0 0 (MQ below (uQi G r uf) args s 0 0 (uA G)) (F0 m 28 ls [.int s0]) := by
  obtain ⟨⟨hx, hb, hml, hown, hts⟩, hKK⟩ := id hC
  unfold f_X3_signed_28 at h
  refine lv_istore (lv' := [(4, .int s0), (0, va_rf (some a0)), (1, .int x1), (2, .int x2), (3, .int x3)]) hx hb dX3_signed_28 hl (by decide) rfl (fun ls hl => ?_)
  refine lv_iload hx hb dX3_signed_30 (lv_at hl 0 rfl) ?_
  refine lv_if_eq (tgt := 39) hx hb dX3_signed_32 (by decide) (fun c1 => ?_) (fun c1 => ?_)
  · have h := mif_t c1 h
    exact w_X3_signed_39 hC hR N u x1 x2 x3 s0 h hP hS (lv_sub hl [1, 2, 3, 4, 0] rfl)
  · have h := mif_f c1 h
    refine u_aload_n (r := some a0) hx hb dX3_signed_35 rfl (lv_at hl 1 rfl) ?_
    obtain ⟨c2, h⟩ := mif_n h
    obtain ⟨u3, c4, h⟩ := mbind_n h
    have zu3 := zz_X3_next N (ub G) (ug G) u a0 u3 c4
    refine u_callv (va_runV (As := []) (rest := []) hC.1 (met_X3_next l N G u a0 u3 c4) (cwV 0 hts (lw_V q2154 q2156 qs45 q103 q2157) rfl rfl rfl (by decide +kernel) ⟨Nat.le_trans (Nat.le_of_ble_eq_true rfl) hR.1, Nat.le_trans (Nat.le_of_ble_eq_true rfl) hR.2⟩) ⟨uPc_blind, u_rcv hC hP c2 rfl, fun U hU hW => u_pre hC hP hS hU hW⟩ rfl rfl hl.1 rfl (lv_room (Nat.le_of_ble_eq_true rfl)) dX3_signed_36 ⟨Nat.zero_le _, Nat.zero_le _⟩) hS (fun H locs hP hS => ?_)
    exact w_X3_signed_39 hC hR N u3 x1 x2 x3 s0 h hP hS (lv_sub hl [1, 2, 3, 4, 0] rfl)
def f_X3_signed (N b : Nat) (g : uEnv) (u : UH) (a0 : Nat) (x1 : Int32) (x2 : Int32) : Option (Int32 × UH) :=
    (uGI u a0 2 13).bind fun y1 =>
    if y1 = 0 then
    (uGI u a0 2 4).bind fun y3 =>
    (uGI u a0 2 6).bind fun y4 =>
    if y4 = 45 then
    f_X3_signed_28 N b g a0 u x1 x2 y3 1
    else
    f_X3_signed_28 N b g a0 u x1 x2 y3 0
    else
    some (0, u)
set_option maxHeartbeats 4000000 in
set_option maxRecDepth 100000 in
theorem zz_X3_signed_0 {G : uG} {a0 : Nat} {uf : UH} {r : Int32} (N : Nat) (u : UH) (x1 : Int32) (x2 : Int32) (h : f_X3_signed N (ub G) (ug G) u a0 x1 x2 = some (r, uf)) : uf.1 = u.1 ∧ uf.2.1 = u.2.1 := by
  unfold f_X3_signed at h
  obtain ⟨y1, hy1, h⟩ := mbind_n h
  by_cases c2 : y1 = 0
  · have h := mif_t c2 h
    obtain ⟨y3, hy3, h⟩ := mbind_n h
    obtain ⟨y4, hy4, h⟩ := mbind_n h
    by_cases c5 : y4 = 45
    · have h := mif_t c5 h
      have hq := zz_X3_signed_28 (G := G) (a0 := a0) N u x1 x2 y3 1 h
      exact ⟨by omega, by omega⟩
    · have h := mif_f c5 h
      have hq := zz_X3_signed_28 (G := G) (a0 := a0) N u x1 x2 y3 0 h
      exact ⟨by omega, by omega⟩
  · have h := mif_f c2 h
    obtain ⟨hr1, hr2⟩ := uret_n h
    subst hr2
    exact ⟨by omega, by omega⟩
set_option maxHeartbeats 4000000 in
set_option maxRecDepth 100000 in
theorem w_X3_signed_0 {p : Program} {l : Launch} {e : Env} {R : Room} {s : State} {m : MethodId} {args : Array Value} {below : List Frame} {meth : Method} {c : Code} {G : uG} {a0 : Nat} {uf : UH} {r : Int32} (hC : uC p s m args meth c G RX3 cX3_signed 6 (some .int)) (hR : 2 ≤ R.frames ∧ 44 ≤ R.locals) (N : Nat) (u : UH) (x1 : Int32) (x2 : Int32) (h : f_X3_signed N (ub G) (ug G) u a0 x1 x2 = some (r, uf)) {H : Heap} {locs : List Loc} (hP : uP G u H) (hS : va_S (uA G) s.heap H locs) {ls : Array Slot} (hl : lv_has ls 6 [(0, va_rf (some a0)), (1, .int x1), (2, .int x2)]) : W p l e R s m args below meth c H locs 0 0 (MQ below (uQi G r uf) args s 0 0 (uA G)) (F0 m 0 ls []) := by
  obtain ⟨⟨hx, hb, hml, hown, hts⟩, hKK⟩ := id hC
  unfold f_X3_signed at h
  refine u_aload_n (r := some a0) hx hb dX3_signed_0 rfl (lv_at hl 0 rfl) ?_
  obtain ⟨y1, hy1, h⟩ := mbind_n h
  refine u_get hC hP (uGI_n hy1) rfl in_X3 (by decide) q1906 (fun _ h => h) dX3_signed_1 ?_
  refine lv_if_eq (tgt := 9) hx hb dX3_signed_4 (by decide) (fun c2 => ?_) (fun c2 => ?_)
  · have h := mif_t c2 h
    refine u_aload_n (r := some a0) hx hb dX3_signed_9 rfl (lv_at hl 0 rfl) ?_
    obtain ⟨y3, hy3, h⟩ := mbind_n h
    refine u_get hC hP (uGI_n hy3) rfl in_X3 (by decide) q1897 (fun _ h => h) dX3_signed_10 ?_
    refine lv_istore_n (i := 3) (lv' := [(3, .int y3), (0, va_rf (some a0)), (1, .int x1), (2, .int x2)]) hx hb dX3_signed_13 rfl hl (by decide) rfl (fun ls hl => ?_)
    refine u_aload_n (r := some a0) hx hb dX3_signed_14 rfl (lv_at hl 1 rfl) ?_
    obtain ⟨y4, hy4, h⟩ := mbind_n h
    refine u_get hC hP (uGI_n hy4) rfl in_X3 (by decide) q1899 (fun _ h => h) dX3_signed_15 ?_
    refine lv_bipush (v := 45) hx hb dX3_signed_18 (by decide) ?_
    refine lv_icmp_ne (tgt := 27) hx hb dX3_signed_20 (by decide) (fun c5 => ?_) (fun c5 => ?_)
    · have h := mif_f c5 h
      refine lv_iconst (v := 0) hx hb dX3_signed_27 (by decide) ?_
      exact w_X3_signed_28 hC hR N u x1 x2 y3 0 h hP hS (lv_sub hl [1, 2, 3, 0] rfl)
    · have h := mif_t c5 h
      refine lv_iconst (v := 1) hx hb dX3_signed_23 (by decide) ?_
      refine lv_goto (tgt := 28) hx hb dX3_signed_24 (by decide) ?_
      exact w_X3_signed_28 hC hR N u x1 x2 y3 1 h hP hS (lv_sub hl [1, 2, 3, 0] rfl)
  · have h := mif_f c2 h
    refine lv_iconst (v := 0) hx hb dX3_signed_7 (by decide) ?_
    obtain ⟨hr1, hr2⟩ := uret_n h
    subst hr1
    subst hr2
    exact u_iret hC hP hS dX3_signed_8
theorem zz_X3_signed (N b : Nat) (g : uEnv) (u : UH) (a0 : Nat) (x1 : Int32) (x2 : Int32) (r : Int32) (uf : UH) (h : f_X3_signed N b g u a0 x1 x2 = some (r, uf)) : uf.1 = u.1 ∧ uf.2.1 = u.2.1 :=
  zz_X3_signed_0 (G := ((fun _ => 0, fun _ _ => 0), fun _ => 0, b, g)) (a0 := a0) N u x1 x2 h
theorem met_X3_signed (l : Launch) (N : Nat) (G : uG) (u : UH) (a0 : Nat) (x1 : Int32) (x2 : Int32) (r : Int32) (uf : UH) (h : f_X3_signed N (ub G) (ug G) u a0 x1 x2 = some (r, uf)) : Met l yX3_signed (ws_ yX3_signed cX3_signed 6 (some .int)) ({ frames := 2, cells := 0, slots := 0, locals := 44 }) (uPc G u [.ref a0, .int x1, .int x2]) (uQi G r uf) 0 0 (uA G) := by
  exact u_met (own := RX3) (by decide +kernel) rfl (Nat.le_of_ble_eq_true rfl) (fun hC hn hsz ls hl hP => w_X3_signed_0 hC ⟨Nat.le_refl _, Nat.le_refl _⟩ N u x1 x2 h hP va_S.rf hl)
def f_X3_tryLine_223 (N b : Nat) (g : uEnv) (a0 : Nat) (u : UH) : Option (UH) :=
    some u
set_option maxHeartbeats 4000000 in
set_option maxRecDepth 100000 in
theorem zz_X3_tryLine_223 {G : uG} {a0 : Nat} {uf : UH} (N : Nat) (u : UH) (h : f_X3_tryLine_223 N (ub G) (ug G) a0 u = some uf) : uf.1 = u.1 ∧ uf.2.1 = u.2.1 := by
  unfold f_X3_tryLine_223 at h
  cases h
  exact ⟨by omega, by omega⟩
set_option maxHeartbeats 4000000 in
set_option maxRecDepth 100000 in
theorem w_X3_tryLine_223 {p : Program} {l : Launch} {e : Env} {R : Room} {s : State} {m : MethodId} {args : Array Value} {below : List Frame} {meth : Method} {c : Code} {G : uG} {a0 : Nat} {uf : UH} (hC : uC p s m args meth c G RX3 cX3_tryLine 2 none) (hR : 6 ≤ R.frames ∧ 129 ≤ R.locals) (N : Nat) (u : UH) (h : f_X3_tryLine_223 N (ub G) (ug G) a0 u = some uf) {H : Heap} {locs : List Loc} (hP : uP G u H) (hS : va_S (uA G) s.heap H locs) {ls : Array Slot} (hl : lv_has ls 2 []) : W p l e R s m args below meth c H locs 0 0 (MQ below (uQv G uf) args s 0 0 (uA G)) (F0 m 223 ls []) := by
  obtain ⟨⟨hx, hb, hml, hown, hts⟩, hKK⟩ := id hC
  unfold f_X3_tryLine_223 at h
  cases h
  exact u_vret hC hP hS dX3_tryLine_223
def f_X3_tryLine_83 (N b : Nat) (g : uEnv) (a0 : Nat) : Nat → UH → Int32 → Option (UH)
  | 0, _, _ => none
  | n + 1, u, x1 =>
    (uGI u a0 2 8).bind fun y1 =>
    if y1 ≤ x1 then
    (uGR u a0 2 17).bind fun o3 =>
    (uGI u a0 2 23).bind fun y4 =>
    (uGI u a0 2 8).bind fun y5 =>
    (o3).bind fun a6 =>
    (uStI b u a6 0 y4 y5).bind fun u7 =>
    if uIs u7 a0 2 = true then
    (f_X3_next N b g u7 a0).bind fun u9 =>
    if uIs u9 a0 2 = true then
    ucall (f_X3_must N b g u9 a0 (some (g.2.1 49))) fun r14 u12 =>
    (uGR u12 a0 2 30).bind fun o15 =>
    (uGI u12 a0 2 23).bind fun y16 =>
    if uIs u12 a0 2 = true then
    ucall (f_X3_signed N b g u12 a0 (-4) 4) fun r20 u18 =>
    (o15).bind fun a21 =>
    (uStI b u18 a21 0 y16 r20).bind fun u22 =>
    if uIs u22 a0 2 = true then
    ucall (f_X3_must N b g u22 a0 (some (g.2.1 50))) fun r26 u24 =>
    (uGR u24 a0 2 31).bind fun o27 =>
    (uGI u24 a0 2 23).bind fun y28 =>
    if uIs u24 a0 2 = true then
    ucall (f_X3_signed N b g u24 a0 (-4) 4) fun r32 u30 =>
    (o27).bind fun a33 =>
    (uStI b u30 a33 0 y28 r32).bind fun u34 =>
    if uIs u34 a0 2 = true then
    ucall (f_X3_must N b g u34 a0 (some (g.2.1 51))) fun r38 u36 =>
    (uGR u36 a0 2 32).bind fun o39 =>
    (uGI u36 a0 2 23).bind fun y40 =>
    if uIs u36 a0 2 = true then
    ucall (f_X3_number N b g u36 a0 1 99) fun r44 u42 =>
    (o39).bind fun a45 =>
    (uStI b u42 a45 0 y40 r44).bind fun u46 =>
    (uGI u46 a0 2 13).bind fun y47 =>
    if y47 = 0 then
    (uGI u46 a0 2 23).bind fun y49 =>
    (uPut b u46 a0 2 23 (.int (y49 + 1))).bind fun u50 =>
    f_X3_tryLine_223 N b g a0 u50
    else
    f_X3_tryLine_223 N b g a0 u46
    else none
    else none
    else none
    else none
    else none
    else none
    else none
    else
    (uGR u a0 2 16).bind fun o51 =>
    (uGI u a0 2 23).bind fun y52 =>
    (uGR u a0 2 11).bind fun o53 =>
    (o53).bind fun a54 =>
    (uLdI u a54 0 x1).bind fun y55 =>
    (o51).bind fun a56 =>
    (uStI b u a56 0 ((8 * y52) + x1) y55).bind fun u57 =>
    mlet (x1 + 1) fun y58 =>
    f_X3_tryLine_83 N b g a0 n u57 y58
set_option maxHeartbeats 4000000 in
set_option maxRecDepth 100000 in
theorem zz_X3_tryLine_83 {G : uG} {a0 : Nat} {uf : UH} (N : Nat) : ∀ (n : Nat) (u : UH) (x1 : Int32), f_X3_tryLine_83 N (ub G) (ug G) a0 n u x1 = some uf → uf.1 = u.1 ∧ uf.2.1 = u.2.1 := by
  intro n
  induction n with
  | zero =>
    intro u x1 h
    cases h
  | succ n ih =>
    intro u x1 h
    unfold f_X3_tryLine_83 at h
    obtain ⟨y1, hy1, h⟩ := mbind_n h
    by_cases c2 : y1 ≤ x1
    · have h := mif_t c2 h
      obtain ⟨o3, ho3, h⟩ := mbind_n h
      obtain ⟨y4, hy4, h⟩ := mbind_n h
      obtain ⟨y5, hy5, h⟩ := mbind_n h
      obtain ⟨a6, ha6, hha6⟩ := mbind_n h
      subst ha6
      have h := hha6
      obtain ⟨u7, hu7, h⟩ := mbind_n h
      have zu7 := uStI_sz hu7
      obtain ⟨c8, h⟩ := mif_n h
      obtain ⟨u9, c10, h⟩ := mbind_n h
      have zu9 := zz_X3_next N (ub G) (ug G) u7 a0 u9 c10
      obtain ⟨c11, h⟩ := mif_n h
      obtain ⟨r14, u12, c13, h⟩ := ucall_n h
      have zu12 := zz_X3_must N (ub G) (ug G) u9 a0 (some ((ug G).2.1 49)) r14 u12 c13
      obtain ⟨o15, ho15, h⟩ := mbind_n h
      obtain ⟨y16, hy16, h⟩ := mbind_n h
      obtain ⟨c17, h⟩ := mif_n h
      obtain ⟨r20, u18, c19, h⟩ := ucall_n h
      have zu18 := zz_X3_signed N (ub G) (ug G) u12 a0 (-4) 4 r20 u18 c19
      obtain ⟨a21, ha21, hha21⟩ := mbind_n h
      subst ha21
      have h := hha21
      obtain ⟨u22, hu22, h⟩ := mbind_n h
      have zu22 := uStI_sz hu22
      obtain ⟨c23, h⟩ := mif_n h
      obtain ⟨r26, u24, c25, h⟩ := ucall_n h
      have zu24 := zz_X3_must N (ub G) (ug G) u22 a0 (some ((ug G).2.1 50)) r26 u24 c25
      obtain ⟨o27, ho27, h⟩ := mbind_n h
      obtain ⟨y28, hy28, h⟩ := mbind_n h
      obtain ⟨c29, h⟩ := mif_n h
      obtain ⟨r32, u30, c31, h⟩ := ucall_n h
      have zu30 := zz_X3_signed N (ub G) (ug G) u24 a0 (-4) 4 r32 u30 c31
      obtain ⟨a33, ha33, hha33⟩ := mbind_n h
      subst ha33
      have h := hha33
      obtain ⟨u34, hu34, h⟩ := mbind_n h
      have zu34 := uStI_sz hu34
      obtain ⟨c35, h⟩ := mif_n h
      obtain ⟨r38, u36, c37, h⟩ := ucall_n h
      have zu36 := zz_X3_must N (ub G) (ug G) u34 a0 (some ((ug G).2.1 51)) r38 u36 c37
      obtain ⟨o39, ho39, h⟩ := mbind_n h
      obtain ⟨y40, hy40, h⟩ := mbind_n h
      obtain ⟨c41, h⟩ := mif_n h
      obtain ⟨r44, u42, c43, h⟩ := ucall_n h
      have zu42 := zz_X3_number N (ub G) (ug G) u36 a0 1 99 r44 u42 c43
      obtain ⟨a45, ha45, hha45⟩ := mbind_n h
      subst ha45
      have h := hha45
      obtain ⟨u46, hu46, h⟩ := mbind_n h
      have zu46 := uStI_sz hu46
      obtain ⟨y47, hy47, h⟩ := mbind_n h
      by_cases c48 : y47 = 0
      · have h := mif_t c48 h
        obtain ⟨y49, hy49, h⟩ := mbind_n h
        obtain ⟨u50, hu50, h⟩ := mbind_n h
        have zu50 := uPut_sz hu50
        have hq := zz_X3_tryLine_223 (G := G) (a0 := a0) N u50 h
        exact ⟨by omega, by omega⟩
      · have h := mif_f c48 h
        have hq := zz_X3_tryLine_223 (G := G) (a0 := a0) N u46 h
        exact ⟨by omega, by omega⟩
    · have h := mif_f c2 h
      obtain ⟨o51, ho51, h⟩ := mbind_n h
      obtain ⟨y52, hy52, h⟩ := mbind_n h
      obtain ⟨o53, ho53, h⟩ := mbind_n h
      obtain ⟨a54, ha54, hha54⟩ := mbind_n h
      subst ha54
      have h := hha54
      obtain ⟨y55, hy55, h⟩ := mbind_n h
      obtain ⟨a56, ha56, hha56⟩ := mbind_n h
      subst ha56
      have h := hha56
      obtain ⟨u57, hu57, h⟩ := mbind_n h
      have zu57 := uStI_sz hu57
      obtain ⟨y58, ey58⟩ : ∃ z : Int32, z = x1 + 1 := ⟨_, rfl⟩
      have h := mlet_at ey58 h
      have hq := ih u57 y58 h
      exact ⟨by omega, by omega⟩
set_option maxHeartbeats 4000000 in
set_option maxRecDepth 100000 in
theorem w_X3_tryLine_83 {p : Program} {l : Launch} {e : Env} {R : Room} {s : State} {m : MethodId} {args : Array Value} {below : List Frame} {meth : Method} {c : Code} {G : uG} {a0 : Nat} {uf : UH} (hC : uC p s m args meth c G RX3 cX3_tryLine 2 none) (hR : 6 ≤ R.frames ∧ 129 ≤ R.locals) (N : Nat) : ∀ (n : Nat) (u : UH) (x1 : Int32), f_X3_tryLine_83 N (ub G) (ug G) a0 n u x1 = some uf → ∀ (H : Heap) (locs : List Loc), uP G u H → va_S (uA G) s.heap H locs → ∀ ls : Array Slot, lv_has ls 2 [(0, va_rf (some a0)), (1, .int x1)] → W p l e R s m args below meth c H locs 0 0 (MQ below (uQv G uf) args s 0 0 (uA G)) (F0 m 83 ls []) := by
  obtain ⟨⟨hx, hb, hml, hown, hts⟩, hKK⟩ := id hC
  intro n
  induction n with
  | zero =>
    intro u x1 h
    cases h
  | succ n ih =>
    intro u x1 h H locs hP hS ls hl
    unfold f_X3_tryLine_83 at h
    refine lv_iload_n hx hb dX3_tryLine_83 rfl (lv_at hl 1 rfl) ?_
    refine u_aload_n (r := some a0) hx hb dX3_tryLine_84 rfl (lv_at hl 0 rfl) ?_
    obtain ⟨y1, hy1, h⟩ := mbind_n h
    refine u_get hC hP (uGI_n hy1) rfl in_X3 (by decide) q1901 (fun _ h => h) dX3_tryLine_85 ?_
    refine lv_icmp_ge (tgt := 117) hx hb dX3_tryLine_88 (by decide) (fun c2 => ?_) (fun c2 => ?_)
    · have h := mif_t c2 h
      refine u_aload_n (r := some a0) hx hb dX3_tryLine_117 rfl (lv_at hl 0 rfl) ?_
      obtain ⟨o3, ho3, h⟩ := mbind_n h
      refine u_get hC hP (uGR_n ho3) rfl in_X3 (by decide) q1910 (fun _ h => h) dX3_tryLine_118 ?_
      refine u_aload_n (r := some a0) hx hb dX3_tryLine_121 rfl (lv_at hl 0 rfl) ?_
      obtain ⟨y4, hy4, h⟩ := mbind_n h
      refine u_get hC hP (uGI_n hy4) rfl in_X3 (by decide) q1916 (fun _ h => h) dX3_tryLine_122 ?_
      refine u_aload_n (r := some a0) hx hb dX3_tryLine_125 rfl (lv_at hl 0 rfl) ?_
      obtain ⟨y5, hy5, h⟩ := mbind_n h
      refine u_get hC hP (uGI_n hy5) rfl in_X3 (by decide) q1901 (fun _ h => h) dX3_tryLine_126 ?_
      obtain ⟨a6, ha6, hha6⟩ := mbind_n h
      subst ha6
      have h := hha6
      obtain ⟨u7, hu7, h⟩ := mbind_n h
      have zu7 := uStI_sz hu7
      refine u_iast hC hP hS hu7 rfl dX3_tryLine_129 (fun H locs hP hS => ?_)
      refine u_aload_n (r := some a0) hx hb dX3_tryLine_130 rfl (lv_at hl 0 rfl) ?_
      obtain ⟨c8, h⟩ := mif_n h
      obtain ⟨u9, c10, h⟩ := mbind_n h
      have zu9 := zz_X3_next N (ub G) (ug G) u7 a0 u9 c10
      refine u_callv (va_runV (As := []) (rest := []) hC.1 (met_X3_next l N G u7 a0 u9 c10) (cwV 0 hts (lw_V q2154 q2156 qs45 q103 q2157) rfl rfl rfl (by decide +kernel) ⟨Nat.le_trans (Nat.le_of_ble_eq_true rfl) hR.1, Nat.le_trans (Nat.le_of_ble_eq_true rfl) hR.2⟩) ⟨uPc_blind, u_rcv hC hP c8 rfl, fun U hU hW => u_pre hC hP hS hU hW⟩ rfl rfl hl.1 rfl (lv_room (Nat.le_of_ble_eq_true rfl)) dX3_tryLine_131 ⟨Nat.zero_le _, Nat.zero_le _⟩) hS (fun H locs hP hS => ?_)
      refine u_aload_n (r := some a0) hx hb dX3_tryLine_134 rfl (lv_at hl 0 rfl) ?_
      refine u_ldcSw hC 49 rfl dX3_tryLine_135 ?_
      obtain ⟨c11, h⟩ := mif_n h
      obtain ⟨r14, u12, c13, h⟩ := ucall_n h
      have zu12 := zz_X3_must N (ub G) (ug G) u9 a0 (some ((ug G).2.1 49)) r14 u12 c13
      refine u_calli (va_runV (As := [va_rf (some ((ug G).2.1 49))]) (rest := []) hC.1 (met_X3_must l N G u9 a0 (some ((ug G).2.1 49)) r14 u12 c13) (cwV 1 hts (lw_V q2205 q2207 qs53 q103 q2208) rfl rfl rfl (by decide +kernel) ⟨Nat.le_trans (Nat.le_of_ble_eq_true rfl) hR.1, Nat.le_trans (Nat.le_of_ble_eq_true rfl) hR.2⟩) ⟨uPc_blind, u_rcv hC hP c11 rfl, fun U hU hW => u_pre hC hP hS hU hW⟩ rfl rfl hl.1 rfl (lv_room (Nat.le_of_ble_eq_true rfl)) dX3_tryLine_138 ⟨Nat.zero_le _, Nat.zero_le _⟩) hS (fun H locs hP hS => ?_)
      refine lv_pop hx hb dX3_tryLine_141 rfl ?_
      refine u_aload_n (r := some a0) hx hb dX3_tryLine_142 rfl (lv_at hl 0 rfl) ?_
      obtain ⟨o15, ho15, h⟩ := mbind_n h
      refine u_get hC hP (uGR_n ho15) rfl in_X3 (by decide) q1923 (fun _ h => h) dX3_tryLine_143 ?_
      refine u_aload_n (r := some a0) hx hb dX3_tryLine_146 rfl (lv_at hl 0 rfl) ?_
      obtain ⟨y16, hy16, h⟩ := mbind_n h
      refine u_get hC hP (uGI_n hy16) rfl in_X3 (by decide) q1916 (fun _ h => h) dX3_tryLine_147 ?_
      refine u_aload_n (r := some a0) hx hb dX3_tryLine_150 rfl (lv_at hl 0 rfl) ?_
      refine lv_bipush (v := (-4)) hx hb dX3_tryLine_151 (by decide) ?_
      refine lv_iconst (v := 4) hx hb dX3_tryLine_153 (by decide) ?_
      obtain ⟨c17, h⟩ := mif_n h
      obtain ⟨r20, u18, c19, h⟩ := ucall_n h
      have zu18 := zz_X3_signed N (ub G) (ug G) u12 a0 (-4) 4 r20 u18 c19
      refine u_calli (va_runV (As := [.int (-4), .int 4]) (rest := [.int y16, va_rf o15]) hC.1 (met_X3_signed l N G u12 a0 (-4) 4 r20 u18 c19) (cwV 2 hts (lw_V q2228 q2230 qs57 q103 q2231) rfl rfl rfl (by decide +kernel) ⟨Nat.le_trans (Nat.le_of_ble_eq_true rfl) hR.1, Nat.le_trans (Nat.le_of_ble_eq_true rfl) hR.2⟩) ⟨uPc_blind, u_rcv hC hP c17 rfl, fun U hU hW => u_pre hC hP hS hU hW⟩ rfl rfl hl.1 rfl (lv_room (by simp only [List.map, u_cat]; exact Nat.le_of_ble_eq_true rfl)) dX3_tryLine_154 ⟨Nat.zero_le _, Nat.zero_le _⟩) hS (fun H locs hP hS => ?_)
      obtain ⟨a21, ha21, hha21⟩ := mbind_n h
      subst ha21
      have h := hha21
      obtain ⟨u22, hu22, h⟩ := mbind_n h
      have zu22 := uStI_sz hu22
      refine u_iast hC hP hS hu22 rfl dX3_tryLine_157 (fun H locs hP hS => ?_)
      refine u_aload_n (r := some a0) hx hb dX3_tryLine_158 rfl (lv_at hl 0 rfl) ?_
      refine u_ldcSw hC 50 rfl dX3_tryLine_159 ?_
      obtain ⟨c23, h⟩ := mif_n h
      obtain ⟨r26, u24, c25, h⟩ := ucall_n h
      have zu24 := zz_X3_must N (ub G) (ug G) u22 a0 (some ((ug G).2.1 50)) r26 u24 c25
      refine u_calli (va_runV (As := [va_rf (some ((ug G).2.1 50))]) (rest := []) hC.1 (met_X3_must l N G u22 a0 (some ((ug G).2.1 50)) r26 u24 c25) (cwV 1 hts (lw_V q2205 q2207 qs53 q103 q2208) rfl rfl rfl (by decide +kernel) ⟨Nat.le_trans (Nat.le_of_ble_eq_true rfl) hR.1, Nat.le_trans (Nat.le_of_ble_eq_true rfl) hR.2⟩) ⟨uPc_blind, u_rcv hC hP c23 rfl, fun U hU hW => u_pre hC hP hS hU hW⟩ rfl rfl hl.1 rfl (lv_room (Nat.le_of_ble_eq_true rfl)) dX3_tryLine_162 ⟨Nat.zero_le _, Nat.zero_le _⟩) hS (fun H locs hP hS => ?_)
      refine lv_pop hx hb dX3_tryLine_165 rfl ?_
      refine u_aload_n (r := some a0) hx hb dX3_tryLine_166 rfl (lv_at hl 0 rfl) ?_
      obtain ⟨o27, ho27, h⟩ := mbind_n h
      refine u_get hC hP (uGR_n ho27) rfl in_X3 (by decide) q1924 (fun _ h => h) dX3_tryLine_167 ?_
      refine u_aload_n (r := some a0) hx hb dX3_tryLine_170 rfl (lv_at hl 0 rfl) ?_
      obtain ⟨y28, hy28, h⟩ := mbind_n h
      refine u_get hC hP (uGI_n hy28) rfl in_X3 (by decide) q1916 (fun _ h => h) dX3_tryLine_171 ?_
      refine u_aload_n (r := some a0) hx hb dX3_tryLine_174 rfl (lv_at hl 0 rfl) ?_
      refine lv_bipush (v := (-4)) hx hb dX3_tryLine_175 (by decide) ?_
      refine lv_iconst (v := 4) hx hb dX3_tryLine_177 (by decide) ?_
      obtain ⟨c29, h⟩ := mif_n h
      obtain ⟨r32, u30, c31, h⟩ := ucall_n h
      have zu30 := zz_X3_signed N (ub G) (ug G) u24 a0 (-4) 4 r32 u30 c31
      refine u_calli (va_runV (As := [.int (-4), .int 4]) (rest := [.int y28, va_rf o27]) hC.1 (met_X3_signed l N G u24 a0 (-4) 4 r32 u30 c31) (cwV 2 hts (lw_V q2228 q2230 qs57 q103 q2231) rfl rfl rfl (by decide +kernel) ⟨Nat.le_trans (Nat.le_of_ble_eq_true rfl) hR.1, Nat.le_trans (Nat.le_of_ble_eq_true rfl) hR.2⟩) ⟨uPc_blind, u_rcv hC hP c29 rfl, fun U hU hW => u_pre hC hP hS hU hW⟩ rfl rfl hl.1 rfl (lv_room (by simp only [List.map, u_cat]; exact Nat.le_of_ble_eq_true rfl)) dX3_tryLine_178 ⟨Nat.zero_le _, Nat.zero_le _⟩) hS (fun H locs hP hS => ?_)
      obtain ⟨a33, ha33, hha33⟩ := mbind_n h
      subst ha33
      have h := hha33
      obtain ⟨u34, hu34, h⟩ := mbind_n h
      have zu34 := uStI_sz hu34
      refine u_iast hC hP hS hu34 rfl dX3_tryLine_181 (fun H locs hP hS => ?_)
      refine u_aload_n (r := some a0) hx hb dX3_tryLine_182 rfl (lv_at hl 0 rfl) ?_
      refine u_ldcSw hC 51 rfl dX3_tryLine_183 ?_
      obtain ⟨c35, h⟩ := mif_n h
      obtain ⟨r38, u36, c37, h⟩ := ucall_n h
      have zu36 := zz_X3_must N (ub G) (ug G) u34 a0 (some ((ug G).2.1 51)) r38 u36 c37
      refine u_calli (va_runV (As := [va_rf (some ((ug G).2.1 51))]) (rest := []) hC.1 (met_X3_must l N G u34 a0 (some ((ug G).2.1 51)) r38 u36 c37) (cwV 1 hts (lw_V q2205 q2207 qs53 q103 q2208) rfl rfl rfl (by decide +kernel) ⟨Nat.le_trans (Nat.le_of_ble_eq_true rfl) hR.1, Nat.le_trans (Nat.le_of_ble_eq_true rfl) hR.2⟩) ⟨uPc_blind, u_rcv hC hP c35 rfl, fun U hU hW => u_pre hC hP hS hU hW⟩ rfl rfl hl.1 rfl (lv_room (Nat.le_of_ble_eq_true rfl)) dX3_tryLine_186 ⟨Nat.zero_le _, Nat.zero_le _⟩) hS (fun H locs hP hS => ?_)
      refine lv_pop hx hb dX3_tryLine_189 rfl ?_
      refine u_aload_n (r := some a0) hx hb dX3_tryLine_190 rfl (lv_at hl 0 rfl) ?_
      obtain ⟨o39, ho39, h⟩ := mbind_n h
      refine u_get hC hP (uGR_n ho39) rfl in_X3 (by decide) q1925 (fun _ h => h) dX3_tryLine_191 ?_
      refine u_aload_n (r := some a0) hx hb dX3_tryLine_194 rfl (lv_at hl 0 rfl) ?_
      obtain ⟨y40, hy40, h⟩ := mbind_n h
      refine u_get hC hP (uGI_n hy40) rfl in_X3 (by decide) q1916 (fun _ h => h) dX3_tryLine_195 ?_
      refine u_aload_n (r := some a0) hx hb dX3_tryLine_198 rfl (lv_at hl 0 rfl) ?_
      refine lv_iconst (v := 1) hx hb dX3_tryLine_199 (by decide) ?_
      refine lv_bipush (v := 99) hx hb dX3_tryLine_200 (by decide) ?_
      obtain ⟨c41, h⟩ := mif_n h
      obtain ⟨r44, u42, c43, h⟩ := ucall_n h
      have zu42 := zz_X3_number N (ub G) (ug G) u36 a0 1 99 r44 u42 c43
      refine u_calli (va_runV (As := [.int 1, .int 99]) (rest := [.int y40, va_rf o39]) hC.1 (met_X3_number l N G u36 a0 1 99 r44 u42 c43) (cwV 2 hts (lw_V q2213 q2215 qs55 q103 q2216) rfl rfl rfl (by decide +kernel) ⟨Nat.le_trans (Nat.le_of_ble_eq_true rfl) hR.1, Nat.le_trans (Nat.le_of_ble_eq_true rfl) hR.2⟩) ⟨uPc_blind, u_rcv hC hP c41 rfl, fun U hU hW => u_pre hC hP hS hU hW⟩ rfl rfl hl.1 rfl (lv_room (by simp only [List.map, u_cat]; exact Nat.le_of_ble_eq_true rfl)) dX3_tryLine_202 ⟨Nat.zero_le _, Nat.zero_le _⟩) hS (fun H locs hP hS => ?_)
      obtain ⟨a45, ha45, hha45⟩ := mbind_n h
      subst ha45
      have h := hha45
      obtain ⟨u46, hu46, h⟩ := mbind_n h
      have zu46 := uStI_sz hu46
      refine u_iast hC hP hS hu46 rfl dX3_tryLine_205 (fun H locs hP hS => ?_)
      refine u_aload_n (r := some a0) hx hb dX3_tryLine_206 rfl (lv_at hl 0 rfl) ?_
      obtain ⟨y47, hy47, h⟩ := mbind_n h
      refine u_get hC hP (uGI_n hy47) rfl in_X3 (by decide) q1906 (fun _ h => h) dX3_tryLine_207 ?_
      refine lv_if_ne (tgt := 223) hx hb dX3_tryLine_210 (by decide) (fun c48 => ?_) (fun c48 => ?_)
      · have h := mif_f c48 h
        exact w_X3_tryLine_223 hC hR N u46 h hP hS (lv_sub hl [] rfl)
      · have h := mif_t c48 h
        refine u_aload_n (r := some a0) hx hb dX3_tryLine_213 rfl (lv_at hl 0 rfl) ?_
        refine lv_dup hx hb dX3_tryLine_214 (u_cat _) ?_
        obtain ⟨y49, hy49, h⟩ := mbind_n h
        refine u_get hC hP (uGI_n hy49) rfl in_X3 (by decide) q1916 (fun _ h => h) dX3_tryLine_215 ?_
        refine lv_iconst (v := 1) hx hb dX3_tryLine_218 (by decide) ?_
        refine lv_iadd hx hb dX3_tryLine_219 ?_
        obtain ⟨u50, hu50, h⟩ := mbind_n h
        have zu50 := uPut_sz hu50
        refine u_put hC hP hS hu50 rfl in_X3 tyX3 tyX3_ok nmX3 (by decide) q1916 (fun _ h => h) rfl (ty := .int) (tyX3_ok 23 (by decide)) rfl rfl dX3_tryLine_220 (fun H locs hP hS => ?_)
        exact w_X3_tryLine_223 hC hR N u50 h hP hS (lv_sub hl [] rfl)
    · have h := mif_f c2 h
      refine u_aload_n (r := some a0) hx hb dX3_tryLine_91 rfl (lv_at hl 0 rfl) ?_
      obtain ⟨o51, ho51, h⟩ := mbind_n h
      refine u_get hC hP (uGR_n ho51) rfl in_X3 (by decide) q1909 (fun _ h => h) dX3_tryLine_92 ?_
      refine lv_bipush (v := 8) hx hb dX3_tryLine_95 (by decide) ?_
      refine u_aload_n (r := some a0) hx hb dX3_tryLine_97 rfl (lv_at hl 0 rfl) ?_
      obtain ⟨y52, hy52, h⟩ := mbind_n h
      refine u_get hC hP (uGI_n hy52) rfl in_X3 (by decide) q1916 (fun _ h => h) dX3_tryLine_98 ?_
      refine lv_imul hx hb dX3_tryLine_101 ?_
      refine lv_iload_n hx hb dX3_tryLine_102 rfl (lv_at hl 1 rfl) ?_
      refine lv_iadd hx hb dX3_tryLine_103 ?_
      refine u_aload_n (r := some a0) hx hb dX3_tryLine_104 rfl (lv_at hl 0 rfl) ?_
      obtain ⟨o53, ho53, h⟩ := mbind_n h
      refine u_get hC hP (uGR_n ho53) rfl in_X3 (by decide) q1904 (fun _ h => h) dX3_tryLine_105 ?_
      refine lv_iload_n hx hb dX3_tryLine_108 rfl (lv_at hl 1 rfl) ?_
      obtain ⟨a54, ha54, hha54⟩ := mbind_n h
      subst ha54
      have h := hha54
      obtain ⟨y55, hy55, h⟩ := mbind_n h
      refine u_iald hC hP hy55 rfl dX3_tryLine_109 ?_
      obtain ⟨a56, ha56, hha56⟩ := mbind_n h
      subst ha56
      have h := hha56
      obtain ⟨u57, hu57, h⟩ := mbind_n h
      have zu57 := uStI_sz hu57
      refine u_iast hC hP hS hu57 rfl dX3_tryLine_110 (fun H locs hP hS => ?_)
      obtain ⟨y58, ey58⟩ : ∃ z : Int32, z = x1 + 1 := ⟨_, rfl⟩
      have h := mlet_at ey58 h
      refine lv_iinc (v := y58) (lv' := [(1, .int y58), (0, va_rf (some a0))]) hx hb dX3_tryLine_111 hl (k := 1) rfl (by rw [ey58]; rfl) (by decide) rfl (fun ls hl => ?_)
      refine lv_goto (tgt := 83) hx hb dX3_tryLine_114 (by decide) ?_
      exact ih u57 y58 h _ _ hP hS _ (lv_sub hl [1, 0] rfl)
def f_X3_tryLine_73 (N b : Nat) (g : uEnv) (a0 : Nat) (u : UH) : Option (UH) :=
    (uGI u a0 2 13).bind fun y1 =>
    if y1 = 0 then
    f_X3_tryLine_83 N b g a0 N u 0
    else
    some u
set_option maxHeartbeats 4000000 in
set_option maxRecDepth 100000 in
theorem zz_X3_tryLine_73 {G : uG} {a0 : Nat} {uf : UH} (N : Nat) (u : UH) (h : f_X3_tryLine_73 N (ub G) (ug G) a0 u = some uf) : uf.1 = u.1 ∧ uf.2.1 = u.2.1 := by
  unfold f_X3_tryLine_73 at h
  obtain ⟨y1, hy1, h⟩ := mbind_n h
  by_cases c2 : y1 = 0
  · have h := mif_t c2 h
    have hq := zz_X3_tryLine_83 (G := G) (a0 := a0) N N u 0 h
    exact ⟨by omega, by omega⟩
  · have h := mif_f c2 h
    cases h
    exact ⟨by omega, by omega⟩
set_option maxHeartbeats 4000000 in
set_option maxRecDepth 100000 in
theorem w_X3_tryLine_73 {p : Program} {l : Launch} {e : Env} {R : Room} {s : State} {m : MethodId} {args : Array Value} {below : List Frame} {meth : Method} {c : Code} {G : uG} {a0 : Nat} {uf : UH} (hC : uC p s m args meth c G RX3 cX3_tryLine 2 none) (hR : 6 ≤ R.frames ∧ 129 ≤ R.locals) (N : Nat) (u : UH) (h : f_X3_tryLine_73 N (ub G) (ug G) a0 u = some uf) {H : Heap} {locs : List Loc} (hP : uP G u H) (hS : va_S (uA G) s.heap H locs) {ls : Array Slot} (hl : lv_has ls 2 [(0, va_rf (some a0))]) : W p l e R s m args below meth c H locs 0 0 (MQ below (uQv G uf) args s 0 0 (uA G)) (F0 m 73 ls []) := by
  obtain ⟨⟨hx, hb, hml, hown, hts⟩, hKK⟩ := id hC
  unfold f_X3_tryLine_73 at h
  refine u_aload_n (r := some a0) hx hb dX3_tryLine_73 rfl (lv_at hl 0 rfl) ?_
  obtain ⟨y1, hy1, h⟩ := mbind_n h
  refine u_get hC hP (uGI_n hy1) rfl in_X3 (by decide) q1906 (fun _ h => h) dX3_tryLine_74 ?_
  refine lv_if_eq (tgt := 81) hx hb dX3_tryLine_77 (by decide) (fun c2 => ?_) (fun c2 => ?_)
  · have h := mif_t c2 h
    refine lv_iconst (v := 0) hx hb dX3_tryLine_81 (by decide) ?_
    refine lv_istore_n (i := 1) (lv' := [(1, .int 0), (0, va_rf (some a0))]) hx hb dX3_tryLine_82 rfl hl (by decide) rfl (fun ls hl => ?_)
    exact w_X3_tryLine_83 hC hR N N u 0 h _ _ hP hS _ (lv_sub hl [1, 0] rfl)
  · have h := mif_f c2 h
    cases h
    exact u_vret hC hP hS dX3_tryLine_80
def f_X3_tryLine_47 (N b : Nat) (g : uEnv) (a0 : Nat) (u : UH) : Option (UH) :=
    (uGI u a0 2 13).bind fun y1 =>
    if y1 = 0 then
    (uGI u a0 2 23).bind fun y3 =>
    if y3 = 6 then
    (uGI u a0 2 4).bind fun y5 =>
    if uIs u a0 2 = true then
    ucall (f_X3_wrong N b g u a0 5 y5) fun r9 u7 =>
    f_X3_tryLine_73 N b g a0 u7
    else none
    else
    f_X3_tryLine_73 N b g a0 u
    else
    f_X3_tryLine_73 N b g a0 u
set_option maxHeartbeats 4000000 in
set_option maxRecDepth 100000 in
theorem zz_X3_tryLine_47 {G : uG} {a0 : Nat} {uf : UH} (N : Nat) (u : UH) (h : f_X3_tryLine_47 N (ub G) (ug G) a0 u = some uf) : uf.1 = u.1 ∧ uf.2.1 = u.2.1 := by
  unfold f_X3_tryLine_47 at h
  obtain ⟨y1, hy1, h⟩ := mbind_n h
  by_cases c2 : y1 = 0
  · have h := mif_t c2 h
    obtain ⟨y3, hy3, h⟩ := mbind_n h
    by_cases c4 : y3 = 6
    · have h := mif_t c4 h
      obtain ⟨y5, hy5, h⟩ := mbind_n h
      obtain ⟨c6, h⟩ := mif_n h
      obtain ⟨r9, u7, c8, h⟩ := ucall_n h
      have zu7 := zz_X3_wrong N (ub G) (ug G) u a0 5 y5 r9 u7 c8
      have hq := zz_X3_tryLine_73 (G := G) (a0 := a0) N u7 h
      exact ⟨by omega, by omega⟩
    · have h := mif_f c4 h
      have hq := zz_X3_tryLine_73 (G := G) (a0 := a0) N u h
      exact ⟨by omega, by omega⟩
  · have h := mif_f c2 h
    have hq := zz_X3_tryLine_73 (G := G) (a0 := a0) N u h
    exact ⟨by omega, by omega⟩
set_option maxHeartbeats 4000000 in
set_option maxRecDepth 100000 in
theorem w_X3_tryLine_47 {p : Program} {l : Launch} {e : Env} {R : Room} {s : State} {m : MethodId} {args : Array Value} {below : List Frame} {meth : Method} {c : Code} {G : uG} {a0 : Nat} {uf : UH} (hC : uC p s m args meth c G RX3 cX3_tryLine 2 none) (hR : 6 ≤ R.frames ∧ 129 ≤ R.locals) (N : Nat) (u : UH) (h : f_X3_tryLine_47 N (ub G) (ug G) a0 u = some uf) {H : Heap} {locs : List Loc} (hP : uP G u H) (hS : va_S (uA G) s.heap H locs) {ls : Array Slot} (hl : lv_has ls 2 [(0, va_rf (some a0))]) : W p l e R s m args below meth c H locs 0 0 (MQ below (uQv G uf) args s 0 0 (uA G)) (F0 m 47 ls []) := by
  obtain ⟨⟨hx, hb, hml, hown, hts⟩, hKK⟩ := id hC
  unfold f_X3_tryLine_47 at h
  refine u_aload_n (r := some a0) hx hb dX3_tryLine_47 rfl (lv_at hl 0 rfl) ?_
  obtain ⟨y1, hy1, h⟩ := mbind_n h
  refine u_get hC hP (uGI_n hy1) rfl in_X3 (by decide) q1906 (fun _ h => h) dX3_tryLine_48 ?_
  refine lv_if_ne (tgt := 73) hx hb dX3_tryLine_51 (by decide) (fun c2 => ?_) (fun c2 => ?_)
  · have h := mif_f c2 h
    exact w_X3_tryLine_73 hC hR N u h hP hS (lv_sub hl [0] rfl)
  · have h := mif_t c2 h
    refine u_aload_n (r := some a0) hx hb dX3_tryLine_54 rfl (lv_at hl 0 rfl) ?_
    obtain ⟨y3, hy3, h⟩ := mbind_n h
    refine u_get hC hP (uGI_n hy3) rfl in_X3 (by decide) q1916 (fun _ h => h) dX3_tryLine_55 ?_
    refine lv_bipush (v := 6) hx hb dX3_tryLine_58 (by decide) ?_
    refine lv_icmp_ne (tgt := 73) hx hb dX3_tryLine_60 (by decide) (fun c4 => ?_) (fun c4 => ?_)
    · have h := mif_f c4 h
      exact w_X3_tryLine_73 hC hR N u h hP hS (lv_sub hl [0] rfl)
    · have h := mif_t c4 h
      refine u_aload_n (r := some a0) hx hb dX3_tryLine_63 rfl (lv_at hl 0 rfl) ?_
      refine lv_iconst (v := 5) hx hb dX3_tryLine_64 (by decide) ?_
      refine u_aload_n (r := some a0) hx hb dX3_tryLine_65 rfl (lv_at hl 0 rfl) ?_
      obtain ⟨y5, hy5, h⟩ := mbind_n h
      refine u_get hC hP (uGI_n hy5) rfl in_X3 (by decide) q1897 (fun _ h => h) dX3_tryLine_66 ?_
      obtain ⟨c6, h⟩ := mif_n h
      obtain ⟨r9, u7, c8, h⟩ := ucall_n h
      have zu7 := zz_X3_wrong N (ub G) (ug G) u a0 5 y5 r9 u7 c8
      refine u_calli (va_runV (As := [.int 5, .int y5]) (rest := []) hC.1 (met_X3_wrong l N G u a0 5 y5 r9 u7 c8) (cwV 2 hts (lw_V q2196 q2198 qs51 q103 q2199) rfl rfl rfl (by decide +kernel) ⟨Nat.le_trans (Nat.le_of_ble_eq_true rfl) hR.1, Nat.le_trans (Nat.le_of_ble_eq_true rfl) hR.2⟩) ⟨uPc_blind, u_rcv hC hP c6 rfl, fun U hU hW => u_pre hC hP hS hU hW⟩ rfl rfl hl.1 rfl (lv_room (Nat.le_of_ble_eq_true rfl)) dX3_tryLine_69 ⟨Nat.zero_le _, Nat.zero_le _⟩) hS (fun H locs hP hS => ?_)
      refine lv_pop hx hb dX3_tryLine_72 rfl ?_
      exact w_X3_tryLine_73 hC hR N u7 h hP hS (lv_sub hl [0] rfl)
def f_X3_tryLine (N b : Nat) (g : uEnv) (u : UH) (a0 : Nat) : Option (UH) :=
    if uIs u a0 2 = true then
    ucall (f_X3_isName N b g u a0) fun r4 u2 =>
    if r4 = 0 then
    (uGI u2 a0 2 4).bind fun y19 =>
    if uIs u2 a0 2 = true then
    ucall (f_X3_wrong N b g u2 a0 1 y19) fun r23 u21 =>
    some u21
    else none
    else
    (uGR u2 a0 2 16).bind fun o6 =>
    (uGR u2 a0 2 17).bind fun o7 =>
    (uGI u2 a0 2 23).bind fun y8 =>
    if uIs u2 a0 2 = true then
    ucall (f_X3_find N b g u2 a0 o6 o7 y8) fun r12 u10 =>
    if r12 < 0 then
    f_X3_tryLine_47 N b g a0 u10
    else
    (uGI u10 a0 2 4).bind fun y14 =>
    if uIs u10 a0 2 = true then
    ucall (f_X3_wrong N b g u10 a0 3 y14) fun r18 u16 =>
    f_X3_tryLine_47 N b g a0 u16
    else none
    else none
    else none
set_option maxHeartbeats 4000000 in
set_option maxRecDepth 100000 in
theorem zz_X3_tryLine_0 {G : uG} {a0 : Nat} {uf : UH} (N : Nat) (u : UH) (h : f_X3_tryLine N (ub G) (ug G) u a0 = some uf) : uf.1 = u.1 ∧ uf.2.1 = u.2.1 := by
  unfold f_X3_tryLine at h
  obtain ⟨c1, h⟩ := mif_n h
  obtain ⟨r4, u2, c3, h⟩ := ucall_n h
  have zu2 := zz_X3_isName N (ub G) (ug G) u a0 r4 u2 c3
  by_cases c5 : r4 = 0
  · have h := mif_t c5 h
    obtain ⟨y19, hy19, h⟩ := mbind_n h
    obtain ⟨c20, h⟩ := mif_n h
    obtain ⟨r23, u21, c22, h⟩ := ucall_n h
    have zu21 := zz_X3_wrong N (ub G) (ug G) u2 a0 1 y19 r23 u21 c22
    cases h
    exact ⟨by omega, by omega⟩
  · have h := mif_f c5 h
    obtain ⟨o6, ho6, h⟩ := mbind_n h
    obtain ⟨o7, ho7, h⟩ := mbind_n h
    obtain ⟨y8, hy8, h⟩ := mbind_n h
    obtain ⟨c9, h⟩ := mif_n h
    obtain ⟨r12, u10, c11, h⟩ := ucall_n h
    have zu10 := zz_X3_find N (ub G) (ug G) u2 a0 o6 o7 y8 r12 u10 c11
    by_cases c13 : r12 < 0
    · have h := mif_t c13 h
      have hq := zz_X3_tryLine_47 (G := G) (a0 := a0) N u10 h
      exact ⟨by omega, by omega⟩
    · have h := mif_f c13 h
      obtain ⟨y14, hy14, h⟩ := mbind_n h
      obtain ⟨c15, h⟩ := mif_n h
      obtain ⟨r18, u16, c17, h⟩ := ucall_n h
      have zu16 := zz_X3_wrong N (ub G) (ug G) u10 a0 3 y14 r18 u16 c17
      have hq := zz_X3_tryLine_47 (G := G) (a0 := a0) N u16 h
      exact ⟨by omega, by omega⟩
set_option maxHeartbeats 4000000 in
set_option maxRecDepth 100000 in
theorem w_X3_tryLine_0 {p : Program} {l : Launch} {e : Env} {R : Room} {s : State} {m : MethodId} {args : Array Value} {below : List Frame} {meth : Method} {c : Code} {G : uG} {a0 : Nat} {uf : UH} (hC : uC p s m args meth c G RX3 cX3_tryLine 2 none) (hR : 6 ≤ R.frames ∧ 129 ≤ R.locals) (N : Nat) (u : UH) (h : f_X3_tryLine N (ub G) (ug G) u a0 = some uf) {H : Heap} {locs : List Loc} (hP : uP G u H) (hS : va_S (uA G) s.heap H locs) {ls : Array Slot} (hl : lv_has ls 2 [(0, va_rf (some a0))]) : W p l e R s m args below meth c H locs 0 0 (MQ below (uQv G uf) args s 0 0 (uA G)) (F0 m 0 ls []) := by
  obtain ⟨⟨hx, hb, hml, hown, hts⟩, hKK⟩ := id hC
  unfold f_X3_tryLine at h
  refine u_aload_n (r := some a0) hx hb dX3_tryLine_0 rfl (lv_at hl 0 rfl) ?_
  obtain ⟨c1, h⟩ := mif_n h
  obtain ⟨r4, u2, c3, h⟩ := ucall_n h
  have zu2 := zz_X3_isName N (ub G) (ug G) u a0 r4 u2 c3
  refine u_calli (va_runV (As := []) (rest := []) hC.1 (met_X3_isName l N G u a0 r4 u2 c3) (cwV 0 hts (lw_V q2183 q2185 qs50 q103 q2186) rfl rfl rfl (by decide +kernel) ⟨Nat.le_trans (Nat.le_of_ble_eq_true rfl) hR.1, Nat.le_trans (Nat.le_of_ble_eq_true rfl) hR.2⟩) ⟨uPc_blind, u_rcv hC hP c1 rfl, fun U hU hW => u_pre hC hP hS hU hW⟩ rfl rfl hl.1 rfl (lv_room (Nat.le_of_ble_eq_true rfl)) dX3_tryLine_1 ⟨Nat.zero_le _, Nat.zero_le _⟩) hS (fun H locs hP hS => ?_)
  refine lv_if_ne (tgt := 18) hx hb dX3_tryLine_4 (by decide) (fun c5 => ?_) (fun c5 => ?_)
  · have h := mif_f c5 h
    refine u_aload_n (r := some a0) hx hb dX3_tryLine_18 rfl (lv_at hl 0 rfl) ?_
    refine u_aload_n (r := some a0) hx hb dX3_tryLine_19 rfl (lv_at hl 0 rfl) ?_
    obtain ⟨o6, ho6, h⟩ := mbind_n h
    refine u_get hC hP (uGR_n ho6) rfl in_X3 (by decide) q1909 (fun _ h => h) dX3_tryLine_20 ?_
    refine u_aload_n (r := some a0) hx hb dX3_tryLine_23 rfl (lv_at hl 0 rfl) ?_
    obtain ⟨o7, ho7, h⟩ := mbind_n h
    refine u_get hC hP (uGR_n ho7) rfl in_X3 (by decide) q1910 (fun _ h => h) dX3_tryLine_24 ?_
    refine u_aload_n (r := some a0) hx hb dX3_tryLine_27 rfl (lv_at hl 0 rfl) ?_
    obtain ⟨y8, hy8, h⟩ := mbind_n h
    refine u_get hC hP (uGI_n hy8) rfl in_X3 (by decide) q1916 (fun _ h => h) dX3_tryLine_28 ?_
    obtain ⟨c9, h⟩ := mif_n h
    obtain ⟨r12, u10, c11, h⟩ := ucall_n h
    have zu10 := zz_X3_find N (ub G) (ug G) u2 a0 o6 o7 y8 r12 u10 c11
    refine u_calli (va_runV (As := [va_rf o6, va_rf o7, .int y8]) (rest := []) hC.1 (met_X3_find l N G u2 a0 o6 o7 y8 r12 u10 c11) (cwV 3 hts (lw_V q2200 q2202 qs52 q103 q2203) rfl rfl rfl (by decide +kernel) ⟨Nat.le_trans (Nat.le_of_ble_eq_true rfl) hR.1, Nat.le_trans (Nat.le_of_ble_eq_true rfl) hR.2⟩) ⟨uPc_blind, u_rcv hC hP c9 rfl, fun U hU hW => u_pre hC hP hS hU hW⟩ rfl rfl hl.1 rfl (lv_room (Nat.le_of_ble_eq_true rfl)) dX3_tryLine_31 ⟨Nat.zero_le _, Nat.zero_le _⟩) hS (fun H locs hP hS => ?_)
    refine lv_if_lt (tgt := 47) hx hb dX3_tryLine_34 (by decide) (fun c13 => ?_) (fun c13 => ?_)
    · have h := mif_t c13 h
      exact w_X3_tryLine_47 hC hR N u10 h hP hS (lv_sub hl [0] rfl)
    · have h := mif_f c13 h
      refine u_aload_n (r := some a0) hx hb dX3_tryLine_37 rfl (lv_at hl 0 rfl) ?_
      refine lv_iconst (v := 3) hx hb dX3_tryLine_38 (by decide) ?_
      refine u_aload_n (r := some a0) hx hb dX3_tryLine_39 rfl (lv_at hl 0 rfl) ?_
      obtain ⟨y14, hy14, h⟩ := mbind_n h
      refine u_get hC hP (uGI_n hy14) rfl in_X3 (by decide) q1897 (fun _ h => h) dX3_tryLine_40 ?_
      obtain ⟨c15, h⟩ := mif_n h
      obtain ⟨r18, u16, c17, h⟩ := ucall_n h
      have zu16 := zz_X3_wrong N (ub G) (ug G) u10 a0 3 y14 r18 u16 c17
      refine u_calli (va_runV (As := [.int 3, .int y14]) (rest := []) hC.1 (met_X3_wrong l N G u10 a0 3 y14 r18 u16 c17) (cwV 2 hts (lw_V q2196 q2198 qs51 q103 q2199) rfl rfl rfl (by decide +kernel) ⟨Nat.le_trans (Nat.le_of_ble_eq_true rfl) hR.1, Nat.le_trans (Nat.le_of_ble_eq_true rfl) hR.2⟩) ⟨uPc_blind, u_rcv hC hP c15 rfl, fun U hU hW => u_pre hC hP hS hU hW⟩ rfl rfl hl.1 rfl (lv_room (Nat.le_of_ble_eq_true rfl)) dX3_tryLine_43 ⟨Nat.zero_le _, Nat.zero_le _⟩) hS (fun H locs hP hS => ?_)
      refine lv_pop hx hb dX3_tryLine_46 rfl ?_
      exact w_X3_tryLine_47 hC hR N u16 h hP hS (lv_sub hl [0] rfl)
  · have h := mif_t c5 h
    refine u_aload_n (r := some a0) hx hb dX3_tryLine_7 rfl (lv_at hl 0 rfl) ?_
    refine lv_iconst (v := 1) hx hb dX3_tryLine_8 (by decide) ?_
    refine u_aload_n (r := some a0) hx hb dX3_tryLine_9 rfl (lv_at hl 0 rfl) ?_
    obtain ⟨y19, hy19, h⟩ := mbind_n h
    refine u_get hC hP (uGI_n hy19) rfl in_X3 (by decide) q1897 (fun _ h => h) dX3_tryLine_10 ?_
    obtain ⟨c20, h⟩ := mif_n h
    obtain ⟨r23, u21, c22, h⟩ := ucall_n h
    have zu21 := zz_X3_wrong N (ub G) (ug G) u2 a0 1 y19 r23 u21 c22
    refine u_calli (va_runV (As := [.int 1, .int y19]) (rest := []) hC.1 (met_X3_wrong l N G u2 a0 1 y19 r23 u21 c22) (cwV 2 hts (lw_V q2196 q2198 qs51 q103 q2199) rfl rfl rfl (by decide +kernel) ⟨Nat.le_trans (Nat.le_of_ble_eq_true rfl) hR.1, Nat.le_trans (Nat.le_of_ble_eq_true rfl) hR.2⟩) ⟨uPc_blind, u_rcv hC hP c20 rfl, fun U hU hW => u_pre hC hP hS hU hW⟩ rfl rfl hl.1 rfl (lv_room (Nat.le_of_ble_eq_true rfl)) dX3_tryLine_13 ⟨Nat.zero_le _, Nat.zero_le _⟩) hS (fun H locs hP hS => ?_)
    refine lv_pop hx hb dX3_tryLine_16 rfl ?_
    cases h
    exact u_vret hC hP hS dX3_tryLine_17
theorem zz_X3_tryLine (N b : Nat) (g : uEnv) (u : UH) (a0 : Nat) (uf : UH) (h : f_X3_tryLine N b g u a0 = some uf) : uf.1 = u.1 ∧ uf.2.1 = u.2.1 :=
  zz_X3_tryLine_0 (G := ((fun _ => 0, fun _ _ => 0), fun _ => 0, b, g)) (a0 := a0) N u h
theorem met_X3_tryLine (l : Launch) (N : Nat) (G : uG) (u : UH) (a0 : Nat) (uf : UH) (h : f_X3_tryLine N (ub G) (ug G) u a0 = some uf) : Met l yX3_tryLine (ws_ yX3_tryLine cX3_tryLine 2 none) ({ frames := 6, cells := 0, slots := 0, locals := 129 }) (uPc G u [.ref a0]) (uQv G uf) 0 0 (uA G) := by
  exact u_met (own := RX3) (by decide +kernel) rfl (Nat.le_of_ble_eq_true rfl) (fun hC hn hsz ls hl hP => w_X3_tryLine_0 hC ⟨Nat.le_refl _, Nat.le_refl _⟩ N u h hP va_S.rf hl)
def f_X3_line_187 (N b : Nat) (g : uEnv) (a0 : Nat) (u : UH) : Option (UH) :=
    some u
set_option maxHeartbeats 4000000 in
set_option maxRecDepth 100000 in
theorem zz_X3_line_187 {G : uG} {a0 : Nat} {uf : UH} (N : Nat) (u : UH) (h : f_X3_line_187 N (ub G) (ug G) a0 u = some uf) : uf.1 = u.1 ∧ uf.2.1 = u.2.1 := by
  unfold f_X3_line_187 at h
  cases h
  exact ⟨by omega, by omega⟩
set_option maxHeartbeats 4000000 in
set_option maxRecDepth 100000 in
theorem w_X3_line_187 {p : Program} {l : Launch} {e : Env} {R : Room} {s : State} {m : MethodId} {args : Array Value} {below : List Frame} {meth : Method} {c : Code} {G : uG} {a0 : Nat} {uf : UH} (hC : uC p s m args meth c G RX3 cX3_line 1 none) (hR : 7 ≤ R.frames ∧ 150 ≤ R.locals) (N : Nat) (u : UH) (h : f_X3_line_187 N (ub G) (ug G) a0 u = some uf) {H : Heap} {locs : List Loc} (hP : uP G u H) (hS : va_S (uA G) s.heap H locs) {ls : Array Slot} (hl : lv_has ls 1 []) : W p l e R s m args below meth c H locs 0 0 (MQ below (uQv G uf) args s 0 0 (uA G)) (F0 m 187 ls []) := by
  obtain ⟨⟨hx, hb, hml, hown, hts⟩, hKK⟩ := id hC
  unfold f_X3_line_187 at h
  cases h
  exact u_vret hC hP hS dX3_line_187
def f_X3_line (N b : Nat) (g : uEnv) (u : UH) (a0 : Nat) : Option (UH) :=
    if uIs u a0 2 = true then
    ucall (f_X3_word N b g u a0 (some (g.2.1 32))) fun r4 u2 =>
    if r4 = 0 then
    if uIs u2 a0 2 = true then
    ucall (f_X3_word N b g u2 a0 (some (g.2.1 33))) fun r9 u7 =>
    if r9 = 0 then
    if uIs u7 a0 2 = true then
    ucall (f_X3_word N b g u7 a0 (some (g.2.1 34))) fun r14 u12 =>
    if r14 = 0 then
    (uGI u12 a0 2 4).bind fun y16 =>
    if uIs u12 a0 2 = true then
    ucall (f_X3_wrong N b g u12 a0 1 y16) fun r20 u18 =>
    f_X3_line_187 N b g a0 u18
    else none
    else
    if uIs u12 a0 2 = true then
    (f_X3_next N b g u12 a0).bind fun u22 =>
    if uIs u22 a0 2 = true then
    (f_X3_tryLine N b g u22 a0).bind fun u25 =>
    f_X3_line_187 N b g a0 u25
    else none
    else none
    else none
    else
    (uGI u7 a0 2 29).bind fun y27 =>
    if y27 = 0 then
    if uIs u7 a0 2 = true then
    (f_X3_next N b g u7 a0).bind fun u30 =>
    (uPut b u30 a0 2 29 (.int 1)).bind fun u32 =>
    if uIs u32 a0 2 = true then
    ucall (f_X3_must N b g u32 a0 (some (g.2.1 44))) fun r36 u34 =>
    if uIs u34 a0 2 = true then
    ucall (f_X3_number N b g u34 a0 2 6) fun r40 u38 =>
    (uPut b u38 a0 2 24 (.int r40)).bind fun u41 =>
    if uIs u41 a0 2 = true then
    ucall (f_X3_must N b g u41 a0 (some (g.2.1 45))) fun r45 u43 =>
    if uIs u43 a0 2 = true then
    ucall (f_X3_number N b g u43 a0 1 999) fun r49 u47 =>
    (uPut b u47 a0 2 25 (.int r49)).bind fun u50 =>
    if uIs u50 a0 2 = true then
    ucall (f_X3_must N b g u50 a0 (some (g.2.1 46))) fun r54 u52 =>
    if uIs u52 a0 2 = true then
    ucall (f_X3_number N b g u52 a0 1 300) fun r58 u56 =>
    (uPut b u56 a0 2 26 (.int r58)).bind fun u59 =>
    if uIs u59 a0 2 = true then
    ucall (f_X3_must N b g u59 a0 (some (g.2.1 47))) fun r63 u61 =>
    if uIs u61 a0 2 = true then
    ucall (f_X3_number N b g u61 a0 0 300) fun r67 u65 =>
    (uPut b u65 a0 2 27 (.int r67)).bind fun u68 =>
    if uIs u68 a0 2 = true then
    ucall (f_X3_must N b g u68 a0 (some (g.2.1 48))) fun r72 u70 =>
    if uIs u70 a0 2 = true then
    ucall (f_X3_number N b g u70 a0 0 99) fun r76 u74 =>
    (uPut b u74 a0 2 28 (.int r76)).bind fun u77 =>
    f_X3_line_187 N b g a0 u77
    else none
    else none
    else none
    else none
    else none
    else none
    else none
    else none
    else none
    else none
    else none
    else
    (uGI u7 a0 2 4).bind fun y78 =>
    if uIs u7 a0 2 = true then
    ucall (f_X3_wrong N b g u7 a0 3 y78) fun r82 u80 =>
    some u80
    else none
    else none
    else
    if uIs u2 a0 2 = true then
    (f_X3_next N b g u2 a0).bind fun u84 =>
    if uIs u84 a0 2 = true then
    (f_X3_groundLine N b g u84 a0).bind fun u87 =>
    f_X3_line_187 N b g a0 u87
    else none
    else none
    else none
set_option maxHeartbeats 4000000 in
set_option maxRecDepth 100000 in
theorem zz_X3_line_0 {G : uG} {a0 : Nat} {uf : UH} (N : Nat) (u : UH) (h : f_X3_line N (ub G) (ug G) u a0 = some uf) : uf.1 = u.1 ∧ uf.2.1 = u.2.1 := by
  unfold f_X3_line at h
  obtain ⟨c1, h⟩ := mif_n h
  obtain ⟨r4, u2, c3, h⟩ := ucall_n h
  have zu2 := zz_X3_word N (ub G) (ug G) u a0 (some ((ug G).2.1 32)) r4 u2 c3
  by_cases c5 : r4 = 0
  · have h := mif_t c5 h
    obtain ⟨c6, h⟩ := mif_n h
    obtain ⟨r9, u7, c8, h⟩ := ucall_n h
    have zu7 := zz_X3_word N (ub G) (ug G) u2 a0 (some ((ug G).2.1 33)) r9 u7 c8
    by_cases c10 : r9 = 0
    · have h := mif_t c10 h
      obtain ⟨c11, h⟩ := mif_n h
      obtain ⟨r14, u12, c13, h⟩ := ucall_n h
      have zu12 := zz_X3_word N (ub G) (ug G) u7 a0 (some ((ug G).2.1 34)) r14 u12 c13
      by_cases c15 : r14 = 0
      · have h := mif_t c15 h
        obtain ⟨y16, hy16, h⟩ := mbind_n h
        obtain ⟨c17, h⟩ := mif_n h
        obtain ⟨r20, u18, c19, h⟩ := ucall_n h
        have zu18 := zz_X3_wrong N (ub G) (ug G) u12 a0 1 y16 r20 u18 c19
        have hq := zz_X3_line_187 (G := G) (a0 := a0) N u18 h
        exact ⟨by omega, by omega⟩
      · have h := mif_f c15 h
        obtain ⟨c21, h⟩ := mif_n h
        obtain ⟨u22, c23, h⟩ := mbind_n h
        have zu22 := zz_X3_next N (ub G) (ug G) u12 a0 u22 c23
        obtain ⟨c24, h⟩ := mif_n h
        obtain ⟨u25, c26, h⟩ := mbind_n h
        have zu25 := zz_X3_tryLine N (ub G) (ug G) u22 a0 u25 c26
        have hq := zz_X3_line_187 (G := G) (a0 := a0) N u25 h
        exact ⟨by omega, by omega⟩
    · have h := mif_f c10 h
      obtain ⟨y27, hy27, h⟩ := mbind_n h
      by_cases c28 : y27 = 0
      · have h := mif_t c28 h
        obtain ⟨c29, h⟩ := mif_n h
        obtain ⟨u30, c31, h⟩ := mbind_n h
        have zu30 := zz_X3_next N (ub G) (ug G) u7 a0 u30 c31
        obtain ⟨u32, hu32, h⟩ := mbind_n h
        have zu32 := uPut_sz hu32
        obtain ⟨c33, h⟩ := mif_n h
        obtain ⟨r36, u34, c35, h⟩ := ucall_n h
        have zu34 := zz_X3_must N (ub G) (ug G) u32 a0 (some ((ug G).2.1 44)) r36 u34 c35
        obtain ⟨c37, h⟩ := mif_n h
        obtain ⟨r40, u38, c39, h⟩ := ucall_n h
        have zu38 := zz_X3_number N (ub G) (ug G) u34 a0 2 6 r40 u38 c39
        obtain ⟨u41, hu41, h⟩ := mbind_n h
        have zu41 := uPut_sz hu41
        obtain ⟨c42, h⟩ := mif_n h
        obtain ⟨r45, u43, c44, h⟩ := ucall_n h
        have zu43 := zz_X3_must N (ub G) (ug G) u41 a0 (some ((ug G).2.1 45)) r45 u43 c44
        obtain ⟨c46, h⟩ := mif_n h
        obtain ⟨r49, u47, c48, h⟩ := ucall_n h
        have zu47 := zz_X3_number N (ub G) (ug G) u43 a0 1 999 r49 u47 c48
        obtain ⟨u50, hu50, h⟩ := mbind_n h
        have zu50 := uPut_sz hu50
        obtain ⟨c51, h⟩ := mif_n h
        obtain ⟨r54, u52, c53, h⟩ := ucall_n h
        have zu52 := zz_X3_must N (ub G) (ug G) u50 a0 (some ((ug G).2.1 46)) r54 u52 c53
        obtain ⟨c55, h⟩ := mif_n h
        obtain ⟨r58, u56, c57, h⟩ := ucall_n h
        have zu56 := zz_X3_number N (ub G) (ug G) u52 a0 1 300 r58 u56 c57
        obtain ⟨u59, hu59, h⟩ := mbind_n h
        have zu59 := uPut_sz hu59
        obtain ⟨c60, h⟩ := mif_n h
        obtain ⟨r63, u61, c62, h⟩ := ucall_n h
        have zu61 := zz_X3_must N (ub G) (ug G) u59 a0 (some ((ug G).2.1 47)) r63 u61 c62
        obtain ⟨c64, h⟩ := mif_n h
        obtain ⟨r67, u65, c66, h⟩ := ucall_n h
        have zu65 := zz_X3_number N (ub G) (ug G) u61 a0 0 300 r67 u65 c66
        obtain ⟨u68, hu68, h⟩ := mbind_n h
        have zu68 := uPut_sz hu68
        obtain ⟨c69, h⟩ := mif_n h
        obtain ⟨r72, u70, c71, h⟩ := ucall_n h
        have zu70 := zz_X3_must N (ub G) (ug G) u68 a0 (some ((ug G).2.1 48)) r72 u70 c71
        obtain ⟨c73, h⟩ := mif_n h
        obtain ⟨r76, u74, c75, h⟩ := ucall_n h
        have zu74 := zz_X3_number N (ub G) (ug G) u70 a0 0 99 r76 u74 c75
        obtain ⟨u77, hu77, h⟩ := mbind_n h
        have zu77 := uPut_sz hu77
        have hq := zz_X3_line_187 (G := G) (a0 := a0) N u77 h
        exact ⟨by omega, by omega⟩
      · have h := mif_f c28 h
        obtain ⟨y78, hy78, h⟩ := mbind_n h
        obtain ⟨c79, h⟩ := mif_n h
        obtain ⟨r82, u80, c81, h⟩ := ucall_n h
        have zu80 := zz_X3_wrong N (ub G) (ug G) u7 a0 3 y78 r82 u80 c81
        cases h
        exact ⟨by omega, by omega⟩
  · have h := mif_f c5 h
    obtain ⟨c83, h⟩ := mif_n h
    obtain ⟨u84, c85, h⟩ := mbind_n h
    have zu84 := zz_X3_next N (ub G) (ug G) u2 a0 u84 c85
    obtain ⟨c86, h⟩ := mif_n h
    obtain ⟨u87, c88, h⟩ := mbind_n h
    have zu87 := zz_X3_groundLine N (ub G) (ug G) u84 a0 u87 c88
    have hq := zz_X3_line_187 (G := G) (a0 := a0) N u87 h
    exact ⟨by omega, by omega⟩
set_option maxHeartbeats 4000000 in
set_option maxRecDepth 100000 in
theorem w_X3_line_0 {p : Program} {l : Launch} {e : Env} {R : Room} {s : State} {m : MethodId} {args : Array Value} {below : List Frame} {meth : Method} {c : Code} {G : uG} {a0 : Nat} {uf : UH} (hC : uC p s m args meth c G RX3 cX3_line 1 none) (hR : 7 ≤ R.frames ∧ 150 ≤ R.locals) (N : Nat) (u : UH) (h : f_X3_line N (ub G) (ug G) u a0 = some uf) {H : Heap} {locs : List Loc} (hP : uP G u H) (hS : va_S (uA G) s.heap H locs) {ls : Array Slot} (hl : lv_has ls 1 [(0, va_rf (some a0))]) : W p l e R s m args below meth c H locs 0 0 (MQ below (uQv G uf) args s 0 0 (uA G)) (F0 m 0 ls []) := by
  obtain ⟨⟨hx, hb, hml, hown, hts⟩, hKK⟩ := id hC
  unfold f_X3_line at h
  refine u_aload_n (r := some a0) hx hb dX3_line_0 rfl (lv_at hl 0 rfl) ?_
  refine u_ldcS hC 32 rfl dX3_line_1 ?_
  obtain ⟨c1, h⟩ := mif_n h
  obtain ⟨r4, u2, c3, h⟩ := ucall_n h
  have zu2 := zz_X3_word N (ub G) (ug G) u a0 (some ((ug G).2.1 32)) r4 u2 c3
  refine u_calli (va_runV (As := [va_rf (some ((ug G).2.1 32))]) (rest := []) hC.1 (met_X3_word l N G u a0 (some ((ug G).2.1 32)) r4 u2 c3) (cwV 1 hts (lw_V q2173 q2175 qs48 q103 q2176) rfl rfl rfl (by decide +kernel) ⟨Nat.le_trans (Nat.le_of_ble_eq_true rfl) hR.1, Nat.le_trans (Nat.le_of_ble_eq_true rfl) hR.2⟩) ⟨uPc_blind, u_rcv hC hP c1 rfl, fun U hU hW => u_pre hC hP hS hU hW⟩ rfl rfl hl.1 rfl (lv_room (Nat.le_of_ble_eq_true rfl)) dX3_line_3 ⟨Nat.zero_le _, Nat.zero_le _⟩) hS (fun H locs hP hS => ?_)
  refine lv_if_eq (tgt := 20) hx hb dX3_line_6 (by decide) (fun c5 => ?_) (fun c5 => ?_)
  · have h := mif_t c5 h
    refine u_aload_n (r := some a0) hx hb dX3_line_20 rfl (lv_at hl 0 rfl) ?_
    refine u_ldcS hC 33 rfl dX3_line_21 ?_
    obtain ⟨c6, h⟩ := mif_n h
    obtain ⟨r9, u7, c8, h⟩ := ucall_n h
    have zu7 := zz_X3_word N (ub G) (ug G) u2 a0 (some ((ug G).2.1 33)) r9 u7 c8
    refine u_calli (va_runV (As := [va_rf (some ((ug G).2.1 33))]) (rest := []) hC.1 (met_X3_word l N G u2 a0 (some ((ug G).2.1 33)) r9 u7 c8) (cwV 1 hts (lw_V q2173 q2175 qs48 q103 q2176) rfl rfl rfl (by decide +kernel) ⟨Nat.le_trans (Nat.le_of_ble_eq_true rfl) hR.1, Nat.le_trans (Nat.le_of_ble_eq_true rfl) hR.2⟩) ⟨uPc_blind, u_rcv hC hP c6 rfl, fun U hU hW => u_pre hC hP hS hU hW⟩ rfl rfl hl.1 rfl (lv_room (Nat.le_of_ble_eq_true rfl)) dX3_line_23 ⟨Nat.zero_le _, Nat.zero_le _⟩) hS (fun H locs hP hS => ?_)
    refine lv_if_eq (tgt := 157) hx hb dX3_line_26 (by decide) (fun c10 => ?_) (fun c10 => ?_)
    · have h := mif_t c10 h
      refine u_aload_n (r := some a0) hx hb dX3_line_157 rfl (lv_at hl 0 rfl) ?_
      refine u_ldcS hC 34 rfl dX3_line_158 ?_
      obtain ⟨c11, h⟩ := mif_n h
      obtain ⟨r14, u12, c13, h⟩ := ucall_n h
      have zu12 := zz_X3_word N (ub G) (ug G) u7 a0 (some ((ug G).2.1 34)) r14 u12 c13
      refine u_calli (va_runV (As := [va_rf (some ((ug G).2.1 34))]) (rest := []) hC.1 (met_X3_word l N G u7 a0 (some ((ug G).2.1 34)) r14 u12 c13) (cwV 1 hts (lw_V q2173 q2175 qs48 q103 q2176) rfl rfl rfl (by decide +kernel) ⟨Nat.le_trans (Nat.le_of_ble_eq_true rfl) hR.1, Nat.le_trans (Nat.le_of_ble_eq_true rfl) hR.2⟩) ⟨uPc_blind, u_rcv hC hP c11 rfl, fun U hU hW => u_pre hC hP hS hU hW⟩ rfl rfl hl.1 rfl (lv_room (Nat.le_of_ble_eq_true rfl)) dX3_line_160 ⟨Nat.zero_le _, Nat.zero_le _⟩) hS (fun H locs hP hS => ?_)
      refine lv_if_eq (tgt := 177) hx hb dX3_line_163 (by decide) (fun c15 => ?_) (fun c15 => ?_)
      · have h := mif_t c15 h
        refine u_aload_n (r := some a0) hx hb dX3_line_177 rfl (lv_at hl 0 rfl) ?_
        refine lv_iconst (v := 1) hx hb dX3_line_178 (by decide) ?_
        refine u_aload_n (r := some a0) hx hb dX3_line_179 rfl (lv_at hl 0 rfl) ?_
        obtain ⟨y16, hy16, h⟩ := mbind_n h
        refine u_get hC hP (uGI_n hy16) rfl in_X3 (by decide) q1897 (fun _ h => h) dX3_line_180 ?_
        obtain ⟨c17, h⟩ := mif_n h
        obtain ⟨r20, u18, c19, h⟩ := ucall_n h
        have zu18 := zz_X3_wrong N (ub G) (ug G) u12 a0 1 y16 r20 u18 c19
        refine u_calli (va_runV (As := [.int 1, .int y16]) (rest := []) hC.1 (met_X3_wrong l N G u12 a0 1 y16 r20 u18 c19) (cwV 2 hts (lw_V q2196 q2198 qs51 q103 q2199) rfl rfl rfl (by decide +kernel) ⟨Nat.le_trans (Nat.le_of_ble_eq_true rfl) hR.1, Nat.le_trans (Nat.le_of_ble_eq_true rfl) hR.2⟩) ⟨uPc_blind, u_rcv hC hP c17 rfl, fun U hU hW => u_pre hC hP hS hU hW⟩ rfl rfl hl.1 rfl (lv_room (Nat.le_of_ble_eq_true rfl)) dX3_line_183 ⟨Nat.zero_le _, Nat.zero_le _⟩) hS (fun H locs hP hS => ?_)
        refine lv_pop hx hb dX3_line_186 rfl ?_
        exact w_X3_line_187 hC hR N u18 h hP hS (lv_sub hl [] rfl)
      · have h := mif_f c15 h
        refine u_aload_n (r := some a0) hx hb dX3_line_166 rfl (lv_at hl 0 rfl) ?_
        obtain ⟨c21, h⟩ := mif_n h
        obtain ⟨u22, c23, h⟩ := mbind_n h
        have zu22 := zz_X3_next N (ub G) (ug G) u12 a0 u22 c23
        refine u_callv (va_runV (As := []) (rest := []) hC.1 (met_X3_next l N G u12 a0 u22 c23) (cwV 0 hts (lw_V q2154 q2156 qs45 q103 q2157) rfl rfl rfl (by decide +kernel) ⟨Nat.le_trans (Nat.le_of_ble_eq_true rfl) hR.1, Nat.le_trans (Nat.le_of_ble_eq_true rfl) hR.2⟩) ⟨uPc_blind, u_rcv hC hP c21 rfl, fun U hU hW => u_pre hC hP hS hU hW⟩ rfl rfl hl.1 rfl (lv_room (Nat.le_of_ble_eq_true rfl)) dX3_line_167 ⟨Nat.zero_le _, Nat.zero_le _⟩) hS (fun H locs hP hS => ?_)
        refine u_aload_n (r := some a0) hx hb dX3_line_170 rfl (lv_at hl 0 rfl) ?_
        obtain ⟨c24, h⟩ := mif_n h
        obtain ⟨u25, c26, h⟩ := mbind_n h
        have zu25 := zz_X3_tryLine N (ub G) (ug G) u22 a0 u25 c26
        refine u_callv (va_runV (As := []) (rest := []) hC.1 (met_X3_tryLine l N G u22 a0 u25 c26) (cwV 0 hts (lw_V q2223 q2225 qs56 q103 q2226) rfl rfl rfl (by decide +kernel) ⟨Nat.le_trans (Nat.le_of_ble_eq_true rfl) hR.1, Nat.le_trans (Nat.le_of_ble_eq_true rfl) hR.2⟩) ⟨uPc_blind, u_rcv hC hP c24 rfl, fun U hU hW => u_pre hC hP hS hU hW⟩ rfl rfl hl.1 rfl (lv_room (Nat.le_of_ble_eq_true rfl)) dX3_line_171 ⟨Nat.zero_le _, Nat.zero_le _⟩) hS (fun H locs hP hS => ?_)
        refine lv_goto (tgt := 187) hx hb dX3_line_174 (by decide) ?_
        exact w_X3_line_187 hC hR N u25 h hP hS (lv_sub hl [] rfl)
    · have h := mif_f c10 h
      refine u_aload_n (r := some a0) hx hb dX3_line_29 rfl (lv_at hl 0 rfl) ?_
      obtain ⟨y27, hy27, h⟩ := mbind_n h
      refine u_get hC hP (uGI_n hy27) rfl in_X3 (by decide) q1922 (fun _ h => h) dX3_line_30 ?_
      refine lv_if_eq (tgt := 47) hx hb dX3_line_33 (by decide) (fun c28 => ?_) (fun c28 => ?_)
      · have h := mif_t c28 h
        refine u_aload_n (r := some a0) hx hb dX3_line_47 rfl (lv_at hl 0 rfl) ?_
        obtain ⟨c29, h⟩ := mif_n h
        obtain ⟨u30, c31, h⟩ := mbind_n h
        have zu30 := zz_X3_next N (ub G) (ug G) u7 a0 u30 c31
        refine u_callv (va_runV (As := []) (rest := []) hC.1 (met_X3_next l N G u7 a0 u30 c31) (cwV 0 hts (lw_V q2154 q2156 qs45 q103 q2157) rfl rfl rfl (by decide +kernel) ⟨Nat.le_trans (Nat.le_of_ble_eq_true rfl) hR.1, Nat.le_trans (Nat.le_of_ble_eq_true rfl) hR.2⟩) ⟨uPc_blind, u_rcv hC hP c29 rfl, fun U hU hW => u_pre hC hP hS hU hW⟩ rfl rfl hl.1 rfl (lv_room (Nat.le_of_ble_eq_true rfl)) dX3_line_48 ⟨Nat.zero_le _, Nat.zero_le _⟩) hS (fun H locs hP hS => ?_)
        refine u_aload_n (r := some a0) hx hb dX3_line_51 rfl (lv_at hl 0 rfl) ?_
        refine lv_iconst (v := 1) hx hb dX3_line_52 (by decide) ?_
        obtain ⟨u32, hu32, h⟩ := mbind_n h
        have zu32 := uPut_sz hu32
        refine u_put hC hP hS hu32 rfl in_X3 tyX3 tyX3_ok nmX3 (by decide) q1922 (fun _ h => h) rfl (ty := .boolean) (tyX3_ok 29 (by decide)) (uFit_n (ty := .boolean) (v := 1) rfl).1 (uFit_n (ty := .boolean) (v := 1) rfl).2 dX3_line_53 (fun H locs hP hS => ?_)
        refine u_aload_n (r := some a0) hx hb dX3_line_56 rfl (lv_at hl 0 rfl) ?_
        refine u_ldcSw hC 44 rfl dX3_line_57 ?_
        obtain ⟨c33, h⟩ := mif_n h
        obtain ⟨r36, u34, c35, h⟩ := ucall_n h
        have zu34 := zz_X3_must N (ub G) (ug G) u32 a0 (some ((ug G).2.1 44)) r36 u34 c35
        refine u_calli (va_runV (As := [va_rf (some ((ug G).2.1 44))]) (rest := []) hC.1 (met_X3_must l N G u32 a0 (some ((ug G).2.1 44)) r36 u34 c35) (cwV 1 hts (lw_V q2205 q2207 qs53 q103 q2208) rfl rfl rfl (by decide +kernel) ⟨Nat.le_trans (Nat.le_of_ble_eq_true rfl) hR.1, Nat.le_trans (Nat.le_of_ble_eq_true rfl) hR.2⟩) ⟨uPc_blind, u_rcv hC hP c33 rfl, fun U hU hW => u_pre hC hP hS hU hW⟩ rfl rfl hl.1 rfl (lv_room (Nat.le_of_ble_eq_true rfl)) dX3_line_60 ⟨Nat.zero_le _, Nat.zero_le _⟩) hS (fun H locs hP hS => ?_)
        refine lv_pop hx hb dX3_line_63 rfl ?_
        refine u_aload_n (r := some a0) hx hb dX3_line_64 rfl (lv_at hl 0 rfl) ?_
        refine u_aload_n (r := some a0) hx hb dX3_line_65 rfl (lv_at hl 0 rfl) ?_
        refine lv_iconst (v := 2) hx hb dX3_line_66 (by decide) ?_
        refine lv_bipush (v := 6) hx hb dX3_line_67 (by decide) ?_
        obtain ⟨c37, h⟩ := mif_n h
        obtain ⟨r40, u38, c39, h⟩ := ucall_n h
        have zu38 := zz_X3_number N (ub G) (ug G) u34 a0 2 6 r40 u38 c39
        refine u_calli (va_runV (As := [.int 2, .int 6]) (rest := [va_rf (some a0)]) hC.1 (met_X3_number l N G u34 a0 2 6 r40 u38 c39) (cwV 2 hts (lw_V q2213 q2215 qs55 q103 q2216) rfl rfl rfl (by decide +kernel) ⟨Nat.le_trans (Nat.le_of_ble_eq_true rfl) hR.1, Nat.le_trans (Nat.le_of_ble_eq_true rfl) hR.2⟩) ⟨uPc_blind, u_rcv hC hP c37 rfl, fun U hU hW => u_pre hC hP hS hU hW⟩ rfl rfl hl.1 rfl (lv_room (Nat.le_of_ble_eq_true rfl)) dX3_line_69 ⟨Nat.zero_le _, Nat.zero_le _⟩) hS (fun H locs hP hS => ?_)
        obtain ⟨u41, hu41, h⟩ := mbind_n h
        have zu41 := uPut_sz hu41
        refine u_put hC hP hS hu41 rfl in_X3 tyX3 tyX3_ok nmX3 (by decide) q1917 (fun _ h => h) rfl (ty := .int) (tyX3_ok 24 (by decide)) rfl rfl dX3_line_72 (fun H locs hP hS => ?_)
        refine u_aload_n (r := some a0) hx hb dX3_line_75 rfl (lv_at hl 0 rfl) ?_
        refine u_ldcSw hC 45 rfl dX3_line_76 ?_
        obtain ⟨c42, h⟩ := mif_n h
        obtain ⟨r45, u43, c44, h⟩ := ucall_n h
        have zu43 := zz_X3_must N (ub G) (ug G) u41 a0 (some ((ug G).2.1 45)) r45 u43 c44
        refine u_calli (va_runV (As := [va_rf (some ((ug G).2.1 45))]) (rest := []) hC.1 (met_X3_must l N G u41 a0 (some ((ug G).2.1 45)) r45 u43 c44) (cwV 1 hts (lw_V q2205 q2207 qs53 q103 q2208) rfl rfl rfl (by decide +kernel) ⟨Nat.le_trans (Nat.le_of_ble_eq_true rfl) hR.1, Nat.le_trans (Nat.le_of_ble_eq_true rfl) hR.2⟩) ⟨uPc_blind, u_rcv hC hP c42 rfl, fun U hU hW => u_pre hC hP hS hU hW⟩ rfl rfl hl.1 rfl (lv_room (Nat.le_of_ble_eq_true rfl)) dX3_line_79 ⟨Nat.zero_le _, Nat.zero_le _⟩) hS (fun H locs hP hS => ?_)
        refine lv_pop hx hb dX3_line_82 rfl ?_
        refine u_aload_n (r := some a0) hx hb dX3_line_83 rfl (lv_at hl 0 rfl) ?_
        refine u_aload_n (r := some a0) hx hb dX3_line_84 rfl (lv_at hl 0 rfl) ?_
        refine lv_iconst (v := 1) hx hb dX3_line_85 (by decide) ?_
        refine lv_sipush (v := 999) hx hb dX3_line_86 (by decide) ?_
        obtain ⟨c46, h⟩ := mif_n h
        obtain ⟨r49, u47, c48, h⟩ := ucall_n h
        have zu47 := zz_X3_number N (ub G) (ug G) u43 a0 1 999 r49 u47 c48
        refine u_calli (va_runV (As := [.int 1, .int 999]) (rest := [va_rf (some a0)]) hC.1 (met_X3_number l N G u43 a0 1 999 r49 u47 c48) (cwV 2 hts (lw_V q2213 q2215 qs55 q103 q2216) rfl rfl rfl (by decide +kernel) ⟨Nat.le_trans (Nat.le_of_ble_eq_true rfl) hR.1, Nat.le_trans (Nat.le_of_ble_eq_true rfl) hR.2⟩) ⟨uPc_blind, u_rcv hC hP c46 rfl, fun U hU hW => u_pre hC hP hS hU hW⟩ rfl rfl hl.1 rfl (lv_room (Nat.le_of_ble_eq_true rfl)) dX3_line_89 ⟨Nat.zero_le _, Nat.zero_le _⟩) hS (fun H locs hP hS => ?_)
        obtain ⟨u50, hu50, h⟩ := mbind_n h
        have zu50 := uPut_sz hu50
        refine u_put hC hP hS hu50 rfl in_X3 tyX3 tyX3_ok nmX3 (by decide) q1918 (fun _ h => h) rfl (ty := .int) (tyX3_ok 25 (by decide)) rfl rfl dX3_line_92 (fun H locs hP hS => ?_)
        refine u_aload_n (r := some a0) hx hb dX3_line_95 rfl (lv_at hl 0 rfl) ?_
        refine u_ldcSw hC 46 rfl dX3_line_96 ?_
        obtain ⟨c51, h⟩ := mif_n h
        obtain ⟨r54, u52, c53, h⟩ := ucall_n h
        have zu52 := zz_X3_must N (ub G) (ug G) u50 a0 (some ((ug G).2.1 46)) r54 u52 c53
        refine u_calli (va_runV (As := [va_rf (some ((ug G).2.1 46))]) (rest := []) hC.1 (met_X3_must l N G u50 a0 (some ((ug G).2.1 46)) r54 u52 c53) (cwV 1 hts (lw_V q2205 q2207 qs53 q103 q2208) rfl rfl rfl (by decide +kernel) ⟨Nat.le_trans (Nat.le_of_ble_eq_true rfl) hR.1, Nat.le_trans (Nat.le_of_ble_eq_true rfl) hR.2⟩) ⟨uPc_blind, u_rcv hC hP c51 rfl, fun U hU hW => u_pre hC hP hS hU hW⟩ rfl rfl hl.1 rfl (lv_room (Nat.le_of_ble_eq_true rfl)) dX3_line_99 ⟨Nat.zero_le _, Nat.zero_le _⟩) hS (fun H locs hP hS => ?_)
        refine lv_pop hx hb dX3_line_102 rfl ?_
        refine u_aload_n (r := some a0) hx hb dX3_line_103 rfl (lv_at hl 0 rfl) ?_
        refine u_aload_n (r := some a0) hx hb dX3_line_104 rfl (lv_at hl 0 rfl) ?_
        refine lv_iconst (v := 1) hx hb dX3_line_105 (by decide) ?_
        refine lv_sipush (v := 300) hx hb dX3_line_106 (by decide) ?_
        obtain ⟨c55, h⟩ := mif_n h
        obtain ⟨r58, u56, c57, h⟩ := ucall_n h
        have zu56 := zz_X3_number N (ub G) (ug G) u52 a0 1 300 r58 u56 c57
        refine u_calli (va_runV (As := [.int 1, .int 300]) (rest := [va_rf (some a0)]) hC.1 (met_X3_number l N G u52 a0 1 300 r58 u56 c57) (cwV 2 hts (lw_V q2213 q2215 qs55 q103 q2216) rfl rfl rfl (by decide +kernel) ⟨Nat.le_trans (Nat.le_of_ble_eq_true rfl) hR.1, Nat.le_trans (Nat.le_of_ble_eq_true rfl) hR.2⟩) ⟨uPc_blind, u_rcv hC hP c55 rfl, fun U hU hW => u_pre hC hP hS hU hW⟩ rfl rfl hl.1 rfl (lv_room (Nat.le_of_ble_eq_true rfl)) dX3_line_109 ⟨Nat.zero_le _, Nat.zero_le _⟩) hS (fun H locs hP hS => ?_)
        obtain ⟨u59, hu59, h⟩ := mbind_n h
        have zu59 := uPut_sz hu59
        refine u_put hC hP hS hu59 rfl in_X3 tyX3 tyX3_ok nmX3 (by decide) q1919 (fun _ h => h) rfl (ty := .int) (tyX3_ok 26 (by decide)) rfl rfl dX3_line_112 (fun H locs hP hS => ?_)
        refine u_aload_n (r := some a0) hx hb dX3_line_115 rfl (lv_at hl 0 rfl) ?_
        refine u_ldcSw hC 47 rfl dX3_line_116 ?_
        obtain ⟨c60, h⟩ := mif_n h
        obtain ⟨r63, u61, c62, h⟩ := ucall_n h
        have zu61 := zz_X3_must N (ub G) (ug G) u59 a0 (some ((ug G).2.1 47)) r63 u61 c62
        refine u_calli (va_runV (As := [va_rf (some ((ug G).2.1 47))]) (rest := []) hC.1 (met_X3_must l N G u59 a0 (some ((ug G).2.1 47)) r63 u61 c62) (cwV 1 hts (lw_V q2205 q2207 qs53 q103 q2208) rfl rfl rfl (by decide +kernel) ⟨Nat.le_trans (Nat.le_of_ble_eq_true rfl) hR.1, Nat.le_trans (Nat.le_of_ble_eq_true rfl) hR.2⟩) ⟨uPc_blind, u_rcv hC hP c60 rfl, fun U hU hW => u_pre hC hP hS hU hW⟩ rfl rfl hl.1 rfl (lv_room (Nat.le_of_ble_eq_true rfl)) dX3_line_119 ⟨Nat.zero_le _, Nat.zero_le _⟩) hS (fun H locs hP hS => ?_)
        refine lv_pop hx hb dX3_line_122 rfl ?_
        refine u_aload_n (r := some a0) hx hb dX3_line_123 rfl (lv_at hl 0 rfl) ?_
        refine u_aload_n (r := some a0) hx hb dX3_line_124 rfl (lv_at hl 0 rfl) ?_
        refine lv_iconst (v := 0) hx hb dX3_line_125 (by decide) ?_
        refine lv_sipush (v := 300) hx hb dX3_line_126 (by decide) ?_
        obtain ⟨c64, h⟩ := mif_n h
        obtain ⟨r67, u65, c66, h⟩ := ucall_n h
        have zu65 := zz_X3_number N (ub G) (ug G) u61 a0 0 300 r67 u65 c66
        refine u_calli (va_runV (As := [.int 0, .int 300]) (rest := [va_rf (some a0)]) hC.1 (met_X3_number l N G u61 a0 0 300 r67 u65 c66) (cwV 2 hts (lw_V q2213 q2215 qs55 q103 q2216) rfl rfl rfl (by decide +kernel) ⟨Nat.le_trans (Nat.le_of_ble_eq_true rfl) hR.1, Nat.le_trans (Nat.le_of_ble_eq_true rfl) hR.2⟩) ⟨uPc_blind, u_rcv hC hP c64 rfl, fun U hU hW => u_pre hC hP hS hU hW⟩ rfl rfl hl.1 rfl (lv_room (Nat.le_of_ble_eq_true rfl)) dX3_line_129 ⟨Nat.zero_le _, Nat.zero_le _⟩) hS (fun H locs hP hS => ?_)
        obtain ⟨u68, hu68, h⟩ := mbind_n h
        have zu68 := uPut_sz hu68
        refine u_put hC hP hS hu68 rfl in_X3 tyX3 tyX3_ok nmX3 (by decide) q1920 (fun _ h => h) rfl (ty := .int) (tyX3_ok 27 (by decide)) rfl rfl dX3_line_132 (fun H locs hP hS => ?_)
        refine u_aload_n (r := some a0) hx hb dX3_line_135 rfl (lv_at hl 0 rfl) ?_
        refine u_ldcSw hC 48 rfl dX3_line_136 ?_
        obtain ⟨c69, h⟩ := mif_n h
        obtain ⟨r72, u70, c71, h⟩ := ucall_n h
        have zu70 := zz_X3_must N (ub G) (ug G) u68 a0 (some ((ug G).2.1 48)) r72 u70 c71
        refine u_calli (va_runV (As := [va_rf (some ((ug G).2.1 48))]) (rest := []) hC.1 (met_X3_must l N G u68 a0 (some ((ug G).2.1 48)) r72 u70 c71) (cwV 1 hts (lw_V q2205 q2207 qs53 q103 q2208) rfl rfl rfl (by decide +kernel) ⟨Nat.le_trans (Nat.le_of_ble_eq_true rfl) hR.1, Nat.le_trans (Nat.le_of_ble_eq_true rfl) hR.2⟩) ⟨uPc_blind, u_rcv hC hP c69 rfl, fun U hU hW => u_pre hC hP hS hU hW⟩ rfl rfl hl.1 rfl (lv_room (Nat.le_of_ble_eq_true rfl)) dX3_line_139 ⟨Nat.zero_le _, Nat.zero_le _⟩) hS (fun H locs hP hS => ?_)
        refine lv_pop hx hb dX3_line_142 rfl ?_
        refine u_aload_n (r := some a0) hx hb dX3_line_143 rfl (lv_at hl 0 rfl) ?_
        refine u_aload_n (r := some a0) hx hb dX3_line_144 rfl (lv_at hl 0 rfl) ?_
        refine lv_iconst (v := 0) hx hb dX3_line_145 (by decide) ?_
        refine lv_bipush (v := 99) hx hb dX3_line_146 (by decide) ?_
        obtain ⟨c73, h⟩ := mif_n h
        obtain ⟨r76, u74, c75, h⟩ := ucall_n h
        have zu74 := zz_X3_number N (ub G) (ug G) u70 a0 0 99 r76 u74 c75
        refine u_calli (va_runV (As := [.int 0, .int 99]) (rest := [va_rf (some a0)]) hC.1 (met_X3_number l N G u70 a0 0 99 r76 u74 c75) (cwV 2 hts (lw_V q2213 q2215 qs55 q103 q2216) rfl rfl rfl (by decide +kernel) ⟨Nat.le_trans (Nat.le_of_ble_eq_true rfl) hR.1, Nat.le_trans (Nat.le_of_ble_eq_true rfl) hR.2⟩) ⟨uPc_blind, u_rcv hC hP c73 rfl, fun U hU hW => u_pre hC hP hS hU hW⟩ rfl rfl hl.1 rfl (lv_room (Nat.le_of_ble_eq_true rfl)) dX3_line_148 ⟨Nat.zero_le _, Nat.zero_le _⟩) hS (fun H locs hP hS => ?_)
        obtain ⟨u77, hu77, h⟩ := mbind_n h
        have zu77 := uPut_sz hu77
        refine u_put hC hP hS hu77 rfl in_X3 tyX3 tyX3_ok nmX3 (by decide) q1921 (fun _ h => h) rfl (ty := .int) (tyX3_ok 28 (by decide)) rfl rfl dX3_line_151 (fun H locs hP hS => ?_)
        refine lv_goto (tgt := 187) hx hb dX3_line_154 (by decide) ?_
        exact w_X3_line_187 hC hR N u77 h hP hS (lv_sub hl [] rfl)
      · have h := mif_f c28 h
        refine u_aload_n (r := some a0) hx hb dX3_line_36 rfl (lv_at hl 0 rfl) ?_
        refine lv_iconst (v := 3) hx hb dX3_line_37 (by decide) ?_
        refine u_aload_n (r := some a0) hx hb dX3_line_38 rfl (lv_at hl 0 rfl) ?_
        obtain ⟨y78, hy78, h⟩ := mbind_n h
        refine u_get hC hP (uGI_n hy78) rfl in_X3 (by decide) q1897 (fun _ h => h) dX3_line_39 ?_
        obtain ⟨c79, h⟩ := mif_n h
        obtain ⟨r82, u80, c81, h⟩ := ucall_n h
        have zu80 := zz_X3_wrong N (ub G) (ug G) u7 a0 3 y78 r82 u80 c81
        refine u_calli (va_runV (As := [.int 3, .int y78]) (rest := []) hC.1 (met_X3_wrong l N G u7 a0 3 y78 r82 u80 c81) (cwV 2 hts (lw_V q2196 q2198 qs51 q103 q2199) rfl rfl rfl (by decide +kernel) ⟨Nat.le_trans (Nat.le_of_ble_eq_true rfl) hR.1, Nat.le_trans (Nat.le_of_ble_eq_true rfl) hR.2⟩) ⟨uPc_blind, u_rcv hC hP c79 rfl, fun U hU hW => u_pre hC hP hS hU hW⟩ rfl rfl hl.1 rfl (lv_room (Nat.le_of_ble_eq_true rfl)) dX3_line_42 ⟨Nat.zero_le _, Nat.zero_le _⟩) hS (fun H locs hP hS => ?_)
        refine lv_pop hx hb dX3_line_45 rfl ?_
        cases h
        exact u_vret hC hP hS dX3_line_46
  · have h := mif_f c5 h
    refine u_aload_n (r := some a0) hx hb dX3_line_9 rfl (lv_at hl 0 rfl) ?_
    obtain ⟨c83, h⟩ := mif_n h
    obtain ⟨u84, c85, h⟩ := mbind_n h
    have zu84 := zz_X3_next N (ub G) (ug G) u2 a0 u84 c85
    refine u_callv (va_runV (As := []) (rest := []) hC.1 (met_X3_next l N G u2 a0 u84 c85) (cwV 0 hts (lw_V q2154 q2156 qs45 q103 q2157) rfl rfl rfl (by decide +kernel) ⟨Nat.le_trans (Nat.le_of_ble_eq_true rfl) hR.1, Nat.le_trans (Nat.le_of_ble_eq_true rfl) hR.2⟩) ⟨uPc_blind, u_rcv hC hP c83 rfl, fun U hU hW => u_pre hC hP hS hU hW⟩ rfl rfl hl.1 rfl (lv_room (Nat.le_of_ble_eq_true rfl)) dX3_line_10 ⟨Nat.zero_le _, Nat.zero_le _⟩) hS (fun H locs hP hS => ?_)
    refine u_aload_n (r := some a0) hx hb dX3_line_13 rfl (lv_at hl 0 rfl) ?_
    obtain ⟨c86, h⟩ := mif_n h
    obtain ⟨u87, c88, h⟩ := mbind_n h
    have zu87 := zz_X3_groundLine N (ub G) (ug G) u84 a0 u87 c88
    refine u_callv (va_runV (As := []) (rest := []) hC.1 (met_X3_groundLine l N G u84 a0 u87 c88) (cwV 0 hts (lw_V q2179 q2181 qs49 q103 q2182) rfl rfl rfl (by decide +kernel) ⟨Nat.le_trans (Nat.le_of_ble_eq_true rfl) hR.1, Nat.le_trans (Nat.le_of_ble_eq_true rfl) hR.2⟩) ⟨uPc_blind, u_rcv hC hP c86 rfl, fun U hU hW => u_pre hC hP hS hU hW⟩ rfl rfl hl.1 rfl (lv_room (Nat.le_of_ble_eq_true rfl)) dX3_line_14 ⟨Nat.zero_le _, Nat.zero_le _⟩) hS (fun H locs hP hS => ?_)
    refine lv_goto (tgt := 187) hx hb dX3_line_17 (by decide) ?_
    exact w_X3_line_187 hC hR N u87 h hP hS (lv_sub hl [] rfl)
theorem zz_X3_line (N b : Nat) (g : uEnv) (u : UH) (a0 : Nat) (uf : UH) (h : f_X3_line N b g u a0 = some uf) : uf.1 = u.1 ∧ uf.2.1 = u.2.1 :=
  zz_X3_line_0 (G := ((fun _ => 0, fun _ _ => 0), fun _ => 0, b, g)) (a0 := a0) N u h
theorem met_X3_line (l : Launch) (N : Nat) (G : uG) (u : UH) (a0 : Nat) (uf : UH) (h : f_X3_line N (ub G) (ug G) u a0 = some uf) : Met l yX3_line (ws_ yX3_line cX3_line 1 none) ({ frames := 7, cells := 0, slots := 0, locals := 150 }) (uPc G u [.ref a0]) (uQv G uf) 0 0 (uA G) := by
  exact u_met (own := RX3) (by decide +kernel) rfl (Nat.le_of_ble_eq_true rfl) (fun hC hn hsz ls hl hP => w_X3_line_0 hC ⟨Nat.le_refl _, Nat.le_refl _⟩ N u h hP va_S.rf hl)

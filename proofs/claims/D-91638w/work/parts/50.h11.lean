/-! BY gen_heap.py: common walk solve X1_part X2_best -/
def f_X1_common_17 (N b : Nat) (g : uEnv) (ro_X1_common : UH → Int64 → Int64 → Option (Int64 × UH)) (u : UH) (s0 : Int64) : Option (Int64 × UH) :=
    some (s0, u)
set_option maxHeartbeats 4000000 in
set_option maxRecDepth 100000 in
theorem zz_X1_common_17 {G : uG} {uf : UH} {r : Int64} (N : Nat) (ro_X1_common : UH → Int64 → Int64 → Option (Int64 × UH)) (zo_X1_common : ∀ (u : UH) (x0 : Int64) (x2 : Int64) (r : Int64) (uf : UH), ro_X1_common u x0 x2 = some (r, uf) → uf.1 = u.1 ∧ uf.2.1 = u.2.1) (u : UH) (s0 : Int64) (h : f_X1_common_17 N (ub G) (ug G) ro_X1_common u s0 = some (r, uf)) : uf.1 = u.1 ∧ uf.2.1 = u.2.1 := by
  unfold f_X1_common_17 at h
  obtain ⟨hr1, hr2⟩ := uret_n h
  subst hr2
  exact ⟨by omega, by omega⟩
set_option maxHeartbeats 4000000 in
set_option maxRecDepth 100000 in
theorem w_X1_common_17 {p : Program} {l : Launch} {e : Env} {R : Room} {s : State} {m : MethodId} {args : Array Value} {below : List Frame} {meth : Method} {c : Code} {G : uG} {uf : UH} {r : Int64} (hC : uC p s m args meth c G RX1 cX1_common 4 (some .long)) (hR : 0 ≤ R.frames ∧ 0 ≤ R.locals) (N : Nat) (ro_X1_common : UH → Int64 → Int64 → Option (Int64 × UH)) (zo_X1_common : ∀ (u : UH) (x0 : Int64) (x2 : Int64) (r : Int64) (uf : UH), ro_X1_common u x0 x2 = some (r, uf) → uf.1 = u.1 ∧ uf.2.1 = u.2.1) {DF DL : Nat} (mo_X1_common : ∀ (u : UH) (x0 : Int64) (x2 : Int64) (r : Int64) (uf : UH), ro_X1_common u x0 x2 = some (r, uf) → Met l yX1_common (ws_ yX1_common cX1_common 4 (some .long)) ({ frames := DF, cells := 0, slots := 0, locals := DL }) (uPc G u [.long x0, .long x2]) (uQl G r uf) 0 0 (uA G)) (hRr : DF + 1 ≤ R.frames ∧ 60 + DL ≤ R.locals) (u : UH) (s0 : Int64) (h : f_X1_common_17 N (ub G) (ug G) ro_X1_common u s0 = some (r, uf)) {H : Heap} {locs : List Loc} (hP : uP G u H) (hS : va_S (uA G) s.heap H locs) {ls : Array Slot} (hl : lv_has ls 4 []) : W p l e R s m args below meth c H locs 0 0 (MQ below (uQl G r uf) args s 0 0 (uA G)) (F0 m 17 ls [.long s0]) := by
  obtain ⟨⟨hx, hb, hml, hown, hts⟩, hKK⟩ := id hC
  unfold f_X1_common_17 at h
  obtain ⟨hr1, hr2⟩ := uret_n h
  subst hr1
  subst hr2
  exact u_lret hC hP hS dX1_common_17
def fo_X1_common (N b : Nat) (g : uEnv) (ro_X1_common : UH → Int64 → Int64 → Option (Int64 × UH)) (u : UH) (x0 : Int64) (x2 : Int64) : Option (Int64 × UH) :=
    if (lg_cmp x0 0) = 0 then
    f_X1_common_17 N b g ro_X1_common u x2
    else
    if ¬ x0 = 0 then
    ucall (ro_X1_common u (x2 - x2 / x0 * x0) x0) fun r5 u3 =>
    f_X1_common_17 N b g ro_X1_common u3 r5
    else none
set_option maxHeartbeats 4000000 in
set_option maxRecDepth 100000 in
theorem zz_X1_common_0 {G : uG} {uf : UH} {r : Int64} (N : Nat) (ro_X1_common : UH → Int64 → Int64 → Option (Int64 × UH)) (zo_X1_common : ∀ (u : UH) (x0 : Int64) (x2 : Int64) (r : Int64) (uf : UH), ro_X1_common u x0 x2 = some (r, uf) → uf.1 = u.1 ∧ uf.2.1 = u.2.1) (u : UH) (x0 : Int64) (x2 : Int64) (h : fo_X1_common N (ub G) (ug G) ro_X1_common u x0 x2 = some (r, uf)) : uf.1 = u.1 ∧ uf.2.1 = u.2.1 := by
  unfold fo_X1_common at h
  by_cases c1 : (lg_cmp x0 0) = 0
  · have h := mif_t c1 h
    have hq := zz_X1_common_17 (G := G) N  ro_X1_common zo_X1_common u x2 h
    exact ⟨by omega, by omega⟩
  · have h := mif_f c1 h
    obtain ⟨c2, h⟩ := mif_n h
    obtain ⟨r5, u3, c4, h⟩ := ucall_n h
    have zu3 := zo_X1_common u (x2 - x2 / x0 * x0) x0 r5 u3 c4
    have hq := zz_X1_common_17 (G := G) N  ro_X1_common zo_X1_common u3 r5 h
    exact ⟨by omega, by omega⟩
set_option maxHeartbeats 4000000 in
set_option maxRecDepth 100000 in
theorem w_X1_common_0 {p : Program} {l : Launch} {e : Env} {R : Room} {s : State} {m : MethodId} {args : Array Value} {below : List Frame} {meth : Method} {c : Code} {G : uG} {uf : UH} {r : Int64} (hC : uC p s m args meth c G RX1 cX1_common 4 (some .long)) (hR : 0 ≤ R.frames ∧ 0 ≤ R.locals) (N : Nat) (ro_X1_common : UH → Int64 → Int64 → Option (Int64 × UH)) (zo_X1_common : ∀ (u : UH) (x0 : Int64) (x2 : Int64) (r : Int64) (uf : UH), ro_X1_common u x0 x2 = some (r, uf) → uf.1 = u.1 ∧ uf.2.1 = u.2.1) {DF DL : Nat} (mo_X1_common : ∀ (u : UH) (x0 : Int64) (x2 : Int64) (r : Int64) (uf : UH), ro_X1_common u x0 x2 = some (r, uf) → Met l yX1_common (ws_ yX1_common cX1_common 4 (some .long)) ({ frames := DF, cells := 0, slots := 0, locals := DL }) (uPc G u [.long x0, .long x2]) (uQl G r uf) 0 0 (uA G)) (hRr : DF + 1 ≤ R.frames ∧ 60 + DL ≤ R.locals) (u : UH) (x0 : Int64) (x2 : Int64) (h : fo_X1_common N (ub G) (ug G) ro_X1_common u x0 x2 = some (r, uf)) {H : Heap} {locs : List Loc} (hP : uP G u H) (hS : va_S (uA G) s.heap H locs) {ls : Array Slot} (hl : lv_has ls 4 [(0, .long x0), (2, .long x2)]) : W p l e R s m args below meth c H locs 0 0 (MQ below (uQl G r uf) args s 0 0 (uA G)) (F0 m 0 ls []) := by
  obtain ⟨⟨hx, hb, hml, hown, hts⟩, hKK⟩ := id hC
  unfold fo_X1_common at h
  refine lv_lload_n hx hb dX1_common_0 rfl (lv_at hl 0 rfl) ?_
  refine lv_lconst (v := 0) hx hb dX1_common_1 (by decide) ?_
  refine W.lcmp hx hb dX1_common_2 ?_
  refine lv_if_ne (tgt := 10) hx hb dX1_common_3 (by decide) (fun c1 => ?_) (fun c1 => ?_)
  · have h := mif_f c1 h
    refine lv_lload_n hx hb dX1_common_10 rfl (lv_at hl 1 rfl) ?_
    refine lv_lload_n hx hb dX1_common_11 rfl (lv_at hl 0 rfl) ?_
    obtain ⟨c2, h⟩ := mif_n h
    refine lv_lrem hx hb dX1_common_12 c2 ?_
    refine lv_lload_n hx hb dX1_common_13 rfl (lv_at hl 0 rfl) ?_
    obtain ⟨r5, u3, c4, h⟩ := ucall_n h
    have zu3 := zo_X1_common u (x2 - x2 / x0 * x0) x0 r5 u3 c4
    refine u_calll (va_runS (As := [.long (x2 - x2 / x0 * x0), .long x0]) (rest := []) hC.1 (mo_X1_common u (x2 - x2 / x0 * x0) x0 r5 u3 c4) (va_cwS 2 hts (lw_S q1439 q1440 q98 q1441) rfl rfl rfl (by decide +kernel) ⟨hRr.1, Nat.le_trans (Nat.add_le_add_right (Nat.le_of_ble_eq_true rfl) DL) hRr.2⟩) ⟨uPc_blind, fun U hU hW => u_pre hC hP hS hU hW⟩ rfl rfl hl.1 rfl (lv_room (Nat.le_of_ble_eq_true rfl)) dX1_common_14 ⟨Nat.zero_le _, Nat.zero_le _⟩) hS (fun H locs hP hS => ?_)
    exact w_X1_common_17 hC hR N  ro_X1_common zo_X1_common mo_X1_common hRr u3 r5 h hP hS (lv_sub hl [] rfl)
  · have h := mif_t c1 h
    refine lv_lload_n hx hb dX1_common_6 rfl (lv_at hl 1 rfl) ?_
    refine lv_goto (tgt := 17) hx hb dX1_common_7 (by decide) ?_
    exact w_X1_common_17 hC hR N  ro_X1_common zo_X1_common mo_X1_common hRr u x2 h hP hS (lv_sub hl [] rfl)
def rec_common (N b : Nat) (g : uEnv) : Nat → (UH → Int64 → Int64 → Option (Int64 × UH))
  | 0 => (fun _ _ _ => none)
  | d + 1 => (fun u x0 x2 => fo_X1_common N b g ((rec_common N b g d)) u x0 x2)
theorem recz_common (G : uG) (N : Nat) : ∀ d : Nat, (∀ (u : UH) (x0 : Int64) (x2 : Int64) (r : Int64) (uf : UH), ((rec_common N (ub G) (ug G) d)) u x0 x2 = some (r, uf) → uf.1 = u.1 ∧ uf.2.1 = u.2.1) := by
  intro d
  induction d with
  | zero => exact ((by intro u x0 x2 r uf h; cases h))
  | succ d ih =>
    exact ((by intro u x0 x2 r uf h; exact zz_X1_common_0 (G := G) N _ ih u x0 x2 h))
set_option maxHeartbeats 4000000 in
set_option maxRecDepth 100000 in
theorem recm_common (l : Launch) (G : uG) (N : Nat) : ∀ d : Nat, (∀ (u : UH) (x0 : Int64) (x2 : Int64) (r : Int64) (uf : UH), ((rec_common N (ub G) (ug G) d)) u x0 x2 = some (r, uf) → Met l yX1_common (ws_ yX1_common cX1_common 4 (some .long)) ({ frames := 0 + d, cells := 0, slots := 0, locals := 0 + 60 * d }) (uPc G u [.long x0, .long x2]) (uQl G r uf) 0 0 (uA G)) := by
  intro d
  induction d with
  | zero => exact ((by intro u x0 x2 r uf h; cases h))
  | succ d ih =>
    have iz := recz_common G N d
    refine (?_)
    · intro u x0 x2 r uf h
      exact u_met (own := RX1) (by decide +kernel) rfl (Nat.le_of_ble_eq_true rfl) (fun hC hn hsz ls hl hP => w_X1_common_0 hC ⟨by show _ ≤ _ + _; omega, by show _ ≤ _ + _; omega⟩ N _ iz ih ⟨by show _ ≤ _ + _; omega, by show _ ≤ _ + _; omega⟩ u x0 x2 h hP va_S.rf hl)
def f_X1_common (N b : Nat) (g : uEnv) (u : UH) (x0 : Int64) (x2 : Int64) : Option (Int64 × UH) := ((rec_common N b g 100)) u x0 x2
theorem zz_X1_common (N b : Nat) (g : uEnv) (u : UH) (x0 : Int64) (x2 : Int64) (r : Int64) (uf : UH) (h : f_X1_common N b g u x0 x2 = some (r, uf)) : uf.1 = u.1 ∧ uf.2.1 = u.2.1 := ((recz_common ((fun _ => 0, fun _ _ => 0), fun _ => 0, b, g) N 100)) u x0 x2 r uf h
theorem met_X1_common (l : Launch) (N : Nat) (G : uG) (u : UH) (x0 : Int64) (x2 : Int64) (r : Int64) (uf : UH) (h : f_X1_common N (ub G) (ug G) u x0 x2 = some (r, uf)) : Met l yX1_common (ws_ yX1_common cX1_common 4 (some .long)) ({ frames := 100, cells := 0, slots := 0, locals := 6000 }) (uPc G u [.long x0, .long x2]) (uQl G r uf) 0 0 (uA G) := ((recm_common l G N 100)) u x0 x2 r uf h
def f_X18_does_35 (N b : Nat) (g : uEnv) (ro_X18_does : UH → Nat → Option Nat → Option (Option Nat × UH)) (ro_X13_by : UH → Nat → Option Nat → Option (UH)) (a0 : Nat) (k2 : UH → Option Nat → Int32 → Option (Option Nat × UH)) (u : UH) (x1 : Option Nat) (x2 : Int32) : Option (Option Nat × UH) :=
    mlet (x2 + 1) fun y1 =>
    k2 u x1 y1
set_option maxHeartbeats 4000000 in
set_option maxRecDepth 100000 in
theorem zz_X18_does_35 {G : uG} {a0 : Nat} {uf : UH} {r : Option Nat} (N : Nat) (ro_X18_does : UH → Nat → Option Nat → Option (Option Nat × UH)) (ro_X13_by : UH → Nat → Option Nat → Option (UH)) (zo_X18_does : ∀ (u : UH) (a0 : Nat) (x1 : Option Nat) (r : Option Nat) (uf : UH), ro_X18_does u a0 x1 = some (r, uf) → uf.1 = u.1 ∧ uf.2.1 = u.2.1) (zo_X13_by : ∀ (u : UH) (a0 : Nat) (x1 : Option Nat) (uf : UH), ro_X13_by u a0 x1 = some uf → uf.1 = u.1 ∧ uf.2.1 = u.2.1) (k2 : UH → Option Nat → Int32 → Option (Option Nat × UH)) (hk2 : ∀ (u : UH) (x1 : Option Nat) (x2 : Int32), k2 u x1 x2 = some (r, uf) → uf.1 = u.1 ∧ uf.2.1 = u.2.1) (u : UH) (x1 : Option Nat) (x2 : Int32) (h : f_X18_does_35 N (ub G) (ug G) ro_X18_does ro_X13_by a0 k2 u x1 x2 = some (r, uf)) : uf.1 = u.1 ∧ uf.2.1 = u.2.1 := by
  unfold f_X18_does_35 at h
  obtain ⟨y1, ey1⟩ : ∃ z : Int32, z = x2 + 1 := ⟨_, rfl⟩
  have h := mlet_at ey1 h
  have hq := hk2 u x1 y1 h
  exact ⟨by omega, by omega⟩
set_option maxHeartbeats 4000000 in
set_option maxRecDepth 100000 in
theorem w_X18_does_35 {p : Program} {l : Launch} {e : Env} {R : Room} {s : State} {m : MethodId} {args : Array Value} {below : List Frame} {meth : Method} {c : Code} {G : uG} {a0 : Nat} {uf : UH} {r : Option Nat} (hC : uC p s m args meth c G RX18 cX18_does 3 (some (.object "SoftWheels$Walk"))) (hR : 6 ≤ R.frames ∧ 139 ≤ R.locals) (N : Nat) (ro_X18_does : UH → Nat → Option Nat → Option (Option Nat × UH)) (ro_X13_by : UH → Nat → Option Nat → Option (UH)) (zo_X18_does : ∀ (u : UH) (a0 : Nat) (x1 : Option Nat) (r : Option Nat) (uf : UH), ro_X18_does u a0 x1 = some (r, uf) → uf.1 = u.1 ∧ uf.2.1 = u.2.1) (zo_X13_by : ∀ (u : UH) (a0 : Nat) (x1 : Option Nat) (uf : UH), ro_X13_by u a0 x1 = some uf → uf.1 = u.1 ∧ uf.2.1 = u.2.1) {DF DL : Nat} (mo_X18_does : ∀ (u : UH) (a0 : Nat) (x1 : Option Nat) (r : Option Nat) (uf : UH), ro_X18_does u a0 x1 = some (r, uf) → Met l yX18_does (ws_ yX18_does cX18_does 3 (some (.object "SoftWheels$Walk"))) ({ frames := DF, cells := 0, slots := 0, locals := DL }) (uPc G u [.ref a0, va_rf x1]) (uQr G r uf) 0 0 (uA G)) (mo_X13_by : ∀ (u : UH) (a0 : Nat) (x1 : Option Nat) (uf : UH), ro_X13_by u a0 x1 = some uf → Met l yX13_by (ws_ yX13_by cX13_by 3 none) ({ frames := DF, cells := 0, slots := 0, locals := DL }) (uPc G u [.ref a0, va_rf x1]) (uQv G uf) 0 0 (uA G)) (hRr : DF + 1 ≤ R.frames ∧ 60 + DL ≤ R.locals) (k2 : UH → Option Nat → Int32 → Option (Option Nat × UH)) (hk2 : ∀ (u : UH) (x1 : Option Nat) (x2 : Int32), k2 u x1 x2 = some (r, uf) → ∀ (H : Heap) (locs : List Loc), uP G u H → va_S (uA G) s.heap H locs → ∀ ls : Array Slot, lv_has ls 3 [(0, va_rf (some a0)), (1, va_rf x1), (2, .int x2)] → W p l e R s m args below meth c H locs 0 0 (MQ below (uQr G r uf) args s 0 0 (uA G)) (F0 m 2 ls [])) (u : UH) (x1 : Option Nat) (x2 : Int32) (h : f_X18_does_35 N (ub G) (ug G) ro_X18_does ro_X13_by a0 k2 u x1 x2 = some (r, uf)) {H : Heap} {locs : List Loc} (hP : uP G u H) (hS : va_S (uA G) s.heap H locs) {ls : Array Slot} (hl : lv_has ls 3 [(0, va_rf (some a0)), (1, va_rf x1), (2, .int x2)]) : W p l e R s m args below meth c H locs 0 0 (MQ below (uQr G r uf) args s 0 0 (uA G)) (F0 m 35 ls []) := by
  obtain ⟨⟨hx, hb, hml, hown, hts⟩, hKK⟩ := id hC
  unfold f_X18_does_35 at h
  obtain ⟨y1, ey1⟩ : ∃ z : Int32, z = x2 + 1 := ⟨_, rfl⟩
  have h := mlet_at ey1 h
  refine lv_iinc (v := y1) (lv' := [(2, .int y1), (0, va_rf (some a0)), (1, va_rf x1)]) hx hb dX18_does_35 hl (k := 2) rfl (by rw [ey1]; rfl) (by decide) (by simp [List.filter_cons, u_cat]) (fun ls hl => ?_)
  refine lv_goto (tgt := 2) hx hb dX18_does_38 (by decide) ?_
  exact hk2 u x1 y1 h _ _ hP hS _ (lv_sub hl [1, 2, 0] rfl)
def f_X18_does_2 (N b : Nat) (g : uEnv) (ro_X18_does : UH → Nat → Option Nat → Option (Option Nat × UH)) (ro_X13_by : UH → Nat → Option Nat → Option (UH)) (a0 : Nat) : Nat → UH → Option Nat → Int32 → Option (Option Nat × UH)
  | 0, _, _, _ => none
  | n + 1, u, x1, x2 =>
    (x1).bind fun a1 =>
    if uIs u a1 18 = true then
    ucall (f_J2_size N b g u a1) fun r5 u3 =>
    if r5 ≤ x2 then
    some (some a0, u3)
    else
    (uGI u3 a0 16 7).bind fun y7 =>
    if y7 = 0 then
    if uIs u3 a1 18 = true then
    ucall (f_J2_get N b g u3 a1 x2) fun o12 u10 =>
    (o12).bind fun a13 =>
    if uIs u10 a13 10 = true ∨ uIs u10 a13 11 = true then
    (if uIs u10 a13 10 = true then f_X12_by N b g u10 a13 (some a0) else if uIs u10 a13 11 = true then ro_X13_by u10 a13 (some a0) else none).bind fun u15 =>
    f_X18_does_35 N b g ro_X18_does ro_X13_by a0 (f_X18_does_2 N b g ro_X18_does ro_X13_by a0 n) u15 (some a1) x2
    else none
    else none
    else
    f_X18_does_35 N b g ro_X18_does ro_X13_by a0 (f_X18_does_2 N b g ro_X18_does ro_X13_by a0 n) u3 (some a1) x2
    else none
set_option maxHeartbeats 4000000 in
set_option maxRecDepth 100000 in
theorem zz_X18_does_2 {G : uG} {a0 : Nat} {uf : UH} {r : Option Nat} (N : Nat) (ro_X18_does : UH → Nat → Option Nat → Option (Option Nat × UH)) (ro_X13_by : UH → Nat → Option Nat → Option (UH)) (zo_X18_does : ∀ (u : UH) (a0 : Nat) (x1 : Option Nat) (r : Option Nat) (uf : UH), ro_X18_does u a0 x1 = some (r, uf) → uf.1 = u.1 ∧ uf.2.1 = u.2.1) (zo_X13_by : ∀ (u : UH) (a0 : Nat) (x1 : Option Nat) (uf : UH), ro_X13_by u a0 x1 = some uf → uf.1 = u.1 ∧ uf.2.1 = u.2.1) : ∀ (n : Nat) (u : UH) (x1 : Option Nat) (x2 : Int32), f_X18_does_2 N (ub G) (ug G) ro_X18_does ro_X13_by a0 n u x1 x2 = some (r, uf) → uf.1 = u.1 ∧ uf.2.1 = u.2.1 := by
  intro n
  induction n with
  | zero =>
    intro u x1 x2 h
    cases h
  | succ n ih =>
    intro u x1 x2 h
    unfold f_X18_does_2 at h
    obtain ⟨a1, ha1, hha1⟩ := mbind_n h
    subst ha1
    have h := hha1
    obtain ⟨c2, h⟩ := mif_n h
    obtain ⟨r5, u3, c4, h⟩ := ucall_n h
    have zu3 := zz_J2_size N (ub G) (ug G) u a1 r5 u3 c4
    by_cases c6 : r5 ≤ x2
    · have h := mif_t c6 h
      obtain ⟨hr1, hr2⟩ := uret_n h
      subst hr2
      exact ⟨by omega, by omega⟩
    · have h := mif_f c6 h
      obtain ⟨y7, hy7, h⟩ := mbind_n h
      by_cases c8 : y7 = 0
      · have h := mif_t c8 h
        obtain ⟨c9, h⟩ := mif_n h
        obtain ⟨o12, u10, c11, h⟩ := ucall_n h
        have zu10 := zz_J2_get N (ub G) (ug G) u3 a1 x2 o12 u10 c11
        obtain ⟨a13, ha13, hha13⟩ := mbind_n h
        subst ha13
        have h := hha13
        obtain ⟨c14, h⟩ := mif_n h
        obtain ⟨u15, c16, h⟩ := mbind_n h
        have zu15 := ((Classical.em (uIs u10 a13 10 = true)).elim (fun k1 => zz_X12_by N (ub G) (ug G) u10 a13 (some a0) u15 (mif_t k1 c16)) (fun k1 => zo_X13_by u10 a13 (some a0) u15 (mif_n (mif_f k1 c16)).2))
        have hq := zz_X18_does_35 (G := G) (a0 := a0) N  ro_X18_does ro_X13_by zo_X18_does zo_X13_by (f_X18_does_2 N (ub G) (ug G) ro_X18_does ro_X13_by a0 n) ih u15 (some a1) x2 h
        exact ⟨by omega, by omega⟩
      · have h := mif_f c8 h
        have hq := zz_X18_does_35 (G := G) (a0 := a0) N  ro_X18_does ro_X13_by zo_X18_does zo_X13_by (f_X18_does_2 N (ub G) (ug G) ro_X18_does ro_X13_by a0 n) ih u3 (some a1) x2 h
        exact ⟨by omega, by omega⟩
set_option maxHeartbeats 4000000 in
set_option maxRecDepth 100000 in
theorem w_X18_does_2 {p : Program} {l : Launch} {e : Env} {R : Room} {s : State} {m : MethodId} {args : Array Value} {below : List Frame} {meth : Method} {c : Code} {G : uG} {a0 : Nat} {uf : UH} {r : Option Nat} (hC : uC p s m args meth c G RX18 cX18_does 3 (some (.object "SoftWheels$Walk"))) (hR : 6 ≤ R.frames ∧ 139 ≤ R.locals) (N : Nat) (ro_X18_does : UH → Nat → Option Nat → Option (Option Nat × UH)) (ro_X13_by : UH → Nat → Option Nat → Option (UH)) (zo_X18_does : ∀ (u : UH) (a0 : Nat) (x1 : Option Nat) (r : Option Nat) (uf : UH), ro_X18_does u a0 x1 = some (r, uf) → uf.1 = u.1 ∧ uf.2.1 = u.2.1) (zo_X13_by : ∀ (u : UH) (a0 : Nat) (x1 : Option Nat) (uf : UH), ro_X13_by u a0 x1 = some uf → uf.1 = u.1 ∧ uf.2.1 = u.2.1) {DF DL : Nat} (mo_X18_does : ∀ (u : UH) (a0 : Nat) (x1 : Option Nat) (r : Option Nat) (uf : UH), ro_X18_does u a0 x1 = some (r, uf) → Met l yX18_does (ws_ yX18_does cX18_does 3 (some (.object "SoftWheels$Walk"))) ({ frames := DF, cells := 0, slots := 0, locals := DL }) (uPc G u [.ref a0, va_rf x1]) (uQr G r uf) 0 0 (uA G)) (mo_X13_by : ∀ (u : UH) (a0 : Nat) (x1 : Option Nat) (uf : UH), ro_X13_by u a0 x1 = some uf → Met l yX13_by (ws_ yX13_by cX13_by 3 none) ({ frames := DF, cells := 0, slots := 0, locals := DL }) (uPc G u [.ref a0, va_rf x1]) (uQv G uf) 0 0 (uA G)) (hRr : DF + 1 ≤ R.frames ∧ 60 + DL ≤ R.locals) : ∀ (n : Nat) (u : UH) (x1 : Option Nat) (x2 : Int32), f_X18_does_2 N (ub G) (ug G) ro_X18_does ro_X13_by a0 n u x1 x2 = some (r, uf) → ∀ (H : Heap) (locs : List Loc), uP G u H → va_S (uA G) s.heap H locs → ∀ ls : Array Slot, lv_has ls 3 [(0, va_rf (some a0)), (1, va_rf x1), (2, .int x2)] → W p l e R s m args below meth c H locs 0 0 (MQ below (uQr G r uf) args s 0 0 (uA G)) (F0 m 2 ls []) := by
  obtain ⟨⟨hx, hb, hml, hown, hts⟩, hKK⟩ := id hC
  intro n
  induction n with
  | zero =>
    intro u x1 x2 h
    cases h
  | succ n ih =>
    intro u x1 x2 h H locs hP hS ls hl
    unfold f_X18_does_2 at h
    refine lv_iload_n hx hb dX18_does_2 rfl (lv_at hl 2 rfl) ?_
    refine u_aload_n (r := x1) hx hb dX18_does_3 rfl (lv_at hl 1 rfl) ?_
    obtain ⟨a1, ha1, hha1⟩ := mbind_n h
    subst ha1
    have h := hha1
    obtain ⟨c2, h⟩ := mif_n h
    obtain ⟨r5, u3, c4, h⟩ := ucall_n h
    have zu3 := zz_J2_size N (ub G) (ug G) u a1 r5 u3 c4
    refine u_callFi (va_runF (As := []) (rest := [.int x2]) (C := RJ2) (hC.2.1.1.1 18 _ rfl).2 hC.1 (met_J2_size l N G u a1 r5 u3 c4) (va_cwF 0 hts (lw_F q1687 q1690 q894 q102 q896) rfl rfl rfl (hC.2.1.2.2.1 _ (List.mem_of_getElem? (i := 1) rfl)) (by decide +kernel) ⟨Nat.le_trans (Nat.le_of_ble_eq_true rfl) hR.1, Nat.le_trans (Nat.le_of_ble_eq_true rfl) hR.2⟩) ⟨uPc_blind, u_rcv hC hP c2 rfl, fun U hU hW => u_pre hC hP hS hU hW⟩ rfl rfl hl.1 rfl (lv_room (Nat.le_of_ble_eq_true rfl)) dX18_does_4 ⟨Nat.zero_le _, Nat.zero_le _⟩) hS (fun H locs hP hS => ?_)
    refine lv_icmp_ge (tgt := 41) hx hb dX18_does_9 (by decide) (fun c6 => ?_) (fun c6 => ?_)
    · have h := mif_t c6 h
      refine u_aload_n (r := some a0) hx hb dX18_does_41 rfl (lv_at hl 0 rfl) ?_
      obtain ⟨hr1, hr2⟩ := uret_n h
      subst hr1
      subst hr2
      exact u_aret hC (Or.inl ⟨_, rfl⟩) hP hS dX18_does_42
    · have h := mif_f c6 h
      refine u_aload_n (r := some a0) hx hb dX18_does_12 rfl (lv_at hl 0 rfl) ?_
      obtain ⟨y7, hy7, h⟩ := mbind_n h
      refine u_get hC hP (uGI_n hy7) rfl in_X18 (by decide) q1663 (fun _ h => h) dX18_does_13 ?_
      refine lv_if_ne (tgt := 35) hx hb dX18_does_16 (by decide) (fun c8 => ?_) (fun c8 => ?_)
      · have h := mif_f c8 h
        exact w_X18_does_35 hC hR N  ro_X18_does ro_X13_by zo_X18_does zo_X13_by mo_X18_does mo_X13_by hRr (f_X18_does_2 N (ub G) (ug G) ro_X18_does ro_X13_by a0 n) ih u3 (some a1) x2 h hP hS (lv_sub hl [0, 1, 2] rfl)
      · have h := mif_t c8 h
        refine u_aload_n (r := some a1) hx hb dX18_does_19 rfl (lv_at hl 1 rfl) ?_
        refine lv_iload_n hx hb dX18_does_20 rfl (lv_at hl 2 rfl) ?_
        obtain ⟨c9, h⟩ := mif_n h
        obtain ⟨o12, u10, c11, h⟩ := ucall_n h
        have zu10 := zz_J2_get N (ub G) (ug G) u3 a1 x2 o12 u10 c11
        refine u_callFr (va_runF (As := [.int x2]) (rest := []) (C := RJ2) (hC.2.1.1.1 18 _ rfl).2 hC.1 (met_J2_get l N G u3 a1 x2 o12 u10 c11) (va_cwF 1 hts (lw_F q1694 q1697 q898 q102 q900) rfl rfl rfl (hC.2.1.2.2.1 _ (List.mem_of_getElem? (i := 2) rfl)) (by decide +kernel) ⟨Nat.le_trans (Nat.le_of_ble_eq_true rfl) hR.1, Nat.le_trans (Nat.le_of_ble_eq_true rfl) hR.2⟩) ⟨uPc_blind, u_rcv hC hP c9 rfl, fun U hU hW => u_pre hC hP hS hU hW⟩ rfl rfl hl.1 rfl (lv_room (Nat.le_of_ble_eq_true rfl)) dX18_does_21 ⟨Nat.zero_le _, Nat.zero_le _⟩) hS (fun H locs hP hS => ?_)
        obtain ⟨a13, ha13, hha13⟩ := mbind_n h
        subst ha13
        have h := hha13
        obtain ⟨c14, h⟩ := mif_n h
        refine u_castY2 hC hP c14 rfl rfl q1705 q1721 q1700 dX18_does_26 ?_
        refine u_aload_n (r := some a0) hx hb dX18_does_29 rfl (lv_at hl 0 rfl) ?_
        obtain ⟨u15, c16, h⟩ := mbind_n h
        have zu15 := ((Classical.em (uIs u10 a13 10 = true)).elim (fun k1 => zz_X12_by N (ub G) (ug G) u10 a13 (some a0) u15 (mif_t k1 c16)) (fun k1 => zo_X13_by u10 a13 (some a0) u15 (mif_n (mif_f k1 c16)).2))
        refine u_callFv (((Classical.em (uIs u10 a13 10 = true)).elim (fun k1 => va_runF (As := [va_rf (some a0)]) (rest := []) (C := RX12) (hC.2.1.1.1 10 _ rfl).2 hC.1 (met_X12_by l N G u10 a13 (some a0) u15 (mif_t k1 c16)) (va_cwF 1 hts (lw_F q1702 q1706 q1708 q129 q1710) rfl rfl rfl (hC.2.1.2.2.1 _ (List.mem_of_getElem? (i := 3) rfl)) (by decide +kernel) ⟨Nat.le_trans (Nat.le_of_ble_eq_true rfl) hR.1, Nat.le_trans (Nat.le_of_ble_eq_true rfl) hR.2⟩) ⟨uPc_blind, u_rcv hC hP k1 rfl, fun U hU hW => u_pre hC hP hS hU hW⟩ rfl rfl hl.1 rfl (lv_room (Nat.le_of_ble_eq_true rfl)) dX18_does_30 ⟨Nat.zero_le _, Nat.zero_le _⟩) (fun k1 => va_runF (As := [va_rf (some a0)]) (rest := []) (C := RX13) (hC.2.1.1.1 11 _ rfl).2 hC.1 (mo_X13_by u10 a13 (some a0) u15 (mif_n (mif_f k1 c16)).2) (va_cwF 1 hts (lw_F q1702 q1722 q1724 q130 q1726) rfl rfl rfl (hC.2.1.2.2.1 _ (List.mem_of_getElem? (i := 4) rfl)) (by decide +kernel) ⟨hRr.1, Nat.le_trans (Nat.add_le_add_right (Nat.le_of_ble_eq_true rfl) DL) hRr.2⟩) ⟨uPc_blind, u_rcv hC hP (mif_n (mif_f k1 c16)).1 rfl, fun U hU hW => u_pre hC hP hS hU hW⟩ rfl rfl hl.1 rfl (lv_room (Nat.le_of_ble_eq_true rfl)) dX18_does_30 ⟨Nat.zero_le _, Nat.zero_le _⟩))) hS (fun H locs hP hS => ?_)
        exact w_X18_does_35 hC hR N  ro_X18_does ro_X13_by zo_X18_does zo_X13_by mo_X18_does mo_X13_by hRr (f_X18_does_2 N (ub G) (ug G) ro_X18_does ro_X13_by a0 n) ih u15 (some a1) x2 h hP hS (lv_sub hl [0, 1, 2] rfl)
def fo_X18_does (N b : Nat) (g : uEnv) (ro_X18_does : UH → Nat → Option Nat → Option (Option Nat × UH)) (ro_X13_by : UH → Nat → Option Nat → Option (UH)) (u : UH) (a0 : Nat) (x1 : Option Nat) : Option (Option Nat × UH) :=
    f_X18_does_2 N b g ro_X18_does ro_X13_by a0 N u x1 0
set_option maxHeartbeats 4000000 in
set_option maxRecDepth 100000 in
theorem zz_X18_does_0 {G : uG} {a0 : Nat} {uf : UH} {r : Option Nat} (N : Nat) (ro_X18_does : UH → Nat → Option Nat → Option (Option Nat × UH)) (ro_X13_by : UH → Nat → Option Nat → Option (UH)) (zo_X18_does : ∀ (u : UH) (a0 : Nat) (x1 : Option Nat) (r : Option Nat) (uf : UH), ro_X18_does u a0 x1 = some (r, uf) → uf.1 = u.1 ∧ uf.2.1 = u.2.1) (zo_X13_by : ∀ (u : UH) (a0 : Nat) (x1 : Option Nat) (uf : UH), ro_X13_by u a0 x1 = some uf → uf.1 = u.1 ∧ uf.2.1 = u.2.1) (u : UH) (x1 : Option Nat) (h : fo_X18_does N (ub G) (ug G) ro_X18_does ro_X13_by u a0 x1 = some (r, uf)) : uf.1 = u.1 ∧ uf.2.1 = u.2.1 := by
  unfold fo_X18_does at h
  have hq := zz_X18_does_2 (G := G) (a0 := a0) N  ro_X18_does ro_X13_by zo_X18_does zo_X13_by N u x1 0 h
  exact ⟨by omega, by omega⟩
set_option maxHeartbeats 4000000 in
set_option maxRecDepth 100000 in
theorem w_X18_does_0 {p : Program} {l : Launch} {e : Env} {R : Room} {s : State} {m : MethodId} {args : Array Value} {below : List Frame} {meth : Method} {c : Code} {G : uG} {a0 : Nat} {uf : UH} {r : Option Nat} (hC : uC p s m args meth c G RX18 cX18_does 3 (some (.object "SoftWheels$Walk"))) (hR : 6 ≤ R.frames ∧ 139 ≤ R.locals) (N : Nat) (ro_X18_does : UH → Nat → Option Nat → Option (Option Nat × UH)) (ro_X13_by : UH → Nat → Option Nat → Option (UH)) (zo_X18_does : ∀ (u : UH) (a0 : Nat) (x1 : Option Nat) (r : Option Nat) (uf : UH), ro_X18_does u a0 x1 = some (r, uf) → uf.1 = u.1 ∧ uf.2.1 = u.2.1) (zo_X13_by : ∀ (u : UH) (a0 : Nat) (x1 : Option Nat) (uf : UH), ro_X13_by u a0 x1 = some uf → uf.1 = u.1 ∧ uf.2.1 = u.2.1) {DF DL : Nat} (mo_X18_does : ∀ (u : UH) (a0 : Nat) (x1 : Option Nat) (r : Option Nat) (uf : UH), ro_X18_does u a0 x1 = some (r, uf) → Met l yX18_does (ws_ yX18_does cX18_does 3 (some (.object "SoftWheels$Walk"))) ({ frames := DF, cells := 0, slots := 0, locals := DL }) (uPc G u [.ref a0, va_rf x1]) (uQr G r uf) 0 0 (uA G)) (mo_X13_by : ∀ (u : UH) (a0 : Nat) (x1 : Option Nat) (uf : UH), ro_X13_by u a0 x1 = some uf → Met l yX13_by (ws_ yX13_by cX13_by 3 none) ({ frames := DF, cells := 0, slots := 0, locals := DL }) (uPc G u [.ref a0, va_rf x1]) (uQv G uf) 0 0 (uA G)) (hRr : DF + 1 ≤ R.frames ∧ 60 + DL ≤ R.locals) (u : UH) (x1 : Option Nat) (h : fo_X18_does N (ub G) (ug G) ro_X18_does ro_X13_by u a0 x1 = some (r, uf)) {H : Heap} {locs : List Loc} (hP : uP G u H) (hS : va_S (uA G) s.heap H locs) {ls : Array Slot} (hl : lv_has ls 3 [(0, va_rf (some a0)), (1, va_rf x1)]) : W p l e R s m args below meth c H locs 0 0 (MQ below (uQr G r uf) args s 0 0 (uA G)) (F0 m 0 ls []) := by
  obtain ⟨⟨hx, hb, hml, hown, hts⟩, hKK⟩ := id hC
  unfold fo_X18_does at h
  refine lv_iconst (v := 0) hx hb dX18_does_0 (by decide) ?_
  refine lv_istore_n (i := 2) (lv' := [(2, .int 0), (0, va_rf (some a0)), (1, va_rf x1)]) hx hb dX18_does_1 rfl hl (by decide) (by simp [List.filter_cons, u_cat]) (fun ls hl => ?_)
  exact w_X18_does_2 hC hR N  ro_X18_does ro_X13_by zo_X18_does zo_X13_by mo_X18_does mo_X13_by hRr N u x1 0 h _ _ hP hS _ (lv_sub hl [1, 2, 0] rfl)
def f_X13_by_29 (N b : Nat) (g : uEnv) (ro_X18_does : UH → Nat → Option Nat → Option (Option Nat × UH)) (ro_X13_by : UH → Nat → Option Nat → Option (UH)) (a0 : Nat) (u : UH) (s0 : Option Nat) (s1 : Option Nat) : Option (UH) :=
    (s1).bind fun a1 =>
    if uIs u a1 16 = true then
    ucall (ro_X18_does u a1 s0) fun o5 u3 =>
    some u3
    else none
set_option maxHeartbeats 4000000 in
set_option maxRecDepth 100000 in
theorem zz_X13_by_29 {G : uG} {a0 : Nat} {uf : UH} (N : Nat) (ro_X18_does : UH → Nat → Option Nat → Option (Option Nat × UH)) (ro_X13_by : UH → Nat → Option Nat → Option (UH)) (zo_X18_does : ∀ (u : UH) (a0 : Nat) (x1 : Option Nat) (r : Option Nat) (uf : UH), ro_X18_does u a0 x1 = some (r, uf) → uf.1 = u.1 ∧ uf.2.1 = u.2.1) (zo_X13_by : ∀ (u : UH) (a0 : Nat) (x1 : Option Nat) (uf : UH), ro_X13_by u a0 x1 = some uf → uf.1 = u.1 ∧ uf.2.1 = u.2.1) (u : UH) (s0 : Option Nat) (s1 : Option Nat) (h : f_X13_by_29 N (ub G) (ug G) ro_X18_does ro_X13_by a0 u s0 s1 = some uf) : uf.1 = u.1 ∧ uf.2.1 = u.2.1 := by
  unfold f_X13_by_29 at h
  obtain ⟨a1, ha1, hha1⟩ := mbind_n h
  subst ha1
  have h := hha1
  obtain ⟨c2, h⟩ := mif_n h
  obtain ⟨o5, u3, c4, h⟩ := ucall_n h
  have zu3 := zo_X18_does u a1 s0 o5 u3 c4
  cases h
  exact ⟨by omega, by omega⟩
set_option maxHeartbeats 4000000 in
set_option maxRecDepth 100000 in
theorem w_X13_by_29 {p : Program} {l : Launch} {e : Env} {R : Room} {s : State} {m : MethodId} {args : Array Value} {below : List Frame} {meth : Method} {c : Code} {G : uG} {a0 : Nat} {uf : UH} (hC : uC p s m args meth c G RX13 cX13_by 3 none) (hR : 1 ≤ R.frames ∧ 22 ≤ R.locals) (N : Nat) (ro_X18_does : UH → Nat → Option Nat → Option (Option Nat × UH)) (ro_X13_by : UH → Nat → Option Nat → Option (UH)) (zo_X18_does : ∀ (u : UH) (a0 : Nat) (x1 : Option Nat) (r : Option Nat) (uf : UH), ro_X18_does u a0 x1 = some (r, uf) → uf.1 = u.1 ∧ uf.2.1 = u.2.1) (zo_X13_by : ∀ (u : UH) (a0 : Nat) (x1 : Option Nat) (uf : UH), ro_X13_by u a0 x1 = some uf → uf.1 = u.1 ∧ uf.2.1 = u.2.1) {DF DL : Nat} (mo_X18_does : ∀ (u : UH) (a0 : Nat) (x1 : Option Nat) (r : Option Nat) (uf : UH), ro_X18_does u a0 x1 = some (r, uf) → Met l yX18_does (ws_ yX18_does cX18_does 3 (some (.object "SoftWheels$Walk"))) ({ frames := DF, cells := 0, slots := 0, locals := DL }) (uPc G u [.ref a0, va_rf x1]) (uQr G r uf) 0 0 (uA G)) (mo_X13_by : ∀ (u : UH) (a0 : Nat) (x1 : Option Nat) (uf : UH), ro_X13_by u a0 x1 = some uf → Met l yX13_by (ws_ yX13_by cX13_by 3 none) ({ frames := DF, cells := 0, slots := 0, locals := DL }) (uPc G u [.ref a0, va_rf x1]) (uQv G uf) 0 0 (uA G)) (hRr : DF + 1 ≤ R.frames ∧ 60 + DL ≤ R.locals) (u : UH) (s0 : Option Nat) (s1 : Option Nat) (h : f_X13_by_29 N (ub G) (ug G) ro_X18_does ro_X13_by a0 u s0 s1 = some uf) {H : Heap} {locs : List Loc} (hP : uP G u H) (hS : va_S (uA G) s.heap H locs) {ls : Array Slot} (hl : lv_has ls 3 []) : W p l e R s m args below meth c H locs 0 0 (MQ below (uQv G uf) args s 0 0 (uA G)) (F0 m 29 ls [va_rf s0, va_rf s1]) := by
  obtain ⟨⟨hx, hb, hml, hown, hts⟩, hKK⟩ := id hC
  unfold f_X13_by_29 at h
  obtain ⟨a1, ha1, hha1⟩ := mbind_n h
  subst ha1
  have h := hha1
  obtain ⟨c2, h⟩ := mif_n h
  obtain ⟨o5, u3, c4, h⟩ := ucall_n h
  have zu3 := zo_X18_does u a1 s0 o5 u3 c4
  refine u_callr (va_runV (As := [va_rf s0]) (rest := []) hC.1 (mo_X18_does u a1 s0 o5 u3 c4) (cwV 1 hts (lw_V q1731 q1683 q1684 q140 q1685) rfl rfl rfl (by decide +kernel) ⟨hRr.1, Nat.le_trans (Nat.add_le_add_right (Nat.le_of_ble_eq_true rfl) DL) hRr.2⟩) ⟨uPc_blind, u_rcv hC hP c2 rfl, fun U hU hW => u_pre hC hP hS hU hW⟩ rfl rfl hl.1 rfl (lv_room (Nat.le_of_ble_eq_true rfl)) dX13_by_29 ⟨Nat.zero_le _, Nat.zero_le _⟩) hS (fun H locs hP hS => ?_)
  refine lv_pop hx hb dX13_by_32 (u_cat _) ?_
  cases h
  exact u_vret hC hP hS dX13_by_33
def fo_X13_by (N b : Nat) (g : uEnv) (ro_X18_does : UH → Nat → Option Nat → Option (Option Nat × UH)) (ro_X13_by : UH → Nat → Option Nat → Option (UH)) (u : UH) (a0 : Nat) (x1 : Option Nat) : Option (UH) :=
    (uGI u a0 11 0).bind fun y1 =>
    (uGI u a0 11 1).bind fun y2 =>
    (x1).bind fun a3 =>
    if uIs u a3 16 = true then
    ucall (f_X18_is N b g u a3 y1 y2) fun r7 u5 =>
    if r7 = 0 then
    (uGR u5 a0 11 3).bind fun o9 =>
    f_X13_by_29 N b g ro_X18_does ro_X13_by a0 u5 o9 (some a3)
    else
    (uGR u5 a0 11 2).bind fun o10 =>
    f_X13_by_29 N b g ro_X18_does ro_X13_by a0 u5 o10 (some a3)
    else none
set_option maxHeartbeats 4000000 in
set_option maxRecDepth 100000 in
theorem zz_X13_by_0 {G : uG} {a0 : Nat} {uf : UH} (N : Nat) (ro_X18_does : UH → Nat → Option Nat → Option (Option Nat × UH)) (ro_X13_by : UH → Nat → Option Nat → Option (UH)) (zo_X18_does : ∀ (u : UH) (a0 : Nat) (x1 : Option Nat) (r : Option Nat) (uf : UH), ro_X18_does u a0 x1 = some (r, uf) → uf.1 = u.1 ∧ uf.2.1 = u.2.1) (zo_X13_by : ∀ (u : UH) (a0 : Nat) (x1 : Option Nat) (uf : UH), ro_X13_by u a0 x1 = some uf → uf.1 = u.1 ∧ uf.2.1 = u.2.1) (u : UH) (x1 : Option Nat) (h : fo_X13_by N (ub G) (ug G) ro_X18_does ro_X13_by u a0 x1 = some uf) : uf.1 = u.1 ∧ uf.2.1 = u.2.1 := by
  unfold fo_X13_by at h
  obtain ⟨y1, hy1, h⟩ := mbind_n h
  obtain ⟨y2, hy2, h⟩ := mbind_n h
  obtain ⟨a3, ha3, hha3⟩ := mbind_n h
  subst ha3
  have h := hha3
  obtain ⟨c4, h⟩ := mif_n h
  obtain ⟨r7, u5, c6, h⟩ := ucall_n h
  have zu5 := zz_X18_is N (ub G) (ug G) u a3 y1 y2 r7 u5 c6
  by_cases c8 : r7 = 0
  · have h := mif_t c8 h
    obtain ⟨o9, ho9, h⟩ := mbind_n h
    have hq := zz_X13_by_29 (G := G) (a0 := a0) N  ro_X18_does ro_X13_by zo_X18_does zo_X13_by u5 o9 (some a3) h
    exact ⟨by omega, by omega⟩
  · have h := mif_f c8 h
    obtain ⟨o10, ho10, h⟩ := mbind_n h
    have hq := zz_X13_by_29 (G := G) (a0 := a0) N  ro_X18_does ro_X13_by zo_X18_does zo_X13_by u5 o10 (some a3) h
    exact ⟨by omega, by omega⟩
set_option maxHeartbeats 4000000 in
set_option maxRecDepth 100000 in
theorem w_X13_by_0 {p : Program} {l : Launch} {e : Env} {R : Room} {s : State} {m : MethodId} {args : Array Value} {below : List Frame} {meth : Method} {c : Code} {G : uG} {a0 : Nat} {uf : UH} (hC : uC p s m args meth c G RX13 cX13_by 3 none) (hR : 1 ≤ R.frames ∧ 22 ≤ R.locals) (N : Nat) (ro_X18_does : UH → Nat → Option Nat → Option (Option Nat × UH)) (ro_X13_by : UH → Nat → Option Nat → Option (UH)) (zo_X18_does : ∀ (u : UH) (a0 : Nat) (x1 : Option Nat) (r : Option Nat) (uf : UH), ro_X18_does u a0 x1 = some (r, uf) → uf.1 = u.1 ∧ uf.2.1 = u.2.1) (zo_X13_by : ∀ (u : UH) (a0 : Nat) (x1 : Option Nat) (uf : UH), ro_X13_by u a0 x1 = some uf → uf.1 = u.1 ∧ uf.2.1 = u.2.1) {DF DL : Nat} (mo_X18_does : ∀ (u : UH) (a0 : Nat) (x1 : Option Nat) (r : Option Nat) (uf : UH), ro_X18_does u a0 x1 = some (r, uf) → Met l yX18_does (ws_ yX18_does cX18_does 3 (some (.object "SoftWheels$Walk"))) ({ frames := DF, cells := 0, slots := 0, locals := DL }) (uPc G u [.ref a0, va_rf x1]) (uQr G r uf) 0 0 (uA G)) (mo_X13_by : ∀ (u : UH) (a0 : Nat) (x1 : Option Nat) (uf : UH), ro_X13_by u a0 x1 = some uf → Met l yX13_by (ws_ yX13_by cX13_by 3 none) ({ frames := DF, cells := 0, slots := 0, locals := DL }) (uPc G u [.ref a0, va_rf x1]) (uQv G uf) 0 0 (uA G)) (hRr : DF + 1 ≤ R.frames ∧ 60 + DL ≤ R.locals) (u : UH) (x1 : Option Nat) (h : fo_X13_by N (ub G) (ug G) ro_X18_does ro_X13_by u a0 x1 = some uf) {H : Heap} {locs : List Loc} (hP : uP G u H) (hS : va_S (uA G) s.heap H locs) {ls : Array Slot} (hl : lv_has ls 3 [(0, va_rf (some a0)), (1, va_rf x1)]) : W p l e R s m args below meth c H locs 0 0 (MQ below (uQv G uf) args s 0 0 (uA G)) (F0 m 0 ls []) := by
  obtain ⟨⟨hx, hb, hml, hown, hts⟩, hKK⟩ := id hC
  unfold fo_X13_by at h
  refine u_aload_n (r := x1) hx hb dX13_by_0 rfl (lv_at hl 1 rfl) ?_
  refine u_aload_n (r := some a0) hx hb dX13_by_1 rfl (lv_at hl 0 rfl) ?_
  obtain ⟨y1, hy1, h⟩ := mbind_n h
  refine u_get hC hP (uGI_n hy1) rfl in_X13 (by decide) q1615 (fun _ h => h) dX13_by_2 ?_
  refine u_aload_n (r := some a0) hx hb dX13_by_5 rfl (lv_at hl 0 rfl) ?_
  obtain ⟨y2, hy2, h⟩ := mbind_n h
  refine u_get hC hP (uGI_n hy2) rfl in_X13 (by decide) q1616 (fun _ h => h) dX13_by_6 ?_
  obtain ⟨a3, ha3, hha3⟩ := mbind_n h
  subst ha3
  have h := hha3
  obtain ⟨c4, h⟩ := mif_n h
  obtain ⟨r7, u5, c6, h⟩ := ucall_n h
  have zu5 := zz_X18_is N (ub G) (ug G) u a3 y1 y2 r7 u5 c6
  refine u_calli (va_runV (As := [.int y1, .int y2]) (rest := []) hC.1 (met_X18_is l N G u a3 y1 y2 r7 u5 c6) (cwV 2 hts (lw_V q1727 q1728 q1729 q140 q1730) rfl rfl rfl (by decide +kernel) ⟨Nat.le_trans (Nat.le_of_ble_eq_true rfl) hR.1, Nat.le_trans (Nat.le_of_ble_eq_true rfl) hR.2⟩) ⟨uPc_blind, u_rcv hC hP c4 rfl, fun U hU hW => u_pre hC hP hS hU hW⟩ rfl rfl hl.1 rfl (lv_room (Nat.le_of_ble_eq_true rfl)) dX13_by_9 ⟨Nat.zero_le _, Nat.zero_le _⟩) hS (fun H locs hP hS => ?_)
  refine lv_istore_n (i := 2) (lv' := [(2, .int r7), (0, va_rf (some a0)), (1, va_rf (some a3))]) hx hb dX13_by_12 rfl hl (by decide) rfl (fun ls hl => ?_)
  refine u_aload_n (r := some a3) hx hb dX13_by_13 rfl (lv_at hl 2 rfl) ?_
  refine lv_iload_n hx hb dX13_by_14 rfl (lv_at hl 0 rfl) ?_
  refine lv_if_eq (tgt := 25) hx hb dX13_by_15 (by decide) (fun c8 => ?_) (fun c8 => ?_)
  · have h := mif_t c8 h
    refine u_aload_n (r := some a0) hx hb dX13_by_25 rfl (lv_at hl 1 rfl) ?_
    obtain ⟨o9, ho9, h⟩ := mbind_n h
    refine u_get hC hP (uGR_n ho9) rfl in_X13 (by decide) q1618 (fun _ h => h) dX13_by_26 ?_
    exact w_X13_by_29 hC hR N  ro_X18_does ro_X13_by zo_X18_does zo_X13_by mo_X18_does mo_X13_by hRr u5 o9 (some a3) h hP hS (lv_sub hl [] rfl)
  · have h := mif_f c8 h
    refine u_aload_n (r := some a0) hx hb dX13_by_18 rfl (lv_at hl 1 rfl) ?_
    obtain ⟨o10, ho10, h⟩ := mbind_n h
    refine u_get hC hP (uGR_n ho10) rfl in_X13 (by decide) q1617 (fun _ h => h) dX13_by_19 ?_
    refine lv_goto (tgt := 29) hx hb dX13_by_22 (by decide) ?_
    exact w_X13_by_29 hC hR N  ro_X18_does ro_X13_by zo_X18_does zo_X13_by mo_X18_does mo_X13_by hRr u5 o10 (some a3) h hP hS (lv_sub hl [] rfl)
def rec_walk (N b : Nat) (g : uEnv) : Nat → (UH → Nat → Option Nat → Option (Option Nat × UH)) × (UH → Nat → Option Nat → Option (UH))
  | 0 => (fun _ _ _ => none, fun _ _ _ => none)
  | d + 1 => (fun u a0 x1 => fo_X18_does N b g ((rec_walk N b g d).1) ((rec_walk N b g d).2) u a0 x1, fun u a0 x1 => fo_X13_by N b g ((rec_walk N b g d).1) ((rec_walk N b g d).2) u a0 x1)
theorem recz_walk (G : uG) (N : Nat) : ∀ d : Nat, (∀ (u : UH) (a0 : Nat) (x1 : Option Nat) (r : Option Nat) (uf : UH), ((rec_walk N (ub G) (ug G) d).1) u a0 x1 = some (r, uf) → uf.1 = u.1 ∧ uf.2.1 = u.2.1) ∧ (∀ (u : UH) (a0 : Nat) (x1 : Option Nat) (uf : UH), ((rec_walk N (ub G) (ug G) d).2) u a0 x1 = some uf → uf.1 = u.1 ∧ uf.2.1 = u.2.1) := by
  intro d
  induction d with
  | zero => exact ⟨(by intro u a0 x1 r uf h; cases h), (by intro u a0 x1 uf h; cases h)⟩
  | succ d ih =>
    exact ⟨(by intro u a0 x1 r uf h; exact zz_X18_does_0 (G := G) (a0 := a0) N _ _ ih.1 ih.2 u x1 h), (by intro u a0 x1 uf h; exact zz_X13_by_0 (G := G) (a0 := a0) N _ _ ih.1 ih.2 u x1 h)⟩
set_option maxHeartbeats 4000000 in
set_option maxRecDepth 100000 in
theorem recm_walk (l : Launch) (G : uG) (N : Nat) : ∀ d : Nat, (∀ (u : UH) (a0 : Nat) (x1 : Option Nat) (r : Option Nat) (uf : UH), ((rec_walk N (ub G) (ug G) d).1) u a0 x1 = some (r, uf) → Met l yX18_does (ws_ yX18_does cX18_does 3 (some (.object "SoftWheels$Walk"))) ({ frames := 6 + d, cells := 0, slots := 0, locals := 139 + 60 * d }) (uPc G u [.ref a0, va_rf x1]) (uQr G r uf) 0 0 (uA G)) ∧ (∀ (u : UH) (a0 : Nat) (x1 : Option Nat) (uf : UH), ((rec_walk N (ub G) (ug G) d).2) u a0 x1 = some uf → Met l yX13_by (ws_ yX13_by cX13_by 3 none) ({ frames := 6 + d, cells := 0, slots := 0, locals := 139 + 60 * d }) (uPc G u [.ref a0, va_rf x1]) (uQv G uf) 0 0 (uA G)) := by
  intro d
  induction d with
  | zero => exact ⟨(by intro u a0 x1 r uf h; cases h), (by intro u a0 x1 uf h; cases h)⟩
  | succ d ih =>
    have iz := recz_walk G N d
    refine ⟨?_, ?_⟩
    · intro u a0 x1 r uf h
      rcases x1 with _ | x1 <;> exact u_met (own := RX18) (by decide +kernel) rfl (Nat.le_of_ble_eq_true rfl) (fun hC hn hsz ls hl hP => w_X18_does_0 hC ⟨by show _ ≤ _ + _; omega, by show _ ≤ _ + _; omega⟩ N _ _ iz.1 iz.2 ih.1 ih.2 ⟨by show _ ≤ _ + _; omega, by show _ ≤ _ + _; omega⟩ u _ h hP va_S.rf hl)
    · intro u a0 x1 uf h
      rcases x1 with _ | x1 <;> exact u_met (own := RX13) (by decide +kernel) rfl (Nat.le_of_ble_eq_true rfl) (fun hC hn hsz ls hl hP => w_X13_by_0 hC ⟨by show _ ≤ _ + _; omega, by show _ ≤ _ + _; omega⟩ N _ _ iz.1 iz.2 ih.1 ih.2 ⟨by show _ ≤ _ + _; omega, by show _ ≤ _ + _; omega⟩ u _ h hP va_S.rf hl)
def f_X18_does (N b : Nat) (g : uEnv) (u : UH) (a0 : Nat) (x1 : Option Nat) : Option (Option Nat × UH) := ((rec_walk N b g 20).1) u a0 x1
theorem zz_X18_does (N b : Nat) (g : uEnv) (u : UH) (a0 : Nat) (x1 : Option Nat) (r : Option Nat) (uf : UH) (h : f_X18_does N b g u a0 x1 = some (r, uf)) : uf.1 = u.1 ∧ uf.2.1 = u.2.1 := ((recz_walk ((fun _ => 0, fun _ _ => 0), fun _ => 0, b, g) N 20).1) u a0 x1 r uf h
theorem met_X18_does (l : Launch) (N : Nat) (G : uG) (u : UH) (a0 : Nat) (x1 : Option Nat) (r : Option Nat) (uf : UH) (h : f_X18_does N (ub G) (ug G) u a0 x1 = some (r, uf)) : Met l yX18_does (ws_ yX18_does cX18_does 3 (some (.object "SoftWheels$Walk"))) ({ frames := 26, cells := 0, slots := 0, locals := 1339 }) (uPc G u [.ref a0, va_rf x1]) (uQr G r uf) 0 0 (uA G) := ((recm_walk l G N 20).1) u a0 x1 r uf h
def f_X13_by (N b : Nat) (g : uEnv) (u : UH) (a0 : Nat) (x1 : Option Nat) : Option (UH) := ((rec_walk N b g 20).2) u a0 x1
theorem zz_X13_by (N b : Nat) (g : uEnv) (u : UH) (a0 : Nat) (x1 : Option Nat) (uf : UH) (h : f_X13_by N b g u a0 x1 = some uf) : uf.1 = u.1 ∧ uf.2.1 = u.2.1 := ((recz_walk ((fun _ => 0, fun _ _ => 0), fun _ => 0, b, g) N 20).2) u a0 x1 uf h
theorem met_X13_by (l : Launch) (N : Nat) (G : uG) (u : UH) (a0 : Nat) (x1 : Option Nat) (uf : UH) (h : f_X13_by N (ub G) (ug G) u a0 x1 = some uf) : Met l yX13_by (ws_ yX13_by cX13_by 3 none) ({ frames := 26, cells := 0, slots := 0, locals := 1339 }) (uPc G u [.ref a0, va_rf x1]) (uQv G uf) 0 0 (uA G) := ((recm_walk l G N 20).2) u a0 x1 uf h
def f_X2_seen_98 (N b : Nat) (g : uEnv) (ro_X2_seen : UH → Nat → Int32 → Int32 → Int32 → Option (Int64 × UH)) (ro_X2_of : UH → Nat → Int32 → Int32 → Option (Int64 × UH)) (ro_X2_solve : UH → Nat → Int32 → Option (UH)) (a0 : Nat) (k40 : UH → Int32 → Int32 → Int32 → Int32 → Option Nat → Int64 → Int32 → Option (Int64 × UH)) (u : UH) (x1 : Int32) (x2 : Int32) (x3 : Int32) (x4 : Int32) (x5 : Option Nat) (x6 : Int64) (x8 : Int32) : Option (Int64 × UH) :=
    mlet (x8 + 1) fun y1 =>
    k40 u x1 x2 x3 x4 x5 x6 y1
set_option maxHeartbeats 4000000 in
set_option maxRecDepth 100000 in
theorem zz_X2_seen_98 {G : uG} {a0 : Nat} {uf : UH} {r : Int64} (N : Nat) (ro_X2_seen : UH → Nat → Int32 → Int32 → Int32 → Option (Int64 × UH)) (ro_X2_of : UH → Nat → Int32 → Int32 → Option (Int64 × UH)) (ro_X2_solve : UH → Nat → Int32 → Option (UH)) (zo_X2_seen : ∀ (u : UH) (a0 : Nat) (x1 : Int32) (x2 : Int32) (x3 : Int32) (r : Int64) (uf : UH), ro_X2_seen u a0 x1 x2 x3 = some (r, uf) → uf.1 = u.1 ∧ uf.2.1 = u.2.1) (zo_X2_of : ∀ (u : UH) (a0 : Nat) (x1 : Int32) (x2 : Int32) (r : Int64) (uf : UH), ro_X2_of u a0 x1 x2 = some (r, uf) → uf.1 = u.1 ∧ uf.2.1 = u.2.1) (zo_X2_solve : ∀ (u : UH) (a0 : Nat) (x1 : Int32) (uf : UH), ro_X2_solve u a0 x1 = some uf → uf.1 = u.1 ∧ uf.2.1 = u.2.1) (k40 : UH → Int32 → Int32 → Int32 → Int32 → Option Nat → Int64 → Int32 → Option (Int64 × UH)) (hk40 : ∀ (u : UH) (x1 : Int32) (x2 : Int32) (x3 : Int32) (x4 : Int32) (x5 : Option Nat) (x6 : Int64) (x8 : Int32), k40 u x1 x2 x3 x4 x5 x6 x8 = some (r, uf) → uf.1 = u.1 ∧ uf.2.1 = u.2.1) (u : UH) (x1 : Int32) (x2 : Int32) (x3 : Int32) (x4 : Int32) (x5 : Option Nat) (x6 : Int64) (x8 : Int32) (h : f_X2_seen_98 N (ub G) (ug G) ro_X2_seen ro_X2_of ro_X2_solve a0 k40 u x1 x2 x3 x4 x5 x6 x8 = some (r, uf)) : uf.1 = u.1 ∧ uf.2.1 = u.2.1 := by
  unfold f_X2_seen_98 at h
  obtain ⟨y1, ey1⟩ : ∃ z : Int32, z = x8 + 1 := ⟨_, rfl⟩
  have h := mlet_at ey1 h
  have hq := hk40 u x1 x2 x3 x4 x5 x6 y1 h
  exact ⟨by omega, by omega⟩
set_option maxHeartbeats 4000000 in
set_option maxRecDepth 100000 in
theorem w_X2_seen_98 {p : Program} {l : Launch} {e : Env} {R : Room} {s : State} {m : MethodId} {args : Array Value} {below : List Frame} {meth : Method} {c : Code} {G : uG} {a0 : Nat} {uf : UH} {r : Int64} (hC : uC p s m args meth c G RX2 cX2_seen 9 (some .long)) (hR : 4 ≤ R.frames ∧ 89 ≤ R.locals) (N : Nat) (ro_X2_seen : UH → Nat → Int32 → Int32 → Int32 → Option (Int64 × UH)) (ro_X2_of : UH → Nat → Int32 → Int32 → Option (Int64 × UH)) (ro_X2_solve : UH → Nat → Int32 → Option (UH)) (zo_X2_seen : ∀ (u : UH) (a0 : Nat) (x1 : Int32) (x2 : Int32) (x3 : Int32) (r : Int64) (uf : UH), ro_X2_seen u a0 x1 x2 x3 = some (r, uf) → uf.1 = u.1 ∧ uf.2.1 = u.2.1) (zo_X2_of : ∀ (u : UH) (a0 : Nat) (x1 : Int32) (x2 : Int32) (r : Int64) (uf : UH), ro_X2_of u a0 x1 x2 = some (r, uf) → uf.1 = u.1 ∧ uf.2.1 = u.2.1) (zo_X2_solve : ∀ (u : UH) (a0 : Nat) (x1 : Int32) (uf : UH), ro_X2_solve u a0 x1 = some uf → uf.1 = u.1 ∧ uf.2.1 = u.2.1) {DF DL : Nat} (mo_X2_seen : ∀ (u : UH) (a0 : Nat) (x1 : Int32) (x2 : Int32) (x3 : Int32) (r : Int64) (uf : UH), ro_X2_seen u a0 x1 x2 x3 = some (r, uf) → Met l yX2_seen (ws_ yX2_seen cX2_seen 9 (some .long)) ({ frames := DF, cells := 0, slots := 0, locals := DL }) (uPc G u [.ref a0, .int x1, .int x2, .int x3]) (uQl G r uf) 0 0 (uA G)) (mo_X2_of : ∀ (u : UH) (a0 : Nat) (x1 : Int32) (x2 : Int32) (r : Int64) (uf : UH), ro_X2_of u a0 x1 x2 = some (r, uf) → Met l yX2_of (ws_ yX2_of cX2_of 3 (some .long)) ({ frames := DF, cells := 0, slots := 0, locals := DL }) (uPc G u [.ref a0, .int x1, .int x2]) (uQl G r uf) 0 0 (uA G)) (mo_X2_solve : ∀ (u : UH) (a0 : Nat) (x1 : Int32) (uf : UH), ro_X2_solve u a0 x1 = some uf → Met l yX2_solve (ws_ yX2_solve cX2_solve 14 none) ({ frames := DF, cells := 0, slots := 0, locals := DL }) (uPc G u [.ref a0, .int x1]) (uQv G uf) 0 0 (uA G)) (hRr : DF + 1 ≤ R.frames ∧ 60 + DL ≤ R.locals) (k40 : UH → Int32 → Int32 → Int32 → Int32 → Option Nat → Int64 → Int32 → Option (Int64 × UH)) (hk40 : ∀ (u : UH) (x1 : Int32) (x2 : Int32) (x3 : Int32) (x4 : Int32) (x5 : Option Nat) (x6 : Int64) (x8 : Int32), k40 u x1 x2 x3 x4 x5 x6 x8 = some (r, uf) → ∀ (H : Heap) (locs : List Loc), uP G u H → va_S (uA G) s.heap H locs → ∀ ls : Array Slot, lv_has ls 9 [(0, va_rf (some a0)), (1, .int x1), (2, .int x2), (3, .int x3), (4, .int x4), (5, va_rf x5), (6, .long x6), (8, .int x8)] → W p l e R s m args below meth c H locs 0 0 (MQ below (uQl G r uf) args s 0 0 (uA G)) (F0 m 40 ls [])) (u : UH) (x1 : Int32) (x2 : Int32) (x3 : Int32) (x4 : Int32) (x5 : Option Nat) (x6 : Int64) (x8 : Int32) (h : f_X2_seen_98 N (ub G) (ug G) ro_X2_seen ro_X2_of ro_X2_solve a0 k40 u x1 x2 x3 x4 x5 x6 x8 = some (r, uf)) {H : Heap} {locs : List Loc} (hP : uP G u H) (hS : va_S (uA G) s.heap H locs) {ls : Array Slot} (hl : lv_has ls 9 [(0, va_rf (some a0)), (1, .int x1), (2, .int x2), (3, .int x3), (4, .int x4), (5, va_rf x5), (6, .long x6), (8, .int x8)]) : W p l e R s m args below meth c H locs 0 0 (MQ below (uQl G r uf) args s 0 0 (uA G)) (F0 m 98 ls []) := by
  obtain ⟨⟨hx, hb, hml, hown, hts⟩, hKK⟩ := id hC
  unfold f_X2_seen_98 at h
  obtain ⟨y1, ey1⟩ : ∃ z : Int32, z = x8 + 1 := ⟨_, rfl⟩
  have h := mlet_at ey1 h
  refine lv_iinc (v := y1) (lv' := [(8, .int y1), (0, va_rf (some a0)), (1, .int x1), (2, .int x2), (3, .int x3), (4, .int x4), (5, va_rf x5), (6, .long x6)]) hx hb dX2_seen_98 hl (k := 7) rfl (by rw [ey1]; rfl) (by decide) rfl (fun ls hl => ?_)
  refine lv_goto (tgt := 40) hx hb dX2_seen_101 (by decide) ?_
  exact hk40 u x1 x2 x3 x4 x5 x6 y1 h _ _ hP hS _ (lv_sub hl [1, 2, 3, 4, 5, 6, 7, 0] rfl)
def f_X2_seen_40 (N b : Nat) (g : uEnv) (ro_X2_seen : UH → Nat → Int32 → Int32 → Int32 → Option (Int64 × UH)) (ro_X2_of : UH → Nat → Int32 → Int32 → Option (Int64 × UH)) (ro_X2_solve : UH → Nat → Int32 → Option (UH)) (a0 : Nat) : Nat → UH → Int32 → Int32 → Int32 → Int32 → Option Nat → Int64 → Int32 → Option (Int64 × UH)
  | 0, _, _, _, _, _, _, _, _ => none
  | n + 1, u, x1, x2, x3, x4, x5, x6, x8 =>
    if 8 ≤ x8 then
    some (x6, u)
    else
    (x5).bind fun a2 =>
    (uGR u a2 13 1).bind fun o3 =>
    (o3).bind fun a4 =>
    (uLdI u a4 0 x8).bind fun y5 =>
    if y5 ≤ 0 then
    f_X2_seen_98 N b g ro_X2_seen ro_X2_of ro_X2_solve a0 (f_X2_seen_40 N b g ro_X2_seen ro_X2_of ro_X2_solve a0 n) u x1 x2 x3 x4 (some a2) x6 x8
    else
    (uGR u a0 1 3).bind fun o7 =>
    if uIs u a0 1 = true then
    ucall (f_X2_knows N b g u a0 x2 x4 x8) fun r11 u9 =>
    if uIs u9 a0 1 = true then
    ucall (ro_X2_seen u9 a0 x1 r11 (x3 &&& (x3 - 1))) fun r15 u13 =>
    (uGR u13 a2 13 1).bind fun o16 =>
    (o16).bind fun a17 =>
    (uLdI u13 a17 0 x8).bind fun y18 =>
    (o7).bind fun a19 =>
    ucall (if uIs u13 a19 14 = true then f_X16_join N b g u13 a19 x6 r15 y18 else if uIs u13 a19 15 = true then f_X17_join N b g u13 a19 x6 r15 y18 else none) fun r22 u20 =>
    f_X2_seen_98 N b g ro_X2_seen ro_X2_of ro_X2_solve a0 (f_X2_seen_40 N b g ro_X2_seen ro_X2_of ro_X2_solve a0 n) u20 x1 x2 x3 x4 (some a2) r22 x8
    else none
    else none
set_option maxHeartbeats 4000000 in
set_option maxRecDepth 100000 in
theorem zz_X2_seen_40 {G : uG} {a0 : Nat} {uf : UH} {r : Int64} (N : Nat) (ro_X2_seen : UH → Nat → Int32 → Int32 → Int32 → Option (Int64 × UH)) (ro_X2_of : UH → Nat → Int32 → Int32 → Option (Int64 × UH)) (ro_X2_solve : UH → Nat → Int32 → Option (UH)) (zo_X2_seen : ∀ (u : UH) (a0 : Nat) (x1 : Int32) (x2 : Int32) (x3 : Int32) (r : Int64) (uf : UH), ro_X2_seen u a0 x1 x2 x3 = some (r, uf) → uf.1 = u.1 ∧ uf.2.1 = u.2.1) (zo_X2_of : ∀ (u : UH) (a0 : Nat) (x1 : Int32) (x2 : Int32) (r : Int64) (uf : UH), ro_X2_of u a0 x1 x2 = some (r, uf) → uf.1 = u.1 ∧ uf.2.1 = u.2.1) (zo_X2_solve : ∀ (u : UH) (a0 : Nat) (x1 : Int32) (uf : UH), ro_X2_solve u a0 x1 = some uf → uf.1 = u.1 ∧ uf.2.1 = u.2.1) : ∀ (n : Nat) (u : UH) (x1 : Int32) (x2 : Int32) (x3 : Int32) (x4 : Int32) (x5 : Option Nat) (x6 : Int64) (x8 : Int32), f_X2_seen_40 N (ub G) (ug G) ro_X2_seen ro_X2_of ro_X2_solve a0 n u x1 x2 x3 x4 x5 x6 x8 = some (r, uf) → uf.1 = u.1 ∧ uf.2.1 = u.2.1 := by
  intro n
  induction n with
  | zero =>
    intro u x1 x2 x3 x4 x5 x6 x8 h
    cases h
  | succ n ih =>
    intro u x1 x2 x3 x4 x5 x6 x8 h
    unfold f_X2_seen_40 at h
    by_cases c1 : 8 ≤ x8
    · have h := mif_t c1 h
      obtain ⟨hr1, hr2⟩ := uret_n h
      subst hr2
      exact ⟨by omega, by omega⟩
    · have h := mif_f c1 h
      obtain ⟨a2, ha2, hha2⟩ := mbind_n h
      subst ha2
      have h := hha2
      obtain ⟨o3, ho3, h⟩ := mbind_n h
      obtain ⟨a4, ha4, hha4⟩ := mbind_n h
      subst ha4
      have h := hha4
      obtain ⟨y5, hy5, h⟩ := mbind_n h
      by_cases c6 : y5 ≤ 0
      · have h := mif_t c6 h
        have hq := zz_X2_seen_98 (G := G) (a0 := a0) N  ro_X2_seen ro_X2_of ro_X2_solve zo_X2_seen zo_X2_of zo_X2_solve (f_X2_seen_40 N (ub G) (ug G) ro_X2_seen ro_X2_of ro_X2_solve a0 n) ih u x1 x2 x3 x4 (some a2) x6 x8 h
        exact ⟨by omega, by omega⟩
      · have h := mif_f c6 h
        obtain ⟨o7, ho7, h⟩ := mbind_n h
        obtain ⟨c8, h⟩ := mif_n h
        obtain ⟨r11, u9, c10, h⟩ := ucall_n h
        have zu9 := zz_X2_knows N (ub G) (ug G) u a0 x2 x4 x8 r11 u9 c10
        obtain ⟨c12, h⟩ := mif_n h
        obtain ⟨r15, u13, c14, h⟩ := ucall_n h
        have zu13 := zo_X2_seen u9 a0 x1 r11 (x3 &&& (x3 - 1)) r15 u13 c14
        obtain ⟨o16, ho16, h⟩ := mbind_n h
        obtain ⟨a17, ha17, hha17⟩ := mbind_n h
        subst ha17
        have h := hha17
        obtain ⟨y18, hy18, h⟩ := mbind_n h
        obtain ⟨a19, ha19, hha19⟩ := mbind_n h
        subst ha19
        have h := hha19
        obtain ⟨r22, u20, c21, h⟩ := ucall_n h
        have zu20 := ((Classical.em (uIs u13 a19 14 = true)).elim (fun k1 => zz_X16_join N (ub G) (ug G) u13 a19 x6 r15 y18 r22 u20 (mif_t k1 c21)) (fun k1 => zz_X17_join N (ub G) (ug G) u13 a19 x6 r15 y18 r22 u20 (mif_n (mif_f k1 c21)).2))
        have hq := zz_X2_seen_98 (G := G) (a0 := a0) N  ro_X2_seen ro_X2_of ro_X2_solve zo_X2_seen zo_X2_of zo_X2_solve (f_X2_seen_40 N (ub G) (ug G) ro_X2_seen ro_X2_of ro_X2_solve a0 n) ih u20 x1 x2 x3 x4 (some a2) r22 x8 h
        exact ⟨by omega, by omega⟩
set_option maxHeartbeats 4000000 in
set_option maxRecDepth 100000 in
theorem w_X2_seen_40 {p : Program} {l : Launch} {e : Env} {R : Room} {s : State} {m : MethodId} {args : Array Value} {below : List Frame} {meth : Method} {c : Code} {G : uG} {a0 : Nat} {uf : UH} {r : Int64} (hC : uC p s m args meth c G RX2 cX2_seen 9 (some .long)) (hR : 4 ≤ R.frames ∧ 89 ≤ R.locals) (N : Nat) (ro_X2_seen : UH → Nat → Int32 → Int32 → Int32 → Option (Int64 × UH)) (ro_X2_of : UH → Nat → Int32 → Int32 → Option (Int64 × UH)) (ro_X2_solve : UH → Nat → Int32 → Option (UH)) (zo_X2_seen : ∀ (u : UH) (a0 : Nat) (x1 : Int32) (x2 : Int32) (x3 : Int32) (r : Int64) (uf : UH), ro_X2_seen u a0 x1 x2 x3 = some (r, uf) → uf.1 = u.1 ∧ uf.2.1 = u.2.1) (zo_X2_of : ∀ (u : UH) (a0 : Nat) (x1 : Int32) (x2 : Int32) (r : Int64) (uf : UH), ro_X2_of u a0 x1 x2 = some (r, uf) → uf.1 = u.1 ∧ uf.2.1 = u.2.1) (zo_X2_solve : ∀ (u : UH) (a0 : Nat) (x1 : Int32) (uf : UH), ro_X2_solve u a0 x1 = some uf → uf.1 = u.1 ∧ uf.2.1 = u.2.1) {DF DL : Nat} (mo_X2_seen : ∀ (u : UH) (a0 : Nat) (x1 : Int32) (x2 : Int32) (x3 : Int32) (r : Int64) (uf : UH), ro_X2_seen u a0 x1 x2 x3 = some (r, uf) → Met l yX2_seen (ws_ yX2_seen cX2_seen 9 (some .long)) ({ frames := DF, cells := 0, slots := 0, locals := DL }) (uPc G u [.ref a0, .int x1, .int x2, .int x3]) (uQl G r uf) 0 0 (uA G)) (mo_X2_of : ∀ (u : UH) (a0 : Nat) (x1 : Int32) (x2 : Int32) (r : Int64) (uf : UH), ro_X2_of u a0 x1 x2 = some (r, uf) → Met l yX2_of (ws_ yX2_of cX2_of 3 (some .long)) ({ frames := DF, cells := 0, slots := 0, locals := DL }) (uPc G u [.ref a0, .int x1, .int x2]) (uQl G r uf) 0 0 (uA G)) (mo_X2_solve : ∀ (u : UH) (a0 : Nat) (x1 : Int32) (uf : UH), ro_X2_solve u a0 x1 = some uf → Met l yX2_solve (ws_ yX2_solve cX2_solve 14 none) ({ frames := DF, cells := 0, slots := 0, locals := DL }) (uPc G u [.ref a0, .int x1]) (uQv G uf) 0 0 (uA G)) (hRr : DF + 1 ≤ R.frames ∧ 60 + DL ≤ R.locals) : ∀ (n : Nat) (u : UH) (x1 : Int32) (x2 : Int32) (x3 : Int32) (x4 : Int32) (x5 : Option Nat) (x6 : Int64) (x8 : Int32), f_X2_seen_40 N (ub G) (ug G) ro_X2_seen ro_X2_of ro_X2_solve a0 n u x1 x2 x3 x4 x5 x6 x8 = some (r, uf) → ∀ (H : Heap) (locs : List Loc), uP G u H → va_S (uA G) s.heap H locs → ∀ ls : Array Slot, lv_has ls 9 [(0, va_rf (some a0)), (1, .int x1), (2, .int x2), (3, .int x3), (4, .int x4), (5, va_rf x5), (6, .long x6), (8, .int x8)] → W p l e R s m args below meth c H locs 0 0 (MQ below (uQl G r uf) args s 0 0 (uA G)) (F0 m 40 ls []) := by
  obtain ⟨⟨hx, hb, hml, hown, hts⟩, hKK⟩ := id hC
  intro n
  induction n with
  | zero =>
    intro u x1 x2 x3 x4 x5 x6 x8 h
    cases h
  | succ n ih =>
    intro u x1 x2 x3 x4 x5 x6 x8 h H locs hP hS ls hl
    unfold f_X2_seen_40 at h
    refine lv_iload hx hb dX2_seen_40 (lv_at hl 7 rfl) ?_
    refine lv_bipush (v := 8) hx hb dX2_seen_42 (by decide) ?_
    refine lv_icmp_ge (tgt := 104) hx hb dX2_seen_44 (by decide) (fun c1 => ?_) (fun c1 => ?_)
    · have h := mif_t c1 h
      refine lv_lload hx hb dX2_seen_104 (lv_at hl 6 rfl) ?_
      obtain ⟨hr1, hr2⟩ := uret_n h
      subst hr1
      subst hr2
      exact u_lret hC hP hS dX2_seen_106
    · have h := mif_f c1 h
      refine u_aload (r := x5) hx hb dX2_seen_47 (lv_at hl 5 rfl) ?_
      obtain ⟨a2, ha2, hha2⟩ := mbind_n h
      subst ha2
      have h := hha2
      obtain ⟨o3, ho3, h⟩ := mbind_n h
      refine u_getN hC hP (uGR_n ho3) rfl in_X15 (by decide) q1218 (fun _ h => h) dX2_seen_49 ?_
      refine lv_iload hx hb dX2_seen_52 (lv_at hl 7 rfl) ?_
      obtain ⟨a4, ha4, hha4⟩ := mbind_n h
      subst ha4
      have h := hha4
      obtain ⟨y5, hy5, h⟩ := mbind_n h
      refine u_iald hC hP hy5 rfl dX2_seen_54 ?_
      refine lv_if_le (tgt := 98) hx hb dX2_seen_55 (by decide) (fun c6 => ?_) (fun c6 => ?_)
      · have h := mif_t c6 h
        exact w_X2_seen_98 hC hR N  ro_X2_seen ro_X2_of ro_X2_solve zo_X2_seen zo_X2_of zo_X2_solve mo_X2_seen mo_X2_of mo_X2_solve hRr (f_X2_seen_40 N (ub G) (ug G) ro_X2_seen ro_X2_of ro_X2_solve a0 n) ih u x1 x2 x3 x4 (some a2) x6 x8 h hP hS (lv_sub hl [0, 1, 2, 3, 4, 5, 6, 7] rfl)
      · have h := mif_f c6 h
        refine u_aload_n (r := some a0) hx hb dX2_seen_58 rfl (lv_at hl 0 rfl) ?_
        obtain ⟨o7, ho7, h⟩ := mbind_n h
        refine u_get hC hP (uGR_n ho7) rfl in_X2 (by decide) q160 (fun _ h => h) dX2_seen_59 ?_
        refine lv_lload hx hb dX2_seen_62 (lv_at hl 6 rfl) ?_
        refine u_aload_n (r := some a0) hx hb dX2_seen_64 rfl (lv_at hl 0 rfl) ?_
        refine lv_iload_n hx hb dX2_seen_65 rfl (lv_at hl 1 rfl) ?_
        refine u_aload_n (r := some a0) hx hb dX2_seen_66 rfl (lv_at hl 0 rfl) ?_
        refine lv_iload_n hx hb dX2_seen_67 rfl (lv_at hl 2 rfl) ?_
        refine lv_iload hx hb dX2_seen_68 (lv_at hl 4 rfl) ?_
        refine lv_iload hx hb dX2_seen_70 (lv_at hl 7 rfl) ?_
        obtain ⟨c8, h⟩ := mif_n h
        obtain ⟨r11, u9, c10, h⟩ := ucall_n h
        have zu9 := zz_X2_knows N (ub G) (ug G) u a0 x2 x4 x8 r11 u9 c10
        refine u_calli (va_runV (As := [.int x2, .int x4, .int x8]) (rest := [.int x1, va_rf (some a0), .long x6, va_rf o7]) hC.1 (met_X2_knows l N G u a0 x2 x4 x8 r11 u9 c10) (cwV 3 hts (lw_V q1336 q1337 q1338 q99 q1339) rfl rfl rfl (by decide +kernel) ⟨Nat.le_trans (Nat.le_of_ble_eq_true rfl) hR.1, Nat.le_trans (Nat.le_of_ble_eq_true rfl) hR.2⟩) ⟨uPc_blind, u_rcv hC hP c8 rfl, fun U hU hW => u_pre hC hP hS hU hW⟩ rfl rfl hl.1 rfl (lv_room (by simp only [List.map, u_cat]; exact Nat.le_of_ble_eq_true rfl)) dX2_seen_72 ⟨Nat.zero_le _, Nat.zero_le _⟩) hS (fun H locs hP hS => ?_)
        refine lv_iload_n hx hb dX2_seen_75 rfl (lv_at hl 3 rfl) ?_
        refine lv_iload_n hx hb dX2_seen_76 rfl (lv_at hl 3 rfl) ?_
        refine lv_iconst (v := 1) hx hb dX2_seen_77 (by decide) ?_
        refine lv_isub hx hb dX2_seen_78 ?_
        refine lv_iand hx hb dX2_seen_79 ?_
        obtain ⟨c12, h⟩ := mif_n h
        obtain ⟨r15, u13, c14, h⟩ := ucall_n h
        have zu13 := zo_X2_seen u9 a0 x1 r11 (x3 &&& (x3 - 1)) r15 u13 c14
        refine u_calll (va_runV (As := [.int x1, .int r11, .int (x3 &&& (x3 - 1))]) (rest := [.long x6, va_rf o7]) hC.1 (mo_X2_seen u9 a0 x1 r11 (x3 &&& (x3 - 1)) r15 u13 c14) (cwV 3 hts (lw_V q1359 q1361 qs24 q99 q1362) rfl rfl rfl (by decide +kernel) ⟨hRr.1, Nat.le_trans (Nat.add_le_add_right (Nat.le_of_ble_eq_true rfl) DL) hRr.2⟩) ⟨uPc_blind, u_rcv hC hP c12 rfl, fun U hU hW => u_pre hC hP hS hU hW⟩ rfl rfl hl.1 rfl (lv_room (by simp only [List.map, u_cat]; exact Nat.le_of_ble_eq_true rfl)) dX2_seen_80 ⟨Nat.zero_le _, Nat.zero_le _⟩) hS (fun H locs hP hS => ?_)
        refine u_aload (r := some a2) hx hb dX2_seen_83 (lv_at hl 5 rfl) ?_
        obtain ⟨o16, ho16, h⟩ := mbind_n h
        refine u_getN hC hP (uGR_n ho16) rfl in_X15 (by decide) q1218 (fun _ h => h) dX2_seen_85 ?_
        refine lv_iload hx hb dX2_seen_88 (lv_at hl 7 rfl) ?_
        obtain ⟨a17, ha17, hha17⟩ := mbind_n h
        subst ha17
        have h := hha17
        obtain ⟨y18, hy18, h⟩ := mbind_n h
        refine u_iald hC hP hy18 rfl dX2_seen_90 ?_
        obtain ⟨a19, ha19, hha19⟩ := mbind_n h
        subst ha19
        have h := hha19
        obtain ⟨r22, u20, c21, h⟩ := ucall_n h
        have zu20 := ((Classical.em (uIs u13 a19 14 = true)).elim (fun k1 => zz_X16_join N (ub G) (ug G) u13 a19 x6 r15 y18 r22 u20 (mif_t k1 c21)) (fun k1 => zz_X17_join N (ub G) (ug G) u13 a19 x6 r15 y18 r22 u20 (mif_n (mif_f k1 c21)).2))
        refine u_callFl (((Classical.em (uIs u13 a19 14 = true)).elim (fun k1 => va_runF (As := [.long x6, .long r15, .int y18]) (rest := []) (C := RX16) (hC.2.1.1.1 14 _ rfl).2 hC.1 (met_X16_join l N G u13 a19 x6 r15 y18 r22 u20 (mif_t k1 c21)) (va_cwF 3 hts (lw_F q1369 q1373 q1375 q133 q1377) rfl rfl rfl (hC.2.1.2.2.1 _ (List.mem_of_getElem? (i := 5) rfl)) (by decide +kernel) ⟨Nat.le_trans (Nat.le_of_ble_eq_true rfl) hR.1, Nat.le_trans (Nat.le_of_ble_eq_true rfl) hR.2⟩) ⟨uPc_blind, u_rcv hC hP k1 rfl, fun U hU hW => u_pre hC hP hS hU hW⟩ rfl rfl hl.1 rfl (lv_room (Nat.le_of_ble_eq_true rfl)) dX2_seen_91 ⟨Nat.zero_le _, Nat.zero_le _⟩) (fun k1 => va_runF (As := [.long x6, .long r15, .int y18]) (rest := []) (C := RX17) (hC.2.1.1.1 15 _ rfl).2 hC.1 (met_X17_join l N G u13 a19 x6 r15 y18 r22 u20 (mif_n (mif_f k1 c21)).2) (va_cwF 3 hts (lw_F q1369 q1380 q1382 q134 q1384) rfl rfl rfl (hC.2.1.2.2.1 _ (List.mem_of_getElem? (i := 6) rfl)) (by decide +kernel) ⟨Nat.le_trans (Nat.le_of_ble_eq_true rfl) hR.1, Nat.le_trans (Nat.le_of_ble_eq_true rfl) hR.2⟩) ⟨uPc_blind, u_rcv hC hP (mif_n (mif_f k1 c21)).1 rfl, fun U hU hW => u_pre hC hP hS hU hW⟩ rfl rfl hl.1 rfl (lv_room (Nat.le_of_ble_eq_true rfl)) dX2_seen_91 ⟨Nat.zero_le _, Nat.zero_le _⟩))) hS (fun H locs hP hS => ?_)
        refine lv_lstore (lv' := [(6, .long r22), (0, va_rf (some a0)), (1, .int x1), (2, .int x2), (3, .int x3), (4, .int x4), (5, va_rf (some a2)), (8, .int x8)]) hx hb dX2_seen_96 hl (by decide) rfl (fun ls hl => ?_)
        exact w_X2_seen_98 hC hR N  ro_X2_seen ro_X2_of ro_X2_solve zo_X2_seen zo_X2_of zo_X2_solve mo_X2_seen mo_X2_of mo_X2_solve hRr (f_X2_seen_40 N (ub G) (ug G) ro_X2_seen ro_X2_of ro_X2_solve a0 n) ih u20 x1 x2 x3 x4 (some a2) r22 x8 h hP hS (lv_sub hl [1, 2, 3, 4, 5, 6, 0, 7] rfl)
def fo_X2_seen (N b : Nat) (g : uEnv) (ro_X2_seen : UH → Nat → Int32 → Int32 → Int32 → Option (Int64 × UH)) (ro_X2_of : UH → Nat → Int32 → Int32 → Option (Int64 × UH)) (ro_X2_solve : UH → Nat → Int32 → Option (UH)) (u : UH) (a0 : Nat) (x1 : Int32) (x2 : Int32) (x3 : Int32) : Option (Int64 × UH) :=
    if x3 = 0 then
    if uIs u a0 1 = true then
    ucall (ro_X2_of u a0 x1 x2) fun r18 u16 =>
    some (r18, u16)
    else none
    else
    ucall (f_J19_numberOfTrailingZeros N b g u x3) fun r4 u2 =>
    (uGR u2 a0 1 0).bind fun o5 =>
    (o5).bind fun a6 =>
    (uGR u2 a6 12 6).bind fun o7 =>
    (o7).bind fun a8 =>
    if uIs u2 a8 18 = true then
    ucall (f_J2_get N b g u2 a8 r4) fun o12 u10 =>
    (o12).bind fun a13 =>
    if uIs u10 a13 13 = true then
    f_X2_seen_40 N b g ro_X2_seen ro_X2_of ro_X2_solve a0 N u10 x1 x2 x3 r4 (some a13) 0 0
    else none
    else none
set_option maxHeartbeats 4000000 in
set_option maxRecDepth 100000 in
theorem zz_X2_seen_0 {G : uG} {a0 : Nat} {uf : UH} {r : Int64} (N : Nat) (ro_X2_seen : UH → Nat → Int32 → Int32 → Int32 → Option (Int64 × UH)) (ro_X2_of : UH → Nat → Int32 → Int32 → Option (Int64 × UH)) (ro_X2_solve : UH → Nat → Int32 → Option (UH)) (zo_X2_seen : ∀ (u : UH) (a0 : Nat) (x1 : Int32) (x2 : Int32) (x3 : Int32) (r : Int64) (uf : UH), ro_X2_seen u a0 x1 x2 x3 = some (r, uf) → uf.1 = u.1 ∧ uf.2.1 = u.2.1) (zo_X2_of : ∀ (u : UH) (a0 : Nat) (x1 : Int32) (x2 : Int32) (r : Int64) (uf : UH), ro_X2_of u a0 x1 x2 = some (r, uf) → uf.1 = u.1 ∧ uf.2.1 = u.2.1) (zo_X2_solve : ∀ (u : UH) (a0 : Nat) (x1 : Int32) (uf : UH), ro_X2_solve u a0 x1 = some uf → uf.1 = u.1 ∧ uf.2.1 = u.2.1) (u : UH) (x1 : Int32) (x2 : Int32) (x3 : Int32) (h : fo_X2_seen N (ub G) (ug G) ro_X2_seen ro_X2_of ro_X2_solve u a0 x1 x2 x3 = some (r, uf)) : uf.1 = u.1 ∧ uf.2.1 = u.2.1 := by
  unfold fo_X2_seen at h
  by_cases c1 : x3 = 0
  · have h := mif_t c1 h
    obtain ⟨c15, h⟩ := mif_n h
    obtain ⟨r18, u16, c17, h⟩ := ucall_n h
    have zu16 := zo_X2_of u a0 x1 x2 r18 u16 c17
    obtain ⟨hr1, hr2⟩ := uret_n h
    subst hr2
    exact ⟨by omega, by omega⟩
  · have h := mif_f c1 h
    obtain ⟨r4, u2, c3, h⟩ := ucall_n h
    have zu2 := zz_J19_numberOfTrailingZeros N (ub G) (ug G) u x3 r4 u2 c3
    obtain ⟨o5, ho5, h⟩ := mbind_n h
    obtain ⟨a6, ha6, hha6⟩ := mbind_n h
    subst ha6
    have h := hha6
    obtain ⟨o7, ho7, h⟩ := mbind_n h
    obtain ⟨a8, ha8, hha8⟩ := mbind_n h
    subst ha8
    have h := hha8
    obtain ⟨c9, h⟩ := mif_n h
    obtain ⟨o12, u10, c11, h⟩ := ucall_n h
    have zu10 := zz_J2_get N (ub G) (ug G) u2 a8 r4 o12 u10 c11
    obtain ⟨a13, ha13, hha13⟩ := mbind_n h
    subst ha13
    have h := hha13
    obtain ⟨c14, h⟩ := mif_n h
    have hq := zz_X2_seen_40 (G := G) (a0 := a0) N  ro_X2_seen ro_X2_of ro_X2_solve zo_X2_seen zo_X2_of zo_X2_solve N u10 x1 x2 x3 r4 (some a13) 0 0 h
    exact ⟨by omega, by omega⟩
set_option maxHeartbeats 4000000 in
set_option maxRecDepth 100000 in
theorem w_X2_seen_0 {p : Program} {l : Launch} {e : Env} {R : Room} {s : State} {m : MethodId} {args : Array Value} {below : List Frame} {meth : Method} {c : Code} {G : uG} {a0 : Nat} {uf : UH} {r : Int64} (hC : uC p s m args meth c G RX2 cX2_seen 9 (some .long)) (hR : 4 ≤ R.frames ∧ 89 ≤ R.locals) (N : Nat) (ro_X2_seen : UH → Nat → Int32 → Int32 → Int32 → Option (Int64 × UH)) (ro_X2_of : UH → Nat → Int32 → Int32 → Option (Int64 × UH)) (ro_X2_solve : UH → Nat → Int32 → Option (UH)) (zo_X2_seen : ∀ (u : UH) (a0 : Nat) (x1 : Int32) (x2 : Int32) (x3 : Int32) (r : Int64) (uf : UH), ro_X2_seen u a0 x1 x2 x3 = some (r, uf) → uf.1 = u.1 ∧ uf.2.1 = u.2.1) (zo_X2_of : ∀ (u : UH) (a0 : Nat) (x1 : Int32) (x2 : Int32) (r : Int64) (uf : UH), ro_X2_of u a0 x1 x2 = some (r, uf) → uf.1 = u.1 ∧ uf.2.1 = u.2.1) (zo_X2_solve : ∀ (u : UH) (a0 : Nat) (x1 : Int32) (uf : UH), ro_X2_solve u a0 x1 = some uf → uf.1 = u.1 ∧ uf.2.1 = u.2.1) {DF DL : Nat} (mo_X2_seen : ∀ (u : UH) (a0 : Nat) (x1 : Int32) (x2 : Int32) (x3 : Int32) (r : Int64) (uf : UH), ro_X2_seen u a0 x1 x2 x3 = some (r, uf) → Met l yX2_seen (ws_ yX2_seen cX2_seen 9 (some .long)) ({ frames := DF, cells := 0, slots := 0, locals := DL }) (uPc G u [.ref a0, .int x1, .int x2, .int x3]) (uQl G r uf) 0 0 (uA G)) (mo_X2_of : ∀ (u : UH) (a0 : Nat) (x1 : Int32) (x2 : Int32) (r : Int64) (uf : UH), ro_X2_of u a0 x1 x2 = some (r, uf) → Met l yX2_of (ws_ yX2_of cX2_of 3 (some .long)) ({ frames := DF, cells := 0, slots := 0, locals := DL }) (uPc G u [.ref a0, .int x1, .int x2]) (uQl G r uf) 0 0 (uA G)) (mo_X2_solve : ∀ (u : UH) (a0 : Nat) (x1 : Int32) (uf : UH), ro_X2_solve u a0 x1 = some uf → Met l yX2_solve (ws_ yX2_solve cX2_solve 14 none) ({ frames := DF, cells := 0, slots := 0, locals := DL }) (uPc G u [.ref a0, .int x1]) (uQv G uf) 0 0 (uA G)) (hRr : DF + 1 ≤ R.frames ∧ 60 + DL ≤ R.locals) (u : UH) (x1 : Int32) (x2 : Int32) (x3 : Int32) (h : fo_X2_seen N (ub G) (ug G) ro_X2_seen ro_X2_of ro_X2_solve u a0 x1 x2 x3 = some (r, uf)) {H : Heap} {locs : List Loc} (hP : uP G u H) (hS : va_S (uA G) s.heap H locs) {ls : Array Slot} (hl : lv_has ls 9 [(0, va_rf (some a0)), (1, .int x1), (2, .int x2), (3, .int x3)]) : W p l e R s m args below meth c H locs 0 0 (MQ below (uQl G r uf) args s 0 0 (uA G)) (F0 m 0 ls []) := by
  obtain ⟨⟨hx, hb, hml, hown, hts⟩, hKK⟩ := id hC
  unfold fo_X2_seen at h
  refine lv_iload_n hx hb dX2_seen_0 rfl (lv_at hl 3 rfl) ?_
  refine lv_if_ne (tgt := 11) hx hb dX2_seen_1 (by decide) (fun c1 => ?_) (fun c1 => ?_)
  · have h := mif_f c1 h
    refine lv_iload_n hx hb dX2_seen_11 rfl (lv_at hl 3 rfl) ?_
    obtain ⟨r4, u2, c3, h⟩ := ucall_n h
    have zu2 := zz_J19_numberOfTrailingZeros N (ub G) (ug G) u x3 r4 u2 c3
    refine u_calli (va_runS (As := [.int x3]) (rest := []) hC.1 (met_J19_numberOfTrailingZeros l N G u x3 r4 u2 c3) (va_cwS 1 hts (lw_S q1364 q1365 q136 q1366) rfl rfl rfl (by decide +kernel) ⟨Nat.le_trans (Nat.le_of_ble_eq_true rfl) hR.1, Nat.le_trans (Nat.le_of_ble_eq_true rfl) hR.2⟩) ⟨uPc_blind, fun U hU hW => u_pre hC hP hS hU hW⟩ rfl rfl hl.1 rfl (lv_room (Nat.le_of_ble_eq_true rfl)) dX2_seen_12 ⟨Nat.zero_le _, Nat.zero_le _⟩) hS (fun H locs hP hS => ?_)
    refine lv_istore (lv' := [(4, .int r4), (0, va_rf (some a0)), (1, .int x1), (2, .int x2), (3, .int x3)]) hx hb dX2_seen_15 hl (by decide) rfl (fun ls hl => ?_)
    refine u_aload_n (r := some a0) hx hb dX2_seen_17 rfl (lv_at hl 1 rfl) ?_
    obtain ⟨o5, ho5, h⟩ := mbind_n h
    refine u_get hC hP (uGR_n ho5) rfl in_X2 (by decide) q157 (fun _ h => h) dX2_seen_18 ?_
    obtain ⟨a6, ha6, hha6⟩ := mbind_n h
    subst ha6
    have h := hha6
    obtain ⟨o7, ho7, h⟩ := mbind_n h
    refine u_getN hC hP (uGR_n ho7) rfl in_X14 (by decide) q1150 (fun _ h => h) dX2_seen_21 ?_
    refine lv_iload hx hb dX2_seen_24 (lv_at hl 0 rfl) ?_
    obtain ⟨a8, ha8, hha8⟩ := mbind_n h
    subst ha8
    have h := hha8
    obtain ⟨c9, h⟩ := mif_n h
    obtain ⟨o12, u10, c11, h⟩ := ucall_n h
    have zu10 := zz_J2_get N (ub G) (ug G) u2 a8 r4 o12 u10 c11
    refine u_callr (va_runV (As := [.int r4]) (rest := []) hC.1 (met_J2_get l N G u2 a8 r4 o12 u10 c11) (cwV 1 hts (lw_V q1334 q898 q899 q102 q900) rfl rfl rfl (by decide +kernel) ⟨Nat.le_trans (Nat.le_of_ble_eq_true rfl) hR.1, Nat.le_trans (Nat.le_of_ble_eq_true rfl) hR.2⟩) ⟨uPc_blind, u_rcv hC hP c9 rfl, fun U hU hW => u_pre hC hP hS hU hW⟩ rfl rfl hl.1 rfl (lv_room (Nat.le_of_ble_eq_true rfl)) dX2_seen_26 ⟨Nat.zero_le _, Nat.zero_le _⟩) hS (fun H locs hP hS => ?_)
    obtain ⟨a13, ha13, hha13⟩ := mbind_n h
    subst ha13
    have h := hha13
    obtain ⟨c14, h⟩ := mif_n h
    refine u_castS hC hP c14 rfl q1335 dX2_seen_29 ?_
    refine u_astore (r := some a13) (lv' := [(5, va_rf (some a13)), (4, .int r4), (0, va_rf (some a0)), (1, .int x1), (2, .int x2), (3, .int x3)]) hx hb dX2_seen_32 hl (by decide) rfl (fun ls hl => ?_)
    refine lv_lconst (v := 0) hx hb dX2_seen_34 (by decide) ?_
    refine lv_lstore (lv' := [(6, .long 0), (5, va_rf (some a13)), (4, .int r4), (0, va_rf (some a0)), (1, .int x1), (2, .int x2), (3, .int x3)]) hx hb dX2_seen_35 hl (by decide) rfl (fun ls hl => ?_)
    refine lv_iconst (v := 0) hx hb dX2_seen_37 (by decide) ?_
    refine lv_istore (lv' := [(8, .int 0), (6, .long 0), (5, va_rf (some a13)), (4, .int r4), (0, va_rf (some a0)), (1, .int x1), (2, .int x2), (3, .int x3)]) hx hb dX2_seen_38 hl (by decide) rfl (fun ls hl => ?_)
    exact w_X2_seen_40 hC hR N  ro_X2_seen ro_X2_of ro_X2_solve zo_X2_seen zo_X2_of zo_X2_solve mo_X2_seen mo_X2_of mo_X2_solve hRr N u10 x1 x2 x3 r4 (some a13) 0 0 h _ _ hP hS _ (lv_sub hl [4, 5, 6, 7, 3, 2, 1, 0] rfl)
  · have h := mif_t c1 h
    refine u_aload_n (r := some a0) hx hb dX2_seen_4 rfl (lv_at hl 0 rfl) ?_
    refine lv_iload_n hx hb dX2_seen_5 rfl (lv_at hl 1 rfl) ?_
    refine lv_iload_n hx hb dX2_seen_6 rfl (lv_at hl 2 rfl) ?_
    obtain ⟨c15, h⟩ := mif_n h
    obtain ⟨r18, u16, c17, h⟩ := ucall_n h
    have zu16 := zo_X2_of u a0 x1 x2 r18 u16 c17
    refine u_calll (va_runV (As := [.int x1, .int x2]) (rest := []) hC.1 (mo_X2_of u a0 x1 x2 r18 u16 c17) (cwV 2 hts (lw_V q1363 q1345 q1346 q99 q1347) rfl rfl rfl (by decide +kernel) ⟨hRr.1, Nat.le_trans (Nat.add_le_add_right (Nat.le_of_ble_eq_true rfl) DL) hRr.2⟩) ⟨uPc_blind, u_rcv hC hP c15 rfl, fun U hU hW => u_pre hC hP hS hU hW⟩ rfl rfl hl.1 rfl (lv_room (Nat.le_of_ble_eq_true rfl)) dX2_seen_7 ⟨Nat.zero_le _, Nat.zero_le _⟩) hS (fun H locs hP hS => ?_)
    obtain ⟨hr1, hr2⟩ := uret_n h
    subst hr1
    subst hr2
    exact u_lret hC hP hS dX2_seen_10
def f_X2_of_14 (N b : Nat) (g : uEnv) (ro_X2_seen : UH → Nat → Int32 → Int32 → Int32 → Option (Int64 × UH)) (ro_X2_of : UH → Nat → Int32 → Int32 → Option (Int64 × UH)) (ro_X2_solve : UH → Nat → Int32 → Option (UH)) (a0 : Nat) (u : UH) (x1 : Int32) (x2 : Int32) : Option (Int64 × UH) :=
    (uGR u a0 1 4).bind fun o1 =>
    (o1).bind fun a2 =>
    (uLdL u a2 3 ((100 * x2) + x1)).bind fun y3 =>
    some (y3, u)
set_option maxHeartbeats 4000000 in
set_option maxRecDepth 100000 in
theorem zz_X2_of_14 {G : uG} {a0 : Nat} {uf : UH} {r : Int64} (N : Nat) (ro_X2_seen : UH → Nat → Int32 → Int32 → Int32 → Option (Int64 × UH)) (ro_X2_of : UH → Nat → Int32 → Int32 → Option (Int64 × UH)) (ro_X2_solve : UH → Nat → Int32 → Option (UH)) (zo_X2_seen : ∀ (u : UH) (a0 : Nat) (x1 : Int32) (x2 : Int32) (x3 : Int32) (r : Int64) (uf : UH), ro_X2_seen u a0 x1 x2 x3 = some (r, uf) → uf.1 = u.1 ∧ uf.2.1 = u.2.1) (zo_X2_of : ∀ (u : UH) (a0 : Nat) (x1 : Int32) (x2 : Int32) (r : Int64) (uf : UH), ro_X2_of u a0 x1 x2 = some (r, uf) → uf.1 = u.1 ∧ uf.2.1 = u.2.1) (zo_X2_solve : ∀ (u : UH) (a0 : Nat) (x1 : Int32) (uf : UH), ro_X2_solve u a0 x1 = some uf → uf.1 = u.1 ∧ uf.2.1 = u.2.1) (u : UH) (x1 : Int32) (x2 : Int32) (h : f_X2_of_14 N (ub G) (ug G) ro_X2_seen ro_X2_of ro_X2_solve a0 u x1 x2 = some (r, uf)) : uf.1 = u.1 ∧ uf.2.1 = u.2.1 := by
  unfold f_X2_of_14 at h
  obtain ⟨o1, ho1, h⟩ := mbind_n h
  obtain ⟨a2, ha2, hha2⟩ := mbind_n h
  subst ha2
  have h := hha2
  obtain ⟨y3, hy3, h⟩ := mbind_n h
  obtain ⟨hr1, hr2⟩ := uret_n h
  subst hr2
  exact ⟨by omega, by omega⟩
set_option maxHeartbeats 4000000 in
set_option maxRecDepth 100000 in
theorem w_X2_of_14 {p : Program} {l : Launch} {e : Env} {R : Room} {s : State} {m : MethodId} {args : Array Value} {below : List Frame} {meth : Method} {c : Code} {G : uG} {a0 : Nat} {uf : UH} {r : Int64} (hC : uC p s m args meth c G RX2 cX2_of 3 (some .long)) (hR : 0 ≤ R.frames ∧ 0 ≤ R.locals) (N : Nat) (ro_X2_seen : UH → Nat → Int32 → Int32 → Int32 → Option (Int64 × UH)) (ro_X2_of : UH → Nat → Int32 → Int32 → Option (Int64 × UH)) (ro_X2_solve : UH → Nat → Int32 → Option (UH)) (zo_X2_seen : ∀ (u : UH) (a0 : Nat) (x1 : Int32) (x2 : Int32) (x3 : Int32) (r : Int64) (uf : UH), ro_X2_seen u a0 x1 x2 x3 = some (r, uf) → uf.1 = u.1 ∧ uf.2.1 = u.2.1) (zo_X2_of : ∀ (u : UH) (a0 : Nat) (x1 : Int32) (x2 : Int32) (r : Int64) (uf : UH), ro_X2_of u a0 x1 x2 = some (r, uf) → uf.1 = u.1 ∧ uf.2.1 = u.2.1) (zo_X2_solve : ∀ (u : UH) (a0 : Nat) (x1 : Int32) (uf : UH), ro_X2_solve u a0 x1 = some uf → uf.1 = u.1 ∧ uf.2.1 = u.2.1) {DF DL : Nat} (mo_X2_seen : ∀ (u : UH) (a0 : Nat) (x1 : Int32) (x2 : Int32) (x3 : Int32) (r : Int64) (uf : UH), ro_X2_seen u a0 x1 x2 x3 = some (r, uf) → Met l yX2_seen (ws_ yX2_seen cX2_seen 9 (some .long)) ({ frames := DF, cells := 0, slots := 0, locals := DL }) (uPc G u [.ref a0, .int x1, .int x2, .int x3]) (uQl G r uf) 0 0 (uA G)) (mo_X2_of : ∀ (u : UH) (a0 : Nat) (x1 : Int32) (x2 : Int32) (r : Int64) (uf : UH), ro_X2_of u a0 x1 x2 = some (r, uf) → Met l yX2_of (ws_ yX2_of cX2_of 3 (some .long)) ({ frames := DF, cells := 0, slots := 0, locals := DL }) (uPc G u [.ref a0, .int x1, .int x2]) (uQl G r uf) 0 0 (uA G)) (mo_X2_solve : ∀ (u : UH) (a0 : Nat) (x1 : Int32) (uf : UH), ro_X2_solve u a0 x1 = some uf → Met l yX2_solve (ws_ yX2_solve cX2_solve 14 none) ({ frames := DF, cells := 0, slots := 0, locals := DL }) (uPc G u [.ref a0, .int x1]) (uQv G uf) 0 0 (uA G)) (hRr : DF + 1 ≤ R.frames ∧ 60 + DL ≤ R.locals) (u : UH) (x1 : Int32) (x2 : Int32) (h : f_X2_of_14 N (ub G) (ug G) ro_X2_seen ro_X2_of ro_X2_solve a0 u x1 x2 = some (r, uf)) {H : Heap} {locs : List Loc} (hP : uP G u H) (hS : va_S (uA G) s.heap H locs) {ls : Array Slot} (hl : lv_has ls 3 [(0, va_rf (some a0)), (1, .int x1), (2, .int x2)]) : W p l e R s m args below meth c H locs 0 0 (MQ below (uQl G r uf) args s 0 0 (uA G)) (F0 m 14 ls []) := by
  obtain ⟨⟨hx, hb, hml, hown, hts⟩, hKK⟩ := id hC
  unfold f_X2_of_14 at h
  refine u_aload_n (r := some a0) hx hb dX2_of_14 rfl (lv_at hl 0 rfl) ?_
  obtain ⟨o1, ho1, h⟩ := mbind_n h
  refine u_get hC hP (uGR_n ho1) rfl in_X2 (by decide) q161 (fun _ h => h) dX2_of_15 ?_
  refine lv_bipush (v := 100) hx hb dX2_of_18 (by decide) ?_
  refine lv_iload_n hx hb dX2_of_20 rfl (lv_at hl 2 rfl) ?_
  refine lv_imul hx hb dX2_of_21 ?_
  refine lv_iload_n hx hb dX2_of_22 rfl (lv_at hl 1 rfl) ?_
  refine lv_iadd hx hb dX2_of_23 ?_
  obtain ⟨a2, ha2, hha2⟩ := mbind_n h
  subst ha2
  have h := hha2
  obtain ⟨y3, hy3, h⟩ := mbind_n h
  refine u_lald hC hP hy3 rfl dX2_of_24 ?_
  obtain ⟨hr1, hr2⟩ := uret_n h
  subst hr1
  subst hr2
  exact u_lret hC hP hS dX2_of_25
def fo_X2_of (N b : Nat) (g : uEnv) (ro_X2_seen : UH → Nat → Int32 → Int32 → Int32 → Option (Int64 × UH)) (ro_X2_of : UH → Nat → Int32 → Int32 → Option (Int64 × UH)) (ro_X2_solve : UH → Nat → Int32 → Option (UH)) (u : UH) (a0 : Nat) (x1 : Int32) (x2 : Int32) : Option (Int64 × UH) :=
    (uGR u a0 1 5).bind fun o1 =>
    (o1).bind fun a2 =>
    (uLdI u a2 2 x2).bind fun y3 =>
    if y3 = 0 then
    if uIs u a0 1 = true then
    (ro_X2_solve u a0 x2).bind fun u6 =>
    f_X2_of_14 N b g ro_X2_seen ro_X2_of ro_X2_solve a0 u6 x1 x2
    else none
    else
    f_X2_of_14 N b g ro_X2_seen ro_X2_of ro_X2_solve a0 u x1 x2
set_option maxHeartbeats 4000000 in
set_option maxRecDepth 100000 in
theorem zz_X2_of_0 {G : uG} {a0 : Nat} {uf : UH} {r : Int64} (N : Nat) (ro_X2_seen : UH → Nat → Int32 → Int32 → Int32 → Option (Int64 × UH)) (ro_X2_of : UH → Nat → Int32 → Int32 → Option (Int64 × UH)) (ro_X2_solve : UH → Nat → Int32 → Option (UH)) (zo_X2_seen : ∀ (u : UH) (a0 : Nat) (x1 : Int32) (x2 : Int32) (x3 : Int32) (r : Int64) (uf : UH), ro_X2_seen u a0 x1 x2 x3 = some (r, uf) → uf.1 = u.1 ∧ uf.2.1 = u.2.1) (zo_X2_of : ∀ (u : UH) (a0 : Nat) (x1 : Int32) (x2 : Int32) (r : Int64) (uf : UH), ro_X2_of u a0 x1 x2 = some (r, uf) → uf.1 = u.1 ∧ uf.2.1 = u.2.1) (zo_X2_solve : ∀ (u : UH) (a0 : Nat) (x1 : Int32) (uf : UH), ro_X2_solve u a0 x1 = some uf → uf.1 = u.1 ∧ uf.2.1 = u.2.1) (u : UH) (x1 : Int32) (x2 : Int32) (h : fo_X2_of N (ub G) (ug G) ro_X2_seen ro_X2_of ro_X2_solve u a0 x1 x2 = some (r, uf)) : uf.1 = u.1 ∧ uf.2.1 = u.2.1 := by
  unfold fo_X2_of at h
  obtain ⟨o1, ho1, h⟩ := mbind_n h
  obtain ⟨a2, ha2, hha2⟩ := mbind_n h
  subst ha2
  have h := hha2
  obtain ⟨y3, hy3, h⟩ := mbind_n h
  by_cases c4 : y3 = 0
  · have h := mif_t c4 h
    obtain ⟨c5, h⟩ := mif_n h
    obtain ⟨u6, c7, h⟩ := mbind_n h
    have zu6 := zo_X2_solve u a0 x2 u6 c7
    have hq := zz_X2_of_14 (G := G) (a0 := a0) N  ro_X2_seen ro_X2_of ro_X2_solve zo_X2_seen zo_X2_of zo_X2_solve u6 x1 x2 h
    exact ⟨by omega, by omega⟩
  · have h := mif_f c4 h
    have hq := zz_X2_of_14 (G := G) (a0 := a0) N  ro_X2_seen ro_X2_of ro_X2_solve zo_X2_seen zo_X2_of zo_X2_solve u x1 x2 h
    exact ⟨by omega, by omega⟩
set_option maxHeartbeats 4000000 in
set_option maxRecDepth 100000 in
theorem w_X2_of_0 {p : Program} {l : Launch} {e : Env} {R : Room} {s : State} {m : MethodId} {args : Array Value} {below : List Frame} {meth : Method} {c : Code} {G : uG} {a0 : Nat} {uf : UH} {r : Int64} (hC : uC p s m args meth c G RX2 cX2_of 3 (some .long)) (hR : 0 ≤ R.frames ∧ 0 ≤ R.locals) (N : Nat) (ro_X2_seen : UH → Nat → Int32 → Int32 → Int32 → Option (Int64 × UH)) (ro_X2_of : UH → Nat → Int32 → Int32 → Option (Int64 × UH)) (ro_X2_solve : UH → Nat → Int32 → Option (UH)) (zo_X2_seen : ∀ (u : UH) (a0 : Nat) (x1 : Int32) (x2 : Int32) (x3 : Int32) (r : Int64) (uf : UH), ro_X2_seen u a0 x1 x2 x3 = some (r, uf) → uf.1 = u.1 ∧ uf.2.1 = u.2.1) (zo_X2_of : ∀ (u : UH) (a0 : Nat) (x1 : Int32) (x2 : Int32) (r : Int64) (uf : UH), ro_X2_of u a0 x1 x2 = some (r, uf) → uf.1 = u.1 ∧ uf.2.1 = u.2.1) (zo_X2_solve : ∀ (u : UH) (a0 : Nat) (x1 : Int32) (uf : UH), ro_X2_solve u a0 x1 = some uf → uf.1 = u.1 ∧ uf.2.1 = u.2.1) {DF DL : Nat} (mo_X2_seen : ∀ (u : UH) (a0 : Nat) (x1 : Int32) (x2 : Int32) (x3 : Int32) (r : Int64) (uf : UH), ro_X2_seen u a0 x1 x2 x3 = some (r, uf) → Met l yX2_seen (ws_ yX2_seen cX2_seen 9 (some .long)) ({ frames := DF, cells := 0, slots := 0, locals := DL }) (uPc G u [.ref a0, .int x1, .int x2, .int x3]) (uQl G r uf) 0 0 (uA G)) (mo_X2_of : ∀ (u : UH) (a0 : Nat) (x1 : Int32) (x2 : Int32) (r : Int64) (uf : UH), ro_X2_of u a0 x1 x2 = some (r, uf) → Met l yX2_of (ws_ yX2_of cX2_of 3 (some .long)) ({ frames := DF, cells := 0, slots := 0, locals := DL }) (uPc G u [.ref a0, .int x1, .int x2]) (uQl G r uf) 0 0 (uA G)) (mo_X2_solve : ∀ (u : UH) (a0 : Nat) (x1 : Int32) (uf : UH), ro_X2_solve u a0 x1 = some uf → Met l yX2_solve (ws_ yX2_solve cX2_solve 14 none) ({ frames := DF, cells := 0, slots := 0, locals := DL }) (uPc G u [.ref a0, .int x1]) (uQv G uf) 0 0 (uA G)) (hRr : DF + 1 ≤ R.frames ∧ 60 + DL ≤ R.locals) (u : UH) (x1 : Int32) (x2 : Int32) (h : fo_X2_of N (ub G) (ug G) ro_X2_seen ro_X2_of ro_X2_solve u a0 x1 x2 = some (r, uf)) {H : Heap} {locs : List Loc} (hP : uP G u H) (hS : va_S (uA G) s.heap H locs) {ls : Array Slot} (hl : lv_has ls 3 [(0, va_rf (some a0)), (1, .int x1), (2, .int x2)]) : W p l e R s m args below meth c H locs 0 0 (MQ below (uQl G r uf) args s 0 0 (uA G)) (F0 m 0 ls []) := by
  obtain ⟨⟨hx, hb, hml, hown, hts⟩, hKK⟩ := id hC
  unfold fo_X2_of at h
  refine u_aload_n (r := some a0) hx hb dX2_of_0 rfl (lv_at hl 0 rfl) ?_
  obtain ⟨o1, ho1, h⟩ := mbind_n h
  refine u_get hC hP (uGR_n ho1) rfl in_X2 (by decide) q162 (fun _ h => h) dX2_of_1 ?_
  refine lv_iload_n hx hb dX2_of_4 rfl (lv_at hl 2 rfl) ?_
  obtain ⟨a2, ha2, hha2⟩ := mbind_n h
  subst ha2
  have h := hha2
  obtain ⟨y3, hy3, h⟩ := mbind_n h
  refine u_zald hC hP hy3 rfl dX2_of_5 ?_
  refine lv_if_ne (tgt := 14) hx hb dX2_of_6 (by decide) (fun c4 => ?_) (fun c4 => ?_)
  · have h := mif_f c4 h
    exact w_X2_of_14 hC hR N  ro_X2_seen ro_X2_of ro_X2_solve zo_X2_seen zo_X2_of zo_X2_solve mo_X2_seen mo_X2_of mo_X2_solve hRr u x1 x2 h hP hS (lv_sub hl [0, 1, 2] rfl)
  · have h := mif_t c4 h
    refine u_aload_n (r := some a0) hx hb dX2_of_9 rfl (lv_at hl 0 rfl) ?_
    refine lv_iload_n hx hb dX2_of_10 rfl (lv_at hl 2 rfl) ?_
    obtain ⟨c5, h⟩ := mif_n h
    obtain ⟨u6, c7, h⟩ := mbind_n h
    have zu6 := zo_X2_solve u a0 x2 u6 c7
    refine u_callv (va_runV (As := [.int x2]) (rest := []) hC.1 (mo_X2_solve u a0 x2 u6 c7) (cwV 1 hts (lw_V q1348 q1350 qs22 q99 q1351) rfl rfl rfl (by decide +kernel) ⟨hRr.1, Nat.le_trans (Nat.add_le_add_right (Nat.le_of_ble_eq_true rfl) DL) hRr.2⟩) ⟨uPc_blind, u_rcv hC hP c5 rfl, fun U hU hW => u_pre hC hP hS hU hW⟩ rfl rfl hl.1 rfl (lv_room (Nat.le_of_ble_eq_true rfl)) dX2_of_11 ⟨Nat.zero_le _, Nat.zero_le _⟩) hS (fun H locs hP hS => ?_)
    exact w_X2_of_14 hC hR N  ro_X2_seen ro_X2_of ro_X2_solve zo_X2_seen zo_X2_of zo_X2_solve mo_X2_seen mo_X2_of mo_X2_solve hRr u6 x1 x2 h hP hS (lv_sub hl [0, 1, 2] rfl)
def f_X2_solve_372 (N b : Nat) (g : uEnv) (ro_X2_seen : UH → Nat → Int32 → Int32 → Int32 → Option (Int64 × UH)) (ro_X2_of : UH → Nat → Int32 → Int32 → Option (Int64 × UH)) (ro_X2_solve : UH → Nat → Int32 → Option (UH)) (a0 : Nat) (u : UH) (x1 : Int32) : Option (UH) :=
    (uGR u a0 1 5).bind fun o1 =>
    (o1).bind fun a2 =>
    (uStI b u a2 2 x1 (vp_nar .boolean 1)).bind fun u3 =>
    some u3
set_option maxHeartbeats 4000000 in
set_option maxRecDepth 100000 in
theorem zz_X2_solve_372 {G : uG} {a0 : Nat} {uf : UH} (N : Nat) (ro_X2_seen : UH → Nat → Int32 → Int32 → Int32 → Option (Int64 × UH)) (ro_X2_of : UH → Nat → Int32 → Int32 → Option (Int64 × UH)) (ro_X2_solve : UH → Nat → Int32 → Option (UH)) (zo_X2_seen : ∀ (u : UH) (a0 : Nat) (x1 : Int32) (x2 : Int32) (x3 : Int32) (r : Int64) (uf : UH), ro_X2_seen u a0 x1 x2 x3 = some (r, uf) → uf.1 = u.1 ∧ uf.2.1 = u.2.1) (zo_X2_of : ∀ (u : UH) (a0 : Nat) (x1 : Int32) (x2 : Int32) (r : Int64) (uf : UH), ro_X2_of u a0 x1 x2 = some (r, uf) → uf.1 = u.1 ∧ uf.2.1 = u.2.1) (zo_X2_solve : ∀ (u : UH) (a0 : Nat) (x1 : Int32) (uf : UH), ro_X2_solve u a0 x1 = some uf → uf.1 = u.1 ∧ uf.2.1 = u.2.1) (u : UH) (x1 : Int32) (h : f_X2_solve_372 N (ub G) (ug G) ro_X2_seen ro_X2_of ro_X2_solve a0 u x1 = some uf) : uf.1 = u.1 ∧ uf.2.1 = u.2.1 := by
  unfold f_X2_solve_372 at h
  obtain ⟨o1, ho1, h⟩ := mbind_n h
  obtain ⟨a2, ha2, hha2⟩ := mbind_n h
  subst ha2
  have h := hha2
  obtain ⟨u3, hu3, h⟩ := mbind_n h
  have zu3 := uStI_sz hu3
  cases h
  exact ⟨by omega, by omega⟩
set_option maxHeartbeats 4000000 in
set_option maxRecDepth 100000 in
theorem w_X2_solve_372 {p : Program} {l : Launch} {e : Env} {R : Room} {s : State} {m : MethodId} {args : Array Value} {below : List Frame} {meth : Method} {c : Code} {G : uG} {a0 : Nat} {uf : UH} (hC : uC p s m args meth c G RX2 cX2_solve 14 none) (hR : 4 ≤ R.frames ∧ 88 ≤ R.locals) (N : Nat) (ro_X2_seen : UH → Nat → Int32 → Int32 → Int32 → Option (Int64 × UH)) (ro_X2_of : UH → Nat → Int32 → Int32 → Option (Int64 × UH)) (ro_X2_solve : UH → Nat → Int32 → Option (UH)) (zo_X2_seen : ∀ (u : UH) (a0 : Nat) (x1 : Int32) (x2 : Int32) (x3 : Int32) (r : Int64) (uf : UH), ro_X2_seen u a0 x1 x2 x3 = some (r, uf) → uf.1 = u.1 ∧ uf.2.1 = u.2.1) (zo_X2_of : ∀ (u : UH) (a0 : Nat) (x1 : Int32) (x2 : Int32) (r : Int64) (uf : UH), ro_X2_of u a0 x1 x2 = some (r, uf) → uf.1 = u.1 ∧ uf.2.1 = u.2.1) (zo_X2_solve : ∀ (u : UH) (a0 : Nat) (x1 : Int32) (uf : UH), ro_X2_solve u a0 x1 = some uf → uf.1 = u.1 ∧ uf.2.1 = u.2.1) {DF DL : Nat} (mo_X2_seen : ∀ (u : UH) (a0 : Nat) (x1 : Int32) (x2 : Int32) (x3 : Int32) (r : Int64) (uf : UH), ro_X2_seen u a0 x1 x2 x3 = some (r, uf) → Met l yX2_seen (ws_ yX2_seen cX2_seen 9 (some .long)) ({ frames := DF, cells := 0, slots := 0, locals := DL }) (uPc G u [.ref a0, .int x1, .int x2, .int x3]) (uQl G r uf) 0 0 (uA G)) (mo_X2_of : ∀ (u : UH) (a0 : Nat) (x1 : Int32) (x2 : Int32) (r : Int64) (uf : UH), ro_X2_of u a0 x1 x2 = some (r, uf) → Met l yX2_of (ws_ yX2_of cX2_of 3 (some .long)) ({ frames := DF, cells := 0, slots := 0, locals := DL }) (uPc G u [.ref a0, .int x1, .int x2]) (uQl G r uf) 0 0 (uA G)) (mo_X2_solve : ∀ (u : UH) (a0 : Nat) (x1 : Int32) (uf : UH), ro_X2_solve u a0 x1 = some uf → Met l yX2_solve (ws_ yX2_solve cX2_solve 14 none) ({ frames := DF, cells := 0, slots := 0, locals := DL }) (uPc G u [.ref a0, .int x1]) (uQv G uf) 0 0 (uA G)) (hRr : DF + 1 ≤ R.frames ∧ 60 + DL ≤ R.locals) (u : UH) (x1 : Int32) (h : f_X2_solve_372 N (ub G) (ug G) ro_X2_seen ro_X2_of ro_X2_solve a0 u x1 = some uf) {H : Heap} {locs : List Loc} (hP : uP G u H) (hS : va_S (uA G) s.heap H locs) {ls : Array Slot} (hl : lv_has ls 14 [(0, va_rf (some a0)), (1, .int x1)]) : W p l e R s m args below meth c H locs 0 0 (MQ below (uQv G uf) args s 0 0 (uA G)) (F0 m 372 ls []) := by
  obtain ⟨⟨hx, hb, hml, hown, hts⟩, hKK⟩ := id hC
  unfold f_X2_solve_372 at h
  refine u_aload_n (r := some a0) hx hb dX2_solve_372 rfl (lv_at hl 0 rfl) ?_
  obtain ⟨o1, ho1, h⟩ := mbind_n h
  refine u_get hC hP (uGR_n ho1) rfl in_X2 (by decide) q162 (fun _ h => h) dX2_solve_373 ?_
  refine lv_iload_n hx hb dX2_solve_376 rfl (lv_at hl 1 rfl) ?_
  refine lv_iconst (v := 1) hx hb dX2_solve_377 (by decide) ?_
  obtain ⟨a2, ha2, hha2⟩ := mbind_n h
  subst ha2
  have h := hha2
  obtain ⟨u3, hu3, h⟩ := mbind_n h
  have zu3 := uStI_sz hu3
  refine u_zast hC hP hS hu3 rfl dX2_solve_378 (fun H locs hP hS => ?_)
  cases h
  exact u_vret hC hP hS dX2_solve_379
def f_X2_solve_360 (N b : Nat) (g : uEnv) (ro_X2_seen : UH → Nat → Int32 → Int32 → Int32 → Option (Int64 × UH)) (ro_X2_of : UH → Nat → Int32 → Int32 → Option (Int64 × UH)) (ro_X2_solve : UH → Nat → Int32 → Option (UH)) (a0 : Nat) (k103 : UH → Int32 → Int32 → Int32 → Int64 → Int32 → Option (UH)) (k225 : UH → Int32 → Int32 → Int32 → Int64 → Int32 → Int32 → Option Nat → Int32 → Int32 → Option (UH)) (u : UH) (x1 : Int32) (x2 : Int32) (x3 : Int32) (x4 : Int64) (x6 : Int32) (x7 : Int32) (x8 : Option Nat) (x9 : Int32) (x10 : Int32) : Option (UH) :=
    mlet (x10 + 1) fun y1 =>
    k225 u x1 x2 x3 x4 x6 x7 x8 x9 y1
set_option maxHeartbeats 4000000 in
set_option maxRecDepth 100000 in
theorem zz_X2_solve_360 {G : uG} {a0 : Nat} {uf : UH} (N : Nat) (ro_X2_seen : UH → Nat → Int32 → Int32 → Int32 → Option (Int64 × UH)) (ro_X2_of : UH → Nat → Int32 → Int32 → Option (Int64 × UH)) (ro_X2_solve : UH → Nat → Int32 → Option (UH)) (zo_X2_seen : ∀ (u : UH) (a0 : Nat) (x1 : Int32) (x2 : Int32) (x3 : Int32) (r : Int64) (uf : UH), ro_X2_seen u a0 x1 x2 x3 = some (r, uf) → uf.1 = u.1 ∧ uf.2.1 = u.2.1) (zo_X2_of : ∀ (u : UH) (a0 : Nat) (x1 : Int32) (x2 : Int32) (r : Int64) (uf : UH), ro_X2_of u a0 x1 x2 = some (r, uf) → uf.1 = u.1 ∧ uf.2.1 = u.2.1) (zo_X2_solve : ∀ (u : UH) (a0 : Nat) (x1 : Int32) (uf : UH), ro_X2_solve u a0 x1 = some uf → uf.1 = u.1 ∧ uf.2.1 = u.2.1) (k103 : UH → Int32 → Int32 → Int32 → Int64 → Int32 → Option (UH)) (hk103 : ∀ (u : UH) (x1 : Int32) (x2 : Int32) (x3 : Int32) (x4 : Int64) (x6 : Int32), k103 u x1 x2 x3 x4 x6 = some uf → uf.1 = u.1 ∧ uf.2.1 = u.2.1) (k225 : UH → Int32 → Int32 → Int32 → Int64 → Int32 → Int32 → Option Nat → Int32 → Int32 → Option (UH)) (hk225 : ∀ (u : UH) (x1 : Int32) (x2 : Int32) (x3 : Int32) (x4 : Int64) (x6 : Int32) (x7 : Int32) (x8 : Option Nat) (x9 : Int32) (x10 : Int32), k225 u x1 x2 x3 x4 x6 x7 x8 x9 x10 = some uf → uf.1 = u.1 ∧ uf.2.1 = u.2.1) (u : UH) (x1 : Int32) (x2 : Int32) (x3 : Int32) (x4 : Int64) (x6 : Int32) (x7 : Int32) (x8 : Option Nat) (x9 : Int32) (x10 : Int32) (h : f_X2_solve_360 N (ub G) (ug G) ro_X2_seen ro_X2_of ro_X2_solve a0 k103 k225 u x1 x2 x3 x4 x6 x7 x8 x9 x10 = some uf) : uf.1 = u.1 ∧ uf.2.1 = u.2.1 := by
  unfold f_X2_solve_360 at h
  obtain ⟨y1, ey1⟩ : ∃ z : Int32, z = x10 + 1 := ⟨_, rfl⟩
  have h := mlet_at ey1 h
  have hq := hk225 u x1 x2 x3 x4 x6 x7 x8 x9 y1 h
  exact ⟨by omega, by omega⟩
set_option maxHeartbeats 4000000 in
set_option maxRecDepth 100000 in
theorem w_X2_solve_360 {p : Program} {l : Launch} {e : Env} {R : Room} {s : State} {m : MethodId} {args : Array Value} {below : List Frame} {meth : Method} {c : Code} {G : uG} {a0 : Nat} {uf : UH} (hC : uC p s m args meth c G RX2 cX2_solve 14 none) (hR : 4 ≤ R.frames ∧ 88 ≤ R.locals) (N : Nat) (ro_X2_seen : UH → Nat → Int32 → Int32 → Int32 → Option (Int64 × UH)) (ro_X2_of : UH → Nat → Int32 → Int32 → Option (Int64 × UH)) (ro_X2_solve : UH → Nat → Int32 → Option (UH)) (zo_X2_seen : ∀ (u : UH) (a0 : Nat) (x1 : Int32) (x2 : Int32) (x3 : Int32) (r : Int64) (uf : UH), ro_X2_seen u a0 x1 x2 x3 = some (r, uf) → uf.1 = u.1 ∧ uf.2.1 = u.2.1) (zo_X2_of : ∀ (u : UH) (a0 : Nat) (x1 : Int32) (x2 : Int32) (r : Int64) (uf : UH), ro_X2_of u a0 x1 x2 = some (r, uf) → uf.1 = u.1 ∧ uf.2.1 = u.2.1) (zo_X2_solve : ∀ (u : UH) (a0 : Nat) (x1 : Int32) (uf : UH), ro_X2_solve u a0 x1 = some uf → uf.1 = u.1 ∧ uf.2.1 = u.2.1) {DF DL : Nat} (mo_X2_seen : ∀ (u : UH) (a0 : Nat) (x1 : Int32) (x2 : Int32) (x3 : Int32) (r : Int64) (uf : UH), ro_X2_seen u a0 x1 x2 x3 = some (r, uf) → Met l yX2_seen (ws_ yX2_seen cX2_seen 9 (some .long)) ({ frames := DF, cells := 0, slots := 0, locals := DL }) (uPc G u [.ref a0, .int x1, .int x2, .int x3]) (uQl G r uf) 0 0 (uA G)) (mo_X2_of : ∀ (u : UH) (a0 : Nat) (x1 : Int32) (x2 : Int32) (r : Int64) (uf : UH), ro_X2_of u a0 x1 x2 = some (r, uf) → Met l yX2_of (ws_ yX2_of cX2_of 3 (some .long)) ({ frames := DF, cells := 0, slots := 0, locals := DL }) (uPc G u [.ref a0, .int x1, .int x2]) (uQl G r uf) 0 0 (uA G)) (mo_X2_solve : ∀ (u : UH) (a0 : Nat) (x1 : Int32) (uf : UH), ro_X2_solve u a0 x1 = some uf → Met l yX2_solve (ws_ yX2_solve cX2_solve 14 none) ({ frames := DF, cells := 0, slots := 0, locals := DL }) (uPc G u [.ref a0, .int x1]) (uQv G uf) 0 0 (uA G)) (hRr : DF + 1 ≤ R.frames ∧ 60 + DL ≤ R.locals) (k103 : UH → Int32 → Int32 → Int32 → Int64 → Int32 → Option (UH)) (hk103 : ∀ (u : UH) (x1 : Int32) (x2 : Int32) (x3 : Int32) (x4 : Int64) (x6 : Int32), k103 u x1 x2 x3 x4 x6 = some uf → ∀ (H : Heap) (locs : List Loc), uP G u H → va_S (uA G) s.heap H locs → ∀ ls : Array Slot, lv_has ls 14 [(0, va_rf (some a0)), (1, .int x1), (2, .int x2), (3, .int x3), (4, .long x4), (6, .int x6)] → W p l e R s m args below meth c H locs 0 0 (MQ below (uQv G uf) args s 0 0 (uA G)) (F0 m 103 ls [])) (k225 : UH → Int32 → Int32 → Int32 → Int64 → Int32 → Int32 → Option Nat → Int32 → Int32 → Option (UH)) (hk225 : ∀ (u : UH) (x1 : Int32) (x2 : Int32) (x3 : Int32) (x4 : Int64) (x6 : Int32) (x7 : Int32) (x8 : Option Nat) (x9 : Int32) (x10 : Int32), k225 u x1 x2 x3 x4 x6 x7 x8 x9 x10 = some uf → ∀ (H : Heap) (locs : List Loc), uP G u H → va_S (uA G) s.heap H locs → ∀ ls : Array Slot, lv_has ls 14 [(0, va_rf (some a0)), (1, .int x1), (2, .int x2), (3, .int x3), (4, .long x4), (6, .int x6), (7, .int x7), (8, va_rf x8), (9, .int x9), (10, .int x10)] → W p l e R s m args below meth c H locs 0 0 (MQ below (uQv G uf) args s 0 0 (uA G)) (F0 m 225 ls [])) (u : UH) (x1 : Int32) (x2 : Int32) (x3 : Int32) (x4 : Int64) (x6 : Int32) (x7 : Int32) (x8 : Option Nat) (x9 : Int32) (x10 : Int32) (h : f_X2_solve_360 N (ub G) (ug G) ro_X2_seen ro_X2_of ro_X2_solve a0 k103 k225 u x1 x2 x3 x4 x6 x7 x8 x9 x10 = some uf) {H : Heap} {locs : List Loc} (hP : uP G u H) (hS : va_S (uA G) s.heap H locs) {ls : Array Slot} (hl : lv_has ls 14 [(0, va_rf (some a0)), (1, .int x1), (2, .int x2), (3, .int x3), (4, .long x4), (6, .int x6), (7, .int x7), (8, va_rf x8), (9, .int x9), (10, .int x10)]) : W p l e R s m args below meth c H locs 0 0 (MQ below (uQv G uf) args s 0 0 (uA G)) (F0 m 360 ls []) := by
  obtain ⟨⟨hx, hb, hml, hown, hts⟩, hKK⟩ := id hC
  unfold f_X2_solve_360 at h
  obtain ⟨y1, ey1⟩ : ∃ z : Int32, z = x10 + 1 := ⟨_, rfl⟩
  have h := mlet_at ey1 h
  refine lv_iinc (v := y1) (lv' := [(10, .int y1), (0, va_rf (some a0)), (1, .int x1), (2, .int x2), (3, .int x3), (4, .long x4), (6, .int x6), (7, .int x7), (8, va_rf x8), (9, .int x9)]) hx hb dX2_solve_360 hl (k := 9) rfl (by rw [ey1]; rfl) (by decide) rfl (fun ls hl => ?_)
  refine lv_goto (tgt := 225) hx hb dX2_solve_363 (by decide) ?_
  exact hk225 u x1 x2 x3 x4 x6 x7 x8 x9 y1 h _ _ hP hS _ (lv_sub hl [1, 2, 3, 4, 5, 6, 7, 8, 9, 0] rfl)
def f_X2_solve_225 (N b : Nat) (g : uEnv) (ro_X2_seen : UH → Nat → Int32 → Int32 → Int32 → Option (Int64 × UH)) (ro_X2_of : UH → Nat → Int32 → Int32 → Option (Int64 × UH)) (ro_X2_solve : UH → Nat → Int32 → Option (UH)) (a0 : Nat) (k103 : UH → Int32 → Int32 → Int32 → Int64 → Int32 → Option (UH)) : Nat → UH → Int32 → Int32 → Int32 → Int64 → Int32 → Int32 → Option Nat → Int32 → Int32 → Option (UH)
  | 0, _, _, _, _, _, _, _, _, _, _ => none
  | n + 1, u, x1, x2, x3, x4, x6, x7, x8, x9, x10 =>
    if x9 ≤ x10 then
    mlet (x6 + 1) fun y2 =>
    k103 u x1 x2 x3 x4 y2
    else
    (x8).bind fun a3 =>
    (uLdR u a3 5 x10).bind fun o4 =>
    (uGR u a0 1 0).bind fun o5 =>
    (o5).bind fun a6 =>
    if uIs u a6 12 = true then
    ucall (f_X14_beside N b g u a6 x7 o4) fun r10 u8 =>
    if r10 = (-1) then
    f_X2_solve_360 N b g ro_X2_seen ro_X2_of ro_X2_solve a0 k103 (f_X2_solve_225 N b g ro_X2_seen ro_X2_of ro_X2_solve a0 k103 n) u8 x1 x2 x3 x4 x6 x7 (some a3) x9 x10
    else
    (uGI u8 a0 1 1).bind fun y12 =>
    if r10 = y12 then
    f_X2_solve_360 N b g ro_X2_seen ro_X2_of ro_X2_solve a0 k103 (f_X2_solve_225 N b g ro_X2_seen ro_X2_of ro_X2_solve a0 k103 n) u8 x1 x2 x3 x4 x6 x7 (some a3) x9 x10
    else
    (uGR u8 a0 1 7).bind fun o14 =>
    (o14).bind fun a15 =>
    (uLdI u8 a15 0 r10).bind fun y16 =>
    if (y16 &&& x3) = 0 then
    (uGR u8 a0 1 0).bind fun o18 =>
    (o18).bind fun a19 =>
    (uGR u8 a19 12 7).bind fun o20 =>
    (o4).bind fun a21 =>
    ucall (f_J3_ordinal N b g u8 a21) fun r24 u22 =>
    (o20).bind fun a25 =>
    (uLdR u22 a25 5 (r24 ^^^ 1)).bind fun o26 =>
    if uIs u22 a0 1 = true then
    ucall (f_X2_cost N b g u22 a0 r10 o26 x1) fun r30 u28 =>
    if r30 = (-1) then
    f_X2_solve_360 N b g ro_X2_seen ro_X2_of ro_X2_solve a0 k103 (f_X2_solve_225 N b g ro_X2_seen ro_X2_of ro_X2_solve a0 k103 n) u28 x1 x2 x3 x4 x6 x7 (some a3) x9 x10
    else
    (uGR u28 a0 1 4).bind fun o32 =>
    (uGR u28 a0 1 4).bind fun o33 =>
    (o33).bind fun a34 =>
    (uLdL u28 a34 3 (x2 + r10)).bind fun y35 =>
    (uGR u28 a0 1 4).bind fun o36 =>
    (o36).bind fun a37 =>
    (uLdL u28 a37 3 (x2 + x7)).bind fun y38 =>
    (uGR u28 a0 1 3).bind fun o39 =>
    (o39).bind fun a40 =>
    ucall (if uIs u28 a40 14 = true then f_X16_parts N b g u28 a40 (r30.toInt64) x4 else if uIs u28 a40 15 = true then f_X17_parts N b g u28 a40 (r30.toInt64) x4 else none) fun r43 u41 =>
    ucall (f_J9_min_2 N b g u41 y35 (y38 + r43)) fun r46 u44 =>
    (o32).bind fun a47 =>
    (uStL b u44 a47 3 (x2 + r10) r46).bind fun u48 =>
    f_X2_solve_360 N b g ro_X2_seen ro_X2_of ro_X2_solve a0 k103 (f_X2_solve_225 N b g ro_X2_seen ro_X2_of ro_X2_solve a0 k103 n) u48 x1 x2 x3 x4 x6 x7 (some a3) x9 x10
    else none
    else
    f_X2_solve_360 N b g ro_X2_seen ro_X2_of ro_X2_solve a0 k103 (f_X2_solve_225 N b g ro_X2_seen ro_X2_of ro_X2_solve a0 k103 n) u8 x1 x2 x3 x4 x6 x7 (some a3) x9 x10
    else none
set_option maxHeartbeats 4000000 in
set_option maxRecDepth 100000 in
theorem zz_X2_solve_225 {G : uG} {a0 : Nat} {uf : UH} (N : Nat) (ro_X2_seen : UH → Nat → Int32 → Int32 → Int32 → Option (Int64 × UH)) (ro_X2_of : UH → Nat → Int32 → Int32 → Option (Int64 × UH)) (ro_X2_solve : UH → Nat → Int32 → Option (UH)) (zo_X2_seen : ∀ (u : UH) (a0 : Nat) (x1 : Int32) (x2 : Int32) (x3 : Int32) (r : Int64) (uf : UH), ro_X2_seen u a0 x1 x2 x3 = some (r, uf) → uf.1 = u.1 ∧ uf.2.1 = u.2.1) (zo_X2_of : ∀ (u : UH) (a0 : Nat) (x1 : Int32) (x2 : Int32) (r : Int64) (uf : UH), ro_X2_of u a0 x1 x2 = some (r, uf) → uf.1 = u.1 ∧ uf.2.1 = u.2.1) (zo_X2_solve : ∀ (u : UH) (a0 : Nat) (x1 : Int32) (uf : UH), ro_X2_solve u a0 x1 = some uf → uf.1 = u.1 ∧ uf.2.1 = u.2.1) (k103 : UH → Int32 → Int32 → Int32 → Int64 → Int32 → Option (UH)) (hk103 : ∀ (u : UH) (x1 : Int32) (x2 : Int32) (x3 : Int32) (x4 : Int64) (x6 : Int32), k103 u x1 x2 x3 x4 x6 = some uf → uf.1 = u.1 ∧ uf.2.1 = u.2.1) : ∀ (n : Nat) (u : UH) (x1 : Int32) (x2 : Int32) (x3 : Int32) (x4 : Int64) (x6 : Int32) (x7 : Int32) (x8 : Option Nat) (x9 : Int32) (x10 : Int32), f_X2_solve_225 N (ub G) (ug G) ro_X2_seen ro_X2_of ro_X2_solve a0 k103 n u x1 x2 x3 x4 x6 x7 x8 x9 x10 = some uf → uf.1 = u.1 ∧ uf.2.1 = u.2.1 := by
  intro n
  induction n with
  | zero =>
    intro u x1 x2 x3 x4 x6 x7 x8 x9 x10 h
    cases h
  | succ n ih =>
    intro u x1 x2 x3 x4 x6 x7 x8 x9 x10 h
    unfold f_X2_solve_225 at h
    by_cases c1 : x9 ≤ x10
    · have h := mif_t c1 h
      obtain ⟨y2, ey2⟩ : ∃ z : Int32, z = x6 + 1 := ⟨_, rfl⟩
      have h := mlet_at ey2 h
      have hq := hk103 u x1 x2 x3 x4 y2 h
      exact ⟨by omega, by omega⟩
    · have h := mif_f c1 h
      obtain ⟨a3, ha3, hha3⟩ := mbind_n h
      subst ha3
      have h := hha3
      obtain ⟨o4, ho4, h⟩ := mbind_n h
      obtain ⟨o5, ho5, h⟩ := mbind_n h
      obtain ⟨a6, ha6, hha6⟩ := mbind_n h
      subst ha6
      have h := hha6
      obtain ⟨c7, h⟩ := mif_n h
      obtain ⟨r10, u8, c9, h⟩ := ucall_n h
      have zu8 := zz_X14_beside N (ub G) (ug G) u a6 x7 o4 r10 u8 c9
      by_cases c11 : r10 = (-1)
      · have h := mif_t c11 h
        have hq := zz_X2_solve_360 (G := G) (a0 := a0) N  ro_X2_seen ro_X2_of ro_X2_solve zo_X2_seen zo_X2_of zo_X2_solve k103 hk103 (f_X2_solve_225 N (ub G) (ug G) ro_X2_seen ro_X2_of ro_X2_solve a0 k103 n) ih u8 x1 x2 x3 x4 x6 x7 (some a3) x9 x10 h
        exact ⟨by omega, by omega⟩
      · have h := mif_f c11 h
        obtain ⟨y12, hy12, h⟩ := mbind_n h
        by_cases c13 : r10 = y12
        · have h := mif_t c13 h
          have hq := zz_X2_solve_360 (G := G) (a0 := a0) N  ro_X2_seen ro_X2_of ro_X2_solve zo_X2_seen zo_X2_of zo_X2_solve k103 hk103 (f_X2_solve_225 N (ub G) (ug G) ro_X2_seen ro_X2_of ro_X2_solve a0 k103 n) ih u8 x1 x2 x3 x4 x6 x7 (some a3) x9 x10 h
          exact ⟨by omega, by omega⟩
        · have h := mif_f c13 h
          obtain ⟨o14, ho14, h⟩ := mbind_n h
          obtain ⟨a15, ha15, hha15⟩ := mbind_n h
          subst ha15
          have h := hha15
          obtain ⟨y16, hy16, h⟩ := mbind_n h
          by_cases c17 : (y16 &&& x3) = 0
          · have h := mif_t c17 h
            obtain ⟨o18, ho18, h⟩ := mbind_n h
            obtain ⟨a19, ha19, hha19⟩ := mbind_n h
            subst ha19
            have h := hha19
            obtain ⟨o20, ho20, h⟩ := mbind_n h
            obtain ⟨a21, ha21, hha21⟩ := mbind_n h
            subst ha21
            have h := hha21
            obtain ⟨r24, u22, c23, h⟩ := ucall_n h
            have zu22 := zz_J3_ordinal N (ub G) (ug G) u8 a21 r24 u22 c23
            obtain ⟨a25, ha25, hha25⟩ := mbind_n h
            subst ha25
            have h := hha25
            obtain ⟨o26, ho26, h⟩ := mbind_n h
            obtain ⟨c27, h⟩ := mif_n h
            obtain ⟨r30, u28, c29, h⟩ := ucall_n h
            have zu28 := zz_X2_cost N (ub G) (ug G) u22 a0 r10 o26 x1 r30 u28 c29
            by_cases c31 : r30 = (-1)
            · have h := mif_t c31 h
              have hq := zz_X2_solve_360 (G := G) (a0 := a0) N  ro_X2_seen ro_X2_of ro_X2_solve zo_X2_seen zo_X2_of zo_X2_solve k103 hk103 (f_X2_solve_225 N (ub G) (ug G) ro_X2_seen ro_X2_of ro_X2_solve a0 k103 n) ih u28 x1 x2 x3 x4 x6 x7 (some a3) x9 x10 h
              exact ⟨by omega, by omega⟩
            · have h := mif_f c31 h
              obtain ⟨o32, ho32, h⟩ := mbind_n h
              obtain ⟨o33, ho33, h⟩ := mbind_n h
              obtain ⟨a34, ha34, hha34⟩ := mbind_n h
              subst ha34
              have h := hha34
              obtain ⟨y35, hy35, h⟩ := mbind_n h
              obtain ⟨o36, ho36, h⟩ := mbind_n h
              obtain ⟨a37, ha37, hha37⟩ := mbind_n h
              subst ha37
              have h := hha37
              obtain ⟨y38, hy38, h⟩ := mbind_n h
              obtain ⟨o39, ho39, h⟩ := mbind_n h
              obtain ⟨a40, ha40, hha40⟩ := mbind_n h
              subst ha40
              have h := hha40
              obtain ⟨r43, u41, c42, h⟩ := ucall_n h
              have zu41 := ((Classical.em (uIs u28 a40 14 = true)).elim (fun k1 => zz_X16_parts N (ub G) (ug G) u28 a40 (r30.toInt64) x4 r43 u41 (mif_t k1 c42)) (fun k1 => zz_X17_parts N (ub G) (ug G) u28 a40 (r30.toInt64) x4 r43 u41 (mif_n (mif_f k1 c42)).2))
              obtain ⟨r46, u44, c45, h⟩ := ucall_n h
              have zu44 := zz_J9_min_2 N (ub G) (ug G) u41 y35 (y38 + r43) r46 u44 c45
              obtain ⟨a47, ha47, hha47⟩ := mbind_n h
              subst ha47
              have h := hha47
              obtain ⟨u48, hu48, h⟩ := mbind_n h
              have zu48 := uStL_sz hu48
              have hq := zz_X2_solve_360 (G := G) (a0 := a0) N  ro_X2_seen ro_X2_of ro_X2_solve zo_X2_seen zo_X2_of zo_X2_solve k103 hk103 (f_X2_solve_225 N (ub G) (ug G) ro_X2_seen ro_X2_of ro_X2_solve a0 k103 n) ih u48 x1 x2 x3 x4 x6 x7 (some a3) x9 x10 h
              exact ⟨by omega, by omega⟩
          · have h := mif_f c17 h
            have hq := zz_X2_solve_360 (G := G) (a0 := a0) N  ro_X2_seen ro_X2_of ro_X2_solve zo_X2_seen zo_X2_of zo_X2_solve k103 hk103 (f_X2_solve_225 N (ub G) (ug G) ro_X2_seen ro_X2_of ro_X2_solve a0 k103 n) ih u8 x1 x2 x3 x4 x6 x7 (some a3) x9 x10 h
            exact ⟨by omega, by omega⟩
set_option maxHeartbeats 4000000 in
set_option maxRecDepth 100000 in
theorem w_X2_solve_225 {p : Program} {l : Launch} {e : Env} {R : Room} {s : State} {m : MethodId} {args : Array Value} {below : List Frame} {meth : Method} {c : Code} {G : uG} {a0 : Nat} {uf : UH} (hC : uC p s m args meth c G RX2 cX2_solve 14 none) (hR : 4 ≤ R.frames ∧ 88 ≤ R.locals) (N : Nat) (ro_X2_seen : UH → Nat → Int32 → Int32 → Int32 → Option (Int64 × UH)) (ro_X2_of : UH → Nat → Int32 → Int32 → Option (Int64 × UH)) (ro_X2_solve : UH → Nat → Int32 → Option (UH)) (zo_X2_seen : ∀ (u : UH) (a0 : Nat) (x1 : Int32) (x2 : Int32) (x3 : Int32) (r : Int64) (uf : UH), ro_X2_seen u a0 x1 x2 x3 = some (r, uf) → uf.1 = u.1 ∧ uf.2.1 = u.2.1) (zo_X2_of : ∀ (u : UH) (a0 : Nat) (x1 : Int32) (x2 : Int32) (r : Int64) (uf : UH), ro_X2_of u a0 x1 x2 = some (r, uf) → uf.1 = u.1 ∧ uf.2.1 = u.2.1) (zo_X2_solve : ∀ (u : UH) (a0 : Nat) (x1 : Int32) (uf : UH), ro_X2_solve u a0 x1 = some uf → uf.1 = u.1 ∧ uf.2.1 = u.2.1) {DF DL : Nat} (mo_X2_seen : ∀ (u : UH) (a0 : Nat) (x1 : Int32) (x2 : Int32) (x3 : Int32) (r : Int64) (uf : UH), ro_X2_seen u a0 x1 x2 x3 = some (r, uf) → Met l yX2_seen (ws_ yX2_seen cX2_seen 9 (some .long)) ({ frames := DF, cells := 0, slots := 0, locals := DL }) (uPc G u [.ref a0, .int x1, .int x2, .int x3]) (uQl G r uf) 0 0 (uA G)) (mo_X2_of : ∀ (u : UH) (a0 : Nat) (x1 : Int32) (x2 : Int32) (r : Int64) (uf : UH), ro_X2_of u a0 x1 x2 = some (r, uf) → Met l yX2_of (ws_ yX2_of cX2_of 3 (some .long)) ({ frames := DF, cells := 0, slots := 0, locals := DL }) (uPc G u [.ref a0, .int x1, .int x2]) (uQl G r uf) 0 0 (uA G)) (mo_X2_solve : ∀ (u : UH) (a0 : Nat) (x1 : Int32) (uf : UH), ro_X2_solve u a0 x1 = some uf → Met l yX2_solve (ws_ yX2_solve cX2_solve 14 none) ({ frames := DF, cells := 0, slots := 0, locals := DL }) (uPc G u [.ref a0, .int x1]) (uQv G uf) 0 0 (uA G)) (hRr : DF + 1 ≤ R.frames ∧ 60 + DL ≤ R.locals) (k103 : UH → Int32 → Int32 → Int32 → Int64 → Int32 → Option (UH)) (hk103 : ∀ (u : UH) (x1 : Int32) (x2 : Int32) (x3 : Int32) (x4 : Int64) (x6 : Int32), k103 u x1 x2 x3 x4 x6 = some uf → ∀ (H : Heap) (locs : List Loc), uP G u H → va_S (uA G) s.heap H locs → ∀ ls : Array Slot, lv_has ls 14 [(0, va_rf (some a0)), (1, .int x1), (2, .int x2), (3, .int x3), (4, .long x4), (6, .int x6)] → W p l e R s m args below meth c H locs 0 0 (MQ below (uQv G uf) args s 0 0 (uA G)) (F0 m 103 ls [])) : ∀ (n : Nat) (u : UH) (x1 : Int32) (x2 : Int32) (x3 : Int32) (x4 : Int64) (x6 : Int32) (x7 : Int32) (x8 : Option Nat) (x9 : Int32) (x10 : Int32), f_X2_solve_225 N (ub G) (ug G) ro_X2_seen ro_X2_of ro_X2_solve a0 k103 n u x1 x2 x3 x4 x6 x7 x8 x9 x10 = some uf → ∀ (H : Heap) (locs : List Loc), uP G u H → va_S (uA G) s.heap H locs → ∀ ls : Array Slot, lv_has ls 14 [(0, va_rf (some a0)), (1, .int x1), (2, .int x2), (3, .int x3), (4, .long x4), (6, .int x6), (7, .int x7), (8, va_rf x8), (9, .int x9), (10, .int x10)] → W p l e R s m args below meth c H locs 0 0 (MQ below (uQv G uf) args s 0 0 (uA G)) (F0 m 225 ls []) := by
  obtain ⟨⟨hx, hb, hml, hown, hts⟩, hKK⟩ := id hC
  intro n
  induction n with
  | zero =>
    intro u x1 x2 x3 x4 x6 x7 x8 x9 x10 h
    cases h
  | succ n ih =>
    intro u x1 x2 x3 x4 x6 x7 x8 x9 x10 h H locs hP hS ls hl
    unfold f_X2_solve_225 at h
    refine lv_iload hx hb dX2_solve_225 (lv_at hl 9 rfl) ?_
    refine lv_iload hx hb dX2_solve_227 (lv_at hl 8 rfl) ?_
    refine lv_icmp_ge (tgt := 366) hx hb dX2_solve_229 (by decide) (fun c1 => ?_) (fun c1 => ?_)
    · have h := mif_t c1 h
      obtain ⟨y2, ey2⟩ : ∃ z : Int32, z = x6 + 1 := ⟨_, rfl⟩
      have h := mlet_at ey2 h
      refine lv_iinc (v := y2) (lv' := [(6, .int y2), (0, va_rf (some a0)), (1, .int x1), (2, .int x2), (3, .int x3), (4, .long x4), (7, .int x7), (8, va_rf x8), (9, .int x9), (10, .int x10)]) hx hb dX2_solve_366 hl (k := 5) rfl (by rw [ey2]; rfl) (by decide) rfl (fun ls hl => ?_)
      refine lv_goto (tgt := 103) hx hb dX2_solve_369 (by decide) ?_
      exact hk103 u x1 x2 x3 x4 y2 h _ _ hP hS _ (lv_sub hl [1, 2, 3, 4, 5, 0] rfl)
    · have h := mif_f c1 h
      refine u_aload (r := x8) hx hb dX2_solve_232 (lv_at hl 7 rfl) ?_
      refine lv_iload hx hb dX2_solve_234 (lv_at hl 9 rfl) ?_
      obtain ⟨a3, ha3, hha3⟩ := mbind_n h
      subst ha3
      have h := hha3
      obtain ⟨o4, ho4, h⟩ := mbind_n h
      refine u_aald hC hP ho4 rfl dX2_solve_236 ?_
      refine u_astore (r := o4) (lv' := [(11, va_rf o4), (0, va_rf (some a0)), (1, .int x1), (2, .int x2), (3, .int x3), (4, .long x4), (6, .int x6), (7, .int x7), (8, va_rf (some a3)), (9, .int x9), (10, .int x10)]) hx hb dX2_solve_237 hl (by decide) rfl (fun ls hl => ?_)
      refine u_aload_n (r := some a0) hx hb dX2_solve_239 rfl (lv_at hl 1 rfl) ?_
      obtain ⟨o5, ho5, h⟩ := mbind_n h
      refine u_get hC hP (uGR_n ho5) rfl in_X2 (by decide) q157 (fun _ h => h) dX2_solve_240 ?_
      refine lv_iload hx hb dX2_solve_243 (lv_at hl 7 rfl) ?_
      refine u_aload (r := o4) hx hb dX2_solve_245 (lv_at hl 0 rfl) ?_
      obtain ⟨a6, ha6, hha6⟩ := mbind_n h
      subst ha6
      have h := hha6
      obtain ⟨c7, h⟩ := mif_n h
      obtain ⟨r10, u8, c9, h⟩ := ucall_n h
      have zu8 := zz_X14_beside N (ub G) (ug G) u a6 x7 o4 r10 u8 c9
      refine u_calli (va_runV (As := [.int x7, va_rf o4]) (rest := []) hC.1 (met_X14_beside l N G u a6 x7 o4 r10 u8 c9) (cwV 2 hts (lw_V q1398 q1265 q1266 q131 q1267) rfl rfl rfl (by decide +kernel) ⟨Nat.le_trans (Nat.le_of_ble_eq_true rfl) hR.1, Nat.le_trans (Nat.le_of_ble_eq_true rfl) hR.2⟩) ⟨uPc_blind, u_rcv hC hP c7 rfl, fun U hU hW => u_pre hC hP hS hU hW⟩ rfl rfl hl.1 rfl (lv_room (Nat.le_of_ble_eq_true rfl)) dX2_solve_247 ⟨Nat.zero_le _, Nat.zero_le _⟩) hS (fun H locs hP hS => ?_)
      refine lv_istore (lv' := [(12, .int r10), (11, va_rf o4), (0, va_rf (some a0)), (1, .int x1), (2, .int x2), (3, .int x3), (4, .long x4), (6, .int x6), (7, .int x7), (8, va_rf (some a3)), (9, .int x9), (10, .int x10)]) hx hb dX2_solve_250 hl (by decide) (by simp [List.filter_cons, u_cat]) (fun ls hl => ?_)
      refine lv_iload hx hb dX2_solve_252 (lv_at hl 0 rfl) ?_
      refine lv_iconst (v := (-1)) hx hb dX2_solve_254 (by decide) ?_
      refine lv_icmp_eq (tgt := 360) hx hb dX2_solve_255 (by decide) (fun c11 => ?_) (fun c11 => ?_)
      · have h := mif_t c11 h
        exact w_X2_solve_360 hC hR N  ro_X2_seen ro_X2_of ro_X2_solve zo_X2_seen zo_X2_of zo_X2_solve mo_X2_seen mo_X2_of mo_X2_solve hRr k103 hk103 (f_X2_solve_225 N (ub G) (ug G) ro_X2_seen ro_X2_of ro_X2_solve a0 k103 n) ih u8 x1 x2 x3 x4 x6 x7 (some a3) x9 x10 h hP hS (lv_sub hl [2, 3, 4, 5, 6, 7, 8, 9, 10, 11] rfl)
      · have h := mif_f c11 h
        refine lv_iload hx hb dX2_solve_258 (lv_at hl 0 rfl) ?_
        refine u_aload_n (r := some a0) hx hb dX2_solve_260 rfl (lv_at hl 2 rfl) ?_
        obtain ⟨y12, hy12, h⟩ := mbind_n h
        refine u_get hC hP (uGI_n hy12) rfl in_X2 (by decide) q158 (fun _ h => h) dX2_solve_261 ?_
        refine lv_icmp_eq (tgt := 360) hx hb dX2_solve_264 (by decide) (fun c13 => ?_) (fun c13 => ?_)
        · have h := mif_t c13 h
          exact w_X2_solve_360 hC hR N  ro_X2_seen ro_X2_of ro_X2_solve zo_X2_seen zo_X2_of zo_X2_solve mo_X2_seen mo_X2_of mo_X2_solve hRr k103 hk103 (f_X2_solve_225 N (ub G) (ug G) ro_X2_seen ro_X2_of ro_X2_solve a0 k103 n) ih u8 x1 x2 x3 x4 x6 x7 (some a3) x9 x10 h hP hS (lv_sub hl [2, 3, 4, 5, 6, 7, 8, 9, 10, 11] rfl)
        · have h := mif_f c13 h
          refine u_aload_n (r := some a0) hx hb dX2_solve_267 rfl (lv_at hl 2 rfl) ?_
          obtain ⟨o14, ho14, h⟩ := mbind_n h
          refine u_get hC hP (uGR_n ho14) rfl in_X2 (by decide) q164 (fun _ h => h) dX2_solve_268 ?_
          refine lv_iload hx hb dX2_solve_271 (lv_at hl 0 rfl) ?_
          obtain ⟨a15, ha15, hha15⟩ := mbind_n h
          subst ha15
          have h := hha15
          obtain ⟨y16, hy16, h⟩ := mbind_n h
          refine u_iald hC hP hy16 rfl dX2_solve_273 ?_
          refine lv_iload_n hx hb dX2_solve_274 rfl (lv_at hl 5 rfl) ?_
          refine lv_iand hx hb dX2_solve_275 ?_
          refine lv_if_eq (tgt := 282) hx hb dX2_solve_276 (by decide) (fun c17 => ?_) (fun c17 => ?_)
          · have h := mif_t c17 h
            refine u_aload_n (r := some a0) hx hb dX2_solve_282 rfl (lv_at hl 2 rfl) ?_
            refine lv_iload hx hb dX2_solve_283 (lv_at hl 0 rfl) ?_
            refine u_aload_n (r := some a0) hx hb dX2_solve_285 rfl (lv_at hl 2 rfl) ?_
            obtain ⟨o18, ho18, h⟩ := mbind_n h
            refine u_get hC hP (uGR_n ho18) rfl in_X2 (by decide) q157 (fun _ h => h) dX2_solve_286 ?_
            obtain ⟨a19, ha19, hha19⟩ := mbind_n h
            subst ha19
            have h := hha19
            obtain ⟨o20, ho20, h⟩ := mbind_n h
            refine u_getN hC hP (uGR_n ho20) rfl in_X14 (by decide) q1153 (fun _ h => h) dX2_solve_289 ?_
            refine u_aload (r := o4) hx hb dX2_solve_292 (lv_at hl 1 rfl) ?_
            obtain ⟨a21, ha21, hha21⟩ := mbind_n h
            subst ha21
            have h := hha21
            obtain ⟨r24, u22, c23, h⟩ := ucall_n h
            have zu22 := zz_J3_ordinal N (ub G) (ug G) u8 a21 r24 u22 c23
            refine u_calli (va_runU (As := []) (rest := [va_rf o20, .int r10, va_rf (some a0)]) hC.1 (met_J3_ordinal l N G u8 a21 r24 u22 c23) (va_cwU 0 hts (lw_U q1323 q1324 q1326 q1327 q106 q1328) rfl rfl rfl rfl (by decide +kernel) ⟨Nat.le_trans (Nat.le_of_ble_eq_true rfl) hR.1, Nat.le_trans (Nat.le_of_ble_eq_true rfl) hR.2⟩) ⟨uPc_blind, u_rcvW hC hS c23, fun U hU hW => u_pre hC hP hS hU hW⟩ rfl rfl hl.1 rfl (lv_room (by simp only [List.map, u_cat]; exact Nat.le_of_ble_eq_true rfl)) dX2_solve_294 ⟨Nat.zero_le _, Nat.zero_le _⟩) hS (fun H locs hP hS => ?_)
            refine lv_iconst (v := 1) hx hb dX2_solve_297 (by decide) ?_
            refine lv_ixor hx hb dX2_solve_298 ?_
            obtain ⟨a25, ha25, hha25⟩ := mbind_n h
            subst ha25
            have h := hha25
            obtain ⟨o26, ho26, h⟩ := mbind_n h
            refine u_aald hC hP ho26 rfl dX2_solve_299 ?_
            refine lv_iload_n hx hb dX2_solve_300 rfl (lv_at hl 3 rfl) ?_
            obtain ⟨c27, h⟩ := mif_n h
            obtain ⟨r30, u28, c29, h⟩ := ucall_n h
            have zu28 := zz_X2_cost N (ub G) (ug G) u22 a0 r10 o26 x1 r30 u28 c29
            refine u_calli (va_runV (As := [.int r10, va_rf o26, .int x1]) (rest := []) hC.1 (met_X2_cost l N G u22 a0 r10 o26 x1 r30 u28 c29) (cwV 3 hts (lw_V q1399 q1401 qs25 q99 q1402) rfl rfl rfl (by decide +kernel) ⟨Nat.le_trans (Nat.le_of_ble_eq_true rfl) hR.1, Nat.le_trans (Nat.le_of_ble_eq_true rfl) hR.2⟩) ⟨uPc_blind, u_rcv hC hP c27 rfl, fun U hU hW => u_pre hC hP hS hU hW⟩ rfl rfl hl.1 rfl (lv_room (Nat.le_of_ble_eq_true rfl)) dX2_solve_301 ⟨Nat.zero_le _, Nat.zero_le _⟩) hS (fun H locs hP hS => ?_)
            refine lv_istore (lv' := [(13, .int r30), (12, .int r10), (11, va_rf (some a21)), (0, va_rf (some a0)), (1, .int x1), (2, .int x2), (3, .int x3), (4, .long x4), (6, .int x6), (7, .int x7), (8, va_rf (some a3)), (9, .int x9), (10, .int x10)]) hx hb dX2_solve_304 hl (by decide) rfl (fun ls hl => ?_)
            refine lv_iload hx hb dX2_solve_306 (lv_at hl 0 rfl) ?_
            refine lv_iconst (v := (-1)) hx hb dX2_solve_308 (by decide) ?_
            refine lv_icmp_ne (tgt := 315) hx hb dX2_solve_309 (by decide) (fun c31 => ?_) (fun c31 => ?_)
            · have h := mif_f c31 h
              refine u_aload_n (r := some a0) hx hb dX2_solve_315 rfl (lv_at hl 3 rfl) ?_
              obtain ⟨o32, ho32, h⟩ := mbind_n h
              refine u_get hC hP (uGR_n ho32) rfl in_X2 (by decide) q161 (fun _ h => h) dX2_solve_316 ?_
              refine lv_iload_n hx hb dX2_solve_319 rfl (lv_at hl 5 rfl) ?_
              refine lv_iload hx hb dX2_solve_320 (lv_at hl 1 rfl) ?_
              refine lv_iadd hx hb dX2_solve_322 ?_
              refine u_aload_n (r := some a0) hx hb dX2_solve_323 rfl (lv_at hl 3 rfl) ?_
              obtain ⟨o33, ho33, h⟩ := mbind_n h
              refine u_get hC hP (uGR_n ho33) rfl in_X2 (by decide) q161 (fun _ h => h) dX2_solve_324 ?_
              refine lv_iload_n hx hb dX2_solve_327 rfl (lv_at hl 5 rfl) ?_
              refine lv_iload hx hb dX2_solve_328 (lv_at hl 1 rfl) ?_
              refine lv_iadd hx hb dX2_solve_330 ?_
              obtain ⟨a34, ha34, hha34⟩ := mbind_n h
              subst ha34
              have h := hha34
              obtain ⟨y35, hy35, h⟩ := mbind_n h
              refine u_lald hC hP hy35 rfl dX2_solve_331 ?_
              refine u_aload_n (r := some a0) hx hb dX2_solve_332 rfl (lv_at hl 3 rfl) ?_
              obtain ⟨o36, ho36, h⟩ := mbind_n h
              refine u_get hC hP (uGR_n ho36) rfl in_X2 (by decide) q161 (fun _ h => h) dX2_solve_333 ?_
              refine lv_iload_n hx hb dX2_solve_336 rfl (lv_at hl 5 rfl) ?_
              refine lv_iload hx hb dX2_solve_337 (lv_at hl 9 rfl) ?_
              refine lv_iadd hx hb dX2_solve_339 ?_
              obtain ⟨a37, ha37, hha37⟩ := mbind_n h
              subst ha37
              have h := hha37
              obtain ⟨y38, hy38, h⟩ := mbind_n h
              refine u_lald hC hP hy38 rfl dX2_solve_340 ?_
              refine u_aload_n (r := some a0) hx hb dX2_solve_341 rfl (lv_at hl 3 rfl) ?_
              obtain ⟨o39, ho39, h⟩ := mbind_n h
              refine u_get hC hP (uGR_n ho39) rfl in_X2 (by decide) q160 (fun _ h => h) dX2_solve_342 ?_
              refine lv_iload hx hb dX2_solve_345 (lv_at hl 0 rfl) ?_
              refine lv_i2l (v := r30.toInt64) hx hb dX2_solve_347 rfl ?_
              refine lv_lload hx hb dX2_solve_348 (lv_at hl 7 rfl) ?_
              obtain ⟨a40, ha40, hha40⟩ := mbind_n h
              subst ha40
              have h := hha40
              obtain ⟨r43, u41, c42, h⟩ := ucall_n h
              have zu41 := ((Classical.em (uIs u28 a40 14 = true)).elim (fun k1 => zz_X16_parts N (ub G) (ug G) u28 a40 (r30.toInt64) x4 r43 u41 (mif_t k1 c42)) (fun k1 => zz_X17_parts N (ub G) (ug G) u28 a40 (r30.toInt64) x4 r43 u41 (mif_n (mif_f k1 c42)).2))
              refine u_callFl (((Classical.em (uIs u28 a40 14 = true)).elim (fun k1 => va_runF (As := [.long (r30.toInt64), .long x4]) (rest := [.long y38, .long y35, .int (x2 + r10), va_rf o32]) (C := RX16) (hC.2.1.1.1 14 _ rfl).2 hC.1 (met_X16_parts l N G u28 a40 (r30.toInt64) x4 r43 u41 (mif_t k1 c42)) (va_cwF 2 hts (lw_F q1408 q1411 q1413 q133 q1415) rfl rfl rfl (hC.2.1.2.2.1 _ (List.mem_of_getElem? (i := 7) rfl)) (by decide +kernel) ⟨Nat.le_trans (Nat.le_of_ble_eq_true rfl) hR.1, Nat.le_trans (Nat.le_of_ble_eq_true rfl) hR.2⟩) ⟨uPc_blind, u_rcv hC hP k1 rfl, fun U hU hW => u_pre hC hP hS hU hW⟩ rfl rfl hl.1 rfl (lv_room (by simp only [List.map, u_cat]; exact Nat.le_of_ble_eq_true rfl)) dX2_solve_350 ⟨Nat.zero_le _, Nat.zero_le _⟩) (fun k1 => va_runF (As := [.long (r30.toInt64), .long x4]) (rest := [.long y38, .long y35, .int (x2 + r10), va_rf o32]) (C := RX17) (hC.2.1.1.1 15 _ rfl).2 hC.1 (met_X17_parts l N G u28 a40 (r30.toInt64) x4 r43 u41 (mif_n (mif_f k1 c42)).2) (va_cwF 2 hts (lw_F q1408 q1416 q1418 q134 q1420) rfl rfl rfl (hC.2.1.2.2.1 _ (List.mem_of_getElem? (i := 8) rfl)) (by decide +kernel) ⟨Nat.le_trans (Nat.le_of_ble_eq_true rfl) hR.1, Nat.le_trans (Nat.le_of_ble_eq_true rfl) hR.2⟩) ⟨uPc_blind, u_rcv hC hP (mif_n (mif_f k1 c42)).1 rfl, fun U hU hW => u_pre hC hP hS hU hW⟩ rfl rfl hl.1 rfl (lv_room (by simp only [List.map, u_cat]; exact Nat.le_of_ble_eq_true rfl)) dX2_solve_350 ⟨Nat.zero_le _, Nat.zero_le _⟩))) hS (fun H locs hP hS => ?_)
              refine lv_ladd hx hb dX2_solve_355 ?_
              obtain ⟨r46, u44, c45, h⟩ := ucall_n h
              have zu44 := zz_J9_min_2 N (ub G) (ug G) u41 y35 (y38 + r43) r46 u44 c45
              refine u_calll (va_runS (As := [.long y35, .long (y38 + r43)]) (rest := [.int (x2 + r10), va_rf o32]) hC.1 (met_J9_min_2 l N G u41 y35 (y38 + r43) r46 u44 c45) (va_cwS 2 hts (lw_S q1421 q1422 q113 q1423) rfl rfl rfl (by decide +kernel) ⟨Nat.le_trans (Nat.le_of_ble_eq_true rfl) hR.1, Nat.le_trans (Nat.le_of_ble_eq_true rfl) hR.2⟩) ⟨uPc_blind, fun U hU hW => u_pre hC hP hS hU hW⟩ rfl rfl hl.1 rfl (lv_room (by simp only [List.map, u_cat]; exact Nat.le_of_ble_eq_true rfl)) dX2_solve_356 ⟨Nat.zero_le _, Nat.zero_le _⟩) hS (fun H locs hP hS => ?_)
              obtain ⟨a47, ha47, hha47⟩ := mbind_n h
              subst ha47
              have h := hha47
              obtain ⟨u48, hu48, h⟩ := mbind_n h
              have zu48 := uStL_sz hu48
              refine u_last hC hP hS hu48 rfl dX2_solve_359 (fun H locs hP hS => ?_)
              exact w_X2_solve_360 hC hR N  ro_X2_seen ro_X2_of ro_X2_solve zo_X2_seen zo_X2_of zo_X2_solve mo_X2_seen mo_X2_of mo_X2_solve hRr k103 hk103 (f_X2_solve_225 N (ub G) (ug G) ro_X2_seen ro_X2_of ro_X2_solve a0 k103 n) ih u48 x1 x2 x3 x4 x6 x7 (some a3) x9 x10 h hP hS (lv_sub hl [3, 4, 5, 6, 7, 8, 9, 10, 11, 12] rfl)
            · have h := mif_t c31 h
              refine lv_goto (tgt := 360) hx hb dX2_solve_312 (by decide) ?_
              exact w_X2_solve_360 hC hR N  ro_X2_seen ro_X2_of ro_X2_solve zo_X2_seen zo_X2_of zo_X2_solve mo_X2_seen mo_X2_of mo_X2_solve hRr k103 hk103 (f_X2_solve_225 N (ub G) (ug G) ro_X2_seen ro_X2_of ro_X2_solve a0 k103 n) ih u28 x1 x2 x3 x4 x6 x7 (some a3) x9 x10 h hP hS (lv_sub hl [3, 4, 5, 6, 7, 8, 9, 10, 11, 12] rfl)
          · have h := mif_f c17 h
            refine lv_goto (tgt := 360) hx hb dX2_solve_279 (by decide) ?_
            exact w_X2_solve_360 hC hR N  ro_X2_seen ro_X2_of ro_X2_solve zo_X2_seen zo_X2_of zo_X2_solve mo_X2_seen mo_X2_of mo_X2_solve hRr k103 hk103 (f_X2_solve_225 N (ub G) (ug G) ro_X2_seen ro_X2_of ro_X2_solve a0 k103 n) ih u8 x1 x2 x3 x4 x6 x7 (some a3) x9 x10 h hP hS (lv_sub hl [2, 3, 4, 5, 6, 7, 8, 9, 10, 11] rfl)
def f_X2_solve_185 (N b : Nat) (g : uEnv) (ro_X2_seen : UH → Nat → Int32 → Int32 → Int32 → Option (Int64 × UH)) (ro_X2_of : UH → Nat → Int32 → Int32 → Option (Int64 × UH)) (ro_X2_solve : UH → Nat → Int32 → Option (UH)) (a0 : Nat) (k103 : UH → Int32 → Int32 → Int32 → Int64 → Int32 → Option (UH)) (k118 : UH → Int32 → Int32 → Int32 → Int64 → Int32 → Int32 → Int32 → Option (UH)) (u : UH) (x1 : Int32) (x2 : Int32) (x3 : Int32) (x4 : Int64) (x6 : Int32) (x7 : Int32) (x8 : Int32) : Option (UH) :=
    mlet (x8 + 1) fun y1 =>
    k118 u x1 x2 x3 x4 x6 x7 y1
set_option maxHeartbeats 4000000 in
set_option maxRecDepth 100000 in
theorem zz_X2_solve_185 {G : uG} {a0 : Nat} {uf : UH} (N : Nat) (ro_X2_seen : UH → Nat → Int32 → Int32 → Int32 → Option (Int64 × UH)) (ro_X2_of : UH → Nat → Int32 → Int32 → Option (Int64 × UH)) (ro_X2_solve : UH → Nat → Int32 → Option (UH)) (zo_X2_seen : ∀ (u : UH) (a0 : Nat) (x1 : Int32) (x2 : Int32) (x3 : Int32) (r : Int64) (uf : UH), ro_X2_seen u a0 x1 x2 x3 = some (r, uf) → uf.1 = u.1 ∧ uf.2.1 = u.2.1) (zo_X2_of : ∀ (u : UH) (a0 : Nat) (x1 : Int32) (x2 : Int32) (r : Int64) (uf : UH), ro_X2_of u a0 x1 x2 = some (r, uf) → uf.1 = u.1 ∧ uf.2.1 = u.2.1) (zo_X2_solve : ∀ (u : UH) (a0 : Nat) (x1 : Int32) (uf : UH), ro_X2_solve u a0 x1 = some uf → uf.1 = u.1 ∧ uf.2.1 = u.2.1) (k103 : UH → Int32 → Int32 → Int32 → Int64 → Int32 → Option (UH)) (hk103 : ∀ (u : UH) (x1 : Int32) (x2 : Int32) (x3 : Int32) (x4 : Int64) (x6 : Int32), k103 u x1 x2 x3 x4 x6 = some uf → uf.1 = u.1 ∧ uf.2.1 = u.2.1) (k118 : UH → Int32 → Int32 → Int32 → Int64 → Int32 → Int32 → Int32 → Option (UH)) (hk118 : ∀ (u : UH) (x1 : Int32) (x2 : Int32) (x3 : Int32) (x4 : Int64) (x6 : Int32) (x7 : Int32) (x8 : Int32), k118 u x1 x2 x3 x4 x6 x7 x8 = some uf → uf.1 = u.1 ∧ uf.2.1 = u.2.1) (u : UH) (x1 : Int32) (x2 : Int32) (x3 : Int32) (x4 : Int64) (x6 : Int32) (x7 : Int32) (x8 : Int32) (h : f_X2_solve_185 N (ub G) (ug G) ro_X2_seen ro_X2_of ro_X2_solve a0 k103 k118 u x1 x2 x3 x4 x6 x7 x8 = some uf) : uf.1 = u.1 ∧ uf.2.1 = u.2.1 := by
  unfold f_X2_solve_185 at h
  obtain ⟨y1, ey1⟩ : ∃ z : Int32, z = x8 + 1 := ⟨_, rfl⟩
  have h := mlet_at ey1 h
  have hq := hk118 u x1 x2 x3 x4 x6 x7 y1 h
  exact ⟨by omega, by omega⟩
set_option maxHeartbeats 4000000 in
set_option maxRecDepth 100000 in
theorem w_X2_solve_185 {p : Program} {l : Launch} {e : Env} {R : Room} {s : State} {m : MethodId} {args : Array Value} {below : List Frame} {meth : Method} {c : Code} {G : uG} {a0 : Nat} {uf : UH} (hC : uC p s m args meth c G RX2 cX2_solve 14 none) (hR : 4 ≤ R.frames ∧ 88 ≤ R.locals) (N : Nat) (ro_X2_seen : UH → Nat → Int32 → Int32 → Int32 → Option (Int64 × UH)) (ro_X2_of : UH → Nat → Int32 → Int32 → Option (Int64 × UH)) (ro_X2_solve : UH → Nat → Int32 → Option (UH)) (zo_X2_seen : ∀ (u : UH) (a0 : Nat) (x1 : Int32) (x2 : Int32) (x3 : Int32) (r : Int64) (uf : UH), ro_X2_seen u a0 x1 x2 x3 = some (r, uf) → uf.1 = u.1 ∧ uf.2.1 = u.2.1) (zo_X2_of : ∀ (u : UH) (a0 : Nat) (x1 : Int32) (x2 : Int32) (r : Int64) (uf : UH), ro_X2_of u a0 x1 x2 = some (r, uf) → uf.1 = u.1 ∧ uf.2.1 = u.2.1) (zo_X2_solve : ∀ (u : UH) (a0 : Nat) (x1 : Int32) (uf : UH), ro_X2_solve u a0 x1 = some uf → uf.1 = u.1 ∧ uf.2.1 = u.2.1) {DF DL : Nat} (mo_X2_seen : ∀ (u : UH) (a0 : Nat) (x1 : Int32) (x2 : Int32) (x3 : Int32) (r : Int64) (uf : UH), ro_X2_seen u a0 x1 x2 x3 = some (r, uf) → Met l yX2_seen (ws_ yX2_seen cX2_seen 9 (some .long)) ({ frames := DF, cells := 0, slots := 0, locals := DL }) (uPc G u [.ref a0, .int x1, .int x2, .int x3]) (uQl G r uf) 0 0 (uA G)) (mo_X2_of : ∀ (u : UH) (a0 : Nat) (x1 : Int32) (x2 : Int32) (r : Int64) (uf : UH), ro_X2_of u a0 x1 x2 = some (r, uf) → Met l yX2_of (ws_ yX2_of cX2_of 3 (some .long)) ({ frames := DF, cells := 0, slots := 0, locals := DL }) (uPc G u [.ref a0, .int x1, .int x2]) (uQl G r uf) 0 0 (uA G)) (mo_X2_solve : ∀ (u : UH) (a0 : Nat) (x1 : Int32) (uf : UH), ro_X2_solve u a0 x1 = some uf → Met l yX2_solve (ws_ yX2_solve cX2_solve 14 none) ({ frames := DF, cells := 0, slots := 0, locals := DL }) (uPc G u [.ref a0, .int x1]) (uQv G uf) 0 0 (uA G)) (hRr : DF + 1 ≤ R.frames ∧ 60 + DL ≤ R.locals) (k103 : UH → Int32 → Int32 → Int32 → Int64 → Int32 → Option (UH)) (hk103 : ∀ (u : UH) (x1 : Int32) (x2 : Int32) (x3 : Int32) (x4 : Int64) (x6 : Int32), k103 u x1 x2 x3 x4 x6 = some uf → ∀ (H : Heap) (locs : List Loc), uP G u H → va_S (uA G) s.heap H locs → ∀ ls : Array Slot, lv_has ls 14 [(0, va_rf (some a0)), (1, .int x1), (2, .int x2), (3, .int x3), (4, .long x4), (6, .int x6)] → W p l e R s m args below meth c H locs 0 0 (MQ below (uQv G uf) args s 0 0 (uA G)) (F0 m 103 ls [])) (k118 : UH → Int32 → Int32 → Int32 → Int64 → Int32 → Int32 → Int32 → Option (UH)) (hk118 : ∀ (u : UH) (x1 : Int32) (x2 : Int32) (x3 : Int32) (x4 : Int64) (x6 : Int32) (x7 : Int32) (x8 : Int32), k118 u x1 x2 x3 x4 x6 x7 x8 = some uf → ∀ (H : Heap) (locs : List Loc), uP G u H → va_S (uA G) s.heap H locs → ∀ ls : Array Slot, lv_has ls 14 [(0, va_rf (some a0)), (1, .int x1), (2, .int x2), (3, .int x3), (4, .long x4), (6, .int x6), (7, .int x7), (8, .int x8)] → W p l e R s m args below meth c H locs 0 0 (MQ below (uQv G uf) args s 0 0 (uA G)) (F0 m 118 ls [])) (u : UH) (x1 : Int32) (x2 : Int32) (x3 : Int32) (x4 : Int64) (x6 : Int32) (x7 : Int32) (x8 : Int32) (h : f_X2_solve_185 N (ub G) (ug G) ro_X2_seen ro_X2_of ro_X2_solve a0 k103 k118 u x1 x2 x3 x4 x6 x7 x8 = some uf) {H : Heap} {locs : List Loc} (hP : uP G u H) (hS : va_S (uA G) s.heap H locs) {ls : Array Slot} (hl : lv_has ls 14 [(0, va_rf (some a0)), (1, .int x1), (2, .int x2), (3, .int x3), (4, .long x4), (6, .int x6), (7, .int x7), (8, .int x8)]) : W p l e R s m args below meth c H locs 0 0 (MQ below (uQv G uf) args s 0 0 (uA G)) (F0 m 185 ls []) := by
  obtain ⟨⟨hx, hb, hml, hown, hts⟩, hKK⟩ := id hC
  unfold f_X2_solve_185 at h
  obtain ⟨y1, ey1⟩ : ∃ z : Int32, z = x8 + 1 := ⟨_, rfl⟩
  have h := mlet_at ey1 h
  refine lv_iinc (v := y1) (lv' := [(8, .int y1), (0, va_rf (some a0)), (1, .int x1), (2, .int x2), (3, .int x3), (4, .long x4), (6, .int x6), (7, .int x7)]) hx hb dX2_solve_185 hl (k := 7) rfl (by rw [ey1]; rfl) (by decide) rfl (fun ls hl => ?_)
  refine lv_goto (tgt := 118) hx hb dX2_solve_188 (by decide) ?_
  exact hk118 u x1 x2 x3 x4 x6 x7 y1 h _ _ hP hS _ (lv_sub hl [1, 2, 3, 4, 5, 6, 7, 0] rfl)
def f_X2_solve_181 (N b : Nat) (g : uEnv) (ro_X2_seen : UH → Nat → Int32 → Int32 → Int32 → Option (Int64 × UH)) (ro_X2_of : UH → Nat → Int32 → Int32 → Option (Int64 × UH)) (ro_X2_solve : UH → Nat → Int32 → Option (UH)) (a0 : Nat) (k103 : UH → Int32 → Int32 → Int32 → Int64 → Int32 → Option (UH)) (k118 : UH → Int32 → Int32 → Int32 → Int64 → Int32 → Int32 → Int32 → Option (UH)) (u : UH) (x1 : Int32) (x2 : Int32) (x3 : Int32) (x4 : Int64) (x6 : Int32) (x8 : Int32) : Option (UH) :=
    f_X2_solve_185 N b g ro_X2_seen ro_X2_of ro_X2_solve a0 k103 k118 u x1 x2 x3 x4 x6 x8 x8
set_option maxHeartbeats 4000000 in
set_option maxRecDepth 100000 in
theorem zz_X2_solve_181 {G : uG} {a0 : Nat} {uf : UH} (N : Nat) (ro_X2_seen : UH → Nat → Int32 → Int32 → Int32 → Option (Int64 × UH)) (ro_X2_of : UH → Nat → Int32 → Int32 → Option (Int64 × UH)) (ro_X2_solve : UH → Nat → Int32 → Option (UH)) (zo_X2_seen : ∀ (u : UH) (a0 : Nat) (x1 : Int32) (x2 : Int32) (x3 : Int32) (r : Int64) (uf : UH), ro_X2_seen u a0 x1 x2 x3 = some (r, uf) → uf.1 = u.1 ∧ uf.2.1 = u.2.1) (zo_X2_of : ∀ (u : UH) (a0 : Nat) (x1 : Int32) (x2 : Int32) (r : Int64) (uf : UH), ro_X2_of u a0 x1 x2 = some (r, uf) → uf.1 = u.1 ∧ uf.2.1 = u.2.1) (zo_X2_solve : ∀ (u : UH) (a0 : Nat) (x1 : Int32) (uf : UH), ro_X2_solve u a0 x1 = some uf → uf.1 = u.1 ∧ uf.2.1 = u.2.1) (k103 : UH → Int32 → Int32 → Int32 → Int64 → Int32 → Option (UH)) (hk103 : ∀ (u : UH) (x1 : Int32) (x2 : Int32) (x3 : Int32) (x4 : Int64) (x6 : Int32), k103 u x1 x2 x3 x4 x6 = some uf → uf.1 = u.1 ∧ uf.2.1 = u.2.1) (k118 : UH → Int32 → Int32 → Int32 → Int64 → Int32 → Int32 → Int32 → Option (UH)) (hk118 : ∀ (u : UH) (x1 : Int32) (x2 : Int32) (x3 : Int32) (x4 : Int64) (x6 : Int32) (x7 : Int32) (x8 : Int32), k118 u x1 x2 x3 x4 x6 x7 x8 = some uf → uf.1 = u.1 ∧ uf.2.1 = u.2.1) (u : UH) (x1 : Int32) (x2 : Int32) (x3 : Int32) (x4 : Int64) (x6 : Int32) (x8 : Int32) (h : f_X2_solve_181 N (ub G) (ug G) ro_X2_seen ro_X2_of ro_X2_solve a0 k103 k118 u x1 x2 x3 x4 x6 x8 = some uf) : uf.1 = u.1 ∧ uf.2.1 = u.2.1 := by
  unfold f_X2_solve_181 at h
  have hq := zz_X2_solve_185 (G := G) (a0 := a0) N  ro_X2_seen ro_X2_of ro_X2_solve zo_X2_seen zo_X2_of zo_X2_solve k103 hk103 k118 hk118 u x1 x2 x3 x4 x6 x8 x8 h
  exact ⟨by omega, by omega⟩
set_option maxHeartbeats 4000000 in
set_option maxRecDepth 100000 in
theorem w_X2_solve_181 {p : Program} {l : Launch} {e : Env} {R : Room} {s : State} {m : MethodId} {args : Array Value} {below : List Frame} {meth : Method} {c : Code} {G : uG} {a0 : Nat} {uf : UH} (hC : uC p s m args meth c G RX2 cX2_solve 14 none) (hR : 4 ≤ R.frames ∧ 88 ≤ R.locals) (N : Nat) (ro_X2_seen : UH → Nat → Int32 → Int32 → Int32 → Option (Int64 × UH)) (ro_X2_of : UH → Nat → Int32 → Int32 → Option (Int64 × UH)) (ro_X2_solve : UH → Nat → Int32 → Option (UH)) (zo_X2_seen : ∀ (u : UH) (a0 : Nat) (x1 : Int32) (x2 : Int32) (x3 : Int32) (r : Int64) (uf : UH), ro_X2_seen u a0 x1 x2 x3 = some (r, uf) → uf.1 = u.1 ∧ uf.2.1 = u.2.1) (zo_X2_of : ∀ (u : UH) (a0 : Nat) (x1 : Int32) (x2 : Int32) (r : Int64) (uf : UH), ro_X2_of u a0 x1 x2 = some (r, uf) → uf.1 = u.1 ∧ uf.2.1 = u.2.1) (zo_X2_solve : ∀ (u : UH) (a0 : Nat) (x1 : Int32) (uf : UH), ro_X2_solve u a0 x1 = some uf → uf.1 = u.1 ∧ uf.2.1 = u.2.1) {DF DL : Nat} (mo_X2_seen : ∀ (u : UH) (a0 : Nat) (x1 : Int32) (x2 : Int32) (x3 : Int32) (r : Int64) (uf : UH), ro_X2_seen u a0 x1 x2 x3 = some (r, uf) → Met l yX2_seen (ws_ yX2_seen cX2_seen 9 (some .long)) ({ frames := DF, cells := 0, slots := 0, locals := DL }) (uPc G u [.ref a0, .int x1, .int x2, .int x3]) (uQl G r uf) 0 0 (uA G)) (mo_X2_of : ∀ (u : UH) (a0 : Nat) (x1 : Int32) (x2 : Int32) (r : Int64) (uf : UH), ro_X2_of u a0 x1 x2 = some (r, uf) → Met l yX2_of (ws_ yX2_of cX2_of 3 (some .long)) ({ frames := DF, cells := 0, slots := 0, locals := DL }) (uPc G u [.ref a0, .int x1, .int x2]) (uQl G r uf) 0 0 (uA G)) (mo_X2_solve : ∀ (u : UH) (a0 : Nat) (x1 : Int32) (uf : UH), ro_X2_solve u a0 x1 = some uf → Met l yX2_solve (ws_ yX2_solve cX2_solve 14 none) ({ frames := DF, cells := 0, slots := 0, locals := DL }) (uPc G u [.ref a0, .int x1]) (uQv G uf) 0 0 (uA G)) (hRr : DF + 1 ≤ R.frames ∧ 60 + DL ≤ R.locals) (k103 : UH → Int32 → Int32 → Int32 → Int64 → Int32 → Option (UH)) (hk103 : ∀ (u : UH) (x1 : Int32) (x2 : Int32) (x3 : Int32) (x4 : Int64) (x6 : Int32), k103 u x1 x2 x3 x4 x6 = some uf → ∀ (H : Heap) (locs : List Loc), uP G u H → va_S (uA G) s.heap H locs → ∀ ls : Array Slot, lv_has ls 14 [(0, va_rf (some a0)), (1, .int x1), (2, .int x2), (3, .int x3), (4, .long x4), (6, .int x6)] → W p l e R s m args below meth c H locs 0 0 (MQ below (uQv G uf) args s 0 0 (uA G)) (F0 m 103 ls [])) (k118 : UH → Int32 → Int32 → Int32 → Int64 → Int32 → Int32 → Int32 → Option (UH)) (hk118 : ∀ (u : UH) (x1 : Int32) (x2 : Int32) (x3 : Int32) (x4 : Int64) (x6 : Int32) (x7 : Int32) (x8 : Int32), k118 u x1 x2 x3 x4 x6 x7 x8 = some uf → ∀ (H : Heap) (locs : List Loc), uP G u H → va_S (uA G) s.heap H locs → ∀ ls : Array Slot, lv_has ls 14 [(0, va_rf (some a0)), (1, .int x1), (2, .int x2), (3, .int x3), (4, .long x4), (6, .int x6), (7, .int x7), (8, .int x8)] → W p l e R s m args below meth c H locs 0 0 (MQ below (uQv G uf) args s 0 0 (uA G)) (F0 m 118 ls [])) (u : UH) (x1 : Int32) (x2 : Int32) (x3 : Int32) (x4 : Int64) (x6 : Int32) (x8 : Int32) (h : f_X2_solve_181 N (ub G) (ug G) ro_X2_seen ro_X2_of ro_X2_solve a0 k103 k118 u x1 x2 x3 x4 x6 x8 = some uf) {H : Heap} {locs : List Loc} (hP : uP G u H) (hS : va_S (uA G) s.heap H locs) {ls : Array Slot} (hl : lv_has ls 14 [(0, va_rf (some a0)), (1, .int x1), (2, .int x2), (3, .int x3), (4, .long x4), (6, .int x6), (8, .int x8)]) : W p l e R s m args below meth c H locs 0 0 (MQ below (uQv G uf) args s 0 0 (uA G)) (F0 m 181 ls []) := by
  obtain ⟨⟨hx, hb, hml, hown, hts⟩, hKK⟩ := id hC
  unfold f_X2_solve_181 at h
  refine lv_iload hx hb dX2_solve_181 (lv_at hl 6 rfl) ?_
  refine lv_istore (lv' := [(7, .int x8), (0, va_rf (some a0)), (1, .int x1), (2, .int x2), (3, .int x3), (4, .long x4), (6, .int x6), (8, .int x8)]) hx hb dX2_solve_183 hl (by decide) rfl (fun ls hl => ?_)
  exact w_X2_solve_185 hC hR N  ro_X2_seen ro_X2_of ro_X2_solve zo_X2_seen zo_X2_of zo_X2_solve mo_X2_seen mo_X2_of mo_X2_solve hRr k103 hk103 k118 hk118 u x1 x2 x3 x4 x6 x8 x8 h hP hS (lv_sub hl [1, 2, 3, 4, 5, 6, 0, 7] rfl)
def f_X2_solve_118 (N b : Nat) (g : uEnv) (ro_X2_seen : UH → Nat → Int32 → Int32 → Int32 → Option (Int64 × UH)) (ro_X2_of : UH → Nat → Int32 → Int32 → Option (Int64 × UH)) (ro_X2_solve : UH → Nat → Int32 → Option (UH)) (a0 : Nat) (k103 : UH → Int32 → Int32 → Int32 → Int64 → Int32 → Option (UH)) : Nat → UH → Int32 → Int32 → Int32 → Int64 → Int32 → Int32 → Int32 → Option (UH)
  | 0, _, _, _, _, _, _, _, _ => none
  | n + 1, u, x1, x2, x3, x4, x6, x7, x8 =>
    (uGI u a0 1 2).bind fun y1 =>
    if y1 ≤ x8 then
    if x7 = (-1) then
    f_X2_solve_372 N b g ro_X2_seen ro_X2_of ro_X2_solve a0 u x1
    else
    (uGR u a0 1 6).bind fun o4 =>
    (o4).bind fun a5 =>
    (uStI b u a5 2 x7 (vp_nar .boolean 1)).bind fun u6 =>
    (uGR u6 a0 1 0).bind fun o7 =>
    (o7).bind fun a8 =>
    (uGR u6 a8 12 7).bind fun o9 =>
    (o9).bind fun a10 =>
    (uLen u6 a10 5).bind fun y11 =>
    f_X2_solve_225 N b g ro_X2_seen ro_X2_of ro_X2_solve a0 k103 N u6 x1 x2 x3 x4 x6 x7 (some a10) y11 0
    else
    (uGR u a0 1 6).bind fun o12 =>
    (o12).bind fun a13 =>
    (uLdI u a13 2 x8).bind fun y14 =>
    if y14 = 0 then
    (uGR u a0 1 4).bind fun o16 =>
    (o16).bind fun a17 =>
    (uLdL u a17 3 (x2 + x8)).bind fun y18 =>
    if (lg_cmp y18 9223372036854775807) = 0 then
    f_X2_solve_185 N b g ro_X2_seen ro_X2_of ro_X2_solve a0 k103 (f_X2_solve_118 N b g ro_X2_seen ro_X2_of ro_X2_solve a0 k103 n) u x1 x2 x3 x4 x6 x7 x8
    else
    if x7 = (-1) then
    f_X2_solve_181 N b g ro_X2_seen ro_X2_of ro_X2_solve a0 k103 (f_X2_solve_118 N b g ro_X2_seen ro_X2_of ro_X2_solve a0 k103 n) u x1 x2 x3 x4 x6 x8
    else
    (uGR u a0 1 4).bind fun o21 =>
    (o21).bind fun a22 =>
    (uLdL u a22 3 (x2 + x8)).bind fun y23 =>
    (uGR u a0 1 4).bind fun o24 =>
    (o24).bind fun a25 =>
    (uLdL u a25 3 (x2 + x7)).bind fun y26 =>
    if 0 ≤ (lg_cmp y23 y26) then
    f_X2_solve_185 N b g ro_X2_seen ro_X2_of ro_X2_solve a0 k103 (f_X2_solve_118 N b g ro_X2_seen ro_X2_of ro_X2_solve a0 k103 n) u x1 x2 x3 x4 x6 x7 x8
    else
    f_X2_solve_181 N b g ro_X2_seen ro_X2_of ro_X2_solve a0 k103 (f_X2_solve_118 N b g ro_X2_seen ro_X2_of ro_X2_solve a0 k103 n) u x1 x2 x3 x4 x6 x8
    else
    f_X2_solve_185 N b g ro_X2_seen ro_X2_of ro_X2_solve a0 k103 (f_X2_solve_118 N b g ro_X2_seen ro_X2_of ro_X2_solve a0 k103 n) u x1 x2 x3 x4 x6 x7 x8
set_option maxHeartbeats 4000000 in
set_option maxRecDepth 100000 in
theorem zz_X2_solve_118 {G : uG} {a0 : Nat} {uf : UH} (N : Nat) (ro_X2_seen : UH → Nat → Int32 → Int32 → Int32 → Option (Int64 × UH)) (ro_X2_of : UH → Nat → Int32 → Int32 → Option (Int64 × UH)) (ro_X2_solve : UH → Nat → Int32 → Option (UH)) (zo_X2_seen : ∀ (u : UH) (a0 : Nat) (x1 : Int32) (x2 : Int32) (x3 : Int32) (r : Int64) (uf : UH), ro_X2_seen u a0 x1 x2 x3 = some (r, uf) → uf.1 = u.1 ∧ uf.2.1 = u.2.1) (zo_X2_of : ∀ (u : UH) (a0 : Nat) (x1 : Int32) (x2 : Int32) (r : Int64) (uf : UH), ro_X2_of u a0 x1 x2 = some (r, uf) → uf.1 = u.1 ∧ uf.2.1 = u.2.1) (zo_X2_solve : ∀ (u : UH) (a0 : Nat) (x1 : Int32) (uf : UH), ro_X2_solve u a0 x1 = some uf → uf.1 = u.1 ∧ uf.2.1 = u.2.1) (k103 : UH → Int32 → Int32 → Int32 → Int64 → Int32 → Option (UH)) (hk103 : ∀ (u : UH) (x1 : Int32) (x2 : Int32) (x3 : Int32) (x4 : Int64) (x6 : Int32), k103 u x1 x2 x3 x4 x6 = some uf → uf.1 = u.1 ∧ uf.2.1 = u.2.1) : ∀ (n : Nat) (u : UH) (x1 : Int32) (x2 : Int32) (x3 : Int32) (x4 : Int64) (x6 : Int32) (x7 : Int32) (x8 : Int32), f_X2_solve_118 N (ub G) (ug G) ro_X2_seen ro_X2_of ro_X2_solve a0 k103 n u x1 x2 x3 x4 x6 x7 x8 = some uf → uf.1 = u.1 ∧ uf.2.1 = u.2.1 := by
  intro n
  induction n with
  | zero =>
    intro u x1 x2 x3 x4 x6 x7 x8 h
    cases h
  | succ n ih =>
    intro u x1 x2 x3 x4 x6 x7 x8 h
    unfold f_X2_solve_118 at h
    obtain ⟨y1, hy1, h⟩ := mbind_n h
    by_cases c2 : y1 ≤ x8
    · have h := mif_t c2 h
      by_cases c3 : x7 = (-1)
      · have h := mif_t c3 h
        have hq := zz_X2_solve_372 (G := G) (a0 := a0) N  ro_X2_seen ro_X2_of ro_X2_solve zo_X2_seen zo_X2_of zo_X2_solve u x1 h
        exact ⟨by omega, by omega⟩
      · have h := mif_f c3 h
        obtain ⟨o4, ho4, h⟩ := mbind_n h
        obtain ⟨a5, ha5, hha5⟩ := mbind_n h
        subst ha5
        have h := hha5
        obtain ⟨u6, hu6, h⟩ := mbind_n h
        have zu6 := uStI_sz hu6
        obtain ⟨o7, ho7, h⟩ := mbind_n h
        obtain ⟨a8, ha8, hha8⟩ := mbind_n h
        subst ha8
        have h := hha8
        obtain ⟨o9, ho9, h⟩ := mbind_n h
        obtain ⟨a10, ha10, hha10⟩ := mbind_n h
        subst ha10
        have h := hha10
        obtain ⟨y11, hy11, h⟩ := mbind_n h
        have hq := zz_X2_solve_225 (G := G) (a0 := a0) N  ro_X2_seen ro_X2_of ro_X2_solve zo_X2_seen zo_X2_of zo_X2_solve k103 hk103 N u6 x1 x2 x3 x4 x6 x7 (some a10) y11 0 h
        exact ⟨by omega, by omega⟩
    · have h := mif_f c2 h
      obtain ⟨o12, ho12, h⟩ := mbind_n h
      obtain ⟨a13, ha13, hha13⟩ := mbind_n h
      subst ha13
      have h := hha13
      obtain ⟨y14, hy14, h⟩ := mbind_n h
      by_cases c15 : y14 = 0
      · have h := mif_t c15 h
        obtain ⟨o16, ho16, h⟩ := mbind_n h
        obtain ⟨a17, ha17, hha17⟩ := mbind_n h
        subst ha17
        have h := hha17
        obtain ⟨y18, hy18, h⟩ := mbind_n h
        by_cases c19 : (lg_cmp y18 9223372036854775807) = 0
        · have h := mif_t c19 h
          have hq := zz_X2_solve_185 (G := G) (a0 := a0) N  ro_X2_seen ro_X2_of ro_X2_solve zo_X2_seen zo_X2_of zo_X2_solve k103 hk103 (f_X2_solve_118 N (ub G) (ug G) ro_X2_seen ro_X2_of ro_X2_solve a0 k103 n) ih u x1 x2 x3 x4 x6 x7 x8 h
          exact ⟨by omega, by omega⟩
        · have h := mif_f c19 h
          by_cases c20 : x7 = (-1)
          · have h := mif_t c20 h
            have hq := zz_X2_solve_181 (G := G) (a0 := a0) N  ro_X2_seen ro_X2_of ro_X2_solve zo_X2_seen zo_X2_of zo_X2_solve k103 hk103 (f_X2_solve_118 N (ub G) (ug G) ro_X2_seen ro_X2_of ro_X2_solve a0 k103 n) ih u x1 x2 x3 x4 x6 x8 h
            exact ⟨by omega, by omega⟩
          · have h := mif_f c20 h
            obtain ⟨o21, ho21, h⟩ := mbind_n h
            obtain ⟨a22, ha22, hha22⟩ := mbind_n h
            subst ha22
            have h := hha22
            obtain ⟨y23, hy23, h⟩ := mbind_n h
            obtain ⟨o24, ho24, h⟩ := mbind_n h
            obtain ⟨a25, ha25, hha25⟩ := mbind_n h
            subst ha25
            have h := hha25
            obtain ⟨y26, hy26, h⟩ := mbind_n h
            by_cases c27 : 0 ≤ (lg_cmp y23 y26)
            · have h := mif_t c27 h
              have hq := zz_X2_solve_185 (G := G) (a0 := a0) N  ro_X2_seen ro_X2_of ro_X2_solve zo_X2_seen zo_X2_of zo_X2_solve k103 hk103 (f_X2_solve_118 N (ub G) (ug G) ro_X2_seen ro_X2_of ro_X2_solve a0 k103 n) ih u x1 x2 x3 x4 x6 x7 x8 h
              exact ⟨by omega, by omega⟩
            · have h := mif_f c27 h
              have hq := zz_X2_solve_181 (G := G) (a0 := a0) N  ro_X2_seen ro_X2_of ro_X2_solve zo_X2_seen zo_X2_of zo_X2_solve k103 hk103 (f_X2_solve_118 N (ub G) (ug G) ro_X2_seen ro_X2_of ro_X2_solve a0 k103 n) ih u x1 x2 x3 x4 x6 x8 h
              exact ⟨by omega, by omega⟩
      · have h := mif_f c15 h
        have hq := zz_X2_solve_185 (G := G) (a0 := a0) N  ro_X2_seen ro_X2_of ro_X2_solve zo_X2_seen zo_X2_of zo_X2_solve k103 hk103 (f_X2_solve_118 N (ub G) (ug G) ro_X2_seen ro_X2_of ro_X2_solve a0 k103 n) ih u x1 x2 x3 x4 x6 x7 x8 h
        exact ⟨by omega, by omega⟩
set_option maxHeartbeats 4000000 in
set_option maxRecDepth 100000 in
theorem w_X2_solve_118 {p : Program} {l : Launch} {e : Env} {R : Room} {s : State} {m : MethodId} {args : Array Value} {below : List Frame} {meth : Method} {c : Code} {G : uG} {a0 : Nat} {uf : UH} (hC : uC p s m args meth c G RX2 cX2_solve 14 none) (hR : 4 ≤ R.frames ∧ 88 ≤ R.locals) (N : Nat) (ro_X2_seen : UH → Nat → Int32 → Int32 → Int32 → Option (Int64 × UH)) (ro_X2_of : UH → Nat → Int32 → Int32 → Option (Int64 × UH)) (ro_X2_solve : UH → Nat → Int32 → Option (UH)) (zo_X2_seen : ∀ (u : UH) (a0 : Nat) (x1 : Int32) (x2 : Int32) (x3 : Int32) (r : Int64) (uf : UH), ro_X2_seen u a0 x1 x2 x3 = some (r, uf) → uf.1 = u.1 ∧ uf.2.1 = u.2.1) (zo_X2_of : ∀ (u : UH) (a0 : Nat) (x1 : Int32) (x2 : Int32) (r : Int64) (uf : UH), ro_X2_of u a0 x1 x2 = some (r, uf) → uf.1 = u.1 ∧ uf.2.1 = u.2.1) (zo_X2_solve : ∀ (u : UH) (a0 : Nat) (x1 : Int32) (uf : UH), ro_X2_solve u a0 x1 = some uf → uf.1 = u.1 ∧ uf.2.1 = u.2.1) {DF DL : Nat} (mo_X2_seen : ∀ (u : UH) (a0 : Nat) (x1 : Int32) (x2 : Int32) (x3 : Int32) (r : Int64) (uf : UH), ro_X2_seen u a0 x1 x2 x3 = some (r, uf) → Met l yX2_seen (ws_ yX2_seen cX2_seen 9 (some .long)) ({ frames := DF, cells := 0, slots := 0, locals := DL }) (uPc G u [.ref a0, .int x1, .int x2, .int x3]) (uQl G r uf) 0 0 (uA G)) (mo_X2_of : ∀ (u : UH) (a0 : Nat) (x1 : Int32) (x2 : Int32) (r : Int64) (uf : UH), ro_X2_of u a0 x1 x2 = some (r, uf) → Met l yX2_of (ws_ yX2_of cX2_of 3 (some .long)) ({ frames := DF, cells := 0, slots := 0, locals := DL }) (uPc G u [.ref a0, .int x1, .int x2]) (uQl G r uf) 0 0 (uA G)) (mo_X2_solve : ∀ (u : UH) (a0 : Nat) (x1 : Int32) (uf : UH), ro_X2_solve u a0 x1 = some uf → Met l yX2_solve (ws_ yX2_solve cX2_solve 14 none) ({ frames := DF, cells := 0, slots := 0, locals := DL }) (uPc G u [.ref a0, .int x1]) (uQv G uf) 0 0 (uA G)) (hRr : DF + 1 ≤ R.frames ∧ 60 + DL ≤ R.locals) (k103 : UH → Int32 → Int32 → Int32 → Int64 → Int32 → Option (UH)) (hk103 : ∀ (u : UH) (x1 : Int32) (x2 : Int32) (x3 : Int32) (x4 : Int64) (x6 : Int32), k103 u x1 x2 x3 x4 x6 = some uf → ∀ (H : Heap) (locs : List Loc), uP G u H → va_S (uA G) s.heap H locs → ∀ ls : Array Slot, lv_has ls 14 [(0, va_rf (some a0)), (1, .int x1), (2, .int x2), (3, .int x3), (4, .long x4), (6, .int x6)] → W p l e R s m args below meth c H locs 0 0 (MQ below (uQv G uf) args s 0 0 (uA G)) (F0 m 103 ls [])) : ∀ (n : Nat) (u : UH) (x1 : Int32) (x2 : Int32) (x3 : Int32) (x4 : Int64) (x6 : Int32) (x7 : Int32) (x8 : Int32), f_X2_solve_118 N (ub G) (ug G) ro_X2_seen ro_X2_of ro_X2_solve a0 k103 n u x1 x2 x3 x4 x6 x7 x8 = some uf → ∀ (H : Heap) (locs : List Loc), uP G u H → va_S (uA G) s.heap H locs → ∀ ls : Array Slot, lv_has ls 14 [(0, va_rf (some a0)), (1, .int x1), (2, .int x2), (3, .int x3), (4, .long x4), (6, .int x6), (7, .int x7), (8, .int x8)] → W p l e R s m args below meth c H locs 0 0 (MQ below (uQv G uf) args s 0 0 (uA G)) (F0 m 118 ls []) := by
  obtain ⟨⟨hx, hb, hml, hown, hts⟩, hKK⟩ := id hC
  intro n
  induction n with
  | zero =>
    intro u x1 x2 x3 x4 x6 x7 x8 h
    cases h
  | succ n ih =>
    intro u x1 x2 x3 x4 x6 x7 x8 h H locs hP hS ls hl
    unfold f_X2_solve_118 at h
    refine lv_iload hx hb dX2_solve_118 (lv_at hl 7 rfl) ?_
    refine u_aload_n (r := some a0) hx hb dX2_solve_120 rfl (lv_at hl 0 rfl) ?_
    obtain ⟨y1, hy1, h⟩ := mbind_n h
    refine u_get hC hP (uGI_n hy1) rfl in_X2 (by decide) q159 (fun _ h => h) dX2_solve_121 ?_
    refine lv_icmp_ge (tgt := 191) hx hb dX2_solve_124 (by decide) (fun c2 => ?_) (fun c2 => ?_)
    · have h := mif_t c2 h
      refine lv_iload hx hb dX2_solve_191 (lv_at hl 6 rfl) ?_
      refine lv_iconst (v := (-1)) hx hb dX2_solve_193 (by decide) ?_
      refine lv_icmp_ne (tgt := 200) hx hb dX2_solve_194 (by decide) (fun c3 => ?_) (fun c3 => ?_)
      · have h := mif_f c3 h
        refine u_aload_n (r := some a0) hx hb dX2_solve_200 rfl (lv_at hl 0 rfl) ?_
        obtain ⟨o4, ho4, h⟩ := mbind_n h
        refine u_get hC hP (uGR_n ho4) rfl in_X2 (by decide) q163 (fun _ h => h) dX2_solve_201 ?_
        refine lv_iload hx hb dX2_solve_204 (lv_at hl 6 rfl) ?_
        refine lv_iconst (v := 1) hx hb dX2_solve_206 (by decide) ?_
        obtain ⟨a5, ha5, hha5⟩ := mbind_n h
        subst ha5
        have h := hha5
        obtain ⟨u6, hu6, h⟩ := mbind_n h
        have zu6 := uStI_sz hu6
        refine u_zast hC hP hS hu6 rfl dX2_solve_207 (fun H locs hP hS => ?_)
        refine u_aload_n (r := some a0) hx hb dX2_solve_208 rfl (lv_at hl 0 rfl) ?_
        obtain ⟨o7, ho7, h⟩ := mbind_n h
        refine u_get hC hP (uGR_n ho7) rfl in_X2 (by decide) q157 (fun _ h => h) dX2_solve_209 ?_
        obtain ⟨a8, ha8, hha8⟩ := mbind_n h
        subst ha8
        have h := hha8
        obtain ⟨o9, ho9, h⟩ := mbind_n h
        refine u_getN hC hP (uGR_n ho9) rfl in_X14 (by decide) q1153 (fun _ h => h) dX2_solve_212 ?_
        refine u_astore (r := o9) (lv' := [(8, va_rf o9), (0, va_rf (some a0)), (1, .int x1), (2, .int x2), (3, .int x3), (4, .long x4), (6, .int x6), (7, .int x7)]) hx hb dX2_solve_215 hl (by decide) rfl (fun ls hl => ?_)
        refine u_aload (r := o9) hx hb dX2_solve_217 (lv_at hl 0 rfl) ?_
        obtain ⟨a10, ha10, hha10⟩ := mbind_n h
        subst ha10
        have h := hha10
        obtain ⟨y11, hy11, h⟩ := mbind_n h
        refine u_alen hC hP hy11 dX2_solve_219 ?_
        refine lv_istore (lv' := [(9, .int y11), (8, va_rf (some a10)), (0, va_rf (some a0)), (1, .int x1), (2, .int x2), (3, .int x3), (4, .long x4), (6, .int x6), (7, .int x7)]) hx hb dX2_solve_220 hl (by decide) rfl (fun ls hl => ?_)
        refine lv_iconst (v := 0) hx hb dX2_solve_222 (by decide) ?_
        refine lv_istore (lv' := [(10, .int 0), (9, .int y11), (8, va_rf (some a10)), (0, va_rf (some a0)), (1, .int x1), (2, .int x2), (3, .int x3), (4, .long x4), (6, .int x6), (7, .int x7)]) hx hb dX2_solve_223 hl (by decide) rfl (fun ls hl => ?_)
        exact w_X2_solve_225 hC hR N  ro_X2_seen ro_X2_of ro_X2_solve zo_X2_seen zo_X2_of zo_X2_solve mo_X2_seen mo_X2_of mo_X2_solve hRr k103 hk103 N u6 x1 x2 x3 x4 x6 x7 (some a10) y11 0 h _ _ hP hS _ (lv_sub hl [3, 4, 5, 6, 7, 8, 9, 2, 1, 0] rfl)
      · have h := mif_t c3 h
        refine lv_goto (tgt := 372) hx hb dX2_solve_197 (by decide) ?_
        exact w_X2_solve_372 hC hR N  ro_X2_seen ro_X2_of ro_X2_solve zo_X2_seen zo_X2_of zo_X2_solve mo_X2_seen mo_X2_of mo_X2_solve hRr u x1 h hP hS (lv_sub hl [0, 1] rfl)
    · have h := mif_f c2 h
      refine u_aload_n (r := some a0) hx hb dX2_solve_127 rfl (lv_at hl 0 rfl) ?_
      obtain ⟨o12, ho12, h⟩ := mbind_n h
      refine u_get hC hP (uGR_n ho12) rfl in_X2 (by decide) q163 (fun _ h => h) dX2_solve_128 ?_
      refine lv_iload hx hb dX2_solve_131 (lv_at hl 7 rfl) ?_
      obtain ⟨a13, ha13, hha13⟩ := mbind_n h
      subst ha13
      have h := hha13
      obtain ⟨y14, hy14, h⟩ := mbind_n h
      refine u_zald hC hP hy14 rfl dX2_solve_133 ?_
      refine lv_if_ne (tgt := 185) hx hb dX2_solve_134 (by decide) (fun c15 => ?_) (fun c15 => ?_)
      · have h := mif_f c15 h
        exact w_X2_solve_185 hC hR N  ro_X2_seen ro_X2_of ro_X2_solve zo_X2_seen zo_X2_of zo_X2_solve mo_X2_seen mo_X2_of mo_X2_solve hRr k103 hk103 (f_X2_solve_118 N (ub G) (ug G) ro_X2_seen ro_X2_of ro_X2_solve a0 k103 n) ih u x1 x2 x3 x4 x6 x7 x8 h hP hS (lv_sub hl [0, 1, 2, 3, 4, 5, 6, 7] rfl)
      · have h := mif_t c15 h
        refine u_aload_n (r := some a0) hx hb dX2_solve_137 rfl (lv_at hl 0 rfl) ?_
        obtain ⟨o16, ho16, h⟩ := mbind_n h
        refine u_get hC hP (uGR_n ho16) rfl in_X2 (by decide) q161 (fun _ h => h) dX2_solve_138 ?_
        refine lv_iload_n hx hb dX2_solve_141 rfl (lv_at hl 2 rfl) ?_
        refine lv_iload hx hb dX2_solve_142 (lv_at hl 7 rfl) ?_
        refine lv_iadd hx hb dX2_solve_144 ?_
        obtain ⟨a17, ha17, hha17⟩ := mbind_n h
        subst ha17
        have h := hha17
        obtain ⟨y18, hy18, h⟩ := mbind_n h
        refine u_lald hC hP hy18 rfl dX2_solve_145 ?_
        refine lv_ldc2 hx hb hown (hts _ q1389) dX2_solve_146 ?_
        refine W.lcmp hx hb dX2_solve_149 ?_
        refine lv_if_eq (tgt := 185) hx hb dX2_solve_150 (by decide) (fun c19 => ?_) (fun c19 => ?_)
        · have h := mif_t c19 h
          exact w_X2_solve_185 hC hR N  ro_X2_seen ro_X2_of ro_X2_solve zo_X2_seen zo_X2_of zo_X2_solve mo_X2_seen mo_X2_of mo_X2_solve hRr k103 hk103 (f_X2_solve_118 N (ub G) (ug G) ro_X2_seen ro_X2_of ro_X2_solve a0 k103 n) ih u x1 x2 x3 x4 x6 x7 x8 h hP hS (lv_sub hl [0, 1, 2, 3, 4, 5, 6, 7] rfl)
        · have h := mif_f c19 h
          refine lv_iload hx hb dX2_solve_153 (lv_at hl 6 rfl) ?_
          refine lv_iconst (v := (-1)) hx hb dX2_solve_155 (by decide) ?_
          refine lv_icmp_eq (tgt := 181) hx hb dX2_solve_156 (by decide) (fun c20 => ?_) (fun c20 => ?_)
          · have h := mif_t c20 h
            exact w_X2_solve_181 hC hR N  ro_X2_seen ro_X2_of ro_X2_solve zo_X2_seen zo_X2_of zo_X2_solve mo_X2_seen mo_X2_of mo_X2_solve hRr k103 hk103 (f_X2_solve_118 N (ub G) (ug G) ro_X2_seen ro_X2_of ro_X2_solve a0 k103 n) ih u x1 x2 x3 x4 x6 x8 h hP hS (lv_sub hl [0, 1, 2, 3, 4, 5, 7] rfl)
          · have h := mif_f c20 h
            refine u_aload_n (r := some a0) hx hb dX2_solve_159 rfl (lv_at hl 0 rfl) ?_
            obtain ⟨o21, ho21, h⟩ := mbind_n h
            refine u_get hC hP (uGR_n ho21) rfl in_X2 (by decide) q161 (fun _ h => h) dX2_solve_160 ?_
            refine lv_iload_n hx hb dX2_solve_163 rfl (lv_at hl 2 rfl) ?_
            refine lv_iload hx hb dX2_solve_164 (lv_at hl 7 rfl) ?_
            refine lv_iadd hx hb dX2_solve_166 ?_
            obtain ⟨a22, ha22, hha22⟩ := mbind_n h
            subst ha22
            have h := hha22
            obtain ⟨y23, hy23, h⟩ := mbind_n h
            refine u_lald hC hP hy23 rfl dX2_solve_167 ?_
            refine u_aload_n (r := some a0) hx hb dX2_solve_168 rfl (lv_at hl 0 rfl) ?_
            obtain ⟨o24, ho24, h⟩ := mbind_n h
            refine u_get hC hP (uGR_n ho24) rfl in_X2 (by decide) q161 (fun _ h => h) dX2_solve_169 ?_
            refine lv_iload_n hx hb dX2_solve_172 rfl (lv_at hl 2 rfl) ?_
            refine lv_iload hx hb dX2_solve_173 (lv_at hl 6 rfl) ?_
            refine lv_iadd hx hb dX2_solve_175 ?_
            obtain ⟨a25, ha25, hha25⟩ := mbind_n h
            subst ha25
            have h := hha25
            obtain ⟨y26, hy26, h⟩ := mbind_n h
            refine u_lald hC hP hy26 rfl dX2_solve_176 ?_
            refine W.lcmp hx hb dX2_solve_177 ?_
            refine lv_if_ge (tgt := 185) hx hb dX2_solve_178 (by decide) (fun c27 => ?_) (fun c27 => ?_)
            · have h := mif_t c27 h
              exact w_X2_solve_185 hC hR N  ro_X2_seen ro_X2_of ro_X2_solve zo_X2_seen zo_X2_of zo_X2_solve mo_X2_seen mo_X2_of mo_X2_solve hRr k103 hk103 (f_X2_solve_118 N (ub G) (ug G) ro_X2_seen ro_X2_of ro_X2_solve a0 k103 n) ih u x1 x2 x3 x4 x6 x7 x8 h hP hS (lv_sub hl [0, 1, 2, 3, 4, 5, 6, 7] rfl)
            · have h := mif_f c27 h
              exact w_X2_solve_181 hC hR N  ro_X2_seen ro_X2_of ro_X2_solve zo_X2_seen zo_X2_of zo_X2_solve mo_X2_seen mo_X2_of mo_X2_solve hRr k103 hk103 (f_X2_solve_118 N (ub G) (ug G) ro_X2_seen ro_X2_of ro_X2_solve a0 k103 n) ih u x1 x2 x3 x4 x6 x8 h hP hS (lv_sub hl [0, 1, 2, 3, 4, 5, 7] rfl)
def f_X2_solve_103 (N b : Nat) (g : uEnv) (ro_X2_seen : UH → Nat → Int32 → Int32 → Int32 → Option (Int64 × UH)) (ro_X2_of : UH → Nat → Int32 → Int32 → Option (Int64 × UH)) (ro_X2_solve : UH → Nat → Int32 → Option (UH)) (a0 : Nat) : Nat → UH → Int32 → Int32 → Int32 → Int64 → Int32 → Option (UH)
  | 0, _, _, _, _, _, _ => none
  | n + 1, u, x1, x2, x3, x4, x6 =>
    (uGI u a0 1 2).bind fun y1 =>
    if y1 ≤ x6 then
    f_X2_solve_372 N b g ro_X2_seen ro_X2_of ro_X2_solve a0 u x1
    else
    f_X2_solve_118 N b g ro_X2_seen ro_X2_of ro_X2_solve a0 (f_X2_solve_103 N b g ro_X2_seen ro_X2_of ro_X2_solve a0 n) N u x1 x2 x3 x4 x6 (-1) 0
set_option maxHeartbeats 4000000 in
set_option maxRecDepth 100000 in
theorem zz_X2_solve_103 {G : uG} {a0 : Nat} {uf : UH} (N : Nat) (ro_X2_seen : UH → Nat → Int32 → Int32 → Int32 → Option (Int64 × UH)) (ro_X2_of : UH → Nat → Int32 → Int32 → Option (Int64 × UH)) (ro_X2_solve : UH → Nat → Int32 → Option (UH)) (zo_X2_seen : ∀ (u : UH) (a0 : Nat) (x1 : Int32) (x2 : Int32) (x3 : Int32) (r : Int64) (uf : UH), ro_X2_seen u a0 x1 x2 x3 = some (r, uf) → uf.1 = u.1 ∧ uf.2.1 = u.2.1) (zo_X2_of : ∀ (u : UH) (a0 : Nat) (x1 : Int32) (x2 : Int32) (r : Int64) (uf : UH), ro_X2_of u a0 x1 x2 = some (r, uf) → uf.1 = u.1 ∧ uf.2.1 = u.2.1) (zo_X2_solve : ∀ (u : UH) (a0 : Nat) (x1 : Int32) (uf : UH), ro_X2_solve u a0 x1 = some uf → uf.1 = u.1 ∧ uf.2.1 = u.2.1) : ∀ (n : Nat) (u : UH) (x1 : Int32) (x2 : Int32) (x3 : Int32) (x4 : Int64) (x6 : Int32), f_X2_solve_103 N (ub G) (ug G) ro_X2_seen ro_X2_of ro_X2_solve a0 n u x1 x2 x3 x4 x6 = some uf → uf.1 = u.1 ∧ uf.2.1 = u.2.1 := by
  intro n
  induction n with
  | zero =>
    intro u x1 x2 x3 x4 x6 h
    cases h
  | succ n ih =>
    intro u x1 x2 x3 x4 x6 h
    unfold f_X2_solve_103 at h
    obtain ⟨y1, hy1, h⟩ := mbind_n h
    by_cases c2 : y1 ≤ x6
    · have h := mif_t c2 h
      have hq := zz_X2_solve_372 (G := G) (a0 := a0) N  ro_X2_seen ro_X2_of ro_X2_solve zo_X2_seen zo_X2_of zo_X2_solve u x1 h
      exact ⟨by omega, by omega⟩
    · have h := mif_f c2 h
      have hq := zz_X2_solve_118 (G := G) (a0 := a0) N  ro_X2_seen ro_X2_of ro_X2_solve zo_X2_seen zo_X2_of zo_X2_solve (f_X2_solve_103 N (ub G) (ug G) ro_X2_seen ro_X2_of ro_X2_solve a0 n) ih N u x1 x2 x3 x4 x6 (-1) 0 h
      exact ⟨by omega, by omega⟩
set_option maxHeartbeats 4000000 in
set_option maxRecDepth 100000 in
theorem w_X2_solve_103 {p : Program} {l : Launch} {e : Env} {R : Room} {s : State} {m : MethodId} {args : Array Value} {below : List Frame} {meth : Method} {c : Code} {G : uG} {a0 : Nat} {uf : UH} (hC : uC p s m args meth c G RX2 cX2_solve 14 none) (hR : 4 ≤ R.frames ∧ 88 ≤ R.locals) (N : Nat) (ro_X2_seen : UH → Nat → Int32 → Int32 → Int32 → Option (Int64 × UH)) (ro_X2_of : UH → Nat → Int32 → Int32 → Option (Int64 × UH)) (ro_X2_solve : UH → Nat → Int32 → Option (UH)) (zo_X2_seen : ∀ (u : UH) (a0 : Nat) (x1 : Int32) (x2 : Int32) (x3 : Int32) (r : Int64) (uf : UH), ro_X2_seen u a0 x1 x2 x3 = some (r, uf) → uf.1 = u.1 ∧ uf.2.1 = u.2.1) (zo_X2_of : ∀ (u : UH) (a0 : Nat) (x1 : Int32) (x2 : Int32) (r : Int64) (uf : UH), ro_X2_of u a0 x1 x2 = some (r, uf) → uf.1 = u.1 ∧ uf.2.1 = u.2.1) (zo_X2_solve : ∀ (u : UH) (a0 : Nat) (x1 : Int32) (uf : UH), ro_X2_solve u a0 x1 = some uf → uf.1 = u.1 ∧ uf.2.1 = u.2.1) {DF DL : Nat} (mo_X2_seen : ∀ (u : UH) (a0 : Nat) (x1 : Int32) (x2 : Int32) (x3 : Int32) (r : Int64) (uf : UH), ro_X2_seen u a0 x1 x2 x3 = some (r, uf) → Met l yX2_seen (ws_ yX2_seen cX2_seen 9 (some .long)) ({ frames := DF, cells := 0, slots := 0, locals := DL }) (uPc G u [.ref a0, .int x1, .int x2, .int x3]) (uQl G r uf) 0 0 (uA G)) (mo_X2_of : ∀ (u : UH) (a0 : Nat) (x1 : Int32) (x2 : Int32) (r : Int64) (uf : UH), ro_X2_of u a0 x1 x2 = some (r, uf) → Met l yX2_of (ws_ yX2_of cX2_of 3 (some .long)) ({ frames := DF, cells := 0, slots := 0, locals := DL }) (uPc G u [.ref a0, .int x1, .int x2]) (uQl G r uf) 0 0 (uA G)) (mo_X2_solve : ∀ (u : UH) (a0 : Nat) (x1 : Int32) (uf : UH), ro_X2_solve u a0 x1 = some uf → Met l yX2_solve (ws_ yX2_solve cX2_solve 14 none) ({ frames := DF, cells := 0, slots := 0, locals := DL }) (uPc G u [.ref a0, .int x1]) (uQv G uf) 0 0 (uA G)) (hRr : DF + 1 ≤ R.frames ∧ 60 + DL ≤ R.locals) : ∀ (n : Nat) (u : UH) (x1 : Int32) (x2 : Int32) (x3 : Int32) (x4 : Int64) (x6 : Int32), f_X2_solve_103 N (ub G) (ug G) ro_X2_seen ro_X2_of ro_X2_solve a0 n u x1 x2 x3 x4 x6 = some uf → ∀ (H : Heap) (locs : List Loc), uP G u H → va_S (uA G) s.heap H locs → ∀ ls : Array Slot, lv_has ls 14 [(0, va_rf (some a0)), (1, .int x1), (2, .int x2), (3, .int x3), (4, .long x4), (6, .int x6)] → W p l e R s m args below meth c H locs 0 0 (MQ below (uQv G uf) args s 0 0 (uA G)) (F0 m 103 ls []) := by
  obtain ⟨⟨hx, hb, hml, hown, hts⟩, hKK⟩ := id hC
  intro n
  induction n with
  | zero =>
    intro u x1 x2 x3 x4 x6 h
    cases h
  | succ n ih =>
    intro u x1 x2 x3 x4 x6 h H locs hP hS ls hl
    unfold f_X2_solve_103 at h
    refine lv_iload hx hb dX2_solve_103 (lv_at hl 5 rfl) ?_
    refine u_aload_n (r := some a0) hx hb dX2_solve_105 rfl (lv_at hl 0 rfl) ?_
    obtain ⟨y1, hy1, h⟩ := mbind_n h
    refine u_get hC hP (uGI_n hy1) rfl in_X2 (by decide) q159 (fun _ h => h) dX2_solve_106 ?_
    refine lv_icmp_ge (tgt := 372) hx hb dX2_solve_109 (by decide) (fun c2 => ?_) (fun c2 => ?_)
    · have h := mif_t c2 h
      exact w_X2_solve_372 hC hR N  ro_X2_seen ro_X2_of ro_X2_solve zo_X2_seen zo_X2_of zo_X2_solve mo_X2_seen mo_X2_of mo_X2_solve hRr u x1 h hP hS (lv_sub hl [0, 1] rfl)
    · have h := mif_f c2 h
      refine lv_iconst (v := (-1)) hx hb dX2_solve_112 (by decide) ?_
      refine lv_istore (lv' := [(7, .int (-1)), (0, va_rf (some a0)), (1, .int x1), (2, .int x2), (3, .int x3), (4, .long x4), (6, .int x6)]) hx hb dX2_solve_113 hl (by decide) rfl (fun ls hl => ?_)
      refine lv_iconst (v := 0) hx hb dX2_solve_115 (by decide) ?_
      refine lv_istore (lv' := [(8, .int 0), (7, .int (-1)), (0, va_rf (some a0)), (1, .int x1), (2, .int x2), (3, .int x3), (4, .long x4), (6, .int x6)]) hx hb dX2_solve_116 hl (by decide) rfl (fun ls hl => ?_)
      exact w_X2_solve_118 hC hR N  ro_X2_seen ro_X2_of ro_X2_solve zo_X2_seen zo_X2_of zo_X2_solve mo_X2_seen mo_X2_of mo_X2_solve hRr (f_X2_solve_103 N (ub G) (ug G) ro_X2_seen ro_X2_of ro_X2_solve a0 n) ih N u x1 x2 x3 x4 x6 (-1) 0 h _ _ hP hS _ (lv_sub hl [2, 3, 4, 5, 6, 7, 1, 0] rfl)
def f_X2_solve_78 (N b : Nat) (g : uEnv) (ro_X2_seen : UH → Nat → Int32 → Int32 → Int32 → Option (Int64 × UH)) (ro_X2_of : UH → Nat → Int32 → Int32 → Option (Int64 × UH)) (ro_X2_solve : UH → Nat → Int32 → Option (UH)) (a0 : Nat) (k14 : UH → Int32 → Int32 → Int32 → Int32 → Option (UH)) (u : UH) (x1 : Int32) (x2 : Int32) (x3 : Int32) (x4 : Int32) (s0 : Int64) (s1 : Int32) (s2 : Option Nat) : Option (UH) :=
    (s2).bind fun a1 =>
    (uStL b u a1 3 s1 s0).bind fun u2 =>
    mlet (x4 + 1) fun y3 =>
    k14 u2 x1 x2 x3 y3
set_option maxHeartbeats 4000000 in
set_option maxRecDepth 100000 in
theorem zz_X2_solve_78 {G : uG} {a0 : Nat} {uf : UH} (N : Nat) (ro_X2_seen : UH → Nat → Int32 → Int32 → Int32 → Option (Int64 × UH)) (ro_X2_of : UH → Nat → Int32 → Int32 → Option (Int64 × UH)) (ro_X2_solve : UH → Nat → Int32 → Option (UH)) (zo_X2_seen : ∀ (u : UH) (a0 : Nat) (x1 : Int32) (x2 : Int32) (x3 : Int32) (r : Int64) (uf : UH), ro_X2_seen u a0 x1 x2 x3 = some (r, uf) → uf.1 = u.1 ∧ uf.2.1 = u.2.1) (zo_X2_of : ∀ (u : UH) (a0 : Nat) (x1 : Int32) (x2 : Int32) (r : Int64) (uf : UH), ro_X2_of u a0 x1 x2 = some (r, uf) → uf.1 = u.1 ∧ uf.2.1 = u.2.1) (zo_X2_solve : ∀ (u : UH) (a0 : Nat) (x1 : Int32) (uf : UH), ro_X2_solve u a0 x1 = some uf → uf.1 = u.1 ∧ uf.2.1 = u.2.1) (k14 : UH → Int32 → Int32 → Int32 → Int32 → Option (UH)) (hk14 : ∀ (u : UH) (x1 : Int32) (x2 : Int32) (x3 : Int32) (x4 : Int32), k14 u x1 x2 x3 x4 = some uf → uf.1 = u.1 ∧ uf.2.1 = u.2.1) (u : UH) (x1 : Int32) (x2 : Int32) (x3 : Int32) (x4 : Int32) (s0 : Int64) (s1 : Int32) (s2 : Option Nat) (h : f_X2_solve_78 N (ub G) (ug G) ro_X2_seen ro_X2_of ro_X2_solve a0 k14 u x1 x2 x3 x4 s0 s1 s2 = some uf) : uf.1 = u.1 ∧ uf.2.1 = u.2.1 := by
  unfold f_X2_solve_78 at h
  obtain ⟨a1, ha1, hha1⟩ := mbind_n h
  subst ha1
  have h := hha1
  obtain ⟨u2, hu2, h⟩ := mbind_n h
  have zu2 := uStL_sz hu2
  obtain ⟨y3, ey3⟩ : ∃ z : Int32, z = x4 + 1 := ⟨_, rfl⟩
  have h := mlet_at ey3 h
  have hq := hk14 u2 x1 x2 x3 y3 h
  exact ⟨by omega, by omega⟩
set_option maxHeartbeats 4000000 in
set_option maxRecDepth 100000 in
theorem w_X2_solve_78 {p : Program} {l : Launch} {e : Env} {R : Room} {s : State} {m : MethodId} {args : Array Value} {below : List Frame} {meth : Method} {c : Code} {G : uG} {a0 : Nat} {uf : UH} (hC : uC p s m args meth c G RX2 cX2_solve 14 none) (hR : 4 ≤ R.frames ∧ 88 ≤ R.locals) (N : Nat) (ro_X2_seen : UH → Nat → Int32 → Int32 → Int32 → Option (Int64 × UH)) (ro_X2_of : UH → Nat → Int32 → Int32 → Option (Int64 × UH)) (ro_X2_solve : UH → Nat → Int32 → Option (UH)) (zo_X2_seen : ∀ (u : UH) (a0 : Nat) (x1 : Int32) (x2 : Int32) (x3 : Int32) (r : Int64) (uf : UH), ro_X2_seen u a0 x1 x2 x3 = some (r, uf) → uf.1 = u.1 ∧ uf.2.1 = u.2.1) (zo_X2_of : ∀ (u : UH) (a0 : Nat) (x1 : Int32) (x2 : Int32) (r : Int64) (uf : UH), ro_X2_of u a0 x1 x2 = some (r, uf) → uf.1 = u.1 ∧ uf.2.1 = u.2.1) (zo_X2_solve : ∀ (u : UH) (a0 : Nat) (x1 : Int32) (uf : UH), ro_X2_solve u a0 x1 = some uf → uf.1 = u.1 ∧ uf.2.1 = u.2.1) {DF DL : Nat} (mo_X2_seen : ∀ (u : UH) (a0 : Nat) (x1 : Int32) (x2 : Int32) (x3 : Int32) (r : Int64) (uf : UH), ro_X2_seen u a0 x1 x2 x3 = some (r, uf) → Met l yX2_seen (ws_ yX2_seen cX2_seen 9 (some .long)) ({ frames := DF, cells := 0, slots := 0, locals := DL }) (uPc G u [.ref a0, .int x1, .int x2, .int x3]) (uQl G r uf) 0 0 (uA G)) (mo_X2_of : ∀ (u : UH) (a0 : Nat) (x1 : Int32) (x2 : Int32) (r : Int64) (uf : UH), ro_X2_of u a0 x1 x2 = some (r, uf) → Met l yX2_of (ws_ yX2_of cX2_of 3 (some .long)) ({ frames := DF, cells := 0, slots := 0, locals := DL }) (uPc G u [.ref a0, .int x1, .int x2]) (uQl G r uf) 0 0 (uA G)) (mo_X2_solve : ∀ (u : UH) (a0 : Nat) (x1 : Int32) (uf : UH), ro_X2_solve u a0 x1 = some uf → Met l yX2_solve (ws_ yX2_solve cX2_solve 14 none) ({ frames := DF, cells := 0, slots := 0, locals := DL }) (uPc G u [.ref a0, .int x1]) (uQv G uf) 0 0 (uA G)) (hRr : DF + 1 ≤ R.frames ∧ 60 + DL ≤ R.locals) (k14 : UH → Int32 → Int32 → Int32 → Int32 → Option (UH)) (hk14 : ∀ (u : UH) (x1 : Int32) (x2 : Int32) (x3 : Int32) (x4 : Int32), k14 u x1 x2 x3 x4 = some uf → ∀ (H : Heap) (locs : List Loc), uP G u H → va_S (uA G) s.heap H locs → ∀ ls : Array Slot, lv_has ls 14 [(0, va_rf (some a0)), (1, .int x1), (2, .int x2), (3, .int x3), (4, .int x4)] → W p l e R s m args below meth c H locs 0 0 (MQ below (uQv G uf) args s 0 0 (uA G)) (F0 m 14 ls [])) (u : UH) (x1 : Int32) (x2 : Int32) (x3 : Int32) (x4 : Int32) (s0 : Int64) (s1 : Int32) (s2 : Option Nat) (h : f_X2_solve_78 N (ub G) (ug G) ro_X2_seen ro_X2_of ro_X2_solve a0 k14 u x1 x2 x3 x4 s0 s1 s2 = some uf) {H : Heap} {locs : List Loc} (hP : uP G u H) (hS : va_S (uA G) s.heap H locs) {ls : Array Slot} (hl : lv_has ls 14 [(0, va_rf (some a0)), (1, .int x1), (2, .int x2), (3, .int x3), (4, .int x4)]) : W p l e R s m args below meth c H locs 0 0 (MQ below (uQv G uf) args s 0 0 (uA G)) (F0 m 78 ls [.long s0, .int s1, va_rf s2]) := by
  obtain ⟨⟨hx, hb, hml, hown, hts⟩, hKK⟩ := id hC
  unfold f_X2_solve_78 at h
  obtain ⟨a1, ha1, hha1⟩ := mbind_n h
  subst ha1
  have h := hha1
  obtain ⟨u2, hu2, h⟩ := mbind_n h
  have zu2 := uStL_sz hu2
  refine u_last hC hP hS hu2 rfl dX2_solve_78 (fun H locs hP hS => ?_)
  obtain ⟨y3, ey3⟩ : ∃ z : Int32, z = x4 + 1 := ⟨_, rfl⟩
  have h := mlet_at ey3 h
  refine lv_iinc (v := y3) (lv' := [(4, .int y3), (0, va_rf (some a0)), (1, .int x1), (2, .int x2), (3, .int x3)]) hx hb dX2_solve_79 hl (k := 4) rfl (by rw [ey3]; rfl) (by decide) rfl (fun ls hl => ?_)
  refine lv_goto (tgt := 14) hx hb dX2_solve_82 (by decide) ?_
  exact hk14 u2 x1 x2 x3 y3 h _ _ hP hS _ (lv_sub hl [1, 2, 3, 4, 0] rfl)
def f_X2_solve_14 (N b : Nat) (g : uEnv) (ro_X2_seen : UH → Nat → Int32 → Int32 → Int32 → Option (Int64 × UH)) (ro_X2_of : UH → Nat → Int32 → Int32 → Option (Int64 × UH)) (ro_X2_solve : UH → Nat → Int32 → Option (UH)) (a0 : Nat) : Nat → UH → Int32 → Int32 → Int32 → Int32 → Option (UH)
  | 0, _, _, _, _, _ => none
  | n + 1, u, x1, x2, x3, x4 =>
    (uGI u a0 1 2).bind fun y1 =>
    if y1 ≤ x4 then
    if uIs u a0 1 = true then
    ucall (f_X2_scale N b g u a0 x1) fun r6 u4 =>
    (uGR u4 a0 1 6).bind fun o7 =>
    (f_J10_fill_2 N b g u4 o7 0).bind fun u8 =>
    f_X2_solve_103 N b g ro_X2_seen ro_X2_of ro_X2_solve a0 N u8 x1 x2 x3 r6 0
    else none
    else
    (uGR u a0 1 4).bind fun o10 =>
    (uGI u a0 1 1).bind fun y11 =>
    if x4 = y11 then
    f_X2_solve_78 N b g ro_X2_seen ro_X2_of ro_X2_solve a0 (f_X2_solve_14 N b g ro_X2_seen ro_X2_of ro_X2_solve a0 n) u x1 x2 x3 x4 0 (x2 + x4) o10
    else
    (uGR u a0 1 7).bind fun o13 =>
    (o13).bind fun a14 =>
    (uLdI u a14 0 x4).bind fun y15 =>
    if (y15 &&& x3) = 0 then
    f_X2_solve_78 N b g ro_X2_seen ro_X2_of ro_X2_solve a0 (f_X2_solve_14 N b g ro_X2_seen ro_X2_of ro_X2_solve a0 n) u x1 x2 x3 x4 9223372036854775807 (x2 + x4) o10
    else
    (uGR u a0 1 7).bind fun o17 =>
    (o17).bind fun a18 =>
    (uLdI u a18 0 x4).bind fun y19 =>
    if uIs u a0 1 = true then
    ucall (ro_X2_seen u a0 x4 x1 (y19 &&& x3)) fun r23 u21 =>
    f_X2_solve_78 N b g ro_X2_seen ro_X2_of ro_X2_solve a0 (f_X2_solve_14 N b g ro_X2_seen ro_X2_of ro_X2_solve a0 n) u21 x1 x2 x3 x4 r23 (x2 + x4) o10
    else none
set_option maxHeartbeats 4000000 in
set_option maxRecDepth 100000 in
theorem zz_X2_solve_14 {G : uG} {a0 : Nat} {uf : UH} (N : Nat) (ro_X2_seen : UH → Nat → Int32 → Int32 → Int32 → Option (Int64 × UH)) (ro_X2_of : UH → Nat → Int32 → Int32 → Option (Int64 × UH)) (ro_X2_solve : UH → Nat → Int32 → Option (UH)) (zo_X2_seen : ∀ (u : UH) (a0 : Nat) (x1 : Int32) (x2 : Int32) (x3 : Int32) (r : Int64) (uf : UH), ro_X2_seen u a0 x1 x2 x3 = some (r, uf) → uf.1 = u.1 ∧ uf.2.1 = u.2.1) (zo_X2_of : ∀ (u : UH) (a0 : Nat) (x1 : Int32) (x2 : Int32) (r : Int64) (uf : UH), ro_X2_of u a0 x1 x2 = some (r, uf) → uf.1 = u.1 ∧ uf.2.1 = u.2.1) (zo_X2_solve : ∀ (u : UH) (a0 : Nat) (x1 : Int32) (uf : UH), ro_X2_solve u a0 x1 = some uf → uf.1 = u.1 ∧ uf.2.1 = u.2.1) : ∀ (n : Nat) (u : UH) (x1 : Int32) (x2 : Int32) (x3 : Int32) (x4 : Int32), f_X2_solve_14 N (ub G) (ug G) ro_X2_seen ro_X2_of ro_X2_solve a0 n u x1 x2 x3 x4 = some uf → uf.1 = u.1 ∧ uf.2.1 = u.2.1 := by
  intro n
  induction n with
  | zero =>
    intro u x1 x2 x3 x4 h
    cases h
  | succ n ih =>
    intro u x1 x2 x3 x4 h
    unfold f_X2_solve_14 at h
    obtain ⟨y1, hy1, h⟩ := mbind_n h
    by_cases c2 : y1 ≤ x4
    · have h := mif_t c2 h
      obtain ⟨c3, h⟩ := mif_n h
      obtain ⟨r6, u4, c5, h⟩ := ucall_n h
      have zu4 := zz_X2_scale N (ub G) (ug G) u a0 x1 r6 u4 c5
      obtain ⟨o7, ho7, h⟩ := mbind_n h
      obtain ⟨u8, c9, h⟩ := mbind_n h
      have zu8 := zz_J10_fill_2 N (ub G) (ug G) u4 o7 0 u8 c9
      have hq := zz_X2_solve_103 (G := G) (a0 := a0) N  ro_X2_seen ro_X2_of ro_X2_solve zo_X2_seen zo_X2_of zo_X2_solve N u8 x1 x2 x3 r6 0 h
      exact ⟨by omega, by omega⟩
    · have h := mif_f c2 h
      obtain ⟨o10, ho10, h⟩ := mbind_n h
      obtain ⟨y11, hy11, h⟩ := mbind_n h
      by_cases c12 : x4 = y11
      · have h := mif_t c12 h
        have hq := zz_X2_solve_78 (G := G) (a0 := a0) N  ro_X2_seen ro_X2_of ro_X2_solve zo_X2_seen zo_X2_of zo_X2_solve (f_X2_solve_14 N (ub G) (ug G) ro_X2_seen ro_X2_of ro_X2_solve a0 n) ih u x1 x2 x3 x4 0 (x2 + x4) o10 h
        exact ⟨by omega, by omega⟩
      · have h := mif_f c12 h
        obtain ⟨o13, ho13, h⟩ := mbind_n h
        obtain ⟨a14, ha14, hha14⟩ := mbind_n h
        subst ha14
        have h := hha14
        obtain ⟨y15, hy15, h⟩ := mbind_n h
        by_cases c16 : (y15 &&& x3) = 0
        · have h := mif_t c16 h
          have hq := zz_X2_solve_78 (G := G) (a0 := a0) N  ro_X2_seen ro_X2_of ro_X2_solve zo_X2_seen zo_X2_of zo_X2_solve (f_X2_solve_14 N (ub G) (ug G) ro_X2_seen ro_X2_of ro_X2_solve a0 n) ih u x1 x2 x3 x4 9223372036854775807 (x2 + x4) o10 h
          exact ⟨by omega, by omega⟩
        · have h := mif_f c16 h
          obtain ⟨o17, ho17, h⟩ := mbind_n h
          obtain ⟨a18, ha18, hha18⟩ := mbind_n h
          subst ha18
          have h := hha18
          obtain ⟨y19, hy19, h⟩ := mbind_n h
          obtain ⟨c20, h⟩ := mif_n h
          obtain ⟨r23, u21, c22, h⟩ := ucall_n h
          have zu21 := zo_X2_seen u a0 x4 x1 (y19 &&& x3) r23 u21 c22
          have hq := zz_X2_solve_78 (G := G) (a0 := a0) N  ro_X2_seen ro_X2_of ro_X2_solve zo_X2_seen zo_X2_of zo_X2_solve (f_X2_solve_14 N (ub G) (ug G) ro_X2_seen ro_X2_of ro_X2_solve a0 n) ih u21 x1 x2 x3 x4 r23 (x2 + x4) o10 h
          exact ⟨by omega, by omega⟩
set_option maxHeartbeats 4000000 in
set_option maxRecDepth 100000 in
theorem w_X2_solve_14 {p : Program} {l : Launch} {e : Env} {R : Room} {s : State} {m : MethodId} {args : Array Value} {below : List Frame} {meth : Method} {c : Code} {G : uG} {a0 : Nat} {uf : UH} (hC : uC p s m args meth c G RX2 cX2_solve 14 none) (hR : 4 ≤ R.frames ∧ 88 ≤ R.locals) (N : Nat) (ro_X2_seen : UH → Nat → Int32 → Int32 → Int32 → Option (Int64 × UH)) (ro_X2_of : UH → Nat → Int32 → Int32 → Option (Int64 × UH)) (ro_X2_solve : UH → Nat → Int32 → Option (UH)) (zo_X2_seen : ∀ (u : UH) (a0 : Nat) (x1 : Int32) (x2 : Int32) (x3 : Int32) (r : Int64) (uf : UH), ro_X2_seen u a0 x1 x2 x3 = some (r, uf) → uf.1 = u.1 ∧ uf.2.1 = u.2.1) (zo_X2_of : ∀ (u : UH) (a0 : Nat) (x1 : Int32) (x2 : Int32) (r : Int64) (uf : UH), ro_X2_of u a0 x1 x2 = some (r, uf) → uf.1 = u.1 ∧ uf.2.1 = u.2.1) (zo_X2_solve : ∀ (u : UH) (a0 : Nat) (x1 : Int32) (uf : UH), ro_X2_solve u a0 x1 = some uf → uf.1 = u.1 ∧ uf.2.1 = u.2.1) {DF DL : Nat} (mo_X2_seen : ∀ (u : UH) (a0 : Nat) (x1 : Int32) (x2 : Int32) (x3 : Int32) (r : Int64) (uf : UH), ro_X2_seen u a0 x1 x2 x3 = some (r, uf) → Met l yX2_seen (ws_ yX2_seen cX2_seen 9 (some .long)) ({ frames := DF, cells := 0, slots := 0, locals := DL }) (uPc G u [.ref a0, .int x1, .int x2, .int x3]) (uQl G r uf) 0 0 (uA G)) (mo_X2_of : ∀ (u : UH) (a0 : Nat) (x1 : Int32) (x2 : Int32) (r : Int64) (uf : UH), ro_X2_of u a0 x1 x2 = some (r, uf) → Met l yX2_of (ws_ yX2_of cX2_of 3 (some .long)) ({ frames := DF, cells := 0, slots := 0, locals := DL }) (uPc G u [.ref a0, .int x1, .int x2]) (uQl G r uf) 0 0 (uA G)) (mo_X2_solve : ∀ (u : UH) (a0 : Nat) (x1 : Int32) (uf : UH), ro_X2_solve u a0 x1 = some uf → Met l yX2_solve (ws_ yX2_solve cX2_solve 14 none) ({ frames := DF, cells := 0, slots := 0, locals := DL }) (uPc G u [.ref a0, .int x1]) (uQv G uf) 0 0 (uA G)) (hRr : DF + 1 ≤ R.frames ∧ 60 + DL ≤ R.locals) : ∀ (n : Nat) (u : UH) (x1 : Int32) (x2 : Int32) (x3 : Int32) (x4 : Int32), f_X2_solve_14 N (ub G) (ug G) ro_X2_seen ro_X2_of ro_X2_solve a0 n u x1 x2 x3 x4 = some uf → ∀ (H : Heap) (locs : List Loc), uP G u H → va_S (uA G) s.heap H locs → ∀ ls : Array Slot, lv_has ls 14 [(0, va_rf (some a0)), (1, .int x1), (2, .int x2), (3, .int x3), (4, .int x4)] → W p l e R s m args below meth c H locs 0 0 (MQ below (uQv G uf) args s 0 0 (uA G)) (F0 m 14 ls []) := by
  obtain ⟨⟨hx, hb, hml, hown, hts⟩, hKK⟩ := id hC
  intro n
  induction n with
  | zero =>
    intro u x1 x2 x3 x4 h
    cases h
  | succ n ih =>
    intro u x1 x2 x3 x4 h H locs hP hS ls hl
    unfold f_X2_solve_14 at h
    refine lv_iload hx hb dX2_solve_14 (lv_at hl 4 rfl) ?_
    refine u_aload_n (r := some a0) hx hb dX2_solve_16 rfl (lv_at hl 0 rfl) ?_
    obtain ⟨y1, hy1, h⟩ := mbind_n h
    refine u_get hC hP (uGI_n hy1) rfl in_X2 (by decide) q159 (fun _ h => h) dX2_solve_17 ?_
    refine lv_icmp_ge (tgt := 85) hx hb dX2_solve_20 (by decide) (fun c2 => ?_) (fun c2 => ?_)
    · have h := mif_t c2 h
      refine u_aload_n (r := some a0) hx hb dX2_solve_85 rfl (lv_at hl 0 rfl) ?_
      refine lv_iload_n hx hb dX2_solve_86 rfl (lv_at hl 1 rfl) ?_
      obtain ⟨c3, h⟩ := mif_n h
      obtain ⟨r6, u4, c5, h⟩ := ucall_n h
      have zu4 := zz_X2_scale N (ub G) (ug G) u a0 x1 r6 u4 c5
      refine u_calll (va_runV (As := [.int x1]) (rest := []) hC.1 (met_X2_scale l N G u a0 x1 r6 u4 c5) (cwV 1 hts (lw_V q1390 q1391 q1392 q99 q1393) rfl rfl rfl (by decide +kernel) ⟨Nat.le_trans (Nat.le_of_ble_eq_true rfl) hR.1, Nat.le_trans (Nat.le_of_ble_eq_true rfl) hR.2⟩) ⟨uPc_blind, u_rcv hC hP c3 rfl, fun U hU hW => u_pre hC hP hS hU hW⟩ rfl rfl hl.1 rfl (lv_room (Nat.le_of_ble_eq_true rfl)) dX2_solve_87 ⟨Nat.zero_le _, Nat.zero_le _⟩) hS (fun H locs hP hS => ?_)
      refine lv_lstore (lv' := [(4, .long r6), (0, va_rf (some a0)), (1, .int x1), (2, .int x2), (3, .int x3)]) hx hb dX2_solve_90 hl (by decide) rfl (fun ls hl => ?_)
      refine u_aload_n (r := some a0) hx hb dX2_solve_92 rfl (lv_at hl 1 rfl) ?_
      obtain ⟨o7, ho7, h⟩ := mbind_n h
      refine u_get hC hP (uGR_n ho7) rfl in_X2 (by decide) q163 (fun _ h => h) dX2_solve_93 ?_
      refine lv_iconst (v := 0) hx hb dX2_solve_96 (by decide) ?_
      obtain ⟨u8, c9, h⟩ := mbind_n h
      have zu8 := zz_J10_fill_2 N (ub G) (ug G) u4 o7 0 u8 c9
      refine u_callv (va_runS (As := [va_rf o7, .int 0]) (rest := []) hC.1 (met_J10_fill_2 l N G u4 o7 0 u8 c9) (va_cwS 2 hts (lw_S q1312 q1313 q114 q1314) rfl rfl rfl (by decide +kernel) ⟨Nat.le_trans (Nat.le_of_ble_eq_true rfl) hR.1, Nat.le_trans (Nat.le_of_ble_eq_true rfl) hR.2⟩) ⟨uPc_blind, fun U hU hW => u_pre hC hP hS hU hW⟩ rfl rfl hl.1 rfl (lv_room (Nat.le_of_ble_eq_true rfl)) dX2_solve_97 ⟨Nat.zero_le _, Nat.zero_le _⟩) hS (fun H locs hP hS => ?_)
      refine lv_iconst (v := 0) hx hb dX2_solve_100 (by decide) ?_
      refine lv_istore (lv' := [(6, .int 0), (4, .long r6), (0, va_rf (some a0)), (1, .int x1), (2, .int x2), (3, .int x3)]) hx hb dX2_solve_101 hl (by decide) rfl (fun ls hl => ?_)
      exact w_X2_solve_103 hC hR N  ro_X2_seen ro_X2_of ro_X2_solve zo_X2_seen zo_X2_of zo_X2_solve mo_X2_seen mo_X2_of mo_X2_solve hRr N u8 x1 x2 x3 r6 0 h _ _ hP hS _ (lv_sub hl [2, 3, 4, 5, 1, 0] rfl)
    · have h := mif_f c2 h
      refine u_aload_n (r := some a0) hx hb dX2_solve_23 rfl (lv_at hl 0 rfl) ?_
      obtain ⟨o10, ho10, h⟩ := mbind_n h
      refine u_get hC hP (uGR_n ho10) rfl in_X2 (by decide) q161 (fun _ h => h) dX2_solve_24 ?_
      refine lv_iload_n hx hb dX2_solve_27 rfl (lv_at hl 2 rfl) ?_
      refine lv_iload hx hb dX2_solve_28 (lv_at hl 4 rfl) ?_
      refine lv_iadd hx hb dX2_solve_30 ?_
      refine lv_iload hx hb dX2_solve_31 (lv_at hl 4 rfl) ?_
      refine u_aload_n (r := some a0) hx hb dX2_solve_33 rfl (lv_at hl 0 rfl) ?_
      obtain ⟨y11, hy11, h⟩ := mbind_n h
      refine u_get hC hP (uGI_n hy11) rfl in_X2 (by decide) q158 (fun _ h => h) dX2_solve_34 ?_
      refine lv_icmp_ne (tgt := 44) hx hb dX2_solve_37 (by decide) (fun c12 => ?_) (fun c12 => ?_)
      · have h := mif_f c12 h
        refine u_aload_n (r := some a0) hx hb dX2_solve_44 rfl (lv_at hl 0 rfl) ?_
        obtain ⟨o13, ho13, h⟩ := mbind_n h
        refine u_get hC hP (uGR_n ho13) rfl in_X2 (by decide) q164 (fun _ h => h) dX2_solve_45 ?_
        refine lv_iload hx hb dX2_solve_48 (lv_at hl 4 rfl) ?_
        obtain ⟨a14, ha14, hha14⟩ := mbind_n h
        subst ha14
        have h := hha14
        obtain ⟨y15, hy15, h⟩ := mbind_n h
        refine u_iald hC hP hy15 rfl dX2_solve_50 ?_
        refine lv_iload_n hx hb dX2_solve_51 rfl (lv_at hl 3 rfl) ?_
        refine lv_iand hx hb dX2_solve_52 ?_
        refine lv_if_eq (tgt := 75) hx hb dX2_solve_53 (by decide) (fun c16 => ?_) (fun c16 => ?_)
        · have h := mif_t c16 h
          refine lv_ldc2 hx hb hown (hts _ q1389) dX2_solve_75 ?_
          exact w_X2_solve_78 hC hR N  ro_X2_seen ro_X2_of ro_X2_solve zo_X2_seen zo_X2_of zo_X2_solve mo_X2_seen mo_X2_of mo_X2_solve hRr (f_X2_solve_14 N (ub G) (ug G) ro_X2_seen ro_X2_of ro_X2_solve a0 n) ih u x1 x2 x3 x4 9223372036854775807 (x2 + x4) o10 h hP hS (lv_sub hl [0, 1, 2, 3, 4] rfl)
        · have h := mif_f c16 h
          refine u_aload_n (r := some a0) hx hb dX2_solve_56 rfl (lv_at hl 0 rfl) ?_
          refine lv_iload hx hb dX2_solve_57 (lv_at hl 4 rfl) ?_
          refine lv_iload_n hx hb dX2_solve_59 rfl (lv_at hl 1 rfl) ?_
          refine u_aload_n (r := some a0) hx hb dX2_solve_60 rfl (lv_at hl 0 rfl) ?_
          obtain ⟨o17, ho17, h⟩ := mbind_n h
          refine u_get hC hP (uGR_n ho17) rfl in_X2 (by decide) q164 (fun _ h => h) dX2_solve_61 ?_
          refine lv_iload hx hb dX2_solve_64 (lv_at hl 4 rfl) ?_
          obtain ⟨a18, ha18, hha18⟩ := mbind_n h
          subst ha18
          have h := hha18
          obtain ⟨y19, hy19, h⟩ := mbind_n h
          refine u_iald hC hP hy19 rfl dX2_solve_66 ?_
          refine lv_iload_n hx hb dX2_solve_67 rfl (lv_at hl 3 rfl) ?_
          refine lv_iand hx hb dX2_solve_68 ?_
          obtain ⟨c20, h⟩ := mif_n h
          obtain ⟨r23, u21, c22, h⟩ := ucall_n h
          have zu21 := zo_X2_seen u a0 x4 x1 (y19 &&& x3) r23 u21 c22
          refine u_calll (va_runV (As := [.int x4, .int x1, .int (y19 &&& x3)]) (rest := [.int (x2 + x4), va_rf o10]) hC.1 (mo_X2_seen u a0 x4 x1 (y19 &&& x3) r23 u21 c22) (cwV 3 hts (lw_V q1359 q1361 qs24 q99 q1362) rfl rfl rfl (by decide +kernel) ⟨hRr.1, Nat.le_trans (Nat.add_le_add_right (Nat.le_of_ble_eq_true rfl) DL) hRr.2⟩) ⟨uPc_blind, u_rcv hC hP c20 rfl, fun U hU hW => u_pre hC hP hS hU hW⟩ rfl rfl hl.1 rfl (lv_room (by simp only [List.map, u_cat]; exact Nat.le_of_ble_eq_true rfl)) dX2_solve_69 ⟨Nat.zero_le _, Nat.zero_le _⟩) hS (fun H locs hP hS => ?_)
          refine lv_goto (tgt := 78) hx hb dX2_solve_72 (by decide) ?_
          exact w_X2_solve_78 hC hR N  ro_X2_seen ro_X2_of ro_X2_solve zo_X2_seen zo_X2_of zo_X2_solve mo_X2_seen mo_X2_of mo_X2_solve hRr (f_X2_solve_14 N (ub G) (ug G) ro_X2_seen ro_X2_of ro_X2_solve a0 n) ih u21 x1 x2 x3 x4 r23 (x2 + x4) o10 h hP hS (lv_sub hl [0, 1, 2, 3, 4] rfl)
      · have h := mif_t c12 h
        refine lv_lconst (v := 0) hx hb dX2_solve_40 (by decide) ?_
        refine lv_goto (tgt := 78) hx hb dX2_solve_41 (by decide) ?_
        exact w_X2_solve_78 hC hR N  ro_X2_seen ro_X2_of ro_X2_solve zo_X2_seen zo_X2_of zo_X2_solve mo_X2_seen mo_X2_of mo_X2_solve hRr (f_X2_solve_14 N (ub G) (ug G) ro_X2_seen ro_X2_of ro_X2_solve a0 n) ih u x1 x2 x3 x4 0 (x2 + x4) o10 h hP hS (lv_sub hl [0, 1, 2, 3, 4] rfl)
def fo_X2_solve (N b : Nat) (g : uEnv) (ro_X2_seen : UH → Nat → Int32 → Int32 → Int32 → Option (Int64 × UH)) (ro_X2_of : UH → Nat → Int32 → Int32 → Option (Int64 × UH)) (ro_X2_solve : UH → Nat → Int32 → Option (UH)) (u : UH) (a0 : Nat) (x1 : Int32) : Option (UH) :=
    mlet (100 * x1) fun y1 =>
    if uIs u a0 1 = true then
    ucall (f_X2_unknown N b g u a0 x1) fun r5 u3 =>
    f_X2_solve_14 N b g ro_X2_seen ro_X2_of ro_X2_solve a0 N u3 x1 y1 r5 0
    else none
set_option maxHeartbeats 4000000 in
set_option maxRecDepth 100000 in
theorem zz_X2_solve_0 {G : uG} {a0 : Nat} {uf : UH} (N : Nat) (ro_X2_seen : UH → Nat → Int32 → Int32 → Int32 → Option (Int64 × UH)) (ro_X2_of : UH → Nat → Int32 → Int32 → Option (Int64 × UH)) (ro_X2_solve : UH → Nat → Int32 → Option (UH)) (zo_X2_seen : ∀ (u : UH) (a0 : Nat) (x1 : Int32) (x2 : Int32) (x3 : Int32) (r : Int64) (uf : UH), ro_X2_seen u a0 x1 x2 x3 = some (r, uf) → uf.1 = u.1 ∧ uf.2.1 = u.2.1) (zo_X2_of : ∀ (u : UH) (a0 : Nat) (x1 : Int32) (x2 : Int32) (r : Int64) (uf : UH), ro_X2_of u a0 x1 x2 = some (r, uf) → uf.1 = u.1 ∧ uf.2.1 = u.2.1) (zo_X2_solve : ∀ (u : UH) (a0 : Nat) (x1 : Int32) (uf : UH), ro_X2_solve u a0 x1 = some uf → uf.1 = u.1 ∧ uf.2.1 = u.2.1) (u : UH) (x1 : Int32) (h : fo_X2_solve N (ub G) (ug G) ro_X2_seen ro_X2_of ro_X2_solve u a0 x1 = some uf) : uf.1 = u.1 ∧ uf.2.1 = u.2.1 := by
  unfold fo_X2_solve at h
  obtain ⟨y1, ey1⟩ : ∃ z, z = 100 * x1 := ⟨_, rfl⟩
  have h := mlet_at ey1 h
  obtain ⟨c2, h⟩ := mif_n h
  obtain ⟨r5, u3, c4, h⟩ := ucall_n h
  have zu3 := zz_X2_unknown N (ub G) (ug G) u a0 x1 r5 u3 c4
  have hq := zz_X2_solve_14 (G := G) (a0 := a0) N  ro_X2_seen ro_X2_of ro_X2_solve zo_X2_seen zo_X2_of zo_X2_solve N u3 x1 y1 r5 0 h
  exact ⟨by omega, by omega⟩
set_option maxHeartbeats 4000000 in
set_option maxRecDepth 100000 in
theorem w_X2_solve_0 {p : Program} {l : Launch} {e : Env} {R : Room} {s : State} {m : MethodId} {args : Array Value} {below : List Frame} {meth : Method} {c : Code} {G : uG} {a0 : Nat} {uf : UH} (hC : uC p s m args meth c G RX2 cX2_solve 14 none) (hR : 4 ≤ R.frames ∧ 88 ≤ R.locals) (N : Nat) (ro_X2_seen : UH → Nat → Int32 → Int32 → Int32 → Option (Int64 × UH)) (ro_X2_of : UH → Nat → Int32 → Int32 → Option (Int64 × UH)) (ro_X2_solve : UH → Nat → Int32 → Option (UH)) (zo_X2_seen : ∀ (u : UH) (a0 : Nat) (x1 : Int32) (x2 : Int32) (x3 : Int32) (r : Int64) (uf : UH), ro_X2_seen u a0 x1 x2 x3 = some (r, uf) → uf.1 = u.1 ∧ uf.2.1 = u.2.1) (zo_X2_of : ∀ (u : UH) (a0 : Nat) (x1 : Int32) (x2 : Int32) (r : Int64) (uf : UH), ro_X2_of u a0 x1 x2 = some (r, uf) → uf.1 = u.1 ∧ uf.2.1 = u.2.1) (zo_X2_solve : ∀ (u : UH) (a0 : Nat) (x1 : Int32) (uf : UH), ro_X2_solve u a0 x1 = some uf → uf.1 = u.1 ∧ uf.2.1 = u.2.1) {DF DL : Nat} (mo_X2_seen : ∀ (u : UH) (a0 : Nat) (x1 : Int32) (x2 : Int32) (x3 : Int32) (r : Int64) (uf : UH), ro_X2_seen u a0 x1 x2 x3 = some (r, uf) → Met l yX2_seen (ws_ yX2_seen cX2_seen 9 (some .long)) ({ frames := DF, cells := 0, slots := 0, locals := DL }) (uPc G u [.ref a0, .int x1, .int x2, .int x3]) (uQl G r uf) 0 0 (uA G)) (mo_X2_of : ∀ (u : UH) (a0 : Nat) (x1 : Int32) (x2 : Int32) (r : Int64) (uf : UH), ro_X2_of u a0 x1 x2 = some (r, uf) → Met l yX2_of (ws_ yX2_of cX2_of 3 (some .long)) ({ frames := DF, cells := 0, slots := 0, locals := DL }) (uPc G u [.ref a0, .int x1, .int x2]) (uQl G r uf) 0 0 (uA G)) (mo_X2_solve : ∀ (u : UH) (a0 : Nat) (x1 : Int32) (uf : UH), ro_X2_solve u a0 x1 = some uf → Met l yX2_solve (ws_ yX2_solve cX2_solve 14 none) ({ frames := DF, cells := 0, slots := 0, locals := DL }) (uPc G u [.ref a0, .int x1]) (uQv G uf) 0 0 (uA G)) (hRr : DF + 1 ≤ R.frames ∧ 60 + DL ≤ R.locals) (u : UH) (x1 : Int32) (h : fo_X2_solve N (ub G) (ug G) ro_X2_seen ro_X2_of ro_X2_solve u a0 x1 = some uf) {H : Heap} {locs : List Loc} (hP : uP G u H) (hS : va_S (uA G) s.heap H locs) {ls : Array Slot} (hl : lv_has ls 14 [(0, va_rf (some a0)), (1, .int x1)]) : W p l e R s m args below meth c H locs 0 0 (MQ below (uQv G uf) args s 0 0 (uA G)) (F0 m 0 ls []) := by
  obtain ⟨⟨hx, hb, hml, hown, hts⟩, hKK⟩ := id hC
  unfold fo_X2_solve at h
  refine lv_bipush (v := 100) hx hb dX2_solve_0 (by decide) ?_
  refine lv_iload_n hx hb dX2_solve_2 rfl (lv_at hl 1 rfl) ?_
  refine lv_imul hx hb dX2_solve_3 ?_
  refine lv_topi (fun y1 ey1 => ?_)
  have h := mlet_at ey1 h
  refine lv_istore_n (i := 2) (lv' := [(2, .int y1), (0, va_rf (some a0)), (1, .int x1)]) hx hb dX2_solve_4 rfl hl (by decide) rfl (fun ls hl => ?_)
  refine u_aload_n (r := some a0) hx hb dX2_solve_5 rfl (lv_at hl 1 rfl) ?_
  refine lv_iload_n hx hb dX2_solve_6 rfl (lv_at hl 2 rfl) ?_
  obtain ⟨c2, h⟩ := mif_n h
  obtain ⟨r5, u3, c4, h⟩ := ucall_n h
  have zu3 := zz_X2_unknown N (ub G) (ug G) u a0 x1 r5 u3 c4
  refine u_calli (va_runV (As := [.int x1]) (rest := []) hC.1 (met_X2_unknown l N G u a0 x1 r5 u3 c4) (cwV 1 hts (lw_V q1352 q1354 qs23 q99 q1355) rfl rfl rfl (by decide +kernel) ⟨Nat.le_trans (Nat.le_of_ble_eq_true rfl) hR.1, Nat.le_trans (Nat.le_of_ble_eq_true rfl) hR.2⟩) ⟨uPc_blind, u_rcv hC hP c2 rfl, fun U hU hW => u_pre hC hP hS hU hW⟩ rfl rfl hl.1 rfl (lv_room (Nat.le_of_ble_eq_true rfl)) dX2_solve_7 ⟨Nat.zero_le _, Nat.zero_le _⟩) hS (fun H locs hP hS => ?_)
  refine lv_istore_n (i := 3) (lv' := [(3, .int r5), (2, .int y1), (0, va_rf (some a0)), (1, .int x1)]) hx hb dX2_solve_10 rfl hl (by decide) rfl (fun ls hl => ?_)
  refine lv_iconst (v := 0) hx hb dX2_solve_11 (by decide) ?_
  refine lv_istore (lv' := [(4, .int 0), (3, .int r5), (2, .int y1), (0, va_rf (some a0)), (1, .int x1)]) hx hb dX2_solve_12 hl (by decide) rfl (fun ls hl => ?_)
  exact w_X2_solve_14 hC hR N  ro_X2_seen ro_X2_of ro_X2_solve zo_X2_seen zo_X2_of zo_X2_solve mo_X2_seen mo_X2_of mo_X2_solve hRr N u3 x1 y1 r5 0 h _ _ hP hS _ (lv_sub hl [3, 4, 2, 1, 0] rfl)
def rec_solve (N b : Nat) (g : uEnv) : Nat → (UH → Nat → Int32 → Int32 → Int32 → Option (Int64 × UH)) × (UH → Nat → Int32 → Int32 → Option (Int64 × UH)) × (UH → Nat → Int32 → Option (UH))
  | 0 => (fun _ _ _ _ _ => none, fun _ _ _ _ => none, fun _ _ _ => none)
  | d + 1 => (fun u a0 x1 x2 x3 => fo_X2_seen N b g ((rec_solve N b g d).1) ((rec_solve N b g d).2.1) ((rec_solve N b g d).2.2) u a0 x1 x2 x3, fun u a0 x1 x2 => fo_X2_of N b g ((rec_solve N b g d).1) ((rec_solve N b g d).2.1) ((rec_solve N b g d).2.2) u a0 x1 x2, fun u a0 x1 => fo_X2_solve N b g ((rec_solve N b g d).1) ((rec_solve N b g d).2.1) ((rec_solve N b g d).2.2) u a0 x1)
theorem recz_solve (G : uG) (N : Nat) : ∀ d : Nat, (∀ (u : UH) (a0 : Nat) (x1 : Int32) (x2 : Int32) (x3 : Int32) (r : Int64) (uf : UH), ((rec_solve N (ub G) (ug G) d).1) u a0 x1 x2 x3 = some (r, uf) → uf.1 = u.1 ∧ uf.2.1 = u.2.1) ∧ (∀ (u : UH) (a0 : Nat) (x1 : Int32) (x2 : Int32) (r : Int64) (uf : UH), ((rec_solve N (ub G) (ug G) d).2.1) u a0 x1 x2 = some (r, uf) → uf.1 = u.1 ∧ uf.2.1 = u.2.1) ∧ (∀ (u : UH) (a0 : Nat) (x1 : Int32) (uf : UH), ((rec_solve N (ub G) (ug G) d).2.2) u a0 x1 = some uf → uf.1 = u.1 ∧ uf.2.1 = u.2.1) := by
  intro d
  induction d with
  | zero => exact ⟨(by intro u a0 x1 x2 x3 r uf h; cases h), (by intro u a0 x1 x2 r uf h; cases h), (by intro u a0 x1 uf h; cases h)⟩
  | succ d ih =>
    exact ⟨(by intro u a0 x1 x2 x3 r uf h; exact zz_X2_seen_0 (G := G) (a0 := a0) N _ _ _ ih.1 ih.2.1 ih.2.2 u x1 x2 x3 h), (by intro u a0 x1 x2 r uf h; exact zz_X2_of_0 (G := G) (a0 := a0) N _ _ _ ih.1 ih.2.1 ih.2.2 u x1 x2 h), (by intro u a0 x1 uf h; exact zz_X2_solve_0 (G := G) (a0 := a0) N _ _ _ ih.1 ih.2.1 ih.2.2 u x1 h)⟩
set_option maxHeartbeats 4000000 in
set_option maxRecDepth 100000 in
theorem recm_solve (l : Launch) (G : uG) (N : Nat) : ∀ d : Nat, (∀ (u : UH) (a0 : Nat) (x1 : Int32) (x2 : Int32) (x3 : Int32) (r : Int64) (uf : UH), ((rec_solve N (ub G) (ug G) d).1) u a0 x1 x2 x3 = some (r, uf) → Met l yX2_seen (ws_ yX2_seen cX2_seen 9 (some .long)) ({ frames := 4 + d, cells := 0, slots := 0, locals := 89 + 60 * d }) (uPc G u [.ref a0, .int x1, .int x2, .int x3]) (uQl G r uf) 0 0 (uA G)) ∧ (∀ (u : UH) (a0 : Nat) (x1 : Int32) (x2 : Int32) (r : Int64) (uf : UH), ((rec_solve N (ub G) (ug G) d).2.1) u a0 x1 x2 = some (r, uf) → Met l yX2_of (ws_ yX2_of cX2_of 3 (some .long)) ({ frames := 4 + d, cells := 0, slots := 0, locals := 89 + 60 * d }) (uPc G u [.ref a0, .int x1, .int x2]) (uQl G r uf) 0 0 (uA G)) ∧ (∀ (u : UH) (a0 : Nat) (x1 : Int32) (uf : UH), ((rec_solve N (ub G) (ug G) d).2.2) u a0 x1 = some uf → Met l yX2_solve (ws_ yX2_solve cX2_solve 14 none) ({ frames := 4 + d, cells := 0, slots := 0, locals := 89 + 60 * d }) (uPc G u [.ref a0, .int x1]) (uQv G uf) 0 0 (uA G)) := by
  intro d
  induction d with
  | zero => exact ⟨(by intro u a0 x1 x2 x3 r uf h; cases h), (by intro u a0 x1 x2 r uf h; cases h), (by intro u a0 x1 uf h; cases h)⟩
  | succ d ih =>
    have iz := recz_solve G N d
    refine ⟨?_, ?_, ?_⟩
    · intro u a0 x1 x2 x3 r uf h
      exact u_met (own := RX2) (by decide +kernel) rfl (Nat.le_of_ble_eq_true rfl) (fun hC hn hsz ls hl hP => w_X2_seen_0 hC ⟨by show _ ≤ _ + _; omega, by show _ ≤ _ + _; omega⟩ N _ _ _ iz.1 iz.2.1 iz.2.2 ih.1 ih.2.1 ih.2.2 ⟨by show _ ≤ _ + _; omega, by show _ ≤ _ + _; omega⟩ u x1 x2 x3 h hP va_S.rf hl)
    · intro u a0 x1 x2 r uf h
      exact u_met (own := RX2) (by decide +kernel) rfl (Nat.le_of_ble_eq_true rfl) (fun hC hn hsz ls hl hP => w_X2_of_0 hC ⟨by show _ ≤ _ + _; omega, by show _ ≤ _ + _; omega⟩ N _ _ _ iz.1 iz.2.1 iz.2.2 ih.1 ih.2.1 ih.2.2 ⟨by show _ ≤ _ + _; omega, by show _ ≤ _ + _; omega⟩ u x1 x2 h hP va_S.rf hl)
    · intro u a0 x1 uf h
      exact u_met (own := RX2) (by decide +kernel) rfl (Nat.le_of_ble_eq_true rfl) (fun hC hn hsz ls hl hP => w_X2_solve_0 hC ⟨by show _ ≤ _ + _; omega, by show _ ≤ _ + _; omega⟩ N _ _ _ iz.1 iz.2.1 iz.2.2 ih.1 ih.2.1 ih.2.2 ⟨by show _ ≤ _ + _; omega, by show _ ≤ _ + _; omega⟩ u x1 h hP va_S.rf hl)
def f_X2_seen (N b : Nat) (g : uEnv) (u : UH) (a0 : Nat) (x1 : Int32) (x2 : Int32) (x3 : Int32) : Option (Int64 × UH) := ((rec_solve N b g 40).1) u a0 x1 x2 x3
theorem zz_X2_seen (N b : Nat) (g : uEnv) (u : UH) (a0 : Nat) (x1 : Int32) (x2 : Int32) (x3 : Int32) (r : Int64) (uf : UH) (h : f_X2_seen N b g u a0 x1 x2 x3 = some (r, uf)) : uf.1 = u.1 ∧ uf.2.1 = u.2.1 := ((recz_solve ((fun _ => 0, fun _ _ => 0), fun _ => 0, b, g) N 40).1) u a0 x1 x2 x3 r uf h
theorem met_X2_seen (l : Launch) (N : Nat) (G : uG) (u : UH) (a0 : Nat) (x1 : Int32) (x2 : Int32) (x3 : Int32) (r : Int64) (uf : UH) (h : f_X2_seen N (ub G) (ug G) u a0 x1 x2 x3 = some (r, uf)) : Met l yX2_seen (ws_ yX2_seen cX2_seen 9 (some .long)) ({ frames := 44, cells := 0, slots := 0, locals := 2489 }) (uPc G u [.ref a0, .int x1, .int x2, .int x3]) (uQl G r uf) 0 0 (uA G) := ((recm_solve l G N 40).1) u a0 x1 x2 x3 r uf h
def f_X2_of (N b : Nat) (g : uEnv) (u : UH) (a0 : Nat) (x1 : Int32) (x2 : Int32) : Option (Int64 × UH) := ((rec_solve N b g 40).2.1) u a0 x1 x2
theorem zz_X2_of (N b : Nat) (g : uEnv) (u : UH) (a0 : Nat) (x1 : Int32) (x2 : Int32) (r : Int64) (uf : UH) (h : f_X2_of N b g u a0 x1 x2 = some (r, uf)) : uf.1 = u.1 ∧ uf.2.1 = u.2.1 := ((recz_solve ((fun _ => 0, fun _ _ => 0), fun _ => 0, b, g) N 40).2.1) u a0 x1 x2 r uf h
theorem met_X2_of (l : Launch) (N : Nat) (G : uG) (u : UH) (a0 : Nat) (x1 : Int32) (x2 : Int32) (r : Int64) (uf : UH) (h : f_X2_of N (ub G) (ug G) u a0 x1 x2 = some (r, uf)) : Met l yX2_of (ws_ yX2_of cX2_of 3 (some .long)) ({ frames := 44, cells := 0, slots := 0, locals := 2489 }) (uPc G u [.ref a0, .int x1, .int x2]) (uQl G r uf) 0 0 (uA G) := ((recm_solve l G N 40).2.1) u a0 x1 x2 r uf h
def f_X2_solve (N b : Nat) (g : uEnv) (u : UH) (a0 : Nat) (x1 : Int32) : Option (UH) := ((rec_solve N b g 40).2.2) u a0 x1
theorem zz_X2_solve (N b : Nat) (g : uEnv) (u : UH) (a0 : Nat) (x1 : Int32) (uf : UH) (h : f_X2_solve N b g u a0 x1 = some uf) : uf.1 = u.1 ∧ uf.2.1 = u.2.1 := ((recz_solve ((fun _ => 0, fun _ _ => 0), fun _ => 0, b, g) N 40).2.2) u a0 x1 uf h
theorem met_X2_solve (l : Launch) (N : Nat) (G : uG) (u : UH) (a0 : Nat) (x1 : Int32) (uf : UH) (h : f_X2_solve N (ub G) (ug G) u a0 x1 = some uf) : Met l yX2_solve (ws_ yX2_solve cX2_solve 14 none) ({ frames := 44, cells := 0, slots := 0, locals := 2489 }) (uPc G u [.ref a0, .int x1]) (uQv G uf) 0 0 (uA G) := ((recm_solve l G N 40).2.2) u a0 x1 uf h
def f_X1_part_18 (N b : Nat) (g : uEnv) (a0 : Nat) (u : UH) (x6 : Int64) (s0 : Int64) (s1 : Option Nat) : Option (Int64 × UH) :=
    if ¬ x6 = 0 then
    (s1).bind fun a2 =>
    if uIs u a2 0 = true then
    ucall (f_X1_told_2 N b g u a2 (s0 / x6)) fun r6 u4 =>
    some (r6, u4)
    else none
    else none
set_option maxHeartbeats 4000000 in
set_option maxRecDepth 100000 in
theorem zz_X1_part_18 {G : uG} {a0 : Nat} {uf : UH} {r : Int64} (N : Nat) (u : UH) (x6 : Int64) (s0 : Int64) (s1 : Option Nat) (h : f_X1_part_18 N (ub G) (ug G) a0 u x6 s0 s1 = some (r, uf)) : uf.1 = u.1 ∧ uf.2.1 = u.2.1 := by
  unfold f_X1_part_18 at h
  obtain ⟨c1, h⟩ := mif_n h
  obtain ⟨a2, ha2, hha2⟩ := mbind_n h
  subst ha2
  have h := hha2
  obtain ⟨c3, h⟩ := mif_n h
  obtain ⟨r6, u4, c5, h⟩ := ucall_n h
  have zu4 := zz_X1_told_2 N (ub G) (ug G) u a2 (s0 / x6) r6 u4 c5
  obtain ⟨hr1, hr2⟩ := uret_n h
  subst hr2
  exact ⟨by omega, by omega⟩
set_option maxHeartbeats 4000000 in
set_option maxRecDepth 100000 in
theorem w_X1_part_18 {p : Program} {l : Launch} {e : Env} {R : Room} {s : State} {m : MethodId} {args : Array Value} {below : List Frame} {meth : Method} {c : Code} {G : uG} {a0 : Nat} {uf : UH} {r : Int64} (hC : uC p s m args meth c G RX1 cX1_part 8 (some .long)) (hR : 101 ≤ R.frames ∧ 6023 ≤ R.locals) (N : Nat) (u : UH) (x6 : Int64) (s0 : Int64) (s1 : Option Nat) (h : f_X1_part_18 N (ub G) (ug G) a0 u x6 s0 s1 = some (r, uf)) {H : Heap} {locs : List Loc} (hP : uP G u H) (hS : va_S (uA G) s.heap H locs) {ls : Array Slot} (hl : lv_has ls 8 [(6, .long x6)]) : W p l e R s m args below meth c H locs 0 0 (MQ below (uQl G r uf) args s 0 0 (uA G)) (F0 m 18 ls [.long s0, va_rf s1]) := by
  obtain ⟨⟨hx, hb, hml, hown, hts⟩, hKK⟩ := id hC
  unfold f_X1_part_18 at h
  refine lv_lload hx hb dX1_part_18 (lv_at hl 0 rfl) ?_
  obtain ⟨c1, h⟩ := mif_n h
  refine lv_ldiv hx hb dX1_part_20 c1 ?_
  obtain ⟨a2, ha2, hha2⟩ := mbind_n h
  subst ha2
  have h := hha2
  obtain ⟨c3, h⟩ := mif_n h
  obtain ⟨r6, u4, c5, h⟩ := ucall_n h
  have zu4 := zz_X1_told_2 N (ub G) (ug G) u a2 (s0 / x6) r6 u4 c5
  refine u_calll (va_runV (As := [.long (s0 / x6)]) (rest := []) hC.1 (met_X1_told_2 l N G u a2 (s0 / x6) r6 u4 c5) (cwV 1 hts (lw_V q1442 q1444 qs29 q98 q1445) rfl rfl rfl (by decide +kernel) ⟨Nat.le_trans (Nat.le_of_ble_eq_true rfl) hR.1, Nat.le_trans (Nat.le_of_ble_eq_true rfl) hR.2⟩) ⟨uPc_blind, u_rcv hC hP c3 rfl, fun U hU hW => u_pre hC hP hS hU hW⟩ rfl rfl hl.1 rfl (lv_room (Nat.le_of_ble_eq_true rfl)) dX1_part_21 ⟨Nat.zero_le _, Nat.zero_le _⟩) hS (fun H locs hP hS => ?_)
  obtain ⟨hr1, hr2⟩ := uret_n h
  subst hr1
  subst hr2
  exact u_lret hC hP hS dX1_part_24
def f_X1_part (N b : Nat) (g : uEnv) (u : UH) (a0 : Nat) (x1 : Int64) (x3 : Int64) (x5 : Int32) : Option (Int64 × UH) :=
    ucall (f_X1_common N b g u x1 x3) fun r3 u1 =>
    if x5 = 0 then
    f_X1_part_18 N b g a0 u1 r3 x1 (some a0)
    else
    f_X1_part_18 N b g a0 u1 r3 x3 (some a0)
set_option maxHeartbeats 4000000 in
set_option maxRecDepth 100000 in
theorem zz_X1_part_0 {G : uG} {a0 : Nat} {uf : UH} {r : Int64} (N : Nat) (u : UH) (x1 : Int64) (x3 : Int64) (x5 : Int32) (h : f_X1_part N (ub G) (ug G) u a0 x1 x3 x5 = some (r, uf)) : uf.1 = u.1 ∧ uf.2.1 = u.2.1 := by
  unfold f_X1_part at h
  obtain ⟨r3, u1, c2, h⟩ := ucall_n h
  have zu1 := zz_X1_common N (ub G) (ug G) u x1 x3 r3 u1 c2
  by_cases c4 : x5 = 0
  · have h := mif_t c4 h
    have hq := zz_X1_part_18 (G := G) (a0 := a0) N u1 r3 x1 (some a0) h
    exact ⟨by omega, by omega⟩
  · have h := mif_f c4 h
    have hq := zz_X1_part_18 (G := G) (a0 := a0) N u1 r3 x3 (some a0) h
    exact ⟨by omega, by omega⟩
set_option maxHeartbeats 4000000 in
set_option maxRecDepth 100000 in
theorem w_X1_part_0 {p : Program} {l : Launch} {e : Env} {R : Room} {s : State} {m : MethodId} {args : Array Value} {below : List Frame} {meth : Method} {c : Code} {G : uG} {a0 : Nat} {uf : UH} {r : Int64} (hC : uC p s m args meth c G RX1 cX1_part 8 (some .long)) (hR : 101 ≤ R.frames ∧ 6023 ≤ R.locals) (N : Nat) (u : UH) (x1 : Int64) (x3 : Int64) (x5 : Int32) (h : f_X1_part N (ub G) (ug G) u a0 x1 x3 x5 = some (r, uf)) {H : Heap} {locs : List Loc} (hP : uP G u H) (hS : va_S (uA G) s.heap H locs) {ls : Array Slot} (hl : lv_has ls 8 [(0, va_rf (some a0)), (1, .long x1), (3, .long x3), (5, .int x5)]) : W p l e R s m args below meth c H locs 0 0 (MQ below (uQl G r uf) args s 0 0 (uA G)) (F0 m 0 ls []) := by
  obtain ⟨⟨hx, hb, hml, hown, hts⟩, hKK⟩ := id hC
  unfold f_X1_part at h
  refine lv_lload_n hx hb dX1_part_0 rfl (lv_at hl 1 rfl) ?_
  refine lv_lload_n hx hb dX1_part_1 rfl (lv_at hl 2 rfl) ?_
  obtain ⟨r3, u1, c2, h⟩ := ucall_n h
  have zu1 := zz_X1_common N (ub G) (ug G) u x1 x3 r3 u1 c2
  refine u_calll (va_runS (As := [.long x1, .long x3]) (rest := []) hC.1 (met_X1_common l N G u x1 x3 r3 u1 c2) (va_cwS 2 hts (lw_S q1439 q1440 q98 q1441) rfl rfl rfl (by decide +kernel) ⟨Nat.le_trans (Nat.le_of_ble_eq_true rfl) hR.1, Nat.le_trans (Nat.le_of_ble_eq_true rfl) hR.2⟩) ⟨uPc_blind, fun U hU hW => u_pre hC hP hS hU hW⟩ rfl rfl hl.1 rfl (lv_room (Nat.le_of_ble_eq_true rfl)) dX1_part_2 ⟨Nat.zero_le _, Nat.zero_le _⟩) hS (fun H locs hP hS => ?_)
  refine lv_lstore (lv' := [(6, .long r3), (0, va_rf (some a0)), (1, .long x1), (3, .long x3), (5, .int x5)]) hx hb dX1_part_5 hl (by decide) rfl (fun ls hl => ?_)
  refine u_aload_n (r := some a0) hx hb dX1_part_7 rfl (lv_at hl 1 rfl) ?_
  refine lv_iload hx hb dX1_part_8 (lv_at hl 4 rfl) ?_
  refine lv_if_eq (tgt := 17) hx hb dX1_part_10 (by decide) (fun c4 => ?_) (fun c4 => ?_)
  · have h := mif_t c4 h
    refine lv_lload_n hx hb dX1_part_17 rfl (lv_at hl 2 rfl) ?_
    exact w_X1_part_18 hC hR N u1 r3 x1 (some a0) h hP hS (lv_sub hl [0] rfl)
  · have h := mif_f c4 h
    refine lv_lload_n hx hb dX1_part_13 rfl (lv_at hl 3 rfl) ?_
    refine lv_goto (tgt := 18) hx hb dX1_part_14 (by decide) ?_
    exact w_X1_part_18 hC hR N u1 r3 x3 (some a0) h hP hS (lv_sub hl [0] rfl)
theorem zz_X1_part (N b : Nat) (g : uEnv) (u : UH) (a0 : Nat) (x1 : Int64) (x3 : Int64) (x5 : Int32) (r : Int64) (uf : UH) (h : f_X1_part N b g u a0 x1 x3 x5 = some (r, uf)) : uf.1 = u.1 ∧ uf.2.1 = u.2.1 :=
  zz_X1_part_0 (G := ((fun _ => 0, fun _ _ => 0), fun _ => 0, b, g)) (a0 := a0) N u x1 x3 x5 h
theorem met_X1_part (l : Launch) (N : Nat) (G : uG) (u : UH) (a0 : Nat) (x1 : Int64) (x3 : Int64) (x5 : Int32) (r : Int64) (uf : UH) (h : f_X1_part N (ub G) (ug G) u a0 x1 x3 x5 = some (r, uf)) : Met l yX1_part (ws_ yX1_part cX1_part 8 (some .long)) ({ frames := 101, cells := 0, slots := 0, locals := 6023 }) (uPc G u [.ref a0, .long x1, .long x3, .int x5]) (uQl G r uf) 0 0 (uA G) := by
  exact u_met (own := RX1) (by decide +kernel) rfl (Nat.le_of_ble_eq_true rfl) (fun hC hn hsz ls hl hP => w_X1_part_0 hC ⟨Nat.le_refl _, Nat.le_refl _⟩ N u x1 x3 x5 h hP va_S.rf hl)
def f_X2_best_137 (N b : Nat) (g : uEnv) (a0 : Nat) (k31 : UH → Int32 → Int32 → Int64 → Option Nat → Int64 → Option Nat → Int32 → Int32 → Option (Option Nat × UH)) (u : UH) (x1 : Int32) (x2 : Int32) (x3 : Int64) (x5 : Option Nat) (x6 : Int64) (x8 : Option Nat) (x9 : Int32) (x10 : Int32) : Option (Option Nat × UH) :=
    mlet (x10 + 1) fun y1 =>
    k31 u x1 x2 x3 x5 x6 x8 x9 y1
set_option maxHeartbeats 4000000 in
set_option maxRecDepth 100000 in
theorem zz_X2_best_137 {G : uG} {a0 : Nat} {uf : UH} {r : Option Nat} (N : Nat) (k31 : UH → Int32 → Int32 → Int64 → Option Nat → Int64 → Option Nat → Int32 → Int32 → Option (Option Nat × UH)) (hk31 : ∀ (u : UH) (x1 : Int32) (x2 : Int32) (x3 : Int64) (x5 : Option Nat) (x6 : Int64) (x8 : Option Nat) (x9 : Int32) (x10 : Int32), k31 u x1 x2 x3 x5 x6 x8 x9 x10 = some (r, uf) → uf.1 = u.1 ∧ uf.2.1 = u.2.1) (u : UH) (x1 : Int32) (x2 : Int32) (x3 : Int64) (x5 : Option Nat) (x6 : Int64) (x8 : Option Nat) (x9 : Int32) (x10 : Int32) (h : f_X2_best_137 N (ub G) (ug G) a0 k31 u x1 x2 x3 x5 x6 x8 x9 x10 = some (r, uf)) : uf.1 = u.1 ∧ uf.2.1 = u.2.1 := by
  unfold f_X2_best_137 at h
  obtain ⟨y1, ey1⟩ : ∃ z : Int32, z = x10 + 1 := ⟨_, rfl⟩
  have h := mlet_at ey1 h
  have hq := hk31 u x1 x2 x3 x5 x6 x8 x9 y1 h
  exact ⟨by omega, by omega⟩
set_option maxHeartbeats 4000000 in
set_option maxRecDepth 100000 in
theorem w_X2_best_137 {p : Program} {l : Launch} {e : Env} {R : Room} {s : State} {m : MethodId} {args : Array Value} {below : List Frame} {meth : Method} {c : Code} {G : uG} {a0 : Nat} {uf : UH} {r : Option Nat} (hC : uC p s m args meth c G RX2 cX2_best 15 (some (.object "SoftWheels$Way"))) (hR : 45 ≤ R.frames ∧ 2511 ≤ R.locals) (N : Nat) (k31 : UH → Int32 → Int32 → Int64 → Option Nat → Int64 → Option Nat → Int32 → Int32 → Option (Option Nat × UH)) (hk31 : ∀ (u : UH) (x1 : Int32) (x2 : Int32) (x3 : Int64) (x5 : Option Nat) (x6 : Int64) (x8 : Option Nat) (x9 : Int32) (x10 : Int32), k31 u x1 x2 x3 x5 x6 x8 x9 x10 = some (r, uf) → ∀ (H : Heap) (locs : List Loc), uP G u H → va_S (uA G) s.heap H locs → ∀ ls : Array Slot, lv_has ls 15 [(0, va_rf (some a0)), (1, .int x1), (2, .int x2), (3, .long x3), (5, va_rf x5), (6, .long x6), (8, va_rf x8), (9, .int x9), (10, .int x10)] → W p l e R s m args below meth c H locs 0 0 (MQ below (uQr G r uf) args s 0 0 (uA G)) (F0 m 31 ls [])) (u : UH) (x1 : Int32) (x2 : Int32) (x3 : Int64) (x5 : Option Nat) (x6 : Int64) (x8 : Option Nat) (x9 : Int32) (x10 : Int32) (h : f_X2_best_137 N (ub G) (ug G) a0 k31 u x1 x2 x3 x5 x6 x8 x9 x10 = some (r, uf)) {H : Heap} {locs : List Loc} (hP : uP G u H) (hS : va_S (uA G) s.heap H locs) {ls : Array Slot} (hl : lv_has ls 15 [(0, va_rf (some a0)), (1, .int x1), (2, .int x2), (3, .long x3), (5, va_rf x5), (6, .long x6), (8, va_rf x8), (9, .int x9), (10, .int x10)]) : W p l e R s m args below meth c H locs 0 0 (MQ below (uQr G r uf) args s 0 0 (uA G)) (F0 m 137 ls []) := by
  obtain ⟨⟨hx, hb, hml, hown, hts⟩, hKK⟩ := id hC
  unfold f_X2_best_137 at h
  obtain ⟨y1, ey1⟩ : ∃ z : Int32, z = x10 + 1 := ⟨_, rfl⟩
  have h := mlet_at ey1 h
  refine lv_iinc (v := y1) (lv' := [(10, .int y1), (0, va_rf (some a0)), (1, .int x1), (2, .int x2), (3, .long x3), (5, va_rf x5), (6, .long x6), (8, va_rf x8), (9, .int x9)]) hx hb dX2_best_137 hl (k := 8) rfl (by rw [ey1]; rfl) (by decide) rfl (fun ls hl => ?_)
  refine lv_goto (tgt := 31) hx hb dX2_best_140 (by decide) ?_
  exact hk31 u x1 x2 x3 x5 x6 x8 x9 y1 h _ _ hP hS _ (lv_sub hl [1, 2, 3, 4, 5, 6, 7, 8, 0] rfl)
def f_X2_best_31 (N b : Nat) (g : uEnv) (a0 : Nat) : Nat → UH → Int32 → Int32 → Int64 → Option Nat → Int64 → Option Nat → Int32 → Int32 → Option (Option Nat × UH)
  | 0, _, _, _, _, _, _, _, _, _ => none
  | n + 1, u, x1, x2, x3, x5, x6, x8, x9, x10 =>
    if x9 ≤ x10 then
    some (x5, u)
    else
    (x8).bind fun a2 =>
    (uLdR u a2 5 x10).bind fun o3 =>
    if uIs u a0 1 = true then
    ucall (f_X2_cost N b g u a0 x1 o3 x2) fun r7 u5 =>
    if r7 = (-1) then
    f_X2_best_137 N b g a0 (f_X2_best_31 N b g a0 n) u5 x1 x2 x3 x5 x6 (some a2) x9 x10
    else
    (uGR u5 a0 1 0).bind fun o9 =>
    (o9).bind fun a10 =>
    if uIs u5 a10 12 = true then
    ucall (f_X14_beside N b g u5 a10 x1 o3) fun r14 u12 =>
    if uIs u12 a0 1 = true then
    ucall (f_X2_of N b g u12 a0 r14 x2) fun r18 u16 =>
    if (lg_cmp r18 9223372036854775807) = 0 then
    f_X2_best_137 N b g a0 (f_X2_best_31 N b g a0 n) u16 x1 x2 x3 x5 x6 (some a2) x9 x10
    else
    (uGR u16 a0 1 3).bind fun o20 =>
    (o20).bind fun a21 =>
    ucall (if uIs u16 a21 14 = true then f_X16_parts N b g u16 a21 (r7.toInt64) x3 else if uIs u16 a21 15 = true then f_X17_parts N b g u16 a21 (r7.toInt64) x3 else none) fun r24 u22 =>
    if (lg_cmp (r24 + r18) x6) < 0 then
    (uGR u22 a0 1 3).bind fun o26 =>
    (o26).bind fun a27 =>
    ucall (if uIs u22 a27 14 = true then f_X16_parts N b g u22 a27 (r7.toInt64) x3 else if uIs u22 a27 15 = true then f_X17_parts N b g u22 a27 (r7.toInt64) x3 else none) fun r30 u28 =>
    mlet (r30 + r18) fun y31 =>
    f_X2_best_137 N b g a0 (f_X2_best_31 N b g a0 n) u28 x1 x2 x3 o3 y31 (some a2) x9 x10
    else
    f_X2_best_137 N b g a0 (f_X2_best_31 N b g a0 n) u22 x1 x2 x3 x5 x6 (some a2) x9 x10
    else none
    else none
    else none
set_option maxHeartbeats 4000000 in
set_option maxRecDepth 100000 in
theorem zz_X2_best_31 {G : uG} {a0 : Nat} {uf : UH} {r : Option Nat} (N : Nat) : ∀ (n : Nat) (u : UH) (x1 : Int32) (x2 : Int32) (x3 : Int64) (x5 : Option Nat) (x6 : Int64) (x8 : Option Nat) (x9 : Int32) (x10 : Int32), f_X2_best_31 N (ub G) (ug G) a0 n u x1 x2 x3 x5 x6 x8 x9 x10 = some (r, uf) → uf.1 = u.1 ∧ uf.2.1 = u.2.1 := by
  intro n
  induction n with
  | zero =>
    intro u x1 x2 x3 x5 x6 x8 x9 x10 h
    cases h
  | succ n ih =>
    intro u x1 x2 x3 x5 x6 x8 x9 x10 h
    unfold f_X2_best_31 at h
    by_cases c1 : x9 ≤ x10
    · have h := mif_t c1 h
      obtain ⟨hr1, hr2⟩ := uret_n h
      subst hr2
      exact ⟨by omega, by omega⟩
    · have h := mif_f c1 h
      obtain ⟨a2, ha2, hha2⟩ := mbind_n h
      subst ha2
      have h := hha2
      obtain ⟨o3, ho3, h⟩ := mbind_n h
      obtain ⟨c4, h⟩ := mif_n h
      obtain ⟨r7, u5, c6, h⟩ := ucall_n h
      have zu5 := zz_X2_cost N (ub G) (ug G) u a0 x1 o3 x2 r7 u5 c6
      by_cases c8 : r7 = (-1)
      · have h := mif_t c8 h
        have hq := zz_X2_best_137 (G := G) (a0 := a0) N (f_X2_best_31 N (ub G) (ug G) a0 n) ih u5 x1 x2 x3 x5 x6 (some a2) x9 x10 h
        exact ⟨by omega, by omega⟩
      · have h := mif_f c8 h
        obtain ⟨o9, ho9, h⟩ := mbind_n h
        obtain ⟨a10, ha10, hha10⟩ := mbind_n h
        subst ha10
        have h := hha10
        obtain ⟨c11, h⟩ := mif_n h
        obtain ⟨r14, u12, c13, h⟩ := ucall_n h
        have zu12 := zz_X14_beside N (ub G) (ug G) u5 a10 x1 o3 r14 u12 c13
        obtain ⟨c15, h⟩ := mif_n h
        obtain ⟨r18, u16, c17, h⟩ := ucall_n h
        have zu16 := zz_X2_of N (ub G) (ug G) u12 a0 r14 x2 r18 u16 c17
        by_cases c19 : (lg_cmp r18 9223372036854775807) = 0
        · have h := mif_t c19 h
          have hq := zz_X2_best_137 (G := G) (a0 := a0) N (f_X2_best_31 N (ub G) (ug G) a0 n) ih u16 x1 x2 x3 x5 x6 (some a2) x9 x10 h
          exact ⟨by omega, by omega⟩
        · have h := mif_f c19 h
          obtain ⟨o20, ho20, h⟩ := mbind_n h
          obtain ⟨a21, ha21, hha21⟩ := mbind_n h
          subst ha21
          have h := hha21
          obtain ⟨r24, u22, c23, h⟩ := ucall_n h
          have zu22 := ((Classical.em (uIs u16 a21 14 = true)).elim (fun k1 => zz_X16_parts N (ub G) (ug G) u16 a21 (r7.toInt64) x3 r24 u22 (mif_t k1 c23)) (fun k1 => zz_X17_parts N (ub G) (ug G) u16 a21 (r7.toInt64) x3 r24 u22 (mif_n (mif_f k1 c23)).2))
          by_cases c25 : (lg_cmp (r24 + r18) x6) < 0
          · have h := mif_t c25 h
            obtain ⟨o26, ho26, h⟩ := mbind_n h
            obtain ⟨a27, ha27, hha27⟩ := mbind_n h
            subst ha27
            have h := hha27
            obtain ⟨r30, u28, c29, h⟩ := ucall_n h
            have zu28 := ((Classical.em (uIs u22 a27 14 = true)).elim (fun k1 => zz_X16_parts N (ub G) (ug G) u22 a27 (r7.toInt64) x3 r30 u28 (mif_t k1 c29)) (fun k1 => zz_X17_parts N (ub G) (ug G) u22 a27 (r7.toInt64) x3 r30 u28 (mif_n (mif_f k1 c29)).2))
            obtain ⟨y31, ey31⟩ : ∃ z, z = r30 + r18 := ⟨_, rfl⟩
            have h := mlet_at ey31 h
            have hq := zz_X2_best_137 (G := G) (a0 := a0) N (f_X2_best_31 N (ub G) (ug G) a0 n) ih u28 x1 x2 x3 o3 y31 (some a2) x9 x10 h
            exact ⟨by omega, by omega⟩
          · have h := mif_f c25 h
            have hq := zz_X2_best_137 (G := G) (a0 := a0) N (f_X2_best_31 N (ub G) (ug G) a0 n) ih u22 x1 x2 x3 x5 x6 (some a2) x9 x10 h
            exact ⟨by omega, by omega⟩
set_option maxHeartbeats 4000000 in
set_option maxRecDepth 100000 in
theorem w_X2_best_31 {p : Program} {l : Launch} {e : Env} {R : Room} {s : State} {m : MethodId} {args : Array Value} {below : List Frame} {meth : Method} {c : Code} {G : uG} {a0 : Nat} {uf : UH} {r : Option Nat} (hC : uC p s m args meth c G RX2 cX2_best 15 (some (.object "SoftWheels$Way"))) (hR : 45 ≤ R.frames ∧ 2511 ≤ R.locals) (N : Nat) : ∀ (n : Nat) (u : UH) (x1 : Int32) (x2 : Int32) (x3 : Int64) (x5 : Option Nat) (x6 : Int64) (x8 : Option Nat) (x9 : Int32) (x10 : Int32), f_X2_best_31 N (ub G) (ug G) a0 n u x1 x2 x3 x5 x6 x8 x9 x10 = some (r, uf) → ∀ (H : Heap) (locs : List Loc), uP G u H → va_S (uA G) s.heap H locs → ∀ ls : Array Slot, lv_has ls 15 [(0, va_rf (some a0)), (1, .int x1), (2, .int x2), (3, .long x3), (5, va_rf x5), (6, .long x6), (8, va_rf x8), (9, .int x9), (10, .int x10)] → W p l e R s m args below meth c H locs 0 0 (MQ below (uQr G r uf) args s 0 0 (uA G)) (F0 m 31 ls []) := by
  obtain ⟨⟨hx, hb, hml, hown, hts⟩, hKK⟩ := id hC
  intro n
  induction n with
  | zero =>
    intro u x1 x2 x3 x5 x6 x8 x9 x10 h
    cases h
  | succ n ih =>
    intro u x1 x2 x3 x5 x6 x8 x9 x10 h H locs hP hS ls hl
    unfold f_X2_best_31 at h
    refine lv_iload hx hb dX2_best_31 (lv_at hl 8 rfl) ?_
    refine lv_iload hx hb dX2_best_33 (lv_at hl 7 rfl) ?_
    refine lv_icmp_ge (tgt := 143) hx hb dX2_best_35 (by decide) (fun c1 => ?_) (fun c1 => ?_)
    · have h := mif_t c1 h
      refine u_aload (r := x5) hx hb dX2_best_143 (lv_at hl 4 rfl) ?_
      obtain ⟨hr1, hr2⟩ := uret_n h
      subst hr1
      subst hr2
      exact u_aret hC (Or.inl ⟨_, rfl⟩) hP hS dX2_best_145
    · have h := mif_f c1 h
      refine u_aload (r := x8) hx hb dX2_best_38 (lv_at hl 6 rfl) ?_
      refine lv_iload hx hb dX2_best_40 (lv_at hl 8 rfl) ?_
      obtain ⟨a2, ha2, hha2⟩ := mbind_n h
      subst ha2
      have h := hha2
      obtain ⟨o3, ho3, h⟩ := mbind_n h
      refine u_aald hC hP ho3 rfl dX2_best_42 ?_
      refine u_astore (r := o3) (lv' := [(11, va_rf o3), (0, va_rf (some a0)), (1, .int x1), (2, .int x2), (3, .long x3), (5, va_rf x5), (6, .long x6), (8, va_rf (some a2)), (9, .int x9), (10, .int x10)]) hx hb dX2_best_43 hl (by decide) rfl (fun ls hl => ?_)
      refine u_aload_n (r := some a0) hx hb dX2_best_45 rfl (lv_at hl 1 rfl) ?_
      refine lv_iload_n hx hb dX2_best_46 rfl (lv_at hl 2 rfl) ?_
      refine u_aload (r := o3) hx hb dX2_best_47 (lv_at hl 0 rfl) ?_
      refine lv_iload_n hx hb dX2_best_49 rfl (lv_at hl 3 rfl) ?_
      obtain ⟨c4, h⟩ := mif_n h
      obtain ⟨r7, u5, c6, h⟩ := ucall_n h
      have zu5 := zz_X2_cost N (ub G) (ug G) u a0 x1 o3 x2 r7 u5 c6
      refine u_calli (va_runV (As := [.int x1, va_rf o3, .int x2]) (rest := []) hC.1 (met_X2_cost l N G u a0 x1 o3 x2 r7 u5 c6) (cwV 3 hts (lw_V q1399 q1401 qs25 q99 q1402) rfl rfl rfl (by decide +kernel) ⟨Nat.le_trans (Nat.le_of_ble_eq_true rfl) hR.1, Nat.le_trans (Nat.le_of_ble_eq_true rfl) hR.2⟩) ⟨uPc_blind, u_rcv hC hP c4 rfl, fun U hU hW => u_pre hC hP hS hU hW⟩ rfl rfl hl.1 rfl (lv_room (Nat.le_of_ble_eq_true rfl)) dX2_best_50 ⟨Nat.zero_le _, Nat.zero_le _⟩) hS (fun H locs hP hS => ?_)
      refine lv_istore (lv' := [(12, .int r7), (11, va_rf o3), (0, va_rf (some a0)), (1, .int x1), (2, .int x2), (3, .long x3), (5, va_rf x5), (6, .long x6), (8, va_rf (some a2)), (9, .int x9), (10, .int x10)]) hx hb dX2_best_53 hl (by decide) (by simp [List.filter_cons, u_cat]) (fun ls hl => ?_)
      refine lv_iload hx hb dX2_best_55 (lv_at hl 0 rfl) ?_
      refine lv_iconst (v := (-1)) hx hb dX2_best_57 (by decide) ?_
      refine lv_icmp_ne (tgt := 64) hx hb dX2_best_58 (by decide) (fun c8 => ?_) (fun c8 => ?_)
      · have h := mif_f c8 h
        refine u_aload_n (r := some a0) hx hb dX2_best_64 rfl (lv_at hl 2 rfl) ?_
        refine u_aload_n (r := some a0) hx hb dX2_best_65 rfl (lv_at hl 2 rfl) ?_
        obtain ⟨o9, ho9, h⟩ := mbind_n h
        refine u_get hC hP (uGR_n ho9) rfl in_X2 (by decide) q157 (fun _ h => h) dX2_best_66 ?_
        refine lv_iload_n hx hb dX2_best_69 rfl (lv_at hl 3 rfl) ?_
        refine u_aload (r := o3) hx hb dX2_best_70 (lv_at hl 1 rfl) ?_
        obtain ⟨a10, ha10, hha10⟩ := mbind_n h
        subst ha10
        have h := hha10
        obtain ⟨c11, h⟩ := mif_n h
        obtain ⟨r14, u12, c13, h⟩ := ucall_n h
        have zu12 := zz_X14_beside N (ub G) (ug G) u5 a10 x1 o3 r14 u12 c13
        refine u_calli (va_runV (As := [.int x1, va_rf o3]) (rest := [va_rf (some a0)]) hC.1 (met_X14_beside l N G u5 a10 x1 o3 r14 u12 c13) (cwV 2 hts (lw_V q1398 q1265 q1266 q131 q1267) rfl rfl rfl (by decide +kernel) ⟨Nat.le_trans (Nat.le_of_ble_eq_true rfl) hR.1, Nat.le_trans (Nat.le_of_ble_eq_true rfl) hR.2⟩) ⟨uPc_blind, u_rcv hC hP c11 rfl, fun U hU hW => u_pre hC hP hS hU hW⟩ rfl rfl hl.1 rfl (lv_room (Nat.le_of_ble_eq_true rfl)) dX2_best_72 ⟨Nat.zero_le _, Nat.zero_le _⟩) hS (fun H locs hP hS => ?_)
        refine lv_iload_n hx hb dX2_best_75 rfl (lv_at hl 4 rfl) ?_
        obtain ⟨c15, h⟩ := mif_n h
        obtain ⟨r18, u16, c17, h⟩ := ucall_n h
        have zu16 := zz_X2_of N (ub G) (ug G) u12 a0 r14 x2 r18 u16 c17
        refine u_calll (va_runV (As := [.int r14, .int x2]) (rest := []) hC.1 (met_X2_of l N G u12 a0 r14 x2 r18 u16 c17) (cwV 2 hts (lw_V q1363 q1345 q1346 q99 q1347) rfl rfl rfl (by decide +kernel) ⟨Nat.le_trans (Nat.le_of_ble_eq_true rfl) hR.1, Nat.le_trans (Nat.le_of_ble_eq_true rfl) hR.2⟩) ⟨uPc_blind, u_rcv hC hP c15 rfl, fun U hU hW => u_pre hC hP hS hU hW⟩ rfl rfl hl.1 rfl (lv_room (Nat.le_of_ble_eq_true rfl)) dX2_best_76 ⟨Nat.zero_le _, Nat.zero_le _⟩) hS (fun H locs hP hS => ?_)
        refine lv_lstore (lv' := [(13, .long r18), (12, .int r7), (11, va_rf o3), (0, va_rf (some a0)), (1, .int x1), (2, .int x2), (3, .long x3), (5, va_rf x5), (6, .long x6), (8, va_rf (some a2)), (9, .int x9), (10, .int x10)]) hx hb dX2_best_79 hl (by decide) rfl (fun ls hl => ?_)
        refine lv_lload hx hb dX2_best_81 (lv_at hl 0 rfl) ?_
        refine lv_ldc2 hx hb hown (hts _ q1389) dX2_best_83 ?_
        refine W.lcmp hx hb dX2_best_86 ?_
        refine lv_if_eq (tgt := 137) hx hb dX2_best_87 (by decide) (fun c19 => ?_) (fun c19 => ?_)
        · have h := mif_t c19 h
          exact w_X2_best_137 hC hR N (f_X2_best_31 N (ub G) (ug G) a0 n) ih u16 x1 x2 x3 x5 x6 (some a2) x9 x10 h hP hS (lv_sub hl [3, 4, 5, 6, 7, 8, 9, 10, 11] rfl)
        · have h := mif_f c19 h
          refine u_aload_n (r := some a0) hx hb dX2_best_90 rfl (lv_at hl 3 rfl) ?_
          obtain ⟨o20, ho20, h⟩ := mbind_n h
          refine u_get hC hP (uGR_n ho20) rfl in_X2 (by decide) q160 (fun _ h => h) dX2_best_91 ?_
          refine lv_iload hx hb dX2_best_94 (lv_at hl 1 rfl) ?_
          refine lv_i2l (v := r7.toInt64) hx hb dX2_best_96 rfl ?_
          refine lv_lload_n hx hb dX2_best_97 rfl (lv_at hl 6 rfl) ?_
          obtain ⟨a21, ha21, hha21⟩ := mbind_n h
          subst ha21
          have h := hha21
          obtain ⟨r24, u22, c23, h⟩ := ucall_n h
          have zu22 := ((Classical.em (uIs u16 a21 14 = true)).elim (fun k1 => zz_X16_parts N (ub G) (ug G) u16 a21 (r7.toInt64) x3 r24 u22 (mif_t k1 c23)) (fun k1 => zz_X17_parts N (ub G) (ug G) u16 a21 (r7.toInt64) x3 r24 u22 (mif_n (mif_f k1 c23)).2))
          refine u_callFl (((Classical.em (uIs u16 a21 14 = true)).elim (fun k1 => va_runF (As := [.long (r7.toInt64), .long x3]) (rest := []) (C := RX16) (hC.2.1.1.1 14 _ rfl).2 hC.1 (met_X16_parts l N G u16 a21 (r7.toInt64) x3 r24 u22 (mif_t k1 c23)) (va_cwF 2 hts (lw_F q1408 q1411 q1413 q133 q1415) rfl rfl rfl (hC.2.1.2.2.1 _ (List.mem_of_getElem? (i := 7) rfl)) (by decide +kernel) ⟨Nat.le_trans (Nat.le_of_ble_eq_true rfl) hR.1, Nat.le_trans (Nat.le_of_ble_eq_true rfl) hR.2⟩) ⟨uPc_blind, u_rcv hC hP k1 rfl, fun U hU hW => u_pre hC hP hS hU hW⟩ rfl rfl hl.1 rfl (lv_room (Nat.le_of_ble_eq_true rfl)) dX2_best_98 ⟨Nat.zero_le _, Nat.zero_le _⟩) (fun k1 => va_runF (As := [.long (r7.toInt64), .long x3]) (rest := []) (C := RX17) (hC.2.1.1.1 15 _ rfl).2 hC.1 (met_X17_parts l N G u16 a21 (r7.toInt64) x3 r24 u22 (mif_n (mif_f k1 c23)).2) (va_cwF 2 hts (lw_F q1408 q1416 q1418 q134 q1420) rfl rfl rfl (hC.2.1.2.2.1 _ (List.mem_of_getElem? (i := 8) rfl)) (by decide +kernel) ⟨Nat.le_trans (Nat.le_of_ble_eq_true rfl) hR.1, Nat.le_trans (Nat.le_of_ble_eq_true rfl) hR.2⟩) ⟨uPc_blind, u_rcv hC hP (mif_n (mif_f k1 c23)).1 rfl, fun U hU hW => u_pre hC hP hS hU hW⟩ rfl rfl hl.1 rfl (lv_room (Nat.le_of_ble_eq_true rfl)) dX2_best_98 ⟨Nat.zero_le _, Nat.zero_le _⟩))) hS (fun H locs hP hS => ?_)
          refine lv_lload hx hb dX2_best_103 (lv_at hl 0 rfl) ?_
          refine lv_ladd hx hb dX2_best_105 ?_
          refine lv_lload hx hb dX2_best_106 (lv_at hl 8 rfl) ?_
          refine W.lcmp hx hb dX2_best_108 ?_
          refine lv_if_lt (tgt := 115) hx hb dX2_best_109 (by decide) (fun c25 => ?_) (fun c25 => ?_)
          · have h := mif_t c25 h
            refine u_aload_n (r := some a0) hx hb dX2_best_115 rfl (lv_at hl 3 rfl) ?_
            obtain ⟨o26, ho26, h⟩ := mbind_n h
            refine u_get hC hP (uGR_n ho26) rfl in_X2 (by decide) q160 (fun _ h => h) dX2_best_116 ?_
            refine lv_iload hx hb dX2_best_119 (lv_at hl 1 rfl) ?_
            refine lv_i2l (v := r7.toInt64) hx hb dX2_best_121 rfl ?_
            refine lv_lload_n hx hb dX2_best_122 rfl (lv_at hl 6 rfl) ?_
            obtain ⟨a27, ha27, hha27⟩ := mbind_n h
            subst ha27
            have h := hha27
            obtain ⟨r30, u28, c29, h⟩ := ucall_n h
            have zu28 := ((Classical.em (uIs u22 a27 14 = true)).elim (fun k1 => zz_X16_parts N (ub G) (ug G) u22 a27 (r7.toInt64) x3 r30 u28 (mif_t k1 c29)) (fun k1 => zz_X17_parts N (ub G) (ug G) u22 a27 (r7.toInt64) x3 r30 u28 (mif_n (mif_f k1 c29)).2))
            refine u_callFl (((Classical.em (uIs u22 a27 14 = true)).elim (fun k1 => va_runF (As := [.long (r7.toInt64), .long x3]) (rest := []) (C := RX16) (hC.2.1.1.1 14 _ rfl).2 hC.1 (met_X16_parts l N G u22 a27 (r7.toInt64) x3 r30 u28 (mif_t k1 c29)) (va_cwF 2 hts (lw_F q1408 q1411 q1413 q133 q1415) rfl rfl rfl (hC.2.1.2.2.1 _ (List.mem_of_getElem? (i := 7) rfl)) (by decide +kernel) ⟨Nat.le_trans (Nat.le_of_ble_eq_true rfl) hR.1, Nat.le_trans (Nat.le_of_ble_eq_true rfl) hR.2⟩) ⟨uPc_blind, u_rcv hC hP k1 rfl, fun U hU hW => u_pre hC hP hS hU hW⟩ rfl rfl hl.1 rfl (lv_room (Nat.le_of_ble_eq_true rfl)) dX2_best_123 ⟨Nat.zero_le _, Nat.zero_le _⟩) (fun k1 => va_runF (As := [.long (r7.toInt64), .long x3]) (rest := []) (C := RX17) (hC.2.1.1.1 15 _ rfl).2 hC.1 (met_X17_parts l N G u22 a27 (r7.toInt64) x3 r30 u28 (mif_n (mif_f k1 c29)).2) (va_cwF 2 hts (lw_F q1408 q1416 q1418 q134 q1420) rfl rfl rfl (hC.2.1.2.2.1 _ (List.mem_of_getElem? (i := 8) rfl)) (by decide +kernel) ⟨Nat.le_trans (Nat.le_of_ble_eq_true rfl) hR.1, Nat.le_trans (Nat.le_of_ble_eq_true rfl) hR.2⟩) ⟨uPc_blind, u_rcv hC hP (mif_n (mif_f k1 c29)).1 rfl, fun U hU hW => u_pre hC hP hS hU hW⟩ rfl rfl hl.1 rfl (lv_room (Nat.le_of_ble_eq_true rfl)) dX2_best_123 ⟨Nat.zero_le _, Nat.zero_le _⟩))) hS (fun H locs hP hS => ?_)
            refine lv_lload hx hb dX2_best_128 (lv_at hl 0 rfl) ?_
            refine lv_ladd hx hb dX2_best_130 ?_
            refine lv_topl (fun y31 ey31 => ?_)
            have h := mlet_at ey31 h
            refine lv_lstore (lv' := [(6, .long y31), (13, .long r18), (12, .int r7), (11, va_rf o3), (0, va_rf (some a0)), (1, .int x1), (2, .int x2), (3, .long x3), (5, va_rf x5), (8, va_rf (some a2)), (9, .int x9), (10, .int x10)]) hx hb dX2_best_131 hl (by decide) (by simp [List.filter_cons, u_cat]) (fun ls hl => ?_)
            refine u_aload (r := o3) hx hb dX2_best_133 (lv_at hl 3 rfl) ?_
            refine u_astore (r := o3) (lv' := [(5, va_rf o3), (6, .long y31), (13, .long r18), (12, .int r7), (11, va_rf o3), (0, va_rf (some a0)), (1, .int x1), (2, .int x2), (3, .long x3), (8, va_rf (some a2)), (9, .int x9), (10, .int x10)]) hx hb dX2_best_135 hl (by decide) rfl (fun ls hl => ?_)
            exact w_X2_best_137 hC hR N (f_X2_best_31 N (ub G) (ug G) a0 n) ih u28 x1 x2 x3 o3 y31 (some a2) x9 x10 h hP hS (lv_sub hl [5, 6, 7, 8, 0, 1, 9, 10, 11] rfl)
          · have h := mif_f c25 h
            refine lv_goto (tgt := 137) hx hb dX2_best_112 (by decide) ?_
            exact w_X2_best_137 hC hR N (f_X2_best_31 N (ub G) (ug G) a0 n) ih u22 x1 x2 x3 x5 x6 (some a2) x9 x10 h hP hS (lv_sub hl [3, 4, 5, 6, 7, 8, 9, 10, 11] rfl)
      · have h := mif_t c8 h
        refine lv_goto (tgt := 137) hx hb dX2_best_61 (by decide) ?_
        exact w_X2_best_137 hC hR N (f_X2_best_31 N (ub G) (ug G) a0 n) ih u5 x1 x2 x3 x5 x6 (some a2) x9 x10 h hP hS (lv_sub hl [2, 3, 4, 5, 6, 7, 8, 9, 10] rfl)
def f_X2_best (N b : Nat) (g : uEnv) (u : UH) (a0 : Nat) (x1 : Int32) (x2 : Int32) : Option (Option Nat × UH) :=
    if uIs u a0 1 = true then
    ucall (f_X2_scale N b g u a0 x2) fun r4 u2 =>
    (uGR u2 a0 1 0).bind fun o5 =>
    (o5).bind fun a6 =>
    (uGR u2 a6 12 7).bind fun o7 =>
    (o7).bind fun a8 =>
    (uLen u2 a8 5).bind fun y9 =>
    f_X2_best_31 N b g a0 N u2 x1 x2 r4 none 9223372036854775807 (some a8) y9 0
    else none
set_option maxHeartbeats 4000000 in
set_option maxRecDepth 100000 in
theorem zz_X2_best_0 {G : uG} {a0 : Nat} {uf : UH} {r : Option Nat} (N : Nat) (u : UH) (x1 : Int32) (x2 : Int32) (h : f_X2_best N (ub G) (ug G) u a0 x1 x2 = some (r, uf)) : uf.1 = u.1 ∧ uf.2.1 = u.2.1 := by
  unfold f_X2_best at h
  obtain ⟨c1, h⟩ := mif_n h
  obtain ⟨r4, u2, c3, h⟩ := ucall_n h
  have zu2 := zz_X2_scale N (ub G) (ug G) u a0 x2 r4 u2 c3
  obtain ⟨o5, ho5, h⟩ := mbind_n h
  obtain ⟨a6, ha6, hha6⟩ := mbind_n h
  subst ha6
  have h := hha6
  obtain ⟨o7, ho7, h⟩ := mbind_n h
  obtain ⟨a8, ha8, hha8⟩ := mbind_n h
  subst ha8
  have h := hha8
  obtain ⟨y9, hy9, h⟩ := mbind_n h
  have hq := zz_X2_best_31 (G := G) (a0 := a0) N N u2 x1 x2 r4 none 9223372036854775807 (some a8) y9 0 h
  exact ⟨by omega, by omega⟩
set_option maxHeartbeats 4000000 in
set_option maxRecDepth 100000 in
theorem w_X2_best_0 {p : Program} {l : Launch} {e : Env} {R : Room} {s : State} {m : MethodId} {args : Array Value} {below : List Frame} {meth : Method} {c : Code} {G : uG} {a0 : Nat} {uf : UH} {r : Option Nat} (hC : uC p s m args meth c G RX2 cX2_best 15 (some (.object "SoftWheels$Way"))) (hR : 45 ≤ R.frames ∧ 2511 ≤ R.locals) (N : Nat) (u : UH) (x1 : Int32) (x2 : Int32) (h : f_X2_best N (ub G) (ug G) u a0 x1 x2 = some (r, uf)) {H : Heap} {locs : List Loc} (hP : uP G u H) (hS : va_S (uA G) s.heap H locs) {ls : Array Slot} (hl : lv_has ls 15 [(0, va_rf (some a0)), (1, .int x1), (2, .int x2)]) : W p l e R s m args below meth c H locs 0 0 (MQ below (uQr G r uf) args s 0 0 (uA G)) (F0 m 0 ls []) := by
  obtain ⟨⟨hx, hb, hml, hown, hts⟩, hKK⟩ := id hC
  unfold f_X2_best at h
  refine u_aload_n (r := some a0) hx hb dX2_best_0 rfl (lv_at hl 0 rfl) ?_
  refine lv_iload_n hx hb dX2_best_1 rfl (lv_at hl 2 rfl) ?_
  obtain ⟨c1, h⟩ := mif_n h
  obtain ⟨r4, u2, c3, h⟩ := ucall_n h
  have zu2 := zz_X2_scale N (ub G) (ug G) u a0 x2 r4 u2 c3
  refine u_calll (va_runV (As := [.int x2]) (rest := []) hC.1 (met_X2_scale l N G u a0 x2 r4 u2 c3) (cwV 1 hts (lw_V q1390 q1391 q1392 q99 q1393) rfl rfl rfl (by decide +kernel) ⟨Nat.le_trans (Nat.le_of_ble_eq_true rfl) hR.1, Nat.le_trans (Nat.le_of_ble_eq_true rfl) hR.2⟩) ⟨uPc_blind, u_rcv hC hP c1 rfl, fun U hU hW => u_pre hC hP hS hU hW⟩ rfl rfl hl.1 rfl (lv_room (Nat.le_of_ble_eq_true rfl)) dX2_best_2 ⟨Nat.zero_le _, Nat.zero_le _⟩) hS (fun H locs hP hS => ?_)
  refine lv_lstore_n (i := 3) (lv' := [(3, .long r4), (0, va_rf (some a0)), (1, .int x1), (2, .int x2)]) hx hb dX2_best_5 rfl hl (by decide) rfl (fun ls hl => ?_)
  refine lv_null hx hb dX2_best_6 ?_
  refine u_astore (r := none) (lv' := [(5, va_rf none), (3, .long r4), (0, va_rf (some a0)), (1, .int x1), (2, .int x2)]) hx hb dX2_best_7 hl (by decide) rfl (fun ls hl => ?_)
  refine lv_ldc2 hx hb hown (hts _ q1389) dX2_best_9 ?_
  refine lv_lstore (lv' := [(6, .long 9223372036854775807), (5, va_rf none), (3, .long r4), (0, va_rf (some a0)), (1, .int x1), (2, .int x2)]) hx hb dX2_best_12 hl (by decide) rfl (fun ls hl => ?_)
  refine u_aload_n (r := some a0) hx hb dX2_best_14 rfl (lv_at hl 3 rfl) ?_
  obtain ⟨o5, ho5, h⟩ := mbind_n h
  refine u_get hC hP (uGR_n ho5) rfl in_X2 (by decide) q157 (fun _ h => h) dX2_best_15 ?_
  obtain ⟨a6, ha6, hha6⟩ := mbind_n h
  subst ha6
  have h := hha6
  obtain ⟨o7, ho7, h⟩ := mbind_n h
  refine u_getN hC hP (uGR_n ho7) rfl in_X14 (by decide) q1153 (fun _ h => h) dX2_best_18 ?_
  refine u_astore (r := o7) (lv' := [(8, va_rf o7), (6, .long 9223372036854775807), (5, va_rf none), (3, .long r4), (0, va_rf (some a0)), (1, .int x1), (2, .int x2)]) hx hb dX2_best_21 hl (by decide) rfl (fun ls hl => ?_)
  refine u_aload (r := o7) hx hb dX2_best_23 (lv_at hl 0 rfl) ?_
  obtain ⟨a8, ha8, hha8⟩ := mbind_n h
  subst ha8
  have h := hha8
  obtain ⟨y9, hy9, h⟩ := mbind_n h
  refine u_alen hC hP hy9 dX2_best_25 ?_
  refine lv_istore (lv' := [(9, .int y9), (8, va_rf (some a8)), (6, .long 9223372036854775807), (5, va_rf none), (3, .long r4), (0, va_rf (some a0)), (1, .int x1), (2, .int x2)]) hx hb dX2_best_26 hl (by decide) rfl (fun ls hl => ?_)
  refine lv_iconst (v := 0) hx hb dX2_best_28 (by decide) ?_
  refine lv_istore (lv' := [(10, .int 0), (9, .int y9), (8, va_rf (some a8)), (6, .long 9223372036854775807), (5, va_rf none), (3, .long r4), (0, va_rf (some a0)), (1, .int x1), (2, .int x2)]) hx hb dX2_best_29 hl (by decide) rfl (fun ls hl => ?_)
  exact w_X2_best_31 hC hR N N u2 x1 x2 r4 none 9223372036854775807 (some a8) y9 0 h _ _ hP hS _ (lv_sub hl [6, 7, 8, 5, 4, 3, 2, 1, 0] rfl)
theorem zz_X2_best (N b : Nat) (g : uEnv) (u : UH) (a0 : Nat) (x1 : Int32) (x2 : Int32) (r : Option Nat) (uf : UH) (h : f_X2_best N b g u a0 x1 x2 = some (r, uf)) : uf.1 = u.1 ∧ uf.2.1 = u.2.1 :=
  zz_X2_best_0 (G := ((fun _ => 0, fun _ _ => 0), fun _ => 0, b, g)) (a0 := a0) N u x1 x2 h
theorem met_X2_best (l : Launch) (N : Nat) (G : uG) (u : UH) (a0 : Nat) (x1 : Int32) (x2 : Int32) (r : Option Nat) (uf : UH) (h : f_X2_best N (ub G) (ug G) u a0 x1 x2 = some (r, uf)) : Met l yX2_best (ws_ yX2_best cX2_best 15 (some (.object "SoftWheels$Way"))) ({ frames := 45, cells := 0, slots := 0, locals := 2511 }) (uPc G u [.ref a0, .int x1, .int x2]) (uQr G r uf) 0 0 (uA G) := by
  exact u_met (own := RX2) (by decide +kernel) rfl (Nat.le_of_ble_eq_true rfl) (fun hC hn hsz ls hl hP => w_X2_best_0 hC ⟨Nat.le_refl _, Nat.le_refl _⟩ N u x1 x2 h hP va_S.rf hl)

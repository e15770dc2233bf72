/-! BY gen_heap.py: J10_copyOf J10_copyOfRangeByte J10_copyOfRange J10_copyOf_3 J10_copyOf_2 J2_grow_2 J2_grow J2_add_2 J2_add J4_ensureCapacityInternal J4_append J4_init J5_append J5_init J6_init_2 J6_init J5_toString -/
def f_J10_copyOf_17 (N b : Nat) (g : uEnv) (u : UH) (x0 : Option Nat) (x1 : Int32) (s0 : Option Nat) : Option (Option Nat × UH) :=
    (x0).bind fun a1 =>
    (uLen u a1 1).bind fun y2 =>
    ucall (f_J9_min N b g u y2 x1) fun r5 u3 =>
    (s0).bind fun a6 =>
    (uCpB b u3 a1 0 a6 0 r5).bind fun u7 =>
    some (some a6, u7)
set_option maxHeartbeats 4000000 in
set_option maxRecDepth 100000 in
theorem zz_J10_copyOf_17 {G : uG} {uf : UH} {r : Option Nat} (N : Nat) (u : UH) (x0 : Option Nat) (x1 : Int32) (s0 : Option Nat) (h : f_J10_copyOf_17 N (ub G) (ug G) u x0 x1 s0 = some (r, uf)) : u.1 ≤ uf.1 ∧ u.2.1 ≤ uf.2.1 := by
  unfold f_J10_copyOf_17 at h
  obtain ⟨a1, ha1, hha1⟩ := mbind_n h
  subst ha1
  have h := hha1
  obtain ⟨y2, hy2, h⟩ := mbind_n h
  obtain ⟨r5, u3, c4, h⟩ := ucall_n h
  have zu3 := zz_J9_min N (ub G) (ug G) u y2 x1 r5 u3 c4
  obtain ⟨a6, ha6, hha6⟩ := mbind_n h
  subst ha6
  have h := hha6
  obtain ⟨u7, hu7, h⟩ := mbind_n h
  have zu7 := uCpB_sz hu7
  obtain ⟨hr1, hr2⟩ := uret_n h
  subst hr2
  exact ⟨by omega, by omega⟩
set_option maxHeartbeats 4000000 in
set_option maxRecDepth 100000 in
theorem w_J10_copyOf_17 {p : Program} {l : Launch} {e : Env} {R : Room} {s : State} {m : MethodId} {args : Array Value} {below : List Frame} {meth : Method} {c : Code} {G : uG} {u0 : UH} {uf : UH} {r : Option Nat} (hC : uC p s m args meth c G RJ10 cJ10_copyOf 3 (some (.array .byte))) (hR : 1 ≤ R.frames ∧ 60 ≤ R.locals) (hRm : uf.1 - u0.1 ≤ R.cells ∧ uf.2.1 - u0.2.1 ≤ R.slots) (N : Nat) (u : UH) (x0 : Option Nat) (x1 : Int32) (s0 : Option Nat) (h : f_J10_copyOf_17 N (ub G) (ug G) u x0 x1 s0 = some (r, uf)) (hz0 : (u0.1 ≤ u.1 ∧ u0.2.1 ≤ u.2.1)) {H : Heap} {locs : List Loc} (hP : uP G u H) (hS : va_S (uA G) s.heap H locs) {ls : Array Slot} (hl : lv_has ls 3 [(0, va_rf x0), (1, .int x1)]) : W p l e R s m args below meth c H locs (u.1 - u0.1) (u.2.1 - u0.2.1) (MQ below (uQr G r uf) args s (uf.1 - u0.1) (uf.2.1 - u0.2.1) (uA G)) (F0 m 17 ls [va_rf s0]) := by
  obtain ⟨⟨hx, hb, hml, hown, hts⟩, hKK⟩ := id hC
  have hzf := zz_J10_copyOf_17 (G := G) N u x0 x1 s0 h
  unfold f_J10_copyOf_17 at h
  refine u_astore_n (i := 2) (r := s0) (lv' := [(2, va_rf s0), (0, va_rf x0), (1, .int x1)]) hx hb dJ10_copyOf_17 rfl hl (by decide) rfl (fun ls hl => ?_)
  refine u_aload_n (r := x0) hx hb dJ10_copyOf_18 rfl (lv_at hl 1 rfl) ?_
  refine lv_iconst (v := 0) hx hb dJ10_copyOf_19 (by decide) ?_
  refine u_aload_n (r := s0) hx hb dJ10_copyOf_20 rfl (lv_at hl 0 rfl) ?_
  refine lv_iconst (v := 0) hx hb dJ10_copyOf_21 (by decide) ?_
  refine u_aload_n (r := x0) hx hb dJ10_copyOf_22 rfl (lv_at hl 1 rfl) ?_
  obtain ⟨a1, ha1, hha1⟩ := mbind_n h
  subst ha1
  have h := hha1
  obtain ⟨y2, hy2, h⟩ := mbind_n h
  refine u_alen hC hP hy2 dJ10_copyOf_23 ?_
  refine lv_iload_n hx hb dJ10_copyOf_24 rfl (lv_at hl 2 rfl) ?_
  obtain ⟨r5, u3, c4, h⟩ := ucall_n h
  have zu3 := zz_J9_min N (ub G) (ug G) u y2 x1 r5 u3 c4
  refine u_calli (va_runS (As := [.int y2, .int x1]) (rest := [.int 0, va_rf s0, .int 0, va_rf (some a1)]) hC.1 (met_J9_min l N G u y2 x1 r5 u3 c4) (va_cwS 2 hts (lw_S q425 q426 q113 q427) rfl rfl rfl (by decide +kernel) ⟨Nat.le_trans (Nat.le_of_ble_eq_true rfl) hR.1, Nat.le_trans (Nat.le_of_ble_eq_true rfl) hR.2⟩) ⟨uPc_blind, fun U hU hW => u_pre hC hP hS hU hW⟩ rfl rfl hl.1 rfl (lv_room (by simp only [List.map, u_cat]; exact Nat.le_of_ble_eq_true rfl)) dJ10_copyOf_25 ⟨by omega, by omega⟩) hS (fun H locs hP hS => ?_)
  refine W.cs (cells' := u3.1 - u0.1) (slots' := u3.2.1 - u0.2.1) (by omega) (by omega) ?_
  obtain ⟨a6, ha6, hha6⟩ := mbind_n h
  subst ha6
  have h := hha6
  obtain ⟨u7, hu7, h⟩ := mbind_n h
  have zu7 := uCpB_sz hu7
  refine u_copyB hC hP hS hu7 q428 hl.1 (Nat.le_trans (Nat.le_of_ble_eq_true rfl) hR.1) (Nat.le_trans (by decide +kernel) hR.2) dJ10_copyOf_28 (fun H locs hP hS => ?_)
  refine W.cs (cells' := u7.1 - u0.1) (slots' := u7.2.1 - u0.2.1) (by omega) (by omega) ?_
  refine u_aload_n (r := some a6) hx hb dJ10_copyOf_31 rfl (lv_at hl 0 rfl) ?_
  obtain ⟨hr1, hr2⟩ := uret_n h
  subst hr1
  subst hr2
  exact u_aret hC (Or.inr ⟨_, rfl⟩) hP hS dJ10_copyOf_32
def f_J10_copyOf (N b : Nat) (g : uEnv) (u : UH) (x0 : Option Nat) (x1 : Int32) : Option (Option Nat × UH) :=
    (x0).bind fun a1 =>
    (uLen u a1 1).bind fun y2 =>
    if x1 = y2 then
    none
    else
    if ¬ x1 < 0 ∧ x1.toNatClampNeg ≤ 60000000 then
    mlet (u.1) fun a6 =>
    mlet (uNew u x1.toNatClampNeg (.inl (1, x1.toNatClampNeg, .inl (fun _ => 0)))) fun u4 =>
    f_J10_copyOf_17 N b g u4 (some a1) x1 (some a6)
    else none
set_option maxHeartbeats 4000000 in
set_option maxRecDepth 100000 in
theorem zz_J10_copyOf_0 {G : uG} {uf : UH} {r : Option Nat} (N : Nat) (u : UH) (x0 : Option Nat) (x1 : Int32) (h : f_J10_copyOf N (ub G) (ug G) u x0 x1 = some (r, uf)) : u.1 ≤ uf.1 ∧ u.2.1 ≤ uf.2.1 := by
  unfold f_J10_copyOf at h
  obtain ⟨a1, ha1, hha1⟩ := mbind_n h
  subst ha1
  have h := hha1
  obtain ⟨y2, hy2, h⟩ := mbind_n h
  by_cases c3 : x1 = y2
  · have h := mif_t c3 h
    cases h
  · have h := mif_f c3 h
    obtain ⟨c5, h⟩ := mif_n h
    obtain ⟨a6, ea6⟩ : ∃ z : Nat, z = u.1 := ⟨_, rfl⟩
    have h := mlet_at ea6 h
    obtain ⟨u4, eu4⟩ : ∃ z : UH, z = uNew u x1.toNatClampNeg (.inl (1, x1.toNatClampNeg, .inl (fun _ => 0))) := ⟨_, rfl⟩
    have h := mlet_at eu4 h
    have zu4 : u4.1 = u.1 + 1 ∧ u4.2.1 = u.2.1 + x1.toNatClampNeg := by rw [eu4]; exact ⟨rfl, rfl⟩
    have hq := zz_J10_copyOf_17 (G := G) N u4 (some a1) x1 (some a6) h
    exact ⟨by omega, by omega⟩
set_option maxHeartbeats 4000000 in
set_option maxRecDepth 100000 in
theorem w_J10_copyOf_0 {p : Program} {l : Launch} {e : Env} {R : Room} {s : State} {m : MethodId} {args : Array Value} {below : List Frame} {meth : Method} {c : Code} {G : uG} {u0 : UH} {uf : UH} {r : Option Nat} (hC : uC p s m args meth c G RJ10 cJ10_copyOf 3 (some (.array .byte))) (hR : 1 ≤ R.frames ∧ 60 ≤ R.locals) (hRm : uf.1 - u0.1 ≤ R.cells ∧ uf.2.1 - u0.2.1 ≤ R.slots) (N : Nat) (u : UH) (x0 : Option Nat) (x1 : Int32) (h : f_J10_copyOf N (ub G) (ug G) u x0 x1 = some (r, uf)) (hz0 : (u0.1 ≤ u.1 ∧ u0.2.1 ≤ u.2.1)) {H : Heap} {locs : List Loc} (hP : uP G u H) (hS : va_S (uA G) s.heap H locs) {ls : Array Slot} (hl : lv_has ls 3 [(0, va_rf x0), (1, .int x1)]) : W p l e R s m args below meth c H locs (u.1 - u0.1) (u.2.1 - u0.2.1) (MQ below (uQr G r uf) args s (uf.1 - u0.1) (uf.2.1 - u0.2.1) (uA G)) (F0 m 0 ls []) := by
  obtain ⟨⟨hx, hb, hml, hown, hts⟩, hKK⟩ := id hC
  have hzf := zz_J10_copyOf_0 (G := G) N u x0 x1 h
  unfold f_J10_copyOf at h
  refine lv_iload_n hx hb dJ10_copyOf_0 rfl (lv_at hl 1 rfl) ?_
  refine u_aload_n (r := x0) hx hb dJ10_copyOf_1 rfl (lv_at hl 0 rfl) ?_
  obtain ⟨a1, ha1, hha1⟩ := mbind_n h
  subst ha1
  have h := hha1
  obtain ⟨y2, hy2, h⟩ := mbind_n h
  refine u_alen hC hP hy2 dJ10_copyOf_2 ?_
  refine lv_icmp_ne (tgt := 14) hx hb dJ10_copyOf_3 (by decide) (fun c3 => ?_) (fun c3 => ?_)
  · have h := mif_f c3 h
    refine lv_iload_n hx hb dJ10_copyOf_14 rfl (lv_at hl 1 rfl) ?_
    obtain ⟨c5, h⟩ := mif_n h
    obtain ⟨a6, ea6⟩ : ∃ z : Nat, z = u.1 := ⟨_, rfl⟩
    have h := mlet_at ea6 h
    obtain ⟨u4, eu4⟩ : ∃ z : UH, z = uNew u x1.toNatClampNeg (.inl (1, x1.toNatClampNeg, .inl (fun _ => 0))) := ⟨_, rfl⟩
    have h := mlet_at eu4 h
    have zu4 : u4.1 = u.1 + 1 ∧ u4.2.1 = u.2.1 + x1.toNatClampNeg := by rw [eu4]; exact ⟨rfl, rfl⟩
    have hq := zz_J10_copyOf_17 (G := G) N u4 (some a1) x1 (some a6) h
    refine u_newa (atype := .byte) hC hP hS (t := 1) q185 rfl (N := x1.toNatClampNeg) (x := .inl (fun _ => 0)) (fun _ => rfl) c5.1 rfl (by have := c5.2; show _ * 1 ≤ _; omega) (by omega) (by omega) dJ10_copyOf_15 (fun H hP hS => ?_)
    rw [← eu4] at hP
    rw [← ea6]
    refine W.cs (cells' := u4.1 - u0.1) (slots' := u4.2.1 - u0.2.1) (by omega) (by omega) ?_
    refine W.cs (cells' := u4.1 - u0.1) (slots' := u4.2.1 - u0.2.1) (by omega) (by omega) ?_
    exact w_J10_copyOf_17 hC hR hRm N u4 (some a1) x1 (some a6) h ⟨by omega, by omega⟩ hP hS (lv_sub hl [0, 1] rfl)
  · have h := mif_t c3 h
    refine u_aload_n (r := some a1) hx hb dJ10_copyOf_6 rfl (lv_at hl 0 rfl) ?_
    cases h
theorem zz_J10_copyOf (N b : Nat) (g : uEnv) (u : UH) (x0 : Option Nat) (x1 : Int32) (r : Option Nat) (uf : UH) (h : f_J10_copyOf N b g u x0 x1 = some (r, uf)) : u.1 ≤ uf.1 ∧ u.2.1 ≤ uf.2.1 :=
  zz_J10_copyOf_0 (G := ((fun _ => 0, fun _ _ => 0), fun _ => 0, b, g)) N u x0 x1 h
theorem met_J10_copyOf (l : Launch) (N : Nat) (G : uG) (u : UH) (x0 : Option Nat) (x1 : Int32) (r : Option Nat) (uf : UH) (h : f_J10_copyOf N (ub G) (ug G) u x0 x1 = some (r, uf)) : Met l yJ10_copyOf (ws_ yJ10_copyOf cJ10_copyOf 3 (some (.array .byte))) ({ frames := 1, cells := (uf.1 - u.1), slots := (uf.2.1 - u.2.1), locals := 60 }) (uPc G u [va_rf x0, .int x1]) (uQr G r uf) (uf.1 - u.1) (uf.2.1 - u.2.1) (uA G) := by
  rcases x0 with _ | x0 <;> exact u_met (own := RJ10) (by decide +kernel) rfl (Nat.le_of_ble_eq_true rfl) (fun hC hn hsz ls hl hP => W.cs (Nat.sub_self _).symm (Nat.sub_self _).symm (w_J10_copyOf_0 hC ⟨Nat.le_refl _, Nat.le_refl _⟩ ⟨Nat.le_refl _, Nat.le_refl _⟩ N u _ x1 h ⟨Nat.le_refl _, Nat.le_refl _⟩ hP va_S.rf hl))
def f_J10_copyOfRangeByte_12 (N b : Nat) (g : uEnv) (u : UH) (x0 : Option Nat) (x1 : Int32) (x3 : Int32) (s0 : Option Nat) : Option (Option Nat × UH) :=
    (x0).bind fun a1 =>
    (uLen u a1 1).bind fun y2 =>
    ucall (f_J9_min N b g u (y2 - x1) x3) fun r5 u3 =>
    (s0).bind fun a6 =>
    (uCpB b u3 a1 x1 a6 0 r5).bind fun u7 =>
    some (some a6, u7)
set_option maxHeartbeats 4000000 in
set_option maxRecDepth 100000 in
theorem zz_J10_copyOfRangeByte_12 {G : uG} {uf : UH} {r : Option Nat} (N : Nat) (u : UH) (x0 : Option Nat) (x1 : Int32) (x3 : Int32) (s0 : Option Nat) (h : f_J10_copyOfRangeByte_12 N (ub G) (ug G) u x0 x1 x3 s0 = some (r, uf)) : u.1 ≤ uf.1 ∧ u.2.1 ≤ uf.2.1 := by
  unfold f_J10_copyOfRangeByte_12 at h
  obtain ⟨a1, ha1, hha1⟩ := mbind_n h
  subst ha1
  have h := hha1
  obtain ⟨y2, hy2, h⟩ := mbind_n h
  obtain ⟨r5, u3, c4, h⟩ := ucall_n h
  have zu3 := zz_J9_min N (ub G) (ug G) u (y2 - x1) x3 r5 u3 c4
  obtain ⟨a6, ha6, hha6⟩ := mbind_n h
  subst ha6
  have h := hha6
  obtain ⟨u7, hu7, h⟩ := mbind_n h
  have zu7 := uCpB_sz hu7
  obtain ⟨hr1, hr2⟩ := uret_n h
  subst hr2
  exact ⟨by omega, by omega⟩
set_option maxHeartbeats 4000000 in
set_option maxRecDepth 100000 in
theorem w_J10_copyOfRangeByte_12 {p : Program} {l : Launch} {e : Env} {R : Room} {s : State} {m : MethodId} {args : Array Value} {below : List Frame} {meth : Method} {c : Code} {G : uG} {u0 : UH} {uf : UH} {r : Option Nat} (hC : uC p s m args meth c G RJ10 cJ10_copyOfRangeByte 5 (some (.array .byte))) (hR : 1 ≤ R.frames ∧ 60 ≤ R.locals) (hRm : uf.1 - u0.1 ≤ R.cells ∧ uf.2.1 - u0.2.1 ≤ R.slots) (N : Nat) (u : UH) (x0 : Option Nat) (x1 : Int32) (x3 : Int32) (s0 : Option Nat) (h : f_J10_copyOfRangeByte_12 N (ub G) (ug G) u x0 x1 x3 s0 = some (r, uf)) (hz0 : (u0.1 ≤ u.1 ∧ u0.2.1 ≤ u.2.1)) {H : Heap} {locs : List Loc} (hP : uP G u H) (hS : va_S (uA G) s.heap H locs) {ls : Array Slot} (hl : lv_has ls 5 [(0, va_rf x0), (1, .int x1), (3, .int x3)]) : W p l e R s m args below meth c H locs (u.1 - u0.1) (u.2.1 - u0.2.1) (MQ below (uQr G r uf) args s (uf.1 - u0.1) (uf.2.1 - u0.2.1) (uA G)) (F0 m 12 ls [va_rf s0]) := by
  obtain ⟨⟨hx, hb, hml, hown, hts⟩, hKK⟩ := id hC
  have hzf := zz_J10_copyOfRangeByte_12 (G := G) N u x0 x1 x3 s0 h
  unfold f_J10_copyOfRangeByte_12 at h
  refine u_astore (r := s0) (lv' := [(4, va_rf s0), (0, va_rf x0), (1, .int x1), (3, .int x3)]) hx hb dJ10_copyOfRangeByte_12 hl (by decide) rfl (fun ls hl => ?_)
  refine u_aload_n (r := x0) hx hb dJ10_copyOfRangeByte_14 rfl (lv_at hl 1 rfl) ?_
  refine lv_iload_n hx hb dJ10_copyOfRangeByte_15 rfl (lv_at hl 2 rfl) ?_
  refine u_aload (r := s0) hx hb dJ10_copyOfRangeByte_16 (lv_at hl 0 rfl) ?_
  refine lv_iconst (v := 0) hx hb dJ10_copyOfRangeByte_18 (by decide) ?_
  refine u_aload_n (r := x0) hx hb dJ10_copyOfRangeByte_19 rfl (lv_at hl 1 rfl) ?_
  obtain ⟨a1, ha1, hha1⟩ := mbind_n h
  subst ha1
  have h := hha1
  obtain ⟨y2, hy2, h⟩ := mbind_n h
  refine u_alen hC hP hy2 dJ10_copyOfRangeByte_20 ?_
  refine lv_iload_n hx hb dJ10_copyOfRangeByte_21 rfl (lv_at hl 2 rfl) ?_
  refine lv_isub hx hb dJ10_copyOfRangeByte_22 ?_
  refine lv_iload_n hx hb dJ10_copyOfRangeByte_23 rfl (lv_at hl 3 rfl) ?_
  obtain ⟨r5, u3, c4, h⟩ := ucall_n h
  have zu3 := zz_J9_min N (ub G) (ug G) u (y2 - x1) x3 r5 u3 c4
  refine u_calli (va_runS (As := [.int (y2 - x1), .int x3]) (rest := [.int 0, va_rf s0, .int x1, va_rf (some a1)]) hC.1 (met_J9_min l N G u (y2 - x1) x3 r5 u3 c4) (va_cwS 2 hts (lw_S q425 q426 q113 q427) rfl rfl rfl (by decide +kernel) ⟨Nat.le_trans (Nat.le_of_ble_eq_true rfl) hR.1, Nat.le_trans (Nat.le_of_ble_eq_true rfl) hR.2⟩) ⟨uPc_blind, fun U hU hW => u_pre hC hP hS hU hW⟩ rfl rfl hl.1 rfl (lv_room (by simp only [List.map, u_cat]; exact Nat.le_of_ble_eq_true rfl)) dJ10_copyOfRangeByte_24 ⟨by omega, by omega⟩) hS (fun H locs hP hS => ?_)
  refine W.cs (cells' := u3.1 - u0.1) (slots' := u3.2.1 - u0.2.1) (by omega) (by omega) ?_
  obtain ⟨a6, ha6, hha6⟩ := mbind_n h
  subst ha6
  have h := hha6
  obtain ⟨u7, hu7, h⟩ := mbind_n h
  have zu7 := uCpB_sz hu7
  refine u_copyB hC hP hS hu7 q428 hl.1 (Nat.le_trans (Nat.le_of_ble_eq_true rfl) hR.1) (Nat.le_trans (by decide +kernel) hR.2) dJ10_copyOfRangeByte_27 (fun H locs hP hS => ?_)
  refine W.cs (cells' := u7.1 - u0.1) (slots' := u7.2.1 - u0.2.1) (by omega) (by omega) ?_
  refine u_aload (r := some a6) hx hb dJ10_copyOfRangeByte_30 (lv_at hl 0 rfl) ?_
  obtain ⟨hr1, hr2⟩ := uret_n h
  subst hr1
  subst hr2
  exact u_aret hC (Or.inr ⟨_, rfl⟩) hP hS dJ10_copyOfRangeByte_32
def f_J10_copyOfRangeByte (N b : Nat) (g : uEnv) (u : UH) (x0 : Option Nat) (x1 : Int32) (x2 : Int32) : Option (Option Nat × UH) :=
    (f_J10_checkLength N b g u x1 x2).bind fun u1 =>
    mlet (x2 - x1) fun y3 =>
    if ¬ y3 < 0 ∧ y3.toNatClampNeg ≤ 60000000 then
    mlet (u1.1) fun a6 =>
    mlet (uNew u1 y3.toNatClampNeg (.inl (1, y3.toNatClampNeg, .inl (fun _ => 0)))) fun u4 =>
    f_J10_copyOfRangeByte_12 N b g u4 x0 x1 y3 (some a6)
    else none
set_option maxHeartbeats 4000000 in
set_option maxRecDepth 100000 in
theorem zz_J10_copyOfRangeByte_0 {G : uG} {uf : UH} {r : Option Nat} (N : Nat) (u : UH) (x0 : Option Nat) (x1 : Int32) (x2 : Int32) (h : f_J10_copyOfRangeByte N (ub G) (ug G) u x0 x1 x2 = some (r, uf)) : u.1 ≤ uf.1 ∧ u.2.1 ≤ uf.2.1 := by
  unfold f_J10_copyOfRangeByte at h
  obtain ⟨u1, c2, h⟩ := mbind_n h
  have zu1 := zz_J10_checkLength N (ub G) (ug G) u x1 x2 u1 c2
  obtain ⟨y3, ey3⟩ : ∃ z, z = x2 - x1 := ⟨_, rfl⟩
  have h := mlet_at ey3 h
  obtain ⟨c5, h⟩ := mif_n h
  obtain ⟨a6, ea6⟩ : ∃ z : Nat, z = u1.1 := ⟨_, rfl⟩
  have h := mlet_at ea6 h
  obtain ⟨u4, eu4⟩ : ∃ z : UH, z = uNew u1 y3.toNatClampNeg (.inl (1, y3.toNatClampNeg, .inl (fun _ => 0))) := ⟨_, rfl⟩
  have h := mlet_at eu4 h
  have zu4 : u4.1 = u1.1 + 1 ∧ u4.2.1 = u1.2.1 + y3.toNatClampNeg := by rw [eu4]; exact ⟨rfl, rfl⟩
  have hq := zz_J10_copyOfRangeByte_12 (G := G) N u4 x0 x1 y3 (some a6) h
  exact ⟨by omega, by omega⟩
set_option maxHeartbeats 4000000 in
set_option maxRecDepth 100000 in
theorem w_J10_copyOfRangeByte_0 {p : Program} {l : Launch} {e : Env} {R : Room} {s : State} {m : MethodId} {args : Array Value} {below : List Frame} {meth : Method} {c : Code} {G : uG} {u0 : UH} {uf : UH} {r : Option Nat} (hC : uC p s m args meth c G RJ10 cJ10_copyOfRangeByte 5 (some (.array .byte))) (hR : 1 ≤ R.frames ∧ 60 ≤ R.locals) (hRm : uf.1 - u0.1 ≤ R.cells ∧ uf.2.1 - u0.2.1 ≤ R.slots) (N : Nat) (u : UH) (x0 : Option Nat) (x1 : Int32) (x2 : Int32) (h : f_J10_copyOfRangeByte N (ub G) (ug G) u x0 x1 x2 = some (r, uf)) (hz0 : (u0.1 ≤ u.1 ∧ u0.2.1 ≤ u.2.1)) {H : Heap} {locs : List Loc} (hP : uP G u H) (hS : va_S (uA G) s.heap H locs) {ls : Array Slot} (hl : lv_has ls 5 [(0, va_rf x0), (1, .int x1), (2, .int x2)]) : W p l e R s m args below meth c H locs (u.1 - u0.1) (u.2.1 - u0.2.1) (MQ below (uQr G r uf) args s (uf.1 - u0.1) (uf.2.1 - u0.2.1) (uA G)) (F0 m 0 ls []) := by
  obtain ⟨⟨hx, hb, hml, hown, hts⟩, hKK⟩ := id hC
  have hzf := zz_J10_copyOfRangeByte_0 (G := G) N u x0 x1 x2 h
  unfold f_J10_copyOfRangeByte at h
  refine lv_iload_n hx hb dJ10_copyOfRangeByte_0 rfl (lv_at hl 1 rfl) ?_
  refine lv_iload_n hx hb dJ10_copyOfRangeByte_1 rfl (lv_at hl 2 rfl) ?_
  obtain ⟨u1, c2, h⟩ := mbind_n h
  have zu1 := zz_J10_checkLength N (ub G) (ug G) u x1 x2 u1 c2
  refine u_callv (va_runS (As := [.int x1, .int x2]) (rest := []) hC.1 (met_J10_checkLength l N G u x1 x2 u1 c2) (va_cwS 2 hts (lw_S q517 q518 q114 q519) rfl rfl rfl (by decide +kernel) ⟨Nat.le_trans (Nat.le_of_ble_eq_true rfl) hR.1, Nat.le_trans (Nat.le_of_ble_eq_true rfl) hR.2⟩) ⟨uPc_blind, fun U hU hW => u_pre hC hP hS hU hW⟩ rfl rfl hl.1 rfl (lv_room (Nat.le_of_ble_eq_true rfl)) dJ10_copyOfRangeByte_2 ⟨by omega, by omega⟩) hS (fun H locs hP hS => ?_)
  refine W.cs (cells' := u1.1 - u0.1) (slots' := u1.2.1 - u0.2.1) (by omega) (by omega) ?_
  refine lv_iload_n hx hb dJ10_copyOfRangeByte_5 rfl (lv_at hl 2 rfl) ?_
  refine lv_iload_n hx hb dJ10_copyOfRangeByte_6 rfl (lv_at hl 1 rfl) ?_
  refine lv_isub hx hb dJ10_copyOfRangeByte_7 ?_
  refine lv_topi (fun y3 ey3 => ?_)
  have h := mlet_at ey3 h
  refine lv_istore_n (i := 3) (lv' := [(3, .int y3), (0, va_rf x0), (1, .int x1), (2, .int x2)]) hx hb dJ10_copyOfRangeByte_8 rfl hl (by decide) rfl (fun ls hl => ?_)
  refine lv_iload_n hx hb dJ10_copyOfRangeByte_9 rfl (lv_at hl 0 rfl) ?_
  obtain ⟨c5, h⟩ := mif_n h
  obtain ⟨a6, ea6⟩ : ∃ z : Nat, z = u1.1 := ⟨_, rfl⟩
  have h := mlet_at ea6 h
  obtain ⟨u4, eu4⟩ : ∃ z : UH, z = uNew u1 y3.toNatClampNeg (.inl (1, y3.toNatClampNeg, .inl (fun _ => 0))) := ⟨_, rfl⟩
  have h := mlet_at eu4 h
  have zu4 : u4.1 = u1.1 + 1 ∧ u4.2.1 = u1.2.1 + y3.toNatClampNeg := by rw [eu4]; exact ⟨rfl, rfl⟩
  have hq := zz_J10_copyOfRangeByte_12 (G := G) N u4 x0 x1 y3 (some a6) h
  refine u_newa (atype := .byte) hC hP hS (t := 1) q185 rfl (N := y3.toNatClampNeg) (x := .inl (fun _ => 0)) (fun _ => rfl) c5.1 rfl (by have := c5.2; show _ * 1 ≤ _; omega) (by omega) (by omega) dJ10_copyOfRangeByte_10 (fun H hP hS => ?_)
  rw [← eu4] at hP
  rw [← ea6]
  refine W.cs (cells' := u4.1 - u0.1) (slots' := u4.2.1 - u0.2.1) (by omega) (by omega) ?_
  refine W.cs (cells' := u4.1 - u0.1) (slots' := u4.2.1 - u0.2.1) (by omega) (by omega) ?_
  exact w_J10_copyOfRangeByte_12 hC hR hRm N u4 x0 x1 y3 (some a6) h ⟨by omega, by omega⟩ hP hS (lv_sub hl [1, 2, 0] rfl)
theorem zz_J10_copyOfRangeByte (N b : Nat) (g : uEnv) (u : UH) (x0 : Option Nat) (x1 : Int32) (x2 : Int32) (r : Option Nat) (uf : UH) (h : f_J10_copyOfRangeByte N b g u x0 x1 x2 = some (r, uf)) : u.1 ≤ uf.1 ∧ u.2.1 ≤ uf.2.1 :=
  zz_J10_copyOfRangeByte_0 (G := ((fun _ => 0, fun _ _ => 0), fun _ => 0, b, g)) N u x0 x1 x2 h
theorem met_J10_copyOfRangeByte (l : Launch) (N : Nat) (G : uG) (u : UH) (x0 : Option Nat) (x1 : Int32) (x2 : Int32) (r : Option Nat) (uf : UH) (h : f_J10_copyOfRangeByte N (ub G) (ug G) u x0 x1 x2 = some (r, uf)) : Met l yJ10_copyOfRangeByte (ws_ yJ10_copyOfRangeByte cJ10_copyOfRangeByte 5 (some (.array .byte))) ({ frames := 1, cells := (uf.1 - u.1), slots := (uf.2.1 - u.2.1), locals := 60 }) (uPc G u [va_rf x0, .int x1, .int x2]) (uQr G r uf) (uf.1 - u.1) (uf.2.1 - u.2.1) (uA G) := by
  rcases x0 with _ | x0 <;> exact u_met (own := RJ10) (by decide +kernel) rfl (Nat.le_of_ble_eq_true rfl) (fun hC hn hsz ls hl hP => W.cs (Nat.sub_self _).symm (Nat.sub_self _).symm (w_J10_copyOfRangeByte_0 hC ⟨Nat.le_refl _, Nat.le_refl _⟩ ⟨Nat.le_refl _, Nat.le_refl _⟩ N u _ x1 x2 h ⟨Nat.le_refl _, Nat.le_refl _⟩ hP va_S.rf hl))
def f_J10_copyOfRange_16 (N b : Nat) (g : uEnv) (u : UH) (s0 : Option Nat) : Option (Option Nat × UH) :=
    some (s0, u)
set_option maxHeartbeats 4000000 in
set_option maxRecDepth 100000 in
theorem zz_J10_copyOfRange_16 {G : uG} {uf : UH} {r : Option Nat} (N : Nat) (u : UH) (s0 : Option Nat) (h : f_J10_copyOfRange_16 N (ub G) (ug G) u s0 = some (r, uf)) : u.1 ≤ uf.1 ∧ u.2.1 ≤ uf.2.1 := by
  unfold f_J10_copyOfRange_16 at h
  obtain ⟨hr1, hr2⟩ := uret_n h
  subst hr2
  exact ⟨by omega, by omega⟩
set_option maxHeartbeats 4000000 in
set_option maxRecDepth 100000 in
theorem w_J10_copyOfRange_16 {p : Program} {l : Launch} {e : Env} {R : Room} {s : State} {m : MethodId} {args : Array Value} {below : List Frame} {meth : Method} {c : Code} {G : uG} {u0 : UH} {uf : UH} {r : Option Nat} (hC : uC p s m args meth c G RJ10 cJ10_copyOfRange 3 (some (.array .byte))) (hR : 2 ≤ R.frames ∧ 84 ≤ R.locals) (hRm : uf.1 - u0.1 ≤ R.cells ∧ uf.2.1 - u0.2.1 ≤ R.slots) (N : Nat) (u : UH) (s0 : Option Nat) (h : f_J10_copyOfRange_16 N (ub G) (ug G) u s0 = some (r, uf)) (hz0 : (u0.1 ≤ u.1 ∧ u0.2.1 ≤ u.2.1)) {H : Heap} {locs : List Loc} (hP : uP G u H) (hS : va_S (uA G) s.heap H locs) {ls : Array Slot} (hl : lv_has ls 3 []) : W p l e R s m args below meth c H locs (u.1 - u0.1) (u.2.1 - u0.2.1) (MQ below (uQr G r uf) args s (uf.1 - u0.1) (uf.2.1 - u0.2.1) (uA G)) (F0 m 16 ls [va_rf s0]) := by
  obtain ⟨⟨hx, hb, hml, hown, hts⟩, hKK⟩ := id hC
  have hzf := zz_J10_copyOfRange_16 (G := G) N u s0 h
  unfold f_J10_copyOfRange_16 at h
  obtain ⟨hr1, hr2⟩ := uret_n h
  subst hr1
  subst hr2
  exact u_aret hC (Or.inr ⟨_, rfl⟩) hP hS dJ10_copyOfRange_16
def f_J10_copyOfRange_10 (N b : Nat) (g : uEnv) (u : UH) (x0 : Option Nat) (x1 : Int32) (x2 : Int32) : Option (Option Nat × UH) :=
    ucall (f_J10_copyOfRangeByte N b g u x0 x1 x2) fun o3 u1 =>
    f_J10_copyOfRange_16 N b g u1 o3
set_option maxHeartbeats 4000000 in
set_option maxRecDepth 100000 in
theorem zz_J10_copyOfRange_10 {G : uG} {uf : UH} {r : Option Nat} (N : Nat) (u : UH) (x0 : Option Nat) (x1 : Int32) (x2 : Int32) (h : f_J10_copyOfRange_10 N (ub G) (ug G) u x0 x1 x2 = some (r, uf)) : u.1 ≤ uf.1 ∧ u.2.1 ≤ uf.2.1 := by
  unfold f_J10_copyOfRange_10 at h
  obtain ⟨o3, u1, c2, h⟩ := ucall_n h
  have zu1 := zz_J10_copyOfRangeByte N (ub G) (ug G) u x0 x1 x2 o3 u1 c2
  have hq := zz_J10_copyOfRange_16 (G := G) N u1 o3 h
  exact ⟨by omega, by omega⟩
set_option maxHeartbeats 4000000 in
set_option maxRecDepth 100000 in
theorem w_J10_copyOfRange_10 {p : Program} {l : Launch} {e : Env} {R : Room} {s : State} {m : MethodId} {args : Array Value} {below : List Frame} {meth : Method} {c : Code} {G : uG} {u0 : UH} {uf : UH} {r : Option Nat} (hC : uC p s m args meth c G RJ10 cJ10_copyOfRange 3 (some (.array .byte))) (hR : 2 ≤ R.frames ∧ 84 ≤ R.locals) (hRm : uf.1 - u0.1 ≤ R.cells ∧ uf.2.1 - u0.2.1 ≤ R.slots) (N : Nat) (u : UH) (x0 : Option Nat) (x1 : Int32) (x2 : Int32) (h : f_J10_copyOfRange_10 N (ub G) (ug G) u x0 x1 x2 = some (r, uf)) (hz0 : (u0.1 ≤ u.1 ∧ u0.2.1 ≤ u.2.1)) {H : Heap} {locs : List Loc} (hP : uP G u H) (hS : va_S (uA G) s.heap H locs) {ls : Array Slot} (hl : lv_has ls 3 [(0, va_rf x0), (1, .int x1), (2, .int x2)]) : W p l e R s m args below meth c H locs (u.1 - u0.1) (u.2.1 - u0.2.1) (MQ below (uQr G r uf) args s (uf.1 - u0.1) (uf.2.1 - u0.2.1) (uA G)) (F0 m 10 ls []) := by
  obtain ⟨⟨hx, hb, hml, hown, hts⟩, hKK⟩ := id hC
  have hzf := zz_J10_copyOfRange_10 (G := G) N u x0 x1 x2 h
  unfold f_J10_copyOfRange_10 at h
  refine u_aload_n (r := x0) hx hb dJ10_copyOfRange_10 rfl (lv_at hl 0 rfl) ?_
  refine lv_iload_n hx hb dJ10_copyOfRange_11 rfl (lv_at hl 1 rfl) ?_
  refine lv_iload_n hx hb dJ10_copyOfRange_12 rfl (lv_at hl 2 rfl) ?_
  obtain ⟨o3, u1, c2, h⟩ := ucall_n h
  have zu1 := zz_J10_copyOfRangeByte N (ub G) (ug G) u x0 x1 x2 o3 u1 c2
  have hq := zz_J10_copyOfRange_16 (G := G) N u1 o3 h
  refine u_callr (va_runS (As := [va_rf x0, .int x1, .int x2]) (rest := []) hC.1 (met_J10_copyOfRangeByte l N G u x0 x1 x2 o3 u1 c2) (va_cwS 3 hts (lw_S q514 q515 q114 q516) rfl rfl rfl (by decide +kernel) ⟨Nat.le_trans (Nat.le_of_ble_eq_true rfl) hR.1, Nat.le_trans (Nat.le_of_ble_eq_true rfl) hR.2⟩) ⟨uPc_blind, fun U hU hW => u_pre hC hP hS hU hW⟩ rfl rfl hl.1 rfl (lv_room (Nat.le_of_ble_eq_true rfl)) dJ10_copyOfRange_13 ⟨by omega, by omega⟩) hS (fun H locs hP hS => ?_)
  refine W.cs (cells' := u1.1 - u0.1) (slots' := u1.2.1 - u0.2.1) (by omega) (by omega) ?_
  refine W.cs (cells' := u1.1 - u0.1) (slots' := u1.2.1 - u0.2.1) (by omega) (by omega) ?_
  exact w_J10_copyOfRange_16 hC hR hRm N u1 o3 h ⟨by omega, by omega⟩ hP hS (lv_sub hl [] rfl)
def f_J10_copyOfRange (N b : Nat) (g : uEnv) (u : UH) (x0 : Option Nat) (x1 : Int32) (x2 : Int32) : Option (Option Nat × UH) :=
    if x1 = 0 then
    (x0).bind fun a2 =>
    (uLen u a2 1).bind fun y3 =>
    if x2 = y3 then
    none
    else
    f_J10_copyOfRange_10 N b g u (some a2) x1 x2
    else
    f_J10_copyOfRange_10 N b g u x0 x1 x2
set_option maxHeartbeats 4000000 in
set_option maxRecDepth 100000 in
theorem zz_J10_copyOfRange_0 {G : uG} {uf : UH} {r : Option Nat} (N : Nat) (u : UH) (x0 : Option Nat) (x1 : Int32) (x2 : Int32) (h : f_J10_copyOfRange N (ub G) (ug G) u x0 x1 x2 = some (r, uf)) : u.1 ≤ uf.1 ∧ u.2.1 ≤ uf.2.1 := by
  unfold f_J10_copyOfRange at h
  by_cases c1 : x1 = 0
  · have h := mif_t c1 h
    obtain ⟨a2, ha2, hha2⟩ := mbind_n h
    subst ha2
    have h := hha2
    obtain ⟨y3, hy3, h⟩ := mbind_n h
    by_cases c4 : x2 = y3
    · have h := mif_t c4 h
      cases h
    · have h := mif_f c4 h
      have hq := zz_J10_copyOfRange_10 (G := G) N u (some a2) x1 x2 h
      exact ⟨by omega, by omega⟩
  · have h := mif_f c1 h
    have hq := zz_J10_copyOfRange_10 (G := G) N u x0 x1 x2 h
    exact ⟨by omega, by omega⟩
set_option maxHeartbeats 4000000 in
set_option maxRecDepth 100000 in
theorem w_J10_copyOfRange_0 {p : Program} {l : Launch} {e : Env} {R : Room} {s : State} {m : MethodId} {args : Array Value} {below : List Frame} {meth : Method} {c : Code} {G : uG} {u0 : UH} {uf : UH} {r : Option Nat} (hC : uC p s m args meth c G RJ10 cJ10_copyOfRange 3 (some (.array .byte))) (hR : 2 ≤ R.frames ∧ 84 ≤ R.locals) (hRm : uf.1 - u0.1 ≤ R.cells ∧ uf.2.1 - u0.2.1 ≤ R.slots) (N : Nat) (u : UH) (x0 : Option Nat) (x1 : Int32) (x2 : Int32) (h : f_J10_copyOfRange N (ub G) (ug G) u x0 x1 x2 = some (r, uf)) (hz0 : (u0.1 ≤ u.1 ∧ u0.2.1 ≤ u.2.1)) {H : Heap} {locs : List Loc} (hP : uP G u H) (hS : va_S (uA G) s.heap H locs) {ls : Array Slot} (hl : lv_has ls 3 [(0, va_rf x0), (1, .int x1), (2, .int x2)]) : W p l e R s m args below meth c H locs (u.1 - u0.1) (u.2.1 - u0.2.1) (MQ below (uQr G r uf) args s (uf.1 - u0.1) (uf.2.1 - u0.2.1) (uA G)) (F0 m 0 ls []) := by
  obtain ⟨⟨hx, hb, hml, hown, hts⟩, hKK⟩ := id hC
  have hzf := zz_J10_copyOfRange_0 (G := G) N u x0 x1 x2 h
  unfold f_J10_copyOfRange at h
  refine lv_iload_n hx hb dJ10_copyOfRange_0 rfl (lv_at hl 1 rfl) ?_
  refine lv_if_ne (tgt := 10) hx hb dJ10_copyOfRange_1 (by decide) (fun c1 => ?_) (fun c1 => ?_)
  · have h := mif_f c1 h
    refine W.cs (cells' := u.1 - u0.1) (slots' := u.2.1 - u0.2.1) (by omega) (by omega) ?_
    exact w_J10_copyOfRange_10 hC hR hRm N u x0 x1 x2 h ⟨by omega, by omega⟩ hP hS (lv_sub hl [0, 1, 2] rfl)
  · have h := mif_t c1 h
    refine lv_iload_n hx hb dJ10_copyOfRange_4 rfl (lv_at hl 2 rfl) ?_
    refine u_aload_n (r := x0) hx hb dJ10_copyOfRange_5 rfl (lv_at hl 0 rfl) ?_
    obtain ⟨a2, ha2, hha2⟩ := mbind_n h
    subst ha2
    have h := hha2
    obtain ⟨y3, hy3, h⟩ := mbind_n h
    refine u_alen hC hP hy3 dJ10_copyOfRange_6 ?_
    refine lv_icmp_eq (tgt := 17) hx hb dJ10_copyOfRange_7 (by decide) (fun c4 => ?_) (fun c4 => ?_)
    · have h := mif_t c4 h
      refine u_aload_n (r := some a2) hx hb dJ10_copyOfRange_17 rfl (lv_at hl 0 rfl) ?_
      cases h
    · have h := mif_f c4 h
      refine W.cs (cells' := u.1 - u0.1) (slots' := u.2.1 - u0.2.1) (by omega) (by omega) ?_
      exact w_J10_copyOfRange_10 hC hR hRm N u (some a2) x1 x2 h ⟨by omega, by omega⟩ hP hS (lv_sub hl [0, 1, 2] rfl)
theorem zz_J10_copyOfRange (N b : Nat) (g : uEnv) (u : UH) (x0 : Option Nat) (x1 : Int32) (x2 : Int32) (r : Option Nat) (uf : UH) (h : f_J10_copyOfRange N b g u x0 x1 x2 = some (r, uf)) : u.1 ≤ uf.1 ∧ u.2.1 ≤ uf.2.1 :=
  zz_J10_copyOfRange_0 (G := ((fun _ => 0, fun _ _ => 0), fun _ => 0, b, g)) N u x0 x1 x2 h
theorem met_J10_copyOfRange (l : Launch) (N : Nat) (G : uG) (u : UH) (x0 : Option Nat) (x1 : Int32) (x2 : Int32) (r : Option Nat) (uf : UH) (h : f_J10_copyOfRange N (ub G) (ug G) u x0 x1 x2 = some (r, uf)) : Met l yJ10_copyOfRange (ws_ yJ10_copyOfRange cJ10_copyOfRange 3 (some (.array .byte))) ({ frames := 2, cells := (uf.1 - u.1), slots := (uf.2.1 - u.2.1), locals := 84 }) (uPc G u [va_rf x0, .int x1, .int x2]) (uQr G r uf) (uf.1 - u.1) (uf.2.1 - u.2.1) (uA G) := by
  rcases x0 with _ | x0 <;> exact u_met (own := RJ10) (by decide +kernel) rfl (Nat.le_of_ble_eq_true rfl) (fun hC hn hsz ls hl hP => W.cs (Nat.sub_self _).symm (Nat.sub_self _).symm (w_J10_copyOfRange_0 hC ⟨Nat.le_refl _, Nat.le_refl _⟩ ⟨Nat.le_refl _, Nat.le_refl _⟩ N u _ x1 x2 h ⟨Nat.le_refl _, Nat.le_refl _⟩ hP va_S.rf hl))
def f_J10_copyOf_3_24 (N b : Nat) (g : uEnv) (u : UH) (x0 : Option Nat) (x1 : Int32) (s0 : Option Nat) : Option (Option Nat × UH) :=
    (x0).bind fun a1 =>
    (uLen u a1 4).bind fun y2 =>
    ucall (f_J9_min N b g u y2 x1) fun r5 u3 =>
    (s0).bind fun a6 =>
    (uCpR b u3 a1 0 a6 0 r5).bind fun u7 =>
    some (some a6, u7)
set_option maxHeartbeats 4000000 in
set_option maxRecDepth 100000 in
theorem zz_J10_copyOf_3_24 {G : uG} {uf : UH} {r : Option Nat} (N : Nat) (u : UH) (x0 : Option Nat) (x1 : Int32) (s0 : Option Nat) (h : f_J10_copyOf_3_24 N (ub G) (ug G) u x0 x1 s0 = some (r, uf)) : u.1 ≤ uf.1 ∧ u.2.1 ≤ uf.2.1 := by
  unfold f_J10_copyOf_3_24 at h
  obtain ⟨a1, ha1, hha1⟩ := mbind_n h
  subst ha1
  have h := hha1
  obtain ⟨y2, hy2, h⟩ := mbind_n h
  obtain ⟨r5, u3, c4, h⟩ := ucall_n h
  have zu3 := zz_J9_min N (ub G) (ug G) u y2 x1 r5 u3 c4
  obtain ⟨a6, ha6, hha6⟩ := mbind_n h
  subst ha6
  have h := hha6
  obtain ⟨u7, hu7, h⟩ := mbind_n h
  have zu7 := uCpR_sz hu7
  obtain ⟨hr1, hr2⟩ := uret_n h
  subst hr2
  exact ⟨by omega, by omega⟩
set_option maxHeartbeats 4000000 in
set_option maxRecDepth 100000 in
theorem w_J10_copyOf_3_24 {p : Program} {l : Launch} {e : Env} {R : Room} {s : State} {m : MethodId} {args : Array Value} {below : List Frame} {meth : Method} {c : Code} {G : uG} {u0 : UH} {uf : UH} {r : Option Nat} (hC : uC p s m args meth c G RJ10 cJ10_copyOf_3 4 (some (.array (.object "java/lang/Object")))) (hR : 1 ≤ R.frames ∧ 60 ≤ R.locals) (hRm : uf.1 - u0.1 ≤ R.cells ∧ uf.2.1 - u0.2.1 ≤ R.slots) (N : Nat) (u : UH) (x0 : Option Nat) (x1 : Int32) (s0 : Option Nat) (h : f_J10_copyOf_3_24 N (ub G) (ug G) u x0 x1 s0 = some (r, uf)) (hz0 : (u0.1 ≤ u.1 ∧ u0.2.1 ≤ u.2.1)) {H : Heap} {locs : List Loc} (hP : uP G u H) (hS : va_S (uA G) s.heap H locs) {ls : Array Slot} (hl : lv_has ls 4 [(0, va_rf x0), (1, .int x1)]) : W p l e R s m args below meth c H locs (u.1 - u0.1) (u.2.1 - u0.2.1) (MQ below (uQr G r uf) args s (uf.1 - u0.1) (uf.2.1 - u0.2.1) (uA G)) (F0 m 24 ls [va_rf s0]) := by
  obtain ⟨⟨hx, hb, hml, hown, hts⟩, hKK⟩ := id hC
  have hzf := zz_J10_copyOf_3_24 (G := G) N u x0 x1 s0 h
  unfold f_J10_copyOf_3_24 at h
  refine u_astore_n (i := 3) (r := s0) (lv' := [(3, va_rf s0), (0, va_rf x0), (1, .int x1)]) hx hb dJ10_copyOf_3_24 rfl hl (by decide) rfl (fun ls hl => ?_)
  refine u_aload_n (r := x0) hx hb dJ10_copyOf_3_25 rfl (lv_at hl 1 rfl) ?_
  refine lv_iconst (v := 0) hx hb dJ10_copyOf_3_26 (by decide) ?_
  refine u_aload_n (r := s0) hx hb dJ10_copyOf_3_27 rfl (lv_at hl 0 rfl) ?_
  refine lv_iconst (v := 0) hx hb dJ10_copyOf_3_28 (by decide) ?_
  refine u_aload_n (r := x0) hx hb dJ10_copyOf_3_29 rfl (lv_at hl 1 rfl) ?_
  obtain ⟨a1, ha1, hha1⟩ := mbind_n h
  subst ha1
  have h := hha1
  obtain ⟨y2, hy2, h⟩ := mbind_n h
  refine u_alen hC hP hy2 dJ10_copyOf_3_30 ?_
  refine lv_iload_n hx hb dJ10_copyOf_3_31 rfl (lv_at hl 2 rfl) ?_
  obtain ⟨r5, u3, c4, h⟩ := ucall_n h
  have zu3 := zz_J9_min N (ub G) (ug G) u y2 x1 r5 u3 c4
  refine u_calli (va_runS (As := [.int y2, .int x1]) (rest := [.int 0, va_rf s0, .int 0, va_rf (some a1)]) hC.1 (met_J9_min l N G u y2 x1 r5 u3 c4) (va_cwS 2 hts (lw_S q425 q426 q113 q427) rfl rfl rfl (by decide +kernel) ⟨Nat.le_trans (Nat.le_of_ble_eq_true rfl) hR.1, Nat.le_trans (Nat.le_of_ble_eq_true rfl) hR.2⟩) ⟨uPc_blind, fun U hU hW => u_pre hC hP hS hU hW⟩ rfl rfl hl.1 rfl (lv_room (by simp only [List.map, u_cat]; exact Nat.le_of_ble_eq_true rfl)) dJ10_copyOf_3_32 ⟨by omega, by omega⟩) hS (fun H locs hP hS => ?_)
  refine W.cs (cells' := u3.1 - u0.1) (slots' := u3.2.1 - u0.2.1) (by omega) (by omega) ?_
  obtain ⟨a6, ha6, hha6⟩ := mbind_n h
  subst ha6
  have h := hha6
  obtain ⟨u7, hu7, h⟩ := mbind_n h
  have zu7 := uCpR_sz hu7
  refine u_copyR hC hP hS hu7 q428 hl.1 (Nat.le_trans (Nat.le_of_ble_eq_true rfl) hR.1) (Nat.le_trans (by decide +kernel) hR.2) dJ10_copyOf_3_35 (fun H locs hP hS => ?_)
  refine W.cs (cells' := u7.1 - u0.1) (slots' := u7.2.1 - u0.2.1) (by omega) (by omega) ?_
  refine u_aload_n (r := some a6) hx hb dJ10_copyOf_3_38 rfl (lv_at hl 0 rfl) ?_
  obtain ⟨hr1, hr2⟩ := uret_n h
  subst hr1
  subst hr2
  exact u_aret hC (Or.inr ⟨_, rfl⟩) hP hS dJ10_copyOf_3_39
def f_J10_copyOf_3_10 (N b : Nat) (g : uEnv) (u : UH) (x0 : Option Nat) (x1 : Int32) (s0 : Option Nat) : Option (Option Nat × UH) :=
    f_J10_copyOf_3_24 N b g u x0 x1 s0
set_option maxHeartbeats 4000000 in
set_option maxRecDepth 100000 in
theorem zz_J10_copyOf_3_10 {G : uG} {uf : UH} {r : Option Nat} (N : Nat) (u : UH) (x0 : Option Nat) (x1 : Int32) (s0 : Option Nat) (h : f_J10_copyOf_3_10 N (ub G) (ug G) u x0 x1 s0 = some (r, uf)) : u.1 ≤ uf.1 ∧ u.2.1 ≤ uf.2.1 := by
  unfold f_J10_copyOf_3_10 at h
  have hq := zz_J10_copyOf_3_24 (G := G) N u x0 x1 s0 h
  exact ⟨by omega, by omega⟩
set_option maxHeartbeats 4000000 in
set_option maxRecDepth 100000 in
theorem w_J10_copyOf_3_10 {p : Program} {l : Launch} {e : Env} {R : Room} {s : State} {m : MethodId} {args : Array Value} {below : List Frame} {meth : Method} {c : Code} {G : uG} {u0 : UH} {uf : UH} {r : Option Nat} (hC : uC p s m args meth c G RJ10 cJ10_copyOf_3 4 (some (.array (.object "java/lang/Object")))) (hR : 1 ≤ R.frames ∧ 60 ≤ R.locals) (hRm : uf.1 - u0.1 ≤ R.cells ∧ uf.2.1 - u0.2.1 ≤ R.slots) (N : Nat) (u : UH) (x0 : Option Nat) (x1 : Int32) (s0 : Option Nat) (h : f_J10_copyOf_3_10 N (ub G) (ug G) u x0 x1 s0 = some (r, uf)) (hz0 : (u0.1 ≤ u.1 ∧ u0.2.1 ≤ u.2.1)) {H : Heap} {locs : List Loc} (hP : uP G u H) (hS : va_S (uA G) s.heap H locs) {ls : Array Slot} (hl : lv_has ls 4 [(0, va_rf x0), (1, .int x1)]) : W p l e R s m args below meth c H locs (u.1 - u0.1) (u.2.1 - u0.2.1) (MQ below (uQr G r uf) args s (uf.1 - u0.1) (uf.2.1 - u0.2.1) (uA G)) (F0 m 10 ls [va_rf s0]) := by
  obtain ⟨⟨hx, hb, hml, hown, hts⟩, hKK⟩ := id hC
  have hzf := zz_J10_copyOf_3_10 (G := G) N u x0 x1 s0 h
  unfold f_J10_copyOf_3_10 at h
  refine lv_goto (tgt := 24) hx hb dJ10_copyOf_3_10 (by decide) ?_
  refine W.cs (cells' := u.1 - u0.1) (slots' := u.2.1 - u0.2.1) (by omega) (by omega) ?_
  exact w_J10_copyOf_3_24 hC hR hRm N u x0 x1 s0 h ⟨by omega, by omega⟩ hP hS (lv_sub hl [0, 1] rfl)
def f_J10_copyOf_3 (N b : Nat) (g : uEnv) (u : UH) (x0 : Option Nat) (x1 : Int32) (x2 : Option Nat) : Option (Option Nat × UH) :=
    mlet (g.1 20) fun o1 =>
    if x2 = o1 then
    if ¬ x1 < 0 ∧ x1.toNatClampNeg ≤ 60000000 then
    mlet (u.1) fun a5 =>
    mlet (uNew u x1.toNatClampNeg (.inl (4, x1.toNatClampNeg, .inr (.inr (.inr (.inr (fun _ => none))))))) fun u3 =>
    f_J10_copyOf_3_10 N b g u3 x0 x1 (some a5)
    else none
    else
    none
set_option maxHeartbeats 4000000 in
set_option maxRecDepth 100000 in
theorem zz_J10_copyOf_3_0 {G : uG} {uf : UH} {r : Option Nat} (N : Nat) (u : UH) (x0 : Option Nat) (x1 : Int32) (x2 : Option Nat) (h : f_J10_copyOf_3 N (ub G) (ug G) u x0 x1 x2 = some (r, uf)) : u.1 ≤ uf.1 ∧ u.2.1 ≤ uf.2.1 := by
  unfold f_J10_copyOf_3 at h
  obtain ⟨o1, eo1⟩ : ∃ z, z = (ug G).1 20 := ⟨_, rfl⟩
  have h := mlet_at eo1 h
  by_cases c2 : x2 = o1
  · have h := mif_t c2 h
    obtain ⟨c4, h⟩ := mif_n h
    obtain ⟨a5, ea5⟩ : ∃ z : Nat, z = u.1 := ⟨_, rfl⟩
    have h := mlet_at ea5 h
    obtain ⟨u3, eu3⟩ : ∃ z : UH, z = uNew u x1.toNatClampNeg (.inl (4, x1.toNatClampNeg, .inr (.inr (.inr (.inr (fun _ => none)))))) := ⟨_, rfl⟩
    have h := mlet_at eu3 h
    have zu3 : u3.1 = u.1 + 1 ∧ u3.2.1 = u.2.1 + x1.toNatClampNeg := by rw [eu3]; exact ⟨rfl, rfl⟩
    have hq := zz_J10_copyOf_3_10 (G := G) N u3 x0 x1 (some a5) h
    exact ⟨by omega, by omega⟩
  · have h := mif_f c2 h
    cases h
set_option maxHeartbeats 4000000 in
set_option maxRecDepth 100000 in
theorem w_J10_copyOf_3_0 {p : Program} {l : Launch} {e : Env} {R : Room} {s : State} {m : MethodId} {args : Array Value} {below : List Frame} {meth : Method} {c : Code} {G : uG} {u0 : UH} {uf : UH} {r : Option Nat} (hC : uC p s m args meth c G RJ10 cJ10_copyOf_3 4 (some (.array (.object "java/lang/Object")))) (hR : 1 ≤ R.frames ∧ 60 ≤ R.locals) (hRm : uf.1 - u0.1 ≤ R.cells ∧ uf.2.1 - u0.2.1 ≤ R.slots) (N : Nat) (u : UH) (x0 : Option Nat) (x1 : Int32) (x2 : Option Nat) (h : f_J10_copyOf_3 N (ub G) (ug G) u x0 x1 x2 = some (r, uf)) (hz0 : (u0.1 ≤ u.1 ∧ u0.2.1 ≤ u.2.1)) {H : Heap} {locs : List Loc} (hP : uP G u H) (hS : va_S (uA G) s.heap H locs) {ls : Array Slot} (hl : lv_has ls 4 [(0, va_rf x0), (1, .int x1), (2, va_rf x2)]) : W p l e R s m args below meth c H locs (u.1 - u0.1) (u.2.1 - u0.2.1) (MQ below (uQr G r uf) args s (uf.1 - u0.1) (uf.2.1 - u0.2.1) (uA G)) (F0 m 0 ls []) := by
  obtain ⟨⟨hx, hb, hml, hown, hts⟩, hKK⟩ := id hC
  have hzf := zz_J10_copyOf_3_0 (G := G) N u x0 x1 x2 h
  unfold f_J10_copyOf_3 at h
  refine u_aload_n (r := x2) hx hb dJ10_copyOf_3_0 rfl (lv_at hl 2 rfl) ?_
  refine u_ldcM hC q987 dJ10_copyOf_3_1 ?_
  obtain ⟨o1, eo1⟩ : ∃ z, z = (ug G).1 20 := ⟨_, rfl⟩
  have h := mlet_at eo1 h
  rw [← eo1]
  refine lv_acmp_ne (rx := x2) (ry := o1) (tgt := 13) hx hb dJ10_copyOf_3_3 (by decide) (fun c2 => ?_) (fun c2 => ?_)
  · have h := mif_f c2 h
    refine u_aload_n (r := x2) hx hb dJ10_copyOf_3_13 rfl (lv_at hl 2 rfl) ?_
    cases h
  · have h := mif_t c2 h
    refine lv_iload_n hx hb dJ10_copyOf_3_6 rfl (lv_at hl 1 rfl) ?_
    obtain ⟨c4, h⟩ := mif_n h
    obtain ⟨a5, ea5⟩ : ∃ z : Nat, z = u.1 := ⟨_, rfl⟩
    have h := mlet_at ea5 h
    obtain ⟨u3, eu3⟩ : ∃ z : UH, z = uNew u x1.toNatClampNeg (.inl (4, x1.toNatClampNeg, .inr (.inr (.inr (.inr (fun _ => none)))))) := ⟨_, rfl⟩
    have h := mlet_at eu3 h
    have zu3 : u3.1 = u.1 + 1 ∧ u3.2.1 = u.2.1 + x1.toNatClampNeg := by rw [eu3]; exact ⟨rfl, rfl⟩
    have hq := zz_J10_copyOf_3_10 (G := G) N u3 x0 x1 (some a5) h
    refine u_anew hC hP hS (t := 4) q989 hC.2.1.2.2.2.1 rfl (N := x1.toNatClampNeg) c4.1 rfl (by have := c4.2; omega) (by omega) (by omega) dJ10_copyOf_3_7 (fun H hP hS => ?_)
    rw [← eu3] at hP
    rw [← ea5]
    refine W.cs (cells' := u3.1 - u0.1) (slots' := u3.2.1 - u0.2.1) (by omega) (by omega) ?_
    refine W.cs (cells' := u3.1 - u0.1) (slots' := u3.2.1 - u0.2.1) (by omega) (by omega) ?_
    exact w_J10_copyOf_3_10 hC hR hRm N u3 x0 x1 (some a5) h ⟨by omega, by omega⟩ hP hS (lv_sub hl [0, 1] rfl)
theorem zz_J10_copyOf_3 (N b : Nat) (g : uEnv) (u : UH) (x0 : Option Nat) (x1 : Int32) (x2 : Option Nat) (r : Option Nat) (uf : UH) (h : f_J10_copyOf_3 N b g u x0 x1 x2 = some (r, uf)) : u.1 ≤ uf.1 ∧ u.2.1 ≤ uf.2.1 :=
  zz_J10_copyOf_3_0 (G := ((fun _ => 0, fun _ _ => 0), fun _ => 0, b, g)) N u x0 x1 x2 h
theorem met_J10_copyOf_3 (l : Launch) (N : Nat) (G : uG) (u : UH) (x0 : Option Nat) (x1 : Int32) (x2 : Option Nat) (r : Option Nat) (uf : UH) (h : f_J10_copyOf_3 N (ub G) (ug G) u x0 x1 x2 = some (r, uf)) : Met l yJ10_copyOf_3 (ws_ yJ10_copyOf_3 cJ10_copyOf_3 4 (some (.array (.object "java/lang/Object")))) ({ frames := 1, cells := (uf.1 - u.1), slots := (uf.2.1 - u.2.1), locals := 60 }) (uPc G u [va_rf x0, .int x1, va_rf x2]) (uQr G r uf) (uf.1 - u.1) (uf.2.1 - u.2.1) (uA G) := by
  rcases x0 with _ | x0 <;> rcases x2 with _ | x2 <;> exact u_met (own := RJ10) (by decide +kernel) rfl (Nat.le_of_ble_eq_true rfl) (fun hC hn hsz ls hl hP => W.cs (Nat.sub_self _).symm (Nat.sub_self _).symm (w_J10_copyOf_3_0 hC ⟨Nat.le_refl _, Nat.le_refl _⟩ ⟨Nat.le_refl _, Nat.le_refl _⟩ N u _ x1 _ h ⟨Nat.le_refl _, Nat.le_refl _⟩ hP va_S.rf hl))
def f_J10_copyOf_2_9 (N b : Nat) (g : uEnv) (u : UH) (s0 : Option Nat) : Option (Option Nat × UH) :=
    some (s0, u)
set_option maxHeartbeats 4000000 in
set_option maxRecDepth 100000 in
theorem zz_J10_copyOf_2_9 {G : uG} {uf : UH} {r : Option Nat} (N : Nat) (u : UH) (s0 : Option Nat) (h : f_J10_copyOf_2_9 N (ub G) (ug G) u s0 = some (r, uf)) : u.1 ≤ uf.1 ∧ u.2.1 ≤ uf.2.1 := by
  unfold f_J10_copyOf_2_9 at h
  obtain ⟨hr1, hr2⟩ := uret_n h
  subst hr2
  exact ⟨by omega, by omega⟩
set_option maxHeartbeats 4000000 in
set_option maxRecDepth 100000 in
theorem w_J10_copyOf_2_9 {p : Program} {l : Launch} {e : Env} {R : Room} {s : State} {m : MethodId} {args : Array Value} {below : List Frame} {meth : Method} {c : Code} {G : uG} {u0 : UH} {uf : UH} {r : Option Nat} (hC : uC p s m args meth c G RJ10 cJ10_copyOf_2 2 (some (.array (.object "java/lang/Object")))) (hR : 2 ≤ R.frames ∧ 83 ≤ R.locals) (hRm : uf.1 - u0.1 ≤ R.cells ∧ uf.2.1 - u0.2.1 ≤ R.slots) (N : Nat) (u : UH) (s0 : Option Nat) (h : f_J10_copyOf_2_9 N (ub G) (ug G) u s0 = some (r, uf)) (hz0 : (u0.1 ≤ u.1 ∧ u0.2.1 ≤ u.2.1)) {H : Heap} {locs : List Loc} (hP : uP G u H) (hS : va_S (uA G) s.heap H locs) {ls : Array Slot} (hl : lv_has ls 2 []) : W p l e R s m args below meth c H locs (u.1 - u0.1) (u.2.1 - u0.2.1) (MQ below (uQr G r uf) args s (uf.1 - u0.1) (uf.2.1 - u0.2.1) (uA G)) (F0 m 9 ls [va_rf s0]) := by
  obtain ⟨⟨hx, hb, hml, hown, hts⟩, hKK⟩ := id hC
  have hzf := zz_J10_copyOf_2_9 (G := G) N u s0 h
  unfold f_J10_copyOf_2_9 at h
  obtain ⟨hr1, hr2⟩ := uret_n h
  subst hr1
  subst hr2
  exact u_aret hC (Or.inr ⟨_, rfl⟩) hP hS dJ10_copyOf_2_9
def f_J10_copyOf_2 (N b : Nat) (g : uEnv) (u : UH) (x0 : Option Nat) (x1 : Int32) : Option (Option Nat × UH) :=
    (x0).bind fun a1 =>
    if uIsA u a1 4 = true then
    mlet (g.1 20) fun o3 =>
    ucall (f_J10_copyOf_3 N b g u (some a1) x1 o3) fun o6 u4 =>
    f_J10_copyOf_2_9 N b g u4 o6
    else none
set_option maxHeartbeats 4000000 in
set_option maxRecDepth 100000 in
theorem zz_J10_copyOf_2_0 {G : uG} {uf : UH} {r : Option Nat} (N : Nat) (u : UH) (x0 : Option Nat) (x1 : Int32) (h : f_J10_copyOf_2 N (ub G) (ug G) u x0 x1 = some (r, uf)) : u.1 ≤ uf.1 ∧ u.2.1 ≤ uf.2.1 := by
  unfold f_J10_copyOf_2 at h
  obtain ⟨a1, ha1, hha1⟩ := mbind_n h
  subst ha1
  have h := hha1
  obtain ⟨c2, h⟩ := mif_n h
  obtain ⟨o3, eo3⟩ : ∃ z, z = (ug G).1 20 := ⟨_, rfl⟩
  have h := mlet_at eo3 h
  obtain ⟨o6, u4, c5, h⟩ := ucall_n h
  have zu4 := zz_J10_copyOf_3 N (ub G) (ug G) u (some a1) x1 o3 o6 u4 c5
  have hq := zz_J10_copyOf_2_9 (G := G) N u4 o6 h
  exact ⟨by omega, by omega⟩
set_option maxHeartbeats 4000000 in
set_option maxRecDepth 100000 in
theorem w_J10_copyOf_2_0 {p : Program} {l : Launch} {e : Env} {R : Room} {s : State} {m : MethodId} {args : Array Value} {below : List Frame} {meth : Method} {c : Code} {G : uG} {u0 : UH} {uf : UH} {r : Option Nat} (hC : uC p s m args meth c G RJ10 cJ10_copyOf_2 2 (some (.array (.object "java/lang/Object")))) (hR : 2 ≤ R.frames ∧ 83 ≤ R.locals) (hRm : uf.1 - u0.1 ≤ R.cells ∧ uf.2.1 - u0.2.1 ≤ R.slots) (N : Nat) (u : UH) (x0 : Option Nat) (x1 : Int32) (h : f_J10_copyOf_2 N (ub G) (ug G) u x0 x1 = some (r, uf)) (hz0 : (u0.1 ≤ u.1 ∧ u0.2.1 ≤ u.2.1)) {H : Heap} {locs : List Loc} (hP : uP G u H) (hS : va_S (uA G) s.heap H locs) {ls : Array Slot} (hl : lv_has ls 2 [(0, va_rf x0), (1, .int x1)]) : W p l e R s m args below meth c H locs (u.1 - u0.1) (u.2.1 - u0.2.1) (MQ below (uQr G r uf) args s (uf.1 - u0.1) (uf.2.1 - u0.2.1) (uA G)) (F0 m 0 ls []) := by
  obtain ⟨⟨hx, hb, hml, hown, hts⟩, hKK⟩ := id hC
  have hzf := zz_J10_copyOf_2_0 (G := G) N u x0 x1 h
  unfold f_J10_copyOf_2 at h
  refine u_aload_n (r := x0) hx hb dJ10_copyOf_2_0 rfl (lv_at hl 0 rfl) ?_
  refine lv_iload_n hx hb dJ10_copyOf_2_1 rfl (lv_at hl 1 rfl) ?_
  refine u_aload_n (r := x0) hx hb dJ10_copyOf_2_2 rfl (lv_at hl 0 rfl) ?_
  obtain ⟨a1, ha1, hha1⟩ := mbind_n h
  subst ha1
  have h := hha1
  obtain ⟨c2, h⟩ := mif_n h
  refine u_getC hC hP c2 q954 hl.1 (Nat.le_trans (Nat.le_of_ble_eq_true rfl) hR.1) (Nat.le_trans (by simp only [List.map, u_cat]; exact Nat.le_of_ble_eq_true rfl) hR.2) dJ10_copyOf_2_3 ?_
  obtain ⟨o3, eo3⟩ : ∃ z, z = (ug G).1 20 := ⟨_, rfl⟩
  have h := mlet_at eo3 h
  rw [← eo3]
  obtain ⟨o6, u4, c5, h⟩ := ucall_n h
  have zu4 := zz_J10_copyOf_3 N (ub G) (ug G) u (some a1) x1 o3 o6 u4 c5
  have hq := zz_J10_copyOf_2_9 (G := G) N u4 o6 h
  refine u_callr (va_runS (As := [va_rf (some a1), .int x1, va_rf o3]) (rest := []) hC.1 (met_J10_copyOf_3 l N G u (some a1) x1 o3 o6 u4 c5) (va_cwS 3 hts (lw_S q984 q985 q114 q986) rfl rfl rfl (by decide +kernel) ⟨Nat.le_trans (Nat.le_of_ble_eq_true rfl) hR.1, Nat.le_trans (Nat.le_of_ble_eq_true rfl) hR.2⟩) ⟨uPc_blind, fun U hU hW => u_pre hC hP hS hU hW⟩ rfl rfl hl.1 rfl (lv_room (Nat.le_of_ble_eq_true rfl)) dJ10_copyOf_2_6 ⟨by omega, by omega⟩) hS (fun H locs hP hS => ?_)
  refine W.cs (cells' := u4.1 - u0.1) (slots' := u4.2.1 - u0.2.1) (by omega) (by omega) ?_
  refine W.cs (cells' := u4.1 - u0.1) (slots' := u4.2.1 - u0.2.1) (by omega) (by omega) ?_
  exact w_J10_copyOf_2_9 hC hR hRm N u4 o6 h ⟨by omega, by omega⟩ hP hS (lv_sub hl [] rfl)
theorem zz_J10_copyOf_2 (N b : Nat) (g : uEnv) (u : UH) (x0 : Option Nat) (x1 : Int32) (r : Option Nat) (uf : UH) (h : f_J10_copyOf_2 N b g u x0 x1 = some (r, uf)) : u.1 ≤ uf.1 ∧ u.2.1 ≤ uf.2.1 :=
  zz_J10_copyOf_2_0 (G := ((fun _ => 0, fun _ _ => 0), fun _ => 0, b, g)) N u x0 x1 h
theorem met_J10_copyOf_2 (l : Launch) (N : Nat) (G : uG) (u : UH) (x0 : Option Nat) (x1 : Int32) (r : Option Nat) (uf : UH) (h : f_J10_copyOf_2 N (ub G) (ug G) u x0 x1 = some (r, uf)) : Met l yJ10_copyOf_2 (ws_ yJ10_copyOf_2 cJ10_copyOf_2 2 (some (.array (.object "java/lang/Object")))) ({ frames := 2, cells := (uf.1 - u.1), slots := (uf.2.1 - u.2.1), locals := 83 }) (uPc G u [va_rf x0, .int x1]) (uQr G r uf) (uf.1 - u.1) (uf.2.1 - u.2.1) (uA G) := by
  rcases x0 with _ | x0 <;> exact u_met (own := RJ10) (by decide +kernel) rfl (Nat.le_of_ble_eq_true rfl) (fun hC hn hsz ls hl hP => W.cs (Nat.sub_self _).symm (Nat.sub_self _).symm (w_J10_copyOf_2_0 hC ⟨Nat.le_refl _, Nat.le_refl _⟩ ⟨Nat.le_refl _, Nat.le_refl _⟩ N u _ x1 h ⟨Nat.le_refl _, Nat.le_refl _⟩ hP va_S.rf hl))
def f_J2_grow_2_40 (N b : Nat) (g : uEnv) (a0 : Nat) (u : UH) (s0 : Option Nat) (s1 : Option Nat) : Option (Option Nat × UH) :=
    (s1).bind fun a1 =>
    (uPut b u a1 18 1 (va_rf s0)).bind fun u2 =>
    some (s0, u2)
set_option maxHeartbeats 4000000 in
set_option maxRecDepth 100000 in
theorem zz_J2_grow_2_40 {G : uG} {a0 : Nat} {uf : UH} {r : Option Nat} (N : Nat) (u : UH) (s0 : Option Nat) (s1 : Option Nat) (h : f_J2_grow_2_40 N (ub G) (ug G) a0 u s0 s1 = some (r, uf)) : u.1 ≤ uf.1 ∧ u.2.1 ≤ uf.2.1 := by
  unfold f_J2_grow_2_40 at h
  obtain ⟨a1, ha1, hha1⟩ := mbind_n h
  subst ha1
  have h := hha1
  obtain ⟨u2, hu2, h⟩ := mbind_n h
  have zu2 := uPut_sz hu2
  obtain ⟨hr1, hr2⟩ := uret_n h
  subst hr2
  exact ⟨by omega, by omega⟩
set_option maxHeartbeats 4000000 in
set_option maxRecDepth 100000 in
theorem w_J2_grow_2_40 {p : Program} {l : Launch} {e : Env} {R : Room} {s : State} {m : MethodId} {args : Array Value} {below : List Frame} {meth : Method} {c : Code} {G : uG} {a0 : Nat} {u0 : UH} {uf : UH} {r : Option Nat} (hC : uC p s m args meth c G RJ2 cJ2_grow_2 4 (some (.array (.object "java/lang/Object")))) (hR : 3 ≤ R.frames ∧ 104 ≤ R.locals) (hRm : uf.1 - u0.1 ≤ R.cells ∧ uf.2.1 - u0.2.1 ≤ R.slots) (N : Nat) (u : UH) (s0 : Option Nat) (s1 : Option Nat) (h : f_J2_grow_2_40 N (ub G) (ug G) a0 u s0 s1 = some (r, uf)) (hz0 : (u0.1 ≤ u.1 ∧ u0.2.1 ≤ u.2.1)) {H : Heap} {locs : List Loc} (hP : uP G u H) (hS : va_S (uA G) s.heap H locs) {ls : Array Slot} (hl : lv_has ls 4 []) : W p l e R s m args below meth c H locs (u.1 - u0.1) (u.2.1 - u0.2.1) (MQ below (uQr G r uf) args s (uf.1 - u0.1) (uf.2.1 - u0.2.1) (uA G)) (F0 m 40 ls [va_rf s0, va_rf s1]) := by
  obtain ⟨⟨hx, hb, hml, hown, hts⟩, hKK⟩ := id hC
  have hzf := zz_J2_grow_2_40 (G := G) (a0 := a0) N u s0 s1 h
  unfold f_J2_grow_2_40 at h
  refine lv_dup_x1 hx hb dJ2_grow_2_40 (u_cat _) (u_cat _) ?_
  obtain ⟨a1, ha1, hha1⟩ := mbind_n h
  subst ha1
  have h := hha1
  obtain ⟨u2, hu2, h⟩ := mbind_n h
  have zu2 := uPut_sz hu2
  refine u_put hC hP hS hu2 rfl in_J2 tyJ2 tyJ2_ok nmJ2 (by decide) q203 (fun _ h => h) rfl (ty := (.array (.object "java/lang/Object"))) (tyJ2_ok 1 (by decide)) (uNarA _ s0).1 (uNarA _ s0).2 dJ2_grow_2_41 (fun H locs hP hS => ?_)
  refine W.cs (cells' := u2.1 - u0.1) (slots' := u2.2.1 - u0.2.1) (by omega) (by omega) ?_
  obtain ⟨hr1, hr2⟩ := uret_n h
  subst hr1
  subst hr2
  exact u_aret hC (Or.inr ⟨_, rfl⟩) hP hS dJ2_grow_2_44
def f_J2_grow_2_20 (N b : Nat) (g : uEnv) (a0 : Nat) (u : UH) (x1 : Int32) (x2 : Int32) : Option (Option Nat × UH) :=
    ucall (f_J8_newLength N b g u x2 (x1 - x2) (x2 >>> (1 &&& 31))) fun r3 u1 =>
    (uGR u1 a0 18 1).bind fun o4 =>
    ucall (f_J10_copyOf_2 N b g u1 o4 r3) fun o7 u5 =>
    f_J2_grow_2_40 N b g a0 u5 o7 (some a0)
set_option maxHeartbeats 4000000 in
set_option maxRecDepth 100000 in
theorem zz_J2_grow_2_20 {G : uG} {a0 : Nat} {uf : UH} {r : Option Nat} (N : Nat) (u : UH) (x1 : Int32) (x2 : Int32) (h : f_J2_grow_2_20 N (ub G) (ug G) a0 u x1 x2 = some (r, uf)) : u.1 ≤ uf.1 ∧ u.2.1 ≤ uf.2.1 := by
  unfold f_J2_grow_2_20 at h
  obtain ⟨r3, u1, c2, h⟩ := ucall_n h
  have zu1 := zz_J8_newLength N (ub G) (ug G) u x2 (x1 - x2) (x2 >>> (1 &&& 31)) r3 u1 c2
  obtain ⟨o4, ho4, h⟩ := mbind_n h
  obtain ⟨o7, u5, c6, h⟩ := ucall_n h
  have zu5 := zz_J10_copyOf_2 N (ub G) (ug G) u1 o4 r3 o7 u5 c6
  have hq := zz_J2_grow_2_40 (G := G) (a0 := a0) N u5 o7 (some a0) h
  exact ⟨by omega, by omega⟩
set_option maxHeartbeats 4000000 in
set_option maxRecDepth 100000 in
theorem w_J2_grow_2_20 {p : Program} {l : Launch} {e : Env} {R : Room} {s : State} {m : MethodId} {args : Array Value} {below : List Frame} {meth : Method} {c : Code} {G : uG} {a0 : Nat} {u0 : UH} {uf : UH} {r : Option Nat} (hC : uC p s m args meth c G RJ2 cJ2_grow_2 4 (some (.array (.object "java/lang/Object")))) (hR : 3 ≤ R.frames ∧ 104 ≤ R.locals) (hRm : uf.1 - u0.1 ≤ R.cells ∧ uf.2.1 - u0.2.1 ≤ R.slots) (N : Nat) (u : UH) (x1 : Int32) (x2 : Int32) (h : f_J2_grow_2_20 N (ub G) (ug G) a0 u x1 x2 = some (r, uf)) (hz0 : (u0.1 ≤ u.1 ∧ u0.2.1 ≤ u.2.1)) {H : Heap} {locs : List Loc} (hP : uP G u H) (hS : va_S (uA G) s.heap H locs) {ls : Array Slot} (hl : lv_has ls 4 [(0, va_rf (some a0)), (1, .int x1), (2, .int x2)]) : W p l e R s m args below meth c H locs (u.1 - u0.1) (u.2.1 - u0.2.1) (MQ below (uQr G r uf) args s (uf.1 - u0.1) (uf.2.1 - u0.2.1) (uA G)) (F0 m 20 ls []) := by
  obtain ⟨⟨hx, hb, hml, hown, hts⟩, hKK⟩ := id hC
  have hzf := zz_J2_grow_2_20 (G := G) (a0 := a0) N u x1 x2 h
  unfold f_J2_grow_2_20 at h
  refine lv_iload_n hx hb dJ2_grow_2_20 rfl (lv_at hl 2 rfl) ?_
  refine lv_iload_n hx hb dJ2_grow_2_21 rfl (lv_at hl 1 rfl) ?_
  refine lv_iload_n hx hb dJ2_grow_2_22 rfl (lv_at hl 2 rfl) ?_
  refine lv_isub hx hb dJ2_grow_2_23 ?_
  refine lv_iload_n hx hb dJ2_grow_2_24 rfl (lv_at hl 2 rfl) ?_
  refine lv_iconst (v := 1) hx hb dJ2_grow_2_25 (by decide) ?_
  refine lv_ishr hx hb dJ2_grow_2_26 ?_
  obtain ⟨r3, u1, c2, h⟩ := ucall_n h
  have zu1 := zz_J8_newLength N (ub G) (ug G) u x2 (x1 - x2) (x2 >>> (1 &&& 31)) r3 u1 c2
  refine u_calli (va_runS (As := [.int x2, .int (x1 - x2), .int (x2 >>> (1 &&& 31))]) (rest := []) hC.1 (met_J8_newLength l N G u x2 (x1 - x2) (x2 >>> (1 &&& 31)) r3 u1 c2) (va_cwS 3 hts (lw_S q950 q405 q112 q406) rfl rfl rfl (by decide +kernel) ⟨Nat.le_trans (Nat.le_of_ble_eq_true rfl) hR.1, Nat.le_trans (Nat.le_of_ble_eq_true rfl) hR.2⟩) ⟨uPc_blind, fun U hU hW => u_pre hC hP hS hU hW⟩ rfl rfl hl.1 rfl (lv_room (Nat.le_of_ble_eq_true rfl)) dJ2_grow_2_27 ⟨by omega, by omega⟩) hS (fun H locs hP hS => ?_)
  refine W.cs (cells' := u1.1 - u0.1) (slots' := u1.2.1 - u0.2.1) (by omega) (by omega) ?_
  refine lv_istore_n (i := 3) (lv' := [(3, .int r3), (0, va_rf (some a0)), (1, .int x1), (2, .int x2)]) hx hb dJ2_grow_2_30 rfl hl (by decide) rfl (fun ls hl => ?_)
  refine u_aload_n (r := some a0) hx hb dJ2_grow_2_31 rfl (lv_at hl 1 rfl) ?_
  refine u_aload_n (r := some a0) hx hb dJ2_grow_2_32 rfl (lv_at hl 1 rfl) ?_
  obtain ⟨o4, ho4, h⟩ := mbind_n h
  refine u_get hC hP (uGR_n ho4) rfl in_J2 (by decide) q203 (fun _ h => h) dJ2_grow_2_33 ?_
  refine lv_iload_n hx hb dJ2_grow_2_36 rfl (lv_at hl 0 rfl) ?_
  obtain ⟨o7, u5, c6, h⟩ := ucall_n h
  have zu5 := zz_J10_copyOf_2 N (ub G) (ug G) u1 o4 r3 o7 u5 c6
  have hq := zz_J2_grow_2_40 (G := G) (a0 := a0) N u5 o7 (some a0) h
  refine u_callr (va_runS (As := [va_rf o4, .int r3]) (rest := [va_rf (some a0)]) hC.1 (met_J10_copyOf_2 l N G u1 o4 r3 o7 u5 c6) (va_cwS 2 hts (lw_S q951 q952 q114 q953) rfl rfl rfl (by decide +kernel) ⟨Nat.le_trans (Nat.le_of_ble_eq_true rfl) hR.1, Nat.le_trans (Nat.le_of_ble_eq_true rfl) hR.2⟩) ⟨uPc_blind, fun U hU hW => u_pre hC hP hS hU hW⟩ rfl rfl hl.1 rfl (lv_room (Nat.le_of_ble_eq_true rfl)) dJ2_grow_2_37 ⟨by omega, by omega⟩) hS (fun H locs hP hS => ?_)
  refine W.cs (cells' := u5.1 - u0.1) (slots' := u5.2.1 - u0.2.1) (by omega) (by omega) ?_
  refine W.cs (cells' := u5.1 - u0.1) (slots' := u5.2.1 - u0.2.1) (by omega) (by omega) ?_
  exact w_J2_grow_2_40 hC hR hRm N u5 o7 (some a0) h ⟨by omega, by omega⟩ hP hS (lv_sub hl [] rfl)
def f_J2_grow_2_55 (N b : Nat) (g : uEnv) (a0 : Nat) (u : UH) (s0 : Option Nat) (s1 : Option Nat) : Option (Option Nat × UH) :=
    (s1).bind fun a1 =>
    (uPut b u a1 18 1 (va_rf s0)).bind fun u2 =>
    some (s0, u2)
set_option maxHeartbeats 4000000 in
set_option maxRecDepth 100000 in
theorem zz_J2_grow_2_55 {G : uG} {a0 : Nat} {uf : UH} {r : Option Nat} (N : Nat) (u : UH) (s0 : Option Nat) (s1 : Option Nat) (h : f_J2_grow_2_55 N (ub G) (ug G) a0 u s0 s1 = some (r, uf)) : u.1 ≤ uf.1 ∧ u.2.1 ≤ uf.2.1 := by
  unfold f_J2_grow_2_55 at h
  obtain ⟨a1, ha1, hha1⟩ := mbind_n h
  subst ha1
  have h := hha1
  obtain ⟨u2, hu2, h⟩ := mbind_n h
  have zu2 := uPut_sz hu2
  obtain ⟨hr1, hr2⟩ := uret_n h
  subst hr2
  exact ⟨by omega, by omega⟩
set_option maxHeartbeats 4000000 in
set_option maxRecDepth 100000 in
theorem w_J2_grow_2_55 {p : Program} {l : Launch} {e : Env} {R : Room} {s : State} {m : MethodId} {args : Array Value} {below : List Frame} {meth : Method} {c : Code} {G : uG} {a0 : Nat} {u0 : UH} {uf : UH} {r : Option Nat} (hC : uC p s m args meth c G RJ2 cJ2_grow_2 4 (some (.array (.object "java/lang/Object")))) (hR : 3 ≤ R.frames ∧ 104 ≤ R.locals) (hRm : uf.1 - u0.1 ≤ R.cells ∧ uf.2.1 - u0.2.1 ≤ R.slots) (N : Nat) (u : UH) (s0 : Option Nat) (s1 : Option Nat) (h : f_J2_grow_2_55 N (ub G) (ug G) a0 u s0 s1 = some (r, uf)) (hz0 : (u0.1 ≤ u.1 ∧ u0.2.1 ≤ u.2.1)) {H : Heap} {locs : List Loc} (hP : uP G u H) (hS : va_S (uA G) s.heap H locs) {ls : Array Slot} (hl : lv_has ls 4 []) : W p l e R s m args below meth c H locs (u.1 - u0.1) (u.2.1 - u0.2.1) (MQ below (uQr G r uf) args s (uf.1 - u0.1) (uf.2.1 - u0.2.1) (uA G)) (F0 m 55 ls [va_rf s0, va_rf s1]) := by
  obtain ⟨⟨hx, hb, hml, hown, hts⟩, hKK⟩ := id hC
  have hzf := zz_J2_grow_2_55 (G := G) (a0 := a0) N u s0 s1 h
  unfold f_J2_grow_2_55 at h
  refine lv_dup_x1 hx hb dJ2_grow_2_55 (u_cat _) (u_cat _) ?_
  obtain ⟨a1, ha1, hha1⟩ := mbind_n h
  subst ha1
  have h := hha1
  obtain ⟨u2, hu2, h⟩ := mbind_n h
  have zu2 := uPut_sz hu2
  refine u_put hC hP hS hu2 rfl in_J2 tyJ2 tyJ2_ok nmJ2 (by decide) q203 (fun _ h => h) rfl (ty := (.array (.object "java/lang/Object"))) (tyJ2_ok 1 (by decide)) (uNarA _ s0).1 (uNarA _ s0).2 dJ2_grow_2_56 (fun H locs hP hS => ?_)
  refine W.cs (cells' := u2.1 - u0.1) (slots' := u2.2.1 - u0.2.1) (by omega) (by omega) ?_
  obtain ⟨hr1, hr2⟩ := uret_n h
  subst hr1
  subst hr2
  exact u_aret hC (Or.inr ⟨_, rfl⟩) hP hS dJ2_grow_2_59
def f_J2_grow_2 (N b : Nat) (g : uEnv) (u : UH) (a0 : Nat) (x1 : Int32) : Option (Option Nat × UH) :=
    (uGR u a0 18 1).bind fun o1 =>
    (o1).bind fun a2 =>
    (uLen u a2 4).bind fun y3 =>
    if 0 < y3 then
    f_J2_grow_2_20 N b g a0 u x1 y3
    else
    (uGR u a0 18 1).bind fun o5 =>
    mlet (g.1 10) fun o6 =>
    if o5 = o6 then
    ucall (f_J9_max N b g u 10 x1) fun r10 u8 =>
    if ¬ r10 < 0 ∧ r10.toNatClampNeg ≤ 60000000 then
    mlet (u8.1) fun a13 =>
    mlet (uNew u8 r10.toNatClampNeg (.inl (4, r10.toNatClampNeg, .inr (.inr (.inr (.inr (fun _ => none))))))) fun u11 =>
    f_J2_grow_2_55 N b g a0 u11 (some a13) (some a0)
    else none
    else
    f_J2_grow_2_20 N b g a0 u x1 y3
set_option maxHeartbeats 4000000 in
set_option maxRecDepth 100000 in
theorem zz_J2_grow_2_0 {G : uG} {a0 : Nat} {uf : UH} {r : Option Nat} (N : Nat) (u : UH) (x1 : Int32) (h : f_J2_grow_2 N (ub G) (ug G) u a0 x1 = some (r, uf)) : u.1 ≤ uf.1 ∧ u.2.1 ≤ uf.2.1 := by
  unfold f_J2_grow_2 at h
  obtain ⟨o1, ho1, h⟩ := mbind_n h
  obtain ⟨a2, ha2, hha2⟩ := mbind_n h
  subst ha2
  have h := hha2
  obtain ⟨y3, hy3, h⟩ := mbind_n h
  by_cases c4 : 0 < y3
  · have h := mif_t c4 h
    have hq := zz_J2_grow_2_20 (G := G) (a0 := a0) N u x1 y3 h
    exact ⟨by omega, by omega⟩
  · have h := mif_f c4 h
    obtain ⟨o5, ho5, h⟩ := mbind_n h
    obtain ⟨o6, eo6⟩ : ∃ z, z = (ug G).1 10 := ⟨_, rfl⟩
    have h := mlet_at eo6 h
    by_cases c7 : o5 = o6
    · have h := mif_t c7 h
      obtain ⟨r10, u8, c9, h⟩ := ucall_n h
      have zu8 := zz_J9_max N (ub G) (ug G) u 10 x1 r10 u8 c9
      obtain ⟨c12, h⟩ := mif_n h
      obtain ⟨a13, ea13⟩ : ∃ z : Nat, z = u8.1 := ⟨_, rfl⟩
      have h := mlet_at ea13 h
      obtain ⟨u11, eu11⟩ : ∃ z : UH, z = uNew u8 r10.toNatClampNeg (.inl (4, r10.toNatClampNeg, .inr (.inr (.inr (.inr (fun _ => none)))))) := ⟨_, rfl⟩
      have h := mlet_at eu11 h
      have zu11 : u11.1 = u8.1 + 1 ∧ u11.2.1 = u8.2.1 + r10.toNatClampNeg := by rw [eu11]; exact ⟨rfl, rfl⟩
      have hq := zz_J2_grow_2_55 (G := G) (a0 := a0) N u11 (some a13) (some a0) h
      exact ⟨by omega, by omega⟩
    · have h := mif_f c7 h
      have hq := zz_J2_grow_2_20 (G := G) (a0 := a0) N u x1 y3 h
      exact ⟨by omega, by omega⟩
set_option maxHeartbeats 4000000 in
set_option maxRecDepth 100000 in
theorem w_J2_grow_2_0 {p : Program} {l : Launch} {e : Env} {R : Room} {s : State} {m : MethodId} {args : Array Value} {below : List Frame} {meth : Method} {c : Code} {G : uG} {a0 : Nat} {u0 : UH} {uf : UH} {r : Option Nat} (hC : uC p s m args meth c G RJ2 cJ2_grow_2 4 (some (.array (.object "java/lang/Object")))) (hR : 3 ≤ R.frames ∧ 104 ≤ R.locals) (hRm : uf.1 - u0.1 ≤ R.cells ∧ uf.2.1 - u0.2.1 ≤ R.slots) (N : Nat) (u : UH) (x1 : Int32) (h : f_J2_grow_2 N (ub G) (ug G) u a0 x1 = some (r, uf)) (hz0 : (u0.1 ≤ u.1 ∧ u0.2.1 ≤ u.2.1)) {H : Heap} {locs : List Loc} (hP : uP G u H) (hS : va_S (uA G) s.heap H locs) {ls : Array Slot} (hl : lv_has ls 4 [(0, va_rf (some a0)), (1, .int x1)]) : W p l e R s m args below meth c H locs (u.1 - u0.1) (u.2.1 - u0.2.1) (MQ below (uQr G r uf) args s (uf.1 - u0.1) (uf.2.1 - u0.2.1) (uA G)) (F0 m 0 ls []) := by
  obtain ⟨⟨hx, hb, hml, hown, hts⟩, hKK⟩ := id hC
  have hzf := zz_J2_grow_2_0 (G := G) (a0 := a0) N u x1 h
  unfold f_J2_grow_2 at h
  refine u_aload_n (r := some a0) hx hb dJ2_grow_2_0 rfl (lv_at hl 0 rfl) ?_
  obtain ⟨o1, ho1, h⟩ := mbind_n h
  refine u_get hC hP (uGR_n ho1) rfl in_J2 (by decide) q203 (fun _ h => h) dJ2_grow_2_1 ?_
  obtain ⟨a2, ha2, hha2⟩ := mbind_n h
  subst ha2
  have h := hha2
  obtain ⟨y3, hy3, h⟩ := mbind_n h
  refine u_alen hC hP hy3 dJ2_grow_2_4 ?_
  refine lv_istore_n (i := 2) (lv' := [(2, .int y3), (0, va_rf (some a0)), (1, .int x1)]) hx hb dJ2_grow_2_5 rfl hl (by decide) rfl (fun ls hl => ?_)
  refine lv_iload_n hx hb dJ2_grow_2_6 rfl (lv_at hl 0 rfl) ?_
  refine lv_if_gt (tgt := 20) hx hb dJ2_grow_2_7 (by decide) (fun c4 => ?_) (fun c4 => ?_)
  · have h := mif_t c4 h
    refine W.cs (cells' := u.1 - u0.1) (slots' := u.2.1 - u0.2.1) (by omega) (by omega) ?_
    exact w_J2_grow_2_20 hC hR hRm N u x1 y3 h ⟨by omega, by omega⟩ hP hS (lv_sub hl [1, 2, 0] rfl)
  · have h := mif_f c4 h
    refine u_aload_n (r := some a0) hx hb dJ2_grow_2_10 rfl (lv_at hl 1 rfl) ?_
    obtain ⟨o5, ho5, h⟩ := mbind_n h
    refine u_get hC hP (uGR_n ho5) rfl in_J2 (by decide) q203 (fun _ h => h) dJ2_grow_2_11 ?_
    refine u_gets hC hS 10 rfl q201 (fun _ h => h) dJ2_grow_2_14 ?_
    obtain ⟨o6, eo6⟩ : ∃ z, z = (ug G).1 10 := ⟨_, rfl⟩
    have h := mlet_at eo6 h
    rw [← eo6]
    refine lv_acmp_eq (rx := o5) (ry := o6) (tgt := 45) hx hb dJ2_grow_2_17 (by decide) (fun c7 => ?_) (fun c7 => ?_)
    · have h := mif_t c7 h
      refine u_aload_n (r := some a0) hx hb dJ2_grow_2_45 rfl (lv_at hl 1 rfl) ?_
      refine lv_bipush (v := 10) hx hb dJ2_grow_2_46 (by decide) ?_
      refine lv_iload_n hx hb dJ2_grow_2_48 rfl (lv_at hl 2 rfl) ?_
      obtain ⟨r10, u8, c9, h⟩ := ucall_n h
      have zu8 := zz_J9_max N (ub G) (ug G) u 10 x1 r10 u8 c9
      refine u_calli (va_runS (As := [.int 10, .int x1]) (rest := [va_rf (some a0)]) hC.1 (met_J9_max l N G u 10 x1 r10 u8 c9) (va_cwS 2 hts (lw_S q990 q408 q113 q409) rfl rfl rfl (by decide +kernel) ⟨Nat.le_trans (Nat.le_of_ble_eq_true rfl) hR.1, Nat.le_trans (Nat.le_of_ble_eq_true rfl) hR.2⟩) ⟨uPc_blind, fun U hU hW => u_pre hC hP hS hU hW⟩ rfl rfl hl.1 rfl (lv_room (Nat.le_of_ble_eq_true rfl)) dJ2_grow_2_49 ⟨by omega, by omega⟩) hS (fun H locs hP hS => ?_)
      refine W.cs (cells' := u8.1 - u0.1) (slots' := u8.2.1 - u0.2.1) (by omega) (by omega) ?_
      obtain ⟨c12, h⟩ := mif_n h
      obtain ⟨a13, ea13⟩ : ∃ z : Nat, z = u8.1 := ⟨_, rfl⟩
      have h := mlet_at ea13 h
      obtain ⟨u11, eu11⟩ : ∃ z : UH, z = uNew u8 r10.toNatClampNeg (.inl (4, r10.toNatClampNeg, .inr (.inr (.inr (.inr (fun _ => none)))))) := ⟨_, rfl⟩
      have h := mlet_at eu11 h
      have zu11 : u11.1 = u8.1 + 1 ∧ u11.2.1 = u8.2.1 + r10.toNatClampNeg := by rw [eu11]; exact ⟨rfl, rfl⟩
      have hq := zz_J2_grow_2_55 (G := G) (a0 := a0) N u11 (some a13) (some a0) h
      refine u_anew hC hP hS (t := 4) q991 hC.2.1.2.2.2.1 rfl (N := r10.toNatClampNeg) c12.1 rfl (by have := c12.2; omega) (by omega) (by omega) dJ2_grow_2_52 (fun H hP hS => ?_)
      rw [← eu11] at hP
      rw [← ea13]
      refine W.cs (cells' := u11.1 - u0.1) (slots' := u11.2.1 - u0.2.1) (by omega) (by omega) ?_
      refine W.cs (cells' := u11.1 - u0.1) (slots' := u11.2.1 - u0.2.1) (by omega) (by omega) ?_
      exact w_J2_grow_2_55 hC hR hRm N u11 (some a13) (some a0) h ⟨by omega, by omega⟩ hP hS (lv_sub hl [] rfl)
    · have h := mif_f c7 h
      refine W.cs (cells' := u.1 - u0.1) (slots' := u.2.1 - u0.2.1) (by omega) (by omega) ?_
      exact w_J2_grow_2_20 hC hR hRm N u x1 y3 h ⟨by omega, by omega⟩ hP hS (lv_sub hl [1, 2, 0] rfl)
theorem zz_J2_grow_2 (N b : Nat) (g : uEnv) (u : UH) (a0 : Nat) (x1 : Int32) (r : Option Nat) (uf : UH) (h : f_J2_grow_2 N b g u a0 x1 = some (r, uf)) : u.1 ≤ uf.1 ∧ u.2.1 ≤ uf.2.1 :=
  zz_J2_grow_2_0 (G := ((fun _ => 0, fun _ _ => 0), fun _ => 0, b, g)) (a0 := a0) N u x1 h
theorem met_J2_grow_2 (l : Launch) (N : Nat) (G : uG) (u : UH) (a0 : Nat) (x1 : Int32) (r : Option Nat) (uf : UH) (h : f_J2_grow_2 N (ub G) (ug G) u a0 x1 = some (r, uf)) : Met l yJ2_grow_2 (ws_ yJ2_grow_2 cJ2_grow_2 4 (some (.array (.object "java/lang/Object")))) ({ frames := 3, cells := (uf.1 - u.1), slots := (uf.2.1 - u.2.1), locals := 104 }) (uPc G u [.ref a0, .int x1]) (uQr G r uf) (uf.1 - u.1) (uf.2.1 - u.2.1) (uA G) := by
  exact u_met (own := RJ2) (by decide +kernel) rfl (Nat.le_of_ble_eq_true rfl) (fun hC hn hsz ls hl hP => W.cs (Nat.sub_self _).symm (Nat.sub_self _).symm (w_J2_grow_2_0 hC ⟨Nat.le_refl _, Nat.le_refl _⟩ ⟨Nat.le_refl _, Nat.le_refl _⟩ N u x1 h ⟨Nat.le_refl _, Nat.le_refl _⟩ hP va_S.rf hl))
def f_J2_grow_10 (N b : Nat) (g : uEnv) (a0 : Nat) (u : UH) (s0 : Option Nat) : Option (Option Nat × UH) :=
    some (s0, u)
set_option maxHeartbeats 4000000 in
set_option maxRecDepth 100000 in
theorem zz_J2_grow_10 {G : uG} {a0 : Nat} {uf : UH} {r : Option Nat} (N : Nat) (u : UH) (s0 : Option Nat) (h : f_J2_grow_10 N (ub G) (ug G) a0 u s0 = some (r, uf)) : u.1 ≤ uf.1 ∧ u.2.1 ≤ uf.2.1 := by
  unfold f_J2_grow_10 at h
  obtain ⟨hr1, hr2⟩ := uret_n h
  subst hr2
  exact ⟨by omega, by omega⟩
set_option maxHeartbeats 4000000 in
set_option maxRecDepth 100000 in
theorem w_J2_grow_10 {p : Program} {l : Launch} {e : Env} {R : Room} {s : State} {m : MethodId} {args : Array Value} {below : List Frame} {meth : Method} {c : Code} {G : uG} {a0 : Nat} {u0 : UH} {uf : UH} {r : Option Nat} (hC : uC p s m args meth c G RJ2 cJ2_grow 1 (some (.array (.object "java/lang/Object")))) (hR : 4 ≤ R.frames ∧ 127 ≤ R.locals) (hRm : uf.1 - u0.1 ≤ R.cells ∧ uf.2.1 - u0.2.1 ≤ R.slots) (N : Nat) (u : UH) (s0 : Option Nat) (h : f_J2_grow_10 N (ub G) (ug G) a0 u s0 = some (r, uf)) (hz0 : (u0.1 ≤ u.1 ∧ u0.2.1 ≤ u.2.1)) {H : Heap} {locs : List Loc} (hP : uP G u H) (hS : va_S (uA G) s.heap H locs) {ls : Array Slot} (hl : lv_has ls 1 []) : W p l e R s m args below meth c H locs (u.1 - u0.1) (u.2.1 - u0.2.1) (MQ below (uQr G r uf) args s (uf.1 - u0.1) (uf.2.1 - u0.2.1) (uA G)) (F0 m 10 ls [va_rf s0]) := by
  obtain ⟨⟨hx, hb, hml, hown, hts⟩, hKK⟩ := id hC
  have hzf := zz_J2_grow_10 (G := G) (a0 := a0) N u s0 h
  unfold f_J2_grow_10 at h
  obtain ⟨hr1, hr2⟩ := uret_n h
  subst hr1
  subst hr2
  exact u_aret hC (Or.inr ⟨_, rfl⟩) hP hS dJ2_grow_10
def f_J2_grow (N b : Nat) (g : uEnv) (u : UH) (a0 : Nat) : Option (Option Nat × UH) :=
    (uGI u a0 18 2).bind fun y1 =>
    if uIs u a0 18 = true then
    ucall (f_J2_grow_2 N b g u a0 (y1 + 1)) fun o5 u3 =>
    f_J2_grow_10 N b g a0 u3 o5
    else none
set_option maxHeartbeats 4000000 in
set_option maxRecDepth 100000 in
theorem zz_J2_grow_0 {G : uG} {a0 : Nat} {uf : UH} {r : Option Nat} (N : Nat) (u : UH) (h : f_J2_grow N (ub G) (ug G) u a0 = some (r, uf)) : u.1 ≤ uf.1 ∧ u.2.1 ≤ uf.2.1 := by
  unfold f_J2_grow at h
  obtain ⟨y1, hy1, h⟩ := mbind_n h
  obtain ⟨c2, h⟩ := mif_n h
  obtain ⟨o5, u3, c4, h⟩ := ucall_n h
  have zu3 := zz_J2_grow_2 N (ub G) (ug G) u a0 (y1 + 1) o5 u3 c4
  have hq := zz_J2_grow_10 (G := G) (a0 := a0) N u3 o5 h
  exact ⟨by omega, by omega⟩
set_option maxHeartbeats 4000000 in
set_option maxRecDepth 100000 in
theorem w_J2_grow_0 {p : Program} {l : Launch} {e : Env} {R : Room} {s : State} {m : MethodId} {args : Array Value} {below : List Frame} {meth : Method} {c : Code} {G : uG} {a0 : Nat} {u0 : UH} {uf : UH} {r : Option Nat} (hC : uC p s m args meth c G RJ2 cJ2_grow 1 (some (.array (.object "java/lang/Object")))) (hR : 4 ≤ R.frames ∧ 127 ≤ R.locals) (hRm : uf.1 - u0.1 ≤ R.cells ∧ uf.2.1 - u0.2.1 ≤ R.slots) (N : Nat) (u : UH) (h : f_J2_grow N (ub G) (ug G) u a0 = some (r, uf)) (hz0 : (u0.1 ≤ u.1 ∧ u0.2.1 ≤ u.2.1)) {H : Heap} {locs : List Loc} (hP : uP G u H) (hS : va_S (uA G) s.heap H locs) {ls : Array Slot} (hl : lv_has ls 1 [(0, va_rf (some a0))]) : W p l e R s m args below meth c H locs (u.1 - u0.1) (u.2.1 - u0.2.1) (MQ below (uQr G r uf) args s (uf.1 - u0.1) (uf.2.1 - u0.2.1) (uA G)) (F0 m 0 ls []) := by
  obtain ⟨⟨hx, hb, hml, hown, hts⟩, hKK⟩ := id hC
  have hzf := zz_J2_grow_0 (G := G) (a0 := a0) N u h
  unfold f_J2_grow at h
  refine u_aload_n (r := some a0) hx hb dJ2_grow_0 rfl (lv_at hl 0 rfl) ?_
  refine u_aload_n (r := some a0) hx hb dJ2_grow_1 rfl (lv_at hl 0 rfl) ?_
  obtain ⟨y1, hy1, h⟩ := mbind_n h
  refine u_get hC hP (uGI_n hy1) rfl in_J2 (by decide) q204 (fun _ h => h) dJ2_grow_2 ?_
  refine lv_iconst (v := 1) hx hb dJ2_grow_5 (by decide) ?_
  refine lv_iadd hx hb dJ2_grow_6 ?_
  obtain ⟨c2, h⟩ := mif_n h
  obtain ⟨o5, u3, c4, h⟩ := ucall_n h
  have zu3 := zz_J2_grow_2 N (ub G) (ug G) u a0 (y1 + 1) o5 u3 c4
  have hq := zz_J2_grow_10 (G := G) (a0 := a0) N u3 o5 h
  refine u_callr (va_runV (As := [.int (y1 + 1)]) (rest := []) hC.1 (met_J2_grow_2 l N G u a0 (y1 + 1) o5 u3 c4) (cwV 1 hts (lw_V q946 q948 qs9 q102 q949) rfl rfl rfl (by decide +kernel) ⟨Nat.le_trans (Nat.le_of_ble_eq_true rfl) hR.1, Nat.le_trans (Nat.le_of_ble_eq_true rfl) hR.2⟩) ⟨uPc_blind, u_rcv hC hP c2 rfl, fun U hU hW => u_pre hC hP hS hU hW⟩ rfl rfl hl.1 rfl (lv_room (Nat.le_of_ble_eq_true rfl)) dJ2_grow_7 ⟨by omega, by omega⟩) hS (fun H locs hP hS => ?_)
  refine W.cs (cells' := u3.1 - u0.1) (slots' := u3.2.1 - u0.2.1) (by omega) (by omega) ?_
  refine W.cs (cells' := u3.1 - u0.1) (slots' := u3.2.1 - u0.2.1) (by omega) (by omega) ?_
  exact w_J2_grow_10 hC hR hRm N u3 o5 h ⟨by omega, by omega⟩ hP hS (lv_sub hl [] rfl)
theorem zz_J2_grow (N b : Nat) (g : uEnv) (u : UH) (a0 : Nat) (r : Option Nat) (uf : UH) (h : f_J2_grow N b g u a0 = some (r, uf)) : u.1 ≤ uf.1 ∧ u.2.1 ≤ uf.2.1 :=
  zz_J2_grow_0 (G := ((fun _ => 0, fun _ _ => 0), fun _ => 0, b, g)) (a0 := a0) N u h
theorem met_J2_grow (l : Launch) (N : Nat) (G : uG) (u : UH) (a0 : Nat) (r : Option Nat) (uf : UH) (h : f_J2_grow N (ub G) (ug G) u a0 = some (r, uf)) : Met l yJ2_grow (ws_ yJ2_grow cJ2_grow 1 (some (.array (.object "java/lang/Object")))) ({ frames := 4, cells := (uf.1 - u.1), slots := (uf.2.1 - u.2.1), locals := 127 }) (uPc G u [.ref a0]) (uQr G r uf) (uf.1 - u.1) (uf.2.1 - u.2.1) (uA G) := by
  exact u_met (own := RJ2) (by decide +kernel) rfl (Nat.le_of_ble_eq_true rfl) (fun hC hn hsz ls hl hP => W.cs (Nat.sub_self _).symm (Nat.sub_self _).symm (w_J2_grow_0 hC ⟨Nat.le_refl _, Nat.le_refl _⟩ ⟨Nat.le_refl _, Nat.le_refl _⟩ N u h ⟨Nat.le_refl _, Nat.le_refl _⟩ hP va_S.rf hl))
def f_J2_add_2_11 (N b : Nat) (g : uEnv) (a0 : Nat) (u : UH) (x1 : Option Nat) (x2 : Option Nat) (x3 : Int32) : Option (UH) :=
    (x2).bind fun a1 =>
    (x1).bind fun a2 =>
    if uObj u a2 = true then
    (uStR b u a1 4 x3 (some a2)).bind fun u4 =>
    (uPut b u4 a0 18 2 (.int (x3 + 1))).bind fun u5 =>
    some u5
    else none
set_option maxHeartbeats 4000000 in
set_option maxRecDepth 100000 in
theorem zz_J2_add_2_11 {G : uG} {a0 : Nat} {uf : UH} (N : Nat) (u : UH) (x1 : Option Nat) (x2 : Option Nat) (x3 : Int32) (h : f_J2_add_2_11 N (ub G) (ug G) a0 u x1 x2 x3 = some uf) : u.1 ≤ uf.1 ∧ u.2.1 ≤ uf.2.1 := by
  unfold f_J2_add_2_11 at h
  obtain ⟨a1, ha1, hha1⟩ := mbind_n h
  subst ha1
  have h := hha1
  obtain ⟨a2, ha2, hha2⟩ := mbind_n h
  subst ha2
  have h := hha2
  obtain ⟨c3, h⟩ := mif_n h
  obtain ⟨u4, hu4, h⟩ := mbind_n h
  have zu4 := uStR_sz hu4
  obtain ⟨u5, hu5, h⟩ := mbind_n h
  have zu5 := uPut_sz hu5
  cases h
  exact ⟨by omega, by omega⟩
set_option maxHeartbeats 4000000 in
set_option maxRecDepth 100000 in
theorem w_J2_add_2_11 {p : Program} {l : Launch} {e : Env} {R : Room} {s : State} {m : MethodId} {args : Array Value} {below : List Frame} {meth : Method} {c : Code} {G : uG} {a0 : Nat} {u0 : UH} {uf : UH} (hC : uC p s m args meth c G RJ2 cJ2_add_2 4 none) (hR : 5 ≤ R.frames ∧ 147 ≤ R.locals) (hRm : uf.1 - u0.1 ≤ R.cells ∧ uf.2.1 - u0.2.1 ≤ R.slots) (N : Nat) (u : UH) (x1 : Option Nat) (x2 : Option Nat) (x3 : Int32) (h : f_J2_add_2_11 N (ub G) (ug G) a0 u x1 x2 x3 = some uf) (hz0 : (u0.1 ≤ u.1 ∧ u0.2.1 ≤ u.2.1)) {H : Heap} {locs : List Loc} (hP : uP G u H) (hS : va_S (uA G) s.heap H locs) {ls : Array Slot} (hl : lv_has ls 4 [(0, va_rf (some a0)), (1, va_rf x1), (2, va_rf x2), (3, .int x3)]) : W p l e R s m args below meth c H locs (u.1 - u0.1) (u.2.1 - u0.2.1) (MQ below (uQv G uf) args s (uf.1 - u0.1) (uf.2.1 - u0.2.1) (uA G)) (F0 m 11 ls []) := by
  obtain ⟨⟨hx, hb, hml, hown, hts⟩, hKK⟩ := id hC
  have hzf := zz_J2_add_2_11 (G := G) (a0 := a0) N u x1 x2 x3 h
  unfold f_J2_add_2_11 at h
  refine u_aload_n (r := x2) hx hb dJ2_add_2_11 rfl (lv_at hl 2 rfl) ?_
  refine lv_iload_n hx hb dJ2_add_2_12 rfl (lv_at hl 3 rfl) ?_
  refine u_aload_n (r := x1) hx hb dJ2_add_2_13 rfl (lv_at hl 1 rfl) ?_
  obtain ⟨a1, ha1, hha1⟩ := mbind_n h
  subst ha1
  have h := hha1
  obtain ⟨a2, ha2, hha2⟩ := mbind_n h
  subst ha2
  have h := hha2
  obtain ⟨c3, h⟩ := mif_n h
  obtain ⟨u4, hu4, h⟩ := mbind_n h
  have zu4 := uStR_sz hu4
  refine u_aast hC hP hS hu4 rfl (u_anyO hC hP c3) dJ2_add_2_14 (fun H locs hP hS => ?_)
  refine W.cs (cells' := u4.1 - u0.1) (slots' := u4.2.1 - u0.2.1) (by omega) (by omega) ?_
  refine u_aload_n (r := some a0) hx hb dJ2_add_2_15 rfl (lv_at hl 0 rfl) ?_
  refine lv_iload_n hx hb dJ2_add_2_16 rfl (lv_at hl 3 rfl) ?_
  refine lv_iconst (v := 1) hx hb dJ2_add_2_17 (by decide) ?_
  refine lv_iadd hx hb dJ2_add_2_18 ?_
  obtain ⟨u5, hu5, h⟩ := mbind_n h
  have zu5 := uPut_sz hu5
  refine u_put hC hP hS hu5 rfl in_J2 tyJ2 tyJ2_ok nmJ2 (by decide) q204 (fun _ h => h) rfl (ty := .int) (tyJ2_ok 2 (by decide)) rfl rfl dJ2_add_2_19 (fun H locs hP hS => ?_)
  refine W.cs (cells' := u5.1 - u0.1) (slots' := u5.2.1 - u0.2.1) (by omega) (by omega) ?_
  cases h
  exact u_vret hC hP hS dJ2_add_2_22
def f_J2_add_2_10 (N b : Nat) (g : uEnv) (a0 : Nat) (u : UH) (x1 : Option Nat) (x3 : Int32) (s0 : Option Nat) : Option (UH) :=
    f_J2_add_2_11 N b g a0 u x1 s0 x3
set_option maxHeartbeats 4000000 in
set_option maxRecDepth 100000 in
theorem zz_J2_add_2_10 {G : uG} {a0 : Nat} {uf : UH} (N : Nat) (u : UH) (x1 : Option Nat) (x3 : Int32) (s0 : Option Nat) (h : f_J2_add_2_10 N (ub G) (ug G) a0 u x1 x3 s0 = some uf) : u.1 ≤ uf.1 ∧ u.2.1 ≤ uf.2.1 := by
  unfold f_J2_add_2_10 at h
  have hq := zz_J2_add_2_11 (G := G) (a0 := a0) N u x1 s0 x3 h
  exact ⟨by omega, by omega⟩
set_option maxHeartbeats 4000000 in
set_option maxRecDepth 100000 in
theorem w_J2_add_2_10 {p : Program} {l : Launch} {e : Env} {R : Room} {s : State} {m : MethodId} {args : Array Value} {below : List Frame} {meth : Method} {c : Code} {G : uG} {a0 : Nat} {u0 : UH} {uf : UH} (hC : uC p s m args meth c G RJ2 cJ2_add_2 4 none) (hR : 5 ≤ R.frames ∧ 147 ≤ R.locals) (hRm : uf.1 - u0.1 ≤ R.cells ∧ uf.2.1 - u0.2.1 ≤ R.slots) (N : Nat) (u : UH) (x1 : Option Nat) (x3 : Int32) (s0 : Option Nat) (h : f_J2_add_2_10 N (ub G) (ug G) a0 u x1 x3 s0 = some uf) (hz0 : (u0.1 ≤ u.1 ∧ u0.2.1 ≤ u.2.1)) {H : Heap} {locs : List Loc} (hP : uP G u H) (hS : va_S (uA G) s.heap H locs) {ls : Array Slot} (hl : lv_has ls 4 [(0, va_rf (some a0)), (1, va_rf x1), (3, .int x3)]) : W p l e R s m args below meth c H locs (u.1 - u0.1) (u.2.1 - u0.2.1) (MQ below (uQv G uf) args s (uf.1 - u0.1) (uf.2.1 - u0.2.1) (uA G)) (F0 m 10 ls [va_rf s0]) := by
  obtain ⟨⟨hx, hb, hml, hown, hts⟩, hKK⟩ := id hC
  have hzf := zz_J2_add_2_10 (G := G) (a0 := a0) N u x1 x3 s0 h
  unfold f_J2_add_2_10 at h
  refine u_astore_n (i := 2) (r := s0) (lv' := [(2, va_rf s0), (0, va_rf (some a0)), (1, va_rf x1), (3, .int x3)]) hx hb dJ2_add_2_10 rfl hl (by decide) (by simp [List.filter_cons, u_cat]) (fun ls hl => ?_)
  refine W.cs (cells' := u.1 - u0.1) (slots' := u.2.1 - u0.2.1) (by omega) (by omega) ?_
  exact w_J2_add_2_11 hC hR hRm N u x1 s0 x3 h ⟨by omega, by omega⟩ hP hS (lv_sub hl [1, 2, 0, 3] rfl)
def f_J2_add_2 (N b : Nat) (g : uEnv) (u : UH) (a0 : Nat) (x1 : Option Nat) (x2 : Option Nat) (x3 : Int32) : Option (UH) :=
    (x2).bind fun a1 =>
    (uLen u a1 4).bind fun y2 =>
    if x3 = y2 then
    if uIs u a0 18 = true then
    ucall (f_J2_grow N b g u a0) fun o7 u5 =>
    f_J2_add_2_10 N b g a0 u5 x1 x3 o7
    else none
    else
    f_J2_add_2_11 N b g a0 u x1 (some a1) x3
set_option maxHeartbeats 4000000 in
set_option maxRecDepth 100000 in
theorem zz_J2_add_2_0 {G : uG} {a0 : Nat} {uf : UH} (N : Nat) (u : UH) (x1 : Option Nat) (x2 : Option Nat) (x3 : Int32) (h : f_J2_add_2 N (ub G) (ug G) u a0 x1 x2 x3 = some uf) : u.1 ≤ uf.1 ∧ u.2.1 ≤ uf.2.1 := by
  unfold f_J2_add_2 at h
  obtain ⟨a1, ha1, hha1⟩ := mbind_n h
  subst ha1
  have h := hha1
  obtain ⟨y2, hy2, h⟩ := mbind_n h
  by_cases c3 : x3 = y2
  · have h := mif_t c3 h
    obtain ⟨c4, h⟩ := mif_n h
    obtain ⟨o7, u5, c6, h⟩ := ucall_n h
    have zu5 := zz_J2_grow N (ub G) (ug G) u a0 o7 u5 c6
    have hq := zz_J2_add_2_10 (G := G) (a0 := a0) N u5 x1 x3 o7 h
    exact ⟨by omega, by omega⟩
  · have h := mif_f c3 h
    have hq := zz_J2_add_2_11 (G := G) (a0 := a0) N u x1 (some a1) x3 h
    exact ⟨by omega, by omega⟩
set_option maxHeartbeats 4000000 in
set_option maxRecDepth 100000 in
theorem w_J2_add_2_0 {p : Program} {l : Launch} {e : Env} {R : Room} {s : State} {m : MethodId} {args : Array Value} {below : List Frame} {meth : Method} {c : Code} {G : uG} {a0 : Nat} {u0 : UH} {uf : UH} (hC : uC p s m args meth c G RJ2 cJ2_add_2 4 none) (hR : 5 ≤ R.frames ∧ 147 ≤ R.locals) (hRm : uf.1 - u0.1 ≤ R.cells ∧ uf.2.1 - u0.2.1 ≤ R.slots) (N : Nat) (u : UH) (x1 : Option Nat) (x2 : Option Nat) (x3 : Int32) (h : f_J2_add_2 N (ub G) (ug G) u a0 x1 x2 x3 = some uf) (hz0 : (u0.1 ≤ u.1 ∧ u0.2.1 ≤ u.2.1)) {H : Heap} {locs : List Loc} (hP : uP G u H) (hS : va_S (uA G) s.heap H locs) {ls : Array Slot} (hl : lv_has ls 4 [(0, va_rf (some a0)), (1, va_rf x1), (2, va_rf x2), (3, .int x3)]) : W p l e R s m args below meth c H locs (u.1 - u0.1) (u.2.1 - u0.2.1) (MQ below (uQv G uf) args s (uf.1 - u0.1) (uf.2.1 - u0.2.1) (uA G)) (F0 m 0 ls []) := by
  obtain ⟨⟨hx, hb, hml, hown, hts⟩, hKK⟩ := id hC
  have hzf := zz_J2_add_2_0 (G := G) (a0 := a0) N u x1 x2 x3 h
  unfold f_J2_add_2 at h
  refine lv_iload_n hx hb dJ2_add_2_0 rfl (lv_at hl 3 rfl) ?_
  refine u_aload_n (r := x2) hx hb dJ2_add_2_1 rfl (lv_at hl 2 rfl) ?_
  obtain ⟨a1, ha1, hha1⟩ := mbind_n h
  subst ha1
  have h := hha1
  obtain ⟨y2, hy2, h⟩ := mbind_n h
  refine u_alen hC hP hy2 dJ2_add_2_2 ?_
  refine lv_icmp_ne (tgt := 11) hx hb dJ2_add_2_3 (by decide) (fun c3 => ?_) (fun c3 => ?_)
  · have h := mif_f c3 h
    refine W.cs (cells' := u.1 - u0.1) (slots' := u.2.1 - u0.2.1) (by omega) (by omega) ?_
    exact w_J2_add_2_11 hC hR hRm N u x1 (some a1) x3 h ⟨by omega, by omega⟩ hP hS (lv_sub hl [0, 1, 2, 3] rfl)
  · have h := mif_t c3 h
    refine u_aload_n (r := some a0) hx hb dJ2_add_2_6 rfl (lv_at hl 0 rfl) ?_
    obtain ⟨c4, h⟩ := mif_n h
    obtain ⟨o7, u5, c6, h⟩ := ucall_n h
    have zu5 := zz_J2_grow N (ub G) (ug G) u a0 o7 u5 c6
    have hq := zz_J2_add_2_10 (G := G) (a0 := a0) N u5 x1 x3 o7 h
    refine u_callr (va_runV (As := []) (rest := []) hC.1 (met_J2_grow l N G u a0 o7 u5 c6) (cwV 0 hts (lw_V q942 q944 qs8 q102 q945) rfl rfl rfl (by decide +kernel) ⟨Nat.le_trans (Nat.le_of_ble_eq_true rfl) hR.1, Nat.le_trans (Nat.le_of_ble_eq_true rfl) hR.2⟩) ⟨uPc_blind, u_rcv hC hP c4 rfl, fun U hU hW => u_pre hC hP hS hU hW⟩ rfl rfl hl.1 rfl (lv_room (Nat.le_of_ble_eq_true rfl)) dJ2_add_2_7 ⟨by omega, by omega⟩) hS (fun H locs hP hS => ?_)
    refine W.cs (cells' := u5.1 - u0.1) (slots' := u5.2.1 - u0.2.1) (by omega) (by omega) ?_
    refine W.cs (cells' := u5.1 - u0.1) (slots' := u5.2.1 - u0.2.1) (by omega) (by omega) ?_
    exact w_J2_add_2_10 hC hR hRm N u5 x1 x3 o7 h ⟨by omega, by omega⟩ hP hS (lv_sub hl [0, 1, 3] rfl)
theorem zz_J2_add_2 (N b : Nat) (g : uEnv) (u : UH) (a0 : Nat) (x1 : Option Nat) (x2 : Option Nat) (x3 : Int32) (uf : UH) (h : f_J2_add_2 N b g u a0 x1 x2 x3 = some uf) : u.1 ≤ uf.1 ∧ u.2.1 ≤ uf.2.1 :=
  zz_J2_add_2_0 (G := ((fun _ => 0, fun _ _ => 0), fun _ => 0, b, g)) (a0 := a0) N u x1 x2 x3 h
theorem met_J2_add_2 (l : Launch) (N : Nat) (G : uG) (u : UH) (a0 : Nat) (x1 : Option Nat) (x2 : Option Nat) (x3 : Int32) (uf : UH) (h : f_J2_add_2 N (ub G) (ug G) u a0 x1 x2 x3 = some uf) : Met l yJ2_add_2 (ws_ yJ2_add_2 cJ2_add_2 4 none) ({ frames := 5, cells := (uf.1 - u.1), slots := (uf.2.1 - u.2.1), locals := 147 }) (uPc G u [.ref a0, va_rf x1, va_rf x2, .int x3]) (uQv G uf) (uf.1 - u.1) (uf.2.1 - u.2.1) (uA G) := by
  rcases x1 with _ | x1 <;> rcases x2 with _ | x2 <;> exact u_met (own := RJ2) (by decide +kernel) rfl (Nat.le_of_ble_eq_true rfl) (fun hC hn hsz ls hl hP => W.cs (Nat.sub_self _).symm (Nat.sub_self _).symm (w_J2_add_2_0 hC ⟨Nat.le_refl _, Nat.le_refl _⟩ ⟨Nat.le_refl _, Nat.le_refl _⟩ N u _ _ x3 h ⟨Nat.le_refl _, Nat.le_refl _⟩ hP va_S.rf hl))
def f_J2_add_23 (N b : Nat) (g : uEnv) (a0 : Nat) (u : UH) : Option (Int32 × UH) :=
    some (1, u)
set_option maxHeartbeats 4000000 in
set_option maxRecDepth 100000 in
theorem zz_J2_add_23 {G : uG} {a0 : Nat} {uf : UH} {r : Int32} (N : Nat) (u : UH) (h : f_J2_add_23 N (ub G) (ug G) a0 u = some (r, uf)) : u.1 ≤ uf.1 ∧ u.2.1 ≤ uf.2.1 := by
  unfold f_J2_add_23 at h
  obtain ⟨hr1, hr2⟩ := uret_n h
  subst hr2
  exact ⟨by omega, by omega⟩
set_option maxHeartbeats 4000000 in
set_option maxRecDepth 100000 in
theorem w_J2_add_23 {p : Program} {l : Launch} {e : Env} {R : Room} {s : State} {m : MethodId} {args : Array Value} {below : List Frame} {meth : Method} {c : Code} {G : uG} {a0 : Nat} {u0 : UH} {uf : UH} {r : Int32} (hC : uC p s m args meth c G RJ2 cJ2_add 2 (some .boolean)) (hR : 6 ≤ R.frames ∧ 170 ≤ R.locals) (hRm : uf.1 - u0.1 ≤ R.cells ∧ uf.2.1 - u0.2.1 ≤ R.slots) (N : Nat) (u : UH) (h : f_J2_add_23 N (ub G) (ug G) a0 u = some (r, uf)) (hz0 : (u0.1 ≤ u.1 ∧ u0.2.1 ≤ u.2.1)) {H : Heap} {locs : List Loc} (hP : uP G u H) (hS : va_S (uA G) s.heap H locs) {ls : Array Slot} (hl : lv_has ls 2 []) : W p l e R s m args below meth c H locs (u.1 - u0.1) (u.2.1 - u0.2.1) (MQ below (uQi G r uf) args s (uf.1 - u0.1) (uf.2.1 - u0.2.1) (uA G)) (F0 m 23 ls []) := by
  obtain ⟨⟨hx, hb, hml, hown, hts⟩, hKK⟩ := id hC
  have hzf := zz_J2_add_23 (G := G) (a0 := a0) N u h
  unfold f_J2_add_23 at h
  refine lv_iconst (v := 1) hx hb dJ2_add_23 (by decide) ?_
  obtain ⟨hr1, hr2⟩ := uret_n h
  subst hr1
  subst hr2
  exact u_zret hC (uFit_n (ty := .boolean) (v := 1) rfl).1 hP hS dJ2_add_24
def f_J2_add (N b : Nat) (g : uEnv) (u : UH) (a0 : Nat) (x1 : Option Nat) : Option (Int32 × UH) :=
    (uGI u a0 18 0).bind fun y1 =>
    (uPut b u a0 18 0 (.int (y1 + 1))).bind fun u2 =>
    (uGR u2 a0 18 1).bind fun o3 =>
    (uGI u2 a0 18 2).bind fun y4 =>
    if uIs u2 a0 18 = true then
    (f_J2_add_2 N b g u2 a0 x1 o3 y4).bind fun u6 =>
    f_J2_add_23 N b g a0 u6
    else none
set_option maxHeartbeats 4000000 in
set_option maxRecDepth 100000 in
theorem zz_J2_add_0 {G : uG} {a0 : Nat} {uf : UH} {r : Int32} (N : Nat) (u : UH) (x1 : Option Nat) (h : f_J2_add N (ub G) (ug G) u a0 x1 = some (r, uf)) : u.1 ≤ uf.1 ∧ u.2.1 ≤ uf.2.1 := by
  unfold f_J2_add at h
  obtain ⟨y1, hy1, h⟩ := mbind_n h
  obtain ⟨u2, hu2, h⟩ := mbind_n h
  have zu2 := uPut_sz hu2
  obtain ⟨o3, ho3, h⟩ := mbind_n h
  obtain ⟨y4, hy4, h⟩ := mbind_n h
  obtain ⟨c5, h⟩ := mif_n h
  obtain ⟨u6, c7, h⟩ := mbind_n h
  have zu6 := zz_J2_add_2 N (ub G) (ug G) u2 a0 x1 o3 y4 u6 c7
  have hq := zz_J2_add_23 (G := G) (a0 := a0) N u6 h
  exact ⟨by omega, by omega⟩
set_option maxHeartbeats 4000000 in
set_option maxRecDepth 100000 in
theorem w_J2_add_0 {p : Program} {l : Launch} {e : Env} {R : Room} {s : State} {m : MethodId} {args : Array Value} {below : List Frame} {meth : Method} {c : Code} {G : uG} {a0 : Nat} {u0 : UH} {uf : UH} {r : Int32} (hC : uC p s m args meth c G RJ2 cJ2_add 2 (some .boolean)) (hR : 6 ≤ R.frames ∧ 170 ≤ R.locals) (hRm : uf.1 - u0.1 ≤ R.cells ∧ uf.2.1 - u0.2.1 ≤ R.slots) (N : Nat) (u : UH) (x1 : Option Nat) (h : f_J2_add N (ub G) (ug G) u a0 x1 = some (r, uf)) (hz0 : (u0.1 ≤ u.1 ∧ u0.2.1 ≤ u.2.1)) {H : Heap} {locs : List Loc} (hP : uP G u H) (hS : va_S (uA G) s.heap H locs) {ls : Array Slot} (hl : lv_has ls 2 [(0, va_rf (some a0)), (1, va_rf x1)]) : W p l e R s m args below meth c H locs (u.1 - u0.1) (u.2.1 - u0.2.1) (MQ below (uQi G r uf) args s (uf.1 - u0.1) (uf.2.1 - u0.2.1) (uA G)) (F0 m 0 ls []) := by
  obtain ⟨⟨hx, hb, hml, hown, hts⟩, hKK⟩ := id hC
  have hzf := zz_J2_add_0 (G := G) (a0 := a0) N u x1 h
  unfold f_J2_add at h
  refine u_aload_n (r := some a0) hx hb dJ2_add_0 rfl (lv_at hl 0 rfl) ?_
  refine lv_dup hx hb dJ2_add_1 (u_cat _) ?_
  obtain ⟨y1, hy1, h⟩ := mbind_n h
  refine u_get hC hP (uGI_n hy1) rfl in_J2 (by decide) q206 (fun x h => u_same (hts _ q207) x h) dJ2_add_2 ?_
  refine lv_iconst (v := 1) hx hb dJ2_add_5 (by decide) ?_
  refine lv_iadd hx hb dJ2_add_6 ?_
  obtain ⟨u2, hu2, h⟩ := mbind_n h
  have zu2 := uPut_sz hu2
  refine u_put hC hP hS hu2 rfl in_J2 tyJ2 tyJ2_ok nmJ2 (by decide) q206 (fun x h => u_same (hts _ q207) x h) rfl (ty := .int) (tyJ2_ok 0 (by decide)) rfl rfl dJ2_add_7 (fun H locs hP hS => ?_)
  refine W.cs (cells' := u2.1 - u0.1) (slots' := u2.2.1 - u0.2.1) (by omega) (by omega) ?_
  refine u_aload_n (r := some a0) hx hb dJ2_add_10 rfl (lv_at hl 0 rfl) ?_
  refine u_aload_n (r := x1) hx hb dJ2_add_11 rfl (lv_at hl 1 rfl) ?_
  refine u_aload_n (r := some a0) hx hb dJ2_add_12 rfl (lv_at hl 0 rfl) ?_
  obtain ⟨o3, ho3, h⟩ := mbind_n h
  refine u_get hC hP (uGR_n ho3) rfl in_J2 (by decide) q203 (fun _ h => h) dJ2_add_13 ?_
  refine u_aload_n (r := some a0) hx hb dJ2_add_16 rfl (lv_at hl 0 rfl) ?_
  obtain ⟨y4, hy4, h⟩ := mbind_n h
  refine u_get hC hP (uGI_n hy4) rfl in_J2 (by decide) q204 (fun _ h => h) dJ2_add_17 ?_
  obtain ⟨c5, h⟩ := mif_n h
  obtain ⟨u6, c7, h⟩ := mbind_n h
  have zu6 := zz_J2_add_2 N (ub G) (ug G) u2 a0 x1 o3 y4 u6 c7
  have hq := zz_J2_add_23 (G := G) (a0 := a0) N u6 h
  refine u_callv (va_runV (As := [va_rf x1, va_rf o3, .int y4]) (rest := []) hC.1 (met_J2_add_2 l N G u2 a0 x1 o3 y4 u6 c7) (cwV 3 hts (lw_V q938 q940 qs7 q102 q941) rfl rfl rfl (by decide +kernel) ⟨Nat.le_trans (Nat.le_of_ble_eq_true rfl) hR.1, Nat.le_trans (Nat.le_of_ble_eq_true rfl) hR.2⟩) ⟨uPc_blind, u_rcv hC hP c5 rfl, fun U hU hW => u_pre hC hP hS hU hW⟩ rfl rfl hl.1 rfl (lv_room (Nat.le_of_ble_eq_true rfl)) dJ2_add_20 ⟨by omega, by omega⟩) hS (fun H locs hP hS => ?_)
  refine W.cs (cells' := u6.1 - u0.1) (slots' := u6.2.1 - u0.2.1) (by omega) (by omega) ?_
  refine W.cs (cells' := u6.1 - u0.1) (slots' := u6.2.1 - u0.2.1) (by omega) (by omega) ?_
  exact w_J2_add_23 hC hR hRm N u6 h ⟨by omega, by omega⟩ hP hS (lv_sub hl [] rfl)
theorem zz_J2_add (N b : Nat) (g : uEnv) (u : UH) (a0 : Nat) (x1 : Option Nat) (r : Int32) (uf : UH) (h : f_J2_add N b g u a0 x1 = some (r, uf)) : u.1 ≤ uf.1 ∧ u.2.1 ≤ uf.2.1 :=
  zz_J2_add_0 (G := ((fun _ => 0, fun _ _ => 0), fun _ => 0, b, g)) (a0 := a0) N u x1 h
theorem met_J2_add (l : Launch) (N : Nat) (G : uG) (u : UH) (a0 : Nat) (x1 : Option Nat) (r : Int32) (uf : UH) (h : f_J2_add N (ub G) (ug G) u a0 x1 = some (r, uf)) : Met l yJ2_add (ws_ yJ2_add cJ2_add 2 (some .boolean)) ({ frames := 6, cells := (uf.1 - u.1), slots := (uf.2.1 - u.2.1), locals := 170 }) (uPc G u [.ref a0, va_rf x1]) (uQi G r uf) (uf.1 - u.1) (uf.2.1 - u.2.1) (uA G) := by
  rcases x1 with _ | x1 <;> exact u_met (own := RJ2) (by decide +kernel) rfl (Nat.le_of_ble_eq_true rfl) (fun hC hn hsz ls hl hP => W.cs (Nat.sub_self _).symm (Nat.sub_self _).symm (w_J2_add_0 hC ⟨Nat.le_refl _, Nat.le_refl _⟩ ⟨Nat.le_refl _, Nat.le_refl _⟩ N u _ h ⟨Nat.le_refl _, Nat.le_refl _⟩ hP va_S.rf hl))
def f_J4_ensureCapacityInternal_38 (N b : Nat) (g : uEnv) (a0 : Nat) (u : UH) : Option (UH) :=
    some u
set_option maxHeartbeats 4000000 in
set_option maxRecDepth 100000 in
theorem zz_J4_ensureCapacityInternal_38 {G : uG} {a0 : Nat} {uf : UH} (N : Nat) (u : UH) (h : f_J4_ensureCapacityInternal_38 N (ub G) (ug G) a0 u = some uf) : u.1 ≤ uf.1 ∧ u.2.1 ≤ uf.2.1 := by
  unfold f_J4_ensureCapacityInternal_38 at h
  cases h
  exact ⟨by omega, by omega⟩
set_option maxHeartbeats 4000000 in
set_option maxRecDepth 100000 in
theorem w_J4_ensureCapacityInternal_38 {p : Program} {l : Launch} {e : Env} {R : Room} {s : State} {m : MethodId} {args : Array Value} {below : List Frame} {meth : Method} {c : Code} {G : uG} {a0 : Nat} {u0 : UH} {uf : UH} (hC : uC p s m args meth c G RJ4 cJ4_ensureCapacityInternal 3 none) (hR : 3 ≤ R.frames ∧ 82 ≤ R.locals) (hRm : uf.1 - u0.1 ≤ R.cells ∧ uf.2.1 - u0.2.1 ≤ R.slots) (N : Nat) (u : UH) (h : f_J4_ensureCapacityInternal_38 N (ub G) (ug G) a0 u = some uf) (hz0 : (u0.1 ≤ u.1 ∧ u0.2.1 ≤ u.2.1)) {H : Heap} {locs : List Loc} (hP : uP G u H) (hS : va_S (uA G) s.heap H locs) {ls : Array Slot} (hl : lv_has ls 3 []) : W p l e R s m args below meth c H locs (u.1 - u0.1) (u.2.1 - u0.2.1) (MQ below (uQv G uf) args s (uf.1 - u0.1) (uf.2.1 - u0.2.1) (uA G)) (F0 m 38 ls []) := by
  obtain ⟨⟨hx, hb, hml, hown, hts⟩, hKK⟩ := id hC
  have hzf := zz_J4_ensureCapacityInternal_38 (G := G) (a0 := a0) N u h
  unfold f_J4_ensureCapacityInternal_38 at h
  cases h
  exact u_vret hC hP hS dJ4_ensureCapacityInternal_38
def f_J4_ensureCapacityInternal_35 (N b : Nat) (g : uEnv) (a0 : Nat) (u : UH) (s0 : Option Nat) (s1 : Option Nat) : Option (UH) :=
    (s1).bind fun a1 =>
    (uPut b u a1 19 0 (va_rf s0)).bind fun u2 =>
    f_J4_ensureCapacityInternal_38 N b g a0 u2
set_option maxHeartbeats 4000000 in
set_option maxRecDepth 100000 in
theorem zz_J4_ensureCapacityInternal_35 {G : uG} {a0 : Nat} {uf : UH} (N : Nat) (u : UH) (s0 : Option Nat) (s1 : Option Nat) (h : f_J4_ensureCapacityInternal_35 N (ub G) (ug G) a0 u s0 s1 = some uf) : u.1 ≤ uf.1 ∧ u.2.1 ≤ uf.2.1 := by
  unfold f_J4_ensureCapacityInternal_35 at h
  obtain ⟨a1, ha1, hha1⟩ := mbind_n h
  subst ha1
  have h := hha1
  obtain ⟨u2, hu2, h⟩ := mbind_n h
  have zu2 := uPut_sz hu2
  have hq := zz_J4_ensureCapacityInternal_38 (G := G) (a0 := a0) N u2 h
  exact ⟨by omega, by omega⟩
set_option maxHeartbeats 4000000 in
set_option maxRecDepth 100000 in
theorem w_J4_ensureCapacityInternal_35 {p : Program} {l : Launch} {e : Env} {R : Room} {s : State} {m : MethodId} {args : Array Value} {below : List Frame} {meth : Method} {c : Code} {G : uG} {a0 : Nat} {u0 : UH} {uf : UH} (hC : uC p s m args meth c G RJ4 cJ4_ensureCapacityInternal 3 none) (hR : 3 ≤ R.frames ∧ 82 ≤ R.locals) (hRm : uf.1 - u0.1 ≤ R.cells ∧ uf.2.1 - u0.2.1 ≤ R.slots) (N : Nat) (u : UH) (s0 : Option Nat) (s1 : Option Nat) (h : f_J4_ensureCapacityInternal_35 N (ub G) (ug G) a0 u s0 s1 = some uf) (hz0 : (u0.1 ≤ u.1 ∧ u0.2.1 ≤ u.2.1)) {H : Heap} {locs : List Loc} (hP : uP G u H) (hS : va_S (uA G) s.heap H locs) {ls : Array Slot} (hl : lv_has ls 3 []) : W p l e R s m args below meth c H locs (u.1 - u0.1) (u.2.1 - u0.2.1) (MQ below (uQv G uf) args s (uf.1 - u0.1) (uf.2.1 - u0.2.1) (uA G)) (F0 m 35 ls [va_rf s0, va_rf s1]) := by
  obtain ⟨⟨hx, hb, hml, hown, hts⟩, hKK⟩ := id hC
  have hzf := zz_J4_ensureCapacityInternal_35 (G := G) (a0 := a0) N u s0 s1 h
  unfold f_J4_ensureCapacityInternal_35 at h
  obtain ⟨a1, ha1, hha1⟩ := mbind_n h
  subst ha1
  have h := hha1
  obtain ⟨u2, hu2, h⟩ := mbind_n h
  have zu2 := uPut_sz hu2
  refine u_put hC hP hS hu2 rfl in_J5 tyJ5 tyJ5_ok nmJ5 (by decide) q376 (fun _ h => h) rfl (ty := (.array .byte)) (tyJ5_ok 0 (by decide)) (uNarA _ s0).1 (uNarA _ s0).2 dJ4_ensureCapacityInternal_35 (fun H locs hP hS => ?_)
  refine W.cs (cells' := u2.1 - u0.1) (slots' := u2.2.1 - u0.2.1) (by omega) (by omega) ?_
  refine W.cs (cells' := u2.1 - u0.1) (slots' := u2.2.1 - u0.2.1) (by omega) (by omega) ?_
  exact w_J4_ensureCapacityInternal_38 hC hR hRm N u2 h ⟨by omega, by omega⟩ hP hS (lv_sub hl [] rfl)
def f_J4_ensureCapacityInternal (N b : Nat) (g : uEnv) (u : UH) (a0 : Nat) (x1 : Int32) : Option (UH) :=
    (uGR u a0 19 0).bind fun o1 =>
    (o1).bind fun a2 =>
    (uLen u a2 1).bind fun y3 =>
    (uGI u a0 19 1).bind fun y4 =>
    mlet (y3 >>> (y4 &&& 31)) fun y5 =>
    if (x1 - y5) ≤ 0 then
    f_J4_ensureCapacityInternal_38 N b g a0 u
    else
    (uGR u a0 19 0).bind fun o7 =>
    if uIs u a0 19 = true then
    ucall (f_J4_newCapacity N b g u a0 x1) fun r11 u9 =>
    (uGI u9 a0 19 1).bind fun y12 =>
    ucall (f_J10_copyOf N b g u9 o7 (r11 <<< (y12 &&& 31))) fun o15 u13 =>
    f_J4_ensureCapacityInternal_35 N b g a0 u13 o15 (some a0)
    else none
set_option maxHeartbeats 4000000 in
set_option maxRecDepth 100000 in
theorem zz_J4_ensureCapacityInternal_0 {G : uG} {a0 : Nat} {uf : UH} (N : Nat) (u : UH) (x1 : Int32) (h : f_J4_ensureCapacityInternal N (ub G) (ug G) u a0 x1 = some uf) : u.1 ≤ uf.1 ∧ u.2.1 ≤ uf.2.1 := by
  unfold f_J4_ensureCapacityInternal at h
  obtain ⟨o1, ho1, h⟩ := mbind_n h
  obtain ⟨a2, ha2, hha2⟩ := mbind_n h
  subst ha2
  have h := hha2
  obtain ⟨y3, hy3, h⟩ := mbind_n h
  obtain ⟨y4, hy4, h⟩ := mbind_n h
  obtain ⟨y5, ey5⟩ : ∃ z, z = y3 >>> (y4 &&& 31) := ⟨_, rfl⟩
  have h := mlet_at ey5 h
  by_cases c6 : (x1 - y5) ≤ 0
  · have h := mif_t c6 h
    have hq := zz_J4_ensureCapacityInternal_38 (G := G) (a0 := a0) N u h
    exact ⟨by omega, by omega⟩
  · have h := mif_f c6 h
    obtain ⟨o7, ho7, h⟩ := mbind_n h
    obtain ⟨c8, h⟩ := mif_n h
    obtain ⟨r11, u9, c10, h⟩ := ucall_n h
    have zu9 := zz_J4_newCapacity N (ub G) (ug G) u a0 x1 r11 u9 c10
    obtain ⟨y12, hy12, h⟩ := mbind_n h
    obtain ⟨o15, u13, c14, h⟩ := ucall_n h
    have zu13 := zz_J10_copyOf N (ub G) (ug G) u9 o7 (r11 <<< (y12 &&& 31)) o15 u13 c14
    have hq := zz_J4_ensureCapacityInternal_35 (G := G) (a0 := a0) N u13 o15 (some a0) h
    exact ⟨by omega, by omega⟩
set_option maxHeartbeats 4000000 in
set_option maxRecDepth 100000 in
theorem w_J4_ensureCapacityInternal_0 {p : Program} {l : Launch} {e : Env} {R : Room} {s : State} {m : MethodId} {args : Array Value} {below : List Frame} {meth : Method} {c : Code} {G : uG} {a0 : Nat} {u0 : UH} {uf : UH} (hC : uC p s m args meth c G RJ4 cJ4_ensureCapacityInternal 3 none) (hR : 3 ≤ R.frames ∧ 82 ≤ R.locals) (hRm : uf.1 - u0.1 ≤ R.cells ∧ uf.2.1 - u0.2.1 ≤ R.slots) (N : Nat) (u : UH) (x1 : Int32) (h : f_J4_ensureCapacityInternal N (ub G) (ug G) u a0 x1 = some uf) (hz0 : (u0.1 ≤ u.1 ∧ u0.2.1 ≤ u.2.1)) {H : Heap} {locs : List Loc} (hP : uP G u H) (hS : va_S (uA G) s.heap H locs) {ls : Array Slot} (hl : lv_has ls 3 [(0, va_rf (some a0)), (1, .int x1)]) : W p l e R s m args below meth c H locs (u.1 - u0.1) (u.2.1 - u0.2.1) (MQ below (uQv G uf) args s (uf.1 - u0.1) (uf.2.1 - u0.2.1) (uA G)) (F0 m 0 ls []) := by
  obtain ⟨⟨hx, hb, hml, hown, hts⟩, hKK⟩ := id hC
  have hzf := zz_J4_ensureCapacityInternal_0 (G := G) (a0 := a0) N u x1 h
  unfold f_J4_ensureCapacityInternal at h
  refine u_aload_n (r := some a0) hx hb dJ4_ensureCapacityInternal_0 rfl (lv_at hl 0 rfl) ?_
  obtain ⟨o1, ho1, h⟩ := mbind_n h
  refine u_get hC hP (uGR_n ho1) rfl in_J5 (by decide) q376 (fun _ h => h) dJ4_ensureCapacityInternal_1 ?_
  obtain ⟨a2, ha2, hha2⟩ := mbind_n h
  subst ha2
  have h := hha2
  obtain ⟨y3, hy3, h⟩ := mbind_n h
  refine u_alen hC hP hy3 dJ4_ensureCapacityInternal_4 ?_
  refine u_aload_n (r := some a0) hx hb dJ4_ensureCapacityInternal_5 rfl (lv_at hl 0 rfl) ?_
  obtain ⟨y4, hy4, h⟩ := mbind_n h
  refine u_get hC hP (uGI_n hy4) rfl in_J5 (by decide) q377 (fun _ h => h) dJ4_ensureCapacityInternal_6 ?_
  refine lv_ishr hx hb dJ4_ensureCapacityInternal_9 ?_
  refine lv_topi (fun y5 ey5 => ?_)
  have h := mlet_at ey5 h
  refine lv_istore_n (i := 2) (lv' := [(2, .int y5), (0, va_rf (some a0)), (1, .int x1)]) hx hb dJ4_ensureCapacityInternal_10 rfl hl (by decide) rfl (fun ls hl => ?_)
  refine lv_iload_n hx hb dJ4_ensureCapacityInternal_11 rfl (lv_at hl 2 rfl) ?_
  refine lv_iload_n hx hb dJ4_ensureCapacityInternal_12 rfl (lv_at hl 0 rfl) ?_
  refine lv_isub hx hb dJ4_ensureCapacityInternal_13 ?_
  refine lv_if_le (tgt := 38) hx hb dJ4_ensureCapacityInternal_14 (by decide) (fun c6 => ?_) (fun c6 => ?_)
  · have h := mif_t c6 h
    refine W.cs (cells' := u.1 - u0.1) (slots' := u.2.1 - u0.2.1) (by omega) (by omega) ?_
    exact w_J4_ensureCapacityInternal_38 hC hR hRm N u h ⟨by omega, by omega⟩ hP hS (lv_sub hl [] rfl)
  · have h := mif_f c6 h
    refine u_aload_n (r := some a0) hx hb dJ4_ensureCapacityInternal_17 rfl (lv_at hl 1 rfl) ?_
    refine u_aload_n (r := some a0) hx hb dJ4_ensureCapacityInternal_18 rfl (lv_at hl 1 rfl) ?_
    obtain ⟨o7, ho7, h⟩ := mbind_n h
    refine u_get hC hP (uGR_n ho7) rfl in_J5 (by decide) q376 (fun _ h => h) dJ4_ensureCapacityInternal_19 ?_
    refine u_aload_n (r := some a0) hx hb dJ4_ensureCapacityInternal_22 rfl (lv_at hl 1 rfl) ?_
    refine lv_iload_n hx hb dJ4_ensureCapacityInternal_23 rfl (lv_at hl 2 rfl) ?_
    obtain ⟨c8, h⟩ := mif_n h
    obtain ⟨r11, u9, c10, h⟩ := ucall_n h
    have zu9 := zz_J4_newCapacity N (ub G) (ug G) u a0 x1 r11 u9 c10
    refine u_calli (va_runU (As := [.int x1]) (rest := [va_rf o7, va_rf (some a0)]) hC.1 (met_J4_newCapacity l N G u a0 x1 r11 u9 c10) (u_cwU (C := RJ5) (owner := RJ4) 1 hts q400 q2551 (va_Nw.use rfl (hC.2.1.2.2.2.2.2 _ (List.mem_of_getElem? (i := 1) rfl))) q402 q108 q403 rfl rfl rfl (by decide +kernel) ⟨Nat.le_trans (Nat.le_of_ble_eq_true rfl) hR.1, Nat.le_trans (Nat.le_of_ble_eq_true rfl) hR.2⟩) ⟨uPc_blind, u_rcv hC hP c8 rfl, fun U hU hW => u_pre hC hP hS hU hW⟩ rfl rfl hl.1 rfl (lv_room (by simp only [List.map, u_cat]; exact Nat.le_of_ble_eq_true rfl)) dJ4_ensureCapacityInternal_24 ⟨by omega, by omega⟩) hS (fun H locs hP hS => ?_)
    refine W.cs (cells' := u9.1 - u0.1) (slots' := u9.2.1 - u0.2.1) (by omega) (by omega) ?_
    refine u_aload_n (r := some a0) hx hb dJ4_ensureCapacityInternal_27 rfl (lv_at hl 1 rfl) ?_
    obtain ⟨y12, hy12, h⟩ := mbind_n h
    refine u_get hC hP (uGI_n hy12) rfl in_J5 (by decide) q377 (fun _ h => h) dJ4_ensureCapacityInternal_28 ?_
    refine lv_ishl hx hb dJ4_ensureCapacityInternal_31 ?_
    obtain ⟨o15, u13, c14, h⟩ := ucall_n h
    have zu13 := zz_J10_copyOf N (ub G) (ug G) u9 o7 (r11 <<< (y12 &&& 31)) o15 u13 c14
    have hq := zz_J4_ensureCapacityInternal_35 (G := G) (a0 := a0) N u13 o15 (some a0) h
    refine u_callr (va_runS (As := [va_rf o7, .int (r11 <<< (y12 &&& 31))]) (rest := [va_rf (some a0)]) hC.1 (met_J10_copyOf l N G u9 o7 (r11 <<< (y12 &&& 31)) o15 u13 c14) (va_cwS 2 hts (lw_S q415 q416 q114 q417) rfl rfl rfl (by decide +kernel) ⟨Nat.le_trans (Nat.le_of_ble_eq_true rfl) hR.1, Nat.le_trans (Nat.le_of_ble_eq_true rfl) hR.2⟩) ⟨uPc_blind, fun U hU hW => u_pre hC hP hS hU hW⟩ rfl rfl hl.1 rfl (lv_room (Nat.le_of_ble_eq_true rfl)) dJ4_ensureCapacityInternal_32 ⟨by omega, by omega⟩) hS (fun H locs hP hS => ?_)
    refine W.cs (cells' := u13.1 - u0.1) (slots' := u13.2.1 - u0.2.1) (by omega) (by omega) ?_
    refine W.cs (cells' := u13.1 - u0.1) (slots' := u13.2.1 - u0.2.1) (by omega) (by omega) ?_
    exact w_J4_ensureCapacityInternal_35 hC hR hRm N u13 o15 (some a0) h ⟨by omega, by omega⟩ hP hS (lv_sub hl [] rfl)
theorem zz_J4_ensureCapacityInternal (N b : Nat) (g : uEnv) (u : UH) (a0 : Nat) (x1 : Int32) (uf : UH) (h : f_J4_ensureCapacityInternal N b g u a0 x1 = some uf) : u.1 ≤ uf.1 ∧ u.2.1 ≤ uf.2.1 :=
  zz_J4_ensureCapacityInternal_0 (G := ((fun _ => 0, fun _ _ => 0), fun _ => 0, b, g)) (a0 := a0) N u x1 h
theorem met_J4_ensureCapacityInternal (l : Launch) (N : Nat) (G : uG) (u : UH) (a0 : Nat) (x1 : Int32) (uf : UH) (h : f_J4_ensureCapacityInternal N (ub G) (ug G) u a0 x1 = some uf) : Met l yJ4_ensureCapacityInternal (ws_ yJ4_ensureCapacityInternal cJ4_ensureCapacityInternal 3 none) ({ frames := 3, cells := (uf.1 - u.1), slots := (uf.2.1 - u.2.1), locals := 82 }) (uPc G u [.ref a0, .int x1]) (uQv G uf) (uf.1 - u.1) (uf.2.1 - u.2.1) (uA G) := by
  exact u_met (own := RJ4) (by decide +kernel) rfl (Nat.le_of_ble_eq_true rfl) (fun hC hn hsz ls hl hP => W.cs (Nat.sub_self _).symm (Nat.sub_self _).symm (w_J4_ensureCapacityInternal_0 hC ⟨Nat.le_refl _, Nat.le_refl _⟩ ⟨Nat.le_refl _, Nat.le_refl _⟩ N u x1 h ⟨Nat.le_refl _, Nat.le_refl _⟩ hP va_S.rf hl))
def f_J4_append_75 (N b : Nat) (g : uEnv) (a0 : Nat) (u : UH) : Option (Option Nat × UH) :=
    some (some a0, u)
set_option maxHeartbeats 4000000 in
set_option maxRecDepth 100000 in
theorem zz_J4_append_75 {G : uG} {a0 : Nat} {uf : UH} {r : Option Nat} (N : Nat) (u : UH) (h : f_J4_append_75 N (ub G) (ug G) a0 u = some (r, uf)) : u.1 ≤ uf.1 ∧ u.2.1 ≤ uf.2.1 := by
  unfold f_J4_append_75 at h
  obtain ⟨hr1, hr2⟩ := uret_n h
  subst hr2
  exact ⟨by omega, by omega⟩
set_option maxHeartbeats 4000000 in
set_option maxRecDepth 100000 in
theorem w_J4_append_75 {p : Program} {l : Launch} {e : Env} {R : Room} {s : State} {m : MethodId} {args : Array Value} {below : List Frame} {meth : Method} {c : Code} {G : uG} {a0 : Nat} {u0 : UH} {uf : UH} {r : Option Nat} (hC : uC p s m args meth c G RJ4 cJ4_append 2 (some (.object "java/lang/AbstractStringBuilder"))) (hR : 4 ≤ R.frames ∧ 104 ≤ R.locals) (hRm : uf.1 - u0.1 ≤ R.cells ∧ uf.2.1 - u0.2.1 ≤ R.slots) (N : Nat) (u : UH) (h : f_J4_append_75 N (ub G) (ug G) a0 u = some (r, uf)) (hz0 : (u0.1 ≤ u.1 ∧ u0.2.1 ≤ u.2.1)) {H : Heap} {locs : List Loc} (hP : uP G u H) (hS : va_S (uA G) s.heap H locs) {ls : Array Slot} (hl : lv_has ls 2 [(0, va_rf (some a0))]) : W p l e R s m args below meth c H locs (u.1 - u0.1) (u.2.1 - u0.2.1) (MQ below (uQr G r uf) args s (uf.1 - u0.1) (uf.2.1 - u0.2.1) (uA G)) (F0 m 75 ls []) := by
  obtain ⟨⟨hx, hb, hml, hown, hts⟩, hKK⟩ := id hC
  have hzf := zz_J4_append_75 (G := G) (a0 := a0) N u h
  unfold f_J4_append_75 at h
  refine u_aload_n (r := some a0) hx hb dJ4_append_75 rfl (lv_at hl 0 rfl) ?_
  obtain ⟨hr1, hr2⟩ := uret_n h
  subst hr1
  subst hr2
  exact u_aret hC (Or.inl ⟨_, rfl⟩) hP hS dJ4_append_76
def f_J4_append_56 (N b : Nat) (g : uEnv) (a0 : Nat) (u : UH) (x1 : Int32) : Option (Option Nat × UH) :=
    (uGR u a0 19 0).bind fun o1 =>
    (uGI u a0 19 3).bind fun y2 =>
    (uPut b u a0 19 3 (.int (y2 + 1))).bind fun u3 =>
    none
set_option maxHeartbeats 4000000 in
set_option maxRecDepth 100000 in
theorem zz_J4_append_56 {G : uG} {a0 : Nat} {uf : UH} {r : Option Nat} (N : Nat) (u : UH) (x1 : Int32) (h : f_J4_append_56 N (ub G) (ug G) a0 u x1 = some (r, uf)) : u.1 ≤ uf.1 ∧ u.2.1 ≤ uf.2.1 := by
  unfold f_J4_append_56 at h
  obtain ⟨o1, ho1, h⟩ := mbind_n h
  obtain ⟨y2, hy2, h⟩ := mbind_n h
  obtain ⟨u3, hu3, h⟩ := mbind_n h
  have zu3 := uPut_sz hu3
  cases h
set_option maxHeartbeats 4000000 in
set_option maxRecDepth 100000 in
theorem w_J4_append_56 {p : Program} {l : Launch} {e : Env} {R : Room} {s : State} {m : MethodId} {args : Array Value} {below : List Frame} {meth : Method} {c : Code} {G : uG} {a0 : Nat} {u0 : UH} {uf : UH} {r : Option Nat} (hC : uC p s m args meth c G RJ4 cJ4_append 2 (some (.object "java/lang/AbstractStringBuilder"))) (hR : 4 ≤ R.frames ∧ 104 ≤ R.locals) (hRm : uf.1 - u0.1 ≤ R.cells ∧ uf.2.1 - u0.2.1 ≤ R.slots) (N : Nat) (u : UH) (x1 : Int32) (h : f_J4_append_56 N (ub G) (ug G) a0 u x1 = some (r, uf)) (hz0 : (u0.1 ≤ u.1 ∧ u0.2.1 ≤ u.2.1)) {H : Heap} {locs : List Loc} (hP : uP G u H) (hS : va_S (uA G) s.heap H locs) {ls : Array Slot} (hl : lv_has ls 2 [(0, va_rf (some a0)), (1, .int x1)]) : W p l e R s m args below meth c H locs (u.1 - u0.1) (u.2.1 - u0.2.1) (MQ below (uQr G r uf) args s (uf.1 - u0.1) (uf.2.1 - u0.2.1) (uA G)) (F0 m 56 ls []) := by
  obtain ⟨⟨hx, hb, hml, hown, hts⟩, hKK⟩ := id hC
  have hzf := zz_J4_append_56 (G := G) (a0 := a0) N u x1 h
  unfold f_J4_append_56 at h
  refine u_aload_n (r := some a0) hx hb dJ4_append_56 rfl (lv_at hl 0 rfl) ?_
  obtain ⟨o1, ho1, h⟩ := mbind_n h
  refine u_get hC hP (uGR_n ho1) rfl in_J5 (by decide) q376 (fun _ h => h) dJ4_append_57 ?_
  refine u_aload_n (r := some a0) hx hb dJ4_append_60 rfl (lv_at hl 0 rfl) ?_
  refine lv_dup hx hb dJ4_append_61 (u_cat _) ?_
  obtain ⟨y2, hy2, h⟩ := mbind_n h
  refine u_get hC hP (uGI_n hy2) rfl in_J5 (by decide) q379 (fun _ h => h) dJ4_append_62 ?_
  refine lv_dup_x1 hx hb dJ4_append_65 rfl (u_cat _) ?_
  refine lv_iconst (v := 1) hx hb dJ4_append_66 (by decide) ?_
  refine lv_iadd hx hb dJ4_append_67 ?_
  obtain ⟨u3, hu3, h⟩ := mbind_n h
  have zu3 := uPut_sz hu3
  refine u_put hC hP hS hu3 rfl in_J5 tyJ5 tyJ5_ok nmJ5 (by decide) q379 (fun _ h => h) rfl (ty := .int) (tyJ5_ok 3 (by decide)) rfl rfl dJ4_append_68 (fun H locs hP hS => ?_)
  refine W.cs (cells' := u3.1 - u0.1) (slots' := u3.2.1 - u0.2.1) (by omega) (by omega) ?_
  refine lv_iload_n hx hb dJ4_append_71 rfl (lv_at hl 1 rfl) ?_
  cases h
def f_J4_append_45 (N b : Nat) (g : uEnv) (a0 : Nat) (u : UH) (x1 : Int32) : Option (Option Nat × UH) :=
    if uIs u a0 19 = true then
    ucall (f_J4_isLatin1 N b g u a0) fun r4 u2 =>
    if r4 = 0 then
    f_J4_append_56 N b g a0 u2 x1
    else
    none
    else none
set_option maxHeartbeats 4000000 in
set_option maxRecDepth 100000 in
theorem zz_J4_append_45 {G : uG} {a0 : Nat} {uf : UH} {r : Option Nat} (N : Nat) (u : UH) (x1 : Int32) (h : f_J4_append_45 N (ub G) (ug G) a0 u x1 = some (r, uf)) : u.1 ≤ uf.1 ∧ u.2.1 ≤ uf.2.1 := by
  unfold f_J4_append_45 at h
  obtain ⟨c1, h⟩ := mif_n h
  obtain ⟨r4, u2, c3, h⟩ := ucall_n h
  have zu2 := zz_J4_isLatin1 N (ub G) (ug G) u a0 r4 u2 c3
  by_cases c5 : r4 = 0
  · have h := mif_t c5 h
    have hq := zz_J4_append_56 (G := G) (a0 := a0) N u2 x1 h
    exact ⟨by omega, by omega⟩
  · have h := mif_f c5 h
    cases h
set_option maxHeartbeats 4000000 in
set_option maxRecDepth 100000 in
theorem w_J4_append_45 {p : Program} {l : Launch} {e : Env} {R : Room} {s : State} {m : MethodId} {args : Array Value} {below : List Frame} {meth : Method} {c : Code} {G : uG} {a0 : Nat} {u0 : UH} {uf : UH} {r : Option Nat} (hC : uC p s m args meth c G RJ4 cJ4_append 2 (some (.object "java/lang/AbstractStringBuilder"))) (hR : 4 ≤ R.frames ∧ 104 ≤ R.locals) (hRm : uf.1 - u0.1 ≤ R.cells ∧ uf.2.1 - u0.2.1 ≤ R.slots) (N : Nat) (u : UH) (x1 : Int32) (h : f_J4_append_45 N (ub G) (ug G) a0 u x1 = some (r, uf)) (hz0 : (u0.1 ≤ u.1 ∧ u0.2.1 ≤ u.2.1)) {H : Heap} {locs : List Loc} (hP : uP G u H) (hS : va_S (uA G) s.heap H locs) {ls : Array Slot} (hl : lv_has ls 2 [(0, va_rf (some a0)), (1, .int x1)]) : W p l e R s m args below meth c H locs (u.1 - u0.1) (u.2.1 - u0.2.1) (MQ below (uQr G r uf) args s (uf.1 - u0.1) (uf.2.1 - u0.2.1) (uA G)) (F0 m 45 ls []) := by
  obtain ⟨⟨hx, hb, hml, hown, hts⟩, hKK⟩ := id hC
  have hzf := zz_J4_append_45 (G := G) (a0 := a0) N u x1 h
  unfold f_J4_append_45 at h
  refine u_aload_n (r := some a0) hx hb dJ4_append_45 rfl (lv_at hl 0 rfl) ?_
  obtain ⟨c1, h⟩ := mif_n h
  obtain ⟨r4, u2, c3, h⟩ := ucall_n h
  have zu2 := zz_J4_isLatin1 N (ub G) (ug G) u a0 r4 u2 c3
  refine u_calli (va_runU (As := []) (rest := []) hC.1 (met_J4_isLatin1 l N G u a0 r4 u2 c3) (u_cwU (C := RJ5) (owner := RJ4) 0 hts q431 q433 (hts _ q434) q432 q108 q435 rfl rfl rfl (by decide +kernel) ⟨Nat.le_trans (Nat.le_of_ble_eq_true rfl) hR.1, Nat.le_trans (Nat.le_of_ble_eq_true rfl) hR.2⟩) ⟨uPc_blind, u_rcv hC hP c1 rfl, fun U hU hW => u_pre hC hP hS hU hW⟩ rfl rfl hl.1 rfl (lv_room (Nat.le_of_ble_eq_true rfl)) dJ4_append_46 ⟨by omega, by omega⟩) hS (fun H locs hP hS => ?_)
  refine W.cs (cells' := u2.1 - u0.1) (slots' := u2.2.1 - u0.2.1) (by omega) (by omega) ?_
  refine lv_if_eq (tgt := 56) hx hb dJ4_append_49 (by decide) (fun c5 => ?_) (fun c5 => ?_)
  · have h := mif_t c5 h
    refine W.cs (cells' := u2.1 - u0.1) (slots' := u2.2.1 - u0.2.1) (by omega) (by omega) ?_
    exact w_J4_append_56 hC hR hRm N u2 x1 h ⟨by omega, by omega⟩ hP hS (lv_sub hl [0, 1] rfl)
  · have h := mif_f c5 h
    refine u_aload_n (r := some a0) hx hb dJ4_append_52 rfl (lv_at hl 0 rfl) ?_
    cases h
def f_J4_append_10 (N b : Nat) (g : uEnv) (a0 : Nat) (u : UH) (x1 : Int32) : Option (Option Nat × UH) :=
    if uIs u a0 19 = true then
    ucall (f_J4_isLatin1 N b g u a0) fun r4 u2 =>
    if r4 = 0 then
    f_J4_append_45 N b g a0 u2 x1
    else
    ucall (f_J11_canEncode N b g u2 x1) fun r8 u6 =>
    if r8 = 0 then
    f_J4_append_45 N b g a0 u6 x1
    else
    (uGR u6 a0 19 0).bind fun o10 =>
    (uGI u6 a0 19 3).bind fun y11 =>
    (uPut b u6 a0 19 3 (.int (y11 + 1))).bind fun u12 =>
    (o10).bind fun a13 =>
    (uStI b u12 a13 1 y11 (vp_nar .byte (x1.toInt8.toInt32))).bind fun u14 =>
    f_J4_append_75 N b g a0 u14
    else none
set_option maxHeartbeats 4000000 in
set_option maxRecDepth 100000 in
theorem zz_J4_append_10 {G : uG} {a0 : Nat} {uf : UH} {r : Option Nat} (N : Nat) (u : UH) (x1 : Int32) (h : f_J4_append_10 N (ub G) (ug G) a0 u x1 = some (r, uf)) : u.1 ≤ uf.1 ∧ u.2.1 ≤ uf.2.1 := by
  unfold f_J4_append_10 at h
  obtain ⟨c1, h⟩ := mif_n h
  obtain ⟨r4, u2, c3, h⟩ := ucall_n h
  have zu2 := zz_J4_isLatin1 N (ub G) (ug G) u a0 r4 u2 c3
  by_cases c5 : r4 = 0
  · have h := mif_t c5 h
    have hq := zz_J4_append_45 (G := G) (a0 := a0) N u2 x1 h
    exact ⟨by omega, by omega⟩
  · have h := mif_f c5 h
    obtain ⟨r8, u6, c7, h⟩ := ucall_n h
    have zu6 := zz_J11_canEncode N (ub G) (ug G) u2 x1 r8 u6 c7
    by_cases c9 : r8 = 0
    · have h := mif_t c9 h
      have hq := zz_J4_append_45 (G := G) (a0 := a0) N u6 x1 h
      exact ⟨by omega, by omega⟩
    · have h := mif_f c9 h
      obtain ⟨o10, ho10, h⟩ := mbind_n h
      obtain ⟨y11, hy11, h⟩ := mbind_n h
      obtain ⟨u12, hu12, h⟩ := mbind_n h
      have zu12 := uPut_sz hu12
      obtain ⟨a13, ha13, hha13⟩ := mbind_n h
      subst ha13
      have h := hha13
      obtain ⟨u14, hu14, h⟩ := mbind_n h
      have zu14 := uStI_sz hu14
      have hq := zz_J4_append_75 (G := G) (a0 := a0) N u14 h
      exact ⟨by omega, by omega⟩
set_option maxHeartbeats 4000000 in
set_option maxRecDepth 100000 in
theorem w_J4_append_10 {p : Program} {l : Launch} {e : Env} {R : Room} {s : State} {m : MethodId} {args : Array Value} {below : List Frame} {meth : Method} {c : Code} {G : uG} {a0 : Nat} {u0 : UH} {uf : UH} {r : Option Nat} (hC : uC p s m args meth c G RJ4 cJ4_append 2 (some (.object "java/lang/AbstractStringBuilder"))) (hR : 4 ≤ R.frames ∧ 104 ≤ R.locals) (hRm : uf.1 - u0.1 ≤ R.cells ∧ uf.2.1 - u0.2.1 ≤ R.slots) (N : Nat) (u : UH) (x1 : Int32) (h : f_J4_append_10 N (ub G) (ug G) a0 u x1 = some (r, uf)) (hz0 : (u0.1 ≤ u.1 ∧ u0.2.1 ≤ u.2.1)) {H : Heap} {locs : List Loc} (hP : uP G u H) (hS : va_S (uA G) s.heap H locs) {ls : Array Slot} (hl : lv_has ls 2 [(0, va_rf (some a0)), (1, .int x1)]) : W p l e R s m args below meth c H locs (u.1 - u0.1) (u.2.1 - u0.2.1) (MQ below (uQr G r uf) args s (uf.1 - u0.1) (uf.2.1 - u0.2.1) (uA G)) (F0 m 10 ls []) := by
  obtain ⟨⟨hx, hb, hml, hown, hts⟩, hKK⟩ := id hC
  have hzf := zz_J4_append_10 (G := G) (a0 := a0) N u x1 h
  unfold f_J4_append_10 at h
  refine u_aload_n (r := some a0) hx hb dJ4_append_10 rfl (lv_at hl 0 rfl) ?_
  obtain ⟨c1, h⟩ := mif_n h
  obtain ⟨r4, u2, c3, h⟩ := ucall_n h
  have zu2 := zz_J4_isLatin1 N (ub G) (ug G) u a0 r4 u2 c3
  refine u_calli (va_runU (As := []) (rest := []) hC.1 (met_J4_isLatin1 l N G u a0 r4 u2 c3) (u_cwU (C := RJ5) (owner := RJ4) 0 hts q431 q433 (hts _ q434) q432 q108 q435 rfl rfl rfl (by decide +kernel) ⟨Nat.le_trans (Nat.le_of_ble_eq_true rfl) hR.1, Nat.le_trans (Nat.le_of_ble_eq_true rfl) hR.2⟩) ⟨uPc_blind, u_rcv hC hP c1 rfl, fun U hU hW => u_pre hC hP hS hU hW⟩ rfl rfl hl.1 rfl (lv_room (Nat.le_of_ble_eq_true rfl)) dJ4_append_11 ⟨by omega, by omega⟩) hS (fun H locs hP hS => ?_)
  refine W.cs (cells' := u2.1 - u0.1) (slots' := u2.2.1 - u0.2.1) (by omega) (by omega) ?_
  refine lv_if_eq (tgt := 45) hx hb dJ4_append_14 (by decide) (fun c5 => ?_) (fun c5 => ?_)
  · have h := mif_t c5 h
    refine W.cs (cells' := u2.1 - u0.1) (slots' := u2.2.1 - u0.2.1) (by omega) (by omega) ?_
    exact w_J4_append_45 hC hR hRm N u2 x1 h ⟨by omega, by omega⟩ hP hS (lv_sub hl [0, 1] rfl)
  · have h := mif_f c5 h
    refine lv_iload_n hx hb dJ4_append_17 rfl (lv_at hl 1 rfl) ?_
    obtain ⟨r8, u6, c7, h⟩ := ucall_n h
    have zu6 := zz_J11_canEncode N (ub G) (ug G) u2 x1 r8 u6 c7
    refine u_calli (va_runS (As := [.int x1]) (rest := []) hC.1 (met_J11_canEncode l N G u2 x1 r8 u6 c7) (va_cwS 1 hts (lw_S q436 q437 q116 q438) rfl rfl rfl (by decide +kernel) ⟨Nat.le_trans (Nat.le_of_ble_eq_true rfl) hR.1, Nat.le_trans (Nat.le_of_ble_eq_true rfl) hR.2⟩) ⟨uPc_blind, fun U hU hW => u_pre hC hP hS hU hW⟩ rfl rfl hl.1 rfl (lv_room (Nat.le_of_ble_eq_true rfl)) dJ4_append_18 ⟨by omega, by omega⟩) hS (fun H locs hP hS => ?_)
    refine W.cs (cells' := u6.1 - u0.1) (slots' := u6.2.1 - u0.2.1) (by omega) (by omega) ?_
    refine lv_if_eq (tgt := 45) hx hb dJ4_append_21 (by decide) (fun c9 => ?_) (fun c9 => ?_)
    · have h := mif_t c9 h
      refine W.cs (cells' := u6.1 - u0.1) (slots' := u6.2.1 - u0.2.1) (by omega) (by omega) ?_
      exact w_J4_append_45 hC hR hRm N u6 x1 h ⟨by omega, by omega⟩ hP hS (lv_sub hl [0, 1] rfl)
    · have h := mif_f c9 h
      refine u_aload_n (r := some a0) hx hb dJ4_append_24 rfl (lv_at hl 0 rfl) ?_
      obtain ⟨o10, ho10, h⟩ := mbind_n h
      refine u_get hC hP (uGR_n ho10) rfl in_J5 (by decide) q376 (fun _ h => h) dJ4_append_25 ?_
      refine u_aload_n (r := some a0) hx hb dJ4_append_28 rfl (lv_at hl 0 rfl) ?_
      refine lv_dup hx hb dJ4_append_29 (u_cat _) ?_
      obtain ⟨y11, hy11, h⟩ := mbind_n h
      refine u_get hC hP (uGI_n hy11) rfl in_J5 (by decide) q379 (fun _ h => h) dJ4_append_30 ?_
      refine lv_dup_x1 hx hb dJ4_append_33 rfl (u_cat _) ?_
      refine lv_iconst (v := 1) hx hb dJ4_append_34 (by decide) ?_
      refine lv_iadd hx hb dJ4_append_35 ?_
      obtain ⟨u12, hu12, h⟩ := mbind_n h
      have zu12 := uPut_sz hu12
      refine u_put hC hP hS hu12 rfl in_J5 tyJ5 tyJ5_ok nmJ5 (by decide) q379 (fun _ h => h) rfl (ty := .int) (tyJ5_ok 3 (by decide)) rfl rfl dJ4_append_36 (fun H locs hP hS => ?_)
      refine W.cs (cells' := u12.1 - u0.1) (slots' := u12.2.1 - u0.2.1) (by omega) (by omega) ?_
      refine lv_iload_n hx hb dJ4_append_39 rfl (lv_at hl 1 rfl) ?_
      refine lv_i2b (v := x1.toInt8.toInt32) hx hb dJ4_append_40 rfl ?_
      obtain ⟨a13, ha13, hha13⟩ := mbind_n h
      subst ha13
      have h := hha13
      obtain ⟨u14, hu14, h⟩ := mbind_n h
      have zu14 := uStI_sz hu14
      refine u_bast hC hP hS hu14 rfl dJ4_append_41 (fun H locs hP hS => ?_)
      refine W.cs (cells' := u14.1 - u0.1) (slots' := u14.2.1 - u0.2.1) (by omega) (by omega) ?_
      refine lv_goto (tgt := 75) hx hb dJ4_append_42 (by decide) ?_
      refine W.cs (cells' := u14.1 - u0.1) (slots' := u14.2.1 - u0.2.1) (by omega) (by omega) ?_
      exact w_J4_append_75 hC hR hRm N u14 h ⟨by omega, by omega⟩ hP hS (lv_sub hl [0] rfl)
def f_J4_append (N b : Nat) (g : uEnv) (u : UH) (a0 : Nat) (x1 : Int32) : Option (Option Nat × UH) :=
    (uGI u a0 19 3).bind fun y1 =>
    if uIs u a0 19 = true then
    (f_J4_ensureCapacityInternal N b g u a0 (y1 + 1)).bind fun u3 =>
    f_J4_append_10 N b g a0 u3 x1
    else none
set_option maxHeartbeats 4000000 in
set_option maxRecDepth 100000 in
theorem zz_J4_append_0 {G : uG} {a0 : Nat} {uf : UH} {r : Option Nat} (N : Nat) (u : UH) (x1 : Int32) (h : f_J4_append N (ub G) (ug G) u a0 x1 = some (r, uf)) : u.1 ≤ uf.1 ∧ u.2.1 ≤ uf.2.1 := by
  unfold f_J4_append at h
  obtain ⟨y1, hy1, h⟩ := mbind_n h
  obtain ⟨c2, h⟩ := mif_n h
  obtain ⟨u3, c4, h⟩ := mbind_n h
  have zu3 := zz_J4_ensureCapacityInternal N (ub G) (ug G) u a0 (y1 + 1) u3 c4
  have hq := zz_J4_append_10 (G := G) (a0 := a0) N u3 x1 h
  exact ⟨by omega, by omega⟩
set_option maxHeartbeats 4000000 in
set_option maxRecDepth 100000 in
theorem w_J4_append_0 {p : Program} {l : Launch} {e : Env} {R : Room} {s : State} {m : MethodId} {args : Array Value} {below : List Frame} {meth : Method} {c : Code} {G : uG} {a0 : Nat} {u0 : UH} {uf : UH} {r : Option Nat} (hC : uC p s m args meth c G RJ4 cJ4_append 2 (some (.object "java/lang/AbstractStringBuilder"))) (hR : 4 ≤ R.frames ∧ 104 ≤ R.locals) (hRm : uf.1 - u0.1 ≤ R.cells ∧ uf.2.1 - u0.2.1 ≤ R.slots) (N : Nat) (u : UH) (x1 : Int32) (h : f_J4_append N (ub G) (ug G) u a0 x1 = some (r, uf)) (hz0 : (u0.1 ≤ u.1 ∧ u0.2.1 ≤ u.2.1)) {H : Heap} {locs : List Loc} (hP : uP G u H) (hS : va_S (uA G) s.heap H locs) {ls : Array Slot} (hl : lv_has ls 2 [(0, va_rf (some a0)), (1, .int x1)]) : W p l e R s m args below meth c H locs (u.1 - u0.1) (u.2.1 - u0.2.1) (MQ below (uQr G r uf) args s (uf.1 - u0.1) (uf.2.1 - u0.2.1) (uA G)) (F0 m 0 ls []) := by
  obtain ⟨⟨hx, hb, hml, hown, hts⟩, hKK⟩ := id hC
  have hzf := zz_J4_append_0 (G := G) (a0 := a0) N u x1 h
  unfold f_J4_append at h
  refine u_aload_n (r := some a0) hx hb dJ4_append_0 rfl (lv_at hl 0 rfl) ?_
  refine u_aload_n (r := some a0) hx hb dJ4_append_1 rfl (lv_at hl 0 rfl) ?_
  obtain ⟨y1, hy1, h⟩ := mbind_n h
  refine u_get hC hP (uGI_n hy1) rfl in_J5 (by decide) q379 (fun _ h => h) dJ4_append_2 ?_
  refine lv_iconst (v := 1) hx hb dJ4_append_5 (by decide) ?_
  refine lv_iadd hx hb dJ4_append_6 ?_
  obtain ⟨c2, h⟩ := mif_n h
  obtain ⟨u3, c4, h⟩ := mbind_n h
  have zu3 := zz_J4_ensureCapacityInternal N (ub G) (ug G) u a0 (y1 + 1) u3 c4
  have hq := zz_J4_append_10 (G := G) (a0 := a0) N u3 x1 h
  refine u_callv (va_runU (As := [.int (y1 + 1)]) (rest := []) hC.1 (met_J4_ensureCapacityInternal l N G u a0 (y1 + 1) u3 c4) (u_cwU (C := RJ5) (owner := RJ4) 1 hts q396 q2550 (va_Nw.use rfl (hC.2.1.2.2.2.2.2 _ (List.mem_of_getElem? (i := 0) rfl))) q398 q108 q399 rfl rfl rfl (by decide +kernel) ⟨Nat.le_trans (Nat.le_of_ble_eq_true rfl) hR.1, Nat.le_trans (Nat.le_of_ble_eq_true rfl) hR.2⟩) ⟨uPc_blind, u_rcv hC hP c2 rfl, fun U hU hW => u_pre hC hP hS hU hW⟩ rfl rfl hl.1 rfl (lv_room (Nat.le_of_ble_eq_true rfl)) dJ4_append_7 ⟨by omega, by omega⟩) hS (fun H locs hP hS => ?_)
  refine W.cs (cells' := u3.1 - u0.1) (slots' := u3.2.1 - u0.2.1) (by omega) (by omega) ?_
  refine W.cs (cells' := u3.1 - u0.1) (slots' := u3.2.1 - u0.2.1) (by omega) (by omega) ?_
  exact w_J4_append_10 hC hR hRm N u3 x1 h ⟨by omega, by omega⟩ hP hS (lv_sub hl [0, 1] rfl)
theorem zz_J4_append (N b : Nat) (g : uEnv) (u : UH) (a0 : Nat) (x1 : Int32) (r : Option Nat) (uf : UH) (h : f_J4_append N b g u a0 x1 = some (r, uf)) : u.1 ≤ uf.1 ∧ u.2.1 ≤ uf.2.1 :=
  zz_J4_append_0 (G := ((fun _ => 0, fun _ _ => 0), fun _ => 0, b, g)) (a0 := a0) N u x1 h
theorem met_J4_append (l : Launch) (N : Nat) (G : uG) (u : UH) (a0 : Nat) (x1 : Int32) (r : Option Nat) (uf : UH) (h : f_J4_append N (ub G) (ug G) u a0 x1 = some (r, uf)) : Met l yJ4_append (ws_ yJ4_append cJ4_append 2 (some (.object "java/lang/AbstractStringBuilder"))) ({ frames := 4, cells := (uf.1 - u.1), slots := (uf.2.1 - u.2.1), locals := 104 }) (uPc G u [.ref a0, .int x1]) (uQr G r uf) (uf.1 - u.1) (uf.2.1 - u.2.1) (uA G) := by
  exact u_met (own := RJ4) (by decide +kernel) rfl (Nat.le_of_ble_eq_true rfl) (fun hC hn hsz ls hl hP => W.cs (Nat.sub_self _).symm (Nat.sub_self _).symm (w_J4_append_0 hC ⟨Nat.le_refl _, Nat.le_refl _⟩ ⟨Nat.le_refl _, Nat.le_refl _⟩ N u x1 h ⟨Nat.le_refl _, Nat.le_refl _⟩ hP va_S.rf hl))
def f_J4_init_38 (N b : Nat) (g : uEnv) (a0 : Nat) (u : UH) : Option (UH) :=
    some u
set_option maxHeartbeats 4000000 in
set_option maxRecDepth 100000 in
theorem zz_J4_init_38 {G : uG} {a0 : Nat} {uf : UH} (N : Nat) (u : UH) (h : f_J4_init_38 N (ub G) (ug G) a0 u = some uf) : u.1 ≤ uf.1 ∧ u.2.1 ≤ uf.2.1 := by
  unfold f_J4_init_38 at h
  cases h
  exact ⟨by omega, by omega⟩
set_option maxHeartbeats 4000000 in
set_option maxRecDepth 100000 in
theorem w_J4_init_38 {p : Program} {l : Launch} {e : Env} {R : Room} {s : State} {m : MethodId} {args : Array Value} {below : List Frame} {meth : Method} {c : Code} {G : uG} {a0 : Nat} {u0 : UH} {uf : UH} (hC : uC p s m args meth c G RJ4 cJ4_init 2 none) (hI : meth.name = "<init>") (hR : 1 ≤ R.frames ∧ 20 ≤ R.locals) (hRm : uf.1 - u0.1 ≤ R.cells ∧ uf.2.1 - u0.2.1 ≤ R.slots) (N : Nat) (u : UH) (h : f_J4_init_38 N (ub G) (ug G) a0 u = some uf) (hz0 : (u0.1 ≤ u.1 ∧ u0.2.1 ≤ u.2.1)) {H : Heap} {locs : List Loc} (hP : uP G u H) (hS : va_S (uA G) s.heap H locs) {ls : Array Slot} (hl : lv_has ls 2 []) : W p l e R s m args below meth c H locs (u.1 - u0.1) (u.2.1 - u0.2.1) (MQ below (uQv G uf) args s (uf.1 - u0.1) (uf.2.1 - u0.2.1) (uA G)) (F0 m 38 ls []) := by
  obtain ⟨⟨hx, hb, hml, hown, hts⟩, hKK⟩ := id hC
  have hzf := zz_J4_init_38 (G := G) (a0 := a0) N u h
  unfold f_J4_init_38 at h
  cases h
  exact u_vret hC hP hS dJ4_init_38
def f_J4_init_14 (N b : Nat) (g : uEnv) (a0 : Nat) (u : UH) (s0 : Option Nat) (s1 : Option Nat) : Option (UH) :=
    (s1).bind fun a1 =>
    (uPut b u a1 19 0 (va_rf s0)).bind fun u2 =>
    (uPut b u2 a0 19 1 (.int 0)).bind fun u3 =>
    f_J4_init_38 N b g a0 u3
set_option maxHeartbeats 4000000 in
set_option maxRecDepth 100000 in
theorem zz_J4_init_14 {G : uG} {a0 : Nat} {uf : UH} (N : Nat) (u : UH) (s0 : Option Nat) (s1 : Option Nat) (h : f_J4_init_14 N (ub G) (ug G) a0 u s0 s1 = some uf) : u.1 ≤ uf.1 ∧ u.2.1 ≤ uf.2.1 := by
  unfold f_J4_init_14 at h
  obtain ⟨a1, ha1, hha1⟩ := mbind_n h
  subst ha1
  have h := hha1
  obtain ⟨u2, hu2, h⟩ := mbind_n h
  have zu2 := uPut_sz hu2
  obtain ⟨u3, hu3, h⟩ := mbind_n h
  have zu3 := uPut_sz hu3
  have hq := zz_J4_init_38 (G := G) (a0 := a0) N u3 h
  exact ⟨by omega, by omega⟩
set_option maxHeartbeats 4000000 in
set_option maxRecDepth 100000 in
theorem w_J4_init_14 {p : Program} {l : Launch} {e : Env} {R : Room} {s : State} {m : MethodId} {args : Array Value} {below : List Frame} {meth : Method} {c : Code} {G : uG} {a0 : Nat} {u0 : UH} {uf : UH} (hC : uC p s m args meth c G RJ4 cJ4_init 2 none) (hI : meth.name = "<init>") (hR : 1 ≤ R.frames ∧ 20 ≤ R.locals) (hRm : uf.1 - u0.1 ≤ R.cells ∧ uf.2.1 - u0.2.1 ≤ R.slots) (N : Nat) (u : UH) (s0 : Option Nat) (s1 : Option Nat) (h : f_J4_init_14 N (ub G) (ug G) a0 u s0 s1 = some uf) (hz0 : (u0.1 ≤ u.1 ∧ u0.2.1 ≤ u.2.1)) {H : Heap} {locs : List Loc} (hP : uP G u H) (hS : va_S (uA G) s.heap H locs) {ls : Array Slot} (hl : lv_has ls 2 [(0, va_rf (some a0))]) : W p l e R s m args below meth c H locs (u.1 - u0.1) (u.2.1 - u0.2.1) (MQ below (uQv G uf) args s (uf.1 - u0.1) (uf.2.1 - u0.2.1) (uA G)) (F0 m 14 ls [va_rf s0, va_rf s1]) := by
  obtain ⟨⟨hx, hb, hml, hown, hts⟩, hKK⟩ := id hC
  have hzf := zz_J4_init_14 (G := G) (a0 := a0) N u s0 s1 h
  unfold f_J4_init_14 at h
  obtain ⟨a1, ha1, hha1⟩ := mbind_n h
  subst ha1
  have h := hha1
  obtain ⟨u2, hu2, h⟩ := mbind_n h
  have zu2 := uPut_sz hu2
  refine u_put hC hP hS hu2 rfl in_J5 tyJ5 tyJ5_ok nmJ5 (by decide) q376 (fun _ h => h) rfl (ty := (.array .byte)) (tyJ5_ok 0 (by decide)) (uNarA _ s0).1 (uNarA _ s0).2 dJ4_init_14 (fun H locs hP hS => ?_)
  refine W.cs (cells' := u2.1 - u0.1) (slots' := u2.2.1 - u0.2.1) (by omega) (by omega) ?_
  refine u_aload_n (r := some a0) hx hb dJ4_init_17 rfl (lv_at hl 0 rfl) ?_
  refine lv_iconst (v := 0) hx hb dJ4_init_18 (by decide) ?_
  obtain ⟨u3, hu3, h⟩ := mbind_n h
  have zu3 := uPut_sz hu3
  refine u_put hC hP hS hu3 rfl in_J5 tyJ5 tyJ5_ok nmJ5 (by decide) q377 (fun _ h => h) rfl (ty := .byte) (tyJ5_ok 1 (by decide)) (uFit_n (ty := .byte) (v := 0) rfl).1 (uFit_n (ty := .byte) (v := 0) rfl).2 dJ4_init_19 (fun H locs hP hS => ?_)
  refine W.cs (cells' := u3.1 - u0.1) (slots' := u3.2.1 - u0.2.1) (by omega) (by omega) ?_
  refine lv_goto (tgt := 38) hx hb dJ4_init_22 (by decide) ?_
  refine W.cs (cells' := u3.1 - u0.1) (slots' := u3.2.1 - u0.2.1) (by omega) (by omega) ?_
  exact w_J4_init_38 hC hI hR hRm N u3 h ⟨by omega, by omega⟩ hP hS (lv_sub hl [] rfl)
def f_J4_init (N b : Nat) (g : uEnv) (u : UH) (a0 : Nat) (x1 : Int32) : Option (UH) :=
    if (1 : Int32) = 0 then
    none
    else
    if ¬ x1 < 0 ∧ x1.toNatClampNeg ≤ 60000000 then
    mlet (u.1) fun a4 =>
    mlet (uNew u x1.toNatClampNeg (.inl (1, x1.toNatClampNeg, .inl (fun _ => 0)))) fun u2 =>
    f_J4_init_14 N b g a0 u2 (some a4) (some a0)
    else none
set_option maxHeartbeats 4000000 in
set_option maxRecDepth 100000 in
theorem zz_J4_init_0 {G : uG} {a0 : Nat} {uf : UH} (N : Nat) (u : UH) (x1 : Int32) (h : f_J4_init N (ub G) (ug G) u a0 x1 = some uf) : u.1 ≤ uf.1 ∧ u.2.1 ≤ uf.2.1 := by
  unfold f_J4_init at h
  by_cases c1 : (1 : Int32) = 0
  · have h := mif_t c1 h
    cases h
  · have h := mif_f c1 h
    obtain ⟨c3, h⟩ := mif_n h
    obtain ⟨a4, ea4⟩ : ∃ z : Nat, z = u.1 := ⟨_, rfl⟩
    have h := mlet_at ea4 h
    obtain ⟨u2, eu2⟩ : ∃ z : UH, z = uNew u x1.toNatClampNeg (.inl (1, x1.toNatClampNeg, .inl (fun _ => 0))) := ⟨_, rfl⟩
    have h := mlet_at eu2 h
    have zu2 : u2.1 = u.1 + 1 ∧ u2.2.1 = u.2.1 + x1.toNatClampNeg := by rw [eu2]; exact ⟨rfl, rfl⟩
    have hq := zz_J4_init_14 (G := G) (a0 := a0) N u2 (some a4) (some a0) h
    exact ⟨by omega, by omega⟩
set_option maxHeartbeats 4000000 in
set_option maxRecDepth 100000 in
theorem w_J4_init_0 {p : Program} {l : Launch} {e : Env} {R : Room} {s : State} {m : MethodId} {args : Array Value} {below : List Frame} {meth : Method} {c : Code} {G : uG} {a0 : Nat} {u0 : UH} {uf : UH} (hC : uC p s m args meth c G RJ4 cJ4_init 2 none) (hI : meth.name = "<init>") (hR : 1 ≤ R.frames ∧ 20 ≤ R.locals) (hRm : uf.1 - u0.1 ≤ R.cells ∧ uf.2.1 - u0.2.1 ≤ R.slots) (N : Nat) (u : UH) (x1 : Int32) (h : f_J4_init N (ub G) (ug G) u a0 x1 = some uf) (hz0 : (u0.1 ≤ u.1 ∧ u0.2.1 ≤ u.2.1)) {H : Heap} {locs : List Loc} (hP : uP G u H) (hS : va_S (uA G) s.heap H locs) {ls : Array Slot} (hl : lv_has ls 2 [(0, va_rf (some a0)), (1, .int x1)]) : W p l e R s m args below meth c H locs (u.1 - u0.1) (u.2.1 - u0.2.1) (MQ below (uQv G uf) args s (uf.1 - u0.1) (uf.2.1 - u0.2.1) (uA G)) (F0 m 0 ls []) := by
  obtain ⟨⟨hx, hb, hml, hown, hts⟩, hKK⟩ := id hC
  have hzf := zz_J4_init_0 (G := G) (a0 := a0) N u x1 h
  unfold f_J4_init at h
  refine u_aload_n (r := some a0) hx hb dJ4_init_0 rfl (lv_at hl 0 rfl) ?_
  refine W.objInit hx hb hown (hts _ q366) (hts _ q148) (hts _ q149) rfl (by rw [hml]; exact hl.1) rfl dJ4_init_1 (Nat.le_trans (Nat.le_of_ble_eq_true rfl) hR.1) (Nat.le_trans (Nat.le_of_ble_eq_true rfl) hR.2) ?_
  refine W.eq (g2 := F0 m 4 ls []) rfl ?_
  refine u_getsC hC hS q367 (fun _ h => h) dJ4_init_4 ?_
  refine lv_if_eq (tgt := 25) hx hb dJ4_init_7 (by decide) (fun c1 => ?_) (fun c1 => ?_)
  · have h := mif_t c1 h
    refine u_aload_n (r := some a0) hx hb dJ4_init_25 rfl (lv_at hl 0 rfl) ?_
    refine lv_iload_n hx hb dJ4_init_26 rfl (lv_at hl 1 rfl) ?_
    cases h
  · have h := mif_f c1 h
    refine u_aload_n (r := some a0) hx hb dJ4_init_10 rfl (lv_at hl 0 rfl) ?_
    refine lv_iload_n hx hb dJ4_init_11 rfl (lv_at hl 1 rfl) ?_
    obtain ⟨c3, h⟩ := mif_n h
    obtain ⟨a4, ea4⟩ : ∃ z : Nat, z = u.1 := ⟨_, rfl⟩
    have h := mlet_at ea4 h
    obtain ⟨u2, eu2⟩ : ∃ z : UH, z = uNew u x1.toNatClampNeg (.inl (1, x1.toNatClampNeg, .inl (fun _ => 0))) := ⟨_, rfl⟩
    have h := mlet_at eu2 h
    have zu2 : u2.1 = u.1 + 1 ∧ u2.2.1 = u.2.1 + x1.toNatClampNeg := by rw [eu2]; exact ⟨rfl, rfl⟩
    have hq := zz_J4_init_14 (G := G) (a0 := a0) N u2 (some a4) (some a0) h
    refine u_newa (atype := .byte) hC hP hS (t := 1) q185 rfl (N := x1.toNatClampNeg) (x := .inl (fun _ => 0)) (fun _ => rfl) c3.1 rfl (by have := c3.2; show _ * 1 ≤ _; omega) (by omega) (by omega) dJ4_init_12 (fun H hP hS => ?_)
    rw [← eu2] at hP
    rw [← ea4]
    refine W.cs (cells' := u2.1 - u0.1) (slots' := u2.2.1 - u0.2.1) (by omega) (by omega) ?_
    refine W.cs (cells' := u2.1 - u0.1) (slots' := u2.2.1 - u0.2.1) (by omega) (by omega) ?_
    exact w_J4_init_14 hC hI hR hRm N u2 (some a4) (some a0) h ⟨by omega, by omega⟩ hP hS (lv_sub hl [0] rfl)
theorem zz_J4_init (N b : Nat) (g : uEnv) (u : UH) (a0 : Nat) (x1 : Int32) (uf : UH) (h : f_J4_init N b g u a0 x1 = some uf) : u.1 ≤ uf.1 ∧ u.2.1 ≤ uf.2.1 :=
  zz_J4_init_0 (G := ((fun _ => 0, fun _ _ => 0), fun _ => 0, b, g)) (a0 := a0) N u x1 h
theorem met_J4_init (l : Launch) (N : Nat) (G : uG) (u : UH) (a0 : Nat) (x1 : Int32) (uf : UH) (h : f_J4_init N (ub G) (ug G) u a0 x1 = some uf) : Met l yJ4_init (ws_ yJ4_init cJ4_init 2 none) ({ frames := 1, cells := (uf.1 - u.1), slots := (uf.2.1 - u.2.1), locals := 20 }) (uPc G u [.ref a0, .int x1]) (uQv G uf) (uf.1 - u.1) (uf.2.1 - u.2.1) (uA G) := by
  exact u_met (own := RJ4) (by decide +kernel) rfl (Nat.le_of_ble_eq_true rfl) (fun hC hn hsz ls hl hP => W.cs (Nat.sub_self _).symm (Nat.sub_self _).symm (w_J4_init_0 hC hn ⟨Nat.le_refl _, Nat.le_refl _⟩ ⟨Nat.le_refl _, Nat.le_refl _⟩ N u x1 h ⟨Nat.le_refl _, Nat.le_refl _⟩ hP va_S.rf hl))
def f_J5_append_5 (N b : Nat) (g : uEnv) (a0 : Nat) (u : UH) (s0 : Option Nat) : Option (Option Nat × UH) :=
    some (some a0, u)
set_option maxHeartbeats 4000000 in
set_option maxRecDepth 100000 in
theorem zz_J5_append_5 {G : uG} {a0 : Nat} {uf : UH} {r : Option Nat} (N : Nat) (u : UH) (s0 : Option Nat) (h : f_J5_append_5 N (ub G) (ug G) a0 u s0 = some (r, uf)) : u.1 ≤ uf.1 ∧ u.2.1 ≤ uf.2.1 := by
  unfold f_J5_append_5 at h
  obtain ⟨hr1, hr2⟩ := uret_n h
  subst hr2
  exact ⟨by omega, by omega⟩
set_option maxHeartbeats 4000000 in
set_option maxRecDepth 100000 in
theorem w_J5_append_5 {p : Program} {l : Launch} {e : Env} {R : Room} {s : State} {m : MethodId} {args : Array Value} {below : List Frame} {meth : Method} {c : Code} {G : uG} {a0 : Nat} {u0 : UH} {uf : UH} {r : Option Nat} (hC : uC p s m args meth c G RJ5 cJ5_append 2 (some (.object "java/lang/StringBuilder"))) (hR : 5 ≤ R.frames ∧ 125 ≤ R.locals) (hRm : uf.1 - u0.1 ≤ R.cells ∧ uf.2.1 - u0.2.1 ≤ R.slots) (N : Nat) (u : UH) (s0 : Option Nat) (h : f_J5_append_5 N (ub G) (ug G) a0 u s0 = some (r, uf)) (hz0 : (u0.1 ≤ u.1 ∧ u0.2.1 ≤ u.2.1)) {H : Heap} {locs : List Loc} (hP : uP G u H) (hS : va_S (uA G) s.heap H locs) {ls : Array Slot} (hl : lv_has ls 2 [(0, va_rf (some a0))]) : W p l e R s m args below meth c H locs (u.1 - u0.1) (u.2.1 - u0.2.1) (MQ below (uQr G r uf) args s (uf.1 - u0.1) (uf.2.1 - u0.2.1) (uA G)) (F0 m 5 ls [va_rf s0]) := by
  obtain ⟨⟨hx, hb, hml, hown, hts⟩, hKK⟩ := id hC
  have hzf := zz_J5_append_5 (G := G) (a0 := a0) N u s0 h
  unfold f_J5_append_5 at h
  refine lv_pop hx hb dJ5_append_5 (u_cat _) ?_
  refine u_aload_n (r := some a0) hx hb dJ5_append_6 rfl (lv_at hl 0 rfl) ?_
  obtain ⟨hr1, hr2⟩ := uret_n h
  subst hr1
  subst hr2
  exact u_aret hC (Or.inl ⟨_, rfl⟩) hP hS dJ5_append_7
def f_J5_append (N b : Nat) (g : uEnv) (u : UH) (a0 : Nat) (x1 : Int32) : Option (Option Nat × UH) :=
    if uIs u a0 19 = true then
    ucall (f_J4_append N b g u a0 x1) fun o4 u2 =>
    f_J5_append_5 N b g a0 u2 o4
    else none
set_option maxHeartbeats 4000000 in
set_option maxRecDepth 100000 in
theorem zz_J5_append_0 {G : uG} {a0 : Nat} {uf : UH} {r : Option Nat} (N : Nat) (u : UH) (x1 : Int32) (h : f_J5_append N (ub G) (ug G) u a0 x1 = some (r, uf)) : u.1 ≤ uf.1 ∧ u.2.1 ≤ uf.2.1 := by
  unfold f_J5_append at h
  obtain ⟨c1, h⟩ := mif_n h
  obtain ⟨o4, u2, c3, h⟩ := ucall_n h
  have zu2 := zz_J4_append N (ub G) (ug G) u a0 x1 o4 u2 c3
  have hq := zz_J5_append_5 (G := G) (a0 := a0) N u2 o4 h
  exact ⟨by omega, by omega⟩
set_option maxHeartbeats 4000000 in
set_option maxRecDepth 100000 in
theorem w_J5_append_0 {p : Program} {l : Launch} {e : Env} {R : Room} {s : State} {m : MethodId} {args : Array Value} {below : List Frame} {meth : Method} {c : Code} {G : uG} {a0 : Nat} {u0 : UH} {uf : UH} {r : Option Nat} (hC : uC p s m args meth c G RJ5 cJ5_append 2 (some (.object "java/lang/StringBuilder"))) (hR : 5 ≤ R.frames ∧ 125 ≤ R.locals) (hRm : uf.1 - u0.1 ≤ R.cells ∧ uf.2.1 - u0.2.1 ≤ R.slots) (N : Nat) (u : UH) (x1 : Int32) (h : f_J5_append N (ub G) (ug G) u a0 x1 = some (r, uf)) (hz0 : (u0.1 ≤ u.1 ∧ u0.2.1 ≤ u.2.1)) {H : Heap} {locs : List Loc} (hP : uP G u H) (hS : va_S (uA G) s.heap H locs) {ls : Array Slot} (hl : lv_has ls 2 [(0, va_rf (some a0)), (1, .int x1)]) : W p l e R s m args below meth c H locs (u.1 - u0.1) (u.2.1 - u0.2.1) (MQ below (uQr G r uf) args s (uf.1 - u0.1) (uf.2.1 - u0.2.1) (uA G)) (F0 m 0 ls []) := by
  obtain ⟨⟨hx, hb, hml, hown, hts⟩, hKK⟩ := id hC
  have hzf := zz_J5_append_0 (G := G) (a0 := a0) N u x1 h
  unfold f_J5_append at h
  refine u_aload_n (r := some a0) hx hb dJ5_append_0 rfl (lv_at hl 0 rfl) ?_
  refine lv_iload_n hx hb dJ5_append_1 rfl (lv_at hl 1 rfl) ?_
  obtain ⟨c1, h⟩ := mif_n h
  obtain ⟨o4, u2, c3, h⟩ := ucall_n h
  have zu2 := zz_J4_append N (ub G) (ug G) u a0 x1 o4 u2 c3
  have hq := zz_J5_append_5 (G := G) (a0 := a0) N u2 o4 h
  refine u_callr (va_runSU (As := [.int x1]) (rest := []) (C := RJ5) (hC.2.1.1.1 19 _ rfl).2 hC.1 (met_J4_append l N G u a0 x1 o4 u2 c3) (va_cwSU 1 hts (lw_SU q393 q2549 q388 q394 q108 q395) rfl rfl rfl (by decide +kernel) ⟨Nat.le_trans (Nat.le_of_ble_eq_true rfl) hR.1, Nat.le_trans (Nat.le_of_ble_eq_true rfl) hR.2⟩) ⟨uPc_blind, u_rcv hC hP c1 rfl, fun U hU hW => u_pre hC hP hS hU hW⟩ rfl rfl hl.1 rfl (lv_room (Nat.le_of_ble_eq_true rfl)) dJ5_append_2 ⟨by omega, by omega⟩) hS (fun H locs hP hS => ?_)
  refine W.cs (cells' := u2.1 - u0.1) (slots' := u2.2.1 - u0.2.1) (by omega) (by omega) ?_
  refine W.cs (cells' := u2.1 - u0.1) (slots' := u2.2.1 - u0.2.1) (by omega) (by omega) ?_
  exact w_J5_append_5 hC hR hRm N u2 o4 h ⟨by omega, by omega⟩ hP hS (lv_sub hl [0] rfl)
theorem zz_J5_append (N b : Nat) (g : uEnv) (u : UH) (a0 : Nat) (x1 : Int32) (r : Option Nat) (uf : UH) (h : f_J5_append N b g u a0 x1 = some (r, uf)) : u.1 ≤ uf.1 ∧ u.2.1 ≤ uf.2.1 :=
  zz_J5_append_0 (G := ((fun _ => 0, fun _ _ => 0), fun _ => 0, b, g)) (a0 := a0) N u x1 h
theorem met_J5_append (l : Launch) (N : Nat) (G : uG) (u : UH) (a0 : Nat) (x1 : Int32) (r : Option Nat) (uf : UH) (h : f_J5_append N (ub G) (ug G) u a0 x1 = some (r, uf)) : Met l yJ5_append (ws_ yJ5_append cJ5_append 2 (some (.object "java/lang/StringBuilder"))) ({ frames := 5, cells := (uf.1 - u.1), slots := (uf.2.1 - u.2.1), locals := 125 }) (uPc G u [.ref a0, .int x1]) (uQr G r uf) (uf.1 - u.1) (uf.2.1 - u.2.1) (uA G) := by
  exact u_met (own := RJ5) (by decide +kernel) rfl (Nat.le_of_ble_eq_true rfl) (fun hC hn hsz ls hl hP => W.cs (Nat.sub_self _).symm (Nat.sub_self _).symm (w_J5_append_0 hC ⟨Nat.le_refl _, Nat.le_refl _⟩ ⟨Nat.le_refl _, Nat.le_refl _⟩ N u x1 h ⟨Nat.le_refl _, Nat.le_refl _⟩ hP va_S.rf hl))
def f_J5_init_6 (N b : Nat) (g : uEnv) (a0 : Nat) (u : UH) : Option (UH) :=
    some u
set_option maxHeartbeats 4000000 in
set_option maxRecDepth 100000 in
theorem zz_J5_init_6 {G : uG} {a0 : Nat} {uf : UH} (N : Nat) (u : UH) (h : f_J5_init_6 N (ub G) (ug G) a0 u = some uf) : u.1 ≤ uf.1 ∧ u.2.1 ≤ uf.2.1 := by
  unfold f_J5_init_6 at h
  cases h
  exact ⟨by omega, by omega⟩
set_option maxHeartbeats 4000000 in
set_option maxRecDepth 100000 in
theorem w_J5_init_6 {p : Program} {l : Launch} {e : Env} {R : Room} {s : State} {m : MethodId} {args : Array Value} {below : List Frame} {meth : Method} {c : Code} {G : uG} {a0 : Nat} {u0 : UH} {uf : UH} (hC : uC p s m args meth c G RJ5 cJ5_init 1 none) (hI : meth.name = "<init>") (hR : 2 ≤ R.frames ∧ 41 ≤ R.locals) (hRm : uf.1 - u0.1 ≤ R.cells ∧ uf.2.1 - u0.2.1 ≤ R.slots) (N : Nat) (u : UH) (h : f_J5_init_6 N (ub G) (ug G) a0 u = some uf) (hz0 : (u0.1 ≤ u.1 ∧ u0.2.1 ≤ u.2.1)) {H : Heap} {locs : List Loc} (hP : uP G u H) (hS : va_S (uA G) s.heap H locs) {ls : Array Slot} (hl : lv_has ls 1 []) : W p l e R s m args below meth c H locs (u.1 - u0.1) (u.2.1 - u0.2.1) (MQ below (uQv G uf) args s (uf.1 - u0.1) (uf.2.1 - u0.2.1) (uA G)) (F0 m 6 ls []) := by
  obtain ⟨⟨hx, hb, hml, hown, hts⟩, hKK⟩ := id hC
  have hzf := zz_J5_init_6 (G := G) (a0 := a0) N u h
  unfold f_J5_init_6 at h
  cases h
  exact u_vret hC hP hS dJ5_init_6
def f_J5_init (N b : Nat) (g : uEnv) (u : UH) (a0 : Nat) : Option (UH) :=
    (f_J4_init N b g u a0 16).bind fun u1 =>
    f_J5_init_6 N b g a0 u1
set_option maxHeartbeats 4000000 in
set_option maxRecDepth 100000 in
theorem zz_J5_init_0 {G : uG} {a0 : Nat} {uf : UH} (N : Nat) (u : UH) (h : f_J5_init N (ub G) (ug G) u a0 = some uf) : u.1 ≤ uf.1 ∧ u.2.1 ≤ uf.2.1 := by
  unfold f_J5_init at h
  obtain ⟨u1, c2, h⟩ := mbind_n h
  have zu1 := zz_J4_init N (ub G) (ug G) u a0 16 u1 c2
  have hq := zz_J5_init_6 (G := G) (a0 := a0) N u1 h
  exact ⟨by omega, by omega⟩
set_option maxHeartbeats 4000000 in
set_option maxRecDepth 100000 in
theorem w_J5_init_0 {p : Program} {l : Launch} {e : Env} {R : Room} {s : State} {m : MethodId} {args : Array Value} {below : List Frame} {meth : Method} {c : Code} {G : uG} {a0 : Nat} {u0 : UH} {uf : UH} (hC : uC p s m args meth c G RJ5 cJ5_init 1 none) (hI : meth.name = "<init>") (hR : 2 ≤ R.frames ∧ 41 ≤ R.locals) (hRm : uf.1 - u0.1 ≤ R.cells ∧ uf.2.1 - u0.2.1 ≤ R.slots) (N : Nat) (u : UH) (h : f_J5_init N (ub G) (ug G) u a0 = some uf) (hz0 : (u0.1 ≤ u.1 ∧ u0.2.1 ≤ u.2.1)) {H : Heap} {locs : List Loc} (hP : uP G u H) (hS : va_S (uA G) s.heap H locs) {ls : Array Slot} (hl : lv_has ls 1 [(0, va_rf (some a0))]) : W p l e R s m args below meth c H locs (u.1 - u0.1) (u.2.1 - u0.2.1) (MQ below (uQv G uf) args s (uf.1 - u0.1) (uf.2.1 - u0.2.1) (uA G)) (F0 m 0 ls []) := by
  obtain ⟨⟨hx, hb, hml, hown, hts⟩, hKK⟩ := id hC
  have hzf := zz_J5_init_0 (G := G) (a0 := a0) N u h
  unfold f_J5_init at h
  refine u_aload_n (r := some a0) hx hb dJ5_init_0 rfl (lv_at hl 0 rfl) ?_
  refine lv_bipush (v := 16) hx hb dJ5_init_1 (by decide) ?_
  obtain ⟨u1, c2, h⟩ := mbind_n h
  have zu1 := zz_J4_init N (ub G) (ug G) u a0 16 u1 c2
  have hq := zz_J5_init_6 (G := G) (a0 := a0) N u1 h
  refine u_callv (va_runI (As := [.int 16]) (rest := []) hC.1 (met_J4_init l N G u a0 16 u1 c2) (cwI 1 hts (lw_meth q365) rfl rfl rfl (hts _ q108) (hts _ q363) (hts _ q364) rfl (by decide +kernel) ⟨Nat.le_trans (Nat.le_of_ble_eq_true rfl) hR.1, Nat.le_trans (Nat.le_of_ble_eq_true rfl) hR.2⟩) ⟨uPc_blind, fun U hU hW => u_pre hC hP hS hU hW⟩ rfl rfl hl.1 rfl (lv_room (Nat.le_of_ble_eq_true rfl)) dJ5_init_3 ⟨by omega, by omega⟩) hS (fun H locs hP hS => ?_)
  refine W.cs (cells' := u1.1 - u0.1) (slots' := u1.2.1 - u0.2.1) (by omega) (by omega) ?_
  refine W.cs (cells' := u1.1 - u0.1) (slots' := u1.2.1 - u0.2.1) (by omega) (by omega) ?_
  exact w_J5_init_6 hC hI hR hRm N u1 h ⟨by omega, by omega⟩ hP hS (lv_sub hl [] rfl)
theorem zz_J5_init (N b : Nat) (g : uEnv) (u : UH) (a0 : Nat) (uf : UH) (h : f_J5_init N b g u a0 = some uf) : u.1 ≤ uf.1 ∧ u.2.1 ≤ uf.2.1 :=
  zz_J5_init_0 (G := ((fun _ => 0, fun _ _ => 0), fun _ => 0, b, g)) (a0 := a0) N u h
theorem met_J5_init (l : Launch) (N : Nat) (G : uG) (u : UH) (a0 : Nat) (uf : UH) (h : f_J5_init N (ub G) (ug G) u a0 = some uf) : Met l yJ5_init (ws_ yJ5_init cJ5_init 1 none) ({ frames := 2, cells := (uf.1 - u.1), slots := (uf.2.1 - u.2.1), locals := 41 }) (uPc G u [.ref a0]) (uQv G uf) (uf.1 - u.1) (uf.2.1 - u.2.1) (uA G) := by
  exact u_met (own := RJ5) (by decide +kernel) rfl (Nat.le_of_ble_eq_true rfl) (fun hC hn hsz ls hl hP => W.cs (Nat.sub_self _).symm (Nat.sub_self _).symm (w_J5_init_0 hC hn ⟨Nat.le_refl _, Nat.le_refl _⟩ ⟨Nat.le_refl _, Nat.le_refl _⟩ N u h ⟨Nat.le_refl _, Nat.le_refl _⟩ hP va_S.rf hl))
def f_J6_init_2_97 (N b : Nat) (g : uEnv) (a0 : Nat) (u : UH) : Option (UH) :=
    some u
set_option maxHeartbeats 4000000 in
set_option maxRecDepth 100000 in
theorem zz_J6_init_2_97 {G : uG} {a0 : Nat} {uf : UH} (N : Nat) (u : UH) (h : f_J6_init_2_97 N (ub G) (ug G) a0 u = some uf) : u.1 ≤ uf.1 ∧ u.2.1 ≤ uf.2.1 := by
  unfold f_J6_init_2_97 at h
  cases h
  exact ⟨by omega, by omega⟩
set_option maxHeartbeats 4000000 in
set_option maxRecDepth 100000 in
theorem w_J6_init_2_97 {p : Program} {l : Launch} {e : Env} {R : Room} {s : State} {m : MethodId} {args : Array Value} {below : List Frame} {meth : Method} {c : Code} {G : uG} {a0 : Nat} {u0 : UH} {uf : UH} (hC : uC p s m args meth c G RJ6 cJ6_init_2 5 none) (hI : meth.name = "<init>") (hR : 3 ≤ R.frames ∧ 106 ≤ R.locals) (hRm : uf.1 - u0.1 ≤ R.cells ∧ uf.2.1 - u0.2.1 ≤ R.slots) (N : Nat) (u : UH) (h : f_J6_init_2_97 N (ub G) (ug G) a0 u = some uf) (hz0 : (u0.1 ≤ u.1 ∧ u0.2.1 ≤ u.2.1)) {H : Heap} {locs : List Loc} (hP : uP G u H) (hS : va_S (uA G) s.heap H locs) {ls : Array Slot} (hl : lv_has ls 5 []) : W p l e R s m args below meth c H locs (u.1 - u0.1) (u.2.1 - u0.2.1) (MQ below (uQv G uf) args s (uf.1 - u0.1) (uf.2.1 - u0.2.1) (uA G)) (F0 m 97 ls []) := by
  obtain ⟨⟨hx, hb, hml, hown, hts⟩, hKK⟩ := id hC
  have hzf := zz_J6_init_2_97 (G := G) (a0 := a0) N u h
  unfold f_J6_init_2_97 at h
  cases h
  exact u_vret hC hP hS dJ6_init_2_97
def f_J6_init_2_94 (N b : Nat) (g : uEnv) (a0 : Nat) (u : UH) (s0 : Option Nat) (s1 : Option Nat) : Option (UH) :=
    (s1).bind fun a1 =>
    (uPut b u a1 20 0 (va_rf s0)).bind fun u2 =>
    f_J6_init_2_97 N b g a0 u2
set_option maxHeartbeats 4000000 in
set_option maxRecDepth 100000 in
theorem zz_J6_init_2_94 {G : uG} {a0 : Nat} {uf : UH} (N : Nat) (u : UH) (s0 : Option Nat) (s1 : Option Nat) (h : f_J6_init_2_94 N (ub G) (ug G) a0 u s0 s1 = some uf) : u.1 ≤ uf.1 ∧ u.2.1 ≤ uf.2.1 := by
  unfold f_J6_init_2_94 at h
  obtain ⟨a1, ha1, hha1⟩ := mbind_n h
  subst ha1
  have h := hha1
  obtain ⟨u2, hu2, h⟩ := mbind_n h
  have zu2 := uPut_sz hu2
  have hq := zz_J6_init_2_97 (G := G) (a0 := a0) N u2 h
  exact ⟨by omega, by omega⟩
set_option maxHeartbeats 4000000 in
set_option maxRecDepth 100000 in
theorem w_J6_init_2_94 {p : Program} {l : Launch} {e : Env} {R : Room} {s : State} {m : MethodId} {args : Array Value} {below : List Frame} {meth : Method} {c : Code} {G : uG} {a0 : Nat} {u0 : UH} {uf : UH} (hC : uC p s m args meth c G RJ6 cJ6_init_2 5 none) (hI : meth.name = "<init>") (hR : 3 ≤ R.frames ∧ 106 ≤ R.locals) (hRm : uf.1 - u0.1 ≤ R.cells ∧ uf.2.1 - u0.2.1 ≤ R.slots) (N : Nat) (u : UH) (s0 : Option Nat) (s1 : Option Nat) (h : f_J6_init_2_94 N (ub G) (ug G) a0 u s0 s1 = some uf) (hz0 : (u0.1 ≤ u.1 ∧ u0.2.1 ≤ u.2.1)) {H : Heap} {locs : List Loc} (hP : uP G u H) (hS : va_S (uA G) s.heap H locs) {ls : Array Slot} (hl : lv_has ls 5 []) : W p l e R s m args below meth c H locs (u.1 - u0.1) (u.2.1 - u0.2.1) (MQ below (uQv G uf) args s (uf.1 - u0.1) (uf.2.1 - u0.2.1) (uA G)) (F0 m 94 ls [va_rf s0, va_rf s1]) := by
  obtain ⟨⟨hx, hb, hml, hown, hts⟩, hKK⟩ := id hC
  have hzf := zz_J6_init_2_94 (G := G) (a0 := a0) N u s0 s1 h
  unfold f_J6_init_2_94 at h
  obtain ⟨a1, ha1, hha1⟩ := mbind_n h
  subst ha1
  have h := hha1
  obtain ⟨u2, hu2, h⟩ := mbind_n h
  have zu2 := uPut_sz hu2
  refine u_putF hC hI hP hS hu2 rfl in_J6 tyJ6 tyJ6_ok nmJ6 (by decide) q534 (fun _ h => h) rfl rfl (ty := (.array .byte)) (tyJ6_ok 0 (by decide)) (uNarA _ s0).1 (uNarA _ s0).2 dJ6_init_2_94 (fun H locs hP hS => ?_)
  refine W.cs (cells' := u2.1 - u0.1) (slots' := u2.2.1 - u0.2.1) (by omega) (by omega) ?_
  refine W.cs (cells' := u2.1 - u0.1) (slots' := u2.2.1 - u0.2.1) (by omega) (by omega) ?_
  exact w_J6_init_2_97 hC hI hR hRm N u2 h ⟨by omega, by omega⟩ hP hS (lv_sub hl [] rfl)
def f_J6_init_2_79 (N b : Nat) (g : uEnv) (a0 : Nat) (u : UH) (x3 : Option Nat) (x4 : Int32) : Option (UH) :=
    (uPut b u a0 20 1 (.int 1)).bind fun u1 =>
    ucall (f_J10_copyOfRange N b g u1 x3 0 (x4 <<< (1 &&& 31))) fun o4 u2 =>
    f_J6_init_2_94 N b g a0 u2 o4 (some a0)
set_option maxHeartbeats 4000000 in
set_option maxRecDepth 100000 in
theorem zz_J6_init_2_79 {G : uG} {a0 : Nat} {uf : UH} (N : Nat) (u : UH) (x3 : Option Nat) (x4 : Int32) (h : f_J6_init_2_79 N (ub G) (ug G) a0 u x3 x4 = some uf) : u.1 ≤ uf.1 ∧ u.2.1 ≤ uf.2.1 := by
  unfold f_J6_init_2_79 at h
  obtain ⟨u1, hu1, h⟩ := mbind_n h
  have zu1 := uPut_sz hu1
  obtain ⟨o4, u2, c3, h⟩ := ucall_n h
  have zu2 := zz_J10_copyOfRange N (ub G) (ug G) u1 x3 0 (x4 <<< (1 &&& 31)) o4 u2 c3
  have hq := zz_J6_init_2_94 (G := G) (a0 := a0) N u2 o4 (some a0) h
  exact ⟨by omega, by omega⟩
set_option maxHeartbeats 4000000 in
set_option maxRecDepth 100000 in
theorem w_J6_init_2_79 {p : Program} {l : Launch} {e : Env} {R : Room} {s : State} {m : MethodId} {args : Array Value} {below : List Frame} {meth : Method} {c : Code} {G : uG} {a0 : Nat} {u0 : UH} {uf : UH} (hC : uC p s m args meth c G RJ6 cJ6_init_2 5 none) (hI : meth.name = "<init>") (hR : 3 ≤ R.frames ∧ 106 ≤ R.locals) (hRm : uf.1 - u0.1 ≤ R.cells ∧ uf.2.1 - u0.2.1 ≤ R.slots) (N : Nat) (u : UH) (x3 : Option Nat) (x4 : Int32) (h : f_J6_init_2_79 N (ub G) (ug G) a0 u x3 x4 = some uf) (hz0 : (u0.1 ≤ u.1 ∧ u0.2.1 ≤ u.2.1)) {H : Heap} {locs : List Loc} (hP : uP G u H) (hS : va_S (uA G) s.heap H locs) {ls : Array Slot} (hl : lv_has ls 5 [(0, va_rf (some a0)), (3, va_rf x3), (4, .int x4)]) : W p l e R s m args below meth c H locs (u.1 - u0.1) (u.2.1 - u0.2.1) (MQ below (uQv G uf) args s (uf.1 - u0.1) (uf.2.1 - u0.2.1) (uA G)) (F0 m 79 ls []) := by
  obtain ⟨⟨hx, hb, hml, hown, hts⟩, hKK⟩ := id hC
  have hzf := zz_J6_init_2_79 (G := G) (a0 := a0) N u x3 x4 h
  unfold f_J6_init_2_79 at h
  refine u_aload_n (r := some a0) hx hb dJ6_init_2_79 rfl (lv_at hl 0 rfl) ?_
  refine lv_iconst (v := 1) hx hb dJ6_init_2_80 (by decide) ?_
  obtain ⟨u1, hu1, h⟩ := mbind_n h
  have zu1 := uPut_sz hu1
  refine u_putF hC hI hP hS hu1 rfl in_J6 tyJ6 tyJ6_ok nmJ6 (by decide) q535 (fun _ h => h) rfl rfl (ty := .byte) (tyJ6_ok 1 (by decide)) (uFit_n (ty := .byte) (v := 1) rfl).1 (uFit_n (ty := .byte) (v := 1) rfl).2 dJ6_init_2_81 (fun H locs hP hS => ?_)
  refine W.cs (cells' := u1.1 - u0.1) (slots' := u1.2.1 - u0.2.1) (by omega) (by omega) ?_
  refine u_aload_n (r := some a0) hx hb dJ6_init_2_84 rfl (lv_at hl 0 rfl) ?_
  refine u_aload_n (r := x3) hx hb dJ6_init_2_85 rfl (lv_at hl 1 rfl) ?_
  refine lv_iconst (v := 0) hx hb dJ6_init_2_86 (by decide) ?_
  refine lv_iload hx hb dJ6_init_2_87 (lv_at hl 2 rfl) ?_
  refine lv_iconst (v := 1) hx hb dJ6_init_2_89 (by decide) ?_
  refine lv_ishl hx hb dJ6_init_2_90 ?_
  obtain ⟨o4, u2, c3, h⟩ := ucall_n h
  have zu2 := zz_J10_copyOfRange N (ub G) (ug G) u1 x3 0 (x4 <<< (1 &&& 31)) o4 u2 c3
  have hq := zz_J6_init_2_94 (G := G) (a0 := a0) N u2 o4 (some a0) h
  refine u_callr (va_runS (As := [va_rf x3, .int 0, .int (x4 <<< (1 &&& 31))]) (rest := [va_rf (some a0)]) hC.1 (met_J10_copyOfRange l N G u1 x3 0 (x4 <<< (1 &&& 31)) o4 u2 c3) (va_cwS 3 hts (lw_S q511 q512 q114 q513) rfl rfl rfl (by decide +kernel) ⟨Nat.le_trans (Nat.le_of_ble_eq_true rfl) hR.1, Nat.le_trans (Nat.le_of_ble_eq_true rfl) hR.2⟩) ⟨uPc_blind, fun U hU hW => u_pre hC hP hS hU hW⟩ rfl rfl hl.1 rfl (lv_room (Nat.le_of_ble_eq_true rfl)) dJ6_init_2_91 ⟨by omega, by omega⟩) hS (fun H locs hP hS => ?_)
  refine W.cs (cells' := u2.1 - u0.1) (slots' := u2.2.1 - u0.2.1) (by omega) (by omega) ?_
  refine W.cs (cells' := u2.1 - u0.1) (slots' := u2.2.1 - u0.2.1) (by omega) (by omega) ?_
  exact w_J6_init_2_94 hC hI hR hRm N u2 o4 (some a0) h ⟨by omega, by omega⟩ hP hS (lv_sub hl [] rfl)
def f_J6_init_2_35 (N b : Nat) (g : uEnv) (a0 : Nat) (u : UH) (s0 : Option Nat) (s1 : Option Nat) : Option (UH) :=
    (s1).bind fun a1 =>
    (uPut b u a1 20 0 (va_rf s0)).bind fun u2 =>
    f_J6_init_2_97 N b g a0 u2
set_option maxHeartbeats 4000000 in
set_option maxRecDepth 100000 in
theorem zz_J6_init_2_35 {G : uG} {a0 : Nat} {uf : UH} (N : Nat) (u : UH) (s0 : Option Nat) (s1 : Option Nat) (h : f_J6_init_2_35 N (ub G) (ug G) a0 u s0 s1 = some uf) : u.1 ≤ uf.1 ∧ u.2.1 ≤ uf.2.1 := by
  unfold f_J6_init_2_35 at h
  obtain ⟨a1, ha1, hha1⟩ := mbind_n h
  subst ha1
  have h := hha1
  obtain ⟨u2, hu2, h⟩ := mbind_n h
  have zu2 := uPut_sz hu2
  have hq := zz_J6_init_2_97 (G := G) (a0 := a0) N u2 h
  exact ⟨by omega, by omega⟩
set_option maxHeartbeats 4000000 in
set_option maxRecDepth 100000 in
theorem w_J6_init_2_35 {p : Program} {l : Launch} {e : Env} {R : Room} {s : State} {m : MethodId} {args : Array Value} {below : List Frame} {meth : Method} {c : Code} {G : uG} {a0 : Nat} {u0 : UH} {uf : UH} (hC : uC p s m args meth c G RJ6 cJ6_init_2 5 none) (hI : meth.name = "<init>") (hR : 3 ≤ R.frames ∧ 106 ≤ R.locals) (hRm : uf.1 - u0.1 ≤ R.cells ∧ uf.2.1 - u0.2.1 ≤ R.slots) (N : Nat) (u : UH) (s0 : Option Nat) (s1 : Option Nat) (h : f_J6_init_2_35 N (ub G) (ug G) a0 u s0 s1 = some uf) (hz0 : (u0.1 ≤ u.1 ∧ u0.2.1 ≤ u.2.1)) {H : Heap} {locs : List Loc} (hP : uP G u H) (hS : va_S (uA G) s.heap H locs) {ls : Array Slot} (hl : lv_has ls 5 []) : W p l e R s m args below meth c H locs (u.1 - u0.1) (u.2.1 - u0.2.1) (MQ below (uQv G uf) args s (uf.1 - u0.1) (uf.2.1 - u0.2.1) (uA G)) (F0 m 35 ls [va_rf s0, va_rf s1]) := by
  obtain ⟨⟨hx, hb, hml, hown, hts⟩, hKK⟩ := id hC
  have hzf := zz_J6_init_2_35 (G := G) (a0 := a0) N u s0 s1 h
  unfold f_J6_init_2_35 at h
  obtain ⟨a1, ha1, hha1⟩ := mbind_n h
  subst ha1
  have h := hha1
  obtain ⟨u2, hu2, h⟩ := mbind_n h
  have zu2 := uPut_sz hu2
  refine u_putF hC hI hP hS hu2 rfl in_J6 tyJ6 tyJ6_ok nmJ6 (by decide) q534 (fun _ h => h) rfl rfl (ty := (.array .byte)) (tyJ6_ok 0 (by decide)) (uNarA _ s0).1 (uNarA _ s0).2 dJ6_init_2_35 (fun H locs hP hS => ?_)
  refine W.cs (cells' := u2.1 - u0.1) (slots' := u2.2.1 - u0.2.1) (by omega) (by omega) ?_
  refine lv_goto (tgt := 97) hx hb dJ6_init_2_38 (by decide) ?_
  refine W.cs (cells' := u2.1 - u0.1) (slots' := u2.2.1 - u0.2.1) (by omega) (by omega) ?_
  exact w_J6_init_2_97 hC hI hR hRm N u2 h ⟨by omega, by omega⟩ hP hS (lv_sub hl [] rfl)
def f_J6_init_2 (N b : Nat) (g : uEnv) (u : UH) (a0 : Nat) (x1 : Option Nat) (x2 : Option Nat) : Option (UH) :=
    (x1).bind fun a1 =>
    if uIs u a1 19 = true then
    ucall (f_J4_getValue N b g u a1) fun o5 u3 =>
    if uIs u3 a1 19 = true then
    ucall (f_J5_length N b g u3 a1) fun r9 u7 =>
    if uIs u7 a1 19 = true then
    ucall (f_J4_isLatin1 N b g u7 a1) fun r13 u11 =>
    if r13 = 0 then
    if (1 : Int32) = 0 then
    f_J6_init_2_79 N b g a0 u11 o5 r9
    else
    (uGI u11 a1 19 2).bind fun y16 =>
    if y16 = 0 then
    f_J6_init_2_79 N b g a0 u11 o5 r9
    else
    none
    else
    (uPut b u11 a0 20 1 (.int 0)).bind fun u18 =>
    ucall (f_J10_copyOfRange N b g u18 o5 0 r9) fun o21 u19 =>
    f_J6_init_2_35 N b g a0 u19 o21 (some a0)
    else none
    else none
    else none
set_option maxHeartbeats 4000000 in
set_option maxRecDepth 100000 in
theorem zz_J6_init_2_0 {G : uG} {a0 : Nat} {uf : UH} (N : Nat) (u : UH) (x1 : Option Nat) (x2 : Option Nat) (h : f_J6_init_2 N (ub G) (ug G) u a0 x1 x2 = some uf) : u.1 ≤ uf.1 ∧ u.2.1 ≤ uf.2.1 := by
  unfold f_J6_init_2 at h
  obtain ⟨a1, ha1, hha1⟩ := mbind_n h
  subst ha1
  have h := hha1
  obtain ⟨c2, h⟩ := mif_n h
  obtain ⟨o5, u3, c4, h⟩ := ucall_n h
  have zu3 := zz_J4_getValue N (ub G) (ug G) u a1 o5 u3 c4
  obtain ⟨c6, h⟩ := mif_n h
  obtain ⟨r9, u7, c8, h⟩ := ucall_n h
  have zu7 := zz_J5_length N (ub G) (ug G) u3 a1 r9 u7 c8
  obtain ⟨c10, h⟩ := mif_n h
  obtain ⟨r13, u11, c12, h⟩ := ucall_n h
  have zu11 := zz_J4_isLatin1 N (ub G) (ug G) u7 a1 r13 u11 c12
  by_cases c14 : r13 = 0
  · have h := mif_t c14 h
    by_cases c15 : (1 : Int32) = 0
    · have h := mif_t c15 h
      have hq := zz_J6_init_2_79 (G := G) (a0 := a0) N u11 o5 r9 h
      exact ⟨by omega, by omega⟩
    · have h := mif_f c15 h
      obtain ⟨y16, hy16, h⟩ := mbind_n h
      by_cases c17 : y16 = 0
      · have h := mif_t c17 h
        have hq := zz_J6_init_2_79 (G := G) (a0 := a0) N u11 o5 r9 h
        exact ⟨by omega, by omega⟩
      · have h := mif_f c17 h
        cases h
  · have h := mif_f c14 h
    obtain ⟨u18, hu18, h⟩ := mbind_n h
    have zu18 := uPut_sz hu18
    obtain ⟨o21, u19, c20, h⟩ := ucall_n h
    have zu19 := zz_J10_copyOfRange N (ub G) (ug G) u18 o5 0 r9 o21 u19 c20
    have hq := zz_J6_init_2_35 (G := G) (a0 := a0) N u19 o21 (some a0) h
    exact ⟨by omega, by omega⟩
set_option maxHeartbeats 4000000 in
set_option maxRecDepth 100000 in
theorem w_J6_init_2_0 {p : Program} {l : Launch} {e : Env} {R : Room} {s : State} {m : MethodId} {args : Array Value} {below : List Frame} {meth : Method} {c : Code} {G : uG} {a0 : Nat} {u0 : UH} {uf : UH} (hC : uC p s m args meth c G RJ6 cJ6_init_2 5 none) (hI : meth.name = "<init>") (hR : 3 ≤ R.frames ∧ 106 ≤ R.locals) (hRm : uf.1 - u0.1 ≤ R.cells ∧ uf.2.1 - u0.2.1 ≤ R.slots) (N : Nat) (u : UH) (x1 : Option Nat) (x2 : Option Nat) (h : f_J6_init_2 N (ub G) (ug G) u a0 x1 x2 = some uf) (hz0 : (u0.1 ≤ u.1 ∧ u0.2.1 ≤ u.2.1)) {H : Heap} {locs : List Loc} (hP : uP G u H) (hS : va_S (uA G) s.heap H locs) {ls : Array Slot} (hl : lv_has ls 5 [(0, va_rf (some a0)), (1, va_rf x1), (2, va_rf x2)]) : W p l e R s m args below meth c H locs (u.1 - u0.1) (u.2.1 - u0.2.1) (MQ below (uQv G uf) args s (uf.1 - u0.1) (uf.2.1 - u0.2.1) (uA G)) (F0 m 0 ls []) := by
  obtain ⟨⟨hx, hb, hml, hown, hts⟩, hKK⟩ := id hC
  have hzf := zz_J6_init_2_0 (G := G) (a0 := a0) N u x1 x2 h
  unfold f_J6_init_2 at h
  refine u_aload_n (r := some a0) hx hb dJ6_init_2_0 rfl (lv_at hl 0 rfl) ?_
  refine W.objInit hx hb hown (hts _ q496) (hts _ q148) (hts _ q149) rfl (by rw [hml]; exact hl.1) rfl dJ6_init_2_1 (Nat.le_trans (Nat.le_of_ble_eq_true rfl) hR.1) (Nat.le_trans (Nat.le_of_ble_eq_true rfl) hR.2) ?_
  refine W.eq (g2 := F0 m 4 ls []) rfl ?_
  refine u_aload_n (r := x1) hx hb dJ6_init_2_4 rfl (lv_at hl 1 rfl) ?_
  obtain ⟨a1, ha1, hha1⟩ := mbind_n h
  subst ha1
  have h := hha1
  obtain ⟨c2, h⟩ := mif_n h
  obtain ⟨o5, u3, c4, h⟩ := ucall_n h
  have zu3 := zz_J4_getValue N (ub G) (ug G) u a1 o5 u3 c4
  refine u_callr (va_runU (As := []) (rest := []) hC.1 (met_J4_getValue l N G u a1 o5 u3 c4) (u_cwU (C := RJ5) (owner := RJ4) 0 hts q497 q499 (hts _ q500) q498 q108 q501 rfl rfl rfl (by decide +kernel) ⟨Nat.le_trans (Nat.le_of_ble_eq_true rfl) hR.1, Nat.le_trans (Nat.le_of_ble_eq_true rfl) hR.2⟩) ⟨uPc_blind, u_rcv hC hP c2 rfl, fun U hU hW => u_pre hC hP hS hU hW⟩ rfl rfl hl.1 rfl (lv_room (Nat.le_of_ble_eq_true rfl)) dJ6_init_2_5 ⟨by omega, by omega⟩) hS (fun H locs hP hS => ?_)
  refine W.cs (cells' := u3.1 - u0.1) (slots' := u3.2.1 - u0.2.1) (by omega) (by omega) ?_
  refine u_astore_n (i := 3) (r := o5) (lv' := [(3, va_rf o5), (0, va_rf (some a0)), (1, va_rf (some a1)), (2, va_rf x2)]) hx hb dJ6_init_2_8 rfl hl (by decide) (by simp [List.filter_cons, u_cat]) (fun ls hl => ?_)
  refine u_aload_n (r := some a1) hx hb dJ6_init_2_9 rfl (lv_at hl 2 rfl) ?_
  obtain ⟨c6, h⟩ := mif_n h
  obtain ⟨r9, u7, c8, h⟩ := ucall_n h
  have zu7 := zz_J5_length N (ub G) (ug G) u3 a1 r9 u7 c8
  refine u_calli (va_runU (As := []) (rest := []) hC.1 (met_J5_length l N G u3 a1 r9 u7 c8) (va_cwO (C := RJ5) (owner := RJ4) 0 hts (lw_O q502 q504 q503 q505 q506 q109 q507) rfl rfl rfl q509 (by decide +kernel) ⟨Nat.le_trans (Nat.le_of_ble_eq_true rfl) hR.1, Nat.le_trans (Nat.le_of_ble_eq_true rfl) hR.2⟩) ⟨uPc_blind, u_rcv hC hP c6 rfl, fun U hU hW => u_pre hC hP hS hU hW⟩ rfl rfl hl.1 rfl (lv_room (Nat.le_of_ble_eq_true rfl)) dJ6_init_2_10 ⟨by omega, by omega⟩) hS (fun H locs hP hS => ?_)
  refine W.cs (cells' := u7.1 - u0.1) (slots' := u7.2.1 - u0.2.1) (by omega) (by omega) ?_
  refine lv_istore (lv' := [(4, .int r9), (3, va_rf o5), (0, va_rf (some a0)), (1, va_rf (some a1)), (2, va_rf x2)]) hx hb dJ6_init_2_13 hl (by decide) (by simp [List.filter_cons, u_cat]) (fun ls hl => ?_)
  refine u_aload_n (r := some a1) hx hb dJ6_init_2_15 rfl (lv_at hl 3 rfl) ?_
  obtain ⟨c10, h⟩ := mif_n h
  obtain ⟨r13, u11, c12, h⟩ := ucall_n h
  have zu11 := zz_J4_isLatin1 N (ub G) (ug G) u7 a1 r13 u11 c12
  refine u_calli (va_runU (As := []) (rest := []) hC.1 (met_J4_isLatin1 l N G u7 a1 r13 u11 c12) (u_cwU (C := RJ5) (owner := RJ4) 0 hts q510 q433 (hts _ q434) q432 q108 q435 rfl rfl rfl (by decide +kernel) ⟨Nat.le_trans (Nat.le_of_ble_eq_true rfl) hR.1, Nat.le_trans (Nat.le_of_ble_eq_true rfl) hR.2⟩) ⟨uPc_blind, u_rcv hC hP c10 rfl, fun U hU hW => u_pre hC hP hS hU hW⟩ rfl rfl hl.1 rfl (lv_room (Nat.le_of_ble_eq_true rfl)) dJ6_init_2_16 ⟨by omega, by omega⟩) hS (fun H locs hP hS => ?_)
  refine W.cs (cells' := u11.1 - u0.1) (slots' := u11.2.1 - u0.2.1) (by omega) (by omega) ?_
  refine lv_if_eq (tgt := 41) hx hb dJ6_init_2_19 (by decide) (fun c14 => ?_) (fun c14 => ?_)
  · have h := mif_t c14 h
    refine u_getsC hC hS q520 (fun _ h => h) dJ6_init_2_41 ?_
    refine lv_if_eq (tgt := 79) hx hb dJ6_init_2_44 (by decide) (fun c15 => ?_) (fun c15 => ?_)
    · have h := mif_t c15 h
      refine W.cs (cells' := u11.1 - u0.1) (slots' := u11.2.1 - u0.2.1) (by omega) (by omega) ?_
      exact w_J6_init_2_79 hC hI hR hRm N u11 o5 r9 h ⟨by omega, by omega⟩ hP hS (lv_sub hl [2, 1, 0] rfl)
    · have h := mif_f c15 h
      refine u_aload_n (r := some a1) hx hb dJ6_init_2_47 rfl (lv_at hl 3 rfl) ?_
      obtain ⟨y16, hy16, h⟩ := mbind_n h
      refine u_get hC hP (uGI_n hy16) rfl in_J5 (by decide) q378 (fun _ h => h) dJ6_init_2_48 ?_
      refine lv_if_eq (tgt := 79) hx hb dJ6_init_2_51 (by decide) (fun c17 => ?_) (fun c17 => ?_)
      · have h := mif_t c17 h
        refine W.cs (cells' := u11.1 - u0.1) (slots' := u11.2.1 - u0.2.1) (by omega) (by omega) ?_
        exact w_J6_init_2_79 hC hI hR hRm N u11 o5 r9 h ⟨by omega, by omega⟩ hP hS (lv_sub hl [2, 1, 0] rfl)
      · have h := mif_f c17 h
        refine u_aload_n (r := some a0) hx hb dJ6_init_2_54 rfl (lv_at hl 2 rfl) ?_
        refine u_aload_n (r := o5) hx hb dJ6_init_2_55 rfl (lv_at hl 1 rfl) ?_
        refine lv_iconst (v := 0) hx hb dJ6_init_2_56 (by decide) ?_
        refine lv_iload hx hb dJ6_init_2_57 (lv_at hl 0 rfl) ?_
        cases h
  · have h := mif_f c14 h
    refine u_aload_n (r := some a0) hx hb dJ6_init_2_22 rfl (lv_at hl 2 rfl) ?_
    refine lv_iconst (v := 0) hx hb dJ6_init_2_23 (by decide) ?_
    obtain ⟨u18, hu18, h⟩ := mbind_n h
    have zu18 := uPut_sz hu18
    refine u_putF hC hI hP hS hu18 rfl in_J6 tyJ6 tyJ6_ok nmJ6 (by decide) q535 (fun _ h => h) rfl rfl (ty := .byte) (tyJ6_ok 1 (by decide)) (uFit_n (ty := .byte) (v := 0) rfl).1 (uFit_n (ty := .byte) (v := 0) rfl).2 dJ6_init_2_24 (fun H locs hP hS => ?_)
    refine W.cs (cells' := u18.1 - u0.1) (slots' := u18.2.1 - u0.2.1) (by omega) (by omega) ?_
    refine u_aload_n (r := some a0) hx hb dJ6_init_2_27 rfl (lv_at hl 2 rfl) ?_
    refine u_aload_n (r := o5) hx hb dJ6_init_2_28 rfl (lv_at hl 1 rfl) ?_
    refine lv_iconst (v := 0) hx hb dJ6_init_2_29 (by decide) ?_
    refine lv_iload hx hb dJ6_init_2_30 (lv_at hl 0 rfl) ?_
    obtain ⟨o21, u19, c20, h⟩ := ucall_n h
    have zu19 := zz_J10_copyOfRange N (ub G) (ug G) u18 o5 0 r9 o21 u19 c20
    have hq := zz_J6_init_2_35 (G := G) (a0 := a0) N u19 o21 (some a0) h
    refine u_callr (va_runS (As := [va_rf o5, .int 0, .int r9]) (rest := [va_rf (some a0)]) hC.1 (met_J10_copyOfRange l N G u18 o5 0 r9 o21 u19 c20) (va_cwS 3 hts (lw_S q511 q512 q114 q513) rfl rfl rfl (by decide +kernel) ⟨Nat.le_trans (Nat.le_of_ble_eq_true rfl) hR.1, Nat.le_trans (Nat.le_of_ble_eq_true rfl) hR.2⟩) ⟨uPc_blind, fun U hU hW => u_pre hC hP hS hU hW⟩ rfl rfl hl.1 rfl (lv_room (Nat.le_of_ble_eq_true rfl)) dJ6_init_2_32 ⟨by omega, by omega⟩) hS (fun H locs hP hS => ?_)
    refine W.cs (cells' := u19.1 - u0.1) (slots' := u19.2.1 - u0.2.1) (by omega) (by omega) ?_
    refine W.cs (cells' := u19.1 - u0.1) (slots' := u19.2.1 - u0.2.1) (by omega) (by omega) ?_
    exact w_J6_init_2_35 hC hI hR hRm N u19 o21 (some a0) h ⟨by omega, by omega⟩ hP hS (lv_sub hl [] rfl)
theorem zz_J6_init_2 (N b : Nat) (g : uEnv) (u : UH) (a0 : Nat) (x1 : Option Nat) (x2 : Option Nat) (uf : UH) (h : f_J6_init_2 N b g u a0 x1 x2 = some uf) : u.1 ≤ uf.1 ∧ u.2.1 ≤ uf.2.1 :=
  zz_J6_init_2_0 (G := ((fun _ => 0, fun _ _ => 0), fun _ => 0, b, g)) (a0 := a0) N u x1 x2 h
theorem met_J6_init_2 (l : Launch) (N : Nat) (G : uG) (u : UH) (a0 : Nat) (x1 : Option Nat) (x2 : Option Nat) (uf : UH) (h : f_J6_init_2 N (ub G) (ug G) u a0 x1 x2 = some uf) : Met l yJ6_init_2 (ws_ yJ6_init_2 cJ6_init_2 5 none) ({ frames := 3, cells := (uf.1 - u.1), slots := (uf.2.1 - u.2.1), locals := 106 }) (uPc G u [.ref a0, va_rf x1, va_rf x2]) (uQv G uf) (uf.1 - u.1) (uf.2.1 - u.2.1) (uA G) := by
  rcases x1 with _ | x1 <;> rcases x2 with _ | x2 <;> exact u_met (own := RJ6) (by decide +kernel) rfl (Nat.le_of_ble_eq_true rfl) (fun hC hn hsz ls hl hP => W.cs (Nat.sub_self _).symm (Nat.sub_self _).symm (w_J6_init_2_0 hC hn ⟨Nat.le_refl _, Nat.le_refl _⟩ ⟨Nat.le_refl _, Nat.le_refl _⟩ N u _ _ h ⟨Nat.le_refl _, Nat.le_refl _⟩ hP va_S.rf hl))
def f_J6_init_6 (N b : Nat) (g : uEnv) (a0 : Nat) (u : UH) : Option (UH) :=
    some u
set_option maxHeartbeats 4000000 in
set_option maxRecDepth 100000 in
theorem zz_J6_init_6 {G : uG} {a0 : Nat} {uf : UH} (N : Nat) (u : UH) (h : f_J6_init_6 N (ub G) (ug G) a0 u = some uf) : u.1 ≤ uf.1 ∧ u.2.1 ≤ uf.2.1 := by
  unfold f_J6_init_6 at h
  cases h
  exact ⟨by omega, by omega⟩
set_option maxHeartbeats 4000000 in
set_option maxRecDepth 100000 in
theorem w_J6_init_6 {p : Program} {l : Launch} {e : Env} {R : Room} {s : State} {m : MethodId} {args : Array Value} {below : List Frame} {meth : Method} {c : Code} {G : uG} {a0 : Nat} {u0 : UH} {uf : UH} (hC : uC p s m args meth c G RJ6 cJ6_init 2 none) (hI : meth.name = "<init>") (hR : 4 ≤ R.frames ∧ 130 ≤ R.locals) (hRm : uf.1 - u0.1 ≤ R.cells ∧ uf.2.1 - u0.2.1 ≤ R.slots) (N : Nat) (u : UH) (h : f_J6_init_6 N (ub G) (ug G) a0 u = some uf) (hz0 : (u0.1 ≤ u.1 ∧ u0.2.1 ≤ u.2.1)) {H : Heap} {locs : List Loc} (hP : uP G u H) (hS : va_S (uA G) s.heap H locs) {ls : Array Slot} (hl : lv_has ls 2 []) : W p l e R s m args below meth c H locs (u.1 - u0.1) (u.2.1 - u0.2.1) (MQ below (uQv G uf) args s (uf.1 - u0.1) (uf.2.1 - u0.2.1) (uA G)) (F0 m 6 ls []) := by
  obtain ⟨⟨hx, hb, hml, hown, hts⟩, hKK⟩ := id hC
  have hzf := zz_J6_init_6 (G := G) (a0 := a0) N u h
  unfold f_J6_init_6 at h
  cases h
  exact u_vret hC hP hS dJ6_init_6
def f_J6_init (N b : Nat) (g : uEnv) (u : UH) (a0 : Nat) (x1 : Option Nat) : Option (UH) :=
    (f_J6_init_2 N b g u a0 x1 none).bind fun u1 =>
    f_J6_init_6 N b g a0 u1
set_option maxHeartbeats 4000000 in
set_option maxRecDepth 100000 in
theorem zz_J6_init_0 {G : uG} {a0 : Nat} {uf : UH} (N : Nat) (u : UH) (x1 : Option Nat) (h : f_J6_init N (ub G) (ug G) u a0 x1 = some uf) : u.1 ≤ uf.1 ∧ u.2.1 ≤ uf.2.1 := by
  unfold f_J6_init at h
  obtain ⟨u1, c2, h⟩ := mbind_n h
  have zu1 := zz_J6_init_2 N (ub G) (ug G) u a0 x1 none u1 c2
  have hq := zz_J6_init_6 (G := G) (a0 := a0) N u1 h
  exact ⟨by omega, by omega⟩
set_option maxHeartbeats 4000000 in
set_option maxRecDepth 100000 in
theorem w_J6_init_0 {p : Program} {l : Launch} {e : Env} {R : Room} {s : State} {m : MethodId} {args : Array Value} {below : List Frame} {meth : Method} {c : Code} {G : uG} {a0 : Nat} {u0 : UH} {uf : UH} (hC : uC p s m args meth c G RJ6 cJ6_init 2 none) (hI : meth.name = "<init>") (hR : 4 ≤ R.frames ∧ 130 ≤ R.locals) (hRm : uf.1 - u0.1 ≤ R.cells ∧ uf.2.1 - u0.2.1 ≤ R.slots) (N : Nat) (u : UH) (x1 : Option Nat) (h : f_J6_init N (ub G) (ug G) u a0 x1 = some uf) (hz0 : (u0.1 ≤ u.1 ∧ u0.2.1 ≤ u.2.1)) {H : Heap} {locs : List Loc} (hP : uP G u H) (hS : va_S (uA G) s.heap H locs) {ls : Array Slot} (hl : lv_has ls 2 [(0, va_rf (some a0)), (1, va_rf x1)]) : W p l e R s m args below meth c H locs (u.1 - u0.1) (u.2.1 - u0.2.1) (MQ below (uQv G uf) args s (uf.1 - u0.1) (uf.2.1 - u0.2.1) (uA G)) (F0 m 0 ls []) := by
  obtain ⟨⟨hx, hb, hml, hown, hts⟩, hKK⟩ := id hC
  have hzf := zz_J6_init_0 (G := G) (a0 := a0) N u x1 h
  unfold f_J6_init at h
  refine u_aload_n (r := some a0) hx hb dJ6_init_0 rfl (lv_at hl 0 rfl) ?_
  refine u_aload_n (r := x1) hx hb dJ6_init_1 rfl (lv_at hl 1 rfl) ?_
  refine lv_null hx hb dJ6_init_2 ?_
  obtain ⟨u1, c2, h⟩ := mbind_n h
  have zu1 := zz_J6_init_2 N (ub G) (ug G) u a0 x1 none u1 c2
  have hq := zz_J6_init_6 (G := G) (a0 := a0) N u1 h
  refine u_callv (va_runI (As := [va_rf x1, va_rf none]) (rest := []) hC.1 (met_J6_init_2 l N G u a0 x1 none u1 c2) (cwI 2 hts (lw_meth q495) rfl rfl rfl (hts _ q110) (hts _ q493) (hts _ q494) rfl (by decide +kernel) ⟨Nat.le_trans (Nat.le_of_ble_eq_true rfl) hR.1, Nat.le_trans (Nat.le_of_ble_eq_true rfl) hR.2⟩) ⟨uPc_blind, fun U hU hW => u_pre hC hP hS hU hW⟩ rfl rfl hl.1 rfl (lv_room (Nat.le_of_ble_eq_true rfl)) dJ6_init_3 ⟨by omega, by omega⟩) hS (fun H locs hP hS => ?_)
  refine W.cs (cells' := u1.1 - u0.1) (slots' := u1.2.1 - u0.2.1) (by omega) (by omega) ?_
  refine W.cs (cells' := u1.1 - u0.1) (slots' := u1.2.1 - u0.2.1) (by omega) (by omega) ?_
  exact w_J6_init_6 hC hI hR hRm N u1 h ⟨by omega, by omega⟩ hP hS (lv_sub hl [] rfl)
theorem zz_J6_init (N b : Nat) (g : uEnv) (u : UH) (a0 : Nat) (x1 : Option Nat) (uf : UH) (h : f_J6_init N b g u a0 x1 = some uf) : u.1 ≤ uf.1 ∧ u.2.1 ≤ uf.2.1 :=
  zz_J6_init_0 (G := ((fun _ => 0, fun _ _ => 0), fun _ => 0, b, g)) (a0 := a0) N u x1 h
theorem met_J6_init (l : Launch) (N : Nat) (G : uG) (u : UH) (a0 : Nat) (x1 : Option Nat) (uf : UH) (h : f_J6_init N (ub G) (ug G) u a0 x1 = some uf) : Met l yJ6_init (ws_ yJ6_init cJ6_init 2 none) ({ frames := 4, cells := (uf.1 - u.1), slots := (uf.2.1 - u.2.1), locals := 130 }) (uPc G u [.ref a0, va_rf x1]) (uQv G uf) (uf.1 - u.1) (uf.2.1 - u.2.1) (uA G) := by
  rcases x1 with _ | x1 <;> exact u_met (own := RJ6) (by decide +kernel) rfl (Nat.le_of_ble_eq_true rfl) (fun hC hn hsz ls hl hP => W.cs (Nat.sub_self _).symm (Nat.sub_self _).symm (w_J6_init_0 hC hn ⟨Nat.le_refl _, Nat.le_refl _⟩ ⟨Nat.le_refl _, Nat.le_refl _⟩ N u _ h ⟨Nat.le_refl _, Nat.le_refl _⟩ hP va_S.rf hl))
def f_J5_toString_8 (N b : Nat) (g : uEnv) (a0 : Nat) (u : UH) (s0 : Option Nat) : Option (Option Nat × UH) :=
    some (s0, u)
set_option maxHeartbeats 4000000 in
set_option maxRecDepth 100000 in
theorem zz_J5_toString_8 {G : uG} {a0 : Nat} {uf : UH} {r : Option Nat} (N : Nat) (u : UH) (s0 : Option Nat) (h : f_J5_toString_8 N (ub G) (ug G) a0 u s0 = some (r, uf)) : u.1 ≤ uf.1 ∧ u.2.1 ≤ uf.2.1 := by
  unfold f_J5_toString_8 at h
  obtain ⟨hr1, hr2⟩ := uret_n h
  subst hr2
  exact ⟨by omega, by omega⟩
set_option maxHeartbeats 4000000 in
set_option maxRecDepth 100000 in
theorem w_J5_toString_8 {p : Program} {l : Launch} {e : Env} {R : Room} {s : State} {m : MethodId} {args : Array Value} {below : List Frame} {meth : Method} {c : Code} {G : uG} {a0 : Nat} {u0 : UH} {uf : UH} {r : Option Nat} (hC : uC p s m args meth c G RJ5 cJ5_toString 1 (some (.object "java/lang/String"))) (hR : 5 ≤ R.frames ∧ 151 ≤ R.locals) (hRm : uf.1 - u0.1 ≤ R.cells ∧ uf.2.1 - u0.2.1 ≤ R.slots) (N : Nat) (u : UH) (s0 : Option Nat) (h : f_J5_toString_8 N (ub G) (ug G) a0 u s0 = some (r, uf)) (hz0 : (u0.1 ≤ u.1 ∧ u0.2.1 ≤ u.2.1)) {H : Heap} {locs : List Loc} (hP : uP G u H) (hS : va_S (uA G) s.heap H locs) {ls : Array Slot} (hl : lv_has ls 1 []) : W p l e R s m args below meth c H locs (u.1 - u0.1) (u.2.1 - u0.2.1) (MQ below (uQr G r uf) args s (uf.1 - u0.1) (uf.2.1 - u0.2.1) (uA G)) (F0 m 8 ls [va_rf s0]) := by
  obtain ⟨⟨hx, hb, hml, hown, hts⟩, hKK⟩ := id hC
  have hzf := zz_J5_toString_8 (G := G) (a0 := a0) N u s0 h
  unfold f_J5_toString_8 at h
  obtain ⟨hr1, hr2⟩ := uret_n h
  subst hr1
  subst hr2
  exact u_aret hC (Or.inl ⟨_, rfl⟩) hP hS dJ5_toString_8
def f_J5_toString_3 (N b : Nat) (g : uEnv) (a0 : Nat) (u : UH) (s0 : Option Nat) : Option (Option Nat × UH) :=
    (s0).bind fun a1 =>
    (f_J6_init N b g u a1 (some a0)).bind fun u2 =>
    f_J5_toString_8 N b g a0 u2 (some a1)
set_option maxHeartbeats 4000000 in
set_option maxRecDepth 100000 in
theorem zz_J5_toString_3 {G : uG} {a0 : Nat} {uf : UH} {r : Option Nat} (N : Nat) (u : UH) (s0 : Option Nat) (h : f_J5_toString_3 N (ub G) (ug G) a0 u s0 = some (r, uf)) : u.1 ≤ uf.1 ∧ u.2.1 ≤ uf.2.1 := by
  unfold f_J5_toString_3 at h
  obtain ⟨a1, ha1, hha1⟩ := mbind_n h
  subst ha1
  have h := hha1
  obtain ⟨u2, c3, h⟩ := mbind_n h
  have zu2 := zz_J6_init N (ub G) (ug G) u a1 (some a0) u2 c3
  have hq := zz_J5_toString_8 (G := G) (a0 := a0) N u2 (some a1) h
  exact ⟨by omega, by omega⟩
set_option maxHeartbeats 4000000 in
set_option maxRecDepth 100000 in
theorem w_J5_toString_3 {p : Program} {l : Launch} {e : Env} {R : Room} {s : State} {m : MethodId} {args : Array Value} {below : List Frame} {meth : Method} {c : Code} {G : uG} {a0 : Nat} {u0 : UH} {uf : UH} {r : Option Nat} (hC : uC p s m args meth c G RJ5 cJ5_toString 1 (some (.object "java/lang/String"))) (hR : 5 ≤ R.frames ∧ 151 ≤ R.locals) (hRm : uf.1 - u0.1 ≤ R.cells ∧ uf.2.1 - u0.2.1 ≤ R.slots) (N : Nat) (u : UH) (s0 : Option Nat) (h : f_J5_toString_3 N (ub G) (ug G) a0 u s0 = some (r, uf)) (hz0 : (u0.1 ≤ u.1 ∧ u0.2.1 ≤ u.2.1)) {H : Heap} {locs : List Loc} (hP : uP G u H) (hS : va_S (uA G) s.heap H locs) {ls : Array Slot} (hl : lv_has ls 1 [(0, va_rf (some a0))]) : W p l e R s m args below meth c H locs (u.1 - u0.1) (u.2.1 - u0.2.1) (MQ below (uQr G r uf) args s (uf.1 - u0.1) (uf.2.1 - u0.2.1) (uA G)) (F0 m 3 ls [va_rf s0]) := by
  obtain ⟨⟨hx, hb, hml, hown, hts⟩, hKK⟩ := id hC
  have hzf := zz_J5_toString_3 (G := G) (a0 := a0) N u s0 h
  unfold f_J5_toString_3 at h
  refine lv_dup hx hb dJ5_toString_3 (u_cat _) ?_
  refine u_aload_n (r := some a0) hx hb dJ5_toString_4 rfl (lv_at hl 0 rfl) ?_
  obtain ⟨a1, ha1, hha1⟩ := mbind_n h
  subst ha1
  have h := hha1
  obtain ⟨u2, c3, h⟩ := mbind_n h
  have zu2 := zz_J6_init N (ub G) (ug G) u a1 (some a0) u2 c3
  have hq := zz_J5_toString_8 (G := G) (a0 := a0) N u2 (some a1) h
  refine u_callv (va_runI (As := [va_rf (some a0)]) (rest := [va_rf (some a1)]) hC.1 (met_J6_init l N G u a1 (some a0) u2 c3) (cwI 1 hts (lw_meth q492) rfl rfl rfl (hts _ q110) (hts _ q490) (hts _ q491) rfl (by decide +kernel) ⟨Nat.le_trans (Nat.le_of_ble_eq_true rfl) hR.1, Nat.le_trans (Nat.le_of_ble_eq_true rfl) hR.2⟩) ⟨uPc_blind, fun U hU hW => u_pre hC hP hS hU hW⟩ rfl rfl hl.1 rfl (lv_room (Nat.le_of_ble_eq_true rfl)) dJ5_toString_5 ⟨by omega, by omega⟩) hS (fun H locs hP hS => ?_)
  refine W.cs (cells' := u2.1 - u0.1) (slots' := u2.2.1 - u0.2.1) (by omega) (by omega) ?_
  refine W.cs (cells' := u2.1 - u0.1) (slots' := u2.2.1 - u0.2.1) (by omega) (by omega) ?_
  exact w_J5_toString_8 hC hR hRm N u2 (some a1) h ⟨by omega, by omega⟩ hP hS (lv_sub hl [] rfl)
def f_J5_toString (N b : Nat) (g : uEnv) (u : UH) (a0 : Nat) : Option (Option Nat × UH) :=
    mlet (u.1) fun a2 =>
    mlet (uNew u 4 (.inr (20, uDefs tyJ6 4))) fun u1 =>
    f_J5_toString_3 N b g a0 u1 (some a2)
set_option maxHeartbeats 4000000 in
set_option maxRecDepth 100000 in
theorem zz_J5_toString_0 {G : uG} {a0 : Nat} {uf : UH} {r : Option Nat} (N : Nat) (u : UH) (h : f_J5_toString N (ub G) (ug G) u a0 = some (r, uf)) : u.1 ≤ uf.1 ∧ u.2.1 ≤ uf.2.1 := by
  unfold f_J5_toString at h
  obtain ⟨a2, ea2⟩ : ∃ z : Nat, z = u.1 := ⟨_, rfl⟩
  have h := mlet_at ea2 h
  obtain ⟨u1, eu1⟩ : ∃ z : UH, z = uNew u 4 (.inr (20, uDefs tyJ6 4)) := ⟨_, rfl⟩
  have h := mlet_at eu1 h
  have zu1 : u1.1 = u.1 + 1 ∧ u1.2.1 = u.2.1 + 4 := by rw [eu1]; exact ⟨rfl, rfl⟩
  have hq := zz_J5_toString_3 (G := G) (a0 := a0) N u1 (some a2) h
  exact ⟨by omega, by omega⟩
set_option maxHeartbeats 4000000 in
set_option maxRecDepth 100000 in
theorem w_J5_toString_0 {p : Program} {l : Launch} {e : Env} {R : Room} {s : State} {m : MethodId} {args : Array Value} {below : List Frame} {meth : Method} {c : Code} {G : uG} {a0 : Nat} {u0 : UH} {uf : UH} {r : Option Nat} (hC : uC p s m args meth c G RJ5 cJ5_toString 1 (some (.object "java/lang/String"))) (hR : 5 ≤ R.frames ∧ 151 ≤ R.locals) (hRm : uf.1 - u0.1 ≤ R.cells ∧ uf.2.1 - u0.2.1 ≤ R.slots) (N : Nat) (u : UH) (h : f_J5_toString N (ub G) (ug G) u a0 = some (r, uf)) (hz0 : (u0.1 ≤ u.1 ∧ u0.2.1 ≤ u.2.1)) {H : Heap} {locs : List Loc} (hP : uP G u H) (hS : va_S (uA G) s.heap H locs) {ls : Array Slot} (hl : lv_has ls 1 [(0, va_rf (some a0))]) : W p l e R s m args below meth c H locs (u.1 - u0.1) (u.2.1 - u0.2.1) (MQ below (uQr G r uf) args s (uf.1 - u0.1) (uf.2.1 - u0.2.1) (uA G)) (F0 m 0 ls []) := by
  obtain ⟨⟨hx, hb, hml, hown, hts⟩, hKK⟩ := id hC
  have hzf := zz_J5_toString_0 (G := G) (a0 := a0) N u h
  unfold f_J5_toString at h
  obtain ⟨a2, ea2⟩ : ∃ z : Nat, z = u.1 := ⟨_, rfl⟩
  have h := mlet_at ea2 h
  obtain ⟨u1, eu1⟩ : ∃ z : UH, z = uNew u 4 (.inr (20, uDefs tyJ6 4)) := ⟨_, rfl⟩
  have h := mlet_at eu1 h
  have zu1 : u1.1 = u.1 + 1 ∧ u1.2.1 = u.2.1 + 4 := by rw [eu1]; exact ⟨rfl, rfl⟩
  have hq := zz_J5_toString_3 (G := G) (a0 := a0) N u1 (some a2) h
  refine u_new hC hP hS (T := TJ6) (N := 4) (ci := 20) rfl in_J6 tyJ6 tyJ6_ok q488 q489 q110 (by omega) (by omega) dJ5_toString_0 (fun H hP hS => ?_)
  rw [← eu1] at hP
  rw [← ea2]
  refine W.cs (cells' := u1.1 - u0.1) (slots' := u1.2.1 - u0.2.1) (by omega) (by omega) ?_
  refine W.cs (cells' := u1.1 - u0.1) (slots' := u1.2.1 - u0.2.1) (by omega) (by omega) ?_
  exact w_J5_toString_3 hC hR hRm N u1 (some a2) h ⟨by omega, by omega⟩ hP hS (lv_sub hl [0] rfl)
theorem zz_J5_toString (N b : Nat) (g : uEnv) (u : UH) (a0 : Nat) (r : Option Nat) (uf : UH) (h : f_J5_toString N b g u a0 = some (r, uf)) : u.1 ≤ uf.1 ∧ u.2.1 ≤ uf.2.1 :=
  zz_J5_toString_0 (G := ((fun _ => 0, fun _ _ => 0), fun _ => 0, b, g)) (a0 := a0) N u h
theorem met_J5_toString (l : Launch) (N : Nat) (G : uG) (u : UH) (a0 : Nat) (r : Option Nat) (uf : UH) (h : f_J5_toString N (ub G) (ug G) u a0 = some (r, uf)) : Met l yJ5_toString (ws_ yJ5_toString cJ5_toString 1 (some (.object "java/lang/String"))) ({ frames := 5, cells := (uf.1 - u.1), slots := (uf.2.1 - u.2.1), locals := 151 }) (uPc G u [.ref a0]) (uQr G r uf) (uf.1 - u.1) (uf.2.1 - u.2.1) (uA G) := by
  exact u_met (own := RJ5) (by decide +kernel) rfl (Nat.le_of_ble_eq_true rfl) (fun hC hn hsz ls hl hP => W.cs (Nat.sub_self _).symm (Nat.sub_self _).symm (w_J5_toString_0 hC ⟨Nat.le_refl _, Nat.le_refl _⟩ ⟨Nat.le_refl _, Nat.le_refl _⟩ N u h ⟨Nat.le_refl _, Nat.le_refl _⟩ hP va_S.rf hl))

/-! BY gen_heap.py: X9_init X4_init X6_init X15_init X2_init X1_init -/
def f_X9_init_15 (N b : Nat) (g : uEnv) (a0 : Nat) (u : UH) (s0 : Option Nat) (s1 : Option Nat) : Option (UH) :=
    (s1).bind fun a1 =>
    (uPut b u a1 7 1 (va_rf s0)).bind fun u2 =>
    some u2
set_option maxHeartbeats 4000000 in
set_option maxRecDepth 100000 in
theorem zz_X9_init_15 {G : uG} {a0 : Nat} {uf : UH} (N : Nat) (u : UH) (s0 : Option Nat) (s1 : Option Nat) (h : f_X9_init_15 N (ub G) (ug G) a0 u s0 s1 = some uf) : u.1 ≤ uf.1 ∧ u.2.1 ≤ uf.2.1 := by
  unfold f_X9_init_15 at h
  obtain ⟨a1, ha1, hha1⟩ := mbind_n h
  subst ha1
  have h := hha1
  obtain ⟨u2, hu2, h⟩ := mbind_n h
  have zu2 := uPut_sz hu2
  cases h
  exact ⟨by omega, by omega⟩
set_option maxHeartbeats 4000000 in
set_option maxRecDepth 100000 in
theorem w_X9_init_15 {p : Program} {l : Launch} {e : Env} {R : Room} {s : State} {m : MethodId} {args : Array Value} {below : List Frame} {meth : Method} {c : Code} {G : uG} {a0 : Nat} {u0 : UH} {uf : UH} (hC : uC p s m args meth c G RX9 cX9_init 1 none) (hI : meth.name = "<init>") (hR : 1 ≤ R.frames ∧ 20 ≤ R.locals) (hRm : uf.1 - u0.1 ≤ R.cells ∧ uf.2.1 - u0.2.1 ≤ R.slots) (N : Nat) (u : UH) (s0 : Option Nat) (s1 : Option Nat) (h : f_X9_init_15 N (ub G) (ug G) a0 u s0 s1 = some uf) (hz0 : (u0.1 ≤ u.1 ∧ u0.2.1 ≤ u.2.1)) {H : Heap} {locs : List Loc} (hP : uP G u H) (hS : va_S (uA G) s.heap H locs) {ls : Array Slot} (hl : lv_has ls 1 []) : W p l e R s m args below meth c H locs (u.1 - u0.1) (u.2.1 - u0.2.1) (MQ below (uQv G uf) args s (uf.1 - u0.1) (uf.2.1 - u0.2.1) (uA G)) (F0 m 15 ls [va_rf s0, va_rf s1]) := by
  obtain ⟨⟨hx, hb, hml, hown, hts⟩, hKK⟩ := id hC
  have hzf := zz_X9_init_15 (G := G) (a0 := a0) N u s0 s1 h
  unfold f_X9_init_15 at h
  obtain ⟨a1, ha1, hha1⟩ := mbind_n h
  subst ha1
  have h := hha1
  obtain ⟨u2, hu2, h⟩ := mbind_n h
  have zu2 := uPut_sz hu2
  refine u_putF hC hI hP hS hu2 rfl in_X9 tyX9 tyX9_ok nmX9 (by decide) q863 (fun _ h => h) rfl rfl (ty := (.array .int)) (tyX9_ok 1 (by decide)) (uNarA _ _).1 (uNarA _ _).2 dX9_init_15 (fun H locs hP hS => ?_)
  refine W.cs (cells' := u2.1 - u0.1) (slots' := u2.2.1 - u0.2.1) (by omega) (by omega) ?_
  cases h
  exact u_vret hC hP hS dX9_init_18
def f_X9_init_8 (N b : Nat) (g : uEnv) (a0 : Nat) (u : UH) (s0 : Option Nat) (s1 : Option Nat) : Option (UH) :=
    (s1).bind fun a1 =>
    (uPut b u a1 7 0 (va_rf s0)).bind fun u2 =>
    if ¬ (4 : Int32) < 0 ∧ (4 : Int32).toNatClampNeg ≤ 60000000 then
    mlet (u2.1) fun a5 =>
    mlet (uNew u2 (4 : Int32).toNatClampNeg (.inl (0, (4 : Int32).toNatClampNeg, .inl (fun _ => 0)))) fun u3 =>
    f_X9_init_15 N b g a0 u3 (some a5) (some a0)
    else none
set_option maxHeartbeats 4000000 in
set_option maxRecDepth 100000 in
theorem zz_X9_init_8 {G : uG} {a0 : Nat} {uf : UH} (N : Nat) (u : UH) (s0 : Option Nat) (s1 : Option Nat) (h : f_X9_init_8 N (ub G) (ug G) a0 u s0 s1 = some uf) : u.1 ≤ uf.1 ∧ u.2.1 ≤ uf.2.1 := by
  unfold f_X9_init_8 at h
  obtain ⟨a1, ha1, hha1⟩ := mbind_n h
  subst ha1
  have h := hha1
  obtain ⟨u2, hu2, h⟩ := mbind_n h
  have zu2 := uPut_sz hu2
  obtain ⟨c4, h⟩ := mif_n h
  obtain ⟨a5, ea5⟩ : ∃ z : Nat, z = u2.1 := ⟨_, rfl⟩
  have h := mlet_at ea5 h
  obtain ⟨u3, eu3⟩ : ∃ z : UH, z = uNew u2 (4 : Int32).toNatClampNeg (.inl (0, (4 : Int32).toNatClampNeg, .inl (fun _ => 0))) := ⟨_, rfl⟩
  have h := mlet_at eu3 h
  have zu3 : u3.1 = u2.1 + 1 ∧ u3.2.1 = u2.2.1 + (4 : Int32).toNatClampNeg := by rw [eu3]; exact ⟨rfl, rfl⟩
  have hq := zz_X9_init_15 (G := G) (a0 := a0) N u3 (some a5) (some a0) h
  exact ⟨by omega, by omega⟩
set_option maxHeartbeats 4000000 in
set_option maxRecDepth 100000 in
theorem w_X9_init_8 {p : Program} {l : Launch} {e : Env} {R : Room} {s : State} {m : MethodId} {args : Array Value} {below : List Frame} {meth : Method} {c : Code} {G : uG} {a0 : Nat} {u0 : UH} {uf : UH} (hC : uC p s m args meth c G RX9 cX9_init 1 none) (hI : meth.name = "<init>") (hR : 1 ≤ R.frames ∧ 20 ≤ R.locals) (hRm : uf.1 - u0.1 ≤ R.cells ∧ uf.2.1 - u0.2.1 ≤ R.slots) (N : Nat) (u : UH) (s0 : Option Nat) (s1 : Option Nat) (h : f_X9_init_8 N (ub G) (ug G) a0 u s0 s1 = some uf) (hz0 : (u0.1 ≤ u.1 ∧ u0.2.1 ≤ u.2.1)) {H : Heap} {locs : List Loc} (hP : uP G u H) (hS : va_S (uA G) s.heap H locs) {ls : Array Slot} (hl : lv_has ls 1 [(0, va_rf (some a0))]) : W p l e R s m args below meth c H locs (u.1 - u0.1) (u.2.1 - u0.2.1) (MQ below (uQv G uf) args s (uf.1 - u0.1) (uf.2.1 - u0.2.1) (uA G)) (F0 m 8 ls [va_rf s0, va_rf s1]) := by
  obtain ⟨⟨hx, hb, hml, hown, hts⟩, hKK⟩ := id hC
  have hzf := zz_X9_init_8 (G := G) (a0 := a0) N u s0 s1 h
  unfold f_X9_init_8 at h
  obtain ⟨a1, ha1, hha1⟩ := mbind_n h
  subst ha1
  have h := hha1
  obtain ⟨u2, hu2, h⟩ := mbind_n h
  have zu2 := uPut_sz hu2
  refine u_putF hC hI hP hS hu2 rfl in_X9 tyX9 tyX9_ok nmX9 (by decide) q862 (fun _ h => h) rfl rfl (ty := (.array .int)) (tyX9_ok 0 (by decide)) (uNarA _ _).1 (uNarA _ _).2 dX9_init_8 (fun H locs hP hS => ?_)
  refine W.cs (cells' := u2.1 - u0.1) (slots' := u2.2.1 - u0.2.1) (by omega) (by omega) ?_
  refine u_aload_n (r := some a0) hx hb dX9_init_11 rfl (lv_at hl 0 rfl) ?_
  refine lv_iconst (v := 4) hx hb dX9_init_12 (by decide) ?_
  obtain ⟨c4, h⟩ := mif_n h
  obtain ⟨a5, ea5⟩ : ∃ z : Nat, z = u2.1 := ⟨_, rfl⟩
  have h := mlet_at ea5 h
  obtain ⟨u3, eu3⟩ : ∃ z : UH, z = uNew u2 (4 : Int32).toNatClampNeg (.inl (0, (4 : Int32).toNatClampNeg, .inl (fun _ => 0))) := ⟨_, rfl⟩
  have h := mlet_at eu3 h
  have zu3 : u3.1 = u2.1 + 1 ∧ u3.2.1 = u2.2.1 + (4 : Int32).toNatClampNeg := by rw [eu3]; exact ⟨rfl, rfl⟩
  have hq := zz_X9_init_15 (G := G) (a0 := a0) N u3 (some a5) (some a0) h
  refine u_newa (atype := .int) hC hP hS (t := 0) q188 rfl (N := (4 : Int32).toNatClampNeg) (x := .inl (fun _ => 0)) (fun _ => rfl) c4.1 rfl (by have := c4.2; show _ * 4 ≤ _; omega) (by omega) (by omega) dX9_init_13 (fun H hP hS => ?_)
  rw [← eu3] at hP
  rw [← ea5]
  refine W.cs (cells' := u3.1 - u0.1) (slots' := u3.2.1 - u0.2.1) (by omega) (by omega) ?_
  refine W.cs (cells' := u3.1 - u0.1) (slots' := u3.2.1 - u0.2.1) (by omega) (by omega) ?_
  exact w_X9_init_15 hC hI hR hRm N u3 (some a5) (some a0) h ⟨by omega, by omega⟩ hP hS (lv_sub hl [] rfl)
def f_X9_init (N b : Nat) (g : uEnv) (u : UH) (a0 : Nat) : Option (UH) :=
    if ¬ (4 : Int32) < 0 ∧ (4 : Int32).toNatClampNeg ≤ 60000000 then
    mlet (u.1) fun a3 =>
    mlet (uNew u (4 : Int32).toNatClampNeg (.inl (0, (4 : Int32).toNatClampNeg, .inl (fun _ => 0)))) fun u1 =>
    f_X9_init_8 N b g a0 u1 (some a3) (some a0)
    else none
set_option maxHeartbeats 4000000 in
set_option maxRecDepth 100000 in
theorem zz_X9_init_0 {G : uG} {a0 : Nat} {uf : UH} (N : Nat) (u : UH) (h : f_X9_init N (ub G) (ug G) u a0 = some uf) : u.1 ≤ uf.1 ∧ u.2.1 ≤ uf.2.1 := by
  unfold f_X9_init at h
  obtain ⟨c2, h⟩ := mif_n h
  obtain ⟨a3, ea3⟩ : ∃ z : Nat, z = u.1 := ⟨_, rfl⟩
  have h := mlet_at ea3 h
  obtain ⟨u1, eu1⟩ : ∃ z : UH, z = uNew u (4 : Int32).toNatClampNeg (.inl (0, (4 : Int32).toNatClampNeg, .inl (fun _ => 0))) := ⟨_, rfl⟩
  have h := mlet_at eu1 h
  have zu1 : u1.1 = u.1 + 1 ∧ u1.2.1 = u.2.1 + (4 : Int32).toNatClampNeg := by rw [eu1]; exact ⟨rfl, rfl⟩
  have hq := zz_X9_init_8 (G := G) (a0 := a0) N u1 (some a3) (some a0) h
  exact ⟨by omega, by omega⟩
set_option maxHeartbeats 4000000 in
set_option maxRecDepth 100000 in
theorem w_X9_init_0 {p : Program} {l : Launch} {e : Env} {R : Room} {s : State} {m : MethodId} {args : Array Value} {below : List Frame} {meth : Method} {c : Code} {G : uG} {a0 : Nat} {u0 : UH} {uf : UH} (hC : uC p s m args meth c G RX9 cX9_init 1 none) (hI : meth.name = "<init>") (hR : 1 ≤ R.frames ∧ 20 ≤ R.locals) (hRm : uf.1 - u0.1 ≤ R.cells ∧ uf.2.1 - u0.2.1 ≤ R.slots) (N : Nat) (u : UH) (h : f_X9_init N (ub G) (ug G) u a0 = some uf) (hz0 : (u0.1 ≤ u.1 ∧ u0.2.1 ≤ u.2.1)) {H : Heap} {locs : List Loc} (hP : uP G u H) (hS : va_S (uA G) s.heap H locs) {ls : Array Slot} (hl : lv_has ls 1 [(0, va_rf (some a0))]) : W p l e R s m args below meth c H locs (u.1 - u0.1) (u.2.1 - u0.2.1) (MQ below (uQv G uf) args s (uf.1 - u0.1) (uf.2.1 - u0.2.1) (uA G)) (F0 m 0 ls []) := by
  obtain ⟨⟨hx, hb, hml, hown, hts⟩, hKK⟩ := id hC
  have hzf := zz_X9_init_0 (G := G) (a0 := a0) N u h
  unfold f_X9_init at h
  refine u_aload_n (r := some a0) hx hb dX9_init_0 rfl (lv_at hl 0 rfl) ?_
  refine W.objInit hx hb hown (hts _ q861) (hts _ q148) (hts _ q149) rfl (by rw [hml]; exact hl.1) rfl dX9_init_1 (Nat.le_trans (Nat.le_of_ble_eq_true rfl) hR.1) (Nat.le_trans (Nat.le_of_ble_eq_true rfl) hR.2) ?_
  refine W.eq (g2 := F0 m 4 ls []) rfl ?_
  refine u_aload_n (r := some a0) hx hb dX9_init_4 rfl (lv_at hl 0 rfl) ?_
  refine lv_iconst (v := 4) hx hb dX9_init_5 (by decide) ?_
  obtain ⟨c2, h⟩ := mif_n h
  obtain ⟨a3, ea3⟩ : ∃ z : Nat, z = u.1 := ⟨_, rfl⟩
  have h := mlet_at ea3 h
  obtain ⟨u1, eu1⟩ : ∃ z : UH, z = uNew u (4 : Int32).toNatClampNeg (.inl (0, (4 : Int32).toNatClampNeg, .inl (fun _ => 0))) := ⟨_, rfl⟩
  have h := mlet_at eu1 h
  have zu1 : u1.1 = u.1 + 1 ∧ u1.2.1 = u.2.1 + (4 : Int32).toNatClampNeg := by rw [eu1]; exact ⟨rfl, rfl⟩
  have hq := zz_X9_init_8 (G := G) (a0 := a0) N u1 (some a3) (some a0) h
  refine u_newa (atype := .int) hC hP hS (t := 0) q188 rfl (N := (4 : Int32).toNatClampNeg) (x := .inl (fun _ => 0)) (fun _ => rfl) c2.1 rfl (by have := c2.2; show _ * 4 ≤ _; omega) (by omega) (by omega) dX9_init_6 (fun H hP hS => ?_)
  rw [← eu1] at hP
  rw [← ea3]
  refine W.cs (cells' := u1.1 - u0.1) (slots' := u1.2.1 - u0.2.1) (by omega) (by omega) ?_
  refine W.cs (cells' := u1.1 - u0.1) (slots' := u1.2.1 - u0.2.1) (by omega) (by omega) ?_
  exact w_X9_init_8 hC hI hR hRm N u1 (some a3) (some a0) h ⟨by omega, by omega⟩ hP hS (lv_sub hl [0] rfl)
theorem zz_X9_init (N b : Nat) (g : uEnv) (u : UH) (a0 : Nat) (uf : UH) (h : f_X9_init N b g u a0 = some uf) : u.1 ≤ uf.1 ∧ u.2.1 ≤ uf.2.1 :=
  zz_X9_init_0 (G := ((fun _ => 0, fun _ _ => 0), fun _ => 0, b, g)) (a0 := a0) N u h
theorem met_X9_init (l : Launch) (N : Nat) (G : uG) (u : UH) (a0 : Nat) (uf : UH) (h : f_X9_init N (ub G) (ug G) u a0 = some uf) : Met l yX9_init (ws_ yX9_init cX9_init 1 none) ({ frames := 1, cells := (uf.1 - u.1), slots := (uf.2.1 - u.2.1), locals := 20 }) (uPc G u [.ref a0]) (uQv G uf) (uf.1 - u.1) (uf.2.1 - u.2.1) (uA G) := by
  exact u_met (own := RX9) (by decide +kernel) rfl (Nat.le_of_ble_eq_true rfl) (fun hC hn hsz ls hl hP => W.cs (Nat.sub_self _).symm (Nat.sub_self _).symm (w_X9_init_0 hC hn ⟨Nat.le_refl _, Nat.le_refl _⟩ ⟨Nat.le_refl _, Nat.le_refl _⟩ N u h ⟨Nat.le_refl _, Nat.le_refl _⟩ hP va_S.rf hl))
def f_X4_init_19 (N b : Nat) (g : uEnv) (a0 : Nat) (u : UH) (s0 : Option Nat) (s1 : Option Nat) : Option (UH) :=
    (s0).bind fun a1 =>
    (f_J2_init N b g u a1).bind fun u2 =>
    (s1).bind fun a4 =>
    (uPut b u2 a4 3 1 (va_rf (some a1))).bind fun u5 =>
    (uPut b u5 a0 3 3 (.int 4)).bind fun u6 =>
    (uPut b u6 a0 3 4 (.int 100)).bind fun u7 =>
    (uPut b u7 a0 3 5 (.int 100)).bind fun u8 =>
    (uPut b u8 a0 3 6 (.int 100)).bind fun u9 =>
    some u9
set_option maxHeartbeats 4000000 in
set_option maxRecDepth 100000 in
theorem zz_X4_init_19 {G : uG} {a0 : Nat} {uf : UH} (N : Nat) (u : UH) (s0 : Option Nat) (s1 : Option Nat) (h : f_X4_init_19 N (ub G) (ug G) a0 u s0 s1 = some uf) : u.1 ≤ uf.1 ∧ u.2.1 ≤ uf.2.1 := by
  unfold f_X4_init_19 at h
  obtain ⟨a1, ha1, hha1⟩ := mbind_n h
  subst ha1
  have h := hha1
  obtain ⟨u2, c3, h⟩ := mbind_n h
  have zu2 := zz_J2_init N (ub G) (ug G) u a1 u2 c3
  obtain ⟨a4, ha4, hha4⟩ := mbind_n h
  subst ha4
  have h := hha4
  obtain ⟨u5, hu5, h⟩ := mbind_n h
  have zu5 := uPut_sz hu5
  obtain ⟨u6, hu6, h⟩ := mbind_n h
  have zu6 := uPut_sz hu6
  obtain ⟨u7, hu7, h⟩ := mbind_n h
  have zu7 := uPut_sz hu7
  obtain ⟨u8, hu8, h⟩ := mbind_n h
  have zu8 := uPut_sz hu8
  obtain ⟨u9, hu9, h⟩ := mbind_n h
  have zu9 := uPut_sz hu9
  cases h
  exact ⟨by omega, by omega⟩
set_option maxHeartbeats 4000000 in
set_option maxRecDepth 100000 in
theorem w_X4_init_19 {p : Program} {l : Launch} {e : Env} {R : Room} {s : State} {m : MethodId} {args : Array Value} {below : List Frame} {meth : Method} {c : Code} {G : uG} {a0 : Nat} {u0 : UH} {uf : UH} (hC : uC p s m args meth c G RX4 cX4_init 1 none) (hI : meth.name = "<init>") (hR : 4 ≤ R.frames ∧ 80 ≤ R.locals) (hRm : uf.1 - u0.1 ≤ R.cells ∧ uf.2.1 - u0.2.1 ≤ R.slots) (N : Nat) (u : UH) (s0 : Option Nat) (s1 : Option Nat) (h : f_X4_init_19 N (ub G) (ug G) a0 u s0 s1 = some uf) (hz0 : (u0.1 ≤ u.1 ∧ u0.2.1 ≤ u.2.1)) {H : Heap} {locs : List Loc} (hP : uP G u H) (hS : va_S (uA G) s.heap H locs) {ls : Array Slot} (hl : lv_has ls 1 [(0, va_rf (some a0))]) : W p l e R s m args below meth c H locs (u.1 - u0.1) (u.2.1 - u0.2.1) (MQ below (uQv G uf) args s (uf.1 - u0.1) (uf.2.1 - u0.2.1) (uA G)) (F0 m 19 ls [va_rf s0, va_rf s1]) := by
  obtain ⟨⟨hx, hb, hml, hown, hts⟩, hKK⟩ := id hC
  have hzf := zz_X4_init_19 (G := G) (a0 := a0) N u s0 s1 h
  unfold f_X4_init_19 at h
  refine lv_dup hx hb dX4_init_19 (u_cat _) ?_
  obtain ⟨a1, ha1, hha1⟩ := mbind_n h
  subst ha1
  have h := hha1
  obtain ⟨u2, c3, h⟩ := mbind_n h
  have zu2 := zz_J2_init N (ub G) (ug G) u a1 u2 c3
  refine u_callv (va_runI (As := []) (rest := [va_rf (some a1), va_rf s1]) hC.1 (met_J2_init l N G u a1 u2 c3) (cwI 0 hts (lw_meth q193) rfl rfl rfl (hts _ q102) (hts _ q287) (hts _ q192) rfl (by decide +kernel) ⟨Nat.le_trans (Nat.le_of_ble_eq_true rfl) hR.1, Nat.le_trans (Nat.le_of_ble_eq_true rfl) hR.2⟩) ⟨uPc_blind, fun U hU hW => u_pre hC hP hS hU hW⟩ rfl rfl hl.1 rfl (lv_room (by simp only [List.map, u_cat]; exact Nat.le_of_ble_eq_true rfl)) dX4_init_20 ⟨by omega, by omega⟩) hS (fun H locs hP hS => ?_)
  refine W.cs (cells' := u2.1 - u0.1) (slots' := u2.2.1 - u0.2.1) (by omega) (by omega) ?_
  obtain ⟨a4, ha4, hha4⟩ := mbind_n h
  subst ha4
  have h := hha4
  obtain ⟨u5, hu5, h⟩ := mbind_n h
  have zu5 := uPut_sz hu5
  refine u_putF hC hI hP hS hu5 rfl in_X4 tyX4 tyX4_ok nmX4 (by decide) q292 (fun _ h => h) rfl rfl (ty := (.object "java/util/ArrayList")) (tyX4_ok 1 (by decide)) (uNarR _ _).1 (uNarR _ _).2 dX4_init_23 (fun H locs hP hS => ?_)
  refine W.cs (cells' := u5.1 - u0.1) (slots' := u5.2.1 - u0.2.1) (by omega) (by omega) ?_
  refine u_aload_n (r := some a0) hx hb dX4_init_26 rfl (lv_at hl 0 rfl) ?_
  refine lv_iconst (v := 4) hx hb dX4_init_27 (by decide) ?_
  obtain ⟨u6, hu6, h⟩ := mbind_n h
  have zu6 := uPut_sz hu6
  refine u_put hC hP hS hu6 rfl in_X4 tyX4 tyX4_ok nmX4 (by decide) q297 (fun _ h => h) rfl (ty := .int) (tyX4_ok 3 (by decide)) rfl rfl dX4_init_28 (fun H locs hP hS => ?_)
  refine W.cs (cells' := u6.1 - u0.1) (slots' := u6.2.1 - u0.2.1) (by omega) (by omega) ?_
  refine u_aload_n (r := some a0) hx hb dX4_init_31 rfl (lv_at hl 0 rfl) ?_
  refine lv_bipush (v := 100) hx hb dX4_init_32 (by decide) ?_
  obtain ⟨u7, hu7, h⟩ := mbind_n h
  have zu7 := uPut_sz hu7
  refine u_put hC hP hS hu7 rfl in_X4 tyX4 tyX4_ok nmX4 (by decide) q300 (fun _ h => h) rfl (ty := .int) (tyX4_ok 4 (by decide)) rfl rfl dX4_init_34 (fun H locs hP hS => ?_)
  refine W.cs (cells' := u7.1 - u0.1) (slots' := u7.2.1 - u0.2.1) (by omega) (by omega) ?_
  refine u_aload_n (r := some a0) hx hb dX4_init_37 rfl (lv_at hl 0 rfl) ?_
  refine lv_bipush (v := 100) hx hb dX4_init_38 (by decide) ?_
  obtain ⟨u8, hu8, h⟩ := mbind_n h
  have zu8 := uPut_sz hu8
  refine u_put hC hP hS hu8 rfl in_X4 tyX4 tyX4_ok nmX4 (by decide) q303 (fun _ h => h) rfl (ty := .int) (tyX4_ok 5 (by decide)) rfl rfl dX4_init_40 (fun H locs hP hS => ?_)
  refine W.cs (cells' := u8.1 - u0.1) (slots' := u8.2.1 - u0.2.1) (by omega) (by omega) ?_
  refine u_aload_n (r := some a0) hx hb dX4_init_43 rfl (lv_at hl 0 rfl) ?_
  refine lv_bipush (v := 100) hx hb dX4_init_44 (by decide) ?_
  obtain ⟨u9, hu9, h⟩ := mbind_n h
  have zu9 := uPut_sz hu9
  refine u_put hC hP hS hu9 rfl in_X4 tyX4 tyX4_ok nmX4 (by decide) q306 (fun _ h => h) rfl (ty := .int) (tyX4_ok 6 (by decide)) rfl rfl dX4_init_46 (fun H locs hP hS => ?_)
  refine W.cs (cells' := u9.1 - u0.1) (slots' := u9.2.1 - u0.2.1) (by omega) (by omega) ?_
  cases h
  exact u_vret hC hP hS dX4_init_49
def f_X4_init_8 (N b : Nat) (g : uEnv) (a0 : Nat) (u : UH) (s0 : Option Nat) (s1 : Option Nat) : Option (UH) :=
    (s0).bind fun a1 =>
    (f_J2_init N b g u a1).bind fun u2 =>
    (s1).bind fun a4 =>
    (uPut b u2 a4 3 0 (va_rf (some a1))).bind fun u5 =>
    mlet (u5.1) fun a7 =>
    mlet (uNew u5 3 (.inr (18, uDefs tyJ2 3))) fun u6 =>
    f_X4_init_19 N b g a0 u6 (some a7) (some a0)
set_option maxHeartbeats 4000000 in
set_option maxRecDepth 100000 in
theorem zz_X4_init_8 {G : uG} {a0 : Nat} {uf : UH} (N : Nat) (u : UH) (s0 : Option Nat) (s1 : Option Nat) (h : f_X4_init_8 N (ub G) (ug G) a0 u s0 s1 = some uf) : u.1 ≤ uf.1 ∧ u.2.1 ≤ uf.2.1 := by
  unfold f_X4_init_8 at h
  obtain ⟨a1, ha1, hha1⟩ := mbind_n h
  subst ha1
  have h := hha1
  obtain ⟨u2, c3, h⟩ := mbind_n h
  have zu2 := zz_J2_init N (ub G) (ug G) u a1 u2 c3
  obtain ⟨a4, ha4, hha4⟩ := mbind_n h
  subst ha4
  have h := hha4
  obtain ⟨u5, hu5, h⟩ := mbind_n h
  have zu5 := uPut_sz hu5
  obtain ⟨a7, ea7⟩ : ∃ z : Nat, z = u5.1 := ⟨_, rfl⟩
  have h := mlet_at ea7 h
  obtain ⟨u6, eu6⟩ : ∃ z : UH, z = uNew u5 3 (.inr (18, uDefs tyJ2 3)) := ⟨_, rfl⟩
  have h := mlet_at eu6 h
  have zu6 : u6.1 = u5.1 + 1 ∧ u6.2.1 = u5.2.1 + 3 := by rw [eu6]; exact ⟨rfl, rfl⟩
  have hq := zz_X4_init_19 (G := G) (a0 := a0) N u6 (some a7) (some a0) h
  exact ⟨by omega, by omega⟩
set_option maxHeartbeats 4000000 in
set_option maxRecDepth 100000 in
theorem w_X4_init_8 {p : Program} {l : Launch} {e : Env} {R : Room} {s : State} {m : MethodId} {args : Array Value} {below : List Frame} {meth : Method} {c : Code} {G : uG} {a0 : Nat} {u0 : UH} {uf : UH} (hC : uC p s m args meth c G RX4 cX4_init 1 none) (hI : meth.name = "<init>") (hR : 4 ≤ R.frames ∧ 80 ≤ R.locals) (hRm : uf.1 - u0.1 ≤ R.cells ∧ uf.2.1 - u0.2.1 ≤ R.slots) (N : Nat) (u : UH) (s0 : Option Nat) (s1 : Option Nat) (h : f_X4_init_8 N (ub G) (ug G) a0 u s0 s1 = some uf) (hz0 : (u0.1 ≤ u.1 ∧ u0.2.1 ≤ u.2.1)) {H : Heap} {locs : List Loc} (hP : uP G u H) (hS : va_S (uA G) s.heap H locs) {ls : Array Slot} (hl : lv_has ls 1 [(0, va_rf (some a0))]) : W p l e R s m args below meth c H locs (u.1 - u0.1) (u.2.1 - u0.2.1) (MQ below (uQv G uf) args s (uf.1 - u0.1) (uf.2.1 - u0.2.1) (uA G)) (F0 m 8 ls [va_rf s0, va_rf s1]) := by
  obtain ⟨⟨hx, hb, hml, hown, hts⟩, hKK⟩ := id hC
  have hzf := zz_X4_init_8 (G := G) (a0 := a0) N u s0 s1 h
  unfold f_X4_init_8 at h
  refine lv_dup hx hb dX4_init_8 (u_cat _) ?_
  obtain ⟨a1, ha1, hha1⟩ := mbind_n h
  subst ha1
  have h := hha1
  obtain ⟨u2, c3, h⟩ := mbind_n h
  have zu2 := zz_J2_init N (ub G) (ug G) u a1 u2 c3
  refine u_callv (va_runI (As := []) (rest := [va_rf (some a1), va_rf s1]) hC.1 (met_J2_init l N G u a1 u2 c3) (cwI 0 hts (lw_meth q193) rfl rfl rfl (hts _ q102) (hts _ q287) (hts _ q192) rfl (by decide +kernel) ⟨Nat.le_trans (Nat.le_of_ble_eq_true rfl) hR.1, Nat.le_trans (Nat.le_of_ble_eq_true rfl) hR.2⟩) ⟨uPc_blind, fun U hU hW => u_pre hC hP hS hU hW⟩ rfl rfl hl.1 rfl (lv_room (by simp only [List.map, u_cat]; exact Nat.le_of_ble_eq_true rfl)) dX4_init_9 ⟨by omega, by omega⟩) hS (fun H locs hP hS => ?_)
  refine W.cs (cells' := u2.1 - u0.1) (slots' := u2.2.1 - u0.2.1) (by omega) (by omega) ?_
  obtain ⟨a4, ha4, hha4⟩ := mbind_n h
  subst ha4
  have h := hha4
  obtain ⟨u5, hu5, h⟩ := mbind_n h
  have zu5 := uPut_sz hu5
  refine u_putF hC hI hP hS hu5 rfl in_X4 tyX4 tyX4_ok nmX4 (by decide) q288 (fun _ h => h) rfl rfl (ty := (.object "java/util/ArrayList")) (tyX4_ok 0 (by decide)) (uNarR _ _).1 (uNarR _ _).2 dX4_init_12 (fun H locs hP hS => ?_)
  refine W.cs (cells' := u5.1 - u0.1) (slots' := u5.2.1 - u0.2.1) (by omega) (by omega) ?_
  refine u_aload_n (r := some a0) hx hb dX4_init_15 rfl (lv_at hl 0 rfl) ?_
  obtain ⟨a7, ea7⟩ : ∃ z : Nat, z = u5.1 := ⟨_, rfl⟩
  have h := mlet_at ea7 h
  obtain ⟨u6, eu6⟩ : ∃ z : UH, z = uNew u5 3 (.inr (18, uDefs tyJ2 3)) := ⟨_, rfl⟩
  have h := mlet_at eu6 h
  have zu6 : u6.1 = u5.1 + 1 ∧ u6.2.1 = u5.2.1 + 3 := by rw [eu6]; exact ⟨rfl, rfl⟩
  have hq := zz_X4_init_19 (G := G) (a0 := a0) N u6 (some a7) (some a0) h
  refine u_new hC hP hS (T := TJ2) (N := 3) (ci := 18) rfl in_J2 tyJ2 tyJ2_ok q286 q190 q102 (by omega) (by omega) dX4_init_16 (fun H hP hS => ?_)
  rw [← eu6] at hP
  rw [← ea7]
  refine W.cs (cells' := u6.1 - u0.1) (slots' := u6.2.1 - u0.2.1) (by omega) (by omega) ?_
  refine W.cs (cells' := u6.1 - u0.1) (slots' := u6.2.1 - u0.2.1) (by omega) (by omega) ?_
  exact w_X4_init_19 hC hI hR hRm N u6 (some a7) (some a0) h ⟨by omega, by omega⟩ hP hS (lv_sub hl [0] rfl)
def f_X4_init (N b : Nat) (g : uEnv) (u : UH) (a0 : Nat) : Option (UH) :=
    mlet (u.1) fun a2 =>
    mlet (uNew u 3 (.inr (18, uDefs tyJ2 3))) fun u1 =>
    f_X4_init_8 N b g a0 u1 (some a2) (some a0)
set_option maxHeartbeats 4000000 in
set_option maxRecDepth 100000 in
theorem zz_X4_init_0 {G : uG} {a0 : Nat} {uf : UH} (N : Nat) (u : UH) (h : f_X4_init N (ub G) (ug G) u a0 = some uf) : u.1 ≤ uf.1 ∧ u.2.1 ≤ uf.2.1 := by
  unfold f_X4_init at h
  obtain ⟨a2, ea2⟩ : ∃ z : Nat, z = u.1 := ⟨_, rfl⟩
  have h := mlet_at ea2 h
  obtain ⟨u1, eu1⟩ : ∃ z : UH, z = uNew u 3 (.inr (18, uDefs tyJ2 3)) := ⟨_, rfl⟩
  have h := mlet_at eu1 h
  have zu1 : u1.1 = u.1 + 1 ∧ u1.2.1 = u.2.1 + 3 := by rw [eu1]; exact ⟨rfl, rfl⟩
  have hq := zz_X4_init_8 (G := G) (a0 := a0) N u1 (some a2) (some a0) h
  exact ⟨by omega, by omega⟩
set_option maxHeartbeats 4000000 in
set_option maxRecDepth 100000 in
theorem w_X4_init_0 {p : Program} {l : Launch} {e : Env} {R : Room} {s : State} {m : MethodId} {args : Array Value} {below : List Frame} {meth : Method} {c : Code} {G : uG} {a0 : Nat} {u0 : UH} {uf : UH} (hC : uC p s m args meth c G RX4 cX4_init 1 none) (hI : meth.name = "<init>") (hR : 4 ≤ R.frames ∧ 80 ≤ R.locals) (hRm : uf.1 - u0.1 ≤ R.cells ∧ uf.2.1 - u0.2.1 ≤ R.slots) (N : Nat) (u : UH) (h : f_X4_init N (ub G) (ug G) u a0 = some uf) (hz0 : (u0.1 ≤ u.1 ∧ u0.2.1 ≤ u.2.1)) {H : Heap} {locs : List Loc} (hP : uP G u H) (hS : va_S (uA G) s.heap H locs) {ls : Array Slot} (hl : lv_has ls 1 [(0, va_rf (some a0))]) : W p l e R s m args below meth c H locs (u.1 - u0.1) (u.2.1 - u0.2.1) (MQ below (uQv G uf) args s (uf.1 - u0.1) (uf.2.1 - u0.2.1) (uA G)) (F0 m 0 ls []) := by
  obtain ⟨⟨hx, hb, hml, hown, hts⟩, hKK⟩ := id hC
  have hzf := zz_X4_init_0 (G := G) (a0 := a0) N u h
  unfold f_X4_init at h
  refine u_aload_n (r := some a0) hx hb dX4_init_0 rfl (lv_at hl 0 rfl) ?_
  refine W.objInit hx hb hown (hts _ q285) (hts _ q148) (hts _ q149) rfl (by rw [hml]; exact hl.1) rfl dX4_init_1 (Nat.le_trans (Nat.le_of_ble_eq_true rfl) hR.1) (Nat.le_trans (Nat.le_of_ble_eq_true rfl) hR.2) ?_
  refine W.eq (g2 := F0 m 4 ls []) rfl ?_
  refine u_aload_n (r := some a0) hx hb dX4_init_4 rfl (lv_at hl 0 rfl) ?_
  obtain ⟨a2, ea2⟩ : ∃ z : Nat, z = u.1 := ⟨_, rfl⟩
  have h := mlet_at ea2 h
  obtain ⟨u1, eu1⟩ : ∃ z : UH, z = uNew u 3 (.inr (18, uDefs tyJ2 3)) := ⟨_, rfl⟩
  have h := mlet_at eu1 h
  have zu1 : u1.1 = u.1 + 1 ∧ u1.2.1 = u.2.1 + 3 := by rw [eu1]; exact ⟨rfl, rfl⟩
  have hq := zz_X4_init_8 (G := G) (a0 := a0) N u1 (some a2) (some a0) h
  refine u_new hC hP hS (T := TJ2) (N := 3) (ci := 18) rfl in_J2 tyJ2 tyJ2_ok q286 q190 q102 (by omega) (by omega) dX4_init_5 (fun H hP hS => ?_)
  rw [← eu1] at hP
  rw [← ea2]
  refine W.cs (cells' := u1.1 - u0.1) (slots' := u1.2.1 - u0.2.1) (by omega) (by omega) ?_
  refine W.cs (cells' := u1.1 - u0.1) (slots' := u1.2.1 - u0.2.1) (by omega) (by omega) ?_
  exact w_X4_init_8 hC hI hR hRm N u1 (some a2) (some a0) h ⟨by omega, by omega⟩ hP hS (lv_sub hl [0] rfl)
theorem zz_X4_init (N b : Nat) (g : uEnv) (u : UH) (a0 : Nat) (uf : UH) (h : f_X4_init N b g u a0 = some uf) : u.1 ≤ uf.1 ∧ u.2.1 ≤ uf.2.1 :=
  zz_X4_init_0 (G := ((fun _ => 0, fun _ _ => 0), fun _ => 0, b, g)) (a0 := a0) N u h
theorem met_X4_init (l : Launch) (N : Nat) (G : uG) (u : UH) (a0 : Nat) (uf : UH) (h : f_X4_init N (ub G) (ug G) u a0 = some uf) : Met l yX4_init (ws_ yX4_init cX4_init 1 none) ({ frames := 4, cells := (uf.1 - u.1), slots := (uf.2.1 - u.2.1), locals := 80 }) (uPc G u [.ref a0]) (uQv G uf) (uf.1 - u.1) (uf.2.1 - u.2.1) (uA G) := by
  exact u_met (own := RX4) (by decide +kernel) rfl (Nat.le_of_ble_eq_true rfl) (fun hC hn hsz ls hl hP => W.cs (Nat.sub_self _).symm (Nat.sub_self _).symm (w_X4_init_0 hC hn ⟨Nat.le_refl _, Nat.le_refl _⟩ ⟨Nat.le_refl _, Nat.le_refl _⟩ N u h ⟨Nat.le_refl _, Nat.le_refl _⟩ hP va_S.rf hl))
def f_X6_init_23 (N b : Nat) (g : uEnv) (a0 : Nat) (u : UH) (x1 : Option Nat) (s0 : Option Nat) (s1 : Option Nat) : Option (UH) :=
    (s1).bind fun a1 =>
    (uPut b u a1 5 2 (va_rf s0)).bind fun u2 =>
    (uPut b u2 a0 5 0 (va_rf x1)).bind fun u3 =>
    some u3
set_option maxHeartbeats 4000000 in
set_option maxRecDepth 100000 in
theorem zz_X6_init_23 {G : uG} {a0 : Nat} {uf : UH} (N : Nat) (u : UH) (x1 : Option Nat) (s0 : Option Nat) (s1 : Option Nat) (h : f_X6_init_23 N (ub G) (ug G) a0 u x1 s0 s1 = some uf) : u.1 ≤ uf.1 ∧ u.2.1 ≤ uf.2.1 := by
  unfold f_X6_init_23 at h
  obtain ⟨a1, ha1, hha1⟩ := mbind_n h
  subst ha1
  have h := hha1
  obtain ⟨u2, hu2, h⟩ := mbind_n h
  have zu2 := uPut_sz hu2
  obtain ⟨u3, hu3, h⟩ := mbind_n h
  have zu3 := uPut_sz hu3
  cases h
  exact ⟨by omega, by omega⟩
set_option maxHeartbeats 4000000 in
set_option maxRecDepth 100000 in
theorem w_X6_init_23 {p : Program} {l : Launch} {e : Env} {R : Room} {s : State} {m : MethodId} {args : Array Value} {below : List Frame} {meth : Method} {c : Code} {G : uG} {a0 : Nat} {u0 : UH} {uf : UH} (hC : uC p s m args meth c G RX6 cX6_init 2 none) (hI : meth.name = "<init>") (hR : 2 ≤ R.frames ∧ 40 ≤ R.locals) (hRm : uf.1 - u0.1 ≤ R.cells ∧ uf.2.1 - u0.2.1 ≤ R.slots) (N : Nat) (u : UH) (x1 : Option Nat) (s0 : Option Nat) (s1 : Option Nat) (h : f_X6_init_23 N (ub G) (ug G) a0 u x1 s0 s1 = some uf) (hz0 : (u0.1 ≤ u.1 ∧ u0.2.1 ≤ u.2.1)) {H : Heap} {locs : List Loc} (hP : uP G u H) (hS : va_S (uA G) s.heap H locs) {ls : Array Slot} (hl : lv_has ls 2 [(0, va_rf (some a0)), (1, va_rf x1)]) : W p l e R s m args below meth c H locs (u.1 - u0.1) (u.2.1 - u0.2.1) (MQ below (uQv G uf) args s (uf.1 - u0.1) (uf.2.1 - u0.2.1) (uA G)) (F0 m 23 ls [va_rf s0, va_rf s1]) := by
  obtain ⟨⟨hx, hb, hml, hown, hts⟩, hKK⟩ := id hC
  have hzf := zz_X6_init_23 (G := G) (a0 := a0) N u x1 s0 s1 h
  unfold f_X6_init_23 at h
  obtain ⟨a1, ha1, hha1⟩ := mbind_n h
  subst ha1
  have h := hha1
  obtain ⟨u2, hu2, h⟩ := mbind_n h
  have zu2 := uPut_sz hu2
  refine u_putF hC hI hP hS hu2 rfl in_X6 tyX6 tyX6_ok nmX6 (by decide) q878 (fun _ h => h) rfl rfl (ty := (.object "SoftWheels$Line")) (tyX6_ok 2 (by decide)) (uNarR _ _).1 (uNarR _ _).2 dX6_init_23 (fun H locs hP hS => ?_)
  refine W.cs (cells' := u2.1 - u0.1) (slots' := u2.2.1 - u0.2.1) (by omega) (by omega) ?_
  refine u_aload_n (r := some a0) hx hb dX6_init_26 rfl (lv_at hl 0 rfl) ?_
  refine u_aload_n (r := x1) hx hb dX6_init_27 rfl (lv_at hl 1 rfl) ?_
  obtain ⟨u3, hu3, h⟩ := mbind_n h
  have zu3 := uPut_sz hu3
  refine u_putF hC hI hP hS hu3 rfl in_X6 tyX6 tyX6_ok nmX6 (by decide) q872 (fun _ h => h) rfl rfl (ty := (.object "java/lang/String")) (tyX6_ok 0 (by decide)) (uNarR _ _).1 (uNarR _ _).2 dX6_init_28 (fun H locs hP hS => ?_)
  refine W.cs (cells' := u3.1 - u0.1) (slots' := u3.2.1 - u0.2.1) (by omega) (by omega) ?_
  cases h
  exact u_vret hC hP hS dX6_init_31
def f_X6_init_19 (N b : Nat) (g : uEnv) (a0 : Nat) (u : UH) (x1 : Option Nat) (s0 : Option Nat) (s1 : Option Nat) : Option (UH) :=
    (s0).bind fun a1 =>
    (f_X9_init N b g u a1).bind fun u2 =>
    f_X6_init_23 N b g a0 u2 x1 (some a1) s1
set_option maxHeartbeats 4000000 in
set_option maxRecDepth 100000 in
theorem zz_X6_init_19 {G : uG} {a0 : Nat} {uf : UH} (N : Nat) (u : UH) (x1 : Option Nat) (s0 : Option Nat) (s1 : Option Nat) (h : f_X6_init_19 N (ub G) (ug G) a0 u x1 s0 s1 = some uf) : u.1 ≤ uf.1 ∧ u.2.1 ≤ uf.2.1 := by
  unfold f_X6_init_19 at h
  obtain ⟨a1, ha1, hha1⟩ := mbind_n h
  subst ha1
  have h := hha1
  obtain ⟨u2, c3, h⟩ := mbind_n h
  have zu2 := zz_X9_init N (ub G) (ug G) u a1 u2 c3
  have hq := zz_X6_init_23 (G := G) (a0 := a0) N u2 x1 (some a1) s1 h
  exact ⟨by omega, by omega⟩
set_option maxHeartbeats 4000000 in
set_option maxRecDepth 100000 in
theorem w_X6_init_19 {p : Program} {l : Launch} {e : Env} {R : Room} {s : State} {m : MethodId} {args : Array Value} {below : List Frame} {meth : Method} {c : Code} {G : uG} {a0 : Nat} {u0 : UH} {uf : UH} (hC : uC p s m args meth c G RX6 cX6_init 2 none) (hI : meth.name = "<init>") (hR : 2 ≤ R.frames ∧ 40 ≤ R.locals) (hRm : uf.1 - u0.1 ≤ R.cells ∧ uf.2.1 - u0.2.1 ≤ R.slots) (N : Nat) (u : UH) (x1 : Option Nat) (s0 : Option Nat) (s1 : Option Nat) (h : f_X6_init_19 N (ub G) (ug G) a0 u x1 s0 s1 = some uf) (hz0 : (u0.1 ≤ u.1 ∧ u0.2.1 ≤ u.2.1)) {H : Heap} {locs : List Loc} (hP : uP G u H) (hS : va_S (uA G) s.heap H locs) {ls : Array Slot} (hl : lv_has ls 2 [(0, va_rf (some a0)), (1, va_rf x1)]) : W p l e R s m args below meth c H locs (u.1 - u0.1) (u.2.1 - u0.2.1) (MQ below (uQv G uf) args s (uf.1 - u0.1) (uf.2.1 - u0.2.1) (uA G)) (F0 m 19 ls [va_rf s0, va_rf s1]) := by
  obtain ⟨⟨hx, hb, hml, hown, hts⟩, hKK⟩ := id hC
  have hzf := zz_X6_init_19 (G := G) (a0 := a0) N u x1 s0 s1 h
  unfold f_X6_init_19 at h
  refine lv_dup hx hb dX6_init_19 (u_cat _) ?_
  obtain ⟨a1, ha1, hha1⟩ := mbind_n h
  subst ha1
  have h := hha1
  obtain ⟨u2, c3, h⟩ := mbind_n h
  have zu2 := zz_X9_init N (ub G) (ug G) u a1 u2 c3
  have hq := zz_X6_init_23 (G := G) (a0 := a0) N u2 x1 (some a1) s1 h
  refine u_callv (va_runIN (As := []) (rest := [va_rf (some a1), va_rf s1]) hC.1 (met_X9_init l N G u a1 u2 c3) ⟨va_cnB 0 hts (lw_meth q860) rfl rfl rfl (hC.2.1.2.1 _ q858 rfl) (hts _ q124) (by decide +kernel) ⟨Nat.le_trans (Nat.le_of_ble_eq_true rfl) hR.1, Nat.le_trans (Nat.le_of_ble_eq_true rfl) hR.2⟩, rfl, hts _ q859⟩ ⟨uPc_blind, fun U hU hW => u_pre hC hP hS hU hW⟩ rfl rfl hl.1 rfl (lv_room (by simp only [List.map, u_cat]; exact Nat.le_of_ble_eq_true rfl)) dX6_init_20 ⟨by omega, by omega⟩) hS (fun H locs hP hS => ?_)
  refine W.cs (cells' := u2.1 - u0.1) (slots' := u2.2.1 - u0.2.1) (by omega) (by omega) ?_
  refine W.cs (cells' := u2.1 - u0.1) (slots' := u2.2.1 - u0.2.1) (by omega) (by omega) ?_
  exact w_X6_init_23 hC hI hR hRm N u2 x1 (some a1) s1 h ⟨by omega, by omega⟩ hP hS (lv_sub hl [0, 1] rfl)
def f_X6_init_12 (N b : Nat) (g : uEnv) (a0 : Nat) (u : UH) (x1 : Option Nat) (s0 : Option Nat) (s1 : Option Nat) : Option (UH) :=
    (s1).bind fun a1 =>
    (uPut b u a1 5 1 (va_rf s0)).bind fun u2 =>
    mlet (u2.1) fun a4 =>
    mlet (uNew u2 3 (.inr (7, uDefs tyX9 3))) fun u3 =>
    f_X6_init_19 N b g a0 u3 x1 (some a4) (some a0)
set_option maxHeartbeats 4000000 in
set_option maxRecDepth 100000 in
theorem zz_X6_init_12 {G : uG} {a0 : Nat} {uf : UH} (N : Nat) (u : UH) (x1 : Option Nat) (s0 : Option Nat) (s1 : Option Nat) (h : f_X6_init_12 N (ub G) (ug G) a0 u x1 s0 s1 = some uf) : u.1 ≤ uf.1 ∧ u.2.1 ≤ uf.2.1 := by
  unfold f_X6_init_12 at h
  obtain ⟨a1, ha1, hha1⟩ := mbind_n h
  subst ha1
  have h := hha1
  obtain ⟨u2, hu2, h⟩ := mbind_n h
  have zu2 := uPut_sz hu2
  obtain ⟨a4, ea4⟩ : ∃ z : Nat, z = u2.1 := ⟨_, rfl⟩
  have h := mlet_at ea4 h
  obtain ⟨u3, eu3⟩ : ∃ z : UH, z = uNew u2 3 (.inr (7, uDefs tyX9 3)) := ⟨_, rfl⟩
  have h := mlet_at eu3 h
  have zu3 : u3.1 = u2.1 + 1 ∧ u3.2.1 = u2.2.1 + 3 := by rw [eu3]; exact ⟨rfl, rfl⟩
  have hq := zz_X6_init_19 (G := G) (a0 := a0) N u3 x1 (some a4) (some a0) h
  exact ⟨by omega, by omega⟩
set_option maxHeartbeats 4000000 in
set_option maxRecDepth 100000 in
theorem w_X6_init_12 {p : Program} {l : Launch} {e : Env} {R : Room} {s : State} {m : MethodId} {args : Array Value} {below : List Frame} {meth : Method} {c : Code} {G : uG} {a0 : Nat} {u0 : UH} {uf : UH} (hC : uC p s m args meth c G RX6 cX6_init 2 none) (hI : meth.name = "<init>") (hR : 2 ≤ R.frames ∧ 40 ≤ R.locals) (hRm : uf.1 - u0.1 ≤ R.cells ∧ uf.2.1 - u0.2.1 ≤ R.slots) (N : Nat) (u : UH) (x1 : Option Nat) (s0 : Option Nat) (s1 : Option Nat) (h : f_X6_init_12 N (ub G) (ug G) a0 u x1 s0 s1 = some uf) (hz0 : (u0.1 ≤ u.1 ∧ u0.2.1 ≤ u.2.1)) {H : Heap} {locs : List Loc} (hP : uP G u H) (hS : va_S (uA G) s.heap H locs) {ls : Array Slot} (hl : lv_has ls 2 [(0, va_rf (some a0)), (1, va_rf x1)]) : W p l e R s m args below meth c H locs (u.1 - u0.1) (u.2.1 - u0.2.1) (MQ below (uQv G uf) args s (uf.1 - u0.1) (uf.2.1 - u0.2.1) (uA G)) (F0 m 12 ls [va_rf s0, va_rf s1]) := by
  obtain ⟨⟨hx, hb, hml, hown, hts⟩, hKK⟩ := id hC
  have hzf := zz_X6_init_12 (G := G) (a0 := a0) N u x1 s0 s1 h
  unfold f_X6_init_12 at h
  obtain ⟨a1, ha1, hha1⟩ := mbind_n h
  subst ha1
  have h := hha1
  obtain ⟨u2, hu2, h⟩ := mbind_n h
  have zu2 := uPut_sz hu2
  refine u_putF hC hI hP hS hu2 rfl in_X6 tyX6 tyX6_ok nmX6 (by decide) q874 (fun _ h => h) rfl rfl (ty := (.object "SoftWheels$Line")) (tyX6_ok 1 (by decide)) (uNarR _ _).1 (uNarR _ _).2 dX6_init_12 (fun H locs hP hS => ?_)
  refine W.cs (cells' := u2.1 - u0.1) (slots' := u2.2.1 - u0.2.1) (by omega) (by omega) ?_
  refine u_aload_n (r := some a0) hx hb dX6_init_15 rfl (lv_at hl 0 rfl) ?_
  obtain ⟨a4, ea4⟩ : ∃ z : Nat, z = u2.1 := ⟨_, rfl⟩
  have h := mlet_at ea4 h
  obtain ⟨u3, eu3⟩ : ∃ z : UH, z = uNew u2 3 (.inr (7, uDefs tyX9 3)) := ⟨_, rfl⟩
  have h := mlet_at eu3 h
  have zu3 : u3.1 = u2.1 + 1 ∧ u3.2.1 = u2.2.1 + 3 := by rw [eu3]; exact ⟨rfl, rfl⟩
  have hq := zz_X6_init_19 (G := G) (a0 := a0) N u3 x1 (some a4) (some a0) h
  refine u_new hC hP hS (T := TX9) (N := 3) (ci := 7) rfl in_X9 tyX9 tyX9_ok q856 q857 q124 (by omega) (by omega) dX6_init_16 (fun H hP hS => ?_)
  rw [← eu3] at hP
  rw [← ea4]
  refine W.cs (cells' := u3.1 - u0.1) (slots' := u3.2.1 - u0.2.1) (by omega) (by omega) ?_
  refine W.cs (cells' := u3.1 - u0.1) (slots' := u3.2.1 - u0.2.1) (by omega) (by omega) ?_
  exact w_X6_init_19 hC hI hR hRm N u3 x1 (some a4) (some a0) h ⟨by omega, by omega⟩ hP hS (lv_sub hl [0, 1] rfl)
def f_X6_init_8 (N b : Nat) (g : uEnv) (a0 : Nat) (u : UH) (x1 : Option Nat) (s0 : Option Nat) (s1 : Option Nat) : Option (UH) :=
    (s0).bind fun a1 =>
    (f_X9_init N b g u a1).bind fun u2 =>
    f_X6_init_12 N b g a0 u2 x1 (some a1) s1
set_option maxHeartbeats 4000000 in
set_option maxRecDepth 100000 in
theorem zz_X6_init_8 {G : uG} {a0 : Nat} {uf : UH} (N : Nat) (u : UH) (x1 : Option Nat) (s0 : Option Nat) (s1 : Option Nat) (h : f_X6_init_8 N (ub G) (ug G) a0 u x1 s0 s1 = some uf) : u.1 ≤ uf.1 ∧ u.2.1 ≤ uf.2.1 := by
  unfold f_X6_init_8 at h
  obtain ⟨a1, ha1, hha1⟩ := mbind_n h
  subst ha1
  have h := hha1
  obtain ⟨u2, c3, h⟩ := mbind_n h
  have zu2 := zz_X9_init N (ub G) (ug G) u a1 u2 c3
  have hq := zz_X6_init_12 (G := G) (a0 := a0) N u2 x1 (some a1) s1 h
  exact ⟨by omega, by omega⟩
set_option maxHeartbeats 4000000 in
set_option maxRecDepth 100000 in
theorem w_X6_init_8 {p : Program} {l : Launch} {e : Env} {R : Room} {s : State} {m : MethodId} {args : Array Value} {below : List Frame} {meth : Method} {c : Code} {G : uG} {a0 : Nat} {u0 : UH} {uf : UH} (hC : uC p s m args meth c G RX6 cX6_init 2 none) (hI : meth.name = "<init>") (hR : 2 ≤ R.frames ∧ 40 ≤ R.locals) (hRm : uf.1 - u0.1 ≤ R.cells ∧ uf.2.1 - u0.2.1 ≤ R.slots) (N : Nat) (u : UH) (x1 : Option Nat) (s0 : Option Nat) (s1 : Option Nat) (h : f_X6_init_8 N (ub G) (ug G) a0 u x1 s0 s1 = some uf) (hz0 : (u0.1 ≤ u.1 ∧ u0.2.1 ≤ u.2.1)) {H : Heap} {locs : List Loc} (hP : uP G u H) (hS : va_S (uA G) s.heap H locs) {ls : Array Slot} (hl : lv_has ls 2 [(0, va_rf (some a0)), (1, va_rf x1)]) : W p l e R s m args below meth c H locs (u.1 - u0.1) (u.2.1 - u0.2.1) (MQ below (uQv G uf) args s (uf.1 - u0.1) (uf.2.1 - u0.2.1) (uA G)) (F0 m 8 ls [va_rf s0, va_rf s1]) := by
  obtain ⟨⟨hx, hb, hml, hown, hts⟩, hKK⟩ := id hC
  have hzf := zz_X6_init_8 (G := G) (a0 := a0) N u x1 s0 s1 h
  unfold f_X6_init_8 at h
  refine lv_dup hx hb dX6_init_8 (u_cat _) ?_
  obtain ⟨a1, ha1, hha1⟩ := mbind_n h
  subst ha1
  have h := hha1
  obtain ⟨u2, c3, h⟩ := mbind_n h
  have zu2 := zz_X9_init N (ub G) (ug G) u a1 u2 c3
  have hq := zz_X6_init_12 (G := G) (a0 := a0) N u2 x1 (some a1) s1 h
  refine u_callv (va_runIN (As := []) (rest := [va_rf (some a1), va_rf s1]) hC.1 (met_X9_init l N G u a1 u2 c3) ⟨va_cnB 0 hts (lw_meth q860) rfl rfl rfl (hC.2.1.2.1 _ q858 rfl) (hts _ q124) (by decide +kernel) ⟨Nat.le_trans (Nat.le_of_ble_eq_true rfl) hR.1, Nat.le_trans (Nat.le_of_ble_eq_true rfl) hR.2⟩, rfl, hts _ q859⟩ ⟨uPc_blind, fun U hU hW => u_pre hC hP hS hU hW⟩ rfl rfl hl.1 rfl (lv_room (by simp only [List.map, u_cat]; exact Nat.le_of_ble_eq_true rfl)) dX6_init_9 ⟨by omega, by omega⟩) hS (fun H locs hP hS => ?_)
  refine W.cs (cells' := u2.1 - u0.1) (slots' := u2.2.1 - u0.2.1) (by omega) (by omega) ?_
  refine W.cs (cells' := u2.1 - u0.1) (slots' := u2.2.1 - u0.2.1) (by omega) (by omega) ?_
  exact w_X6_init_12 hC hI hR hRm N u2 x1 (some a1) s1 h ⟨by omega, by omega⟩ hP hS (lv_sub hl [0, 1] rfl)
def f_X6_init (N b : Nat) (g : uEnv) (u : UH) (a0 : Nat) (x1 : Option Nat) : Option (UH) :=
    mlet (u.1) fun a2 =>
    mlet (uNew u 3 (.inr (7, uDefs tyX9 3))) fun u1 =>
    f_X6_init_8 N b g a0 u1 x1 (some a2) (some a0)
set_option maxHeartbeats 4000000 in
set_option maxRecDepth 100000 in
theorem zz_X6_init_0 {G : uG} {a0 : Nat} {uf : UH} (N : Nat) (u : UH) (x1 : Option Nat) (h : f_X6_init N (ub G) (ug G) u a0 x1 = some uf) : u.1 ≤ uf.1 ∧ u.2.1 ≤ uf.2.1 := by
  unfold f_X6_init at h
  obtain ⟨a2, ea2⟩ : ∃ z : Nat, z = u.1 := ⟨_, rfl⟩
  have h := mlet_at ea2 h
  obtain ⟨u1, eu1⟩ : ∃ z : UH, z = uNew u 3 (.inr (7, uDefs tyX9 3)) := ⟨_, rfl⟩
  have h := mlet_at eu1 h
  have zu1 : u1.1 = u.1 + 1 ∧ u1.2.1 = u.2.1 + 3 := by rw [eu1]; exact ⟨rfl, rfl⟩
  have hq := zz_X6_init_8 (G := G) (a0 := a0) N u1 x1 (some a2) (some a0) h
  exact ⟨by omega, by omega⟩
set_option maxHeartbeats 4000000 in
set_option maxRecDepth 100000 in
theorem w_X6_init_0 {p : Program} {l : Launch} {e : Env} {R : Room} {s : State} {m : MethodId} {args : Array Value} {below : List Frame} {meth : Method} {c : Code} {G : uG} {a0 : Nat} {u0 : UH} {uf : UH} (hC : uC p s m args meth c G RX6 cX6_init 2 none) (hI : meth.name = "<init>") (hR : 2 ≤ R.frames ∧ 40 ≤ R.locals) (hRm : uf.1 - u0.1 ≤ R.cells ∧ uf.2.1 - u0.2.1 ≤ R.slots) (N : Nat) (u : UH) (x1 : Option Nat) (h : f_X6_init N (ub G) (ug G) u a0 x1 = some uf) (hz0 : (u0.1 ≤ u.1 ∧ u0.2.1 ≤ u.2.1)) {H : Heap} {locs : List Loc} (hP : uP G u H) (hS : va_S (uA G) s.heap H locs) {ls : Array Slot} (hl : lv_has ls 2 [(0, va_rf (some a0)), (1, va_rf x1)]) : W p l e R s m args below meth c H locs (u.1 - u0.1) (u.2.1 - u0.2.1) (MQ below (uQv G uf) args s (uf.1 - u0.1) (uf.2.1 - u0.2.1) (uA G)) (F0 m 0 ls []) := by
  obtain ⟨⟨hx, hb, hml, hown, hts⟩, hKK⟩ := id hC
  have hzf := zz_X6_init_0 (G := G) (a0 := a0) N u x1 h
  unfold f_X6_init at h
  refine u_aload_n (r := some a0) hx hb dX6_init_0 rfl (lv_at hl 0 rfl) ?_
  refine W.objInit hx hb hown (hts _ q855) (hts _ q148) (hts _ q149) rfl (by rw [hml]; exact hl.1) rfl dX6_init_1 (Nat.le_trans (Nat.le_of_ble_eq_true rfl) hR.1) (Nat.le_trans (Nat.le_of_ble_eq_true rfl) hR.2) ?_
  refine W.eq (g2 := F0 m 4 ls []) rfl ?_
  refine u_aload_n (r := some a0) hx hb dX6_init_4 rfl (lv_at hl 0 rfl) ?_
  obtain ⟨a2, ea2⟩ : ∃ z : Nat, z = u.1 := ⟨_, rfl⟩
  have h := mlet_at ea2 h
  obtain ⟨u1, eu1⟩ : ∃ z : UH, z = uNew u 3 (.inr (7, uDefs tyX9 3)) := ⟨_, rfl⟩
  have h := mlet_at eu1 h
  have zu1 : u1.1 = u.1 + 1 ∧ u1.2.1 = u.2.1 + 3 := by rw [eu1]; exact ⟨rfl, rfl⟩
  have hq := zz_X6_init_8 (G := G) (a0 := a0) N u1 x1 (some a2) (some a0) h
  refine u_new hC hP hS (T := TX9) (N := 3) (ci := 7) rfl in_X9 tyX9 tyX9_ok q856 q857 q124 (by omega) (by omega) dX6_init_5 (fun H hP hS => ?_)
  rw [← eu1] at hP
  rw [← ea2]
  refine W.cs (cells' := u1.1 - u0.1) (slots' := u1.2.1 - u0.2.1) (by omega) (by omega) ?_
  refine W.cs (cells' := u1.1 - u0.1) (slots' := u1.2.1 - u0.2.1) (by omega) (by omega) ?_
  exact w_X6_init_8 hC hI hR hRm N u1 x1 (some a2) (some a0) h ⟨by omega, by omega⟩ hP hS (lv_sub hl [0, 1] rfl)
theorem zz_X6_init (N b : Nat) (g : uEnv) (u : UH) (a0 : Nat) (x1 : Option Nat) (uf : UH) (h : f_X6_init N b g u a0 x1 = some uf) : u.1 ≤ uf.1 ∧ u.2.1 ≤ uf.2.1 :=
  zz_X6_init_0 (G := ((fun _ => 0, fun _ _ => 0), fun _ => 0, b, g)) (a0 := a0) N u x1 h
theorem met_X6_init (l : Launch) (N : Nat) (G : uG) (u : UH) (a0 : Nat) (x1 : Option Nat) (uf : UH) (h : f_X6_init N (ub G) (ug G) u a0 x1 = some uf) : Met l yX6_init (ws_ yX6_init cX6_init 2 none) ({ frames := 2, cells := (uf.1 - u.1), slots := (uf.2.1 - u.2.1), locals := 40 }) (uPc G u [.ref a0, va_rf x1]) (uQv G uf) (uf.1 - u.1) (uf.2.1 - u.2.1) (uA G) := by
  rcases x1 with _ | x1 <;> exact u_met (own := RX6) (by decide +kernel) rfl (Nat.le_of_ble_eq_true rfl) (fun hC hn hsz ls hl hP => W.cs (Nat.sub_self _).symm (Nat.sub_self _).symm (w_X6_init_0 hC hn ⟨Nat.le_refl _, Nat.le_refl _⟩ ⟨Nat.le_refl _, Nat.le_refl _⟩ N u _ h ⟨Nat.le_refl _, Nat.le_refl _⟩ hP va_S.rf hl))
def f_X15_init_9 (N b : Nat) (g : uEnv) (a0 : Nat) (u : UH) (x1 : Int32) (x2 : Int32) (s0 : Option Nat) (s1 : Option Nat) : Option (UH) :=
    (s1).bind fun a1 =>
    (uPut b u a1 13 1 (va_rf s0)).bind fun u2 =>
    (uPut b u2 a0 13 2 (.int (-1))).bind fun u3 =>
    (uPut b u3 a0 13 0 (.int x1)).bind fun u4 =>
    (uGR u4 a0 13 1).bind fun o5 =>
    (o5).bind fun a6 =>
    (uStI b u4 a6 0 x2 1).bind fun u7 =>
    some u7
set_option maxHeartbeats 4000000 in
set_option maxRecDepth 100000 in
theorem zz_X15_init_9 {G : uG} {a0 : Nat} {uf : UH} (N : Nat) (u : UH) (x1 : Int32) (x2 : Int32) (s0 : Option Nat) (s1 : Option Nat) (h : f_X15_init_9 N (ub G) (ug G) a0 u x1 x2 s0 s1 = some uf) : u.1 ≤ uf.1 ∧ u.2.1 ≤ uf.2.1 := by
  unfold f_X15_init_9 at h
  obtain ⟨a1, ha1, hha1⟩ := mbind_n h
  subst ha1
  have h := hha1
  obtain ⟨u2, hu2, h⟩ := mbind_n h
  have zu2 := uPut_sz hu2
  obtain ⟨u3, hu3, h⟩ := mbind_n h
  have zu3 := uPut_sz hu3
  obtain ⟨u4, hu4, h⟩ := mbind_n h
  have zu4 := uPut_sz hu4
  obtain ⟨o5, ho5, h⟩ := mbind_n h
  obtain ⟨a6, ha6, hha6⟩ := mbind_n h
  subst ha6
  have h := hha6
  obtain ⟨u7, hu7, h⟩ := mbind_n h
  have zu7 := uStI_sz hu7
  cases h
  exact ⟨by omega, by omega⟩
set_option maxHeartbeats 4000000 in
set_option maxRecDepth 100000 in
theorem w_X15_init_9 {p : Program} {l : Launch} {e : Env} {R : Room} {s : State} {m : MethodId} {args : Array Value} {below : List Frame} {meth : Method} {c : Code} {G : uG} {a0 : Nat} {u0 : UH} {uf : UH} (hC : uC p s m args meth c G RX15 cX15_init 3 none) (hI : meth.name = "<init>") (hR : 1 ≤ R.frames ∧ 20 ≤ R.locals) (hRm : uf.1 - u0.1 ≤ R.cells ∧ uf.2.1 - u0.2.1 ≤ R.slots) (N : Nat) (u : UH) (x1 : Int32) (x2 : Int32) (s0 : Option Nat) (s1 : Option Nat) (h : f_X15_init_9 N (ub G) (ug G) a0 u x1 x2 s0 s1 = some uf) (hz0 : (u0.1 ≤ u.1 ∧ u0.2.1 ≤ u.2.1)) {H : Heap} {locs : List Loc} (hP : uP G u H) (hS : va_S (uA G) s.heap H locs) {ls : Array Slot} (hl : lv_has ls 3 [(0, va_rf (some a0)), (1, .int x1), (2, .int x2)]) : W p l e R s m args below meth c H locs (u.1 - u0.1) (u.2.1 - u0.2.1) (MQ below (uQv G uf) args s (uf.1 - u0.1) (uf.2.1 - u0.2.1) (uA G)) (F0 m 9 ls [va_rf s0, va_rf s1]) := by
  obtain ⟨⟨hx, hb, hml, hown, hts⟩, hKK⟩ := id hC
  have hzf := zz_X15_init_9 (G := G) (a0 := a0) N u x1 x2 s0 s1 h
  unfold f_X15_init_9 at h
  obtain ⟨a1, ha1, hha1⟩ := mbind_n h
  subst ha1
  have h := hha1
  obtain ⟨u2, hu2, h⟩ := mbind_n h
  have zu2 := uPut_sz hu2
  refine u_putF hC hI hP hS hu2 rfl in_X15 tyX15 tyX15_ok nmX15 (by decide) q1217 (fun _ h => h) rfl rfl (ty := (.array .int)) (tyX15_ok 1 (by decide)) (uNarA _ _).1 (uNarA _ _).2 dX15_init_9 (fun H locs hP hS => ?_)
  refine W.cs (cells' := u2.1 - u0.1) (slots' := u2.2.1 - u0.2.1) (by omega) (by omega) ?_
  refine u_aload_n (r := some a0) hx hb dX15_init_12 rfl (lv_at hl 0 rfl) ?_
  refine lv_iconst (v := (-1)) hx hb dX15_init_13 (by decide) ?_
  obtain ⟨u3, hu3, h⟩ := mbind_n h
  have zu3 := uPut_sz hu3
  refine u_put hC hP hS hu3 rfl in_X15 tyX15 tyX15_ok nmX15 (by decide) q1220 (fun _ h => h) rfl (ty := .int) (tyX15_ok 2 (by decide)) rfl rfl dX15_init_14 (fun H locs hP hS => ?_)
  refine W.cs (cells' := u3.1 - u0.1) (slots' := u3.2.1 - u0.2.1) (by omega) (by omega) ?_
  refine u_aload_n (r := some a0) hx hb dX15_init_17 rfl (lv_at hl 0 rfl) ?_
  refine lv_iload_n hx hb dX15_init_18 rfl (lv_at hl 1 rfl) ?_
  obtain ⟨u4, hu4, h⟩ := mbind_n h
  have zu4 := uPut_sz hu4
  refine u_putF hC hI hP hS hu4 rfl in_X15 tyX15 tyX15_ok nmX15 (by decide) q1212 (fun _ h => h) rfl rfl (ty := .int) (tyX15_ok 0 (by decide)) rfl rfl dX15_init_19 (fun H locs hP hS => ?_)
  refine W.cs (cells' := u4.1 - u0.1) (slots' := u4.2.1 - u0.2.1) (by omega) (by omega) ?_
  refine u_aload_n (r := some a0) hx hb dX15_init_22 rfl (lv_at hl 0 rfl) ?_
  obtain ⟨o5, ho5, h⟩ := mbind_n h
  refine u_get hC hP (uGR_n ho5) rfl in_X15 (by decide) q1217 (fun _ h => h) dX15_init_23 ?_
  refine lv_iload_n hx hb dX15_init_26 rfl (lv_at hl 2 rfl) ?_
  refine lv_iconst (v := 1) hx hb dX15_init_27 (by decide) ?_
  obtain ⟨a6, ha6, hha6⟩ := mbind_n h
  subst ha6
  have h := hha6
  obtain ⟨u7, hu7, h⟩ := mbind_n h
  have zu7 := uStI_sz hu7
  refine u_iast hC hP hS hu7 rfl dX15_init_28 (fun H locs hP hS => ?_)
  refine W.cs (cells' := u7.1 - u0.1) (slots' := u7.2.1 - u0.2.1) (by omega) (by omega) ?_
  cases h
  exact u_vret hC hP hS dX15_init_29
def f_X15_init (N b : Nat) (g : uEnv) (u : UH) (a0 : Nat) (x1 : Int32) (x2 : Int32) : Option (UH) :=
    if ¬ (8 : Int32) < 0 ∧ (8 : Int32).toNatClampNeg ≤ 60000000 then
    mlet (u.1) fun a3 =>
    mlet (uNew u (8 : Int32).toNatClampNeg (.inl (0, (8 : Int32).toNatClampNeg, .inl (fun _ => 0)))) fun u1 =>
    f_X15_init_9 N b g a0 u1 x1 x2 (some a3) (some a0)
    else none
set_option maxHeartbeats 4000000 in
set_option maxRecDepth 100000 in
theorem zz_X15_init_0 {G : uG} {a0 : Nat} {uf : UH} (N : Nat) (u : UH) (x1 : Int32) (x2 : Int32) (h : f_X15_init N (ub G) (ug G) u a0 x1 x2 = some uf) : u.1 ≤ uf.1 ∧ u.2.1 ≤ uf.2.1 := by
  unfold f_X15_init at h
  obtain ⟨c2, h⟩ := mif_n h
  obtain ⟨a3, ea3⟩ : ∃ z : Nat, z = u.1 := ⟨_, rfl⟩
  have h := mlet_at ea3 h
  obtain ⟨u1, eu1⟩ : ∃ z : UH, z = uNew u (8 : Int32).toNatClampNeg (.inl (0, (8 : Int32).toNatClampNeg, .inl (fun _ => 0))) := ⟨_, rfl⟩
  have h := mlet_at eu1 h
  have zu1 : u1.1 = u.1 + 1 ∧ u1.2.1 = u.2.1 + (8 : Int32).toNatClampNeg := by rw [eu1]; exact ⟨rfl, rfl⟩
  have hq := zz_X15_init_9 (G := G) (a0 := a0) N u1 x1 x2 (some a3) (some a0) h
  exact ⟨by omega, by omega⟩
set_option maxHeartbeats 4000000 in
set_option maxRecDepth 100000 in
theorem w_X15_init_0 {p : Program} {l : Launch} {e : Env} {R : Room} {s : State} {m : MethodId} {args : Array Value} {below : List Frame} {meth : Method} {c : Code} {G : uG} {a0 : Nat} {u0 : UH} {uf : UH} (hC : uC p s m args meth c G RX15 cX15_init 3 none) (hI : meth.name = "<init>") (hR : 1 ≤ R.frames ∧ 20 ≤ R.locals) (hRm : uf.1 - u0.1 ≤ R.cells ∧ uf.2.1 - u0.2.1 ≤ R.slots) (N : Nat) (u : UH) (x1 : Int32) (x2 : Int32) (h : f_X15_init N (ub G) (ug G) u a0 x1 x2 = some uf) (hz0 : (u0.1 ≤ u.1 ∧ u0.2.1 ≤ u.2.1)) {H : Heap} {locs : List Loc} (hP : uP G u H) (hS : va_S (uA G) s.heap H locs) {ls : Array Slot} (hl : lv_has ls 3 [(0, va_rf (some a0)), (1, .int x1), (2, .int x2)]) : W p l e R s m args below meth c H locs (u.1 - u0.1) (u.2.1 - u0.2.1) (MQ below (uQv G uf) args s (uf.1 - u0.1) (uf.2.1 - u0.2.1) (uA G)) (F0 m 0 ls []) := by
  obtain ⟨⟨hx, hb, hml, hown, hts⟩, hKK⟩ := id hC
  have hzf := zz_X15_init_0 (G := G) (a0 := a0) N u x1 x2 h
  unfold f_X15_init at h
  refine u_aload_n (r := some a0) hx hb dX15_init_0 rfl (lv_at hl 0 rfl) ?_
  refine W.objInit hx hb hown (hts _ q1211) (hts _ q148) (hts _ q149) rfl (by rw [hml]; exact hl.1) rfl dX15_init_1 (Nat.le_trans (Nat.le_of_ble_eq_true rfl) hR.1) (Nat.le_trans (Nat.le_of_ble_eq_true rfl) hR.2) ?_
  refine W.eq (g2 := F0 m 4 ls []) rfl ?_
  refine u_aload_n (r := some a0) hx hb dX15_init_4 rfl (lv_at hl 0 rfl) ?_
  refine lv_bipush (v := 8) hx hb dX15_init_5 (by decide) ?_
  obtain ⟨c2, h⟩ := mif_n h
  obtain ⟨a3, ea3⟩ : ∃ z : Nat, z = u.1 := ⟨_, rfl⟩
  have h := mlet_at ea3 h
  obtain ⟨u1, eu1⟩ : ∃ z : UH, z = uNew u (8 : Int32).toNatClampNeg (.inl (0, (8 : Int32).toNatClampNeg, .inl (fun _ => 0))) := ⟨_, rfl⟩
  have h := mlet_at eu1 h
  have zu1 : u1.1 = u.1 + 1 ∧ u1.2.1 = u.2.1 + (8 : Int32).toNatClampNeg := by rw [eu1]; exact ⟨rfl, rfl⟩
  have hq := zz_X15_init_9 (G := G) (a0 := a0) N u1 x1 x2 (some a3) (some a0) h
  refine u_newa (atype := .int) hC hP hS (t := 0) q188 rfl (N := (8 : Int32).toNatClampNeg) (x := .inl (fun _ => 0)) (fun _ => rfl) c2.1 rfl (by have := c2.2; show _ * 4 ≤ _; omega) (by omega) (by omega) dX15_init_7 (fun H hP hS => ?_)
  rw [← eu1] at hP
  rw [← ea3]
  refine W.cs (cells' := u1.1 - u0.1) (slots' := u1.2.1 - u0.2.1) (by omega) (by omega) ?_
  refine W.cs (cells' := u1.1 - u0.1) (slots' := u1.2.1 - u0.2.1) (by omega) (by omega) ?_
  exact w_X15_init_9 hC hI hR hRm N u1 x1 x2 (some a3) (some a0) h ⟨by omega, by omega⟩ hP hS (lv_sub hl [0, 1, 2] rfl)
theorem zz_X15_init (N b : Nat) (g : uEnv) (u : UH) (a0 : Nat) (x1 : Int32) (x2 : Int32) (uf : UH) (h : f_X15_init N b g u a0 x1 x2 = some uf) : u.1 ≤ uf.1 ∧ u.2.1 ≤ uf.2.1 :=
  zz_X15_init_0 (G := ((fun _ => 0, fun _ _ => 0), fun _ => 0, b, g)) (a0 := a0) N u x1 x2 h
theorem met_X15_init (l : Launch) (N : Nat) (G : uG) (u : UH) (a0 : Nat) (x1 : Int32) (x2 : Int32) (uf : UH) (h : f_X15_init N (ub G) (ug G) u a0 x1 x2 = some uf) : Met l yX15_init (ws_ yX15_init cX15_init 3 none) ({ frames := 1, cells := (uf.1 - u.1), slots := (uf.2.1 - u.2.1), locals := 20 }) (uPc G u [.ref a0, .int x1, .int x2]) (uQv G uf) (uf.1 - u.1) (uf.2.1 - u.2.1) (uA G) := by
  exact u_met (own := RX15) (by decide +kernel) rfl (Nat.le_of_ble_eq_true rfl) (fun hC hn hsz ls hl hP => W.cs (Nat.sub_self _).symm (Nat.sub_self _).symm (w_X15_init_0 hC hn ⟨Nat.le_refl _, Nat.le_refl _⟩ ⟨Nat.le_refl _, Nat.le_refl _⟩ N u x1 x2 h ⟨Nat.le_refl _, Nat.le_refl _⟩ hP va_S.rf hl))
def f_X2_init_43 (N b : Nat) (g : uEnv) (a0 : Nat) (u : UH) (s0 : Option Nat) (s1 : Option Nat) : Option (UH) :=
    (s1).bind fun a1 =>
    (uPut b u a1 1 8 (va_rf s0)).bind fun u2 =>
    some u2
set_option maxHeartbeats 4000000 in
set_option maxRecDepth 100000 in
theorem zz_X2_init_43 {G : uG} {a0 : Nat} {uf : UH} (N : Nat) (u : UH) (s0 : Option Nat) (s1 : Option Nat) (h : f_X2_init_43 N (ub G) (ug G) a0 u s0 s1 = some uf) : u.1 ≤ uf.1 ∧ u.2.1 ≤ uf.2.1 := by
  unfold f_X2_init_43 at h
  obtain ⟨a1, ha1, hha1⟩ := mbind_n h
  subst ha1
  have h := hha1
  obtain ⟨u2, hu2, h⟩ := mbind_n h
  have zu2 := uPut_sz hu2
  cases h
  exact ⟨by omega, by omega⟩
set_option maxHeartbeats 4000000 in
set_option maxRecDepth 100000 in
theorem w_X2_init_43 {p : Program} {l : Launch} {e : Env} {R : Room} {s : State} {m : MethodId} {args : Array Value} {below : List Frame} {meth : Method} {c : Code} {G : uG} {a0 : Nat} {u0 : UH} {uf : UH} (hC : uC p s m args meth c G RX2 cX2_init 1 none) (hI : meth.name = "<init>") (hR : 1 ≤ R.frames ∧ 20 ≤ R.locals) (hRm : uf.1 - u0.1 ≤ R.cells ∧ uf.2.1 - u0.2.1 ≤ R.slots) (N : Nat) (u : UH) (s0 : Option Nat) (s1 : Option Nat) (h : f_X2_init_43 N (ub G) (ug G) a0 u s0 s1 = some uf) (hz0 : (u0.1 ≤ u.1 ∧ u0.2.1 ≤ u.2.1)) {H : Heap} {locs : List Loc} (hP : uP G u H) (hS : va_S (uA G) s.heap H locs) {ls : Array Slot} (hl : lv_has ls 1 []) : W p l e R s m args below meth c H locs (u.1 - u0.1) (u.2.1 - u0.2.1) (MQ below (uQv G uf) args s (uf.1 - u0.1) (uf.2.1 - u0.2.1) (uA G)) (F0 m 43 ls [va_rf s0, va_rf s1]) := by
  obtain ⟨⟨hx, hb, hml, hown, hts⟩, hKK⟩ := id hC
  have hzf := zz_X2_init_43 (G := G) (a0 := a0) N u s0 s1 h
  unfold f_X2_init_43 at h
  obtain ⟨a1, ha1, hha1⟩ := mbind_n h
  subst ha1
  have h := hha1
  obtain ⟨u2, hu2, h⟩ := mbind_n h
  have zu2 := uPut_sz hu2
  refine u_putF hC hI hP hS hu2 rfl in_X2 tyX2 tyX2_ok nmX2 (by decide) q165 (fun _ h => h) rfl rfl (ty := (.array .int)) (tyX2_ok 8 (by decide)) (uNarA _ _).1 (uNarA _ _).2 dX2_init_43 (fun H locs hP hS => ?_)
  refine W.cs (cells' := u2.1 - u0.1) (slots' := u2.2.1 - u0.2.1) (by omega) (by omega) ?_
  cases h
  exact u_vret hC hP hS dX2_init_46
def f_X2_init_34 (N b : Nat) (g : uEnv) (a0 : Nat) (u : UH) (s0 : Option Nat) (s1 : Option Nat) : Option (UH) :=
    (s1).bind fun a1 =>
    (uPut b u a1 1 7 (va_rf s0)).bind fun u2 =>
    if ¬ (3200 : Int32) < 0 ∧ (3200 : Int32).toNatClampNeg ≤ 60000000 then
    mlet (u2.1) fun a5 =>
    mlet (uNew u2 (3200 : Int32).toNatClampNeg (.inl (0, (3200 : Int32).toNatClampNeg, .inl (fun _ => 0)))) fun u3 =>
    f_X2_init_43 N b g a0 u3 (some a5) (some a0)
    else none
set_option maxHeartbeats 4000000 in
set_option maxRecDepth 100000 in
theorem zz_X2_init_34 {G : uG} {a0 : Nat} {uf : UH} (N : Nat) (u : UH) (s0 : Option Nat) (s1 : Option Nat) (h : f_X2_init_34 N (ub G) (ug G) a0 u s0 s1 = some uf) : u.1 ≤ uf.1 ∧ u.2.1 ≤ uf.2.1 := by
  unfold f_X2_init_34 at h
  obtain ⟨a1, ha1, hha1⟩ := mbind_n h
  subst ha1
  have h := hha1
  obtain ⟨u2, hu2, h⟩ := mbind_n h
  have zu2 := uPut_sz hu2
  obtain ⟨c4, h⟩ := mif_n h
  obtain ⟨a5, ea5⟩ : ∃ z : Nat, z = u2.1 := ⟨_, rfl⟩
  have h := mlet_at ea5 h
  obtain ⟨u3, eu3⟩ : ∃ z : UH, z = uNew u2 (3200 : Int32).toNatClampNeg (.inl (0, (3200 : Int32).toNatClampNeg, .inl (fun _ => 0))) := ⟨_, rfl⟩
  have h := mlet_at eu3 h
  have zu3 : u3.1 = u2.1 + 1 ∧ u3.2.1 = u2.2.1 + (3200 : Int32).toNatClampNeg := by rw [eu3]; exact ⟨rfl, rfl⟩
  have hq := zz_X2_init_43 (G := G) (a0 := a0) N u3 (some a5) (some a0) h
  exact ⟨by omega, by omega⟩
set_option maxHeartbeats 4000000 in
set_option maxRecDepth 100000 in
theorem w_X2_init_34 {p : Program} {l : Launch} {e : Env} {R : Room} {s : State} {m : MethodId} {args : Array Value} {below : List Frame} {meth : Method} {c : Code} {G : uG} {a0 : Nat} {u0 : UH} {uf : UH} (hC : uC p s m args meth c G RX2 cX2_init 1 none) (hI : meth.name = "<init>") (hR : 1 ≤ R.frames ∧ 20 ≤ R.locals) (hRm : uf.1 - u0.1 ≤ R.cells ∧ uf.2.1 - u0.2.1 ≤ R.slots) (N : Nat) (u : UH) (s0 : Option Nat) (s1 : Option Nat) (h : f_X2_init_34 N (ub G) (ug G) a0 u s0 s1 = some uf) (hz0 : (u0.1 ≤ u.1 ∧ u0.2.1 ≤ u.2.1)) {H : Heap} {locs : List Loc} (hP : uP G u H) (hS : va_S (uA G) s.heap H locs) {ls : Array Slot} (hl : lv_has ls 1 [(0, va_rf (some a0))]) : W p l e R s m args below meth c H locs (u.1 - u0.1) (u.2.1 - u0.2.1) (MQ below (uQv G uf) args s (uf.1 - u0.1) (uf.2.1 - u0.2.1) (uA G)) (F0 m 34 ls [va_rf s0, va_rf s1]) := by
  obtain ⟨⟨hx, hb, hml, hown, hts⟩, hKK⟩ := id hC
  have hzf := zz_X2_init_34 (G := G) (a0 := a0) N u s0 s1 h
  unfold f_X2_init_34 at h
  obtain ⟨a1, ha1, hha1⟩ := mbind_n h
  subst ha1
  have h := hha1
  obtain ⟨u2, hu2, h⟩ := mbind_n h
  have zu2 := uPut_sz hu2
  refine u_putF hC hI hP hS hu2 rfl in_X2 tyX2 tyX2_ok nmX2 (by decide) q164 (fun _ h => h) rfl rfl (ty := (.array .int)) (tyX2_ok 7 (by decide)) (uNarA _ _).1 (uNarA _ _).2 dX2_init_34 (fun H locs hP hS => ?_)
  refine W.cs (cells' := u2.1 - u0.1) (slots' := u2.2.1 - u0.2.1) (by omega) (by omega) ?_
  refine u_aload_n (r := some a0) hx hb dX2_init_37 rfl (lv_at hl 0 rfl) ?_
  refine lv_sipush (v := 3200) hx hb dX2_init_38 (by decide) ?_
  obtain ⟨c4, h⟩ := mif_n h
  obtain ⟨a5, ea5⟩ : ∃ z : Nat, z = u2.1 := ⟨_, rfl⟩
  have h := mlet_at ea5 h
  obtain ⟨u3, eu3⟩ : ∃ z : UH, z = uNew u2 (3200 : Int32).toNatClampNeg (.inl (0, (3200 : Int32).toNatClampNeg, .inl (fun _ => 0))) := ⟨_, rfl⟩
  have h := mlet_at eu3 h
  have zu3 : u3.1 = u2.1 + 1 ∧ u3.2.1 = u2.2.1 + (3200 : Int32).toNatClampNeg := by rw [eu3]; exact ⟨rfl, rfl⟩
  have hq := zz_X2_init_43 (G := G) (a0 := a0) N u3 (some a5) (some a0) h
  refine u_newa (atype := .int) hC hP hS (t := 0) q188 rfl (N := (3200 : Int32).toNatClampNeg) (x := .inl (fun _ => 0)) (fun _ => rfl) c4.1 rfl (by have := c4.2; show _ * 4 ≤ _; omega) (by omega) (by omega) dX2_init_41 (fun H hP hS => ?_)
  rw [← eu3] at hP
  rw [← ea5]
  refine W.cs (cells' := u3.1 - u0.1) (slots' := u3.2.1 - u0.2.1) (by omega) (by omega) ?_
  refine W.cs (cells' := u3.1 - u0.1) (slots' := u3.2.1 - u0.2.1) (by omega) (by omega) ?_
  exact w_X2_init_43 hC hI hR hRm N u3 (some a5) (some a0) h ⟨by omega, by omega⟩ hP hS (lv_sub hl [] rfl)
def f_X2_init_26 (N b : Nat) (g : uEnv) (a0 : Nat) (u : UH) (s0 : Option Nat) (s1 : Option Nat) : Option (UH) :=
    (s1).bind fun a1 =>
    (uPut b u a1 1 6 (va_rf s0)).bind fun u2 =>
    if ¬ (100 : Int32) < 0 ∧ (100 : Int32).toNatClampNeg ≤ 60000000 then
    mlet (u2.1) fun a5 =>
    mlet (uNew u2 (100 : Int32).toNatClampNeg (.inl (0, (100 : Int32).toNatClampNeg, .inl (fun _ => 0)))) fun u3 =>
    f_X2_init_34 N b g a0 u3 (some a5) (some a0)
    else none
set_option maxHeartbeats 4000000 in
set_option maxRecDepth 100000 in
theorem zz_X2_init_26 {G : uG} {a0 : Nat} {uf : UH} (N : Nat) (u : UH) (s0 : Option Nat) (s1 : Option Nat) (h : f_X2_init_26 N (ub G) (ug G) a0 u s0 s1 = some uf) : u.1 ≤ uf.1 ∧ u.2.1 ≤ uf.2.1 := by
  unfold f_X2_init_26 at h
  obtain ⟨a1, ha1, hha1⟩ := mbind_n h
  subst ha1
  have h := hha1
  obtain ⟨u2, hu2, h⟩ := mbind_n h
  have zu2 := uPut_sz hu2
  obtain ⟨c4, h⟩ := mif_n h
  obtain ⟨a5, ea5⟩ : ∃ z : Nat, z = u2.1 := ⟨_, rfl⟩
  have h := mlet_at ea5 h
  obtain ⟨u3, eu3⟩ : ∃ z : UH, z = uNew u2 (100 : Int32).toNatClampNeg (.inl (0, (100 : Int32).toNatClampNeg, .inl (fun _ => 0))) := ⟨_, rfl⟩
  have h := mlet_at eu3 h
  have zu3 : u3.1 = u2.1 + 1 ∧ u3.2.1 = u2.2.1 + (100 : Int32).toNatClampNeg := by rw [eu3]; exact ⟨rfl, rfl⟩
  have hq := zz_X2_init_34 (G := G) (a0 := a0) N u3 (some a5) (some a0) h
  exact ⟨by omega, by omega⟩
set_option maxHeartbeats 4000000 in
set_option maxRecDepth 100000 in
theorem w_X2_init_26 {p : Program} {l : Launch} {e : Env} {R : Room} {s : State} {m : MethodId} {args : Array Value} {below : List Frame} {meth : Method} {c : Code} {G : uG} {a0 : Nat} {u0 : UH} {uf : UH} (hC : uC p s m args meth c G RX2 cX2_init 1 none) (hI : meth.name = "<init>") (hR : 1 ≤ R.frames ∧ 20 ≤ R.locals) (hRm : uf.1 - u0.1 ≤ R.cells ∧ uf.2.1 - u0.2.1 ≤ R.slots) (N : Nat) (u : UH) (s0 : Option Nat) (s1 : Option Nat) (h : f_X2_init_26 N (ub G) (ug G) a0 u s0 s1 = some uf) (hz0 : (u0.1 ≤ u.1 ∧ u0.2.1 ≤ u.2.1)) {H : Heap} {locs : List Loc} (hP : uP G u H) (hS : va_S (uA G) s.heap H locs) {ls : Array Slot} (hl : lv_has ls 1 [(0, va_rf (some a0))]) : W p l e R s m args below meth c H locs (u.1 - u0.1) (u.2.1 - u0.2.1) (MQ below (uQv G uf) args s (uf.1 - u0.1) (uf.2.1 - u0.2.1) (uA G)) (F0 m 26 ls [va_rf s0, va_rf s1]) := by
  obtain ⟨⟨hx, hb, hml, hown, hts⟩, hKK⟩ := id hC
  have hzf := zz_X2_init_26 (G := G) (a0 := a0) N u s0 s1 h
  unfold f_X2_init_26 at h
  obtain ⟨a1, ha1, hha1⟩ := mbind_n h
  subst ha1
  have h := hha1
  obtain ⟨u2, hu2, h⟩ := mbind_n h
  have zu2 := uPut_sz hu2
  refine u_putF hC hI hP hS hu2 rfl in_X2 tyX2 tyX2_ok nmX2 (by decide) q163 (fun _ h => h) rfl rfl (ty := (.array .boolean)) (tyX2_ok 6 (by decide)) (uNarA _ _).1 (uNarA _ _).2 dX2_init_26 (fun H locs hP hS => ?_)
  refine W.cs (cells' := u2.1 - u0.1) (slots' := u2.2.1 - u0.2.1) (by omega) (by omega) ?_
  refine u_aload_n (r := some a0) hx hb dX2_init_29 rfl (lv_at hl 0 rfl) ?_
  refine lv_bipush (v := 100) hx hb dX2_init_30 (by decide) ?_
  obtain ⟨c4, h⟩ := mif_n h
  obtain ⟨a5, ea5⟩ : ∃ z : Nat, z = u2.1 := ⟨_, rfl⟩
  have h := mlet_at ea5 h
  obtain ⟨u3, eu3⟩ : ∃ z : UH, z = uNew u2 (100 : Int32).toNatClampNeg (.inl (0, (100 : Int32).toNatClampNeg, .inl (fun _ => 0))) := ⟨_, rfl⟩
  have h := mlet_at eu3 h
  have zu3 : u3.1 = u2.1 + 1 ∧ u3.2.1 = u2.2.1 + (100 : Int32).toNatClampNeg := by rw [eu3]; exact ⟨rfl, rfl⟩
  have hq := zz_X2_init_34 (G := G) (a0 := a0) N u3 (some a5) (some a0) h
  refine u_newa (atype := .int) hC hP hS (t := 0) q188 rfl (N := (100 : Int32).toNatClampNeg) (x := .inl (fun _ => 0)) (fun _ => rfl) c4.1 rfl (by have := c4.2; show _ * 4 ≤ _; omega) (by omega) (by omega) dX2_init_32 (fun H hP hS => ?_)
  rw [← eu3] at hP
  rw [← ea5]
  refine W.cs (cells' := u3.1 - u0.1) (slots' := u3.2.1 - u0.2.1) (by omega) (by omega) ?_
  refine W.cs (cells' := u3.1 - u0.1) (slots' := u3.2.1 - u0.2.1) (by omega) (by omega) ?_
  exact w_X2_init_34 hC hI hR hRm N u3 (some a5) (some a0) h ⟨by omega, by omega⟩ hP hS (lv_sub hl [0] rfl)
def f_X2_init_18 (N b : Nat) (g : uEnv) (a0 : Nat) (u : UH) (s0 : Option Nat) (s1 : Option Nat) : Option (UH) :=
    (s1).bind fun a1 =>
    (uPut b u a1 1 5 (va_rf s0)).bind fun u2 =>
    if ¬ (100 : Int32) < 0 ∧ (100 : Int32).toNatClampNeg ≤ 60000000 then
    mlet (u2.1) fun a5 =>
    mlet (uNew u2 (100 : Int32).toNatClampNeg (.inl (2, (100 : Int32).toNatClampNeg, .inl (fun _ => 0)))) fun u3 =>
    f_X2_init_26 N b g a0 u3 (some a5) (some a0)
    else none
set_option maxHeartbeats 4000000 in
set_option maxRecDepth 100000 in
theorem zz_X2_init_18 {G : uG} {a0 : Nat} {uf : UH} (N : Nat) (u : UH) (s0 : Option Nat) (s1 : Option Nat) (h : f_X2_init_18 N (ub G) (ug G) a0 u s0 s1 = some uf) : u.1 ≤ uf.1 ∧ u.2.1 ≤ uf.2.1 := by
  unfold f_X2_init_18 at h
  obtain ⟨a1, ha1, hha1⟩ := mbind_n h
  subst ha1
  have h := hha1
  obtain ⟨u2, hu2, h⟩ := mbind_n h
  have zu2 := uPut_sz hu2
  obtain ⟨c4, h⟩ := mif_n h
  obtain ⟨a5, ea5⟩ : ∃ z : Nat, z = u2.1 := ⟨_, rfl⟩
  have h := mlet_at ea5 h
  obtain ⟨u3, eu3⟩ : ∃ z : UH, z = uNew u2 (100 : Int32).toNatClampNeg (.inl (2, (100 : Int32).toNatClampNeg, .inl (fun _ => 0))) := ⟨_, rfl⟩
  have h := mlet_at eu3 h
  have zu3 : u3.1 = u2.1 + 1 ∧ u3.2.1 = u2.2.1 + (100 : Int32).toNatClampNeg := by rw [eu3]; exact ⟨rfl, rfl⟩
  have hq := zz_X2_init_26 (G := G) (a0 := a0) N u3 (some a5) (some a0) h
  exact ⟨by omega, by omega⟩
set_option maxHeartbeats 4000000 in
set_option maxRecDepth 100000 in
theorem w_X2_init_18 {p : Program} {l : Launch} {e : Env} {R : Room} {s : State} {m : MethodId} {args : Array Value} {below : List Frame} {meth : Method} {c : Code} {G : uG} {a0 : Nat} {u0 : UH} {uf : UH} (hC : uC p s m args meth c G RX2 cX2_init 1 none) (hI : meth.name = "<init>") (hR : 1 ≤ R.frames ∧ 20 ≤ R.locals) (hRm : uf.1 - u0.1 ≤ R.cells ∧ uf.2.1 - u0.2.1 ≤ R.slots) (N : Nat) (u : UH) (s0 : Option Nat) (s1 : Option Nat) (h : f_X2_init_18 N (ub G) (ug G) a0 u s0 s1 = some uf) (hz0 : (u0.1 ≤ u.1 ∧ u0.2.1 ≤ u.2.1)) {H : Heap} {locs : List Loc} (hP : uP G u H) (hS : va_S (uA G) s.heap H locs) {ls : Array Slot} (hl : lv_has ls 1 [(0, va_rf (some a0))]) : W p l e R s m args below meth c H locs (u.1 - u0.1) (u.2.1 - u0.2.1) (MQ below (uQv G uf) args s (uf.1 - u0.1) (uf.2.1 - u0.2.1) (uA G)) (F0 m 18 ls [va_rf s0, va_rf s1]) := by
  obtain ⟨⟨hx, hb, hml, hown, hts⟩, hKK⟩ := id hC
  have hzf := zz_X2_init_18 (G := G) (a0 := a0) N u s0 s1 h
  unfold f_X2_init_18 at h
  obtain ⟨a1, ha1, hha1⟩ := mbind_n h
  subst ha1
  have h := hha1
  obtain ⟨u2, hu2, h⟩ := mbind_n h
  have zu2 := uPut_sz hu2
  refine u_putF hC hI hP hS hu2 rfl in_X2 tyX2 tyX2_ok nmX2 (by decide) q162 (fun _ h => h) rfl rfl (ty := (.array .boolean)) (tyX2_ok 5 (by decide)) (uNarA _ _).1 (uNarA _ _).2 dX2_init_18 (fun H locs hP hS => ?_)
  refine W.cs (cells' := u2.1 - u0.1) (slots' := u2.2.1 - u0.2.1) (by omega) (by omega) ?_
  refine u_aload_n (r := some a0) hx hb dX2_init_21 rfl (lv_at hl 0 rfl) ?_
  refine lv_bipush (v := 100) hx hb dX2_init_22 (by decide) ?_
  obtain ⟨c4, h⟩ := mif_n h
  obtain ⟨a5, ea5⟩ : ∃ z : Nat, z = u2.1 := ⟨_, rfl⟩
  have h := mlet_at ea5 h
  obtain ⟨u3, eu3⟩ : ∃ z : UH, z = uNew u2 (100 : Int32).toNatClampNeg (.inl (2, (100 : Int32).toNatClampNeg, .inl (fun _ => 0))) := ⟨_, rfl⟩
  have h := mlet_at eu3 h
  have zu3 : u3.1 = u2.1 + 1 ∧ u3.2.1 = u2.2.1 + (100 : Int32).toNatClampNeg := by rw [eu3]; exact ⟨rfl, rfl⟩
  have hq := zz_X2_init_26 (G := G) (a0 := a0) N u3 (some a5) (some a0) h
  refine u_newa (atype := .boolean) hC hP hS (t := 2) q187 rfl (N := (100 : Int32).toNatClampNeg) (x := .inl (fun _ => 0)) (fun _ => rfl) c4.1 rfl (by have := c4.2; show _ * 1 ≤ _; omega) (by omega) (by omega) dX2_init_24 (fun H hP hS => ?_)
  rw [← eu3] at hP
  rw [← ea5]
  refine W.cs (cells' := u3.1 - u0.1) (slots' := u3.2.1 - u0.2.1) (by omega) (by omega) ?_
  refine W.cs (cells' := u3.1 - u0.1) (slots' := u3.2.1 - u0.2.1) (by omega) (by omega) ?_
  exact w_X2_init_26 hC hI hR hRm N u3 (some a5) (some a0) h ⟨by omega, by omega⟩ hP hS (lv_sub hl [0] rfl)
def f_X2_init_9 (N b : Nat) (g : uEnv) (a0 : Nat) (u : UH) (s0 : Option Nat) (s1 : Option Nat) : Option (UH) :=
    (s1).bind fun a1 =>
    (uPut b u a1 1 4 (va_rf s0)).bind fun u2 =>
    if ¬ (1024 : Int32) < 0 ∧ (1024 : Int32).toNatClampNeg ≤ 60000000 then
    mlet (u2.1) fun a5 =>
    mlet (uNew u2 (1024 : Int32).toNatClampNeg (.inl (2, (1024 : Int32).toNatClampNeg, .inl (fun _ => 0)))) fun u3 =>
    f_X2_init_18 N b g a0 u3 (some a5) (some a0)
    else none
set_option maxHeartbeats 4000000 in
set_option maxRecDepth 100000 in
theorem zz_X2_init_9 {G : uG} {a0 : Nat} {uf : UH} (N : Nat) (u : UH) (s0 : Option Nat) (s1 : Option Nat) (h : f_X2_init_9 N (ub G) (ug G) a0 u s0 s1 = some uf) : u.1 ≤ uf.1 ∧ u.2.1 ≤ uf.2.1 := by
  unfold f_X2_init_9 at h
  obtain ⟨a1, ha1, hha1⟩ := mbind_n h
  subst ha1
  have h := hha1
  obtain ⟨u2, hu2, h⟩ := mbind_n h
  have zu2 := uPut_sz hu2
  obtain ⟨c4, h⟩ := mif_n h
  obtain ⟨a5, ea5⟩ : ∃ z : Nat, z = u2.1 := ⟨_, rfl⟩
  have h := mlet_at ea5 h
  obtain ⟨u3, eu3⟩ : ∃ z : UH, z = uNew u2 (1024 : Int32).toNatClampNeg (.inl (2, (1024 : Int32).toNatClampNeg, .inl (fun _ => 0))) := ⟨_, rfl⟩
  have h := mlet_at eu3 h
  have zu3 : u3.1 = u2.1 + 1 ∧ u3.2.1 = u2.2.1 + (1024 : Int32).toNatClampNeg := by rw [eu3]; exact ⟨rfl, rfl⟩
  have hq := zz_X2_init_18 (G := G) (a0 := a0) N u3 (some a5) (some a0) h
  exact ⟨by omega, by omega⟩
set_option maxHeartbeats 4000000 in
set_option maxRecDepth 100000 in
theorem w_X2_init_9 {p : Program} {l : Launch} {e : Env} {R : Room} {s : State} {m : MethodId} {args : Array Value} {below : List Frame} {meth : Method} {c : Code} {G : uG} {a0 : Nat} {u0 : UH} {uf : UH} (hC : uC p s m args meth c G RX2 cX2_init 1 none) (hI : meth.name = "<init>") (hR : 1 ≤ R.frames ∧ 20 ≤ R.locals) (hRm : uf.1 - u0.1 ≤ R.cells ∧ uf.2.1 - u0.2.1 ≤ R.slots) (N : Nat) (u : UH) (s0 : Option Nat) (s1 : Option Nat) (h : f_X2_init_9 N (ub G) (ug G) a0 u s0 s1 = some uf) (hz0 : (u0.1 ≤ u.1 ∧ u0.2.1 ≤ u.2.1)) {H : Heap} {locs : List Loc} (hP : uP G u H) (hS : va_S (uA G) s.heap H locs) {ls : Array Slot} (hl : lv_has ls 1 [(0, va_rf (some a0))]) : W p l e R s m args below meth c H locs (u.1 - u0.1) (u.2.1 - u0.2.1) (MQ below (uQv G uf) args s (uf.1 - u0.1) (uf.2.1 - u0.2.1) (uA G)) (F0 m 9 ls [va_rf s0, va_rf s1]) := by
  obtain ⟨⟨hx, hb, hml, hown, hts⟩, hKK⟩ := id hC
  have hzf := zz_X2_init_9 (G := G) (a0 := a0) N u s0 s1 h
  unfold f_X2_init_9 at h
  obtain ⟨a1, ha1, hha1⟩ := mbind_n h
  subst ha1
  have h := hha1
  obtain ⟨u2, hu2, h⟩ := mbind_n h
  have zu2 := uPut_sz hu2
  refine u_putF hC hI hP hS hu2 rfl in_X2 tyX2 tyX2_ok nmX2 (by decide) q161 (fun _ h => h) rfl rfl (ty := (.array .long)) (tyX2_ok 4 (by decide)) (uNarA _ _).1 (uNarA _ _).2 dX2_init_9 (fun H locs hP hS => ?_)
  refine W.cs (cells' := u2.1 - u0.1) (slots' := u2.2.1 - u0.2.1) (by omega) (by omega) ?_
  refine u_aload_n (r := some a0) hx hb dX2_init_12 rfl (lv_at hl 0 rfl) ?_
  refine lv_sipush (v := 1024) hx hb dX2_init_13 (by decide) ?_
  obtain ⟨c4, h⟩ := mif_n h
  obtain ⟨a5, ea5⟩ : ∃ z : Nat, z = u2.1 := ⟨_, rfl⟩
  have h := mlet_at ea5 h
  obtain ⟨u3, eu3⟩ : ∃ z : UH, z = uNew u2 (1024 : Int32).toNatClampNeg (.inl (2, (1024 : Int32).toNatClampNeg, .inl (fun _ => 0))) := ⟨_, rfl⟩
  have h := mlet_at eu3 h
  have zu3 : u3.1 = u2.1 + 1 ∧ u3.2.1 = u2.2.1 + (1024 : Int32).toNatClampNeg := by rw [eu3]; exact ⟨rfl, rfl⟩
  have hq := zz_X2_init_18 (G := G) (a0 := a0) N u3 (some a5) (some a0) h
  refine u_newa (atype := .boolean) hC hP hS (t := 2) q187 rfl (N := (1024 : Int32).toNatClampNeg) (x := .inl (fun _ => 0)) (fun _ => rfl) c4.1 rfl (by have := c4.2; show _ * 1 ≤ _; omega) (by omega) (by omega) dX2_init_16 (fun H hP hS => ?_)
  rw [← eu3] at hP
  rw [← ea5]
  refine W.cs (cells' := u3.1 - u0.1) (slots' := u3.2.1 - u0.2.1) (by omega) (by omega) ?_
  refine W.cs (cells' := u3.1 - u0.1) (slots' := u3.2.1 - u0.2.1) (by omega) (by omega) ?_
  exact w_X2_init_18 hC hI hR hRm N u3 (some a5) (some a0) h ⟨by omega, by omega⟩ hP hS (lv_sub hl [0] rfl)
def f_X2_init (N b : Nat) (g : uEnv) (u : UH) (a0 : Nat) : Option (UH) :=
    if ¬ (102400 : Int32) < 0 ∧ (102400 : Int32).toNatClampNeg ≤ 60000000 then
    mlet (u.1) fun a3 =>
    mlet (uNew u (102400 : Int32).toNatClampNeg (.inl (3, (102400 : Int32).toNatClampNeg, .inr (.inl (fun _ => 0))))) fun u1 =>
    f_X2_init_9 N b g a0 u1 (some a3) (some a0)
    else none
set_option maxHeartbeats 4000000 in
set_option maxRecDepth 100000 in
theorem zz_X2_init_0 {G : uG} {a0 : Nat} {uf : UH} (N : Nat) (u : UH) (h : f_X2_init N (ub G) (ug G) u a0 = some uf) : u.1 ≤ uf.1 ∧ u.2.1 ≤ uf.2.1 := by
  unfold f_X2_init at h
  obtain ⟨c2, h⟩ := mif_n h
  obtain ⟨a3, ea3⟩ : ∃ z : Nat, z = u.1 := ⟨_, rfl⟩
  have h := mlet_at ea3 h
  obtain ⟨u1, eu1⟩ : ∃ z : UH, z = uNew u (102400 : Int32).toNatClampNeg (.inl (3, (102400 : Int32).toNatClampNeg, .inr (.inl (fun _ => 0)))) := ⟨_, rfl⟩
  have h := mlet_at eu1 h
  have zu1 : u1.1 = u.1 + 1 ∧ u1.2.1 = u.2.1 + (102400 : Int32).toNatClampNeg := by rw [eu1]; exact ⟨rfl, rfl⟩
  have hq := zz_X2_init_9 (G := G) (a0 := a0) N u1 (some a3) (some a0) h
  exact ⟨by omega, by omega⟩
set_option maxHeartbeats 4000000 in
set_option maxRecDepth 100000 in
theorem w_X2_init_0 {p : Program} {l : Launch} {e : Env} {R : Room} {s : State} {m : MethodId} {args : Array Value} {below : List Frame} {meth : Method} {c : Code} {G : uG} {a0 : Nat} {u0 : UH} {uf : UH} (hC : uC p s m args meth c G RX2 cX2_init 1 none) (hI : meth.name = "<init>") (hR : 1 ≤ R.frames ∧ 20 ≤ R.locals) (hRm : uf.1 - u0.1 ≤ R.cells ∧ uf.2.1 - u0.2.1 ≤ R.slots) (N : Nat) (u : UH) (h : f_X2_init N (ub G) (ug G) u a0 = some uf) (hz0 : (u0.1 ≤ u.1 ∧ u0.2.1 ≤ u.2.1)) {H : Heap} {locs : List Loc} (hP : uP G u H) (hS : va_S (uA G) s.heap H locs) {ls : Array Slot} (hl : lv_has ls 1 [(0, va_rf (some a0))]) : W p l e R s m args below meth c H locs (u.1 - u0.1) (u.2.1 - u0.2.1) (MQ below (uQv G uf) args s (uf.1 - u0.1) (uf.2.1 - u0.2.1) (uA G)) (F0 m 0 ls []) := by
  obtain ⟨⟨hx, hb, hml, hown, hts⟩, hKK⟩ := id hC
  have hzf := zz_X2_init_0 (G := G) (a0 := a0) N u h
  unfold f_X2_init at h
  refine u_aload_n (r := some a0) hx hb dX2_init_0 rfl (lv_at hl 0 rfl) ?_
  refine W.objInit hx hb hown (hts _ q155) (hts _ q148) (hts _ q149) rfl (by rw [hml]; exact hl.1) rfl dX2_init_1 (Nat.le_trans (Nat.le_of_ble_eq_true rfl) hR.1) (Nat.le_trans (Nat.le_of_ble_eq_true rfl) hR.2) ?_
  refine W.eq (g2 := F0 m 4 ls []) rfl ?_
  refine u_aload_n (r := some a0) hx hb dX2_init_4 rfl (lv_at hl 0 rfl) ?_
  refine lv_ldc hx hb hown (hts _ q156) dX2_init_5 ?_
  obtain ⟨c2, h⟩ := mif_n h
  obtain ⟨a3, ea3⟩ : ∃ z : Nat, z = u.1 := ⟨_, rfl⟩
  have h := mlet_at ea3 h
  obtain ⟨u1, eu1⟩ : ∃ z : UH, z = uNew u (102400 : Int32).toNatClampNeg (.inl (3, (102400 : Int32).toNatClampNeg, .inr (.inl (fun _ => 0)))) := ⟨_, rfl⟩
  have h := mlet_at eu1 h
  have zu1 : u1.1 = u.1 + 1 ∧ u1.2.1 = u.2.1 + (102400 : Int32).toNatClampNeg := by rw [eu1]; exact ⟨rfl, rfl⟩
  have hq := zz_X2_init_9 (G := G) (a0 := a0) N u1 (some a3) (some a0) h
  refine u_newa (atype := .long) hC hP hS (t := 3) q186 rfl (N := (102400 : Int32).toNatClampNeg) (x := .inr (.inl (fun _ => 0))) (fun _ => rfl) c2.1 rfl (by have := c2.2; show _ * 8 ≤ _; omega) (by omega) (by omega) dX2_init_7 (fun H hP hS => ?_)
  rw [← eu1] at hP
  rw [← ea3]
  refine W.cs (cells' := u1.1 - u0.1) (slots' := u1.2.1 - u0.2.1) (by omega) (by omega) ?_
  refine W.cs (cells' := u1.1 - u0.1) (slots' := u1.2.1 - u0.2.1) (by omega) (by omega) ?_
  exact w_X2_init_9 hC hI hR hRm N u1 (some a3) (some a0) h ⟨by omega, by omega⟩ hP hS (lv_sub hl [0] rfl)
theorem zz_X2_init (N b : Nat) (g : uEnv) (u : UH) (a0 : Nat) (uf : UH) (h : f_X2_init N b g u a0 = some uf) : u.1 ≤ uf.1 ∧ u.2.1 ≤ uf.2.1 :=
  zz_X2_init_0 (G := ((fun _ => 0, fun _ _ => 0), fun _ => 0, b, g)) (a0 := a0) N u h
theorem met_X2_init (l : Launch) (N : Nat) (G : uG) (u : UH) (a0 : Nat) (uf : UH) (h : f_X2_init N (ub G) (ug G) u a0 = some uf) : Met l yX2_init (ws_ yX2_init cX2_init 1 none) ({ frames := 1, cells := (uf.1 - u.1), slots := (uf.2.1 - u.2.1), locals := 20 }) (uPc G u [.ref a0]) (uQv G uf) (uf.1 - u.1) (uf.2.1 - u.2.1) (uA G) := by
  exact u_met (own := RX2) (by decide +kernel) rfl (Nat.le_of_ble_eq_true rfl) (fun hC hn hsz ls hl hP => W.cs (Nat.sub_self _).symm (Nat.sub_self _).symm (w_X2_init_0 hC hn ⟨Nat.le_refl _, Nat.le_refl _⟩ ⟨Nat.le_refl _, Nat.le_refl _⟩ N u h ⟨Nat.le_refl _, Nat.le_refl _⟩ hP va_S.rf hl))
def f_X1_init_71 (N b : Nat) (g : uEnv) (a0 : Nat) (u : UH) (s0 : Option Nat) (s1 : Option Nat) : Option (UH) :=
    (s1).bind fun a1 =>
    (uPut b u a1 0 14 (va_rf s0)).bind fun u2 =>
    some u2
set_option maxHeartbeats 4000000 in
set_option maxRecDepth 100000 in
theorem zz_X1_init_71 {G : uG} {a0 : Nat} {uf : UH} (N : Nat) (u : UH) (s0 : Option Nat) (s1 : Option Nat) (h : f_X1_init_71 N (ub G) (ug G) a0 u s0 s1 = some uf) : u.1 ≤ uf.1 ∧ u.2.1 ≤ uf.2.1 := by
  unfold f_X1_init_71 at h
  obtain ⟨a1, ha1, hha1⟩ := mbind_n h
  subst ha1
  have h := hha1
  obtain ⟨u2, hu2, h⟩ := mbind_n h
  have zu2 := uPut_sz hu2
  cases h
  exact ⟨by omega, by omega⟩
set_option maxHeartbeats 4000000 in
set_option maxRecDepth 100000 in
theorem w_X1_init_71 {p : Program} {l : Launch} {e : Env} {R : Room} {s : State} {m : MethodId} {args : Array Value} {below : List Frame} {meth : Method} {c : Code} {G : uG} {a0 : Nat} {u0 : UH} {uf : UH} (hC : uC p s m args meth c G RX1 cX1_init 1 none) (hI : meth.name = "<init>") (hR : 4 ≤ R.frames ∧ 80 ≤ R.locals) (hRm : uf.1 - u0.1 ≤ R.cells ∧ uf.2.1 - u0.2.1 ≤ R.slots) (N : Nat) (u : UH) (s0 : Option Nat) (s1 : Option Nat) (h : f_X1_init_71 N (ub G) (ug G) a0 u s0 s1 = some uf) (hz0 : (u0.1 ≤ u.1 ∧ u0.2.1 ≤ u.2.1)) {H : Heap} {locs : List Loc} (hP : uP G u H) (hS : va_S (uA G) s.heap H locs) {ls : Array Slot} (hl : lv_has ls 1 []) : W p l e R s m args below meth c H locs (u.1 - u0.1) (u.2.1 - u0.2.1) (MQ below (uQv G uf) args s (uf.1 - u0.1) (uf.2.1 - u0.2.1) (uA G)) (F0 m 71 ls [va_rf s0, va_rf s1]) := by
  obtain ⟨⟨hx, hb, hml, hown, hts⟩, hKK⟩ := id hC
  have hzf := zz_X1_init_71 (G := G) (a0 := a0) N u s0 s1 h
  unfold f_X1_init_71 at h
  obtain ⟨a1, ha1, hha1⟩ := mbind_n h
  subst ha1
  have h := hha1
  obtain ⟨u2, hu2, h⟩ := mbind_n h
  have zu2 := uPut_sz hu2
  refine u_putF hC hI hP hS hu2 rfl in_X1 tyX1 tyX1_ok nmX1 (by decide) q229 (fun _ h => h) rfl rfl (ty := (.array .int)) (tyX1_ok 14 (by decide)) (uNarA _ _).1 (uNarA _ _).2 dX1_init_71 (fun H locs hP hS => ?_)
  refine W.cs (cells' := u2.1 - u0.1) (slots' := u2.2.1 - u0.2.1) (by omega) (by omega) ?_
  cases h
  exact u_vret hC hP hS dX1_init_74
def f_X1_init_44 (N b : Nat) (g : uEnv) (a0 : Nat) (u : UH) (s0 : Option Nat) (s1 : Option Nat) : Option (UH) :=
    (s0).bind fun a1 =>
    (f_J2_init N b g u a1).bind fun u2 =>
    (s1).bind fun a4 =>
    (uPut b u2 a4 0 10 (va_rf (some a1))).bind fun u5 =>
    (uPut b u5 a0 0 11 (.int (-1))).bind fun u6 =>
    (uPut b u6 a0 0 12 (.int (-1))).bind fun u7 =>
    (uPut b u7 a0 0 13 (.int (-1))).bind fun u8 =>
    if ¬ (6 : Int32) < 0 ∧ (6 : Int32).toNatClampNeg ≤ 60000000 then
    mlet (u8.1) fun a11 =>
    mlet (uNew u8 (6 : Int32).toNatClampNeg (.inl (0, (6 : Int32).toNatClampNeg, .inl (fun _ => 0)))) fun u9 =>
    f_X1_init_71 N b g a0 u9 (some a11) (some a0)
    else none
set_option maxHeartbeats 4000000 in
set_option maxRecDepth 100000 in
theorem zz_X1_init_44 {G : uG} {a0 : Nat} {uf : UH} (N : Nat) (u : UH) (s0 : Option Nat) (s1 : Option Nat) (h : f_X1_init_44 N (ub G) (ug G) a0 u s0 s1 = some uf) : u.1 ≤ uf.1 ∧ u.2.1 ≤ uf.2.1 := by
  unfold f_X1_init_44 at h
  obtain ⟨a1, ha1, hha1⟩ := mbind_n h
  subst ha1
  have h := hha1
  obtain ⟨u2, c3, h⟩ := mbind_n h
  have zu2 := zz_J2_init N (ub G) (ug G) u a1 u2 c3
  obtain ⟨a4, ha4, hha4⟩ := mbind_n h
  subst ha4
  have h := hha4
  obtain ⟨u5, hu5, h⟩ := mbind_n h
  have zu5 := uPut_sz hu5
  obtain ⟨u6, hu6, h⟩ := mbind_n h
  have zu6 := uPut_sz hu6
  obtain ⟨u7, hu7, h⟩ := mbind_n h
  have zu7 := uPut_sz hu7
  obtain ⟨u8, hu8, h⟩ := mbind_n h
  have zu8 := uPut_sz hu8
  obtain ⟨c10, h⟩ := mif_n h
  obtain ⟨a11, ea11⟩ : ∃ z : Nat, z = u8.1 := ⟨_, rfl⟩
  have h := mlet_at ea11 h
  obtain ⟨u9, eu9⟩ : ∃ z : UH, z = uNew u8 (6 : Int32).toNatClampNeg (.inl (0, (6 : Int32).toNatClampNeg, .inl (fun _ => 0))) := ⟨_, rfl⟩
  have h := mlet_at eu9 h
  have zu9 : u9.1 = u8.1 + 1 ∧ u9.2.1 = u8.2.1 + (6 : Int32).toNatClampNeg := by rw [eu9]; exact ⟨rfl, rfl⟩
  have hq := zz_X1_init_71 (G := G) (a0 := a0) N u9 (some a11) (some a0) h
  exact ⟨by omega, by omega⟩
set_option maxHeartbeats 4000000 in
set_option maxRecDepth 100000 in
theorem w_X1_init_44 {p : Program} {l : Launch} {e : Env} {R : Room} {s : State} {m : MethodId} {args : Array Value} {below : List Frame} {meth : Method} {c : Code} {G : uG} {a0 : Nat} {u0 : UH} {uf : UH} (hC : uC p s m args meth c G RX1 cX1_init 1 none) (hI : meth.name = "<init>") (hR : 4 ≤ R.frames ∧ 80 ≤ R.locals) (hRm : uf.1 - u0.1 ≤ R.cells ∧ uf.2.1 - u0.2.1 ≤ R.slots) (N : Nat) (u : UH) (s0 : Option Nat) (s1 : Option Nat) (h : f_X1_init_44 N (ub G) (ug G) a0 u s0 s1 = some uf) (hz0 : (u0.1 ≤ u.1 ∧ u0.2.1 ≤ u.2.1)) {H : Heap} {locs : List Loc} (hP : uP G u H) (hS : va_S (uA G) s.heap H locs) {ls : Array Slot} (hl : lv_has ls 1 [(0, va_rf (some a0))]) : W p l e R s m args below meth c H locs (u.1 - u0.1) (u.2.1 - u0.2.1) (MQ below (uQv G uf) args s (uf.1 - u0.1) (uf.2.1 - u0.2.1) (uA G)) (F0 m 44 ls [va_rf s0, va_rf s1]) := by
  obtain ⟨⟨hx, hb, hml, hown, hts⟩, hKK⟩ := id hC
  have hzf := zz_X1_init_44 (G := G) (a0 := a0) N u s0 s1 h
  unfold f_X1_init_44 at h
  refine lv_dup hx hb dX1_init_44 (u_cat _) ?_
  obtain ⟨a1, ha1, hha1⟩ := mbind_n h
  subst ha1
  have h := hha1
  obtain ⟨u2, c3, h⟩ := mbind_n h
  have zu2 := zz_J2_init N (ub G) (ug G) u a1 u2 c3
  refine u_callv (va_runI (As := []) (rest := [va_rf (some a1), va_rf s1]) hC.1 (met_J2_init l N G u a1 u2 c3) (cwI 0 hts (lw_meth q193) rfl rfl rfl (hts _ q102) (hts _ q191) (hts _ q192) rfl (by decide +kernel) ⟨Nat.le_trans (Nat.le_of_ble_eq_true rfl) hR.1, Nat.le_trans (Nat.le_of_ble_eq_true rfl) hR.2⟩) ⟨uPc_blind, fun U hU hW => u_pre hC hP hS hU hW⟩ rfl rfl hl.1 rfl (lv_room (by simp only [List.map, u_cat]; exact Nat.le_of_ble_eq_true rfl)) dX1_init_45 ⟨by omega, by omega⟩) hS (fun H locs hP hS => ?_)
  refine W.cs (cells' := u2.1 - u0.1) (slots' := u2.2.1 - u0.2.1) (by omega) (by omega) ?_
  obtain ⟨a4, ha4, hha4⟩ := mbind_n h
  subst ha4
  have h := hha4
  obtain ⟨u5, hu5, h⟩ := mbind_n h
  have zu5 := uPut_sz hu5
  refine u_putF hC hI hP hS hu5 rfl in_X1 tyX1 tyX1_ok nmX1 (by decide) q225 (fun _ h => h) rfl rfl (ty := (.object "java/util/ArrayList")) (tyX1_ok 10 (by decide)) (uNarR _ _).1 (uNarR _ _).2 dX1_init_48 (fun H locs hP hS => ?_)
  refine W.cs (cells' := u5.1 - u0.1) (slots' := u5.2.1 - u0.2.1) (by omega) (by omega) ?_
  refine u_aload_n (r := some a0) hx hb dX1_init_51 rfl (lv_at hl 0 rfl) ?_
  refine lv_iconst (v := (-1)) hx hb dX1_init_52 (by decide) ?_
  obtain ⟨u6, hu6, h⟩ := mbind_n h
  have zu6 := uPut_sz hu6
  refine u_put hC hP hS hu6 rfl in_X1 tyX1 tyX1_ok nmX1 (by decide) q226 (fun _ h => h) rfl (ty := .int) (tyX1_ok 11 (by decide)) rfl rfl dX1_init_53 (fun H locs hP hS => ?_)
  refine W.cs (cells' := u6.1 - u0.1) (slots' := u6.2.1 - u0.2.1) (by omega) (by omega) ?_
  refine u_aload_n (r := some a0) hx hb dX1_init_56 rfl (lv_at hl 0 rfl) ?_
  refine lv_iconst (v := (-1)) hx hb dX1_init_57 (by decide) ?_
  obtain ⟨u7, hu7, h⟩ := mbind_n h
  have zu7 := uPut_sz hu7
  refine u_put hC hP hS hu7 rfl in_X1 tyX1 tyX1_ok nmX1 (by decide) q227 (fun _ h => h) rfl (ty := .int) (tyX1_ok 12 (by decide)) rfl rfl dX1_init_58 (fun H locs hP hS => ?_)
  refine W.cs (cells' := u7.1 - u0.1) (slots' := u7.2.1 - u0.2.1) (by omega) (by omega) ?_
  refine u_aload_n (r := some a0) hx hb dX1_init_61 rfl (lv_at hl 0 rfl) ?_
  refine lv_iconst (v := (-1)) hx hb dX1_init_62 (by decide) ?_
  obtain ⟨u8, hu8, h⟩ := mbind_n h
  have zu8 := uPut_sz hu8
  refine u_put hC hP hS hu8 rfl in_X1 tyX1 tyX1_ok nmX1 (by decide) q228 (fun _ h => h) rfl (ty := .int) (tyX1_ok 13 (by decide)) rfl rfl dX1_init_63 (fun H locs hP hS => ?_)
  refine W.cs (cells' := u8.1 - u0.1) (slots' := u8.2.1 - u0.2.1) (by omega) (by omega) ?_
  refine u_aload_n (r := some a0) hx hb dX1_init_66 rfl (lv_at hl 0 rfl) ?_
  refine lv_bipush (v := 6) hx hb dX1_init_67 (by decide) ?_
  obtain ⟨c10, h⟩ := mif_n h
  obtain ⟨a11, ea11⟩ : ∃ z : Nat, z = u8.1 := ⟨_, rfl⟩
  have h := mlet_at ea11 h
  obtain ⟨u9, eu9⟩ : ∃ z : UH, z = uNew u8 (6 : Int32).toNatClampNeg (.inl (0, (6 : Int32).toNatClampNeg, .inl (fun _ => 0))) := ⟨_, rfl⟩
  have h := mlet_at eu9 h
  have zu9 : u9.1 = u8.1 + 1 ∧ u9.2.1 = u8.2.1 + (6 : Int32).toNatClampNeg := by rw [eu9]; exact ⟨rfl, rfl⟩
  have hq := zz_X1_init_71 (G := G) (a0 := a0) N u9 (some a11) (some a0) h
  refine u_newa (atype := .int) hC hP hS (t := 0) q188 rfl (N := (6 : Int32).toNatClampNeg) (x := .inl (fun _ => 0)) (fun _ => rfl) c10.1 rfl (by have := c10.2; show _ * 4 ≤ _; omega) (by omega) (by omega) dX1_init_69 (fun H hP hS => ?_)
  rw [← eu9] at hP
  rw [← ea11]
  refine W.cs (cells' := u9.1 - u0.1) (slots' := u9.2.1 - u0.2.1) (by omega) (by omega) ?_
  refine W.cs (cells' := u9.1 - u0.1) (slots' := u9.2.1 - u0.2.1) (by omega) (by omega) ?_
  exact w_X1_init_71 hC hI hR hRm N u9 (some a11) (some a0) h ⟨by omega, by omega⟩ hP hS (lv_sub hl [] rfl)
def f_X1_init_33 (N b : Nat) (g : uEnv) (a0 : Nat) (u : UH) (s0 : Option Nat) (s1 : Option Nat) : Option (UH) :=
    (s0).bind fun a1 =>
    (f_J2_init N b g u a1).bind fun u2 =>
    (s1).bind fun a4 =>
    (uPut b u2 a4 0 9 (va_rf (some a1))).bind fun u5 =>
    mlet (u5.1) fun a7 =>
    mlet (uNew u5 3 (.inr (18, uDefs tyJ2 3))) fun u6 =>
    f_X1_init_44 N b g a0 u6 (some a7) (some a0)
set_option maxHeartbeats 4000000 in
set_option maxRecDepth 100000 in
theorem zz_X1_init_33 {G : uG} {a0 : Nat} {uf : UH} (N : Nat) (u : UH) (s0 : Option Nat) (s1 : Option Nat) (h : f_X1_init_33 N (ub G) (ug G) a0 u s0 s1 = some uf) : u.1 ≤ uf.1 ∧ u.2.1 ≤ uf.2.1 := by
  unfold f_X1_init_33 at h
  obtain ⟨a1, ha1, hha1⟩ := mbind_n h
  subst ha1
  have h := hha1
  obtain ⟨u2, c3, h⟩ := mbind_n h
  have zu2 := zz_J2_init N (ub G) (ug G) u a1 u2 c3
  obtain ⟨a4, ha4, hha4⟩ := mbind_n h
  subst ha4
  have h := hha4
  obtain ⟨u5, hu5, h⟩ := mbind_n h
  have zu5 := uPut_sz hu5
  obtain ⟨a7, ea7⟩ : ∃ z : Nat, z = u5.1 := ⟨_, rfl⟩
  have h := mlet_at ea7 h
  obtain ⟨u6, eu6⟩ : ∃ z : UH, z = uNew u5 3 (.inr (18, uDefs tyJ2 3)) := ⟨_, rfl⟩
  have h := mlet_at eu6 h
  have zu6 : u6.1 = u5.1 + 1 ∧ u6.2.1 = u5.2.1 + 3 := by rw [eu6]; exact ⟨rfl, rfl⟩
  have hq := zz_X1_init_44 (G := G) (a0 := a0) N u6 (some a7) (some a0) h
  exact ⟨by omega, by omega⟩
set_option maxHeartbeats 4000000 in
set_option maxRecDepth 100000 in
theorem w_X1_init_33 {p : Program} {l : Launch} {e : Env} {R : Room} {s : State} {m : MethodId} {args : Array Value} {below : List Frame} {meth : Method} {c : Code} {G : uG} {a0 : Nat} {u0 : UH} {uf : UH} (hC : uC p s m args meth c G RX1 cX1_init 1 none) (hI : meth.name = "<init>") (hR : 4 ≤ R.frames ∧ 80 ≤ R.locals) (hRm : uf.1 - u0.1 ≤ R.cells ∧ uf.2.1 - u0.2.1 ≤ R.slots) (N : Nat) (u : UH) (s0 : Option Nat) (s1 : Option Nat) (h : f_X1_init_33 N (ub G) (ug G) a0 u s0 s1 = some uf) (hz0 : (u0.1 ≤ u.1 ∧ u0.2.1 ≤ u.2.1)) {H : Heap} {locs : List Loc} (hP : uP G u H) (hS : va_S (uA G) s.heap H locs) {ls : Array Slot} (hl : lv_has ls 1 [(0, va_rf (some a0))]) : W p l e R s m args below meth c H locs (u.1 - u0.1) (u.2.1 - u0.2.1) (MQ below (uQv G uf) args s (uf.1 - u0.1) (uf.2.1 - u0.2.1) (uA G)) (F0 m 33 ls [va_rf s0, va_rf s1]) := by
  obtain ⟨⟨hx, hb, hml, hown, hts⟩, hKK⟩ := id hC
  have hzf := zz_X1_init_33 (G := G) (a0 := a0) N u s0 s1 h
  unfold f_X1_init_33 at h
  refine lv_dup hx hb dX1_init_33 (u_cat _) ?_
  obtain ⟨a1, ha1, hha1⟩ := mbind_n h
  subst ha1
  have h := hha1
  obtain ⟨u2, c3, h⟩ := mbind_n h
  have zu2 := zz_J2_init N (ub G) (ug G) u a1 u2 c3
  refine u_callv (va_runI (As := []) (rest := [va_rf (some a1), va_rf s1]) hC.1 (met_J2_init l N G u a1 u2 c3) (cwI 0 hts (lw_meth q193) rfl rfl rfl (hts _ q102) (hts _ q191) (hts _ q192) rfl (by decide +kernel) ⟨Nat.le_trans (Nat.le_of_ble_eq_true rfl) hR.1, Nat.le_trans (Nat.le_of_ble_eq_true rfl) hR.2⟩) ⟨uPc_blind, fun U hU hW => u_pre hC hP hS hU hW⟩ rfl rfl hl.1 rfl (lv_room (by simp only [List.map, u_cat]; exact Nat.le_of_ble_eq_true rfl)) dX1_init_34 ⟨by omega, by omega⟩) hS (fun H locs hP hS => ?_)
  refine W.cs (cells' := u2.1 - u0.1) (slots' := u2.2.1 - u0.2.1) (by omega) (by omega) ?_
  obtain ⟨a4, ha4, hha4⟩ := mbind_n h
  subst ha4
  have h := hha4
  obtain ⟨u5, hu5, h⟩ := mbind_n h
  have zu5 := uPut_sz hu5
  refine u_putF hC hI hP hS hu5 rfl in_X1 tyX1 tyX1_ok nmX1 (by decide) q224 (fun _ h => h) rfl rfl (ty := (.object "java/util/ArrayList")) (tyX1_ok 9 (by decide)) (uNarR _ _).1 (uNarR _ _).2 dX1_init_37 (fun H locs hP hS => ?_)
  refine W.cs (cells' := u5.1 - u0.1) (slots' := u5.2.1 - u0.2.1) (by omega) (by omega) ?_
  refine u_aload_n (r := some a0) hx hb dX1_init_40 rfl (lv_at hl 0 rfl) ?_
  obtain ⟨a7, ea7⟩ : ∃ z : Nat, z = u5.1 := ⟨_, rfl⟩
  have h := mlet_at ea7 h
  obtain ⟨u6, eu6⟩ : ∃ z : UH, z = uNew u5 3 (.inr (18, uDefs tyJ2 3)) := ⟨_, rfl⟩
  have h := mlet_at eu6 h
  have zu6 : u6.1 = u5.1 + 1 ∧ u6.2.1 = u5.2.1 + 3 := by rw [eu6]; exact ⟨rfl, rfl⟩
  have hq := zz_X1_init_44 (G := G) (a0 := a0) N u6 (some a7) (some a0) h
  refine u_new hC hP hS (T := TJ2) (N := 3) (ci := 18) rfl in_J2 tyJ2 tyJ2_ok q189 q190 q102 (by omega) (by omega) dX1_init_41 (fun H hP hS => ?_)
  rw [← eu6] at hP
  rw [← ea7]
  refine W.cs (cells' := u6.1 - u0.1) (slots' := u6.2.1 - u0.2.1) (by omega) (by omega) ?_
  refine W.cs (cells' := u6.1 - u0.1) (slots' := u6.2.1 - u0.2.1) (by omega) (by omega) ?_
  exact w_X1_init_44 hC hI hR hRm N u6 (some a7) (some a0) h ⟨by omega, by omega⟩ hP hS (lv_sub hl [0] rfl)
def f_X1_init_26 (N b : Nat) (g : uEnv) (a0 : Nat) (u : UH) (s0 : Option Nat) (s1 : Option Nat) : Option (UH) :=
    (s1).bind fun a1 =>
    (uPut b u a1 0 8 (va_rf s0)).bind fun u2 =>
    mlet (u2.1) fun a4 =>
    mlet (uNew u2 3 (.inr (18, uDefs tyJ2 3))) fun u3 =>
    f_X1_init_33 N b g a0 u3 (some a4) (some a0)
set_option maxHeartbeats 4000000 in
set_option maxRecDepth 100000 in
theorem zz_X1_init_26 {G : uG} {a0 : Nat} {uf : UH} (N : Nat) (u : UH) (s0 : Option Nat) (s1 : Option Nat) (h : f_X1_init_26 N (ub G) (ug G) a0 u s0 s1 = some uf) : u.1 ≤ uf.1 ∧ u.2.1 ≤ uf.2.1 := by
  unfold f_X1_init_26 at h
  obtain ⟨a1, ha1, hha1⟩ := mbind_n h
  subst ha1
  have h := hha1
  obtain ⟨u2, hu2, h⟩ := mbind_n h
  have zu2 := uPut_sz hu2
  obtain ⟨a4, ea4⟩ : ∃ z : Nat, z = u2.1 := ⟨_, rfl⟩
  have h := mlet_at ea4 h
  obtain ⟨u3, eu3⟩ : ∃ z : UH, z = uNew u2 3 (.inr (18, uDefs tyJ2 3)) := ⟨_, rfl⟩
  have h := mlet_at eu3 h
  have zu3 : u3.1 = u2.1 + 1 ∧ u3.2.1 = u2.2.1 + 3 := by rw [eu3]; exact ⟨rfl, rfl⟩
  have hq := zz_X1_init_33 (G := G) (a0 := a0) N u3 (some a4) (some a0) h
  exact ⟨by omega, by omega⟩
set_option maxHeartbeats 4000000 in
set_option maxRecDepth 100000 in
theorem w_X1_init_26 {p : Program} {l : Launch} {e : Env} {R : Room} {s : State} {m : MethodId} {args : Array Value} {below : List Frame} {meth : Method} {c : Code} {G : uG} {a0 : Nat} {u0 : UH} {uf : UH} (hC : uC p s m args meth c G RX1 cX1_init 1 none) (hI : meth.name = "<init>") (hR : 4 ≤ R.frames ∧ 80 ≤ R.locals) (hRm : uf.1 - u0.1 ≤ R.cells ∧ uf.2.1 - u0.2.1 ≤ R.slots) (N : Nat) (u : UH) (s0 : Option Nat) (s1 : Option Nat) (h : f_X1_init_26 N (ub G) (ug G) a0 u s0 s1 = some uf) (hz0 : (u0.1 ≤ u.1 ∧ u0.2.1 ≤ u.2.1)) {H : Heap} {locs : List Loc} (hP : uP G u H) (hS : va_S (uA G) s.heap H locs) {ls : Array Slot} (hl : lv_has ls 1 [(0, va_rf (some a0))]) : W p l e R s m args below meth c H locs (u.1 - u0.1) (u.2.1 - u0.2.1) (MQ below (uQv G uf) args s (uf.1 - u0.1) (uf.2.1 - u0.2.1) (uA G)) (F0 m 26 ls [va_rf s0, va_rf s1]) := by
  obtain ⟨⟨hx, hb, hml, hown, hts⟩, hKK⟩ := id hC
  have hzf := zz_X1_init_26 (G := G) (a0 := a0) N u s0 s1 h
  unfold f_X1_init_26 at h
  obtain ⟨a1, ha1, hha1⟩ := mbind_n h
  subst ha1
  have h := hha1
  obtain ⟨u2, hu2, h⟩ := mbind_n h
  have zu2 := uPut_sz hu2
  refine u_putF hC hI hP hS hu2 rfl in_X1 tyX1 tyX1_ok nmX1 (by decide) q223 (fun _ h => h) rfl rfl (ty := (.object "SoftWheels$Solver")) (tyX1_ok 8 (by decide)) (uNarR _ _).1 (uNarR _ _).2 dX1_init_26 (fun H locs hP hS => ?_)
  refine W.cs (cells' := u2.1 - u0.1) (slots' := u2.2.1 - u0.2.1) (by omega) (by omega) ?_
  refine u_aload_n (r := some a0) hx hb dX1_init_29 rfl (lv_at hl 0 rfl) ?_
  obtain ⟨a4, ea4⟩ : ∃ z : Nat, z = u2.1 := ⟨_, rfl⟩
  have h := mlet_at ea4 h
  obtain ⟨u3, eu3⟩ : ∃ z : UH, z = uNew u2 3 (.inr (18, uDefs tyJ2 3)) := ⟨_, rfl⟩
  have h := mlet_at eu3 h
  have zu3 : u3.1 = u2.1 + 1 ∧ u3.2.1 = u2.2.1 + 3 := by rw [eu3]; exact ⟨rfl, rfl⟩
  have hq := zz_X1_init_33 (G := G) (a0 := a0) N u3 (some a4) (some a0) h
  refine u_new hC hP hS (T := TJ2) (N := 3) (ci := 18) rfl in_J2 tyJ2 tyJ2_ok q189 q190 q102 (by omega) (by omega) dX1_init_30 (fun H hP hS => ?_)
  rw [← eu3] at hP
  rw [← ea4]
  refine W.cs (cells' := u3.1 - u0.1) (slots' := u3.2.1 - u0.2.1) (by omega) (by omega) ?_
  refine W.cs (cells' := u3.1 - u0.1) (slots' := u3.2.1 - u0.2.1) (by omega) (by omega) ?_
  exact w_X1_init_33 hC hI hR hRm N u3 (some a4) (some a0) h ⟨by omega, by omega⟩ hP hS (lv_sub hl [0] rfl)
def f_X1_init_22 (N b : Nat) (g : uEnv) (a0 : Nat) (u : UH) (s0 : Option Nat) (s1 : Option Nat) : Option (UH) :=
    (s0).bind fun a1 =>
    (f_X2_init N b g u a1).bind fun u2 =>
    f_X1_init_26 N b g a0 u2 (some a1) s1
set_option maxHeartbeats 4000000 in
set_option maxRecDepth 100000 in
theorem zz_X1_init_22 {G : uG} {a0 : Nat} {uf : UH} (N : Nat) (u : UH) (s0 : Option Nat) (s1 : Option Nat) (h : f_X1_init_22 N (ub G) (ug G) a0 u s0 s1 = some uf) : u.1 ≤ uf.1 ∧ u.2.1 ≤ uf.2.1 := by
  unfold f_X1_init_22 at h
  obtain ⟨a1, ha1, hha1⟩ := mbind_n h
  subst ha1
  have h := hha1
  obtain ⟨u2, c3, h⟩ := mbind_n h
  have zu2 := zz_X2_init N (ub G) (ug G) u a1 u2 c3
  have hq := zz_X1_init_26 (G := G) (a0 := a0) N u2 (some a1) s1 h
  exact ⟨by omega, by omega⟩
set_option maxHeartbeats 4000000 in
set_option maxRecDepth 100000 in
theorem w_X1_init_22 {p : Program} {l : Launch} {e : Env} {R : Room} {s : State} {m : MethodId} {args : Array Value} {below : List Frame} {meth : Method} {c : Code} {G : uG} {a0 : Nat} {u0 : UH} {uf : UH} (hC : uC p s m args meth c G RX1 cX1_init 1 none) (hI : meth.name = "<init>") (hR : 4 ≤ R.frames ∧ 80 ≤ R.locals) (hRm : uf.1 - u0.1 ≤ R.cells ∧ uf.2.1 - u0.2.1 ≤ R.slots) (N : Nat) (u : UH) (s0 : Option Nat) (s1 : Option Nat) (h : f_X1_init_22 N (ub G) (ug G) a0 u s0 s1 = some uf) (hz0 : (u0.1 ≤ u.1 ∧ u0.2.1 ≤ u.2.1)) {H : Heap} {locs : List Loc} (hP : uP G u H) (hS : va_S (uA G) s.heap H locs) {ls : Array Slot} (hl : lv_has ls 1 [(0, va_rf (some a0))]) : W p l e R s m args below meth c H locs (u.1 - u0.1) (u.2.1 - u0.2.1) (MQ below (uQv G uf) args s (uf.1 - u0.1) (uf.2.1 - u0.2.1) (uA G)) (F0 m 22 ls [va_rf s0, va_rf s1]) := by
  obtain ⟨⟨hx, hb, hml, hown, hts⟩, hKK⟩ := id hC
  have hzf := zz_X1_init_22 (G := G) (a0 := a0) N u s0 s1 h
  unfold f_X1_init_22 at h
  refine lv_dup hx hb dX1_init_22 (u_cat _) ?_
  obtain ⟨a1, ha1, hha1⟩ := mbind_n h
  subst ha1
  have h := hha1
  obtain ⟨u2, c3, h⟩ := mbind_n h
  have zu2 := zz_X2_init N (ub G) (ug G) u a1 u2 c3
  have hq := zz_X1_init_26 (G := G) (a0 := a0) N u2 (some a1) s1 h
  refine u_callv (va_runIN (As := []) (rest := [va_rf (some a1), va_rf s1]) hC.1 (met_X2_init l N G u a1 u2 c3) ⟨va_cnB 0 hts (lw_meth q154) rfl rfl rfl (hC.2.1.2.1 _ q152 rfl) (hts _ q99) (by decide +kernel) ⟨Nat.le_trans (Nat.le_of_ble_eq_true rfl) hR.1, Nat.le_trans (Nat.le_of_ble_eq_true rfl) hR.2⟩, rfl, hts _ q153⟩ ⟨uPc_blind, fun U hU hW => u_pre hC hP hS hU hW⟩ rfl rfl hl.1 rfl (lv_room (by simp only [List.map, u_cat]; exact Nat.le_of_ble_eq_true rfl)) dX1_init_23 ⟨by omega, by omega⟩) hS (fun H locs hP hS => ?_)
  refine W.cs (cells' := u2.1 - u0.1) (slots' := u2.2.1 - u0.2.1) (by omega) (by omega) ?_
  refine W.cs (cells' := u2.1 - u0.1) (slots' := u2.2.1 - u0.2.1) (by omega) (by omega) ?_
  exact w_X1_init_26 hC hI hR hRm N u2 (some a1) s1 h ⟨by omega, by omega⟩ hP hS (lv_sub hl [0] rfl)
def f_X1_init_15 (N b : Nat) (g : uEnv) (a0 : Nat) (u : UH) (s0 : Option Nat) (s1 : Option Nat) : Option (UH) :=
    (s1).bind fun a1 =>
    (uPut b u a1 0 4 (va_rf s0)).bind fun u2 =>
    mlet (u2.1) fun a4 =>
    mlet (uNew u2 9 (.inr (1, uDefs tyX2 9))) fun u3 =>
    f_X1_init_22 N b g a0 u3 (some a4) (some a0)
set_option maxHeartbeats 4000000 in
set_option maxRecDepth 100000 in
theorem zz_X1_init_15 {G : uG} {a0 : Nat} {uf : UH} (N : Nat) (u : UH) (s0 : Option Nat) (s1 : Option Nat) (h : f_X1_init_15 N (ub G) (ug G) a0 u s0 s1 = some uf) : u.1 ≤ uf.1 ∧ u.2.1 ≤ uf.2.1 := by
  unfold f_X1_init_15 at h
  obtain ⟨a1, ha1, hha1⟩ := mbind_n h
  subst ha1
  have h := hha1
  obtain ⟨u2, hu2, h⟩ := mbind_n h
  have zu2 := uPut_sz hu2
  obtain ⟨a4, ea4⟩ : ∃ z : Nat, z = u2.1 := ⟨_, rfl⟩
  have h := mlet_at ea4 h
  obtain ⟨u3, eu3⟩ : ∃ z : UH, z = uNew u2 9 (.inr (1, uDefs tyX2 9)) := ⟨_, rfl⟩
  have h := mlet_at eu3 h
  have zu3 : u3.1 = u2.1 + 1 ∧ u3.2.1 = u2.2.1 + 9 := by rw [eu3]; exact ⟨rfl, rfl⟩
  have hq := zz_X1_init_22 (G := G) (a0 := a0) N u3 (some a4) (some a0) h
  exact ⟨by omega, by omega⟩
set_option maxHeartbeats 4000000 in
set_option maxRecDepth 100000 in
theorem w_X1_init_15 {p : Program} {l : Launch} {e : Env} {R : Room} {s : State} {m : MethodId} {args : Array Value} {below : List Frame} {meth : Method} {c : Code} {G : uG} {a0 : Nat} {u0 : UH} {uf : UH} (hC : uC p s m args meth c G RX1 cX1_init 1 none) (hI : meth.name = "<init>") (hR : 4 ≤ R.frames ∧ 80 ≤ R.locals) (hRm : uf.1 - u0.1 ≤ R.cells ∧ uf.2.1 - u0.2.1 ≤ R.slots) (N : Nat) (u : UH) (s0 : Option Nat) (s1 : Option Nat) (h : f_X1_init_15 N (ub G) (ug G) a0 u s0 s1 = some uf) (hz0 : (u0.1 ≤ u.1 ∧ u0.2.1 ≤ u.2.1)) {H : Heap} {locs : List Loc} (hP : uP G u H) (hS : va_S (uA G) s.heap H locs) {ls : Array Slot} (hl : lv_has ls 1 [(0, va_rf (some a0))]) : W p l e R s m args below meth c H locs (u.1 - u0.1) (u.2.1 - u0.2.1) (MQ below (uQv G uf) args s (uf.1 - u0.1) (uf.2.1 - u0.2.1) (uA G)) (F0 m 15 ls [va_rf s0, va_rf s1]) := by
  obtain ⟨⟨hx, hb, hml, hown, hts⟩, hKK⟩ := id hC
  have hzf := zz_X1_init_15 (G := G) (a0 := a0) N u s0 s1 h
  unfold f_X1_init_15 at h
  obtain ⟨a1, ha1, hha1⟩ := mbind_n h
  subst ha1
  have h := hha1
  obtain ⟨u2, hu2, h⟩ := mbind_n h
  have zu2 := uPut_sz hu2
  refine u_putF hC hI hP hS hu2 rfl in_X1 tyX1 tyX1_ok nmX1 (by decide) q219 (fun _ h => h) rfl rfl (ty := (.array .byte)) (tyX1_ok 4 (by decide)) (uNarA _ _).1 (uNarA _ _).2 dX1_init_15 (fun H locs hP hS => ?_)
  refine W.cs (cells' := u2.1 - u0.1) (slots' := u2.2.1 - u0.2.1) (by omega) (by omega) ?_
  refine u_aload_n (r := some a0) hx hb dX1_init_18 rfl (lv_at hl 0 rfl) ?_
  obtain ⟨a4, ea4⟩ : ∃ z : Nat, z = u2.1 := ⟨_, rfl⟩
  have h := mlet_at ea4 h
  obtain ⟨u3, eu3⟩ : ∃ z : UH, z = uNew u2 9 (.inr (1, uDefs tyX2 9)) := ⟨_, rfl⟩
  have h := mlet_at eu3 h
  have zu3 : u3.1 = u2.1 + 1 ∧ u3.2.1 = u2.2.1 + 9 := by rw [eu3]; exact ⟨rfl, rfl⟩
  have hq := zz_X1_init_22 (G := G) (a0 := a0) N u3 (some a4) (some a0) h
  refine u_new hC hP hS (T := TX2) (N := 9) (ci := 1) rfl in_X2 tyX2 tyX2_ok q150 q151 q99 (by omega) (by omega) dX1_init_19 (fun H hP hS => ?_)
  rw [← eu3] at hP
  rw [← ea4]
  refine W.cs (cells' := u3.1 - u0.1) (slots' := u3.2.1 - u0.2.1) (by omega) (by omega) ?_
  refine W.cs (cells' := u3.1 - u0.1) (slots' := u3.2.1 - u0.2.1) (by omega) (by omega) ?_
  exact w_X1_init_22 hC hI hR hRm N u3 (some a4) (some a0) h ⟨by omega, by omega⟩ hP hS (lv_sub hl [0] rfl)
def f_X1_init (N b : Nat) (g : uEnv) (u : UH) (a0 : Nat) : Option (UH) :=
    (uPut b u a0 0 1 (.int (-1))).bind fun u1 =>
    if ¬ (500 : Int32) < 0 ∧ (500 : Int32).toNatClampNeg ≤ 60000000 then
    mlet (u1.1) fun a4 =>
    mlet (uNew u1 (500 : Int32).toNatClampNeg (.inl (1, (500 : Int32).toNatClampNeg, .inl (fun _ => 0)))) fun u2 =>
    f_X1_init_15 N b g a0 u2 (some a4) (some a0)
    else none
set_option maxHeartbeats 4000000 in
set_option maxRecDepth 100000 in
theorem zz_X1_init_0 {G : uG} {a0 : Nat} {uf : UH} (N : Nat) (u : UH) (h : f_X1_init N (ub G) (ug G) u a0 = some uf) : u.1 ≤ uf.1 ∧ u.2.1 ≤ uf.2.1 := by
  unfold f_X1_init at h
  obtain ⟨u1, hu1, h⟩ := mbind_n h
  have zu1 := uPut_sz hu1
  obtain ⟨c3, h⟩ := mif_n h
  obtain ⟨a4, ea4⟩ : ∃ z : Nat, z = u1.1 := ⟨_, rfl⟩
  have h := mlet_at ea4 h
  obtain ⟨u2, eu2⟩ : ∃ z : UH, z = uNew u1 (500 : Int32).toNatClampNeg (.inl (1, (500 : Int32).toNatClampNeg, .inl (fun _ => 0))) := ⟨_, rfl⟩
  have h := mlet_at eu2 h
  have zu2 : u2.1 = u1.1 + 1 ∧ u2.2.1 = u1.2.1 + (500 : Int32).toNatClampNeg := by rw [eu2]; exact ⟨rfl, rfl⟩
  have hq := zz_X1_init_15 (G := G) (a0 := a0) N u2 (some a4) (some a0) h
  exact ⟨by omega, by omega⟩
set_option maxHeartbeats 4000000 in
set_option maxRecDepth 100000 in
theorem w_X1_init_0 {p : Program} {l : Launch} {e : Env} {R : Room} {s : State} {m : MethodId} {args : Array Value} {below : List Frame} {meth : Method} {c : Code} {G : uG} {a0 : Nat} {u0 : UH} {uf : UH} (hC : uC p s m args meth c G RX1 cX1_init 1 none) (hI : meth.name = "<init>") (hR : 4 ≤ R.frames ∧ 80 ≤ R.locals) (hRm : uf.1 - u0.1 ≤ R.cells ∧ uf.2.1 - u0.2.1 ≤ R.slots) (N : Nat) (u : UH) (h : f_X1_init N (ub G) (ug G) u a0 = some uf) (hz0 : (u0.1 ≤ u.1 ∧ u0.2.1 ≤ u.2.1)) {H : Heap} {locs : List Loc} (hP : uP G u H) (hS : va_S (uA G) s.heap H locs) {ls : Array Slot} (hl : lv_has ls 1 [(0, va_rf (some a0))]) : W p l e R s m args below meth c H locs (u.1 - u0.1) (u.2.1 - u0.2.1) (MQ below (uQv G uf) args s (uf.1 - u0.1) (uf.2.1 - u0.2.1) (uA G)) (F0 m 0 ls []) := by
  obtain ⟨⟨hx, hb, hml, hown, hts⟩, hKK⟩ := id hC
  have hzf := zz_X1_init_0 (G := G) (a0 := a0) N u h
  unfold f_X1_init at h
  refine u_aload_n (r := some a0) hx hb dX1_init_0 rfl (lv_at hl 0 rfl) ?_
  refine W.objInit hx hb hown (hts _ q147) (hts _ q148) (hts _ q149) rfl (by rw [hml]; exact hl.1) rfl dX1_init_1 (Nat.le_trans (Nat.le_of_ble_eq_true rfl) hR.1) (Nat.le_trans (Nat.le_of_ble_eq_true rfl) hR.2) ?_
  refine W.eq (g2 := F0 m 4 ls []) rfl ?_
  refine u_aload_n (r := some a0) hx hb dX1_init_4 rfl (lv_at hl 0 rfl) ?_
  refine lv_iconst (v := (-1)) hx hb dX1_init_5 (by decide) ?_
  obtain ⟨u1, hu1, h⟩ := mbind_n h
  have zu1 := uPut_sz hu1
  refine u_put hC hP hS hu1 rfl in_X1 tyX1 tyX1_ok nmX1 (by decide) q216 (fun _ h => h) rfl (ty := .int) (tyX1_ok 1 (by decide)) rfl rfl dX1_init_6 (fun H locs hP hS => ?_)
  refine W.cs (cells' := u1.1 - u0.1) (slots' := u1.2.1 - u0.2.1) (by omega) (by omega) ?_
  refine u_aload_n (r := some a0) hx hb dX1_init_9 rfl (lv_at hl 0 rfl) ?_
  refine lv_sipush (v := 500) hx hb dX1_init_10 (by decide) ?_
  obtain ⟨c3, h⟩ := mif_n h
  obtain ⟨a4, ea4⟩ : ∃ z : Nat, z = u1.1 := ⟨_, rfl⟩
  have h := mlet_at ea4 h
  obtain ⟨u2, eu2⟩ : ∃ z : UH, z = uNew u1 (500 : Int32).toNatClampNeg (.inl (1, (500 : Int32).toNatClampNeg, .inl (fun _ => 0))) := ⟨_, rfl⟩
  have h := mlet_at eu2 h
  have zu2 : u2.1 = u1.1 + 1 ∧ u2.2.1 = u1.2.1 + (500 : Int32).toNatClampNeg := by rw [eu2]; exact ⟨rfl, rfl⟩
  have hq := zz_X1_init_15 (G := G) (a0 := a0) N u2 (some a4) (some a0) h
  refine u_newa (atype := .byte) hC hP hS (t := 1) q185 rfl (N := (500 : Int32).toNatClampNeg) (x := .inl (fun _ => 0)) (fun _ => rfl) c3.1 rfl (by have := c3.2; show _ * 1 ≤ _; omega) (by omega) (by omega) dX1_init_13 (fun H hP hS => ?_)
  rw [← eu2] at hP
  rw [← ea4]
  refine W.cs (cells' := u2.1 - u0.1) (slots' := u2.2.1 - u0.2.1) (by omega) (by omega) ?_
  refine W.cs (cells' := u2.1 - u0.1) (slots' := u2.2.1 - u0.2.1) (by omega) (by omega) ?_
  exact w_X1_init_15 hC hI hR hRm N u2 (some a4) (some a0) h ⟨by omega, by omega⟩ hP hS (lv_sub hl [0] rfl)
theorem zz_X1_init (N b : Nat) (g : uEnv) (u : UH) (a0 : Nat) (uf : UH) (h : f_X1_init N b g u a0 = some uf) : u.1 ≤ uf.1 ∧ u.2.1 ≤ uf.2.1 :=
  zz_X1_init_0 (G := ((fun _ => 0, fun _ _ => 0), fun _ => 0, b, g)) (a0 := a0) N u h
theorem met_X1_init (l : Launch) (N : Nat) (G : uG) (u : UH) (a0 : Nat) (uf : UH) (h : f_X1_init N (ub G) (ug G) u a0 = some uf) : Met l yX1_init (ws_ yX1_init cX1_init 1 none) ({ frames := 4, cells := (uf.1 - u.1), slots := (uf.2.1 - u.2.1), locals := 80 }) (uPc G u [.ref a0]) (uQv G uf) (uf.1 - u.1) (uf.2.1 - u.2.1) (uA G) := by
  exact u_met (own := RX1) (by decide +kernel) rfl (Nat.le_of_ble_eq_true rfl) (fun hC hn hsz ls hl hP => W.cs (Nat.sub_self _).symm (Nat.sub_self _).symm (w_X1_init_0 hC hn ⟨Nat.le_refl _, Nat.le_refl _⟩ ⟨Nat.le_refl _, Nat.le_refl _⟩ N u h ⟨Nat.le_refl _, Nat.le_refl _⟩ hP va_S.rf hl))

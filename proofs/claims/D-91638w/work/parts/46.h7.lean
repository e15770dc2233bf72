/-! BY gen_heap.py: X1_state X11_init X12_init X13_init X2_look X1_sink X1_step X1_told X1_truths X1_weigh -/
def f_X1_state_12 (N b : Nat) (g : uEnv) (a0 : Nat) : Nat → UH → Int32 → Int32 → Option (Int32 × UH)
  | 0, _, _, _ => none
  | n + 1, u, x1, x2 =>
    if x2 < 0 then
    some (x1, u)
    else
    (uGR u a0 0 14).bind fun o2 =>
    (o2).bind fun a3 =>
    (uLdI u a3 0 x2).bind fun y4 =>
    mlet ((5 * x1) + y4) fun y5 =>
    mlet (x2 + (-1)) fun y6 =>
    f_X1_state_12 N b g a0 n u y5 y6
set_option maxHeartbeats 4000000 in
set_option maxRecDepth 100000 in
theorem zz_X1_state_12 {G : uG} {a0 : Nat} {uf : UH} {r : Int32} (N : Nat) : ∀ (n : Nat) (u : UH) (x1 : Int32) (x2 : Int32), f_X1_state_12 N (ub G) (ug G) a0 n u x1 x2 = some (r, uf) → uf.1 = u.1 ∧ uf.2.1 = u.2.1 := by
  intro n
  induction n with
  | zero =>
    intro u x1 x2 h
    cases h
  | succ n ih =>
    intro u x1 x2 h
    unfold f_X1_state_12 at h
    by_cases c1 : x2 < 0
    · have h := mif_t c1 h
      obtain ⟨hr1, hr2⟩ := uret_n h
      subst hr2
      exact ⟨by omega, by omega⟩
    · have h := mif_f c1 h
      obtain ⟨o2, ho2, h⟩ := mbind_n h
      obtain ⟨a3, ha3, hha3⟩ := mbind_n h
      subst ha3
      have h := hha3
      obtain ⟨y4, hy4, h⟩ := mbind_n h
      obtain ⟨y5, ey5⟩ : ∃ z, z = (5 * x1) + y4 := ⟨_, rfl⟩
      have h := mlet_at ey5 h
      obtain ⟨y6, ey6⟩ : ∃ z : Int32, z = x2 + (-1) := ⟨_, rfl⟩
      have h := mlet_at ey6 h
      have hq := ih u y5 y6 h
      exact ⟨by omega, by omega⟩
set_option maxHeartbeats 4000000 in
set_option maxRecDepth 100000 in
theorem w_X1_state_12 {p : Program} {l : Launch} {e : Env} {R : Room} {s : State} {m : MethodId} {args : Array Value} {below : List Frame} {meth : Method} {c : Code} {G : uG} {a0 : Nat} {uf : UH} {r : Int32} (hC : uC p s m args meth c G RX1 cX1_state 3 (some .int)) (hR : 0 ≤ R.frames ∧ 0 ≤ R.locals) (N : Nat) : ∀ (n : Nat) (u : UH) (x1 : Int32) (x2 : Int32), f_X1_state_12 N (ub G) (ug G) a0 n u x1 x2 = some (r, uf) → ∀ (H : Heap) (locs : List Loc), uP G u H → va_S (uA G) s.heap H locs → ∀ ls : Array Slot, lv_has ls 3 [(0, va_rf (some a0)), (1, .int x1), (2, .int x2)] → W p l e R s m args below meth c H locs 0 0 (MQ below (uQi G r uf) args s 0 0 (uA G)) (F0 m 12 ls []) := by
  obtain ⟨⟨hx, hb, hml, hown, hts⟩, hKK⟩ := id hC
  intro n
  induction n with
  | zero =>
    intro u x1 x2 h
    cases h
  | succ n ih =>
    intro u x1 x2 h H locs hP hS ls hl
    unfold f_X1_state_12 at h
    refine lv_iload_n hx hb dX1_state_12 rfl (lv_at hl 2 rfl) ?_
    refine lv_if_lt (tgt := 33) hx hb dX1_state_13 (by decide) (fun c1 => ?_) (fun c1 => ?_)
    · have h := mif_t c1 h
      refine lv_iload_n hx hb dX1_state_33 rfl (lv_at hl 1 rfl) ?_
      obtain ⟨hr1, hr2⟩ := uret_n h
      subst hr1
      subst hr2
      exact u_iret hC hP hS dX1_state_34
    · have h := mif_f c1 h
      refine lv_iconst (v := 5) hx hb dX1_state_16 (by decide) ?_
      refine lv_iload_n hx hb dX1_state_17 rfl (lv_at hl 1 rfl) ?_
      refine lv_imul hx hb dX1_state_18 ?_
      refine u_aload_n (r := some a0) hx hb dX1_state_19 rfl (lv_at hl 0 rfl) ?_
      obtain ⟨o2, ho2, h⟩ := mbind_n h
      refine u_get hC hP (uGR_n ho2) rfl in_X1 (by decide) q229 (fun _ h => h) dX1_state_20 ?_
      refine lv_iload_n hx hb dX1_state_23 rfl (lv_at hl 2 rfl) ?_
      obtain ⟨a3, ha3, hha3⟩ := mbind_n h
      subst ha3
      have h := hha3
      obtain ⟨y4, hy4, h⟩ := mbind_n h
      refine u_iald hC hP hy4 rfl dX1_state_24 ?_
      refine lv_iadd hx hb dX1_state_25 ?_
      refine lv_topi (fun y5 ey5 => ?_)
      have h := mlet_at ey5 h
      refine lv_istore_n (lv' := [(1, .int y5), (0, va_rf (some a0)), (2, .int x2)]) hx hb dX1_state_26 rfl hl (by decide) rfl (fun ls hl => ?_)
      obtain ⟨y6, ey6⟩ : ∃ z : Int32, z = x2 + (-1) := ⟨_, rfl⟩
      have h := mlet_at ey6 h
      refine lv_iinc (v := y6) (lv' := [(2, .int y6), (1, .int y5), (0, va_rf (some a0))]) hx hb dX1_state_27 hl (k := 2) rfl (by rw [ey6]; rfl) (by decide) rfl (fun ls hl => ?_)
      refine lv_goto (tgt := 12) hx hb dX1_state_30 (by decide) ?_
      exact ih u y5 y6 h _ _ hP hS _ (lv_sub hl [2, 1, 0] rfl)
def f_X1_state (N b : Nat) (g : uEnv) (u : UH) (a0 : Nat) : Option (Int32 × UH) :=
    (uGR u a0 0 2).bind fun o1 =>
    (o1).bind fun a2 =>
    (uGI u a2 3 3).bind fun y3 =>
    mlet (y3 - 1) fun y4 =>
    f_X1_state_12 N b g a0 N u 0 y4
set_option maxHeartbeats 4000000 in
set_option maxRecDepth 100000 in
theorem zz_X1_state_0 {G : uG} {a0 : Nat} {uf : UH} {r : Int32} (N : Nat) (u : UH) (h : f_X1_state N (ub G) (ug G) u a0 = some (r, uf)) : uf.1 = u.1 ∧ uf.2.1 = u.2.1 := by
  unfold f_X1_state at h
  obtain ⟨o1, ho1, h⟩ := mbind_n h
  obtain ⟨a2, ha2, hha2⟩ := mbind_n h
  subst ha2
  have h := hha2
  obtain ⟨y3, hy3, h⟩ := mbind_n h
  obtain ⟨y4, ey4⟩ : ∃ z, z = y3 - 1 := ⟨_, rfl⟩
  have h := mlet_at ey4 h
  have hq := zz_X1_state_12 (G := G) (a0 := a0) N N u 0 y4 h
  exact ⟨by omega, by omega⟩
set_option maxHeartbeats 4000000 in
set_option maxRecDepth 100000 in
theorem w_X1_state_0 {p : Program} {l : Launch} {e : Env} {R : Room} {s : State} {m : MethodId} {args : Array Value} {below : List Frame} {meth : Method} {c : Code} {G : uG} {a0 : Nat} {uf : UH} {r : Int32} (hC : uC p s m args meth c G RX1 cX1_state 3 (some .int)) (hR : 0 ≤ R.frames ∧ 0 ≤ R.locals) (N : Nat) (u : UH) (h : f_X1_state N (ub G) (ug G) u a0 = some (r, uf)) {H : Heap} {locs : List Loc} (hP : uP G u H) (hS : va_S (uA G) s.heap H locs) {ls : Array Slot} (hl : lv_has ls 3 [(0, va_rf (some a0))]) : W p l e R s m args below meth c H locs 0 0 (MQ below (uQi G r uf) args s 0 0 (uA G)) (F0 m 0 ls []) := by
  obtain ⟨⟨hx, hb, hml, hown, hts⟩, hKK⟩ := id hC
  unfold f_X1_state at h
  refine lv_iconst (v := 0) hx hb dX1_state_0 (by decide) ?_
  refine lv_istore_n (lv' := [(1, .int 0), (0, va_rf (some a0))]) hx hb dX1_state_1 rfl hl (by decide) rfl (fun ls hl => ?_)
  refine u_aload_n (r := some a0) hx hb dX1_state_2 rfl (lv_at hl 1 rfl) ?_
  obtain ⟨o1, ho1, h⟩ := mbind_n h
  refine u_get hC hP (uGR_n ho1) rfl in_X1 (by decide) q217 (fun _ h => h) dX1_state_3 ?_
  obtain ⟨a2, ha2, hha2⟩ := mbind_n h
  subst ha2
  have h := hha2
  obtain ⟨y3, hy3, h⟩ := mbind_n h
  refine u_getN hC hP (uGI_n hy3) rfl in_X4 (by decide) q299 (fun _ h => h) dX1_state_6 ?_
  refine lv_iconst (v := 1) hx hb dX1_state_9 (by decide) ?_
  refine lv_isub hx hb dX1_state_10 ?_
  refine lv_topi (fun y4 ey4 => ?_)
  have h := mlet_at ey4 h
  refine lv_istore_n (lv' := [(2, .int y4), (1, .int 0), (0, va_rf (some a0))]) hx hb dX1_state_11 rfl hl (by decide) rfl (fun ls hl => ?_)
  exact w_X1_state_12 hC hR N N u 0 y4 h _ _ hP hS _ (lv_sub hl [2, 1, 0] rfl)
theorem zz_X1_state (N b : Nat) (g : uEnv) (u : UH) (a0 : Nat) (r : Int32) (uf : UH) (h : f_X1_state N b g u a0 = some (r, uf)) : uf.1 = u.1 ∧ uf.2.1 = u.2.1 :=
  zz_X1_state_0 (G := ((fun _ => 0, fun _ _ => 0), fun _ => 0, b, g)) (a0 := a0) N u h
theorem met_X1_state (l : Launch) (N : Nat) (G : uG) (u : UH) (a0 : Nat) (r : Int32) (uf : UH) (h : f_X1_state N (ub G) (ug G) u a0 = some (r, uf)) : Met l yX1_state (ws_ yX1_state cX1_state 3 (some .int)) ({ frames := 0, cells := 0, slots := 0, locals := 0 }) (uPc G u [.ref a0]) (uQi G r uf) 0 0 (uA G) := by
  exact u_met (own := RX1) (by decide +kernel) rfl (Nat.le_of_ble_eq_true rfl) (fun hC hn hsz ls hl hP => w_X1_state_0 hC ⟨Nat.le_refl _, Nat.le_refl _⟩ N u h hP va_S.rf hl)
def f_X11_init (N b : Nat) (g : uEnv) (u : UH) (a0 : Nat) (x1 : Option Nat) (x2 : Option Nat) (x3 : Option Nat) : Option (UH) :=
    (uPut b u a0 9 0 (va_rf x1)).bind fun u1 =>
    (uPut b u1 a0 9 1 (va_rf x2)).bind fun u2 =>
    (uPut b u2 a0 9 2 (va_rf x3)).bind fun u3 =>
    some u3
set_option maxHeartbeats 4000000 in
set_option maxRecDepth 100000 in
theorem zz_X11_init_0 {G : uG} {a0 : Nat} {uf : UH} (N : Nat) (u : UH) (x1 : Option Nat) (x2 : Option Nat) (x3 : Option Nat) (h : f_X11_init N (ub G) (ug G) u a0 x1 x2 x3 = some uf) : uf.1 = u.1 ∧ uf.2.1 = u.2.1 := by
  unfold f_X11_init at h
  obtain ⟨u1, hu1, h⟩ := mbind_n h
  have zu1 := uPut_sz hu1
  obtain ⟨u2, hu2, h⟩ := mbind_n h
  have zu2 := uPut_sz hu2
  obtain ⟨u3, hu3, h⟩ := mbind_n h
  have zu3 := uPut_sz hu3
  cases h
  exact ⟨by omega, by omega⟩
set_option maxHeartbeats 4000000 in
set_option maxRecDepth 100000 in
theorem w_X11_init_0 {p : Program} {l : Launch} {e : Env} {R : Room} {s : State} {m : MethodId} {args : Array Value} {below : List Frame} {meth : Method} {c : Code} {G : uG} {a0 : Nat} {uf : UH} (hC : uC p s m args meth c G RX11 cX11_init 4 none) (hI : meth.name = "<init>") (hR : 1 ≤ R.frames ∧ 20 ≤ R.locals) (N : Nat) (u : UH) (x1 : Option Nat) (x2 : Option Nat) (x3 : Option Nat) (h : f_X11_init N (ub G) (ug G) u a0 x1 x2 x3 = some uf) {H : Heap} {locs : List Loc} (hP : uP G u H) (hS : va_S (uA G) s.heap H locs) {ls : Array Slot} (hl : lv_has ls 4 [(0, va_rf (some a0)), (1, va_rf x1), (2, va_rf x2), (3, va_rf x3)]) : W p l e R s m args below meth c H locs 0 0 (MQ below (uQv G uf) args s 0 0 (uA G)) (F0 m 0 ls []) := by
  obtain ⟨⟨hx, hb, hml, hown, hts⟩, hKK⟩ := id hC
  unfold f_X11_init at h
  refine u_aload_n (r := some a0) hx hb dX11_init_0 rfl (lv_at hl 0 rfl) ?_
  refine W.objInit hx hb hown (hts _ q1544) (hts _ q148) (hts _ q149) rfl (by rw [hml]; exact hl.1) rfl dX11_init_1 (Nat.le_trans (Nat.le_of_ble_eq_true rfl) hR.1) (Nat.le_trans (Nat.le_of_ble_eq_true rfl) hR.2) ?_
  refine W.eq (g2 := F0 m 4 ls []) rfl ?_
  refine u_aload_n (r := some a0) hx hb dX11_init_4 rfl (lv_at hl 0 rfl) ?_
  refine u_aload_n (r := x1) hx hb dX11_init_5 rfl (lv_at hl 1 rfl) ?_
  obtain ⟨u1, hu1, h⟩ := mbind_n h
  have zu1 := uPut_sz hu1
  refine u_putF hC hI hP hS hu1 rfl in_X11 tyX11 tyX11_ok nmX11 (by decide) q1545 (fun _ h => h) rfl rfl (ty := (.object "SoftWheels$Reader")) (tyX11_ok 0 (by decide)) (uNarR _ _).1 (uNarR _ _).2 dX11_init_6 (fun H locs hP hS => ?_)
  refine u_aload_n (r := some a0) hx hb dX11_init_9 rfl (lv_at hl 0 rfl) ?_
  refine u_aload_n (r := x2) hx hb dX11_init_10 rfl (lv_at hl 2 rfl) ?_
  obtain ⟨u2, hu2, h⟩ := mbind_n h
  have zu2 := uPut_sz hu2
  refine u_putF hC hI hP hS hu2 rfl in_X11 tyX11 tyX11_ok nmX11 (by decide) q1546 (fun _ h => h) rfl rfl (ty := (.object "SoftWheels$Book")) (tyX11_ok 1 (by decide)) (uNarR _ _).1 (uNarR _ _).2 dX11_init_11 (fun H locs hP hS => ?_)
  refine u_aload_n (r := some a0) hx hb dX11_init_14 rfl (lv_at hl 0 rfl) ?_
  refine u_aload_n (r := x3) hx hb dX11_init_15 rfl (lv_at hl 3 rfl) ?_
  obtain ⟨u3, hu3, h⟩ := mbind_n h
  have zu3 := uPut_sz hu3
  refine u_putF hC hI hP hS hu3 rfl in_X11 tyX11 tyX11_ok nmX11 (by decide) q1547 (fun _ h => h) rfl rfl (ty := (.object "SoftWheels$Land")) (tyX11_ok 2 (by decide)) (uNarR _ _).1 (uNarR _ _).2 dX11_init_16 (fun H locs hP hS => ?_)
  cases h
  exact u_vret hC hP hS dX11_init_19
theorem zz_X11_init (N b : Nat) (g : uEnv) (u : UH) (a0 : Nat) (x1 : Option Nat) (x2 : Option Nat) (x3 : Option Nat) (uf : UH) (h : f_X11_init N b g u a0 x1 x2 x3 = some uf) : uf.1 = u.1 ∧ uf.2.1 = u.2.1 :=
  zz_X11_init_0 (G := ((fun _ => 0, fun _ _ => 0), fun _ => 0, b, g)) (a0 := a0) N u x1 x2 x3 h
theorem met_X11_init (l : Launch) (N : Nat) (G : uG) (u : UH) (a0 : Nat) (x1 : Option Nat) (x2 : Option Nat) (x3 : Option Nat) (uf : UH) (h : f_X11_init N (ub G) (ug G) u a0 x1 x2 x3 = some uf) : Met l yX11_init (ws_ yX11_init cX11_init 4 none) ({ frames := 1, cells := 0, slots := 0, locals := 20 }) (uPc G u [.ref a0, va_rf x1, va_rf x2, va_rf x3]) (uQv G uf) 0 0 (uA G) := by
  rcases x1 with _ | x1 <;> rcases x2 with _ | x2 <;> rcases x3 with _ | x3 <;> exact u_met (own := RX11) (by decide +kernel) rfl (Nat.le_of_ble_eq_true rfl) (fun hC hn hsz ls hl hP => w_X11_init_0 hC hn ⟨Nat.le_refl _, Nat.le_refl _⟩ N u _ _ _ h hP va_S.rf hl)
def f_X12_init (N b : Nat) (g : uEnv) (u : UH) (a0 : Nat) (x1 : Option Nat) (x2 : Int32) : Option (UH) :=
    (f_J17_init N b g u a0).bind fun u1 =>
    (uPut b u1 a0 10 0 (va_rf x1)).bind fun u3 =>
    (uPut b u3 a0 10 1 (.int x2)).bind fun u4 =>
    some u4
set_option maxHeartbeats 4000000 in
set_option maxRecDepth 100000 in
theorem zz_X12_init_0 {G : uG} {a0 : Nat} {uf : UH} (N : Nat) (u : UH) (x1 : Option Nat) (x2 : Int32) (h : f_X12_init N (ub G) (ug G) u a0 x1 x2 = some uf) : uf.1 = u.1 ∧ uf.2.1 = u.2.1 := by
  unfold f_X12_init at h
  obtain ⟨u1, c2, h⟩ := mbind_n h
  have zu1 := zz_J17_init N (ub G) (ug G) u a0 u1 c2
  obtain ⟨u3, hu3, h⟩ := mbind_n h
  have zu3 := uPut_sz hu3
  obtain ⟨u4, hu4, h⟩ := mbind_n h
  have zu4 := uPut_sz hu4
  cases h
  exact ⟨by omega, by omega⟩
set_option maxHeartbeats 4000000 in
set_option maxRecDepth 100000 in
theorem w_X12_init_0 {p : Program} {l : Launch} {e : Env} {R : Room} {s : State} {m : MethodId} {args : Array Value} {below : List Frame} {meth : Method} {c : Code} {G : uG} {a0 : Nat} {uf : UH} (hC : uC p s m args meth c G RX12 cX12_init 3 none) (hI : meth.name = "<init>") (hR : 2 ≤ R.frames ∧ 40 ≤ R.locals) (N : Nat) (u : UH) (x1 : Option Nat) (x2 : Int32) (h : f_X12_init N (ub G) (ug G) u a0 x1 x2 = some uf) {H : Heap} {locs : List Loc} (hP : uP G u H) (hS : va_S (uA G) s.heap H locs) {ls : Array Slot} (hl : lv_has ls 3 [(0, va_rf (some a0)), (1, va_rf x1), (2, .int x2)]) : W p l e R s m args below meth c H locs 0 0 (MQ below (uQv G uf) args s 0 0 (uA G)) (F0 m 0 ls []) := by
  obtain ⟨⟨hx, hb, hml, hown, hts⟩, hKK⟩ := id hC
  unfold f_X12_init at h
  refine u_aload_n (r := some a0) hx hb dX12_init_0 rfl (lv_at hl 0 rfl) ?_
  obtain ⟨u1, c2, h⟩ := mbind_n h
  have zu1 := zz_J17_init N (ub G) (ug G) u a0 u1 c2
  refine u_callv (va_runI (As := []) (rest := []) hC.1 (met_J17_init l N G u a0 u1 c2) (cwI 0 hts (lw_meth q1032) rfl rfl rfl (hts _ q126) (hts _ q1588) (hts _ q1031) rfl (by decide +kernel) ⟨Nat.le_trans (Nat.le_of_ble_eq_true rfl) hR.1, Nat.le_trans (Nat.le_of_ble_eq_true rfl) hR.2⟩) ⟨uPc_blind, fun U hU hW => u_pre hC hP hS hU hW⟩ rfl rfl hl.1 rfl (lv_room (Nat.le_of_ble_eq_true rfl)) dX12_init_1 ⟨Nat.zero_le _, Nat.zero_le _⟩) hS (fun H locs hP hS => ?_)
  refine u_aload_n (r := some a0) hx hb dX12_init_4 rfl (lv_at hl 0 rfl) ?_
  refine u_aload_n (r := x1) hx hb dX12_init_5 rfl (lv_at hl 1 rfl) ?_
  obtain ⟨u3, hu3, h⟩ := mbind_n h
  have zu3 := uPut_sz hu3
  refine u_putF hC hI hP hS hu3 rfl in_X12 tyX12 tyX12_ok nmX12 (by decide) q1589 (fun _ h => h) rfl rfl (ty := (.object "SoftWheels$Way")) (tyX12_ok 0 (by decide)) (uNarR _ _).1 (uNarR _ _).2 dX12_init_6 (fun H locs hP hS => ?_)
  refine u_aload_n (r := some a0) hx hb dX12_init_9 rfl (lv_at hl 0 rfl) ?_
  refine lv_iload_n hx hb dX12_init_10 rfl (lv_at hl 2 rfl) ?_
  obtain ⟨u4, hu4, h⟩ := mbind_n h
  have zu4 := uPut_sz hu4
  refine u_putF hC hI hP hS hu4 rfl in_X12 tyX12 tyX12_ok nmX12 (by decide) q1590 (fun _ h => h) rfl rfl (ty := .int) (tyX12_ok 1 (by decide)) rfl rfl dX12_init_11 (fun H locs hP hS => ?_)
  cases h
  exact u_vret hC hP hS dX12_init_14
theorem zz_X12_init (N b : Nat) (g : uEnv) (u : UH) (a0 : Nat) (x1 : Option Nat) (x2 : Int32) (uf : UH) (h : f_X12_init N b g u a0 x1 x2 = some uf) : uf.1 = u.1 ∧ uf.2.1 = u.2.1 :=
  zz_X12_init_0 (G := ((fun _ => 0, fun _ _ => 0), fun _ => 0, b, g)) (a0 := a0) N u x1 x2 h
theorem met_X12_init (l : Launch) (N : Nat) (G : uG) (u : UH) (a0 : Nat) (x1 : Option Nat) (x2 : Int32) (uf : UH) (h : f_X12_init N (ub G) (ug G) u a0 x1 x2 = some uf) : Met l yX12_init (ws_ yX12_init cX12_init 3 none) ({ frames := 2, cells := 0, slots := 0, locals := 40 }) (uPc G u [.ref a0, va_rf x1, .int x2]) (uQv G uf) 0 0 (uA G) := by
  rcases x1 with _ | x1 <;> exact u_met (own := RX12) (by decide +kernel) rfl (Nat.le_of_ble_eq_true rfl) (fun hC hn hsz ls hl hP => w_X12_init_0 hC hn ⟨Nat.le_refl _, Nat.le_refl _⟩ N u _ x2 h hP va_S.rf hl)
def f_X13_init (N b : Nat) (g : uEnv) (u : UH) (a0 : Nat) (x1 : Int32) (x2 : Int32) (x3 : Option Nat) (x4 : Option Nat) : Option (UH) :=
    (f_J17_init N b g u a0).bind fun u1 =>
    (uPut b u1 a0 11 0 (.int x1)).bind fun u3 =>
    (uPut b u3 a0 11 1 (.int x2)).bind fun u4 =>
    (uPut b u4 a0 11 2 (va_rf x3)).bind fun u5 =>
    (uPut b u5 a0 11 3 (va_rf x4)).bind fun u6 =>
    some u6
set_option maxHeartbeats 4000000 in
set_option maxRecDepth 100000 in
theorem zz_X13_init_0 {G : uG} {a0 : Nat} {uf : UH} (N : Nat) (u : UH) (x1 : Int32) (x2 : Int32) (x3 : Option Nat) (x4 : Option Nat) (h : f_X13_init N (ub G) (ug G) u a0 x1 x2 x3 x4 = some uf) : uf.1 = u.1 ∧ uf.2.1 = u.2.1 := by
  unfold f_X13_init at h
  obtain ⟨u1, c2, h⟩ := mbind_n h
  have zu1 := zz_J17_init N (ub G) (ug G) u a0 u1 c2
  obtain ⟨u3, hu3, h⟩ := mbind_n h
  have zu3 := uPut_sz hu3
  obtain ⟨u4, hu4, h⟩ := mbind_n h
  have zu4 := uPut_sz hu4
  obtain ⟨u5, hu5, h⟩ := mbind_n h
  have zu5 := uPut_sz hu5
  obtain ⟨u6, hu6, h⟩ := mbind_n h
  have zu6 := uPut_sz hu6
  cases h
  exact ⟨by omega, by omega⟩
set_option maxHeartbeats 4000000 in
set_option maxRecDepth 100000 in
theorem w_X13_init_0 {p : Program} {l : Launch} {e : Env} {R : Room} {s : State} {m : MethodId} {args : Array Value} {below : List Frame} {meth : Method} {c : Code} {G : uG} {a0 : Nat} {uf : UH} (hC : uC p s m args meth c G RX13 cX13_init 5 none) (hI : meth.name = "<init>") (hR : 2 ≤ R.frames ∧ 40 ≤ R.locals) (N : Nat) (u : UH) (x1 : Int32) (x2 : Int32) (x3 : Option Nat) (x4 : Option Nat) (h : f_X13_init N (ub G) (ug G) u a0 x1 x2 x3 x4 = some uf) {H : Heap} {locs : List Loc} (hP : uP G u H) (hS : va_S (uA G) s.heap H locs) {ls : Array Slot} (hl : lv_has ls 5 [(0, va_rf (some a0)), (1, .int x1), (2, .int x2), (3, va_rf x3), (4, va_rf x4)]) : W p l e R s m args below meth c H locs 0 0 (MQ below (uQv G uf) args s 0 0 (uA G)) (F0 m 0 ls []) := by
  obtain ⟨⟨hx, hb, hml, hown, hts⟩, hKK⟩ := id hC
  unfold f_X13_init at h
  refine u_aload_n (r := some a0) hx hb dX13_init_0 rfl (lv_at hl 0 rfl) ?_
  obtain ⟨u1, c2, h⟩ := mbind_n h
  have zu1 := zz_J17_init N (ub G) (ug G) u a0 u1 c2
  refine u_callv (va_runI (As := []) (rest := []) hC.1 (met_J17_init l N G u a0 u1 c2) (cwI 0 hts (lw_meth q1032) rfl rfl rfl (hts _ q126) (hts _ q1614) (hts _ q1031) rfl (by decide +kernel) ⟨Nat.le_trans (Nat.le_of_ble_eq_true rfl) hR.1, Nat.le_trans (Nat.le_of_ble_eq_true rfl) hR.2⟩) ⟨uPc_blind, fun U hU hW => u_pre hC hP hS hU hW⟩ rfl rfl hl.1 rfl (lv_room (Nat.le_of_ble_eq_true rfl)) dX13_init_1 ⟨Nat.zero_le _, Nat.zero_le _⟩) hS (fun H locs hP hS => ?_)
  refine u_aload_n (r := some a0) hx hb dX13_init_4 rfl (lv_at hl 0 rfl) ?_
  refine lv_iload_n hx hb dX13_init_5 rfl (lv_at hl 1 rfl) ?_
  obtain ⟨u3, hu3, h⟩ := mbind_n h
  have zu3 := uPut_sz hu3
  refine u_putF hC hI hP hS hu3 rfl in_X13 tyX13 tyX13_ok nmX13 (by decide) q1615 (fun _ h => h) rfl rfl (ty := .int) (tyX13_ok 0 (by decide)) rfl rfl dX13_init_6 (fun H locs hP hS => ?_)
  refine u_aload_n (r := some a0) hx hb dX13_init_9 rfl (lv_at hl 0 rfl) ?_
  refine lv_iload_n hx hb dX13_init_10 rfl (lv_at hl 2 rfl) ?_
  obtain ⟨u4, hu4, h⟩ := mbind_n h
  have zu4 := uPut_sz hu4
  refine u_putF hC hI hP hS hu4 rfl in_X13 tyX13 tyX13_ok nmX13 (by decide) q1616 (fun _ h => h) rfl rfl (ty := .int) (tyX13_ok 1 (by decide)) rfl rfl dX13_init_11 (fun H locs hP hS => ?_)
  refine u_aload_n (r := some a0) hx hb dX13_init_14 rfl (lv_at hl 0 rfl) ?_
  refine u_aload_n (r := x3) hx hb dX13_init_15 rfl (lv_at hl 3 rfl) ?_
  obtain ⟨u5, hu5, h⟩ := mbind_n h
  have zu5 := uPut_sz hu5
  refine u_putF hC hI hP hS hu5 rfl in_X13 tyX13 tyX13_ok nmX13 (by decide) q1617 (fun _ h => h) rfl rfl (ty := (.object "java/util/List")) (tyX13_ok 2 (by decide)) (uNarR _ _).1 (uNarR _ _).2 dX13_init_16 (fun H locs hP hS => ?_)
  refine u_aload_n (r := some a0) hx hb dX13_init_19 rfl (lv_at hl 0 rfl) ?_
  refine u_aload (r := x4) hx hb dX13_init_20 (lv_at hl 4 rfl) ?_
  obtain ⟨u6, hu6, h⟩ := mbind_n h
  have zu6 := uPut_sz hu6
  refine u_putF hC hI hP hS hu6 rfl in_X13 tyX13 tyX13_ok nmX13 (by decide) q1618 (fun _ h => h) rfl rfl (ty := (.object "java/util/List")) (tyX13_ok 3 (by decide)) (uNarR _ _).1 (uNarR _ _).2 dX13_init_22 (fun H locs hP hS => ?_)
  cases h
  exact u_vret hC hP hS dX13_init_25
theorem zz_X13_init (N b : Nat) (g : uEnv) (u : UH) (a0 : Nat) (x1 : Int32) (x2 : Int32) (x3 : Option Nat) (x4 : Option Nat) (uf : UH) (h : f_X13_init N b g u a0 x1 x2 x3 x4 = some uf) : uf.1 = u.1 ∧ uf.2.1 = u.2.1 :=
  zz_X13_init_0 (G := ((fun _ => 0, fun _ _ => 0), fun _ => 0, b, g)) (a0 := a0) N u x1 x2 x3 x4 h
theorem met_X13_init (l : Launch) (N : Nat) (G : uG) (u : UH) (a0 : Nat) (x1 : Int32) (x2 : Int32) (x3 : Option Nat) (x4 : Option Nat) (uf : UH) (h : f_X13_init N (ub G) (ug G) u a0 x1 x2 x3 x4 = some uf) : Met l yX13_init (ws_ yX13_init cX13_init 5 none) ({ frames := 2, cells := 0, slots := 0, locals := 40 }) (uPc G u [.ref a0, .int x1, .int x2, va_rf x3, va_rf x4]) (uQv G uf) 0 0 (uA G) := by
  rcases x3 with _ | x3 <;> rcases x4 with _ | x4 <;> exact u_met (own := RX13) (by decide +kernel) rfl (Nat.le_of_ble_eq_true rfl) (fun hC hn hsz ls hl hP => w_X13_init_0 hC hn ⟨Nat.le_refl _, Nat.le_refl _⟩ N u x1 x2 _ _ h hP va_S.rf hl)
def f_X2_look_17 (N b : Nat) (g : uEnv) (a0 : Nat) : Nat → UH → Option Nat → Int32 → Int32 → Option (Int32 × UH)
  | 0, _, _, _, _ => none
  | n + 1, u, x3, x4, x5 =>
    if x5 = 0 then
    some (x4, u)
    else
    ucall (f_J19_numberOfTrailingZeros N b g u x5) fun r4 u2 =>
    (x3).bind fun a5 =>
    (uLdI u2 a5 0 r4).bind fun y6 =>
    if uIs u2 a0 1 = true then
    ucall (f_X2_knows N b g u2 a0 x4 r4 y6) fun r10 u8 =>
    mlet (x5 &&& (x5 - 1)) fun y11 =>
    f_X2_look_17 N b g a0 n u8 (some a5) r10 y11
    else none
set_option maxHeartbeats 4000000 in
set_option maxRecDepth 100000 in
theorem zz_X2_look_17 {G : uG} {a0 : Nat} {uf : UH} {r : Int32} (N : Nat) : ∀ (n : Nat) (u : UH) (x3 : Option Nat) (x4 : Int32) (x5 : Int32), f_X2_look_17 N (ub G) (ug G) a0 n u x3 x4 x5 = some (r, uf) → uf.1 = u.1 ∧ uf.2.1 = u.2.1 := by
  intro n
  induction n with
  | zero =>
    intro u x3 x4 x5 h
    cases h
  | succ n ih =>
    intro u x3 x4 x5 h
    unfold f_X2_look_17 at h
    by_cases c1 : x5 = 0
    · have h := mif_t c1 h
      obtain ⟨hr1, hr2⟩ := uret_n h
      subst hr2
      exact ⟨by omega, by omega⟩
    · have h := mif_f c1 h
      obtain ⟨r4, u2, c3, h⟩ := ucall_n h
      have zu2 := zz_J19_numberOfTrailingZeros N (ub G) (ug G) u x5 r4 u2 c3
      obtain ⟨a5, ha5, hha5⟩ := mbind_n h
      subst ha5
      have h := hha5
      obtain ⟨y6, hy6, h⟩ := mbind_n h
      obtain ⟨c7, h⟩ := mif_n h
      obtain ⟨r10, u8, c9, h⟩ := ucall_n h
      have zu8 := zz_X2_knows N (ub G) (ug G) u2 a0 x4 r4 y6 r10 u8 c9
      obtain ⟨y11, ey11⟩ : ∃ z, z = x5 &&& (x5 - 1) := ⟨_, rfl⟩
      have h := mlet_at ey11 h
      have hq := ih u8 (some a5) r10 y11 h
      exact ⟨by omega, by omega⟩
set_option maxHeartbeats 4000000 in
set_option maxRecDepth 100000 in
theorem w_X2_look_17 {p : Program} {l : Launch} {e : Env} {R : Room} {s : State} {m : MethodId} {args : Array Value} {below : List Frame} {meth : Method} {c : Code} {G : uG} {a0 : Nat} {uf : UH} {r : Int32} (hC : uC p s m args meth c G RX2 cX2_look 7 (some .int)) (hR : 4 ≤ R.frames ∧ 89 ≤ R.locals) (N : Nat) : ∀ (n : Nat) (u : UH) (x3 : Option Nat) (x4 : Int32) (x5 : Int32), f_X2_look_17 N (ub G) (ug G) a0 n u x3 x4 x5 = some (r, uf) → ∀ (H : Heap) (locs : List Loc), uP G u H → va_S (uA G) s.heap H locs → ∀ ls : Array Slot, lv_has ls 7 [(0, va_rf (some a0)), (3, va_rf x3), (4, .int x4), (5, .int x5)] → W p l e R s m args below meth c H locs 0 0 (MQ below (uQi G r uf) args s 0 0 (uA G)) (F0 m 17 ls []) := by
  obtain ⟨⟨hx, hb, hml, hown, hts⟩, hKK⟩ := id hC
  intro n
  induction n with
  | zero =>
    intro u x3 x4 x5 h
    cases h
  | succ n ih =>
    intro u x3 x4 x5 h H locs hP hS ls hl
    unfold f_X2_look_17 at h
    refine lv_iload hx hb dX2_look_17 (lv_at hl 3 rfl) ?_
    refine lv_if_eq (tgt := 55) hx hb dX2_look_19 (by decide) (fun c1 => ?_) (fun c1 => ?_)
    · have h := mif_t c1 h
      refine lv_iload hx hb dX2_look_55 (lv_at hl 2 rfl) ?_
      obtain ⟨hr1, hr2⟩ := uret_n h
      subst hr1
      subst hr2
      exact u_iret hC hP hS dX2_look_57
    · have h := mif_f c1 h
      refine lv_iload hx hb dX2_look_22 (lv_at hl 3 rfl) ?_
      obtain ⟨r4, u2, c3, h⟩ := ucall_n h
      have zu2 := zz_J19_numberOfTrailingZeros N (ub G) (ug G) u x5 r4 u2 c3
      refine u_calli (va_runS (As := [.int x5]) (rest := []) hC.1 (met_J19_numberOfTrailingZeros l N G u x5 r4 u2 c3) (va_cwS 1 hts (lw_S q1364 q1365 q136 q1366) rfl rfl rfl (by decide +kernel) ⟨Nat.le_trans (Nat.le_of_ble_eq_true rfl) hR.1, Nat.le_trans (Nat.le_of_ble_eq_true rfl) hR.2⟩) ⟨uPc_blind, fun U hU hW => u_pre hC hP hS hU hW⟩ rfl rfl hl.1 rfl (lv_room (Nat.le_of_ble_eq_true rfl)) dX2_look_24 ⟨Nat.zero_le _, Nat.zero_le _⟩) hS (fun H locs hP hS => ?_)
      refine lv_istore (lv' := [(6, .int r4), (0, va_rf (some a0)), (3, va_rf x3), (4, .int x4), (5, .int x5)]) hx hb dX2_look_27 hl (by decide) rfl (fun ls hl => ?_)
      refine u_aload_n (r := some a0) hx hb dX2_look_29 rfl (lv_at hl 1 rfl) ?_
      refine lv_iload hx hb dX2_look_30 (lv_at hl 3 rfl) ?_
      refine lv_iload hx hb dX2_look_32 (lv_at hl 0 rfl) ?_
      refine u_aload_n (r := x3) hx hb dX2_look_34 rfl (lv_at hl 2 rfl) ?_
      refine lv_iload hx hb dX2_look_35 (lv_at hl 0 rfl) ?_
      obtain ⟨a5, ha5, hha5⟩ := mbind_n h
      subst ha5
      have h := hha5
      obtain ⟨y6, hy6, h⟩ := mbind_n h
      refine u_iald hC hP hy6 rfl dX2_look_37 ?_
      obtain ⟨c7, h⟩ := mif_n h
      obtain ⟨r10, u8, c9, h⟩ := ucall_n h
      have zu8 := zz_X2_knows N (ub G) (ug G) u2 a0 x4 r4 y6 r10 u8 c9
      refine u_calli (va_runV (As := [.int x4, .int r4, .int y6]) (rest := []) hC.1 (met_X2_knows l N G u2 a0 x4 r4 y6 r10 u8 c9) (cwV 3 hts (lw_V q1336 q1337 q1338 q99 q1339) rfl rfl rfl (by decide +kernel) ⟨Nat.le_trans (Nat.le_of_ble_eq_true rfl) hR.1, Nat.le_trans (Nat.le_of_ble_eq_true rfl) hR.2⟩) ⟨uPc_blind, u_rcv hC hP c7 rfl, fun U hU hW => u_pre hC hP hS hU hW⟩ rfl rfl hl.1 rfl (lv_room (Nat.le_of_ble_eq_true rfl)) dX2_look_38 ⟨Nat.zero_le _, Nat.zero_le _⟩) hS (fun H locs hP hS => ?_)
      refine lv_istore (lv' := [(4, .int r10), (6, .int r4), (0, va_rf (some a0)), (3, va_rf (some a5)), (5, .int x5)]) hx hb dX2_look_41 hl (by decide) rfl (fun ls hl => ?_)
      refine lv_iload hx hb dX2_look_43 (lv_at hl 4 rfl) ?_
      refine lv_iload hx hb dX2_look_45 (lv_at hl 4 rfl) ?_
      refine lv_iconst (v := 1) hx hb dX2_look_47 (by decide) ?_
      refine lv_isub hx hb dX2_look_48 ?_
      refine lv_iand hx hb dX2_look_49 ?_
      refine lv_topi (fun y11 ey11 => ?_)
      have h := mlet_at ey11 h
      refine lv_istore (lv' := [(5, .int y11), (4, .int r10), (6, .int r4), (0, va_rf (some a0)), (3, va_rf (some a5))]) hx hb dX2_look_50 hl (by decide) rfl (fun ls hl => ?_)
      refine lv_goto (tgt := 17) hx hb dX2_look_52 (by decide) ?_
      exact ih u8 (some a5) r10 y11 h _ _ hP hS _ (lv_sub hl [3, 4, 1, 0] rfl)
def f_X2_look (N b : Nat) (g : uEnv) (u : UH) (a0 : Nat) (x1 : Int32) (x2 : Int32) (x3 : Option Nat) : Option (Int32 × UH) :=
    (uGR u a0 1 7).bind fun o1 =>
    (o1).bind fun a2 =>
    (uLdI u a2 0 x1).bind fun y3 =>
    if uIs u a0 1 = true then
    ucall (f_X2_unknown N b g u a0 x2) fun r7 u5 =>
    mlet (y3 &&& r7) fun y8 =>
    f_X2_look_17 N b g a0 N u5 x3 x2 y8
    else none
set_option maxHeartbeats 4000000 in
set_option maxRecDepth 100000 in
theorem zz_X2_look_0 {G : uG} {a0 : Nat} {uf : UH} {r : Int32} (N : Nat) (u : UH) (x1 : Int32) (x2 : Int32) (x3 : Option Nat) (h : f_X2_look N (ub G) (ug G) u a0 x1 x2 x3 = some (r, uf)) : uf.1 = u.1 ∧ uf.2.1 = u.2.1 := by
  unfold f_X2_look at h
  obtain ⟨o1, ho1, h⟩ := mbind_n h
  obtain ⟨a2, ha2, hha2⟩ := mbind_n h
  subst ha2
  have h := hha2
  obtain ⟨y3, hy3, h⟩ := mbind_n h
  obtain ⟨c4, h⟩ := mif_n h
  obtain ⟨r7, u5, c6, h⟩ := ucall_n h
  have zu5 := zz_X2_unknown N (ub G) (ug G) u a0 x2 r7 u5 c6
  obtain ⟨y8, ey8⟩ : ∃ z, z = y3 &&& r7 := ⟨_, rfl⟩
  have h := mlet_at ey8 h
  have hq := zz_X2_look_17 (G := G) (a0 := a0) N N u5 x3 x2 y8 h
  exact ⟨by omega, by omega⟩
set_option maxHeartbeats 4000000 in
set_option maxRecDepth 100000 in
theorem w_X2_look_0 {p : Program} {l : Launch} {e : Env} {R : Room} {s : State} {m : MethodId} {args : Array Value} {below : List Frame} {meth : Method} {c : Code} {G : uG} {a0 : Nat} {uf : UH} {r : Int32} (hC : uC p s m args meth c G RX2 cX2_look 7 (some .int)) (hR : 4 ≤ R.frames ∧ 89 ≤ R.locals) (N : Nat) (u : UH) (x1 : Int32) (x2 : Int32) (x3 : Option Nat) (h : f_X2_look N (ub G) (ug G) u a0 x1 x2 x3 = some (r, uf)) {H : Heap} {locs : List Loc} (hP : uP G u H) (hS : va_S (uA G) s.heap H locs) {ls : Array Slot} (hl : lv_has ls 7 [(0, va_rf (some a0)), (1, .int x1), (2, .int x2), (3, va_rf x3)]) : W p l e R s m args below meth c H locs 0 0 (MQ below (uQi G r uf) args s 0 0 (uA G)) (F0 m 0 ls []) := by
  obtain ⟨⟨hx, hb, hml, hown, hts⟩, hKK⟩ := id hC
  unfold f_X2_look at h
  refine lv_iload_n hx hb dX2_look_0 rfl (lv_at hl 2 rfl) ?_
  refine lv_istore (lv' := [(4, .int x2), (0, va_rf (some a0)), (1, .int x1), (2, .int x2), (3, va_rf x3)]) hx hb dX2_look_1 hl (by decide) (by simp [List.filter_cons, u_cat]) (fun ls hl => ?_)
  refine u_aload_n (r := some a0) hx hb dX2_look_3 rfl (lv_at hl 1 rfl) ?_
  obtain ⟨o1, ho1, h⟩ := mbind_n h
  refine u_get hC hP (uGR_n ho1) rfl in_X2 (by decide) q164 (fun _ h => h) dX2_look_4 ?_
  refine lv_iload_n hx hb dX2_look_7 rfl (lv_at hl 2 rfl) ?_
  obtain ⟨a2, ha2, hha2⟩ := mbind_n h
  subst ha2
  have h := hha2
  obtain ⟨y3, hy3, h⟩ := mbind_n h
  refine u_iald hC hP hy3 rfl dX2_look_8 ?_
  refine u_aload_n (r := some a0) hx hb dX2_look_9 rfl (lv_at hl 1 rfl) ?_
  refine lv_iload_n hx hb dX2_look_10 rfl (lv_at hl 3 rfl) ?_
  obtain ⟨c4, h⟩ := mif_n h
  obtain ⟨r7, u5, c6, h⟩ := ucall_n h
  have zu5 := zz_X2_unknown N (ub G) (ug G) u a0 x2 r7 u5 c6
  refine u_calli (va_runV (As := [.int x2]) (rest := [.int y3]) hC.1 (met_X2_unknown l N G u a0 x2 r7 u5 c6) (cwV 1 hts (lw_V q1352 q1354 qs23 q99 q1355) rfl rfl rfl (by decide +kernel) ⟨Nat.le_trans (Nat.le_of_ble_eq_true rfl) hR.1, Nat.le_trans (Nat.le_of_ble_eq_true rfl) hR.2⟩) ⟨uPc_blind, u_rcv hC hP c4 rfl, fun U hU hW => u_pre hC hP hS hU hW⟩ rfl rfl hl.1 rfl (lv_room (Nat.le_of_ble_eq_true rfl)) dX2_look_11 ⟨Nat.zero_le _, Nat.zero_le _⟩) hS (fun H locs hP hS => ?_)
  refine lv_iand hx hb dX2_look_14 ?_
  refine lv_topi (fun y8 ey8 => ?_)
  have h := mlet_at ey8 h
  refine lv_istore (lv' := [(5, .int y8), (4, .int x2), (0, va_rf (some a0)), (1, .int x1), (2, .int x2), (3, va_rf x3)]) hx hb dX2_look_15 hl (by decide) rfl (fun ls hl => ?_)
  exact w_X2_look_17 hC hR N N u5 x3 x2 y8 h _ _ hP hS _ (lv_sub hl [2, 5, 1, 0] rfl)
theorem zz_X2_look (N b : Nat) (g : uEnv) (u : UH) (a0 : Nat) (x1 : Int32) (x2 : Int32) (x3 : Option Nat) (r : Int32) (uf : UH) (h : f_X2_look N b g u a0 x1 x2 x3 = some (r, uf)) : uf.1 = u.1 ∧ uf.2.1 = u.2.1 :=
  zz_X2_look_0 (G := ((fun _ => 0, fun _ _ => 0), fun _ => 0, b, g)) (a0 := a0) N u x1 x2 x3 h
theorem met_X2_look (l : Launch) (N : Nat) (G : uG) (u : UH) (a0 : Nat) (x1 : Int32) (x2 : Int32) (x3 : Option Nat) (r : Int32) (uf : UH) (h : f_X2_look N (ub G) (ug G) u a0 x1 x2 x3 = some (r, uf)) : Met l yX2_look (ws_ yX2_look cX2_look 7 (some .int)) ({ frames := 4, cells := 0, slots := 0, locals := 89 }) (uPc G u [.ref a0, .int x1, .int x2, va_rf x3]) (uQi G r uf) 0 0 (uA G) := by
  rcases x3 with _ | x3 <;> exact u_met (own := RX2) (by decide +kernel) rfl (Nat.le_of_ble_eq_true rfl) (fun hC hn hsz ls hl hP => w_X2_look_0 hC ⟨Nat.le_refl _, Nat.le_refl _⟩ N u x1 x2 _ h hP va_S.rf hl)
def f_X1_sink_58 (N b : Nat) (g : uEnv) (a0 : Nat) (u : UH) (s0 : Int32) : Option (Int32 × UH) :=
    some (s0, u)
set_option maxHeartbeats 4000000 in
set_option maxRecDepth 100000 in
theorem zz_X1_sink_58 {G : uG} {a0 : Nat} {uf : UH} {r : Int32} (N : Nat) (u : UH) (s0 : Int32) (h : f_X1_sink_58 N (ub G) (ug G) a0 u s0 = some (r, uf)) : uf.1 = u.1 ∧ uf.2.1 = u.2.1 := by
  unfold f_X1_sink_58 at h
  obtain ⟨hr1, hr2⟩ := uret_n h
  subst hr2
  exact ⟨by omega, by omega⟩
set_option maxHeartbeats 4000000 in
set_option maxRecDepth 100000 in
theorem w_X1_sink_58 {p : Program} {l : Launch} {e : Env} {R : Room} {s : State} {m : MethodId} {args : Array Value} {below : List Frame} {meth : Method} {c : Code} {G : uG} {a0 : Nat} {uf : UH} {r : Int32} (hC : uC p s m args meth c G RX1 cX1_sink 3 (some .int)) (hR : 3 ≤ R.frames ∧ 64 ≤ R.locals) (N : Nat) (u : UH) (s0 : Int32) (h : f_X1_sink_58 N (ub G) (ug G) a0 u s0 = some (r, uf)) {H : Heap} {locs : List Loc} (hP : uP G u H) (hS : va_S (uA G) s.heap H locs) {ls : Array Slot} (hl : lv_has ls 3 []) : W p l e R s m args below meth c H locs 0 0 (MQ below (uQi G r uf) args s 0 0 (uA G)) (F0 m 58 ls [.int s0]) := by
  obtain ⟨⟨hx, hb, hml, hown, hts⟩, hKK⟩ := id hC
  unfold f_X1_sink_58 at h
  obtain ⟨hr1, hr2⟩ := uret_n h
  subst hr1
  subst hr2
  exact u_iret hC hP hS dX1_sink_58
def f_X1_sink (N b : Nat) (g : uEnv) (u : UH) (a0 : Nat) (x1 : Int32) (x2 : Int32) : Option (Int32 × UH) :=
    if uIs u a0 0 = true then
    ucall (f_X1_isGround N b g u a0 x1) fun r4 u2 =>
    if r4 = 0 then
    if uIs u2 a0 0 = true then
    ucall (f_X1_refused N b g u2 a0 1) fun r37 u35 =>
    some (r37, u35)
    else none
    else
    ucall (f_X1_in N b g u2 x2 0 999) fun r8 u6 =>
    if r8 = 0 then
    if uIs u6 a0 0 = true then
    ucall (f_X1_refused N b g u6 a0 2) fun r13 u11 =>
    f_X1_sink_58 N b g a0 u11 r13
    else none
    else
    (uGR u6 a0 0 2).bind fun o14 =>
    (o14).bind fun a15 =>
    (uGR u6 a15 3 0).bind fun o16 =>
    (o16).bind fun a17 =>
    if uIs u6 a17 18 = true then
    ucall (f_J2_get N b g u6 a17 x1) fun o21 u19 =>
    (o21).bind fun a22 =>
    if uIs u19 a22 5 = true then
    (uGR u19 a22 5 1).bind fun o24 =>
    (o24).bind fun a25 =>
    if uIs u19 a25 7 = true then
    ucall (f_X9_value N b g u19 a25 x2) fun r29 u27 =>
    if uIs u27 a0 0 = true then
    ucall (f_X1_done N b g u27 a0 r29) fun r33 u31 =>
    f_X1_sink_58 N b g a0 u31 r33
    else none
    else none
    else none
    else none
    else none
set_option maxHeartbeats 4000000 in
set_option maxRecDepth 100000 in
theorem zz_X1_sink_0 {G : uG} {a0 : Nat} {uf : UH} {r : Int32} (N : Nat) (u : UH) (x1 : Int32) (x2 : Int32) (h : f_X1_sink N (ub G) (ug G) u a0 x1 x2 = some (r, uf)) : uf.1 = u.1 ∧ uf.2.1 = u.2.1 := by
  unfold f_X1_sink at h
  obtain ⟨c1, h⟩ := mif_n h
  obtain ⟨r4, u2, c3, h⟩ := ucall_n h
  have zu2 := zz_X1_isGround N (ub G) (ug G) u a0 x1 r4 u2 c3
  by_cases c5 : r4 = 0
  · have h := mif_t c5 h
    obtain ⟨c34, h⟩ := mif_n h
    obtain ⟨r37, u35, c36, h⟩ := ucall_n h
    have zu35 := zz_X1_refused N (ub G) (ug G) u2 a0 1 r37 u35 c36
    obtain ⟨hr1, hr2⟩ := uret_n h
    subst hr2
    exact ⟨by omega, by omega⟩
  · have h := mif_f c5 h
    obtain ⟨r8, u6, c7, h⟩ := ucall_n h
    have zu6 := zz_X1_in N (ub G) (ug G) u2 x2 0 999 r8 u6 c7
    by_cases c9 : r8 = 0
    · have h := mif_t c9 h
      obtain ⟨c10, h⟩ := mif_n h
      obtain ⟨r13, u11, c12, h⟩ := ucall_n h
      have zu11 := zz_X1_refused N (ub G) (ug G) u6 a0 2 r13 u11 c12
      have hq := zz_X1_sink_58 (G := G) (a0 := a0) N u11 r13 h
      exact ⟨by omega, by omega⟩
    · have h := mif_f c9 h
      obtain ⟨o14, ho14, h⟩ := mbind_n h
      obtain ⟨a15, ha15, hha15⟩ := mbind_n h
      subst ha15
      have h := hha15
      obtain ⟨o16, ho16, h⟩ := mbind_n h
      obtain ⟨a17, ha17, hha17⟩ := mbind_n h
      subst ha17
      have h := hha17
      obtain ⟨c18, h⟩ := mif_n h
      obtain ⟨o21, u19, c20, h⟩ := ucall_n h
      have zu19 := zz_J2_get N (ub G) (ug G) u6 a17 x1 o21 u19 c20
      obtain ⟨a22, ha22, hha22⟩ := mbind_n h
      subst ha22
      have h := hha22
      obtain ⟨c23, h⟩ := mif_n h
      obtain ⟨o24, ho24, h⟩ := mbind_n h
      obtain ⟨a25, ha25, hha25⟩ := mbind_n h
      subst ha25
      have h := hha25
      obtain ⟨c26, h⟩ := mif_n h
      obtain ⟨r29, u27, c28, h⟩ := ucall_n h
      have zu27 := zz_X9_value N (ub G) (ug G) u19 a25 x2 r29 u27 c28
      obtain ⟨c30, h⟩ := mif_n h
      obtain ⟨r33, u31, c32, h⟩ := ucall_n h
      have zu31 := zz_X1_done N (ub G) (ug G) u27 a0 r29 r33 u31 c32
      have hq := zz_X1_sink_58 (G := G) (a0 := a0) N u31 r33 h
      exact ⟨by omega, by omega⟩
set_option maxHeartbeats 4000000 in
set_option maxRecDepth 100000 in
theorem w_X1_sink_0 {p : Program} {l : Launch} {e : Env} {R : Room} {s : State} {m : MethodId} {args : Array Value} {below : List Frame} {meth : Method} {c : Code} {G : uG} {a0 : Nat} {uf : UH} {r : Int32} (hC : uC p s m args meth c G RX1 cX1_sink 3 (some .int)) (hR : 3 ≤ R.frames ∧ 64 ≤ R.locals) (N : Nat) (u : UH) (x1 : Int32) (x2 : Int32) (h : f_X1_sink N (ub G) (ug G) u a0 x1 x2 = some (r, uf)) {H : Heap} {locs : List Loc} (hP : uP G u H) (hS : va_S (uA G) s.heap H locs) {ls : Array Slot} (hl : lv_has ls 3 [(0, va_rf (some a0)), (1, .int x1), (2, .int x2)]) : W p l e R s m args below meth c H locs 0 0 (MQ below (uQi G r uf) args s 0 0 (uA G)) (F0 m 0 ls []) := by
  obtain ⟨⟨hx, hb, hml, hown, hts⟩, hKK⟩ := id hC
  unfold f_X1_sink at h
  refine u_aload_n (r := some a0) hx hb dX1_sink_0 rfl (lv_at hl 0 rfl) ?_
  refine lv_iload_n hx hb dX1_sink_1 rfl (lv_at hl 1 rfl) ?_
  obtain ⟨c1, h⟩ := mif_n h
  obtain ⟨r4, u2, c3, h⟩ := ucall_n h
  have zu2 := zz_X1_isGround N (ub G) (ug G) u a0 x1 r4 u2 c3
  refine u_calli (va_runV (As := [.int x1]) (rest := []) hC.1 (met_X1_isGround l N G u a0 x1 r4 u2 c3) (cwV 1 hts (lw_V q1080 q1082 qs15 q98 q1083) rfl rfl rfl (by decide +kernel) ⟨Nat.le_trans (Nat.le_of_ble_eq_true rfl) hR.1, Nat.le_trans (Nat.le_of_ble_eq_true rfl) hR.2⟩) ⟨uPc_blind, u_rcv hC hP c1 rfl, fun U hU hW => u_pre hC hP hS hU hW⟩ rfl rfl hl.1 rfl (lv_room (Nat.le_of_ble_eq_true rfl)) dX1_sink_2 ⟨Nat.zero_le _, Nat.zero_le _⟩) hS (fun H locs hP hS => ?_)
  refine lv_if_ne (tgt := 14) hx hb dX1_sink_5 (by decide) (fun c5 => ?_) (fun c5 => ?_)
  · have h := mif_f c5 h
    refine lv_iload_n hx hb dX1_sink_14 rfl (lv_at hl 2 rfl) ?_
    refine lv_iconst (v := 0) hx hb dX1_sink_15 (by decide) ?_
    refine lv_sipush (v := 999) hx hb dX1_sink_16 (by decide) ?_
    obtain ⟨r8, u6, c7, h⟩ := ucall_n h
    have zu6 := zz_X1_in N (ub G) (ug G) u2 x2 0 999 r8 u6 c7
    refine u_calli (va_runS (As := [.int x2, .int 0, .int 999]) (rest := []) hC.1 (met_X1_in l N G u2 x2 0 999 r8 u6 c7) (va_cwS 3 hts (lw_S q273 q274 q98 q275) rfl rfl rfl (by decide +kernel) ⟨Nat.le_trans (Nat.le_of_ble_eq_true rfl) hR.1, Nat.le_trans (Nat.le_of_ble_eq_true rfl) hR.2⟩) ⟨uPc_blind, fun U hU hW => u_pre hC hP hS hU hW⟩ rfl rfl hl.1 rfl (lv_room (Nat.le_of_ble_eq_true rfl)) dX1_sink_19 ⟨Nat.zero_le _, Nat.zero_le _⟩) hS (fun H locs hP hS => ?_)
    refine lv_if_eq (tgt := 53) hx hb dX1_sink_22 (by decide) (fun c9 => ?_) (fun c9 => ?_)
    · have h := mif_t c9 h
      refine u_aload_n (r := some a0) hx hb dX1_sink_53 rfl (lv_at hl 0 rfl) ?_
      refine lv_iconst (v := 2) hx hb dX1_sink_54 (by decide) ?_
      obtain ⟨c10, h⟩ := mif_n h
      obtain ⟨r13, u11, c12, h⟩ := ucall_n h
      have zu11 := zz_X1_refused N (ub G) (ug G) u6 a0 2 r13 u11 c12
      refine u_calli (va_runV (As := [.int 2]) (rest := []) hC.1 (met_X1_refused l N G u6 a0 2 r13 u11 c12) (cwV 1 hts (lw_V q276 q278 qs0 q98 q279) rfl rfl rfl (by decide +kernel) ⟨Nat.le_trans (Nat.le_of_ble_eq_true rfl) hR.1, Nat.le_trans (Nat.le_of_ble_eq_true rfl) hR.2⟩) ⟨uPc_blind, u_rcv hC hP c10 rfl, fun U hU hW => u_pre hC hP hS hU hW⟩ rfl rfl hl.1 rfl (lv_room (Nat.le_of_ble_eq_true rfl)) dX1_sink_55 ⟨Nat.zero_le _, Nat.zero_le _⟩) hS (fun H locs hP hS => ?_)
      exact w_X1_sink_58 hC hR N u11 r13 h hP hS (lv_sub hl [] rfl)
    · have h := mif_f c9 h
      refine u_aload_n (r := some a0) hx hb dX1_sink_25 rfl (lv_at hl 0 rfl) ?_
      refine u_aload_n (r := some a0) hx hb dX1_sink_26 rfl (lv_at hl 0 rfl) ?_
      obtain ⟨o14, ho14, h⟩ := mbind_n h
      refine u_get hC hP (uGR_n ho14) rfl in_X1 (by decide) q217 (fun _ h => h) dX1_sink_27 ?_
      obtain ⟨a15, ha15, hha15⟩ := mbind_n h
      subst ha15
      have h := hha15
      obtain ⟨o16, ho16, h⟩ := mbind_n h
      refine u_getN hC hP (uGR_n ho16) rfl in_X4 (by decide) q291 (fun _ h => h) dX1_sink_30 ?_
      refine lv_iload_n hx hb dX1_sink_33 rfl (lv_at hl 1 rfl) ?_
      obtain ⟨a17, ha17, hha17⟩ := mbind_n h
      subst ha17
      have h := hha17
      obtain ⟨c18, h⟩ := mif_n h
      obtain ⟨o21, u19, c20, h⟩ := ucall_n h
      have zu19 := zz_J2_get N (ub G) (ug G) u6 a17 x1 o21 u19 c20
      refine u_callr (va_runV (As := [.int x1]) (rest := [va_rf (some a0)]) hC.1 (met_J2_get l N G u6 a17 x1 o21 u19 c20) (cwV 1 hts (lw_V q1084 q898 q899 q102 q900) rfl rfl rfl (by decide +kernel) ⟨Nat.le_trans (Nat.le_of_ble_eq_true rfl) hR.1, Nat.le_trans (Nat.le_of_ble_eq_true rfl) hR.2⟩) ⟨uPc_blind, u_rcv hC hP c18 rfl, fun U hU hW => u_pre hC hP hS hU hW⟩ rfl rfl hl.1 rfl (lv_room (Nat.le_of_ble_eq_true rfl)) dX1_sink_34 ⟨Nat.zero_le _, Nat.zero_le _⟩) hS (fun H locs hP hS => ?_)
      obtain ⟨a22, ha22, hha22⟩ := mbind_n h
      subst ha22
      have h := hha22
      obtain ⟨c23, h⟩ := mif_n h
      refine u_castS hC hP c23 rfl q1085 dX1_sink_37 ?_
      obtain ⟨o24, ho24, h⟩ := mbind_n h
      refine u_getN hC hP (uGR_n ho24) rfl in_X6 (by decide) q877 (fun _ h => h) dX1_sink_40 ?_
      refine lv_iload_n hx hb dX1_sink_43 rfl (lv_at hl 2 rfl) ?_
      obtain ⟨a25, ha25, hha25⟩ := mbind_n h
      subst ha25
      have h := hha25
      obtain ⟨c26, h⟩ := mif_n h
      obtain ⟨r29, u27, c28, h⟩ := ucall_n h
      have zu27 := zz_X9_value N (ub G) (ug G) u19 a25 x2 r29 u27 c28
      refine u_calli (va_runV (As := [.int x2]) (rest := [va_rf (some a0)]) hC.1 (met_X9_value l N G u19 a25 x2 r29 u27 c28) (cwV 1 hts (lw_V q1086 q1087 q1088 q124 q1089) rfl rfl rfl (by decide +kernel) ⟨Nat.le_trans (Nat.le_of_ble_eq_true rfl) hR.1, Nat.le_trans (Nat.le_of_ble_eq_true rfl) hR.2⟩) ⟨uPc_blind, u_rcv hC hP c26 rfl, fun U hU hW => u_pre hC hP hS hU hW⟩ rfl rfl hl.1 rfl (lv_room (Nat.le_of_ble_eq_true rfl)) dX1_sink_44 ⟨Nat.zero_le _, Nat.zero_le _⟩) hS (fun H locs hP hS => ?_)
      obtain ⟨c30, h⟩ := mif_n h
      obtain ⟨r33, u31, c32, h⟩ := ucall_n h
      have zu31 := zz_X1_done N (ub G) (ug G) u27 a0 r29 r33 u31 c32
      refine u_calli (va_runV (As := [.int r29]) (rest := []) hC.1 (met_X1_done l N G u27 a0 r29 r33 u31 c32) (cwV 1 hts (lw_V q1064 q1066 qs14 q98 q1067) rfl rfl rfl (by decide +kernel) ⟨Nat.le_trans (Nat.le_of_ble_eq_true rfl) hR.1, Nat.le_trans (Nat.le_of_ble_eq_true rfl) hR.2⟩) ⟨uPc_blind, u_rcv hC hP c30 rfl, fun U hU hW => u_pre hC hP hS hU hW⟩ rfl rfl hl.1 rfl (lv_room (Nat.le_of_ble_eq_true rfl)) dX1_sink_47 ⟨Nat.zero_le _, Nat.zero_le _⟩) hS (fun H locs hP hS => ?_)
      refine lv_goto (tgt := 58) hx hb dX1_sink_50 (by decide) ?_
      exact w_X1_sink_58 hC hR N u31 r33 h hP hS (lv_sub hl [] rfl)
  · have h := mif_t c5 h
    refine u_aload_n (r := some a0) hx hb dX1_sink_8 rfl (lv_at hl 0 rfl) ?_
    refine lv_iconst (v := 1) hx hb dX1_sink_9 (by decide) ?_
    obtain ⟨c34, h⟩ := mif_n h
    obtain ⟨r37, u35, c36, h⟩ := ucall_n h
    have zu35 := zz_X1_refused N (ub G) (ug G) u2 a0 1 r37 u35 c36
    refine u_calli (va_runV (As := [.int 1]) (rest := []) hC.1 (met_X1_refused l N G u2 a0 1 r37 u35 c36) (cwV 1 hts (lw_V q276 q278 qs0 q98 q279) rfl rfl rfl (by decide +kernel) ⟨Nat.le_trans (Nat.le_of_ble_eq_true rfl) hR.1, Nat.le_trans (Nat.le_of_ble_eq_true rfl) hR.2⟩) ⟨uPc_blind, u_rcv hC hP c34 rfl, fun U hU hW => u_pre hC hP hS hU hW⟩ rfl rfl hl.1 rfl (lv_room (Nat.le_of_ble_eq_true rfl)) dX1_sink_10 ⟨Nat.zero_le _, Nat.zero_le _⟩) hS (fun H locs hP hS => ?_)
    obtain ⟨hr1, hr2⟩ := uret_n h
    subst hr1
    subst hr2
    exact u_iret hC hP hS dX1_sink_13
theorem zz_X1_sink (N b : Nat) (g : uEnv) (u : UH) (a0 : Nat) (x1 : Int32) (x2 : Int32) (r : Int32) (uf : UH) (h : f_X1_sink N b g u a0 x1 x2 = some (r, uf)) : uf.1 = u.1 ∧ uf.2.1 = u.2.1 :=
  zz_X1_sink_0 (G := ((fun _ => 0, fun _ _ => 0), fun _ => 0, b, g)) (a0 := a0) N u x1 x2 h
theorem met_X1_sink (l : Launch) (N : Nat) (G : uG) (u : UH) (a0 : Nat) (x1 : Int32) (x2 : Int32) (r : Int32) (uf : UH) (h : f_X1_sink N (ub G) (ug G) u a0 x1 x2 = some (r, uf)) : Met l yX1_sink (ws_ yX1_sink cX1_sink 3 (some .int)) ({ frames := 3, cells := 0, slots := 0, locals := 64 }) (uPc G u [.ref a0, .int x1, .int x2]) (uQi G r uf) 0 0 (uA G) := by
  exact u_met (own := RX1) (by decide +kernel) rfl (Nat.le_of_ble_eq_true rfl) (fun hC hn hsz ls hl hP => w_X1_sink_0 hC ⟨Nat.le_refl _, Nat.le_refl _⟩ N u x1 x2 h hP va_S.rf hl)
def f_X1_step_35 (N b : Nat) (g : uEnv) (a0 : Nat) (u : UH) : Option (Int32 × UH) :=
    if uIs u a0 0 = true then
    ucall (f_X1_refused N b g u a0 1) fun r4 u2 =>
    some (r4, u2)
    else none
set_option maxHeartbeats 4000000 in
set_option maxRecDepth 100000 in
theorem zz_X1_step_35 {G : uG} {a0 : Nat} {uf : UH} {r : Int32} (N : Nat) (u : UH) (h : f_X1_step_35 N (ub G) (ug G) a0 u = some (r, uf)) : uf.1 = u.1 ∧ uf.2.1 = u.2.1 := by
  unfold f_X1_step_35 at h
  obtain ⟨c1, h⟩ := mif_n h
  obtain ⟨r4, u2, c3, h⟩ := ucall_n h
  have zu2 := zz_X1_refused N (ub G) (ug G) u a0 1 r4 u2 c3
  obtain ⟨hr1, hr2⟩ := uret_n h
  subst hr2
  exact ⟨by omega, by omega⟩
set_option maxHeartbeats 4000000 in
set_option maxRecDepth 100000 in
theorem w_X1_step_35 {p : Program} {l : Launch} {e : Env} {R : Room} {s : State} {m : MethodId} {args : Array Value} {below : List Frame} {meth : Method} {c : Code} {G : uG} {a0 : Nat} {uf : UH} {r : Int32} (hC : uC p s m args meth c G RX1 cX1_step 6 (some .int)) (hR : 4 ≤ R.frames ∧ 95 ≤ R.locals) (N : Nat) (u : UH) (h : f_X1_step_35 N (ub G) (ug G) a0 u = some (r, uf)) {H : Heap} {locs : List Loc} (hP : uP G u H) (hS : va_S (uA G) s.heap H locs) {ls : Array Slot} (hl : lv_has ls 6 [(0, va_rf (some a0))]) : W p l e R s m args below meth c H locs 0 0 (MQ below (uQi G r uf) args s 0 0 (uA G)) (F0 m 35 ls []) := by
  obtain ⟨⟨hx, hb, hml, hown, hts⟩, hKK⟩ := id hC
  unfold f_X1_step_35 at h
  refine u_aload_n (r := some a0) hx hb dX1_step_35 rfl (lv_at hl 0 rfl) ?_
  refine lv_iconst (v := 1) hx hb dX1_step_36 (by decide) ?_
  obtain ⟨c1, h⟩ := mif_n h
  obtain ⟨r4, u2, c3, h⟩ := ucall_n h
  have zu2 := zz_X1_refused N (ub G) (ug G) u a0 1 r4 u2 c3
  refine u_calli (va_runV (As := [.int 1]) (rest := []) hC.1 (met_X1_refused l N G u a0 1 r4 u2 c3) (cwV 1 hts (lw_V q276 q278 qs0 q98 q279) rfl rfl rfl (by decide +kernel) ⟨Nat.le_trans (Nat.le_of_ble_eq_true rfl) hR.1, Nat.le_trans (Nat.le_of_ble_eq_true rfl) hR.2⟩) ⟨uPc_blind, u_rcv hC hP c1 rfl, fun U hU hW => u_pre hC hP hS hU hW⟩ rfl rfl hl.1 rfl (lv_room (Nat.le_of_ble_eq_true rfl)) dX1_step_37 ⟨Nat.zero_le _, Nat.zero_le _⟩) hS (fun H locs hP hS => ?_)
  obtain ⟨hr1, hr2⟩ := uret_n h
  subst hr1
  subst hr2
  exact u_iret hC hP hS dX1_step_40
def f_X1_step_115 (N b : Nat) (g : uEnv) (a0 : Nat) (u : UH) (s0 : Int32) (s1 : Option Nat) : Option (Int32 × UH) :=
    (s1).bind fun a1 =>
    if uIs u a1 0 = true then
    ucall (f_X1_done N b g u a1 s0) fun r5 u3 =>
    some (r5, u3)
    else none
set_option maxHeartbeats 4000000 in
set_option maxRecDepth 100000 in
theorem zz_X1_step_115 {G : uG} {a0 : Nat} {uf : UH} {r : Int32} (N : Nat) (u : UH) (s0 : Int32) (s1 : Option Nat) (h : f_X1_step_115 N (ub G) (ug G) a0 u s0 s1 = some (r, uf)) : uf.1 = u.1 ∧ uf.2.1 = u.2.1 := by
  unfold f_X1_step_115 at h
  obtain ⟨a1, ha1, hha1⟩ := mbind_n h
  subst ha1
  have h := hha1
  obtain ⟨c2, h⟩ := mif_n h
  obtain ⟨r5, u3, c4, h⟩ := ucall_n h
  have zu3 := zz_X1_done N (ub G) (ug G) u a1 s0 r5 u3 c4
  obtain ⟨hr1, hr2⟩ := uret_n h
  subst hr2
  exact ⟨by omega, by omega⟩
set_option maxHeartbeats 4000000 in
set_option maxRecDepth 100000 in
theorem w_X1_step_115 {p : Program} {l : Launch} {e : Env} {R : Room} {s : State} {m : MethodId} {args : Array Value} {below : List Frame} {meth : Method} {c : Code} {G : uG} {a0 : Nat} {uf : UH} {r : Int32} (hC : uC p s m args meth c G RX1 cX1_step 6 (some .int)) (hR : 4 ≤ R.frames ∧ 95 ≤ R.locals) (N : Nat) (u : UH) (s0 : Int32) (s1 : Option Nat) (h : f_X1_step_115 N (ub G) (ug G) a0 u s0 s1 = some (r, uf)) {H : Heap} {locs : List Loc} (hP : uP G u H) (hS : va_S (uA G) s.heap H locs) {ls : Array Slot} (hl : lv_has ls 6 []) : W p l e R s m args below meth c H locs 0 0 (MQ below (uQi G r uf) args s 0 0 (uA G)) (F0 m 115 ls [.int s0, va_rf s1]) := by
  obtain ⟨⟨hx, hb, hml, hown, hts⟩, hKK⟩ := id hC
  unfold f_X1_step_115 at h
  obtain ⟨a1, ha1, hha1⟩ := mbind_n h
  subst ha1
  have h := hha1
  obtain ⟨c2, h⟩ := mif_n h
  obtain ⟨r5, u3, c4, h⟩ := ucall_n h
  have zu3 := zz_X1_done N (ub G) (ug G) u a1 s0 r5 u3 c4
  refine u_calli (va_runV (As := [.int s0]) (rest := []) hC.1 (met_X1_done l N G u a1 s0 r5 u3 c4) (cwV 1 hts (lw_V q1064 q1066 qs14 q98 q1067) rfl rfl rfl (by decide +kernel) ⟨Nat.le_trans (Nat.le_of_ble_eq_true rfl) hR.1, Nat.le_trans (Nat.le_of_ble_eq_true rfl) hR.2⟩) ⟨uPc_blind, u_rcv hC hP c2 rfl, fun U hU hW => u_pre hC hP hS hU hW⟩ rfl rfl hl.1 rfl (lv_room (Nat.le_of_ble_eq_true rfl)) dX1_step_115 ⟨Nat.zero_le _, Nat.zero_le _⟩) hS (fun H locs hP hS => ?_)
  obtain ⟨hr1, hr2⟩ := uret_n h
  subst hr1
  subst hr2
  exact u_iret hC hP hS dX1_step_118
def f_X1_step (N b : Nat) (g : uEnv) (u : UH) (a0 : Nat) (x1 : Int32) (x2 : Int32) (x3 : Int32) (x4 : Int32) : Option (Int32 × UH) :=
    if uIs u a0 0 = true then
    ucall (f_X1_isCell N b g u a0 x1) fun r4 u2 =>
    if r4 = 0 then
    f_X1_step_35 N b g a0 u2
    else
    ucall (f_X1_in N b g u2 x2 0 3) fun r8 u6 =>
    if r8 = 0 then
    f_X1_step_35 N b g a0 u6
    else
    if uIs u6 a0 0 = true then
    ucall (f_X1_isGround N b g u6 a0 x3) fun r13 u11 =>
    if r13 = 0 then
    f_X1_step_35 N b g a0 u11
    else
    ucall (f_X1_in N b g u11 x4 0 3) fun r17 u15 =>
    if r17 = 0 then
    f_X1_step_35 N b g a0 u15
    else
    (uGR u15 a0 0 7).bind fun o19 =>
    (uGR u15 a0 0 7).bind fun o20 =>
    (o20).bind fun a21 =>
    (uGR u15 a21 12 7).bind fun o22 =>
    (o22).bind fun a23 =>
    (uLdR u15 a23 5 x2).bind fun o24 =>
    (uGI u15 a0 0 3).bind fun y25 =>
    (o19).bind fun a26 =>
    if uIs u15 a26 12 = true then
    ucall (f_X14_why N b g u15 a26 x1 o24 x3 y25) fun r30 u28 =>
    if x4 = 0 then
    f_X1_step_115 N b g a0 u28 r30 (some a0)
    else
    if x4 = 1 then
    (uGR u28 a0 0 7).bind fun o40 =>
    (o40).bind fun a41 =>
    (uGI u28 a41 12 8).bind fun y42 =>
    f_X1_step_115 N b g a0 u28 y42 (some a0)
    else
    if x4 = 2 then
    (uGR u28 a0 0 7).bind fun o37 =>
    (o37).bind fun a38 =>
    (uGI u28 a38 12 9).bind fun y39 =>
    f_X1_step_115 N b g a0 u28 y39 (some a0)
    else
    (uGR u28 a0 0 7).bind fun o34 =>
    (o34).bind fun a35 =>
    (uGI u28 a35 12 10).bind fun y36 =>
    f_X1_step_115 N b g a0 u28 y36 (some a0)
    else none
    else none
    else none
set_option maxHeartbeats 4000000 in
set_option maxRecDepth 100000 in
theorem zz_X1_step_0 {G : uG} {a0 : Nat} {uf : UH} {r : Int32} (N : Nat) (u : UH) (x1 : Int32) (x2 : Int32) (x3 : Int32) (x4 : Int32) (h : f_X1_step N (ub G) (ug G) u a0 x1 x2 x3 x4 = some (r, uf)) : uf.1 = u.1 ∧ uf.2.1 = u.2.1 := by
  unfold f_X1_step at h
  obtain ⟨c1, h⟩ := mif_n h
  obtain ⟨r4, u2, c3, h⟩ := ucall_n h
  have zu2 := zz_X1_isCell N (ub G) (ug G) u a0 x1 r4 u2 c3
  by_cases c5 : r4 = 0
  · have h := mif_t c5 h
    have hq := zz_X1_step_35 (G := G) (a0 := a0) N u2 h
    exact ⟨by omega, by omega⟩
  · have h := mif_f c5 h
    obtain ⟨r8, u6, c7, h⟩ := ucall_n h
    have zu6 := zz_X1_in N (ub G) (ug G) u2 x2 0 3 r8 u6 c7
    by_cases c9 : r8 = 0
    · have h := mif_t c9 h
      have hq := zz_X1_step_35 (G := G) (a0 := a0) N u6 h
      exact ⟨by omega, by omega⟩
    · have h := mif_f c9 h
      obtain ⟨c10, h⟩ := mif_n h
      obtain ⟨r13, u11, c12, h⟩ := ucall_n h
      have zu11 := zz_X1_isGround N (ub G) (ug G) u6 a0 x3 r13 u11 c12
      by_cases c14 : r13 = 0
      · have h := mif_t c14 h
        have hq := zz_X1_step_35 (G := G) (a0 := a0) N u11 h
        exact ⟨by omega, by omega⟩
      · have h := mif_f c14 h
        obtain ⟨r17, u15, c16, h⟩ := ucall_n h
        have zu15 := zz_X1_in N (ub G) (ug G) u11 x4 0 3 r17 u15 c16
        by_cases c18 : r17 = 0
        · have h := mif_t c18 h
          have hq := zz_X1_step_35 (G := G) (a0 := a0) N u15 h
          exact ⟨by omega, by omega⟩
        · have h := mif_f c18 h
          obtain ⟨o19, ho19, h⟩ := mbind_n h
          obtain ⟨o20, ho20, h⟩ := mbind_n h
          obtain ⟨a21, ha21, hha21⟩ := mbind_n h
          subst ha21
          have h := hha21
          obtain ⟨o22, ho22, h⟩ := mbind_n h
          obtain ⟨a23, ha23, hha23⟩ := mbind_n h
          subst ha23
          have h := hha23
          obtain ⟨o24, ho24, h⟩ := mbind_n h
          obtain ⟨y25, hy25, h⟩ := mbind_n h
          obtain ⟨a26, ha26, hha26⟩ := mbind_n h
          subst ha26
          have h := hha26
          obtain ⟨c27, h⟩ := mif_n h
          obtain ⟨r30, u28, c29, h⟩ := ucall_n h
          have zu28 := zz_X14_why N (ub G) (ug G) u15 a26 x1 o24 x3 y25 r30 u28 c29
          by_cases c31 : x4 = 0
          · have h := mif_t c31 h
            have hq := zz_X1_step_115 (G := G) (a0 := a0) N u28 r30 (some a0) h
            exact ⟨by omega, by omega⟩
          · have h := mif_f c31 h
            by_cases c32 : x4 = 1
            · have h := mif_t c32 h
              obtain ⟨o40, ho40, h⟩ := mbind_n h
              obtain ⟨a41, ha41, hha41⟩ := mbind_n h
              subst ha41
              have h := hha41
              obtain ⟨y42, hy42, h⟩ := mbind_n h
              have hq := zz_X1_step_115 (G := G) (a0 := a0) N u28 y42 (some a0) h
              exact ⟨by omega, by omega⟩
            · have h := mif_f c32 h
              by_cases c33 : x4 = 2
              · have h := mif_t c33 h
                obtain ⟨o37, ho37, h⟩ := mbind_n h
                obtain ⟨a38, ha38, hha38⟩ := mbind_n h
                subst ha38
                have h := hha38
                obtain ⟨y39, hy39, h⟩ := mbind_n h
                have hq := zz_X1_step_115 (G := G) (a0 := a0) N u28 y39 (some a0) h
                exact ⟨by omega, by omega⟩
              · have h := mif_f c33 h
                obtain ⟨o34, ho34, h⟩ := mbind_n h
                obtain ⟨a35, ha35, hha35⟩ := mbind_n h
                subst ha35
                have h := hha35
                obtain ⟨y36, hy36, h⟩ := mbind_n h
                have hq := zz_X1_step_115 (G := G) (a0 := a0) N u28 y36 (some a0) h
                exact ⟨by omega, by omega⟩
set_option maxHeartbeats 4000000 in
set_option maxRecDepth 100000 in
theorem w_X1_step_0 {p : Program} {l : Launch} {e : Env} {R : Room} {s : State} {m : MethodId} {args : Array Value} {below : List Frame} {meth : Method} {c : Code} {G : uG} {a0 : Nat} {uf : UH} {r : Int32} (hC : uC p s m args meth c G RX1 cX1_step 6 (some .int)) (hR : 4 ≤ R.frames ∧ 95 ≤ R.locals) (N : Nat) (u : UH) (x1 : Int32) (x2 : Int32) (x3 : Int32) (x4 : Int32) (h : f_X1_step N (ub G) (ug G) u a0 x1 x2 x3 x4 = some (r, uf)) {H : Heap} {locs : List Loc} (hP : uP G u H) (hS : va_S (uA G) s.heap H locs) {ls : Array Slot} (hl : lv_has ls 6 [(0, va_rf (some a0)), (1, .int x1), (2, .int x2), (3, .int x3), (4, .int x4)]) : W p l e R s m args below meth c H locs 0 0 (MQ below (uQi G r uf) args s 0 0 (uA G)) (F0 m 0 ls []) := by
  obtain ⟨⟨hx, hb, hml, hown, hts⟩, hKK⟩ := id hC
  unfold f_X1_step at h
  refine u_aload_n (r := some a0) hx hb dX1_step_0 rfl (lv_at hl 0 rfl) ?_
  refine lv_iload_n hx hb dX1_step_1 rfl (lv_at hl 1 rfl) ?_
  obtain ⟨c1, h⟩ := mif_n h
  obtain ⟨r4, u2, c3, h⟩ := ucall_n h
  have zu2 := zz_X1_isCell N (ub G) (ug G) u a0 x1 r4 u2 c3
  refine u_calli (va_runV (As := [.int x1]) (rest := []) hC.1 (met_X1_isCell l N G u a0 x1 r4 u2 c3) (cwV 1 hts (lw_V q1194 q1196 qs18 q98 q1197) rfl rfl rfl (by decide +kernel) ⟨Nat.le_trans (Nat.le_of_ble_eq_true rfl) hR.1, Nat.le_trans (Nat.le_of_ble_eq_true rfl) hR.2⟩) ⟨uPc_blind, u_rcv hC hP c1 rfl, fun U hU hW => u_pre hC hP hS hU hW⟩ rfl rfl hl.1 rfl (lv_room (Nat.le_of_ble_eq_true rfl)) dX1_step_2 ⟨Nat.zero_le _, Nat.zero_le _⟩) hS (fun H locs hP hS => ?_)
  refine lv_if_eq (tgt := 35) hx hb dX1_step_5 (by decide) (fun c5 => ?_) (fun c5 => ?_)
  · have h := mif_t c5 h
    exact w_X1_step_35 hC hR N u2 h hP hS (lv_sub hl [0] rfl)
  · have h := mif_f c5 h
    refine lv_iload_n hx hb dX1_step_8 rfl (lv_at hl 2 rfl) ?_
    refine lv_iconst (v := 0) hx hb dX1_step_9 (by decide) ?_
    refine lv_iconst (v := 3) hx hb dX1_step_10 (by decide) ?_
    obtain ⟨r8, u6, c7, h⟩ := ucall_n h
    have zu6 := zz_X1_in N (ub G) (ug G) u2 x2 0 3 r8 u6 c7
    refine u_calli (va_runS (As := [.int x2, .int 0, .int 3]) (rest := []) hC.1 (met_X1_in l N G u2 x2 0 3 r8 u6 c7) (va_cwS 3 hts (lw_S q273 q274 q98 q275) rfl rfl rfl (by decide +kernel) ⟨Nat.le_trans (Nat.le_of_ble_eq_true rfl) hR.1, Nat.le_trans (Nat.le_of_ble_eq_true rfl) hR.2⟩) ⟨uPc_blind, fun U hU hW => u_pre hC hP hS hU hW⟩ rfl rfl hl.1 rfl (lv_room (Nat.le_of_ble_eq_true rfl)) dX1_step_11 ⟨Nat.zero_le _, Nat.zero_le _⟩) hS (fun H locs hP hS => ?_)
    refine lv_if_eq (tgt := 35) hx hb dX1_step_14 (by decide) (fun c9 => ?_) (fun c9 => ?_)
    · have h := mif_t c9 h
      exact w_X1_step_35 hC hR N u6 h hP hS (lv_sub hl [0] rfl)
    · have h := mif_f c9 h
      refine u_aload_n (r := some a0) hx hb dX1_step_17 rfl (lv_at hl 0 rfl) ?_
      refine lv_iload_n hx hb dX1_step_18 rfl (lv_at hl 3 rfl) ?_
      obtain ⟨c10, h⟩ := mif_n h
      obtain ⟨r13, u11, c12, h⟩ := ucall_n h
      have zu11 := zz_X1_isGround N (ub G) (ug G) u6 a0 x3 r13 u11 c12
      refine u_calli (va_runV (As := [.int x3]) (rest := []) hC.1 (met_X1_isGround l N G u6 a0 x3 r13 u11 c12) (cwV 1 hts (lw_V q1080 q1082 qs15 q98 q1083) rfl rfl rfl (by decide +kernel) ⟨Nat.le_trans (Nat.le_of_ble_eq_true rfl) hR.1, Nat.le_trans (Nat.le_of_ble_eq_true rfl) hR.2⟩) ⟨uPc_blind, u_rcv hC hP c10 rfl, fun U hU hW => u_pre hC hP hS hU hW⟩ rfl rfl hl.1 rfl (lv_room (Nat.le_of_ble_eq_true rfl)) dX1_step_19 ⟨Nat.zero_le _, Nat.zero_le _⟩) hS (fun H locs hP hS => ?_)
      refine lv_if_eq (tgt := 35) hx hb dX1_step_22 (by decide) (fun c14 => ?_) (fun c14 => ?_)
      · have h := mif_t c14 h
        exact w_X1_step_35 hC hR N u11 h hP hS (lv_sub hl [0] rfl)
      · have h := mif_f c14 h
        refine lv_iload hx hb dX1_step_25 (lv_at hl 4 rfl) ?_
        refine lv_iconst (v := 0) hx hb dX1_step_27 (by decide) ?_
        refine lv_iconst (v := 3) hx hb dX1_step_28 (by decide) ?_
        obtain ⟨r17, u15, c16, h⟩ := ucall_n h
        have zu15 := zz_X1_in N (ub G) (ug G) u11 x4 0 3 r17 u15 c16
        refine u_calli (va_runS (As := [.int x4, .int 0, .int 3]) (rest := []) hC.1 (met_X1_in l N G u11 x4 0 3 r17 u15 c16) (va_cwS 3 hts (lw_S q273 q274 q98 q275) rfl rfl rfl (by decide +kernel) ⟨Nat.le_trans (Nat.le_of_ble_eq_true rfl) hR.1, Nat.le_trans (Nat.le_of_ble_eq_true rfl) hR.2⟩) ⟨uPc_blind, fun U hU hW => u_pre hC hP hS hU hW⟩ rfl rfl hl.1 rfl (lv_room (Nat.le_of_ble_eq_true rfl)) dX1_step_29 ⟨Nat.zero_le _, Nat.zero_le _⟩) hS (fun H locs hP hS => ?_)
        refine lv_if_ne (tgt := 41) hx hb dX1_step_32 (by decide) (fun c18 => ?_) (fun c18 => ?_)
        · have h := mif_f c18 h
          refine u_aload_n (r := some a0) hx hb dX1_step_41 rfl (lv_at hl 0 rfl) ?_
          obtain ⟨o19, ho19, h⟩ := mbind_n h
          refine u_get hC hP (uGR_n ho19) rfl in_X1 (by decide) q222 (fun _ h => h) dX1_step_42 ?_
          refine lv_iload_n hx hb dX1_step_45 rfl (lv_at hl 1 rfl) ?_
          refine u_aload_n (r := some a0) hx hb dX1_step_46 rfl (lv_at hl 0 rfl) ?_
          obtain ⟨o20, ho20, h⟩ := mbind_n h
          refine u_get hC hP (uGR_n ho20) rfl in_X1 (by decide) q222 (fun _ h => h) dX1_step_47 ?_
          obtain ⟨a21, ha21, hha21⟩ := mbind_n h
          subst ha21
          have h := hha21
          obtain ⟨o22, ho22, h⟩ := mbind_n h
          refine u_getN hC hP (uGR_n ho22) rfl in_X14 (by decide) q1154 (fun _ h => h) dX1_step_50 ?_
          refine lv_iload_n hx hb dX1_step_53 rfl (lv_at hl 2 rfl) ?_
          obtain ⟨a23, ha23, hha23⟩ := mbind_n h
          subst ha23
          have h := hha23
          obtain ⟨o24, ho24, h⟩ := mbind_n h
          refine u_aald hC hP ho24 rfl dX1_step_54 ?_
          refine lv_iload_n hx hb dX1_step_55 rfl (lv_at hl 3 rfl) ?_
          refine u_aload_n (r := some a0) hx hb dX1_step_56 rfl (lv_at hl 0 rfl) ?_
          obtain ⟨y25, hy25, h⟩ := mbind_n h
          refine u_get hC hP (uGI_n hy25) rfl in_X1 (by decide) q218 (fun _ h => h) dX1_step_57 ?_
          obtain ⟨a26, ha26, hha26⟩ := mbind_n h
          subst ha26
          have h := hha26
          obtain ⟨c27, h⟩ := mif_n h
          obtain ⟨r30, u28, c29, h⟩ := ucall_n h
          have zu28 := zz_X14_why N (ub G) (ug G) u15 a26 x1 o24 x3 y25 r30 u28 c29
          refine u_calli (va_runV (As := [.int x1, va_rf o24, .int x3, .int y25]) (rest := []) hC.1 (met_X14_why l N G u15 a26 x1 o24 x3 y25 r30 u28 c29) (cwV 4 hts (lw_V q1260 q1261 q1262 q131 q1263) rfl rfl rfl (by decide +kernel) ⟨Nat.le_trans (Nat.le_of_ble_eq_true rfl) hR.1, Nat.le_trans (Nat.le_of_ble_eq_true rfl) hR.2⟩) ⟨uPc_blind, u_rcv hC hP c27 rfl, fun U hU hW => u_pre hC hP hS hU hW⟩ rfl rfl hl.1 rfl (lv_room (Nat.le_of_ble_eq_true rfl)) dX1_step_60 ⟨Nat.zero_le _, Nat.zero_le _⟩) hS (fun H locs hP hS => ?_)
          refine lv_istore (lv' := [(5, .int r30), (0, va_rf (some a0)), (1, .int x1), (2, .int x2), (3, .int x3), (4, .int x4)]) hx hb dX1_step_63 hl (by decide) rfl (fun ls hl => ?_)
          refine u_aload_n (r := some a0) hx hb dX1_step_65 rfl (lv_at hl 1 rfl) ?_
          refine lv_iload hx hb dX1_step_66 (lv_at hl 5 rfl) ?_
          refine lv_if_ne (tgt := 76) hx hb dX1_step_68 (by decide) (fun c31 => ?_) (fun c31 => ?_)
          · have h := mif_f c31 h
            refine lv_iload hx hb dX1_step_76 (lv_at hl 5 rfl) ?_
            refine lv_iconst (v := 1) hx hb dX1_step_78 (by decide) ?_
            refine lv_icmp_ne (tgt := 92) hx hb dX1_step_79 (by decide) (fun c32 => ?_) (fun c32 => ?_)
            · have h := mif_f c32 h
              refine lv_iload hx hb dX1_step_92 (lv_at hl 5 rfl) ?_
              refine lv_iconst (v := 2) hx hb dX1_step_94 (by decide) ?_
              refine lv_icmp_ne (tgt := 108) hx hb dX1_step_95 (by decide) (fun c33 => ?_) (fun c33 => ?_)
              · have h := mif_f c33 h
                refine u_aload_n (r := some a0) hx hb dX1_step_108 rfl (lv_at hl 1 rfl) ?_
                obtain ⟨o34, ho34, h⟩ := mbind_n h
                refine u_get hC hP (uGR_n ho34) rfl in_X1 (by decide) q222 (fun _ h => h) dX1_step_109 ?_
                obtain ⟨a35, ha35, hha35⟩ := mbind_n h
                subst ha35
                have h := hha35
                obtain ⟨y36, hy36, h⟩ := mbind_n h
                refine u_getN hC hP (uGI_n hy36) rfl in_X14 (by decide) q1162 (fun _ h => h) dX1_step_112 ?_
                exact w_X1_step_115 hC hR N u28 y36 (some a0) h hP hS (lv_sub hl [] rfl)
              · have h := mif_t c33 h
                refine u_aload_n (r := some a0) hx hb dX1_step_98 rfl (lv_at hl 1 rfl) ?_
                obtain ⟨o37, ho37, h⟩ := mbind_n h
                refine u_get hC hP (uGR_n ho37) rfl in_X1 (by decide) q222 (fun _ h => h) dX1_step_99 ?_
                obtain ⟨a38, ha38, hha38⟩ := mbind_n h
                subst ha38
                have h := hha38
                obtain ⟨y39, hy39, h⟩ := mbind_n h
                refine u_getN hC hP (uGI_n hy39) rfl in_X14 (by decide) q1158 (fun _ h => h) dX1_step_102 ?_
                refine lv_goto (tgt := 115) hx hb dX1_step_105 (by decide) ?_
                exact w_X1_step_115 hC hR N u28 y39 (some a0) h hP hS (lv_sub hl [] rfl)
            · have h := mif_t c32 h
              refine u_aload_n (r := some a0) hx hb dX1_step_82 rfl (lv_at hl 1 rfl) ?_
              obtain ⟨o40, ho40, h⟩ := mbind_n h
              refine u_get hC hP (uGR_n ho40) rfl in_X1 (by decide) q222 (fun _ h => h) dX1_step_83 ?_
              obtain ⟨a41, ha41, hha41⟩ := mbind_n h
              subst ha41
              have h := hha41
              obtain ⟨y42, hy42, h⟩ := mbind_n h
              refine u_getN hC hP (uGI_n hy42) rfl in_X14 (by decide) q1156 (fun _ h => h) dX1_step_86 ?_
              refine lv_goto (tgt := 115) hx hb dX1_step_89 (by decide) ?_
              exact w_X1_step_115 hC hR N u28 y42 (some a0) h hP hS (lv_sub hl [] rfl)
          · have h := mif_t c31 h
            refine lv_iload hx hb dX1_step_71 (lv_at hl 0 rfl) ?_
            refine lv_goto (tgt := 115) hx hb dX1_step_73 (by decide) ?_
            exact w_X1_step_115 hC hR N u28 r30 (some a0) h hP hS (lv_sub hl [] rfl)
        · have h := mif_t c18 h
          exact w_X1_step_35 hC hR N u15 h hP hS (lv_sub hl [0] rfl)
theorem zz_X1_step (N b : Nat) (g : uEnv) (u : UH) (a0 : Nat) (x1 : Int32) (x2 : Int32) (x3 : Int32) (x4 : Int32) (r : Int32) (uf : UH) (h : f_X1_step N b g u a0 x1 x2 x3 x4 = some (r, uf)) : uf.1 = u.1 ∧ uf.2.1 = u.2.1 :=
  zz_X1_step_0 (G := ((fun _ => 0, fun _ _ => 0), fun _ => 0, b, g)) (a0 := a0) N u x1 x2 x3 x4 h
theorem met_X1_step (l : Launch) (N : Nat) (G : uG) (u : UH) (a0 : Nat) (x1 : Int32) (x2 : Int32) (x3 : Int32) (x4 : Int32) (r : Int32) (uf : UH) (h : f_X1_step N (ub G) (ug G) u a0 x1 x2 x3 x4 = some (r, uf)) : Met l yX1_step (ws_ yX1_step cX1_step 6 (some .int)) ({ frames := 4, cells := 0, slots := 0, locals := 95 }) (uPc G u [.ref a0, .int x1, .int x2, .int x3, .int x4]) (uQi G r uf) 0 0 (uA G) := by
  exact u_met (own := RX1) (by decide +kernel) rfl (Nat.le_of_ble_eq_true rfl) (fun hC hn hsz ls hl hP => w_X1_step_0 hC ⟨Nat.le_refl _, Nat.le_refl _⟩ N u x1 x2 x3 x4 h hP va_S.rf hl)
def f_X1_told_16 (N b : Nat) (g : uEnv) (a0 : Nat) (u : UH) : Option (Int32 × UH) :=
    if uIs u a0 0 = true then
    ucall (f_X1_denied N b g u a0 1) fun r4 u2 =>
    if uFit .boolean r4 = true then
    some (r4, u2)
    else none
    else none
set_option maxHeartbeats 4000000 in
set_option maxRecDepth 100000 in
theorem zz_X1_told_16 {G : uG} {a0 : Nat} {uf : UH} {r : Int32} (N : Nat) (u : UH) (h : f_X1_told_16 N (ub G) (ug G) a0 u = some (r, uf)) : uf.1 = u.1 ∧ uf.2.1 = u.2.1 := by
  unfold f_X1_told_16 at h
  obtain ⟨c1, h⟩ := mif_n h
  obtain ⟨r4, u2, c3, h⟩ := ucall_n h
  have zu2 := zz_X1_denied N (ub G) (ug G) u a0 1 r4 u2 c3
  obtain ⟨c5, h⟩ := mif_n h
  obtain ⟨hr1, hr2⟩ := uret_n h
  subst hr2
  exact ⟨by omega, by omega⟩
set_option maxHeartbeats 4000000 in
set_option maxRecDepth 100000 in
theorem w_X1_told_16 {p : Program} {l : Launch} {e : Env} {R : Room} {s : State} {m : MethodId} {args : Array Value} {below : List Frame} {meth : Method} {c : Code} {G : uG} {a0 : Nat} {uf : UH} {r : Int32} (hC : uC p s m args meth c G RX1 cX1_told 4 (some .boolean)) (hR : 3 ≤ R.frames ∧ 64 ≤ R.locals) (N : Nat) (u : UH) (h : f_X1_told_16 N (ub G) (ug G) a0 u = some (r, uf)) {H : Heap} {locs : List Loc} (hP : uP G u H) (hS : va_S (uA G) s.heap H locs) {ls : Array Slot} (hl : lv_has ls 4 [(0, va_rf (some a0))]) : W p l e R s m args below meth c H locs 0 0 (MQ below (uQi G r uf) args s 0 0 (uA G)) (F0 m 16 ls []) := by
  obtain ⟨⟨hx, hb, hml, hown, hts⟩, hKK⟩ := id hC
  unfold f_X1_told_16 at h
  refine u_aload_n (r := some a0) hx hb dX1_told_16 rfl (lv_at hl 0 rfl) ?_
  refine lv_iconst (v := 1) hx hb dX1_told_17 (by decide) ?_
  obtain ⟨c1, h⟩ := mif_n h
  obtain ⟨r4, u2, c3, h⟩ := ucall_n h
  have zu2 := zz_X1_denied N (ub G) (ug G) u a0 1 r4 u2 c3
  refine u_calli (va_runV (As := [.int 1]) (rest := []) hC.1 (met_X1_denied l N G u a0 1 r4 u2 c3) (cwV 1 hts (lw_V q1101 q1103 qs16 q98 q1104) rfl rfl rfl (by decide +kernel) ⟨Nat.le_trans (Nat.le_of_ble_eq_true rfl) hR.1, Nat.le_trans (Nat.le_of_ble_eq_true rfl) hR.2⟩) ⟨uPc_blind, u_rcv hC hP c1 rfl, fun U hU hW => u_pre hC hP hS hU hW⟩ rfl rfl hl.1 rfl (lv_room (Nat.le_of_ble_eq_true rfl)) dX1_told_18 ⟨Nat.zero_le _, Nat.zero_le _⟩) hS (fun H locs hP hS => ?_)
  obtain ⟨c5, h⟩ := mif_n h
  obtain ⟨hr1, hr2⟩ := uret_n h
  subst hr1
  subst hr2
  exact u_zret hC (uFit_n c5).1 hP hS dX1_told_21
def f_X1_told (N b : Nat) (g : uEnv) (u : UH) (a0 : Nat) (x1 : Int32) (x2 : Int32) : Option (Int32 × UH) :=
    if uIs u a0 0 = true then
    ucall (f_X1_isDoubt N b g u a0 x1) fun r4 u2 =>
    if r4 = 0 then
    f_X1_told_16 N b g a0 u2
    else
    if uIs u2 a0 0 = true then
    ucall (f_X1_isGround N b g u2 a0 x2) fun r9 u7 =>
    if r9 = 0 then
    f_X1_told_16 N b g a0 u7
    else
    (uGR u7 a0 0 7).bind fun o11 =>
    (o11).bind fun a12 =>
    (uGR u7 a12 12 6).bind fun o13 =>
    (o13).bind fun a14 =>
    if uIs u7 a14 18 = true then
    ucall (f_J2_get N b g u7 a14 x1) fun o18 u16 =>
    (o18).bind fun a19 =>
    if uIs u16 a19 13 = true then
    (uGR u16 a19 13 1).bind fun o21 =>
    (o21).bind fun a22 =>
    (uLdI u16 a22 0 x2).bind fun y23 =>
    if y23 = 0 then
    if uIs u16 a0 0 = true then
    ucall (f_X1_denied N b g u16 a0 5) fun r34 u32 =>
    if uFit .boolean r34 = true then
    some (r34, u32)
    else none
    else none
    else
    (uPut b u16 a19 13 2 (.int x2)).bind fun u25 =>
    if uIs u25 a0 0 = true then
    ucall (f_X1_granted N b g u25 a0) fun r29 u27 =>
    if uFit .boolean r29 = true then
    some (r29, u27)
    else none
    else none
    else none
    else none
    else none
    else none
set_option maxHeartbeats 4000000 in
set_option maxRecDepth 100000 in
theorem zz_X1_told_0 {G : uG} {a0 : Nat} {uf : UH} {r : Int32} (N : Nat) (u : UH) (x1 : Int32) (x2 : Int32) (h : f_X1_told N (ub G) (ug G) u a0 x1 x2 = some (r, uf)) : uf.1 = u.1 ∧ uf.2.1 = u.2.1 := by
  unfold f_X1_told at h
  obtain ⟨c1, h⟩ := mif_n h
  obtain ⟨r4, u2, c3, h⟩ := ucall_n h
  have zu2 := zz_X1_isDoubt N (ub G) (ug G) u a0 x1 r4 u2 c3
  by_cases c5 : r4 = 0
  · have h := mif_t c5 h
    have hq := zz_X1_told_16 (G := G) (a0 := a0) N u2 h
    exact ⟨by omega, by omega⟩
  · have h := mif_f c5 h
    obtain ⟨c6, h⟩ := mif_n h
    obtain ⟨r9, u7, c8, h⟩ := ucall_n h
    have zu7 := zz_X1_isGround N (ub G) (ug G) u2 a0 x2 r9 u7 c8
    by_cases c10 : r9 = 0
    · have h := mif_t c10 h
      have hq := zz_X1_told_16 (G := G) (a0 := a0) N u7 h
      exact ⟨by omega, by omega⟩
    · have h := mif_f c10 h
      obtain ⟨o11, ho11, h⟩ := mbind_n h
      obtain ⟨a12, ha12, hha12⟩ := mbind_n h
      subst ha12
      have h := hha12
      obtain ⟨o13, ho13, h⟩ := mbind_n h
      obtain ⟨a14, ha14, hha14⟩ := mbind_n h
      subst ha14
      have h := hha14
      obtain ⟨c15, h⟩ := mif_n h
      obtain ⟨o18, u16, c17, h⟩ := ucall_n h
      have zu16 := zz_J2_get N (ub G) (ug G) u7 a14 x1 o18 u16 c17
      obtain ⟨a19, ha19, hha19⟩ := mbind_n h
      subst ha19
      have h := hha19
      obtain ⟨c20, h⟩ := mif_n h
      obtain ⟨o21, ho21, h⟩ := mbind_n h
      obtain ⟨a22, ha22, hha22⟩ := mbind_n h
      subst ha22
      have h := hha22
      obtain ⟨y23, hy23, h⟩ := mbind_n h
      by_cases c24 : y23 = 0
      · have h := mif_t c24 h
        obtain ⟨c31, h⟩ := mif_n h
        obtain ⟨r34, u32, c33, h⟩ := ucall_n h
        have zu32 := zz_X1_denied N (ub G) (ug G) u16 a0 5 r34 u32 c33
        obtain ⟨c35, h⟩ := mif_n h
        obtain ⟨hr1, hr2⟩ := uret_n h
        subst hr2
        exact ⟨by omega, by omega⟩
      · have h := mif_f c24 h
        obtain ⟨u25, hu25, h⟩ := mbind_n h
        have zu25 := uPut_sz hu25
        obtain ⟨c26, h⟩ := mif_n h
        obtain ⟨r29, u27, c28, h⟩ := ucall_n h
        have zu27 := zz_X1_granted N (ub G) (ug G) u25 a0 r29 u27 c28
        obtain ⟨c30, h⟩ := mif_n h
        obtain ⟨hr1, hr2⟩ := uret_n h
        subst hr2
        exact ⟨by omega, by omega⟩
set_option maxHeartbeats 4000000 in
set_option maxRecDepth 100000 in
theorem w_X1_told_0 {p : Program} {l : Launch} {e : Env} {R : Room} {s : State} {m : MethodId} {args : Array Value} {below : List Frame} {meth : Method} {c : Code} {G : uG} {a0 : Nat} {uf : UH} {r : Int32} (hC : uC p s m args meth c G RX1 cX1_told 4 (some .boolean)) (hR : 3 ≤ R.frames ∧ 64 ≤ R.locals) (N : Nat) (u : UH) (x1 : Int32) (x2 : Int32) (h : f_X1_told N (ub G) (ug G) u a0 x1 x2 = some (r, uf)) {H : Heap} {locs : List Loc} (hP : uP G u H) (hS : va_S (uA G) s.heap H locs) {ls : Array Slot} (hl : lv_has ls 4 [(0, va_rf (some a0)), (1, .int x1), (2, .int x2)]) : W p l e R s m args below meth c H locs 0 0 (MQ below (uQi G r uf) args s 0 0 (uA G)) (F0 m 0 ls []) := by
  obtain ⟨⟨hx, hb, hml, hown, hts⟩, hKK⟩ := id hC
  unfold f_X1_told at h
  refine u_aload_n (r := some a0) hx hb dX1_told_0 rfl (lv_at hl 0 rfl) ?_
  refine lv_iload_n hx hb dX1_told_1 rfl (lv_at hl 1 rfl) ?_
  obtain ⟨c1, h⟩ := mif_n h
  obtain ⟨r4, u2, c3, h⟩ := ucall_n h
  have zu2 := zz_X1_isDoubt N (ub G) (ug G) u a0 x1 r4 u2 c3
  refine u_calli (va_runV (As := [.int x1]) (rest := []) hC.1 (met_X1_isDoubt l N G u a0 x1 r4 u2 c3) (cwV 1 hts (lw_V q1236 q1238 qs19 q98 q1239) rfl rfl rfl (by decide +kernel) ⟨Nat.le_trans (Nat.le_of_ble_eq_true rfl) hR.1, Nat.le_trans (Nat.le_of_ble_eq_true rfl) hR.2⟩) ⟨uPc_blind, u_rcv hC hP c1 rfl, fun U hU hW => u_pre hC hP hS hU hW⟩ rfl rfl hl.1 rfl (lv_room (Nat.le_of_ble_eq_true rfl)) dX1_told_2 ⟨Nat.zero_le _, Nat.zero_le _⟩) hS (fun H locs hP hS => ?_)
  refine lv_if_eq (tgt := 16) hx hb dX1_told_5 (by decide) (fun c5 => ?_) (fun c5 => ?_)
  · have h := mif_t c5 h
    exact w_X1_told_16 hC hR N u2 h hP hS (lv_sub hl [0] rfl)
  · have h := mif_f c5 h
    refine u_aload_n (r := some a0) hx hb dX1_told_8 rfl (lv_at hl 0 rfl) ?_
    refine lv_iload_n hx hb dX1_told_9 rfl (lv_at hl 2 rfl) ?_
    obtain ⟨c6, h⟩ := mif_n h
    obtain ⟨r9, u7, c8, h⟩ := ucall_n h
    have zu7 := zz_X1_isGround N (ub G) (ug G) u2 a0 x2 r9 u7 c8
    refine u_calli (va_runV (As := [.int x2]) (rest := []) hC.1 (met_X1_isGround l N G u2 a0 x2 r9 u7 c8) (cwV 1 hts (lw_V q1080 q1082 qs15 q98 q1083) rfl rfl rfl (by decide +kernel) ⟨Nat.le_trans (Nat.le_of_ble_eq_true rfl) hR.1, Nat.le_trans (Nat.le_of_ble_eq_true rfl) hR.2⟩) ⟨uPc_blind, u_rcv hC hP c6 rfl, fun U hU hW => u_pre hC hP hS hU hW⟩ rfl rfl hl.1 rfl (lv_room (Nat.le_of_ble_eq_true rfl)) dX1_told_10 ⟨Nat.zero_le _, Nat.zero_le _⟩) hS (fun H locs hP hS => ?_)
    refine lv_if_ne (tgt := 22) hx hb dX1_told_13 (by decide) (fun c10 => ?_) (fun c10 => ?_)
    · have h := mif_f c10 h
      refine u_aload_n (r := some a0) hx hb dX1_told_22 rfl (lv_at hl 0 rfl) ?_
      obtain ⟨o11, ho11, h⟩ := mbind_n h
      refine u_get hC hP (uGR_n ho11) rfl in_X1 (by decide) q222 (fun _ h => h) dX1_told_23 ?_
      obtain ⟨a12, ha12, hha12⟩ := mbind_n h
      subst ha12
      have h := hha12
      obtain ⟨o13, ho13, h⟩ := mbind_n h
      refine u_getN hC hP (uGR_n ho13) rfl in_X14 (by decide) q1151 (fun _ h => h) dX1_told_26 ?_
      refine lv_iload_n hx hb dX1_told_29 rfl (lv_at hl 1 rfl) ?_
      obtain ⟨a14, ha14, hha14⟩ := mbind_n h
      subst ha14
      have h := hha14
      obtain ⟨c15, h⟩ := mif_n h
      obtain ⟨o18, u16, c17, h⟩ := ucall_n h
      have zu16 := zz_J2_get N (ub G) (ug G) u7 a14 x1 o18 u16 c17
      refine u_callr (va_runV (As := [.int x1]) (rest := []) hC.1 (met_J2_get l N G u7 a14 x1 o18 u16 c17) (cwV 1 hts (lw_V q1084 q898 q899 q102 q900) rfl rfl rfl (by decide +kernel) ⟨Nat.le_trans (Nat.le_of_ble_eq_true rfl) hR.1, Nat.le_trans (Nat.le_of_ble_eq_true rfl) hR.2⟩) ⟨uPc_blind, u_rcv hC hP c15 rfl, fun U hU hW => u_pre hC hP hS hU hW⟩ rfl rfl hl.1 rfl (lv_room (Nat.le_of_ble_eq_true rfl)) dX1_told_30 ⟨Nat.zero_le _, Nat.zero_le _⟩) hS (fun H locs hP hS => ?_)
      obtain ⟨a19, ha19, hha19⟩ := mbind_n h
      subst ha19
      have h := hha19
      obtain ⟨c20, h⟩ := mif_n h
      refine u_castS hC hP c20 rfl q1206 dX1_told_33 ?_
      refine u_astore_n (r := some a19) (lv' := [(3, va_rf (some a19)), (0, va_rf (some a0)), (1, .int x1), (2, .int x2)]) hx hb dX1_told_36 rfl hl (by decide) rfl (fun ls hl => ?_)
      refine u_aload_n (r := some a19) hx hb dX1_told_37 rfl (lv_at hl 0 rfl) ?_
      obtain ⟨o21, ho21, h⟩ := mbind_n h
      refine u_getN hC hP (uGR_n ho21) rfl in_X15 (by decide) q1219 (fun _ h => h) dX1_told_38 ?_
      refine lv_iload_n hx hb dX1_told_41 rfl (lv_at hl 3 rfl) ?_
      obtain ⟨a22, ha22, hha22⟩ := mbind_n h
      subst ha22
      have h := hha22
      obtain ⟨y23, hy23, h⟩ := mbind_n h
      refine u_iald hC hP hy23 rfl dX1_told_42 ?_
      refine lv_if_ne (tgt := 52) hx hb dX1_told_43 (by decide) (fun c24 => ?_) (fun c24 => ?_)
      · have h := mif_f c24 h
        refine u_aload_n (r := some a19) hx hb dX1_told_52 rfl (lv_at hl 0 rfl) ?_
        refine lv_iload_n hx hb dX1_told_53 rfl (lv_at hl 3 rfl) ?_
        obtain ⟨u25, hu25, h⟩ := mbind_n h
        have zu25 := uPut_sz hu25
        refine u_putN hC hP hS hu25 rfl in_X15 tyX15 tyX15_ok nmX15 (by decide) q1223 (fun _ h => h) rfl (ty := .int) (tyX15_ok 2 (by decide)) rfl rfl dX1_told_54 (fun H locs hP hS => ?_)
        refine u_aload_n (r := some a0) hx hb dX1_told_57 rfl (lv_at hl 1 rfl) ?_
        obtain ⟨c26, h⟩ := mif_n h
        obtain ⟨r29, u27, c28, h⟩ := ucall_n h
        have zu27 := zz_X1_granted N (ub G) (ug G) u25 a0 r29 u27 c28
        refine u_calli (va_runV (As := []) (rest := []) hC.1 (met_X1_granted l N G u25 a0 r29 u27 c28) (cwV 0 hts (lw_V q1105 q1107 qs17 q98 q1108) rfl rfl rfl (by decide +kernel) ⟨Nat.le_trans (Nat.le_of_ble_eq_true rfl) hR.1, Nat.le_trans (Nat.le_of_ble_eq_true rfl) hR.2⟩) ⟨uPc_blind, u_rcv hC hP c26 rfl, fun U hU hW => u_pre hC hP hS hU hW⟩ rfl rfl hl.1 rfl (lv_room (Nat.le_of_ble_eq_true rfl)) dX1_told_58 ⟨Nat.zero_le _, Nat.zero_le _⟩) hS (fun H locs hP hS => ?_)
        obtain ⟨c30, h⟩ := mif_n h
        obtain ⟨hr1, hr2⟩ := uret_n h
        subst hr1
        subst hr2
        exact u_zret hC (uFit_n c30).1 hP hS dX1_told_61
      · have h := mif_t c24 h
        refine u_aload_n (r := some a0) hx hb dX1_told_46 rfl (lv_at hl 1 rfl) ?_
        refine lv_iconst (v := 5) hx hb dX1_told_47 (by decide) ?_
        obtain ⟨c31, h⟩ := mif_n h
        obtain ⟨r34, u32, c33, h⟩ := ucall_n h
        have zu32 := zz_X1_denied N (ub G) (ug G) u16 a0 5 r34 u32 c33
        refine u_calli (va_runV (As := [.int 5]) (rest := []) hC.1 (met_X1_denied l N G u16 a0 5 r34 u32 c33) (cwV 1 hts (lw_V q1101 q1103 qs16 q98 q1104) rfl rfl rfl (by decide +kernel) ⟨Nat.le_trans (Nat.le_of_ble_eq_true rfl) hR.1, Nat.le_trans (Nat.le_of_ble_eq_true rfl) hR.2⟩) ⟨uPc_blind, u_rcv hC hP c31 rfl, fun U hU hW => u_pre hC hP hS hU hW⟩ rfl rfl hl.1 rfl (lv_room (Nat.le_of_ble_eq_true rfl)) dX1_told_48 ⟨Nat.zero_le _, Nat.zero_le _⟩) hS (fun H locs hP hS => ?_)
        obtain ⟨c35, h⟩ := mif_n h
        obtain ⟨hr1, hr2⟩ := uret_n h
        subst hr1
        subst hr2
        exact u_zret hC (uFit_n c35).1 hP hS dX1_told_51
    · have h := mif_t c10 h
      exact w_X1_told_16 hC hR N u7 h hP hS (lv_sub hl [0] rfl)
theorem zz_X1_told (N b : Nat) (g : uEnv) (u : UH) (a0 : Nat) (x1 : Int32) (x2 : Int32) (r : Int32) (uf : UH) (h : f_X1_told N b g u a0 x1 x2 = some (r, uf)) : uf.1 = u.1 ∧ uf.2.1 = u.2.1 :=
  zz_X1_told_0 (G := ((fun _ => 0, fun _ _ => 0), fun _ => 0, b, g)) (a0 := a0) N u x1 x2 h
theorem met_X1_told (l : Launch) (N : Nat) (G : uG) (u : UH) (a0 : Nat) (x1 : Int32) (x2 : Int32) (r : Int32) (uf : UH) (h : f_X1_told N (ub G) (ug G) u a0 x1 x2 = some (r, uf)) : Met l yX1_told (ws_ yX1_told cX1_told 4 (some .boolean)) ({ frames := 3, cells := 0, slots := 0, locals := 64 }) (uPc G u [.ref a0, .int x1, .int x2]) (uQi G r uf) 0 0 (uA G) := by
  exact u_met (own := RX1) (by decide +kernel) rfl (Nat.le_of_ble_eq_true rfl) (fun hC hn hsz ls hl hP => w_X1_told_0 hC ⟨Nat.le_refl _, Nat.le_refl _⟩ N u x1 x2 h hP va_S.rf hl)
def f_X1_truths_18 (N b : Nat) (g : uEnv) (a0 : Nat) (u : UH) (s0 : Int32) : Option (Int32 × UH) :=
    some (s0, u)
set_option maxHeartbeats 4000000 in
set_option maxRecDepth 100000 in
theorem zz_X1_truths_18 {G : uG} {a0 : Nat} {uf : UH} {r : Int32} (N : Nat) (u : UH) (s0 : Int32) (h : f_X1_truths_18 N (ub G) (ug G) a0 u s0 = some (r, uf)) : uf.1 = u.1 ∧ uf.2.1 = u.2.1 := by
  unfold f_X1_truths_18 at h
  obtain ⟨hr1, hr2⟩ := uret_n h
  subst hr2
  exact ⟨by omega, by omega⟩
set_option maxHeartbeats 4000000 in
set_option maxRecDepth 100000 in
theorem w_X1_truths_18 {p : Program} {l : Launch} {e : Env} {R : Room} {s : State} {m : MethodId} {args : Array Value} {below : List Frame} {meth : Method} {c : Code} {G : uG} {a0 : Nat} {uf : UH} {r : Int32} (hC : uC p s m args meth c G RX1 cX1_truths 1 (some .int)) (hR : 4 ≤ R.frames ∧ 86 ≤ R.locals) (N : Nat) (u : UH) (s0 : Int32) (h : f_X1_truths_18 N (ub G) (ug G) a0 u s0 = some (r, uf)) {H : Heap} {locs : List Loc} (hP : uP G u H) (hS : va_S (uA G) s.heap H locs) {ls : Array Slot} (hl : lv_has ls 1 []) : W p l e R s m args below meth c H locs 0 0 (MQ below (uQi G r uf) args s 0 0 (uA G)) (F0 m 18 ls [.int s0]) := by
  obtain ⟨⟨hx, hb, hml, hown, hts⟩, hKK⟩ := id hC
  unfold f_X1_truths_18 at h
  obtain ⟨hr1, hr2⟩ := uret_n h
  subst hr1
  subst hr2
  exact u_iret hC hP hS dX1_truths_18
def f_X1_truths (N b : Nat) (g : uEnv) (u : UH) (a0 : Nat) : Option (Int32 × UH) :=
    (uGR u a0 0 7).bind fun o1 =>
    ucase o1 (
    f_X1_truths_18 N b g a0 u 0) fun a2 =>
    (uGR u a0 0 7).bind fun o3 =>
    (o3).bind fun a4 =>
    if uIs u a4 12 = true then
    ucall (f_X14_truths N b g u a4) fun r8 u6 =>
    f_X1_truths_18 N b g a0 u6 r8
    else none
set_option maxHeartbeats 4000000 in
set_option maxRecDepth 100000 in
theorem zz_X1_truths_0 {G : uG} {a0 : Nat} {uf : UH} {r : Int32} (N : Nat) (u : UH) (h : f_X1_truths N (ub G) (ug G) u a0 = some (r, uf)) : uf.1 = u.1 ∧ uf.2.1 = u.2.1 := by
  unfold f_X1_truths at h
  obtain ⟨o1, ho1, h⟩ := mbind_n h
  rcases o1 with _ | a2
  · have h := ucase_n h
    have hq := zz_X1_truths_18 (G := G) (a0 := a0) N u 0 h
    exact ⟨by omega, by omega⟩
  · have h := ucase_s h
    obtain ⟨o3, ho3, h⟩ := mbind_n h
    obtain ⟨a4, ha4, hha4⟩ := mbind_n h
    subst ha4
    have h := hha4
    obtain ⟨c5, h⟩ := mif_n h
    obtain ⟨r8, u6, c7, h⟩ := ucall_n h
    have zu6 := zz_X14_truths N (ub G) (ug G) u a4 r8 u6 c7
    have hq := zz_X1_truths_18 (G := G) (a0 := a0) N u6 r8 h
    exact ⟨by omega, by omega⟩
set_option maxHeartbeats 4000000 in
set_option maxRecDepth 100000 in
theorem w_X1_truths_0 {p : Program} {l : Launch} {e : Env} {R : Room} {s : State} {m : MethodId} {args : Array Value} {below : List Frame} {meth : Method} {c : Code} {G : uG} {a0 : Nat} {uf : UH} {r : Int32} (hC : uC p s m args meth c G RX1 cX1_truths 1 (some .int)) (hR : 4 ≤ R.frames ∧ 86 ≤ R.locals) (N : Nat) (u : UH) (h : f_X1_truths N (ub G) (ug G) u a0 = some (r, uf)) {H : Heap} {locs : List Loc} (hP : uP G u H) (hS : va_S (uA G) s.heap H locs) {ls : Array Slot} (hl : lv_has ls 1 [(0, va_rf (some a0))]) : W p l e R s m args below meth c H locs 0 0 (MQ below (uQi G r uf) args s 0 0 (uA G)) (F0 m 0 ls []) := by
  obtain ⟨⟨hx, hb, hml, hown, hts⟩, hKK⟩ := id hC
  unfold f_X1_truths at h
  refine u_aload_n (r := some a0) hx hb dX1_truths_0 rfl (lv_at hl 0 rfl) ?_
  obtain ⟨o1, ho1, h⟩ := mbind_n h
  refine u_get hC hP (uGR_n ho1) rfl in_X1 (by decide) q222 (fun _ h => h) dX1_truths_1 ?_
  rcases o1 with _ | a2
  · have h := ucase_n h
    refine lv_ifnonnullN hx hb dX1_truths_4 ?_
    refine lv_iconst (v := 0) hx hb dX1_truths_7 (by decide) ?_
    refine lv_goto (tgt := 18) hx hb dX1_truths_8 (by decide) ?_
    exact w_X1_truths_18 hC hR N u 0 h hP hS (lv_sub hl [] rfl)
  · have h := ucase_s h
    refine lv_ifnonnull (tgt := 11) hx hb dX1_truths_4 (by decide) ?_
    refine u_aload_n (r := some a0) hx hb dX1_truths_11 rfl (lv_at hl 0 rfl) ?_
    obtain ⟨o3, ho3, h⟩ := mbind_n h
    refine u_get hC hP (uGR_n ho3) rfl in_X1 (by decide) q222 (fun _ h => h) dX1_truths_12 ?_
    obtain ⟨a4, ha4, hha4⟩ := mbind_n h
    subst ha4
    have h := hha4
    obtain ⟨c5, h⟩ := mif_n h
    obtain ⟨r8, u6, c7, h⟩ := ucall_n h
    have zu6 := zz_X14_truths N (ub G) (ug G) u a4 r8 u6 c7
    refine u_calli (va_runV (As := []) (rest := []) hC.1 (met_X14_truths l N G u a4 r8 u6 c7) (cwV 0 hts (lw_V q1465 q1466 q1467 q131 q1468) rfl rfl rfl (by decide +kernel) ⟨Nat.le_trans (Nat.le_of_ble_eq_true rfl) hR.1, Nat.le_trans (Nat.le_of_ble_eq_true rfl) hR.2⟩) ⟨uPc_blind, u_rcv hC hP c5 rfl, fun U hU hW => u_pre hC hP hS hU hW⟩ rfl rfl hl.1 rfl (lv_room (Nat.le_of_ble_eq_true rfl)) dX1_truths_15 ⟨Nat.zero_le _, Nat.zero_le _⟩) hS (fun H locs hP hS => ?_)
    exact w_X1_truths_18 hC hR N u6 r8 h hP hS (lv_sub hl [] rfl)
theorem zz_X1_truths (N b : Nat) (g : uEnv) (u : UH) (a0 : Nat) (r : Int32) (uf : UH) (h : f_X1_truths N b g u a0 = some (r, uf)) : uf.1 = u.1 ∧ uf.2.1 = u.2.1 :=
  zz_X1_truths_0 (G := ((fun _ => 0, fun _ _ => 0), fun _ => 0, b, g)) (a0 := a0) N u h
theorem met_X1_truths (l : Launch) (N : Nat) (G : uG) (u : UH) (a0 : Nat) (r : Int32) (uf : UH) (h : f_X1_truths N (ub G) (ug G) u a0 = some (r, uf)) : Met l yX1_truths (ws_ yX1_truths cX1_truths 1 (some .int)) ({ frames := 4, cells := 0, slots := 0, locals := 86 }) (uPc G u [.ref a0]) (uQi G r uf) 0 0 (uA G) := by
  exact u_met (own := RX1) (by decide +kernel) rfl (Nat.le_of_ble_eq_true rfl) (fun hC hn hsz ls hl hP => w_X1_truths_0 hC ⟨Nat.le_refl _, Nat.le_refl _⟩ N u h hP va_S.rf hl)
def f_X1_weigh_16 (N b : Nat) (g : uEnv) (a0 : Nat) (u : UH) : Option (Int32 × UH) :=
    if uIs u a0 0 = true then
    ucall (f_X1_denied N b g u a0 1) fun r4 u2 =>
    if uFit .boolean r4 = true then
    some (r4, u2)
    else none
    else none
set_option maxHeartbeats 4000000 in
set_option maxRecDepth 100000 in
theorem zz_X1_weigh_16 {G : uG} {a0 : Nat} {uf : UH} {r : Int32} (N : Nat) (u : UH) (h : f_X1_weigh_16 N (ub G) (ug G) a0 u = some (r, uf)) : uf.1 = u.1 ∧ uf.2.1 = u.2.1 := by
  unfold f_X1_weigh_16 at h
  obtain ⟨c1, h⟩ := mif_n h
  obtain ⟨r4, u2, c3, h⟩ := ucall_n h
  have zu2 := zz_X1_denied N (ub G) (ug G) u a0 1 r4 u2 c3
  obtain ⟨c5, h⟩ := mif_n h
  obtain ⟨hr1, hr2⟩ := uret_n h
  subst hr2
  exact ⟨by omega, by omega⟩
set_option maxHeartbeats 4000000 in
set_option maxRecDepth 100000 in
theorem w_X1_weigh_16 {p : Program} {l : Launch} {e : Env} {R : Room} {s : State} {m : MethodId} {args : Array Value} {below : List Frame} {meth : Method} {c : Code} {G : uG} {a0 : Nat} {uf : UH} {r : Int32} (hC : uC p s m args meth c G RX1 cX1_weigh 6 (some .boolean)) (hR : 3 ≤ R.frames ∧ 64 ≤ R.locals) (N : Nat) (u : UH) (h : f_X1_weigh_16 N (ub G) (ug G) a0 u = some (r, uf)) {H : Heap} {locs : List Loc} (hP : uP G u H) (hS : va_S (uA G) s.heap H locs) {ls : Array Slot} (hl : lv_has ls 6 [(0, va_rf (some a0))]) : W p l e R s m args below meth c H locs 0 0 (MQ below (uQi G r uf) args s 0 0 (uA G)) (F0 m 16 ls []) := by
  obtain ⟨⟨hx, hb, hml, hown, hts⟩, hKK⟩ := id hC
  unfold f_X1_weigh_16 at h
  refine u_aload_n (r := some a0) hx hb dX1_weigh_16 rfl (lv_at hl 0 rfl) ?_
  refine lv_iconst (v := 1) hx hb dX1_weigh_17 (by decide) ?_
  obtain ⟨c1, h⟩ := mif_n h
  obtain ⟨r4, u2, c3, h⟩ := ucall_n h
  have zu2 := zz_X1_denied N (ub G) (ug G) u a0 1 r4 u2 c3
  refine u_calli (va_runV (As := [.int 1]) (rest := []) hC.1 (met_X1_denied l N G u a0 1 r4 u2 c3) (cwV 1 hts (lw_V q1101 q1103 qs16 q98 q1104) rfl rfl rfl (by decide +kernel) ⟨Nat.le_trans (Nat.le_of_ble_eq_true rfl) hR.1, Nat.le_trans (Nat.le_of_ble_eq_true rfl) hR.2⟩) ⟨uPc_blind, u_rcv hC hP c1 rfl, fun U hU hW => u_pre hC hP hS hU hW⟩ rfl rfl hl.1 rfl (lv_room (Nat.le_of_ble_eq_true rfl)) dX1_weigh_18 ⟨Nat.zero_le _, Nat.zero_le _⟩) hS (fun H locs hP hS => ?_)
  obtain ⟨c5, h⟩ := mif_n h
  obtain ⟨hr1, hr2⟩ := uret_n h
  subst hr1
  subst hr2
  exact u_zret hC (uFit_n c5).1 hP hS dX1_weigh_21
def f_X1_weigh_97 (N b : Nat) (g : uEnv) (a0 : Nat) (u : UH) (x2 : Int32) (x4 : Option Nat) (x5 : Int32) : Option (Int32 × UH) :=
    (x4).bind fun a1 =>
    (uGR u a1 13 1).bind fun o2 =>
    (o2).bind fun a3 =>
    (uStI b u a3 0 x2 x5).bind fun u4 =>
    if uIs u4 a0 0 = true then
    ucall (f_X1_denied N b g u4 a0 5) fun r8 u6 =>
    if uFit .boolean r8 = true then
    some (r8, u6)
    else none
    else none
set_option maxHeartbeats 4000000 in
set_option maxRecDepth 100000 in
theorem zz_X1_weigh_97 {G : uG} {a0 : Nat} {uf : UH} {r : Int32} (N : Nat) (u : UH) (x2 : Int32) (x4 : Option Nat) (x5 : Int32) (h : f_X1_weigh_97 N (ub G) (ug G) a0 u x2 x4 x5 = some (r, uf)) : uf.1 = u.1 ∧ uf.2.1 = u.2.1 := by
  unfold f_X1_weigh_97 at h
  obtain ⟨a1, ha1, hha1⟩ := mbind_n h
  subst ha1
  have h := hha1
  obtain ⟨o2, ho2, h⟩ := mbind_n h
  obtain ⟨a3, ha3, hha3⟩ := mbind_n h
  subst ha3
  have h := hha3
  obtain ⟨u4, hu4, h⟩ := mbind_n h
  have zu4 := uStI_sz hu4
  obtain ⟨c5, h⟩ := mif_n h
  obtain ⟨r8, u6, c7, h⟩ := ucall_n h
  have zu6 := zz_X1_denied N (ub G) (ug G) u4 a0 5 r8 u6 c7
  obtain ⟨c9, h⟩ := mif_n h
  obtain ⟨hr1, hr2⟩ := uret_n h
  subst hr2
  exact ⟨by omega, by omega⟩
set_option maxHeartbeats 4000000 in
set_option maxRecDepth 100000 in
theorem w_X1_weigh_97 {p : Program} {l : Launch} {e : Env} {R : Room} {s : State} {m : MethodId} {args : Array Value} {below : List Frame} {meth : Method} {c : Code} {G : uG} {a0 : Nat} {uf : UH} {r : Int32} (hC : uC p s m args meth c G RX1 cX1_weigh 6 (some .boolean)) (hR : 3 ≤ R.frames ∧ 64 ≤ R.locals) (N : Nat) (u : UH) (x2 : Int32) (x4 : Option Nat) (x5 : Int32) (h : f_X1_weigh_97 N (ub G) (ug G) a0 u x2 x4 x5 = some (r, uf)) {H : Heap} {locs : List Loc} (hP : uP G u H) (hS : va_S (uA G) s.heap H locs) {ls : Array Slot} (hl : lv_has ls 6 [(0, va_rf (some a0)), (2, .int x2), (4, va_rf x4), (5, .int x5)]) : W p l e R s m args below meth c H locs 0 0 (MQ below (uQi G r uf) args s 0 0 (uA G)) (F0 m 97 ls []) := by
  obtain ⟨⟨hx, hb, hml, hown, hts⟩, hKK⟩ := id hC
  unfold f_X1_weigh_97 at h
  refine u_aload (r := x4) hx hb dX1_weigh_97 (lv_at hl 2 rfl) ?_
  obtain ⟨a1, ha1, hha1⟩ := mbind_n h
  subst ha1
  have h := hha1
  obtain ⟨o2, ho2, h⟩ := mbind_n h
  refine u_getN hC hP (uGR_n ho2) rfl in_X15 (by decide) q1219 (fun _ h => h) dX1_weigh_99 ?_
  refine lv_iload_n hx hb dX1_weigh_102 rfl (lv_at hl 1 rfl) ?_
  refine lv_iload hx hb dX1_weigh_103 (lv_at hl 3 rfl) ?_
  obtain ⟨a3, ha3, hha3⟩ := mbind_n h
  subst ha3
  have h := hha3
  obtain ⟨u4, hu4, h⟩ := mbind_n h
  have zu4 := uStI_sz hu4
  refine u_iast hC hP hS hu4 rfl dX1_weigh_105 (fun H locs hP hS => ?_)
  refine u_aload_n (r := some a0) hx hb dX1_weigh_106 rfl (lv_at hl 0 rfl) ?_
  refine lv_iconst (v := 5) hx hb dX1_weigh_107 (by decide) ?_
  obtain ⟨c5, h⟩ := mif_n h
  obtain ⟨r8, u6, c7, h⟩ := ucall_n h
  have zu6 := zz_X1_denied N (ub G) (ug G) u4 a0 5 r8 u6 c7
  refine u_calli (va_runV (As := [.int 5]) (rest := []) hC.1 (met_X1_denied l N G u4 a0 5 r8 u6 c7) (cwV 1 hts (lw_V q1101 q1103 qs16 q98 q1104) rfl rfl rfl (by decide +kernel) ⟨Nat.le_trans (Nat.le_of_ble_eq_true rfl) hR.1, Nat.le_trans (Nat.le_of_ble_eq_true rfl) hR.2⟩) ⟨uPc_blind, u_rcv hC hP c5 rfl, fun U hU hW => u_pre hC hP hS hU hW⟩ rfl rfl hl.1 rfl (lv_room (Nat.le_of_ble_eq_true rfl)) dX1_weigh_108 ⟨Nat.zero_le _, Nat.zero_le _⟩) hS (fun H locs hP hS => ?_)
  obtain ⟨c9, h⟩ := mif_n h
  obtain ⟨hr1, hr2⟩ := uret_n h
  subst hr1
  subst hr2
  exact u_zret hC (uFit_n c9).1 hP hS dX1_weigh_111
def f_X1_weigh_112 (N b : Nat) (g : uEnv) (a0 : Nat) (u : UH) : Option (Int32 × UH) :=
    if uIs u a0 0 = true then
    ucall (f_X1_granted N b g u a0) fun r4 u2 =>
    if uFit .boolean r4 = true then
    some (r4, u2)
    else none
    else none
set_option maxHeartbeats 4000000 in
set_option maxRecDepth 100000 in
theorem zz_X1_weigh_112 {G : uG} {a0 : Nat} {uf : UH} {r : Int32} (N : Nat) (u : UH) (h : f_X1_weigh_112 N (ub G) (ug G) a0 u = some (r, uf)) : uf.1 = u.1 ∧ uf.2.1 = u.2.1 := by
  unfold f_X1_weigh_112 at h
  obtain ⟨c1, h⟩ := mif_n h
  obtain ⟨r4, u2, c3, h⟩ := ucall_n h
  have zu2 := zz_X1_granted N (ub G) (ug G) u a0 r4 u2 c3
  obtain ⟨c5, h⟩ := mif_n h
  obtain ⟨hr1, hr2⟩ := uret_n h
  subst hr2
  exact ⟨by omega, by omega⟩
set_option maxHeartbeats 4000000 in
set_option maxRecDepth 100000 in
theorem w_X1_weigh_112 {p : Program} {l : Launch} {e : Env} {R : Room} {s : State} {m : MethodId} {args : Array Value} {below : List Frame} {meth : Method} {c : Code} {G : uG} {a0 : Nat} {uf : UH} {r : Int32} (hC : uC p s m args meth c G RX1 cX1_weigh 6 (some .boolean)) (hR : 3 ≤ R.frames ∧ 64 ≤ R.locals) (N : Nat) (u : UH) (h : f_X1_weigh_112 N (ub G) (ug G) a0 u = some (r, uf)) {H : Heap} {locs : List Loc} (hP : uP G u H) (hS : va_S (uA G) s.heap H locs) {ls : Array Slot} (hl : lv_has ls 6 [(0, va_rf (some a0))]) : W p l e R s m args below meth c H locs 0 0 (MQ below (uQi G r uf) args s 0 0 (uA G)) (F0 m 112 ls []) := by
  obtain ⟨⟨hx, hb, hml, hown, hts⟩, hKK⟩ := id hC
  unfold f_X1_weigh_112 at h
  refine u_aload_n (r := some a0) hx hb dX1_weigh_112 rfl (lv_at hl 0 rfl) ?_
  obtain ⟨c1, h⟩ := mif_n h
  obtain ⟨r4, u2, c3, h⟩ := ucall_n h
  have zu2 := zz_X1_granted N (ub G) (ug G) u a0 r4 u2 c3
  refine u_calli (va_runV (As := []) (rest := []) hC.1 (met_X1_granted l N G u a0 r4 u2 c3) (cwV 0 hts (lw_V q1105 q1107 qs17 q98 q1108) rfl rfl rfl (by decide +kernel) ⟨Nat.le_trans (Nat.le_of_ble_eq_true rfl) hR.1, Nat.le_trans (Nat.le_of_ble_eq_true rfl) hR.2⟩) ⟨uPc_blind, u_rcv hC hP c1 rfl, fun U hU hW => u_pre hC hP hS hU hW⟩ rfl rfl hl.1 rfl (lv_room (Nat.le_of_ble_eq_true rfl)) dX1_weigh_113 ⟨Nat.zero_le _, Nat.zero_le _⟩) hS (fun H locs hP hS => ?_)
  obtain ⟨c5, h⟩ := mif_n h
  obtain ⟨hr1, hr2⟩ := uret_n h
  subst hr1
  subst hr2
  exact u_zret hC (uFit_n c5).1 hP hS dX1_weigh_116
def f_X1_weigh (N b : Nat) (g : uEnv) (u : UH) (a0 : Nat) (x1 : Int32) (x2 : Int32) (x3 : Int32) : Option (Int32 × UH) :=
    if uIs u a0 0 = true then
    ucall (f_X1_isDoubt N b g u a0 x1) fun r4 u2 =>
    if r4 = 0 then
    f_X1_weigh_16 N b g a0 u2
    else
    if uIs u2 a0 0 = true then
    ucall (f_X1_isGround N b g u2 a0 x2) fun r9 u7 =>
    if r9 = 0 then
    f_X1_weigh_16 N b g a0 u7
    else
    ucall (f_X1_in N b g u7 x3 0 9) fun r13 u11 =>
    if r13 = 0 then
    if uIs u11 a0 0 = true then
    ucall (f_X1_denied N b g u11 a0 2) fun r45 u43 =>
    if uFit .boolean r45 = true then
    some (r45, u43)
    else none
    else none
    else
    (uGR u11 a0 0 7).bind fun o15 =>
    (o15).bind fun a16 =>
    (uGR u11 a16 12 6).bind fun o17 =>
    (o17).bind fun a18 =>
    if uIs u11 a18 18 = true then
    ucall (f_J2_get N b g u11 a18 x1) fun o22 u20 =>
    (o22).bind fun a23 =>
    if uIs u20 a23 13 = true then
    (uGR u20 a23 13 1).bind fun o25 =>
    (o25).bind fun a26 =>
    (uLdI u20 a26 0 x2).bind fun y27 =>
    (uGR u20 a23 13 1).bind fun o28 =>
    (o28).bind fun a29 =>
    (uStI b u20 a29 0 x2 x3).bind fun u30 =>
    if uIs u30 a23 13 = true then
    ucall (f_X15_kinds N b g u30 a23) fun r34 u32 =>
    ucall (f_X1_in N b g u32 r34 1 3) fun r37 u35 =>
    if r37 = 0 then
    f_X1_weigh_97 N b g a0 u35 x2 (some a23) y27
    else
    if x3 = 0 then
    (uGI u35 a23 13 2).bind fun y40 =>
    if y40 = x2 then
    f_X1_weigh_97 N b g a0 u35 x2 (some a23) y27
    else
    f_X1_weigh_112 N b g a0 u35
    else
    f_X1_weigh_112 N b g a0 u35
    else none
    else none
    else none
    else none
    else none
set_option maxHeartbeats 4000000 in
set_option maxRecDepth 100000 in
theorem zz_X1_weigh_0 {G : uG} {a0 : Nat} {uf : UH} {r : Int32} (N : Nat) (u : UH) (x1 : Int32) (x2 : Int32) (x3 : Int32) (h : f_X1_weigh N (ub G) (ug G) u a0 x1 x2 x3 = some (r, uf)) : uf.1 = u.1 ∧ uf.2.1 = u.2.1 := by
  unfold f_X1_weigh at h
  obtain ⟨c1, h⟩ := mif_n h
  obtain ⟨r4, u2, c3, h⟩ := ucall_n h
  have zu2 := zz_X1_isDoubt N (ub G) (ug G) u a0 x1 r4 u2 c3
  by_cases c5 : r4 = 0
  · have h := mif_t c5 h
    have hq := zz_X1_weigh_16 (G := G) (a0 := a0) N u2 h
    exact ⟨by omega, by omega⟩
  · have h := mif_f c5 h
    obtain ⟨c6, h⟩ := mif_n h
    obtain ⟨r9, u7, c8, h⟩ := ucall_n h
    have zu7 := zz_X1_isGround N (ub G) (ug G) u2 a0 x2 r9 u7 c8
    by_cases c10 : r9 = 0
    · have h := mif_t c10 h
      have hq := zz_X1_weigh_16 (G := G) (a0 := a0) N u7 h
      exact ⟨by omega, by omega⟩
    · have h := mif_f c10 h
      obtain ⟨r13, u11, c12, h⟩ := ucall_n h
      have zu11 := zz_X1_in N (ub G) (ug G) u7 x3 0 9 r13 u11 c12
      by_cases c14 : r13 = 0
      · have h := mif_t c14 h
        obtain ⟨c42, h⟩ := mif_n h
        obtain ⟨r45, u43, c44, h⟩ := ucall_n h
        have zu43 := zz_X1_denied N (ub G) (ug G) u11 a0 2 r45 u43 c44
        obtain ⟨c46, h⟩ := mif_n h
        obtain ⟨hr1, hr2⟩ := uret_n h
        subst hr2
        exact ⟨by omega, by omega⟩
      · have h := mif_f c14 h
        obtain ⟨o15, ho15, h⟩ := mbind_n h
        obtain ⟨a16, ha16, hha16⟩ := mbind_n h
        subst ha16
        have h := hha16
        obtain ⟨o17, ho17, h⟩ := mbind_n h
        obtain ⟨a18, ha18, hha18⟩ := mbind_n h
        subst ha18
        have h := hha18
        obtain ⟨c19, h⟩ := mif_n h
        obtain ⟨o22, u20, c21, h⟩ := ucall_n h
        have zu20 := zz_J2_get N (ub G) (ug G) u11 a18 x1 o22 u20 c21
        obtain ⟨a23, ha23, hha23⟩ := mbind_n h
        subst ha23
        have h := hha23
        obtain ⟨c24, h⟩ := mif_n h
        obtain ⟨o25, ho25, h⟩ := mbind_n h
        obtain ⟨a26, ha26, hha26⟩ := mbind_n h
        subst ha26
        have h := hha26
        obtain ⟨y27, hy27, h⟩ := mbind_n h
        obtain ⟨o28, ho28, h⟩ := mbind_n h
        obtain ⟨a29, ha29, hha29⟩ := mbind_n h
        subst ha29
        have h := hha29
        obtain ⟨u30, hu30, h⟩ := mbind_n h
        have zu30 := uStI_sz hu30
        obtain ⟨c31, h⟩ := mif_n h
        obtain ⟨r34, u32, c33, h⟩ := ucall_n h
        have zu32 := zz_X15_kinds N (ub G) (ug G) u30 a23 r34 u32 c33
        obtain ⟨r37, u35, c36, h⟩ := ucall_n h
        have zu35 := zz_X1_in N (ub G) (ug G) u32 r34 1 3 r37 u35 c36
        by_cases c38 : r37 = 0
        · have h := mif_t c38 h
          have hq := zz_X1_weigh_97 (G := G) (a0 := a0) N u35 x2 (some a23) y27 h
          exact ⟨by omega, by omega⟩
        · have h := mif_f c38 h
          by_cases c39 : x3 = 0
          · have h := mif_t c39 h
            obtain ⟨y40, hy40, h⟩ := mbind_n h
            by_cases c41 : y40 = x2
            · have h := mif_t c41 h
              have hq := zz_X1_weigh_97 (G := G) (a0 := a0) N u35 x2 (some a23) y27 h
              exact ⟨by omega, by omega⟩
            · have h := mif_f c41 h
              have hq := zz_X1_weigh_112 (G := G) (a0 := a0) N u35 h
              exact ⟨by omega, by omega⟩
          · have h := mif_f c39 h
            have hq := zz_X1_weigh_112 (G := G) (a0 := a0) N u35 h
            exact ⟨by omega, by omega⟩
set_option maxHeartbeats 4000000 in
set_option maxRecDepth 100000 in
theorem w_X1_weigh_0 {p : Program} {l : Launch} {e : Env} {R : Room} {s : State} {m : MethodId} {args : Array Value} {below : List Frame} {meth : Method} {c : Code} {G : uG} {a0 : Nat} {uf : UH} {r : Int32} (hC : uC p s m args meth c G RX1 cX1_weigh 6 (some .boolean)) (hR : 3 ≤ R.frames ∧ 64 ≤ R.locals) (N : Nat) (u : UH) (x1 : Int32) (x2 : Int32) (x3 : Int32) (h : f_X1_weigh N (ub G) (ug G) u a0 x1 x2 x3 = some (r, uf)) {H : Heap} {locs : List Loc} (hP : uP G u H) (hS : va_S (uA G) s.heap H locs) {ls : Array Slot} (hl : lv_has ls 6 [(0, va_rf (some a0)), (1, .int x1), (2, .int x2), (3, .int x3)]) : W p l e R s m args below meth c H locs 0 0 (MQ below (uQi G r uf) args s 0 0 (uA G)) (F0 m 0 ls []) := by
  obtain ⟨⟨hx, hb, hml, hown, hts⟩, hKK⟩ := id hC
  unfold f_X1_weigh at h
  refine u_aload_n (r := some a0) hx hb dX1_weigh_0 rfl (lv_at hl 0 rfl) ?_
  refine lv_iload_n hx hb dX1_weigh_1 rfl (lv_at hl 1 rfl) ?_
  obtain ⟨c1, h⟩ := mif_n h
  obtain ⟨r4, u2, c3, h⟩ := ucall_n h
  have zu2 := zz_X1_isDoubt N (ub G) (ug G) u a0 x1 r4 u2 c3
  refine u_calli (va_runV (As := [.int x1]) (rest := []) hC.1 (met_X1_isDoubt l N G u a0 x1 r4 u2 c3) (cwV 1 hts (lw_V q1236 q1238 qs19 q98 q1239) rfl rfl rfl (by decide +kernel) ⟨Nat.le_trans (Nat.le_of_ble_eq_true rfl) hR.1, Nat.le_trans (Nat.le_of_ble_eq_true rfl) hR.2⟩) ⟨uPc_blind, u_rcv hC hP c1 rfl, fun U hU hW => u_pre hC hP hS hU hW⟩ rfl rfl hl.1 rfl (lv_room (Nat.le_of_ble_eq_true rfl)) dX1_weigh_2 ⟨Nat.zero_le _, Nat.zero_le _⟩) hS (fun H locs hP hS => ?_)
  refine lv_if_eq (tgt := 16) hx hb dX1_weigh_5 (by decide) (fun c5 => ?_) (fun c5 => ?_)
  · have h := mif_t c5 h
    exact w_X1_weigh_16 hC hR N u2 h hP hS (lv_sub hl [0] rfl)
  · have h := mif_f c5 h
    refine u_aload_n (r := some a0) hx hb dX1_weigh_8 rfl (lv_at hl 0 rfl) ?_
    refine lv_iload_n hx hb dX1_weigh_9 rfl (lv_at hl 2 rfl) ?_
    obtain ⟨c6, h⟩ := mif_n h
    obtain ⟨r9, u7, c8, h⟩ := ucall_n h
    have zu7 := zz_X1_isGround N (ub G) (ug G) u2 a0 x2 r9 u7 c8
    refine u_calli (va_runV (As := [.int x2]) (rest := []) hC.1 (met_X1_isGround l N G u2 a0 x2 r9 u7 c8) (cwV 1 hts (lw_V q1080 q1082 qs15 q98 q1083) rfl rfl rfl (by decide +kernel) ⟨Nat.le_trans (Nat.le_of_ble_eq_true rfl) hR.1, Nat.le_trans (Nat.le_of_ble_eq_true rfl) hR.2⟩) ⟨uPc_blind, u_rcv hC hP c6 rfl, fun U hU hW => u_pre hC hP hS hU hW⟩ rfl rfl hl.1 rfl (lv_room (Nat.le_of_ble_eq_true rfl)) dX1_weigh_10 ⟨Nat.zero_le _, Nat.zero_le _⟩) hS (fun H locs hP hS => ?_)
    refine lv_if_ne (tgt := 22) hx hb dX1_weigh_13 (by decide) (fun c10 => ?_) (fun c10 => ?_)
    · have h := mif_f c10 h
      refine lv_iload_n hx hb dX1_weigh_22 rfl (lv_at hl 3 rfl) ?_
      refine lv_iconst (v := 0) hx hb dX1_weigh_23 (by decide) ?_
      refine lv_bipush (v := 9) hx hb dX1_weigh_24 (by decide) ?_
      obtain ⟨r13, u11, c12, h⟩ := ucall_n h
      have zu11 := zz_X1_in N (ub G) (ug G) u7 x3 0 9 r13 u11 c12
      refine u_calli (va_runS (As := [.int x3, .int 0, .int 9]) (rest := []) hC.1 (met_X1_in l N G u7 x3 0 9 r13 u11 c12) (va_cwS 3 hts (lw_S q273 q274 q98 q275) rfl rfl rfl (by decide +kernel) ⟨Nat.le_trans (Nat.le_of_ble_eq_true rfl) hR.1, Nat.le_trans (Nat.le_of_ble_eq_true rfl) hR.2⟩) ⟨uPc_blind, fun U hU hW => u_pre hC hP hS hU hW⟩ rfl rfl hl.1 rfl (lv_room (Nat.le_of_ble_eq_true rfl)) dX1_weigh_26 ⟨Nat.zero_le _, Nat.zero_le _⟩) hS (fun H locs hP hS => ?_)
      refine lv_if_ne (tgt := 38) hx hb dX1_weigh_29 (by decide) (fun c14 => ?_) (fun c14 => ?_)
      · have h := mif_f c14 h
        refine u_aload_n (r := some a0) hx hb dX1_weigh_38 rfl (lv_at hl 0 rfl) ?_
        obtain ⟨o15, ho15, h⟩ := mbind_n h
        refine u_get hC hP (uGR_n ho15) rfl in_X1 (by decide) q222 (fun _ h => h) dX1_weigh_39 ?_
        obtain ⟨a16, ha16, hha16⟩ := mbind_n h
        subst ha16
        have h := hha16
        obtain ⟨o17, ho17, h⟩ := mbind_n h
        refine u_getN hC hP (uGR_n ho17) rfl in_X14 (by decide) q1151 (fun _ h => h) dX1_weigh_42 ?_
        refine lv_iload_n hx hb dX1_weigh_45 rfl (lv_at hl 1 rfl) ?_
        obtain ⟨a18, ha18, hha18⟩ := mbind_n h
        subst ha18
        have h := hha18
        obtain ⟨c19, h⟩ := mif_n h
        obtain ⟨o22, u20, c21, h⟩ := ucall_n h
        have zu20 := zz_J2_get N (ub G) (ug G) u11 a18 x1 o22 u20 c21
        refine u_callr (va_runV (As := [.int x1]) (rest := []) hC.1 (met_J2_get l N G u11 a18 x1 o22 u20 c21) (cwV 1 hts (lw_V q1084 q898 q899 q102 q900) rfl rfl rfl (by decide +kernel) ⟨Nat.le_trans (Nat.le_of_ble_eq_true rfl) hR.1, Nat.le_trans (Nat.le_of_ble_eq_true rfl) hR.2⟩) ⟨uPc_blind, u_rcv hC hP c19 rfl, fun U hU hW => u_pre hC hP hS hU hW⟩ rfl rfl hl.1 rfl (lv_room (Nat.le_of_ble_eq_true rfl)) dX1_weigh_46 ⟨Nat.zero_le _, Nat.zero_le _⟩) hS (fun H locs hP hS => ?_)
        obtain ⟨a23, ha23, hha23⟩ := mbind_n h
        subst ha23
        have h := hha23
        obtain ⟨c24, h⟩ := mif_n h
        refine u_castS hC hP c24 rfl q1206 dX1_weigh_49 ?_
        refine u_astore (r := some a23) (lv' := [(4, va_rf (some a23)), (0, va_rf (some a0)), (1, .int x1), (2, .int x2), (3, .int x3)]) hx hb dX1_weigh_52 hl (by decide) rfl (fun ls hl => ?_)
        refine u_aload (r := some a23) hx hb dX1_weigh_54 (lv_at hl 0 rfl) ?_
        obtain ⟨o25, ho25, h⟩ := mbind_n h
        refine u_getN hC hP (uGR_n ho25) rfl in_X15 (by decide) q1219 (fun _ h => h) dX1_weigh_56 ?_
        refine lv_iload_n hx hb dX1_weigh_59 rfl (lv_at hl 3 rfl) ?_
        obtain ⟨a26, ha26, hha26⟩ := mbind_n h
        subst ha26
        have h := hha26
        obtain ⟨y27, hy27, h⟩ := mbind_n h
        refine u_iald hC hP hy27 rfl dX1_weigh_60 ?_
        refine lv_istore (lv' := [(5, .int y27), (4, va_rf (some a23)), (0, va_rf (some a0)), (1, .int x1), (2, .int x2), (3, .int x3)]) hx hb dX1_weigh_61 hl (by decide) rfl (fun ls hl => ?_)
        refine u_aload (r := some a23) hx hb dX1_weigh_63 (lv_at hl 1 rfl) ?_
        obtain ⟨o28, ho28, h⟩ := mbind_n h
        refine u_getN hC hP (uGR_n ho28) rfl in_X15 (by decide) q1219 (fun _ h => h) dX1_weigh_65 ?_
        refine lv_iload_n hx hb dX1_weigh_68 rfl (lv_at hl 4 rfl) ?_
        refine lv_iload_n hx hb dX1_weigh_69 rfl (lv_at hl 5 rfl) ?_
        obtain ⟨a29, ha29, hha29⟩ := mbind_n h
        subst ha29
        have h := hha29
        obtain ⟨u30, hu30, h⟩ := mbind_n h
        have zu30 := uStI_sz hu30
        refine u_iast hC hP hS hu30 rfl dX1_weigh_70 (fun H locs hP hS => ?_)
        refine u_aload (r := some a23) hx hb dX1_weigh_71 (lv_at hl 1 rfl) ?_
        obtain ⟨c31, h⟩ := mif_n h
        obtain ⟨r34, u32, c33, h⟩ := ucall_n h
        have zu32 := zz_X15_kinds N (ub G) (ug G) u30 a23 r34 u32 c33
        refine u_calli (va_runV (As := []) (rest := []) hC.1 (met_X15_kinds l N G u30 a23 r34 u32 c33) (cwV 0 hts (lw_V q1240 q1241 q1242 q132 q1243) rfl rfl rfl (by decide +kernel) ⟨Nat.le_trans (Nat.le_of_ble_eq_true rfl) hR.1, Nat.le_trans (Nat.le_of_ble_eq_true rfl) hR.2⟩) ⟨uPc_blind, u_rcv hC hP c31 rfl, fun U hU hW => u_pre hC hP hS hU hW⟩ rfl rfl hl.1 rfl (lv_room (Nat.le_of_ble_eq_true rfl)) dX1_weigh_73 ⟨Nat.zero_le _, Nat.zero_le _⟩) hS (fun H locs hP hS => ?_)
        refine lv_iconst (v := 1) hx hb dX1_weigh_76 (by decide) ?_
        refine lv_iconst (v := 3) hx hb dX1_weigh_77 (by decide) ?_
        obtain ⟨r37, u35, c36, h⟩ := ucall_n h
        have zu35 := zz_X1_in N (ub G) (ug G) u32 r34 1 3 r37 u35 c36
        refine u_calli (va_runS (As := [.int r34, .int 1, .int 3]) (rest := []) hC.1 (met_X1_in l N G u32 r34 1 3 r37 u35 c36) (va_cwS 3 hts (lw_S q273 q274 q98 q275) rfl rfl rfl (by decide +kernel) ⟨Nat.le_trans (Nat.le_of_ble_eq_true rfl) hR.1, Nat.le_trans (Nat.le_of_ble_eq_true rfl) hR.2⟩) ⟨uPc_blind, fun U hU hW => u_pre hC hP hS hU hW⟩ rfl rfl hl.1 rfl (lv_room (Nat.le_of_ble_eq_true rfl)) dX1_weigh_78 ⟨Nat.zero_le _, Nat.zero_le _⟩) hS (fun H locs hP hS => ?_)
        refine lv_if_eq (tgt := 97) hx hb dX1_weigh_81 (by decide) (fun c38 => ?_) (fun c38 => ?_)
        · have h := mif_t c38 h
          exact w_X1_weigh_97 hC hR N u35 x2 (some a23) y27 h hP hS (lv_sub hl [2, 4, 1, 0] rfl)
        · have h := mif_f c38 h
          refine lv_iload_n hx hb dX1_weigh_84 rfl (lv_at hl 5 rfl) ?_
          refine lv_if_ne (tgt := 112) hx hb dX1_weigh_85 (by decide) (fun c39 => ?_) (fun c39 => ?_)
          · have h := mif_f c39 h
            exact w_X1_weigh_112 hC hR N u35 h hP hS (lv_sub hl [2] rfl)
          · have h := mif_t c39 h
            refine u_aload (r := some a23) hx hb dX1_weigh_88 (lv_at hl 1 rfl) ?_
            obtain ⟨y40, hy40, h⟩ := mbind_n h
            refine u_getN hC hP (uGI_n hy40) rfl in_X15 (by decide) q1223 (fun _ h => h) dX1_weigh_90 ?_
            refine lv_iload_n hx hb dX1_weigh_93 rfl (lv_at hl 4 rfl) ?_
            refine lv_icmp_ne (tgt := 112) hx hb dX1_weigh_94 (by decide) (fun c41 => ?_) (fun c41 => ?_)
            · have h := mif_f c41 h
              exact w_X1_weigh_112 hC hR N u35 h hP hS (lv_sub hl [2] rfl)
            · have h := mif_t c41 h
              exact w_X1_weigh_97 hC hR N u35 x2 (some a23) y27 h hP hS (lv_sub hl [2, 4, 1, 0] rfl)
      · have h := mif_t c14 h
        refine u_aload_n (r := some a0) hx hb dX1_weigh_32 rfl (lv_at hl 0 rfl) ?_
        refine lv_iconst (v := 2) hx hb dX1_weigh_33 (by decide) ?_
        obtain ⟨c42, h⟩ := mif_n h
        obtain ⟨r45, u43, c44, h⟩ := ucall_n h
        have zu43 := zz_X1_denied N (ub G) (ug G) u11 a0 2 r45 u43 c44
        refine u_calli (va_runV (As := [.int 2]) (rest := []) hC.1 (met_X1_denied l N G u11 a0 2 r45 u43 c44) (cwV 1 hts (lw_V q1101 q1103 qs16 q98 q1104) rfl rfl rfl (by decide +kernel) ⟨Nat.le_trans (Nat.le_of_ble_eq_true rfl) hR.1, Nat.le_trans (Nat.le_of_ble_eq_true rfl) hR.2⟩) ⟨uPc_blind, u_rcv hC hP c42 rfl, fun U hU hW => u_pre hC hP hS hU hW⟩ rfl rfl hl.1 rfl (lv_room (Nat.le_of_ble_eq_true rfl)) dX1_weigh_34 ⟨Nat.zero_le _, Nat.zero_le _⟩) hS (fun H locs hP hS => ?_)
        obtain ⟨c46, h⟩ := mif_n h
        obtain ⟨hr1, hr2⟩ := uret_n h
        subst hr1
        subst hr2
        exact u_zret hC (uFit_n c46).1 hP hS dX1_weigh_37
    · have h := mif_t c10 h
      exact w_X1_weigh_16 hC hR N u7 h hP hS (lv_sub hl [0] rfl)
theorem zz_X1_weigh (N b : Nat) (g : uEnv) (u : UH) (a0 : Nat) (x1 : Int32) (x2 : Int32) (x3 : Int32) (r : Int32) (uf : UH) (h : f_X1_weigh N b g u a0 x1 x2 x3 = some (r, uf)) : uf.1 = u.1 ∧ uf.2.1 = u.2.1 :=
  zz_X1_weigh_0 (G := ((fun _ => 0, fun _ _ => 0), fun _ => 0, b, g)) (a0 := a0) N u x1 x2 x3 h
theorem met_X1_weigh (l : Launch) (N : Nat) (G : uG) (u : UH) (a0 : Nat) (x1 : Int32) (x2 : Int32) (x3 : Int32) (r : Int32) (uf : UH) (h : f_X1_weigh N (ub G) (ug G) u a0 x1 x2 x3 = some (r, uf)) : Met l yX1_weigh (ws_ yX1_weigh cX1_weigh 6 (some .boolean)) ({ frames := 3, cells := 0, slots := 0, locals := 64 }) (uPc G u [.ref a0, .int x1, .int x2, .int x3]) (uQi G r uf) 0 0 (uA G) := by
  exact u_met (own := RX1) (by decide +kernel) rfl (Nat.le_of_ble_eq_true rfl) (fun hC hn hsz ls hl hP => w_X1_weigh_0 hC ⟨Nat.le_refl _, Nat.le_refl _⟩ N u x1 x2 x3 h hP va_S.rf hl)

/-! BY gen_heap.py: X5_name X5_needs X5_needsEnd X5_whole X5_signed X9_read X4_readGround X4_readRover X4_readAttempt X4_read X1_book -/
def f_X5_name_12 (N b : Nat) (g : uEnv) (a0 : Nat) (u : UH) (s0 : Option Nat) : Option ((Nat × UH) ⊕ (Option Nat × UH)) :=
    (s0).bind fun a1 =>
    some (.inl (a1, u))
set_option maxHeartbeats 4000000 in
set_option maxRecDepth 100000 in
theorem zz_X5_name_12 {G : uG} {a0 : Nat} {z : (Nat × UH) ⊕ (Option Nat × UH)} (N : Nat) (u : UH) (s0 : Option Nat) (h : f_X5_name_12 N (ub G) (ug G) a0 u s0 = some z) : u.1 ≤ (uX1 z).1 ∧ u.2.1 ≤ (uX1 z).2.1 := by
  unfold f_X5_name_12 at h
  obtain ⟨a1, ha1, hha1⟩ := mbind_n h
  subst ha1
  have h := hha1
  have hz := Option.some.inj h
  subst hz
  exact (show u.1 ≤ u.1 ∧ u.2.1 ≤ u.2.1 from ⟨by omega, by omega⟩)
set_option maxHeartbeats 4000000 in
set_option maxRecDepth 100000 in
theorem w_X5_name_12 {p : Program} {l : Launch} {e : Env} {R : Room} {s : State} {m : MethodId} {args : Array Value} {below : List Frame} {meth : Method} {c : Code} {G : uG} {a0 : Nat} {u0 : UH} {z : (Nat × UH) ⊕ (Option Nat × UH)} (hC : uC p s m args meth c G RX5 cX5_name 1 (some (.object "java/lang/String"))) (hE : c.exceptionTable.toList = []) (hR : 6 ≤ R.frames ∧ 134 ≤ R.locals) (hRm : (uX1 z).1 - u0.1 ≤ R.cells ∧ (uX1 z).2.1 - u0.2.1 ≤ R.slots) (N : Nat) (u : UH) (s0 : Option Nat) (h : f_X5_name_12 N (ub G) (ug G) a0 u s0 = some z) (hz0 : (u0.1 ≤ u.1 ∧ u0.2.1 ≤ u.2.1)) {H : Heap} {locs : List Loc} (hP : uP G u H) (hS : va_S (uA G) s.heap H locs) {ls : Array Slot} (hl : lv_has ls 1 []) : W p l e R s m args below meth c H locs (u.1 - u0.1) (u.2.1 - u0.2.1) (uMQr below G z args s ((uX1 z).1 - u0.1) ((uX1 z).2.1 - u0.2.1)) (F0 m 12 ls [va_rf s0]) := by
  obtain ⟨⟨hx, hb, hml, hown, hts⟩, hKK⟩ := id hC
  have hzf := zz_X5_name_12 (G := G) (a0 := a0) N u s0 h
  unfold f_X5_name_12 at h
  obtain ⟨a1, ha1, hha1⟩ := mbind_n h
  subst ha1
  have h := hha1
  have hz := Option.some.inj h
  subst hz
  exact u_athrow hC (u_noE hE) hP hS dX5_name_12
def f_X5_name (N b : Nat) (g : uEnv) (u : UH) (a0 : Nat) : Option ((Nat × UH) ⊕ (Option Nat × UH)) :=
    if uIs u a0 4 = true then
    ucall (f_X5_isName N b g u a0) fun r4 u2 =>
    if r4 = 0 then
    if uIs u2 a0 4 = true then
    ucall (f_X5_fault N b g u2 a0 1) fun o10 u8 =>
    f_X5_name_12 N b g a0 u8 o10
    else none
    else
    (uGR u2 a0 4 6).bind fun o6 =>
    some (.inr (o6, u2))
    else none
set_option maxHeartbeats 4000000 in
set_option maxRecDepth 100000 in
theorem zz_X5_name_0 {G : uG} {a0 : Nat} {z : (Nat × UH) ⊕ (Option Nat × UH)} (N : Nat) (u : UH) (h : f_X5_name N (ub G) (ug G) u a0 = some z) : u.1 ≤ (uX1 z).1 ∧ u.2.1 ≤ (uX1 z).2.1 := by
  unfold f_X5_name at h
  obtain ⟨c1, h⟩ := mif_n h
  obtain ⟨r4, u2, c3, h⟩ := ucall_n h
  have zu2 := zz_X5_isName N (ub G) (ug G) u a0 r4 u2 c3
  by_cases c5 : r4 = 0
  · have h := mif_t c5 h
    obtain ⟨c7, h⟩ := mif_n h
    obtain ⟨o10, u8, c9, h⟩ := ucall_n h
    have zu8 := zz_X5_fault N (ub G) (ug G) u2 a0 1 o10 u8 c9
    have hq := zz_X5_name_12 (G := G) (a0 := a0) N u8 o10 h
    exact ⟨by omega, by omega⟩
  · have h := mif_f c5 h
    obtain ⟨o6, ho6, h⟩ := mbind_n h
    have hz := Option.some.inj h
    subst hz
    exact (show u.1 ≤ u2.1 ∧ u.2.1 ≤ u2.2.1 from ⟨by omega, by omega⟩)
set_option maxHeartbeats 4000000 in
set_option maxRecDepth 100000 in
theorem w_X5_name_0 {p : Program} {l : Launch} {e : Env} {R : Room} {s : State} {m : MethodId} {args : Array Value} {below : List Frame} {meth : Method} {c : Code} {G : uG} {a0 : Nat} {u0 : UH} {z : (Nat × UH) ⊕ (Option Nat × UH)} (hC : uC p s m args meth c G RX5 cX5_name 1 (some (.object "java/lang/String"))) (hE : c.exceptionTable.toList = []) (hR : 6 ≤ R.frames ∧ 134 ≤ R.locals) (hRm : (uX1 z).1 - u0.1 ≤ R.cells ∧ (uX1 z).2.1 - u0.2.1 ≤ R.slots) (N : Nat) (u : UH) (h : f_X5_name N (ub G) (ug G) u a0 = some z) (hz0 : (u0.1 ≤ u.1 ∧ u0.2.1 ≤ u.2.1)) {H : Heap} {locs : List Loc} (hP : uP G u H) (hS : va_S (uA G) s.heap H locs) {ls : Array Slot} (hl : lv_has ls 1 [(0, va_rf (some a0))]) : W p l e R s m args below meth c H locs (u.1 - u0.1) (u.2.1 - u0.2.1) (uMQr below G z args s ((uX1 z).1 - u0.1) ((uX1 z).2.1 - u0.2.1)) (F0 m 0 ls []) := by
  obtain ⟨⟨hx, hb, hml, hown, hts⟩, hKK⟩ := id hC
  have hzf := zz_X5_name_0 (G := G) (a0 := a0) N u h
  unfold f_X5_name at h
  refine u_aload_n (r := some a0) hx hb dX5_name_0 rfl (lv_at hl 0 rfl) ?_
  obtain ⟨c1, h⟩ := mif_n h
  obtain ⟨r4, u2, c3, h⟩ := ucall_n h
  have zu2 := zz_X5_isName N (ub G) (ug G) u a0 r4 u2 c3
  refine u_calli (va_runV (As := []) (rest := []) hC.1 (met_X5_isName l N G u a0 r4 u2 c3) (cwV 0 hts (lw_V q704 q705 q706 q105 q707) rfl rfl rfl (by decide +kernel) ⟨Nat.le_trans (Nat.le_of_ble_eq_true rfl) hR.1, Nat.le_trans (Nat.le_of_ble_eq_true rfl) hR.2⟩) ⟨uPc_blind, u_rcv hC hP c1 rfl, fun U hU hW => u_pre hC hP hS hU hW⟩ rfl rfl hl.1 rfl (lv_room (Nat.le_of_ble_eq_true rfl)) dX5_name_1 ⟨by omega, by omega⟩) hS (fun H locs hP hS => ?_)
  refine W.cs (cells' := u2.1 - u0.1) (slots' := u2.2.1 - u0.2.1) (by omega) (by omega) ?_
  refine lv_if_ne (tgt := 13) hx hb dX5_name_4 (by decide) (fun c5 => ?_) (fun c5 => ?_)
  · have h := mif_f c5 h
    refine u_aload_n (r := some a0) hx hb dX5_name_13 rfl (lv_at hl 0 rfl) ?_
    obtain ⟨o6, ho6, h⟩ := mbind_n h
    refine u_get hC hP (uGR_n ho6) rfl in_X5 (by decide) q638 (fun _ h => h) dX5_name_14 ?_
    have hz := Option.some.inj h
    subst hz
    exact u_aret hC (Or.inl ⟨_, rfl⟩) hP hS dX5_name_17
  · have h := mif_t c5 h
    refine u_aload_n (r := some a0) hx hb dX5_name_7 rfl (lv_at hl 0 rfl) ?_
    refine lv_iconst (v := 1) hx hb dX5_name_8 (by decide) ?_
    obtain ⟨c7, h⟩ := mif_n h
    obtain ⟨o10, u8, c9, h⟩ := ucall_n h
    have zu8 := zz_X5_fault N (ub G) (ug G) u2 a0 1 o10 u8 c9
    have hq := zz_X5_name_12 (G := G) (a0 := a0) N u8 o10 h
    refine u_callr (va_runV (As := [.int 1]) (rest := []) hC.1 (met_X5_fault l N G u2 a0 1 o10 u8 c9) (cwV 1 hts (lw_V q780 q781 q782 q105 q783) rfl rfl rfl (by decide +kernel) ⟨Nat.le_trans (Nat.le_of_ble_eq_true rfl) hR.1, Nat.le_trans (Nat.le_of_ble_eq_true rfl) hR.2⟩) ⟨uPc_blind, u_rcv hC hP c7 rfl, fun U hU hW => u_pre hC hP hS hU hW⟩ rfl rfl hl.1 rfl (lv_room (Nat.le_of_ble_eq_true rfl)) dX5_name_9 ⟨by omega, by omega⟩) hS (fun H locs hP hS => ?_)
    refine W.cs (cells' := u8.1 - u0.1) (slots' := u8.2.1 - u0.2.1) (by omega) (by omega) ?_
    refine W.cs (cells' := u8.1 - u0.1) (slots' := u8.2.1 - u0.2.1) (by omega) (by omega) ?_
    exact w_X5_name_12 hC hE hR hRm N u8 o10 h ⟨by omega, by omega⟩ hP hS (lv_sub hl [] rfl)
theorem zz_X5_name (N b : Nat) (g : uEnv) (u : UH) (a0 : Nat) (z : (Nat × UH) ⊕ (Option Nat × UH)) (h : f_X5_name N b g u a0 = some z) : u.1 ≤ (uX1 z).1 ∧ u.2.1 ≤ (uX1 z).2.1 :=
  zz_X5_name_0 (G := ((fun _ => 0, fun _ _ => 0), fun _ => 0, b, g)) (a0 := a0) N u h
theorem met_X5_name (l : Launch) (N : Nat) (G : uG) (u : UH) (a0 : Nat) (r : Option Nat) (uf : UH) (h : f_X5_name N (ub G) (ug G) u a0 = some (.inr (r, uf))) : Met l yX5_name (ws_ yX5_name cX5_name 1 (some (.object "java/lang/String"))) ({ frames := 6, cells := (uf.1 - u.1), slots := (uf.2.1 - u.2.1), locals := 134 }) (uPc G u [.ref a0]) (uQr G r uf) (uf.1 - u.1) (uf.2.1 - u.2.1) (uA G) := by
  exact u_metE (own := RX5) (by decide +kernel) rfl (Nat.le_of_ble_eq_true rfl) (fun hC hE hn hsz ls hl hP => W.cs (Nat.sub_self _).symm (Nat.sub_self _).symm (w_X5_name_0 hC hE ⟨Nat.le_refl _, Nat.le_refl _⟩ ⟨Nat.le_refl _, Nat.le_refl _⟩ N u h ⟨Nat.le_refl _, Nat.le_refl _⟩ hP va_S.rf hl))
theorem mex_X5_name (l : Launch) (N : Nat) (G : uG) (u : UH) (a0 : Nat) (x : Nat) (uf : UH) (h : f_X5_name N (ub G) (ug G) u a0 = some (.inl (x, uf))) : uMX l yX5_name (ws_ yX5_name cX5_name 1 (some (.object "java/lang/String"))) ({ frames := 6, cells := (uf.1 - u.1), slots := (uf.2.1 - u.2.1), locals := 134 }) G u [.ref a0] x uf (uf.1 - u.1) (uf.2.1 - u.2.1) := by
  exact u_metX (own := RX5) (by decide +kernel) rfl (Nat.le_of_ble_eq_true rfl) (fun hC hE hn hsz ls hl hP => W.cs (Nat.sub_self _).symm (Nat.sub_self _).symm (w_X5_name_0 hC hE ⟨Nat.le_refl _, Nat.le_refl _⟩ ⟨Nat.le_refl _, Nat.le_refl _⟩ N u h ⟨Nat.le_refl _, Nat.le_refl _⟩ hP va_S.rf hl))
def f_X5_needs_13 (N b : Nat) (g : uEnv) (a0 : Nat) (u : UH) (s0 : Option Nat) : Option ((Nat × UH) ⊕ (UH)) :=
    (s0).bind fun a1 =>
    some (.inl (a1, u))
set_option maxHeartbeats 4000000 in
set_option maxRecDepth 100000 in
theorem zz_X5_needs_13 {G : uG} {a0 : Nat} {z : (Nat × UH) ⊕ (UH)} (N : Nat) (u : UH) (s0 : Option Nat) (h : f_X5_needs_13 N (ub G) (ug G) a0 u s0 = some z) : u.1 ≤ (uX0 z).1 ∧ u.2.1 ≤ (uX0 z).2.1 := by
  unfold f_X5_needs_13 at h
  obtain ⟨a1, ha1, hha1⟩ := mbind_n h
  subst ha1
  have h := hha1
  have hz := Option.some.inj h
  subst hz
  exact (show u.1 ≤ u.1 ∧ u.2.1 ≤ u.2.1 from ⟨by omega, by omega⟩)
set_option maxHeartbeats 4000000 in
set_option maxRecDepth 100000 in
theorem w_X5_needs_13 {p : Program} {l : Launch} {e : Env} {R : Room} {s : State} {m : MethodId} {args : Array Value} {below : List Frame} {meth : Method} {c : Code} {G : uG} {a0 : Nat} {u0 : UH} {z : (Nat × UH) ⊕ (UH)} (hC : uC p s m args meth c G RX5 cX5_needs 2 none) (hE : c.exceptionTable.toList = []) (hR : 9 ≤ R.frames ∧ 236 ≤ R.locals) (hRm : (uX0 z).1 - u0.1 ≤ R.cells ∧ (uX0 z).2.1 - u0.2.1 ≤ R.slots) (N : Nat) (u : UH) (s0 : Option Nat) (h : f_X5_needs_13 N (ub G) (ug G) a0 u s0 = some z) (hz0 : (u0.1 ≤ u.1 ∧ u0.2.1 ≤ u.2.1)) {H : Heap} {locs : List Loc} (hP : uP G u H) (hS : va_S (uA G) s.heap H locs) {ls : Array Slot} (hl : lv_has ls 2 []) : W p l e R s m args below meth c H locs (u.1 - u0.1) (u.2.1 - u0.2.1) (uMQv below G z args s ((uX0 z).1 - u0.1) ((uX0 z).2.1 - u0.2.1)) (F0 m 13 ls [va_rf s0]) := by
  obtain ⟨⟨hx, hb, hml, hown, hts⟩, hKK⟩ := id hC
  have hzf := zz_X5_needs_13 (G := G) (a0 := a0) N u s0 h
  unfold f_X5_needs_13 at h
  obtain ⟨a1, ha1, hha1⟩ := mbind_n h
  subst ha1
  have h := hha1
  have hz := Option.some.inj h
  subst hz
  exact u_athrow hC (u_noE hE) hP hS dX5_needs_13
def f_X5_needs_5 (N b : Nat) (g : uEnv) (a0 : Nat) (u : UH) (s0 : Int32) : Option ((Nat × UH) ⊕ (UH)) :=
    if s0 = 0 then
    if uIs u a0 4 = true then
    ucall (f_X5_fault N b g u a0 1) fun o5 u3 =>
    f_X5_needs_13 N b g a0 u3 o5
    else none
    else
    some (.inr u)
set_option maxHeartbeats 4000000 in
set_option maxRecDepth 100000 in
theorem zz_X5_needs_5 {G : uG} {a0 : Nat} {z : (Nat × UH) ⊕ (UH)} (N : Nat) (u : UH) (s0 : Int32) (h : f_X5_needs_5 N (ub G) (ug G) a0 u s0 = some z) : u.1 ≤ (uX0 z).1 ∧ u.2.1 ≤ (uX0 z).2.1 := by
  unfold f_X5_needs_5 at h
  by_cases c1 : s0 = 0
  · have h := mif_t c1 h
    obtain ⟨c2, h⟩ := mif_n h
    obtain ⟨o5, u3, c4, h⟩ := ucall_n h
    have zu3 := zz_X5_fault N (ub G) (ug G) u a0 1 o5 u3 c4
    have hq := zz_X5_needs_13 (G := G) (a0 := a0) N u3 o5 h
    exact ⟨by omega, by omega⟩
  · have h := mif_f c1 h
    have hz := Option.some.inj h
    subst hz
    exact (show u.1 ≤ u.1 ∧ u.2.1 ≤ u.2.1 from ⟨by omega, by omega⟩)
set_option maxHeartbeats 4000000 in
set_option maxRecDepth 100000 in
theorem w_X5_needs_5 {p : Program} {l : Launch} {e : Env} {R : Room} {s : State} {m : MethodId} {args : Array Value} {below : List Frame} {meth : Method} {c : Code} {G : uG} {a0 : Nat} {u0 : UH} {z : (Nat × UH) ⊕ (UH)} (hC : uC p s m args meth c G RX5 cX5_needs 2 none) (hE : c.exceptionTable.toList = []) (hR : 9 ≤ R.frames ∧ 236 ≤ R.locals) (hRm : (uX0 z).1 - u0.1 ≤ R.cells ∧ (uX0 z).2.1 - u0.2.1 ≤ R.slots) (N : Nat) (u : UH) (s0 : Int32) (h : f_X5_needs_5 N (ub G) (ug G) a0 u s0 = some z) (hz0 : (u0.1 ≤ u.1 ∧ u0.2.1 ≤ u.2.1)) {H : Heap} {locs : List Loc} (hP : uP G u H) (hS : va_S (uA G) s.heap H locs) {ls : Array Slot} (hl : lv_has ls 2 [(0, va_rf (some a0))]) : W p l e R s m args below meth c H locs (u.1 - u0.1) (u.2.1 - u0.2.1) (uMQv below G z args s ((uX0 z).1 - u0.1) ((uX0 z).2.1 - u0.2.1)) (F0 m 5 ls [.int s0]) := by
  obtain ⟨⟨hx, hb, hml, hown, hts⟩, hKK⟩ := id hC
  have hzf := zz_X5_needs_5 (G := G) (a0 := a0) N u s0 h
  unfold f_X5_needs_5 at h
  refine lv_if_ne (tgt := 14) hx hb dX5_needs_5 (by decide) (fun c1 => ?_) (fun c1 => ?_)
  · have h := mif_f c1 h
    have hz := Option.some.inj h
    subst hz
    exact u_vret hC hP hS dX5_needs_14
  · have h := mif_t c1 h
    refine u_aload_n (r := some a0) hx hb dX5_needs_8 rfl (lv_at hl 0 rfl) ?_
    refine lv_iconst (v := 1) hx hb dX5_needs_9 (by decide) ?_
    obtain ⟨c2, h⟩ := mif_n h
    obtain ⟨o5, u3, c4, h⟩ := ucall_n h
    have zu3 := zz_X5_fault N (ub G) (ug G) u a0 1 o5 u3 c4
    have hq := zz_X5_needs_13 (G := G) (a0 := a0) N u3 o5 h
    refine u_callr (va_runV (As := [.int 1]) (rest := []) hC.1 (met_X5_fault l N G u a0 1 o5 u3 c4) (cwV 1 hts (lw_V q780 q781 q782 q105 q783) rfl rfl rfl (by decide +kernel) ⟨Nat.le_trans (Nat.le_of_ble_eq_true rfl) hR.1, Nat.le_trans (Nat.le_of_ble_eq_true rfl) hR.2⟩) ⟨uPc_blind, u_rcv hC hP c2 rfl, fun U hU hW => u_pre hC hP hS hU hW⟩ rfl rfl hl.1 rfl (lv_room (Nat.le_of_ble_eq_true rfl)) dX5_needs_10 ⟨by omega, by omega⟩) hS (fun H locs hP hS => ?_)
    refine W.cs (cells' := u3.1 - u0.1) (slots' := u3.2.1 - u0.2.1) (by omega) (by omega) ?_
    refine W.cs (cells' := u3.1 - u0.1) (slots' := u3.2.1 - u0.2.1) (by omega) (by omega) ?_
    exact w_X5_needs_13 hC hE hR hRm N u3 o5 h ⟨by omega, by omega⟩ hP hS (lv_sub hl [] rfl)
def f_X5_needs (N b : Nat) (g : uEnv) (u : UH) (a0 : Nat) (x1 : Option Nat) : Option ((Nat × UH) ⊕ (UH)) :=
    if uIs u a0 4 = true then
    ucall (f_X5_skips N b g u a0 x1) fun r4 u2 =>
    f_X5_needs_5 N b g a0 u2 r4
    else none
set_option maxHeartbeats 4000000 in
set_option maxRecDepth 100000 in
theorem zz_X5_needs_0 {G : uG} {a0 : Nat} {z : (Nat × UH) ⊕ (UH)} (N : Nat) (u : UH) (x1 : Option Nat) (h : f_X5_needs N (ub G) (ug G) u a0 x1 = some z) : u.1 ≤ (uX0 z).1 ∧ u.2.1 ≤ (uX0 z).2.1 := by
  unfold f_X5_needs at h
  obtain ⟨c1, h⟩ := mif_n h
  obtain ⟨r4, u2, c3, h⟩ := ucall_n h
  have zu2 := zz_X5_skips N (ub G) (ug G) u a0 x1 r4 u2 c3
  have hq := zz_X5_needs_5 (G := G) (a0 := a0) N u2 r4 h
  exact ⟨by omega, by omega⟩
set_option maxHeartbeats 4000000 in
set_option maxRecDepth 100000 in
theorem w_X5_needs_0 {p : Program} {l : Launch} {e : Env} {R : Room} {s : State} {m : MethodId} {args : Array Value} {below : List Frame} {meth : Method} {c : Code} {G : uG} {a0 : Nat} {u0 : UH} {z : (Nat × UH) ⊕ (UH)} (hC : uC p s m args meth c G RX5 cX5_needs 2 none) (hE : c.exceptionTable.toList = []) (hR : 9 ≤ R.frames ∧ 236 ≤ R.locals) (hRm : (uX0 z).1 - u0.1 ≤ R.cells ∧ (uX0 z).2.1 - u0.2.1 ≤ R.slots) (N : Nat) (u : UH) (x1 : Option Nat) (h : f_X5_needs N (ub G) (ug G) u a0 x1 = some z) (hz0 : (u0.1 ≤ u.1 ∧ u0.2.1 ≤ u.2.1)) {H : Heap} {locs : List Loc} (hP : uP G u H) (hS : va_S (uA G) s.heap H locs) {ls : Array Slot} (hl : lv_has ls 2 [(0, va_rf (some a0)), (1, va_rf x1)]) : W p l e R s m args below meth c H locs (u.1 - u0.1) (u.2.1 - u0.2.1) (uMQv below G z args s ((uX0 z).1 - u0.1) ((uX0 z).2.1 - u0.2.1)) (F0 m 0 ls []) := by
  obtain ⟨⟨hx, hb, hml, hown, hts⟩, hKK⟩ := id hC
  have hzf := zz_X5_needs_0 (G := G) (a0 := a0) N u x1 h
  unfold f_X5_needs at h
  refine u_aload_n (r := some a0) hx hb dX5_needs_0 rfl (lv_at hl 0 rfl) ?_
  refine u_aload_n (r := x1) hx hb dX5_needs_1 rfl (lv_at hl 1 rfl) ?_
  obtain ⟨c1, h⟩ := mif_n h
  obtain ⟨r4, u2, c3, h⟩ := ucall_n h
  have zu2 := zz_X5_skips N (ub G) (ug G) u a0 x1 r4 u2 c3
  have hq := zz_X5_needs_5 (G := G) (a0 := a0) N u2 r4 h
  refine u_calli (va_runV (As := [va_rf x1]) (rest := []) hC.1 (met_X5_skips l N G u a0 x1 r4 u2 c3) (cwV 1 hts (lw_V q917 q663 q664 q105 q665) rfl rfl rfl (by decide +kernel) ⟨Nat.le_trans (Nat.le_of_ble_eq_true rfl) hR.1, Nat.le_trans (Nat.le_of_ble_eq_true rfl) hR.2⟩) ⟨uPc_blind, u_rcv hC hP c1 rfl, fun U hU hW => u_pre hC hP hS hU hW⟩ rfl rfl hl.1 rfl (lv_room (Nat.le_of_ble_eq_true rfl)) dX5_needs_2 ⟨by omega, by omega⟩) hS (fun H locs hP hS => ?_)
  refine W.cs (cells' := u2.1 - u0.1) (slots' := u2.2.1 - u0.2.1) (by omega) (by omega) ?_
  refine W.cs (cells' := u2.1 - u0.1) (slots' := u2.2.1 - u0.2.1) (by omega) (by omega) ?_
  exact w_X5_needs_5 hC hE hR hRm N u2 r4 h ⟨by omega, by omega⟩ hP hS (lv_sub hl [0] rfl)
theorem zz_X5_needs (N b : Nat) (g : uEnv) (u : UH) (a0 : Nat) (x1 : Option Nat) (z : (Nat × UH) ⊕ (UH)) (h : f_X5_needs N b g u a0 x1 = some z) : u.1 ≤ (uX0 z).1 ∧ u.2.1 ≤ (uX0 z).2.1 :=
  zz_X5_needs_0 (G := ((fun _ => 0, fun _ _ => 0), fun _ => 0, b, g)) (a0 := a0) N u x1 h
theorem met_X5_needs (l : Launch) (N : Nat) (G : uG) (u : UH) (a0 : Nat) (x1 : Option Nat) (uf : UH) (h : f_X5_needs N (ub G) (ug G) u a0 x1 = some (.inr uf)) : Met l yX5_needs (ws_ yX5_needs cX5_needs 2 none) ({ frames := 9, cells := (uf.1 - u.1), slots := (uf.2.1 - u.2.1), locals := 236 }) (uPc G u [.ref a0, va_rf x1]) (uQv G uf) (uf.1 - u.1) (uf.2.1 - u.2.1) (uA G) := by
  rcases x1 with _ | x1 <;> exact u_metE (own := RX5) (by decide +kernel) rfl (Nat.le_of_ble_eq_true rfl) (fun hC hE hn hsz ls hl hP => W.cs (Nat.sub_self _).symm (Nat.sub_self _).symm (w_X5_needs_0 hC hE ⟨Nat.le_refl _, Nat.le_refl _⟩ ⟨Nat.le_refl _, Nat.le_refl _⟩ N u _ h ⟨Nat.le_refl _, Nat.le_refl _⟩ hP va_S.rf hl))
theorem mex_X5_needs (l : Launch) (N : Nat) (G : uG) (u : UH) (a0 : Nat) (x1 : Option Nat) (x : Nat) (uf : UH) (h : f_X5_needs N (ub G) (ug G) u a0 x1 = some (.inl (x, uf))) : uMX l yX5_needs (ws_ yX5_needs cX5_needs 2 none) ({ frames := 9, cells := (uf.1 - u.1), slots := (uf.2.1 - u.2.1), locals := 236 }) G u [.ref a0, va_rf x1] x uf (uf.1 - u.1) (uf.2.1 - u.2.1) := by
  rcases x1 with _ | x1 <;> exact u_metX (own := RX5) (by decide +kernel) rfl (Nat.le_of_ble_eq_true rfl) (fun hC hE hn hsz ls hl hP => W.cs (Nat.sub_self _).symm (Nat.sub_self _).symm (w_X5_needs_0 hC hE ⟨Nat.le_refl _, Nat.le_refl _⟩ ⟨Nat.le_refl _, Nat.le_refl _⟩ N u _ h ⟨Nat.le_refl _, Nat.le_refl _⟩ hP va_S.rf hl))
def f_X5_needsEnd_15 (N b : Nat) (g : uEnv) (a0 : Nat) (u : UH) (s0 : Option Nat) : Option ((Nat × UH) ⊕ (UH)) :=
    (s0).bind fun a1 =>
    some (.inl (a1, u))
set_option maxHeartbeats 4000000 in
set_option maxRecDepth 100000 in
theorem zz_X5_needsEnd_15 {G : uG} {a0 : Nat} {z : (Nat × UH) ⊕ (UH)} (N : Nat) (u : UH) (s0 : Option Nat) (h : f_X5_needsEnd_15 N (ub G) (ug G) a0 u s0 = some z) : u.1 ≤ (uX0 z).1 ∧ u.2.1 ≤ (uX0 z).2.1 := by
  unfold f_X5_needsEnd_15 at h
  obtain ⟨a1, ha1, hha1⟩ := mbind_n h
  subst ha1
  have h := hha1
  have hz := Option.some.inj h
  subst hz
  exact (show u.1 ≤ u.1 ∧ u.2.1 ≤ u.2.1 from ⟨by omega, by omega⟩)
set_option maxHeartbeats 4000000 in
set_option maxRecDepth 100000 in
theorem w_X5_needsEnd_15 {p : Program} {l : Launch} {e : Env} {R : Room} {s : State} {m : MethodId} {args : Array Value} {below : List Frame} {meth : Method} {c : Code} {G : uG} {a0 : Nat} {u0 : UH} {z : (Nat × UH) ⊕ (UH)} (hC : uC p s m args meth c G RX5 cX5_needsEnd 1 none) (hE : c.exceptionTable.toList = []) (hR : 5 ≤ R.frames ∧ 111 ≤ R.locals) (hRm : (uX0 z).1 - u0.1 ≤ R.cells ∧ (uX0 z).2.1 - u0.2.1 ≤ R.slots) (N : Nat) (u : UH) (s0 : Option Nat) (h : f_X5_needsEnd_15 N (ub G) (ug G) a0 u s0 = some z) (hz0 : (u0.1 ≤ u.1 ∧ u0.2.1 ≤ u.2.1)) {H : Heap} {locs : List Loc} (hP : uP G u H) (hS : va_S (uA G) s.heap H locs) {ls : Array Slot} (hl : lv_has ls 1 []) : W p l e R s m args below meth c H locs (u.1 - u0.1) (u.2.1 - u0.2.1) (uMQv below G z args s ((uX0 z).1 - u0.1) ((uX0 z).2.1 - u0.2.1)) (F0 m 15 ls [va_rf s0]) := by
  obtain ⟨⟨hx, hb, hml, hown, hts⟩, hKK⟩ := id hC
  have hzf := zz_X5_needsEnd_15 (G := G) (a0 := a0) N u s0 h
  unfold f_X5_needsEnd_15 at h
  obtain ⟨a1, ha1, hha1⟩ := mbind_n h
  subst ha1
  have h := hha1
  have hz := Option.some.inj h
  subst hz
  exact u_athrow hC (u_noE hE) hP hS dX5_needsEnd_15
def f_X5_needsEnd (N b : Nat) (g : uEnv) (u : UH) (a0 : Nat) : Option ((Nat × UH) ⊕ (UH)) :=
    (uGR u a0 4 5).bind fun o1 =>
    mlet (g.1 1) fun o2 =>
    if o1 = o2 then
    some (.inr u)
    else
    if uIs u a0 4 = true then
    ucall (f_X5_fault N b g u a0 1) fun o7 u5 =>
    f_X5_needsEnd_15 N b g a0 u5 o7
    else none
set_option maxHeartbeats 4000000 in
set_option maxRecDepth 100000 in
theorem zz_X5_needsEnd_0 {G : uG} {a0 : Nat} {z : (Nat × UH) ⊕ (UH)} (N : Nat) (u : UH) (h : f_X5_needsEnd N (ub G) (ug G) u a0 = some z) : u.1 ≤ (uX0 z).1 ∧ u.2.1 ≤ (uX0 z).2.1 := by
  unfold f_X5_needsEnd at h
  obtain ⟨o1, ho1, h⟩ := mbind_n h
  obtain ⟨o2, eo2⟩ : ∃ z, z = (ug G).1 1 := ⟨_, rfl⟩
  have h := mlet_at eo2 h
  by_cases c3 : o1 = o2
  · have h := mif_t c3 h
    have hz := Option.some.inj h
    subst hz
    exact (show u.1 ≤ u.1 ∧ u.2.1 ≤ u.2.1 from ⟨by omega, by omega⟩)
  · have h := mif_f c3 h
    obtain ⟨c4, h⟩ := mif_n h
    obtain ⟨o7, u5, c6, h⟩ := ucall_n h
    have zu5 := zz_X5_fault N (ub G) (ug G) u a0 1 o7 u5 c6
    have hq := zz_X5_needsEnd_15 (G := G) (a0 := a0) N u5 o7 h
    exact ⟨by omega, by omega⟩
set_option maxHeartbeats 4000000 in
set_option maxRecDepth 100000 in
theorem w_X5_needsEnd_0 {p : Program} {l : Launch} {e : Env} {R : Room} {s : State} {m : MethodId} {args : Array Value} {below : List Frame} {meth : Method} {c : Code} {G : uG} {a0 : Nat} {u0 : UH} {z : (Nat × UH) ⊕ (UH)} (hC : uC p s m args meth c G RX5 cX5_needsEnd 1 none) (hE : c.exceptionTable.toList = []) (hR : 5 ≤ R.frames ∧ 111 ≤ R.locals) (hRm : (uX0 z).1 - u0.1 ≤ R.cells ∧ (uX0 z).2.1 - u0.2.1 ≤ R.slots) (N : Nat) (u : UH) (h : f_X5_needsEnd N (ub G) (ug G) u a0 = some z) (hz0 : (u0.1 ≤ u.1 ∧ u0.2.1 ≤ u.2.1)) {H : Heap} {locs : List Loc} (hP : uP G u H) (hS : va_S (uA G) s.heap H locs) {ls : Array Slot} (hl : lv_has ls 1 [(0, va_rf (some a0))]) : W p l e R s m args below meth c H locs (u.1 - u0.1) (u.2.1 - u0.2.1) (uMQv below G z args s ((uX0 z).1 - u0.1) ((uX0 z).2.1 - u0.2.1)) (F0 m 0 ls []) := by
  obtain ⟨⟨hx, hb, hml, hown, hts⟩, hKK⟩ := id hC
  have hzf := zz_X5_needsEnd_0 (G := G) (a0 := a0) N u h
  unfold f_X5_needsEnd at h
  refine u_aload_n (r := some a0) hx hb dX5_needsEnd_0 rfl (lv_at hl 0 rfl) ?_
  obtain ⟨o1, ho1, h⟩ := mbind_n h
  refine u_get hC hP (uGR_n ho1) rfl in_X5 (by decide) q636 (fun _ h => h) dX5_needsEnd_1 ?_
  refine u_gets hC hS 1 rfl q349 (fun _ h => h) dX5_needsEnd_4 ?_
  obtain ⟨o2, eo2⟩ : ∃ z, z = (ug G).1 1 := ⟨_, rfl⟩
  have h := mlet_at eo2 h
  rw [← eo2]
  refine lv_acmp_eq (rx := o1) (ry := o2) (tgt := 16) hx hb dX5_needsEnd_7 (by decide) (fun c3 => ?_) (fun c3 => ?_)
  · have h := mif_t c3 h
    have hz := Option.some.inj h
    subst hz
    exact u_vret hC hP hS dX5_needsEnd_16
  · have h := mif_f c3 h
    refine u_aload_n (r := some a0) hx hb dX5_needsEnd_10 rfl (lv_at hl 0 rfl) ?_
    refine lv_iconst (v := 1) hx hb dX5_needsEnd_11 (by decide) ?_
    obtain ⟨c4, h⟩ := mif_n h
    obtain ⟨o7, u5, c6, h⟩ := ucall_n h
    have zu5 := zz_X5_fault N (ub G) (ug G) u a0 1 o7 u5 c6
    have hq := zz_X5_needsEnd_15 (G := G) (a0 := a0) N u5 o7 h
    refine u_callr (va_runV (As := [.int 1]) (rest := []) hC.1 (met_X5_fault l N G u a0 1 o7 u5 c6) (cwV 1 hts (lw_V q780 q781 q782 q105 q783) rfl rfl rfl (by decide +kernel) ⟨Nat.le_trans (Nat.le_of_ble_eq_true rfl) hR.1, Nat.le_trans (Nat.le_of_ble_eq_true rfl) hR.2⟩) ⟨uPc_blind, u_rcv hC hP c4 rfl, fun U hU hW => u_pre hC hP hS hU hW⟩ rfl rfl hl.1 rfl (lv_room (Nat.le_of_ble_eq_true rfl)) dX5_needsEnd_12 ⟨by omega, by omega⟩) hS (fun H locs hP hS => ?_)
    refine W.cs (cells' := u5.1 - u0.1) (slots' := u5.2.1 - u0.2.1) (by omega) (by omega) ?_
    refine W.cs (cells' := u5.1 - u0.1) (slots' := u5.2.1 - u0.2.1) (by omega) (by omega) ?_
    exact w_X5_needsEnd_15 hC hE hR hRm N u5 o7 h ⟨by omega, by omega⟩ hP hS (lv_sub hl [] rfl)
theorem zz_X5_needsEnd (N b : Nat) (g : uEnv) (u : UH) (a0 : Nat) (z : (Nat × UH) ⊕ (UH)) (h : f_X5_needsEnd N b g u a0 = some z) : u.1 ≤ (uX0 z).1 ∧ u.2.1 ≤ (uX0 z).2.1 :=
  zz_X5_needsEnd_0 (G := ((fun _ => 0, fun _ _ => 0), fun _ => 0, b, g)) (a0 := a0) N u h
theorem met_X5_needsEnd (l : Launch) (N : Nat) (G : uG) (u : UH) (a0 : Nat) (uf : UH) (h : f_X5_needsEnd N (ub G) (ug G) u a0 = some (.inr uf)) : Met l yX5_needsEnd (ws_ yX5_needsEnd cX5_needsEnd 1 none) ({ frames := 5, cells := (uf.1 - u.1), slots := (uf.2.1 - u.2.1), locals := 111 }) (uPc G u [.ref a0]) (uQv G uf) (uf.1 - u.1) (uf.2.1 - u.2.1) (uA G) := by
  exact u_metE (own := RX5) (by decide +kernel) rfl (Nat.le_of_ble_eq_true rfl) (fun hC hE hn hsz ls hl hP => W.cs (Nat.sub_self _).symm (Nat.sub_self _).symm (w_X5_needsEnd_0 hC hE ⟨Nat.le_refl _, Nat.le_refl _⟩ ⟨Nat.le_refl _, Nat.le_refl _⟩ N u h ⟨Nat.le_refl _, Nat.le_refl _⟩ hP va_S.rf hl))
theorem mex_X5_needsEnd (l : Launch) (N : Nat) (G : uG) (u : UH) (a0 : Nat) (x : Nat) (uf : UH) (h : f_X5_needsEnd N (ub G) (ug G) u a0 = some (.inl (x, uf))) : uMX l yX5_needsEnd (ws_ yX5_needsEnd cX5_needsEnd 1 none) ({ frames := 5, cells := (uf.1 - u.1), slots := (uf.2.1 - u.2.1), locals := 111 }) G u [.ref a0] x uf (uf.1 - u.1) (uf.2.1 - u.2.1) := by
  exact u_metX (own := RX5) (by decide +kernel) rfl (Nat.le_of_ble_eq_true rfl) (fun hC hE hn hsz ls hl hP => W.cs (Nat.sub_self _).symm (Nat.sub_self _).symm (w_X5_needsEnd_0 hC hE ⟨Nat.le_refl _, Nat.le_refl _⟩ ⟨Nat.le_refl _, Nat.le_refl _⟩ N u h ⟨Nat.le_refl _, Nat.le_refl _⟩ hP va_S.rf hl))
def f_X5_whole_43 (N b : Nat) (g : uEnv) (a0 : Nat) (u : UH) (x3 : Int32) : Option ((Nat × UH) ⊕ (Int32 × UH)) :=
    some (.inr (x3, u))
set_option maxHeartbeats 4000000 in
set_option maxRecDepth 100000 in
theorem zz_X5_whole_43 {G : uG} {a0 : Nat} {z : (Nat × UH) ⊕ (Int32 × UH)} (N : Nat) (u : UH) (x3 : Int32) (h : f_X5_whole_43 N (ub G) (ug G) a0 u x3 = some z) : u.1 ≤ (uX1 z).1 ∧ u.2.1 ≤ (uX1 z).2.1 := by
  unfold f_X5_whole_43 at h
  have hz := Option.some.inj h
  subst hz
  exact (show u.1 ≤ u.1 ∧ u.2.1 ≤ u.2.1 from ⟨by omega, by omega⟩)
set_option maxHeartbeats 4000000 in
set_option maxRecDepth 100000 in
theorem w_X5_whole_43 {p : Program} {l : Launch} {e : Env} {R : Room} {s : State} {m : MethodId} {args : Array Value} {below : List Frame} {meth : Method} {c : Code} {G : uG} {a0 : Nat} {u0 : UH} {z : (Nat × UH) ⊕ (Int32 × UH)} (hC : uC p s m args meth c G RX5 cX5_whole 4 (some .int)) (hE : c.exceptionTable.toList = []) (hR : 8 ≤ R.frames ∧ 214 ≤ R.locals) (hRm : (uX1 z).1 - u0.1 ≤ R.cells ∧ (uX1 z).2.1 - u0.2.1 ≤ R.slots) (N : Nat) (u : UH) (x3 : Int32) (h : f_X5_whole_43 N (ub G) (ug G) a0 u x3 = some z) (hz0 : (u0.1 ≤ u.1 ∧ u0.2.1 ≤ u.2.1)) {H : Heap} {locs : List Loc} (hP : uP G u H) (hS : va_S (uA G) s.heap H locs) {ls : Array Slot} (hl : lv_has ls 4 [(3, .int x3)]) : W p l e R s m args below meth c H locs (u.1 - u0.1) (u.2.1 - u0.2.1) (uMQi below G z args s ((uX1 z).1 - u0.1) ((uX1 z).2.1 - u0.2.1)) (F0 m 43 ls []) := by
  obtain ⟨⟨hx, hb, hml, hown, hts⟩, hKK⟩ := id hC
  have hzf := zz_X5_whole_43 (G := G) (a0 := a0) N u x3 h
  unfold f_X5_whole_43 at h
  refine lv_iload_n hx hb dX5_whole_43 rfl (lv_at hl 0 rfl) ?_
  have hz := Option.some.inj h
  subst hz
  exact u_iret hC hP hS dX5_whole_44
def f_X5_whole_33 (N b : Nat) (g : uEnv) (a0 : Nat) (u : UH) (s0 : Option Nat) : Option ((Nat × UH) ⊕ (Int32 × UH)) :=
    (s0).bind fun a1 =>
    some (.inl (a1, u))
set_option maxHeartbeats 4000000 in
set_option maxRecDepth 100000 in
theorem zz_X5_whole_33 {G : uG} {a0 : Nat} {z : (Nat × UH) ⊕ (Int32 × UH)} (N : Nat) (u : UH) (s0 : Option Nat) (h : f_X5_whole_33 N (ub G) (ug G) a0 u s0 = some z) : u.1 ≤ (uX1 z).1 ∧ u.2.1 ≤ (uX1 z).2.1 := by
  unfold f_X5_whole_33 at h
  obtain ⟨a1, ha1, hha1⟩ := mbind_n h
  subst ha1
  have h := hha1
  have hz := Option.some.inj h
  subst hz
  exact (show u.1 ≤ u.1 ∧ u.2.1 ≤ u.2.1 from ⟨by omega, by omega⟩)
set_option maxHeartbeats 4000000 in
set_option maxRecDepth 100000 in
theorem w_X5_whole_33 {p : Program} {l : Launch} {e : Env} {R : Room} {s : State} {m : MethodId} {args : Array Value} {below : List Frame} {meth : Method} {c : Code} {G : uG} {a0 : Nat} {u0 : UH} {z : (Nat × UH) ⊕ (Int32 × UH)} (hC : uC p s m args meth c G RX5 cX5_whole 4 (some .int)) (hE : c.exceptionTable.toList = []) (hR : 8 ≤ R.frames ∧ 214 ≤ R.locals) (hRm : (uX1 z).1 - u0.1 ≤ R.cells ∧ (uX1 z).2.1 - u0.2.1 ≤ R.slots) (N : Nat) (u : UH) (s0 : Option Nat) (h : f_X5_whole_33 N (ub G) (ug G) a0 u s0 = some z) (hz0 : (u0.1 ≤ u.1 ∧ u0.2.1 ≤ u.2.1)) {H : Heap} {locs : List Loc} (hP : uP G u H) (hS : va_S (uA G) s.heap H locs) {ls : Array Slot} (hl : lv_has ls 4 []) : W p l e R s m args below meth c H locs (u.1 - u0.1) (u.2.1 - u0.2.1) (uMQi below G z args s ((uX1 z).1 - u0.1) ((uX1 z).2.1 - u0.2.1)) (F0 m 33 ls [va_rf s0]) := by
  obtain ⟨⟨hx, hb, hml, hown, hts⟩, hKK⟩ := id hC
  have hzf := zz_X5_whole_33 (G := G) (a0 := a0) N u s0 h
  unfold f_X5_whole_33 at h
  obtain ⟨a1, ha1, hha1⟩ := mbind_n h
  subst ha1
  have h := hha1
  have hz := Option.some.inj h
  subst hz
  exact u_athrow hC (u_noE hE) hP hS dX5_whole_33
def f_X5_whole_15 (N b : Nat) (g : uEnv) (a0 : Nat) (u : UH) (s0 : Option Nat) : Option ((Nat × UH) ⊕ (Int32 × UH)) :=
    (s0).bind fun a1 =>
    some (.inl (a1, u))
set_option maxHeartbeats 4000000 in
set_option maxRecDepth 100000 in
theorem zz_X5_whole_15 {G : uG} {a0 : Nat} {z : (Nat × UH) ⊕ (Int32 × UH)} (N : Nat) (u : UH) (s0 : Option Nat) (h : f_X5_whole_15 N (ub G) (ug G) a0 u s0 = some z) : u.1 ≤ (uX1 z).1 ∧ u.2.1 ≤ (uX1 z).2.1 := by
  unfold f_X5_whole_15 at h
  obtain ⟨a1, ha1, hha1⟩ := mbind_n h
  subst ha1
  have h := hha1
  have hz := Option.some.inj h
  subst hz
  exact (show u.1 ≤ u.1 ∧ u.2.1 ≤ u.2.1 from ⟨by omega, by omega⟩)
set_option maxHeartbeats 4000000 in
set_option maxRecDepth 100000 in
theorem w_X5_whole_15 {p : Program} {l : Launch} {e : Env} {R : Room} {s : State} {m : MethodId} {args : Array Value} {below : List Frame} {meth : Method} {c : Code} {G : uG} {a0 : Nat} {u0 : UH} {z : (Nat × UH) ⊕ (Int32 × UH)} (hC : uC p s m args meth c G RX5 cX5_whole 4 (some .int)) (hE : c.exceptionTable.toList = []) (hR : 8 ≤ R.frames ∧ 214 ≤ R.locals) (hRm : (uX1 z).1 - u0.1 ≤ R.cells ∧ (uX1 z).2.1 - u0.2.1 ≤ R.slots) (N : Nat) (u : UH) (s0 : Option Nat) (h : f_X5_whole_15 N (ub G) (ug G) a0 u s0 = some z) (hz0 : (u0.1 ≤ u.1 ∧ u0.2.1 ≤ u.2.1)) {H : Heap} {locs : List Loc} (hP : uP G u H) (hS : va_S (uA G) s.heap H locs) {ls : Array Slot} (hl : lv_has ls 4 []) : W p l e R s m args below meth c H locs (u.1 - u0.1) (u.2.1 - u0.2.1) (uMQi below G z args s ((uX1 z).1 - u0.1) ((uX1 z).2.1 - u0.2.1)) (F0 m 15 ls [va_rf s0]) := by
  obtain ⟨⟨hx, hb, hml, hown, hts⟩, hKK⟩ := id hC
  have hzf := zz_X5_whole_15 (G := G) (a0 := a0) N u s0 h
  unfold f_X5_whole_15 at h
  obtain ⟨a1, ha1, hha1⟩ := mbind_n h
  subst ha1
  have h := hha1
  have hz := Option.some.inj h
  subst hz
  exact u_athrow hC (u_noE hE) hP hS dX5_whole_15
def f_X5_whole (N b : Nat) (g : uEnv) (u : UH) (a0 : Nat) (x1 : Int32) (x2 : Int32) : Option ((Nat × UH) ⊕ (Int32 × UH)) :=
    (uGR u a0 4 5).bind fun o1 =>
    mlet (g.1 3) fun o2 =>
    if o1 = o2 then
    (uGI u a0 4 4).bind fun y4 =>
    ucall (f_X1_in N b g u y4 x1 x2) fun r7 u5 =>
    if r7 = 0 then
    if uIs u5 a0 4 = true then
    ucall (f_X5_fault N b g u5 a0 4) fun o16 u14 =>
    f_X5_whole_33 N b g a0 u14 o16
    else none
    else
    (uGI u5 a0 4 4).bind fun y9 =>
    if uIs u5 a0 4 = true then
    (f_X5_next N b g u5 a0).bind fun u11 =>
    f_X5_whole_43 N b g a0 u11 y9
    else none
    else
    if uIs u a0 4 = true then
    ucall (f_X5_fault N b g u a0 1) fun o20 u18 =>
    f_X5_whole_15 N b g a0 u18 o20
    else none
set_option maxHeartbeats 4000000 in
set_option maxRecDepth 100000 in
theorem zz_X5_whole_0 {G : uG} {a0 : Nat} {z : (Nat × UH) ⊕ (Int32 × UH)} (N : Nat) (u : UH) (x1 : Int32) (x2 : Int32) (h : f_X5_whole N (ub G) (ug G) u a0 x1 x2 = some z) : u.1 ≤ (uX1 z).1 ∧ u.2.1 ≤ (uX1 z).2.1 := by
  unfold f_X5_whole at h
  obtain ⟨o1, ho1, h⟩ := mbind_n h
  obtain ⟨o2, eo2⟩ : ∃ z, z = (ug G).1 3 := ⟨_, rfl⟩
  have h := mlet_at eo2 h
  by_cases c3 : o1 = o2
  · have h := mif_t c3 h
    obtain ⟨y4, hy4, h⟩ := mbind_n h
    obtain ⟨r7, u5, c6, h⟩ := ucall_n h
    have zu5 := zz_X1_in N (ub G) (ug G) u y4 x1 x2 r7 u5 c6
    by_cases c8 : r7 = 0
    · have h := mif_t c8 h
      obtain ⟨c13, h⟩ := mif_n h
      obtain ⟨o16, u14, c15, h⟩ := ucall_n h
      have zu14 := zz_X5_fault N (ub G) (ug G) u5 a0 4 o16 u14 c15
      have hq := zz_X5_whole_33 (G := G) (a0 := a0) N u14 o16 h
      exact ⟨by omega, by omega⟩
    · have h := mif_f c8 h
      obtain ⟨y9, hy9, h⟩ := mbind_n h
      obtain ⟨c10, h⟩ := mif_n h
      obtain ⟨u11, c12, h⟩ := mbind_n h
      have zu11 := zz_X5_next N (ub G) (ug G) u5 a0 u11 c12
      have hq := zz_X5_whole_43 (G := G) (a0 := a0) N u11 y9 h
      exact ⟨by omega, by omega⟩
  · have h := mif_f c3 h
    obtain ⟨c17, h⟩ := mif_n h
    obtain ⟨o20, u18, c19, h⟩ := ucall_n h
    have zu18 := zz_X5_fault N (ub G) (ug G) u a0 1 o20 u18 c19
    have hq := zz_X5_whole_15 (G := G) (a0 := a0) N u18 o20 h
    exact ⟨by omega, by omega⟩
set_option maxHeartbeats 4000000 in
set_option maxRecDepth 100000 in
theorem w_X5_whole_0 {p : Program} {l : Launch} {e : Env} {R : Room} {s : State} {m : MethodId} {args : Array Value} {below : List Frame} {meth : Method} {c : Code} {G : uG} {a0 : Nat} {u0 : UH} {z : (Nat × UH) ⊕ (Int32 × UH)} (hC : uC p s m args meth c G RX5 cX5_whole 4 (some .int)) (hE : c.exceptionTable.toList = []) (hR : 8 ≤ R.frames ∧ 214 ≤ R.locals) (hRm : (uX1 z).1 - u0.1 ≤ R.cells ∧ (uX1 z).2.1 - u0.2.1 ≤ R.slots) (N : Nat) (u : UH) (x1 : Int32) (x2 : Int32) (h : f_X5_whole N (ub G) (ug G) u a0 x1 x2 = some z) (hz0 : (u0.1 ≤ u.1 ∧ u0.2.1 ≤ u.2.1)) {H : Heap} {locs : List Loc} (hP : uP G u H) (hS : va_S (uA G) s.heap H locs) {ls : Array Slot} (hl : lv_has ls 4 [(0, va_rf (some a0)), (1, .int x1), (2, .int x2)]) : W p l e R s m args below meth c H locs (u.1 - u0.1) (u.2.1 - u0.2.1) (uMQi below G z args s ((uX1 z).1 - u0.1) ((uX1 z).2.1 - u0.2.1)) (F0 m 0 ls []) := by
  obtain ⟨⟨hx, hb, hml, hown, hts⟩, hKK⟩ := id hC
  have hzf := zz_X5_whole_0 (G := G) (a0 := a0) N u x1 x2 h
  unfold f_X5_whole at h
  refine u_aload_n (r := some a0) hx hb dX5_whole_0 rfl (lv_at hl 0 rfl) ?_
  obtain ⟨o1, ho1, h⟩ := mbind_n h
  refine u_get hC hP (uGR_n ho1) rfl in_X5 (by decide) q636 (fun _ h => h) dX5_whole_1 ?_
  refine u_gets hC hS 3 rfl q556 (fun _ h => h) dX5_whole_4 ?_
  obtain ⟨o2, eo2⟩ : ∃ z, z = (ug G).1 3 := ⟨_, rfl⟩
  have h := mlet_at eo2 h
  rw [← eo2]
  refine lv_acmp_eq (rx := o1) (ry := o2) (tgt := 16) hx hb dX5_whole_7 (by decide) (fun c3 => ?_) (fun c3 => ?_)
  · have h := mif_t c3 h
    refine u_aload_n (r := some a0) hx hb dX5_whole_16 rfl (lv_at hl 0 rfl) ?_
    obtain ⟨y4, hy4, h⟩ := mbind_n h
    refine u_get hC hP (uGI_n hy4) rfl in_X5 (by decide) q633 (fun _ h => h) dX5_whole_17 ?_
    refine lv_iload_n hx hb dX5_whole_20 rfl (lv_at hl 1 rfl) ?_
    refine lv_iload_n hx hb dX5_whole_21 rfl (lv_at hl 2 rfl) ?_
    obtain ⟨r7, u5, c6, h⟩ := ucall_n h
    have zu5 := zz_X1_in N (ub G) (ug G) u y4 x1 x2 r7 u5 c6
    refine u_calli (va_runSN (As := [.int y4, .int x1, .int x2]) (rest := []) hC.1 (met_X1_in l N G u y4 x1 x2 r7 u5 c6) ⟨va_cnB 3 hts (lw_meth q275) rfl rfl rfl (hC.2.1.2.1 _ q930 rfl) (hts _ q98) (by decide +kernel) ⟨Nat.le_trans (Nat.le_of_ble_eq_true rfl) hR.1, Nat.le_trans (Nat.le_of_ble_eq_true rfl) hR.2⟩, hts _ q274, trivial⟩ ⟨uPc_blind, fun U hU hW => u_pre hC hP hS hU hW⟩ rfl rfl hl.1 rfl (lv_room (Nat.le_of_ble_eq_true rfl)) dX5_whole_22 ⟨by omega, by omega⟩) hS (fun H locs hP hS => ?_)
    refine W.cs (cells' := u5.1 - u0.1) (slots' := u5.2.1 - u0.2.1) (by omega) (by omega) ?_
    refine lv_if_ne (tgt := 34) hx hb dX5_whole_25 (by decide) (fun c8 => ?_) (fun c8 => ?_)
    · have h := mif_f c8 h
      refine u_aload_n (r := some a0) hx hb dX5_whole_34 rfl (lv_at hl 0 rfl) ?_
      obtain ⟨y9, hy9, h⟩ := mbind_n h
      refine u_get hC hP (uGI_n hy9) rfl in_X5 (by decide) q633 (fun _ h => h) dX5_whole_35 ?_
      refine lv_istore_n (i := 3) (lv' := [(3, .int y9), (0, va_rf (some a0)), (1, .int x1), (2, .int x2)]) hx hb dX5_whole_38 rfl hl (by decide) rfl (fun ls hl => ?_)
      refine u_aload_n (r := some a0) hx hb dX5_whole_39 rfl (lv_at hl 1 rfl) ?_
      obtain ⟨c10, h⟩ := mif_n h
      obtain ⟨u11, c12, h⟩ := mbind_n h
      have zu11 := zz_X5_next N (ub G) (ug G) u5 a0 u11 c12
      have hq := zz_X5_whole_43 (G := G) (a0 := a0) N u11 y9 h
      refine u_callv (va_runV (As := []) (rest := []) hC.1 (met_X5_next l N G u5 a0 u11 c12) (cwV 0 hts (lw_V q339 q340 q341 q105 q342) rfl rfl rfl (by decide +kernel) ⟨Nat.le_trans (Nat.le_of_ble_eq_true rfl) hR.1, Nat.le_trans (Nat.le_of_ble_eq_true rfl) hR.2⟩) ⟨uPc_blind, u_rcv hC hP c10 rfl, fun U hU hW => u_pre hC hP hS hU hW⟩ rfl rfl hl.1 rfl (lv_room (Nat.le_of_ble_eq_true rfl)) dX5_whole_40 ⟨by omega, by omega⟩) hS (fun H locs hP hS => ?_)
      refine W.cs (cells' := u11.1 - u0.1) (slots' := u11.2.1 - u0.2.1) (by omega) (by omega) ?_
      refine W.cs (cells' := u11.1 - u0.1) (slots' := u11.2.1 - u0.2.1) (by omega) (by omega) ?_
      exact w_X5_whole_43 hC hE hR hRm N u11 y9 h ⟨by omega, by omega⟩ hP hS (lv_sub hl [0] rfl)
    · have h := mif_t c8 h
      refine u_aload_n (r := some a0) hx hb dX5_whole_28 rfl (lv_at hl 0 rfl) ?_
      refine lv_iconst (v := 4) hx hb dX5_whole_29 (by decide) ?_
      obtain ⟨c13, h⟩ := mif_n h
      obtain ⟨o16, u14, c15, h⟩ := ucall_n h
      have zu14 := zz_X5_fault N (ub G) (ug G) u5 a0 4 o16 u14 c15
      have hq := zz_X5_whole_33 (G := G) (a0 := a0) N u14 o16 h
      refine u_callr (va_runV (As := [.int 4]) (rest := []) hC.1 (met_X5_fault l N G u5 a0 4 o16 u14 c15) (cwV 1 hts (lw_V q780 q781 q782 q105 q783) rfl rfl rfl (by decide +kernel) ⟨Nat.le_trans (Nat.le_of_ble_eq_true rfl) hR.1, Nat.le_trans (Nat.le_of_ble_eq_true rfl) hR.2⟩) ⟨uPc_blind, u_rcv hC hP c13 rfl, fun U hU hW => u_pre hC hP hS hU hW⟩ rfl rfl hl.1 rfl (lv_room (Nat.le_of_ble_eq_true rfl)) dX5_whole_30 ⟨by omega, by omega⟩) hS (fun H locs hP hS => ?_)
      refine W.cs (cells' := u14.1 - u0.1) (slots' := u14.2.1 - u0.2.1) (by omega) (by omega) ?_
      refine W.cs (cells' := u14.1 - u0.1) (slots' := u14.2.1 - u0.2.1) (by omega) (by omega) ?_
      exact w_X5_whole_33 hC hE hR hRm N u14 o16 h ⟨by omega, by omega⟩ hP hS (lv_sub hl [] rfl)
  · have h := mif_f c3 h
    refine u_aload_n (r := some a0) hx hb dX5_whole_10 rfl (lv_at hl 0 rfl) ?_
    refine lv_iconst (v := 1) hx hb dX5_whole_11 (by decide) ?_
    obtain ⟨c17, h⟩ := mif_n h
    obtain ⟨o20, u18, c19, h⟩ := ucall_n h
    have zu18 := zz_X5_fault N (ub G) (ug G) u a0 1 o20 u18 c19
    have hq := zz_X5_whole_15 (G := G) (a0 := a0) N u18 o20 h
    refine u_callr (va_runV (As := [.int 1]) (rest := []) hC.1 (met_X5_fault l N G u a0 1 o20 u18 c19) (cwV 1 hts (lw_V q780 q781 q782 q105 q783) rfl rfl rfl (by decide +kernel) ⟨Nat.le_trans (Nat.le_of_ble_eq_true rfl) hR.1, Nat.le_trans (Nat.le_of_ble_eq_true rfl) hR.2⟩) ⟨uPc_blind, u_rcv hC hP c17 rfl, fun U hU hW => u_pre hC hP hS hU hW⟩ rfl rfl hl.1 rfl (lv_room (Nat.le_of_ble_eq_true rfl)) dX5_whole_12 ⟨by omega, by omega⟩) hS (fun H locs hP hS => ?_)
    refine W.cs (cells' := u18.1 - u0.1) (slots' := u18.2.1 - u0.2.1) (by omega) (by omega) ?_
    refine W.cs (cells' := u18.1 - u0.1) (slots' := u18.2.1 - u0.2.1) (by omega) (by omega) ?_
    exact w_X5_whole_15 hC hE hR hRm N u18 o20 h ⟨by omega, by omega⟩ hP hS (lv_sub hl [] rfl)
theorem zz_X5_whole (N b : Nat) (g : uEnv) (u : UH) (a0 : Nat) (x1 : Int32) (x2 : Int32) (z : (Nat × UH) ⊕ (Int32 × UH)) (h : f_X5_whole N b g u a0 x1 x2 = some z) : u.1 ≤ (uX1 z).1 ∧ u.2.1 ≤ (uX1 z).2.1 :=
  zz_X5_whole_0 (G := ((fun _ => 0, fun _ _ => 0), fun _ => 0, b, g)) (a0 := a0) N u x1 x2 h
theorem met_X5_whole (l : Launch) (N : Nat) (G : uG) (u : UH) (a0 : Nat) (x1 : Int32) (x2 : Int32) (r : Int32) (uf : UH) (h : f_X5_whole N (ub G) (ug G) u a0 x1 x2 = some (.inr (r, uf))) : Met l yX5_whole (ws_ yX5_whole cX5_whole 4 (some .int)) ({ frames := 8, cells := (uf.1 - u.1), slots := (uf.2.1 - u.2.1), locals := 214 }) (uPc G u [.ref a0, .int x1, .int x2]) (uQi G r uf) (uf.1 - u.1) (uf.2.1 - u.2.1) (uA G) := by
  exact u_metE (own := RX5) (by decide +kernel) rfl (Nat.le_of_ble_eq_true rfl) (fun hC hE hn hsz ls hl hP => W.cs (Nat.sub_self _).symm (Nat.sub_self _).symm (w_X5_whole_0 hC hE ⟨Nat.le_refl _, Nat.le_refl _⟩ ⟨Nat.le_refl _, Nat.le_refl _⟩ N u x1 x2 h ⟨Nat.le_refl _, Nat.le_refl _⟩ hP va_S.rf hl))
theorem mex_X5_whole (l : Launch) (N : Nat) (G : uG) (u : UH) (a0 : Nat) (x1 : Int32) (x2 : Int32) (x : Nat) (uf : UH) (h : f_X5_whole N (ub G) (ug G) u a0 x1 x2 = some (.inl (x, uf))) : uMX l yX5_whole (ws_ yX5_whole cX5_whole 4 (some .int)) ({ frames := 8, cells := (uf.1 - u.1), slots := (uf.2.1 - u.2.1), locals := 214 }) G u [.ref a0, .int x1, .int x2] x uf (uf.1 - u.1) (uf.2.1 - u.2.1) := by
  exact u_metX (own := RX5) (by decide +kernel) rfl (Nat.le_of_ble_eq_true rfl) (fun hC hE hn hsz ls hl hP => W.cs (Nat.sub_self _).symm (Nat.sub_self _).symm (w_X5_whole_0 hC hE ⟨Nat.le_refl _, Nat.le_refl _⟩ ⟨Nat.le_refl _, Nat.le_refl _⟩ N u x1 x2 h ⟨Nat.le_refl _, Nat.le_refl _⟩ hP va_S.rf hl))
def f_X5_signed_68 (N b : Nat) (g : uEnv) (a0 : Nat) (u : UH) (x4 : Int32) : Option ((Nat × UH) ⊕ (Int32 × UH)) :=
    some (.inr (x4, u))
set_option maxHeartbeats 4000000 in
set_option maxRecDepth 100000 in
theorem zz_X5_signed_68 {G : uG} {a0 : Nat} {z : (Nat × UH) ⊕ (Int32 × UH)} (N : Nat) (u : UH) (x4 : Int32) (h : f_X5_signed_68 N (ub G) (ug G) a0 u x4 = some z) : u.1 ≤ (uX1 z).1 ∧ u.2.1 ≤ (uX1 z).2.1 := by
  unfold f_X5_signed_68 at h
  have hz := Option.some.inj h
  subst hz
  exact (show u.1 ≤ u.1 ∧ u.2.1 ≤ u.2.1 from ⟨by omega, by omega⟩)
set_option maxHeartbeats 4000000 in
set_option maxRecDepth 100000 in
theorem w_X5_signed_68 {p : Program} {l : Launch} {e : Env} {R : Room} {s : State} {m : MethodId} {args : Array Value} {below : List Frame} {meth : Method} {c : Code} {G : uG} {a0 : Nat} {u0 : UH} {z : (Nat × UH) ⊕ (Int32 × UH)} (hC : uC p s m args meth c G RX5 cX5_signed 5 (some .int)) (hE : c.exceptionTable.toList = []) (hR : 9 ≤ R.frames ∧ 236 ≤ R.locals) (hRm : (uX1 z).1 - u0.1 ≤ R.cells ∧ (uX1 z).2.1 - u0.2.1 ≤ R.slots) (N : Nat) (u : UH) (x4 : Int32) (h : f_X5_signed_68 N (ub G) (ug G) a0 u x4 = some z) (hz0 : (u0.1 ≤ u.1 ∧ u0.2.1 ≤ u.2.1)) {H : Heap} {locs : List Loc} (hP : uP G u H) (hS : va_S (uA G) s.heap H locs) {ls : Array Slot} (hl : lv_has ls 5 [(4, .int x4)]) : W p l e R s m args below meth c H locs (u.1 - u0.1) (u.2.1 - u0.2.1) (uMQi below G z args s ((uX1 z).1 - u0.1) ((uX1 z).2.1 - u0.2.1)) (F0 m 68 ls []) := by
  obtain ⟨⟨hx, hb, hml, hown, hts⟩, hKK⟩ := id hC
  have hzf := zz_X5_signed_68 (G := G) (a0 := a0) N u x4 h
  unfold f_X5_signed_68 at h
  refine lv_iload hx hb dX5_signed_68 (lv_at hl 0 rfl) ?_
  have hz := Option.some.inj h
  subst hz
  exact u_iret hC hP hS dX5_signed_70
def f_X5_signed_62 (N b : Nat) (g : uEnv) (a0 : Nat) (u : UH) (s0 : Int32) : Option ((Nat × UH) ⊕ (Int32 × UH)) :=
    if uIs u a0 4 = true then
    (f_X5_next N b g u a0).bind fun u2 =>
    f_X5_signed_68 N b g a0 u2 s0
    else none
set_option maxHeartbeats 4000000 in
set_option maxRecDepth 100000 in
theorem zz_X5_signed_62 {G : uG} {a0 : Nat} {z : (Nat × UH) ⊕ (Int32 × UH)} (N : Nat) (u : UH) (s0 : Int32) (h : f_X5_signed_62 N (ub G) (ug G) a0 u s0 = some z) : u.1 ≤ (uX1 z).1 ∧ u.2.1 ≤ (uX1 z).2.1 := by
  unfold f_X5_signed_62 at h
  obtain ⟨c1, h⟩ := mif_n h
  obtain ⟨u2, c3, h⟩ := mbind_n h
  have zu2 := zz_X5_next N (ub G) (ug G) u a0 u2 c3
  have hq := zz_X5_signed_68 (G := G) (a0 := a0) N u2 s0 h
  exact ⟨by omega, by omega⟩
set_option maxHeartbeats 4000000 in
set_option maxRecDepth 100000 in
theorem w_X5_signed_62 {p : Program} {l : Launch} {e : Env} {R : Room} {s : State} {m : MethodId} {args : Array Value} {below : List Frame} {meth : Method} {c : Code} {G : uG} {a0 : Nat} {u0 : UH} {z : (Nat × UH) ⊕ (Int32 × UH)} (hC : uC p s m args meth c G RX5 cX5_signed 5 (some .int)) (hE : c.exceptionTable.toList = []) (hR : 9 ≤ R.frames ∧ 236 ≤ R.locals) (hRm : (uX1 z).1 - u0.1 ≤ R.cells ∧ (uX1 z).2.1 - u0.2.1 ≤ R.slots) (N : Nat) (u : UH) (s0 : Int32) (h : f_X5_signed_62 N (ub G) (ug G) a0 u s0 = some z) (hz0 : (u0.1 ≤ u.1 ∧ u0.2.1 ≤ u.2.1)) {H : Heap} {locs : List Loc} (hP : uP G u H) (hS : va_S (uA G) s.heap H locs) {ls : Array Slot} (hl : lv_has ls 5 [(0, va_rf (some a0))]) : W p l e R s m args below meth c H locs (u.1 - u0.1) (u.2.1 - u0.2.1) (uMQi below G z args s ((uX1 z).1 - u0.1) ((uX1 z).2.1 - u0.2.1)) (F0 m 62 ls [.int s0]) := by
  obtain ⟨⟨hx, hb, hml, hown, hts⟩, hKK⟩ := id hC
  have hzf := zz_X5_signed_62 (G := G) (a0 := a0) N u s0 h
  unfold f_X5_signed_62 at h
  refine lv_istore (lv' := [(4, .int s0), (0, va_rf (some a0))]) hx hb dX5_signed_62 hl (by decide) rfl (fun ls hl => ?_)
  refine u_aload_n (r := some a0) hx hb dX5_signed_64 rfl (lv_at hl 1 rfl) ?_
  obtain ⟨c1, h⟩ := mif_n h
  obtain ⟨u2, c3, h⟩ := mbind_n h
  have zu2 := zz_X5_next N (ub G) (ug G) u a0 u2 c3
  have hq := zz_X5_signed_68 (G := G) (a0 := a0) N u2 s0 h
  refine u_callv (va_runV (As := []) (rest := []) hC.1 (met_X5_next l N G u a0 u2 c3) (cwV 0 hts (lw_V q339 q340 q341 q105 q342) rfl rfl rfl (by decide +kernel) ⟨Nat.le_trans (Nat.le_of_ble_eq_true rfl) hR.1, Nat.le_trans (Nat.le_of_ble_eq_true rfl) hR.2⟩) ⟨uPc_blind, u_rcv hC hP c1 rfl, fun U hU hW => u_pre hC hP hS hU hW⟩ rfl rfl hl.1 rfl (lv_room (Nat.le_of_ble_eq_true rfl)) dX5_signed_65 ⟨by omega, by omega⟩) hS (fun H locs hP hS => ?_)
  refine W.cs (cells' := u2.1 - u0.1) (slots' := u2.2.1 - u0.2.1) (by omega) (by omega) ?_
  refine W.cs (cells' := u2.1 - u0.1) (slots' := u2.2.1 - u0.2.1) (by omega) (by omega) ?_
  exact w_X5_signed_68 hC hE hR hRm N u2 s0 h ⟨by omega, by omega⟩ hP hS (lv_sub hl [0] rfl)
def f_X5_signed_39 (N b : Nat) (g : uEnv) (a0 : Nat) (u : UH) (x2 : Int32) (s0 : Option Nat) : Option ((Nat × UH) ⊕ (Int32 × UH)) :=
    (s0).bind fun a1 =>
    (f_X8_init N b g u a1 4 x2).bind fun u2 =>
    some (.inl (a1, u2))
set_option maxHeartbeats 4000000 in
set_option maxRecDepth 100000 in
theorem zz_X5_signed_39 {G : uG} {a0 : Nat} {z : (Nat × UH) ⊕ (Int32 × UH)} (N : Nat) (u : UH) (x2 : Int32) (s0 : Option Nat) (h : f_X5_signed_39 N (ub G) (ug G) a0 u x2 s0 = some z) : u.1 ≤ (uX1 z).1 ∧ u.2.1 ≤ (uX1 z).2.1 := by
  unfold f_X5_signed_39 at h
  obtain ⟨a1, ha1, hha1⟩ := mbind_n h
  subst ha1
  have h := hha1
  obtain ⟨u2, c3, h⟩ := mbind_n h
  have zu2 := zz_X8_init N (ub G) (ug G) u a1 4 x2 u2 c3
  have hz := Option.some.inj h
  subst hz
  exact (show u.1 ≤ u2.1 ∧ u.2.1 ≤ u2.2.1 from ⟨by omega, by omega⟩)
set_option maxHeartbeats 4000000 in
set_option maxRecDepth 100000 in
theorem w_X5_signed_39 {p : Program} {l : Launch} {e : Env} {R : Room} {s : State} {m : MethodId} {args : Array Value} {below : List Frame} {meth : Method} {c : Code} {G : uG} {a0 : Nat} {u0 : UH} {z : (Nat × UH) ⊕ (Int32 × UH)} (hC : uC p s m args meth c G RX5 cX5_signed 5 (some .int)) (hE : c.exceptionTable.toList = []) (hR : 9 ≤ R.frames ∧ 236 ≤ R.locals) (hRm : (uX1 z).1 - u0.1 ≤ R.cells ∧ (uX1 z).2.1 - u0.2.1 ≤ R.slots) (N : Nat) (u : UH) (x2 : Int32) (s0 : Option Nat) (h : f_X5_signed_39 N (ub G) (ug G) a0 u x2 s0 = some z) (hz0 : (u0.1 ≤ u.1 ∧ u0.2.1 ≤ u.2.1)) {H : Heap} {locs : List Loc} (hP : uP G u H) (hS : va_S (uA G) s.heap H locs) {ls : Array Slot} (hl : lv_has ls 5 [(2, .int x2)]) : W p l e R s m args below meth c H locs (u.1 - u0.1) (u.2.1 - u0.2.1) (uMQi below G z args s ((uX1 z).1 - u0.1) ((uX1 z).2.1 - u0.2.1)) (F0 m 39 ls [va_rf s0]) := by
  obtain ⟨⟨hx, hb, hml, hown, hts⟩, hKK⟩ := id hC
  have hzf := zz_X5_signed_39 (G := G) (a0 := a0) N u x2 s0 h
  unfold f_X5_signed_39 at h
  refine lv_dup hx hb dX5_signed_39 (u_cat _) ?_
  refine lv_iconst (v := 4) hx hb dX5_signed_40 (by decide) ?_
  refine lv_iload_n hx hb dX5_signed_41 rfl (lv_at hl 0 rfl) ?_
  obtain ⟨a1, ha1, hha1⟩ := mbind_n h
  subst ha1
  have h := hha1
  obtain ⟨u2, c3, h⟩ := mbind_n h
  have zu2 := zz_X8_init N (ub G) (ug G) u a1 4 x2 u2 c3
  refine u_callv (va_runI (As := [.int 4, .int x2]) (rest := [va_rf (some a1)]) hC.1 (met_X8_init l N G u a1 4 x2 u2 c3) (cwI 2 hts (lw_meth q824) rfl rfl rfl (hts _ q123) (hts _ q822) (hts _ q823) rfl (by decide +kernel) ⟨Nat.le_trans (Nat.le_of_ble_eq_true rfl) hR.1, Nat.le_trans (Nat.le_of_ble_eq_true rfl) hR.2⟩) ⟨uPc_blind, fun U hU hW => u_pre hC hP hS hU hW⟩ rfl rfl hl.1 rfl (lv_room (Nat.le_of_ble_eq_true rfl)) dX5_signed_42 ⟨by omega, by omega⟩) hS (fun H locs hP hS => ?_)
  refine W.cs (cells' := u2.1 - u0.1) (slots' := u2.2.1 - u0.2.1) (by omega) (by omega) ?_
  have hz := Option.some.inj h
  subst hz
  exact u_athrow hC (u_noE hE) hP hS dX5_signed_45
def f_X5_signed_27 (N b : Nat) (g : uEnv) (a0 : Nat) (u : UH) (s0 : Option Nat) : Option ((Nat × UH) ⊕ (Int32 × UH)) :=
    (s0).bind fun a1 =>
    some (.inl (a1, u))
set_option maxHeartbeats 4000000 in
set_option maxRecDepth 100000 in
theorem zz_X5_signed_27 {G : uG} {a0 : Nat} {z : (Nat × UH) ⊕ (Int32 × UH)} (N : Nat) (u : UH) (s0 : Option Nat) (h : f_X5_signed_27 N (ub G) (ug G) a0 u s0 = some z) : u.1 ≤ (uX1 z).1 ∧ u.2.1 ≤ (uX1 z).2.1 := by
  unfold f_X5_signed_27 at h
  obtain ⟨a1, ha1, hha1⟩ := mbind_n h
  subst ha1
  have h := hha1
  have hz := Option.some.inj h
  subst hz
  exact (show u.1 ≤ u.1 ∧ u.2.1 ≤ u.2.1 from ⟨by omega, by omega⟩)
set_option maxHeartbeats 4000000 in
set_option maxRecDepth 100000 in
theorem w_X5_signed_27 {p : Program} {l : Launch} {e : Env} {R : Room} {s : State} {m : MethodId} {args : Array Value} {below : List Frame} {meth : Method} {c : Code} {G : uG} {a0 : Nat} {u0 : UH} {z : (Nat × UH) ⊕ (Int32 × UH)} (hC : uC p s m args meth c G RX5 cX5_signed 5 (some .int)) (hE : c.exceptionTable.toList = []) (hR : 9 ≤ R.frames ∧ 236 ≤ R.locals) (hRm : (uX1 z).1 - u0.1 ≤ R.cells ∧ (uX1 z).2.1 - u0.2.1 ≤ R.slots) (N : Nat) (u : UH) (s0 : Option Nat) (h : f_X5_signed_27 N (ub G) (ug G) a0 u s0 = some z) (hz0 : (u0.1 ≤ u.1 ∧ u0.2.1 ≤ u.2.1)) {H : Heap} {locs : List Loc} (hP : uP G u H) (hS : va_S (uA G) s.heap H locs) {ls : Array Slot} (hl : lv_has ls 5 []) : W p l e R s m args below meth c H locs (u.1 - u0.1) (u.2.1 - u0.2.1) (uMQi below G z args s ((uX1 z).1 - u0.1) ((uX1 z).2.1 - u0.2.1)) (F0 m 27 ls [va_rf s0]) := by
  obtain ⟨⟨hx, hb, hml, hown, hts⟩, hKK⟩ := id hC
  have hzf := zz_X5_signed_27 (G := G) (a0 := a0) N u s0 h
  unfold f_X5_signed_27 at h
  obtain ⟨a1, ha1, hha1⟩ := mbind_n h
  subst ha1
  have h := hha1
  have hz := Option.some.inj h
  subst hz
  exact u_athrow hC (u_noE hE) hP hS dX5_signed_27
def f_X5_signed_11 (N b : Nat) (g : uEnv) (a0 : Nat) (u : UH) (x1 : Int32) (x2 : Int32) (s0 : Int32) : Option ((Nat × UH) ⊕ (Int32 × UH)) :=
    (uGR u a0 4 5).bind fun o1 =>
    mlet (g.1 3) fun o2 =>
    if o1 = o2 then
    (uGI u a0 4 4).bind fun y4 =>
    if y4 ≤ x1 then
    if s0 = 0 then
    (uGI u a0 4 4).bind fun y7 =>
    f_X5_signed_62 N b g a0 u y7
    else
    (uGI u a0 4 4).bind fun y8 =>
    f_X5_signed_62 N b g a0 u (-y8)
    else
    mlet (u.1) fun a10 =>
    mlet (uNew u 8 (.inr (6, uDefs tyX8 8))) fun u9 =>
    f_X5_signed_39 N b g a0 u9 x2 (some a10)
    else
    if uIs u a0 4 = true then
    ucall (f_X5_fault N b g u a0 1) fun o14 u12 =>
    f_X5_signed_27 N b g a0 u12 o14
    else none
set_option maxHeartbeats 4000000 in
set_option maxRecDepth 100000 in
theorem zz_X5_signed_11 {G : uG} {a0 : Nat} {z : (Nat × UH) ⊕ (Int32 × UH)} (N : Nat) (u : UH) (x1 : Int32) (x2 : Int32) (s0 : Int32) (h : f_X5_signed_11 N (ub G) (ug G) a0 u x1 x2 s0 = some z) : u.1 ≤ (uX1 z).1 ∧ u.2.1 ≤ (uX1 z).2.1 := by
  unfold f_X5_signed_11 at h
  obtain ⟨o1, ho1, h⟩ := mbind_n h
  obtain ⟨o2, eo2⟩ : ∃ z, z = (ug G).1 3 := ⟨_, rfl⟩
  have h := mlet_at eo2 h
  by_cases c3 : o1 = o2
  · have h := mif_t c3 h
    obtain ⟨y4, hy4, h⟩ := mbind_n h
    by_cases c5 : y4 ≤ x1
    · have h := mif_t c5 h
      by_cases c6 : s0 = 0
      · have h := mif_t c6 h
        obtain ⟨y7, hy7, h⟩ := mbind_n h
        have hq := zz_X5_signed_62 (G := G) (a0 := a0) N u y7 h
        exact ⟨by omega, by omega⟩
      · have h := mif_f c6 h
        obtain ⟨y8, hy8, h⟩ := mbind_n h
        have hq := zz_X5_signed_62 (G := G) (a0 := a0) N u (-y8) h
        exact ⟨by omega, by omega⟩
    · have h := mif_f c5 h
      obtain ⟨a10, ea10⟩ : ∃ z : Nat, z = u.1 := ⟨_, rfl⟩
      have h := mlet_at ea10 h
      obtain ⟨u9, eu9⟩ : ∃ z : UH, z = uNew u 8 (.inr (6, uDefs tyX8 8)) := ⟨_, rfl⟩
      have h := mlet_at eu9 h
      have zu9 : u9.1 = u.1 + 1 ∧ u9.2.1 = u.2.1 + 8 := by rw [eu9]; exact ⟨rfl, rfl⟩
      have hq := zz_X5_signed_39 (G := G) (a0 := a0) N u9 x2 (some a10) h
      exact ⟨by omega, by omega⟩
  · have h := mif_f c3 h
    obtain ⟨c11, h⟩ := mif_n h
    obtain ⟨o14, u12, c13, h⟩ := ucall_n h
    have zu12 := zz_X5_fault N (ub G) (ug G) u a0 1 o14 u12 c13
    have hq := zz_X5_signed_27 (G := G) (a0 := a0) N u12 o14 h
    exact ⟨by omega, by omega⟩
set_option maxHeartbeats 4000000 in
set_option maxRecDepth 100000 in
theorem w_X5_signed_11 {p : Program} {l : Launch} {e : Env} {R : Room} {s : State} {m : MethodId} {args : Array Value} {below : List Frame} {meth : Method} {c : Code} {G : uG} {a0 : Nat} {u0 : UH} {z : (Nat × UH) ⊕ (Int32 × UH)} (hC : uC p s m args meth c G RX5 cX5_signed 5 (some .int)) (hE : c.exceptionTable.toList = []) (hR : 9 ≤ R.frames ∧ 236 ≤ R.locals) (hRm : (uX1 z).1 - u0.1 ≤ R.cells ∧ (uX1 z).2.1 - u0.2.1 ≤ R.slots) (N : Nat) (u : UH) (x1 : Int32) (x2 : Int32) (s0 : Int32) (h : f_X5_signed_11 N (ub G) (ug G) a0 u x1 x2 s0 = some z) (hz0 : (u0.1 ≤ u.1 ∧ u0.2.1 ≤ u.2.1)) {H : Heap} {locs : List Loc} (hP : uP G u H) (hS : va_S (uA G) s.heap H locs) {ls : Array Slot} (hl : lv_has ls 5 [(0, va_rf (some a0)), (1, .int x1), (2, .int x2)]) : W p l e R s m args below meth c H locs (u.1 - u0.1) (u.2.1 - u0.2.1) (uMQi below G z args s ((uX1 z).1 - u0.1) ((uX1 z).2.1 - u0.2.1)) (F0 m 11 ls [.int s0]) := by
  obtain ⟨⟨hx, hb, hml, hown, hts⟩, hKK⟩ := id hC
  have hzf := zz_X5_signed_11 (G := G) (a0 := a0) N u x1 x2 s0 h
  unfold f_X5_signed_11 at h
  refine lv_istore_n (i := 3) (lv' := [(3, .int s0), (0, va_rf (some a0)), (1, .int x1), (2, .int x2)]) hx hb dX5_signed_11 rfl hl (by decide) rfl (fun ls hl => ?_)
  refine u_aload_n (r := some a0) hx hb dX5_signed_12 rfl (lv_at hl 1 rfl) ?_
  obtain ⟨o1, ho1, h⟩ := mbind_n h
  refine u_get hC hP (uGR_n ho1) rfl in_X5 (by decide) q636 (fun _ h => h) dX5_signed_13 ?_
  refine u_gets hC hS 3 rfl q556 (fun _ h => h) dX5_signed_16 ?_
  obtain ⟨o2, eo2⟩ : ∃ z, z = (ug G).1 3 := ⟨_, rfl⟩
  have h := mlet_at eo2 h
  rw [← eo2]
  refine lv_acmp_eq (rx := o1) (ry := o2) (tgt := 28) hx hb dX5_signed_19 (by decide) (fun c3 => ?_) (fun c3 => ?_)
  · have h := mif_t c3 h
    refine u_aload_n (r := some a0) hx hb dX5_signed_28 rfl (lv_at hl 1 rfl) ?_
    obtain ⟨y4, hy4, h⟩ := mbind_n h
    refine u_get hC hP (uGI_n hy4) rfl in_X5 (by decide) q633 (fun _ h => h) dX5_signed_29 ?_
    refine lv_iload_n hx hb dX5_signed_32 rfl (lv_at hl 2 rfl) ?_
    refine lv_icmp_le (tgt := 46) hx hb dX5_signed_33 (by decide) (fun c5 => ?_) (fun c5 => ?_)
    · have h := mif_t c5 h
      refine lv_iload_n hx hb dX5_signed_46 rfl (lv_at hl 0 rfl) ?_
      refine lv_if_eq (tgt := 58) hx hb dX5_signed_47 (by decide) (fun c6 => ?_) (fun c6 => ?_)
      · have h := mif_t c6 h
        refine u_aload_n (r := some a0) hx hb dX5_signed_58 rfl (lv_at hl 1 rfl) ?_
        obtain ⟨y7, hy7, h⟩ := mbind_n h
        refine u_get hC hP (uGI_n hy7) rfl in_X5 (by decide) q633 (fun _ h => h) dX5_signed_59 ?_
        refine W.cs (cells' := u.1 - u0.1) (slots' := u.2.1 - u0.2.1) (by omega) (by omega) ?_
        exact w_X5_signed_62 hC hE hR hRm N u y7 h ⟨by omega, by omega⟩ hP hS (lv_sub hl [1] rfl)
      · have h := mif_f c6 h
        refine u_aload_n (r := some a0) hx hb dX5_signed_50 rfl (lv_at hl 1 rfl) ?_
        obtain ⟨y8, hy8, h⟩ := mbind_n h
        refine u_get hC hP (uGI_n hy8) rfl in_X5 (by decide) q633 (fun _ h => h) dX5_signed_51 ?_
        refine lv_ineg hx hb dX5_signed_54 ?_
        refine lv_goto (tgt := 62) hx hb dX5_signed_55 (by decide) ?_
        refine W.cs (cells' := u.1 - u0.1) (slots' := u.2.1 - u0.2.1) (by omega) (by omega) ?_
        exact w_X5_signed_62 hC hE hR hRm N u (-y8) h ⟨by omega, by omega⟩ hP hS (lv_sub hl [1] rfl)
    · have h := mif_f c5 h
      obtain ⟨a10, ea10⟩ : ∃ z : Nat, z = u.1 := ⟨_, rfl⟩
      have h := mlet_at ea10 h
      obtain ⟨u9, eu9⟩ : ∃ z : UH, z = uNew u 8 (.inr (6, uDefs tyX8 8)) := ⟨_, rfl⟩
      have h := mlet_at eu9 h
      have zu9 : u9.1 = u.1 + 1 ∧ u9.2.1 = u.2.1 + 8 := by rw [eu9]; exact ⟨rfl, rfl⟩
      have hq := zz_X5_signed_39 (G := G) (a0 := a0) N u9 x2 (some a10) h
      refine u_new hC hP hS (T := TX8) (N := 8) (ci := 6) rfl in_X8 tyX8 tyX8_ok q784 q785 q123 (by omega) (by omega) dX5_signed_36 (fun H hP hS => ?_)
      rw [← eu9] at hP
      rw [← ea10]
      refine W.cs (cells' := u9.1 - u0.1) (slots' := u9.2.1 - u0.2.1) (by omega) (by omega) ?_
      refine W.cs (cells' := u9.1 - u0.1) (slots' := u9.2.1 - u0.2.1) (by omega) (by omega) ?_
      exact w_X5_signed_39 hC hE hR hRm N u9 x2 (some a10) h ⟨by omega, by omega⟩ hP hS (lv_sub hl [3] rfl)
  · have h := mif_f c3 h
    refine u_aload_n (r := some a0) hx hb dX5_signed_22 rfl (lv_at hl 1 rfl) ?_
    refine lv_iconst (v := 1) hx hb dX5_signed_23 (by decide) ?_
    obtain ⟨c11, h⟩ := mif_n h
    obtain ⟨o14, u12, c13, h⟩ := ucall_n h
    have zu12 := zz_X5_fault N (ub G) (ug G) u a0 1 o14 u12 c13
    have hq := zz_X5_signed_27 (G := G) (a0 := a0) N u12 o14 h
    refine u_callr (va_runV (As := [.int 1]) (rest := []) hC.1 (met_X5_fault l N G u a0 1 o14 u12 c13) (cwV 1 hts (lw_V q780 q781 q782 q105 q783) rfl rfl rfl (by decide +kernel) ⟨Nat.le_trans (Nat.le_of_ble_eq_true rfl) hR.1, Nat.le_trans (Nat.le_of_ble_eq_true rfl) hR.2⟩) ⟨uPc_blind, u_rcv hC hP c11 rfl, fun U hU hW => u_pre hC hP hS hU hW⟩ rfl rfl hl.1 rfl (lv_room (Nat.le_of_ble_eq_true rfl)) dX5_signed_24 ⟨by omega, by omega⟩) hS (fun H locs hP hS => ?_)
    refine W.cs (cells' := u12.1 - u0.1) (slots' := u12.2.1 - u0.2.1) (by omega) (by omega) ?_
    refine W.cs (cells' := u12.1 - u0.1) (slots' := u12.2.1 - u0.2.1) (by omega) (by omega) ?_
    exact w_X5_signed_27 hC hE hR hRm N u12 o14 h ⟨by omega, by omega⟩ hP hS (lv_sub hl [] rfl)
def f_X5_signed (N b : Nat) (g : uEnv) (u : UH) (a0 : Nat) (x1 : Int32) : Option ((Nat × UH) ⊕ (Int32 × UH)) :=
    (uGI u a0 4 3).bind fun y1 =>
    if uIs u a0 4 = true then
    ucall (f_X5_skips N b g u a0 (some (g.2.1 23))) fun r5 u3 =>
    f_X5_signed_11 N b g a0 u3 x1 y1 r5
    else none
set_option maxHeartbeats 4000000 in
set_option maxRecDepth 100000 in
theorem zz_X5_signed_0 {G : uG} {a0 : Nat} {z : (Nat × UH) ⊕ (Int32 × UH)} (N : Nat) (u : UH) (x1 : Int32) (h : f_X5_signed N (ub G) (ug G) u a0 x1 = some z) : u.1 ≤ (uX1 z).1 ∧ u.2.1 ≤ (uX1 z).2.1 := by
  unfold f_X5_signed at h
  obtain ⟨y1, hy1, h⟩ := mbind_n h
  obtain ⟨c2, h⟩ := mif_n h
  obtain ⟨r5, u3, c4, h⟩ := ucall_n h
  have zu3 := zz_X5_skips N (ub G) (ug G) u a0 (some ((ug G).2.1 23)) r5 u3 c4
  have hq := zz_X5_signed_11 (G := G) (a0 := a0) N u3 x1 y1 r5 h
  exact ⟨by omega, by omega⟩
set_option maxHeartbeats 4000000 in
set_option maxRecDepth 100000 in
theorem w_X5_signed_0 {p : Program} {l : Launch} {e : Env} {R : Room} {s : State} {m : MethodId} {args : Array Value} {below : List Frame} {meth : Method} {c : Code} {G : uG} {a0 : Nat} {u0 : UH} {z : (Nat × UH) ⊕ (Int32 × UH)} (hC : uC p s m args meth c G RX5 cX5_signed 5 (some .int)) (hE : c.exceptionTable.toList = []) (hR : 9 ≤ R.frames ∧ 236 ≤ R.locals) (hRm : (uX1 z).1 - u0.1 ≤ R.cells ∧ (uX1 z).2.1 - u0.2.1 ≤ R.slots) (N : Nat) (u : UH) (x1 : Int32) (h : f_X5_signed N (ub G) (ug G) u a0 x1 = some z) (hz0 : (u0.1 ≤ u.1 ∧ u0.2.1 ≤ u.2.1)) {H : Heap} {locs : List Loc} (hP : uP G u H) (hS : va_S (uA G) s.heap H locs) {ls : Array Slot} (hl : lv_has ls 5 [(0, va_rf (some a0)), (1, .int x1)]) : W p l e R s m args below meth c H locs (u.1 - u0.1) (u.2.1 - u0.2.1) (uMQi below G z args s ((uX1 z).1 - u0.1) ((uX1 z).2.1 - u0.2.1)) (F0 m 0 ls []) := by
  obtain ⟨⟨hx, hb, hml, hown, hts⟩, hKK⟩ := id hC
  have hzf := zz_X5_signed_0 (G := G) (a0 := a0) N u x1 h
  unfold f_X5_signed at h
  refine u_aload_n (r := some a0) hx hb dX5_signed_0 rfl (lv_at hl 0 rfl) ?_
  obtain ⟨y1, hy1, h⟩ := mbind_n h
  refine u_get hC hP (uGI_n hy1) rfl in_X5 (by decide) q630 (fun _ h => h) dX5_signed_1 ?_
  refine lv_istore_n (i := 2) (lv' := [(2, .int y1), (0, va_rf (some a0)), (1, .int x1)]) hx hb dX5_signed_4 rfl hl (by decide) rfl (fun ls hl => ?_)
  refine u_aload_n (r := some a0) hx hb dX5_signed_5 rfl (lv_at hl 1 rfl) ?_
  refine u_ldcS hC 23 rfl dX5_signed_6 ?_
  obtain ⟨c2, h⟩ := mif_n h
  obtain ⟨r5, u3, c4, h⟩ := ucall_n h
  have zu3 := zz_X5_skips N (ub G) (ug G) u a0 (some ((ug G).2.1 23)) r5 u3 c4
  have hq := zz_X5_signed_11 (G := G) (a0 := a0) N u3 x1 y1 r5 h
  refine u_calli (va_runV (As := [va_rf (some ((ug G).2.1 23))]) (rest := []) hC.1 (met_X5_skips l N G u a0 (some ((ug G).2.1 23)) r5 u3 c4) (cwV 1 hts (lw_V q917 q663 q664 q105 q665) rfl rfl rfl (by decide +kernel) ⟨Nat.le_trans (Nat.le_of_ble_eq_true rfl) hR.1, Nat.le_trans (Nat.le_of_ble_eq_true rfl) hR.2⟩) ⟨uPc_blind, u_rcv hC hP c2 rfl, fun U hU hW => u_pre hC hP hS hU hW⟩ rfl rfl hl.1 rfl (lv_room (Nat.le_of_ble_eq_true rfl)) dX5_signed_8 ⟨by omega, by omega⟩) hS (fun H locs hP hS => ?_)
  refine W.cs (cells' := u3.1 - u0.1) (slots' := u3.2.1 - u0.2.1) (by omega) (by omega) ?_
  refine W.cs (cells' := u3.1 - u0.1) (slots' := u3.2.1 - u0.2.1) (by omega) (by omega) ?_
  exact w_X5_signed_11 hC hE hR hRm N u3 x1 y1 r5 h ⟨by omega, by omega⟩ hP hS (lv_sub hl [1, 2, 0] rfl)
theorem zz_X5_signed (N b : Nat) (g : uEnv) (u : UH) (a0 : Nat) (x1 : Int32) (z : (Nat × UH) ⊕ (Int32 × UH)) (h : f_X5_signed N b g u a0 x1 = some z) : u.1 ≤ (uX1 z).1 ∧ u.2.1 ≤ (uX1 z).2.1 :=
  zz_X5_signed_0 (G := ((fun _ => 0, fun _ _ => 0), fun _ => 0, b, g)) (a0 := a0) N u x1 h
theorem met_X5_signed (l : Launch) (N : Nat) (G : uG) (u : UH) (a0 : Nat) (x1 : Int32) (r : Int32) (uf : UH) (h : f_X5_signed N (ub G) (ug G) u a0 x1 = some (.inr (r, uf))) : Met l yX5_signed (ws_ yX5_signed cX5_signed 5 (some .int)) ({ frames := 9, cells := (uf.1 - u.1), slots := (uf.2.1 - u.2.1), locals := 236 }) (uPc G u [.ref a0, .int x1]) (uQi G r uf) (uf.1 - u.1) (uf.2.1 - u.2.1) (uA G) := by
  exact u_metE (own := RX5) (by decide +kernel) rfl (Nat.le_of_ble_eq_true rfl) (fun hC hE hn hsz ls hl hP => W.cs (Nat.sub_self _).symm (Nat.sub_self _).symm (w_X5_signed_0 hC hE ⟨Nat.le_refl _, Nat.le_refl _⟩ ⟨Nat.le_refl _, Nat.le_refl _⟩ N u x1 h ⟨Nat.le_refl _, Nat.le_refl _⟩ hP va_S.rf hl))
theorem mex_X5_signed (l : Launch) (N : Nat) (G : uG) (u : UH) (a0 : Nat) (x1 : Int32) (x : Nat) (uf : UH) (h : f_X5_signed N (ub G) (ug G) u a0 x1 = some (.inl (x, uf))) : uMX l yX5_signed (ws_ yX5_signed cX5_signed 5 (some .int)) ({ frames := 9, cells := (uf.1 - u.1), slots := (uf.2.1 - u.2.1), locals := 236 }) G u [.ref a0, .int x1] x uf (uf.1 - u.1) (uf.2.1 - u.2.1) := by
  exact u_metX (own := RX5) (by decide +kernel) rfl (Nat.le_of_ble_eq_true rfl) (fun hC hE hn hsz ls hl hP => W.cs (Nat.sub_self _).symm (Nat.sub_self _).symm (w_X5_signed_0 hC hE ⟨Nat.le_refl _, Nat.le_refl _⟩ ⟨Nat.le_refl _, Nat.le_refl _⟩ N u x1 h ⟨Nat.le_refl _, Nat.le_refl _⟩ hP va_S.rf hl))
def f_X9_read_149 (N b : Nat) (g : uEnv) (a0 : Nat) (k0 : UH → Option Nat → Int32 → Int32 → Int32 → Option ((Nat × UH) ⊕ (UH))) (u : UH) (x1 : Option Nat) (x2 : Int32) (x3 : Int32) (x4 : Int32) (s0 : Int32) : Option ((Nat × UH) ⊕ (UH)) :=
    if s0 = 0 then
    some (.inr u)
    else
    k0 u x1 x2 x3 x4
set_option maxHeartbeats 4000000 in
set_option maxRecDepth 100000 in
theorem zz_X9_read_149 {G : uG} {a0 : Nat} {z : (Nat × UH) ⊕ (UH)} (N : Nat) (k0 : UH → Option Nat → Int32 → Int32 → Int32 → Option ((Nat × UH) ⊕ (UH))) (hk0 : ∀ (u : UH) (x1 : Option Nat) (x2 : Int32) (x3 : Int32) (x4 : Int32), k0 u x1 x2 x3 x4 = some z → u.1 ≤ (uX0 z).1 ∧ u.2.1 ≤ (uX0 z).2.1) (u : UH) (x1 : Option Nat) (x2 : Int32) (x3 : Int32) (x4 : Int32) (s0 : Int32) (h : f_X9_read_149 N (ub G) (ug G) a0 k0 u x1 x2 x3 x4 s0 = some z) : u.1 ≤ (uX0 z).1 ∧ u.2.1 ≤ (uX0 z).2.1 := by
  unfold f_X9_read_149 at h
  by_cases c1 : s0 = 0
  · have h := mif_t c1 h
    have hz := Option.some.inj h
    subst hz
    exact (show u.1 ≤ u.1 ∧ u.2.1 ≤ u.2.1 from ⟨by omega, by omega⟩)
  · have h := mif_f c1 h
    have hq := hk0 u x1 x2 x3 x4 h
    exact ⟨by omega, by omega⟩
set_option maxHeartbeats 4000000 in
set_option maxRecDepth 100000 in
theorem w_X9_read_149 {p : Program} {l : Launch} {e : Env} {R : Room} {s : State} {m : MethodId} {args : Array Value} {below : List Frame} {meth : Method} {c : Code} {G : uG} {a0 : Nat} {u0 : UH} {z : (Nat × UH) ⊕ (UH)} (hC : uC p s m args meth c G RX9 cX9_read 6 none) (hE : c.exceptionTable.toList = []) (hR : 9 ≤ R.frames ∧ 237 ≤ R.locals) (hRm : (uX0 z).1 - u0.1 ≤ R.cells ∧ (uX0 z).2.1 - u0.2.1 ≤ R.slots) (N : Nat) (k0 : UH → Option Nat → Int32 → Int32 → Int32 → Option ((Nat × UH) ⊕ (UH))) (hk0 : ∀ (u : UH) (x1 : Option Nat) (x2 : Int32) (x3 : Int32) (x4 : Int32), k0 u x1 x2 x3 x4 = some z → (u0.1 ≤ u.1 ∧ u0.2.1 ≤ u.2.1) → ∀ (H : Heap) (locs : List Loc), uP G u H → va_S (uA G) s.heap H locs → ∀ ls : Array Slot, lv_has ls 6 [(0, va_rf (some a0)), (1, va_rf x1), (2, .int x2), (3, .int x3), (4, .int x4)] → W p l e R s m args below meth c H locs (u.1 - u0.1) (u.2.1 - u0.2.1) (uMQv below G z args s ((uX0 z).1 - u0.1) ((uX0 z).2.1 - u0.2.1)) (F0 m 0 ls [])) (zk0 : ∀ (u : UH) (x1 : Option Nat) (x2 : Int32) (x3 : Int32) (x4 : Int32), k0 u x1 x2 x3 x4 = some z → u.1 ≤ (uX0 z).1 ∧ u.2.1 ≤ (uX0 z).2.1) (u : UH) (x1 : Option Nat) (x2 : Int32) (x3 : Int32) (x4 : Int32) (s0 : Int32) (h : f_X9_read_149 N (ub G) (ug G) a0 k0 u x1 x2 x3 x4 s0 = some z) (hz0 : (u0.1 ≤ u.1 ∧ u0.2.1 ≤ u.2.1)) {H : Heap} {locs : List Loc} (hP : uP G u H) (hS : va_S (uA G) s.heap H locs) {ls : Array Slot} (hl : lv_has ls 6 [(0, va_rf (some a0)), (1, va_rf x1), (2, .int x2), (3, .int x3), (4, .int x4)]) : W p l e R s m args below meth c H locs (u.1 - u0.1) (u.2.1 - u0.2.1) (uMQv below G z args s ((uX0 z).1 - u0.1) ((uX0 z).2.1 - u0.2.1)) (F0 m 149 ls [.int s0]) := by
  obtain ⟨⟨hx, hb, hml, hown, hts⟩, hKK⟩ := id hC
  have hzf := zz_X9_read_149 (G := G) (a0 := a0) N k0 zk0 u x1 x2 x3 x4 s0 h
  unfold f_X9_read_149 at h
  refine lv_if_ne (tgt := 0) hx hb dX9_read_149 (by decide) (fun c1 => ?_) (fun c1 => ?_)
  · have h := mif_f c1 h
    refine W.cs (cells' := u.1 - u0.1) (slots' := u.2.1 - u0.2.1) (by omega) (by omega) ?_
    exact hk0 u x1 x2 x3 x4 h ⟨by omega, by omega⟩ _ _ hP hS _ (lv_sub hl [0, 1, 2, 3, 4] rfl)
  · have h := mif_t c1 h
    have hz := Option.some.inj h
    subst hz
    exact u_vret hC hP hS dX9_read_152
def f_X9_read_132 (N b : Nat) (g : uEnv) (a0 : Nat) (k0 : UH → Option Nat → Int32 → Int32 → Int32 → Option ((Nat × UH) ⊕ (UH))) (u : UH) (x1 : Option Nat) (x2 : Int32) (x3 : Int32) (x4 : Int32) (s0 : Int32) (s1 : Int32) (s2 : Option Nat) : Option ((Nat × UH) ⊕ (UH)) :=
    (s2).bind fun a1 =>
    (uStI b u a1 0 s1 s0).bind fun u2 =>
    (uGI u2 a0 7 2).bind fun y3 =>
    (uPut b u2 a0 7 2 (.int (y3 + 1))).bind fun u4 =>
    (x1).bind fun a5 =>
    if uIs u4 a5 4 = true then
    ucall (f_X5_skips N b g u4 a5 (some (g.2.1 13))) fun r9 u7 =>
    f_X9_read_149 N b g a0 k0 u7 (some a5) x2 x3 x4 r9
    else none
set_option maxHeartbeats 4000000 in
set_option maxRecDepth 100000 in
theorem zz_X9_read_132 {G : uG} {a0 : Nat} {z : (Nat × UH) ⊕ (UH)} (N : Nat) (k0 : UH → Option Nat → Int32 → Int32 → Int32 → Option ((Nat × UH) ⊕ (UH))) (hk0 : ∀ (u : UH) (x1 : Option Nat) (x2 : Int32) (x3 : Int32) (x4 : Int32), k0 u x1 x2 x3 x4 = some z → u.1 ≤ (uX0 z).1 ∧ u.2.1 ≤ (uX0 z).2.1) (u : UH) (x1 : Option Nat) (x2 : Int32) (x3 : Int32) (x4 : Int32) (s0 : Int32) (s1 : Int32) (s2 : Option Nat) (h : f_X9_read_132 N (ub G) (ug G) a0 k0 u x1 x2 x3 x4 s0 s1 s2 = some z) : u.1 ≤ (uX0 z).1 ∧ u.2.1 ≤ (uX0 z).2.1 := by
  unfold f_X9_read_132 at h
  obtain ⟨a1, ha1, hha1⟩ := mbind_n h
  subst ha1
  have h := hha1
  obtain ⟨u2, hu2, h⟩ := mbind_n h
  have zu2 := uStI_sz hu2
  obtain ⟨y3, hy3, h⟩ := mbind_n h
  obtain ⟨u4, hu4, h⟩ := mbind_n h
  have zu4 := uPut_sz hu4
  obtain ⟨a5, ha5, hha5⟩ := mbind_n h
  subst ha5
  have h := hha5
  obtain ⟨c6, h⟩ := mif_n h
  obtain ⟨r9, u7, c8, h⟩ := ucall_n h
  have zu7 := zz_X5_skips N (ub G) (ug G) u4 a5 (some ((ug G).2.1 13)) r9 u7 c8
  have hq := zz_X9_read_149 (G := G) (a0 := a0) N k0 hk0 u7 (some a5) x2 x3 x4 r9 h
  exact ⟨by omega, by omega⟩
set_option maxHeartbeats 4000000 in
set_option maxRecDepth 100000 in
theorem w_X9_read_132 {p : Program} {l : Launch} {e : Env} {R : Room} {s : State} {m : MethodId} {args : Array Value} {below : List Frame} {meth : Method} {c : Code} {G : uG} {a0 : Nat} {u0 : UH} {z : (Nat × UH) ⊕ (UH)} (hC : uC p s m args meth c G RX9 cX9_read 6 none) (hE : c.exceptionTable.toList = []) (hR : 9 ≤ R.frames ∧ 237 ≤ R.locals) (hRm : (uX0 z).1 - u0.1 ≤ R.cells ∧ (uX0 z).2.1 - u0.2.1 ≤ R.slots) (N : Nat) (k0 : UH → Option Nat → Int32 → Int32 → Int32 → Option ((Nat × UH) ⊕ (UH))) (hk0 : ∀ (u : UH) (x1 : Option Nat) (x2 : Int32) (x3 : Int32) (x4 : Int32), k0 u x1 x2 x3 x4 = some z → (u0.1 ≤ u.1 ∧ u0.2.1 ≤ u.2.1) → ∀ (H : Heap) (locs : List Loc), uP G u H → va_S (uA G) s.heap H locs → ∀ ls : Array Slot, lv_has ls 6 [(0, va_rf (some a0)), (1, va_rf x1), (2, .int x2), (3, .int x3), (4, .int x4)] → W p l e R s m args below meth c H locs (u.1 - u0.1) (u.2.1 - u0.2.1) (uMQv below G z args s ((uX0 z).1 - u0.1) ((uX0 z).2.1 - u0.2.1)) (F0 m 0 ls [])) (zk0 : ∀ (u : UH) (x1 : Option Nat) (x2 : Int32) (x3 : Int32) (x4 : Int32), k0 u x1 x2 x3 x4 = some z → u.1 ≤ (uX0 z).1 ∧ u.2.1 ≤ (uX0 z).2.1) (u : UH) (x1 : Option Nat) (x2 : Int32) (x3 : Int32) (x4 : Int32) (s0 : Int32) (s1 : Int32) (s2 : Option Nat) (h : f_X9_read_132 N (ub G) (ug G) a0 k0 u x1 x2 x3 x4 s0 s1 s2 = some z) (hz0 : (u0.1 ≤ u.1 ∧ u0.2.1 ≤ u.2.1)) {H : Heap} {locs : List Loc} (hP : uP G u H) (hS : va_S (uA G) s.heap H locs) {ls : Array Slot} (hl : lv_has ls 6 [(0, va_rf (some a0)), (1, va_rf x1), (2, .int x2), (3, .int x3), (4, .int x4)]) : W p l e R s m args below meth c H locs (u.1 - u0.1) (u.2.1 - u0.2.1) (uMQv below G z args s ((uX0 z).1 - u0.1) ((uX0 z).2.1 - u0.2.1)) (F0 m 132 ls [.int s0, .int s1, va_rf s2]) := by
  obtain ⟨⟨hx, hb, hml, hown, hts⟩, hKK⟩ := id hC
  have hzf := zz_X9_read_132 (G := G) (a0 := a0) N k0 zk0 u x1 x2 x3 x4 s0 s1 s2 h
  unfold f_X9_read_132 at h
  obtain ⟨a1, ha1, hha1⟩ := mbind_n h
  subst ha1
  have h := hha1
  obtain ⟨u2, hu2, h⟩ := mbind_n h
  have zu2 := uStI_sz hu2
  refine u_iast hC hP hS hu2 rfl dX9_read_132 (fun H locs hP hS => ?_)
  refine W.cs (cells' := u2.1 - u0.1) (slots' := u2.2.1 - u0.2.1) (by omega) (by omega) ?_
  refine u_aload_n (r := some a0) hx hb dX9_read_133 rfl (lv_at hl 0 rfl) ?_
  refine lv_dup hx hb dX9_read_134 (u_cat _) ?_
  obtain ⟨y3, hy3, h⟩ := mbind_n h
  refine u_get hC hP (uGI_n hy3) rfl in_X9 (by decide) q864 (fun _ h => h) dX9_read_135 ?_
  refine lv_iconst (v := 1) hx hb dX9_read_138 (by decide) ?_
  refine lv_iadd hx hb dX9_read_139 ?_
  obtain ⟨u4, hu4, h⟩ := mbind_n h
  have zu4 := uPut_sz hu4
  refine u_put hC hP hS hu4 rfl in_X9 tyX9 tyX9_ok nmX9 (by decide) q864 (fun _ h => h) rfl (ty := .int) (tyX9_ok 2 (by decide)) rfl rfl dX9_read_140 (fun H locs hP hS => ?_)
  refine W.cs (cells' := u4.1 - u0.1) (slots' := u4.2.1 - u0.2.1) (by omega) (by omega) ?_
  refine u_aload_n (r := x1) hx hb dX9_read_143 rfl (lv_at hl 1 rfl) ?_
  refine u_ldcS hC 13 rfl dX9_read_144 ?_
  obtain ⟨a5, ha5, hha5⟩ := mbind_n h
  subst ha5
  have h := hha5
  obtain ⟨c6, h⟩ := mif_n h
  obtain ⟨r9, u7, c8, h⟩ := ucall_n h
  have zu7 := zz_X5_skips N (ub G) (ug G) u4 a5 (some ((ug G).2.1 13)) r9 u7 c8
  have hq := zz_X9_read_149 (G := G) (a0 := a0) N k0 zk0 u7 (some a5) x2 x3 x4 r9 h
  refine u_calli (va_runV (As := [va_rf (some ((ug G).2.1 13))]) (rest := []) hC.1 (met_X5_skips l N G u4 a5 (some ((ug G).2.1 13)) r9 u7 c8) (cwV 1 hts (lw_V q932 q663 q664 q105 q665) rfl rfl rfl (by decide +kernel) ⟨Nat.le_trans (Nat.le_of_ble_eq_true rfl) hR.1, Nat.le_trans (Nat.le_of_ble_eq_true rfl) hR.2⟩) ⟨uPc_blind, u_rcv hC hP c6 rfl, fun U hU hW => u_pre hC hP hS hU hW⟩ rfl rfl hl.1 rfl (lv_room (Nat.le_of_ble_eq_true rfl)) dX9_read_146 ⟨by omega, by omega⟩) hS (fun H locs hP hS => ?_)
  refine W.cs (cells' := u7.1 - u0.1) (slots' := u7.2.1 - u0.2.1) (by omega) (by omega) ?_
  refine W.cs (cells' := u7.1 - u0.1) (slots' := u7.2.1 - u0.2.1) (by omega) (by omega) ?_
  exact w_X9_read_149 hC hE hR hRm N k0 hk0 zk0 u7 (some a5) x2 x3 x4 r9 h ⟨by omega, by omega⟩ hP hS (lv_sub hl [0, 1, 2, 3, 4] rfl)
def f_X9_read_128 (N b : Nat) (g : uEnv) (a0 : Nat) (k0 : UH → Option Nat → Int32 → Int32 → Int32 → Option ((Nat × UH) ⊕ (UH))) (u : UH) (x1 : Option Nat) (x2 : Int32) (x3 : Int32) (x4 : Int32) (s0 : Int32) (s1 : Option Nat) (s2 : Int32) (s3 : Option Nat) : Option ((Nat × UH) ⊕ (UH)) :=
    (s1).bind fun a1 =>
    if uIs u a1 4 = true then
    uxcall (f_X5_whole N b g u a1 s0 x3) (fun a6 u7 =>
    some (.inl (a6, u7))) fun r5 u3 =>
    f_X9_read_132 N b g a0 k0 u3 x1 x2 x3 x4 r5 s2 s3
    else none
set_option maxHeartbeats 4000000 in
set_option maxRecDepth 100000 in
theorem zz_X9_read_128 {G : uG} {a0 : Nat} {z : (Nat × UH) ⊕ (UH)} (N : Nat) (k0 : UH → Option Nat → Int32 → Int32 → Int32 → Option ((Nat × UH) ⊕ (UH))) (hk0 : ∀ (u : UH) (x1 : Option Nat) (x2 : Int32) (x3 : Int32) (x4 : Int32), k0 u x1 x2 x3 x4 = some z → u.1 ≤ (uX0 z).1 ∧ u.2.1 ≤ (uX0 z).2.1) (u : UH) (x1 : Option Nat) (x2 : Int32) (x3 : Int32) (x4 : Int32) (s0 : Int32) (s1 : Option Nat) (s2 : Int32) (s3 : Option Nat) (h : f_X9_read_128 N (ub G) (ug G) a0 k0 u x1 x2 x3 x4 s0 s1 s2 s3 = some z) : u.1 ≤ (uX0 z).1 ∧ u.2.1 ≤ (uX0 z).2.1 := by
  unfold f_X9_read_128 at h
  obtain ⟨a1, ha1, hha1⟩ := mbind_n h
  subst ha1
  have h := hha1
  obtain ⟨c2, h⟩ := mif_n h
  rcases uxcall_n h with ⟨a6, u7, c8, h⟩ | ⟨r5, u3, c4, h⟩
  · have zu7 : u.1 ≤ u7.1 ∧ u.2.1 ≤ u7.2.1 := zz_X5_whole N (ub G) (ug G) u a1 s0 x3 (.inl (a6, u7)) c8
    have hz := Option.some.inj h
    subst hz
    exact (show u.1 ≤ u7.1 ∧ u.2.1 ≤ u7.2.1 from ⟨by omega, by omega⟩)
  · have zu3 : u.1 ≤ u3.1 ∧ u.2.1 ≤ u3.2.1 := zz_X5_whole N (ub G) (ug G) u a1 s0 x3 (.inr (r5, u3)) c4
    have hq := zz_X9_read_132 (G := G) (a0 := a0) N k0 hk0 u3 x1 x2 x3 x4 r5 s2 s3 h
    exact ⟨by omega, by omega⟩
set_option maxHeartbeats 4000000 in
set_option maxRecDepth 100000 in
theorem w_X9_read_128 {p : Program} {l : Launch} {e : Env} {R : Room} {s : State} {m : MethodId} {args : Array Value} {below : List Frame} {meth : Method} {c : Code} {G : uG} {a0 : Nat} {u0 : UH} {z : (Nat × UH) ⊕ (UH)} (hC : uC p s m args meth c G RX9 cX9_read 6 none) (hE : c.exceptionTable.toList = []) (hR : 9 ≤ R.frames ∧ 237 ≤ R.locals) (hRm : (uX0 z).1 - u0.1 ≤ R.cells ∧ (uX0 z).2.1 - u0.2.1 ≤ R.slots) (N : Nat) (k0 : UH → Option Nat → Int32 → Int32 → Int32 → Option ((Nat × UH) ⊕ (UH))) (hk0 : ∀ (u : UH) (x1 : Option Nat) (x2 : Int32) (x3 : Int32) (x4 : Int32), k0 u x1 x2 x3 x4 = some z → (u0.1 ≤ u.1 ∧ u0.2.1 ≤ u.2.1) → ∀ (H : Heap) (locs : List Loc), uP G u H → va_S (uA G) s.heap H locs → ∀ ls : Array Slot, lv_has ls 6 [(0, va_rf (some a0)), (1, va_rf x1), (2, .int x2), (3, .int x3), (4, .int x4)] → W p l e R s m args below meth c H locs (u.1 - u0.1) (u.2.1 - u0.2.1) (uMQv below G z args s ((uX0 z).1 - u0.1) ((uX0 z).2.1 - u0.2.1)) (F0 m 0 ls [])) (zk0 : ∀ (u : UH) (x1 : Option Nat) (x2 : Int32) (x3 : Int32) (x4 : Int32), k0 u x1 x2 x3 x4 = some z → u.1 ≤ (uX0 z).1 ∧ u.2.1 ≤ (uX0 z).2.1) (u : UH) (x1 : Option Nat) (x2 : Int32) (x3 : Int32) (x4 : Int32) (s0 : Int32) (s1 : Option Nat) (s2 : Int32) (s3 : Option Nat) (h : f_X9_read_128 N (ub G) (ug G) a0 k0 u x1 x2 x3 x4 s0 s1 s2 s3 = some z) (hz0 : (u0.1 ≤ u.1 ∧ u0.2.1 ≤ u.2.1)) {H : Heap} {locs : List Loc} (hP : uP G u H) (hS : va_S (uA G) s.heap H locs) {ls : Array Slot} (hl : lv_has ls 6 [(0, va_rf (some a0)), (1, va_rf x1), (2, .int x2), (3, .int x3), (4, .int x4)]) : W p l e R s m args below meth c H locs (u.1 - u0.1) (u.2.1 - u0.2.1) (uMQv below G z args s ((uX0 z).1 - u0.1) ((uX0 z).2.1 - u0.2.1)) (F0 m 128 ls [.int s0, va_rf s1, .int s2, va_rf s3]) := by
  obtain ⟨⟨hx, hb, hml, hown, hts⟩, hKK⟩ := id hC
  have hzf := zz_X9_read_128 (G := G) (a0 := a0) N k0 zk0 u x1 x2 x3 x4 s0 s1 s2 s3 h
  unfold f_X9_read_128 at h
  refine lv_iload_n hx hb dX9_read_128 rfl (lv_at hl 3 rfl) ?_
  obtain ⟨a1, ha1, hha1⟩ := mbind_n h
  subst ha1
  have h := hha1
  obtain ⟨c2, h⟩ := mif_n h
  rcases uxcall_n h with ⟨a6, u7, c8, h⟩ | ⟨r5, u3, c4, h⟩
  · have zu7 : u.1 ≤ u7.1 ∧ u.2.1 ≤ u7.2.1 := zz_X5_whole N (ub G) (ug G) u a1 s0 x3 (.inl (a6, u7)) c8
    have hz := Option.some.inj h
    subst hz
    have hRm : u7.1 - u0.1 ≤ R.cells ∧ u7.2.1 - u0.2.1 ≤ R.slots := hRm
    exact u_callX hC (u_noE hE) (u_runVX (As := [.int s0, .int x3]) (rest := [.int s2, va_rf s3]) hC.1 (mex_X5_whole l N G u a1 s0 x3 a6 u7 c8) (cwV 2 hts (lw_V q926 q927 q928 q105 q929) rfl rfl rfl (by decide +kernel) ⟨Nat.le_trans (Nat.le_of_ble_eq_true rfl) hR.1, Nat.le_trans (Nat.le_of_ble_eq_true rfl) hR.2⟩) ⟨uPc_blind, u_rcv hC hP c2 rfl, fun U hU hW => u_pre hC hP hS hU hW⟩ rfl rfl hl.1 rfl (lv_room (by simp only [List.map, u_cat]; exact Nat.le_of_ble_eq_true rfl)) dX9_read_129 ⟨by omega, by omega⟩) hS (by show _ + _ = u7.1 - u0.1; omega) (by show _ + _ = u7.2.1 - u0.2.1; omega)
  · have zu3 : u.1 ≤ u3.1 ∧ u.2.1 ≤ u3.2.1 := zz_X5_whole N (ub G) (ug G) u a1 s0 x3 (.inr (r5, u3)) c4
    have hq := zz_X9_read_132 (G := G) (a0 := a0) N k0 zk0 u3 x1 x2 x3 x4 r5 s2 s3 h
    refine u_calli (va_runV (As := [.int s0, .int x3]) (rest := [.int s2, va_rf s3]) hC.1 (met_X5_whole l N G u a1 s0 x3 r5 u3 c4) (cwV 2 hts (lw_V q926 q927 q928 q105 q929) rfl rfl rfl (by decide +kernel) ⟨Nat.le_trans (Nat.le_of_ble_eq_true rfl) hR.1, Nat.le_trans (Nat.le_of_ble_eq_true rfl) hR.2⟩) ⟨uPc_blind, u_rcv hC hP c2 rfl, fun U hU hW => u_pre hC hP hS hU hW⟩ rfl rfl hl.1 rfl (lv_room (by simp only [List.map, u_cat]; exact Nat.le_of_ble_eq_true rfl)) dX9_read_129 ⟨by omega, by omega⟩) hS (fun H locs hP hS => ?_)
    refine W.cs (cells' := u3.1 - u0.1) (slots' := u3.2.1 - u0.2.1) (by omega) (by omega) ?_
    exact w_X9_read_132 hC hE hR hRm N k0 hk0 zk0 u3 x1 x2 x3 x4 r5 s2 s3 h ⟨by omega, by omega⟩ hP hS (lv_sub hl [0, 1, 2, 3, 4] rfl)
def f_X9_read_127 (N b : Nat) (g : uEnv) (a0 : Nat) (k0 : UH → Option Nat → Int32 → Int32 → Int32 → Option ((Nat × UH) ⊕ (UH))) (u : UH) (x1 : Option Nat) (x2 : Int32) (x3 : Int32) (x4 : Int32) (s0 : Option Nat) (s1 : Int32) (s2 : Option Nat) : Option ((Nat × UH) ⊕ (UH)) :=
    f_X9_read_128 N b g a0 k0 u x1 x2 x3 x4 0 s0 s1 s2
set_option maxHeartbeats 4000000 in
set_option maxRecDepth 100000 in
theorem zz_X9_read_127 {G : uG} {a0 : Nat} {z : (Nat × UH) ⊕ (UH)} (N : Nat) (k0 : UH → Option Nat → Int32 → Int32 → Int32 → Option ((Nat × UH) ⊕ (UH))) (hk0 : ∀ (u : UH) (x1 : Option Nat) (x2 : Int32) (x3 : Int32) (x4 : Int32), k0 u x1 x2 x3 x4 = some z → u.1 ≤ (uX0 z).1 ∧ u.2.1 ≤ (uX0 z).2.1) (u : UH) (x1 : Option Nat) (x2 : Int32) (x3 : Int32) (x4 : Int32) (s0 : Option Nat) (s1 : Int32) (s2 : Option Nat) (h : f_X9_read_127 N (ub G) (ug G) a0 k0 u x1 x2 x3 x4 s0 s1 s2 = some z) : u.1 ≤ (uX0 z).1 ∧ u.2.1 ≤ (uX0 z).2.1 := by
  unfold f_X9_read_127 at h
  have hq := zz_X9_read_128 (G := G) (a0 := a0) N k0 hk0 u x1 x2 x3 x4 0 s0 s1 s2 h
  exact ⟨by omega, by omega⟩
set_option maxHeartbeats 4000000 in
set_option maxRecDepth 100000 in
theorem w_X9_read_127 {p : Program} {l : Launch} {e : Env} {R : Room} {s : State} {m : MethodId} {args : Array Value} {below : List Frame} {meth : Method} {c : Code} {G : uG} {a0 : Nat} {u0 : UH} {z : (Nat × UH) ⊕ (UH)} (hC : uC p s m args meth c G RX9 cX9_read 6 none) (hE : c.exceptionTable.toList = []) (hR : 9 ≤ R.frames ∧ 237 ≤ R.locals) (hRm : (uX0 z).1 - u0.1 ≤ R.cells ∧ (uX0 z).2.1 - u0.2.1 ≤ R.slots) (N : Nat) (k0 : UH → Option Nat → Int32 → Int32 → Int32 → Option ((Nat × UH) ⊕ (UH))) (hk0 : ∀ (u : UH) (x1 : Option Nat) (x2 : Int32) (x3 : Int32) (x4 : Int32), k0 u x1 x2 x3 x4 = some z → (u0.1 ≤ u.1 ∧ u0.2.1 ≤ u.2.1) → ∀ (H : Heap) (locs : List Loc), uP G u H → va_S (uA G) s.heap H locs → ∀ ls : Array Slot, lv_has ls 6 [(0, va_rf (some a0)), (1, va_rf x1), (2, .int x2), (3, .int x3), (4, .int x4)] → W p l e R s m args below meth c H locs (u.1 - u0.1) (u.2.1 - u0.2.1) (uMQv below G z args s ((uX0 z).1 - u0.1) ((uX0 z).2.1 - u0.2.1)) (F0 m 0 ls [])) (zk0 : ∀ (u : UH) (x1 : Option Nat) (x2 : Int32) (x3 : Int32) (x4 : Int32), k0 u x1 x2 x3 x4 = some z → u.1 ≤ (uX0 z).1 ∧ u.2.1 ≤ (uX0 z).2.1) (u : UH) (x1 : Option Nat) (x2 : Int32) (x3 : Int32) (x4 : Int32) (s0 : Option Nat) (s1 : Int32) (s2 : Option Nat) (h : f_X9_read_127 N (ub G) (ug G) a0 k0 u x1 x2 x3 x4 s0 s1 s2 = some z) (hz0 : (u0.1 ≤ u.1 ∧ u0.2.1 ≤ u.2.1)) {H : Heap} {locs : List Loc} (hP : uP G u H) (hS : va_S (uA G) s.heap H locs) {ls : Array Slot} (hl : lv_has ls 6 [(0, va_rf (some a0)), (1, va_rf x1), (2, .int x2), (3, .int x3), (4, .int x4)]) : W p l e R s m args below meth c H locs (u.1 - u0.1) (u.2.1 - u0.2.1) (uMQv below G z args s ((uX0 z).1 - u0.1) ((uX0 z).2.1 - u0.2.1)) (F0 m 127 ls [va_rf s0, .int s1, va_rf s2]) := by
  obtain ⟨⟨hx, hb, hml, hown, hts⟩, hKK⟩ := id hC
  have hzf := zz_X9_read_127 (G := G) (a0 := a0) N k0 zk0 u x1 x2 x3 x4 s0 s1 s2 h
  unfold f_X9_read_127 at h
  refine lv_iconst (v := 0) hx hb dX9_read_127 (by decide) ?_
  refine W.cs (cells' := u.1 - u0.1) (slots' := u.2.1 - u0.2.1) (by omega) (by omega) ?_
  exact w_X9_read_128 hC hE hR hRm N k0 hk0 zk0 u x1 x2 x3 x4 0 s0 s1 s2 h ⟨by omega, by omega⟩ hP hS (lv_sub hl [0, 1, 2, 3, 4] rfl)
def f_X9_read_92 (N b : Nat) (g : uEnv) (a0 : Nat) (k0 : UH → Option Nat → Int32 → Int32 → Int32 → Option ((Nat × UH) ⊕ (UH))) (u : UH) (x1 : Option Nat) (x2 : Int32) (x3 : Int32) (x4 : Int32) : Option ((Nat × UH) ⊕ (UH)) :=
    (uGR u a0 7 1).bind fun o1 =>
    (uGI u a0 7 2).bind fun y2 =>
    if x4 = 0 then
    f_X9_read_127 N b g a0 k0 u x1 x2 x3 x4 x1 y2 o1
    else
    (uGI u a0 7 2).bind fun y4 =>
    if y4 ≤ 0 then
    f_X9_read_127 N b g a0 k0 u x1 x2 x3 x4 x1 y2 o1
    else
    (uGR u a0 7 1).bind fun o6 =>
    (uGI u a0 7 2).bind fun y7 =>
    (o6).bind fun a8 =>
    (uLdI u a8 0 (y7 - 1)).bind fun y9 =>
    f_X9_read_128 N b g a0 k0 u x1 x2 x3 x4 y9 x1 y2 o1
set_option maxHeartbeats 4000000 in
set_option maxRecDepth 100000 in
theorem zz_X9_read_92 {G : uG} {a0 : Nat} {z : (Nat × UH) ⊕ (UH)} (N : Nat) (k0 : UH → Option Nat → Int32 → Int32 → Int32 → Option ((Nat × UH) ⊕ (UH))) (hk0 : ∀ (u : UH) (x1 : Option Nat) (x2 : Int32) (x3 : Int32) (x4 : Int32), k0 u x1 x2 x3 x4 = some z → u.1 ≤ (uX0 z).1 ∧ u.2.1 ≤ (uX0 z).2.1) (u : UH) (x1 : Option Nat) (x2 : Int32) (x3 : Int32) (x4 : Int32) (h : f_X9_read_92 N (ub G) (ug G) a0 k0 u x1 x2 x3 x4 = some z) : u.1 ≤ (uX0 z).1 ∧ u.2.1 ≤ (uX0 z).2.1 := by
  unfold f_X9_read_92 at h
  obtain ⟨o1, ho1, h⟩ := mbind_n h
  obtain ⟨y2, hy2, h⟩ := mbind_n h
  by_cases c3 : x4 = 0
  · have h := mif_t c3 h
    have hq := zz_X9_read_127 (G := G) (a0 := a0) N k0 hk0 u x1 x2 x3 x4 x1 y2 o1 h
    exact ⟨by omega, by omega⟩
  · have h := mif_f c3 h
    obtain ⟨y4, hy4, h⟩ := mbind_n h
    by_cases c5 : y4 ≤ 0
    · have h := mif_t c5 h
      have hq := zz_X9_read_127 (G := G) (a0 := a0) N k0 hk0 u x1 x2 x3 x4 x1 y2 o1 h
      exact ⟨by omega, by omega⟩
    · have h := mif_f c5 h
      obtain ⟨o6, ho6, h⟩ := mbind_n h
      obtain ⟨y7, hy7, h⟩ := mbind_n h
      obtain ⟨a8, ha8, hha8⟩ := mbind_n h
      subst ha8
      have h := hha8
      obtain ⟨y9, hy9, h⟩ := mbind_n h
      have hq := zz_X9_read_128 (G := G) (a0 := a0) N k0 hk0 u x1 x2 x3 x4 y9 x1 y2 o1 h
      exact ⟨by omega, by omega⟩
set_option maxHeartbeats 4000000 in
set_option maxRecDepth 100000 in
theorem w_X9_read_92 {p : Program} {l : Launch} {e : Env} {R : Room} {s : State} {m : MethodId} {args : Array Value} {below : List Frame} {meth : Method} {c : Code} {G : uG} {a0 : Nat} {u0 : UH} {z : (Nat × UH) ⊕ (UH)} (hC : uC p s m args meth c G RX9 cX9_read 6 none) (hE : c.exceptionTable.toList = []) (hR : 9 ≤ R.frames ∧ 237 ≤ R.locals) (hRm : (uX0 z).1 - u0.1 ≤ R.cells ∧ (uX0 z).2.1 - u0.2.1 ≤ R.slots) (N : Nat) (k0 : UH → Option Nat → Int32 → Int32 → Int32 → Option ((Nat × UH) ⊕ (UH))) (hk0 : ∀ (u : UH) (x1 : Option Nat) (x2 : Int32) (x3 : Int32) (x4 : Int32), k0 u x1 x2 x3 x4 = some z → (u0.1 ≤ u.1 ∧ u0.2.1 ≤ u.2.1) → ∀ (H : Heap) (locs : List Loc), uP G u H → va_S (uA G) s.heap H locs → ∀ ls : Array Slot, lv_has ls 6 [(0, va_rf (some a0)), (1, va_rf x1), (2, .int x2), (3, .int x3), (4, .int x4)] → W p l e R s m args below meth c H locs (u.1 - u0.1) (u.2.1 - u0.2.1) (uMQv below G z args s ((uX0 z).1 - u0.1) ((uX0 z).2.1 - u0.2.1)) (F0 m 0 ls [])) (zk0 : ∀ (u : UH) (x1 : Option Nat) (x2 : Int32) (x3 : Int32) (x4 : Int32), k0 u x1 x2 x3 x4 = some z → u.1 ≤ (uX0 z).1 ∧ u.2.1 ≤ (uX0 z).2.1) (u : UH) (x1 : Option Nat) (x2 : Int32) (x3 : Int32) (x4 : Int32) (h : f_X9_read_92 N (ub G) (ug G) a0 k0 u x1 x2 x3 x4 = some z) (hz0 : (u0.1 ≤ u.1 ∧ u0.2.1 ≤ u.2.1)) {H : Heap} {locs : List Loc} (hP : uP G u H) (hS : va_S (uA G) s.heap H locs) {ls : Array Slot} (hl : lv_has ls 6 [(0, va_rf (some a0)), (1, va_rf x1), (2, .int x2), (3, .int x3), (4, .int x4)]) : W p l e R s m args below meth c H locs (u.1 - u0.1) (u.2.1 - u0.2.1) (uMQv below G z args s ((uX0 z).1 - u0.1) ((uX0 z).2.1 - u0.2.1)) (F0 m 92 ls []) := by
  obtain ⟨⟨hx, hb, hml, hown, hts⟩, hKK⟩ := id hC
  have hzf := zz_X9_read_92 (G := G) (a0 := a0) N k0 zk0 u x1 x2 x3 x4 h
  unfold f_X9_read_92 at h
  refine u_aload_n (r := some a0) hx hb dX9_read_92 rfl (lv_at hl 0 rfl) ?_
  obtain ⟨o1, ho1, h⟩ := mbind_n h
  refine u_get hC hP (uGR_n ho1) rfl in_X9 (by decide) q863 (fun _ h => h) dX9_read_93 ?_
  refine u_aload_n (r := some a0) hx hb dX9_read_96 rfl (lv_at hl 0 rfl) ?_
  obtain ⟨y2, hy2, h⟩ := mbind_n h
  refine u_get hC hP (uGI_n hy2) rfl in_X9 (by decide) q864 (fun _ h => h) dX9_read_97 ?_
  refine u_aload_n (r := x1) hx hb dX9_read_100 rfl (lv_at hl 1 rfl) ?_
  refine lv_iload hx hb dX9_read_101 (lv_at hl 4 rfl) ?_
  refine lv_if_eq (tgt := 127) hx hb dX9_read_103 (by decide) (fun c3 => ?_) (fun c3 => ?_)
  · have h := mif_t c3 h
    refine W.cs (cells' := u.1 - u0.1) (slots' := u.2.1 - u0.2.1) (by omega) (by omega) ?_
    exact w_X9_read_127 hC hE hR hRm N k0 hk0 zk0 u x1 x2 x3 x4 x1 y2 o1 h ⟨by omega, by omega⟩ hP hS (lv_sub hl [0, 1, 2, 3, 4] rfl)
  · have h := mif_f c3 h
    refine u_aload_n (r := some a0) hx hb dX9_read_106 rfl (lv_at hl 0 rfl) ?_
    obtain ⟨y4, hy4, h⟩ := mbind_n h
    refine u_get hC hP (uGI_n hy4) rfl in_X9 (by decide) q864 (fun _ h => h) dX9_read_107 ?_
    refine lv_if_le (tgt := 127) hx hb dX9_read_110 (by decide) (fun c5 => ?_) (fun c5 => ?_)
    · have h := mif_t c5 h
      refine W.cs (cells' := u.1 - u0.1) (slots' := u.2.1 - u0.2.1) (by omega) (by omega) ?_
      exact w_X9_read_127 hC hE hR hRm N k0 hk0 zk0 u x1 x2 x3 x4 x1 y2 o1 h ⟨by omega, by omega⟩ hP hS (lv_sub hl [0, 1, 2, 3, 4] rfl)
    · have h := mif_f c5 h
      refine u_aload_n (r := some a0) hx hb dX9_read_113 rfl (lv_at hl 0 rfl) ?_
      obtain ⟨o6, ho6, h⟩ := mbind_n h
      refine u_get hC hP (uGR_n ho6) rfl in_X9 (by decide) q863 (fun _ h => h) dX9_read_114 ?_
      refine u_aload_n (r := some a0) hx hb dX9_read_117 rfl (lv_at hl 0 rfl) ?_
      obtain ⟨y7, hy7, h⟩ := mbind_n h
      refine u_get hC hP (uGI_n hy7) rfl in_X9 (by decide) q864 (fun _ h => h) dX9_read_118 ?_
      refine lv_iconst (v := 1) hx hb dX9_read_121 (by decide) ?_
      refine lv_isub hx hb dX9_read_122 ?_
      obtain ⟨a8, ha8, hha8⟩ := mbind_n h
      subst ha8
      have h := hha8
      obtain ⟨y9, hy9, h⟩ := mbind_n h
      refine u_iald hC hP hy9 rfl dX9_read_123 ?_
      refine lv_goto (tgt := 128) hx hb dX9_read_124 (by decide) ?_
      refine W.cs (cells' := u.1 - u0.1) (slots' := u.2.1 - u0.2.1) (by omega) (by omega) ?_
      exact w_X9_read_128 hC hE hR hRm N k0 hk0 zk0 u x1 x2 x3 x4 y9 x1 y2 o1 h ⟨by omega, by omega⟩ hP hS (lv_sub hl [0, 1, 2, 3, 4] rfl)
def f_X9_read_74 (N b : Nat) (g : uEnv) (a0 : Nat) (u : UH) (s0 : Option Nat) : Option ((Nat × UH) ⊕ (UH)) :=
    (s0).bind fun a1 =>
    some (.inl (a1, u))
set_option maxHeartbeats 4000000 in
set_option maxRecDepth 100000 in
theorem zz_X9_read_74 {G : uG} {a0 : Nat} {z : (Nat × UH) ⊕ (UH)} (N : Nat) (u : UH) (s0 : Option Nat) (h : f_X9_read_74 N (ub G) (ug G) a0 u s0 = some z) : u.1 ≤ (uX0 z).1 ∧ u.2.1 ≤ (uX0 z).2.1 := by
  unfold f_X9_read_74 at h
  obtain ⟨a1, ha1, hha1⟩ := mbind_n h
  subst ha1
  have h := hha1
  have hz := Option.some.inj h
  subst hz
  exact (show u.1 ≤ u.1 ∧ u.2.1 ≤ u.2.1 from ⟨by omega, by omega⟩)
set_option maxHeartbeats 4000000 in
set_option maxRecDepth 100000 in
theorem w_X9_read_74 {p : Program} {l : Launch} {e : Env} {R : Room} {s : State} {m : MethodId} {args : Array Value} {below : List Frame} {meth : Method} {c : Code} {G : uG} {a0 : Nat} {u0 : UH} {z : (Nat × UH) ⊕ (UH)} (hC : uC p s m args meth c G RX9 cX9_read 6 none) (hE : c.exceptionTable.toList = []) (hR : 9 ≤ R.frames ∧ 237 ≤ R.locals) (hRm : (uX0 z).1 - u0.1 ≤ R.cells ∧ (uX0 z).2.1 - u0.2.1 ≤ R.slots) (N : Nat) (u : UH) (s0 : Option Nat) (h : f_X9_read_74 N (ub G) (ug G) a0 u s0 = some z) (hz0 : (u0.1 ≤ u.1 ∧ u0.2.1 ≤ u.2.1)) {H : Heap} {locs : List Loc} (hP : uP G u H) (hS : va_S (uA G) s.heap H locs) {ls : Array Slot} (hl : lv_has ls 6 []) : W p l e R s m args below meth c H locs (u.1 - u0.1) (u.2.1 - u0.2.1) (uMQv below G z args s ((uX0 z).1 - u0.1) ((uX0 z).2.1 - u0.2.1)) (F0 m 74 ls [va_rf s0]) := by
  obtain ⟨⟨hx, hb, hml, hown, hts⟩, hKK⟩ := id hC
  have hzf := zz_X9_read_74 (G := G) (a0 := a0) N u s0 h
  unfold f_X9_read_74 at h
  obtain ⟨a1, ha1, hha1⟩ := mbind_n h
  subst ha1
  have h := hha1
  have hz := Option.some.inj h
  subst hz
  exact u_athrow hC (u_noE hE) hP hS dX9_read_74
def f_X9_read_60 (N b : Nat) (g : uEnv) (a0 : Nat) (u : UH) (s0 : Option Nat) : Option ((Nat × UH) ⊕ (UH)) :=
    (s0).bind fun a1 =>
    some (.inl (a1, u))
set_option maxHeartbeats 4000000 in
set_option maxRecDepth 100000 in
theorem zz_X9_read_60 {G : uG} {a0 : Nat} {z : (Nat × UH) ⊕ (UH)} (N : Nat) (u : UH) (s0 : Option Nat) (h : f_X9_read_60 N (ub G) (ug G) a0 u s0 = some z) : u.1 ≤ (uX0 z).1 ∧ u.2.1 ≤ (uX0 z).2.1 := by
  unfold f_X9_read_60 at h
  obtain ⟨a1, ha1, hha1⟩ := mbind_n h
  subst ha1
  have h := hha1
  have hz := Option.some.inj h
  subst hz
  exact (show u.1 ≤ u.1 ∧ u.2.1 ≤ u.2.1 from ⟨by omega, by omega⟩)
set_option maxHeartbeats 4000000 in
set_option maxRecDepth 100000 in
theorem w_X9_read_60 {p : Program} {l : Launch} {e : Env} {R : Room} {s : State} {m : MethodId} {args : Array Value} {below : List Frame} {meth : Method} {c : Code} {G : uG} {a0 : Nat} {u0 : UH} {z : (Nat × UH) ⊕ (UH)} (hC : uC p s m args meth c G RX9 cX9_read 6 none) (hE : c.exceptionTable.toList = []) (hR : 9 ≤ R.frames ∧ 237 ≤ R.locals) (hRm : (uX0 z).1 - u0.1 ≤ R.cells ∧ (uX0 z).2.1 - u0.2.1 ≤ R.slots) (N : Nat) (u : UH) (s0 : Option Nat) (h : f_X9_read_60 N (ub G) (ug G) a0 u s0 = some z) (hz0 : (u0.1 ≤ u.1 ∧ u0.2.1 ≤ u.2.1)) {H : Heap} {locs : List Loc} (hP : uP G u H) (hS : va_S (uA G) s.heap H locs) {ls : Array Slot} (hl : lv_has ls 6 []) : W p l e R s m args below meth c H locs (u.1 - u0.1) (u.2.1 - u0.2.1) (uMQv below G z args s ((uX0 z).1 - u0.1) ((uX0 z).2.1 - u0.2.1)) (F0 m 60 ls [va_rf s0]) := by
  obtain ⟨⟨hx, hb, hml, hown, hts⟩, hKK⟩ := id hC
  have hzf := zz_X9_read_60 (G := G) (a0 := a0) N u s0 h
  unfold f_X9_read_60 at h
  obtain ⟨a1, ha1, hha1⟩ := mbind_n h
  subst ha1
  have h := hha1
  have hz := Option.some.inj h
  subst hz
  exact u_athrow hC (u_noE hE) hP hS dX9_read_60
def f_X9_read_40 (N b : Nat) (g : uEnv) (a0 : Nat) (k0 : UH → Option Nat → Int32 → Int32 → Int32 → Option ((Nat × UH) ⊕ (UH))) (u : UH) (x1 : Option Nat) (x2 : Int32) (x3 : Int32) (x4 : Int32) (s0 : Int32) : Option ((Nat × UH) ⊕ (UH)) :=
    (x1).bind fun a1 =>
    (uGI u a1 4 4).bind fun y2 =>
    ucall (f_X1_in N b g u y2 s0 x2) fun r5 u3 =>
    if r5 = 0 then
    if uIs u3 a1 4 = true then
    ucall (f_X5_fault N b g u3 a1 4) fun o24 u22 =>
    f_X9_read_60 N b g a0 u22 o24
    else none
    else
    (uGI u3 a0 7 2).bind fun y7 =>
    if y7 = 4 then
    if uIs u3 a1 4 = true then
    ucall (f_X5_fault N b g u3 a1 5) fun o20 u18 =>
    f_X9_read_74 N b g a0 u18 o20
    else none
    else
    (uGR u3 a0 7 0).bind fun o9 =>
    (uGI u3 a0 7 2).bind fun y10 =>
    (uGI u3 a1 4 4).bind fun y11 =>
    (o9).bind fun a12 =>
    (uStI b u3 a12 0 y10 y11).bind fun u13 =>
    if uIs u13 a1 4 = true then
    (f_X5_next N b g u13 a1).bind fun u15 =>
    f_X9_read_92 N b g a0 k0 u15 (some a1) x2 x3 x4
    else none
set_option maxHeartbeats 4000000 in
set_option maxRecDepth 100000 in
theorem zz_X9_read_40 {G : uG} {a0 : Nat} {z : (Nat × UH) ⊕ (UH)} (N : Nat) (k0 : UH → Option Nat → Int32 → Int32 → Int32 → Option ((Nat × UH) ⊕ (UH))) (hk0 : ∀ (u : UH) (x1 : Option Nat) (x2 : Int32) (x3 : Int32) (x4 : Int32), k0 u x1 x2 x3 x4 = some z → u.1 ≤ (uX0 z).1 ∧ u.2.1 ≤ (uX0 z).2.1) (u : UH) (x1 : Option Nat) (x2 : Int32) (x3 : Int32) (x4 : Int32) (s0 : Int32) (h : f_X9_read_40 N (ub G) (ug G) a0 k0 u x1 x2 x3 x4 s0 = some z) : u.1 ≤ (uX0 z).1 ∧ u.2.1 ≤ (uX0 z).2.1 := by
  unfold f_X9_read_40 at h
  obtain ⟨a1, ha1, hha1⟩ := mbind_n h
  subst ha1
  have h := hha1
  obtain ⟨y2, hy2, h⟩ := mbind_n h
  obtain ⟨r5, u3, c4, h⟩ := ucall_n h
  have zu3 := zz_X1_in N (ub G) (ug G) u y2 s0 x2 r5 u3 c4
  by_cases c6 : r5 = 0
  · have h := mif_t c6 h
    obtain ⟨c21, h⟩ := mif_n h
    obtain ⟨o24, u22, c23, h⟩ := ucall_n h
    have zu22 := zz_X5_fault N (ub G) (ug G) u3 a1 4 o24 u22 c23
    have hq := zz_X9_read_60 (G := G) (a0 := a0) N u22 o24 h
    exact ⟨by omega, by omega⟩
  · have h := mif_f c6 h
    obtain ⟨y7, hy7, h⟩ := mbind_n h
    by_cases c8 : y7 = 4
    · have h := mif_t c8 h
      obtain ⟨c17, h⟩ := mif_n h
      obtain ⟨o20, u18, c19, h⟩ := ucall_n h
      have zu18 := zz_X5_fault N (ub G) (ug G) u3 a1 5 o20 u18 c19
      have hq := zz_X9_read_74 (G := G) (a0 := a0) N u18 o20 h
      exact ⟨by omega, by omega⟩
    · have h := mif_f c8 h
      obtain ⟨o9, ho9, h⟩ := mbind_n h
      obtain ⟨y10, hy10, h⟩ := mbind_n h
      obtain ⟨y11, hy11, h⟩ := mbind_n h
      obtain ⟨a12, ha12, hha12⟩ := mbind_n h
      subst ha12
      have h := hha12
      obtain ⟨u13, hu13, h⟩ := mbind_n h
      have zu13 := uStI_sz hu13
      obtain ⟨c14, h⟩ := mif_n h
      obtain ⟨u15, c16, h⟩ := mbind_n h
      have zu15 := zz_X5_next N (ub G) (ug G) u13 a1 u15 c16
      have hq := zz_X9_read_92 (G := G) (a0 := a0) N k0 hk0 u15 (some a1) x2 x3 x4 h
      exact ⟨by omega, by omega⟩
set_option maxHeartbeats 4000000 in
set_option maxRecDepth 100000 in
theorem w_X9_read_40 {p : Program} {l : Launch} {e : Env} {R : Room} {s : State} {m : MethodId} {args : Array Value} {below : List Frame} {meth : Method} {c : Code} {G : uG} {a0 : Nat} {u0 : UH} {z : (Nat × UH) ⊕ (UH)} (hC : uC p s m args meth c G RX9 cX9_read 6 none) (hE : c.exceptionTable.toList = []) (hR : 9 ≤ R.frames ∧ 237 ≤ R.locals) (hRm : (uX0 z).1 - u0.1 ≤ R.cells ∧ (uX0 z).2.1 - u0.2.1 ≤ R.slots) (N : Nat) (k0 : UH → Option Nat → Int32 → Int32 → Int32 → Option ((Nat × UH) ⊕ (UH))) (hk0 : ∀ (u : UH) (x1 : Option Nat) (x2 : Int32) (x3 : Int32) (x4 : Int32), k0 u x1 x2 x3 x4 = some z → (u0.1 ≤ u.1 ∧ u0.2.1 ≤ u.2.1) → ∀ (H : Heap) (locs : List Loc), uP G u H → va_S (uA G) s.heap H locs → ∀ ls : Array Slot, lv_has ls 6 [(0, va_rf (some a0)), (1, va_rf x1), (2, .int x2), (3, .int x3), (4, .int x4)] → W p l e R s m args below meth c H locs (u.1 - u0.1) (u.2.1 - u0.2.1) (uMQv below G z args s ((uX0 z).1 - u0.1) ((uX0 z).2.1 - u0.2.1)) (F0 m 0 ls [])) (zk0 : ∀ (u : UH) (x1 : Option Nat) (x2 : Int32) (x3 : Int32) (x4 : Int32), k0 u x1 x2 x3 x4 = some z → u.1 ≤ (uX0 z).1 ∧ u.2.1 ≤ (uX0 z).2.1) (u : UH) (x1 : Option Nat) (x2 : Int32) (x3 : Int32) (x4 : Int32) (s0 : Int32) (h : f_X9_read_40 N (ub G) (ug G) a0 k0 u x1 x2 x3 x4 s0 = some z) (hz0 : (u0.1 ≤ u.1 ∧ u0.2.1 ≤ u.2.1)) {H : Heap} {locs : List Loc} (hP : uP G u H) (hS : va_S (uA G) s.heap H locs) {ls : Array Slot} (hl : lv_has ls 6 [(0, va_rf (some a0)), (1, va_rf x1), (2, .int x2), (3, .int x3), (4, .int x4)]) : W p l e R s m args below meth c H locs (u.1 - u0.1) (u.2.1 - u0.2.1) (uMQv below G z args s ((uX0 z).1 - u0.1) ((uX0 z).2.1 - u0.2.1)) (F0 m 40 ls [.int s0]) := by
  obtain ⟨⟨hx, hb, hml, hown, hts⟩, hKK⟩ := id hC
  have hzf := zz_X9_read_40 (G := G) (a0 := a0) N k0 zk0 u x1 x2 x3 x4 s0 h
  unfold f_X9_read_40 at h
  refine lv_istore (lv' := [(5, .int s0), (0, va_rf (some a0)), (1, va_rf x1), (2, .int x2), (3, .int x3), (4, .int x4)]) hx hb dX9_read_40 hl (by decide) rfl (fun ls hl => ?_)
  refine u_aload_n (r := x1) hx hb dX9_read_42 rfl (lv_at hl 2 rfl) ?_
  obtain ⟨a1, ha1, hha1⟩ := mbind_n h
  subst ha1
  have h := hha1
  obtain ⟨y2, hy2, h⟩ := mbind_n h
  refine u_getN hC hP (uGI_n hy2) rfl in_X5 (by decide) q631 (fun _ h => h) dX9_read_43 ?_
  refine lv_iload hx hb dX9_read_46 (lv_at hl 0 rfl) ?_
  refine lv_iload_n hx hb dX9_read_48 rfl (lv_at hl 3 rfl) ?_
  obtain ⟨r5, u3, c4, h⟩ := ucall_n h
  have zu3 := zz_X1_in N (ub G) (ug G) u y2 s0 x2 r5 u3 c4
  refine u_calli (va_runSN (As := [.int y2, .int s0, .int x2]) (rest := []) hC.1 (met_X1_in l N G u y2 s0 x2 r5 u3 c4) ⟨va_cnB 3 hts (lw_meth q275) rfl rfl rfl (hC.2.1.2.1 _ q924 rfl) (hts _ q98) (by decide +kernel) ⟨Nat.le_trans (Nat.le_of_ble_eq_true rfl) hR.1, Nat.le_trans (Nat.le_of_ble_eq_true rfl) hR.2⟩, hts _ q274, trivial⟩ ⟨uPc_blind, fun U hU hW => u_pre hC hP hS hU hW⟩ rfl rfl hl.1 rfl (lv_room (Nat.le_of_ble_eq_true rfl)) dX9_read_49 ⟨by omega, by omega⟩) hS (fun H locs hP hS => ?_)
  refine W.cs (cells' := u3.1 - u0.1) (slots' := u3.2.1 - u0.2.1) (by omega) (by omega) ?_
  refine lv_if_ne (tgt := 61) hx hb dX9_read_52 (by decide) (fun c6 => ?_) (fun c6 => ?_)
  · have h := mif_f c6 h
    refine u_aload_n (r := some a0) hx hb dX9_read_61 rfl (lv_at hl 1 rfl) ?_
    obtain ⟨y7, hy7, h⟩ := mbind_n h
    refine u_get hC hP (uGI_n hy7) rfl in_X9 (by decide) q864 (fun _ h => h) dX9_read_62 ?_
    refine lv_iconst (v := 4) hx hb dX9_read_65 (by decide) ?_
    refine lv_icmp_ne (tgt := 75) hx hb dX9_read_66 (by decide) (fun c8 => ?_) (fun c8 => ?_)
    · have h := mif_f c8 h
      refine u_aload_n (r := some a0) hx hb dX9_read_75 rfl (lv_at hl 1 rfl) ?_
      obtain ⟨o9, ho9, h⟩ := mbind_n h
      refine u_get hC hP (uGR_n ho9) rfl in_X9 (by decide) q862 (fun _ h => h) dX9_read_76 ?_
      refine u_aload_n (r := some a0) hx hb dX9_read_79 rfl (lv_at hl 1 rfl) ?_
      obtain ⟨y10, hy10, h⟩ := mbind_n h
      refine u_get hC hP (uGI_n hy10) rfl in_X9 (by decide) q864 (fun _ h => h) dX9_read_80 ?_
      refine u_aload_n (r := some a1) hx hb dX9_read_83 rfl (lv_at hl 2 rfl) ?_
      obtain ⟨y11, hy11, h⟩ := mbind_n h
      refine u_getN hC hP (uGI_n hy11) rfl in_X5 (by decide) q631 (fun _ h => h) dX9_read_84 ?_
      obtain ⟨a12, ha12, hha12⟩ := mbind_n h
      subst ha12
      have h := hha12
      obtain ⟨u13, hu13, h⟩ := mbind_n h
      have zu13 := uStI_sz hu13
      refine u_iast hC hP hS hu13 rfl dX9_read_87 (fun H locs hP hS => ?_)
      refine W.cs (cells' := u13.1 - u0.1) (slots' := u13.2.1 - u0.2.1) (by omega) (by omega) ?_
      refine u_aload_n (r := some a1) hx hb dX9_read_88 rfl (lv_at hl 2 rfl) ?_
      obtain ⟨c14, h⟩ := mif_n h
      obtain ⟨u15, c16, h⟩ := mbind_n h
      have zu15 := zz_X5_next N (ub G) (ug G) u13 a1 u15 c16
      have hq := zz_X9_read_92 (G := G) (a0 := a0) N k0 zk0 u15 (some a1) x2 x3 x4 h
      refine u_callv (va_runV (As := []) (rest := []) hC.1 (met_X5_next l N G u13 a1 u15 c16) (cwV 0 hts (lw_V q925 q340 q341 q105 q342) rfl rfl rfl (by decide +kernel) ⟨Nat.le_trans (Nat.le_of_ble_eq_true rfl) hR.1, Nat.le_trans (Nat.le_of_ble_eq_true rfl) hR.2⟩) ⟨uPc_blind, u_rcv hC hP c14 rfl, fun U hU hW => u_pre hC hP hS hU hW⟩ rfl rfl hl.1 rfl (lv_room (Nat.le_of_ble_eq_true rfl)) dX9_read_89 ⟨by omega, by omega⟩) hS (fun H locs hP hS => ?_)
      refine W.cs (cells' := u15.1 - u0.1) (slots' := u15.2.1 - u0.2.1) (by omega) (by omega) ?_
      refine W.cs (cells' := u15.1 - u0.1) (slots' := u15.2.1 - u0.2.1) (by omega) (by omega) ?_
      exact w_X9_read_92 hC hE hR hRm N k0 hk0 zk0 u15 (some a1) x2 x3 x4 h ⟨by omega, by omega⟩ hP hS (lv_sub hl [1, 2, 3, 4, 5] rfl)
    · have h := mif_t c8 h
      refine u_aload_n (r := some a1) hx hb dX9_read_69 rfl (lv_at hl 2 rfl) ?_
      refine lv_iconst (v := 5) hx hb dX9_read_70 (by decide) ?_
      obtain ⟨c17, h⟩ := mif_n h
      obtain ⟨o20, u18, c19, h⟩ := ucall_n h
      have zu18 := zz_X5_fault N (ub G) (ug G) u3 a1 5 o20 u18 c19
      have hq := zz_X9_read_74 (G := G) (a0 := a0) N u18 o20 h
      refine u_callr (va_runV (As := [.int 5]) (rest := []) hC.1 (met_X5_fault l N G u3 a1 5 o20 u18 c19) (cwV 1 hts (lw_V q923 q781 q782 q105 q783) rfl rfl rfl (by decide +kernel) ⟨Nat.le_trans (Nat.le_of_ble_eq_true rfl) hR.1, Nat.le_trans (Nat.le_of_ble_eq_true rfl) hR.2⟩) ⟨uPc_blind, u_rcv hC hP c17 rfl, fun U hU hW => u_pre hC hP hS hU hW⟩ rfl rfl hl.1 rfl (lv_room (Nat.le_of_ble_eq_true rfl)) dX9_read_71 ⟨by omega, by omega⟩) hS (fun H locs hP hS => ?_)
      refine W.cs (cells' := u18.1 - u0.1) (slots' := u18.2.1 - u0.2.1) (by omega) (by omega) ?_
      refine W.cs (cells' := u18.1 - u0.1) (slots' := u18.2.1 - u0.2.1) (by omega) (by omega) ?_
      exact w_X9_read_74 hC hE hR hRm N u18 o20 h ⟨by omega, by omega⟩ hP hS (lv_sub hl [] rfl)
  · have h := mif_t c6 h
    refine u_aload_n (r := some a1) hx hb dX9_read_55 rfl (lv_at hl 2 rfl) ?_
    refine lv_iconst (v := 4) hx hb dX9_read_56 (by decide) ?_
    obtain ⟨c21, h⟩ := mif_n h
    obtain ⟨o24, u22, c23, h⟩ := ucall_n h
    have zu22 := zz_X5_fault N (ub G) (ug G) u3 a1 4 o24 u22 c23
    have hq := zz_X9_read_60 (G := G) (a0 := a0) N u22 o24 h
    refine u_callr (va_runV (As := [.int 4]) (rest := []) hC.1 (met_X5_fault l N G u3 a1 4 o24 u22 c23) (cwV 1 hts (lw_V q923 q781 q782 q105 q783) rfl rfl rfl (by decide +kernel) ⟨Nat.le_trans (Nat.le_of_ble_eq_true rfl) hR.1, Nat.le_trans (Nat.le_of_ble_eq_true rfl) hR.2⟩) ⟨uPc_blind, u_rcv hC hP c21 rfl, fun U hU hW => u_pre hC hP hS hU hW⟩ rfl rfl hl.1 rfl (lv_room (Nat.le_of_ble_eq_true rfl)) dX9_read_57 ⟨by omega, by omega⟩) hS (fun H locs hP hS => ?_)
    refine W.cs (cells' := u22.1 - u0.1) (slots' := u22.2.1 - u0.2.1) (by omega) (by omega) ?_
    refine W.cs (cells' := u22.1 - u0.1) (slots' := u22.2.1 - u0.2.1) (by omega) (by omega) ?_
    exact w_X9_read_60 hC hE hR hRm N u22 o24 h ⟨by omega, by omega⟩ hP hS (lv_sub hl [] rfl)
def f_X9_read_15 (N b : Nat) (g : uEnv) (a0 : Nat) (u : UH) (s0 : Option Nat) : Option ((Nat × UH) ⊕ (UH)) :=
    (s0).bind fun a1 =>
    some (.inl (a1, u))
set_option maxHeartbeats 4000000 in
set_option maxRecDepth 100000 in
theorem zz_X9_read_15 {G : uG} {a0 : Nat} {z : (Nat × UH) ⊕ (UH)} (N : Nat) (u : UH) (s0 : Option Nat) (h : f_X9_read_15 N (ub G) (ug G) a0 u s0 = some z) : u.1 ≤ (uX0 z).1 ∧ u.2.1 ≤ (uX0 z).2.1 := by
  unfold f_X9_read_15 at h
  obtain ⟨a1, ha1, hha1⟩ := mbind_n h
  subst ha1
  have h := hha1
  have hz := Option.some.inj h
  subst hz
  exact (show u.1 ≤ u.1 ∧ u.2.1 ≤ u.2.1 from ⟨by omega, by omega⟩)
set_option maxHeartbeats 4000000 in
set_option maxRecDepth 100000 in
theorem w_X9_read_15 {p : Program} {l : Launch} {e : Env} {R : Room} {s : State} {m : MethodId} {args : Array Value} {below : List Frame} {meth : Method} {c : Code} {G : uG} {a0 : Nat} {u0 : UH} {z : (Nat × UH) ⊕ (UH)} (hC : uC p s m args meth c G RX9 cX9_read 6 none) (hE : c.exceptionTable.toList = []) (hR : 9 ≤ R.frames ∧ 237 ≤ R.locals) (hRm : (uX0 z).1 - u0.1 ≤ R.cells ∧ (uX0 z).2.1 - u0.2.1 ≤ R.slots) (N : Nat) (u : UH) (s0 : Option Nat) (h : f_X9_read_15 N (ub G) (ug G) a0 u s0 = some z) (hz0 : (u0.1 ≤ u.1 ∧ u0.2.1 ≤ u.2.1)) {H : Heap} {locs : List Loc} (hP : uP G u H) (hS : va_S (uA G) s.heap H locs) {ls : Array Slot} (hl : lv_has ls 6 []) : W p l e R s m args below meth c H locs (u.1 - u0.1) (u.2.1 - u0.2.1) (uMQv below G z args s ((uX0 z).1 - u0.1) ((uX0 z).2.1 - u0.2.1)) (F0 m 15 ls [va_rf s0]) := by
  obtain ⟨⟨hx, hb, hml, hown, hts⟩, hKK⟩ := id hC
  have hzf := zz_X9_read_15 (G := G) (a0 := a0) N u s0 h
  unfold f_X9_read_15 at h
  obtain ⟨a1, ha1, hha1⟩ := mbind_n h
  subst ha1
  have h := hha1
  have hz := Option.some.inj h
  subst hz
  exact u_athrow hC (u_noE hE) hP hS dX9_read_15
def f_X9_read_0 (N b : Nat) (g : uEnv) (a0 : Nat) : Nat → UH → Option Nat → Int32 → Int32 → Int32 → Option ((Nat × UH) ⊕ (UH))
  | 0, _, _, _, _, _ => none
  | n + 1, u, x1, x2, x3, x4 =>
    (x1).bind fun a1 =>
    (uGR u a1 4 5).bind fun o2 =>
    mlet (g.1 3) fun o3 =>
    if o2 = o3 then
    (uGI u a0 7 2).bind fun y5 =>
    if y5 = 0 then
    f_X9_read_40 N b g a0 (f_X9_read_0 N b g a0 n) u (some a1) x2 x3 x4 0
    else
    (uGR u a0 7 0).bind fun o7 =>
    (uGI u a0 7 2).bind fun y8 =>
    (o7).bind fun a9 =>
    (uLdI u a9 0 (y8 - 1)).bind fun y10 =>
    f_X9_read_40 N b g a0 (f_X9_read_0 N b g a0 n) u (some a1) x2 x3 x4 (y10 + 1)
    else
    if uIs u a1 4 = true then
    ucall (f_X5_fault N b g u a1 1) fun o14 u12 =>
    f_X9_read_15 N b g a0 u12 o14
    else none
set_option maxHeartbeats 4000000 in
set_option maxRecDepth 100000 in
theorem zz_X9_read_0 {G : uG} {a0 : Nat} {z : (Nat × UH) ⊕ (UH)} (N : Nat) : ∀ (n : Nat) (u : UH) (x1 : Option Nat) (x2 : Int32) (x3 : Int32) (x4 : Int32), f_X9_read_0 N (ub G) (ug G) a0 n u x1 x2 x3 x4 = some z → u.1 ≤ (uX0 z).1 ∧ u.2.1 ≤ (uX0 z).2.1 := by
  intro n
  induction n with
  | zero =>
    intro u x1 x2 x3 x4 h
    cases h
  | succ n ih =>
    intro u x1 x2 x3 x4 h
    unfold f_X9_read_0 at h
    obtain ⟨a1, ha1, hha1⟩ := mbind_n h
    subst ha1
    have h := hha1
    obtain ⟨o2, ho2, h⟩ := mbind_n h
    obtain ⟨o3, eo3⟩ : ∃ z, z = (ug G).1 3 := ⟨_, rfl⟩
    have h := mlet_at eo3 h
    by_cases c4 : o2 = o3
    · have h := mif_t c4 h
      obtain ⟨y5, hy5, h⟩ := mbind_n h
      by_cases c6 : y5 = 0
      · have h := mif_t c6 h
        have hq := zz_X9_read_40 (G := G) (a0 := a0) N (f_X9_read_0 N (ub G) (ug G) a0 n) ih u (some a1) x2 x3 x4 0 h
        exact ⟨by omega, by omega⟩
      · have h := mif_f c6 h
        obtain ⟨o7, ho7, h⟩ := mbind_n h
        obtain ⟨y8, hy8, h⟩ := mbind_n h
        obtain ⟨a9, ha9, hha9⟩ := mbind_n h
        subst ha9
        have h := hha9
        obtain ⟨y10, hy10, h⟩ := mbind_n h
        have hq := zz_X9_read_40 (G := G) (a0 := a0) N (f_X9_read_0 N (ub G) (ug G) a0 n) ih u (some a1) x2 x3 x4 (y10 + 1) h
        exact ⟨by omega, by omega⟩
    · have h := mif_f c4 h
      obtain ⟨c11, h⟩ := mif_n h
      obtain ⟨o14, u12, c13, h⟩ := ucall_n h
      have zu12 := zz_X5_fault N (ub G) (ug G) u a1 1 o14 u12 c13
      have hq := zz_X9_read_15 (G := G) (a0 := a0) N u12 o14 h
      exact ⟨by omega, by omega⟩
set_option maxHeartbeats 4000000 in
set_option maxRecDepth 100000 in
theorem w_X9_read_0 {p : Program} {l : Launch} {e : Env} {R : Room} {s : State} {m : MethodId} {args : Array Value} {below : List Frame} {meth : Method} {c : Code} {G : uG} {a0 : Nat} {u0 : UH} {z : (Nat × UH) ⊕ (UH)} (hC : uC p s m args meth c G RX9 cX9_read 6 none) (hE : c.exceptionTable.toList = []) (hR : 9 ≤ R.frames ∧ 237 ≤ R.locals) (hRm : (uX0 z).1 - u0.1 ≤ R.cells ∧ (uX0 z).2.1 - u0.2.1 ≤ R.slots) (N : Nat) : ∀ (n : Nat) (u : UH) (x1 : Option Nat) (x2 : Int32) (x3 : Int32) (x4 : Int32), f_X9_read_0 N (ub G) (ug G) a0 n u x1 x2 x3 x4 = some z → (u0.1 ≤ u.1 ∧ u0.2.1 ≤ u.2.1) → ∀ (H : Heap) (locs : List Loc), uP G u H → va_S (uA G) s.heap H locs → ∀ ls : Array Slot, lv_has ls 6 [(0, va_rf (some a0)), (1, va_rf x1), (2, .int x2), (3, .int x3), (4, .int x4)] → W p l e R s m args below meth c H locs (u.1 - u0.1) (u.2.1 - u0.2.1) (uMQv below G z args s ((uX0 z).1 - u0.1) ((uX0 z).2.1 - u0.2.1)) (F0 m 0 ls []) := by
  obtain ⟨⟨hx, hb, hml, hown, hts⟩, hKK⟩ := id hC
  intro n
  induction n with
  | zero =>
    intro u x1 x2 x3 x4 h
    cases h
  | succ n ih =>
    intro u x1 x2 x3 x4 h hz0 H locs hP hS ls hl
    have hzf := zz_X9_read_0 (G := G) (a0 := a0) N (n + 1) u x1 x2 x3 x4 h
    unfold f_X9_read_0 at h
    refine u_aload_n (r := x1) hx hb dX9_read_0 rfl (lv_at hl 1 rfl) ?_
    obtain ⟨a1, ha1, hha1⟩ := mbind_n h
    subst ha1
    have h := hha1
    obtain ⟨o2, ho2, h⟩ := mbind_n h
    refine u_getN hC hP (uGR_n ho2) rfl in_X5 (by decide) q634 (fun _ h => h) dX9_read_1 ?_
    refine u_gets hC hS 3 rfl q922 (fun _ h => h) dX9_read_4 ?_
    obtain ⟨o3, eo3⟩ : ∃ z, z = (ug G).1 3 := ⟨_, rfl⟩
    have h := mlet_at eo3 h
    rw [← eo3]
    refine lv_acmp_eq (rx := o2) (ry := o3) (tgt := 16) hx hb dX9_read_7 (by decide) (fun c4 => ?_) (fun c4 => ?_)
    · have h := mif_t c4 h
      refine u_aload_n (r := some a0) hx hb dX9_read_16 rfl (lv_at hl 0 rfl) ?_
      obtain ⟨y5, hy5, h⟩ := mbind_n h
      refine u_get hC hP (uGI_n hy5) rfl in_X9 (by decide) q864 (fun _ h => h) dX9_read_17 ?_
      refine lv_if_ne (tgt := 27) hx hb dX9_read_20 (by decide) (fun c6 => ?_) (fun c6 => ?_)
      · have h := mif_f c6 h
        refine u_aload_n (r := some a0) hx hb dX9_read_27 rfl (lv_at hl 0 rfl) ?_
        obtain ⟨o7, ho7, h⟩ := mbind_n h
        refine u_get hC hP (uGR_n ho7) rfl in_X9 (by decide) q862 (fun _ h => h) dX9_read_28 ?_
        refine u_aload_n (r := some a0) hx hb dX9_read_31 rfl (lv_at hl 0 rfl) ?_
        obtain ⟨y8, hy8, h⟩ := mbind_n h
        refine u_get hC hP (uGI_n hy8) rfl in_X9 (by decide) q864 (fun _ h => h) dX9_read_32 ?_
        refine lv_iconst (v := 1) hx hb dX9_read_35 (by decide) ?_
        refine lv_isub hx hb dX9_read_36 ?_
        obtain ⟨a9, ha9, hha9⟩ := mbind_n h
        subst ha9
        have h := hha9
        obtain ⟨y10, hy10, h⟩ := mbind_n h
        refine u_iald hC hP hy10 rfl dX9_read_37 ?_
        refine lv_iconst (v := 1) hx hb dX9_read_38 (by decide) ?_
        refine lv_iadd hx hb dX9_read_39 ?_
        refine W.cs (cells' := u.1 - u0.1) (slots' := u.2.1 - u0.2.1) (by omega) (by omega) ?_
        exact w_X9_read_40 hC hE hR hRm N (f_X9_read_0 N (ub G) (ug G) a0 n) ih (zz_X9_read_0 (G := G) (a0 := a0) N n) u (some a1) x2 x3 x4 (y10 + 1) h ⟨by omega, by omega⟩ hP hS (lv_sub hl [0, 1, 2, 3, 4] rfl)
      · have h := mif_t c6 h
        refine lv_iconst (v := 0) hx hb dX9_read_23 (by decide) ?_
        refine lv_goto (tgt := 40) hx hb dX9_read_24 (by decide) ?_
        refine W.cs (cells' := u.1 - u0.1) (slots' := u.2.1 - u0.2.1) (by omega) (by omega) ?_
        exact w_X9_read_40 hC hE hR hRm N (f_X9_read_0 N (ub G) (ug G) a0 n) ih (zz_X9_read_0 (G := G) (a0 := a0) N n) u (some a1) x2 x3 x4 0 h ⟨by omega, by omega⟩ hP hS (lv_sub hl [0, 1, 2, 3, 4] rfl)
    · have h := mif_f c4 h
      refine u_aload_n (r := some a1) hx hb dX9_read_10 rfl (lv_at hl 1 rfl) ?_
      refine lv_iconst (v := 1) hx hb dX9_read_11 (by decide) ?_
      obtain ⟨c11, h⟩ := mif_n h
      obtain ⟨o14, u12, c13, h⟩ := ucall_n h
      have zu12 := zz_X5_fault N (ub G) (ug G) u a1 1 o14 u12 c13
      have hq := zz_X9_read_15 (G := G) (a0 := a0) N u12 o14 h
      refine u_callr (va_runV (As := [.int 1]) (rest := []) hC.1 (met_X5_fault l N G u a1 1 o14 u12 c13) (cwV 1 hts (lw_V q923 q781 q782 q105 q783) rfl rfl rfl (by decide +kernel) ⟨Nat.le_trans (Nat.le_of_ble_eq_true rfl) hR.1, Nat.le_trans (Nat.le_of_ble_eq_true rfl) hR.2⟩) ⟨uPc_blind, u_rcv hC hP c11 rfl, fun U hU hW => u_pre hC hP hS hU hW⟩ rfl rfl hl.1 rfl (lv_room (Nat.le_of_ble_eq_true rfl)) dX9_read_12 ⟨by omega, by omega⟩) hS (fun H locs hP hS => ?_)
      refine W.cs (cells' := u12.1 - u0.1) (slots' := u12.2.1 - u0.2.1) (by omega) (by omega) ?_
      refine W.cs (cells' := u12.1 - u0.1) (slots' := u12.2.1 - u0.2.1) (by omega) (by omega) ?_
      exact w_X9_read_15 hC hE hR hRm N u12 o14 h ⟨by omega, by omega⟩ hP hS (lv_sub hl [] rfl)
def f_X9_read (N b : Nat) (g : uEnv) (u : UH) (a0 : Nat) (x1 : Option Nat) (x2 : Int32) (x3 : Int32) (x4 : Int32) : Option ((Nat × UH) ⊕ (UH)) := f_X9_read_0 N b g a0 N u x1 x2 x3 x4
theorem zz_X9_read (N b : Nat) (g : uEnv) (u : UH) (a0 : Nat) (x1 : Option Nat) (x2 : Int32) (x3 : Int32) (x4 : Int32) (z : (Nat × UH) ⊕ (UH)) (h : f_X9_read N b g u a0 x1 x2 x3 x4 = some z) : u.1 ≤ (uX0 z).1 ∧ u.2.1 ≤ (uX0 z).2.1 :=
  zz_X9_read_0 (G := ((fun _ => 0, fun _ _ => 0), fun _ => 0, b, g)) (a0 := a0) N N u x1 x2 x3 x4 h
theorem met_X9_read (l : Launch) (N : Nat) (G : uG) (u : UH) (a0 : Nat) (x1 : Option Nat) (x2 : Int32) (x3 : Int32) (x4 : Int32) (uf : UH) (h : f_X9_read N (ub G) (ug G) u a0 x1 x2 x3 x4 = some (.inr uf)) : Met l yX9_read (ws_ yX9_read cX9_read 6 none) ({ frames := 9, cells := (uf.1 - u.1), slots := (uf.2.1 - u.2.1), locals := 237 }) (uPc G u [.ref a0, va_rf x1, .int x2, .int x3, .int x4]) (uQv G uf) (uf.1 - u.1) (uf.2.1 - u.2.1) (uA G) := by
  rcases x1 with _ | x1 <;> exact u_metE (own := RX9) (by decide +kernel) rfl (Nat.le_of_ble_eq_true rfl) (fun hC hE hn hsz ls hl hP => W.cs (Nat.sub_self _).symm (Nat.sub_self _).symm (w_X9_read_0 hC hE ⟨Nat.le_refl _, Nat.le_refl _⟩ ⟨Nat.le_refl _, Nat.le_refl _⟩ N N u _ x2 x3 x4 h ⟨Nat.le_refl _, Nat.le_refl _⟩ _ _ hP va_S.rf _ hl))
theorem mex_X9_read (l : Launch) (N : Nat) (G : uG) (u : UH) (a0 : Nat) (x1 : Option Nat) (x2 : Int32) (x3 : Int32) (x4 : Int32) (x : Nat) (uf : UH) (h : f_X9_read N (ub G) (ug G) u a0 x1 x2 x3 x4 = some (.inl (x, uf))) : uMX l yX9_read (ws_ yX9_read cX9_read 6 none) ({ frames := 9, cells := (uf.1 - u.1), slots := (uf.2.1 - u.2.1), locals := 237 }) G u [.ref a0, va_rf x1, .int x2, .int x3, .int x4] x uf (uf.1 - u.1) (uf.2.1 - u.2.1) := by
  rcases x1 with _ | x1 <;> exact u_metX (own := RX9) (by decide +kernel) rfl (Nat.le_of_ble_eq_true rfl) (fun hC hE hn hsz ls hl hP => W.cs (Nat.sub_self _).symm (Nat.sub_self _).symm (w_X9_read_0 hC hE ⟨Nat.le_refl _, Nat.le_refl _⟩ ⟨Nat.le_refl _, Nat.le_refl _⟩ N N u _ x2 x3 x4 h ⟨Nat.le_refl _, Nat.le_refl _⟩ _ _ hP va_S.rf _ hl))
def f_X4_readGround_101 (N b : Nat) (g : uEnv) (a0 : Nat) (u : UH) (s0 : Int32) : Option ((Nat × UH) ⊕ (UH)) :=
    some (.inr u)
set_option maxHeartbeats 4000000 in
set_option maxRecDepth 100000 in
theorem zz_X4_readGround_101 {G : uG} {a0 : Nat} {z : (Nat × UH) ⊕ (UH)} (N : Nat) (u : UH) (s0 : Int32) (h : f_X4_readGround_101 N (ub G) (ug G) a0 u s0 = some z) : u.1 ≤ (uX0 z).1 ∧ u.2.1 ≤ (uX0 z).2.1 := by
  unfold f_X4_readGround_101 at h
  have hz := Option.some.inj h
  subst hz
  exact (show u.1 ≤ u.1 ∧ u.2.1 ≤ u.2.1 from ⟨by omega, by omega⟩)
set_option maxHeartbeats 4000000 in
set_option maxRecDepth 100000 in
theorem w_X4_readGround_101 {p : Program} {l : Launch} {e : Env} {R : Room} {s : State} {m : MethodId} {args : Array Value} {below : List Frame} {meth : Method} {c : Code} {G : uG} {a0 : Nat} {u0 : UH} {z : (Nat × UH) ⊕ (UH)} (hC : uC p s m args meth c G RX4 cX4_readGround 3 none) (hE : c.exceptionTable.toList = []) (hR : 10 ≤ R.frames ∧ 262 ≤ R.locals) (hRm : (uX0 z).1 - u0.1 ≤ R.cells ∧ (uX0 z).2.1 - u0.2.1 ≤ R.slots) (N : Nat) (u : UH) (s0 : Int32) (h : f_X4_readGround_101 N (ub G) (ug G) a0 u s0 = some z) (hz0 : (u0.1 ≤ u.1 ∧ u0.2.1 ≤ u.2.1)) {H : Heap} {locs : List Loc} (hP : uP G u H) (hS : va_S (uA G) s.heap H locs) {ls : Array Slot} (hl : lv_has ls 3 []) : W p l e R s m args below meth c H locs (u.1 - u0.1) (u.2.1 - u0.2.1) (uMQv below G z args s ((uX0 z).1 - u0.1) ((uX0 z).2.1 - u0.2.1)) (F0 m 101 ls [.int s0]) := by
  obtain ⟨⟨hx, hb, hml, hown, hts⟩, hKK⟩ := id hC
  have hzf := zz_X4_readGround_101 (G := G) (a0 := a0) N u s0 h
  unfold f_X4_readGround_101 at h
  refine lv_pop hx hb dX4_readGround_101 rfl ?_
  have hz := Option.some.inj h
  subst hz
  exact u_vret hC hP hS dX4_readGround_102
def f_X4_readGround_93 (N b : Nat) (g : uEnv) (a0 : Nat) (u : UH) (x2 : Option Nat) : Option ((Nat × UH) ⊕ (UH)) :=
    (uGR u a0 3 0).bind fun o1 =>
    (o1).bind fun a2 =>
    if uIs u a2 18 = true then
    ucall (f_J2_add N b g u a2 x2) fun r6 u4 =>
    f_X4_readGround_101 N b g a0 u4 r6
    else none
set_option maxHeartbeats 4000000 in
set_option maxRecDepth 100000 in
theorem zz_X4_readGround_93 {G : uG} {a0 : Nat} {z : (Nat × UH) ⊕ (UH)} (N : Nat) (u : UH) (x2 : Option Nat) (h : f_X4_readGround_93 N (ub G) (ug G) a0 u x2 = some z) : u.1 ≤ (uX0 z).1 ∧ u.2.1 ≤ (uX0 z).2.1 := by
  unfold f_X4_readGround_93 at h
  obtain ⟨o1, ho1, h⟩ := mbind_n h
  obtain ⟨a2, ha2, hha2⟩ := mbind_n h
  subst ha2
  have h := hha2
  obtain ⟨c3, h⟩ := mif_n h
  obtain ⟨r6, u4, c5, h⟩ := ucall_n h
  have zu4 := zz_J2_add N (ub G) (ug G) u a2 x2 r6 u4 c5
  have hq := zz_X4_readGround_101 (G := G) (a0 := a0) N u4 r6 h
  exact ⟨by omega, by omega⟩
set_option maxHeartbeats 4000000 in
set_option maxRecDepth 100000 in
theorem w_X4_readGround_93 {p : Program} {l : Launch} {e : Env} {R : Room} {s : State} {m : MethodId} {args : Array Value} {below : List Frame} {meth : Method} {c : Code} {G : uG} {a0 : Nat} {u0 : UH} {z : (Nat × UH) ⊕ (UH)} (hC : uC p s m args meth c G RX4 cX4_readGround 3 none) (hE : c.exceptionTable.toList = []) (hR : 10 ≤ R.frames ∧ 262 ≤ R.locals) (hRm : (uX0 z).1 - u0.1 ≤ R.cells ∧ (uX0 z).2.1 - u0.2.1 ≤ R.slots) (N : Nat) (u : UH) (x2 : Option Nat) (h : f_X4_readGround_93 N (ub G) (ug G) a0 u x2 = some z) (hz0 : (u0.1 ≤ u.1 ∧ u0.2.1 ≤ u.2.1)) {H : Heap} {locs : List Loc} (hP : uP G u H) (hS : va_S (uA G) s.heap H locs) {ls : Array Slot} (hl : lv_has ls 3 [(0, va_rf (some a0)), (2, va_rf x2)]) : W p l e R s m args below meth c H locs (u.1 - u0.1) (u.2.1 - u0.2.1) (uMQv below G z args s ((uX0 z).1 - u0.1) ((uX0 z).2.1 - u0.2.1)) (F0 m 93 ls []) := by
  obtain ⟨⟨hx, hb, hml, hown, hts⟩, hKK⟩ := id hC
  have hzf := zz_X4_readGround_93 (G := G) (a0 := a0) N u x2 h
  unfold f_X4_readGround_93 at h
  refine u_aload_n (r := some a0) hx hb dX4_readGround_93 rfl (lv_at hl 0 rfl) ?_
  obtain ⟨o1, ho1, h⟩ := mbind_n h
  refine u_get hC hP (uGR_n ho1) rfl in_X4 (by decide) q288 (fun _ h => h) dX4_readGround_94 ?_
  refine u_aload_n (r := x2) hx hb dX4_readGround_97 rfl (lv_at hl 1 rfl) ?_
  obtain ⟨a2, ha2, hha2⟩ := mbind_n h
  subst ha2
  have h := hha2
  obtain ⟨c3, h⟩ := mif_n h
  obtain ⟨r6, u4, c5, h⟩ := ucall_n h
  have zu4 := zz_J2_add N (ub G) (ug G) u a2 x2 r6 u4 c5
  have hq := zz_X4_readGround_101 (G := G) (a0 := a0) N u4 r6 h
  refine u_calli (va_runV (As := [va_rf x2]) (rest := []) hC.1 (met_J2_add l N G u a2 x2 r6 u4 c5) (cwV 1 hts (lw_V q934 q935 q936 q102 q937) rfl rfl rfl (by decide +kernel) ⟨Nat.le_trans (Nat.le_of_ble_eq_true rfl) hR.1, Nat.le_trans (Nat.le_of_ble_eq_true rfl) hR.2⟩) ⟨uPc_blind, u_rcv hC hP c3 rfl, fun U hU hW => u_pre hC hP hS hU hW⟩ rfl rfl hl.1 rfl (lv_room (Nat.le_of_ble_eq_true rfl)) dX4_readGround_98 ⟨by omega, by omega⟩) hS (fun H locs hP hS => ?_)
  refine W.cs (cells' := u4.1 - u0.1) (slots' := u4.2.1 - u0.2.1) (by omega) (by omega) ?_
  refine W.cs (cells' := u4.1 - u0.1) (slots' := u4.2.1 - u0.2.1) (by omega) (by omega) ?_
  exact w_X4_readGround_101 hC hE hR hRm N u4 r6 h ⟨by omega, by omega⟩ hP hS (lv_sub hl [] rfl)
def f_X4_readGround_79 (N b : Nat) (g : uEnv) (a0 : Nat) (u : UH) (x1 : Option Nat) (x2 : Option Nat) : Option ((Nat × UH) ⊕ (UH)) :=
    (x2).bind fun a1 =>
    (uGR u a1 5 2).bind fun o2 =>
    (o2).bind fun a3 =>
    if uIs u a3 7 = true then
    uxcallv (f_X9_read N b g u a3 x1 90 150 0) (fun a7 u8 =>
    some (.inl (a7, u8))) fun u5 =>
    f_X4_readGround_93 N b g a0 u5 (some a1)
    else none
set_option maxHeartbeats 4000000 in
set_option maxRecDepth 100000 in
theorem zz_X4_readGround_79 {G : uG} {a0 : Nat} {z : (Nat × UH) ⊕ (UH)} (N : Nat) (u : UH) (x1 : Option Nat) (x2 : Option Nat) (h : f_X4_readGround_79 N (ub G) (ug G) a0 u x1 x2 = some z) : u.1 ≤ (uX0 z).1 ∧ u.2.1 ≤ (uX0 z).2.1 := by
  unfold f_X4_readGround_79 at h
  obtain ⟨a1, ha1, hha1⟩ := mbind_n h
  subst ha1
  have h := hha1
  obtain ⟨o2, ho2, h⟩ := mbind_n h
  obtain ⟨a3, ha3, hha3⟩ := mbind_n h
  subst ha3
  have h := hha3
  obtain ⟨c4, h⟩ := mif_n h
  rcases uxcallv_n h with ⟨a7, u8, c9, h⟩ | ⟨u5, c6, h⟩
  · have zu8 : u.1 ≤ u8.1 ∧ u.2.1 ≤ u8.2.1 := zz_X9_read N (ub G) (ug G) u a3 x1 90 150 0 (.inl (a7, u8)) c9
    have hz := Option.some.inj h
    subst hz
    exact (show u.1 ≤ u8.1 ∧ u.2.1 ≤ u8.2.1 from ⟨by omega, by omega⟩)
  · have zu5 : u.1 ≤ u5.1 ∧ u.2.1 ≤ u5.2.1 := zz_X9_read N (ub G) (ug G) u a3 x1 90 150 0 (.inr u5) c6
    have hq := zz_X4_readGround_93 (G := G) (a0 := a0) N u5 (some a1) h
    exact ⟨by omega, by omega⟩
set_option maxHeartbeats 4000000 in
set_option maxRecDepth 100000 in
theorem w_X4_readGround_79 {p : Program} {l : Launch} {e : Env} {R : Room} {s : State} {m : MethodId} {args : Array Value} {below : List Frame} {meth : Method} {c : Code} {G : uG} {a0 : Nat} {u0 : UH} {z : (Nat × UH) ⊕ (UH)} (hC : uC p s m args meth c G RX4 cX4_readGround 3 none) (hE : c.exceptionTable.toList = []) (hR : 10 ≤ R.frames ∧ 262 ≤ R.locals) (hRm : (uX0 z).1 - u0.1 ≤ R.cells ∧ (uX0 z).2.1 - u0.2.1 ≤ R.slots) (N : Nat) (u : UH) (x1 : Option Nat) (x2 : Option Nat) (h : f_X4_readGround_79 N (ub G) (ug G) a0 u x1 x2 = some z) (hz0 : (u0.1 ≤ u.1 ∧ u0.2.1 ≤ u.2.1)) {H : Heap} {locs : List Loc} (hP : uP G u H) (hS : va_S (uA G) s.heap H locs) {ls : Array Slot} (hl : lv_has ls 3 [(0, va_rf (some a0)), (1, va_rf x1), (2, va_rf x2)]) : W p l e R s m args below meth c H locs (u.1 - u0.1) (u.2.1 - u0.2.1) (uMQv below G z args s ((uX0 z).1 - u0.1) ((uX0 z).2.1 - u0.2.1)) (F0 m 79 ls []) := by
  obtain ⟨⟨hx, hb, hml, hown, hts⟩, hKK⟩ := id hC
  have hzf := zz_X4_readGround_79 (G := G) (a0 := a0) N u x1 x2 h
  unfold f_X4_readGround_79 at h
  refine u_aload_n (r := x2) hx hb dX4_readGround_79 rfl (lv_at hl 2 rfl) ?_
  obtain ⟨a1, ha1, hha1⟩ := mbind_n h
  subst ha1
  have h := hha1
  obtain ⟨o2, ho2, h⟩ := mbind_n h
  refine u_getN hC hP (uGR_n ho2) rfl in_X6 (by decide) q879 (fun _ h => h) dX4_readGround_80 ?_
  refine u_aload_n (r := x1) hx hb dX4_readGround_83 rfl (lv_at hl 1 rfl) ?_
  refine lv_bipush (v := 90) hx hb dX4_readGround_84 (by decide) ?_
  refine lv_sipush (v := 150) hx hb dX4_readGround_86 (by decide) ?_
  refine lv_iconst (v := 0) hx hb dX4_readGround_89 (by decide) ?_
  obtain ⟨a3, ha3, hha3⟩ := mbind_n h
  subst ha3
  have h := hha3
  obtain ⟨c4, h⟩ := mif_n h
  rcases uxcallv_n h with ⟨a7, u8, c9, h⟩ | ⟨u5, c6, h⟩
  · have zu8 : u.1 ≤ u8.1 ∧ u.2.1 ≤ u8.2.1 := zz_X9_read N (ub G) (ug G) u a3 x1 90 150 0 (.inl (a7, u8)) c9
    have hz := Option.some.inj h
    subst hz
    have hRm : u8.1 - u0.1 ≤ R.cells ∧ u8.2.1 - u0.2.1 ≤ R.slots := hRm
    exact u_callX hC (u_noE hE) (u_runVX (As := [va_rf x1, .int 90, .int 150, .int 0]) (rest := []) hC.1 (mex_X9_read l N G u a3 x1 90 150 0 a7 u8 c9) (cwV 4 hts (lw_V q918 q919 q920 q124 q921) rfl rfl rfl (by decide +kernel) ⟨Nat.le_trans (Nat.le_of_ble_eq_true rfl) hR.1, Nat.le_trans (Nat.le_of_ble_eq_true rfl) hR.2⟩) ⟨uPc_blind, u_rcv hC hP c4 rfl, fun U hU hW => u_pre hC hP hS hU hW⟩ rfl rfl hl.1 rfl (lv_room (Nat.le_of_ble_eq_true rfl)) dX4_readGround_90 ⟨by omega, by omega⟩) hS (by show _ + _ = u8.1 - u0.1; omega) (by show _ + _ = u8.2.1 - u0.2.1; omega)
  · have zu5 : u.1 ≤ u5.1 ∧ u.2.1 ≤ u5.2.1 := zz_X9_read N (ub G) (ug G) u a3 x1 90 150 0 (.inr u5) c6
    have hq := zz_X4_readGround_93 (G := G) (a0 := a0) N u5 (some a1) h
    refine u_callv (va_runV (As := [va_rf x1, .int 90, .int 150, .int 0]) (rest := []) hC.1 (met_X9_read l N G u a3 x1 90 150 0 u5 c6) (cwV 4 hts (lw_V q918 q919 q920 q124 q921) rfl rfl rfl (by decide +kernel) ⟨Nat.le_trans (Nat.le_of_ble_eq_true rfl) hR.1, Nat.le_trans (Nat.le_of_ble_eq_true rfl) hR.2⟩) ⟨uPc_blind, u_rcv hC hP c4 rfl, fun U hU hW => u_pre hC hP hS hU hW⟩ rfl rfl hl.1 rfl (lv_room (Nat.le_of_ble_eq_true rfl)) dX4_readGround_90 ⟨by omega, by omega⟩) hS (fun H locs hP hS => ?_)
    refine W.cs (cells' := u5.1 - u0.1) (slots' := u5.2.1 - u0.2.1) (by omega) (by omega) ?_
    exact w_X4_readGround_93 hC hE hR hRm N u5 (some a1) h ⟨by omega, by omega⟩ hP hS (lv_sub hl [0, 2] rfl)
def f_X4_readGround_73 (N b : Nat) (g : uEnv) (a0 : Nat) (u : UH) (x1 : Option Nat) (x2 : Option Nat) : Option ((Nat × UH) ⊕ (UH)) :=
    (x1).bind fun a1 =>
    if uIs u a1 4 = true then
    uxcallv (f_X5_needs N b g u a1 (some (g.2.1 14))) (fun a5 u6 =>
    some (.inl (a5, u6))) fun u3 =>
    f_X4_readGround_79 N b g a0 u3 (some a1) x2
    else none
set_option maxHeartbeats 4000000 in
set_option maxRecDepth 100000 in
theorem zz_X4_readGround_73 {G : uG} {a0 : Nat} {z : (Nat × UH) ⊕ (UH)} (N : Nat) (u : UH) (x1 : Option Nat) (x2 : Option Nat) (h : f_X4_readGround_73 N (ub G) (ug G) a0 u x1 x2 = some z) : u.1 ≤ (uX0 z).1 ∧ u.2.1 ≤ (uX0 z).2.1 := by
  unfold f_X4_readGround_73 at h
  obtain ⟨a1, ha1, hha1⟩ := mbind_n h
  subst ha1
  have h := hha1
  obtain ⟨c2, h⟩ := mif_n h
  rcases uxcallv_n h with ⟨a5, u6, c7, h⟩ | ⟨u3, c4, h⟩
  · have zu6 : u.1 ≤ u6.1 ∧ u.2.1 ≤ u6.2.1 := zz_X5_needs N (ub G) (ug G) u a1 (some ((ug G).2.1 14)) (.inl (a5, u6)) c7
    have hz := Option.some.inj h
    subst hz
    exact (show u.1 ≤ u6.1 ∧ u.2.1 ≤ u6.2.1 from ⟨by omega, by omega⟩)
  · have zu3 : u.1 ≤ u3.1 ∧ u.2.1 ≤ u3.2.1 := zz_X5_needs N (ub G) (ug G) u a1 (some ((ug G).2.1 14)) (.inr u3) c4
    have hq := zz_X4_readGround_79 (G := G) (a0 := a0) N u3 (some a1) x2 h
    exact ⟨by omega, by omega⟩
set_option maxHeartbeats 4000000 in
set_option maxRecDepth 100000 in
theorem w_X4_readGround_73 {p : Program} {l : Launch} {e : Env} {R : Room} {s : State} {m : MethodId} {args : Array Value} {below : List Frame} {meth : Method} {c : Code} {G : uG} {a0 : Nat} {u0 : UH} {z : (Nat × UH) ⊕ (UH)} (hC : uC p s m args meth c G RX4 cX4_readGround 3 none) (hE : c.exceptionTable.toList = []) (hR : 10 ≤ R.frames ∧ 262 ≤ R.locals) (hRm : (uX0 z).1 - u0.1 ≤ R.cells ∧ (uX0 z).2.1 - u0.2.1 ≤ R.slots) (N : Nat) (u : UH) (x1 : Option Nat) (x2 : Option Nat) (h : f_X4_readGround_73 N (ub G) (ug G) a0 u x1 x2 = some z) (hz0 : (u0.1 ≤ u.1 ∧ u0.2.1 ≤ u.2.1)) {H : Heap} {locs : List Loc} (hP : uP G u H) (hS : va_S (uA G) s.heap H locs) {ls : Array Slot} (hl : lv_has ls 3 [(0, va_rf (some a0)), (1, va_rf x1), (2, va_rf x2)]) : W p l e R s m args below meth c H locs (u.1 - u0.1) (u.2.1 - u0.2.1) (uMQv below G z args s ((uX0 z).1 - u0.1) ((uX0 z).2.1 - u0.2.1)) (F0 m 73 ls []) := by
  obtain ⟨⟨hx, hb, hml, hown, hts⟩, hKK⟩ := id hC
  have hzf := zz_X4_readGround_73 (G := G) (a0 := a0) N u x1 x2 h
  unfold f_X4_readGround_73 at h
  refine u_aload_n (r := x1) hx hb dX4_readGround_73 rfl (lv_at hl 1 rfl) ?_
  refine u_ldcS hC 14 rfl dX4_readGround_74 ?_
  obtain ⟨a1, ha1, hha1⟩ := mbind_n h
  subst ha1
  have h := hha1
  obtain ⟨c2, h⟩ := mif_n h
  rcases uxcallv_n h with ⟨a5, u6, c7, h⟩ | ⟨u3, c4, h⟩
  · have zu6 : u.1 ≤ u6.1 ∧ u.2.1 ≤ u6.2.1 := zz_X5_needs N (ub G) (ug G) u a1 (some ((ug G).2.1 14)) (.inl (a5, u6)) c7
    have hz := Option.some.inj h
    subst hz
    have hRm : u6.1 - u0.1 ≤ R.cells ∧ u6.2.1 - u0.2.1 ≤ R.slots := hRm
    exact u_callX hC (u_noE hE) (u_runVX (As := [va_rf (some ((ug G).2.1 14))]) (rest := []) hC.1 (mex_X5_needs l N G u a1 (some ((ug G).2.1 14)) a5 u6 c7) (cwV 1 hts (lw_V q913 q914 q915 q105 q916) rfl rfl rfl (by decide +kernel) ⟨Nat.le_trans (Nat.le_of_ble_eq_true rfl) hR.1, Nat.le_trans (Nat.le_of_ble_eq_true rfl) hR.2⟩) ⟨uPc_blind, u_rcv hC hP c2 rfl, fun U hU hW => u_pre hC hP hS hU hW⟩ rfl rfl hl.1 rfl (lv_room (Nat.le_of_ble_eq_true rfl)) dX4_readGround_76 ⟨by omega, by omega⟩) hS (by show _ + _ = u6.1 - u0.1; omega) (by show _ + _ = u6.2.1 - u0.2.1; omega)
  · have zu3 : u.1 ≤ u3.1 ∧ u.2.1 ≤ u3.2.1 := zz_X5_needs N (ub G) (ug G) u a1 (some ((ug G).2.1 14)) (.inr u3) c4
    have hq := zz_X4_readGround_79 (G := G) (a0 := a0) N u3 (some a1) x2 h
    refine u_callv (va_runV (As := [va_rf (some ((ug G).2.1 14))]) (rest := []) hC.1 (met_X5_needs l N G u a1 (some ((ug G).2.1 14)) u3 c4) (cwV 1 hts (lw_V q913 q914 q915 q105 q916) rfl rfl rfl (by decide +kernel) ⟨Nat.le_trans (Nat.le_of_ble_eq_true rfl) hR.1, Nat.le_trans (Nat.le_of_ble_eq_true rfl) hR.2⟩) ⟨uPc_blind, u_rcv hC hP c2 rfl, fun U hU hW => u_pre hC hP hS hU hW⟩ rfl rfl hl.1 rfl (lv_room (Nat.le_of_ble_eq_true rfl)) dX4_readGround_76 ⟨by omega, by omega⟩) hS (fun H locs hP hS => ?_)
    refine W.cs (cells' := u3.1 - u0.1) (slots' := u3.2.1 - u0.2.1) (by omega) (by omega) ?_
    exact w_X4_readGround_79 hC hE hR hRm N u3 (some a1) x2 h ⟨by omega, by omega⟩ hP hS (lv_sub hl [0, 1, 2] rfl)
def f_X4_readGround_58 (N b : Nat) (g : uEnv) (a0 : Nat) (u : UH) (x1 : Option Nat) (x2 : Option Nat) : Option ((Nat × UH) ⊕ (UH)) :=
    (x2).bind fun a1 =>
    (uGR u a1 5 1).bind fun o2 =>
    (o2).bind fun a3 =>
    if uIs u a3 7 = true then
    uxcallv (f_X9_read N b g u a3 x1 999 300 1) (fun a7 u8 =>
    some (.inl (a7, u8))) fun u5 =>
    f_X4_readGround_73 N b g a0 u5 x1 (some a1)
    else none
set_option maxHeartbeats 4000000 in
set_option maxRecDepth 100000 in
theorem zz_X4_readGround_58 {G : uG} {a0 : Nat} {z : (Nat × UH) ⊕ (UH)} (N : Nat) (u : UH) (x1 : Option Nat) (x2 : Option Nat) (h : f_X4_readGround_58 N (ub G) (ug G) a0 u x1 x2 = some z) : u.1 ≤ (uX0 z).1 ∧ u.2.1 ≤ (uX0 z).2.1 := by
  unfold f_X4_readGround_58 at h
  obtain ⟨a1, ha1, hha1⟩ := mbind_n h
  subst ha1
  have h := hha1
  obtain ⟨o2, ho2, h⟩ := mbind_n h
  obtain ⟨a3, ha3, hha3⟩ := mbind_n h
  subst ha3
  have h := hha3
  obtain ⟨c4, h⟩ := mif_n h
  rcases uxcallv_n h with ⟨a7, u8, c9, h⟩ | ⟨u5, c6, h⟩
  · have zu8 : u.1 ≤ u8.1 ∧ u.2.1 ≤ u8.2.1 := zz_X9_read N (ub G) (ug G) u a3 x1 999 300 1 (.inl (a7, u8)) c9
    have hz := Option.some.inj h
    subst hz
    exact (show u.1 ≤ u8.1 ∧ u.2.1 ≤ u8.2.1 from ⟨by omega, by omega⟩)
  · have zu5 : u.1 ≤ u5.1 ∧ u.2.1 ≤ u5.2.1 := zz_X9_read N (ub G) (ug G) u a3 x1 999 300 1 (.inr u5) c6
    have hq := zz_X4_readGround_73 (G := G) (a0 := a0) N u5 x1 (some a1) h
    exact ⟨by omega, by omega⟩
set_option maxHeartbeats 4000000 in
set_option maxRecDepth 100000 in
theorem w_X4_readGround_58 {p : Program} {l : Launch} {e : Env} {R : Room} {s : State} {m : MethodId} {args : Array Value} {below : List Frame} {meth : Method} {c : Code} {G : uG} {a0 : Nat} {u0 : UH} {z : (Nat × UH) ⊕ (UH)} (hC : uC p s m args meth c G RX4 cX4_readGround 3 none) (hE : c.exceptionTable.toList = []) (hR : 10 ≤ R.frames ∧ 262 ≤ R.locals) (hRm : (uX0 z).1 - u0.1 ≤ R.cells ∧ (uX0 z).2.1 - u0.2.1 ≤ R.slots) (N : Nat) (u : UH) (x1 : Option Nat) (x2 : Option Nat) (h : f_X4_readGround_58 N (ub G) (ug G) a0 u x1 x2 = some z) (hz0 : (u0.1 ≤ u.1 ∧ u0.2.1 ≤ u.2.1)) {H : Heap} {locs : List Loc} (hP : uP G u H) (hS : va_S (uA G) s.heap H locs) {ls : Array Slot} (hl : lv_has ls 3 [(0, va_rf (some a0)), (1, va_rf x1), (2, va_rf x2)]) : W p l e R s m args below meth c H locs (u.1 - u0.1) (u.2.1 - u0.2.1) (uMQv below G z args s ((uX0 z).1 - u0.1) ((uX0 z).2.1 - u0.2.1)) (F0 m 58 ls []) := by
  obtain ⟨⟨hx, hb, hml, hown, hts⟩, hKK⟩ := id hC
  have hzf := zz_X4_readGround_58 (G := G) (a0 := a0) N u x1 x2 h
  unfold f_X4_readGround_58 at h
  refine u_aload_n (r := x2) hx hb dX4_readGround_58 rfl (lv_at hl 2 rfl) ?_
  obtain ⟨a1, ha1, hha1⟩ := mbind_n h
  subst ha1
  have h := hha1
  obtain ⟨o2, ho2, h⟩ := mbind_n h
  refine u_getN hC hP (uGR_n ho2) rfl in_X6 (by decide) q875 (fun _ h => h) dX4_readGround_59 ?_
  refine u_aload_n (r := x1) hx hb dX4_readGround_62 rfl (lv_at hl 1 rfl) ?_
  refine lv_sipush (v := 999) hx hb dX4_readGround_63 (by decide) ?_
  refine lv_sipush (v := 300) hx hb dX4_readGround_66 (by decide) ?_
  refine lv_iconst (v := 1) hx hb dX4_readGround_69 (by decide) ?_
  obtain ⟨a3, ha3, hha3⟩ := mbind_n h
  subst ha3
  have h := hha3
  obtain ⟨c4, h⟩ := mif_n h
  rcases uxcallv_n h with ⟨a7, u8, c9, h⟩ | ⟨u5, c6, h⟩
  · have zu8 : u.1 ≤ u8.1 ∧ u.2.1 ≤ u8.2.1 := zz_X9_read N (ub G) (ug G) u a3 x1 999 300 1 (.inl (a7, u8)) c9
    have hz := Option.some.inj h
    subst hz
    have hRm : u8.1 - u0.1 ≤ R.cells ∧ u8.2.1 - u0.2.1 ≤ R.slots := hRm
    exact u_callX hC (u_noE hE) (u_runVX (As := [va_rf x1, .int 999, .int 300, .int 1]) (rest := []) hC.1 (mex_X9_read l N G u a3 x1 999 300 1 a7 u8 c9) (cwV 4 hts (lw_V q918 q919 q920 q124 q921) rfl rfl rfl (by decide +kernel) ⟨Nat.le_trans (Nat.le_of_ble_eq_true rfl) hR.1, Nat.le_trans (Nat.le_of_ble_eq_true rfl) hR.2⟩) ⟨uPc_blind, u_rcv hC hP c4 rfl, fun U hU hW => u_pre hC hP hS hU hW⟩ rfl rfl hl.1 rfl (lv_room (Nat.le_of_ble_eq_true rfl)) dX4_readGround_70 ⟨by omega, by omega⟩) hS (by show _ + _ = u8.1 - u0.1; omega) (by show _ + _ = u8.2.1 - u0.2.1; omega)
  · have zu5 : u.1 ≤ u5.1 ∧ u.2.1 ≤ u5.2.1 := zz_X9_read N (ub G) (ug G) u a3 x1 999 300 1 (.inr u5) c6
    have hq := zz_X4_readGround_73 (G := G) (a0 := a0) N u5 x1 (some a1) h
    refine u_callv (va_runV (As := [va_rf x1, .int 999, .int 300, .int 1]) (rest := []) hC.1 (met_X9_read l N G u a3 x1 999 300 1 u5 c6) (cwV 4 hts (lw_V q918 q919 q920 q124 q921) rfl rfl rfl (by decide +kernel) ⟨Nat.le_trans (Nat.le_of_ble_eq_true rfl) hR.1, Nat.le_trans (Nat.le_of_ble_eq_true rfl) hR.2⟩) ⟨uPc_blind, u_rcv hC hP c4 rfl, fun U hU hW => u_pre hC hP hS hU hW⟩ rfl rfl hl.1 rfl (lv_room (Nat.le_of_ble_eq_true rfl)) dX4_readGround_70 ⟨by omega, by omega⟩) hS (fun H locs hP hS => ?_)
    refine W.cs (cells' := u5.1 - u0.1) (slots' := u5.2.1 - u0.2.1) (by omega) (by omega) ?_
    exact w_X4_readGround_73 hC hE hR hRm N u5 x1 (some a1) h ⟨by omega, by omega⟩ hP hS (lv_sub hl [0, 1, 2] rfl)
def f_X4_readGround_52 (N b : Nat) (g : uEnv) (a0 : Nat) (u : UH) (x1 : Option Nat) (x2 : Option Nat) : Option ((Nat × UH) ⊕ (UH)) :=
    (x1).bind fun a1 =>
    if uIs u a1 4 = true then
    uxcallv (f_X5_needs N b g u a1 (some (g.2.1 12))) (fun a5 u6 =>
    some (.inl (a5, u6))) fun u3 =>
    f_X4_readGround_58 N b g a0 u3 (some a1) x2
    else none
set_option maxHeartbeats 4000000 in
set_option maxRecDepth 100000 in
theorem zz_X4_readGround_52 {G : uG} {a0 : Nat} {z : (Nat × UH) ⊕ (UH)} (N : Nat) (u : UH) (x1 : Option Nat) (x2 : Option Nat) (h : f_X4_readGround_52 N (ub G) (ug G) a0 u x1 x2 = some z) : u.1 ≤ (uX0 z).1 ∧ u.2.1 ≤ (uX0 z).2.1 := by
  unfold f_X4_readGround_52 at h
  obtain ⟨a1, ha1, hha1⟩ := mbind_n h
  subst ha1
  have h := hha1
  obtain ⟨c2, h⟩ := mif_n h
  rcases uxcallv_n h with ⟨a5, u6, c7, h⟩ | ⟨u3, c4, h⟩
  · have zu6 : u.1 ≤ u6.1 ∧ u.2.1 ≤ u6.2.1 := zz_X5_needs N (ub G) (ug G) u a1 (some ((ug G).2.1 12)) (.inl (a5, u6)) c7
    have hz := Option.some.inj h
    subst hz
    exact (show u.1 ≤ u6.1 ∧ u.2.1 ≤ u6.2.1 from ⟨by omega, by omega⟩)
  · have zu3 : u.1 ≤ u3.1 ∧ u.2.1 ≤ u3.2.1 := zz_X5_needs N (ub G) (ug G) u a1 (some ((ug G).2.1 12)) (.inr u3) c4
    have hq := zz_X4_readGround_58 (G := G) (a0 := a0) N u3 (some a1) x2 h
    exact ⟨by omega, by omega⟩
set_option maxHeartbeats 4000000 in
set_option maxRecDepth 100000 in
theorem w_X4_readGround_52 {p : Program} {l : Launch} {e : Env} {R : Room} {s : State} {m : MethodId} {args : Array Value} {below : List Frame} {meth : Method} {c : Code} {G : uG} {a0 : Nat} {u0 : UH} {z : (Nat × UH) ⊕ (UH)} (hC : uC p s m args meth c G RX4 cX4_readGround 3 none) (hE : c.exceptionTable.toList = []) (hR : 10 ≤ R.frames ∧ 262 ≤ R.locals) (hRm : (uX0 z).1 - u0.1 ≤ R.cells ∧ (uX0 z).2.1 - u0.2.1 ≤ R.slots) (N : Nat) (u : UH) (x1 : Option Nat) (x2 : Option Nat) (h : f_X4_readGround_52 N (ub G) (ug G) a0 u x1 x2 = some z) (hz0 : (u0.1 ≤ u.1 ∧ u0.2.1 ≤ u.2.1)) {H : Heap} {locs : List Loc} (hP : uP G u H) (hS : va_S (uA G) s.heap H locs) {ls : Array Slot} (hl : lv_has ls 3 [(0, va_rf (some a0)), (1, va_rf x1), (2, va_rf x2)]) : W p l e R s m args below meth c H locs (u.1 - u0.1) (u.2.1 - u0.2.1) (uMQv below G z args s ((uX0 z).1 - u0.1) ((uX0 z).2.1 - u0.2.1)) (F0 m 52 ls []) := by
  obtain ⟨⟨hx, hb, hml, hown, hts⟩, hKK⟩ := id hC
  have hzf := zz_X4_readGround_52 (G := G) (a0 := a0) N u x1 x2 h
  unfold f_X4_readGround_52 at h
  refine u_aload_n (r := x1) hx hb dX4_readGround_52 rfl (lv_at hl 1 rfl) ?_
  refine u_ldcS hC 12 rfl dX4_readGround_53 ?_
  obtain ⟨a1, ha1, hha1⟩ := mbind_n h
  subst ha1
  have h := hha1
  obtain ⟨c2, h⟩ := mif_n h
  rcases uxcallv_n h with ⟨a5, u6, c7, h⟩ | ⟨u3, c4, h⟩
  · have zu6 : u.1 ≤ u6.1 ∧ u.2.1 ≤ u6.2.1 := zz_X5_needs N (ub G) (ug G) u a1 (some ((ug G).2.1 12)) (.inl (a5, u6)) c7
    have hz := Option.some.inj h
    subst hz
    have hRm : u6.1 - u0.1 ≤ R.cells ∧ u6.2.1 - u0.2.1 ≤ R.slots := hRm
    exact u_callX hC (u_noE hE) (u_runVX (As := [va_rf (some ((ug G).2.1 12))]) (rest := []) hC.1 (mex_X5_needs l N G u a1 (some ((ug G).2.1 12)) a5 u6 c7) (cwV 1 hts (lw_V q913 q914 q915 q105 q916) rfl rfl rfl (by decide +kernel) ⟨Nat.le_trans (Nat.le_of_ble_eq_true rfl) hR.1, Nat.le_trans (Nat.le_of_ble_eq_true rfl) hR.2⟩) ⟨uPc_blind, u_rcv hC hP c2 rfl, fun U hU hW => u_pre hC hP hS hU hW⟩ rfl rfl hl.1 rfl (lv_room (Nat.le_of_ble_eq_true rfl)) dX4_readGround_55 ⟨by omega, by omega⟩) hS (by show _ + _ = u6.1 - u0.1; omega) (by show _ + _ = u6.2.1 - u0.2.1; omega)
  · have zu3 : u.1 ≤ u3.1 ∧ u.2.1 ≤ u3.2.1 := zz_X5_needs N (ub G) (ug G) u a1 (some ((ug G).2.1 12)) (.inr u3) c4
    have hq := zz_X4_readGround_58 (G := G) (a0 := a0) N u3 (some a1) x2 h
    refine u_callv (va_runV (As := [va_rf (some ((ug G).2.1 12))]) (rest := []) hC.1 (met_X5_needs l N G u a1 (some ((ug G).2.1 12)) u3 c4) (cwV 1 hts (lw_V q913 q914 q915 q105 q916) rfl rfl rfl (by decide +kernel) ⟨Nat.le_trans (Nat.le_of_ble_eq_true rfl) hR.1, Nat.le_trans (Nat.le_of_ble_eq_true rfl) hR.2⟩) ⟨uPc_blind, u_rcv hC hP c2 rfl, fun U hU hW => u_pre hC hP hS hU hW⟩ rfl rfl hl.1 rfl (lv_room (Nat.le_of_ble_eq_true rfl)) dX4_readGround_55 ⟨by omega, by omega⟩) hS (fun H locs hP hS => ?_)
    refine W.cs (cells' := u3.1 - u0.1) (slots' := u3.2.1 - u0.2.1) (by omega) (by omega) ?_
    exact w_X4_readGround_58 hC hE hR hRm N u3 (some a1) x2 h ⟨by omega, by omega⟩ hP hS (lv_sub hl [0, 1, 2] rfl)
def f_X4_readGround_47 (N b : Nat) (g : uEnv) (a0 : Nat) (u : UH) (s0 : Option Nat) : Option ((Nat × UH) ⊕ (UH)) :=
    (s0).bind fun a1 =>
    some (.inl (a1, u))
set_option maxHeartbeats 4000000 in
set_option maxRecDepth 100000 in
theorem zz_X4_readGround_47 {G : uG} {a0 : Nat} {z : (Nat × UH) ⊕ (UH)} (N : Nat) (u : UH) (s0 : Option Nat) (h : f_X4_readGround_47 N (ub G) (ug G) a0 u s0 = some z) : u.1 ≤ (uX0 z).1 ∧ u.2.1 ≤ (uX0 z).2.1 := by
  unfold f_X4_readGround_47 at h
  obtain ⟨a1, ha1, hha1⟩ := mbind_n h
  subst ha1
  have h := hha1
  have hz := Option.some.inj h
  subst hz
  exact (show u.1 ≤ u.1 ∧ u.2.1 ≤ u.2.1 from ⟨by omega, by omega⟩)
set_option maxHeartbeats 4000000 in
set_option maxRecDepth 100000 in
theorem w_X4_readGround_47 {p : Program} {l : Launch} {e : Env} {R : Room} {s : State} {m : MethodId} {args : Array Value} {below : List Frame} {meth : Method} {c : Code} {G : uG} {a0 : Nat} {u0 : UH} {z : (Nat × UH) ⊕ (UH)} (hC : uC p s m args meth c G RX4 cX4_readGround 3 none) (hE : c.exceptionTable.toList = []) (hR : 10 ≤ R.frames ∧ 262 ≤ R.locals) (hRm : (uX0 z).1 - u0.1 ≤ R.cells ∧ (uX0 z).2.1 - u0.2.1 ≤ R.slots) (N : Nat) (u : UH) (s0 : Option Nat) (h : f_X4_readGround_47 N (ub G) (ug G) a0 u s0 = some z) (hz0 : (u0.1 ≤ u.1 ∧ u0.2.1 ≤ u.2.1)) {H : Heap} {locs : List Loc} (hP : uP G u H) (hS : va_S (uA G) s.heap H locs) {ls : Array Slot} (hl : lv_has ls 3 []) : W p l e R s m args below meth c H locs (u.1 - u0.1) (u.2.1 - u0.2.1) (uMQv below G z args s ((uX0 z).1 - u0.1) ((uX0 z).2.1 - u0.2.1)) (F0 m 47 ls [va_rf s0]) := by
  obtain ⟨⟨hx, hb, hml, hown, hts⟩, hKK⟩ := id hC
  have hzf := zz_X4_readGround_47 (G := G) (a0 := a0) N u s0 h
  unfold f_X4_readGround_47 at h
  obtain ⟨a1, ha1, hha1⟩ := mbind_n h
  subst ha1
  have h := hha1
  have hz := Option.some.inj h
  subst hz
  exact u_athrow hC (u_noE hE) hP hS dX4_readGround_47
def f_X4_readGround_29 (N b : Nat) (g : uEnv) (a0 : Nat) (u : UH) (s0 : Option Nat) : Option ((Nat × UH) ⊕ (UH)) :=
    (s0).bind fun a1 =>
    some (.inl (a1, u))
set_option maxHeartbeats 4000000 in
set_option maxRecDepth 100000 in
theorem zz_X4_readGround_29 {G : uG} {a0 : Nat} {z : (Nat × UH) ⊕ (UH)} (N : Nat) (u : UH) (s0 : Option Nat) (h : f_X4_readGround_29 N (ub G) (ug G) a0 u s0 = some z) : u.1 ≤ (uX0 z).1 ∧ u.2.1 ≤ (uX0 z).2.1 := by
  unfold f_X4_readGround_29 at h
  obtain ⟨a1, ha1, hha1⟩ := mbind_n h
  subst ha1
  have h := hha1
  have hz := Option.some.inj h
  subst hz
  exact (show u.1 ≤ u.1 ∧ u.2.1 ≤ u.2.1 from ⟨by omega, by omega⟩)
set_option maxHeartbeats 4000000 in
set_option maxRecDepth 100000 in
theorem w_X4_readGround_29 {p : Program} {l : Launch} {e : Env} {R : Room} {s : State} {m : MethodId} {args : Array Value} {below : List Frame} {meth : Method} {c : Code} {G : uG} {a0 : Nat} {u0 : UH} {z : (Nat × UH) ⊕ (UH)} (hC : uC p s m args meth c G RX4 cX4_readGround 3 none) (hE : c.exceptionTable.toList = []) (hR : 10 ≤ R.frames ∧ 262 ≤ R.locals) (hRm : (uX0 z).1 - u0.1 ≤ R.cells ∧ (uX0 z).2.1 - u0.2.1 ≤ R.slots) (N : Nat) (u : UH) (s0 : Option Nat) (h : f_X4_readGround_29 N (ub G) (ug G) a0 u s0 = some z) (hz0 : (u0.1 ≤ u.1 ∧ u0.2.1 ≤ u.2.1)) {H : Heap} {locs : List Loc} (hP : uP G u H) (hS : va_S (uA G) s.heap H locs) {ls : Array Slot} (hl : lv_has ls 3 []) : W p l e R s m args below meth c H locs (u.1 - u0.1) (u.2.1 - u0.2.1) (uMQv below G z args s ((uX0 z).1 - u0.1) ((uX0 z).2.1 - u0.2.1)) (F0 m 29 ls [va_rf s0]) := by
  obtain ⟨⟨hx, hb, hml, hown, hts⟩, hKK⟩ := id hC
  have hzf := zz_X4_readGround_29 (G := G) (a0 := a0) N u s0 h
  unfold f_X4_readGround_29 at h
  obtain ⟨a1, ha1, hha1⟩ := mbind_n h
  subst ha1
  have h := hha1
  have hz := Option.some.inj h
  subst hz
  exact u_athrow hC (u_noE hE) hP hS dX4_readGround_29
def f_X4_readGround_11 (N b : Nat) (g : uEnv) (a0 : Nat) (u : UH) (x1 : Option Nat) (s0 : Option Nat) : Option ((Nat × UH) ⊕ (UH)) :=
    (s0).bind fun a1 =>
    (uGR u a1 5 0).bind fun o2 =>
    if uIs u a0 3 = true then
    ucall (f_X4_groundOf N b g u a0 o2) fun r6 u4 =>
    if r6 = (-1) then
    (uGR u4 a0 3 0).bind fun o8 =>
    (o8).bind fun a9 =>
    if uIs u4 a9 18 = true then
    ucall (f_J2_size N b g u4 a9) fun r13 u11 =>
    if r13 = 8 then
    (x1).bind fun a19 =>
    if uIs u11 a19 4 = true then
    ucall (f_X5_fault N b g u11 a19 5) fun o23 u21 =>
    f_X4_readGround_47 N b g a0 u21 o23
    else none
    else
    (x1).bind fun a15 =>
    if uIs u11 a15 4 = true then
    (f_X5_next N b g u11 a15).bind fun u17 =>
    f_X4_readGround_52 N b g a0 u17 (some a15) (some a1)
    else none
    else none
    else
    (x1).bind fun a24 =>
    if uIs u4 a24 4 = true then
    ucall (f_X5_fault N b g u4 a24 3) fun o28 u26 =>
    f_X4_readGround_29 N b g a0 u26 o28
    else none
    else none
set_option maxHeartbeats 4000000 in
set_option maxRecDepth 100000 in
theorem zz_X4_readGround_11 {G : uG} {a0 : Nat} {z : (Nat × UH) ⊕ (UH)} (N : Nat) (u : UH) (x1 : Option Nat) (s0 : Option Nat) (h : f_X4_readGround_11 N (ub G) (ug G) a0 u x1 s0 = some z) : u.1 ≤ (uX0 z).1 ∧ u.2.1 ≤ (uX0 z).2.1 := by
  unfold f_X4_readGround_11 at h
  obtain ⟨a1, ha1, hha1⟩ := mbind_n h
  subst ha1
  have h := hha1
  obtain ⟨o2, ho2, h⟩ := mbind_n h
  obtain ⟨c3, h⟩ := mif_n h
  obtain ⟨r6, u4, c5, h⟩ := ucall_n h
  have zu4 := zz_X4_groundOf N (ub G) (ug G) u a0 o2 r6 u4 c5
  by_cases c7 : r6 = (-1)
  · have h := mif_t c7 h
    obtain ⟨o8, ho8, h⟩ := mbind_n h
    obtain ⟨a9, ha9, hha9⟩ := mbind_n h
    subst ha9
    have h := hha9
    obtain ⟨c10, h⟩ := mif_n h
    obtain ⟨r13, u11, c12, h⟩ := ucall_n h
    have zu11 := zz_J2_size N (ub G) (ug G) u4 a9 r13 u11 c12
    by_cases c14 : r13 = 8
    · have h := mif_t c14 h
      obtain ⟨a19, ha19, hha19⟩ := mbind_n h
      subst ha19
      have h := hha19
      obtain ⟨c20, h⟩ := mif_n h
      obtain ⟨o23, u21, c22, h⟩ := ucall_n h
      have zu21 := zz_X5_fault N (ub G) (ug G) u11 a19 5 o23 u21 c22
      have hq := zz_X4_readGround_47 (G := G) (a0 := a0) N u21 o23 h
      exact ⟨by omega, by omega⟩
    · have h := mif_f c14 h
      obtain ⟨a15, ha15, hha15⟩ := mbind_n h
      subst ha15
      have h := hha15
      obtain ⟨c16, h⟩ := mif_n h
      obtain ⟨u17, c18, h⟩ := mbind_n h
      have zu17 := zz_X5_next N (ub G) (ug G) u11 a15 u17 c18
      have hq := zz_X4_readGround_52 (G := G) (a0 := a0) N u17 (some a15) (some a1) h
      exact ⟨by omega, by omega⟩
  · have h := mif_f c7 h
    obtain ⟨a24, ha24, hha24⟩ := mbind_n h
    subst ha24
    have h := hha24
    obtain ⟨c25, h⟩ := mif_n h
    obtain ⟨o28, u26, c27, h⟩ := ucall_n h
    have zu26 := zz_X5_fault N (ub G) (ug G) u4 a24 3 o28 u26 c27
    have hq := zz_X4_readGround_29 (G := G) (a0 := a0) N u26 o28 h
    exact ⟨by omega, by omega⟩
set_option maxHeartbeats 4000000 in
set_option maxRecDepth 100000 in
theorem w_X4_readGround_11 {p : Program} {l : Launch} {e : Env} {R : Room} {s : State} {m : MethodId} {args : Array Value} {below : List Frame} {meth : Method} {c : Code} {G : uG} {a0 : Nat} {u0 : UH} {z : (Nat × UH) ⊕ (UH)} (hC : uC p s m args meth c G RX4 cX4_readGround 3 none) (hE : c.exceptionTable.toList = []) (hR : 10 ≤ R.frames ∧ 262 ≤ R.locals) (hRm : (uX0 z).1 - u0.1 ≤ R.cells ∧ (uX0 z).2.1 - u0.2.1 ≤ R.slots) (N : Nat) (u : UH) (x1 : Option Nat) (s0 : Option Nat) (h : f_X4_readGround_11 N (ub G) (ug G) a0 u x1 s0 = some z) (hz0 : (u0.1 ≤ u.1 ∧ u0.2.1 ≤ u.2.1)) {H : Heap} {locs : List Loc} (hP : uP G u H) (hS : va_S (uA G) s.heap H locs) {ls : Array Slot} (hl : lv_has ls 3 [(0, va_rf (some a0)), (1, va_rf x1)]) : W p l e R s m args below meth c H locs (u.1 - u0.1) (u.2.1 - u0.2.1) (uMQv below G z args s ((uX0 z).1 - u0.1) ((uX0 z).2.1 - u0.2.1)) (F0 m 11 ls [va_rf s0]) := by
  obtain ⟨⟨hx, hb, hml, hown, hts⟩, hKK⟩ := id hC
  have hzf := zz_X4_readGround_11 (G := G) (a0 := a0) N u x1 s0 h
  unfold f_X4_readGround_11 at h
  refine u_astore_n (i := 2) (r := s0) (lv' := [(2, va_rf s0), (0, va_rf (some a0)), (1, va_rf x1)]) hx hb dX4_readGround_11 rfl hl (by decide) (by simp [List.filter_cons, u_cat]) (fun ls hl => ?_)
  refine u_aload_n (r := some a0) hx hb dX4_readGround_12 rfl (lv_at hl 1 rfl) ?_
  refine u_aload_n (r := s0) hx hb dX4_readGround_13 rfl (lv_at hl 0 rfl) ?_
  obtain ⟨a1, ha1, hha1⟩ := mbind_n h
  subst ha1
  have h := hha1
  obtain ⟨o2, ho2, h⟩ := mbind_n h
  refine u_getN hC hP (uGR_n ho2) rfl in_X6 (by decide) q873 (fun _ h => h) dX4_readGround_14 ?_
  obtain ⟨c3, h⟩ := mif_n h
  obtain ⟨r6, u4, c5, h⟩ := ucall_n h
  have zu4 := zz_X4_groundOf N (ub G) (ug G) u a0 o2 r6 u4 c5
  refine u_calli (va_runV (As := [va_rf o2]) (rest := []) hC.1 (met_X4_groundOf l N G u a0 o2 r6 u4 c5) (cwV 1 hts (lw_V q889 q890 q891 q104 q892) rfl rfl rfl (by decide +kernel) ⟨Nat.le_trans (Nat.le_of_ble_eq_true rfl) hR.1, Nat.le_trans (Nat.le_of_ble_eq_true rfl) hR.2⟩) ⟨uPc_blind, u_rcv hC hP c3 rfl, fun U hU hW => u_pre hC hP hS hU hW⟩ rfl rfl hl.1 rfl (lv_room (Nat.le_of_ble_eq_true rfl)) dX4_readGround_17 ⟨by omega, by omega⟩) hS (fun H locs hP hS => ?_)
  refine W.cs (cells' := u4.1 - u0.1) (slots' := u4.2.1 - u0.2.1) (by omega) (by omega) ?_
  refine lv_iconst (v := (-1)) hx hb dX4_readGround_20 (by decide) ?_
  refine lv_icmp_eq (tgt := 30) hx hb dX4_readGround_21 (by decide) (fun c7 => ?_) (fun c7 => ?_)
  · have h := mif_t c7 h
    refine u_aload_n (r := some a0) hx hb dX4_readGround_30 rfl (lv_at hl 1 rfl) ?_
    obtain ⟨o8, ho8, h⟩ := mbind_n h
    refine u_get hC hP (uGR_n ho8) rfl in_X4 (by decide) q288 (fun _ h => h) dX4_readGround_31 ?_
    obtain ⟨a9, ha9, hha9⟩ := mbind_n h
    subst ha9
    have h := hha9
    obtain ⟨c10, h⟩ := mif_n h
    obtain ⟨r13, u11, c12, h⟩ := ucall_n h
    have zu11 := zz_J2_size N (ub G) (ug G) u4 a9 r13 u11 c12
    refine u_calli (va_runV (As := []) (rest := []) hC.1 (met_J2_size l N G u4 a9 r13 u11 c12) (cwV 0 hts (lw_V q893 q894 q895 q102 q896) rfl rfl rfl (by decide +kernel) ⟨Nat.le_trans (Nat.le_of_ble_eq_true rfl) hR.1, Nat.le_trans (Nat.le_of_ble_eq_true rfl) hR.2⟩) ⟨uPc_blind, u_rcv hC hP c10 rfl, fun U hU hW => u_pre hC hP hS hU hW⟩ rfl rfl hl.1 rfl (lv_room (Nat.le_of_ble_eq_true rfl)) dX4_readGround_34 ⟨by omega, by omega⟩) hS (fun H locs hP hS => ?_)
    refine W.cs (cells' := u11.1 - u0.1) (slots' := u11.2.1 - u0.2.1) (by omega) (by omega) ?_
    refine lv_bipush (v := 8) hx hb dX4_readGround_37 (by decide) ?_
    refine lv_icmp_ne (tgt := 48) hx hb dX4_readGround_39 (by decide) (fun c14 => ?_) (fun c14 => ?_)
    · have h := mif_f c14 h
      refine u_aload_n (r := x1) hx hb dX4_readGround_48 rfl (lv_at hl 2 rfl) ?_
      obtain ⟨a15, ha15, hha15⟩ := mbind_n h
      subst ha15
      have h := hha15
      obtain ⟨c16, h⟩ := mif_n h
      obtain ⟨u17, c18, h⟩ := mbind_n h
      have zu17 := zz_X5_next N (ub G) (ug G) u11 a15 u17 c18
      have hq := zz_X4_readGround_52 (G := G) (a0 := a0) N u17 (some a15) (some a1) h
      refine u_callv (va_runV (As := []) (rest := []) hC.1 (met_X5_next l N G u11 a15 u17 c18) (cwV 0 hts (lw_V q911 q340 q341 q105 q342) rfl rfl rfl (by decide +kernel) ⟨Nat.le_trans (Nat.le_of_ble_eq_true rfl) hR.1, Nat.le_trans (Nat.le_of_ble_eq_true rfl) hR.2⟩) ⟨uPc_blind, u_rcv hC hP c16 rfl, fun U hU hW => u_pre hC hP hS hU hW⟩ rfl rfl hl.1 rfl (lv_room (Nat.le_of_ble_eq_true rfl)) dX4_readGround_49 ⟨by omega, by omega⟩) hS (fun H locs hP hS => ?_)
      refine W.cs (cells' := u17.1 - u0.1) (slots' := u17.2.1 - u0.2.1) (by omega) (by omega) ?_
      refine W.cs (cells' := u17.1 - u0.1) (slots' := u17.2.1 - u0.2.1) (by omega) (by omega) ?_
      exact w_X4_readGround_52 hC hE hR hRm N u17 (some a15) (some a1) h ⟨by omega, by omega⟩ hP hS (lv_sub hl [1, 2, 0] rfl)
    · have h := mif_t c14 h
      refine u_aload_n (r := x1) hx hb dX4_readGround_42 rfl (lv_at hl 2 rfl) ?_
      refine lv_iconst (v := 5) hx hb dX4_readGround_43 (by decide) ?_
      obtain ⟨a19, ha19, hha19⟩ := mbind_n h
      subst ha19
      have h := hha19
      obtain ⟨c20, h⟩ := mif_n h
      obtain ⟨o23, u21, c22, h⟩ := ucall_n h
      have zu21 := zz_X5_fault N (ub G) (ug G) u11 a19 5 o23 u21 c22
      have hq := zz_X4_readGround_47 (G := G) (a0 := a0) N u21 o23 h
      refine u_callr (va_runV (As := [.int 5]) (rest := []) hC.1 (met_X5_fault l N G u11 a19 5 o23 u21 c22) (cwV 1 hts (lw_V q910 q781 q782 q105 q783) rfl rfl rfl (by decide +kernel) ⟨Nat.le_trans (Nat.le_of_ble_eq_true rfl) hR.1, Nat.le_trans (Nat.le_of_ble_eq_true rfl) hR.2⟩) ⟨uPc_blind, u_rcv hC hP c20 rfl, fun U hU hW => u_pre hC hP hS hU hW⟩ rfl rfl hl.1 rfl (lv_room (Nat.le_of_ble_eq_true rfl)) dX4_readGround_44 ⟨by omega, by omega⟩) hS (fun H locs hP hS => ?_)
      refine W.cs (cells' := u21.1 - u0.1) (slots' := u21.2.1 - u0.2.1) (by omega) (by omega) ?_
      refine W.cs (cells' := u21.1 - u0.1) (slots' := u21.2.1 - u0.2.1) (by omega) (by omega) ?_
      exact w_X4_readGround_47 hC hE hR hRm N u21 o23 h ⟨by omega, by omega⟩ hP hS (lv_sub hl [] rfl)
  · have h := mif_f c7 h
    refine u_aload_n (r := x1) hx hb dX4_readGround_24 rfl (lv_at hl 2 rfl) ?_
    refine lv_iconst (v := 3) hx hb dX4_readGround_25 (by decide) ?_
    obtain ⟨a24, ha24, hha24⟩ := mbind_n h
    subst ha24
    have h := hha24
    obtain ⟨c25, h⟩ := mif_n h
    obtain ⟨o28, u26, c27, h⟩ := ucall_n h
    have zu26 := zz_X5_fault N (ub G) (ug G) u4 a24 3 o28 u26 c27
    have hq := zz_X4_readGround_29 (G := G) (a0 := a0) N u26 o28 h
    refine u_callr (va_runV (As := [.int 3]) (rest := []) hC.1 (met_X5_fault l N G u4 a24 3 o28 u26 c27) (cwV 1 hts (lw_V q910 q781 q782 q105 q783) rfl rfl rfl (by decide +kernel) ⟨Nat.le_trans (Nat.le_of_ble_eq_true rfl) hR.1, Nat.le_trans (Nat.le_of_ble_eq_true rfl) hR.2⟩) ⟨uPc_blind, u_rcv hC hP c25 rfl, fun U hU hW => u_pre hC hP hS hU hW⟩ rfl rfl hl.1 rfl (lv_room (Nat.le_of_ble_eq_true rfl)) dX4_readGround_26 ⟨by omega, by omega⟩) hS (fun H locs hP hS => ?_)
    refine W.cs (cells' := u26.1 - u0.1) (slots' := u26.2.1 - u0.2.1) (by omega) (by omega) ?_
    refine W.cs (cells' := u26.1 - u0.1) (slots' := u26.2.1 - u0.2.1) (by omega) (by omega) ?_
    exact w_X4_readGround_29 hC hE hR hRm N u26 o28 h ⟨by omega, by omega⟩ hP hS (lv_sub hl [] rfl)
def f_X4_readGround_8 (N b : Nat) (g : uEnv) (a0 : Nat) (u : UH) (x1 : Option Nat) (s0 : Option Nat) (s1 : Option Nat) (s2 : Option Nat) : Option ((Nat × UH) ⊕ (UH)) :=
    (s1).bind fun a1 =>
    (f_X6_init N b g u a1 s0).bind fun u2 =>
    f_X4_readGround_11 N b g a0 u2 x1 s2
set_option maxHeartbeats 4000000 in
set_option maxRecDepth 100000 in
theorem zz_X4_readGround_8 {G : uG} {a0 : Nat} {z : (Nat × UH) ⊕ (UH)} (N : Nat) (u : UH) (x1 : Option Nat) (s0 : Option Nat) (s1 : Option Nat) (s2 : Option Nat) (h : f_X4_readGround_8 N (ub G) (ug G) a0 u x1 s0 s1 s2 = some z) : u.1 ≤ (uX0 z).1 ∧ u.2.1 ≤ (uX0 z).2.1 := by
  unfold f_X4_readGround_8 at h
  obtain ⟨a1, ha1, hha1⟩ := mbind_n h
  subst ha1
  have h := hha1
  obtain ⟨u2, c3, h⟩ := mbind_n h
  have zu2 := zz_X6_init N (ub G) (ug G) u a1 s0 u2 c3
  have hq := zz_X4_readGround_11 (G := G) (a0 := a0) N u2 x1 s2 h
  exact ⟨by omega, by omega⟩
set_option maxHeartbeats 4000000 in
set_option maxRecDepth 100000 in
theorem w_X4_readGround_8 {p : Program} {l : Launch} {e : Env} {R : Room} {s : State} {m : MethodId} {args : Array Value} {below : List Frame} {meth : Method} {c : Code} {G : uG} {a0 : Nat} {u0 : UH} {z : (Nat × UH) ⊕ (UH)} (hC : uC p s m args meth c G RX4 cX4_readGround 3 none) (hE : c.exceptionTable.toList = []) (hR : 10 ≤ R.frames ∧ 262 ≤ R.locals) (hRm : (uX0 z).1 - u0.1 ≤ R.cells ∧ (uX0 z).2.1 - u0.2.1 ≤ R.slots) (N : Nat) (u : UH) (x1 : Option Nat) (s0 : Option Nat) (s1 : Option Nat) (s2 : Option Nat) (h : f_X4_readGround_8 N (ub G) (ug G) a0 u x1 s0 s1 s2 = some z) (hz0 : (u0.1 ≤ u.1 ∧ u0.2.1 ≤ u.2.1)) {H : Heap} {locs : List Loc} (hP : uP G u H) (hS : va_S (uA G) s.heap H locs) {ls : Array Slot} (hl : lv_has ls 3 [(0, va_rf (some a0)), (1, va_rf x1)]) : W p l e R s m args below meth c H locs (u.1 - u0.1) (u.2.1 - u0.2.1) (uMQv below G z args s ((uX0 z).1 - u0.1) ((uX0 z).2.1 - u0.2.1)) (F0 m 8 ls [va_rf s0, va_rf s1, va_rf s2]) := by
  obtain ⟨⟨hx, hb, hml, hown, hts⟩, hKK⟩ := id hC
  have hzf := zz_X4_readGround_8 (G := G) (a0 := a0) N u x1 s0 s1 s2 h
  unfold f_X4_readGround_8 at h
  obtain ⟨a1, ha1, hha1⟩ := mbind_n h
  subst ha1
  have h := hha1
  obtain ⟨u2, c3, h⟩ := mbind_n h
  have zu2 := zz_X6_init N (ub G) (ug G) u a1 s0 u2 c3
  have hq := zz_X4_readGround_11 (G := G) (a0 := a0) N u2 x1 s2 h
  refine u_callv (va_runI (As := [va_rf s0]) (rest := [va_rf s2]) hC.1 (met_X6_init l N G u a1 s0 u2 c3) (cwI 1 hts (lw_meth q854) rfl rfl rfl (hts _ q119) (hts _ q852) (hts _ q853) rfl (by decide +kernel) ⟨Nat.le_trans (Nat.le_of_ble_eq_true rfl) hR.1, Nat.le_trans (Nat.le_of_ble_eq_true rfl) hR.2⟩) ⟨uPc_blind, fun U hU hW => u_pre hC hP hS hU hW⟩ rfl rfl hl.1 rfl (lv_room (by simp only [List.map, u_cat]; exact Nat.le_of_ble_eq_true rfl)) dX4_readGround_8 ⟨by omega, by omega⟩) hS (fun H locs hP hS => ?_)
  refine W.cs (cells' := u2.1 - u0.1) (slots' := u2.2.1 - u0.2.1) (by omega) (by omega) ?_
  refine W.cs (cells' := u2.1 - u0.1) (slots' := u2.2.1 - u0.2.1) (by omega) (by omega) ?_
  exact w_X4_readGround_11 hC hE hR hRm N u2 x1 s2 h ⟨by omega, by omega⟩ hP hS (lv_sub hl [0, 1] rfl)
def f_X4_readGround_3 (N b : Nat) (g : uEnv) (a0 : Nat) (u : UH) (x1 : Option Nat) (s0 : Option Nat) : Option ((Nat × UH) ⊕ (UH)) :=
    (x1).bind fun a1 =>
    if uIs u a1 4 = true then
    uxcall (f_X5_name N b g u a1) (fun a6 u7 =>
    some (.inl (a6, u7))) fun o5 u3 =>
    f_X4_readGround_8 N b g a0 u3 (some a1) o5 s0 s0
    else none
set_option maxHeartbeats 4000000 in
set_option maxRecDepth 100000 in
theorem zz_X4_readGround_3 {G : uG} {a0 : Nat} {z : (Nat × UH) ⊕ (UH)} (N : Nat) (u : UH) (x1 : Option Nat) (s0 : Option Nat) (h : f_X4_readGround_3 N (ub G) (ug G) a0 u x1 s0 = some z) : u.1 ≤ (uX0 z).1 ∧ u.2.1 ≤ (uX0 z).2.1 := by
  unfold f_X4_readGround_3 at h
  obtain ⟨a1, ha1, hha1⟩ := mbind_n h
  subst ha1
  have h := hha1
  obtain ⟨c2, h⟩ := mif_n h
  rcases uxcall_n h with ⟨a6, u7, c8, h⟩ | ⟨o5, u3, c4, h⟩
  · have zu7 : u.1 ≤ u7.1 ∧ u.2.1 ≤ u7.2.1 := zz_X5_name N (ub G) (ug G) u a1 (.inl (a6, u7)) c8
    have hz := Option.some.inj h
    subst hz
    exact (show u.1 ≤ u7.1 ∧ u.2.1 ≤ u7.2.1 from ⟨by omega, by omega⟩)
  · have zu3 : u.1 ≤ u3.1 ∧ u.2.1 ≤ u3.2.1 := zz_X5_name N (ub G) (ug G) u a1 (.inr (o5, u3)) c4
    have hq := zz_X4_readGround_8 (G := G) (a0 := a0) N u3 (some a1) o5 s0 s0 h
    exact ⟨by omega, by omega⟩
set_option maxHeartbeats 4000000 in
set_option maxRecDepth 100000 in
theorem w_X4_readGround_3 {p : Program} {l : Launch} {e : Env} {R : Room} {s : State} {m : MethodId} {args : Array Value} {below : List Frame} {meth : Method} {c : Code} {G : uG} {a0 : Nat} {u0 : UH} {z : (Nat × UH) ⊕ (UH)} (hC : uC p s m args meth c G RX4 cX4_readGround 3 none) (hE : c.exceptionTable.toList = []) (hR : 10 ≤ R.frames ∧ 262 ≤ R.locals) (hRm : (uX0 z).1 - u0.1 ≤ R.cells ∧ (uX0 z).2.1 - u0.2.1 ≤ R.slots) (N : Nat) (u : UH) (x1 : Option Nat) (s0 : Option Nat) (h : f_X4_readGround_3 N (ub G) (ug G) a0 u x1 s0 = some z) (hz0 : (u0.1 ≤ u.1 ∧ u0.2.1 ≤ u.2.1)) {H : Heap} {locs : List Loc} (hP : uP G u H) (hS : va_S (uA G) s.heap H locs) {ls : Array Slot} (hl : lv_has ls 3 [(0, va_rf (some a0)), (1, va_rf x1)]) : W p l e R s m args below meth c H locs (u.1 - u0.1) (u.2.1 - u0.2.1) (uMQv below G z args s ((uX0 z).1 - u0.1) ((uX0 z).2.1 - u0.2.1)) (F0 m 3 ls [va_rf s0]) := by
  obtain ⟨⟨hx, hb, hml, hown, hts⟩, hKK⟩ := id hC
  have hzf := zz_X4_readGround_3 (G := G) (a0 := a0) N u x1 s0 h
  unfold f_X4_readGround_3 at h
  refine lv_dup hx hb dX4_readGround_3 (u_cat _) ?_
  refine u_aload_n (r := x1) hx hb dX4_readGround_4 rfl (lv_at hl 1 rfl) ?_
  obtain ⟨a1, ha1, hha1⟩ := mbind_n h
  subst ha1
  have h := hha1
  obtain ⟨c2, h⟩ := mif_n h
  rcases uxcall_n h with ⟨a6, u7, c8, h⟩ | ⟨o5, u3, c4, h⟩
  · have zu7 : u.1 ≤ u7.1 ∧ u.2.1 ≤ u7.2.1 := zz_X5_name N (ub G) (ug G) u a1 (.inl (a6, u7)) c8
    have hz := Option.some.inj h
    subst hz
    have hRm : u7.1 - u0.1 ≤ R.cells ∧ u7.2.1 - u0.2.1 ≤ R.slots := hRm
    exact u_callX hC (u_noE hE) (u_runVX (As := []) (rest := [va_rf s0, va_rf s0]) hC.1 (mex_X5_name l N G u a1 a6 u7 c8) (cwV 0 hts (lw_V q700 q701 q702 q105 q703) rfl rfl rfl (by decide +kernel) ⟨Nat.le_trans (Nat.le_of_ble_eq_true rfl) hR.1, Nat.le_trans (Nat.le_of_ble_eq_true rfl) hR.2⟩) ⟨uPc_blind, u_rcv hC hP c2 rfl, fun U hU hW => u_pre hC hP hS hU hW⟩ rfl rfl hl.1 rfl (lv_room (by simp only [List.map, u_cat]; exact Nat.le_of_ble_eq_true rfl)) dX4_readGround_5 ⟨by omega, by omega⟩) hS (by show _ + _ = u7.1 - u0.1; omega) (by show _ + _ = u7.2.1 - u0.2.1; omega)
  · have zu3 : u.1 ≤ u3.1 ∧ u.2.1 ≤ u3.2.1 := zz_X5_name N (ub G) (ug G) u a1 (.inr (o5, u3)) c4
    have hq := zz_X4_readGround_8 (G := G) (a0 := a0) N u3 (some a1) o5 s0 s0 h
    refine u_callr (va_runV (As := []) (rest := [va_rf s0, va_rf s0]) hC.1 (met_X5_name l N G u a1 o5 u3 c4) (cwV 0 hts (lw_V q700 q701 q702 q105 q703) rfl rfl rfl (by decide +kernel) ⟨Nat.le_trans (Nat.le_of_ble_eq_true rfl) hR.1, Nat.le_trans (Nat.le_of_ble_eq_true rfl) hR.2⟩) ⟨uPc_blind, u_rcv hC hP c2 rfl, fun U hU hW => u_pre hC hP hS hU hW⟩ rfl rfl hl.1 rfl (lv_room (by simp only [List.map, u_cat]; exact Nat.le_of_ble_eq_true rfl)) dX4_readGround_5 ⟨by omega, by omega⟩) hS (fun H locs hP hS => ?_)
    refine W.cs (cells' := u3.1 - u0.1) (slots' := u3.2.1 - u0.2.1) (by omega) (by omega) ?_
    exact w_X4_readGround_8 hC hE hR hRm N u3 (some a1) o5 s0 s0 h ⟨by omega, by omega⟩ hP hS (lv_sub hl [0, 1] rfl)
def f_X4_readGround (N b : Nat) (g : uEnv) (u : UH) (a0 : Nat) (x1 : Option Nat) : Option ((Nat × UH) ⊕ (UH)) :=
    mlet (u.1) fun a2 =>
    mlet (uNew u 3 (.inr (5, uDefs tyX6 3))) fun u1 =>
    f_X4_readGround_3 N b g a0 u1 x1 (some a2)
set_option maxHeartbeats 4000000 in
set_option maxRecDepth 100000 in
theorem zz_X4_readGround_0 {G : uG} {a0 : Nat} {z : (Nat × UH) ⊕ (UH)} (N : Nat) (u : UH) (x1 : Option Nat) (h : f_X4_readGround N (ub G) (ug G) u a0 x1 = some z) : u.1 ≤ (uX0 z).1 ∧ u.2.1 ≤ (uX0 z).2.1 := by
  unfold f_X4_readGround at h
  obtain ⟨a2, ea2⟩ : ∃ z : Nat, z = u.1 := ⟨_, rfl⟩
  have h := mlet_at ea2 h
  obtain ⟨u1, eu1⟩ : ∃ z : UH, z = uNew u 3 (.inr (5, uDefs tyX6 3)) := ⟨_, rfl⟩
  have h := mlet_at eu1 h
  have zu1 : u1.1 = u.1 + 1 ∧ u1.2.1 = u.2.1 + 3 := by rw [eu1]; exact ⟨rfl, rfl⟩
  have hq := zz_X4_readGround_3 (G := G) (a0 := a0) N u1 x1 (some a2) h
  exact ⟨by omega, by omega⟩
set_option maxHeartbeats 4000000 in
set_option maxRecDepth 100000 in
theorem w_X4_readGround_0 {p : Program} {l : Launch} {e : Env} {R : Room} {s : State} {m : MethodId} {args : Array Value} {below : List Frame} {meth : Method} {c : Code} {G : uG} {a0 : Nat} {u0 : UH} {z : (Nat × UH) ⊕ (UH)} (hC : uC p s m args meth c G RX4 cX4_readGround 3 none) (hE : c.exceptionTable.toList = []) (hR : 10 ≤ R.frames ∧ 262 ≤ R.locals) (hRm : (uX0 z).1 - u0.1 ≤ R.cells ∧ (uX0 z).2.1 - u0.2.1 ≤ R.slots) (N : Nat) (u : UH) (x1 : Option Nat) (h : f_X4_readGround N (ub G) (ug G) u a0 x1 = some z) (hz0 : (u0.1 ≤ u.1 ∧ u0.2.1 ≤ u.2.1)) {H : Heap} {locs : List Loc} (hP : uP G u H) (hS : va_S (uA G) s.heap H locs) {ls : Array Slot} (hl : lv_has ls 3 [(0, va_rf (some a0)), (1, va_rf x1)]) : W p l e R s m args below meth c H locs (u.1 - u0.1) (u.2.1 - u0.2.1) (uMQv below G z args s ((uX0 z).1 - u0.1) ((uX0 z).2.1 - u0.2.1)) (F0 m 0 ls []) := by
  obtain ⟨⟨hx, hb, hml, hown, hts⟩, hKK⟩ := id hC
  have hzf := zz_X4_readGround_0 (G := G) (a0 := a0) N u x1 h
  unfold f_X4_readGround at h
  obtain ⟨a2, ea2⟩ : ∃ z : Nat, z = u.1 := ⟨_, rfl⟩
  have h := mlet_at ea2 h
  obtain ⟨u1, eu1⟩ : ∃ z : UH, z = uNew u 3 (.inr (5, uDefs tyX6 3)) := ⟨_, rfl⟩
  have h := mlet_at eu1 h
  have zu1 : u1.1 = u.1 + 1 ∧ u1.2.1 = u.2.1 + 3 := by rw [eu1]; exact ⟨rfl, rfl⟩
  have hq := zz_X4_readGround_3 (G := G) (a0 := a0) N u1 x1 (some a2) h
  refine u_new hC hP hS (T := TX6) (N := 3) (ci := 5) rfl in_X6 tyX6 tyX6_ok q698 q699 q119 (by omega) (by omega) dX4_readGround_0 (fun H hP hS => ?_)
  rw [← eu1] at hP
  rw [← ea2]
  refine W.cs (cells' := u1.1 - u0.1) (slots' := u1.2.1 - u0.2.1) (by omega) (by omega) ?_
  refine W.cs (cells' := u1.1 - u0.1) (slots' := u1.2.1 - u0.2.1) (by omega) (by omega) ?_
  exact w_X4_readGround_3 hC hE hR hRm N u1 x1 (some a2) h ⟨by omega, by omega⟩ hP hS (lv_sub hl [0, 1] rfl)
theorem zz_X4_readGround (N b : Nat) (g : uEnv) (u : UH) (a0 : Nat) (x1 : Option Nat) (z : (Nat × UH) ⊕ (UH)) (h : f_X4_readGround N b g u a0 x1 = some z) : u.1 ≤ (uX0 z).1 ∧ u.2.1 ≤ (uX0 z).2.1 :=
  zz_X4_readGround_0 (G := ((fun _ => 0, fun _ _ => 0), fun _ => 0, b, g)) (a0 := a0) N u x1 h
theorem met_X4_readGround (l : Launch) (N : Nat) (G : uG) (u : UH) (a0 : Nat) (x1 : Option Nat) (uf : UH) (h : f_X4_readGround N (ub G) (ug G) u a0 x1 = some (.inr uf)) : Met l yX4_readGround (ws_ yX4_readGround cX4_readGround 3 none) ({ frames := 10, cells := (uf.1 - u.1), slots := (uf.2.1 - u.2.1), locals := 262 }) (uPc G u [.ref a0, va_rf x1]) (uQv G uf) (uf.1 - u.1) (uf.2.1 - u.2.1) (uA G) := by
  rcases x1 with _ | x1 <;> exact u_metE (own := RX4) (by decide +kernel) rfl (Nat.le_of_ble_eq_true rfl) (fun hC hE hn hsz ls hl hP => W.cs (Nat.sub_self _).symm (Nat.sub_self _).symm (w_X4_readGround_0 hC hE ⟨Nat.le_refl _, Nat.le_refl _⟩ ⟨Nat.le_refl _, Nat.le_refl _⟩ N u _ h ⟨Nat.le_refl _, Nat.le_refl _⟩ hP va_S.rf hl))
theorem mex_X4_readGround (l : Launch) (N : Nat) (G : uG) (u : UH) (a0 : Nat) (x1 : Option Nat) (x : Nat) (uf : UH) (h : f_X4_readGround N (ub G) (ug G) u a0 x1 = some (.inl (x, uf))) : uMX l yX4_readGround (ws_ yX4_readGround cX4_readGround 3 none) ({ frames := 10, cells := (uf.1 - u.1), slots := (uf.2.1 - u.2.1), locals := 262 }) G u [.ref a0, va_rf x1] x uf (uf.1 - u.1) (uf.2.1 - u.2.1) := by
  rcases x1 with _ | x1 <;> exact u_metX (own := RX4) (by decide +kernel) rfl (Nat.le_of_ble_eq_true rfl) (fun hC hE hn hsz ls hl hP => W.cs (Nat.sub_self _).symm (Nat.sub_self _).symm (w_X4_readGround_0 hC hE ⟨Nat.le_refl _, Nat.le_refl _⟩ ⟨Nat.le_refl _, Nat.le_refl _⟩ N u _ h ⟨Nat.le_refl _, Nat.le_refl _⟩ hP va_S.rf hl))
def f_X4_readRover_107 (N b : Nat) (g : uEnv) (a0 : Nat) (u : UH) (s0 : Int32) (s1 : Option Nat) : Option ((Nat × UH) ⊕ (UH)) :=
    (s1).bind fun a1 =>
    (uPut b u a1 3 7 (.int s0)).bind fun u2 =>
    some (.inr u2)
set_option maxHeartbeats 4000000 in
set_option maxRecDepth 100000 in
theorem zz_X4_readRover_107 {G : uG} {a0 : Nat} {z : (Nat × UH) ⊕ (UH)} (N : Nat) (u : UH) (s0 : Int32) (s1 : Option Nat) (h : f_X4_readRover_107 N (ub G) (ug G) a0 u s0 s1 = some z) : u.1 ≤ (uX0 z).1 ∧ u.2.1 ≤ (uX0 z).2.1 := by
  unfold f_X4_readRover_107 at h
  obtain ⟨a1, ha1, hha1⟩ := mbind_n h
  subst ha1
  have h := hha1
  obtain ⟨u2, hu2, h⟩ := mbind_n h
  have zu2 := uPut_sz hu2
  have hz := Option.some.inj h
  subst hz
  exact (show u.1 ≤ u2.1 ∧ u.2.1 ≤ u2.2.1 from ⟨by omega, by omega⟩)
set_option maxHeartbeats 4000000 in
set_option maxRecDepth 100000 in
theorem w_X4_readRover_107 {p : Program} {l : Launch} {e : Env} {R : Room} {s : State} {m : MethodId} {args : Array Value} {below : List Frame} {meth : Method} {c : Code} {G : uG} {a0 : Nat} {u0 : UH} {z : (Nat × UH) ⊕ (UH)} (hC : uC p s m args meth c G RX4 cX4_readRover 2 none) (hE : c.exceptionTable.toList = []) (hR : 10 ≤ R.frames ∧ 257 ≤ R.locals) (hRm : (uX0 z).1 - u0.1 ≤ R.cells ∧ (uX0 z).2.1 - u0.2.1 ≤ R.slots) (N : Nat) (u : UH) (s0 : Int32) (s1 : Option Nat) (h : f_X4_readRover_107 N (ub G) (ug G) a0 u s0 s1 = some z) (hz0 : (u0.1 ≤ u.1 ∧ u0.2.1 ≤ u.2.1)) {H : Heap} {locs : List Loc} (hP : uP G u H) (hS : va_S (uA G) s.heap H locs) {ls : Array Slot} (hl : lv_has ls 2 []) : W p l e R s m args below meth c H locs (u.1 - u0.1) (u.2.1 - u0.2.1) (uMQv below G z args s ((uX0 z).1 - u0.1) ((uX0 z).2.1 - u0.2.1)) (F0 m 107 ls [.int s0, va_rf s1]) := by
  obtain ⟨⟨hx, hb, hml, hown, hts⟩, hKK⟩ := id hC
  have hzf := zz_X4_readRover_107 (G := G) (a0 := a0) N u s0 s1 h
  unfold f_X4_readRover_107 at h
  obtain ⟨a1, ha1, hha1⟩ := mbind_n h
  subst ha1
  have h := hha1
  obtain ⟨u2, hu2, h⟩ := mbind_n h
  have zu2 := uPut_sz hu2
  refine u_put hC hP hS hu2 rfl in_X4 tyX4 tyX4_ok nmX4 (by decide) q309 (fun _ h => h) rfl (ty := .int) (tyX4_ok 7 (by decide)) rfl rfl dX4_readRover_107 (fun H locs hP hS => ?_)
  refine W.cs (cells' := u2.1 - u0.1) (slots' := u2.2.1 - u0.2.1) (by omega) (by omega) ?_
  have hz := Option.some.inj h
  subst hz
  exact u_vret hC hP hS dX4_readRover_110
def f_X4_readRover_99 (N b : Nat) (g : uEnv) (a0 : Nat) (u : UH) (x1 : Option Nat) : Option ((Nat × UH) ⊕ (UH)) :=
    (x1).bind fun a1 =>
    if uIs u a1 4 = true then
    uxcall (f_X5_whole N b g u a1 0 99) (fun a6 u7 =>
    some (.inl (a6, u7))) fun r5 u3 =>
    f_X4_readRover_107 N b g a0 u3 r5 (some a0)
    else none
set_option maxHeartbeats 4000000 in
set_option maxRecDepth 100000 in
theorem zz_X4_readRover_99 {G : uG} {a0 : Nat} {z : (Nat × UH) ⊕ (UH)} (N : Nat) (u : UH) (x1 : Option Nat) (h : f_X4_readRover_99 N (ub G) (ug G) a0 u x1 = some z) : u.1 ≤ (uX0 z).1 ∧ u.2.1 ≤ (uX0 z).2.1 := by
  unfold f_X4_readRover_99 at h
  obtain ⟨a1, ha1, hha1⟩ := mbind_n h
  subst ha1
  have h := hha1
  obtain ⟨c2, h⟩ := mif_n h
  rcases uxcall_n h with ⟨a6, u7, c8, h⟩ | ⟨r5, u3, c4, h⟩
  · have zu7 : u.1 ≤ u7.1 ∧ u.2.1 ≤ u7.2.1 := zz_X5_whole N (ub G) (ug G) u a1 0 99 (.inl (a6, u7)) c8
    have hz := Option.some.inj h
    subst hz
    exact (show u.1 ≤ u7.1 ∧ u.2.1 ≤ u7.2.1 from ⟨by omega, by omega⟩)
  · have zu3 : u.1 ≤ u3.1 ∧ u.2.1 ≤ u3.2.1 := zz_X5_whole N (ub G) (ug G) u a1 0 99 (.inr (r5, u3)) c4
    have hq := zz_X4_readRover_107 (G := G) (a0 := a0) N u3 r5 (some a0) h
    exact ⟨by omega, by omega⟩
set_option maxHeartbeats 4000000 in
set_option maxRecDepth 100000 in
theorem w_X4_readRover_99 {p : Program} {l : Launch} {e : Env} {R : Room} {s : State} {m : MethodId} {args : Array Value} {below : List Frame} {meth : Method} {c : Code} {G : uG} {a0 : Nat} {u0 : UH} {z : (Nat × UH) ⊕ (UH)} (hC : uC p s m args meth c G RX4 cX4_readRover 2 none) (hE : c.exceptionTable.toList = []) (hR : 10 ≤ R.frames ∧ 257 ≤ R.locals) (hRm : (uX0 z).1 - u0.1 ≤ R.cells ∧ (uX0 z).2.1 - u0.2.1 ≤ R.slots) (N : Nat) (u : UH) (x1 : Option Nat) (h : f_X4_readRover_99 N (ub G) (ug G) a0 u x1 = some z) (hz0 : (u0.1 ≤ u.1 ∧ u0.2.1 ≤ u.2.1)) {H : Heap} {locs : List Loc} (hP : uP G u H) (hS : va_S (uA G) s.heap H locs) {ls : Array Slot} (hl : lv_has ls 2 [(0, va_rf (some a0)), (1, va_rf x1)]) : W p l e R s m args below meth c H locs (u.1 - u0.1) (u.2.1 - u0.2.1) (uMQv below G z args s ((uX0 z).1 - u0.1) ((uX0 z).2.1 - u0.2.1)) (F0 m 99 ls []) := by
  obtain ⟨⟨hx, hb, hml, hown, hts⟩, hKK⟩ := id hC
  have hzf := zz_X4_readRover_99 (G := G) (a0 := a0) N u x1 h
  unfold f_X4_readRover_99 at h
  refine u_aload_n (r := some a0) hx hb dX4_readRover_99 rfl (lv_at hl 0 rfl) ?_
  refine u_aload_n (r := x1) hx hb dX4_readRover_100 rfl (lv_at hl 1 rfl) ?_
  refine lv_iconst (v := 0) hx hb dX4_readRover_101 (by decide) ?_
  refine lv_bipush (v := 99) hx hb dX4_readRover_102 (by decide) ?_
  obtain ⟨a1, ha1, hha1⟩ := mbind_n h
  subst ha1
  have h := hha1
  obtain ⟨c2, h⟩ := mif_n h
  rcases uxcall_n h with ⟨a6, u7, c8, h⟩ | ⟨r5, u3, c4, h⟩
  · have zu7 : u.1 ≤ u7.1 ∧ u.2.1 ≤ u7.2.1 := zz_X5_whole N (ub G) (ug G) u a1 0 99 (.inl (a6, u7)) c8
    have hz := Option.some.inj h
    subst hz
    have hRm : u7.1 - u0.1 ≤ R.cells ∧ u7.2.1 - u0.2.1 ≤ R.slots := hRm
    exact u_callX hC (u_noE hE) (u_runVX (As := [.int 0, .int 99]) (rest := [va_rf (some a0)]) hC.1 (mex_X5_whole l N G u a1 0 99 a6 u7 c8) (cwV 2 hts (lw_V q999 q927 q928 q105 q929) rfl rfl rfl (by decide +kernel) ⟨Nat.le_trans (Nat.le_of_ble_eq_true rfl) hR.1, Nat.le_trans (Nat.le_of_ble_eq_true rfl) hR.2⟩) ⟨uPc_blind, u_rcv hC hP c2 rfl, fun U hU hW => u_pre hC hP hS hU hW⟩ rfl rfl hl.1 rfl (lv_room (Nat.le_of_ble_eq_true rfl)) dX4_readRover_104 ⟨by omega, by omega⟩) hS (by show _ + _ = u7.1 - u0.1; omega) (by show _ + _ = u7.2.1 - u0.2.1; omega)
  · have zu3 : u.1 ≤ u3.1 ∧ u.2.1 ≤ u3.2.1 := zz_X5_whole N (ub G) (ug G) u a1 0 99 (.inr (r5, u3)) c4
    have hq := zz_X4_readRover_107 (G := G) (a0 := a0) N u3 r5 (some a0) h
    refine u_calli (va_runV (As := [.int 0, .int 99]) (rest := [va_rf (some a0)]) hC.1 (met_X5_whole l N G u a1 0 99 r5 u3 c4) (cwV 2 hts (lw_V q999 q927 q928 q105 q929) rfl rfl rfl (by decide +kernel) ⟨Nat.le_trans (Nat.le_of_ble_eq_true rfl) hR.1, Nat.le_trans (Nat.le_of_ble_eq_true rfl) hR.2⟩) ⟨uPc_blind, u_rcv hC hP c2 rfl, fun U hU hW => u_pre hC hP hS hU hW⟩ rfl rfl hl.1 rfl (lv_room (Nat.le_of_ble_eq_true rfl)) dX4_readRover_104 ⟨by omega, by omega⟩) hS (fun H locs hP hS => ?_)
    refine W.cs (cells' := u3.1 - u0.1) (slots' := u3.2.1 - u0.2.1) (by omega) (by omega) ?_
    exact w_X4_readRover_107 hC hE hR hRm N u3 r5 (some a0) h ⟨by omega, by omega⟩ hP hS (lv_sub hl [] rfl)
def f_X4_readRover_90 (N b : Nat) (g : uEnv) (a0 : Nat) (u : UH) (x1 : Option Nat) (s0 : Int32) (s1 : Option Nat) : Option ((Nat × UH) ⊕ (UH)) :=
    (s1).bind fun a1 =>
    (uPut b u a1 3 6 (.int s0)).bind fun u2 =>
    (x1).bind fun a3 =>
    if uIs u2 a3 4 = true then
    uxcallv (f_X5_needs N b g u2 a3 (some (g.2.1 20))) (fun a7 u8 =>
    some (.inl (a7, u8))) fun u5 =>
    f_X4_readRover_99 N b g a0 u5 (some a3)
    else none
set_option maxHeartbeats 4000000 in
set_option maxRecDepth 100000 in
theorem zz_X4_readRover_90 {G : uG} {a0 : Nat} {z : (Nat × UH) ⊕ (UH)} (N : Nat) (u : UH) (x1 : Option Nat) (s0 : Int32) (s1 : Option Nat) (h : f_X4_readRover_90 N (ub G) (ug G) a0 u x1 s0 s1 = some z) : u.1 ≤ (uX0 z).1 ∧ u.2.1 ≤ (uX0 z).2.1 := by
  unfold f_X4_readRover_90 at h
  obtain ⟨a1, ha1, hha1⟩ := mbind_n h
  subst ha1
  have h := hha1
  obtain ⟨u2, hu2, h⟩ := mbind_n h
  have zu2 := uPut_sz hu2
  obtain ⟨a3, ha3, hha3⟩ := mbind_n h
  subst ha3
  have h := hha3
  obtain ⟨c4, h⟩ := mif_n h
  rcases uxcallv_n h with ⟨a7, u8, c9, h⟩ | ⟨u5, c6, h⟩
  · have zu8 : u2.1 ≤ u8.1 ∧ u2.2.1 ≤ u8.2.1 := zz_X5_needs N (ub G) (ug G) u2 a3 (some ((ug G).2.1 20)) (.inl (a7, u8)) c9
    have hz := Option.some.inj h
    subst hz
    exact (show u.1 ≤ u8.1 ∧ u.2.1 ≤ u8.2.1 from ⟨by omega, by omega⟩)
  · have zu5 : u2.1 ≤ u5.1 ∧ u2.2.1 ≤ u5.2.1 := zz_X5_needs N (ub G) (ug G) u2 a3 (some ((ug G).2.1 20)) (.inr u5) c6
    have hq := zz_X4_readRover_99 (G := G) (a0 := a0) N u5 (some a3) h
    exact ⟨by omega, by omega⟩
set_option maxHeartbeats 4000000 in
set_option maxRecDepth 100000 in
theorem w_X4_readRover_90 {p : Program} {l : Launch} {e : Env} {R : Room} {s : State} {m : MethodId} {args : Array Value} {below : List Frame} {meth : Method} {c : Code} {G : uG} {a0 : Nat} {u0 : UH} {z : (Nat × UH) ⊕ (UH)} (hC : uC p s m args meth c G RX4 cX4_readRover 2 none) (hE : c.exceptionTable.toList = []) (hR : 10 ≤ R.frames ∧ 257 ≤ R.locals) (hRm : (uX0 z).1 - u0.1 ≤ R.cells ∧ (uX0 z).2.1 - u0.2.1 ≤ R.slots) (N : Nat) (u : UH) (x1 : Option Nat) (s0 : Int32) (s1 : Option Nat) (h : f_X4_readRover_90 N (ub G) (ug G) a0 u x1 s0 s1 = some z) (hz0 : (u0.1 ≤ u.1 ∧ u0.2.1 ≤ u.2.1)) {H : Heap} {locs : List Loc} (hP : uP G u H) (hS : va_S (uA G) s.heap H locs) {ls : Array Slot} (hl : lv_has ls 2 [(0, va_rf (some a0)), (1, va_rf x1)]) : W p l e R s m args below meth c H locs (u.1 - u0.1) (u.2.1 - u0.2.1) (uMQv below G z args s ((uX0 z).1 - u0.1) ((uX0 z).2.1 - u0.2.1)) (F0 m 90 ls [.int s0, va_rf s1]) := by
  obtain ⟨⟨hx, hb, hml, hown, hts⟩, hKK⟩ := id hC
  have hzf := zz_X4_readRover_90 (G := G) (a0 := a0) N u x1 s0 s1 h
  unfold f_X4_readRover_90 at h
  obtain ⟨a1, ha1, hha1⟩ := mbind_n h
  subst ha1
  have h := hha1
  obtain ⟨u2, hu2, h⟩ := mbind_n h
  have zu2 := uPut_sz hu2
  refine u_put hC hP hS hu2 rfl in_X4 tyX4 tyX4_ok nmX4 (by decide) q306 (fun _ h => h) rfl (ty := .int) (tyX4_ok 6 (by decide)) rfl rfl dX4_readRover_90 (fun H locs hP hS => ?_)
  refine W.cs (cells' := u2.1 - u0.1) (slots' := u2.2.1 - u0.2.1) (by omega) (by omega) ?_
  refine u_aload_n (r := x1) hx hb dX4_readRover_93 rfl (lv_at hl 1 rfl) ?_
  refine u_ldcS hC 20 rfl dX4_readRover_94 ?_
  obtain ⟨a3, ha3, hha3⟩ := mbind_n h
  subst ha3
  have h := hha3
  obtain ⟨c4, h⟩ := mif_n h
  rcases uxcallv_n h with ⟨a7, u8, c9, h⟩ | ⟨u5, c6, h⟩
  · have zu8 : u2.1 ≤ u8.1 ∧ u2.2.1 ≤ u8.2.1 := zz_X5_needs N (ub G) (ug G) u2 a3 (some ((ug G).2.1 20)) (.inl (a7, u8)) c9
    have hz := Option.some.inj h
    subst hz
    have hRm : u8.1 - u0.1 ≤ R.cells ∧ u8.2.1 - u0.2.1 ≤ R.slots := hRm
    exact u_callX hC (u_noE hE) (u_runVX (As := [va_rf (some ((ug G).2.1 20))]) (rest := []) hC.1 (mex_X5_needs l N G u2 a3 (some ((ug G).2.1 20)) a7 u8 c9) (cwV 1 hts (lw_V q913 q914 q915 q105 q916) rfl rfl rfl (by decide +kernel) ⟨Nat.le_trans (Nat.le_of_ble_eq_true rfl) hR.1, Nat.le_trans (Nat.le_of_ble_eq_true rfl) hR.2⟩) ⟨uPc_blind, u_rcv hC hP c4 rfl, fun U hU hW => u_pre hC hP hS hU hW⟩ rfl rfl hl.1 rfl (lv_room (Nat.le_of_ble_eq_true rfl)) dX4_readRover_96 ⟨by omega, by omega⟩) hS (by show _ + _ = u8.1 - u0.1; omega) (by show _ + _ = u8.2.1 - u0.2.1; omega)
  · have zu5 : u2.1 ≤ u5.1 ∧ u2.2.1 ≤ u5.2.1 := zz_X5_needs N (ub G) (ug G) u2 a3 (some ((ug G).2.1 20)) (.inr u5) c6
    have hq := zz_X4_readRover_99 (G := G) (a0 := a0) N u5 (some a3) h
    refine u_callv (va_runV (As := [va_rf (some ((ug G).2.1 20))]) (rest := []) hC.1 (met_X5_needs l N G u2 a3 (some ((ug G).2.1 20)) u5 c6) (cwV 1 hts (lw_V q913 q914 q915 q105 q916) rfl rfl rfl (by decide +kernel) ⟨Nat.le_trans (Nat.le_of_ble_eq_true rfl) hR.1, Nat.le_trans (Nat.le_of_ble_eq_true rfl) hR.2⟩) ⟨uPc_blind, u_rcv hC hP c4 rfl, fun U hU hW => u_pre hC hP hS hU hW⟩ rfl rfl hl.1 rfl (lv_room (Nat.le_of_ble_eq_true rfl)) dX4_readRover_96 ⟨by omega, by omega⟩) hS (fun H locs hP hS => ?_)
    refine W.cs (cells' := u5.1 - u0.1) (slots' := u5.2.1 - u0.2.1) (by omega) (by omega) ?_
    exact w_X4_readRover_99 hC hE hR hRm N u5 (some a3) h ⟨by omega, by omega⟩ hP hS (lv_sub hl [0, 1] rfl)
def f_X4_readRover_81 (N b : Nat) (g : uEnv) (a0 : Nat) (u : UH) (x1 : Option Nat) : Option ((Nat × UH) ⊕ (UH)) :=
    (x1).bind fun a1 =>
    if uIs u a1 4 = true then
    uxcall (f_X5_whole N b g u a1 0 300) (fun a6 u7 =>
    some (.inl (a6, u7))) fun r5 u3 =>
    f_X4_readRover_90 N b g a0 u3 (some a1) r5 (some a0)
    else none
set_option maxHeartbeats 4000000 in
set_option maxRecDepth 100000 in
theorem zz_X4_readRover_81 {G : uG} {a0 : Nat} {z : (Nat × UH) ⊕ (UH)} (N : Nat) (u : UH) (x1 : Option Nat) (h : f_X4_readRover_81 N (ub G) (ug G) a0 u x1 = some z) : u.1 ≤ (uX0 z).1 ∧ u.2.1 ≤ (uX0 z).2.1 := by
  unfold f_X4_readRover_81 at h
  obtain ⟨a1, ha1, hha1⟩ := mbind_n h
  subst ha1
  have h := hha1
  obtain ⟨c2, h⟩ := mif_n h
  rcases uxcall_n h with ⟨a6, u7, c8, h⟩ | ⟨r5, u3, c4, h⟩
  · have zu7 : u.1 ≤ u7.1 ∧ u.2.1 ≤ u7.2.1 := zz_X5_whole N (ub G) (ug G) u a1 0 300 (.inl (a6, u7)) c8
    have hz := Option.some.inj h
    subst hz
    exact (show u.1 ≤ u7.1 ∧ u.2.1 ≤ u7.2.1 from ⟨by omega, by omega⟩)
  · have zu3 : u.1 ≤ u3.1 ∧ u.2.1 ≤ u3.2.1 := zz_X5_whole N (ub G) (ug G) u a1 0 300 (.inr (r5, u3)) c4
    have hq := zz_X4_readRover_90 (G := G) (a0 := a0) N u3 (some a1) r5 (some a0) h
    exact ⟨by omega, by omega⟩
set_option maxHeartbeats 4000000 in
set_option maxRecDepth 100000 in
theorem w_X4_readRover_81 {p : Program} {l : Launch} {e : Env} {R : Room} {s : State} {m : MethodId} {args : Array Value} {below : List Frame} {meth : Method} {c : Code} {G : uG} {a0 : Nat} {u0 : UH} {z : (Nat × UH) ⊕ (UH)} (hC : uC p s m args meth c G RX4 cX4_readRover 2 none) (hE : c.exceptionTable.toList = []) (hR : 10 ≤ R.frames ∧ 257 ≤ R.locals) (hRm : (uX0 z).1 - u0.1 ≤ R.cells ∧ (uX0 z).2.1 - u0.2.1 ≤ R.slots) (N : Nat) (u : UH) (x1 : Option Nat) (h : f_X4_readRover_81 N (ub G) (ug G) a0 u x1 = some z) (hz0 : (u0.1 ≤ u.1 ∧ u0.2.1 ≤ u.2.1)) {H : Heap} {locs : List Loc} (hP : uP G u H) (hS : va_S (uA G) s.heap H locs) {ls : Array Slot} (hl : lv_has ls 2 [(0, va_rf (some a0)), (1, va_rf x1)]) : W p l e R s m args below meth c H locs (u.1 - u0.1) (u.2.1 - u0.2.1) (uMQv below G z args s ((uX0 z).1 - u0.1) ((uX0 z).2.1 - u0.2.1)) (F0 m 81 ls []) := by
  obtain ⟨⟨hx, hb, hml, hown, hts⟩, hKK⟩ := id hC
  have hzf := zz_X4_readRover_81 (G := G) (a0 := a0) N u x1 h
  unfold f_X4_readRover_81 at h
  refine u_aload_n (r := some a0) hx hb dX4_readRover_81 rfl (lv_at hl 0 rfl) ?_
  refine u_aload_n (r := x1) hx hb dX4_readRover_82 rfl (lv_at hl 1 rfl) ?_
  refine lv_iconst (v := 0) hx hb dX4_readRover_83 (by decide) ?_
  refine lv_sipush (v := 300) hx hb dX4_readRover_84 (by decide) ?_
  obtain ⟨a1, ha1, hha1⟩ := mbind_n h
  subst ha1
  have h := hha1
  obtain ⟨c2, h⟩ := mif_n h
  rcases uxcall_n h with ⟨a6, u7, c8, h⟩ | ⟨r5, u3, c4, h⟩
  · have zu7 : u.1 ≤ u7.1 ∧ u.2.1 ≤ u7.2.1 := zz_X5_whole N (ub G) (ug G) u a1 0 300 (.inl (a6, u7)) c8
    have hz := Option.some.inj h
    subst hz
    have hRm : u7.1 - u0.1 ≤ R.cells ∧ u7.2.1 - u0.2.1 ≤ R.slots := hRm
    exact u_callX hC (u_noE hE) (u_runVX (As := [.int 0, .int 300]) (rest := [va_rf (some a0)]) hC.1 (mex_X5_whole l N G u a1 0 300 a6 u7 c8) (cwV 2 hts (lw_V q999 q927 q928 q105 q929) rfl rfl rfl (by decide +kernel) ⟨Nat.le_trans (Nat.le_of_ble_eq_true rfl) hR.1, Nat.le_trans (Nat.le_of_ble_eq_true rfl) hR.2⟩) ⟨uPc_blind, u_rcv hC hP c2 rfl, fun U hU hW => u_pre hC hP hS hU hW⟩ rfl rfl hl.1 rfl (lv_room (Nat.le_of_ble_eq_true rfl)) dX4_readRover_87 ⟨by omega, by omega⟩) hS (by show _ + _ = u7.1 - u0.1; omega) (by show _ + _ = u7.2.1 - u0.2.1; omega)
  · have zu3 : u.1 ≤ u3.1 ∧ u.2.1 ≤ u3.2.1 := zz_X5_whole N (ub G) (ug G) u a1 0 300 (.inr (r5, u3)) c4
    have hq := zz_X4_readRover_90 (G := G) (a0 := a0) N u3 (some a1) r5 (some a0) h
    refine u_calli (va_runV (As := [.int 0, .int 300]) (rest := [va_rf (some a0)]) hC.1 (met_X5_whole l N G u a1 0 300 r5 u3 c4) (cwV 2 hts (lw_V q999 q927 q928 q105 q929) rfl rfl rfl (by decide +kernel) ⟨Nat.le_trans (Nat.le_of_ble_eq_true rfl) hR.1, Nat.le_trans (Nat.le_of_ble_eq_true rfl) hR.2⟩) ⟨uPc_blind, u_rcv hC hP c2 rfl, fun U hU hW => u_pre hC hP hS hU hW⟩ rfl rfl hl.1 rfl (lv_room (Nat.le_of_ble_eq_true rfl)) dX4_readRover_87 ⟨by omega, by omega⟩) hS (fun H locs hP hS => ?_)
    refine W.cs (cells' := u3.1 - u0.1) (slots' := u3.2.1 - u0.2.1) (by omega) (by omega) ?_
    exact w_X4_readRover_90 hC hE hR hRm N u3 (some a1) r5 (some a0) h ⟨by omega, by omega⟩ hP hS (lv_sub hl [0, 1] rfl)
def f_X4_readRover_72 (N b : Nat) (g : uEnv) (a0 : Nat) (u : UH) (x1 : Option Nat) (s0 : Int32) (s1 : Option Nat) : Option ((Nat × UH) ⊕ (UH)) :=
    (s1).bind fun a1 =>
    (uPut b u a1 3 5 (.int s0)).bind fun u2 =>
    (x1).bind fun a3 =>
    if uIs u2 a3 4 = true then
    uxcallv (f_X5_needs N b g u2 a3 (some (g.2.1 19))) (fun a7 u8 =>
    some (.inl (a7, u8))) fun u5 =>
    f_X4_readRover_81 N b g a0 u5 (some a3)
    else none
set_option maxHeartbeats 4000000 in
set_option maxRecDepth 100000 in
theorem zz_X4_readRover_72 {G : uG} {a0 : Nat} {z : (Nat × UH) ⊕ (UH)} (N : Nat) (u : UH) (x1 : Option Nat) (s0 : Int32) (s1 : Option Nat) (h : f_X4_readRover_72 N (ub G) (ug G) a0 u x1 s0 s1 = some z) : u.1 ≤ (uX0 z).1 ∧ u.2.1 ≤ (uX0 z).2.1 := by
  unfold f_X4_readRover_72 at h
  obtain ⟨a1, ha1, hha1⟩ := mbind_n h
  subst ha1
  have h := hha1
  obtain ⟨u2, hu2, h⟩ := mbind_n h
  have zu2 := uPut_sz hu2
  obtain ⟨a3, ha3, hha3⟩ := mbind_n h
  subst ha3
  have h := hha3
  obtain ⟨c4, h⟩ := mif_n h
  rcases uxcallv_n h with ⟨a7, u8, c9, h⟩ | ⟨u5, c6, h⟩
  · have zu8 : u2.1 ≤ u8.1 ∧ u2.2.1 ≤ u8.2.1 := zz_X5_needs N (ub G) (ug G) u2 a3 (some ((ug G).2.1 19)) (.inl (a7, u8)) c9
    have hz := Option.some.inj h
    subst hz
    exact (show u.1 ≤ u8.1 ∧ u.2.1 ≤ u8.2.1 from ⟨by omega, by omega⟩)
  · have zu5 : u2.1 ≤ u5.1 ∧ u2.2.1 ≤ u5.2.1 := zz_X5_needs N (ub G) (ug G) u2 a3 (some ((ug G).2.1 19)) (.inr u5) c6
    have hq := zz_X4_readRover_81 (G := G) (a0 := a0) N u5 (some a3) h
    exact ⟨by omega, by omega⟩
set_option maxHeartbeats 4000000 in
set_option maxRecDepth 100000 in
theorem w_X4_readRover_72 {p : Program} {l : Launch} {e : Env} {R : Room} {s : State} {m : MethodId} {args : Array Value} {below : List Frame} {meth : Method} {c : Code} {G : uG} {a0 : Nat} {u0 : UH} {z : (Nat × UH) ⊕ (UH)} (hC : uC p s m args meth c G RX4 cX4_readRover 2 none) (hE : c.exceptionTable.toList = []) (hR : 10 ≤ R.frames ∧ 257 ≤ R.locals) (hRm : (uX0 z).1 - u0.1 ≤ R.cells ∧ (uX0 z).2.1 - u0.2.1 ≤ R.slots) (N : Nat) (u : UH) (x1 : Option Nat) (s0 : Int32) (s1 : Option Nat) (h : f_X4_readRover_72 N (ub G) (ug G) a0 u x1 s0 s1 = some z) (hz0 : (u0.1 ≤ u.1 ∧ u0.2.1 ≤ u.2.1)) {H : Heap} {locs : List Loc} (hP : uP G u H) (hS : va_S (uA G) s.heap H locs) {ls : Array Slot} (hl : lv_has ls 2 [(0, va_rf (some a0)), (1, va_rf x1)]) : W p l e R s m args below meth c H locs (u.1 - u0.1) (u.2.1 - u0.2.1) (uMQv below G z args s ((uX0 z).1 - u0.1) ((uX0 z).2.1 - u0.2.1)) (F0 m 72 ls [.int s0, va_rf s1]) := by
  obtain ⟨⟨hx, hb, hml, hown, hts⟩, hKK⟩ := id hC
  have hzf := zz_X4_readRover_72 (G := G) (a0 := a0) N u x1 s0 s1 h
  unfold f_X4_readRover_72 at h
  obtain ⟨a1, ha1, hha1⟩ := mbind_n h
  subst ha1
  have h := hha1
  obtain ⟨u2, hu2, h⟩ := mbind_n h
  have zu2 := uPut_sz hu2
  refine u_put hC hP hS hu2 rfl in_X4 tyX4 tyX4_ok nmX4 (by decide) q303 (fun _ h => h) rfl (ty := .int) (tyX4_ok 5 (by decide)) rfl rfl dX4_readRover_72 (fun H locs hP hS => ?_)
  refine W.cs (cells' := u2.1 - u0.1) (slots' := u2.2.1 - u0.2.1) (by omega) (by omega) ?_
  refine u_aload_n (r := x1) hx hb dX4_readRover_75 rfl (lv_at hl 1 rfl) ?_
  refine u_ldcS hC 19 rfl dX4_readRover_76 ?_
  obtain ⟨a3, ha3, hha3⟩ := mbind_n h
  subst ha3
  have h := hha3
  obtain ⟨c4, h⟩ := mif_n h
  rcases uxcallv_n h with ⟨a7, u8, c9, h⟩ | ⟨u5, c6, h⟩
  · have zu8 : u2.1 ≤ u8.1 ∧ u2.2.1 ≤ u8.2.1 := zz_X5_needs N (ub G) (ug G) u2 a3 (some ((ug G).2.1 19)) (.inl (a7, u8)) c9
    have hz := Option.some.inj h
    subst hz
    have hRm : u8.1 - u0.1 ≤ R.cells ∧ u8.2.1 - u0.2.1 ≤ R.slots := hRm
    exact u_callX hC (u_noE hE) (u_runVX (As := [va_rf (some ((ug G).2.1 19))]) (rest := []) hC.1 (mex_X5_needs l N G u2 a3 (some ((ug G).2.1 19)) a7 u8 c9) (cwV 1 hts (lw_V q913 q914 q915 q105 q916) rfl rfl rfl (by decide +kernel) ⟨Nat.le_trans (Nat.le_of_ble_eq_true rfl) hR.1, Nat.le_trans (Nat.le_of_ble_eq_true rfl) hR.2⟩) ⟨uPc_blind, u_rcv hC hP c4 rfl, fun U hU hW => u_pre hC hP hS hU hW⟩ rfl rfl hl.1 rfl (lv_room (Nat.le_of_ble_eq_true rfl)) dX4_readRover_78 ⟨by omega, by omega⟩) hS (by show _ + _ = u8.1 - u0.1; omega) (by show _ + _ = u8.2.1 - u0.2.1; omega)
  · have zu5 : u2.1 ≤ u5.1 ∧ u2.2.1 ≤ u5.2.1 := zz_X5_needs N (ub G) (ug G) u2 a3 (some ((ug G).2.1 19)) (.inr u5) c6
    have hq := zz_X4_readRover_81 (G := G) (a0 := a0) N u5 (some a3) h
    refine u_callv (va_runV (As := [va_rf (some ((ug G).2.1 19))]) (rest := []) hC.1 (met_X5_needs l N G u2 a3 (some ((ug G).2.1 19)) u5 c6) (cwV 1 hts (lw_V q913 q914 q915 q105 q916) rfl rfl rfl (by decide +kernel) ⟨Nat.le_trans (Nat.le_of_ble_eq_true rfl) hR.1, Nat.le_trans (Nat.le_of_ble_eq_true rfl) hR.2⟩) ⟨uPc_blind, u_rcv hC hP c4 rfl, fun U hU hW => u_pre hC hP hS hU hW⟩ rfl rfl hl.1 rfl (lv_room (Nat.le_of_ble_eq_true rfl)) dX4_readRover_78 ⟨by omega, by omega⟩) hS (fun H locs hP hS => ?_)
    refine W.cs (cells' := u5.1 - u0.1) (slots' := u5.2.1 - u0.2.1) (by omega) (by omega) ?_
    exact w_X4_readRover_81 hC hE hR hRm N u5 (some a3) h ⟨by omega, by omega⟩ hP hS (lv_sub hl [0, 1] rfl)
def f_X4_readRover_63 (N b : Nat) (g : uEnv) (a0 : Nat) (u : UH) (x1 : Option Nat) : Option ((Nat × UH) ⊕ (UH)) :=
    (x1).bind fun a1 =>
    if uIs u a1 4 = true then
    uxcall (f_X5_whole N b g u a1 1 300) (fun a6 u7 =>
    some (.inl (a6, u7))) fun r5 u3 =>
    f_X4_readRover_72 N b g a0 u3 (some a1) r5 (some a0)
    else none
set_option maxHeartbeats 4000000 in
set_option maxRecDepth 100000 in
theorem zz_X4_readRover_63 {G : uG} {a0 : Nat} {z : (Nat × UH) ⊕ (UH)} (N : Nat) (u : UH) (x1 : Option Nat) (h : f_X4_readRover_63 N (ub G) (ug G) a0 u x1 = some z) : u.1 ≤ (uX0 z).1 ∧ u.2.1 ≤ (uX0 z).2.1 := by
  unfold f_X4_readRover_63 at h
  obtain ⟨a1, ha1, hha1⟩ := mbind_n h
  subst ha1
  have h := hha1
  obtain ⟨c2, h⟩ := mif_n h
  rcases uxcall_n h with ⟨a6, u7, c8, h⟩ | ⟨r5, u3, c4, h⟩
  · have zu7 : u.1 ≤ u7.1 ∧ u.2.1 ≤ u7.2.1 := zz_X5_whole N (ub G) (ug G) u a1 1 300 (.inl (a6, u7)) c8
    have hz := Option.some.inj h
    subst hz
    exact (show u.1 ≤ u7.1 ∧ u.2.1 ≤ u7.2.1 from ⟨by omega, by omega⟩)
  · have zu3 : u.1 ≤ u3.1 ∧ u.2.1 ≤ u3.2.1 := zz_X5_whole N (ub G) (ug G) u a1 1 300 (.inr (r5, u3)) c4
    have hq := zz_X4_readRover_72 (G := G) (a0 := a0) N u3 (some a1) r5 (some a0) h
    exact ⟨by omega, by omega⟩
set_option maxHeartbeats 4000000 in
set_option maxRecDepth 100000 in
theorem w_X4_readRover_63 {p : Program} {l : Launch} {e : Env} {R : Room} {s : State} {m : MethodId} {args : Array Value} {below : List Frame} {meth : Method} {c : Code} {G : uG} {a0 : Nat} {u0 : UH} {z : (Nat × UH) ⊕ (UH)} (hC : uC p s m args meth c G RX4 cX4_readRover 2 none) (hE : c.exceptionTable.toList = []) (hR : 10 ≤ R.frames ∧ 257 ≤ R.locals) (hRm : (uX0 z).1 - u0.1 ≤ R.cells ∧ (uX0 z).2.1 - u0.2.1 ≤ R.slots) (N : Nat) (u : UH) (x1 : Option Nat) (h : f_X4_readRover_63 N (ub G) (ug G) a0 u x1 = some z) (hz0 : (u0.1 ≤ u.1 ∧ u0.2.1 ≤ u.2.1)) {H : Heap} {locs : List Loc} (hP : uP G u H) (hS : va_S (uA G) s.heap H locs) {ls : Array Slot} (hl : lv_has ls 2 [(0, va_rf (some a0)), (1, va_rf x1)]) : W p l e R s m args below meth c H locs (u.1 - u0.1) (u.2.1 - u0.2.1) (uMQv below G z args s ((uX0 z).1 - u0.1) ((uX0 z).2.1 - u0.2.1)) (F0 m 63 ls []) := by
  obtain ⟨⟨hx, hb, hml, hown, hts⟩, hKK⟩ := id hC
  have hzf := zz_X4_readRover_63 (G := G) (a0 := a0) N u x1 h
  unfold f_X4_readRover_63 at h
  refine u_aload_n (r := some a0) hx hb dX4_readRover_63 rfl (lv_at hl 0 rfl) ?_
  refine u_aload_n (r := x1) hx hb dX4_readRover_64 rfl (lv_at hl 1 rfl) ?_
  refine lv_iconst (v := 1) hx hb dX4_readRover_65 (by decide) ?_
  refine lv_sipush (v := 300) hx hb dX4_readRover_66 (by decide) ?_
  obtain ⟨a1, ha1, hha1⟩ := mbind_n h
  subst ha1
  have h := hha1
  obtain ⟨c2, h⟩ := mif_n h
  rcases uxcall_n h with ⟨a6, u7, c8, h⟩ | ⟨r5, u3, c4, h⟩
  · have zu7 : u.1 ≤ u7.1 ∧ u.2.1 ≤ u7.2.1 := zz_X5_whole N (ub G) (ug G) u a1 1 300 (.inl (a6, u7)) c8
    have hz := Option.some.inj h
    subst hz
    have hRm : u7.1 - u0.1 ≤ R.cells ∧ u7.2.1 - u0.2.1 ≤ R.slots := hRm
    exact u_callX hC (u_noE hE) (u_runVX (As := [.int 1, .int 300]) (rest := [va_rf (some a0)]) hC.1 (mex_X5_whole l N G u a1 1 300 a6 u7 c8) (cwV 2 hts (lw_V q999 q927 q928 q105 q929) rfl rfl rfl (by decide +kernel) ⟨Nat.le_trans (Nat.le_of_ble_eq_true rfl) hR.1, Nat.le_trans (Nat.le_of_ble_eq_true rfl) hR.2⟩) ⟨uPc_blind, u_rcv hC hP c2 rfl, fun U hU hW => u_pre hC hP hS hU hW⟩ rfl rfl hl.1 rfl (lv_room (Nat.le_of_ble_eq_true rfl)) dX4_readRover_69 ⟨by omega, by omega⟩) hS (by show _ + _ = u7.1 - u0.1; omega) (by show _ + _ = u7.2.1 - u0.2.1; omega)
  · have zu3 : u.1 ≤ u3.1 ∧ u.2.1 ≤ u3.2.1 := zz_X5_whole N (ub G) (ug G) u a1 1 300 (.inr (r5, u3)) c4
    have hq := zz_X4_readRover_72 (G := G) (a0 := a0) N u3 (some a1) r5 (some a0) h
    refine u_calli (va_runV (As := [.int 1, .int 300]) (rest := [va_rf (some a0)]) hC.1 (met_X5_whole l N G u a1 1 300 r5 u3 c4) (cwV 2 hts (lw_V q999 q927 q928 q105 q929) rfl rfl rfl (by decide +kernel) ⟨Nat.le_trans (Nat.le_of_ble_eq_true rfl) hR.1, Nat.le_trans (Nat.le_of_ble_eq_true rfl) hR.2⟩) ⟨uPc_blind, u_rcv hC hP c2 rfl, fun U hU hW => u_pre hC hP hS hU hW⟩ rfl rfl hl.1 rfl (lv_room (Nat.le_of_ble_eq_true rfl)) dX4_readRover_69 ⟨by omega, by omega⟩) hS (fun H locs hP hS => ?_)
    refine W.cs (cells' := u3.1 - u0.1) (slots' := u3.2.1 - u0.2.1) (by omega) (by omega) ?_
    exact w_X4_readRover_72 hC hE hR hRm N u3 (some a1) r5 (some a0) h ⟨by omega, by omega⟩ hP hS (lv_sub hl [0, 1] rfl)
def f_X4_readRover_54 (N b : Nat) (g : uEnv) (a0 : Nat) (u : UH) (x1 : Option Nat) (s0 : Int32) (s1 : Option Nat) : Option ((Nat × UH) ⊕ (UH)) :=
    (s1).bind fun a1 =>
    (uPut b u a1 3 4 (.int s0)).bind fun u2 =>
    (x1).bind fun a3 =>
    if uIs u2 a3 4 = true then
    uxcallv (f_X5_needs N b g u2 a3 (some (g.2.1 18))) (fun a7 u8 =>
    some (.inl (a7, u8))) fun u5 =>
    f_X4_readRover_63 N b g a0 u5 (some a3)
    else none
set_option maxHeartbeats 4000000 in
set_option maxRecDepth 100000 in
theorem zz_X4_readRover_54 {G : uG} {a0 : Nat} {z : (Nat × UH) ⊕ (UH)} (N : Nat) (u : UH) (x1 : Option Nat) (s0 : Int32) (s1 : Option Nat) (h : f_X4_readRover_54 N (ub G) (ug G) a0 u x1 s0 s1 = some z) : u.1 ≤ (uX0 z).1 ∧ u.2.1 ≤ (uX0 z).2.1 := by
  unfold f_X4_readRover_54 at h
  obtain ⟨a1, ha1, hha1⟩ := mbind_n h
  subst ha1
  have h := hha1
  obtain ⟨u2, hu2, h⟩ := mbind_n h
  have zu2 := uPut_sz hu2
  obtain ⟨a3, ha3, hha3⟩ := mbind_n h
  subst ha3
  have h := hha3
  obtain ⟨c4, h⟩ := mif_n h
  rcases uxcallv_n h with ⟨a7, u8, c9, h⟩ | ⟨u5, c6, h⟩
  · have zu8 : u2.1 ≤ u8.1 ∧ u2.2.1 ≤ u8.2.1 := zz_X5_needs N (ub G) (ug G) u2 a3 (some ((ug G).2.1 18)) (.inl (a7, u8)) c9
    have hz := Option.some.inj h
    subst hz
    exact (show u.1 ≤ u8.1 ∧ u.2.1 ≤ u8.2.1 from ⟨by omega, by omega⟩)
  · have zu5 : u2.1 ≤ u5.1 ∧ u2.2.1 ≤ u5.2.1 := zz_X5_needs N (ub G) (ug G) u2 a3 (some ((ug G).2.1 18)) (.inr u5) c6
    have hq := zz_X4_readRover_63 (G := G) (a0 := a0) N u5 (some a3) h
    exact ⟨by omega, by omega⟩
set_option maxHeartbeats 4000000 in
set_option maxRecDepth 100000 in
theorem w_X4_readRover_54 {p : Program} {l : Launch} {e : Env} {R : Room} {s : State} {m : MethodId} {args : Array Value} {below : List Frame} {meth : Method} {c : Code} {G : uG} {a0 : Nat} {u0 : UH} {z : (Nat × UH) ⊕ (UH)} (hC : uC p s m args meth c G RX4 cX4_readRover 2 none) (hE : c.exceptionTable.toList = []) (hR : 10 ≤ R.frames ∧ 257 ≤ R.locals) (hRm : (uX0 z).1 - u0.1 ≤ R.cells ∧ (uX0 z).2.1 - u0.2.1 ≤ R.slots) (N : Nat) (u : UH) (x1 : Option Nat) (s0 : Int32) (s1 : Option Nat) (h : f_X4_readRover_54 N (ub G) (ug G) a0 u x1 s0 s1 = some z) (hz0 : (u0.1 ≤ u.1 ∧ u0.2.1 ≤ u.2.1)) {H : Heap} {locs : List Loc} (hP : uP G u H) (hS : va_S (uA G) s.heap H locs) {ls : Array Slot} (hl : lv_has ls 2 [(0, va_rf (some a0)), (1, va_rf x1)]) : W p l e R s m args below meth c H locs (u.1 - u0.1) (u.2.1 - u0.2.1) (uMQv below G z args s ((uX0 z).1 - u0.1) ((uX0 z).2.1 - u0.2.1)) (F0 m 54 ls [.int s0, va_rf s1]) := by
  obtain ⟨⟨hx, hb, hml, hown, hts⟩, hKK⟩ := id hC
  have hzf := zz_X4_readRover_54 (G := G) (a0 := a0) N u x1 s0 s1 h
  unfold f_X4_readRover_54 at h
  obtain ⟨a1, ha1, hha1⟩ := mbind_n h
  subst ha1
  have h := hha1
  obtain ⟨u2, hu2, h⟩ := mbind_n h
  have zu2 := uPut_sz hu2
  refine u_put hC hP hS hu2 rfl in_X4 tyX4 tyX4_ok nmX4 (by decide) q300 (fun _ h => h) rfl (ty := .int) (tyX4_ok 4 (by decide)) rfl rfl dX4_readRover_54 (fun H locs hP hS => ?_)
  refine W.cs (cells' := u2.1 - u0.1) (slots' := u2.2.1 - u0.2.1) (by omega) (by omega) ?_
  refine u_aload_n (r := x1) hx hb dX4_readRover_57 rfl (lv_at hl 1 rfl) ?_
  refine u_ldcS hC 18 rfl dX4_readRover_58 ?_
  obtain ⟨a3, ha3, hha3⟩ := mbind_n h
  subst ha3
  have h := hha3
  obtain ⟨c4, h⟩ := mif_n h
  rcases uxcallv_n h with ⟨a7, u8, c9, h⟩ | ⟨u5, c6, h⟩
  · have zu8 : u2.1 ≤ u8.1 ∧ u2.2.1 ≤ u8.2.1 := zz_X5_needs N (ub G) (ug G) u2 a3 (some ((ug G).2.1 18)) (.inl (a7, u8)) c9
    have hz := Option.some.inj h
    subst hz
    have hRm : u8.1 - u0.1 ≤ R.cells ∧ u8.2.1 - u0.2.1 ≤ R.slots := hRm
    exact u_callX hC (u_noE hE) (u_runVX (As := [va_rf (some ((ug G).2.1 18))]) (rest := []) hC.1 (mex_X5_needs l N G u2 a3 (some ((ug G).2.1 18)) a7 u8 c9) (cwV 1 hts (lw_V q913 q914 q915 q105 q916) rfl rfl rfl (by decide +kernel) ⟨Nat.le_trans (Nat.le_of_ble_eq_true rfl) hR.1, Nat.le_trans (Nat.le_of_ble_eq_true rfl) hR.2⟩) ⟨uPc_blind, u_rcv hC hP c4 rfl, fun U hU hW => u_pre hC hP hS hU hW⟩ rfl rfl hl.1 rfl (lv_room (Nat.le_of_ble_eq_true rfl)) dX4_readRover_60 ⟨by omega, by omega⟩) hS (by show _ + _ = u8.1 - u0.1; omega) (by show _ + _ = u8.2.1 - u0.2.1; omega)
  · have zu5 : u2.1 ≤ u5.1 ∧ u2.2.1 ≤ u5.2.1 := zz_X5_needs N (ub G) (ug G) u2 a3 (some ((ug G).2.1 18)) (.inr u5) c6
    have hq := zz_X4_readRover_63 (G := G) (a0 := a0) N u5 (some a3) h
    refine u_callv (va_runV (As := [va_rf (some ((ug G).2.1 18))]) (rest := []) hC.1 (met_X5_needs l N G u2 a3 (some ((ug G).2.1 18)) u5 c6) (cwV 1 hts (lw_V q913 q914 q915 q105 q916) rfl rfl rfl (by decide +kernel) ⟨Nat.le_trans (Nat.le_of_ble_eq_true rfl) hR.1, Nat.le_trans (Nat.le_of_ble_eq_true rfl) hR.2⟩) ⟨uPc_blind, u_rcv hC hP c4 rfl, fun U hU hW => u_pre hC hP hS hU hW⟩ rfl rfl hl.1 rfl (lv_room (Nat.le_of_ble_eq_true rfl)) dX4_readRover_60 ⟨by omega, by omega⟩) hS (fun H locs hP hS => ?_)
    refine W.cs (cells' := u5.1 - u0.1) (slots' := u5.2.1 - u0.2.1) (by omega) (by omega) ?_
    exact w_X4_readRover_63 hC hE hR hRm N u5 (some a3) h ⟨by omega, by omega⟩ hP hS (lv_sub hl [0, 1] rfl)
def f_X4_readRover_45 (N b : Nat) (g : uEnv) (a0 : Nat) (u : UH) (x1 : Option Nat) : Option ((Nat × UH) ⊕ (UH)) :=
    (x1).bind fun a1 =>
    if uIs u a1 4 = true then
    uxcall (f_X5_whole N b g u a1 1 999) (fun a6 u7 =>
    some (.inl (a6, u7))) fun r5 u3 =>
    f_X4_readRover_54 N b g a0 u3 (some a1) r5 (some a0)
    else none
set_option maxHeartbeats 4000000 in
set_option maxRecDepth 100000 in
theorem zz_X4_readRover_45 {G : uG} {a0 : Nat} {z : (Nat × UH) ⊕ (UH)} (N : Nat) (u : UH) (x1 : Option Nat) (h : f_X4_readRover_45 N (ub G) (ug G) a0 u x1 = some z) : u.1 ≤ (uX0 z).1 ∧ u.2.1 ≤ (uX0 z).2.1 := by
  unfold f_X4_readRover_45 at h
  obtain ⟨a1, ha1, hha1⟩ := mbind_n h
  subst ha1
  have h := hha1
  obtain ⟨c2, h⟩ := mif_n h
  rcases uxcall_n h with ⟨a6, u7, c8, h⟩ | ⟨r5, u3, c4, h⟩
  · have zu7 : u.1 ≤ u7.1 ∧ u.2.1 ≤ u7.2.1 := zz_X5_whole N (ub G) (ug G) u a1 1 999 (.inl (a6, u7)) c8
    have hz := Option.some.inj h
    subst hz
    exact (show u.1 ≤ u7.1 ∧ u.2.1 ≤ u7.2.1 from ⟨by omega, by omega⟩)
  · have zu3 : u.1 ≤ u3.1 ∧ u.2.1 ≤ u3.2.1 := zz_X5_whole N (ub G) (ug G) u a1 1 999 (.inr (r5, u3)) c4
    have hq := zz_X4_readRover_54 (G := G) (a0 := a0) N u3 (some a1) r5 (some a0) h
    exact ⟨by omega, by omega⟩
set_option maxHeartbeats 4000000 in
set_option maxRecDepth 100000 in
theorem w_X4_readRover_45 {p : Program} {l : Launch} {e : Env} {R : Room} {s : State} {m : MethodId} {args : Array Value} {below : List Frame} {meth : Method} {c : Code} {G : uG} {a0 : Nat} {u0 : UH} {z : (Nat × UH) ⊕ (UH)} (hC : uC p s m args meth c G RX4 cX4_readRover 2 none) (hE : c.exceptionTable.toList = []) (hR : 10 ≤ R.frames ∧ 257 ≤ R.locals) (hRm : (uX0 z).1 - u0.1 ≤ R.cells ∧ (uX0 z).2.1 - u0.2.1 ≤ R.slots) (N : Nat) (u : UH) (x1 : Option Nat) (h : f_X4_readRover_45 N (ub G) (ug G) a0 u x1 = some z) (hz0 : (u0.1 ≤ u.1 ∧ u0.2.1 ≤ u.2.1)) {H : Heap} {locs : List Loc} (hP : uP G u H) (hS : va_S (uA G) s.heap H locs) {ls : Array Slot} (hl : lv_has ls 2 [(0, va_rf (some a0)), (1, va_rf x1)]) : W p l e R s m args below meth c H locs (u.1 - u0.1) (u.2.1 - u0.2.1) (uMQv below G z args s ((uX0 z).1 - u0.1) ((uX0 z).2.1 - u0.2.1)) (F0 m 45 ls []) := by
  obtain ⟨⟨hx, hb, hml, hown, hts⟩, hKK⟩ := id hC
  have hzf := zz_X4_readRover_45 (G := G) (a0 := a0) N u x1 h
  unfold f_X4_readRover_45 at h
  refine u_aload_n (r := some a0) hx hb dX4_readRover_45 rfl (lv_at hl 0 rfl) ?_
  refine u_aload_n (r := x1) hx hb dX4_readRover_46 rfl (lv_at hl 1 rfl) ?_
  refine lv_iconst (v := 1) hx hb dX4_readRover_47 (by decide) ?_
  refine lv_sipush (v := 999) hx hb dX4_readRover_48 (by decide) ?_
  obtain ⟨a1, ha1, hha1⟩ := mbind_n h
  subst ha1
  have h := hha1
  obtain ⟨c2, h⟩ := mif_n h
  rcases uxcall_n h with ⟨a6, u7, c8, h⟩ | ⟨r5, u3, c4, h⟩
  · have zu7 : u.1 ≤ u7.1 ∧ u.2.1 ≤ u7.2.1 := zz_X5_whole N (ub G) (ug G) u a1 1 999 (.inl (a6, u7)) c8
    have hz := Option.some.inj h
    subst hz
    have hRm : u7.1 - u0.1 ≤ R.cells ∧ u7.2.1 - u0.2.1 ≤ R.slots := hRm
    exact u_callX hC (u_noE hE) (u_runVX (As := [.int 1, .int 999]) (rest := [va_rf (some a0)]) hC.1 (mex_X5_whole l N G u a1 1 999 a6 u7 c8) (cwV 2 hts (lw_V q999 q927 q928 q105 q929) rfl rfl rfl (by decide +kernel) ⟨Nat.le_trans (Nat.le_of_ble_eq_true rfl) hR.1, Nat.le_trans (Nat.le_of_ble_eq_true rfl) hR.2⟩) ⟨uPc_blind, u_rcv hC hP c2 rfl, fun U hU hW => u_pre hC hP hS hU hW⟩ rfl rfl hl.1 rfl (lv_room (Nat.le_of_ble_eq_true rfl)) dX4_readRover_51 ⟨by omega, by omega⟩) hS (by show _ + _ = u7.1 - u0.1; omega) (by show _ + _ = u7.2.1 - u0.2.1; omega)
  · have zu3 : u.1 ≤ u3.1 ∧ u.2.1 ≤ u3.2.1 := zz_X5_whole N (ub G) (ug G) u a1 1 999 (.inr (r5, u3)) c4
    have hq := zz_X4_readRover_54 (G := G) (a0 := a0) N u3 (some a1) r5 (some a0) h
    refine u_calli (va_runV (As := [.int 1, .int 999]) (rest := [va_rf (some a0)]) hC.1 (met_X5_whole l N G u a1 1 999 r5 u3 c4) (cwV 2 hts (lw_V q999 q927 q928 q105 q929) rfl rfl rfl (by decide +kernel) ⟨Nat.le_trans (Nat.le_of_ble_eq_true rfl) hR.1, Nat.le_trans (Nat.le_of_ble_eq_true rfl) hR.2⟩) ⟨uPc_blind, u_rcv hC hP c2 rfl, fun U hU hW => u_pre hC hP hS hU hW⟩ rfl rfl hl.1 rfl (lv_room (Nat.le_of_ble_eq_true rfl)) dX4_readRover_51 ⟨by omega, by omega⟩) hS (fun H locs hP hS => ?_)
    refine W.cs (cells' := u3.1 - u0.1) (slots' := u3.2.1 - u0.2.1) (by omega) (by omega) ?_
    exact w_X4_readRover_54 hC hE hR hRm N u3 (some a1) r5 (some a0) h ⟨by omega, by omega⟩ hP hS (lv_sub hl [0, 1] rfl)
def f_X4_readRover_36 (N b : Nat) (g : uEnv) (a0 : Nat) (u : UH) (x1 : Option Nat) (s0 : Int32) (s1 : Option Nat) : Option ((Nat × UH) ⊕ (UH)) :=
    (s1).bind fun a1 =>
    (uPut b u a1 3 3 (.int s0)).bind fun u2 =>
    (x1).bind fun a3 =>
    if uIs u2 a3 4 = true then
    uxcallv (f_X5_needs N b g u2 a3 (some (g.2.1 17))) (fun a7 u8 =>
    some (.inl (a7, u8))) fun u5 =>
    f_X4_readRover_45 N b g a0 u5 (some a3)
    else none
set_option maxHeartbeats 4000000 in
set_option maxRecDepth 100000 in
theorem zz_X4_readRover_36 {G : uG} {a0 : Nat} {z : (Nat × UH) ⊕ (UH)} (N : Nat) (u : UH) (x1 : Option Nat) (s0 : Int32) (s1 : Option Nat) (h : f_X4_readRover_36 N (ub G) (ug G) a0 u x1 s0 s1 = some z) : u.1 ≤ (uX0 z).1 ∧ u.2.1 ≤ (uX0 z).2.1 := by
  unfold f_X4_readRover_36 at h
  obtain ⟨a1, ha1, hha1⟩ := mbind_n h
  subst ha1
  have h := hha1
  obtain ⟨u2, hu2, h⟩ := mbind_n h
  have zu2 := uPut_sz hu2
  obtain ⟨a3, ha3, hha3⟩ := mbind_n h
  subst ha3
  have h := hha3
  obtain ⟨c4, h⟩ := mif_n h
  rcases uxcallv_n h with ⟨a7, u8, c9, h⟩ | ⟨u5, c6, h⟩
  · have zu8 : u2.1 ≤ u8.1 ∧ u2.2.1 ≤ u8.2.1 := zz_X5_needs N (ub G) (ug G) u2 a3 (some ((ug G).2.1 17)) (.inl (a7, u8)) c9
    have hz := Option.some.inj h
    subst hz
    exact (show u.1 ≤ u8.1 ∧ u.2.1 ≤ u8.2.1 from ⟨by omega, by omega⟩)
  · have zu5 : u2.1 ≤ u5.1 ∧ u2.2.1 ≤ u5.2.1 := zz_X5_needs N (ub G) (ug G) u2 a3 (some ((ug G).2.1 17)) (.inr u5) c6
    have hq := zz_X4_readRover_45 (G := G) (a0 := a0) N u5 (some a3) h
    exact ⟨by omega, by omega⟩
set_option maxHeartbeats 4000000 in
set_option maxRecDepth 100000 in
theorem w_X4_readRover_36 {p : Program} {l : Launch} {e : Env} {R : Room} {s : State} {m : MethodId} {args : Array Value} {below : List Frame} {meth : Method} {c : Code} {G : uG} {a0 : Nat} {u0 : UH} {z : (Nat × UH) ⊕ (UH)} (hC : uC p s m args meth c G RX4 cX4_readRover 2 none) (hE : c.exceptionTable.toList = []) (hR : 10 ≤ R.frames ∧ 257 ≤ R.locals) (hRm : (uX0 z).1 - u0.1 ≤ R.cells ∧ (uX0 z).2.1 - u0.2.1 ≤ R.slots) (N : Nat) (u : UH) (x1 : Option Nat) (s0 : Int32) (s1 : Option Nat) (h : f_X4_readRover_36 N (ub G) (ug G) a0 u x1 s0 s1 = some z) (hz0 : (u0.1 ≤ u.1 ∧ u0.2.1 ≤ u.2.1)) {H : Heap} {locs : List Loc} (hP : uP G u H) (hS : va_S (uA G) s.heap H locs) {ls : Array Slot} (hl : lv_has ls 2 [(0, va_rf (some a0)), (1, va_rf x1)]) : W p l e R s m args below meth c H locs (u.1 - u0.1) (u.2.1 - u0.2.1) (uMQv below G z args s ((uX0 z).1 - u0.1) ((uX0 z).2.1 - u0.2.1)) (F0 m 36 ls [.int s0, va_rf s1]) := by
  obtain ⟨⟨hx, hb, hml, hown, hts⟩, hKK⟩ := id hC
  have hzf := zz_X4_readRover_36 (G := G) (a0 := a0) N u x1 s0 s1 h
  unfold f_X4_readRover_36 at h
  obtain ⟨a1, ha1, hha1⟩ := mbind_n h
  subst ha1
  have h := hha1
  obtain ⟨u2, hu2, h⟩ := mbind_n h
  have zu2 := uPut_sz hu2
  refine u_put hC hP hS hu2 rfl in_X4 tyX4 tyX4_ok nmX4 (by decide) q297 (fun _ h => h) rfl (ty := .int) (tyX4_ok 3 (by decide)) rfl rfl dX4_readRover_36 (fun H locs hP hS => ?_)
  refine W.cs (cells' := u2.1 - u0.1) (slots' := u2.2.1 - u0.2.1) (by omega) (by omega) ?_
  refine u_aload_n (r := x1) hx hb dX4_readRover_39 rfl (lv_at hl 1 rfl) ?_
  refine u_ldcS hC 17 rfl dX4_readRover_40 ?_
  obtain ⟨a3, ha3, hha3⟩ := mbind_n h
  subst ha3
  have h := hha3
  obtain ⟨c4, h⟩ := mif_n h
  rcases uxcallv_n h with ⟨a7, u8, c9, h⟩ | ⟨u5, c6, h⟩
  · have zu8 : u2.1 ≤ u8.1 ∧ u2.2.1 ≤ u8.2.1 := zz_X5_needs N (ub G) (ug G) u2 a3 (some ((ug G).2.1 17)) (.inl (a7, u8)) c9
    have hz := Option.some.inj h
    subst hz
    have hRm : u8.1 - u0.1 ≤ R.cells ∧ u8.2.1 - u0.2.1 ≤ R.slots := hRm
    exact u_callX hC (u_noE hE) (u_runVX (As := [va_rf (some ((ug G).2.1 17))]) (rest := []) hC.1 (mex_X5_needs l N G u2 a3 (some ((ug G).2.1 17)) a7 u8 c9) (cwV 1 hts (lw_V q913 q914 q915 q105 q916) rfl rfl rfl (by decide +kernel) ⟨Nat.le_trans (Nat.le_of_ble_eq_true rfl) hR.1, Nat.le_trans (Nat.le_of_ble_eq_true rfl) hR.2⟩) ⟨uPc_blind, u_rcv hC hP c4 rfl, fun U hU hW => u_pre hC hP hS hU hW⟩ rfl rfl hl.1 rfl (lv_room (Nat.le_of_ble_eq_true rfl)) dX4_readRover_42 ⟨by omega, by omega⟩) hS (by show _ + _ = u8.1 - u0.1; omega) (by show _ + _ = u8.2.1 - u0.2.1; omega)
  · have zu5 : u2.1 ≤ u5.1 ∧ u2.2.1 ≤ u5.2.1 := zz_X5_needs N (ub G) (ug G) u2 a3 (some ((ug G).2.1 17)) (.inr u5) c6
    have hq := zz_X4_readRover_45 (G := G) (a0 := a0) N u5 (some a3) h
    refine u_callv (va_runV (As := [va_rf (some ((ug G).2.1 17))]) (rest := []) hC.1 (met_X5_needs l N G u2 a3 (some ((ug G).2.1 17)) u5 c6) (cwV 1 hts (lw_V q913 q914 q915 q105 q916) rfl rfl rfl (by decide +kernel) ⟨Nat.le_trans (Nat.le_of_ble_eq_true rfl) hR.1, Nat.le_trans (Nat.le_of_ble_eq_true rfl) hR.2⟩) ⟨uPc_blind, u_rcv hC hP c4 rfl, fun U hU hW => u_pre hC hP hS hU hW⟩ rfl rfl hl.1 rfl (lv_room (Nat.le_of_ble_eq_true rfl)) dX4_readRover_42 ⟨by omega, by omega⟩) hS (fun H locs hP hS => ?_)
    refine W.cs (cells' := u5.1 - u0.1) (slots' := u5.2.1 - u0.2.1) (by omega) (by omega) ?_
    exact w_X4_readRover_45 hC hE hR hRm N u5 (some a3) h ⟨by omega, by omega⟩ hP hS (lv_sub hl [0, 1] rfl)
def f_X4_readRover_28 (N b : Nat) (g : uEnv) (a0 : Nat) (u : UH) (x1 : Option Nat) : Option ((Nat × UH) ⊕ (UH)) :=
    (x1).bind fun a1 =>
    if uIs u a1 4 = true then
    uxcall (f_X5_whole N b g u a1 2 6) (fun a6 u7 =>
    some (.inl (a6, u7))) fun r5 u3 =>
    f_X4_readRover_36 N b g a0 u3 (some a1) r5 (some a0)
    else none
set_option maxHeartbeats 4000000 in
set_option maxRecDepth 100000 in
theorem zz_X4_readRover_28 {G : uG} {a0 : Nat} {z : (Nat × UH) ⊕ (UH)} (N : Nat) (u : UH) (x1 : Option Nat) (h : f_X4_readRover_28 N (ub G) (ug G) a0 u x1 = some z) : u.1 ≤ (uX0 z).1 ∧ u.2.1 ≤ (uX0 z).2.1 := by
  unfold f_X4_readRover_28 at h
  obtain ⟨a1, ha1, hha1⟩ := mbind_n h
  subst ha1
  have h := hha1
  obtain ⟨c2, h⟩ := mif_n h
  rcases uxcall_n h with ⟨a6, u7, c8, h⟩ | ⟨r5, u3, c4, h⟩
  · have zu7 : u.1 ≤ u7.1 ∧ u.2.1 ≤ u7.2.1 := zz_X5_whole N (ub G) (ug G) u a1 2 6 (.inl (a6, u7)) c8
    have hz := Option.some.inj h
    subst hz
    exact (show u.1 ≤ u7.1 ∧ u.2.1 ≤ u7.2.1 from ⟨by omega, by omega⟩)
  · have zu3 : u.1 ≤ u3.1 ∧ u.2.1 ≤ u3.2.1 := zz_X5_whole N (ub G) (ug G) u a1 2 6 (.inr (r5, u3)) c4
    have hq := zz_X4_readRover_36 (G := G) (a0 := a0) N u3 (some a1) r5 (some a0) h
    exact ⟨by omega, by omega⟩
set_option maxHeartbeats 4000000 in
set_option maxRecDepth 100000 in
theorem w_X4_readRover_28 {p : Program} {l : Launch} {e : Env} {R : Room} {s : State} {m : MethodId} {args : Array Value} {below : List Frame} {meth : Method} {c : Code} {G : uG} {a0 : Nat} {u0 : UH} {z : (Nat × UH) ⊕ (UH)} (hC : uC p s m args meth c G RX4 cX4_readRover 2 none) (hE : c.exceptionTable.toList = []) (hR : 10 ≤ R.frames ∧ 257 ≤ R.locals) (hRm : (uX0 z).1 - u0.1 ≤ R.cells ∧ (uX0 z).2.1 - u0.2.1 ≤ R.slots) (N : Nat) (u : UH) (x1 : Option Nat) (h : f_X4_readRover_28 N (ub G) (ug G) a0 u x1 = some z) (hz0 : (u0.1 ≤ u.1 ∧ u0.2.1 ≤ u.2.1)) {H : Heap} {locs : List Loc} (hP : uP G u H) (hS : va_S (uA G) s.heap H locs) {ls : Array Slot} (hl : lv_has ls 2 [(0, va_rf (some a0)), (1, va_rf x1)]) : W p l e R s m args below meth c H locs (u.1 - u0.1) (u.2.1 - u0.2.1) (uMQv below G z args s ((uX0 z).1 - u0.1) ((uX0 z).2.1 - u0.2.1)) (F0 m 28 ls []) := by
  obtain ⟨⟨hx, hb, hml, hown, hts⟩, hKK⟩ := id hC
  have hzf := zz_X4_readRover_28 (G := G) (a0 := a0) N u x1 h
  unfold f_X4_readRover_28 at h
  refine u_aload_n (r := some a0) hx hb dX4_readRover_28 rfl (lv_at hl 0 rfl) ?_
  refine u_aload_n (r := x1) hx hb dX4_readRover_29 rfl (lv_at hl 1 rfl) ?_
  refine lv_iconst (v := 2) hx hb dX4_readRover_30 (by decide) ?_
  refine lv_bipush (v := 6) hx hb dX4_readRover_31 (by decide) ?_
  obtain ⟨a1, ha1, hha1⟩ := mbind_n h
  subst ha1
  have h := hha1
  obtain ⟨c2, h⟩ := mif_n h
  rcases uxcall_n h with ⟨a6, u7, c8, h⟩ | ⟨r5, u3, c4, h⟩
  · have zu7 : u.1 ≤ u7.1 ∧ u.2.1 ≤ u7.2.1 := zz_X5_whole N (ub G) (ug G) u a1 2 6 (.inl (a6, u7)) c8
    have hz := Option.some.inj h
    subst hz
    have hRm : u7.1 - u0.1 ≤ R.cells ∧ u7.2.1 - u0.2.1 ≤ R.slots := hRm
    exact u_callX hC (u_noE hE) (u_runVX (As := [.int 2, .int 6]) (rest := [va_rf (some a0)]) hC.1 (mex_X5_whole l N G u a1 2 6 a6 u7 c8) (cwV 2 hts (lw_V q999 q927 q928 q105 q929) rfl rfl rfl (by decide +kernel) ⟨Nat.le_trans (Nat.le_of_ble_eq_true rfl) hR.1, Nat.le_trans (Nat.le_of_ble_eq_true rfl) hR.2⟩) ⟨uPc_blind, u_rcv hC hP c2 rfl, fun U hU hW => u_pre hC hP hS hU hW⟩ rfl rfl hl.1 rfl (lv_room (Nat.le_of_ble_eq_true rfl)) dX4_readRover_33 ⟨by omega, by omega⟩) hS (by show _ + _ = u7.1 - u0.1; omega) (by show _ + _ = u7.2.1 - u0.2.1; omega)
  · have zu3 : u.1 ≤ u3.1 ∧ u.2.1 ≤ u3.2.1 := zz_X5_whole N (ub G) (ug G) u a1 2 6 (.inr (r5, u3)) c4
    have hq := zz_X4_readRover_36 (G := G) (a0 := a0) N u3 (some a1) r5 (some a0) h
    refine u_calli (va_runV (As := [.int 2, .int 6]) (rest := [va_rf (some a0)]) hC.1 (met_X5_whole l N G u a1 2 6 r5 u3 c4) (cwV 2 hts (lw_V q999 q927 q928 q105 q929) rfl rfl rfl (by decide +kernel) ⟨Nat.le_trans (Nat.le_of_ble_eq_true rfl) hR.1, Nat.le_trans (Nat.le_of_ble_eq_true rfl) hR.2⟩) ⟨uPc_blind, u_rcv hC hP c2 rfl, fun U hU hW => u_pre hC hP hS hU hW⟩ rfl rfl hl.1 rfl (lv_room (Nat.le_of_ble_eq_true rfl)) dX4_readRover_33 ⟨by omega, by omega⟩) hS (fun H locs hP hS => ?_)
    refine W.cs (cells' := u3.1 - u0.1) (slots' := u3.2.1 - u0.2.1) (by omega) (by omega) ?_
    exact w_X4_readRover_36 hC hE hR hRm N u3 (some a1) r5 (some a0) h ⟨by omega, by omega⟩ hP hS (lv_sub hl [0, 1] rfl)
def f_X4_readRover_22 (N b : Nat) (g : uEnv) (a0 : Nat) (u : UH) (x1 : Option Nat) : Option ((Nat × UH) ⊕ (UH)) :=
    (x1).bind fun a1 =>
    if uIs u a1 4 = true then
    uxcallv (f_X5_needs N b g u a1 (some (g.2.1 16))) (fun a5 u6 =>
    some (.inl (a5, u6))) fun u3 =>
    f_X4_readRover_28 N b g a0 u3 (some a1)
    else none
set_option maxHeartbeats 4000000 in
set_option maxRecDepth 100000 in
theorem zz_X4_readRover_22 {G : uG} {a0 : Nat} {z : (Nat × UH) ⊕ (UH)} (N : Nat) (u : UH) (x1 : Option Nat) (h : f_X4_readRover_22 N (ub G) (ug G) a0 u x1 = some z) : u.1 ≤ (uX0 z).1 ∧ u.2.1 ≤ (uX0 z).2.1 := by
  unfold f_X4_readRover_22 at h
  obtain ⟨a1, ha1, hha1⟩ := mbind_n h
  subst ha1
  have h := hha1
  obtain ⟨c2, h⟩ := mif_n h
  rcases uxcallv_n h with ⟨a5, u6, c7, h⟩ | ⟨u3, c4, h⟩
  · have zu6 : u.1 ≤ u6.1 ∧ u.2.1 ≤ u6.2.1 := zz_X5_needs N (ub G) (ug G) u a1 (some ((ug G).2.1 16)) (.inl (a5, u6)) c7
    have hz := Option.some.inj h
    subst hz
    exact (show u.1 ≤ u6.1 ∧ u.2.1 ≤ u6.2.1 from ⟨by omega, by omega⟩)
  · have zu3 : u.1 ≤ u3.1 ∧ u.2.1 ≤ u3.2.1 := zz_X5_needs N (ub G) (ug G) u a1 (some ((ug G).2.1 16)) (.inr u3) c4
    have hq := zz_X4_readRover_28 (G := G) (a0 := a0) N u3 (some a1) h
    exact ⟨by omega, by omega⟩
set_option maxHeartbeats 4000000 in
set_option maxRecDepth 100000 in
theorem w_X4_readRover_22 {p : Program} {l : Launch} {e : Env} {R : Room} {s : State} {m : MethodId} {args : Array Value} {below : List Frame} {meth : Method} {c : Code} {G : uG} {a0 : Nat} {u0 : UH} {z : (Nat × UH) ⊕ (UH)} (hC : uC p s m args meth c G RX4 cX4_readRover 2 none) (hE : c.exceptionTable.toList = []) (hR : 10 ≤ R.frames ∧ 257 ≤ R.locals) (hRm : (uX0 z).1 - u0.1 ≤ R.cells ∧ (uX0 z).2.1 - u0.2.1 ≤ R.slots) (N : Nat) (u : UH) (x1 : Option Nat) (h : f_X4_readRover_22 N (ub G) (ug G) a0 u x1 = some z) (hz0 : (u0.1 ≤ u.1 ∧ u0.2.1 ≤ u.2.1)) {H : Heap} {locs : List Loc} (hP : uP G u H) (hS : va_S (uA G) s.heap H locs) {ls : Array Slot} (hl : lv_has ls 2 [(0, va_rf (some a0)), (1, va_rf x1)]) : W p l e R s m args below meth c H locs (u.1 - u0.1) (u.2.1 - u0.2.1) (uMQv below G z args s ((uX0 z).1 - u0.1) ((uX0 z).2.1 - u0.2.1)) (F0 m 22 ls []) := by
  obtain ⟨⟨hx, hb, hml, hown, hts⟩, hKK⟩ := id hC
  have hzf := zz_X4_readRover_22 (G := G) (a0 := a0) N u x1 h
  unfold f_X4_readRover_22 at h
  refine u_aload_n (r := x1) hx hb dX4_readRover_22 rfl (lv_at hl 1 rfl) ?_
  refine u_ldcS hC 16 rfl dX4_readRover_23 ?_
  obtain ⟨a1, ha1, hha1⟩ := mbind_n h
  subst ha1
  have h := hha1
  obtain ⟨c2, h⟩ := mif_n h
  rcases uxcallv_n h with ⟨a5, u6, c7, h⟩ | ⟨u3, c4, h⟩
  · have zu6 : u.1 ≤ u6.1 ∧ u.2.1 ≤ u6.2.1 := zz_X5_needs N (ub G) (ug G) u a1 (some ((ug G).2.1 16)) (.inl (a5, u6)) c7
    have hz := Option.some.inj h
    subst hz
    have hRm : u6.1 - u0.1 ≤ R.cells ∧ u6.2.1 - u0.2.1 ≤ R.slots := hRm
    exact u_callX hC (u_noE hE) (u_runVX (As := [va_rf (some ((ug G).2.1 16))]) (rest := []) hC.1 (mex_X5_needs l N G u a1 (some ((ug G).2.1 16)) a5 u6 c7) (cwV 1 hts (lw_V q913 q914 q915 q105 q916) rfl rfl rfl (by decide +kernel) ⟨Nat.le_trans (Nat.le_of_ble_eq_true rfl) hR.1, Nat.le_trans (Nat.le_of_ble_eq_true rfl) hR.2⟩) ⟨uPc_blind, u_rcv hC hP c2 rfl, fun U hU hW => u_pre hC hP hS hU hW⟩ rfl rfl hl.1 rfl (lv_room (Nat.le_of_ble_eq_true rfl)) dX4_readRover_25 ⟨by omega, by omega⟩) hS (by show _ + _ = u6.1 - u0.1; omega) (by show _ + _ = u6.2.1 - u0.2.1; omega)
  · have zu3 : u.1 ≤ u3.1 ∧ u.2.1 ≤ u3.2.1 := zz_X5_needs N (ub G) (ug G) u a1 (some ((ug G).2.1 16)) (.inr u3) c4
    have hq := zz_X4_readRover_28 (G := G) (a0 := a0) N u3 (some a1) h
    refine u_callv (va_runV (As := [va_rf (some ((ug G).2.1 16))]) (rest := []) hC.1 (met_X5_needs l N G u a1 (some ((ug G).2.1 16)) u3 c4) (cwV 1 hts (lw_V q913 q914 q915 q105 q916) rfl rfl rfl (by decide +kernel) ⟨Nat.le_trans (Nat.le_of_ble_eq_true rfl) hR.1, Nat.le_trans (Nat.le_of_ble_eq_true rfl) hR.2⟩) ⟨uPc_blind, u_rcv hC hP c2 rfl, fun U hU hW => u_pre hC hP hS hU hW⟩ rfl rfl hl.1 rfl (lv_room (Nat.le_of_ble_eq_true rfl)) dX4_readRover_25 ⟨by omega, by omega⟩) hS (fun H locs hP hS => ?_)
    refine W.cs (cells' := u3.1 - u0.1) (slots' := u3.2.1 - u0.2.1) (by omega) (by omega) ?_
    exact w_X4_readRover_28 hC hE hR hRm N u3 (some a1) h ⟨by omega, by omega⟩ hP hS (lv_sub hl [0, 1] rfl)
def f_X4_readRover_12 (N b : Nat) (g : uEnv) (a0 : Nat) (u : UH) (s0 : Option Nat) : Option ((Nat × UH) ⊕ (UH)) :=
    (s0).bind fun a1 =>
    some (.inl (a1, u))
set_option maxHeartbeats 4000000 in
set_option maxRecDepth 100000 in
theorem zz_X4_readRover_12 {G : uG} {a0 : Nat} {z : (Nat × UH) ⊕ (UH)} (N : Nat) (u : UH) (s0 : Option Nat) (h : f_X4_readRover_12 N (ub G) (ug G) a0 u s0 = some z) : u.1 ≤ (uX0 z).1 ∧ u.2.1 ≤ (uX0 z).2.1 := by
  unfold f_X4_readRover_12 at h
  obtain ⟨a1, ha1, hha1⟩ := mbind_n h
  subst ha1
  have h := hha1
  have hz := Option.some.inj h
  subst hz
  exact (show u.1 ≤ u.1 ∧ u.2.1 ≤ u.2.1 from ⟨by omega, by omega⟩)
set_option maxHeartbeats 4000000 in
set_option maxRecDepth 100000 in
theorem w_X4_readRover_12 {p : Program} {l : Launch} {e : Env} {R : Room} {s : State} {m : MethodId} {args : Array Value} {below : List Frame} {meth : Method} {c : Code} {G : uG} {a0 : Nat} {u0 : UH} {z : (Nat × UH) ⊕ (UH)} (hC : uC p s m args meth c G RX4 cX4_readRover 2 none) (hE : c.exceptionTable.toList = []) (hR : 10 ≤ R.frames ∧ 257 ≤ R.locals) (hRm : (uX0 z).1 - u0.1 ≤ R.cells ∧ (uX0 z).2.1 - u0.2.1 ≤ R.slots) (N : Nat) (u : UH) (s0 : Option Nat) (h : f_X4_readRover_12 N (ub G) (ug G) a0 u s0 = some z) (hz0 : (u0.1 ≤ u.1 ∧ u0.2.1 ≤ u.2.1)) {H : Heap} {locs : List Loc} (hP : uP G u H) (hS : va_S (uA G) s.heap H locs) {ls : Array Slot} (hl : lv_has ls 2 []) : W p l e R s m args below meth c H locs (u.1 - u0.1) (u.2.1 - u0.2.1) (uMQv below G z args s ((uX0 z).1 - u0.1) ((uX0 z).2.1 - u0.2.1)) (F0 m 12 ls [va_rf s0]) := by
  obtain ⟨⟨hx, hb, hml, hown, hts⟩, hKK⟩ := id hC
  have hzf := zz_X4_readRover_12 (G := G) (a0 := a0) N u s0 h
  unfold f_X4_readRover_12 at h
  obtain ⟨a1, ha1, hha1⟩ := mbind_n h
  subst ha1
  have h := hha1
  have hz := Option.some.inj h
  subst hz
  exact u_athrow hC (u_noE hE) hP hS dX4_readRover_12
def f_X4_readRover (N b : Nat) (g : uEnv) (u : UH) (a0 : Nat) (x1 : Option Nat) : Option ((Nat × UH) ⊕ (UH)) :=
    (uGI u a0 3 2).bind fun y1 =>
    if y1 = 0 then
    (uPut b u a0 3 2 (.int 1)).bind fun u3 =>
    (x1).bind fun a4 =>
    if uIs u3 a4 4 = true then
    (f_X5_next N b g u3 a4).bind fun u6 =>
    f_X4_readRover_22 N b g a0 u6 (some a4)
    else none
    else
    (x1).bind fun a8 =>
    if uIs u a8 4 = true then
    ucall (f_X5_fault N b g u a8 3) fun o12 u10 =>
    f_X4_readRover_12 N b g a0 u10 o12
    else none
set_option maxHeartbeats 4000000 in
set_option maxRecDepth 100000 in
theorem zz_X4_readRover_0 {G : uG} {a0 : Nat} {z : (Nat × UH) ⊕ (UH)} (N : Nat) (u : UH) (x1 : Option Nat) (h : f_X4_readRover N (ub G) (ug G) u a0 x1 = some z) : u.1 ≤ (uX0 z).1 ∧ u.2.1 ≤ (uX0 z).2.1 := by
  unfold f_X4_readRover at h
  obtain ⟨y1, hy1, h⟩ := mbind_n h
  by_cases c2 : y1 = 0
  · have h := mif_t c2 h
    obtain ⟨u3, hu3, h⟩ := mbind_n h
    have zu3 := uPut_sz hu3
    obtain ⟨a4, ha4, hha4⟩ := mbind_n h
    subst ha4
    have h := hha4
    obtain ⟨c5, h⟩ := mif_n h
    obtain ⟨u6, c7, h⟩ := mbind_n h
    have zu6 := zz_X5_next N (ub G) (ug G) u3 a4 u6 c7
    have hq := zz_X4_readRover_22 (G := G) (a0 := a0) N u6 (some a4) h
    exact ⟨by omega, by omega⟩
  · have h := mif_f c2 h
    obtain ⟨a8, ha8, hha8⟩ := mbind_n h
    subst ha8
    have h := hha8
    obtain ⟨c9, h⟩ := mif_n h
    obtain ⟨o12, u10, c11, h⟩ := ucall_n h
    have zu10 := zz_X5_fault N (ub G) (ug G) u a8 3 o12 u10 c11
    have hq := zz_X4_readRover_12 (G := G) (a0 := a0) N u10 o12 h
    exact ⟨by omega, by omega⟩
set_option maxHeartbeats 4000000 in
set_option maxRecDepth 100000 in
theorem w_X4_readRover_0 {p : Program} {l : Launch} {e : Env} {R : Room} {s : State} {m : MethodId} {args : Array Value} {below : List Frame} {meth : Method} {c : Code} {G : uG} {a0 : Nat} {u0 : UH} {z : (Nat × UH) ⊕ (UH)} (hC : uC p s m args meth c G RX4 cX4_readRover 2 none) (hE : c.exceptionTable.toList = []) (hR : 10 ≤ R.frames ∧ 257 ≤ R.locals) (hRm : (uX0 z).1 - u0.1 ≤ R.cells ∧ (uX0 z).2.1 - u0.2.1 ≤ R.slots) (N : Nat) (u : UH) (x1 : Option Nat) (h : f_X4_readRover N (ub G) (ug G) u a0 x1 = some z) (hz0 : (u0.1 ≤ u.1 ∧ u0.2.1 ≤ u.2.1)) {H : Heap} {locs : List Loc} (hP : uP G u H) (hS : va_S (uA G) s.heap H locs) {ls : Array Slot} (hl : lv_has ls 2 [(0, va_rf (some a0)), (1, va_rf x1)]) : W p l e R s m args below meth c H locs (u.1 - u0.1) (u.2.1 - u0.2.1) (uMQv below G z args s ((uX0 z).1 - u0.1) ((uX0 z).2.1 - u0.2.1)) (F0 m 0 ls []) := by
  obtain ⟨⟨hx, hb, hml, hown, hts⟩, hKK⟩ := id hC
  have hzf := zz_X4_readRover_0 (G := G) (a0 := a0) N u x1 h
  unfold f_X4_readRover at h
  refine u_aload_n (r := some a0) hx hb dX4_readRover_0 rfl (lv_at hl 0 rfl) ?_
  obtain ⟨y1, hy1, h⟩ := mbind_n h
  refine u_get hC hP (uGI_n hy1) rfl in_X4 (by decide) q295 (fun _ h => h) dX4_readRover_1 ?_
  refine lv_if_eq (tgt := 13) hx hb dX4_readRover_4 (by decide) (fun c2 => ?_) (fun c2 => ?_)
  · have h := mif_t c2 h
    refine u_aload_n (r := some a0) hx hb dX4_readRover_13 rfl (lv_at hl 0 rfl) ?_
    refine lv_iconst (v := 1) hx hb dX4_readRover_14 (by decide) ?_
    obtain ⟨u3, hu3, h⟩ := mbind_n h
    have zu3 := uPut_sz hu3
    refine u_put hC hP hS hu3 rfl in_X4 tyX4 tyX4_ok nmX4 (by decide) q295 (fun _ h => h) rfl (ty := .boolean) (tyX4_ok 2 (by decide)) (uFit_n (ty := .boolean) (v := 1) rfl).1 (uFit_n (ty := .boolean) (v := 1) rfl).2 dX4_readRover_15 (fun H locs hP hS => ?_)
    refine W.cs (cells' := u3.1 - u0.1) (slots' := u3.2.1 - u0.2.1) (by omega) (by omega) ?_
    refine u_aload_n (r := x1) hx hb dX4_readRover_18 rfl (lv_at hl 1 rfl) ?_
    obtain ⟨a4, ha4, hha4⟩ := mbind_n h
    subst ha4
    have h := hha4
    obtain ⟨c5, h⟩ := mif_n h
    obtain ⟨u6, c7, h⟩ := mbind_n h
    have zu6 := zz_X5_next N (ub G) (ug G) u3 a4 u6 c7
    have hq := zz_X4_readRover_22 (G := G) (a0 := a0) N u6 (some a4) h
    refine u_callv (va_runV (As := []) (rest := []) hC.1 (met_X5_next l N G u3 a4 u6 c7) (cwV 0 hts (lw_V q911 q340 q341 q105 q342) rfl rfl rfl (by decide +kernel) ⟨Nat.le_trans (Nat.le_of_ble_eq_true rfl) hR.1, Nat.le_trans (Nat.le_of_ble_eq_true rfl) hR.2⟩) ⟨uPc_blind, u_rcv hC hP c5 rfl, fun U hU hW => u_pre hC hP hS hU hW⟩ rfl rfl hl.1 rfl (lv_room (Nat.le_of_ble_eq_true rfl)) dX4_readRover_19 ⟨by omega, by omega⟩) hS (fun H locs hP hS => ?_)
    refine W.cs (cells' := u6.1 - u0.1) (slots' := u6.2.1 - u0.2.1) (by omega) (by omega) ?_
    refine W.cs (cells' := u6.1 - u0.1) (slots' := u6.2.1 - u0.2.1) (by omega) (by omega) ?_
    exact w_X4_readRover_22 hC hE hR hRm N u6 (some a4) h ⟨by omega, by omega⟩ hP hS (lv_sub hl [0, 1] rfl)
  · have h := mif_f c2 h
    refine u_aload_n (r := x1) hx hb dX4_readRover_7 rfl (lv_at hl 1 rfl) ?_
    refine lv_iconst (v := 3) hx hb dX4_readRover_8 (by decide) ?_
    obtain ⟨a8, ha8, hha8⟩ := mbind_n h
    subst ha8
    have h := hha8
    obtain ⟨c9, h⟩ := mif_n h
    obtain ⟨o12, u10, c11, h⟩ := ucall_n h
    have zu10 := zz_X5_fault N (ub G) (ug G) u a8 3 o12 u10 c11
    have hq := zz_X4_readRover_12 (G := G) (a0 := a0) N u10 o12 h
    refine u_callr (va_runV (As := [.int 3]) (rest := []) hC.1 (met_X5_fault l N G u a8 3 o12 u10 c11) (cwV 1 hts (lw_V q910 q781 q782 q105 q783) rfl rfl rfl (by decide +kernel) ⟨Nat.le_trans (Nat.le_of_ble_eq_true rfl) hR.1, Nat.le_trans (Nat.le_of_ble_eq_true rfl) hR.2⟩) ⟨uPc_blind, u_rcv hC hP c9 rfl, fun U hU hW => u_pre hC hP hS hU hW⟩ rfl rfl hl.1 rfl (lv_room (Nat.le_of_ble_eq_true rfl)) dX4_readRover_9 ⟨by omega, by omega⟩) hS (fun H locs hP hS => ?_)
    refine W.cs (cells' := u10.1 - u0.1) (slots' := u10.2.1 - u0.2.1) (by omega) (by omega) ?_
    refine W.cs (cells' := u10.1 - u0.1) (slots' := u10.2.1 - u0.2.1) (by omega) (by omega) ?_
    exact w_X4_readRover_12 hC hE hR hRm N u10 o12 h ⟨by omega, by omega⟩ hP hS (lv_sub hl [] rfl)
theorem zz_X4_readRover (N b : Nat) (g : uEnv) (u : UH) (a0 : Nat) (x1 : Option Nat) (z : (Nat × UH) ⊕ (UH)) (h : f_X4_readRover N b g u a0 x1 = some z) : u.1 ≤ (uX0 z).1 ∧ u.2.1 ≤ (uX0 z).2.1 :=
  zz_X4_readRover_0 (G := ((fun _ => 0, fun _ _ => 0), fun _ => 0, b, g)) (a0 := a0) N u x1 h
theorem met_X4_readRover (l : Launch) (N : Nat) (G : uG) (u : UH) (a0 : Nat) (x1 : Option Nat) (uf : UH) (h : f_X4_readRover N (ub G) (ug G) u a0 x1 = some (.inr uf)) : Met l yX4_readRover (ws_ yX4_readRover cX4_readRover 2 none) ({ frames := 10, cells := (uf.1 - u.1), slots := (uf.2.1 - u.2.1), locals := 257 }) (uPc G u [.ref a0, va_rf x1]) (uQv G uf) (uf.1 - u.1) (uf.2.1 - u.2.1) (uA G) := by
  rcases x1 with _ | x1 <;> exact u_metE (own := RX4) (by decide +kernel) rfl (Nat.le_of_ble_eq_true rfl) (fun hC hE hn hsz ls hl hP => W.cs (Nat.sub_self _).symm (Nat.sub_self _).symm (w_X4_readRover_0 hC hE ⟨Nat.le_refl _, Nat.le_refl _⟩ ⟨Nat.le_refl _, Nat.le_refl _⟩ N u _ h ⟨Nat.le_refl _, Nat.le_refl _⟩ hP va_S.rf hl))
theorem mex_X4_readRover (l : Launch) (N : Nat) (G : uG) (u : UH) (a0 : Nat) (x1 : Option Nat) (x : Nat) (uf : UH) (h : f_X4_readRover N (ub G) (ug G) u a0 x1 = some (.inl (x, uf))) : uMX l yX4_readRover (ws_ yX4_readRover cX4_readRover 2 none) ({ frames := 10, cells := (uf.1 - u.1), slots := (uf.2.1 - u.2.1), locals := 257 }) G u [.ref a0, va_rf x1] x uf (uf.1 - u.1) (uf.2.1 - u.2.1) := by
  rcases x1 with _ | x1 <;> exact u_metX (own := RX4) (by decide +kernel) rfl (Nat.le_of_ble_eq_true rfl) (fun hC hE hn hsz ls hl hP => W.cs (Nat.sub_self _).symm (Nat.sub_self _).symm (w_X4_readRover_0 hC hE ⟨Nat.le_refl _, Nat.le_refl _⟩ ⟨Nat.le_refl _, Nat.le_refl _⟩ N u _ h ⟨Nat.le_refl _, Nat.le_refl _⟩ hP va_S.rf hl))
def f_X4_readAttempt_97 (N b : Nat) (g : uEnv) (a0 : Nat) (u : UH) (s0 : Int32) : Option ((Nat × UH) ⊕ (UH)) :=
    some (.inr u)
set_option maxHeartbeats 4000000 in
set_option maxRecDepth 100000 in
theorem zz_X4_readAttempt_97 {G : uG} {a0 : Nat} {z : (Nat × UH) ⊕ (UH)} (N : Nat) (u : UH) (s0 : Int32) (h : f_X4_readAttempt_97 N (ub G) (ug G) a0 u s0 = some z) : u.1 ≤ (uX0 z).1 ∧ u.2.1 ≤ (uX0 z).2.1 := by
  unfold f_X4_readAttempt_97 at h
  have hz := Option.some.inj h
  subst hz
  exact (show u.1 ≤ u.1 ∧ u.2.1 ≤ u.2.1 from ⟨by omega, by omega⟩)
set_option maxHeartbeats 4000000 in
set_option maxRecDepth 100000 in
theorem w_X4_readAttempt_97 {p : Program} {l : Launch} {e : Env} {R : Room} {s : State} {m : MethodId} {args : Array Value} {below : List Frame} {meth : Method} {c : Code} {G : uG} {a0 : Nat} {u0 : UH} {z : (Nat × UH) ⊕ (UH)} (hC : uC p s m args meth c G RX4 cX4_readAttempt 5 none) (hE : c.exceptionTable.toList = []) (hR : 10 ≤ R.frames ∧ 260 ≤ R.locals) (hRm : (uX0 z).1 - u0.1 ≤ R.cells ∧ (uX0 z).2.1 - u0.2.1 ≤ R.slots) (N : Nat) (u : UH) (s0 : Int32) (h : f_X4_readAttempt_97 N (ub G) (ug G) a0 u s0 = some z) (hz0 : (u0.1 ≤ u.1 ∧ u0.2.1 ≤ u.2.1)) {H : Heap} {locs : List Loc} (hP : uP G u H) (hS : va_S (uA G) s.heap H locs) {ls : Array Slot} (hl : lv_has ls 5 []) : W p l e R s m args below meth c H locs (u.1 - u0.1) (u.2.1 - u0.2.1) (uMQv below G z args s ((uX0 z).1 - u0.1) ((uX0 z).2.1 - u0.2.1)) (F0 m 97 ls [.int s0]) := by
  obtain ⟨⟨hx, hb, hml, hown, hts⟩, hKK⟩ := id hC
  have hzf := zz_X4_readAttempt_97 (G := G) (a0 := a0) N u s0 h
  unfold f_X4_readAttempt_97 at h
  refine lv_pop hx hb dX4_readAttempt_97 rfl ?_
  have hz := Option.some.inj h
  subst hz
  exact u_vret hC hP hS dX4_readAttempt_98
def f_X4_readAttempt_91 (N b : Nat) (g : uEnv) (a0 : Nat) (u : UH) (s0 : Int32) (s1 : Int32) (s2 : Int32) (s3 : Option Nat) (s4 : Option Nat) (s5 : Option Nat) (s6 : Option Nat) : Option ((Nat × UH) ⊕ (UH)) :=
    (s4).bind fun a1 =>
    (f_X10_init N b g u a1 s3 s2 s1 s0).bind fun u2 =>
    (s6).bind fun a4 =>
    if uIs u2 a4 18 = true then
    ucall (f_J2_add N b g u2 a4 s5) fun r8 u6 =>
    f_X4_readAttempt_97 N b g a0 u6 r8
    else none
set_option maxHeartbeats 4000000 in
set_option maxRecDepth 100000 in
theorem zz_X4_readAttempt_91 {G : uG} {a0 : Nat} {z : (Nat × UH) ⊕ (UH)} (N : Nat) (u : UH) (s0 : Int32) (s1 : Int32) (s2 : Int32) (s3 : Option Nat) (s4 : Option Nat) (s5 : Option Nat) (s6 : Option Nat) (h : f_X4_readAttempt_91 N (ub G) (ug G) a0 u s0 s1 s2 s3 s4 s5 s6 = some z) : u.1 ≤ (uX0 z).1 ∧ u.2.1 ≤ (uX0 z).2.1 := by
  unfold f_X4_readAttempt_91 at h
  obtain ⟨a1, ha1, hha1⟩ := mbind_n h
  subst ha1
  have h := hha1
  obtain ⟨u2, c3, h⟩ := mbind_n h
  have zu2 := zz_X10_init N (ub G) (ug G) u a1 s3 s2 s1 s0 u2 c3
  obtain ⟨a4, ha4, hha4⟩ := mbind_n h
  subst ha4
  have h := hha4
  obtain ⟨c5, h⟩ := mif_n h
  obtain ⟨r8, u6, c7, h⟩ := ucall_n h
  have zu6 := zz_J2_add N (ub G) (ug G) u2 a4 s5 r8 u6 c7
  have hq := zz_X4_readAttempt_97 (G := G) (a0 := a0) N u6 r8 h
  exact ⟨by omega, by omega⟩
set_option maxHeartbeats 4000000 in
set_option maxRecDepth 100000 in
theorem w_X4_readAttempt_91 {p : Program} {l : Launch} {e : Env} {R : Room} {s : State} {m : MethodId} {args : Array Value} {below : List Frame} {meth : Method} {c : Code} {G : uG} {a0 : Nat} {u0 : UH} {z : (Nat × UH) ⊕ (UH)} (hC : uC p s m args meth c G RX4 cX4_readAttempt 5 none) (hE : c.exceptionTable.toList = []) (hR : 10 ≤ R.frames ∧ 260 ≤ R.locals) (hRm : (uX0 z).1 - u0.1 ≤ R.cells ∧ (uX0 z).2.1 - u0.2.1 ≤ R.slots) (N : Nat) (u : UH) (s0 : Int32) (s1 : Int32) (s2 : Int32) (s3 : Option Nat) (s4 : Option Nat) (s5 : Option Nat) (s6 : Option Nat) (h : f_X4_readAttempt_91 N (ub G) (ug G) a0 u s0 s1 s2 s3 s4 s5 s6 = some z) (hz0 : (u0.1 ≤ u.1 ∧ u0.2.1 ≤ u.2.1)) {H : Heap} {locs : List Loc} (hP : uP G u H) (hS : va_S (uA G) s.heap H locs) {ls : Array Slot} (hl : lv_has ls 5 []) : W p l e R s m args below meth c H locs (u.1 - u0.1) (u.2.1 - u0.2.1) (uMQv below G z args s ((uX0 z).1 - u0.1) ((uX0 z).2.1 - u0.2.1)) (F0 m 91 ls [.int s0, .int s1, .int s2, va_rf s3, va_rf s4, va_rf s5, va_rf s6]) := by
  obtain ⟨⟨hx, hb, hml, hown, hts⟩, hKK⟩ := id hC
  have hzf := zz_X4_readAttempt_91 (G := G) (a0 := a0) N u s0 s1 s2 s3 s4 s5 s6 h
  unfold f_X4_readAttempt_91 at h
  obtain ⟨a1, ha1, hha1⟩ := mbind_n h
  subst ha1
  have h := hha1
  obtain ⟨u2, c3, h⟩ := mbind_n h
  have zu2 := zz_X10_init N (ub G) (ug G) u a1 s3 s2 s1 s0 u2 c3
  refine u_callv (va_runIN (As := [va_rf s3, .int s2, .int s1, .int s0]) (rest := [va_rf s5, va_rf s6]) hC.1 (met_X10_init l N G u a1 s3 s2 s1 s0 u2 c3) ⟨va_cnB 4 hts (lw_meth q1029) rfl rfl rfl (hC.2.1.2.1 _ q1027 rfl) (hts _ q127) (by decide +kernel) ⟨Nat.le_trans (Nat.le_of_ble_eq_true rfl) hR.1, Nat.le_trans (Nat.le_of_ble_eq_true rfl) hR.2⟩, rfl, hts _ q1028⟩ ⟨uPc_blind, fun U hU hW => u_pre hC hP hS hU hW⟩ rfl rfl hl.1 rfl (lv_room (by simp only [List.map, u_cat]; exact Nat.le_of_ble_eq_true rfl)) dX4_readAttempt_91 ⟨by omega, by omega⟩) hS (fun H locs hP hS => ?_)
  refine W.cs (cells' := u2.1 - u0.1) (slots' := u2.2.1 - u0.2.1) (by omega) (by omega) ?_
  obtain ⟨a4, ha4, hha4⟩ := mbind_n h
  subst ha4
  have h := hha4
  obtain ⟨c5, h⟩ := mif_n h
  obtain ⟨r8, u6, c7, h⟩ := ucall_n h
  have zu6 := zz_J2_add N (ub G) (ug G) u2 a4 s5 r8 u6 c7
  have hq := zz_X4_readAttempt_97 (G := G) (a0 := a0) N u6 r8 h
  refine u_calli (va_runV (As := [va_rf s5]) (rest := []) hC.1 (met_J2_add l N G u2 a4 s5 r8 u6 c7) (cwV 1 hts (lw_V q934 q935 q936 q102 q937) rfl rfl rfl (by decide +kernel) ⟨Nat.le_trans (Nat.le_of_ble_eq_true rfl) hR.1, Nat.le_trans (Nat.le_of_ble_eq_true rfl) hR.2⟩) ⟨uPc_blind, u_rcv hC hP c5 rfl, fun U hU hW => u_pre hC hP hS hU hW⟩ rfl rfl hl.1 rfl (lv_room (Nat.le_of_ble_eq_true rfl)) dX4_readAttempt_94 ⟨by omega, by omega⟩) hS (fun H locs hP hS => ?_)
  refine W.cs (cells' := u6.1 - u0.1) (slots' := u6.2.1 - u0.2.1) (by omega) (by omega) ?_
  refine W.cs (cells' := u6.1 - u0.1) (slots' := u6.2.1 - u0.2.1) (by omega) (by omega) ?_
  exact w_X4_readAttempt_97 hC hE hR hRm N u6 r8 h ⟨by omega, by omega⟩ hP hS (lv_sub hl [] rfl)
def f_X4_readAttempt_79 (N b : Nat) (g : uEnv) (a0 : Nat) (u : UH) (x1 : Option Nat) (x2 : Option Nat) (x3 : Int32) (x4 : Int32) (s0 : Option Nat) (s1 : Option Nat) : Option ((Nat × UH) ⊕ (UH)) :=
    (x1).bind fun a1 =>
    if uIs u a1 4 = true then
    uxcall (f_X5_whole N b g u a1 1 99) (fun a6 u7 =>
    some (.inl (a6, u7))) fun r5 u3 =>
    f_X4_readAttempt_91 N b g a0 u3 r5 x4 x3 x2 s0 s0 s1
    else none
set_option maxHeartbeats 4000000 in
set_option maxRecDepth 100000 in
theorem zz_X4_readAttempt_79 {G : uG} {a0 : Nat} {z : (Nat × UH) ⊕ (UH)} (N : Nat) (u : UH) (x1 : Option Nat) (x2 : Option Nat) (x3 : Int32) (x4 : Int32) (s0 : Option Nat) (s1 : Option Nat) (h : f_X4_readAttempt_79 N (ub G) (ug G) a0 u x1 x2 x3 x4 s0 s1 = some z) : u.1 ≤ (uX0 z).1 ∧ u.2.1 ≤ (uX0 z).2.1 := by
  unfold f_X4_readAttempt_79 at h
  obtain ⟨a1, ha1, hha1⟩ := mbind_n h
  subst ha1
  have h := hha1
  obtain ⟨c2, h⟩ := mif_n h
  rcases uxcall_n h with ⟨a6, u7, c8, h⟩ | ⟨r5, u3, c4, h⟩
  · have zu7 : u.1 ≤ u7.1 ∧ u.2.1 ≤ u7.2.1 := zz_X5_whole N (ub G) (ug G) u a1 1 99 (.inl (a6, u7)) c8
    have hz := Option.some.inj h
    subst hz
    exact (show u.1 ≤ u7.1 ∧ u.2.1 ≤ u7.2.1 from ⟨by omega, by omega⟩)
  · have zu3 : u.1 ≤ u3.1 ∧ u.2.1 ≤ u3.2.1 := zz_X5_whole N (ub G) (ug G) u a1 1 99 (.inr (r5, u3)) c4
    have hq := zz_X4_readAttempt_91 (G := G) (a0 := a0) N u3 r5 x4 x3 x2 s0 s0 s1 h
    exact ⟨by omega, by omega⟩
set_option maxHeartbeats 4000000 in
set_option maxRecDepth 100000 in
theorem w_X4_readAttempt_79 {p : Program} {l : Launch} {e : Env} {R : Room} {s : State} {m : MethodId} {args : Array Value} {below : List Frame} {meth : Method} {c : Code} {G : uG} {a0 : Nat} {u0 : UH} {z : (Nat × UH) ⊕ (UH)} (hC : uC p s m args meth c G RX4 cX4_readAttempt 5 none) (hE : c.exceptionTable.toList = []) (hR : 10 ≤ R.frames ∧ 260 ≤ R.locals) (hRm : (uX0 z).1 - u0.1 ≤ R.cells ∧ (uX0 z).2.1 - u0.2.1 ≤ R.slots) (N : Nat) (u : UH) (x1 : Option Nat) (x2 : Option Nat) (x3 : Int32) (x4 : Int32) (s0 : Option Nat) (s1 : Option Nat) (h : f_X4_readAttempt_79 N (ub G) (ug G) a0 u x1 x2 x3 x4 s0 s1 = some z) (hz0 : (u0.1 ≤ u.1 ∧ u0.2.1 ≤ u.2.1)) {H : Heap} {locs : List Loc} (hP : uP G u H) (hS : va_S (uA G) s.heap H locs) {ls : Array Slot} (hl : lv_has ls 5 [(1, va_rf x1), (2, va_rf x2), (3, .int x3), (4, .int x4)]) : W p l e R s m args below meth c H locs (u.1 - u0.1) (u.2.1 - u0.2.1) (uMQv below G z args s ((uX0 z).1 - u0.1) ((uX0 z).2.1 - u0.2.1)) (F0 m 79 ls [va_rf s0, va_rf s1]) := by
  obtain ⟨⟨hx, hb, hml, hown, hts⟩, hKK⟩ := id hC
  have hzf := zz_X4_readAttempt_79 (G := G) (a0 := a0) N u x1 x2 x3 x4 s0 s1 h
  unfold f_X4_readAttempt_79 at h
  refine lv_dup hx hb dX4_readAttempt_79 (u_cat _) ?_
  refine u_aload_n (r := x2) hx hb dX4_readAttempt_80 rfl (lv_at hl 1 rfl) ?_
  refine lv_iload_n hx hb dX4_readAttempt_81 rfl (lv_at hl 2 rfl) ?_
  refine lv_iload hx hb dX4_readAttempt_82 (lv_at hl 3 rfl) ?_
  refine u_aload_n (r := x1) hx hb dX4_readAttempt_84 rfl (lv_at hl 0 rfl) ?_
  refine lv_iconst (v := 1) hx hb dX4_readAttempt_85 (by decide) ?_
  refine lv_bipush (v := 99) hx hb dX4_readAttempt_86 (by decide) ?_
  obtain ⟨a1, ha1, hha1⟩ := mbind_n h
  subst ha1
  have h := hha1
  obtain ⟨c2, h⟩ := mif_n h
  rcases uxcall_n h with ⟨a6, u7, c8, h⟩ | ⟨r5, u3, c4, h⟩
  · have zu7 : u.1 ≤ u7.1 ∧ u.2.1 ≤ u7.2.1 := zz_X5_whole N (ub G) (ug G) u a1 1 99 (.inl (a6, u7)) c8
    have hz := Option.some.inj h
    subst hz
    have hRm : u7.1 - u0.1 ≤ R.cells ∧ u7.2.1 - u0.2.1 ≤ R.slots := hRm
    exact u_callX hC (u_noE hE) (u_runVX (As := [.int 1, .int 99]) (rest := [.int x4, .int x3, va_rf x2, va_rf s0, va_rf s0, va_rf s1]) hC.1 (mex_X5_whole l N G u a1 1 99 a6 u7 c8) (cwV 2 hts (lw_V q999 q927 q928 q105 q929) rfl rfl rfl (by decide +kernel) ⟨Nat.le_trans (Nat.le_of_ble_eq_true rfl) hR.1, Nat.le_trans (Nat.le_of_ble_eq_true rfl) hR.2⟩) ⟨uPc_blind, u_rcv hC hP c2 rfl, fun U hU hW => u_pre hC hP hS hU hW⟩ rfl rfl hl.1 rfl (lv_room (by simp only [List.map, u_cat]; exact Nat.le_of_ble_eq_true rfl)) dX4_readAttempt_88 ⟨by omega, by omega⟩) hS (by show _ + _ = u7.1 - u0.1; omega) (by show _ + _ = u7.2.1 - u0.2.1; omega)
  · have zu3 : u.1 ≤ u3.1 ∧ u.2.1 ≤ u3.2.1 := zz_X5_whole N (ub G) (ug G) u a1 1 99 (.inr (r5, u3)) c4
    have hq := zz_X4_readAttempt_91 (G := G) (a0 := a0) N u3 r5 x4 x3 x2 s0 s0 s1 h
    refine u_calli (va_runV (As := [.int 1, .int 99]) (rest := [.int x4, .int x3, va_rf x2, va_rf s0, va_rf s0, va_rf s1]) hC.1 (met_X5_whole l N G u a1 1 99 r5 u3 c4) (cwV 2 hts (lw_V q999 q927 q928 q105 q929) rfl rfl rfl (by decide +kernel) ⟨Nat.le_trans (Nat.le_of_ble_eq_true rfl) hR.1, Nat.le_trans (Nat.le_of_ble_eq_true rfl) hR.2⟩) ⟨uPc_blind, u_rcv hC hP c2 rfl, fun U hU hW => u_pre hC hP hS hU hW⟩ rfl rfl hl.1 rfl (lv_room (by simp only [List.map, u_cat]; exact Nat.le_of_ble_eq_true rfl)) dX4_readAttempt_88 ⟨by omega, by omega⟩) hS (fun H locs hP hS => ?_)
    refine W.cs (cells' := u3.1 - u0.1) (slots' := u3.2.1 - u0.2.1) (by omega) (by omega) ?_
    exact w_X4_readAttempt_91 hC hE hR hRm N u3 r5 x4 x3 x2 s0 s0 s1 h ⟨by omega, by omega⟩ hP hS (lv_sub hl [] rfl)
def f_X4_readAttempt_72 (N b : Nat) (g : uEnv) (a0 : Nat) (u : UH) (x1 : Option Nat) (x2 : Option Nat) (x3 : Int32) (x4 : Int32) : Option ((Nat × UH) ⊕ (UH)) :=
    (uGR u a0 3 1).bind fun o1 =>
    mlet (u.1) fun a3 =>
    mlet (uNew u 4 (.inr (8, uDefs tyX10 4))) fun u2 =>
    f_X4_readAttempt_79 N b g a0 u2 x1 x2 x3 x4 (some a3) o1
set_option maxHeartbeats 4000000 in
set_option maxRecDepth 100000 in
theorem zz_X4_readAttempt_72 {G : uG} {a0 : Nat} {z : (Nat × UH) ⊕ (UH)} (N : Nat) (u : UH) (x1 : Option Nat) (x2 : Option Nat) (x3 : Int32) (x4 : Int32) (h : f_X4_readAttempt_72 N (ub G) (ug G) a0 u x1 x2 x3 x4 = some z) : u.1 ≤ (uX0 z).1 ∧ u.2.1 ≤ (uX0 z).2.1 := by
  unfold f_X4_readAttempt_72 at h
  obtain ⟨o1, ho1, h⟩ := mbind_n h
  obtain ⟨a3, ea3⟩ : ∃ z : Nat, z = u.1 := ⟨_, rfl⟩
  have h := mlet_at ea3 h
  obtain ⟨u2, eu2⟩ : ∃ z : UH, z = uNew u 4 (.inr (8, uDefs tyX10 4)) := ⟨_, rfl⟩
  have h := mlet_at eu2 h
  have zu2 : u2.1 = u.1 + 1 ∧ u2.2.1 = u.2.1 + 4 := by rw [eu2]; exact ⟨rfl, rfl⟩
  have hq := zz_X4_readAttempt_79 (G := G) (a0 := a0) N u2 x1 x2 x3 x4 (some a3) o1 h
  exact ⟨by omega, by omega⟩
set_option maxHeartbeats 4000000 in
set_option maxRecDepth 100000 in
theorem w_X4_readAttempt_72 {p : Program} {l : Launch} {e : Env} {R : Room} {s : State} {m : MethodId} {args : Array Value} {below : List Frame} {meth : Method} {c : Code} {G : uG} {a0 : Nat} {u0 : UH} {z : (Nat × UH) ⊕ (UH)} (hC : uC p s m args meth c G RX4 cX4_readAttempt 5 none) (hE : c.exceptionTable.toList = []) (hR : 10 ≤ R.frames ∧ 260 ≤ R.locals) (hRm : (uX0 z).1 - u0.1 ≤ R.cells ∧ (uX0 z).2.1 - u0.2.1 ≤ R.slots) (N : Nat) (u : UH) (x1 : Option Nat) (x2 : Option Nat) (x3 : Int32) (x4 : Int32) (h : f_X4_readAttempt_72 N (ub G) (ug G) a0 u x1 x2 x3 x4 = some z) (hz0 : (u0.1 ≤ u.1 ∧ u0.2.1 ≤ u.2.1)) {H : Heap} {locs : List Loc} (hP : uP G u H) (hS : va_S (uA G) s.heap H locs) {ls : Array Slot} (hl : lv_has ls 5 [(0, va_rf (some a0)), (1, va_rf x1), (2, va_rf x2), (3, .int x3), (4, .int x4)]) : W p l e R s m args below meth c H locs (u.1 - u0.1) (u.2.1 - u0.2.1) (uMQv below G z args s ((uX0 z).1 - u0.1) ((uX0 z).2.1 - u0.2.1)) (F0 m 72 ls []) := by
  obtain ⟨⟨hx, hb, hml, hown, hts⟩, hKK⟩ := id hC
  have hzf := zz_X4_readAttempt_72 (G := G) (a0 := a0) N u x1 x2 x3 x4 h
  unfold f_X4_readAttempt_72 at h
  refine u_aload_n (r := some a0) hx hb dX4_readAttempt_72 rfl (lv_at hl 0 rfl) ?_
  obtain ⟨o1, ho1, h⟩ := mbind_n h
  refine u_get hC hP (uGR_n ho1) rfl in_X4 (by decide) q292 (fun _ h => h) dX4_readAttempt_73 ?_
  obtain ⟨a3, ea3⟩ : ∃ z : Nat, z = u.1 := ⟨_, rfl⟩
  have h := mlet_at ea3 h
  obtain ⟨u2, eu2⟩ : ∃ z : UH, z = uNew u 4 (.inr (8, uDefs tyX10 4)) := ⟨_, rfl⟩
  have h := mlet_at eu2 h
  have zu2 : u2.1 = u.1 + 1 ∧ u2.2.1 = u.2.1 + 4 := by rw [eu2]; exact ⟨rfl, rfl⟩
  have hq := zz_X4_readAttempt_79 (G := G) (a0 := a0) N u2 x1 x2 x3 x4 (some a3) o1 h
  refine u_new hC hP hS (T := TX10) (N := 4) (ci := 8) rfl in_X10 tyX10 tyX10_ok q1013 q1026 q127 (by omega) (by omega) dX4_readAttempt_76 (fun H hP hS => ?_)
  rw [← eu2] at hP
  rw [← ea3]
  refine W.cs (cells' := u2.1 - u0.1) (slots' := u2.2.1 - u0.2.1) (by omega) (by omega) ?_
  refine W.cs (cells' := u2.1 - u0.1) (slots' := u2.2.1 - u0.2.1) (by omega) (by omega) ?_
  exact w_X4_readAttempt_79 hC hE hR hRm N u2 x1 x2 x3 x4 (some a3) o1 h ⟨by omega, by omega⟩ hP hS (lv_sub hl [1, 2, 3, 4] rfl)
def f_X4_readAttempt_64 (N b : Nat) (g : uEnv) (a0 : Nat) (u : UH) (x1 : Option Nat) (x2 : Option Nat) (x3 : Int32) (s0 : Int32) : Option ((Nat × UH) ⊕ (UH)) :=
    (x1).bind fun a1 =>
    if uIs u a1 4 = true then
    uxcallv (f_X5_needs N b g u a1 (some (g.2.1 25))) (fun a5 u6 =>
    some (.inl (a5, u6))) fun u3 =>
    f_X4_readAttempt_72 N b g a0 u3 (some a1) x2 x3 s0
    else none
set_option maxHeartbeats 4000000 in
set_option maxRecDepth 100000 in
theorem zz_X4_readAttempt_64 {G : uG} {a0 : Nat} {z : (Nat × UH) ⊕ (UH)} (N : Nat) (u : UH) (x1 : Option Nat) (x2 : Option Nat) (x3 : Int32) (s0 : Int32) (h : f_X4_readAttempt_64 N (ub G) (ug G) a0 u x1 x2 x3 s0 = some z) : u.1 ≤ (uX0 z).1 ∧ u.2.1 ≤ (uX0 z).2.1 := by
  unfold f_X4_readAttempt_64 at h
  obtain ⟨a1, ha1, hha1⟩ := mbind_n h
  subst ha1
  have h := hha1
  obtain ⟨c2, h⟩ := mif_n h
  rcases uxcallv_n h with ⟨a5, u6, c7, h⟩ | ⟨u3, c4, h⟩
  · have zu6 : u.1 ≤ u6.1 ∧ u.2.1 ≤ u6.2.1 := zz_X5_needs N (ub G) (ug G) u a1 (some ((ug G).2.1 25)) (.inl (a5, u6)) c7
    have hz := Option.some.inj h
    subst hz
    exact (show u.1 ≤ u6.1 ∧ u.2.1 ≤ u6.2.1 from ⟨by omega, by omega⟩)
  · have zu3 : u.1 ≤ u3.1 ∧ u.2.1 ≤ u3.2.1 := zz_X5_needs N (ub G) (ug G) u a1 (some ((ug G).2.1 25)) (.inr u3) c4
    have hq := zz_X4_readAttempt_72 (G := G) (a0 := a0) N u3 (some a1) x2 x3 s0 h
    exact ⟨by omega, by omega⟩
set_option maxHeartbeats 4000000 in
set_option maxRecDepth 100000 in
theorem w_X4_readAttempt_64 {p : Program} {l : Launch} {e : Env} {R : Room} {s : State} {m : MethodId} {args : Array Value} {below : List Frame} {meth : Method} {c : Code} {G : uG} {a0 : Nat} {u0 : UH} {z : (Nat × UH) ⊕ (UH)} (hC : uC p s m args meth c G RX4 cX4_readAttempt 5 none) (hE : c.exceptionTable.toList = []) (hR : 10 ≤ R.frames ∧ 260 ≤ R.locals) (hRm : (uX0 z).1 - u0.1 ≤ R.cells ∧ (uX0 z).2.1 - u0.2.1 ≤ R.slots) (N : Nat) (u : UH) (x1 : Option Nat) (x2 : Option Nat) (x3 : Int32) (s0 : Int32) (h : f_X4_readAttempt_64 N (ub G) (ug G) a0 u x1 x2 x3 s0 = some z) (hz0 : (u0.1 ≤ u.1 ∧ u0.2.1 ≤ u.2.1)) {H : Heap} {locs : List Loc} (hP : uP G u H) (hS : va_S (uA G) s.heap H locs) {ls : Array Slot} (hl : lv_has ls 5 [(0, va_rf (some a0)), (1, va_rf x1), (2, va_rf x2), (3, .int x3)]) : W p l e R s m args below meth c H locs (u.1 - u0.1) (u.2.1 - u0.2.1) (uMQv below G z args s ((uX0 z).1 - u0.1) ((uX0 z).2.1 - u0.2.1)) (F0 m 64 ls [.int s0]) := by
  obtain ⟨⟨hx, hb, hml, hown, hts⟩, hKK⟩ := id hC
  have hzf := zz_X4_readAttempt_64 (G := G) (a0 := a0) N u x1 x2 x3 s0 h
  unfold f_X4_readAttempt_64 at h
  refine lv_istore (lv' := [(4, .int s0), (0, va_rf (some a0)), (1, va_rf x1), (2, va_rf x2), (3, .int x3)]) hx hb dX4_readAttempt_64 hl (by decide) rfl (fun ls hl => ?_)
  refine u_aload_n (r := x1) hx hb dX4_readAttempt_66 rfl (lv_at hl 2 rfl) ?_
  refine u_ldcS hC 25 rfl dX4_readAttempt_67 ?_
  obtain ⟨a1, ha1, hha1⟩ := mbind_n h
  subst ha1
  have h := hha1
  obtain ⟨c2, h⟩ := mif_n h
  rcases uxcallv_n h with ⟨a5, u6, c7, h⟩ | ⟨u3, c4, h⟩
  · have zu6 : u.1 ≤ u6.1 ∧ u.2.1 ≤ u6.2.1 := zz_X5_needs N (ub G) (ug G) u a1 (some ((ug G).2.1 25)) (.inl (a5, u6)) c7
    have hz := Option.some.inj h
    subst hz
    have hRm : u6.1 - u0.1 ≤ R.cells ∧ u6.2.1 - u0.2.1 ≤ R.slots := hRm
    exact u_callX hC (u_noE hE) (u_runVX (As := [va_rf (some ((ug G).2.1 25))]) (rest := []) hC.1 (mex_X5_needs l N G u a1 (some ((ug G).2.1 25)) a5 u6 c7) (cwV 1 hts (lw_V q913 q914 q915 q105 q916) rfl rfl rfl (by decide +kernel) ⟨Nat.le_trans (Nat.le_of_ble_eq_true rfl) hR.1, Nat.le_trans (Nat.le_of_ble_eq_true rfl) hR.2⟩) ⟨uPc_blind, u_rcv hC hP c2 rfl, fun U hU hW => u_pre hC hP hS hU hW⟩ rfl rfl hl.1 rfl (lv_room (Nat.le_of_ble_eq_true rfl)) dX4_readAttempt_69 ⟨by omega, by omega⟩) hS (by show _ + _ = u6.1 - u0.1; omega) (by show _ + _ = u6.2.1 - u0.2.1; omega)
  · have zu3 : u.1 ≤ u3.1 ∧ u.2.1 ≤ u3.2.1 := zz_X5_needs N (ub G) (ug G) u a1 (some ((ug G).2.1 25)) (.inr u3) c4
    have hq := zz_X4_readAttempt_72 (G := G) (a0 := a0) N u3 (some a1) x2 x3 s0 h
    refine u_callv (va_runV (As := [va_rf (some ((ug G).2.1 25))]) (rest := []) hC.1 (met_X5_needs l N G u a1 (some ((ug G).2.1 25)) u3 c4) (cwV 1 hts (lw_V q913 q914 q915 q105 q916) rfl rfl rfl (by decide +kernel) ⟨Nat.le_trans (Nat.le_of_ble_eq_true rfl) hR.1, Nat.le_trans (Nat.le_of_ble_eq_true rfl) hR.2⟩) ⟨uPc_blind, u_rcv hC hP c2 rfl, fun U hU hW => u_pre hC hP hS hU hW⟩ rfl rfl hl.1 rfl (lv_room (Nat.le_of_ble_eq_true rfl)) dX4_readAttempt_69 ⟨by omega, by omega⟩) hS (fun H locs hP hS => ?_)
    refine W.cs (cells' := u3.1 - u0.1) (slots' := u3.2.1 - u0.2.1) (by omega) (by omega) ?_
    exact w_X4_readAttempt_72 hC hE hR hRm N u3 (some a1) x2 x3 s0 h ⟨by omega, by omega⟩ hP hS (lv_sub hl [1, 2, 3, 4, 0] rfl)
def f_X4_readAttempt_59 (N b : Nat) (g : uEnv) (a0 : Nat) (u : UH) (x1 : Option Nat) (x2 : Option Nat) (x3 : Int32) : Option ((Nat × UH) ⊕ (UH)) :=
    (x1).bind fun a1 =>
    if uIs u a1 4 = true then
    uxcall (f_X5_signed N b g u a1 4) (fun a6 u7 =>
    some (.inl (a6, u7))) fun r5 u3 =>
    f_X4_readAttempt_64 N b g a0 u3 (some a1) x2 x3 r5
    else none
set_option maxHeartbeats 4000000 in
set_option maxRecDepth 100000 in
theorem zz_X4_readAttempt_59 {G : uG} {a0 : Nat} {z : (Nat × UH) ⊕ (UH)} (N : Nat) (u : UH) (x1 : Option Nat) (x2 : Option Nat) (x3 : Int32) (h : f_X4_readAttempt_59 N (ub G) (ug G) a0 u x1 x2 x3 = some z) : u.1 ≤ (uX0 z).1 ∧ u.2.1 ≤ (uX0 z).2.1 := by
  unfold f_X4_readAttempt_59 at h
  obtain ⟨a1, ha1, hha1⟩ := mbind_n h
  subst ha1
  have h := hha1
  obtain ⟨c2, h⟩ := mif_n h
  rcases uxcall_n h with ⟨a6, u7, c8, h⟩ | ⟨r5, u3, c4, h⟩
  · have zu7 : u.1 ≤ u7.1 ∧ u.2.1 ≤ u7.2.1 := zz_X5_signed N (ub G) (ug G) u a1 4 (.inl (a6, u7)) c8
    have hz := Option.some.inj h
    subst hz
    exact (show u.1 ≤ u7.1 ∧ u.2.1 ≤ u7.2.1 from ⟨by omega, by omega⟩)
  · have zu3 : u.1 ≤ u3.1 ∧ u.2.1 ≤ u3.2.1 := zz_X5_signed N (ub G) (ug G) u a1 4 (.inr (r5, u3)) c4
    have hq := zz_X4_readAttempt_64 (G := G) (a0 := a0) N u3 (some a1) x2 x3 r5 h
    exact ⟨by omega, by omega⟩
set_option maxHeartbeats 4000000 in
set_option maxRecDepth 100000 in
theorem w_X4_readAttempt_59 {p : Program} {l : Launch} {e : Env} {R : Room} {s : State} {m : MethodId} {args : Array Value} {below : List Frame} {meth : Method} {c : Code} {G : uG} {a0 : Nat} {u0 : UH} {z : (Nat × UH) ⊕ (UH)} (hC : uC p s m args meth c G RX4 cX4_readAttempt 5 none) (hE : c.exceptionTable.toList = []) (hR : 10 ≤ R.frames ∧ 260 ≤ R.locals) (hRm : (uX0 z).1 - u0.1 ≤ R.cells ∧ (uX0 z).2.1 - u0.2.1 ≤ R.slots) (N : Nat) (u : UH) (x1 : Option Nat) (x2 : Option Nat) (x3 : Int32) (h : f_X4_readAttempt_59 N (ub G) (ug G) a0 u x1 x2 x3 = some z) (hz0 : (u0.1 ≤ u.1 ∧ u0.2.1 ≤ u.2.1)) {H : Heap} {locs : List Loc} (hP : uP G u H) (hS : va_S (uA G) s.heap H locs) {ls : Array Slot} (hl : lv_has ls 5 [(0, va_rf (some a0)), (1, va_rf x1), (2, va_rf x2), (3, .int x3)]) : W p l e R s m args below meth c H locs (u.1 - u0.1) (u.2.1 - u0.2.1) (uMQv below G z args s ((uX0 z).1 - u0.1) ((uX0 z).2.1 - u0.2.1)) (F0 m 59 ls []) := by
  obtain ⟨⟨hx, hb, hml, hown, hts⟩, hKK⟩ := id hC
  have hzf := zz_X4_readAttempt_59 (G := G) (a0 := a0) N u x1 x2 x3 h
  unfold f_X4_readAttempt_59 at h
  refine u_aload_n (r := x1) hx hb dX4_readAttempt_59 rfl (lv_at hl 1 rfl) ?_
  refine lv_iconst (v := 4) hx hb dX4_readAttempt_60 (by decide) ?_
  obtain ⟨a1, ha1, hha1⟩ := mbind_n h
  subst ha1
  have h := hha1
  obtain ⟨c2, h⟩ := mif_n h
  rcases uxcall_n h with ⟨a6, u7, c8, h⟩ | ⟨r5, u3, c4, h⟩
  · have zu7 : u.1 ≤ u7.1 ∧ u.2.1 ≤ u7.2.1 := zz_X5_signed N (ub G) (ug G) u a1 4 (.inl (a6, u7)) c8
    have hz := Option.some.inj h
    subst hz
    have hRm : u7.1 - u0.1 ≤ R.cells ∧ u7.2.1 - u0.2.1 ≤ R.slots := hRm
    exact u_callX hC (u_noE hE) (u_runVX (As := [.int 4]) (rest := []) hC.1 (mex_X5_signed l N G u a1 4 a6 u7 c8) (cwV 1 hts (lw_V q1019 q1020 q1021 q105 q1022) rfl rfl rfl (by decide +kernel) ⟨Nat.le_trans (Nat.le_of_ble_eq_true rfl) hR.1, Nat.le_trans (Nat.le_of_ble_eq_true rfl) hR.2⟩) ⟨uPc_blind, u_rcv hC hP c2 rfl, fun U hU hW => u_pre hC hP hS hU hW⟩ rfl rfl hl.1 rfl (lv_room (Nat.le_of_ble_eq_true rfl)) dX4_readAttempt_61 ⟨by omega, by omega⟩) hS (by show _ + _ = u7.1 - u0.1; omega) (by show _ + _ = u7.2.1 - u0.2.1; omega)
  · have zu3 : u.1 ≤ u3.1 ∧ u.2.1 ≤ u3.2.1 := zz_X5_signed N (ub G) (ug G) u a1 4 (.inr (r5, u3)) c4
    have hq := zz_X4_readAttempt_64 (G := G) (a0 := a0) N u3 (some a1) x2 x3 r5 h
    refine u_calli (va_runV (As := [.int 4]) (rest := []) hC.1 (met_X5_signed l N G u a1 4 r5 u3 c4) (cwV 1 hts (lw_V q1019 q1020 q1021 q105 q1022) rfl rfl rfl (by decide +kernel) ⟨Nat.le_trans (Nat.le_of_ble_eq_true rfl) hR.1, Nat.le_trans (Nat.le_of_ble_eq_true rfl) hR.2⟩) ⟨uPc_blind, u_rcv hC hP c2 rfl, fun U hU hW => u_pre hC hP hS hU hW⟩ rfl rfl hl.1 rfl (lv_room (Nat.le_of_ble_eq_true rfl)) dX4_readAttempt_61 ⟨by omega, by omega⟩) hS (fun H locs hP hS => ?_)
    refine W.cs (cells' := u3.1 - u0.1) (slots' := u3.2.1 - u0.2.1) (by omega) (by omega) ?_
    exact w_X4_readAttempt_64 hC hE hR hRm N u3 (some a1) x2 x3 r5 h ⟨by omega, by omega⟩ hP hS (lv_sub hl [0, 1, 2, 3] rfl)
def f_X4_readAttempt_52 (N b : Nat) (g : uEnv) (a0 : Nat) (u : UH) (x1 : Option Nat) (x2 : Option Nat) (s0 : Int32) : Option ((Nat × UH) ⊕ (UH)) :=
    (x1).bind fun a1 =>
    if uIs u a1 4 = true then
    uxcallv (f_X5_needs N b g u a1 (some (g.2.1 24))) (fun a5 u6 =>
    some (.inl (a5, u6))) fun u3 =>
    f_X4_readAttempt_59 N b g a0 u3 (some a1) x2 s0
    else none
set_option maxHeartbeats 4000000 in
set_option maxRecDepth 100000 in
theorem zz_X4_readAttempt_52 {G : uG} {a0 : Nat} {z : (Nat × UH) ⊕ (UH)} (N : Nat) (u : UH) (x1 : Option Nat) (x2 : Option Nat) (s0 : Int32) (h : f_X4_readAttempt_52 N (ub G) (ug G) a0 u x1 x2 s0 = some z) : u.1 ≤ (uX0 z).1 ∧ u.2.1 ≤ (uX0 z).2.1 := by
  unfold f_X4_readAttempt_52 at h
  obtain ⟨a1, ha1, hha1⟩ := mbind_n h
  subst ha1
  have h := hha1
  obtain ⟨c2, h⟩ := mif_n h
  rcases uxcallv_n h with ⟨a5, u6, c7, h⟩ | ⟨u3, c4, h⟩
  · have zu6 : u.1 ≤ u6.1 ∧ u.2.1 ≤ u6.2.1 := zz_X5_needs N (ub G) (ug G) u a1 (some ((ug G).2.1 24)) (.inl (a5, u6)) c7
    have hz := Option.some.inj h
    subst hz
    exact (show u.1 ≤ u6.1 ∧ u.2.1 ≤ u6.2.1 from ⟨by omega, by omega⟩)
  · have zu3 : u.1 ≤ u3.1 ∧ u.2.1 ≤ u3.2.1 := zz_X5_needs N (ub G) (ug G) u a1 (some ((ug G).2.1 24)) (.inr u3) c4
    have hq := zz_X4_readAttempt_59 (G := G) (a0 := a0) N u3 (some a1) x2 s0 h
    exact ⟨by omega, by omega⟩
set_option maxHeartbeats 4000000 in
set_option maxRecDepth 100000 in
theorem w_X4_readAttempt_52 {p : Program} {l : Launch} {e : Env} {R : Room} {s : State} {m : MethodId} {args : Array Value} {below : List Frame} {meth : Method} {c : Code} {G : uG} {a0 : Nat} {u0 : UH} {z : (Nat × UH) ⊕ (UH)} (hC : uC p s m args meth c G RX4 cX4_readAttempt 5 none) (hE : c.exceptionTable.toList = []) (hR : 10 ≤ R.frames ∧ 260 ≤ R.locals) (hRm : (uX0 z).1 - u0.1 ≤ R.cells ∧ (uX0 z).2.1 - u0.2.1 ≤ R.slots) (N : Nat) (u : UH) (x1 : Option Nat) (x2 : Option Nat) (s0 : Int32) (h : f_X4_readAttempt_52 N (ub G) (ug G) a0 u x1 x2 s0 = some z) (hz0 : (u0.1 ≤ u.1 ∧ u0.2.1 ≤ u.2.1)) {H : Heap} {locs : List Loc} (hP : uP G u H) (hS : va_S (uA G) s.heap H locs) {ls : Array Slot} (hl : lv_has ls 5 [(0, va_rf (some a0)), (1, va_rf x1), (2, va_rf x2)]) : W p l e R s m args below meth c H locs (u.1 - u0.1) (u.2.1 - u0.2.1) (uMQv below G z args s ((uX0 z).1 - u0.1) ((uX0 z).2.1 - u0.2.1)) (F0 m 52 ls [.int s0]) := by
  obtain ⟨⟨hx, hb, hml, hown, hts⟩, hKK⟩ := id hC
  have hzf := zz_X4_readAttempt_52 (G := G) (a0 := a0) N u x1 x2 s0 h
  unfold f_X4_readAttempt_52 at h
  refine lv_istore_n (i := 3) (lv' := [(3, .int s0), (0, va_rf (some a0)), (1, va_rf x1), (2, va_rf x2)]) hx hb dX4_readAttempt_52 rfl hl (by decide) (by simp [List.filter_cons, u_cat]) (fun ls hl => ?_)
  refine u_aload_n (r := x1) hx hb dX4_readAttempt_53 rfl (lv_at hl 2 rfl) ?_
  refine u_ldcS hC 24 rfl dX4_readAttempt_54 ?_
  obtain ⟨a1, ha1, hha1⟩ := mbind_n h
  subst ha1
  have h := hha1
  obtain ⟨c2, h⟩ := mif_n h
  rcases uxcallv_n h with ⟨a5, u6, c7, h⟩ | ⟨u3, c4, h⟩
  · have zu6 : u.1 ≤ u6.1 ∧ u.2.1 ≤ u6.2.1 := zz_X5_needs N (ub G) (ug G) u a1 (some ((ug G).2.1 24)) (.inl (a5, u6)) c7
    have hz := Option.some.inj h
    subst hz
    have hRm : u6.1 - u0.1 ≤ R.cells ∧ u6.2.1 - u0.2.1 ≤ R.slots := hRm
    exact u_callX hC (u_noE hE) (u_runVX (As := [va_rf (some ((ug G).2.1 24))]) (rest := []) hC.1 (mex_X5_needs l N G u a1 (some ((ug G).2.1 24)) a5 u6 c7) (cwV 1 hts (lw_V q913 q914 q915 q105 q916) rfl rfl rfl (by decide +kernel) ⟨Nat.le_trans (Nat.le_of_ble_eq_true rfl) hR.1, Nat.le_trans (Nat.le_of_ble_eq_true rfl) hR.2⟩) ⟨uPc_blind, u_rcv hC hP c2 rfl, fun U hU hW => u_pre hC hP hS hU hW⟩ rfl rfl hl.1 rfl (lv_room (Nat.le_of_ble_eq_true rfl)) dX4_readAttempt_56 ⟨by omega, by omega⟩) hS (by show _ + _ = u6.1 - u0.1; omega) (by show _ + _ = u6.2.1 - u0.2.1; omega)
  · have zu3 : u.1 ≤ u3.1 ∧ u.2.1 ≤ u3.2.1 := zz_X5_needs N (ub G) (ug G) u a1 (some ((ug G).2.1 24)) (.inr u3) c4
    have hq := zz_X4_readAttempt_59 (G := G) (a0 := a0) N u3 (some a1) x2 s0 h
    refine u_callv (va_runV (As := [va_rf (some ((ug G).2.1 24))]) (rest := []) hC.1 (met_X5_needs l N G u a1 (some ((ug G).2.1 24)) u3 c4) (cwV 1 hts (lw_V q913 q914 q915 q105 q916) rfl rfl rfl (by decide +kernel) ⟨Nat.le_trans (Nat.le_of_ble_eq_true rfl) hR.1, Nat.le_trans (Nat.le_of_ble_eq_true rfl) hR.2⟩) ⟨uPc_blind, u_rcv hC hP c2 rfl, fun U hU hW => u_pre hC hP hS hU hW⟩ rfl rfl hl.1 rfl (lv_room (Nat.le_of_ble_eq_true rfl)) dX4_readAttempt_56 ⟨by omega, by omega⟩) hS (fun H locs hP hS => ?_)
    refine W.cs (cells' := u3.1 - u0.1) (slots' := u3.2.1 - u0.2.1) (by omega) (by omega) ?_
    exact w_X4_readAttempt_59 hC hE hR hRm N u3 (some a1) x2 s0 h ⟨by omega, by omega⟩ hP hS (lv_sub hl [1, 2, 3, 0] rfl)
def f_X4_readAttempt_47 (N b : Nat) (g : uEnv) (a0 : Nat) (u : UH) (x1 : Option Nat) (x2 : Option Nat) : Option ((Nat × UH) ⊕ (UH)) :=
    (x1).bind fun a1 =>
    if uIs u a1 4 = true then
    uxcall (f_X5_signed N b g u a1 4) (fun a6 u7 =>
    some (.inl (a6, u7))) fun r5 u3 =>
    f_X4_readAttempt_52 N b g a0 u3 (some a1) x2 r5
    else none
set_option maxHeartbeats 4000000 in
set_option maxRecDepth 100000 in
theorem zz_X4_readAttempt_47 {G : uG} {a0 : Nat} {z : (Nat × UH) ⊕ (UH)} (N : Nat) (u : UH) (x1 : Option Nat) (x2 : Option Nat) (h : f_X4_readAttempt_47 N (ub G) (ug G) a0 u x1 x2 = some z) : u.1 ≤ (uX0 z).1 ∧ u.2.1 ≤ (uX0 z).2.1 := by
  unfold f_X4_readAttempt_47 at h
  obtain ⟨a1, ha1, hha1⟩ := mbind_n h
  subst ha1
  have h := hha1
  obtain ⟨c2, h⟩ := mif_n h
  rcases uxcall_n h with ⟨a6, u7, c8, h⟩ | ⟨r5, u3, c4, h⟩
  · have zu7 : u.1 ≤ u7.1 ∧ u.2.1 ≤ u7.2.1 := zz_X5_signed N (ub G) (ug G) u a1 4 (.inl (a6, u7)) c8
    have hz := Option.some.inj h
    subst hz
    exact (show u.1 ≤ u7.1 ∧ u.2.1 ≤ u7.2.1 from ⟨by omega, by omega⟩)
  · have zu3 : u.1 ≤ u3.1 ∧ u.2.1 ≤ u3.2.1 := zz_X5_signed N (ub G) (ug G) u a1 4 (.inr (r5, u3)) c4
    have hq := zz_X4_readAttempt_52 (G := G) (a0 := a0) N u3 (some a1) x2 r5 h
    exact ⟨by omega, by omega⟩
set_option maxHeartbeats 4000000 in
set_option maxRecDepth 100000 in
theorem w_X4_readAttempt_47 {p : Program} {l : Launch} {e : Env} {R : Room} {s : State} {m : MethodId} {args : Array Value} {below : List Frame} {meth : Method} {c : Code} {G : uG} {a0 : Nat} {u0 : UH} {z : (Nat × UH) ⊕ (UH)} (hC : uC p s m args meth c G RX4 cX4_readAttempt 5 none) (hE : c.exceptionTable.toList = []) (hR : 10 ≤ R.frames ∧ 260 ≤ R.locals) (hRm : (uX0 z).1 - u0.1 ≤ R.cells ∧ (uX0 z).2.1 - u0.2.1 ≤ R.slots) (N : Nat) (u : UH) (x1 : Option Nat) (x2 : Option Nat) (h : f_X4_readAttempt_47 N (ub G) (ug G) a0 u x1 x2 = some z) (hz0 : (u0.1 ≤ u.1 ∧ u0.2.1 ≤ u.2.1)) {H : Heap} {locs : List Loc} (hP : uP G u H) (hS : va_S (uA G) s.heap H locs) {ls : Array Slot} (hl : lv_has ls 5 [(0, va_rf (some a0)), (1, va_rf x1), (2, va_rf x2)]) : W p l e R s m args below meth c H locs (u.1 - u0.1) (u.2.1 - u0.2.1) (uMQv below G z args s ((uX0 z).1 - u0.1) ((uX0 z).2.1 - u0.2.1)) (F0 m 47 ls []) := by
  obtain ⟨⟨hx, hb, hml, hown, hts⟩, hKK⟩ := id hC
  have hzf := zz_X4_readAttempt_47 (G := G) (a0 := a0) N u x1 x2 h
  unfold f_X4_readAttempt_47 at h
  refine u_aload_n (r := x1) hx hb dX4_readAttempt_47 rfl (lv_at hl 1 rfl) ?_
  refine lv_iconst (v := 4) hx hb dX4_readAttempt_48 (by decide) ?_
  obtain ⟨a1, ha1, hha1⟩ := mbind_n h
  subst ha1
  have h := hha1
  obtain ⟨c2, h⟩ := mif_n h
  rcases uxcall_n h with ⟨a6, u7, c8, h⟩ | ⟨r5, u3, c4, h⟩
  · have zu7 : u.1 ≤ u7.1 ∧ u.2.1 ≤ u7.2.1 := zz_X5_signed N (ub G) (ug G) u a1 4 (.inl (a6, u7)) c8
    have hz := Option.some.inj h
    subst hz
    have hRm : u7.1 - u0.1 ≤ R.cells ∧ u7.2.1 - u0.2.1 ≤ R.slots := hRm
    exact u_callX hC (u_noE hE) (u_runVX (As := [.int 4]) (rest := []) hC.1 (mex_X5_signed l N G u a1 4 a6 u7 c8) (cwV 1 hts (lw_V q1019 q1020 q1021 q105 q1022) rfl rfl rfl (by decide +kernel) ⟨Nat.le_trans (Nat.le_of_ble_eq_true rfl) hR.1, Nat.le_trans (Nat.le_of_ble_eq_true rfl) hR.2⟩) ⟨uPc_blind, u_rcv hC hP c2 rfl, fun U hU hW => u_pre hC hP hS hU hW⟩ rfl rfl hl.1 rfl (lv_room (Nat.le_of_ble_eq_true rfl)) dX4_readAttempt_49 ⟨by omega, by omega⟩) hS (by show _ + _ = u7.1 - u0.1; omega) (by show _ + _ = u7.2.1 - u0.2.1; omega)
  · have zu3 : u.1 ≤ u3.1 ∧ u.2.1 ≤ u3.2.1 := zz_X5_signed N (ub G) (ug G) u a1 4 (.inr (r5, u3)) c4
    have hq := zz_X4_readAttempt_52 (G := G) (a0 := a0) N u3 (some a1) x2 r5 h
    refine u_calli (va_runV (As := [.int 4]) (rest := []) hC.1 (met_X5_signed l N G u a1 4 r5 u3 c4) (cwV 1 hts (lw_V q1019 q1020 q1021 q105 q1022) rfl rfl rfl (by decide +kernel) ⟨Nat.le_trans (Nat.le_of_ble_eq_true rfl) hR.1, Nat.le_trans (Nat.le_of_ble_eq_true rfl) hR.2⟩) ⟨uPc_blind, u_rcv hC hP c2 rfl, fun U hU hW => u_pre hC hP hS hU hW⟩ rfl rfl hl.1 rfl (lv_room (Nat.le_of_ble_eq_true rfl)) dX4_readAttempt_49 ⟨by omega, by omega⟩) hS (fun H locs hP hS => ?_)
    refine W.cs (cells' := u3.1 - u0.1) (slots' := u3.2.1 - u0.2.1) (by omega) (by omega) ?_
    exact w_X4_readAttempt_52 hC hE hR hRm N u3 (some a1) x2 r5 h ⟨by omega, by omega⟩ hP hS (lv_sub hl [0, 1, 2] rfl)
def f_X4_readAttempt_41 (N b : Nat) (g : uEnv) (a0 : Nat) (u : UH) (x1 : Option Nat) (x2 : Option Nat) : Option ((Nat × UH) ⊕ (UH)) :=
    (x1).bind fun a1 =>
    if uIs u a1 4 = true then
    uxcallv (f_X5_needs N b g u a1 (some (g.2.1 22))) (fun a5 u6 =>
    some (.inl (a5, u6))) fun u3 =>
    f_X4_readAttempt_47 N b g a0 u3 (some a1) x2
    else none
set_option maxHeartbeats 4000000 in
set_option maxRecDepth 100000 in
theorem zz_X4_readAttempt_41 {G : uG} {a0 : Nat} {z : (Nat × UH) ⊕ (UH)} (N : Nat) (u : UH) (x1 : Option Nat) (x2 : Option Nat) (h : f_X4_readAttempt_41 N (ub G) (ug G) a0 u x1 x2 = some z) : u.1 ≤ (uX0 z).1 ∧ u.2.1 ≤ (uX0 z).2.1 := by
  unfold f_X4_readAttempt_41 at h
  obtain ⟨a1, ha1, hha1⟩ := mbind_n h
  subst ha1
  have h := hha1
  obtain ⟨c2, h⟩ := mif_n h
  rcases uxcallv_n h with ⟨a5, u6, c7, h⟩ | ⟨u3, c4, h⟩
  · have zu6 : u.1 ≤ u6.1 ∧ u.2.1 ≤ u6.2.1 := zz_X5_needs N (ub G) (ug G) u a1 (some ((ug G).2.1 22)) (.inl (a5, u6)) c7
    have hz := Option.some.inj h
    subst hz
    exact (show u.1 ≤ u6.1 ∧ u.2.1 ≤ u6.2.1 from ⟨by omega, by omega⟩)
  · have zu3 : u.1 ≤ u3.1 ∧ u.2.1 ≤ u3.2.1 := zz_X5_needs N (ub G) (ug G) u a1 (some ((ug G).2.1 22)) (.inr u3) c4
    have hq := zz_X4_readAttempt_47 (G := G) (a0 := a0) N u3 (some a1) x2 h
    exact ⟨by omega, by omega⟩
set_option maxHeartbeats 4000000 in
set_option maxRecDepth 100000 in
theorem w_X4_readAttempt_41 {p : Program} {l : Launch} {e : Env} {R : Room} {s : State} {m : MethodId} {args : Array Value} {below : List Frame} {meth : Method} {c : Code} {G : uG} {a0 : Nat} {u0 : UH} {z : (Nat × UH) ⊕ (UH)} (hC : uC p s m args meth c G RX4 cX4_readAttempt 5 none) (hE : c.exceptionTable.toList = []) (hR : 10 ≤ R.frames ∧ 260 ≤ R.locals) (hRm : (uX0 z).1 - u0.1 ≤ R.cells ∧ (uX0 z).2.1 - u0.2.1 ≤ R.slots) (N : Nat) (u : UH) (x1 : Option Nat) (x2 : Option Nat) (h : f_X4_readAttempt_41 N (ub G) (ug G) a0 u x1 x2 = some z) (hz0 : (u0.1 ≤ u.1 ∧ u0.2.1 ≤ u.2.1)) {H : Heap} {locs : List Loc} (hP : uP G u H) (hS : va_S (uA G) s.heap H locs) {ls : Array Slot} (hl : lv_has ls 5 [(0, va_rf (some a0)), (1, va_rf x1), (2, va_rf x2)]) : W p l e R s m args below meth c H locs (u.1 - u0.1) (u.2.1 - u0.2.1) (uMQv below G z args s ((uX0 z).1 - u0.1) ((uX0 z).2.1 - u0.2.1)) (F0 m 41 ls []) := by
  obtain ⟨⟨hx, hb, hml, hown, hts⟩, hKK⟩ := id hC
  have hzf := zz_X4_readAttempt_41 (G := G) (a0 := a0) N u x1 x2 h
  unfold f_X4_readAttempt_41 at h
  refine u_aload_n (r := x1) hx hb dX4_readAttempt_41 rfl (lv_at hl 1 rfl) ?_
  refine u_ldcS hC 22 rfl dX4_readAttempt_42 ?_
  obtain ⟨a1, ha1, hha1⟩ := mbind_n h
  subst ha1
  have h := hha1
  obtain ⟨c2, h⟩ := mif_n h
  rcases uxcallv_n h with ⟨a5, u6, c7, h⟩ | ⟨u3, c4, h⟩
  · have zu6 : u.1 ≤ u6.1 ∧ u.2.1 ≤ u6.2.1 := zz_X5_needs N (ub G) (ug G) u a1 (some ((ug G).2.1 22)) (.inl (a5, u6)) c7
    have hz := Option.some.inj h
    subst hz
    have hRm : u6.1 - u0.1 ≤ R.cells ∧ u6.2.1 - u0.2.1 ≤ R.slots := hRm
    exact u_callX hC (u_noE hE) (u_runVX (As := [va_rf (some ((ug G).2.1 22))]) (rest := []) hC.1 (mex_X5_needs l N G u a1 (some ((ug G).2.1 22)) a5 u6 c7) (cwV 1 hts (lw_V q913 q914 q915 q105 q916) rfl rfl rfl (by decide +kernel) ⟨Nat.le_trans (Nat.le_of_ble_eq_true rfl) hR.1, Nat.le_trans (Nat.le_of_ble_eq_true rfl) hR.2⟩) ⟨uPc_blind, u_rcv hC hP c2 rfl, fun U hU hW => u_pre hC hP hS hU hW⟩ rfl rfl hl.1 rfl (lv_room (Nat.le_of_ble_eq_true rfl)) dX4_readAttempt_44 ⟨by omega, by omega⟩) hS (by show _ + _ = u6.1 - u0.1; omega) (by show _ + _ = u6.2.1 - u0.2.1; omega)
  · have zu3 : u.1 ≤ u3.1 ∧ u.2.1 ≤ u3.2.1 := zz_X5_needs N (ub G) (ug G) u a1 (some ((ug G).2.1 22)) (.inr u3) c4
    have hq := zz_X4_readAttempt_47 (G := G) (a0 := a0) N u3 (some a1) x2 h
    refine u_callv (va_runV (As := [va_rf (some ((ug G).2.1 22))]) (rest := []) hC.1 (met_X5_needs l N G u a1 (some ((ug G).2.1 22)) u3 c4) (cwV 1 hts (lw_V q913 q914 q915 q105 q916) rfl rfl rfl (by decide +kernel) ⟨Nat.le_trans (Nat.le_of_ble_eq_true rfl) hR.1, Nat.le_trans (Nat.le_of_ble_eq_true rfl) hR.2⟩) ⟨uPc_blind, u_rcv hC hP c2 rfl, fun U hU hW => u_pre hC hP hS hU hW⟩ rfl rfl hl.1 rfl (lv_room (Nat.le_of_ble_eq_true rfl)) dX4_readAttempt_44 ⟨by omega, by omega⟩) hS (fun H locs hP hS => ?_)
    refine W.cs (cells' := u3.1 - u0.1) (slots' := u3.2.1 - u0.2.1) (by omega) (by omega) ?_
    exact w_X4_readAttempt_47 hC hE hR hRm N u3 (some a1) x2 h ⟨by omega, by omega⟩ hP hS (lv_sub hl [0, 1, 2] rfl)
def f_X4_readAttempt_36 (N b : Nat) (g : uEnv) (a0 : Nat) (u : UH) (s0 : Option Nat) : Option ((Nat × UH) ⊕ (UH)) :=
    (s0).bind fun a1 =>
    some (.inl (a1, u))
set_option maxHeartbeats 4000000 in
set_option maxRecDepth 100000 in
theorem zz_X4_readAttempt_36 {G : uG} {a0 : Nat} {z : (Nat × UH) ⊕ (UH)} (N : Nat) (u : UH) (s0 : Option Nat) (h : f_X4_readAttempt_36 N (ub G) (ug G) a0 u s0 = some z) : u.1 ≤ (uX0 z).1 ∧ u.2.1 ≤ (uX0 z).2.1 := by
  unfold f_X4_readAttempt_36 at h
  obtain ⟨a1, ha1, hha1⟩ := mbind_n h
  subst ha1
  have h := hha1
  have hz := Option.some.inj h
  subst hz
  exact (show u.1 ≤ u.1 ∧ u.2.1 ≤ u.2.1 from ⟨by omega, by omega⟩)
set_option maxHeartbeats 4000000 in
set_option maxRecDepth 100000 in
theorem w_X4_readAttempt_36 {p : Program} {l : Launch} {e : Env} {R : Room} {s : State} {m : MethodId} {args : Array Value} {below : List Frame} {meth : Method} {c : Code} {G : uG} {a0 : Nat} {u0 : UH} {z : (Nat × UH) ⊕ (UH)} (hC : uC p s m args meth c G RX4 cX4_readAttempt 5 none) (hE : c.exceptionTable.toList = []) (hR : 10 ≤ R.frames ∧ 260 ≤ R.locals) (hRm : (uX0 z).1 - u0.1 ≤ R.cells ∧ (uX0 z).2.1 - u0.2.1 ≤ R.slots) (N : Nat) (u : UH) (s0 : Option Nat) (h : f_X4_readAttempt_36 N (ub G) (ug G) a0 u s0 = some z) (hz0 : (u0.1 ≤ u.1 ∧ u0.2.1 ≤ u.2.1)) {H : Heap} {locs : List Loc} (hP : uP G u H) (hS : va_S (uA G) s.heap H locs) {ls : Array Slot} (hl : lv_has ls 5 []) : W p l e R s m args below meth c H locs (u.1 - u0.1) (u.2.1 - u0.2.1) (uMQv below G z args s ((uX0 z).1 - u0.1) ((uX0 z).2.1 - u0.2.1)) (F0 m 36 ls [va_rf s0]) := by
  obtain ⟨⟨hx, hb, hml, hown, hts⟩, hKK⟩ := id hC
  have hzf := zz_X4_readAttempt_36 (G := G) (a0 := a0) N u s0 h
  unfold f_X4_readAttempt_36 at h
  obtain ⟨a1, ha1, hha1⟩ := mbind_n h
  subst ha1
  have h := hha1
  have hz := Option.some.inj h
  subst hz
  exact u_athrow hC (u_noE hE) hP hS dX4_readAttempt_36
def f_X4_readAttempt_18 (N b : Nat) (g : uEnv) (a0 : Nat) (u : UH) (s0 : Option Nat) : Option ((Nat × UH) ⊕ (UH)) :=
    (s0).bind fun a1 =>
    some (.inl (a1, u))
set_option maxHeartbeats 4000000 in
set_option maxRecDepth 100000 in
theorem zz_X4_readAttempt_18 {G : uG} {a0 : Nat} {z : (Nat × UH) ⊕ (UH)} (N : Nat) (u : UH) (s0 : Option Nat) (h : f_X4_readAttempt_18 N (ub G) (ug G) a0 u s0 = some z) : u.1 ≤ (uX0 z).1 ∧ u.2.1 ≤ (uX0 z).2.1 := by
  unfold f_X4_readAttempt_18 at h
  obtain ⟨a1, ha1, hha1⟩ := mbind_n h
  subst ha1
  have h := hha1
  have hz := Option.some.inj h
  subst hz
  exact (show u.1 ≤ u.1 ∧ u.2.1 ≤ u.2.1 from ⟨by omega, by omega⟩)
set_option maxHeartbeats 4000000 in
set_option maxRecDepth 100000 in
theorem w_X4_readAttempt_18 {p : Program} {l : Launch} {e : Env} {R : Room} {s : State} {m : MethodId} {args : Array Value} {below : List Frame} {meth : Method} {c : Code} {G : uG} {a0 : Nat} {u0 : UH} {z : (Nat × UH) ⊕ (UH)} (hC : uC p s m args meth c G RX4 cX4_readAttempt 5 none) (hE : c.exceptionTable.toList = []) (hR : 10 ≤ R.frames ∧ 260 ≤ R.locals) (hRm : (uX0 z).1 - u0.1 ≤ R.cells ∧ (uX0 z).2.1 - u0.2.1 ≤ R.slots) (N : Nat) (u : UH) (s0 : Option Nat) (h : f_X4_readAttempt_18 N (ub G) (ug G) a0 u s0 = some z) (hz0 : (u0.1 ≤ u.1 ∧ u0.2.1 ≤ u.2.1)) {H : Heap} {locs : List Loc} (hP : uP G u H) (hS : va_S (uA G) s.heap H locs) {ls : Array Slot} (hl : lv_has ls 5 []) : W p l e R s m args below meth c H locs (u.1 - u0.1) (u.2.1 - u0.2.1) (uMQv below G z args s ((uX0 z).1 - u0.1) ((uX0 z).2.1 - u0.2.1)) (F0 m 18 ls [va_rf s0]) := by
  obtain ⟨⟨hx, hb, hml, hown, hts⟩, hKK⟩ := id hC
  have hzf := zz_X4_readAttempt_18 (G := G) (a0 := a0) N u s0 h
  unfold f_X4_readAttempt_18 at h
  obtain ⟨a1, ha1, hha1⟩ := mbind_n h
  subst ha1
  have h := hha1
  have hz := Option.some.inj h
  subst hz
  exact u_athrow hC (u_noE hE) hP hS dX4_readAttempt_18
def f_X4_readAttempt_4 (N b : Nat) (g : uEnv) (a0 : Nat) (u : UH) (x1 : Option Nat) (s0 : Option Nat) : Option ((Nat × UH) ⊕ (UH)) :=
    if uIs u a0 3 = true then
    ucall (f_X4_hasAttempt N b g u a0 s0) fun r4 u2 =>
    if r4 = 0 then
    (uGR u2 a0 3 1).bind fun o6 =>
    (o6).bind fun a7 =>
    if uIs u2 a7 18 = true then
    ucall (f_J2_size N b g u2 a7) fun r11 u9 =>
    if r11 = 6 then
    (x1).bind fun a17 =>
    if uIs u9 a17 4 = true then
    ucall (f_X5_fault N b g u9 a17 5) fun o21 u19 =>
    f_X4_readAttempt_36 N b g a0 u19 o21
    else none
    else
    (x1).bind fun a13 =>
    if uIs u9 a13 4 = true then
    (f_X5_next N b g u9 a13).bind fun u15 =>
    f_X4_readAttempt_41 N b g a0 u15 (some a13) s0
    else none
    else none
    else
    (x1).bind fun a22 =>
    if uIs u2 a22 4 = true then
    ucall (f_X5_fault N b g u2 a22 3) fun o26 u24 =>
    f_X4_readAttempt_18 N b g a0 u24 o26
    else none
    else none
set_option maxHeartbeats 4000000 in
set_option maxRecDepth 100000 in
theorem zz_X4_readAttempt_4 {G : uG} {a0 : Nat} {z : (Nat × UH) ⊕ (UH)} (N : Nat) (u : UH) (x1 : Option Nat) (s0 : Option Nat) (h : f_X4_readAttempt_4 N (ub G) (ug G) a0 u x1 s0 = some z) : u.1 ≤ (uX0 z).1 ∧ u.2.1 ≤ (uX0 z).2.1 := by
  unfold f_X4_readAttempt_4 at h
  obtain ⟨c1, h⟩ := mif_n h
  obtain ⟨r4, u2, c3, h⟩ := ucall_n h
  have zu2 := zz_X4_hasAttempt N (ub G) (ug G) u a0 s0 r4 u2 c3
  by_cases c5 : r4 = 0
  · have h := mif_t c5 h
    obtain ⟨o6, ho6, h⟩ := mbind_n h
    obtain ⟨a7, ha7, hha7⟩ := mbind_n h
    subst ha7
    have h := hha7
    obtain ⟨c8, h⟩ := mif_n h
    obtain ⟨r11, u9, c10, h⟩ := ucall_n h
    have zu9 := zz_J2_size N (ub G) (ug G) u2 a7 r11 u9 c10
    by_cases c12 : r11 = 6
    · have h := mif_t c12 h
      obtain ⟨a17, ha17, hha17⟩ := mbind_n h
      subst ha17
      have h := hha17
      obtain ⟨c18, h⟩ := mif_n h
      obtain ⟨o21, u19, c20, h⟩ := ucall_n h
      have zu19 := zz_X5_fault N (ub G) (ug G) u9 a17 5 o21 u19 c20
      have hq := zz_X4_readAttempt_36 (G := G) (a0 := a0) N u19 o21 h
      exact ⟨by omega, by omega⟩
    · have h := mif_f c12 h
      obtain ⟨a13, ha13, hha13⟩ := mbind_n h
      subst ha13
      have h := hha13
      obtain ⟨c14, h⟩ := mif_n h
      obtain ⟨u15, c16, h⟩ := mbind_n h
      have zu15 := zz_X5_next N (ub G) (ug G) u9 a13 u15 c16
      have hq := zz_X4_readAttempt_41 (G := G) (a0 := a0) N u15 (some a13) s0 h
      exact ⟨by omega, by omega⟩
  · have h := mif_f c5 h
    obtain ⟨a22, ha22, hha22⟩ := mbind_n h
    subst ha22
    have h := hha22
    obtain ⟨c23, h⟩ := mif_n h
    obtain ⟨o26, u24, c25, h⟩ := ucall_n h
    have zu24 := zz_X5_fault N (ub G) (ug G) u2 a22 3 o26 u24 c25
    have hq := zz_X4_readAttempt_18 (G := G) (a0 := a0) N u24 o26 h
    exact ⟨by omega, by omega⟩
set_option maxHeartbeats 4000000 in
set_option maxRecDepth 100000 in
theorem w_X4_readAttempt_4 {p : Program} {l : Launch} {e : Env} {R : Room} {s : State} {m : MethodId} {args : Array Value} {below : List Frame} {meth : Method} {c : Code} {G : uG} {a0 : Nat} {u0 : UH} {z : (Nat × UH) ⊕ (UH)} (hC : uC p s m args meth c G RX4 cX4_readAttempt 5 none) (hE : c.exceptionTable.toList = []) (hR : 10 ≤ R.frames ∧ 260 ≤ R.locals) (hRm : (uX0 z).1 - u0.1 ≤ R.cells ∧ (uX0 z).2.1 - u0.2.1 ≤ R.slots) (N : Nat) (u : UH) (x1 : Option Nat) (s0 : Option Nat) (h : f_X4_readAttempt_4 N (ub G) (ug G) a0 u x1 s0 = some z) (hz0 : (u0.1 ≤ u.1 ∧ u0.2.1 ≤ u.2.1)) {H : Heap} {locs : List Loc} (hP : uP G u H) (hS : va_S (uA G) s.heap H locs) {ls : Array Slot} (hl : lv_has ls 5 [(0, va_rf (some a0)), (1, va_rf x1)]) : W p l e R s m args below meth c H locs (u.1 - u0.1) (u.2.1 - u0.2.1) (uMQv below G z args s ((uX0 z).1 - u0.1) ((uX0 z).2.1 - u0.2.1)) (F0 m 4 ls [va_rf s0]) := by
  obtain ⟨⟨hx, hb, hml, hown, hts⟩, hKK⟩ := id hC
  have hzf := zz_X4_readAttempt_4 (G := G) (a0 := a0) N u x1 s0 h
  unfold f_X4_readAttempt_4 at h
  refine u_astore_n (i := 2) (r := s0) (lv' := [(2, va_rf s0), (0, va_rf (some a0)), (1, va_rf x1)]) hx hb dX4_readAttempt_4 rfl hl (by decide) (by simp [List.filter_cons, u_cat]) (fun ls hl => ?_)
  refine u_aload_n (r := some a0) hx hb dX4_readAttempt_5 rfl (lv_at hl 1 rfl) ?_
  refine u_aload_n (r := s0) hx hb dX4_readAttempt_6 rfl (lv_at hl 0 rfl) ?_
  obtain ⟨c1, h⟩ := mif_n h
  obtain ⟨r4, u2, c3, h⟩ := ucall_n h
  have zu2 := zz_X4_hasAttempt N (ub G) (ug G) u a0 s0 r4 u2 c3
  refine u_calli (va_runV (As := [va_rf s0]) (rest := []) hC.1 (met_X4_hasAttempt l N G u a0 s0 r4 u2 c3) (cwV 1 hts (lw_V q1009 q1011 qs12 q104 q1012) rfl rfl rfl (by decide +kernel) ⟨Nat.le_trans (Nat.le_of_ble_eq_true rfl) hR.1, Nat.le_trans (Nat.le_of_ble_eq_true rfl) hR.2⟩) ⟨uPc_blind, u_rcv hC hP c1 rfl, fun U hU hW => u_pre hC hP hS hU hW⟩ rfl rfl hl.1 rfl (lv_room (Nat.le_of_ble_eq_true rfl)) dX4_readAttempt_7 ⟨by omega, by omega⟩) hS (fun H locs hP hS => ?_)
  refine W.cs (cells' := u2.1 - u0.1) (slots' := u2.2.1 - u0.2.1) (by omega) (by omega) ?_
  refine lv_if_eq (tgt := 19) hx hb dX4_readAttempt_10 (by decide) (fun c5 => ?_) (fun c5 => ?_)
  · have h := mif_t c5 h
    refine u_aload_n (r := some a0) hx hb dX4_readAttempt_19 rfl (lv_at hl 1 rfl) ?_
    obtain ⟨o6, ho6, h⟩ := mbind_n h
    refine u_get hC hP (uGR_n ho6) rfl in_X4 (by decide) q292 (fun _ h => h) dX4_readAttempt_20 ?_
    obtain ⟨a7, ha7, hha7⟩ := mbind_n h
    subst ha7
    have h := hha7
    obtain ⟨c8, h⟩ := mif_n h
    obtain ⟨r11, u9, c10, h⟩ := ucall_n h
    have zu9 := zz_J2_size N (ub G) (ug G) u2 a7 r11 u9 c10
    refine u_calli (va_runV (As := []) (rest := []) hC.1 (met_J2_size l N G u2 a7 r11 u9 c10) (cwV 0 hts (lw_V q893 q894 q895 q102 q896) rfl rfl rfl (by decide +kernel) ⟨Nat.le_trans (Nat.le_of_ble_eq_true rfl) hR.1, Nat.le_trans (Nat.le_of_ble_eq_true rfl) hR.2⟩) ⟨uPc_blind, u_rcv hC hP c8 rfl, fun U hU hW => u_pre hC hP hS hU hW⟩ rfl rfl hl.1 rfl (lv_room (Nat.le_of_ble_eq_true rfl)) dX4_readAttempt_23 ⟨by omega, by omega⟩) hS (fun H locs hP hS => ?_)
    refine W.cs (cells' := u9.1 - u0.1) (slots' := u9.2.1 - u0.2.1) (by omega) (by omega) ?_
    refine lv_bipush (v := 6) hx hb dX4_readAttempt_26 (by decide) ?_
    refine lv_icmp_ne (tgt := 37) hx hb dX4_readAttempt_28 (by decide) (fun c12 => ?_) (fun c12 => ?_)
    · have h := mif_f c12 h
      refine u_aload_n (r := x1) hx hb dX4_readAttempt_37 rfl (lv_at hl 2 rfl) ?_
      obtain ⟨a13, ha13, hha13⟩ := mbind_n h
      subst ha13
      have h := hha13
      obtain ⟨c14, h⟩ := mif_n h
      obtain ⟨u15, c16, h⟩ := mbind_n h
      have zu15 := zz_X5_next N (ub G) (ug G) u9 a13 u15 c16
      have hq := zz_X4_readAttempt_41 (G := G) (a0 := a0) N u15 (some a13) s0 h
      refine u_callv (va_runV (As := []) (rest := []) hC.1 (met_X5_next l N G u9 a13 u15 c16) (cwV 0 hts (lw_V q911 q340 q341 q105 q342) rfl rfl rfl (by decide +kernel) ⟨Nat.le_trans (Nat.le_of_ble_eq_true rfl) hR.1, Nat.le_trans (Nat.le_of_ble_eq_true rfl) hR.2⟩) ⟨uPc_blind, u_rcv hC hP c14 rfl, fun U hU hW => u_pre hC hP hS hU hW⟩ rfl rfl hl.1 rfl (lv_room (Nat.le_of_ble_eq_true rfl)) dX4_readAttempt_38 ⟨by omega, by omega⟩) hS (fun H locs hP hS => ?_)
      refine W.cs (cells' := u15.1 - u0.1) (slots' := u15.2.1 - u0.2.1) (by omega) (by omega) ?_
      refine W.cs (cells' := u15.1 - u0.1) (slots' := u15.2.1 - u0.2.1) (by omega) (by omega) ?_
      exact w_X4_readAttempt_41 hC hE hR hRm N u15 (some a13) s0 h ⟨by omega, by omega⟩ hP hS (lv_sub hl [1, 2, 0] rfl)
    · have h := mif_t c12 h
      refine u_aload_n (r := x1) hx hb dX4_readAttempt_31 rfl (lv_at hl 2 rfl) ?_
      refine lv_iconst (v := 5) hx hb dX4_readAttempt_32 (by decide) ?_
      obtain ⟨a17, ha17, hha17⟩ := mbind_n h
      subst ha17
      have h := hha17
      obtain ⟨c18, h⟩ := mif_n h
      obtain ⟨o21, u19, c20, h⟩ := ucall_n h
      have zu19 := zz_X5_fault N (ub G) (ug G) u9 a17 5 o21 u19 c20
      have hq := zz_X4_readAttempt_36 (G := G) (a0 := a0) N u19 o21 h
      refine u_callr (va_runV (As := [.int 5]) (rest := []) hC.1 (met_X5_fault l N G u9 a17 5 o21 u19 c20) (cwV 1 hts (lw_V q910 q781 q782 q105 q783) rfl rfl rfl (by decide +kernel) ⟨Nat.le_trans (Nat.le_of_ble_eq_true rfl) hR.1, Nat.le_trans (Nat.le_of_ble_eq_true rfl) hR.2⟩) ⟨uPc_blind, u_rcv hC hP c18 rfl, fun U hU hW => u_pre hC hP hS hU hW⟩ rfl rfl hl.1 rfl (lv_room (Nat.le_of_ble_eq_true rfl)) dX4_readAttempt_33 ⟨by omega, by omega⟩) hS (fun H locs hP hS => ?_)
      refine W.cs (cells' := u19.1 - u0.1) (slots' := u19.2.1 - u0.2.1) (by omega) (by omega) ?_
      refine W.cs (cells' := u19.1 - u0.1) (slots' := u19.2.1 - u0.2.1) (by omega) (by omega) ?_
      exact w_X4_readAttempt_36 hC hE hR hRm N u19 o21 h ⟨by omega, by omega⟩ hP hS (lv_sub hl [] rfl)
  · have h := mif_f c5 h
    refine u_aload_n (r := x1) hx hb dX4_readAttempt_13 rfl (lv_at hl 2 rfl) ?_
    refine lv_iconst (v := 3) hx hb dX4_readAttempt_14 (by decide) ?_
    obtain ⟨a22, ha22, hha22⟩ := mbind_n h
    subst ha22
    have h := hha22
    obtain ⟨c23, h⟩ := mif_n h
    obtain ⟨o26, u24, c25, h⟩ := ucall_n h
    have zu24 := zz_X5_fault N (ub G) (ug G) u2 a22 3 o26 u24 c25
    have hq := zz_X4_readAttempt_18 (G := G) (a0 := a0) N u24 o26 h
    refine u_callr (va_runV (As := [.int 3]) (rest := []) hC.1 (met_X5_fault l N G u2 a22 3 o26 u24 c25) (cwV 1 hts (lw_V q910 q781 q782 q105 q783) rfl rfl rfl (by decide +kernel) ⟨Nat.le_trans (Nat.le_of_ble_eq_true rfl) hR.1, Nat.le_trans (Nat.le_of_ble_eq_true rfl) hR.2⟩) ⟨uPc_blind, u_rcv hC hP c23 rfl, fun U hU hW => u_pre hC hP hS hU hW⟩ rfl rfl hl.1 rfl (lv_room (Nat.le_of_ble_eq_true rfl)) dX4_readAttempt_15 ⟨by omega, by omega⟩) hS (fun H locs hP hS => ?_)
    refine W.cs (cells' := u24.1 - u0.1) (slots' := u24.2.1 - u0.2.1) (by omega) (by omega) ?_
    refine W.cs (cells' := u24.1 - u0.1) (slots' := u24.2.1 - u0.2.1) (by omega) (by omega) ?_
    exact w_X4_readAttempt_18 hC hE hR hRm N u24 o26 h ⟨by omega, by omega⟩ hP hS (lv_sub hl [] rfl)
def f_X4_readAttempt (N b : Nat) (g : uEnv) (u : UH) (a0 : Nat) (x1 : Option Nat) : Option ((Nat × UH) ⊕ (UH)) :=
    (x1).bind fun a1 =>
    if uIs u a1 4 = true then
    uxcall (f_X5_name N b g u a1) (fun a6 u7 =>
    some (.inl (a6, u7))) fun o5 u3 =>
    f_X4_readAttempt_4 N b g a0 u3 (some a1) o5
    else none
set_option maxHeartbeats 4000000 in
set_option maxRecDepth 100000 in
theorem zz_X4_readAttempt_0 {G : uG} {a0 : Nat} {z : (Nat × UH) ⊕ (UH)} (N : Nat) (u : UH) (x1 : Option Nat) (h : f_X4_readAttempt N (ub G) (ug G) u a0 x1 = some z) : u.1 ≤ (uX0 z).1 ∧ u.2.1 ≤ (uX0 z).2.1 := by
  unfold f_X4_readAttempt at h
  obtain ⟨a1, ha1, hha1⟩ := mbind_n h
  subst ha1
  have h := hha1
  obtain ⟨c2, h⟩ := mif_n h
  rcases uxcall_n h with ⟨a6, u7, c8, h⟩ | ⟨o5, u3, c4, h⟩
  · have zu7 : u.1 ≤ u7.1 ∧ u.2.1 ≤ u7.2.1 := zz_X5_name N (ub G) (ug G) u a1 (.inl (a6, u7)) c8
    have hz := Option.some.inj h
    subst hz
    exact (show u.1 ≤ u7.1 ∧ u.2.1 ≤ u7.2.1 from ⟨by omega, by omega⟩)
  · have zu3 : u.1 ≤ u3.1 ∧ u.2.1 ≤ u3.2.1 := zz_X5_name N (ub G) (ug G) u a1 (.inr (o5, u3)) c4
    have hq := zz_X4_readAttempt_4 (G := G) (a0 := a0) N u3 (some a1) o5 h
    exact ⟨by omega, by omega⟩
set_option maxHeartbeats 4000000 in
set_option maxRecDepth 100000 in
theorem w_X4_readAttempt_0 {p : Program} {l : Launch} {e : Env} {R : Room} {s : State} {m : MethodId} {args : Array Value} {below : List Frame} {meth : Method} {c : Code} {G : uG} {a0 : Nat} {u0 : UH} {z : (Nat × UH) ⊕ (UH)} (hC : uC p s m args meth c G RX4 cX4_readAttempt 5 none) (hE : c.exceptionTable.toList = []) (hR : 10 ≤ R.frames ∧ 260 ≤ R.locals) (hRm : (uX0 z).1 - u0.1 ≤ R.cells ∧ (uX0 z).2.1 - u0.2.1 ≤ R.slots) (N : Nat) (u : UH) (x1 : Option Nat) (h : f_X4_readAttempt N (ub G) (ug G) u a0 x1 = some z) (hz0 : (u0.1 ≤ u.1 ∧ u0.2.1 ≤ u.2.1)) {H : Heap} {locs : List Loc} (hP : uP G u H) (hS : va_S (uA G) s.heap H locs) {ls : Array Slot} (hl : lv_has ls 5 [(0, va_rf (some a0)), (1, va_rf x1)]) : W p l e R s m args below meth c H locs (u.1 - u0.1) (u.2.1 - u0.2.1) (uMQv below G z args s ((uX0 z).1 - u0.1) ((uX0 z).2.1 - u0.2.1)) (F0 m 0 ls []) := by
  obtain ⟨⟨hx, hb, hml, hown, hts⟩, hKK⟩ := id hC
  have hzf := zz_X4_readAttempt_0 (G := G) (a0 := a0) N u x1 h
  unfold f_X4_readAttempt at h
  refine u_aload_n (r := x1) hx hb dX4_readAttempt_0 rfl (lv_at hl 1 rfl) ?_
  obtain ⟨a1, ha1, hha1⟩ := mbind_n h
  subst ha1
  have h := hha1
  obtain ⟨c2, h⟩ := mif_n h
  rcases uxcall_n h with ⟨a6, u7, c8, h⟩ | ⟨o5, u3, c4, h⟩
  · have zu7 : u.1 ≤ u7.1 ∧ u.2.1 ≤ u7.2.1 := zz_X5_name N (ub G) (ug G) u a1 (.inl (a6, u7)) c8
    have hz := Option.some.inj h
    subst hz
    have hRm : u7.1 - u0.1 ≤ R.cells ∧ u7.2.1 - u0.2.1 ≤ R.slots := hRm
    exact u_callX hC (u_noE hE) (u_runVX (As := []) (rest := []) hC.1 (mex_X5_name l N G u a1 a6 u7 c8) (cwV 0 hts (lw_V q700 q701 q702 q105 q703) rfl rfl rfl (by decide +kernel) ⟨Nat.le_trans (Nat.le_of_ble_eq_true rfl) hR.1, Nat.le_trans (Nat.le_of_ble_eq_true rfl) hR.2⟩) ⟨uPc_blind, u_rcv hC hP c2 rfl, fun U hU hW => u_pre hC hP hS hU hW⟩ rfl rfl hl.1 rfl (lv_room (Nat.le_of_ble_eq_true rfl)) dX4_readAttempt_1 ⟨by omega, by omega⟩) hS (by show _ + _ = u7.1 - u0.1; omega) (by show _ + _ = u7.2.1 - u0.2.1; omega)
  · have zu3 : u.1 ≤ u3.1 ∧ u.2.1 ≤ u3.2.1 := zz_X5_name N (ub G) (ug G) u a1 (.inr (o5, u3)) c4
    have hq := zz_X4_readAttempt_4 (G := G) (a0 := a0) N u3 (some a1) o5 h
    refine u_callr (va_runV (As := []) (rest := []) hC.1 (met_X5_name l N G u a1 o5 u3 c4) (cwV 0 hts (lw_V q700 q701 q702 q105 q703) rfl rfl rfl (by decide +kernel) ⟨Nat.le_trans (Nat.le_of_ble_eq_true rfl) hR.1, Nat.le_trans (Nat.le_of_ble_eq_true rfl) hR.2⟩) ⟨uPc_blind, u_rcv hC hP c2 rfl, fun U hU hW => u_pre hC hP hS hU hW⟩ rfl rfl hl.1 rfl (lv_room (Nat.le_of_ble_eq_true rfl)) dX4_readAttempt_1 ⟨by omega, by omega⟩) hS (fun H locs hP hS => ?_)
    refine W.cs (cells' := u3.1 - u0.1) (slots' := u3.2.1 - u0.2.1) (by omega) (by omega) ?_
    exact w_X4_readAttempt_4 hC hE hR hRm N u3 (some a1) o5 h ⟨by omega, by omega⟩ hP hS (lv_sub hl [0, 1] rfl)
theorem zz_X4_readAttempt (N b : Nat) (g : uEnv) (u : UH) (a0 : Nat) (x1 : Option Nat) (z : (Nat × UH) ⊕ (UH)) (h : f_X4_readAttempt N b g u a0 x1 = some z) : u.1 ≤ (uX0 z).1 ∧ u.2.1 ≤ (uX0 z).2.1 :=
  zz_X4_readAttempt_0 (G := ((fun _ => 0, fun _ _ => 0), fun _ => 0, b, g)) (a0 := a0) N u x1 h
theorem met_X4_readAttempt (l : Launch) (N : Nat) (G : uG) (u : UH) (a0 : Nat) (x1 : Option Nat) (uf : UH) (h : f_X4_readAttempt N (ub G) (ug G) u a0 x1 = some (.inr uf)) : Met l yX4_readAttempt (ws_ yX4_readAttempt cX4_readAttempt 5 none) ({ frames := 10, cells := (uf.1 - u.1), slots := (uf.2.1 - u.2.1), locals := 260 }) (uPc G u [.ref a0, va_rf x1]) (uQv G uf) (uf.1 - u.1) (uf.2.1 - u.2.1) (uA G) := by
  rcases x1 with _ | x1 <;> exact u_metE (own := RX4) (by decide +kernel) rfl (Nat.le_of_ble_eq_true rfl) (fun hC hE hn hsz ls hl hP => W.cs (Nat.sub_self _).symm (Nat.sub_self _).symm (w_X4_readAttempt_0 hC hE ⟨Nat.le_refl _, Nat.le_refl _⟩ ⟨Nat.le_refl _, Nat.le_refl _⟩ N u _ h ⟨Nat.le_refl _, Nat.le_refl _⟩ hP va_S.rf hl))
theorem mex_X4_readAttempt (l : Launch) (N : Nat) (G : uG) (u : UH) (a0 : Nat) (x1 : Option Nat) (x : Nat) (uf : UH) (h : f_X4_readAttempt N (ub G) (ug G) u a0 x1 = some (.inl (x, uf))) : uMX l yX4_readAttempt (ws_ yX4_readAttempt cX4_readAttempt 5 none) ({ frames := 10, cells := (uf.1 - u.1), slots := (uf.2.1 - u.2.1), locals := 260 }) G u [.ref a0, va_rf x1] x uf (uf.1 - u.1) (uf.2.1 - u.2.1) := by
  rcases x1 with _ | x1 <;> exact u_metX (own := RX4) (by decide +kernel) rfl (Nat.le_of_ble_eq_true rfl) (fun hC hE hn hsz ls hl hP => W.cs (Nat.sub_self _).symm (Nat.sub_self _).symm (w_X4_readAttempt_0 hC hE ⟨Nat.le_refl _, Nat.le_refl _⟩ ⟨Nat.le_refl _, Nat.le_refl _⟩ N u _ h ⟨Nat.le_refl _, Nat.le_refl _⟩ hP va_S.rf hl))
def f_X4_read_56 (N b : Nat) (g : uEnv) (a0 : Nat) (u : UH) (s0 : Option Nat) : Option ((Nat × UH) ⊕ (Option Nat × UH)) :=
    (s0).bind fun a1 =>
    some (.inl (a1, u))
set_option maxHeartbeats 4000000 in
set_option maxRecDepth 100000 in
theorem zz_X4_read_56 {G : uG} {a0 : Nat} {z : (Nat × UH) ⊕ (Option Nat × UH)} (N : Nat) (u : UH) (s0 : Option Nat) (h : f_X4_read_56 N (ub G) (ug G) a0 u s0 = some z) : u.1 ≤ (uX1 z).1 ∧ u.2.1 ≤ (uX1 z).2.1 := by
  unfold f_X4_read_56 at h
  obtain ⟨a1, ha1, hha1⟩ := mbind_n h
  subst ha1
  have h := hha1
  have hz := Option.some.inj h
  subst hz
  exact (show u.1 ≤ u.1 ∧ u.2.1 ≤ u.2.1 from ⟨by omega, by omega⟩)
set_option maxHeartbeats 4000000 in
set_option maxRecDepth 100000 in
theorem w_X4_read_56 {p : Program} {l : Launch} {e : Env} {R : Room} {s : State} {m : MethodId} {args : Array Value} {below : List Frame} {meth : Method} {c : Code} {G : uG} {a0 : Nat} {u0 : UH} {z : (Nat × UH) ⊕ (Option Nat × UH)} (hC : uC p s m args meth c G RX4 cX4_read 2 (some (.object "SoftWheels$Book"))) (hE : c.exceptionTable.toList = []) (hR : 11 ≤ R.frames ∧ 284 ≤ R.locals) (hRm : (uX1 z).1 - u0.1 ≤ R.cells ∧ (uX1 z).2.1 - u0.2.1 ≤ R.slots) (N : Nat) (u : UH) (s0 : Option Nat) (h : f_X4_read_56 N (ub G) (ug G) a0 u s0 = some z) (hz0 : (u0.1 ≤ u.1 ∧ u0.2.1 ≤ u.2.1)) {H : Heap} {locs : List Loc} (hP : uP G u H) (hS : va_S (uA G) s.heap H locs) {ls : Array Slot} (hl : lv_has ls 2 []) : W p l e R s m args below meth c H locs (u.1 - u0.1) (u.2.1 - u0.2.1) (uMQr below G z args s ((uX1 z).1 - u0.1) ((uX1 z).2.1 - u0.2.1)) (F0 m 56 ls [va_rf s0]) := by
  obtain ⟨⟨hx, hb, hml, hown, hts⟩, hKK⟩ := id hC
  have hzf := zz_X4_read_56 (G := G) (a0 := a0) N u s0 h
  unfold f_X4_read_56 at h
  obtain ⟨a1, ha1, hha1⟩ := mbind_n h
  subst ha1
  have h := hha1
  have hz := Option.some.inj h
  subst hz
  exact u_athrow hC (u_noE hE) hP hS dX4_read_56
def f_X4_read_70 (N b : Nat) (g : uEnv) (a0 : Nat) (u : UH) : Option ((Nat × UH) ⊕ (Option Nat × UH)) :=
    some (.inr (some a0, u))
set_option maxHeartbeats 4000000 in
set_option maxRecDepth 100000 in
theorem zz_X4_read_70 {G : uG} {a0 : Nat} {z : (Nat × UH) ⊕ (Option Nat × UH)} (N : Nat) (u : UH) (h : f_X4_read_70 N (ub G) (ug G) a0 u = some z) : u.1 ≤ (uX1 z).1 ∧ u.2.1 ≤ (uX1 z).2.1 := by
  unfold f_X4_read_70 at h
  have hz := Option.some.inj h
  subst hz
  exact (show u.1 ≤ u.1 ∧ u.2.1 ≤ u.2.1 from ⟨by omega, by omega⟩)
set_option maxHeartbeats 4000000 in
set_option maxRecDepth 100000 in
theorem w_X4_read_70 {p : Program} {l : Launch} {e : Env} {R : Room} {s : State} {m : MethodId} {args : Array Value} {below : List Frame} {meth : Method} {c : Code} {G : uG} {a0 : Nat} {u0 : UH} {z : (Nat × UH) ⊕ (Option Nat × UH)} (hC : uC p s m args meth c G RX4 cX4_read 2 (some (.object "SoftWheels$Book"))) (hE : c.exceptionTable.toList = []) (hR : 11 ≤ R.frames ∧ 284 ≤ R.locals) (hRm : (uX1 z).1 - u0.1 ≤ R.cells ∧ (uX1 z).2.1 - u0.2.1 ≤ R.slots) (N : Nat) (u : UH) (h : f_X4_read_70 N (ub G) (ug G) a0 u = some z) (hz0 : (u0.1 ≤ u.1 ∧ u0.2.1 ≤ u.2.1)) {H : Heap} {locs : List Loc} (hP : uP G u H) (hS : va_S (uA G) s.heap H locs) {ls : Array Slot} (hl : lv_has ls 2 [(0, va_rf (some a0))]) : W p l e R s m args below meth c H locs (u.1 - u0.1) (u.2.1 - u0.2.1) (uMQr below G z args s ((uX1 z).1 - u0.1) ((uX1 z).2.1 - u0.2.1)) (F0 m 70 ls []) := by
  obtain ⟨⟨hx, hb, hml, hown, hts⟩, hKK⟩ := id hC
  have hzf := zz_X4_read_70 (G := G) (a0 := a0) N u h
  unfold f_X4_read_70 at h
  refine u_aload_n (r := some a0) hx hb dX4_read_70 rfl (lv_at hl 0 rfl) ?_
  have hz := Option.some.inj h
  subst hz
  exact u_aret hC (Or.inl ⟨_, rfl⟩) hP hS dX4_read_71
def f_X4_read_63 (N b : Nat) (g : uEnv) (a0 : Nat) (k0 : UH → Option Nat → Option ((Nat × UH) ⊕ (Option Nat × UH))) (u : UH) (x1 : Option Nat) (s0 : Int32) : Option ((Nat × UH) ⊕ (Option Nat × UH)) :=
    if s0 = 0 then
    (x1).bind fun a2 =>
    if uIs u a2 4 = true then
    uxcallv (f_X5_needsEnd N b g u a2) (fun a6 u7 =>
    some (.inl (a6, u7))) fun u4 =>
    f_X4_read_70 N b g a0 u4
    else none
    else
    k0 u x1
set_option maxHeartbeats 4000000 in
set_option maxRecDepth 100000 in
theorem zz_X4_read_63 {G : uG} {a0 : Nat} {z : (Nat × UH) ⊕ (Option Nat × UH)} (N : Nat) (k0 : UH → Option Nat → Option ((Nat × UH) ⊕ (Option Nat × UH))) (hk0 : ∀ (u : UH) (x1 : Option Nat), k0 u x1 = some z → u.1 ≤ (uX1 z).1 ∧ u.2.1 ≤ (uX1 z).2.1) (u : UH) (x1 : Option Nat) (s0 : Int32) (h : f_X4_read_63 N (ub G) (ug G) a0 k0 u x1 s0 = some z) : u.1 ≤ (uX1 z).1 ∧ u.2.1 ≤ (uX1 z).2.1 := by
  unfold f_X4_read_63 at h
  by_cases c1 : s0 = 0
  · have h := mif_t c1 h
    obtain ⟨a2, ha2, hha2⟩ := mbind_n h
    subst ha2
    have h := hha2
    obtain ⟨c3, h⟩ := mif_n h
    rcases uxcallv_n h with ⟨a6, u7, c8, h⟩ | ⟨u4, c5, h⟩
    · have zu7 : u.1 ≤ u7.1 ∧ u.2.1 ≤ u7.2.1 := zz_X5_needsEnd N (ub G) (ug G) u a2 (.inl (a6, u7)) c8
      have hz := Option.some.inj h
      subst hz
      exact (show u.1 ≤ u7.1 ∧ u.2.1 ≤ u7.2.1 from ⟨by omega, by omega⟩)
    · have zu4 : u.1 ≤ u4.1 ∧ u.2.1 ≤ u4.2.1 := zz_X5_needsEnd N (ub G) (ug G) u a2 (.inr u4) c5
      have hq := zz_X4_read_70 (G := G) (a0 := a0) N u4 h
      exact ⟨by omega, by omega⟩
  · have h := mif_f c1 h
    have hq := hk0 u x1 h
    exact ⟨by omega, by omega⟩
set_option maxHeartbeats 4000000 in
set_option maxRecDepth 100000 in
theorem w_X4_read_63 {p : Program} {l : Launch} {e : Env} {R : Room} {s : State} {m : MethodId} {args : Array Value} {below : List Frame} {meth : Method} {c : Code} {G : uG} {a0 : Nat} {u0 : UH} {z : (Nat × UH) ⊕ (Option Nat × UH)} (hC : uC p s m args meth c G RX4 cX4_read 2 (some (.object "SoftWheels$Book"))) (hE : c.exceptionTable.toList = []) (hR : 11 ≤ R.frames ∧ 284 ≤ R.locals) (hRm : (uX1 z).1 - u0.1 ≤ R.cells ∧ (uX1 z).2.1 - u0.2.1 ≤ R.slots) (N : Nat) (k0 : UH → Option Nat → Option ((Nat × UH) ⊕ (Option Nat × UH))) (hk0 : ∀ (u : UH) (x1 : Option Nat), k0 u x1 = some z → (u0.1 ≤ u.1 ∧ u0.2.1 ≤ u.2.1) → ∀ (H : Heap) (locs : List Loc), uP G u H → va_S (uA G) s.heap H locs → ∀ ls : Array Slot, lv_has ls 2 [(0, va_rf (some a0)), (1, va_rf x1)] → W p l e R s m args below meth c H locs (u.1 - u0.1) (u.2.1 - u0.2.1) (uMQr below G z args s ((uX1 z).1 - u0.1) ((uX1 z).2.1 - u0.2.1)) (F0 m 0 ls [])) (zk0 : ∀ (u : UH) (x1 : Option Nat), k0 u x1 = some z → u.1 ≤ (uX1 z).1 ∧ u.2.1 ≤ (uX1 z).2.1) (u : UH) (x1 : Option Nat) (s0 : Int32) (h : f_X4_read_63 N (ub G) (ug G) a0 k0 u x1 s0 = some z) (hz0 : (u0.1 ≤ u.1 ∧ u0.2.1 ≤ u.2.1)) {H : Heap} {locs : List Loc} (hP : uP G u H) (hS : va_S (uA G) s.heap H locs) {ls : Array Slot} (hl : lv_has ls 2 [(0, va_rf (some a0)), (1, va_rf x1)]) : W p l e R s m args below meth c H locs (u.1 - u0.1) (u.2.1 - u0.2.1) (uMQr below G z args s ((uX1 z).1 - u0.1) ((uX1 z).2.1 - u0.2.1)) (F0 m 63 ls [.int s0]) := by
  obtain ⟨⟨hx, hb, hml, hown, hts⟩, hKK⟩ := id hC
  have hzf := zz_X4_read_63 (G := G) (a0 := a0) N k0 zk0 u x1 s0 h
  unfold f_X4_read_63 at h
  refine lv_if_ne (tgt := 0) hx hb dX4_read_63 (by decide) (fun c1 => ?_) (fun c1 => ?_)
  · have h := mif_f c1 h
    refine W.cs (cells' := u.1 - u0.1) (slots' := u.2.1 - u0.2.1) (by omega) (by omega) ?_
    exact hk0 u x1 h ⟨by omega, by omega⟩ _ _ hP hS _ (lv_sub hl [0, 1] rfl)
  · have h := mif_t c1 h
    refine u_aload_n (r := x1) hx hb dX4_read_66 rfl (lv_at hl 1 rfl) ?_
    obtain ⟨a2, ha2, hha2⟩ := mbind_n h
    subst ha2
    have h := hha2
    obtain ⟨c3, h⟩ := mif_n h
    rcases uxcallv_n h with ⟨a6, u7, c8, h⟩ | ⟨u4, c5, h⟩
    · have zu7 : u.1 ≤ u7.1 ∧ u.2.1 ≤ u7.2.1 := zz_X5_needsEnd N (ub G) (ug G) u a2 (.inl (a6, u7)) c8
      have hz := Option.some.inj h
      subst hz
      have hRm : u7.1 - u0.1 ≤ R.cells ∧ u7.2.1 - u0.2.1 ≤ R.slots := hRm
      exact u_callX hC (u_noE hE) (u_runVX (As := []) (rest := []) hC.1 (mex_X5_needsEnd l N G u a2 a6 u7 c8) (cwV 0 hts (lw_V q1048 q1049 q1050 q105 q1051) rfl rfl rfl (by decide +kernel) ⟨Nat.le_trans (Nat.le_of_ble_eq_true rfl) hR.1, Nat.le_trans (Nat.le_of_ble_eq_true rfl) hR.2⟩) ⟨uPc_blind, u_rcv hC hP c3 rfl, fun U hU hW => u_pre hC hP hS hU hW⟩ rfl rfl hl.1 rfl (lv_room (Nat.le_of_ble_eq_true rfl)) dX4_read_67 ⟨by omega, by omega⟩) hS (by show _ + _ = u7.1 - u0.1; omega) (by show _ + _ = u7.2.1 - u0.2.1; omega)
    · have zu4 : u.1 ≤ u4.1 ∧ u.2.1 ≤ u4.2.1 := zz_X5_needsEnd N (ub G) (ug G) u a2 (.inr u4) c5
      have hq := zz_X4_read_70 (G := G) (a0 := a0) N u4 h
      refine u_callv (va_runV (As := []) (rest := []) hC.1 (met_X5_needsEnd l N G u a2 u4 c5) (cwV 0 hts (lw_V q1048 q1049 q1050 q105 q1051) rfl rfl rfl (by decide +kernel) ⟨Nat.le_trans (Nat.le_of_ble_eq_true rfl) hR.1, Nat.le_trans (Nat.le_of_ble_eq_true rfl) hR.2⟩) ⟨uPc_blind, u_rcv hC hP c3 rfl, fun U hU hW => u_pre hC hP hS hU hW⟩ rfl rfl hl.1 rfl (lv_room (Nat.le_of_ble_eq_true rfl)) dX4_read_67 ⟨by omega, by omega⟩) hS (fun H locs hP hS => ?_)
      refine W.cs (cells' := u4.1 - u0.1) (slots' := u4.2.1 - u0.2.1) (by omega) (by omega) ?_
      exact w_X4_read_70 hC hE hR hRm N u4 h ⟨by omega, by omega⟩ hP hS (lv_sub hl [0] rfl)
def f_X4_read_57 (N b : Nat) (g : uEnv) (a0 : Nat) (k0 : UH → Option Nat → Option ((Nat × UH) ⊕ (Option Nat × UH))) (u : UH) (x1 : Option Nat) : Option ((Nat × UH) ⊕ (Option Nat × UH)) :=
    (x1).bind fun a1 =>
    if uIs u a1 4 = true then
    ucall (f_X5_skips N b g u a1 (some (g.2.1 26))) fun r5 u3 =>
    f_X4_read_63 N b g a0 k0 u3 (some a1) r5
    else none
set_option maxHeartbeats 4000000 in
set_option maxRecDepth 100000 in
theorem zz_X4_read_57 {G : uG} {a0 : Nat} {z : (Nat × UH) ⊕ (Option Nat × UH)} (N : Nat) (k0 : UH → Option Nat → Option ((Nat × UH) ⊕ (Option Nat × UH))) (hk0 : ∀ (u : UH) (x1 : Option Nat), k0 u x1 = some z → u.1 ≤ (uX1 z).1 ∧ u.2.1 ≤ (uX1 z).2.1) (u : UH) (x1 : Option Nat) (h : f_X4_read_57 N (ub G) (ug G) a0 k0 u x1 = some z) : u.1 ≤ (uX1 z).1 ∧ u.2.1 ≤ (uX1 z).2.1 := by
  unfold f_X4_read_57 at h
  obtain ⟨a1, ha1, hha1⟩ := mbind_n h
  subst ha1
  have h := hha1
  obtain ⟨c2, h⟩ := mif_n h
  obtain ⟨r5, u3, c4, h⟩ := ucall_n h
  have zu3 := zz_X5_skips N (ub G) (ug G) u a1 (some ((ug G).2.1 26)) r5 u3 c4
  have hq := zz_X4_read_63 (G := G) (a0 := a0) N k0 hk0 u3 (some a1) r5 h
  exact ⟨by omega, by omega⟩
set_option maxHeartbeats 4000000 in
set_option maxRecDepth 100000 in
theorem w_X4_read_57 {p : Program} {l : Launch} {e : Env} {R : Room} {s : State} {m : MethodId} {args : Array Value} {below : List Frame} {meth : Method} {c : Code} {G : uG} {a0 : Nat} {u0 : UH} {z : (Nat × UH) ⊕ (Option Nat × UH)} (hC : uC p s m args meth c G RX4 cX4_read 2 (some (.object "SoftWheels$Book"))) (hE : c.exceptionTable.toList = []) (hR : 11 ≤ R.frames ∧ 284 ≤ R.locals) (hRm : (uX1 z).1 - u0.1 ≤ R.cells ∧ (uX1 z).2.1 - u0.2.1 ≤ R.slots) (N : Nat) (k0 : UH → Option Nat → Option ((Nat × UH) ⊕ (Option Nat × UH))) (hk0 : ∀ (u : UH) (x1 : Option Nat), k0 u x1 = some z → (u0.1 ≤ u.1 ∧ u0.2.1 ≤ u.2.1) → ∀ (H : Heap) (locs : List Loc), uP G u H → va_S (uA G) s.heap H locs → ∀ ls : Array Slot, lv_has ls 2 [(0, va_rf (some a0)), (1, va_rf x1)] → W p l e R s m args below meth c H locs (u.1 - u0.1) (u.2.1 - u0.2.1) (uMQr below G z args s ((uX1 z).1 - u0.1) ((uX1 z).2.1 - u0.2.1)) (F0 m 0 ls [])) (zk0 : ∀ (u : UH) (x1 : Option Nat), k0 u x1 = some z → u.1 ≤ (uX1 z).1 ∧ u.2.1 ≤ (uX1 z).2.1) (u : UH) (x1 : Option Nat) (h : f_X4_read_57 N (ub G) (ug G) a0 k0 u x1 = some z) (hz0 : (u0.1 ≤ u.1 ∧ u0.2.1 ≤ u.2.1)) {H : Heap} {locs : List Loc} (hP : uP G u H) (hS : va_S (uA G) s.heap H locs) {ls : Array Slot} (hl : lv_has ls 2 [(0, va_rf (some a0)), (1, va_rf x1)]) : W p l e R s m args below meth c H locs (u.1 - u0.1) (u.2.1 - u0.2.1) (uMQr below G z args s ((uX1 z).1 - u0.1) ((uX1 z).2.1 - u0.2.1)) (F0 m 57 ls []) := by
  obtain ⟨⟨hx, hb, hml, hown, hts⟩, hKK⟩ := id hC
  have hzf := zz_X4_read_57 (G := G) (a0 := a0) N k0 zk0 u x1 h
  unfold f_X4_read_57 at h
  refine u_aload_n (r := x1) hx hb dX4_read_57 rfl (lv_at hl 1 rfl) ?_
  refine u_ldcS hC 26 rfl dX4_read_58 ?_
  obtain ⟨a1, ha1, hha1⟩ := mbind_n h
  subst ha1
  have h := hha1
  obtain ⟨c2, h⟩ := mif_n h
  obtain ⟨r5, u3, c4, h⟩ := ucall_n h
  have zu3 := zz_X5_skips N (ub G) (ug G) u a1 (some ((ug G).2.1 26)) r5 u3 c4
  have hq := zz_X4_read_63 (G := G) (a0 := a0) N k0 zk0 u3 (some a1) r5 h
  refine u_calli (va_runV (As := [va_rf (some ((ug G).2.1 26))]) (rest := []) hC.1 (met_X5_skips l N G u a1 (some ((ug G).2.1 26)) r5 u3 c4) (cwV 1 hts (lw_V q662 q663 q664 q105 q665) rfl rfl rfl (by decide +kernel) ⟨Nat.le_trans (Nat.le_of_ble_eq_true rfl) hR.1, Nat.le_trans (Nat.le_of_ble_eq_true rfl) hR.2⟩) ⟨uPc_blind, u_rcv hC hP c2 rfl, fun U hU hW => u_pre hC hP hS hU hW⟩ rfl rfl hl.1 rfl (lv_room (Nat.le_of_ble_eq_true rfl)) dX4_read_60 ⟨by omega, by omega⟩) hS (fun H locs hP hS => ?_)
  refine W.cs (cells' := u3.1 - u0.1) (slots' := u3.2.1 - u0.2.1) (by omega) (by omega) ?_
  refine W.cs (cells' := u3.1 - u0.1) (slots' := u3.2.1 - u0.2.1) (by omega) (by omega) ?_
  exact w_X4_read_63 hC hE hR hRm N k0 hk0 zk0 u3 (some a1) r5 h ⟨by omega, by omega⟩ hP hS (lv_sub hl [0, 1] rfl)
def f_X4_read_48 (N b : Nat) (g : uEnv) (a0 : Nat) (k0 : UH → Option Nat → Option ((Nat × UH) ⊕ (Option Nat × UH))) (u : UH) (x1 : Option Nat) : Option ((Nat × UH) ⊕ (Option Nat × UH)) :=
    f_X4_read_57 N b g a0 k0 u x1
set_option maxHeartbeats 4000000 in
set_option maxRecDepth 100000 in
theorem zz_X4_read_48 {G : uG} {a0 : Nat} {z : (Nat × UH) ⊕ (Option Nat × UH)} (N : Nat) (k0 : UH → Option Nat → Option ((Nat × UH) ⊕ (Option Nat × UH))) (hk0 : ∀ (u : UH) (x1 : Option Nat), k0 u x1 = some z → u.1 ≤ (uX1 z).1 ∧ u.2.1 ≤ (uX1 z).2.1) (u : UH) (x1 : Option Nat) (h : f_X4_read_48 N (ub G) (ug G) a0 k0 u x1 = some z) : u.1 ≤ (uX1 z).1 ∧ u.2.1 ≤ (uX1 z).2.1 := by
  unfold f_X4_read_48 at h
  have hq := zz_X4_read_57 (G := G) (a0 := a0) N k0 hk0 u x1 h
  exact ⟨by omega, by omega⟩
set_option maxHeartbeats 4000000 in
set_option maxRecDepth 100000 in
theorem w_X4_read_48 {p : Program} {l : Launch} {e : Env} {R : Room} {s : State} {m : MethodId} {args : Array Value} {below : List Frame} {meth : Method} {c : Code} {G : uG} {a0 : Nat} {u0 : UH} {z : (Nat × UH) ⊕ (Option Nat × UH)} (hC : uC p s m args meth c G RX4 cX4_read 2 (some (.object "SoftWheels$Book"))) (hE : c.exceptionTable.toList = []) (hR : 11 ≤ R.frames ∧ 284 ≤ R.locals) (hRm : (uX1 z).1 - u0.1 ≤ R.cells ∧ (uX1 z).2.1 - u0.2.1 ≤ R.slots) (N : Nat) (k0 : UH → Option Nat → Option ((Nat × UH) ⊕ (Option Nat × UH))) (hk0 : ∀ (u : UH) (x1 : Option Nat), k0 u x1 = some z → (u0.1 ≤ u.1 ∧ u0.2.1 ≤ u.2.1) → ∀ (H : Heap) (locs : List Loc), uP G u H → va_S (uA G) s.heap H locs → ∀ ls : Array Slot, lv_has ls 2 [(0, va_rf (some a0)), (1, va_rf x1)] → W p l e R s m args below meth c H locs (u.1 - u0.1) (u.2.1 - u0.2.1) (uMQr below G z args s ((uX1 z).1 - u0.1) ((uX1 z).2.1 - u0.2.1)) (F0 m 0 ls [])) (zk0 : ∀ (u : UH) (x1 : Option Nat), k0 u x1 = some z → u.1 ≤ (uX1 z).1 ∧ u.2.1 ≤ (uX1 z).2.1) (u : UH) (x1 : Option Nat) (h : f_X4_read_48 N (ub G) (ug G) a0 k0 u x1 = some z) (hz0 : (u0.1 ≤ u.1 ∧ u0.2.1 ≤ u.2.1)) {H : Heap} {locs : List Loc} (hP : uP G u H) (hS : va_S (uA G) s.heap H locs) {ls : Array Slot} (hl : lv_has ls 2 [(0, va_rf (some a0)), (1, va_rf x1)]) : W p l e R s m args below meth c H locs (u.1 - u0.1) (u.2.1 - u0.2.1) (uMQr below G z args s ((uX1 z).1 - u0.1) ((uX1 z).2.1 - u0.2.1)) (F0 m 48 ls []) := by
  obtain ⟨⟨hx, hb, hml, hown, hts⟩, hKK⟩ := id hC
  have hzf := zz_X4_read_48 (G := G) (a0 := a0) N k0 zk0 u x1 h
  unfold f_X4_read_48 at h
  refine lv_goto (tgt := 57) hx hb dX4_read_48 (by decide) ?_
  refine W.cs (cells' := u.1 - u0.1) (slots' := u.2.1 - u0.2.1) (by omega) (by omega) ?_
  exact w_X4_read_57 hC hE hR hRm N k0 hk0 zk0 u x1 h ⟨by omega, by omega⟩ hP hS (lv_sub hl [0, 1] rfl)
def f_X4_read_40 (N b : Nat) (g : uEnv) (a0 : Nat) (k0 : UH → Option Nat → Option ((Nat × UH) ⊕ (Option Nat × UH))) (u : UH) (x1 : Option Nat) (s0 : Int32) : Option ((Nat × UH) ⊕ (Option Nat × UH)) :=
    if s0 = 0 then
    (x1).bind fun a2 =>
    if uIs u a2 4 = true then
    ucall (f_X5_fault N b g u a2 1) fun o6 u4 =>
    f_X4_read_56 N b g a0 u4 o6
    else none
    else
    if uIs u a0 3 = true then
    uxcallv (f_X4_readAttempt N b g u a0 x1) (fun a10 u11 =>
    some (.inl (a10, u11))) fun u8 =>
    f_X4_read_48 N b g a0 k0 u8 x1
    else none
set_option maxHeartbeats 4000000 in
set_option maxRecDepth 100000 in
theorem zz_X4_read_40 {G : uG} {a0 : Nat} {z : (Nat × UH) ⊕ (Option Nat × UH)} (N : Nat) (k0 : UH → Option Nat → Option ((Nat × UH) ⊕ (Option Nat × UH))) (hk0 : ∀ (u : UH) (x1 : Option Nat), k0 u x1 = some z → u.1 ≤ (uX1 z).1 ∧ u.2.1 ≤ (uX1 z).2.1) (u : UH) (x1 : Option Nat) (s0 : Int32) (h : f_X4_read_40 N (ub G) (ug G) a0 k0 u x1 s0 = some z) : u.1 ≤ (uX1 z).1 ∧ u.2.1 ≤ (uX1 z).2.1 := by
  unfold f_X4_read_40 at h
  by_cases c1 : s0 = 0
  · have h := mif_t c1 h
    obtain ⟨a2, ha2, hha2⟩ := mbind_n h
    subst ha2
    have h := hha2
    obtain ⟨c3, h⟩ := mif_n h
    obtain ⟨o6, u4, c5, h⟩ := ucall_n h
    have zu4 := zz_X5_fault N (ub G) (ug G) u a2 1 o6 u4 c5
    have hq := zz_X4_read_56 (G := G) (a0 := a0) N u4 o6 h
    exact ⟨by omega, by omega⟩
  · have h := mif_f c1 h
    obtain ⟨c7, h⟩ := mif_n h
    rcases uxcallv_n h with ⟨a10, u11, c12, h⟩ | ⟨u8, c9, h⟩
    · have zu11 : u.1 ≤ u11.1 ∧ u.2.1 ≤ u11.2.1 := zz_X4_readAttempt N (ub G) (ug G) u a0 x1 (.inl (a10, u11)) c12
      have hz := Option.some.inj h
      subst hz
      exact (show u.1 ≤ u11.1 ∧ u.2.1 ≤ u11.2.1 from ⟨by omega, by omega⟩)
    · have zu8 : u.1 ≤ u8.1 ∧ u.2.1 ≤ u8.2.1 := zz_X4_readAttempt N (ub G) (ug G) u a0 x1 (.inr u8) c9
      have hq := zz_X4_read_48 (G := G) (a0 := a0) N k0 hk0 u8 x1 h
      exact ⟨by omega, by omega⟩
set_option maxHeartbeats 4000000 in
set_option maxRecDepth 100000 in
theorem w_X4_read_40 {p : Program} {l : Launch} {e : Env} {R : Room} {s : State} {m : MethodId} {args : Array Value} {below : List Frame} {meth : Method} {c : Code} {G : uG} {a0 : Nat} {u0 : UH} {z : (Nat × UH) ⊕ (Option Nat × UH)} (hC : uC p s m args meth c G RX4 cX4_read 2 (some (.object "SoftWheels$Book"))) (hE : c.exceptionTable.toList = []) (hR : 11 ≤ R.frames ∧ 284 ≤ R.locals) (hRm : (uX1 z).1 - u0.1 ≤ R.cells ∧ (uX1 z).2.1 - u0.2.1 ≤ R.slots) (N : Nat) (k0 : UH → Option Nat → Option ((Nat × UH) ⊕ (Option Nat × UH))) (hk0 : ∀ (u : UH) (x1 : Option Nat), k0 u x1 = some z → (u0.1 ≤ u.1 ∧ u0.2.1 ≤ u.2.1) → ∀ (H : Heap) (locs : List Loc), uP G u H → va_S (uA G) s.heap H locs → ∀ ls : Array Slot, lv_has ls 2 [(0, va_rf (some a0)), (1, va_rf x1)] → W p l e R s m args below meth c H locs (u.1 - u0.1) (u.2.1 - u0.2.1) (uMQr below G z args s ((uX1 z).1 - u0.1) ((uX1 z).2.1 - u0.2.1)) (F0 m 0 ls [])) (zk0 : ∀ (u : UH) (x1 : Option Nat), k0 u x1 = some z → u.1 ≤ (uX1 z).1 ∧ u.2.1 ≤ (uX1 z).2.1) (u : UH) (x1 : Option Nat) (s0 : Int32) (h : f_X4_read_40 N (ub G) (ug G) a0 k0 u x1 s0 = some z) (hz0 : (u0.1 ≤ u.1 ∧ u0.2.1 ≤ u.2.1)) {H : Heap} {locs : List Loc} (hP : uP G u H) (hS : va_S (uA G) s.heap H locs) {ls : Array Slot} (hl : lv_has ls 2 [(0, va_rf (some a0)), (1, va_rf x1)]) : W p l e R s m args below meth c H locs (u.1 - u0.1) (u.2.1 - u0.2.1) (uMQr below G z args s ((uX1 z).1 - u0.1) ((uX1 z).2.1 - u0.2.1)) (F0 m 40 ls [.int s0]) := by
  obtain ⟨⟨hx, hb, hml, hown, hts⟩, hKK⟩ := id hC
  have hzf := zz_X4_read_40 (G := G) (a0 := a0) N k0 zk0 u x1 s0 h
  unfold f_X4_read_40 at h
  refine lv_if_eq (tgt := 51) hx hb dX4_read_40 (by decide) (fun c1 => ?_) (fun c1 => ?_)
  · have h := mif_t c1 h
    refine u_aload_n (r := x1) hx hb dX4_read_51 rfl (lv_at hl 1 rfl) ?_
    refine lv_iconst (v := 1) hx hb dX4_read_52 (by decide) ?_
    obtain ⟨a2, ha2, hha2⟩ := mbind_n h
    subst ha2
    have h := hha2
    obtain ⟨c3, h⟩ := mif_n h
    obtain ⟨o6, u4, c5, h⟩ := ucall_n h
    have zu4 := zz_X5_fault N (ub G) (ug G) u a2 1 o6 u4 c5
    have hq := zz_X4_read_56 (G := G) (a0 := a0) N u4 o6 h
    refine u_callr (va_runV (As := [.int 1]) (rest := []) hC.1 (met_X5_fault l N G u a2 1 o6 u4 c5) (cwV 1 hts (lw_V q910 q781 q782 q105 q783) rfl rfl rfl (by decide +kernel) ⟨Nat.le_trans (Nat.le_of_ble_eq_true rfl) hR.1, Nat.le_trans (Nat.le_of_ble_eq_true rfl) hR.2⟩) ⟨uPc_blind, u_rcv hC hP c3 rfl, fun U hU hW => u_pre hC hP hS hU hW⟩ rfl rfl hl.1 rfl (lv_room (Nat.le_of_ble_eq_true rfl)) dX4_read_53 ⟨by omega, by omega⟩) hS (fun H locs hP hS => ?_)
    refine W.cs (cells' := u4.1 - u0.1) (slots' := u4.2.1 - u0.2.1) (by omega) (by omega) ?_
    refine W.cs (cells' := u4.1 - u0.1) (slots' := u4.2.1 - u0.2.1) (by omega) (by omega) ?_
    exact w_X4_read_56 hC hE hR hRm N u4 o6 h ⟨by omega, by omega⟩ hP hS (lv_sub hl [] rfl)
  · have h := mif_f c1 h
    refine u_aload_n (r := some a0) hx hb dX4_read_43 rfl (lv_at hl 0 rfl) ?_
    refine u_aload_n (r := x1) hx hb dX4_read_44 rfl (lv_at hl 1 rfl) ?_
    obtain ⟨c7, h⟩ := mif_n h
    rcases uxcallv_n h with ⟨a10, u11, c12, h⟩ | ⟨u8, c9, h⟩
    · have zu11 : u.1 ≤ u11.1 ∧ u.2.1 ≤ u11.2.1 := zz_X4_readAttempt N (ub G) (ug G) u a0 x1 (.inl (a10, u11)) c12
      have hz := Option.some.inj h
      subst hz
      have hRm : u11.1 - u0.1 ≤ R.cells ∧ u11.2.1 - u0.2.1 ≤ R.slots := hRm
      exact u_callX hC (u_noE hE) (u_runVX (As := [va_rf x1]) (rest := []) hC.1 (mex_X4_readAttempt l N G u a0 x1 a10 u11 c12) (cwV 1 hts (lw_V q1005 q1007 qs11 q104 q1008) rfl rfl rfl (by decide +kernel) ⟨Nat.le_trans (Nat.le_of_ble_eq_true rfl) hR.1, Nat.le_trans (Nat.le_of_ble_eq_true rfl) hR.2⟩) ⟨uPc_blind, u_rcv hC hP c7 rfl, fun U hU hW => u_pre hC hP hS hU hW⟩ rfl rfl hl.1 rfl (lv_room (Nat.le_of_ble_eq_true rfl)) dX4_read_45 ⟨by omega, by omega⟩) hS (by show _ + _ = u11.1 - u0.1; omega) (by show _ + _ = u11.2.1 - u0.2.1; omega)
    · have zu8 : u.1 ≤ u8.1 ∧ u.2.1 ≤ u8.2.1 := zz_X4_readAttempt N (ub G) (ug G) u a0 x1 (.inr u8) c9
      have hq := zz_X4_read_48 (G := G) (a0 := a0) N k0 zk0 u8 x1 h
      refine u_callv (va_runV (As := [va_rf x1]) (rest := []) hC.1 (met_X4_readAttempt l N G u a0 x1 u8 c9) (cwV 1 hts (lw_V q1005 q1007 qs11 q104 q1008) rfl rfl rfl (by decide +kernel) ⟨Nat.le_trans (Nat.le_of_ble_eq_true rfl) hR.1, Nat.le_trans (Nat.le_of_ble_eq_true rfl) hR.2⟩) ⟨uPc_blind, u_rcv hC hP c7 rfl, fun U hU hW => u_pre hC hP hS hU hW⟩ rfl rfl hl.1 rfl (lv_room (Nat.le_of_ble_eq_true rfl)) dX4_read_45 ⟨by omega, by omega⟩) hS (fun H locs hP hS => ?_)
      refine W.cs (cells' := u8.1 - u0.1) (slots' := u8.2.1 - u0.2.1) (by omega) (by omega) ?_
      exact w_X4_read_48 hC hE hR hRm N k0 hk0 zk0 u8 x1 h ⟨by omega, by omega⟩ hP hS (lv_sub hl [0, 1] rfl)
def f_X4_read_31 (N b : Nat) (g : uEnv) (a0 : Nat) (k0 : UH → Option Nat → Option ((Nat × UH) ⊕ (Option Nat × UH))) (u : UH) (x1 : Option Nat) : Option ((Nat × UH) ⊕ (Option Nat × UH)) :=
    f_X4_read_57 N b g a0 k0 u x1
set_option maxHeartbeats 4000000 in
set_option maxRecDepth 100000 in
theorem zz_X4_read_31 {G : uG} {a0 : Nat} {z : (Nat × UH) ⊕ (Option Nat × UH)} (N : Nat) (k0 : UH → Option Nat → Option ((Nat × UH) ⊕ (Option Nat × UH))) (hk0 : ∀ (u : UH) (x1 : Option Nat), k0 u x1 = some z → u.1 ≤ (uX1 z).1 ∧ u.2.1 ≤ (uX1 z).2.1) (u : UH) (x1 : Option Nat) (h : f_X4_read_31 N (ub G) (ug G) a0 k0 u x1 = some z) : u.1 ≤ (uX1 z).1 ∧ u.2.1 ≤ (uX1 z).2.1 := by
  unfold f_X4_read_31 at h
  have hq := zz_X4_read_57 (G := G) (a0 := a0) N k0 hk0 u x1 h
  exact ⟨by omega, by omega⟩
set_option maxHeartbeats 4000000 in
set_option maxRecDepth 100000 in
theorem w_X4_read_31 {p : Program} {l : Launch} {e : Env} {R : Room} {s : State} {m : MethodId} {args : Array Value} {below : List Frame} {meth : Method} {c : Code} {G : uG} {a0 : Nat} {u0 : UH} {z : (Nat × UH) ⊕ (Option Nat × UH)} (hC : uC p s m args meth c G RX4 cX4_read 2 (some (.object "SoftWheels$Book"))) (hE : c.exceptionTable.toList = []) (hR : 11 ≤ R.frames ∧ 284 ≤ R.locals) (hRm : (uX1 z).1 - u0.1 ≤ R.cells ∧ (uX1 z).2.1 - u0.2.1 ≤ R.slots) (N : Nat) (k0 : UH → Option Nat → Option ((Nat × UH) ⊕ (Option Nat × UH))) (hk0 : ∀ (u : UH) (x1 : Option Nat), k0 u x1 = some z → (u0.1 ≤ u.1 ∧ u0.2.1 ≤ u.2.1) → ∀ (H : Heap) (locs : List Loc), uP G u H → va_S (uA G) s.heap H locs → ∀ ls : Array Slot, lv_has ls 2 [(0, va_rf (some a0)), (1, va_rf x1)] → W p l e R s m args below meth c H locs (u.1 - u0.1) (u.2.1 - u0.2.1) (uMQr below G z args s ((uX1 z).1 - u0.1) ((uX1 z).2.1 - u0.2.1)) (F0 m 0 ls [])) (zk0 : ∀ (u : UH) (x1 : Option Nat), k0 u x1 = some z → u.1 ≤ (uX1 z).1 ∧ u.2.1 ≤ (uX1 z).2.1) (u : UH) (x1 : Option Nat) (h : f_X4_read_31 N (ub G) (ug G) a0 k0 u x1 = some z) (hz0 : (u0.1 ≤ u.1 ∧ u0.2.1 ≤ u.2.1)) {H : Heap} {locs : List Loc} (hP : uP G u H) (hS : va_S (uA G) s.heap H locs) {ls : Array Slot} (hl : lv_has ls 2 [(0, va_rf (some a0)), (1, va_rf x1)]) : W p l e R s m args below meth c H locs (u.1 - u0.1) (u.2.1 - u0.2.1) (uMQr below G z args s ((uX1 z).1 - u0.1) ((uX1 z).2.1 - u0.2.1)) (F0 m 31 ls []) := by
  obtain ⟨⟨hx, hb, hml, hown, hts⟩, hKK⟩ := id hC
  have hzf := zz_X4_read_31 (G := G) (a0 := a0) N k0 zk0 u x1 h
  unfold f_X4_read_31 at h
  refine lv_goto (tgt := 57) hx hb dX4_read_31 (by decide) ?_
  refine W.cs (cells' := u.1 - u0.1) (slots' := u.2.1 - u0.2.1) (by omega) (by omega) ?_
  exact w_X4_read_57 hC hE hR hRm N k0 hk0 zk0 u x1 h ⟨by omega, by omega⟩ hP hS (lv_sub hl [0, 1] rfl)
def f_X4_read_14 (N b : Nat) (g : uEnv) (a0 : Nat) (k0 : UH → Option Nat → Option ((Nat × UH) ⊕ (Option Nat × UH))) (u : UH) (x1 : Option Nat) : Option ((Nat × UH) ⊕ (Option Nat × UH)) :=
    f_X4_read_57 N b g a0 k0 u x1
set_option maxHeartbeats 4000000 in
set_option maxRecDepth 100000 in
theorem zz_X4_read_14 {G : uG} {a0 : Nat} {z : (Nat × UH) ⊕ (Option Nat × UH)} (N : Nat) (k0 : UH → Option Nat → Option ((Nat × UH) ⊕ (Option Nat × UH))) (hk0 : ∀ (u : UH) (x1 : Option Nat), k0 u x1 = some z → u.1 ≤ (uX1 z).1 ∧ u.2.1 ≤ (uX1 z).2.1) (u : UH) (x1 : Option Nat) (h : f_X4_read_14 N (ub G) (ug G) a0 k0 u x1 = some z) : u.1 ≤ (uX1 z).1 ∧ u.2.1 ≤ (uX1 z).2.1 := by
  unfold f_X4_read_14 at h
  have hq := zz_X4_read_57 (G := G) (a0 := a0) N k0 hk0 u x1 h
  exact ⟨by omega, by omega⟩
set_option maxHeartbeats 4000000 in
set_option maxRecDepth 100000 in
theorem w_X4_read_14 {p : Program} {l : Launch} {e : Env} {R : Room} {s : State} {m : MethodId} {args : Array Value} {below : List Frame} {meth : Method} {c : Code} {G : uG} {a0 : Nat} {u0 : UH} {z : (Nat × UH) ⊕ (Option Nat × UH)} (hC : uC p s m args meth c G RX4 cX4_read 2 (some (.object "SoftWheels$Book"))) (hE : c.exceptionTable.toList = []) (hR : 11 ≤ R.frames ∧ 284 ≤ R.locals) (hRm : (uX1 z).1 - u0.1 ≤ R.cells ∧ (uX1 z).2.1 - u0.2.1 ≤ R.slots) (N : Nat) (k0 : UH → Option Nat → Option ((Nat × UH) ⊕ (Option Nat × UH))) (hk0 : ∀ (u : UH) (x1 : Option Nat), k0 u x1 = some z → (u0.1 ≤ u.1 ∧ u0.2.1 ≤ u.2.1) → ∀ (H : Heap) (locs : List Loc), uP G u H → va_S (uA G) s.heap H locs → ∀ ls : Array Slot, lv_has ls 2 [(0, va_rf (some a0)), (1, va_rf x1)] → W p l e R s m args below meth c H locs (u.1 - u0.1) (u.2.1 - u0.2.1) (uMQr below G z args s ((uX1 z).1 - u0.1) ((uX1 z).2.1 - u0.2.1)) (F0 m 0 ls [])) (zk0 : ∀ (u : UH) (x1 : Option Nat), k0 u x1 = some z → u.1 ≤ (uX1 z).1 ∧ u.2.1 ≤ (uX1 z).2.1) (u : UH) (x1 : Option Nat) (h : f_X4_read_14 N (ub G) (ug G) a0 k0 u x1 = some z) (hz0 : (u0.1 ≤ u.1 ∧ u0.2.1 ≤ u.2.1)) {H : Heap} {locs : List Loc} (hP : uP G u H) (hS : va_S (uA G) s.heap H locs) {ls : Array Slot} (hl : lv_has ls 2 [(0, va_rf (some a0)), (1, va_rf x1)]) : W p l e R s m args below meth c H locs (u.1 - u0.1) (u.2.1 - u0.2.1) (uMQr below G z args s ((uX1 z).1 - u0.1) ((uX1 z).2.1 - u0.2.1)) (F0 m 14 ls []) := by
  obtain ⟨⟨hx, hb, hml, hown, hts⟩, hKK⟩ := id hC
  have hzf := zz_X4_read_14 (G := G) (a0 := a0) N k0 zk0 u x1 h
  unfold f_X4_read_14 at h
  refine lv_goto (tgt := 57) hx hb dX4_read_14 (by decide) ?_
  refine W.cs (cells' := u.1 - u0.1) (slots' := u.2.1 - u0.2.1) (by omega) (by omega) ?_
  exact w_X4_read_57 hC hE hR hRm N k0 hk0 zk0 u x1 h ⟨by omega, by omega⟩ hP hS (lv_sub hl [0, 1] rfl)
def f_X4_read_6 (N b : Nat) (g : uEnv) (a0 : Nat) (k0 : UH → Option Nat → Option ((Nat × UH) ⊕ (Option Nat × UH))) (u : UH) (x1 : Option Nat) (s0 : Int32) : Option ((Nat × UH) ⊕ (Option Nat × UH)) :=
    if s0 = 0 then
    (x1).bind fun a2 =>
    if uIs u a2 4 = true then
    ucall (f_X5_is N b g u a2 (some (g.2.1 15))) fun r6 u4 =>
    if r6 = 0 then
    if uIs u4 a2 4 = true then
    ucall (f_X5_skips N b g u4 a2 (some (g.2.1 21))) fun r11 u9 =>
    f_X4_read_40 N b g a0 k0 u9 (some a2) r11
    else none
    else
    if uIs u4 a0 3 = true then
    uxcallv (f_X4_readRover N b g u4 a0 (some a2)) (fun a15 u16 =>
    some (.inl (a15, u16))) fun u13 =>
    f_X4_read_31 N b g a0 k0 u13 (some a2)
    else none
    else none
    else
    if uIs u a0 3 = true then
    uxcallv (f_X4_readGround N b g u a0 x1) (fun a21 u22 =>
    some (.inl (a21, u22))) fun u19 =>
    f_X4_read_14 N b g a0 k0 u19 x1
    else none
set_option maxHeartbeats 4000000 in
set_option maxRecDepth 100000 in
theorem zz_X4_read_6 {G : uG} {a0 : Nat} {z : (Nat × UH) ⊕ (Option Nat × UH)} (N : Nat) (k0 : UH → Option Nat → Option ((Nat × UH) ⊕ (Option Nat × UH))) (hk0 : ∀ (u : UH) (x1 : Option Nat), k0 u x1 = some z → u.1 ≤ (uX1 z).1 ∧ u.2.1 ≤ (uX1 z).2.1) (u : UH) (x1 : Option Nat) (s0 : Int32) (h : f_X4_read_6 N (ub G) (ug G) a0 k0 u x1 s0 = some z) : u.1 ≤ (uX1 z).1 ∧ u.2.1 ≤ (uX1 z).2.1 := by
  unfold f_X4_read_6 at h
  by_cases c1 : s0 = 0
  · have h := mif_t c1 h
    obtain ⟨a2, ha2, hha2⟩ := mbind_n h
    subst ha2
    have h := hha2
    obtain ⟨c3, h⟩ := mif_n h
    obtain ⟨r6, u4, c5, h⟩ := ucall_n h
    have zu4 := zz_X5_is N (ub G) (ug G) u a2 (some ((ug G).2.1 15)) r6 u4 c5
    by_cases c7 : r6 = 0
    · have h := mif_t c7 h
      obtain ⟨c8, h⟩ := mif_n h
      obtain ⟨r11, u9, c10, h⟩ := ucall_n h
      have zu9 := zz_X5_skips N (ub G) (ug G) u4 a2 (some ((ug G).2.1 21)) r11 u9 c10
      have hq := zz_X4_read_40 (G := G) (a0 := a0) N k0 hk0 u9 (some a2) r11 h
      exact ⟨by omega, by omega⟩
    · have h := mif_f c7 h
      obtain ⟨c12, h⟩ := mif_n h
      rcases uxcallv_n h with ⟨a15, u16, c17, h⟩ | ⟨u13, c14, h⟩
      · have zu16 : u4.1 ≤ u16.1 ∧ u4.2.1 ≤ u16.2.1 := zz_X4_readRover N (ub G) (ug G) u4 a0 (some a2) (.inl (a15, u16)) c17
        have hz := Option.some.inj h
        subst hz
        exact (show u.1 ≤ u16.1 ∧ u.2.1 ≤ u16.2.1 from ⟨by omega, by omega⟩)
      · have zu13 : u4.1 ≤ u13.1 ∧ u4.2.1 ≤ u13.2.1 := zz_X4_readRover N (ub G) (ug G) u4 a0 (some a2) (.inr u13) c14
        have hq := zz_X4_read_31 (G := G) (a0 := a0) N k0 hk0 u13 (some a2) h
        exact ⟨by omega, by omega⟩
  · have h := mif_f c1 h
    obtain ⟨c18, h⟩ := mif_n h
    rcases uxcallv_n h with ⟨a21, u22, c23, h⟩ | ⟨u19, c20, h⟩
    · have zu22 : u.1 ≤ u22.1 ∧ u.2.1 ≤ u22.2.1 := zz_X4_readGround N (ub G) (ug G) u a0 x1 (.inl (a21, u22)) c23
      have hz := Option.some.inj h
      subst hz
      exact (show u.1 ≤ u22.1 ∧ u.2.1 ≤ u22.2.1 from ⟨by omega, by omega⟩)
    · have zu19 : u.1 ≤ u19.1 ∧ u.2.1 ≤ u19.2.1 := zz_X4_readGround N (ub G) (ug G) u a0 x1 (.inr u19) c20
      have hq := zz_X4_read_14 (G := G) (a0 := a0) N k0 hk0 u19 x1 h
      exact ⟨by omega, by omega⟩
set_option maxHeartbeats 4000000 in
set_option maxRecDepth 100000 in
theorem w_X4_read_6 {p : Program} {l : Launch} {e : Env} {R : Room} {s : State} {m : MethodId} {args : Array Value} {below : List Frame} {meth : Method} {c : Code} {G : uG} {a0 : Nat} {u0 : UH} {z : (Nat × UH) ⊕ (Option Nat × UH)} (hC : uC p s m args meth c G RX4 cX4_read 2 (some (.object "SoftWheels$Book"))) (hE : c.exceptionTable.toList = []) (hR : 11 ≤ R.frames ∧ 284 ≤ R.locals) (hRm : (uX1 z).1 - u0.1 ≤ R.cells ∧ (uX1 z).2.1 - u0.2.1 ≤ R.slots) (N : Nat) (k0 : UH → Option Nat → Option ((Nat × UH) ⊕ (Option Nat × UH))) (hk0 : ∀ (u : UH) (x1 : Option Nat), k0 u x1 = some z → (u0.1 ≤ u.1 ∧ u0.2.1 ≤ u.2.1) → ∀ (H : Heap) (locs : List Loc), uP G u H → va_S (uA G) s.heap H locs → ∀ ls : Array Slot, lv_has ls 2 [(0, va_rf (some a0)), (1, va_rf x1)] → W p l e R s m args below meth c H locs (u.1 - u0.1) (u.2.1 - u0.2.1) (uMQr below G z args s ((uX1 z).1 - u0.1) ((uX1 z).2.1 - u0.2.1)) (F0 m 0 ls [])) (zk0 : ∀ (u : UH) (x1 : Option Nat), k0 u x1 = some z → u.1 ≤ (uX1 z).1 ∧ u.2.1 ≤ (uX1 z).2.1) (u : UH) (x1 : Option Nat) (s0 : Int32) (h : f_X4_read_6 N (ub G) (ug G) a0 k0 u x1 s0 = some z) (hz0 : (u0.1 ≤ u.1 ∧ u0.2.1 ≤ u.2.1)) {H : Heap} {locs : List Loc} (hP : uP G u H) (hS : va_S (uA G) s.heap H locs) {ls : Array Slot} (hl : lv_has ls 2 [(0, va_rf (some a0)), (1, va_rf x1)]) : W p l e R s m args below meth c H locs (u.1 - u0.1) (u.2.1 - u0.2.1) (uMQr below G z args s ((uX1 z).1 - u0.1) ((uX1 z).2.1 - u0.2.1)) (F0 m 6 ls [.int s0]) := by
  obtain ⟨⟨hx, hb, hml, hown, hts⟩, hKK⟩ := id hC
  have hzf := zz_X4_read_6 (G := G) (a0 := a0) N k0 zk0 u x1 s0 h
  unfold f_X4_read_6 at h
  refine lv_if_eq (tgt := 17) hx hb dX4_read_6 (by decide) (fun c1 => ?_) (fun c1 => ?_)
  · have h := mif_t c1 h
    refine u_aload_n (r := x1) hx hb dX4_read_17 rfl (lv_at hl 1 rfl) ?_
    refine u_ldcS hC 15 rfl dX4_read_18 ?_
    obtain ⟨a2, ha2, hha2⟩ := mbind_n h
    subst ha2
    have h := hha2
    obtain ⟨c3, h⟩ := mif_n h
    obtain ⟨r6, u4, c5, h⟩ := ucall_n h
    have zu4 := zz_X5_is N (ub G) (ug G) u a2 (some ((ug G).2.1 15)) r6 u4 c5
    refine u_calli (va_runV (As := [va_rf (some ((ug G).2.1 15))]) (rest := []) hC.1 (met_X5_is l N G u a2 (some ((ug G).2.1 15)) r6 u4 c5) (cwV 1 hts (lw_V q993 q668 q669 q105 q670) rfl rfl rfl (by decide +kernel) ⟨Nat.le_trans (Nat.le_of_ble_eq_true rfl) hR.1, Nat.le_trans (Nat.le_of_ble_eq_true rfl) hR.2⟩) ⟨uPc_blind, u_rcv hC hP c3 rfl, fun U hU hW => u_pre hC hP hS hU hW⟩ rfl rfl hl.1 rfl (lv_room (Nat.le_of_ble_eq_true rfl)) dX4_read_20 ⟨by omega, by omega⟩) hS (fun H locs hP hS => ?_)
    refine W.cs (cells' := u4.1 - u0.1) (slots' := u4.2.1 - u0.2.1) (by omega) (by omega) ?_
    refine lv_if_eq (tgt := 34) hx hb dX4_read_23 (by decide) (fun c7 => ?_) (fun c7 => ?_)
    · have h := mif_t c7 h
      refine u_aload_n (r := some a2) hx hb dX4_read_34 rfl (lv_at hl 1 rfl) ?_
      refine u_ldcS hC 21 rfl dX4_read_35 ?_
      obtain ⟨c8, h⟩ := mif_n h
      obtain ⟨r11, u9, c10, h⟩ := ucall_n h
      have zu9 := zz_X5_skips N (ub G) (ug G) u4 a2 (some ((ug G).2.1 21)) r11 u9 c10
      have hq := zz_X4_read_40 (G := G) (a0 := a0) N k0 zk0 u9 (some a2) r11 h
      refine u_calli (va_runV (As := [va_rf (some ((ug G).2.1 21))]) (rest := []) hC.1 (met_X5_skips l N G u4 a2 (some ((ug G).2.1 21)) r11 u9 c10) (cwV 1 hts (lw_V q662 q663 q664 q105 q665) rfl rfl rfl (by decide +kernel) ⟨Nat.le_trans (Nat.le_of_ble_eq_true rfl) hR.1, Nat.le_trans (Nat.le_of_ble_eq_true rfl) hR.2⟩) ⟨uPc_blind, u_rcv hC hP c8 rfl, fun U hU hW => u_pre hC hP hS hU hW⟩ rfl rfl hl.1 rfl (lv_room (Nat.le_of_ble_eq_true rfl)) dX4_read_37 ⟨by omega, by omega⟩) hS (fun H locs hP hS => ?_)
      refine W.cs (cells' := u9.1 - u0.1) (slots' := u9.2.1 - u0.2.1) (by omega) (by omega) ?_
      refine W.cs (cells' := u9.1 - u0.1) (slots' := u9.2.1 - u0.2.1) (by omega) (by omega) ?_
      exact w_X4_read_40 hC hE hR hRm N k0 hk0 zk0 u9 (some a2) r11 h ⟨by omega, by omega⟩ hP hS (lv_sub hl [0, 1] rfl)
    · have h := mif_f c7 h
      refine u_aload_n (r := some a0) hx hb dX4_read_26 rfl (lv_at hl 0 rfl) ?_
      refine u_aload_n (r := some a2) hx hb dX4_read_27 rfl (lv_at hl 1 rfl) ?_
      obtain ⟨c12, h⟩ := mif_n h
      rcases uxcallv_n h with ⟨a15, u16, c17, h⟩ | ⟨u13, c14, h⟩
      · have zu16 : u4.1 ≤ u16.1 ∧ u4.2.1 ≤ u16.2.1 := zz_X4_readRover N (ub G) (ug G) u4 a0 (some a2) (.inl (a15, u16)) c17
        have hz := Option.some.inj h
        subst hz
        have hRm : u16.1 - u0.1 ≤ R.cells ∧ u16.2.1 - u0.2.1 ≤ R.slots := hRm
        exact u_callX hC (u_noE hE) (u_runVX (As := [va_rf (some a2)]) (rest := []) hC.1 (mex_X4_readRover l N G u4 a0 (some a2) a15 u16 c17) (cwV 1 hts (lw_V q994 q996 qs10 q104 q997) rfl rfl rfl (by decide +kernel) ⟨Nat.le_trans (Nat.le_of_ble_eq_true rfl) hR.1, Nat.le_trans (Nat.le_of_ble_eq_true rfl) hR.2⟩) ⟨uPc_blind, u_rcv hC hP c12 rfl, fun U hU hW => u_pre hC hP hS hU hW⟩ rfl rfl hl.1 rfl (lv_room (Nat.le_of_ble_eq_true rfl)) dX4_read_28 ⟨by omega, by omega⟩) hS (by show _ + _ = u16.1 - u0.1; omega) (by show _ + _ = u16.2.1 - u0.2.1; omega)
      · have zu13 : u4.1 ≤ u13.1 ∧ u4.2.1 ≤ u13.2.1 := zz_X4_readRover N (ub G) (ug G) u4 a0 (some a2) (.inr u13) c14
        have hq := zz_X4_read_31 (G := G) (a0 := a0) N k0 zk0 u13 (some a2) h
        refine u_callv (va_runV (As := [va_rf (some a2)]) (rest := []) hC.1 (met_X4_readRover l N G u4 a0 (some a2) u13 c14) (cwV 1 hts (lw_V q994 q996 qs10 q104 q997) rfl rfl rfl (by decide +kernel) ⟨Nat.le_trans (Nat.le_of_ble_eq_true rfl) hR.1, Nat.le_trans (Nat.le_of_ble_eq_true rfl) hR.2⟩) ⟨uPc_blind, u_rcv hC hP c12 rfl, fun U hU hW => u_pre hC hP hS hU hW⟩ rfl rfl hl.1 rfl (lv_room (Nat.le_of_ble_eq_true rfl)) dX4_read_28 ⟨by omega, by omega⟩) hS (fun H locs hP hS => ?_)
        refine W.cs (cells' := u13.1 - u0.1) (slots' := u13.2.1 - u0.2.1) (by omega) (by omega) ?_
        exact w_X4_read_31 hC hE hR hRm N k0 hk0 zk0 u13 (some a2) h ⟨by omega, by omega⟩ hP hS (lv_sub hl [0, 1] rfl)
  · have h := mif_f c1 h
    refine u_aload_n (r := some a0) hx hb dX4_read_9 rfl (lv_at hl 0 rfl) ?_
    refine u_aload_n (r := x1) hx hb dX4_read_10 rfl (lv_at hl 1 rfl) ?_
    obtain ⟨c18, h⟩ := mif_n h
    rcases uxcallv_n h with ⟨a21, u22, c23, h⟩ | ⟨u19, c20, h⟩
    · have zu22 : u.1 ≤ u22.1 ∧ u.2.1 ≤ u22.2.1 := zz_X4_readGround N (ub G) (ug G) u a0 x1 (.inl (a21, u22)) c23
      have hz := Option.some.inj h
      subst hz
      have hRm : u22.1 - u0.1 ≤ R.cells ∧ u22.2.1 - u0.2.1 ≤ R.slots := hRm
      exact u_callX hC (u_noE hE) (u_runVX (As := [va_rf x1]) (rest := []) hC.1 (mex_X4_readGround l N G u a0 x1 a21 u22 c23) (cwV 1 hts (lw_V q694 q696 qs5 q104 q697) rfl rfl rfl (by decide +kernel) ⟨Nat.le_trans (Nat.le_of_ble_eq_true rfl) hR.1, Nat.le_trans (Nat.le_of_ble_eq_true rfl) hR.2⟩) ⟨uPc_blind, u_rcv hC hP c18 rfl, fun U hU hW => u_pre hC hP hS hU hW⟩ rfl rfl hl.1 rfl (lv_room (Nat.le_of_ble_eq_true rfl)) dX4_read_11 ⟨by omega, by omega⟩) hS (by show _ + _ = u22.1 - u0.1; omega) (by show _ + _ = u22.2.1 - u0.2.1; omega)
    · have zu19 : u.1 ≤ u19.1 ∧ u.2.1 ≤ u19.2.1 := zz_X4_readGround N (ub G) (ug G) u a0 x1 (.inr u19) c20
      have hq := zz_X4_read_14 (G := G) (a0 := a0) N k0 zk0 u19 x1 h
      refine u_callv (va_runV (As := [va_rf x1]) (rest := []) hC.1 (met_X4_readGround l N G u a0 x1 u19 c20) (cwV 1 hts (lw_V q694 q696 qs5 q104 q697) rfl rfl rfl (by decide +kernel) ⟨Nat.le_trans (Nat.le_of_ble_eq_true rfl) hR.1, Nat.le_trans (Nat.le_of_ble_eq_true rfl) hR.2⟩) ⟨uPc_blind, u_rcv hC hP c18 rfl, fun U hU hW => u_pre hC hP hS hU hW⟩ rfl rfl hl.1 rfl (lv_room (Nat.le_of_ble_eq_true rfl)) dX4_read_11 ⟨by omega, by omega⟩) hS (fun H locs hP hS => ?_)
      refine W.cs (cells' := u19.1 - u0.1) (slots' := u19.2.1 - u0.2.1) (by omega) (by omega) ?_
      exact w_X4_read_14 hC hE hR hRm N k0 hk0 zk0 u19 x1 h ⟨by omega, by omega⟩ hP hS (lv_sub hl [0, 1] rfl)
def f_X4_read_0 (N b : Nat) (g : uEnv) (a0 : Nat) : Nat → UH → Option Nat → Option ((Nat × UH) ⊕ (Option Nat × UH))
  | 0, _, _ => none
  | n + 1, u, x1 =>
    (x1).bind fun a1 =>
    if uIs u a1 4 = true then
    ucall (f_X5_skips N b g u a1 (some (g.2.1 1))) fun r5 u3 =>
    f_X4_read_6 N b g a0 (f_X4_read_0 N b g a0 n) u3 (some a1) r5
    else none
set_option maxHeartbeats 4000000 in
set_option maxRecDepth 100000 in
theorem zz_X4_read_0 {G : uG} {a0 : Nat} {z : (Nat × UH) ⊕ (Option Nat × UH)} (N : Nat) : ∀ (n : Nat) (u : UH) (x1 : Option Nat), f_X4_read_0 N (ub G) (ug G) a0 n u x1 = some z → u.1 ≤ (uX1 z).1 ∧ u.2.1 ≤ (uX1 z).2.1 := by
  intro n
  induction n with
  | zero =>
    intro u x1 h
    cases h
  | succ n ih =>
    intro u x1 h
    unfold f_X4_read_0 at h
    obtain ⟨a1, ha1, hha1⟩ := mbind_n h
    subst ha1
    have h := hha1
    obtain ⟨c2, h⟩ := mif_n h
    obtain ⟨r5, u3, c4, h⟩ := ucall_n h
    have zu3 := zz_X5_skips N (ub G) (ug G) u a1 (some ((ug G).2.1 1)) r5 u3 c4
    have hq := zz_X4_read_6 (G := G) (a0 := a0) N (f_X4_read_0 N (ub G) (ug G) a0 n) ih u3 (some a1) r5 h
    exact ⟨by omega, by omega⟩
set_option maxHeartbeats 4000000 in
set_option maxRecDepth 100000 in
theorem w_X4_read_0 {p : Program} {l : Launch} {e : Env} {R : Room} {s : State} {m : MethodId} {args : Array Value} {below : List Frame} {meth : Method} {c : Code} {G : uG} {a0 : Nat} {u0 : UH} {z : (Nat × UH) ⊕ (Option Nat × UH)} (hC : uC p s m args meth c G RX4 cX4_read 2 (some (.object "SoftWheels$Book"))) (hE : c.exceptionTable.toList = []) (hR : 11 ≤ R.frames ∧ 284 ≤ R.locals) (hRm : (uX1 z).1 - u0.1 ≤ R.cells ∧ (uX1 z).2.1 - u0.2.1 ≤ R.slots) (N : Nat) : ∀ (n : Nat) (u : UH) (x1 : Option Nat), f_X4_read_0 N (ub G) (ug G) a0 n u x1 = some z → (u0.1 ≤ u.1 ∧ u0.2.1 ≤ u.2.1) → ∀ (H : Heap) (locs : List Loc), uP G u H → va_S (uA G) s.heap H locs → ∀ ls : Array Slot, lv_has ls 2 [(0, va_rf (some a0)), (1, va_rf x1)] → W p l e R s m args below meth c H locs (u.1 - u0.1) (u.2.1 - u0.2.1) (uMQr below G z args s ((uX1 z).1 - u0.1) ((uX1 z).2.1 - u0.2.1)) (F0 m 0 ls []) := by
  obtain ⟨⟨hx, hb, hml, hown, hts⟩, hKK⟩ := id hC
  intro n
  induction n with
  | zero =>
    intro u x1 h
    cases h
  | succ n ih =>
    intro u x1 h hz0 H locs hP hS ls hl
    have hzf := zz_X4_read_0 (G := G) (a0 := a0) N (n + 1) u x1 h
    unfold f_X4_read_0 at h
    refine u_aload_n (r := x1) hx hb dX4_read_0 rfl (lv_at hl 1 rfl) ?_
    refine u_ldcS hC 1 rfl dX4_read_1 ?_
    obtain ⟨a1, ha1, hha1⟩ := mbind_n h
    subst ha1
    have h := hha1
    obtain ⟨c2, h⟩ := mif_n h
    obtain ⟨r5, u3, c4, h⟩ := ucall_n h
    have zu3 := zz_X5_skips N (ub G) (ug G) u a1 (some ((ug G).2.1 1)) r5 u3 c4
    have hq := zz_X4_read_6 (G := G) (a0 := a0) N (f_X4_read_0 N (ub G) (ug G) a0 n) (zz_X4_read_0 (G := G) (a0 := a0) N n) u3 (some a1) r5 h
    refine u_calli (va_runV (As := [va_rf (some ((ug G).2.1 1))]) (rest := []) hC.1 (met_X5_skips l N G u a1 (some ((ug G).2.1 1)) r5 u3 c4) (cwV 1 hts (lw_V q662 q663 q664 q105 q665) rfl rfl rfl (by decide +kernel) ⟨Nat.le_trans (Nat.le_of_ble_eq_true rfl) hR.1, Nat.le_trans (Nat.le_of_ble_eq_true rfl) hR.2⟩) ⟨uPc_blind, u_rcv hC hP c2 rfl, fun U hU hW => u_pre hC hP hS hU hW⟩ rfl rfl hl.1 rfl (lv_room (Nat.le_of_ble_eq_true rfl)) dX4_read_3 ⟨by omega, by omega⟩) hS (fun H locs hP hS => ?_)
    refine W.cs (cells' := u3.1 - u0.1) (slots' := u3.2.1 - u0.2.1) (by omega) (by omega) ?_
    refine W.cs (cells' := u3.1 - u0.1) (slots' := u3.2.1 - u0.2.1) (by omega) (by omega) ?_
    exact w_X4_read_6 hC hE hR hRm N (f_X4_read_0 N (ub G) (ug G) a0 n) ih (zz_X4_read_0 (G := G) (a0 := a0) N n) u3 (some a1) r5 h ⟨by omega, by omega⟩ hP hS (lv_sub hl [0, 1] rfl)
def f_X4_read (N b : Nat) (g : uEnv) (u : UH) (a0 : Nat) (x1 : Option Nat) : Option ((Nat × UH) ⊕ (Option Nat × UH)) := f_X4_read_0 N b g a0 N u x1
theorem zz_X4_read (N b : Nat) (g : uEnv) (u : UH) (a0 : Nat) (x1 : Option Nat) (z : (Nat × UH) ⊕ (Option Nat × UH)) (h : f_X4_read N b g u a0 x1 = some z) : u.1 ≤ (uX1 z).1 ∧ u.2.1 ≤ (uX1 z).2.1 :=
  zz_X4_read_0 (G := ((fun _ => 0, fun _ _ => 0), fun _ => 0, b, g)) (a0 := a0) N N u x1 h
theorem met_X4_read (l : Launch) (N : Nat) (G : uG) (u : UH) (a0 : Nat) (x1 : Option Nat) (r : Option Nat) (uf : UH) (h : f_X4_read N (ub G) (ug G) u a0 x1 = some (.inr (r, uf))) : Met l yX4_read (ws_ yX4_read cX4_read 2 (some (.object "SoftWheels$Book"))) ({ frames := 11, cells := (uf.1 - u.1), slots := (uf.2.1 - u.2.1), locals := 284 }) (uPc G u [.ref a0, va_rf x1]) (uQr G r uf) (uf.1 - u.1) (uf.2.1 - u.2.1) (uA G) := by
  rcases x1 with _ | x1 <;> exact u_metE (own := RX4) (by decide +kernel) rfl (Nat.le_of_ble_eq_true rfl) (fun hC hE hn hsz ls hl hP => W.cs (Nat.sub_self _).symm (Nat.sub_self _).symm (w_X4_read_0 hC hE ⟨Nat.le_refl _, Nat.le_refl _⟩ ⟨Nat.le_refl _, Nat.le_refl _⟩ N N u _ h ⟨Nat.le_refl _, Nat.le_refl _⟩ _ _ hP va_S.rf _ hl))
theorem mex_X4_read (l : Launch) (N : Nat) (G : uG) (u : UH) (a0 : Nat) (x1 : Option Nat) (x : Nat) (uf : UH) (h : f_X4_read N (ub G) (ug G) u a0 x1 = some (.inl (x, uf))) : uMX l yX4_read (ws_ yX4_read cX4_read 2 (some (.object "SoftWheels$Book"))) ({ frames := 11, cells := (uf.1 - u.1), slots := (uf.2.1 - u.2.1), locals := 284 }) G u [.ref a0, va_rf x1] x uf (uf.1 - u.1) (uf.2.1 - u.2.1) := by
  rcases x1 with _ | x1 <;> exact u_metX (own := RX4) (by decide +kernel) rfl (Nat.le_of_ble_eq_true rfl) (fun hC hE hn hsz ls hl hP => W.cs (Nat.sub_self _).symm (Nat.sub_self _).symm (w_X4_read_0 hC hE ⟨Nat.le_refl _, Nat.le_refl _⟩ ⟨Nat.le_refl _, Nat.le_refl _⟩ N N u _ h ⟨Nat.le_refl _, Nat.le_refl _⟩ _ _ hP va_S.rf _ hl))
def f_X1_book_34 (N b : Nat) (g : uEnv) (a0 : Nat) (u : UH) (s0 : Option Nat) (s1 : Option Nat) : Option (Int32 × UH) :=
    (s1).bind fun a1 =>
    (uPut b u a1 0 2 (va_rf s0)).bind fun u2 =>
    (uPut b u2 a0 0 3 (.int 0)).bind fun u3 =>
    (uGR u3 a0 0 14).bind fun o4 =>
    (f_J10_fill N b g u3 o4 0).bind fun u5 =>
    (uPut b u5 a0 0 7 (va_rf none)).bind fun u7 =>
    (uGR u7 a0 0 10).bind fun o8 =>
    (o8).bind fun a9 =>
    if uIs u7 a9 18 = true then
    (f_J2_clear N b g u7 a9).bind fun u11 =>
    (uGR u11 a0 0 2).bind fun o13 =>
    (o13).bind fun a14 =>
    (uGR u11 a14 3 0).bind fun o15 =>
    (o15).bind fun a16 =>
    if uIs u11 a16 18 = true then
    ucall (f_J2_size N b g u11 a16) fun r20 u18 =>
    if uIs u18 a0 0 = true then
    ucall (f_X1_done N b g u18 a0 r20) fun r24 u22 =>
    some (r24, u22)
    else none
    else none
    else none
set_option maxHeartbeats 4000000 in
set_option maxRecDepth 100000 in
theorem zz_X1_book_34 {G : uG} {a0 : Nat} {uf : UH} {r : Int32} (N : Nat) (u : UH) (s0 : Option Nat) (s1 : Option Nat) (h : f_X1_book_34 N (ub G) (ug G) a0 u s0 s1 = some (r, uf)) : u.1 ≤ uf.1 ∧ u.2.1 ≤ uf.2.1 := by
  unfold f_X1_book_34 at h
  obtain ⟨a1, ha1, hha1⟩ := mbind_n h
  subst ha1
  have h := hha1
  obtain ⟨u2, hu2, h⟩ := mbind_n h
  have zu2 := uPut_sz hu2
  obtain ⟨u3, hu3, h⟩ := mbind_n h
  have zu3 := uPut_sz hu3
  obtain ⟨o4, ho4, h⟩ := mbind_n h
  obtain ⟨u5, c6, h⟩ := mbind_n h
  have zu5 := zz_J10_fill N (ub G) (ug G) u3 o4 0 u5 c6
  obtain ⟨u7, hu7, h⟩ := mbind_n h
  have zu7 := uPut_sz hu7
  obtain ⟨o8, ho8, h⟩ := mbind_n h
  obtain ⟨a9, ha9, hha9⟩ := mbind_n h
  subst ha9
  have h := hha9
  obtain ⟨c10, h⟩ := mif_n h
  obtain ⟨u11, c12, h⟩ := mbind_n h
  have zu11 := zz_J2_clear N (ub G) (ug G) u7 a9 u11 c12
  obtain ⟨o13, ho13, h⟩ := mbind_n h
  obtain ⟨a14, ha14, hha14⟩ := mbind_n h
  subst ha14
  have h := hha14
  obtain ⟨o15, ho15, h⟩ := mbind_n h
  obtain ⟨a16, ha16, hha16⟩ := mbind_n h
  subst ha16
  have h := hha16
  obtain ⟨c17, h⟩ := mif_n h
  obtain ⟨r20, u18, c19, h⟩ := ucall_n h
  have zu18 := zz_J2_size N (ub G) (ug G) u11 a16 r20 u18 c19
  obtain ⟨c21, h⟩ := mif_n h
  obtain ⟨r24, u22, c23, h⟩ := ucall_n h
  have zu22 := zz_X1_done N (ub G) (ug G) u18 a0 r20 r24 u22 c23
  obtain ⟨hr1, hr2⟩ := uret_n h
  subst hr2
  exact ⟨by omega, by omega⟩
set_option maxHeartbeats 4000000 in
set_option maxRecDepth 100000 in
theorem w_X1_book_34 {p : Program} {l : Launch} {e : Env} {R : Room} {s : State} {m : MethodId} {args : Array Value} {below : List Frame} {meth : Method} {c : Code} {G : uG} {a0 : Nat} {u0 : UH} {uf : UH} {r : Int32} (hC : uC p s m args meth c G RX1 cX1_book 3 (some .int)) (hE : c.exceptionTable.toList = [{ startPc := 18, endPc := 37, handlerPc := 40, catchType := 73 }]) (hR : 12 ≤ R.frames ∧ 305 ≤ R.locals) (hRm : uf.1 - u0.1 ≤ R.cells ∧ uf.2.1 - u0.2.1 ≤ R.slots) (N : Nat) (u : UH) (s0 : Option Nat) (s1 : Option Nat) (h : f_X1_book_34 N (ub G) (ug G) a0 u s0 s1 = some (r, uf)) (hz0 : (u0.1 ≤ u.1 ∧ u0.2.1 ≤ u.2.1)) {H : Heap} {locs : List Loc} (hP : uP G u H) (hS : va_S (uA G) s.heap H locs) {ls : Array Slot} (hl : lv_has ls 3 [(0, va_rf (some a0))]) : W p l e R s m args below meth c H locs (u.1 - u0.1) (u.2.1 - u0.2.1) (MQ below (uQi G r uf) args s (uf.1 - u0.1) (uf.2.1 - u0.2.1) (uA G)) (F0 m 34 ls [va_rf s0, va_rf s1]) := by
  obtain ⟨⟨hx, hb, hml, hown, hts⟩, hKK⟩ := id hC
  have hzf := zz_X1_book_34 (G := G) (a0 := a0) N u s0 s1 h
  unfold f_X1_book_34 at h
  obtain ⟨a1, ha1, hha1⟩ := mbind_n h
  subst ha1
  have h := hha1
  obtain ⟨u2, hu2, h⟩ := mbind_n h
  have zu2 := uPut_sz hu2
  refine u_put hC hP hS hu2 rfl in_X1 tyX1 tyX1_ok nmX1 (by decide) q217 (fun _ h => h) rfl (ty := (.object "SoftWheels$Book")) (tyX1_ok 2 (by decide)) (uNarR _ s0).1 (uNarR _ s0).2 dX1_book_34 (fun H locs hP hS => ?_)
  refine W.cs (cells' := u2.1 - u0.1) (slots' := u2.2.1 - u0.2.1) (by omega) (by omega) ?_
  refine lv_goto (tgt := 47) hx hb dX1_book_37 (by decide) ?_
  refine u_aload_n (r := some a0) hx hb dX1_book_47 rfl (lv_at hl 0 rfl) ?_
  refine lv_iconst (v := 0) hx hb dX1_book_48 (by decide) ?_
  obtain ⟨u3, hu3, h⟩ := mbind_n h
  have zu3 := uPut_sz hu3
  refine u_put hC hP hS hu3 rfl in_X1 tyX1 tyX1_ok nmX1 (by decide) q218 (fun _ h => h) rfl (ty := .int) (tyX1_ok 3 (by decide)) rfl rfl dX1_book_49 (fun H locs hP hS => ?_)
  refine W.cs (cells' := u3.1 - u0.1) (slots' := u3.2.1 - u0.2.1) (by omega) (by omega) ?_
  refine u_aload_n (r := some a0) hx hb dX1_book_52 rfl (lv_at hl 0 rfl) ?_
  obtain ⟨o4, ho4, h⟩ := mbind_n h
  refine u_get hC hP (uGR_n ho4) rfl in_X1 (by decide) q229 (fun _ h => h) dX1_book_53 ?_
  refine lv_iconst (v := 0) hx hb dX1_book_56 (by decide) ?_
  obtain ⟨u5, c6, h⟩ := mbind_n h
  have zu5 := zz_J10_fill N (ub G) (ug G) u3 o4 0 u5 c6
  refine u_callv (va_runS (As := [va_rf o4, .int 0]) (rest := []) hC.1 (met_J10_fill l N G u3 o4 0 u5 c6) (va_cwS 2 hts (lw_S q1056 q1057 q114 q1058) rfl rfl rfl (by decide +kernel) ⟨Nat.le_trans (Nat.le_of_ble_eq_true rfl) hR.1, Nat.le_trans (Nat.le_of_ble_eq_true rfl) hR.2⟩) ⟨uPc_blind, fun U hU hW => u_pre hC hP hS hU hW⟩ rfl rfl hl.1 rfl (lv_room (Nat.le_of_ble_eq_true rfl)) dX1_book_57 ⟨by omega, by omega⟩) hS (fun H locs hP hS => ?_)
  refine W.cs (cells' := u5.1 - u0.1) (slots' := u5.2.1 - u0.2.1) (by omega) (by omega) ?_
  refine u_aload_n (r := some a0) hx hb dX1_book_60 rfl (lv_at hl 0 rfl) ?_
  refine lv_null hx hb dX1_book_61 ?_
  obtain ⟨u7, hu7, h⟩ := mbind_n h
  have zu7 := uPut_sz hu7
  refine u_put hC hP hS hu7 rfl in_X1 tyX1 tyX1_ok nmX1 (by decide) q222 (fun _ h => h) rfl (ty := (.object "SoftWheels$Land")) (tyX1_ok 7 (by decide)) (uNarR _ none).1 (uNarR _ none).2 dX1_book_62 (fun H locs hP hS => ?_)
  refine W.cs (cells' := u7.1 - u0.1) (slots' := u7.2.1 - u0.2.1) (by omega) (by omega) ?_
  refine u_aload_n (r := some a0) hx hb dX1_book_65 rfl (lv_at hl 0 rfl) ?_
  obtain ⟨o8, ho8, h⟩ := mbind_n h
  refine u_get hC hP (uGR_n ho8) rfl in_X1 (by decide) q225 (fun _ h => h) dX1_book_66 ?_
  obtain ⟨a9, ha9, hha9⟩ := mbind_n h
  subst ha9
  have h := hha9
  obtain ⟨c10, h⟩ := mif_n h
  obtain ⟨u11, c12, h⟩ := mbind_n h
  have zu11 := zz_J2_clear N (ub G) (ug G) u7 a9 u11 c12
  refine u_callv (va_runV (As := []) (rest := []) hC.1 (met_J2_clear l N G u7 a9 u11 c12) (cwV 0 hts (lw_V q1059 q1060 q1061 q102 q1062) rfl rfl rfl (by decide +kernel) ⟨Nat.le_trans (Nat.le_of_ble_eq_true rfl) hR.1, Nat.le_trans (Nat.le_of_ble_eq_true rfl) hR.2⟩) ⟨uPc_blind, u_rcv hC hP c10 rfl, fun U hU hW => u_pre hC hP hS hU hW⟩ rfl rfl hl.1 rfl (lv_room (Nat.le_of_ble_eq_true rfl)) dX1_book_69 ⟨by omega, by omega⟩) hS (fun H locs hP hS => ?_)
  refine W.cs (cells' := u11.1 - u0.1) (slots' := u11.2.1 - u0.2.1) (by omega) (by omega) ?_
  refine u_aload_n (r := some a0) hx hb dX1_book_72 rfl (lv_at hl 0 rfl) ?_
  refine u_aload_n (r := some a0) hx hb dX1_book_73 rfl (lv_at hl 0 rfl) ?_
  obtain ⟨o13, ho13, h⟩ := mbind_n h
  refine u_get hC hP (uGR_n ho13) rfl in_X1 (by decide) q217 (fun _ h => h) dX1_book_74 ?_
  obtain ⟨a14, ha14, hha14⟩ := mbind_n h
  subst ha14
  have h := hha14
  obtain ⟨o15, ho15, h⟩ := mbind_n h
  refine u_getN hC hP (uGR_n ho15) rfl in_X4 (by decide) q291 (fun _ h => h) dX1_book_77 ?_
  obtain ⟨a16, ha16, hha16⟩ := mbind_n h
  subst ha16
  have h := hha16
  obtain ⟨c17, h⟩ := mif_n h
  obtain ⟨r20, u18, c19, h⟩ := ucall_n h
  have zu18 := zz_J2_size N (ub G) (ug G) u11 a16 r20 u18 c19
  refine u_calli (va_runV (As := []) (rest := [va_rf (some a0)]) hC.1 (met_J2_size l N G u11 a16 r20 u18 c19) (cwV 0 hts (lw_V q1063 q894 q895 q102 q896) rfl rfl rfl (by decide +kernel) ⟨Nat.le_trans (Nat.le_of_ble_eq_true rfl) hR.1, Nat.le_trans (Nat.le_of_ble_eq_true rfl) hR.2⟩) ⟨uPc_blind, u_rcv hC hP c17 rfl, fun U hU hW => u_pre hC hP hS hU hW⟩ rfl rfl hl.1 rfl (lv_room (Nat.le_of_ble_eq_true rfl)) dX1_book_80 ⟨by omega, by omega⟩) hS (fun H locs hP hS => ?_)
  refine W.cs (cells' := u18.1 - u0.1) (slots' := u18.2.1 - u0.2.1) (by omega) (by omega) ?_
  obtain ⟨c21, h⟩ := mif_n h
  obtain ⟨r24, u22, c23, h⟩ := ucall_n h
  have zu22 := zz_X1_done N (ub G) (ug G) u18 a0 r20 r24 u22 c23
  refine u_calli (va_runV (As := [.int r20]) (rest := []) hC.1 (met_X1_done l N G u18 a0 r20 r24 u22 c23) (cwV 1 hts (lw_V q1064 q1066 qs14 q98 q1067) rfl rfl rfl (by decide +kernel) ⟨Nat.le_trans (Nat.le_of_ble_eq_true rfl) hR.1, Nat.le_trans (Nat.le_of_ble_eq_true rfl) hR.2⟩) ⟨uPc_blind, u_rcv hC hP c21 rfl, fun U hU hW => u_pre hC hP hS hU hW⟩ rfl rfl hl.1 rfl (lv_room (Nat.le_of_ble_eq_true rfl)) dX1_book_83 ⟨by omega, by omega⟩) hS (fun H locs hP hS => ?_)
  refine W.cs (cells' := u22.1 - u0.1) (slots' := u22.2.1 - u0.2.1) (by omega) (by omega) ?_
  obtain ⟨hr1, hr2⟩ := uret_n h
  subst hr1
  subst hr2
  exact u_iret hC hP hS dX1_book_86
def f_X1_book_40 (N b : Nat) (g : uEnv) (a0 : Nat) (u : UH) (s0 : Option Nat) : Option (Int32 × UH) :=
    if uIs u a0 0 = true then
    ucall (f_X1_failed N b g u a0 s0) fun r4 u2 =>
    some (r4, u2)
    else none
set_option maxHeartbeats 4000000 in
set_option maxRecDepth 100000 in
theorem zz_X1_book_40 {G : uG} {a0 : Nat} {uf : UH} {r : Int32} (N : Nat) (u : UH) (s0 : Option Nat) (h : f_X1_book_40 N (ub G) (ug G) a0 u s0 = some (r, uf)) : u.1 ≤ uf.1 ∧ u.2.1 ≤ uf.2.1 := by
  unfold f_X1_book_40 at h
  obtain ⟨c1, h⟩ := mif_n h
  obtain ⟨r4, u2, c3, h⟩ := ucall_n h
  have zu2 := zz_X1_failed N (ub G) (ug G) u a0 s0 r4 u2 c3
  obtain ⟨hr1, hr2⟩ := uret_n h
  subst hr2
  exact ⟨by omega, by omega⟩
set_option maxHeartbeats 4000000 in
set_option maxRecDepth 100000 in
theorem w_X1_book_40 {p : Program} {l : Launch} {e : Env} {R : Room} {s : State} {m : MethodId} {args : Array Value} {below : List Frame} {meth : Method} {c : Code} {G : uG} {a0 : Nat} {u0 : UH} {uf : UH} {r : Int32} (hC : uC p s m args meth c G RX1 cX1_book 3 (some .int)) (hE : c.exceptionTable.toList = [{ startPc := 18, endPc := 37, handlerPc := 40, catchType := 73 }]) (hR : 12 ≤ R.frames ∧ 305 ≤ R.locals) (hRm : uf.1 - u0.1 ≤ R.cells ∧ uf.2.1 - u0.2.1 ≤ R.slots) (N : Nat) (u : UH) (s0 : Option Nat) (h : f_X1_book_40 N (ub G) (ug G) a0 u s0 = some (r, uf)) (hz0 : (u0.1 ≤ u.1 ∧ u0.2.1 ≤ u.2.1)) {H : Heap} {locs : List Loc} (hP : uP G u H) (hS : va_S (uA G) s.heap H locs) {ls : Array Slot} (hl : lv_has ls 3 [(0, va_rf (some a0))]) : W p l e R s m args below meth c H locs (u.1 - u0.1) (u.2.1 - u0.2.1) (MQ below (uQi G r uf) args s (uf.1 - u0.1) (uf.2.1 - u0.2.1) (uA G)) (F0 m 40 ls [va_rf s0]) := by
  obtain ⟨⟨hx, hb, hml, hown, hts⟩, hKK⟩ := id hC
  have hzf := zz_X1_book_40 (G := G) (a0 := a0) N u s0 h
  unfold f_X1_book_40 at h
  refine u_astore_n (i := 2) (r := s0) (lv' := [(2, va_rf s0), (0, va_rf (some a0))]) hx hb dX1_book_40 rfl hl (by decide) rfl (fun ls hl => ?_)
  refine u_aload_n (r := some a0) hx hb dX1_book_41 rfl (lv_at hl 1 rfl) ?_
  refine u_aload_n (r := s0) hx hb dX1_book_42 rfl (lv_at hl 0 rfl) ?_
  obtain ⟨c1, h⟩ := mif_n h
  obtain ⟨r4, u2, c3, h⟩ := ucall_n h
  have zu2 := zz_X1_failed N (ub G) (ug G) u a0 s0 r4 u2 c3
  refine u_calli (va_runV (As := [va_rf s0]) (rest := []) hC.1 (met_X1_failed l N G u a0 s0 r4 u2 c3) (cwV 1 hts (lw_V q1052 q1054 qs13 q98 q1055) rfl rfl rfl (by decide +kernel) ⟨Nat.le_trans (Nat.le_of_ble_eq_true rfl) hR.1, Nat.le_trans (Nat.le_of_ble_eq_true rfl) hR.2⟩) ⟨uPc_blind, u_rcv hC hP c1 rfl, fun U hU hW => u_pre hC hP hS hU hW⟩ rfl rfl hl.1 rfl (lv_room (Nat.le_of_ble_eq_true rfl)) dX1_book_43 ⟨by omega, by omega⟩) hS (fun H locs hP hS => ?_)
  refine W.cs (cells' := u2.1 - u0.1) (slots' := u2.2.1 - u0.2.1) (by omega) (by omega) ?_
  obtain ⟨hr1, hr2⟩ := uret_n h
  subst hr1
  subst hr2
  exact u_iret hC hP hS dX1_book_46
def f_X1_book_31 (N b : Nat) (g : uEnv) (a0 : Nat) (u : UH) (s0 : Option Nat) (s1 : Option Nat) (s2 : Option Nat) : Option (Int32 × UH) :=
    (s1).bind fun a1 =>
    if uIs u a1 3 = true then
    uxcall (f_X4_read N b g u a1 s0) (fun a6 u7 =>
    if uIs u7 a6 6 = true then f_X1_book_40 N b g a0 u7 (some a6) else none) fun o5 u3 =>
    f_X1_book_34 N b g a0 u3 o5 s2
    else none
set_option maxHeartbeats 4000000 in
set_option maxRecDepth 100000 in
theorem zz_X1_book_31 {G : uG} {a0 : Nat} {uf : UH} {r : Int32} (N : Nat) (u : UH) (s0 : Option Nat) (s1 : Option Nat) (s2 : Option Nat) (h : f_X1_book_31 N (ub G) (ug G) a0 u s0 s1 s2 = some (r, uf)) : u.1 ≤ uf.1 ∧ u.2.1 ≤ uf.2.1 := by
  unfold f_X1_book_31 at h
  obtain ⟨a1, ha1, hha1⟩ := mbind_n h
  subst ha1
  have h := hha1
  obtain ⟨c2, h⟩ := mif_n h
  rcases uxcall_n h with ⟨a6, u7, c8, h⟩ | ⟨o5, u3, c4, h⟩
  · have zu7 : u.1 ≤ u7.1 ∧ u.2.1 ≤ u7.2.1 := zz_X4_read N (ub G) (ug G) u a1 s0 (.inl (a6, u7)) c8
    obtain ⟨c9, h⟩ := mif_n h
    have hq := zz_X1_book_40 (G := G) (a0 := a0) N u7 (some a6) h
    exact ⟨by omega, by omega⟩
  · have zu3 : u.1 ≤ u3.1 ∧ u.2.1 ≤ u3.2.1 := zz_X4_read N (ub G) (ug G) u a1 s0 (.inr (o5, u3)) c4
    have hq := zz_X1_book_34 (G := G) (a0 := a0) N u3 o5 s2 h
    exact ⟨by omega, by omega⟩
set_option maxHeartbeats 4000000 in
set_option maxRecDepth 100000 in
theorem w_X1_book_31 {p : Program} {l : Launch} {e : Env} {R : Room} {s : State} {m : MethodId} {args : Array Value} {below : List Frame} {meth : Method} {c : Code} {G : uG} {a0 : Nat} {u0 : UH} {uf : UH} {r : Int32} (hC : uC p s m args meth c G RX1 cX1_book 3 (some .int)) (hE : c.exceptionTable.toList = [{ startPc := 18, endPc := 37, handlerPc := 40, catchType := 73 }]) (hR : 12 ≤ R.frames ∧ 305 ≤ R.locals) (hRm : uf.1 - u0.1 ≤ R.cells ∧ uf.2.1 - u0.2.1 ≤ R.slots) (N : Nat) (u : UH) (s0 : Option Nat) (s1 : Option Nat) (s2 : Option Nat) (h : f_X1_book_31 N (ub G) (ug G) a0 u s0 s1 s2 = some (r, uf)) (hz0 : (u0.1 ≤ u.1 ∧ u0.2.1 ≤ u.2.1)) {H : Heap} {locs : List Loc} (hP : uP G u H) (hS : va_S (uA G) s.heap H locs) {ls : Array Slot} (hl : lv_has ls 3 [(0, va_rf (some a0))]) : W p l e R s m args below meth c H locs (u.1 - u0.1) (u.2.1 - u0.2.1) (MQ below (uQi G r uf) args s (uf.1 - u0.1) (uf.2.1 - u0.2.1) (uA G)) (F0 m 31 ls [va_rf s0, va_rf s1, va_rf s2]) := by
  obtain ⟨⟨hx, hb, hml, hown, hts⟩, hKK⟩ := id hC
  have hzf := zz_X1_book_31 (G := G) (a0 := a0) N u s0 s1 s2 h
  unfold f_X1_book_31 at h
  obtain ⟨a1, ha1, hha1⟩ := mbind_n h
  subst ha1
  have h := hha1
  obtain ⟨c2, h⟩ := mif_n h
  rcases uxcall_n h with ⟨a6, u7, c8, h⟩ | ⟨o5, u3, c4, h⟩
  · have zu7 : u.1 ≤ u7.1 ∧ u.2.1 ≤ u7.2.1 := zz_X4_read N (ub G) (ug G) u a1 s0 (.inl (a6, u7)) c8
    obtain ⟨c9, h⟩ := mif_n h
    have hq := zz_X1_book_40 (G := G) (a0 := a0) N u7 (some a6) h
    refine u_callC hC hE (by decide) rfl (by decide) rfl (ci := 6) rfl q272 c9 (u_runVX (As := [va_rf s0]) (rest := [va_rf s2]) hC.1 (mex_X4_read l N G u a1 s0 a6 u7 c8) (cwV 1 hts (lw_V q657 q658 q659 q104 q660) rfl rfl rfl (by decide +kernel) ⟨Nat.le_trans (Nat.le_of_ble_eq_true rfl) hR.1, Nat.le_trans (Nat.le_of_ble_eq_true rfl) hR.2⟩) ⟨uPc_blind, u_rcv hC hP c2 rfl, fun U hU hW => u_pre hC hP hS hU hW⟩ rfl rfl hl.1 rfl (lv_room (by simp only [List.map, u_cat]; exact Nat.le_of_ble_eq_true rfl)) dX1_book_31 ⟨by omega, by omega⟩) hS (fun H locs hP hS => ?_)
    refine W.cs (cells' := u7.1 - u0.1) (slots' := u7.2.1 - u0.2.1) (by omega) (by omega) ?_
    exact w_X1_book_40 hC hE hR hRm N u7 (some a6) h ⟨by omega, by omega⟩ hP hS (lv_sub hl [0] rfl)
  · have zu3 : u.1 ≤ u3.1 ∧ u.2.1 ≤ u3.2.1 := zz_X4_read N (ub G) (ug G) u a1 s0 (.inr (o5, u3)) c4
    have hq := zz_X1_book_34 (G := G) (a0 := a0) N u3 o5 s2 h
    refine u_callr (va_runV (As := [va_rf s0]) (rest := [va_rf s2]) hC.1 (met_X4_read l N G u a1 s0 o5 u3 c4) (cwV 1 hts (lw_V q657 q658 q659 q104 q660) rfl rfl rfl (by decide +kernel) ⟨Nat.le_trans (Nat.le_of_ble_eq_true rfl) hR.1, Nat.le_trans (Nat.le_of_ble_eq_true rfl) hR.2⟩) ⟨uPc_blind, u_rcv hC hP c2 rfl, fun U hU hW => u_pre hC hP hS hU hW⟩ rfl rfl hl.1 rfl (lv_room (by simp only [List.map, u_cat]; exact Nat.le_of_ble_eq_true rfl)) dX1_book_31 ⟨by omega, by omega⟩) hS (fun H locs hP hS => ?_)
    refine W.cs (cells' := u3.1 - u0.1) (slots' := u3.2.1 - u0.2.1) (by omega) (by omega) ?_
    exact w_X1_book_34 hC hE hR hRm N u3 o5 s2 h ⟨by omega, by omega⟩ hP hS (lv_sub hl [0] rfl)
def f_X1_book_26 (N b : Nat) (g : uEnv) (a0 : Nat) (u : UH) (x1 : Int32) (s0 : Option Nat) (s1 : Option Nat) : Option (Int32 × UH) :=
    if uIs u a0 0 = true then
    ucall (f_X1_reader N b g u a0 x1) fun o4 u2 =>
    f_X1_book_31 N b g a0 u2 o4 s0 s1
    else none
set_option maxHeartbeats 4000000 in
set_option maxRecDepth 100000 in
theorem zz_X1_book_26 {G : uG} {a0 : Nat} {uf : UH} {r : Int32} (N : Nat) (u : UH) (x1 : Int32) (s0 : Option Nat) (s1 : Option Nat) (h : f_X1_book_26 N (ub G) (ug G) a0 u x1 s0 s1 = some (r, uf)) : u.1 ≤ uf.1 ∧ u.2.1 ≤ uf.2.1 := by
  unfold f_X1_book_26 at h
  obtain ⟨c1, h⟩ := mif_n h
  obtain ⟨o4, u2, c3, h⟩ := ucall_n h
  have zu2 := zz_X1_reader N (ub G) (ug G) u a0 x1 o4 u2 c3
  have hq := zz_X1_book_31 (G := G) (a0 := a0) N u2 o4 s0 s1 h
  exact ⟨by omega, by omega⟩
set_option maxHeartbeats 4000000 in
set_option maxRecDepth 100000 in
theorem w_X1_book_26 {p : Program} {l : Launch} {e : Env} {R : Room} {s : State} {m : MethodId} {args : Array Value} {below : List Frame} {meth : Method} {c : Code} {G : uG} {a0 : Nat} {u0 : UH} {uf : UH} {r : Int32} (hC : uC p s m args meth c G RX1 cX1_book 3 (some .int)) (hE : c.exceptionTable.toList = [{ startPc := 18, endPc := 37, handlerPc := 40, catchType := 73 }]) (hR : 12 ≤ R.frames ∧ 305 ≤ R.locals) (hRm : uf.1 - u0.1 ≤ R.cells ∧ uf.2.1 - u0.2.1 ≤ R.slots) (N : Nat) (u : UH) (x1 : Int32) (s0 : Option Nat) (s1 : Option Nat) (h : f_X1_book_26 N (ub G) (ug G) a0 u x1 s0 s1 = some (r, uf)) (hz0 : (u0.1 ≤ u.1 ∧ u0.2.1 ≤ u.2.1)) {H : Heap} {locs : List Loc} (hP : uP G u H) (hS : va_S (uA G) s.heap H locs) {ls : Array Slot} (hl : lv_has ls 3 [(0, va_rf (some a0)), (1, .int x1)]) : W p l e R s m args below meth c H locs (u.1 - u0.1) (u.2.1 - u0.2.1) (MQ below (uQi G r uf) args s (uf.1 - u0.1) (uf.2.1 - u0.2.1) (uA G)) (F0 m 26 ls [va_rf s0, va_rf s1]) := by
  obtain ⟨⟨hx, hb, hml, hown, hts⟩, hKK⟩ := id hC
  have hzf := zz_X1_book_26 (G := G) (a0 := a0) N u x1 s0 s1 h
  unfold f_X1_book_26 at h
  refine u_aload_n (r := some a0) hx hb dX1_book_26 rfl (lv_at hl 0 rfl) ?_
  refine lv_iload_n hx hb dX1_book_27 rfl (lv_at hl 1 rfl) ?_
  obtain ⟨c1, h⟩ := mif_n h
  obtain ⟨o4, u2, c3, h⟩ := ucall_n h
  have zu2 := zz_X1_reader N (ub G) (ug G) u a0 x1 o4 u2 c3
  have hq := zz_X1_book_31 (G := G) (a0 := a0) N u2 o4 s0 s1 h
  refine u_callr (va_runV (As := [.int x1]) (rest := [va_rf s0, va_rf s1]) hC.1 (met_X1_reader l N G u a0 x1 o4 u2 c3) (cwV 1 hts (lw_V q329 q331 qs1 q98 q332) rfl rfl rfl (by decide +kernel) ⟨Nat.le_trans (Nat.le_of_ble_eq_true rfl) hR.1, Nat.le_trans (Nat.le_of_ble_eq_true rfl) hR.2⟩) ⟨uPc_blind, u_rcv hC hP c1 rfl, fun U hU hW => u_pre hC hP hS hU hW⟩ rfl rfl hl.1 rfl (lv_room (by simp only [List.map, u_cat]; exact Nat.le_of_ble_eq_true rfl)) dX1_book_28 ⟨by omega, by omega⟩) hS (fun H locs hP hS => ?_)
  refine W.cs (cells' := u2.1 - u0.1) (slots' := u2.2.1 - u0.2.1) (by omega) (by omega) ?_
  refine W.cs (cells' := u2.1 - u0.1) (slots' := u2.2.1 - u0.2.1) (by omega) (by omega) ?_
  exact w_X1_book_31 hC hE hR hRm N u2 o4 s0 s1 h ⟨by omega, by omega⟩ hP hS (lv_sub hl [0] rfl)
def f_X1_book_22 (N b : Nat) (g : uEnv) (a0 : Nat) (u : UH) (x1 : Int32) (s0 : Option Nat) (s1 : Option Nat) : Option (Int32 × UH) :=
    (s0).bind fun a1 =>
    (f_X4_init N b g u a1).bind fun u2 =>
    f_X1_book_26 N b g a0 u2 x1 (some a1) s1
set_option maxHeartbeats 4000000 in
set_option maxRecDepth 100000 in
theorem zz_X1_book_22 {G : uG} {a0 : Nat} {uf : UH} {r : Int32} (N : Nat) (u : UH) (x1 : Int32) (s0 : Option Nat) (s1 : Option Nat) (h : f_X1_book_22 N (ub G) (ug G) a0 u x1 s0 s1 = some (r, uf)) : u.1 ≤ uf.1 ∧ u.2.1 ≤ uf.2.1 := by
  unfold f_X1_book_22 at h
  obtain ⟨a1, ha1, hha1⟩ := mbind_n h
  subst ha1
  have h := hha1
  obtain ⟨u2, c3, h⟩ := mbind_n h
  have zu2 := zz_X4_init N (ub G) (ug G) u a1 u2 c3
  have hq := zz_X1_book_26 (G := G) (a0 := a0) N u2 x1 (some a1) s1 h
  exact ⟨by omega, by omega⟩
set_option maxHeartbeats 4000000 in
set_option maxRecDepth 100000 in
theorem w_X1_book_22 {p : Program} {l : Launch} {e : Env} {R : Room} {s : State} {m : MethodId} {args : Array Value} {below : List Frame} {meth : Method} {c : Code} {G : uG} {a0 : Nat} {u0 : UH} {uf : UH} {r : Int32} (hC : uC p s m args meth c G RX1 cX1_book 3 (some .int)) (hE : c.exceptionTable.toList = [{ startPc := 18, endPc := 37, handlerPc := 40, catchType := 73 }]) (hR : 12 ≤ R.frames ∧ 305 ≤ R.locals) (hRm : uf.1 - u0.1 ≤ R.cells ∧ uf.2.1 - u0.2.1 ≤ R.slots) (N : Nat) (u : UH) (x1 : Int32) (s0 : Option Nat) (s1 : Option Nat) (h : f_X1_book_22 N (ub G) (ug G) a0 u x1 s0 s1 = some (r, uf)) (hz0 : (u0.1 ≤ u.1 ∧ u0.2.1 ≤ u.2.1)) {H : Heap} {locs : List Loc} (hP : uP G u H) (hS : va_S (uA G) s.heap H locs) {ls : Array Slot} (hl : lv_has ls 3 [(0, va_rf (some a0)), (1, .int x1)]) : W p l e R s m args below meth c H locs (u.1 - u0.1) (u.2.1 - u0.2.1) (MQ below (uQi G r uf) args s (uf.1 - u0.1) (uf.2.1 - u0.2.1) (uA G)) (F0 m 22 ls [va_rf s0, va_rf s1]) := by
  obtain ⟨⟨hx, hb, hml, hown, hts⟩, hKK⟩ := id hC
  have hzf := zz_X1_book_22 (G := G) (a0 := a0) N u x1 s0 s1 h
  unfold f_X1_book_22 at h
  refine lv_dup hx hb dX1_book_22 (u_cat _) ?_
  obtain ⟨a1, ha1, hha1⟩ := mbind_n h
  subst ha1
  have h := hha1
  obtain ⟨u2, c3, h⟩ := mbind_n h
  have zu2 := zz_X4_init N (ub G) (ug G) u a1 u2 c3
  have hq := zz_X1_book_26 (G := G) (a0 := a0) N u2 x1 (some a1) s1 h
  refine u_callv (va_runIN (As := []) (rest := [va_rf (some a1), va_rf s1]) hC.1 (met_X4_init l N G u a1 u2 c3) ⟨va_cnB 0 hts (lw_meth q284) rfl rfl rfl (hC.2.1.2.1 _ q282 rfl) (hts _ q104) (by decide +kernel) ⟨Nat.le_trans (Nat.le_of_ble_eq_true rfl) hR.1, Nat.le_trans (Nat.le_of_ble_eq_true rfl) hR.2⟩, rfl, hts _ q283⟩ ⟨uPc_blind, fun U hU hW => u_pre hC hP hS hU hW⟩ rfl rfl hl.1 rfl (lv_room (by simp only [List.map, u_cat]; exact Nat.le_of_ble_eq_true rfl)) dX1_book_23 ⟨by omega, by omega⟩) hS (fun H locs hP hS => ?_)
  refine W.cs (cells' := u2.1 - u0.1) (slots' := u2.2.1 - u0.2.1) (by omega) (by omega) ?_
  refine W.cs (cells' := u2.1 - u0.1) (slots' := u2.2.1 - u0.2.1) (by omega) (by omega) ?_
  exact w_X1_book_26 hC hE hR hRm N u2 x1 (some a1) s1 h ⟨by omega, by omega⟩ hP hS (lv_sub hl [0, 1] rfl)
def f_X1_book (N b : Nat) (g : uEnv) (u : UH) (a0 : Nat) (x1 : Int32) : Option (Int32 × UH) :=
    (uGI u a0 0 5).bind fun y1 =>
    ucall (f_X1_in N b g u x1 0 y1) fun r4 u2 =>
    if r4 = 0 then
    if uIs u2 a0 0 = true then
    ucall (f_X1_refused N b g u2 a0 2) fun r11 u9 =>
    some (r11, u9)
    else none
    else
    mlet (u2.1) fun a7 =>
    mlet (uNew u2 8 (.inr (3, uDefs tyX4 8))) fun u6 =>
    f_X1_book_22 N b g a0 u6 x1 (some a7) (some a0)
set_option maxHeartbeats 4000000 in
set_option maxRecDepth 100000 in
theorem zz_X1_book_0 {G : uG} {a0 : Nat} {uf : UH} {r : Int32} (N : Nat) (u : UH) (x1 : Int32) (h : f_X1_book N (ub G) (ug G) u a0 x1 = some (r, uf)) : u.1 ≤ uf.1 ∧ u.2.1 ≤ uf.2.1 := by
  unfold f_X1_book at h
  obtain ⟨y1, hy1, h⟩ := mbind_n h
  obtain ⟨r4, u2, c3, h⟩ := ucall_n h
  have zu2 := zz_X1_in N (ub G) (ug G) u x1 0 y1 r4 u2 c3
  by_cases c5 : r4 = 0
  · have h := mif_t c5 h
    obtain ⟨c8, h⟩ := mif_n h
    obtain ⟨r11, u9, c10, h⟩ := ucall_n h
    have zu9 := zz_X1_refused N (ub G) (ug G) u2 a0 2 r11 u9 c10
    obtain ⟨hr1, hr2⟩ := uret_n h
    subst hr2
    exact ⟨by omega, by omega⟩
  · have h := mif_f c5 h
    obtain ⟨a7, ea7⟩ : ∃ z : Nat, z = u2.1 := ⟨_, rfl⟩
    have h := mlet_at ea7 h
    obtain ⟨u6, eu6⟩ : ∃ z : UH, z = uNew u2 8 (.inr (3, uDefs tyX4 8)) := ⟨_, rfl⟩
    have h := mlet_at eu6 h
    have zu6 : u6.1 = u2.1 + 1 ∧ u6.2.1 = u2.2.1 + 8 := by rw [eu6]; exact ⟨rfl, rfl⟩
    have hq := zz_X1_book_22 (G := G) (a0 := a0) N u6 x1 (some a7) (some a0) h
    exact ⟨by omega, by omega⟩
set_option maxHeartbeats 4000000 in
set_option maxRecDepth 100000 in
theorem w_X1_book_0 {p : Program} {l : Launch} {e : Env} {R : Room} {s : State} {m : MethodId} {args : Array Value} {below : List Frame} {meth : Method} {c : Code} {G : uG} {a0 : Nat} {u0 : UH} {uf : UH} {r : Int32} (hC : uC p s m args meth c G RX1 cX1_book 3 (some .int)) (hE : c.exceptionTable.toList = [{ startPc := 18, endPc := 37, handlerPc := 40, catchType := 73 }]) (hR : 12 ≤ R.frames ∧ 305 ≤ R.locals) (hRm : uf.1 - u0.1 ≤ R.cells ∧ uf.2.1 - u0.2.1 ≤ R.slots) (N : Nat) (u : UH) (x1 : Int32) (h : f_X1_book N (ub G) (ug G) u a0 x1 = some (r, uf)) (hz0 : (u0.1 ≤ u.1 ∧ u0.2.1 ≤ u.2.1)) {H : Heap} {locs : List Loc} (hP : uP G u H) (hS : va_S (uA G) s.heap H locs) {ls : Array Slot} (hl : lv_has ls 3 [(0, va_rf (some a0)), (1, .int x1)]) : W p l e R s m args below meth c H locs (u.1 - u0.1) (u.2.1 - u0.2.1) (MQ below (uQi G r uf) args s (uf.1 - u0.1) (uf.2.1 - u0.2.1) (uA G)) (F0 m 0 ls []) := by
  obtain ⟨⟨hx, hb, hml, hown, hts⟩, hKK⟩ := id hC
  have hzf := zz_X1_book_0 (G := G) (a0 := a0) N u x1 h
  unfold f_X1_book at h
  refine lv_iload_n hx hb dX1_book_0 rfl (lv_at hl 1 rfl) ?_
  refine lv_iconst (v := 0) hx hb dX1_book_1 (by decide) ?_
  refine u_aload_n (r := some a0) hx hb dX1_book_2 rfl (lv_at hl 0 rfl) ?_
  obtain ⟨y1, hy1, h⟩ := mbind_n h
  refine u_get hC hP (uGI_n hy1) rfl in_X1 (by decide) q220 (fun _ h => h) dX1_book_3 ?_
  obtain ⟨r4, u2, c3, h⟩ := ucall_n h
  have zu2 := zz_X1_in N (ub G) (ug G) u x1 0 y1 r4 u2 c3
  refine u_calli (va_runS (As := [.int x1, .int 0, .int y1]) (rest := []) hC.1 (met_X1_in l N G u x1 0 y1 r4 u2 c3) (va_cwS 3 hts (lw_S q273 q274 q98 q275) rfl rfl rfl (by decide +kernel) ⟨Nat.le_trans (Nat.le_of_ble_eq_true rfl) hR.1, Nat.le_trans (Nat.le_of_ble_eq_true rfl) hR.2⟩) ⟨uPc_blind, fun U hU hW => u_pre hC hP hS hU hW⟩ rfl rfl hl.1 rfl (lv_room (Nat.le_of_ble_eq_true rfl)) dX1_book_6 ⟨by omega, by omega⟩) hS (fun H locs hP hS => ?_)
  refine W.cs (cells' := u2.1 - u0.1) (slots' := u2.2.1 - u0.2.1) (by omega) (by omega) ?_
  refine lv_if_ne (tgt := 18) hx hb dX1_book_9 (by decide) (fun c5 => ?_) (fun c5 => ?_)
  · have h := mif_f c5 h
    refine u_aload_n (r := some a0) hx hb dX1_book_18 rfl (lv_at hl 0 rfl) ?_
    obtain ⟨a7, ea7⟩ : ∃ z : Nat, z = u2.1 := ⟨_, rfl⟩
    have h := mlet_at ea7 h
    obtain ⟨u6, eu6⟩ : ∃ z : UH, z = uNew u2 8 (.inr (3, uDefs tyX4 8)) := ⟨_, rfl⟩
    have h := mlet_at eu6 h
    have zu6 : u6.1 = u2.1 + 1 ∧ u6.2.1 = u2.2.1 + 8 := by rw [eu6]; exact ⟨rfl, rfl⟩
    have hq := zz_X1_book_22 (G := G) (a0 := a0) N u6 x1 (some a7) (some a0) h
    refine u_new hC hP hS (T := TX4) (N := 8) (ci := 3) rfl in_X4 tyX4 tyX4_ok q280 q281 q104 (by omega) (by omega) dX1_book_19 (fun H hP hS => ?_)
    rw [← eu6] at hP
    rw [← ea7]
    refine W.cs (cells' := u6.1 - u0.1) (slots' := u6.2.1 - u0.2.1) (by omega) (by omega) ?_
    refine W.cs (cells' := u6.1 - u0.1) (slots' := u6.2.1 - u0.2.1) (by omega) (by omega) ?_
    exact w_X1_book_22 hC hE hR hRm N u6 x1 (some a7) (some a0) h ⟨by omega, by omega⟩ hP hS (lv_sub hl [0, 1] rfl)
  · have h := mif_t c5 h
    refine u_aload_n (r := some a0) hx hb dX1_book_12 rfl (lv_at hl 0 rfl) ?_
    refine lv_iconst (v := 2) hx hb dX1_book_13 (by decide) ?_
    obtain ⟨c8, h⟩ := mif_n h
    obtain ⟨r11, u9, c10, h⟩ := ucall_n h
    have zu9 := zz_X1_refused N (ub G) (ug G) u2 a0 2 r11 u9 c10
    refine u_calli (va_runV (As := [.int 2]) (rest := []) hC.1 (met_X1_refused l N G u2 a0 2 r11 u9 c10) (cwV 1 hts (lw_V q276 q278 qs0 q98 q279) rfl rfl rfl (by decide +kernel) ⟨Nat.le_trans (Nat.le_of_ble_eq_true rfl) hR.1, Nat.le_trans (Nat.le_of_ble_eq_true rfl) hR.2⟩) ⟨uPc_blind, u_rcv hC hP c8 rfl, fun U hU hW => u_pre hC hP hS hU hW⟩ rfl rfl hl.1 rfl (lv_room (Nat.le_of_ble_eq_true rfl)) dX1_book_14 ⟨by omega, by omega⟩) hS (fun H locs hP hS => ?_)
    refine W.cs (cells' := u9.1 - u0.1) (slots' := u9.2.1 - u0.2.1) (by omega) (by omega) ?_
    obtain ⟨hr1, hr2⟩ := uret_n h
    subst hr1
    subst hr2
    exact u_iret hC hP hS dX1_book_17
theorem zz_X1_book (N b : Nat) (g : uEnv) (u : UH) (a0 : Nat) (x1 : Int32) (r : Int32) (uf : UH) (h : f_X1_book N b g u a0 x1 = some (r, uf)) : u.1 ≤ uf.1 ∧ u.2.1 ≤ uf.2.1 :=
  zz_X1_book_0 (G := ((fun _ => 0, fun _ _ => 0), fun _ => 0, b, g)) (a0 := a0) N u x1 h
theorem met_X1_book (l : Launch) (N : Nat) (G : uG) (u : UH) (a0 : Nat) (x1 : Int32) (r : Int32) (uf : UH) (h : f_X1_book N (ub G) (ug G) u a0 x1 = some (r, uf)) : Met l yX1_book (wsW_ yX1_book cX1_book 3 (some .int) [(18, 37, 40, 73)]) ({ frames := 12, cells := (uf.1 - u.1), slots := (uf.2.1 - u.2.1), locals := 305 }) (uPc G u [.ref a0, .int x1]) (uQi G r uf) (uf.1 - u.1) (uf.2.1 - u.2.1) (uA G) := by
  exact u_metW (own := RX1) (by decide +kernel) rfl (Nat.le_of_ble_eq_true rfl) (fun hC hE hn hsz ls hl hP => W.cs (Nat.sub_self _).symm (Nat.sub_self _).symm (w_X1_book_0 hC hE ⟨Nat.le_refl _, Nat.le_refl _⟩ ⟨Nat.le_refl _, Nat.le_refl _⟩ N u x1 h ⟨Nat.le_refl _, Nat.le_refl _⟩ hP va_S.rf hl))

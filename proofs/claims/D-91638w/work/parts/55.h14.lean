/-! BY gen_heap.py: plan X11_all X1_plan -/
def f_X11_plan_28 (N b : Nat) (g : uEnv) (ro_X11_plan : UH → Nat → Option ((Nat × UH) ⊕ (Option Nat × UH))) (ro_X11_step : UH → Nat → Option ((Nat × UH) ⊕ (Option Nat × UH))) (ro_X11_inner : UH → Nat → Option ((Nat × UH) ⊕ (Option Nat × UH))) (a0 : Nat) (k8 : UH → Option Nat → Option ((Nat × UH) ⊕ (Option Nat × UH))) (u : UH) (x1 : Option Nat) (s0 : Int32) : Option ((Nat × UH) ⊕ (Option Nat × UH)) :=
    if s0 = 0 then
    some (.inr (x1, u))
    else
    k8 u x1
set_option maxHeartbeats 4000000 in
set_option maxRecDepth 100000 in
theorem zz_X11_plan_28 {G : uG} {a0 : Nat} {z : (Nat × UH) ⊕ (Option Nat × UH)} (N : Nat) (ro_X11_plan : UH → Nat → Option ((Nat × UH) ⊕ (Option Nat × UH))) (ro_X11_step : UH → Nat → Option ((Nat × UH) ⊕ (Option Nat × UH))) (ro_X11_inner : UH → Nat → Option ((Nat × UH) ⊕ (Option Nat × UH))) (zo_X11_plan : ∀ (u : UH) (a0 : Nat) (z : (Nat × UH) ⊕ (Option Nat × UH)), ro_X11_plan u a0 = some z → u.1 ≤ (uX1 z).1 ∧ u.2.1 ≤ (uX1 z).2.1) (zo_X11_step : ∀ (u : UH) (a0 : Nat) (z : (Nat × UH) ⊕ (Option Nat × UH)), ro_X11_step u a0 = some z → u.1 ≤ (uX1 z).1 ∧ u.2.1 ≤ (uX1 z).2.1) (zo_X11_inner : ∀ (u : UH) (a0 : Nat) (z : (Nat × UH) ⊕ (Option Nat × UH)), ro_X11_inner u a0 = some z → u.1 ≤ (uX1 z).1 ∧ u.2.1 ≤ (uX1 z).2.1) (k8 : UH → Option Nat → Option ((Nat × UH) ⊕ (Option Nat × UH))) (hk8 : ∀ (u : UH) (x1 : Option Nat), k8 u x1 = some z → u.1 ≤ (uX1 z).1 ∧ u.2.1 ≤ (uX1 z).2.1) (u : UH) (x1 : Option Nat) (s0 : Int32) (h : f_X11_plan_28 N (ub G) (ug G) ro_X11_plan ro_X11_step ro_X11_inner a0 k8 u x1 s0 = some z) : u.1 ≤ (uX1 z).1 ∧ u.2.1 ≤ (uX1 z).2.1 := by
  unfold f_X11_plan_28 at h
  by_cases c1 : s0 = 0
  · have h := mif_t c1 h
    have hz := Option.some.inj h
    subst hz
    exact (show u.1 ≤ u.1 ∧ u.2.1 ≤ u.2.1 from ⟨by omega, by omega⟩)
  · have h := mif_f c1 h
    have hq := hk8 u x1 h
    exact ⟨by omega, by omega⟩
set_option maxHeartbeats 4000000 in
set_option maxRecDepth 100000 in
theorem w_X11_plan_28 {p : Program} {l : Launch} {e : Env} {R : Room} {s : State} {m : MethodId} {args : Array Value} {below : List Frame} {meth : Method} {c : Code} {G : uG} {a0 : Nat} {u0 : UH} {z : (Nat × UH) ⊕ (Option Nat × UH)} (hC : uC p s m args meth c G RX11 cX11_plan 2 (some (.object "java/util/List"))) (hE : c.exceptionTable.toList = []) (hR : 9 ≤ R.frames ∧ 236 ≤ R.locals) (hRm : (uX1 z).1 - u0.1 ≤ R.cells ∧ (uX1 z).2.1 - u0.2.1 ≤ R.slots) (N : Nat) (ro_X11_plan : UH → Nat → Option ((Nat × UH) ⊕ (Option Nat × UH))) (ro_X11_step : UH → Nat → Option ((Nat × UH) ⊕ (Option Nat × UH))) (ro_X11_inner : UH → Nat → Option ((Nat × UH) ⊕ (Option Nat × UH))) (zo_X11_plan : ∀ (u : UH) (a0 : Nat) (z : (Nat × UH) ⊕ (Option Nat × UH)), ro_X11_plan u a0 = some z → u.1 ≤ (uX1 z).1 ∧ u.2.1 ≤ (uX1 z).2.1) (zo_X11_step : ∀ (u : UH) (a0 : Nat) (z : (Nat × UH) ⊕ (Option Nat × UH)), ro_X11_step u a0 = some z → u.1 ≤ (uX1 z).1 ∧ u.2.1 ≤ (uX1 z).2.1) (zo_X11_inner : ∀ (u : UH) (a0 : Nat) (z : (Nat × UH) ⊕ (Option Nat × UH)), ro_X11_inner u a0 = some z → u.1 ≤ (uX1 z).1 ∧ u.2.1 ≤ (uX1 z).2.1) {DF DL : Nat} (mo_X11_plan : ∀ (u : UH) (a0 : Nat) (r : Option Nat) (uf : UH), ro_X11_plan u a0 = some (.inr (r, uf)) → Met l yX11_plan (ws_ yX11_plan cX11_plan 2 (some (.object "java/util/List"))) ({ frames := DF, cells := (uf.1 - u.1), slots := (uf.2.1 - u.2.1), locals := DL }) (uPc G u [.ref a0]) (uQr G r uf) (uf.1 - u.1) (uf.2.1 - u.2.1) (uA G)) (mx_X11_plan : ∀ (u : UH) (a0 : Nat) (x : Nat) (uf : UH), ro_X11_plan u a0 = some (.inl (x, uf)) → uMX l yX11_plan (ws_ yX11_plan cX11_plan 2 (some (.object "java/util/List"))) ({ frames := DF, cells := uf.1 - u.1, slots := uf.2.1 - u.2.1, locals := DL }) G u [.ref a0] x uf (uf.1 - u.1) (uf.2.1 - u.2.1)) (mo_X11_step : ∀ (u : UH) (a0 : Nat) (r : Option Nat) (uf : UH), ro_X11_step u a0 = some (.inr (r, uf)) → Met l yX11_step (ws_ yX11_step cX11_step 5 (some (.object "SoftWheels$Doing"))) ({ frames := DF, cells := (uf.1 - u.1), slots := (uf.2.1 - u.2.1), locals := DL }) (uPc G u [.ref a0]) (uQr G r uf) (uf.1 - u.1) (uf.2.1 - u.2.1) (uA G)) (mx_X11_step : ∀ (u : UH) (a0 : Nat) (x : Nat) (uf : UH), ro_X11_step u a0 = some (.inl (x, uf)) → uMX l yX11_step (ws_ yX11_step cX11_step 5 (some (.object "SoftWheels$Doing"))) ({ frames := DF, cells := uf.1 - u.1, slots := uf.2.1 - u.2.1, locals := DL }) G u [.ref a0] x uf (uf.1 - u.1) (uf.2.1 - u.2.1)) (mo_X11_inner : ∀ (u : UH) (a0 : Nat) (r : Option Nat) (uf : UH), ro_X11_inner u a0 = some (.inr (r, uf)) → Met l yX11_inner (ws_ yX11_inner cX11_inner 2 (some (.object "java/util/List"))) ({ frames := DF, cells := (uf.1 - u.1), slots := (uf.2.1 - u.2.1), locals := DL }) (uPc G u [.ref a0]) (uQr G r uf) (uf.1 - u.1) (uf.2.1 - u.2.1) (uA G)) (mx_X11_inner : ∀ (u : UH) (a0 : Nat) (x : Nat) (uf : UH), ro_X11_inner u a0 = some (.inl (x, uf)) → uMX l yX11_inner (ws_ yX11_inner cX11_inner 2 (some (.object "java/util/List"))) ({ frames := DF, cells := uf.1 - u.1, slots := uf.2.1 - u.2.1, locals := DL }) G u [.ref a0] x uf (uf.1 - u.1) (uf.2.1 - u.2.1)) (hRr : DF + 1 ≤ R.frames ∧ 60 + DL ≤ R.locals) (k8 : UH → Option Nat → Option ((Nat × UH) ⊕ (Option Nat × UH))) (hk8 : ∀ (u : UH) (x1 : Option Nat), k8 u x1 = some z → (u0.1 ≤ u.1 ∧ u0.2.1 ≤ u.2.1) → ∀ (H : Heap) (locs : List Loc), uP G u H → va_S (uA G) s.heap H locs → ∀ ls : Array Slot, lv_has ls 2 [(0, va_rf (some a0)), (1, va_rf x1)] → W p l e R s m args below meth c H locs (u.1 - u0.1) (u.2.1 - u0.2.1) (uMQr below G z args s ((uX1 z).1 - u0.1) ((uX1 z).2.1 - u0.2.1)) (F0 m 8 ls [])) (zk8 : ∀ (u : UH) (x1 : Option Nat), k8 u x1 = some z → u.1 ≤ (uX1 z).1 ∧ u.2.1 ≤ (uX1 z).2.1) (u : UH) (x1 : Option Nat) (s0 : Int32) (h : f_X11_plan_28 N (ub G) (ug G) ro_X11_plan ro_X11_step ro_X11_inner a0 k8 u x1 s0 = some z) (hz0 : (u0.1 ≤ u.1 ∧ u0.2.1 ≤ u.2.1)) {H : Heap} {locs : List Loc} (hP : uP G u H) (hS : va_S (uA G) s.heap H locs) {ls : Array Slot} (hl : lv_has ls 2 [(0, va_rf (some a0)), (1, va_rf x1)]) : W p l e R s m args below meth c H locs (u.1 - u0.1) (u.2.1 - u0.2.1) (uMQr below G z args s ((uX1 z).1 - u0.1) ((uX1 z).2.1 - u0.2.1)) (F0 m 28 ls [.int s0]) := by
  obtain ⟨⟨hx, hb, hml, hown, hts⟩, hKK⟩ := id hC
  have hzf := zz_X11_plan_28 (G := G) (a0 := a0) N ro_X11_plan ro_X11_step ro_X11_inner zo_X11_plan zo_X11_step zo_X11_inner k8 zk8 u x1 s0 h
  unfold f_X11_plan_28 at h
  refine lv_if_ne (tgt := 8) hx hb dX11_plan_28 (by decide) (fun c1 => ?_) (fun c1 => ?_)
  · have h := mif_f c1 h
    refine W.cs (cells' := u.1 - u0.1) (slots' := u.2.1 - u0.2.1) (by omega) (by omega) ?_
    exact hk8 u x1 h ⟨by omega, by omega⟩ _ _ hP hS _ (lv_sub hl [0, 1] rfl)
  · have h := mif_t c1 h
    refine u_aload_n (r := x1) hx hb dX11_plan_31 rfl (lv_at hl 1 rfl) ?_
    have hz := Option.some.inj h
    subst hz
    exact u_aret hC (Or.inl ⟨_, rfl⟩) hP hS dX11_plan_32
def f_X11_plan_18 (N b : Nat) (g : uEnv) (ro_X11_plan : UH → Nat → Option ((Nat × UH) ⊕ (Option Nat × UH))) (ro_X11_step : UH → Nat → Option ((Nat × UH) ⊕ (Option Nat × UH))) (ro_X11_inner : UH → Nat → Option ((Nat × UH) ⊕ (Option Nat × UH))) (a0 : Nat) (k8 : UH → Option Nat → Option ((Nat × UH) ⊕ (Option Nat × UH))) (u : UH) (x1 : Option Nat) (s0 : Int32) : Option ((Nat × UH) ⊕ (Option Nat × UH)) :=
    (uGR u a0 9 0).bind fun o1 =>
    (o1).bind fun a2 =>
    if uIs u a2 4 = true then
    ucall (f_X5_skips N b g u a2 (some (g.2.1 31))) fun r6 u4 =>
    f_X11_plan_28 N b g ro_X11_plan ro_X11_step ro_X11_inner a0 k8 u4 x1 r6
    else none
set_option maxHeartbeats 4000000 in
set_option maxRecDepth 100000 in
theorem zz_X11_plan_18 {G : uG} {a0 : Nat} {z : (Nat × UH) ⊕ (Option Nat × UH)} (N : Nat) (ro_X11_plan : UH → Nat → Option ((Nat × UH) ⊕ (Option Nat × UH))) (ro_X11_step : UH → Nat → Option ((Nat × UH) ⊕ (Option Nat × UH))) (ro_X11_inner : UH → Nat → Option ((Nat × UH) ⊕ (Option Nat × UH))) (zo_X11_plan : ∀ (u : UH) (a0 : Nat) (z : (Nat × UH) ⊕ (Option Nat × UH)), ro_X11_plan u a0 = some z → u.1 ≤ (uX1 z).1 ∧ u.2.1 ≤ (uX1 z).2.1) (zo_X11_step : ∀ (u : UH) (a0 : Nat) (z : (Nat × UH) ⊕ (Option Nat × UH)), ro_X11_step u a0 = some z → u.1 ≤ (uX1 z).1 ∧ u.2.1 ≤ (uX1 z).2.1) (zo_X11_inner : ∀ (u : UH) (a0 : Nat) (z : (Nat × UH) ⊕ (Option Nat × UH)), ro_X11_inner u a0 = some z → u.1 ≤ (uX1 z).1 ∧ u.2.1 ≤ (uX1 z).2.1) (k8 : UH → Option Nat → Option ((Nat × UH) ⊕ (Option Nat × UH))) (hk8 : ∀ (u : UH) (x1 : Option Nat), k8 u x1 = some z → u.1 ≤ (uX1 z).1 ∧ u.2.1 ≤ (uX1 z).2.1) (u : UH) (x1 : Option Nat) (s0 : Int32) (h : f_X11_plan_18 N (ub G) (ug G) ro_X11_plan ro_X11_step ro_X11_inner a0 k8 u x1 s0 = some z) : u.1 ≤ (uX1 z).1 ∧ u.2.1 ≤ (uX1 z).2.1 := by
  unfold f_X11_plan_18 at h
  obtain ⟨o1, ho1, h⟩ := mbind_n h
  obtain ⟨a2, ha2, hha2⟩ := mbind_n h
  subst ha2
  have h := hha2
  obtain ⟨c3, h⟩ := mif_n h
  obtain ⟨r6, u4, c5, h⟩ := ucall_n h
  have zu4 := zz_X5_skips N (ub G) (ug G) u a2 (some ((ug G).2.1 31)) r6 u4 c5
  have hq := zz_X11_plan_28 (G := G) (a0 := a0) N  ro_X11_plan ro_X11_step ro_X11_inner zo_X11_plan zo_X11_step zo_X11_inner k8 hk8 u4 x1 r6 h
  exact ⟨by omega, by omega⟩
set_option maxHeartbeats 4000000 in
set_option maxRecDepth 100000 in
theorem w_X11_plan_18 {p : Program} {l : Launch} {e : Env} {R : Room} {s : State} {m : MethodId} {args : Array Value} {below : List Frame} {meth : Method} {c : Code} {G : uG} {a0 : Nat} {u0 : UH} {z : (Nat × UH) ⊕ (Option Nat × UH)} (hC : uC p s m args meth c G RX11 cX11_plan 2 (some (.object "java/util/List"))) (hE : c.exceptionTable.toList = []) (hR : 9 ≤ R.frames ∧ 236 ≤ R.locals) (hRm : (uX1 z).1 - u0.1 ≤ R.cells ∧ (uX1 z).2.1 - u0.2.1 ≤ R.slots) (N : Nat) (ro_X11_plan : UH → Nat → Option ((Nat × UH) ⊕ (Option Nat × UH))) (ro_X11_step : UH → Nat → Option ((Nat × UH) ⊕ (Option Nat × UH))) (ro_X11_inner : UH → Nat → Option ((Nat × UH) ⊕ (Option Nat × UH))) (zo_X11_plan : ∀ (u : UH) (a0 : Nat) (z : (Nat × UH) ⊕ (Option Nat × UH)), ro_X11_plan u a0 = some z → u.1 ≤ (uX1 z).1 ∧ u.2.1 ≤ (uX1 z).2.1) (zo_X11_step : ∀ (u : UH) (a0 : Nat) (z : (Nat × UH) ⊕ (Option Nat × UH)), ro_X11_step u a0 = some z → u.1 ≤ (uX1 z).1 ∧ u.2.1 ≤ (uX1 z).2.1) (zo_X11_inner : ∀ (u : UH) (a0 : Nat) (z : (Nat × UH) ⊕ (Option Nat × UH)), ro_X11_inner u a0 = some z → u.1 ≤ (uX1 z).1 ∧ u.2.1 ≤ (uX1 z).2.1) {DF DL : Nat} (mo_X11_plan : ∀ (u : UH) (a0 : Nat) (r : Option Nat) (uf : UH), ro_X11_plan u a0 = some (.inr (r, uf)) → Met l yX11_plan (ws_ yX11_plan cX11_plan 2 (some (.object "java/util/List"))) ({ frames := DF, cells := (uf.1 - u.1), slots := (uf.2.1 - u.2.1), locals := DL }) (uPc G u [.ref a0]) (uQr G r uf) (uf.1 - u.1) (uf.2.1 - u.2.1) (uA G)) (mx_X11_plan : ∀ (u : UH) (a0 : Nat) (x : Nat) (uf : UH), ro_X11_plan u a0 = some (.inl (x, uf)) → uMX l yX11_plan (ws_ yX11_plan cX11_plan 2 (some (.object "java/util/List"))) ({ frames := DF, cells := uf.1 - u.1, slots := uf.2.1 - u.2.1, locals := DL }) G u [.ref a0] x uf (uf.1 - u.1) (uf.2.1 - u.2.1)) (mo_X11_step : ∀ (u : UH) (a0 : Nat) (r : Option Nat) (uf : UH), ro_X11_step u a0 = some (.inr (r, uf)) → Met l yX11_step (ws_ yX11_step cX11_step 5 (some (.object "SoftWheels$Doing"))) ({ frames := DF, cells := (uf.1 - u.1), slots := (uf.2.1 - u.2.1), locals := DL }) (uPc G u [.ref a0]) (uQr G r uf) (uf.1 - u.1) (uf.2.1 - u.2.1) (uA G)) (mx_X11_step : ∀ (u : UH) (a0 : Nat) (x : Nat) (uf : UH), ro_X11_step u a0 = some (.inl (x, uf)) → uMX l yX11_step (ws_ yX11_step cX11_step 5 (some (.object "SoftWheels$Doing"))) ({ frames := DF, cells := uf.1 - u.1, slots := uf.2.1 - u.2.1, locals := DL }) G u [.ref a0] x uf (uf.1 - u.1) (uf.2.1 - u.2.1)) (mo_X11_inner : ∀ (u : UH) (a0 : Nat) (r : Option Nat) (uf : UH), ro_X11_inner u a0 = some (.inr (r, uf)) → Met l yX11_inner (ws_ yX11_inner cX11_inner 2 (some (.object "java/util/List"))) ({ frames := DF, cells := (uf.1 - u.1), slots := (uf.2.1 - u.2.1), locals := DL }) (uPc G u [.ref a0]) (uQr G r uf) (uf.1 - u.1) (uf.2.1 - u.2.1) (uA G)) (mx_X11_inner : ∀ (u : UH) (a0 : Nat) (x : Nat) (uf : UH), ro_X11_inner u a0 = some (.inl (x, uf)) → uMX l yX11_inner (ws_ yX11_inner cX11_inner 2 (some (.object "java/util/List"))) ({ frames := DF, cells := uf.1 - u.1, slots := uf.2.1 - u.2.1, locals := DL }) G u [.ref a0] x uf (uf.1 - u.1) (uf.2.1 - u.2.1)) (hRr : DF + 1 ≤ R.frames ∧ 60 + DL ≤ R.locals) (k8 : UH → Option Nat → Option ((Nat × UH) ⊕ (Option Nat × UH))) (hk8 : ∀ (u : UH) (x1 : Option Nat), k8 u x1 = some z → (u0.1 ≤ u.1 ∧ u0.2.1 ≤ u.2.1) → ∀ (H : Heap) (locs : List Loc), uP G u H → va_S (uA G) s.heap H locs → ∀ ls : Array Slot, lv_has ls 2 [(0, va_rf (some a0)), (1, va_rf x1)] → W p l e R s m args below meth c H locs (u.1 - u0.1) (u.2.1 - u0.2.1) (uMQr below G z args s ((uX1 z).1 - u0.1) ((uX1 z).2.1 - u0.2.1)) (F0 m 8 ls [])) (zk8 : ∀ (u : UH) (x1 : Option Nat), k8 u x1 = some z → u.1 ≤ (uX1 z).1 ∧ u.2.1 ≤ (uX1 z).2.1) (u : UH) (x1 : Option Nat) (s0 : Int32) (h : f_X11_plan_18 N (ub G) (ug G) ro_X11_plan ro_X11_step ro_X11_inner a0 k8 u x1 s0 = some z) (hz0 : (u0.1 ≤ u.1 ∧ u0.2.1 ≤ u.2.1)) {H : Heap} {locs : List Loc} (hP : uP G u H) (hS : va_S (uA G) s.heap H locs) {ls : Array Slot} (hl : lv_has ls 2 [(0, va_rf (some a0)), (1, va_rf x1)]) : W p l e R s m args below meth c H locs (u.1 - u0.1) (u.2.1 - u0.2.1) (uMQr below G z args s ((uX1 z).1 - u0.1) ((uX1 z).2.1 - u0.2.1)) (F0 m 18 ls [.int s0]) := by
  obtain ⟨⟨hx, hb, hml, hown, hts⟩, hKK⟩ := id hC
  have hzf := zz_X11_plan_18 (G := G) (a0 := a0) N ro_X11_plan ro_X11_step ro_X11_inner zo_X11_plan zo_X11_step zo_X11_inner k8 zk8 u x1 s0 h
  unfold f_X11_plan_18 at h
  refine lv_pop hx hb dX11_plan_18 rfl ?_
  refine u_aload_n (r := some a0) hx hb dX11_plan_19 rfl (lv_at hl 0 rfl) ?_
  obtain ⟨o1, ho1, h⟩ := mbind_n h
  refine u_get hC hP (uGR_n ho1) rfl in_X11 (by decide) q1545 (fun _ h => h) dX11_plan_20 ?_
  refine u_ldcS hC 31 rfl dX11_plan_23 ?_
  obtain ⟨a2, ha2, hha2⟩ := mbind_n h
  subst ha2
  have h := hha2
  obtain ⟨c3, h⟩ := mif_n h
  obtain ⟨r6, u4, c5, h⟩ := ucall_n h
  have zu4 := zz_X5_skips N (ub G) (ug G) u a2 (some ((ug G).2.1 31)) r6 u4 c5
  have hq := zz_X11_plan_28 (G := G) (a0 := a0) N ro_X11_plan ro_X11_step ro_X11_inner zo_X11_plan zo_X11_step zo_X11_inner k8 zk8 u4 x1 r6 h
  refine u_calli (va_runV (As := [va_rf (some ((ug G).2.1 31))]) (rest := []) hC.1 (met_X5_skips l N G u a2 (some ((ug G).2.1 31)) r6 u4 c5) (cwV 1 hts (lw_V q1610 q663 q664 q105 q665) rfl rfl rfl (by decide +kernel) ⟨Nat.le_trans (Nat.le_of_ble_eq_true rfl) hR.1, Nat.le_trans (Nat.le_of_ble_eq_true rfl) hR.2⟩) ⟨uPc_blind, u_rcv hC hP c3 rfl, fun U hU hW => u_pre hC hP hS hU hW⟩ rfl rfl hl.1 rfl (lv_room (Nat.le_of_ble_eq_true rfl)) dX11_plan_25 ⟨by omega, by omega⟩) hS (fun H locs hP hS => ?_)
  refine W.cs (cells' := u4.1 - u0.1) (slots' := u4.2.1 - u0.2.1) (by omega) (by omega) ?_
  refine W.cs (cells' := u4.1 - u0.1) (slots' := u4.2.1 - u0.2.1) (by omega) (by omega) ?_
  exact w_X11_plan_28 hC hE hR hRm N  ro_X11_plan ro_X11_step ro_X11_inner zo_X11_plan zo_X11_step zo_X11_inner mo_X11_plan mx_X11_plan mo_X11_step mx_X11_step mo_X11_inner mx_X11_inner hRr k8 hk8 zk8 u4 x1 r6 h ⟨by omega, by omega⟩ hP hS (lv_sub hl [0, 1] rfl)
def f_X11_plan_13 (N b : Nat) (g : uEnv) (ro_X11_plan : UH → Nat → Option ((Nat × UH) ⊕ (Option Nat × UH))) (ro_X11_step : UH → Nat → Option ((Nat × UH) ⊕ (Option Nat × UH))) (ro_X11_inner : UH → Nat → Option ((Nat × UH) ⊕ (Option Nat × UH))) (a0 : Nat) (k8 : UH → Option Nat → Option ((Nat × UH) ⊕ (Option Nat × UH))) (u : UH) (x1 : Option Nat) (s0 : Option Nat) (s1 : Option Nat) : Option ((Nat × UH) ⊕ (Option Nat × UH)) :=
    (s1).bind fun a1 =>
    if uIs u a1 18 = true then
    ucall (f_J2_add N b g u a1 s0) fun r5 u3 =>
    f_X11_plan_18 N b g ro_X11_plan ro_X11_step ro_X11_inner a0 k8 u3 x1 r5
    else none
set_option maxHeartbeats 4000000 in
set_option maxRecDepth 100000 in
theorem zz_X11_plan_13 {G : uG} {a0 : Nat} {z : (Nat × UH) ⊕ (Option Nat × UH)} (N : Nat) (ro_X11_plan : UH → Nat → Option ((Nat × UH) ⊕ (Option Nat × UH))) (ro_X11_step : UH → Nat → Option ((Nat × UH) ⊕ (Option Nat × UH))) (ro_X11_inner : UH → Nat → Option ((Nat × UH) ⊕ (Option Nat × UH))) (zo_X11_plan : ∀ (u : UH) (a0 : Nat) (z : (Nat × UH) ⊕ (Option Nat × UH)), ro_X11_plan u a0 = some z → u.1 ≤ (uX1 z).1 ∧ u.2.1 ≤ (uX1 z).2.1) (zo_X11_step : ∀ (u : UH) (a0 : Nat) (z : (Nat × UH) ⊕ (Option Nat × UH)), ro_X11_step u a0 = some z → u.1 ≤ (uX1 z).1 ∧ u.2.1 ≤ (uX1 z).2.1) (zo_X11_inner : ∀ (u : UH) (a0 : Nat) (z : (Nat × UH) ⊕ (Option Nat × UH)), ro_X11_inner u a0 = some z → u.1 ≤ (uX1 z).1 ∧ u.2.1 ≤ (uX1 z).2.1) (k8 : UH → Option Nat → Option ((Nat × UH) ⊕ (Option Nat × UH))) (hk8 : ∀ (u : UH) (x1 : Option Nat), k8 u x1 = some z → u.1 ≤ (uX1 z).1 ∧ u.2.1 ≤ (uX1 z).2.1) (u : UH) (x1 : Option Nat) (s0 : Option Nat) (s1 : Option Nat) (h : f_X11_plan_13 N (ub G) (ug G) ro_X11_plan ro_X11_step ro_X11_inner a0 k8 u x1 s0 s1 = some z) : u.1 ≤ (uX1 z).1 ∧ u.2.1 ≤ (uX1 z).2.1 := by
  unfold f_X11_plan_13 at h
  obtain ⟨a1, ha1, hha1⟩ := mbind_n h
  subst ha1
  have h := hha1
  obtain ⟨c2, h⟩ := mif_n h
  obtain ⟨r5, u3, c4, h⟩ := ucall_n h
  have zu3 := zz_J2_add N (ub G) (ug G) u a1 s0 r5 u3 c4
  have hq := zz_X11_plan_18 (G := G) (a0 := a0) N  ro_X11_plan ro_X11_step ro_X11_inner zo_X11_plan zo_X11_step zo_X11_inner k8 hk8 u3 x1 r5 h
  exact ⟨by omega, by omega⟩
set_option maxHeartbeats 4000000 in
set_option maxRecDepth 100000 in
theorem w_X11_plan_13 {p : Program} {l : Launch} {e : Env} {R : Room} {s : State} {m : MethodId} {args : Array Value} {below : List Frame} {meth : Method} {c : Code} {G : uG} {a0 : Nat} {u0 : UH} {z : (Nat × UH) ⊕ (Option Nat × UH)} (hC : uC p s m args meth c G RX11 cX11_plan 2 (some (.object "java/util/List"))) (hE : c.exceptionTable.toList = []) (hR : 9 ≤ R.frames ∧ 236 ≤ R.locals) (hRm : (uX1 z).1 - u0.1 ≤ R.cells ∧ (uX1 z).2.1 - u0.2.1 ≤ R.slots) (N : Nat) (ro_X11_plan : UH → Nat → Option ((Nat × UH) ⊕ (Option Nat × UH))) (ro_X11_step : UH → Nat → Option ((Nat × UH) ⊕ (Option Nat × UH))) (ro_X11_inner : UH → Nat → Option ((Nat × UH) ⊕ (Option Nat × UH))) (zo_X11_plan : ∀ (u : UH) (a0 : Nat) (z : (Nat × UH) ⊕ (Option Nat × UH)), ro_X11_plan u a0 = some z → u.1 ≤ (uX1 z).1 ∧ u.2.1 ≤ (uX1 z).2.1) (zo_X11_step : ∀ (u : UH) (a0 : Nat) (z : (Nat × UH) ⊕ (Option Nat × UH)), ro_X11_step u a0 = some z → u.1 ≤ (uX1 z).1 ∧ u.2.1 ≤ (uX1 z).2.1) (zo_X11_inner : ∀ (u : UH) (a0 : Nat) (z : (Nat × UH) ⊕ (Option Nat × UH)), ro_X11_inner u a0 = some z → u.1 ≤ (uX1 z).1 ∧ u.2.1 ≤ (uX1 z).2.1) {DF DL : Nat} (mo_X11_plan : ∀ (u : UH) (a0 : Nat) (r : Option Nat) (uf : UH), ro_X11_plan u a0 = some (.inr (r, uf)) → Met l yX11_plan (ws_ yX11_plan cX11_plan 2 (some (.object "java/util/List"))) ({ frames := DF, cells := (uf.1 - u.1), slots := (uf.2.1 - u.2.1), locals := DL }) (uPc G u [.ref a0]) (uQr G r uf) (uf.1 - u.1) (uf.2.1 - u.2.1) (uA G)) (mx_X11_plan : ∀ (u : UH) (a0 : Nat) (x : Nat) (uf : UH), ro_X11_plan u a0 = some (.inl (x, uf)) → uMX l yX11_plan (ws_ yX11_plan cX11_plan 2 (some (.object "java/util/List"))) ({ frames := DF, cells := uf.1 - u.1, slots := uf.2.1 - u.2.1, locals := DL }) G u [.ref a0] x uf (uf.1 - u.1) (uf.2.1 - u.2.1)) (mo_X11_step : ∀ (u : UH) (a0 : Nat) (r : Option Nat) (uf : UH), ro_X11_step u a0 = some (.inr (r, uf)) → Met l yX11_step (ws_ yX11_step cX11_step 5 (some (.object "SoftWheels$Doing"))) ({ frames := DF, cells := (uf.1 - u.1), slots := (uf.2.1 - u.2.1), locals := DL }) (uPc G u [.ref a0]) (uQr G r uf) (uf.1 - u.1) (uf.2.1 - u.2.1) (uA G)) (mx_X11_step : ∀ (u : UH) (a0 : Nat) (x : Nat) (uf : UH), ro_X11_step u a0 = some (.inl (x, uf)) → uMX l yX11_step (ws_ yX11_step cX11_step 5 (some (.object "SoftWheels$Doing"))) ({ frames := DF, cells := uf.1 - u.1, slots := uf.2.1 - u.2.1, locals := DL }) G u [.ref a0] x uf (uf.1 - u.1) (uf.2.1 - u.2.1)) (mo_X11_inner : ∀ (u : UH) (a0 : Nat) (r : Option Nat) (uf : UH), ro_X11_inner u a0 = some (.inr (r, uf)) → Met l yX11_inner (ws_ yX11_inner cX11_inner 2 (some (.object "java/util/List"))) ({ frames := DF, cells := (uf.1 - u.1), slots := (uf.2.1 - u.2.1), locals := DL }) (uPc G u [.ref a0]) (uQr G r uf) (uf.1 - u.1) (uf.2.1 - u.2.1) (uA G)) (mx_X11_inner : ∀ (u : UH) (a0 : Nat) (x : Nat) (uf : UH), ro_X11_inner u a0 = some (.inl (x, uf)) → uMX l yX11_inner (ws_ yX11_inner cX11_inner 2 (some (.object "java/util/List"))) ({ frames := DF, cells := uf.1 - u.1, slots := uf.2.1 - u.2.1, locals := DL }) G u [.ref a0] x uf (uf.1 - u.1) (uf.2.1 - u.2.1)) (hRr : DF + 1 ≤ R.frames ∧ 60 + DL ≤ R.locals) (k8 : UH → Option Nat → Option ((Nat × UH) ⊕ (Option Nat × UH))) (hk8 : ∀ (u : UH) (x1 : Option Nat), k8 u x1 = some z → (u0.1 ≤ u.1 ∧ u0.2.1 ≤ u.2.1) → ∀ (H : Heap) (locs : List Loc), uP G u H → va_S (uA G) s.heap H locs → ∀ ls : Array Slot, lv_has ls 2 [(0, va_rf (some a0)), (1, va_rf x1)] → W p l e R s m args below meth c H locs (u.1 - u0.1) (u.2.1 - u0.2.1) (uMQr below G z args s ((uX1 z).1 - u0.1) ((uX1 z).2.1 - u0.2.1)) (F0 m 8 ls [])) (zk8 : ∀ (u : UH) (x1 : Option Nat), k8 u x1 = some z → u.1 ≤ (uX1 z).1 ∧ u.2.1 ≤ (uX1 z).2.1) (u : UH) (x1 : Option Nat) (s0 : Option Nat) (s1 : Option Nat) (h : f_X11_plan_13 N (ub G) (ug G) ro_X11_plan ro_X11_step ro_X11_inner a0 k8 u x1 s0 s1 = some z) (hz0 : (u0.1 ≤ u.1 ∧ u0.2.1 ≤ u.2.1)) {H : Heap} {locs : List Loc} (hP : uP G u H) (hS : va_S (uA G) s.heap H locs) {ls : Array Slot} (hl : lv_has ls 2 [(0, va_rf (some a0)), (1, va_rf x1)]) : W p l e R s m args below meth c H locs (u.1 - u0.1) (u.2.1 - u0.2.1) (uMQr below G z args s ((uX1 z).1 - u0.1) ((uX1 z).2.1 - u0.2.1)) (F0 m 13 ls [va_rf s0, va_rf s1]) := by
  obtain ⟨⟨hx, hb, hml, hown, hts⟩, hKK⟩ := id hC
  have hzf := zz_X11_plan_13 (G := G) (a0 := a0) N ro_X11_plan ro_X11_step ro_X11_inner zo_X11_plan zo_X11_step zo_X11_inner k8 zk8 u x1 s0 s1 h
  unfold f_X11_plan_13 at h
  obtain ⟨a1, ha1, hha1⟩ := mbind_n h
  subst ha1
  have h := hha1
  obtain ⟨c2, h⟩ := mif_n h
  obtain ⟨r5, u3, c4, h⟩ := ucall_n h
  have zu3 := zz_J2_add N (ub G) (ug G) u a1 s0 r5 u3 c4
  have hq := zz_X11_plan_18 (G := G) (a0 := a0) N ro_X11_plan ro_X11_step ro_X11_inner zo_X11_plan zo_X11_step zo_X11_inner k8 zk8 u3 x1 r5 h
  refine u_callFi (va_runF (As := [va_rf s0]) (rest := []) (C := RJ2) (hC.2.1.1.1 18 _ rfl).2 hC.1 (met_J2_add l N G u a1 s0 r5 u3 c4) (va_cwF 1 hts (lw_F q1629 q1513 q935 q102 q937) rfl rfl rfl (hC.2.1.2.2.1 _ (List.mem_of_getElem? (i := 0) rfl)) (by decide +kernel) ⟨Nat.le_trans (Nat.le_of_ble_eq_true rfl) hR.1, Nat.le_trans (Nat.le_of_ble_eq_true rfl) hR.2⟩) ⟨uPc_blind, u_rcv hC hP c2 rfl, fun U hU hW => u_pre hC hP hS hU hW⟩ rfl rfl hl.1 rfl (lv_room (Nat.le_of_ble_eq_true rfl)) dX11_plan_13 ⟨by omega, by omega⟩) hS (fun H locs hP hS => ?_)
  refine W.cs (cells' := u3.1 - u0.1) (slots' := u3.2.1 - u0.2.1) (by omega) (by omega) ?_
  refine W.cs (cells' := u3.1 - u0.1) (slots' := u3.2.1 - u0.2.1) (by omega) (by omega) ?_
  exact w_X11_plan_18 hC hE hR hRm N  ro_X11_plan ro_X11_step ro_X11_inner zo_X11_plan zo_X11_step zo_X11_inner mo_X11_plan mx_X11_plan mo_X11_step mx_X11_step mo_X11_inner mx_X11_inner hRr k8 hk8 zk8 u3 x1 r5 h ⟨by omega, by omega⟩ hP hS (lv_sub hl [0, 1] rfl)
def f_X11_plan_8 (N b : Nat) (g : uEnv) (ro_X11_plan : UH → Nat → Option ((Nat × UH) ⊕ (Option Nat × UH))) (ro_X11_step : UH → Nat → Option ((Nat × UH) ⊕ (Option Nat × UH))) (ro_X11_inner : UH → Nat → Option ((Nat × UH) ⊕ (Option Nat × UH))) (a0 : Nat) : Nat → UH → Option Nat → Option ((Nat × UH) ⊕ (Option Nat × UH))
  | 0, _, _ => none
  | n + 1, u, x1 =>
    if uIs u a0 9 = true then
    uxcall (ro_X11_step u a0) (fun a5 u6 =>
    some (.inl (a5, u6))) fun o4 u2 =>
    f_X11_plan_13 N b g ro_X11_plan ro_X11_step ro_X11_inner a0 (f_X11_plan_8 N b g ro_X11_plan ro_X11_step ro_X11_inner a0 n) u2 x1 o4 x1
    else none
set_option maxHeartbeats 4000000 in
set_option maxRecDepth 100000 in
theorem zz_X11_plan_8 {G : uG} {a0 : Nat} {z : (Nat × UH) ⊕ (Option Nat × UH)} (N : Nat) (ro_X11_plan : UH → Nat → Option ((Nat × UH) ⊕ (Option Nat × UH))) (ro_X11_step : UH → Nat → Option ((Nat × UH) ⊕ (Option Nat × UH))) (ro_X11_inner : UH → Nat → Option ((Nat × UH) ⊕ (Option Nat × UH))) (zo_X11_plan : ∀ (u : UH) (a0 : Nat) (z : (Nat × UH) ⊕ (Option Nat × UH)), ro_X11_plan u a0 = some z → u.1 ≤ (uX1 z).1 ∧ u.2.1 ≤ (uX1 z).2.1) (zo_X11_step : ∀ (u : UH) (a0 : Nat) (z : (Nat × UH) ⊕ (Option Nat × UH)), ro_X11_step u a0 = some z → u.1 ≤ (uX1 z).1 ∧ u.2.1 ≤ (uX1 z).2.1) (zo_X11_inner : ∀ (u : UH) (a0 : Nat) (z : (Nat × UH) ⊕ (Option Nat × UH)), ro_X11_inner u a0 = some z → u.1 ≤ (uX1 z).1 ∧ u.2.1 ≤ (uX1 z).2.1) : ∀ (n : Nat) (u : UH) (x1 : Option Nat), f_X11_plan_8 N (ub G) (ug G) ro_X11_plan ro_X11_step ro_X11_inner a0 n u x1 = some z → u.1 ≤ (uX1 z).1 ∧ u.2.1 ≤ (uX1 z).2.1 := by
  intro n
  induction n with
  | zero =>
    intro u x1 h
    cases h
  | succ n ih =>
    intro u x1 h
    unfold f_X11_plan_8 at h
    obtain ⟨c1, h⟩ := mif_n h
    rcases uxcall_n h with ⟨a5, u6, c7, h⟩ | ⟨o4, u2, c3, h⟩
    · have zu6 : u.1 ≤ u6.1 ∧ u.2.1 ≤ u6.2.1 := zo_X11_step u a0 (.inl (a5, u6)) c7
      have hz := Option.some.inj h
      subst hz
      exact (show u.1 ≤ u6.1 ∧ u.2.1 ≤ u6.2.1 from ⟨by omega, by omega⟩)
    · have zu2 : u.1 ≤ u2.1 ∧ u.2.1 ≤ u2.2.1 := zo_X11_step u a0 (.inr (o4, u2)) c3
      have hq := zz_X11_plan_13 (G := G) (a0 := a0) N  ro_X11_plan ro_X11_step ro_X11_inner zo_X11_plan zo_X11_step zo_X11_inner (f_X11_plan_8 N (ub G) (ug G) ro_X11_plan ro_X11_step ro_X11_inner a0 n) ih u2 x1 o4 x1 h
      exact ⟨by omega, by omega⟩
set_option maxHeartbeats 4000000 in
set_option maxRecDepth 100000 in
theorem w_X11_plan_8 {p : Program} {l : Launch} {e : Env} {R : Room} {s : State} {m : MethodId} {args : Array Value} {below : List Frame} {meth : Method} {c : Code} {G : uG} {a0 : Nat} {u0 : UH} {z : (Nat × UH) ⊕ (Option Nat × UH)} (hC : uC p s m args meth c G RX11 cX11_plan 2 (some (.object "java/util/List"))) (hE : c.exceptionTable.toList = []) (hR : 9 ≤ R.frames ∧ 236 ≤ R.locals) (hRm : (uX1 z).1 - u0.1 ≤ R.cells ∧ (uX1 z).2.1 - u0.2.1 ≤ R.slots) (N : Nat) (ro_X11_plan : UH → Nat → Option ((Nat × UH) ⊕ (Option Nat × UH))) (ro_X11_step : UH → Nat → Option ((Nat × UH) ⊕ (Option Nat × UH))) (ro_X11_inner : UH → Nat → Option ((Nat × UH) ⊕ (Option Nat × UH))) (zo_X11_plan : ∀ (u : UH) (a0 : Nat) (z : (Nat × UH) ⊕ (Option Nat × UH)), ro_X11_plan u a0 = some z → u.1 ≤ (uX1 z).1 ∧ u.2.1 ≤ (uX1 z).2.1) (zo_X11_step : ∀ (u : UH) (a0 : Nat) (z : (Nat × UH) ⊕ (Option Nat × UH)), ro_X11_step u a0 = some z → u.1 ≤ (uX1 z).1 ∧ u.2.1 ≤ (uX1 z).2.1) (zo_X11_inner : ∀ (u : UH) (a0 : Nat) (z : (Nat × UH) ⊕ (Option Nat × UH)), ro_X11_inner u a0 = some z → u.1 ≤ (uX1 z).1 ∧ u.2.1 ≤ (uX1 z).2.1) {DF DL : Nat} (mo_X11_plan : ∀ (u : UH) (a0 : Nat) (r : Option Nat) (uf : UH), ro_X11_plan u a0 = some (.inr (r, uf)) → Met l yX11_plan (ws_ yX11_plan cX11_plan 2 (some (.object "java/util/List"))) ({ frames := DF, cells := (uf.1 - u.1), slots := (uf.2.1 - u.2.1), locals := DL }) (uPc G u [.ref a0]) (uQr G r uf) (uf.1 - u.1) (uf.2.1 - u.2.1) (uA G)) (mx_X11_plan : ∀ (u : UH) (a0 : Nat) (x : Nat) (uf : UH), ro_X11_plan u a0 = some (.inl (x, uf)) → uMX l yX11_plan (ws_ yX11_plan cX11_plan 2 (some (.object "java/util/List"))) ({ frames := DF, cells := uf.1 - u.1, slots := uf.2.1 - u.2.1, locals := DL }) G u [.ref a0] x uf (uf.1 - u.1) (uf.2.1 - u.2.1)) (mo_X11_step : ∀ (u : UH) (a0 : Nat) (r : Option Nat) (uf : UH), ro_X11_step u a0 = some (.inr (r, uf)) → Met l yX11_step (ws_ yX11_step cX11_step 5 (some (.object "SoftWheels$Doing"))) ({ frames := DF, cells := (uf.1 - u.1), slots := (uf.2.1 - u.2.1), locals := DL }) (uPc G u [.ref a0]) (uQr G r uf) (uf.1 - u.1) (uf.2.1 - u.2.1) (uA G)) (mx_X11_step : ∀ (u : UH) (a0 : Nat) (x : Nat) (uf : UH), ro_X11_step u a0 = some (.inl (x, uf)) → uMX l yX11_step (ws_ yX11_step cX11_step 5 (some (.object "SoftWheels$Doing"))) ({ frames := DF, cells := uf.1 - u.1, slots := uf.2.1 - u.2.1, locals := DL }) G u [.ref a0] x uf (uf.1 - u.1) (uf.2.1 - u.2.1)) (mo_X11_inner : ∀ (u : UH) (a0 : Nat) (r : Option Nat) (uf : UH), ro_X11_inner u a0 = some (.inr (r, uf)) → Met l yX11_inner (ws_ yX11_inner cX11_inner 2 (some (.object "java/util/List"))) ({ frames := DF, cells := (uf.1 - u.1), slots := (uf.2.1 - u.2.1), locals := DL }) (uPc G u [.ref a0]) (uQr G r uf) (uf.1 - u.1) (uf.2.1 - u.2.1) (uA G)) (mx_X11_inner : ∀ (u : UH) (a0 : Nat) (x : Nat) (uf : UH), ro_X11_inner u a0 = some (.inl (x, uf)) → uMX l yX11_inner (ws_ yX11_inner cX11_inner 2 (some (.object "java/util/List"))) ({ frames := DF, cells := uf.1 - u.1, slots := uf.2.1 - u.2.1, locals := DL }) G u [.ref a0] x uf (uf.1 - u.1) (uf.2.1 - u.2.1)) (hRr : DF + 1 ≤ R.frames ∧ 60 + DL ≤ R.locals) : ∀ (n : Nat) (u : UH) (x1 : Option Nat), f_X11_plan_8 N (ub G) (ug G) ro_X11_plan ro_X11_step ro_X11_inner a0 n u x1 = some z → (u0.1 ≤ u.1 ∧ u0.2.1 ≤ u.2.1) → ∀ (H : Heap) (locs : List Loc), uP G u H → va_S (uA G) s.heap H locs → ∀ ls : Array Slot, lv_has ls 2 [(0, va_rf (some a0)), (1, va_rf x1)] → W p l e R s m args below meth c H locs (u.1 - u0.1) (u.2.1 - u0.2.1) (uMQr below G z args s ((uX1 z).1 - u0.1) ((uX1 z).2.1 - u0.2.1)) (F0 m 8 ls []) := by
  obtain ⟨⟨hx, hb, hml, hown, hts⟩, hKK⟩ := id hC
  intro n
  induction n with
  | zero =>
    intro u x1 h
    cases h
  | succ n ih =>
    intro u x1 h hz0 H locs hP hS ls hl
    have hzf := zz_X11_plan_8 (G := G) (a0 := a0) N ro_X11_plan ro_X11_step ro_X11_inner zo_X11_plan zo_X11_step zo_X11_inner (n + 1) u x1 h
    unfold f_X11_plan_8 at h
    refine u_aload_n (r := x1) hx hb dX11_plan_8 rfl (lv_at hl 1 rfl) ?_
    refine u_aload_n (r := some a0) hx hb dX11_plan_9 rfl (lv_at hl 0 rfl) ?_
    obtain ⟨c1, h⟩ := mif_n h
    rcases uxcall_n h with ⟨a5, u6, c7, h⟩ | ⟨o4, u2, c3, h⟩
    · have zu6 : u.1 ≤ u6.1 ∧ u.2.1 ≤ u6.2.1 := zo_X11_step u a0 (.inl (a5, u6)) c7
      have hz := Option.some.inj h
      subst hz
      have hRm : u6.1 - u0.1 ≤ R.cells ∧ u6.2.1 - u0.2.1 ≤ R.slots := hRm
      exact u_callX hC (u_noE hE) (u_runVX (As := []) (rest := [va_rf x1]) hC.1 (mx_X11_step u a0 a5 u6 c7) (cwV 0 hts (lw_V q1571 q1573 qs31 q128 q1574) rfl rfl rfl (by decide +kernel) ⟨hRr.1, Nat.le_trans (Nat.add_le_add_right (Nat.le_of_ble_eq_true rfl) DL) hRr.2⟩) ⟨uPc_blind, u_rcv hC hP c1 rfl, fun U hU hW => u_pre hC hP hS hU hW⟩ rfl rfl hl.1 rfl (lv_room (by simp only [List.map, u_cat]; exact Nat.le_of_ble_eq_true rfl)) dX11_plan_10 ⟨by omega, by omega⟩) hS (by show _ + _ = u6.1 - u0.1; omega) (by show _ + _ = u6.2.1 - u0.2.1; omega)
    · have zu2 : u.1 ≤ u2.1 ∧ u.2.1 ≤ u2.2.1 := zo_X11_step u a0 (.inr (o4, u2)) c3
      have hq := zz_X11_plan_13 (G := G) (a0 := a0) N ro_X11_plan ro_X11_step ro_X11_inner zo_X11_plan zo_X11_step zo_X11_inner (f_X11_plan_8 N (ub G) (ug G) ro_X11_plan ro_X11_step ro_X11_inner a0 n) (zz_X11_plan_8 (G := G) (a0 := a0) N ro_X11_plan ro_X11_step ro_X11_inner zo_X11_plan zo_X11_step zo_X11_inner n) u2 x1 o4 x1 h
      refine u_callr (va_runV (As := []) (rest := [va_rf x1]) hC.1 (mo_X11_step u a0 o4 u2 c3) (cwV 0 hts (lw_V q1571 q1573 qs31 q128 q1574) rfl rfl rfl (by decide +kernel) ⟨hRr.1, Nat.le_trans (Nat.add_le_add_right (Nat.le_of_ble_eq_true rfl) DL) hRr.2⟩) ⟨uPc_blind, u_rcv hC hP c1 rfl, fun U hU hW => u_pre hC hP hS hU hW⟩ rfl rfl hl.1 rfl (lv_room (by simp only [List.map, u_cat]; exact Nat.le_of_ble_eq_true rfl)) dX11_plan_10 ⟨by omega, by omega⟩) hS (fun H locs hP hS => ?_)
      refine W.cs (cells' := u2.1 - u0.1) (slots' := u2.2.1 - u0.2.1) (by omega) (by omega) ?_
      exact w_X11_plan_13 hC hE hR hRm N  ro_X11_plan ro_X11_step ro_X11_inner zo_X11_plan zo_X11_step zo_X11_inner mo_X11_plan mx_X11_plan mo_X11_step mx_X11_step mo_X11_inner mx_X11_inner hRr (f_X11_plan_8 N (ub G) (ug G) ro_X11_plan ro_X11_step ro_X11_inner a0 n) ih (zz_X11_plan_8 (G := G) (a0 := a0) N ro_X11_plan ro_X11_step ro_X11_inner zo_X11_plan zo_X11_step zo_X11_inner n) u2 x1 o4 x1 h ⟨by omega, by omega⟩ hP hS (lv_sub hl [0, 1] rfl)
def f_X11_plan_3 (N b : Nat) (g : uEnv) (ro_X11_plan : UH → Nat → Option ((Nat × UH) ⊕ (Option Nat × UH))) (ro_X11_step : UH → Nat → Option ((Nat × UH) ⊕ (Option Nat × UH))) (ro_X11_inner : UH → Nat → Option ((Nat × UH) ⊕ (Option Nat × UH))) (a0 : Nat) (u : UH) (s0 : Option Nat) : Option ((Nat × UH) ⊕ (Option Nat × UH)) :=
    (s0).bind fun a1 =>
    (f_J2_init N b g u a1).bind fun u2 =>
    f_X11_plan_8 N b g ro_X11_plan ro_X11_step ro_X11_inner a0 N u2 (some a1)
set_option maxHeartbeats 4000000 in
set_option maxRecDepth 100000 in
theorem zz_X11_plan_3 {G : uG} {a0 : Nat} {z : (Nat × UH) ⊕ (Option Nat × UH)} (N : Nat) (ro_X11_plan : UH → Nat → Option ((Nat × UH) ⊕ (Option Nat × UH))) (ro_X11_step : UH → Nat → Option ((Nat × UH) ⊕ (Option Nat × UH))) (ro_X11_inner : UH → Nat → Option ((Nat × UH) ⊕ (Option Nat × UH))) (zo_X11_plan : ∀ (u : UH) (a0 : Nat) (z : (Nat × UH) ⊕ (Option Nat × UH)), ro_X11_plan u a0 = some z → u.1 ≤ (uX1 z).1 ∧ u.2.1 ≤ (uX1 z).2.1) (zo_X11_step : ∀ (u : UH) (a0 : Nat) (z : (Nat × UH) ⊕ (Option Nat × UH)), ro_X11_step u a0 = some z → u.1 ≤ (uX1 z).1 ∧ u.2.1 ≤ (uX1 z).2.1) (zo_X11_inner : ∀ (u : UH) (a0 : Nat) (z : (Nat × UH) ⊕ (Option Nat × UH)), ro_X11_inner u a0 = some z → u.1 ≤ (uX1 z).1 ∧ u.2.1 ≤ (uX1 z).2.1) (u : UH) (s0 : Option Nat) (h : f_X11_plan_3 N (ub G) (ug G) ro_X11_plan ro_X11_step ro_X11_inner a0 u s0 = some z) : u.1 ≤ (uX1 z).1 ∧ u.2.1 ≤ (uX1 z).2.1 := by
  unfold f_X11_plan_3 at h
  obtain ⟨a1, ha1, hha1⟩ := mbind_n h
  subst ha1
  have h := hha1
  obtain ⟨u2, c3, h⟩ := mbind_n h
  have zu2 := zz_J2_init N (ub G) (ug G) u a1 u2 c3
  have hq := zz_X11_plan_8 (G := G) (a0 := a0) N  ro_X11_plan ro_X11_step ro_X11_inner zo_X11_plan zo_X11_step zo_X11_inner N u2 (some a1) h
  exact ⟨by omega, by omega⟩
set_option maxHeartbeats 4000000 in
set_option maxRecDepth 100000 in
theorem w_X11_plan_3 {p : Program} {l : Launch} {e : Env} {R : Room} {s : State} {m : MethodId} {args : Array Value} {below : List Frame} {meth : Method} {c : Code} {G : uG} {a0 : Nat} {u0 : UH} {z : (Nat × UH) ⊕ (Option Nat × UH)} (hC : uC p s m args meth c G RX11 cX11_plan 2 (some (.object "java/util/List"))) (hE : c.exceptionTable.toList = []) (hR : 9 ≤ R.frames ∧ 236 ≤ R.locals) (hRm : (uX1 z).1 - u0.1 ≤ R.cells ∧ (uX1 z).2.1 - u0.2.1 ≤ R.slots) (N : Nat) (ro_X11_plan : UH → Nat → Option ((Nat × UH) ⊕ (Option Nat × UH))) (ro_X11_step : UH → Nat → Option ((Nat × UH) ⊕ (Option Nat × UH))) (ro_X11_inner : UH → Nat → Option ((Nat × UH) ⊕ (Option Nat × UH))) (zo_X11_plan : ∀ (u : UH) (a0 : Nat) (z : (Nat × UH) ⊕ (Option Nat × UH)), ro_X11_plan u a0 = some z → u.1 ≤ (uX1 z).1 ∧ u.2.1 ≤ (uX1 z).2.1) (zo_X11_step : ∀ (u : UH) (a0 : Nat) (z : (Nat × UH) ⊕ (Option Nat × UH)), ro_X11_step u a0 = some z → u.1 ≤ (uX1 z).1 ∧ u.2.1 ≤ (uX1 z).2.1) (zo_X11_inner : ∀ (u : UH) (a0 : Nat) (z : (Nat × UH) ⊕ (Option Nat × UH)), ro_X11_inner u a0 = some z → u.1 ≤ (uX1 z).1 ∧ u.2.1 ≤ (uX1 z).2.1) {DF DL : Nat} (mo_X11_plan : ∀ (u : UH) (a0 : Nat) (r : Option Nat) (uf : UH), ro_X11_plan u a0 = some (.inr (r, uf)) → Met l yX11_plan (ws_ yX11_plan cX11_plan 2 (some (.object "java/util/List"))) ({ frames := DF, cells := (uf.1 - u.1), slots := (uf.2.1 - u.2.1), locals := DL }) (uPc G u [.ref a0]) (uQr G r uf) (uf.1 - u.1) (uf.2.1 - u.2.1) (uA G)) (mx_X11_plan : ∀ (u : UH) (a0 : Nat) (x : Nat) (uf : UH), ro_X11_plan u a0 = some (.inl (x, uf)) → uMX l yX11_plan (ws_ yX11_plan cX11_plan 2 (some (.object "java/util/List"))) ({ frames := DF, cells := uf.1 - u.1, slots := uf.2.1 - u.2.1, locals := DL }) G u [.ref a0] x uf (uf.1 - u.1) (uf.2.1 - u.2.1)) (mo_X11_step : ∀ (u : UH) (a0 : Nat) (r : Option Nat) (uf : UH), ro_X11_step u a0 = some (.inr (r, uf)) → Met l yX11_step (ws_ yX11_step cX11_step 5 (some (.object "SoftWheels$Doing"))) ({ frames := DF, cells := (uf.1 - u.1), slots := (uf.2.1 - u.2.1), locals := DL }) (uPc G u [.ref a0]) (uQr G r uf) (uf.1 - u.1) (uf.2.1 - u.2.1) (uA G)) (mx_X11_step : ∀ (u : UH) (a0 : Nat) (x : Nat) (uf : UH), ro_X11_step u a0 = some (.inl (x, uf)) → uMX l yX11_step (ws_ yX11_step cX11_step 5 (some (.object "SoftWheels$Doing"))) ({ frames := DF, cells := uf.1 - u.1, slots := uf.2.1 - u.2.1, locals := DL }) G u [.ref a0] x uf (uf.1 - u.1) (uf.2.1 - u.2.1)) (mo_X11_inner : ∀ (u : UH) (a0 : Nat) (r : Option Nat) (uf : UH), ro_X11_inner u a0 = some (.inr (r, uf)) → Met l yX11_inner (ws_ yX11_inner cX11_inner 2 (some (.object "java/util/List"))) ({ frames := DF, cells := (uf.1 - u.1), slots := (uf.2.1 - u.2.1), locals := DL }) (uPc G u [.ref a0]) (uQr G r uf) (uf.1 - u.1) (uf.2.1 - u.2.1) (uA G)) (mx_X11_inner : ∀ (u : UH) (a0 : Nat) (x : Nat) (uf : UH), ro_X11_inner u a0 = some (.inl (x, uf)) → uMX l yX11_inner (ws_ yX11_inner cX11_inner 2 (some (.object "java/util/List"))) ({ frames := DF, cells := uf.1 - u.1, slots := uf.2.1 - u.2.1, locals := DL }) G u [.ref a0] x uf (uf.1 - u.1) (uf.2.1 - u.2.1)) (hRr : DF + 1 ≤ R.frames ∧ 60 + DL ≤ R.locals) (u : UH) (s0 : Option Nat) (h : f_X11_plan_3 N (ub G) (ug G) ro_X11_plan ro_X11_step ro_X11_inner a0 u s0 = some z) (hz0 : (u0.1 ≤ u.1 ∧ u0.2.1 ≤ u.2.1)) {H : Heap} {locs : List Loc} (hP : uP G u H) (hS : va_S (uA G) s.heap H locs) {ls : Array Slot} (hl : lv_has ls 2 [(0, va_rf (some a0))]) : W p l e R s m args below meth c H locs (u.1 - u0.1) (u.2.1 - u0.2.1) (uMQr below G z args s ((uX1 z).1 - u0.1) ((uX1 z).2.1 - u0.2.1)) (F0 m 3 ls [va_rf s0]) := by
  obtain ⟨⟨hx, hb, hml, hown, hts⟩, hKK⟩ := id hC
  have hzf := zz_X11_plan_3 (G := G) (a0 := a0) N ro_X11_plan ro_X11_step ro_X11_inner zo_X11_plan zo_X11_step zo_X11_inner u s0 h
  unfold f_X11_plan_3 at h
  refine lv_dup hx hb dX11_plan_3 (u_cat _) ?_
  obtain ⟨a1, ha1, hha1⟩ := mbind_n h
  subst ha1
  have h := hha1
  obtain ⟨u2, c3, h⟩ := mbind_n h
  have zu2 := zz_J2_init N (ub G) (ug G) u a1 u2 c3
  refine u_callv (va_runI (As := []) (rest := [va_rf (some a1)]) hC.1 (met_J2_init l N G u a1 u2 c3) (cwI 0 hts (lw_meth q193) rfl rfl rfl (hts _ q102) (hts _ q1570) (hts _ q192) rfl (by decide +kernel) ⟨Nat.le_trans (Nat.le_of_ble_eq_true rfl) hR.1, Nat.le_trans (Nat.le_of_ble_eq_true rfl) hR.2⟩) ⟨uPc_blind, fun U hU hW => u_pre hC hP hS hU hW⟩ rfl rfl hl.1 rfl (lv_room (Nat.le_of_ble_eq_true rfl)) dX11_plan_4 ⟨by omega, by omega⟩) hS (fun H locs hP hS => ?_)
  refine W.cs (cells' := u2.1 - u0.1) (slots' := u2.2.1 - u0.2.1) (by omega) (by omega) ?_
  refine u_astore_n (i := 1) (r := some a1) (lv' := [(1, va_rf (some a1)), (0, va_rf (some a0))]) hx hb dX11_plan_7 rfl hl (by decide) rfl (fun ls hl => ?_)
  refine W.cs (cells' := u2.1 - u0.1) (slots' := u2.2.1 - u0.2.1) (by omega) (by omega) ?_
  exact w_X11_plan_8 hC hE hR hRm N  ro_X11_plan ro_X11_step ro_X11_inner zo_X11_plan zo_X11_step zo_X11_inner mo_X11_plan mx_X11_plan mo_X11_step mx_X11_step mo_X11_inner mx_X11_inner hRr N u2 (some a1) h ⟨by omega, by omega⟩ _ _ hP hS _ (lv_sub hl [1, 0] rfl)
def fo_X11_plan (N b : Nat) (g : uEnv) (ro_X11_plan : UH → Nat → Option ((Nat × UH) ⊕ (Option Nat × UH))) (ro_X11_step : UH → Nat → Option ((Nat × UH) ⊕ (Option Nat × UH))) (ro_X11_inner : UH → Nat → Option ((Nat × UH) ⊕ (Option Nat × UH))) (u : UH) (a0 : Nat) : Option ((Nat × UH) ⊕ (Option Nat × UH)) :=
    mlet (u.1) fun a2 =>
    mlet (uNew u 3 (.inr (18, uDefs tyJ2 3))) fun u1 =>
    f_X11_plan_3 N b g ro_X11_plan ro_X11_step ro_X11_inner a0 u1 (some a2)
set_option maxHeartbeats 4000000 in
set_option maxRecDepth 100000 in
theorem zz_X11_plan_0 {G : uG} {a0 : Nat} {z : (Nat × UH) ⊕ (Option Nat × UH)} (N : Nat) (ro_X11_plan : UH → Nat → Option ((Nat × UH) ⊕ (Option Nat × UH))) (ro_X11_step : UH → Nat → Option ((Nat × UH) ⊕ (Option Nat × UH))) (ro_X11_inner : UH → Nat → Option ((Nat × UH) ⊕ (Option Nat × UH))) (zo_X11_plan : ∀ (u : UH) (a0 : Nat) (z : (Nat × UH) ⊕ (Option Nat × UH)), ro_X11_plan u a0 = some z → u.1 ≤ (uX1 z).1 ∧ u.2.1 ≤ (uX1 z).2.1) (zo_X11_step : ∀ (u : UH) (a0 : Nat) (z : (Nat × UH) ⊕ (Option Nat × UH)), ro_X11_step u a0 = some z → u.1 ≤ (uX1 z).1 ∧ u.2.1 ≤ (uX1 z).2.1) (zo_X11_inner : ∀ (u : UH) (a0 : Nat) (z : (Nat × UH) ⊕ (Option Nat × UH)), ro_X11_inner u a0 = some z → u.1 ≤ (uX1 z).1 ∧ u.2.1 ≤ (uX1 z).2.1) (u : UH) (h : fo_X11_plan N (ub G) (ug G) ro_X11_plan ro_X11_step ro_X11_inner u a0 = some z) : u.1 ≤ (uX1 z).1 ∧ u.2.1 ≤ (uX1 z).2.1 := by
  unfold fo_X11_plan at h
  obtain ⟨a2, ea2⟩ : ∃ z : Nat, z = u.1 := ⟨_, rfl⟩
  have h := mlet_at ea2 h
  obtain ⟨u1, eu1⟩ : ∃ z : UH, z = uNew u 3 (.inr (18, uDefs tyJ2 3)) := ⟨_, rfl⟩
  have h := mlet_at eu1 h
  have zu1 : u1.1 = u.1 + 1 ∧ u1.2.1 = u.2.1 + 3 := by rw [eu1]; exact ⟨rfl, rfl⟩
  have hq := zz_X11_plan_3 (G := G) (a0 := a0) N  ro_X11_plan ro_X11_step ro_X11_inner zo_X11_plan zo_X11_step zo_X11_inner u1 (some a2) h
  exact ⟨by omega, by omega⟩
set_option maxHeartbeats 4000000 in
set_option maxRecDepth 100000 in
theorem w_X11_plan_0 {p : Program} {l : Launch} {e : Env} {R : Room} {s : State} {m : MethodId} {args : Array Value} {below : List Frame} {meth : Method} {c : Code} {G : uG} {a0 : Nat} {u0 : UH} {z : (Nat × UH) ⊕ (Option Nat × UH)} (hC : uC p s m args meth c G RX11 cX11_plan 2 (some (.object "java/util/List"))) (hE : c.exceptionTable.toList = []) (hR : 9 ≤ R.frames ∧ 236 ≤ R.locals) (hRm : (uX1 z).1 - u0.1 ≤ R.cells ∧ (uX1 z).2.1 - u0.2.1 ≤ R.slots) (N : Nat) (ro_X11_plan : UH → Nat → Option ((Nat × UH) ⊕ (Option Nat × UH))) (ro_X11_step : UH → Nat → Option ((Nat × UH) ⊕ (Option Nat × UH))) (ro_X11_inner : UH → Nat → Option ((Nat × UH) ⊕ (Option Nat × UH))) (zo_X11_plan : ∀ (u : UH) (a0 : Nat) (z : (Nat × UH) ⊕ (Option Nat × UH)), ro_X11_plan u a0 = some z → u.1 ≤ (uX1 z).1 ∧ u.2.1 ≤ (uX1 z).2.1) (zo_X11_step : ∀ (u : UH) (a0 : Nat) (z : (Nat × UH) ⊕ (Option Nat × UH)), ro_X11_step u a0 = some z → u.1 ≤ (uX1 z).1 ∧ u.2.1 ≤ (uX1 z).2.1) (zo_X11_inner : ∀ (u : UH) (a0 : Nat) (z : (Nat × UH) ⊕ (Option Nat × UH)), ro_X11_inner u a0 = some z → u.1 ≤ (uX1 z).1 ∧ u.2.1 ≤ (uX1 z).2.1) {DF DL : Nat} (mo_X11_plan : ∀ (u : UH) (a0 : Nat) (r : Option Nat) (uf : UH), ro_X11_plan u a0 = some (.inr (r, uf)) → Met l yX11_plan (ws_ yX11_plan cX11_plan 2 (some (.object "java/util/List"))) ({ frames := DF, cells := (uf.1 - u.1), slots := (uf.2.1 - u.2.1), locals := DL }) (uPc G u [.ref a0]) (uQr G r uf) (uf.1 - u.1) (uf.2.1 - u.2.1) (uA G)) (mx_X11_plan : ∀ (u : UH) (a0 : Nat) (x : Nat) (uf : UH), ro_X11_plan u a0 = some (.inl (x, uf)) → uMX l yX11_plan (ws_ yX11_plan cX11_plan 2 (some (.object "java/util/List"))) ({ frames := DF, cells := uf.1 - u.1, slots := uf.2.1 - u.2.1, locals := DL }) G u [.ref a0] x uf (uf.1 - u.1) (uf.2.1 - u.2.1)) (mo_X11_step : ∀ (u : UH) (a0 : Nat) (r : Option Nat) (uf : UH), ro_X11_step u a0 = some (.inr (r, uf)) → Met l yX11_step (ws_ yX11_step cX11_step 5 (some (.object "SoftWheels$Doing"))) ({ frames := DF, cells := (uf.1 - u.1), slots := (uf.2.1 - u.2.1), locals := DL }) (uPc G u [.ref a0]) (uQr G r uf) (uf.1 - u.1) (uf.2.1 - u.2.1) (uA G)) (mx_X11_step : ∀ (u : UH) (a0 : Nat) (x : Nat) (uf : UH), ro_X11_step u a0 = some (.inl (x, uf)) → uMX l yX11_step (ws_ yX11_step cX11_step 5 (some (.object "SoftWheels$Doing"))) ({ frames := DF, cells := uf.1 - u.1, slots := uf.2.1 - u.2.1, locals := DL }) G u [.ref a0] x uf (uf.1 - u.1) (uf.2.1 - u.2.1)) (mo_X11_inner : ∀ (u : UH) (a0 : Nat) (r : Option Nat) (uf : UH), ro_X11_inner u a0 = some (.inr (r, uf)) → Met l yX11_inner (ws_ yX11_inner cX11_inner 2 (some (.object "java/util/List"))) ({ frames := DF, cells := (uf.1 - u.1), slots := (uf.2.1 - u.2.1), locals := DL }) (uPc G u [.ref a0]) (uQr G r uf) (uf.1 - u.1) (uf.2.1 - u.2.1) (uA G)) (mx_X11_inner : ∀ (u : UH) (a0 : Nat) (x : Nat) (uf : UH), ro_X11_inner u a0 = some (.inl (x, uf)) → uMX l yX11_inner (ws_ yX11_inner cX11_inner 2 (some (.object "java/util/List"))) ({ frames := DF, cells := uf.1 - u.1, slots := uf.2.1 - u.2.1, locals := DL }) G u [.ref a0] x uf (uf.1 - u.1) (uf.2.1 - u.2.1)) (hRr : DF + 1 ≤ R.frames ∧ 60 + DL ≤ R.locals) (u : UH) (h : fo_X11_plan N (ub G) (ug G) ro_X11_plan ro_X11_step ro_X11_inner u a0 = some z) (hz0 : (u0.1 ≤ u.1 ∧ u0.2.1 ≤ u.2.1)) {H : Heap} {locs : List Loc} (hP : uP G u H) (hS : va_S (uA G) s.heap H locs) {ls : Array Slot} (hl : lv_has ls 2 [(0, va_rf (some a0))]) : W p l e R s m args below meth c H locs (u.1 - u0.1) (u.2.1 - u0.2.1) (uMQr below G z args s ((uX1 z).1 - u0.1) ((uX1 z).2.1 - u0.2.1)) (F0 m 0 ls []) := by
  obtain ⟨⟨hx, hb, hml, hown, hts⟩, hKK⟩ := id hC
  have hzf := zz_X11_plan_0 (G := G) (a0 := a0) N ro_X11_plan ro_X11_step ro_X11_inner zo_X11_plan zo_X11_step zo_X11_inner u h
  unfold fo_X11_plan at h
  obtain ⟨a2, ea2⟩ : ∃ z : Nat, z = u.1 := ⟨_, rfl⟩
  have h := mlet_at ea2 h
  obtain ⟨u1, eu1⟩ : ∃ z : UH, z = uNew u 3 (.inr (18, uDefs tyJ2 3)) := ⟨_, rfl⟩
  have h := mlet_at eu1 h
  have zu1 : u1.1 = u.1 + 1 ∧ u1.2.1 = u.2.1 + 3 := by rw [eu1]; exact ⟨rfl, rfl⟩
  have hq := zz_X11_plan_3 (G := G) (a0 := a0) N ro_X11_plan ro_X11_step ro_X11_inner zo_X11_plan zo_X11_step zo_X11_inner u1 (some a2) h
  refine u_new hC hP hS (T := TJ2) (N := 3) (ci := 18) rfl in_J2 tyJ2 tyJ2_ok q1569 q190 q102 (by omega) (by omega) dX11_plan_0 (fun H hP hS => ?_)
  rw [← eu1] at hP
  rw [← ea2]
  refine W.cs (cells' := u1.1 - u0.1) (slots' := u1.2.1 - u0.2.1) (by omega) (by omega) ?_
  refine W.cs (cells' := u1.1 - u0.1) (slots' := u1.2.1 - u0.2.1) (by omega) (by omega) ?_
  exact w_X11_plan_3 hC hE hR hRm N  ro_X11_plan ro_X11_step ro_X11_inner zo_X11_plan zo_X11_step zo_X11_inner mo_X11_plan mx_X11_plan mo_X11_step mx_X11_step mo_X11_inner mx_X11_inner hRr u1 (some a2) h ⟨by omega, by omega⟩ hP hS (lv_sub hl [0] rfl)
def f_X11_step_273 (N b : Nat) (g : uEnv) (ro_X11_plan : UH → Nat → Option ((Nat × UH) ⊕ (Option Nat × UH))) (ro_X11_step : UH → Nat → Option ((Nat × UH) ⊕ (Option Nat × UH))) (ro_X11_inner : UH → Nat → Option ((Nat × UH) ⊕ (Option Nat × UH))) (a0 : Nat) (u : UH) (s0 : Option Nat) (s1 : Option Nat) (s2 : Int32) (s3 : Int32) (s4 : Option Nat) (s5 : Option Nat) : Option ((Nat × UH) ⊕ (Option Nat × UH)) :=
    (s4).bind fun a1 =>
    (f_X13_init N b g u a1 s3 s2 s1 s0).bind fun u2 =>
    some (.inr (s5, u2))
set_option maxHeartbeats 4000000 in
set_option maxRecDepth 100000 in
theorem zz_X11_step_273 {G : uG} {a0 : Nat} {z : (Nat × UH) ⊕ (Option Nat × UH)} (N : Nat) (ro_X11_plan : UH → Nat → Option ((Nat × UH) ⊕ (Option Nat × UH))) (ro_X11_step : UH → Nat → Option ((Nat × UH) ⊕ (Option Nat × UH))) (ro_X11_inner : UH → Nat → Option ((Nat × UH) ⊕ (Option Nat × UH))) (zo_X11_plan : ∀ (u : UH) (a0 : Nat) (z : (Nat × UH) ⊕ (Option Nat × UH)), ro_X11_plan u a0 = some z → u.1 ≤ (uX1 z).1 ∧ u.2.1 ≤ (uX1 z).2.1) (zo_X11_step : ∀ (u : UH) (a0 : Nat) (z : (Nat × UH) ⊕ (Option Nat × UH)), ro_X11_step u a0 = some z → u.1 ≤ (uX1 z).1 ∧ u.2.1 ≤ (uX1 z).2.1) (zo_X11_inner : ∀ (u : UH) (a0 : Nat) (z : (Nat × UH) ⊕ (Option Nat × UH)), ro_X11_inner u a0 = some z → u.1 ≤ (uX1 z).1 ∧ u.2.1 ≤ (uX1 z).2.1) (u : UH) (s0 : Option Nat) (s1 : Option Nat) (s2 : Int32) (s3 : Int32) (s4 : Option Nat) (s5 : Option Nat) (h : f_X11_step_273 N (ub G) (ug G) ro_X11_plan ro_X11_step ro_X11_inner a0 u s0 s1 s2 s3 s4 s5 = some z) : u.1 ≤ (uX1 z).1 ∧ u.2.1 ≤ (uX1 z).2.1 := by
  unfold f_X11_step_273 at h
  obtain ⟨a1, ha1, hha1⟩ := mbind_n h
  subst ha1
  have h := hha1
  obtain ⟨u2, c3, h⟩ := mbind_n h
  have zu2 := zz_X13_init N (ub G) (ug G) u a1 s3 s2 s1 s0 u2 c3
  have hz := Option.some.inj h
  subst hz
  exact (show u.1 ≤ u2.1 ∧ u.2.1 ≤ u2.2.1 from ⟨by omega, by omega⟩)
set_option maxHeartbeats 4000000 in
set_option maxRecDepth 100000 in
theorem w_X11_step_273 {p : Program} {l : Launch} {e : Env} {R : Room} {s : State} {m : MethodId} {args : Array Value} {below : List Frame} {meth : Method} {c : Code} {G : uG} {a0 : Nat} {u0 : UH} {z : (Nat × UH) ⊕ (Option Nat × UH)} (hC : uC p s m args meth c G RX11 cX11_step 5 (some (.object "SoftWheels$Doing"))) (hE : c.exceptionTable.toList = []) (hR : 10 ≤ R.frames ∧ 257 ≤ R.locals) (hRm : (uX1 z).1 - u0.1 ≤ R.cells ∧ (uX1 z).2.1 - u0.2.1 ≤ R.slots) (N : Nat) (ro_X11_plan : UH → Nat → Option ((Nat × UH) ⊕ (Option Nat × UH))) (ro_X11_step : UH → Nat → Option ((Nat × UH) ⊕ (Option Nat × UH))) (ro_X11_inner : UH → Nat → Option ((Nat × UH) ⊕ (Option Nat × UH))) (zo_X11_plan : ∀ (u : UH) (a0 : Nat) (z : (Nat × UH) ⊕ (Option Nat × UH)), ro_X11_plan u a0 = some z → u.1 ≤ (uX1 z).1 ∧ u.2.1 ≤ (uX1 z).2.1) (zo_X11_step : ∀ (u : UH) (a0 : Nat) (z : (Nat × UH) ⊕ (Option Nat × UH)), ro_X11_step u a0 = some z → u.1 ≤ (uX1 z).1 ∧ u.2.1 ≤ (uX1 z).2.1) (zo_X11_inner : ∀ (u : UH) (a0 : Nat) (z : (Nat × UH) ⊕ (Option Nat × UH)), ro_X11_inner u a0 = some z → u.1 ≤ (uX1 z).1 ∧ u.2.1 ≤ (uX1 z).2.1) {DF DL : Nat} (mo_X11_plan : ∀ (u : UH) (a0 : Nat) (r : Option Nat) (uf : UH), ro_X11_plan u a0 = some (.inr (r, uf)) → Met l yX11_plan (ws_ yX11_plan cX11_plan 2 (some (.object "java/util/List"))) ({ frames := DF, cells := (uf.1 - u.1), slots := (uf.2.1 - u.2.1), locals := DL }) (uPc G u [.ref a0]) (uQr G r uf) (uf.1 - u.1) (uf.2.1 - u.2.1) (uA G)) (mx_X11_plan : ∀ (u : UH) (a0 : Nat) (x : Nat) (uf : UH), ro_X11_plan u a0 = some (.inl (x, uf)) → uMX l yX11_plan (ws_ yX11_plan cX11_plan 2 (some (.object "java/util/List"))) ({ frames := DF, cells := uf.1 - u.1, slots := uf.2.1 - u.2.1, locals := DL }) G u [.ref a0] x uf (uf.1 - u.1) (uf.2.1 - u.2.1)) (mo_X11_step : ∀ (u : UH) (a0 : Nat) (r : Option Nat) (uf : UH), ro_X11_step u a0 = some (.inr (r, uf)) → Met l yX11_step (ws_ yX11_step cX11_step 5 (some (.object "SoftWheels$Doing"))) ({ frames := DF, cells := (uf.1 - u.1), slots := (uf.2.1 - u.2.1), locals := DL }) (uPc G u [.ref a0]) (uQr G r uf) (uf.1 - u.1) (uf.2.1 - u.2.1) (uA G)) (mx_X11_step : ∀ (u : UH) (a0 : Nat) (x : Nat) (uf : UH), ro_X11_step u a0 = some (.inl (x, uf)) → uMX l yX11_step (ws_ yX11_step cX11_step 5 (some (.object "SoftWheels$Doing"))) ({ frames := DF, cells := uf.1 - u.1, slots := uf.2.1 - u.2.1, locals := DL }) G u [.ref a0] x uf (uf.1 - u.1) (uf.2.1 - u.2.1)) (mo_X11_inner : ∀ (u : UH) (a0 : Nat) (r : Option Nat) (uf : UH), ro_X11_inner u a0 = some (.inr (r, uf)) → Met l yX11_inner (ws_ yX11_inner cX11_inner 2 (some (.object "java/util/List"))) ({ frames := DF, cells := (uf.1 - u.1), slots := (uf.2.1 - u.2.1), locals := DL }) (uPc G u [.ref a0]) (uQr G r uf) (uf.1 - u.1) (uf.2.1 - u.2.1) (uA G)) (mx_X11_inner : ∀ (u : UH) (a0 : Nat) (x : Nat) (uf : UH), ro_X11_inner u a0 = some (.inl (x, uf)) → uMX l yX11_inner (ws_ yX11_inner cX11_inner 2 (some (.object "java/util/List"))) ({ frames := DF, cells := uf.1 - u.1, slots := uf.2.1 - u.2.1, locals := DL }) G u [.ref a0] x uf (uf.1 - u.1) (uf.2.1 - u.2.1)) (hRr : DF + 1 ≤ R.frames ∧ 60 + DL ≤ R.locals) (u : UH) (s0 : Option Nat) (s1 : Option Nat) (s2 : Int32) (s3 : Int32) (s4 : Option Nat) (s5 : Option Nat) (h : f_X11_step_273 N (ub G) (ug G) ro_X11_plan ro_X11_step ro_X11_inner a0 u s0 s1 s2 s3 s4 s5 = some z) (hz0 : (u0.1 ≤ u.1 ∧ u0.2.1 ≤ u.2.1)) {H : Heap} {locs : List Loc} (hP : uP G u H) (hS : va_S (uA G) s.heap H locs) {ls : Array Slot} (hl : lv_has ls 5 []) : W p l e R s m args below meth c H locs (u.1 - u0.1) (u.2.1 - u0.2.1) (uMQr below G z args s ((uX1 z).1 - u0.1) ((uX1 z).2.1 - u0.2.1)) (F0 m 273 ls [va_rf s0, va_rf s1, .int s2, .int s3, va_rf s4, va_rf s5]) := by
  obtain ⟨⟨hx, hb, hml, hown, hts⟩, hKK⟩ := id hC
  have hzf := zz_X11_step_273 (G := G) (a0 := a0) N ro_X11_plan ro_X11_step ro_X11_inner zo_X11_plan zo_X11_step zo_X11_inner u s0 s1 s2 s3 s4 s5 h
  unfold f_X11_step_273 at h
  obtain ⟨a1, ha1, hha1⟩ := mbind_n h
  subst ha1
  have h := hha1
  obtain ⟨u2, c3, h⟩ := mbind_n h
  have zu2 := zz_X13_init N (ub G) (ug G) u a1 s3 s2 s1 s0 u2 c3
  refine u_callv (va_runIN (As := [.int s3, .int s2, va_rf s1, va_rf s0]) (rest := [va_rf s5]) hC.1 (met_X13_init l N G u a1 s3 s2 s1 s0 u2 c3) ⟨va_cnB 4 hts (lw_meth q1613) rfl rfl rfl (hC.2.1.2.1 _ q1611 rfl) (hts _ q130) (by decide +kernel) ⟨Nat.le_trans (Nat.le_of_ble_eq_true rfl) hR.1, Nat.le_trans (Nat.le_of_ble_eq_true rfl) hR.2⟩, rfl, hts _ q1612⟩ ⟨uPc_blind, fun U hU hW => u_pre hC hP hS hU hW⟩ rfl rfl hl.1 rfl (lv_room (by simp only [List.map, u_cat]; exact Nat.le_of_ble_eq_true rfl)) dX11_step_273 ⟨by omega, by omega⟩) hS (fun H locs hP hS => ?_)
  refine W.cs (cells' := u2.1 - u0.1) (slots' := u2.2.1 - u0.2.1) (by omega) (by omega) ?_
  have hz := Option.some.inj h
  subst hz
  exact u_aret hC (Or.inl ⟨_, rfl⟩) hP hS dX11_step_276
def f_X11_step_269 (N b : Nat) (g : uEnv) (ro_X11_plan : UH → Nat → Option ((Nat × UH) ⊕ (Option Nat × UH))) (ro_X11_step : UH → Nat → Option ((Nat × UH) ⊕ (Option Nat × UH))) (ro_X11_inner : UH → Nat → Option ((Nat × UH) ⊕ (Option Nat × UH))) (a0 : Nat) (u : UH) (s0 : Option Nat) (s1 : Option Nat) (s2 : Int32) (s3 : Int32) (s4 : Option Nat) (s5 : Option Nat) : Option ((Nat × UH) ⊕ (Option Nat × UH)) :=
    (s0).bind fun a1 =>
    (f_J2_init N b g u a1).bind fun u2 =>
    f_X11_step_273 N b g ro_X11_plan ro_X11_step ro_X11_inner a0 u2 (some a1) s1 s2 s3 s4 s5
set_option maxHeartbeats 4000000 in
set_option maxRecDepth 100000 in
theorem zz_X11_step_269 {G : uG} {a0 : Nat} {z : (Nat × UH) ⊕ (Option Nat × UH)} (N : Nat) (ro_X11_plan : UH → Nat → Option ((Nat × UH) ⊕ (Option Nat × UH))) (ro_X11_step : UH → Nat → Option ((Nat × UH) ⊕ (Option Nat × UH))) (ro_X11_inner : UH → Nat → Option ((Nat × UH) ⊕ (Option Nat × UH))) (zo_X11_plan : ∀ (u : UH) (a0 : Nat) (z : (Nat × UH) ⊕ (Option Nat × UH)), ro_X11_plan u a0 = some z → u.1 ≤ (uX1 z).1 ∧ u.2.1 ≤ (uX1 z).2.1) (zo_X11_step : ∀ (u : UH) (a0 : Nat) (z : (Nat × UH) ⊕ (Option Nat × UH)), ro_X11_step u a0 = some z → u.1 ≤ (uX1 z).1 ∧ u.2.1 ≤ (uX1 z).2.1) (zo_X11_inner : ∀ (u : UH) (a0 : Nat) (z : (Nat × UH) ⊕ (Option Nat × UH)), ro_X11_inner u a0 = some z → u.1 ≤ (uX1 z).1 ∧ u.2.1 ≤ (uX1 z).2.1) (u : UH) (s0 : Option Nat) (s1 : Option Nat) (s2 : Int32) (s3 : Int32) (s4 : Option Nat) (s5 : Option Nat) (h : f_X11_step_269 N (ub G) (ug G) ro_X11_plan ro_X11_step ro_X11_inner a0 u s0 s1 s2 s3 s4 s5 = some z) : u.1 ≤ (uX1 z).1 ∧ u.2.1 ≤ (uX1 z).2.1 := by
  unfold f_X11_step_269 at h
  obtain ⟨a1, ha1, hha1⟩ := mbind_n h
  subst ha1
  have h := hha1
  obtain ⟨u2, c3, h⟩ := mbind_n h
  have zu2 := zz_J2_init N (ub G) (ug G) u a1 u2 c3
  have hq := zz_X11_step_273 (G := G) (a0 := a0) N  ro_X11_plan ro_X11_step ro_X11_inner zo_X11_plan zo_X11_step zo_X11_inner u2 (some a1) s1 s2 s3 s4 s5 h
  exact ⟨by omega, by omega⟩
set_option maxHeartbeats 4000000 in
set_option maxRecDepth 100000 in
theorem w_X11_step_269 {p : Program} {l : Launch} {e : Env} {R : Room} {s : State} {m : MethodId} {args : Array Value} {below : List Frame} {meth : Method} {c : Code} {G : uG} {a0 : Nat} {u0 : UH} {z : (Nat × UH) ⊕ (Option Nat × UH)} (hC : uC p s m args meth c G RX11 cX11_step 5 (some (.object "SoftWheels$Doing"))) (hE : c.exceptionTable.toList = []) (hR : 10 ≤ R.frames ∧ 257 ≤ R.locals) (hRm : (uX1 z).1 - u0.1 ≤ R.cells ∧ (uX1 z).2.1 - u0.2.1 ≤ R.slots) (N : Nat) (ro_X11_plan : UH → Nat → Option ((Nat × UH) ⊕ (Option Nat × UH))) (ro_X11_step : UH → Nat → Option ((Nat × UH) ⊕ (Option Nat × UH))) (ro_X11_inner : UH → Nat → Option ((Nat × UH) ⊕ (Option Nat × UH))) (zo_X11_plan : ∀ (u : UH) (a0 : Nat) (z : (Nat × UH) ⊕ (Option Nat × UH)), ro_X11_plan u a0 = some z → u.1 ≤ (uX1 z).1 ∧ u.2.1 ≤ (uX1 z).2.1) (zo_X11_step : ∀ (u : UH) (a0 : Nat) (z : (Nat × UH) ⊕ (Option Nat × UH)), ro_X11_step u a0 = some z → u.1 ≤ (uX1 z).1 ∧ u.2.1 ≤ (uX1 z).2.1) (zo_X11_inner : ∀ (u : UH) (a0 : Nat) (z : (Nat × UH) ⊕ (Option Nat × UH)), ro_X11_inner u a0 = some z → u.1 ≤ (uX1 z).1 ∧ u.2.1 ≤ (uX1 z).2.1) {DF DL : Nat} (mo_X11_plan : ∀ (u : UH) (a0 : Nat) (r : Option Nat) (uf : UH), ro_X11_plan u a0 = some (.inr (r, uf)) → Met l yX11_plan (ws_ yX11_plan cX11_plan 2 (some (.object "java/util/List"))) ({ frames := DF, cells := (uf.1 - u.1), slots := (uf.2.1 - u.2.1), locals := DL }) (uPc G u [.ref a0]) (uQr G r uf) (uf.1 - u.1) (uf.2.1 - u.2.1) (uA G)) (mx_X11_plan : ∀ (u : UH) (a0 : Nat) (x : Nat) (uf : UH), ro_X11_plan u a0 = some (.inl (x, uf)) → uMX l yX11_plan (ws_ yX11_plan cX11_plan 2 (some (.object "java/util/List"))) ({ frames := DF, cells := uf.1 - u.1, slots := uf.2.1 - u.2.1, locals := DL }) G u [.ref a0] x uf (uf.1 - u.1) (uf.2.1 - u.2.1)) (mo_X11_step : ∀ (u : UH) (a0 : Nat) (r : Option Nat) (uf : UH), ro_X11_step u a0 = some (.inr (r, uf)) → Met l yX11_step (ws_ yX11_step cX11_step 5 (some (.object "SoftWheels$Doing"))) ({ frames := DF, cells := (uf.1 - u.1), slots := (uf.2.1 - u.2.1), locals := DL }) (uPc G u [.ref a0]) (uQr G r uf) (uf.1 - u.1) (uf.2.1 - u.2.1) (uA G)) (mx_X11_step : ∀ (u : UH) (a0 : Nat) (x : Nat) (uf : UH), ro_X11_step u a0 = some (.inl (x, uf)) → uMX l yX11_step (ws_ yX11_step cX11_step 5 (some (.object "SoftWheels$Doing"))) ({ frames := DF, cells := uf.1 - u.1, slots := uf.2.1 - u.2.1, locals := DL }) G u [.ref a0] x uf (uf.1 - u.1) (uf.2.1 - u.2.1)) (mo_X11_inner : ∀ (u : UH) (a0 : Nat) (r : Option Nat) (uf : UH), ro_X11_inner u a0 = some (.inr (r, uf)) → Met l yX11_inner (ws_ yX11_inner cX11_inner 2 (some (.object "java/util/List"))) ({ frames := DF, cells := (uf.1 - u.1), slots := (uf.2.1 - u.2.1), locals := DL }) (uPc G u [.ref a0]) (uQr G r uf) (uf.1 - u.1) (uf.2.1 - u.2.1) (uA G)) (mx_X11_inner : ∀ (u : UH) (a0 : Nat) (x : Nat) (uf : UH), ro_X11_inner u a0 = some (.inl (x, uf)) → uMX l yX11_inner (ws_ yX11_inner cX11_inner 2 (some (.object "java/util/List"))) ({ frames := DF, cells := uf.1 - u.1, slots := uf.2.1 - u.2.1, locals := DL }) G u [.ref a0] x uf (uf.1 - u.1) (uf.2.1 - u.2.1)) (hRr : DF + 1 ≤ R.frames ∧ 60 + DL ≤ R.locals) (u : UH) (s0 : Option Nat) (s1 : Option Nat) (s2 : Int32) (s3 : Int32) (s4 : Option Nat) (s5 : Option Nat) (h : f_X11_step_269 N (ub G) (ug G) ro_X11_plan ro_X11_step ro_X11_inner a0 u s0 s1 s2 s3 s4 s5 = some z) (hz0 : (u0.1 ≤ u.1 ∧ u0.2.1 ≤ u.2.1)) {H : Heap} {locs : List Loc} (hP : uP G u H) (hS : va_S (uA G) s.heap H locs) {ls : Array Slot} (hl : lv_has ls 5 []) : W p l e R s m args below meth c H locs (u.1 - u0.1) (u.2.1 - u0.2.1) (uMQr below G z args s ((uX1 z).1 - u0.1) ((uX1 z).2.1 - u0.2.1)) (F0 m 269 ls [va_rf s0, va_rf s1, .int s2, .int s3, va_rf s4, va_rf s5]) := by
  obtain ⟨⟨hx, hb, hml, hown, hts⟩, hKK⟩ := id hC
  have hzf := zz_X11_step_269 (G := G) (a0 := a0) N ro_X11_plan ro_X11_step ro_X11_inner zo_X11_plan zo_X11_step zo_X11_inner u s0 s1 s2 s3 s4 s5 h
  unfold f_X11_step_269 at h
  refine lv_dup hx hb dX11_step_269 (u_cat _) ?_
  obtain ⟨a1, ha1, hha1⟩ := mbind_n h
  subst ha1
  have h := hha1
  obtain ⟨u2, c3, h⟩ := mbind_n h
  have zu2 := zz_J2_init N (ub G) (ug G) u a1 u2 c3
  refine u_callv (va_runI (As := []) (rest := [va_rf (some a1), va_rf s1, .int s2, .int s3, va_rf s4, va_rf s5]) hC.1 (met_J2_init l N G u a1 u2 c3) (cwI 0 hts (lw_meth q193) rfl rfl rfl (hts _ q102) (hts _ q1570) (hts _ q192) rfl (by decide +kernel) ⟨Nat.le_trans (Nat.le_of_ble_eq_true rfl) hR.1, Nat.le_trans (Nat.le_of_ble_eq_true rfl) hR.2⟩) ⟨uPc_blind, fun U hU hW => u_pre hC hP hS hU hW⟩ rfl rfl hl.1 rfl (lv_room (by simp only [List.map, u_cat]; exact Nat.le_of_ble_eq_true rfl)) dX11_step_270 ⟨by omega, by omega⟩) hS (fun H locs hP hS => ?_)
  refine W.cs (cells' := u2.1 - u0.1) (slots' := u2.2.1 - u0.2.1) (by omega) (by omega) ?_
  refine W.cs (cells' := u2.1 - u0.1) (slots' := u2.2.1 - u0.2.1) (by omega) (by omega) ?_
  exact w_X11_step_273 hC hE hR hRm N  ro_X11_plan ro_X11_step ro_X11_inner zo_X11_plan zo_X11_step zo_X11_inner mo_X11_plan mx_X11_plan mo_X11_step mx_X11_step mo_X11_inner mx_X11_inner hRr u2 (some a1) s1 s2 s3 s4 s5 h ⟨by omega, by omega⟩ hP hS (lv_sub hl [] rfl)
def f_X11_step_263 (N b : Nat) (g : uEnv) (ro_X11_plan : UH → Nat → Option ((Nat × UH) ⊕ (Option Nat × UH))) (ro_X11_step : UH → Nat → Option ((Nat × UH) ⊕ (Option Nat × UH))) (ro_X11_inner : UH → Nat → Option ((Nat × UH) ⊕ (Option Nat × UH))) (a0 : Nat) (u : UH) (s0 : Option Nat) (s1 : Option Nat) (s2 : Int32) (s3 : Int32) (s4 : Option Nat) (s5 : Option Nat) : Option ((Nat × UH) ⊕ (Option Nat × UH)) :=
    f_X11_step_273 N b g ro_X11_plan ro_X11_step ro_X11_inner a0 u s0 s1 s2 s3 s4 s5
set_option maxHeartbeats 4000000 in
set_option maxRecDepth 100000 in
theorem zz_X11_step_263 {G : uG} {a0 : Nat} {z : (Nat × UH) ⊕ (Option Nat × UH)} (N : Nat) (ro_X11_plan : UH → Nat → Option ((Nat × UH) ⊕ (Option Nat × UH))) (ro_X11_step : UH → Nat → Option ((Nat × UH) ⊕ (Option Nat × UH))) (ro_X11_inner : UH → Nat → Option ((Nat × UH) ⊕ (Option Nat × UH))) (zo_X11_plan : ∀ (u : UH) (a0 : Nat) (z : (Nat × UH) ⊕ (Option Nat × UH)), ro_X11_plan u a0 = some z → u.1 ≤ (uX1 z).1 ∧ u.2.1 ≤ (uX1 z).2.1) (zo_X11_step : ∀ (u : UH) (a0 : Nat) (z : (Nat × UH) ⊕ (Option Nat × UH)), ro_X11_step u a0 = some z → u.1 ≤ (uX1 z).1 ∧ u.2.1 ≤ (uX1 z).2.1) (zo_X11_inner : ∀ (u : UH) (a0 : Nat) (z : (Nat × UH) ⊕ (Option Nat × UH)), ro_X11_inner u a0 = some z → u.1 ≤ (uX1 z).1 ∧ u.2.1 ≤ (uX1 z).2.1) (u : UH) (s0 : Option Nat) (s1 : Option Nat) (s2 : Int32) (s3 : Int32) (s4 : Option Nat) (s5 : Option Nat) (h : f_X11_step_263 N (ub G) (ug G) ro_X11_plan ro_X11_step ro_X11_inner a0 u s0 s1 s2 s3 s4 s5 = some z) : u.1 ≤ (uX1 z).1 ∧ u.2.1 ≤ (uX1 z).2.1 := by
  unfold f_X11_step_263 at h
  have hq := zz_X11_step_273 (G := G) (a0 := a0) N  ro_X11_plan ro_X11_step ro_X11_inner zo_X11_plan zo_X11_step zo_X11_inner u s0 s1 s2 s3 s4 s5 h
  exact ⟨by omega, by omega⟩
set_option maxHeartbeats 4000000 in
set_option maxRecDepth 100000 in
theorem w_X11_step_263 {p : Program} {l : Launch} {e : Env} {R : Room} {s : State} {m : MethodId} {args : Array Value} {below : List Frame} {meth : Method} {c : Code} {G : uG} {a0 : Nat} {u0 : UH} {z : (Nat × UH) ⊕ (Option Nat × UH)} (hC : uC p s m args meth c G RX11 cX11_step 5 (some (.object "SoftWheels$Doing"))) (hE : c.exceptionTable.toList = []) (hR : 10 ≤ R.frames ∧ 257 ≤ R.locals) (hRm : (uX1 z).1 - u0.1 ≤ R.cells ∧ (uX1 z).2.1 - u0.2.1 ≤ R.slots) (N : Nat) (ro_X11_plan : UH → Nat → Option ((Nat × UH) ⊕ (Option Nat × UH))) (ro_X11_step : UH → Nat → Option ((Nat × UH) ⊕ (Option Nat × UH))) (ro_X11_inner : UH → Nat → Option ((Nat × UH) ⊕ (Option Nat × UH))) (zo_X11_plan : ∀ (u : UH) (a0 : Nat) (z : (Nat × UH) ⊕ (Option Nat × UH)), ro_X11_plan u a0 = some z → u.1 ≤ (uX1 z).1 ∧ u.2.1 ≤ (uX1 z).2.1) (zo_X11_step : ∀ (u : UH) (a0 : Nat) (z : (Nat × UH) ⊕ (Option Nat × UH)), ro_X11_step u a0 = some z → u.1 ≤ (uX1 z).1 ∧ u.2.1 ≤ (uX1 z).2.1) (zo_X11_inner : ∀ (u : UH) (a0 : Nat) (z : (Nat × UH) ⊕ (Option Nat × UH)), ro_X11_inner u a0 = some z → u.1 ≤ (uX1 z).1 ∧ u.2.1 ≤ (uX1 z).2.1) {DF DL : Nat} (mo_X11_plan : ∀ (u : UH) (a0 : Nat) (r : Option Nat) (uf : UH), ro_X11_plan u a0 = some (.inr (r, uf)) → Met l yX11_plan (ws_ yX11_plan cX11_plan 2 (some (.object "java/util/List"))) ({ frames := DF, cells := (uf.1 - u.1), slots := (uf.2.1 - u.2.1), locals := DL }) (uPc G u [.ref a0]) (uQr G r uf) (uf.1 - u.1) (uf.2.1 - u.2.1) (uA G)) (mx_X11_plan : ∀ (u : UH) (a0 : Nat) (x : Nat) (uf : UH), ro_X11_plan u a0 = some (.inl (x, uf)) → uMX l yX11_plan (ws_ yX11_plan cX11_plan 2 (some (.object "java/util/List"))) ({ frames := DF, cells := uf.1 - u.1, slots := uf.2.1 - u.2.1, locals := DL }) G u [.ref a0] x uf (uf.1 - u.1) (uf.2.1 - u.2.1)) (mo_X11_step : ∀ (u : UH) (a0 : Nat) (r : Option Nat) (uf : UH), ro_X11_step u a0 = some (.inr (r, uf)) → Met l yX11_step (ws_ yX11_step cX11_step 5 (some (.object "SoftWheels$Doing"))) ({ frames := DF, cells := (uf.1 - u.1), slots := (uf.2.1 - u.2.1), locals := DL }) (uPc G u [.ref a0]) (uQr G r uf) (uf.1 - u.1) (uf.2.1 - u.2.1) (uA G)) (mx_X11_step : ∀ (u : UH) (a0 : Nat) (x : Nat) (uf : UH), ro_X11_step u a0 = some (.inl (x, uf)) → uMX l yX11_step (ws_ yX11_step cX11_step 5 (some (.object "SoftWheels$Doing"))) ({ frames := DF, cells := uf.1 - u.1, slots := uf.2.1 - u.2.1, locals := DL }) G u [.ref a0] x uf (uf.1 - u.1) (uf.2.1 - u.2.1)) (mo_X11_inner : ∀ (u : UH) (a0 : Nat) (r : Option Nat) (uf : UH), ro_X11_inner u a0 = some (.inr (r, uf)) → Met l yX11_inner (ws_ yX11_inner cX11_inner 2 (some (.object "java/util/List"))) ({ frames := DF, cells := (uf.1 - u.1), slots := (uf.2.1 - u.2.1), locals := DL }) (uPc G u [.ref a0]) (uQr G r uf) (uf.1 - u.1) (uf.2.1 - u.2.1) (uA G)) (mx_X11_inner : ∀ (u : UH) (a0 : Nat) (x : Nat) (uf : UH), ro_X11_inner u a0 = some (.inl (x, uf)) → uMX l yX11_inner (ws_ yX11_inner cX11_inner 2 (some (.object "java/util/List"))) ({ frames := DF, cells := uf.1 - u.1, slots := uf.2.1 - u.2.1, locals := DL }) G u [.ref a0] x uf (uf.1 - u.1) (uf.2.1 - u.2.1)) (hRr : DF + 1 ≤ R.frames ∧ 60 + DL ≤ R.locals) (u : UH) (s0 : Option Nat) (s1 : Option Nat) (s2 : Int32) (s3 : Int32) (s4 : Option Nat) (s5 : Option Nat) (h : f_X11_step_263 N (ub G) (ug G) ro_X11_plan ro_X11_step ro_X11_inner a0 u s0 s1 s2 s3 s4 s5 = some z) (hz0 : (u0.1 ≤ u.1 ∧ u0.2.1 ≤ u.2.1)) {H : Heap} {locs : List Loc} (hP : uP G u H) (hS : va_S (uA G) s.heap H locs) {ls : Array Slot} (hl : lv_has ls 5 []) : W p l e R s m args below meth c H locs (u.1 - u0.1) (u.2.1 - u0.2.1) (uMQr below G z args s ((uX1 z).1 - u0.1) ((uX1 z).2.1 - u0.2.1)) (F0 m 263 ls [va_rf s0, va_rf s1, .int s2, .int s3, va_rf s4, va_rf s5]) := by
  obtain ⟨⟨hx, hb, hml, hown, hts⟩, hKK⟩ := id hC
  have hzf := zz_X11_step_263 (G := G) (a0 := a0) N ro_X11_plan ro_X11_step ro_X11_inner zo_X11_plan zo_X11_step zo_X11_inner u s0 s1 s2 s3 s4 s5 h
  unfold f_X11_step_263 at h
  refine lv_goto (tgt := 273) hx hb dX11_step_263 (by decide) ?_
  refine W.cs (cells' := u.1 - u0.1) (slots' := u.2.1 - u0.2.1) (by omega) (by omega) ?_
  exact w_X11_step_273 hC hE hR hRm N  ro_X11_plan ro_X11_step ro_X11_inner zo_X11_plan zo_X11_step zo_X11_inner mo_X11_plan mx_X11_plan mo_X11_step mx_X11_step mo_X11_inner mx_X11_inner hRr u s0 s1 s2 s3 s4 s5 h ⟨by omega, by omega⟩ hP hS (lv_sub hl [] rfl)
def f_X11_step_256 (N b : Nat) (g : uEnv) (ro_X11_plan : UH → Nat → Option ((Nat × UH) ⊕ (Option Nat × UH))) (ro_X11_step : UH → Nat → Option ((Nat × UH) ⊕ (Option Nat × UH))) (ro_X11_inner : UH → Nat → Option ((Nat × UH) ⊕ (Option Nat × UH))) (a0 : Nat) (u : UH) (s0 : Int32) (s1 : Option Nat) (s2 : Int32) (s3 : Int32) (s4 : Option Nat) (s5 : Option Nat) : Option ((Nat × UH) ⊕ (Option Nat × UH)) :=
    if s0 = 0 then
    mlet (u.1) fun a3 =>
    mlet (uNew u 3 (.inr (18, uDefs tyJ2 3))) fun u2 =>
    f_X11_step_269 N b g ro_X11_plan ro_X11_step ro_X11_inner a0 u2 (some a3) s1 s2 s3 s4 s5
    else
    if uIs u a0 9 = true then
    uxcall (ro_X11_inner u a0) (fun a8 u9 =>
    some (.inl (a8, u9))) fun o7 u5 =>
    f_X11_step_263 N b g ro_X11_plan ro_X11_step ro_X11_inner a0 u5 o7 s1 s2 s3 s4 s5
    else none
set_option maxHeartbeats 4000000 in
set_option maxRecDepth 100000 in
theorem zz_X11_step_256 {G : uG} {a0 : Nat} {z : (Nat × UH) ⊕ (Option Nat × UH)} (N : Nat) (ro_X11_plan : UH → Nat → Option ((Nat × UH) ⊕ (Option Nat × UH))) (ro_X11_step : UH → Nat → Option ((Nat × UH) ⊕ (Option Nat × UH))) (ro_X11_inner : UH → Nat → Option ((Nat × UH) ⊕ (Option Nat × UH))) (zo_X11_plan : ∀ (u : UH) (a0 : Nat) (z : (Nat × UH) ⊕ (Option Nat × UH)), ro_X11_plan u a0 = some z → u.1 ≤ (uX1 z).1 ∧ u.2.1 ≤ (uX1 z).2.1) (zo_X11_step : ∀ (u : UH) (a0 : Nat) (z : (Nat × UH) ⊕ (Option Nat × UH)), ro_X11_step u a0 = some z → u.1 ≤ (uX1 z).1 ∧ u.2.1 ≤ (uX1 z).2.1) (zo_X11_inner : ∀ (u : UH) (a0 : Nat) (z : (Nat × UH) ⊕ (Option Nat × UH)), ro_X11_inner u a0 = some z → u.1 ≤ (uX1 z).1 ∧ u.2.1 ≤ (uX1 z).2.1) (u : UH) (s0 : Int32) (s1 : Option Nat) (s2 : Int32) (s3 : Int32) (s4 : Option Nat) (s5 : Option Nat) (h : f_X11_step_256 N (ub G) (ug G) ro_X11_plan ro_X11_step ro_X11_inner a0 u s0 s1 s2 s3 s4 s5 = some z) : u.1 ≤ (uX1 z).1 ∧ u.2.1 ≤ (uX1 z).2.1 := by
  unfold f_X11_step_256 at h
  by_cases c1 : s0 = 0
  · have h := mif_t c1 h
    obtain ⟨a3, ea3⟩ : ∃ z : Nat, z = u.1 := ⟨_, rfl⟩
    have h := mlet_at ea3 h
    obtain ⟨u2, eu2⟩ : ∃ z : UH, z = uNew u 3 (.inr (18, uDefs tyJ2 3)) := ⟨_, rfl⟩
    have h := mlet_at eu2 h
    have zu2 : u2.1 = u.1 + 1 ∧ u2.2.1 = u.2.1 + 3 := by rw [eu2]; exact ⟨rfl, rfl⟩
    have hq := zz_X11_step_269 (G := G) (a0 := a0) N  ro_X11_plan ro_X11_step ro_X11_inner zo_X11_plan zo_X11_step zo_X11_inner u2 (some a3) s1 s2 s3 s4 s5 h
    exact ⟨by omega, by omega⟩
  · have h := mif_f c1 h
    obtain ⟨c4, h⟩ := mif_n h
    rcases uxcall_n h with ⟨a8, u9, c10, h⟩ | ⟨o7, u5, c6, h⟩
    · have zu9 : u.1 ≤ u9.1 ∧ u.2.1 ≤ u9.2.1 := zo_X11_inner u a0 (.inl (a8, u9)) c10
      have hz := Option.some.inj h
      subst hz
      exact (show u.1 ≤ u9.1 ∧ u.2.1 ≤ u9.2.1 from ⟨by omega, by omega⟩)
    · have zu5 : u.1 ≤ u5.1 ∧ u.2.1 ≤ u5.2.1 := zo_X11_inner u a0 (.inr (o7, u5)) c6
      have hq := zz_X11_step_263 (G := G) (a0 := a0) N  ro_X11_plan ro_X11_step ro_X11_inner zo_X11_plan zo_X11_step zo_X11_inner u5 o7 s1 s2 s3 s4 s5 h
      exact ⟨by omega, by omega⟩
set_option maxHeartbeats 4000000 in
set_option maxRecDepth 100000 in
theorem w_X11_step_256 {p : Program} {l : Launch} {e : Env} {R : Room} {s : State} {m : MethodId} {args : Array Value} {below : List Frame} {meth : Method} {c : Code} {G : uG} {a0 : Nat} {u0 : UH} {z : (Nat × UH) ⊕ (Option Nat × UH)} (hC : uC p s m args meth c G RX11 cX11_step 5 (some (.object "SoftWheels$Doing"))) (hE : c.exceptionTable.toList = []) (hR : 10 ≤ R.frames ∧ 257 ≤ R.locals) (hRm : (uX1 z).1 - u0.1 ≤ R.cells ∧ (uX1 z).2.1 - u0.2.1 ≤ R.slots) (N : Nat) (ro_X11_plan : UH → Nat → Option ((Nat × UH) ⊕ (Option Nat × UH))) (ro_X11_step : UH → Nat → Option ((Nat × UH) ⊕ (Option Nat × UH))) (ro_X11_inner : UH → Nat → Option ((Nat × UH) ⊕ (Option Nat × UH))) (zo_X11_plan : ∀ (u : UH) (a0 : Nat) (z : (Nat × UH) ⊕ (Option Nat × UH)), ro_X11_plan u a0 = some z → u.1 ≤ (uX1 z).1 ∧ u.2.1 ≤ (uX1 z).2.1) (zo_X11_step : ∀ (u : UH) (a0 : Nat) (z : (Nat × UH) ⊕ (Option Nat × UH)), ro_X11_step u a0 = some z → u.1 ≤ (uX1 z).1 ∧ u.2.1 ≤ (uX1 z).2.1) (zo_X11_inner : ∀ (u : UH) (a0 : Nat) (z : (Nat × UH) ⊕ (Option Nat × UH)), ro_X11_inner u a0 = some z → u.1 ≤ (uX1 z).1 ∧ u.2.1 ≤ (uX1 z).2.1) {DF DL : Nat} (mo_X11_plan : ∀ (u : UH) (a0 : Nat) (r : Option Nat) (uf : UH), ro_X11_plan u a0 = some (.inr (r, uf)) → Met l yX11_plan (ws_ yX11_plan cX11_plan 2 (some (.object "java/util/List"))) ({ frames := DF, cells := (uf.1 - u.1), slots := (uf.2.1 - u.2.1), locals := DL }) (uPc G u [.ref a0]) (uQr G r uf) (uf.1 - u.1) (uf.2.1 - u.2.1) (uA G)) (mx_X11_plan : ∀ (u : UH) (a0 : Nat) (x : Nat) (uf : UH), ro_X11_plan u a0 = some (.inl (x, uf)) → uMX l yX11_plan (ws_ yX11_plan cX11_plan 2 (some (.object "java/util/List"))) ({ frames := DF, cells := uf.1 - u.1, slots := uf.2.1 - u.2.1, locals := DL }) G u [.ref a0] x uf (uf.1 - u.1) (uf.2.1 - u.2.1)) (mo_X11_step : ∀ (u : UH) (a0 : Nat) (r : Option Nat) (uf : UH), ro_X11_step u a0 = some (.inr (r, uf)) → Met l yX11_step (ws_ yX11_step cX11_step 5 (some (.object "SoftWheels$Doing"))) ({ frames := DF, cells := (uf.1 - u.1), slots := (uf.2.1 - u.2.1), locals := DL }) (uPc G u [.ref a0]) (uQr G r uf) (uf.1 - u.1) (uf.2.1 - u.2.1) (uA G)) (mx_X11_step : ∀ (u : UH) (a0 : Nat) (x : Nat) (uf : UH), ro_X11_step u a0 = some (.inl (x, uf)) → uMX l yX11_step (ws_ yX11_step cX11_step 5 (some (.object "SoftWheels$Doing"))) ({ frames := DF, cells := uf.1 - u.1, slots := uf.2.1 - u.2.1, locals := DL }) G u [.ref a0] x uf (uf.1 - u.1) (uf.2.1 - u.2.1)) (mo_X11_inner : ∀ (u : UH) (a0 : Nat) (r : Option Nat) (uf : UH), ro_X11_inner u a0 = some (.inr (r, uf)) → Met l yX11_inner (ws_ yX11_inner cX11_inner 2 (some (.object "java/util/List"))) ({ frames := DF, cells := (uf.1 - u.1), slots := (uf.2.1 - u.2.1), locals := DL }) (uPc G u [.ref a0]) (uQr G r uf) (uf.1 - u.1) (uf.2.1 - u.2.1) (uA G)) (mx_X11_inner : ∀ (u : UH) (a0 : Nat) (x : Nat) (uf : UH), ro_X11_inner u a0 = some (.inl (x, uf)) → uMX l yX11_inner (ws_ yX11_inner cX11_inner 2 (some (.object "java/util/List"))) ({ frames := DF, cells := uf.1 - u.1, slots := uf.2.1 - u.2.1, locals := DL }) G u [.ref a0] x uf (uf.1 - u.1) (uf.2.1 - u.2.1)) (hRr : DF + 1 ≤ R.frames ∧ 60 + DL ≤ R.locals) (u : UH) (s0 : Int32) (s1 : Option Nat) (s2 : Int32) (s3 : Int32) (s4 : Option Nat) (s5 : Option Nat) (h : f_X11_step_256 N (ub G) (ug G) ro_X11_plan ro_X11_step ro_X11_inner a0 u s0 s1 s2 s3 s4 s5 = some z) (hz0 : (u0.1 ≤ u.1 ∧ u0.2.1 ≤ u.2.1)) {H : Heap} {locs : List Loc} (hP : uP G u H) (hS : va_S (uA G) s.heap H locs) {ls : Array Slot} (hl : lv_has ls 5 [(0, va_rf (some a0))]) : W p l e R s m args below meth c H locs (u.1 - u0.1) (u.2.1 - u0.2.1) (uMQr below G z args s ((uX1 z).1 - u0.1) ((uX1 z).2.1 - u0.2.1)) (F0 m 256 ls [.int s0, va_rf s1, .int s2, .int s3, va_rf s4, va_rf s5]) := by
  obtain ⟨⟨hx, hb, hml, hown, hts⟩, hKK⟩ := id hC
  have hzf := zz_X11_step_256 (G := G) (a0 := a0) N ro_X11_plan ro_X11_step ro_X11_inner zo_X11_plan zo_X11_step zo_X11_inner u s0 s1 s2 s3 s4 s5 h
  unfold f_X11_step_256 at h
  refine lv_if_eq (tgt := 266) hx hb dX11_step_256 (by decide) (fun c1 => ?_) (fun c1 => ?_)
  · have h := mif_t c1 h
    obtain ⟨a3, ea3⟩ : ∃ z : Nat, z = u.1 := ⟨_, rfl⟩
    have h := mlet_at ea3 h
    obtain ⟨u2, eu2⟩ : ∃ z : UH, z = uNew u 3 (.inr (18, uDefs tyJ2 3)) := ⟨_, rfl⟩
    have h := mlet_at eu2 h
    have zu2 : u2.1 = u.1 + 1 ∧ u2.2.1 = u.2.1 + 3 := by rw [eu2]; exact ⟨rfl, rfl⟩
    have hq := zz_X11_step_269 (G := G) (a0 := a0) N ro_X11_plan ro_X11_step ro_X11_inner zo_X11_plan zo_X11_step zo_X11_inner u2 (some a3) s1 s2 s3 s4 s5 h
    refine u_new hC hP hS (T := TJ2) (N := 3) (ci := 18) rfl in_J2 tyJ2 tyJ2_ok q1569 q190 q102 (by omega) (by omega) dX11_step_266 (fun H hP hS => ?_)
    rw [← eu2] at hP
    rw [← ea3]
    refine W.cs (cells' := u2.1 - u0.1) (slots' := u2.2.1 - u0.2.1) (by omega) (by omega) ?_
    refine W.cs (cells' := u2.1 - u0.1) (slots' := u2.2.1 - u0.2.1) (by omega) (by omega) ?_
    exact w_X11_step_269 hC hE hR hRm N  ro_X11_plan ro_X11_step ro_X11_inner zo_X11_plan zo_X11_step zo_X11_inner mo_X11_plan mx_X11_plan mo_X11_step mx_X11_step mo_X11_inner mx_X11_inner hRr u2 (some a3) s1 s2 s3 s4 s5 h ⟨by omega, by omega⟩ hP hS (lv_sub hl [] rfl)
  · have h := mif_f c1 h
    refine u_aload_n (r := some a0) hx hb dX11_step_259 rfl (lv_at hl 0 rfl) ?_
    obtain ⟨c4, h⟩ := mif_n h
    rcases uxcall_n h with ⟨a8, u9, c10, h⟩ | ⟨o7, u5, c6, h⟩
    · have zu9 : u.1 ≤ u9.1 ∧ u.2.1 ≤ u9.2.1 := zo_X11_inner u a0 (.inl (a8, u9)) c10
      have hz := Option.some.inj h
      subst hz
      have hRm : u9.1 - u0.1 ≤ R.cells ∧ u9.2.1 - u0.2.1 ≤ R.slots := hRm
      exact u_callX hC (u_noE hE) (u_runVX (As := []) (rest := [va_rf s1, .int s2, .int s3, va_rf s4, va_rf s5]) hC.1 (mx_X11_inner u a0 a8 u9 c10) (cwV 0 hts (lw_V q1601 q1603 qs32 q128 q1604) rfl rfl rfl (by decide +kernel) ⟨hRr.1, Nat.le_trans (Nat.add_le_add_right (Nat.le_of_ble_eq_true rfl) DL) hRr.2⟩) ⟨uPc_blind, u_rcv hC hP c4 rfl, fun U hU hW => u_pre hC hP hS hU hW⟩ rfl rfl hl.1 rfl (lv_room (by simp only [List.map, u_cat]; exact Nat.le_of_ble_eq_true rfl)) dX11_step_260 ⟨by omega, by omega⟩) hS (by show _ + _ = u9.1 - u0.1; omega) (by show _ + _ = u9.2.1 - u0.2.1; omega)
    · have zu5 : u.1 ≤ u5.1 ∧ u.2.1 ≤ u5.2.1 := zo_X11_inner u a0 (.inr (o7, u5)) c6
      have hq := zz_X11_step_263 (G := G) (a0 := a0) N ro_X11_plan ro_X11_step ro_X11_inner zo_X11_plan zo_X11_step zo_X11_inner u5 o7 s1 s2 s3 s4 s5 h
      refine u_callr (va_runV (As := []) (rest := [va_rf s1, .int s2, .int s3, va_rf s4, va_rf s5]) hC.1 (mo_X11_inner u a0 o7 u5 c6) (cwV 0 hts (lw_V q1601 q1603 qs32 q128 q1604) rfl rfl rfl (by decide +kernel) ⟨hRr.1, Nat.le_trans (Nat.add_le_add_right (Nat.le_of_ble_eq_true rfl) DL) hRr.2⟩) ⟨uPc_blind, u_rcv hC hP c4 rfl, fun U hU hW => u_pre hC hP hS hU hW⟩ rfl rfl hl.1 rfl (lv_room (by simp only [List.map, u_cat]; exact Nat.le_of_ble_eq_true rfl)) dX11_step_260 ⟨by omega, by omega⟩) hS (fun H locs hP hS => ?_)
      refine W.cs (cells' := u5.1 - u0.1) (slots' := u5.2.1 - u0.2.1) (by omega) (by omega) ?_
      exact w_X11_step_263 hC hE hR hRm N  ro_X11_plan ro_X11_step ro_X11_inner zo_X11_plan zo_X11_step zo_X11_inner mo_X11_plan mx_X11_plan mo_X11_step mx_X11_step mo_X11_inner mx_X11_inner hRr u5 o7 s1 s2 s3 s4 s5 h ⟨by omega, by omega⟩ hP hS (lv_sub hl [] rfl)
def f_X11_step_242 (N b : Nat) (g : uEnv) (ro_X11_plan : UH → Nat → Option ((Nat × UH) ⊕ (Option Nat × UH))) (ro_X11_step : UH → Nat → Option ((Nat × UH) ⊕ (Option Nat × UH))) (ro_X11_inner : UH → Nat → Option ((Nat × UH) ⊕ (Option Nat × UH))) (a0 : Nat) (u : UH) (x2 : Int32) (x3 : Int32) (x4 : Option Nat) (s0 : Option Nat) : Option ((Nat × UH) ⊕ (Option Nat × UH)) :=
    (uGR u a0 9 0).bind fun o1 =>
    (o1).bind fun a2 =>
    if uIs u a2 4 = true then
    ucall (f_X5_skips N b g u a2 (some (g.2.1 30))) fun r6 u4 =>
    f_X11_step_256 N b g ro_X11_plan ro_X11_step ro_X11_inner a0 u4 r6 x4 x3 x2 s0 s0
    else none
set_option maxHeartbeats 4000000 in
set_option maxRecDepth 100000 in
theorem zz_X11_step_242 {G : uG} {a0 : Nat} {z : (Nat × UH) ⊕ (Option Nat × UH)} (N : Nat) (ro_X11_plan : UH → Nat → Option ((Nat × UH) ⊕ (Option Nat × UH))) (ro_X11_step : UH → Nat → Option ((Nat × UH) ⊕ (Option Nat × UH))) (ro_X11_inner : UH → Nat → Option ((Nat × UH) ⊕ (Option Nat × UH))) (zo_X11_plan : ∀ (u : UH) (a0 : Nat) (z : (Nat × UH) ⊕ (Option Nat × UH)), ro_X11_plan u a0 = some z → u.1 ≤ (uX1 z).1 ∧ u.2.1 ≤ (uX1 z).2.1) (zo_X11_step : ∀ (u : UH) (a0 : Nat) (z : (Nat × UH) ⊕ (Option Nat × UH)), ro_X11_step u a0 = some z → u.1 ≤ (uX1 z).1 ∧ u.2.1 ≤ (uX1 z).2.1) (zo_X11_inner : ∀ (u : UH) (a0 : Nat) (z : (Nat × UH) ⊕ (Option Nat × UH)), ro_X11_inner u a0 = some z → u.1 ≤ (uX1 z).1 ∧ u.2.1 ≤ (uX1 z).2.1) (u : UH) (x2 : Int32) (x3 : Int32) (x4 : Option Nat) (s0 : Option Nat) (h : f_X11_step_242 N (ub G) (ug G) ro_X11_plan ro_X11_step ro_X11_inner a0 u x2 x3 x4 s0 = some z) : u.1 ≤ (uX1 z).1 ∧ u.2.1 ≤ (uX1 z).2.1 := by
  unfold f_X11_step_242 at h
  obtain ⟨o1, ho1, h⟩ := mbind_n h
  obtain ⟨a2, ha2, hha2⟩ := mbind_n h
  subst ha2
  have h := hha2
  obtain ⟨c3, h⟩ := mif_n h
  obtain ⟨r6, u4, c5, h⟩ := ucall_n h
  have zu4 := zz_X5_skips N (ub G) (ug G) u a2 (some ((ug G).2.1 30)) r6 u4 c5
  have hq := zz_X11_step_256 (G := G) (a0 := a0) N  ro_X11_plan ro_X11_step ro_X11_inner zo_X11_plan zo_X11_step zo_X11_inner u4 r6 x4 x3 x2 s0 s0 h
  exact ⟨by omega, by omega⟩
set_option maxHeartbeats 4000000 in
set_option maxRecDepth 100000 in
theorem w_X11_step_242 {p : Program} {l : Launch} {e : Env} {R : Room} {s : State} {m : MethodId} {args : Array Value} {below : List Frame} {meth : Method} {c : Code} {G : uG} {a0 : Nat} {u0 : UH} {z : (Nat × UH) ⊕ (Option Nat × UH)} (hC : uC p s m args meth c G RX11 cX11_step 5 (some (.object "SoftWheels$Doing"))) (hE : c.exceptionTable.toList = []) (hR : 10 ≤ R.frames ∧ 257 ≤ R.locals) (hRm : (uX1 z).1 - u0.1 ≤ R.cells ∧ (uX1 z).2.1 - u0.2.1 ≤ R.slots) (N : Nat) (ro_X11_plan : UH → Nat → Option ((Nat × UH) ⊕ (Option Nat × UH))) (ro_X11_step : UH → Nat → Option ((Nat × UH) ⊕ (Option Nat × UH))) (ro_X11_inner : UH → Nat → Option ((Nat × UH) ⊕ (Option Nat × UH))) (zo_X11_plan : ∀ (u : UH) (a0 : Nat) (z : (Nat × UH) ⊕ (Option Nat × UH)), ro_X11_plan u a0 = some z → u.1 ≤ (uX1 z).1 ∧ u.2.1 ≤ (uX1 z).2.1) (zo_X11_step : ∀ (u : UH) (a0 : Nat) (z : (Nat × UH) ⊕ (Option Nat × UH)), ro_X11_step u a0 = some z → u.1 ≤ (uX1 z).1 ∧ u.2.1 ≤ (uX1 z).2.1) (zo_X11_inner : ∀ (u : UH) (a0 : Nat) (z : (Nat × UH) ⊕ (Option Nat × UH)), ro_X11_inner u a0 = some z → u.1 ≤ (uX1 z).1 ∧ u.2.1 ≤ (uX1 z).2.1) {DF DL : Nat} (mo_X11_plan : ∀ (u : UH) (a0 : Nat) (r : Option Nat) (uf : UH), ro_X11_plan u a0 = some (.inr (r, uf)) → Met l yX11_plan (ws_ yX11_plan cX11_plan 2 (some (.object "java/util/List"))) ({ frames := DF, cells := (uf.1 - u.1), slots := (uf.2.1 - u.2.1), locals := DL }) (uPc G u [.ref a0]) (uQr G r uf) (uf.1 - u.1) (uf.2.1 - u.2.1) (uA G)) (mx_X11_plan : ∀ (u : UH) (a0 : Nat) (x : Nat) (uf : UH), ro_X11_plan u a0 = some (.inl (x, uf)) → uMX l yX11_plan (ws_ yX11_plan cX11_plan 2 (some (.object "java/util/List"))) ({ frames := DF, cells := uf.1 - u.1, slots := uf.2.1 - u.2.1, locals := DL }) G u [.ref a0] x uf (uf.1 - u.1) (uf.2.1 - u.2.1)) (mo_X11_step : ∀ (u : UH) (a0 : Nat) (r : Option Nat) (uf : UH), ro_X11_step u a0 = some (.inr (r, uf)) → Met l yX11_step (ws_ yX11_step cX11_step 5 (some (.object "SoftWheels$Doing"))) ({ frames := DF, cells := (uf.1 - u.1), slots := (uf.2.1 - u.2.1), locals := DL }) (uPc G u [.ref a0]) (uQr G r uf) (uf.1 - u.1) (uf.2.1 - u.2.1) (uA G)) (mx_X11_step : ∀ (u : UH) (a0 : Nat) (x : Nat) (uf : UH), ro_X11_step u a0 = some (.inl (x, uf)) → uMX l yX11_step (ws_ yX11_step cX11_step 5 (some (.object "SoftWheels$Doing"))) ({ frames := DF, cells := uf.1 - u.1, slots := uf.2.1 - u.2.1, locals := DL }) G u [.ref a0] x uf (uf.1 - u.1) (uf.2.1 - u.2.1)) (mo_X11_inner : ∀ (u : UH) (a0 : Nat) (r : Option Nat) (uf : UH), ro_X11_inner u a0 = some (.inr (r, uf)) → Met l yX11_inner (ws_ yX11_inner cX11_inner 2 (some (.object "java/util/List"))) ({ frames := DF, cells := (uf.1 - u.1), slots := (uf.2.1 - u.2.1), locals := DL }) (uPc G u [.ref a0]) (uQr G r uf) (uf.1 - u.1) (uf.2.1 - u.2.1) (uA G)) (mx_X11_inner : ∀ (u : UH) (a0 : Nat) (x : Nat) (uf : UH), ro_X11_inner u a0 = some (.inl (x, uf)) → uMX l yX11_inner (ws_ yX11_inner cX11_inner 2 (some (.object "java/util/List"))) ({ frames := DF, cells := uf.1 - u.1, slots := uf.2.1 - u.2.1, locals := DL }) G u [.ref a0] x uf (uf.1 - u.1) (uf.2.1 - u.2.1)) (hRr : DF + 1 ≤ R.frames ∧ 60 + DL ≤ R.locals) (u : UH) (x2 : Int32) (x3 : Int32) (x4 : Option Nat) (s0 : Option Nat) (h : f_X11_step_242 N (ub G) (ug G) ro_X11_plan ro_X11_step ro_X11_inner a0 u x2 x3 x4 s0 = some z) (hz0 : (u0.1 ≤ u.1 ∧ u0.2.1 ≤ u.2.1)) {H : Heap} {locs : List Loc} (hP : uP G u H) (hS : va_S (uA G) s.heap H locs) {ls : Array Slot} (hl : lv_has ls 5 [(0, va_rf (some a0)), (2, .int x2), (3, .int x3), (4, va_rf x4)]) : W p l e R s m args below meth c H locs (u.1 - u0.1) (u.2.1 - u0.2.1) (uMQr below G z args s ((uX1 z).1 - u0.1) ((uX1 z).2.1 - u0.2.1)) (F0 m 242 ls [va_rf s0]) := by
  obtain ⟨⟨hx, hb, hml, hown, hts⟩, hKK⟩ := id hC
  have hzf := zz_X11_step_242 (G := G) (a0 := a0) N ro_X11_plan ro_X11_step ro_X11_inner zo_X11_plan zo_X11_step zo_X11_inner u x2 x3 x4 s0 h
  unfold f_X11_step_242 at h
  refine lv_dup hx hb dX11_step_242 (u_cat _) ?_
  refine lv_iload_n hx hb dX11_step_243 rfl (lv_at hl 1 rfl) ?_
  refine lv_iload_n hx hb dX11_step_244 rfl (lv_at hl 2 rfl) ?_
  refine u_aload (r := x4) hx hb dX11_step_245 (lv_at hl 3 rfl) ?_
  refine u_aload_n (r := some a0) hx hb dX11_step_247 rfl (lv_at hl 0 rfl) ?_
  obtain ⟨o1, ho1, h⟩ := mbind_n h
  refine u_get hC hP (uGR_n ho1) rfl in_X11 (by decide) q1545 (fun _ h => h) dX11_step_248 ?_
  refine u_ldcS hC 30 rfl dX11_step_251 ?_
  obtain ⟨a2, ha2, hha2⟩ := mbind_n h
  subst ha2
  have h := hha2
  obtain ⟨c3, h⟩ := mif_n h
  obtain ⟨r6, u4, c5, h⟩ := ucall_n h
  have zu4 := zz_X5_skips N (ub G) (ug G) u a2 (some ((ug G).2.1 30)) r6 u4 c5
  have hq := zz_X11_step_256 (G := G) (a0 := a0) N ro_X11_plan ro_X11_step ro_X11_inner zo_X11_plan zo_X11_step zo_X11_inner u4 r6 x4 x3 x2 s0 s0 h
  refine u_calli (va_runV (As := [va_rf (some ((ug G).2.1 30))]) (rest := [va_rf x4, .int x3, .int x2, va_rf s0, va_rf s0]) hC.1 (met_X5_skips l N G u a2 (some ((ug G).2.1 30)) r6 u4 c5) (cwV 1 hts (lw_V q1610 q663 q664 q105 q665) rfl rfl rfl (by decide +kernel) ⟨Nat.le_trans (Nat.le_of_ble_eq_true rfl) hR.1, Nat.le_trans (Nat.le_of_ble_eq_true rfl) hR.2⟩) ⟨uPc_blind, u_rcv hC hP c3 rfl, fun U hU hW => u_pre hC hP hS hU hW⟩ rfl rfl hl.1 rfl (lv_room (by simp only [List.map, u_cat]; exact Nat.le_of_ble_eq_true rfl)) dX11_step_253 ⟨by omega, by omega⟩) hS (fun H locs hP hS => ?_)
  refine W.cs (cells' := u4.1 - u0.1) (slots' := u4.2.1 - u0.2.1) (by omega) (by omega) ?_
  refine W.cs (cells' := u4.1 - u0.1) (slots' := u4.2.1 - u0.2.1) (by omega) (by omega) ?_
  exact w_X11_step_256 hC hE hR hRm N  ro_X11_plan ro_X11_step ro_X11_inner zo_X11_plan zo_X11_step zo_X11_inner mo_X11_plan mx_X11_plan mo_X11_step mx_X11_step mo_X11_inner mx_X11_inner hRr u4 r6 x4 x3 x2 s0 s0 h ⟨by omega, by omega⟩ hP hS (lv_sub hl [0] rfl)
def f_X11_step_237 (N b : Nat) (g : uEnv) (ro_X11_plan : UH → Nat → Option ((Nat × UH) ⊕ (Option Nat × UH))) (ro_X11_step : UH → Nat → Option ((Nat × UH) ⊕ (Option Nat × UH))) (ro_X11_inner : UH → Nat → Option ((Nat × UH) ⊕ (Option Nat × UH))) (a0 : Nat) (u : UH) (x2 : Int32) (x3 : Int32) (s0 : Option Nat) : Option ((Nat × UH) ⊕ (Option Nat × UH)) :=
    mlet (u.1) fun a2 =>
    mlet (uNew u 4 (.inr (11, uDefs tyX13 4))) fun u1 =>
    f_X11_step_242 N b g ro_X11_plan ro_X11_step ro_X11_inner a0 u1 x2 x3 s0 (some a2)
set_option maxHeartbeats 4000000 in
set_option maxRecDepth 100000 in
theorem zz_X11_step_237 {G : uG} {a0 : Nat} {z : (Nat × UH) ⊕ (Option Nat × UH)} (N : Nat) (ro_X11_plan : UH → Nat → Option ((Nat × UH) ⊕ (Option Nat × UH))) (ro_X11_step : UH → Nat → Option ((Nat × UH) ⊕ (Option Nat × UH))) (ro_X11_inner : UH → Nat → Option ((Nat × UH) ⊕ (Option Nat × UH))) (zo_X11_plan : ∀ (u : UH) (a0 : Nat) (z : (Nat × UH) ⊕ (Option Nat × UH)), ro_X11_plan u a0 = some z → u.1 ≤ (uX1 z).1 ∧ u.2.1 ≤ (uX1 z).2.1) (zo_X11_step : ∀ (u : UH) (a0 : Nat) (z : (Nat × UH) ⊕ (Option Nat × UH)), ro_X11_step u a0 = some z → u.1 ≤ (uX1 z).1 ∧ u.2.1 ≤ (uX1 z).2.1) (zo_X11_inner : ∀ (u : UH) (a0 : Nat) (z : (Nat × UH) ⊕ (Option Nat × UH)), ro_X11_inner u a0 = some z → u.1 ≤ (uX1 z).1 ∧ u.2.1 ≤ (uX1 z).2.1) (u : UH) (x2 : Int32) (x3 : Int32) (s0 : Option Nat) (h : f_X11_step_237 N (ub G) (ug G) ro_X11_plan ro_X11_step ro_X11_inner a0 u x2 x3 s0 = some z) : u.1 ≤ (uX1 z).1 ∧ u.2.1 ≤ (uX1 z).2.1 := by
  unfold f_X11_step_237 at h
  obtain ⟨a2, ea2⟩ : ∃ z : Nat, z = u.1 := ⟨_, rfl⟩
  have h := mlet_at ea2 h
  obtain ⟨u1, eu1⟩ : ∃ z : UH, z = uNew u 4 (.inr (11, uDefs tyX13 4)) := ⟨_, rfl⟩
  have h := mlet_at eu1 h
  have zu1 : u1.1 = u.1 + 1 ∧ u1.2.1 = u.2.1 + 4 := by rw [eu1]; exact ⟨rfl, rfl⟩
  have hq := zz_X11_step_242 (G := G) (a0 := a0) N  ro_X11_plan ro_X11_step ro_X11_inner zo_X11_plan zo_X11_step zo_X11_inner u1 x2 x3 s0 (some a2) h
  exact ⟨by omega, by omega⟩
set_option maxHeartbeats 4000000 in
set_option maxRecDepth 100000 in
theorem w_X11_step_237 {p : Program} {l : Launch} {e : Env} {R : Room} {s : State} {m : MethodId} {args : Array Value} {below : List Frame} {meth : Method} {c : Code} {G : uG} {a0 : Nat} {u0 : UH} {z : (Nat × UH) ⊕ (Option Nat × UH)} (hC : uC p s m args meth c G RX11 cX11_step 5 (some (.object "SoftWheels$Doing"))) (hE : c.exceptionTable.toList = []) (hR : 10 ≤ R.frames ∧ 257 ≤ R.locals) (hRm : (uX1 z).1 - u0.1 ≤ R.cells ∧ (uX1 z).2.1 - u0.2.1 ≤ R.slots) (N : Nat) (ro_X11_plan : UH → Nat → Option ((Nat × UH) ⊕ (Option Nat × UH))) (ro_X11_step : UH → Nat → Option ((Nat × UH) ⊕ (Option Nat × UH))) (ro_X11_inner : UH → Nat → Option ((Nat × UH) ⊕ (Option Nat × UH))) (zo_X11_plan : ∀ (u : UH) (a0 : Nat) (z : (Nat × UH) ⊕ (Option Nat × UH)), ro_X11_plan u a0 = some z → u.1 ≤ (uX1 z).1 ∧ u.2.1 ≤ (uX1 z).2.1) (zo_X11_step : ∀ (u : UH) (a0 : Nat) (z : (Nat × UH) ⊕ (Option Nat × UH)), ro_X11_step u a0 = some z → u.1 ≤ (uX1 z).1 ∧ u.2.1 ≤ (uX1 z).2.1) (zo_X11_inner : ∀ (u : UH) (a0 : Nat) (z : (Nat × UH) ⊕ (Option Nat × UH)), ro_X11_inner u a0 = some z → u.1 ≤ (uX1 z).1 ∧ u.2.1 ≤ (uX1 z).2.1) {DF DL : Nat} (mo_X11_plan : ∀ (u : UH) (a0 : Nat) (r : Option Nat) (uf : UH), ro_X11_plan u a0 = some (.inr (r, uf)) → Met l yX11_plan (ws_ yX11_plan cX11_plan 2 (some (.object "java/util/List"))) ({ frames := DF, cells := (uf.1 - u.1), slots := (uf.2.1 - u.2.1), locals := DL }) (uPc G u [.ref a0]) (uQr G r uf) (uf.1 - u.1) (uf.2.1 - u.2.1) (uA G)) (mx_X11_plan : ∀ (u : UH) (a0 : Nat) (x : Nat) (uf : UH), ro_X11_plan u a0 = some (.inl (x, uf)) → uMX l yX11_plan (ws_ yX11_plan cX11_plan 2 (some (.object "java/util/List"))) ({ frames := DF, cells := uf.1 - u.1, slots := uf.2.1 - u.2.1, locals := DL }) G u [.ref a0] x uf (uf.1 - u.1) (uf.2.1 - u.2.1)) (mo_X11_step : ∀ (u : UH) (a0 : Nat) (r : Option Nat) (uf : UH), ro_X11_step u a0 = some (.inr (r, uf)) → Met l yX11_step (ws_ yX11_step cX11_step 5 (some (.object "SoftWheels$Doing"))) ({ frames := DF, cells := (uf.1 - u.1), slots := (uf.2.1 - u.2.1), locals := DL }) (uPc G u [.ref a0]) (uQr G r uf) (uf.1 - u.1) (uf.2.1 - u.2.1) (uA G)) (mx_X11_step : ∀ (u : UH) (a0 : Nat) (x : Nat) (uf : UH), ro_X11_step u a0 = some (.inl (x, uf)) → uMX l yX11_step (ws_ yX11_step cX11_step 5 (some (.object "SoftWheels$Doing"))) ({ frames := DF, cells := uf.1 - u.1, slots := uf.2.1 - u.2.1, locals := DL }) G u [.ref a0] x uf (uf.1 - u.1) (uf.2.1 - u.2.1)) (mo_X11_inner : ∀ (u : UH) (a0 : Nat) (r : Option Nat) (uf : UH), ro_X11_inner u a0 = some (.inr (r, uf)) → Met l yX11_inner (ws_ yX11_inner cX11_inner 2 (some (.object "java/util/List"))) ({ frames := DF, cells := (uf.1 - u.1), slots := (uf.2.1 - u.2.1), locals := DL }) (uPc G u [.ref a0]) (uQr G r uf) (uf.1 - u.1) (uf.2.1 - u.2.1) (uA G)) (mx_X11_inner : ∀ (u : UH) (a0 : Nat) (x : Nat) (uf : UH), ro_X11_inner u a0 = some (.inl (x, uf)) → uMX l yX11_inner (ws_ yX11_inner cX11_inner 2 (some (.object "java/util/List"))) ({ frames := DF, cells := uf.1 - u.1, slots := uf.2.1 - u.2.1, locals := DL }) G u [.ref a0] x uf (uf.1 - u.1) (uf.2.1 - u.2.1)) (hRr : DF + 1 ≤ R.frames ∧ 60 + DL ≤ R.locals) (u : UH) (x2 : Int32) (x3 : Int32) (s0 : Option Nat) (h : f_X11_step_237 N (ub G) (ug G) ro_X11_plan ro_X11_step ro_X11_inner a0 u x2 x3 s0 = some z) (hz0 : (u0.1 ≤ u.1 ∧ u0.2.1 ≤ u.2.1)) {H : Heap} {locs : List Loc} (hP : uP G u H) (hS : va_S (uA G) s.heap H locs) {ls : Array Slot} (hl : lv_has ls 5 [(0, va_rf (some a0)), (2, .int x2), (3, .int x3)]) : W p l e R s m args below meth c H locs (u.1 - u0.1) (u.2.1 - u0.2.1) (uMQr below G z args s ((uX1 z).1 - u0.1) ((uX1 z).2.1 - u0.2.1)) (F0 m 237 ls [va_rf s0]) := by
  obtain ⟨⟨hx, hb, hml, hown, hts⟩, hKK⟩ := id hC
  have hzf := zz_X11_step_237 (G := G) (a0 := a0) N ro_X11_plan ro_X11_step ro_X11_inner zo_X11_plan zo_X11_step zo_X11_inner u x2 x3 s0 h
  unfold f_X11_step_237 at h
  refine u_astore (r := s0) (lv' := [(4, va_rf s0), (0, va_rf (some a0)), (2, .int x2), (3, .int x3)]) hx hb dX11_step_237 hl (by decide) rfl (fun ls hl => ?_)
  obtain ⟨a2, ea2⟩ : ∃ z : Nat, z = u.1 := ⟨_, rfl⟩
  have h := mlet_at ea2 h
  obtain ⟨u1, eu1⟩ : ∃ z : UH, z = uNew u 4 (.inr (11, uDefs tyX13 4)) := ⟨_, rfl⟩
  have h := mlet_at eu1 h
  have zu1 : u1.1 = u.1 + 1 ∧ u1.2.1 = u.2.1 + 4 := by rw [eu1]; exact ⟨rfl, rfl⟩
  have hq := zz_X11_step_242 (G := G) (a0 := a0) N ro_X11_plan ro_X11_step ro_X11_inner zo_X11_plan zo_X11_step zo_X11_inner u1 x2 x3 s0 (some a2) h
  refine u_new hC hP hS (T := TX13) (N := 4) (ci := 11) rfl in_X13 tyX13 tyX13_ok q1607 q1608 q130 (by omega) (by omega) dX11_step_239 (fun H hP hS => ?_)
  rw [← eu1] at hP
  rw [← ea2]
  refine W.cs (cells' := u1.1 - u0.1) (slots' := u1.2.1 - u0.2.1) (by omega) (by omega) ?_
  refine W.cs (cells' := u1.1 - u0.1) (slots' := u1.2.1 - u0.2.1) (by omega) (by omega) ?_
  exact w_X11_step_242 hC hE hR hRm N  ro_X11_plan ro_X11_step ro_X11_inner zo_X11_plan zo_X11_step zo_X11_inner mo_X11_plan mx_X11_plan mo_X11_step mx_X11_step mo_X11_inner mx_X11_inner hRr u1 x2 x3 s0 (some a2) h ⟨by omega, by omega⟩ hP hS (lv_sub hl [1, 2, 3, 0] rfl)
def f_X11_step_233 (N b : Nat) (g : uEnv) (ro_X11_plan : UH → Nat → Option ((Nat × UH) ⊕ (Option Nat × UH))) (ro_X11_step : UH → Nat → Option ((Nat × UH) ⊕ (Option Nat × UH))) (ro_X11_inner : UH → Nat → Option ((Nat × UH) ⊕ (Option Nat × UH))) (a0 : Nat) (u : UH) (x2 : Int32) (x3 : Int32) : Option ((Nat × UH) ⊕ (Option Nat × UH)) :=
    if uIs u a0 9 = true then
    uxcall (ro_X11_inner u a0) (fun a5 u6 =>
    some (.inl (a5, u6))) fun o4 u2 =>
    f_X11_step_237 N b g ro_X11_plan ro_X11_step ro_X11_inner a0 u2 x2 x3 o4
    else none
set_option maxHeartbeats 4000000 in
set_option maxRecDepth 100000 in
theorem zz_X11_step_233 {G : uG} {a0 : Nat} {z : (Nat × UH) ⊕ (Option Nat × UH)} (N : Nat) (ro_X11_plan : UH → Nat → Option ((Nat × UH) ⊕ (Option Nat × UH))) (ro_X11_step : UH → Nat → Option ((Nat × UH) ⊕ (Option Nat × UH))) (ro_X11_inner : UH → Nat → Option ((Nat × UH) ⊕ (Option Nat × UH))) (zo_X11_plan : ∀ (u : UH) (a0 : Nat) (z : (Nat × UH) ⊕ (Option Nat × UH)), ro_X11_plan u a0 = some z → u.1 ≤ (uX1 z).1 ∧ u.2.1 ≤ (uX1 z).2.1) (zo_X11_step : ∀ (u : UH) (a0 : Nat) (z : (Nat × UH) ⊕ (Option Nat × UH)), ro_X11_step u a0 = some z → u.1 ≤ (uX1 z).1 ∧ u.2.1 ≤ (uX1 z).2.1) (zo_X11_inner : ∀ (u : UH) (a0 : Nat) (z : (Nat × UH) ⊕ (Option Nat × UH)), ro_X11_inner u a0 = some z → u.1 ≤ (uX1 z).1 ∧ u.2.1 ≤ (uX1 z).2.1) (u : UH) (x2 : Int32) (x3 : Int32) (h : f_X11_step_233 N (ub G) (ug G) ro_X11_plan ro_X11_step ro_X11_inner a0 u x2 x3 = some z) : u.1 ≤ (uX1 z).1 ∧ u.2.1 ≤ (uX1 z).2.1 := by
  unfold f_X11_step_233 at h
  obtain ⟨c1, h⟩ := mif_n h
  rcases uxcall_n h with ⟨a5, u6, c7, h⟩ | ⟨o4, u2, c3, h⟩
  · have zu6 : u.1 ≤ u6.1 ∧ u.2.1 ≤ u6.2.1 := zo_X11_inner u a0 (.inl (a5, u6)) c7
    have hz := Option.some.inj h
    subst hz
    exact (show u.1 ≤ u6.1 ∧ u.2.1 ≤ u6.2.1 from ⟨by omega, by omega⟩)
  · have zu2 : u.1 ≤ u2.1 ∧ u.2.1 ≤ u2.2.1 := zo_X11_inner u a0 (.inr (o4, u2)) c3
    have hq := zz_X11_step_237 (G := G) (a0 := a0) N  ro_X11_plan ro_X11_step ro_X11_inner zo_X11_plan zo_X11_step zo_X11_inner u2 x2 x3 o4 h
    exact ⟨by omega, by omega⟩
set_option maxHeartbeats 4000000 in
set_option maxRecDepth 100000 in
theorem w_X11_step_233 {p : Program} {l : Launch} {e : Env} {R : Room} {s : State} {m : MethodId} {args : Array Value} {below : List Frame} {meth : Method} {c : Code} {G : uG} {a0 : Nat} {u0 : UH} {z : (Nat × UH) ⊕ (Option Nat × UH)} (hC : uC p s m args meth c G RX11 cX11_step 5 (some (.object "SoftWheels$Doing"))) (hE : c.exceptionTable.toList = []) (hR : 10 ≤ R.frames ∧ 257 ≤ R.locals) (hRm : (uX1 z).1 - u0.1 ≤ R.cells ∧ (uX1 z).2.1 - u0.2.1 ≤ R.slots) (N : Nat) (ro_X11_plan : UH → Nat → Option ((Nat × UH) ⊕ (Option Nat × UH))) (ro_X11_step : UH → Nat → Option ((Nat × UH) ⊕ (Option Nat × UH))) (ro_X11_inner : UH → Nat → Option ((Nat × UH) ⊕ (Option Nat × UH))) (zo_X11_plan : ∀ (u : UH) (a0 : Nat) (z : (Nat × UH) ⊕ (Option Nat × UH)), ro_X11_plan u a0 = some z → u.1 ≤ (uX1 z).1 ∧ u.2.1 ≤ (uX1 z).2.1) (zo_X11_step : ∀ (u : UH) (a0 : Nat) (z : (Nat × UH) ⊕ (Option Nat × UH)), ro_X11_step u a0 = some z → u.1 ≤ (uX1 z).1 ∧ u.2.1 ≤ (uX1 z).2.1) (zo_X11_inner : ∀ (u : UH) (a0 : Nat) (z : (Nat × UH) ⊕ (Option Nat × UH)), ro_X11_inner u a0 = some z → u.1 ≤ (uX1 z).1 ∧ u.2.1 ≤ (uX1 z).2.1) {DF DL : Nat} (mo_X11_plan : ∀ (u : UH) (a0 : Nat) (r : Option Nat) (uf : UH), ro_X11_plan u a0 = some (.inr (r, uf)) → Met l yX11_plan (ws_ yX11_plan cX11_plan 2 (some (.object "java/util/List"))) ({ frames := DF, cells := (uf.1 - u.1), slots := (uf.2.1 - u.2.1), locals := DL }) (uPc G u [.ref a0]) (uQr G r uf) (uf.1 - u.1) (uf.2.1 - u.2.1) (uA G)) (mx_X11_plan : ∀ (u : UH) (a0 : Nat) (x : Nat) (uf : UH), ro_X11_plan u a0 = some (.inl (x, uf)) → uMX l yX11_plan (ws_ yX11_plan cX11_plan 2 (some (.object "java/util/List"))) ({ frames := DF, cells := uf.1 - u.1, slots := uf.2.1 - u.2.1, locals := DL }) G u [.ref a0] x uf (uf.1 - u.1) (uf.2.1 - u.2.1)) (mo_X11_step : ∀ (u : UH) (a0 : Nat) (r : Option Nat) (uf : UH), ro_X11_step u a0 = some (.inr (r, uf)) → Met l yX11_step (ws_ yX11_step cX11_step 5 (some (.object "SoftWheels$Doing"))) ({ frames := DF, cells := (uf.1 - u.1), slots := (uf.2.1 - u.2.1), locals := DL }) (uPc G u [.ref a0]) (uQr G r uf) (uf.1 - u.1) (uf.2.1 - u.2.1) (uA G)) (mx_X11_step : ∀ (u : UH) (a0 : Nat) (x : Nat) (uf : UH), ro_X11_step u a0 = some (.inl (x, uf)) → uMX l yX11_step (ws_ yX11_step cX11_step 5 (some (.object "SoftWheels$Doing"))) ({ frames := DF, cells := uf.1 - u.1, slots := uf.2.1 - u.2.1, locals := DL }) G u [.ref a0] x uf (uf.1 - u.1) (uf.2.1 - u.2.1)) (mo_X11_inner : ∀ (u : UH) (a0 : Nat) (r : Option Nat) (uf : UH), ro_X11_inner u a0 = some (.inr (r, uf)) → Met l yX11_inner (ws_ yX11_inner cX11_inner 2 (some (.object "java/util/List"))) ({ frames := DF, cells := (uf.1 - u.1), slots := (uf.2.1 - u.2.1), locals := DL }) (uPc G u [.ref a0]) (uQr G r uf) (uf.1 - u.1) (uf.2.1 - u.2.1) (uA G)) (mx_X11_inner : ∀ (u : UH) (a0 : Nat) (x : Nat) (uf : UH), ro_X11_inner u a0 = some (.inl (x, uf)) → uMX l yX11_inner (ws_ yX11_inner cX11_inner 2 (some (.object "java/util/List"))) ({ frames := DF, cells := uf.1 - u.1, slots := uf.2.1 - u.2.1, locals := DL }) G u [.ref a0] x uf (uf.1 - u.1) (uf.2.1 - u.2.1)) (hRr : DF + 1 ≤ R.frames ∧ 60 + DL ≤ R.locals) (u : UH) (x2 : Int32) (x3 : Int32) (h : f_X11_step_233 N (ub G) (ug G) ro_X11_plan ro_X11_step ro_X11_inner a0 u x2 x3 = some z) (hz0 : (u0.1 ≤ u.1 ∧ u0.2.1 ≤ u.2.1)) {H : Heap} {locs : List Loc} (hP : uP G u H) (hS : va_S (uA G) s.heap H locs) {ls : Array Slot} (hl : lv_has ls 5 [(0, va_rf (some a0)), (2, .int x2), (3, .int x3)]) : W p l e R s m args below meth c H locs (u.1 - u0.1) (u.2.1 - u0.2.1) (uMQr below G z args s ((uX1 z).1 - u0.1) ((uX1 z).2.1 - u0.2.1)) (F0 m 233 ls []) := by
  obtain ⟨⟨hx, hb, hml, hown, hts⟩, hKK⟩ := id hC
  have hzf := zz_X11_step_233 (G := G) (a0 := a0) N ro_X11_plan ro_X11_step ro_X11_inner zo_X11_plan zo_X11_step zo_X11_inner u x2 x3 h
  unfold f_X11_step_233 at h
  refine u_aload_n (r := some a0) hx hb dX11_step_233 rfl (lv_at hl 0 rfl) ?_
  obtain ⟨c1, h⟩ := mif_n h
  rcases uxcall_n h with ⟨a5, u6, c7, h⟩ | ⟨o4, u2, c3, h⟩
  · have zu6 : u.1 ≤ u6.1 ∧ u.2.1 ≤ u6.2.1 := zo_X11_inner u a0 (.inl (a5, u6)) c7
    have hz := Option.some.inj h
    subst hz
    have hRm : u6.1 - u0.1 ≤ R.cells ∧ u6.2.1 - u0.2.1 ≤ R.slots := hRm
    exact u_callX hC (u_noE hE) (u_runVX (As := []) (rest := []) hC.1 (mx_X11_inner u a0 a5 u6 c7) (cwV 0 hts (lw_V q1601 q1603 qs32 q128 q1604) rfl rfl rfl (by decide +kernel) ⟨hRr.1, Nat.le_trans (Nat.add_le_add_right (Nat.le_of_ble_eq_true rfl) DL) hRr.2⟩) ⟨uPc_blind, u_rcv hC hP c1 rfl, fun U hU hW => u_pre hC hP hS hU hW⟩ rfl rfl hl.1 rfl (lv_room (Nat.le_of_ble_eq_true rfl)) dX11_step_234 ⟨by omega, by omega⟩) hS (by show _ + _ = u6.1 - u0.1; omega) (by show _ + _ = u6.2.1 - u0.2.1; omega)
  · have zu2 : u.1 ≤ u2.1 ∧ u.2.1 ≤ u2.2.1 := zo_X11_inner u a0 (.inr (o4, u2)) c3
    have hq := zz_X11_step_237 (G := G) (a0 := a0) N ro_X11_plan ro_X11_step ro_X11_inner zo_X11_plan zo_X11_step zo_X11_inner u2 x2 x3 o4 h
    refine u_callr (va_runV (As := []) (rest := []) hC.1 (mo_X11_inner u a0 o4 u2 c3) (cwV 0 hts (lw_V q1601 q1603 qs32 q128 q1604) rfl rfl rfl (by decide +kernel) ⟨hRr.1, Nat.le_trans (Nat.add_le_add_right (Nat.le_of_ble_eq_true rfl) DL) hRr.2⟩) ⟨uPc_blind, u_rcv hC hP c1 rfl, fun U hU hW => u_pre hC hP hS hU hW⟩ rfl rfl hl.1 rfl (lv_room (Nat.le_of_ble_eq_true rfl)) dX11_step_234 ⟨by omega, by omega⟩) hS (fun H locs hP hS => ?_)
    refine W.cs (cells' := u2.1 - u0.1) (slots' := u2.2.1 - u0.2.1) (by omega) (by omega) ?_
    exact w_X11_step_237 hC hE hR hRm N  ro_X11_plan ro_X11_step ro_X11_inner zo_X11_plan zo_X11_step zo_X11_inner mo_X11_plan mx_X11_plan mo_X11_step mx_X11_step mo_X11_inner mx_X11_inner hRr u2 x2 x3 o4 h ⟨by omega, by omega⟩ hP hS (lv_sub hl [0, 1, 2] rfl)
def f_X11_step_225 (N b : Nat) (g : uEnv) (ro_X11_plan : UH → Nat → Option ((Nat × UH) ⊕ (Option Nat × UH))) (ro_X11_step : UH → Nat → Option ((Nat × UH) ⊕ (Option Nat × UH))) (ro_X11_inner : UH → Nat → Option ((Nat × UH) ⊕ (Option Nat × UH))) (a0 : Nat) (u : UH) (s0 : Option Nat) : Option ((Nat × UH) ⊕ (Option Nat × UH)) :=
    (s0).bind fun a1 =>
    some (.inl (a1, u))
set_option maxHeartbeats 4000000 in
set_option maxRecDepth 100000 in
theorem zz_X11_step_225 {G : uG} {a0 : Nat} {z : (Nat × UH) ⊕ (Option Nat × UH)} (N : Nat) (ro_X11_plan : UH → Nat → Option ((Nat × UH) ⊕ (Option Nat × UH))) (ro_X11_step : UH → Nat → Option ((Nat × UH) ⊕ (Option Nat × UH))) (ro_X11_inner : UH → Nat → Option ((Nat × UH) ⊕ (Option Nat × UH))) (zo_X11_plan : ∀ (u : UH) (a0 : Nat) (z : (Nat × UH) ⊕ (Option Nat × UH)), ro_X11_plan u a0 = some z → u.1 ≤ (uX1 z).1 ∧ u.2.1 ≤ (uX1 z).2.1) (zo_X11_step : ∀ (u : UH) (a0 : Nat) (z : (Nat × UH) ⊕ (Option Nat × UH)), ro_X11_step u a0 = some z → u.1 ≤ (uX1 z).1 ∧ u.2.1 ≤ (uX1 z).2.1) (zo_X11_inner : ∀ (u : UH) (a0 : Nat) (z : (Nat × UH) ⊕ (Option Nat × UH)), ro_X11_inner u a0 = some z → u.1 ≤ (uX1 z).1 ∧ u.2.1 ≤ (uX1 z).2.1) (u : UH) (s0 : Option Nat) (h : f_X11_step_225 N (ub G) (ug G) ro_X11_plan ro_X11_step ro_X11_inner a0 u s0 = some z) : u.1 ≤ (uX1 z).1 ∧ u.2.1 ≤ (uX1 z).2.1 := by
  unfold f_X11_step_225 at h
  obtain ⟨a1, ha1, hha1⟩ := mbind_n h
  subst ha1
  have h := hha1
  have hz := Option.some.inj h
  subst hz
  exact (show u.1 ≤ u.1 ∧ u.2.1 ≤ u.2.1 from ⟨by omega, by omega⟩)
set_option maxHeartbeats 4000000 in
set_option maxRecDepth 100000 in
theorem w_X11_step_225 {p : Program} {l : Launch} {e : Env} {R : Room} {s : State} {m : MethodId} {args : Array Value} {below : List Frame} {meth : Method} {c : Code} {G : uG} {a0 : Nat} {u0 : UH} {z : (Nat × UH) ⊕ (Option Nat × UH)} (hC : uC p s m args meth c G RX11 cX11_step 5 (some (.object "SoftWheels$Doing"))) (hE : c.exceptionTable.toList = []) (hR : 10 ≤ R.frames ∧ 257 ≤ R.locals) (hRm : (uX1 z).1 - u0.1 ≤ R.cells ∧ (uX1 z).2.1 - u0.2.1 ≤ R.slots) (N : Nat) (ro_X11_plan : UH → Nat → Option ((Nat × UH) ⊕ (Option Nat × UH))) (ro_X11_step : UH → Nat → Option ((Nat × UH) ⊕ (Option Nat × UH))) (ro_X11_inner : UH → Nat → Option ((Nat × UH) ⊕ (Option Nat × UH))) (zo_X11_plan : ∀ (u : UH) (a0 : Nat) (z : (Nat × UH) ⊕ (Option Nat × UH)), ro_X11_plan u a0 = some z → u.1 ≤ (uX1 z).1 ∧ u.2.1 ≤ (uX1 z).2.1) (zo_X11_step : ∀ (u : UH) (a0 : Nat) (z : (Nat × UH) ⊕ (Option Nat × UH)), ro_X11_step u a0 = some z → u.1 ≤ (uX1 z).1 ∧ u.2.1 ≤ (uX1 z).2.1) (zo_X11_inner : ∀ (u : UH) (a0 : Nat) (z : (Nat × UH) ⊕ (Option Nat × UH)), ro_X11_inner u a0 = some z → u.1 ≤ (uX1 z).1 ∧ u.2.1 ≤ (uX1 z).2.1) {DF DL : Nat} (mo_X11_plan : ∀ (u : UH) (a0 : Nat) (r : Option Nat) (uf : UH), ro_X11_plan u a0 = some (.inr (r, uf)) → Met l yX11_plan (ws_ yX11_plan cX11_plan 2 (some (.object "java/util/List"))) ({ frames := DF, cells := (uf.1 - u.1), slots := (uf.2.1 - u.2.1), locals := DL }) (uPc G u [.ref a0]) (uQr G r uf) (uf.1 - u.1) (uf.2.1 - u.2.1) (uA G)) (mx_X11_plan : ∀ (u : UH) (a0 : Nat) (x : Nat) (uf : UH), ro_X11_plan u a0 = some (.inl (x, uf)) → uMX l yX11_plan (ws_ yX11_plan cX11_plan 2 (some (.object "java/util/List"))) ({ frames := DF, cells := uf.1 - u.1, slots := uf.2.1 - u.2.1, locals := DL }) G u [.ref a0] x uf (uf.1 - u.1) (uf.2.1 - u.2.1)) (mo_X11_step : ∀ (u : UH) (a0 : Nat) (r : Option Nat) (uf : UH), ro_X11_step u a0 = some (.inr (r, uf)) → Met l yX11_step (ws_ yX11_step cX11_step 5 (some (.object "SoftWheels$Doing"))) ({ frames := DF, cells := (uf.1 - u.1), slots := (uf.2.1 - u.2.1), locals := DL }) (uPc G u [.ref a0]) (uQr G r uf) (uf.1 - u.1) (uf.2.1 - u.2.1) (uA G)) (mx_X11_step : ∀ (u : UH) (a0 : Nat) (x : Nat) (uf : UH), ro_X11_step u a0 = some (.inl (x, uf)) → uMX l yX11_step (ws_ yX11_step cX11_step 5 (some (.object "SoftWheels$Doing"))) ({ frames := DF, cells := uf.1 - u.1, slots := uf.2.1 - u.2.1, locals := DL }) G u [.ref a0] x uf (uf.1 - u.1) (uf.2.1 - u.2.1)) (mo_X11_inner : ∀ (u : UH) (a0 : Nat) (r : Option Nat) (uf : UH), ro_X11_inner u a0 = some (.inr (r, uf)) → Met l yX11_inner (ws_ yX11_inner cX11_inner 2 (some (.object "java/util/List"))) ({ frames := DF, cells := (uf.1 - u.1), slots := (uf.2.1 - u.2.1), locals := DL }) (uPc G u [.ref a0]) (uQr G r uf) (uf.1 - u.1) (uf.2.1 - u.2.1) (uA G)) (mx_X11_inner : ∀ (u : UH) (a0 : Nat) (x : Nat) (uf : UH), ro_X11_inner u a0 = some (.inl (x, uf)) → uMX l yX11_inner (ws_ yX11_inner cX11_inner 2 (some (.object "java/util/List"))) ({ frames := DF, cells := uf.1 - u.1, slots := uf.2.1 - u.2.1, locals := DL }) G u [.ref a0] x uf (uf.1 - u.1) (uf.2.1 - u.2.1)) (hRr : DF + 1 ≤ R.frames ∧ 60 + DL ≤ R.locals) (u : UH) (s0 : Option Nat) (h : f_X11_step_225 N (ub G) (ug G) ro_X11_plan ro_X11_step ro_X11_inner a0 u s0 = some z) (hz0 : (u0.1 ≤ u.1 ∧ u0.2.1 ≤ u.2.1)) {H : Heap} {locs : List Loc} (hP : uP G u H) (hS : va_S (uA G) s.heap H locs) {ls : Array Slot} (hl : lv_has ls 5 []) : W p l e R s m args below meth c H locs (u.1 - u0.1) (u.2.1 - u0.2.1) (uMQr below G z args s ((uX1 z).1 - u0.1) ((uX1 z).2.1 - u0.2.1)) (F0 m 225 ls [va_rf s0]) := by
  obtain ⟨⟨hx, hb, hml, hown, hts⟩, hKK⟩ := id hC
  have hzf := zz_X11_step_225 (G := G) (a0 := a0) N ro_X11_plan ro_X11_step ro_X11_inner zo_X11_plan zo_X11_step zo_X11_inner u s0 h
  unfold f_X11_step_225 at h
  obtain ⟨a1, ha1, hha1⟩ := mbind_n h
  subst ha1
  have h := hha1
  have hz := Option.some.inj h
  subst hz
  exact u_athrow hC (u_noE hE) hP hS dX11_step_225
def f_X11_step_208 (N b : Nat) (g : uEnv) (ro_X11_plan : UH → Nat → Option ((Nat × UH) ⊕ (Option Nat × UH))) (ro_X11_step : UH → Nat → Option ((Nat × UH) ⊕ (Option Nat × UH))) (ro_X11_inner : UH → Nat → Option ((Nat × UH) ⊕ (Option Nat × UH))) (a0 : Nat) (u : UH) (x2 : Int32) (s0 : Option Nat) (s1 : Option Nat) : Option ((Nat × UH) ⊕ (Option Nat × UH)) :=
    (s1).bind fun a1 =>
    if uIs u a1 3 = true then
    ucall (f_X4_groundOf N b g u a1 s0) fun r5 u3 =>
    if r5 = (-1) then
    (uGR u3 a0 9 0).bind fun o12 =>
    (o12).bind fun a13 =>
    if uIs u3 a13 4 = true then
    ucall (f_X5_fault N b g u3 a13 2) fun o17 u15 =>
    f_X11_step_225 N b g ro_X11_plan ro_X11_step ro_X11_inner a0 u15 o17
    else none
    else
    (uGR u3 a0 9 0).bind fun o7 =>
    (o7).bind fun a8 =>
    if uIs u3 a8 4 = true then
    (f_X5_next N b g u3 a8).bind fun u10 =>
    f_X11_step_233 N b g ro_X11_plan ro_X11_step ro_X11_inner a0 u10 x2 r5
    else none
    else none
set_option maxHeartbeats 4000000 in
set_option maxRecDepth 100000 in
theorem zz_X11_step_208 {G : uG} {a0 : Nat} {z : (Nat × UH) ⊕ (Option Nat × UH)} (N : Nat) (ro_X11_plan : UH → Nat → Option ((Nat × UH) ⊕ (Option Nat × UH))) (ro_X11_step : UH → Nat → Option ((Nat × UH) ⊕ (Option Nat × UH))) (ro_X11_inner : UH → Nat → Option ((Nat × UH) ⊕ (Option Nat × UH))) (zo_X11_plan : ∀ (u : UH) (a0 : Nat) (z : (Nat × UH) ⊕ (Option Nat × UH)), ro_X11_plan u a0 = some z → u.1 ≤ (uX1 z).1 ∧ u.2.1 ≤ (uX1 z).2.1) (zo_X11_step : ∀ (u : UH) (a0 : Nat) (z : (Nat × UH) ⊕ (Option Nat × UH)), ro_X11_step u a0 = some z → u.1 ≤ (uX1 z).1 ∧ u.2.1 ≤ (uX1 z).2.1) (zo_X11_inner : ∀ (u : UH) (a0 : Nat) (z : (Nat × UH) ⊕ (Option Nat × UH)), ro_X11_inner u a0 = some z → u.1 ≤ (uX1 z).1 ∧ u.2.1 ≤ (uX1 z).2.1) (u : UH) (x2 : Int32) (s0 : Option Nat) (s1 : Option Nat) (h : f_X11_step_208 N (ub G) (ug G) ro_X11_plan ro_X11_step ro_X11_inner a0 u x2 s0 s1 = some z) : u.1 ≤ (uX1 z).1 ∧ u.2.1 ≤ (uX1 z).2.1 := by
  unfold f_X11_step_208 at h
  obtain ⟨a1, ha1, hha1⟩ := mbind_n h
  subst ha1
  have h := hha1
  obtain ⟨c2, h⟩ := mif_n h
  obtain ⟨r5, u3, c4, h⟩ := ucall_n h
  have zu3 := zz_X4_groundOf N (ub G) (ug G) u a1 s0 r5 u3 c4
  by_cases c6 : r5 = (-1)
  · have h := mif_t c6 h
    obtain ⟨o12, ho12, h⟩ := mbind_n h
    obtain ⟨a13, ha13, hha13⟩ := mbind_n h
    subst ha13
    have h := hha13
    obtain ⟨c14, h⟩ := mif_n h
    obtain ⟨o17, u15, c16, h⟩ := ucall_n h
    have zu15 := zz_X5_fault N (ub G) (ug G) u3 a13 2 o17 u15 c16
    have hq := zz_X11_step_225 (G := G) (a0 := a0) N  ro_X11_plan ro_X11_step ro_X11_inner zo_X11_plan zo_X11_step zo_X11_inner u15 o17 h
    exact ⟨by omega, by omega⟩
  · have h := mif_f c6 h
    obtain ⟨o7, ho7, h⟩ := mbind_n h
    obtain ⟨a8, ha8, hha8⟩ := mbind_n h
    subst ha8
    have h := hha8
    obtain ⟨c9, h⟩ := mif_n h
    obtain ⟨u10, c11, h⟩ := mbind_n h
    have zu10 := zz_X5_next N (ub G) (ug G) u3 a8 u10 c11
    have hq := zz_X11_step_233 (G := G) (a0 := a0) N  ro_X11_plan ro_X11_step ro_X11_inner zo_X11_plan zo_X11_step zo_X11_inner u10 x2 r5 h
    exact ⟨by omega, by omega⟩
set_option maxHeartbeats 4000000 in
set_option maxRecDepth 100000 in
theorem w_X11_step_208 {p : Program} {l : Launch} {e : Env} {R : Room} {s : State} {m : MethodId} {args : Array Value} {below : List Frame} {meth : Method} {c : Code} {G : uG} {a0 : Nat} {u0 : UH} {z : (Nat × UH) ⊕ (Option Nat × UH)} (hC : uC p s m args meth c G RX11 cX11_step 5 (some (.object "SoftWheels$Doing"))) (hE : c.exceptionTable.toList = []) (hR : 10 ≤ R.frames ∧ 257 ≤ R.locals) (hRm : (uX1 z).1 - u0.1 ≤ R.cells ∧ (uX1 z).2.1 - u0.2.1 ≤ R.slots) (N : Nat) (ro_X11_plan : UH → Nat → Option ((Nat × UH) ⊕ (Option Nat × UH))) (ro_X11_step : UH → Nat → Option ((Nat × UH) ⊕ (Option Nat × UH))) (ro_X11_inner : UH → Nat → Option ((Nat × UH) ⊕ (Option Nat × UH))) (zo_X11_plan : ∀ (u : UH) (a0 : Nat) (z : (Nat × UH) ⊕ (Option Nat × UH)), ro_X11_plan u a0 = some z → u.1 ≤ (uX1 z).1 ∧ u.2.1 ≤ (uX1 z).2.1) (zo_X11_step : ∀ (u : UH) (a0 : Nat) (z : (Nat × UH) ⊕ (Option Nat × UH)), ro_X11_step u a0 = some z → u.1 ≤ (uX1 z).1 ∧ u.2.1 ≤ (uX1 z).2.1) (zo_X11_inner : ∀ (u : UH) (a0 : Nat) (z : (Nat × UH) ⊕ (Option Nat × UH)), ro_X11_inner u a0 = some z → u.1 ≤ (uX1 z).1 ∧ u.2.1 ≤ (uX1 z).2.1) {DF DL : Nat} (mo_X11_plan : ∀ (u : UH) (a0 : Nat) (r : Option Nat) (uf : UH), ro_X11_plan u a0 = some (.inr (r, uf)) → Met l yX11_plan (ws_ yX11_plan cX11_plan 2 (some (.object "java/util/List"))) ({ frames := DF, cells := (uf.1 - u.1), slots := (uf.2.1 - u.2.1), locals := DL }) (uPc G u [.ref a0]) (uQr G r uf) (uf.1 - u.1) (uf.2.1 - u.2.1) (uA G)) (mx_X11_plan : ∀ (u : UH) (a0 : Nat) (x : Nat) (uf : UH), ro_X11_plan u a0 = some (.inl (x, uf)) → uMX l yX11_plan (ws_ yX11_plan cX11_plan 2 (some (.object "java/util/List"))) ({ frames := DF, cells := uf.1 - u.1, slots := uf.2.1 - u.2.1, locals := DL }) G u [.ref a0] x uf (uf.1 - u.1) (uf.2.1 - u.2.1)) (mo_X11_step : ∀ (u : UH) (a0 : Nat) (r : Option Nat) (uf : UH), ro_X11_step u a0 = some (.inr (r, uf)) → Met l yX11_step (ws_ yX11_step cX11_step 5 (some (.object "SoftWheels$Doing"))) ({ frames := DF, cells := (uf.1 - u.1), slots := (uf.2.1 - u.2.1), locals := DL }) (uPc G u [.ref a0]) (uQr G r uf) (uf.1 - u.1) (uf.2.1 - u.2.1) (uA G)) (mx_X11_step : ∀ (u : UH) (a0 : Nat) (x : Nat) (uf : UH), ro_X11_step u a0 = some (.inl (x, uf)) → uMX l yX11_step (ws_ yX11_step cX11_step 5 (some (.object "SoftWheels$Doing"))) ({ frames := DF, cells := uf.1 - u.1, slots := uf.2.1 - u.2.1, locals := DL }) G u [.ref a0] x uf (uf.1 - u.1) (uf.2.1 - u.2.1)) (mo_X11_inner : ∀ (u : UH) (a0 : Nat) (r : Option Nat) (uf : UH), ro_X11_inner u a0 = some (.inr (r, uf)) → Met l yX11_inner (ws_ yX11_inner cX11_inner 2 (some (.object "java/util/List"))) ({ frames := DF, cells := (uf.1 - u.1), slots := (uf.2.1 - u.2.1), locals := DL }) (uPc G u [.ref a0]) (uQr G r uf) (uf.1 - u.1) (uf.2.1 - u.2.1) (uA G)) (mx_X11_inner : ∀ (u : UH) (a0 : Nat) (x : Nat) (uf : UH), ro_X11_inner u a0 = some (.inl (x, uf)) → uMX l yX11_inner (ws_ yX11_inner cX11_inner 2 (some (.object "java/util/List"))) ({ frames := DF, cells := uf.1 - u.1, slots := uf.2.1 - u.2.1, locals := DL }) G u [.ref a0] x uf (uf.1 - u.1) (uf.2.1 - u.2.1)) (hRr : DF + 1 ≤ R.frames ∧ 60 + DL ≤ R.locals) (u : UH) (x2 : Int32) (s0 : Option Nat) (s1 : Option Nat) (h : f_X11_step_208 N (ub G) (ug G) ro_X11_plan ro_X11_step ro_X11_inner a0 u x2 s0 s1 = some z) (hz0 : (u0.1 ≤ u.1 ∧ u0.2.1 ≤ u.2.1)) {H : Heap} {locs : List Loc} (hP : uP G u H) (hS : va_S (uA G) s.heap H locs) {ls : Array Slot} (hl : lv_has ls 5 [(0, va_rf (some a0)), (2, .int x2)]) : W p l e R s m args below meth c H locs (u.1 - u0.1) (u.2.1 - u0.2.1) (uMQr below G z args s ((uX1 z).1 - u0.1) ((uX1 z).2.1 - u0.2.1)) (F0 m 208 ls [va_rf s0, va_rf s1]) := by
  obtain ⟨⟨hx, hb, hml, hown, hts⟩, hKK⟩ := id hC
  have hzf := zz_X11_step_208 (G := G) (a0 := a0) N ro_X11_plan ro_X11_step ro_X11_inner zo_X11_plan zo_X11_step zo_X11_inner u x2 s0 s1 h
  unfold f_X11_step_208 at h
  obtain ⟨a1, ha1, hha1⟩ := mbind_n h
  subst ha1
  have h := hha1
  obtain ⟨c2, h⟩ := mif_n h
  obtain ⟨r5, u3, c4, h⟩ := ucall_n h
  have zu3 := zz_X4_groundOf N (ub G) (ug G) u a1 s0 r5 u3 c4
  refine u_calli (va_runV (As := [va_rf s0]) (rest := []) hC.1 (met_X4_groundOf l N G u a1 s0 r5 u3 c4) (cwV 1 hts (lw_V q1600 q890 q891 q104 q892) rfl rfl rfl (by decide +kernel) ⟨Nat.le_trans (Nat.le_of_ble_eq_true rfl) hR.1, Nat.le_trans (Nat.le_of_ble_eq_true rfl) hR.2⟩) ⟨uPc_blind, u_rcv hC hP c2 rfl, fun U hU hW => u_pre hC hP hS hU hW⟩ rfl rfl hl.1 rfl (lv_room (Nat.le_of_ble_eq_true rfl)) dX11_step_208 ⟨by omega, by omega⟩) hS (fun H locs hP hS => ?_)
  refine W.cs (cells' := u3.1 - u0.1) (slots' := u3.2.1 - u0.2.1) (by omega) (by omega) ?_
  refine lv_istore_n (i := 3) (lv' := [(3, .int r5), (0, va_rf (some a0)), (2, .int x2)]) hx hb dX11_step_211 rfl hl (by decide) rfl (fun ls hl => ?_)
  refine lv_iload_n hx hb dX11_step_212 rfl (lv_at hl 0 rfl) ?_
  refine lv_iconst (v := (-1)) hx hb dX11_step_213 (by decide) ?_
  refine lv_icmp_ne (tgt := 226) hx hb dX11_step_214 (by decide) (fun c6 => ?_) (fun c6 => ?_)
  · have h := mif_f c6 h
    refine u_aload_n (r := some a0) hx hb dX11_step_226 rfl (lv_at hl 1 rfl) ?_
    obtain ⟨o7, ho7, h⟩ := mbind_n h
    refine u_get hC hP (uGR_n ho7) rfl in_X11 (by decide) q1545 (fun _ h => h) dX11_step_227 ?_
    obtain ⟨a8, ha8, hha8⟩ := mbind_n h
    subst ha8
    have h := hha8
    obtain ⟨c9, h⟩ := mif_n h
    obtain ⟨u10, c11, h⟩ := mbind_n h
    have zu10 := zz_X5_next N (ub G) (ug G) u3 a8 u10 c11
    have hq := zz_X11_step_233 (G := G) (a0 := a0) N ro_X11_plan ro_X11_step ro_X11_inner zo_X11_plan zo_X11_step zo_X11_inner u10 x2 r5 h
    refine u_callv (va_runV (As := []) (rest := []) hC.1 (met_X5_next l N G u3 a8 u10 c11) (cwV 0 hts (lw_V q1580 q340 q341 q105 q342) rfl rfl rfl (by decide +kernel) ⟨Nat.le_trans (Nat.le_of_ble_eq_true rfl) hR.1, Nat.le_trans (Nat.le_of_ble_eq_true rfl) hR.2⟩) ⟨uPc_blind, u_rcv hC hP c9 rfl, fun U hU hW => u_pre hC hP hS hU hW⟩ rfl rfl hl.1 rfl (lv_room (Nat.le_of_ble_eq_true rfl)) dX11_step_230 ⟨by omega, by omega⟩) hS (fun H locs hP hS => ?_)
    refine W.cs (cells' := u10.1 - u0.1) (slots' := u10.2.1 - u0.2.1) (by omega) (by omega) ?_
    refine W.cs (cells' := u10.1 - u0.1) (slots' := u10.2.1 - u0.2.1) (by omega) (by omega) ?_
    exact w_X11_step_233 hC hE hR hRm N  ro_X11_plan ro_X11_step ro_X11_inner zo_X11_plan zo_X11_step zo_X11_inner mo_X11_plan mx_X11_plan mo_X11_step mx_X11_step mo_X11_inner mx_X11_inner hRr u10 x2 r5 h ⟨by omega, by omega⟩ hP hS (lv_sub hl [1, 2, 0] rfl)
  · have h := mif_t c6 h
    refine u_aload_n (r := some a0) hx hb dX11_step_217 rfl (lv_at hl 1 rfl) ?_
    obtain ⟨o12, ho12, h⟩ := mbind_n h
    refine u_get hC hP (uGR_n ho12) rfl in_X11 (by decide) q1545 (fun _ h => h) dX11_step_218 ?_
    refine lv_iconst (v := 2) hx hb dX11_step_221 (by decide) ?_
    obtain ⟨a13, ha13, hha13⟩ := mbind_n h
    subst ha13
    have h := hha13
    obtain ⟨c14, h⟩ := mif_n h
    obtain ⟨o17, u15, c16, h⟩ := ucall_n h
    have zu15 := zz_X5_fault N (ub G) (ug G) u3 a13 2 o17 u15 c16
    have hq := zz_X11_step_225 (G := G) (a0 := a0) N ro_X11_plan ro_X11_step ro_X11_inner zo_X11_plan zo_X11_step zo_X11_inner u15 o17 h
    refine u_callr (va_runV (As := [.int 2]) (rest := []) hC.1 (met_X5_fault l N G u3 a13 2 o17 u15 c16) (cwV 1 hts (lw_V q1579 q781 q782 q105 q783) rfl rfl rfl (by decide +kernel) ⟨Nat.le_trans (Nat.le_of_ble_eq_true rfl) hR.1, Nat.le_trans (Nat.le_of_ble_eq_true rfl) hR.2⟩) ⟨uPc_blind, u_rcv hC hP c14 rfl, fun U hU hW => u_pre hC hP hS hU hW⟩ rfl rfl hl.1 rfl (lv_room (Nat.le_of_ble_eq_true rfl)) dX11_step_222 ⟨by omega, by omega⟩) hS (fun H locs hP hS => ?_)
    refine W.cs (cells' := u15.1 - u0.1) (slots' := u15.2.1 - u0.2.1) (by omega) (by omega) ?_
    refine W.cs (cells' := u15.1 - u0.1) (slots' := u15.2.1 - u0.2.1) (by omega) (by omega) ?_
    exact w_X11_step_225 hC hE hR hRm N  ro_X11_plan ro_X11_step ro_X11_inner zo_X11_plan zo_X11_step zo_X11_inner mo_X11_plan mx_X11_plan mo_X11_step mx_X11_step mo_X11_inner mx_X11_inner hRr u15 o17 h ⟨by omega, by omega⟩ hP hS (lv_sub hl [] rfl)
def f_X11_step_197 (N b : Nat) (g : uEnv) (ro_X11_plan : UH → Nat → Option ((Nat × UH) ⊕ (Option Nat × UH))) (ro_X11_step : UH → Nat → Option ((Nat × UH) ⊕ (Option Nat × UH))) (ro_X11_inner : UH → Nat → Option ((Nat × UH) ⊕ (Option Nat × UH))) (a0 : Nat) (u : UH) (x2 : Int32) : Option ((Nat × UH) ⊕ (Option Nat × UH)) :=
    (uGR u a0 9 1).bind fun o1 =>
    (uGR u a0 9 0).bind fun o2 =>
    (o2).bind fun a3 =>
    if uIs u a3 4 = true then
    uxcall (f_X5_name N b g u a3) (fun a8 u9 =>
    some (.inl (a8, u9))) fun o7 u5 =>
    f_X11_step_208 N b g ro_X11_plan ro_X11_step ro_X11_inner a0 u5 x2 o7 o1
    else none
set_option maxHeartbeats 4000000 in
set_option maxRecDepth 100000 in
theorem zz_X11_step_197 {G : uG} {a0 : Nat} {z : (Nat × UH) ⊕ (Option Nat × UH)} (N : Nat) (ro_X11_plan : UH → Nat → Option ((Nat × UH) ⊕ (Option Nat × UH))) (ro_X11_step : UH → Nat → Option ((Nat × UH) ⊕ (Option Nat × UH))) (ro_X11_inner : UH → Nat → Option ((Nat × UH) ⊕ (Option Nat × UH))) (zo_X11_plan : ∀ (u : UH) (a0 : Nat) (z : (Nat × UH) ⊕ (Option Nat × UH)), ro_X11_plan u a0 = some z → u.1 ≤ (uX1 z).1 ∧ u.2.1 ≤ (uX1 z).2.1) (zo_X11_step : ∀ (u : UH) (a0 : Nat) (z : (Nat × UH) ⊕ (Option Nat × UH)), ro_X11_step u a0 = some z → u.1 ≤ (uX1 z).1 ∧ u.2.1 ≤ (uX1 z).2.1) (zo_X11_inner : ∀ (u : UH) (a0 : Nat) (z : (Nat × UH) ⊕ (Option Nat × UH)), ro_X11_inner u a0 = some z → u.1 ≤ (uX1 z).1 ∧ u.2.1 ≤ (uX1 z).2.1) (u : UH) (x2 : Int32) (h : f_X11_step_197 N (ub G) (ug G) ro_X11_plan ro_X11_step ro_X11_inner a0 u x2 = some z) : u.1 ≤ (uX1 z).1 ∧ u.2.1 ≤ (uX1 z).2.1 := by
  unfold f_X11_step_197 at h
  obtain ⟨o1, ho1, h⟩ := mbind_n h
  obtain ⟨o2, ho2, h⟩ := mbind_n h
  obtain ⟨a3, ha3, hha3⟩ := mbind_n h
  subst ha3
  have h := hha3
  obtain ⟨c4, h⟩ := mif_n h
  rcases uxcall_n h with ⟨a8, u9, c10, h⟩ | ⟨o7, u5, c6, h⟩
  · have zu9 : u.1 ≤ u9.1 ∧ u.2.1 ≤ u9.2.1 := zz_X5_name N (ub G) (ug G) u a3 (.inl (a8, u9)) c10
    have hz := Option.some.inj h
    subst hz
    exact (show u.1 ≤ u9.1 ∧ u.2.1 ≤ u9.2.1 from ⟨by omega, by omega⟩)
  · have zu5 : u.1 ≤ u5.1 ∧ u.2.1 ≤ u5.2.1 := zz_X5_name N (ub G) (ug G) u a3 (.inr (o7, u5)) c6
    have hq := zz_X11_step_208 (G := G) (a0 := a0) N  ro_X11_plan ro_X11_step ro_X11_inner zo_X11_plan zo_X11_step zo_X11_inner u5 x2 o7 o1 h
    exact ⟨by omega, by omega⟩
set_option maxHeartbeats 4000000 in
set_option maxRecDepth 100000 in
theorem w_X11_step_197 {p : Program} {l : Launch} {e : Env} {R : Room} {s : State} {m : MethodId} {args : Array Value} {below : List Frame} {meth : Method} {c : Code} {G : uG} {a0 : Nat} {u0 : UH} {z : (Nat × UH) ⊕ (Option Nat × UH)} (hC : uC p s m args meth c G RX11 cX11_step 5 (some (.object "SoftWheels$Doing"))) (hE : c.exceptionTable.toList = []) (hR : 10 ≤ R.frames ∧ 257 ≤ R.locals) (hRm : (uX1 z).1 - u0.1 ≤ R.cells ∧ (uX1 z).2.1 - u0.2.1 ≤ R.slots) (N : Nat) (ro_X11_plan : UH → Nat → Option ((Nat × UH) ⊕ (Option Nat × UH))) (ro_X11_step : UH → Nat → Option ((Nat × UH) ⊕ (Option Nat × UH))) (ro_X11_inner : UH → Nat → Option ((Nat × UH) ⊕ (Option Nat × UH))) (zo_X11_plan : ∀ (u : UH) (a0 : Nat) (z : (Nat × UH) ⊕ (Option Nat × UH)), ro_X11_plan u a0 = some z → u.1 ≤ (uX1 z).1 ∧ u.2.1 ≤ (uX1 z).2.1) (zo_X11_step : ∀ (u : UH) (a0 : Nat) (z : (Nat × UH) ⊕ (Option Nat × UH)), ro_X11_step u a0 = some z → u.1 ≤ (uX1 z).1 ∧ u.2.1 ≤ (uX1 z).2.1) (zo_X11_inner : ∀ (u : UH) (a0 : Nat) (z : (Nat × UH) ⊕ (Option Nat × UH)), ro_X11_inner u a0 = some z → u.1 ≤ (uX1 z).1 ∧ u.2.1 ≤ (uX1 z).2.1) {DF DL : Nat} (mo_X11_plan : ∀ (u : UH) (a0 : Nat) (r : Option Nat) (uf : UH), ro_X11_plan u a0 = some (.inr (r, uf)) → Met l yX11_plan (ws_ yX11_plan cX11_plan 2 (some (.object "java/util/List"))) ({ frames := DF, cells := (uf.1 - u.1), slots := (uf.2.1 - u.2.1), locals := DL }) (uPc G u [.ref a0]) (uQr G r uf) (uf.1 - u.1) (uf.2.1 - u.2.1) (uA G)) (mx_X11_plan : ∀ (u : UH) (a0 : Nat) (x : Nat) (uf : UH), ro_X11_plan u a0 = some (.inl (x, uf)) → uMX l yX11_plan (ws_ yX11_plan cX11_plan 2 (some (.object "java/util/List"))) ({ frames := DF, cells := uf.1 - u.1, slots := uf.2.1 - u.2.1, locals := DL }) G u [.ref a0] x uf (uf.1 - u.1) (uf.2.1 - u.2.1)) (mo_X11_step : ∀ (u : UH) (a0 : Nat) (r : Option Nat) (uf : UH), ro_X11_step u a0 = some (.inr (r, uf)) → Met l yX11_step (ws_ yX11_step cX11_step 5 (some (.object "SoftWheels$Doing"))) ({ frames := DF, cells := (uf.1 - u.1), slots := (uf.2.1 - u.2.1), locals := DL }) (uPc G u [.ref a0]) (uQr G r uf) (uf.1 - u.1) (uf.2.1 - u.2.1) (uA G)) (mx_X11_step : ∀ (u : UH) (a0 : Nat) (x : Nat) (uf : UH), ro_X11_step u a0 = some (.inl (x, uf)) → uMX l yX11_step (ws_ yX11_step cX11_step 5 (some (.object "SoftWheels$Doing"))) ({ frames := DF, cells := uf.1 - u.1, slots := uf.2.1 - u.2.1, locals := DL }) G u [.ref a0] x uf (uf.1 - u.1) (uf.2.1 - u.2.1)) (mo_X11_inner : ∀ (u : UH) (a0 : Nat) (r : Option Nat) (uf : UH), ro_X11_inner u a0 = some (.inr (r, uf)) → Met l yX11_inner (ws_ yX11_inner cX11_inner 2 (some (.object "java/util/List"))) ({ frames := DF, cells := (uf.1 - u.1), slots := (uf.2.1 - u.2.1), locals := DL }) (uPc G u [.ref a0]) (uQr G r uf) (uf.1 - u.1) (uf.2.1 - u.2.1) (uA G)) (mx_X11_inner : ∀ (u : UH) (a0 : Nat) (x : Nat) (uf : UH), ro_X11_inner u a0 = some (.inl (x, uf)) → uMX l yX11_inner (ws_ yX11_inner cX11_inner 2 (some (.object "java/util/List"))) ({ frames := DF, cells := uf.1 - u.1, slots := uf.2.1 - u.2.1, locals := DL }) G u [.ref a0] x uf (uf.1 - u.1) (uf.2.1 - u.2.1)) (hRr : DF + 1 ≤ R.frames ∧ 60 + DL ≤ R.locals) (u : UH) (x2 : Int32) (h : f_X11_step_197 N (ub G) (ug G) ro_X11_plan ro_X11_step ro_X11_inner a0 u x2 = some z) (hz0 : (u0.1 ≤ u.1 ∧ u0.2.1 ≤ u.2.1)) {H : Heap} {locs : List Loc} (hP : uP G u H) (hS : va_S (uA G) s.heap H locs) {ls : Array Slot} (hl : lv_has ls 5 [(0, va_rf (some a0)), (2, .int x2)]) : W p l e R s m args below meth c H locs (u.1 - u0.1) (u.2.1 - u0.2.1) (uMQr below G z args s ((uX1 z).1 - u0.1) ((uX1 z).2.1 - u0.2.1)) (F0 m 197 ls []) := by
  obtain ⟨⟨hx, hb, hml, hown, hts⟩, hKK⟩ := id hC
  have hzf := zz_X11_step_197 (G := G) (a0 := a0) N ro_X11_plan ro_X11_step ro_X11_inner zo_X11_plan zo_X11_step zo_X11_inner u x2 h
  unfold f_X11_step_197 at h
  refine u_aload_n (r := some a0) hx hb dX11_step_197 rfl (lv_at hl 0 rfl) ?_
  obtain ⟨o1, ho1, h⟩ := mbind_n h
  refine u_get hC hP (uGR_n ho1) rfl in_X11 (by decide) q1546 (fun _ h => h) dX11_step_198 ?_
  refine u_aload_n (r := some a0) hx hb dX11_step_201 rfl (lv_at hl 0 rfl) ?_
  obtain ⟨o2, ho2, h⟩ := mbind_n h
  refine u_get hC hP (uGR_n ho2) rfl in_X11 (by decide) q1545 (fun _ h => h) dX11_step_202 ?_
  obtain ⟨a3, ha3, hha3⟩ := mbind_n h
  subst ha3
  have h := hha3
  obtain ⟨c4, h⟩ := mif_n h
  rcases uxcall_n h with ⟨a8, u9, c10, h⟩ | ⟨o7, u5, c6, h⟩
  · have zu9 : u.1 ≤ u9.1 ∧ u.2.1 ≤ u9.2.1 := zz_X5_name N (ub G) (ug G) u a3 (.inl (a8, u9)) c10
    have hz := Option.some.inj h
    subst hz
    have hRm : u9.1 - u0.1 ≤ R.cells ∧ u9.2.1 - u0.2.1 ≤ R.slots := hRm
    exact u_callX hC (u_noE hE) (u_runVX (As := []) (rest := [va_rf o1]) hC.1 (mex_X5_name l N G u a3 a8 u9 c10) (cwV 0 hts (lw_V q1599 q701 q702 q105 q703) rfl rfl rfl (by decide +kernel) ⟨Nat.le_trans (Nat.le_of_ble_eq_true rfl) hR.1, Nat.le_trans (Nat.le_of_ble_eq_true rfl) hR.2⟩) ⟨uPc_blind, u_rcv hC hP c4 rfl, fun U hU hW => u_pre hC hP hS hU hW⟩ rfl rfl hl.1 rfl (lv_room (by simp only [List.map, u_cat]; exact Nat.le_of_ble_eq_true rfl)) dX11_step_205 ⟨by omega, by omega⟩) hS (by show _ + _ = u9.1 - u0.1; omega) (by show _ + _ = u9.2.1 - u0.2.1; omega)
  · have zu5 : u.1 ≤ u5.1 ∧ u.2.1 ≤ u5.2.1 := zz_X5_name N (ub G) (ug G) u a3 (.inr (o7, u5)) c6
    have hq := zz_X11_step_208 (G := G) (a0 := a0) N ro_X11_plan ro_X11_step ro_X11_inner zo_X11_plan zo_X11_step zo_X11_inner u5 x2 o7 o1 h
    refine u_callr (va_runV (As := []) (rest := [va_rf o1]) hC.1 (met_X5_name l N G u a3 o7 u5 c6) (cwV 0 hts (lw_V q1599 q701 q702 q105 q703) rfl rfl rfl (by decide +kernel) ⟨Nat.le_trans (Nat.le_of_ble_eq_true rfl) hR.1, Nat.le_trans (Nat.le_of_ble_eq_true rfl) hR.2⟩) ⟨uPc_blind, u_rcv hC hP c4 rfl, fun U hU hW => u_pre hC hP hS hU hW⟩ rfl rfl hl.1 rfl (lv_room (by simp only [List.map, u_cat]; exact Nat.le_of_ble_eq_true rfl)) dX11_step_205 ⟨by omega, by omega⟩) hS (fun H locs hP hS => ?_)
    refine W.cs (cells' := u5.1 - u0.1) (slots' := u5.2.1 - u0.2.1) (by omega) (by omega) ?_
    exact w_X11_step_208 hC hE hR hRm N  ro_X11_plan ro_X11_step ro_X11_inner zo_X11_plan zo_X11_step zo_X11_inner mo_X11_plan mx_X11_plan mo_X11_step mx_X11_step mo_X11_inner mx_X11_inner hRr u5 x2 o7 o1 h ⟨by omega, by omega⟩ hP hS (lv_sub hl [0, 1] rfl)
def f_X11_step_188 (N b : Nat) (g : uEnv) (ro_X11_plan : UH → Nat → Option ((Nat × UH) ⊕ (Option Nat × UH))) (ro_X11_step : UH → Nat → Option ((Nat × UH) ⊕ (Option Nat × UH))) (ro_X11_inner : UH → Nat → Option ((Nat × UH) ⊕ (Option Nat × UH))) (a0 : Nat) (u : UH) (x2 : Int32) : Option ((Nat × UH) ⊕ (Option Nat × UH)) :=
    (uGR u a0 9 0).bind fun o1 =>
    (o1).bind fun a2 =>
    if uIs u a2 4 = true then
    uxcallv (f_X5_needs N b g u a2 (some (g.2.1 28))) (fun a6 u7 =>
    some (.inl (a6, u7))) fun u4 =>
    f_X11_step_197 N b g ro_X11_plan ro_X11_step ro_X11_inner a0 u4 x2
    else none
set_option maxHeartbeats 4000000 in
set_option maxRecDepth 100000 in
theorem zz_X11_step_188 {G : uG} {a0 : Nat} {z : (Nat × UH) ⊕ (Option Nat × UH)} (N : Nat) (ro_X11_plan : UH → Nat → Option ((Nat × UH) ⊕ (Option Nat × UH))) (ro_X11_step : UH → Nat → Option ((Nat × UH) ⊕ (Option Nat × UH))) (ro_X11_inner : UH → Nat → Option ((Nat × UH) ⊕ (Option Nat × UH))) (zo_X11_plan : ∀ (u : UH) (a0 : Nat) (z : (Nat × UH) ⊕ (Option Nat × UH)), ro_X11_plan u a0 = some z → u.1 ≤ (uX1 z).1 ∧ u.2.1 ≤ (uX1 z).2.1) (zo_X11_step : ∀ (u : UH) (a0 : Nat) (z : (Nat × UH) ⊕ (Option Nat × UH)), ro_X11_step u a0 = some z → u.1 ≤ (uX1 z).1 ∧ u.2.1 ≤ (uX1 z).2.1) (zo_X11_inner : ∀ (u : UH) (a0 : Nat) (z : (Nat × UH) ⊕ (Option Nat × UH)), ro_X11_inner u a0 = some z → u.1 ≤ (uX1 z).1 ∧ u.2.1 ≤ (uX1 z).2.1) (u : UH) (x2 : Int32) (h : f_X11_step_188 N (ub G) (ug G) ro_X11_plan ro_X11_step ro_X11_inner a0 u x2 = some z) : u.1 ≤ (uX1 z).1 ∧ u.2.1 ≤ (uX1 z).2.1 := by
  unfold f_X11_step_188 at h
  obtain ⟨o1, ho1, h⟩ := mbind_n h
  obtain ⟨a2, ha2, hha2⟩ := mbind_n h
  subst ha2
  have h := hha2
  obtain ⟨c3, h⟩ := mif_n h
  rcases uxcallv_n h with ⟨a6, u7, c8, h⟩ | ⟨u4, c5, h⟩
  · have zu7 : u.1 ≤ u7.1 ∧ u.2.1 ≤ u7.2.1 := zz_X5_needs N (ub G) (ug G) u a2 (some ((ug G).2.1 28)) (.inl (a6, u7)) c8
    have hz := Option.some.inj h
    subst hz
    exact (show u.1 ≤ u7.1 ∧ u.2.1 ≤ u7.2.1 from ⟨by omega, by omega⟩)
  · have zu4 : u.1 ≤ u4.1 ∧ u.2.1 ≤ u4.2.1 := zz_X5_needs N (ub G) (ug G) u a2 (some ((ug G).2.1 28)) (.inr u4) c5
    have hq := zz_X11_step_197 (G := G) (a0 := a0) N  ro_X11_plan ro_X11_step ro_X11_inner zo_X11_plan zo_X11_step zo_X11_inner u4 x2 h
    exact ⟨by omega, by omega⟩
set_option maxHeartbeats 4000000 in
set_option maxRecDepth 100000 in
theorem w_X11_step_188 {p : Program} {l : Launch} {e : Env} {R : Room} {s : State} {m : MethodId} {args : Array Value} {below : List Frame} {meth : Method} {c : Code} {G : uG} {a0 : Nat} {u0 : UH} {z : (Nat × UH) ⊕ (Option Nat × UH)} (hC : uC p s m args meth c G RX11 cX11_step 5 (some (.object "SoftWheels$Doing"))) (hE : c.exceptionTable.toList = []) (hR : 10 ≤ R.frames ∧ 257 ≤ R.locals) (hRm : (uX1 z).1 - u0.1 ≤ R.cells ∧ (uX1 z).2.1 - u0.2.1 ≤ R.slots) (N : Nat) (ro_X11_plan : UH → Nat → Option ((Nat × UH) ⊕ (Option Nat × UH))) (ro_X11_step : UH → Nat → Option ((Nat × UH) ⊕ (Option Nat × UH))) (ro_X11_inner : UH → Nat → Option ((Nat × UH) ⊕ (Option Nat × UH))) (zo_X11_plan : ∀ (u : UH) (a0 : Nat) (z : (Nat × UH) ⊕ (Option Nat × UH)), ro_X11_plan u a0 = some z → u.1 ≤ (uX1 z).1 ∧ u.2.1 ≤ (uX1 z).2.1) (zo_X11_step : ∀ (u : UH) (a0 : Nat) (z : (Nat × UH) ⊕ (Option Nat × UH)), ro_X11_step u a0 = some z → u.1 ≤ (uX1 z).1 ∧ u.2.1 ≤ (uX1 z).2.1) (zo_X11_inner : ∀ (u : UH) (a0 : Nat) (z : (Nat × UH) ⊕ (Option Nat × UH)), ro_X11_inner u a0 = some z → u.1 ≤ (uX1 z).1 ∧ u.2.1 ≤ (uX1 z).2.1) {DF DL : Nat} (mo_X11_plan : ∀ (u : UH) (a0 : Nat) (r : Option Nat) (uf : UH), ro_X11_plan u a0 = some (.inr (r, uf)) → Met l yX11_plan (ws_ yX11_plan cX11_plan 2 (some (.object "java/util/List"))) ({ frames := DF, cells := (uf.1 - u.1), slots := (uf.2.1 - u.2.1), locals := DL }) (uPc G u [.ref a0]) (uQr G r uf) (uf.1 - u.1) (uf.2.1 - u.2.1) (uA G)) (mx_X11_plan : ∀ (u : UH) (a0 : Nat) (x : Nat) (uf : UH), ro_X11_plan u a0 = some (.inl (x, uf)) → uMX l yX11_plan (ws_ yX11_plan cX11_plan 2 (some (.object "java/util/List"))) ({ frames := DF, cells := uf.1 - u.1, slots := uf.2.1 - u.2.1, locals := DL }) G u [.ref a0] x uf (uf.1 - u.1) (uf.2.1 - u.2.1)) (mo_X11_step : ∀ (u : UH) (a0 : Nat) (r : Option Nat) (uf : UH), ro_X11_step u a0 = some (.inr (r, uf)) → Met l yX11_step (ws_ yX11_step cX11_step 5 (some (.object "SoftWheels$Doing"))) ({ frames := DF, cells := (uf.1 - u.1), slots := (uf.2.1 - u.2.1), locals := DL }) (uPc G u [.ref a0]) (uQr G r uf) (uf.1 - u.1) (uf.2.1 - u.2.1) (uA G)) (mx_X11_step : ∀ (u : UH) (a0 : Nat) (x : Nat) (uf : UH), ro_X11_step u a0 = some (.inl (x, uf)) → uMX l yX11_step (ws_ yX11_step cX11_step 5 (some (.object "SoftWheels$Doing"))) ({ frames := DF, cells := uf.1 - u.1, slots := uf.2.1 - u.2.1, locals := DL }) G u [.ref a0] x uf (uf.1 - u.1) (uf.2.1 - u.2.1)) (mo_X11_inner : ∀ (u : UH) (a0 : Nat) (r : Option Nat) (uf : UH), ro_X11_inner u a0 = some (.inr (r, uf)) → Met l yX11_inner (ws_ yX11_inner cX11_inner 2 (some (.object "java/util/List"))) ({ frames := DF, cells := (uf.1 - u.1), slots := (uf.2.1 - u.2.1), locals := DL }) (uPc G u [.ref a0]) (uQr G r uf) (uf.1 - u.1) (uf.2.1 - u.2.1) (uA G)) (mx_X11_inner : ∀ (u : UH) (a0 : Nat) (x : Nat) (uf : UH), ro_X11_inner u a0 = some (.inl (x, uf)) → uMX l yX11_inner (ws_ yX11_inner cX11_inner 2 (some (.object "java/util/List"))) ({ frames := DF, cells := uf.1 - u.1, slots := uf.2.1 - u.2.1, locals := DL }) G u [.ref a0] x uf (uf.1 - u.1) (uf.2.1 - u.2.1)) (hRr : DF + 1 ≤ R.frames ∧ 60 + DL ≤ R.locals) (u : UH) (x2 : Int32) (h : f_X11_step_188 N (ub G) (ug G) ro_X11_plan ro_X11_step ro_X11_inner a0 u x2 = some z) (hz0 : (u0.1 ≤ u.1 ∧ u0.2.1 ≤ u.2.1)) {H : Heap} {locs : List Loc} (hP : uP G u H) (hS : va_S (uA G) s.heap H locs) {ls : Array Slot} (hl : lv_has ls 5 [(0, va_rf (some a0)), (2, .int x2)]) : W p l e R s m args below meth c H locs (u.1 - u0.1) (u.2.1 - u0.2.1) (uMQr below G z args s ((uX1 z).1 - u0.1) ((uX1 z).2.1 - u0.2.1)) (F0 m 188 ls []) := by
  obtain ⟨⟨hx, hb, hml, hown, hts⟩, hKK⟩ := id hC
  have hzf := zz_X11_step_188 (G := G) (a0 := a0) N ro_X11_plan ro_X11_step ro_X11_inner zo_X11_plan zo_X11_step zo_X11_inner u x2 h
  unfold f_X11_step_188 at h
  refine u_aload_n (r := some a0) hx hb dX11_step_188 rfl (lv_at hl 0 rfl) ?_
  obtain ⟨o1, ho1, h⟩ := mbind_n h
  refine u_get hC hP (uGR_n ho1) rfl in_X11 (by decide) q1545 (fun _ h => h) dX11_step_189 ?_
  refine u_ldcS hC 28 rfl dX11_step_192 ?_
  obtain ⟨a2, ha2, hha2⟩ := mbind_n h
  subst ha2
  have h := hha2
  obtain ⟨c3, h⟩ := mif_n h
  rcases uxcallv_n h with ⟨a6, u7, c8, h⟩ | ⟨u4, c5, h⟩
  · have zu7 : u.1 ≤ u7.1 ∧ u.2.1 ≤ u7.2.1 := zz_X5_needs N (ub G) (ug G) u a2 (some ((ug G).2.1 28)) (.inl (a6, u7)) c8
    have hz := Option.some.inj h
    subst hz
    have hRm : u7.1 - u0.1 ≤ R.cells ∧ u7.2.1 - u0.2.1 ≤ R.slots := hRm
    exact u_callX hC (u_noE hE) (u_runVX (As := [va_rf (some ((ug G).2.1 28))]) (rest := []) hC.1 (mex_X5_needs l N G u a2 (some ((ug G).2.1 28)) a6 u7 c8) (cwV 1 hts (lw_V q1598 q914 q915 q105 q916) rfl rfl rfl (by decide +kernel) ⟨Nat.le_trans (Nat.le_of_ble_eq_true rfl) hR.1, Nat.le_trans (Nat.le_of_ble_eq_true rfl) hR.2⟩) ⟨uPc_blind, u_rcv hC hP c3 rfl, fun U hU hW => u_pre hC hP hS hU hW⟩ rfl rfl hl.1 rfl (lv_room (Nat.le_of_ble_eq_true rfl)) dX11_step_194 ⟨by omega, by omega⟩) hS (by show _ + _ = u7.1 - u0.1; omega) (by show _ + _ = u7.2.1 - u0.2.1; omega)
  · have zu4 : u.1 ≤ u4.1 ∧ u.2.1 ≤ u4.2.1 := zz_X5_needs N (ub G) (ug G) u a2 (some ((ug G).2.1 28)) (.inr u4) c5
    have hq := zz_X11_step_197 (G := G) (a0 := a0) N ro_X11_plan ro_X11_step ro_X11_inner zo_X11_plan zo_X11_step zo_X11_inner u4 x2 h
    refine u_callv (va_runV (As := [va_rf (some ((ug G).2.1 28))]) (rest := []) hC.1 (met_X5_needs l N G u a2 (some ((ug G).2.1 28)) u4 c5) (cwV 1 hts (lw_V q1598 q914 q915 q105 q916) rfl rfl rfl (by decide +kernel) ⟨Nat.le_trans (Nat.le_of_ble_eq_true rfl) hR.1, Nat.le_trans (Nat.le_of_ble_eq_true rfl) hR.2⟩) ⟨uPc_blind, u_rcv hC hP c3 rfl, fun U hU hW => u_pre hC hP hS hU hW⟩ rfl rfl hl.1 rfl (lv_room (Nat.le_of_ble_eq_true rfl)) dX11_step_194 ⟨by omega, by omega⟩) hS (fun H locs hP hS => ?_)
    refine W.cs (cells' := u4.1 - u0.1) (slots' := u4.2.1 - u0.2.1) (by omega) (by omega) ?_
    exact w_X11_step_197 hC hE hR hRm N  ro_X11_plan ro_X11_step ro_X11_inner zo_X11_plan zo_X11_step zo_X11_inner mo_X11_plan mx_X11_plan mo_X11_step mx_X11_step mo_X11_inner mx_X11_inner hRr u4 x2 h ⟨by omega, by omega⟩ hP hS (lv_sub hl [0, 1] rfl)
def f_X11_step_180 (N b : Nat) (g : uEnv) (ro_X11_plan : UH → Nat → Option ((Nat × UH) ⊕ (Option Nat × UH))) (ro_X11_step : UH → Nat → Option ((Nat × UH) ⊕ (Option Nat × UH))) (ro_X11_inner : UH → Nat → Option ((Nat × UH) ⊕ (Option Nat × UH))) (a0 : Nat) (u : UH) (s0 : Option Nat) : Option ((Nat × UH) ⊕ (Option Nat × UH)) :=
    (s0).bind fun a1 =>
    some (.inl (a1, u))
set_option maxHeartbeats 4000000 in
set_option maxRecDepth 100000 in
theorem zz_X11_step_180 {G : uG} {a0 : Nat} {z : (Nat × UH) ⊕ (Option Nat × UH)} (N : Nat) (ro_X11_plan : UH → Nat → Option ((Nat × UH) ⊕ (Option Nat × UH))) (ro_X11_step : UH → Nat → Option ((Nat × UH) ⊕ (Option Nat × UH))) (ro_X11_inner : UH → Nat → Option ((Nat × UH) ⊕ (Option Nat × UH))) (zo_X11_plan : ∀ (u : UH) (a0 : Nat) (z : (Nat × UH) ⊕ (Option Nat × UH)), ro_X11_plan u a0 = some z → u.1 ≤ (uX1 z).1 ∧ u.2.1 ≤ (uX1 z).2.1) (zo_X11_step : ∀ (u : UH) (a0 : Nat) (z : (Nat × UH) ⊕ (Option Nat × UH)), ro_X11_step u a0 = some z → u.1 ≤ (uX1 z).1 ∧ u.2.1 ≤ (uX1 z).2.1) (zo_X11_inner : ∀ (u : UH) (a0 : Nat) (z : (Nat × UH) ⊕ (Option Nat × UH)), ro_X11_inner u a0 = some z → u.1 ≤ (uX1 z).1 ∧ u.2.1 ≤ (uX1 z).2.1) (u : UH) (s0 : Option Nat) (h : f_X11_step_180 N (ub G) (ug G) ro_X11_plan ro_X11_step ro_X11_inner a0 u s0 = some z) : u.1 ≤ (uX1 z).1 ∧ u.2.1 ≤ (uX1 z).2.1 := by
  unfold f_X11_step_180 at h
  obtain ⟨a1, ha1, hha1⟩ := mbind_n h
  subst ha1
  have h := hha1
  have hz := Option.some.inj h
  subst hz
  exact (show u.1 ≤ u.1 ∧ u.2.1 ≤ u.2.1 from ⟨by omega, by omega⟩)
set_option maxHeartbeats 4000000 in
set_option maxRecDepth 100000 in
theorem w_X11_step_180 {p : Program} {l : Launch} {e : Env} {R : Room} {s : State} {m : MethodId} {args : Array Value} {below : List Frame} {meth : Method} {c : Code} {G : uG} {a0 : Nat} {u0 : UH} {z : (Nat × UH) ⊕ (Option Nat × UH)} (hC : uC p s m args meth c G RX11 cX11_step 5 (some (.object "SoftWheels$Doing"))) (hE : c.exceptionTable.toList = []) (hR : 10 ≤ R.frames ∧ 257 ≤ R.locals) (hRm : (uX1 z).1 - u0.1 ≤ R.cells ∧ (uX1 z).2.1 - u0.2.1 ≤ R.slots) (N : Nat) (ro_X11_plan : UH → Nat → Option ((Nat × UH) ⊕ (Option Nat × UH))) (ro_X11_step : UH → Nat → Option ((Nat × UH) ⊕ (Option Nat × UH))) (ro_X11_inner : UH → Nat → Option ((Nat × UH) ⊕ (Option Nat × UH))) (zo_X11_plan : ∀ (u : UH) (a0 : Nat) (z : (Nat × UH) ⊕ (Option Nat × UH)), ro_X11_plan u a0 = some z → u.1 ≤ (uX1 z).1 ∧ u.2.1 ≤ (uX1 z).2.1) (zo_X11_step : ∀ (u : UH) (a0 : Nat) (z : (Nat × UH) ⊕ (Option Nat × UH)), ro_X11_step u a0 = some z → u.1 ≤ (uX1 z).1 ∧ u.2.1 ≤ (uX1 z).2.1) (zo_X11_inner : ∀ (u : UH) (a0 : Nat) (z : (Nat × UH) ⊕ (Option Nat × UH)), ro_X11_inner u a0 = some z → u.1 ≤ (uX1 z).1 ∧ u.2.1 ≤ (uX1 z).2.1) {DF DL : Nat} (mo_X11_plan : ∀ (u : UH) (a0 : Nat) (r : Option Nat) (uf : UH), ro_X11_plan u a0 = some (.inr (r, uf)) → Met l yX11_plan (ws_ yX11_plan cX11_plan 2 (some (.object "java/util/List"))) ({ frames := DF, cells := (uf.1 - u.1), slots := (uf.2.1 - u.2.1), locals := DL }) (uPc G u [.ref a0]) (uQr G r uf) (uf.1 - u.1) (uf.2.1 - u.2.1) (uA G)) (mx_X11_plan : ∀ (u : UH) (a0 : Nat) (x : Nat) (uf : UH), ro_X11_plan u a0 = some (.inl (x, uf)) → uMX l yX11_plan (ws_ yX11_plan cX11_plan 2 (some (.object "java/util/List"))) ({ frames := DF, cells := uf.1 - u.1, slots := uf.2.1 - u.2.1, locals := DL }) G u [.ref a0] x uf (uf.1 - u.1) (uf.2.1 - u.2.1)) (mo_X11_step : ∀ (u : UH) (a0 : Nat) (r : Option Nat) (uf : UH), ro_X11_step u a0 = some (.inr (r, uf)) → Met l yX11_step (ws_ yX11_step cX11_step 5 (some (.object "SoftWheels$Doing"))) ({ frames := DF, cells := (uf.1 - u.1), slots := (uf.2.1 - u.2.1), locals := DL }) (uPc G u [.ref a0]) (uQr G r uf) (uf.1 - u.1) (uf.2.1 - u.2.1) (uA G)) (mx_X11_step : ∀ (u : UH) (a0 : Nat) (x : Nat) (uf : UH), ro_X11_step u a0 = some (.inl (x, uf)) → uMX l yX11_step (ws_ yX11_step cX11_step 5 (some (.object "SoftWheels$Doing"))) ({ frames := DF, cells := uf.1 - u.1, slots := uf.2.1 - u.2.1, locals := DL }) G u [.ref a0] x uf (uf.1 - u.1) (uf.2.1 - u.2.1)) (mo_X11_inner : ∀ (u : UH) (a0 : Nat) (r : Option Nat) (uf : UH), ro_X11_inner u a0 = some (.inr (r, uf)) → Met l yX11_inner (ws_ yX11_inner cX11_inner 2 (some (.object "java/util/List"))) ({ frames := DF, cells := (uf.1 - u.1), slots := (uf.2.1 - u.2.1), locals := DL }) (uPc G u [.ref a0]) (uQr G r uf) (uf.1 - u.1) (uf.2.1 - u.2.1) (uA G)) (mx_X11_inner : ∀ (u : UH) (a0 : Nat) (x : Nat) (uf : UH), ro_X11_inner u a0 = some (.inl (x, uf)) → uMX l yX11_inner (ws_ yX11_inner cX11_inner 2 (some (.object "java/util/List"))) ({ frames := DF, cells := uf.1 - u.1, slots := uf.2.1 - u.2.1, locals := DL }) G u [.ref a0] x uf (uf.1 - u.1) (uf.2.1 - u.2.1)) (hRr : DF + 1 ≤ R.frames ∧ 60 + DL ≤ R.locals) (u : UH) (s0 : Option Nat) (h : f_X11_step_180 N (ub G) (ug G) ro_X11_plan ro_X11_step ro_X11_inner a0 u s0 = some z) (hz0 : (u0.1 ≤ u.1 ∧ u0.2.1 ≤ u.2.1)) {H : Heap} {locs : List Loc} (hP : uP G u H) (hS : va_S (uA G) s.heap H locs) {ls : Array Slot} (hl : lv_has ls 5 []) : W p l e R s m args below meth c H locs (u.1 - u0.1) (u.2.1 - u0.2.1) (uMQr below G z args s ((uX1 z).1 - u0.1) ((uX1 z).2.1 - u0.2.1)) (F0 m 180 ls [va_rf s0]) := by
  obtain ⟨⟨hx, hb, hml, hown, hts⟩, hKK⟩ := id hC
  have hzf := zz_X11_step_180 (G := G) (a0 := a0) N ro_X11_plan ro_X11_step ro_X11_inner zo_X11_plan zo_X11_step zo_X11_inner u s0 h
  unfold f_X11_step_180 at h
  obtain ⟨a1, ha1, hha1⟩ := mbind_n h
  subst ha1
  have h := hha1
  have hz := Option.some.inj h
  subst hz
  exact u_athrow hC (u_noE hE) hP hS dX11_step_180
def f_X11_step_149 (N b : Nat) (g : uEnv) (ro_X11_plan : UH → Nat → Option ((Nat × UH) ⊕ (Option Nat × UH))) (ro_X11_step : UH → Nat → Option ((Nat × UH) ⊕ (Option Nat × UH))) (ro_X11_inner : UH → Nat → Option ((Nat × UH) ⊕ (Option Nat × UH))) (a0 : Nat) (u : UH) (s0 : Option Nat) : Option ((Nat × UH) ⊕ (Option Nat × UH)) :=
    (s0).bind fun a1 =>
    some (.inl (a1, u))
set_option maxHeartbeats 4000000 in
set_option maxRecDepth 100000 in
theorem zz_X11_step_149 {G : uG} {a0 : Nat} {z : (Nat × UH) ⊕ (Option Nat × UH)} (N : Nat) (ro_X11_plan : UH → Nat → Option ((Nat × UH) ⊕ (Option Nat × UH))) (ro_X11_step : UH → Nat → Option ((Nat × UH) ⊕ (Option Nat × UH))) (ro_X11_inner : UH → Nat → Option ((Nat × UH) ⊕ (Option Nat × UH))) (zo_X11_plan : ∀ (u : UH) (a0 : Nat) (z : (Nat × UH) ⊕ (Option Nat × UH)), ro_X11_plan u a0 = some z → u.1 ≤ (uX1 z).1 ∧ u.2.1 ≤ (uX1 z).2.1) (zo_X11_step : ∀ (u : UH) (a0 : Nat) (z : (Nat × UH) ⊕ (Option Nat × UH)), ro_X11_step u a0 = some z → u.1 ≤ (uX1 z).1 ∧ u.2.1 ≤ (uX1 z).2.1) (zo_X11_inner : ∀ (u : UH) (a0 : Nat) (z : (Nat × UH) ⊕ (Option Nat × UH)), ro_X11_inner u a0 = some z → u.1 ≤ (uX1 z).1 ∧ u.2.1 ≤ (uX1 z).2.1) (u : UH) (s0 : Option Nat) (h : f_X11_step_149 N (ub G) (ug G) ro_X11_plan ro_X11_step ro_X11_inner a0 u s0 = some z) : u.1 ≤ (uX1 z).1 ∧ u.2.1 ≤ (uX1 z).2.1 := by
  unfold f_X11_step_149 at h
  obtain ⟨a1, ha1, hha1⟩ := mbind_n h
  subst ha1
  have h := hha1
  have hz := Option.some.inj h
  subst hz
  exact (show u.1 ≤ u.1 ∧ u.2.1 ≤ u.2.1 from ⟨by omega, by omega⟩)
set_option maxHeartbeats 4000000 in
set_option maxRecDepth 100000 in
theorem w_X11_step_149 {p : Program} {l : Launch} {e : Env} {R : Room} {s : State} {m : MethodId} {args : Array Value} {below : List Frame} {meth : Method} {c : Code} {G : uG} {a0 : Nat} {u0 : UH} {z : (Nat × UH) ⊕ (Option Nat × UH)} (hC : uC p s m args meth c G RX11 cX11_step 5 (some (.object "SoftWheels$Doing"))) (hE : c.exceptionTable.toList = []) (hR : 10 ≤ R.frames ∧ 257 ≤ R.locals) (hRm : (uX1 z).1 - u0.1 ≤ R.cells ∧ (uX1 z).2.1 - u0.2.1 ≤ R.slots) (N : Nat) (ro_X11_plan : UH → Nat → Option ((Nat × UH) ⊕ (Option Nat × UH))) (ro_X11_step : UH → Nat → Option ((Nat × UH) ⊕ (Option Nat × UH))) (ro_X11_inner : UH → Nat → Option ((Nat × UH) ⊕ (Option Nat × UH))) (zo_X11_plan : ∀ (u : UH) (a0 : Nat) (z : (Nat × UH) ⊕ (Option Nat × UH)), ro_X11_plan u a0 = some z → u.1 ≤ (uX1 z).1 ∧ u.2.1 ≤ (uX1 z).2.1) (zo_X11_step : ∀ (u : UH) (a0 : Nat) (z : (Nat × UH) ⊕ (Option Nat × UH)), ro_X11_step u a0 = some z → u.1 ≤ (uX1 z).1 ∧ u.2.1 ≤ (uX1 z).2.1) (zo_X11_inner : ∀ (u : UH) (a0 : Nat) (z : (Nat × UH) ⊕ (Option Nat × UH)), ro_X11_inner u a0 = some z → u.1 ≤ (uX1 z).1 ∧ u.2.1 ≤ (uX1 z).2.1) {DF DL : Nat} (mo_X11_plan : ∀ (u : UH) (a0 : Nat) (r : Option Nat) (uf : UH), ro_X11_plan u a0 = some (.inr (r, uf)) → Met l yX11_plan (ws_ yX11_plan cX11_plan 2 (some (.object "java/util/List"))) ({ frames := DF, cells := (uf.1 - u.1), slots := (uf.2.1 - u.2.1), locals := DL }) (uPc G u [.ref a0]) (uQr G r uf) (uf.1 - u.1) (uf.2.1 - u.2.1) (uA G)) (mx_X11_plan : ∀ (u : UH) (a0 : Nat) (x : Nat) (uf : UH), ro_X11_plan u a0 = some (.inl (x, uf)) → uMX l yX11_plan (ws_ yX11_plan cX11_plan 2 (some (.object "java/util/List"))) ({ frames := DF, cells := uf.1 - u.1, slots := uf.2.1 - u.2.1, locals := DL }) G u [.ref a0] x uf (uf.1 - u.1) (uf.2.1 - u.2.1)) (mo_X11_step : ∀ (u : UH) (a0 : Nat) (r : Option Nat) (uf : UH), ro_X11_step u a0 = some (.inr (r, uf)) → Met l yX11_step (ws_ yX11_step cX11_step 5 (some (.object "SoftWheels$Doing"))) ({ frames := DF, cells := (uf.1 - u.1), slots := (uf.2.1 - u.2.1), locals := DL }) (uPc G u [.ref a0]) (uQr G r uf) (uf.1 - u.1) (uf.2.1 - u.2.1) (uA G)) (mx_X11_step : ∀ (u : UH) (a0 : Nat) (x : Nat) (uf : UH), ro_X11_step u a0 = some (.inl (x, uf)) → uMX l yX11_step (ws_ yX11_step cX11_step 5 (some (.object "SoftWheels$Doing"))) ({ frames := DF, cells := uf.1 - u.1, slots := uf.2.1 - u.2.1, locals := DL }) G u [.ref a0] x uf (uf.1 - u.1) (uf.2.1 - u.2.1)) (mo_X11_inner : ∀ (u : UH) (a0 : Nat) (r : Option Nat) (uf : UH), ro_X11_inner u a0 = some (.inr (r, uf)) → Met l yX11_inner (ws_ yX11_inner cX11_inner 2 (some (.object "java/util/List"))) ({ frames := DF, cells := (uf.1 - u.1), slots := (uf.2.1 - u.2.1), locals := DL }) (uPc G u [.ref a0]) (uQr G r uf) (uf.1 - u.1) (uf.2.1 - u.2.1) (uA G)) (mx_X11_inner : ∀ (u : UH) (a0 : Nat) (x : Nat) (uf : UH), ro_X11_inner u a0 = some (.inl (x, uf)) → uMX l yX11_inner (ws_ yX11_inner cX11_inner 2 (some (.object "java/util/List"))) ({ frames := DF, cells := uf.1 - u.1, slots := uf.2.1 - u.2.1, locals := DL }) G u [.ref a0] x uf (uf.1 - u.1) (uf.2.1 - u.2.1)) (hRr : DF + 1 ≤ R.frames ∧ 60 + DL ≤ R.locals) (u : UH) (s0 : Option Nat) (h : f_X11_step_149 N (ub G) (ug G) ro_X11_plan ro_X11_step ro_X11_inner a0 u s0 = some z) (hz0 : (u0.1 ≤ u.1 ∧ u0.2.1 ≤ u.2.1)) {H : Heap} {locs : List Loc} (hP : uP G u H) (hS : va_S (uA G) s.heap H locs) {ls : Array Slot} (hl : lv_has ls 5 []) : W p l e R s m args below meth c H locs (u.1 - u0.1) (u.2.1 - u0.2.1) (uMQr below G z args s ((uX1 z).1 - u0.1) ((uX1 z).2.1 - u0.2.1)) (F0 m 149 ls [va_rf s0]) := by
  obtain ⟨⟨hx, hb, hml, hown, hts⟩, hKK⟩ := id hC
  have hzf := zz_X11_step_149 (G := G) (a0 := a0) N ro_X11_plan ro_X11_step ro_X11_inner zo_X11_plan zo_X11_step zo_X11_inner u s0 h
  unfold f_X11_step_149 at h
  obtain ⟨a1, ha1, hha1⟩ := mbind_n h
  subst ha1
  have h := hha1
  have hz := Option.some.inj h
  subst hz
  exact u_athrow hC (u_noE hE) hP hS dX11_step_149
def f_X11_step_124 (N b : Nat) (g : uEnv) (ro_X11_plan : UH → Nat → Option ((Nat × UH) ⊕ (Option Nat × UH))) (ro_X11_step : UH → Nat → Option ((Nat × UH) ⊕ (Option Nat × UH))) (ro_X11_inner : UH → Nat → Option ((Nat × UH) ⊕ (Option Nat × UH))) (a0 : Nat) (u : UH) (s0 : Int32) (s1 : Option Nat) (s2 : Option Nat) (s3 : Option Nat) : Option ((Nat × UH) ⊕ (Option Nat × UH)) :=
    (s2).bind fun a1 =>
    (f_X12_init N b g u a1 s1 s0).bind fun u2 =>
    some (.inr (s3, u2))
set_option maxHeartbeats 4000000 in
set_option maxRecDepth 100000 in
theorem zz_X11_step_124 {G : uG} {a0 : Nat} {z : (Nat × UH) ⊕ (Option Nat × UH)} (N : Nat) (ro_X11_plan : UH → Nat → Option ((Nat × UH) ⊕ (Option Nat × UH))) (ro_X11_step : UH → Nat → Option ((Nat × UH) ⊕ (Option Nat × UH))) (ro_X11_inner : UH → Nat → Option ((Nat × UH) ⊕ (Option Nat × UH))) (zo_X11_plan : ∀ (u : UH) (a0 : Nat) (z : (Nat × UH) ⊕ (Option Nat × UH)), ro_X11_plan u a0 = some z → u.1 ≤ (uX1 z).1 ∧ u.2.1 ≤ (uX1 z).2.1) (zo_X11_step : ∀ (u : UH) (a0 : Nat) (z : (Nat × UH) ⊕ (Option Nat × UH)), ro_X11_step u a0 = some z → u.1 ≤ (uX1 z).1 ∧ u.2.1 ≤ (uX1 z).2.1) (zo_X11_inner : ∀ (u : UH) (a0 : Nat) (z : (Nat × UH) ⊕ (Option Nat × UH)), ro_X11_inner u a0 = some z → u.1 ≤ (uX1 z).1 ∧ u.2.1 ≤ (uX1 z).2.1) (u : UH) (s0 : Int32) (s1 : Option Nat) (s2 : Option Nat) (s3 : Option Nat) (h : f_X11_step_124 N (ub G) (ug G) ro_X11_plan ro_X11_step ro_X11_inner a0 u s0 s1 s2 s3 = some z) : u.1 ≤ (uX1 z).1 ∧ u.2.1 ≤ (uX1 z).2.1 := by
  unfold f_X11_step_124 at h
  obtain ⟨a1, ha1, hha1⟩ := mbind_n h
  subst ha1
  have h := hha1
  obtain ⟨u2, c3, h⟩ := mbind_n h
  have zu2 := zz_X12_init N (ub G) (ug G) u a1 s1 s0 u2 c3
  have hz := Option.some.inj h
  subst hz
  exact (show u.1 ≤ u2.1 ∧ u.2.1 ≤ u2.2.1 from ⟨by omega, by omega⟩)
set_option maxHeartbeats 4000000 in
set_option maxRecDepth 100000 in
theorem w_X11_step_124 {p : Program} {l : Launch} {e : Env} {R : Room} {s : State} {m : MethodId} {args : Array Value} {below : List Frame} {meth : Method} {c : Code} {G : uG} {a0 : Nat} {u0 : UH} {z : (Nat × UH) ⊕ (Option Nat × UH)} (hC : uC p s m args meth c G RX11 cX11_step 5 (some (.object "SoftWheels$Doing"))) (hE : c.exceptionTable.toList = []) (hR : 10 ≤ R.frames ∧ 257 ≤ R.locals) (hRm : (uX1 z).1 - u0.1 ≤ R.cells ∧ (uX1 z).2.1 - u0.2.1 ≤ R.slots) (N : Nat) (ro_X11_plan : UH → Nat → Option ((Nat × UH) ⊕ (Option Nat × UH))) (ro_X11_step : UH → Nat → Option ((Nat × UH) ⊕ (Option Nat × UH))) (ro_X11_inner : UH → Nat → Option ((Nat × UH) ⊕ (Option Nat × UH))) (zo_X11_plan : ∀ (u : UH) (a0 : Nat) (z : (Nat × UH) ⊕ (Option Nat × UH)), ro_X11_plan u a0 = some z → u.1 ≤ (uX1 z).1 ∧ u.2.1 ≤ (uX1 z).2.1) (zo_X11_step : ∀ (u : UH) (a0 : Nat) (z : (Nat × UH) ⊕ (Option Nat × UH)), ro_X11_step u a0 = some z → u.1 ≤ (uX1 z).1 ∧ u.2.1 ≤ (uX1 z).2.1) (zo_X11_inner : ∀ (u : UH) (a0 : Nat) (z : (Nat × UH) ⊕ (Option Nat × UH)), ro_X11_inner u a0 = some z → u.1 ≤ (uX1 z).1 ∧ u.2.1 ≤ (uX1 z).2.1) {DF DL : Nat} (mo_X11_plan : ∀ (u : UH) (a0 : Nat) (r : Option Nat) (uf : UH), ro_X11_plan u a0 = some (.inr (r, uf)) → Met l yX11_plan (ws_ yX11_plan cX11_plan 2 (some (.object "java/util/List"))) ({ frames := DF, cells := (uf.1 - u.1), slots := (uf.2.1 - u.2.1), locals := DL }) (uPc G u [.ref a0]) (uQr G r uf) (uf.1 - u.1) (uf.2.1 - u.2.1) (uA G)) (mx_X11_plan : ∀ (u : UH) (a0 : Nat) (x : Nat) (uf : UH), ro_X11_plan u a0 = some (.inl (x, uf)) → uMX l yX11_plan (ws_ yX11_plan cX11_plan 2 (some (.object "java/util/List"))) ({ frames := DF, cells := uf.1 - u.1, slots := uf.2.1 - u.2.1, locals := DL }) G u [.ref a0] x uf (uf.1 - u.1) (uf.2.1 - u.2.1)) (mo_X11_step : ∀ (u : UH) (a0 : Nat) (r : Option Nat) (uf : UH), ro_X11_step u a0 = some (.inr (r, uf)) → Met l yX11_step (ws_ yX11_step cX11_step 5 (some (.object "SoftWheels$Doing"))) ({ frames := DF, cells := (uf.1 - u.1), slots := (uf.2.1 - u.2.1), locals := DL }) (uPc G u [.ref a0]) (uQr G r uf) (uf.1 - u.1) (uf.2.1 - u.2.1) (uA G)) (mx_X11_step : ∀ (u : UH) (a0 : Nat) (x : Nat) (uf : UH), ro_X11_step u a0 = some (.inl (x, uf)) → uMX l yX11_step (ws_ yX11_step cX11_step 5 (some (.object "SoftWheels$Doing"))) ({ frames := DF, cells := uf.1 - u.1, slots := uf.2.1 - u.2.1, locals := DL }) G u [.ref a0] x uf (uf.1 - u.1) (uf.2.1 - u.2.1)) (mo_X11_inner : ∀ (u : UH) (a0 : Nat) (r : Option Nat) (uf : UH), ro_X11_inner u a0 = some (.inr (r, uf)) → Met l yX11_inner (ws_ yX11_inner cX11_inner 2 (some (.object "java/util/List"))) ({ frames := DF, cells := (uf.1 - u.1), slots := (uf.2.1 - u.2.1), locals := DL }) (uPc G u [.ref a0]) (uQr G r uf) (uf.1 - u.1) (uf.2.1 - u.2.1) (uA G)) (mx_X11_inner : ∀ (u : UH) (a0 : Nat) (x : Nat) (uf : UH), ro_X11_inner u a0 = some (.inl (x, uf)) → uMX l yX11_inner (ws_ yX11_inner cX11_inner 2 (some (.object "java/util/List"))) ({ frames := DF, cells := uf.1 - u.1, slots := uf.2.1 - u.2.1, locals := DL }) G u [.ref a0] x uf (uf.1 - u.1) (uf.2.1 - u.2.1)) (hRr : DF + 1 ≤ R.frames ∧ 60 + DL ≤ R.locals) (u : UH) (s0 : Int32) (s1 : Option Nat) (s2 : Option Nat) (s3 : Option Nat) (h : f_X11_step_124 N (ub G) (ug G) ro_X11_plan ro_X11_step ro_X11_inner a0 u s0 s1 s2 s3 = some z) (hz0 : (u0.1 ≤ u.1 ∧ u0.2.1 ≤ u.2.1)) {H : Heap} {locs : List Loc} (hP : uP G u H) (hS : va_S (uA G) s.heap H locs) {ls : Array Slot} (hl : lv_has ls 5 []) : W p l e R s m args below meth c H locs (u.1 - u0.1) (u.2.1 - u0.2.1) (uMQr below G z args s ((uX1 z).1 - u0.1) ((uX1 z).2.1 - u0.2.1)) (F0 m 124 ls [.int s0, va_rf s1, va_rf s2, va_rf s3]) := by
  obtain ⟨⟨hx, hb, hml, hown, hts⟩, hKK⟩ := id hC
  have hzf := zz_X11_step_124 (G := G) (a0 := a0) N ro_X11_plan ro_X11_step ro_X11_inner zo_X11_plan zo_X11_step zo_X11_inner u s0 s1 s2 s3 h
  unfold f_X11_step_124 at h
  obtain ⟨a1, ha1, hha1⟩ := mbind_n h
  subst ha1
  have h := hha1
  obtain ⟨u2, c3, h⟩ := mbind_n h
  have zu2 := zz_X12_init N (ub G) (ug G) u a1 s1 s0 u2 c3
  refine u_callv (va_runIN (As := [va_rf s1, .int s0]) (rest := [va_rf s3]) hC.1 (met_X12_init l N G u a1 s1 s0 u2 c3) ⟨va_cnB 2 hts (lw_meth q1587) rfl rfl rfl (hC.2.1.2.1 _ q1585 rfl) (hts _ q129) (by decide +kernel) ⟨Nat.le_trans (Nat.le_of_ble_eq_true rfl) hR.1, Nat.le_trans (Nat.le_of_ble_eq_true rfl) hR.2⟩, rfl, hts _ q1586⟩ ⟨uPc_blind, fun U hU hW => u_pre hC hP hS hU hW⟩ rfl rfl hl.1 rfl (lv_room (by simp only [List.map, u_cat]; exact Nat.le_of_ble_eq_true rfl)) dX11_step_124 ⟨by omega, by omega⟩) hS (fun H locs hP hS => ?_)
  refine W.cs (cells' := u2.1 - u0.1) (slots' := u2.2.1 - u0.2.1) (by omega) (by omega) ?_
  have hz := Option.some.inj h
  subst hz
  exact u_aret hC (Or.inl ⟨_, rfl⟩) hP hS dX11_step_127
def f_X11_step_120 (N b : Nat) (g : uEnv) (ro_X11_plan : UH → Nat → Option ((Nat × UH) ⊕ (Option Nat × UH))) (ro_X11_step : UH → Nat → Option ((Nat × UH) ⊕ (Option Nat × UH))) (ro_X11_inner : UH → Nat → Option ((Nat × UH) ⊕ (Option Nat × UH))) (a0 : Nat) (u : UH) (s0 : Int32) (s1 : Option Nat) (s2 : Option Nat) (s3 : Option Nat) : Option ((Nat × UH) ⊕ (Option Nat × UH)) :=
    f_X11_step_124 N b g ro_X11_plan ro_X11_step ro_X11_inner a0 u s0 s1 s2 s3
set_option maxHeartbeats 4000000 in
set_option maxRecDepth 100000 in
theorem zz_X11_step_120 {G : uG} {a0 : Nat} {z : (Nat × UH) ⊕ (Option Nat × UH)} (N : Nat) (ro_X11_plan : UH → Nat → Option ((Nat × UH) ⊕ (Option Nat × UH))) (ro_X11_step : UH → Nat → Option ((Nat × UH) ⊕ (Option Nat × UH))) (ro_X11_inner : UH → Nat → Option ((Nat × UH) ⊕ (Option Nat × UH))) (zo_X11_plan : ∀ (u : UH) (a0 : Nat) (z : (Nat × UH) ⊕ (Option Nat × UH)), ro_X11_plan u a0 = some z → u.1 ≤ (uX1 z).1 ∧ u.2.1 ≤ (uX1 z).2.1) (zo_X11_step : ∀ (u : UH) (a0 : Nat) (z : (Nat × UH) ⊕ (Option Nat × UH)), ro_X11_step u a0 = some z → u.1 ≤ (uX1 z).1 ∧ u.2.1 ≤ (uX1 z).2.1) (zo_X11_inner : ∀ (u : UH) (a0 : Nat) (z : (Nat × UH) ⊕ (Option Nat × UH)), ro_X11_inner u a0 = some z → u.1 ≤ (uX1 z).1 ∧ u.2.1 ≤ (uX1 z).2.1) (u : UH) (s0 : Int32) (s1 : Option Nat) (s2 : Option Nat) (s3 : Option Nat) (h : f_X11_step_120 N (ub G) (ug G) ro_X11_plan ro_X11_step ro_X11_inner a0 u s0 s1 s2 s3 = some z) : u.1 ≤ (uX1 z).1 ∧ u.2.1 ≤ (uX1 z).2.1 := by
  unfold f_X11_step_120 at h
  have hq := zz_X11_step_124 (G := G) (a0 := a0) N  ro_X11_plan ro_X11_step ro_X11_inner zo_X11_plan zo_X11_step zo_X11_inner u s0 s1 s2 s3 h
  exact ⟨by omega, by omega⟩
set_option maxHeartbeats 4000000 in
set_option maxRecDepth 100000 in
theorem w_X11_step_120 {p : Program} {l : Launch} {e : Env} {R : Room} {s : State} {m : MethodId} {args : Array Value} {below : List Frame} {meth : Method} {c : Code} {G : uG} {a0 : Nat} {u0 : UH} {z : (Nat × UH) ⊕ (Option Nat × UH)} (hC : uC p s m args meth c G RX11 cX11_step 5 (some (.object "SoftWheels$Doing"))) (hE : c.exceptionTable.toList = []) (hR : 10 ≤ R.frames ∧ 257 ≤ R.locals) (hRm : (uX1 z).1 - u0.1 ≤ R.cells ∧ (uX1 z).2.1 - u0.2.1 ≤ R.slots) (N : Nat) (ro_X11_plan : UH → Nat → Option ((Nat × UH) ⊕ (Option Nat × UH))) (ro_X11_step : UH → Nat → Option ((Nat × UH) ⊕ (Option Nat × UH))) (ro_X11_inner : UH → Nat → Option ((Nat × UH) ⊕ (Option Nat × UH))) (zo_X11_plan : ∀ (u : UH) (a0 : Nat) (z : (Nat × UH) ⊕ (Option Nat × UH)), ro_X11_plan u a0 = some z → u.1 ≤ (uX1 z).1 ∧ u.2.1 ≤ (uX1 z).2.1) (zo_X11_step : ∀ (u : UH) (a0 : Nat) (z : (Nat × UH) ⊕ (Option Nat × UH)), ro_X11_step u a0 = some z → u.1 ≤ (uX1 z).1 ∧ u.2.1 ≤ (uX1 z).2.1) (zo_X11_inner : ∀ (u : UH) (a0 : Nat) (z : (Nat × UH) ⊕ (Option Nat × UH)), ro_X11_inner u a0 = some z → u.1 ≤ (uX1 z).1 ∧ u.2.1 ≤ (uX1 z).2.1) {DF DL : Nat} (mo_X11_plan : ∀ (u : UH) (a0 : Nat) (r : Option Nat) (uf : UH), ro_X11_plan u a0 = some (.inr (r, uf)) → Met l yX11_plan (ws_ yX11_plan cX11_plan 2 (some (.object "java/util/List"))) ({ frames := DF, cells := (uf.1 - u.1), slots := (uf.2.1 - u.2.1), locals := DL }) (uPc G u [.ref a0]) (uQr G r uf) (uf.1 - u.1) (uf.2.1 - u.2.1) (uA G)) (mx_X11_plan : ∀ (u : UH) (a0 : Nat) (x : Nat) (uf : UH), ro_X11_plan u a0 = some (.inl (x, uf)) → uMX l yX11_plan (ws_ yX11_plan cX11_plan 2 (some (.object "java/util/List"))) ({ frames := DF, cells := uf.1 - u.1, slots := uf.2.1 - u.2.1, locals := DL }) G u [.ref a0] x uf (uf.1 - u.1) (uf.2.1 - u.2.1)) (mo_X11_step : ∀ (u : UH) (a0 : Nat) (r : Option Nat) (uf : UH), ro_X11_step u a0 = some (.inr (r, uf)) → Met l yX11_step (ws_ yX11_step cX11_step 5 (some (.object "SoftWheels$Doing"))) ({ frames := DF, cells := (uf.1 - u.1), slots := (uf.2.1 - u.2.1), locals := DL }) (uPc G u [.ref a0]) (uQr G r uf) (uf.1 - u.1) (uf.2.1 - u.2.1) (uA G)) (mx_X11_step : ∀ (u : UH) (a0 : Nat) (x : Nat) (uf : UH), ro_X11_step u a0 = some (.inl (x, uf)) → uMX l yX11_step (ws_ yX11_step cX11_step 5 (some (.object "SoftWheels$Doing"))) ({ frames := DF, cells := uf.1 - u.1, slots := uf.2.1 - u.2.1, locals := DL }) G u [.ref a0] x uf (uf.1 - u.1) (uf.2.1 - u.2.1)) (mo_X11_inner : ∀ (u : UH) (a0 : Nat) (r : Option Nat) (uf : UH), ro_X11_inner u a0 = some (.inr (r, uf)) → Met l yX11_inner (ws_ yX11_inner cX11_inner 2 (some (.object "java/util/List"))) ({ frames := DF, cells := (uf.1 - u.1), slots := (uf.2.1 - u.2.1), locals := DL }) (uPc G u [.ref a0]) (uQr G r uf) (uf.1 - u.1) (uf.2.1 - u.2.1) (uA G)) (mx_X11_inner : ∀ (u : UH) (a0 : Nat) (x : Nat) (uf : UH), ro_X11_inner u a0 = some (.inl (x, uf)) → uMX l yX11_inner (ws_ yX11_inner cX11_inner 2 (some (.object "java/util/List"))) ({ frames := DF, cells := uf.1 - u.1, slots := uf.2.1 - u.2.1, locals := DL }) G u [.ref a0] x uf (uf.1 - u.1) (uf.2.1 - u.2.1)) (hRr : DF + 1 ≤ R.frames ∧ 60 + DL ≤ R.locals) (u : UH) (s0 : Int32) (s1 : Option Nat) (s2 : Option Nat) (s3 : Option Nat) (h : f_X11_step_120 N (ub G) (ug G) ro_X11_plan ro_X11_step ro_X11_inner a0 u s0 s1 s2 s3 = some z) (hz0 : (u0.1 ≤ u.1 ∧ u0.2.1 ≤ u.2.1)) {H : Heap} {locs : List Loc} (hP : uP G u H) (hS : va_S (uA G) s.heap H locs) {ls : Array Slot} (hl : lv_has ls 5 []) : W p l e R s m args below meth c H locs (u.1 - u0.1) (u.2.1 - u0.2.1) (uMQr below G z args s ((uX1 z).1 - u0.1) ((uX1 z).2.1 - u0.2.1)) (F0 m 120 ls [.int s0, va_rf s1, va_rf s2, va_rf s3]) := by
  obtain ⟨⟨hx, hb, hml, hown, hts⟩, hKK⟩ := id hC
  have hzf := zz_X11_step_120 (G := G) (a0 := a0) N ro_X11_plan ro_X11_step ro_X11_inner zo_X11_plan zo_X11_step zo_X11_inner u s0 s1 s2 s3 h
  unfold f_X11_step_120 at h
  refine lv_goto (tgt := 124) hx hb dX11_step_120 (by decide) ?_
  refine W.cs (cells' := u.1 - u0.1) (slots' := u.2.1 - u0.2.1) (by omega) (by omega) ?_
  exact w_X11_step_124 hC hE hR hRm N  ro_X11_plan ro_X11_step ro_X11_inner zo_X11_plan zo_X11_step zo_X11_inner mo_X11_plan mx_X11_plan mo_X11_step mx_X11_step mo_X11_inner mx_X11_inner hRr u s0 s1 s2 s3 h ⟨by omega, by omega⟩ hP hS (lv_sub hl [] rfl)
def f_X11_step_95 (N b : Nat) (g : uEnv) (ro_X11_plan : UH → Nat → Option ((Nat × UH) ⊕ (Option Nat × UH))) (ro_X11_step : UH → Nat → Option ((Nat × UH) ⊕ (Option Nat × UH))) (ro_X11_inner : UH → Nat → Option ((Nat × UH) ⊕ (Option Nat × UH))) (a0 : Nat) (u : UH) (x1 : Option Nat) (s0 : Option Nat) : Option ((Nat × UH) ⊕ (Option Nat × UH)) :=
    (uGR u a0 9 0).bind fun o1 =>
    (o1).bind fun a2 =>
    (uGR u a2 4 5).bind fun o3 =>
    mlet (g.1 3) fun o4 =>
    if o3 = o4 then
    (uGR u a0 9 0).bind fun o6 =>
    (o6).bind fun a7 =>
    if uIs u a7 4 = true then
    uxcall (f_X5_whole N b g u a7 1 9) (fun a12 u13 =>
    some (.inl (a12, u13))) fun r11 u9 =>
    f_X11_step_120 N b g ro_X11_plan ro_X11_step ro_X11_inner a0 u9 r11 x1 s0 s0
    else none
    else
    f_X11_step_124 N b g ro_X11_plan ro_X11_step ro_X11_inner a0 u 1 x1 s0 s0
set_option maxHeartbeats 4000000 in
set_option maxRecDepth 100000 in
theorem zz_X11_step_95 {G : uG} {a0 : Nat} {z : (Nat × UH) ⊕ (Option Nat × UH)} (N : Nat) (ro_X11_plan : UH → Nat → Option ((Nat × UH) ⊕ (Option Nat × UH))) (ro_X11_step : UH → Nat → Option ((Nat × UH) ⊕ (Option Nat × UH))) (ro_X11_inner : UH → Nat → Option ((Nat × UH) ⊕ (Option Nat × UH))) (zo_X11_plan : ∀ (u : UH) (a0 : Nat) (z : (Nat × UH) ⊕ (Option Nat × UH)), ro_X11_plan u a0 = some z → u.1 ≤ (uX1 z).1 ∧ u.2.1 ≤ (uX1 z).2.1) (zo_X11_step : ∀ (u : UH) (a0 : Nat) (z : (Nat × UH) ⊕ (Option Nat × UH)), ro_X11_step u a0 = some z → u.1 ≤ (uX1 z).1 ∧ u.2.1 ≤ (uX1 z).2.1) (zo_X11_inner : ∀ (u : UH) (a0 : Nat) (z : (Nat × UH) ⊕ (Option Nat × UH)), ro_X11_inner u a0 = some z → u.1 ≤ (uX1 z).1 ∧ u.2.1 ≤ (uX1 z).2.1) (u : UH) (x1 : Option Nat) (s0 : Option Nat) (h : f_X11_step_95 N (ub G) (ug G) ro_X11_plan ro_X11_step ro_X11_inner a0 u x1 s0 = some z) : u.1 ≤ (uX1 z).1 ∧ u.2.1 ≤ (uX1 z).2.1 := by
  unfold f_X11_step_95 at h
  obtain ⟨o1, ho1, h⟩ := mbind_n h
  obtain ⟨a2, ha2, hha2⟩ := mbind_n h
  subst ha2
  have h := hha2
  obtain ⟨o3, ho3, h⟩ := mbind_n h
  obtain ⟨o4, eo4⟩ : ∃ z, z = (ug G).1 3 := ⟨_, rfl⟩
  have h := mlet_at eo4 h
  by_cases c5 : o3 = o4
  · have h := mif_t c5 h
    obtain ⟨o6, ho6, h⟩ := mbind_n h
    obtain ⟨a7, ha7, hha7⟩ := mbind_n h
    subst ha7
    have h := hha7
    obtain ⟨c8, h⟩ := mif_n h
    rcases uxcall_n h with ⟨a12, u13, c14, h⟩ | ⟨r11, u9, c10, h⟩
    · have zu13 : u.1 ≤ u13.1 ∧ u.2.1 ≤ u13.2.1 := zz_X5_whole N (ub G) (ug G) u a7 1 9 (.inl (a12, u13)) c14
      have hz := Option.some.inj h
      subst hz
      exact (show u.1 ≤ u13.1 ∧ u.2.1 ≤ u13.2.1 from ⟨by omega, by omega⟩)
    · have zu9 : u.1 ≤ u9.1 ∧ u.2.1 ≤ u9.2.1 := zz_X5_whole N (ub G) (ug G) u a7 1 9 (.inr (r11, u9)) c10
      have hq := zz_X11_step_120 (G := G) (a0 := a0) N  ro_X11_plan ro_X11_step ro_X11_inner zo_X11_plan zo_X11_step zo_X11_inner u9 r11 x1 s0 s0 h
      exact ⟨by omega, by omega⟩
  · have h := mif_f c5 h
    have hq := zz_X11_step_124 (G := G) (a0 := a0) N  ro_X11_plan ro_X11_step ro_X11_inner zo_X11_plan zo_X11_step zo_X11_inner u 1 x1 s0 s0 h
    exact ⟨by omega, by omega⟩
set_option maxHeartbeats 4000000 in
set_option maxRecDepth 100000 in
theorem w_X11_step_95 {p : Program} {l : Launch} {e : Env} {R : Room} {s : State} {m : MethodId} {args : Array Value} {below : List Frame} {meth : Method} {c : Code} {G : uG} {a0 : Nat} {u0 : UH} {z : (Nat × UH) ⊕ (Option Nat × UH)} (hC : uC p s m args meth c G RX11 cX11_step 5 (some (.object "SoftWheels$Doing"))) (hE : c.exceptionTable.toList = []) (hR : 10 ≤ R.frames ∧ 257 ≤ R.locals) (hRm : (uX1 z).1 - u0.1 ≤ R.cells ∧ (uX1 z).2.1 - u0.2.1 ≤ R.slots) (N : Nat) (ro_X11_plan : UH → Nat → Option ((Nat × UH) ⊕ (Option Nat × UH))) (ro_X11_step : UH → Nat → Option ((Nat × UH) ⊕ (Option Nat × UH))) (ro_X11_inner : UH → Nat → Option ((Nat × UH) ⊕ (Option Nat × UH))) (zo_X11_plan : ∀ (u : UH) (a0 : Nat) (z : (Nat × UH) ⊕ (Option Nat × UH)), ro_X11_plan u a0 = some z → u.1 ≤ (uX1 z).1 ∧ u.2.1 ≤ (uX1 z).2.1) (zo_X11_step : ∀ (u : UH) (a0 : Nat) (z : (Nat × UH) ⊕ (Option Nat × UH)), ro_X11_step u a0 = some z → u.1 ≤ (uX1 z).1 ∧ u.2.1 ≤ (uX1 z).2.1) (zo_X11_inner : ∀ (u : UH) (a0 : Nat) (z : (Nat × UH) ⊕ (Option Nat × UH)), ro_X11_inner u a0 = some z → u.1 ≤ (uX1 z).1 ∧ u.2.1 ≤ (uX1 z).2.1) {DF DL : Nat} (mo_X11_plan : ∀ (u : UH) (a0 : Nat) (r : Option Nat) (uf : UH), ro_X11_plan u a0 = some (.inr (r, uf)) → Met l yX11_plan (ws_ yX11_plan cX11_plan 2 (some (.object "java/util/List"))) ({ frames := DF, cells := (uf.1 - u.1), slots := (uf.2.1 - u.2.1), locals := DL }) (uPc G u [.ref a0]) (uQr G r uf) (uf.1 - u.1) (uf.2.1 - u.2.1) (uA G)) (mx_X11_plan : ∀ (u : UH) (a0 : Nat) (x : Nat) (uf : UH), ro_X11_plan u a0 = some (.inl (x, uf)) → uMX l yX11_plan (ws_ yX11_plan cX11_plan 2 (some (.object "java/util/List"))) ({ frames := DF, cells := uf.1 - u.1, slots := uf.2.1 - u.2.1, locals := DL }) G u [.ref a0] x uf (uf.1 - u.1) (uf.2.1 - u.2.1)) (mo_X11_step : ∀ (u : UH) (a0 : Nat) (r : Option Nat) (uf : UH), ro_X11_step u a0 = some (.inr (r, uf)) → Met l yX11_step (ws_ yX11_step cX11_step 5 (some (.object "SoftWheels$Doing"))) ({ frames := DF, cells := (uf.1 - u.1), slots := (uf.2.1 - u.2.1), locals := DL }) (uPc G u [.ref a0]) (uQr G r uf) (uf.1 - u.1) (uf.2.1 - u.2.1) (uA G)) (mx_X11_step : ∀ (u : UH) (a0 : Nat) (x : Nat) (uf : UH), ro_X11_step u a0 = some (.inl (x, uf)) → uMX l yX11_step (ws_ yX11_step cX11_step 5 (some (.object "SoftWheels$Doing"))) ({ frames := DF, cells := uf.1 - u.1, slots := uf.2.1 - u.2.1, locals := DL }) G u [.ref a0] x uf (uf.1 - u.1) (uf.2.1 - u.2.1)) (mo_X11_inner : ∀ (u : UH) (a0 : Nat) (r : Option Nat) (uf : UH), ro_X11_inner u a0 = some (.inr (r, uf)) → Met l yX11_inner (ws_ yX11_inner cX11_inner 2 (some (.object "java/util/List"))) ({ frames := DF, cells := (uf.1 - u.1), slots := (uf.2.1 - u.2.1), locals := DL }) (uPc G u [.ref a0]) (uQr G r uf) (uf.1 - u.1) (uf.2.1 - u.2.1) (uA G)) (mx_X11_inner : ∀ (u : UH) (a0 : Nat) (x : Nat) (uf : UH), ro_X11_inner u a0 = some (.inl (x, uf)) → uMX l yX11_inner (ws_ yX11_inner cX11_inner 2 (some (.object "java/util/List"))) ({ frames := DF, cells := uf.1 - u.1, slots := uf.2.1 - u.2.1, locals := DL }) G u [.ref a0] x uf (uf.1 - u.1) (uf.2.1 - u.2.1)) (hRr : DF + 1 ≤ R.frames ∧ 60 + DL ≤ R.locals) (u : UH) (x1 : Option Nat) (s0 : Option Nat) (h : f_X11_step_95 N (ub G) (ug G) ro_X11_plan ro_X11_step ro_X11_inner a0 u x1 s0 = some z) (hz0 : (u0.1 ≤ u.1 ∧ u0.2.1 ≤ u.2.1)) {H : Heap} {locs : List Loc} (hP : uP G u H) (hS : va_S (uA G) s.heap H locs) {ls : Array Slot} (hl : lv_has ls 5 [(0, va_rf (some a0)), (1, va_rf x1)]) : W p l e R s m args below meth c H locs (u.1 - u0.1) (u.2.1 - u0.2.1) (uMQr below G z args s ((uX1 z).1 - u0.1) ((uX1 z).2.1 - u0.2.1)) (F0 m 95 ls [va_rf s0]) := by
  obtain ⟨⟨hx, hb, hml, hown, hts⟩, hKK⟩ := id hC
  have hzf := zz_X11_step_95 (G := G) (a0 := a0) N ro_X11_plan ro_X11_step ro_X11_inner zo_X11_plan zo_X11_step zo_X11_inner u x1 s0 h
  unfold f_X11_step_95 at h
  refine lv_dup hx hb dX11_step_95 (u_cat _) ?_
  refine u_aload_n (r := x1) hx hb dX11_step_96 rfl (lv_at hl 1 rfl) ?_
  refine u_aload_n (r := some a0) hx hb dX11_step_97 rfl (lv_at hl 0 rfl) ?_
  obtain ⟨o1, ho1, h⟩ := mbind_n h
  refine u_get hC hP (uGR_n ho1) rfl in_X11 (by decide) q1545 (fun _ h => h) dX11_step_98 ?_
  obtain ⟨a2, ha2, hha2⟩ := mbind_n h
  subst ha2
  have h := hha2
  obtain ⟨o3, ho3, h⟩ := mbind_n h
  refine u_getN hC hP (uGR_n ho3) rfl in_X5 (by decide) q635 (fun _ h => h) dX11_step_101 ?_
  refine u_gets hC hS 3 rfl q1583 (fun _ h => h) dX11_step_104 ?_
  obtain ⟨o4, eo4⟩ : ∃ z, z = (ug G).1 3 := ⟨_, rfl⟩
  have h := mlet_at eo4 h
  rw [← eo4]
  refine lv_acmp_ne (rx := o3) (ry := o4) (tgt := 123) hx hb dX11_step_107 (by decide) (fun c5 => ?_) (fun c5 => ?_)
  · have h := mif_f c5 h
    refine lv_iconst (v := 1) hx hb dX11_step_123 (by decide) ?_
    refine W.cs (cells' := u.1 - u0.1) (slots' := u.2.1 - u0.2.1) (by omega) (by omega) ?_
    exact w_X11_step_124 hC hE hR hRm N  ro_X11_plan ro_X11_step ro_X11_inner zo_X11_plan zo_X11_step zo_X11_inner mo_X11_plan mx_X11_plan mo_X11_step mx_X11_step mo_X11_inner mx_X11_inner hRr u 1 x1 s0 s0 h ⟨by omega, by omega⟩ hP hS (lv_sub hl [] rfl)
  · have h := mif_t c5 h
    refine u_aload_n (r := some a0) hx hb dX11_step_110 rfl (lv_at hl 0 rfl) ?_
    obtain ⟨o6, ho6, h⟩ := mbind_n h
    refine u_get hC hP (uGR_n ho6) rfl in_X11 (by decide) q1545 (fun _ h => h) dX11_step_111 ?_
    refine lv_iconst (v := 1) hx hb dX11_step_114 (by decide) ?_
    refine lv_bipush (v := 9) hx hb dX11_step_115 (by decide) ?_
    obtain ⟨a7, ha7, hha7⟩ := mbind_n h
    subst ha7
    have h := hha7
    obtain ⟨c8, h⟩ := mif_n h
    rcases uxcall_n h with ⟨a12, u13, c14, h⟩ | ⟨r11, u9, c10, h⟩
    · have zu13 : u.1 ≤ u13.1 ∧ u.2.1 ≤ u13.2.1 := zz_X5_whole N (ub G) (ug G) u a7 1 9 (.inl (a12, u13)) c14
      have hz := Option.some.inj h
      subst hz
      have hRm : u13.1 - u0.1 ≤ R.cells ∧ u13.2.1 - u0.2.1 ≤ R.slots := hRm
      exact u_callX hC (u_noE hE) (u_runVX (As := [.int 1, .int 9]) (rest := [va_rf x1, va_rf s0, va_rf s0]) hC.1 (mex_X5_whole l N G u a7 1 9 a12 u13 c14) (cwV 2 hts (lw_V q1584 q927 q928 q105 q929) rfl rfl rfl (by decide +kernel) ⟨Nat.le_trans (Nat.le_of_ble_eq_true rfl) hR.1, Nat.le_trans (Nat.le_of_ble_eq_true rfl) hR.2⟩) ⟨uPc_blind, u_rcv hC hP c8 rfl, fun U hU hW => u_pre hC hP hS hU hW⟩ rfl rfl hl.1 rfl (lv_room (by simp only [List.map, u_cat]; exact Nat.le_of_ble_eq_true rfl)) dX11_step_117 ⟨by omega, by omega⟩) hS (by show _ + _ = u13.1 - u0.1; omega) (by show _ + _ = u13.2.1 - u0.2.1; omega)
    · have zu9 : u.1 ≤ u9.1 ∧ u.2.1 ≤ u9.2.1 := zz_X5_whole N (ub G) (ug G) u a7 1 9 (.inr (r11, u9)) c10
      have hq := zz_X11_step_120 (G := G) (a0 := a0) N ro_X11_plan ro_X11_step ro_X11_inner zo_X11_plan zo_X11_step zo_X11_inner u9 r11 x1 s0 s0 h
      refine u_calli (va_runV (As := [.int 1, .int 9]) (rest := [va_rf x1, va_rf s0, va_rf s0]) hC.1 (met_X5_whole l N G u a7 1 9 r11 u9 c10) (cwV 2 hts (lw_V q1584 q927 q928 q105 q929) rfl rfl rfl (by decide +kernel) ⟨Nat.le_trans (Nat.le_of_ble_eq_true rfl) hR.1, Nat.le_trans (Nat.le_of_ble_eq_true rfl) hR.2⟩) ⟨uPc_blind, u_rcv hC hP c8 rfl, fun U hU hW => u_pre hC hP hS hU hW⟩ rfl rfl hl.1 rfl (lv_room (by simp only [List.map, u_cat]; exact Nat.le_of_ble_eq_true rfl)) dX11_step_117 ⟨by omega, by omega⟩) hS (fun H locs hP hS => ?_)
      refine W.cs (cells' := u9.1 - u0.1) (slots' := u9.2.1 - u0.2.1) (by omega) (by omega) ?_
      exact w_X11_step_120 hC hE hR hRm N  ro_X11_plan ro_X11_step ro_X11_inner zo_X11_plan zo_X11_step zo_X11_inner mo_X11_plan mx_X11_plan mo_X11_step mx_X11_step mo_X11_inner mx_X11_inner hRr u9 r11 x1 s0 s0 h ⟨by omega, by omega⟩ hP hS (lv_sub hl [] rfl)
def f_X11_step_88 (N b : Nat) (g : uEnv) (ro_X11_plan : UH → Nat → Option ((Nat × UH) ⊕ (Option Nat × UH))) (ro_X11_step : UH → Nat → Option ((Nat × UH) ⊕ (Option Nat × UH))) (ro_X11_inner : UH → Nat → Option ((Nat × UH) ⊕ (Option Nat × UH))) (a0 : Nat) (u : UH) (x1 : Option Nat) : Option ((Nat × UH) ⊕ (Option Nat × UH)) :=
    ucase x1 (
    (uGR u a0 9 0).bind fun o2 =>
    (o2).bind fun a3 =>
    (uGR u a3 4 5).bind fun o4 =>
    mlet (g.1 3) fun o5 =>
    if o4 = o5 then
    (uGR u a0 9 0).bind fun o7 =>
    (o7).bind fun a8 =>
    (uGI u a8 4 4).bind fun y9 =>
    (uGR u a0 9 2).bind fun o10 =>
    (o10).bind fun a11 =>
    (uGR u a11 12 6).bind fun o12 =>
    (o12).bind fun a13 =>
    if uIs u a13 18 = true then
    ucall (f_J2_size N b g u a13) fun r17 u15 =>
    if y9 < r17 then
    (uGR u15 a0 9 0).bind fun o19 =>
    (o19).bind fun a20 =>
    if uIs u15 a20 4 = true then
    (f_X5_next N b g u15 a20).bind fun u22 =>
    f_X11_step_188 N b g ro_X11_plan ro_X11_step ro_X11_inner a0 u22 y9
    else none
    else
    (uGR u15 a0 9 0).bind fun o24 =>
    (o24).bind fun a25 =>
    if uIs u15 a25 4 = true then
    ucall (f_X5_fault N b g u15 a25 2) fun o29 u27 =>
    f_X11_step_180 N b g ro_X11_plan ro_X11_step ro_X11_inner a0 u27 o29
    else none
    else none
    else
    (uGR u a0 9 0).bind fun o30 =>
    (o30).bind fun a31 =>
    if uIs u a31 4 = true then
    ucall (f_X5_fault N b g u a31 1) fun o35 u33 =>
    f_X11_step_149 N b g ro_X11_plan ro_X11_step ro_X11_inner a0 u33 o35
    else none) fun a1 =>
    mlet (u.1) fun a37 =>
    mlet (uNew u 2 (.inr (10, uDefs tyX12 2))) fun u36 =>
    f_X11_step_95 N b g ro_X11_plan ro_X11_step ro_X11_inner a0 u36 (some a1) (some a37)
set_option maxHeartbeats 4000000 in
set_option maxRecDepth 100000 in
theorem zz_X11_step_88 {G : uG} {a0 : Nat} {z : (Nat × UH) ⊕ (Option Nat × UH)} (N : Nat) (ro_X11_plan : UH → Nat → Option ((Nat × UH) ⊕ (Option Nat × UH))) (ro_X11_step : UH → Nat → Option ((Nat × UH) ⊕ (Option Nat × UH))) (ro_X11_inner : UH → Nat → Option ((Nat × UH) ⊕ (Option Nat × UH))) (zo_X11_plan : ∀ (u : UH) (a0 : Nat) (z : (Nat × UH) ⊕ (Option Nat × UH)), ro_X11_plan u a0 = some z → u.1 ≤ (uX1 z).1 ∧ u.2.1 ≤ (uX1 z).2.1) (zo_X11_step : ∀ (u : UH) (a0 : Nat) (z : (Nat × UH) ⊕ (Option Nat × UH)), ro_X11_step u a0 = some z → u.1 ≤ (uX1 z).1 ∧ u.2.1 ≤ (uX1 z).2.1) (zo_X11_inner : ∀ (u : UH) (a0 : Nat) (z : (Nat × UH) ⊕ (Option Nat × UH)), ro_X11_inner u a0 = some z → u.1 ≤ (uX1 z).1 ∧ u.2.1 ≤ (uX1 z).2.1) (u : UH) (x1 : Option Nat) (h : f_X11_step_88 N (ub G) (ug G) ro_X11_plan ro_X11_step ro_X11_inner a0 u x1 = some z) : u.1 ≤ (uX1 z).1 ∧ u.2.1 ≤ (uX1 z).2.1 := by
  unfold f_X11_step_88 at h
  rcases x1 with _ | a1
  · have h := ucase_n h
    obtain ⟨o2, ho2, h⟩ := mbind_n h
    obtain ⟨a3, ha3, hha3⟩ := mbind_n h
    subst ha3
    have h := hha3
    obtain ⟨o4, ho4, h⟩ := mbind_n h
    obtain ⟨o5, eo5⟩ : ∃ z, z = (ug G).1 3 := ⟨_, rfl⟩
    have h := mlet_at eo5 h
    by_cases c6 : o4 = o5
    · have h := mif_t c6 h
      obtain ⟨o7, ho7, h⟩ := mbind_n h
      obtain ⟨a8, ha8, hha8⟩ := mbind_n h
      subst ha8
      have h := hha8
      obtain ⟨y9, hy9, h⟩ := mbind_n h
      obtain ⟨o10, ho10, h⟩ := mbind_n h
      obtain ⟨a11, ha11, hha11⟩ := mbind_n h
      subst ha11
      have h := hha11
      obtain ⟨o12, ho12, h⟩ := mbind_n h
      obtain ⟨a13, ha13, hha13⟩ := mbind_n h
      subst ha13
      have h := hha13
      obtain ⟨c14, h⟩ := mif_n h
      obtain ⟨r17, u15, c16, h⟩ := ucall_n h
      have zu15 := zz_J2_size N (ub G) (ug G) u a13 r17 u15 c16
      by_cases c18 : y9 < r17
      · have h := mif_t c18 h
        obtain ⟨o19, ho19, h⟩ := mbind_n h
        obtain ⟨a20, ha20, hha20⟩ := mbind_n h
        subst ha20
        have h := hha20
        obtain ⟨c21, h⟩ := mif_n h
        obtain ⟨u22, c23, h⟩ := mbind_n h
        have zu22 := zz_X5_next N (ub G) (ug G) u15 a20 u22 c23
        have hq := zz_X11_step_188 (G := G) (a0 := a0) N  ro_X11_plan ro_X11_step ro_X11_inner zo_X11_plan zo_X11_step zo_X11_inner u22 y9 h
        exact ⟨by omega, by omega⟩
      · have h := mif_f c18 h
        obtain ⟨o24, ho24, h⟩ := mbind_n h
        obtain ⟨a25, ha25, hha25⟩ := mbind_n h
        subst ha25
        have h := hha25
        obtain ⟨c26, h⟩ := mif_n h
        obtain ⟨o29, u27, c28, h⟩ := ucall_n h
        have zu27 := zz_X5_fault N (ub G) (ug G) u15 a25 2 o29 u27 c28
        have hq := zz_X11_step_180 (G := G) (a0 := a0) N  ro_X11_plan ro_X11_step ro_X11_inner zo_X11_plan zo_X11_step zo_X11_inner u27 o29 h
        exact ⟨by omega, by omega⟩
    · have h := mif_f c6 h
      obtain ⟨o30, ho30, h⟩ := mbind_n h
      obtain ⟨a31, ha31, hha31⟩ := mbind_n h
      subst ha31
      have h := hha31
      obtain ⟨c32, h⟩ := mif_n h
      obtain ⟨o35, u33, c34, h⟩ := ucall_n h
      have zu33 := zz_X5_fault N (ub G) (ug G) u a31 1 o35 u33 c34
      have hq := zz_X11_step_149 (G := G) (a0 := a0) N  ro_X11_plan ro_X11_step ro_X11_inner zo_X11_plan zo_X11_step zo_X11_inner u33 o35 h
      exact ⟨by omega, by omega⟩
  · have h := ucase_s h
    obtain ⟨a37, ea37⟩ : ∃ z : Nat, z = u.1 := ⟨_, rfl⟩
    have h := mlet_at ea37 h
    obtain ⟨u36, eu36⟩ : ∃ z : UH, z = uNew u 2 (.inr (10, uDefs tyX12 2)) := ⟨_, rfl⟩
    have h := mlet_at eu36 h
    have zu36 : u36.1 = u.1 + 1 ∧ u36.2.1 = u.2.1 + 2 := by rw [eu36]; exact ⟨rfl, rfl⟩
    have hq := zz_X11_step_95 (G := G) (a0 := a0) N  ro_X11_plan ro_X11_step ro_X11_inner zo_X11_plan zo_X11_step zo_X11_inner u36 (some a1) (some a37) h
    exact ⟨by omega, by omega⟩
set_option maxHeartbeats 4000000 in
set_option maxRecDepth 100000 in
theorem w_X11_step_88 {p : Program} {l : Launch} {e : Env} {R : Room} {s : State} {m : MethodId} {args : Array Value} {below : List Frame} {meth : Method} {c : Code} {G : uG} {a0 : Nat} {u0 : UH} {z : (Nat × UH) ⊕ (Option Nat × UH)} (hC : uC p s m args meth c G RX11 cX11_step 5 (some (.object "SoftWheels$Doing"))) (hE : c.exceptionTable.toList = []) (hR : 10 ≤ R.frames ∧ 257 ≤ R.locals) (hRm : (uX1 z).1 - u0.1 ≤ R.cells ∧ (uX1 z).2.1 - u0.2.1 ≤ R.slots) (N : Nat) (ro_X11_plan : UH → Nat → Option ((Nat × UH) ⊕ (Option Nat × UH))) (ro_X11_step : UH → Nat → Option ((Nat × UH) ⊕ (Option Nat × UH))) (ro_X11_inner : UH → Nat → Option ((Nat × UH) ⊕ (Option Nat × UH))) (zo_X11_plan : ∀ (u : UH) (a0 : Nat) (z : (Nat × UH) ⊕ (Option Nat × UH)), ro_X11_plan u a0 = some z → u.1 ≤ (uX1 z).1 ∧ u.2.1 ≤ (uX1 z).2.1) (zo_X11_step : ∀ (u : UH) (a0 : Nat) (z : (Nat × UH) ⊕ (Option Nat × UH)), ro_X11_step u a0 = some z → u.1 ≤ (uX1 z).1 ∧ u.2.1 ≤ (uX1 z).2.1) (zo_X11_inner : ∀ (u : UH) (a0 : Nat) (z : (Nat × UH) ⊕ (Option Nat × UH)), ro_X11_inner u a0 = some z → u.1 ≤ (uX1 z).1 ∧ u.2.1 ≤ (uX1 z).2.1) {DF DL : Nat} (mo_X11_plan : ∀ (u : UH) (a0 : Nat) (r : Option Nat) (uf : UH), ro_X11_plan u a0 = some (.inr (r, uf)) → Met l yX11_plan (ws_ yX11_plan cX11_plan 2 (some (.object "java/util/List"))) ({ frames := DF, cells := (uf.1 - u.1), slots := (uf.2.1 - u.2.1), locals := DL }) (uPc G u [.ref a0]) (uQr G r uf) (uf.1 - u.1) (uf.2.1 - u.2.1) (uA G)) (mx_X11_plan : ∀ (u : UH) (a0 : Nat) (x : Nat) (uf : UH), ro_X11_plan u a0 = some (.inl (x, uf)) → uMX l yX11_plan (ws_ yX11_plan cX11_plan 2 (some (.object "java/util/List"))) ({ frames := DF, cells := uf.1 - u.1, slots := uf.2.1 - u.2.1, locals := DL }) G u [.ref a0] x uf (uf.1 - u.1) (uf.2.1 - u.2.1)) (mo_X11_step : ∀ (u : UH) (a0 : Nat) (r : Option Nat) (uf : UH), ro_X11_step u a0 = some (.inr (r, uf)) → Met l yX11_step (ws_ yX11_step cX11_step 5 (some (.object "SoftWheels$Doing"))) ({ frames := DF, cells := (uf.1 - u.1), slots := (uf.2.1 - u.2.1), locals := DL }) (uPc G u [.ref a0]) (uQr G r uf) (uf.1 - u.1) (uf.2.1 - u.2.1) (uA G)) (mx_X11_step : ∀ (u : UH) (a0 : Nat) (x : Nat) (uf : UH), ro_X11_step u a0 = some (.inl (x, uf)) → uMX l yX11_step (ws_ yX11_step cX11_step 5 (some (.object "SoftWheels$Doing"))) ({ frames := DF, cells := uf.1 - u.1, slots := uf.2.1 - u.2.1, locals := DL }) G u [.ref a0] x uf (uf.1 - u.1) (uf.2.1 - u.2.1)) (mo_X11_inner : ∀ (u : UH) (a0 : Nat) (r : Option Nat) (uf : UH), ro_X11_inner u a0 = some (.inr (r, uf)) → Met l yX11_inner (ws_ yX11_inner cX11_inner 2 (some (.object "java/util/List"))) ({ frames := DF, cells := (uf.1 - u.1), slots := (uf.2.1 - u.2.1), locals := DL }) (uPc G u [.ref a0]) (uQr G r uf) (uf.1 - u.1) (uf.2.1 - u.2.1) (uA G)) (mx_X11_inner : ∀ (u : UH) (a0 : Nat) (x : Nat) (uf : UH), ro_X11_inner u a0 = some (.inl (x, uf)) → uMX l yX11_inner (ws_ yX11_inner cX11_inner 2 (some (.object "java/util/List"))) ({ frames := DF, cells := uf.1 - u.1, slots := uf.2.1 - u.2.1, locals := DL }) G u [.ref a0] x uf (uf.1 - u.1) (uf.2.1 - u.2.1)) (hRr : DF + 1 ≤ R.frames ∧ 60 + DL ≤ R.locals) (u : UH) (x1 : Option Nat) (h : f_X11_step_88 N (ub G) (ug G) ro_X11_plan ro_X11_step ro_X11_inner a0 u x1 = some z) (hz0 : (u0.1 ≤ u.1 ∧ u0.2.1 ≤ u.2.1)) {H : Heap} {locs : List Loc} (hP : uP G u H) (hS : va_S (uA G) s.heap H locs) {ls : Array Slot} (hl : lv_has ls 5 [(0, va_rf (some a0)), (1, va_rf x1)]) : W p l e R s m args below meth c H locs (u.1 - u0.1) (u.2.1 - u0.2.1) (uMQr below G z args s ((uX1 z).1 - u0.1) ((uX1 z).2.1 - u0.2.1)) (F0 m 88 ls []) := by
  obtain ⟨⟨hx, hb, hml, hown, hts⟩, hKK⟩ := id hC
  have hzf := zz_X11_step_88 (G := G) (a0 := a0) N ro_X11_plan ro_X11_step ro_X11_inner zo_X11_plan zo_X11_step zo_X11_inner u x1 h
  unfold f_X11_step_88 at h
  refine u_aload_n (r := x1) hx hb dX11_step_88 rfl (lv_at hl 1 rfl) ?_
  rcases x1 with _ | a1
  · have h := ucase_n h
    refine lv_ifnullN (tgt := 128) hx hb dX11_step_89 (by decide) ?_
    refine u_aload_n (r := some a0) hx hb dX11_step_128 rfl (lv_at hl 0 rfl) ?_
    obtain ⟨o2, ho2, h⟩ := mbind_n h
    refine u_get hC hP (uGR_n ho2) rfl in_X11 (by decide) q1545 (fun _ h => h) dX11_step_129 ?_
    obtain ⟨a3, ha3, hha3⟩ := mbind_n h
    subst ha3
    have h := hha3
    obtain ⟨o4, ho4, h⟩ := mbind_n h
    refine u_getN hC hP (uGR_n ho4) rfl in_X5 (by decide) q635 (fun _ h => h) dX11_step_132 ?_
    refine u_gets hC hS 3 rfl q1583 (fun _ h => h) dX11_step_135 ?_
    obtain ⟨o5, eo5⟩ : ∃ z, z = (ug G).1 3 := ⟨_, rfl⟩
    have h := mlet_at eo5 h
    rw [← eo5]
    refine lv_acmp_eq (rx := o4) (ry := o5) (tgt := 150) hx hb dX11_step_138 (by decide) (fun c6 => ?_) (fun c6 => ?_)
    · have h := mif_t c6 h
      refine u_aload_n (r := some a0) hx hb dX11_step_150 rfl (lv_at hl 0 rfl) ?_
      obtain ⟨o7, ho7, h⟩ := mbind_n h
      refine u_get hC hP (uGR_n ho7) rfl in_X11 (by decide) q1545 (fun _ h => h) dX11_step_151 ?_
      obtain ⟨a8, ha8, hha8⟩ := mbind_n h
      subst ha8
      have h := hha8
      obtain ⟨y9, hy9, h⟩ := mbind_n h
      refine u_getN hC hP (uGI_n hy9) rfl in_X5 (by decide) q632 (fun _ h => h) dX11_step_154 ?_
      refine lv_istore_n (i := 2) (lv' := [(2, .int y9), (0, va_rf (some a0)), (1, va_rf none)]) hx hb dX11_step_157 rfl hl (by decide) rfl (fun ls hl => ?_)
      refine lv_iload_n hx hb dX11_step_158 rfl (lv_at hl 0 rfl) ?_
      refine u_aload_n (r := some a0) hx hb dX11_step_159 rfl (lv_at hl 1 rfl) ?_
      obtain ⟨o10, ho10, h⟩ := mbind_n h
      refine u_get hC hP (uGR_n ho10) rfl in_X11 (by decide) q1547 (fun _ h => h) dX11_step_160 ?_
      obtain ⟨a11, ha11, hha11⟩ := mbind_n h
      subst ha11
      have h := hha11
      obtain ⟨o12, ho12, h⟩ := mbind_n h
      refine u_getN hC hP (uGR_n ho12) rfl in_X14 (by decide) q1149 (fun _ h => h) dX11_step_163 ?_
      obtain ⟨a13, ha13, hha13⟩ := mbind_n h
      subst ha13
      have h := hha13
      obtain ⟨c14, h⟩ := mif_n h
      obtain ⟨r17, u15, c16, h⟩ := ucall_n h
      have zu15 := zz_J2_size N (ub G) (ug G) u a13 r17 u15 c16
      refine u_calli (va_runV (As := []) (rest := [.int y9]) hC.1 (met_J2_size l N G u a13 r17 u15 c16) (cwV 0 hts (lw_V q1596 q894 q895 q102 q896) rfl rfl rfl (by decide +kernel) ⟨Nat.le_trans (Nat.le_of_ble_eq_true rfl) hR.1, Nat.le_trans (Nat.le_of_ble_eq_true rfl) hR.2⟩) ⟨uPc_blind, u_rcv hC hP c14 rfl, fun U hU hW => u_pre hC hP hS hU hW⟩ rfl rfl hl.1 rfl (lv_room (Nat.le_of_ble_eq_true rfl)) dX11_step_166 ⟨by omega, by omega⟩) hS (fun H locs hP hS => ?_)
      refine W.cs (cells' := u15.1 - u0.1) (slots' := u15.2.1 - u0.2.1) (by omega) (by omega) ?_
      refine lv_icmp_lt (tgt := 181) hx hb dX11_step_169 (by decide) (fun c18 => ?_) (fun c18 => ?_)
      · have h := mif_t c18 h
        refine u_aload_n (r := some a0) hx hb dX11_step_181 rfl (lv_at hl 1 rfl) ?_
        obtain ⟨o19, ho19, h⟩ := mbind_n h
        refine u_get hC hP (uGR_n ho19) rfl in_X11 (by decide) q1545 (fun _ h => h) dX11_step_182 ?_
        obtain ⟨a20, ha20, hha20⟩ := mbind_n h
        subst ha20
        have h := hha20
        obtain ⟨c21, h⟩ := mif_n h
        obtain ⟨u22, c23, h⟩ := mbind_n h
        have zu22 := zz_X5_next N (ub G) (ug G) u15 a20 u22 c23
        have hq := zz_X11_step_188 (G := G) (a0 := a0) N ro_X11_plan ro_X11_step ro_X11_inner zo_X11_plan zo_X11_step zo_X11_inner u22 y9 h
        refine u_callv (va_runV (As := []) (rest := []) hC.1 (met_X5_next l N G u15 a20 u22 c23) (cwV 0 hts (lw_V q1580 q340 q341 q105 q342) rfl rfl rfl (by decide +kernel) ⟨Nat.le_trans (Nat.le_of_ble_eq_true rfl) hR.1, Nat.le_trans (Nat.le_of_ble_eq_true rfl) hR.2⟩) ⟨uPc_blind, u_rcv hC hP c21 rfl, fun U hU hW => u_pre hC hP hS hU hW⟩ rfl rfl hl.1 rfl (lv_room (Nat.le_of_ble_eq_true rfl)) dX11_step_185 ⟨by omega, by omega⟩) hS (fun H locs hP hS => ?_)
        refine W.cs (cells' := u22.1 - u0.1) (slots' := u22.2.1 - u0.2.1) (by omega) (by omega) ?_
        refine W.cs (cells' := u22.1 - u0.1) (slots' := u22.2.1 - u0.2.1) (by omega) (by omega) ?_
        exact w_X11_step_188 hC hE hR hRm N  ro_X11_plan ro_X11_step ro_X11_inner zo_X11_plan zo_X11_step zo_X11_inner mo_X11_plan mx_X11_plan mo_X11_step mx_X11_step mo_X11_inner mx_X11_inner hRr u22 y9 h ⟨by omega, by omega⟩ hP hS (lv_sub hl [1, 0] rfl)
      · have h := mif_f c18 h
        refine u_aload_n (r := some a0) hx hb dX11_step_172 rfl (lv_at hl 1 rfl) ?_
        obtain ⟨o24, ho24, h⟩ := mbind_n h
        refine u_get hC hP (uGR_n ho24) rfl in_X11 (by decide) q1545 (fun _ h => h) dX11_step_173 ?_
        refine lv_iconst (v := 2) hx hb dX11_step_176 (by decide) ?_
        obtain ⟨a25, ha25, hha25⟩ := mbind_n h
        subst ha25
        have h := hha25
        obtain ⟨c26, h⟩ := mif_n h
        obtain ⟨o29, u27, c28, h⟩ := ucall_n h
        have zu27 := zz_X5_fault N (ub G) (ug G) u15 a25 2 o29 u27 c28
        have hq := zz_X11_step_180 (G := G) (a0 := a0) N ro_X11_plan ro_X11_step ro_X11_inner zo_X11_plan zo_X11_step zo_X11_inner u27 o29 h
        refine u_callr (va_runV (As := [.int 2]) (rest := []) hC.1 (met_X5_fault l N G u15 a25 2 o29 u27 c28) (cwV 1 hts (lw_V q1579 q781 q782 q105 q783) rfl rfl rfl (by decide +kernel) ⟨Nat.le_trans (Nat.le_of_ble_eq_true rfl) hR.1, Nat.le_trans (Nat.le_of_ble_eq_true rfl) hR.2⟩) ⟨uPc_blind, u_rcv hC hP c26 rfl, fun U hU hW => u_pre hC hP hS hU hW⟩ rfl rfl hl.1 rfl (lv_room (Nat.le_of_ble_eq_true rfl)) dX11_step_177 ⟨by omega, by omega⟩) hS (fun H locs hP hS => ?_)
        refine W.cs (cells' := u27.1 - u0.1) (slots' := u27.2.1 - u0.2.1) (by omega) (by omega) ?_
        refine W.cs (cells' := u27.1 - u0.1) (slots' := u27.2.1 - u0.2.1) (by omega) (by omega) ?_
        exact w_X11_step_180 hC hE hR hRm N  ro_X11_plan ro_X11_step ro_X11_inner zo_X11_plan zo_X11_step zo_X11_inner mo_X11_plan mx_X11_plan mo_X11_step mx_X11_step mo_X11_inner mx_X11_inner hRr u27 o29 h ⟨by omega, by omega⟩ hP hS (lv_sub hl [] rfl)
    · have h := mif_f c6 h
      refine u_aload_n (r := some a0) hx hb dX11_step_141 rfl (lv_at hl 0 rfl) ?_
      obtain ⟨o30, ho30, h⟩ := mbind_n h
      refine u_get hC hP (uGR_n ho30) rfl in_X11 (by decide) q1545 (fun _ h => h) dX11_step_142 ?_
      refine lv_iconst (v := 1) hx hb dX11_step_145 (by decide) ?_
      obtain ⟨a31, ha31, hha31⟩ := mbind_n h
      subst ha31
      have h := hha31
      obtain ⟨c32, h⟩ := mif_n h
      obtain ⟨o35, u33, c34, h⟩ := ucall_n h
      have zu33 := zz_X5_fault N (ub G) (ug G) u a31 1 o35 u33 c34
      have hq := zz_X11_step_149 (G := G) (a0 := a0) N ro_X11_plan ro_X11_step ro_X11_inner zo_X11_plan zo_X11_step zo_X11_inner u33 o35 h
      refine u_callr (va_runV (As := [.int 1]) (rest := []) hC.1 (met_X5_fault l N G u a31 1 o35 u33 c34) (cwV 1 hts (lw_V q1579 q781 q782 q105 q783) rfl rfl rfl (by decide +kernel) ⟨Nat.le_trans (Nat.le_of_ble_eq_true rfl) hR.1, Nat.le_trans (Nat.le_of_ble_eq_true rfl) hR.2⟩) ⟨uPc_blind, u_rcv hC hP c32 rfl, fun U hU hW => u_pre hC hP hS hU hW⟩ rfl rfl hl.1 rfl (lv_room (Nat.le_of_ble_eq_true rfl)) dX11_step_146 ⟨by omega, by omega⟩) hS (fun H locs hP hS => ?_)
      refine W.cs (cells' := u33.1 - u0.1) (slots' := u33.2.1 - u0.2.1) (by omega) (by omega) ?_
      refine W.cs (cells' := u33.1 - u0.1) (slots' := u33.2.1 - u0.2.1) (by omega) (by omega) ?_
      exact w_X11_step_149 hC hE hR hRm N  ro_X11_plan ro_X11_step ro_X11_inner zo_X11_plan zo_X11_step zo_X11_inner mo_X11_plan mx_X11_plan mo_X11_step mx_X11_step mo_X11_inner mx_X11_inner hRr u33 o35 h ⟨by omega, by omega⟩ hP hS (lv_sub hl [] rfl)
  · have h := ucase_s h
    refine lv_ifnull hx hb dX11_step_89 ?_
    obtain ⟨a37, ea37⟩ : ∃ z : Nat, z = u.1 := ⟨_, rfl⟩
    have h := mlet_at ea37 h
    obtain ⟨u36, eu36⟩ : ∃ z : UH, z = uNew u 2 (.inr (10, uDefs tyX12 2)) := ⟨_, rfl⟩
    have h := mlet_at eu36 h
    have zu36 : u36.1 = u.1 + 1 ∧ u36.2.1 = u.2.1 + 2 := by rw [eu36]; exact ⟨rfl, rfl⟩
    have hq := zz_X11_step_95 (G := G) (a0 := a0) N ro_X11_plan ro_X11_step ro_X11_inner zo_X11_plan zo_X11_step zo_X11_inner u36 (some a1) (some a37) h
    refine u_new hC hP hS (T := TX12) (N := 2) (ci := 10) rfl in_X12 tyX12 tyX12_ok q1581 q1582 q129 (by omega) (by omega) dX11_step_92 (fun H hP hS => ?_)
    rw [← eu36] at hP
    rw [← ea37]
    refine W.cs (cells' := u36.1 - u0.1) (slots' := u36.2.1 - u0.2.1) (by omega) (by omega) ?_
    refine W.cs (cells' := u36.1 - u0.1) (slots' := u36.2.1 - u0.2.1) (by omega) (by omega) ?_
    exact w_X11_step_95 hC hE hR hRm N  ro_X11_plan ro_X11_step ro_X11_inner zo_X11_plan zo_X11_step zo_X11_inner mo_X11_plan mx_X11_plan mo_X11_step mx_X11_step mo_X11_inner mx_X11_inner hRr u36 (some a1) (some a37) h ⟨by omega, by omega⟩ hP hS (lv_sub hl [0, 1] rfl)
def f_X11_step_70 (N b : Nat) (g : uEnv) (ro_X11_plan : UH → Nat → Option ((Nat × UH) ⊕ (Option Nat × UH))) (ro_X11_step : UH → Nat → Option ((Nat × UH) ⊕ (Option Nat × UH))) (ro_X11_inner : UH → Nat → Option ((Nat × UH) ⊕ (Option Nat × UH))) (a0 : Nat) (u : UH) (s0 : Option Nat) : Option ((Nat × UH) ⊕ (Option Nat × UH)) :=
    (s0).bind fun a1 =>
    some (.inl (a1, u))
set_option maxHeartbeats 4000000 in
set_option maxRecDepth 100000 in
theorem zz_X11_step_70 {G : uG} {a0 : Nat} {z : (Nat × UH) ⊕ (Option Nat × UH)} (N : Nat) (ro_X11_plan : UH → Nat → Option ((Nat × UH) ⊕ (Option Nat × UH))) (ro_X11_step : UH → Nat → Option ((Nat × UH) ⊕ (Option Nat × UH))) (ro_X11_inner : UH → Nat → Option ((Nat × UH) ⊕ (Option Nat × UH))) (zo_X11_plan : ∀ (u : UH) (a0 : Nat) (z : (Nat × UH) ⊕ (Option Nat × UH)), ro_X11_plan u a0 = some z → u.1 ≤ (uX1 z).1 ∧ u.2.1 ≤ (uX1 z).2.1) (zo_X11_step : ∀ (u : UH) (a0 : Nat) (z : (Nat × UH) ⊕ (Option Nat × UH)), ro_X11_step u a0 = some z → u.1 ≤ (uX1 z).1 ∧ u.2.1 ≤ (uX1 z).2.1) (zo_X11_inner : ∀ (u : UH) (a0 : Nat) (z : (Nat × UH) ⊕ (Option Nat × UH)), ro_X11_inner u a0 = some z → u.1 ≤ (uX1 z).1 ∧ u.2.1 ≤ (uX1 z).2.1) (u : UH) (s0 : Option Nat) (h : f_X11_step_70 N (ub G) (ug G) ro_X11_plan ro_X11_step ro_X11_inner a0 u s0 = some z) : u.1 ≤ (uX1 z).1 ∧ u.2.1 ≤ (uX1 z).2.1 := by
  unfold f_X11_step_70 at h
  obtain ⟨a1, ha1, hha1⟩ := mbind_n h
  subst ha1
  have h := hha1
  have hz := Option.some.inj h
  subst hz
  exact (show u.1 ≤ u.1 ∧ u.2.1 ≤ u.2.1 from ⟨by omega, by omega⟩)
set_option maxHeartbeats 4000000 in
set_option maxRecDepth 100000 in
theorem w_X11_step_70 {p : Program} {l : Launch} {e : Env} {R : Room} {s : State} {m : MethodId} {args : Array Value} {below : List Frame} {meth : Method} {c : Code} {G : uG} {a0 : Nat} {u0 : UH} {z : (Nat × UH) ⊕ (Option Nat × UH)} (hC : uC p s m args meth c G RX11 cX11_step 5 (some (.object "SoftWheels$Doing"))) (hE : c.exceptionTable.toList = []) (hR : 10 ≤ R.frames ∧ 257 ≤ R.locals) (hRm : (uX1 z).1 - u0.1 ≤ R.cells ∧ (uX1 z).2.1 - u0.2.1 ≤ R.slots) (N : Nat) (ro_X11_plan : UH → Nat → Option ((Nat × UH) ⊕ (Option Nat × UH))) (ro_X11_step : UH → Nat → Option ((Nat × UH) ⊕ (Option Nat × UH))) (ro_X11_inner : UH → Nat → Option ((Nat × UH) ⊕ (Option Nat × UH))) (zo_X11_plan : ∀ (u : UH) (a0 : Nat) (z : (Nat × UH) ⊕ (Option Nat × UH)), ro_X11_plan u a0 = some z → u.1 ≤ (uX1 z).1 ∧ u.2.1 ≤ (uX1 z).2.1) (zo_X11_step : ∀ (u : UH) (a0 : Nat) (z : (Nat × UH) ⊕ (Option Nat × UH)), ro_X11_step u a0 = some z → u.1 ≤ (uX1 z).1 ∧ u.2.1 ≤ (uX1 z).2.1) (zo_X11_inner : ∀ (u : UH) (a0 : Nat) (z : (Nat × UH) ⊕ (Option Nat × UH)), ro_X11_inner u a0 = some z → u.1 ≤ (uX1 z).1 ∧ u.2.1 ≤ (uX1 z).2.1) {DF DL : Nat} (mo_X11_plan : ∀ (u : UH) (a0 : Nat) (r : Option Nat) (uf : UH), ro_X11_plan u a0 = some (.inr (r, uf)) → Met l yX11_plan (ws_ yX11_plan cX11_plan 2 (some (.object "java/util/List"))) ({ frames := DF, cells := (uf.1 - u.1), slots := (uf.2.1 - u.2.1), locals := DL }) (uPc G u [.ref a0]) (uQr G r uf) (uf.1 - u.1) (uf.2.1 - u.2.1) (uA G)) (mx_X11_plan : ∀ (u : UH) (a0 : Nat) (x : Nat) (uf : UH), ro_X11_plan u a0 = some (.inl (x, uf)) → uMX l yX11_plan (ws_ yX11_plan cX11_plan 2 (some (.object "java/util/List"))) ({ frames := DF, cells := uf.1 - u.1, slots := uf.2.1 - u.2.1, locals := DL }) G u [.ref a0] x uf (uf.1 - u.1) (uf.2.1 - u.2.1)) (mo_X11_step : ∀ (u : UH) (a0 : Nat) (r : Option Nat) (uf : UH), ro_X11_step u a0 = some (.inr (r, uf)) → Met l yX11_step (ws_ yX11_step cX11_step 5 (some (.object "SoftWheels$Doing"))) ({ frames := DF, cells := (uf.1 - u.1), slots := (uf.2.1 - u.2.1), locals := DL }) (uPc G u [.ref a0]) (uQr G r uf) (uf.1 - u.1) (uf.2.1 - u.2.1) (uA G)) (mx_X11_step : ∀ (u : UH) (a0 : Nat) (x : Nat) (uf : UH), ro_X11_step u a0 = some (.inl (x, uf)) → uMX l yX11_step (ws_ yX11_step cX11_step 5 (some (.object "SoftWheels$Doing"))) ({ frames := DF, cells := uf.1 - u.1, slots := uf.2.1 - u.2.1, locals := DL }) G u [.ref a0] x uf (uf.1 - u.1) (uf.2.1 - u.2.1)) (mo_X11_inner : ∀ (u : UH) (a0 : Nat) (r : Option Nat) (uf : UH), ro_X11_inner u a0 = some (.inr (r, uf)) → Met l yX11_inner (ws_ yX11_inner cX11_inner 2 (some (.object "java/util/List"))) ({ frames := DF, cells := (uf.1 - u.1), slots := (uf.2.1 - u.2.1), locals := DL }) (uPc G u [.ref a0]) (uQr G r uf) (uf.1 - u.1) (uf.2.1 - u.2.1) (uA G)) (mx_X11_inner : ∀ (u : UH) (a0 : Nat) (x : Nat) (uf : UH), ro_X11_inner u a0 = some (.inl (x, uf)) → uMX l yX11_inner (ws_ yX11_inner cX11_inner 2 (some (.object "java/util/List"))) ({ frames := DF, cells := uf.1 - u.1, slots := uf.2.1 - u.2.1, locals := DL }) G u [.ref a0] x uf (uf.1 - u.1) (uf.2.1 - u.2.1)) (hRr : DF + 1 ≤ R.frames ∧ 60 + DL ≤ R.locals) (u : UH) (s0 : Option Nat) (h : f_X11_step_70 N (ub G) (ug G) ro_X11_plan ro_X11_step ro_X11_inner a0 u s0 = some z) (hz0 : (u0.1 ≤ u.1 ∧ u0.2.1 ≤ u.2.1)) {H : Heap} {locs : List Loc} (hP : uP G u H) (hS : va_S (uA G) s.heap H locs) {ls : Array Slot} (hl : lv_has ls 5 []) : W p l e R s m args below meth c H locs (u.1 - u0.1) (u.2.1 - u0.2.1) (uMQr below G z args s ((uX1 z).1 - u0.1) ((uX1 z).2.1 - u0.2.1)) (F0 m 70 ls [va_rf s0]) := by
  obtain ⟨⟨hx, hb, hml, hown, hts⟩, hKK⟩ := id hC
  have hzf := zz_X11_step_70 (G := G) (a0 := a0) N ro_X11_plan ro_X11_step ro_X11_inner zo_X11_plan zo_X11_step zo_X11_inner u s0 h
  unfold f_X11_step_70 at h
  obtain ⟨a1, ha1, hha1⟩ := mbind_n h
  subst ha1
  have h := hha1
  have hz := Option.some.inj h
  subst hz
  exact u_athrow hC (u_noE hE) hP hS dX11_step_70
def f_X11_step_53 (N b : Nat) (g : uEnv) (ro_X11_plan : UH → Nat → Option ((Nat × UH) ⊕ (Option Nat × UH))) (ro_X11_step : UH → Nat → Option ((Nat × UH) ⊕ (Option Nat × UH))) (ro_X11_inner : UH → Nat → Option ((Nat × UH) ⊕ (Option Nat × UH))) (a0 : Nat) (u : UH) (x1 : Option Nat) : Option ((Nat × UH) ⊕ (Option Nat × UH)) :=
    (uGI u a0 9 3).bind fun y1 =>
    if y1 = 40 then
    (uGR u a0 9 0).bind fun o10 =>
    (o10).bind fun a11 =>
    if uIs u a11 4 = true then
    ucall (f_X5_fault N b g u a11 5) fun o15 u13 =>
    f_X11_step_70 N b g ro_X11_plan ro_X11_step ro_X11_inner a0 u13 o15
    else none
    else
    (uGI u a0 9 3).bind fun y3 =>
    (uPut b u a0 9 3 (.int (y3 + 1))).bind fun u4 =>
    (uGR u4 a0 9 0).bind fun o5 =>
    (o5).bind fun a6 =>
    if uIs u4 a6 4 = true then
    (f_X5_next N b g u4 a6).bind fun u8 =>
    f_X11_step_88 N b g ro_X11_plan ro_X11_step ro_X11_inner a0 u8 x1
    else none
set_option maxHeartbeats 4000000 in
set_option maxRecDepth 100000 in
theorem zz_X11_step_53 {G : uG} {a0 : Nat} {z : (Nat × UH) ⊕ (Option Nat × UH)} (N : Nat) (ro_X11_plan : UH → Nat → Option ((Nat × UH) ⊕ (Option Nat × UH))) (ro_X11_step : UH → Nat → Option ((Nat × UH) ⊕ (Option Nat × UH))) (ro_X11_inner : UH → Nat → Option ((Nat × UH) ⊕ (Option Nat × UH))) (zo_X11_plan : ∀ (u : UH) (a0 : Nat) (z : (Nat × UH) ⊕ (Option Nat × UH)), ro_X11_plan u a0 = some z → u.1 ≤ (uX1 z).1 ∧ u.2.1 ≤ (uX1 z).2.1) (zo_X11_step : ∀ (u : UH) (a0 : Nat) (z : (Nat × UH) ⊕ (Option Nat × UH)), ro_X11_step u a0 = some z → u.1 ≤ (uX1 z).1 ∧ u.2.1 ≤ (uX1 z).2.1) (zo_X11_inner : ∀ (u : UH) (a0 : Nat) (z : (Nat × UH) ⊕ (Option Nat × UH)), ro_X11_inner u a0 = some z → u.1 ≤ (uX1 z).1 ∧ u.2.1 ≤ (uX1 z).2.1) (u : UH) (x1 : Option Nat) (h : f_X11_step_53 N (ub G) (ug G) ro_X11_plan ro_X11_step ro_X11_inner a0 u x1 = some z) : u.1 ≤ (uX1 z).1 ∧ u.2.1 ≤ (uX1 z).2.1 := by
  unfold f_X11_step_53 at h
  obtain ⟨y1, hy1, h⟩ := mbind_n h
  by_cases c2 : y1 = 40
  · have h := mif_t c2 h
    obtain ⟨o10, ho10, h⟩ := mbind_n h
    obtain ⟨a11, ha11, hha11⟩ := mbind_n h
    subst ha11
    have h := hha11
    obtain ⟨c12, h⟩ := mif_n h
    obtain ⟨o15, u13, c14, h⟩ := ucall_n h
    have zu13 := zz_X5_fault N (ub G) (ug G) u a11 5 o15 u13 c14
    have hq := zz_X11_step_70 (G := G) (a0 := a0) N  ro_X11_plan ro_X11_step ro_X11_inner zo_X11_plan zo_X11_step zo_X11_inner u13 o15 h
    exact ⟨by omega, by omega⟩
  · have h := mif_f c2 h
    obtain ⟨y3, hy3, h⟩ := mbind_n h
    obtain ⟨u4, hu4, h⟩ := mbind_n h
    have zu4 := uPut_sz hu4
    obtain ⟨o5, ho5, h⟩ := mbind_n h
    obtain ⟨a6, ha6, hha6⟩ := mbind_n h
    subst ha6
    have h := hha6
    obtain ⟨c7, h⟩ := mif_n h
    obtain ⟨u8, c9, h⟩ := mbind_n h
    have zu8 := zz_X5_next N (ub G) (ug G) u4 a6 u8 c9
    have hq := zz_X11_step_88 (G := G) (a0 := a0) N  ro_X11_plan ro_X11_step ro_X11_inner zo_X11_plan zo_X11_step zo_X11_inner u8 x1 h
    exact ⟨by omega, by omega⟩
set_option maxHeartbeats 4000000 in
set_option maxRecDepth 100000 in
theorem w_X11_step_53 {p : Program} {l : Launch} {e : Env} {R : Room} {s : State} {m : MethodId} {args : Array Value} {below : List Frame} {meth : Method} {c : Code} {G : uG} {a0 : Nat} {u0 : UH} {z : (Nat × UH) ⊕ (Option Nat × UH)} (hC : uC p s m args meth c G RX11 cX11_step 5 (some (.object "SoftWheels$Doing"))) (hE : c.exceptionTable.toList = []) (hR : 10 ≤ R.frames ∧ 257 ≤ R.locals) (hRm : (uX1 z).1 - u0.1 ≤ R.cells ∧ (uX1 z).2.1 - u0.2.1 ≤ R.slots) (N : Nat) (ro_X11_plan : UH → Nat → Option ((Nat × UH) ⊕ (Option Nat × UH))) (ro_X11_step : UH → Nat → Option ((Nat × UH) ⊕ (Option Nat × UH))) (ro_X11_inner : UH → Nat → Option ((Nat × UH) ⊕ (Option Nat × UH))) (zo_X11_plan : ∀ (u : UH) (a0 : Nat) (z : (Nat × UH) ⊕ (Option Nat × UH)), ro_X11_plan u a0 = some z → u.1 ≤ (uX1 z).1 ∧ u.2.1 ≤ (uX1 z).2.1) (zo_X11_step : ∀ (u : UH) (a0 : Nat) (z : (Nat × UH) ⊕ (Option Nat × UH)), ro_X11_step u a0 = some z → u.1 ≤ (uX1 z).1 ∧ u.2.1 ≤ (uX1 z).2.1) (zo_X11_inner : ∀ (u : UH) (a0 : Nat) (z : (Nat × UH) ⊕ (Option Nat × UH)), ro_X11_inner u a0 = some z → u.1 ≤ (uX1 z).1 ∧ u.2.1 ≤ (uX1 z).2.1) {DF DL : Nat} (mo_X11_plan : ∀ (u : UH) (a0 : Nat) (r : Option Nat) (uf : UH), ro_X11_plan u a0 = some (.inr (r, uf)) → Met l yX11_plan (ws_ yX11_plan cX11_plan 2 (some (.object "java/util/List"))) ({ frames := DF, cells := (uf.1 - u.1), slots := (uf.2.1 - u.2.1), locals := DL }) (uPc G u [.ref a0]) (uQr G r uf) (uf.1 - u.1) (uf.2.1 - u.2.1) (uA G)) (mx_X11_plan : ∀ (u : UH) (a0 : Nat) (x : Nat) (uf : UH), ro_X11_plan u a0 = some (.inl (x, uf)) → uMX l yX11_plan (ws_ yX11_plan cX11_plan 2 (some (.object "java/util/List"))) ({ frames := DF, cells := uf.1 - u.1, slots := uf.2.1 - u.2.1, locals := DL }) G u [.ref a0] x uf (uf.1 - u.1) (uf.2.1 - u.2.1)) (mo_X11_step : ∀ (u : UH) (a0 : Nat) (r : Option Nat) (uf : UH), ro_X11_step u a0 = some (.inr (r, uf)) → Met l yX11_step (ws_ yX11_step cX11_step 5 (some (.object "SoftWheels$Doing"))) ({ frames := DF, cells := (uf.1 - u.1), slots := (uf.2.1 - u.2.1), locals := DL }) (uPc G u [.ref a0]) (uQr G r uf) (uf.1 - u.1) (uf.2.1 - u.2.1) (uA G)) (mx_X11_step : ∀ (u : UH) (a0 : Nat) (x : Nat) (uf : UH), ro_X11_step u a0 = some (.inl (x, uf)) → uMX l yX11_step (ws_ yX11_step cX11_step 5 (some (.object "SoftWheels$Doing"))) ({ frames := DF, cells := uf.1 - u.1, slots := uf.2.1 - u.2.1, locals := DL }) G u [.ref a0] x uf (uf.1 - u.1) (uf.2.1 - u.2.1)) (mo_X11_inner : ∀ (u : UH) (a0 : Nat) (r : Option Nat) (uf : UH), ro_X11_inner u a0 = some (.inr (r, uf)) → Met l yX11_inner (ws_ yX11_inner cX11_inner 2 (some (.object "java/util/List"))) ({ frames := DF, cells := (uf.1 - u.1), slots := (uf.2.1 - u.2.1), locals := DL }) (uPc G u [.ref a0]) (uQr G r uf) (uf.1 - u.1) (uf.2.1 - u.2.1) (uA G)) (mx_X11_inner : ∀ (u : UH) (a0 : Nat) (x : Nat) (uf : UH), ro_X11_inner u a0 = some (.inl (x, uf)) → uMX l yX11_inner (ws_ yX11_inner cX11_inner 2 (some (.object "java/util/List"))) ({ frames := DF, cells := uf.1 - u.1, slots := uf.2.1 - u.2.1, locals := DL }) G u [.ref a0] x uf (uf.1 - u.1) (uf.2.1 - u.2.1)) (hRr : DF + 1 ≤ R.frames ∧ 60 + DL ≤ R.locals) (u : UH) (x1 : Option Nat) (h : f_X11_step_53 N (ub G) (ug G) ro_X11_plan ro_X11_step ro_X11_inner a0 u x1 = some z) (hz0 : (u0.1 ≤ u.1 ∧ u0.2.1 ≤ u.2.1)) {H : Heap} {locs : List Loc} (hP : uP G u H) (hS : va_S (uA G) s.heap H locs) {ls : Array Slot} (hl : lv_has ls 5 [(0, va_rf (some a0)), (1, va_rf x1)]) : W p l e R s m args below meth c H locs (u.1 - u0.1) (u.2.1 - u0.2.1) (uMQr below G z args s ((uX1 z).1 - u0.1) ((uX1 z).2.1 - u0.2.1)) (F0 m 53 ls []) := by
  obtain ⟨⟨hx, hb, hml, hown, hts⟩, hKK⟩ := id hC
  have hzf := zz_X11_step_53 (G := G) (a0 := a0) N ro_X11_plan ro_X11_step ro_X11_inner zo_X11_plan zo_X11_step zo_X11_inner u x1 h
  unfold f_X11_step_53 at h
  refine u_aload_n (r := some a0) hx hb dX11_step_53 rfl (lv_at hl 0 rfl) ?_
  obtain ⟨y1, hy1, h⟩ := mbind_n h
  refine u_get hC hP (uGI_n hy1) rfl in_X11 (by decide) q1548 (fun _ h => h) dX11_step_54 ?_
  refine lv_bipush (v := 40) hx hb dX11_step_57 (by decide) ?_
  refine lv_icmp_ne (tgt := 71) hx hb dX11_step_59 (by decide) (fun c2 => ?_) (fun c2 => ?_)
  · have h := mif_f c2 h
    refine u_aload_n (r := some a0) hx hb dX11_step_71 rfl (lv_at hl 0 rfl) ?_
    refine lv_dup hx hb dX11_step_72 (u_cat _) ?_
    obtain ⟨y3, hy3, h⟩ := mbind_n h
    refine u_get hC hP (uGI_n hy3) rfl in_X11 (by decide) q1548 (fun _ h => h) dX11_step_73 ?_
    refine lv_iconst (v := 1) hx hb dX11_step_76 (by decide) ?_
    refine lv_iadd hx hb dX11_step_77 ?_
    obtain ⟨u4, hu4, h⟩ := mbind_n h
    have zu4 := uPut_sz hu4
    refine u_put hC hP hS hu4 rfl in_X11 tyX11 tyX11_ok nmX11 (by decide) q1548 (fun _ h => h) rfl (ty := .int) (tyX11_ok 3 (by decide)) rfl rfl dX11_step_78 (fun H locs hP hS => ?_)
    refine W.cs (cells' := u4.1 - u0.1) (slots' := u4.2.1 - u0.2.1) (by omega) (by omega) ?_
    refine u_aload_n (r := some a0) hx hb dX11_step_81 rfl (lv_at hl 0 rfl) ?_
    obtain ⟨o5, ho5, h⟩ := mbind_n h
    refine u_get hC hP (uGR_n ho5) rfl in_X11 (by decide) q1545 (fun _ h => h) dX11_step_82 ?_
    obtain ⟨a6, ha6, hha6⟩ := mbind_n h
    subst ha6
    have h := hha6
    obtain ⟨c7, h⟩ := mif_n h
    obtain ⟨u8, c9, h⟩ := mbind_n h
    have zu8 := zz_X5_next N (ub G) (ug G) u4 a6 u8 c9
    have hq := zz_X11_step_88 (G := G) (a0 := a0) N ro_X11_plan ro_X11_step ro_X11_inner zo_X11_plan zo_X11_step zo_X11_inner u8 x1 h
    refine u_callv (va_runV (As := []) (rest := []) hC.1 (met_X5_next l N G u4 a6 u8 c9) (cwV 0 hts (lw_V q1580 q340 q341 q105 q342) rfl rfl rfl (by decide +kernel) ⟨Nat.le_trans (Nat.le_of_ble_eq_true rfl) hR.1, Nat.le_trans (Nat.le_of_ble_eq_true rfl) hR.2⟩) ⟨uPc_blind, u_rcv hC hP c7 rfl, fun U hU hW => u_pre hC hP hS hU hW⟩ rfl rfl hl.1 rfl (lv_room (Nat.le_of_ble_eq_true rfl)) dX11_step_85 ⟨by omega, by omega⟩) hS (fun H locs hP hS => ?_)
    refine W.cs (cells' := u8.1 - u0.1) (slots' := u8.2.1 - u0.2.1) (by omega) (by omega) ?_
    refine W.cs (cells' := u8.1 - u0.1) (slots' := u8.2.1 - u0.2.1) (by omega) (by omega) ?_
    exact w_X11_step_88 hC hE hR hRm N  ro_X11_plan ro_X11_step ro_X11_inner zo_X11_plan zo_X11_step zo_X11_inner mo_X11_plan mx_X11_plan mo_X11_step mx_X11_step mo_X11_inner mx_X11_inner hRr u8 x1 h ⟨by omega, by omega⟩ hP hS (lv_sub hl [0, 1] rfl)
  · have h := mif_t c2 h
    refine u_aload_n (r := some a0) hx hb dX11_step_62 rfl (lv_at hl 0 rfl) ?_
    obtain ⟨o10, ho10, h⟩ := mbind_n h
    refine u_get hC hP (uGR_n ho10) rfl in_X11 (by decide) q1545 (fun _ h => h) dX11_step_63 ?_
    refine lv_iconst (v := 5) hx hb dX11_step_66 (by decide) ?_
    obtain ⟨a11, ha11, hha11⟩ := mbind_n h
    subst ha11
    have h := hha11
    obtain ⟨c12, h⟩ := mif_n h
    obtain ⟨o15, u13, c14, h⟩ := ucall_n h
    have zu13 := zz_X5_fault N (ub G) (ug G) u a11 5 o15 u13 c14
    have hq := zz_X11_step_70 (G := G) (a0 := a0) N ro_X11_plan ro_X11_step ro_X11_inner zo_X11_plan zo_X11_step zo_X11_inner u13 o15 h
    refine u_callr (va_runV (As := [.int 5]) (rest := []) hC.1 (met_X5_fault l N G u a11 5 o15 u13 c14) (cwV 1 hts (lw_V q1579 q781 q782 q105 q783) rfl rfl rfl (by decide +kernel) ⟨Nat.le_trans (Nat.le_of_ble_eq_true rfl) hR.1, Nat.le_trans (Nat.le_of_ble_eq_true rfl) hR.2⟩) ⟨uPc_blind, u_rcv hC hP c12 rfl, fun U hU hW => u_pre hC hP hS hU hW⟩ rfl rfl hl.1 rfl (lv_room (Nat.le_of_ble_eq_true rfl)) dX11_step_67 ⟨by omega, by omega⟩) hS (fun H locs hP hS => ?_)
    refine W.cs (cells' := u13.1 - u0.1) (slots' := u13.2.1 - u0.2.1) (by omega) (by omega) ?_
    refine W.cs (cells' := u13.1 - u0.1) (slots' := u13.2.1 - u0.2.1) (by omega) (by omega) ?_
    exact w_X11_step_70 hC hE hR hRm N  ro_X11_plan ro_X11_step ro_X11_inner zo_X11_plan zo_X11_step zo_X11_inner mo_X11_plan mx_X11_plan mo_X11_step mx_X11_step mo_X11_inner mx_X11_inner hRr u13 o15 h ⟨by omega, by omega⟩ hP hS (lv_sub hl [] rfl)
def f_X11_step_52 (N b : Nat) (g : uEnv) (ro_X11_plan : UH → Nat → Option ((Nat × UH) ⊕ (Option Nat × UH))) (ro_X11_step : UH → Nat → Option ((Nat × UH) ⊕ (Option Nat × UH))) (ro_X11_inner : UH → Nat → Option ((Nat × UH) ⊕ (Option Nat × UH))) (a0 : Nat) (u : UH) (s0 : Option Nat) : Option ((Nat × UH) ⊕ (Option Nat × UH)) :=
    (s0).bind fun a1 =>
    some (.inl (a1, u))
set_option maxHeartbeats 4000000 in
set_option maxRecDepth 100000 in
theorem zz_X11_step_52 {G : uG} {a0 : Nat} {z : (Nat × UH) ⊕ (Option Nat × UH)} (N : Nat) (ro_X11_plan : UH → Nat → Option ((Nat × UH) ⊕ (Option Nat × UH))) (ro_X11_step : UH → Nat → Option ((Nat × UH) ⊕ (Option Nat × UH))) (ro_X11_inner : UH → Nat → Option ((Nat × UH) ⊕ (Option Nat × UH))) (zo_X11_plan : ∀ (u : UH) (a0 : Nat) (z : (Nat × UH) ⊕ (Option Nat × UH)), ro_X11_plan u a0 = some z → u.1 ≤ (uX1 z).1 ∧ u.2.1 ≤ (uX1 z).2.1) (zo_X11_step : ∀ (u : UH) (a0 : Nat) (z : (Nat × UH) ⊕ (Option Nat × UH)), ro_X11_step u a0 = some z → u.1 ≤ (uX1 z).1 ∧ u.2.1 ≤ (uX1 z).2.1) (zo_X11_inner : ∀ (u : UH) (a0 : Nat) (z : (Nat × UH) ⊕ (Option Nat × UH)), ro_X11_inner u a0 = some z → u.1 ≤ (uX1 z).1 ∧ u.2.1 ≤ (uX1 z).2.1) (u : UH) (s0 : Option Nat) (h : f_X11_step_52 N (ub G) (ug G) ro_X11_plan ro_X11_step ro_X11_inner a0 u s0 = some z) : u.1 ≤ (uX1 z).1 ∧ u.2.1 ≤ (uX1 z).2.1 := by
  unfold f_X11_step_52 at h
  obtain ⟨a1, ha1, hha1⟩ := mbind_n h
  subst ha1
  have h := hha1
  have hz := Option.some.inj h
  subst hz
  exact (show u.1 ≤ u.1 ∧ u.2.1 ≤ u.2.1 from ⟨by omega, by omega⟩)
set_option maxHeartbeats 4000000 in
set_option maxRecDepth 100000 in
theorem w_X11_step_52 {p : Program} {l : Launch} {e : Env} {R : Room} {s : State} {m : MethodId} {args : Array Value} {below : List Frame} {meth : Method} {c : Code} {G : uG} {a0 : Nat} {u0 : UH} {z : (Nat × UH) ⊕ (Option Nat × UH)} (hC : uC p s m args meth c G RX11 cX11_step 5 (some (.object "SoftWheels$Doing"))) (hE : c.exceptionTable.toList = []) (hR : 10 ≤ R.frames ∧ 257 ≤ R.locals) (hRm : (uX1 z).1 - u0.1 ≤ R.cells ∧ (uX1 z).2.1 - u0.2.1 ≤ R.slots) (N : Nat) (ro_X11_plan : UH → Nat → Option ((Nat × UH) ⊕ (Option Nat × UH))) (ro_X11_step : UH → Nat → Option ((Nat × UH) ⊕ (Option Nat × UH))) (ro_X11_inner : UH → Nat → Option ((Nat × UH) ⊕ (Option Nat × UH))) (zo_X11_plan : ∀ (u : UH) (a0 : Nat) (z : (Nat × UH) ⊕ (Option Nat × UH)), ro_X11_plan u a0 = some z → u.1 ≤ (uX1 z).1 ∧ u.2.1 ≤ (uX1 z).2.1) (zo_X11_step : ∀ (u : UH) (a0 : Nat) (z : (Nat × UH) ⊕ (Option Nat × UH)), ro_X11_step u a0 = some z → u.1 ≤ (uX1 z).1 ∧ u.2.1 ≤ (uX1 z).2.1) (zo_X11_inner : ∀ (u : UH) (a0 : Nat) (z : (Nat × UH) ⊕ (Option Nat × UH)), ro_X11_inner u a0 = some z → u.1 ≤ (uX1 z).1 ∧ u.2.1 ≤ (uX1 z).2.1) {DF DL : Nat} (mo_X11_plan : ∀ (u : UH) (a0 : Nat) (r : Option Nat) (uf : UH), ro_X11_plan u a0 = some (.inr (r, uf)) → Met l yX11_plan (ws_ yX11_plan cX11_plan 2 (some (.object "java/util/List"))) ({ frames := DF, cells := (uf.1 - u.1), slots := (uf.2.1 - u.2.1), locals := DL }) (uPc G u [.ref a0]) (uQr G r uf) (uf.1 - u.1) (uf.2.1 - u.2.1) (uA G)) (mx_X11_plan : ∀ (u : UH) (a0 : Nat) (x : Nat) (uf : UH), ro_X11_plan u a0 = some (.inl (x, uf)) → uMX l yX11_plan (ws_ yX11_plan cX11_plan 2 (some (.object "java/util/List"))) ({ frames := DF, cells := uf.1 - u.1, slots := uf.2.1 - u.2.1, locals := DL }) G u [.ref a0] x uf (uf.1 - u.1) (uf.2.1 - u.2.1)) (mo_X11_step : ∀ (u : UH) (a0 : Nat) (r : Option Nat) (uf : UH), ro_X11_step u a0 = some (.inr (r, uf)) → Met l yX11_step (ws_ yX11_step cX11_step 5 (some (.object "SoftWheels$Doing"))) ({ frames := DF, cells := (uf.1 - u.1), slots := (uf.2.1 - u.2.1), locals := DL }) (uPc G u [.ref a0]) (uQr G r uf) (uf.1 - u.1) (uf.2.1 - u.2.1) (uA G)) (mx_X11_step : ∀ (u : UH) (a0 : Nat) (x : Nat) (uf : UH), ro_X11_step u a0 = some (.inl (x, uf)) → uMX l yX11_step (ws_ yX11_step cX11_step 5 (some (.object "SoftWheels$Doing"))) ({ frames := DF, cells := uf.1 - u.1, slots := uf.2.1 - u.2.1, locals := DL }) G u [.ref a0] x uf (uf.1 - u.1) (uf.2.1 - u.2.1)) (mo_X11_inner : ∀ (u : UH) (a0 : Nat) (r : Option Nat) (uf : UH), ro_X11_inner u a0 = some (.inr (r, uf)) → Met l yX11_inner (ws_ yX11_inner cX11_inner 2 (some (.object "java/util/List"))) ({ frames := DF, cells := (uf.1 - u.1), slots := (uf.2.1 - u.2.1), locals := DL }) (uPc G u [.ref a0]) (uQr G r uf) (uf.1 - u.1) (uf.2.1 - u.2.1) (uA G)) (mx_X11_inner : ∀ (u : UH) (a0 : Nat) (x : Nat) (uf : UH), ro_X11_inner u a0 = some (.inl (x, uf)) → uMX l yX11_inner (ws_ yX11_inner cX11_inner 2 (some (.object "java/util/List"))) ({ frames := DF, cells := uf.1 - u.1, slots := uf.2.1 - u.2.1, locals := DL }) G u [.ref a0] x uf (uf.1 - u.1) (uf.2.1 - u.2.1)) (hRr : DF + 1 ≤ R.frames ∧ 60 + DL ≤ R.locals) (u : UH) (s0 : Option Nat) (h : f_X11_step_52 N (ub G) (ug G) ro_X11_plan ro_X11_step ro_X11_inner a0 u s0 = some z) (hz0 : (u0.1 ≤ u.1 ∧ u0.2.1 ≤ u.2.1)) {H : Heap} {locs : List Loc} (hP : uP G u H) (hS : va_S (uA G) s.heap H locs) {ls : Array Slot} (hl : lv_has ls 5 []) : W p l e R s m args below meth c H locs (u.1 - u0.1) (u.2.1 - u0.2.1) (uMQr below G z args s ((uX1 z).1 - u0.1) ((uX1 z).2.1 - u0.2.1)) (F0 m 52 ls [va_rf s0]) := by
  obtain ⟨⟨hx, hb, hml, hown, hts⟩, hKK⟩ := id hC
  have hzf := zz_X11_step_52 (G := G) (a0 := a0) N ro_X11_plan ro_X11_step ro_X11_inner zo_X11_plan zo_X11_step zo_X11_inner u s0 h
  unfold f_X11_step_52 at h
  obtain ⟨a1, ha1, hha1⟩ := mbind_n h
  subst ha1
  have h := hha1
  have hz := Option.some.inj h
  subst hz
  exact u_athrow hC (u_noE hE) hP hS dX11_step_52
def f_X11_step_27 (N b : Nat) (g : uEnv) (ro_X11_plan : UH → Nat → Option ((Nat × UH) ⊕ (Option Nat × UH))) (ro_X11_step : UH → Nat → Option ((Nat × UH) ⊕ (Option Nat × UH))) (ro_X11_inner : UH → Nat → Option ((Nat × UH) ⊕ (Option Nat × UH))) (a0 : Nat) (u : UH) (s0 : Option Nat) : Option ((Nat × UH) ⊕ (Option Nat × UH)) :=
    ucase s0 (
    (uGR u a0 9 0).bind fun o2 =>
    (o2).bind fun a3 =>
    if uIs u a3 4 = true then
    ucall (f_X5_is N b g u a3 (some (g.2.1 27))) fun r7 u5 =>
    if r7 = 0 then
    (uGR u5 a0 9 0).bind fun o9 =>
    (o9).bind fun a10 =>
    if uIs u5 a10 4 = true then
    ucall (f_X5_fault N b g u5 a10 1) fun o14 u12 =>
    f_X11_step_52 N b g ro_X11_plan ro_X11_step ro_X11_inner a0 u12 o14
    else none
    else
    f_X11_step_53 N b g ro_X11_plan ro_X11_step ro_X11_inner a0 u5 none
    else none) fun a1 =>
    f_X11_step_53 N b g ro_X11_plan ro_X11_step ro_X11_inner a0 u (some a1)
set_option maxHeartbeats 4000000 in
set_option maxRecDepth 100000 in
theorem zz_X11_step_27 {G : uG} {a0 : Nat} {z : (Nat × UH) ⊕ (Option Nat × UH)} (N : Nat) (ro_X11_plan : UH → Nat → Option ((Nat × UH) ⊕ (Option Nat × UH))) (ro_X11_step : UH → Nat → Option ((Nat × UH) ⊕ (Option Nat × UH))) (ro_X11_inner : UH → Nat → Option ((Nat × UH) ⊕ (Option Nat × UH))) (zo_X11_plan : ∀ (u : UH) (a0 : Nat) (z : (Nat × UH) ⊕ (Option Nat × UH)), ro_X11_plan u a0 = some z → u.1 ≤ (uX1 z).1 ∧ u.2.1 ≤ (uX1 z).2.1) (zo_X11_step : ∀ (u : UH) (a0 : Nat) (z : (Nat × UH) ⊕ (Option Nat × UH)), ro_X11_step u a0 = some z → u.1 ≤ (uX1 z).1 ∧ u.2.1 ≤ (uX1 z).2.1) (zo_X11_inner : ∀ (u : UH) (a0 : Nat) (z : (Nat × UH) ⊕ (Option Nat × UH)), ro_X11_inner u a0 = some z → u.1 ≤ (uX1 z).1 ∧ u.2.1 ≤ (uX1 z).2.1) (u : UH) (s0 : Option Nat) (h : f_X11_step_27 N (ub G) (ug G) ro_X11_plan ro_X11_step ro_X11_inner a0 u s0 = some z) : u.1 ≤ (uX1 z).1 ∧ u.2.1 ≤ (uX1 z).2.1 := by
  unfold f_X11_step_27 at h
  rcases s0 with _ | a1
  · have h := ucase_n h
    obtain ⟨o2, ho2, h⟩ := mbind_n h
    obtain ⟨a3, ha3, hha3⟩ := mbind_n h
    subst ha3
    have h := hha3
    obtain ⟨c4, h⟩ := mif_n h
    obtain ⟨r7, u5, c6, h⟩ := ucall_n h
    have zu5 := zz_X5_is N (ub G) (ug G) u a3 (some ((ug G).2.1 27)) r7 u5 c6
    by_cases c8 : r7 = 0
    · have h := mif_t c8 h
      obtain ⟨o9, ho9, h⟩ := mbind_n h
      obtain ⟨a10, ha10, hha10⟩ := mbind_n h
      subst ha10
      have h := hha10
      obtain ⟨c11, h⟩ := mif_n h
      obtain ⟨o14, u12, c13, h⟩ := ucall_n h
      have zu12 := zz_X5_fault N (ub G) (ug G) u5 a10 1 o14 u12 c13
      have hq := zz_X11_step_52 (G := G) (a0 := a0) N  ro_X11_plan ro_X11_step ro_X11_inner zo_X11_plan zo_X11_step zo_X11_inner u12 o14 h
      exact ⟨by omega, by omega⟩
    · have h := mif_f c8 h
      have hq := zz_X11_step_53 (G := G) (a0 := a0) N  ro_X11_plan ro_X11_step ro_X11_inner zo_X11_plan zo_X11_step zo_X11_inner u5 none h
      exact ⟨by omega, by omega⟩
  · have h := ucase_s h
    have hq := zz_X11_step_53 (G := G) (a0 := a0) N  ro_X11_plan ro_X11_step ro_X11_inner zo_X11_plan zo_X11_step zo_X11_inner u (some a1) h
    exact ⟨by omega, by omega⟩
set_option maxHeartbeats 4000000 in
set_option maxRecDepth 100000 in
theorem w_X11_step_27 {p : Program} {l : Launch} {e : Env} {R : Room} {s : State} {m : MethodId} {args : Array Value} {below : List Frame} {meth : Method} {c : Code} {G : uG} {a0 : Nat} {u0 : UH} {z : (Nat × UH) ⊕ (Option Nat × UH)} (hC : uC p s m args meth c G RX11 cX11_step 5 (some (.object "SoftWheels$Doing"))) (hE : c.exceptionTable.toList = []) (hR : 10 ≤ R.frames ∧ 257 ≤ R.locals) (hRm : (uX1 z).1 - u0.1 ≤ R.cells ∧ (uX1 z).2.1 - u0.2.1 ≤ R.slots) (N : Nat) (ro_X11_plan : UH → Nat → Option ((Nat × UH) ⊕ (Option Nat × UH))) (ro_X11_step : UH → Nat → Option ((Nat × UH) ⊕ (Option Nat × UH))) (ro_X11_inner : UH → Nat → Option ((Nat × UH) ⊕ (Option Nat × UH))) (zo_X11_plan : ∀ (u : UH) (a0 : Nat) (z : (Nat × UH) ⊕ (Option Nat × UH)), ro_X11_plan u a0 = some z → u.1 ≤ (uX1 z).1 ∧ u.2.1 ≤ (uX1 z).2.1) (zo_X11_step : ∀ (u : UH) (a0 : Nat) (z : (Nat × UH) ⊕ (Option Nat × UH)), ro_X11_step u a0 = some z → u.1 ≤ (uX1 z).1 ∧ u.2.1 ≤ (uX1 z).2.1) (zo_X11_inner : ∀ (u : UH) (a0 : Nat) (z : (Nat × UH) ⊕ (Option Nat × UH)), ro_X11_inner u a0 = some z → u.1 ≤ (uX1 z).1 ∧ u.2.1 ≤ (uX1 z).2.1) {DF DL : Nat} (mo_X11_plan : ∀ (u : UH) (a0 : Nat) (r : Option Nat) (uf : UH), ro_X11_plan u a0 = some (.inr (r, uf)) → Met l yX11_plan (ws_ yX11_plan cX11_plan 2 (some (.object "java/util/List"))) ({ frames := DF, cells := (uf.1 - u.1), slots := (uf.2.1 - u.2.1), locals := DL }) (uPc G u [.ref a0]) (uQr G r uf) (uf.1 - u.1) (uf.2.1 - u.2.1) (uA G)) (mx_X11_plan : ∀ (u : UH) (a0 : Nat) (x : Nat) (uf : UH), ro_X11_plan u a0 = some (.inl (x, uf)) → uMX l yX11_plan (ws_ yX11_plan cX11_plan 2 (some (.object "java/util/List"))) ({ frames := DF, cells := uf.1 - u.1, slots := uf.2.1 - u.2.1, locals := DL }) G u [.ref a0] x uf (uf.1 - u.1) (uf.2.1 - u.2.1)) (mo_X11_step : ∀ (u : UH) (a0 : Nat) (r : Option Nat) (uf : UH), ro_X11_step u a0 = some (.inr (r, uf)) → Met l yX11_step (ws_ yX11_step cX11_step 5 (some (.object "SoftWheels$Doing"))) ({ frames := DF, cells := (uf.1 - u.1), slots := (uf.2.1 - u.2.1), locals := DL }) (uPc G u [.ref a0]) (uQr G r uf) (uf.1 - u.1) (uf.2.1 - u.2.1) (uA G)) (mx_X11_step : ∀ (u : UH) (a0 : Nat) (x : Nat) (uf : UH), ro_X11_step u a0 = some (.inl (x, uf)) → uMX l yX11_step (ws_ yX11_step cX11_step 5 (some (.object "SoftWheels$Doing"))) ({ frames := DF, cells := uf.1 - u.1, slots := uf.2.1 - u.2.1, locals := DL }) G u [.ref a0] x uf (uf.1 - u.1) (uf.2.1 - u.2.1)) (mo_X11_inner : ∀ (u : UH) (a0 : Nat) (r : Option Nat) (uf : UH), ro_X11_inner u a0 = some (.inr (r, uf)) → Met l yX11_inner (ws_ yX11_inner cX11_inner 2 (some (.object "java/util/List"))) ({ frames := DF, cells := (uf.1 - u.1), slots := (uf.2.1 - u.2.1), locals := DL }) (uPc G u [.ref a0]) (uQr G r uf) (uf.1 - u.1) (uf.2.1 - u.2.1) (uA G)) (mx_X11_inner : ∀ (u : UH) (a0 : Nat) (x : Nat) (uf : UH), ro_X11_inner u a0 = some (.inl (x, uf)) → uMX l yX11_inner (ws_ yX11_inner cX11_inner 2 (some (.object "java/util/List"))) ({ frames := DF, cells := uf.1 - u.1, slots := uf.2.1 - u.2.1, locals := DL }) G u [.ref a0] x uf (uf.1 - u.1) (uf.2.1 - u.2.1)) (hRr : DF + 1 ≤ R.frames ∧ 60 + DL ≤ R.locals) (u : UH) (s0 : Option Nat) (h : f_X11_step_27 N (ub G) (ug G) ro_X11_plan ro_X11_step ro_X11_inner a0 u s0 = some z) (hz0 : (u0.1 ≤ u.1 ∧ u0.2.1 ≤ u.2.1)) {H : Heap} {locs : List Loc} (hP : uP G u H) (hS : va_S (uA G) s.heap H locs) {ls : Array Slot} (hl : lv_has ls 5 [(0, va_rf (some a0))]) : W p l e R s m args below meth c H locs (u.1 - u0.1) (u.2.1 - u0.2.1) (uMQr below G z args s ((uX1 z).1 - u0.1) ((uX1 z).2.1 - u0.2.1)) (F0 m 27 ls [va_rf s0]) := by
  obtain ⟨⟨hx, hb, hml, hown, hts⟩, hKK⟩ := id hC
  have hzf := zz_X11_step_27 (G := G) (a0 := a0) N ro_X11_plan ro_X11_step ro_X11_inner zo_X11_plan zo_X11_step zo_X11_inner u s0 h
  unfold f_X11_step_27 at h
  refine u_astore_n (i := 1) (r := s0) (lv' := [(1, va_rf s0), (0, va_rf (some a0))]) hx hb dX11_step_27 rfl hl (by decide) rfl (fun ls hl => ?_)
  refine u_aload_n (r := s0) hx hb dX11_step_28 rfl (lv_at hl 0 rfl) ?_
  rcases s0 with _ | a1
  · have h := ucase_n h
    refine lv_ifnonnullN hx hb dX11_step_29 ?_
    refine u_aload_n (r := some a0) hx hb dX11_step_32 rfl (lv_at hl 1 rfl) ?_
    obtain ⟨o2, ho2, h⟩ := mbind_n h
    refine u_get hC hP (uGR_n ho2) rfl in_X11 (by decide) q1545 (fun _ h => h) dX11_step_33 ?_
    refine u_ldcS hC 27 rfl dX11_step_36 ?_
    obtain ⟨a3, ha3, hha3⟩ := mbind_n h
    subst ha3
    have h := hha3
    obtain ⟨c4, h⟩ := mif_n h
    obtain ⟨r7, u5, c6, h⟩ := ucall_n h
    have zu5 := zz_X5_is N (ub G) (ug G) u a3 (some ((ug G).2.1 27)) r7 u5 c6
    refine u_calli (va_runV (As := [va_rf (some ((ug G).2.1 27))]) (rest := []) hC.1 (met_X5_is l N G u a3 (some ((ug G).2.1 27)) r7 u5 c6) (cwV 1 hts (lw_V q1578 q668 q669 q105 q670) rfl rfl rfl (by decide +kernel) ⟨Nat.le_trans (Nat.le_of_ble_eq_true rfl) hR.1, Nat.le_trans (Nat.le_of_ble_eq_true rfl) hR.2⟩) ⟨uPc_blind, u_rcv hC hP c4 rfl, fun U hU hW => u_pre hC hP hS hU hW⟩ rfl rfl hl.1 rfl (lv_room (Nat.le_of_ble_eq_true rfl)) dX11_step_38 ⟨by omega, by omega⟩) hS (fun H locs hP hS => ?_)
    refine W.cs (cells' := u5.1 - u0.1) (slots' := u5.2.1 - u0.2.1) (by omega) (by omega) ?_
    refine lv_if_ne (tgt := 53) hx hb dX11_step_41 (by decide) (fun c8 => ?_) (fun c8 => ?_)
    · have h := mif_f c8 h
      refine W.cs (cells' := u5.1 - u0.1) (slots' := u5.2.1 - u0.2.1) (by omega) (by omega) ?_
      exact w_X11_step_53 hC hE hR hRm N  ro_X11_plan ro_X11_step ro_X11_inner zo_X11_plan zo_X11_step zo_X11_inner mo_X11_plan mx_X11_plan mo_X11_step mx_X11_step mo_X11_inner mx_X11_inner hRr u5 none h ⟨by omega, by omega⟩ hP hS (lv_sub hl [1, 0] rfl)
    · have h := mif_t c8 h
      refine u_aload_n (r := some a0) hx hb dX11_step_44 rfl (lv_at hl 1 rfl) ?_
      obtain ⟨o9, ho9, h⟩ := mbind_n h
      refine u_get hC hP (uGR_n ho9) rfl in_X11 (by decide) q1545 (fun _ h => h) dX11_step_45 ?_
      refine lv_iconst (v := 1) hx hb dX11_step_48 (by decide) ?_
      obtain ⟨a10, ha10, hha10⟩ := mbind_n h
      subst ha10
      have h := hha10
      obtain ⟨c11, h⟩ := mif_n h
      obtain ⟨o14, u12, c13, h⟩ := ucall_n h
      have zu12 := zz_X5_fault N (ub G) (ug G) u5 a10 1 o14 u12 c13
      have hq := zz_X11_step_52 (G := G) (a0 := a0) N ro_X11_plan ro_X11_step ro_X11_inner zo_X11_plan zo_X11_step zo_X11_inner u12 o14 h
      refine u_callr (va_runV (As := [.int 1]) (rest := []) hC.1 (met_X5_fault l N G u5 a10 1 o14 u12 c13) (cwV 1 hts (lw_V q1579 q781 q782 q105 q783) rfl rfl rfl (by decide +kernel) ⟨Nat.le_trans (Nat.le_of_ble_eq_true rfl) hR.1, Nat.le_trans (Nat.le_of_ble_eq_true rfl) hR.2⟩) ⟨uPc_blind, u_rcv hC hP c11 rfl, fun U hU hW => u_pre hC hP hS hU hW⟩ rfl rfl hl.1 rfl (lv_room (Nat.le_of_ble_eq_true rfl)) dX11_step_49 ⟨by omega, by omega⟩) hS (fun H locs hP hS => ?_)
      refine W.cs (cells' := u12.1 - u0.1) (slots' := u12.2.1 - u0.2.1) (by omega) (by omega) ?_
      refine W.cs (cells' := u12.1 - u0.1) (slots' := u12.2.1 - u0.2.1) (by omega) (by omega) ?_
      exact w_X11_step_52 hC hE hR hRm N  ro_X11_plan ro_X11_step ro_X11_inner zo_X11_plan zo_X11_step zo_X11_inner mo_X11_plan mx_X11_plan mo_X11_step mx_X11_step mo_X11_inner mx_X11_inner hRr u12 o14 h ⟨by omega, by omega⟩ hP hS (lv_sub hl [] rfl)
  · have h := ucase_s h
    refine lv_ifnonnull (tgt := 53) hx hb dX11_step_29 (by decide) ?_
    refine W.cs (cells' := u.1 - u0.1) (slots' := u.2.1 - u0.2.1) (by omega) (by omega) ?_
    exact w_X11_step_53 hC hE hR hRm N  ro_X11_plan ro_X11_step ro_X11_inner zo_X11_plan zo_X11_step zo_X11_inner mo_X11_plan mx_X11_plan mo_X11_step mx_X11_step mo_X11_inner mx_X11_inner hRr u (some a1) h ⟨by omega, by omega⟩ hP hS (lv_sub hl [1, 0] rfl)
def fo_X11_step (N b : Nat) (g : uEnv) (ro_X11_plan : UH → Nat → Option ((Nat × UH) ⊕ (Option Nat × UH))) (ro_X11_step : UH → Nat → Option ((Nat × UH) ⊕ (Option Nat × UH))) (ro_X11_inner : UH → Nat → Option ((Nat × UH) ⊕ (Option Nat × UH))) (u : UH) (a0 : Nat) : Option ((Nat × UH) ⊕ (Option Nat × UH)) :=
    (uGR u a0 9 0).bind fun o1 =>
    (o1).bind fun a2 =>
    (uGR u a2 4 5).bind fun o3 =>
    mlet (g.1 2) fun o4 =>
    if o3 = o4 then
    (uGR u a0 9 0).bind fun o6 =>
    (o6).bind fun a7 =>
    (uGR u a7 4 6).bind fun o8 =>
    ucall (f_X7_of N b g u o8) fun o11 u9 =>
    f_X11_step_27 N b g ro_X11_plan ro_X11_step ro_X11_inner a0 u9 o11
    else
    f_X11_step_27 N b g ro_X11_plan ro_X11_step ro_X11_inner a0 u none
set_option maxHeartbeats 4000000 in
set_option maxRecDepth 100000 in
theorem zz_X11_step_0 {G : uG} {a0 : Nat} {z : (Nat × UH) ⊕ (Option Nat × UH)} (N : Nat) (ro_X11_plan : UH → Nat → Option ((Nat × UH) ⊕ (Option Nat × UH))) (ro_X11_step : UH → Nat → Option ((Nat × UH) ⊕ (Option Nat × UH))) (ro_X11_inner : UH → Nat → Option ((Nat × UH) ⊕ (Option Nat × UH))) (zo_X11_plan : ∀ (u : UH) (a0 : Nat) (z : (Nat × UH) ⊕ (Option Nat × UH)), ro_X11_plan u a0 = some z → u.1 ≤ (uX1 z).1 ∧ u.2.1 ≤ (uX1 z).2.1) (zo_X11_step : ∀ (u : UH) (a0 : Nat) (z : (Nat × UH) ⊕ (Option Nat × UH)), ro_X11_step u a0 = some z → u.1 ≤ (uX1 z).1 ∧ u.2.1 ≤ (uX1 z).2.1) (zo_X11_inner : ∀ (u : UH) (a0 : Nat) (z : (Nat × UH) ⊕ (Option Nat × UH)), ro_X11_inner u a0 = some z → u.1 ≤ (uX1 z).1 ∧ u.2.1 ≤ (uX1 z).2.1) (u : UH) (h : fo_X11_step N (ub G) (ug G) ro_X11_plan ro_X11_step ro_X11_inner u a0 = some z) : u.1 ≤ (uX1 z).1 ∧ u.2.1 ≤ (uX1 z).2.1 := by
  unfold fo_X11_step at h
  obtain ⟨o1, ho1, h⟩ := mbind_n h
  obtain ⟨a2, ha2, hha2⟩ := mbind_n h
  subst ha2
  have h := hha2
  obtain ⟨o3, ho3, h⟩ := mbind_n h
  obtain ⟨o4, eo4⟩ : ∃ z, z = (ug G).1 2 := ⟨_, rfl⟩
  have h := mlet_at eo4 h
  by_cases c5 : o3 = o4
  · have h := mif_t c5 h
    obtain ⟨o6, ho6, h⟩ := mbind_n h
    obtain ⟨a7, ha7, hha7⟩ := mbind_n h
    subst ha7
    have h := hha7
    obtain ⟨o8, ho8, h⟩ := mbind_n h
    obtain ⟨o11, u9, c10, h⟩ := ucall_n h
    have zu9 := zz_X7_of N (ub G) (ug G) u o8 o11 u9 c10
    have hq := zz_X11_step_27 (G := G) (a0 := a0) N  ro_X11_plan ro_X11_step ro_X11_inner zo_X11_plan zo_X11_step zo_X11_inner u9 o11 h
    exact ⟨by omega, by omega⟩
  · have h := mif_f c5 h
    have hq := zz_X11_step_27 (G := G) (a0 := a0) N  ro_X11_plan ro_X11_step ro_X11_inner zo_X11_plan zo_X11_step zo_X11_inner u none h
    exact ⟨by omega, by omega⟩
set_option maxHeartbeats 4000000 in
set_option maxRecDepth 100000 in
theorem w_X11_step_0 {p : Program} {l : Launch} {e : Env} {R : Room} {s : State} {m : MethodId} {args : Array Value} {below : List Frame} {meth : Method} {c : Code} {G : uG} {a0 : Nat} {u0 : UH} {z : (Nat × UH) ⊕ (Option Nat × UH)} (hC : uC p s m args meth c G RX11 cX11_step 5 (some (.object "SoftWheels$Doing"))) (hE : c.exceptionTable.toList = []) (hR : 10 ≤ R.frames ∧ 257 ≤ R.locals) (hRm : (uX1 z).1 - u0.1 ≤ R.cells ∧ (uX1 z).2.1 - u0.2.1 ≤ R.slots) (N : Nat) (ro_X11_plan : UH → Nat → Option ((Nat × UH) ⊕ (Option Nat × UH))) (ro_X11_step : UH → Nat → Option ((Nat × UH) ⊕ (Option Nat × UH))) (ro_X11_inner : UH → Nat → Option ((Nat × UH) ⊕ (Option Nat × UH))) (zo_X11_plan : ∀ (u : UH) (a0 : Nat) (z : (Nat × UH) ⊕ (Option Nat × UH)), ro_X11_plan u a0 = some z → u.1 ≤ (uX1 z).1 ∧ u.2.1 ≤ (uX1 z).2.1) (zo_X11_step : ∀ (u : UH) (a0 : Nat) (z : (Nat × UH) ⊕ (Option Nat × UH)), ro_X11_step u a0 = some z → u.1 ≤ (uX1 z).1 ∧ u.2.1 ≤ (uX1 z).2.1) (zo_X11_inner : ∀ (u : UH) (a0 : Nat) (z : (Nat × UH) ⊕ (Option Nat × UH)), ro_X11_inner u a0 = some z → u.1 ≤ (uX1 z).1 ∧ u.2.1 ≤ (uX1 z).2.1) {DF DL : Nat} (mo_X11_plan : ∀ (u : UH) (a0 : Nat) (r : Option Nat) (uf : UH), ro_X11_plan u a0 = some (.inr (r, uf)) → Met l yX11_plan (ws_ yX11_plan cX11_plan 2 (some (.object "java/util/List"))) ({ frames := DF, cells := (uf.1 - u.1), slots := (uf.2.1 - u.2.1), locals := DL }) (uPc G u [.ref a0]) (uQr G r uf) (uf.1 - u.1) (uf.2.1 - u.2.1) (uA G)) (mx_X11_plan : ∀ (u : UH) (a0 : Nat) (x : Nat) (uf : UH), ro_X11_plan u a0 = some (.inl (x, uf)) → uMX l yX11_plan (ws_ yX11_plan cX11_plan 2 (some (.object "java/util/List"))) ({ frames := DF, cells := uf.1 - u.1, slots := uf.2.1 - u.2.1, locals := DL }) G u [.ref a0] x uf (uf.1 - u.1) (uf.2.1 - u.2.1)) (mo_X11_step : ∀ (u : UH) (a0 : Nat) (r : Option Nat) (uf : UH), ro_X11_step u a0 = some (.inr (r, uf)) → Met l yX11_step (ws_ yX11_step cX11_step 5 (some (.object "SoftWheels$Doing"))) ({ frames := DF, cells := (uf.1 - u.1), slots := (uf.2.1 - u.2.1), locals := DL }) (uPc G u [.ref a0]) (uQr G r uf) (uf.1 - u.1) (uf.2.1 - u.2.1) (uA G)) (mx_X11_step : ∀ (u : UH) (a0 : Nat) (x : Nat) (uf : UH), ro_X11_step u a0 = some (.inl (x, uf)) → uMX l yX11_step (ws_ yX11_step cX11_step 5 (some (.object "SoftWheels$Doing"))) ({ frames := DF, cells := uf.1 - u.1, slots := uf.2.1 - u.2.1, locals := DL }) G u [.ref a0] x uf (uf.1 - u.1) (uf.2.1 - u.2.1)) (mo_X11_inner : ∀ (u : UH) (a0 : Nat) (r : Option Nat) (uf : UH), ro_X11_inner u a0 = some (.inr (r, uf)) → Met l yX11_inner (ws_ yX11_inner cX11_inner 2 (some (.object "java/util/List"))) ({ frames := DF, cells := (uf.1 - u.1), slots := (uf.2.1 - u.2.1), locals := DL }) (uPc G u [.ref a0]) (uQr G r uf) (uf.1 - u.1) (uf.2.1 - u.2.1) (uA G)) (mx_X11_inner : ∀ (u : UH) (a0 : Nat) (x : Nat) (uf : UH), ro_X11_inner u a0 = some (.inl (x, uf)) → uMX l yX11_inner (ws_ yX11_inner cX11_inner 2 (some (.object "java/util/List"))) ({ frames := DF, cells := uf.1 - u.1, slots := uf.2.1 - u.2.1, locals := DL }) G u [.ref a0] x uf (uf.1 - u.1) (uf.2.1 - u.2.1)) (hRr : DF + 1 ≤ R.frames ∧ 60 + DL ≤ R.locals) (u : UH) (h : fo_X11_step N (ub G) (ug G) ro_X11_plan ro_X11_step ro_X11_inner u a0 = some z) (hz0 : (u0.1 ≤ u.1 ∧ u0.2.1 ≤ u.2.1)) {H : Heap} {locs : List Loc} (hP : uP G u H) (hS : va_S (uA G) s.heap H locs) {ls : Array Slot} (hl : lv_has ls 5 [(0, va_rf (some a0))]) : W p l e R s m args below meth c H locs (u.1 - u0.1) (u.2.1 - u0.2.1) (uMQr below G z args s ((uX1 z).1 - u0.1) ((uX1 z).2.1 - u0.2.1)) (F0 m 0 ls []) := by
  obtain ⟨⟨hx, hb, hml, hown, hts⟩, hKK⟩ := id hC
  have hzf := zz_X11_step_0 (G := G) (a0 := a0) N ro_X11_plan ro_X11_step ro_X11_inner zo_X11_plan zo_X11_step zo_X11_inner u h
  unfold fo_X11_step at h
  refine u_aload_n (r := some a0) hx hb dX11_step_0 rfl (lv_at hl 0 rfl) ?_
  obtain ⟨o1, ho1, h⟩ := mbind_n h
  refine u_get hC hP (uGR_n ho1) rfl in_X11 (by decide) q1545 (fun _ h => h) dX11_step_1 ?_
  obtain ⟨a2, ha2, hha2⟩ := mbind_n h
  subst ha2
  have h := hha2
  obtain ⟨o3, ho3, h⟩ := mbind_n h
  refine u_getN hC hP (uGR_n ho3) rfl in_X5 (by decide) q635 (fun _ h => h) dX11_step_4 ?_
  refine u_gets hC hS 2 rfl q1575 (fun _ h => h) dX11_step_7 ?_
  obtain ⟨o4, eo4⟩ : ∃ z, z = (ug G).1 2 := ⟨_, rfl⟩
  have h := mlet_at eo4 h
  rw [← eo4]
  refine lv_acmp_ne (rx := o3) (ry := o4) (tgt := 26) hx hb dX11_step_10 (by decide) (fun c5 => ?_) (fun c5 => ?_)
  · have h := mif_f c5 h
    refine lv_null hx hb dX11_step_26 ?_
    refine W.cs (cells' := u.1 - u0.1) (slots' := u.2.1 - u0.2.1) (by omega) (by omega) ?_
    exact w_X11_step_27 hC hE hR hRm N  ro_X11_plan ro_X11_step ro_X11_inner zo_X11_plan zo_X11_step zo_X11_inner mo_X11_plan mx_X11_plan mo_X11_step mx_X11_step mo_X11_inner mx_X11_inner hRr u none h ⟨by omega, by omega⟩ hP hS (lv_sub hl [0] rfl)
  · have h := mif_t c5 h
    refine u_aload_n (r := some a0) hx hb dX11_step_13 rfl (lv_at hl 0 rfl) ?_
    obtain ⟨o6, ho6, h⟩ := mbind_n h
    refine u_get hC hP (uGR_n ho6) rfl in_X11 (by decide) q1545 (fun _ h => h) dX11_step_14 ?_
    obtain ⟨a7, ha7, hha7⟩ := mbind_n h
    subst ha7
    have h := hha7
    obtain ⟨o8, ho8, h⟩ := mbind_n h
    refine u_getN hC hP (uGR_n ho8) rfl in_X5 (by decide) q637 (fun _ h => h) dX11_step_17 ?_
    obtain ⟨o11, u9, c10, h⟩ := ucall_n h
    have zu9 := zz_X7_of N (ub G) (ug G) u o8 o11 u9 c10
    refine u_callr (va_runS (As := [va_rf o8]) (rest := []) hC.1 (met_X7_of l N G u o8 o11 u9 c10) (va_cwS 1 hts (lw_S q1576 q764 q120 q765) rfl rfl rfl (by decide +kernel) ⟨Nat.le_trans (Nat.le_of_ble_eq_true rfl) hR.1, Nat.le_trans (Nat.le_of_ble_eq_true rfl) hR.2⟩) ⟨uPc_blind, fun U hU hW => u_pre hC hP hS hU hW⟩ rfl rfl hl.1 rfl (lv_room (Nat.le_of_ble_eq_true rfl)) dX11_step_20 ⟨by omega, by omega⟩) hS (fun H locs hP hS => ?_)
    refine W.cs (cells' := u9.1 - u0.1) (slots' := u9.2.1 - u0.2.1) (by omega) (by omega) ?_
    refine lv_goto (tgt := 27) hx hb dX11_step_23 (by decide) ?_
    refine W.cs (cells' := u9.1 - u0.1) (slots' := u9.2.1 - u0.2.1) (by omega) (by omega) ?_
    exact w_X11_step_27 hC hE hR hRm N  ro_X11_plan ro_X11_step ro_X11_inner zo_X11_plan zo_X11_step zo_X11_inner mo_X11_plan mx_X11_plan mo_X11_step mx_X11_step mo_X11_inner mx_X11_inner hRr u9 o11 h ⟨by omega, by omega⟩ hP hS (lv_sub hl [0] rfl)
def f_X11_inner_70 (N b : Nat) (g : uEnv) (ro_X11_plan : UH → Nat → Option ((Nat × UH) ⊕ (Option Nat × UH))) (ro_X11_step : UH → Nat → Option ((Nat × UH) ⊕ (Option Nat × UH))) (ro_X11_inner : UH → Nat → Option ((Nat × UH) ⊕ (Option Nat × UH))) (a0 : Nat) (u : UH) (x1 : Option Nat) : Option ((Nat × UH) ⊕ (Option Nat × UH)) :=
    (uGI u a0 9 4).bind fun y1 =>
    (uPut b u a0 9 4 (.int (y1 - 1))).bind fun u2 =>
    some (.inr (x1, u2))
set_option maxHeartbeats 4000000 in
set_option maxRecDepth 100000 in
theorem zz_X11_inner_70 {G : uG} {a0 : Nat} {z : (Nat × UH) ⊕ (Option Nat × UH)} (N : Nat) (ro_X11_plan : UH → Nat → Option ((Nat × UH) ⊕ (Option Nat × UH))) (ro_X11_step : UH → Nat → Option ((Nat × UH) ⊕ (Option Nat × UH))) (ro_X11_inner : UH → Nat → Option ((Nat × UH) ⊕ (Option Nat × UH))) (zo_X11_plan : ∀ (u : UH) (a0 : Nat) (z : (Nat × UH) ⊕ (Option Nat × UH)), ro_X11_plan u a0 = some z → u.1 ≤ (uX1 z).1 ∧ u.2.1 ≤ (uX1 z).2.1) (zo_X11_step : ∀ (u : UH) (a0 : Nat) (z : (Nat × UH) ⊕ (Option Nat × UH)), ro_X11_step u a0 = some z → u.1 ≤ (uX1 z).1 ∧ u.2.1 ≤ (uX1 z).2.1) (zo_X11_inner : ∀ (u : UH) (a0 : Nat) (z : (Nat × UH) ⊕ (Option Nat × UH)), ro_X11_inner u a0 = some z → u.1 ≤ (uX1 z).1 ∧ u.2.1 ≤ (uX1 z).2.1) (u : UH) (x1 : Option Nat) (h : f_X11_inner_70 N (ub G) (ug G) ro_X11_plan ro_X11_step ro_X11_inner a0 u x1 = some z) : u.1 ≤ (uX1 z).1 ∧ u.2.1 ≤ (uX1 z).2.1 := by
  unfold f_X11_inner_70 at h
  obtain ⟨y1, hy1, h⟩ := mbind_n h
  obtain ⟨u2, hu2, h⟩ := mbind_n h
  have zu2 := uPut_sz hu2
  have hz := Option.some.inj h
  subst hz
  exact (show u.1 ≤ u2.1 ∧ u.2.1 ≤ u2.2.1 from ⟨by omega, by omega⟩)
set_option maxHeartbeats 4000000 in
set_option maxRecDepth 100000 in
theorem w_X11_inner_70 {p : Program} {l : Launch} {e : Env} {R : Room} {s : State} {m : MethodId} {args : Array Value} {below : List Frame} {meth : Method} {c : Code} {G : uG} {a0 : Nat} {u0 : UH} {z : (Nat × UH) ⊕ (Option Nat × UH)} (hC : uC p s m args meth c G RX11 cX11_inner 2 (some (.object "java/util/List"))) (hE : c.exceptionTable.toList = []) (hR : 10 ≤ R.frames ∧ 257 ≤ R.locals) (hRm : (uX1 z).1 - u0.1 ≤ R.cells ∧ (uX1 z).2.1 - u0.2.1 ≤ R.slots) (N : Nat) (ro_X11_plan : UH → Nat → Option ((Nat × UH) ⊕ (Option Nat × UH))) (ro_X11_step : UH → Nat → Option ((Nat × UH) ⊕ (Option Nat × UH))) (ro_X11_inner : UH → Nat → Option ((Nat × UH) ⊕ (Option Nat × UH))) (zo_X11_plan : ∀ (u : UH) (a0 : Nat) (z : (Nat × UH) ⊕ (Option Nat × UH)), ro_X11_plan u a0 = some z → u.1 ≤ (uX1 z).1 ∧ u.2.1 ≤ (uX1 z).2.1) (zo_X11_step : ∀ (u : UH) (a0 : Nat) (z : (Nat × UH) ⊕ (Option Nat × UH)), ro_X11_step u a0 = some z → u.1 ≤ (uX1 z).1 ∧ u.2.1 ≤ (uX1 z).2.1) (zo_X11_inner : ∀ (u : UH) (a0 : Nat) (z : (Nat × UH) ⊕ (Option Nat × UH)), ro_X11_inner u a0 = some z → u.1 ≤ (uX1 z).1 ∧ u.2.1 ≤ (uX1 z).2.1) {DF DL : Nat} (mo_X11_plan : ∀ (u : UH) (a0 : Nat) (r : Option Nat) (uf : UH), ro_X11_plan u a0 = some (.inr (r, uf)) → Met l yX11_plan (ws_ yX11_plan cX11_plan 2 (some (.object "java/util/List"))) ({ frames := DF, cells := (uf.1 - u.1), slots := (uf.2.1 - u.2.1), locals := DL }) (uPc G u [.ref a0]) (uQr G r uf) (uf.1 - u.1) (uf.2.1 - u.2.1) (uA G)) (mx_X11_plan : ∀ (u : UH) (a0 : Nat) (x : Nat) (uf : UH), ro_X11_plan u a0 = some (.inl (x, uf)) → uMX l yX11_plan (ws_ yX11_plan cX11_plan 2 (some (.object "java/util/List"))) ({ frames := DF, cells := uf.1 - u.1, slots := uf.2.1 - u.2.1, locals := DL }) G u [.ref a0] x uf (uf.1 - u.1) (uf.2.1 - u.2.1)) (mo_X11_step : ∀ (u : UH) (a0 : Nat) (r : Option Nat) (uf : UH), ro_X11_step u a0 = some (.inr (r, uf)) → Met l yX11_step (ws_ yX11_step cX11_step 5 (some (.object "SoftWheels$Doing"))) ({ frames := DF, cells := (uf.1 - u.1), slots := (uf.2.1 - u.2.1), locals := DL }) (uPc G u [.ref a0]) (uQr G r uf) (uf.1 - u.1) (uf.2.1 - u.2.1) (uA G)) (mx_X11_step : ∀ (u : UH) (a0 : Nat) (x : Nat) (uf : UH), ro_X11_step u a0 = some (.inl (x, uf)) → uMX l yX11_step (ws_ yX11_step cX11_step 5 (some (.object "SoftWheels$Doing"))) ({ frames := DF, cells := uf.1 - u.1, slots := uf.2.1 - u.2.1, locals := DL }) G u [.ref a0] x uf (uf.1 - u.1) (uf.2.1 - u.2.1)) (mo_X11_inner : ∀ (u : UH) (a0 : Nat) (r : Option Nat) (uf : UH), ro_X11_inner u a0 = some (.inr (r, uf)) → Met l yX11_inner (ws_ yX11_inner cX11_inner 2 (some (.object "java/util/List"))) ({ frames := DF, cells := (uf.1 - u.1), slots := (uf.2.1 - u.2.1), locals := DL }) (uPc G u [.ref a0]) (uQr G r uf) (uf.1 - u.1) (uf.2.1 - u.2.1) (uA G)) (mx_X11_inner : ∀ (u : UH) (a0 : Nat) (x : Nat) (uf : UH), ro_X11_inner u a0 = some (.inl (x, uf)) → uMX l yX11_inner (ws_ yX11_inner cX11_inner 2 (some (.object "java/util/List"))) ({ frames := DF, cells := uf.1 - u.1, slots := uf.2.1 - u.2.1, locals := DL }) G u [.ref a0] x uf (uf.1 - u.1) (uf.2.1 - u.2.1)) (hRr : DF + 1 ≤ R.frames ∧ 60 + DL ≤ R.locals) (u : UH) (x1 : Option Nat) (h : f_X11_inner_70 N (ub G) (ug G) ro_X11_plan ro_X11_step ro_X11_inner a0 u x1 = some z) (hz0 : (u0.1 ≤ u.1 ∧ u0.2.1 ≤ u.2.1)) {H : Heap} {locs : List Loc} (hP : uP G u H) (hS : va_S (uA G) s.heap H locs) {ls : Array Slot} (hl : lv_has ls 2 [(0, va_rf (some a0)), (1, va_rf x1)]) : W p l e R s m args below meth c H locs (u.1 - u0.1) (u.2.1 - u0.2.1) (uMQr below G z args s ((uX1 z).1 - u0.1) ((uX1 z).2.1 - u0.2.1)) (F0 m 70 ls []) := by
  obtain ⟨⟨hx, hb, hml, hown, hts⟩, hKK⟩ := id hC
  have hzf := zz_X11_inner_70 (G := G) (a0 := a0) N ro_X11_plan ro_X11_step ro_X11_inner zo_X11_plan zo_X11_step zo_X11_inner u x1 h
  unfold f_X11_inner_70 at h
  refine u_aload_n (r := some a0) hx hb dX11_inner_70 rfl (lv_at hl 0 rfl) ?_
  refine lv_dup hx hb dX11_inner_71 (u_cat _) ?_
  obtain ⟨y1, hy1, h⟩ := mbind_n h
  refine u_get hC hP (uGI_n hy1) rfl in_X11 (by decide) q1549 (fun _ h => h) dX11_inner_72 ?_
  refine lv_iconst (v := 1) hx hb dX11_inner_75 (by decide) ?_
  refine lv_isub hx hb dX11_inner_76 ?_
  obtain ⟨u2, hu2, h⟩ := mbind_n h
  have zu2 := uPut_sz hu2
  refine u_put hC hP hS hu2 rfl in_X11 tyX11 tyX11_ok nmX11 (by decide) q1549 (fun _ h => h) rfl (ty := .int) (tyX11_ok 4 (by decide)) rfl rfl dX11_inner_77 (fun H locs hP hS => ?_)
  refine W.cs (cells' := u2.1 - u0.1) (slots' := u2.2.1 - u0.2.1) (by omega) (by omega) ?_
  refine u_aload_n (r := x1) hx hb dX11_inner_80 rfl (lv_at hl 1 rfl) ?_
  have hz := Option.some.inj h
  subst hz
  exact u_aret hC (Or.inl ⟨_, rfl⟩) hP hS dX11_inner_81
def f_X11_inner_60 (N b : Nat) (g : uEnv) (ro_X11_plan : UH → Nat → Option ((Nat × UH) ⊕ (Option Nat × UH))) (ro_X11_step : UH → Nat → Option ((Nat × UH) ⊕ (Option Nat × UH))) (ro_X11_inner : UH → Nat → Option ((Nat × UH) ⊕ (Option Nat × UH))) (a0 : Nat) (u : UH) (s0 : Option Nat) : Option ((Nat × UH) ⊕ (Option Nat × UH)) :=
    (uGR u a0 9 0).bind fun o1 =>
    (o1).bind fun a2 =>
    if uIs u a2 4 = true then
    uxcallv (f_X5_needs N b g u a2 (some (g.2.1 29))) (fun a6 u7 =>
    some (.inl (a6, u7))) fun u4 =>
    f_X11_inner_70 N b g ro_X11_plan ro_X11_step ro_X11_inner a0 u4 s0
    else none
set_option maxHeartbeats 4000000 in
set_option maxRecDepth 100000 in
theorem zz_X11_inner_60 {G : uG} {a0 : Nat} {z : (Nat × UH) ⊕ (Option Nat × UH)} (N : Nat) (ro_X11_plan : UH → Nat → Option ((Nat × UH) ⊕ (Option Nat × UH))) (ro_X11_step : UH → Nat → Option ((Nat × UH) ⊕ (Option Nat × UH))) (ro_X11_inner : UH → Nat → Option ((Nat × UH) ⊕ (Option Nat × UH))) (zo_X11_plan : ∀ (u : UH) (a0 : Nat) (z : (Nat × UH) ⊕ (Option Nat × UH)), ro_X11_plan u a0 = some z → u.1 ≤ (uX1 z).1 ∧ u.2.1 ≤ (uX1 z).2.1) (zo_X11_step : ∀ (u : UH) (a0 : Nat) (z : (Nat × UH) ⊕ (Option Nat × UH)), ro_X11_step u a0 = some z → u.1 ≤ (uX1 z).1 ∧ u.2.1 ≤ (uX1 z).2.1) (zo_X11_inner : ∀ (u : UH) (a0 : Nat) (z : (Nat × UH) ⊕ (Option Nat × UH)), ro_X11_inner u a0 = some z → u.1 ≤ (uX1 z).1 ∧ u.2.1 ≤ (uX1 z).2.1) (u : UH) (s0 : Option Nat) (h : f_X11_inner_60 N (ub G) (ug G) ro_X11_plan ro_X11_step ro_X11_inner a0 u s0 = some z) : u.1 ≤ (uX1 z).1 ∧ u.2.1 ≤ (uX1 z).2.1 := by
  unfold f_X11_inner_60 at h
  obtain ⟨o1, ho1, h⟩ := mbind_n h
  obtain ⟨a2, ha2, hha2⟩ := mbind_n h
  subst ha2
  have h := hha2
  obtain ⟨c3, h⟩ := mif_n h
  rcases uxcallv_n h with ⟨a6, u7, c8, h⟩ | ⟨u4, c5, h⟩
  · have zu7 : u.1 ≤ u7.1 ∧ u.2.1 ≤ u7.2.1 := zz_X5_needs N (ub G) (ug G) u a2 (some ((ug G).2.1 29)) (.inl (a6, u7)) c8
    have hz := Option.some.inj h
    subst hz
    exact (show u.1 ≤ u7.1 ∧ u.2.1 ≤ u7.2.1 from ⟨by omega, by omega⟩)
  · have zu4 : u.1 ≤ u4.1 ∧ u.2.1 ≤ u4.2.1 := zz_X5_needs N (ub G) (ug G) u a2 (some ((ug G).2.1 29)) (.inr u4) c5
    have hq := zz_X11_inner_70 (G := G) (a0 := a0) N  ro_X11_plan ro_X11_step ro_X11_inner zo_X11_plan zo_X11_step zo_X11_inner u4 s0 h
    exact ⟨by omega, by omega⟩
set_option maxHeartbeats 4000000 in
set_option maxRecDepth 100000 in
theorem w_X11_inner_60 {p : Program} {l : Launch} {e : Env} {R : Room} {s : State} {m : MethodId} {args : Array Value} {below : List Frame} {meth : Method} {c : Code} {G : uG} {a0 : Nat} {u0 : UH} {z : (Nat × UH) ⊕ (Option Nat × UH)} (hC : uC p s m args meth c G RX11 cX11_inner 2 (some (.object "java/util/List"))) (hE : c.exceptionTable.toList = []) (hR : 10 ≤ R.frames ∧ 257 ≤ R.locals) (hRm : (uX1 z).1 - u0.1 ≤ R.cells ∧ (uX1 z).2.1 - u0.2.1 ≤ R.slots) (N : Nat) (ro_X11_plan : UH → Nat → Option ((Nat × UH) ⊕ (Option Nat × UH))) (ro_X11_step : UH → Nat → Option ((Nat × UH) ⊕ (Option Nat × UH))) (ro_X11_inner : UH → Nat → Option ((Nat × UH) ⊕ (Option Nat × UH))) (zo_X11_plan : ∀ (u : UH) (a0 : Nat) (z : (Nat × UH) ⊕ (Option Nat × UH)), ro_X11_plan u a0 = some z → u.1 ≤ (uX1 z).1 ∧ u.2.1 ≤ (uX1 z).2.1) (zo_X11_step : ∀ (u : UH) (a0 : Nat) (z : (Nat × UH) ⊕ (Option Nat × UH)), ro_X11_step u a0 = some z → u.1 ≤ (uX1 z).1 ∧ u.2.1 ≤ (uX1 z).2.1) (zo_X11_inner : ∀ (u : UH) (a0 : Nat) (z : (Nat × UH) ⊕ (Option Nat × UH)), ro_X11_inner u a0 = some z → u.1 ≤ (uX1 z).1 ∧ u.2.1 ≤ (uX1 z).2.1) {DF DL : Nat} (mo_X11_plan : ∀ (u : UH) (a0 : Nat) (r : Option Nat) (uf : UH), ro_X11_plan u a0 = some (.inr (r, uf)) → Met l yX11_plan (ws_ yX11_plan cX11_plan 2 (some (.object "java/util/List"))) ({ frames := DF, cells := (uf.1 - u.1), slots := (uf.2.1 - u.2.1), locals := DL }) (uPc G u [.ref a0]) (uQr G r uf) (uf.1 - u.1) (uf.2.1 - u.2.1) (uA G)) (mx_X11_plan : ∀ (u : UH) (a0 : Nat) (x : Nat) (uf : UH), ro_X11_plan u a0 = some (.inl (x, uf)) → uMX l yX11_plan (ws_ yX11_plan cX11_plan 2 (some (.object "java/util/List"))) ({ frames := DF, cells := uf.1 - u.1, slots := uf.2.1 - u.2.1, locals := DL }) G u [.ref a0] x uf (uf.1 - u.1) (uf.2.1 - u.2.1)) (mo_X11_step : ∀ (u : UH) (a0 : Nat) (r : Option Nat) (uf : UH), ro_X11_step u a0 = some (.inr (r, uf)) → Met l yX11_step (ws_ yX11_step cX11_step 5 (some (.object "SoftWheels$Doing"))) ({ frames := DF, cells := (uf.1 - u.1), slots := (uf.2.1 - u.2.1), locals := DL }) (uPc G u [.ref a0]) (uQr G r uf) (uf.1 - u.1) (uf.2.1 - u.2.1) (uA G)) (mx_X11_step : ∀ (u : UH) (a0 : Nat) (x : Nat) (uf : UH), ro_X11_step u a0 = some (.inl (x, uf)) → uMX l yX11_step (ws_ yX11_step cX11_step 5 (some (.object "SoftWheels$Doing"))) ({ frames := DF, cells := uf.1 - u.1, slots := uf.2.1 - u.2.1, locals := DL }) G u [.ref a0] x uf (uf.1 - u.1) (uf.2.1 - u.2.1)) (mo_X11_inner : ∀ (u : UH) (a0 : Nat) (r : Option Nat) (uf : UH), ro_X11_inner u a0 = some (.inr (r, uf)) → Met l yX11_inner (ws_ yX11_inner cX11_inner 2 (some (.object "java/util/List"))) ({ frames := DF, cells := (uf.1 - u.1), slots := (uf.2.1 - u.2.1), locals := DL }) (uPc G u [.ref a0]) (uQr G r uf) (uf.1 - u.1) (uf.2.1 - u.2.1) (uA G)) (mx_X11_inner : ∀ (u : UH) (a0 : Nat) (x : Nat) (uf : UH), ro_X11_inner u a0 = some (.inl (x, uf)) → uMX l yX11_inner (ws_ yX11_inner cX11_inner 2 (some (.object "java/util/List"))) ({ frames := DF, cells := uf.1 - u.1, slots := uf.2.1 - u.2.1, locals := DL }) G u [.ref a0] x uf (uf.1 - u.1) (uf.2.1 - u.2.1)) (hRr : DF + 1 ≤ R.frames ∧ 60 + DL ≤ R.locals) (u : UH) (s0 : Option Nat) (h : f_X11_inner_60 N (ub G) (ug G) ro_X11_plan ro_X11_step ro_X11_inner a0 u s0 = some z) (hz0 : (u0.1 ≤ u.1 ∧ u0.2.1 ≤ u.2.1)) {H : Heap} {locs : List Loc} (hP : uP G u H) (hS : va_S (uA G) s.heap H locs) {ls : Array Slot} (hl : lv_has ls 2 [(0, va_rf (some a0))]) : W p l e R s m args below meth c H locs (u.1 - u0.1) (u.2.1 - u0.2.1) (uMQr below G z args s ((uX1 z).1 - u0.1) ((uX1 z).2.1 - u0.2.1)) (F0 m 60 ls [va_rf s0]) := by
  obtain ⟨⟨hx, hb, hml, hown, hts⟩, hKK⟩ := id hC
  have hzf := zz_X11_inner_60 (G := G) (a0 := a0) N ro_X11_plan ro_X11_step ro_X11_inner zo_X11_plan zo_X11_step zo_X11_inner u s0 h
  unfold f_X11_inner_60 at h
  refine u_astore_n (i := 1) (r := s0) (lv' := [(1, va_rf s0), (0, va_rf (some a0))]) hx hb dX11_inner_60 rfl hl (by decide) rfl (fun ls hl => ?_)
  refine u_aload_n (r := some a0) hx hb dX11_inner_61 rfl (lv_at hl 1 rfl) ?_
  obtain ⟨o1, ho1, h⟩ := mbind_n h
  refine u_get hC hP (uGR_n ho1) rfl in_X11 (by decide) q1545 (fun _ h => h) dX11_inner_62 ?_
  refine u_ldcS hC 29 rfl dX11_inner_65 ?_
  obtain ⟨a2, ha2, hha2⟩ := mbind_n h
  subst ha2
  have h := hha2
  obtain ⟨c3, h⟩ := mif_n h
  rcases uxcallv_n h with ⟨a6, u7, c8, h⟩ | ⟨u4, c5, h⟩
  · have zu7 : u.1 ≤ u7.1 ∧ u.2.1 ≤ u7.2.1 := zz_X5_needs N (ub G) (ug G) u a2 (some ((ug G).2.1 29)) (.inl (a6, u7)) c8
    have hz := Option.some.inj h
    subst hz
    have hRm : u7.1 - u0.1 ≤ R.cells ∧ u7.2.1 - u0.2.1 ≤ R.slots := hRm
    exact u_callX hC (u_noE hE) (u_runVX (As := [va_rf (some ((ug G).2.1 29))]) (rest := []) hC.1 (mex_X5_needs l N G u a2 (some ((ug G).2.1 29)) a6 u7 c8) (cwV 1 hts (lw_V q1598 q914 q915 q105 q916) rfl rfl rfl (by decide +kernel) ⟨Nat.le_trans (Nat.le_of_ble_eq_true rfl) hR.1, Nat.le_trans (Nat.le_of_ble_eq_true rfl) hR.2⟩) ⟨uPc_blind, u_rcv hC hP c3 rfl, fun U hU hW => u_pre hC hP hS hU hW⟩ rfl rfl hl.1 rfl (lv_room (Nat.le_of_ble_eq_true rfl)) dX11_inner_67 ⟨by omega, by omega⟩) hS (by show _ + _ = u7.1 - u0.1; omega) (by show _ + _ = u7.2.1 - u0.2.1; omega)
  · have zu4 : u.1 ≤ u4.1 ∧ u.2.1 ≤ u4.2.1 := zz_X5_needs N (ub G) (ug G) u a2 (some ((ug G).2.1 29)) (.inr u4) c5
    have hq := zz_X11_inner_70 (G := G) (a0 := a0) N ro_X11_plan ro_X11_step ro_X11_inner zo_X11_plan zo_X11_step zo_X11_inner u4 s0 h
    refine u_callv (va_runV (As := [va_rf (some ((ug G).2.1 29))]) (rest := []) hC.1 (met_X5_needs l N G u a2 (some ((ug G).2.1 29)) u4 c5) (cwV 1 hts (lw_V q1598 q914 q915 q105 q916) rfl rfl rfl (by decide +kernel) ⟨Nat.le_trans (Nat.le_of_ble_eq_true rfl) hR.1, Nat.le_trans (Nat.le_of_ble_eq_true rfl) hR.2⟩) ⟨uPc_blind, u_rcv hC hP c3 rfl, fun U hU hW => u_pre hC hP hS hU hW⟩ rfl rfl hl.1 rfl (lv_room (Nat.le_of_ble_eq_true rfl)) dX11_inner_67 ⟨by omega, by omega⟩) hS (fun H locs hP hS => ?_)
    refine W.cs (cells' := u4.1 - u0.1) (slots' := u4.2.1 - u0.2.1) (by omega) (by omega) ?_
    exact w_X11_inner_70 hC hE hR hRm N  ro_X11_plan ro_X11_step ro_X11_inner zo_X11_plan zo_X11_step zo_X11_inner mo_X11_plan mx_X11_plan mo_X11_step mx_X11_step mo_X11_inner mx_X11_inner hRr u4 s0 h ⟨by omega, by omega⟩ hP hS (lv_sub hl [1, 0] rfl)
def f_X11_inner_56 (N b : Nat) (g : uEnv) (ro_X11_plan : UH → Nat → Option ((Nat × UH) ⊕ (Option Nat × UH))) (ro_X11_step : UH → Nat → Option ((Nat × UH) ⊕ (Option Nat × UH))) (ro_X11_inner : UH → Nat → Option ((Nat × UH) ⊕ (Option Nat × UH))) (a0 : Nat) (u : UH) : Option ((Nat × UH) ⊕ (Option Nat × UH)) :=
    if uIs u a0 9 = true then
    uxcall (ro_X11_plan u a0) (fun a5 u6 =>
    some (.inl (a5, u6))) fun o4 u2 =>
    f_X11_inner_60 N b g ro_X11_plan ro_X11_step ro_X11_inner a0 u2 o4
    else none
set_option maxHeartbeats 4000000 in
set_option maxRecDepth 100000 in
theorem zz_X11_inner_56 {G : uG} {a0 : Nat} {z : (Nat × UH) ⊕ (Option Nat × UH)} (N : Nat) (ro_X11_plan : UH → Nat → Option ((Nat × UH) ⊕ (Option Nat × UH))) (ro_X11_step : UH → Nat → Option ((Nat × UH) ⊕ (Option Nat × UH))) (ro_X11_inner : UH → Nat → Option ((Nat × UH) ⊕ (Option Nat × UH))) (zo_X11_plan : ∀ (u : UH) (a0 : Nat) (z : (Nat × UH) ⊕ (Option Nat × UH)), ro_X11_plan u a0 = some z → u.1 ≤ (uX1 z).1 ∧ u.2.1 ≤ (uX1 z).2.1) (zo_X11_step : ∀ (u : UH) (a0 : Nat) (z : (Nat × UH) ⊕ (Option Nat × UH)), ro_X11_step u a0 = some z → u.1 ≤ (uX1 z).1 ∧ u.2.1 ≤ (uX1 z).2.1) (zo_X11_inner : ∀ (u : UH) (a0 : Nat) (z : (Nat × UH) ⊕ (Option Nat × UH)), ro_X11_inner u a0 = some z → u.1 ≤ (uX1 z).1 ∧ u.2.1 ≤ (uX1 z).2.1) (u : UH) (h : f_X11_inner_56 N (ub G) (ug G) ro_X11_plan ro_X11_step ro_X11_inner a0 u = some z) : u.1 ≤ (uX1 z).1 ∧ u.2.1 ≤ (uX1 z).2.1 := by
  unfold f_X11_inner_56 at h
  obtain ⟨c1, h⟩ := mif_n h
  rcases uxcall_n h with ⟨a5, u6, c7, h⟩ | ⟨o4, u2, c3, h⟩
  · have zu6 : u.1 ≤ u6.1 ∧ u.2.1 ≤ u6.2.1 := zo_X11_plan u a0 (.inl (a5, u6)) c7
    have hz := Option.some.inj h
    subst hz
    exact (show u.1 ≤ u6.1 ∧ u.2.1 ≤ u6.2.1 from ⟨by omega, by omega⟩)
  · have zu2 : u.1 ≤ u2.1 ∧ u.2.1 ≤ u2.2.1 := zo_X11_plan u a0 (.inr (o4, u2)) c3
    have hq := zz_X11_inner_60 (G := G) (a0 := a0) N  ro_X11_plan ro_X11_step ro_X11_inner zo_X11_plan zo_X11_step zo_X11_inner u2 o4 h
    exact ⟨by omega, by omega⟩
set_option maxHeartbeats 4000000 in
set_option maxRecDepth 100000 in
theorem w_X11_inner_56 {p : Program} {l : Launch} {e : Env} {R : Room} {s : State} {m : MethodId} {args : Array Value} {below : List Frame} {meth : Method} {c : Code} {G : uG} {a0 : Nat} {u0 : UH} {z : (Nat × UH) ⊕ (Option Nat × UH)} (hC : uC p s m args meth c G RX11 cX11_inner 2 (some (.object "java/util/List"))) (hE : c.exceptionTable.toList = []) (hR : 10 ≤ R.frames ∧ 257 ≤ R.locals) (hRm : (uX1 z).1 - u0.1 ≤ R.cells ∧ (uX1 z).2.1 - u0.2.1 ≤ R.slots) (N : Nat) (ro_X11_plan : UH → Nat → Option ((Nat × UH) ⊕ (Option Nat × UH))) (ro_X11_step : UH → Nat → Option ((Nat × UH) ⊕ (Option Nat × UH))) (ro_X11_inner : UH → Nat → Option ((Nat × UH) ⊕ (Option Nat × UH))) (zo_X11_plan : ∀ (u : UH) (a0 : Nat) (z : (Nat × UH) ⊕ (Option Nat × UH)), ro_X11_plan u a0 = some z → u.1 ≤ (uX1 z).1 ∧ u.2.1 ≤ (uX1 z).2.1) (zo_X11_step : ∀ (u : UH) (a0 : Nat) (z : (Nat × UH) ⊕ (Option Nat × UH)), ro_X11_step u a0 = some z → u.1 ≤ (uX1 z).1 ∧ u.2.1 ≤ (uX1 z).2.1) (zo_X11_inner : ∀ (u : UH) (a0 : Nat) (z : (Nat × UH) ⊕ (Option Nat × UH)), ro_X11_inner u a0 = some z → u.1 ≤ (uX1 z).1 ∧ u.2.1 ≤ (uX1 z).2.1) {DF DL : Nat} (mo_X11_plan : ∀ (u : UH) (a0 : Nat) (r : Option Nat) (uf : UH), ro_X11_plan u a0 = some (.inr (r, uf)) → Met l yX11_plan (ws_ yX11_plan cX11_plan 2 (some (.object "java/util/List"))) ({ frames := DF, cells := (uf.1 - u.1), slots := (uf.2.1 - u.2.1), locals := DL }) (uPc G u [.ref a0]) (uQr G r uf) (uf.1 - u.1) (uf.2.1 - u.2.1) (uA G)) (mx_X11_plan : ∀ (u : UH) (a0 : Nat) (x : Nat) (uf : UH), ro_X11_plan u a0 = some (.inl (x, uf)) → uMX l yX11_plan (ws_ yX11_plan cX11_plan 2 (some (.object "java/util/List"))) ({ frames := DF, cells := uf.1 - u.1, slots := uf.2.1 - u.2.1, locals := DL }) G u [.ref a0] x uf (uf.1 - u.1) (uf.2.1 - u.2.1)) (mo_X11_step : ∀ (u : UH) (a0 : Nat) (r : Option Nat) (uf : UH), ro_X11_step u a0 = some (.inr (r, uf)) → Met l yX11_step (ws_ yX11_step cX11_step 5 (some (.object "SoftWheels$Doing"))) ({ frames := DF, cells := (uf.1 - u.1), slots := (uf.2.1 - u.2.1), locals := DL }) (uPc G u [.ref a0]) (uQr G r uf) (uf.1 - u.1) (uf.2.1 - u.2.1) (uA G)) (mx_X11_step : ∀ (u : UH) (a0 : Nat) (x : Nat) (uf : UH), ro_X11_step u a0 = some (.inl (x, uf)) → uMX l yX11_step (ws_ yX11_step cX11_step 5 (some (.object "SoftWheels$Doing"))) ({ frames := DF, cells := uf.1 - u.1, slots := uf.2.1 - u.2.1, locals := DL }) G u [.ref a0] x uf (uf.1 - u.1) (uf.2.1 - u.2.1)) (mo_X11_inner : ∀ (u : UH) (a0 : Nat) (r : Option Nat) (uf : UH), ro_X11_inner u a0 = some (.inr (r, uf)) → Met l yX11_inner (ws_ yX11_inner cX11_inner 2 (some (.object "java/util/List"))) ({ frames := DF, cells := (uf.1 - u.1), slots := (uf.2.1 - u.2.1), locals := DL }) (uPc G u [.ref a0]) (uQr G r uf) (uf.1 - u.1) (uf.2.1 - u.2.1) (uA G)) (mx_X11_inner : ∀ (u : UH) (a0 : Nat) (x : Nat) (uf : UH), ro_X11_inner u a0 = some (.inl (x, uf)) → uMX l yX11_inner (ws_ yX11_inner cX11_inner 2 (some (.object "java/util/List"))) ({ frames := DF, cells := uf.1 - u.1, slots := uf.2.1 - u.2.1, locals := DL }) G u [.ref a0] x uf (uf.1 - u.1) (uf.2.1 - u.2.1)) (hRr : DF + 1 ≤ R.frames ∧ 60 + DL ≤ R.locals) (u : UH) (h : f_X11_inner_56 N (ub G) (ug G) ro_X11_plan ro_X11_step ro_X11_inner a0 u = some z) (hz0 : (u0.1 ≤ u.1 ∧ u0.2.1 ≤ u.2.1)) {H : Heap} {locs : List Loc} (hP : uP G u H) (hS : va_S (uA G) s.heap H locs) {ls : Array Slot} (hl : lv_has ls 2 [(0, va_rf (some a0))]) : W p l e R s m args below meth c H locs (u.1 - u0.1) (u.2.1 - u0.2.1) (uMQr below G z args s ((uX1 z).1 - u0.1) ((uX1 z).2.1 - u0.2.1)) (F0 m 56 ls []) := by
  obtain ⟨⟨hx, hb, hml, hown, hts⟩, hKK⟩ := id hC
  have hzf := zz_X11_inner_56 (G := G) (a0 := a0) N ro_X11_plan ro_X11_step ro_X11_inner zo_X11_plan zo_X11_step zo_X11_inner u h
  unfold f_X11_inner_56 at h
  refine u_aload_n (r := some a0) hx hb dX11_inner_56 rfl (lv_at hl 0 rfl) ?_
  obtain ⟨c1, h⟩ := mif_n h
  rcases uxcall_n h with ⟨a5, u6, c7, h⟩ | ⟨o4, u2, c3, h⟩
  · have zu6 : u.1 ≤ u6.1 ∧ u.2.1 ≤ u6.2.1 := zo_X11_plan u a0 (.inl (a5, u6)) c7
    have hz := Option.some.inj h
    subst hz
    have hRm : u6.1 - u0.1 ≤ R.cells ∧ u6.2.1 - u0.2.1 ≤ R.slots := hRm
    exact u_callX hC (u_noE hE) (u_runVX (As := []) (rest := []) hC.1 (mx_X11_plan u a0 a5 u6 c7) (cwV 0 hts (lw_V q1565 q1567 qs30 q128 q1568) rfl rfl rfl (by decide +kernel) ⟨hRr.1, Nat.le_trans (Nat.add_le_add_right (Nat.le_of_ble_eq_true rfl) DL) hRr.2⟩) ⟨uPc_blind, u_rcv hC hP c1 rfl, fun U hU hW => u_pre hC hP hS hU hW⟩ rfl rfl hl.1 rfl (lv_room (Nat.le_of_ble_eq_true rfl)) dX11_inner_57 ⟨by omega, by omega⟩) hS (by show _ + _ = u6.1 - u0.1; omega) (by show _ + _ = u6.2.1 - u0.2.1; omega)
  · have zu2 : u.1 ≤ u2.1 ∧ u.2.1 ≤ u2.2.1 := zo_X11_plan u a0 (.inr (o4, u2)) c3
    have hq := zz_X11_inner_60 (G := G) (a0 := a0) N ro_X11_plan ro_X11_step ro_X11_inner zo_X11_plan zo_X11_step zo_X11_inner u2 o4 h
    refine u_callr (va_runV (As := []) (rest := []) hC.1 (mo_X11_plan u a0 o4 u2 c3) (cwV 0 hts (lw_V q1565 q1567 qs30 q128 q1568) rfl rfl rfl (by decide +kernel) ⟨hRr.1, Nat.le_trans (Nat.add_le_add_right (Nat.le_of_ble_eq_true rfl) DL) hRr.2⟩) ⟨uPc_blind, u_rcv hC hP c1 rfl, fun U hU hW => u_pre hC hP hS hU hW⟩ rfl rfl hl.1 rfl (lv_room (Nat.le_of_ble_eq_true rfl)) dX11_inner_57 ⟨by omega, by omega⟩) hS (fun H locs hP hS => ?_)
    refine W.cs (cells' := u2.1 - u0.1) (slots' := u2.2.1 - u0.2.1) (by omega) (by omega) ?_
    exact w_X11_inner_60 hC hE hR hRm N  ro_X11_plan ro_X11_step ro_X11_inner zo_X11_plan zo_X11_step zo_X11_inner mo_X11_plan mx_X11_plan mo_X11_step mx_X11_step mo_X11_inner mx_X11_inner hRr u2 o4 h ⟨by omega, by omega⟩ hP hS (lv_sub hl [0] rfl)
def f_X11_inner_38 (N b : Nat) (g : uEnv) (ro_X11_plan : UH → Nat → Option ((Nat × UH) ⊕ (Option Nat × UH))) (ro_X11_step : UH → Nat → Option ((Nat × UH) ⊕ (Option Nat × UH))) (ro_X11_inner : UH → Nat → Option ((Nat × UH) ⊕ (Option Nat × UH))) (a0 : Nat) (u : UH) (s0 : Option Nat) : Option ((Nat × UH) ⊕ (Option Nat × UH)) :=
    (s0).bind fun a1 =>
    some (.inl (a1, u))
set_option maxHeartbeats 4000000 in
set_option maxRecDepth 100000 in
theorem zz_X11_inner_38 {G : uG} {a0 : Nat} {z : (Nat × UH) ⊕ (Option Nat × UH)} (N : Nat) (ro_X11_plan : UH → Nat → Option ((Nat × UH) ⊕ (Option Nat × UH))) (ro_X11_step : UH → Nat → Option ((Nat × UH) ⊕ (Option Nat × UH))) (ro_X11_inner : UH → Nat → Option ((Nat × UH) ⊕ (Option Nat × UH))) (zo_X11_plan : ∀ (u : UH) (a0 : Nat) (z : (Nat × UH) ⊕ (Option Nat × UH)), ro_X11_plan u a0 = some z → u.1 ≤ (uX1 z).1 ∧ u.2.1 ≤ (uX1 z).2.1) (zo_X11_step : ∀ (u : UH) (a0 : Nat) (z : (Nat × UH) ⊕ (Option Nat × UH)), ro_X11_step u a0 = some z → u.1 ≤ (uX1 z).1 ∧ u.2.1 ≤ (uX1 z).2.1) (zo_X11_inner : ∀ (u : UH) (a0 : Nat) (z : (Nat × UH) ⊕ (Option Nat × UH)), ro_X11_inner u a0 = some z → u.1 ≤ (uX1 z).1 ∧ u.2.1 ≤ (uX1 z).2.1) (u : UH) (s0 : Option Nat) (h : f_X11_inner_38 N (ub G) (ug G) ro_X11_plan ro_X11_step ro_X11_inner a0 u s0 = some z) : u.1 ≤ (uX1 z).1 ∧ u.2.1 ≤ (uX1 z).2.1 := by
  unfold f_X11_inner_38 at h
  obtain ⟨a1, ha1, hha1⟩ := mbind_n h
  subst ha1
  have h := hha1
  have hz := Option.some.inj h
  subst hz
  exact (show u.1 ≤ u.1 ∧ u.2.1 ≤ u.2.1 from ⟨by omega, by omega⟩)
set_option maxHeartbeats 4000000 in
set_option maxRecDepth 100000 in
theorem w_X11_inner_38 {p : Program} {l : Launch} {e : Env} {R : Room} {s : State} {m : MethodId} {args : Array Value} {below : List Frame} {meth : Method} {c : Code} {G : uG} {a0 : Nat} {u0 : UH} {z : (Nat × UH) ⊕ (Option Nat × UH)} (hC : uC p s m args meth c G RX11 cX11_inner 2 (some (.object "java/util/List"))) (hE : c.exceptionTable.toList = []) (hR : 10 ≤ R.frames ∧ 257 ≤ R.locals) (hRm : (uX1 z).1 - u0.1 ≤ R.cells ∧ (uX1 z).2.1 - u0.2.1 ≤ R.slots) (N : Nat) (ro_X11_plan : UH → Nat → Option ((Nat × UH) ⊕ (Option Nat × UH))) (ro_X11_step : UH → Nat → Option ((Nat × UH) ⊕ (Option Nat × UH))) (ro_X11_inner : UH → Nat → Option ((Nat × UH) ⊕ (Option Nat × UH))) (zo_X11_plan : ∀ (u : UH) (a0 : Nat) (z : (Nat × UH) ⊕ (Option Nat × UH)), ro_X11_plan u a0 = some z → u.1 ≤ (uX1 z).1 ∧ u.2.1 ≤ (uX1 z).2.1) (zo_X11_step : ∀ (u : UH) (a0 : Nat) (z : (Nat × UH) ⊕ (Option Nat × UH)), ro_X11_step u a0 = some z → u.1 ≤ (uX1 z).1 ∧ u.2.1 ≤ (uX1 z).2.1) (zo_X11_inner : ∀ (u : UH) (a0 : Nat) (z : (Nat × UH) ⊕ (Option Nat × UH)), ro_X11_inner u a0 = some z → u.1 ≤ (uX1 z).1 ∧ u.2.1 ≤ (uX1 z).2.1) {DF DL : Nat} (mo_X11_plan : ∀ (u : UH) (a0 : Nat) (r : Option Nat) (uf : UH), ro_X11_plan u a0 = some (.inr (r, uf)) → Met l yX11_plan (ws_ yX11_plan cX11_plan 2 (some (.object "java/util/List"))) ({ frames := DF, cells := (uf.1 - u.1), slots := (uf.2.1 - u.2.1), locals := DL }) (uPc G u [.ref a0]) (uQr G r uf) (uf.1 - u.1) (uf.2.1 - u.2.1) (uA G)) (mx_X11_plan : ∀ (u : UH) (a0 : Nat) (x : Nat) (uf : UH), ro_X11_plan u a0 = some (.inl (x, uf)) → uMX l yX11_plan (ws_ yX11_plan cX11_plan 2 (some (.object "java/util/List"))) ({ frames := DF, cells := uf.1 - u.1, slots := uf.2.1 - u.2.1, locals := DL }) G u [.ref a0] x uf (uf.1 - u.1) (uf.2.1 - u.2.1)) (mo_X11_step : ∀ (u : UH) (a0 : Nat) (r : Option Nat) (uf : UH), ro_X11_step u a0 = some (.inr (r, uf)) → Met l yX11_step (ws_ yX11_step cX11_step 5 (some (.object "SoftWheels$Doing"))) ({ frames := DF, cells := (uf.1 - u.1), slots := (uf.2.1 - u.2.1), locals := DL }) (uPc G u [.ref a0]) (uQr G r uf) (uf.1 - u.1) (uf.2.1 - u.2.1) (uA G)) (mx_X11_step : ∀ (u : UH) (a0 : Nat) (x : Nat) (uf : UH), ro_X11_step u a0 = some (.inl (x, uf)) → uMX l yX11_step (ws_ yX11_step cX11_step 5 (some (.object "SoftWheels$Doing"))) ({ frames := DF, cells := uf.1 - u.1, slots := uf.2.1 - u.2.1, locals := DL }) G u [.ref a0] x uf (uf.1 - u.1) (uf.2.1 - u.2.1)) (mo_X11_inner : ∀ (u : UH) (a0 : Nat) (r : Option Nat) (uf : UH), ro_X11_inner u a0 = some (.inr (r, uf)) → Met l yX11_inner (ws_ yX11_inner cX11_inner 2 (some (.object "java/util/List"))) ({ frames := DF, cells := (uf.1 - u.1), slots := (uf.2.1 - u.2.1), locals := DL }) (uPc G u [.ref a0]) (uQr G r uf) (uf.1 - u.1) (uf.2.1 - u.2.1) (uA G)) (mx_X11_inner : ∀ (u : UH) (a0 : Nat) (x : Nat) (uf : UH), ro_X11_inner u a0 = some (.inl (x, uf)) → uMX l yX11_inner (ws_ yX11_inner cX11_inner 2 (some (.object "java/util/List"))) ({ frames := DF, cells := uf.1 - u.1, slots := uf.2.1 - u.2.1, locals := DL }) G u [.ref a0] x uf (uf.1 - u.1) (uf.2.1 - u.2.1)) (hRr : DF + 1 ≤ R.frames ∧ 60 + DL ≤ R.locals) (u : UH) (s0 : Option Nat) (h : f_X11_inner_38 N (ub G) (ug G) ro_X11_plan ro_X11_step ro_X11_inner a0 u s0 = some z) (hz0 : (u0.1 ≤ u.1 ∧ u0.2.1 ≤ u.2.1)) {H : Heap} {locs : List Loc} (hP : uP G u H) (hS : va_S (uA G) s.heap H locs) {ls : Array Slot} (hl : lv_has ls 2 []) : W p l e R s m args below meth c H locs (u.1 - u0.1) (u.2.1 - u0.2.1) (uMQr below G z args s ((uX1 z).1 - u0.1) ((uX1 z).2.1 - u0.2.1)) (F0 m 38 ls [va_rf s0]) := by
  obtain ⟨⟨hx, hb, hml, hown, hts⟩, hKK⟩ := id hC
  have hzf := zz_X11_inner_38 (G := G) (a0 := a0) N ro_X11_plan ro_X11_step ro_X11_inner zo_X11_plan zo_X11_step zo_X11_inner u s0 h
  unfold f_X11_inner_38 at h
  obtain ⟨a1, ha1, hha1⟩ := mbind_n h
  subst ha1
  have h := hha1
  have hz := Option.some.inj h
  subst hz
  exact u_athrow hC (u_noE hE) hP hS dX11_inner_38
def f_X11_inner_20 (N b : Nat) (g : uEnv) (ro_X11_plan : UH → Nat → Option ((Nat × UH) ⊕ (Option Nat × UH))) (ro_X11_step : UH → Nat → Option ((Nat × UH) ⊕ (Option Nat × UH))) (ro_X11_inner : UH → Nat → Option ((Nat × UH) ⊕ (Option Nat × UH))) (a0 : Nat) (u : UH) (s0 : Option Nat) : Option ((Nat × UH) ⊕ (Option Nat × UH)) :=
    (s0).bind fun a1 =>
    some (.inl (a1, u))
set_option maxHeartbeats 4000000 in
set_option maxRecDepth 100000 in
theorem zz_X11_inner_20 {G : uG} {a0 : Nat} {z : (Nat × UH) ⊕ (Option Nat × UH)} (N : Nat) (ro_X11_plan : UH → Nat → Option ((Nat × UH) ⊕ (Option Nat × UH))) (ro_X11_step : UH → Nat → Option ((Nat × UH) ⊕ (Option Nat × UH))) (ro_X11_inner : UH → Nat → Option ((Nat × UH) ⊕ (Option Nat × UH))) (zo_X11_plan : ∀ (u : UH) (a0 : Nat) (z : (Nat × UH) ⊕ (Option Nat × UH)), ro_X11_plan u a0 = some z → u.1 ≤ (uX1 z).1 ∧ u.2.1 ≤ (uX1 z).2.1) (zo_X11_step : ∀ (u : UH) (a0 : Nat) (z : (Nat × UH) ⊕ (Option Nat × UH)), ro_X11_step u a0 = some z → u.1 ≤ (uX1 z).1 ∧ u.2.1 ≤ (uX1 z).2.1) (zo_X11_inner : ∀ (u : UH) (a0 : Nat) (z : (Nat × UH) ⊕ (Option Nat × UH)), ro_X11_inner u a0 = some z → u.1 ≤ (uX1 z).1 ∧ u.2.1 ≤ (uX1 z).2.1) (u : UH) (s0 : Option Nat) (h : f_X11_inner_20 N (ub G) (ug G) ro_X11_plan ro_X11_step ro_X11_inner a0 u s0 = some z) : u.1 ≤ (uX1 z).1 ∧ u.2.1 ≤ (uX1 z).2.1 := by
  unfold f_X11_inner_20 at h
  obtain ⟨a1, ha1, hha1⟩ := mbind_n h
  subst ha1
  have h := hha1
  have hz := Option.some.inj h
  subst hz
  exact (show u.1 ≤ u.1 ∧ u.2.1 ≤ u.2.1 from ⟨by omega, by omega⟩)
set_option maxHeartbeats 4000000 in
set_option maxRecDepth 100000 in
theorem w_X11_inner_20 {p : Program} {l : Launch} {e : Env} {R : Room} {s : State} {m : MethodId} {args : Array Value} {below : List Frame} {meth : Method} {c : Code} {G : uG} {a0 : Nat} {u0 : UH} {z : (Nat × UH) ⊕ (Option Nat × UH)} (hC : uC p s m args meth c G RX11 cX11_inner 2 (some (.object "java/util/List"))) (hE : c.exceptionTable.toList = []) (hR : 10 ≤ R.frames ∧ 257 ≤ R.locals) (hRm : (uX1 z).1 - u0.1 ≤ R.cells ∧ (uX1 z).2.1 - u0.2.1 ≤ R.slots) (N : Nat) (ro_X11_plan : UH → Nat → Option ((Nat × UH) ⊕ (Option Nat × UH))) (ro_X11_step : UH → Nat → Option ((Nat × UH) ⊕ (Option Nat × UH))) (ro_X11_inner : UH → Nat → Option ((Nat × UH) ⊕ (Option Nat × UH))) (zo_X11_plan : ∀ (u : UH) (a0 : Nat) (z : (Nat × UH) ⊕ (Option Nat × UH)), ro_X11_plan u a0 = some z → u.1 ≤ (uX1 z).1 ∧ u.2.1 ≤ (uX1 z).2.1) (zo_X11_step : ∀ (u : UH) (a0 : Nat) (z : (Nat × UH) ⊕ (Option Nat × UH)), ro_X11_step u a0 = some z → u.1 ≤ (uX1 z).1 ∧ u.2.1 ≤ (uX1 z).2.1) (zo_X11_inner : ∀ (u : UH) (a0 : Nat) (z : (Nat × UH) ⊕ (Option Nat × UH)), ro_X11_inner u a0 = some z → u.1 ≤ (uX1 z).1 ∧ u.2.1 ≤ (uX1 z).2.1) {DF DL : Nat} (mo_X11_plan : ∀ (u : UH) (a0 : Nat) (r : Option Nat) (uf : UH), ro_X11_plan u a0 = some (.inr (r, uf)) → Met l yX11_plan (ws_ yX11_plan cX11_plan 2 (some (.object "java/util/List"))) ({ frames := DF, cells := (uf.1 - u.1), slots := (uf.2.1 - u.2.1), locals := DL }) (uPc G u [.ref a0]) (uQr G r uf) (uf.1 - u.1) (uf.2.1 - u.2.1) (uA G)) (mx_X11_plan : ∀ (u : UH) (a0 : Nat) (x : Nat) (uf : UH), ro_X11_plan u a0 = some (.inl (x, uf)) → uMX l yX11_plan (ws_ yX11_plan cX11_plan 2 (some (.object "java/util/List"))) ({ frames := DF, cells := uf.1 - u.1, slots := uf.2.1 - u.2.1, locals := DL }) G u [.ref a0] x uf (uf.1 - u.1) (uf.2.1 - u.2.1)) (mo_X11_step : ∀ (u : UH) (a0 : Nat) (r : Option Nat) (uf : UH), ro_X11_step u a0 = some (.inr (r, uf)) → Met l yX11_step (ws_ yX11_step cX11_step 5 (some (.object "SoftWheels$Doing"))) ({ frames := DF, cells := (uf.1 - u.1), slots := (uf.2.1 - u.2.1), locals := DL }) (uPc G u [.ref a0]) (uQr G r uf) (uf.1 - u.1) (uf.2.1 - u.2.1) (uA G)) (mx_X11_step : ∀ (u : UH) (a0 : Nat) (x : Nat) (uf : UH), ro_X11_step u a0 = some (.inl (x, uf)) → uMX l yX11_step (ws_ yX11_step cX11_step 5 (some (.object "SoftWheels$Doing"))) ({ frames := DF, cells := uf.1 - u.1, slots := uf.2.1 - u.2.1, locals := DL }) G u [.ref a0] x uf (uf.1 - u.1) (uf.2.1 - u.2.1)) (mo_X11_inner : ∀ (u : UH) (a0 : Nat) (r : Option Nat) (uf : UH), ro_X11_inner u a0 = some (.inr (r, uf)) → Met l yX11_inner (ws_ yX11_inner cX11_inner 2 (some (.object "java/util/List"))) ({ frames := DF, cells := (uf.1 - u.1), slots := (uf.2.1 - u.2.1), locals := DL }) (uPc G u [.ref a0]) (uQr G r uf) (uf.1 - u.1) (uf.2.1 - u.2.1) (uA G)) (mx_X11_inner : ∀ (u : UH) (a0 : Nat) (x : Nat) (uf : UH), ro_X11_inner u a0 = some (.inl (x, uf)) → uMX l yX11_inner (ws_ yX11_inner cX11_inner 2 (some (.object "java/util/List"))) ({ frames := DF, cells := uf.1 - u.1, slots := uf.2.1 - u.2.1, locals := DL }) G u [.ref a0] x uf (uf.1 - u.1) (uf.2.1 - u.2.1)) (hRr : DF + 1 ≤ R.frames ∧ 60 + DL ≤ R.locals) (u : UH) (s0 : Option Nat) (h : f_X11_inner_20 N (ub G) (ug G) ro_X11_plan ro_X11_step ro_X11_inner a0 u s0 = some z) (hz0 : (u0.1 ≤ u.1 ∧ u0.2.1 ≤ u.2.1)) {H : Heap} {locs : List Loc} (hP : uP G u H) (hS : va_S (uA G) s.heap H locs) {ls : Array Slot} (hl : lv_has ls 2 []) : W p l e R s m args below meth c H locs (u.1 - u0.1) (u.2.1 - u0.2.1) (uMQr below G z args s ((uX1 z).1 - u0.1) ((uX1 z).2.1 - u0.2.1)) (F0 m 20 ls [va_rf s0]) := by
  obtain ⟨⟨hx, hb, hml, hown, hts⟩, hKK⟩ := id hC
  have hzf := zz_X11_inner_20 (G := G) (a0 := a0) N ro_X11_plan ro_X11_step ro_X11_inner zo_X11_plan zo_X11_step zo_X11_inner u s0 h
  unfold f_X11_inner_20 at h
  obtain ⟨a1, ha1, hha1⟩ := mbind_n h
  subst ha1
  have h := hha1
  have hz := Option.some.inj h
  subst hz
  exact u_athrow hC (u_noE hE) hP hS dX11_inner_20
def fo_X11_inner (N b : Nat) (g : uEnv) (ro_X11_plan : UH → Nat → Option ((Nat × UH) ⊕ (Option Nat × UH))) (ro_X11_step : UH → Nat → Option ((Nat × UH) ⊕ (Option Nat × UH))) (ro_X11_inner : UH → Nat → Option ((Nat × UH) ⊕ (Option Nat × UH))) (u : UH) (a0 : Nat) : Option ((Nat × UH) ⊕ (Option Nat × UH)) :=
    (uGR u a0 9 0).bind fun o1 =>
    (o1).bind fun a2 =>
    if uIs u a2 4 = true then
    ucall (f_X5_is_2 N b g u a2 40) fun r6 u4 =>
    if r6 = 0 then
    (uGR u4 a0 9 0).bind fun o23 =>
    (o23).bind fun a24 =>
    if uIs u4 a24 4 = true then
    ucall (f_X5_fault N b g u4 a24 1) fun o28 u26 =>
    f_X11_inner_20 N b g ro_X11_plan ro_X11_step ro_X11_inner a0 u26 o28
    else none
    else
    (uGI u4 a0 9 4).bind fun y8 =>
    if y8 = 6 then
    (uGR u4 a0 9 0).bind fun o17 =>
    (o17).bind fun a18 =>
    if uIs u4 a18 4 = true then
    ucall (f_X5_fault N b g u4 a18 5) fun o22 u20 =>
    f_X11_inner_38 N b g ro_X11_plan ro_X11_step ro_X11_inner a0 u20 o22
    else none
    else
    (uGI u4 a0 9 4).bind fun y10 =>
    (uPut b u4 a0 9 4 (.int (y10 + 1))).bind fun u11 =>
    (uGR u11 a0 9 0).bind fun o12 =>
    (o12).bind fun a13 =>
    if uIs u11 a13 4 = true then
    (f_X5_next N b g u11 a13).bind fun u15 =>
    f_X11_inner_56 N b g ro_X11_plan ro_X11_step ro_X11_inner a0 u15
    else none
    else none
set_option maxHeartbeats 4000000 in
set_option maxRecDepth 100000 in
theorem zz_X11_inner_0 {G : uG} {a0 : Nat} {z : (Nat × UH) ⊕ (Option Nat × UH)} (N : Nat) (ro_X11_plan : UH → Nat → Option ((Nat × UH) ⊕ (Option Nat × UH))) (ro_X11_step : UH → Nat → Option ((Nat × UH) ⊕ (Option Nat × UH))) (ro_X11_inner : UH → Nat → Option ((Nat × UH) ⊕ (Option Nat × UH))) (zo_X11_plan : ∀ (u : UH) (a0 : Nat) (z : (Nat × UH) ⊕ (Option Nat × UH)), ro_X11_plan u a0 = some z → u.1 ≤ (uX1 z).1 ∧ u.2.1 ≤ (uX1 z).2.1) (zo_X11_step : ∀ (u : UH) (a0 : Nat) (z : (Nat × UH) ⊕ (Option Nat × UH)), ro_X11_step u a0 = some z → u.1 ≤ (uX1 z).1 ∧ u.2.1 ≤ (uX1 z).2.1) (zo_X11_inner : ∀ (u : UH) (a0 : Nat) (z : (Nat × UH) ⊕ (Option Nat × UH)), ro_X11_inner u a0 = some z → u.1 ≤ (uX1 z).1 ∧ u.2.1 ≤ (uX1 z).2.1) (u : UH) (h : fo_X11_inner N (ub G) (ug G) ro_X11_plan ro_X11_step ro_X11_inner u a0 = some z) : u.1 ≤ (uX1 z).1 ∧ u.2.1 ≤ (uX1 z).2.1 := by
  unfold fo_X11_inner at h
  obtain ⟨o1, ho1, h⟩ := mbind_n h
  obtain ⟨a2, ha2, hha2⟩ := mbind_n h
  subst ha2
  have h := hha2
  obtain ⟨c3, h⟩ := mif_n h
  obtain ⟨r6, u4, c5, h⟩ := ucall_n h
  have zu4 := zz_X5_is_2 N (ub G) (ug G) u a2 40 r6 u4 c5
  by_cases c7 : r6 = 0
  · have h := mif_t c7 h
    obtain ⟨o23, ho23, h⟩ := mbind_n h
    obtain ⟨a24, ha24, hha24⟩ := mbind_n h
    subst ha24
    have h := hha24
    obtain ⟨c25, h⟩ := mif_n h
    obtain ⟨o28, u26, c27, h⟩ := ucall_n h
    have zu26 := zz_X5_fault N (ub G) (ug G) u4 a24 1 o28 u26 c27
    have hq := zz_X11_inner_20 (G := G) (a0 := a0) N  ro_X11_plan ro_X11_step ro_X11_inner zo_X11_plan zo_X11_step zo_X11_inner u26 o28 h
    exact ⟨by omega, by omega⟩
  · have h := mif_f c7 h
    obtain ⟨y8, hy8, h⟩ := mbind_n h
    by_cases c9 : y8 = 6
    · have h := mif_t c9 h
      obtain ⟨o17, ho17, h⟩ := mbind_n h
      obtain ⟨a18, ha18, hha18⟩ := mbind_n h
      subst ha18
      have h := hha18
      obtain ⟨c19, h⟩ := mif_n h
      obtain ⟨o22, u20, c21, h⟩ := ucall_n h
      have zu20 := zz_X5_fault N (ub G) (ug G) u4 a18 5 o22 u20 c21
      have hq := zz_X11_inner_38 (G := G) (a0 := a0) N  ro_X11_plan ro_X11_step ro_X11_inner zo_X11_plan zo_X11_step zo_X11_inner u20 o22 h
      exact ⟨by omega, by omega⟩
    · have h := mif_f c9 h
      obtain ⟨y10, hy10, h⟩ := mbind_n h
      obtain ⟨u11, hu11, h⟩ := mbind_n h
      have zu11 := uPut_sz hu11
      obtain ⟨o12, ho12, h⟩ := mbind_n h
      obtain ⟨a13, ha13, hha13⟩ := mbind_n h
      subst ha13
      have h := hha13
      obtain ⟨c14, h⟩ := mif_n h
      obtain ⟨u15, c16, h⟩ := mbind_n h
      have zu15 := zz_X5_next N (ub G) (ug G) u11 a13 u15 c16
      have hq := zz_X11_inner_56 (G := G) (a0 := a0) N  ro_X11_plan ro_X11_step ro_X11_inner zo_X11_plan zo_X11_step zo_X11_inner u15 h
      exact ⟨by omega, by omega⟩
set_option maxHeartbeats 4000000 in
set_option maxRecDepth 100000 in
theorem w_X11_inner_0 {p : Program} {l : Launch} {e : Env} {R : Room} {s : State} {m : MethodId} {args : Array Value} {below : List Frame} {meth : Method} {c : Code} {G : uG} {a0 : Nat} {u0 : UH} {z : (Nat × UH) ⊕ (Option Nat × UH)} (hC : uC p s m args meth c G RX11 cX11_inner 2 (some (.object "java/util/List"))) (hE : c.exceptionTable.toList = []) (hR : 10 ≤ R.frames ∧ 257 ≤ R.locals) (hRm : (uX1 z).1 - u0.1 ≤ R.cells ∧ (uX1 z).2.1 - u0.2.1 ≤ R.slots) (N : Nat) (ro_X11_plan : UH → Nat → Option ((Nat × UH) ⊕ (Option Nat × UH))) (ro_X11_step : UH → Nat → Option ((Nat × UH) ⊕ (Option Nat × UH))) (ro_X11_inner : UH → Nat → Option ((Nat × UH) ⊕ (Option Nat × UH))) (zo_X11_plan : ∀ (u : UH) (a0 : Nat) (z : (Nat × UH) ⊕ (Option Nat × UH)), ro_X11_plan u a0 = some z → u.1 ≤ (uX1 z).1 ∧ u.2.1 ≤ (uX1 z).2.1) (zo_X11_step : ∀ (u : UH) (a0 : Nat) (z : (Nat × UH) ⊕ (Option Nat × UH)), ro_X11_step u a0 = some z → u.1 ≤ (uX1 z).1 ∧ u.2.1 ≤ (uX1 z).2.1) (zo_X11_inner : ∀ (u : UH) (a0 : Nat) (z : (Nat × UH) ⊕ (Option Nat × UH)), ro_X11_inner u a0 = some z → u.1 ≤ (uX1 z).1 ∧ u.2.1 ≤ (uX1 z).2.1) {DF DL : Nat} (mo_X11_plan : ∀ (u : UH) (a0 : Nat) (r : Option Nat) (uf : UH), ro_X11_plan u a0 = some (.inr (r, uf)) → Met l yX11_plan (ws_ yX11_plan cX11_plan 2 (some (.object "java/util/List"))) ({ frames := DF, cells := (uf.1 - u.1), slots := (uf.2.1 - u.2.1), locals := DL }) (uPc G u [.ref a0]) (uQr G r uf) (uf.1 - u.1) (uf.2.1 - u.2.1) (uA G)) (mx_X11_plan : ∀ (u : UH) (a0 : Nat) (x : Nat) (uf : UH), ro_X11_plan u a0 = some (.inl (x, uf)) → uMX l yX11_plan (ws_ yX11_plan cX11_plan 2 (some (.object "java/util/List"))) ({ frames := DF, cells := uf.1 - u.1, slots := uf.2.1 - u.2.1, locals := DL }) G u [.ref a0] x uf (uf.1 - u.1) (uf.2.1 - u.2.1)) (mo_X11_step : ∀ (u : UH) (a0 : Nat) (r : Option Nat) (uf : UH), ro_X11_step u a0 = some (.inr (r, uf)) → Met l yX11_step (ws_ yX11_step cX11_step 5 (some (.object "SoftWheels$Doing"))) ({ frames := DF, cells := (uf.1 - u.1), slots := (uf.2.1 - u.2.1), locals := DL }) (uPc G u [.ref a0]) (uQr G r uf) (uf.1 - u.1) (uf.2.1 - u.2.1) (uA G)) (mx_X11_step : ∀ (u : UH) (a0 : Nat) (x : Nat) (uf : UH), ro_X11_step u a0 = some (.inl (x, uf)) → uMX l yX11_step (ws_ yX11_step cX11_step 5 (some (.object "SoftWheels$Doing"))) ({ frames := DF, cells := uf.1 - u.1, slots := uf.2.1 - u.2.1, locals := DL }) G u [.ref a0] x uf (uf.1 - u.1) (uf.2.1 - u.2.1)) (mo_X11_inner : ∀ (u : UH) (a0 : Nat) (r : Option Nat) (uf : UH), ro_X11_inner u a0 = some (.inr (r, uf)) → Met l yX11_inner (ws_ yX11_inner cX11_inner 2 (some (.object "java/util/List"))) ({ frames := DF, cells := (uf.1 - u.1), slots := (uf.2.1 - u.2.1), locals := DL }) (uPc G u [.ref a0]) (uQr G r uf) (uf.1 - u.1) (uf.2.1 - u.2.1) (uA G)) (mx_X11_inner : ∀ (u : UH) (a0 : Nat) (x : Nat) (uf : UH), ro_X11_inner u a0 = some (.inl (x, uf)) → uMX l yX11_inner (ws_ yX11_inner cX11_inner 2 (some (.object "java/util/List"))) ({ frames := DF, cells := uf.1 - u.1, slots := uf.2.1 - u.2.1, locals := DL }) G u [.ref a0] x uf (uf.1 - u.1) (uf.2.1 - u.2.1)) (hRr : DF + 1 ≤ R.frames ∧ 60 + DL ≤ R.locals) (u : UH) (h : fo_X11_inner N (ub G) (ug G) ro_X11_plan ro_X11_step ro_X11_inner u a0 = some z) (hz0 : (u0.1 ≤ u.1 ∧ u0.2.1 ≤ u.2.1)) {H : Heap} {locs : List Loc} (hP : uP G u H) (hS : va_S (uA G) s.heap H locs) {ls : Array Slot} (hl : lv_has ls 2 [(0, va_rf (some a0))]) : W p l e R s m args below meth c H locs (u.1 - u0.1) (u.2.1 - u0.2.1) (uMQr below G z args s ((uX1 z).1 - u0.1) ((uX1 z).2.1 - u0.2.1)) (F0 m 0 ls []) := by
  obtain ⟨⟨hx, hb, hml, hown, hts⟩, hKK⟩ := id hC
  have hzf := zz_X11_inner_0 (G := G) (a0 := a0) N ro_X11_plan ro_X11_step ro_X11_inner zo_X11_plan zo_X11_step zo_X11_inner u h
  unfold fo_X11_inner at h
  refine u_aload_n (r := some a0) hx hb dX11_inner_0 rfl (lv_at hl 0 rfl) ?_
  obtain ⟨o1, ho1, h⟩ := mbind_n h
  refine u_get hC hP (uGR_n ho1) rfl in_X11 (by decide) q1545 (fun _ h => h) dX11_inner_1 ?_
  refine lv_bipush (v := 40) hx hb dX11_inner_4 (by decide) ?_
  obtain ⟨a2, ha2, hha2⟩ := mbind_n h
  subst ha2
  have h := hha2
  obtain ⟨c3, h⟩ := mif_n h
  obtain ⟨r6, u4, c5, h⟩ := ucall_n h
  have zu4 := zz_X5_is_2 N (ub G) (ug G) u a2 40 r6 u4 c5
  refine u_calli (va_runV (As := [.int 40]) (rest := []) hC.1 (met_X5_is_2 l N G u a2 40 r6 u4 c5) (cwV 1 hts (lw_V q1605 q691 q692 q105 q693) rfl rfl rfl (by decide +kernel) ⟨Nat.le_trans (Nat.le_of_ble_eq_true rfl) hR.1, Nat.le_trans (Nat.le_of_ble_eq_true rfl) hR.2⟩) ⟨uPc_blind, u_rcv hC hP c3 rfl, fun U hU hW => u_pre hC hP hS hU hW⟩ rfl rfl hl.1 rfl (lv_room (Nat.le_of_ble_eq_true rfl)) dX11_inner_6 ⟨by omega, by omega⟩) hS (fun H locs hP hS => ?_)
  refine W.cs (cells' := u4.1 - u0.1) (slots' := u4.2.1 - u0.2.1) (by omega) (by omega) ?_
  refine lv_if_ne (tgt := 21) hx hb dX11_inner_9 (by decide) (fun c7 => ?_) (fun c7 => ?_)
  · have h := mif_f c7 h
    refine u_aload_n (r := some a0) hx hb dX11_inner_21 rfl (lv_at hl 0 rfl) ?_
    obtain ⟨y8, hy8, h⟩ := mbind_n h
    refine u_get hC hP (uGI_n hy8) rfl in_X11 (by decide) q1549 (fun _ h => h) dX11_inner_22 ?_
    refine lv_bipush (v := 6) hx hb dX11_inner_25 (by decide) ?_
    refine lv_icmp_ne (tgt := 39) hx hb dX11_inner_27 (by decide) (fun c9 => ?_) (fun c9 => ?_)
    · have h := mif_f c9 h
      refine u_aload_n (r := some a0) hx hb dX11_inner_39 rfl (lv_at hl 0 rfl) ?_
      refine lv_dup hx hb dX11_inner_40 (u_cat _) ?_
      obtain ⟨y10, hy10, h⟩ := mbind_n h
      refine u_get hC hP (uGI_n hy10) rfl in_X11 (by decide) q1549 (fun _ h => h) dX11_inner_41 ?_
      refine lv_iconst (v := 1) hx hb dX11_inner_44 (by decide) ?_
      refine lv_iadd hx hb dX11_inner_45 ?_
      obtain ⟨u11, hu11, h⟩ := mbind_n h
      have zu11 := uPut_sz hu11
      refine u_put hC hP hS hu11 rfl in_X11 tyX11 tyX11_ok nmX11 (by decide) q1549 (fun _ h => h) rfl (ty := .int) (tyX11_ok 4 (by decide)) rfl rfl dX11_inner_46 (fun H locs hP hS => ?_)
      refine W.cs (cells' := u11.1 - u0.1) (slots' := u11.2.1 - u0.2.1) (by omega) (by omega) ?_
      refine u_aload_n (r := some a0) hx hb dX11_inner_49 rfl (lv_at hl 0 rfl) ?_
      obtain ⟨o12, ho12, h⟩ := mbind_n h
      refine u_get hC hP (uGR_n ho12) rfl in_X11 (by decide) q1545 (fun _ h => h) dX11_inner_50 ?_
      obtain ⟨a13, ha13, hha13⟩ := mbind_n h
      subst ha13
      have h := hha13
      obtain ⟨c14, h⟩ := mif_n h
      obtain ⟨u15, c16, h⟩ := mbind_n h
      have zu15 := zz_X5_next N (ub G) (ug G) u11 a13 u15 c16
      have hq := zz_X11_inner_56 (G := G) (a0 := a0) N ro_X11_plan ro_X11_step ro_X11_inner zo_X11_plan zo_X11_step zo_X11_inner u15 h
      refine u_callv (va_runV (As := []) (rest := []) hC.1 (met_X5_next l N G u11 a13 u15 c16) (cwV 0 hts (lw_V q1580 q340 q341 q105 q342) rfl rfl rfl (by decide +kernel) ⟨Nat.le_trans (Nat.le_of_ble_eq_true rfl) hR.1, Nat.le_trans (Nat.le_of_ble_eq_true rfl) hR.2⟩) ⟨uPc_blind, u_rcv hC hP c14 rfl, fun U hU hW => u_pre hC hP hS hU hW⟩ rfl rfl hl.1 rfl (lv_room (Nat.le_of_ble_eq_true rfl)) dX11_inner_53 ⟨by omega, by omega⟩) hS (fun H locs hP hS => ?_)
      refine W.cs (cells' := u15.1 - u0.1) (slots' := u15.2.1 - u0.2.1) (by omega) (by omega) ?_
      refine W.cs (cells' := u15.1 - u0.1) (slots' := u15.2.1 - u0.2.1) (by omega) (by omega) ?_
      exact w_X11_inner_56 hC hE hR hRm N  ro_X11_plan ro_X11_step ro_X11_inner zo_X11_plan zo_X11_step zo_X11_inner mo_X11_plan mx_X11_plan mo_X11_step mx_X11_step mo_X11_inner mx_X11_inner hRr u15 h ⟨by omega, by omega⟩ hP hS (lv_sub hl [0] rfl)
    · have h := mif_t c9 h
      refine u_aload_n (r := some a0) hx hb dX11_inner_30 rfl (lv_at hl 0 rfl) ?_
      obtain ⟨o17, ho17, h⟩ := mbind_n h
      refine u_get hC hP (uGR_n ho17) rfl in_X11 (by decide) q1545 (fun _ h => h) dX11_inner_31 ?_
      refine lv_iconst (v := 5) hx hb dX11_inner_34 (by decide) ?_
      obtain ⟨a18, ha18, hha18⟩ := mbind_n h
      subst ha18
      have h := hha18
      obtain ⟨c19, h⟩ := mif_n h
      obtain ⟨o22, u20, c21, h⟩ := ucall_n h
      have zu20 := zz_X5_fault N (ub G) (ug G) u4 a18 5 o22 u20 c21
      have hq := zz_X11_inner_38 (G := G) (a0 := a0) N ro_X11_plan ro_X11_step ro_X11_inner zo_X11_plan zo_X11_step zo_X11_inner u20 o22 h
      refine u_callr (va_runV (As := [.int 5]) (rest := []) hC.1 (met_X5_fault l N G u4 a18 5 o22 u20 c21) (cwV 1 hts (lw_V q1579 q781 q782 q105 q783) rfl rfl rfl (by decide +kernel) ⟨Nat.le_trans (Nat.le_of_ble_eq_true rfl) hR.1, Nat.le_trans (Nat.le_of_ble_eq_true rfl) hR.2⟩) ⟨uPc_blind, u_rcv hC hP c19 rfl, fun U hU hW => u_pre hC hP hS hU hW⟩ rfl rfl hl.1 rfl (lv_room (Nat.le_of_ble_eq_true rfl)) dX11_inner_35 ⟨by omega, by omega⟩) hS (fun H locs hP hS => ?_)
      refine W.cs (cells' := u20.1 - u0.1) (slots' := u20.2.1 - u0.2.1) (by omega) (by omega) ?_
      refine W.cs (cells' := u20.1 - u0.1) (slots' := u20.2.1 - u0.2.1) (by omega) (by omega) ?_
      exact w_X11_inner_38 hC hE hR hRm N  ro_X11_plan ro_X11_step ro_X11_inner zo_X11_plan zo_X11_step zo_X11_inner mo_X11_plan mx_X11_plan mo_X11_step mx_X11_step mo_X11_inner mx_X11_inner hRr u20 o22 h ⟨by omega, by omega⟩ hP hS (lv_sub hl [] rfl)
  · have h := mif_t c7 h
    refine u_aload_n (r := some a0) hx hb dX11_inner_12 rfl (lv_at hl 0 rfl) ?_
    obtain ⟨o23, ho23, h⟩ := mbind_n h
    refine u_get hC hP (uGR_n ho23) rfl in_X11 (by decide) q1545 (fun _ h => h) dX11_inner_13 ?_
    refine lv_iconst (v := 1) hx hb dX11_inner_16 (by decide) ?_
    obtain ⟨a24, ha24, hha24⟩ := mbind_n h
    subst ha24
    have h := hha24
    obtain ⟨c25, h⟩ := mif_n h
    obtain ⟨o28, u26, c27, h⟩ := ucall_n h
    have zu26 := zz_X5_fault N (ub G) (ug G) u4 a24 1 o28 u26 c27
    have hq := zz_X11_inner_20 (G := G) (a0 := a0) N ro_X11_plan ro_X11_step ro_X11_inner zo_X11_plan zo_X11_step zo_X11_inner u26 o28 h
    refine u_callr (va_runV (As := [.int 1]) (rest := []) hC.1 (met_X5_fault l N G u4 a24 1 o28 u26 c27) (cwV 1 hts (lw_V q1579 q781 q782 q105 q783) rfl rfl rfl (by decide +kernel) ⟨Nat.le_trans (Nat.le_of_ble_eq_true rfl) hR.1, Nat.le_trans (Nat.le_of_ble_eq_true rfl) hR.2⟩) ⟨uPc_blind, u_rcv hC hP c25 rfl, fun U hU hW => u_pre hC hP hS hU hW⟩ rfl rfl hl.1 rfl (lv_room (Nat.le_of_ble_eq_true rfl)) dX11_inner_17 ⟨by omega, by omega⟩) hS (fun H locs hP hS => ?_)
    refine W.cs (cells' := u26.1 - u0.1) (slots' := u26.2.1 - u0.2.1) (by omega) (by omega) ?_
    refine W.cs (cells' := u26.1 - u0.1) (slots' := u26.2.1 - u0.2.1) (by omega) (by omega) ?_
    exact w_X11_inner_20 hC hE hR hRm N  ro_X11_plan ro_X11_step ro_X11_inner zo_X11_plan zo_X11_step zo_X11_inner mo_X11_plan mx_X11_plan mo_X11_step mx_X11_step mo_X11_inner mx_X11_inner hRr u26 o28 h ⟨by omega, by omega⟩ hP hS (lv_sub hl [] rfl)
def rec_plan (N b : Nat) (g : uEnv) : Nat → (UH → Nat → Option ((Nat × UH) ⊕ (Option Nat × UH))) × (UH → Nat → Option ((Nat × UH) ⊕ (Option Nat × UH))) × (UH → Nat → Option ((Nat × UH) ⊕ (Option Nat × UH)))
  | 0 => (fun _ _ => none, fun _ _ => none, fun _ _ => none)
  | d + 1 => (fun u a0 => fo_X11_plan N b g ((rec_plan N b g d).1) ((rec_plan N b g d).2.1) ((rec_plan N b g d).2.2) u a0, fun u a0 => fo_X11_step N b g ((rec_plan N b g d).1) ((rec_plan N b g d).2.1) ((rec_plan N b g d).2.2) u a0, fun u a0 => fo_X11_inner N b g ((rec_plan N b g d).1) ((rec_plan N b g d).2.1) ((rec_plan N b g d).2.2) u a0)
theorem recz_plan (G : uG) (N : Nat) : ∀ d : Nat, (∀ (u : UH) (a0 : Nat) (z : (Nat × UH) ⊕ (Option Nat × UH)), ((rec_plan N (ub G) (ug G) d).1) u a0 = some z → u.1 ≤ (uX1 z).1 ∧ u.2.1 ≤ (uX1 z).2.1) ∧ (∀ (u : UH) (a0 : Nat) (z : (Nat × UH) ⊕ (Option Nat × UH)), ((rec_plan N (ub G) (ug G) d).2.1) u a0 = some z → u.1 ≤ (uX1 z).1 ∧ u.2.1 ≤ (uX1 z).2.1) ∧ (∀ (u : UH) (a0 : Nat) (z : (Nat × UH) ⊕ (Option Nat × UH)), ((rec_plan N (ub G) (ug G) d).2.2) u a0 = some z → u.1 ≤ (uX1 z).1 ∧ u.2.1 ≤ (uX1 z).2.1) := by
  intro d
  induction d with
  | zero => exact ⟨(by intro u a0 z h; cases h), (by intro u a0 z h; cases h), (by intro u a0 z h; cases h)⟩
  | succ d ih =>
    exact ⟨(by intro u a0 z h; exact zz_X11_plan_0 (G := G) (a0 := a0) N _ _ _ ih.1 ih.2.1 ih.2.2 u h), (by intro u a0 z h; exact zz_X11_step_0 (G := G) (a0 := a0) N _ _ _ ih.1 ih.2.1 ih.2.2 u h), (by intro u a0 z h; exact zz_X11_inner_0 (G := G) (a0 := a0) N _ _ _ ih.1 ih.2.1 ih.2.2 u h)⟩
set_option maxHeartbeats 4000000 in
set_option maxRecDepth 100000 in
theorem recm_plan (l : Launch) (G : uG) (N : Nat) : ∀ d : Nat, ((∀ (u : UH) (a0 : Nat) (r : Option Nat) (uf : UH), ((rec_plan N (ub G) (ug G) d).1) u a0 = some (.inr (r, uf)) → Met l yX11_plan (ws_ yX11_plan cX11_plan 2 (some (.object "java/util/List"))) ({ frames := 10 + d, cells := (uf.1 - u.1), slots := (uf.2.1 - u.2.1), locals := 257 + 60 * d }) (uPc G u [.ref a0]) (uQr G r uf) (uf.1 - u.1) (uf.2.1 - u.2.1) (uA G)) ∧ ∀ (u : UH) (a0 : Nat) (x : Nat) (uf : UH), ((rec_plan N (ub G) (ug G) d).1) u a0 = some (.inl (x, uf)) → uMX l yX11_plan (ws_ yX11_plan cX11_plan 2 (some (.object "java/util/List"))) ({ frames := 10 + d, cells := uf.1 - u.1, slots := uf.2.1 - u.2.1, locals := 257 + 60 * d }) G u [.ref a0] x uf (uf.1 - u.1) (uf.2.1 - u.2.1)) ∧ ((∀ (u : UH) (a0 : Nat) (r : Option Nat) (uf : UH), ((rec_plan N (ub G) (ug G) d).2.1) u a0 = some (.inr (r, uf)) → Met l yX11_step (ws_ yX11_step cX11_step 5 (some (.object "SoftWheels$Doing"))) ({ frames := 10 + d, cells := (uf.1 - u.1), slots := (uf.2.1 - u.2.1), locals := 257 + 60 * d }) (uPc G u [.ref a0]) (uQr G r uf) (uf.1 - u.1) (uf.2.1 - u.2.1) (uA G)) ∧ ∀ (u : UH) (a0 : Nat) (x : Nat) (uf : UH), ((rec_plan N (ub G) (ug G) d).2.1) u a0 = some (.inl (x, uf)) → uMX l yX11_step (ws_ yX11_step cX11_step 5 (some (.object "SoftWheels$Doing"))) ({ frames := 10 + d, cells := uf.1 - u.1, slots := uf.2.1 - u.2.1, locals := 257 + 60 * d }) G u [.ref a0] x uf (uf.1 - u.1) (uf.2.1 - u.2.1)) ∧ ((∀ (u : UH) (a0 : Nat) (r : Option Nat) (uf : UH), ((rec_plan N (ub G) (ug G) d).2.2) u a0 = some (.inr (r, uf)) → Met l yX11_inner (ws_ yX11_inner cX11_inner 2 (some (.object "java/util/List"))) ({ frames := 10 + d, cells := (uf.1 - u.1), slots := (uf.2.1 - u.2.1), locals := 257 + 60 * d }) (uPc G u [.ref a0]) (uQr G r uf) (uf.1 - u.1) (uf.2.1 - u.2.1) (uA G)) ∧ ∀ (u : UH) (a0 : Nat) (x : Nat) (uf : UH), ((rec_plan N (ub G) (ug G) d).2.2) u a0 = some (.inl (x, uf)) → uMX l yX11_inner (ws_ yX11_inner cX11_inner 2 (some (.object "java/util/List"))) ({ frames := 10 + d, cells := uf.1 - u.1, slots := uf.2.1 - u.2.1, locals := 257 + 60 * d }) G u [.ref a0] x uf (uf.1 - u.1) (uf.2.1 - u.2.1)) := by
  intro d
  induction d with
  | zero => exact ⟨⟨(by intro u a0 r uf h; cases h), (by intro u a0 x uf h; cases h)⟩, ⟨(by intro u a0 r uf h; cases h), (by intro u a0 x uf h; cases h)⟩, ⟨(by intro u a0 r uf h; cases h), (by intro u a0 x uf h; cases h)⟩⟩
  | succ d ih =>
    have iz := recz_plan G N d
    refine ⟨⟨?_, ?_⟩, ⟨?_, ?_⟩, ⟨?_, ?_⟩⟩
    · intro u a0 r uf h
      exact u_metE (own := RX11) (by decide +kernel) rfl (Nat.le_of_ble_eq_true rfl) (fun hC hE hn hsz ls hl hP => W.cs (Nat.sub_self _).symm (Nat.sub_self _).symm (w_X11_plan_0 hC hE ⟨by show _ ≤ _ + _; omega, by show _ ≤ _ + _; omega⟩ ⟨Nat.le_refl _, Nat.le_refl _⟩ N _ _ _ iz.1 iz.2.1 iz.2.2 ih.1.1 ih.1.2 ih.2.1.1 ih.2.1.2 ih.2.2.1 ih.2.2.2 ⟨by show _ ≤ _ + _; omega, by show _ ≤ _ + _; omega⟩ u h ⟨Nat.le_refl _, Nat.le_refl _⟩ hP va_S.rf hl))
    · intro u a0 x uf h
      exact u_metX (own := RX11) (by decide +kernel) rfl (Nat.le_of_ble_eq_true rfl) (fun hC hE hn hsz ls hl hP => W.cs (Nat.sub_self _).symm (Nat.sub_self _).symm (w_X11_plan_0 hC hE ⟨by show _ ≤ _ + _; omega, by show _ ≤ _ + _; omega⟩ ⟨Nat.le_refl _, Nat.le_refl _⟩ N _ _ _ iz.1 iz.2.1 iz.2.2 ih.1.1 ih.1.2 ih.2.1.1 ih.2.1.2 ih.2.2.1 ih.2.2.2 ⟨by show _ ≤ _ + _; omega, by show _ ≤ _ + _; omega⟩ u h ⟨Nat.le_refl _, Nat.le_refl _⟩ hP va_S.rf hl))
    · intro u a0 r uf h
      exact u_metE (own := RX11) (by decide +kernel) rfl (Nat.le_of_ble_eq_true rfl) (fun hC hE hn hsz ls hl hP => W.cs (Nat.sub_self _).symm (Nat.sub_self _).symm (w_X11_step_0 hC hE ⟨by show _ ≤ _ + _; omega, by show _ ≤ _ + _; omega⟩ ⟨Nat.le_refl _, Nat.le_refl _⟩ N _ _ _ iz.1 iz.2.1 iz.2.2 ih.1.1 ih.1.2 ih.2.1.1 ih.2.1.2 ih.2.2.1 ih.2.2.2 ⟨by show _ ≤ _ + _; omega, by show _ ≤ _ + _; omega⟩ u h ⟨Nat.le_refl _, Nat.le_refl _⟩ hP va_S.rf hl))
    · intro u a0 x uf h
      exact u_metX (own := RX11) (by decide +kernel) rfl (Nat.le_of_ble_eq_true rfl) (fun hC hE hn hsz ls hl hP => W.cs (Nat.sub_self _).symm (Nat.sub_self _).symm (w_X11_step_0 hC hE ⟨by show _ ≤ _ + _; omega, by show _ ≤ _ + _; omega⟩ ⟨Nat.le_refl _, Nat.le_refl _⟩ N _ _ _ iz.1 iz.2.1 iz.2.2 ih.1.1 ih.1.2 ih.2.1.1 ih.2.1.2 ih.2.2.1 ih.2.2.2 ⟨by show _ ≤ _ + _; omega, by show _ ≤ _ + _; omega⟩ u h ⟨Nat.le_refl _, Nat.le_refl _⟩ hP va_S.rf hl))
    · intro u a0 r uf h
      exact u_metE (own := RX11) (by decide +kernel) rfl (Nat.le_of_ble_eq_true rfl) (fun hC hE hn hsz ls hl hP => W.cs (Nat.sub_self _).symm (Nat.sub_self _).symm (w_X11_inner_0 hC hE ⟨by show _ ≤ _ + _; omega, by show _ ≤ _ + _; omega⟩ ⟨Nat.le_refl _, Nat.le_refl _⟩ N _ _ _ iz.1 iz.2.1 iz.2.2 ih.1.1 ih.1.2 ih.2.1.1 ih.2.1.2 ih.2.2.1 ih.2.2.2 ⟨by show _ ≤ _ + _; omega, by show _ ≤ _ + _; omega⟩ u h ⟨Nat.le_refl _, Nat.le_refl _⟩ hP va_S.rf hl))
    · intro u a0 x uf h
      exact u_metX (own := RX11) (by decide +kernel) rfl (Nat.le_of_ble_eq_true rfl) (fun hC hE hn hsz ls hl hP => W.cs (Nat.sub_self _).symm (Nat.sub_self _).symm (w_X11_inner_0 hC hE ⟨by show _ ≤ _ + _; omega, by show _ ≤ _ + _; omega⟩ ⟨Nat.le_refl _, Nat.le_refl _⟩ N _ _ _ iz.1 iz.2.1 iz.2.2 ih.1.1 ih.1.2 ih.2.1.1 ih.2.1.2 ih.2.2.1 ih.2.2.2 ⟨by show _ ≤ _ + _; omega, by show _ ≤ _ + _; omega⟩ u h ⟨Nat.le_refl _, Nat.le_refl _⟩ hP va_S.rf hl))
def f_X11_plan (N b : Nat) (g : uEnv) (u : UH) (a0 : Nat) : Option ((Nat × UH) ⊕ (Option Nat × UH)) := ((rec_plan N b g 30).1) u a0
theorem zz_X11_plan (N b : Nat) (g : uEnv) (u : UH) (a0 : Nat) (z : (Nat × UH) ⊕ (Option Nat × UH)) (h : f_X11_plan N b g u a0 = some z) : u.1 ≤ (uX1 z).1 ∧ u.2.1 ≤ (uX1 z).2.1 := ((recz_plan ((fun _ => 0, fun _ _ => 0), fun _ => 0, b, g) N 30).1) u a0 z h
theorem met_X11_plan (l : Launch) (N : Nat) (G : uG) (u : UH) (a0 : Nat) (r : Option Nat) (uf : UH) (h : f_X11_plan N (ub G) (ug G) u a0 = some (.inr (r, uf))) : Met l yX11_plan (ws_ yX11_plan cX11_plan 2 (some (.object "java/util/List"))) ({ frames := 40, cells := (uf.1 - u.1), slots := (uf.2.1 - u.2.1), locals := 2057 }) (uPc G u [.ref a0]) (uQr G r uf) (uf.1 - u.1) (uf.2.1 - u.2.1) (uA G) := ((recm_plan l G N 30).1).1 u a0 r uf h
theorem mex_X11_plan (l : Launch) (N : Nat) (G : uG) (u : UH) (a0 : Nat) (x : Nat) (uf : UH) (h : f_X11_plan N (ub G) (ug G) u a0 = some (.inl (x, uf))) : uMX l yX11_plan (ws_ yX11_plan cX11_plan 2 (some (.object "java/util/List"))) ({ frames := 40, cells := uf.1 - u.1, slots := uf.2.1 - u.2.1, locals := 2057 }) G u [.ref a0] x uf (uf.1 - u.1) (uf.2.1 - u.2.1) := ((recm_plan l G N 30).1).2 u a0 x uf h
def f_X11_step (N b : Nat) (g : uEnv) (u : UH) (a0 : Nat) : Option ((Nat × UH) ⊕ (Option Nat × UH)) := ((rec_plan N b g 30).2.1) u a0
theorem zz_X11_step (N b : Nat) (g : uEnv) (u : UH) (a0 : Nat) (z : (Nat × UH) ⊕ (Option Nat × UH)) (h : f_X11_step N b g u a0 = some z) : u.1 ≤ (uX1 z).1 ∧ u.2.1 ≤ (uX1 z).2.1 := ((recz_plan ((fun _ => 0, fun _ _ => 0), fun _ => 0, b, g) N 30).2.1) u a0 z h
theorem met_X11_step (l : Launch) (N : Nat) (G : uG) (u : UH) (a0 : Nat) (r : Option Nat) (uf : UH) (h : f_X11_step N (ub G) (ug G) u a0 = some (.inr (r, uf))) : Met l yX11_step (ws_ yX11_step cX11_step 5 (some (.object "SoftWheels$Doing"))) ({ frames := 40, cells := (uf.1 - u.1), slots := (uf.2.1 - u.2.1), locals := 2057 }) (uPc G u [.ref a0]) (uQr G r uf) (uf.1 - u.1) (uf.2.1 - u.2.1) (uA G) := ((recm_plan l G N 30).2.1).1 u a0 r uf h
theorem mex_X11_step (l : Launch) (N : Nat) (G : uG) (u : UH) (a0 : Nat) (x : Nat) (uf : UH) (h : f_X11_step N (ub G) (ug G) u a0 = some (.inl (x, uf))) : uMX l yX11_step (ws_ yX11_step cX11_step 5 (some (.object "SoftWheels$Doing"))) ({ frames := 40, cells := uf.1 - u.1, slots := uf.2.1 - u.2.1, locals := 2057 }) G u [.ref a0] x uf (uf.1 - u.1) (uf.2.1 - u.2.1) := ((recm_plan l G N 30).2.1).2 u a0 x uf h
def f_X11_inner (N b : Nat) (g : uEnv) (u : UH) (a0 : Nat) : Option ((Nat × UH) ⊕ (Option Nat × UH)) := ((rec_plan N b g 30).2.2) u a0
theorem zz_X11_inner (N b : Nat) (g : uEnv) (u : UH) (a0 : Nat) (z : (Nat × UH) ⊕ (Option Nat × UH)) (h : f_X11_inner N b g u a0 = some z) : u.1 ≤ (uX1 z).1 ∧ u.2.1 ≤ (uX1 z).2.1 := ((recz_plan ((fun _ => 0, fun _ _ => 0), fun _ => 0, b, g) N 30).2.2) u a0 z h
theorem met_X11_inner (l : Launch) (N : Nat) (G : uG) (u : UH) (a0 : Nat) (r : Option Nat) (uf : UH) (h : f_X11_inner N (ub G) (ug G) u a0 = some (.inr (r, uf))) : Met l yX11_inner (ws_ yX11_inner cX11_inner 2 (some (.object "java/util/List"))) ({ frames := 40, cells := (uf.1 - u.1), slots := (uf.2.1 - u.2.1), locals := 2057 }) (uPc G u [.ref a0]) (uQr G r uf) (uf.1 - u.1) (uf.2.1 - u.2.1) (uA G) := ((recm_plan l G N 30).2.2).1 u a0 r uf h
theorem mex_X11_inner (l : Launch) (N : Nat) (G : uG) (u : UH) (a0 : Nat) (x : Nat) (uf : UH) (h : f_X11_inner N (ub G) (ug G) u a0 = some (.inl (x, uf))) : uMX l yX11_inner (ws_ yX11_inner cX11_inner 2 (some (.object "java/util/List"))) ({ frames := 40, cells := uf.1 - u.1, slots := uf.2.1 - u.2.1, locals := 2057 }) G u [.ref a0] x uf (uf.1 - u.1) (uf.2.1 - u.2.1) := ((recm_plan l G N 30).2.2).2 u a0 x uf h
def f_X11_all_12 (N b : Nat) (g : uEnv) (a0 : Nat) (u : UH) (x1 : Option Nat) : Option ((Nat × UH) ⊕ (Option Nat × UH)) :=
    some (.inr (x1, u))
set_option maxHeartbeats 4000000 in
set_option maxRecDepth 100000 in
theorem zz_X11_all_12 {G : uG} {a0 : Nat} {z : (Nat × UH) ⊕ (Option Nat × UH)} (N : Nat) (u : UH) (x1 : Option Nat) (h : f_X11_all_12 N (ub G) (ug G) a0 u x1 = some z) : u.1 ≤ (uX1 z).1 ∧ u.2.1 ≤ (uX1 z).2.1 := by
  unfold f_X11_all_12 at h
  have hz := Option.some.inj h
  subst hz
  exact (show u.1 ≤ u.1 ∧ u.2.1 ≤ u.2.1 from ⟨by omega, by omega⟩)
set_option maxHeartbeats 4000000 in
set_option maxRecDepth 100000 in
theorem w_X11_all_12 {p : Program} {l : Launch} {e : Env} {R : Room} {s : State} {m : MethodId} {args : Array Value} {below : List Frame} {meth : Method} {c : Code} {G : uG} {a0 : Nat} {u0 : UH} {z : (Nat × UH) ⊕ (Option Nat × UH)} (hC : uC p s m args meth c G RX11 cX11_all 2 (some (.object "java/util/List"))) (hE : c.exceptionTable.toList = []) (hR : 41 ≤ R.frames ∧ 2078 ≤ R.locals) (hRm : (uX1 z).1 - u0.1 ≤ R.cells ∧ (uX1 z).2.1 - u0.2.1 ≤ R.slots) (N : Nat) (u : UH) (x1 : Option Nat) (h : f_X11_all_12 N (ub G) (ug G) a0 u x1 = some z) (hz0 : (u0.1 ≤ u.1 ∧ u0.2.1 ≤ u.2.1)) {H : Heap} {locs : List Loc} (hP : uP G u H) (hS : va_S (uA G) s.heap H locs) {ls : Array Slot} (hl : lv_has ls 2 [(1, va_rf x1)]) : W p l e R s m args below meth c H locs (u.1 - u0.1) (u.2.1 - u0.2.1) (uMQr below G z args s ((uX1 z).1 - u0.1) ((uX1 z).2.1 - u0.2.1)) (F0 m 12 ls []) := by
  obtain ⟨⟨hx, hb, hml, hown, hts⟩, hKK⟩ := id hC
  have hzf := zz_X11_all_12 (G := G) (a0 := a0) N u x1 h
  unfold f_X11_all_12 at h
  refine u_aload_n (r := x1) hx hb dX11_all_12 rfl (lv_at hl 0 rfl) ?_
  have hz := Option.some.inj h
  subst hz
  exact u_aret hC (Or.inl ⟨_, rfl⟩) hP hS dX11_all_13
def f_X11_all_4 (N b : Nat) (g : uEnv) (a0 : Nat) (u : UH) (s0 : Option Nat) : Option ((Nat × UH) ⊕ (Option Nat × UH)) :=
    (uGR u a0 9 0).bind fun o1 =>
    (o1).bind fun a2 =>
    if uIs u a2 4 = true then
    uxcallv (f_X5_needsEnd N b g u a2) (fun a6 u7 =>
    some (.inl (a6, u7))) fun u4 =>
    f_X11_all_12 N b g a0 u4 s0
    else none
set_option maxHeartbeats 4000000 in
set_option maxRecDepth 100000 in
theorem zz_X11_all_4 {G : uG} {a0 : Nat} {z : (Nat × UH) ⊕ (Option Nat × UH)} (N : Nat) (u : UH) (s0 : Option Nat) (h : f_X11_all_4 N (ub G) (ug G) a0 u s0 = some z) : u.1 ≤ (uX1 z).1 ∧ u.2.1 ≤ (uX1 z).2.1 := by
  unfold f_X11_all_4 at h
  obtain ⟨o1, ho1, h⟩ := mbind_n h
  obtain ⟨a2, ha2, hha2⟩ := mbind_n h
  subst ha2
  have h := hha2
  obtain ⟨c3, h⟩ := mif_n h
  rcases uxcallv_n h with ⟨a6, u7, c8, h⟩ | ⟨u4, c5, h⟩
  · have zu7 : u.1 ≤ u7.1 ∧ u.2.1 ≤ u7.2.1 := zz_X5_needsEnd N (ub G) (ug G) u a2 (.inl (a6, u7)) c8
    have hz := Option.some.inj h
    subst hz
    exact (show u.1 ≤ u7.1 ∧ u.2.1 ≤ u7.2.1 from ⟨by omega, by omega⟩)
  · have zu4 : u.1 ≤ u4.1 ∧ u.2.1 ≤ u4.2.1 := zz_X5_needsEnd N (ub G) (ug G) u a2 (.inr u4) c5
    have hq := zz_X11_all_12 (G := G) (a0 := a0) N u4 s0 h
    exact ⟨by omega, by omega⟩
set_option maxHeartbeats 4000000 in
set_option maxRecDepth 100000 in
theorem w_X11_all_4 {p : Program} {l : Launch} {e : Env} {R : Room} {s : State} {m : MethodId} {args : Array Value} {below : List Frame} {meth : Method} {c : Code} {G : uG} {a0 : Nat} {u0 : UH} {z : (Nat × UH) ⊕ (Option Nat × UH)} (hC : uC p s m args meth c G RX11 cX11_all 2 (some (.object "java/util/List"))) (hE : c.exceptionTable.toList = []) (hR : 41 ≤ R.frames ∧ 2078 ≤ R.locals) (hRm : (uX1 z).1 - u0.1 ≤ R.cells ∧ (uX1 z).2.1 - u0.2.1 ≤ R.slots) (N : Nat) (u : UH) (s0 : Option Nat) (h : f_X11_all_4 N (ub G) (ug G) a0 u s0 = some z) (hz0 : (u0.1 ≤ u.1 ∧ u0.2.1 ≤ u.2.1)) {H : Heap} {locs : List Loc} (hP : uP G u H) (hS : va_S (uA G) s.heap H locs) {ls : Array Slot} (hl : lv_has ls 2 [(0, va_rf (some a0))]) : W p l e R s m args below meth c H locs (u.1 - u0.1) (u.2.1 - u0.2.1) (uMQr below G z args s ((uX1 z).1 - u0.1) ((uX1 z).2.1 - u0.2.1)) (F0 m 4 ls [va_rf s0]) := by
  obtain ⟨⟨hx, hb, hml, hown, hts⟩, hKK⟩ := id hC
  have hzf := zz_X11_all_4 (G := G) (a0 := a0) N u s0 h
  unfold f_X11_all_4 at h
  refine u_astore_n (i := 1) (r := s0) (lv' := [(1, va_rf s0), (0, va_rf (some a0))]) hx hb dX11_all_4 rfl hl (by decide) rfl (fun ls hl => ?_)
  refine u_aload_n (r := some a0) hx hb dX11_all_5 rfl (lv_at hl 1 rfl) ?_
  obtain ⟨o1, ho1, h⟩ := mbind_n h
  refine u_get hC hP (uGR_n ho1) rfl in_X11 (by decide) q1545 (fun _ h => h) dX11_all_6 ?_
  obtain ⟨a2, ha2, hha2⟩ := mbind_n h
  subst ha2
  have h := hha2
  obtain ⟨c3, h⟩ := mif_n h
  rcases uxcallv_n h with ⟨a6, u7, c8, h⟩ | ⟨u4, c5, h⟩
  · have zu7 : u.1 ≤ u7.1 ∧ u.2.1 ≤ u7.2.1 := zz_X5_needsEnd N (ub G) (ug G) u a2 (.inl (a6, u7)) c8
    have hz := Option.some.inj h
    subst hz
    have hRm : u7.1 - u0.1 ≤ R.cells ∧ u7.2.1 - u0.2.1 ≤ R.slots := hRm
    exact u_callX hC (u_noE hE) (u_runVX (As := []) (rest := []) hC.1 (mex_X5_needsEnd l N G u a2 a6 u7 c8) (cwV 0 hts (lw_V q1631 q1049 q1050 q105 q1051) rfl rfl rfl (by decide +kernel) ⟨Nat.le_trans (Nat.le_of_ble_eq_true rfl) hR.1, Nat.le_trans (Nat.le_of_ble_eq_true rfl) hR.2⟩) ⟨uPc_blind, u_rcv hC hP c3 rfl, fun U hU hW => u_pre hC hP hS hU hW⟩ rfl rfl hl.1 rfl (lv_room (Nat.le_of_ble_eq_true rfl)) dX11_all_9 ⟨by omega, by omega⟩) hS (by show _ + _ = u7.1 - u0.1; omega) (by show _ + _ = u7.2.1 - u0.2.1; omega)
  · have zu4 : u.1 ≤ u4.1 ∧ u.2.1 ≤ u4.2.1 := zz_X5_needsEnd N (ub G) (ug G) u a2 (.inr u4) c5
    have hq := zz_X11_all_12 (G := G) (a0 := a0) N u4 s0 h
    refine u_callv (va_runV (As := []) (rest := []) hC.1 (met_X5_needsEnd l N G u a2 u4 c5) (cwV 0 hts (lw_V q1631 q1049 q1050 q105 q1051) rfl rfl rfl (by decide +kernel) ⟨Nat.le_trans (Nat.le_of_ble_eq_true rfl) hR.1, Nat.le_trans (Nat.le_of_ble_eq_true rfl) hR.2⟩) ⟨uPc_blind, u_rcv hC hP c3 rfl, fun U hU hW => u_pre hC hP hS hU hW⟩ rfl rfl hl.1 rfl (lv_room (Nat.le_of_ble_eq_true rfl)) dX11_all_9 ⟨by omega, by omega⟩) hS (fun H locs hP hS => ?_)
    refine W.cs (cells' := u4.1 - u0.1) (slots' := u4.2.1 - u0.2.1) (by omega) (by omega) ?_
    exact w_X11_all_12 hC hE hR hRm N u4 s0 h ⟨by omega, by omega⟩ hP hS (lv_sub hl [0] rfl)
def f_X11_all (N b : Nat) (g : uEnv) (u : UH) (a0 : Nat) : Option ((Nat × UH) ⊕ (Option Nat × UH)) :=
    if uIs u a0 9 = true then
    uxcall (f_X11_plan N b g u a0) (fun a5 u6 =>
    some (.inl (a5, u6))) fun o4 u2 =>
    f_X11_all_4 N b g a0 u2 o4
    else none
set_option maxHeartbeats 4000000 in
set_option maxRecDepth 100000 in
theorem zz_X11_all_0 {G : uG} {a0 : Nat} {z : (Nat × UH) ⊕ (Option Nat × UH)} (N : Nat) (u : UH) (h : f_X11_all N (ub G) (ug G) u a0 = some z) : u.1 ≤ (uX1 z).1 ∧ u.2.1 ≤ (uX1 z).2.1 := by
  unfold f_X11_all at h
  obtain ⟨c1, h⟩ := mif_n h
  rcases uxcall_n h with ⟨a5, u6, c7, h⟩ | ⟨o4, u2, c3, h⟩
  · have zu6 : u.1 ≤ u6.1 ∧ u.2.1 ≤ u6.2.1 := zz_X11_plan N (ub G) (ug G) u a0 (.inl (a5, u6)) c7
    have hz := Option.some.inj h
    subst hz
    exact (show u.1 ≤ u6.1 ∧ u.2.1 ≤ u6.2.1 from ⟨by omega, by omega⟩)
  · have zu2 : u.1 ≤ u2.1 ∧ u.2.1 ≤ u2.2.1 := zz_X11_plan N (ub G) (ug G) u a0 (.inr (o4, u2)) c3
    have hq := zz_X11_all_4 (G := G) (a0 := a0) N u2 o4 h
    exact ⟨by omega, by omega⟩
set_option maxHeartbeats 4000000 in
set_option maxRecDepth 100000 in
theorem w_X11_all_0 {p : Program} {l : Launch} {e : Env} {R : Room} {s : State} {m : MethodId} {args : Array Value} {below : List Frame} {meth : Method} {c : Code} {G : uG} {a0 : Nat} {u0 : UH} {z : (Nat × UH) ⊕ (Option Nat × UH)} (hC : uC p s m args meth c G RX11 cX11_all 2 (some (.object "java/util/List"))) (hE : c.exceptionTable.toList = []) (hR : 41 ≤ R.frames ∧ 2078 ≤ R.locals) (hRm : (uX1 z).1 - u0.1 ≤ R.cells ∧ (uX1 z).2.1 - u0.2.1 ≤ R.slots) (N : Nat) (u : UH) (h : f_X11_all N (ub G) (ug G) u a0 = some z) (hz0 : (u0.1 ≤ u.1 ∧ u0.2.1 ≤ u.2.1)) {H : Heap} {locs : List Loc} (hP : uP G u H) (hS : va_S (uA G) s.heap H locs) {ls : Array Slot} (hl : lv_has ls 2 [(0, va_rf (some a0))]) : W p l e R s m args below meth c H locs (u.1 - u0.1) (u.2.1 - u0.2.1) (uMQr below G z args s ((uX1 z).1 - u0.1) ((uX1 z).2.1 - u0.2.1)) (F0 m 0 ls []) := by
  obtain ⟨⟨hx, hb, hml, hown, hts⟩, hKK⟩ := id hC
  have hzf := zz_X11_all_0 (G := G) (a0 := a0) N u h
  unfold f_X11_all at h
  refine u_aload_n (r := some a0) hx hb dX11_all_0 rfl (lv_at hl 0 rfl) ?_
  obtain ⟨c1, h⟩ := mif_n h
  rcases uxcall_n h with ⟨a5, u6, c7, h⟩ | ⟨o4, u2, c3, h⟩
  · have zu6 : u.1 ≤ u6.1 ∧ u.2.1 ≤ u6.2.1 := zz_X11_plan N (ub G) (ug G) u a0 (.inl (a5, u6)) c7
    have hz := Option.some.inj h
    subst hz
    have hRm : u6.1 - u0.1 ≤ R.cells ∧ u6.2.1 - u0.2.1 ≤ R.slots := hRm
    exact u_callX hC (u_noE hE) (u_runVX (As := []) (rest := []) hC.1 (mex_X11_plan l N G u a0 a5 u6 c7) (cwV 0 hts (lw_V q1565 q1567 qs30 q128 q1568) rfl rfl rfl (by decide +kernel) ⟨Nat.le_trans (Nat.le_of_ble_eq_true rfl) hR.1, Nat.le_trans (Nat.le_of_ble_eq_true rfl) hR.2⟩) ⟨uPc_blind, u_rcv hC hP c1 rfl, fun U hU hW => u_pre hC hP hS hU hW⟩ rfl rfl hl.1 rfl (lv_room (Nat.le_of_ble_eq_true rfl)) dX11_all_1 ⟨by omega, by omega⟩) hS (by show _ + _ = u6.1 - u0.1; omega) (by show _ + _ = u6.2.1 - u0.2.1; omega)
  · have zu2 : u.1 ≤ u2.1 ∧ u.2.1 ≤ u2.2.1 := zz_X11_plan N (ub G) (ug G) u a0 (.inr (o4, u2)) c3
    have hq := zz_X11_all_4 (G := G) (a0 := a0) N u2 o4 h
    refine u_callr (va_runV (As := []) (rest := []) hC.1 (met_X11_plan l N G u a0 o4 u2 c3) (cwV 0 hts (lw_V q1565 q1567 qs30 q128 q1568) rfl rfl rfl (by decide +kernel) ⟨Nat.le_trans (Nat.le_of_ble_eq_true rfl) hR.1, Nat.le_trans (Nat.le_of_ble_eq_true rfl) hR.2⟩) ⟨uPc_blind, u_rcv hC hP c1 rfl, fun U hU hW => u_pre hC hP hS hU hW⟩ rfl rfl hl.1 rfl (lv_room (Nat.le_of_ble_eq_true rfl)) dX11_all_1 ⟨by omega, by omega⟩) hS (fun H locs hP hS => ?_)
    refine W.cs (cells' := u2.1 - u0.1) (slots' := u2.2.1 - u0.2.1) (by omega) (by omega) ?_
    exact w_X11_all_4 hC hE hR hRm N u2 o4 h ⟨by omega, by omega⟩ hP hS (lv_sub hl [0] rfl)
theorem zz_X11_all (N b : Nat) (g : uEnv) (u : UH) (a0 : Nat) (z : (Nat × UH) ⊕ (Option Nat × UH)) (h : f_X11_all N b g u a0 = some z) : u.1 ≤ (uX1 z).1 ∧ u.2.1 ≤ (uX1 z).2.1 :=
  zz_X11_all_0 (G := ((fun _ => 0, fun _ _ => 0), fun _ => 0, b, g)) (a0 := a0) N u h
theorem met_X11_all (l : Launch) (N : Nat) (G : uG) (u : UH) (a0 : Nat) (r : Option Nat) (uf : UH) (h : f_X11_all N (ub G) (ug G) u a0 = some (.inr (r, uf))) : Met l yX11_all (ws_ yX11_all cX11_all 2 (some (.object "java/util/List"))) ({ frames := 41, cells := (uf.1 - u.1), slots := (uf.2.1 - u.2.1), locals := 2078 }) (uPc G u [.ref a0]) (uQr G r uf) (uf.1 - u.1) (uf.2.1 - u.2.1) (uA G) := by
  exact u_metE (own := RX11) (by decide +kernel) rfl (Nat.le_of_ble_eq_true rfl) (fun hC hE hn hsz ls hl hP => W.cs (Nat.sub_self _).symm (Nat.sub_self _).symm (w_X11_all_0 hC hE ⟨Nat.le_refl _, Nat.le_refl _⟩ ⟨Nat.le_refl _, Nat.le_refl _⟩ N u h ⟨Nat.le_refl _, Nat.le_refl _⟩ hP va_S.rf hl))
theorem mex_X11_all (l : Launch) (N : Nat) (G : uG) (u : UH) (a0 : Nat) (x : Nat) (uf : UH) (h : f_X11_all N (ub G) (ug G) u a0 = some (.inl (x, uf))) : uMX l yX11_all (ws_ yX11_all cX11_all 2 (some (.object "java/util/List"))) ({ frames := 41, cells := (uf.1 - u.1), slots := (uf.2.1 - u.2.1), locals := 2078 }) G u [.ref a0] x uf (uf.1 - u.1) (uf.2.1 - u.2.1) := by
  exact u_metX (own := RX11) (by decide +kernel) rfl (Nat.le_of_ble_eq_true rfl) (fun hC hE hn hsz ls hl hP => W.cs (Nat.sub_self _).symm (Nat.sub_self _).symm (w_X11_all_0 hC hE ⟨Nat.le_refl _, Nat.le_refl _⟩ ⟨Nat.le_refl _, Nat.le_refl _⟩ N u h ⟨Nat.le_refl _, Nat.le_refl _⟩ hP va_S.rf hl))
def f_X1_plan_91 (N b : Nat) (g : uEnv) (a0 : Nat) (u : UH) (s0 : Int32) : Option (Int32 × UH) :=
    (uGR u a0 0 10).bind fun o1 =>
    (o1).bind fun a2 =>
    if uIs u a2 18 = true then
    ucall (f_J2_size N b g u a2) fun r6 u4 =>
    if uIs u4 a0 0 = true then
    ucall (f_X1_done N b g u4 a0 (r6 - 1)) fun r10 u8 =>
    some (r10, u8)
    else none
    else none
set_option maxHeartbeats 4000000 in
set_option maxRecDepth 100000 in
theorem zz_X1_plan_91 {G : uG} {a0 : Nat} {uf : UH} {r : Int32} (N : Nat) (u : UH) (s0 : Int32) (h : f_X1_plan_91 N (ub G) (ug G) a0 u s0 = some (r, uf)) : u.1 ≤ uf.1 ∧ u.2.1 ≤ uf.2.1 := by
  unfold f_X1_plan_91 at h
  obtain ⟨o1, ho1, h⟩ := mbind_n h
  obtain ⟨a2, ha2, hha2⟩ := mbind_n h
  subst ha2
  have h := hha2
  obtain ⟨c3, h⟩ := mif_n h
  obtain ⟨r6, u4, c5, h⟩ := ucall_n h
  have zu4 := zz_J2_size N (ub G) (ug G) u a2 r6 u4 c5
  obtain ⟨c7, h⟩ := mif_n h
  obtain ⟨r10, u8, c9, h⟩ := ucall_n h
  have zu8 := zz_X1_done N (ub G) (ug G) u4 a0 (r6 - 1) r10 u8 c9
  obtain ⟨hr1, hr2⟩ := uret_n h
  subst hr2
  exact ⟨by omega, by omega⟩
set_option maxHeartbeats 4000000 in
set_option maxRecDepth 100000 in
theorem w_X1_plan_91 {p : Program} {l : Launch} {e : Env} {R : Room} {s : State} {m : MethodId} {args : Array Value} {below : List Frame} {meth : Method} {c : Code} {G : uG} {a0 : Nat} {u0 : UH} {uf : UH} {r : Int32} (hC : uC p s m args meth c G RX1 cX1_plan 4 (some .int)) (hE : c.exceptionTable.toList = [{ startPc := 31, endPc := 55, handlerPc := 58, catchType := 73 }]) (hR : 42 ≤ R.frames ∧ 2099 ≤ R.locals) (hRm : uf.1 - u0.1 ≤ R.cells ∧ uf.2.1 - u0.2.1 ≤ R.slots) (N : Nat) (u : UH) (s0 : Int32) (h : f_X1_plan_91 N (ub G) (ug G) a0 u s0 = some (r, uf)) (hz0 : (u0.1 ≤ u.1 ∧ u0.2.1 ≤ u.2.1)) {H : Heap} {locs : List Loc} (hP : uP G u H) (hS : va_S (uA G) s.heap H locs) {ls : Array Slot} (hl : lv_has ls 4 [(0, va_rf (some a0))]) : W p l e R s m args below meth c H locs (u.1 - u0.1) (u.2.1 - u0.2.1) (MQ below (uQi G r uf) args s (uf.1 - u0.1) (uf.2.1 - u0.2.1) (uA G)) (F0 m 91 ls [.int s0]) := by
  obtain ⟨⟨hx, hb, hml, hown, hts⟩, hKK⟩ := id hC
  have hzf := zz_X1_plan_91 (G := G) (a0 := a0) N u s0 h
  unfold f_X1_plan_91 at h
  refine lv_pop hx hb dX1_plan_91 rfl ?_
  refine u_aload_n (r := some a0) hx hb dX1_plan_92 rfl (lv_at hl 0 rfl) ?_
  refine u_aload_n (r := some a0) hx hb dX1_plan_93 rfl (lv_at hl 0 rfl) ?_
  obtain ⟨o1, ho1, h⟩ := mbind_n h
  refine u_get hC hP (uGR_n ho1) rfl in_X1 (by decide) q225 (fun _ h => h) dX1_plan_94 ?_
  obtain ⟨a2, ha2, hha2⟩ := mbind_n h
  subst ha2
  have h := hha2
  obtain ⟨c3, h⟩ := mif_n h
  obtain ⟨r6, u4, c5, h⟩ := ucall_n h
  have zu4 := zz_J2_size N (ub G) (ug G) u a2 r6 u4 c5
  refine u_calli (va_runV (As := []) (rest := [va_rf (some a0)]) hC.1 (met_J2_size l N G u a2 r6 u4 c5) (cwV 0 hts (lw_V q1063 q894 q895 q102 q896) rfl rfl rfl (by decide +kernel) ⟨Nat.le_trans (Nat.le_of_ble_eq_true rfl) hR.1, Nat.le_trans (Nat.le_of_ble_eq_true rfl) hR.2⟩) ⟨uPc_blind, u_rcv hC hP c3 rfl, fun U hU hW => u_pre hC hP hS hU hW⟩ rfl rfl hl.1 rfl (lv_room (Nat.le_of_ble_eq_true rfl)) dX1_plan_97 ⟨by omega, by omega⟩) hS (fun H locs hP hS => ?_)
  refine W.cs (cells' := u4.1 - u0.1) (slots' := u4.2.1 - u0.2.1) (by omega) (by omega) ?_
  refine lv_iconst (v := 1) hx hb dX1_plan_100 (by decide) ?_
  refine lv_isub hx hb dX1_plan_101 ?_
  obtain ⟨c7, h⟩ := mif_n h
  obtain ⟨r10, u8, c9, h⟩ := ucall_n h
  have zu8 := zz_X1_done N (ub G) (ug G) u4 a0 (r6 - 1) r10 u8 c9
  refine u_calli (va_runV (As := [.int (r6 - 1)]) (rest := []) hC.1 (met_X1_done l N G u4 a0 (r6 - 1) r10 u8 c9) (cwV 1 hts (lw_V q1064 q1066 qs14 q98 q1067) rfl rfl rfl (by decide +kernel) ⟨Nat.le_trans (Nat.le_of_ble_eq_true rfl) hR.1, Nat.le_trans (Nat.le_of_ble_eq_true rfl) hR.2⟩) ⟨uPc_blind, u_rcv hC hP c7 rfl, fun U hU hW => u_pre hC hP hS hU hW⟩ rfl rfl hl.1 rfl (lv_room (Nat.le_of_ble_eq_true rfl)) dX1_plan_102 ⟨by omega, by omega⟩) hS (fun H locs hP hS => ?_)
  refine W.cs (cells' := u8.1 - u0.1) (slots' := u8.2.1 - u0.2.1) (by omega) (by omega) ?_
  obtain ⟨hr1, hr2⟩ := uret_n h
  subst hr1
  subst hr2
  exact u_iret hC hP hS dX1_plan_105
def f_X1_plan_54 (N b : Nat) (g : uEnv) (a0 : Nat) (u : UH) (s0 : Option Nat) : Option (Int32 × UH) :=
    (uGR u a0 0 10).bind fun o1 =>
    (o1).bind fun a2 =>
    if uIs u a2 18 = true then
    ucall (f_J2_size N b g u a2) fun r6 u4 =>
    if r6 = 8 then
    if uIs u4 a0 0 = true then
    ucall (f_X1_refused N b g u4 a0 3) fun r17 u15 =>
    some (r17, u15)
    else none
    else
    (uGR u4 a0 0 10).bind fun o8 =>
    (o8).bind fun a9 =>
    if uIs u4 a9 18 = true then
    ucall (f_J2_add N b g u4 a9 s0) fun r13 u11 =>
    f_X1_plan_91 N b g a0 u11 r13
    else none
    else none
set_option maxHeartbeats 4000000 in
set_option maxRecDepth 100000 in
theorem zz_X1_plan_54 {G : uG} {a0 : Nat} {uf : UH} {r : Int32} (N : Nat) (u : UH) (s0 : Option Nat) (h : f_X1_plan_54 N (ub G) (ug G) a0 u s0 = some (r, uf)) : u.1 ≤ uf.1 ∧ u.2.1 ≤ uf.2.1 := by
  unfold f_X1_plan_54 at h
  obtain ⟨o1, ho1, h⟩ := mbind_n h
  obtain ⟨a2, ha2, hha2⟩ := mbind_n h
  subst ha2
  have h := hha2
  obtain ⟨c3, h⟩ := mif_n h
  obtain ⟨r6, u4, c5, h⟩ := ucall_n h
  have zu4 := zz_J2_size N (ub G) (ug G) u a2 r6 u4 c5
  by_cases c7 : r6 = 8
  · have h := mif_t c7 h
    obtain ⟨c14, h⟩ := mif_n h
    obtain ⟨r17, u15, c16, h⟩ := ucall_n h
    have zu15 := zz_X1_refused N (ub G) (ug G) u4 a0 3 r17 u15 c16
    obtain ⟨hr1, hr2⟩ := uret_n h
    subst hr2
    exact ⟨by omega, by omega⟩
  · have h := mif_f c7 h
    obtain ⟨o8, ho8, h⟩ := mbind_n h
    obtain ⟨a9, ha9, hha9⟩ := mbind_n h
    subst ha9
    have h := hha9
    obtain ⟨c10, h⟩ := mif_n h
    obtain ⟨r13, u11, c12, h⟩ := ucall_n h
    have zu11 := zz_J2_add N (ub G) (ug G) u4 a9 s0 r13 u11 c12
    have hq := zz_X1_plan_91 (G := G) (a0 := a0) N u11 r13 h
    exact ⟨by omega, by omega⟩
set_option maxHeartbeats 4000000 in
set_option maxRecDepth 100000 in
theorem w_X1_plan_54 {p : Program} {l : Launch} {e : Env} {R : Room} {s : State} {m : MethodId} {args : Array Value} {below : List Frame} {meth : Method} {c : Code} {G : uG} {a0 : Nat} {u0 : UH} {uf : UH} {r : Int32} (hC : uC p s m args meth c G RX1 cX1_plan 4 (some .int)) (hE : c.exceptionTable.toList = [{ startPc := 31, endPc := 55, handlerPc := 58, catchType := 73 }]) (hR : 42 ≤ R.frames ∧ 2099 ≤ R.locals) (hRm : uf.1 - u0.1 ≤ R.cells ∧ uf.2.1 - u0.2.1 ≤ R.slots) (N : Nat) (u : UH) (s0 : Option Nat) (h : f_X1_plan_54 N (ub G) (ug G) a0 u s0 = some (r, uf)) (hz0 : (u0.1 ≤ u.1 ∧ u0.2.1 ≤ u.2.1)) {H : Heap} {locs : List Loc} (hP : uP G u H) (hS : va_S (uA G) s.heap H locs) {ls : Array Slot} (hl : lv_has ls 4 [(0, va_rf (some a0))]) : W p l e R s m args below meth c H locs (u.1 - u0.1) (u.2.1 - u0.2.1) (MQ below (uQi G r uf) args s (uf.1 - u0.1) (uf.2.1 - u0.2.1) (uA G)) (F0 m 54 ls [va_rf s0]) := by
  obtain ⟨⟨hx, hb, hml, hown, hts⟩, hKK⟩ := id hC
  have hzf := zz_X1_plan_54 (G := G) (a0 := a0) N u s0 h
  unfold f_X1_plan_54 at h
  refine u_astore_n (i := 2) (r := s0) (lv' := [(2, va_rf s0), (0, va_rf (some a0))]) hx hb dX1_plan_54 rfl hl (by decide) rfl (fun ls hl => ?_)
  refine lv_goto (tgt := 65) hx hb dX1_plan_55 (by decide) ?_
  refine u_aload_n (r := some a0) hx hb dX1_plan_65 rfl (lv_at hl 1 rfl) ?_
  obtain ⟨o1, ho1, h⟩ := mbind_n h
  refine u_get hC hP (uGR_n ho1) rfl in_X1 (by decide) q225 (fun _ h => h) dX1_plan_66 ?_
  obtain ⟨a2, ha2, hha2⟩ := mbind_n h
  subst ha2
  have h := hha2
  obtain ⟨c3, h⟩ := mif_n h
  obtain ⟨r6, u4, c5, h⟩ := ucall_n h
  have zu4 := zz_J2_size N (ub G) (ug G) u a2 r6 u4 c5
  refine u_calli (va_runV (As := []) (rest := []) hC.1 (met_J2_size l N G u a2 r6 u4 c5) (cwV 0 hts (lw_V q1063 q894 q895 q102 q896) rfl rfl rfl (by decide +kernel) ⟨Nat.le_trans (Nat.le_of_ble_eq_true rfl) hR.1, Nat.le_trans (Nat.le_of_ble_eq_true rfl) hR.2⟩) ⟨uPc_blind, u_rcv hC hP c3 rfl, fun U hU hW => u_pre hC hP hS hU hW⟩ rfl rfl hl.1 rfl (lv_room (Nat.le_of_ble_eq_true rfl)) dX1_plan_69 ⟨by omega, by omega⟩) hS (fun H locs hP hS => ?_)
  refine W.cs (cells' := u4.1 - u0.1) (slots' := u4.2.1 - u0.2.1) (by omega) (by omega) ?_
  refine lv_bipush (v := 8) hx hb dX1_plan_72 (by decide) ?_
  refine lv_icmp_ne (tgt := 83) hx hb dX1_plan_74 (by decide) (fun c7 => ?_) (fun c7 => ?_)
  · have h := mif_f c7 h
    refine u_aload_n (r := some a0) hx hb dX1_plan_83 rfl (lv_at hl 1 rfl) ?_
    obtain ⟨o8, ho8, h⟩ := mbind_n h
    refine u_get hC hP (uGR_n ho8) rfl in_X1 (by decide) q225 (fun _ h => h) dX1_plan_84 ?_
    refine u_aload_n (r := s0) hx hb dX1_plan_87 rfl (lv_at hl 0 rfl) ?_
    obtain ⟨a9, ha9, hha9⟩ := mbind_n h
    subst ha9
    have h := hha9
    obtain ⟨c10, h⟩ := mif_n h
    obtain ⟨r13, u11, c12, h⟩ := ucall_n h
    have zu11 := zz_J2_add N (ub G) (ug G) u4 a9 s0 r13 u11 c12
    have hq := zz_X1_plan_91 (G := G) (a0 := a0) N u11 r13 h
    refine u_calli (va_runV (As := [va_rf s0]) (rest := []) hC.1 (met_J2_add l N G u4 a9 s0 r13 u11 c12) (cwV 1 hts (lw_V q1231 q935 q936 q102 q937) rfl rfl rfl (by decide +kernel) ⟨Nat.le_trans (Nat.le_of_ble_eq_true rfl) hR.1, Nat.le_trans (Nat.le_of_ble_eq_true rfl) hR.2⟩) ⟨uPc_blind, u_rcv hC hP c10 rfl, fun U hU hW => u_pre hC hP hS hU hW⟩ rfl rfl hl.1 rfl (lv_room (Nat.le_of_ble_eq_true rfl)) dX1_plan_88 ⟨by omega, by omega⟩) hS (fun H locs hP hS => ?_)
    refine W.cs (cells' := u11.1 - u0.1) (slots' := u11.2.1 - u0.2.1) (by omega) (by omega) ?_
    refine W.cs (cells' := u11.1 - u0.1) (slots' := u11.2.1 - u0.2.1) (by omega) (by omega) ?_
    exact w_X1_plan_91 hC hE hR hRm N u11 r13 h ⟨by omega, by omega⟩ hP hS (lv_sub hl [1] rfl)
  · have h := mif_t c7 h
    refine u_aload_n (r := some a0) hx hb dX1_plan_77 rfl (lv_at hl 1 rfl) ?_
    refine lv_iconst (v := 3) hx hb dX1_plan_78 (by decide) ?_
    obtain ⟨c14, h⟩ := mif_n h
    obtain ⟨r17, u15, c16, h⟩ := ucall_n h
    have zu15 := zz_X1_refused N (ub G) (ug G) u4 a0 3 r17 u15 c16
    refine u_calli (va_runV (As := [.int 3]) (rest := []) hC.1 (met_X1_refused l N G u4 a0 3 r17 u15 c16) (cwV 1 hts (lw_V q276 q278 qs0 q98 q279) rfl rfl rfl (by decide +kernel) ⟨Nat.le_trans (Nat.le_of_ble_eq_true rfl) hR.1, Nat.le_trans (Nat.le_of_ble_eq_true rfl) hR.2⟩) ⟨uPc_blind, u_rcv hC hP c14 rfl, fun U hU hW => u_pre hC hP hS hU hW⟩ rfl rfl hl.1 rfl (lv_room (Nat.le_of_ble_eq_true rfl)) dX1_plan_79 ⟨by omega, by omega⟩) hS (fun H locs hP hS => ?_)
    refine W.cs (cells' := u15.1 - u0.1) (slots' := u15.2.1 - u0.2.1) (by omega) (by omega) ?_
    obtain ⟨hr1, hr2⟩ := uret_n h
    subst hr1
    subst hr2
    exact u_iret hC hP hS dX1_plan_82
def f_X1_plan_58 (N b : Nat) (g : uEnv) (a0 : Nat) (u : UH) (s0 : Option Nat) : Option (Int32 × UH) :=
    if uIs u a0 0 = true then
    ucall (f_X1_failed N b g u a0 s0) fun r4 u2 =>
    some (r4, u2)
    else none
set_option maxHeartbeats 4000000 in
set_option maxRecDepth 100000 in
theorem zz_X1_plan_58 {G : uG} {a0 : Nat} {uf : UH} {r : Int32} (N : Nat) (u : UH) (s0 : Option Nat) (h : f_X1_plan_58 N (ub G) (ug G) a0 u s0 = some (r, uf)) : u.1 ≤ uf.1 ∧ u.2.1 ≤ uf.2.1 := by
  unfold f_X1_plan_58 at h
  obtain ⟨c1, h⟩ := mif_n h
  obtain ⟨r4, u2, c3, h⟩ := ucall_n h
  have zu2 := zz_X1_failed N (ub G) (ug G) u a0 s0 r4 u2 c3
  obtain ⟨hr1, hr2⟩ := uret_n h
  subst hr2
  exact ⟨by omega, by omega⟩
set_option maxHeartbeats 4000000 in
set_option maxRecDepth 100000 in
theorem w_X1_plan_58 {p : Program} {l : Launch} {e : Env} {R : Room} {s : State} {m : MethodId} {args : Array Value} {below : List Frame} {meth : Method} {c : Code} {G : uG} {a0 : Nat} {u0 : UH} {uf : UH} {r : Int32} (hC : uC p s m args meth c G RX1 cX1_plan 4 (some .int)) (hE : c.exceptionTable.toList = [{ startPc := 31, endPc := 55, handlerPc := 58, catchType := 73 }]) (hR : 42 ≤ R.frames ∧ 2099 ≤ R.locals) (hRm : uf.1 - u0.1 ≤ R.cells ∧ uf.2.1 - u0.2.1 ≤ R.slots) (N : Nat) (u : UH) (s0 : Option Nat) (h : f_X1_plan_58 N (ub G) (ug G) a0 u s0 = some (r, uf)) (hz0 : (u0.1 ≤ u.1 ∧ u0.2.1 ≤ u.2.1)) {H : Heap} {locs : List Loc} (hP : uP G u H) (hS : va_S (uA G) s.heap H locs) {ls : Array Slot} (hl : lv_has ls 4 [(0, va_rf (some a0))]) : W p l e R s m args below meth c H locs (u.1 - u0.1) (u.2.1 - u0.2.1) (MQ below (uQi G r uf) args s (uf.1 - u0.1) (uf.2.1 - u0.2.1) (uA G)) (F0 m 58 ls [va_rf s0]) := by
  obtain ⟨⟨hx, hb, hml, hown, hts⟩, hKK⟩ := id hC
  have hzf := zz_X1_plan_58 (G := G) (a0 := a0) N u s0 h
  unfold f_X1_plan_58 at h
  refine u_astore_n (i := 3) (r := s0) (lv' := [(3, va_rf s0), (0, va_rf (some a0))]) hx hb dX1_plan_58 rfl hl (by decide) rfl (fun ls hl => ?_)
  refine u_aload_n (r := some a0) hx hb dX1_plan_59 rfl (lv_at hl 1 rfl) ?_
  refine u_aload_n (r := s0) hx hb dX1_plan_60 rfl (lv_at hl 0 rfl) ?_
  obtain ⟨c1, h⟩ := mif_n h
  obtain ⟨r4, u2, c3, h⟩ := ucall_n h
  have zu2 := zz_X1_failed N (ub G) (ug G) u a0 s0 r4 u2 c3
  refine u_calli (va_runV (As := [va_rf s0]) (rest := []) hC.1 (met_X1_failed l N G u a0 s0 r4 u2 c3) (cwV 1 hts (lw_V q1052 q1054 qs13 q98 q1055) rfl rfl rfl (by decide +kernel) ⟨Nat.le_trans (Nat.le_of_ble_eq_true rfl) hR.1, Nat.le_trans (Nat.le_of_ble_eq_true rfl) hR.2⟩) ⟨uPc_blind, u_rcv hC hP c1 rfl, fun U hU hW => u_pre hC hP hS hU hW⟩ rfl rfl hl.1 rfl (lv_room (Nat.le_of_ble_eq_true rfl)) dX1_plan_61 ⟨by omega, by omega⟩) hS (fun H locs hP hS => ?_)
  refine W.cs (cells' := u2.1 - u0.1) (slots' := u2.2.1 - u0.2.1) (by omega) (by omega) ?_
  obtain ⟨hr1, hr2⟩ := uret_n h
  subst hr1
  subst hr2
  exact u_iret hC hP hS dX1_plan_64
def f_X1_plan_40 (N b : Nat) (g : uEnv) (a0 : Nat) (u : UH) (s0 : Option Nat) (s1 : Option Nat) (s2 : Option Nat) : Option (Int32 × UH) :=
    (uGR u a0 0 2).bind fun o1 =>
    (uGR u a0 0 7).bind fun o2 =>
    (s1).bind fun a3 =>
    (f_X11_init N b g u a3 s0 o1 o2).bind fun u4 =>
    (s2).bind fun a6 =>
    if uIs u4 a6 9 = true then
    uxcall (f_X11_all N b g u4 a6) (fun a11 u12 =>
    if uIs u12 a11 6 = true then f_X1_plan_58 N b g a0 u12 (some a11) else none) fun o10 u8 =>
    f_X1_plan_54 N b g a0 u8 o10
    else none
set_option maxHeartbeats 4000000 in
set_option maxRecDepth 100000 in
theorem zz_X1_plan_40 {G : uG} {a0 : Nat} {uf : UH} {r : Int32} (N : Nat) (u : UH) (s0 : Option Nat) (s1 : Option Nat) (s2 : Option Nat) (h : f_X1_plan_40 N (ub G) (ug G) a0 u s0 s1 s2 = some (r, uf)) : u.1 ≤ uf.1 ∧ u.2.1 ≤ uf.2.1 := by
  unfold f_X1_plan_40 at h
  obtain ⟨o1, ho1, h⟩ := mbind_n h
  obtain ⟨o2, ho2, h⟩ := mbind_n h
  obtain ⟨a3, ha3, hha3⟩ := mbind_n h
  subst ha3
  have h := hha3
  obtain ⟨u4, c5, h⟩ := mbind_n h
  have zu4 := zz_X11_init N (ub G) (ug G) u a3 s0 o1 o2 u4 c5
  obtain ⟨a6, ha6, hha6⟩ := mbind_n h
  subst ha6
  have h := hha6
  obtain ⟨c7, h⟩ := mif_n h
  rcases uxcall_n h with ⟨a11, u12, c13, h⟩ | ⟨o10, u8, c9, h⟩
  · have zu12 : u4.1 ≤ u12.1 ∧ u4.2.1 ≤ u12.2.1 := zz_X11_all N (ub G) (ug G) u4 a6 (.inl (a11, u12)) c13
    obtain ⟨c14, h⟩ := mif_n h
    have hq := zz_X1_plan_58 (G := G) (a0 := a0) N u12 (some a11) h
    exact ⟨by omega, by omega⟩
  · have zu8 : u4.1 ≤ u8.1 ∧ u4.2.1 ≤ u8.2.1 := zz_X11_all N (ub G) (ug G) u4 a6 (.inr (o10, u8)) c9
    have hq := zz_X1_plan_54 (G := G) (a0 := a0) N u8 o10 h
    exact ⟨by omega, by omega⟩
set_option maxHeartbeats 4000000 in
set_option maxRecDepth 100000 in
theorem w_X1_plan_40 {p : Program} {l : Launch} {e : Env} {R : Room} {s : State} {m : MethodId} {args : Array Value} {below : List Frame} {meth : Method} {c : Code} {G : uG} {a0 : Nat} {u0 : UH} {uf : UH} {r : Int32} (hC : uC p s m args meth c G RX1 cX1_plan 4 (some .int)) (hE : c.exceptionTable.toList = [{ startPc := 31, endPc := 55, handlerPc := 58, catchType := 73 }]) (hR : 42 ≤ R.frames ∧ 2099 ≤ R.locals) (hRm : uf.1 - u0.1 ≤ R.cells ∧ uf.2.1 - u0.2.1 ≤ R.slots) (N : Nat) (u : UH) (s0 : Option Nat) (s1 : Option Nat) (s2 : Option Nat) (h : f_X1_plan_40 N (ub G) (ug G) a0 u s0 s1 s2 = some (r, uf)) (hz0 : (u0.1 ≤ u.1 ∧ u0.2.1 ≤ u.2.1)) {H : Heap} {locs : List Loc} (hP : uP G u H) (hS : va_S (uA G) s.heap H locs) {ls : Array Slot} (hl : lv_has ls 4 [(0, va_rf (some a0))]) : W p l e R s m args below meth c H locs (u.1 - u0.1) (u.2.1 - u0.2.1) (MQ below (uQi G r uf) args s (uf.1 - u0.1) (uf.2.1 - u0.2.1) (uA G)) (F0 m 40 ls [va_rf s0, va_rf s1, va_rf s2]) := by
  obtain ⟨⟨hx, hb, hml, hown, hts⟩, hKK⟩ := id hC
  have hzf := zz_X1_plan_40 (G := G) (a0 := a0) N u s0 s1 s2 h
  unfold f_X1_plan_40 at h
  refine u_aload_n (r := some a0) hx hb dX1_plan_40 rfl (lv_at hl 0 rfl) ?_
  obtain ⟨o1, ho1, h⟩ := mbind_n h
  refine u_get hC hP (uGR_n ho1) rfl in_X1 (by decide) q217 (fun _ h => h) dX1_plan_41 ?_
  refine u_aload_n (r := some a0) hx hb dX1_plan_44 rfl (lv_at hl 0 rfl) ?_
  obtain ⟨o2, ho2, h⟩ := mbind_n h
  refine u_get hC hP (uGR_n ho2) rfl in_X1 (by decide) q222 (fun _ h => h) dX1_plan_45 ?_
  obtain ⟨a3, ha3, hha3⟩ := mbind_n h
  subst ha3
  have h := hha3
  obtain ⟨u4, c5, h⟩ := mbind_n h
  have zu4 := zz_X11_init N (ub G) (ug G) u a3 s0 o1 o2 u4 c5
  refine u_callv (va_runI (As := [va_rf s0, va_rf o1, va_rf o2]) (rest := [va_rf s2]) hC.1 (met_X11_init l N G u a3 s0 o1 o2 u4 c5) (cwI 3 hts (lw_meth q1543) rfl rfl rfl (hts _ q128) (hts _ q1541) (hts _ q1542) rfl (by decide +kernel) ⟨Nat.le_trans (Nat.le_of_ble_eq_true rfl) hR.1, Nat.le_trans (Nat.le_of_ble_eq_true rfl) hR.2⟩) ⟨uPc_blind, fun U hU hW => u_pre hC hP hS hU hW⟩ rfl rfl hl.1 rfl (lv_room (by simp only [List.map, u_cat]; exact Nat.le_of_ble_eq_true rfl)) dX1_plan_48 ⟨by omega, by omega⟩) hS (fun H locs hP hS => ?_)
  refine W.cs (cells' := u4.1 - u0.1) (slots' := u4.2.1 - u0.2.1) (by omega) (by omega) ?_
  obtain ⟨a6, ha6, hha6⟩ := mbind_n h
  subst ha6
  have h := hha6
  obtain ⟨c7, h⟩ := mif_n h
  rcases uxcall_n h with ⟨a11, u12, c13, h⟩ | ⟨o10, u8, c9, h⟩
  · have zu12 : u4.1 ≤ u12.1 ∧ u4.2.1 ≤ u12.2.1 := zz_X11_all N (ub G) (ug G) u4 a6 (.inl (a11, u12)) c13
    obtain ⟨c14, h⟩ := mif_n h
    have hq := zz_X1_plan_58 (G := G) (a0 := a0) N u12 (some a11) h
    refine u_callC hC hE (by decide) rfl (by decide) rfl (ci := 6) rfl q272 c14 (u_runVX (As := []) (rest := []) hC.1 (mex_X11_all l N G u4 a6 a11 u12 c13) (cwV 0 hts (lw_V q1561 q1562 q1563 q128 q1564) rfl rfl rfl (by decide +kernel) ⟨Nat.le_trans (Nat.le_of_ble_eq_true rfl) hR.1, Nat.le_trans (Nat.le_of_ble_eq_true rfl) hR.2⟩) ⟨uPc_blind, u_rcv hC hP c7 rfl, fun U hU hW => u_pre hC hP hS hU hW⟩ rfl rfl hl.1 rfl (lv_room (Nat.le_of_ble_eq_true rfl)) dX1_plan_51 ⟨by omega, by omega⟩) hS (fun H locs hP hS => ?_)
    refine W.cs (cells' := u12.1 - u0.1) (slots' := u12.2.1 - u0.2.1) (by omega) (by omega) ?_
    exact w_X1_plan_58 hC hE hR hRm N u12 (some a11) h ⟨by omega, by omega⟩ hP hS (lv_sub hl [0] rfl)
  · have zu8 : u4.1 ≤ u8.1 ∧ u4.2.1 ≤ u8.2.1 := zz_X11_all N (ub G) (ug G) u4 a6 (.inr (o10, u8)) c9
    have hq := zz_X1_plan_54 (G := G) (a0 := a0) N u8 o10 h
    refine u_callr (va_runV (As := []) (rest := []) hC.1 (met_X11_all l N G u4 a6 o10 u8 c9) (cwV 0 hts (lw_V q1561 q1562 q1563 q128 q1564) rfl rfl rfl (by decide +kernel) ⟨Nat.le_trans (Nat.le_of_ble_eq_true rfl) hR.1, Nat.le_trans (Nat.le_of_ble_eq_true rfl) hR.2⟩) ⟨uPc_blind, u_rcv hC hP c7 rfl, fun U hU hW => u_pre hC hP hS hU hW⟩ rfl rfl hl.1 rfl (lv_room (Nat.le_of_ble_eq_true rfl)) dX1_plan_51 ⟨by omega, by omega⟩) hS (fun H locs hP hS => ?_)
    refine W.cs (cells' := u8.1 - u0.1) (slots' := u8.2.1 - u0.2.1) (by omega) (by omega) ?_
    exact w_X1_plan_54 hC hE hR hRm N u8 o10 h ⟨by omega, by omega⟩ hP hS (lv_sub hl [0] rfl)
def f_X1_plan_34 (N b : Nat) (g : uEnv) (a0 : Nat) (u : UH) (x1 : Int32) (s0 : Option Nat) : Option (Int32 × UH) :=
    if uIs u a0 0 = true then
    ucall (f_X1_reader N b g u a0 x1) fun o4 u2 =>
    f_X1_plan_40 N b g a0 u2 o4 s0 s0
    else none
set_option maxHeartbeats 4000000 in
set_option maxRecDepth 100000 in
theorem zz_X1_plan_34 {G : uG} {a0 : Nat} {uf : UH} {r : Int32} (N : Nat) (u : UH) (x1 : Int32) (s0 : Option Nat) (h : f_X1_plan_34 N (ub G) (ug G) a0 u x1 s0 = some (r, uf)) : u.1 ≤ uf.1 ∧ u.2.1 ≤ uf.2.1 := by
  unfold f_X1_plan_34 at h
  obtain ⟨c1, h⟩ := mif_n h
  obtain ⟨o4, u2, c3, h⟩ := ucall_n h
  have zu2 := zz_X1_reader N (ub G) (ug G) u a0 x1 o4 u2 c3
  have hq := zz_X1_plan_40 (G := G) (a0 := a0) N u2 o4 s0 s0 h
  exact ⟨by omega, by omega⟩
set_option maxHeartbeats 4000000 in
set_option maxRecDepth 100000 in
theorem w_X1_plan_34 {p : Program} {l : Launch} {e : Env} {R : Room} {s : State} {m : MethodId} {args : Array Value} {below : List Frame} {meth : Method} {c : Code} {G : uG} {a0 : Nat} {u0 : UH} {uf : UH} {r : Int32} (hC : uC p s m args meth c G RX1 cX1_plan 4 (some .int)) (hE : c.exceptionTable.toList = [{ startPc := 31, endPc := 55, handlerPc := 58, catchType := 73 }]) (hR : 42 ≤ R.frames ∧ 2099 ≤ R.locals) (hRm : uf.1 - u0.1 ≤ R.cells ∧ uf.2.1 - u0.2.1 ≤ R.slots) (N : Nat) (u : UH) (x1 : Int32) (s0 : Option Nat) (h : f_X1_plan_34 N (ub G) (ug G) a0 u x1 s0 = some (r, uf)) (hz0 : (u0.1 ≤ u.1 ∧ u0.2.1 ≤ u.2.1)) {H : Heap} {locs : List Loc} (hP : uP G u H) (hS : va_S (uA G) s.heap H locs) {ls : Array Slot} (hl : lv_has ls 4 [(0, va_rf (some a0)), (1, .int x1)]) : W p l e R s m args below meth c H locs (u.1 - u0.1) (u.2.1 - u0.2.1) (MQ below (uQi G r uf) args s (uf.1 - u0.1) (uf.2.1 - u0.2.1) (uA G)) (F0 m 34 ls [va_rf s0]) := by
  obtain ⟨⟨hx, hb, hml, hown, hts⟩, hKK⟩ := id hC
  have hzf := zz_X1_plan_34 (G := G) (a0 := a0) N u x1 s0 h
  unfold f_X1_plan_34 at h
  refine lv_dup hx hb dX1_plan_34 (u_cat _) ?_
  refine u_aload_n (r := some a0) hx hb dX1_plan_35 rfl (lv_at hl 0 rfl) ?_
  refine lv_iload_n hx hb dX1_plan_36 rfl (lv_at hl 1 rfl) ?_
  obtain ⟨c1, h⟩ := mif_n h
  obtain ⟨o4, u2, c3, h⟩ := ucall_n h
  have zu2 := zz_X1_reader N (ub G) (ug G) u a0 x1 o4 u2 c3
  have hq := zz_X1_plan_40 (G := G) (a0 := a0) N u2 o4 s0 s0 h
  refine u_callr (va_runV (As := [.int x1]) (rest := [va_rf s0, va_rf s0]) hC.1 (met_X1_reader l N G u a0 x1 o4 u2 c3) (cwV 1 hts (lw_V q329 q331 qs1 q98 q332) rfl rfl rfl (by decide +kernel) ⟨Nat.le_trans (Nat.le_of_ble_eq_true rfl) hR.1, Nat.le_trans (Nat.le_of_ble_eq_true rfl) hR.2⟩) ⟨uPc_blind, u_rcv hC hP c1 rfl, fun U hU hW => u_pre hC hP hS hU hW⟩ rfl rfl hl.1 rfl (lv_room (by simp only [List.map, u_cat]; exact Nat.le_of_ble_eq_true rfl)) dX1_plan_37 ⟨by omega, by omega⟩) hS (fun H locs hP hS => ?_)
  refine W.cs (cells' := u2.1 - u0.1) (slots' := u2.2.1 - u0.2.1) (by omega) (by omega) ?_
  refine W.cs (cells' := u2.1 - u0.1) (slots' := u2.2.1 - u0.2.1) (by omega) (by omega) ?_
  exact w_X1_plan_40 hC hE hR hRm N u2 o4 s0 s0 h ⟨by omega, by omega⟩ hP hS (lv_sub hl [0] rfl)
def f_X1_plan (N b : Nat) (g : uEnv) (u : UH) (a0 : Nat) (x1 : Int32) : Option (Int32 × UH) :=
    (uGR u a0 0 7).bind fun o1 =>
    ucase o1 (
    if uIs u a0 0 = true then
    ucall (f_X1_refused N b g u a0 1) fun r6 u4 =>
    some (r6, u4)
    else none) fun a2 =>
    (uGI u a0 0 5).bind fun y7 =>
    ucall (f_X1_in N b g u x1 0 y7) fun r10 u8 =>
    if r10 = 0 then
    if uIs u8 a0 0 = true then
    ucall (f_X1_refused N b g u8 a0 2) fun r17 u15 =>
    some (r17, u15)
    else none
    else
    mlet (u8.1) fun a13 =>
    mlet (uNew u8 5 (.inr (9, uDefs tyX11 5))) fun u12 =>
    f_X1_plan_34 N b g a0 u12 x1 (some a13)
set_option maxHeartbeats 4000000 in
set_option maxRecDepth 100000 in
theorem zz_X1_plan_0 {G : uG} {a0 : Nat} {uf : UH} {r : Int32} (N : Nat) (u : UH) (x1 : Int32) (h : f_X1_plan N (ub G) (ug G) u a0 x1 = some (r, uf)) : u.1 ≤ uf.1 ∧ u.2.1 ≤ uf.2.1 := by
  unfold f_X1_plan at h
  obtain ⟨o1, ho1, h⟩ := mbind_n h
  rcases o1 with _ | a2
  · have h := ucase_n h
    obtain ⟨c3, h⟩ := mif_n h
    obtain ⟨r6, u4, c5, h⟩ := ucall_n h
    have zu4 := zz_X1_refused N (ub G) (ug G) u a0 1 r6 u4 c5
    obtain ⟨hr1, hr2⟩ := uret_n h
    subst hr2
    exact ⟨by omega, by omega⟩
  · have h := ucase_s h
    obtain ⟨y7, hy7, h⟩ := mbind_n h
    obtain ⟨r10, u8, c9, h⟩ := ucall_n h
    have zu8 := zz_X1_in N (ub G) (ug G) u x1 0 y7 r10 u8 c9
    by_cases c11 : r10 = 0
    · have h := mif_t c11 h
      obtain ⟨c14, h⟩ := mif_n h
      obtain ⟨r17, u15, c16, h⟩ := ucall_n h
      have zu15 := zz_X1_refused N (ub G) (ug G) u8 a0 2 r17 u15 c16
      obtain ⟨hr1, hr2⟩ := uret_n h
      subst hr2
      exact ⟨by omega, by omega⟩
    · have h := mif_f c11 h
      obtain ⟨a13, ea13⟩ : ∃ z : Nat, z = u8.1 := ⟨_, rfl⟩
      have h := mlet_at ea13 h
      obtain ⟨u12, eu12⟩ : ∃ z : UH, z = uNew u8 5 (.inr (9, uDefs tyX11 5)) := ⟨_, rfl⟩
      have h := mlet_at eu12 h
      have zu12 : u12.1 = u8.1 + 1 ∧ u12.2.1 = u8.2.1 + 5 := by rw [eu12]; exact ⟨rfl, rfl⟩
      have hq := zz_X1_plan_34 (G := G) (a0 := a0) N u12 x1 (some a13) h
      exact ⟨by omega, by omega⟩
set_option maxHeartbeats 4000000 in
set_option maxRecDepth 100000 in
theorem w_X1_plan_0 {p : Program} {l : Launch} {e : Env} {R : Room} {s : State} {m : MethodId} {args : Array Value} {below : List Frame} {meth : Method} {c : Code} {G : uG} {a0 : Nat} {u0 : UH} {uf : UH} {r : Int32} (hC : uC p s m args meth c G RX1 cX1_plan 4 (some .int)) (hE : c.exceptionTable.toList = [{ startPc := 31, endPc := 55, handlerPc := 58, catchType := 73 }]) (hR : 42 ≤ R.frames ∧ 2099 ≤ R.locals) (hRm : uf.1 - u0.1 ≤ R.cells ∧ uf.2.1 - u0.2.1 ≤ R.slots) (N : Nat) (u : UH) (x1 : Int32) (h : f_X1_plan N (ub G) (ug G) u a0 x1 = some (r, uf)) (hz0 : (u0.1 ≤ u.1 ∧ u0.2.1 ≤ u.2.1)) {H : Heap} {locs : List Loc} (hP : uP G u H) (hS : va_S (uA G) s.heap H locs) {ls : Array Slot} (hl : lv_has ls 4 [(0, va_rf (some a0)), (1, .int x1)]) : W p l e R s m args below meth c H locs (u.1 - u0.1) (u.2.1 - u0.2.1) (MQ below (uQi G r uf) args s (uf.1 - u0.1) (uf.2.1 - u0.2.1) (uA G)) (F0 m 0 ls []) := by
  obtain ⟨⟨hx, hb, hml, hown, hts⟩, hKK⟩ := id hC
  have hzf := zz_X1_plan_0 (G := G) (a0 := a0) N u x1 h
  unfold f_X1_plan at h
  refine u_aload_n (r := some a0) hx hb dX1_plan_0 rfl (lv_at hl 0 rfl) ?_
  obtain ⟨o1, ho1, h⟩ := mbind_n h
  refine u_get hC hP (uGR_n ho1) rfl in_X1 (by decide) q222 (fun _ h => h) dX1_plan_1 ?_
  rcases o1 with _ | a2
  · have h := ucase_n h
    refine lv_ifnonnullN hx hb dX1_plan_4 ?_
    refine u_aload_n (r := some a0) hx hb dX1_plan_7 rfl (lv_at hl 0 rfl) ?_
    refine lv_iconst (v := 1) hx hb dX1_plan_8 (by decide) ?_
    obtain ⟨c3, h⟩ := mif_n h
    obtain ⟨r6, u4, c5, h⟩ := ucall_n h
    have zu4 := zz_X1_refused N (ub G) (ug G) u a0 1 r6 u4 c5
    refine u_calli (va_runV (As := [.int 1]) (rest := []) hC.1 (met_X1_refused l N G u a0 1 r6 u4 c5) (cwV 1 hts (lw_V q276 q278 qs0 q98 q279) rfl rfl rfl (by decide +kernel) ⟨Nat.le_trans (Nat.le_of_ble_eq_true rfl) hR.1, Nat.le_trans (Nat.le_of_ble_eq_true rfl) hR.2⟩) ⟨uPc_blind, u_rcv hC hP c3 rfl, fun U hU hW => u_pre hC hP hS hU hW⟩ rfl rfl hl.1 rfl (lv_room (Nat.le_of_ble_eq_true rfl)) dX1_plan_9 ⟨by omega, by omega⟩) hS (fun H locs hP hS => ?_)
    refine W.cs (cells' := u4.1 - u0.1) (slots' := u4.2.1 - u0.2.1) (by omega) (by omega) ?_
    obtain ⟨hr1, hr2⟩ := uret_n h
    subst hr1
    subst hr2
    exact u_iret hC hP hS dX1_plan_12
  · have h := ucase_s h
    refine lv_ifnonnull (tgt := 13) hx hb dX1_plan_4 (by decide) ?_
    refine lv_iload_n hx hb dX1_plan_13 rfl (lv_at hl 1 rfl) ?_
    refine lv_iconst (v := 0) hx hb dX1_plan_14 (by decide) ?_
    refine u_aload_n (r := some a0) hx hb dX1_plan_15 rfl (lv_at hl 0 rfl) ?_
    obtain ⟨y7, hy7, h⟩ := mbind_n h
    refine u_get hC hP (uGI_n hy7) rfl in_X1 (by decide) q220 (fun _ h => h) dX1_plan_16 ?_
    obtain ⟨r10, u8, c9, h⟩ := ucall_n h
    have zu8 := zz_X1_in N (ub G) (ug G) u x1 0 y7 r10 u8 c9
    refine u_calli (va_runS (As := [.int x1, .int 0, .int y7]) (rest := []) hC.1 (met_X1_in l N G u x1 0 y7 r10 u8 c9) (va_cwS 3 hts (lw_S q273 q274 q98 q275) rfl rfl rfl (by decide +kernel) ⟨Nat.le_trans (Nat.le_of_ble_eq_true rfl) hR.1, Nat.le_trans (Nat.le_of_ble_eq_true rfl) hR.2⟩) ⟨uPc_blind, fun U hU hW => u_pre hC hP hS hU hW⟩ rfl rfl hl.1 rfl (lv_room (Nat.le_of_ble_eq_true rfl)) dX1_plan_19 ⟨by omega, by omega⟩) hS (fun H locs hP hS => ?_)
    refine W.cs (cells' := u8.1 - u0.1) (slots' := u8.2.1 - u0.2.1) (by omega) (by omega) ?_
    refine lv_if_ne (tgt := 31) hx hb dX1_plan_22 (by decide) (fun c11 => ?_) (fun c11 => ?_)
    · have h := mif_f c11 h
      obtain ⟨a13, ea13⟩ : ∃ z : Nat, z = u8.1 := ⟨_, rfl⟩
      have h := mlet_at ea13 h
      obtain ⟨u12, eu12⟩ : ∃ z : UH, z = uNew u8 5 (.inr (9, uDefs tyX11 5)) := ⟨_, rfl⟩
      have h := mlet_at eu12 h
      have zu12 : u12.1 = u8.1 + 1 ∧ u12.2.1 = u8.2.1 + 5 := by rw [eu12]; exact ⟨rfl, rfl⟩
      have hq := zz_X1_plan_34 (G := G) (a0 := a0) N u12 x1 (some a13) h
      refine u_new hC hP hS (T := TX11) (N := 5) (ci := 9) rfl in_X11 tyX11 tyX11_ok q1539 q1540 q128 (by omega) (by omega) dX1_plan_31 (fun H hP hS => ?_)
      rw [← eu12] at hP
      rw [← ea13]
      refine W.cs (cells' := u12.1 - u0.1) (slots' := u12.2.1 - u0.2.1) (by omega) (by omega) ?_
      refine W.cs (cells' := u12.1 - u0.1) (slots' := u12.2.1 - u0.2.1) (by omega) (by omega) ?_
      exact w_X1_plan_34 hC hE hR hRm N u12 x1 (some a13) h ⟨by omega, by omega⟩ hP hS (lv_sub hl [0, 1] rfl)
    · have h := mif_t c11 h
      refine u_aload_n (r := some a0) hx hb dX1_plan_25 rfl (lv_at hl 0 rfl) ?_
      refine lv_iconst (v := 2) hx hb dX1_plan_26 (by decide) ?_
      obtain ⟨c14, h⟩ := mif_n h
      obtain ⟨r17, u15, c16, h⟩ := ucall_n h
      have zu15 := zz_X1_refused N (ub G) (ug G) u8 a0 2 r17 u15 c16
      refine u_calli (va_runV (As := [.int 2]) (rest := []) hC.1 (met_X1_refused l N G u8 a0 2 r17 u15 c16) (cwV 1 hts (lw_V q276 q278 qs0 q98 q279) rfl rfl rfl (by decide +kernel) ⟨Nat.le_trans (Nat.le_of_ble_eq_true rfl) hR.1, Nat.le_trans (Nat.le_of_ble_eq_true rfl) hR.2⟩) ⟨uPc_blind, u_rcv hC hP c14 rfl, fun U hU hW => u_pre hC hP hS hU hW⟩ rfl rfl hl.1 rfl (lv_room (Nat.le_of_ble_eq_true rfl)) dX1_plan_27 ⟨by omega, by omega⟩) hS (fun H locs hP hS => ?_)
      refine W.cs (cells' := u15.1 - u0.1) (slots' := u15.2.1 - u0.2.1) (by omega) (by omega) ?_
      obtain ⟨hr1, hr2⟩ := uret_n h
      subst hr1
      subst hr2
      exact u_iret hC hP hS dX1_plan_30
theorem zz_X1_plan (N b : Nat) (g : uEnv) (u : UH) (a0 : Nat) (x1 : Int32) (r : Int32) (uf : UH) (h : f_X1_plan N b g u a0 x1 = some (r, uf)) : u.1 ≤ uf.1 ∧ u.2.1 ≤ uf.2.1 :=
  zz_X1_plan_0 (G := ((fun _ => 0, fun _ _ => 0), fun _ => 0, b, g)) (a0 := a0) N u x1 h
theorem met_X1_plan (l : Launch) (N : Nat) (G : uG) (u : UH) (a0 : Nat) (x1 : Int32) (r : Int32) (uf : UH) (h : f_X1_plan N (ub G) (ug G) u a0 x1 = some (r, uf)) : Met l yX1_plan (wsW_ yX1_plan cX1_plan 4 (some .int) [(31, 55, 58, 73)]) ({ frames := 42, cells := (uf.1 - u.1), slots := (uf.2.1 - u.2.1), locals := 2099 }) (uPc G u [.ref a0, .int x1]) (uQi G r uf) (uf.1 - u.1) (uf.2.1 - u.2.1) (uA G) := by
  exact u_metW (own := RX1) (by decide +kernel) rfl (Nat.le_of_ble_eq_true rfl) (fun hC hE hn hsz ls hl hP => W.cs (Nat.sub_self _).symm (Nat.sub_self _).symm (w_X1_plan_0 hC hE ⟨Nat.le_refl _, Nat.le_refl _⟩ ⟨Nat.le_refl _, Nat.le_refl _⟩ N u x1 h ⟨Nat.le_refl _, Nat.le_refl _⟩ hP va_S.rf hl))

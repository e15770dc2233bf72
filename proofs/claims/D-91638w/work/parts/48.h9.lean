/-! BY gen_heap.py: J10_checkLength J10_fill J10_fill_2 J11_canEncode J11_canEncode_2 J6_checkIndex J11_charAt J11_equals J8_signedHashCode J8_vectorizedHashCode J11_hashCode J11_indexOfChar J11_indexOf J14_init_2 J15_init J18_init J19_init J19_intValue J19_valueOf J8_hugeLength J8_newLength J2_clear J4_newCapacity J4_isLatin1 J4_getValue J4_length J5_length J6_isLatin1 J6_charAt J6_coder J6_equals J6_hashCode J6_length J6_indexOf_2 J6_indexOf J9_min_2 X5_is X7_of X5_isName X8_init X4_groundOf X4_hasAttempt X2_at X2_begin X2_cost -/
def f_J10_checkLength (N b : Nat) (g : uEnv) (u : UH) (x0 : Int32) (x1 : Int32) : Option (UH) :=
    if x0 ≤ x1 then
    some u
    else
    none
set_option maxHeartbeats 4000000 in
set_option maxRecDepth 100000 in
theorem zz_J10_checkLength_0 {G : uG} {uf : UH} (N : Nat) (u : UH) (x0 : Int32) (x1 : Int32) (h : f_J10_checkLength N (ub G) (ug G) u x0 x1 = some uf) : uf.1 = u.1 ∧ uf.2.1 = u.2.1 := by
  unfold f_J10_checkLength at h
  by_cases c1 : x0 ≤ x1
  · have h := mif_t c1 h
    cases h
    exact ⟨by omega, by omega⟩
  · have h := mif_f c1 h
    cases h
set_option maxHeartbeats 4000000 in
set_option maxRecDepth 100000 in
theorem w_J10_checkLength_0 {p : Program} {l : Launch} {e : Env} {R : Room} {s : State} {m : MethodId} {args : Array Value} {below : List Frame} {meth : Method} {c : Code} {G : uG} {uf : UH} (hC : uC p s m args meth c G RJ10 cJ10_checkLength 2 none) (hR : 0 ≤ R.frames ∧ 0 ≤ R.locals) (N : Nat) (u : UH) (x0 : Int32) (x1 : Int32) (h : f_J10_checkLength N (ub G) (ug G) u x0 x1 = some uf) {H : Heap} {locs : List Loc} (hP : uP G u H) (hS : va_S (uA G) s.heap H locs) {ls : Array Slot} (hl : lv_has ls 2 [(0, .int x0), (1, .int x1)]) : W p l e R s m args below meth c H locs 0 0 (MQ below (uQv G uf) args s 0 0 (uA G)) (F0 m 0 ls []) := by
  obtain ⟨⟨hx, hb, hml, hown, hts⟩, hKK⟩ := id hC
  unfold f_J10_checkLength at h
  refine lv_iload_n hx hb dJ10_checkLength_0 rfl (lv_at hl 1 rfl) ?_
  refine lv_iload_n hx hb dJ10_checkLength_1 rfl (lv_at hl 0 rfl) ?_
  refine lv_icmp_ge (tgt := 37) hx hb dJ10_checkLength_2 (by decide) (fun c1 => ?_) (fun c1 => ?_)
  · have h := mif_t c1 h
    cases h
    exact u_vret hC hP hS dJ10_checkLength_37
  · have h := mif_f c1 h
    cases h
theorem zz_J10_checkLength (N b : Nat) (g : uEnv) (u : UH) (x0 : Int32) (x1 : Int32) (uf : UH) (h : f_J10_checkLength N b g u x0 x1 = some uf) : uf.1 = u.1 ∧ uf.2.1 = u.2.1 :=
  zz_J10_checkLength_0 (G := ((fun _ => 0, fun _ _ => 0), fun _ => 0, b, g)) N u x0 x1 h
theorem met_J10_checkLength (l : Launch) (N : Nat) (G : uG) (u : UH) (x0 : Int32) (x1 : Int32) (uf : UH) (h : f_J10_checkLength N (ub G) (ug G) u x0 x1 = some uf) : Met l yJ10_checkLength (ws_ yJ10_checkLength cJ10_checkLength 2 none) ({ frames := 0, cells := 0, slots := 0, locals := 0 }) (uPc G u [.int x0, .int x1]) (uQv G uf) 0 0 (uA G) := by
  exact u_met (own := RJ10) (by decide +kernel) rfl (Nat.le_of_ble_eq_true rfl) (fun hC hn hsz ls hl hP => w_J10_checkLength_0 hC ⟨Nat.le_refl _, Nat.le_refl _⟩ N u x0 x1 h hP va_S.rf hl)
def f_J10_fill_5 (N b : Nat) (g : uEnv) : Nat → UH → Option Nat → Int32 → Int32 → Int32 → Option (UH)
  | 0, _, _, _, _, _ => none
  | n + 1, u, x0, x1, x2, x3 =>
    if x3 ≤ x2 then
    some u
    else
    (x0).bind fun a2 =>
    (uStI b u a2 0 x2 x1).bind fun u3 =>
    mlet (x2 + 1) fun y4 =>
    f_J10_fill_5 N b g n u3 (some a2) x1 y4 x3
set_option maxHeartbeats 4000000 in
set_option maxRecDepth 100000 in
theorem zz_J10_fill_5 {G : uG} {uf : UH} (N : Nat) : ∀ (n : Nat) (u : UH) (x0 : Option Nat) (x1 : Int32) (x2 : Int32) (x3 : Int32), f_J10_fill_5 N (ub G) (ug G) n u x0 x1 x2 x3 = some uf → uf.1 = u.1 ∧ uf.2.1 = u.2.1 := by
  intro n
  induction n with
  | zero =>
    intro u x0 x1 x2 x3 h
    cases h
  | succ n ih =>
    intro u x0 x1 x2 x3 h
    unfold f_J10_fill_5 at h
    by_cases c1 : x3 ≤ x2
    · have h := mif_t c1 h
      cases h
      exact ⟨by omega, by omega⟩
    · have h := mif_f c1 h
      obtain ⟨a2, ha2, hha2⟩ := mbind_n h
      subst ha2
      have h := hha2
      obtain ⟨u3, hu3, h⟩ := mbind_n h
      have zu3 := uStI_sz hu3
      obtain ⟨y4, ey4⟩ : ∃ z : Int32, z = x2 + 1 := ⟨_, rfl⟩
      have h := mlet_at ey4 h
      have hq := ih u3 (some a2) x1 y4 x3 h
      exact ⟨by omega, by omega⟩
set_option maxHeartbeats 4000000 in
set_option maxRecDepth 100000 in
theorem w_J10_fill_5 {p : Program} {l : Launch} {e : Env} {R : Room} {s : State} {m : MethodId} {args : Array Value} {below : List Frame} {meth : Method} {c : Code} {G : uG} {uf : UH} (hC : uC p s m args meth c G RJ10 cJ10_fill 4 none) (hR : 0 ≤ R.frames ∧ 0 ≤ R.locals) (N : Nat) : ∀ (n : Nat) (u : UH) (x0 : Option Nat) (x1 : Int32) (x2 : Int32) (x3 : Int32), f_J10_fill_5 N (ub G) (ug G) n u x0 x1 x2 x3 = some uf → ∀ (H : Heap) (locs : List Loc), uP G u H → va_S (uA G) s.heap H locs → ∀ ls : Array Slot, lv_has ls 4 [(0, va_rf x0), (1, .int x1), (2, .int x2), (3, .int x3)] → W p l e R s m args below meth c H locs 0 0 (MQ below (uQv G uf) args s 0 0 (uA G)) (F0 m 5 ls []) := by
  obtain ⟨⟨hx, hb, hml, hown, hts⟩, hKK⟩ := id hC
  intro n
  induction n with
  | zero =>
    intro u x0 x1 x2 x3 h
    cases h
  | succ n ih =>
    intro u x0 x1 x2 x3 h H locs hP hS ls hl
    unfold f_J10_fill_5 at h
    refine lv_iload_n hx hb dJ10_fill_5 rfl (lv_at hl 2 rfl) ?_
    refine lv_iload_n hx hb dJ10_fill_6 rfl (lv_at hl 3 rfl) ?_
    refine lv_icmp_ge (tgt := 20) hx hb dJ10_fill_7 (by decide) (fun c1 => ?_) (fun c1 => ?_)
    · have h := mif_t c1 h
      cases h
      exact u_vret hC hP hS dJ10_fill_20
    · have h := mif_f c1 h
      refine u_aload_n (r := x0) hx hb dJ10_fill_10 rfl (lv_at hl 0 rfl) ?_
      refine lv_iload_n hx hb dJ10_fill_11 rfl (lv_at hl 2 rfl) ?_
      refine lv_iload_n hx hb dJ10_fill_12 rfl (lv_at hl 1 rfl) ?_
      obtain ⟨a2, ha2, hha2⟩ := mbind_n h
      subst ha2
      have h := hha2
      obtain ⟨u3, hu3, h⟩ := mbind_n h
      have zu3 := uStI_sz hu3
      refine u_iast hC hP hS hu3 rfl dJ10_fill_13 (fun H locs hP hS => ?_)
      obtain ⟨y4, ey4⟩ : ∃ z : Int32, z = x2 + 1 := ⟨_, rfl⟩
      have h := mlet_at ey4 h
      refine lv_iinc (v := y4) (lv' := [(2, .int y4), (0, va_rf (some a2)), (1, .int x1), (3, .int x3)]) hx hb dJ10_fill_14 hl (k := 2) rfl (by rw [ey4]; rfl) (by decide) rfl (fun ls hl => ?_)
      refine lv_goto (tgt := 5) hx hb dJ10_fill_17 (by decide) ?_
      exact ih u3 (some a2) x1 y4 x3 h _ _ hP hS _ (lv_sub hl [1, 2, 0, 3] rfl)
def f_J10_fill (N b : Nat) (g : uEnv) (u : UH) (x0 : Option Nat) (x1 : Int32) : Option (UH) :=
    (x0).bind fun a1 =>
    (uLen u a1 0).bind fun y2 =>
    f_J10_fill_5 N b g N u (some a1) x1 0 y2
set_option maxHeartbeats 4000000 in
set_option maxRecDepth 100000 in
theorem zz_J10_fill_0 {G : uG} {uf : UH} (N : Nat) (u : UH) (x0 : Option Nat) (x1 : Int32) (h : f_J10_fill N (ub G) (ug G) u x0 x1 = some uf) : uf.1 = u.1 ∧ uf.2.1 = u.2.1 := by
  unfold f_J10_fill at h
  obtain ⟨a1, ha1, hha1⟩ := mbind_n h
  subst ha1
  have h := hha1
  obtain ⟨y2, hy2, h⟩ := mbind_n h
  have hq := zz_J10_fill_5 (G := G) N N u (some a1) x1 0 y2 h
  exact ⟨by omega, by omega⟩
set_option maxHeartbeats 4000000 in
set_option maxRecDepth 100000 in
theorem w_J10_fill_0 {p : Program} {l : Launch} {e : Env} {R : Room} {s : State} {m : MethodId} {args : Array Value} {below : List Frame} {meth : Method} {c : Code} {G : uG} {uf : UH} (hC : uC p s m args meth c G RJ10 cJ10_fill 4 none) (hR : 0 ≤ R.frames ∧ 0 ≤ R.locals) (N : Nat) (u : UH) (x0 : Option Nat) (x1 : Int32) (h : f_J10_fill N (ub G) (ug G) u x0 x1 = some uf) {H : Heap} {locs : List Loc} (hP : uP G u H) (hS : va_S (uA G) s.heap H locs) {ls : Array Slot} (hl : lv_has ls 4 [(0, va_rf x0), (1, .int x1)]) : W p l e R s m args below meth c H locs 0 0 (MQ below (uQv G uf) args s 0 0 (uA G)) (F0 m 0 ls []) := by
  obtain ⟨⟨hx, hb, hml, hown, hts⟩, hKK⟩ := id hC
  unfold f_J10_fill at h
  refine lv_iconst (v := 0) hx hb dJ10_fill_0 (by decide) ?_
  refine lv_istore_n (i := 2) (lv' := [(2, .int 0), (0, va_rf x0), (1, .int x1)]) hx hb dJ10_fill_1 rfl hl (by decide) rfl (fun ls hl => ?_)
  refine u_aload_n (r := x0) hx hb dJ10_fill_2 rfl (lv_at hl 1 rfl) ?_
  obtain ⟨a1, ha1, hha1⟩ := mbind_n h
  subst ha1
  have h := hha1
  obtain ⟨y2, hy2, h⟩ := mbind_n h
  refine u_alen hC hP hy2 dJ10_fill_3 ?_
  refine lv_istore_n (i := 3) (lv' := [(3, .int y2), (2, .int 0), (0, va_rf (some a1)), (1, .int x1)]) hx hb dJ10_fill_4 rfl hl (by decide) rfl (fun ls hl => ?_)
  exact w_J10_fill_5 hC hR N N u (some a1) x1 0 y2 h _ _ hP hS _ (lv_sub hl [2, 3, 1, 0] rfl)
theorem zz_J10_fill (N b : Nat) (g : uEnv) (u : UH) (x0 : Option Nat) (x1 : Int32) (uf : UH) (h : f_J10_fill N b g u x0 x1 = some uf) : uf.1 = u.1 ∧ uf.2.1 = u.2.1 :=
  zz_J10_fill_0 (G := ((fun _ => 0, fun _ _ => 0), fun _ => 0, b, g)) N u x0 x1 h
theorem met_J10_fill (l : Launch) (N : Nat) (G : uG) (u : UH) (x0 : Option Nat) (x1 : Int32) (uf : UH) (h : f_J10_fill N (ub G) (ug G) u x0 x1 = some uf) : Met l yJ10_fill (ws_ yJ10_fill cJ10_fill 4 none) ({ frames := 0, cells := 0, slots := 0, locals := 0 }) (uPc G u [va_rf x0, .int x1]) (uQv G uf) 0 0 (uA G) := by
  rcases x0 with _ | x0 <;> exact u_met (own := RJ10) (by decide +kernel) rfl (Nat.le_of_ble_eq_true rfl) (fun hC hn hsz ls hl hP => w_J10_fill_0 hC ⟨Nat.le_refl _, Nat.le_refl _⟩ N u _ x1 h hP va_S.rf hl)
def f_J10_fill_2_5 (N b : Nat) (g : uEnv) : Nat → UH → Option Nat → Int32 → Int32 → Int32 → Option (UH)
  | 0, _, _, _, _, _ => none
  | n + 1, u, x0, x1, x2, x3 =>
    if x3 ≤ x2 then
    some u
    else
    (x0).bind fun a2 =>
    (uStI b u a2 2 x2 (vp_nar .boolean x1)).bind fun u3 =>
    mlet (x2 + 1) fun y4 =>
    f_J10_fill_2_5 N b g n u3 (some a2) x1 y4 x3
set_option maxHeartbeats 4000000 in
set_option maxRecDepth 100000 in
theorem zz_J10_fill_2_5 {G : uG} {uf : UH} (N : Nat) : ∀ (n : Nat) (u : UH) (x0 : Option Nat) (x1 : Int32) (x2 : Int32) (x3 : Int32), f_J10_fill_2_5 N (ub G) (ug G) n u x0 x1 x2 x3 = some uf → uf.1 = u.1 ∧ uf.2.1 = u.2.1 := by
  intro n
  induction n with
  | zero =>
    intro u x0 x1 x2 x3 h
    cases h
  | succ n ih =>
    intro u x0 x1 x2 x3 h
    unfold f_J10_fill_2_5 at h
    by_cases c1 : x3 ≤ x2
    · have h := mif_t c1 h
      cases h
      exact ⟨by omega, by omega⟩
    · have h := mif_f c1 h
      obtain ⟨a2, ha2, hha2⟩ := mbind_n h
      subst ha2
      have h := hha2
      obtain ⟨u3, hu3, h⟩ := mbind_n h
      have zu3 := uStI_sz hu3
      obtain ⟨y4, ey4⟩ : ∃ z : Int32, z = x2 + 1 := ⟨_, rfl⟩
      have h := mlet_at ey4 h
      have hq := ih u3 (some a2) x1 y4 x3 h
      exact ⟨by omega, by omega⟩
set_option maxHeartbeats 4000000 in
set_option maxRecDepth 100000 in
theorem w_J10_fill_2_5 {p : Program} {l : Launch} {e : Env} {R : Room} {s : State} {m : MethodId} {args : Array Value} {below : List Frame} {meth : Method} {c : Code} {G : uG} {uf : UH} (hC : uC p s m args meth c G RJ10 cJ10_fill_2 4 none) (hR : 0 ≤ R.frames ∧ 0 ≤ R.locals) (N : Nat) : ∀ (n : Nat) (u : UH) (x0 : Option Nat) (x1 : Int32) (x2 : Int32) (x3 : Int32), f_J10_fill_2_5 N (ub G) (ug G) n u x0 x1 x2 x3 = some uf → ∀ (H : Heap) (locs : List Loc), uP G u H → va_S (uA G) s.heap H locs → ∀ ls : Array Slot, lv_has ls 4 [(0, va_rf x0), (1, .int x1), (2, .int x2), (3, .int x3)] → W p l e R s m args below meth c H locs 0 0 (MQ below (uQv G uf) args s 0 0 (uA G)) (F0 m 5 ls []) := by
  obtain ⟨⟨hx, hb, hml, hown, hts⟩, hKK⟩ := id hC
  intro n
  induction n with
  | zero =>
    intro u x0 x1 x2 x3 h
    cases h
  | succ n ih =>
    intro u x0 x1 x2 x3 h H locs hP hS ls hl
    unfold f_J10_fill_2_5 at h
    refine lv_iload_n hx hb dJ10_fill_2_5 rfl (lv_at hl 2 rfl) ?_
    refine lv_iload_n hx hb dJ10_fill_2_6 rfl (lv_at hl 3 rfl) ?_
    refine lv_icmp_ge (tgt := 20) hx hb dJ10_fill_2_7 (by decide) (fun c1 => ?_) (fun c1 => ?_)
    · have h := mif_t c1 h
      cases h
      exact u_vret hC hP hS dJ10_fill_2_20
    · have h := mif_f c1 h
      refine u_aload_n (r := x0) hx hb dJ10_fill_2_10 rfl (lv_at hl 0 rfl) ?_
      refine lv_iload_n hx hb dJ10_fill_2_11 rfl (lv_at hl 2 rfl) ?_
      refine lv_iload_n hx hb dJ10_fill_2_12 rfl (lv_at hl 1 rfl) ?_
      obtain ⟨a2, ha2, hha2⟩ := mbind_n h
      subst ha2
      have h := hha2
      obtain ⟨u3, hu3, h⟩ := mbind_n h
      have zu3 := uStI_sz hu3
      refine u_zast hC hP hS hu3 rfl dJ10_fill_2_13 (fun H locs hP hS => ?_)
      obtain ⟨y4, ey4⟩ : ∃ z : Int32, z = x2 + 1 := ⟨_, rfl⟩
      have h := mlet_at ey4 h
      refine lv_iinc (v := y4) (lv' := [(2, .int y4), (0, va_rf (some a2)), (1, .int x1), (3, .int x3)]) hx hb dJ10_fill_2_14 hl (k := 2) rfl (by rw [ey4]; rfl) (by decide) rfl (fun ls hl => ?_)
      refine lv_goto (tgt := 5) hx hb dJ10_fill_2_17 (by decide) ?_
      exact ih u3 (some a2) x1 y4 x3 h _ _ hP hS _ (lv_sub hl [1, 2, 0, 3] rfl)
def f_J10_fill_2 (N b : Nat) (g : uEnv) (u : UH) (x0 : Option Nat) (x1 : Int32) : Option (UH) :=
    (x0).bind fun a1 =>
    (uLen u a1 2).bind fun y2 =>
    f_J10_fill_2_5 N b g N u (some a1) x1 0 y2
set_option maxHeartbeats 4000000 in
set_option maxRecDepth 100000 in
theorem zz_J10_fill_2_0 {G : uG} {uf : UH} (N : Nat) (u : UH) (x0 : Option Nat) (x1 : Int32) (h : f_J10_fill_2 N (ub G) (ug G) u x0 x1 = some uf) : uf.1 = u.1 ∧ uf.2.1 = u.2.1 := by
  unfold f_J10_fill_2 at h
  obtain ⟨a1, ha1, hha1⟩ := mbind_n h
  subst ha1
  have h := hha1
  obtain ⟨y2, hy2, h⟩ := mbind_n h
  have hq := zz_J10_fill_2_5 (G := G) N N u (some a1) x1 0 y2 h
  exact ⟨by omega, by omega⟩
set_option maxHeartbeats 4000000 in
set_option maxRecDepth 100000 in
theorem w_J10_fill_2_0 {p : Program} {l : Launch} {e : Env} {R : Room} {s : State} {m : MethodId} {args : Array Value} {below : List Frame} {meth : Method} {c : Code} {G : uG} {uf : UH} (hC : uC p s m args meth c G RJ10 cJ10_fill_2 4 none) (hR : 0 ≤ R.frames ∧ 0 ≤ R.locals) (N : Nat) (u : UH) (x0 : Option Nat) (x1 : Int32) (h : f_J10_fill_2 N (ub G) (ug G) u x0 x1 = some uf) {H : Heap} {locs : List Loc} (hP : uP G u H) (hS : va_S (uA G) s.heap H locs) {ls : Array Slot} (hl : lv_has ls 4 [(0, va_rf x0), (1, .int x1)]) : W p l e R s m args below meth c H locs 0 0 (MQ below (uQv G uf) args s 0 0 (uA G)) (F0 m 0 ls []) := by
  obtain ⟨⟨hx, hb, hml, hown, hts⟩, hKK⟩ := id hC
  unfold f_J10_fill_2 at h
  refine lv_iconst (v := 0) hx hb dJ10_fill_2_0 (by decide) ?_
  refine lv_istore_n (i := 2) (lv' := [(2, .int 0), (0, va_rf x0), (1, .int x1)]) hx hb dJ10_fill_2_1 rfl hl (by decide) rfl (fun ls hl => ?_)
  refine u_aload_n (r := x0) hx hb dJ10_fill_2_2 rfl (lv_at hl 1 rfl) ?_
  obtain ⟨a1, ha1, hha1⟩ := mbind_n h
  subst ha1
  have h := hha1
  obtain ⟨y2, hy2, h⟩ := mbind_n h
  refine u_alen hC hP hy2 dJ10_fill_2_3 ?_
  refine lv_istore_n (i := 3) (lv' := [(3, .int y2), (2, .int 0), (0, va_rf (some a1)), (1, .int x1)]) hx hb dJ10_fill_2_4 rfl hl (by decide) rfl (fun ls hl => ?_)
  exact w_J10_fill_2_5 hC hR N N u (some a1) x1 0 y2 h _ _ hP hS _ (lv_sub hl [2, 3, 1, 0] rfl)
theorem zz_J10_fill_2 (N b : Nat) (g : uEnv) (u : UH) (x0 : Option Nat) (x1 : Int32) (uf : UH) (h : f_J10_fill_2 N b g u x0 x1 = some uf) : uf.1 = u.1 ∧ uf.2.1 = u.2.1 :=
  zz_J10_fill_2_0 (G := ((fun _ => 0, fun _ _ => 0), fun _ => 0, b, g)) N u x0 x1 h
theorem met_J10_fill_2 (l : Launch) (N : Nat) (G : uG) (u : UH) (x0 : Option Nat) (x1 : Int32) (uf : UH) (h : f_J10_fill_2 N (ub G) (ug G) u x0 x1 = some uf) : Met l yJ10_fill_2 (ws_ yJ10_fill_2 cJ10_fill_2 4 none) ({ frames := 0, cells := 0, slots := 0, locals := 0 }) (uPc G u [va_rf x0, .int x1]) (uQv G uf) 0 0 (uA G) := by
  rcases x0 with _ | x0 <;> exact u_met (own := RJ10) (by decide +kernel) rfl (Nat.le_of_ble_eq_true rfl) (fun hC hn hsz ls hl hP => w_J10_fill_2_0 hC ⟨Nat.le_refl _, Nat.le_refl _⟩ N u _ x1 h hP va_S.rf hl)
def f_J11_canEncode_12 (N b : Nat) (g : uEnv) (u : UH) (s0 : Int32) : Option (Int32 × UH) :=
    if uFit .boolean s0 = true then
    some (s0, u)
    else none
set_option maxHeartbeats 4000000 in
set_option maxRecDepth 100000 in
theorem zz_J11_canEncode_12 {G : uG} {uf : UH} {r : Int32} (N : Nat) (u : UH) (s0 : Int32) (h : f_J11_canEncode_12 N (ub G) (ug G) u s0 = some (r, uf)) : uf.1 = u.1 ∧ uf.2.1 = u.2.1 := by
  unfold f_J11_canEncode_12 at h
  obtain ⟨c1, h⟩ := mif_n h
  obtain ⟨hr1, hr2⟩ := uret_n h
  subst hr2
  exact ⟨by omega, by omega⟩
set_option maxHeartbeats 4000000 in
set_option maxRecDepth 100000 in
theorem w_J11_canEncode_12 {p : Program} {l : Launch} {e : Env} {R : Room} {s : State} {m : MethodId} {args : Array Value} {below : List Frame} {meth : Method} {c : Code} {G : uG} {uf : UH} {r : Int32} (hC : uC p s m args meth c G RJ11 cJ11_canEncode 1 (some .boolean)) (hR : 0 ≤ R.frames ∧ 0 ≤ R.locals) (N : Nat) (u : UH) (s0 : Int32) (h : f_J11_canEncode_12 N (ub G) (ug G) u s0 = some (r, uf)) {H : Heap} {locs : List Loc} (hP : uP G u H) (hS : va_S (uA G) s.heap H locs) {ls : Array Slot} (hl : lv_has ls 1 []) : W p l e R s m args below meth c H locs 0 0 (MQ below (uQi G r uf) args s 0 0 (uA G)) (F0 m 12 ls [.int s0]) := by
  obtain ⟨⟨hx, hb, hml, hown, hts⟩, hKK⟩ := id hC
  unfold f_J11_canEncode_12 at h
  obtain ⟨c1, h⟩ := mif_n h
  obtain ⟨hr1, hr2⟩ := uret_n h
  subst hr1
  subst hr2
  exact u_zret hC (uFit_n c1).1 hP hS dJ11_canEncode_12
def f_J11_canEncode (N b : Nat) (g : uEnv) (u : UH) (x0 : Int32) : Option (Int32 × UH) :=
    if 255 < x0 then
    f_J11_canEncode_12 N b g u 0
    else
    f_J11_canEncode_12 N b g u 1
set_option maxHeartbeats 4000000 in
set_option maxRecDepth 100000 in
theorem zz_J11_canEncode_0 {G : uG} {uf : UH} {r : Int32} (N : Nat) (u : UH) (x0 : Int32) (h : f_J11_canEncode N (ub G) (ug G) u x0 = some (r, uf)) : uf.1 = u.1 ∧ uf.2.1 = u.2.1 := by
  unfold f_J11_canEncode at h
  by_cases c1 : 255 < x0
  · have h := mif_t c1 h
    have hq := zz_J11_canEncode_12 (G := G) N u 0 h
    exact ⟨by omega, by omega⟩
  · have h := mif_f c1 h
    have hq := zz_J11_canEncode_12 (G := G) N u 1 h
    exact ⟨by omega, by omega⟩
set_option maxHeartbeats 4000000 in
set_option maxRecDepth 100000 in
theorem w_J11_canEncode_0 {p : Program} {l : Launch} {e : Env} {R : Room} {s : State} {m : MethodId} {args : Array Value} {below : List Frame} {meth : Method} {c : Code} {G : uG} {uf : UH} {r : Int32} (hC : uC p s m args meth c G RJ11 cJ11_canEncode 1 (some .boolean)) (hR : 0 ≤ R.frames ∧ 0 ≤ R.locals) (N : Nat) (u : UH) (x0 : Int32) (h : f_J11_canEncode N (ub G) (ug G) u x0 = some (r, uf)) {H : Heap} {locs : List Loc} (hP : uP G u H) (hS : va_S (uA G) s.heap H locs) {ls : Array Slot} (hl : lv_has ls 1 [(0, .int x0)]) : W p l e R s m args below meth c H locs 0 0 (MQ below (uQi G r uf) args s 0 0 (uA G)) (F0 m 0 ls []) := by
  obtain ⟨⟨hx, hb, hml, hown, hts⟩, hKK⟩ := id hC
  unfold f_J11_canEncode at h
  refine lv_iload_n hx hb dJ11_canEncode_0 rfl (lv_at hl 0 rfl) ?_
  refine lv_sipush (v := 255) hx hb dJ11_canEncode_1 (by decide) ?_
  refine lv_icmp_gt (tgt := 11) hx hb dJ11_canEncode_4 (by decide) (fun c1 => ?_) (fun c1 => ?_)
  · have h := mif_t c1 h
    refine lv_iconst (v := 0) hx hb dJ11_canEncode_11 (by decide) ?_
    exact w_J11_canEncode_12 hC hR N u 0 h hP hS (lv_sub hl [] rfl)
  · have h := mif_f c1 h
    refine lv_iconst (v := 1) hx hb dJ11_canEncode_7 (by decide) ?_
    refine lv_goto (tgt := 12) hx hb dJ11_canEncode_8 (by decide) ?_
    exact w_J11_canEncode_12 hC hR N u 1 h hP hS (lv_sub hl [] rfl)
theorem zz_J11_canEncode (N b : Nat) (g : uEnv) (u : UH) (x0 : Int32) (r : Int32) (uf : UH) (h : f_J11_canEncode N b g u x0 = some (r, uf)) : uf.1 = u.1 ∧ uf.2.1 = u.2.1 :=
  zz_J11_canEncode_0 (G := ((fun _ => 0, fun _ _ => 0), fun _ => 0, b, g)) N u x0 h
theorem met_J11_canEncode (l : Launch) (N : Nat) (G : uG) (u : UH) (x0 : Int32) (r : Int32) (uf : UH) (h : f_J11_canEncode N (ub G) (ug G) u x0 = some (r, uf)) : Met l yJ11_canEncode (ws_ yJ11_canEncode cJ11_canEncode 1 (some .boolean)) ({ frames := 0, cells := 0, slots := 0, locals := 0 }) (uPc G u [.int x0]) (uQi G r uf) 0 0 (uA G) := by
  exact u_met (own := RJ11) (by decide +kernel) rfl (Nat.le_of_ble_eq_true rfl) (fun hC hn hsz ls hl hP => w_J11_canEncode_0 hC ⟨Nat.le_refl _, Nat.le_refl _⟩ N u x0 h hP va_S.rf hl)
def f_J11_canEncode_2_16 (N b : Nat) (g : uEnv) (u : UH) (s0 : Int32) : Option (Int32 × UH) :=
    if uFit .boolean s0 = true then
    some (s0, u)
    else none
set_option maxHeartbeats 4000000 in
set_option maxRecDepth 100000 in
theorem zz_J11_canEncode_2_16 {G : uG} {uf : UH} {r : Int32} (N : Nat) (u : UH) (s0 : Int32) (h : f_J11_canEncode_2_16 N (ub G) (ug G) u s0 = some (r, uf)) : uf.1 = u.1 ∧ uf.2.1 = u.2.1 := by
  unfold f_J11_canEncode_2_16 at h
  obtain ⟨c1, h⟩ := mif_n h
  obtain ⟨hr1, hr2⟩ := uret_n h
  subst hr2
  exact ⟨by omega, by omega⟩
set_option maxHeartbeats 4000000 in
set_option maxRecDepth 100000 in
theorem w_J11_canEncode_2_16 {p : Program} {l : Launch} {e : Env} {R : Room} {s : State} {m : MethodId} {args : Array Value} {below : List Frame} {meth : Method} {c : Code} {G : uG} {uf : UH} {r : Int32} (hC : uC p s m args meth c G RJ11 cJ11_canEncode_2 1 (some .boolean)) (hR : 0 ≤ R.frames ∧ 0 ≤ R.locals) (N : Nat) (u : UH) (s0 : Int32) (h : f_J11_canEncode_2_16 N (ub G) (ug G) u s0 = some (r, uf)) {H : Heap} {locs : List Loc} (hP : uP G u H) (hS : va_S (uA G) s.heap H locs) {ls : Array Slot} (hl : lv_has ls 1 []) : W p l e R s m args below meth c H locs 0 0 (MQ below (uQi G r uf) args s 0 0 (uA G)) (F0 m 16 ls [.int s0]) := by
  obtain ⟨⟨hx, hb, hml, hown, hts⟩, hKK⟩ := id hC
  unfold f_J11_canEncode_2_16 at h
  obtain ⟨c1, h⟩ := mif_n h
  obtain ⟨hr1, hr2⟩ := uret_n h
  subst hr1
  subst hr2
  exact u_zret hC (uFit_n c1).1 hP hS dJ11_canEncode_2_16
def f_J11_canEncode_2_15 (N b : Nat) (g : uEnv) (u : UH) : Option (Int32 × UH) :=
    f_J11_canEncode_2_16 N b g u 0
set_option maxHeartbeats 4000000 in
set_option maxRecDepth 100000 in
theorem zz_J11_canEncode_2_15 {G : uG} {uf : UH} {r : Int32} (N : Nat) (u : UH) (h : f_J11_canEncode_2_15 N (ub G) (ug G) u = some (r, uf)) : uf.1 = u.1 ∧ uf.2.1 = u.2.1 := by
  unfold f_J11_canEncode_2_15 at h
  have hq := zz_J11_canEncode_2_16 (G := G) N u 0 h
  exact ⟨by omega, by omega⟩
set_option maxHeartbeats 4000000 in
set_option maxRecDepth 100000 in
theorem w_J11_canEncode_2_15 {p : Program} {l : Launch} {e : Env} {R : Room} {s : State} {m : MethodId} {args : Array Value} {below : List Frame} {meth : Method} {c : Code} {G : uG} {uf : UH} {r : Int32} (hC : uC p s m args meth c G RJ11 cJ11_canEncode_2 1 (some .boolean)) (hR : 0 ≤ R.frames ∧ 0 ≤ R.locals) (N : Nat) (u : UH) (h : f_J11_canEncode_2_15 N (ub G) (ug G) u = some (r, uf)) {H : Heap} {locs : List Loc} (hP : uP G u H) (hS : va_S (uA G) s.heap H locs) {ls : Array Slot} (hl : lv_has ls 1 []) : W p l e R s m args below meth c H locs 0 0 (MQ below (uQi G r uf) args s 0 0 (uA G)) (F0 m 15 ls []) := by
  obtain ⟨⟨hx, hb, hml, hown, hts⟩, hKK⟩ := id hC
  unfold f_J11_canEncode_2_15 at h
  refine lv_iconst (v := 0) hx hb dJ11_canEncode_2_15 (by decide) ?_
  exact w_J11_canEncode_2_16 hC hR N u 0 h hP hS (lv_sub hl [] rfl)
def f_J11_canEncode_2 (N b : Nat) (g : uEnv) (u : UH) (x0 : Int32) : Option (Int32 × UH) :=
    if x0 < 0 then
    f_J11_canEncode_2_15 N b g u
    else
    if 255 < x0 then
    f_J11_canEncode_2_15 N b g u
    else
    f_J11_canEncode_2_16 N b g u 1
set_option maxHeartbeats 4000000 in
set_option maxRecDepth 100000 in
theorem zz_J11_canEncode_2_0 {G : uG} {uf : UH} {r : Int32} (N : Nat) (u : UH) (x0 : Int32) (h : f_J11_canEncode_2 N (ub G) (ug G) u x0 = some (r, uf)) : uf.1 = u.1 ∧ uf.2.1 = u.2.1 := by
  unfold f_J11_canEncode_2 at h
  by_cases c1 : x0 < 0
  · have h := mif_t c1 h
    have hq := zz_J11_canEncode_2_15 (G := G) N u h
    exact ⟨by omega, by omega⟩
  · have h := mif_f c1 h
    by_cases c2 : 255 < x0
    · have h := mif_t c2 h
      have hq := zz_J11_canEncode_2_15 (G := G) N u h
      exact ⟨by omega, by omega⟩
    · have h := mif_f c2 h
      have hq := zz_J11_canEncode_2_16 (G := G) N u 1 h
      exact ⟨by omega, by omega⟩
set_option maxHeartbeats 4000000 in
set_option maxRecDepth 100000 in
theorem w_J11_canEncode_2_0 {p : Program} {l : Launch} {e : Env} {R : Room} {s : State} {m : MethodId} {args : Array Value} {below : List Frame} {meth : Method} {c : Code} {G : uG} {uf : UH} {r : Int32} (hC : uC p s m args meth c G RJ11 cJ11_canEncode_2 1 (some .boolean)) (hR : 0 ≤ R.frames ∧ 0 ≤ R.locals) (N : Nat) (u : UH) (x0 : Int32) (h : f_J11_canEncode_2 N (ub G) (ug G) u x0 = some (r, uf)) {H : Heap} {locs : List Loc} (hP : uP G u H) (hS : va_S (uA G) s.heap H locs) {ls : Array Slot} (hl : lv_has ls 1 [(0, .int x0)]) : W p l e R s m args below meth c H locs 0 0 (MQ below (uQi G r uf) args s 0 0 (uA G)) (F0 m 0 ls []) := by
  obtain ⟨⟨hx, hb, hml, hown, hts⟩, hKK⟩ := id hC
  unfold f_J11_canEncode_2 at h
  refine lv_iload_n hx hb dJ11_canEncode_2_0 rfl (lv_at hl 0 rfl) ?_
  refine lv_if_lt (tgt := 15) hx hb dJ11_canEncode_2_1 (by decide) (fun c1 => ?_) (fun c1 => ?_)
  · have h := mif_t c1 h
    exact w_J11_canEncode_2_15 hC hR N u h hP hS (lv_sub hl [] rfl)
  · have h := mif_f c1 h
    refine lv_iload_n hx hb dJ11_canEncode_2_4 rfl (lv_at hl 0 rfl) ?_
    refine lv_sipush (v := 255) hx hb dJ11_canEncode_2_5 (by decide) ?_
    refine lv_icmp_gt (tgt := 15) hx hb dJ11_canEncode_2_8 (by decide) (fun c2 => ?_) (fun c2 => ?_)
    · have h := mif_t c2 h
      exact w_J11_canEncode_2_15 hC hR N u h hP hS (lv_sub hl [] rfl)
    · have h := mif_f c2 h
      refine lv_iconst (v := 1) hx hb dJ11_canEncode_2_11 (by decide) ?_
      refine lv_goto (tgt := 16) hx hb dJ11_canEncode_2_12 (by decide) ?_
      exact w_J11_canEncode_2_16 hC hR N u 1 h hP hS (lv_sub hl [] rfl)
theorem zz_J11_canEncode_2 (N b : Nat) (g : uEnv) (u : UH) (x0 : Int32) (r : Int32) (uf : UH) (h : f_J11_canEncode_2 N b g u x0 = some (r, uf)) : uf.1 = u.1 ∧ uf.2.1 = u.2.1 :=
  zz_J11_canEncode_2_0 (G := ((fun _ => 0, fun _ _ => 0), fun _ => 0, b, g)) N u x0 h
theorem met_J11_canEncode_2 (l : Launch) (N : Nat) (G : uG) (u : UH) (x0 : Int32) (r : Int32) (uf : UH) (h : f_J11_canEncode_2 N (ub G) (ug G) u x0 = some (r, uf)) : Met l yJ11_canEncode_2 (ws_ yJ11_canEncode_2 cJ11_canEncode_2 1 (some .boolean)) ({ frames := 0, cells := 0, slots := 0, locals := 0 }) (uPc G u [.int x0]) (uQi G r uf) 0 0 (uA G) := by
  exact u_met (own := RJ11) (by decide +kernel) rfl (Nat.le_of_ble_eq_true rfl) (fun hC hn hsz ls hl hP => w_J11_canEncode_2_0 hC ⟨Nat.le_refl _, Nat.le_refl _⟩ N u x0 h hP va_S.rf hl)
def f_J6_checkIndex (N b : Nat) (g : uEnv) (u : UH) (x0 : Int32) (x1 : Int32) : Option (UH) :=
    mlet (g.1 12) fun o1 =>
    ucall (f_J12_checkIndex N b g u x0 x1 o1) fun r4 u2 =>
    some u2
set_option maxHeartbeats 4000000 in
set_option maxRecDepth 100000 in
theorem zz_J6_checkIndex_0 {G : uG} {uf : UH} (N : Nat) (u : UH) (x0 : Int32) (x1 : Int32) (h : f_J6_checkIndex N (ub G) (ug G) u x0 x1 = some uf) : uf.1 = u.1 ∧ uf.2.1 = u.2.1 := by
  unfold f_J6_checkIndex at h
  obtain ⟨o1, eo1⟩ : ∃ z, z = (ug G).1 12 := ⟨_, rfl⟩
  have h := mlet_at eo1 h
  obtain ⟨r4, u2, c3, h⟩ := ucall_n h
  have zu2 := zz_J12_checkIndex N (ub G) (ug G) u x0 x1 o1 r4 u2 c3
  cases h
  exact ⟨by omega, by omega⟩
set_option maxHeartbeats 4000000 in
set_option maxRecDepth 100000 in
theorem w_J6_checkIndex_0 {p : Program} {l : Launch} {e : Env} {R : Room} {s : State} {m : MethodId} {args : Array Value} {below : List Frame} {meth : Method} {c : Code} {G : uG} {uf : UH} (hC : uC p s m args meth c G RJ6 cJ6_checkIndex 2 none) (hR : 1 ≤ R.frames ∧ 22 ≤ R.locals) (N : Nat) (u : UH) (x0 : Int32) (x1 : Int32) (h : f_J6_checkIndex N (ub G) (ug G) u x0 x1 = some uf) {H : Heap} {locs : List Loc} (hP : uP G u H) (hS : va_S (uA G) s.heap H locs) {ls : Array Slot} (hl : lv_has ls 2 [(0, .int x0), (1, .int x1)]) : W p l e R s m args below meth c H locs 0 0 (MQ below (uQv G uf) args s 0 0 (uA G)) (F0 m 0 ls []) := by
  obtain ⟨⟨hx, hb, hml, hown, hts⟩, hKK⟩ := id hC
  unfold f_J6_checkIndex at h
  refine lv_iload_n hx hb dJ6_checkIndex_0 rfl (lv_at hl 0 rfl) ?_
  refine lv_iload_n hx hb dJ6_checkIndex_1 rfl (lv_at hl 1 rfl) ?_
  refine u_gets hC hS 12 rfl q458 (fun _ h => h) dJ6_checkIndex_2 ?_
  obtain ⟨o1, eo1⟩ : ∃ z, z = (ug G).1 12 := ⟨_, rfl⟩
  have h := mlet_at eo1 h
  rw [← eo1]
  obtain ⟨r4, u2, c3, h⟩ := ucall_n h
  have zu2 := zz_J12_checkIndex N (ub G) (ug G) u x0 x1 o1 r4 u2 c3
  refine u_calli (va_runS (As := [.int x0, .int x1, va_rf o1]) (rest := []) hC.1 (met_J12_checkIndex l N G u x0 x1 o1 r4 u2 c3) (va_cwS 3 hts (lw_S q481 q482 q117 q483) rfl rfl rfl (by decide +kernel) ⟨Nat.le_trans (Nat.le_of_ble_eq_true rfl) hR.1, Nat.le_trans (Nat.le_of_ble_eq_true rfl) hR.2⟩) ⟨uPc_blind, fun U hU hW => u_pre hC hP hS hU hW⟩ rfl rfl hl.1 rfl (lv_room (Nat.le_of_ble_eq_true rfl)) dJ6_checkIndex_5 ⟨Nat.zero_le _, Nat.zero_le _⟩) hS (fun H locs hP hS => ?_)
  refine lv_pop hx hb dJ6_checkIndex_8 rfl ?_
  cases h
  exact u_vret hC hP hS dJ6_checkIndex_9
theorem zz_J6_checkIndex (N b : Nat) (g : uEnv) (u : UH) (x0 : Int32) (x1 : Int32) (uf : UH) (h : f_J6_checkIndex N b g u x0 x1 = some uf) : uf.1 = u.1 ∧ uf.2.1 = u.2.1 :=
  zz_J6_checkIndex_0 (G := ((fun _ => 0, fun _ _ => 0), fun _ => 0, b, g)) N u x0 x1 h
theorem met_J6_checkIndex (l : Launch) (N : Nat) (G : uG) (u : UH) (x0 : Int32) (x1 : Int32) (uf : UH) (h : f_J6_checkIndex N (ub G) (ug G) u x0 x1 = some uf) : Met l yJ6_checkIndex (ws_ yJ6_checkIndex cJ6_checkIndex 2 none) ({ frames := 1, cells := 0, slots := 0, locals := 22 }) (uPc G u [.int x0, .int x1]) (uQv G uf) 0 0 (uA G) := by
  exact u_met (own := RJ6) (by decide +kernel) rfl (Nat.le_of_ble_eq_true rfl) (fun hC hn hsz ls hl hP => w_J6_checkIndex_0 hC ⟨Nat.le_refl _, Nat.le_refl _⟩ N u x0 x1 h hP va_S.rf hl)
def f_J11_charAt (N b : Nat) (g : uEnv) (u : UH) (x0 : Option Nat) (x1 : Int32) : Option (Int32 × UH) :=
    (x0).bind fun a1 =>
    (uLen u a1 1).bind fun y2 =>
    (f_J6_checkIndex N b g u x1 y2).bind fun u3 =>
    (uLdI u3 a1 1 x1).bind fun y5 =>
    if uFit .char (((y5 &&& 255).toUInt32 % 65536).toInt32) = true then
    some (((y5 &&& 255).toUInt32 % 65536).toInt32, u3)
    else none
set_option maxHeartbeats 4000000 in
set_option maxRecDepth 100000 in
theorem zz_J11_charAt_0 {G : uG} {uf : UH} {r : Int32} (N : Nat) (u : UH) (x0 : Option Nat) (x1 : Int32) (h : f_J11_charAt N (ub G) (ug G) u x0 x1 = some (r, uf)) : uf.1 = u.1 ∧ uf.2.1 = u.2.1 := by
  unfold f_J11_charAt at h
  obtain ⟨a1, ha1, hha1⟩ := mbind_n h
  subst ha1
  have h := hha1
  obtain ⟨y2, hy2, h⟩ := mbind_n h
  obtain ⟨u3, c4, h⟩ := mbind_n h
  have zu3 := zz_J6_checkIndex N (ub G) (ug G) u x1 y2 u3 c4
  obtain ⟨y5, hy5, h⟩ := mbind_n h
  obtain ⟨c6, h⟩ := mif_n h
  obtain ⟨hr1, hr2⟩ := uret_n h
  subst hr2
  exact ⟨by omega, by omega⟩
set_option maxHeartbeats 4000000 in
set_option maxRecDepth 100000 in
theorem w_J11_charAt_0 {p : Program} {l : Launch} {e : Env} {R : Room} {s : State} {m : MethodId} {args : Array Value} {below : List Frame} {meth : Method} {c : Code} {G : uG} {uf : UH} {r : Int32} (hC : uC p s m args meth c G RJ11 cJ11_charAt 2 (some .char)) (hR : 2 ≤ R.frames ∧ 43 ≤ R.locals) (N : Nat) (u : UH) (x0 : Option Nat) (x1 : Int32) (h : f_J11_charAt N (ub G) (ug G) u x0 x1 = some (r, uf)) {H : Heap} {locs : List Loc} (hP : uP G u H) (hS : va_S (uA G) s.heap H locs) {ls : Array Slot} (hl : lv_has ls 2 [(0, va_rf x0), (1, .int x1)]) : W p l e R s m args below meth c H locs 0 0 (MQ below (uQi G r uf) args s 0 0 (uA G)) (F0 m 0 ls []) := by
  obtain ⟨⟨hx, hb, hml, hown, hts⟩, hKK⟩ := id hC
  unfold f_J11_charAt at h
  refine lv_iload_n hx hb dJ11_charAt_0 rfl (lv_at hl 1 rfl) ?_
  refine u_aload_n (r := x0) hx hb dJ11_charAt_1 rfl (lv_at hl 0 rfl) ?_
  obtain ⟨a1, ha1, hha1⟩ := mbind_n h
  subst ha1
  have h := hha1
  obtain ⟨y2, hy2, h⟩ := mbind_n h
  refine u_alen hC hP hy2 dJ11_charAt_2 ?_
  obtain ⟨u3, c4, h⟩ := mbind_n h
  have zu3 := zz_J6_checkIndex N (ub G) (ug G) u x1 y2 u3 c4
  refine u_callv (va_runS (As := [.int x1, .int y2]) (rest := []) hC.1 (met_J6_checkIndex l N G u x1 y2 u3 c4) (va_cwS 2 hts (lw_S q686 q479 q110 q480) rfl rfl rfl (by decide +kernel) ⟨Nat.le_trans (Nat.le_of_ble_eq_true rfl) hR.1, Nat.le_trans (Nat.le_of_ble_eq_true rfl) hR.2⟩) ⟨uPc_blind, fun U hU hW => u_pre hC hP hS hU hW⟩ rfl rfl hl.1 rfl (lv_room (Nat.le_of_ble_eq_true rfl)) dJ11_charAt_3 ⟨Nat.zero_le _, Nat.zero_le _⟩) hS (fun H locs hP hS => ?_)
  refine u_aload_n (r := some a1) hx hb dJ11_charAt_6 rfl (lv_at hl 0 rfl) ?_
  refine lv_iload_n hx hb dJ11_charAt_7 rfl (lv_at hl 1 rfl) ?_
  obtain ⟨y5, hy5, h⟩ := mbind_n h
  refine u_bald hC hP hy5 rfl dJ11_charAt_8 ?_
  refine lv_sipush (v := 255) hx hb dJ11_charAt_9 (by decide) ?_
  refine lv_iand hx hb dJ11_charAt_12 ?_
  refine lv_i2c (v := ((y5 &&& 255).toUInt32 % 65536).toInt32) hx hb dJ11_charAt_13 rfl ?_
  obtain ⟨c6, h⟩ := mif_n h
  obtain ⟨hr1, hr2⟩ := uret_n h
  subst hr1
  subst hr2
  exact u_zret hC (uFit_n c6).1 hP hS dJ11_charAt_14
theorem zz_J11_charAt (N b : Nat) (g : uEnv) (u : UH) (x0 : Option Nat) (x1 : Int32) (r : Int32) (uf : UH) (h : f_J11_charAt N b g u x0 x1 = some (r, uf)) : uf.1 = u.1 ∧ uf.2.1 = u.2.1 :=
  zz_J11_charAt_0 (G := ((fun _ => 0, fun _ _ => 0), fun _ => 0, b, g)) N u x0 x1 h
theorem met_J11_charAt (l : Launch) (N : Nat) (G : uG) (u : UH) (x0 : Option Nat) (x1 : Int32) (r : Int32) (uf : UH) (h : f_J11_charAt N (ub G) (ug G) u x0 x1 = some (r, uf)) : Met l yJ11_charAt (ws_ yJ11_charAt cJ11_charAt 2 (some .char)) ({ frames := 2, cells := 0, slots := 0, locals := 43 }) (uPc G u [va_rf x0, .int x1]) (uQi G r uf) 0 0 (uA G) := by
  rcases x0 with _ | x0 <;> exact u_met (own := RJ11) (by decide +kernel) rfl (Nat.le_of_ble_eq_true rfl) (fun hC hn hsz ls hl hP => w_J11_charAt_0 hC ⟨Nat.le_refl _, Nat.le_refl _⟩ N u _ x1 h hP va_S.rf hl)
def f_J11_equals_9 (N b : Nat) (g : uEnv) : Nat → UH → Option Nat → Option Nat → Int32 → Option (Int32 × UH)
  | 0, _, _, _, _ => none
  | n + 1, u, x0, x1, x2 =>
    (x0).bind fun a1 =>
    (uLen u a1 1).bind fun y2 =>
    if y2 ≤ x2 then
    some (1, u)
    else
    (uLdI u a1 1 x2).bind fun y4 =>
    (x1).bind fun a5 =>
    (uLdI u a5 1 x2).bind fun y6 =>
    if y4 = y6 then
    mlet (x2 + 1) fun y8 =>
    f_J11_equals_9 N b g n u (some a1) (some a5) y8
    else
    some (0, u)
set_option maxHeartbeats 4000000 in
set_option maxRecDepth 100000 in
theorem zz_J11_equals_9 {G : uG} {uf : UH} {r : Int32} (N : Nat) : ∀ (n : Nat) (u : UH) (x0 : Option Nat) (x1 : Option Nat) (x2 : Int32), f_J11_equals_9 N (ub G) (ug G) n u x0 x1 x2 = some (r, uf) → uf.1 = u.1 ∧ uf.2.1 = u.2.1 := by
  intro n
  induction n with
  | zero =>
    intro u x0 x1 x2 h
    cases h
  | succ n ih =>
    intro u x0 x1 x2 h
    unfold f_J11_equals_9 at h
    obtain ⟨a1, ha1, hha1⟩ := mbind_n h
    subst ha1
    have h := hha1
    obtain ⟨y2, hy2, h⟩ := mbind_n h
    by_cases c3 : y2 ≤ x2
    · have h := mif_t c3 h
      obtain ⟨hr1, hr2⟩ := uret_n h
      subst hr2
      exact ⟨by omega, by omega⟩
    · have h := mif_f c3 h
      obtain ⟨y4, hy4, h⟩ := mbind_n h
      obtain ⟨a5, ha5, hha5⟩ := mbind_n h
      subst ha5
      have h := hha5
      obtain ⟨y6, hy6, h⟩ := mbind_n h
      by_cases c7 : y4 = y6
      · have h := mif_t c7 h
        obtain ⟨y8, ey8⟩ : ∃ z : Int32, z = x2 + 1 := ⟨_, rfl⟩
        have h := mlet_at ey8 h
        have hq := ih u (some a1) (some a5) y8 h
        exact ⟨by omega, by omega⟩
      · have h := mif_f c7 h
        obtain ⟨hr1, hr2⟩ := uret_n h
        subst hr2
        exact ⟨by omega, by omega⟩
set_option maxHeartbeats 4000000 in
set_option maxRecDepth 100000 in
theorem w_J11_equals_9 {p : Program} {l : Launch} {e : Env} {R : Room} {s : State} {m : MethodId} {args : Array Value} {below : List Frame} {meth : Method} {c : Code} {G : uG} {uf : UH} {r : Int32} (hC : uC p s m args meth c G RJ11 cJ11_equals 3 (some .boolean)) (hR : 0 ≤ R.frames ∧ 0 ≤ R.locals) (N : Nat) : ∀ (n : Nat) (u : UH) (x0 : Option Nat) (x1 : Option Nat) (x2 : Int32), f_J11_equals_9 N (ub G) (ug G) n u x0 x1 x2 = some (r, uf) → ∀ (H : Heap) (locs : List Loc), uP G u H → va_S (uA G) s.heap H locs → ∀ ls : Array Slot, lv_has ls 3 [(0, va_rf x0), (1, va_rf x1), (2, .int x2)] → W p l e R s m args below meth c H locs 0 0 (MQ below (uQi G r uf) args s 0 0 (uA G)) (F0 m 9 ls []) := by
  obtain ⟨⟨hx, hb, hml, hown, hts⟩, hKK⟩ := id hC
  intro n
  induction n with
  | zero =>
    intro u x0 x1 x2 h
    cases h
  | succ n ih =>
    intro u x0 x1 x2 h H locs hP hS ls hl
    unfold f_J11_equals_9 at h
    refine lv_iload_n hx hb dJ11_equals_9 rfl (lv_at hl 2 rfl) ?_
    refine u_aload_n (r := x0) hx hb dJ11_equals_10 rfl (lv_at hl 0 rfl) ?_
    obtain ⟨a1, ha1, hha1⟩ := mbind_n h
    subst ha1
    have h := hha1
    obtain ⟨y2, hy2, h⟩ := mbind_n h
    refine u_alen hC hP hy2 dJ11_equals_11 ?_
    refine lv_icmp_ge (tgt := 32) hx hb dJ11_equals_12 (by decide) (fun c3 => ?_) (fun c3 => ?_)
    · have h := mif_t c3 h
      refine lv_iconst (v := 1) hx hb dJ11_equals_32 (by decide) ?_
      obtain ⟨hr1, hr2⟩ := uret_n h
      subst hr1
      subst hr2
      exact u_zret hC (uFit_n (ty := .boolean) (v := 1) rfl).1 hP hS dJ11_equals_33
    · have h := mif_f c3 h
      refine u_aload_n (r := some a1) hx hb dJ11_equals_15 rfl (lv_at hl 0 rfl) ?_
      refine lv_iload_n hx hb dJ11_equals_16 rfl (lv_at hl 2 rfl) ?_
      obtain ⟨y4, hy4, h⟩ := mbind_n h
      refine u_bald hC hP hy4 rfl dJ11_equals_17 ?_
      refine u_aload_n (r := x1) hx hb dJ11_equals_18 rfl (lv_at hl 1 rfl) ?_
      refine lv_iload_n hx hb dJ11_equals_19 rfl (lv_at hl 2 rfl) ?_
      obtain ⟨a5, ha5, hha5⟩ := mbind_n h
      subst ha5
      have h := hha5
      obtain ⟨y6, hy6, h⟩ := mbind_n h
      refine u_bald hC hP hy6 rfl dJ11_equals_20 ?_
      refine lv_icmp_eq (tgt := 26) hx hb dJ11_equals_21 (by decide) (fun c7 => ?_) (fun c7 => ?_)
      · have h := mif_t c7 h
        obtain ⟨y8, ey8⟩ : ∃ z : Int32, z = x2 + 1 := ⟨_, rfl⟩
        have h := mlet_at ey8 h
        refine lv_iinc (v := y8) (lv' := [(2, .int y8), (0, va_rf (some a1)), (1, va_rf (some a5))]) hx hb dJ11_equals_26 hl (k := 2) rfl (by rw [ey8]; rfl) (by decide) rfl (fun ls hl => ?_)
        refine lv_goto (tgt := 9) hx hb dJ11_equals_29 (by decide) ?_
        exact ih u (some a1) (some a5) y8 h _ _ hP hS _ (lv_sub hl [1, 2, 0] rfl)
      · have h := mif_f c7 h
        refine lv_iconst (v := 0) hx hb dJ11_equals_24 (by decide) ?_
        obtain ⟨hr1, hr2⟩ := uret_n h
        subst hr1
        subst hr2
        exact u_zret hC (uFit_n (ty := .boolean) (v := 0) rfl).1 hP hS dJ11_equals_25
def f_J11_equals (N b : Nat) (g : uEnv) (u : UH) (x0 : Option Nat) (x1 : Option Nat) : Option (Int32 × UH) :=
    (x0).bind fun a1 =>
    (uLen u a1 1).bind fun y2 =>
    (x1).bind fun a3 =>
    (uLen u a3 1).bind fun y4 =>
    if y2 = y4 then
    f_J11_equals_9 N b g N u (some a1) (some a3) 0
    else
    some (0, u)
set_option maxHeartbeats 4000000 in
set_option maxRecDepth 100000 in
theorem zz_J11_equals_0 {G : uG} {uf : UH} {r : Int32} (N : Nat) (u : UH) (x0 : Option Nat) (x1 : Option Nat) (h : f_J11_equals N (ub G) (ug G) u x0 x1 = some (r, uf)) : uf.1 = u.1 ∧ uf.2.1 = u.2.1 := by
  unfold f_J11_equals at h
  obtain ⟨a1, ha1, hha1⟩ := mbind_n h
  subst ha1
  have h := hha1
  obtain ⟨y2, hy2, h⟩ := mbind_n h
  obtain ⟨a3, ha3, hha3⟩ := mbind_n h
  subst ha3
  have h := hha3
  obtain ⟨y4, hy4, h⟩ := mbind_n h
  by_cases c5 : y2 = y4
  · have h := mif_t c5 h
    have hq := zz_J11_equals_9 (G := G) N N u (some a1) (some a3) 0 h
    exact ⟨by omega, by omega⟩
  · have h := mif_f c5 h
    obtain ⟨hr1, hr2⟩ := uret_n h
    subst hr2
    exact ⟨by omega, by omega⟩
set_option maxHeartbeats 4000000 in
set_option maxRecDepth 100000 in
theorem w_J11_equals_0 {p : Program} {l : Launch} {e : Env} {R : Room} {s : State} {m : MethodId} {args : Array Value} {below : List Frame} {meth : Method} {c : Code} {G : uG} {uf : UH} {r : Int32} (hC : uC p s m args meth c G RJ11 cJ11_equals 3 (some .boolean)) (hR : 0 ≤ R.frames ∧ 0 ≤ R.locals) (N : Nat) (u : UH) (x0 : Option Nat) (x1 : Option Nat) (h : f_J11_equals N (ub G) (ug G) u x0 x1 = some (r, uf)) {H : Heap} {locs : List Loc} (hP : uP G u H) (hS : va_S (uA G) s.heap H locs) {ls : Array Slot} (hl : lv_has ls 3 [(0, va_rf x0), (1, va_rf x1)]) : W p l e R s m args below meth c H locs 0 0 (MQ below (uQi G r uf) args s 0 0 (uA G)) (F0 m 0 ls []) := by
  obtain ⟨⟨hx, hb, hml, hown, hts⟩, hKK⟩ := id hC
  unfold f_J11_equals at h
  refine u_aload_n (r := x0) hx hb dJ11_equals_0 rfl (lv_at hl 0 rfl) ?_
  obtain ⟨a1, ha1, hha1⟩ := mbind_n h
  subst ha1
  have h := hha1
  obtain ⟨y2, hy2, h⟩ := mbind_n h
  refine u_alen hC hP hy2 dJ11_equals_1 ?_
  refine u_aload_n (r := x1) hx hb dJ11_equals_2 rfl (lv_at hl 1 rfl) ?_
  obtain ⟨a3, ha3, hha3⟩ := mbind_n h
  subst ha3
  have h := hha3
  obtain ⟨y4, hy4, h⟩ := mbind_n h
  refine u_alen hC hP hy4 dJ11_equals_3 ?_
  refine lv_icmp_ne (tgt := 34) hx hb dJ11_equals_4 (by decide) (fun c5 => ?_) (fun c5 => ?_)
  · have h := mif_f c5 h
    refine lv_iconst (v := 0) hx hb dJ11_equals_34 (by decide) ?_
    obtain ⟨hr1, hr2⟩ := uret_n h
    subst hr1
    subst hr2
    exact u_zret hC (uFit_n (ty := .boolean) (v := 0) rfl).1 hP hS dJ11_equals_35
  · have h := mif_t c5 h
    refine lv_iconst (v := 0) hx hb dJ11_equals_7 (by decide) ?_
    refine lv_istore_n (i := 2) (lv' := [(2, .int 0), (0, va_rf (some a1)), (1, va_rf (some a3))]) hx hb dJ11_equals_8 rfl hl (by decide) rfl (fun ls hl => ?_)
    exact w_J11_equals_9 hC hR N N u (some a1) (some a3) 0 h _ _ hP hS _ (lv_sub hl [1, 2, 0] rfl)
theorem zz_J11_equals (N b : Nat) (g : uEnv) (u : UH) (x0 : Option Nat) (x1 : Option Nat) (r : Int32) (uf : UH) (h : f_J11_equals N b g u x0 x1 = some (r, uf)) : uf.1 = u.1 ∧ uf.2.1 = u.2.1 :=
  zz_J11_equals_0 (G := ((fun _ => 0, fun _ _ => 0), fun _ => 0, b, g)) N u x0 x1 h
theorem met_J11_equals (l : Launch) (N : Nat) (G : uG) (u : UH) (x0 : Option Nat) (x1 : Option Nat) (r : Int32) (uf : UH) (h : f_J11_equals N (ub G) (ug G) u x0 x1 = some (r, uf)) : Met l yJ11_equals (ws_ yJ11_equals cJ11_equals 3 (some .boolean)) ({ frames := 0, cells := 0, slots := 0, locals := 0 }) (uPc G u [va_rf x0, va_rf x1]) (uQi G r uf) 0 0 (uA G) := by
  rcases x0 with _ | x0 <;> rcases x1 with _ | x1 <;> exact u_met (own := RJ11) (by decide +kernel) rfl (Nat.le_of_ble_eq_true rfl) (fun hC hn hsz ls hl hP => w_J11_equals_0 hC ⟨Nat.le_refl _, Nat.le_refl _⟩ N u _ _ h hP va_S.rf hl)
def f_J8_signedHashCode_8 (N b : Nat) (g : uEnv) : Nat → UH → Int32 → Option Nat → Int32 → Int32 → Option (Int32 × UH)
  | 0, _, _, _, _, _ => none
  | n + 1, u, x0, x1, x4, x5 =>
    if x4 ≤ x5 then
    some (x0, u)
    else
    (x1).bind fun a2 =>
    (uLdI u a2 1 x5).bind fun y3 =>
    mlet ((31 * x0) + (y3 &&& 255)) fun y4 =>
    mlet (x5 + 1) fun y5 =>
    f_J8_signedHashCode_8 N b g n u y4 (some a2) x4 y5
set_option maxHeartbeats 4000000 in
set_option maxRecDepth 100000 in
theorem zz_J8_signedHashCode_8 {G : uG} {uf : UH} {r : Int32} (N : Nat) : ∀ (n : Nat) (u : UH) (x0 : Int32) (x1 : Option Nat) (x4 : Int32) (x5 : Int32), f_J8_signedHashCode_8 N (ub G) (ug G) n u x0 x1 x4 x5 = some (r, uf) → uf.1 = u.1 ∧ uf.2.1 = u.2.1 := by
  intro n
  induction n with
  | zero =>
    intro u x0 x1 x4 x5 h
    cases h
  | succ n ih =>
    intro u x0 x1 x4 x5 h
    unfold f_J8_signedHashCode_8 at h
    by_cases c1 : x4 ≤ x5
    · have h := mif_t c1 h
      obtain ⟨hr1, hr2⟩ := uret_n h
      subst hr2
      exact ⟨by omega, by omega⟩
    · have h := mif_f c1 h
      obtain ⟨a2, ha2, hha2⟩ := mbind_n h
      subst ha2
      have h := hha2
      obtain ⟨y3, hy3, h⟩ := mbind_n h
      obtain ⟨y4, ey4⟩ : ∃ z, z = (31 * x0) + (y3 &&& 255) := ⟨_, rfl⟩
      have h := mlet_at ey4 h
      obtain ⟨y5, ey5⟩ : ∃ z : Int32, z = x5 + 1 := ⟨_, rfl⟩
      have h := mlet_at ey5 h
      have hq := ih u y4 (some a2) x4 y5 h
      exact ⟨by omega, by omega⟩
set_option maxHeartbeats 4000000 in
set_option maxRecDepth 100000 in
theorem w_J8_signedHashCode_8 {p : Program} {l : Launch} {e : Env} {R : Room} {s : State} {m : MethodId} {args : Array Value} {below : List Frame} {meth : Method} {c : Code} {G : uG} {uf : UH} {r : Int32} (hC : uC p s m args meth c G RJ8 cJ8_signedHashCode 6 (some .int)) (hR : 0 ≤ R.frames ∧ 0 ≤ R.locals) (N : Nat) : ∀ (n : Nat) (u : UH) (x0 : Int32) (x1 : Option Nat) (x4 : Int32) (x5 : Int32), f_J8_signedHashCode_8 N (ub G) (ug G) n u x0 x1 x4 x5 = some (r, uf) → ∀ (H : Heap) (locs : List Loc), uP G u H → va_S (uA G) s.heap H locs → ∀ ls : Array Slot, lv_has ls 6 [(0, .int x0), (1, va_rf x1), (4, .int x4), (5, .int x5)] → W p l e R s m args below meth c H locs 0 0 (MQ below (uQi G r uf) args s 0 0 (uA G)) (F0 m 8 ls []) := by
  obtain ⟨⟨hx, hb, hml, hown, hts⟩, hKK⟩ := id hC
  intro n
  induction n with
  | zero =>
    intro u x0 x1 x4 x5 h
    cases h
  | succ n ih =>
    intro u x0 x1 x4 x5 h H locs hP hS ls hl
    unfold f_J8_signedHashCode_8 at h
    refine lv_iload hx hb dJ8_signedHashCode_8 (lv_at hl 3 rfl) ?_
    refine lv_iload hx hb dJ8_signedHashCode_10 (lv_at hl 2 rfl) ?_
    refine lv_icmp_ge (tgt := 35) hx hb dJ8_signedHashCode_12 (by decide) (fun c1 => ?_) (fun c1 => ?_)
    · have h := mif_t c1 h
      refine lv_iload_n hx hb dJ8_signedHashCode_35 rfl (lv_at hl 0 rfl) ?_
      obtain ⟨hr1, hr2⟩ := uret_n h
      subst hr1
      subst hr2
      exact u_iret hC hP hS dJ8_signedHashCode_36
    · have h := mif_f c1 h
      refine lv_bipush (v := 31) hx hb dJ8_signedHashCode_15 (by decide) ?_
      refine lv_iload_n hx hb dJ8_signedHashCode_17 rfl (lv_at hl 0 rfl) ?_
      refine lv_imul hx hb dJ8_signedHashCode_18 ?_
      refine u_aload_n (r := x1) hx hb dJ8_signedHashCode_19 rfl (lv_at hl 1 rfl) ?_
      refine lv_iload hx hb dJ8_signedHashCode_20 (lv_at hl 3 rfl) ?_
      obtain ⟨a2, ha2, hha2⟩ := mbind_n h
      subst ha2
      have h := hha2
      obtain ⟨y3, hy3, h⟩ := mbind_n h
      refine u_bald hC hP hy3 rfl dJ8_signedHashCode_22 ?_
      refine lv_sipush (v := 255) hx hb dJ8_signedHashCode_23 (by decide) ?_
      refine lv_iand hx hb dJ8_signedHashCode_26 ?_
      refine lv_iadd hx hb dJ8_signedHashCode_27 ?_
      refine lv_topi (fun y4 ey4 => ?_)
      have h := mlet_at ey4 h
      refine lv_istore_n (i := 0) (lv' := [(0, .int y4), (1, va_rf (some a2)), (4, .int x4), (5, .int x5)]) hx hb dJ8_signedHashCode_28 rfl hl (by decide) rfl (fun ls hl => ?_)
      obtain ⟨y5, ey5⟩ : ∃ z : Int32, z = x5 + 1 := ⟨_, rfl⟩
      have h := mlet_at ey5 h
      refine lv_iinc (v := y5) (lv' := [(5, .int y5), (0, .int y4), (1, va_rf (some a2)), (4, .int x4)]) hx hb dJ8_signedHashCode_29 hl (k := 3) rfl (by rw [ey5]; rfl) (by decide) rfl (fun ls hl => ?_)
      refine lv_goto (tgt := 8) hx hb dJ8_signedHashCode_32 (by decide) ?_
      exact ih u y4 (some a2) x4 y5 h _ _ hP hS _ (lv_sub hl [1, 2, 3, 0] rfl)
def f_J8_signedHashCode (N b : Nat) (g : uEnv) (u : UH) (x0 : Int32) (x1 : Option Nat) (x2 : Int32) (x3 : Int32) : Option (Int32 × UH) :=
    mlet (x2 + x3) fun y1 =>
    f_J8_signedHashCode_8 N b g N u x0 x1 y1 x2
set_option maxHeartbeats 4000000 in
set_option maxRecDepth 100000 in
theorem zz_J8_signedHashCode_0 {G : uG} {uf : UH} {r : Int32} (N : Nat) (u : UH) (x0 : Int32) (x1 : Option Nat) (x2 : Int32) (x3 : Int32) (h : f_J8_signedHashCode N (ub G) (ug G) u x0 x1 x2 x3 = some (r, uf)) : uf.1 = u.1 ∧ uf.2.1 = u.2.1 := by
  unfold f_J8_signedHashCode at h
  obtain ⟨y1, ey1⟩ : ∃ z, z = x2 + x3 := ⟨_, rfl⟩
  have h := mlet_at ey1 h
  have hq := zz_J8_signedHashCode_8 (G := G) N N u x0 x1 y1 x2 h
  exact ⟨by omega, by omega⟩
set_option maxHeartbeats 4000000 in
set_option maxRecDepth 100000 in
theorem w_J8_signedHashCode_0 {p : Program} {l : Launch} {e : Env} {R : Room} {s : State} {m : MethodId} {args : Array Value} {below : List Frame} {meth : Method} {c : Code} {G : uG} {uf : UH} {r : Int32} (hC : uC p s m args meth c G RJ8 cJ8_signedHashCode 6 (some .int)) (hR : 0 ≤ R.frames ∧ 0 ≤ R.locals) (N : Nat) (u : UH) (x0 : Int32) (x1 : Option Nat) (x2 : Int32) (x3 : Int32) (h : f_J8_signedHashCode N (ub G) (ug G) u x0 x1 x2 x3 = some (r, uf)) {H : Heap} {locs : List Loc} (hP : uP G u H) (hS : va_S (uA G) s.heap H locs) {ls : Array Slot} (hl : lv_has ls 6 [(0, .int x0), (1, va_rf x1), (2, .int x2), (3, .int x3)]) : W p l e R s m args below meth c H locs 0 0 (MQ below (uQi G r uf) args s 0 0 (uA G)) (F0 m 0 ls []) := by
  obtain ⟨⟨hx, hb, hml, hown, hts⟩, hKK⟩ := id hC
  unfold f_J8_signedHashCode at h
  refine lv_iload_n hx hb dJ8_signedHashCode_0 rfl (lv_at hl 2 rfl) ?_
  refine lv_iload_n hx hb dJ8_signedHashCode_1 rfl (lv_at hl 3 rfl) ?_
  refine lv_iadd hx hb dJ8_signedHashCode_2 ?_
  refine lv_topi (fun y1 ey1 => ?_)
  have h := mlet_at ey1 h
  refine lv_istore (lv' := [(4, .int y1), (0, .int x0), (1, va_rf x1), (2, .int x2), (3, .int x3)]) hx hb dJ8_signedHashCode_3 hl (by decide) rfl (fun ls hl => ?_)
  refine lv_iload_n hx hb dJ8_signedHashCode_5 rfl (lv_at hl 3 rfl) ?_
  refine lv_istore (lv' := [(5, .int x2), (4, .int y1), (0, .int x0), (1, va_rf x1), (2, .int x2), (3, .int x3)]) hx hb dJ8_signedHashCode_6 hl (by decide) rfl (fun ls hl => ?_)
  exact w_J8_signedHashCode_8 hC hR N N u x0 x1 y1 x2 h _ _ hP hS _ (lv_sub hl [2, 3, 1, 0] rfl)
theorem zz_J8_signedHashCode (N b : Nat) (g : uEnv) (u : UH) (x0 : Int32) (x1 : Option Nat) (x2 : Int32) (x3 : Int32) (r : Int32) (uf : UH) (h : f_J8_signedHashCode N b g u x0 x1 x2 x3 = some (r, uf)) : uf.1 = u.1 ∧ uf.2.1 = u.2.1 :=
  zz_J8_signedHashCode_0 (G := ((fun _ => 0, fun _ _ => 0), fun _ => 0, b, g)) N u x0 x1 x2 x3 h
theorem met_J8_signedHashCode (l : Launch) (N : Nat) (G : uG) (u : UH) (x0 : Int32) (x1 : Option Nat) (x2 : Int32) (x3 : Int32) (r : Int32) (uf : UH) (h : f_J8_signedHashCode N (ub G) (ug G) u x0 x1 x2 x3 = some (r, uf)) : Met l yJ8_signedHashCode (ws_ yJ8_signedHashCode cJ8_signedHashCode 6 (some .int)) ({ frames := 0, cells := 0, slots := 0, locals := 0 }) (uPc G u [.int x0, va_rf x1, .int x2, .int x3]) (uQi G r uf) 0 0 (uA G) := by
  rcases x1 with _ | x1 <;> exact u_met (own := RJ8) (by decide +kernel) rfl (Nat.le_of_ble_eq_true rfl) (fun hC hn hsz ls hl hP => w_J8_signedHashCode_0 hC ⟨Nat.le_refl _, Nat.le_refl _⟩ N u x0 _ x2 x3 h hP va_S.rf hl)
def f_J8_vectorizedHashCode_157 (N b : Nat) (g : uEnv) (u : UH) (s0 : Int32) : Option (Int32 × UH) :=
    some (s0, u)
set_option maxHeartbeats 4000000 in
set_option maxRecDepth 100000 in
theorem zz_J8_vectorizedHashCode_157 {G : uG} {uf : UH} {r : Int32} (N : Nat) (u : UH) (s0 : Int32) (h : f_J8_vectorizedHashCode_157 N (ub G) (ug G) u s0 = some (r, uf)) : uf.1 = u.1 ∧ uf.2.1 = u.2.1 := by
  unfold f_J8_vectorizedHashCode_157 at h
  obtain ⟨hr1, hr2⟩ := uret_n h
  subst hr2
  exact ⟨by omega, by omega⟩
set_option maxHeartbeats 4000000 in
set_option maxRecDepth 100000 in
theorem w_J8_vectorizedHashCode_157 {p : Program} {l : Launch} {e : Env} {R : Room} {s : State} {m : MethodId} {args : Array Value} {below : List Frame} {meth : Method} {c : Code} {G : uG} {uf : UH} {r : Int32} (hC : uC p s m args meth c G RJ8 cJ8_vectorizedHashCode 5 (some .int)) (hR : 1 ≤ R.frames ∧ 25 ≤ R.locals) (N : Nat) (u : UH) (s0 : Int32) (h : f_J8_vectorizedHashCode_157 N (ub G) (ug G) u s0 = some (r, uf)) {H : Heap} {locs : List Loc} (hP : uP G u H) (hS : va_S (uA G) s.heap H locs) {ls : Array Slot} (hl : lv_has ls 5 []) : W p l e R s m args below meth c H locs 0 0 (MQ below (uQi G r uf) args s 0 0 (uA G)) (F0 m 157 ls [.int s0]) := by
  obtain ⟨⟨hx, hb, hml, hown, hts⟩, hKK⟩ := id hC
  unfold f_J8_vectorizedHashCode_157 at h
  obtain ⟨hr1, hr2⟩ := uret_n h
  subst hr1
  subst hr2
  exact u_iret hC hP hS dJ8_vectorizedHashCode_157
def f_J8_vectorizedHashCode_129 (N b : Nat) (g : uEnv) (u : UH) (x4 : Int32) : Option (Int32 × UH) :=
    none
set_option maxHeartbeats 4000000 in
set_option maxRecDepth 100000 in
theorem zz_J8_vectorizedHashCode_129 {G : uG} {uf : UH} {r : Int32} (N : Nat) (u : UH) (x4 : Int32) (h : f_J8_vectorizedHashCode_129 N (ub G) (ug G) u x4 = some (r, uf)) : uf.1 = u.1 ∧ uf.2.1 = u.2.1 := by
  unfold f_J8_vectorizedHashCode_129 at h
  cases h
set_option maxHeartbeats 4000000 in
set_option maxRecDepth 100000 in
theorem w_J8_vectorizedHashCode_129 {p : Program} {l : Launch} {e : Env} {R : Room} {s : State} {m : MethodId} {args : Array Value} {below : List Frame} {meth : Method} {c : Code} {G : uG} {uf : UH} {r : Int32} (hC : uC p s m args meth c G RJ8 cJ8_vectorizedHashCode 5 (some .int)) (hR : 1 ≤ R.frames ∧ 25 ≤ R.locals) (N : Nat) (u : UH) (x4 : Int32) (h : f_J8_vectorizedHashCode_129 N (ub G) (ug G) u x4 = some (r, uf)) {H : Heap} {locs : List Loc} (hP : uP G u H) (hS : va_S (uA G) s.heap H locs) {ls : Array Slot} (hl : lv_has ls 5 [(4, .int x4)]) : W p l e R s m args below meth c H locs 0 0 (MQ below (uQi G r uf) args s 0 0 (uA G)) (F0 m 129 ls []) := by
  obtain ⟨⟨hx, hb, hml, hown, hts⟩, hKK⟩ := id hC
  unfold f_J8_vectorizedHashCode_129 at h
  cases h
def f_J8_vectorizedHashCode (N b : Nat) (g : uEnv) (u : UH) (x0 : Option Nat) (x1 : Int32) (x2 : Int32) (x3 : Int32) (x4 : Int32) : Option (Int32 × UH) :=
    if x4 = 4 then
    (x0).bind fun a2 =>
    if uIsA u a2 1 = true then
    ucall (f_J8_signedHashCode N b g u x3 (some a2) x1 x2) fun r6 u4 =>
    f_J8_vectorizedHashCode_157 N b g u4 r6
    else none
    else
    if x4 = 5 then
    none
    else
    if x4 = 6 then
    f_J8_vectorizedHashCode_129 N b g u x4
    else
    if x4 = 7 then
    f_J8_vectorizedHashCode_129 N b g u x4
    else
    if x4 = 8 then
    (x0).bind fun a11 =>
    if uIsA u a11 1 = true then
    none
    else none
    else
    if x4 = 9 then
    none
    else
    if x4 = 10 then
    none
    else
    f_J8_vectorizedHashCode_129 N b g u x4
set_option maxHeartbeats 4000000 in
set_option maxRecDepth 100000 in
theorem zz_J8_vectorizedHashCode_0 {G : uG} {uf : UH} {r : Int32} (N : Nat) (u : UH) (x0 : Option Nat) (x1 : Int32) (x2 : Int32) (x3 : Int32) (x4 : Int32) (h : f_J8_vectorizedHashCode N (ub G) (ug G) u x0 x1 x2 x3 x4 = some (r, uf)) : uf.1 = u.1 ∧ uf.2.1 = u.2.1 := by
  unfold f_J8_vectorizedHashCode at h
  by_cases c1 : x4 = 4
  · have h := mif_t c1 h
    obtain ⟨a2, ha2, hha2⟩ := mbind_n h
    subst ha2
    have h := hha2
    obtain ⟨c3, h⟩ := mif_n h
    obtain ⟨r6, u4, c5, h⟩ := ucall_n h
    have zu4 := zz_J8_signedHashCode N (ub G) (ug G) u x3 (some a2) x1 x2 r6 u4 c5
    have hq := zz_J8_vectorizedHashCode_157 (G := G) N u4 r6 h
    exact ⟨by omega, by omega⟩
  have h := mif_f c1 h
  by_cases c7 : x4 = 5
  · have h := mif_t c7 h
    cases h
  have h := mif_f c7 h
  by_cases c8 : x4 = 6
  · have h := mif_t c8 h
    have hq := zz_J8_vectorizedHashCode_129 (G := G) N u x4 h
    exact ⟨by omega, by omega⟩
  have h := mif_f c8 h
  by_cases c9 : x4 = 7
  · have h := mif_t c9 h
    have hq := zz_J8_vectorizedHashCode_129 (G := G) N u x4 h
    exact ⟨by omega, by omega⟩
  have h := mif_f c9 h
  by_cases c10 : x4 = 8
  · have h := mif_t c10 h
    obtain ⟨a11, ha11, hha11⟩ := mbind_n h
    subst ha11
    have h := hha11
    obtain ⟨c12, h⟩ := mif_n h
    cases h
  have h := mif_f c10 h
  by_cases c13 : x4 = 9
  · have h := mif_t c13 h
    cases h
  have h := mif_f c13 h
  by_cases c14 : x4 = 10
  · have h := mif_t c14 h
    cases h
  have h := mif_f c14 h
  have hq := zz_J8_vectorizedHashCode_129 (G := G) N u x4 h
  exact ⟨by omega, by omega⟩
set_option maxHeartbeats 4000000 in
set_option maxRecDepth 100000 in
theorem w_J8_vectorizedHashCode_0 {p : Program} {l : Launch} {e : Env} {R : Room} {s : State} {m : MethodId} {args : Array Value} {below : List Frame} {meth : Method} {c : Code} {G : uG} {uf : UH} {r : Int32} (hC : uC p s m args meth c G RJ8 cJ8_vectorizedHashCode 5 (some .int)) (hR : 1 ≤ R.frames ∧ 25 ≤ R.locals) (N : Nat) (u : UH) (x0 : Option Nat) (x1 : Int32) (x2 : Int32) (x3 : Int32) (x4 : Int32) (h : f_J8_vectorizedHashCode N (ub G) (ug G) u x0 x1 x2 x3 x4 = some (r, uf)) {H : Heap} {locs : List Loc} (hP : uP G u H) (hS : va_S (uA G) s.heap H locs) {ls : Array Slot} (hl : lv_has ls 5 [(0, va_rf x0), (1, .int x1), (2, .int x2), (3, .int x3), (4, .int x4)]) : W p l e R s m args below meth c H locs 0 0 (MQ below (uQi G r uf) args s 0 0 (uA G)) (F0 m 0 ls []) := by
  obtain ⟨⟨hx, hb, hml, hown, hts⟩, hKK⟩ := id hC
  unfold f_J8_vectorizedHashCode at h
  refine lv_iload hx hb dJ8_vectorizedHashCode_0 (lv_at hl 4 rfl) ?_
  by_cases c1 : x4 = 4
  · have h := mif_t c1 h
    refine lv_tableIn (tgt := 44) hx hb dJ8_vectorizedHashCode_2 (by rw [c1]; decide) (by rw [c1]; decide) (by rw [c1]; rfl) (by decide) ?_
    refine lv_iload_n hx hb dJ8_vectorizedHashCode_44 rfl (lv_at hl 3 rfl) ?_
    refine u_aload_n (r := x0) hx hb dJ8_vectorizedHashCode_45 rfl (lv_at hl 0 rfl) ?_
    obtain ⟨a2, ha2, hha2⟩ := mbind_n h
    subst ha2
    have h := hha2
    obtain ⟨c3, h⟩ := mif_n h
    refine u_castB hC hP c3 q718 dJ8_vectorizedHashCode_46 ?_
    refine lv_iload_n hx hb dJ8_vectorizedHashCode_49 rfl (lv_at hl 1 rfl) ?_
    refine lv_iload_n hx hb dJ8_vectorizedHashCode_50 rfl (lv_at hl 2 rfl) ?_
    obtain ⟨r6, u4, c5, h⟩ := ucall_n h
    have zu4 := zz_J8_signedHashCode N (ub G) (ug G) u x3 (some a2) x1 x2 r6 u4 c5
    refine u_calli (va_runS (As := [.int x3, va_rf (some a2), .int x1, .int x2]) (rest := []) hC.1 (met_J8_signedHashCode l N G u x3 (some a2) x1 x2 r6 u4 c5) (va_cwS 4 hts (lw_S q719 q720 q112 q721) rfl rfl rfl (by decide +kernel) ⟨Nat.le_trans (Nat.le_of_ble_eq_true rfl) hR.1, Nat.le_trans (Nat.le_of_ble_eq_true rfl) hR.2⟩) ⟨uPc_blind, fun U hU hW => u_pre hC hP hS hU hW⟩ rfl rfl hl.1 rfl (lv_room (Nat.le_of_ble_eq_true rfl)) dJ8_vectorizedHashCode_51 ⟨Nat.zero_le _, Nat.zero_le _⟩) hS (fun H locs hP hS => ?_)
    refine lv_goto (tgt := 157) hx hb dJ8_vectorizedHashCode_54 (by decide) ?_
    exact w_J8_vectorizedHashCode_157 hC hR N u4 r6 h hP hS (lv_sub hl [] rfl)
  have h := mif_f c1 h
  by_cases c7 : x4 = 5
  · have h := mif_t c7 h
    refine lv_tableIn (tgt := 57) hx hb dJ8_vectorizedHashCode_2 (by rw [c7]; decide) (by rw [c7]; decide) (by rw [c7]; rfl) (by decide) ?_
    refine u_aload_n (r := x0) hx hb dJ8_vectorizedHashCode_57 rfl (lv_at hl 0 rfl) ?_
    cases h
  have h := mif_f c7 h
  by_cases c8 : x4 = 6
  · have h := mif_t c8 h
    refine lv_tableIn (tgt := 129) hx hb dJ8_vectorizedHashCode_2 (by rw [c8]; decide) (by rw [c8]; decide) (by rw [c8]; rfl) (by decide) ?_
    exact w_J8_vectorizedHashCode_129 hC hR N u x4 h hP hS (lv_sub hl [4] rfl)
  have h := mif_f c8 h
  by_cases c9 : x4 = 7
  · have h := mif_t c9 h
    refine lv_tableIn (tgt := 129) hx hb dJ8_vectorizedHashCode_2 (by rw [c9]; decide) (by rw [c9]; decide) (by rw [c9]; rfl) (by decide) ?_
    exact w_J8_vectorizedHashCode_129 hC hR N u x4 h hP hS (lv_sub hl [4] rfl)
  have h := mif_f c9 h
  by_cases c10 : x4 = 8
  · have h := mif_t c10 h
    refine lv_tableIn (tgt := 90) hx hb dJ8_vectorizedHashCode_2 (by rw [c10]; decide) (by rw [c10]; decide) (by rw [c10]; rfl) (by decide) ?_
    refine lv_iload_n hx hb dJ8_vectorizedHashCode_90 rfl (lv_at hl 3 rfl) ?_
    refine u_aload_n (r := x0) hx hb dJ8_vectorizedHashCode_91 rfl (lv_at hl 0 rfl) ?_
    obtain ⟨a11, ha11, hha11⟩ := mbind_n h
    subst ha11
    have h := hha11
    obtain ⟨c12, h⟩ := mif_n h
    refine u_castB hC hP c12 q718 dJ8_vectorizedHashCode_92 ?_
    refine lv_iload_n hx hb dJ8_vectorizedHashCode_95 rfl (lv_at hl 1 rfl) ?_
    refine lv_iload_n hx hb dJ8_vectorizedHashCode_96 rfl (lv_at hl 2 rfl) ?_
    cases h
  have h := mif_f c10 h
  by_cases c13 : x4 = 9
  · have h := mif_t c13 h
    refine lv_tableIn (tgt := 103) hx hb dJ8_vectorizedHashCode_2 (by rw [c13]; decide) (by rw [c13]; decide) (by rw [c13]; rfl) (by decide) ?_
    refine lv_iload_n hx hb dJ8_vectorizedHashCode_103 rfl (lv_at hl 3 rfl) ?_
    refine u_aload_n (r := x0) hx hb dJ8_vectorizedHashCode_104 rfl (lv_at hl 0 rfl) ?_
    cases h
  have h := mif_f c13 h
  by_cases c14 : x4 = 10
  · have h := mif_t c14 h
    refine lv_tableIn (tgt := 116) hx hb dJ8_vectorizedHashCode_2 (by rw [c14]; decide) (by rw [c14]; decide) (by rw [c14]; rfl) (by decide) ?_
    refine lv_iload_n hx hb dJ8_vectorizedHashCode_116 rfl (lv_at hl 3 rfl) ?_
    refine u_aload_n (r := x0) hx hb dJ8_vectorizedHashCode_117 rfl (lv_at hl 0 rfl) ?_
    cases h
  have h := mif_f c14 h
  refine lv_tableOut (tgt := 129) hx hb dJ8_vectorizedHashCode_2 (m_out 4 10 [4, 5, 6, 7, 8, 9, 10] 7 (by decide) (by decide) (fun z hz => ?_)) (by decide) ?_
  · simp only [List.mem_cons, List.not_mem_nil, or_false] at hz
    rcases hz with rfl | rfl | rfl | rfl | rfl | rfl | rfl
    · exact c1
    · exact c7
    · exact c8
    · exact c9
    · exact c10
    · exact c13
    · exact c14
  · exact w_J8_vectorizedHashCode_129 hC hR N u x4 h hP hS (lv_sub hl [4] rfl)
theorem zz_J8_vectorizedHashCode (N b : Nat) (g : uEnv) (u : UH) (x0 : Option Nat) (x1 : Int32) (x2 : Int32) (x3 : Int32) (x4 : Int32) (r : Int32) (uf : UH) (h : f_J8_vectorizedHashCode N b g u x0 x1 x2 x3 x4 = some (r, uf)) : uf.1 = u.1 ∧ uf.2.1 = u.2.1 :=
  zz_J8_vectorizedHashCode_0 (G := ((fun _ => 0, fun _ _ => 0), fun _ => 0, b, g)) N u x0 x1 x2 x3 x4 h
theorem met_J8_vectorizedHashCode (l : Launch) (N : Nat) (G : uG) (u : UH) (x0 : Option Nat) (x1 : Int32) (x2 : Int32) (x3 : Int32) (x4 : Int32) (r : Int32) (uf : UH) (h : f_J8_vectorizedHashCode N (ub G) (ug G) u x0 x1 x2 x3 x4 = some (r, uf)) : Met l yJ8_vectorizedHashCode (ws_ yJ8_vectorizedHashCode cJ8_vectorizedHashCode 5 (some .int)) ({ frames := 1, cells := 0, slots := 0, locals := 25 }) (uPc G u [va_rf x0, .int x1, .int x2, .int x3, .int x4]) (uQi G r uf) 0 0 (uA G) := by
  rcases x0 with _ | x0 <;> exact u_met (own := RJ8) (by decide +kernel) rfl (Nat.le_of_ble_eq_true rfl) (fun hC hn hsz ls hl hP => w_J8_vectorizedHashCode_0 hC ⟨Nat.le_refl _, Nat.le_refl _⟩ N u _ x1 x2 x3 x4 h hP va_S.rf hl)
def f_J11_hashCode_51 (N b : Nat) (g : uEnv) (u : UH) (s0 : Int32) : Option (Int32 × UH) :=
    some (s0, u)
set_option maxHeartbeats 4000000 in
set_option maxRecDepth 100000 in
theorem zz_J11_hashCode_51 {G : uG} {uf : UH} {r : Int32} (N : Nat) (u : UH) (s0 : Int32) (h : f_J11_hashCode_51 N (ub G) (ug G) u s0 = some (r, uf)) : uf.1 = u.1 ∧ uf.2.1 = u.2.1 := by
  unfold f_J11_hashCode_51 at h
  obtain ⟨hr1, hr2⟩ := uret_n h
  subst hr2
  exact ⟨by omega, by omega⟩
set_option maxHeartbeats 4000000 in
set_option maxRecDepth 100000 in
theorem w_J11_hashCode_51 {p : Program} {l : Launch} {e : Env} {R : Room} {s : State} {m : MethodId} {args : Array Value} {below : List Frame} {meth : Method} {c : Code} {G : uG} {uf : UH} {r : Int32} (hC : uC p s m args meth c G RJ11 cJ11_hashCode 1 (some .int)) (hR : 2 ≤ R.frames ∧ 49 ≤ R.locals) (N : Nat) (u : UH) (s0 : Int32) (h : f_J11_hashCode_51 N (ub G) (ug G) u s0 = some (r, uf)) {H : Heap} {locs : List Loc} (hP : uP G u H) (hS : va_S (uA G) s.heap H locs) {ls : Array Slot} (hl : lv_has ls 1 []) : W p l e R s m args below meth c H locs 0 0 (MQ below (uQi G r uf) args s 0 0 (uA G)) (F0 m 51 ls [.int s0]) := by
  obtain ⟨⟨hx, hb, hml, hown, hts⟩, hKK⟩ := id hC
  unfold f_J11_hashCode_51 at h
  obtain ⟨hr1, hr2⟩ := uret_n h
  subst hr1
  subst hr2
  exact u_iret hC hP hS dJ11_hashCode_51
def f_J11_hashCode (N b : Nat) (g : uEnv) (u : UH) (x0 : Option Nat) : Option (Int32 × UH) :=
    (x0).bind fun a1 =>
    (uLen u a1 1).bind fun y2 =>
    if y2 = 0 then
    f_J11_hashCode_51 N b g u 0
    else
    if y2 = 1 then
    (uLdI u a1 1 0).bind fun y5 =>
    f_J11_hashCode_51 N b g u (y5 &&& 255)
    else
    (uLen u a1 1).bind fun y6 =>
    ucall (f_J8_vectorizedHashCode N b g u (some a1) 0 y6 0 4) fun r9 u7 =>
    f_J11_hashCode_51 N b g u7 r9
set_option maxHeartbeats 4000000 in
set_option maxRecDepth 100000 in
theorem zz_J11_hashCode_0 {G : uG} {uf : UH} {r : Int32} (N : Nat) (u : UH) (x0 : Option Nat) (h : f_J11_hashCode N (ub G) (ug G) u x0 = some (r, uf)) : uf.1 = u.1 ∧ uf.2.1 = u.2.1 := by
  unfold f_J11_hashCode at h
  obtain ⟨a1, ha1, hha1⟩ := mbind_n h
  subst ha1
  have h := hha1
  obtain ⟨y2, hy2, h⟩ := mbind_n h
  by_cases c3 : y2 = 0
  · have h := mif_t c3 h
    have hq := zz_J11_hashCode_51 (G := G) N u 0 h
    exact ⟨by omega, by omega⟩
  have h := mif_f c3 h
  by_cases c4 : y2 = 1
  · have h := mif_t c4 h
    obtain ⟨y5, hy5, h⟩ := mbind_n h
    have hq := zz_J11_hashCode_51 (G := G) N u (y5 &&& 255) h
    exact ⟨by omega, by omega⟩
  have h := mif_f c4 h
  obtain ⟨y6, hy6, h⟩ := mbind_n h
  obtain ⟨r9, u7, c8, h⟩ := ucall_n h
  have zu7 := zz_J8_vectorizedHashCode N (ub G) (ug G) u (some a1) 0 y6 0 4 r9 u7 c8
  have hq := zz_J11_hashCode_51 (G := G) N u7 r9 h
  exact ⟨by omega, by omega⟩
set_option maxHeartbeats 4000000 in
set_option maxRecDepth 100000 in
theorem w_J11_hashCode_0 {p : Program} {l : Launch} {e : Env} {R : Room} {s : State} {m : MethodId} {args : Array Value} {below : List Frame} {meth : Method} {c : Code} {G : uG} {uf : UH} {r : Int32} (hC : uC p s m args meth c G RJ11 cJ11_hashCode 1 (some .int)) (hR : 2 ≤ R.frames ∧ 49 ≤ R.locals) (N : Nat) (u : UH) (x0 : Option Nat) (h : f_J11_hashCode N (ub G) (ug G) u x0 = some (r, uf)) {H : Heap} {locs : List Loc} (hP : uP G u H) (hS : va_S (uA G) s.heap H locs) {ls : Array Slot} (hl : lv_has ls 1 [(0, va_rf x0)]) : W p l e R s m args below meth c H locs 0 0 (MQ below (uQi G r uf) args s 0 0 (uA G)) (F0 m 0 ls []) := by
  obtain ⟨⟨hx, hb, hml, hown, hts⟩, hKK⟩ := id hC
  unfold f_J11_hashCode at h
  refine u_aload_n (r := x0) hx hb dJ11_hashCode_0 rfl (lv_at hl 0 rfl) ?_
  obtain ⟨a1, ha1, hha1⟩ := mbind_n h
  subst ha1
  have h := hha1
  obtain ⟨y2, hy2, h⟩ := mbind_n h
  refine u_alen hC hP hy2 dJ11_hashCode_1 ?_
  by_cases c3 : y2 = 0
  · have h := mif_t c3 h
    refine lv_lookup (tgt := 28) (off := 26) hx hb dJ11_hashCode_2 (by decide) (by rw [c3]; decide) (by decide) ?_
    refine lv_iconst (v := 0) hx hb dJ11_hashCode_28 (by decide) ?_
    refine lv_goto (tgt := 51) hx hb dJ11_hashCode_29 (by decide) ?_
    exact w_J11_hashCode_51 hC hR N u 0 h hP hS (lv_sub hl [] rfl)
  have h := mif_f c3 h
  by_cases c4 : y2 = 1
  · have h := mif_t c4 h
    refine lv_lookup (tgt := 32) (off := 30) hx hb dJ11_hashCode_2 (by decide) (by rw [c4]; decide) (by decide) ?_
    refine u_aload_n (r := some a1) hx hb dJ11_hashCode_32 rfl (lv_at hl 0 rfl) ?_
    refine lv_iconst (v := 0) hx hb dJ11_hashCode_33 (by decide) ?_
    obtain ⟨y5, hy5, h⟩ := mbind_n h
    refine u_bald hC hP hy5 rfl dJ11_hashCode_34 ?_
    refine lv_sipush (v := 255) hx hb dJ11_hashCode_35 (by decide) ?_
    refine lv_iand hx hb dJ11_hashCode_38 ?_
    refine lv_goto (tgt := 51) hx hb dJ11_hashCode_39 (by decide) ?_
    exact w_J11_hashCode_51 hC hR N u (y5 &&& 255) h hP hS (lv_sub hl [] rfl)
  have h := mif_f c4 h
  refine lv_lookup (tgt := 42) (off := 40) hx hb dJ11_hashCode_2 (by decide) (by have kc3 := u_lkN (z := 0) c3 (by decide); have kc4 := u_lkN (z := 1) c4 (by decide); simp [Op.lookupswitch.offset, kc3.1, kc3.2, kc4.1, kc4.2]) (by decide) ?_
  refine u_aload_n (r := some a1) hx hb dJ11_hashCode_42 rfl (lv_at hl 0 rfl) ?_
  refine lv_iconst (v := 0) hx hb dJ11_hashCode_43 (by decide) ?_
  refine u_aload_n (r := some a1) hx hb dJ11_hashCode_44 rfl (lv_at hl 0 rfl) ?_
  obtain ⟨y6, hy6, h⟩ := mbind_n h
  refine u_alen hC hP hy6 dJ11_hashCode_45 ?_
  refine lv_iconst (v := 0) hx hb dJ11_hashCode_46 (by decide) ?_
  refine lv_iconst (v := 4) hx hb dJ11_hashCode_47 (by decide) ?_
  obtain ⟨r9, u7, c8, h⟩ := ucall_n h
  have zu7 := zz_J8_vectorizedHashCode N (ub G) (ug G) u (some a1) 0 y6 0 4 r9 u7 c8
  refine u_calli (va_runS (As := [va_rf (some a1), .int 0, .int y6, .int 0, .int 4]) (rest := []) hC.1 (met_J8_vectorizedHashCode l N G u (some a1) 0 y6 0 4 r9 u7 c8) (va_cwS 5 hts (lw_S q715 q716 q112 q717) rfl rfl rfl (by decide +kernel) ⟨Nat.le_trans (Nat.le_of_ble_eq_true rfl) hR.1, Nat.le_trans (Nat.le_of_ble_eq_true rfl) hR.2⟩) ⟨uPc_blind, fun U hU hW => u_pre hC hP hS hU hW⟩ rfl rfl hl.1 rfl (lv_room (Nat.le_of_ble_eq_true rfl)) dJ11_hashCode_48 ⟨Nat.zero_le _, Nat.zero_le _⟩) hS (fun H locs hP hS => ?_)
  exact w_J11_hashCode_51 hC hR N u7 r9 h hP hS (lv_sub hl [] rfl)
theorem zz_J11_hashCode (N b : Nat) (g : uEnv) (u : UH) (x0 : Option Nat) (r : Int32) (uf : UH) (h : f_J11_hashCode N b g u x0 = some (r, uf)) : uf.1 = u.1 ∧ uf.2.1 = u.2.1 :=
  zz_J11_hashCode_0 (G := ((fun _ => 0, fun _ _ => 0), fun _ => 0, b, g)) N u x0 h
theorem met_J11_hashCode (l : Launch) (N : Nat) (G : uG) (u : UH) (x0 : Option Nat) (r : Int32) (uf : UH) (h : f_J11_hashCode N (ub G) (ug G) u x0 = some (r, uf)) : Met l yJ11_hashCode (ws_ yJ11_hashCode cJ11_hashCode 1 (some .int)) ({ frames := 2, cells := 0, slots := 0, locals := 49 }) (uPc G u [va_rf x0]) (uQi G r uf) 0 0 (uA G) := by
  rcases x0 with _ | x0 <;> exact u_met (own := RJ11) (by decide +kernel) rfl (Nat.le_of_ble_eq_true rfl) (fun hC hn hsz ls hl hP => w_J11_hashCode_0 hC ⟨Nat.le_refl _, Nat.le_refl _⟩ N u _ h hP va_S.rf hl)
def f_J11_indexOfChar_7 (N b : Nat) (g : uEnv) : Nat → UH → Option Nat → Int32 → Int32 → Int32 → Option (Int32 × UH)
  | 0, _, _, _, _, _ => none
  | n + 1, u, x0, x3, x4, x5 =>
    if x3 ≤ x5 then
    some ((-1), u)
    else
    (x0).bind fun a2 =>
    (uLdI u a2 1 x5).bind fun y3 =>
    if y3 = x4 then
    some (x5, u)
    else
    mlet (x5 + 1) fun y5 =>
    f_J11_indexOfChar_7 N b g n u (some a2) x3 x4 y5
set_option maxHeartbeats 4000000 in
set_option maxRecDepth 100000 in
theorem zz_J11_indexOfChar_7 {G : uG} {uf : UH} {r : Int32} (N : Nat) : ∀ (n : Nat) (u : UH) (x0 : Option Nat) (x3 : Int32) (x4 : Int32) (x5 : Int32), f_J11_indexOfChar_7 N (ub G) (ug G) n u x0 x3 x4 x5 = some (r, uf) → uf.1 = u.1 ∧ uf.2.1 = u.2.1 := by
  intro n
  induction n with
  | zero =>
    intro u x0 x3 x4 x5 h
    cases h
  | succ n ih =>
    intro u x0 x3 x4 x5 h
    unfold f_J11_indexOfChar_7 at h
    by_cases c1 : x3 ≤ x5
    · have h := mif_t c1 h
      obtain ⟨hr1, hr2⟩ := uret_n h
      subst hr2
      exact ⟨by omega, by omega⟩
    · have h := mif_f c1 h
      obtain ⟨a2, ha2, hha2⟩ := mbind_n h
      subst ha2
      have h := hha2
      obtain ⟨y3, hy3, h⟩ := mbind_n h
      by_cases c4 : y3 = x4
      · have h := mif_t c4 h
        obtain ⟨hr1, hr2⟩ := uret_n h
        subst hr2
        exact ⟨by omega, by omega⟩
      · have h := mif_f c4 h
        obtain ⟨y5, ey5⟩ : ∃ z : Int32, z = x5 + 1 := ⟨_, rfl⟩
        have h := mlet_at ey5 h
        have hq := ih u (some a2) x3 x4 y5 h
        exact ⟨by omega, by omega⟩
set_option maxHeartbeats 4000000 in
set_option maxRecDepth 100000 in
theorem w_J11_indexOfChar_7 {p : Program} {l : Launch} {e : Env} {R : Room} {s : State} {m : MethodId} {args : Array Value} {below : List Frame} {meth : Method} {c : Code} {G : uG} {uf : UH} {r : Int32} (hC : uC p s m args meth c G RJ11 cJ11_indexOfChar 6 (some .int)) (hR : 0 ≤ R.frames ∧ 0 ≤ R.locals) (N : Nat) : ∀ (n : Nat) (u : UH) (x0 : Option Nat) (x3 : Int32) (x4 : Int32) (x5 : Int32), f_J11_indexOfChar_7 N (ub G) (ug G) n u x0 x3 x4 x5 = some (r, uf) → ∀ (H : Heap) (locs : List Loc), uP G u H → va_S (uA G) s.heap H locs → ∀ ls : Array Slot, lv_has ls 6 [(0, va_rf x0), (3, .int x3), (4, .int x4), (5, .int x5)] → W p l e R s m args below meth c H locs 0 0 (MQ below (uQi G r uf) args s 0 0 (uA G)) (F0 m 7 ls []) := by
  obtain ⟨⟨hx, hb, hml, hown, hts⟩, hKK⟩ := id hC
  intro n
  induction n with
  | zero =>
    intro u x0 x3 x4 x5 h
    cases h
  | succ n ih =>
    intro u x0 x3 x4 x5 h H locs hP hS ls hl
    unfold f_J11_indexOfChar_7 at h
    refine lv_iload hx hb dJ11_indexOfChar_7 (lv_at hl 3 rfl) ?_
    refine lv_iload_n hx hb dJ11_indexOfChar_9 rfl (lv_at hl 1 rfl) ?_
    refine lv_icmp_ge (tgt := 31) hx hb dJ11_indexOfChar_10 (by decide) (fun c1 => ?_) (fun c1 => ?_)
    · have h := mif_t c1 h
      refine lv_iconst (v := (-1)) hx hb dJ11_indexOfChar_31 (by decide) ?_
      obtain ⟨hr1, hr2⟩ := uret_n h
      subst hr1
      subst hr2
      exact u_iret hC hP hS dJ11_indexOfChar_32
    · have h := mif_f c1 h
      refine u_aload_n (r := x0) hx hb dJ11_indexOfChar_13 rfl (lv_at hl 0 rfl) ?_
      refine lv_iload hx hb dJ11_indexOfChar_14 (lv_at hl 3 rfl) ?_
      obtain ⟨a2, ha2, hha2⟩ := mbind_n h
      subst ha2
      have h := hha2
      obtain ⟨y3, hy3, h⟩ := mbind_n h
      refine u_bald hC hP hy3 rfl dJ11_indexOfChar_16 ?_
      refine lv_iload hx hb dJ11_indexOfChar_17 (lv_at hl 2 rfl) ?_
      refine lv_icmp_ne (tgt := 25) hx hb dJ11_indexOfChar_19 (by decide) (fun c4 => ?_) (fun c4 => ?_)
      · have h := mif_f c4 h
        obtain ⟨y5, ey5⟩ : ∃ z : Int32, z = x5 + 1 := ⟨_, rfl⟩
        have h := mlet_at ey5 h
        refine lv_iinc (v := y5) (lv' := [(5, .int y5), (0, va_rf (some a2)), (3, .int x3), (4, .int x4)]) hx hb dJ11_indexOfChar_25 hl (k := 3) rfl (by rw [ey5]; rfl) (by decide) rfl (fun ls hl => ?_)
        refine lv_goto (tgt := 7) hx hb dJ11_indexOfChar_28 (by decide) ?_
        exact ih u (some a2) x3 x4 y5 h _ _ hP hS _ (lv_sub hl [1, 2, 3, 0] rfl)
      · have h := mif_t c4 h
        refine lv_iload hx hb dJ11_indexOfChar_22 (lv_at hl 3 rfl) ?_
        obtain ⟨hr1, hr2⟩ := uret_n h
        subst hr1
        subst hr2
        exact u_iret hC hP hS dJ11_indexOfChar_24
def f_J11_indexOfChar (N b : Nat) (g : uEnv) (u : UH) (x0 : Option Nat) (x1 : Int32) (x2 : Int32) (x3 : Int32) : Option (Int32 × UH) :=
    mlet (x1.toInt8.toInt32) fun y1 =>
    f_J11_indexOfChar_7 N b g N u x0 x3 y1 x2
set_option maxHeartbeats 4000000 in
set_option maxRecDepth 100000 in
theorem zz_J11_indexOfChar_0 {G : uG} {uf : UH} {r : Int32} (N : Nat) (u : UH) (x0 : Option Nat) (x1 : Int32) (x2 : Int32) (x3 : Int32) (h : f_J11_indexOfChar N (ub G) (ug G) u x0 x1 x2 x3 = some (r, uf)) : uf.1 = u.1 ∧ uf.2.1 = u.2.1 := by
  unfold f_J11_indexOfChar at h
  obtain ⟨y1, ey1⟩ : ∃ z, z = x1.toInt8.toInt32 := ⟨_, rfl⟩
  have h := mlet_at ey1 h
  have hq := zz_J11_indexOfChar_7 (G := G) N N u x0 x3 y1 x2 h
  exact ⟨by omega, by omega⟩
set_option maxHeartbeats 4000000 in
set_option maxRecDepth 100000 in
theorem w_J11_indexOfChar_0 {p : Program} {l : Launch} {e : Env} {R : Room} {s : State} {m : MethodId} {args : Array Value} {below : List Frame} {meth : Method} {c : Code} {G : uG} {uf : UH} {r : Int32} (hC : uC p s m args meth c G RJ11 cJ11_indexOfChar 6 (some .int)) (hR : 0 ≤ R.frames ∧ 0 ≤ R.locals) (N : Nat) (u : UH) (x0 : Option Nat) (x1 : Int32) (x2 : Int32) (x3 : Int32) (h : f_J11_indexOfChar N (ub G) (ug G) u x0 x1 x2 x3 = some (r, uf)) {H : Heap} {locs : List Loc} (hP : uP G u H) (hS : va_S (uA G) s.heap H locs) {ls : Array Slot} (hl : lv_has ls 6 [(0, va_rf x0), (1, .int x1), (2, .int x2), (3, .int x3)]) : W p l e R s m args below meth c H locs 0 0 (MQ below (uQi G r uf) args s 0 0 (uA G)) (F0 m 0 ls []) := by
  obtain ⟨⟨hx, hb, hml, hown, hts⟩, hKK⟩ := id hC
  unfold f_J11_indexOfChar at h
  refine lv_iload_n hx hb dJ11_indexOfChar_0 rfl (lv_at hl 1 rfl) ?_
  refine lv_i2b (v := x1.toInt8.toInt32) hx hb dJ11_indexOfChar_1 rfl ?_
  refine lv_topi (fun y1 ey1 => ?_)
  have h := mlet_at ey1 h
  refine lv_istore (lv' := [(4, .int y1), (0, va_rf x0), (1, .int x1), (2, .int x2), (3, .int x3)]) hx hb dJ11_indexOfChar_2 hl (by decide) rfl (fun ls hl => ?_)
  refine lv_iload_n hx hb dJ11_indexOfChar_4 rfl (lv_at hl 3 rfl) ?_
  refine lv_istore (lv' := [(5, .int x2), (4, .int y1), (0, va_rf x0), (1, .int x1), (2, .int x2), (3, .int x3)]) hx hb dJ11_indexOfChar_5 hl (by decide) rfl (fun ls hl => ?_)
  exact w_J11_indexOfChar_7 hC hR N N u x0 x3 y1 x2 h _ _ hP hS _ (lv_sub hl [2, 5, 1, 0] rfl)
theorem zz_J11_indexOfChar (N b : Nat) (g : uEnv) (u : UH) (x0 : Option Nat) (x1 : Int32) (x2 : Int32) (x3 : Int32) (r : Int32) (uf : UH) (h : f_J11_indexOfChar N b g u x0 x1 x2 x3 = some (r, uf)) : uf.1 = u.1 ∧ uf.2.1 = u.2.1 :=
  zz_J11_indexOfChar_0 (G := ((fun _ => 0, fun _ _ => 0), fun _ => 0, b, g)) N u x0 x1 x2 x3 h
theorem met_J11_indexOfChar (l : Launch) (N : Nat) (G : uG) (u : UH) (x0 : Option Nat) (x1 : Int32) (x2 : Int32) (x3 : Int32) (r : Int32) (uf : UH) (h : f_J11_indexOfChar N (ub G) (ug G) u x0 x1 x2 x3 = some (r, uf)) : Met l yJ11_indexOfChar (ws_ yJ11_indexOfChar cJ11_indexOfChar 6 (some .int)) ({ frames := 0, cells := 0, slots := 0, locals := 0 }) (uPc G u [va_rf x0, .int x1, .int x2, .int x3]) (uQi G r uf) 0 0 (uA G) := by
  rcases x0 with _ | x0 <;> exact u_met (own := RJ11) (by decide +kernel) rfl (Nat.le_of_ble_eq_true rfl) (fun hC hn hsz ls hl hP => w_J11_indexOfChar_0 hC ⟨Nat.le_refl _, Nat.le_refl _⟩ N u _ x1 x2 x3 h hP va_S.rf hl)
def f_J11_indexOf (N b : Nat) (g : uEnv) (u : UH) (x0 : Option Nat) (x1 : Int32) (x2 : Int32) (x3 : Int32) : Option (Int32 × UH) :=
    ucall (f_J11_canEncode_2 N b g u x1) fun r3 u1 =>
    if r3 = 0 then
    some ((-1), u1)
    else
    ucall (f_J9_max N b g u1 x2 0) fun r7 u5 =>
    (x0).bind fun a8 =>
    (uLen u5 a8 1).bind fun y9 =>
    ucall (f_J9_min N b g u5 x3 y9) fun r12 u10 =>
    if r7 < r12 then
    ucall (f_J11_indexOfChar N b g u10 (some a8) x1 r7 r12) fun r16 u14 =>
    some (r16, u14)
    else
    some ((-1), u10)
set_option maxHeartbeats 4000000 in
set_option maxRecDepth 100000 in
theorem zz_J11_indexOf_0 {G : uG} {uf : UH} {r : Int32} (N : Nat) (u : UH) (x0 : Option Nat) (x1 : Int32) (x2 : Int32) (x3 : Int32) (h : f_J11_indexOf N (ub G) (ug G) u x0 x1 x2 x3 = some (r, uf)) : uf.1 = u.1 ∧ uf.2.1 = u.2.1 := by
  unfold f_J11_indexOf at h
  obtain ⟨r3, u1, c2, h⟩ := ucall_n h
  have zu1 := zz_J11_canEncode_2 N (ub G) (ug G) u x1 r3 u1 c2
  by_cases c4 : r3 = 0
  · have h := mif_t c4 h
    obtain ⟨hr1, hr2⟩ := uret_n h
    subst hr2
    exact ⟨by omega, by omega⟩
  · have h := mif_f c4 h
    obtain ⟨r7, u5, c6, h⟩ := ucall_n h
    have zu5 := zz_J9_max N (ub G) (ug G) u1 x2 0 r7 u5 c6
    obtain ⟨a8, ha8, hha8⟩ := mbind_n h
    subst ha8
    have h := hha8
    obtain ⟨y9, hy9, h⟩ := mbind_n h
    obtain ⟨r12, u10, c11, h⟩ := ucall_n h
    have zu10 := zz_J9_min N (ub G) (ug G) u5 x3 y9 r12 u10 c11
    by_cases c13 : r7 < r12
    · have h := mif_t c13 h
      obtain ⟨r16, u14, c15, h⟩ := ucall_n h
      have zu14 := zz_J11_indexOfChar N (ub G) (ug G) u10 (some a8) x1 r7 r12 r16 u14 c15
      obtain ⟨hr1, hr2⟩ := uret_n h
      subst hr2
      exact ⟨by omega, by omega⟩
    · have h := mif_f c13 h
      obtain ⟨hr1, hr2⟩ := uret_n h
      subst hr2
      exact ⟨by omega, by omega⟩
set_option maxHeartbeats 4000000 in
set_option maxRecDepth 100000 in
theorem w_J11_indexOf_0 {p : Program} {l : Launch} {e : Env} {R : Room} {s : State} {m : MethodId} {args : Array Value} {below : List Frame} {meth : Method} {c : Code} {G : uG} {uf : UH} {r : Int32} (hC : uC p s m args meth c G RJ11 cJ11_indexOf 4 (some .int)) (hR : 1 ≤ R.frames ∧ 25 ≤ R.locals) (N : Nat) (u : UH) (x0 : Option Nat) (x1 : Int32) (x2 : Int32) (x3 : Int32) (h : f_J11_indexOf N (ub G) (ug G) u x0 x1 x2 x3 = some (r, uf)) {H : Heap} {locs : List Loc} (hP : uP G u H) (hS : va_S (uA G) s.heap H locs) {ls : Array Slot} (hl : lv_has ls 4 [(0, va_rf x0), (1, .int x1), (2, .int x2), (3, .int x3)]) : W p l e R s m args below meth c H locs 0 0 (MQ below (uQi G r uf) args s 0 0 (uA G)) (F0 m 0 ls []) := by
  obtain ⟨⟨hx, hb, hml, hown, hts⟩, hKK⟩ := id hC
  unfold f_J11_indexOf at h
  refine lv_iload_n hx hb dJ11_indexOf_0 rfl (lv_at hl 1 rfl) ?_
  obtain ⟨r3, u1, c2, h⟩ := ucall_n h
  have zu1 := zz_J11_canEncode_2 N (ub G) (ug G) u x1 r3 u1 c2
  refine u_calli (va_runS (As := [.int x1]) (rest := []) hC.1 (met_J11_canEncode_2 l N G u x1 r3 u1 c2) (va_cwS 1 hts (lw_S q582 q583 q116 q584) rfl rfl rfl (by decide +kernel) ⟨Nat.le_trans (Nat.le_of_ble_eq_true rfl) hR.1, Nat.le_trans (Nat.le_of_ble_eq_true rfl) hR.2⟩) ⟨uPc_blind, fun U hU hW => u_pre hC hP hS hU hW⟩ rfl rfl hl.1 rfl (lv_room (Nat.le_of_ble_eq_true rfl)) dJ11_indexOf_1 ⟨Nat.zero_le _, Nat.zero_le _⟩) hS (fun H locs hP hS => ?_)
  refine lv_if_ne (tgt := 9) hx hb dJ11_indexOf_4 (by decide) (fun c4 => ?_) (fun c4 => ?_)
  · have h := mif_f c4 h
    refine lv_iload_n hx hb dJ11_indexOf_9 rfl (lv_at hl 2 rfl) ?_
    refine lv_iconst (v := 0) hx hb dJ11_indexOf_10 (by decide) ?_
    obtain ⟨r7, u5, c6, h⟩ := ucall_n h
    have zu5 := zz_J9_max N (ub G) (ug G) u1 x2 0 r7 u5 c6
    refine u_calli (va_runS (As := [.int x2, .int 0]) (rest := []) hC.1 (met_J9_max l N G u1 x2 0 r7 u5 c6) (va_cwS 2 hts (lw_S q585 q408 q113 q409) rfl rfl rfl (by decide +kernel) ⟨Nat.le_trans (Nat.le_of_ble_eq_true rfl) hR.1, Nat.le_trans (Nat.le_of_ble_eq_true rfl) hR.2⟩) ⟨uPc_blind, fun U hU hW => u_pre hC hP hS hU hW⟩ rfl rfl hl.1 rfl (lv_room (Nat.le_of_ble_eq_true rfl)) dJ11_indexOf_11 ⟨Nat.zero_le _, Nat.zero_le _⟩) hS (fun H locs hP hS => ?_)
    refine lv_istore_n (i := 2) (lv' := [(2, .int r7), (0, va_rf x0), (1, .int x1), (3, .int x3)]) hx hb dJ11_indexOf_14 rfl hl (by decide) rfl (fun ls hl => ?_)
    refine lv_iload_n hx hb dJ11_indexOf_15 rfl (lv_at hl 3 rfl) ?_
    refine u_aload_n (r := x0) hx hb dJ11_indexOf_16 rfl (lv_at hl 1 rfl) ?_
    obtain ⟨a8, ha8, hha8⟩ := mbind_n h
    subst ha8
    have h := hha8
    obtain ⟨y9, hy9, h⟩ := mbind_n h
    refine u_alen hC hP hy9 dJ11_indexOf_17 ?_
    obtain ⟨r12, u10, c11, h⟩ := ucall_n h
    have zu10 := zz_J9_min N (ub G) (ug G) u5 x3 y9 r12 u10 c11
    refine u_calli (va_runS (As := [.int x3, .int y9]) (rest := []) hC.1 (met_J9_min l N G u5 x3 y9 r12 u10 c11) (va_cwS 2 hts (lw_S q586 q426 q113 q427) rfl rfl rfl (by decide +kernel) ⟨Nat.le_trans (Nat.le_of_ble_eq_true rfl) hR.1, Nat.le_trans (Nat.le_of_ble_eq_true rfl) hR.2⟩) ⟨uPc_blind, fun U hU hW => u_pre hC hP hS hU hW⟩ rfl rfl hl.1 rfl (lv_room (Nat.le_of_ble_eq_true rfl)) dJ11_indexOf_18 ⟨Nat.zero_le _, Nat.zero_le _⟩) hS (fun H locs hP hS => ?_)
    refine lv_istore_n (i := 3) (lv' := [(3, .int r12), (2, .int r7), (0, va_rf (some a8)), (1, .int x1)]) hx hb dJ11_indexOf_21 rfl hl (by decide) rfl (fun ls hl => ?_)
    refine lv_iload_n hx hb dJ11_indexOf_22 rfl (lv_at hl 1 rfl) ?_
    refine lv_iload_n hx hb dJ11_indexOf_23 rfl (lv_at hl 0 rfl) ?_
    refine lv_icmp_lt (tgt := 29) hx hb dJ11_indexOf_24 (by decide) (fun c13 => ?_) (fun c13 => ?_)
    · have h := mif_t c13 h
      refine u_aload_n (r := some a8) hx hb dJ11_indexOf_29 rfl (lv_at hl 2 rfl) ?_
      refine lv_iload_n hx hb dJ11_indexOf_30 rfl (lv_at hl 3 rfl) ?_
      refine lv_iload_n hx hb dJ11_indexOf_31 rfl (lv_at hl 1 rfl) ?_
      refine lv_iload_n hx hb dJ11_indexOf_32 rfl (lv_at hl 0 rfl) ?_
      obtain ⟨r16, u14, c15, h⟩ := ucall_n h
      have zu14 := zz_J11_indexOfChar N (ub G) (ug G) u10 (some a8) x1 r7 r12 r16 u14 c15
      refine u_calli (va_runS (As := [va_rf (some a8), .int x1, .int r7, .int r12]) (rest := []) hC.1 (met_J11_indexOfChar l N G u10 (some a8) x1 r7 r12 r16 u14 c15) (va_cwS 4 hts (lw_S q587 q588 q116 q589) rfl rfl rfl (by decide +kernel) ⟨Nat.le_trans (Nat.le_of_ble_eq_true rfl) hR.1, Nat.le_trans (Nat.le_of_ble_eq_true rfl) hR.2⟩) ⟨uPc_blind, fun U hU hW => u_pre hC hP hS hU hW⟩ rfl rfl hl.1 rfl (lv_room (Nat.le_of_ble_eq_true rfl)) dJ11_indexOf_33 ⟨Nat.zero_le _, Nat.zero_le _⟩) hS (fun H locs hP hS => ?_)
      obtain ⟨hr1, hr2⟩ := uret_n h
      subst hr1
      subst hr2
      exact u_iret hC hP hS dJ11_indexOf_36
    · have h := mif_f c13 h
      refine lv_iconst (v := (-1)) hx hb dJ11_indexOf_27 (by decide) ?_
      obtain ⟨hr1, hr2⟩ := uret_n h
      subst hr1
      subst hr2
      exact u_iret hC hP hS dJ11_indexOf_28
  · have h := mif_t c4 h
    refine lv_iconst (v := (-1)) hx hb dJ11_indexOf_7 (by decide) ?_
    obtain ⟨hr1, hr2⟩ := uret_n h
    subst hr1
    subst hr2
    exact u_iret hC hP hS dJ11_indexOf_8
theorem zz_J11_indexOf (N b : Nat) (g : uEnv) (u : UH) (x0 : Option Nat) (x1 : Int32) (x2 : Int32) (x3 : Int32) (r : Int32) (uf : UH) (h : f_J11_indexOf N b g u x0 x1 x2 x3 = some (r, uf)) : uf.1 = u.1 ∧ uf.2.1 = u.2.1 :=
  zz_J11_indexOf_0 (G := ((fun _ => 0, fun _ _ => 0), fun _ => 0, b, g)) N u x0 x1 x2 x3 h
theorem met_J11_indexOf (l : Launch) (N : Nat) (G : uG) (u : UH) (x0 : Option Nat) (x1 : Int32) (x2 : Int32) (x3 : Int32) (r : Int32) (uf : UH) (h : f_J11_indexOf N (ub G) (ug G) u x0 x1 x2 x3 = some (r, uf)) : Met l yJ11_indexOf (ws_ yJ11_indexOf cJ11_indexOf 4 (some .int)) ({ frames := 1, cells := 0, slots := 0, locals := 25 }) (uPc G u [va_rf x0, .int x1, .int x2, .int x3]) (uQi G r uf) 0 0 (uA G) := by
  rcases x0 with _ | x0 <;> exact u_met (own := RJ11) (by decide +kernel) rfl (Nat.le_of_ble_eq_true rfl) (fun hC hn hsz ls hl hP => w_J11_indexOf_0 hC ⟨Nat.le_refl _, Nat.le_refl _⟩ N u _ x1 x2 x3 h hP va_S.rf hl)
def f_J14_init_2_60 (N b : Nat) (g : uEnv) (a0 : Nat) (u : UH) : Option (UH) :=
    some u
set_option maxHeartbeats 4000000 in
set_option maxRecDepth 100000 in
theorem zz_J14_init_2_60 {G : uG} {a0 : Nat} {uf : UH} (N : Nat) (u : UH) (h : f_J14_init_2_60 N (ub G) (ug G) a0 u = some uf) : uf.1 = u.1 ∧ uf.2.1 = u.2.1 := by
  unfold f_J14_init_2_60 at h
  cases h
  exact ⟨by omega, by omega⟩
set_option maxHeartbeats 4000000 in
set_option maxRecDepth 100000 in
theorem w_J14_init_2_60 {p : Program} {l : Launch} {e : Env} {R : Room} {s : State} {m : MethodId} {args : Array Value} {below : List Frame} {meth : Method} {c : Code} {G : uG} {a0 : Nat} {uf : UH} (hC : uC p s m args meth c G RJ14 cJ14_init_2 5 none) (hI : meth.name = "<init>") (hR : 1 ≤ R.frames ∧ 20 ≤ R.locals) (N : Nat) (u : UH) (h : f_J14_init_2_60 N (ub G) (ug G) a0 u = some uf) {H : Heap} {locs : List Loc} (hP : uP G u H) (hS : va_S (uA G) s.heap H locs) {ls : Array Slot} (hl : lv_has ls 5 []) : W p l e R s m args below meth c H locs 0 0 (MQ below (uQv G uf) args s 0 0 (uA G)) (F0 m 60 ls []) := by
  obtain ⟨⟨hx, hb, hml, hown, hts⟩, hKK⟩ := id hC
  unfold f_J14_init_2_60 at h
  cases h
  exact u_vret hC hP hS dJ14_init_2_60
def f_J14_init_2_41 (N b : Nat) (g : uEnv) (a0 : Nat) (u : UH) (x1 : Option Nat) (x2 : Option Nat) (x3 : Int32) : Option (UH) :=
    (uPut b u a0 6 3 (va_rf x1)).bind fun u1 =>
    (uPut b u1 a0 6 0 (va_rf x2)).bind fun u2 =>
    if x3 = 0 then
    (uPut b u2 a0 6 2 (va_rf none)).bind fun u4 =>
    f_J14_init_2_60 N b g a0 u4
    else
    f_J14_init_2_60 N b g a0 u2
set_option maxHeartbeats 4000000 in
set_option maxRecDepth 100000 in
theorem zz_J14_init_2_41 {G : uG} {a0 : Nat} {uf : UH} (N : Nat) (u : UH) (x1 : Option Nat) (x2 : Option Nat) (x3 : Int32) (h : f_J14_init_2_41 N (ub G) (ug G) a0 u x1 x2 x3 = some uf) : uf.1 = u.1 ∧ uf.2.1 = u.2.1 := by
  unfold f_J14_init_2_41 at h
  obtain ⟨u1, hu1, h⟩ := mbind_n h
  have zu1 := uPut_sz hu1
  obtain ⟨u2, hu2, h⟩ := mbind_n h
  have zu2 := uPut_sz hu2
  by_cases c3 : x3 = 0
  · have h := mif_t c3 h
    obtain ⟨u4, hu4, h⟩ := mbind_n h
    have zu4 := uPut_sz hu4
    have hq := zz_J14_init_2_60 (G := G) (a0 := a0) N u4 h
    exact ⟨by omega, by omega⟩
  · have h := mif_f c3 h
    have hq := zz_J14_init_2_60 (G := G) (a0 := a0) N u2 h
    exact ⟨by omega, by omega⟩
set_option maxHeartbeats 4000000 in
set_option maxRecDepth 100000 in
theorem w_J14_init_2_41 {p : Program} {l : Launch} {e : Env} {R : Room} {s : State} {m : MethodId} {args : Array Value} {below : List Frame} {meth : Method} {c : Code} {G : uG} {a0 : Nat} {uf : UH} (hC : uC p s m args meth c G RJ14 cJ14_init_2 5 none) (hI : meth.name = "<init>") (hR : 1 ≤ R.frames ∧ 20 ≤ R.locals) (N : Nat) (u : UH) (x1 : Option Nat) (x2 : Option Nat) (x3 : Int32) (h : f_J14_init_2_41 N (ub G) (ug G) a0 u x1 x2 x3 = some uf) {H : Heap} {locs : List Loc} (hP : uP G u H) (hS : va_S (uA G) s.heap H locs) {ls : Array Slot} (hl : lv_has ls 5 [(0, va_rf (some a0)), (1, va_rf x1), (2, va_rf x2), (3, .int x3)]) : W p l e R s m args below meth c H locs 0 0 (MQ below (uQv G uf) args s 0 0 (uA G)) (F0 m 41 ls []) := by
  obtain ⟨⟨hx, hb, hml, hown, hts⟩, hKK⟩ := id hC
  unfold f_J14_init_2_41 at h
  refine u_aload_n (r := some a0) hx hb dJ14_init_2_41 rfl (lv_at hl 0 rfl) ?_
  refine u_aload_n (r := x1) hx hb dJ14_init_2_42 rfl (lv_at hl 1 rfl) ?_
  obtain ⟨u1, hu1, h⟩ := mbind_n h
  have zu1 := uPut_sz hu1
  refine u_put hC hP hS hu1 rfl in_X8 tyX8 tyX8_ok nmX8 (by decide) q836 (fun _ h => h) rfl (ty := (.object "java/lang/String")) (tyX8_ok 3 (by decide)) (uNarR _ x1).1 (uNarR _ x1).2 dJ14_init_2_43 (fun H locs hP hS => ?_)
  refine u_aload_n (r := some a0) hx hb dJ14_init_2_46 rfl (lv_at hl 0 rfl) ?_
  refine u_aload_n (r := x2) hx hb dJ14_init_2_47 rfl (lv_at hl 2 rfl) ?_
  obtain ⟨u2, hu2, h⟩ := mbind_n h
  have zu2 := uPut_sz hu2
  refine u_put hC hP hS hu2 rfl in_X8 tyX8 tyX8_ok nmX8 (by decide) q837 (fun _ h => h) rfl (ty := (.object "java/lang/Throwable")) (tyX8_ok 0 (by decide)) (uNarR _ x2).1 (uNarR _ x2).2 dJ14_init_2_48 (fun H locs hP hS => ?_)
  refine lv_iload_n hx hb dJ14_init_2_51 rfl (lv_at hl 3 rfl) ?_
  refine lv_if_ne (tgt := 60) hx hb dJ14_init_2_52 (by decide) (fun c3 => ?_) (fun c3 => ?_)
  · have h := mif_f c3 h
    exact w_J14_init_2_60 hC hI hR N u2 h hP hS (lv_sub hl [] rfl)
  · have h := mif_t c3 h
    refine u_aload_n (r := some a0) hx hb dJ14_init_2_55 rfl (lv_at hl 0 rfl) ?_
    refine lv_null hx hb dJ14_init_2_56 ?_
    obtain ⟨u4, hu4, h⟩ := mbind_n h
    have zu4 := uPut_sz hu4
    refine u_put hC hP hS hu4 rfl in_X8 tyX8 tyX8_ok nmX8 (by decide) q839 (fun _ h => h) rfl (ty := (.object "java/util/List")) (tyX8_ok 2 (by decide)) (uNarR _ none).1 (uNarR _ none).2 dJ14_init_2_57 (fun H locs hP hS => ?_)
    exact w_J14_init_2_60 hC hI hR N u4 h hP hS (lv_sub hl [] rfl)
def f_J14_init_2 (N b : Nat) (g : uEnv) (u : UH) (a0 : Nat) (x1 : Option Nat) (x2 : Option Nat) (x3 : Int32) (x4 : Int32) : Option (UH) :=
    (uPut b u a0 6 0 (va_rf (some a0))).bind fun u1 =>
    mlet (g.1 13) fun o2 =>
    (uPut b u1 a0 6 1 (va_rf o2)).bind fun u3 =>
    mlet (g.1 14) fun o4 =>
    (uPut b u3 a0 6 2 (va_rf o4)).bind fun u5 =>
    if x4 = 0 then
    (uPut b u5 a0 6 1 (va_rf none)).bind fun u7 =>
    f_J14_init_2_41 N b g a0 u7 x1 x2 x3
    else
    none
set_option maxHeartbeats 4000000 in
set_option maxRecDepth 100000 in
theorem zz_J14_init_2_0 {G : uG} {a0 : Nat} {uf : UH} (N : Nat) (u : UH) (x1 : Option Nat) (x2 : Option Nat) (x3 : Int32) (x4 : Int32) (h : f_J14_init_2 N (ub G) (ug G) u a0 x1 x2 x3 x4 = some uf) : uf.1 = u.1 ∧ uf.2.1 = u.2.1 := by
  unfold f_J14_init_2 at h
  obtain ⟨u1, hu1, h⟩ := mbind_n h
  have zu1 := uPut_sz hu1
  obtain ⟨o2, eo2⟩ : ∃ z, z = (ug G).1 13 := ⟨_, rfl⟩
  have h := mlet_at eo2 h
  obtain ⟨u3, hu3, h⟩ := mbind_n h
  have zu3 := uPut_sz hu3
  obtain ⟨o4, eo4⟩ : ∃ z, z = (ug G).1 14 := ⟨_, rfl⟩
  have h := mlet_at eo4 h
  obtain ⟨u5, hu5, h⟩ := mbind_n h
  have zu5 := uPut_sz hu5
  by_cases c6 : x4 = 0
  · have h := mif_t c6 h
    obtain ⟨u7, hu7, h⟩ := mbind_n h
    have zu7 := uPut_sz hu7
    have hq := zz_J14_init_2_41 (G := G) (a0 := a0) N u7 x1 x2 x3 h
    exact ⟨by omega, by omega⟩
  · have h := mif_f c6 h
    cases h
set_option maxHeartbeats 4000000 in
set_option maxRecDepth 100000 in
theorem w_J14_init_2_0 {p : Program} {l : Launch} {e : Env} {R : Room} {s : State} {m : MethodId} {args : Array Value} {below : List Frame} {meth : Method} {c : Code} {G : uG} {a0 : Nat} {uf : UH} (hC : uC p s m args meth c G RJ14 cJ14_init_2 5 none) (hI : meth.name = "<init>") (hR : 1 ≤ R.frames ∧ 20 ≤ R.locals) (N : Nat) (u : UH) (x1 : Option Nat) (x2 : Option Nat) (x3 : Int32) (x4 : Int32) (h : f_J14_init_2 N (ub G) (ug G) u a0 x1 x2 x3 x4 = some uf) {H : Heap} {locs : List Loc} (hP : uP G u H) (hS : va_S (uA G) s.heap H locs) {ls : Array Slot} (hl : lv_has ls 5 [(0, va_rf (some a0)), (1, va_rf x1), (2, va_rf x2), (3, .int x3), (4, .int x4)]) : W p l e R s m args below meth c H locs 0 0 (MQ below (uQv G uf) args s 0 0 (uA G)) (F0 m 0 ls []) := by
  obtain ⟨⟨hx, hb, hml, hown, hts⟩, hKK⟩ := id hC
  unfold f_J14_init_2 at h
  refine u_aload_n (r := some a0) hx hb dJ14_init_2_0 rfl (lv_at hl 0 rfl) ?_
  refine W.objInit hx hb hown (hts _ q807) (hts _ q148) (hts _ q149) rfl (by rw [hml]; exact hl.1) rfl dJ14_init_2_1 (Nat.le_trans (Nat.le_of_ble_eq_true rfl) hR.1) (Nat.le_trans (Nat.le_of_ble_eq_true rfl) hR.2) ?_
  refine W.eq (g2 := F0 m 4 ls []) rfl ?_
  refine u_aload_n (r := some a0) hx hb dJ14_init_2_4 rfl (lv_at hl 0 rfl) ?_
  refine u_aload_n (r := some a0) hx hb dJ14_init_2_5 rfl (lv_at hl 0 rfl) ?_
  obtain ⟨u1, hu1, h⟩ := mbind_n h
  have zu1 := uPut_sz hu1
  refine u_put hC hP hS hu1 rfl in_X8 tyX8 tyX8_ok nmX8 (by decide) q837 (fun _ h => h) rfl (ty := (.object "java/lang/Throwable")) (tyX8_ok 0 (by decide)) (uNarR _ (some a0)).1 (uNarR _ (some a0)).2 dJ14_init_2_6 (fun H locs hP hS => ?_)
  refine u_aload_n (r := some a0) hx hb dJ14_init_2_9 rfl (lv_at hl 0 rfl) ?_
  refine u_gets hC hS 13 rfl q808 (fun _ h => h) dJ14_init_2_10 ?_
  obtain ⟨o2, eo2⟩ : ∃ z, z = (ug G).1 13 := ⟨_, rfl⟩
  have h := mlet_at eo2 h
  rw [← eo2]
  obtain ⟨u3, hu3, h⟩ := mbind_n h
  have zu3 := uPut_sz hu3
  refine u_put hC hP hS hu3 rfl in_X8 tyX8 tyX8_ok nmX8 (by decide) q838 (fun _ h => h) rfl (ty := (.array (.object "java/lang/StackTraceElement"))) (tyX8_ok 1 (by decide)) (uNarA _ o2).1 (uNarA _ o2).2 dJ14_init_2_13 (fun H locs hP hS => ?_)
  refine u_aload_n (r := some a0) hx hb dJ14_init_2_16 rfl (lv_at hl 0 rfl) ?_
  refine u_gets hC hS 14 rfl q810 (fun _ h => h) dJ14_init_2_17 ?_
  obtain ⟨o4, eo4⟩ : ∃ z, z = (ug G).1 14 := ⟨_, rfl⟩
  have h := mlet_at eo4 h
  rw [← eo4]
  obtain ⟨u5, hu5, h⟩ := mbind_n h
  have zu5 := uPut_sz hu5
  refine u_put hC hP hS hu5 rfl in_X8 tyX8 tyX8_ok nmX8 (by decide) q839 (fun _ h => h) rfl (ty := (.object "java/util/List")) (tyX8_ok 2 (by decide)) (uNarR _ o4).1 (uNarR _ o4).2 dJ14_init_2_20 (fun H locs hP hS => ?_)
  refine lv_iload hx hb dJ14_init_2_23 (lv_at hl 4 rfl) ?_
  refine lv_if_eq (tgt := 36) hx hb dJ14_init_2_25 (by decide) (fun c6 => ?_) (fun c6 => ?_)
  · have h := mif_t c6 h
    refine u_aload_n (r := some a0) hx hb dJ14_init_2_36 rfl (lv_at hl 0 rfl) ?_
    refine lv_null hx hb dJ14_init_2_37 ?_
    obtain ⟨u7, hu7, h⟩ := mbind_n h
    have zu7 := uPut_sz hu7
    refine u_put hC hP hS hu7 rfl in_X8 tyX8 tyX8_ok nmX8 (by decide) q838 (fun _ h => h) rfl (ty := (.array (.object "java/lang/StackTraceElement"))) (tyX8_ok 1 (by decide)) (uNarA _ none).1 (uNarA _ none).2 dJ14_init_2_38 (fun H locs hP hS => ?_)
    exact w_J14_init_2_41 hC hI hR N u7 x1 x2 x3 h hP hS (lv_sub hl [0, 1, 2, 3] rfl)
  · have h := mif_f c6 h
    refine u_aload_n (r := some a0) hx hb dJ14_init_2_28 rfl (lv_at hl 0 rfl) ?_
    cases h
theorem zz_J14_init_2 (N b : Nat) (g : uEnv) (u : UH) (a0 : Nat) (x1 : Option Nat) (x2 : Option Nat) (x3 : Int32) (x4 : Int32) (uf : UH) (h : f_J14_init_2 N b g u a0 x1 x2 x3 x4 = some uf) : uf.1 = u.1 ∧ uf.2.1 = u.2.1 :=
  zz_J14_init_2_0 (G := ((fun _ => 0, fun _ _ => 0), fun _ => 0, b, g)) (a0 := a0) N u x1 x2 x3 x4 h
theorem met_J14_init_2 (l : Launch) (N : Nat) (G : uG) (u : UH) (a0 : Nat) (x1 : Option Nat) (x2 : Option Nat) (x3 : Int32) (x4 : Int32) (uf : UH) (h : f_J14_init_2 N (ub G) (ug G) u a0 x1 x2 x3 x4 = some uf) : Met l yJ14_init_2 (ws_ yJ14_init_2 cJ14_init_2 5 none) ({ frames := 1, cells := 0, slots := 0, locals := 20 }) (uPc G u [.ref a0, va_rf x1, va_rf x2, .int x3, .int x4]) (uQv G uf) 0 0 (uA G) := by
  rcases x1 with _ | x1 <;> rcases x2 with _ | x2 <;> exact u_met (own := RJ14) (by decide +kernel) rfl (Nat.le_of_ble_eq_true rfl) (fun hC hn hsz ls hl hP => w_J14_init_2_0 hC hn ⟨Nat.le_refl _, Nat.le_refl _⟩ N u _ _ x3 x4 h hP va_S.rf hl)
def f_J15_init (N b : Nat) (g : uEnv) (u : UH) (a0 : Nat) (x1 : Option Nat) (x2 : Option Nat) (x3 : Int32) (x4 : Int32) : Option (UH) :=
    (f_J14_init_2 N b g u a0 x1 x2 x3 x4).bind fun u1 =>
    some u1
set_option maxHeartbeats 4000000 in
set_option maxRecDepth 100000 in
theorem zz_J15_init_0 {G : uG} {a0 : Nat} {uf : UH} (N : Nat) (u : UH) (x1 : Option Nat) (x2 : Option Nat) (x3 : Int32) (x4 : Int32) (h : f_J15_init N (ub G) (ug G) u a0 x1 x2 x3 x4 = some uf) : uf.1 = u.1 ∧ uf.2.1 = u.2.1 := by
  unfold f_J15_init at h
  obtain ⟨u1, c2, h⟩ := mbind_n h
  have zu1 := zz_J14_init_2 N (ub G) (ug G) u a0 x1 x2 x3 x4 u1 c2
  cases h
  exact ⟨by omega, by omega⟩
set_option maxHeartbeats 4000000 in
set_option maxRecDepth 100000 in
theorem w_J15_init_0 {p : Program} {l : Launch} {e : Env} {R : Room} {s : State} {m : MethodId} {args : Array Value} {below : List Frame} {meth : Method} {c : Code} {G : uG} {a0 : Nat} {uf : UH} (hC : uC p s m args meth c G RJ15 cJ15_init 5 none) (hI : meth.name = "<init>") (hR : 2 ≤ R.frames ∧ 44 ≤ R.locals) (N : Nat) (u : UH) (x1 : Option Nat) (x2 : Option Nat) (x3 : Int32) (x4 : Int32) (h : f_J15_init N (ub G) (ug G) u a0 x1 x2 x3 x4 = some uf) {H : Heap} {locs : List Loc} (hP : uP G u H) (hS : va_S (uA G) s.heap H locs) {ls : Array Slot} (hl : lv_has ls 5 [(0, va_rf (some a0)), (1, va_rf x1), (2, va_rf x2), (3, .int x3), (4, .int x4)]) : W p l e R s m args below meth c H locs 0 0 (MQ below (uQv G uf) args s 0 0 (uA G)) (F0 m 0 ls []) := by
  obtain ⟨⟨hx, hb, hml, hown, hts⟩, hKK⟩ := id hC
  unfold f_J15_init at h
  refine u_aload_n (r := some a0) hx hb dJ15_init_0 rfl (lv_at hl 0 rfl) ?_
  refine u_aload_n (r := x1) hx hb dJ15_init_1 rfl (lv_at hl 1 rfl) ?_
  refine u_aload_n (r := x2) hx hb dJ15_init_2 rfl (lv_at hl 2 rfl) ?_
  refine lv_iload_n hx hb dJ15_init_3 rfl (lv_at hl 3 rfl) ?_
  refine lv_iload hx hb dJ15_init_4 (lv_at hl 4 rfl) ?_
  obtain ⟨u1, c2, h⟩ := mbind_n h
  have zu1 := zz_J14_init_2 N (ub G) (ug G) u a0 x1 x2 x3 x4 u1 c2
  refine u_callv (va_runI (As := [va_rf x1, va_rf x2, .int x3, .int x4]) (rest := []) hC.1 (met_J14_init_2 l N G u a0 x1 x2 x3 x4 u1 c2) (cwI 4 hts (lw_meth q830) rfl rfl rfl (hts _ q121) (hts _ q828) (hts _ q829) rfl (by decide +kernel) ⟨Nat.le_trans (Nat.le_of_ble_eq_true rfl) hR.1, Nat.le_trans (Nat.le_of_ble_eq_true rfl) hR.2⟩) ⟨uPc_blind, fun U hU hW => u_pre hC hP hS hU hW⟩ rfl rfl hl.1 rfl (lv_room (Nat.le_of_ble_eq_true rfl)) dJ15_init_6 ⟨Nat.zero_le _, Nat.zero_le _⟩) hS (fun H locs hP hS => ?_)
  cases h
  exact u_vret hC hP hS dJ15_init_9
theorem zz_J15_init (N b : Nat) (g : uEnv) (u : UH) (a0 : Nat) (x1 : Option Nat) (x2 : Option Nat) (x3 : Int32) (x4 : Int32) (uf : UH) (h : f_J15_init N b g u a0 x1 x2 x3 x4 = some uf) : uf.1 = u.1 ∧ uf.2.1 = u.2.1 :=
  zz_J15_init_0 (G := ((fun _ => 0, fun _ _ => 0), fun _ => 0, b, g)) (a0 := a0) N u x1 x2 x3 x4 h
theorem met_J15_init (l : Launch) (N : Nat) (G : uG) (u : UH) (a0 : Nat) (x1 : Option Nat) (x2 : Option Nat) (x3 : Int32) (x4 : Int32) (uf : UH) (h : f_J15_init N (ub G) (ug G) u a0 x1 x2 x3 x4 = some uf) : Met l yJ15_init (ws_ yJ15_init cJ15_init 5 none) ({ frames := 2, cells := 0, slots := 0, locals := 44 }) (uPc G u [.ref a0, va_rf x1, va_rf x2, .int x3, .int x4]) (uQv G uf) 0 0 (uA G) := by
  rcases x1 with _ | x1 <;> rcases x2 with _ | x2 <;> exact u_met (own := RJ15) (by decide +kernel) rfl (Nat.le_of_ble_eq_true rfl) (fun hC hn hsz ls hl hP => w_J15_init_0 hC hn ⟨Nat.le_refl _, Nat.le_refl _⟩ N u _ _ x3 x4 h hP va_S.rf hl)
def f_J18_init (N b : Nat) (g : uEnv) (u : UH) (a0 : Nat) : Option (UH) :=
    some u
set_option maxHeartbeats 4000000 in
set_option maxRecDepth 100000 in
theorem zz_J18_init_0 {G : uG} {a0 : Nat} {uf : UH} (N : Nat) (u : UH) (h : f_J18_init N (ub G) (ug G) u a0 = some uf) : uf.1 = u.1 ∧ uf.2.1 = u.2.1 := by
  unfold f_J18_init at h
  cases h
  exact ⟨by omega, by omega⟩
set_option maxHeartbeats 4000000 in
set_option maxRecDepth 100000 in
theorem w_J18_init_0 {p : Program} {l : Launch} {e : Env} {R : Room} {s : State} {m : MethodId} {args : Array Value} {below : List Frame} {meth : Method} {c : Code} {G : uG} {a0 : Nat} {uf : UH} (hC : uC p s m args meth c G RJ18 cJ18_init 1 none) (hI : meth.name = "<init>") (hR : 1 ≤ R.frames ∧ 20 ≤ R.locals) (N : Nat) (u : UH) (h : f_J18_init N (ub G) (ug G) u a0 = some uf) {H : Heap} {locs : List Loc} (hP : uP G u H) (hS : va_S (uA G) s.heap H locs) {ls : Array Slot} (hl : lv_has ls 1 [(0, va_rf (some a0))]) : W p l e R s m args below meth c H locs 0 0 (MQ below (uQv G uf) args s 0 0 (uA G)) (F0 m 0 ls []) := by
  obtain ⟨⟨hx, hb, hml, hown, hts⟩, hKK⟩ := id hC
  unfold f_J18_init at h
  refine u_aload_n (r := some a0) hx hb dJ18_init_0 rfl (lv_at hl 0 rfl) ?_
  refine W.objInit hx hb hown (hts _ q1503) (hts _ q148) (hts _ q149) rfl (by rw [hml]; exact hl.1) rfl dJ18_init_1 (Nat.le_trans (Nat.le_of_ble_eq_true rfl) hR.1) (Nat.le_trans (Nat.le_of_ble_eq_true rfl) hR.2) ?_
  refine W.eq (g2 := F0 m 4 ls []) rfl ?_
  cases h
  exact u_vret hC hP hS dJ18_init_4
theorem zz_J18_init (N b : Nat) (g : uEnv) (u : UH) (a0 : Nat) (uf : UH) (h : f_J18_init N b g u a0 = some uf) : uf.1 = u.1 ∧ uf.2.1 = u.2.1 :=
  zz_J18_init_0 (G := ((fun _ => 0, fun _ _ => 0), fun _ => 0, b, g)) (a0 := a0) N u h
theorem met_J18_init (l : Launch) (N : Nat) (G : uG) (u : UH) (a0 : Nat) (uf : UH) (h : f_J18_init N (ub G) (ug G) u a0 = some uf) : Met l yJ18_init (ws_ yJ18_init cJ18_init 1 none) ({ frames := 1, cells := 0, slots := 0, locals := 20 }) (uPc G u [.ref a0]) (uQv G uf) 0 0 (uA G) := by
  exact u_met (own := RJ18) (by decide +kernel) rfl (Nat.le_of_ble_eq_true rfl) (fun hC hn hsz ls hl hP => w_J18_init_0 hC hn ⟨Nat.le_refl _, Nat.le_refl _⟩ N u h hP va_S.rf hl)
def f_J19_init (N b : Nat) (g : uEnv) (u : UH) (a0 : Nat) (x1 : Int32) : Option (UH) :=
    (f_J18_init N b g u a0).bind fun u1 =>
    (uPut b u1 a0 21 0 (.int x1)).bind fun u3 =>
    some u3
set_option maxHeartbeats 4000000 in
set_option maxRecDepth 100000 in
theorem zz_J19_init_0 {G : uG} {a0 : Nat} {uf : UH} (N : Nat) (u : UH) (x1 : Int32) (h : f_J19_init N (ub G) (ug G) u a0 x1 = some uf) : uf.1 = u.1 ∧ uf.2.1 = u.2.1 := by
  unfold f_J19_init at h
  obtain ⟨u1, c2, h⟩ := mbind_n h
  have zu1 := zz_J18_init N (ub G) (ug G) u a0 u1 c2
  obtain ⟨u3, hu3, h⟩ := mbind_n h
  have zu3 := uPut_sz hu3
  cases h
  exact ⟨by omega, by omega⟩
set_option maxHeartbeats 4000000 in
set_option maxRecDepth 100000 in
theorem w_J19_init_0 {p : Program} {l : Launch} {e : Env} {R : Room} {s : State} {m : MethodId} {args : Array Value} {below : List Frame} {meth : Method} {c : Code} {G : uG} {a0 : Nat} {uf : UH} (hC : uC p s m args meth c G RJ19 cJ19_init 2 none) (hI : meth.name = "<init>") (hR : 2 ≤ R.frames ∧ 40 ≤ R.locals) (N : Nat) (u : UH) (x1 : Int32) (h : f_J19_init N (ub G) (ug G) u a0 x1 = some uf) {H : Heap} {locs : List Loc} (hP : uP G u H) (hS : va_S (uA G) s.heap H locs) {ls : Array Slot} (hl : lv_has ls 2 [(0, va_rf (some a0)), (1, .int x1)]) : W p l e R s m args below meth c H locs 0 0 (MQ below (uQv G uf) args s 0 0 (uA G)) (F0 m 0 ls []) := by
  obtain ⟨⟨hx, hb, hml, hown, hts⟩, hKK⟩ := id hC
  unfold f_J19_init at h
  refine u_aload_n (r := some a0) hx hb dJ19_init_0 rfl (lv_at hl 0 rfl) ?_
  obtain ⟨u1, c2, h⟩ := mbind_n h
  have zu1 := zz_J18_init N (ub G) (ug G) u a0 u1 c2
  refine u_callv (va_runI (As := []) (rest := []) hC.1 (met_J18_init l N G u a0 u1 c2) (cwI 0 hts (lw_meth q1502) rfl rfl rfl (hts _ q135) (hts _ q1500) (hts _ q1501) rfl (by decide +kernel) ⟨Nat.le_trans (Nat.le_of_ble_eq_true rfl) hR.1, Nat.le_trans (Nat.le_of_ble_eq_true rfl) hR.2⟩) ⟨uPc_blind, fun U hU hW => u_pre hC hP hS hU hW⟩ rfl rfl hl.1 rfl (lv_room (Nat.le_of_ble_eq_true rfl)) dJ19_init_1 ⟨Nat.zero_le _, Nat.zero_le _⟩) hS (fun H locs hP hS => ?_)
  refine u_aload_n (r := some a0) hx hb dJ19_init_4 rfl (lv_at hl 0 rfl) ?_
  refine lv_iload_n hx hb dJ19_init_5 rfl (lv_at hl 1 rfl) ?_
  obtain ⟨u3, hu3, h⟩ := mbind_n h
  have zu3 := uPut_sz hu3
  refine u_putF hC hI hP hS hu3 rfl in_J19 tyJ19 tyJ19_ok nmJ19 (by decide) q1504 (fun _ h => h) rfl rfl (ty := .int) (tyJ19_ok 0 (by decide)) rfl rfl dJ19_init_6 (fun H locs hP hS => ?_)
  cases h
  exact u_vret hC hP hS dJ19_init_9
theorem zz_J19_init (N b : Nat) (g : uEnv) (u : UH) (a0 : Nat) (x1 : Int32) (uf : UH) (h : f_J19_init N b g u a0 x1 = some uf) : uf.1 = u.1 ∧ uf.2.1 = u.2.1 :=
  zz_J19_init_0 (G := ((fun _ => 0, fun _ _ => 0), fun _ => 0, b, g)) (a0 := a0) N u x1 h
theorem met_J19_init (l : Launch) (N : Nat) (G : uG) (u : UH) (a0 : Nat) (x1 : Int32) (uf : UH) (h : f_J19_init N (ub G) (ug G) u a0 x1 = some uf) : Met l yJ19_init (ws_ yJ19_init cJ19_init 2 none) ({ frames := 2, cells := 0, slots := 0, locals := 40 }) (uPc G u [.ref a0, .int x1]) (uQv G uf) 0 0 (uA G) := by
  exact u_met (own := RJ19) (by decide +kernel) rfl (Nat.le_of_ble_eq_true rfl) (fun hC hn hsz ls hl hP => w_J19_init_0 hC hn ⟨Nat.le_refl _, Nat.le_refl _⟩ N u x1 h hP va_S.rf hl)
def f_J19_intValue (N b : Nat) (g : uEnv) (u : UH) (a0 : Nat) : Option (Int32 × UH) :=
    (uGI u a0 21 0).bind fun y1 =>
    some (y1, u)
set_option maxHeartbeats 4000000 in
set_option maxRecDepth 100000 in
theorem zz_J19_intValue_0 {G : uG} {a0 : Nat} {uf : UH} {r : Int32} (N : Nat) (u : UH) (h : f_J19_intValue N (ub G) (ug G) u a0 = some (r, uf)) : uf.1 = u.1 ∧ uf.2.1 = u.2.1 := by
  unfold f_J19_intValue at h
  obtain ⟨y1, hy1, h⟩ := mbind_n h
  obtain ⟨hr1, hr2⟩ := uret_n h
  subst hr2
  exact ⟨by omega, by omega⟩
set_option maxHeartbeats 4000000 in
set_option maxRecDepth 100000 in
theorem w_J19_intValue_0 {p : Program} {l : Launch} {e : Env} {R : Room} {s : State} {m : MethodId} {args : Array Value} {below : List Frame} {meth : Method} {c : Code} {G : uG} {a0 : Nat} {uf : UH} {r : Int32} (hC : uC p s m args meth c G RJ19 cJ19_intValue 1 (some .int)) (hR : 0 ≤ R.frames ∧ 0 ≤ R.locals) (N : Nat) (u : UH) (h : f_J19_intValue N (ub G) (ug G) u a0 = some (r, uf)) {H : Heap} {locs : List Loc} (hP : uP G u H) (hS : va_S (uA G) s.heap H locs) {ls : Array Slot} (hl : lv_has ls 1 [(0, va_rf (some a0))]) : W p l e R s m args below meth c H locs 0 0 (MQ below (uQi G r uf) args s 0 0 (uA G)) (F0 m 0 ls []) := by
  obtain ⟨⟨hx, hb, hml, hown, hts⟩, hKK⟩ := id hC
  unfold f_J19_intValue at h
  refine u_aload_n (r := some a0) hx hb dJ19_intValue_0 rfl (lv_at hl 0 rfl) ?_
  obtain ⟨y1, hy1, h⟩ := mbind_n h
  refine u_get hC hP (uGI_n hy1) rfl in_J19 (by decide) q1504 (fun _ h => h) dJ19_intValue_1 ?_
  obtain ⟨hr1, hr2⟩ := uret_n h
  subst hr1
  subst hr2
  exact u_iret hC hP hS dJ19_intValue_4
theorem zz_J19_intValue (N b : Nat) (g : uEnv) (u : UH) (a0 : Nat) (r : Int32) (uf : UH) (h : f_J19_intValue N b g u a0 = some (r, uf)) : uf.1 = u.1 ∧ uf.2.1 = u.2.1 :=
  zz_J19_intValue_0 (G := ((fun _ => 0, fun _ _ => 0), fun _ => 0, b, g)) (a0 := a0) N u h
theorem met_J19_intValue (l : Launch) (N : Nat) (G : uG) (u : UH) (a0 : Nat) (r : Int32) (uf : UH) (h : f_J19_intValue N (ub G) (ug G) u a0 = some (r, uf)) : Met l yJ19_intValue (ws_ yJ19_intValue cJ19_intValue 1 (some .int)) ({ frames := 0, cells := 0, slots := 0, locals := 0 }) (uPc G u [.ref a0]) (uQi G r uf) 0 0 (uA G) := by
  exact u_met (own := RJ19) (by decide +kernel) rfl (Nat.le_of_ble_eq_true rfl) (fun hC hn hsz ls hl hP => w_J19_intValue_0 hC ⟨Nat.le_refl _, Nat.le_refl _⟩ N u h hP va_S.rf hl)
def f_J19_valueOf_26 (N b : Nat) (g : uEnv) (u : UH) (x0 : Int32) (s0 : Option Nat) : Option (Option Nat × UH) :=
    (s0).bind fun a1 =>
    (f_J19_init N b g u a1 x0).bind fun u2 =>
    some (some a1, u2)
set_option maxHeartbeats 4000000 in
set_option maxRecDepth 100000 in
theorem zz_J19_valueOf_26 {G : uG} {uf : UH} {r : Option Nat} (N : Nat) (u : UH) (x0 : Int32) (s0 : Option Nat) (h : f_J19_valueOf_26 N (ub G) (ug G) u x0 s0 = some (r, uf)) : uf.1 = u.1 ∧ uf.2.1 = u.2.1 := by
  unfold f_J19_valueOf_26 at h
  obtain ⟨a1, ha1, hha1⟩ := mbind_n h
  subst ha1
  have h := hha1
  obtain ⟨u2, c3, h⟩ := mbind_n h
  have zu2 := zz_J19_init N (ub G) (ug G) u a1 x0 u2 c3
  obtain ⟨hr1, hr2⟩ := uret_n h
  subst hr2
  exact ⟨by omega, by omega⟩
set_option maxHeartbeats 4000000 in
set_option maxRecDepth 100000 in
theorem w_J19_valueOf_26 {p : Program} {l : Launch} {e : Env} {R : Room} {s : State} {m : MethodId} {args : Array Value} {below : List Frame} {meth : Method} {c : Code} {G : uG} {uf : UH} {r : Option Nat} (hC : uC p s m args meth c G RJ19 cJ19_valueOf 1 (some (.object "java/lang/Integer"))) (hR : 3 ≤ R.frames ∧ 61 ≤ R.locals) (N : Nat) (u : UH) (x0 : Int32) (s0 : Option Nat) (h : f_J19_valueOf_26 N (ub G) (ug G) u x0 s0 = some (r, uf)) {H : Heap} {locs : List Loc} (hP : uP G u H) (hS : va_S (uA G) s.heap H locs) {ls : Array Slot} (hl : lv_has ls 1 [(0, .int x0)]) : W p l e R s m args below meth c H locs 0 0 (MQ below (uQr G r uf) args s 0 0 (uA G)) (F0 m 26 ls [va_rf s0]) := by
  obtain ⟨⟨hx, hb, hml, hown, hts⟩, hKK⟩ := id hC
  unfold f_J19_valueOf_26 at h
  refine lv_dup hx hb dJ19_valueOf_26 (u_cat _) ?_
  refine lv_iload_n hx hb dJ19_valueOf_27 rfl (lv_at hl 0 rfl) ?_
  obtain ⟨a1, ha1, hha1⟩ := mbind_n h
  subst ha1
  have h := hha1
  obtain ⟨u2, c3, h⟩ := mbind_n h
  have zu2 := zz_J19_init N (ub G) (ug G) u a1 x0 u2 c3
  refine u_callv (va_runI (As := [.int x0]) (rest := [va_rf (some a1)]) hC.1 (met_J19_init l N G u a1 x0 u2 c3) (cwI 1 hts (lw_meth q1499) rfl rfl rfl (hts _ q136) (hts _ q1497) (hts _ q1498) rfl (by decide +kernel) ⟨Nat.le_trans (Nat.le_of_ble_eq_true rfl) hR.1, Nat.le_trans (Nat.le_of_ble_eq_true rfl) hR.2⟩) ⟨uPc_blind, fun U hU hW => u_pre hC hP hS hU hW⟩ rfl rfl hl.1 rfl (lv_room (Nat.le_of_ble_eq_true rfl)) dJ19_valueOf_28 ⟨Nat.zero_le _, Nat.zero_le _⟩) hS (fun H locs hP hS => ?_)
  obtain ⟨hr1, hr2⟩ := uret_n h
  subst hr1
  subst hr2
  exact u_aret hC (Or.inl ⟨_, rfl⟩) hP hS dJ19_valueOf_31
def f_J19_valueOf_23 (N b : Nat) (g : uEnv) (u : UH) (x0 : Int32) : Option (Option Nat × UH) :=
    none
set_option maxHeartbeats 4000000 in
set_option maxRecDepth 100000 in
theorem zz_J19_valueOf_23 {G : uG} {uf : UH} {r : Option Nat} (N : Nat) (u : UH) (x0 : Int32) (h : f_J19_valueOf_23 N (ub G) (ug G) u x0 = some (r, uf)) : uf.1 = u.1 ∧ uf.2.1 = u.2.1 := by
  unfold f_J19_valueOf_23 at h
  cases h
set_option maxHeartbeats 4000000 in
set_option maxRecDepth 100000 in
theorem w_J19_valueOf_23 {p : Program} {l : Launch} {e : Env} {R : Room} {s : State} {m : MethodId} {args : Array Value} {below : List Frame} {meth : Method} {c : Code} {G : uG} {uf : UH} {r : Option Nat} (hC : uC p s m args meth c G RJ19 cJ19_valueOf 1 (some (.object "java/lang/Integer"))) (hR : 3 ≤ R.frames ∧ 61 ≤ R.locals) (N : Nat) (u : UH) (x0 : Int32) (h : f_J19_valueOf_23 N (ub G) (ug G) u x0 = some (r, uf)) {H : Heap} {locs : List Loc} (hP : uP G u H) (hS : va_S (uA G) s.heap H locs) {ls : Array Slot} (hl : lv_has ls 1 [(0, .int x0)]) : W p l e R s m args below meth c H locs 0 0 (MQ below (uQr G r uf) args s 0 0 (uA G)) (F0 m 23 ls []) := by
  obtain ⟨⟨hx, hb, hml, hown, hts⟩, hKK⟩ := id hC
  unfold f_J19_valueOf_23 at h
  cases h
def f_J19_valueOf (N b : Nat) (g : uEnv) (u : UH) (x0 : Int32) : Option (Option Nat × UH) :=
    if x0 < (-128) then
    f_J19_valueOf_23 N b g u x0
    else
    if 127 < x0 then
    f_J19_valueOf_23 N b g u x0
    else
    mlet (g.1 11) fun o3 =>
    (o3).bind fun a4 =>
    if mIn (x0 + 128) 256 = true then
    mlet (g.2.2 (x0 + 128).toNatClampNeg) fun a6 =>
    some (some a6, u)
    else none
set_option maxHeartbeats 4000000 in
set_option maxRecDepth 100000 in
theorem zz_J19_valueOf_0 {G : uG} {uf : UH} {r : Option Nat} (N : Nat) (u : UH) (x0 : Int32) (h : f_J19_valueOf N (ub G) (ug G) u x0 = some (r, uf)) : uf.1 = u.1 ∧ uf.2.1 = u.2.1 := by
  unfold f_J19_valueOf at h
  by_cases c1 : x0 < (-128)
  · have h := mif_t c1 h
    have hq := zz_J19_valueOf_23 (G := G) N u x0 h
    exact ⟨by omega, by omega⟩
  · have h := mif_f c1 h
    by_cases c2 : 127 < x0
    · have h := mif_t c2 h
      have hq := zz_J19_valueOf_23 (G := G) N u x0 h
      exact ⟨by omega, by omega⟩
    · have h := mif_f c2 h
      obtain ⟨o3, eo3⟩ : ∃ z, z = (ug G).1 11 := ⟨_, rfl⟩
      have h := mlet_at eo3 h
      obtain ⟨a4, ha4, hha4⟩ := mbind_n h
      subst ha4
      have h := hha4
      obtain ⟨c5, h⟩ := mif_n h
      obtain ⟨a6, ea6⟩ : ∃ z, z = (ug G).2.2 (x0 + 128).toNatClampNeg := ⟨_, rfl⟩
      have h := mlet_at ea6 h
      obtain ⟨hr1, hr2⟩ := uret_n h
      subst hr2
      exact ⟨by omega, by omega⟩
set_option maxHeartbeats 4000000 in
set_option maxRecDepth 100000 in
theorem w_J19_valueOf_0 {p : Program} {l : Launch} {e : Env} {R : Room} {s : State} {m : MethodId} {args : Array Value} {below : List Frame} {meth : Method} {c : Code} {G : uG} {uf : UH} {r : Option Nat} (hC : uC p s m args meth c G RJ19 cJ19_valueOf 1 (some (.object "java/lang/Integer"))) (hR : 3 ≤ R.frames ∧ 61 ≤ R.locals) (N : Nat) (u : UH) (x0 : Int32) (h : f_J19_valueOf N (ub G) (ug G) u x0 = some (r, uf)) {H : Heap} {locs : List Loc} (hP : uP G u H) (hS : va_S (uA G) s.heap H locs) {ls : Array Slot} (hl : lv_has ls 1 [(0, .int x0)]) : W p l e R s m args below meth c H locs 0 0 (MQ below (uQr G r uf) args s 0 0 (uA G)) (F0 m 0 ls []) := by
  obtain ⟨⟨hx, hb, hml, hown, hts⟩, hKK⟩ := id hC
  unfold f_J19_valueOf at h
  refine lv_iload_n hx hb dJ19_valueOf_0 rfl (lv_at hl 0 rfl) ?_
  refine lv_bipush (v := (-128)) hx hb dJ19_valueOf_1 (by decide) ?_
  refine lv_icmp_lt (tgt := 23) hx hb dJ19_valueOf_3 (by decide) (fun c1 => ?_) (fun c1 => ?_)
  · have h := mif_t c1 h
    exact w_J19_valueOf_23 hC hR N u x0 h hP hS (lv_sub hl [0] rfl)
  · have h := mif_f c1 h
    refine lv_iload_n hx hb dJ19_valueOf_6 rfl (lv_at hl 0 rfl) ?_
    refine u_getsH hC hS q1491 (fun _ h => h) dJ19_valueOf_7 ?_
    refine lv_icmp_gt (tgt := 23) hx hb dJ19_valueOf_10 (by decide) (fun c2 => ?_) (fun c2 => ?_)
    · have h := mif_t c2 h
      exact w_J19_valueOf_23 hC hR N u x0 h hP hS (lv_sub hl [0] rfl)
    · have h := mif_f c2 h
      refine u_gets hC hS 11 rfl q1493 (fun _ h => h) dJ19_valueOf_13 ?_
      obtain ⟨o3, eo3⟩ : ∃ z, z = (ug G).1 11 := ⟨_, rfl⟩
      have h := mlet_at eo3 h
      rw [← eo3]
      refine lv_iload_n hx hb dJ19_valueOf_16 rfl (lv_at hl 0 rfl) ?_
      refine lv_sipush (v := 128) hx hb dJ19_valueOf_17 (by decide) ?_
      refine lv_iadd hx hb dJ19_valueOf_20 ?_
      obtain ⟨a4, ha4, hha4⟩ := mbind_n h
      subst ha4
      have h := hha4
      obtain ⟨c5, h⟩ := mif_n h
      refine u_cach hC hS eo3.symm c5 dJ19_valueOf_21 ?_
      obtain ⟨a6, ea6⟩ : ∃ z, z = (ug G).2.2 (x0 + 128).toNatClampNeg := ⟨_, rfl⟩
      have h := mlet_at ea6 h
      rw [← ea6]
      obtain ⟨hr1, hr2⟩ := uret_n h
      subst hr1
      subst hr2
      exact u_aret hC (Or.inl ⟨_, rfl⟩) hP hS dJ19_valueOf_22
theorem zz_J19_valueOf (N b : Nat) (g : uEnv) (u : UH) (x0 : Int32) (r : Option Nat) (uf : UH) (h : f_J19_valueOf N b g u x0 = some (r, uf)) : uf.1 = u.1 ∧ uf.2.1 = u.2.1 :=
  zz_J19_valueOf_0 (G := ((fun _ => 0, fun _ _ => 0), fun _ => 0, b, g)) N u x0 h
theorem met_J19_valueOf (l : Launch) (N : Nat) (G : uG) (u : UH) (x0 : Int32) (r : Option Nat) (uf : UH) (h : f_J19_valueOf N (ub G) (ug G) u x0 = some (r, uf)) : Met l yJ19_valueOf (ws_ yJ19_valueOf cJ19_valueOf 1 (some (.object "java/lang/Integer"))) ({ frames := 3, cells := 0, slots := 0, locals := 61 }) (uPc G u [.int x0]) (uQr G r uf) 0 0 (uA G) := by
  exact u_met (own := RJ19) (by decide +kernel) rfl (Nat.le_of_ble_eq_true rfl) (fun hC hn hsz ls hl hP => w_J19_valueOf_0 hC ⟨Nat.le_refl _, Nat.le_refl _⟩ N u x0 h hP va_S.rf hl)
def f_J8_hugeLength (N b : Nat) (g : uEnv) (u : UH) (x0 : Int32) (x1 : Int32) : Option (Int32 × UH) :=
    mlet (x0 + x1) fun y1 =>
    if 0 ≤ y1 then
    if 2147483639 < y1 then
    some (y1, u)
    else
    some (2147483639, u)
    else
    none
set_option maxHeartbeats 4000000 in
set_option maxRecDepth 100000 in
theorem zz_J8_hugeLength_0 {G : uG} {uf : UH} {r : Int32} (N : Nat) (u : UH) (x0 : Int32) (x1 : Int32) (h : f_J8_hugeLength N (ub G) (ug G) u x0 x1 = some (r, uf)) : uf.1 = u.1 ∧ uf.2.1 = u.2.1 := by
  unfold f_J8_hugeLength at h
  obtain ⟨y1, ey1⟩ : ∃ z, z = x0 + x1 := ⟨_, rfl⟩
  have h := mlet_at ey1 h
  by_cases c2 : 0 ≤ y1
  · have h := mif_t c2 h
    by_cases c3 : 2147483639 < y1
    · have h := mif_t c3 h
      obtain ⟨hr1, hr2⟩ := uret_n h
      subst hr2
      exact ⟨by omega, by omega⟩
    · have h := mif_f c3 h
      obtain ⟨hr1, hr2⟩ := uret_n h
      subst hr2
      exact ⟨by omega, by omega⟩
  · have h := mif_f c2 h
    cases h
set_option maxHeartbeats 4000000 in
set_option maxRecDepth 100000 in
theorem w_J8_hugeLength_0 {p : Program} {l : Launch} {e : Env} {R : Room} {s : State} {m : MethodId} {args : Array Value} {below : List Frame} {meth : Method} {c : Code} {G : uG} {uf : UH} {r : Int32} (hC : uC p s m args meth c G RJ8 cJ8_hugeLength 3 (some .int)) (hR : 0 ≤ R.frames ∧ 0 ≤ R.locals) (N : Nat) (u : UH) (x0 : Int32) (x1 : Int32) (h : f_J8_hugeLength N (ub G) (ug G) u x0 x1 = some (r, uf)) {H : Heap} {locs : List Loc} (hP : uP G u H) (hS : va_S (uA G) s.heap H locs) {ls : Array Slot} (hl : lv_has ls 3 [(0, .int x0), (1, .int x1)]) : W p l e R s m args below meth c H locs 0 0 (MQ below (uQi G r uf) args s 0 0 (uA G)) (F0 m 0 ls []) := by
  obtain ⟨⟨hx, hb, hml, hown, hts⟩, hKK⟩ := id hC
  unfold f_J8_hugeLength at h
  refine lv_iload_n hx hb dJ8_hugeLength_0 rfl (lv_at hl 0 rfl) ?_
  refine lv_iload_n hx hb dJ8_hugeLength_1 rfl (lv_at hl 1 rfl) ?_
  refine lv_iadd hx hb dJ8_hugeLength_2 ?_
  refine lv_topi (fun y1 ey1 => ?_)
  have h := mlet_at ey1 h
  refine lv_istore_n (i := 2) (lv' := [(2, .int y1), (0, .int x0), (1, .int x1)]) hx hb dJ8_hugeLength_3 rfl hl (by decide) rfl (fun ls hl => ?_)
  refine lv_iload_n hx hb dJ8_hugeLength_4 rfl (lv_at hl 0 rfl) ?_
  refine lv_if_ge (tgt := 49) hx hb dJ8_hugeLength_5 (by decide) (fun c2 => ?_) (fun c2 => ?_)
  · have h := mif_t c2 h
    refine lv_iload_n hx hb dJ8_hugeLength_49 rfl (lv_at hl 0 rfl) ?_
    refine lv_ldc hx hb hown (hts _ q410) dJ8_hugeLength_50 ?_
    refine lv_icmp_gt (tgt := 58) hx hb dJ8_hugeLength_52 (by decide) (fun c3 => ?_) (fun c3 => ?_)
    · have h := mif_t c3 h
      refine lv_iload_n hx hb dJ8_hugeLength_58 rfl (lv_at hl 0 rfl) ?_
      obtain ⟨hr1, hr2⟩ := uret_n h
      subst hr1
      subst hr2
      exact u_iret hC hP hS dJ8_hugeLength_59
    · have h := mif_f c3 h
      refine lv_ldc hx hb hown (hts _ q410) dJ8_hugeLength_55 ?_
      obtain ⟨hr1, hr2⟩ := uret_n h
      subst hr1
      subst hr2
      exact u_iret hC hP hS dJ8_hugeLength_57
  · have h := mif_f c2 h
    cases h
theorem zz_J8_hugeLength (N b : Nat) (g : uEnv) (u : UH) (x0 : Int32) (x1 : Int32) (r : Int32) (uf : UH) (h : f_J8_hugeLength N b g u x0 x1 = some (r, uf)) : uf.1 = u.1 ∧ uf.2.1 = u.2.1 :=
  zz_J8_hugeLength_0 (G := ((fun _ => 0, fun _ _ => 0), fun _ => 0, b, g)) N u x0 x1 h
theorem met_J8_hugeLength (l : Launch) (N : Nat) (G : uG) (u : UH) (x0 : Int32) (x1 : Int32) (r : Int32) (uf : UH) (h : f_J8_hugeLength N (ub G) (ug G) u x0 x1 = some (r, uf)) : Met l yJ8_hugeLength (ws_ yJ8_hugeLength cJ8_hugeLength 3 (some .int)) ({ frames := 0, cells := 0, slots := 0, locals := 0 }) (uPc G u [.int x0, .int x1]) (uQi G r uf) 0 0 (uA G) := by
  exact u_met (own := RJ8) (by decide +kernel) rfl (Nat.le_of_ble_eq_true rfl) (fun hC hn hsz ls hl hP => w_J8_hugeLength_0 hC ⟨Nat.le_refl _, Nat.le_refl _⟩ N u x0 x1 h hP va_S.rf hl)
def f_J8_newLength_21 (N b : Nat) (g : uEnv) (u : UH) (x0 : Int32) (x1 : Int32) : Option (Int32 × UH) :=
    ucall (f_J8_hugeLength N b g u x0 x1) fun r3 u1 =>
    some (r3, u1)
set_option maxHeartbeats 4000000 in
set_option maxRecDepth 100000 in
theorem zz_J8_newLength_21 {G : uG} {uf : UH} {r : Int32} (N : Nat) (u : UH) (x0 : Int32) (x1 : Int32) (h : f_J8_newLength_21 N (ub G) (ug G) u x0 x1 = some (r, uf)) : uf.1 = u.1 ∧ uf.2.1 = u.2.1 := by
  unfold f_J8_newLength_21 at h
  obtain ⟨r3, u1, c2, h⟩ := ucall_n h
  have zu1 := zz_J8_hugeLength N (ub G) (ug G) u x0 x1 r3 u1 c2
  obtain ⟨hr1, hr2⟩ := uret_n h
  subst hr2
  exact ⟨by omega, by omega⟩
set_option maxHeartbeats 4000000 in
set_option maxRecDepth 100000 in
theorem w_J8_newLength_21 {p : Program} {l : Launch} {e : Env} {R : Room} {s : State} {m : MethodId} {args : Array Value} {below : List Frame} {meth : Method} {c : Code} {G : uG} {uf : UH} {r : Int32} (hC : uC p s m args meth c G RJ8 cJ8_newLength 4 (some .int)) (hR : 1 ≤ R.frames ∧ 22 ≤ R.locals) (N : Nat) (u : UH) (x0 : Int32) (x1 : Int32) (h : f_J8_newLength_21 N (ub G) (ug G) u x0 x1 = some (r, uf)) {H : Heap} {locs : List Loc} (hP : uP G u H) (hS : va_S (uA G) s.heap H locs) {ls : Array Slot} (hl : lv_has ls 4 [(0, .int x0), (1, .int x1)]) : W p l e R s m args below meth c H locs 0 0 (MQ below (uQi G r uf) args s 0 0 (uA G)) (F0 m 21 ls []) := by
  obtain ⟨⟨hx, hb, hml, hown, hts⟩, hKK⟩ := id hC
  unfold f_J8_newLength_21 at h
  refine lv_iload_n hx hb dJ8_newLength_21 rfl (lv_at hl 0 rfl) ?_
  refine lv_iload_n hx hb dJ8_newLength_22 rfl (lv_at hl 1 rfl) ?_
  obtain ⟨r3, u1, c2, h⟩ := ucall_n h
  have zu1 := zz_J8_hugeLength N (ub G) (ug G) u x0 x1 r3 u1 c2
  refine u_calli (va_runS (As := [.int x0, .int x1]) (rest := []) hC.1 (met_J8_hugeLength l N G u x0 x1 r3 u1 c2) (va_cwS 2 hts (lw_S q411 q412 q112 q413) rfl rfl rfl (by decide +kernel) ⟨Nat.le_trans (Nat.le_of_ble_eq_true rfl) hR.1, Nat.le_trans (Nat.le_of_ble_eq_true rfl) hR.2⟩) ⟨uPc_blind, fun U hU hW => u_pre hC hP hS hU hW⟩ rfl rfl hl.1 rfl (lv_room (Nat.le_of_ble_eq_true rfl)) dJ8_newLength_23 ⟨Nat.zero_le _, Nat.zero_le _⟩) hS (fun H locs hP hS => ?_)
  obtain ⟨hr1, hr2⟩ := uret_n h
  subst hr1
  subst hr2
  exact u_iret hC hP hS dJ8_newLength_26
def f_J8_newLength (N b : Nat) (g : uEnv) (u : UH) (x0 : Int32) (x1 : Int32) (x2 : Int32) : Option (Int32 × UH) :=
    ucall (f_J9_max N b g u x1 x2) fun r3 u1 =>
    mlet (x0 + r3) fun y4 =>
    if y4 ≤ (0 : Int32) then
    f_J8_newLength_21 N b g u1 x0 x1
    else
    if 2147483639 < y4 then
    f_J8_newLength_21 N b g u1 x0 x1
    else
    some (y4, u1)
set_option maxHeartbeats 4000000 in
set_option maxRecDepth 100000 in
theorem zz_J8_newLength_0 {G : uG} {uf : UH} {r : Int32} (N : Nat) (u : UH) (x0 : Int32) (x1 : Int32) (x2 : Int32) (h : f_J8_newLength N (ub G) (ug G) u x0 x1 x2 = some (r, uf)) : uf.1 = u.1 ∧ uf.2.1 = u.2.1 := by
  unfold f_J8_newLength at h
  obtain ⟨r3, u1, c2, h⟩ := ucall_n h
  have zu1 := zz_J9_max N (ub G) (ug G) u x1 x2 r3 u1 c2
  obtain ⟨y4, ey4⟩ : ∃ z, z = x0 + r3 := ⟨_, rfl⟩
  have h := mlet_at ey4 h
  by_cases c5 : y4 ≤ (0 : Int32)
  · have h := mif_t c5 h
    have hq := zz_J8_newLength_21 (G := G) N u1 x0 x1 h
    exact ⟨by omega, by omega⟩
  · have h := mif_f c5 h
    by_cases c6 : 2147483639 < y4
    · have h := mif_t c6 h
      have hq := zz_J8_newLength_21 (G := G) N u1 x0 x1 h
      exact ⟨by omega, by omega⟩
    · have h := mif_f c6 h
      obtain ⟨hr1, hr2⟩ := uret_n h
      subst hr2
      exact ⟨by omega, by omega⟩
set_option maxHeartbeats 4000000 in
set_option maxRecDepth 100000 in
theorem w_J8_newLength_0 {p : Program} {l : Launch} {e : Env} {R : Room} {s : State} {m : MethodId} {args : Array Value} {below : List Frame} {meth : Method} {c : Code} {G : uG} {uf : UH} {r : Int32} (hC : uC p s m args meth c G RJ8 cJ8_newLength 4 (some .int)) (hR : 1 ≤ R.frames ∧ 22 ≤ R.locals) (N : Nat) (u : UH) (x0 : Int32) (x1 : Int32) (x2 : Int32) (h : f_J8_newLength N (ub G) (ug G) u x0 x1 x2 = some (r, uf)) {H : Heap} {locs : List Loc} (hP : uP G u H) (hS : va_S (uA G) s.heap H locs) {ls : Array Slot} (hl : lv_has ls 4 [(0, .int x0), (1, .int x1), (2, .int x2)]) : W p l e R s m args below meth c H locs 0 0 (MQ below (uQi G r uf) args s 0 0 (uA G)) (F0 m 0 ls []) := by
  obtain ⟨⟨hx, hb, hml, hown, hts⟩, hKK⟩ := id hC
  unfold f_J8_newLength at h
  refine lv_iload_n hx hb dJ8_newLength_0 rfl (lv_at hl 0 rfl) ?_
  refine lv_iload_n hx hb dJ8_newLength_1 rfl (lv_at hl 1 rfl) ?_
  refine lv_iload_n hx hb dJ8_newLength_2 rfl (lv_at hl 2 rfl) ?_
  obtain ⟨r3, u1, c2, h⟩ := ucall_n h
  have zu1 := zz_J9_max N (ub G) (ug G) u x1 x2 r3 u1 c2
  refine u_calli (va_runS (As := [.int x1, .int x2]) (rest := [.int x0]) hC.1 (met_J9_max l N G u x1 x2 r3 u1 c2) (va_cwS 2 hts (lw_S q407 q408 q113 q409) rfl rfl rfl (by decide +kernel) ⟨Nat.le_trans (Nat.le_of_ble_eq_true rfl) hR.1, Nat.le_trans (Nat.le_of_ble_eq_true rfl) hR.2⟩) ⟨uPc_blind, fun U hU hW => u_pre hC hP hS hU hW⟩ rfl rfl hl.1 rfl (lv_room (Nat.le_of_ble_eq_true rfl)) dJ8_newLength_3 ⟨Nat.zero_le _, Nat.zero_le _⟩) hS (fun H locs hP hS => ?_)
  refine lv_iadd hx hb dJ8_newLength_6 ?_
  refine lv_topi (fun y4 ey4 => ?_)
  have h := mlet_at ey4 h
  refine lv_istore_n (i := 3) (lv' := [(3, .int y4), (0, .int x0), (1, .int x1), (2, .int x2)]) hx hb dJ8_newLength_7 rfl hl (by decide) rfl (fun ls hl => ?_)
  refine lv_iconst (v := 0) hx hb dJ8_newLength_8 (by decide) ?_
  refine lv_iload_n hx hb dJ8_newLength_9 rfl (lv_at hl 0 rfl) ?_
  refine lv_icmp_ge (tgt := 21) hx hb dJ8_newLength_10 (by decide) (fun c5 => ?_) (fun c5 => ?_)
  · have h := mif_t c5 h
    exact w_J8_newLength_21 hC hR N u1 x0 x1 h hP hS (lv_sub hl [1, 2] rfl)
  · have h := mif_f c5 h
    refine lv_iload_n hx hb dJ8_newLength_13 rfl (lv_at hl 0 rfl) ?_
    refine lv_ldc hx hb hown (hts _ q410) dJ8_newLength_14 ?_
    refine lv_icmp_gt (tgt := 21) hx hb dJ8_newLength_16 (by decide) (fun c6 => ?_) (fun c6 => ?_)
    · have h := mif_t c6 h
      exact w_J8_newLength_21 hC hR N u1 x0 x1 h hP hS (lv_sub hl [1, 2] rfl)
    · have h := mif_f c6 h
      refine lv_iload_n hx hb dJ8_newLength_19 rfl (lv_at hl 0 rfl) ?_
      obtain ⟨hr1, hr2⟩ := uret_n h
      subst hr1
      subst hr2
      exact u_iret hC hP hS dJ8_newLength_20
theorem zz_J8_newLength (N b : Nat) (g : uEnv) (u : UH) (x0 : Int32) (x1 : Int32) (x2 : Int32) (r : Int32) (uf : UH) (h : f_J8_newLength N b g u x0 x1 x2 = some (r, uf)) : uf.1 = u.1 ∧ uf.2.1 = u.2.1 :=
  zz_J8_newLength_0 (G := ((fun _ => 0, fun _ _ => 0), fun _ => 0, b, g)) N u x0 x1 x2 h
theorem met_J8_newLength (l : Launch) (N : Nat) (G : uG) (u : UH) (x0 : Int32) (x1 : Int32) (x2 : Int32) (r : Int32) (uf : UH) (h : f_J8_newLength N (ub G) (ug G) u x0 x1 x2 = some (r, uf)) : Met l yJ8_newLength (ws_ yJ8_newLength cJ8_newLength 4 (some .int)) ({ frames := 1, cells := 0, slots := 0, locals := 22 }) (uPc G u [.int x0, .int x1, .int x2]) (uQi G r uf) 0 0 (uA G) := by
  exact u_met (own := RJ8) (by decide +kernel) rfl (Nat.le_of_ble_eq_true rfl) (fun hC hn hsz ls hl hP => w_J8_newLength_0 hC ⟨Nat.le_refl _, Nat.le_refl _⟩ N u x0 x1 x2 h hP va_S.rf hl)
def f_J2_clear_27 (N b : Nat) (g : uEnv) (a0 : Nat) : Nat → UH → Option Nat → Int32 → Int32 → Option (UH)
  | 0, _, _, _, _ => none
  | n + 1, u, x1, x2, x3 =>
    if x2 ≤ x3 then
    some u
    else
    (x1).bind fun a2 =>
    (uStR b u a2 4 x3 none).bind fun u3 =>
    mlet (x3 + 1) fun y4 =>
    f_J2_clear_27 N b g a0 n u3 (some a2) x2 y4
set_option maxHeartbeats 4000000 in
set_option maxRecDepth 100000 in
theorem zz_J2_clear_27 {G : uG} {a0 : Nat} {uf : UH} (N : Nat) : ∀ (n : Nat) (u : UH) (x1 : Option Nat) (x2 : Int32) (x3 : Int32), f_J2_clear_27 N (ub G) (ug G) a0 n u x1 x2 x3 = some uf → uf.1 = u.1 ∧ uf.2.1 = u.2.1 := by
  intro n
  induction n with
  | zero =>
    intro u x1 x2 x3 h
    cases h
  | succ n ih =>
    intro u x1 x2 x3 h
    unfold f_J2_clear_27 at h
    by_cases c1 : x2 ≤ x3
    · have h := mif_t c1 h
      cases h
      exact ⟨by omega, by omega⟩
    · have h := mif_f c1 h
      obtain ⟨a2, ha2, hha2⟩ := mbind_n h
      subst ha2
      have h := hha2
      obtain ⟨u3, hu3, h⟩ := mbind_n h
      have zu3 := uStR_sz hu3
      obtain ⟨y4, ey4⟩ : ∃ z : Int32, z = x3 + 1 := ⟨_, rfl⟩
      have h := mlet_at ey4 h
      have hq := ih u3 (some a2) x2 y4 h
      exact ⟨by omega, by omega⟩
set_option maxHeartbeats 4000000 in
set_option maxRecDepth 100000 in
theorem w_J2_clear_27 {p : Program} {l : Launch} {e : Env} {R : Room} {s : State} {m : MethodId} {args : Array Value} {below : List Frame} {meth : Method} {c : Code} {G : uG} {a0 : Nat} {uf : UH} (hC : uC p s m args meth c G RJ2 cJ2_clear 4 none) (hR : 0 ≤ R.frames ∧ 0 ≤ R.locals) (N : Nat) : ∀ (n : Nat) (u : UH) (x1 : Option Nat) (x2 : Int32) (x3 : Int32), f_J2_clear_27 N (ub G) (ug G) a0 n u x1 x2 x3 = some uf → ∀ (H : Heap) (locs : List Loc), uP G u H → va_S (uA G) s.heap H locs → ∀ ls : Array Slot, lv_has ls 4 [(1, va_rf x1), (2, .int x2), (3, .int x3)] → W p l e R s m args below meth c H locs 0 0 (MQ below (uQv G uf) args s 0 0 (uA G)) (F0 m 27 ls []) := by
  obtain ⟨⟨hx, hb, hml, hown, hts⟩, hKK⟩ := id hC
  intro n
  induction n with
  | zero =>
    intro u x1 x2 x3 h
    cases h
  | succ n ih =>
    intro u x1 x2 x3 h H locs hP hS ls hl
    unfold f_J2_clear_27 at h
    refine lv_iload_n hx hb dJ2_clear_27 rfl (lv_at hl 2 rfl) ?_
    refine lv_iload_n hx hb dJ2_clear_28 rfl (lv_at hl 1 rfl) ?_
    refine lv_icmp_ge (tgt := 42) hx hb dJ2_clear_29 (by decide) (fun c1 => ?_) (fun c1 => ?_)
    · have h := mif_t c1 h
      cases h
      exact u_vret hC hP hS dJ2_clear_42
    · have h := mif_f c1 h
      refine u_aload_n (r := x1) hx hb dJ2_clear_32 rfl (lv_at hl 0 rfl) ?_
      refine lv_iload_n hx hb dJ2_clear_33 rfl (lv_at hl 2 rfl) ?_
      refine lv_null hx hb dJ2_clear_34 ?_
      obtain ⟨a2, ha2, hha2⟩ := mbind_n h
      subst ha2
      have h := hha2
      obtain ⟨u3, hu3, h⟩ := mbind_n h
      have zu3 := uStR_sz hu3
      refine u_aastN hC hP hS hu3 rfl dJ2_clear_35 (fun H locs hP hS => ?_)
      obtain ⟨y4, ey4⟩ : ∃ z : Int32, z = x3 + 1 := ⟨_, rfl⟩
      have h := mlet_at ey4 h
      refine lv_iinc (v := y4) (lv' := [(3, .int y4), (1, va_rf (some a2)), (2, .int x2)]) hx hb dJ2_clear_36 hl (k := 2) rfl (by rw [ey4]; rfl) (by decide) rfl (fun ls hl => ?_)
      refine lv_goto (tgt := 27) hx hb dJ2_clear_39 (by decide) ?_
      exact ih u3 (some a2) x2 y4 h _ _ hP hS _ (lv_sub hl [1, 2, 0] rfl)
def f_J2_clear (N b : Nat) (g : uEnv) (u : UH) (a0 : Nat) : Option (UH) :=
    (uGI u a0 18 0).bind fun y1 =>
    (uPut b u a0 18 0 (.int (y1 + 1))).bind fun u2 =>
    (uGR u2 a0 18 1).bind fun o3 =>
    (uGI u2 a0 18 2).bind fun y4 =>
    (uPut b u2 a0 18 2 (.int 0)).bind fun u5 =>
    f_J2_clear_27 N b g a0 N u5 o3 y4 0
set_option maxHeartbeats 4000000 in
set_option maxRecDepth 100000 in
theorem zz_J2_clear_0 {G : uG} {a0 : Nat} {uf : UH} (N : Nat) (u : UH) (h : f_J2_clear N (ub G) (ug G) u a0 = some uf) : uf.1 = u.1 ∧ uf.2.1 = u.2.1 := by
  unfold f_J2_clear at h
  obtain ⟨y1, hy1, h⟩ := mbind_n h
  obtain ⟨u2, hu2, h⟩ := mbind_n h
  have zu2 := uPut_sz hu2
  obtain ⟨o3, ho3, h⟩ := mbind_n h
  obtain ⟨y4, hy4, h⟩ := mbind_n h
  obtain ⟨u5, hu5, h⟩ := mbind_n h
  have zu5 := uPut_sz hu5
  have hq := zz_J2_clear_27 (G := G) (a0 := a0) N N u5 o3 y4 0 h
  exact ⟨by omega, by omega⟩
set_option maxHeartbeats 4000000 in
set_option maxRecDepth 100000 in
theorem w_J2_clear_0 {p : Program} {l : Launch} {e : Env} {R : Room} {s : State} {m : MethodId} {args : Array Value} {below : List Frame} {meth : Method} {c : Code} {G : uG} {a0 : Nat} {uf : UH} (hC : uC p s m args meth c G RJ2 cJ2_clear 4 none) (hR : 0 ≤ R.frames ∧ 0 ≤ R.locals) (N : Nat) (u : UH) (h : f_J2_clear N (ub G) (ug G) u a0 = some uf) {H : Heap} {locs : List Loc} (hP : uP G u H) (hS : va_S (uA G) s.heap H locs) {ls : Array Slot} (hl : lv_has ls 4 [(0, va_rf (some a0))]) : W p l e R s m args below meth c H locs 0 0 (MQ below (uQv G uf) args s 0 0 (uA G)) (F0 m 0 ls []) := by
  obtain ⟨⟨hx, hb, hml, hown, hts⟩, hKK⟩ := id hC
  unfold f_J2_clear at h
  refine u_aload_n (r := some a0) hx hb dJ2_clear_0 rfl (lv_at hl 0 rfl) ?_
  refine lv_dup hx hb dJ2_clear_1 (u_cat _) ?_
  obtain ⟨y1, hy1, h⟩ := mbind_n h
  refine u_get hC hP (uGI_n hy1) rfl in_J2 (by decide) q206 (fun x h => u_same (hts _ q207) x h) dJ2_clear_2 ?_
  refine lv_iconst (v := 1) hx hb dJ2_clear_5 (by decide) ?_
  refine lv_iadd hx hb dJ2_clear_6 ?_
  obtain ⟨u2, hu2, h⟩ := mbind_n h
  have zu2 := uPut_sz hu2
  refine u_put hC hP hS hu2 rfl in_J2 tyJ2 tyJ2_ok nmJ2 (by decide) q206 (fun x h => u_same (hts _ q207) x h) rfl (ty := .int) (tyJ2_ok 0 (by decide)) rfl rfl dJ2_clear_7 (fun H locs hP hS => ?_)
  refine u_aload_n (r := some a0) hx hb dJ2_clear_10 rfl (lv_at hl 0 rfl) ?_
  obtain ⟨o3, ho3, h⟩ := mbind_n h
  refine u_get hC hP (uGR_n ho3) rfl in_J2 (by decide) q203 (fun _ h => h) dJ2_clear_11 ?_
  refine u_astore_n (i := 1) (r := o3) (lv' := [(1, va_rf o3), (0, va_rf (some a0))]) hx hb dJ2_clear_14 rfl hl (by decide) rfl (fun ls hl => ?_)
  refine u_aload_n (r := some a0) hx hb dJ2_clear_15 rfl (lv_at hl 1 rfl) ?_
  obtain ⟨y4, hy4, h⟩ := mbind_n h
  refine u_get hC hP (uGI_n hy4) rfl in_J2 (by decide) q204 (fun _ h => h) dJ2_clear_16 ?_
  refine lv_istore_n (i := 2) (lv' := [(2, .int y4), (1, va_rf o3), (0, va_rf (some a0))]) hx hb dJ2_clear_19 rfl hl (by decide) (by simp [List.filter_cons, u_cat]) (fun ls hl => ?_)
  refine u_aload_n (r := some a0) hx hb dJ2_clear_20 rfl (lv_at hl 2 rfl) ?_
  refine lv_iconst (v := 0) hx hb dJ2_clear_21 (by decide) ?_
  refine lv_dup_x1 hx hb dJ2_clear_22 rfl (u_cat _) ?_
  obtain ⟨u5, hu5, h⟩ := mbind_n h
  have zu5 := uPut_sz hu5
  refine u_put hC hP hS hu5 rfl in_J2 tyJ2 tyJ2_ok nmJ2 (by decide) q204 (fun _ h => h) rfl (ty := .int) (tyJ2_ok 2 (by decide)) rfl rfl dJ2_clear_23 (fun H locs hP hS => ?_)
  refine lv_istore_n (i := 3) (lv' := [(3, .int 0), (2, .int y4), (1, va_rf o3), (0, va_rf (some a0))]) hx hb dJ2_clear_26 rfl hl (by decide) rfl (fun ls hl => ?_)
  exact w_J2_clear_27 hC hR N N u5 o3 y4 0 h _ _ hP hS _ (lv_sub hl [2, 1, 0] rfl)
theorem zz_J2_clear (N b : Nat) (g : uEnv) (u : UH) (a0 : Nat) (uf : UH) (h : f_J2_clear N b g u a0 = some uf) : uf.1 = u.1 ∧ uf.2.1 = u.2.1 :=
  zz_J2_clear_0 (G := ((fun _ => 0, fun _ _ => 0), fun _ => 0, b, g)) (a0 := a0) N u h
theorem met_J2_clear (l : Launch) (N : Nat) (G : uG) (u : UH) (a0 : Nat) (uf : UH) (h : f_J2_clear N (ub G) (ug G) u a0 = some uf) : Met l yJ2_clear (ws_ yJ2_clear cJ2_clear 4 none) ({ frames := 0, cells := 0, slots := 0, locals := 0 }) (uPc G u [.ref a0]) (uQv G uf) 0 0 (uA G) := by
  exact u_met (own := RJ2) (by decide +kernel) rfl (Nat.le_of_ble_eq_true rfl) (fun hC hn hsz ls hl hP => w_J2_clear_0 hC ⟨Nat.le_refl _, Nat.le_refl _⟩ N u h hP va_S.rf hl)
def f_J4_newCapacity (N b : Nat) (g : uEnv) (u : UH) (a0 : Nat) (x1 : Int32) : Option (Int32 × UH) :=
    (uGR u a0 19 0).bind fun o1 =>
    (o1).bind fun a2 =>
    (uLen u a2 1).bind fun y3 =>
    (uGI u a0 19 1).bind fun y4 =>
    mlet (x1 <<< (y4 &&& 31)) fun y5 =>
    mlet (y5 - y3) fun y6 =>
    (uGI u a0 19 1).bind fun y7 =>
    ucall (f_J8_newLength N b g u y3 y6 (y3 + (2 <<< (y7 &&& 31)))) fun r10 u8 =>
    if r10 = 2147483647 then
    none
    else
    (uGI u8 a0 19 1).bind fun y12 =>
    some (r10 >>> (y12 &&& 31), u8)
set_option maxHeartbeats 4000000 in
set_option maxRecDepth 100000 in
theorem zz_J4_newCapacity_0 {G : uG} {a0 : Nat} {uf : UH} {r : Int32} (N : Nat) (u : UH) (x1 : Int32) (h : f_J4_newCapacity N (ub G) (ug G) u a0 x1 = some (r, uf)) : uf.1 = u.1 ∧ uf.2.1 = u.2.1 := by
  unfold f_J4_newCapacity at h
  obtain ⟨o1, ho1, h⟩ := mbind_n h
  obtain ⟨a2, ha2, hha2⟩ := mbind_n h
  subst ha2
  have h := hha2
  obtain ⟨y3, hy3, h⟩ := mbind_n h
  obtain ⟨y4, hy4, h⟩ := mbind_n h
  obtain ⟨y5, ey5⟩ : ∃ z, z = x1 <<< (y4 &&& 31) := ⟨_, rfl⟩
  have h := mlet_at ey5 h
  obtain ⟨y6, ey6⟩ : ∃ z, z = y5 - y3 := ⟨_, rfl⟩
  have h := mlet_at ey6 h
  obtain ⟨y7, hy7, h⟩ := mbind_n h
  obtain ⟨r10, u8, c9, h⟩ := ucall_n h
  have zu8 := zz_J8_newLength N (ub G) (ug G) u y3 y6 (y3 + (2 <<< (y7 &&& 31))) r10 u8 c9
  by_cases c11 : r10 = 2147483647
  · have h := mif_t c11 h
    cases h
  · have h := mif_f c11 h
    obtain ⟨y12, hy12, h⟩ := mbind_n h
    obtain ⟨hr1, hr2⟩ := uret_n h
    subst hr2
    exact ⟨by omega, by omega⟩
set_option maxHeartbeats 4000000 in
set_option maxRecDepth 100000 in
theorem w_J4_newCapacity_0 {p : Program} {l : Launch} {e : Env} {R : Room} {s : State} {m : MethodId} {args : Array Value} {below : List Frame} {meth : Method} {c : Code} {G : uG} {a0 : Nat} {uf : UH} {r : Int32} (hC : uC p s m args meth c G RJ4 cJ4_newCapacity 6 (some .int)) (hR : 2 ≤ R.frames ∧ 45 ≤ R.locals) (N : Nat) (u : UH) (x1 : Int32) (h : f_J4_newCapacity N (ub G) (ug G) u a0 x1 = some (r, uf)) {H : Heap} {locs : List Loc} (hP : uP G u H) (hS : va_S (uA G) s.heap H locs) {ls : Array Slot} (hl : lv_has ls 6 [(0, va_rf (some a0)), (1, .int x1)]) : W p l e R s m args below meth c H locs 0 0 (MQ below (uQi G r uf) args s 0 0 (uA G)) (F0 m 0 ls []) := by
  obtain ⟨⟨hx, hb, hml, hown, hts⟩, hKK⟩ := id hC
  unfold f_J4_newCapacity at h
  refine u_aload_n (r := some a0) hx hb dJ4_newCapacity_0 rfl (lv_at hl 0 rfl) ?_
  obtain ⟨o1, ho1, h⟩ := mbind_n h
  refine u_get hC hP (uGR_n ho1) rfl in_J5 (by decide) q376 (fun _ h => h) dJ4_newCapacity_1 ?_
  obtain ⟨a2, ha2, hha2⟩ := mbind_n h
  subst ha2
  have h := hha2
  obtain ⟨y3, hy3, h⟩ := mbind_n h
  refine u_alen hC hP hy3 dJ4_newCapacity_4 ?_
  refine lv_istore_n (i := 2) (lv' := [(2, .int y3), (0, va_rf (some a0)), (1, .int x1)]) hx hb dJ4_newCapacity_5 rfl hl (by decide) rfl (fun ls hl => ?_)
  refine lv_iload_n hx hb dJ4_newCapacity_6 rfl (lv_at hl 2 rfl) ?_
  refine u_aload_n (r := some a0) hx hb dJ4_newCapacity_7 rfl (lv_at hl 1 rfl) ?_
  obtain ⟨y4, hy4, h⟩ := mbind_n h
  refine u_get hC hP (uGI_n hy4) rfl in_J5 (by decide) q377 (fun _ h => h) dJ4_newCapacity_8 ?_
  refine lv_ishl hx hb dJ4_newCapacity_11 ?_
  refine lv_topi (fun y5 ey5 => ?_)
  have h := mlet_at ey5 h
  refine lv_istore_n (i := 3) (lv' := [(3, .int y5), (2, .int y3), (0, va_rf (some a0)), (1, .int x1)]) hx hb dJ4_newCapacity_12 rfl hl (by decide) rfl (fun ls hl => ?_)
  refine lv_iload_n hx hb dJ4_newCapacity_13 rfl (lv_at hl 0 rfl) ?_
  refine lv_iload_n hx hb dJ4_newCapacity_14 rfl (lv_at hl 1 rfl) ?_
  refine lv_isub hx hb dJ4_newCapacity_15 ?_
  refine lv_topi (fun y6 ey6 => ?_)
  have h := mlet_at ey6 h
  refine lv_istore (lv' := [(4, .int y6), (3, .int y5), (2, .int y3), (0, va_rf (some a0)), (1, .int x1)]) hx hb dJ4_newCapacity_16 hl (by decide) rfl (fun ls hl => ?_)
  refine lv_iload_n hx hb dJ4_newCapacity_18 rfl (lv_at hl 2 rfl) ?_
  refine lv_iload hx hb dJ4_newCapacity_19 (lv_at hl 0 rfl) ?_
  refine lv_iload_n hx hb dJ4_newCapacity_21 rfl (lv_at hl 2 rfl) ?_
  refine lv_iconst (v := 2) hx hb dJ4_newCapacity_22 (by decide) ?_
  refine u_aload_n (r := some a0) hx hb dJ4_newCapacity_23 rfl (lv_at hl 3 rfl) ?_
  obtain ⟨y7, hy7, h⟩ := mbind_n h
  refine u_get hC hP (uGI_n hy7) rfl in_J5 (by decide) q377 (fun _ h => h) dJ4_newCapacity_24 ?_
  refine lv_ishl hx hb dJ4_newCapacity_27 ?_
  refine lv_iadd hx hb dJ4_newCapacity_28 ?_
  obtain ⟨r10, u8, c9, h⟩ := ucall_n h
  have zu8 := zz_J8_newLength N (ub G) (ug G) u y3 y6 (y3 + (2 <<< (y7 &&& 31))) r10 u8 c9
  refine u_calli (va_runS (As := [.int y3, .int y6, .int (y3 + (2 <<< (y7 &&& 31)))]) (rest := []) hC.1 (met_J8_newLength l N G u y3 y6 (y3 + (2 <<< (y7 &&& 31))) r10 u8 c9) (va_cwS 3 hts (lw_S q404 q405 q112 q406) rfl rfl rfl (by decide +kernel) ⟨Nat.le_trans (Nat.le_of_ble_eq_true rfl) hR.1, Nat.le_trans (Nat.le_of_ble_eq_true rfl) hR.2⟩) ⟨uPc_blind, fun U hU hW => u_pre hC hP hS hU hW⟩ rfl rfl hl.1 rfl (lv_room (Nat.le_of_ble_eq_true rfl)) dJ4_newCapacity_29 ⟨Nat.zero_le _, Nat.zero_le _⟩) hS (fun H locs hP hS => ?_)
  refine lv_istore (lv' := [(5, .int r10), (4, .int y6), (3, .int y5), (2, .int y3), (0, va_rf (some a0)), (1, .int x1)]) hx hb dJ4_newCapacity_32 hl (by decide) rfl (fun ls hl => ?_)
  refine lv_iload hx hb dJ4_newCapacity_34 (lv_at hl 0 rfl) ?_
  refine lv_ldc hx hb hown (hts _ q414) dJ4_newCapacity_36 ?_
  refine lv_icmp_ne (tgt := 51) hx hb dJ4_newCapacity_38 (by decide) (fun c11 => ?_) (fun c11 => ?_)
  · have h := mif_f c11 h
    refine lv_iload hx hb dJ4_newCapacity_51 (lv_at hl 0 rfl) ?_
    refine u_aload_n (r := some a0) hx hb dJ4_newCapacity_53 rfl (lv_at hl 4 rfl) ?_
    obtain ⟨y12, hy12, h⟩ := mbind_n h
    refine u_get hC hP (uGI_n hy12) rfl in_J5 (by decide) q377 (fun _ h => h) dJ4_newCapacity_54 ?_
    refine lv_ishr hx hb dJ4_newCapacity_57 ?_
    obtain ⟨hr1, hr2⟩ := uret_n h
    subst hr1
    subst hr2
    exact u_iret hC hP hS dJ4_newCapacity_58
  · have h := mif_t c11 h
    cases h
theorem zz_J4_newCapacity (N b : Nat) (g : uEnv) (u : UH) (a0 : Nat) (x1 : Int32) (r : Int32) (uf : UH) (h : f_J4_newCapacity N b g u a0 x1 = some (r, uf)) : uf.1 = u.1 ∧ uf.2.1 = u.2.1 :=
  zz_J4_newCapacity_0 (G := ((fun _ => 0, fun _ _ => 0), fun _ => 0, b, g)) (a0 := a0) N u x1 h
theorem met_J4_newCapacity (l : Launch) (N : Nat) (G : uG) (u : UH) (a0 : Nat) (x1 : Int32) (r : Int32) (uf : UH) (h : f_J4_newCapacity N (ub G) (ug G) u a0 x1 = some (r, uf)) : Met l yJ4_newCapacity (ws_ yJ4_newCapacity cJ4_newCapacity 6 (some .int)) ({ frames := 2, cells := 0, slots := 0, locals := 45 }) (uPc G u [.ref a0, .int x1]) (uQi G r uf) 0 0 (uA G) := by
  exact u_met (own := RJ4) (by decide +kernel) rfl (Nat.le_of_ble_eq_true rfl) (fun hC hn hsz ls hl hP => w_J4_newCapacity_0 hC ⟨Nat.le_refl _, Nat.le_refl _⟩ N u x1 h hP va_S.rf hl)
def f_J4_isLatin1_18 (N b : Nat) (g : uEnv) (a0 : Nat) (u : UH) (s0 : Int32) : Option (Int32 × UH) :=
    if uFit .boolean s0 = true then
    some (s0, u)
    else none
set_option maxHeartbeats 4000000 in
set_option maxRecDepth 100000 in
theorem zz_J4_isLatin1_18 {G : uG} {a0 : Nat} {uf : UH} {r : Int32} (N : Nat) (u : UH) (s0 : Int32) (h : f_J4_isLatin1_18 N (ub G) (ug G) a0 u s0 = some (r, uf)) : uf.1 = u.1 ∧ uf.2.1 = u.2.1 := by
  unfold f_J4_isLatin1_18 at h
  obtain ⟨c1, h⟩ := mif_n h
  obtain ⟨hr1, hr2⟩ := uret_n h
  subst hr2
  exact ⟨by omega, by omega⟩
set_option maxHeartbeats 4000000 in
set_option maxRecDepth 100000 in
theorem w_J4_isLatin1_18 {p : Program} {l : Launch} {e : Env} {R : Room} {s : State} {m : MethodId} {args : Array Value} {below : List Frame} {meth : Method} {c : Code} {G : uG} {a0 : Nat} {uf : UH} {r : Int32} (hC : uC p s m args meth c G RJ4 cJ4_isLatin1 1 (some .boolean)) (hR : 0 ≤ R.frames ∧ 0 ≤ R.locals) (N : Nat) (u : UH) (s0 : Int32) (h : f_J4_isLatin1_18 N (ub G) (ug G) a0 u s0 = some (r, uf)) {H : Heap} {locs : List Loc} (hP : uP G u H) (hS : va_S (uA G) s.heap H locs) {ls : Array Slot} (hl : lv_has ls 1 []) : W p l e R s m args below meth c H locs 0 0 (MQ below (uQi G r uf) args s 0 0 (uA G)) (F0 m 18 ls [.int s0]) := by
  obtain ⟨⟨hx, hb, hml, hown, hts⟩, hKK⟩ := id hC
  unfold f_J4_isLatin1_18 at h
  obtain ⟨c1, h⟩ := mif_n h
  obtain ⟨hr1, hr2⟩ := uret_n h
  subst hr1
  subst hr2
  exact u_zret hC (uFit_n c1).1 hP hS dJ4_isLatin1_18
def f_J4_isLatin1_17 (N b : Nat) (g : uEnv) (a0 : Nat) (u : UH) : Option (Int32 × UH) :=
    f_J4_isLatin1_18 N b g a0 u 0
set_option maxHeartbeats 4000000 in
set_option maxRecDepth 100000 in
theorem zz_J4_isLatin1_17 {G : uG} {a0 : Nat} {uf : UH} {r : Int32} (N : Nat) (u : UH) (h : f_J4_isLatin1_17 N (ub G) (ug G) a0 u = some (r, uf)) : uf.1 = u.1 ∧ uf.2.1 = u.2.1 := by
  unfold f_J4_isLatin1_17 at h
  have hq := zz_J4_isLatin1_18 (G := G) (a0 := a0) N u 0 h
  exact ⟨by omega, by omega⟩
set_option maxHeartbeats 4000000 in
set_option maxRecDepth 100000 in
theorem w_J4_isLatin1_17 {p : Program} {l : Launch} {e : Env} {R : Room} {s : State} {m : MethodId} {args : Array Value} {below : List Frame} {meth : Method} {c : Code} {G : uG} {a0 : Nat} {uf : UH} {r : Int32} (hC : uC p s m args meth c G RJ4 cJ4_isLatin1 1 (some .boolean)) (hR : 0 ≤ R.frames ∧ 0 ≤ R.locals) (N : Nat) (u : UH) (h : f_J4_isLatin1_17 N (ub G) (ug G) a0 u = some (r, uf)) {H : Heap} {locs : List Loc} (hP : uP G u H) (hS : va_S (uA G) s.heap H locs) {ls : Array Slot} (hl : lv_has ls 1 []) : W p l e R s m args below meth c H locs 0 0 (MQ below (uQi G r uf) args s 0 0 (uA G)) (F0 m 17 ls []) := by
  obtain ⟨⟨hx, hb, hml, hown, hts⟩, hKK⟩ := id hC
  unfold f_J4_isLatin1_17 at h
  refine lv_iconst (v := 0) hx hb dJ4_isLatin1_17 (by decide) ?_
  exact w_J4_isLatin1_18 hC hR N u 0 h hP hS (lv_sub hl [] rfl)
def f_J4_isLatin1 (N b : Nat) (g : uEnv) (u : UH) (a0 : Nat) : Option (Int32 × UH) :=
    if (1 : Int32) = 0 then
    f_J4_isLatin1_17 N b g a0 u
    else
    (uGI u a0 19 1).bind fun y2 =>
    if y2 = 0 then
    f_J4_isLatin1_18 N b g a0 u 1
    else
    f_J4_isLatin1_17 N b g a0 u
set_option maxHeartbeats 4000000 in
set_option maxRecDepth 100000 in
theorem zz_J4_isLatin1_0 {G : uG} {a0 : Nat} {uf : UH} {r : Int32} (N : Nat) (u : UH) (h : f_J4_isLatin1 N (ub G) (ug G) u a0 = some (r, uf)) : uf.1 = u.1 ∧ uf.2.1 = u.2.1 := by
  unfold f_J4_isLatin1 at h
  by_cases c1 : (1 : Int32) = 0
  · have h := mif_t c1 h
    have hq := zz_J4_isLatin1_17 (G := G) (a0 := a0) N u h
    exact ⟨by omega, by omega⟩
  · have h := mif_f c1 h
    obtain ⟨y2, hy2, h⟩ := mbind_n h
    by_cases c3 : y2 = 0
    · have h := mif_t c3 h
      have hq := zz_J4_isLatin1_18 (G := G) (a0 := a0) N u 1 h
      exact ⟨by omega, by omega⟩
    · have h := mif_f c3 h
      have hq := zz_J4_isLatin1_17 (G := G) (a0 := a0) N u h
      exact ⟨by omega, by omega⟩
set_option maxHeartbeats 4000000 in
set_option maxRecDepth 100000 in
theorem w_J4_isLatin1_0 {p : Program} {l : Launch} {e : Env} {R : Room} {s : State} {m : MethodId} {args : Array Value} {below : List Frame} {meth : Method} {c : Code} {G : uG} {a0 : Nat} {uf : UH} {r : Int32} (hC : uC p s m args meth c G RJ4 cJ4_isLatin1 1 (some .boolean)) (hR : 0 ≤ R.frames ∧ 0 ≤ R.locals) (N : Nat) (u : UH) (h : f_J4_isLatin1 N (ub G) (ug G) u a0 = some (r, uf)) {H : Heap} {locs : List Loc} (hP : uP G u H) (hS : va_S (uA G) s.heap H locs) {ls : Array Slot} (hl : lv_has ls 1 [(0, va_rf (some a0))]) : W p l e R s m args below meth c H locs 0 0 (MQ below (uQi G r uf) args s 0 0 (uA G)) (F0 m 0 ls []) := by
  obtain ⟨⟨hx, hb, hml, hown, hts⟩, hKK⟩ := id hC
  unfold f_J4_isLatin1 at h
  refine u_getsC hC hS q367 (fun _ h => h) dJ4_isLatin1_0 ?_
  refine lv_if_eq (tgt := 17) hx hb dJ4_isLatin1_3 (by decide) (fun c1 => ?_) (fun c1 => ?_)
  · have h := mif_t c1 h
    exact w_J4_isLatin1_17 hC hR N u h hP hS (lv_sub hl [] rfl)
  · have h := mif_f c1 h
    refine u_aload_n (r := some a0) hx hb dJ4_isLatin1_6 rfl (lv_at hl 0 rfl) ?_
    obtain ⟨y2, hy2, h⟩ := mbind_n h
    refine u_get hC hP (uGI_n hy2) rfl in_J5 (by decide) q377 (fun _ h => h) dJ4_isLatin1_7 ?_
    refine lv_if_ne (tgt := 17) hx hb dJ4_isLatin1_10 (by decide) (fun c3 => ?_) (fun c3 => ?_)
    · have h := mif_f c3 h
      exact w_J4_isLatin1_17 hC hR N u h hP hS (lv_sub hl [] rfl)
    · have h := mif_t c3 h
      refine lv_iconst (v := 1) hx hb dJ4_isLatin1_13 (by decide) ?_
      refine lv_goto (tgt := 18) hx hb dJ4_isLatin1_14 (by decide) ?_
      exact w_J4_isLatin1_18 hC hR N u 1 h hP hS (lv_sub hl [] rfl)
theorem zz_J4_isLatin1 (N b : Nat) (g : uEnv) (u : UH) (a0 : Nat) (r : Int32) (uf : UH) (h : f_J4_isLatin1 N b g u a0 = some (r, uf)) : uf.1 = u.1 ∧ uf.2.1 = u.2.1 :=
  zz_J4_isLatin1_0 (G := ((fun _ => 0, fun _ _ => 0), fun _ => 0, b, g)) (a0 := a0) N u h
theorem met_J4_isLatin1 (l : Launch) (N : Nat) (G : uG) (u : UH) (a0 : Nat) (r : Int32) (uf : UH) (h : f_J4_isLatin1 N (ub G) (ug G) u a0 = some (r, uf)) : Met l yJ4_isLatin1 (ws_ yJ4_isLatin1 cJ4_isLatin1 1 (some .boolean)) ({ frames := 0, cells := 0, slots := 0, locals := 0 }) (uPc G u [.ref a0]) (uQi G r uf) 0 0 (uA G) := by
  exact u_met (own := RJ4) (by decide +kernel) rfl (Nat.le_of_ble_eq_true rfl) (fun hC hn hsz ls hl hP => w_J4_isLatin1_0 hC ⟨Nat.le_refl _, Nat.le_refl _⟩ N u h hP va_S.rf hl)
def f_J4_getValue (N b : Nat) (g : uEnv) (u : UH) (a0 : Nat) : Option (Option Nat × UH) :=
    (uGR u a0 19 0).bind fun o1 =>
    some (o1, u)
set_option maxHeartbeats 4000000 in
set_option maxRecDepth 100000 in
theorem zz_J4_getValue_0 {G : uG} {a0 : Nat} {uf : UH} {r : Option Nat} (N : Nat) (u : UH) (h : f_J4_getValue N (ub G) (ug G) u a0 = some (r, uf)) : uf.1 = u.1 ∧ uf.2.1 = u.2.1 := by
  unfold f_J4_getValue at h
  obtain ⟨o1, ho1, h⟩ := mbind_n h
  obtain ⟨hr1, hr2⟩ := uret_n h
  subst hr2
  exact ⟨by omega, by omega⟩
set_option maxHeartbeats 4000000 in
set_option maxRecDepth 100000 in
theorem w_J4_getValue_0 {p : Program} {l : Launch} {e : Env} {R : Room} {s : State} {m : MethodId} {args : Array Value} {below : List Frame} {meth : Method} {c : Code} {G : uG} {a0 : Nat} {uf : UH} {r : Option Nat} (hC : uC p s m args meth c G RJ4 cJ4_getValue 1 (some (.array .byte))) (hR : 0 ≤ R.frames ∧ 0 ≤ R.locals) (N : Nat) (u : UH) (h : f_J4_getValue N (ub G) (ug G) u a0 = some (r, uf)) {H : Heap} {locs : List Loc} (hP : uP G u H) (hS : va_S (uA G) s.heap H locs) {ls : Array Slot} (hl : lv_has ls 1 [(0, va_rf (some a0))]) : W p l e R s m args below meth c H locs 0 0 (MQ below (uQr G r uf) args s 0 0 (uA G)) (F0 m 0 ls []) := by
  obtain ⟨⟨hx, hb, hml, hown, hts⟩, hKK⟩ := id hC
  unfold f_J4_getValue at h
  refine u_aload_n (r := some a0) hx hb dJ4_getValue_0 rfl (lv_at hl 0 rfl) ?_
  obtain ⟨o1, ho1, h⟩ := mbind_n h
  refine u_get hC hP (uGR_n ho1) rfl in_J5 (by decide) q376 (fun _ h => h) dJ4_getValue_1 ?_
  obtain ⟨hr1, hr2⟩ := uret_n h
  subst hr1
  subst hr2
  exact u_aret hC (Or.inr ⟨_, rfl⟩) hP hS dJ4_getValue_4
theorem zz_J4_getValue (N b : Nat) (g : uEnv) (u : UH) (a0 : Nat) (r : Option Nat) (uf : UH) (h : f_J4_getValue N b g u a0 = some (r, uf)) : uf.1 = u.1 ∧ uf.2.1 = u.2.1 :=
  zz_J4_getValue_0 (G := ((fun _ => 0, fun _ _ => 0), fun _ => 0, b, g)) (a0 := a0) N u h
theorem met_J4_getValue (l : Launch) (N : Nat) (G : uG) (u : UH) (a0 : Nat) (r : Option Nat) (uf : UH) (h : f_J4_getValue N (ub G) (ug G) u a0 = some (r, uf)) : Met l yJ4_getValue (ws_ yJ4_getValue cJ4_getValue 1 (some (.array .byte))) ({ frames := 0, cells := 0, slots := 0, locals := 0 }) (uPc G u [.ref a0]) (uQr G r uf) 0 0 (uA G) := by
  exact u_met (own := RJ4) (by decide +kernel) rfl (Nat.le_of_ble_eq_true rfl) (fun hC hn hsz ls hl hP => w_J4_getValue_0 hC ⟨Nat.le_refl _, Nat.le_refl _⟩ N u h hP va_S.rf hl)
def f_J4_length (N b : Nat) (g : uEnv) (u : UH) (a0 : Nat) : Option (Int32 × UH) :=
    (uGI u a0 19 3).bind fun y1 =>
    some (y1, u)
set_option maxHeartbeats 4000000 in
set_option maxRecDepth 100000 in
theorem zz_J4_length_0 {G : uG} {a0 : Nat} {uf : UH} {r : Int32} (N : Nat) (u : UH) (h : f_J4_length N (ub G) (ug G) u a0 = some (r, uf)) : uf.1 = u.1 ∧ uf.2.1 = u.2.1 := by
  unfold f_J4_length at h
  obtain ⟨y1, hy1, h⟩ := mbind_n h
  obtain ⟨hr1, hr2⟩ := uret_n h
  subst hr2
  exact ⟨by omega, by omega⟩
set_option maxHeartbeats 4000000 in
set_option maxRecDepth 100000 in
theorem w_J4_length_0 {p : Program} {l : Launch} {e : Env} {R : Room} {s : State} {m : MethodId} {args : Array Value} {below : List Frame} {meth : Method} {c : Code} {G : uG} {a0 : Nat} {uf : UH} {r : Int32} (hC : uC p s m args meth c G RJ4 cJ4_length 1 (some .int)) (hR : 0 ≤ R.frames ∧ 0 ≤ R.locals) (N : Nat) (u : UH) (h : f_J4_length N (ub G) (ug G) u a0 = some (r, uf)) {H : Heap} {locs : List Loc} (hP : uP G u H) (hS : va_S (uA G) s.heap H locs) {ls : Array Slot} (hl : lv_has ls 1 [(0, va_rf (some a0))]) : W p l e R s m args below meth c H locs 0 0 (MQ below (uQi G r uf) args s 0 0 (uA G)) (F0 m 0 ls []) := by
  obtain ⟨⟨hx, hb, hml, hown, hts⟩, hKK⟩ := id hC
  unfold f_J4_length at h
  refine u_aload_n (r := some a0) hx hb dJ4_length_0 rfl (lv_at hl 0 rfl) ?_
  obtain ⟨y1, hy1, h⟩ := mbind_n h
  refine u_get hC hP (uGI_n hy1) rfl in_J5 (by decide) q379 (fun _ h => h) dJ4_length_1 ?_
  obtain ⟨hr1, hr2⟩ := uret_n h
  subst hr1
  subst hr2
  exact u_iret hC hP hS dJ4_length_4
theorem zz_J4_length (N b : Nat) (g : uEnv) (u : UH) (a0 : Nat) (r : Int32) (uf : UH) (h : f_J4_length N b g u a0 = some (r, uf)) : uf.1 = u.1 ∧ uf.2.1 = u.2.1 :=
  zz_J4_length_0 (G := ((fun _ => 0, fun _ _ => 0), fun _ => 0, b, g)) (a0 := a0) N u h
theorem met_J4_length (l : Launch) (N : Nat) (G : uG) (u : UH) (a0 : Nat) (r : Int32) (uf : UH) (h : f_J4_length N (ub G) (ug G) u a0 = some (r, uf)) : Met l yJ4_length (ws_ yJ4_length cJ4_length 1 (some .int)) ({ frames := 0, cells := 0, slots := 0, locals := 0 }) (uPc G u [.ref a0]) (uQi G r uf) 0 0 (uA G) := by
  exact u_met (own := RJ4) (by decide +kernel) rfl (Nat.le_of_ble_eq_true rfl) (fun hC hn hsz ls hl hP => w_J4_length_0 hC ⟨Nat.le_refl _, Nat.le_refl _⟩ N u h hP va_S.rf hl)
def f_J5_length (N b : Nat) (g : uEnv) (u : UH) (a0 : Nat) : Option (Int32 × UH) :=
    if uIs u a0 19 = true then
    ucall (f_J4_length N b g u a0) fun r4 u2 =>
    some (r4, u2)
    else none
set_option maxHeartbeats 4000000 in
set_option maxRecDepth 100000 in
theorem zz_J5_length_0 {G : uG} {a0 : Nat} {uf : UH} {r : Int32} (N : Nat) (u : UH) (h : f_J5_length N (ub G) (ug G) u a0 = some (r, uf)) : uf.1 = u.1 ∧ uf.2.1 = u.2.1 := by
  unfold f_J5_length at h
  obtain ⟨c1, h⟩ := mif_n h
  obtain ⟨r4, u2, c3, h⟩ := ucall_n h
  have zu2 := zz_J4_length N (ub G) (ug G) u a0 r4 u2 c3
  obtain ⟨hr1, hr2⟩ := uret_n h
  subst hr2
  exact ⟨by omega, by omega⟩
set_option maxHeartbeats 4000000 in
set_option maxRecDepth 100000 in
theorem w_J5_length_0 {p : Program} {l : Launch} {e : Env} {R : Room} {s : State} {m : MethodId} {args : Array Value} {below : List Frame} {meth : Method} {c : Code} {G : uG} {a0 : Nat} {uf : UH} {r : Int32} (hC : uC p s m args meth c G RJ5 cJ5_length 1 (some .int)) (hR : 1 ≤ R.frames ∧ 20 ≤ R.locals) (N : Nat) (u : UH) (h : f_J5_length N (ub G) (ug G) u a0 = some (r, uf)) {H : Heap} {locs : List Loc} (hP : uP G u H) (hS : va_S (uA G) s.heap H locs) {ls : Array Slot} (hl : lv_has ls 1 [(0, va_rf (some a0))]) : W p l e R s m args below meth c H locs 0 0 (MQ below (uQi G r uf) args s 0 0 (uA G)) (F0 m 0 ls []) := by
  obtain ⟨⟨hx, hb, hml, hown, hts⟩, hKK⟩ := id hC
  unfold f_J5_length at h
  refine u_aload_n (r := some a0) hx hb dJ5_length_0 rfl (lv_at hl 0 rfl) ?_
  obtain ⟨c1, h⟩ := mif_n h
  obtain ⟨r4, u2, c3, h⟩ := ucall_n h
  have zu2 := zz_J4_length N (ub G) (ug G) u a0 r4 u2 c3
  refine u_calli (va_runSU (As := []) (rest := []) (C := RJ5) (hC.2.1.1.1 19 _ rfl).2 hC.1 (met_J4_length l N G u a0 r4 u2 c3) (va_cwSU 0 hts (lw_SU q508 q504 q388 q503 q108 q509) rfl rfl rfl (by decide +kernel) ⟨Nat.le_trans (Nat.le_of_ble_eq_true rfl) hR.1, Nat.le_trans (Nat.le_of_ble_eq_true rfl) hR.2⟩) ⟨uPc_blind, u_rcv hC hP c1 rfl, fun U hU hW => u_pre hC hP hS hU hW⟩ rfl rfl hl.1 rfl (lv_room (Nat.le_of_ble_eq_true rfl)) dJ5_length_1 ⟨Nat.zero_le _, Nat.zero_le _⟩) hS (fun H locs hP hS => ?_)
  obtain ⟨hr1, hr2⟩ := uret_n h
  subst hr1
  subst hr2
  exact u_iret hC hP hS dJ5_length_4
theorem zz_J5_length (N b : Nat) (g : uEnv) (u : UH) (a0 : Nat) (r : Int32) (uf : UH) (h : f_J5_length N b g u a0 = some (r, uf)) : uf.1 = u.1 ∧ uf.2.1 = u.2.1 :=
  zz_J5_length_0 (G := ((fun _ => 0, fun _ _ => 0), fun _ => 0, b, g)) (a0 := a0) N u h
theorem met_J5_length (l : Launch) (N : Nat) (G : uG) (u : UH) (a0 : Nat) (r : Int32) (uf : UH) (h : f_J5_length N (ub G) (ug G) u a0 = some (r, uf)) : Met l yJ5_length (ws_ yJ5_length cJ5_length 1 (some .int)) ({ frames := 1, cells := 0, slots := 0, locals := 20 }) (uPc G u [.ref a0]) (uQi G r uf) 0 0 (uA G) := by
  exact u_met (own := RJ5) (by decide +kernel) rfl (Nat.le_of_ble_eq_true rfl) (fun hC hn hsz ls hl hP => w_J5_length_0 hC ⟨Nat.le_refl _, Nat.le_refl _⟩ N u h hP va_S.rf hl)
def f_J6_isLatin1_18 (N b : Nat) (g : uEnv) (a0 : Nat) (u : UH) (s0 : Int32) : Option (Int32 × UH) :=
    if uFit .boolean s0 = true then
    some (s0, u)
    else none
set_option maxHeartbeats 4000000 in
set_option maxRecDepth 100000 in
theorem zz_J6_isLatin1_18 {G : uG} {a0 : Nat} {uf : UH} {r : Int32} (N : Nat) (u : UH) (s0 : Int32) (h : f_J6_isLatin1_18 N (ub G) (ug G) a0 u s0 = some (r, uf)) : uf.1 = u.1 ∧ uf.2.1 = u.2.1 := by
  unfold f_J6_isLatin1_18 at h
  obtain ⟨c1, h⟩ := mif_n h
  obtain ⟨hr1, hr2⟩ := uret_n h
  subst hr2
  exact ⟨by omega, by omega⟩
set_option maxHeartbeats 4000000 in
set_option maxRecDepth 100000 in
theorem w_J6_isLatin1_18 {p : Program} {l : Launch} {e : Env} {R : Room} {s : State} {m : MethodId} {args : Array Value} {below : List Frame} {meth : Method} {c : Code} {G : uG} {a0 : Nat} {uf : UH} {r : Int32} (hC : uC p s m args meth c G RJ6 cJ6_isLatin1 1 (some .boolean)) (hR : 0 ≤ R.frames ∧ 0 ≤ R.locals) (N : Nat) (u : UH) (s0 : Int32) (h : f_J6_isLatin1_18 N (ub G) (ug G) a0 u s0 = some (r, uf)) {H : Heap} {locs : List Loc} (hP : uP G u H) (hS : va_S (uA G) s.heap H locs) {ls : Array Slot} (hl : lv_has ls 1 []) : W p l e R s m args below meth c H locs 0 0 (MQ below (uQi G r uf) args s 0 0 (uA G)) (F0 m 18 ls [.int s0]) := by
  obtain ⟨⟨hx, hb, hml, hown, hts⟩, hKK⟩ := id hC
  unfold f_J6_isLatin1_18 at h
  obtain ⟨c1, h⟩ := mif_n h
  obtain ⟨hr1, hr2⟩ := uret_n h
  subst hr1
  subst hr2
  exact u_zret hC (uFit_n c1).1 hP hS dJ6_isLatin1_18
def f_J6_isLatin1_17 (N b : Nat) (g : uEnv) (a0 : Nat) (u : UH) : Option (Int32 × UH) :=
    f_J6_isLatin1_18 N b g a0 u 0
set_option maxHeartbeats 4000000 in
set_option maxRecDepth 100000 in
theorem zz_J6_isLatin1_17 {G : uG} {a0 : Nat} {uf : UH} {r : Int32} (N : Nat) (u : UH) (h : f_J6_isLatin1_17 N (ub G) (ug G) a0 u = some (r, uf)) : uf.1 = u.1 ∧ uf.2.1 = u.2.1 := by
  unfold f_J6_isLatin1_17 at h
  have hq := zz_J6_isLatin1_18 (G := G) (a0 := a0) N u 0 h
  exact ⟨by omega, by omega⟩
set_option maxHeartbeats 4000000 in
set_option maxRecDepth 100000 in
theorem w_J6_isLatin1_17 {p : Program} {l : Launch} {e : Env} {R : Room} {s : State} {m : MethodId} {args : Array Value} {below : List Frame} {meth : Method} {c : Code} {G : uG} {a0 : Nat} {uf : UH} {r : Int32} (hC : uC p s m args meth c G RJ6 cJ6_isLatin1 1 (some .boolean)) (hR : 0 ≤ R.frames ∧ 0 ≤ R.locals) (N : Nat) (u : UH) (h : f_J6_isLatin1_17 N (ub G) (ug G) a0 u = some (r, uf)) {H : Heap} {locs : List Loc} (hP : uP G u H) (hS : va_S (uA G) s.heap H locs) {ls : Array Slot} (hl : lv_has ls 1 []) : W p l e R s m args below meth c H locs 0 0 (MQ below (uQi G r uf) args s 0 0 (uA G)) (F0 m 17 ls []) := by
  obtain ⟨⟨hx, hb, hml, hown, hts⟩, hKK⟩ := id hC
  unfold f_J6_isLatin1_17 at h
  refine lv_iconst (v := 0) hx hb dJ6_isLatin1_17 (by decide) ?_
  exact w_J6_isLatin1_18 hC hR N u 0 h hP hS (lv_sub hl [] rfl)
def f_J6_isLatin1 (N b : Nat) (g : uEnv) (u : UH) (a0 : Nat) : Option (Int32 × UH) :=
    if (1 : Int32) = 0 then
    f_J6_isLatin1_17 N b g a0 u
    else
    (uGI u a0 20 1).bind fun y2 =>
    if y2 = 0 then
    f_J6_isLatin1_18 N b g a0 u 1
    else
    f_J6_isLatin1_17 N b g a0 u
set_option maxHeartbeats 4000000 in
set_option maxRecDepth 100000 in
theorem zz_J6_isLatin1_0 {G : uG} {a0 : Nat} {uf : UH} {r : Int32} (N : Nat) (u : UH) (h : f_J6_isLatin1 N (ub G) (ug G) u a0 = some (r, uf)) : uf.1 = u.1 ∧ uf.2.1 = u.2.1 := by
  unfold f_J6_isLatin1 at h
  by_cases c1 : (1 : Int32) = 0
  · have h := mif_t c1 h
    have hq := zz_J6_isLatin1_17 (G := G) (a0 := a0) N u h
    exact ⟨by omega, by omega⟩
  · have h := mif_f c1 h
    obtain ⟨y2, hy2, h⟩ := mbind_n h
    by_cases c3 : y2 = 0
    · have h := mif_t c3 h
      have hq := zz_J6_isLatin1_18 (G := G) (a0 := a0) N u 1 h
      exact ⟨by omega, by omega⟩
    · have h := mif_f c3 h
      have hq := zz_J6_isLatin1_17 (G := G) (a0 := a0) N u h
      exact ⟨by omega, by omega⟩
set_option maxHeartbeats 4000000 in
set_option maxRecDepth 100000 in
theorem w_J6_isLatin1_0 {p : Program} {l : Launch} {e : Env} {R : Room} {s : State} {m : MethodId} {args : Array Value} {below : List Frame} {meth : Method} {c : Code} {G : uG} {a0 : Nat} {uf : UH} {r : Int32} (hC : uC p s m args meth c G RJ6 cJ6_isLatin1 1 (some .boolean)) (hR : 0 ≤ R.frames ∧ 0 ≤ R.locals) (N : Nat) (u : UH) (h : f_J6_isLatin1 N (ub G) (ug G) u a0 = some (r, uf)) {H : Heap} {locs : List Loc} (hP : uP G u H) (hS : va_S (uA G) s.heap H locs) {ls : Array Slot} (hl : lv_has ls 1 [(0, va_rf (some a0))]) : W p l e R s m args below meth c H locs 0 0 (MQ below (uQi G r uf) args s 0 0 (uA G)) (F0 m 0 ls []) := by
  obtain ⟨⟨hx, hb, hml, hown, hts⟩, hKK⟩ := id hC
  unfold f_J6_isLatin1 at h
  refine u_getsC hC hS q520 (fun _ h => h) dJ6_isLatin1_0 ?_
  refine lv_if_eq (tgt := 17) hx hb dJ6_isLatin1_3 (by decide) (fun c1 => ?_) (fun c1 => ?_)
  · have h := mif_t c1 h
    exact w_J6_isLatin1_17 hC hR N u h hP hS (lv_sub hl [] rfl)
  · have h := mif_f c1 h
    refine u_aload_n (r := some a0) hx hb dJ6_isLatin1_6 rfl (lv_at hl 0 rfl) ?_
    obtain ⟨y2, hy2, h⟩ := mbind_n h
    refine u_get hC hP (uGI_n hy2) rfl in_J6 (by decide) q535 (fun _ h => h) dJ6_isLatin1_7 ?_
    refine lv_if_ne (tgt := 17) hx hb dJ6_isLatin1_10 (by decide) (fun c3 => ?_) (fun c3 => ?_)
    · have h := mif_f c3 h
      exact w_J6_isLatin1_17 hC hR N u h hP hS (lv_sub hl [] rfl)
    · have h := mif_t c3 h
      refine lv_iconst (v := 1) hx hb dJ6_isLatin1_13 (by decide) ?_
      refine lv_goto (tgt := 18) hx hb dJ6_isLatin1_14 (by decide) ?_
      exact w_J6_isLatin1_18 hC hR N u 1 h hP hS (lv_sub hl [] rfl)
theorem zz_J6_isLatin1 (N b : Nat) (g : uEnv) (u : UH) (a0 : Nat) (r : Int32) (uf : UH) (h : f_J6_isLatin1 N b g u a0 = some (r, uf)) : uf.1 = u.1 ∧ uf.2.1 = u.2.1 :=
  zz_J6_isLatin1_0 (G := ((fun _ => 0, fun _ _ => 0), fun _ => 0, b, g)) (a0 := a0) N u h
theorem met_J6_isLatin1 (l : Launch) (N : Nat) (G : uG) (u : UH) (a0 : Nat) (r : Int32) (uf : UH) (h : f_J6_isLatin1 N (ub G) (ug G) u a0 = some (r, uf)) : Met l yJ6_isLatin1 (ws_ yJ6_isLatin1 cJ6_isLatin1 1 (some .boolean)) ({ frames := 0, cells := 0, slots := 0, locals := 0 }) (uPc G u [.ref a0]) (uQi G r uf) 0 0 (uA G) := by
  exact u_met (own := RJ6) (by decide +kernel) rfl (Nat.le_of_ble_eq_true rfl) (fun hC hn hsz ls hl hP => w_J6_isLatin1_0 hC ⟨Nat.le_refl _, Nat.le_refl _⟩ N u h hP va_S.rf hl)
def f_J6_charAt (N b : Nat) (g : uEnv) (u : UH) (a0 : Nat) (x1 : Int32) : Option (Int32 × UH) :=
    if uIs u a0 20 = true then
    ucall (f_J6_isLatin1 N b g u a0) fun r4 u2 =>
    if r4 = 0 then
    (uGR u2 a0 20 0).bind fun o6 =>
    none
    else
    (uGR u2 a0 20 0).bind fun o7 =>
    ucall (f_J11_charAt N b g u2 o7 x1) fun r10 u8 =>
    if uFit .char r10 = true then
    some (r10, u8)
    else none
    else none
set_option maxHeartbeats 4000000 in
set_option maxRecDepth 100000 in
theorem zz_J6_charAt_0 {G : uG} {a0 : Nat} {uf : UH} {r : Int32} (N : Nat) (u : UH) (x1 : Int32) (h : f_J6_charAt N (ub G) (ug G) u a0 x1 = some (r, uf)) : uf.1 = u.1 ∧ uf.2.1 = u.2.1 := by
  unfold f_J6_charAt at h
  obtain ⟨c1, h⟩ := mif_n h
  obtain ⟨r4, u2, c3, h⟩ := ucall_n h
  have zu2 := zz_J6_isLatin1 N (ub G) (ug G) u a0 r4 u2 c3
  by_cases c5 : r4 = 0
  · have h := mif_t c5 h
    obtain ⟨o6, ho6, h⟩ := mbind_n h
    cases h
  · have h := mif_f c5 h
    obtain ⟨o7, ho7, h⟩ := mbind_n h
    obtain ⟨r10, u8, c9, h⟩ := ucall_n h
    have zu8 := zz_J11_charAt N (ub G) (ug G) u2 o7 x1 r10 u8 c9
    obtain ⟨c11, h⟩ := mif_n h
    obtain ⟨hr1, hr2⟩ := uret_n h
    subst hr2
    exact ⟨by omega, by omega⟩
set_option maxHeartbeats 4000000 in
set_option maxRecDepth 100000 in
theorem w_J6_charAt_0 {p : Program} {l : Launch} {e : Env} {R : Room} {s : State} {m : MethodId} {args : Array Value} {below : List Frame} {meth : Method} {c : Code} {G : uG} {a0 : Nat} {uf : UH} {r : Int32} (hC : uC p s m args meth c G RJ6 cJ6_charAt 2 (some .char)) (hR : 3 ≤ R.frames ∧ 64 ≤ R.locals) (N : Nat) (u : UH) (x1 : Int32) (h : f_J6_charAt N (ub G) (ug G) u a0 x1 = some (r, uf)) {H : Heap} {locs : List Loc} (hP : uP G u H) (hS : va_S (uA G) s.heap H locs) {ls : Array Slot} (hl : lv_has ls 2 [(0, va_rf (some a0)), (1, .int x1)]) : W p l e R s m args below meth c H locs 0 0 (MQ below (uQi G r uf) args s 0 0 (uA G)) (F0 m 0 ls []) := by
  obtain ⟨⟨hx, hb, hml, hown, hts⟩, hKK⟩ := id hC
  unfold f_J6_charAt at h
  refine u_aload_n (r := some a0) hx hb dJ6_charAt_0 rfl (lv_at hl 0 rfl) ?_
  obtain ⟨c1, h⟩ := mif_n h
  obtain ⟨r4, u2, c3, h⟩ := ucall_n h
  have zu2 := zz_J6_isLatin1 N (ub G) (ug G) u a0 r4 u2 c3
  refine u_calli (va_runV (As := []) (rest := []) hC.1 (met_J6_isLatin1 l N G u a0 r4 u2 c3) (cwV 0 hts (lw_V q567 q568 q569 q110 q570) rfl rfl rfl (by decide +kernel) ⟨Nat.le_trans (Nat.le_of_ble_eq_true rfl) hR.1, Nat.le_trans (Nat.le_of_ble_eq_true rfl) hR.2⟩) ⟨uPc_blind, u_rcv hC hP c1 rfl, fun U hU hW => u_pre hC hP hS hU hW⟩ rfl rfl hl.1 rfl (lv_room (Nat.le_of_ble_eq_true rfl)) dJ6_charAt_1 ⟨Nat.zero_le _, Nat.zero_le _⟩) hS (fun H locs hP hS => ?_)
  refine lv_if_eq (tgt := 16) hx hb dJ6_charAt_4 (by decide) (fun c5 => ?_) (fun c5 => ?_)
  · have h := mif_t c5 h
    refine u_aload_n (r := some a0) hx hb dJ6_charAt_16 rfl (lv_at hl 0 rfl) ?_
    obtain ⟨o6, ho6, h⟩ := mbind_n h
    refine u_get hC hP (uGR_n ho6) rfl in_J6 (by decide) q534 (fun _ h => h) dJ6_charAt_17 ?_
    refine lv_iload_n hx hb dJ6_charAt_20 rfl (lv_at hl 1 rfl) ?_
    cases h
  · have h := mif_f c5 h
    refine u_aload_n (r := some a0) hx hb dJ6_charAt_7 rfl (lv_at hl 0 rfl) ?_
    obtain ⟨o7, ho7, h⟩ := mbind_n h
    refine u_get hC hP (uGR_n ho7) rfl in_J6 (by decide) q534 (fun _ h => h) dJ6_charAt_8 ?_
    refine lv_iload_n hx hb dJ6_charAt_11 rfl (lv_at hl 1 rfl) ?_
    obtain ⟨r10, u8, c9, h⟩ := ucall_n h
    have zu8 := zz_J11_charAt N (ub G) (ug G) u2 o7 x1 r10 u8 c9
    refine u_calli (va_runS (As := [va_rf o7, .int x1]) (rest := []) hC.1 (met_J11_charAt l N G u2 o7 x1 r10 u8 c9) (va_cwS 2 hts (lw_S q683 q684 q116 q685) rfl rfl rfl (by decide +kernel) ⟨Nat.le_trans (Nat.le_of_ble_eq_true rfl) hR.1, Nat.le_trans (Nat.le_of_ble_eq_true rfl) hR.2⟩) ⟨uPc_blind, fun U hU hW => u_pre hC hP hS hU hW⟩ rfl rfl hl.1 rfl (lv_room (Nat.le_of_ble_eq_true rfl)) dJ6_charAt_12 ⟨Nat.zero_le _, Nat.zero_le _⟩) hS (fun H locs hP hS => ?_)
    obtain ⟨c11, h⟩ := mif_n h
    obtain ⟨hr1, hr2⟩ := uret_n h
    subst hr1
    subst hr2
    exact u_zret hC (uFit_n c11).1 hP hS dJ6_charAt_15
theorem zz_J6_charAt (N b : Nat) (g : uEnv) (u : UH) (a0 : Nat) (x1 : Int32) (r : Int32) (uf : UH) (h : f_J6_charAt N b g u a0 x1 = some (r, uf)) : uf.1 = u.1 ∧ uf.2.1 = u.2.1 :=
  zz_J6_charAt_0 (G := ((fun _ => 0, fun _ _ => 0), fun _ => 0, b, g)) (a0 := a0) N u x1 h
theorem met_J6_charAt (l : Launch) (N : Nat) (G : uG) (u : UH) (a0 : Nat) (x1 : Int32) (r : Int32) (uf : UH) (h : f_J6_charAt N (ub G) (ug G) u a0 x1 = some (r, uf)) : Met l yJ6_charAt (ws_ yJ6_charAt cJ6_charAt 2 (some .char)) ({ frames := 3, cells := 0, slots := 0, locals := 64 }) (uPc G u [.ref a0, .int x1]) (uQi G r uf) 0 0 (uA G) := by
  exact u_met (own := RJ6) (by decide +kernel) rfl (Nat.le_of_ble_eq_true rfl) (fun hC hn hsz ls hl hP => w_J6_charAt_0 hC ⟨Nat.le_refl _, Nat.le_refl _⟩ N u x1 h hP va_S.rf hl)
def f_J6_coder_14 (N b : Nat) (g : uEnv) (a0 : Nat) (u : UH) (s0 : Int32) : Option (Int32 × UH) :=
    if uFit .byte s0 = true then
    some (s0, u)
    else none
set_option maxHeartbeats 4000000 in
set_option maxRecDepth 100000 in
theorem zz_J6_coder_14 {G : uG} {a0 : Nat} {uf : UH} {r : Int32} (N : Nat) (u : UH) (s0 : Int32) (h : f_J6_coder_14 N (ub G) (ug G) a0 u s0 = some (r, uf)) : uf.1 = u.1 ∧ uf.2.1 = u.2.1 := by
  unfold f_J6_coder_14 at h
  obtain ⟨c1, h⟩ := mif_n h
  obtain ⟨hr1, hr2⟩ := uret_n h
  subst hr2
  exact ⟨by omega, by omega⟩
set_option maxHeartbeats 4000000 in
set_option maxRecDepth 100000 in
theorem w_J6_coder_14 {p : Program} {l : Launch} {e : Env} {R : Room} {s : State} {m : MethodId} {args : Array Value} {below : List Frame} {meth : Method} {c : Code} {G : uG} {a0 : Nat} {uf : UH} {r : Int32} (hC : uC p s m args meth c G RJ6 cJ6_coder 1 (some .byte)) (hR : 0 ≤ R.frames ∧ 0 ≤ R.locals) (N : Nat) (u : UH) (s0 : Int32) (h : f_J6_coder_14 N (ub G) (ug G) a0 u s0 = some (r, uf)) {H : Heap} {locs : List Loc} (hP : uP G u H) (hS : va_S (uA G) s.heap H locs) {ls : Array Slot} (hl : lv_has ls 1 []) : W p l e R s m args below meth c H locs 0 0 (MQ below (uQi G r uf) args s 0 0 (uA G)) (F0 m 14 ls [.int s0]) := by
  obtain ⟨⟨hx, hb, hml, hown, hts⟩, hKK⟩ := id hC
  unfold f_J6_coder_14 at h
  obtain ⟨c1, h⟩ := mif_n h
  obtain ⟨hr1, hr2⟩ := uret_n h
  subst hr1
  subst hr2
  exact u_zret hC (uFit_n c1).1 hP hS dJ6_coder_14
def f_J6_coder (N b : Nat) (g : uEnv) (u : UH) (a0 : Nat) : Option (Int32 × UH) :=
    if (1 : Int32) = 0 then
    f_J6_coder_14 N b g a0 u 1
    else
    (uGI u a0 20 1).bind fun y2 =>
    f_J6_coder_14 N b g a0 u y2
set_option maxHeartbeats 4000000 in
set_option maxRecDepth 100000 in
theorem zz_J6_coder_0 {G : uG} {a0 : Nat} {uf : UH} {r : Int32} (N : Nat) (u : UH) (h : f_J6_coder N (ub G) (ug G) u a0 = some (r, uf)) : uf.1 = u.1 ∧ uf.2.1 = u.2.1 := by
  unfold f_J6_coder at h
  by_cases c1 : (1 : Int32) = 0
  · have h := mif_t c1 h
    have hq := zz_J6_coder_14 (G := G) (a0 := a0) N u 1 h
    exact ⟨by omega, by omega⟩
  · have h := mif_f c1 h
    obtain ⟨y2, hy2, h⟩ := mbind_n h
    have hq := zz_J6_coder_14 (G := G) (a0 := a0) N u y2 h
    exact ⟨by omega, by omega⟩
set_option maxHeartbeats 4000000 in
set_option maxRecDepth 100000 in
theorem w_J6_coder_0 {p : Program} {l : Launch} {e : Env} {R : Room} {s : State} {m : MethodId} {args : Array Value} {below : List Frame} {meth : Method} {c : Code} {G : uG} {a0 : Nat} {uf : UH} {r : Int32} (hC : uC p s m args meth c G RJ6 cJ6_coder 1 (some .byte)) (hR : 0 ≤ R.frames ∧ 0 ≤ R.locals) (N : Nat) (u : UH) (h : f_J6_coder N (ub G) (ug G) u a0 = some (r, uf)) {H : Heap} {locs : List Loc} (hP : uP G u H) (hS : va_S (uA G) s.heap H locs) {ls : Array Slot} (hl : lv_has ls 1 [(0, va_rf (some a0))]) : W p l e R s m args below meth c H locs 0 0 (MQ below (uQi G r uf) args s 0 0 (uA G)) (F0 m 0 ls []) := by
  obtain ⟨⟨hx, hb, hml, hown, hts⟩, hKK⟩ := id hC
  unfold f_J6_coder at h
  refine u_getsC hC hS q520 (fun _ h => h) dJ6_coder_0 ?_
  refine lv_if_eq (tgt := 13) hx hb dJ6_coder_3 (by decide) (fun c1 => ?_) (fun c1 => ?_)
  · have h := mif_t c1 h
    refine lv_iconst (v := 1) hx hb dJ6_coder_13 (by decide) ?_
    exact w_J6_coder_14 hC hR N u 1 h hP hS (lv_sub hl [] rfl)
  · have h := mif_f c1 h
    refine u_aload_n (r := some a0) hx hb dJ6_coder_6 rfl (lv_at hl 0 rfl) ?_
    obtain ⟨y2, hy2, h⟩ := mbind_n h
    refine u_get hC hP (uGI_n hy2) rfl in_J6 (by decide) q535 (fun _ h => h) dJ6_coder_7 ?_
    refine lv_goto (tgt := 14) hx hb dJ6_coder_10 (by decide) ?_
    exact w_J6_coder_14 hC hR N u y2 h hP hS (lv_sub hl [] rfl)
theorem zz_J6_coder (N b : Nat) (g : uEnv) (u : UH) (a0 : Nat) (r : Int32) (uf : UH) (h : f_J6_coder N b g u a0 = some (r, uf)) : uf.1 = u.1 ∧ uf.2.1 = u.2.1 :=
  zz_J6_coder_0 (G := ((fun _ => 0, fun _ _ => 0), fun _ => 0, b, g)) (a0 := a0) N u h
theorem met_J6_coder (l : Launch) (N : Nat) (G : uG) (u : UH) (a0 : Nat) (r : Int32) (uf : UH) (h : f_J6_coder N (ub G) (ug G) u a0 = some (r, uf)) : Met l yJ6_coder (ws_ yJ6_coder cJ6_coder 1 (some .byte)) ({ frames := 0, cells := 0, slots := 0, locals := 0 }) (uPc G u [.ref a0]) (uQi G r uf) 0 0 (uA G) := by
  exact u_met (own := RJ6) (by decide +kernel) rfl (Nat.le_of_ble_eq_true rfl) (fun hC hn hsz ls hl hP => w_J6_coder_0 hC ⟨Nat.le_refl _, Nat.le_refl _⟩ N u h hP va_S.rf hl)
def f_J6_equals_55 (N b : Nat) (g : uEnv) (a0 : Nat) (u : UH) (s0 : Int32) : Option (Int32 × UH) :=
    if uFit .boolean s0 = true then
    some (s0, u)
    else none
set_option maxHeartbeats 4000000 in
set_option maxRecDepth 100000 in
theorem zz_J6_equals_55 {G : uG} {a0 : Nat} {uf : UH} {r : Int32} (N : Nat) (u : UH) (s0 : Int32) (h : f_J6_equals_55 N (ub G) (ug G) a0 u s0 = some (r, uf)) : uf.1 = u.1 ∧ uf.2.1 = u.2.1 := by
  unfold f_J6_equals_55 at h
  obtain ⟨c1, h⟩ := mif_n h
  obtain ⟨hr1, hr2⟩ := uret_n h
  subst hr2
  exact ⟨by omega, by omega⟩
set_option maxHeartbeats 4000000 in
set_option maxRecDepth 100000 in
theorem w_J6_equals_55 {p : Program} {l : Launch} {e : Env} {R : Room} {s : State} {m : MethodId} {args : Array Value} {below : List Frame} {meth : Method} {c : Code} {G : uG} {a0 : Nat} {uf : UH} {r : Int32} (hC : uC p s m args meth c G RJ6 cJ6_equals 3 (some .boolean)) (hR : 1 ≤ R.frames ∧ 22 ≤ R.locals) (N : Nat) (u : UH) (s0 : Int32) (h : f_J6_equals_55 N (ub G) (ug G) a0 u s0 = some (r, uf)) {H : Heap} {locs : List Loc} (hP : uP G u H) (hS : va_S (uA G) s.heap H locs) {ls : Array Slot} (hl : lv_has ls 3 []) : W p l e R s m args below meth c H locs 0 0 (MQ below (uQi G r uf) args s 0 0 (uA G)) (F0 m 55 ls [.int s0]) := by
  obtain ⟨⟨hx, hb, hml, hown, hts⟩, hKK⟩ := id hC
  unfold f_J6_equals_55 at h
  obtain ⟨c1, h⟩ := mif_n h
  obtain ⟨hr1, hr2⟩ := uret_n h
  subst hr1
  subst hr2
  exact u_zret hC (uFit_n c1).1 hP hS dJ6_equals_55
def f_J6_equals_54 (N b : Nat) (g : uEnv) (a0 : Nat) (u : UH) : Option (Int32 × UH) :=
    f_J6_equals_55 N b g a0 u 0
set_option maxHeartbeats 4000000 in
set_option maxRecDepth 100000 in
theorem zz_J6_equals_54 {G : uG} {a0 : Nat} {uf : UH} {r : Int32} (N : Nat) (u : UH) (h : f_J6_equals_54 N (ub G) (ug G) a0 u = some (r, uf)) : uf.1 = u.1 ∧ uf.2.1 = u.2.1 := by
  unfold f_J6_equals_54 at h
  have hq := zz_J6_equals_55 (G := G) (a0 := a0) N u 0 h
  exact ⟨by omega, by omega⟩
set_option maxHeartbeats 4000000 in
set_option maxRecDepth 100000 in
theorem w_J6_equals_54 {p : Program} {l : Launch} {e : Env} {R : Room} {s : State} {m : MethodId} {args : Array Value} {below : List Frame} {meth : Method} {c : Code} {G : uG} {a0 : Nat} {uf : UH} {r : Int32} (hC : uC p s m args meth c G RJ6 cJ6_equals 3 (some .boolean)) (hR : 1 ≤ R.frames ∧ 22 ≤ R.locals) (N : Nat) (u : UH) (h : f_J6_equals_54 N (ub G) (ug G) a0 u = some (r, uf)) {H : Heap} {locs : List Loc} (hP : uP G u H) (hS : va_S (uA G) s.heap H locs) {ls : Array Slot} (hl : lv_has ls 3 []) : W p l e R s m args below meth c H locs 0 0 (MQ below (uQi G r uf) args s 0 0 (uA G)) (F0 m 54 ls []) := by
  obtain ⟨⟨hx, hb, hml, hown, hts⟩, hKK⟩ := id hC
  unfold f_J6_equals_54 at h
  refine lv_iconst (v := 0) hx hb dJ6_equals_54 (by decide) ?_
  exact w_J6_equals_55 hC hR N u 0 h hP hS (lv_sub hl [] rfl)
def f_J6_equals_36 (N b : Nat) (g : uEnv) (a0 : Nat) (u : UH) (x2 : Option Nat) : Option (Int32 × UH) :=
    (uGR u a0 20 0).bind fun o1 =>
    (x2).bind fun a2 =>
    (uGR u a2 20 0).bind fun o3 =>
    ucall (f_J11_equals N b g u o1 o3) fun r6 u4 =>
    if r6 = 0 then
    f_J6_equals_54 N b g a0 u4
    else
    f_J6_equals_55 N b g a0 u4 1
set_option maxHeartbeats 4000000 in
set_option maxRecDepth 100000 in
theorem zz_J6_equals_36 {G : uG} {a0 : Nat} {uf : UH} {r : Int32} (N : Nat) (u : UH) (x2 : Option Nat) (h : f_J6_equals_36 N (ub G) (ug G) a0 u x2 = some (r, uf)) : uf.1 = u.1 ∧ uf.2.1 = u.2.1 := by
  unfold f_J6_equals_36 at h
  obtain ⟨o1, ho1, h⟩ := mbind_n h
  obtain ⟨a2, ha2, hha2⟩ := mbind_n h
  subst ha2
  have h := hha2
  obtain ⟨o3, ho3, h⟩ := mbind_n h
  obtain ⟨r6, u4, c5, h⟩ := ucall_n h
  have zu4 := zz_J11_equals N (ub G) (ug G) u o1 o3 r6 u4 c5
  by_cases c7 : r6 = 0
  · have h := mif_t c7 h
    have hq := zz_J6_equals_54 (G := G) (a0 := a0) N u4 h
    exact ⟨by omega, by omega⟩
  · have h := mif_f c7 h
    have hq := zz_J6_equals_55 (G := G) (a0 := a0) N u4 1 h
    exact ⟨by omega, by omega⟩
set_option maxHeartbeats 4000000 in
set_option maxRecDepth 100000 in
theorem w_J6_equals_36 {p : Program} {l : Launch} {e : Env} {R : Room} {s : State} {m : MethodId} {args : Array Value} {below : List Frame} {meth : Method} {c : Code} {G : uG} {a0 : Nat} {uf : UH} {r : Int32} (hC : uC p s m args meth c G RJ6 cJ6_equals 3 (some .boolean)) (hR : 1 ≤ R.frames ∧ 22 ≤ R.locals) (N : Nat) (u : UH) (x2 : Option Nat) (h : f_J6_equals_36 N (ub G) (ug G) a0 u x2 = some (r, uf)) {H : Heap} {locs : List Loc} (hP : uP G u H) (hS : va_S (uA G) s.heap H locs) {ls : Array Slot} (hl : lv_has ls 3 [(0, va_rf (some a0)), (2, va_rf x2)]) : W p l e R s m args below meth c H locs 0 0 (MQ below (uQi G r uf) args s 0 0 (uA G)) (F0 m 36 ls []) := by
  obtain ⟨⟨hx, hb, hml, hown, hts⟩, hKK⟩ := id hC
  unfold f_J6_equals_36 at h
  refine u_aload_n (r := some a0) hx hb dJ6_equals_36 rfl (lv_at hl 0 rfl) ?_
  obtain ⟨o1, ho1, h⟩ := mbind_n h
  refine u_get hC hP (uGR_n ho1) rfl in_J6 (by decide) q534 (fun _ h => h) dJ6_equals_37 ?_
  refine u_aload_n (r := x2) hx hb dJ6_equals_40 rfl (lv_at hl 1 rfl) ?_
  obtain ⟨a2, ha2, hha2⟩ := mbind_n h
  subst ha2
  have h := hha2
  obtain ⟨o3, ho3, h⟩ := mbind_n h
  refine u_get hC hP (uGR_n ho3) rfl in_J6 (by decide) q534 (fun _ h => h) dJ6_equals_41 ?_
  obtain ⟨r6, u4, c5, h⟩ := ucall_n h
  have zu4 := zz_J11_equals N (ub G) (ug G) u o1 o3 r6 u4 c5
  refine u_calli (va_runS (As := [va_rf o1, va_rf o3]) (rest := []) hC.1 (met_J11_equals l N G u o1 o3 r6 u4 c5) (va_cwS 2 hts (lw_S q676 q677 q116 q678) rfl rfl rfl (by decide +kernel) ⟨Nat.le_trans (Nat.le_of_ble_eq_true rfl) hR.1, Nat.le_trans (Nat.le_of_ble_eq_true rfl) hR.2⟩) ⟨uPc_blind, fun U hU hW => u_pre hC hP hS hU hW⟩ rfl rfl hl.1 rfl (lv_room (Nat.le_of_ble_eq_true rfl)) dJ6_equals_44 ⟨Nat.zero_le _, Nat.zero_le _⟩) hS (fun H locs hP hS => ?_)
  refine lv_if_eq (tgt := 54) hx hb dJ6_equals_47 (by decide) (fun c7 => ?_) (fun c7 => ?_)
  · have h := mif_t c7 h
    exact w_J6_equals_54 hC hR N u4 h hP hS (lv_sub hl [] rfl)
  · have h := mif_f c7 h
    refine lv_iconst (v := 1) hx hb dJ6_equals_50 (by decide) ?_
    refine lv_goto (tgt := 55) hx hb dJ6_equals_51 (by decide) ?_
    exact w_J6_equals_55 hC hR N u4 1 h hP hS (lv_sub hl [] rfl)
def f_J6_equals (N b : Nat) (g : uEnv) (u : UH) (a0 : Nat) (x1 : Option Nat) : Option (Int32 × UH) :=
    if (some a0) = x1 then
    some (1, u)
    else
    (x1).bind fun a2 =>
    if uIs u a2 20 = true then
    if (1 : Int32) = 0 then
    f_J6_equals_54 N b g a0 u
    else
    if uIs u a2 20 = true then
    if (1 : Int32) = 0 then
    f_J6_equals_36 N b g a0 u (some a2)
    else
    (uGI u a0 20 1).bind fun y7 =>
    (uGI u a2 20 1).bind fun y8 =>
    if y7 = y8 then
    f_J6_equals_36 N b g a0 u (some a2)
    else
    f_J6_equals_54 N b g a0 u
    else none
    else none
set_option maxHeartbeats 4000000 in
set_option maxRecDepth 100000 in
theorem zz_J6_equals_0 {G : uG} {a0 : Nat} {uf : UH} {r : Int32} (N : Nat) (u : UH) (x1 : Option Nat) (h : f_J6_equals N (ub G) (ug G) u a0 x1 = some (r, uf)) : uf.1 = u.1 ∧ uf.2.1 = u.2.1 := by
  unfold f_J6_equals at h
  by_cases c1 : (some a0) = x1
  · have h := mif_t c1 h
    obtain ⟨hr1, hr2⟩ := uret_n h
    subst hr2
    exact ⟨by omega, by omega⟩
  · have h := mif_f c1 h
    obtain ⟨a2, ha2, hha2⟩ := mbind_n h
    subst ha2
    have h := hha2
    obtain ⟨c3, h⟩ := mif_n h
    by_cases c4 : (1 : Int32) = 0
    · have h := mif_t c4 h
      have hq := zz_J6_equals_54 (G := G) (a0 := a0) N u h
      exact ⟨by omega, by omega⟩
    · have h := mif_f c4 h
      obtain ⟨c5, h⟩ := mif_n h
      by_cases c6 : (1 : Int32) = 0
      · have h := mif_t c6 h
        have hq := zz_J6_equals_36 (G := G) (a0 := a0) N u (some a2) h
        exact ⟨by omega, by omega⟩
      · have h := mif_f c6 h
        obtain ⟨y7, hy7, h⟩ := mbind_n h
        obtain ⟨y8, hy8, h⟩ := mbind_n h
        by_cases c9 : y7 = y8
        · have h := mif_t c9 h
          have hq := zz_J6_equals_36 (G := G) (a0 := a0) N u (some a2) h
          exact ⟨by omega, by omega⟩
        · have h := mif_f c9 h
          have hq := zz_J6_equals_54 (G := G) (a0 := a0) N u h
          exact ⟨by omega, by omega⟩
set_option maxHeartbeats 4000000 in
set_option maxRecDepth 100000 in
theorem w_J6_equals_0 {p : Program} {l : Launch} {e : Env} {R : Room} {s : State} {m : MethodId} {args : Array Value} {below : List Frame} {meth : Method} {c : Code} {G : uG} {a0 : Nat} {uf : UH} {r : Int32} (hC : uC p s m args meth c G RJ6 cJ6_equals 3 (some .boolean)) (hR : 1 ≤ R.frames ∧ 22 ≤ R.locals) (N : Nat) (u : UH) (x1 : Option Nat) (h : f_J6_equals N (ub G) (ug G) u a0 x1 = some (r, uf)) {H : Heap} {locs : List Loc} (hP : uP G u H) (hS : va_S (uA G) s.heap H locs) {ls : Array Slot} (hl : lv_has ls 3 [(0, va_rf (some a0)), (1, va_rf x1)]) : W p l e R s m args below meth c H locs 0 0 (MQ below (uQi G r uf) args s 0 0 (uA G)) (F0 m 0 ls []) := by
  obtain ⟨⟨hx, hb, hml, hown, hts⟩, hKK⟩ := id hC
  unfold f_J6_equals at h
  refine u_aload_n (r := some a0) hx hb dJ6_equals_0 rfl (lv_at hl 0 rfl) ?_
  refine u_aload_n (r := x1) hx hb dJ6_equals_1 rfl (lv_at hl 1 rfl) ?_
  refine lv_acmp_ne (rx := (some a0)) (ry := x1) (tgt := 7) hx hb dJ6_equals_2 (by decide) (fun c1 => ?_) (fun c1 => ?_)
  · have h := mif_f c1 h
    refine u_aload_n (r := x1) hx hb dJ6_equals_7 rfl (lv_at hl 1 rfl) ?_
    obtain ⟨a2, ha2, hha2⟩ := mbind_n h
    subst ha2
    have h := hha2
    obtain ⟨c3, h⟩ := mif_n h
    refine u_instS hC hP c3 rfl q675 dJ6_equals_8 ?_
    refine lv_if_eq (tgt := 54) hx hb dJ6_equals_11 (by decide) (fun c4 => ?_) (fun c4 => ?_)
    · have h := mif_t c4 h
      exact w_J6_equals_54 hC hR N u h hP hS (lv_sub hl [] rfl)
    · have h := mif_f c4 h
      refine u_aload_n (r := some a2) hx hb dJ6_equals_14 rfl (lv_at hl 1 rfl) ?_
      obtain ⟨c5, h⟩ := mif_n h
      refine u_castS hC hP c5 rfl q675 dJ6_equals_15 ?_
      refine u_astore_n (i := 2) (r := some a2) (lv' := [(2, va_rf (some a2)), (0, va_rf (some a0)), (1, va_rf (some a2))]) hx hb dJ6_equals_18 rfl hl (by decide) rfl (fun ls hl => ?_)
      refine u_getsC hC hS q520 (fun _ h => h) dJ6_equals_19 ?_
      refine lv_if_eq (tgt := 36) hx hb dJ6_equals_22 (by decide) (fun c6 => ?_) (fun c6 => ?_)
      · have h := mif_t c6 h
        exact w_J6_equals_36 hC hR N u (some a2) h hP hS (lv_sub hl [1, 0] rfl)
      · have h := mif_f c6 h
        refine u_aload_n (r := some a0) hx hb dJ6_equals_25 rfl (lv_at hl 1 rfl) ?_
        obtain ⟨y7, hy7, h⟩ := mbind_n h
        refine u_get hC hP (uGI_n hy7) rfl in_J6 (by decide) q535 (fun _ h => h) dJ6_equals_26 ?_
        refine u_aload_n (r := some a2) hx hb dJ6_equals_29 rfl (lv_at hl 0 rfl) ?_
        obtain ⟨y8, hy8, h⟩ := mbind_n h
        refine u_get hC hP (uGI_n hy8) rfl in_J6 (by decide) q535 (fun _ h => h) dJ6_equals_30 ?_
        refine lv_icmp_ne (tgt := 54) hx hb dJ6_equals_33 (by decide) (fun c9 => ?_) (fun c9 => ?_)
        · have h := mif_f c9 h
          exact w_J6_equals_54 hC hR N u h hP hS (lv_sub hl [] rfl)
        · have h := mif_t c9 h
          exact w_J6_equals_36 hC hR N u (some a2) h hP hS (lv_sub hl [1, 0] rfl)
  · have h := mif_t c1 h
    refine lv_iconst (v := 1) hx hb dJ6_equals_5 (by decide) ?_
    obtain ⟨hr1, hr2⟩ := uret_n h
    subst hr1
    subst hr2
    exact u_zret hC (uFit_n (ty := .boolean) (v := 1) rfl).1 hP hS dJ6_equals_6
theorem zz_J6_equals (N b : Nat) (g : uEnv) (u : UH) (a0 : Nat) (x1 : Option Nat) (r : Int32) (uf : UH) (h : f_J6_equals N b g u a0 x1 = some (r, uf)) : uf.1 = u.1 ∧ uf.2.1 = u.2.1 :=
  zz_J6_equals_0 (G := ((fun _ => 0, fun _ _ => 0), fun _ => 0, b, g)) (a0 := a0) N u x1 h
theorem met_J6_equals (l : Launch) (N : Nat) (G : uG) (u : UH) (a0 : Nat) (x1 : Option Nat) (r : Int32) (uf : UH) (h : f_J6_equals N (ub G) (ug G) u a0 x1 = some (r, uf)) : Met l yJ6_equals (ws_ yJ6_equals cJ6_equals 3 (some .boolean)) ({ frames := 1, cells := 0, slots := 0, locals := 22 }) (uPc G u [.ref a0, va_rf x1]) (uQi G r uf) 0 0 (uA G) := by
  rcases x1 with _ | x1 <;> exact u_met (own := RJ6) (by decide +kernel) rfl (Nat.le_of_ble_eq_true rfl) (fun hC hn hsz ls hl hP => w_J6_equals_0 hC ⟨Nat.le_refl _, Nat.le_refl _⟩ N u _ h hP va_S.rf hl)
def f_J6_hashCode_58 (N b : Nat) (g : uEnv) (a0 : Nat) (u : UH) (x1 : Int32) : Option (Int32 × UH) :=
    some (x1, u)
set_option maxHeartbeats 4000000 in
set_option maxRecDepth 100000 in
theorem zz_J6_hashCode_58 {G : uG} {a0 : Nat} {uf : UH} {r : Int32} (N : Nat) (u : UH) (x1 : Int32) (h : f_J6_hashCode_58 N (ub G) (ug G) a0 u x1 = some (r, uf)) : uf.1 = u.1 ∧ uf.2.1 = u.2.1 := by
  unfold f_J6_hashCode_58 at h
  obtain ⟨hr1, hr2⟩ := uret_n h
  subst hr2
  exact ⟨by omega, by omega⟩
set_option maxHeartbeats 4000000 in
set_option maxRecDepth 100000 in
theorem w_J6_hashCode_58 {p : Program} {l : Launch} {e : Env} {R : Room} {s : State} {m : MethodId} {args : Array Value} {below : List Frame} {meth : Method} {c : Code} {G : uG} {a0 : Nat} {uf : UH} {r : Int32} (hC : uC p s m args meth c G RJ6 cJ6_hashCode 2 (some .int)) (hR : 3 ≤ R.frames ∧ 69 ≤ R.locals) (N : Nat) (u : UH) (x1 : Int32) (h : f_J6_hashCode_58 N (ub G) (ug G) a0 u x1 = some (r, uf)) {H : Heap} {locs : List Loc} (hP : uP G u H) (hS : va_S (uA G) s.heap H locs) {ls : Array Slot} (hl : lv_has ls 2 [(1, .int x1)]) : W p l e R s m args below meth c H locs 0 0 (MQ below (uQi G r uf) args s 0 0 (uA G)) (F0 m 58 ls []) := by
  obtain ⟨⟨hx, hb, hml, hown, hts⟩, hKK⟩ := id hC
  unfold f_J6_hashCode_58 at h
  refine lv_iload_n hx hb dJ6_hashCode_58 rfl (lv_at hl 0 rfl) ?_
  obtain ⟨hr1, hr2⟩ := uret_n h
  subst hr1
  subst hr2
  exact u_iret hC hP hS dJ6_hashCode_59
def f_J6_hashCode_40 (N b : Nat) (g : uEnv) (a0 : Nat) (u : UH) (s0 : Int32) : Option (Int32 × UH) :=
    if s0 = 0 then
    (uPut b u a0 20 3 (.int 1)).bind fun u3 =>
    f_J6_hashCode_58 N b g a0 u3 s0
    else
    (uPut b u a0 20 2 (.int s0)).bind fun u2 =>
    f_J6_hashCode_58 N b g a0 u2 s0
set_option maxHeartbeats 4000000 in
set_option maxRecDepth 100000 in
theorem zz_J6_hashCode_40 {G : uG} {a0 : Nat} {uf : UH} {r : Int32} (N : Nat) (u : UH) (s0 : Int32) (h : f_J6_hashCode_40 N (ub G) (ug G) a0 u s0 = some (r, uf)) : uf.1 = u.1 ∧ uf.2.1 = u.2.1 := by
  unfold f_J6_hashCode_40 at h
  by_cases c1 : s0 = 0
  · have h := mif_t c1 h
    obtain ⟨u3, hu3, h⟩ := mbind_n h
    have zu3 := uPut_sz hu3
    have hq := zz_J6_hashCode_58 (G := G) (a0 := a0) N u3 s0 h
    exact ⟨by omega, by omega⟩
  · have h := mif_f c1 h
    obtain ⟨u2, hu2, h⟩ := mbind_n h
    have zu2 := uPut_sz hu2
    have hq := zz_J6_hashCode_58 (G := G) (a0 := a0) N u2 s0 h
    exact ⟨by omega, by omega⟩
set_option maxHeartbeats 4000000 in
set_option maxRecDepth 100000 in
theorem w_J6_hashCode_40 {p : Program} {l : Launch} {e : Env} {R : Room} {s : State} {m : MethodId} {args : Array Value} {below : List Frame} {meth : Method} {c : Code} {G : uG} {a0 : Nat} {uf : UH} {r : Int32} (hC : uC p s m args meth c G RJ6 cJ6_hashCode 2 (some .int)) (hR : 3 ≤ R.frames ∧ 69 ≤ R.locals) (N : Nat) (u : UH) (s0 : Int32) (h : f_J6_hashCode_40 N (ub G) (ug G) a0 u s0 = some (r, uf)) {H : Heap} {locs : List Loc} (hP : uP G u H) (hS : va_S (uA G) s.heap H locs) {ls : Array Slot} (hl : lv_has ls 2 [(0, va_rf (some a0))]) : W p l e R s m args below meth c H locs 0 0 (MQ below (uQi G r uf) args s 0 0 (uA G)) (F0 m 40 ls [.int s0]) := by
  obtain ⟨⟨hx, hb, hml, hown, hts⟩, hKK⟩ := id hC
  unfold f_J6_hashCode_40 at h
  refine lv_istore_n (i := 1) (lv' := [(1, .int s0), (0, va_rf (some a0))]) hx hb dJ6_hashCode_40 rfl hl (by decide) rfl (fun ls hl => ?_)
  refine lv_iload_n hx hb dJ6_hashCode_41 rfl (lv_at hl 0 rfl) ?_
  refine lv_if_ne (tgt := 53) hx hb dJ6_hashCode_42 (by decide) (fun c1 => ?_) (fun c1 => ?_)
  · have h := mif_f c1 h
    refine u_aload_n (r := some a0) hx hb dJ6_hashCode_53 rfl (lv_at hl 1 rfl) ?_
    refine lv_iload_n hx hb dJ6_hashCode_54 rfl (lv_at hl 0 rfl) ?_
    obtain ⟨u2, hu2, h⟩ := mbind_n h
    have zu2 := uPut_sz hu2
    refine u_put hC hP hS hu2 rfl in_J6 tyJ6 tyJ6_ok nmJ6 (by decide) q536 (fun _ h => h) rfl (ty := .int) (tyJ6_ok 2 (by decide)) rfl rfl dJ6_hashCode_55 (fun H locs hP hS => ?_)
    exact w_J6_hashCode_58 hC hR N u2 s0 h hP hS (lv_sub hl [0] rfl)
  · have h := mif_t c1 h
    refine u_aload_n (r := some a0) hx hb dJ6_hashCode_45 rfl (lv_at hl 1 rfl) ?_
    refine lv_iconst (v := 1) hx hb dJ6_hashCode_46 (by decide) ?_
    obtain ⟨u3, hu3, h⟩ := mbind_n h
    have zu3 := uPut_sz hu3
    refine u_put hC hP hS hu3 rfl in_J6 tyJ6 tyJ6_ok nmJ6 (by decide) q537 (fun _ h => h) rfl (ty := .boolean) (tyJ6_ok 3 (by decide)) (uFit_n (ty := .boolean) (v := 1) rfl).1 (uFit_n (ty := .boolean) (v := 1) rfl).2 dJ6_hashCode_47 (fun H locs hP hS => ?_)
    refine lv_goto (tgt := 58) hx hb dJ6_hashCode_50 (by decide) ?_
    exact w_J6_hashCode_58 hC hR N u3 s0 h hP hS (lv_sub hl [0] rfl)
def f_J6_hashCode (N b : Nat) (g : uEnv) (u : UH) (a0 : Nat) : Option (Int32 × UH) :=
    (uGI u a0 20 2).bind fun y1 =>
    if y1 = 0 then
    (uGI u a0 20 3).bind fun y3 =>
    if y3 = 0 then
    if uIs u a0 20 = true then
    ucall (f_J6_isLatin1 N b g u a0) fun r8 u6 =>
    if r8 = 0 then
    (uGR u6 a0 20 0).bind fun o10 =>
    none
    else
    (uGR u6 a0 20 0).bind fun o11 =>
    ucall (f_J11_hashCode N b g u6 o11) fun r14 u12 =>
    f_J6_hashCode_40 N b g a0 u12 r14
    else none
    else
    f_J6_hashCode_58 N b g a0 u y1
    else
    f_J6_hashCode_58 N b g a0 u y1
set_option maxHeartbeats 4000000 in
set_option maxRecDepth 100000 in
theorem zz_J6_hashCode_0 {G : uG} {a0 : Nat} {uf : UH} {r : Int32} (N : Nat) (u : UH) (h : f_J6_hashCode N (ub G) (ug G) u a0 = some (r, uf)) : uf.1 = u.1 ∧ uf.2.1 = u.2.1 := by
  unfold f_J6_hashCode at h
  obtain ⟨y1, hy1, h⟩ := mbind_n h
  by_cases c2 : y1 = 0
  · have h := mif_t c2 h
    obtain ⟨y3, hy3, h⟩ := mbind_n h
    by_cases c4 : y3 = 0
    · have h := mif_t c4 h
      obtain ⟨c5, h⟩ := mif_n h
      obtain ⟨r8, u6, c7, h⟩ := ucall_n h
      have zu6 := zz_J6_isLatin1 N (ub G) (ug G) u a0 r8 u6 c7
      by_cases c9 : r8 = 0
      · have h := mif_t c9 h
        obtain ⟨o10, ho10, h⟩ := mbind_n h
        cases h
      · have h := mif_f c9 h
        obtain ⟨o11, ho11, h⟩ := mbind_n h
        obtain ⟨r14, u12, c13, h⟩ := ucall_n h
        have zu12 := zz_J11_hashCode N (ub G) (ug G) u6 o11 r14 u12 c13
        have hq := zz_J6_hashCode_40 (G := G) (a0 := a0) N u12 r14 h
        exact ⟨by omega, by omega⟩
    · have h := mif_f c4 h
      have hq := zz_J6_hashCode_58 (G := G) (a0 := a0) N u y1 h
      exact ⟨by omega, by omega⟩
  · have h := mif_f c2 h
    have hq := zz_J6_hashCode_58 (G := G) (a0 := a0) N u y1 h
    exact ⟨by omega, by omega⟩
set_option maxHeartbeats 4000000 in
set_option maxRecDepth 100000 in
theorem w_J6_hashCode_0 {p : Program} {l : Launch} {e : Env} {R : Room} {s : State} {m : MethodId} {args : Array Value} {below : List Frame} {meth : Method} {c : Code} {G : uG} {a0 : Nat} {uf : UH} {r : Int32} (hC : uC p s m args meth c G RJ6 cJ6_hashCode 2 (some .int)) (hR : 3 ≤ R.frames ∧ 69 ≤ R.locals) (N : Nat) (u : UH) (h : f_J6_hashCode N (ub G) (ug G) u a0 = some (r, uf)) {H : Heap} {locs : List Loc} (hP : uP G u H) (hS : va_S (uA G) s.heap H locs) {ls : Array Slot} (hl : lv_has ls 2 [(0, va_rf (some a0))]) : W p l e R s m args below meth c H locs 0 0 (MQ below (uQi G r uf) args s 0 0 (uA G)) (F0 m 0 ls []) := by
  obtain ⟨⟨hx, hb, hml, hown, hts⟩, hKK⟩ := id hC
  unfold f_J6_hashCode at h
  refine u_aload_n (r := some a0) hx hb dJ6_hashCode_0 rfl (lv_at hl 0 rfl) ?_
  obtain ⟨y1, hy1, h⟩ := mbind_n h
  refine u_get hC hP (uGI_n hy1) rfl in_J6 (by decide) q536 (fun _ h => h) dJ6_hashCode_1 ?_
  refine lv_istore_n (i := 1) (lv' := [(1, .int y1), (0, va_rf (some a0))]) hx hb dJ6_hashCode_4 rfl hl (by decide) rfl (fun ls hl => ?_)
  refine lv_iload_n hx hb dJ6_hashCode_5 rfl (lv_at hl 0 rfl) ?_
  refine lv_if_ne (tgt := 58) hx hb dJ6_hashCode_6 (by decide) (fun c2 => ?_) (fun c2 => ?_)
  · have h := mif_f c2 h
    exact w_J6_hashCode_58 hC hR N u y1 h hP hS (lv_sub hl [0] rfl)
  · have h := mif_t c2 h
    refine u_aload_n (r := some a0) hx hb dJ6_hashCode_9 rfl (lv_at hl 1 rfl) ?_
    obtain ⟨y3, hy3, h⟩ := mbind_n h
    refine u_get hC hP (uGI_n hy3) rfl in_J6 (by decide) q537 (fun _ h => h) dJ6_hashCode_10 ?_
    refine lv_if_ne (tgt := 58) hx hb dJ6_hashCode_13 (by decide) (fun c4 => ?_) (fun c4 => ?_)
    · have h := mif_f c4 h
      exact w_J6_hashCode_58 hC hR N u y1 h hP hS (lv_sub hl [0] rfl)
    · have h := mif_t c4 h
      refine u_aload_n (r := some a0) hx hb dJ6_hashCode_16 rfl (lv_at hl 1 rfl) ?_
      obtain ⟨c5, h⟩ := mif_n h
      obtain ⟨r8, u6, c7, h⟩ := ucall_n h
      have zu6 := zz_J6_isLatin1 N (ub G) (ug G) u a0 r8 u6 c7
      refine u_calli (va_runV (As := []) (rest := []) hC.1 (met_J6_isLatin1 l N G u a0 r8 u6 c7) (cwV 0 hts (lw_V q567 q568 q569 q110 q570) rfl rfl rfl (by decide +kernel) ⟨Nat.le_trans (Nat.le_of_ble_eq_true rfl) hR.1, Nat.le_trans (Nat.le_of_ble_eq_true rfl) hR.2⟩) ⟨uPc_blind, u_rcv hC hP c5 rfl, fun U hU hW => u_pre hC hP hS hU hW⟩ rfl rfl hl.1 rfl (lv_room (Nat.le_of_ble_eq_true rfl)) dJ6_hashCode_17 ⟨Nat.zero_le _, Nat.zero_le _⟩) hS (fun H locs hP hS => ?_)
      refine lv_if_eq (tgt := 33) hx hb dJ6_hashCode_20 (by decide) (fun c9 => ?_) (fun c9 => ?_)
      · have h := mif_t c9 h
        refine u_aload_n (r := some a0) hx hb dJ6_hashCode_33 rfl (lv_at hl 1 rfl) ?_
        obtain ⟨o10, ho10, h⟩ := mbind_n h
        refine u_get hC hP (uGR_n ho10) rfl in_J6 (by decide) q534 (fun _ h => h) dJ6_hashCode_34 ?_
        cases h
      · have h := mif_f c9 h
        refine u_aload_n (r := some a0) hx hb dJ6_hashCode_23 rfl (lv_at hl 1 rfl) ?_
        obtain ⟨o11, ho11, h⟩ := mbind_n h
        refine u_get hC hP (uGR_n ho11) rfl in_J6 (by decide) q534 (fun _ h => h) dJ6_hashCode_24 ?_
        obtain ⟨r14, u12, c13, h⟩ := ucall_n h
        have zu12 := zz_J11_hashCode N (ub G) (ug G) u6 o11 r14 u12 c13
        refine u_calli (va_runS (As := [va_rf o11]) (rest := []) hC.1 (met_J11_hashCode l N G u6 o11 r14 u12 c13) (va_cwS 1 hts (lw_S q712 q713 q116 q714) rfl rfl rfl (by decide +kernel) ⟨Nat.le_trans (Nat.le_of_ble_eq_true rfl) hR.1, Nat.le_trans (Nat.le_of_ble_eq_true rfl) hR.2⟩) ⟨uPc_blind, fun U hU hW => u_pre hC hP hS hU hW⟩ rfl rfl hl.1 rfl (lv_room (Nat.le_of_ble_eq_true rfl)) dJ6_hashCode_27 ⟨Nat.zero_le _, Nat.zero_le _⟩) hS (fun H locs hP hS => ?_)
        refine lv_goto (tgt := 40) hx hb dJ6_hashCode_30 (by decide) ?_
        exact w_J6_hashCode_40 hC hR N u12 r14 h hP hS (lv_sub hl [1] rfl)
theorem zz_J6_hashCode (N b : Nat) (g : uEnv) (u : UH) (a0 : Nat) (r : Int32) (uf : UH) (h : f_J6_hashCode N b g u a0 = some (r, uf)) : uf.1 = u.1 ∧ uf.2.1 = u.2.1 :=
  zz_J6_hashCode_0 (G := ((fun _ => 0, fun _ _ => 0), fun _ => 0, b, g)) (a0 := a0) N u h
theorem met_J6_hashCode (l : Launch) (N : Nat) (G : uG) (u : UH) (a0 : Nat) (r : Int32) (uf : UH) (h : f_J6_hashCode N (ub G) (ug G) u a0 = some (r, uf)) : Met l yJ6_hashCode (ws_ yJ6_hashCode cJ6_hashCode 2 (some .int)) ({ frames := 3, cells := 0, slots := 0, locals := 69 }) (uPc G u [.ref a0]) (uQi G r uf) 0 0 (uA G) := by
  exact u_met (own := RJ6) (by decide +kernel) rfl (Nat.le_of_ble_eq_true rfl) (fun hC hn hsz ls hl hP => w_J6_hashCode_0 hC ⟨Nat.le_refl _, Nat.le_refl _⟩ N u h hP va_S.rf hl)
def f_J6_length (N b : Nat) (g : uEnv) (u : UH) (a0 : Nat) : Option (Int32 × UH) :=
    (uGR u a0 20 0).bind fun o1 =>
    (o1).bind fun a2 =>
    (uLen u a2 1).bind fun y3 =>
    if uIs u a0 20 = true then
    ucall (f_J6_coder N b g u a0) fun r7 u5 =>
    some (y3 >>> (r7 &&& 31), u5)
    else none
set_option maxHeartbeats 4000000 in
set_option maxRecDepth 100000 in
theorem zz_J6_length_0 {G : uG} {a0 : Nat} {uf : UH} {r : Int32} (N : Nat) (u : UH) (h : f_J6_length N (ub G) (ug G) u a0 = some (r, uf)) : uf.1 = u.1 ∧ uf.2.1 = u.2.1 := by
  unfold f_J6_length at h
  obtain ⟨o1, ho1, h⟩ := mbind_n h
  obtain ⟨a2, ha2, hha2⟩ := mbind_n h
  subst ha2
  have h := hha2
  obtain ⟨y3, hy3, h⟩ := mbind_n h
  obtain ⟨c4, h⟩ := mif_n h
  obtain ⟨r7, u5, c6, h⟩ := ucall_n h
  have zu5 := zz_J6_coder N (ub G) (ug G) u a0 r7 u5 c6
  obtain ⟨hr1, hr2⟩ := uret_n h
  subst hr2
  exact ⟨by omega, by omega⟩
set_option maxHeartbeats 4000000 in
set_option maxRecDepth 100000 in
theorem w_J6_length_0 {p : Program} {l : Launch} {e : Env} {R : Room} {s : State} {m : MethodId} {args : Array Value} {below : List Frame} {meth : Method} {c : Code} {G : uG} {a0 : Nat} {uf : UH} {r : Int32} (hC : uC p s m args meth c G RJ6 cJ6_length 1 (some .int)) (hR : 1 ≤ R.frames ∧ 20 ≤ R.locals) (N : Nat) (u : UH) (h : f_J6_length N (ub G) (ug G) u a0 = some (r, uf)) {H : Heap} {locs : List Loc} (hP : uP G u H) (hS : va_S (uA G) s.heap H locs) {ls : Array Slot} (hl : lv_has ls 1 [(0, va_rf (some a0))]) : W p l e R s m args below meth c H locs 0 0 (MQ below (uQi G r uf) args s 0 0 (uA G)) (F0 m 0 ls []) := by
  obtain ⟨⟨hx, hb, hml, hown, hts⟩, hKK⟩ := id hC
  unfold f_J6_length at h
  refine u_aload_n (r := some a0) hx hb dJ6_length_0 rfl (lv_at hl 0 rfl) ?_
  obtain ⟨o1, ho1, h⟩ := mbind_n h
  refine u_get hC hP (uGR_n ho1) rfl in_J6 (by decide) q534 (fun _ h => h) dJ6_length_1 ?_
  obtain ⟨a2, ha2, hha2⟩ := mbind_n h
  subst ha2
  have h := hha2
  obtain ⟨y3, hy3, h⟩ := mbind_n h
  refine u_alen hC hP hy3 dJ6_length_4 ?_
  refine u_aload_n (r := some a0) hx hb dJ6_length_5 rfl (lv_at hl 0 rfl) ?_
  obtain ⟨c4, h⟩ := mif_n h
  obtain ⟨r7, u5, c6, h⟩ := ucall_n h
  have zu5 := zz_J6_coder N (ub G) (ug G) u a0 r7 u5 c6
  refine u_calli (va_runV (As := []) (rest := [.int y3]) hC.1 (met_J6_coder l N G u a0 r7 u5 c6) (cwV 0 hts (lw_V q575 q576 q577 q110 q578) rfl rfl rfl (by decide +kernel) ⟨Nat.le_trans (Nat.le_of_ble_eq_true rfl) hR.1, Nat.le_trans (Nat.le_of_ble_eq_true rfl) hR.2⟩) ⟨uPc_blind, u_rcv hC hP c4 rfl, fun U hU hW => u_pre hC hP hS hU hW⟩ rfl rfl hl.1 rfl (lv_room (Nat.le_of_ble_eq_true rfl)) dJ6_length_6 ⟨Nat.zero_le _, Nat.zero_le _⟩) hS (fun H locs hP hS => ?_)
  refine lv_ishr hx hb dJ6_length_9 ?_
  obtain ⟨hr1, hr2⟩ := uret_n h
  subst hr1
  subst hr2
  exact u_iret hC hP hS dJ6_length_10
theorem zz_J6_length (N b : Nat) (g : uEnv) (u : UH) (a0 : Nat) (r : Int32) (uf : UH) (h : f_J6_length N b g u a0 = some (r, uf)) : uf.1 = u.1 ∧ uf.2.1 = u.2.1 :=
  zz_J6_length_0 (G := ((fun _ => 0, fun _ _ => 0), fun _ => 0, b, g)) (a0 := a0) N u h
theorem met_J6_length (l : Launch) (N : Nat) (G : uG) (u : UH) (a0 : Nat) (r : Int32) (uf : UH) (h : f_J6_length N (ub G) (ug G) u a0 = some (r, uf)) : Met l yJ6_length (ws_ yJ6_length cJ6_length 1 (some .int)) ({ frames := 1, cells := 0, slots := 0, locals := 20 }) (uPc G u [.ref a0]) (uQi G r uf) 0 0 (uA G) := by
  exact u_met (own := RJ6) (by decide +kernel) rfl (Nat.le_of_ble_eq_true rfl) (fun hC hn hsz ls hl hP => w_J6_length_0 hC ⟨Nat.le_refl _, Nat.le_refl _⟩ N u h hP va_S.rf hl)
def f_J6_indexOf_2_36 (N b : Nat) (g : uEnv) (a0 : Nat) (u : UH) (s0 : Int32) : Option (Int32 × UH) :=
    some (s0, u)
set_option maxHeartbeats 4000000 in
set_option maxRecDepth 100000 in
theorem zz_J6_indexOf_2_36 {G : uG} {a0 : Nat} {uf : UH} {r : Int32} (N : Nat) (u : UH) (s0 : Int32) (h : f_J6_indexOf_2_36 N (ub G) (ug G) a0 u s0 = some (r, uf)) : uf.1 = u.1 ∧ uf.2.1 = u.2.1 := by
  unfold f_J6_indexOf_2_36 at h
  obtain ⟨hr1, hr2⟩ := uret_n h
  subst hr2
  exact ⟨by omega, by omega⟩
set_option maxHeartbeats 4000000 in
set_option maxRecDepth 100000 in
theorem w_J6_indexOf_2_36 {p : Program} {l : Launch} {e : Env} {R : Room} {s : State} {m : MethodId} {args : Array Value} {below : List Frame} {meth : Method} {c : Code} {G : uG} {a0 : Nat} {uf : UH} {r : Int32} (hC : uC p s m args meth c G RJ6 cJ6_indexOf_2 3 (some .int)) (hR : 2 ≤ R.frames ∧ 48 ≤ R.locals) (N : Nat) (u : UH) (s0 : Int32) (h : f_J6_indexOf_2_36 N (ub G) (ug G) a0 u s0 = some (r, uf)) {H : Heap} {locs : List Loc} (hP : uP G u H) (hS : va_S (uA G) s.heap H locs) {ls : Array Slot} (hl : lv_has ls 3 []) : W p l e R s m args below meth c H locs 0 0 (MQ below (uQi G r uf) args s 0 0 (uA G)) (F0 m 36 ls [.int s0]) := by
  obtain ⟨⟨hx, hb, hml, hown, hts⟩, hKK⟩ := id hC
  unfold f_J6_indexOf_2_36 at h
  obtain ⟨hr1, hr2⟩ := uret_n h
  subst hr1
  subst hr2
  exact u_iret hC hP hS dJ6_indexOf_2_36
def f_J6_indexOf_2 (N b : Nat) (g : uEnv) (u : UH) (a0 : Nat) (x1 : Int32) (x2 : Int32) : Option (Int32 × UH) :=
    if uIs u a0 20 = true then
    ucall (f_J6_isLatin1 N b g u a0) fun r4 u2 =>
    if r4 = 0 then
    (uGR u2 a0 20 0).bind fun o6 =>
    if uIs u2 a0 20 = true then
    ucall (f_J6_length N b g u2 a0) fun r10 u8 =>
    none
    else none
    else
    (uGR u2 a0 20 0).bind fun o11 =>
    if uIs u2 a0 20 = true then
    ucall (f_J6_length N b g u2 a0) fun r15 u13 =>
    ucall (f_J11_indexOf N b g u13 o11 x1 x2 r15) fun r18 u16 =>
    f_J6_indexOf_2_36 N b g a0 u16 r18
    else none
    else none
set_option maxHeartbeats 4000000 in
set_option maxRecDepth 100000 in
theorem zz_J6_indexOf_2_0 {G : uG} {a0 : Nat} {uf : UH} {r : Int32} (N : Nat) (u : UH) (x1 : Int32) (x2 : Int32) (h : f_J6_indexOf_2 N (ub G) (ug G) u a0 x1 x2 = some (r, uf)) : uf.1 = u.1 ∧ uf.2.1 = u.2.1 := by
  unfold f_J6_indexOf_2 at h
  obtain ⟨c1, h⟩ := mif_n h
  obtain ⟨r4, u2, c3, h⟩ := ucall_n h
  have zu2 := zz_J6_isLatin1 N (ub G) (ug G) u a0 r4 u2 c3
  by_cases c5 : r4 = 0
  · have h := mif_t c5 h
    obtain ⟨o6, ho6, h⟩ := mbind_n h
    obtain ⟨c7, h⟩ := mif_n h
    obtain ⟨r10, u8, c9, h⟩ := ucall_n h
    have zu8 := zz_J6_length N (ub G) (ug G) u2 a0 r10 u8 c9
    cases h
  · have h := mif_f c5 h
    obtain ⟨o11, ho11, h⟩ := mbind_n h
    obtain ⟨c12, h⟩ := mif_n h
    obtain ⟨r15, u13, c14, h⟩ := ucall_n h
    have zu13 := zz_J6_length N (ub G) (ug G) u2 a0 r15 u13 c14
    obtain ⟨r18, u16, c17, h⟩ := ucall_n h
    have zu16 := zz_J11_indexOf N (ub G) (ug G) u13 o11 x1 x2 r15 r18 u16 c17
    have hq := zz_J6_indexOf_2_36 (G := G) (a0 := a0) N u16 r18 h
    exact ⟨by omega, by omega⟩
set_option maxHeartbeats 4000000 in
set_option maxRecDepth 100000 in
theorem w_J6_indexOf_2_0 {p : Program} {l : Launch} {e : Env} {R : Room} {s : State} {m : MethodId} {args : Array Value} {below : List Frame} {meth : Method} {c : Code} {G : uG} {a0 : Nat} {uf : UH} {r : Int32} (hC : uC p s m args meth c G RJ6 cJ6_indexOf_2 3 (some .int)) (hR : 2 ≤ R.frames ∧ 48 ≤ R.locals) (N : Nat) (u : UH) (x1 : Int32) (x2 : Int32) (h : f_J6_indexOf_2 N (ub G) (ug G) u a0 x1 x2 = some (r, uf)) {H : Heap} {locs : List Loc} (hP : uP G u H) (hS : va_S (uA G) s.heap H locs) {ls : Array Slot} (hl : lv_has ls 3 [(0, va_rf (some a0)), (1, .int x1), (2, .int x2)]) : W p l e R s m args below meth c H locs 0 0 (MQ below (uQi G r uf) args s 0 0 (uA G)) (F0 m 0 ls []) := by
  obtain ⟨⟨hx, hb, hml, hown, hts⟩, hKK⟩ := id hC
  unfold f_J6_indexOf_2 at h
  refine u_aload_n (r := some a0) hx hb dJ6_indexOf_2_0 rfl (lv_at hl 0 rfl) ?_
  obtain ⟨c1, h⟩ := mif_n h
  obtain ⟨r4, u2, c3, h⟩ := ucall_n h
  have zu2 := zz_J6_isLatin1 N (ub G) (ug G) u a0 r4 u2 c3
  refine u_calli (va_runV (As := []) (rest := []) hC.1 (met_J6_isLatin1 l N G u a0 r4 u2 c3) (cwV 0 hts (lw_V q567 q568 q569 q110 q570) rfl rfl rfl (by decide +kernel) ⟨Nat.le_trans (Nat.le_of_ble_eq_true rfl) hR.1, Nat.le_trans (Nat.le_of_ble_eq_true rfl) hR.2⟩) ⟨uPc_blind, u_rcv hC hP c1 rfl, fun U hU hW => u_pre hC hP hS hU hW⟩ rfl rfl hl.1 rfl (lv_room (Nat.le_of_ble_eq_true rfl)) dJ6_indexOf_2_1 ⟨Nat.zero_le _, Nat.zero_le _⟩) hS (fun H locs hP hS => ?_)
  refine lv_if_eq (tgt := 23) hx hb dJ6_indexOf_2_4 (by decide) (fun c5 => ?_) (fun c5 => ?_)
  · have h := mif_t c5 h
    refine u_aload_n (r := some a0) hx hb dJ6_indexOf_2_23 rfl (lv_at hl 0 rfl) ?_
    obtain ⟨o6, ho6, h⟩ := mbind_n h
    refine u_get hC hP (uGR_n ho6) rfl in_J6 (by decide) q534 (fun _ h => h) dJ6_indexOf_2_24 ?_
    refine lv_iload_n hx hb dJ6_indexOf_2_27 rfl (lv_at hl 1 rfl) ?_
    refine lv_iload_n hx hb dJ6_indexOf_2_28 rfl (lv_at hl 2 rfl) ?_
    refine u_aload_n (r := some a0) hx hb dJ6_indexOf_2_29 rfl (lv_at hl 0 rfl) ?_
    obtain ⟨c7, h⟩ := mif_n h
    obtain ⟨r10, u8, c9, h⟩ := ucall_n h
    have zu8 := zz_J6_length N (ub G) (ug G) u2 a0 r10 u8 c9
    refine u_calli (va_runV (As := []) (rest := [.int x2, .int x1, va_rf o6]) hC.1 (met_J6_length l N G u2 a0 r10 u8 c9) (cwV 0 hts (lw_V q571 q572 q573 q110 q574) rfl rfl rfl (by decide +kernel) ⟨Nat.le_trans (Nat.le_of_ble_eq_true rfl) hR.1, Nat.le_trans (Nat.le_of_ble_eq_true rfl) hR.2⟩) ⟨uPc_blind, u_rcv hC hP c7 rfl, fun U hU hW => u_pre hC hP hS hU hW⟩ rfl rfl hl.1 rfl (lv_room (by simp only [List.map, u_cat]; exact Nat.le_of_ble_eq_true rfl)) dJ6_indexOf_2_30 ⟨Nat.zero_le _, Nat.zero_le _⟩) hS (fun H locs hP hS => ?_)
    cases h
  · have h := mif_f c5 h
    refine u_aload_n (r := some a0) hx hb dJ6_indexOf_2_7 rfl (lv_at hl 0 rfl) ?_
    obtain ⟨o11, ho11, h⟩ := mbind_n h
    refine u_get hC hP (uGR_n ho11) rfl in_J6 (by decide) q534 (fun _ h => h) dJ6_indexOf_2_8 ?_
    refine lv_iload_n hx hb dJ6_indexOf_2_11 rfl (lv_at hl 1 rfl) ?_
    refine lv_iload_n hx hb dJ6_indexOf_2_12 rfl (lv_at hl 2 rfl) ?_
    refine u_aload_n (r := some a0) hx hb dJ6_indexOf_2_13 rfl (lv_at hl 0 rfl) ?_
    obtain ⟨c12, h⟩ := mif_n h
    obtain ⟨r15, u13, c14, h⟩ := ucall_n h
    have zu13 := zz_J6_length N (ub G) (ug G) u2 a0 r15 u13 c14
    refine u_calli (va_runV (As := []) (rest := [.int x2, .int x1, va_rf o11]) hC.1 (met_J6_length l N G u2 a0 r15 u13 c14) (cwV 0 hts (lw_V q571 q572 q573 q110 q574) rfl rfl rfl (by decide +kernel) ⟨Nat.le_trans (Nat.le_of_ble_eq_true rfl) hR.1, Nat.le_trans (Nat.le_of_ble_eq_true rfl) hR.2⟩) ⟨uPc_blind, u_rcv hC hP c12 rfl, fun U hU hW => u_pre hC hP hS hU hW⟩ rfl rfl hl.1 rfl (lv_room (by simp only [List.map, u_cat]; exact Nat.le_of_ble_eq_true rfl)) dJ6_indexOf_2_14 ⟨Nat.zero_le _, Nat.zero_le _⟩) hS (fun H locs hP hS => ?_)
    obtain ⟨r18, u16, c17, h⟩ := ucall_n h
    have zu16 := zz_J11_indexOf N (ub G) (ug G) u13 o11 x1 x2 r15 r18 u16 c17
    refine u_calli (va_runS (As := [va_rf o11, .int x1, .int x2, .int r15]) (rest := []) hC.1 (met_J11_indexOf l N G u13 o11 x1 x2 r15 r18 u16 c17) (va_cwS 4 hts (lw_S q579 q580 q116 q581) rfl rfl rfl (by decide +kernel) ⟨Nat.le_trans (Nat.le_of_ble_eq_true rfl) hR.1, Nat.le_trans (Nat.le_of_ble_eq_true rfl) hR.2⟩) ⟨uPc_blind, fun U hU hW => u_pre hC hP hS hU hW⟩ rfl rfl hl.1 rfl (lv_room (Nat.le_of_ble_eq_true rfl)) dJ6_indexOf_2_17 ⟨Nat.zero_le _, Nat.zero_le _⟩) hS (fun H locs hP hS => ?_)
    refine lv_goto (tgt := 36) hx hb dJ6_indexOf_2_20 (by decide) ?_
    exact w_J6_indexOf_2_36 hC hR N u16 r18 h hP hS (lv_sub hl [] rfl)
theorem zz_J6_indexOf_2 (N b : Nat) (g : uEnv) (u : UH) (a0 : Nat) (x1 : Int32) (x2 : Int32) (r : Int32) (uf : UH) (h : f_J6_indexOf_2 N b g u a0 x1 x2 = some (r, uf)) : uf.1 = u.1 ∧ uf.2.1 = u.2.1 :=
  zz_J6_indexOf_2_0 (G := ((fun _ => 0, fun _ _ => 0), fun _ => 0, b, g)) (a0 := a0) N u x1 x2 h
theorem met_J6_indexOf_2 (l : Launch) (N : Nat) (G : uG) (u : UH) (a0 : Nat) (x1 : Int32) (x2 : Int32) (r : Int32) (uf : UH) (h : f_J6_indexOf_2 N (ub G) (ug G) u a0 x1 x2 = some (r, uf)) : Met l yJ6_indexOf_2 (ws_ yJ6_indexOf_2 cJ6_indexOf_2 3 (some .int)) ({ frames := 2, cells := 0, slots := 0, locals := 48 }) (uPc G u [.ref a0, .int x1, .int x2]) (uQi G r uf) 0 0 (uA G) := by
  exact u_met (own := RJ6) (by decide +kernel) rfl (Nat.le_of_ble_eq_true rfl) (fun hC hn hsz ls hl hP => w_J6_indexOf_2_0 hC ⟨Nat.le_refl _, Nat.le_refl _⟩ N u x1 x2 h hP va_S.rf hl)
def f_J6_indexOf (N b : Nat) (g : uEnv) (u : UH) (a0 : Nat) (x1 : Int32) : Option (Int32 × UH) :=
    if uIs u a0 20 = true then
    ucall (f_J6_indexOf_2 N b g u a0 x1 0) fun r4 u2 =>
    some (r4, u2)
    else none
set_option maxHeartbeats 4000000 in
set_option maxRecDepth 100000 in
theorem zz_J6_indexOf_0 {G : uG} {a0 : Nat} {uf : UH} {r : Int32} (N : Nat) (u : UH) (x1 : Int32) (h : f_J6_indexOf N (ub G) (ug G) u a0 x1 = some (r, uf)) : uf.1 = u.1 ∧ uf.2.1 = u.2.1 := by
  unfold f_J6_indexOf at h
  obtain ⟨c1, h⟩ := mif_n h
  obtain ⟨r4, u2, c3, h⟩ := ucall_n h
  have zu2 := zz_J6_indexOf_2 N (ub G) (ug G) u a0 x1 0 r4 u2 c3
  obtain ⟨hr1, hr2⟩ := uret_n h
  subst hr2
  exact ⟨by omega, by omega⟩
set_option maxHeartbeats 4000000 in
set_option maxRecDepth 100000 in
theorem w_J6_indexOf_0 {p : Program} {l : Launch} {e : Env} {R : Room} {s : State} {m : MethodId} {args : Array Value} {below : List Frame} {meth : Method} {c : Code} {G : uG} {a0 : Nat} {uf : UH} {r : Int32} (hC : uC p s m args meth c G RJ6 cJ6_indexOf 2 (some .int)) (hR : 3 ≤ R.frames ∧ 70 ≤ R.locals) (N : Nat) (u : UH) (x1 : Int32) (h : f_J6_indexOf N (ub G) (ug G) u a0 x1 = some (r, uf)) {H : Heap} {locs : List Loc} (hP : uP G u H) (hS : va_S (uA G) s.heap H locs) {ls : Array Slot} (hl : lv_has ls 2 [(0, va_rf (some a0)), (1, .int x1)]) : W p l e R s m args below meth c H locs 0 0 (MQ below (uQi G r uf) args s 0 0 (uA G)) (F0 m 0 ls []) := by
  obtain ⟨⟨hx, hb, hml, hown, hts⟩, hKK⟩ := id hC
  unfold f_J6_indexOf at h
  refine u_aload_n (r := some a0) hx hb dJ6_indexOf_0 rfl (lv_at hl 0 rfl) ?_
  refine lv_iload_n hx hb dJ6_indexOf_1 rfl (lv_at hl 1 rfl) ?_
  refine lv_iconst (v := 0) hx hb dJ6_indexOf_2 (by decide) ?_
  obtain ⟨c1, h⟩ := mif_n h
  obtain ⟨r4, u2, c3, h⟩ := ucall_n h
  have zu2 := zz_J6_indexOf_2 N (ub G) (ug G) u a0 x1 0 r4 u2 c3
  refine u_calli (va_runV (As := [.int x1, .int 0]) (rest := []) hC.1 (met_J6_indexOf_2 l N G u a0 x1 0 r4 u2 c3) (cwV 2 hts (lw_V q563 q564 q565 q110 q566) rfl rfl rfl (by decide +kernel) ⟨Nat.le_trans (Nat.le_of_ble_eq_true rfl) hR.1, Nat.le_trans (Nat.le_of_ble_eq_true rfl) hR.2⟩) ⟨uPc_blind, u_rcv hC hP c1 rfl, fun U hU hW => u_pre hC hP hS hU hW⟩ rfl rfl hl.1 rfl (lv_room (Nat.le_of_ble_eq_true rfl)) dJ6_indexOf_3 ⟨Nat.zero_le _, Nat.zero_le _⟩) hS (fun H locs hP hS => ?_)
  obtain ⟨hr1, hr2⟩ := uret_n h
  subst hr1
  subst hr2
  exact u_iret hC hP hS dJ6_indexOf_6
theorem zz_J6_indexOf (N b : Nat) (g : uEnv) (u : UH) (a0 : Nat) (x1 : Int32) (r : Int32) (uf : UH) (h : f_J6_indexOf N b g u a0 x1 = some (r, uf)) : uf.1 = u.1 ∧ uf.2.1 = u.2.1 :=
  zz_J6_indexOf_0 (G := ((fun _ => 0, fun _ _ => 0), fun _ => 0, b, g)) (a0 := a0) N u x1 h
theorem met_J6_indexOf (l : Launch) (N : Nat) (G : uG) (u : UH) (a0 : Nat) (x1 : Int32) (r : Int32) (uf : UH) (h : f_J6_indexOf N (ub G) (ug G) u a0 x1 = some (r, uf)) : Met l yJ6_indexOf (ws_ yJ6_indexOf cJ6_indexOf 2 (some .int)) ({ frames := 3, cells := 0, slots := 0, locals := 70 }) (uPc G u [.ref a0, .int x1]) (uQi G r uf) 0 0 (uA G) := by
  exact u_met (own := RJ6) (by decide +kernel) rfl (Nat.le_of_ble_eq_true rfl) (fun hC hn hsz ls hl hP => w_J6_indexOf_0 hC ⟨Nat.le_refl _, Nat.le_refl _⟩ N u x1 h hP va_S.rf hl)
def f_J9_min_2_11 (N b : Nat) (g : uEnv) (u : UH) (s0 : Int64) : Option (Int64 × UH) :=
    some (s0, u)
set_option maxHeartbeats 4000000 in
set_option maxRecDepth 100000 in
theorem zz_J9_min_2_11 {G : uG} {uf : UH} {r : Int64} (N : Nat) (u : UH) (s0 : Int64) (h : f_J9_min_2_11 N (ub G) (ug G) u s0 = some (r, uf)) : uf.1 = u.1 ∧ uf.2.1 = u.2.1 := by
  unfold f_J9_min_2_11 at h
  obtain ⟨hr1, hr2⟩ := uret_n h
  subst hr2
  exact ⟨by omega, by omega⟩
set_option maxHeartbeats 4000000 in
set_option maxRecDepth 100000 in
theorem w_J9_min_2_11 {p : Program} {l : Launch} {e : Env} {R : Room} {s : State} {m : MethodId} {args : Array Value} {below : List Frame} {meth : Method} {c : Code} {G : uG} {uf : UH} {r : Int64} (hC : uC p s m args meth c G RJ9 cJ9_min_2 4 (some .long)) (hR : 0 ≤ R.frames ∧ 0 ≤ R.locals) (N : Nat) (u : UH) (s0 : Int64) (h : f_J9_min_2_11 N (ub G) (ug G) u s0 = some (r, uf)) {H : Heap} {locs : List Loc} (hP : uP G u H) (hS : va_S (uA G) s.heap H locs) {ls : Array Slot} (hl : lv_has ls 4 []) : W p l e R s m args below meth c H locs 0 0 (MQ below (uQl G r uf) args s 0 0 (uA G)) (F0 m 11 ls [.long s0]) := by
  obtain ⟨⟨hx, hb, hml, hown, hts⟩, hKK⟩ := id hC
  unfold f_J9_min_2_11 at h
  obtain ⟨hr1, hr2⟩ := uret_n h
  subst hr1
  subst hr2
  exact u_lret hC hP hS dJ9_min_2_11
def f_J9_min_2 (N b : Nat) (g : uEnv) (u : UH) (x0 : Int64) (x2 : Int64) : Option (Int64 × UH) :=
    if 0 < (lg_cmp x0 x2) then
    f_J9_min_2_11 N b g u x2
    else
    f_J9_min_2_11 N b g u x0
set_option maxHeartbeats 4000000 in
set_option maxRecDepth 100000 in
theorem zz_J9_min_2_0 {G : uG} {uf : UH} {r : Int64} (N : Nat) (u : UH) (x0 : Int64) (x2 : Int64) (h : f_J9_min_2 N (ub G) (ug G) u x0 x2 = some (r, uf)) : uf.1 = u.1 ∧ uf.2.1 = u.2.1 := by
  unfold f_J9_min_2 at h
  by_cases c1 : 0 < (lg_cmp x0 x2)
  · have h := mif_t c1 h
    have hq := zz_J9_min_2_11 (G := G) N u x2 h
    exact ⟨by omega, by omega⟩
  · have h := mif_f c1 h
    have hq := zz_J9_min_2_11 (G := G) N u x0 h
    exact ⟨by omega, by omega⟩
set_option maxHeartbeats 4000000 in
set_option maxRecDepth 100000 in
theorem w_J9_min_2_0 {p : Program} {l : Launch} {e : Env} {R : Room} {s : State} {m : MethodId} {args : Array Value} {below : List Frame} {meth : Method} {c : Code} {G : uG} {uf : UH} {r : Int64} (hC : uC p s m args meth c G RJ9 cJ9_min_2 4 (some .long)) (hR : 0 ≤ R.frames ∧ 0 ≤ R.locals) (N : Nat) (u : UH) (x0 : Int64) (x2 : Int64) (h : f_J9_min_2 N (ub G) (ug G) u x0 x2 = some (r, uf)) {H : Heap} {locs : List Loc} (hP : uP G u H) (hS : va_S (uA G) s.heap H locs) {ls : Array Slot} (hl : lv_has ls 4 [(0, .long x0), (2, .long x2)]) : W p l e R s m args below meth c H locs 0 0 (MQ below (uQl G r uf) args s 0 0 (uA G)) (F0 m 0 ls []) := by
  obtain ⟨⟨hx, hb, hml, hown, hts⟩, hKK⟩ := id hC
  unfold f_J9_min_2 at h
  refine lv_lload_n hx hb dJ9_min_2_0 rfl (lv_at hl 0 rfl) ?_
  refine lv_lload_n hx hb dJ9_min_2_1 rfl (lv_at hl 1 rfl) ?_
  refine W.lcmp hx hb dJ9_min_2_2 ?_
  refine lv_if_gt (tgt := 10) hx hb dJ9_min_2_3 (by decide) (fun c1 => ?_) (fun c1 => ?_)
  · have h := mif_t c1 h
    refine lv_lload_n hx hb dJ9_min_2_10 rfl (lv_at hl 1 rfl) ?_
    exact w_J9_min_2_11 hC hR N u x2 h hP hS (lv_sub hl [] rfl)
  · have h := mif_f c1 h
    refine lv_lload_n hx hb dJ9_min_2_6 rfl (lv_at hl 0 rfl) ?_
    refine lv_goto (tgt := 11) hx hb dJ9_min_2_7 (by decide) ?_
    exact w_J9_min_2_11 hC hR N u x0 h hP hS (lv_sub hl [] rfl)
theorem zz_J9_min_2 (N b : Nat) (g : uEnv) (u : UH) (x0 : Int64) (x2 : Int64) (r : Int64) (uf : UH) (h : f_J9_min_2 N b g u x0 x2 = some (r, uf)) : uf.1 = u.1 ∧ uf.2.1 = u.2.1 :=
  zz_J9_min_2_0 (G := ((fun _ => 0, fun _ _ => 0), fun _ => 0, b, g)) N u x0 x2 h
theorem met_J9_min_2 (l : Launch) (N : Nat) (G : uG) (u : UH) (x0 : Int64) (x2 : Int64) (r : Int64) (uf : UH) (h : f_J9_min_2 N (ub G) (ug G) u x0 x2 = some (r, uf)) : Met l yJ9_min_2 (ws_ yJ9_min_2 cJ9_min_2 4 (some .long)) ({ frames := 0, cells := 0, slots := 0, locals := 0 }) (uPc G u [.long x0, .long x2]) (uQl G r uf) 0 0 (uA G) := by
  exact u_met (own := RJ9) (by decide +kernel) rfl (Nat.le_of_ble_eq_true rfl) (fun hC hn hsz ls hl hP => w_J9_min_2_0 hC ⟨Nat.le_refl _, Nat.le_refl _⟩ N u x0 x2 h hP va_S.rf hl)
def f_X5_is_26 (N b : Nat) (g : uEnv) (a0 : Nat) (u : UH) (s0 : Int32) : Option (Int32 × UH) :=
    if uFit .boolean s0 = true then
    some (s0, u)
    else none
set_option maxHeartbeats 4000000 in
set_option maxRecDepth 100000 in
theorem zz_X5_is_26 {G : uG} {a0 : Nat} {uf : UH} {r : Int32} (N : Nat) (u : UH) (s0 : Int32) (h : f_X5_is_26 N (ub G) (ug G) a0 u s0 = some (r, uf)) : uf.1 = u.1 ∧ uf.2.1 = u.2.1 := by
  unfold f_X5_is_26 at h
  obtain ⟨c1, h⟩ := mif_n h
  obtain ⟨hr1, hr2⟩ := uret_n h
  subst hr2
  exact ⟨by omega, by omega⟩
set_option maxHeartbeats 4000000 in
set_option maxRecDepth 100000 in
theorem w_X5_is_26 {p : Program} {l : Launch} {e : Env} {R : Room} {s : State} {m : MethodId} {args : Array Value} {below : List Frame} {meth : Method} {c : Code} {G : uG} {a0 : Nat} {uf : UH} {r : Int32} (hC : uC p s m args meth c G RX5 cX5_is 2 (some .boolean)) (hR : 2 ≤ R.frames ∧ 44 ≤ R.locals) (N : Nat) (u : UH) (s0 : Int32) (h : f_X5_is_26 N (ub G) (ug G) a0 u s0 = some (r, uf)) {H : Heap} {locs : List Loc} (hP : uP G u H) (hS : va_S (uA G) s.heap H locs) {ls : Array Slot} (hl : lv_has ls 2 []) : W p l e R s m args below meth c H locs 0 0 (MQ below (uQi G r uf) args s 0 0 (uA G)) (F0 m 26 ls [.int s0]) := by
  obtain ⟨⟨hx, hb, hml, hown, hts⟩, hKK⟩ := id hC
  unfold f_X5_is_26 at h
  obtain ⟨c1, h⟩ := mif_n h
  obtain ⟨hr1, hr2⟩ := uret_n h
  subst hr1
  subst hr2
  exact u_zret hC (uFit_n c1).1 hP hS dX5_is_26
def f_X5_is_25 (N b : Nat) (g : uEnv) (a0 : Nat) (u : UH) : Option (Int32 × UH) :=
    f_X5_is_26 N b g a0 u 0
set_option maxHeartbeats 4000000 in
set_option maxRecDepth 100000 in
theorem zz_X5_is_25 {G : uG} {a0 : Nat} {uf : UH} {r : Int32} (N : Nat) (u : UH) (h : f_X5_is_25 N (ub G) (ug G) a0 u = some (r, uf)) : uf.1 = u.1 ∧ uf.2.1 = u.2.1 := by
  unfold f_X5_is_25 at h
  have hq := zz_X5_is_26 (G := G) (a0 := a0) N u 0 h
  exact ⟨by omega, by omega⟩
set_option maxHeartbeats 4000000 in
set_option maxRecDepth 100000 in
theorem w_X5_is_25 {p : Program} {l : Launch} {e : Env} {R : Room} {s : State} {m : MethodId} {args : Array Value} {below : List Frame} {meth : Method} {c : Code} {G : uG} {a0 : Nat} {uf : UH} {r : Int32} (hC : uC p s m args meth c G RX5 cX5_is 2 (some .boolean)) (hR : 2 ≤ R.frames ∧ 44 ≤ R.locals) (N : Nat) (u : UH) (h : f_X5_is_25 N (ub G) (ug G) a0 u = some (r, uf)) {H : Heap} {locs : List Loc} (hP : uP G u H) (hS : va_S (uA G) s.heap H locs) {ls : Array Slot} (hl : lv_has ls 2 []) : W p l e R s m args below meth c H locs 0 0 (MQ below (uQi G r uf) args s 0 0 (uA G)) (F0 m 25 ls []) := by
  obtain ⟨⟨hx, hb, hml, hown, hts⟩, hKK⟩ := id hC
  unfold f_X5_is_25 at h
  refine lv_iconst (v := 0) hx hb dX5_is_25 (by decide) ?_
  exact w_X5_is_26 hC hR N u 0 h hP hS (lv_sub hl [] rfl)
def f_X5_is (N b : Nat) (g : uEnv) (u : UH) (a0 : Nat) (x1 : Option Nat) : Option (Int32 × UH) :=
    (uGR u a0 4 5).bind fun o1 =>
    mlet (g.1 2) fun o2 =>
    if o1 = o2 then
    (uGR u a0 4 6).bind fun o4 =>
    (o4).bind fun a5 =>
    if uIs u a5 20 = true then
    ucall (f_J6_equals N b g u a5 x1) fun r9 u7 =>
    if r9 = 0 then
    f_X5_is_25 N b g a0 u7
    else
    f_X5_is_26 N b g a0 u7 1
    else none
    else
    f_X5_is_25 N b g a0 u
set_option maxHeartbeats 4000000 in
set_option maxRecDepth 100000 in
theorem zz_X5_is_0 {G : uG} {a0 : Nat} {uf : UH} {r : Int32} (N : Nat) (u : UH) (x1 : Option Nat) (h : f_X5_is N (ub G) (ug G) u a0 x1 = some (r, uf)) : uf.1 = u.1 ∧ uf.2.1 = u.2.1 := by
  unfold f_X5_is at h
  obtain ⟨o1, ho1, h⟩ := mbind_n h
  obtain ⟨o2, eo2⟩ : ∃ z, z = (ug G).1 2 := ⟨_, rfl⟩
  have h := mlet_at eo2 h
  by_cases c3 : o1 = o2
  · have h := mif_t c3 h
    obtain ⟨o4, ho4, h⟩ := mbind_n h
    obtain ⟨a5, ha5, hha5⟩ := mbind_n h
    subst ha5
    have h := hha5
    obtain ⟨c6, h⟩ := mif_n h
    obtain ⟨r9, u7, c8, h⟩ := ucall_n h
    have zu7 := zz_J6_equals N (ub G) (ug G) u a5 x1 r9 u7 c8
    by_cases c10 : r9 = 0
    · have h := mif_t c10 h
      have hq := zz_X5_is_25 (G := G) (a0 := a0) N u7 h
      exact ⟨by omega, by omega⟩
    · have h := mif_f c10 h
      have hq := zz_X5_is_26 (G := G) (a0 := a0) N u7 1 h
      exact ⟨by omega, by omega⟩
  · have h := mif_f c3 h
    have hq := zz_X5_is_25 (G := G) (a0 := a0) N u h
    exact ⟨by omega, by omega⟩
set_option maxHeartbeats 4000000 in
set_option maxRecDepth 100000 in
theorem w_X5_is_0 {p : Program} {l : Launch} {e : Env} {R : Room} {s : State} {m : MethodId} {args : Array Value} {below : List Frame} {meth : Method} {c : Code} {G : uG} {a0 : Nat} {uf : UH} {r : Int32} (hC : uC p s m args meth c G RX5 cX5_is 2 (some .boolean)) (hR : 2 ≤ R.frames ∧ 44 ≤ R.locals) (N : Nat) (u : UH) (x1 : Option Nat) (h : f_X5_is N (ub G) (ug G) u a0 x1 = some (r, uf)) {H : Heap} {locs : List Loc} (hP : uP G u H) (hS : va_S (uA G) s.heap H locs) {ls : Array Slot} (hl : lv_has ls 2 [(0, va_rf (some a0)), (1, va_rf x1)]) : W p l e R s m args below meth c H locs 0 0 (MQ below (uQi G r uf) args s 0 0 (uA G)) (F0 m 0 ls []) := by
  obtain ⟨⟨hx, hb, hml, hown, hts⟩, hKK⟩ := id hC
  unfold f_X5_is at h
  refine u_aload_n (r := some a0) hx hb dX5_is_0 rfl (lv_at hl 0 rfl) ?_
  obtain ⟨o1, ho1, h⟩ := mbind_n h
  refine u_get hC hP (uGR_n ho1) rfl in_X5 (by decide) q636 (fun _ h => h) dX5_is_1 ?_
  refine u_gets hC hS 2 rfl q547 (fun _ h => h) dX5_is_4 ?_
  obtain ⟨o2, eo2⟩ : ∃ z, z = (ug G).1 2 := ⟨_, rfl⟩
  have h := mlet_at eo2 h
  rw [← eo2]
  refine lv_acmp_ne (rx := o1) (ry := o2) (tgt := 25) hx hb dX5_is_7 (by decide) (fun c3 => ?_) (fun c3 => ?_)
  · have h := mif_f c3 h
    exact w_X5_is_25 hC hR N u h hP hS (lv_sub hl [] rfl)
  · have h := mif_t c3 h
    refine u_aload_n (r := some a0) hx hb dX5_is_10 rfl (lv_at hl 0 rfl) ?_
    obtain ⟨o4, ho4, h⟩ := mbind_n h
    refine u_get hC hP (uGR_n ho4) rfl in_X5 (by decide) q638 (fun _ h => h) dX5_is_11 ?_
    refine u_aload_n (r := x1) hx hb dX5_is_14 rfl (lv_at hl 1 rfl) ?_
    obtain ⟨a5, ha5, hha5⟩ := mbind_n h
    subst ha5
    have h := hha5
    obtain ⟨c6, h⟩ := mif_n h
    obtain ⟨r9, u7, c8, h⟩ := ucall_n h
    have zu7 := zz_J6_equals N (ub G) (ug G) u a5 x1 r9 u7 c8
    refine u_calli (va_runV (As := [va_rf x1]) (rest := []) hC.1 (met_J6_equals l N G u a5 x1 r9 u7 c8) (cwV 1 hts (lw_V q671 q672 q673 q110 q674) rfl rfl rfl (by decide +kernel) ⟨Nat.le_trans (Nat.le_of_ble_eq_true rfl) hR.1, Nat.le_trans (Nat.le_of_ble_eq_true rfl) hR.2⟩) ⟨uPc_blind, u_rcv hC hP c6 rfl, fun U hU hW => u_pre hC hP hS hU hW⟩ rfl rfl hl.1 rfl (lv_room (Nat.le_of_ble_eq_true rfl)) dX5_is_15 ⟨Nat.zero_le _, Nat.zero_le _⟩) hS (fun H locs hP hS => ?_)
    refine lv_if_eq (tgt := 25) hx hb dX5_is_18 (by decide) (fun c10 => ?_) (fun c10 => ?_)
    · have h := mif_t c10 h
      exact w_X5_is_25 hC hR N u7 h hP hS (lv_sub hl [] rfl)
    · have h := mif_f c10 h
      refine lv_iconst (v := 1) hx hb dX5_is_21 (by decide) ?_
      refine lv_goto (tgt := 26) hx hb dX5_is_22 (by decide) ?_
      exact w_X5_is_26 hC hR N u7 1 h hP hS (lv_sub hl [] rfl)
theorem zz_X5_is (N b : Nat) (g : uEnv) (u : UH) (a0 : Nat) (x1 : Option Nat) (r : Int32) (uf : UH) (h : f_X5_is N b g u a0 x1 = some (r, uf)) : uf.1 = u.1 ∧ uf.2.1 = u.2.1 :=
  zz_X5_is_0 (G := ((fun _ => 0, fun _ _ => 0), fun _ => 0, b, g)) (a0 := a0) N u x1 h
theorem met_X5_is (l : Launch) (N : Nat) (G : uG) (u : UH) (a0 : Nat) (x1 : Option Nat) (r : Int32) (uf : UH) (h : f_X5_is N (ub G) (ug G) u a0 x1 = some (r, uf)) : Met l yX5_is (ws_ yX5_is cX5_is 2 (some .boolean)) ({ frames := 2, cells := 0, slots := 0, locals := 44 }) (uPc G u [.ref a0, va_rf x1]) (uQi G r uf) 0 0 (uA G) := by
  rcases x1 with _ | x1 <;> exact u_met (own := RX5) (by decide +kernel) rfl (Nat.le_of_ble_eq_true rfl) (fun hC hn hsz ls hl hP => w_X5_is_0 hC ⟨Nat.le_refl _, Nat.le_refl _⟩ N u _ h hP va_S.rf hl)
def f_X7_of_105 (N b : Nat) (g : uEnv) (u : UH) (x2 : Int32) : Option (Option Nat × UH) :=
    if x2 = 0 then
    mlet (g.1 5) fun o2 =>
    some (o2, u)
    else
    if x2 = 1 then
    mlet (g.1 6) fun o4 =>
    some (o4, u)
    else
    if x2 = 2 then
    mlet (g.1 7) fun o6 =>
    some (o6, u)
    else
    if x2 = 3 then
    mlet (g.1 8) fun o8 =>
    some (o8, u)
    else
    some (none, u)
set_option maxHeartbeats 4000000 in
set_option maxRecDepth 100000 in
theorem zz_X7_of_105 {G : uG} {uf : UH} {r : Option Nat} (N : Nat) (u : UH) (x2 : Int32) (h : f_X7_of_105 N (ub G) (ug G) u x2 = some (r, uf)) : uf.1 = u.1 ∧ uf.2.1 = u.2.1 := by
  unfold f_X7_of_105 at h
  by_cases c1 : x2 = 0
  · have h := mif_t c1 h
    obtain ⟨o2, eo2⟩ : ∃ z, z = (ug G).1 5 := ⟨_, rfl⟩
    have h := mlet_at eo2 h
    obtain ⟨hr1, hr2⟩ := uret_n h
    subst hr2
    exact ⟨by omega, by omega⟩
  have h := mif_f c1 h
  by_cases c3 : x2 = 1
  · have h := mif_t c3 h
    obtain ⟨o4, eo4⟩ : ∃ z, z = (ug G).1 6 := ⟨_, rfl⟩
    have h := mlet_at eo4 h
    obtain ⟨hr1, hr2⟩ := uret_n h
    subst hr2
    exact ⟨by omega, by omega⟩
  have h := mif_f c3 h
  by_cases c5 : x2 = 2
  · have h := mif_t c5 h
    obtain ⟨o6, eo6⟩ : ∃ z, z = (ug G).1 7 := ⟨_, rfl⟩
    have h := mlet_at eo6 h
    obtain ⟨hr1, hr2⟩ := uret_n h
    subst hr2
    exact ⟨by omega, by omega⟩
  have h := mif_f c5 h
  by_cases c7 : x2 = 3
  · have h := mif_t c7 h
    obtain ⟨o8, eo8⟩ : ∃ z, z = (ug G).1 8 := ⟨_, rfl⟩
    have h := mlet_at eo8 h
    obtain ⟨hr1, hr2⟩ := uret_n h
    subst hr2
    exact ⟨by omega, by omega⟩
  have h := mif_f c7 h
  obtain ⟨hr1, hr2⟩ := uret_n h
  subst hr2
  exact ⟨by omega, by omega⟩
set_option maxHeartbeats 4000000 in
set_option maxRecDepth 100000 in
theorem w_X7_of_105 {p : Program} {l : Launch} {e : Env} {R : Room} {s : State} {m : MethodId} {args : Array Value} {below : List Frame} {meth : Method} {c : Code} {G : uG} {uf : UH} {r : Option Nat} (hC : uC p s m args meth c G RX7 cX7_of 3 (some (.object "SoftWheels$Way"))) (hR : 4 ≤ R.frames ∧ 90 ≤ R.locals) (N : Nat) (u : UH) (x2 : Int32) (h : f_X7_of_105 N (ub G) (ug G) u x2 = some (r, uf)) {H : Heap} {locs : List Loc} (hP : uP G u H) (hS : va_S (uA G) s.heap H locs) {ls : Array Slot} (hl : lv_has ls 3 [(2, .int x2)]) : W p l e R s m args below meth c H locs 0 0 (MQ below (uQr G r uf) args s 0 0 (uA G)) (F0 m 105 ls []) := by
  obtain ⟨⟨hx, hb, hml, hown, hts⟩, hKK⟩ := id hC
  unfold f_X7_of_105 at h
  refine lv_iload_n hx hb dX7_of_105 rfl (lv_at hl 0 rfl) ?_
  by_cases c1 : x2 = 0
  · have h := mif_t c1 h
    refine lv_tableIn (tgt := 136) hx hb dX7_of_106 (by rw [c1]; decide) (by rw [c1]; decide) (by rw [c1]; rfl) (by decide) ?_
    refine u_gets hC hS 5 rfl q772 (fun _ h => h) dX7_of_136 ?_
    obtain ⟨o2, eo2⟩ : ∃ z, z = (ug G).1 5 := ⟨_, rfl⟩
    have h := mlet_at eo2 h
    rw [← eo2]
    obtain ⟨hr1, hr2⟩ := uret_n h
    subst hr1
    subst hr2
    exact u_aret hC (Or.inl ⟨_, rfl⟩) hP hS dX7_of_139
  have h := mif_f c1 h
  by_cases c3 : x2 = 1
  · have h := mif_t c3 h
    refine lv_tableIn (tgt := 140) hx hb dX7_of_106 (by rw [c3]; decide) (by rw [c3]; decide) (by rw [c3]; rfl) (by decide) ?_
    refine u_gets hC hS 6 rfl q774 (fun _ h => h) dX7_of_140 ?_
    obtain ⟨o4, eo4⟩ : ∃ z, z = (ug G).1 6 := ⟨_, rfl⟩
    have h := mlet_at eo4 h
    rw [← eo4]
    obtain ⟨hr1, hr2⟩ := uret_n h
    subst hr1
    subst hr2
    exact u_aret hC (Or.inl ⟨_, rfl⟩) hP hS dX7_of_143
  have h := mif_f c3 h
  by_cases c5 : x2 = 2
  · have h := mif_t c5 h
    refine lv_tableIn (tgt := 144) hx hb dX7_of_106 (by rw [c5]; decide) (by rw [c5]; decide) (by rw [c5]; rfl) (by decide) ?_
    refine u_gets hC hS 7 rfl q776 (fun _ h => h) dX7_of_144 ?_
    obtain ⟨o6, eo6⟩ : ∃ z, z = (ug G).1 7 := ⟨_, rfl⟩
    have h := mlet_at eo6 h
    rw [← eo6]
    obtain ⟨hr1, hr2⟩ := uret_n h
    subst hr1
    subst hr2
    exact u_aret hC (Or.inl ⟨_, rfl⟩) hP hS dX7_of_147
  have h := mif_f c5 h
  by_cases c7 : x2 = 3
  · have h := mif_t c7 h
    refine lv_tableIn (tgt := 148) hx hb dX7_of_106 (by rw [c7]; decide) (by rw [c7]; decide) (by rw [c7]; rfl) (by decide) ?_
    refine u_gets hC hS 8 rfl q778 (fun _ h => h) dX7_of_148 ?_
    obtain ⟨o8, eo8⟩ : ∃ z, z = (ug G).1 8 := ⟨_, rfl⟩
    have h := mlet_at eo8 h
    rw [← eo8]
    obtain ⟨hr1, hr2⟩ := uret_n h
    subst hr1
    subst hr2
    exact u_aret hC (Or.inl ⟨_, rfl⟩) hP hS dX7_of_151
  have h := mif_f c7 h
  refine lv_tableOut (tgt := 152) hx hb dX7_of_106 (m_out 0 3 [0, 1, 2, 3] 4 (by decide) (by decide) (fun z hz => ?_)) (by decide) ?_
  · simp only [List.mem_cons, List.not_mem_nil, or_false] at hz
    rcases hz with rfl | rfl | rfl | rfl
    · exact c1
    · exact c3
    · exact c5
    · exact c7
  · refine lv_null hx hb dX7_of_152 ?_
    obtain ⟨hr1, hr2⟩ := uret_n h
    subst hr1
    subst hr2
    exact u_aret hC (Or.inl ⟨_, rfl⟩) hP hS dX7_of_153
def f_X7_of (N b : Nat) (g : uEnv) (u : UH) (x0 : Option Nat) : Option (Option Nat × UH) :=
    (x0).bind fun a1 =>
    if uIs u a1 20 = true then
    ucall (f_J6_hashCode N b g u a1) fun r5 u3 =>
    if r5 = 3739 then
    if uIs u3 a1 20 = true then
    ucall (f_J6_equals N b g u3 a1 (some (g.2.1 10))) fun r10 u8 =>
    if r10 = 0 then
    f_X7_of_105 N b g u8 (-1)
    else
    f_X7_of_105 N b g u8 2
    else none
    else
    if r5 = 3089570 then
    if uIs u3 a1 20 = true then
    ucall (f_J6_equals N b g u3 a1 (some (g.2.1 11))) fun r16 u14 =>
    if r16 = 0 then
    f_X7_of_105 N b g u14 (-1)
    else
    f_X7_of_105 N b g u14 3
    else none
    else
    if r5 = 3317767 then
    if uIs u3 a1 20 = true then
    ucall (f_J6_equals N b g u3 a1 (some (g.2.1 9))) fun r22 u20 =>
    if r22 = 0 then
    f_X7_of_105 N b g u20 (-1)
    else
    f_X7_of_105 N b g u20 1
    else none
    else
    if r5 = 108511772 then
    if uIs u3 a1 20 = true then
    ucall (f_J6_equals N b g u3 a1 (some (g.2.1 8))) fun r28 u26 =>
    if r28 = 0 then
    f_X7_of_105 N b g u26 (-1)
    else
    f_X7_of_105 N b g u26 0
    else none
    else
    f_X7_of_105 N b g u3 (-1)
    else none
set_option maxHeartbeats 4000000 in
set_option maxRecDepth 100000 in
theorem zz_X7_of_0 {G : uG} {uf : UH} {r : Option Nat} (N : Nat) (u : UH) (x0 : Option Nat) (h : f_X7_of N (ub G) (ug G) u x0 = some (r, uf)) : uf.1 = u.1 ∧ uf.2.1 = u.2.1 := by
  unfold f_X7_of at h
  obtain ⟨a1, ha1, hha1⟩ := mbind_n h
  subst ha1
  have h := hha1
  obtain ⟨c2, h⟩ := mif_n h
  obtain ⟨r5, u3, c4, h⟩ := ucall_n h
  have zu3 := zz_J6_hashCode N (ub G) (ug G) u a1 r5 u3 c4
  by_cases c6 : r5 = 3739
  · have h := mif_t c6 h
    obtain ⟨c7, h⟩ := mif_n h
    obtain ⟨r10, u8, c9, h⟩ := ucall_n h
    have zu8 := zz_J6_equals N (ub G) (ug G) u3 a1 (some ((ug G).2.1 10)) r10 u8 c9
    by_cases c11 : r10 = 0
    · have h := mif_t c11 h
      have hq := zz_X7_of_105 (G := G) N u8 (-1) h
      exact ⟨by omega, by omega⟩
    · have h := mif_f c11 h
      have hq := zz_X7_of_105 (G := G) N u8 2 h
      exact ⟨by omega, by omega⟩
  have h := mif_f c6 h
  by_cases c12 : r5 = 3089570
  · have h := mif_t c12 h
    obtain ⟨c13, h⟩ := mif_n h
    obtain ⟨r16, u14, c15, h⟩ := ucall_n h
    have zu14 := zz_J6_equals N (ub G) (ug G) u3 a1 (some ((ug G).2.1 11)) r16 u14 c15
    by_cases c17 : r16 = 0
    · have h := mif_t c17 h
      have hq := zz_X7_of_105 (G := G) N u14 (-1) h
      exact ⟨by omega, by omega⟩
    · have h := mif_f c17 h
      have hq := zz_X7_of_105 (G := G) N u14 3 h
      exact ⟨by omega, by omega⟩
  have h := mif_f c12 h
  by_cases c18 : r5 = 3317767
  · have h := mif_t c18 h
    obtain ⟨c19, h⟩ := mif_n h
    obtain ⟨r22, u20, c21, h⟩ := ucall_n h
    have zu20 := zz_J6_equals N (ub G) (ug G) u3 a1 (some ((ug G).2.1 9)) r22 u20 c21
    by_cases c23 : r22 = 0
    · have h := mif_t c23 h
      have hq := zz_X7_of_105 (G := G) N u20 (-1) h
      exact ⟨by omega, by omega⟩
    · have h := mif_f c23 h
      have hq := zz_X7_of_105 (G := G) N u20 1 h
      exact ⟨by omega, by omega⟩
  have h := mif_f c18 h
  by_cases c24 : r5 = 108511772
  · have h := mif_t c24 h
    obtain ⟨c25, h⟩ := mif_n h
    obtain ⟨r28, u26, c27, h⟩ := ucall_n h
    have zu26 := zz_J6_equals N (ub G) (ug G) u3 a1 (some ((ug G).2.1 8)) r28 u26 c27
    by_cases c29 : r28 = 0
    · have h := mif_t c29 h
      have hq := zz_X7_of_105 (G := G) N u26 (-1) h
      exact ⟨by omega, by omega⟩
    · have h := mif_f c29 h
      have hq := zz_X7_of_105 (G := G) N u26 0 h
      exact ⟨by omega, by omega⟩
  have h := mif_f c24 h
  have hq := zz_X7_of_105 (G := G) N u3 (-1) h
  exact ⟨by omega, by omega⟩
set_option maxHeartbeats 4000000 in
set_option maxRecDepth 100000 in
theorem w_X7_of_0 {p : Program} {l : Launch} {e : Env} {R : Room} {s : State} {m : MethodId} {args : Array Value} {below : List Frame} {meth : Method} {c : Code} {G : uG} {uf : UH} {r : Option Nat} (hC : uC p s m args meth c G RX7 cX7_of 3 (some (.object "SoftWheels$Way"))) (hR : 4 ≤ R.frames ∧ 90 ≤ R.locals) (N : Nat) (u : UH) (x0 : Option Nat) (h : f_X7_of N (ub G) (ug G) u x0 = some (r, uf)) {H : Heap} {locs : List Loc} (hP : uP G u H) (hS : va_S (uA G) s.heap H locs) {ls : Array Slot} (hl : lv_has ls 3 [(0, va_rf x0)]) : W p l e R s m args below meth c H locs 0 0 (MQ below (uQr G r uf) args s 0 0 (uA G)) (F0 m 0 ls []) := by
  obtain ⟨⟨hx, hb, hml, hown, hts⟩, hKK⟩ := id hC
  unfold f_X7_of at h
  refine u_aload_n (r := x0) hx hb dX7_of_0 rfl (lv_at hl 0 rfl) ?_
  refine u_astore_n (i := 1) (r := x0) (lv' := [(1, va_rf x0), (0, va_rf x0)]) hx hb dX7_of_1 rfl hl (by decide) (by simp [List.filter_cons, u_cat]) (fun ls hl => ?_)
  refine lv_iconst (v := (-1)) hx hb dX7_of_2 (by decide) ?_
  refine lv_istore_n (i := 2) (lv' := [(2, .int (-1)), (1, va_rf x0), (0, va_rf x0)]) hx hb dX7_of_3 rfl hl (by decide) (by simp [List.filter_cons, u_cat]) (fun ls hl => ?_)
  refine u_aload_n (r := x0) hx hb dX7_of_4 rfl (lv_at hl 1 rfl) ?_
  obtain ⟨a1, ha1, hha1⟩ := mbind_n h
  subst ha1
  have h := hha1
  obtain ⟨c2, h⟩ := mif_n h
  obtain ⟨r5, u3, c4, h⟩ := ucall_n h
  have zu3 := zz_J6_hashCode N (ub G) (ug G) u a1 r5 u3 c4
  refine u_calli (va_runV (As := []) (rest := []) hC.1 (met_J6_hashCode l N G u a1 r5 u3 c4) (cwV 0 hts (lw_V q766 q709 q710 q110 q711) rfl rfl rfl (by decide +kernel) ⟨Nat.le_trans (Nat.le_of_ble_eq_true rfl) hR.1, Nat.le_trans (Nat.le_of_ble_eq_true rfl) hR.2⟩) ⟨uPc_blind, u_rcv hC hP c2 rfl, fun U hU hW => u_pre hC hP hS hU hW⟩ rfl rfl hl.1 rfl (lv_room (Nat.le_of_ble_eq_true rfl)) dX7_of_5 ⟨Nat.zero_le _, Nat.zero_le _⟩) hS (fun H locs hP hS => ?_)
  by_cases c6 : r5 = 3739
  · have h := mif_t c6 h
    refine lv_lookup (tgt := 80) (off := 72) hx hb dX7_of_8 (by decide) (by rw [c6]; decide) (by decide) ?_
    refine u_aload_n (r := some a1) hx hb dX7_of_80 rfl (lv_at hl 1 rfl) ?_
    refine u_ldcS hC 10 rfl dX7_of_81 ?_
    obtain ⟨c7, h⟩ := mif_n h
    obtain ⟨r10, u8, c9, h⟩ := ucall_n h
    have zu8 := zz_J6_equals N (ub G) (ug G) u3 a1 (some ((ug G).2.1 10)) r10 u8 c9
    refine u_calli (va_runV (As := [va_rf (some ((ug G).2.1 10))]) (rest := []) hC.1 (met_J6_equals l N G u3 a1 (some ((ug G).2.1 10)) r10 u8 c9) (cwV 1 hts (lw_V q768 q672 q673 q110 q674) rfl rfl rfl (by decide +kernel) ⟨Nat.le_trans (Nat.le_of_ble_eq_true rfl) hR.1, Nat.le_trans (Nat.le_of_ble_eq_true rfl) hR.2⟩) ⟨uPc_blind, u_rcv hC hP c7 rfl, fun U hU hW => u_pre hC hP hS hU hW⟩ rfl rfl hl.1 rfl (lv_room (Nat.le_of_ble_eq_true rfl)) dX7_of_83 ⟨Nat.zero_le _, Nat.zero_le _⟩) hS (fun H locs hP hS => ?_)
    refine lv_if_eq (tgt := 105) hx hb dX7_of_86 (by decide) (fun c11 => ?_) (fun c11 => ?_)
    · have h := mif_t c11 h
      exact w_X7_of_105 hC hR N u8 (-1) h hP hS (lv_sub hl [0] rfl)
    · have h := mif_f c11 h
      refine lv_iconst (v := 2) hx hb dX7_of_89 (by decide) ?_
      refine lv_istore_n (i := 2) (lv' := [(2, .int 2), (1, va_rf (some a1)), (0, va_rf (some a1))]) hx hb dX7_of_90 rfl hl (by decide) rfl (fun ls hl => ?_)
      refine lv_goto (tgt := 105) hx hb dX7_of_91 (by decide) ?_
      exact w_X7_of_105 hC hR N u8 2 h hP hS (lv_sub hl [0] rfl)
  have h := mif_f c6 h
  by_cases c12 : r5 = 3089570
  · have h := mif_t c12 h
    refine lv_lookup (tgt := 94) (off := 86) hx hb dX7_of_8 (by decide) (by rw [c12]; decide) (by decide) ?_
    refine u_aload_n (r := some a1) hx hb dX7_of_94 rfl (lv_at hl 1 rfl) ?_
    refine u_ldcS hC 11 rfl dX7_of_95 ?_
    obtain ⟨c13, h⟩ := mif_n h
    obtain ⟨r16, u14, c15, h⟩ := ucall_n h
    have zu14 := zz_J6_equals N (ub G) (ug G) u3 a1 (some ((ug G).2.1 11)) r16 u14 c15
    refine u_calli (va_runV (As := [va_rf (some ((ug G).2.1 11))]) (rest := []) hC.1 (met_J6_equals l N G u3 a1 (some ((ug G).2.1 11)) r16 u14 c15) (cwV 1 hts (lw_V q768 q672 q673 q110 q674) rfl rfl rfl (by decide +kernel) ⟨Nat.le_trans (Nat.le_of_ble_eq_true rfl) hR.1, Nat.le_trans (Nat.le_of_ble_eq_true rfl) hR.2⟩) ⟨uPc_blind, u_rcv hC hP c13 rfl, fun U hU hW => u_pre hC hP hS hU hW⟩ rfl rfl hl.1 rfl (lv_room (Nat.le_of_ble_eq_true rfl)) dX7_of_97 ⟨Nat.zero_le _, Nat.zero_le _⟩) hS (fun H locs hP hS => ?_)
    refine lv_if_eq (tgt := 105) hx hb dX7_of_100 (by decide) (fun c17 => ?_) (fun c17 => ?_)
    · have h := mif_t c17 h
      exact w_X7_of_105 hC hR N u14 (-1) h hP hS (lv_sub hl [0] rfl)
    · have h := mif_f c17 h
      refine lv_iconst (v := 3) hx hb dX7_of_103 (by decide) ?_
      refine lv_istore_n (i := 2) (lv' := [(2, .int 3), (1, va_rf (some a1)), (0, va_rf (some a1))]) hx hb dX7_of_104 rfl hl (by decide) rfl (fun ls hl => ?_)
      exact w_X7_of_105 hC hR N u14 3 h hP hS (lv_sub hl [0] rfl)
  have h := mif_f c12 h
  by_cases c18 : r5 = 3317767
  · have h := mif_t c18 h
    refine lv_lookup (tgt := 66) (off := 58) hx hb dX7_of_8 (by decide) (by rw [c18]; decide) (by decide) ?_
    refine u_aload_n (r := some a1) hx hb dX7_of_66 rfl (lv_at hl 1 rfl) ?_
    refine u_ldcS hC 9 rfl dX7_of_67 ?_
    obtain ⟨c19, h⟩ := mif_n h
    obtain ⟨r22, u20, c21, h⟩ := ucall_n h
    have zu20 := zz_J6_equals N (ub G) (ug G) u3 a1 (some ((ug G).2.1 9)) r22 u20 c21
    refine u_calli (va_runV (As := [va_rf (some ((ug G).2.1 9))]) (rest := []) hC.1 (met_J6_equals l N G u3 a1 (some ((ug G).2.1 9)) r22 u20 c21) (cwV 1 hts (lw_V q768 q672 q673 q110 q674) rfl rfl rfl (by decide +kernel) ⟨Nat.le_trans (Nat.le_of_ble_eq_true rfl) hR.1, Nat.le_trans (Nat.le_of_ble_eq_true rfl) hR.2⟩) ⟨uPc_blind, u_rcv hC hP c19 rfl, fun U hU hW => u_pre hC hP hS hU hW⟩ rfl rfl hl.1 rfl (lv_room (Nat.le_of_ble_eq_true rfl)) dX7_of_69 ⟨Nat.zero_le _, Nat.zero_le _⟩) hS (fun H locs hP hS => ?_)
    refine lv_if_eq (tgt := 105) hx hb dX7_of_72 (by decide) (fun c23 => ?_) (fun c23 => ?_)
    · have h := mif_t c23 h
      exact w_X7_of_105 hC hR N u20 (-1) h hP hS (lv_sub hl [0] rfl)
    · have h := mif_f c23 h
      refine lv_iconst (v := 1) hx hb dX7_of_75 (by decide) ?_
      refine lv_istore_n (i := 2) (lv' := [(2, .int 1), (1, va_rf (some a1)), (0, va_rf (some a1))]) hx hb dX7_of_76 rfl hl (by decide) rfl (fun ls hl => ?_)
      refine lv_goto (tgt := 105) hx hb dX7_of_77 (by decide) ?_
      exact w_X7_of_105 hC hR N u20 1 h hP hS (lv_sub hl [0] rfl)
  have h := mif_f c18 h
  by_cases c24 : r5 = 108511772
  · have h := mif_t c24 h
    refine lv_lookup (tgt := 52) (off := 44) hx hb dX7_of_8 (by decide) (by rw [c24]; decide) (by decide) ?_
    refine u_aload_n (r := some a1) hx hb dX7_of_52 rfl (lv_at hl 1 rfl) ?_
    refine u_ldcS hC 8 rfl dX7_of_53 ?_
    obtain ⟨c25, h⟩ := mif_n h
    obtain ⟨r28, u26, c27, h⟩ := ucall_n h
    have zu26 := zz_J6_equals N (ub G) (ug G) u3 a1 (some ((ug G).2.1 8)) r28 u26 c27
    refine u_calli (va_runV (As := [va_rf (some ((ug G).2.1 8))]) (rest := []) hC.1 (met_J6_equals l N G u3 a1 (some ((ug G).2.1 8)) r28 u26 c27) (cwV 1 hts (lw_V q768 q672 q673 q110 q674) rfl rfl rfl (by decide +kernel) ⟨Nat.le_trans (Nat.le_of_ble_eq_true rfl) hR.1, Nat.le_trans (Nat.le_of_ble_eq_true rfl) hR.2⟩) ⟨uPc_blind, u_rcv hC hP c25 rfl, fun U hU hW => u_pre hC hP hS hU hW⟩ rfl rfl hl.1 rfl (lv_room (Nat.le_of_ble_eq_true rfl)) dX7_of_55 ⟨Nat.zero_le _, Nat.zero_le _⟩) hS (fun H locs hP hS => ?_)
    refine lv_if_eq (tgt := 105) hx hb dX7_of_58 (by decide) (fun c29 => ?_) (fun c29 => ?_)
    · have h := mif_t c29 h
      exact w_X7_of_105 hC hR N u26 (-1) h hP hS (lv_sub hl [0] rfl)
    · have h := mif_f c29 h
      refine lv_iconst (v := 0) hx hb dX7_of_61 (by decide) ?_
      refine lv_istore_n (i := 2) (lv' := [(2, .int 0), (1, va_rf (some a1)), (0, va_rf (some a1))]) hx hb dX7_of_62 rfl hl (by decide) rfl (fun ls hl => ?_)
      refine lv_goto (tgt := 105) hx hb dX7_of_63 (by decide) ?_
      exact w_X7_of_105 hC hR N u26 0 h hP hS (lv_sub hl [0] rfl)
  have h := mif_f c24 h
  refine lv_lookup (tgt := 105) (off := 97) hx hb dX7_of_8 (by decide) (by have kc6 := u_lkN (z := 3739) c6 (by decide); have kc12 := u_lkN (z := 3089570) c12 (by decide); have kc18 := u_lkN (z := 3317767) c18 (by decide); have kc24 := u_lkN (z := 108511772) c24 (by decide); simp [Op.lookupswitch.offset, kc6.1, kc6.2, kc12.1, kc12.2, kc18.1, kc18.2, kc24.1, kc24.2]) (by decide) ?_
  exact w_X7_of_105 hC hR N u3 (-1) h hP hS (lv_sub hl [0] rfl)
theorem zz_X7_of (N b : Nat) (g : uEnv) (u : UH) (x0 : Option Nat) (r : Option Nat) (uf : UH) (h : f_X7_of N b g u x0 = some (r, uf)) : uf.1 = u.1 ∧ uf.2.1 = u.2.1 :=
  zz_X7_of_0 (G := ((fun _ => 0, fun _ _ => 0), fun _ => 0, b, g)) N u x0 h
theorem met_X7_of (l : Launch) (N : Nat) (G : uG) (u : UH) (x0 : Option Nat) (r : Option Nat) (uf : UH) (h : f_X7_of N (ub G) (ug G) u x0 = some (r, uf)) : Met l yX7_of (ws_ yX7_of cX7_of 3 (some (.object "SoftWheels$Way"))) ({ frames := 4, cells := 0, slots := 0, locals := 90 }) (uPc G u [va_rf x0]) (uQr G r uf) 0 0 (uA G) := by
  rcases x0 with _ | x0 <;> exact u_met (own := RX7) (by decide +kernel) rfl (Nat.le_of_ble_eq_true rfl) (fun hC hn hsz ls hl hP => w_X7_of_0 hC ⟨Nat.le_refl _, Nat.le_refl _⟩ N u _ h hP va_S.rf hl)
def f_X5_isName_200 (N b : Nat) (g : uEnv) (a0 : Nat) (u : UH) : Option (Int32 × UH) :=
    some (0, u)
set_option maxHeartbeats 4000000 in
set_option maxRecDepth 100000 in
theorem zz_X5_isName_200 {G : uG} {a0 : Nat} {uf : UH} {r : Int32} (N : Nat) (u : UH) (h : f_X5_isName_200 N (ub G) (ug G) a0 u = some (r, uf)) : uf.1 = u.1 ∧ uf.2.1 = u.2.1 := by
  unfold f_X5_isName_200 at h
  obtain ⟨hr1, hr2⟩ := uret_n h
  subst hr2
  exact ⟨by omega, by omega⟩
set_option maxHeartbeats 4000000 in
set_option maxRecDepth 100000 in
theorem w_X5_isName_200 {p : Program} {l : Launch} {e : Env} {R : Room} {s : State} {m : MethodId} {args : Array Value} {below : List Frame} {meth : Method} {c : Code} {G : uG} {a0 : Nat} {uf : UH} {r : Int32} (hC : uC p s m args meth c G RX5 cX5_isName 3 (some .boolean)) (hR : 5 ≤ R.frames ∧ 112 ≤ R.locals) (N : Nat) (u : UH) (h : f_X5_isName_200 N (ub G) (ug G) a0 u = some (r, uf)) {H : Heap} {locs : List Loc} (hP : uP G u H) (hS : va_S (uA G) s.heap H locs) {ls : Array Slot} (hl : lv_has ls 3 []) : W p l e R s m args below meth c H locs 0 0 (MQ below (uQi G r uf) args s 0 0 (uA G)) (F0 m 200 ls []) := by
  obtain ⟨⟨hx, hb, hml, hown, hts⟩, hKK⟩ := id hC
  unfold f_X5_isName_200 at h
  refine lv_iconst (v := 0) hx hb dX5_isName_200 (by decide) ?_
  obtain ⟨hr1, hr2⟩ := uret_n h
  subst hr1
  subst hr2
  exact u_zret hC (uFit_n (ty := .boolean) (v := 0) rfl).1 hP hS dX5_isName_201
def f_X5_isName_217 (N b : Nat) (g : uEnv) (a0 : Nat) (u : UH) (s0 : Int32) : Option (Int32 × UH) :=
    if uFit .boolean s0 = true then
    some (s0, u)
    else none
set_option maxHeartbeats 4000000 in
set_option maxRecDepth 100000 in
theorem zz_X5_isName_217 {G : uG} {a0 : Nat} {uf : UH} {r : Int32} (N : Nat) (u : UH) (s0 : Int32) (h : f_X5_isName_217 N (ub G) (ug G) a0 u s0 = some (r, uf)) : uf.1 = u.1 ∧ uf.2.1 = u.2.1 := by
  unfold f_X5_isName_217 at h
  obtain ⟨c1, h⟩ := mif_n h
  obtain ⟨hr1, hr2⟩ := uret_n h
  subst hr2
  exact ⟨by omega, by omega⟩
set_option maxHeartbeats 4000000 in
set_option maxRecDepth 100000 in
theorem w_X5_isName_217 {p : Program} {l : Launch} {e : Env} {R : Room} {s : State} {m : MethodId} {args : Array Value} {below : List Frame} {meth : Method} {c : Code} {G : uG} {a0 : Nat} {uf : UH} {r : Int32} (hC : uC p s m args meth c G RX5 cX5_isName 3 (some .boolean)) (hR : 5 ≤ R.frames ∧ 112 ≤ R.locals) (N : Nat) (u : UH) (s0 : Int32) (h : f_X5_isName_217 N (ub G) (ug G) a0 u s0 = some (r, uf)) {H : Heap} {locs : List Loc} (hP : uP G u H) (hS : va_S (uA G) s.heap H locs) {ls : Array Slot} (hl : lv_has ls 3 []) : W p l e R s m args below meth c H locs 0 0 (MQ below (uQi G r uf) args s 0 0 (uA G)) (F0 m 217 ls [.int s0]) := by
  obtain ⟨⟨hx, hb, hml, hown, hts⟩, hKK⟩ := id hC
  unfold f_X5_isName_217 at h
  obtain ⟨c1, h⟩ := mif_n h
  obtain ⟨hr1, hr2⟩ := uret_n h
  subst hr1
  subst hr2
  exact u_zret hC (uFit_n c1).1 hP hS dX5_isName_217
def f_X5_isName_161 (N b : Nat) (g : uEnv) (a0 : Nat) (u : UH) (x2 : Int32) : Option (Int32 × UH) :=
    if x2 = 0 then
    f_X5_isName_200 N b g a0 u
    else
    if x2 = 1 then
    f_X5_isName_200 N b g a0 u
    else
    if x2 = 2 then
    f_X5_isName_200 N b g a0 u
    else
    if x2 = 3 then
    f_X5_isName_200 N b g a0 u
    else
    if x2 = 4 then
    f_X5_isName_200 N b g a0 u
    else
    if x2 = 5 then
    f_X5_isName_200 N b g a0 u
    else
    (uGR u a0 4 6).bind fun o7 =>
    ucall (f_X7_of N b g u o7) fun o10 u8 =>
    ucase o10 (
    f_X5_isName_217 N b g a0 u8 1) fun a11 =>
    f_X5_isName_217 N b g a0 u8 0
set_option maxHeartbeats 4000000 in
set_option maxRecDepth 100000 in
theorem zz_X5_isName_161 {G : uG} {a0 : Nat} {uf : UH} {r : Int32} (N : Nat) (u : UH) (x2 : Int32) (h : f_X5_isName_161 N (ub G) (ug G) a0 u x2 = some (r, uf)) : uf.1 = u.1 ∧ uf.2.1 = u.2.1 := by
  unfold f_X5_isName_161 at h
  by_cases c1 : x2 = 0
  · have h := mif_t c1 h
    have hq := zz_X5_isName_200 (G := G) (a0 := a0) N u h
    exact ⟨by omega, by omega⟩
  have h := mif_f c1 h
  by_cases c2 : x2 = 1
  · have h := mif_t c2 h
    have hq := zz_X5_isName_200 (G := G) (a0 := a0) N u h
    exact ⟨by omega, by omega⟩
  have h := mif_f c2 h
  by_cases c3 : x2 = 2
  · have h := mif_t c3 h
    have hq := zz_X5_isName_200 (G := G) (a0 := a0) N u h
    exact ⟨by omega, by omega⟩
  have h := mif_f c3 h
  by_cases c4 : x2 = 3
  · have h := mif_t c4 h
    have hq := zz_X5_isName_200 (G := G) (a0 := a0) N u h
    exact ⟨by omega, by omega⟩
  have h := mif_f c4 h
  by_cases c5 : x2 = 4
  · have h := mif_t c5 h
    have hq := zz_X5_isName_200 (G := G) (a0 := a0) N u h
    exact ⟨by omega, by omega⟩
  have h := mif_f c5 h
  by_cases c6 : x2 = 5
  · have h := mif_t c6 h
    have hq := zz_X5_isName_200 (G := G) (a0 := a0) N u h
    exact ⟨by omega, by omega⟩
  have h := mif_f c6 h
  obtain ⟨o7, ho7, h⟩ := mbind_n h
  obtain ⟨o10, u8, c9, h⟩ := ucall_n h
  have zu8 := zz_X7_of N (ub G) (ug G) u o7 o10 u8 c9
  rcases o10 with _ | a11
  · have h := ucase_n h
    have hq := zz_X5_isName_217 (G := G) (a0 := a0) N u8 1 h
    exact ⟨by omega, by omega⟩
  · have h := ucase_s h
    have hq := zz_X5_isName_217 (G := G) (a0 := a0) N u8 0 h
    exact ⟨by omega, by omega⟩
set_option maxHeartbeats 4000000 in
set_option maxRecDepth 100000 in
theorem w_X5_isName_161 {p : Program} {l : Launch} {e : Env} {R : Room} {s : State} {m : MethodId} {args : Array Value} {below : List Frame} {meth : Method} {c : Code} {G : uG} {a0 : Nat} {uf : UH} {r : Int32} (hC : uC p s m args meth c G RX5 cX5_isName 3 (some .boolean)) (hR : 5 ≤ R.frames ∧ 112 ≤ R.locals) (N : Nat) (u : UH) (x2 : Int32) (h : f_X5_isName_161 N (ub G) (ug G) a0 u x2 = some (r, uf)) {H : Heap} {locs : List Loc} (hP : uP G u H) (hS : va_S (uA G) s.heap H locs) {ls : Array Slot} (hl : lv_has ls 3 [(0, va_rf (some a0)), (2, .int x2)]) : W p l e R s m args below meth c H locs 0 0 (MQ below (uQi G r uf) args s 0 0 (uA G)) (F0 m 161 ls []) := by
  obtain ⟨⟨hx, hb, hml, hown, hts⟩, hKK⟩ := id hC
  unfold f_X5_isName_161 at h
  refine lv_iload_n hx hb dX5_isName_161 rfl (lv_at hl 1 rfl) ?_
  by_cases c1 : x2 = 0
  · have h := mif_t c1 h
    refine lv_tableIn (tgt := 200) hx hb dX5_isName_162 (by rw [c1]; decide) (by rw [c1]; decide) (by rw [c1]; rfl) (by decide) ?_
    exact w_X5_isName_200 hC hR N u h hP hS (lv_sub hl [] rfl)
  have h := mif_f c1 h
  by_cases c2 : x2 = 1
  · have h := mif_t c2 h
    refine lv_tableIn (tgt := 200) hx hb dX5_isName_162 (by rw [c2]; decide) (by rw [c2]; decide) (by rw [c2]; rfl) (by decide) ?_
    exact w_X5_isName_200 hC hR N u h hP hS (lv_sub hl [] rfl)
  have h := mif_f c2 h
  by_cases c3 : x2 = 2
  · have h := mif_t c3 h
    refine lv_tableIn (tgt := 200) hx hb dX5_isName_162 (by rw [c3]; decide) (by rw [c3]; decide) (by rw [c3]; rfl) (by decide) ?_
    exact w_X5_isName_200 hC hR N u h hP hS (lv_sub hl [] rfl)
  have h := mif_f c3 h
  by_cases c4 : x2 = 3
  · have h := mif_t c4 h
    refine lv_tableIn (tgt := 200) hx hb dX5_isName_162 (by rw [c4]; decide) (by rw [c4]; decide) (by rw [c4]; rfl) (by decide) ?_
    exact w_X5_isName_200 hC hR N u h hP hS (lv_sub hl [] rfl)
  have h := mif_f c4 h
  by_cases c5 : x2 = 4
  · have h := mif_t c5 h
    refine lv_tableIn (tgt := 200) hx hb dX5_isName_162 (by rw [c5]; decide) (by rw [c5]; decide) (by rw [c5]; rfl) (by decide) ?_
    exact w_X5_isName_200 hC hR N u h hP hS (lv_sub hl [] rfl)
  have h := mif_f c5 h
  by_cases c6 : x2 = 5
  · have h := mif_t c6 h
    refine lv_tableIn (tgt := 200) hx hb dX5_isName_162 (by rw [c6]; decide) (by rw [c6]; decide) (by rw [c6]; rfl) (by decide) ?_
    exact w_X5_isName_200 hC hR N u h hP hS (lv_sub hl [] rfl)
  have h := mif_f c6 h
  refine lv_tableOut (tgt := 202) hx hb dX5_isName_162 (m_out 0 5 [0, 1, 2, 3, 4, 5] 6 (by decide) (by decide) (fun z hz => ?_)) (by decide) ?_
  · simp only [List.mem_cons, List.not_mem_nil, or_false] at hz
    rcases hz with rfl | rfl | rfl | rfl | rfl | rfl
    · exact c1
    · exact c2
    · exact c3
    · exact c4
    · exact c5
    · exact c6
  · refine u_aload_n (r := some a0) hx hb dX5_isName_202 rfl (lv_at hl 0 rfl) ?_
    obtain ⟨o7, ho7, h⟩ := mbind_n h
    refine u_get hC hP (uGR_n ho7) rfl in_X5 (by decide) q638 (fun _ h => h) dX5_isName_203 ?_
    obtain ⟨o10, u8, c9, h⟩ := ucall_n h
    have zu8 := zz_X7_of N (ub G) (ug G) u o7 o10 u8 c9
    refine u_callr (va_runS (As := [va_rf o7]) (rest := []) hC.1 (met_X7_of l N G u o7 o10 u8 c9) (va_cwS 1 hts (lw_S q763 q764 q120 q765) rfl rfl rfl (by decide +kernel) ⟨Nat.le_trans (Nat.le_of_ble_eq_true rfl) hR.1, Nat.le_trans (Nat.le_of_ble_eq_true rfl) hR.2⟩) ⟨uPc_blind, fun U hU hW => u_pre hC hP hS hU hW⟩ rfl rfl hl.1 rfl (lv_room (Nat.le_of_ble_eq_true rfl)) dX5_isName_206 ⟨Nat.zero_le _, Nat.zero_le _⟩) hS (fun H locs hP hS => ?_)
    rcases o10 with _ | a11
    · have h := ucase_n h
      refine lv_ifnonnullN hx hb dX5_isName_209 ?_
      refine lv_iconst (v := 1) hx hb dX5_isName_212 (by decide) ?_
      refine lv_goto (tgt := 217) hx hb dX5_isName_213 (by decide) ?_
      exact w_X5_isName_217 hC hR N u8 1 h hP hS (lv_sub hl [] rfl)
    · have h := ucase_s h
      refine lv_ifnonnull (tgt := 216) hx hb dX5_isName_209 (by decide) ?_
      refine lv_iconst (v := 0) hx hb dX5_isName_216 (by decide) ?_
      exact w_X5_isName_217 hC hR N u8 0 h hP hS (lv_sub hl [] rfl)
def f_X5_isName (N b : Nat) (g : uEnv) (u : UH) (a0 : Nat) : Option (Int32 × UH) :=
    (uGR u a0 4 5).bind fun o1 =>
    mlet (g.1 2) fun o2 =>
    if o1 = o2 then
    (uGR u a0 4 6).bind fun o4 =>
    (o4).bind fun a5 =>
    if uIs u a5 20 = true then
    ucall (f_J6_hashCode N b g u a5) fun r9 u7 =>
    if r9 = (-1237460601) then
    if uIs u7 a5 20 = true then
    ucall (f_J6_equals N b g u7 a5 (some (g.2.1 2))) fun r14 u12 =>
    if r14 = 0 then
    f_X5_isName_161 N b g a0 u12 (-1)
    else
    f_X5_isName_161 N b g a0 u12 0
    else none
    else
    if r9 = 3357 then
    if uIs u7 a5 20 = true then
    ucall (f_J6_equals N b g u7 a5 (some (g.2.1 5))) fun r20 u18 =>
    if r20 = 0 then
    f_X5_isName_161 N b g a0 u18 (-1)
    else
    f_X5_isName_161 N b g a0 u18 3
    else none
    else
    if r9 = 3370 then
    if uIs u7 a5 20 = true then
    ucall (f_J6_equals N b g u7 a5 (some (g.2.1 6))) fun r26 u24 =>
    if r26 = 0 then
    f_X5_isName_161 N b g a0 u24 (-1)
    else
    f_X5_isName_161 N b g a0 u24 4
    else none
    else
    if r9 = 115131 then
    if uIs u7 a5 20 = true then
    ucall (f_J6_equals N b g u7 a5 (some (g.2.1 4))) fun r32 u30 =>
    if r32 = 0 then
    f_X5_isName_161 N b g a0 u30 (-1)
    else
    f_X5_isName_161 N b g a0 u30 2
    else none
    else
    if r9 = 3116345 then
    if uIs u7 a5 20 = true then
    ucall (f_J6_equals N b g u7 a5 (some (g.2.1 7))) fun r38 u36 =>
    if r38 = 0 then
    f_X5_isName_161 N b g a0 u36 (-1)
    else
    f_X5_isName_161 N b g a0 u36 5
    else none
    else
    if r9 = 108704838 then
    if uIs u7 a5 20 = true then
    ucall (f_J6_equals N b g u7 a5 (some (g.2.1 3))) fun r44 u42 =>
    if r44 = 0 then
    f_X5_isName_161 N b g a0 u42 (-1)
    else
    f_X5_isName_161 N b g a0 u42 1
    else none
    else
    f_X5_isName_161 N b g a0 u7 (-1)
    else none
    else
    some (0, u)
set_option maxHeartbeats 4000000 in
set_option maxRecDepth 100000 in
theorem zz_X5_isName_0 {G : uG} {a0 : Nat} {uf : UH} {r : Int32} (N : Nat) (u : UH) (h : f_X5_isName N (ub G) (ug G) u a0 = some (r, uf)) : uf.1 = u.1 ∧ uf.2.1 = u.2.1 := by
  unfold f_X5_isName at h
  obtain ⟨o1, ho1, h⟩ := mbind_n h
  obtain ⟨o2, eo2⟩ : ∃ z, z = (ug G).1 2 := ⟨_, rfl⟩
  have h := mlet_at eo2 h
  by_cases c3 : o1 = o2
  · have h := mif_t c3 h
    obtain ⟨o4, ho4, h⟩ := mbind_n h
    obtain ⟨a5, ha5, hha5⟩ := mbind_n h
    subst ha5
    have h := hha5
    obtain ⟨c6, h⟩ := mif_n h
    obtain ⟨r9, u7, c8, h⟩ := ucall_n h
    have zu7 := zz_J6_hashCode N (ub G) (ug G) u a5 r9 u7 c8
    by_cases c10 : r9 = (-1237460601)
    · have h := mif_t c10 h
      obtain ⟨c11, h⟩ := mif_n h
      obtain ⟨r14, u12, c13, h⟩ := ucall_n h
      have zu12 := zz_J6_equals N (ub G) (ug G) u7 a5 (some ((ug G).2.1 2)) r14 u12 c13
      by_cases c15 : r14 = 0
      · have h := mif_t c15 h
        have hq := zz_X5_isName_161 (G := G) (a0 := a0) N u12 (-1) h
        exact ⟨by omega, by omega⟩
      · have h := mif_f c15 h
        have hq := zz_X5_isName_161 (G := G) (a0 := a0) N u12 0 h
        exact ⟨by omega, by omega⟩
    have h := mif_f c10 h
    by_cases c16 : r9 = 3357
    · have h := mif_t c16 h
      obtain ⟨c17, h⟩ := mif_n h
      obtain ⟨r20, u18, c19, h⟩ := ucall_n h
      have zu18 := zz_J6_equals N (ub G) (ug G) u7 a5 (some ((ug G).2.1 5)) r20 u18 c19
      by_cases c21 : r20 = 0
      · have h := mif_t c21 h
        have hq := zz_X5_isName_161 (G := G) (a0 := a0) N u18 (-1) h
        exact ⟨by omega, by omega⟩
      · have h := mif_f c21 h
        have hq := zz_X5_isName_161 (G := G) (a0 := a0) N u18 3 h
        exact ⟨by omega, by omega⟩
    have h := mif_f c16 h
    by_cases c22 : r9 = 3370
    · have h := mif_t c22 h
      obtain ⟨c23, h⟩ := mif_n h
      obtain ⟨r26, u24, c25, h⟩ := ucall_n h
      have zu24 := zz_J6_equals N (ub G) (ug G) u7 a5 (some ((ug G).2.1 6)) r26 u24 c25
      by_cases c27 : r26 = 0
      · have h := mif_t c27 h
        have hq := zz_X5_isName_161 (G := G) (a0 := a0) N u24 (-1) h
        exact ⟨by omega, by omega⟩
      · have h := mif_f c27 h
        have hq := zz_X5_isName_161 (G := G) (a0 := a0) N u24 4 h
        exact ⟨by omega, by omega⟩
    have h := mif_f c22 h
    by_cases c28 : r9 = 115131
    · have h := mif_t c28 h
      obtain ⟨c29, h⟩ := mif_n h
      obtain ⟨r32, u30, c31, h⟩ := ucall_n h
      have zu30 := zz_J6_equals N (ub G) (ug G) u7 a5 (some ((ug G).2.1 4)) r32 u30 c31
      by_cases c33 : r32 = 0
      · have h := mif_t c33 h
        have hq := zz_X5_isName_161 (G := G) (a0 := a0) N u30 (-1) h
        exact ⟨by omega, by omega⟩
      · have h := mif_f c33 h
        have hq := zz_X5_isName_161 (G := G) (a0 := a0) N u30 2 h
        exact ⟨by omega, by omega⟩
    have h := mif_f c28 h
    by_cases c34 : r9 = 3116345
    · have h := mif_t c34 h
      obtain ⟨c35, h⟩ := mif_n h
      obtain ⟨r38, u36, c37, h⟩ := ucall_n h
      have zu36 := zz_J6_equals N (ub G) (ug G) u7 a5 (some ((ug G).2.1 7)) r38 u36 c37
      by_cases c39 : r38 = 0
      · have h := mif_t c39 h
        have hq := zz_X5_isName_161 (G := G) (a0 := a0) N u36 (-1) h
        exact ⟨by omega, by omega⟩
      · have h := mif_f c39 h
        have hq := zz_X5_isName_161 (G := G) (a0 := a0) N u36 5 h
        exact ⟨by omega, by omega⟩
    have h := mif_f c34 h
    by_cases c40 : r9 = 108704838
    · have h := mif_t c40 h
      obtain ⟨c41, h⟩ := mif_n h
      obtain ⟨r44, u42, c43, h⟩ := ucall_n h
      have zu42 := zz_J6_equals N (ub G) (ug G) u7 a5 (some ((ug G).2.1 3)) r44 u42 c43
      by_cases c45 : r44 = 0
      · have h := mif_t c45 h
        have hq := zz_X5_isName_161 (G := G) (a0 := a0) N u42 (-1) h
        exact ⟨by omega, by omega⟩
      · have h := mif_f c45 h
        have hq := zz_X5_isName_161 (G := G) (a0 := a0) N u42 1 h
        exact ⟨by omega, by omega⟩
    have h := mif_f c40 h
    have hq := zz_X5_isName_161 (G := G) (a0 := a0) N u7 (-1) h
    exact ⟨by omega, by omega⟩
  · have h := mif_f c3 h
    obtain ⟨hr1, hr2⟩ := uret_n h
    subst hr2
    exact ⟨by omega, by omega⟩
set_option maxHeartbeats 4000000 in
set_option maxRecDepth 100000 in
theorem w_X5_isName_0 {p : Program} {l : Launch} {e : Env} {R : Room} {s : State} {m : MethodId} {args : Array Value} {below : List Frame} {meth : Method} {c : Code} {G : uG} {a0 : Nat} {uf : UH} {r : Int32} (hC : uC p s m args meth c G RX5 cX5_isName 3 (some .boolean)) (hR : 5 ≤ R.frames ∧ 112 ≤ R.locals) (N : Nat) (u : UH) (h : f_X5_isName N (ub G) (ug G) u a0 = some (r, uf)) {H : Heap} {locs : List Loc} (hP : uP G u H) (hS : va_S (uA G) s.heap H locs) {ls : Array Slot} (hl : lv_has ls 3 [(0, va_rf (some a0))]) : W p l e R s m args below meth c H locs 0 0 (MQ below (uQi G r uf) args s 0 0 (uA G)) (F0 m 0 ls []) := by
  obtain ⟨⟨hx, hb, hml, hown, hts⟩, hKK⟩ := id hC
  unfold f_X5_isName at h
  refine u_aload_n (r := some a0) hx hb dX5_isName_0 rfl (lv_at hl 0 rfl) ?_
  obtain ⟨o1, ho1, h⟩ := mbind_n h
  refine u_get hC hP (uGR_n ho1) rfl in_X5 (by decide) q636 (fun _ h => h) dX5_isName_1 ?_
  refine u_gets hC hS 2 rfl q547 (fun _ h => h) dX5_isName_4 ?_
  obtain ⟨o2, eo2⟩ : ∃ z, z = (ug G).1 2 := ⟨_, rfl⟩
  have h := mlet_at eo2 h
  rw [← eo2]
  refine lv_acmp_eq (rx := o1) (ry := o2) (tgt := 12) hx hb dX5_isName_7 (by decide) (fun c3 => ?_) (fun c3 => ?_)
  · have h := mif_t c3 h
    refine u_aload_n (r := some a0) hx hb dX5_isName_12 rfl (lv_at hl 0 rfl) ?_
    obtain ⟨o4, ho4, h⟩ := mbind_n h
    refine u_get hC hP (uGR_n ho4) rfl in_X5 (by decide) q638 (fun _ h => h) dX5_isName_13 ?_
    refine u_astore_n (i := 1) (r := o4) (lv' := [(1, va_rf o4), (0, va_rf (some a0))]) hx hb dX5_isName_16 rfl hl (by decide) rfl (fun ls hl => ?_)
    refine lv_iconst (v := (-1)) hx hb dX5_isName_17 (by decide) ?_
    refine lv_istore_n (i := 2) (lv' := [(2, .int (-1)), (1, va_rf o4), (0, va_rf (some a0))]) hx hb dX5_isName_18 rfl hl (by decide) (by simp [List.filter_cons, u_cat]) (fun ls hl => ?_)
    refine u_aload_n (r := o4) hx hb dX5_isName_19 rfl (lv_at hl 1 rfl) ?_
    obtain ⟨a5, ha5, hha5⟩ := mbind_n h
    subst ha5
    have h := hha5
    obtain ⟨c6, h⟩ := mif_n h
    obtain ⟨r9, u7, c8, h⟩ := ucall_n h
    have zu7 := zz_J6_hashCode N (ub G) (ug G) u a5 r9 u7 c8
    refine u_calli (va_runV (As := []) (rest := []) hC.1 (met_J6_hashCode l N G u a5 r9 u7 c8) (cwV 0 hts (lw_V q708 q709 q710 q110 q711) rfl rfl rfl (by decide +kernel) ⟨Nat.le_trans (Nat.le_of_ble_eq_true rfl) hR.1, Nat.le_trans (Nat.le_of_ble_eq_true rfl) hR.2⟩) ⟨uPc_blind, u_rcv hC hP c6 rfl, fun U hU hW => u_pre hC hP hS hU hW⟩ rfl rfl hl.1 rfl (lv_room (Nat.le_of_ble_eq_true rfl)) dX5_isName_20 ⟨Nat.zero_le _, Nat.zero_le _⟩) hS (fun H locs hP hS => ?_)
    by_cases c10 : r9 = (-1237460601)
    · have h := mif_t c10 h
      refine lv_lookup (tgt := 80) (off := 57) hx hb dX5_isName_23 (by decide) (by rw [c10]; decide) (by decide) ?_
      refine u_aload_n (r := some a5) hx hb dX5_isName_80 rfl (lv_at hl 1 rfl) ?_
      refine u_ldcS hC 2 rfl dX5_isName_81 ?_
      obtain ⟨c11, h⟩ := mif_n h
      obtain ⟨r14, u12, c13, h⟩ := ucall_n h
      have zu12 := zz_J6_equals N (ub G) (ug G) u7 a5 (some ((ug G).2.1 2)) r14 u12 c13
      refine u_calli (va_runV (As := [va_rf (some ((ug G).2.1 2))]) (rest := []) hC.1 (met_J6_equals l N G u7 a5 (some ((ug G).2.1 2)) r14 u12 c13) (cwV 1 hts (lw_V q671 q672 q673 q110 q674) rfl rfl rfl (by decide +kernel) ⟨Nat.le_trans (Nat.le_of_ble_eq_true rfl) hR.1, Nat.le_trans (Nat.le_of_ble_eq_true rfl) hR.2⟩) ⟨uPc_blind, u_rcv hC hP c11 rfl, fun U hU hW => u_pre hC hP hS hU hW⟩ rfl rfl hl.1 rfl (lv_room (Nat.le_of_ble_eq_true rfl)) dX5_isName_83 ⟨Nat.zero_le _, Nat.zero_le _⟩) hS (fun H locs hP hS => ?_)
      refine lv_if_eq (tgt := 161) hx hb dX5_isName_86 (by decide) (fun c15 => ?_) (fun c15 => ?_)
      · have h := mif_t c15 h
        exact w_X5_isName_161 hC hR N u12 (-1) h hP hS (lv_sub hl [2, 0] rfl)
      · have h := mif_f c15 h
        refine lv_iconst (v := 0) hx hb dX5_isName_89 (by decide) ?_
        refine lv_istore_n (i := 2) (lv' := [(2, .int 0), (1, va_rf (some a5)), (0, va_rf (some a0))]) hx hb dX5_isName_90 rfl hl (by decide) rfl (fun ls hl => ?_)
        refine lv_goto (tgt := 161) hx hb dX5_isName_91 (by decide) ?_
        exact w_X5_isName_161 hC hR N u12 0 h hP hS (lv_sub hl [2, 0] rfl)
    have h := mif_f c10 h
    by_cases c16 : r9 = 3357
    · have h := mif_t c16 h
      refine lv_lookup (tgt := 122) (off := 99) hx hb dX5_isName_23 (by decide) (by rw [c16]; decide) (by decide) ?_
      refine u_aload_n (r := some a5) hx hb dX5_isName_122 rfl (lv_at hl 1 rfl) ?_
      refine u_ldcS hC 5 rfl dX5_isName_123 ?_
      obtain ⟨c17, h⟩ := mif_n h
      obtain ⟨r20, u18, c19, h⟩ := ucall_n h
      have zu18 := zz_J6_equals N (ub G) (ug G) u7 a5 (some ((ug G).2.1 5)) r20 u18 c19
      refine u_calli (va_runV (As := [va_rf (some ((ug G).2.1 5))]) (rest := []) hC.1 (met_J6_equals l N G u7 a5 (some ((ug G).2.1 5)) r20 u18 c19) (cwV 1 hts (lw_V q671 q672 q673 q110 q674) rfl rfl rfl (by decide +kernel) ⟨Nat.le_trans (Nat.le_of_ble_eq_true rfl) hR.1, Nat.le_trans (Nat.le_of_ble_eq_true rfl) hR.2⟩) ⟨uPc_blind, u_rcv hC hP c17 rfl, fun U hU hW => u_pre hC hP hS hU hW⟩ rfl rfl hl.1 rfl (lv_room (Nat.le_of_ble_eq_true rfl)) dX5_isName_125 ⟨Nat.zero_le _, Nat.zero_le _⟩) hS (fun H locs hP hS => ?_)
      refine lv_if_eq (tgt := 161) hx hb dX5_isName_128 (by decide) (fun c21 => ?_) (fun c21 => ?_)
      · have h := mif_t c21 h
        exact w_X5_isName_161 hC hR N u18 (-1) h hP hS (lv_sub hl [2, 0] rfl)
      · have h := mif_f c21 h
        refine lv_iconst (v := 3) hx hb dX5_isName_131 (by decide) ?_
        refine lv_istore_n (i := 2) (lv' := [(2, .int 3), (1, va_rf (some a5)), (0, va_rf (some a0))]) hx hb dX5_isName_132 rfl hl (by decide) rfl (fun ls hl => ?_)
        refine lv_goto (tgt := 161) hx hb dX5_isName_133 (by decide) ?_
        exact w_X5_isName_161 hC hR N u18 3 h hP hS (lv_sub hl [2, 0] rfl)
    have h := mif_f c16 h
    by_cases c22 : r9 = 3370
    · have h := mif_t c22 h
      refine lv_lookup (tgt := 136) (off := 113) hx hb dX5_isName_23 (by decide) (by rw [c22]; decide) (by decide) ?_
      refine u_aload_n (r := some a5) hx hb dX5_isName_136 rfl (lv_at hl 1 rfl) ?_
      refine u_ldcS hC 6 rfl dX5_isName_137 ?_
      obtain ⟨c23, h⟩ := mif_n h
      obtain ⟨r26, u24, c25, h⟩ := ucall_n h
      have zu24 := zz_J6_equals N (ub G) (ug G) u7 a5 (some ((ug G).2.1 6)) r26 u24 c25
      refine u_calli (va_runV (As := [va_rf (some ((ug G).2.1 6))]) (rest := []) hC.1 (met_J6_equals l N G u7 a5 (some ((ug G).2.1 6)) r26 u24 c25) (cwV 1 hts (lw_V q671 q672 q673 q110 q674) rfl rfl rfl (by decide +kernel) ⟨Nat.le_trans (Nat.le_of_ble_eq_true rfl) hR.1, Nat.le_trans (Nat.le_of_ble_eq_true rfl) hR.2⟩) ⟨uPc_blind, u_rcv hC hP c23 rfl, fun U hU hW => u_pre hC hP hS hU hW⟩ rfl rfl hl.1 rfl (lv_room (Nat.le_of_ble_eq_true rfl)) dX5_isName_139 ⟨Nat.zero_le _, Nat.zero_le _⟩) hS (fun H locs hP hS => ?_)
      refine lv_if_eq (tgt := 161) hx hb dX5_isName_142 (by decide) (fun c27 => ?_) (fun c27 => ?_)
      · have h := mif_t c27 h
        exact w_X5_isName_161 hC hR N u24 (-1) h hP hS (lv_sub hl [2, 0] rfl)
      · have h := mif_f c27 h
        refine lv_iconst (v := 4) hx hb dX5_isName_145 (by decide) ?_
        refine lv_istore_n (i := 2) (lv' := [(2, .int 4), (1, va_rf (some a5)), (0, va_rf (some a0))]) hx hb dX5_isName_146 rfl hl (by decide) rfl (fun ls hl => ?_)
        refine lv_goto (tgt := 161) hx hb dX5_isName_147 (by decide) ?_
        exact w_X5_isName_161 hC hR N u24 4 h hP hS (lv_sub hl [2, 0] rfl)
    have h := mif_f c22 h
    by_cases c28 : r9 = 115131
    · have h := mif_t c28 h
      refine lv_lookup (tgt := 108) (off := 85) hx hb dX5_isName_23 (by decide) (by rw [c28]; decide) (by decide) ?_
      refine u_aload_n (r := some a5) hx hb dX5_isName_108 rfl (lv_at hl 1 rfl) ?_
      refine u_ldcS hC 4 rfl dX5_isName_109 ?_
      obtain ⟨c29, h⟩ := mif_n h
      obtain ⟨r32, u30, c31, h⟩ := ucall_n h
      have zu30 := zz_J6_equals N (ub G) (ug G) u7 a5 (some ((ug G).2.1 4)) r32 u30 c31
      refine u_calli (va_runV (As := [va_rf (some ((ug G).2.1 4))]) (rest := []) hC.1 (met_J6_equals l N G u7 a5 (some ((ug G).2.1 4)) r32 u30 c31) (cwV 1 hts (lw_V q671 q672 q673 q110 q674) rfl rfl rfl (by decide +kernel) ⟨Nat.le_trans (Nat.le_of_ble_eq_true rfl) hR.1, Nat.le_trans (Nat.le_of_ble_eq_true rfl) hR.2⟩) ⟨uPc_blind, u_rcv hC hP c29 rfl, fun U hU hW => u_pre hC hP hS hU hW⟩ rfl rfl hl.1 rfl (lv_room (Nat.le_of_ble_eq_true rfl)) dX5_isName_111 ⟨Nat.zero_le _, Nat.zero_le _⟩) hS (fun H locs hP hS => ?_)
      refine lv_if_eq (tgt := 161) hx hb dX5_isName_114 (by decide) (fun c33 => ?_) (fun c33 => ?_)
      · have h := mif_t c33 h
        exact w_X5_isName_161 hC hR N u30 (-1) h hP hS (lv_sub hl [2, 0] rfl)
      · have h := mif_f c33 h
        refine lv_iconst (v := 2) hx hb dX5_isName_117 (by decide) ?_
        refine lv_istore_n (i := 2) (lv' := [(2, .int 2), (1, va_rf (some a5)), (0, va_rf (some a0))]) hx hb dX5_isName_118 rfl hl (by decide) rfl (fun ls hl => ?_)
        refine lv_goto (tgt := 161) hx hb dX5_isName_119 (by decide) ?_
        exact w_X5_isName_161 hC hR N u30 2 h hP hS (lv_sub hl [2, 0] rfl)
    have h := mif_f c28 h
    by_cases c34 : r9 = 3116345
    · have h := mif_t c34 h
      refine lv_lookup (tgt := 150) (off := 127) hx hb dX5_isName_23 (by decide) (by rw [c34]; decide) (by decide) ?_
      refine u_aload_n (r := some a5) hx hb dX5_isName_150 rfl (lv_at hl 1 rfl) ?_
      refine u_ldcS hC 7 rfl dX5_isName_151 ?_
      obtain ⟨c35, h⟩ := mif_n h
      obtain ⟨r38, u36, c37, h⟩ := ucall_n h
      have zu36 := zz_J6_equals N (ub G) (ug G) u7 a5 (some ((ug G).2.1 7)) r38 u36 c37
      refine u_calli (va_runV (As := [va_rf (some ((ug G).2.1 7))]) (rest := []) hC.1 (met_J6_equals l N G u7 a5 (some ((ug G).2.1 7)) r38 u36 c37) (cwV 1 hts (lw_V q671 q672 q673 q110 q674) rfl rfl rfl (by decide +kernel) ⟨Nat.le_trans (Nat.le_of_ble_eq_true rfl) hR.1, Nat.le_trans (Nat.le_of_ble_eq_true rfl) hR.2⟩) ⟨uPc_blind, u_rcv hC hP c35 rfl, fun U hU hW => u_pre hC hP hS hU hW⟩ rfl rfl hl.1 rfl (lv_room (Nat.le_of_ble_eq_true rfl)) dX5_isName_153 ⟨Nat.zero_le _, Nat.zero_le _⟩) hS (fun H locs hP hS => ?_)
      refine lv_if_eq (tgt := 161) hx hb dX5_isName_156 (by decide) (fun c39 => ?_) (fun c39 => ?_)
      · have h := mif_t c39 h
        exact w_X5_isName_161 hC hR N u36 (-1) h hP hS (lv_sub hl [2, 0] rfl)
      · have h := mif_f c39 h
        refine lv_iconst (v := 5) hx hb dX5_isName_159 (by decide) ?_
        refine lv_istore_n (i := 2) (lv' := [(2, .int 5), (1, va_rf (some a5)), (0, va_rf (some a0))]) hx hb dX5_isName_160 rfl hl (by decide) rfl (fun ls hl => ?_)
        exact w_X5_isName_161 hC hR N u36 5 h hP hS (lv_sub hl [2, 0] rfl)
    have h := mif_f c34 h
    by_cases c40 : r9 = 108704838
    · have h := mif_t c40 h
      refine lv_lookup (tgt := 94) (off := 71) hx hb dX5_isName_23 (by decide) (by rw [c40]; decide) (by decide) ?_
      refine u_aload_n (r := some a5) hx hb dX5_isName_94 rfl (lv_at hl 1 rfl) ?_
      refine u_ldcS hC 3 rfl dX5_isName_95 ?_
      obtain ⟨c41, h⟩ := mif_n h
      obtain ⟨r44, u42, c43, h⟩ := ucall_n h
      have zu42 := zz_J6_equals N (ub G) (ug G) u7 a5 (some ((ug G).2.1 3)) r44 u42 c43
      refine u_calli (va_runV (As := [va_rf (some ((ug G).2.1 3))]) (rest := []) hC.1 (met_J6_equals l N G u7 a5 (some ((ug G).2.1 3)) r44 u42 c43) (cwV 1 hts (lw_V q671 q672 q673 q110 q674) rfl rfl rfl (by decide +kernel) ⟨Nat.le_trans (Nat.le_of_ble_eq_true rfl) hR.1, Nat.le_trans (Nat.le_of_ble_eq_true rfl) hR.2⟩) ⟨uPc_blind, u_rcv hC hP c41 rfl, fun U hU hW => u_pre hC hP hS hU hW⟩ rfl rfl hl.1 rfl (lv_room (Nat.le_of_ble_eq_true rfl)) dX5_isName_97 ⟨Nat.zero_le _, Nat.zero_le _⟩) hS (fun H locs hP hS => ?_)
      refine lv_if_eq (tgt := 161) hx hb dX5_isName_100 (by decide) (fun c45 => ?_) (fun c45 => ?_)
      · have h := mif_t c45 h
        exact w_X5_isName_161 hC hR N u42 (-1) h hP hS (lv_sub hl [2, 0] rfl)
      · have h := mif_f c45 h
        refine lv_iconst (v := 1) hx hb dX5_isName_103 (by decide) ?_
        refine lv_istore_n (i := 2) (lv' := [(2, .int 1), (1, va_rf (some a5)), (0, va_rf (some a0))]) hx hb dX5_isName_104 rfl hl (by decide) rfl (fun ls hl => ?_)
        refine lv_goto (tgt := 161) hx hb dX5_isName_105 (by decide) ?_
        exact w_X5_isName_161 hC hR N u42 1 h hP hS (lv_sub hl [2, 0] rfl)
    have h := mif_f c40 h
    refine lv_lookup (tgt := 161) (off := 138) hx hb dX5_isName_23 (by decide) (by have kc10 := u_lkN (z := (-1237460601)) c10 (by decide); have kc16 := u_lkN (z := 3357) c16 (by decide); have kc22 := u_lkN (z := 3370) c22 (by decide); have kc28 := u_lkN (z := 115131) c28 (by decide); have kc34 := u_lkN (z := 3116345) c34 (by decide); have kc40 := u_lkN (z := 108704838) c40 (by decide); simp [Op.lookupswitch.offset, kc10.1, kc10.2, kc16.1, kc16.2, kc22.1, kc22.2, kc28.1, kc28.2, kc34.1, kc34.2, kc40.1, kc40.2]) (by decide) ?_
    exact w_X5_isName_161 hC hR N u7 (-1) h hP hS (lv_sub hl [2, 0] rfl)
  · have h := mif_f c3 h
    refine lv_iconst (v := 0) hx hb dX5_isName_10 (by decide) ?_
    obtain ⟨hr1, hr2⟩ := uret_n h
    subst hr1
    subst hr2
    exact u_zret hC (uFit_n (ty := .boolean) (v := 0) rfl).1 hP hS dX5_isName_11
theorem zz_X5_isName (N b : Nat) (g : uEnv) (u : UH) (a0 : Nat) (r : Int32) (uf : UH) (h : f_X5_isName N b g u a0 = some (r, uf)) : uf.1 = u.1 ∧ uf.2.1 = u.2.1 :=
  zz_X5_isName_0 (G := ((fun _ => 0, fun _ _ => 0), fun _ => 0, b, g)) (a0 := a0) N u h
theorem met_X5_isName (l : Launch) (N : Nat) (G : uG) (u : UH) (a0 : Nat) (r : Int32) (uf : UH) (h : f_X5_isName N (ub G) (ug G) u a0 = some (r, uf)) : Met l yX5_isName (ws_ yX5_isName cX5_isName 3 (some .boolean)) ({ frames := 5, cells := 0, slots := 0, locals := 112 }) (uPc G u [.ref a0]) (uQi G r uf) 0 0 (uA G) := by
  exact u_met (own := RX5) (by decide +kernel) rfl (Nat.le_of_ble_eq_true rfl) (fun hC hn hsz ls hl hP => w_X5_isName_0 hC ⟨Nat.le_refl _, Nat.le_refl _⟩ N u h hP va_S.rf hl)
def f_X8_init (N b : Nat) (g : uEnv) (u : UH) (a0 : Nat) (x1 : Int32) (x2 : Int32) : Option (UH) :=
    (f_J15_init N b g u a0 none none 0 0).bind fun u1 =>
    (uPut b u1 a0 6 6 (.int x1)).bind fun u3 =>
    (uPut b u3 a0 6 7 (.int x2)).bind fun u4 =>
    some u4
set_option maxHeartbeats 4000000 in
set_option maxRecDepth 100000 in
theorem zz_X8_init_0 {G : uG} {a0 : Nat} {uf : UH} (N : Nat) (u : UH) (x1 : Int32) (x2 : Int32) (h : f_X8_init N (ub G) (ug G) u a0 x1 x2 = some uf) : uf.1 = u.1 ∧ uf.2.1 = u.2.1 := by
  unfold f_X8_init at h
  obtain ⟨u1, c2, h⟩ := mbind_n h
  have zu1 := zz_J15_init N (ub G) (ug G) u a0 none none 0 0 u1 c2
  obtain ⟨u3, hu3, h⟩ := mbind_n h
  have zu3 := uPut_sz hu3
  obtain ⟨u4, hu4, h⟩ := mbind_n h
  have zu4 := uPut_sz hu4
  cases h
  exact ⟨by omega, by omega⟩
set_option maxHeartbeats 4000000 in
set_option maxRecDepth 100000 in
theorem w_X8_init_0 {p : Program} {l : Launch} {e : Env} {R : Room} {s : State} {m : MethodId} {args : Array Value} {below : List Frame} {meth : Method} {c : Code} {G : uG} {a0 : Nat} {uf : UH} (hC : uC p s m args meth c G RX8 cX8_init 3 none) (hI : meth.name = "<init>") (hR : 3 ≤ R.frames ∧ 68 ≤ R.locals) (N : Nat) (u : UH) (x1 : Int32) (x2 : Int32) (h : f_X8_init N (ub G) (ug G) u a0 x1 x2 = some uf) {H : Heap} {locs : List Loc} (hP : uP G u H) (hS : va_S (uA G) s.heap H locs) {ls : Array Slot} (hl : lv_has ls 3 [(0, va_rf (some a0)), (1, .int x1), (2, .int x2)]) : W p l e R s m args below meth c H locs 0 0 (MQ below (uQv G uf) args s 0 0 (uA G)) (F0 m 0 ls []) := by
  obtain ⟨⟨hx, hb, hml, hown, hts⟩, hKK⟩ := id hC
  unfold f_X8_init at h
  refine u_aload_n (r := some a0) hx hb dX8_init_0 rfl (lv_at hl 0 rfl) ?_
  refine lv_null hx hb dX8_init_1 ?_
  refine lv_null hx hb dX8_init_2 ?_
  refine lv_iconst (v := 0) hx hb dX8_init_3 (by decide) ?_
  refine lv_iconst (v := 0) hx hb dX8_init_4 (by decide) ?_
  obtain ⟨u1, c2, h⟩ := mbind_n h
  have zu1 := zz_J15_init N (ub G) (ug G) u a0 none none 0 0 u1 c2
  refine u_callv (va_runI (As := [va_rf none, va_rf none, .int 0, .int 0]) (rest := []) hC.1 (met_J15_init l N G u a0 none none 0 0 u1 c2) (cwI 4 hts (lw_meth q827) rfl rfl rfl (hts _ q122) (hts _ q825) (hts _ q826) rfl (by decide +kernel) ⟨Nat.le_trans (Nat.le_of_ble_eq_true rfl) hR.1, Nat.le_trans (Nat.le_of_ble_eq_true rfl) hR.2⟩) ⟨uPc_blind, fun U hU hW => u_pre hC hP hS hU hW⟩ rfl rfl hl.1 rfl (lv_room (Nat.le_of_ble_eq_true rfl)) dX8_init_5 ⟨Nat.zero_le _, Nat.zero_le _⟩) hS (fun H locs hP hS => ?_)
  refine u_aload_n (r := some a0) hx hb dX8_init_8 rfl (lv_at hl 0 rfl) ?_
  refine lv_iload_n hx hb dX8_init_9 rfl (lv_at hl 1 rfl) ?_
  obtain ⟨u3, hu3, h⟩ := mbind_n h
  have zu3 := uPut_sz hu3
  refine u_putF hC hI hP hS hu3 rfl in_X8 tyX8 tyX8_ok nmX8 (by decide) q831 (fun _ h => h) rfl rfl (ty := .int) (tyX8_ok 6 (by decide)) rfl rfl dX8_init_10 (fun H locs hP hS => ?_)
  refine u_aload_n (r := some a0) hx hb dX8_init_13 rfl (lv_at hl 0 rfl) ?_
  refine lv_iload_n hx hb dX8_init_14 rfl (lv_at hl 2 rfl) ?_
  obtain ⟨u4, hu4, h⟩ := mbind_n h
  have zu4 := uPut_sz hu4
  refine u_putF hC hI hP hS hu4 rfl in_X8 tyX8 tyX8_ok nmX8 (by decide) q833 (fun _ h => h) rfl rfl (ty := .int) (tyX8_ok 7 (by decide)) rfl rfl dX8_init_15 (fun H locs hP hS => ?_)
  cases h
  exact u_vret hC hP hS dX8_init_18
theorem zz_X8_init (N b : Nat) (g : uEnv) (u : UH) (a0 : Nat) (x1 : Int32) (x2 : Int32) (uf : UH) (h : f_X8_init N b g u a0 x1 x2 = some uf) : uf.1 = u.1 ∧ uf.2.1 = u.2.1 :=
  zz_X8_init_0 (G := ((fun _ => 0, fun _ _ => 0), fun _ => 0, b, g)) (a0 := a0) N u x1 x2 h
theorem met_X8_init (l : Launch) (N : Nat) (G : uG) (u : UH) (a0 : Nat) (x1 : Int32) (x2 : Int32) (uf : UH) (h : f_X8_init N (ub G) (ug G) u a0 x1 x2 = some uf) : Met l yX8_init (ws_ yX8_init cX8_init 3 none) ({ frames := 3, cells := 0, slots := 0, locals := 68 }) (uPc G u [.ref a0, .int x1, .int x2]) (uQv G uf) 0 0 (uA G) := by
  exact u_met (own := RX8) (by decide +kernel) rfl (Nat.le_of_ble_eq_true rfl) (fun hC hn hsz ls hl hP => w_X8_init_0 hC hn ⟨Nat.le_refl _, Nat.le_refl _⟩ N u x1 x2 h hP va_S.rf hl)
def f_X4_groundOf_2 (N b : Nat) (g : uEnv) (a0 : Nat) : Nat → UH → Option Nat → Int32 → Option (Int32 × UH)
  | 0, _, _, _ => none
  | n + 1, u, x1, x2 =>
    (uGR u a0 3 0).bind fun o1 =>
    (o1).bind fun a2 =>
    if uIs u a2 18 = true then
    ucall (f_J2_size N b g u a2) fun r6 u4 =>
    if r6 ≤ x2 then
    some ((-1), u4)
    else
    (uGR u4 a0 3 0).bind fun o8 =>
    (o8).bind fun a9 =>
    if uIs u4 a9 18 = true then
    ucall (f_J2_get N b g u4 a9 x2) fun o13 u11 =>
    (o13).bind fun a14 =>
    if uIs u11 a14 5 = true then
    (uGR u11 a14 5 0).bind fun o16 =>
    (o16).bind fun a17 =>
    if uIs u11 a17 20 = true then
    ucall (f_J6_equals N b g u11 a17 x1) fun r21 u19 =>
    if r21 = 0 then
    mlet (x2 + 1) fun y23 =>
    f_X4_groundOf_2 N b g a0 n u19 x1 y23
    else
    some (x2, u19)
    else none
    else none
    else none
    else none
set_option maxHeartbeats 4000000 in
set_option maxRecDepth 100000 in
theorem zz_X4_groundOf_2 {G : uG} {a0 : Nat} {uf : UH} {r : Int32} (N : Nat) : ∀ (n : Nat) (u : UH) (x1 : Option Nat) (x2 : Int32), f_X4_groundOf_2 N (ub G) (ug G) a0 n u x1 x2 = some (r, uf) → uf.1 = u.1 ∧ uf.2.1 = u.2.1 := by
  intro n
  induction n with
  | zero =>
    intro u x1 x2 h
    cases h
  | succ n ih =>
    intro u x1 x2 h
    unfold f_X4_groundOf_2 at h
    obtain ⟨o1, ho1, h⟩ := mbind_n h
    obtain ⟨a2, ha2, hha2⟩ := mbind_n h
    subst ha2
    have h := hha2
    obtain ⟨c3, h⟩ := mif_n h
    obtain ⟨r6, u4, c5, h⟩ := ucall_n h
    have zu4 := zz_J2_size N (ub G) (ug G) u a2 r6 u4 c5
    by_cases c7 : r6 ≤ x2
    · have h := mif_t c7 h
      obtain ⟨hr1, hr2⟩ := uret_n h
      subst hr2
      exact ⟨by omega, by omega⟩
    · have h := mif_f c7 h
      obtain ⟨o8, ho8, h⟩ := mbind_n h
      obtain ⟨a9, ha9, hha9⟩ := mbind_n h
      subst ha9
      have h := hha9
      obtain ⟨c10, h⟩ := mif_n h
      obtain ⟨o13, u11, c12, h⟩ := ucall_n h
      have zu11 := zz_J2_get N (ub G) (ug G) u4 a9 x2 o13 u11 c12
      obtain ⟨a14, ha14, hha14⟩ := mbind_n h
      subst ha14
      have h := hha14
      obtain ⟨c15, h⟩ := mif_n h
      obtain ⟨o16, ho16, h⟩ := mbind_n h
      obtain ⟨a17, ha17, hha17⟩ := mbind_n h
      subst ha17
      have h := hha17
      obtain ⟨c18, h⟩ := mif_n h
      obtain ⟨r21, u19, c20, h⟩ := ucall_n h
      have zu19 := zz_J6_equals N (ub G) (ug G) u11 a17 x1 r21 u19 c20
      by_cases c22 : r21 = 0
      · have h := mif_t c22 h
        obtain ⟨y23, ey23⟩ : ∃ z : Int32, z = x2 + 1 := ⟨_, rfl⟩
        have h := mlet_at ey23 h
        have hq := ih u19 x1 y23 h
        exact ⟨by omega, by omega⟩
      · have h := mif_f c22 h
        obtain ⟨hr1, hr2⟩ := uret_n h
        subst hr2
        exact ⟨by omega, by omega⟩
set_option maxHeartbeats 4000000 in
set_option maxRecDepth 100000 in
theorem w_X4_groundOf_2 {p : Program} {l : Launch} {e : Env} {R : Room} {s : State} {m : MethodId} {args : Array Value} {below : List Frame} {meth : Method} {c : Code} {G : uG} {a0 : Nat} {uf : UH} {r : Int32} (hC : uC p s m args meth c G RX4 cX4_groundOf 3 (some .int)) (hR : 3 ≤ R.frames ∧ 64 ≤ R.locals) (N : Nat) : ∀ (n : Nat) (u : UH) (x1 : Option Nat) (x2 : Int32), f_X4_groundOf_2 N (ub G) (ug G) a0 n u x1 x2 = some (r, uf) → ∀ (H : Heap) (locs : List Loc), uP G u H → va_S (uA G) s.heap H locs → ∀ ls : Array Slot, lv_has ls 3 [(0, va_rf (some a0)), (1, va_rf x1), (2, .int x2)] → W p l e R s m args below meth c H locs 0 0 (MQ below (uQi G r uf) args s 0 0 (uA G)) (F0 m 2 ls []) := by
  obtain ⟨⟨hx, hb, hml, hown, hts⟩, hKK⟩ := id hC
  intro n
  induction n with
  | zero =>
    intro u x1 x2 h
    cases h
  | succ n ih =>
    intro u x1 x2 h H locs hP hS ls hl
    unfold f_X4_groundOf_2 at h
    refine lv_iload_n hx hb dX4_groundOf_2 rfl (lv_at hl 2 rfl) ?_
    refine u_aload_n (r := some a0) hx hb dX4_groundOf_3 rfl (lv_at hl 0 rfl) ?_
    obtain ⟨o1, ho1, h⟩ := mbind_n h
    refine u_get hC hP (uGR_n ho1) rfl in_X4 (by decide) q288 (fun _ h => h) dX4_groundOf_4 ?_
    obtain ⟨a2, ha2, hha2⟩ := mbind_n h
    subst ha2
    have h := hha2
    obtain ⟨c3, h⟩ := mif_n h
    obtain ⟨r6, u4, c5, h⟩ := ucall_n h
    have zu4 := zz_J2_size N (ub G) (ug G) u a2 r6 u4 c5
    refine u_calli (va_runV (As := []) (rest := [.int x2]) hC.1 (met_J2_size l N G u a2 r6 u4 c5) (cwV 0 hts (lw_V q893 q894 q895 q102 q896) rfl rfl rfl (by decide +kernel) ⟨Nat.le_trans (Nat.le_of_ble_eq_true rfl) hR.1, Nat.le_trans (Nat.le_of_ble_eq_true rfl) hR.2⟩) ⟨uPc_blind, u_rcv hC hP c3 rfl, fun U hU hW => u_pre hC hP hS hU hW⟩ rfl rfl hl.1 rfl (lv_room (Nat.le_of_ble_eq_true rfl)) dX4_groundOf_7 ⟨Nat.zero_le _, Nat.zero_le _⟩) hS (fun H locs hP hS => ?_)
    refine lv_icmp_ge (tgt := 42) hx hb dX4_groundOf_10 (by decide) (fun c7 => ?_) (fun c7 => ?_)
    · have h := mif_t c7 h
      refine lv_iconst (v := (-1)) hx hb dX4_groundOf_42 (by decide) ?_
      obtain ⟨hr1, hr2⟩ := uret_n h
      subst hr1
      subst hr2
      exact u_iret hC hP hS dX4_groundOf_43
    · have h := mif_f c7 h
      refine u_aload_n (r := some a0) hx hb dX4_groundOf_13 rfl (lv_at hl 0 rfl) ?_
      obtain ⟨o8, ho8, h⟩ := mbind_n h
      refine u_get hC hP (uGR_n ho8) rfl in_X4 (by decide) q288 (fun _ h => h) dX4_groundOf_14 ?_
      refine lv_iload_n hx hb dX4_groundOf_17 rfl (lv_at hl 2 rfl) ?_
      obtain ⟨a9, ha9, hha9⟩ := mbind_n h
      subst ha9
      have h := hha9
      obtain ⟨c10, h⟩ := mif_n h
      obtain ⟨o13, u11, c12, h⟩ := ucall_n h
      have zu11 := zz_J2_get N (ub G) (ug G) u4 a9 x2 o13 u11 c12
      refine u_callr (va_runV (As := [.int x2]) (rest := []) hC.1 (met_J2_get l N G u4 a9 x2 o13 u11 c12) (cwV 1 hts (lw_V q897 q898 q899 q102 q900) rfl rfl rfl (by decide +kernel) ⟨Nat.le_trans (Nat.le_of_ble_eq_true rfl) hR.1, Nat.le_trans (Nat.le_of_ble_eq_true rfl) hR.2⟩) ⟨uPc_blind, u_rcv hC hP c10 rfl, fun U hU hW => u_pre hC hP hS hU hW⟩ rfl rfl hl.1 rfl (lv_room (Nat.le_of_ble_eq_true rfl)) dX4_groundOf_18 ⟨Nat.zero_le _, Nat.zero_le _⟩) hS (fun H locs hP hS => ?_)
      obtain ⟨a14, ha14, hha14⟩ := mbind_n h
      subst ha14
      have h := hha14
      obtain ⟨c15, h⟩ := mif_n h
      refine u_castS hC hP c15 rfl q698 dX4_groundOf_21 ?_
      obtain ⟨o16, ho16, h⟩ := mbind_n h
      refine u_getN hC hP (uGR_n ho16) rfl in_X6 (by decide) q873 (fun _ h => h) dX4_groundOf_24 ?_
      refine u_aload_n (r := x1) hx hb dX4_groundOf_27 rfl (lv_at hl 1 rfl) ?_
      obtain ⟨a17, ha17, hha17⟩ := mbind_n h
      subst ha17
      have h := hha17
      obtain ⟨c18, h⟩ := mif_n h
      obtain ⟨r21, u19, c20, h⟩ := ucall_n h
      have zu19 := zz_J6_equals N (ub G) (ug G) u11 a17 x1 r21 u19 c20
      refine u_calli (va_runV (As := [va_rf x1]) (rest := []) hC.1 (met_J6_equals l N G u11 a17 x1 r21 u19 c20) (cwV 1 hts (lw_V q909 q672 q673 q110 q674) rfl rfl rfl (by decide +kernel) ⟨Nat.le_trans (Nat.le_of_ble_eq_true rfl) hR.1, Nat.le_trans (Nat.le_of_ble_eq_true rfl) hR.2⟩) ⟨uPc_blind, u_rcv hC hP c18 rfl, fun U hU hW => u_pre hC hP hS hU hW⟩ rfl rfl hl.1 rfl (lv_room (Nat.le_of_ble_eq_true rfl)) dX4_groundOf_28 ⟨Nat.zero_le _, Nat.zero_le _⟩) hS (fun H locs hP hS => ?_)
      refine lv_if_eq (tgt := 36) hx hb dX4_groundOf_31 (by decide) (fun c22 => ?_) (fun c22 => ?_)
      · have h := mif_t c22 h
        obtain ⟨y23, ey23⟩ : ∃ z : Int32, z = x2 + 1 := ⟨_, rfl⟩
        have h := mlet_at ey23 h
        refine lv_iinc (v := y23) (lv' := [(2, .int y23), (0, va_rf (some a0)), (1, va_rf x1)]) hx hb dX4_groundOf_36 hl (k := 2) rfl (by rw [ey23]; rfl) (by decide) (by simp [List.filter_cons, u_cat]) (fun ls hl => ?_)
        refine lv_goto (tgt := 2) hx hb dX4_groundOf_39 (by decide) ?_
        exact ih u19 x1 y23 h _ _ hP hS _ (lv_sub hl [1, 2, 0] rfl)
      · have h := mif_f c22 h
        refine lv_iload_n hx hb dX4_groundOf_34 rfl (lv_at hl 2 rfl) ?_
        obtain ⟨hr1, hr2⟩ := uret_n h
        subst hr1
        subst hr2
        exact u_iret hC hP hS dX4_groundOf_35
def f_X4_groundOf (N b : Nat) (g : uEnv) (u : UH) (a0 : Nat) (x1 : Option Nat) : Option (Int32 × UH) :=
    f_X4_groundOf_2 N b g a0 N u x1 0
set_option maxHeartbeats 4000000 in
set_option maxRecDepth 100000 in
theorem zz_X4_groundOf_0 {G : uG} {a0 : Nat} {uf : UH} {r : Int32} (N : Nat) (u : UH) (x1 : Option Nat) (h : f_X4_groundOf N (ub G) (ug G) u a0 x1 = some (r, uf)) : uf.1 = u.1 ∧ uf.2.1 = u.2.1 := by
  unfold f_X4_groundOf at h
  have hq := zz_X4_groundOf_2 (G := G) (a0 := a0) N N u x1 0 h
  exact ⟨by omega, by omega⟩
set_option maxHeartbeats 4000000 in
set_option maxRecDepth 100000 in
theorem w_X4_groundOf_0 {p : Program} {l : Launch} {e : Env} {R : Room} {s : State} {m : MethodId} {args : Array Value} {below : List Frame} {meth : Method} {c : Code} {G : uG} {a0 : Nat} {uf : UH} {r : Int32} (hC : uC p s m args meth c G RX4 cX4_groundOf 3 (some .int)) (hR : 3 ≤ R.frames ∧ 64 ≤ R.locals) (N : Nat) (u : UH) (x1 : Option Nat) (h : f_X4_groundOf N (ub G) (ug G) u a0 x1 = some (r, uf)) {H : Heap} {locs : List Loc} (hP : uP G u H) (hS : va_S (uA G) s.heap H locs) {ls : Array Slot} (hl : lv_has ls 3 [(0, va_rf (some a0)), (1, va_rf x1)]) : W p l e R s m args below meth c H locs 0 0 (MQ below (uQi G r uf) args s 0 0 (uA G)) (F0 m 0 ls []) := by
  obtain ⟨⟨hx, hb, hml, hown, hts⟩, hKK⟩ := id hC
  unfold f_X4_groundOf at h
  refine lv_iconst (v := 0) hx hb dX4_groundOf_0 (by decide) ?_
  refine lv_istore_n (i := 2) (lv' := [(2, .int 0), (0, va_rf (some a0)), (1, va_rf x1)]) hx hb dX4_groundOf_1 rfl hl (by decide) (by simp [List.filter_cons, u_cat]) (fun ls hl => ?_)
  exact w_X4_groundOf_2 hC hR N N u x1 0 h _ _ hP hS _ (lv_sub hl [1, 2, 0] rfl)
theorem zz_X4_groundOf (N b : Nat) (g : uEnv) (u : UH) (a0 : Nat) (x1 : Option Nat) (r : Int32) (uf : UH) (h : f_X4_groundOf N b g u a0 x1 = some (r, uf)) : uf.1 = u.1 ∧ uf.2.1 = u.2.1 :=
  zz_X4_groundOf_0 (G := ((fun _ => 0, fun _ _ => 0), fun _ => 0, b, g)) (a0 := a0) N u x1 h
theorem met_X4_groundOf (l : Launch) (N : Nat) (G : uG) (u : UH) (a0 : Nat) (x1 : Option Nat) (r : Int32) (uf : UH) (h : f_X4_groundOf N (ub G) (ug G) u a0 x1 = some (r, uf)) : Met l yX4_groundOf (ws_ yX4_groundOf cX4_groundOf 3 (some .int)) ({ frames := 3, cells := 0, slots := 0, locals := 64 }) (uPc G u [.ref a0, va_rf x1]) (uQi G r uf) 0 0 (uA G) := by
  rcases x1 with _ | x1 <;> exact u_met (own := RX4) (by decide +kernel) rfl (Nat.le_of_ble_eq_true rfl) (fun hC hn hsz ls hl hP => w_X4_groundOf_0 hC ⟨Nat.le_refl _, Nat.le_refl _⟩ N u _ h hP va_S.rf hl)
def f_X4_hasAttempt_2 (N b : Nat) (g : uEnv) (a0 : Nat) : Nat → UH → Option Nat → Int32 → Option (Int32 × UH)
  | 0, _, _, _ => none
  | n + 1, u, x1, x2 =>
    (uGR u a0 3 1).bind fun o1 =>
    (o1).bind fun a2 =>
    if uIs u a2 18 = true then
    ucall (f_J2_size N b g u a2) fun r6 u4 =>
    if r6 ≤ x2 then
    some (0, u4)
    else
    (uGR u4 a0 3 1).bind fun o8 =>
    (o8).bind fun a9 =>
    if uIs u4 a9 18 = true then
    ucall (f_J2_get N b g u4 a9 x2) fun o13 u11 =>
    (o13).bind fun a14 =>
    if uIs u11 a14 8 = true then
    if uIs u11 a14 8 = true then
    ucall (f_X10_name N b g u11 a14) fun o19 u17 =>
    (o19).bind fun a20 =>
    if uIs u17 a20 20 = true then
    ucall (f_J6_equals N b g u17 a20 x1) fun r24 u22 =>
    if r24 = 0 then
    mlet (x2 + 1) fun y26 =>
    f_X4_hasAttempt_2 N b g a0 n u22 x1 y26
    else
    some (1, u22)
    else none
    else none
    else none
    else none
    else none
set_option maxHeartbeats 4000000 in
set_option maxRecDepth 100000 in
theorem zz_X4_hasAttempt_2 {G : uG} {a0 : Nat} {uf : UH} {r : Int32} (N : Nat) : ∀ (n : Nat) (u : UH) (x1 : Option Nat) (x2 : Int32), f_X4_hasAttempt_2 N (ub G) (ug G) a0 n u x1 x2 = some (r, uf) → uf.1 = u.1 ∧ uf.2.1 = u.2.1 := by
  intro n
  induction n with
  | zero =>
    intro u x1 x2 h
    cases h
  | succ n ih =>
    intro u x1 x2 h
    unfold f_X4_hasAttempt_2 at h
    obtain ⟨o1, ho1, h⟩ := mbind_n h
    obtain ⟨a2, ha2, hha2⟩ := mbind_n h
    subst ha2
    have h := hha2
    obtain ⟨c3, h⟩ := mif_n h
    obtain ⟨r6, u4, c5, h⟩ := ucall_n h
    have zu4 := zz_J2_size N (ub G) (ug G) u a2 r6 u4 c5
    by_cases c7 : r6 ≤ x2
    · have h := mif_t c7 h
      obtain ⟨hr1, hr2⟩ := uret_n h
      subst hr2
      exact ⟨by omega, by omega⟩
    · have h := mif_f c7 h
      obtain ⟨o8, ho8, h⟩ := mbind_n h
      obtain ⟨a9, ha9, hha9⟩ := mbind_n h
      subst ha9
      have h := hha9
      obtain ⟨c10, h⟩ := mif_n h
      obtain ⟨o13, u11, c12, h⟩ := ucall_n h
      have zu11 := zz_J2_get N (ub G) (ug G) u4 a9 x2 o13 u11 c12
      obtain ⟨a14, ha14, hha14⟩ := mbind_n h
      subst ha14
      have h := hha14
      obtain ⟨c15, h⟩ := mif_n h
      obtain ⟨c16, h⟩ := mif_n h
      obtain ⟨o19, u17, c18, h⟩ := ucall_n h
      have zu17 := zz_X10_name N (ub G) (ug G) u11 a14 o19 u17 c18
      obtain ⟨a20, ha20, hha20⟩ := mbind_n h
      subst ha20
      have h := hha20
      obtain ⟨c21, h⟩ := mif_n h
      obtain ⟨r24, u22, c23, h⟩ := ucall_n h
      have zu22 := zz_J6_equals N (ub G) (ug G) u17 a20 x1 r24 u22 c23
      by_cases c25 : r24 = 0
      · have h := mif_t c25 h
        obtain ⟨y26, ey26⟩ : ∃ z : Int32, z = x2 + 1 := ⟨_, rfl⟩
        have h := mlet_at ey26 h
        have hq := ih u22 x1 y26 h
        exact ⟨by omega, by omega⟩
      · have h := mif_f c25 h
        obtain ⟨hr1, hr2⟩ := uret_n h
        subst hr2
        exact ⟨by omega, by omega⟩
set_option maxHeartbeats 4000000 in
set_option maxRecDepth 100000 in
theorem w_X4_hasAttempt_2 {p : Program} {l : Launch} {e : Env} {R : Room} {s : State} {m : MethodId} {args : Array Value} {below : List Frame} {meth : Method} {c : Code} {G : uG} {a0 : Nat} {uf : UH} {r : Int32} (hC : uC p s m args meth c G RX4 cX4_hasAttempt 3 (some .boolean)) (hR : 3 ≤ R.frames ∧ 64 ≤ R.locals) (N : Nat) : ∀ (n : Nat) (u : UH) (x1 : Option Nat) (x2 : Int32), f_X4_hasAttempt_2 N (ub G) (ug G) a0 n u x1 x2 = some (r, uf) → ∀ (H : Heap) (locs : List Loc), uP G u H → va_S (uA G) s.heap H locs → ∀ ls : Array Slot, lv_has ls 3 [(0, va_rf (some a0)), (1, va_rf x1), (2, .int x2)] → W p l e R s m args below meth c H locs 0 0 (MQ below (uQi G r uf) args s 0 0 (uA G)) (F0 m 2 ls []) := by
  obtain ⟨⟨hx, hb, hml, hown, hts⟩, hKK⟩ := id hC
  intro n
  induction n with
  | zero =>
    intro u x1 x2 h
    cases h
  | succ n ih =>
    intro u x1 x2 h H locs hP hS ls hl
    unfold f_X4_hasAttempt_2 at h
    refine lv_iload_n hx hb dX4_hasAttempt_2 rfl (lv_at hl 2 rfl) ?_
    refine u_aload_n (r := some a0) hx hb dX4_hasAttempt_3 rfl (lv_at hl 0 rfl) ?_
    obtain ⟨o1, ho1, h⟩ := mbind_n h
    refine u_get hC hP (uGR_n ho1) rfl in_X4 (by decide) q292 (fun _ h => h) dX4_hasAttempt_4 ?_
    obtain ⟨a2, ha2, hha2⟩ := mbind_n h
    subst ha2
    have h := hha2
    obtain ⟨c3, h⟩ := mif_n h
    obtain ⟨r6, u4, c5, h⟩ := ucall_n h
    have zu4 := zz_J2_size N (ub G) (ug G) u a2 r6 u4 c5
    refine u_calli (va_runV (As := []) (rest := [.int x2]) hC.1 (met_J2_size l N G u a2 r6 u4 c5) (cwV 0 hts (lw_V q893 q894 q895 q102 q896) rfl rfl rfl (by decide +kernel) ⟨Nat.le_trans (Nat.le_of_ble_eq_true rfl) hR.1, Nat.le_trans (Nat.le_of_ble_eq_true rfl) hR.2⟩) ⟨uPc_blind, u_rcv hC hP c3 rfl, fun U hU hW => u_pre hC hP hS hU hW⟩ rfl rfl hl.1 rfl (lv_room (Nat.le_of_ble_eq_true rfl)) dX4_hasAttempt_7 ⟨Nat.zero_le _, Nat.zero_le _⟩) hS (fun H locs hP hS => ?_)
    refine lv_icmp_ge (tgt := 42) hx hb dX4_hasAttempt_10 (by decide) (fun c7 => ?_) (fun c7 => ?_)
    · have h := mif_t c7 h
      refine lv_iconst (v := 0) hx hb dX4_hasAttempt_42 (by decide) ?_
      obtain ⟨hr1, hr2⟩ := uret_n h
      subst hr1
      subst hr2
      exact u_zret hC (uFit_n (ty := .boolean) (v := 0) rfl).1 hP hS dX4_hasAttempt_43
    · have h := mif_f c7 h
      refine u_aload_n (r := some a0) hx hb dX4_hasAttempt_13 rfl (lv_at hl 0 rfl) ?_
      obtain ⟨o8, ho8, h⟩ := mbind_n h
      refine u_get hC hP (uGR_n ho8) rfl in_X4 (by decide) q292 (fun _ h => h) dX4_hasAttempt_14 ?_
      refine lv_iload_n hx hb dX4_hasAttempt_17 rfl (lv_at hl 2 rfl) ?_
      obtain ⟨a9, ha9, hha9⟩ := mbind_n h
      subst ha9
      have h := hha9
      obtain ⟨c10, h⟩ := mif_n h
      obtain ⟨o13, u11, c12, h⟩ := ucall_n h
      have zu11 := zz_J2_get N (ub G) (ug G) u4 a9 x2 o13 u11 c12
      refine u_callr (va_runV (As := [.int x2]) (rest := []) hC.1 (met_J2_get l N G u4 a9 x2 o13 u11 c12) (cwV 1 hts (lw_V q897 q898 q899 q102 q900) rfl rfl rfl (by decide +kernel) ⟨Nat.le_trans (Nat.le_of_ble_eq_true rfl) hR.1, Nat.le_trans (Nat.le_of_ble_eq_true rfl) hR.2⟩) ⟨uPc_blind, u_rcv hC hP c10 rfl, fun U hU hW => u_pre hC hP hS hU hW⟩ rfl rfl hl.1 rfl (lv_room (Nat.le_of_ble_eq_true rfl)) dX4_hasAttempt_18 ⟨Nat.zero_le _, Nat.zero_le _⟩) hS (fun H locs hP hS => ?_)
      obtain ⟨a14, ha14, hha14⟩ := mbind_n h
      subst ha14
      have h := hha14
      obtain ⟨c15, h⟩ := mif_n h
      refine u_castS hC hP c15 rfl q1013 dX4_hasAttempt_21 ?_
      obtain ⟨c16, h⟩ := mif_n h
      obtain ⟨o19, u17, c18, h⟩ := ucall_n h
      have zu17 := zz_X10_name N (ub G) (ug G) u11 a14 o19 u17 c18
      refine u_callr (va_runV (As := []) (rest := []) hC.1 (met_X10_name l N G u11 a14 o19 u17 c18) (cwV 0 hts (lw_V q1014 q1015 q1016 q127 q1017) rfl rfl rfl (by decide +kernel) ⟨Nat.le_trans (Nat.le_of_ble_eq_true rfl) hR.1, Nat.le_trans (Nat.le_of_ble_eq_true rfl) hR.2⟩) ⟨uPc_blind, u_rcv hC hP c16 rfl, fun U hU hW => u_pre hC hP hS hU hW⟩ rfl rfl hl.1 rfl (lv_room (Nat.le_of_ble_eq_true rfl)) dX4_hasAttempt_24 ⟨Nat.zero_le _, Nat.zero_le _⟩) hS (fun H locs hP hS => ?_)
      refine u_aload_n (r := x1) hx hb dX4_hasAttempt_27 rfl (lv_at hl 1 rfl) ?_
      obtain ⟨a20, ha20, hha20⟩ := mbind_n h
      subst ha20
      have h := hha20
      obtain ⟨c21, h⟩ := mif_n h
      obtain ⟨r24, u22, c23, h⟩ := ucall_n h
      have zu22 := zz_J6_equals N (ub G) (ug G) u17 a20 x1 r24 u22 c23
      refine u_calli (va_runV (As := [va_rf x1]) (rest := []) hC.1 (met_J6_equals l N G u17 a20 x1 r24 u22 c23) (cwV 1 hts (lw_V q909 q672 q673 q110 q674) rfl rfl rfl (by decide +kernel) ⟨Nat.le_trans (Nat.le_of_ble_eq_true rfl) hR.1, Nat.le_trans (Nat.le_of_ble_eq_true rfl) hR.2⟩) ⟨uPc_blind, u_rcv hC hP c21 rfl, fun U hU hW => u_pre hC hP hS hU hW⟩ rfl rfl hl.1 rfl (lv_room (Nat.le_of_ble_eq_true rfl)) dX4_hasAttempt_28 ⟨Nat.zero_le _, Nat.zero_le _⟩) hS (fun H locs hP hS => ?_)
      refine lv_if_eq (tgt := 36) hx hb dX4_hasAttempt_31 (by decide) (fun c25 => ?_) (fun c25 => ?_)
      · have h := mif_t c25 h
        obtain ⟨y26, ey26⟩ : ∃ z : Int32, z = x2 + 1 := ⟨_, rfl⟩
        have h := mlet_at ey26 h
        refine lv_iinc (v := y26) (lv' := [(2, .int y26), (0, va_rf (some a0)), (1, va_rf x1)]) hx hb dX4_hasAttempt_36 hl (k := 2) rfl (by rw [ey26]; rfl) (by decide) (by simp [List.filter_cons, u_cat]) (fun ls hl => ?_)
        refine lv_goto (tgt := 2) hx hb dX4_hasAttempt_39 (by decide) ?_
        exact ih u22 x1 y26 h _ _ hP hS _ (lv_sub hl [1, 2, 0] rfl)
      · have h := mif_f c25 h
        refine lv_iconst (v := 1) hx hb dX4_hasAttempt_34 (by decide) ?_
        obtain ⟨hr1, hr2⟩ := uret_n h
        subst hr1
        subst hr2
        exact u_zret hC (uFit_n (ty := .boolean) (v := 1) rfl).1 hP hS dX4_hasAttempt_35
def f_X4_hasAttempt (N b : Nat) (g : uEnv) (u : UH) (a0 : Nat) (x1 : Option Nat) : Option (Int32 × UH) :=
    f_X4_hasAttempt_2 N b g a0 N u x1 0
set_option maxHeartbeats 4000000 in
set_option maxRecDepth 100000 in
theorem zz_X4_hasAttempt_0 {G : uG} {a0 : Nat} {uf : UH} {r : Int32} (N : Nat) (u : UH) (x1 : Option Nat) (h : f_X4_hasAttempt N (ub G) (ug G) u a0 x1 = some (r, uf)) : uf.1 = u.1 ∧ uf.2.1 = u.2.1 := by
  unfold f_X4_hasAttempt at h
  have hq := zz_X4_hasAttempt_2 (G := G) (a0 := a0) N N u x1 0 h
  exact ⟨by omega, by omega⟩
set_option maxHeartbeats 4000000 in
set_option maxRecDepth 100000 in
theorem w_X4_hasAttempt_0 {p : Program} {l : Launch} {e : Env} {R : Room} {s : State} {m : MethodId} {args : Array Value} {below : List Frame} {meth : Method} {c : Code} {G : uG} {a0 : Nat} {uf : UH} {r : Int32} (hC : uC p s m args meth c G RX4 cX4_hasAttempt 3 (some .boolean)) (hR : 3 ≤ R.frames ∧ 64 ≤ R.locals) (N : Nat) (u : UH) (x1 : Option Nat) (h : f_X4_hasAttempt N (ub G) (ug G) u a0 x1 = some (r, uf)) {H : Heap} {locs : List Loc} (hP : uP G u H) (hS : va_S (uA G) s.heap H locs) {ls : Array Slot} (hl : lv_has ls 3 [(0, va_rf (some a0)), (1, va_rf x1)]) : W p l e R s m args below meth c H locs 0 0 (MQ below (uQi G r uf) args s 0 0 (uA G)) (F0 m 0 ls []) := by
  obtain ⟨⟨hx, hb, hml, hown, hts⟩, hKK⟩ := id hC
  unfold f_X4_hasAttempt at h
  refine lv_iconst (v := 0) hx hb dX4_hasAttempt_0 (by decide) ?_
  refine lv_istore_n (i := 2) (lv' := [(2, .int 0), (0, va_rf (some a0)), (1, va_rf x1)]) hx hb dX4_hasAttempt_1 rfl hl (by decide) (by simp [List.filter_cons, u_cat]) (fun ls hl => ?_)
  exact w_X4_hasAttempt_2 hC hR N N u x1 0 h _ _ hP hS _ (lv_sub hl [1, 2, 0] rfl)
theorem zz_X4_hasAttempt (N b : Nat) (g : uEnv) (u : UH) (a0 : Nat) (x1 : Option Nat) (r : Int32) (uf : UH) (h : f_X4_hasAttempt N b g u a0 x1 = some (r, uf)) : uf.1 = u.1 ∧ uf.2.1 = u.2.1 :=
  zz_X4_hasAttempt_0 (G := ((fun _ => 0, fun _ _ => 0), fun _ => 0, b, g)) (a0 := a0) N u x1 h
theorem met_X4_hasAttempt (l : Launch) (N : Nat) (G : uG) (u : UH) (a0 : Nat) (x1 : Option Nat) (r : Int32) (uf : UH) (h : f_X4_hasAttempt N (ub G) (ug G) u a0 x1 = some (r, uf)) : Met l yX4_hasAttempt (ws_ yX4_hasAttempt cX4_hasAttempt 3 (some .boolean)) ({ frames := 3, cells := 0, slots := 0, locals := 64 }) (uPc G u [.ref a0, va_rf x1]) (uQi G r uf) 0 0 (uA G) := by
  rcases x1 with _ | x1 <;> exact u_met (own := RX4) (by decide +kernel) rfl (Nat.le_of_ble_eq_true rfl) (fun hC hn hsz ls hl hP => w_X4_hasAttempt_0 hC ⟨Nat.le_refl _, Nat.le_refl _⟩ N u _ h hP va_S.rf hl)
def f_X2_at (N b : Nat) (g : uEnv) (u : UH) (x0 : Int32) (x1 : Option Nat) (x2 : Int32) : Option (Int32 × UH) :=
    (x1).bind fun a1 =>
    ucall (f_J3_ordinal N b g u a1) fun r4 u2 =>
    some ((((4 * x0) + r4) * 8) + x2, u2)
set_option maxHeartbeats 4000000 in
set_option maxRecDepth 100000 in
theorem zz_X2_at_0 {G : uG} {uf : UH} {r : Int32} (N : Nat) (u : UH) (x0 : Int32) (x1 : Option Nat) (x2 : Int32) (h : f_X2_at N (ub G) (ug G) u x0 x1 x2 = some (r, uf)) : uf.1 = u.1 ∧ uf.2.1 = u.2.1 := by
  unfold f_X2_at at h
  obtain ⟨a1, ha1, hha1⟩ := mbind_n h
  subst ha1
  have h := hha1
  obtain ⟨r4, u2, c3, h⟩ := ucall_n h
  have zu2 := zz_J3_ordinal N (ub G) (ug G) u a1 r4 u2 c3
  obtain ⟨hr1, hr2⟩ := uret_n h
  subst hr2
  exact ⟨by omega, by omega⟩
set_option maxHeartbeats 4000000 in
set_option maxRecDepth 100000 in
theorem w_X2_at_0 {p : Program} {l : Launch} {e : Env} {R : Room} {s : State} {m : MethodId} {args : Array Value} {below : List Frame} {meth : Method} {c : Code} {G : uG} {uf : UH} {r : Int32} (hC : uC p s m args meth c G RX2 cX2_at 3 (some .int)) (hR : 1 ≤ R.frames ∧ 20 ≤ R.locals) (N : Nat) (u : UH) (x0 : Int32) (x1 : Option Nat) (x2 : Int32) (h : f_X2_at N (ub G) (ug G) u x0 x1 x2 = some (r, uf)) {H : Heap} {locs : List Loc} (hP : uP G u H) (hS : va_S (uA G) s.heap H locs) {ls : Array Slot} (hl : lv_has ls 3 [(0, .int x0), (1, va_rf x1), (2, .int x2)]) : W p l e R s m args below meth c H locs 0 0 (MQ below (uQi G r uf) args s 0 0 (uA G)) (F0 m 0 ls []) := by
  obtain ⟨⟨hx, hb, hml, hown, hts⟩, hKK⟩ := id hC
  unfold f_X2_at at h
  refine lv_iconst (v := 4) hx hb dX2_at_0 (by decide) ?_
  refine lv_iload_n hx hb dX2_at_1 rfl (lv_at hl 0 rfl) ?_
  refine lv_imul hx hb dX2_at_2 ?_
  refine u_aload_n (r := x1) hx hb dX2_at_3 rfl (lv_at hl 1 rfl) ?_
  obtain ⟨a1, ha1, hha1⟩ := mbind_n h
  subst ha1
  have h := hha1
  obtain ⟨r4, u2, c3, h⟩ := ucall_n h
  have zu2 := zz_J3_ordinal N (ub G) (ug G) u a1 r4 u2 c3
  refine u_calli (va_runU (As := []) (rest := [.int (4 * x0)]) hC.1 (met_J3_ordinal l N G u a1 r4 u2 c3) (va_cwU 0 hts (lw_U q1323 q1324 q1326 q1327 q106 q1328) rfl rfl rfl rfl (by decide +kernel) ⟨Nat.le_trans (Nat.le_of_ble_eq_true rfl) hR.1, Nat.le_trans (Nat.le_of_ble_eq_true rfl) hR.2⟩) ⟨uPc_blind, u_rcvW hC hS c3, fun U hU hW => u_pre hC hP hS hU hW⟩ rfl rfl hl.1 rfl (lv_room (Nat.le_of_ble_eq_true rfl)) dX2_at_4 ⟨Nat.zero_le _, Nat.zero_le _⟩) hS (fun H locs hP hS => ?_)
  refine lv_iadd hx hb dX2_at_7 ?_
  refine lv_bipush (v := 8) hx hb dX2_at_8 (by decide) ?_
  refine lv_imul hx hb dX2_at_10 ?_
  refine lv_iload_n hx hb dX2_at_11 rfl (lv_at hl 2 rfl) ?_
  refine lv_iadd hx hb dX2_at_12 ?_
  obtain ⟨hr1, hr2⟩ := uret_n h
  subst hr1
  subst hr2
  exact u_iret hC hP hS dX2_at_13
theorem zz_X2_at (N b : Nat) (g : uEnv) (u : UH) (x0 : Int32) (x1 : Option Nat) (x2 : Int32) (r : Int32) (uf : UH) (h : f_X2_at N b g u x0 x1 x2 = some (r, uf)) : uf.1 = u.1 ∧ uf.2.1 = u.2.1 :=
  zz_X2_at_0 (G := ((fun _ => 0, fun _ _ => 0), fun _ => 0, b, g)) N u x0 x1 x2 h
theorem met_X2_at (l : Launch) (N : Nat) (G : uG) (u : UH) (x0 : Int32) (x1 : Option Nat) (x2 : Int32) (r : Int32) (uf : UH) (h : f_X2_at N (ub G) (ug G) u x0 x1 x2 = some (r, uf)) : Met l yX2_at (ws_ yX2_at cX2_at 3 (some .int)) ({ frames := 1, cells := 0, slots := 0, locals := 20 }) (uPc G u [.int x0, va_rf x1, .int x2]) (uQi G r uf) 0 0 (uA G) := by
  rcases x1 with _ | x1 <;> exact u_met (own := RX2) (by decide +kernel) rfl (Nat.le_of_ble_eq_true rfl) (fun hC hn hsz ls hl hP => w_X2_at_0 hC ⟨Nat.le_refl _, Nat.le_refl _⟩ N u x0 _ x2 h hP va_S.rf hl)
def f_X2_begin_138 (N b : Nat) (g : uEnv) (a0 : Nat) (k35 : UH → Option Nat → Int32 → Int32 → Option (Option Nat × UH)) (k71 : UH → Option Nat → Int32 → Int32 → Option Nat → Int32 → Int32 → Option (Option Nat × UH)) (k88 : UH → Option Nat → Int32 → Int32 → Option Nat → Int32 → Int32 → Option Nat → Int32 → Option (Option Nat × UH)) (u : UH) (x1 : Option Nat) (x3 : Int32) (x5 : Int32) (x6 : Option Nat) (x7 : Int32) (x8 : Int32) (x9 : Option Nat) (x10 : Int32) (s0 : Int32) (s1 : Int32) (s2 : Option Nat) : Option (Option Nat × UH) :=
    (s2).bind fun a1 =>
    (uStI b u a1 0 s1 s0).bind fun u2 =>
    mlet (x10 + 1) fun y3 =>
    k88 u2 x1 x3 x5 x6 x7 x8 x9 y3
set_option maxHeartbeats 4000000 in
set_option maxRecDepth 100000 in
theorem zz_X2_begin_138 {G : uG} {a0 : Nat} {uf : UH} {r : Option Nat} (N : Nat) (k35 : UH → Option Nat → Int32 → Int32 → Option (Option Nat × UH)) (hk35 : ∀ (u : UH) (x1 : Option Nat) (x3 : Int32) (x5 : Int32), k35 u x1 x3 x5 = some (r, uf) → uf.1 = u.1 ∧ uf.2.1 = u.2.1) (k71 : UH → Option Nat → Int32 → Int32 → Option Nat → Int32 → Int32 → Option (Option Nat × UH)) (hk71 : ∀ (u : UH) (x1 : Option Nat) (x3 : Int32) (x5 : Int32) (x6 : Option Nat) (x7 : Int32) (x8 : Int32), k71 u x1 x3 x5 x6 x7 x8 = some (r, uf) → uf.1 = u.1 ∧ uf.2.1 = u.2.1) (k88 : UH → Option Nat → Int32 → Int32 → Option Nat → Int32 → Int32 → Option Nat → Int32 → Option (Option Nat × UH)) (hk88 : ∀ (u : UH) (x1 : Option Nat) (x3 : Int32) (x5 : Int32) (x6 : Option Nat) (x7 : Int32) (x8 : Int32) (x9 : Option Nat) (x10 : Int32), k88 u x1 x3 x5 x6 x7 x8 x9 x10 = some (r, uf) → uf.1 = u.1 ∧ uf.2.1 = u.2.1) (u : UH) (x1 : Option Nat) (x3 : Int32) (x5 : Int32) (x6 : Option Nat) (x7 : Int32) (x8 : Int32) (x9 : Option Nat) (x10 : Int32) (s0 : Int32) (s1 : Int32) (s2 : Option Nat) (h : f_X2_begin_138 N (ub G) (ug G) a0 k35 k71 k88 u x1 x3 x5 x6 x7 x8 x9 x10 s0 s1 s2 = some (r, uf)) : uf.1 = u.1 ∧ uf.2.1 = u.2.1 := by
  unfold f_X2_begin_138 at h
  obtain ⟨a1, ha1, hha1⟩ := mbind_n h
  subst ha1
  have h := hha1
  obtain ⟨u2, hu2, h⟩ := mbind_n h
  have zu2 := uStI_sz hu2
  obtain ⟨y3, ey3⟩ : ∃ z : Int32, z = x10 + 1 := ⟨_, rfl⟩
  have h := mlet_at ey3 h
  have hq := hk88 u2 x1 x3 x5 x6 x7 x8 x9 y3 h
  exact ⟨by omega, by omega⟩
set_option maxHeartbeats 4000000 in
set_option maxRecDepth 100000 in
theorem w_X2_begin_138 {p : Program} {l : Launch} {e : Env} {R : Room} {s : State} {m : MethodId} {args : Array Value} {below : List Frame} {meth : Method} {c : Code} {G : uG} {a0 : Nat} {uf : UH} {r : Option Nat} (hC : uC p s m args meth c G RX2 cX2_begin 11 (some (.object "SoftWheels$Solver"))) (hR : 4 ≤ R.frames ∧ 95 ≤ R.locals) (N : Nat) (k35 : UH → Option Nat → Int32 → Int32 → Option (Option Nat × UH)) (hk35 : ∀ (u : UH) (x1 : Option Nat) (x3 : Int32) (x5 : Int32), k35 u x1 x3 x5 = some (r, uf) → ∀ (H : Heap) (locs : List Loc), uP G u H → va_S (uA G) s.heap H locs → ∀ ls : Array Slot, lv_has ls 11 [(0, va_rf (some a0)), (1, va_rf x1), (3, .int x3), (5, .int x5)] → W p l e R s m args below meth c H locs 0 0 (MQ below (uQr G r uf) args s 0 0 (uA G)) (F0 m 35 ls [])) (k71 : UH → Option Nat → Int32 → Int32 → Option Nat → Int32 → Int32 → Option (Option Nat × UH)) (hk71 : ∀ (u : UH) (x1 : Option Nat) (x3 : Int32) (x5 : Int32) (x6 : Option Nat) (x7 : Int32) (x8 : Int32), k71 u x1 x3 x5 x6 x7 x8 = some (r, uf) → ∀ (H : Heap) (locs : List Loc), uP G u H → va_S (uA G) s.heap H locs → ∀ ls : Array Slot, lv_has ls 11 [(0, va_rf (some a0)), (1, va_rf x1), (3, .int x3), (5, .int x5), (6, va_rf x6), (7, .int x7), (8, .int x8)] → W p l e R s m args below meth c H locs 0 0 (MQ below (uQr G r uf) args s 0 0 (uA G)) (F0 m 71 ls [])) (k88 : UH → Option Nat → Int32 → Int32 → Option Nat → Int32 → Int32 → Option Nat → Int32 → Option (Option Nat × UH)) (hk88 : ∀ (u : UH) (x1 : Option Nat) (x3 : Int32) (x5 : Int32) (x6 : Option Nat) (x7 : Int32) (x8 : Int32) (x9 : Option Nat) (x10 : Int32), k88 u x1 x3 x5 x6 x7 x8 x9 x10 = some (r, uf) → ∀ (H : Heap) (locs : List Loc), uP G u H → va_S (uA G) s.heap H locs → ∀ ls : Array Slot, lv_has ls 11 [(0, va_rf (some a0)), (1, va_rf x1), (3, .int x3), (5, .int x5), (6, va_rf x6), (7, .int x7), (8, .int x8), (9, va_rf x9), (10, .int x10)] → W p l e R s m args below meth c H locs 0 0 (MQ below (uQr G r uf) args s 0 0 (uA G)) (F0 m 88 ls [])) (u : UH) (x1 : Option Nat) (x3 : Int32) (x5 : Int32) (x6 : Option Nat) (x7 : Int32) (x8 : Int32) (x9 : Option Nat) (x10 : Int32) (s0 : Int32) (s1 : Int32) (s2 : Option Nat) (h : f_X2_begin_138 N (ub G) (ug G) a0 k35 k71 k88 u x1 x3 x5 x6 x7 x8 x9 x10 s0 s1 s2 = some (r, uf)) {H : Heap} {locs : List Loc} (hP : uP G u H) (hS : va_S (uA G) s.heap H locs) {ls : Array Slot} (hl : lv_has ls 11 [(0, va_rf (some a0)), (1, va_rf x1), (3, .int x3), (5, .int x5), (6, va_rf x6), (7, .int x7), (8, .int x8), (9, va_rf x9), (10, .int x10)]) : W p l e R s m args below meth c H locs 0 0 (MQ below (uQr G r uf) args s 0 0 (uA G)) (F0 m 138 ls [.int s0, .int s1, va_rf s2]) := by
  obtain ⟨⟨hx, hb, hml, hown, hts⟩, hKK⟩ := id hC
  unfold f_X2_begin_138 at h
  obtain ⟨a1, ha1, hha1⟩ := mbind_n h
  subst ha1
  have h := hha1
  obtain ⟨u2, hu2, h⟩ := mbind_n h
  have zu2 := uStI_sz hu2
  refine u_iast hC hP hS hu2 rfl dX2_begin_138 (fun H locs hP hS => ?_)
  obtain ⟨y3, ey3⟩ : ∃ z : Int32, z = x10 + 1 := ⟨_, rfl⟩
  have h := mlet_at ey3 h
  refine lv_iinc (v := y3) (lv' := [(10, .int y3), (0, va_rf (some a0)), (1, va_rf x1), (3, .int x3), (5, .int x5), (6, va_rf x6), (7, .int x7), (8, .int x8), (9, va_rf x9)]) hx hb dX2_begin_139 hl (k := 8) rfl (by rw [ey3]; rfl) (by decide) (by simp [List.filter_cons, u_cat]) (fun ls hl => ?_)
  refine lv_goto (tgt := 88) hx hb dX2_begin_142 (by decide) ?_
  exact hk88 u2 x1 x3 x5 x6 x7 x8 x9 y3 h _ _ hP hS _ (lv_sub hl [1, 2, 3, 4, 5, 6, 7, 8, 0] rfl)
def f_X2_begin_88 (N b : Nat) (g : uEnv) (a0 : Nat) (k35 : UH → Option Nat → Int32 → Int32 → Option (Option Nat × UH)) (k71 : UH → Option Nat → Int32 → Int32 → Option Nat → Int32 → Int32 → Option (Option Nat × UH)) : Nat → UH → Option Nat → Int32 → Int32 → Option Nat → Int32 → Int32 → Option Nat → Int32 → Option (Option Nat × UH)
  | 0, _, _, _, _, _, _, _, _, _ => none
  | n + 1, u, x1, x3, x5, x6, x7, x8, x9, x10 =>
    (x1).bind fun a1 =>
    (uGR u a1 12 0).bind fun o2 =>
    (o2).bind fun a3 =>
    (uGR u a3 3 0).bind fun o4 =>
    (o4).bind fun a5 =>
    if uIs u a5 18 = true then
    ucall (f_J2_size N b g u a5) fun r9 u7 =>
    if r9 ≤ x10 then
    mlet (x8 + 1) fun y11 =>
    k71 u7 (some a1) x3 x5 x6 x7 y11
    else
    (uGR u7 a0 1 8).bind fun o12 =>
    ucall (f_X2_at N b g u7 x5 x9 x10) fun r15 u13 =>
    if uIs u13 a1 12 = true then
    ucall (f_X14_why N b g u13 a1 x5 x9 x10 x3) fun r19 u17 =>
    if r19 = 0 then
    (uGI u17 a1 12 10).bind fun y21 =>
    f_X2_begin_138 N b g a0 k35 k71 (f_X2_begin_88 N b g a0 k35 k71 n) u17 (some a1) x3 x5 x6 x7 x8 x9 x10 y21 r15 o12
    else
    f_X2_begin_138 N b g a0 k35 k71 (f_X2_begin_88 N b g a0 k35 k71 n) u17 (some a1) x3 x5 x6 x7 x8 x9 x10 (-1) r15 o12
    else none
    else none
set_option maxHeartbeats 4000000 in
set_option maxRecDepth 100000 in
theorem zz_X2_begin_88 {G : uG} {a0 : Nat} {uf : UH} {r : Option Nat} (N : Nat) (k35 : UH → Option Nat → Int32 → Int32 → Option (Option Nat × UH)) (hk35 : ∀ (u : UH) (x1 : Option Nat) (x3 : Int32) (x5 : Int32), k35 u x1 x3 x5 = some (r, uf) → uf.1 = u.1 ∧ uf.2.1 = u.2.1) (k71 : UH → Option Nat → Int32 → Int32 → Option Nat → Int32 → Int32 → Option (Option Nat × UH)) (hk71 : ∀ (u : UH) (x1 : Option Nat) (x3 : Int32) (x5 : Int32) (x6 : Option Nat) (x7 : Int32) (x8 : Int32), k71 u x1 x3 x5 x6 x7 x8 = some (r, uf) → uf.1 = u.1 ∧ uf.2.1 = u.2.1) : ∀ (n : Nat) (u : UH) (x1 : Option Nat) (x3 : Int32) (x5 : Int32) (x6 : Option Nat) (x7 : Int32) (x8 : Int32) (x9 : Option Nat) (x10 : Int32), f_X2_begin_88 N (ub G) (ug G) a0 k35 k71 n u x1 x3 x5 x6 x7 x8 x9 x10 = some (r, uf) → uf.1 = u.1 ∧ uf.2.1 = u.2.1 := by
  intro n
  induction n with
  | zero =>
    intro u x1 x3 x5 x6 x7 x8 x9 x10 h
    cases h
  | succ n ih =>
    intro u x1 x3 x5 x6 x7 x8 x9 x10 h
    unfold f_X2_begin_88 at h
    obtain ⟨a1, ha1, hha1⟩ := mbind_n h
    subst ha1
    have h := hha1
    obtain ⟨o2, ho2, h⟩ := mbind_n h
    obtain ⟨a3, ha3, hha3⟩ := mbind_n h
    subst ha3
    have h := hha3
    obtain ⟨o4, ho4, h⟩ := mbind_n h
    obtain ⟨a5, ha5, hha5⟩ := mbind_n h
    subst ha5
    have h := hha5
    obtain ⟨c6, h⟩ := mif_n h
    obtain ⟨r9, u7, c8, h⟩ := ucall_n h
    have zu7 := zz_J2_size N (ub G) (ug G) u a5 r9 u7 c8
    by_cases c10 : r9 ≤ x10
    · have h := mif_t c10 h
      obtain ⟨y11, ey11⟩ : ∃ z : Int32, z = x8 + 1 := ⟨_, rfl⟩
      have h := mlet_at ey11 h
      have hq := hk71 u7 (some a1) x3 x5 x6 x7 y11 h
      exact ⟨by omega, by omega⟩
    · have h := mif_f c10 h
      obtain ⟨o12, ho12, h⟩ := mbind_n h
      obtain ⟨r15, u13, c14, h⟩ := ucall_n h
      have zu13 := zz_X2_at N (ub G) (ug G) u7 x5 x9 x10 r15 u13 c14
      obtain ⟨c16, h⟩ := mif_n h
      obtain ⟨r19, u17, c18, h⟩ := ucall_n h
      have zu17 := zz_X14_why N (ub G) (ug G) u13 a1 x5 x9 x10 x3 r19 u17 c18
      by_cases c20 : r19 = 0
      · have h := mif_t c20 h
        obtain ⟨y21, hy21, h⟩ := mbind_n h
        have hq := zz_X2_begin_138 (G := G) (a0 := a0) N k35 hk35 k71 hk71 (f_X2_begin_88 N (ub G) (ug G) a0 k35 k71 n) ih u17 (some a1) x3 x5 x6 x7 x8 x9 x10 y21 r15 o12 h
        exact ⟨by omega, by omega⟩
      · have h := mif_f c20 h
        have hq := zz_X2_begin_138 (G := G) (a0 := a0) N k35 hk35 k71 hk71 (f_X2_begin_88 N (ub G) (ug G) a0 k35 k71 n) ih u17 (some a1) x3 x5 x6 x7 x8 x9 x10 (-1) r15 o12 h
        exact ⟨by omega, by omega⟩
set_option maxHeartbeats 4000000 in
set_option maxRecDepth 100000 in
theorem w_X2_begin_88 {p : Program} {l : Launch} {e : Env} {R : Room} {s : State} {m : MethodId} {args : Array Value} {below : List Frame} {meth : Method} {c : Code} {G : uG} {a0 : Nat} {uf : UH} {r : Option Nat} (hC : uC p s m args meth c G RX2 cX2_begin 11 (some (.object "SoftWheels$Solver"))) (hR : 4 ≤ R.frames ∧ 95 ≤ R.locals) (N : Nat) (k35 : UH → Option Nat → Int32 → Int32 → Option (Option Nat × UH)) (hk35 : ∀ (u : UH) (x1 : Option Nat) (x3 : Int32) (x5 : Int32), k35 u x1 x3 x5 = some (r, uf) → ∀ (H : Heap) (locs : List Loc), uP G u H → va_S (uA G) s.heap H locs → ∀ ls : Array Slot, lv_has ls 11 [(0, va_rf (some a0)), (1, va_rf x1), (3, .int x3), (5, .int x5)] → W p l e R s m args below meth c H locs 0 0 (MQ below (uQr G r uf) args s 0 0 (uA G)) (F0 m 35 ls [])) (k71 : UH → Option Nat → Int32 → Int32 → Option Nat → Int32 → Int32 → Option (Option Nat × UH)) (hk71 : ∀ (u : UH) (x1 : Option Nat) (x3 : Int32) (x5 : Int32) (x6 : Option Nat) (x7 : Int32) (x8 : Int32), k71 u x1 x3 x5 x6 x7 x8 = some (r, uf) → ∀ (H : Heap) (locs : List Loc), uP G u H → va_S (uA G) s.heap H locs → ∀ ls : Array Slot, lv_has ls 11 [(0, va_rf (some a0)), (1, va_rf x1), (3, .int x3), (5, .int x5), (6, va_rf x6), (7, .int x7), (8, .int x8)] → W p l e R s m args below meth c H locs 0 0 (MQ below (uQr G r uf) args s 0 0 (uA G)) (F0 m 71 ls [])) : ∀ (n : Nat) (u : UH) (x1 : Option Nat) (x3 : Int32) (x5 : Int32) (x6 : Option Nat) (x7 : Int32) (x8 : Int32) (x9 : Option Nat) (x10 : Int32), f_X2_begin_88 N (ub G) (ug G) a0 k35 k71 n u x1 x3 x5 x6 x7 x8 x9 x10 = some (r, uf) → ∀ (H : Heap) (locs : List Loc), uP G u H → va_S (uA G) s.heap H locs → ∀ ls : Array Slot, lv_has ls 11 [(0, va_rf (some a0)), (1, va_rf x1), (3, .int x3), (5, .int x5), (6, va_rf x6), (7, .int x7), (8, .int x8), (9, va_rf x9), (10, .int x10)] → W p l e R s m args below meth c H locs 0 0 (MQ below (uQr G r uf) args s 0 0 (uA G)) (F0 m 88 ls []) := by
  obtain ⟨⟨hx, hb, hml, hown, hts⟩, hKK⟩ := id hC
  intro n
  induction n with
  | zero =>
    intro u x1 x3 x5 x6 x7 x8 x9 x10 h
    cases h
  | succ n ih =>
    intro u x1 x3 x5 x6 x7 x8 x9 x10 h H locs hP hS ls hl
    unfold f_X2_begin_88 at h
    refine lv_iload hx hb dX2_begin_88 (lv_at hl 8 rfl) ?_
    refine u_aload_n (r := x1) hx hb dX2_begin_90 rfl (lv_at hl 1 rfl) ?_
    obtain ⟨a1, ha1, hha1⟩ := mbind_n h
    subst ha1
    have h := hha1
    obtain ⟨o2, ho2, h⟩ := mbind_n h
    refine u_getN hC hP (uGR_n ho2) rfl in_X14 (by decide) q1135 (fun _ h => h) dX2_begin_91 ?_
    obtain ⟨a3, ha3, hha3⟩ := mbind_n h
    subst ha3
    have h := hha3
    obtain ⟨o4, ho4, h⟩ := mbind_n h
    refine u_getN hC hP (uGR_n ho4) rfl in_X4 (by decide) q289 (fun _ h => h) dX2_begin_94 ?_
    obtain ⟨a5, ha5, hha5⟩ := mbind_n h
    subst ha5
    have h := hha5
    obtain ⟨c6, h⟩ := mif_n h
    obtain ⟨r9, u7, c8, h⟩ := ucall_n h
    have zu7 := zz_J2_size N (ub G) (ug G) u a5 r9 u7 c8
    refine u_calli (va_runV (As := []) (rest := [.int x10]) hC.1 (met_J2_size l N G u a5 r9 u7 c8) (cwV 0 hts (lw_V q1319 q894 q895 q102 q896) rfl rfl rfl (by decide +kernel) ⟨Nat.le_trans (Nat.le_of_ble_eq_true rfl) hR.1, Nat.le_trans (Nat.le_of_ble_eq_true rfl) hR.2⟩) ⟨uPc_blind, u_rcv hC hP c6 rfl, fun U hU hW => u_pre hC hP hS hU hW⟩ rfl rfl hl.1 rfl (lv_room (Nat.le_of_ble_eq_true rfl)) dX2_begin_97 ⟨Nat.zero_le _, Nat.zero_le _⟩) hS (fun H locs hP hS => ?_)
    refine lv_icmp_ge (tgt := 145) hx hb dX2_begin_100 (by decide) (fun c10 => ?_) (fun c10 => ?_)
    · have h := mif_t c10 h
      obtain ⟨y11, ey11⟩ : ∃ z : Int32, z = x8 + 1 := ⟨_, rfl⟩
      have h := mlet_at ey11 h
      refine lv_iinc (v := y11) (lv' := [(8, .int y11), (0, va_rf (some a0)), (1, va_rf (some a1)), (3, .int x3), (5, .int x5), (6, va_rf x6), (7, .int x7), (9, va_rf x9), (10, .int x10)]) hx hb dX2_begin_145 hl (k := 6) rfl (by rw [ey11]; rfl) (by decide) rfl (fun ls hl => ?_)
      refine lv_goto (tgt := 71) hx hb dX2_begin_148 (by decide) ?_
      exact hk71 u7 (some a1) x3 x5 x6 x7 y11 h _ _ hP hS _ (lv_sub hl [1, 2, 3, 4, 5, 6, 0] rfl)
    · have h := mif_f c10 h
      refine u_aload_n (r := some a0) hx hb dX2_begin_103 rfl (lv_at hl 0 rfl) ?_
      obtain ⟨o12, ho12, h⟩ := mbind_n h
      refine u_get hC hP (uGR_n ho12) rfl in_X2 (by decide) q165 (fun _ h => h) dX2_begin_104 ?_
      refine lv_iload hx hb dX2_begin_107 (lv_at hl 3 rfl) ?_
      refine u_aload (r := x9) hx hb dX2_begin_109 (lv_at hl 7 rfl) ?_
      refine lv_iload hx hb dX2_begin_111 (lv_at hl 8 rfl) ?_
      obtain ⟨r15, u13, c14, h⟩ := ucall_n h
      have zu13 := zz_X2_at N (ub G) (ug G) u7 x5 x9 x10 r15 u13 c14
      refine u_calli (va_runS (As := [.int x5, va_rf x9, .int x10]) (rest := [va_rf o12]) hC.1 (met_X2_at l N G u7 x5 x9 x10 r15 u13 c14) (va_cwS 3 hts (lw_S q1320 q1321 q99 q1322) rfl rfl rfl (by decide +kernel) ⟨Nat.le_trans (Nat.le_of_ble_eq_true rfl) hR.1, Nat.le_trans (Nat.le_of_ble_eq_true rfl) hR.2⟩) ⟨uPc_blind, fun U hU hW => u_pre hC hP hS hU hW⟩ rfl rfl hl.1 rfl (lv_room (by simp only [List.map, u_cat]; exact Nat.le_of_ble_eq_true rfl)) dX2_begin_113 ⟨Nat.zero_le _, Nat.zero_le _⟩) hS (fun H locs hP hS => ?_)
      refine u_aload_n (r := some a1) hx hb dX2_begin_116 rfl (lv_at hl 1 rfl) ?_
      refine lv_iload hx hb dX2_begin_117 (lv_at hl 3 rfl) ?_
      refine u_aload (r := x9) hx hb dX2_begin_119 (lv_at hl 7 rfl) ?_
      refine lv_iload hx hb dX2_begin_121 (lv_at hl 8 rfl) ?_
      refine lv_iload_n hx hb dX2_begin_123 rfl (lv_at hl 2 rfl) ?_
      obtain ⟨c16, h⟩ := mif_n h
      obtain ⟨r19, u17, c18, h⟩ := ucall_n h
      have zu17 := zz_X14_why N (ub G) (ug G) u13 a1 x5 x9 x10 x3 r19 u17 c18
      refine u_calli (va_runV (As := [.int x5, va_rf x9, .int x10, .int x3]) (rest := [.int r15, va_rf o12]) hC.1 (met_X14_why l N G u13 a1 x5 x9 x10 x3 r19 u17 c18) (cwV 4 hts (lw_V q1329 q1261 q1262 q131 q1263) rfl rfl rfl (by decide +kernel) ⟨Nat.le_trans (Nat.le_of_ble_eq_true rfl) hR.1, Nat.le_trans (Nat.le_of_ble_eq_true rfl) hR.2⟩) ⟨uPc_blind, u_rcv hC hP c16 rfl, fun U hU hW => u_pre hC hP hS hU hW⟩ rfl rfl hl.1 rfl (lv_room (by simp only [List.map, u_cat]; exact Nat.le_of_ble_eq_true rfl)) dX2_begin_124 ⟨Nat.zero_le _, Nat.zero_le _⟩) hS (fun H locs hP hS => ?_)
      refine lv_if_ne (tgt := 137) hx hb dX2_begin_127 (by decide) (fun c20 => ?_) (fun c20 => ?_)
      · have h := mif_f c20 h
        refine lv_iconst (v := (-1)) hx hb dX2_begin_137 (by decide) ?_
        exact w_X2_begin_138 hC hR N k35 hk35 k71 hk71 (f_X2_begin_88 N (ub G) (ug G) a0 k35 k71 n) ih u17 (some a1) x3 x5 x6 x7 x8 x9 x10 (-1) r15 o12 h hP hS (lv_sub hl [0, 1, 2, 3, 4, 5, 6, 7, 8] rfl)
      · have h := mif_t c20 h
        refine u_aload_n (r := some a1) hx hb dX2_begin_130 rfl (lv_at hl 1 rfl) ?_
        obtain ⟨y21, hy21, h⟩ := mbind_n h
        refine u_getN hC hP (uGI_n hy21) rfl in_X14 (by decide) q1159 (fun _ h => h) dX2_begin_131 ?_
        refine lv_goto (tgt := 138) hx hb dX2_begin_134 (by decide) ?_
        exact w_X2_begin_138 hC hR N k35 hk35 k71 hk71 (f_X2_begin_88 N (ub G) (ug G) a0 k35 k71 n) ih u17 (some a1) x3 x5 x6 x7 x8 x9 x10 y21 r15 o12 h hP hS (lv_sub hl [0, 1, 2, 3, 4, 5, 6, 7, 8] rfl)
def f_X2_begin_71 (N b : Nat) (g : uEnv) (a0 : Nat) (k35 : UH → Option Nat → Int32 → Int32 → Option (Option Nat × UH)) : Nat → UH → Option Nat → Int32 → Int32 → Option Nat → Int32 → Int32 → Option (Option Nat × UH)
  | 0, _, _, _, _, _, _, _ => none
  | n + 1, u, x1, x3, x5, x6, x7, x8 =>
    if x7 ≤ x8 then
    mlet (x5 + 1) fun y2 =>
    k35 u x1 x3 y2
    else
    (x6).bind fun a3 =>
    (uLdR u a3 5 x8).bind fun o4 =>
    f_X2_begin_88 N b g a0 k35 (f_X2_begin_71 N b g a0 k35 n) N u x1 x3 x5 (some a3) x7 x8 o4 0
set_option maxHeartbeats 4000000 in
set_option maxRecDepth 100000 in
theorem zz_X2_begin_71 {G : uG} {a0 : Nat} {uf : UH} {r : Option Nat} (N : Nat) (k35 : UH → Option Nat → Int32 → Int32 → Option (Option Nat × UH)) (hk35 : ∀ (u : UH) (x1 : Option Nat) (x3 : Int32) (x5 : Int32), k35 u x1 x3 x5 = some (r, uf) → uf.1 = u.1 ∧ uf.2.1 = u.2.1) : ∀ (n : Nat) (u : UH) (x1 : Option Nat) (x3 : Int32) (x5 : Int32) (x6 : Option Nat) (x7 : Int32) (x8 : Int32), f_X2_begin_71 N (ub G) (ug G) a0 k35 n u x1 x3 x5 x6 x7 x8 = some (r, uf) → uf.1 = u.1 ∧ uf.2.1 = u.2.1 := by
  intro n
  induction n with
  | zero =>
    intro u x1 x3 x5 x6 x7 x8 h
    cases h
  | succ n ih =>
    intro u x1 x3 x5 x6 x7 x8 h
    unfold f_X2_begin_71 at h
    by_cases c1 : x7 ≤ x8
    · have h := mif_t c1 h
      obtain ⟨y2, ey2⟩ : ∃ z : Int32, z = x5 + 1 := ⟨_, rfl⟩
      have h := mlet_at ey2 h
      have hq := hk35 u x1 x3 y2 h
      exact ⟨by omega, by omega⟩
    · have h := mif_f c1 h
      obtain ⟨a3, ha3, hha3⟩ := mbind_n h
      subst ha3
      have h := hha3
      obtain ⟨o4, ho4, h⟩ := mbind_n h
      have hq := zz_X2_begin_88 (G := G) (a0 := a0) N k35 hk35 (f_X2_begin_71 N (ub G) (ug G) a0 k35 n) ih N u x1 x3 x5 (some a3) x7 x8 o4 0 h
      exact ⟨by omega, by omega⟩
set_option maxHeartbeats 4000000 in
set_option maxRecDepth 100000 in
theorem w_X2_begin_71 {p : Program} {l : Launch} {e : Env} {R : Room} {s : State} {m : MethodId} {args : Array Value} {below : List Frame} {meth : Method} {c : Code} {G : uG} {a0 : Nat} {uf : UH} {r : Option Nat} (hC : uC p s m args meth c G RX2 cX2_begin 11 (some (.object "SoftWheels$Solver"))) (hR : 4 ≤ R.frames ∧ 95 ≤ R.locals) (N : Nat) (k35 : UH → Option Nat → Int32 → Int32 → Option (Option Nat × UH)) (hk35 : ∀ (u : UH) (x1 : Option Nat) (x3 : Int32) (x5 : Int32), k35 u x1 x3 x5 = some (r, uf) → ∀ (H : Heap) (locs : List Loc), uP G u H → va_S (uA G) s.heap H locs → ∀ ls : Array Slot, lv_has ls 11 [(0, va_rf (some a0)), (1, va_rf x1), (3, .int x3), (5, .int x5)] → W p l e R s m args below meth c H locs 0 0 (MQ below (uQr G r uf) args s 0 0 (uA G)) (F0 m 35 ls [])) : ∀ (n : Nat) (u : UH) (x1 : Option Nat) (x3 : Int32) (x5 : Int32) (x6 : Option Nat) (x7 : Int32) (x8 : Int32), f_X2_begin_71 N (ub G) (ug G) a0 k35 n u x1 x3 x5 x6 x7 x8 = some (r, uf) → ∀ (H : Heap) (locs : List Loc), uP G u H → va_S (uA G) s.heap H locs → ∀ ls : Array Slot, lv_has ls 11 [(0, va_rf (some a0)), (1, va_rf x1), (3, .int x3), (5, .int x5), (6, va_rf x6), (7, .int x7), (8, .int x8)] → W p l e R s m args below meth c H locs 0 0 (MQ below (uQr G r uf) args s 0 0 (uA G)) (F0 m 71 ls []) := by
  obtain ⟨⟨hx, hb, hml, hown, hts⟩, hKK⟩ := id hC
  intro n
  induction n with
  | zero =>
    intro u x1 x3 x5 x6 x7 x8 h
    cases h
  | succ n ih =>
    intro u x1 x3 x5 x6 x7 x8 h H locs hP hS ls hl
    unfold f_X2_begin_71 at h
    refine lv_iload hx hb dX2_begin_71 (lv_at hl 6 rfl) ?_
    refine lv_iload hx hb dX2_begin_73 (lv_at hl 5 rfl) ?_
    refine lv_icmp_ge (tgt := 151) hx hb dX2_begin_75 (by decide) (fun c1 => ?_) (fun c1 => ?_)
    · have h := mif_t c1 h
      obtain ⟨y2, ey2⟩ : ∃ z : Int32, z = x5 + 1 := ⟨_, rfl⟩
      have h := mlet_at ey2 h
      refine lv_iinc (v := y2) (lv' := [(5, .int y2), (0, va_rf (some a0)), (1, va_rf x1), (3, .int x3), (6, va_rf x6), (7, .int x7), (8, .int x8)]) hx hb dX2_begin_151 hl (k := 3) rfl (by rw [ey2]; rfl) (by decide) rfl (fun ls hl => ?_)
      refine lv_goto (tgt := 35) hx hb dX2_begin_154 (by decide) ?_
      exact hk35 u x1 x3 y2 h _ _ hP hS _ (lv_sub hl [1, 2, 3, 0] rfl)
    · have h := mif_f c1 h
      refine u_aload (r := x6) hx hb dX2_begin_78 (lv_at hl 4 rfl) ?_
      refine lv_iload hx hb dX2_begin_80 (lv_at hl 6 rfl) ?_
      obtain ⟨a3, ha3, hha3⟩ := mbind_n h
      subst ha3
      have h := hha3
      obtain ⟨o4, ho4, h⟩ := mbind_n h
      refine u_aald hC hP ho4 rfl dX2_begin_82 ?_
      refine u_astore (r := o4) (lv' := [(9, va_rf o4), (0, va_rf (some a0)), (1, va_rf x1), (3, .int x3), (5, .int x5), (6, va_rf (some a3)), (7, .int x7), (8, .int x8)]) hx hb dX2_begin_83 hl (by decide) rfl (fun ls hl => ?_)
      refine lv_iconst (v := 0) hx hb dX2_begin_85 (by decide) ?_
      refine lv_istore (lv' := [(10, .int 0), (9, va_rf o4), (0, va_rf (some a0)), (1, va_rf x1), (3, .int x3), (5, .int x5), (6, va_rf (some a3)), (7, .int x7), (8, .int x8)]) hx hb dX2_begin_86 hl (by decide) (by simp [List.filter_cons, u_cat]) (fun ls hl => ?_)
      exact w_X2_begin_88 hC hR N k35 hk35 (f_X2_begin_71 N (ub G) (ug G) a0 k35 n) ih N u x1 x3 x5 (some a3) x7 x8 o4 0 h _ _ hP hS _ (lv_sub hl [2, 3, 4, 5, 6, 7, 8, 1, 0] rfl)
def f_X2_begin_35 (N b : Nat) (g : uEnv) (a0 : Nat) : Nat → UH → Option Nat → Int32 → Int32 → Option (Option Nat × UH)
  | 0, _, _, _, _ => none
  | n + 1, u, x1, x3, x5 =>
    (uGI u a0 1 2).bind fun y1 =>
    if y1 ≤ x5 then
    some (some a0, u)
    else
    (uGR u a0 1 7).bind fun o3 =>
    (x1).bind fun a4 =>
    if uIs u a4 12 = true then
    ucall (f_X14_sees N b g u a4 x5) fun r8 u6 =>
    (o3).bind fun a9 =>
    (uStI b u6 a9 0 x5 r8).bind fun u10 =>
    (uGR u10 a4 12 7).bind fun o11 =>
    (o11).bind fun a12 =>
    (uLen u10 a12 5).bind fun y13 =>
    f_X2_begin_71 N b g a0 (f_X2_begin_35 N b g a0 n) N u10 (some a4) x3 x5 (some a12) y13 0
    else none
set_option maxHeartbeats 4000000 in
set_option maxRecDepth 100000 in
theorem zz_X2_begin_35 {G : uG} {a0 : Nat} {uf : UH} {r : Option Nat} (N : Nat) : ∀ (n : Nat) (u : UH) (x1 : Option Nat) (x3 : Int32) (x5 : Int32), f_X2_begin_35 N (ub G) (ug G) a0 n u x1 x3 x5 = some (r, uf) → uf.1 = u.1 ∧ uf.2.1 = u.2.1 := by
  intro n
  induction n with
  | zero =>
    intro u x1 x3 x5 h
    cases h
  | succ n ih =>
    intro u x1 x3 x5 h
    unfold f_X2_begin_35 at h
    obtain ⟨y1, hy1, h⟩ := mbind_n h
    by_cases c2 : y1 ≤ x5
    · have h := mif_t c2 h
      obtain ⟨hr1, hr2⟩ := uret_n h
      subst hr2
      exact ⟨by omega, by omega⟩
    · have h := mif_f c2 h
      obtain ⟨o3, ho3, h⟩ := mbind_n h
      obtain ⟨a4, ha4, hha4⟩ := mbind_n h
      subst ha4
      have h := hha4
      obtain ⟨c5, h⟩ := mif_n h
      obtain ⟨r8, u6, c7, h⟩ := ucall_n h
      have zu6 := zz_X14_sees N (ub G) (ug G) u a4 x5 r8 u6 c7
      obtain ⟨a9, ha9, hha9⟩ := mbind_n h
      subst ha9
      have h := hha9
      obtain ⟨u10, hu10, h⟩ := mbind_n h
      have zu10 := uStI_sz hu10
      obtain ⟨o11, ho11, h⟩ := mbind_n h
      obtain ⟨a12, ha12, hha12⟩ := mbind_n h
      subst ha12
      have h := hha12
      obtain ⟨y13, hy13, h⟩ := mbind_n h
      have hq := zz_X2_begin_71 (G := G) (a0 := a0) N (f_X2_begin_35 N (ub G) (ug G) a0 n) ih N u10 (some a4) x3 x5 (some a12) y13 0 h
      exact ⟨by omega, by omega⟩
set_option maxHeartbeats 4000000 in
set_option maxRecDepth 100000 in
theorem w_X2_begin_35 {p : Program} {l : Launch} {e : Env} {R : Room} {s : State} {m : MethodId} {args : Array Value} {below : List Frame} {meth : Method} {c : Code} {G : uG} {a0 : Nat} {uf : UH} {r : Option Nat} (hC : uC p s m args meth c G RX2 cX2_begin 11 (some (.object "SoftWheels$Solver"))) (hR : 4 ≤ R.frames ∧ 95 ≤ R.locals) (N : Nat) : ∀ (n : Nat) (u : UH) (x1 : Option Nat) (x3 : Int32) (x5 : Int32), f_X2_begin_35 N (ub G) (ug G) a0 n u x1 x3 x5 = some (r, uf) → ∀ (H : Heap) (locs : List Loc), uP G u H → va_S (uA G) s.heap H locs → ∀ ls : Array Slot, lv_has ls 11 [(0, va_rf (some a0)), (1, va_rf x1), (3, .int x3), (5, .int x5)] → W p l e R s m args below meth c H locs 0 0 (MQ below (uQr G r uf) args s 0 0 (uA G)) (F0 m 35 ls []) := by
  obtain ⟨⟨hx, hb, hml, hown, hts⟩, hKK⟩ := id hC
  intro n
  induction n with
  | zero =>
    intro u x1 x3 x5 h
    cases h
  | succ n ih =>
    intro u x1 x3 x5 h H locs hP hS ls hl
    unfold f_X2_begin_35 at h
    refine lv_iload hx hb dX2_begin_35 (lv_at hl 3 rfl) ?_
    refine u_aload_n (r := some a0) hx hb dX2_begin_37 rfl (lv_at hl 0 rfl) ?_
    obtain ⟨y1, hy1, h⟩ := mbind_n h
    refine u_get hC hP (uGI_n hy1) rfl in_X2 (by decide) q159 (fun _ h => h) dX2_begin_38 ?_
    refine lv_icmp_ge (tgt := 157) hx hb dX2_begin_41 (by decide) (fun c2 => ?_) (fun c2 => ?_)
    · have h := mif_t c2 h
      refine u_aload_n (r := some a0) hx hb dX2_begin_157 rfl (lv_at hl 0 rfl) ?_
      obtain ⟨hr1, hr2⟩ := uret_n h
      subst hr1
      subst hr2
      exact u_aret hC (Or.inl ⟨_, rfl⟩) hP hS dX2_begin_158
    · have h := mif_f c2 h
      refine u_aload_n (r := some a0) hx hb dX2_begin_44 rfl (lv_at hl 0 rfl) ?_
      obtain ⟨o3, ho3, h⟩ := mbind_n h
      refine u_get hC hP (uGR_n ho3) rfl in_X2 (by decide) q164 (fun _ h => h) dX2_begin_45 ?_
      refine lv_iload hx hb dX2_begin_48 (lv_at hl 3 rfl) ?_
      refine u_aload_n (r := x1) hx hb dX2_begin_50 rfl (lv_at hl 1 rfl) ?_
      refine lv_iload hx hb dX2_begin_51 (lv_at hl 3 rfl) ?_
      obtain ⟨a4, ha4, hha4⟩ := mbind_n h
      subst ha4
      have h := hha4
      obtain ⟨c5, h⟩ := mif_n h
      obtain ⟨r8, u6, c7, h⟩ := ucall_n h
      have zu6 := zz_X14_sees N (ub G) (ug G) u a4 x5 r8 u6 c7
      refine u_calli (va_runV (As := [.int x5]) (rest := [.int x5, va_rf o3]) hC.1 (met_X14_sees l N G u a4 x5 r8 u6 c7) (cwV 1 hts (lw_V q1315 q1316 q1317 q131 q1318) rfl rfl rfl (by decide +kernel) ⟨Nat.le_trans (Nat.le_of_ble_eq_true rfl) hR.1, Nat.le_trans (Nat.le_of_ble_eq_true rfl) hR.2⟩) ⟨uPc_blind, u_rcv hC hP c5 rfl, fun U hU hW => u_pre hC hP hS hU hW⟩ rfl rfl hl.1 rfl (lv_room (by simp only [List.map, u_cat]; exact Nat.le_of_ble_eq_true rfl)) dX2_begin_53 ⟨Nat.zero_le _, Nat.zero_le _⟩) hS (fun H locs hP hS => ?_)
      obtain ⟨a9, ha9, hha9⟩ := mbind_n h
      subst ha9
      have h := hha9
      obtain ⟨u10, hu10, h⟩ := mbind_n h
      have zu10 := uStI_sz hu10
      refine u_iast hC hP hS hu10 rfl dX2_begin_56 (fun H locs hP hS => ?_)
      refine u_aload_n (r := some a4) hx hb dX2_begin_57 rfl (lv_at hl 1 rfl) ?_
      obtain ⟨o11, ho11, h⟩ := mbind_n h
      refine u_getN hC hP (uGR_n ho11) rfl in_X14 (by decide) q1153 (fun _ h => h) dX2_begin_58 ?_
      refine u_astore (r := o11) (lv' := [(6, va_rf o11), (0, va_rf (some a0)), (1, va_rf (some a4)), (3, .int x3), (5, .int x5)]) hx hb dX2_begin_61 hl (by decide) rfl (fun ls hl => ?_)
      refine u_aload (r := o11) hx hb dX2_begin_63 (lv_at hl 0 rfl) ?_
      obtain ⟨a12, ha12, hha12⟩ := mbind_n h
      subst ha12
      have h := hha12
      obtain ⟨y13, hy13, h⟩ := mbind_n h
      refine u_alen hC hP hy13 dX2_begin_65 ?_
      refine lv_istore (lv' := [(7, .int y13), (6, va_rf (some a12)), (0, va_rf (some a0)), (1, va_rf (some a4)), (3, .int x3), (5, .int x5)]) hx hb dX2_begin_66 hl (by decide) rfl (fun ls hl => ?_)
      refine lv_iconst (v := 0) hx hb dX2_begin_68 (by decide) ?_
      refine lv_istore (lv' := [(8, .int 0), (7, .int y13), (6, va_rf (some a12)), (0, va_rf (some a0)), (1, va_rf (some a4)), (3, .int x3), (5, .int x5)]) hx hb dX2_begin_69 hl (by decide) rfl (fun ls hl => ?_)
      exact w_X2_begin_71 hC hR N (f_X2_begin_35 N (ub G) (ug G) a0 n) ih N u10 (some a4) x3 x5 (some a12) y13 0 h _ _ hP hS _ (lv_sub hl [3, 4, 5, 6, 2, 1, 0] rfl)
def f_X2_begin (N b : Nat) (g : uEnv) (u : UH) (a0 : Nat) (x1 : Option Nat) (x2 : Int32) (x3 : Int32) (x4 : Option Nat) : Option (Option Nat × UH) :=
    (uPut b u a0 1 0 (va_rf x1)).bind fun u1 =>
    (uPut b u1 a0 1 1 (.int x2)).bind fun u2 =>
    (uPut b u2 a0 1 3 (va_rf x4)).bind fun u3 =>
    (x1).bind fun a4 =>
    if uIs u3 a4 12 = true then
    ucall (f_X14_cells N b g u3 a4) fun r8 u6 =>
    (uPut b u6 a0 1 2 (.int r8)).bind fun u9 =>
    (uGR u9 a0 1 5).bind fun o10 =>
    (f_J10_fill_2 N b g u9 o10 0).bind fun u11 =>
    f_X2_begin_35 N b g a0 N u11 (some a4) x3 0
    else none
set_option maxHeartbeats 4000000 in
set_option maxRecDepth 100000 in
theorem zz_X2_begin_0 {G : uG} {a0 : Nat} {uf : UH} {r : Option Nat} (N : Nat) (u : UH) (x1 : Option Nat) (x2 : Int32) (x3 : Int32) (x4 : Option Nat) (h : f_X2_begin N (ub G) (ug G) u a0 x1 x2 x3 x4 = some (r, uf)) : uf.1 = u.1 ∧ uf.2.1 = u.2.1 := by
  unfold f_X2_begin at h
  obtain ⟨u1, hu1, h⟩ := mbind_n h
  have zu1 := uPut_sz hu1
  obtain ⟨u2, hu2, h⟩ := mbind_n h
  have zu2 := uPut_sz hu2
  obtain ⟨u3, hu3, h⟩ := mbind_n h
  have zu3 := uPut_sz hu3
  obtain ⟨a4, ha4, hha4⟩ := mbind_n h
  subst ha4
  have h := hha4
  obtain ⟨c5, h⟩ := mif_n h
  obtain ⟨r8, u6, c7, h⟩ := ucall_n h
  have zu6 := zz_X14_cells N (ub G) (ug G) u3 a4 r8 u6 c7
  obtain ⟨u9, hu9, h⟩ := mbind_n h
  have zu9 := uPut_sz hu9
  obtain ⟨o10, ho10, h⟩ := mbind_n h
  obtain ⟨u11, c12, h⟩ := mbind_n h
  have zu11 := zz_J10_fill_2 N (ub G) (ug G) u9 o10 0 u11 c12
  have hq := zz_X2_begin_35 (G := G) (a0 := a0) N N u11 (some a4) x3 0 h
  exact ⟨by omega, by omega⟩
set_option maxHeartbeats 4000000 in
set_option maxRecDepth 100000 in
theorem w_X2_begin_0 {p : Program} {l : Launch} {e : Env} {R : Room} {s : State} {m : MethodId} {args : Array Value} {below : List Frame} {meth : Method} {c : Code} {G : uG} {a0 : Nat} {uf : UH} {r : Option Nat} (hC : uC p s m args meth c G RX2 cX2_begin 11 (some (.object "SoftWheels$Solver"))) (hR : 4 ≤ R.frames ∧ 95 ≤ R.locals) (N : Nat) (u : UH) (x1 : Option Nat) (x2 : Int32) (x3 : Int32) (x4 : Option Nat) (h : f_X2_begin N (ub G) (ug G) u a0 x1 x2 x3 x4 = some (r, uf)) {H : Heap} {locs : List Loc} (hP : uP G u H) (hS : va_S (uA G) s.heap H locs) {ls : Array Slot} (hl : lv_has ls 11 [(0, va_rf (some a0)), (1, va_rf x1), (2, .int x2), (3, .int x3), (4, va_rf x4)]) : W p l e R s m args below meth c H locs 0 0 (MQ below (uQr G r uf) args s 0 0 (uA G)) (F0 m 0 ls []) := by
  obtain ⟨⟨hx, hb, hml, hown, hts⟩, hKK⟩ := id hC
  unfold f_X2_begin at h
  refine u_aload_n (r := some a0) hx hb dX2_begin_0 rfl (lv_at hl 0 rfl) ?_
  refine u_aload_n (r := x1) hx hb dX2_begin_1 rfl (lv_at hl 1 rfl) ?_
  obtain ⟨u1, hu1, h⟩ := mbind_n h
  have zu1 := uPut_sz hu1
  refine u_put hC hP hS hu1 rfl in_X2 tyX2 tyX2_ok nmX2 (by decide) q157 (fun _ h => h) rfl (ty := (.object "SoftWheels$Land")) (tyX2_ok 0 (by decide)) (uNarR _ x1).1 (uNarR _ x1).2 dX2_begin_2 (fun H locs hP hS => ?_)
  refine u_aload_n (r := some a0) hx hb dX2_begin_5 rfl (lv_at hl 0 rfl) ?_
  refine lv_iload_n hx hb dX2_begin_6 rfl (lv_at hl 2 rfl) ?_
  obtain ⟨u2, hu2, h⟩ := mbind_n h
  have zu2 := uPut_sz hu2
  refine u_put hC hP hS hu2 rfl in_X2 tyX2 tyX2_ok nmX2 (by decide) q158 (fun _ h => h) rfl (ty := .int) (tyX2_ok 1 (by decide)) rfl rfl dX2_begin_7 (fun H locs hP hS => ?_)
  refine u_aload_n (r := some a0) hx hb dX2_begin_10 rfl (lv_at hl 0 rfl) ?_
  refine u_aload (r := x4) hx hb dX2_begin_11 (lv_at hl 4 rfl) ?_
  obtain ⟨u3, hu3, h⟩ := mbind_n h
  have zu3 := uPut_sz hu3
  refine u_put hC hP hS hu3 rfl in_X2 tyX2 tyX2_ok nmX2 (by decide) q160 (fun _ h => h) rfl (ty := (.object "SoftWheels$Judge")) (tyX2_ok 3 (by decide)) (uNarR _ x4).1 (uNarR _ x4).2 dX2_begin_13 (fun H locs hP hS => ?_)
  refine u_aload_n (r := some a0) hx hb dX2_begin_16 rfl (lv_at hl 0 rfl) ?_
  refine u_aload_n (r := x1) hx hb dX2_begin_17 rfl (lv_at hl 1 rfl) ?_
  obtain ⟨a4, ha4, hha4⟩ := mbind_n h
  subst ha4
  have h := hha4
  obtain ⟨c5, h⟩ := mif_n h
  obtain ⟨r8, u6, c7, h⟩ := ucall_n h
  have zu6 := zz_X14_cells N (ub G) (ug G) u3 a4 r8 u6 c7
  refine u_calli (va_runV (As := []) (rest := [va_rf (some a0)]) hC.1 (met_X14_cells l N G u3 a4 r8 u6 c7) (cwV 0 hts (lw_V q1311 q1187 q1188 q131 q1189) rfl rfl rfl (by decide +kernel) ⟨Nat.le_trans (Nat.le_of_ble_eq_true rfl) hR.1, Nat.le_trans (Nat.le_of_ble_eq_true rfl) hR.2⟩) ⟨uPc_blind, u_rcv hC hP c5 rfl, fun U hU hW => u_pre hC hP hS hU hW⟩ rfl rfl hl.1 rfl (lv_room (Nat.le_of_ble_eq_true rfl)) dX2_begin_18 ⟨Nat.zero_le _, Nat.zero_le _⟩) hS (fun H locs hP hS => ?_)
  obtain ⟨u9, hu9, h⟩ := mbind_n h
  have zu9 := uPut_sz hu9
  refine u_put hC hP hS hu9 rfl in_X2 tyX2 tyX2_ok nmX2 (by decide) q159 (fun _ h => h) rfl (ty := .int) (tyX2_ok 2 (by decide)) rfl rfl dX2_begin_21 (fun H locs hP hS => ?_)
  refine u_aload_n (r := some a0) hx hb dX2_begin_24 rfl (lv_at hl 0 rfl) ?_
  obtain ⟨o10, ho10, h⟩ := mbind_n h
  refine u_get hC hP (uGR_n ho10) rfl in_X2 (by decide) q162 (fun _ h => h) dX2_begin_25 ?_
  refine lv_iconst (v := 0) hx hb dX2_begin_28 (by decide) ?_
  obtain ⟨u11, c12, h⟩ := mbind_n h
  have zu11 := zz_J10_fill_2 N (ub G) (ug G) u9 o10 0 u11 c12
  refine u_callv (va_runS (As := [va_rf o10, .int 0]) (rest := []) hC.1 (met_J10_fill_2 l N G u9 o10 0 u11 c12) (va_cwS 2 hts (lw_S q1312 q1313 q114 q1314) rfl rfl rfl (by decide +kernel) ⟨Nat.le_trans (Nat.le_of_ble_eq_true rfl) hR.1, Nat.le_trans (Nat.le_of_ble_eq_true rfl) hR.2⟩) ⟨uPc_blind, fun U hU hW => u_pre hC hP hS hU hW⟩ rfl rfl hl.1 rfl (lv_room (Nat.le_of_ble_eq_true rfl)) dX2_begin_29 ⟨Nat.zero_le _, Nat.zero_le _⟩) hS (fun H locs hP hS => ?_)
  refine lv_iconst (v := 0) hx hb dX2_begin_32 (by decide) ?_
  refine lv_istore (lv' := [(5, .int 0), (0, va_rf (some a0)), (1, va_rf (some a4)), (2, .int x2), (3, .int x3), (4, va_rf x4)]) hx hb dX2_begin_33 hl (by decide) (by simp [List.filter_cons, u_cat]) (fun ls hl => ?_)
  exact w_X2_begin_35 hC hR N N u11 (some a4) x3 0 h _ _ hP hS _ (lv_sub hl [1, 2, 4, 0] rfl)
theorem zz_X2_begin (N b : Nat) (g : uEnv) (u : UH) (a0 : Nat) (x1 : Option Nat) (x2 : Int32) (x3 : Int32) (x4 : Option Nat) (r : Option Nat) (uf : UH) (h : f_X2_begin N b g u a0 x1 x2 x3 x4 = some (r, uf)) : uf.1 = u.1 ∧ uf.2.1 = u.2.1 :=
  zz_X2_begin_0 (G := ((fun _ => 0, fun _ _ => 0), fun _ => 0, b, g)) (a0 := a0) N u x1 x2 x3 x4 h
theorem met_X2_begin (l : Launch) (N : Nat) (G : uG) (u : UH) (a0 : Nat) (x1 : Option Nat) (x2 : Int32) (x3 : Int32) (x4 : Option Nat) (r : Option Nat) (uf : UH) (h : f_X2_begin N (ub G) (ug G) u a0 x1 x2 x3 x4 = some (r, uf)) : Met l yX2_begin (ws_ yX2_begin cX2_begin 11 (some (.object "SoftWheels$Solver"))) ({ frames := 4, cells := 0, slots := 0, locals := 95 }) (uPc G u [.ref a0, va_rf x1, .int x2, .int x3, va_rf x4]) (uQr G r uf) 0 0 (uA G) := by
  rcases x1 with _ | x1 <;> rcases x4 with _ | x4 <;> exact u_met (own := RX2) (by decide +kernel) rfl (Nat.le_of_ble_eq_true rfl) (fun hC hn hsz ls hl hP => w_X2_begin_0 hC ⟨Nat.le_refl _, Nat.le_refl _⟩ N u _ x2 x3 _ h hP va_S.rf hl)
def f_X2_cost_38 (N b : Nat) (g : uEnv) (a0 : Nat) (u : UH) (s0 : Int32) : Option (Int32 × UH) :=
    some (s0, u)
set_option maxHeartbeats 4000000 in
set_option maxRecDepth 100000 in
theorem zz_X2_cost_38 {G : uG} {a0 : Nat} {uf : UH} {r : Int32} (N : Nat) (u : UH) (s0 : Int32) (h : f_X2_cost_38 N (ub G) (ug G) a0 u s0 = some (r, uf)) : uf.1 = u.1 ∧ uf.2.1 = u.2.1 := by
  unfold f_X2_cost_38 at h
  obtain ⟨hr1, hr2⟩ := uret_n h
  subst hr2
  exact ⟨by omega, by omega⟩
set_option maxHeartbeats 4000000 in
set_option maxRecDepth 100000 in
theorem w_X2_cost_38 {p : Program} {l : Launch} {e : Env} {R : Room} {s : State} {m : MethodId} {args : Array Value} {below : List Frame} {meth : Method} {c : Code} {G : uG} {a0 : Nat} {uf : UH} {r : Int32} (hC : uC p s m args meth c G RX2 cX2_cost 5 (some .int)) (hR : 2 ≤ R.frames ∧ 46 ≤ R.locals) (N : Nat) (u : UH) (s0 : Int32) (h : f_X2_cost_38 N (ub G) (ug G) a0 u s0 = some (r, uf)) {H : Heap} {locs : List Loc} (hP : uP G u H) (hS : va_S (uA G) s.heap H locs) {ls : Array Slot} (hl : lv_has ls 5 []) : W p l e R s m args below meth c H locs 0 0 (MQ below (uQi G r uf) args s 0 0 (uA G)) (F0 m 38 ls [.int s0]) := by
  obtain ⟨⟨hx, hb, hml, hown, hts⟩, hKK⟩ := id hC
  unfold f_X2_cost_38 at h
  obtain ⟨hr1, hr2⟩ := uret_n h
  subst hr1
  subst hr2
  exact u_iret hC hP hS dX2_cost_38
def f_X2_cost (N b : Nat) (g : uEnv) (u : UH) (a0 : Nat) (x1 : Int32) (x2 : Option Nat) (x3 : Int32) : Option (Int32 × UH) :=
    (uGR u a0 1 0).bind fun o1 =>
    (o1).bind fun a2 =>
    if uIs u a2 12 = true then
    ucall (f_X14_beside N b g u a2 x1 x2) fun r6 u4 =>
    if r6 = (-1) then
    f_X2_cost_38 N b g a0 u4 (-1)
    else
    (uGR u4 a0 1 8).bind fun o8 =>
    if uIs u4 a0 1 = true then
    ucall (f_X2_groundOf N b g u4 a0 r6 x3) fun r12 u10 =>
    ucall (f_X2_at N b g u10 x1 x2 r12) fun r15 u13 =>
    (o8).bind fun a16 =>
    (uLdI u13 a16 0 r15).bind fun y17 =>
    f_X2_cost_38 N b g a0 u13 y17
    else none
    else none
set_option maxHeartbeats 4000000 in
set_option maxRecDepth 100000 in
theorem zz_X2_cost_0 {G : uG} {a0 : Nat} {uf : UH} {r : Int32} (N : Nat) (u : UH) (x1 : Int32) (x2 : Option Nat) (x3 : Int32) (h : f_X2_cost N (ub G) (ug G) u a0 x1 x2 x3 = some (r, uf)) : uf.1 = u.1 ∧ uf.2.1 = u.2.1 := by
  unfold f_X2_cost at h
  obtain ⟨o1, ho1, h⟩ := mbind_n h
  obtain ⟨a2, ha2, hha2⟩ := mbind_n h
  subst ha2
  have h := hha2
  obtain ⟨c3, h⟩ := mif_n h
  obtain ⟨r6, u4, c5, h⟩ := ucall_n h
  have zu4 := zz_X14_beside N (ub G) (ug G) u a2 x1 x2 r6 u4 c5
  by_cases c7 : r6 = (-1)
  · have h := mif_t c7 h
    have hq := zz_X2_cost_38 (G := G) (a0 := a0) N u4 (-1) h
    exact ⟨by omega, by omega⟩
  · have h := mif_f c7 h
    obtain ⟨o8, ho8, h⟩ := mbind_n h
    obtain ⟨c9, h⟩ := mif_n h
    obtain ⟨r12, u10, c11, h⟩ := ucall_n h
    have zu10 := zz_X2_groundOf N (ub G) (ug G) u4 a0 r6 x3 r12 u10 c11
    obtain ⟨r15, u13, c14, h⟩ := ucall_n h
    have zu13 := zz_X2_at N (ub G) (ug G) u10 x1 x2 r12 r15 u13 c14
    obtain ⟨a16, ha16, hha16⟩ := mbind_n h
    subst ha16
    have h := hha16
    obtain ⟨y17, hy17, h⟩ := mbind_n h
    have hq := zz_X2_cost_38 (G := G) (a0 := a0) N u13 y17 h
    exact ⟨by omega, by omega⟩
set_option maxHeartbeats 4000000 in
set_option maxRecDepth 100000 in
theorem w_X2_cost_0 {p : Program} {l : Launch} {e : Env} {R : Room} {s : State} {m : MethodId} {args : Array Value} {below : List Frame} {meth : Method} {c : Code} {G : uG} {a0 : Nat} {uf : UH} {r : Int32} (hC : uC p s m args meth c G RX2 cX2_cost 5 (some .int)) (hR : 2 ≤ R.frames ∧ 46 ≤ R.locals) (N : Nat) (u : UH) (x1 : Int32) (x2 : Option Nat) (x3 : Int32) (h : f_X2_cost N (ub G) (ug G) u a0 x1 x2 x3 = some (r, uf)) {H : Heap} {locs : List Loc} (hP : uP G u H) (hS : va_S (uA G) s.heap H locs) {ls : Array Slot} (hl : lv_has ls 5 [(0, va_rf (some a0)), (1, .int x1), (2, va_rf x2), (3, .int x3)]) : W p l e R s m args below meth c H locs 0 0 (MQ below (uQi G r uf) args s 0 0 (uA G)) (F0 m 0 ls []) := by
  obtain ⟨⟨hx, hb, hml, hown, hts⟩, hKK⟩ := id hC
  unfold f_X2_cost at h
  refine u_aload_n (r := some a0) hx hb dX2_cost_0 rfl (lv_at hl 0 rfl) ?_
  obtain ⟨o1, ho1, h⟩ := mbind_n h
  refine u_get hC hP (uGR_n ho1) rfl in_X2 (by decide) q157 (fun _ h => h) dX2_cost_1 ?_
  refine lv_iload_n hx hb dX2_cost_4 rfl (lv_at hl 1 rfl) ?_
  refine u_aload_n (r := x2) hx hb dX2_cost_5 rfl (lv_at hl 2 rfl) ?_
  obtain ⟨a2, ha2, hha2⟩ := mbind_n h
  subst ha2
  have h := hha2
  obtain ⟨c3, h⟩ := mif_n h
  obtain ⟨r6, u4, c5, h⟩ := ucall_n h
  have zu4 := zz_X14_beside N (ub G) (ug G) u a2 x1 x2 r6 u4 c5
  refine u_calli (va_runV (As := [.int x1, va_rf x2]) (rest := []) hC.1 (met_X14_beside l N G u a2 x1 x2 r6 u4 c5) (cwV 2 hts (lw_V q1398 q1265 q1266 q131 q1267) rfl rfl rfl (by decide +kernel) ⟨Nat.le_trans (Nat.le_of_ble_eq_true rfl) hR.1, Nat.le_trans (Nat.le_of_ble_eq_true rfl) hR.2⟩) ⟨uPc_blind, u_rcv hC hP c3 rfl, fun U hU hW => u_pre hC hP hS hU hW⟩ rfl rfl hl.1 rfl (lv_room (Nat.le_of_ble_eq_true rfl)) dX2_cost_6 ⟨Nat.zero_le _, Nat.zero_le _⟩) hS (fun H locs hP hS => ?_)
  refine lv_istore (lv' := [(4, .int r6), (0, va_rf (some a0)), (1, .int x1), (2, va_rf x2), (3, .int x3)]) hx hb dX2_cost_9 hl (by decide) rfl (fun ls hl => ?_)
  refine lv_iload hx hb dX2_cost_11 (lv_at hl 0 rfl) ?_
  refine lv_iconst (v := (-1)) hx hb dX2_cost_13 (by decide) ?_
  refine lv_icmp_ne (tgt := 21) hx hb dX2_cost_14 (by decide) (fun c7 => ?_) (fun c7 => ?_)
  · have h := mif_f c7 h
    refine u_aload_n (r := some a0) hx hb dX2_cost_21 rfl (lv_at hl 1 rfl) ?_
    obtain ⟨o8, ho8, h⟩ := mbind_n h
    refine u_get hC hP (uGR_n ho8) rfl in_X2 (by decide) q165 (fun _ h => h) dX2_cost_22 ?_
    refine lv_iload_n hx hb dX2_cost_25 rfl (lv_at hl 2 rfl) ?_
    refine u_aload_n (r := x2) hx hb dX2_cost_26 rfl (lv_at hl 3 rfl) ?_
    refine u_aload_n (r := some a0) hx hb dX2_cost_27 rfl (lv_at hl 1 rfl) ?_
    refine lv_iload hx hb dX2_cost_28 (lv_at hl 0 rfl) ?_
    refine lv_iload_n hx hb dX2_cost_30 rfl (lv_at hl 4 rfl) ?_
    obtain ⟨c9, h⟩ := mif_n h
    obtain ⟨r12, u10, c11, h⟩ := ucall_n h
    have zu10 := zz_X2_groundOf N (ub G) (ug G) u4 a0 r6 x3 r12 u10 c11
    refine u_calli (va_runV (As := [.int r6, .int x3]) (rest := [va_rf x2, .int x1, va_rf o8]) hC.1 (met_X2_groundOf l N G u4 a0 r6 x3 r12 u10 c11) (cwV 2 hts (lw_V q1403 q1405 qs26 q99 q1406) rfl rfl rfl (by decide +kernel) ⟨Nat.le_trans (Nat.le_of_ble_eq_true rfl) hR.1, Nat.le_trans (Nat.le_of_ble_eq_true rfl) hR.2⟩) ⟨uPc_blind, u_rcv hC hP c9 rfl, fun U hU hW => u_pre hC hP hS hU hW⟩ rfl rfl hl.1 rfl (lv_room (by simp only [List.map, u_cat]; exact Nat.le_of_ble_eq_true rfl)) dX2_cost_31 ⟨Nat.zero_le _, Nat.zero_le _⟩) hS (fun H locs hP hS => ?_)
    obtain ⟨r15, u13, c14, h⟩ := ucall_n h
    have zu13 := zz_X2_at N (ub G) (ug G) u10 x1 x2 r12 r15 u13 c14
    refine u_calli (va_runS (As := [.int x1, va_rf x2, .int r12]) (rest := [va_rf o8]) hC.1 (met_X2_at l N G u10 x1 x2 r12 r15 u13 c14) (va_cwS 3 hts (lw_S q1320 q1321 q99 q1322) rfl rfl rfl (by decide +kernel) ⟨Nat.le_trans (Nat.le_of_ble_eq_true rfl) hR.1, Nat.le_trans (Nat.le_of_ble_eq_true rfl) hR.2⟩) ⟨uPc_blind, fun U hU hW => u_pre hC hP hS hU hW⟩ rfl rfl hl.1 rfl (lv_room (by simp only [List.map, u_cat]; exact Nat.le_of_ble_eq_true rfl)) dX2_cost_34 ⟨Nat.zero_le _, Nat.zero_le _⟩) hS (fun H locs hP hS => ?_)
    obtain ⟨a16, ha16, hha16⟩ := mbind_n h
    subst ha16
    have h := hha16
    obtain ⟨y17, hy17, h⟩ := mbind_n h
    refine u_iald hC hP hy17 rfl dX2_cost_37 ?_
    exact w_X2_cost_38 hC hR N u13 y17 h hP hS (lv_sub hl [] rfl)
  · have h := mif_t c7 h
    refine lv_iconst (v := (-1)) hx hb dX2_cost_17 (by decide) ?_
    refine lv_goto (tgt := 38) hx hb dX2_cost_18 (by decide) ?_
    exact w_X2_cost_38 hC hR N u4 (-1) h hP hS (lv_sub hl [] rfl)
theorem zz_X2_cost (N b : Nat) (g : uEnv) (u : UH) (a0 : Nat) (x1 : Int32) (x2 : Option Nat) (x3 : Int32) (r : Int32) (uf : UH) (h : f_X2_cost N b g u a0 x1 x2 x3 = some (r, uf)) : uf.1 = u.1 ∧ uf.2.1 = u.2.1 :=
  zz_X2_cost_0 (G := ((fun _ => 0, fun _ _ => 0), fun _ => 0, b, g)) (a0 := a0) N u x1 x2 x3 h
theorem met_X2_cost (l : Launch) (N : Nat) (G : uG) (u : UH) (a0 : Nat) (x1 : Int32) (x2 : Option Nat) (x3 : Int32) (r : Int32) (uf : UH) (h : f_X2_cost N (ub G) (ug G) u a0 x1 x2 x3 = some (r, uf)) : Met l yX2_cost (ws_ yX2_cost cX2_cost 5 (some .int)) ({ frames := 2, cells := 0, slots := 0, locals := 46 }) (uPc G u [.ref a0, .int x1, va_rf x2, .int x3]) (uQi G r uf) 0 0 (uA G) := by
  rcases x2 with _ | x2 <;> exact u_met (own := RX2) (by decide +kernel) rfl (Nat.le_of_ble_eq_true rfl) (fun hC hn hsz ls hl hP => w_X2_cost_0 hC ⟨Nat.le_refl _, Nat.le_refl _⟩ N u x1 _ x3 h hP va_S.rf hl)

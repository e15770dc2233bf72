/-! led where it throws -/
def gN : List Cond := Bundle.ownAtoms0 "SoftWheels" 294 "java/util/NoSuchElementException" ["java/lang/RuntimeException", "java/lang/Exception"]
def gNc (w : Cond) : Bool := match w with
  | .laysStatic _ _ _ => false
  | .isRef _ => false
  | _ => true
theorem gN_in : ∀ w ∈ gN.filter gNc, w ∈ lw_tbl := by decide +kernel
theorem gN_ok {p : Program} {s : State} {m : MethodId} {args : Array Value} {meth : Method} {c : Code} {cc : ByteArray} {nL : Nat} {G : uG} {ret : Option FieldType} {own : String} (hC : uC p s m args meth c G own cc nL ret) : ∀ w ∈ gN, w.before args s = true := by
  intro w hw
  have hZ := hC.2.2.1.2
  have hLS := hZ.2.2.2.2.2.2.2.1
  have st : ∀ (k : Nat) (q : String × String × String), gSt[k]? = some q → (Cond.isRef (.static q.1 q.2.1 q.2.2)).before args s = true := by
    intro k q hk
    obtain ⟨cf, kf, fi, f, a, cell, h1, h2, h3, h4, h5, h6, h7, -⟩ := hZ.1 k q hk
    cases hr : (ug G).1 k <;> simp [Cond.before, Cond.holds, Cond.value, Term.eval, State.fieldNamed?, h1, h2, h4, h5, h6, h7, hr, va_rf]
  by_cases hg : gNc w = true
  · have ht := gN_in w (List.mem_filter.mpr ⟨hw, hg⟩)
    by_cases hgood : goodWord w = true
    · exact hC.1.2.2.2.2 w (lw_g ht hgood)
    · by_cases hn : uNest w = true
      · exact hC.2.1.2.1.use ht hn
      · exact absurd (show ∀ w ∈ gN, gNc w = true → goodWord w = true ∨ uNest w = true by decide +kernel) (fun h => (h w hw hg).elim hgood hn)
  · have hcases : ∀ w ∈ gN, gNc w = false → w = .laysStatic "java/lang/Throwable" "UNASSIGNED_STACK" "[Ljava/lang/StackTraceElement;" ∨ w = .laysStatic "java/lang/Throwable" "SUPPRESSED_SENTINEL" "Ljava/util/List;" ∨ w = .isRef (.static "java/lang/Throwable" "UNASSIGNED_STACK" "[Ljava/lang/StackTraceElement;") ∨ w = .isRef (.static "java/lang/Throwable" "SUPPRESSED_SENTINEL" "Ljava/util/List;") := by decide +kernel
    rcases hcases w hw (by simpa using hg) with rfl | rfl | rfl | rfl
    · exact hLS.1.before
    · exact hLS.2.before
    · exact st 13 _ rfl
    · exact st 14 _ rfl
theorem u_ledT {l : Launch} (htl : l.stackTraces = false) (N : Nat) (G : uG) (u : UH) (a0 a2 : Nat) (x1 n : Int32) (h1 : uGR u a0 0 9 = some (some a2)) (h2 : uIs u a2 18 = true) (h3 : uGI u a2 18 2 = some n) (hc : x1 < 0 ∨ n - 1 < x1) : uMX l yX1_led (ws_ yX1_led cX1_led 2 (some .int)) ({ frames := 8, cells := 1, slots := 6, locals := 120 }) G u [.ref a0, .int x1] u.1 (uNew u 6 (.inr (23, []))) 1 6 := by
  refine u_metX (own := RX1) (by decide +kernel) rfl (Nat.le_of_ble_eq_true rfl) (fun {p e s m args below meth c} hC0 hE hn hsz ls hl hP0 => ?_)
  obtain ⟨G', hG'⟩ : ∃ z : uG, z = (G.1, G.2.1, u.1, G.2.2.2) := ⟨_, rfl⟩
  have hbase : ub G' = s.heap.size := by rw [hG', hsz]
  have hug : ug G' = ug G := by rw [hG']
  have hle : ∀ q, uA G' q → uA G q := fun q h => Nat.le_trans hC0.2.2.1.1 (by rw [← hbase]; exact h)
  have hC : uC p s m args meth c G' RX1 cX1_led 2 (some .int) := ⟨hC0.1, by rw [hG']; exact hC0.2.1, ⟨Nat.le_of_eq hbase, hC0.2.2.1.2.narrow hug (by rw [hG']) hle⟩, hC0.2.2.2⟩
  have hP : uP G' u s.heap := by
    refine ⟨hP0.1, fun a e he => ?_⟩
    have h0 := hP0.2 a e he
    have hlt := h0.lt
    have hno : ¬ ub G' ≤ a := by rw [hbase]; omega
    subst hG'
    cases e with
    | inl x =>
      obtain ⟨q, cell, k1, k2, k3, k4, k5⟩ := h0
      exact ⟨q, cell, k1, k2, k3, ⟨k4.1, k4.2.1, fun z => absurd z hno⟩, k5⟩
    | inr o =>
      obtain ⟨r, cell, k1, k2, k3, k4, k5⟩ := h0
      exact ⟨r, cell, k1, k2, k3, ⟨k4.1, k4.2.1, fun z => absurd z hno⟩, k5⟩
  obtain ⟨⟨hx, hb, hml, hown, hts⟩, hKK⟩ := id hC
  have hS0 : va_S (uA G') s.heap s.heap [] := va_S.rf
  refine lv_iload_n hx hb dX1_led_0 rfl (lv_at hl 1 rfl) ?_
  refine lv_iconst (v := 0) hx hb dX1_led_1 (by decide) ?_
  refine u_aload_n (r := some a0) hx hb dX1_led_2 rfl (lv_at hl 0 rfl) ?_
  refine u_get hC hP (uGR_n h1) rfl in_X1 (by decide) q224 (fun _ h => h) dX1_led_3 ?_
  have c5 : f_J2_size N (ub G') (ug G') u a2 = some (n, u) := by
    unfold f_J2_size
    rw [h3]
    rfl
  refine u_calli (va_runV (As := []) (rest := [.int 0, .int x1]) hC.1 (met_J2_size l N G' u a2 n u c5) (cwV 0 hts (lw_V q1063 q894 q895 q102 q896) rfl rfl rfl (by decide +kernel) ⟨Nat.le_of_ble_eq_true rfl, Nat.le_of_ble_eq_true rfl⟩) ⟨uPc_blind, u_rcv hC hP h2 rfl, fun U hU hW => u_pre hC hP hS0 hU hW⟩ rfl rfl hl.1 rfl (lv_room (Nat.le_of_ble_eq_true rfl)) dX1_led_6 ⟨Nat.le_of_ble_eq_true rfl, Nat.le_of_ble_eq_true rfl⟩) hS0 (fun H locs hP hS => ?_)
  refine lv_iconst (v := 1) hx hb dX1_led_9 (by decide) ?_
  refine lv_isub hx hb dX1_led_10 ?_
  have c14 : f_X1_in_14 N (ub G') (ug G') u = some (0, u) := rfl
  have c8 : f_X1_in N (ub G') (ug G') u x1 0 (n - 1) = some (0, u) := by
    unfold f_X1_in
    by_cases k : x1 < 0
    · rw [if_pos k]; exact c14
    · rw [if_neg k, if_pos (hc.resolve_left k)]; exact c14
  refine u_calli (va_runS (As := [.int x1, .int 0, .int (n - 1)]) (rest := []) hC.1 (met_X1_in l N G' u x1 0 (n - 1) 0 u c8) (va_cwS 3 hts (lw_S q273 q274 q98 q275) rfl rfl rfl (by decide +kernel) ⟨Nat.le_of_ble_eq_true rfl, Nat.le_of_ble_eq_true rfl⟩) ⟨uPc_blind, fun U hU hW => u_pre hC hP hS hU hW⟩ rfl rfl hl.1 rfl (lv_room (Nat.le_of_ble_eq_true rfl)) dX1_led_11 ⟨Nat.le_of_ble_eq_true rfl, Nat.le_of_ble_eq_true rfl⟩) hS (fun H locs hP hS => ?_)
  refine lv_if_ne (tgt := 25) hx hb dX1_led_14 (by decide) (fun c10 => absurd rfl c10) (fun c10 => ?_)
  refine W.newc hx hb hown (hts _ q1858) (hts _ q1859) (hts _ q139) rfl dX1_led_17 (Nat.le_of_ble_eq_true rfl) (Nat.le_of_ble_eq_true rfl) (fun cC kC k1 k2 k3 k4 => ?_)
  refine lv_dup hx hb dX1_led_20 rfl ?_
  intro T hT X
  have hHs : H.size = s.heap.size := by rw [hP.1, ← hsz]
  have X0 := Stand.forget (locs := []) (extra := locs) X (fun y hy => by have := hS.2.2 y hy; rw [← hbase]; exact this)
  have htr : e.platform.stackTraces = false := by rw [X.admits.platform]; exact htl
  obtain ⟨U, st, hrun, hend, hW, hsame, ce, hce, K⟩ := X0.ctorThrow0 hx htr (own := RX1) (cls := "java/util/NoSuchElementException") (names := ["java/lang/RuntimeException", "java/lang/Exception"]) (ic := 294) hown (by decide +kernel) (by decide +kernel) (gN_ok hC) (fun y hy => by cases hy) k1 k2 (a := H.size) (by rw [hT, Array.getElem?_push_size]) (Nat.le_of_eq hHs.symm) (g := F0 m 21 ls [.ref H.size, .ref H.size]) rfl (by show ls.size = _; rw [hl.1, hml]) rfl rfl (rest := []) rfl (by rw [hb]; exact dX1_led_21) (by rw [hb]; exact dX1_led_24) (u_noE hE) (Nat.le_of_ble_eq_true rfl) (Nat.le_of_ble_eq_true rfl) hC.2.2.2.2
  have hU1 : U.heap.size = u.1 + 1 := by
    have z1 : H.size < U.heap.size := (Array.getElem?_eq_some_iff.mp hce).1
    have z2 : U.heap.size ≤ s.heap.size + (0 + 0 + 0 + 1) := hsame.2.2.1
    omega
  have hold : ∀ a : Nat, a < s.heap.size → U.heap[a]? = s.heap[a]? := by
    intro a ha
    obtain ⟨cell, hcell⟩ : ∃ cell, s.heap[a]? = some cell := ⟨_, Array.getElem?_eq_getElem ha⟩
    obtain ⟨c', q1, q2, q3, q4⟩ := hsame.2.2.2.2.2 a cell hcell
    have q1 : U.heap[a]? = some c' := q1
    have e1 : c'.slots = cell.slots := by
      apply Array.ext_getElem?
      intro i
      exact q4 i (fun h => by cases h)
    rw [q1, hcell, q2, e1]
  refine ⟨U, st, .threw H.size, hrun, hend, by rw [hP.1], ⟨hU1, fun a e he => ?_⟩, ⟨by omega, fun q g1 g2 => hold q g1⟩, hW, [], hsame, fun q hq => by cases hq⟩
  by_cases ha : a = u.1
  · subst ha
    have he' : some (Sum.inr (23, [])) = some e := by simpa [uNew] using he
    cases he'
    have hcl := (hC0.2.1.1.1 23 _ rfl).2.1
    refine ⟨(RJ21, TX15, 0), ce, rfl, by rw [← hP.1]; exact hce, ?_, ⟨by rw [K.vm]; exact fun h => (by cases h), by rw [K.vm]; rfl, fun _ => K.vm⟩, rfl, fun k hk => absurd hk (Nat.not_lt_zero _)⟩
    exact Option.some.inj (K.cls.symm.trans hcl)
  · have he' : u.2.2 a = some e := by simpa [uNew, ha] using he
    have h0 := hP0.2 a e he'
    exact h0.kept (hold a h0.lt)
theorem uLedOK_of {l : Launch} (htl : l.stackTraces = false) : uLedOK l := by
  intro N G u a0 x1 x uf h
  unfold f_X1_ledx at h
  obtain ⟨o1, h1, h⟩ := mbind_n h
  obtain ⟨a2, h2, h⟩ := mbind_n h
  obtain ⟨c3, h⟩ := mif_n h
  obtain ⟨n, h3, h⟩ := mbind_n h
  by_cases hc : x1 < 0 ∨ n - 1 < x1
  · have h := mif_t hc h
    have h4 : (u.1, uNew u 6 (.inr (23, []))) = (x, uf) := Sum.inl.inj (Option.some.inj h)
    have e1 : u.1 = x := congrArg Prod.fst h4
    have e2 : uNew u 6 (.inr (23, [])) = uf := congrArg Prod.snd h4
    subst e1
    subst e2
    have hs1 : (uNew u 6 (.inr (23, []))).1 - u.1 = 1 := by show u.1 + 1 - u.1 = 1; omega
    have hs2 : (uNew u 6 (.inr (23, []))).2.1 - u.2.1 = 6 := by show u.2.1 + 6 - u.2.1 = 6; omega
    rw [hs1, hs2]
    exact u_ledT htl N G u a0 a2 x1 n (by rw [h1, h2]) c3 h3 hc
  · have h := mif_f hc h
    obtain ⟨q, -, h⟩ := mbind_n h
    cases Option.some.inj h

/-! the start: the first picture -/
/-- the literals' letters and hashes, in gLit's order -/
def gTx : List (List Int32 × Int32) := [([59, 44, 45, 40, 41], 55843069), ([103, 114, 111, 117, 110, 100], -1237460601), ([103, 114, 111, 117, 110, 100], -1237460601), ([114, 111, 118, 101, 114], 108704838), ([116, 114, 121], 115131), ([105, 102], 3357), ([105, 115], 3370), ([101, 108, 115, 101], 3116345), ([114, 105, 103, 104, 116], 108511772), ([108, 101, 102, 116], 3317767), ([117, 112], 3739), ([100, 111, 119, 110], 3089570), ([115, 105, 110, 107, 115], 109442112), ([44], 44), ([103, 114, 105, 112, 115], 98623329), ([114, 111, 118, 101, 114], 108704838), ([119, 104, 101, 101, 108, 115], -788942728), ([119, 101, 105, 103, 104, 116], -791592328), ([99, 108, 101, 97, 114], 94746189), ([116, 105, 112], 114843), ([100, 114, 97, 103], 3091764), ([116, 114, 121], 115131), ([101, 97, 99, 104], 3105281), ([45], 45), ([111, 110, 101], 110182), ([99, 111, 115, 116], 3059661), ([59], 59), ([105, 102], 3357), ([105, 115], 3370), ([41], 41), ([101, 108, 115, 101], 3116345), ([59], 59), ([103, 114, 111, 117, 110, 100], -1237460601), ([114, 111, 118, 101, 114], 108704838), ([116, 114, 121], 115131), ([105, 102], 3357), ([105, 115], 3370), ([101, 108, 115, 101], 3116345), ([114, 105, 103, 104, 116], 108511772), ([108, 101, 102, 116], 3317767), ([117, 112], 3739), ([100, 111, 119, 110], 3089570), ([115, 105, 110, 107, 115], 109442112), ([103, 114, 105, 112, 115], 98623329), ([119, 104, 101, 101, 108, 115], -788942728), ([119, 101, 105, 103, 104, 116], -791592328), ([99, 108, 101, 97, 114], 94746189), ([116, 105, 112], 114843), ([100, 114, 97, 103], 3091764), ([101, 97, 99, 104], 3105281), ([111, 110, 101], 110182), ([99, 111, 115, 116], 3059661)]
def lt_t (q : String × Nat × String) : Term := .string q.1 q.2.1
def lt_v (q : String × Nat × String) : Term := .field (lt_t q) "java/lang/String" "value" "[B"
def lt_W (q : String × Nat × String) (z : List Int32 × Int32) : List Cond :=
  [.exactly (lt_t q) "java/lang/String", .eq (.field (lt_t q) "java/lang/String" "coder" "B") (.int 0), .arrayOf (lt_v q) .byte, .eq (.length (lt_v q)) (.int (Int32.ofNat z.1.length))] ++ ((List.range z.1.length).map fun j => .eq (.elem (lt_v q) (.int (Int32.ofNat j))) (.int (z.1.getD j 0))) ++ [.eq (.field (lt_t q) "java/lang/String" "hash" "I") (.int z.2), .eq (.field (lt_t q) "java/lang/String" "hashIsZero" "Z") (.int 0)]
/-- where the words of a literal stand in the start's words -/
def gOf : List (Nat × Nat) := [(261, 802), (272, 803), (284, 804), (297, 805), (308, 806), (317, 807), (325, 808), (333, 809), (343, 810), (354, 811), (364, 812), (372, 813), (382, 814), (393, 815), (400, 816), (411, 817), (423, 818), (435, 819), (447, 820), (458, 821), (467, 822), (477, 823), (487, 824), (497, 825), (504, 826), (513, 827), (523, 828), (530, 829), (539, 830), (548, 831), (555, 832), (566, 833), (574, 834), (588, 835), (601, 836), (612, 837), (622, 838), (632, 839), (644, 840), (656, 841), (667, 842), (676, 843), (687, 844), (699, 845), (711, 846), (724, 847), (737, 848), (749, 849), (759, 850), (770, 851), (781, 852), (791, 853)]
theorem lt_blk : ∀ k < 52, ∀ q ∈ gLit[k]?, ∀ z ∈ gTx[k]?, ∀ o ∈ gOf[k]?, (nfl.drop o.1).take (z.1.length + 6) = lt_W q z ∧ nfl[o.2]? = some (.exactly (lt_v q) "[B") := by decide +kernel
theorem lt_in : ∀ k < 52, ∀ q ∈ gLit[k]?, ∀ z ∈ gTx[k]?, ∀ w ∈ .exactly (lt_v q) "[B" :: lt_W q z, w ∈ nfl := by
  intro k hk q hq z hz w hw
  obtain ⟨o, ho⟩ : ∃ o, gOf[k]? = some o := ⟨gOf[k]'(Nat.lt_of_lt_of_le hk (by decide)), List.getElem?_eq_getElem _⟩
  obtain ⟨h1, h2⟩ := lt_blk k hk q hq z hz o ho
  cases hw with
  | head => exact List.mem_of_getElem? h2
  | tail _ hw =>
    rw [← h1] at hw
    exact List.mem_of_mem_drop (List.mem_of_mem_take hw)
theorem lt_len : ∀ k < 52, ∀ z ∈ gTx[k]?, z.1.length < 100 := by decide +kernel
def cnL (cell : Cell) : Nat := cell.slots.size.toInt32.toNatClampNeg
def cnI (cell : Cell) (j : Nat) : Int32 := match cell.slots[j]? with
  | some (.int x) => x
  | _ => 0
def cnR (cell : Cell) (j : Nat) : Option Nat := match cell.slots[j]? with
  | some (.ref a) => some a
  | _ => none
def cnF (cell : Cell) (f : Nat → Nat) (n : Nat) : List Value := (List.range n).map fun k => (cell.slots[f k]?).getD .null
/-- what a cell of the start shows -/
def cn (G : uG) (cell : Cell) : uE :=
  if cell.cls = G.1.1 20 then .inr (20, cnF cell (G.1.2 20) 4)
  else if cell.cls = G.1.1 21 then .inr (21, cnF cell (G.1.2 21) 1)
  else if cell.cls = G.2.1 7 then .inl (7, cnL cell, .inl (cnI cell))
  else if cell.cls = G.2.1 1 then .inl (1, cnL cell, .inl (cnI cell))
  else if cell.cls = G.2.1 4 then .inl (4, cnL cell, .inr (.inr (.inr (.inr (cnR cell)))))
  else .inl (5, cnL cell, .inr (.inr (.inr (.inr (cnR cell)))))
noncomputable def cnU (G : uG) (H : Heap) (a : Nat) : Option uE :=
  (H[a]?).bind fun cell => @ite _ (uAt G a (cn G cell) H) (Classical.propDecidable _) (some (cn G cell)) none
theorem cnU_n {G : uG} {H : Heap} {a : Nat} {e : uE} (h : cnU G H a = some e) : uAt G a e H := by
  unfold cnU at h
  cases hc : H[a]? with
  | none => rw [hc] at h; cases h
  | some cell =>
    rw [hc] at h
    by_cases hu : uAt G a (cn G cell) H
    · have h1 : @ite (Option uE) (uAt G a (cn G cell) H) (Classical.propDecidable _) (some (cn G cell)) none = some e := h
      rw [if_pos hu] at h1
      cases h1
      exact hu
    · have h1 : @ite (Option uE) (uAt G a (cn G cell) H) (Classical.propDecidable _) (some (cn G cell)) none = some e := h
      rw [if_neg hu] at h1
      cases h1
theorem cnU_at {G : uG} {H : Heap} {a : Nat} {e : uE} {cell : Cell} (hc : H[a]? = some cell) (he : cn G cell = e) (hu : uAt G a e H) : cnU G H a = some e := by
  subst he
  unfold cnU
  rw [hc]
  exact if_pos hu
theorem kd_oa {s : State} {C : String} {c c' : ClassId} {ty : FieldType} (h : ClassAt s C c) (h' : ArrOfT s c' ty) : c ≠ c' := by
  rintro rfl
  obtain ⟨-, k, hk, ho⟩ := h
  obtain ⟨-, k', hk', comp, ha⟩ := h' 0 (fun _ => .null)
  cases hk.symm.trans hk'
  rw [ho] at ha
  cases ha
theorem kd_aa {s : State} {c c' : ClassId} {ty ty' : FieldType} (h : ArrOfT s c ty) (h' : ArrOfT s c' ty') (hne : ty ≠ ty') : c ≠ c' := by
  rintro rfl
  obtain ⟨-, k, hk, comp, ha⟩ := h 0 (fun _ => .null)
  obtain ⟨-, k', hk', comp', ha'⟩ := h' 0 (fun _ => .null)
  cases hk.symm.trans hk'
  rw [ha] at ha'
  cases ha'
  exact hne rfl
theorem kd_oo {s : State} {C C' : String} {c c' : ClassId} (h : s.vm.findClass C = some c) (h' : s.vm.findClass C' = some c') (hne : C ≠ C') : c ≠ c' := by
  rintro rfl
  obtain ⟨k, hk, e⟩ := Vm.findClass_spec h
  obtain ⟨k', hk', e'⟩ := Vm.findClass_spec h'
  cases hk.symm.trans hk'
  exact hne (e.symm.trans e')
theorem of_slot {s : State} {H : Heap} {o n d : String} {v : Value} {a i : Nat} {A : Nat → Prop} {cell : Cell} (h : va_OF o n d v a A s H) (hs : SlotIs s o n d i) (hc : H[a]? = some cell) : cell.slots[i]? = some v ∧ cell.vm ≠ .unknown := by
  obtain ⟨cf, k, j, f, cell', h1, -, h3, h4, h5, -⟩ := h
  obtain ⟨_, _, _, f', k1, k2⟩ := hs
  cases hc.symm.trans h3
  cases h1.symm.trans k1
  rw [← k2]
  exact ⟨h5, h4⟩
theorem cn_len {cell : Cell} {N : Nat} (hN : N < 2 ^ 31) (h : cell.slots.size.toInt32 = Int32.ofNat N) : cnL cell = N := by
  unfold cnL
  rw [h]
  exact Int32.toNatClampNeg_ofNat_of_lt hN
/-- an array of ints (bytes) that is pictured -/
theorem cn_ai {G : uG} {s : State} {a t N : Nat} {ty : FieldType} {cell : Cell} {f : Nat → Int32} (hN : N < 2 ^ 31) (hb : ub G = s.heap.size) (hc : s.heap[a]? = some cell) (ht : (uTys G)[t]? = some (cell.cls, ty)) (hcn : cn G cell = .inl (t, cnL cell, .inl (cnI cell))) (hk : cell.vm ≠ .unknown) (hs : cell.vm.isStatics = false) (hle : N ≤ cell.slots.size) (hsz : cell.slots.size.toInt32 = Int32.ofNat N) (hv : ∀ j : Nat, j < N → cell.slots[j]? = some (.int (f j))) : ∃ f' : Nat → Int32, cnU G s.heap a = some (.inl (t, N, .inl f')) ∧ ∀ j : Nat, j < N → f' j = f j := by
  have hf : ∀ j : Nat, j < N → cnI cell j = f j := fun j hj => by simp [cnI, hv j hj]
  refine ⟨cnI cell, cnU_at hc (by rw [hcn, cn_len hN hsz]) ⟨(cell.cls, ty), cell, ht, hc, rfl, ⟨hk, hs, fun z => ?_⟩, ⟨hle, hsz⟩, fun j hj => ?_⟩, hf⟩
  · have := (Array.getElem?_eq_some_iff.mp hc).1
    omega
  · rw [hv j hj]
    show some (Value.int (f j)) = some (.int (cnI cell j))
    rw [hf j hj]
theorem cn_ar {G : uG} {s : State} {a t N : Nat} {ty : FieldType} {cell : Cell} {f : Nat → Option Nat} (hN : N < 2 ^ 31) (hb : ub G = s.heap.size) (hc : s.heap[a]? = some cell) (ht : (uTys G)[t]? = some (cell.cls, ty)) (hcn : cn G cell = .inl (t, cnL cell, .inr (.inr (.inr (.inr (cnR cell)))))) (hk : cell.vm ≠ .unknown) (hs : cell.vm.isStatics = false) (hle : N ≤ cell.slots.size) (hsz : cell.slots.size.toInt32 = Int32.ofNat N) (hv : ∀ j : Nat, j < N → cell.slots[j]? = some (va_rf (f j))) : ∃ f' : Nat → Option Nat, cnU G s.heap a = some (.inl (t, N, .inr (.inr (.inr (.inr f'))))) ∧ ∀ j : Nat, j < N → f' j = f j := by
  have hf : ∀ j : Nat, j < N → cnR cell j = f j := fun j hj => by
    have h := hv j hj
    cases hfj : f j with
    | none => rw [hfj] at h; simp [cnR, h, va_rf]
    | some b => rw [hfj] at h; simp [cnR, h, va_rf]
  refine ⟨cnR cell, cnU_at hc (by rw [hcn, cn_len hN hsz]) ⟨(cell.cls, ty), cell, ht, hc, rfl, ⟨hk, hs, fun z => ?_⟩, ⟨hle, hsz⟩, fun j hj => ?_⟩, hf⟩
  · have := (Array.getElem?_eq_some_iff.mp hc).1
    omega
  · rw [hv j hj]
    show some (va_rf (f j)) = some (va_rf (cnR cell j))
    rw [hf j hj]
/-- a literal: a String with its letters -/
def uLit (u : UH) (a : Nat) (tx : List Int32) : Prop := ∃ (v : Nat) (h : Int32) (f : Nat → Int32), u.2.2 a = some (.inr (20, [.ref v, .int 0, .int h, .int 0])) ∧ u.2.2 v = some (.inl (1, tx.length, .inl f)) ∧ ∀ j : Nat, j < tx.length → f j = tx.getD j 0
/-- THE START in pure words: b: the heap's size; the script of L ints at a -/
def uStart (b : Nat) (g : uEnv) (u : UH) (a L : Nat) (xs : Nat → Int32) : Prop :=
  u.1 = b ∧ u.2.1 = 0 ∧ (∃ f : Nat → Int32, u.2.2 a = some (.inl (7, L, .inl f)) ∧ ∀ j : Nat, j < L → f j = xs j) ∧
  (∀ j : Nat, j < 52 → ∀ z, gTx[j]? = some z → uLit u (g.2.1 j) z.1) ∧
  (∃ (v : Nat) (f : Nat → Option Nat), g.1 9 = some v ∧ u.2.2 v = some (.inl (5, 4, .inr (.inr (.inr (.inr f))))) ∧ ∀ i : Nat, i < 4 → f i = g.1 (5 + i)) ∧
  (∃ (v : Nat) (f : Nat → Option Nat), g.1 10 = some v ∧ u.2.2 v = some (.inl (4, 0, .inr (.inr (.inr (.inr f)))))) ∧
  (∀ k : Nat, k < 256 → u.2.2 (g.2.2 k) = some (.inr (21, [.int (vb_c k)]))) ∧
  (∀ i : Nat, i < 9 → ∃ r : Nat, g.1 i = some r ∧ r < b) ∧ (∀ i j : Nat, i < j → j < 9 → g.1 i ≠ g.1 j) ∧
  (∃ t : Nat, g.1 11 = some t) ∧ (∃ mi : Nat, g.1 20 = some mi) ∧ ∀ (c : Nat) (e : uE), u.2.2 c = some e → c < b

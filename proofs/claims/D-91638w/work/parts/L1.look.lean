/-! PLAIN: signs of a text, of both -/
theorem t_b8F : ∀ w : Fin 256, (Int8.ofNat w.1).toInt32 &&& 255 = iI (w.1 : Int) ∧ (w.1 < 128 → (Int8.ofNat w.1).toInt32 = iI (w.1 : Int)) := by decide +kernel
theorem t_b8 {y : Int32} (h : vp_nar .byte y = y) : ∃ w : Nat, w < 256 ∧ y &&& 255 = iI w ∧ (w < 128 → y = iI w) := by
  have h : y.toInt8.toInt32 = y := h
  have e : Int8.ofNat (y.toInt8.toBitVec.toNat) = y.toInt8 := by
    apply Int8.toBitVec_inj.mp
    show BitVec.ofNat 8 _ = _
    rw [BitVec.ofNat_toNat, BitVec.setWidth_eq]
  have l : y.toInt8.toBitVec.toNat < 256 := y.toInt8.toBitVec.isLt
  obtain ⟨q1, q2⟩ := t_b8F ⟨_, l⟩
  have q1 : (Int8.ofNat (y.toInt8.toBitVec.toNat)).toInt32 &&& 255 = iI ((y.toInt8.toBitVec.toNat : Nat) : Int) := q1
  have q2 : y.toInt8.toBitVec.toNat < 128 → (Int8.ofNat (y.toInt8.toBitVec.toNat)).toInt32 = iI ((y.toInt8.toBitVec.toNat : Nat) : Int) := q2
  rw [e, h] at q1 q2
  exact ⟨_, l, q1, q2⟩
/-- the tape, of both -/
def rTp (U : UH) (σ : MS) (tp : Nat) (T : Nat → Nat) : Prop := ∃ f : Nat → Int32, U.2.2 tp = some (.inl (1, 500, .inl f)) ∧ ∀ k, k < 500 → σ.2.1 1 k = iI (T k) ∧ T k < 256 ∧ f k &&& 255 = iI (T k) ∧ (T k < 128 → f k = iI (T k))
def tC (T : Nat → Nat) (n k : Nat) : Int := if k < n then (T k : Int) else -1
theorem tC_b {T : Nat → Nat} {n k : Nat} (h : ∀ k, k < 500 → T k < 256) (hn : n ≤ 500) : -1 ≤ tC T n k ∧ tC T n k ≤ 255 := by
  unfold tC
  split
  · have := h k (by omega)
    omega
  · omega
theorem tC_i {T : Nat → Nat} {n k : Nat} (h : 0 ≤ tC T n k) : k < n ∧ tC T n k = (T k : Int) := by
  unfold tC at h ⊢
  split
  · rename_i c
    exact ⟨c, rfl⟩
  · rename_i c
    rw [if_neg c] at h
    omega
theorem z_run {P : Nat → Prop} {n : Nat} (h : ∀ k, n ≤ k → ¬ P k) : ∀ (d i : Nat), i + d = n → ∃ j, i ≤ j ∧ j ≤ n ∧ (∀ k, i ≤ k → k < j → P k) ∧ ¬ P j := by
  intro d
  induction d with
  | zero =>
    intro i hi
    exact ⟨i, Nat.le_refl _, by omega, fun k _ _ => by omega, h i (by omega)⟩
  | succ d ih =>
    intro i hi
    by_cases c : P i
    · obtain ⟨j, q1, q2, q3, q4⟩ := ih (i + 1) (by omega)
      refine ⟨j, by omega, q2, fun k k1 k2 => ?_, q4⟩
      by_cases e : k = i
      · rw [e]
        exact c
      · exact q3 k (by omega) k2
    · exact ⟨i, Nat.le_refl _, by omega, fun k _ _ => by omega, c⟩
section I2s
variable {N b : Nat} {g : uEnv} {U : UH} {σ : MS} {x : Int}
theorem c_letter (hx : -1 ≤ x ∧ x ≤ 255) : (97 ≤ x ∧ x ≤ 122 → f_X5_isLetter N b g U (iI x) = some (1, U)) ∧ (¬ (97 ≤ x ∧ x ≤ 122) → f_X5_isLetter N b g U (iI x) = some (0, U)) := by
  unfold f_X5_isLetter f_X5_isLetter_16 f_X5_isLetter_17
  rw [show (97 : Int32) = iI 97 from rfl, show (122 : Int32) = iI 122 from rfl]
  constructor
  · intro h
    rw [n_lt (by omega) (by omega) (by omega) (by omega) (by omega), n_lt (by omega) (by omega) (by omega) (by omega) (by omega)]
    rfl
  · intro h
    by_cases c : x < 97
    · rw [p_lt (by omega) (by omega) (by omega) (by omega) (by omega)]
      rfl
    · rw [n_lt (by omega) (by omega) (by omega) (by omega) (by omega), p_lt (by omega) (by omega) (by omega) (by omega) (by omega)]
      rfl
theorem m_small (hx : -1 ≤ x ∧ x ≤ 255) : (97 ≤ x ∧ x ≤ 122 → f_isSmall N σ (iI x) = some (1, σ)) ∧ (¬ (97 ≤ x ∧ x ≤ 122) → f_isSmall N σ (iI x) = some (0, σ)) := by
  unfold f_isSmall f_isSmall_16 f_isSmall_17
  rw [show (97 : Int32) = iI 97 from rfl, show (122 : Int32) = iI 122 from rfl]
  constructor
  · intro h
    rw [n_lt (by omega) (by omega) (by omega) (by omega) (by omega), n_lt (by omega) (by omega) (by omega) (by omega) (by omega)]
    rfl
  · intro h
    by_cases c : x < 97
    · rw [p_lt (by omega) (by omega) (by omega) (by omega) (by omega)]
      rfl
    · rw [n_lt (by omega) (by omega) (by omega) (by omega) (by omega), p_lt (by omega) (by omega) (by omega) (by omega) (by omega)]
      rfl
theorem c_digit (hx : -1 ≤ x ∧ x ≤ 255) : (48 ≤ x ∧ x ≤ 57 → f_X5_isDigit N b g U (iI x) = some (1, U)) ∧ (¬ (48 ≤ x ∧ x ≤ 57) → f_X5_isDigit N b g U (iI x) = some (0, U)) := by
  unfold f_X5_isDigit f_X5_isDigit_16 f_X5_isDigit_17
  rw [show (48 : Int32) = iI 48 from rfl, show (57 : Int32) = iI 57 from rfl]
  constructor
  · intro h
    rw [n_lt (by omega) (by omega) (by omega) (by omega) (by omega), n_lt (by omega) (by omega) (by omega) (by omega) (by omega)]
    rfl
  · intro h
    by_cases c : x < 48
    · rw [p_lt (by omega) (by omega) (by omega) (by omega) (by omega)]
      rfl
    · rw [n_lt (by omega) (by omega) (by omega) (by omega) (by omega), p_lt (by omega) (by omega) (by omega) (by omega) (by omega)]
      rfl
theorem m_digit (hx : -1 ≤ x ∧ x ≤ 255) : (48 ≤ x ∧ x ≤ 57 → f_isDigit N σ (iI x) = some (1, σ)) ∧ (¬ (48 ≤ x ∧ x ≤ 57) → f_isDigit N σ (iI x) = some (0, σ)) := by
  unfold f_isDigit f_isDigit_16 f_isDigit_17
  rw [show (48 : Int32) = iI 48 from rfl, show (57 : Int32) = iI 57 from rfl]
  constructor
  · intro h
    rw [n_lt (by omega) (by omega) (by omega) (by omega) (by omega), n_lt (by omega) (by omega) (by omega) (by omega) (by omega)]
    rfl
  · intro h
    by_cases c : x < 48
    · rw [p_lt (by omega) (by omega) (by omega) (by omega) (by omega)]
      rfl
    · rw [n_lt (by omega) (by omega) (by omega) (by omega) (by omega), p_lt (by omega) (by omega) (by omega) (by omega) (by omega)]
      rfl
end I2s
/-- what the model says of a token -/
def mTok (σ : MS) (a4 a5 a6 a7 a8 : Int32) (r : Nat → Int32) : MS := (fun k => if k = 4 then a4 else if k = 5 then a5 else if k = 6 then a6 else if k = 7 then a7 else if k = 8 then a8 else σ.1 k, fun j => if j = 11 then r else σ.2.1 j, σ.2.2)
section I3s
variable {σ : MS} {a4 a5 a6 a7 a8 v : Int32} {r : Nat → Int32}
theorem mTok_id : mTok σ (σ.1 4) (σ.1 5) (σ.1 6) (σ.1 7) (σ.1 8) (σ.2.1 11) = σ := by
  refine Prod.ext (funext fun k => ?_) (Prod.ext (funext fun j => ?_) rfl)
  · show (if k = 4 then σ.1 4 else if k = 5 then σ.1 5 else if k = 6 then σ.1 6 else if k = 7 then σ.1 7 else if k = 8 then σ.1 8 else σ.1 k) = σ.1 k
    by_cases h4 : k = 4
    · rw [if_pos h4, h4]
    · by_cases h5 : k = 5
      · rw [if_neg h4, if_pos h5, h5]
      · by_cases h6 : k = 6
        · rw [if_neg h4, if_neg h5, if_pos h6, h6]
        · by_cases h7 : k = 7
          · rw [if_neg h4, if_neg h5, if_neg h6, if_pos h7, h7]
          · by_cases h8 : k = 8
            · rw [if_neg h4, if_neg h5, if_neg h6, if_neg h7, if_pos h8, h8]
            · rw [if_neg h4, if_neg h5, if_neg h6, if_neg h7, if_neg h8]
  · show (if j = 11 then σ.2.1 11 else σ.2.1 j) = σ.2.1 j
    by_cases h : j = 11
    · rw [if_pos h, h]
    · rw [if_neg h]
theorem mTok_4 : mSet (mTok σ a4 a5 a6 a7 a8 r) 4 v = mTok σ v a5 a6 a7 a8 r := by
  refine Prod.ext (funext fun k => ?_) rfl
  show (if k = 4 then v else if k = 4 then a4 else if k = 5 then a5 else if k = 6 then a6 else if k = 7 then a7 else if k = 8 then a8 else σ.1 k) = (if k = 4 then v else if k = 5 then a5 else if k = 6 then a6 else if k = 7 then a7 else if k = 8 then a8 else σ.1 k)
  by_cases h : k = 4
  · subst h
    rfl
  · simp only [if_neg h]
theorem mTok_5 : mSet (mTok σ a4 a5 a6 a7 a8 r) 5 v = mTok σ a4 v a6 a7 a8 r := by
  refine Prod.ext (funext fun k => ?_) rfl
  show (if k = 5 then v else if k = 4 then a4 else if k = 5 then a5 else if k = 6 then a6 else if k = 7 then a7 else if k = 8 then a8 else σ.1 k) = (if k = 4 then a4 else if k = 5 then v else if k = 6 then a6 else if k = 7 then a7 else if k = 8 then a8 else σ.1 k)
  by_cases h : k = 5
  · subst h
    rfl
  · simp only [if_neg h]
theorem mTok_6 : mSet (mTok σ a4 a5 a6 a7 a8 r) 6 v = mTok σ a4 a5 v a7 a8 r := by
  refine Prod.ext (funext fun k => ?_) rfl
  show (if k = 6 then v else if k = 4 then a4 else if k = 5 then a5 else if k = 6 then a6 else if k = 7 then a7 else if k = 8 then a8 else σ.1 k) = (if k = 4 then a4 else if k = 5 then a5 else if k = 6 then v else if k = 7 then a7 else if k = 8 then a8 else σ.1 k)
  by_cases h : k = 6
  · subst h
    rfl
  · simp only [if_neg h]
theorem mTok_7 : mSet (mTok σ a4 a5 a6 a7 a8 r) 7 v = mTok σ a4 a5 a6 v a8 r := by
  refine Prod.ext (funext fun k => ?_) rfl
  show (if k = 7 then v else if k = 4 then a4 else if k = 5 then a5 else if k = 6 then a6 else if k = 7 then a7 else if k = 8 then a8 else σ.1 k) = (if k = 4 then a4 else if k = 5 then a5 else if k = 6 then a6 else if k = 7 then v else if k = 8 then a8 else σ.1 k)
  by_cases h : k = 7
  · subst h
    rfl
  · simp only [if_neg h]
theorem mTok_8 : mSet (mTok σ a4 a5 a6 a7 a8 r) 8 v = mTok σ a4 a5 a6 a7 v r := by
  refine Prod.ext (funext fun k => ?_) rfl
  show (if k = 8 then v else if k = 4 then a4 else if k = 5 then a5 else if k = 6 then a6 else if k = 7 then a7 else if k = 8 then a8 else σ.1 k) = (if k = 4 then a4 else if k = 5 then a5 else if k = 6 then a6 else if k = 7 then a7 else if k = 8 then v else σ.1 k)
  by_cases h : k = 8
  · subst h
    rfl
  · simp only [if_neg h]
theorem mTok_r {i : Nat} : mArr (mTok σ a4 a5 a6 a7 a8 r) 11 i v = mTok σ a4 a5 a6 a7 a8 (upd r i v) := by
  refine Prod.ext rfl (Prod.ext (funext fun j => ?_) rfl)
  show (if j = 11 then upd r i v else if j = 11 then r else σ.2.1 j) = (if j = 11 then upd r i v else σ.2.1 j)
  by_cases h : j = 11
  · rw [if_pos h, if_pos h]
  · rw [if_neg h, if_neg h, if_neg h]
end I3s
/-- the model's next, in pure words -/
def nV (T : Nat → Nat) (st : Nat) : Nat → Nat
  | 0 => 0
  | k + 1 => 10 * nV T st k + (T (st + k) - 48)
theorem nV_le {T : Nat → Nat} {st : Nat} : ∀ d, (∀ k, k < d → T (st + k) ≤ 57) → nV T st d < 10 ^ d := by
  intro d
  induction d with
  | zero => intro _; exact Nat.one_pos
  | succ d ih =>
    intro h
    have h1 := ih (fun k hk => h k (by omega))
    have h2 := h d (by omega)
    show 10 * nV T st d + (T (st + d) - 48) < 10 ^ (d + 1)
    rw [Nat.pow_succ]
    omega
section I4s
variable {N : Nat} {σ : MS} {T : Nat → Nat} {n : Nat} {a4 a5 a6 a7 a8 : Int32} {r : Nat → Int32}
def mTp (σ : MS) (T : Nat → Nat) (n : Nat) : Prop := σ.1 3 = iI n ∧ n ≤ 500 ∧ ∀ k, k < 500 → σ.2.1 1 k = iI (T k) ∧ T k < 256
theorem m_look (h : mTp σ T n) {k : Nat} (hk : k ≤ 1000) : f_look N σ (iI k) = some (iI (tC T n k), σ) := by
  obtain ⟨h3, hn, ht⟩ := h
  unfold f_look f_look_18 tC
  rw [h3]
  by_cases c : k < n
  · obtain ⟨t1, t2⟩ := t_ix (a := (k : Int)) (n := mLen 1) (k := k) rfl (by rw [show mLen 1 = 500 from rfl]; omega) (by rw [show mLen 1 = 500 from rfl]; omega)
    rw [n_le (by omega) (by omega) (by omega) (by omega) (by omega), if_pos t1, p_let, t2, (ht k (by omega)).1, if_pos c]
  · rw [p_le (by omega) (by omega) (by omega) (by omega) (by omega), if_neg c]
    rfl
theorem mTp.tok (h : mTp σ T n) : mTp (mTok σ a4 a5 a6 a7 a8 r) T n := h
theorem m_nx5 (h : mTp σ T n) : ∀ (d i m : Nat), i + d ≤ 500 → (∀ k, i ≤ k → k < i + d → tC T n k = 32) → f_next_5 N (m + d) σ (iI i) = f_next_5 N m σ (iI ((i + d : Nat) : Int)) := by
  intro d
  induction d with
  | zero => intro i m _ _; rfl
  | succ d ih =>
    intro i m h1 h2
    have ei : iI (i : Int) + 1 = iI ((i + 1 : Nat) : Int) := by
      rw [j1, i_add]
      rfl
    rw [show m + (d + 1) = (m + d) + 1 by omega, f_next_5, m_look h (by omega), q_mc, h2 i (by omega) (by omega), if_pos (show iI 32 = 32 from rfl), ei, p_let, ih (i + 1) m (by omega) (fun k k1 k2 => h2 k (by omega) (by omega)), show i + 1 + d = i + (d + 1) by omega]
theorem m_nx67 (h : mTp σ T n) : ∀ (d i m c : Nat) (r : Nat → Int32), i + d ≤ 500 → c + d ≤ 500 → (∀ k, i ≤ k → k < i + d → 97 ≤ tC T n k ∧ tC T n k ≤ 122) → ∃ r' : Nat → Int32, (∀ k, r' k = if c ≤ k ∧ k < c + d ∧ k < 8 then iI (T (i + (k - c))) else r k) ∧ f_next_67 N (m + d) (mTok σ a4 a5 a6 a7 (iI c) r) (iI i) = f_next_67 N m (mTok σ a4 a5 a6 a7 (iI ((c + d : Nat) : Int)) r') (iI ((i + d : Nat) : Int)) := by
  intro d
  induction d with
  | zero => intro i m c r _ _ _; exact ⟨r, fun k => (if_neg (by omega)).symm, rfl⟩
  | succ d ih =>
    intro i m c r h1 hc h2
    have ei : iI (i : Int) + 1 = iI ((i + 1 : Nat) : Int) := by
      rw [j1, i_add]
      rfl
    have ec : iI (c : Int) + 1 = iI ((c + 1 : Nat) : Int) := by
      rw [j1, i_add]
      rfl
    have hl := h2 i (by omega) (by omega)
    have ht : mTp (mTok σ a4 a5 a6 a7 (iI c) r) T n := h
    obtain ⟨-, tci⟩ := tC_i (T := T) (n := n) (k := i) (by omega)
    have step : ∀ rr : Nat → Int32, f_next_101 N (f_next_67 N (m + d)) (mTok σ a4 a5 a6 a7 (iI c) rr) (iI i) = f_next_67 N (m + d) (mTok σ a4 a5 a6 a7 (iI ((c + 1 : Nat) : Int)) rr) (iI ((i + 1 : Nat) : Int)) := fun rr => by
      unfold f_next_101
      rw [show (mTok σ a4 a5 a6 a7 (iI c) rr).1 8 = iI c from rfl, ec, mTok_8, p_let, ei, p_let]
    rw [show m + (d + 1) = (m + d) + 1 by omega, f_next_67, m_look ht (by omega), q_mc, (m_small (by omega)).1 hl, q_mc, if_neg n10, show (mTok σ a4 a5 a6 a7 (iI c) r).1 8 = iI c from rfl]
    by_cases c8 : 8 ≤ c
    · obtain ⟨r', w1, w2⟩ := ih (i + 1) m (c + 1) r (by omega) (by omega) (fun k k1 k2 => h2 k (by omega) (by omega))
      refine ⟨r', fun k => ?_, ?_⟩
      · rw [w1 k, if_neg (by omega), if_neg (by omega)]
      · rw [j8, p_le (by omega) (by omega) (by omega) (by omega) (by omega), step, w2, show c + 1 + d = c + (d + 1) by omega, show i + 1 + d = i + (d + 1) by omega]
    · obtain ⟨t1, t2⟩ := t_ix (a := (c : Int)) (n := mLen 11) (k := c) rfl (by rw [show mLen 11 = 8 from rfl]; omega) (by rw [show mLen 11 = 8 from rfl]; omega)
      obtain ⟨r', w1, w2⟩ := ih (i + 1) m (c + 1) (upd r c (iI (tC T n i))) (by omega) (by omega) (fun k k1 k2 => h2 k (by omega) (by omega))
      refine ⟨r', fun k => ?_, ?_⟩
      · rw [w1 k]
        by_cases ck : k = c
        · subst ck
          rw [if_neg (by omega), upd_s, if_pos (by omega), tci, Nat.sub_self]
          rfl
        · rw [upd_n ck]
          by_cases ck2 : c ≤ k ∧ k < c + (d + 1) ∧ k < 8
          · rw [if_pos ck2, if_pos (by omega)]
            congr 3
            omega
          · rw [if_neg ck2, if_neg (by omega)]
      · rw [j8, n_le (by omega) (by omega) (by omega) (by omega) (by omega), m_look ht (by omega), q_mc, if_pos t1, p_let, t2, mTok_r, step, w2, show c + 1 + d = c + (d + 1) by omega, show i + 1 + d = i + (d + 1) by omega]
theorem m_nx152 (h : mTp σ T n) {st : Nat} : ∀ (d i m c : Nat), i = st + c → i + d ≤ 500 → (∀ k, st ≤ k → k < i + d → 48 ≤ tC T n k ∧ tC T n k ≤ 57) → f_next_152 N (m + d) (mTok σ a4 a5 a6 (iI ((nV T st (if c < 4 then c else 4) : Nat) : Int)) a8 r) (iI i) (iI c) = f_next_152 N m (mTok σ a4 a5 a6 (iI ((nV T st (if c + d < 4 then c + d else 4) : Nat) : Int)) a8 r) (iI ((i + d : Nat) : Int)) (iI ((c + d : Nat) : Int)) := by
  intro d
  induction d with
  | zero => intro i m c _ _ _; rfl
  | succ d ih =>
    intro i m c hic h1 h2
    have ei : iI (i : Int) + 1 = iI ((i + 1 : Nat) : Int) := by
      rw [j1, i_add]
      rfl
    have ec : iI (c : Int) + 1 = iI ((c + 1 : Nat) : Int) := by
      rw [j1, i_add]
      rfl
    have hl := h2 i (by omega) (by omega)
    have ht : mTp (mTok σ a4 a5 a6 (iI ((nV T st (if c < 4 then c else 4) : Nat) : Int)) a8 r) T n := h
    obtain ⟨-, tci⟩ := tC_i (T := T) (n := n) (k := i) (by omega)
    have step : ∀ x7 : Int32, f_next_188 N (f_next_152 N (m + d)) (mTok σ a4 a5 a6 x7 a8 r) (iI i) (iI c) = f_next_152 N (m + d) (mTok σ a4 a5 a6 x7 a8 r) (iI ((i + 1 : Nat) : Int)) (iI ((c + 1 : Nat) : Int)) := fun x7 => by
      unfold f_next_188
      rw [ec, p_let, ei, p_let]
    have ihh := ih (i + 1) m (c + 1) (by omega) (by omega) (fun k k1 k2 => h2 k (by omega) (by omega))
    rw [show c + 1 + d = c + (d + 1) by omega, show i + 1 + d = i + (d + 1) by omega] at ihh
    rw [show m + (d + 1) = (m + d) + 1 by omega, f_next_152, m_look ht (by omega), q_mc, (m_digit (by omega)).1 hl, q_mc, if_neg n10]
    by_cases c4 : 4 ≤ c
    · rw [show (4 : Int32) = iI 4 from rfl, p_le (by omega) (by omega) (by omega) (by omega) (by omega), step, ← ihh]
      rw [if_neg (by omega), if_neg (by omega)]
    · have bd := nV_le (T := T) (st := st) c (fun k hk => by
        have q := h2 (st + k) (by omega) (by omega)
        obtain ⟨-, e⟩ := tC_i (T := T) (n := n) (k := st + k) (by omega)
        omega)
      have p4 : 10 ^ c ≤ 10 ^ 4 := Nat.pow_le_pow_right (by decide) (by omega)
      have e7 : ((10 : Int32) * iI ((nV T st c : Nat) : Int) + iI (tC T n i)) - 48 = iI ((nV T st (c + 1) : Nat) : Int) := by
        rw [show (10 : Int32) = iI 10 from rfl, i_mul, i_add, show (48 : Int32) = iI 48 from rfl, i_sub, tci]
        congr 1
        show _ = ((10 * nV T st c + (T (st + c) - 48) : Nat) : Int)
        rw [← hic]
        omega
      rw [show (4 : Int32) = iI 4 from rfl, n_le (by omega) (by omega) (by omega) (by omega) (by omega), m_look ht (by omega), q_mc, if_pos (show c < 4 by omega), show (mTok σ a4 a5 a6 (iI ((nV T st c : Nat) : Int)) a8 r).1 7 = iI ((nV T st c : Nat) : Int) from rfl, e7, mTok_7, p_let, step, ← ihh]
      by_cases c5 : c + 1 < 4
      · rw [if_pos c5]
      · rw [if_neg c5, show c + 1 = 4 by omega]
end I4s

/-! PLAIN: what a reader is asked, of both -/
def rKp (lo rd : Nat) (U U' : UH) : Prop := (∀ x, x < lo → U'.2.2 x = U.2.2 x) ∧ (∀ x, x < U.1 → x ≠ rd → (∀ fs, U.2.2 x ≠ some (.inr (20, fs))) → U'.2.2 x = U.2.2 x) ∧ (∀ a m f, vSt lo U a m f → vSt lo U' a m f) ∧ uOld U' ∧ U.1 ≤ U'.1 ∧ U.2.1 ≤ U'.2.1
theorem rKp.refl {lo rd : Nat} {U : UH} (h : uOld U) : rKp lo rd U U := ⟨fun _ _ => rfl, fun _ _ _ _ => rfl, fun _ _ _ h => h, h, Nat.le_refl _, Nat.le_refl _⟩
theorem rKp.trans {lo rd : Nat} {U U' U'' : UH} (h : rKp lo rd U U') (h' : rKp lo rd U' U'') : rKp lo rd U U'' := by
  obtain ⟨a1, a2, a3, a4, a5, a6⟩ := h
  obtain ⟨b1, b2, b3, b4, b5, b6⟩ := h'
  refine ⟨fun x hx => (b1 x hx).trans (a1 x hx), fun x x1 x2 x3 => ?_, fun a m f q => b3 a m f (a3 a m f q), b4, by omega, by omega⟩
  have e := a2 x x1 x2 x3
  rw [← e]
  exact b2 x (by omega) x2 (fun fs => by rw [e]; exact x3 fs)
theorem rKp.all {lo rd : Nat} {U U' : UH} {c : Nat} {fs : List Value} (h : ∀ x, x < U.1 → x ≠ rd → U'.2.2 x = U.2.2 x) (hr : U.2.2 rd = some (.inr (c, fs))) (hc : c ≠ 20) (ho : uOld U) (ho' : uOld U') (hl : lo ≤ rd) (hlU : lo ≤ U.1) (h1 : U.1 ≤ U'.1) (h2 : U.2.1 ≤ U'.2.1) : rKp lo rd U U' := by
  refine ⟨fun x hx => h x (by omega) (by omega), fun x x1 x2 _ => h x x1 x2, fun a m f q => ?_, ho', h1, h2⟩
  obtain ⟨v, hh, z, e1, e2, e3⟩ := q
  exact ⟨v, hh, z, (h a (ho _ _ e1) (u_nrr e1 hr (Ne.symm hc))).trans e1, (h v (ho _ _ e2) (u_nlr e2 hr)).trans e2, e3⟩
/-- while a text is read -/
def rCx (b : Nat) (g : uEnv) (lo rd tp n : Nat) (T : Nat → Nat) (U : UH) (σ : MS) (at' : Nat) : Prop := rTk g U σ lo rd tp n at' ∧ rTp U σ tp T ∧ σ.1 3 = iI n ∧ n ≤ 500 ∧ tEn b g U ∧ uOld U ∧ b ≤ lo ∧ lo ≤ rd ∧ lo ≤ U.1 ∧ σ.1 13 = 0 ∧ tp < lo ∧ σ.1 9 = 0
def rSt (b : Nat) (g : uEnv) (lo rd tp n : Nat) (T : Nat → Nat) (U : UH) (σ : MS) (at' : Nat) (U' : UH) (σ' : MS) (at2 : Nat) : Prop := rCx b g lo rd tp n T U' σ' at2 ∧ rKp lo rd U U' ∧ at' ≤ at2 ∧ U'.1 ≤ U.1 + 4 * (at2 - at') ∧ U'.2.1 ≤ U.2.1 + 32 * (at2 - at') ∧ ∃ (a4 a5 a6 a7 a8 : Int32) (r : Nat → Int32), σ' = mTok σ a4 a5 a6 a7 a8 r
theorem mTok_m {σ : MS} {a4 a5 a6 a7 a8 b4 b5 b6 b7 b8 : Int32} {r s : Nat → Int32} : mTok (mTok σ a4 a5 a6 a7 a8 r) b4 b5 b6 b7 b8 s = mTok σ b4 b5 b6 b7 b8 s := by
  refine Prod.ext (funext fun k => ?_) (Prod.ext (funext fun j => ?_) rfl)
  · show (if k = 4 then b4 else if k = 5 then b5 else if k = 6 then b6 else if k = 7 then b7 else if k = 8 then b8 else if k = 4 then a4 else if k = 5 then a5 else if k = 6 then a6 else if k = 7 then a7 else if k = 8 then a8 else σ.1 k) = (if k = 4 then b4 else if k = 5 then b5 else if k = 6 then b6 else if k = 7 then b7 else if k = 8 then b8 else σ.1 k)
    by_cases h4 : k = 4
    · rw [if_pos h4, if_pos h4]
    · by_cases h5 : k = 5
      · simp only [if_neg h4, if_pos h5]
      · by_cases h6 : k = 6
        · simp only [if_neg h4, if_neg h5, if_pos h6]
        · by_cases h7 : k = 7
          · simp only [if_neg h4, if_neg h5, if_neg h6, if_pos h7]
          · by_cases h8 : k = 8
            · simp only [if_neg h4, if_neg h5, if_neg h6, if_neg h7, if_pos h8]
            · simp only [if_neg h4, if_neg h5, if_neg h6, if_neg h7, if_neg h8]
  · show (if j = 11 then s else if j = 11 then r else σ.2.1 j) = (if j = 11 then s else σ.2.1 j)
    by_cases h : j = 11
    · rw [if_pos h, if_pos h]
    · rw [if_neg h, if_neg h, if_neg h]
section I8s
variable {N b : Nat} {g : uEnv} {lo rd tp n : Nat} {T : Nat → Nat} {U U' U'' : UH} {σ σ' σ'' : MS} {at' at2 at3 : Nat}
theorem rSt.refl (h : rCx b g lo rd tp n T U σ at') : rSt b g lo rd tp n T U σ at' U σ at' := ⟨h, rKp.refl h.2.2.2.2.2.1, Nat.le_refl _, Nat.le_add_right _ _, Nat.le_add_right _ _, σ.1 4, σ.1 5, σ.1 6, σ.1 7, σ.1 8, σ.2.1 11, mTok_id.symm⟩
theorem rSt.trans (h : rSt b g lo rd tp n T U σ at' U' σ' at2) (h' : rSt b g lo rd tp n T U' σ' at2 U'' σ'' at3) : rSt b g lo rd tp n T U σ at' U'' σ'' at3 := by
  obtain ⟨-, a2, a3, a4, a5, x4, x5, x6, x7, x8, r, a6⟩ := h
  obtain ⟨b1, b2, b3, b4, b5, y4, y5, y6, y7, y8, s, b6⟩ := h'
  refine ⟨b1, a2.trans b2, by omega, by omega, by omega, y4, y5, y6, y7, y8, s, ?_⟩
  rw [b6, a6, mTok_m]
/-- a token is there that can be left -/
theorem k_go (h : rCx b g lo rd tp n T U σ at') (h6 : σ.1 6 ≠ 0 ∧ σ.1 6 ≠ 1) (hN : 2000 ≤ N) : ∃ U' σ' at2, f_X5_next N b g U rd = some U' ∧ f_next N σ = some σ' ∧ rSt b g lo rd tp n T U σ at' U' σ' at2 := by
  obtain ⟨⟨st, va, kr, wv, sg, c1, c2, c3, c4, c5⟩, hT, h3, hn, hE, ho, hlo, hrd, hlU, h13, htp, h9⟩ := h
  have h5 : σ.1 5 = iI at' := by
    rcases c5 with z | z | z | z | ⟨c, z⟩
    · exact absurd z.1 h6.1
    · exact absurd z.1 h6.2
    · exact z.2.2.1
    · exact z.2.2.1
    · exact z.2.2.2.1
  obtain ⟨U', at2, a4, a5, a6, a7, a8, r, e1, e2, e3, e4, e5, e6, e7, e8, e9, e10⟩ := k_next (N := N) (lo := lo) c1 h5 c4 hT h3 hn hE ho hlo hrd hlU hN
  have c1' : U.2.2 rd = some (.inr (4, _)) := c1
  obtain ⟨f, t1, t2⟩ := hT
  have ltp := ho _ _ t1
  have ntp : tp ≠ rd := by omega
  refine ⟨U', _, at2, e1, e2, ⟨e3, ⟨f, (e4 tp ltp ntp).trans t1, t2⟩, h3, hn, hE.keep (fun x hx => e4 x (by omega) (by omega)), e5, hlo, hrd, by omega, h13, htp, h9⟩, rKp.all e4 c1' (by decide) ho e5 hrd hlU e7 e9, e6, e8, e10, a4, a5, a6, a7, a8, r, rfl⟩
/-- the token is this word -/
def isW (σ : MS) (tx : List Int32) : Prop := σ.1 6 = 2 ∧ ∃ m : Nat, σ.1 8 = iI m ∧ m ≤ 8 ∧ wEq m (σ.2.1 11) tx
theorem m_wd32 {m : Nat} {tx : List Int32} (h8 : σ.1 8 = iI m) (hm : m ≤ 8) (hl : m = tx.length) : ∀ (q k : Nat) (ok : Nat), k ≤ m → m < k + q → (ok = 1 ∧ (∀ i, i < k → σ.2.1 11 i = tx.getD i 0)) ∨ (ok = 0 ∧ ¬ (∀ i, i < k → σ.2.1 11 i = tx.getD i 0)) → ((∀ i, i < m → σ.2.1 11 i = tx.getD i 0) → f_word_32 N tx q σ (iI ok) (iI k) = some (1, σ)) ∧ (¬ (∀ i, i < m → σ.2.1 11 i = tx.getD i 0) → f_word_32 N tx q σ (iI ok) (iI k) = some (0, σ)) := by
  intro q
  induction q with
  | zero => intro k ok h1 h2; omega
  | succ q ih =>
    intro k ok h1 h2 hok
    rw [f_word_32, p_let, h8]
    by_cases hk : k = m
    · subst hk
      rw [p_le (by omega) (by omega) (by omega) (by omega) (by omega)]
      rcases hok with ⟨rfl, z⟩ | ⟨rfl, z⟩
      · exact ⟨fun _ => if_pos (by decide), fun y => absurd z y⟩
      · exact ⟨fun y => absurd y z, fun _ => if_pos (by decide)⟩
    · have ek : iI (k : Int) + 1 = iI ((k + 1 : Nat) : Int) := by
        rw [j1, i_add]
        rfl
      obtain ⟨t1, t2⟩ := t_ix (a := (k : Int)) (n := mLen 11) (k := k) rfl (by rw [show mLen 11 = 8 from rfl]; omega) (by rw [show mLen 11 = 8 from rfl]; omega)
      obtain ⟨t3, -⟩ := t_ix (a := (k : Int)) (n := tx.length) (k := k) rfl (by omega) (by omega)
      rw [n_le (by omega) (by omega) (by omega) (by omega) (by omega)]
      unfold f_word_62 f_word_63
      rcases hok with ⟨rfl, z⟩ | ⟨rfl, z⟩
      · rw [if_neg (show ¬ iI ((1 : Nat) : Int) = 0 from n10), if_pos t1, p_let, if_pos t3, p_let, t2]
        by_cases c : σ.2.1 11 k = tx.getD k 0
        · rw [if_pos c, ek, p_let]
          exact ih (k + 1) 1 (by omega) (by omega) (Or.inl ⟨rfl, fun i hi => by
            by_cases e : i = k
            · rw [e]
              exact c
            · exact z i (by omega)⟩)
        · rw [if_neg c, ek, p_let]
          exact ih (k + 1) 0 (by omega) (by omega) (Or.inr ⟨rfl, fun y => c (y k (by omega))⟩)
      · rw [if_pos (show iI ((0 : Nat) : Int) = 0 from rfl), ek, p_let]
        exact ih (k + 1) 0 (by omega) (by omega) (Or.inr ⟨rfl, fun y => z (fun i hi => y i (by omega))⟩)
theorem m_word {tx : List Int32} (h13 : σ.1 13 = 0) (h8 : σ.1 6 = 2 → ∃ m : Nat, σ.1 8 = iI m ∧ m ≤ 8) (hl : tx.length ≤ 100) (hN : 100 ≤ N) : (isW σ tx → f_word N tx σ = some (1, σ)) ∧ (¬ isW σ tx → f_word N tx σ = some (0, σ)) := by
  unfold f_word f_word_26
  rw [p_let, if_pos h13, p_let]
  by_cases h6 : σ.1 6 = 2
  · obtain ⟨m, h8, hm⟩ := h8 h6
    rw [if_pos h6, p_let, p_let, h8, i_ofNat]
    by_cases cl : m = tx.length
    · obtain ⟨i1, i2⟩ := m_wd32 (N := N) (σ := σ) h8 hm cl N 0 1 (by omega) (by omega) (Or.inl ⟨rfl, fun i hi => by omega⟩)
      have i1 : (∀ i, i < m → σ.2.1 11 i = tx.getD i 0) → f_word_32 N tx N σ 1 0 = some (1, σ) := i1
      have i2 : ¬ (∀ i, i < m → σ.2.1 11 i = tx.getD i 0) → f_word_32 N tx N σ 1 0 = some (0, σ) := i2
      rw [p_eq (by omega) (by omega) (by omega) (by omega) (by omega)]
      constructor
      · rintro ⟨-, m', q1, q2, q3⟩
        have e : iI (m' : Int) = iI (m : Int) := q1.symm.trans h8
        rw [j_eq (by omega) (by omega) (by omega) (by omega)] at e
        have e' : m' = m := by omega
        subst e'
        exact i1 q3.2
      · intro z
        exact i2 (fun y => z ⟨h6, m, h8, hm, cl, y⟩)
    · rw [n_eq (by omega) (by omega) (by omega) (by omega) (by omega)]
      refine ⟨?_, fun _ => rfl⟩
      rintro ⟨-, m', q1, q2, q3⟩
      have e : iI (m' : Int) = iI (m : Int) := q1.symm.trans h8
      rw [j_eq (by omega) (by omega) (by omega) (by omega)] at e
      have := q3.1
      omega
  · rw [if_neg h6]
    exact ⟨fun z => absurd z.1 h6, fun _ => rfl⟩
theorem rCx.w8 (h : rCx b g lo rd tp n T U σ at') (h6 : σ.1 6 = 2) : ∃ m : Nat, σ.1 8 = iI m ∧ m ≤ 8 := by
  obtain ⟨⟨st, va, kr, wv, sg, c1, c2, c3, c4, c5⟩, -⟩ := h
  rcases c5 with z | z | ⟨-, -, -, wa, m, f, z⟩ | z | ⟨c, z1, z2, -⟩
  · rw [z.1] at h6
    exact absurd h6 (by decide)
  · rw [z.1] at h6
    exact absurd h6 (by decide)
  · exact ⟨m, z.2.2.1, z.2.2.2.2.1⟩
  · rw [z.1] at h6
    exact absurd h6 (by decide)
  · exfalso
    rw [z2] at h6
    unfold sgn at z1
    rw [show (2 : Int32) = iI 2 from rfl, j_eq (by omega) (by omega) (by omega) (by omega)] at h6
    omega
theorem k_word {tx : List Int32} (h : rCx b g lo rd tp n T U σ at') (hl : tx.length ≤ 100) (hN : 100 ≤ N) : (isW σ tx → f_word N tx σ = some (1, σ)) ∧ (¬ isW σ tx → f_word N tx σ = some (0, σ)) := m_word h.2.2.2.2.2.2.2.2.2.1 h.w8 hl hN
/-- the kinds apart -/
theorem k_kind (h : rCx b g lo rd tp n T U σ at') : ∃ (kr st : Nat) (va : Int32) (wv : Value) (sg : Int32), U.2.2 rd = some (.inr (4, [.ref tp, .int (iI n), .int (iI at'), .int (iI st), .int va, .ref kr, wv, .int sg])) ∧ σ.1 4 = iI st ∧ (σ.1 6 = 0 ↔ some kr = g.1 1) ∧ (σ.1 6 = 2 ↔ some kr = g.1 2) ∧ (σ.1 6 = 3 ↔ some kr = g.1 3) ∧ (some kr = g.1 4 ↔ ∃ c : Nat, sgn c ∧ σ.1 6 = iI c) ∧ (σ.1 6 = 2 → ∃ (wa m : Nat) (f : Nat → Int32), wv = .ref wa ∧ lo ≤ wa ∧ σ.1 8 = iI m ∧ 1 ≤ m ∧ m ≤ 8 ∧ vSt lo U wa m f ∧ ∀ k, k < m → f k = σ.2.1 11 k ∧ ∃ c : Nat, f k = iI c ∧ 97 ≤ c ∧ c ≤ 122) ∧ (σ.1 6 = 3 → ∃ q : Nat, va = iI q ∧ σ.1 7 = iI q ∧ q ≤ 9999) ∧ (∀ c : Nat, sgn c → (σ.1 6 = iI c ↔ (some kr = g.1 4 ∧ sg = iI c))) ∧ st ≤ n := by
  obtain ⟨⟨st, va, kr, wv, sg, c1, c2, c3, c4, c5⟩, -, -, -, hE, -⟩ := h
  have ne : ∀ {i j : Nat}, i < 9 → j < 9 → i ≠ j → g.1 i = some kr → ¬ some kr = g.1 j := fun hi hj hij e z => hE.ne hi hj hij (e.trans z)
  have sn : ∀ {c : Nat}, sgn c → iI (c : Int) ≠ 0 ∧ iI (c : Int) ≠ 2 ∧ iI (c : Int) ≠ 3 ∧ iI (c : Int) ≠ 1 := fun hc => by
    unfold sgn at hc
    refine ⟨?_, ?_, ?_, ?_⟩
    · show ¬ _ = _
      rw [j0, j_eq (by omega) (by omega) (by omega) (by omega)]
      omega
    · show ¬ _ = _
      rw [show (2 : Int32) = iI 2 from rfl, j_eq (by omega) (by omega) (by omega) (by omega)]
      omega
    · show ¬ _ = _
      rw [show (3 : Int32) = iI 3 from rfl, j_eq (by omega) (by omega) (by omega) (by omega)]
      omega
    · show ¬ _ = _
      rw [j1, j_eq (by omega) (by omega) (by omega) (by omega)]
      omega
  refine ⟨kr, st, va, wv, sg, c1, c2, ?_⟩
  rcases c5 with ⟨z1, z2⟩ | ⟨z1, z2⟩ | ⟨z1, z2, -, z3⟩ | ⟨z1, z2, -, z3⟩ | ⟨c, z0, z1, z2, -, z3⟩
  · rw [z1]
    exact ⟨⟨fun _ => z2.symm, fun _ => rfl⟩, ⟨fun y => absurd y (by decide), fun y => absurd y (ne (by decide) (by decide) (by decide) z2)⟩, ⟨fun y => absurd y (by decide), fun y => absurd y (ne (by decide) (by decide) (by decide) z2)⟩, ⟨fun y => absurd y (ne (by decide) (by decide) (by decide) z2), fun ⟨c, y1, y2⟩ => absurd y2.symm (sn y1).1⟩, fun y => absurd y (by decide), fun y => absurd y (by decide), fun c hc => ⟨fun y => absurd y.symm (sn hc).1, fun y => absurd y.1 (ne (by decide) (by decide) (by decide) z2)⟩, c3⟩
  · rw [z1]
    exact ⟨⟨fun y => absurd y (by decide), fun y => absurd y (ne (by decide) (by decide) (by decide) z2)⟩, ⟨fun y => absurd y (by decide), fun y => absurd y (ne (by decide) (by decide) (by decide) z2)⟩, ⟨fun y => absurd y (by decide), fun y => absurd y (ne (by decide) (by decide) (by decide) z2)⟩, ⟨fun y => absurd y (ne (by decide) (by decide) (by decide) z2), fun ⟨c, y1, y2⟩ => absurd y2.symm (sn y1).2.2.2⟩, fun y => absurd y (by decide), fun y => absurd y (by decide), fun c hc => ⟨fun y => absurd y.symm (sn hc).2.2.2, fun y => absurd y.1 (ne (by decide) (by decide) (by decide) z2)⟩, c3⟩
  · rw [z1]
    exact ⟨⟨fun y => absurd y (by decide), fun y => absurd y (ne (by decide) (by decide) (by decide) z2)⟩, ⟨fun _ => z2.symm, fun _ => rfl⟩, ⟨fun y => absurd y (by decide), fun y => absurd y (ne (by decide) (by decide) (by decide) z2)⟩, ⟨fun y => absurd y (ne (by decide) (by decide) (by decide) z2), fun ⟨c, y1, y2⟩ => absurd y2.symm (sn y1).2.1⟩, fun _ => z3, fun y => absurd y (by decide), fun c hc => ⟨fun y => absurd y.symm (sn hc).2.1, fun y => absurd y.1 (ne (by decide) (by decide) (by decide) z2)⟩, c3⟩
  · rw [z1]
    exact ⟨⟨fun y => absurd y (by decide), fun y => absurd y (ne (by decide) (by decide) (by decide) z2)⟩, ⟨fun y => absurd y (by decide), fun y => absurd y (ne (by decide) (by decide) (by decide) z2)⟩, ⟨fun _ => z2.symm, fun _ => rfl⟩, ⟨fun y => absurd y (ne (by decide) (by decide) (by decide) z2), fun ⟨c, y1, y2⟩ => absurd y2.symm (sn y1).2.2.1⟩, fun y => absurd y (by decide), fun _ => z3, fun c hc => ⟨fun y => absurd y.symm (sn hc).2.2.1, fun y => absurd y.1 (ne (by decide) (by decide) (by decide) z2)⟩, c3⟩
  · rw [z1]
    exact ⟨⟨fun y => absurd y (sn z0).1, fun y => absurd y (ne (by decide) (by decide) (by decide) z2)⟩, ⟨fun y => absurd y (sn z0).2.1, fun y => absurd y (ne (by decide) (by decide) (by decide) z2)⟩, ⟨fun y => absurd y (sn z0).2.2.1, fun y => absurd y (ne (by decide) (by decide) (by decide) z2)⟩, ⟨fun _ => ⟨c, z0, rfl⟩, fun _ => z2.symm⟩, fun y => absurd y (sn z0).2.1, fun y => absurd y (sn z0).2.2.1, fun c' hc => ⟨fun y => ⟨z2.symm, by rw [z3, y]⟩, fun y => by rw [← z3, y.2]⟩, c3⟩
theorem c_is (h : rCx b g lo rd tp n T U σ at') {j : Nat} (hj : j < 52) (hN : 1001 ≤ N) : (isW σ (pTx j) → f_X5_is N b g U rd (some (g.2.1 j)) = some (1, U)) ∧ (¬ isW σ (pTx j) → f_X5_is N b g U rd (some (g.2.1 j)) = some (0, U)) := by
  obtain ⟨kr, st, va, wv, sg, c1, c2, -, k2, -, -, w, -⟩ := k_kind h
  have hE : tEn b g U := h.2.2.2.2.1
  have pl : ∀ j, j < 52 → (pTx j).length ≤ 100 := by decide +kernel
  unfold f_X5_is f_X5_is_25 f_X5_is_26
  rw [v_gr c1 (k := 5) rfl, p_bs, p_let]
  by_cases h6 : σ.1 6 = 2
  · obtain ⟨wa, m, f, e1, e2, e3, e4, e5, e6, e7⟩ := w h6
    subst e1
    obtain ⟨v, hh, z, y1, y2, y3⟩ := id e6
    have lj := pl j hj
    obtain ⟨i1, i2⟩ := c_eqL (N := N) (b := b) (g := g) e6.g (hE.lit hj) (by omega) (by omega) hN
    rw [if_pos (k2.mp h6), v_gr c1 (k := 6) rfl, p_bs, p_bs, if_pos (v_is y1)]
    constructor
    · rintro ⟨-, m', q1, q2, q3⟩
      have e : iI (m' : Int) = iI (m : Int) := q1.symm.trans e3
      rw [j_eq (by omega) (by omega) (by omega) (by omega)] at e
      have e' : m' = m := by omega
      subst e'
      rw [i1 ⟨q3.1, fun k hk => (e7 k hk).1.trans (q3.2 k hk)⟩, q_uc, if_neg n10]
      rfl
    · intro q
      rw [i2 (fun y => q ⟨h6, m, e3, e5, y.1, fun k hk => (e7 k hk).1.symm.trans (y.2 k hk)⟩), q_uc, if_pos rfl]
      rfl
  · rw [if_neg (fun y => h6 (k2.mpr y))]
    exact ⟨fun q => absurd q.1 h6, fun _ => rfl⟩
theorem c_is2 (h : rCx b g lo rd tp n T U σ at') {c : Nat} (hc : sgn c) : (σ.1 6 = iI c → f_X5_is_2 N b g U rd (iI c) = some (1, U)) ∧ (¬ σ.1 6 = iI c → f_X5_is_2 N b g U rd (iI c) = some (0, U)) := by
  obtain ⟨kr, st, va, wv, sg, c1, c2, -, -, -, -, -, -, k4, -⟩ := k_kind h
  have k4 := k4 c hc
  unfold f_X5_is_2 f_X5_is_2_22 f_X5_is_2_23
  rw [v_gr c1 (k := 5) rfl, p_bs, p_let]
  constructor
  · intro q
    obtain ⟨z1, z2⟩ := k4.mp q
    rw [if_pos z1, v_gi c1 (k := 7) rfl, p_bs, if_pos z2]
    rfl
  · intro q
    by_cases z1 : some kr = g.1 4
    · rw [if_pos z1, v_gi c1 (k := 7) rfl, p_bs, if_neg (fun z2 => q (k4.mpr ⟨z1, z2⟩))]
      rfl
    · rw [if_neg z1]
      rfl
/-- a word, or a sign, is left -/
theorem k_skW (h : rCx b g lo rd tp n T U σ at') {j : Nat} (hj : j < 52) (hl : 2 ≤ (pTx j).length) (hN : 2000 ≤ N) : (isW σ (pTx j) → ∃ U' σ' at2, f_X5_skips N b g U rd (some (g.2.1 j)) = some (1, U') ∧ f_next N σ = some σ' ∧ rSt b g lo rd tp n T U σ at' U' σ' at2) ∧ (¬ isW σ (pTx j) → f_X5_skips N b g U rd (some (g.2.1 j)) = some (0, U)) := by
  have hE : tEn b g U := h.2.2.2.2.1
  have pl : ∀ j, j < 52 → (pTx j).length ≤ 100 := by decide +kernel
  have lj := pl j hj
  obtain ⟨v, hh, f, l1, l2, l3⟩ := hE.lit hj
  obtain ⟨kr, st, va, wv, sg, c1, c2, -⟩ := k_kind h
  have ln : f_J6_length N b g U (g.2.1 j) = some (iI ((pTx j).length : Int), U) := c_slen ⟨v, hh, 0, l1, l2⟩
  obtain ⟨i1, i2⟩ := c_is (N := N) h hj (by omega)
  unfold f_X5_skips f_X5_skips_25 f_X5_skips_34
  rw [p_bs, if_pos (v_is l1), ln, q_uc, j1, n_le (by omega) (by omega) (by omega) (by omega) (by omega), if_pos (v_is c1)]
  constructor
  · intro q
    obtain ⟨U', σ', at2, w1, w2, w3⟩ := k_go (N := N) h (by rw [q.1]; decide) hN
    refine ⟨U', σ', at2, ?_, w2, w3⟩
    rw [i1 q, q_uc, if_neg n10, if_pos (v_is c1), w1, p_bs]
    rfl
  · intro q
    rw [i2 q, q_uc, if_pos rfl]
    rfl
theorem k_skS (h : rCx b g lo rd tp n T U σ at') {j c : Nat} (hj : j < 52) (hl : pTx j = [iI c]) (hc : sgn c) (hN : 2000 ≤ N) : (σ.1 6 = iI c → ∃ U' σ' at2, f_X5_skips N b g U rd (some (g.2.1 j)) = some (1, U') ∧ f_next N σ = some σ' ∧ rSt b g lo rd tp n T U σ at' U' σ' at2) ∧ (¬ σ.1 6 = iI c → f_X5_skips N b g U rd (some (g.2.1 j)) = some (0, U)) := by
  have hE : tEn b g U := h.2.2.2.2.1
  obtain ⟨v, hh, f, l1, l2, l3⟩ := hE.lit hj
  rw [hl] at l2 l3
  obtain ⟨kr, st, va, wv, sg, c1, c2, -⟩ := k_kind h
  have ln : f_J6_length N b g U (g.2.1 j) = some (iI ((1 : Nat) : Int), U) := c_slen ⟨v, hh, 0, l1, l2⟩
  have cl : c < 128 := by
    unfold sgn at hc
    omega
  have ch : f_J6_charAt N b g U (g.2.1 j) 0 = some (iI c, U) := c_char (k := 0) (c := c) ⟨v, hh, 0, l1, l2⟩ (Nat.le_of_ble_eq_true rfl) (Nat.le_of_ble_eq_true rfl) (l3 0 (Nat.le_of_ble_eq_true rfl)) cl
  obtain ⟨i1, i2⟩ := c_is2 (N := N) h hc
  unfold f_X5_skips f_X5_skips_25 f_X5_skips_34
  rw [p_bs, if_pos (v_is l1), ln, q_uc, if_pos (show iI ((1 : Nat) : Int) ≤ 1 by decide), if_pos (v_is l1), ch, q_uc, if_pos (v_is c1)]
  constructor
  · intro q
    obtain ⟨U', σ', at2, w1, w2, w3⟩ := k_go (N := N) h (by
      unfold sgn at hc
      rw [q]
      refine ⟨?_, ?_⟩
      · show ¬ _ = _
        rw [j0, j_eq (by omega) (by omega) (by omega) (by omega)]
        omega
      · show ¬ _ = _
        rw [j1, j_eq (by omega) (by omega) (by omega) (by omega)]
        omega) hN
    refine ⟨U', σ', at2, ?_, w2, w3⟩
    rw [i1 q, q_uc, if_neg n10, if_pos (v_is c1), w1, p_bs]
    rfl
  · intro q
    rw [i2 q, q_uc, if_pos rfl]
    rfl
end I8s

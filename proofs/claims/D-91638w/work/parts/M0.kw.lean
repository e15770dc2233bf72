/-! PLAIN: what stays while a book is read -/
def rKw (lo : Nat) (W : Nat → Prop) (U U' : UH) : Prop := (∀ x, x < lo → U'.2.2 x = U.2.2 x) ∧ (∀ x, x < U.1 → ¬ W x → (∀ fs, U.2.2 x ≠ some (.inr (20, fs))) → U'.2.2 x = U.2.2 x) ∧ (∀ a m f, vSt lo U a m f → vSt lo U' a m f) ∧ uOld U' ∧ U.1 ≤ U'.1 ∧ U.2.1 ≤ U'.2.1
theorem rKp.w {lo rd : Nat} {W : Nat → Prop} {U U' : UH} (h : rKp lo rd U U') (hW : W rd) : rKw lo W U U' := ⟨h.1, fun x x1 x2 x3 => h.2.1 x x1 (fun e => x2 (by rw [e]; exact hW)) x3, h.2.2⟩
theorem rKw.refl {lo : Nat} {W : Nat → Prop} {U : UH} (h : uOld U) : rKw lo W U U := ⟨fun _ _ => rfl, fun _ _ _ _ => rfl, fun _ _ _ h => h, h, Nat.le_refl _, Nat.le_refl _⟩
theorem rKw.mono {lo : Nat} {W W' : Nat → Prop} {U U' : UH} (h : rKw lo W U U') (hW : ∀ x, x < U.1 → W x → W' x) : rKw lo W' U U' := ⟨h.1, fun x x1 x2 x3 => h.2.1 x x1 (fun e => x2 (hW x x1 e)) x3, h.2.2⟩
theorem rKw.trans {lo : Nat} {W : Nat → Prop} {U U' U'' : UH} (h : rKw lo W U U') (h' : rKw lo (fun x => W x ∨ U.1 ≤ x) U' U'') : rKw lo W U U'' := by
  obtain ⟨a1, a2, a3, a4, a5, a6⟩ := h
  obtain ⟨b1, b2, b3, b4, b5, b6⟩ := h'
  refine ⟨fun x hx => (b1 x hx).trans (a1 x hx), fun x x1 x2 x3 => ?_, fun a m f q => b3 a m f (a3 a m f q), b4, by omega, by omega⟩
  have e := a2 x x1 x2 x3
  rw [← e]
  exact b2 x (by omega) (fun q => by
    rcases q with q | q
    · exact x2 q
    · omega) (fun fs => by rw [e]; exact x3 fs)
/-- a cell of another sort is written -/
theorem rKw.wr {lo a : Nat} {W : Nat → Prop} {U U' : UH} {e : uE} (h : ∀ x, x ≠ a → U'.2.2 x = U.2.2 x) (hW : W a) (hl : lo ≤ a) (he : U.2.2 a = some e) (hn : (∃ c fs, e = .inr (c, fs) ∧ c ≠ 20) ∨ ∃ t k z, e = .inl (t, k, z) ∧ t ≠ 1) (ho : uOld U') (h1 : U'.1 = U.1) (h2 : U'.2.1 = U.2.1) : rKw lo W U U' := by
  refine ⟨fun x hx => h x (by omega), fun x _ x2 _ => h x (fun z => x2 (by rw [z]; exact hW)), fun a' m f q => ?_, ho, by omega, by omega⟩
  obtain ⟨v, hh, z, e1, e2, e3⟩ := q
  rcases hn with ⟨c, fs, q1, q2⟩ | ⟨t, k, z', q1, q2⟩
  · subst q1
    exact ⟨v, hh, z, (h a' (u_nrr e1 he (Ne.symm q2))).trans e1, (h v (u_nlr e2 he)).trans e2, e3⟩
  · subst q1
    exact ⟨v, hh, z, (h a' (Ne.symm (u_nlr he e1))).trans e1, (h v (u_nll e2 he (Or.inl (Ne.symm q2)))).trans e2, e3⟩
/-- new cells -/
theorem rKw.nw {lo : Nat} {W : Nat → Prop} {U U' : UH} (h : ∀ x, x < U.1 → U'.2.2 x = U.2.2 x) (hl : lo ≤ U.1) (ho : uOld U) (ho' : uOld U') (h1 : U.1 ≤ U'.1) (h2 : U.2.1 ≤ U'.2.1) : rKw lo W U U' := by
  refine ⟨fun x hx => h x (by omega), fun x x1 _ _ => h x x1, fun a' m f q => ?_, ho', h1, h2⟩
  obtain ⟨v, hh, z, e1, e2, e3⟩ := q
  exact ⟨v, hh, z, (h a' (ho _ _ e1)).trans e1, (h v (ho _ _ e2)).trans e2, e3⟩
section J0s
variable {N b : Nat} {g : uEnv} {lo rd tp n : Nat} {T : Nat → Nat} {U U' U'' : UH} {σ σ' σ'' : MS} {at' at2 at3 : Nat} {W : Nat → Prop}
theorem rKw.at {x c : Nat} {fs : List Value} (h : rKw lo W U U') (ho : uOld U) (hx : U.2.2 x = some (.inr (c, fs))) (hc : c ≠ 20) (hW : ¬ W x) : U'.2.2 x = some (.inr (c, fs)) := by
  rw [h.2.1 x (ho _ _ hx) hW (fun fs' z => by
    rw [hx] at z
    injection z with z
    injection z with z
    injection z with z _
    exact hc z)]
  exact hx
theorem rKw.ar {x t k : Nat} {z : uVs} (h : rKw lo W U U') (ho : uOld U) (hx : U.2.2 x = some (.inl (t, k, z))) (hW : ¬ W x) : U'.2.2 x = some (.inl (t, k, z)) := by
  rw [h.2.1 x (ho _ _ hx) hW (fun fs' y => by
    rw [hx] at y
    injection y with y
    cases y)]
  exact hx
theorem rCx.kw (h : rCx b g lo rd tp n T U σ at') (hk : rKw lo W U U') (hr : ¬ W rd) : rCx b g lo rd tp n T U' σ at' := by
  obtain ⟨⟨st, va, kr, wv, sg, c1, c2, c3, c4, c5⟩, ⟨ft, t1, t2⟩, h3, hn, hE, ho, hlo, hrd, hlU, h13, htp, h9⟩ := h
  have c1' : U.2.2 rd = some (.inr (4, [.ref tp, .int (iI n), .int (iI at'), .int (iI st), .int va, .ref kr, wv, .int sg])) := c1
  have d1 := hk.at ho c1' (by decide) hr
  have hlU' := hk.2.2.2.2.1
  refine ⟨⟨st, va, kr, wv, sg, d1, c2, c3, c4, ?_⟩, ⟨ft, (hk.1 tp htp).trans t1, t2⟩, h3, hn, hE.keep (fun x hx => hk.1 x (by omega)), hk.2.2.2.1, hlo, hrd, by omega, h13, htp, h9⟩
  rcases c5 with z | z | ⟨z1, z2, z3, wa, m2, f2, z4, z5, z6, z7, z8, z9, z10⟩ | z | z
  · exact Or.inl z
  · exact Or.inr (Or.inl z)
  · exact Or.inr (Or.inr (Or.inl ⟨z1, z2, z3, wa, m2, f2, z4, z5, z6, z7, z8, hk.2.2.1 _ _ _ z9, z10⟩))
  · exact Or.inr (Or.inr (Or.inr (Or.inl z)))
  · exact Or.inr (Or.inr (Or.inr (Or.inr z)))
theorem rCx.sg (h : rCx b g lo rd tp n T U σ at') (hf : ∀ k, (3 ≤ k ∧ k ≤ 9) ∨ k = 13 → σ'.1 k = σ.1 k) (h1 : σ'.2.1 1 = σ.2.1 1) (h11 : σ'.2.1 11 = σ.2.1 11) : rCx b g lo rd tp n T U σ' at' := by
  obtain ⟨⟨st, va, kr, wv, sg, c1, c2, c3, c4, c5⟩, ⟨ft, t1, t2⟩, h3, hn, hE, ho, hlo, hrd, hlU, h13, htp, h9⟩ := h
  have f3 := hf 3 (by omega)
  have f4 := hf 4 (by omega)
  have f5 := hf 5 (by omega)
  have f6 := hf 6 (by omega)
  have f7 := hf 7 (by omega)
  have f8 := hf 8 (by omega)
  have f13 := hf 13 (by omega)
  have f9 := hf 9 (by omega)
  refine ⟨⟨st, va, kr, wv, sg, c1, f4.trans c2, c3, c4, ?_⟩, ⟨ft, t1, ?_⟩, f3.trans h3, hn, hE, ho, hlo, hrd, hlU, f13.trans h13, htp, f9.trans h9⟩
  · rw [f6, f5, f7, f8, h11]
    exact c5
  · rw [h1]
    exact t2
end J0s
/-- fields but S, rows but R -/
def mSm (S R : Nat → Prop) (σ σ' : MS) : Prop := (∀ k, ¬ S k → σ'.1 k = σ.1 k) ∧ (∀ j, ¬ R j → σ'.2.1 j = σ.2.1 j) ∧ σ'.2.2 = σ.2.2 ∧ ∀ j, j ≠ 11 → ∀ i, mLen j ≤ i → σ'.2.1 j i = σ.2.1 j i
theorem mSm.refl {S R : Nat → Prop} {σ : MS} : mSm S R σ σ := ⟨fun _ _ => rfl, fun _ _ => rfl, rfl, fun _ _ _ _ => rfl⟩
theorem mSm.trans {S R : Nat → Prop} {σ σ' σ'' : MS} (h : mSm S R σ σ') (h' : mSm S R σ' σ'') : mSm S R σ σ'' := ⟨fun k q => (h'.1 k q).trans (h.1 k q), fun j q => (h'.2.1 j q).trans (h.2.1 j q), h'.2.2.1.trans h.2.2.1, fun j q i z => (h'.2.2.2 j q i z).trans (h.2.2.2 j q i z)⟩
theorem mSm.mono {S R S' R' : Nat → Prop} {σ σ' : MS} (h : mSm S R σ σ') (hS : ∀ k, S k → S' k) (hR : ∀ k, R k → R' k) : mSm S' R' σ σ' := ⟨fun k q => h.1 k (fun z => q (hS k z)), fun j q => h.2.1 j (fun z => q (hR j z)), h.2.2⟩
def tS (k : Nat) : Prop := (4 ≤ k ∧ k ≤ 10) ∨ k = 13
def tR (j : Nat) : Prop := j = 11
theorem mEk.b {σ σ' : MS} (h : mEk σ σ') : mSm tS tR σ σ' := ⟨fun k q => h.1 k (fun z => q (Or.inl z)) (fun z => q (Or.inr z)), fun j q => h.2.1 j q, h.2.2, fun j q i _ => by rw [h.2.1 j q]⟩
theorem mSm.arr {S R : Nat → Prop} {σ : MS} {j i : Nat} {x : Int32} (h : R j) (hi : i < mLen j) : mSm S R σ (mArr σ j i x) := ⟨fun _ _ => rfl, fun k q => by
  show (if k = j then _ else σ.2.1 k) = σ.2.1 k
  rw [if_neg (fun z => q (by rw [z]; exact h))], rfl, fun k _ i' z => by
  show (if k = j then upd (σ.2.1 j) i x else σ.2.1 k) i' = σ.2.1 k i'
  by_cases c : k = j
  · subst c
    rw [if_pos rfl]
    exact upd_n (by omega)
  · rw [if_neg c]⟩
theorem mSm.set {S R : Nat → Prop} {σ : MS} {i : Nat} {x : Int32} (h : S i) : mSm S R σ (mSet σ i x) := ⟨fun k q => by
  show upd σ.1 i x k = σ.1 k
  exact upd_n (fun z => q (by rw [z]; exact h)), fun _ _ => rfl, rfl, fun _ _ _ _ => rfl⟩
/-- a fault, in the whole -/
def rEx (lo : Nat) (S R : Nat → Prop) (cc ss : Nat) (U : UH) (σ : MS) (x : Nat) (U' : UH) (σ' : MS) : Prop := ∃ k p : Int32, vEx U' x k p ∧ σ'.1 13 = 1 ∧ σ'.1 9 = k ∧ σ'.1 10 = p ∧ mSm S R σ σ' ∧ (∀ y, y < lo → U'.2.2 y = U.2.2 y) ∧ uOld U' ∧ U.1 ≤ U'.1 ∧ U'.1 ≤ U.1 + cc ∧ U.2.1 ≤ U'.2.1 ∧ U'.2.1 ≤ U.2.1 + ss
theorem rEr.x {lo rd n : Nat} {U U' : UH} {σ σ' : MS} {at' x : Nat} (h : rEr lo rd n U σ at' x U' σ') : rEx lo tS tR (4 * (n - at') + 1) (32 * (n - at') + 8) U σ x U' σ' := by
  obtain ⟨k, p, h1, h2, h3, h4, h5, h6, h7, h8⟩ := h
  exact ⟨k, p, h1, h2, h3, h4, h5.b, h6.1, h6.2.2.2.1, h6.2.2.2.2.1, by omega, h6.2.2.2.2.2, by omega⟩
theorem rEx.aft {lo cc ss : Nat} {S R : Nat → Prop} {U U' U'' : UH} {σ σ' σ'' : MS} {x c1 s1 : Nat} (h : rEx lo S R c1 s1 U' σ' x U'' σ'') (hb : mSm S R σ σ') (hk : ∀ y, y < lo → U'.2.2 y = U.2.2 y) (h1 : U.1 ≤ U'.1) (h2 : U'.1 + c1 ≤ U.1 + cc) (h3 : U.2.1 ≤ U'.2.1) (h4 : U'.2.1 + s1 ≤ U.2.1 + ss) : rEx lo S R cc ss U σ x U'' σ'' := by
  obtain ⟨k, p, a1, a2, a3, a4, a5, a6, a7, a8, a9, a10, a11⟩ := h
  exact ⟨k, p, a1, a2, a3, a4, hb.trans a5, fun y hy => (a6 y hy).trans (hk y hy), a7, by omega, by omega, by omega, by omega⟩
theorem rEx.mono {lo cc ss cc' ss' : Nat} {S R S' R' : Nat → Prop} {U U' : UH} {σ σ' : MS} {x : Nat} (h : rEx lo S R cc ss U σ x U' σ') (hS : ∀ k, S k → S' k) (hR : ∀ k, R k → R' k) (h1 : cc ≤ cc') (h2 : ss ≤ ss') : rEx lo S' R' cc' ss' U σ x U' σ' := by
  obtain ⟨k, p, a1, a2, a3, a4, a5, a6, a7, a8, a9, a10, a11⟩ := h
  exact ⟨k, p, a1, a2, a3, a4, a5.mono hS hR, a6, a7, a8, by omega, a10, by omega⟩
/-- the model behind a fault: it goes on without doing anything -/
theorem m_numE {N : Nat} {σ : MS} {a c : Int32} (h : σ.1 13 = 1) : f_number N σ a c = some (a, σ) := by
  unfold f_number
  rw [if_neg (show ¬ σ.1 13 = 0 by rw [h]; decide)]
theorem m_mustE {N : Nat} {σ : MS} {tx : List Int32} (h : σ.1 13 = 1) : f_must N tx σ = some (0, σ) := by
  unfold f_must
  rw [p_let, if_neg (show ¬ σ.1 13 = 0 by rw [h]; decide)]
theorem m_sgnE {N : Nat} {σ : MS} {a c : Int32} (h : σ.1 13 = 1) : f_signed N σ a c = some (0, σ) := by
  unfold f_signed
  rw [if_neg (show ¬ σ.1 13 = 0 by rw [h]; decide)]
theorem m_prsE {N : Nat} {σ : MS} {j : Nat} {x : Int32} (h : σ.1 13 = 1) (hN : 1 ≤ N) : f_pairs N j σ x = some (0, σ) := by
  obtain ⟨m, rfl⟩ : ∃ m, N = m + 1 := ⟨N - 1, by omega⟩
  unfold f_pairs f_pairs_14
  rw [if_neg (show ¬ σ.1 13 = 0 by rw [h]; decide), f_pairs_16, if_pos rfl]
theorem m_pe {N j : Nat} {k16 : MS → Int32 → Int32 → Int32 → Option (Int32 × MS)} {σ : MS} {x2 x3 x5 x8 : Int32} (h : σ.1 13 = 1) : f_pairs_116 N j k16 σ x2 x3 x5 x8 = some (x3, σ) := by
  have n13 : ¬ σ.1 13 = 0 := by
    rw [h]
    decide
  have e : f_pairs_150 N j k16 σ x2 x3 x5 x8 = some (x3, σ) := by
    unfold f_pairs_150 f_pairs_151 f_pairs_164
    rw [m_numE h, m_numE h, q_mc, if_neg n13]
    split <;> rfl
  unfold f_pairs_116
  rw [e, if_neg n13]
  split
  · rfl
  · split <;> rfl

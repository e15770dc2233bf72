/-! PLAIN: the class's cells: what is written, what is read; lists -/
theorem u_ss {u : UH} {a : Nat} {e : uE} : (uSet u a e).2.2 a = some e := by
  show (if a = a then some e else u.2.2 a) = some e
  rw [if_pos rfl]
theorem u_sn {u : UH} {a c : Nat} {e : uE} (h : c ≠ a) : (uSet u a e).2.2 c = u.2.2 c := by
  show (if c = a then some e else u.2.2 c) = u.2.2 c
  rw [if_neg h]
theorem u_s2 {u : UH} {a : Nat} {e e' : uE} : uSet (uSet u a e) a e' = uSet u a e' := by
  have h : (uSet (uSet u a e) a e').2.2 = (uSet u a e').2.2 := by
    funext c
    by_cases hc : c = a
    · rw [hc, u_ss, u_ss]
    · rw [u_sn hc, u_sn hc, u_sn hc]
  exact Prod.ext rfl (Prod.ext rfl h)
theorem u_se {u : UH} {a : Nat} {e : uE} (h : u.2.2 a = some e) : uSet u a e = u := by
  have h : (uSet u a e).2.2 = u.2.2 := by
    funext c
    by_cases hc : c = a
    · rw [hc, u_ss, h]
    · rw [u_sn hc]
  exact Prod.ext rfl (Prod.ext rfl h)
theorem u_pw {b : Nat} {u : UH} {a c k : Nat} {v : Value} {fs : List Value} (h : u.2.2 a = some (.inr (c, fs))) (hb : b ≤ a) (hk : k < fs.length) : uPut b u a c k v = some (uSet u a (.inr (c, fs.set k v))) := by
  unfold uPut
  rw [h]
  show (if c = c ∧ b ≤ a ∧ k < fs.length then some (uSet u a (.inr (c, fs.set k v))) else none) = _
  rw [if_pos ⟨rfl, hb, hk⟩]
theorem u_stI {b : Nat} {u : UH} {a t n : Nat} {f : Nat → Int32} {i : Int} {x : Int32} (h : u.2.2 a = some (.inl (t, n, .inl f))) (hb : b ≤ a) (h0 : 0 ≤ i) (h1 : i < (n : Int)) (h2 : i ≤ 2147483647) : uStI b u a t (iI i) x = some (uSet u a (.inl (t, n, .inl (upd f i.toNat x)))) := by
  unfold uStI
  rw [h]
  show (if t = t ∧ b ≤ a ∧ mIn (iI i) n = true then some (uSet u a (.inl (t, n, .inl (upd f (iI i).toNatClampNeg x)))) else none) = _
  rw [if_pos ⟨rfl, hb, ki_in h0 h1 h2⟩, j_nat h0 h2]
theorem u_stL {b : Nat} {u : UH} {a t n : Nat} {f : Nat → Int64} {i : Int} {x : Int64} (h : u.2.2 a = some (.inl (t, n, .inr (.inl f)))) (hb : b ≤ a) (h0 : 0 ≤ i) (h1 : i < (n : Int)) (h2 : i ≤ 2147483647) : uStL b u a t (iI i) x = some (uSet u a (.inl (t, n, .inr (.inl (vp_updL f i.toNat x))))) := by
  unfold uStL
  rw [h]
  show (if t = t ∧ b ≤ a ∧ mIn (iI i) n = true then some (uSet u a (.inl (t, n, .inr (.inl (vp_updL f (iI i).toNatClampNeg x))))) else none) = _
  rw [if_pos ⟨rfl, hb, ki_in h0 h1 h2⟩, j_nat h0 h2]
theorem u_stR {b : Nat} {u : UH} {a t n : Nat} {f : Nat → Option Nat} {i : Int} {x : Option Nat} (h : u.2.2 a = some (.inl (t, n, .inr (.inr (.inr (.inr f)))))) (hb : b ≤ a) (h0 : 0 ≤ i) (h1 : i < (n : Int)) (h2 : i ≤ 2147483647) : uStR b u a t (iI i) x = some (uSet u a (.inl (t, n, .inr (.inr (.inr (.inr (va_up f i.toNat x))))))) := by
  unfold uStR
  rw [h]
  show (if t = t ∧ b ≤ a ∧ mIn (iI i) n = true then some (uSet u a (.inl (t, n, .inr (.inr (.inr (.inr (va_up f (iI i).toNatClampNeg x))))))) else none) = _
  rw [if_pos ⟨rfl, hb, ki_in h0 h1 h2⟩, j_nat h0 h2]
theorem u_ldI {u : UH} {a t n : Nat} {f : Nat → Int32} {i : Int} (h : u.2.2 a = some (.inl (t, n, .inl f))) (h0 : 0 ≤ i) (h1 : i < (n : Int)) (h2 : i ≤ 2147483647) : uLdI u a t (iI i) = some (f i.toNat) := v_ld h ⟨by omega, h2⟩ h0 h1
theorem u_ldL {u : UH} {a t n : Nat} {f : Nat → Int64} {i : Int} (h : u.2.2 a = some (.inl (t, n, .inr (.inl f)))) (h0 : 0 ≤ i) (h1 : i < (n : Int)) (h2 : i ≤ 2147483647) : uLdL u a t (iI i) = some (f i.toNat) := by
  unfold uLdL
  rw [h]
  show (if t = t ∧ mIn (iI i) n = true then some (f (iI i).toNatClampNeg) else none) = _
  rw [if_pos ⟨rfl, ki_in h0 h1 h2⟩, j_nat h0 h2]
theorem u_ldR {u : UH} {a t n : Nat} {f : Nat → Option Nat} {i : Int} (h : u.2.2 a = some (.inl (t, n, .inr (.inr (.inr (.inr f)))))) (h0 : 0 ≤ i) (h1 : i < (n : Int)) (h2 : i ≤ 2147483647) : uLdR u a t (iI i) = some (f i.toNat) := by
  unfold uLdR
  rw [h]
  show (if t = t ∧ mIn (iI i) n = true then some (f (iI i).toNatClampNeg) else none) = _
  rw [if_pos ⟨rfl, ki_in h0 h1 h2⟩, j_nat h0 h2]
theorem u_len {u : UH} {a t n : Nat} {vs : uVs} (h : u.2.2 a = some (.inl (t, n, vs))) : uLen u a t = some (iI n) := by
  unfold uLen
  rw [h]
  show (if t = t then some (Int32.ofNat n) else none) = _
  rw [if_pos rfl, i_ofNat]
/-- the cells that are not ours, and those from lo up to hi -/
def vIn (b lo hi x : Nat) : Prop := x < b ∨ (lo ≤ x ∧ x < hi)
/-- the same cells there -/
def uSame (b lo hi : Nat) (u u' : UH) : Prop := ∀ x, vIn b lo hi x → u'.2.2 x = u.2.2 x
theorem uSame.refl {b lo hi : Nat} {u : UH} : uSame b lo hi u u := fun _ _ => rfl
theorem uSame.trans {b lo hi : Nat} {u v w : UH} (h1 : uSame b lo hi u v) (h2 : uSame b lo hi v w) : uSame b lo hi u w := fun x a => (h2 x a).trans (h1 x a)
theorem uSame.set {b lo hi : Nat} {u : UH} {a : Nat} {e : uE} (hb : b ≤ a) (h : a < lo ∨ hi ≤ a) : uSame b lo hi u (uSet u a e) := fun x h1 => u_sn (by unfold vIn at h1; omega)
theorem uSame.new {b lo hi : Nat} {u : UH} {n : Nat} {e : uE} (hb : b ≤ u.1) (h : hi ≤ u.1) : uSame b lo hi u (uNew u n e) := fun x h1 => by
  show (if x = u.1 then some e else u.2.2 x) = u.2.2 x
  unfold vIn at h1
  rw [if_neg (by omega)]
/-- a list of n things in an array of m -/
def vLs (u : UH) (a arr n m : Nat) (mc : Int32) (xs : Nat → Option Nat) : Prop := u.2.2 a = some (.inr (18, [.int mc, .ref arr, .int (iI n)])) ∧ u.2.2 arr = some (.inl (4, m, .inr (.inr (.inr (.inr xs))))) ∧ n ≤ m ∧ m ≤ 1000000
theorem l_chk {N b : Nat} {g : uEnv} {u : UH} {k n : Int} (h0 : 0 ≤ k) (h1 : k < n) (h2 : n ≤ 2147483647) : f_J16_checkIndex N b g u (iI k) (iI n) = some (iI k, u) := by
  unfold f_J16_checkIndex f_J12_checkIndex
  rw [j0, n_lt (by omega) (by omega) (by omega) (by omega) (by omega), p_lt (by omega) (by omega) (by omega) (by omega) (by omega), q_uc]
theorem l_size {N b : Nat} {g : uEnv} {u : UH} {a arr n m : Nat} {mc : Int32} {xs : Nat → Option Nat} (h : vLs u a arr n m mc xs) : f_J2_size N b g u a = some (iI n, u) := by
  unfold f_J2_size
  rw [v_gi h.1 rfl, p_bs]
theorem l_get {N b : Nat} {g : uEnv} {u : UH} {a arr n m : Nat} {mc : Int32} {xs : Nat → Option Nat} {k : Int} (h : vLs u a arr n m mc xs) (h0 : 0 ≤ k) (h1 : k < (n : Int)) : f_J2_get N b g u a (iI k) = some (xs k.toNat, u) := by
  obtain ⟨e1, e2, e3, e4⟩ := h
  unfold f_J2_get
  rw [v_gi e1 rfl, p_bs, l_chk h0 h1 (by omega), q_uc, if_pos (v_is e1)]
  unfold f_J2_elementData
  rw [v_gr e1 rfl, p_bs, p_bs, u_ldR e2 h0 (by omega) (by omega), p_bs, q_uc]
theorem vLs.same {b lo hi : Nat} {u u' : UH} {a arr n m : Nat} {mc : Int32} {xs : Nat → Option Nat} (h : vLs u a arr n m mc xs) (hs : uSame b lo hi u u') (h1 : vIn b lo hi a) (h2 : vIn b lo hi arr) : vLs u' a arr n m mc xs := ⟨(hs a h1).trans h.1, (hs arr h2).trans h.2.1, h.2.2⟩
/-- a line in the heap, between lo and hi -/
def vLi (u : UH) (b lo hi a n : Nat) (at_ v : Nat → Int) : Prop := ∃ (p1 p2 : Nat) (f1 f2 : Nat → Int32), vIn b lo hi a ∧ vIn b lo hi p1 ∧ vIn b lo hi p2 ∧ u.2.2 a = some (.inr (7, [.ref p1, .ref p2, .int (iI n)])) ∧ u.2.2 p1 = some (.inl (0, 4, .inl f1)) ∧ u.2.2 p2 = some (.inl (0, 4, .inl f2)) ∧ ∀ k, k < n → f1 k = iI (at_ k) ∧ f2 k = iI (v k)
theorem vLi.ln {u : UH} {b lo hi a n : Nat} {at_ v : Nat → Int} (h : vLi u b lo hi a n at_ v) : vLn u a n at_ v := by
  obtain ⟨p1, p2, f1, f2, -, -, -, h1, h2, h3, h4⟩ := h
  exact ⟨p1, p2, f1, f2, h1, h2, h3, h4⟩
theorem vLi.same {u u' : UH} {b lo hi a n : Nat} {at_ v : Nat → Int} (h : vLi u b lo hi a n at_ v) (hs : uSame b lo hi u u') : vLi u' b lo hi a n at_ v := by
  obtain ⟨p1, p2, f1, f2, a1, a2, a3, h1, h2, h3, h4⟩ := h
  exact ⟨p1, p2, f1, f2, a1, a2, a3, (hs _ a1).trans h1, (hs _ a2).trans h2, (hs _ a3).trans h3, h4⟩
/-- grounds of a book: (name, sinks, grips) by their places -/
def vGr (u : UH) (b lo hi a nm : Nat) (s g : bLn) : Prop := ∃ (p q : Nat), vIn b lo hi a ∧ u.2.2 a = some (.inr (5, [.ref nm, .ref p, .ref q])) ∧ vLi u b lo hi p s.1 s.2.1 s.2.2 ∧ vLi u b lo hi q g.1 g.2.1 g.2.2
theorem vGr.same {u u' : UH} {b lo hi a nm : Nat} {s g : bLn} (h : vGr u b lo hi a nm s g) (hs : uSame b lo hi u u') : vGr u' b lo hi a nm s g := by
  obtain ⟨p, q, a1, h1, h2, h3⟩ := h
  exact ⟨p, q, a1, (hs _ a1).trans h1, h2.same hs, h3.same hs⟩
/-- a book in the heap, between lo and hi: the list of attempts at al; rv: has a rover; nm: names of grounds -/
def vBk (u : UH) (b lo hi a al : Nat) (rv : Int32) (nm : Nat → Nat) (B : bBk) : Prop := ∃ (gl arr m : Nat) (mc : Int32) (ga : Nat → Nat) (xs : Nat → Option Nat), vIn b lo hi a ∧ vIn b lo hi gl ∧ vIn b lo hi arr ∧ u.2.2 a = some (.inr (3, [.ref gl, .ref al, .int rv, .int (iI (B.1 0)), .int (iI (B.1 1)), .int (iI (B.1 2)), .int (iI (B.1 3)), .int (iI (B.1 4))])) ∧ vLs u gl arr B.2.1 m mc xs ∧ ∀ d, d < B.2.1 → xs d = some (ga d) ∧ vGr u b lo hi (ga d) (nm d) (B.2.2.1 d) (B.2.2.2 d)
theorem vBk.same {u u' : UH} {b lo hi a al : Nat} {rv : Int32} {nm : Nat → Nat} {B : bBk} (h : vBk u b lo hi a al rv nm B) (hs : uSame b lo hi u u') : vBk u' b lo hi a al rv nm B := by
  obtain ⟨gl, arr, m, mc, ga, xs, a1, a2, a3, h1, h2, h3⟩ := h
  exact ⟨gl, arr, m, mc, ga, xs, a1, a2, a3, (hs _ a1).trans h1, h2.same hs a2 a3, fun d hd => ⟨(h3 d hd).1, (h3 d hd).2.same hs⟩⟩

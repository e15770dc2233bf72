/-! PLAIN: what the steps of a plan leave behind -/
theorem tEn.ls0 {b : Nat} {g : uEnv} {U : UH} (h : tEn b g U) : ∃ (v : Nat) (f : Nat → Option Nat), g.1 10 = some v ∧ v < b ∧ U.2.2 v = some (.inl (4, 0, .inr (.inr (.inr (.inr f))))) := by
  obtain ⟨u0, sc, L, sx, hu, hk⟩ := h
  obtain ⟨-, -, -, -, -, ⟨v, f, e1, e2⟩, -, -, -, -, -, hb⟩ := hu
  have lv := hb v _ e2
  exact ⟨v, f, e1, lv, (hk v lv).trans e2⟩
theorem tEn.mi {b : Nat} {g : uEnv} {U : UH} (h : tEn b g U) : ∃ mi, g.1 20 = some mi := by
  obtain ⟨u0, sc, L, sx, hu, hk⟩ := h
  obtain ⟨-, -, -, -, -, -, -, -, -, -, hm, -⟩ := hu
  exact hm
theorem u_df13 : uDefs tyX13 4 = [.int 0, .int 0, .null, .null] := by rfl
/-- a list whose cells are among F -/
def bLf (b : Nat) (F : Nat → Prop) (g : uEnv) (U : UH) (gl arr n m : Nat) (mc : Int32) (xs : Nat → Option Nat) : Prop := vLs U gl arr n m mc xs ∧ F gl ∧ (m = 0 → g.1 10 = some arr ∧ arr < b) ∧ (m ≠ 0 → F arr)
/-- orders k0 .. k1 and a plan's list, all of it among F -/
def vPf (b : Nat) (F : Nat → Prop) (g : uEnv) (U : UH) (od : Nat → Int32) (nD nG : Nat) : Nat → Nat → Nat → Nat → Prop
  | 0, _, _, _ => False
  | n + 1, a, k0, k1 => ∃ (arr cnt m : Nat) (mc : Int32) (xs : Nat → Option Nat) (ks ea : Nat → Nat), bLf b F g U a arr cnt m mc xs ∧ ks 0 = k0 ∧ ks cnt = k1 ∧ ∀ i, i < cnt → (xs i = some (ea i) ∧ F (ea i) ∧ k0 ≤ ks i ∧ ks i < ks (i + 1) ∧ ks (i + 1) ≤ k1) ∧ ((∃ (wy y t : Nat), U.2.2 (ea i) = some (.inr (10, [.ref wy, .int (iI t)])) ∧ uWay g wy = some y ∧ y < 4 ∧ 1 ≤ t ∧ t ≤ 9 ∧ od (4 * ks i) = 0 ∧ od (4 * ks i + 1) = iI y ∧ od (4 * ks i + 2) = iI t ∧ ks (i + 1) = ks i + 1) ∨ (∃ (d gr th ot k2 : Nat), U.2.2 (ea i) = some (.inr (11, [.int (iI d), .int (iI gr), .ref th, .ref ot])) ∧ d < nD ∧ gr < nG ∧ od (4 * ks i) = 1 ∧ od (4 * ks i + 1) = iI d ∧ od (4 * ks i + 2) = iI gr ∧ (ks i + 1 ≤ k2 ∧ k2 ≤ ks (i + 1)) ∧ vPf b F g U od nD nG n th (ks i + 1) k2 ∧ ((od (4 * ks i + 3) = iI k2 ∧ ks (i + 1) = k2 ∧ ∃ (arr' m' : Nat) (mc' : Int32) (xs' : Nat → Option Nat), bLf b F g U ot arr' 0 m' mc' xs') ∨ (od (4 * ks i + 3) = iI ((k2 + 1 : Nat) : Int) ∧ od (4 * k2) = 2 ∧ od (4 * k2 + 3) = iI (ks (i + 1)) ∧ k2 < ks (i + 1) ∧ vPf b F g U od nD nG n ot (k2 + 1) (ks (i + 1))))))
/-- one step of a plan against its orders ka .. kb -/
def vEl (b : Nat) (F : Nat → Prop) (g : uEnv) (U : UH) (od : Nat → Int32) (nD nG n ea ka kb : Nat) : Prop := (∃ (wy y t : Nat), U.2.2 ea = some (.inr (10, [.ref wy, .int (iI t)])) ∧ uWay g wy = some y ∧ y < 4 ∧ 1 ≤ t ∧ t ≤ 9 ∧ od (4 * ka) = 0 ∧ od (4 * ka + 1) = iI y ∧ od (4 * ka + 2) = iI t ∧ kb = ka + 1) ∨ (∃ (d gr th ot k2 : Nat), U.2.2 ea = some (.inr (11, [.int (iI d), .int (iI gr), .ref th, .ref ot])) ∧ d < nD ∧ gr < nG ∧ od (4 * ka) = 1 ∧ od (4 * ka + 1) = iI d ∧ od (4 * ka + 2) = iI gr ∧ (ka + 1 ≤ k2 ∧ k2 ≤ kb) ∧ vPf b F g U od nD nG n th (ka + 1) k2 ∧ ((od (4 * ka + 3) = iI k2 ∧ kb = k2 ∧ ∃ (arr' m' : Nat) (mc' : Int32) (xs' : Nat → Option Nat), bLf b F g U ot arr' 0 m' mc' xs') ∨ (od (4 * ka + 3) = iI ((k2 + 1 : Nat) : Int) ∧ od (4 * k2) = 2 ∧ od (4 * k2 + 3) = iI kb ∧ k2 < kb ∧ vPf b F g U od nD nG n ot (k2 + 1) kb)))
/-- cells of plans that stay -/
def kF (b : Nat) (F : Nat → Prop) (U U' : UH) : Prop := (∀ x c fs, F x → U.2.2 x = some (.inr (c, fs)) → c = 10 ∨ c = 11 ∨ c = 18 → U'.2.2 x = some (.inr (c, fs))) ∧ ∀ x k z, F x ∨ x < b → U.2.2 x = some (.inl (4, k, z)) → U'.2.2 x = some (.inl (4, k, z))
theorem kF.trans {b : Nat} {F : Nat → Prop} {U U' U'' : UH} (h : kF b F U U') (h' : kF b F U' U'') : kF b F U U'' := ⟨fun x c fs f e z => h'.1 x c fs f (h.1 x c fs f e z) z, fun x k z f e => h'.2 x k z f (h.2 x k z f e)⟩
theorem bLf.p2 {b : Nat} {F F' : Nat → Prop} {g : uEnv} {U U' : UH} {gl arr n m : Nat} {mc : Int32} {xs : Nat → Option Nat} (h : bLf b F g U gl arr n m mc xs) (hk : kF b F U U') (hF : ∀ x, F x → F' x) : bLf b F' g U' gl arr n m mc xs := by
  obtain ⟨⟨h1, h2, h3⟩, h4, h5, h6⟩ := h
  refine ⟨⟨hk.1 _ _ _ h4 h1 (by decide), hk.2 _ _ _ ?_ h2, h3⟩, hF _ h4, h5, fun q => hF _ (h6 q)⟩
  by_cases c : m = 0
  · exact Or.inr (h5 c).2
  · exact Or.inl (h6 c)
theorem vPf.p2 {b : Nat} {F F' : Nat → Prop} {g : uEnv} {U U' : UH} {nD nG : Nat} {od : Nat → Int32} (hk : kF b F U U') (hF : ∀ x, F x → F' x) : ∀ (n a k0 k1 : Nat), vPf b F g U od nD nG n a k0 k1 → vPf b F' g U' od nD nG n a k0 k1 := by
  intro n
  induction n with
  | zero => intro a k0 k1 h; exact h
  | succ n ih =>
    intro a k0 k1 h
    obtain ⟨arr, cnt, m, mc, xs, ks, ea, h1, h2, h3, h4⟩ := h
    refine ⟨arr, cnt, m, mc, xs, ks, ea, h1.p2 hk hF, h2, h3, fun i hi => ?_⟩
    obtain ⟨⟨e1, e2, e3⟩, e6⟩ := h4 i hi
    refine ⟨⟨e1, hF _ e2, e3⟩, ?_⟩
    rcases e6 with ⟨wy, y, t, q1, q2⟩ | ⟨d, gr, th, ot, k2, q1, q2, q3, q4, q5, q6, q7, q8, q9⟩
    · exact Or.inl ⟨wy, y, t, hk.1 _ _ _ e2 q1 (by decide), q2⟩
    · refine Or.inr ⟨d, gr, th, ot, k2, hk.1 _ _ _ e2 q1 (by decide), q2, q3, q4, q5, q6, q7, ih _ _ _ q8, ?_⟩
      rcases q9 with ⟨w1, w2, arr', m', mc', xs', w3⟩ | ⟨w1, w2, w3, w3', w4⟩
      · exact Or.inl ⟨w1, w2, arr', m', mc', xs', w3.p2 hk hF⟩
      · exact Or.inr ⟨w1, w2, w3, w3', ih _ _ _ w4⟩
theorem vPf.od {b : Nat} {F : Nat → Prop} {g : uEnv} {U : UH} {nD nG : Nat} {od od' : Nat → Int32} : ∀ (n a k0 k1 : Nat), vPf b F g U od nD nG n a k0 k1 → (∀ i, 4 * k0 ≤ i → i < 4 * k1 → od' i = od i) → vPf b F g U od' nD nG n a k0 k1 := by
  intro n
  induction n with
  | zero => intro a k0 k1 h; exact h.elim
  | succ n ih =>
    intro a k0 k1 h ho
    obtain ⟨arr, cnt, m, mc, xs, ks, ea, h1, h2, h3, h4⟩ := h
    refine ⟨arr, cnt, m, mc, xs, ks, ea, h1, h2, h3, fun i hi => ?_⟩
    obtain ⟨⟨e1, e2, e3, e4, e5⟩, e6⟩ := h4 i hi
    refine ⟨⟨e1, e2, e3, e4, e5⟩, ?_⟩
    have o : ∀ c, c < 4 → od' (4 * ks i + c) = od (4 * ks i + c) := fun c hc => ho _ (by omega) (by omega)
    have o0 : od' (4 * ks i) = od (4 * ks i) := o 0 (by omega)
    rcases e6 with ⟨wy, y, t, q1, q2, q3, q4, q5, q6, q7, q8, q9⟩ | ⟨d, gr, th, ot, k2, q1, q2, q3, q4, q5, q6, ⟨q7, q7'⟩, q8, q9⟩
    · exact Or.inl ⟨wy, y, t, q1, q2, q3, q4, q5, o0.trans q6, (o 1 (by omega)).trans q7, (o 2 (by omega)).trans q8, q9⟩
    · refine Or.inr ⟨d, gr, th, ot, k2, q1, q2, q3, o0.trans q4, (o 1 (by omega)).trans q5, (o 2 (by omega)).trans q6, ⟨q7, q7'⟩, ih _ _ _ q8 (fun j j1 j2 => ho j (by omega) (by omega)), ?_⟩
      rcases q9 with ⟨w1, w2⟩ | ⟨w1, w2, w3, w3', w4⟩
      · exact Or.inl ⟨(o 3 (by omega)).trans w1, w2⟩
      · refine Or.inr ⟨(o 3 (by omega)).trans w1, (ho _ (by omega) (by omega)).trans w2, (ho _ (by omega) (by omega)).trans w3, w3', ih _ _ _ w4 (fun j j1 j2 => ho j (by omega) (by omega))⟩
theorem vPf.up {b : Nat} {F : Nat → Prop} {g : uEnv} {U : UH} {nD nG : Nat} {od : Nat → Int32} : ∀ (n a k0 k1 : Nat), vPf b F g U od nD nG n a k0 k1 → vPf b F g U od nD nG (n + 1) a k0 k1 := by
  intro n
  induction n with
  | zero => intro a k0 k1 h; exact h.elim
  | succ n ih =>
    intro a k0 k1 h
    obtain ⟨arr, cnt, m, mc, xs, ks, ea, h1, h2, h3, h4⟩ := h
    refine ⟨arr, cnt, m, mc, xs, ks, ea, h1, h2, h3, fun i hi => ?_⟩
    obtain ⟨e1, e6⟩ := h4 i hi
    refine ⟨e1, ?_⟩
    rcases e6 with q | ⟨d, gr, th, ot, k2, q1, q2, q3, q4, q5, q6, q7, q8, q9⟩
    · exact Or.inl q
    · refine Or.inr ⟨d, gr, th, ot, k2, q1, q2, q3, q4, q5, q6, q7, ih _ _ _ q8, ?_⟩
      rcases q9 with w | ⟨w1, w2, w3, w3', w4⟩
      · exact Or.inl w
      · exact Or.inr ⟨w1, w2, w3, w3', ih _ _ _ w4⟩
theorem vPf.vPl {b : Nat} {F : Nat → Prop} {g : uEnv} {U : UH} {nD nG : Nat} {od : Nat → Int32} {lab : Nat → Nat} (hb : ∀ x, x < b → lab x = 0) (hl : ∀ x, F x → lab x = 12) : ∀ (n a k0 k1 : Nat), vPf b F g U od nD nG n a k0 k1 → vPl g U lab od nD nG n a k0 k1 := by
  have ls : ∀ {a arr cnt m : Nat} {mc : Int32} {xs : Nat → Option Nat}, bLf b F g U a arr cnt m mc xs → qLs g U lab 12 a arr cnt m mc xs := fun h => by
    obtain ⟨⟨h1, h2, h3⟩, h4, h5, h6⟩ := h
    exact ⟨⟨h1, h2, h3⟩, hl _ h4, fun z => ⟨(h5 z).1, hb _ (h5 z).2⟩, fun z => hl _ (h6 z)⟩
  intro n
  induction n with
  | zero => intro a k0 k1 h; exact h
  | succ n ih =>
    intro a k0 k1 h
    obtain ⟨arr, cnt, m, mc, xs, ks, ea, h1, h2, h3, h4⟩ := h
    refine ⟨arr, cnt, m, mc, xs, ks, ea, ls h1, h2, h3, fun i hi => ?_⟩
    obtain ⟨⟨e1, e2, -⟩, e6⟩ := h4 i hi
    rcases e6 with ⟨wy, y, t, q1, q2⟩ | ⟨d, gr, th, ot, k2, q1, q2, q3, q4, q5, q6, q7, q8, q9⟩
    · exact ⟨e1, hl _ e2, Or.inl ⟨wy, y, t, q1, q2⟩⟩
    · refine ⟨e1, hl _ e2, Or.inr ⟨d, gr, th, ot, k2, q1, q2, q3, q4, q5, q6, ih _ _ _ q8, ?_⟩⟩
      rcases q9 with ⟨w1, w2, arr', m', mc', xs', w3⟩ | ⟨w1, w2, w3, w3', w4⟩
      · exact Or.inl ⟨w1, w2, arr', m', mc', xs', ls w3⟩
      · exact Or.inr ⟨w1, w2, w3, ih _ _ _ w4⟩
theorem vEl.p2 {b : Nat} {F F' : Nat → Prop} {g : uEnv} {U U' : UH} {nD nG n ea ka kb : Nat} {od : Nat → Int32} (h : vEl b F g U od nD nG n ea ka kb) (he : F ea) (hk : kF b F U U') (hF : ∀ x, F x → F' x) : vEl b F' g U' od nD nG n ea ka kb := by
  rcases h with ⟨wy, y, t, q1, q2⟩ | ⟨d, gr, th, ot, k2, q1, q2, q3, q4, q5, q6, q7, q8, q9⟩
  · exact Or.inl ⟨wy, y, t, hk.1 _ _ _ he q1 (by decide), q2⟩
  · refine Or.inr ⟨d, gr, th, ot, k2, hk.1 _ _ _ he q1 (by decide), q2, q3, q4, q5, q6, q7, vPf.p2 hk hF _ _ _ _ q8, ?_⟩
    rcases q9 with ⟨w1, w2, arr', m', mc', xs', w3⟩ | ⟨w1, w2, w3, w3', w4⟩
    · exact Or.inl ⟨w1, w2, arr', m', mc', xs', w3.p2 hk hF⟩
    · exact Or.inr ⟨w1, w2, w3, w3', vPf.p2 hk hF _ _ _ _ w4⟩
theorem vEl.od {b : Nat} {F : Nat → Prop} {g : uEnv} {U : UH} {nD nG n ea ka kb : Nat} {od od' : Nat → Int32} (h : vEl b F g U od nD nG n ea ka kb) (hk : ka < kb) (ho : ∀ i, 4 * ka ≤ i → i < 4 * kb → od' i = od i) : vEl b F g U od' nD nG n ea ka kb := by
  have o : ∀ c, c < 4 → od' (4 * ka + c) = od (4 * ka + c) := fun c hc => ho _ (by omega) (by omega)
  have o0 : od' (4 * ka) = od (4 * ka) := o 0 (by omega)
  rcases h with ⟨wy, y, t, q1, q2, q3, q4, q5, q6, q7, q8, q9⟩ | ⟨d, gr, th, ot, k2, q1, q2, q3, q4, q5, q6, ⟨q7, q7'⟩, q8, q9⟩
  · exact Or.inl ⟨wy, y, t, q1, q2, q3, q4, q5, o0.trans q6, (o 1 (by omega)).trans q7, (o 2 (by omega)).trans q8, q9⟩
  · refine Or.inr ⟨d, gr, th, ot, k2, q1, q2, q3, o0.trans q4, (o 1 (by omega)).trans q5, (o 2 (by omega)).trans q6, ⟨q7, q7'⟩, vPf.od _ _ _ _ q8 (fun j j1 j2 => ho j (by omega) (by omega)), ?_⟩
    rcases q9 with ⟨w1, w2⟩ | ⟨w1, w2, w3, w3', w4⟩
    · exact Or.inl ⟨(o 3 (by omega)).trans w1, w2⟩
    · refine Or.inr ⟨(o 3 (by omega)).trans w1, (ho _ (by omega) (by omega)).trans w2, (ho _ (by omega) (by omega)).trans w3, w3', vPf.od _ _ _ _ w4 (fun j j1 j2 => ho j (by omega) (by omega))⟩
def pF (U U' : UH) (x : Nat) : Prop := U.1 ≤ x ∧ x < U'.1
def pE (U U' : UH) (a arr x : Nat) : Prop := U.1 ≤ x ∧ x < U'.1 ∧ x ≠ a ∧ x ≠ arr
/-- a plan's list while it fills; U0: where the plan begins -/
def pLi (b : Nat) (g : uEnv) (U0 U : UH) (od : Nat → Int32) (nD nG np n a k0 k1 cnt : Nat) : Prop := ∃ (arr m : Nat) (mc : Int32) (xs : Nat → Option Nat), bLf b (pF U0 U) g U a arr cnt m mc xs ∧ (∀ i, i < cnt → ∃ (e c : Nat) (fs : List Value), xs i = some e ∧ pE U0 U a arr e ∧ U.2.2 e = some (.inr (c, fs)) ∧ (c = 10 ∨ c = 11)) ∧ (np < 8 → ∃ ks ea : Nat → Nat, ks 0 = k0 ∧ ks cnt = k1 ∧ ∀ i, i < cnt → (xs i = some (ea i) ∧ pE U0 U a arr (ea i) ∧ k0 ≤ ks i ∧ ks i < ks (i + 1) ∧ ks (i + 1) ≤ k1) ∧ vEl b (pE U0 U a arr) g U od nD nG n (ea i) (ks i) (ks (i + 1)))
theorem pLi.q {b : Nat} {g : uEnv} {U0 U : UH} {od : Nat → Int32} {nD nG np n a k0 k1 cnt : Nat} (h : pLi b g U0 U od nD nG np n a k0 k1 cnt) (hp : np < 8) : vPf b (pF U0 U) g U od nD nG (n + 1) a k0 k1 := by
  obtain ⟨arr, m, mc, xs, h1, -, h2⟩ := h
  obtain ⟨ks, ea, h3, h4, h5⟩ := h2 hp
  refine ⟨arr, cnt, m, mc, xs, ks, ea, h1, h3, h4, fun i hi => ?_⟩
  obtain ⟨⟨e1, e2, e3⟩, e4⟩ := h5 i hi
  exact ⟨⟨e1, ⟨e2.1, e2.2.1⟩, e3⟩, e4.p2 (F' := pF U0 U) e2 ⟨fun _ _ _ _ z _ => z, fun _ _ _ _ z => z⟩ (fun x q => ⟨q.1, q.2.1⟩)⟩
theorem pLi.keep {b : Nat} {g : uEnv} {U0 U U' : UH} {od od' : Nat → Int32} {nD nG np n a k0 k1 cnt : Nat} (h : pLi b g U0 U od nD nG np n a k0 k1 cnt) (hk : kF b (fun _ => True) U U') (hU : U.1 ≤ U'.1) (ho : ∀ i, 4 * k0 ≤ i → i < 4 * k1 → od' i = od i) : pLi b g U0 U' od' nD nG np n a k0 k1 cnt := by
  have hk' : ∀ {F : Nat → Prop}, kF b F U U' := fun {F} => ⟨fun x c fs _ => hk.1 x c fs trivial, fun x k z _ => hk.2 x k z (Or.inl trivial)⟩
  obtain ⟨arr, m, mc, xs, h1, h1', h2⟩ := h
  refine ⟨arr, m, mc, xs, h1.p2 hk' (fun x q => ⟨q.1, by have := q.2; omega⟩), fun i hi => ?_, fun hp => ?_⟩
  · obtain ⟨e, c, fs, e1, e4, e2, e3⟩ := h1' i hi
    exact ⟨e, c, fs, e1, ⟨e4.1, by have := e4.2.1; omega, e4.2.2⟩, hk.1 _ _ _ trivial e2 (by omega), e3⟩
  · obtain ⟨ks, ea, h3, h4, h5⟩ := h2 hp
    refine ⟨ks, ea, h3, h4, fun i hi => ?_⟩
    obtain ⟨⟨e1, e2, e3, e4, e5⟩, e6⟩ := h5 i hi
    exact ⟨⟨e1, ⟨e2.1, by have := e2.2.1; omega, e2.2.2⟩, e3, e4, e5⟩, (e6.p2 e2 hk' (fun x q => ⟨q.1, by have := q.2.1; omega, q.2.2⟩)).od e4 (fun j j1 j2 => ho j (by omega) (by omega))⟩
section L0s
variable {N b : Nat} {g : uEnv} {lo rd tp n pl bo mp nD nG np : Nat} {T : Nat → Nat} {U U' U'' : UH} {σ σ' σ'' : MS} {at' at2 at3 k cs d k2 d2 c s c2 s2 : Nat}
theorem pTo.pk {F : Nat → Prop} (h : pTo lo rd pl np k2 d2 c s U σ at' U' σ' at2) (p : pP b g lo rd tp n T pl bo mp nD nG np U σ'' at3 k cs d) : kF b F U U' := by
  obtain ⟨hr, hpl, -⟩ := p
  have ho : uOld U := hr.2.2.2.2.2.1
  obtain ⟨kr, st, va, wv, sg, c1, -⟩ := k_kind hr
  refine ⟨fun x c fs _ hx hc => h.1.at ho hx (by omega) ?_, fun x q z _ hx => h.1.ar ho hx ?_⟩
  · have lx := ho _ _ hx
    rintro (z | z | z)
    · exact u_nrr hx c1 (by omega) z
    · exact u_nrr hx hpl (by omega) z
    · omega
  · have lx := ho _ _ hx
    rintro (y | y | y)
    · exact u_nlr hx c1 y
    · exact u_nlr hx hpl y
    · omega
theorem pTo.nw (p : pP b g lo rd tp n T pl bo mp nD nG np U σ at' k cs d) (h : ∀ x, x < U.1 → U'.2.2 x = U.2.2 x) (ho' : uOld U') (h1 : U'.1 = U.1 + c) (h2 : U'.2.1 = U.2.1 + s) : pTo lo rd pl np k2 d2 c s U σ at' U' σ at' ∧ pP b g lo rd tp n T pl bo mp nD nG np U' σ at' k cs d := by
  obtain ⟨hr, -⟩ := id p
  have ho : uOld U := hr.2.2.2.2.2.1
  have hlU : lo ≤ U.1 := hr.2.2.2.2.2.2.2.2.1
  have kw : rKw lo (fun _ => False) U U' := rKw.nw h hlU ho ho' (by omega) (by omega)
  exact ⟨⟨kw.mono (fun x _ z => z.elim), Nat.le_refl _, by omega, by omega, mSm.refl, fun _ _ => rfl, fun _ _ => ⟨rfl, rfl, rfl⟩⟩, p.kw kw (fun z => z) (fun z => z)⟩
theorem pTo.wr {W : Nat → Prop} (h : pTo lo rd pl np k d c s U σ at' U' σ' at2) (hw : rKw lo W U' U'') (hl : ∀ x, W x → U.1 ≤ x) (h1 : U''.1 = U'.1 + c2) (h2 : U''.2.1 = U'.2.1 + s2) : pTo lo rd pl np k d (c + c2) (s + s2) U σ at' U'' σ' at2 := by
  obtain ⟨a1, a2, a3, a4, a5, a6⟩ := h
  exact ⟨a1.trans (hw.mono (fun x _ z => Or.inr (hl x z))), a2, by omega, by omega, a5, a6⟩
theorem c_x13i {l : Nat} {x1 x2 : Int32} {x3 x4 : Nat} {v0 v1 v2 v3 : Value} (h : U.2.2 l = some (.inr (11, [v0, v1, v2, v3]))) (hb : b ≤ l) (ho : uOld U) : ∃ u', f_X13_init N b g U l x1 x2 (some x3) (some x4) = some u' ∧ u'.2.2 l = some (.inr (11, [.int x1, .int x2, .ref x3, .ref x4])) ∧ (∀ x, x ≠ l → u'.2.2 x = U.2.2 x) ∧ uOld u' ∧ u'.1 = U.1 ∧ u'.2.1 = U.2.1 := by
  obtain ⟨p1, a1, a2, a3, a4, a5, a6⟩ := w_put (b := b) (k := 0) (v := .int x1) h hb (Nat.le_of_ble_eq_true rfl) ho
  obtain ⟨p2, b1, b2, b3, b4, b5, b6⟩ := w_put (b := b) (k := 1) (v := .int x2) a2 hb (Nat.le_of_ble_eq_true rfl) a4
  obtain ⟨p3, d1, d2, d3, d4, d5, d6⟩ := w_put (b := b) (k := 2) (v := va_rf (some x3)) b2 hb (Nat.le_of_ble_eq_true rfl) b4
  obtain ⟨p4, e1, e2, e3, e4, e5, e6⟩ := w_put (b := b) (k := 3) (v := va_rf (some x4)) d2 hb (Nat.le_of_ble_eq_true rfl) d4
  refine ⟨p4, ?_, e2, fun x hx => by rw [e3 x hx, d3 x hx, b3 x hx, a3 x hx], e4, by omega, by omega⟩
  unfold f_X13_init f_J17_init
  rw [p_bs, a1, p_bs, b1, p_bs, d1, p_bs, e1, p_bs]
end L0s
/-- a plan is read between brackets, of both -/
def plOk (N b : Nat) (g : uEnv) (lo rd tp n : Nat) (T : Nat → Nat) (pl bo mp nD nG np : Nat) (rp : roT) (d : Nat) : Prop := ∀ (U : UH) (σ : MS) (at' k cs m : Nat), pP b g lo rd tp n T pl bo mp nD nG np U σ at' k cs d → 42 ≤ m + cs → (∃ (x : Nat) (U' : UH) (σ' : MS), rp U pl = some (.inl (x, U')) ∧ f_reads_4 N m σ (iI d) 1 = some σ' ∧ rEp lo np (4 * (n - at') + (4 * (40 - cs) + 3)) (32 * (n - at') + (80 * (40 - cs) + 13)) U σ x U' σ') ∨ (∃ (a : Nat) (U' : UH) (σ' : MS) (at2 k' cs' m' n' : Nat), rp U pl = some (.inr (some a, U')) ∧ f_reads_4 N m σ (iI d) 1 = f_reads_35 N (f_reads_4 N m') n' σ' (iI d) 1 1 ∧ pP b g lo rd tp n T pl bo mp nD nG np U' σ' at2 k' cs' d ∧ σ'.1 6 ≠ 59 ∧ (m' + cs' = m + cs ∧ N + d ≤ n' + 6 ∧ cs < cs' ∧ k < k' ∧ k' + 2 * cs ≤ k + 2 * cs') ∧ U.1 ≤ a ∧ pTo lo rd pl np k d (4 * (cs' - cs)) (80 * (cs' - cs)) U σ at' U' σ' at2 ∧ (np < 8 → vPf b (pF U U') g U' (fun i => σ'.2.1 56 (512 * np + i)) nD nG (7 - d) a k k'))
def stOk (N b : Nat) (g : uEnv) (lo rd tp n : Nat) (T : Nat → Nat) (pl bo mp nD nG np : Nat) (rs : roT) (d : Nat) : Prop := ∀ (U : UH) (σ : MS) (at' k cs m : Nat), pP b g lo rd tp n T pl bo mp nD nG np U σ at' k cs d → 42 ≤ m + 1 + cs → (∃ (x : Nat) (U' : UH) (σ' : MS), rs U pl = some (.inl (x, U')) ∧ f_reads_4 N (m + 1) σ (iI d) 1 = some σ' ∧ rEp lo np (4 * (n - at') + (4 * (40 - cs) + 2)) (32 * (n - at') + (80 * (40 - cs) + 10)) U σ x U' σ') ∨ (∃ (ea : Nat) (U' : UH) (σ' : MS) (at2 k' cs' m' n' c : Nat) (fs : List Value), rs U pl = some (.inr (some ea, U')) ∧ f_reads_4 N (m + 1) σ (iI d) 1 = f_reads_35 N (f_reads_4 N m') n' σ' (iI d) 1 1 ∧ pP b g lo rd tp n T pl bo mp nD nG np U' σ' at2 k' cs' d ∧ (m' + cs' = m + 1 + cs ∧ N + d ≤ n' + 6 ∧ cs < cs' ∧ k < k' ∧ k' + 2 * cs ≤ k + 2 * cs') ∧ U.1 ≤ ea ∧ (U'.2.2 ea = some (.inr (c, fs)) ∧ (c = 10 ∨ c = 11)) ∧ pTo lo rd pl np k d (4 * (cs' - cs) - 2) (80 * (cs' - cs) - 70) U σ at' U' σ' at2 ∧ (np < 8 → vEl b (pF U U') g U' (fun i => σ'.2.1 56 (512 * np + i)) nD nG (6 - d) ea k k'))

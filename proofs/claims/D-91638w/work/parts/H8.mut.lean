/-! PLAIN: the map is changed -/
def zU {α : Type} (f : Nat → α) (c : Nat) (v : α) : Nat → α := fun k => if k = c then v else f k
theorem zU_s {α : Type} {f : Nat → α} {c : Nat} {v : α} : zU f c v c = v := if_pos rfl
theorem zU_n {α : Type} {f : Nat → α} {c k : Nat} {v : α} (h : k ≠ c) : zU f c v k = f k := if_neg h
/-- heights -/
theorem vLd.hgt {u : UH} {g : uEnv} {la da wa : Nat → Nat} {bk : Nat} {v8 v9 v10 : Value} {w h n nd : Nat} {hts : Nat → Int} {fl : Nat → Nat} {dO kn : Nat → Int} {wg : Nat → Nat → Nat} (hL : vLd u g la da wa bk v8 v9 v10 w h n nd hts fl dO kn wg) (h12 : la 1 ≠ la 2) (hwa : ∀ e, e < nd → wa e ≠ la 1) : ∃ hf : Nat → Int32, u.2.2 (la 1) = some (.inl (0, n, .inl hf)) ∧ ∀ (c : Nat) (v : Int), c < n → 0 ≤ v → v ≤ 999 → vLd (uSet u (la 1) (.inl (0, n, .inl (upd hf c (iI v))))) g la da wa bk v8 v9 v10 w h n nd (zU hts c v) fl dO kn wg := by
  obtain ⟨l0, hw, hh, hn, hnd, ⟨hf, a1, a2⟩, ⟨gf, g1, g2⟩, ⟨df, f1, f2⟩, ⟨m, mc, xs, ⟨x1, x2, x3⟩, x4⟩, ⟨yf, wr, y1, y2⟩, hdd⟩ := hL
  refine ⟨hf, a1, fun c v hc hv0 hv1 => ?_⟩
  have nr : ∀ {x cl : Nat} {fs : List Value}, u.2.2 x = some (.inr (cl, fs)) → (uSet u (la 1) (.inl (0, n, .inl (upd hf c (iI v))))).2.2 x = some (.inr (cl, fs)) := fun q => (u_sn (Ne.symm (u_nlr a1 q))).trans q
  have nl : ∀ {x t m' : Nat} {z : uVs}, u.2.2 x = some (.inl (t, m', z)) → t ≠ 0 → (uSet u (la 1) (.inl (0, n, .inl (upd hf c (iI v))))).2.2 x = some (.inl (t, m', z)) := fun q q' => (u_sn (u_nll q a1 (Or.inl q'))).trans q
  refine ⟨nr l0, hw, hh, hn, hnd, ⟨_, u_ss, fun k hk => ?_⟩, ⟨gf, (u_sn (Ne.symm h12)).trans g1, g2⟩, ⟨df, nl f1 (by decide), f2⟩, ⟨m, mc, xs, ⟨nr x1, nl x2 (by decide), x3⟩, x4⟩, ⟨yf, wr, nl y1 (by decide), y2⟩, fun e he => ?_⟩
  · by_cases q : k = c
    · subst q
      rw [zU_s]
      exact ⟨upd_s, hv0, hv1⟩
    · rw [zU_n q, upd_n q]
      exact a2 k hk
  · obtain ⟨⟨d1, wf, d2, d3⟩, d4⟩ := hdd e he
    exact ⟨⟨nr d1, wf, (u_sn (hwa e he)).trans d2, d3⟩, d4⟩
/-- grounds -/
theorem vLd.gnd {u : UH} {g : uEnv} {la da wa : Nat → Nat} {bk : Nat} {v8 v9 v10 : Value} {w h n nd : Nat} {hts : Nat → Int} {fl : Nat → Nat} {dO kn : Nat → Int} {wg : Nat → Nat → Nat} (hL : vLd u g la da wa bk v8 v9 v10 w h n nd hts fl dO kn wg) (h12 : la 1 ≠ la 2) (hwa : ∀ e, e < nd → wa e ≠ la 2) : ∃ gf : Nat → Int32, u.2.2 (la 2) = some (.inl (0, n, .inl gf)) ∧ (∀ k, k < n → gf k = iI (fl k)) ∧ ∀ (c v : Nat), c < n → vLd (uSet u (la 2) (.inl (0, n, .inl (upd gf c (iI v))))) g la da wa bk v8 v9 v10 w h n nd hts (zU fl c v) dO kn wg := by
  obtain ⟨l0, hw, hh, hn, hnd, ⟨hf, a1, a2⟩, ⟨gf, g1, g2⟩, ⟨df, f1, f2⟩, ⟨m, mc, xs, ⟨x1, x2, x3⟩, x4⟩, ⟨yf, wr, y1, y2⟩, hdd⟩ := hL
  refine ⟨gf, g1, g2, fun c v hc => ?_⟩
  have nr : ∀ {x cl : Nat} {fs : List Value}, u.2.2 x = some (.inr (cl, fs)) → (uSet u (la 2) (.inl (0, n, .inl (upd gf c (iI v))))).2.2 x = some (.inr (cl, fs)) := fun q => (u_sn (Ne.symm (u_nlr g1 q))).trans q
  have nl : ∀ {x t m' : Nat} {z : uVs}, u.2.2 x = some (.inl (t, m', z)) → t ≠ 0 → (uSet u (la 2) (.inl (0, n, .inl (upd gf c (iI v))))).2.2 x = some (.inl (t, m', z)) := fun q q' => (u_sn (u_nll q g1 (Or.inl q'))).trans q
  refine ⟨nr l0, hw, hh, hn, hnd, ⟨hf, (u_sn h12).trans a1, a2⟩, ⟨_, u_ss, fun k hk => ?_⟩, ⟨df, nl f1 (by decide), f2⟩, ⟨m, mc, xs, ⟨nr x1, nl x2 (by decide), x3⟩, x4⟩, ⟨yf, wr, nl y1 (by decide), y2⟩, fun e he => ?_⟩
  · by_cases q : k = c
    · subst q
      rw [zU_s]
      exact upd_s
    · rw [zU_n q, upd_n q]
      exact g2 k hk
  · obtain ⟨⟨d1, wf, d2, d3⟩, d4⟩ := hdd e he
    exact ⟨⟨nr d1, wf, (u_sn (hwa e he)).trans d2, d3⟩, d4⟩
/-- what is known of a doubt -/
theorem vLd.knw {u : UH} {g : uEnv} {la da wa : Nat → Nat} {bk : Nat} {v8 v9 v10 : Value} {w h n nd e : Nat} {hts : Nat → Int} {fl : Nat → Nat} {dO kn : Nat → Int} {wg : Nat → Nat → Nat} (hL : vLd u g la da wa bk v8 v9 v10 w h n nd hts fl dO kn wg) (he : e < nd) (v : Int) : vLd (uSet u (da e) (.inr (13, [.int (iI e), .ref (wa e), .int (iI v)]))) g la da wa bk v8 v9 v10 w h n nd hts fl dO (zU kn e v) wg := by
  obtain ⟨l0, hw, hh, hn, hnd, ⟨hf, a1, a2⟩, ⟨gf, g1, g2⟩, ⟨df, f1, f2⟩, ⟨m, mc, xs, ⟨x1, x2, x3⟩, x4⟩, ⟨yf, wr, y1, y2⟩, hdd⟩ := hL
  have de := (hdd e he).1.1
  have nr : ∀ {x cl : Nat} {fs : List Value}, u.2.2 x = some (.inr (cl, fs)) → cl ≠ 13 → (uSet u (da e) (.inr (13, [.int (iI e), .ref (wa e), .int (iI v)]))).2.2 x = some (.inr (cl, fs)) := fun q q' => (u_sn (u_nrr q de q')).trans q
  have nl : ∀ {x t m' : Nat} {z : uVs}, u.2.2 x = some (.inl (t, m', z)) → (uSet u (da e) (.inr (13, [.int (iI e), .ref (wa e), .int (iI v)]))).2.2 x = some (.inl (t, m', z)) := fun q => (u_sn (u_nlr q de)).trans q
  refine ⟨nr l0 (by decide), hw, hh, hn, hnd, ⟨hf, nl a1, a2⟩, ⟨gf, nl g1, g2⟩, ⟨df, nl f1, f2⟩, ⟨m, mc, xs, ⟨nr x1 (by decide), nl x2, x3⟩, x4⟩, ⟨yf, wr, nl y1, y2⟩, fun e' he' => ?_⟩
  obtain ⟨⟨d1, wf, d2, d3⟩, d4⟩ := hdd e' he'
  refine ⟨⟨?_, wf, nl d2, d3⟩, d4⟩
  by_cases q : e' = e
  · subst q
    rw [zU_s]
    exact u_ss
  · rw [zU_n q]
    refine (u_sn (fun z => ?_)).trans d1
    rw [z, de] at d1
    injection d1 with d1
    injection d1 with d1
    injection d1 with _ d1
    injection d1 with d1 _
    injection d1 with d1
    rw [j_eq (by omega) (by omega) (by omega) (by omega)] at d1
    omega
section D8
variable {N b : Nat} {g : uEnv} {A : pA} {ad sa : Nat → Nat} {Q : qT} {U : UH} {lab : Nat → Nat} {σ : MS}
/-- the map has changed, in the heap and in the model -/
theorem k_mut {bkv ptv : Value} {lo hi a al : Nat} {rv : Int32} {nm : Nat → Nat} {B : bBk} {dead : Int} {la da wa : Nat → Nat} {v8 v9 v10 : Value} {w h n nd : Nat} {hts : Nat → Int} {fl : Nat → Nat} {dO kn : Nat → Int} {dc : Nat → Nat} {wg : Nat → Nat → Nat} {mpv0 : Value} {U' : UH} {lab' : Nat → Nat} {σ1 : MS} (hQ : qOk Q) (hI : xSi b g A ad sa Q U lab σ bkv mpv0 ptv) (hbk : bkv = .ref a) (vB : vBk U b lo hi a al rv nm B) (h7 : hi ≤ U.1 ∧ ∀ x, lo ≤ x → x < hi → lab x = 7) (h12 : σ.1 12 = 1) (hlb : ∀ x, lab' x = lab x ∨ (U.1 ≤ x ∧ lab' x = 8)) (hfe : ∀ x, U'.1 ≤ x → lab' x = 11) (ho : uOld U') (hU : U.1 ≤ U'.1) (hfr : ∀ x, lab x ≠ 8 → x < U.1 → U'.2.2 x = U.2.2 x) (h34 : σ1.1 34 = 1) (hL : vLd U' g la da wa a v8 v9 v10 w h n nd hts fl dO kn wg) (hM1 : mLand σ1 B dead w h n nd hts fl dO kn dc wg) (hS : mSol σ1 B dead w h n nd hts fl dO kn dc wg) (hG : xGe n nd dO kn dc wg) (hLl : xLl b g U' lab' la da wa nd) (kw : ∀ k, k ≠ 0 → k ≠ 37 → k ≠ 38 → k ≠ 39 → k ≠ 51 → σ1.1 k = σ.1 k) (k37 : σ1.1 37 = σ.1 37 ∨ ∃ n : Nat, σ.1 37 = iI n ∧ n < 5 ∧ σ1.1 37 = iI ((n + 1 : Nat) : Int)) (ka : ∀ j, j ≠ 41 → j ≠ 42 → j ≠ 43 → j ≠ 44 → j ≠ 45 → j ≠ 46 → σ1.2.1 j = σ.2.1 j) : xSi b g A ad sa Q U' lab' σ1 bkv (.ref (la 0)) ptv := by
  obtain ⟨oU, hb, ⟨hl, hf⟩, hE, hA, ⟨l0, h1, hS3, h2, h3⟩, -, hq⟩ := hI
  have lt : ∀ {x}, lab x ≠ 11 → x < U.1 := fun {x} q => by
    apply Classical.byContradiction
    intro z
    exact q (hf x (by omega))
  have lbe : ∀ {x}, x < U.1 → lab' x = lab x := fun {x} q => by
    rcases hlb x with z | z
    · exact z
    · omega
  have ns : ∀ {p : Nat → Prop}, ¬ p 8 → ¬ p 11 → uLb lab lab' U U' p := fun p8 p11 x hx => ⟨hfr x (fun z => p8 (by rw [← z]; exact hx)) (lt (fun z => p11 (by rw [← z]; exact hx))), lbe (lt (fun z => p11 (by rw [← z]; exact hx)))⟩
  have t1 : xTp U lab σ1 (ad 1) := by
    unfold xTp at h1 ⊢
    rw [kw 2 (by decide) (by decide) (by decide) (by decide) (by decide), ka 1 (by decide) (by decide) (by decide) (by decide) (by decide) (by decide)]
    exact h1
  have t2 : xCl b g U lab σ1 (ad 3) := by
    unfold xCl at h2 ⊢
    rw [kw 55 (by decide) (by decide) (by decide) (by decide) (by decide), kw 73 (by decide) (by decide) (by decide) (by decide) (by decide), ka 54 (by decide) (by decide) (by decide) (by decide) (by decide) (by decide)]
    exact h2
  have t3 : xDg U lab σ1 (ad 5) := by
    unfold xDg at h3 ⊢
    rw [ka 47 (by decide) (by decide) (by decide) (by decide) (by decide) (by decide)]
    exact h3
  have k34 : σ1.1 34 = σ.1 34 := kw 34 (by decide) (by decide) (by decide) (by decide) (by decide)
  refine ⟨ho, by omega, ⟨fun x hx => (lbe (by omega)).trans (hl x hx), hfe⟩, hE.hp (fun x hx => hfr x (by rw [hl x hx]; decide) (by omega)), ⟨(lbe (lt (by rw [hA.1]; decide))).trans hA.1, fun j hj => (lbe (lt (by rw [hA.2 j hj]; decide))).trans (hA.2 j hj)⟩, ⟨(lbe (lt (by omega))).trans l0, t1.hp (ns (by decide) (by decide)), hS3.hp (ns (by decide) (by decide)), t2.hp hl (ns (by decide) (by decide)), t3.hp (ns (by decide) (by decide))⟩, Or.inr ⟨lo, hi, a, al, rv, nm, B, dead, hbk, (kw 12 (by decide) (by decide) (by decide) (by decide) (by decide)).trans h12, vB.same (fun x hx => ?_), hM1.1.1, hM1.1.2.1, hM1.1.2.2.1, hM1.1.2.2.2.1, by omega, fun x q1 q2 => (lbe (by omega)).trans (h7.2 x q1 q2), Or.inr ⟨h34, la, da, wa, v8, v9, v10, w, h, n, nd, hts, fl, dO, kn, dc, wg, rfl, hL, hM1, hS, hG, hLl⟩⟩, hQ U U' lab lab' σ σ1 bkv ptv (ns (by unfold qLb; decide) (by unfold qLb; decide)) ⟨fun k hk => ?_, fun j hj => ?_, k37⟩ hq⟩
  · rcases hx with q | ⟨q1, q2⟩
    · exact hfr x (by rw [hl x q]; decide) (by omega)
    · have := h7.2 x q1 q2
      exact hfr x (by omega) (by omega)
  · exact kw k (by omega) (by omega) (by omega) (by omega) (by omega)
  · exact ka j (by omega) (by omega) (by omega) (by omega) (by omega) (by omega)
/-- a call ends -/
theorem k_fins {bkv mpv ptv : Value} {U' : UH} {lab' : Nat → Nat} {σ1 : MS} {t : Int32} {e : uE} {d1 d2 : Nat} (hQ : qOk Q) (sg : xSi b g A ad sa Q U' lab' σ1 bkv mpv ptv) (hx : U'.2.2 (ad 0) = some e) (l0 : lab (ad 0) = 1) (hmo : ∀ x, lab x = 10 → U'.2.2 x = U.2.2 x) (s1 : U'.1 = U.1 + d1) (s2 : U'.2.1 = U.2.1 + d2) (k39 : σ1.1 39 = t) (hk : σ1.1 10 = σ.1 10 ∧ σ1.1 38 = σ.1 38 ∧ σ1.1 2 = σ.1 2 ∧ σ1.1 9 = σ.1 9 ∧ σ1.1 63 = σ.1 63 ∧ σ1.1 64 = σ.1 64 ∧ σ1.1 65 = σ.1 65) : xStep b g A ad sa Q U lab (uSet U' (ad 0) (xO ad (mT σ t) bkv mpv ptv)) σ1 d1 d2 := by
  rw [← xO_eq (σ := mT σ t) (σ' := σ1) ⟨k39, hk⟩]
  exact sg.fin hQ hx l0 hmo s1 s2
/-- cells of another label than the map's stay, where a map's cell is written -/
theorem k_set8 {a : Nat} {e : uE} (ha : lab a = 8) : ∀ x, lab x ≠ 8 → x < U.1 → (uSet U a e).2.2 x = U.2.2 x := fun x q _ => u_sn (fun z => q (by rw [z]; exact ha))
end D8

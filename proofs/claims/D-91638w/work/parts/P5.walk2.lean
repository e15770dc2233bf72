/-! PLAIN: a plan is walked in a truth -/
theorem u_df18 : uDefs tyX18 8 = [.null, .int 0, .null, .int 0, .int 0, .int 0, .int 0, .int 0] := by rfl
/-- the last order is done -/
theorem m_endA {N m p1 kl c cd fd go : Nat} {s q : Int32} {σb : MS} (h57 : σb.2.1 57 p1 = iI kl) (hp : p1 < 8) (hkl : kl ≤ 128) (hc : c < 100) (hg : go < 100) : f_acts_38 N (m + 1) (mW σb s q) (iI p1) (iI go) (iI fd) (iI c) (iI cd) (iI kl) = some (iI ((if c = go then 0 else 6 : Nat) : Int), mW σb s q) := by
  obtain ⟨t1, t2⟩ := t_ix (a := (p1 : Int)) (n := mLen 57) (k := p1) rfl (by rw [show mLen 57 = 8 from rfl]; omega) (by rw [show mLen 57 = 8 from rfl]; omega)
  have h57' : (mW σb s q).2.1 57 p1 = iI kl := h57
  rw [f_acts_38]
  unfold f_acts_299
  rw [if_pos t1, p_let, t2, h57', p_le (by omega) (by omega) (by omega) (by omega) (by omega)]
  by_cases e : c = go
  · rw [if_pos (by rw [e]), if_pos e]
    rfl
  · rw [if_neg (show ¬ iI (c : Int) = iI (go : Int) by rw [j_eq (by omega) (by omega) (by omega) (by omega)]; omega), if_neg e]
    rfl
/-- the class's heap between two walks -/
def wW (g : uEnv) (U : UH) (ad la da wa : Nat → Nat) (a w h n nd : Nat) (hts : Nat → Int) (fl : Nat → Nat) (dO kn : Nat → Int) (wg : Nat → Nat → Nat) (bkv ptv : Value) (u : UH) (t : Nat) (σo : MS) : Prop := (∃ v8 v9 v10 : Value, vLd u g la da wa a v8 v9 v10 w h n nd hts fl dO kn wg) ∧ u.2.2 (ad 0) = some (xO ad σo bkv (.ref (la 0)) ptv) ∧ (∀ x, x < U.1 → x ≠ la 0 → x ≠ ad 0 → u.2.2 x = U.2.2 x) ∧ uOld u ∧ u.1 = U.1 + 2 * t ∧ u.2.1 = U.2.1 + 13 * t
section M4s
variable {N b : Nat} {g : uEnv} {A : pA} {ad sa : Nat → Nat} {U : UH} {lab : Nat → Nat} {σ : MS} {ou : Nat} {u0 : UH}
theorem k_walk {bkv ptv : Value} {lo hi a al : Nat} {rv : Int32} {nm : Nat → Nat} {B : bBk} {dead : Int} {la da wa : Nat → Nat} {w h n nd : Nat} {hts : Nat → Int} {fl : Nat → Nat} {dO kn : Nat → Int} {dc : Nat → Nat} {wg : Nat → Nat → Nat} {u : UH} {t p1 fr go : Nat} {σo σc : MS} (hI : xSi b g A ad sa (qA g (ad 4) b u0 ou) U lab σ bkv (.ref (la 0)) ptv) (vB : vBk U b lo hi a al rv nm B) (h7 : hi ≤ U.1 ∧ ∀ x, lo ≤ x → x < hi → lab x = 7) (oB : bOk B) (hd : 0 ≤ dead ∧ dead ≤ 5) (hG : xGe n nd dO kn dc wg) (hLl : xLl b g U lab la da wa nd) (hW : wW g U ad la da wa a w h n nd hts fl dO kn wg bkv ptv u t σo) (h38 : σo.1 38 = iI dead) (hM : mLand σc B dead w h n nd hts fl dO kn dc wg) (hK : zKn σc.1 σc.2.1 nd B.2.1 (fun e => zCn (wg e) 8) kn (fun e k => zKd (wg e) k)) (h37 : σ.1 37 = iI nd) (k56 : σc.2.1 56 = σ.2.1 56) (k57 : σc.2.1 57 = σ.2.1 57) {np : Nat} (h40 : σ.1 40 = iI np) (hp : p1 < np) (hnp : np ≤ 8) (hfr : fr < n) (hgo : go < n) (ht : t ≤ 1000) (hN : 300 ≤ N) : ∃ (u' : UH) (f fw c y : Nat) (q s : Int32), f_X1_walk N b g u (ad 0) (iI p1) (iI fr) (iI t) = some (some u.1, u') ∧ wW g U ad la da wa a w h n nd hts fl dO kn wg bkv ptv u' (t + 1) σo ∧ u'.2.2 u.1 = some (wkC la dead (u.1 + 1) c y q s (iI fw)) ∧ f_acts N σc (iI p1) (iI fr) (iI go) (iI t) = some (iI f, mW σc s q) ∧ ((1 ≤ fw ∧ fw ≤ 5 ∧ f = fw) ∨ (fw = 0 ∧ c = go ∧ f = 0) ∨ (fw = 0 ∧ c ≠ go ∧ f = 6)) ∧ c < n := by
  obtain ⟨⟨v8, v9, v10, hL⟩, hx, hsm, ho, z1, z2⟩ := hW
  obtain ⟨l0, hw, hh, hn, hnd, -⟩ := id hL
  have m4 : w * h ≤ 10 * 10 := Nat.mul_le_mul hw.2 hh.2
  have hdd := hL.2.2.2.2.2.2.2.2.2.2
  have h3 : ∀ e, e < nd → 1 ≤ zCn (wg e) 8 ∧ zCn (wg e) 8 ≤ 3 := fun e he => (hdd e he).2
  have hkn := k_knO (U := U) (g := g) (la := la) (da := da) (wa := wa) (a := a) (v8 := v8) (v9 := v9) (v10 := v10) hM hG
  have la0 := hI.2.2.2.2.2.1.1
  have hl := hI.2.2.1.1
  have hfe := hI.2.2.1.2
  have bU := hI.2.1
  have lt0 : ad 0 < U.1 := hI.lt la0 (by decide)
  have la8 : lab (la 0) = 8 := hLl.1.1
  have lt8 : la 0 < U.1 := hI.lt la8 (by decide)
  have n08 : ad 0 ≠ la 0 := fun z => by
    rw [z] at la0
    omega
  have bla : b ≤ la 0 := lab_ge hl (by omega)
  -- the walk's cell, the truth
  obtain ⟨u1, e1, c1, r1, o1, s1, y1⟩ := w_new (u := u) (n := 8) (e := .inr (16, uDefs tyX18 8)) ho
  have hL1 := hL.keep (u' := u1) (fun x e q _ => (r1 x (ho x e q)).trans q)
  have hx1 : u1.2.2 (ad 0) = some (xO ad σo bkv (.ref (la 0)) ptv) := (r1 _ (by omega)).trans hx
  obtain ⟨tf, tr1, tr2⟩ := c_truth (N := N) (b := b) (t := t) hL1 o1 hkn (by omega) ht (by omega)
  obtain ⟨u2, e2, c2, r2, o2, s2, y2⟩ := w_new (u := u1) (n := 5) (e := .inl (0, 5, .inl tf)) o1
  have cw : u2.2.2 u.1 = some (.inr (16, [.null, .int 0, .null, .int 0, .int 0, .int 0, .int 0, .int 0])) := by
    rw [r2 u.1 (by omega), c1, u_df18]
  have bwk : b ≤ u.1 := by omega
  obtain ⟨p0, a0, b0, d0, f0, g0, h0⟩ := w_put (b := b) (k := 0) (v := .ref (la 0)) cw bwk (Nat.le_of_ble_eq_true rfl) o2
  obtain ⟨p2, a2, b2, d2, f2, g2, h2⟩ := w_put (b := b) (k := 1) (v := .int (iI dead)) b0 bwk (Nat.le_of_ble_eq_true rfl) f0
  obtain ⟨p3, a3, b3, d3, f3, g3, h3'⟩ := w_put (b := b) (k := 2) (v := .ref u1.1) b2 bwk (Nat.le_of_ble_eq_true rfl) f2
  obtain ⟨p4, a4, b4, d4, f4, g4, h4⟩ := w_put (b := b) (k := 3) (v := .int (iI fr)) b3 bwk (Nat.le_of_ble_eq_true rfl) f3
  have r4 : ∀ x, x < u1.1 + 1 → x ≠ u.1 → p4.2.2 x = u2.2.2 x := fun x q1 q2 => by
    rw [d4 x q2, d3 x q2, d2 x q2, d0 x q2]
  have R4 : ∀ x, x < u.1 → p4.2.2 x = u.2.2 x := fun x q => by
    rw [r4 x (by omega) (by omega), r2 x (by omega), r1 x q]
  have hL4 := hL.keep (u' := p4) (fun x e q _ => (R4 x (ho x e q)).trans q)
  have op := c_open (N := N) (b := b) hL4 (fun e he => ⟨(hkn e he).1, by have := (hkn e he).2.1; omega⟩) (by omega)
  have se := c_sees (N := N) (b := b) (c := fr) (dc := dc) hL4 hfr hG.1 hG.2.1 (by omega)
  obtain ⟨zq1, zq2⟩ := zOq_b (kn := kn) nd hnd
  have p5 : 2 ^ nd ≤ 2 ^ 5 := Nat.pow_le_pow_right (by decide) hnd
  have nb32 : zNb w h dc fr nd < 32 := by
    have := zNb_lt (w := w) (h := h) (dc := dc) (c := fr) nd
    omega
  obtain ⟨mo1, mo2⟩ := t_mkO (y := 31 - zOq kn nd) (s := zNb w h dc fr nd) (by omega) nb32
  obtain ⟨p6, a6, b6, d6, f6, g6, h6⟩ := w_put (b := b) (k := 4) (v := .int (iI ((((31 - zOq kn nd) ||| zNb w h dc fr nd : Nat) : Int) - 32))) b4 bwk (Nat.le_of_ble_eq_true rfl) f4
  have R6 : ∀ x, x < u.1 → p6.2.2 x = u.2.2 x := fun x q => by
    rw [d6 x (by omega), R4 x q]
  have hL6 := hL.keep (u' := p6) (fun x e q _ => (R6 x (ho x e q)).trans q)
  have hx6 : p6.2.2 (ad 0) = some (xO ad σo bkv (.ref (la 0)) ptv) := (R6 _ (by omega)).trans hx
  have T6 : p6.2.2 u1.1 = some (.inl (0, 5, .inl tf)) := by
    rw [d6 _ (by omega), r4 _ (by omega) (by omega), c2]
  have S6 : ∀ x, x < U.1 → x ≠ la 0 → x ≠ ad 0 → p6.2.2 x = U.2.2 x := fun x q1 q2 q3 => (R6 x (by omega)).trans (hsm x q1 q2 q3)
  have b6 : p6.2.2 u.1 = some (wkC la dead u1.1 fr ((31 - zOq kn nd) ||| zNb w h dc fr nd) 0 0 0) := b6
  -- plans
  have sm : qSm (fun k => k = 0 ∨ k = 5 ∨ k = 12) lab lab U p6 := fun x q => by
    have q : lab x = 0 ∨ lab x = 5 ∨ lab x = 12 := q
    have xl : x < U.1 := hI.lt (L := lab x) rfl (by omega)
    exact ⟨S6 x xl (fun z => by rw [z] at q; omega) (fun z => by rw [z] at q; omega), rfl⟩
  obtain ⟨-, -, hpl, -⟩ := hI.2.2.2.2.2.2.2
  obtain ⟨arr, np', mm, mc, xs, pa, kl, ql1, ql2, ql3, -, ql5⟩ := hpl
  have enp : np' = np := by
    have := ql2.symm.trans h40
    rw [j_eq (by omega) (by omega) (by omega) (by omega)] at this
    omega
  subst enp
  obtain ⟨x1, x2, x3, x4, nD, nG, ⟨n5, x5, x6, x7⟩, x8, x9, x10⟩ := ql5 p1 hp
  have hD : nD ≤ nd := by
    have := x5.symm.trans h37
    rw [j_eq (by omega) (by omega) (by omega) (by omega)] at this
    omega
  have ls6 := (ql1.hp sm (Or.inl rfl) (Or.inr (Or.inl rfl))).1
  have vp6 := vPl.hp (P := fun k => k = 0 ∨ k = 5 ∨ k = 12) (lab' := lab) (U' := p6) sm (Or.inl rfl) (Or.inr (Or.inr rfl)) _ _ _ _ x10
  have pll : ∃ (arr' cnt' m' : Nat) (mc' : Int32) (xs' : Nat → Option Nat), vLs p6 (pa p1) arr' cnt' m' mc' xs' := by
    obtain ⟨-, arr', cnt', m', mc', xs', q, -⟩ := vPl_ls _ _ _ _ vp6
    exact ⟨arr', cnt', m', mc', xs', q.1⟩
  obtain ⟨arr', cnt', m', mc', xs', pl6⟩ := pll
  have gt : f_J2_get N b g p6 (ad 4) (iI p1) = some (some (pa p1), p6) := by
    rw [l_get (N := N) (b := b) (g := g) (k := (p1 : Int)) ls6 (by omega) (by omega), Int.toNat_natCast, x1]
  -- the truth as a code
  obtain ⟨q1, q2, q3⟩ := zFc_can (t := t) (kn := kn) (wg := wg) hnd h3 hkn
  have hF : ∀ e, e < nd → zD (zFc nd kn wg t nd) e ≠ 0 ∧ zD (zFc nd kn wg t nd) e ≤ zCn (wg e) 8 := fun e he => by
    exact ⟨q3 e he, ((q2 e (by omega)).2 he).1⟩
  have hC : wCx b p6 la a lo hi al rv nm B dead n nd dO kn dc wg u.1 u1.1 (zFc nd kn wg t nd) := by
    refine ⟨bwk, bla, lab_out h7.2 (by omega), Or.inr (by omega), vB.same (fun x q => ?_), oB, hd, hG, ⟨by omega, by omega, tf, T6, tr2⟩, q1, hF⟩
    rcases q with q | ⟨q1, q2⟩
    · exact S6 x (by omega) (by omega) (by have := lab_ge hl (x := ad 0) (by omega); omega)
    · have l7 := h7.2 x q1 q2
      exact S6 x (by omega) (fun z => by rw [z] at l7; omega) (fun z => by rw [z] at l7; omega)
  have hS : wSt g p6 la da wa a dead w h n nd hts fl dO kn wg u.1 u1.1 p6 fr ((31 - zOq kn nd) ||| zNb w h dc fr nd) 0 0 0 := ⟨⟨_, _, _, hL6⟩, b6, fun _ _ _ => rfl, rfl, rfl, f6, mo2, hfr⟩
  obtain ⟨bs1, bs2⟩ := yCan_base (nd := nd) (kn := kn) (wg := wg) hnd (fun e he => (h3 e he).2) hkn
  have mR0 : mR nd (31 - zOq kn nd) (zBa kn wg nd) := fun d hd => by
    rw [t_mkN (by omega) (by omega), zq2 d hd, zBa_0 (fun e he => (h3 e he).2) hkn hd]
  obtain ⟨mR1, cd1⟩ := mR_se (fd := zFc nd kn wg t nd) (nb := zNb w h dc fr nd) (by omega) nb32 bs1 hnd (fun e he => q3 e he) mR0
  have hne : ∀ x, lab x = 12 ∨ lab x = 0 → x ≠ u.1 ∧ x ≠ la 0 := fun x q => by
    have xl : x < U.1 := hI.lt (L := lab x) rfl (by omega)
    exact ⟨by omega, fun z => by rw [z] at q; omega⟩
  have h57 : σc.2.1 57 p1 = iI (kl p1) := by
    rw [k57]
    exact x3
  have hod : ∀ i, σ.2.1 56 (512 * p1 + i) = σc.2.1 56 (512 * p1 + i) := fun i => by
    rw [k56]
  have kd := kW_does (N := N) (b := b) (x3 := iI go) (p1 := p1) (kl := kl p1) hC hM hK h57 (by omega) x4 hod hD x9 hne (by omega) 8 20 (pa p1) 0 (kl p1) (by omega) vp6 (Nat.le_refl _) N p6 fr _ 0 0 _ (by omega) hS mR1 cd1
  have kd : kWr N g p6 la da wa a dead w h n nd hts fl dO kn wg u.1 u1.1 (zFc nd kn wg t nd) σc p1 (iI go) (kl p1) (kl p1 - 0) N (f_X18_does N b g p6 u.1 (some (pa p1))) (f_acts_38 N N (mW σc 0 0) (iI p1) (iI go) (iI (zFc nd kn wg t nd)) (iI fr) (iI (zSe (zNb w h dc fr nd) (zFc nd kn wg t nd) (zBa kn wg nd) nd)) (iI ((0 : Nat) : Int))) := kd
  have cls : ∀ (u' : UH), f_X18_does N b g p6 u.1 (some (pa p1)) = some (some u.1, u') → f_X1_walk N b g u (ad 0) (iI p1) (iI fr) (iI t) = some (some u.1, u') := fun u' hu => by
    have a0 : uPut b u2 u.1 16 0 (va_rf (some (la 0))) = some p0 := a0
    have a3 : uPut b p2 u.1 16 2 (va_rf (some u1.1)) = some p3 := a3
    unfold f_X1_walk f_X1_walk_3 f_X1_walk_21 f_X18_init
    rw [p_let, e1, p_let, x_mp hx1, p_bs, v_gi hx1 (k := 3) rfl, p_bs, h38, p_bs, p_bs, if_pos (v_is hL1.1), tr1, e2, q_uc, p_bs, a0, p_bs, a2, p_bs, a3, p_bs, a4, p_bs, p_bs, if_pos (v_is hL4.1), op, q_uc, if_pos (v_is hL4.1), se, q_uc, t_mkI (by omega), mo1, a6, p_bs, p_bs, v_gr hx6 (k := 10) rfl, p_bs, p_bs, if_pos (v_is ls6.1), gt, q_uc, p_bs, if_pos (v_is pl6.1), p_bs, if_pos (v_is b6), hu, q_uc]
  have mdl : f_acts N σc (iI p1) (iI fr) (iI go) (iI t) = f_acts_38 N N (mW σc 0 0) (iI p1) (iI go) (iI (zFc nd kn wg t nd)) (iI fr) (iI (zSe (zNb w h dc fr nd) (zFc nd kn wg t nd) (zBa kn wg nd) nd)) (iI ((0 : Nat) : Int)) := by
    unfold f_acts
    rw [m_full hK (fun e he => (h3 e he).1) (fun e he => (hkn e he).2.2) ht (by omega), q_mc, m_base hK (fun e he => (hkn e he).2.2) (by omega), q_mc, m_sees (N := N) (σ := σc) (cd := zBa kn wg nd) (fd := zFc nd kn wg t nd) hM.1.2.2.2.2.1 hM.1.2.2.2.2.2.1 hw hh hn hM.2.2.1 hnd (fun e he => ⟨(hM.2.2.2.2.2.1 e he).1, (hM.2.2.2.2.2.1 e he).2.1⟩) hfr bs1 q1 (by omega), q_mc, p_let, p_let]
    rfl
  have fin : ∀ (u' : UH) (c y : Nat) (q s : Int32) (fw : Nat), wSt g p6 la da wa a dead w h n nd hts fl dO kn wg u.1 u1.1 u' c y q s (iI fw) → wW g U ad la da wa a w h n nd hts fl dO kn wg bkv ptv u' (t + 1) σo ∧ u'.2.2 u.1 = some (wkC la dead (u.1 + 1) c y q s (iI fw)) ∧ c < n := fun u' c y q s fw hS' => by
    obtain ⟨v, k1, k2, k3, k4, k5, k6, k7⟩ := hS'
    rw [s1] at k1
    refine ⟨⟨v, (k2 _ (by omega) n08).trans hx6, fun x q1 q2 q3 => (k2 x (by omega) q2).trans (S6 x q1 q2 q3), k5, ?_, ?_⟩, k1, k7⟩
    · rw [k3, g6, g4, g3, g2, g0]
      omega
    · rw [k4, h6, h4, h3', h2, h0]
      omega
  rcases kd with ⟨u', f, c', y', q', s', w1, w2, w3, w4⟩ | ⟨u', c', y', q', s', cd', m'', w1, w2, w3, w4, w5, w6⟩
  · obtain ⟨i1, i2, i3⟩ := fin u' c' y' q' s' f w2
    exact ⟨u', f, f, c', y', q', s', cls u' w1, i1, i2, mdl.trans w4, Or.inl ⟨w3.1, w3.2, rfl⟩, i3⟩
  · obtain ⟨i1, i2, i3⟩ := fin u' c' y' q' s' 0 w2
    obtain ⟨m3, rfl⟩ : ∃ z, m'' = z + 1 := ⟨m'' - 1, by omega⟩
    refine ⟨u', if c' = go then 0 else 6, 0, c', y', q', s', cls u' w1, i1, i2, (mdl.trans w6).trans (m_endA h57 (by omega) x4 (by omega) (by omega)), ?_, i3⟩
    by_cases e : c' = go
    · exact Or.inr (Or.inl ⟨rfl, e, if_pos e⟩)
    · exact Or.inr (Or.inr ⟨rfl, e, if_neg e⟩)
/-- why it fails -/
theorem c_fails {u : UH} {la : Nat → Nat} {dead : Int} {wk ta c y go f fw n : Nat} {q s bd : Int32} (hc : u.2.2 wk = some (wkC la dead ta c y q s (iI fw))) (hf : (1 ≤ fw ∧ fw ≤ 5 ∧ f = fw) ∨ (fw = 0 ∧ c = go ∧ f = 0) ∨ (fw = 0 ∧ c ≠ go ∧ f = 6)) (h1 : c < 100) (h2 : go < 100) : f_X18_fails N b g u wk (iI go) bd = some (if f = 0 then (if q ≤ bd then 0 else 7) else iI f, u) := by
  have hc : u.2.2 wk = some (.inr (16, [.ref (la 0), .int (iI dead), .ref ta, .int (iI c), .int (iI ((y : Int) - 32)), .int q, .int s, .int (iI fw)])) := hc
  unfold f_X18_fails f_X18_fails_41
  rw [v_gi hc (k := 7) rfl, p_bs]
  rcases hf with ⟨e1, e2, rfl⟩ | ⟨rfl, e1, rfl⟩ | ⟨rfl, e1, rfl⟩
  · rw [if_neg (show ¬ iI (f : Int) = 0 by rw [j0, j_eq (by omega) (by omega) (by omega) (by omega)]; omega), p_bs, if_neg (show ¬ f = 0 by omega)]
  · rw [if_pos (show iI ((0 : Nat) : Int) = 0 from rfl), v_gi hc (k := 3) rfl, p_bs, if_pos (by rw [e1]), v_gi hc (k := 5) rfl, p_bs, if_pos rfl]
    split <;> rfl
  · rw [if_pos (show iI ((0 : Nat) : Int) = 0 from rfl), v_gi hc (k := 3) rfl, p_bs, if_neg (show ¬ iI (c : Int) = iI (go : Int) by rw [j_eq (by omega) (by omega) (by omega) (by omega)]; omega), if_neg (by decide)]
    rfl
end M4s

/-! PLAIN: the call doubt, whole -/
theorem mMap_k {σ σ' : MS} {B : bBk} {dead : Int} {w h : Nat} {hts : Nat → Int} (hM : mMap σ B dead w h hts) (ks : ∀ k, k ≠ 0 → k ≠ 37 → k ≠ 39 → k ≠ 51 → σ'.1 k = σ.1 k) (ka : ∀ j, j ≠ 43 → j ≠ 44 → j ≠ 45 → j ≠ 46 → σ'.2.1 j = σ.2.1 j) : mMap σ' B dead w h hts := by
  have q24 := ks 24 (by decide) (by decide) (by decide) (by decide)
  have q25 := ks 25 (by decide) (by decide) (by decide) (by decide)
  have q26 := ks 26 (by decide) (by decide) (by decide) (by decide)
  have q27 := ks 27 (by decide) (by decide) (by decide) (by decide)
  have q28 := ks 28 (by decide) (by decide) (by decide) (by decide)
  have q22 := ks 22 (by decide) (by decide) (by decide) (by decide)
  have q38 := ks 38 (by decide) (by decide) (by decide) (by decide)
  have q35 := ks 35 (by decide) (by decide) (by decide) (by decide)
  have q36 := ks 36 (by decide) (by decide) (by decide) (by decide)
  have a18 := ka 18 (by decide) (by decide) (by decide) (by decide)
  have a19 := ka 19 (by decide) (by decide) (by decide) (by decide)
  have a20 := ka 20 (by decide) (by decide) (by decide) (by decide)
  have a21 := ka 21 (by decide) (by decide) (by decide) (by decide)
  have a41 := ka 41 (by decide) (by decide) (by decide) (by decide)
  unfold mMap mBk mLn at hM ⊢
  rw [q24, q25, q26, q27, q28, q22, q38, q35, q36, a18, a19, a20, a21, a41]
  exact hM
section F4s
variable {N b : Nat} {g : uEnv} {A : pA} {ad sa : Nat → Nat} {Q : qT} {U : UH} {lab : Nat → Nat} {σ : MS}
/-- a doubt is laid into the map -/
theorem vLd.dbt {la da wa : Nat → Nat} {a : Nat} {v8 v9 v10 : Value} {w h n nd c k : Nat} {hts : Nat → Int} {fl : Nat → Nat} {dO kn : Nat → Int} {wg : Nat → Nat → Nat} {ui : UH} {mi : Nat} (hL : vLd U g la da wa a v8 v9 v10 w h n nd hts fl dO kn wg) (hc : c < n) (hd : dO c = -1) (hnd : nd < 5) (hk : k < 8) (hb3 : b ≤ la 3) (hb4 : b ≤ la 4) (h5 : ∀ m z, U.2.2 (la 5) = some (.inl (4, m, z)) → (m = 0 → g.1 10 = some (la 5)) ∧ (m ≠ 0 → b ≤ la 5)) (hmi : g.1 20 = some mi) (hb : b ≤ U.1) (oU : uOld U) (s0 : ui.2.2 U.1 = some (.inr (13, [.int (iI nd), .ref (U.1 + 1), .int (iI (-1))]))) (s1 : ∃ wf : Nat → Int32, ui.2.2 (U.1 + 1) = some (.inl (0, 8, .inl wf)) ∧ ∀ q, wf q = iI ((if q = k then 1 else 0 : Nat) : Int)) (s2 : ∀ x, x < U.1 → ui.2.2 x = U.2.2 x) (s3 : uOld ui) (s4 : ui.1 = U.1 + 2) (s5 : ui.2.1 = U.2.1 + 11) : ∃ (df : Nat → Option Nat) (u' : UH) (arr' : Nat), ui.2.2 (la 3) = some (.inl (6, n, .inr (.inr (.inr (.inr df))))) ∧ uIs (uSet ui (la 3) (.inl (6, n, .inr (.inr (.inr (.inr (va_up df c (some U.1)))))))) (la 4) 18 = true ∧ (uSet ui (la 3) (.inl (6, n, .inr (.inr (.inr (.inr (va_up df c (some U.1)))))))).2.2 (la 0) = U.2.2 (la 0) ∧ f_J2_add N b g (uSet ui (la 3) (.inl (6, n, .inr (.inr (.inr (.inr (va_up df c (some U.1)))))))) (la 4) (some U.1) = some (1, u') ∧ vLd u' g (zU la 5 arr') (zU da nd U.1) (zU wa nd (U.1 + 1)) a v8 v9 v10 w h n (nd + 1) hts fl (zU dO c nd) (zU kn nd (-1)) (zU wg nd (fun q => if q = k then 1 else 0)) ∧ (∀ x, x < U.1 → x ≠ la 3 → x ≠ la 4 → (b ≤ la 5 → x ≠ la 5) → u'.2.2 x = U.2.2 x) ∧ uOld u' ∧ ((arr' = la 5 ∧ b ≤ la 5 ∧ u'.1 = U.1 + 2 ∧ u'.2.1 = U.2.1 + 11) ∨ (arr' = U.1 + 2 ∧ u'.1 = U.1 + 3 ∧ u'.2.1 ≤ U.2.1 + 21 ∧ U.2.1 ≤ u'.2.1)) ∧ (∃ m z, u'.2.2 arr' = some (.inl (4, m, z)) ∧ m ≠ 0) ∧ u'.2.2 U.1 = some (.inr (13, [.int (iI nd), .ref (U.1 + 1), .int (iI (-1))])) := by
  obtain ⟨l0, hw, hh, hn, hnd', ⟨hf, a1, a2⟩, ⟨gf, g1, g2⟩, ⟨df, f1, f2⟩, ⟨m, mc, xs, ⟨x1, x2, x3, x5⟩, x4⟩, ⟨yf, wr, y1, y2⟩, hdd⟩ := hL
  have k_ : ∀ {x : Nat} {e : uE}, U.2.2 x = some e → ui.2.2 x = some e := fun q => (s2 _ (oU _ _ q)).trans q
  obtain ⟨u7, hu7⟩ : ∃ u7, u7 = uSet ui (la 3) (.inl (6, n, .inr (.inr (.inr (.inr (va_up df c (some U.1))))))) := ⟨_, rfl⟩
  have nr : ∀ {x cl : Nat} {fs : List Value}, ui.2.2 x = some (.inr (cl, fs)) → u7.2.2 x = some (.inr (cl, fs)) := fun q => by
    rw [hu7]
    exact (u_sn (Ne.symm (u_nlr (k_ f1) q))).trans q
  have nl : ∀ {x t m' : Nat} {z : uVs}, ui.2.2 x = some (.inl (t, m', z)) → t ≠ 6 → u7.2.2 x = some (.inl (t, m', z)) := fun q q' => by
    rw [hu7]
    exact (u_sn (u_nll q (k_ f1) (Or.inl q'))).trans q
  have f7 : u7.2.2 (la 3) = some (.inl (6, n, .inr (.inr (.inr (.inr (va_up df c (some U.1))))))) := by
    rw [hu7]
    exact u_ss
  have o7 : uOld u7 := by
    rw [hu7]
    exact s3.set (k_ f1)
  have e7 : u7.1 = U.1 + 2 := by
    rw [hu7]
    exact s4
  have e8 : u7.2.1 = U.2.1 + 11 := by
    rw [hu7]
    exact s5
  have vl : vLs u7 (la 4) (la 5) nd m mc xs := ⟨nr (k_ x1), nl (k_ x2) (by decide), x3, x5⟩
  obtain ⟨q5, q6⟩ := h5 m _ x2
  have hxs : ∀ i, i < nd → ucase (xs i) true (uObj u7) = true := fun i hi => by
    rw [x4 i hi]
    exact u_obj (nr (k_ (hdd i hi).1.1))
  obtain ⟨u', arr', m', xs', r1, r2, r3, r4, r5, r6, r7, r8⟩ := l_add (N := N) (b := b) (g := g) (v := U.1) vl o7 hb4 (by omega) (fun z => q6 (by omega)) q5 hmi hxs (by omega) (u_obj (nr s0))
  have hm' : m' ≠ 0 := by
    have := r2.2.2.1
    omega
  have fr : ∀ {x : Nat}, x < U.1 + 2 → x ≠ la 4 → (nd < m → x ≠ la 5) → u'.2.2 x = u7.2.2 x := fun q1 q2 q3 => r5 _ q2 q3 (by omega)
  have nr' : ∀ {x cl : Nat} {fs : List Value}, ui.2.2 x = some (.inr (cl, fs)) → cl ≠ 18 → u'.2.2 x = some (.inr (cl, fs)) := fun {x cl fs} q q' => by
    have lt := s3 _ _ q
    have n4 : x ≠ la 4 := fun z => by
      rw [z, k_ x1] at q
      injection q with q
      injection q with q
      injection q with q _
      exact q' q.symm
    rw [fr (by omega) n4 (fun _ => Ne.symm (u_nlr (k_ x2) q))]
    exact nr q
  have nl' : ∀ {x t m' : Nat} {z : uVs}, ui.2.2 x = some (.inl (t, m', z)) → t ≠ 6 → t ≠ 4 → u'.2.2 x = some (.inl (t, m', z)) := fun {x t m' z} q q1 q2 => by
    have lt := s3 _ _ q
    rw [fr (by omega) (u_nlr q (k_ x1)) (fun _ => u_nll q (k_ x2) (Or.inl q2))]
    exact nl q q1
  have f8 : u'.2.2 (la 3) = some (.inl (6, n, .inr (.inr (.inr (.inr (va_up df c (some U.1))))))) := by
    have lt := oU _ _ f1
    rw [fr (by omega) (u_nlr f1 x1) (fun _ => u_nll f1 x2 (Or.inl (by decide)))]
    exact f7
  have ar : arr' = la 5 ∨ arr' = U.1 + 2 := by
    rcases r8 with q | q
    · exact Or.inl q.2.1
    · exact Or.inr (q.2.1.trans e7)
  refine ⟨df, u', arr', k_ f1, ?_, ?_, ?_, ?_, fun x q1 q2 q3 q4 => ?_, r6, ?_, ⟨m', _, r2.2.1, hm'⟩, nr' s0 (by decide)⟩
  · rw [← hu7]
    exact v_is vl.1
  · rw [← hu7, l0]
    exact nr (k_ l0)
  · rw [← hu7]
    exact r1
  · refine ⟨nr' (k_ l0) (by decide), hw, hh, hn, by omega, ⟨hf, nl' (k_ a1) (by decide) (by decide), a2⟩, ⟨gf, nl' (k_ g1) (by decide) (by decide), g2⟩, ⟨_, f8, fun c' hc' => ?_⟩, ⟨m', mc + 1, xs', ?_, fun e he => ?_⟩, ⟨yf, wr, nl' (k_ y1) (by decide) (by decide), y2⟩, fun e he => ?_⟩
    · obtain ⟨w1, w2, w3, w4⟩ := f2 c' hc'
      by_cases q : c' = c
      · subst q
        rw [zU_s]
        refine ⟨by omega, by omega, fun z => by omega, fun _ => ?_⟩
        have : ((nd : Int)).toNat = nd := rfl
        rw [this, zU_s]
        exact if_pos rfl
      · rw [zU_n q]
        refine ⟨by omega, by omega, fun z => (if_neg q).trans (w3 z), fun z => ?_⟩
        rw [zU_n (by omega)]
        exact (if_neg q).trans (w4 z)
    · show vLs u' (la 4) arr' (nd + 1) m' (mc + 1) xs'
      exact r2
    · by_cases q : e = nd
      · subst q
        rw [zU_s]
        exact r4
      · rw [zU_n q, r3 e (by omega)]
        exact x4 e (by omega)
    · by_cases q : e = nd
      · subst q
        rw [zU_s, zU_s, zU_s, zU_s]
        obtain ⟨wf, w1, w2⟩ := s1
        refine ⟨⟨nr' s0 (by decide), wf, nl' w1 (by decide) (by decide), fun q _ => ⟨w2 q, ?_⟩⟩, ?_⟩
        · show (if q = k then 1 else 0) ≤ 9
          split <;> omega
        · have := zI_one ⟨k, hk⟩
          show 1 ≤ zCn (fun q => if q = k then 1 else 0) 8 ∧ zCn (fun q => if q = k then 1 else 0) 8 ≤ 3
          have t : zCn (fun q => if q = k then 1 else 0) 8 = 1 := this
          rw [t]
          omega
      · rw [zU_n q, zU_n q, zU_n q, zU_n q]
        obtain ⟨⟨d1, wf, d2, d3⟩, d4⟩ := hdd e (by omega)
        exact ⟨⟨nr' (k_ d1) (by decide), wf, nl' (k_ d2) (by decide) (by decide), d3⟩, d4⟩
  · rw [fr (by omega) q3 (fun z => q4 (q6 (by omega))), hu7, u_sn q2]
    exact s2 x q1
  · rcases r8 with q | q
    · exact Or.inl ⟨q.2.1, q6 (by omega), by omega, by omega⟩
    · refine Or.inr ⟨by omega, by omega, ?_, by omega⟩
      have : lGr m ≤ 10 := by
        have : m < 5 := by omega
        unfold lGr
        split
        · omega
        · split <;> omega
      omega
theorem k_doubt (hQ : qOk Q) (h : xSt b g A ad sa Q U lab σ) (hN : 20 ≤ N) (x : Int32) : ∃ r U' σ' dc ds, f_X1_doubt N b g U (ad 0) x = some (r, U') ∧ f_doubt N σ x = some (r, σ') ∧ xStep b g A ad sa Q U lab U' σ' dc ds ∧ dc ≤ 3 ∧ ds ≤ 21 := by
  obtain ⟨U1, n1, n2⟩ := k_ref (N := N) (t := 1) (by decide) hQ h
  obtain ⟨U3, n3, n4⟩ := k_ref (N := N) (t := 3) (by decide) hQ h
  obtain ⟨U5, n5, n6⟩ := k_ref (N := N) (t := 5) (by decide) hQ h
  have hi0 := k_is h
  unfold f_X1_doubt f_doubt
  rw [if_pos hi0, m_good, q_mv]
  rcases k_map (N := N) h with hno | ⟨bkv, ptv, lo, hi, a, al, rv, nm, B, dead, la, da, wa, v8, v9, v10, w, h', n, nd, hts, fl, dO, kn, dc, wg, hx, hI, hbk, vB, h7, h12, h34, hL, hM, hSo, hG, hLl, hce⟩
  · refine ⟨-1, U1, mT σ 1, 0, 0, ?_, ?_, n2, by omega, by omega⟩
    · rw [(hno x).1, q_uc, if_pos rfl, if_pos hi0, n1, q_uc]
    · rw [(hno x).2, q_mc, if_pos rfl, m_no, q_mc]
  · rcases hce x with q | ⟨c1, c2, c, c3, c4⟩
    · refine ⟨-1, U1, mT σ 1, 0, 0, ?_, ?_, n2, by omega, by omega⟩
      · rw [q.1, q_uc, if_pos rfl, if_pos hi0, n1, q_uc]
      · rw [q.2, q_mc, if_pos rfl, m_no, q_mc]
    · have hn := hL.2.2.2.1
      have hnd := hL.2.2.2.2.1
      have m4 : w * h' ≤ 10 * 10 := Nat.mul_le_mul hL.2.1.2 hL.2.2.1.2
      have hl := hI.2.2.1.1
      have hl11 := hI.2.2.1.2
      have l0 := hI.2.2.2.2.2.1.1
      have ba0 : b ≤ ad 0 := lab_ge hl (by omega)
      have sz := c_siz (N := N) (b := b) hL
      obtain ⟨df, f1, f2⟩ := hL.2.2.2.2.2.2.2.1
      obtain ⟨o1, o2, o3, o4⟩ := f2 c c4
      obtain ⟨t1, t2⟩ := t_ix (a := (c : Int)) (n := mLen 43) (k := c) rfl (by rw [mL43]; omega) (by rw [mL43]; omega)
      have Ld : uLdR U (la 3) 6 (iI (c : Int)) = some (df c) := u_ldR f1 (by omega) (by omega) (by omega)
      have k43 : (mT σ 0).2.1 43 c = iI (dO c) := (hM.2.2.2.2.1 c c4).2.2.1
      have k37 : (mT σ 0).1 37 = iI nd := hM.2.2.1
      rw [c1, c2, q_uc, q_mc, if_neg n10, if_neg n10, x_mp hx, p_bs, p_bs, v_gr hL.1 (k := 5) rfl, p_bs, p_bs, c3, Ld, p_bs, if_pos t1, p_let, t2, k43]
      by_cases hd : dO c = -1
      · rw [o3 hd, q_cn, p_bs, p_bs, v_gr hL.1 (k := 6) rfl, p_bs, p_bs, if_pos sz.2, sz.1, q_uc, if_pos (show iI (dO c) = -1 by rw [hd]; rfl), k37]
        by_cases h5 : nd = 5
        · subst h5
          refine ⟨-1, U3, mT σ 3, 0, 0, ?_, ?_, n4, by omega, by omega⟩
          · rw [if_pos (show iI ((5 : Nat) : Int) = 5 from rfl), if_pos hi0, n3, q_uc]
          · rw [if_pos (show iI ((5 : Nat) : Int) = 5 from rfl), m_no, q_mc]
        · have n5' : ¬ iI (nd : Int) = 5 := by
            rw [show (5 : Int32) = iI 5 from rfl, j_eq (by omega) (by omega) (by omega) (by omega)]
            omega
          have nd5 : nd < 5 := by omega
          have oU := hI.1
          have hb := hI.2.1
          obtain ⟨w42, w43, -, -, -⟩ := hM.2.2.2.2.1 c c4
          have b8 := hM.1.1.2.2.2.2.2.1
          have k8 : fl c < 8 := by omega
          obtain ⟨ui, i1, s0, s1, s2, s3, s4, s5⟩ := c_dinit (N := N) (b := b) (g := g) (u := U) (nd := nd) (k := fl c) oU hb k8
          have lt8 : ∀ {x}, lab x = 8 → x < U.1 := fun {x} q => by
            apply Classical.byContradiction
            intro z
            have := hl11 x (by omega)
            omega
          obtain ⟨⟨i0', i1', i2', i3', i4', i6'⟩, j1', j2', j3'⟩ := hLl
          obtain ⟨mi, hmi⟩ := hI.2.2.2.1.2.1
          obtain ⟨df', u', arr', z1, z2, z3, z4, z5, z6, z7, z8, ⟨mm, zz, z9, z10⟩, z11⟩ := hL.dbt (N := N) (b := b) (c := c) (k := fl c) (ui := ui) (mi := mi) c4 hd nd5 k8 (lab_ge hl (by omega)) (lab_ge hl (by omega)) (fun m z q => ⟨fun e => ((j3' m z q).1 e).1, fun e => lab_ge hl (by rw [(j3' m z q).2 e]; decide)⟩) hmi hb oU s0 s1 s2 s3 s4 s5
          have hx7 : ∀ {e : uE}, (uSet ui (la 3) e).2.2 (ad 0) = U.2.2 (ad 0) := fun {e} => (u_sn (fun z => by rw [z, i3'] at l0; omega)).trans (s2 _ (oU _ _ hx))
          have lb5 : b ≤ la 5 → lab (la 5) = 8 := fun q => by
            obtain ⟨-, -, -, -, -, -, -, -, ⟨m, mc, xs, ⟨x1, x2, x3⟩, x4⟩, -⟩ := hL
            obtain ⟨w1, w2⟩ := j3' m _ x2
            by_cases hm : m = 0
            · have := (w1 hm).2
              omega
            · exact w2 hm
          have fr : ∀ x, lab x ≠ 8 → x < U.1 → u'.2.2 x = U.2.2 x := fun x q1 q2 => z6 x q2 (fun z => q1 (by rw [z]; exact i3')) (fun z => q1 (by rw [z]; exact i4')) (fun q z => q1 (by rw [z]; exact lb5 q))
          have hx8 : u'.2.2 (ad 0) = some (xO ad σ bkv (.ref (la 0)) ptv) := (fr _ (by omega) (oU _ _ hx)).trans hx
          have U2 : U.1 + 2 ≤ u'.1 ∧ u'.1 ≤ U.1 + 3 ∧ u'.2.1 ≤ U.2.1 + 21 ∧ U.2.1 ≤ u'.2.1 := by
            rcases z8 with q | q <;> omega
          have hL0 : ui.2.2 (la 0) = some (.inr (12, [.ref a, .int (iI w), .int (iI h'), .ref (la 1), .ref (la 2), .ref (la 3), .ref (la 4), .ref (la 6), v8, v9, v10])) := (s2 _ (oU _ _ hL.1)).trans hL.1
          have hx6 : (uNew U 3 (.inr (13, uDefs tyX15 3))).2.2 (ad 0) = some (xO ad σ bkv (.ref (la 0)) ptv) := u_no oU hx
          have hLn : (uNew U 3 (.inr (13, uDefs tyX15 3))).2.2 (la 0) = some (.inr (12, [.ref a, .int (iI w), .int (iI h'), .ref (la 1), .ref (la 2), .ref (la 3), .ref (la 4), .ref (la 6), v8, v9, v10])) := u_no oU hL.1
          have sz2 : f_J2_size N b g (uNew U 3 (.inr (13, uDefs tyX15 3))) (la 4) = some (iI nd, uNew U 3 (.inr (13, uDefs tyX15 3))) ∧ uIs (uNew U 3 (.inr (13, uDefs tyX15 3))) (la 4) 18 = true := by
            obtain ⟨-, -, -, -, -, -, -, -, ⟨m, mc, xs, ⟨x1, x2, x3⟩, x4⟩, -⟩ := hL
            have vl : vLs (uNew U 3 (.inr (13, uDefs tyX15 3))) (la 4) (la 5) nd m mc xs := ⟨u_no oU x1, u_no oU x2, x3⟩
            exact ⟨l_size vl, v_is vl.1⟩
          have Lg : uLdI (uNew U 3 (.inr (13, uDefs tyX15 3))) (la 2) 0 (iI (c : Int)) = some (iI (fl c)) := by
            obtain ⟨gf, g1, g2⟩ := hL.2.2.2.2.2.2.1
            rw [u_ldI (u_no oU g1) (by omega) (by omega) (by omega)]
            exact congrArg some (g2 c c4)
          obtain ⟨t3, t4⟩ := t_ix (a := (nd : Int)) (n := mLen 44) (k := nd) rfl (by rw [mL44]; omega) (by rw [mL44]; omega)
          obtain ⟨t5, t6⟩ := t_ix (a := (nd : Int)) (n := mLen 45) (k := nd) rfl (by rw [mL45]; omega) (by rw [mL45]; omega)
          obtain ⟨σL, y1, y2, y3, y4, y5⟩ := m_do80 (N := N) (σ := mArr (mArr (mArr (mT σ 0) 43 c (iI nd)) 44 nd (iI c)) 45 nd (-1)) (c := c) (nd := nd) (k := fl c) (by omega) k8 nd5 (by
            show σ.2.1 42 c = _
            exact w42) k37 N 0 _ (by omega) (by omega) rfl (fun _ _ => rfl) (fun _ _ => rfl) (fun i hi => by omega)
          have st : uStR b ui (la 3) 6 (iI (c : Int)) (some U.1) = some (uSet ui (la 3) (.inl (6, n, .inr (.inr (.inr (.inr (va_up df' c (some U.1)))))))) := u_stR z1 (lab_ge hl (by omega)) (by omega) (by omega) (by omega)
          refine ⟨iI nd, uSet u' (ad 0) (xO ad (mT σ 0) bkv (.ref (la 0)) ptv), mSet (mSet σL 37 (iI ((nd + 1 : Nat) : Int))) 51 0, u'.1 - U.1, u'.2.1 - U.2.1, ?_, ?_, ?_, by omega, by omega⟩
          · unfold f_X1_doubt_55 f_X1_doubt_78 f_X1_doubt_100
            rw [if_neg n5', p_let, p_let, x_mp hx6, p_bs, p_bs, v_gr hLn (k := 6) rfl, p_bs, p_bs, if_pos sz2.2, sz2.1, q_uc, x_mp hx6, p_bs, p_bs, v_gr hLn (k := 4) rfl, p_bs, p_bs, Lg, p_bs, p_bs, i1, p_bs, x_mp ((s2 _ (oU _ _ hx)).trans hx), p_bs, p_bs, v_gr hL0 (k := 5) rfl, p_bs, p_bs, p_bs, if_pos (v_is s0), st, p_bs, x_mp (hx7.trans hx), p_bs, p_bs, v_gr (z3.trans hL.1) (k := 6) rfl, p_bs, p_bs, if_pos z2, z4, q_uc, p_bs, v_gi z11 (k := 0) rfl, p_bs, if_pos (v_is hx8), x_don hx8 ba0, q_uc]
          · have q37 : (mArr (mT σ 0) 43 c (iI nd)).1 37 = iI nd := k37
            have q37' : (mArr (mArr (mT σ 0) 43 c (iI nd)) 44 nd (iI c)).1 37 = iI nd := k37
            rw [if_neg n5', if_pos t1, p_let, q37, if_pos t3, p_let, t4, q37', if_pos t5, p_let, t6, ← show iI ((0 : Nat) : Int) = 0 from rfl]
            exact y1
          · have lbx : ∀ {x}, x < U.1 → (if U.1 ≤ x ∧ x < u'.1 then 8 else lab x) = lab x := fun q => if_neg (by omega)
            have lby : ∀ {x}, U.1 ≤ x → x < u'.1 → (if U.1 ≤ x ∧ x < u'.1 then 8 else lab x) = 8 := fun q1 q2 => if_pos ⟨q1, q2⟩
            have s3w : ∀ k, σL.1 k = (mT σ 0).1 k := fun k => congrFun y2 k
            have k37n : (mSet (mSet σL 37 (iI ((nd + 1 : Nat) : Int))) 51 0).1 37 = iI ((nd + 1 : Nat) : Int) := by
              show upd (upd σL.1 37 (iI ((nd + 1 : Nat) : Int))) 51 0 37 = _
              rw [upd_n (by decide), upd_s]
            have ksA : ∀ k, k ≠ 37 → k ≠ 51 → (mSet (mSet σL 37 (iI ((nd + 1 : Nat) : Int))) 51 0).1 k = (mT σ 0).1 k := fun k q37 q51 => (upd_n q51).trans ((upd_n q37).trans (s3w k))
            have hM1 : mLand (mSet (mSet σL 37 (iI ((nd + 1 : Nat) : Int))) 51 0) B dead w h' n (nd + 1) hts fl (zU dO c nd) (zU kn nd (-1)) (zU dc nd c) (zU wg nd (fun q => if q = fl c then 1 else 0)) := by
              obtain ⟨y0', y1', y2', y3', y4', y5', y6'⟩ := hM
              have ks : ∀ k, k ≠ 0 → k ≠ 37 → k ≠ 39 → k ≠ 51 → (mSet (mSet σL 37 (iI ((nd + 1 : Nat) : Int))) 51 0).1 k = σ.1 k := fun k q0 q37 q39 q51 => (upd_n q51).trans ((upd_n q37).trans ((s3w k).trans ((upd_n q39).trans (upd_n q0))))
              have ka : ∀ j, j ≠ 43 → j ≠ 44 → j ≠ 45 → j ≠ 46 → (mSet (mSet σL 37 (iI ((nd + 1 : Nat) : Int))) 51 0).2.1 j = σ.2.1 j := fun j q43 q44 q45 q46 => (y3 j q46).trans ((if_neg q45).trans ((if_neg q44).trans (if_neg q43)))
              have k43 : σL.2.1 43 = upd (σ.2.1 43) c (iI nd) := (y3 43 (by decide)).trans rfl
              have k44 : σL.2.1 44 = upd (σ.2.1 44) nd (iI c) := (y3 44 (by decide)).trans rfl
              have k45 : σL.2.1 45 = upd (σ.2.1 45) nd (-1) := (y3 45 (by decide)).trans rfl
              refine ⟨mMap_k y0' ks ka, y1', k37n, by omega, fun q hq => ?_, fun e he => ?_, fun e he => ?_⟩
              · obtain ⟨w1, w2, w3, w4, w5⟩ := y4' q hq
                refine ⟨(congrFun (ka 42 (by decide) (by decide) (by decide) (by decide)) q).trans w1, w2, ?_⟩
                show σL.2.1 43 q = _ ∧ _
                rw [k43]
                by_cases qq : q = c
                · subst qq
                  rw [upd_s, zU_s]
                  exact ⟨rfl, by omega, by omega⟩
                · rw [upd_n qq, zU_n qq]
                  exact ⟨w3, w4, by omega⟩
              · show σL.2.1 44 e = _ ∧ _ ∧ σL.2.1 45 e = _ ∧ _
                rw [k44, k45]
                by_cases qq : e = nd
                · subst qq
                  rw [upd_s, upd_s, zU_s, zU_s]
                  exact ⟨rfl, c4, rfl, by omega, by omega⟩
                · rw [upd_n qq, upd_n qq, zU_n qq, zU_n qq]
                  exact y5' e (by omega)
              · by_cases qq : e = nd
                · subst qq
                  rw [zU_s]
                  have t := zI_one ⟨fl c, k8⟩
                  have t' : zCn (fun q => if q = fl c then 1 else 0) 8 = 1 := t
                  refine ⟨fun g hg => ⟨y5 g hg, ?_, fun z => ?_⟩, by rw [t']; omega, by rw [t']; omega⟩
                  · show (if g = fl c then 1 else 0) ≤ 9
                    split <;> omega
                  · have z' : ¬ (if g = fl c then 1 else 0) = 0 := z
                    by_cases gg : g = fl c
                    · rw [gg]
                      exact w43
                    · rw [if_neg gg] at z'
                      exact absurd rfl z'
                · rw [zU_n qq]
                  obtain ⟨w1, w2⟩ := y6' e (by omega)
                  refine ⟨fun g hg => ⟨?_, (w1 g hg).2⟩, w2⟩
                  exact ((y4 (8 * e + g) (by omega)).trans rfl).trans (w1 g hg).1
            have hG1 : xGe n (nd + 1) (zU dO c nd) (zU kn nd (-1)) (zU dc nd c) (zU wg nd (fun q => if q = fl c then 1 else 0)) := by
              obtain ⟨v1, v2, v3⟩ := hG
              refine ⟨fun q hq hz => ?_, fun e he => ?_, fun e he hz => ?_⟩
              · by_cases qq : q = c
                · subst qq
                  rw [zU_s]
                  exact zU_s
                · rw [zU_n qq] at hz ⊢
                  have := (f2 q hq).2.1
                  have := (f2 q hq).1
                  rw [zU_n (by omega)]
                  exact v1 q hq hz
              · by_cases qq : e = nd
                · subst qq
                  rw [zU_s, zU_s]
                  exact ⟨c4, rfl⟩
                · obtain ⟨w1, w2⟩ := v2 e (by omega)
                  have nc : dc e ≠ c := fun z => by
                    rw [z, hd] at w2
                    omega
                  rw [zU_n qq, zU_n nc]
                  exact ⟨w1, w2⟩
              · by_cases qq : e = nd
                · subst qq
                  rw [zU_s] at hz
                  exact absurd rfl hz
                · rw [zU_n qq] at hz ⊢
                  rw [zU_n qq]
                  exact v3 e (by omega) hz
            have hLl1 : xLl b g u' (fun x => if U.1 ≤ x ∧ x < u'.1 then 8 else lab x) (zU la 5 arr') (zU da nd U.1) (zU wa nd (U.1 + 1)) (nd + 1) := by
              have ll : ∀ {x}, lab x = 8 → (if U.1 ≤ x ∧ x < u'.1 then 8 else lab x) = 8 := fun q => by
                split
                · rfl
                · exact q
              have w8 : ∀ e, e < nd → lab (wa e) = 8 := fun e he => (j1' e he).2.1
              refine ⟨⟨ll i0', ll i1', ll i2', ll i3', ll i4', ll i6'⟩, fun e he => ?_, j2', fun m z q => ⟨fun e => ?_, fun e => ?_⟩⟩
              · by_cases qq : e = nd
                · subst qq
                  rw [zU_s, zU_s]
                  refine ⟨if_pos ⟨Nat.le_refl _, by omega⟩, if_pos ⟨by omega, by omega⟩, ?_, ?_, fun e' he' ne => ?_⟩
                  · have := lt8 i1'
                    show U.1 + 1 ≠ la 1
                    omega
                  · have := lt8 i2'
                    show U.1 + 1 ≠ la 2
                    omega
                  · have := lt8 (w8 e' (by omega))
                    rw [zU_n ne]
                    omega
                · rw [zU_n qq, zU_n qq]
                  obtain ⟨w1, w2, w3, w4, w5⟩ := j1' e (by omega)
                  refine ⟨ll w1, ll w2, w3, w4, fun e' he' ne => ?_⟩
                  by_cases q3 : e' = nd
                  · subst q3
                    rw [zU_s]
                    have := lt8 w2
                    omega
                  · rw [zU_n q3]
                    exact w5 e' (by omega) ne
              · have q' : u'.2.2 arr' = some (.inl (4, m, z)) := q
                rw [z9] at q'
                injection q' with q'
                injection q' with q'
                injection q' with _ q'
                injection q' with q' _
                omega
              · show (if U.1 ≤ arr' ∧ arr' < u'.1 then 8 else lab arr') = 8
                rcases z8 with w | w
                · rw [w.1]
                  exact ll (lb5 w.2.1)
                · exact if_pos ⟨by omega, by omega⟩
            have sg := k_mut (σ1 := mSet (mSet σL 37 (iI ((nd + 1 : Nat) : Int))) 51 0) (U' := u') (lab' := fun x => if U.1 ≤ x ∧ x < u'.1 then 8 else lab x) hQ hI hbk vB h7 h12 (fun x => by
              by_cases q : U.1 ≤ x ∧ x < u'.1
              · exact Or.inr ⟨q.1, if_pos q⟩
              · exact Or.inl (if_neg q)) (fun x q => (if_neg (by omega)).trans (hl11 x (by omega))) z7 (by omega) fr ((ksA 34 (by decide) (by decide)).trans h34) z5 hM1 (fun z => absurd rfl z) hG1 hLl1 (fun k q0 q37 _ q39 q51 => (upd_n q51).trans ((upd_n q37).trans ((s3w k).trans ((upd_n q39).trans (upd_n q0))))) (Or.inr ⟨nd, hM.2.2.1, nd5, k37n⟩) (fun j q41 q42 q43 q44 q45 q46 => (y3 j q46).trans ((if_neg q45).trans ((if_neg q44).trans (if_neg q43))))
            refine k_fins hQ sg hx8 l0 (fun x q => fr x (by omega) ?_) (by omega) (by omega) (ksA 39 (by decide) (by decide)) ⟨ksA 10 (by decide) (by decide), ksA 38 (by decide) (by decide), ksA 2 (by decide) (by decide), ksA 9 (by decide) (by decide), ksA 63 (by decide) (by decide), ksA 64 (by decide) (by decide), ksA 65 (by decide) (by decide)⟩
            apply Classical.byContradiction
            intro z
            have := hl11 x (by omega)
            omega
      · refine ⟨-1, U5, mT σ 5, 0, 0, ?_, ?_, n6, by omega, by omega⟩
        · rw [o4 hd, q_cs, if_pos hi0, n5, q_uc]
        · rw [if_neg (show ¬ iI (dO c) = -1 by rw [j_m1, j_eq (by omega) (by omega) (by omega) (by omega)]; exact hd), m_no, q_mc]
end F4s

/-! PLAIN: the class's look; what stands fast stays so -/
theorem c_lo17 {N b : Nat} {g : uEnv} {u : UH} {la da wa sa : Nat → Nat} {bk so go ta nb fd : Nat} {jd v8 v9 v10 : Value} {w h n nd : Nat} {hts : Nat → Int} {fl : Nat → Nat} {dO kn : Nat → Int} {wg : Nat → Nat → Nat} {f : Nat → Int32} (hO : vSo u so (la 0) go n jd sa) (hL : vLd u g la da wa bk v8 v9 v10 w h n nd hts fl dO kn wg) (hnb : nb < 32) (hfd : yCan nd kn wg fd) (hff : ∀ e, e < nd → zD fd e ≠ 0) (hta : u.2.2 ta = some (.inl (0, 5, .inl f))) (hf : ∀ e, e < nd → f e = iI (zTg wg fd e)) (hN : 9 ≤ N) : ∀ (m cd : Nat), zUk cd nd < m → cd < 1024 → f_X2_look_17 N b g so m u (some ta) (iI cd) (iI ((nb &&& zUb cd nd : Nat) : Int)) = some (iI (zSe nb fd cd nd), u) := by
  have hnd := hL.2.2.2.2.1
  intro m
  induction m with
  | zero => intro cd h1; omega
  | succ m ih =>
    intro cd h1 hcd
    have ul : zUb cd nd < 32 := Nat.lt_of_lt_of_le (zUb_lt nd) (Nat.pow_le_pow_right (by decide) hnd)
    have sl : nb &&& zUb cd nd < 32 := Nat.lt_of_le_of_lt Nat.and_le_right ul
    rw [f_X2_look_17]
    by_cases hz : nb &&& zUb cd nd = 0
    · rw [if_pos (show iI ((nb &&& zUb cd nd : Nat) : Int) = 0 by rw [hz]; rfl), zSe_id hcd hnd (z_free.mp hz)]
    · have hnw : zNw nd nb cd (nd + 1) 0 ≠ -1 := fun z => hz (z_free.mpr z)
      obtain ⟨e, q1, q2, q3, q4⟩ := zNw_s _ _ hnw
      obtain ⟨z1, z2, z3⟩ := z_first hnd hcd hnb q1 q2 q3 q4
      have hfe := hff e q2
      have fle : zD fd e ≤ zCn (wg e) 8 := ((hfd e (by omega)).2 q2).1
      have m3 := (hL.2.2.2.2.2.2.2.2.2.2 e q2).2.2
      have Lt : uLdI u ta 0 (iI (e : Int)) = some (iI (zKd (wg e) (zD fd e - 1))) := by
        rw [u_ldI hta (by omega) (by omega) (by omega)]
        exact congrArg some (hf e q2)
      have kn' := c_knows (N := N) (b := b) (k := zD fd e - 1) hO hL q2 hcd (by omega) q3 hN
      have uk := zUk_st (k := zD fd e - 1) hcd hnd q2 (by omega) q3
      have up := zD_up (k := zD fd e - 1) hcd (by omega : e < 5) (by omega) q3
      have zk := z3 (zD fd e - 1) (by omega)
      rw [show zD fd e - 1 + 1 = zD fd e from by omega] at kn' uk up zk
      rw [if_neg (show ¬ iI ((nb &&& zUb cd nd : Nat) : Int) = 0 by rw [j0, j_eq (by omega) (by omega) (by omega) (by omega)]; omega), c_tz z2 sl, z1, q_uc, p_bs, Lt, p_bs, if_pos (v_is hO), kn', q_uc, zk, p_let, ih (cd + zD fd e * 4 ^ e) (by omega) up.1, zSe_st hcd hnd q2 q3 q4 hfe]
theorem c_look {N b : Nat} {g : uEnv} {u : UH} {la da wa sa : Nat → Nat} {bk so ja ta fd c cd : Nat} {v8 v9 v10 : Value} {w h n nd ng go mean : Nat} {hts : Nat → Int} {fl nb : Nat → Nat} {dO kn : Nat → Int} {wg : Nat → Nat → Nat} {BG : Nat → Nat → Nat → Nat} {f : Nat → Int32} (hX : cCx u g la da wa sa so ja bk v8 v9 v10 w h n nd ng go mean hts fl nb dO kn wg BG) (hfd : yCan nd kn wg fd) (hff : ∀ e, e < nd → zD fd e ≠ 0) (hta : u.2.2 ta = some (.inl (0, 5, .inl f))) (hf : ∀ e, e < nd → f e = iI (zTg wg fd e)) (hcd : cd < 1024) (hc : c < n) (hN : 9 ≤ N) : f_X2_look N b g u so (iI c) (iI cd) (some ta) = some (iI (zSe (nb c) fd cd nd), u) := by
  obtain ⟨hO, hL, -, -, ⟨sf, f1, f2⟩, -⟩ := hX
  have hnd := hL.2.2.2.2.1
  have hn := hL.2.2.2.1
  have m4 : w * h ≤ 10 * 10 := Nat.mul_le_mul hL.2.1.2 hL.2.2.1.2
  obtain ⟨s1, s2⟩ := f2 c hc
  have ul : zUb cd nd < 32 := Nat.lt_of_lt_of_le (zUb_lt nd) (Nat.pow_le_pow_right (by decide) hnd)
  have Ls : uLdI u (sa 7) 0 (iI (c : Int)) = some (iI (nb c)) := by
    rw [u_ldI f1 (by omega) (by omega) (by omega)]
    exact congrArg some s1
  have uk := zUk_le (cd := cd) nd
  unfold f_X2_look
  rw [v_gr hO (k := 7) rfl, p_bs, p_bs, Ls, p_bs, if_pos (v_is hO), c_unk hO hL hcd (by omega), q_uc, t_and s2 ul, p_let]
  exact c_lo17 hO hL s2 hfd hff hta hf hN N cd (by omega) hcd
theorem c_vof {N b : Nat} {g : uEnv} {u : UH} {c t : Nat} (h : g.1 11 = some t) (hc : c < 100) : f_J19_valueOf N b g u (iI c) = some (some (g.2.2 (c + 128)), u) := by
  unfold f_J19_valueOf
  rw [show (-128 : Int32) = iI (-128) from rfl, show (127 : Int32) = iI 127 from rfl, show (128 : Int32) = iI 128 from rfl, n_lt (by omega) (by omega) (by omega) (by omega) (by omega), n_lt (by omega) (by omega) (by omega) (by omega) (by omega), p_let, h, p_bs, i_add]
  obtain ⟨i1, i2⟩ := t_ix (a := (c : Int) + 128) (n := 256) (k := c + 128) (by omega) (by omega) (by omega)
  rw [if_pos i1, p_let, i2]
theorem cCx.kH {u : UH} {g : uEnv} {la da wa sa : Nat → Nat} {bk so ja : Nat} {v8 v9 v10 : Value} {w h n nd ng go mean : Nat} {hts : Nat → Int} {fl nb : Nat → Nat} {dO kn : Nat → Int} {wg : Nat → Nat → Nat} {BG : Nat → Nat → Nat → Nat} {V : Nat → Int64} {D P : Nat → Int32} {b : Nat} (hk : kOk b sa) (hX : cCx u g la da wa sa so ja bk v8 v9 v10 w h n nd ng go mean hts fl nb dO kn wg BG) : cCx (kH u sa V D P) g la da wa sa so ja bk v8 v9 v10 w h n nd ng go mean hts fl nb dO kn wg BG := by
  obtain ⟨hO, hL, hi, ⟨cf, c1, c2⟩, ⟨sf, f1, f2⟩, h1, h2, h3, h4, hJ⟩ := hX
  refine ⟨hO.kH hi, hL.kH hi, ⟨⟨_, kH_4⟩, ⟨_, kH_5 hk⟩, _, kH_6 hk⟩, ⟨cf, kH_l hi c1 (by decide) (by decide), c2⟩, ⟨sf, kH_l hi f1 (by decide) (by decide), f2⟩, h1, h2, h3, h4, ?_⟩
  rcases hJ with ⟨q1, q2⟩ | ⟨q1, q2⟩
  · exact Or.inl ⟨q1, kH_r hi q2⟩
  · exact Or.inr ⟨q1, kH_r hi q2⟩
/-- all but a list and its array is as it was -/
def lKp (u u' : UH) (cl arr : Nat) (p : Prop) : Prop := ∀ x e, u.2.2 x = some e → x ≠ cl → (p → x ≠ arr) → u'.2.2 x = some e
theorem lKp.r {u u' : UH} {cl arr m c x : Nat} {fs fs' : List Value} {z : uVs} {p : Prop} (hk : lKp u u' cl arr p) (h1 : u.2.2 cl = some (.inr (18, fs))) (h2 : u.2.2 arr = some (.inl (4, m, z))) (h : u.2.2 x = some (.inr (c, fs'))) (hc : c ≠ 18) : u'.2.2 x = some (.inr (c, fs')) := hk x _ h (u_nrr h h1 hc) (fun _ => Ne.symm (u_nlr h2 h))
theorem lKp.l {u u' : UH} {cl arr m t n x : Nat} {fs : List Value} {z z' : uVs} {p : Prop} (hk : lKp u u' cl arr p) (h1 : u.2.2 cl = some (.inr (18, fs))) (h2 : u.2.2 arr = some (.inl (4, m, z))) (h : u.2.2 x = some (.inl (t, n, z'))) (hc : t ≠ 4) : u'.2.2 x = some (.inl (t, n, z')) := hk x _ h (u_nlr h h1) (fun _ => u_nll h h2 (Or.inl hc))
theorem cCx.keep {u u' : UH} {g : uEnv} {la da wa sa : Nat → Nat} {bk so ja cl arr m0 : Nat} {fs : List Value} {z : uVs} {v8 v9 v10 : Value} {w h n nd ng go mean : Nat} {hts : Nat → Int} {fl nb : Nat → Nat} {dO kn : Nat → Int} {wg : Nat → Nat → Nat} {BG : Nat → Nat → Nat → Nat} {p : Prop} (hk : lKp u u' cl arr p) (hc : u.2.2 cl = some (.inr (18, fs))) (ha : u.2.2 arr = some (.inl (4, m0, z))) (n4 : la 4 ≠ cl) (n5 : p → la 5 ≠ arr) (hX : cCx u g la da wa sa so ja bk v8 v9 v10 w h n nd ng go mean hts fl nb dO kn wg BG) : cCx u' g la da wa sa so ja bk v8 v9 v10 w h n nd ng go mean hts fl nb dO kn wg BG := by
  obtain ⟨hO, hL, ⟨⟨z4, i4⟩, ⟨z5, i5⟩, z6, i6⟩, ⟨cf, c1, c2⟩, ⟨sf, f1, f2⟩, h1, h2, h3, h4, hJ⟩ := hX
  obtain ⟨l0, hw, hh, hn, hnd, ⟨hf, a1, a2⟩, ⟨gf, g1, g2⟩, ⟨df, d1, d2⟩, ⟨m, mc, xs, ⟨x1, x2, x3⟩, x4⟩, ⟨yf, wr, y1, y2⟩, hdd⟩ := hL
  refine ⟨hk.r hc ha hO (by decide), ⟨hk.r hc ha l0 (by decide), hw, hh, hn, hnd, ⟨hf, hk.l hc ha a1 (by decide), a2⟩, ⟨gf, hk.l hc ha g1 (by decide), g2⟩, ⟨df, hk.l hc ha d1 (by decide), d2⟩, ⟨m, mc, xs, ⟨hk _ _ x1 n4 (fun _ => Ne.symm (u_nlr ha x1)), hk _ _ x2 (u_nlr x2 hc) n5, x3⟩, x4⟩, ⟨yf, wr, hk.l hc ha y1 (by decide), y2⟩, fun e he => ?_⟩, ⟨⟨z4, hk.l hc ha i4 (by decide)⟩, ⟨z5, hk.l hc ha i5 (by decide)⟩, z6, hk.l hc ha i6 (by decide)⟩, ⟨cf, hk.l hc ha c1 (by decide), c2⟩, ⟨sf, hk.l hc ha f1 (by decide), f2⟩, h1, h2, h3, h4, ?_⟩
  · obtain ⟨⟨q1, wf, q2, q3⟩, q4⟩ := hdd e he
    exact ⟨⟨hk.r hc ha q1 (by decide), wf, hk.l hc ha q2 (by decide), q3⟩, q4⟩
  · rcases hJ with ⟨q1, q2⟩ | ⟨q1, q2⟩
    · exact Or.inl ⟨q1, hk.r hc ha q2 (by decide)⟩
    · exact Or.inr ⟨q1, hk.r hc ha q2 (by decide)⟩

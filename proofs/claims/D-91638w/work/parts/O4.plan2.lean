/-! PLAIN: a plan is read: the loop and the depths -/
section L3s
variable {N b : Nat} {g : uEnv} {lo rd tp n pl bo mp nD nG np : Nat} {T : Nat → Nat} {rp rs ri rp' rs' ri' : roT} {d : Nat}
theorem k_plL {U0 : UH} {σ0 : MS} {at0 k0 cs0 a : Nat} (hS : stOk N b g lo rd tp n T pl bo mp nD nG np rs d) (hd : d ≤ 6) (hN : 2000 ≤ N) (hU0 : lo ≤ U0.1) (ha : U0.1 ≤ a) : ∀ (q : Nat) (U : UH) (σ : MS) (at' k cs m cnt : Nat), pP b g lo rd tp n T pl bo mp nD nG np U σ at' k cs d → pLi b g U0 U (fun i => σ.2.1 56 (512 * np + i)) nD nG np (6 - d) a k0 k cnt → cnt + cs0 ≤ cs → 42 ≤ q + cs → 42 ≤ m + cs → pTo lo rd pl np k0 d (4 * (cs - cs0) + 1) (80 * (cs - cs0) + 3) U0 σ0 at0 U σ at' → k0 ≤ k → (∃ (x : Nat) (U' : UH) (σ' : MS), f_X11_plan_8 N b g rp rs ri pl q U (some a) = some (.inl (x, U')) ∧ f_reads_4 N m σ (iI d) 1 = some σ' ∧ rEp lo np (4 * (n - at0) + (4 * (40 - cs0) + 3)) (32 * (n - at0) + (80 * (40 - cs0) + 13)) U0 σ0 x U' σ') ∨ (∃ (U' : UH) (σ' : MS) (at2 k' cs' m' n' : Nat), f_X11_plan_8 N b g rp rs ri pl q U (some a) = some (.inr (some a, U')) ∧ f_reads_4 N m σ (iI d) 1 = f_reads_35 N (f_reads_4 N m') n' σ' (iI d) 1 1 ∧ pP b g lo rd tp n T pl bo mp nD nG np U' σ' at2 k' cs' d ∧ σ'.1 6 ≠ 59 ∧ (m' + cs' = m + cs ∧ N + d ≤ n' + 6 ∧ cs < cs' ∧ k < k' ∧ k' + 2 * cs ≤ k + 2 * cs') ∧ pTo lo rd pl np k0 d (4 * (cs' - cs0)) (80 * (cs' - cs0)) U0 σ0 at0 U' σ' at2 ∧ (np < 8 → vPf b (pF U0 U') g U' (fun i => σ'.2.1 56 (512 * np + i)) nD nG (6 - d + 1) a k0 k')) := by
  intro q
  induction q with
  | zero =>
    intro U σ at' k cs m cnt h _ _ hq
    have := h.2.2.2.1.2
    omega
  | succ q ih =>
    intro U σ at' k cs m cnt h hL hcnt hq hm hT hk
    obtain ⟨hr, hpl, hlp, ⟨h59, h59'⟩, ⟨h58, h58'⟩, ⟨h40, h40'⟩, hO⟩ := id h
    have hal := hr.le
    have ho : uOld U := hr.2.2.2.2.2.1
    have hlo : b ≤ lo := hr.2.2.2.2.2.2.1
    obtain ⟨mi, h20⟩ := hr.2.2.2.2.1.mi
    obtain ⟨m', hm'⟩ : ∃ z, m = z + 1 := ⟨m - 1, by omega⟩
    subst hm'
    rw [f_X11_plan_8, if_pos (v_is hpl)]
    rcases hS U σ at' k cs m' h (by omega) with ⟨x, U', σ', e1, e2, e3⟩ | ⟨ea, U1, σ1, at1, k1, cs1, m1, n1, c, fs, e1, e2, e3, ⟨a1, a2, a3, a4, a5⟩, e5, e6, e7, e8⟩
    · left
      refine ⟨x, U', σ', ?_, e2, hT.ex e3 hal (by omega) (by omega)⟩
      rw [e1, q_ux1]
    · have al1 := e3.1.le
      have cs40 : cs1 ≤ 40 := e3.2.2.2.1.2
      have o1 : uOld U1 := e3.1.2.2.2.2.2.1
      have l01 : U.1 ≤ U1.1 := e7.1.2.2.2.2.1
      have kf : ∀ {F : Nat → Prop}, kF b F U U1 := fun {F} => e7.pk h
      have hL1 := hL.keep (od' := fun i => σ1.2.1 56 (512 * np + i)) kf l01 (fun i _ i2 => e7.2.2.2.2.2.1 _ (by omega))
      obtain ⟨arr0, mm, mc, xs, v1, -, -⟩ := id hL
      have l18 : U1.2.2 a = some (.inr (18, [.int mc, .ref arr0, .int (iI cnt)])) := (kf (F := fun _ => True)).1 _ _ _ trivial v1.1.1 (by decide)
      have la : a < U.1 := ho _ _ v1.1.1
      have larr : arr0 < U.1 := ho _ _ v1.1.2.1
      have lea : ea < U1.1 := o1 _ _ e6.1
      have lU0 : U0.1 ≤ U.1 := hT.1.2.2.2.2.1
      obtain ⟨U2, dc, ds, f1, f2, f3, f4, f5, f6, f7⟩ := hL1.add (N := N) (lo := lo) (k2 := k1) (ea := ea) o1 (by omega) hU0 h20 (by omega) (by omega) e6 (fun arr m2 mc2 xs2 hb => by
        have eq : arr = arr0 := by
          have z := hb.1.1
          rw [l18] at z
          injection z with z
          injection z with z
          injection z with _ z
          injection z with _ z
          injection z with z _
          injection z with z
          exact z.symm
        subst eq
        have inc : ∀ x, pF U U1 x → pE U0 U1 a arr x := fun x q => ⟨by have := q.1; omega, q.2, by have := q.1; omega, by have := q.1; omega⟩
        exact ⟨inc _ ⟨e5, lea⟩, fun hp => (e8 hp).p2 (F' := pE U0 U1 a arr) ⟨e5, lea⟩ ⟨fun _ _ _ _ z _ => z, fun _ _ _ _ z => z⟩ inc⟩) ⟨hk, a4⟩
      have p1 := e3
      obtain ⟨kr1, st1, va1, wv1, sg1, c1, -⟩ := k_kind e3.1
      have p2 := e3.kw f3 (by
        rintro (z | ⟨-, kk, zz, z⟩)
        · exact u_nrr c1 l18 (by decide) z
        · exact u_nlr z c1 rfl) (by
        rintro (z | ⟨-, kk, zz, z⟩)
        · exact u_nrr e3.2.1 l18 (by decide) z
        · exact u_nlr z e3.2.1 rfl)
      have t2 : pTo lo rd pl np k0 d (4 * (cs1 - cs0)) (80 * (cs1 - cs0)) U0 σ0 at0 U2 σ1 at1 := ((hT.trans e7 (by omega) (Nat.le_refl _)).wr f3 (fun x z => by
        rcases z with z | z
        · omega
        · exact z.1) f4 f5).mono (Nat.le_refl _) (Nat.le_refl _) (by omega) (by omega)
      obtain ⟨kr2, st2, va2, wv2, sg2, c2, -⟩ := k_kind p2.1
      obtain ⟨n1', hn1⟩ : ∃ z, n1 = z + 1 := ⟨n1 - 1, by omega⟩
      subst hn1
      have sg59 : sgn 59 := by unfold sgn; omega
      obtain ⟨s1, s2⟩ := k_skS (N := N) (j := 31) p2.1 (by decide) (by decide +kernel) sg59 hN
      unfold f_X11_plan_13 f_X11_plan_18 f_X11_plan_28
      rw [e1, q_ux2, p_bs, if_pos (v_is l18), f1, q_uc, v_gr p2.2.1 (k := 0) rfl, p_bs, p_bs, if_pos (v_is c2), e2]
      by_cases h6 : σ1.1 6 = 59
      · obtain ⟨U3, σ3, at3, g1, g2, g3⟩ := s1 h6
        have p3 := p2.st g3
        have t3 : pTo lo rd pl np k0 d (4 * (cs1 - cs0) + 1) (80 * (cs1 - cs0) + 3) U0 σ0 at0 U3 σ3 at3 := (t2.trans (pTo.st (k := k1) (d := d) g3) (by omega) (Nat.le_refl _)).mono (Nat.le_refl _) (Nat.le_refl _) (by omega) (by omega)
        have hL3 := f2.keep (od' := fun i => σ3.2.1 56 (512 * np + i)) ((pTo.st (pl := pl) (np := np) (k := k1) (d := d) g3).pk p2) g3.kw.2.2.2.2.1 (fun i _ _ => by rw [g3.r (by decide)])
        have eM : f_reads_35 N (f_reads_4 N m1) (n1' + 1) σ1 (iI d) 1 1 = f_reads_4 N m1 σ3 (iI d) 1 := by
          have e189 : f_reads_189 N (f_reads_4 N m1) σ1 (iI d) 1 1 = f_reads_4 N m1 σ3 (iI d) 1 := by
            unfold f_reads_189 f_reads_211 f_reads_220
            rw [if_neg n10, p_let, if_pos h6, if_neg n10, g2, q_mv]
          rw [f_reads_35, if_neg n10]
          by_cases c0 : iI (d : Int) ≤ 0
          · rw [if_pos c0]
            exact e189
          · rw [if_neg c0, p_let, if_neg (by rw [h6]; decide)]
            exact e189
        rw [g1, q_uc, if_neg n10, eM]
        rcases ih U3 σ3 at3 k1 cs1 m1 (cnt + 1) p3 hL3 (by omega) (by omega) (by omega) t3 (by omega) with w | ⟨U', σ', at2, k', cs', m2, n2, w1, w2, w3, w4, ⟨b1, b2, b3, b4, b5⟩, w6, w7⟩
        · exact Or.inl w
        · exact Or.inr ⟨U', σ', at2, k', cs', m2, n2, w1, w2, w3, w4, ⟨by omega, by omega, by omega, by omega, by omega⟩, w6, w7⟩
      · right
        refine ⟨U2, σ1, at1, k1, cs1, m1, n1' + 1, ?_, rfl, p2, h6, ⟨by omega, by omega, by omega, by omega, by omega⟩, t2, fun hp => f2.q hp⟩
        rw [s2 h6, q_uc, if_pos rfl]
theorem k_pln (hS : stOk N b g lo rd tp n T pl bo mp nD nG np rs d) (hd : d ≤ 6) (hN : 2000 ≤ N) : plOk N b g lo rd tp n T pl bo mp nD nG np (fo_X11_plan N b g rp rs ri) d := by
  intro U σ at' k cs m h hm
  obtain ⟨hr, -⟩ := id h
  have ho : uOld U := hr.2.2.2.2.2.1
  have hlo : b ≤ lo := hr.2.2.2.2.2.2.1
  have hlU : lo ≤ U.1 := hr.2.2.2.2.2.2.2.2.1
  have cs40 : cs ≤ 40 := h.2.2.2.1.2
  obtain ⟨v, f, v1, v2, v3⟩ := hr.2.2.2.2.1.ls0
  obtain ⟨U1, x1, x2, x3, x4, x5, x6⟩ := l_new (N := N) (b := b) v1 v3 ho (by omega)
  obtain ⟨t1, p1⟩ := pTo.nw (k2 := k) (d2 := d) h x3 x4 x5 x6
  have eC : fo_X11_plan N b g rp rs ri U pl = f_X11_plan_8 N b g rp rs ri pl N U1 (some U.1) := by
    unfold fo_X11_plan f_X11_plan_3
    rw [p_let, p_let, p_bs, x1, p_bs]
  rw [eC]
  rcases k_plL (N := N) (rp := rp) (ri := ri) (U0 := U) (σ0 := σ) (at0 := at') (k0 := k) (cs0 := cs) (a := U.1) hS hd hN hlU (Nat.le_refl _) N U1 σ at' k cs m 0 p1 ⟨v, 0, 0, f, ⟨x2, ⟨Nat.le_refl _, by omega⟩, fun _ => ⟨v1, v2⟩, fun q => absurd rfl q⟩, fun i hi => by omega, fun _ => ⟨fun _ => k, fun _ => 0, rfl, rfl, fun i hi => by omega⟩⟩ (by omega) (by omega) hm (t1.mono (Nat.le_refl _) (Nat.le_refl _) (by omega) (by omega)) (Nat.le_refl _) with w | ⟨U', σ', at2, k', cs', m2, n2, w1, w2, w3, w4, w5, w6, w7⟩
  · exact Or.inl w
  · refine Or.inr ⟨U.1, U', σ', at2, k', cs', m2, n2, w1, w2, w3, w4, w5, Nat.le_refl _, w6, fun hp => ?_⟩
    have := w7 hp
    rw [show 6 - d + 1 = 7 - d by omega] at this
    exact this
theorem k_rec (hN : 2000 ≤ N) : ∀ (e d L : Nat), d + e = 6 → 3 * e + 3 ≤ L → plOk N b g lo rd tp n T pl bo mp nD nG np ((rec_plan N b g L).1) d := by
  intro e
  induction e with
  | zero =>
    intro d L hd hL
    obtain ⟨L', rfl⟩ : ∃ z, L = z + 3 := ⟨L - 3, by omega⟩
    exact k_pln (k_stp (rp' := (rec_plan N b g L').1) (rs' := (rec_plan N b g L').2.1) (ri' := (rec_plan N b g L').2.2) (fun _ _ => rfl) (fun z => by omega) (by omega) hN) (by omega) hN
  | succ e ih =>
    intro d L hd hL
    obtain ⟨L', rfl⟩ : ∃ z, L = z + 3 := ⟨L - 3, by omega⟩
    exact k_pln (k_stp (rp' := (rec_plan N b g L').1) (rs' := (rec_plan N b g L').2.1) (ri' := (rec_plan N b g L').2.2) (fun _ _ => rfl) (fun _ => ih (d + 1) L' (by omega) (by omega)) (by omega) hN) (by omega) hN
end L3s

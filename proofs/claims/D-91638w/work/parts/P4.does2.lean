/-! PLAIN: a plan is walked, to its end -/
theorem vPl_ls {g : uEnv} {U : UH} {lab : Nat → Nat} {od : Nat → Int32} {nD nG : Nat} : ∀ (n a k0 k1 : Nat), vPl g U lab od nD nG n a k0 k1 → k0 ≤ k1 ∧ ∃ (arr cnt m : Nat) (mc : Int32) (xs : Nat → Option Nat), qLs g U lab 12 a arr cnt m mc xs ∧ k0 + cnt ≤ k1 := by
  intro n
  induction n with
  | zero => intro a k0 k1 h; exact absurd h id
  | succ n ih =>
    intro a k0 k1 h
    obtain ⟨arr, cnt, m, mc, xs, ks, ea, h1, h2, h3, h4⟩ := h
    have st : ∀ i, i < cnt → ks i + 1 ≤ ks (i + 1) := fun i hi => by
      obtain ⟨-, -, e3⟩ := h4 i hi
      rcases e3 with ⟨wy, y, t, -, -, -, -, -, -, -, -, f⟩ | ⟨d, gr, th, ot, k2, -, -, -, -, -, -, f7, f8⟩
      · omega
      · have := (ih _ _ _ f7).1
        rcases f8 with ⟨-, w2, -⟩ | ⟨-, -, -, w4⟩
        · omega
        · have := (ih _ _ _ w4).1
          omega
    have up : ∀ i, i ≤ cnt → k0 + i ≤ ks i := by
      intro i
      induction i with
      | zero => intro _; omega
      | succ i ihh =>
        intro hi
        have := ihh (by omega)
        have := st i (by omega)
        omega
    have := up cnt (Nat.le_refl _)
    exact ⟨by omega, arr, cnt, m, mc, xs, h1, by omega⟩
def kWr (N : Nat) (g : uEnv) (Ub : UH) (la da wa : Nat → Nat) (a : Nat) (dead : Int) (w h n nd : Nat) (hts : Nat → Int) (fl : Nat → Nat) (dO kn : Nat → Int) (wg : Nat → Nat → Nat) (wk ta fd : Nat) (σb : MS) (p1 : Nat) (x3 : Int32) (k1 dm m : Nat) (R : Option (Option Nat × UH)) (A : Option (Int32 × MS)) : Prop := (∃ (u' : UH) (f c' y' : Nat) (q' s' : Int32), R = some (some wk, u') ∧ wSt g Ub la da wa a dead w h n nd hts fl dO kn wg wk ta u' c' y' q' s' (iI f) ∧ (1 ≤ f ∧ f ≤ 5) ∧ A = some (iI f, mW σb s' q')) ∨ (∃ (u' : UH) (c' y' : Nat) (q' s' : Int32) (cd' m' : Nat), R = some (some wk, u') ∧ wSt g Ub la da wa a dead w h n nd hts fl dO kn wg wk ta u' c' y' q' s' 0 ∧ mR nd y' cd' ∧ cd' < 1024 ∧ m ≤ m' + dm ∧ A = f_acts_38 N m' (mW σb s' q') (iI p1) x3 (iI fd) (iI c') (iI cd') (iI k1))
section M3s
variable {N b : Nat} {g : uEnv} {Ub : UH} {la da wa : Nat → Nat} {a lo hi al : Nat} {rv : Int32} {nm : Nat → Nat} {B : bBk} {dead : Int} {w h n nd : Nat} {hts : Nat → Int} {fl : Nat → Nat} {dO kn : Nat → Int} {dc : Nat → Nat} {wg : Nat → Nat → Nat} {wk ta fd : Nat} {σb : MS}
theorem wSt.ls {u : UH} {lab : Nat → Nat} {pl arr cnt m c y : Nat} {mc q s f : Int32} {xs : Nat → Option Nat} (hS : wSt g Ub la da wa a dead w h n nd hts fl dO kn wg wk ta u c y q s f) (hne : ∀ x, lab x = 12 ∨ lab x = 0 → x ≠ wk ∧ x ≠ la 0) (h1 : qLs g Ub lab 12 pl arr cnt m mc xs) : vLs u pl arr cnt m mc xs := by
  obtain ⟨⟨x1, x2, x3⟩, e1, e2, e3⟩ := h1
  obtain ⟨n1, n2⟩ := hne pl (Or.inl e1)
  have n3 : arr ≠ wk ∧ arr ≠ la 0 := by
    by_cases hm : m = 0
    · exact hne arr (Or.inr (e2 hm).2)
    · exact hne arr (Or.inl (e3 hm))
  exact ⟨(hS.2.2.1 pl n1 n2).trans x1, (hS.2.2.1 arr n3.1 n3.2).trans x2, x3⟩
theorem kW_does {lab : Nat → Nat} {od : Nat → Int32} {nD nG p1 kl : Nat} {x3 : Int32} (hC : wCx b Ub la a lo hi al rv nm B dead n nd dO kn dc wg wk ta fd) (hM : mLand σb B dead w h n nd hts fl dO kn dc wg) (hK : zKn σb.1 σb.2.1 nd B.2.1 (fun e => zCn (wg e) 8) kn (fun e k => zKd (wg e) k)) (h57 : σb.2.1 57 p1 = iI kl) (hp : p1 < 8) (hkl : kl ≤ 128) (hod : ∀ i, od i = σb.2.1 56 (512 * p1 + i)) (hD : nD ≤ nd) (hG : nG ≤ 8) (hne : ∀ x, lab x = 12 ∨ lab x = 0 → x ≠ wk ∧ x ≠ la 0) (hN : 200 ≤ N) : ∀ (dp d pl k0 k1 : Nat), 2 * dp ≤ d → vPl g Ub lab od nD nG dp pl k0 k1 → k1 ≤ kl → ∀ (m : Nat) (u : UH) (c y : Nat) (q s : Int32) (cd : Nat), k1 - k0 < m → wSt g Ub la da wa a dead w h n nd hts fl dO kn wg wk ta u c y q s 0 → mR nd y cd → cd < 1024 → kWr N g Ub la da wa a dead w h n nd hts fl dO kn wg wk ta fd σb p1 x3 k1 (k1 - k0) m ((rec_walk N b g d).1 u wk (some pl)) (f_acts_38 N m (mW σb s q) (iI p1) x3 (iI fd) (iI c) (iI cd) (iI k0)) := by
  obtain ⟨-, -, -, -, -, -, -, -, -, hfd, hF⟩ := id hC
  have f0 : ∀ f : Nat, 1 ≤ f ∧ f ≤ 5 → iI (f : Int) ≠ 0 := fun f hf z => by
    rw [j0, j_eq (by omega) (by omega) (by omega) (by omega)] at z
    omega
  have hT : ∀ e, e < nd → zTg wg fd e < 8 := fun e he => by
    obtain ⟨k37, hnd, hng, hkk⟩ := id hK
    obtain ⟨f1, f2⟩ := hF e he
    obtain ⟨b1, b2, b3, b4, b5, b6⟩ := hkk e he
    have b2 : zCn (wg e) 8 ≤ 3 := b2
    obtain ⟨b7, b8⟩ := b6 (zD fd e - 1) (show zD fd e - 1 < zCn (wg e) 8 by omega)
    have b8 : zTg wg fd e < B.2.1 := b8
    omega
  intro dp
  induction dp with
  | zero => intro d pl k0 k1 hd hv; exact absurd hv id
  | succ dp ih =>
    intro d pl k0 k1 hd hv hk1
    obtain ⟨d', rfl⟩ : ∃ z, d = z + 2 := ⟨d - 2, by omega⟩
    obtain ⟨-, arr0, cnt0, -⟩ := vPl_ls _ _ _ _ hv
    obtain ⟨arr, cnt, mm, mc, xs, ks, ea, h1, h2, h3, h4⟩ := hv
    have st : ∀ i, i < cnt → ks i + 1 ≤ ks (i + 1) := fun i hi => by
      obtain ⟨-, -, e3⟩ := h4 i hi
      rcases e3 with ⟨wy, y, t, -, -, -, -, -, -, -, -, f⟩ | ⟨d, gr, th, ot, k2, -, -, -, -, -, -, f7, f8⟩
      · omega
      · have := (vPl_ls _ _ _ _ f7).1
        rcases f8 with ⟨-, w2, -⟩ | ⟨-, -, -, w4⟩
        · omega
        · have := (vPl_ls _ _ _ _ w4).1
          omega
    have up : ∀ r i, i + r = cnt → ks i + r ≤ ks cnt := by
      intro r
      induction r with
      | zero =>
        intro i hi
        rw [show i = cnt by omega]
        omega
      | succ r ihh =>
        intro i hi
        have := ihh (i + 1) (by omega)
        have := st i (by omega)
        omega
    have cb : cnt ≤ 128 := by
      have := up cnt 0 (by omega)
      omega
    have lp : ∀ (r i k m : Nat) (u : UH) (c y : Nat) (q s : Int32) (cd : Nat), i + r = cnt → r < k → ks cnt - ks i < m → wSt g Ub la da wa a dead w h n nd hts fl dO kn wg wk ta u c y q s 0 → mR nd y cd → cd < 1024 → kWr N g Ub la da wa a dead w h n nd hts fl dO kn wg wk ta fd σb p1 x3 (ks cnt) (ks cnt - ks i) m (f_X18_does_2 N b g (rec_walk N b g (d' + 1)).1 (rec_walk N b g (d' + 1)).2 wk k u (some pl) (iI i)) (f_acts_38 N m (mW σb s q) (iI p1) x3 (iI fd) (iI c) (iI cd) (iI (ks i))) := by
      intro r
      induction r with
      | zero =>
        intro i k m u c y q s cd hi hk hm hS hR hcd
        have hl := hS.ls hne h1
        have id1 := kW_id (N := N) (b := b) (rdo := (rec_walk N b g (d' + 1)).1) (rby := (rec_walk N b g (d' + 1)).2) hS hl (by omega) k i (by omega) (by omega) (Or.inr (by omega))
        refine Or.inr ⟨u, c, y, q, s, cd, m, id1, hS, hR, hcd, by omega, ?_⟩
        rw [show i = cnt by omega]
      | succ r ihr =>
        intro i k m u c y q s cd hi hk hm hS hR hcd
        obtain ⟨k', rfl⟩ : ∃ z, k = z + 1 := ⟨k - 1, by omega⟩
        obtain ⟨m', rfl⟩ : ∃ z, m = z + 1 := ⟨m - 1, by omega⟩
        obtain ⟨e1, e2, e3⟩ := h4 i (by omega)
        have ne := hne (ea i) (Or.inl e2)
        have hl := hS.ls hne h1
        have sti := st i (by omega)
        have upi := up r (i + 1) (by omega)
        have hk' : u.2.2 wk = some (.inr (16, [.ref (la 0), .int (iI dead), .ref ta, .int (iI c), .int (iI ((y : Int) - 32)), .int q, .int s, .int 0])) := hS.2.1
        have ei : iI (i : Int) + 1 = iI ((i + 1 : Nat) : Int) := by
          rw [j1, i_add]
          rfl
        have gt : f_J2_get N b g u pl (iI i) = some (some (ea i), u) := by
          rw [l_get (N := N) (b := b) (g := g) (k := (i : Int)) hl (by omega) (by omega), Int.toNat_natCast, e1]
        have mo := m_ord (N := N) (nd := nd) (B := B) (kn := kn) (wg := wg) (fd := fd) (m := m') (p1 := p1) (k := ks i) (kl := kl) (c := c) (cd := cd) (x3 := x3) (s := s) (q := q) (od := od) h57 hp hkl hod (by omega) hK hcd hfd hF
        -- what comes behind this one
        have fs : ∀ (u1 : UH) (f c1 y1 : Nat) (q1 s1 : Int32), f_X18_does_2 N b g (rec_walk N b g (d' + 1)).1 (rec_walk N b g (d' + 1)).2 wk (k' + 1) u (some pl) (iI i) = f_X18_does_2 N b g (rec_walk N b g (d' + 1)).1 (rec_walk N b g (d' + 1)).2 wk k' u1 (some pl) (iI ((i + 1 : Nat) : Int)) → wSt g Ub la da wa a dead w h n nd hts fl dO kn wg wk ta u1 c1 y1 q1 s1 (iI f) → (1 ≤ f ∧ f ≤ 5) → f_acts_38 N (m' + 1) (mW σb s q) (iI p1) x3 (iI fd) (iI c) (iI cd) (iI (ks i)) = some (iI f, mW σb s1 q1) → kWr N g Ub la da wa a dead w h n nd hts fl dO kn wg wk ta fd σb p1 x3 (ks cnt) (ks cnt - ks i) (m' + 1) (f_X18_does_2 N b g (rec_walk N b g (d' + 1)).1 (rec_walk N b g (d' + 1)).2 wk (k' + 1) u (some pl) (iI i)) (f_acts_38 N (m' + 1) (mW σb s q) (iI p1) x3 (iI fd) (iI c) (iI cd) (iI (ks i))) := fun u1 f c1 y1 q1 s1 z1 z2 z3 z4 => by
          have id1 := kW_id (N := N) (b := b) (rdo := (rec_walk N b g (d' + 1)).1) (rby := (rec_walk N b g (d' + 1)).2) z2 (z2.ls hne h1) (by omega) k' (i + 1) (by omega) (by omega) (Or.inl (f0 f z3))
          exact Or.inl ⟨u1, f, c1, y1, q1, s1, z1.trans id1, z2, z3, z4⟩
        have fg : ∀ (u1 : UH) (c1 y1 : Nat) (q1 s1 : Int32) (cd1 m1 : Nat), f_X18_does_2 N b g (rec_walk N b g (d' + 1)).1 (rec_walk N b g (d' + 1)).2 wk (k' + 1) u (some pl) (iI i) = f_X18_does_2 N b g (rec_walk N b g (d' + 1)).1 (rec_walk N b g (d' + 1)).2 wk k' u1 (some pl) (iI ((i + 1 : Nat) : Int)) → wSt g Ub la da wa a dead w h n nd hts fl dO kn wg wk ta u1 c1 y1 q1 s1 0 → mR nd y1 cd1 → cd1 < 1024 → m' + 1 ≤ m1 + (ks (i + 1) - ks i) → f_acts_38 N (m' + 1) (mW σb s q) (iI p1) x3 (iI fd) (iI c) (iI cd) (iI (ks i)) = f_acts_38 N m1 (mW σb s1 q1) (iI p1) x3 (iI fd) (iI c1) (iI cd1) (iI (ks (i + 1))) → kWr N g Ub la da wa a dead w h n nd hts fl dO kn wg wk ta fd σb p1 x3 (ks cnt) (ks cnt - ks i) (m' + 1) (f_X18_does_2 N b g (rec_walk N b g (d' + 1)).1 (rec_walk N b g (d' + 1)).2 wk (k' + 1) u (some pl) (iI i)) (f_acts_38 N (m' + 1) (mW σb s q) (iI p1) x3 (iI fd) (iI c) (iI cd) (iI (ks i))) := fun u1 c1 y1 q1 s1 cd1 m1 z1 z2 z3 z4 z5 z6 => by
          have r1 := ihr (i + 1) k' m1 u1 c1 y1 q1 s1 cd1 (by omega) (by omega) (by clear e3; omega) z2 z3 z4
          rw [z1, z6]
          rcases r1 with ⟨u', f, c', y', q', s', t1, t2, t3, t4⟩ | ⟨u', c', y', q', s', cd', m2, t1, t2, t3, t4, t5, t6⟩
          · exact Or.inl ⟨u', f, c', y', q', s', t1, t2, t3, t4⟩
          · exact Or.inr ⟨u', c', y', q', s', cd', m2, t1, t2, t3, t4, by clear e3; omega, t6⟩
        rcases e3 with ⟨wy, yy, t, f1, f2, f3, f4, f5, f6, f7, f8, f9⟩ | ⟨dd, gr, th, ot, k2, f1, f2, f3, f4, f5, f6, f7, f8⟩
        · -- a hop or more
          have heu : u.2.2 (ea i) = some (.inr (10, [.ref wy, .int (iI t)])) := (hS.2.2.1 (ea i) ne.1 ne.2).trans f1
          have hd1 : ∀ u1, f_X12_by N b g u (ea i) (some wk) = some u1 → f_X18_does_2 N b g (rec_walk N b g (d' + 1)).1 (rec_walk N b g (d' + 1)).2 wk (k' + 1) u (some pl) (iI i) = f_X18_does_2 N b g (rec_walk N b g (d' + 1)).1 (rec_walk N b g (d' + 1)).2 wk k' u1 (some pl) (iI ((i + 1 : Nat) : Int)) := fun u1 hu => by
            rw [f_X18_does_2, p_bs, if_pos (v_is hl.1), l_size hl, q_uc, n_le (by omega) (by omega) (by omega) (by omega) (by omega), v_gi hk' (k := 7) rfl, p_bs, if_pos rfl, if_pos (v_is hl.1), gt, q_uc, p_bs, if_pos (Or.inl (v_is heu)), if_pos (v_is heu), hu, p_bs]
            unfold f_X18_does_35
            rw [p_let, ei]
          have mo1 := mo.2.1 f6
          rw [f7, f8] at mo1
          rcases kW_by (N := N) (k38 := f_acts_38 N m') (x1 := iI p1) (x3 := x3) (x8 := iI ((ks i + 1 : Nat) : Int)) hC hM hK f1 ne f2 f3 f5 (by omega) t 0 N N u c y q s cd (by omega) (by omega) (by omega) hS hR hcd with ⟨u1, f, c1, y1, q1, s1, g1, g2, g3, g4⟩ | ⟨u1, c1, y1, q1, s1, cd1, g1, g2, g3, g4, g5⟩
          · exact fs u1 f c1 y1 q1 s1 (hd1 u1 g1) g2 g3 (mo1.trans g4)
          · refine fg u1 c1 y1 q1 s1 cd1 m' (hd1 u1 g1) g2 g3 g4 (by omega) ?_
            rw [f9]
            exact mo1.trans g5
        · -- a choice
          have heu : u.2.2 (ea i) = some (.inr (11, [.int (iI dd), .int (iI gr), .ref th, .ref ot])) := (hS.2.2.1 (ea i) ne.1 ne.2).trans f1
          have hd1 : ∀ u1, fo_X13_by N b g (rec_walk N b g d').1 (rec_walk N b g d').2 u (ea i) (some wk) = some u1 → f_X18_does_2 N b g (rec_walk N b g (d' + 1)).1 (rec_walk N b g (d' + 1)).2 wk (k' + 1) u (some pl) (iI i) = f_X18_does_2 N b g (rec_walk N b g (d' + 1)).1 (rec_walk N b g (d' + 1)).2 wk k' u1 (some pl) (iI ((i + 1 : Nat) : Int)) := fun u1 hu => by
            have hu' : (rec_walk N b g (d' + 1)).2 u (ea i) (some wk) = some u1 := hu
            rw [f_X18_does_2, p_bs, if_pos (v_is hl.1), l_size hl, q_uc, n_le (by omega) (by omega) (by omega) (by omega) (by omega), v_gi hk' (k := 7) rfl, p_bs, if_pos rfl, if_pos (v_is hl.1), gt, q_uc, p_bs, if_pos (Or.inr (v_is heu)), if_neg (v_ns heu (by decide)), if_pos (v_is heu), hu', p_bs]
            unfold f_X18_does_35
            rw [p_let, ei]
          obtain ⟨f7a, arr1, cnt1, mm1, mc1, xs1, f7b, f7c⟩ := vPl_ls _ _ _ _ f7
          obtain ⟨dp', rfl⟩ : ∃ z, dp = z + 1 := by
            cases dp with
            | zero => exact absurd f7 id
            | succ z => exact ⟨z, rfl⟩
          obtain ⟨d2, rfl⟩ : ∃ z, d' = z + 2 := ⟨d' - 2, by omega⟩
          have k2k : k2 ≤ ks (i + 1) := by
            rcases f8 with ⟨-, w2, -⟩ | ⟨-, -, -, w4⟩
            · omega
            · have := (vPl_ls _ _ _ _ w4).1
              omega
          have otl : ∃ (arr2 cnt2 mm2 : Nat) (mc2 : Int32) (xs2 : Nat → Option Nat), qLs g Ub lab 12 ot arr2 cnt2 mm2 mc2 xs2 ∧ cnt2 ≤ 128 := by
            rcases f8 with ⟨-, -, a2, m2, c2, x2, w3⟩ | ⟨-, -, -, w4⟩
            · exact ⟨a2, 0, m2, c2, x2, w3, by omega⟩
            · obtain ⟨-, a2, n2, m2, c2, x2, w5, w6⟩ := vPl_ls _ _ _ _ w4
              exact ⟨a2, n2, m2, c2, x2, w5, by omega⟩
          obtain ⟨arr2, cnt2, mm2, mc2, xs2, ol1, ol2⟩ := otl
          obtain ⟨u1, i1, i2⟩ := kW_is (N := N) hC hS (d := dd) (gr := gr) (by omega) (by omega) (hT dd (by omega))
          have hk1 : ∃ (yq ff : Int32), u1.2.2 wk = some (.inr (16, [.ref (la 0), .int (iI dead), .ref ta, .int (iI c), .int yq, .int q, .int s, .int ff])) := by
            rcases i2 with ⟨-, z⟩ | ⟨-, z⟩
            · exact ⟨_, _, z.2.1⟩
            · rw [z]
              exact ⟨_, _, hk'⟩
          have heu1 : u1.2.2 (ea i) = some (.inr (11, [.int (iI dd), .int (iI gr), .ref th, .ref ot])) := by
            rcases i2 with ⟨-, z⟩ | ⟨-, z⟩
            · exact (z.2.2.1 (ea i) ne.1 ne.2).trans f1
            · rw [z]
              exact heu
          obtain ⟨yq, ff, hk1⟩ := hk1
          have byT : zTg wg fd dd = gr → ∀ u2, (rec_walk N b g (d2 + 2)).1 u1 wk (some th) = some (some wk, u2) → fo_X13_by N b g (rec_walk N b g (d2 + 2)).1 (rec_walk N b g (d2 + 2)).2 u (ea i) (some wk) = some u2 := fun ct u2 hu => by
            unfold fo_X13_by f_X13_by_29
            rw [v_gi heu (k := 0) rfl, p_bs, v_gi heu (k := 1) rfl, p_bs, p_bs, if_pos (v_is hk'), i1, q_uc, if_pos ct, if_neg (show ¬ iI (((1 : Nat) : Nat) : Int) = 0 by decide), v_gr heu1 (k := 2) rfl, p_bs, p_bs, if_pos (v_is hk1), hu, q_uc]
          have byF : zTg wg fd dd ≠ gr → ∀ u2, (rec_walk N b g (d2 + 2)).1 u1 wk (some ot) = some (some wk, u2) → fo_X13_by N b g (rec_walk N b g (d2 + 2)).1 (rec_walk N b g (d2 + 2)).2 u (ea i) (some wk) = some u2 := fun ct u2 hu => by
            unfold fo_X13_by f_X13_by_29
            rw [v_gi heu (k := 0) rfl, p_bs, v_gi heu (k := 1) rfl, p_bs, p_bs, if_pos (v_is hk'), i1, q_uc, if_neg ct, if_pos (show iI (((0 : Nat) : Nat) : Int) = 0 by decide), v_gr heu1 (k := 3) rfl, p_bs, p_bs, if_pos (v_is hk1), hu, q_uc]
          have rR := hR dd (by omega)
          obtain ⟨mo1, mo2, mo3⟩ := mo.2.2 dd gr f4 (by omega) (by omega) f5 f6
          rcases i2 with ⟨y0, S1⟩ | ⟨y0, e0⟩
          · -- not known yet
            have idn : ∀ (pl' arr' cnt' m'' : Nat) (mc' : Int32) (xs' : Nat → Option Nat), qLs g Ub lab 12 pl' arr' cnt' m'' mc' xs' → cnt' ≤ 128 → (rec_walk N b g (d2 + 2)).1 u1 wk (some pl') = some (some wk, u1) := fun pl' arr' cnt' m'' mc' xs' z1 z2 => kW_id (N := N) (b := b) (rdo := (rec_walk N b g (d2 + 1)).1) (rby := (rec_walk N b g (d2 + 1)).2) S1 (S1.ls hne z1) (by omega) N 0 (by omega) (by omega) (Or.inl (f0 5 ⟨by omega, by omega⟩))
            have hb : fo_X13_by N b g (rec_walk N b g (d2 + 2)).1 (rec_walk N b g (d2 + 2)).2 u (ea i) (some wk) = some u1 := by
              by_cases ct : zTg wg fd dd = gr
              · exact byT ct u1 (idn th arr1 cnt1 mm1 mc1 xs1 f7b (by omega))
              · exact byF ct u1 (idn ot arr2 cnt2 mm2 mc2 xs2 ol1 ol2)
            exact fs u1 5 c y q s (hd1 u1 hb) S1 ⟨by omega, by omega⟩ (mo1 (rR.mp y0))
          · subst e0
            have zn : zD cd dd ≠ 0 := fun z => y0 (rR.mpr z)
            by_cases ct : zTg wg fd dd = gr
            · have mo4 := mo2 zn ct
              rcases ih (d2 + 2) th (ks i + 1) k2 (by omega) f7 (by omega) m' u1 c y q s cd (by omega) hS hR hcd with ⟨u2, f, c1, y1, q1, s1, t1, t2, t3, t4⟩ | ⟨u2, c1, y1, q1, s1, cd1, m2, t1, t2, t3, t4, t5, t6⟩
              · exact fs u2 f c1 y1 q1 s1 (hd1 u2 (byT ct u2 t1)) t2 t3 (mo4.trans t4)
              · rcases f8 with ⟨-, w2, -⟩ | ⟨-, w2, w3, w4⟩
                · refine fg u2 c1 y1 q1 s1 cd1 m2 (hd1 u2 (byT ct u2 t1)) t2 t3 t4 (by omega) ?_
                  rw [w2]
                  exact mo4.trans t6
                · have w5 := (vPl_ls _ _ _ _ w4).1
                  obtain ⟨m3, rfl⟩ : ∃ z, m2 = z + 1 := ⟨m2 - 1, by omega⟩
                  have mo5 := (m_ord (N := N) (nd := nd) (B := B) (kn := kn) (wg := wg) (fd := fd) (m := m3) (p1 := p1) (k := k2) (kl := kl) (c := c1) (cd := cd1) (x3 := x3) (s := s1) (q := q1) (od := od) h57 hp hkl hod (by omega) hK t4 hfd hF).1 w2
                  refine fg u2 c1 y1 q1 s1 cd1 m3 (hd1 u2 (byT ct u2 t1)) t2 t3 t4 (by omega) ?_
                  rw [w3] at mo5
                  exact (mo4.trans t6).trans mo5
            · have mo4 := mo3 zn ct
              rcases f8 with ⟨w1, w2, a2, m2, c2, x2, w3⟩ | ⟨w1, w2, w3, w4⟩
              · have hb : (rec_walk N b g (d2 + 2)).1 u1 wk (some ot) = some (some wk, u1) := kW_id (N := N) (b := b) (rdo := (rec_walk N b g (d2 + 1)).1) (rby := (rec_walk N b g (d2 + 1)).2) hS (hS.ls hne w3) (by omega) N 0 (by omega) (by omega) (Or.inr rfl)
                refine fg u1 c y q s cd m' (hd1 u1 (byF ct u1 hb)) hS hR hcd (by omega) ?_
                rw [w2]
                rw [w1] at mo4
                exact mo4
              · have w5 := (vPl_ls _ _ _ _ w4).1
                rw [w1] at mo4
                rcases ih (d2 + 2) ot (k2 + 1) (ks (i + 1)) (by omega) w4 (by omega) m' u1 c y q s cd (by omega) hS hR hcd with ⟨u2, f, c1, y1, q1, s1, t1, t2, t3, t4⟩ | ⟨u2, c1, y1, q1, s1, cd1, m2, t1, t2, t3, t4, t5, t6⟩
                · exact fs u2 f c1 y1 q1 s1 (hd1 u2 (byF ct u2 t1)) t2 t3 (mo4.trans t4)
                · exact fg u2 c1 y1 q1 s1 cd1 m2 (hd1 u2 (byF ct u2 t1)) t2 t3 t4 (by omega) (mo4.trans t6)
    intro m u c y q s cd hm hS hR hcd
    have r1 := lp cnt 0 N m u c y q s cd (by omega) (by omega) (by omega) hS hR hcd
    rw [h2, h3] at r1
    exact r1
end M3s

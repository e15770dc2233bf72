/-! PLAIN: a plan is walked: a step of it -/
def mW (σb : MS) (s q : Int32) : MS := mSet (mSet σb 66 s) 67 q
theorem mW_st {σb : MS} {s q s' q' : Int32} : mSet (mSet (mW σb s q) 67 q') 66 s' = mW σb s' q' := by
  refine Prod.ext (funext fun k => ?_) rfl
  show upd (upd (upd (upd σb.1 66 s) 67 q) 67 q') 66 s' k = upd (upd σb.1 66 s') 67 q' k
  by_cases c1 : k = 66
  · subst c1
    rw [upd_s, upd_n (by decide), upd_s]
  · by_cases c2 : k = 67
    · subst c2
      rw [upd_n (by decide), upd_s, upd_s]
    · rw [upd_n c1, upd_n c2, upd_n c2, upd_n c1, upd_n c2, upd_n c1]
/-- bits and code say the same doubts known -/
def mR (nd y cd : Nat) : Prop := ∀ d, d < nd → (y / 2 ^ d % 2 = 0 ↔ zD cd d = 0)
theorem mR_se {nd y nb fd cd : Nat} (hy : y < 32) (hnb : nb < 32) (hcd : cd < 1024) (hnd : nd ≤ 5) (hF : ∀ e, e < nd → zD fd e ≠ 0) (h : mR nd y cd) : mR nd (y ||| nb) (zSe nb fd cd nd) ∧ zSe nb fd cd nd < 1024 := by
  obtain ⟨s1, s2⟩ := zSe_d (nb := nb) (fd := fd) hcd nd hnd
  refine ⟨fun d hd => ?_, s1⟩
  have hz := t_mkZ hy hnb (show d < 5 by omega)
  have hd' := h d hd
  rw [s2 d (by omega)]
  by_cases c : d < nd ∧ zD cd d = 0 ∧ nb / 2 ^ d % 2 = 1
  · rw [if_pos c]
    have := hF d hd
    constructor
    · intro z
      have := (hz.mp z).2
      omega
    · intro z
      omega
  · rw [if_neg c]
    constructor
    · intro z
      exact hd'.mp (hz.mp z).1
    · intro z
      refine hz.mpr ⟨hd'.mpr z, ?_⟩
      have : nb / 2 ^ d % 2 < 2 := Nat.mod_lt _ (by decide)
      omega
section M1s
variable {N b : Nat} {g : uEnv} {Ub : UH} {la da wa : Nat → Nat} {a lo hi al : Nat} {rv : Int32} {nm : Nat → Nat} {B : bBk} {dead : Int} {w h n nd : Nat} {hts : Nat → Int} {fl : Nat → Nat} {dO kn : Nat → Int} {dc : Nat → Nat} {wg : Nat → Nat → Nat} {wk ta fd : Nat} {σb : MS}
theorem kW_by {ea wr way t : Nat} {x1 x3 x8 : Int32} {k38 : MS → Int32 → Int32 → Int32 → Int32 → Int32 → Int32 → Option (Int32 × MS)} (hC : wCx b Ub la a lo hi al rv nm B dead n nd dO kn dc wg wk ta fd) (hM : mLand σb B dead w h n nd hts fl dO kn dc wg) (hK : zKn σb.1 σb.2.1 nd B.2.1 (fun e => zCn (wg e) 8) kn (fun e k => zKd (wg e) k)) (hea : Ub.2.2 ea = some (.inr (10, [.ref wr, .int (iI t)]))) (hwk : ea ≠ wk ∧ ea ≠ la 0) (hwr : uWay g wr = some way) (hy4 : way < 4) (ht : t ≤ 9) (hN : 100 ≤ N) : ∀ (r i m1 m2 : Nat) (u : UH) (c y : Nat) (q s : Int32) (cd : Nat), i + r = t → r < m1 → r < m2 → wSt g Ub la da wa a dead w h n nd hts fl dO kn wg wk ta u c y q s 0 → mR nd y cd → cd < 1024 → (∃ (u' : UH) (f c' y' : Nat) (q' s' : Int32), f_X12_by_2 N b g ea m1 u (some wk) (iI i) = some u' ∧ wSt g Ub la da wa a dead w h n nd hts fl dO kn wg wk ta u' c' y' q' s' (iI f) ∧ (1 ≤ f ∧ f ≤ 5) ∧ f_acts_175 N k38 m2 (mW σb s q) x1 x3 (iI fd) (iI c) (iI cd) x8 (iI way) (iI t) (iI i) = some (iI f, mW σb s' q')) ∨ (∃ (u' : UH) (c' y' : Nat) (q' s' : Int32) (cd' : Nat), f_X12_by_2 N b g ea m1 u (some wk) (iI i) = some u' ∧ wSt g Ub la da wa a dead w h n nd hts fl dO kn wg wk ta u' c' y' q' s' 0 ∧ mR nd y' cd' ∧ cd' < 1024 ∧ f_acts_175 N k38 m2 (mW σb s q) x1 x3 (iI fd) (iI c) (iI cd) x8 (iI way) (iI t) (iI i) = k38 (mW σb s' q') x1 x3 (iI fd) (iI c') (iI cd') x8) := by
  intro r
  induction r with
  | zero =>
    intro i m1 m2 u c y q s cd hi h1 h2 hS hR hcd
    obtain ⟨m1', rfl⟩ : ∃ z, m1 = z + 1 := ⟨m1 - 1, by omega⟩
    obtain ⟨m2', rfl⟩ : ∃ z, m2 = z + 1 := ⟨m2 - 1, by omega⟩
    have he : u.2.2 ea = some (.inr (10, [.ref wr, .int (iI t)])) := (hS.2.2.1 ea hwk.1 hwk.2).trans hea
    right
    refine ⟨u, c, y, q, s, cd, ?_, hS, hR, hcd, ?_⟩
    · unfold f_X12_by_2 f_X12_by_31
      rw [v_gi he (k := 1) rfl, p_bs, p_le (by omega) (by omega) (by omega) (by omega) (by omega)]
    · unfold f_acts_175 f_acts_284
      rw [p_le (by omega) (by omega) (by omega) (by omega) (by omega)]
  | succ r ih =>
    intro i m1 m2 u c y q s cd hi h1 h2 hS hR hcd
    obtain ⟨m1', rfl⟩ : ∃ z, m1 = z + 1 := ⟨m1 - 1, by omega⟩
    obtain ⟨m2', rfl⟩ : ∃ z, m2 = z + 1 := ⟨m2 - 1, by omega⟩
    have he : u.2.2 ea = some (.inr (10, [.ref wr, .int (iI t)])) := (hS.2.2.1 ea hwk.1 hwk.2).trans hea
    obtain ⟨-, -, -, -, -, -, -, -, -, hfd, hF⟩ := id hC
    obtain ⟨⟨v8, v9, v10, hL⟩, hk, -, -, -, -, hy, hc⟩ := id hS
    obtain ⟨l0, hw, hh, hn, hnd, -⟩ := id hL
    have m4 : w * h ≤ 10 * 10 := Nat.mul_le_mul hw.2 hh.2
    have hk' : u.2.2 wk = some (.inr (16, [.ref (la 0), .int (iI dead), .ref ta, .int (iI c), .int (iI ((y : Int) - 32)), .int q, .int s, .int 0])) := hk
    have ei : iI (i : Int) + 1 = iI ((i + 1 : Nat) : Int) := by
      rw [j1, i_add]
      rfl
    have hM' : mLand (mW σb s q) B dead w h n nd hts fl dO kn dc wg := hM
    have hK' : zKn (mW σb s q).1 (mW σb s q).2.1 nd B.2.1 (fun e => zCn (wg e) 8) kn (fun e k => zKd (wg e) k) := hK
    have flo : ∀ c', c' < n → _ := fun c' (hc' : c' < n) => m_flo (N := N) (c := c') hM' hK' hfd hF hc' (by omega)
    have bes := b_m24 (N := N) (σ := mW σb s q) hM'.1.2.2.2.2.1 hM'.1.2.2.2.2.2.1 hy4 hw hh (hn ▸ hc)
    -- class: one turn
    have cl : ∀ u1, f_X18_goes N b g u wk (some wr) = some u1 → f_X12_by_2 N b g ea (m1' + 1) u (some wk) (iI i) = f_X12_by_2 N b g ea m1' u1 (some wk) (iI ((i + 1 : Nat) : Int)) := fun u1 hu => by
      rw [f_X12_by_2, v_gi he (k := 1) rfl, p_bs, n_le (by omega) (by omega) (by omega) (by omega) (by omega), p_bs, v_gi hk' (k := 7) rfl, p_bs, if_pos rfl, v_gr he (k := 0) rfl, p_bs, if_pos (v_is hk'), hu, p_bs, p_let, ei]
    have stop : ∀ (u1 : UH) (c1 y1 : Nat) (q1 s1 f1 : Int32), wSt g Ub la da wa a dead w h n nd hts fl dO kn wg wk ta u1 c1 y1 q1 s1 f1 → f1 ≠ 0 → f_X12_by_2 N b g ea m1' u1 (some wk) (iI ((i + 1 : Nat) : Int)) = some u1 := fun u1 c1 y1 q1 s1 f1 hw1 hw2 => by
      obtain ⟨m3, rfl⟩ : ∃ z, m1' = z + 1 := ⟨m1' - 1, by omega⟩
      have he1 : u1.2.2 ea = some (.inr (10, [.ref wr, .int (iI t)])) := (hw1.2.2.1 ea hwk.1 hwk.2).trans hea
      have hk1 : u1.2.2 wk = some (.inr (16, [.ref (la 0), .int (iI dead), .ref ta, .int (iI c1), .int (iI ((y1 : Int) - 32)), .int q1, .int s1, .int f1])) := hw1.2.1
      unfold f_X12_by_2 f_X12_by_31
      rw [v_gi he1 (k := 1) rfl, p_bs]
      by_cases c0 : iI (t : Int) ≤ iI ((i + 1 : Nat) : Int)
      · rw [if_pos c0]
      · rw [if_neg c0, p_bs, v_gi hk1 (k := 7) rfl, p_bs, if_neg hw2]
    rw [f_acts_175, n_le (by omega) (by omega) (by omega) (by omega) (by omega), bes, q_mc]
    rcases kW_go (N := N) (way := way) hC hS hwr (fun c' hc' => (flo c' hc').2) hN with ⟨b1, u1, g1, g2⟩ | ⟨c', b1, b2, b3⟩
    · left
      refine ⟨u1, 1, c, y, q, s, ?_, g2, ⟨by omega, by omega⟩, ?_⟩
      · rw [cl u1 g1]
        exact stop u1 c y q s 1 g2 n10
      · have hm1 : besI w h c way = -1 := by
          rcases bes_b (w := w) (h := h) (c := c) (d := way) hw hh with z | z <;> omega
        unfold f_acts_217
        rw [hm1, if_neg (show ¬ (0 : Int32) ≤ iI (-1) by decide), if_neg (show ¬ (1 : Int32) ≤ 0 by decide)]
        rfl
    · obtain ⟨fl1, fl2⟩ := flo c' b2
      have bar := b_barred (N := N) (σ := mW σb s q) hM'.1 (by omega) fl2 (hn ▸ hc) hy4
      have bi := bWhy_in (B := B) (dead := dead) (hts := hts) (w := w) (h := h) (c := c) (way := way) (d := zGr fl dO wg fd c')
      rw [b1, if_pos (show (0 : Int32) ≤ iI (c' : Int) by rw [j0, j_le (by omega) (by omega) (by omega) (by omega)]; omega), fl1, q_mc, bar, q_mc]
      unfold f_acts_217
      rcases b3 with ⟨b3, u1, g1, g2⟩ | ⟨b3, u1, g1, g2⟩
      · left
        obtain ⟨f, hf⟩ : ∃ f : Nat, bWhy B dead hts w h c way (zGr fl dO wg fd c') = (f : Int) := ⟨(bWhy B dead hts w h c way (zGr fl dO wg fd c')).toNat, by omega⟩
        rw [hf] at g2 bi b3
        refine ⟨u1, f, c, y, q, s, ?_, g2, ⟨by omega, by omega⟩, ?_⟩
        · rw [cl u1 g1]
          exact stop u1 c y q s _ g2 (by rw [j0]; intro z; rw [j_eq (by omega) (by omega) (by omega) (by omega)] at z; omega)
        · rw [hf, if_neg (show ¬ iI (f : Int) ≤ 0 by rw [j0, j_le (by omega) (by omega) (by omega) (by omega)]; omega)]
      · have co := b_cost (N := N) (σ := mW σb s q) hM'.1 (by omega) fl2 (hn ▸ hc) hy4 b3
        obtain ⟨-, -, -, -, -, -, -, hG, -⟩ := id hC
        have nb32 : zNb w h dc c' nd < 32 := by
          have h1 := zNb_lt (w := w) (h := h) (dc := dc) (c := c') nd
          have p5 : 2 ^ nd ≤ 2 ^ 5 := Nat.pow_le_pow_right (by decide) hnd
          omega
        obtain ⟨e1, e2⟩ := mR_se (fd := fd) hy nb32 hcd hnd (fun e he => (hF e he).1) hR
        have hM2 : mLand (mW σb (s + 1) (q + iI (bCost B dead hts w h c way (zGr fl dO wg fd c')))) B dead w h n nd hts fl dO kn dc wg := hM
        have se := m_sees (N := N) (σ := mW σb (s + 1) (q + iI (bCost B dead hts w h c way (zGr fl dO wg fd c')))) (cd := cd) (fd := fd) hM2.1.2.2.2.2.1 hM2.1.2.2.2.2.2.1 hw hh hn hM2.2.2.1 hnd (fun e he => ⟨(hM2.2.2.2.2.2.1 e he).1, (hM2.2.2.2.2.2.1 e he).2.1⟩) b2 hcd hfd (by omega)
        rw [b3, if_pos (show iI 0 ≤ 0 by decide), fl1, q_mc, co, q_mc, p_let, p_let, show (mW σb s q).1 67 = q from rfl, show (mSet (mW σb s q) 67 (q + iI (bCost B dead hts w h c way (zGr fl dO wg fd c')))).1 66 = s from rfl, mW_st, se, q_mc, p_let, ei, cl u1 g1]
        exact ih (i + 1) m1' m2' u1 c' _ _ _ _ (by omega) (by omega) (by omega) g2 e1 e2
end M1s

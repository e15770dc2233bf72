/-! PLAIN: the call map, whole -/
theorem mRow3_a {σ : MS} {a b c : Nat → Int32} {k : Nat} {x y z : Int32} : mArr (mArr (mArr (mRow (mRow (mRow σ 41 a) 42 b) 43 c) 41 k x) 42 k y) 43 k z = mRow (mRow (mRow σ 41 (upd a k x)) 42 (upd b k y)) 43 (upd c k z) := by
  refine Prod.ext rfl (Prod.ext ?_ rfl)
  funext j
  show (if j = 43 then upd c k z else if j = 42 then upd b k y else if j = 41 then upd a k x else if j = 43 then c else if j = 42 then b else if j = 41 then a else σ.2.1 j) = (if j = 43 then upd c k z else if j = 42 then upd b k y else if j = 41 then upd a k x else σ.2.1 j)
  by_cases h3 : j = 43
  · simp only [if_pos h3]
  · by_cases h2 : j = 42
    · simp only [if_neg h3, if_pos h2]
    · by_cases h1 : j = 41
      · simp only [if_neg h3, if_neg h2, if_pos h1]
      · simp only [if_neg h3, if_neg h2, if_neg h1]
theorem m_map82 {N : Nat} {σ : MS} {x y : Int32} : ∀ (m k : Nat) (a b c : Nat → Int32), k ≤ 100 → 100 < k + m → (∀ j, j < k → a j = 0 ∧ b j = 0 ∧ c j = -1) → ∃ a' b' c' : Nat → Int32, (∀ j, j < 100 → a' j = 0 ∧ b' j = 0 ∧ c' j = -1) ∧ f_map_82 N m (mRow (mRow (mRow σ 41 a) 42 b) 43 c) x y (iI k) = some (x * y, mRow (mRow (mRow σ 41 a') 42 b') 43 c') := by
  intro m
  induction m with
  | zero => intro k a b c h1 h2; omega
  | succ m ih =>
    intro k a b c h1 h2 h3
    rw [f_map_82]
    by_cases hk : k = 100
    · subst hk
      refine ⟨a, b, c, h3, ?_⟩
      rw [show (100 : Int32) = iI 100 from rfl, p_le (by omega) (by omega) (by omega) (by omega) (by omega)]
    · have ek : iI (k : Int) + 1 = iI ((k + 1 : Nat) : Int) := by
        rw [j1, i_add]
        rfl
      obtain ⟨t1, t2⟩ := t_ix (a := (k : Int)) (n := mLen 41) (k := k) rfl (by rw [mL41]; omega) (by rw [mL41]; omega)
      obtain ⟨t3, -⟩ := t_ix (a := (k : Int)) (n := mLen 42) (k := k) rfl (by rw [mL42]; omega) (by rw [mL42]; omega)
      obtain ⟨t5, -⟩ := t_ix (a := (k : Int)) (n := mLen 43) (k := k) rfl (by rw [mL43]; omega) (by rw [mL43]; omega)
      obtain ⟨a', b', c', e1, e2⟩ := ih (k + 1) (upd a k 0) (upd b k 0) (upd c k (-1)) (by omega) (by omega) (fun j hj => by
        by_cases q : j = k
        · subst q
          rw [upd_s, upd_s, upd_s]
          exact ⟨rfl, rfl, rfl⟩
        · rw [upd_n q, upd_n q, upd_n q]
          exact h3 j (by omega))
      refine ⟨a', b', c', e1, ?_⟩
      rw [show (100 : Int32) = iI 100 from rfl, n_le (by omega) (by omega) (by omega) (by omega) (by omega), if_pos t1, p_let, t2, if_pos t3, p_let, if_pos t5, p_let, mRow3_a, ek, p_let]
      exact e2
/-- the ways -/
theorem t_ways {b : Nat} {g : uEnv} {u : UH} {a L : Nat} {xs : Nat → Int32} (h : uStart b g u a L xs) : ∃ (vv : Nat) (fw : Nat → Option Nat), g.1 9 = some vv ∧ vv < b ∧ u.2.2 vv = some (.inl (5, 4, .inr (.inr (.inr (.inr fw))))) ∧ ∀ y, y < 4 → ∃ wr, fw y = some wr ∧ uWay g wr = some y := by
  obtain ⟨-, -, -, -, ⟨v, f, h1, h2, h3⟩, -, -, h4, h5, -, -, h6⟩ := h
  refine ⟨v, f, h1, h6 _ _ h2, h2, fun y hy => ?_⟩
  obtain ⟨r, r1, r2⟩ := h4 (5 + y) (by omega)
  refine ⟨r, (h3 y hy).trans r1, ?_⟩
  unfold uWay
  match y, hy with
  | 0, _ => exact if_pos r1
  | 1, _ => rw [if_neg (fun z => h5 5 6 (by omega) (by omega) (z.trans r1.symm)), if_pos r1]
  | 2, _ => rw [if_neg (fun z => h5 5 7 (by omega) (by omega) (z.trans r1.symm)), if_neg (fun z => h5 6 7 (by omega) (by omega) (z.trans r1.symm)), if_pos r1]
  | 3, _ => rw [if_neg (fun z => h5 5 8 (by omega) (by omega) (z.trans r1.symm)), if_neg (fun z => h5 6 8 (by omega) (by omega) (z.trans r1.symm)), if_neg (fun z => h5 7 8 (by omega) (by omega) (z.trans r1.symm)), if_pos r1]
section G7s
variable {N b : Nat} {g : uEnv} {A : pA} {ad sa : Nat → Nat} {U : UH} {lab : Nat → Nat} {σ : MS} {ou : Nat} {u0 : UH} {sc L : Nat} {sx : Nat → Int32}
theorem k_mapc (hst : uStart b g u0 sc L sx) (h : xSt b g A ad sa (qA g (ad 4) b u0 ou) U lab σ) (hN : 200 ≤ N) (x y : Int32) : ∃ r U' σ' dc ds, f_X1_map N b g U (ad 0) x y = some (r, U') ∧ f_map N σ x y = some (r, σ') ∧ xStep b g A ad sa (qA g (ad 4) b u0 ou) U lab U' σ' dc ds ∧ dc ≤ 6 ∧ ds ≤ 318 := by
  have hQ : qOk (qA g (ad 4) b u0 ou) := qA_ok
  obtain ⟨U1, n1, n2⟩ := k_ref (N := N) (t := 1) (by decide) hQ h
  obtain ⟨U2, n3, n4⟩ := k_ref (N := N) (t := 2) (by decide) hQ h
  have hi0 := k_is h
  obtain ⟨bkv, mpv, ptv, hx, hI⟩ := h
  have hI' := hI
  obtain ⟨oU, hb, ⟨hl, hfr⟩, hE, hA, ⟨l0, h1, hS3, h2, h3⟩, hbm, hq1, hq2, hq3, hq4, hq5, hq6⟩ := hI'
  have ba0 : b ≤ ad 0 := lab_ge hl (by omega)
  unfold f_X1_map f_map f_X1_map_34 f_map_18 f_map_44
  rw [if_pos hi0, m_good, q_mv]
  rcases hbm with ⟨e1, e2, e3, e4, e5⟩ | ⟨lo, hi, a, al, rv, nm, B, dead, q1, q2, q3, q4, q5, q6, q7, q8, q9, q10⟩
  · subst e1
    refine ⟨-1, U1, mT σ 1, 0, 0, ?_, ?_, n2, by omega, by omega⟩
    · rw [x_gdN hx, q_uc, if_pos rfl, if_pos hi0, n1, q_uc]
    · rw [if_pos (show (mT σ 0).1 12 = 0 from e3), m_no, q_mc]
  · subst q1
    have k12 : ¬ (mT σ 0).1 12 = 0 := by
      show ¬ σ.1 12 = 0
      rw [q2]
      decide
    have k22 : (mT σ 0).1 22 = iI B.2.1 := q5.1.2.2.2.2.2
    have B8 := q4.2.2.2.2.2.1
    have xg := x_gd (N := N) (b := b) (g := g) (x := 0) hx q3 q4 ⟨by decide, by decide⟩
    rw [show iI 0 = 0 from rfl] at xg
    by_cases hB : B.2.1 = 0
    · rw [iB_0 (by omega)] at xg
      refine ⟨-1, U1, mT σ 1, 0, 0, ?_, ?_, n2, by omega, by omega⟩
      · rw [xg, q_uc, if_pos rfl, if_pos hi0, n1, q_uc]
      · rw [if_neg k12, if_pos (show (mT σ 0).1 22 = 0 by rw [k22, hB]; rfl), m_no, q_mc]
    · rw [iB_1 (by omega)] at xg
      rw [xg, q_uc, if_neg n10, if_neg k12, if_neg (show ¬ (mT σ 0).1 22 = 0 by
        rw [k22, j0, j_eq (by omega) (by omega) (by omega) (by omega)]
        omega)]
      rcases k_in (N := N) (b := b) (g := g) (lo := 1) (hi := 10) ⟨by decide, by decide⟩ ⟨by decide, by decide⟩ x U (mT σ 0) with ⟨f1, f2⟩ | ⟨f1, f2, i, f3, f4, f5⟩
      · have f1' : f_X1_in N b g U x 1 10 = some (0, U) := f1
        have f2' : f_within N (mT σ 0) x 1 10 = some (0, mT σ 0) := f2
        refine ⟨-1, U2, mT σ 2, 0, 0, ?_, ?_, n4, by omega, by omega⟩
        · rw [f1', q_uc, if_pos rfl, if_pos hi0, n3, q_uc]
        · rw [f2', q_mc, if_pos rfl, m_no, q_mc]
      · have f1' : f_X1_in N b g U x 1 10 = some (1, U) := f1
        have f2' : f_within N (mT σ 0) x 1 10 = some (1, mT σ 0) := f2
        rw [f1', f2', q_uc, q_mc, if_neg n10, if_neg n10]
        rcases k_in (N := N) (b := b) (g := g) (lo := 1) (hi := 10) ⟨by decide, by decide⟩ ⟨by decide, by decide⟩ y U (mT σ 0) with ⟨d1, d2⟩ | ⟨d1, d2, j, d3, d4, d5⟩
        · have d1' : f_X1_in N b g U y 1 10 = some (0, U) := d1
          have d2' : f_within N (mT σ 0) y 1 10 = some (0, mT σ 0) := d2
          refine ⟨-1, U2, mT σ 2, 0, 0, ?_, ?_, n4, by omega, by omega⟩
          · rw [d1', q_uc, if_pos rfl, if_pos hi0, n3, q_uc]
          · rw [d2', q_mc, if_pos rfl, m_no, q_mc]
        · have d1' : f_X1_in N b g U y 1 10 = some (1, U) := d1
          have d2' : f_within N (mT σ 0) y 1 10 = some (1, mT σ 0) := d2
          obtain ⟨w, rfl⟩ : ∃ w : Nat, i = (w : Int) := ⟨i.toNat, by omega⟩
          obtain ⟨h, rfl⟩ : ∃ h : Nat, j = (h : Int) := ⟨j.toNat, by omega⟩
          have hw : 1 ≤ w ∧ w ≤ 10 := by omega
          have hh : 1 ≤ h ∧ h ≤ 10 := by omega
          have m4 : w * h ≤ 10 * 10 := Nat.mul_le_mul hw.2 hh.2
          obtain ⟨-, -, ⟨v10, f10, g10, b10, c10⟩, -⟩ := hE
          obtain ⟨vv, fw, g9, b9, c9, hfw⟩ := t_ways hst
          have c9' : U.2.2 vv = some (.inl (5, 4, .inr (.inr (.inr (.inr fw))))) := (hq5 vv b9).2.trans c9
          obtain ⟨u1, r1, r2, r3, r4, r5, r6⟩ := c_linit (N := N) (b := b) (bk := a) (w := w) (h := h) g10 c10 g9 c9' hfw oU hb hw hh (fun _ => 0) (fun _ => 0) (fun _ => -1) (fun _ _ => 0)
          have hx1 : u1.2.2 (ad 0) = some (xO ad σ (.ref a) mpv ptv) := (r3 _ (oU _ _ hx)).trans hx
          have hxn : (uNew U 11 (.inr (12, uDefs tyX14 11))).2.2 (ad 0) = some (xO ad σ (.ref a) mpv ptv) := u_no oU hx
          have pw : uPut b u1 (ad 0) 0 7 (va_rf (some U.1)) = some (uSet u1 (ad 0) (xO ad σ (.ref a) (.ref U.1) ptv)) := u_pw hx1 ba0 (Nat.le_of_ble_eq_true rfl)
          obtain ⟨parr, np, pm, pmc, pxs, pa, kl, pl1, pl2, pl3, pl4, pl5⟩ := hq3
          have lP : lab (ad 4) = 5 := pl1.2.1
          have ltP := hI.lt lP (by decide)
          have n04 : ad 4 ≠ ad 0 := fun z => by rw [z] at lP; omega
          have v2 : vLs (uSet u1 (ad 0) (xO ad σ (.ref a) (.ref U.1) ptv)) (ad 4) parr np pm pmc pxs := by
            obtain ⟨p1, p2, p3⟩ := pl1.1
            exact ⟨(u_sn n04).trans ((r3 _ ltP).trans p1), (u_sn (fun z => by
              rw [z, hx] at p2
              cases p2)).trans ((r3 _ (oU _ _ p2)).trans p2), p3⟩
          have o2 : uOld (uSet u1 (ad 0) (xO ad σ (.ref a) (.ref U.1) ptv)) := r4.set hx1
          have lPa : 0 < np → lab parr = 5 := fun z => pl1.2.2.2 (by
            have := pl1.1.2.2.1
            omega)
          obtain ⟨u2, xs2, t1, t2, t3, t4, t5, t6⟩ := l_clear (N := N) (b := b) (g := g) v2 o2 (lab_ge hl (by omega)) (fun z => lab_ge hl (by rw [lPa z]; decide)) (by omega)
          have u11 : (uSet u1 (ad 0) (xO ad σ (.ref a) (.ref U.1) ptv)).1 = U.1 + 6 := r5
          have u12 : (uSet u1 (ad 0) (xO ad σ (.ref a) (.ref U.1) ptv)).2.1 = U.2.1 + (18 + 3 * (w * h)) := r6
          have keep : ∀ x, x < U.1 → lab x ≠ 1 → lab x ≠ 5 → u2.2.2 x = U.2.2 x := fun x q1 q2 q3 => by
            rw [t3 x (fun z => q3 (by rw [z]; exact lP)) (fun z1 z2 => q3 (by rw [z2]; exact lPa z1)), u_sn (fun z => q2 (by rw [z]; exact l0))]
            exact r3 x q1
          have hi7 : u2.2.2 (ad 0) = some (xO ad σ (.ref a) (.ref U.1) ptv) := by
            rw [t3 (ad 0) (Ne.symm n04) (fun z1 z2 => by
              have := lPa z1
              rw [← z2] at this
              omega)]
            exact u_ss
          have newk : ∀ x, U.1 ≤ x → u2.2.2 x = u1.2.2 x := fun x q => by
            rw [t3 x (fun z => by omega) (fun z1 z2 => by
              have := hI.lt (lPa z1) (by decide)
              omega), u_sn (fun z => by
              have := oU _ _ hx
              omega)]
          have hLn : vLd u2 g (lNa U.1 v10) (fun _ => 0) (fun _ => 0) a (.int 0) (.int 0) (.int 0) w h (w * h) 0 (fun _ => 0) (fun _ => 0) (fun _ => -1) (fun _ => -1) (fun _ _ => 0) := r2.adr (fun i hi => by
            match i, hi with
            | 0, _ => exact newk _ (Nat.le_refl _)
            | 1, _ => exact newk _ (Nat.le_add_right _ _)
            | 2, _ => exact newk _ (Nat.le_add_right _ _)
            | 3, _ => exact newk _ (Nat.le_add_right _ _)
            | 4, _ => exact newk _ (Nat.le_add_right _ _)
            | 5, _ =>
              show u2.2.2 v10 = u1.2.2 v10
              have z0 := hl v10 b10
              rw [keep v10 (by omega) (by omega) (by omega), r3 v10 (by omega)]
            | 6, _ => exact newk _ (Nat.le_add_right _ _)) (fun e he => by omega)
          have hL0 : u2.2.2 U.1 = some (.inr (12, [.ref a, .int (iI w), .int (iI h), .ref (U.1 + 3), .ref (U.1 + 4), .ref (U.1 + 5), .ref (U.1 + 1), .ref (U.1 + 2), .int 0, .int 0, .int 0])) := hLn.1
          have hxs : (uSet u1 (ad 0) (xO ad σ (.ref a) (.ref U.1) ptv)).2.2 (ad 0) = some (xO ad σ (.ref a) (.ref U.1) ptv) := u_ss
          have cl : f_X14_cells N b g u2 U.1 = some (iI ((w * h : Nat) : Int), u2) := by
            unfold f_X14_cells
            rw [v_gi hL0 (k := 1) rfl, p_bs, v_gi hL0 (k := 2) rfl, p_bs, i_mul]
            rfl
          obtain ⟨ra, rb, rc, y1, y2⟩ := m_map82 (N := N) (σ := mSet (mSet (mSet (mSet (mSet (mSet (mT σ 0) 34 1) 35 (iI w)) 36 (iI h)) 37 0) 40 0) 51 0) (x := iI w) (y := iI h) N 0 (σ.2.1 41) (σ.2.1 42) (σ.2.1 43) (by omega) (by omega) (fun j hj => by omega)
          have id3 : mRow (mRow (mRow (mSet (mSet (mSet (mSet (mSet (mSet (mT σ 0) 34 1) 35 (iI w)) 36 (iI h)) 37 0) 40 0) 51 0) 41 (σ.2.1 41)) 42 (σ.2.1 42)) 43 (σ.2.1 43) = mSet (mSet (mSet (mSet (mSet (mSet (mT σ 0) 34 1) 35 (iI w)) 36 (iI h)) 37 0) 40 0) 51 0 := by
            have e41 : mRow (mSet (mSet (mSet (mSet (mSet (mSet (mT σ 0) 34 1) 35 (iI w)) 36 (iI h)) 37 0) 40 0) 51 0) 41 (σ.2.1 41) = mSet (mSet (mSet (mSet (mSet (mSet (mT σ 0) 34 1) 35 (iI w)) 36 (iI h)) 37 0) 40 0) 51 0 := mRow_id
            have e42 : mRow (mSet (mSet (mSet (mSet (mSet (mSet (mT σ 0) 34 1) 35 (iI w)) 36 (iI h)) 37 0) 40 0) 51 0) 42 (σ.2.1 42) = mSet (mSet (mSet (mSet (mSet (mSet (mT σ 0) 34 1) 35 (iI w)) 36 (iI h)) 37 0) 40 0) 51 0 := mRow_id
            have e43 : mRow (mSet (mSet (mSet (mSet (mSet (mSet (mT σ 0) 34 1) 35 (iI w)) 36 (iI h)) 37 0) 40 0) 51 0) 43 (σ.2.1 43) = mSet (mSet (mSet (mSet (mSet (mSet (mT σ 0) 34 1) 35 (iI w)) 36 (iI h)) 37 0) 40 0) 51 0 := mRow_id
            rw [e41, e42, e43]
          rw [id3] at y2
          obtain ⟨σM, hσM⟩ : ∃ σM, σM = mRow (mRow (mRow (mSet (mSet (mSet (mSet (mSet (mSet (mT σ 0) 34 1) 35 (iI w)) 36 (iI h)) 37 0) 40 0) 51 0) 41 ra) 42 rb) 43 rc := ⟨_, rfl⟩
          refine ⟨iI ((w * h : Nat) : Int), uSet u2 (ad 0) (xO ad (mT σ 0) (.ref a) (.ref U.1) ptv), σM, 6, 18 + 3 * (w * h), ?_, ?_, ?_, by omega, by omega⟩
          · unfold f_X1_map_44 f_X1_map_54
            rw [d1', q_uc, if_neg n10, p_let, p_let, x_bk hxn, p_bs, p_bs, f3, d3, r1, p_bs, p_bs, pw, p_bs, v_gr hxs (k := 10) rfl, p_bs, p_bs, if_pos (v_is v2.1), t1, p_bs, x_mp hi7, p_bs, p_bs, if_pos (v_is hL0), cl, q_uc, if_pos (v_is hi7), x_don hi7 ba0, q_uc]
          · rw [d2', q_mc, if_neg n10, p_let, p_let, p_let, p_let, p_let, p_let, f3, d3, hσM]
            have em : iI (w : Int) * iI (h : Int) = iI ((w * h : Nat) : Int) := by
              rw [i_mul]
              rfl
            rw [← em]
            exact y2
          · subst hσM
            have lbO : ∀ x, x < U.1 → (if U.1 ≤ x ∧ x < U.1 + 6 then 8 else lab x) = lab x := fun x q => if_neg (by omega)
            have lbN : ∀ x, U.1 ≤ x → x < U.1 + 6 → (if U.1 ≤ x ∧ x < U.1 + 6 then 8 else lab x) = 8 := fun x q1 q2 => if_pos ⟨q1, q2⟩
            have ns : ∀ {pr : Nat → Prop}, ¬ pr 1 → ¬ pr 5 → ¬ pr 11 → uLb lab (fun x => if U.1 ≤ x ∧ x < U.1 + 6 then 8 else lab x) U u2 pr := fun p1 p5 p11 => hI.lb lbO (fun x hx hp => keep x hx (fun z => p1 (by rw [← z]; exact hp)) (fun z => p5 (by rw [← z]; exact hp))) p11
            have sm : qSm (fun k => k ≠ 1 ∧ k ≠ 5 ∧ k ≠ 11) lab (fun x => if U.1 ≤ x ∧ x < U.1 + 6 then 8 else lab x) U u2 := ns (pr := fun k => k ≠ 1 ∧ k ≠ 5 ∧ k ≠ 11) (by decide) (by decide) (by decide)
            have lo0 : ∀ x, x < b → u2.2.2 x = U.2.2 x := fun x hx => by
              have := hl x hx
              exact keep x (by omega) (by omega) (by omega)
            have v10c : u2.2.2 v10 = some (.inl (4, 0, .inr (.inr (.inr (.inr f10))))) := (lo0 v10 b10).trans c10
            have nBM : xBM b g u2 (fun x => if U.1 ≤ x ∧ x < U.1 + 6 then 8 else lab x) (mRow (mRow (mRow (mSet (mSet (mSet (mSet (mSet (mSet (mT σ 0) 34 1) 35 (iI w)) 36 (iI h)) 37 0) 40 0) 51 0) 41 ra) 42 rb) 43 rc) (.ref a) (.ref U.1) := by
              refine Or.inr ⟨lo, hi, a, al, rv, nm, B, dead, rfl, q2, q3.same (fun x hx => ?_), q4, q5, q6, q7, by omega, fun x z1 z2 => (lbO x (by omega)).trans (q9 x z1 z2), Or.inr ⟨rfl, lNa U.1 v10, (fun _ => 0), (fun _ => 0), .int 0, .int 0, .int 0, w, h, w * h, 0, (fun _ => 0), (fun _ => 0), (fun _ => -1), (fun _ => -1), (fun _ => 0), (fun _ _ => 0), rfl, hLn, ⟨⟨q4, q5, q6, q7, rfl, rfl, hw, hh, fun k hk => ⟨(y1 k hk).1, (show (0 : Int) ≤ 0 by decide), (show (0 : Int) ≤ 999 by decide)⟩⟩, rfl, rfl, by omega, fun c hc => ⟨(y1 c (by omega)).2.1, (show 0 < B.2.1 by omega), (y1 c (by omega)).2.2, (show (-1 : Int) ≤ -1 by decide), (show (-1 : Int) < ((0 : Nat) : Int) by decide)⟩, fun e he => by omega, fun e he => by omega⟩, fun z => absurd rfl z, ⟨fun c _ z => absurd rfl z, fun e he => by omega, fun e he => by omega⟩, ⟨⟨?_, ?_, ?_, ?_, ?_, ?_⟩, fun e he => by omega, ?_, fun m z q => ?_⟩⟩⟩
              · rcases hx with z | ⟨z1, z2⟩
                · exact lo0 x z
                · have := q9 x z1 z2
                  exact keep x (by omega) (by omega) (by omega)
              · exact lbN _ (Nat.le_refl _) (Nat.lt_add_of_pos_right (by decide))
              · exact lbN (U.1 + 3) (by omega) (by omega)
              · exact lbN (U.1 + 4) (by omega) (by omega)
              · exact lbN (U.1 + 5) (by omega) (by omega)
              · exact lbN (U.1 + 1) (by omega) (by omega)
              · exact lbN (U.1 + 2) (by omega) (by omega)
              · show U.1 + 3 ≠ U.1 + 4
                omega
              · have q' : u2.2.2 v10 = some (.inl (4, m, z)) := q
                rw [v10c] at q'
                injection q' with q'
                injection q' with q'
                injection q' with _ q'
                injection q' with q' _
                exact ⟨fun _ => ⟨g10, b10⟩, fun e => absurd q'.symm e⟩
            have nq : qA g (ad 4) b u0 ou u2 (fun x => if U.1 ≤ x ∧ x < U.1 + 6 then 8 else lab x) (mRow (mRow (mRow (mSet (mSet (mSet (mSet (mSet (mSet (mT σ 0) 34 1) 35 (iI w)) 36 (iI h)) 37 0) 40 0) 51 0) 41 ra) 42 rb) 43 rc) (.ref a) ptv := by
              have hq4' : qPt u2 (fun x => if U.1 ≤ x ∧ x < U.1 + 6 then 8 else lab x) σ (.ref a) ptv := hq4.hp sm (by decide) (by decide) mQ_r
              have hq1' : qBk g u2 (fun x => if U.1 ≤ x ∧ x < U.1 + 6 then 8 else lab x) σ (.ref a) := hq1.hp sm (by decide) (by decide) mQ_r
              refine ⟨hq1', hq2, ⟨parr, 0, pm, pmc + 1, xs2, fun _ => 0, fun _ => 0, ⟨t2, (lbO _ ltP).trans lP, fun z => ?_, fun z => ?_⟩, rfl, by omega, fun z => absurd rfl z, fun i hi => by omega⟩, hq4', hq5.hp sm (by decide), hq6.hp sm (by decide)⟩
              · obtain ⟨z1, z2⟩ := pl1.2.2.1 z
                exact ⟨z1, (lbO _ (oU _ _ pl1.1.2.1)).trans z2⟩
              · exact (lbO _ (oU _ _ pl1.1.2.1)).trans (pl1.2.2.2 z)
            have sg := hI.gen (U' := u2) (lab' := fun x => if U.1 ≤ x ∧ x < U.1 + 6 then 8 else lab x) (σ' := mRow (mRow (mRow (mSet (mSet (mSet (mSet (mSet (mSet (mT σ 0) 34 1) 35 (iI w)) 36 (iI h)) 37 0) 40 0) 51 0) 41 ra) 42 rb) 43 rc) t4 (by omega) lbO (fun x hx => (if_neg (by omega)).trans (hfr x (by omega))) lo0 (h1.hp (ns (by decide) (by decide) (by decide))) (hS3.hp (ns (by decide) (by decide) (by decide))) (h2.hp hl (ns (by decide) (by decide) (by decide))) (h3.hp (ns (by decide) (by decide) (by decide))) nBM nq
            exact k_fins hQ sg hi7 l0 (fun x q => keep x (hI.lt q (by decide)) (by omega) (by omega)) (by omega) (by omega) rfl ⟨rfl, rfl, rfl, rfl, rfl, rfl, rfl⟩
end G7s

/-! PLAIN: regret: the parts of it -/
theorem cCx.all {u u' : UH} {g : uEnv} {la da wa sa : Nat → Nat} {bk so ja : Nat} {v8 v9 v10 : Value} {w h n nd ng go mean : Nat} {hts : Nat → Int} {fl nb : Nat → Nat} {dO kn : Nat → Int} {wg : Nat → Nat → Nat} {BG : Nat → Nat → Nat → Nat} (hk : ∀ x e, u.2.2 x = some e → u'.2.2 x = some e) (hX : cCx u g la da wa sa so ja bk v8 v9 v10 w h n nd ng go mean hts fl nb dO kn wg BG) : cCx u' g la da wa sa so ja bk v8 v9 v10 w h n nd ng go mean hts fl nb dO kn wg BG := by
  obtain ⟨hO, hL, ⟨⟨z4, i4⟩, ⟨z5, i5⟩, z6, i6⟩, ⟨cf, c1, c2⟩, ⟨sf, f1, f2⟩, h1, h2, h3, h4, hJ⟩ := hX
  refine ⟨hk _ _ hO, hL.keep (fun x e hx _ => hk x e hx), ⟨⟨z4, hk _ _ i4⟩, ⟨z5, hk _ _ i5⟩, z6, hk _ _ i6⟩, ⟨cf, hk _ _ c1, c2⟩, ⟨sf, hk _ _ f1, f2⟩, h1, h2, h3, h4, ?_⟩
  rcases hJ with ⟨q1, q2⟩ | ⟨q1, q2⟩
  · exact Or.inl ⟨q1, hk _ _ q2⟩
  · exact Or.inr ⟨q1, hk _ _ q2⟩
/-- the first d signs of a code -/
def zPd (fd : Nat) : Nat → Nat
  | 0 => 0
  | d + 1 => zPd fd d + zD fd d * 4 ^ d
theorem zPd_d {fd : Nat} : ∀ d, d ≤ 5 → zPd fd d < 1024 ∧ (∀ e, e < d → zD (zPd fd d) e = zD fd e) ∧ ∀ e, d ≤ e → zD (zPd fd d) e = 0 := by
  have main : ∀ d, zPd fd d < 4 ^ d ∧ (∀ e, e < d → zD (zPd fd d) e = zD fd e) ∧ ∀ e, d ≤ e → zD (zPd fd d) e = 0 := by
    intro d
    induction d with
    | zero => exact ⟨show 0 < 1 from Nat.zero_lt_one, fun e he => by omega, fun e _ => by show zD 0 e = 0; unfold zD; rw [Nat.zero_div]⟩
    | succ d ih =>
      obtain ⟨i1, i2, i3⟩ := ih
      obtain ⟨u1, u2, u3⟩ := zD_hi (v := zD fd d) i1 zD_lt
      have fl := zD_lt (cd := fd) (d := d)
      rw [zPd]
      refine ⟨?_, fun e he => ?_, fun e he => u3 e (by omega)⟩
      · rw [Nat.pow_succ]
        have : zD fd d * 4 ^ d ≤ 3 * 4 ^ d := Nat.mul_le_mul_right _ (by omega)
        omega
      · by_cases c : e = d
        · rw [c]
          exact u1
        · rw [u2 e (by omega)]
          exact i2 e (by omega)
  intro d hd
  obtain ⟨a, b, c⟩ := main d
  exact ⟨Nat.lt_of_lt_of_le a (Nat.pow_le_pow_right (by decide) hd), b, c⟩
theorem zPd_f {nd fd : Nat} {kn : Nat → Int} {wg : Nat → Nat → Nat} (hnd : nd ≤ 5) (hfd : fd < 1024) (hc : yCan nd kn wg fd) : zPd fd nd = fd := by
  obtain ⟨p1, p2, p3⟩ := zPd_d (fd := fd) nd hnd
  refine zD_ext p1 hfd (fun e he => ?_)
  by_cases q : e < nd
  · exact p2 e q
  · rw [p3 e (by omega), (hc e he).1 (by omega)]
theorem c_rg80 {N b : Nat} {g : uEnv} {u : UH} {ad la da wa sa : Nat → Nat} {bk so go ta fd : Nat} {σ : MS} {bkv ptv jd v8 v9 v10 : Value} {w h n nd : Nat} {hts : Nat → Int} {fl : Nat → Nat} {dO kn : Nat → Int} {wg : Nat → Nat → Nat} {f : Nat → Int32} {k51 : UH → Int32 → Option Nat → Int64 → Int32 → Option (Int32 × UH)} {x1 x6 : Int32} {x4 : Int64} (hx : u.2.2 (ad 0) = some (xO ad σ bkv (.ref (la 0)) ptv)) (hO : vSo u so (la 0) go n jd sa) (hL : vLd u g la da wa bk v8 v9 v10 w h n nd hts fl dO kn wg) (hfd : yCan nd kn wg fd) (hff : ∀ e, e < nd → zD fd e ≠ 0) (hta : u.2.2 ta = some (.inl (0, 5, .inl f))) (hf : ∀ e, e < nd → f e = iI (zTg wg fd e)) (hN : 9 ≤ N) : ∀ (m d : Nat), d ≤ nd → nd < d + m → f_X1_regret_80 N b g (ad 0) k51 m u x1 (some so) x4 x6 (some ta) (iI (zPd fd d)) (iI d) = f_X1_regret_125 N b g (ad 0) k51 (uNew u 3 (.inr (18, uDefs tyJ2 3))) x1 (some so) x6 (iI (zPd fd nd)) (some u.1) (some ta) x1 (some so) x4 := by
  have hnd := hL.2.2.2.2.1
  have sz := c_siz (N := N) (b := b) hL
  intro m
  induction m with
  | zero => intro d h1 h2; omega
  | succ m ih =>
    intro d h1 h2
    rw [f_X1_regret_80, x_mp hx, p_bs, p_bs, v_gr hL.1 (k := 6) rfl, p_bs, p_bs, if_pos sz.2, sz.1, q_uc]
    by_cases hd : nd ≤ d
    · have : d = nd := by omega
      subst this
      rw [p_le (by omega) (by omega) (by omega) (by omega) (by omega), p_let, p_let]
    · have ed : iI (d : Int) + 1 = iI ((d + 1 : Nat) : Int) := by
        rw [j1, i_add]
        rfl
      have hfe := hff d (by omega)
      have fle : zD fd d ≤ zCn (wg d) 8 := ((hfd d (by omega)).2 (by omega)).1
      obtain ⟨p1, p2, p3⟩ := zPd_d (fd := fd) d (by omega)
      have Lt : uLdI u ta 0 (iI (d : Int)) = some (iI (zKd (wg d) (zD fd d - 1))) := by
        rw [u_ldI hta (by omega) (by omega) (by omega)]
        exact congrArg some (hf d (by omega))
      have kn' := c_knows (N := N) (b := b) (k := zD fd d - 1) hO hL (by omega : d < nd) p1 (by omega) (p3 d (Nat.le_refl _)) hN
      rw [show zD fd d - 1 + 1 = zD fd d from by omega] at kn'
      rw [n_le (by omega) (by omega) (by omega) (by omega) (by omega), p_bs, Lt, p_bs, p_bs, if_pos (v_is hO), kn', q_uc, p_let, ed]
      exact ih (d + 1) (by omega) (by omega)
/-- values in all truths are no more -/
theorem z_ful {w h n nd ng go mean : Nat} {fl nb : Nat → Nat} {dO kn : Nat → Int} {wg : Nat → Nat → Nat} {BG : Nat → Nat → Nat → Nat} {Y : Nat → Nat → Nat} {fd c : Nat} (hW : wWd w h n nd ng go mean fl nb dO kn wg BG Y fd) (hm : mean = 0 ∨ mean = 1) (hc : c < n) : ∀ (m cd : Nat), zUk cd nd = m → cd < 1024 → yCan nd kn wg cd → (∀ e, e < nd → zD cd e = 0 ∨ zD cd e = zD fd e) → Y cd c < 1000000000000000 → Y fd c < 1000000000000000 := by
  have hW' := hW
  obtain ⟨hS, ⟨hw, hh, hn, hnd⟩, h3, hwt, hdO, hfl, hkd, hBG, hfd, hfc, hff⟩ := hW'
  intro m
  induction m using Nat.strongRecOn with
  | ind m ih =>
    intro cd hm' hcd hcan hsub hY
    by_cases hex : ∃ e, e < nd ∧ zD cd e = 0
    · obtain ⟨e, e1, e2⟩ := hex
      have fle : zD fd e ≤ zCn (wg e) 8 := ((hfc e (by omega)).2 e1).1
      have f0 := hff e e1
      have m3 := (h3 e e1).2
      have inf := z_inf hS hw hh hn hnd h3 hwt hdO hfl hkd hBG hm e1 _ cd rfl hcd hcan e2 _ c hc rfl hY
      have fin := inf.1 (zD fd e - 1) (by omega)
      have uk := zUk_st (k := zD fd e - 1) hcd hnd e1 (by omega) e2
      have up := zD_up (k := zD fd e - 1) hcd (by omega : e < 5) (by omega) e2
      have cn := zCan_up (k := zD fd e - 1) hcan hcd hnd e1 m3 (by omega) e2
      rw [show zD fd e - 1 + 1 = zD fd e from by omega] at uk up cn fin
      refine ih (zUk (cd + zD fd e * 4 ^ e) nd) (by omega) _ rfl up.1 cn (fun j hj => ?_) fin
      by_cases q : j = e
      · rw [q]
        exact Or.inr up.2.1
      · rw [up.2.2 j (by omega) q]
        exact hsub j hj
    · have : cd = fd := zD_ext hcd hfd (fun e he => by
        by_cases q : e < nd
        · rcases hsub e q with z | z
          · exact absurd ⟨e, q, z⟩ hex
          · exact z
        · rw [(hcan e he).1 (by omega), (hfc e he).1 (by omega)])
      rw [← this]
      exact hY
/-- most, behind t truths -/
def zRg (cs yv : Nat → Nat) : Nat → Int
  | 0 => 0
  | t + 1 => if (cs t : Int) - (yv t : Int) ≤ zRg cs yv t then zRg cs yv t else (cs t : Int) - (yv t : Int)
theorem zRg_b {cs yv : Nat → Nat} {B : Nat} (hc : ∀ t, cs t ≤ B) : ∀ t, 0 ≤ zRg cs yv t ∧ zRg cs yv t ≤ (B : Int) := by
  intro t
  induction t with
  | zero => exact ⟨Int.le_refl _, by show (0 : Int) ≤ _; omega⟩
  | succ t ih =>
    have := hc t
    rw [zRg]
    split <;> omega

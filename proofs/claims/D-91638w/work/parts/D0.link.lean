/-! PLAIN: the model's values are what the class's solver computes -/
theorem zNb_t {w h : Nat} {dc : Nat → Nat} {c : Nat} : ∀ (d e : Nat), (zNb w h dc c d).testBit e = (decide (e < d) && zNe w h (dc e) c) := by
  intro d
  induction d with
  | zero =>
    intro e
    rw [zNb, Nat.zero_testBit]
    simp
  | succ d ih =>
    intro e
    rw [zNb, Nat.testBit_or, ih]
    by_cases hed : e = d
    · subst hed
      cases hz : zNe w h (dc e) c with
      | false =>
        simp
      | true =>
        rw [if_pos rfl, Nat.testBit_two_pow]
        simp
    · have hz : (if zNe w h (dc d) c = true then 2 ^ d else 0).testBit e = false := by
        split
        · rw [Nat.testBit_two_pow]
          simp
          omega
        · exact Nat.zero_testBit _
      rw [hz, Bool.or_false]
      congr 1
      rw [decide_eq_decide]
      omega
/-- beside a cell where nothing new is seen no doubt is unknown -/
theorem z_kn {w h n nd go cd : Nat} {dO kn : Nat → Int} {dc : Nat → Nat} {wg : Nat → Nat → Nat} (hdO : ∀ c, c < n → -1 ≤ dO c ∧ dO c < nd) (hdc : ∀ c, c < n → dO c ≠ -1 → dc (dO c).toNat = c) (hw : 1 ≤ w ∧ w ≤ 10) (hh : 1 ≤ h ∧ h ≤ 10) (hn : n = w * h) (hnd : nd ≤ 5) (hcan : yCan nd kn wg cd) (c y : Nat) (hc : c < n) (hy : y < 4) (hf : zFr nd (fun c => zNb w h dc c nd) cd go c) (hb : 0 ≤ besI w h c y) (hd : dO (besI w h c y).toNat ≠ -1) : zD cd (dO (besI w h c y).toNat).toNat ≠ 0 ∧ zD cd (dO (besI w h c y).toNat).toNat ≤ zCn (wg (dO (besI w h c y).toNat).toNat) 8 := by
  rcases bes_b (w := w) (h := h) (c := c) (d := y) hw hh with hb' | ⟨-, hb1, -⟩
  · omega
  · rw [← hn] at hb1
    have ht : (besI w h c y).toNat < n := by omega
    have et : besI w h c y = (((besI w h c y).toNat : Nat) : Int) := by omega
    have e1 := hdc _ ht hd
    obtain ⟨q1, q2⟩ := hdO _ ht
    have el : (dO (besI w h c y).toNat).toNat < nd := by omega
    refine ⟨fun hz => ?_, ((hcan _ (by omega)).2 el).1⟩
    have hne : zNe w h (dc (dO (besI w h c y).toNat).toNat) c = true := zNe_iff.mpr (Or.inr ⟨y, hy, by rw [e1]; exact et⟩)
    have hbit : (zNb w h dc c nd).testBit (dO (besI w h c y).toNat).toNat = true := by
      rw [zNb_t, hne]
      simp [el]
    rw [Nat.testBit_eq_decide_div_mod_eq, decide_eq_true_eq] at hbit
    exact (zNw_0 (nd + 1) 0 (by omega)).mp hf.2 _ (by omega) el ⟨hz, hbit⟩
/-- Bellman's equation looks only at cells of the map -/
theorem zB.same {n : Nat} {X X' : Nat → Nat} {ed : Nat → Nat → Option (Nat × Nat)} {c : Nat} (h : zB X ed c) (hc : c < n) (he : ∀ y d k, ed c y = some (d, k) → d < n) (hx : ∀ d, d < n → X' d = X d) : zB X' ed c := by
  obtain ⟨h1, h2, h3⟩ := h
  refine ⟨by rw [hx c hc]; exact h1, fun y d k e f => ?_, fun z => ?_⟩
  · have dn := he y d k e
    rw [hx d dn] at f ⊢
    rw [hx c hc]
    exact h2 y d k e f
  · rw [hx c hc] at z
    obtain ⟨y, d, k, e, f, l⟩ := h3 z
    have dn := he y d k e
    exact ⟨y, d, k, e, by rw [hx d dn]; exact f, by rw [hx c hc, hx d dn]; exact l⟩
theorem x_sol {V : Nat → Int64} {B : bBk} {dead : Int} {w h n nd go mean : Nat} {hts : Nat → Int} {fl : Nat → Nat} {dO kn : Nat → Int} {dc : Nat → Nat} {wg : Nat → Nat → Nat} (hdO : ∀ c, c < n → -1 ≤ dO c ∧ dO c < nd) (hdc : ∀ c, c < n → dO c ≠ -1 → dc (dO c).toNat = c) (hw : 1 ≤ w ∧ w ≤ 10) (hh : 1 ≤ h ∧ h ≤ 10) (hn : n = w * h) (hnd : nd ≤ 5) (hS : ∀ cd, cd < 1024 → yCan nd kn wg cd → ySl V B dead w h n nd hts fl dO dc wg go mean cd) : xSol w h n nd go mean fl (fun c => zNb w h dc c nd) dO kn wg (zBG B dead hts w h) (zY V) := by
  intro cd hcd hcan
  obtain ⟨X, a1, a2, a3, a4⟩ := hS cd hcd hcan
  have hx : ∀ d, d < n → zY V cd d = X d := fun d hd => zY_v a1 hd
  refine ⟨fun c hc => by rw [hx c hc]; exact ⟨(a1 c hc).2, a2 c hc⟩, fun c hc hf => by rw [hx c hc]; exact a3 c hc hf, fun c hc hf => (a4 c hc hf).same hc (fun y d k e => ?_) hx, fun c y hc hy hf hb hd => z_kn hdO hdc hw hh hn hnd hcan c y hc hy hf hb hd⟩
  unfold zEd at e
  by_cases hz : y < 4 ∧ zKc w h fl dO (fun e k => zKd (wg e) k) (zBG B dead hts w h) cd (4 * c + y) ≠ 0
  · rw [if_pos hz] at e
    have e1 : (besI w h c y).toNat = d := congrArg Prod.fst (Option.some.inj e)
    have hkc := hz.2
    rw [zKc_at hz.1] at hkc
    have hb0 : ¬ besI w h c y < 0 := fun z => hkc (if_pos z)
    rcases bes_b (w := w) (h := h) (c := c) (d := y) hw hh with hb | ⟨-, hb1, -⟩
    · omega
    · rw [← hn] at hb1
      omega
  · rw [if_neg hz] at e
    cases e
/-- of: what the class's solver answers, from any state of its arrays -/
theorem c_of {N b : Nat} {g : uEnv} {u : UH} {la da wa sa : Nat → Nat} {so ja bk : Nat} {v8 v9 v10 : Value} {w h n nd ng go mean cd c : Nat} {hts : Nat → Int} {fl nb : Nat → Nat} {dO kn : Nat → Int} {wg Y : Nat → Nat → Nat} {BG : Nat → Nat → Nat → Nat} {V : Nat → Int64} {D P : Nat → Int32} (hX : cCx u g la da wa sa so ja bk v8 v9 v10 w h n nd ng go mean hts fl nb dO kn wg BG) (hk : kOk b sa) (hgo : go < n) (hm : mean = 0 ∨ mean = 1) (hS : xSol w h n nd go mean fl nb dO kn wg BG Y) (hN : 101 ≤ N) (hcd : cd < 1024) (hcan : yCan nd kn wg cd) (hc : c < n) (hI : cInv n Y V D) : ∃ (V' : Nat → Int64) (D' P' : Nat → Int32), f_X2_of N b g (kH u sa V D P) so (iI c) (iI cd) = some (iV (Y cd c), kH u sa V' D' P') ∧ cInv n Y V' D' := by
  have hnd := hX.2.1.2.2.2.2.1
  have hu := zUk_le (cd := cd) nd
  obtain ⟨V', D', P', r1, r2, -⟩ := (c_rec hX hk hgo hm hS hN (zUk cd nd) cd hcd hcan rfl).2.1 40 (by omega) c V D P hc hI
  exact ⟨V', D', P', r1, r2⟩

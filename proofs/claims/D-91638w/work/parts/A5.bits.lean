/-! PLAIN: digits and bits -/
theorem t_digF : ∀ cd : Fin 1024, ∀ d : Fin 5, ((iI (cd.1 : Int)) >>> ((2 * iI (d.1 : Int)) &&& 31)) &&& 3 = iI ((cd.1 / 4 ^ d.1 % 4 : Nat) : Int) := by decide +kernel
theorem t_powF : ∀ d : Fin 5, (1 : Int32) <<< ((2 * iI (d.1 : Int)) &&& 31) = iI ((4 ^ d.1 : Nat) : Int) := by decide +kernel
theorem t_shF : ∀ d : Fin 5, (1 : Int32) <<< ((iI (d.1 : Int)) &&& 31) = iI ((2 ^ d.1 : Nat) : Int) := by decide +kernel
theorem t_bitF : ∀ m : Fin 32, ∀ d : Fin 5, ((iI (m.1 : Int)) >>> ((iI (d.1 : Int)) &&& 31)) &&& 1 = iI ((m.1 / 2 ^ d.1 % 2 : Nat) : Int) := by decide +kernel
theorem t_orF : ∀ a : Fin 32, ∀ b : Fin 32, (iI (a.1 : Int)) ||| (iI (b.1 : Int)) = iI ((a.1 ||| b.1 : Nat) : Int) := by decide +kernel
/-- the digit of a doubt -/
def zD (cd d : Nat) : Nat := cd / 4 ^ d % 4
theorem zD_lt {cd d : Nat} : zD cd d < 4 := Nat.mod_lt _ (by decide)
theorem t_dig {cd d : Nat} (h1 : cd < 1024) (h2 : d < 5) : ((iI (cd : Int)) >>> ((2 * iI (d : Int)) &&& 31)) &&& 3 = iI (zD cd d : Int) := t_digF ⟨cd, h1⟩ ⟨d, h2⟩
theorem t_pow {d : Nat} (h2 : d < 5) : (1 : Int32) <<< ((2 * iI (d : Int)) &&& 31) = iI ((4 ^ d : Nat) : Int) := t_powF ⟨d, h2⟩
theorem t_sh {d : Nat} (h2 : d < 5) : (1 : Int32) <<< ((iI (d : Int)) &&& 31) = iI ((2 ^ d : Nat) : Int) := t_shF ⟨d, h2⟩
theorem t_bit {m d : Nat} (h1 : m < 32) (h2 : d < 5) : ((iI (m : Int)) >>> ((iI (d : Int)) &&& 31)) &&& 1 = iI ((m / 2 ^ d % 2 : Nat) : Int) := t_bitF ⟨m, h1⟩ ⟨d, h2⟩
theorem m_dig {N : Nat} {σ : MS} {cd d : Nat} (h1 : cd < 1024) (h2 : d < 5) : f_digit N σ (iI cd) (iI d) = some (iI (zD cd d), σ) := by
  unfold f_digit
  rw [t_dig h1 h2]
theorem m_pow {N : Nat} {σ : MS} {d : Nat} (h2 : d < 5) : f_power N σ (iI d) = some (iI ((4 ^ d : Nat) : Int), σ) := by
  unfold f_power
  rw [t_pow h2]
/-- the first doubt from d on that is seen and not known: nb: what is seen, as bits -/
def zNw (nd nb cd : Nat) : Nat → Nat → Int
  | 0, _ => -1
  | m + 1, d => if nd ≤ d then -1 else if zD cd d = 0 ∧ nb / 2 ^ d % 2 = 1 then d else zNw nd nb cd m (d + 1)
theorem m_new2 {N : Nat} {σ : MS} {nd nb cd c : Nat} (e1 : σ.1 37 = iI nd) (hnd : nd ≤ 5) (hcd : cd < 1024) (hc : c < 100) (hs : σ.2.1 72 c = iI nb) (hnb : nb < 32) : ∀ (m d : Nat), d ≤ nd → nd < d + m → f_news_2 N m σ (iI c) (iI cd) (iI d) = some (iI (zNw nd nb cd (nd + 1 - d) d), σ) := by
  intro m
  induction m with
  | zero => intro d h1 h2; omega
  | succ m ih =>
    intro d h1 h2
    rw [f_news_2, show nd + 1 - d = (nd - d) + 1 from by omega, zNw, e1]
    unfold f_news_34
    by_cases hd : nd ≤ d
    · rw [p_le (by omega) (by omega) (by omega) (by omega) (by omega), if_pos hd]
      rfl
    · obtain ⟨i1, i2⟩ := t_ix (a := (c : Int)) (n := mLen 72) (k := c) rfl (by rw [mL72]; omega) (by rw [mL72]; omega)
      have zl := zD_lt (cd := cd) (d := d)
      have nl : nb / 2 ^ d % 2 < 2 := Nat.mod_lt _ (by decide)
      have en : iI (d : Int) + 1 = iI ((d + 1 : Nat) : Int) := by
        rw [j1, i_add]
        rfl
      have ihh := ih (d + 1) (by omega) (by omega)
      rw [show nd + 1 - (d + 1) = nd - d from by omega] at ihh
      rw [n_le (by omega) (by omega) (by omega) (by omega) (by omega), if_neg hd, m_dig hcd (by omega), q_mc, j0, en]
      by_cases h0 : zD cd d = 0
      · rw [p_eq (by omega) (by omega) (by omega) (by omega) (by omega), if_pos i1, p_let, i2, hs, t_bit hnb (by omega), j1]
        by_cases hb : nb / 2 ^ d % 2 = 1
        · rw [p_eq (by omega) (by omega) (by omega) (by omega) (by omega), if_pos ⟨h0, hb⟩]
        · rw [n_eq (by omega) (by omega) (by omega) (by omega) (by omega), if_neg (show ¬ (zD cd d = 0 ∧ nb / 2 ^ d % 2 = 1) from fun z => hb z.2), p_let]
          exact ihh
      · rw [n_eq (by omega) (by omega) (by omega) (by omega) (by omega), if_neg (show ¬ (zD cd d = 0 ∧ nb / 2 ^ d % 2 = 1) from fun z => h0 z.1), p_let]
        exact ihh
theorem m_new {N : Nat} {σ : MS} {nd nb cd c : Nat} (e1 : σ.1 37 = iI nd) (hnd : nd ≤ 5) (hcd : cd < 1024) (hc : c < 100) (hs : σ.2.1 72 c = iI nb) (hnb : nb < 32) (hN : 6 ≤ N) : f_news N σ (iI c) (iI cd) = some (iI (zNw nd nb cd (nd + 1) 0), σ) := by
  unfold f_news
  exact m_new2 e1 hnd hcd hc hs hnb N 0 (by omega) (by omega)
theorem zNw_b {nd nb cd : Nat} (hnd : nd ≤ 5) : ∀ (m d : Nat), -1 ≤ zNw nd nb cd m d ∧ zNw nd nb cd m d ≤ 4 := by
  intro m
  induction m with
  | zero =>
    intro d
    rw [zNw]
    omega
  | succ m ih =>
    intro d
    rw [zNw]
    split
    · exact ⟨by decide, by decide⟩
    · split
      · omega
      · exact ih (d + 1)

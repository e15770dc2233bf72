/-! PLAIN: what is seen on the way; the number of a truth -/
theorem zD_ext {a b : Nat} (ha : a < 1024) (hb : b < 1024) (h : ∀ e, e < 5 → zD a e = zD b e) : a = b := by
  have h0 : a / 1 % 4 = b / 1 % 4 := h 0 (by omega)
  have h1 : a / 4 % 4 = b / 4 % 4 := h 1 (by omega)
  have h2 : a / 16 % 4 = b / 16 % 4 := h 2 (by omega)
  have h3 : a / 64 % 4 = b / 64 % 4 := h 3 (by omega)
  have h4 : a / 256 % 4 = b / 256 % 4 := h 4 (by omega)
  omega
/-- the code behind a look: nb is seen, the truth is fd -/
def zSe (nb fd cd : Nat) : Nat → Nat
  | 0 => cd
  | d + 1 => if zD (zSe nb fd cd d) d = 0 ∧ nb / 2 ^ d % 2 = 1 then zSe nb fd cd d + zD fd d * 4 ^ d else zSe nb fd cd d
theorem zSe_d {nb fd cd : Nat} (hcd : cd < 1024) : ∀ d, d ≤ 5 → zSe nb fd cd d < 1024 ∧ ∀ e, e < 5 → zD (zSe nb fd cd d) e = if e < d ∧ zD cd e = 0 ∧ nb / 2 ^ e % 2 = 1 then zD fd e else zD cd e := by
  intro d
  induction d with
  | zero => intro _; exact ⟨hcd, fun e _ => (if_neg (fun z => by omega)).symm⟩
  | succ d ih =>
    intro h
    obtain ⟨i1, i2⟩ := ih (by omega)
    have id := i2 d (by omega)
    rw [if_neg (fun z => by omega)] at id
    rw [zSe]
    by_cases hc : zD (zSe nb fd cd d) d = 0 ∧ nb / 2 ^ d % 2 = 1
    · rw [if_pos hc]
      rw [id] at hc
      by_cases hf : zD fd d = 0
      · rw [hf, Nat.zero_mul, Nat.add_zero]
        refine ⟨i1, fun e he => ?_⟩
        rw [i2 e he]
        by_cases ee : e = d
        · subst ee
          rw [if_neg (fun z => by omega), if_pos ⟨by omega, hc⟩, hc.1, hf]
        · by_cases q : e < d ∧ zD cd e = 0 ∧ nb / 2 ^ e % 2 = 1
          · rw [if_pos q, if_pos ⟨by omega, q.2⟩]
          · rw [if_neg q, if_neg (fun z => q ⟨by omega, z.2⟩)]
      · have fl := zD_lt (cd := fd) (d := d)
        obtain ⟨u1, u2, u3⟩ := zD_up (k := zD fd d - 1) i1 (by omega : d < 5) (by omega) (id.trans hc.1)
        rw [show zD fd d - 1 + 1 = zD fd d from by omega] at u1 u2 u3
        refine ⟨u1, fun e he => ?_⟩
        by_cases ee : e = d
        · subst ee
          rw [u2, if_pos ⟨by omega, hc⟩]
        · rw [u3 e he ee, i2 e he]
          by_cases q : e < d ∧ zD cd e = 0 ∧ nb / 2 ^ e % 2 = 1
          · rw [if_pos q, if_pos ⟨by omega, q.2⟩]
          · rw [if_neg q, if_neg (fun z => q ⟨by omega, z.2⟩)]
    · rw [if_neg hc]
      rw [id] at hc
      refine ⟨i1, fun e he => ?_⟩
      rw [i2 e he]
      by_cases ee : e = d
      · subst ee
        rw [if_neg (fun z => by omega), if_neg (fun z => hc z.2)]
      · by_cases q : e < d ∧ zD cd e = 0 ∧ nb / 2 ^ e % 2 = 1
        · rw [if_pos q, if_pos ⟨by omega, q.2⟩]
        · rw [if_neg q, if_neg (fun z => q ⟨by omega, z.2⟩)]
theorem zSe_fr {nd nb fd cd : Nat} (hcd : cd < 1024) (hnd : nd ≤ 5) (hfd : ∀ e, e < nd → zD fd e ≠ 0) : zNw nd nb (zSe nb fd cd nd) (nd + 1) 0 = -1 := (zNw_0 _ _ (by omega)).mpr (fun e _ he z => by
  have q := (zSe_d (nb := nb) (fd := fd) hcd nd hnd).2 e (by omega)
  by_cases c : zD cd e = 0
  · rw [if_pos ⟨he, c, z.2⟩, z.1] at q
    exact hfd e he q.symm
  · rw [if_neg (fun y => c y.2.1), z.1] at q
    exact c q.symm)
theorem zSe_can {nd nb fd cd : Nat} {kn : Nat → Int} {wg : Nat → Nat → Nat} (hcd : cd < 1024) (hnd : nd ≤ 5) (h1 : yCan nd kn wg cd) (h2 : yCan nd kn wg fd) : yCan nd kn wg (zSe nb fd cd nd) := fun e he => by
  have q := (zSe_d (nb := nb) (fd := fd) hcd nd hnd).2 e he
  have a := h1 e he
  have b := h2 e he
  unfold zC1 at a b ⊢
  by_cases c : e < nd ∧ zD cd e = 0 ∧ nb / 2 ^ e % 2 = 1
  · rw [if_pos c] at q
    rw [q]
    exact b
  · rw [if_neg c] at q
    rw [q]
    exact a
theorem zSe_id {nd nb fd cd : Nat} (hcd : cd < 1024) (hnd : nd ≤ 5) (h : zNw nd nb cd (nd + 1) 0 = -1) : zSe nb fd cd nd = cd := by
  obtain ⟨q1, q2⟩ := zSe_d (nb := nb) (fd := fd) hcd nd hnd
  refine zD_ext q1 hcd (fun e he => ?_)
  rw [q2 e he, if_neg (fun z => (zNw_0 _ _ (by omega)).mp h e (by omega) z.1 z.2)]
theorem zSe_st {nd nb fd cd e : Nat} (hcd : cd < 1024) (hnd : nd ≤ 5) (he : e < nd) (h0 : zD cd e = 0) (hb : nb / 2 ^ e % 2 = 1) (hf : zD fd e ≠ 0) : zSe nb fd (cd + zD fd e * 4 ^ e) nd = zSe nb fd cd nd := by
  have fl := zD_lt (cd := fd) (d := e)
  obtain ⟨u1, u2, u3⟩ := zD_up (k := zD fd e - 1) hcd (by omega : e < 5) (by omega) h0
  rw [show zD fd e - 1 + 1 = zD fd e from by omega] at u1 u2 u3
  obtain ⟨p1, p2⟩ := zSe_d (nb := nb) (fd := fd) u1 nd hnd
  obtain ⟨q1, q2⟩ := zSe_d (nb := nb) (fd := fd) hcd nd hnd
  refine zD_ext p1 q1 (fun j hj => ?_)
  rw [p2 j hj, q2 j hj]
  by_cases ee : j = e
  · subst ee
    rw [u2, if_neg (fun z => hf z.2.1), if_pos ⟨he, h0, hb⟩]
  · rw [u3 j hj ee]
theorem zUk_st {nd cd e k : Nat} (hcd : cd < 1024) (hnd : nd ≤ 5) (he : e < nd) (hk : k < 3) (h0 : zD cd e = 0) : zUk (cd + (k + 1) * 4 ^ e) nd + 1 = zUk cd nd := ((z_upP (al := fun _ => 1) (k := k) hcd (by omega : e < 5) hk h0 nd hnd).2 he).2
/-- what is finite stays so behind a look -/
theorem zSe_fin {w h n nd go mean fd c : Nat} {fl nb : Nat → Nat} {dO kn : Nat → Int} {wg Y : Nat → Nat → Nat} {BG : Nat → Nat → Nat → Nat} (hS : xSol w h n nd go mean fl nb dO kn wg BG Y) (hnd : nd ≤ 5) (h3 : ∀ e, e < nd → zCn (wg e) 8 ≤ 3) (hfd : yCan nd kn wg fd) (hff : ∀ e, e < nd → zD fd e ≠ 0) (hc : c < n) (hg : c ≠ go) : ∀ (m cd : Nat), zUk cd nd = m → cd < 1024 → yCan nd kn wg cd → Y cd c < 1000000000000000 → Y (zSe (nb c) fd cd nd) c < 1000000000000000 := by
  intro m
  induction m using Nat.strongRecOn with
  | ind m ih =>
    intro cd hm hcd hcan hY
    by_cases hw : zNw nd (nb c) cd (nd + 1) 0 = -1
    · rw [zSe_id hcd hnd hw]
      exact hY
    · obtain ⟨e, q1, q2, q3, q4⟩ := zNw_s _ _ hw
      have hfe := hff e q2
      have fl : zD fd e ≤ zCn (wg e) 8 := ((hfd e (by omega)).2 q2).1
      have m3 := h3 e q2
      rw [← zSe_st hcd hnd q2 q3 q4 hfe]
      have uk := zUk_st (k := zD fd e - 1) hcd hnd q2 (by omega) q3
      have up := zD_up (k := zD fd e - 1) hcd (by omega : e < 5) (by omega) q3
      have cn := zCan_up (k := zD fd e - 1) hcan hcd hnd q2 m3 (by omega) q3
      rw [show zD fd e - 1 + 1 = zD fd e from by omega] at uk up cn
      refine ih (zUk (cd + zD fd e * 4 ^ e) nd) (by omega) _ rfl up.1 cn ?_
      have hyc : Y cd c = zOv mean (fun k => wg e (zKd (wg e) k)) (fun k => Y (cd + (k + 1) * 4 ^ e) c) (zCn (wg e) 8) 0 0 := by
        rw [(hS cd hcd hcan).2.1 c hc (fun z => hw z.2)]
        unfold zX0
        rw [if_neg hg, if_neg hw, q1]
        rfl
      rcases zAc_ov (mean := mean) (wt := fun k => wg e (zKd (wg e) k)) (val := fun k => Y (cd + (k + 1) * 4 ^ e) c) (zCn (wg e) 8) 0 0 rfl with ⟨-, a2, -⟩ | ⟨-, a2⟩
      · rw [hyc, a2] at hY
        omega
      · have := a2 (zD fd e - 1) (by omega) (by omega)
        rw [show zD fd e - 1 + 1 = zD fd e from by omega] at this
        exact this
/-- what is left of a truth's number behind j doubts, from the last -/
def zTl (nd : Nat) (kn : Nat → Int) (wg : Nat → Nat → Nat) (t : Nat) : Nat → Nat
  | 0 => t
  | j + 1 => if kn (nd - 1 - j) = -1 then zTl nd kn wg t j / zCn (wg (nd - 1 - j)) 8 else zTl nd kn wg t j
def zFc (nd : Nat) (kn : Nat → Int) (wg : Nat → Nat → Nat) (t : Nat) : Nat → Nat
  | 0 => zBa kn wg nd
  | j + 1 => if kn (nd - 1 - j) = -1 then zFc nd kn wg t j + (zTl nd kn wg t j % zCn (wg (nd - 1 - j)) 8 + 1) * 4 ^ (nd - 1 - j) else zFc nd kn wg t j
theorem zBd1_lt {kn : Nat → Int} {wg : Nat → Nat → Nat} {e : Nat} (h3 : zCn (wg e) 8 ≤ 3) (hk : -1 ≤ kn e ∧ kn e < 8 ∧ (kn e ≠ -1 → wg e (kn e).toNat ≠ 0)) : zBd1 kn wg e < 4 ∧ zBd1 kn wg e ≤ zCn (wg e) 8 := by
  unfold zBd1
  by_cases c : kn e = -1
  · rw [if_pos c]
    omega
  · rw [if_neg c]
    have hz := hk.2.2 c
    have e1 : zCn (wg e) ((kn e).toNat + 1) = zCn (wg e) (kn e).toNat + 1 := by rw [zCn_s, if_neg hz]
    have e2 := zCn_le (f := wg e) (g := (kn e).toNat + 1) (8 - ((kn e).toNat + 1))
    rw [show (kn e).toNat + 1 + (8 - ((kn e).toNat + 1)) = 8 from by omega] at e2
    omega
theorem zFc_d {nd t : Nat} {kn : Nat → Int} {wg : Nat → Nat → Nat} (hnd : nd ≤ 5) (h3 : ∀ e, e < nd → 1 ≤ zCn (wg e) 8 ∧ zCn (wg e) 8 ≤ 3) (hkn : ∀ e, e < nd → -1 ≤ kn e ∧ kn e < 8 ∧ (kn e ≠ -1 → wg e (kn e).toNat ≠ 0)) : ∀ j, j ≤ nd → zFc nd kn wg t j < 1024 ∧ (∀ e, e < nd - j → zD (zFc nd kn wg t j) e = zBd1 kn wg e) ∧ (∀ e, nd - j ≤ e → e < nd → zD (zFc nd kn wg t j) e = if kn e = -1 then zTl nd kn wg t (nd - 1 - e) % zCn (wg e) 8 + 1 else zBd1 kn wg e) ∧ ∀ e, nd ≤ e → e < 5 → zD (zFc nd kn wg t j) e = 0 := by
  intro j
  induction j with
  | zero =>
    intro _
    obtain ⟨b1, b2, b3⟩ := zBa_d (kn := kn) (wg := wg) nd (fun e he => (zBd1_lt (h3 e he).2 (hkn e he)).1)
    exact ⟨Nat.lt_of_lt_of_le b1 (Nat.pow_le_pow_right (by decide) hnd), fun e he => b2 e (by omega), fun e h1 h2 => by omega, fun e h1 _ => b3 e h1⟩
  | succ j ih =>
    intro h
    obtain ⟨i1, i2, i3, i4⟩ := ih (by omega)
    rw [zFc]
    have id := i2 (nd - 1 - j) (by omega)
    by_cases c : kn (nd - 1 - j) = -1
    · rw [if_pos c]
      have z0 : zD (zFc nd kn wg t j) (nd - 1 - j) = 0 := by
        rw [id]
        exact if_pos c
      obtain ⟨m1, m3⟩ := h3 (nd - 1 - j) (by omega)
      have ml := Nat.mod_lt (zTl nd kn wg t j) (show zCn (wg (nd - 1 - j)) 8 > 0 by omega)
      obtain ⟨u1, u2, u3⟩ := zD_up (k := zTl nd kn wg t j % zCn (wg (nd - 1 - j)) 8) i1 (by omega : nd - 1 - j < 5) (by omega) z0
      refine ⟨u1, fun e he => ?_, fun e h1 h2 => ?_, fun e h1 h2 => ?_⟩
      · rw [u3 e (by omega) (by omega)]
        exact i2 e (by omega)
      · by_cases ee : e = nd - 1 - j
        · subst ee
          rw [u2, if_pos c, show nd - 1 - (nd - 1 - j) = j from by omega]
        · rw [u3 e (by omega) ee]
          exact i3 e (by omega) h2
      · rw [u3 e h2 (by omega)]
        exact i4 e h1 h2
    · rw [if_neg c]
      refine ⟨i1, fun e he => i2 e (by omega), fun e h1 h2 => ?_, i4⟩
      by_cases ee : e = nd - 1 - j
      · subst ee
        rw [id, if_neg c]
      · exact i3 e (by omega) h2
/-- all of a truth -/
theorem zFc_can {nd t : Nat} {kn : Nat → Int} {wg : Nat → Nat → Nat} (hnd : nd ≤ 5) (h3 : ∀ e, e < nd → 1 ≤ zCn (wg e) 8 ∧ zCn (wg e) 8 ≤ 3) (hkn : ∀ e, e < nd → -1 ≤ kn e ∧ kn e < 8 ∧ (kn e ≠ -1 → wg e (kn e).toNat ≠ 0)) : zFc nd kn wg t nd < 1024 ∧ yCan nd kn wg (zFc nd kn wg t nd) ∧ ∀ e, e < nd → zD (zFc nd kn wg t nd) e ≠ 0 := by
  obtain ⟨f1, -, f3, f4⟩ := zFc_d (t := t) hnd h3 hkn nd (Nat.le_refl _)
  refine ⟨f1, fun e he => ⟨fun h => f4 e h he, fun h => ?_⟩, fun e he => ?_⟩
  · have q := f3 e (by omega) h
    obtain ⟨m1, m3⟩ := h3 e h
    have hl := zBd1_lt m3 (hkn e h)
    by_cases c : kn e = -1
    · rw [if_pos c] at q
      have ml := Nat.mod_lt (zTl nd kn wg t (nd - 1 - e)) (show zCn (wg e) 8 > 0 by omega)
      show zD (zFc nd kn wg t nd) e ≤ zCn (wg e) 8 ∧ _
      exact ⟨by omega, fun z => absurd c z⟩
    · rw [if_neg c] at q
      show zD (zFc nd kn wg t nd) e ≤ zCn (wg e) 8 ∧ (_ → _ ∧ (zKd (wg e) (zD (zFc nd kn wg t nd) e - 1) : Int) = kn e)
      have hb : zBd1 kn wg e = zCn (wg e) (kn e).toNat + 1 := if_neg c
      have hk := hkn e h
      refine ⟨by omega, fun _ => ⟨by omega, ?_⟩⟩
      rw [q, hb, Nat.add_sub_cancel, zKd_at (hk.2.2 c) (by omega)]
      omega
  · have q := f3 e (by omega) he
    by_cases c : kn e = -1
    · rw [if_pos c] at q
      omega
    · rw [if_neg c] at q
      have hb : zBd1 kn wg e = zCn (wg e) (kn e).toNat + 1 := if_neg c
      omega

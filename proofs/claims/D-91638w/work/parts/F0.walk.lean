/-! PLAIN: the way that is gone in a truth, in pure words -/
/-- the code behind the look at a place: (cell, code, cost) -/
def wCd (nd : Nat) (nb : Nat → Nat) (fd : Nat) (s : Nat × Nat × Nat) : Nat := zSe (nb s.1) fd s.2.1 nd
def wWa (w h nd mean : Nat) (fl nb : Nat → Nat) (dO : Nat → Int) (wg : Nat → Nat → Nat) (BG : Nat → Nat → Nat → Nat) (Y : Nat → Nat → Nat) (fd : Nat) (s : Nat × Nat × Nat) : Nat := zWy (Y (wCd nd nb fd s)) (Y (wCd nd nb fd s) s.1) (xEd w h nd mean fl dO wg BG (wCd nd nb fd s) s.1) 4 0
def wNx (w h nd go mean : Nat) (fl nb : Nat → Nat) (dO : Nat → Int) (wg : Nat → Nat → Nat) (BG : Nat → Nat → Nat → Nat) (Y : Nat → Nat → Nat) (fd : Nat) (s : Nat × Nat × Nat) : Nat × Nat × Nat := if s.1 = go then s else ((besI w h s.1 (wWa w h nd mean fl nb dO wg BG Y fd s)).toNat, wCd nd nb fd s, s.2.2 + zK w h fl dO (fun e k => zKd (wg e) k) BG (wCd nd nb fd s) s.1 (wWa w h nd mean fl nb dO wg BG Y fd s))
def wIt (w h nd go mean : Nat) (fl nb : Nat → Nat) (dO : Nat → Int) (wg : Nat → Nat → Nat) (BG : Nat → Nat → Nat → Nat) (Y : Nat → Nat → Nat) (fd : Nat) (s : Nat × Nat × Nat) : Nat → Nat × Nat × Nat
  | 0 => s
  | i + 1 => wNx w h nd go mean fl nb dO wg BG Y fd (wIt w h nd go mean fl nb dO wg BG Y fd s i)
theorem wIt_s {w h nd go mean : Nat} {fl nb : Nat → Nat} {dO : Nat → Int} {wg : Nat → Nat → Nat} {BG : Nat → Nat → Nat → Nat} {Y : Nat → Nat → Nat} {fd : Nat} {s : Nat × Nat × Nat} : ∀ i, wIt w h nd go mean fl nb dO wg BG Y fd s (i + 1) = wIt w h nd go mean fl nb dO wg BG Y fd (wNx w h nd go mean fl nb dO wg BG Y fd s) i := by
  intro i
  induction i with
  | zero => rfl
  | succ i ih => rw [wIt, ih, wIt]
/-- where it stands: a cell, a code that can be, a value -/
def wOk (n nd : Nat) (kn : Nat → Int) (wg Y : Nat → Nat → Nat) (s : Nat × Nat × Nat) : Prop := s.1 < n ∧ s.2.1 < 1024 ∧ yCan nd kn wg s.2.1 ∧ Y s.2.1 s.1 < 1000000000000000
theorem z_wy2 {X : Nat → Nat} {v : Nat} {ed : Nat → Option (Nat × Nat)} : ∀ (m y q : Nat), y ≤ q → q < y + m → (∃ d k, ed q = some (d, k) ∧ X d < 1000000000000000 ∧ X d + k = v) → zWy X v ed m y < y + m ∧ ∃ d k, ed (zWy X v ed m y) = some (d, k) ∧ X d < 1000000000000000 ∧ X d + k = v := by
  intro m
  induction m with
  | zero => intro y q h1 h2; omega
  | succ m ih =>
    intro y q h1 h2 hq
    have go : y ≠ q → zWy X v ed m (y + 1) < y + (m + 1) ∧ ∃ d k, ed (zWy X v ed m (y + 1)) = some (d, k) ∧ X d < 1000000000000000 ∧ X d + k = v := fun hne => by
      obtain ⟨a, b⟩ := ih (y + 1) q (by omega) (by omega) hq
      exact ⟨by omega, b⟩
    rw [zWy]
    cases h : ed y with
    | none => exact go (fun e => by
        rw [← e, h] at hq
        obtain ⟨d, k, a, -⟩ := hq
        cases a)
    | some p =>
      obtain ⟨d, k⟩ := p
      show (if X d < 1000000000000000 ∧ X d + k = v then y else zWy X v ed m (y + 1)) < y + (m + 1) ∧ ∃ d' k', ed (if X d < 1000000000000000 ∧ X d + k = v then y else zWy X v ed m (y + 1)) = some (d', k') ∧ X d' < 1000000000000000 ∧ X d' + k' = v
      by_cases c : X d < 1000000000000000 ∧ X d + k = v
      · rw [if_pos c]
        exact ⟨by omega, d, k, h, c⟩
      · rw [if_neg c]
        exact go (fun e => by
          rw [← e, h] at hq
          obtain ⟨d', k', a, b⟩ := hq
          cases a
          exact c b)
/-- the world of a walk -/
def wWd (w h n nd ng go mean : Nat) (fl nb : Nat → Nat) (dO kn : Nat → Int) (wg : Nat → Nat → Nat) (BG : Nat → Nat → Nat → Nat) (Y : Nat → Nat → Nat) (fd : Nat) : Prop := xSol w h n nd go mean fl nb dO kn wg BG Y ∧ ((1 ≤ w ∧ w ≤ 10) ∧ (1 ≤ h ∧ h ≤ 10) ∧ n = w * h ∧ nd ≤ 5) ∧ (∀ e, e < nd → 1 ≤ zCn (wg e) 8 ∧ zCn (wg e) 8 ≤ 3) ∧ (∀ e k, e < nd → k < zCn (wg e) 8 → 1 ≤ wg e (zKd (wg e) k) ∧ wg e (zKd (wg e) k) ≤ 9) ∧ (∀ c, c < n → -1 ≤ dO c ∧ dO c < nd) ∧ (∀ c, c < n → fl c < ng) ∧ (∀ e k, e < nd → k < zCn (wg e) 8 → zKd (wg e) k < ng) ∧ (∀ c y q, c < n → y < 4 → q < ng → BG c y q ≤ 30071) ∧ fd < 1024 ∧ yCan nd kn wg fd ∧ ∀ e, e < nd → zD fd e ≠ 0
theorem w_step {w h n nd ng go mean : Nat} {fl nb : Nat → Nat} {dO kn : Nat → Int} {wg : Nat → Nat → Nat} {BG : Nat → Nat → Nat → Nat} {Y : Nat → Nat → Nat} {fd : Nat} {s : Nat × Nat × Nat} (hW : wWd w h n nd ng go mean fl nb dO kn wg BG Y fd) (hs : wOk n nd kn wg Y s) (hg : s.1 ≠ go) : wCd nd nb fd s < 1024 ∧ yCan nd kn wg (wCd nd nb fd s) ∧ zFr nd nb (wCd nd nb fd s) go s.1 ∧ Y (wCd nd nb fd s) s.1 < 1000000000000000 ∧ wWa w h nd mean fl nb dO wg BG Y fd s < 4 ∧ (zK w h fl dO (fun e k => zKd (wg e) k) BG (wCd nd nb fd s) s.1 (wWa w h nd mean fl nb dO wg BG Y fd s) ≠ 0 ∧ zK w h fl dO (fun e k => zKd (wg e) k) BG (wCd nd nb fd s) s.1 (wWa w h nd mean fl nb dO wg BG Y fd s) ≤ 30071) ∧ ∃ d, d < n ∧ besI w h s.1 (wWa w h nd mean fl nb dO wg BG Y fd s) = (d : Int) ∧ Y (wCd nd nb fd s) d < Y (wCd nd nb fd s) s.1 ∧ Y (wCd nd nb fd s) d + xSc mean nd wg (wCd nd nb fd s) * zK w h fl dO (fun e k => zKd (wg e) k) BG (wCd nd nb fd s) s.1 (wWa w h nd mean fl nb dO wg BG Y fd s) = Y (wCd nd nb fd s) s.1 ∧ wNx w h nd go mean fl nb dO wg BG Y fd s = (d, wCd nd nb fd s, s.2.2 + zK w h fl dO (fun e k => zKd (wg e) k) BG (wCd nd nb fd s) s.1 (wWa w h nd mean fl nb dO wg BG Y fd s)) ∧ wOk n nd kn wg Y (d, wCd nd nb fd s, s.2.2 + zK w h fl dO (fun e k => zKd (wg e) k) BG (wCd nd nb fd s) s.1 (wWa w h nd mean fl nb dO wg BG Y fd s)) := by
  obtain ⟨hS, ⟨hw, hh, hn, hnd⟩, h3, hwt, hdO, hfl, hkd, hBG, hfd, hfc, hff⟩ := hW
  obtain ⟨s1, s2, s3, s4⟩ := hs
  have c1 : wCd nd nb fd s < 1024 := (zSe_d s2 nd hnd).1
  have c2 : yCan nd kn wg (wCd nd nb fd s) := zSe_can s2 hnd s3 hfc
  have c3 : zFr nd nb (wCd nd nb fd s) go s.1 := ⟨hg, zSe_fr s2 hnd hff⟩
  have c4 : Y (wCd nd nb fd s) s.1 < 1000000000000000 := zSe_fin hS hnd (fun e he => (h3 e he).2) hfc hff s1 hg _ _ rfl s2 s3 s4
  have hB := (hS _ c1 c2).2.2.1 s.1 s1 c3
  have hB' : zB (Y (wCd nd nb fd s)) (xEd w h nd mean fl dO wg BG (wCd nd nb fd s)) s.1 := hB
  obtain ⟨q, d0, k0, b1, b2, b3⟩ := hB'.2.2 c4
  have hq := x_ed4 b1
  obtain ⟨y1, d, k, y2, y3, y4⟩ := z_wy2 (X := Y (wCd nd nb fd s)) (v := Y (wCd nd nb fd s) s.1) (ed := xEd w h nd mean fl dO wg BG (wCd nd nb fd s) s.1) 4 0 q (by omega) (by omega) ⟨d0, k0, b1, b2, b3.symm⟩
  have y1' : wWa w h nd mean fl nb dO wg BG Y fd s < 4 := by
    have : wWa w h nd mean fl nb dO wg BG Y fd s < 0 + 4 := y1
    omega
  have y2' : xEd w h nd mean fl dO wg BG (wCd nd nb fd s) s.1 (wWa w h nd mean fl nb dO wg BG Y fd s) = some (d, k) := y2
  have dig : ∀ e, e < nd → zD (wCd nd nb fd s) e ≤ zCn (wg e) 8 := fun e he => ((c2 e (by omega)).2 he).1
  obtain ⟨kb, kn0⟩ := x_kb (y := wWa w h nd mean fl nb dO wg BG Y fd s) (cd := wCd nd nb fd s) hw hh hn hdO hfl hkd hBG s1 y1' dig
  have scb := zSc_b (mean := mean) (cd := wCd nd nb fd s) hnd h3 hwt
  have scb : 1 ≤ xSc mean nd wg (wCd nd nb fd s) := scb.1
  by_cases h0 : zK w h fl dO (fun e k => zKd (wg e) k) BG (wCd nd nb fd s) s.1 (wWa w h nd mean fl nb dO wg BG Y fd s) = 0
  · rw [x_ed0 y1' h0] at y2'
    cases y2'
  · obtain ⟨d', hd', hb'⟩ := kn0 h0
    rw [x_ed1 y1' h0, hb'] at y2'
    have e1 : d' = d := by
      injection y2' with y2'
      injection y2' with q1 q2
    have e2 : xSc mean nd wg (wCd nd nb fd s) * zK w h fl dO (fun e k => zKd (wg e) k) BG (wCd nd nb fd s) s.1 (wWa w h nd mean fl nb dO wg BG Y fd s) = k := by
      injection y2' with y2'
      injection y2' with q1 q2
    subst e1
    have pos : 1 ≤ xSc mean nd wg (wCd nd nb fd s) * zK w h fl dO (fun e k => zKd (wg e) k) BG (wCd nd nb fd s) s.1 (wWa w h nd mean fl nb dO wg BG Y fd s) := Nat.mul_pos scb (Nat.pos_of_ne_zero h0)
    refine ⟨c1, c2, c3, c4, y1', ⟨h0, kb⟩, d', hd', hb', by omega, by rw [e2]; exact y4, ?_, ⟨hd', c1, c2, y3⟩⟩
    unfold wNx
    rw [if_neg hg, hb']
    rfl

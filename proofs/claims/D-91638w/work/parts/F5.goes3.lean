/-! PLAIN: goes, of the model -/
theorem upd_u {f : Nat → Int32} {k : Nat} {a b : Int32} : upd (upd f k a) k b = upd f k b := by
  funext x
  unfold upd
  by_cases h : x = k
  · rw [if_pos h, if_pos h]
  · rw [if_neg h, if_neg h, if_neg h]
theorem upd_s {f : Nat → Int32} {k : Nat} {a : Int32} : upd f k a k = a := if_pos rfl
theorem upd_n {f : Nat → Int32} {k x : Nat} {a : Int32} (h : x ≠ k) : upd f k a x = f x := if_neg h
theorem zRow_u {s2 : Nat → Nat → Int32} {j : Nat} {R R' : Nat → Int32} : zRow (zRow s2 j R) j R' = zRow s2 j R' := by
  funext x
  unfold zRow
  by_cases h : x = j
  · rw [if_pos h, if_pos h]
  · rw [if_neg h, if_neg h, if_neg h]
theorem zRow_s {s2 : Nat → Nat → Int32} {j : Nat} {R : Nat → Int32} : zRow s2 j R j = R := if_pos rfl
theorem mL54 : mLen 54 = 2000 := rfl
theorem m_go26 {N : Nat} {s1 : Nat → Int32} {s2 : Nat → Nat → Int32} {V : Nat → Int64} {B : bBk} {dead : Int} {w h n nd go mean fd T : Nat} {hts : Nat → Int} {fl : Nat → Nat} {dO kn : Nat → Int} {dc : Nat → Nat} {wg : Nat → Nat → Nat} {s : Nat × Nat × Nat} (hB : yBs s1 s2 B dead w h n nd hts fl dO kn dc wg) (h49 : s1 49 = iI go) (h50 : s1 50 = iI mean) (hm : mean = 0 ∨ mean = 1) (hgo : go < n) (h44 : ∀ e, e < nd → s2 44 e = iI (dc e) ∧ dc e < n) (hV : ∀ cd, cd < 1024 → yCan nd kn wg cd → zVs V cd n (zY V cd)) (hW : wWd w h n nd B.2.1 go mean fl (fun c => zNb w h dc c nd) dO kn wg (zBG B dead hts w h) (zY V) fd) (hs : wOk n nd kn wg (zY V) s) (hT1 : (wIt w h nd go mean fl (fun c => zNb w h dc c nd) dO wg (zBG B dead hts w h) (zY V) fd s T).1 = go) (hT2 : ∀ i, i < T → (wIt w h nd go mean fl (fun c => zNb w h dc c nd) dO wg (zBG B dead hts w h) (zY V) fd s i).1 ≠ go) (hT : T ≤ 600) (hN : 200 ≤ N) : ∀ (m i : Nat) (P R : Nat → Int32), i ≤ T → T + 1 < i + m → (∀ j, j < i → P j = iI ((wIt w h nd go mean fl (fun c => zNb w h dc c nd) dO wg (zBG B dead hts w h) (zY V) fd s j).1 : Int)) → ∃ P' R' : Nat → Int32, f_goes_26 N m (upd s1 55 (iI i), zRow (zRow s2 54 P) 70 R, V) (iI fd) (iI (wIt w h nd go mean fl (fun c => zNb w h dc c nd) dO wg (zBG B dead hts w h) (zY V) fd s i).2.1) (iI (wIt w h nd go mean fl (fun c => zNb w h dc c nd) dO wg (zBG B dead hts w h) (zY V) fd s i).1) (iI (wIt w h nd go mean fl (fun c => zNb w h dc c nd) dO wg (zBG B dead hts w h) (zY V) fd s i).2.2) 1 = some (iI (wIt w h nd go mean fl (fun c => zNb w h dc c nd) dO wg (zBG B dead hts w h) (zY V) fd s T).2.2, (upd s1 55 (iI ((T + 1 : Nat) : Int)), zRow (zRow s2 54 P') 70 R', V)) ∧ ∀ j, j < T + 1 → P' j = iI ((wIt w h nd go mean fl (fun c => zNb w h dc c nd) dO wg (zBG B dead hts w h) (zY V) fd s j).1 : Int) := by
  have hW' := hW
  obtain ⟨hS, ⟨hw, hh, hn, hnd⟩, h3, hwt, hdO, hfl, hkd, hBG, hfd, hfc, hff⟩ := hW'
  have m4 : w * h ≤ 10 * 10 := Nat.mul_le_mul hw.2 hh.2
  obtain ⟨e1, e2, -⟩ := hB.1
  have e3 := hB.2.1.1
  intro m
  induction m with
  | zero => intro i P R h1 h2; omega
  | succ m ih =>
    intro i P R h1 h2 hP
    obtain ⟨ok, sb⟩ := w_ok hW hs i
    have ok' := ok
    obtain ⟨o1, o2, o3, o4⟩ := ok'
    obtain ⟨i1, i2⟩ := t_ix (a := (i : Int)) (n := mLen 54) (k := i) rfl (by rw [mL54]; omega) (by rw [mL54]; omega)
    have ei : iI (i : Int) + 1 = iI ((i + 1 : Nat) : Int) := by
      rw [j1, i_add]
      rfl
    have e1p : wIt w h nd go mean fl (fun c => zNb w h dc c nd) dO wg (zBG B dead hts w h) (zY V) fd s (i + 1) = wNx w h nd go mean fl (fun c => zNb w h dc c nd) dO wg (zBG B dead hts w h) (zY V) fd (wIt w h nd go mean fl (fun c => zNb w h dc c nd) dO wg (zBG B dead hts w h) (zY V) fd s i) := rfl
    have ihh := ih (i + 1) (upd P i (iI (wIt w h nd go mean fl (fun c => zNb w h dc c nd) dO wg (zBG B dead hts w h) (zY V) fd s i).1))
    rw [e1p] at ihh
    have hPu : ∀ j, j < i + 1 → upd P i (iI (wIt w h nd go mean fl (fun c => zNb w h dc c nd) dO wg (zBG B dead hts w h) (zY V) fd s i).1) j = iI ((wIt w h nd go mean fl (fun c => zNb w h dc c nd) dO wg (zBG B dead hts w h) (zY V) fd s j).1 : Int) := fun j hj => by
      by_cases e : j = i
      · rw [e, upd_s]
      · rw [upd_n e]
        exact hP j (by omega)
    have nxt := fun hg => w_step hW ok hg
    have hend : i = T → (wIt w h nd go mean fl (fun c => zNb w h dc c nd) dO wg (zBG B dead hts w h) (zY V) fd s i).1 = go := fun z => by rw [z]; exact hT1
    have hsT : i = T → wIt w h nd go mean fl (fun c => zNb w h dc c nd) dO wg (zBG B dead hts w h) (zY V) fd s T = wIt w h nd go mean fl (fun c => zNb w h dc c nd) dO wg (zBG B dead hts w h) (zY V) fd s i := fun z => by rw [z]
    have hno := hT2 i
    generalize hst : wIt w h nd go mean fl (fun c => zNb w h dc c nd) dO wg (zBG B dead hts w h) (zY V) fd s i = st at *
    have q55 : ((upd s1 55 (iI i), zRow (zRow s2 54 P) 70 R, V) : MS).1 55 = iI i := upd_s (f := s1) (k := 55) (a := iI i)
    have cb : zSe (zNb w h dc st.1 nd) fd st.2.1 nd < 1024 := (zSe_d o2 nd hnd).1
    have cc : yCan nd kn wg (zSe (zNb w h dc st.1 nd) fd st.2.1 nd) := zSe_can o2 hnd o3 hfc
    have hB2 : yBs (upd s1 55 (iI ((i + 1 : Nat) : Int))) (zRow (zRow s2 54 (upd P i (iI st.1))) 70 R) B dead w h n nd hts fl dO kn dc wg := hB
    have se := m_sees (N := N) (σ := (upd s1 55 (iI ((i + 1 : Nat) : Int)), zRow (zRow s2 54 (upd P i (iI st.1))) 70 R, V)) (c := st.1) (cd := st.2.1) (fd := fd) (dc := dc) e1 e2 hw hh hn e3 hnd h44 o1 o2 hfd (by omega)
    obtain ⟨R', t1, t2⟩ := m_stepOf (N := N) (V := V) (c := st.1) (cd := zSe (zNb w h dc st.1 nd) fd st.2.1 nd) (X := zY V (zSe (zNb w h dc st.1 nd) fd st.2.1 nd)) hB2 h49 h50 hm hgo cb cc (hV _ cb cc) o1 hN
    rw [zRow_u] at t1
    rw [f_goes_26]
    unfold f_goes_84
    rw [if_neg n10, q55, if_pos i1, p_let, i2, zRow_arr2 (by decide), p_let]
    have hset : mSet (upd s1 55 (iI i), zRow (zRow s2 54 (upd P i (iI st.1))) 70 R, V) 55 (((upd s1 55 (iI i), zRow (zRow s2 54 (upd P i (iI st.1))) 70 R, V) : MS).1 55 + 1) = (upd s1 55 (iI ((i + 1 : Nat) : Int)), zRow (zRow s2 54 (upd P i (iI st.1))) 70 R, V) := by
      show (upd (upd s1 55 (iI i)) 55 (upd s1 55 (iI i) 55 + 1), _, _) = _
      rw [upd_s, upd_u, ei]
    rw [hset, se, q_mc, t1, q_mc]
    by_cases hi' : i = T
    · refine ⟨upd P i (iI st.1), R', ?_, fun j hj => hPu j (by omega)⟩
      have hg := hend hi'
      rw [if_pos hg, j4, p_le (by omega) (by omega) (by omega) (by omega) (by omega), if_pos rfl, hsT hi', ← hi']
      obtain ⟨m', rfl⟩ : ∃ m', m = m' + 1 := ⟨m - 1, by omega⟩
      rw [f_goes_26, if_pos rfl]
    · have hg := hno (by omega)
      obtain ⟨c1, c2, c3, c4, y4, ⟨k0, kb⟩, d, d1, d2, d3, -, d5, d6⟩ := nxt hg
      have hwy : zWy (zY V (zSe (zNb w h dc st.1 nd) fd st.2.1 nd)) (zY V (zSe (zNb w h dc st.1 nd) fd st.2.1 nd) st.1) (zEd w h (zSc mean nd (fun e => zCn (wg e) 8) (fun e k => wg e (zKd (wg e) k)) (zSe (zNb w h dc st.1 nd) fd st.2.1 nd)) (zKc w h fl dO (fun e k => zKd (wg e) k) (zBG B dead hts w h) (zSe (zNb w h dc st.1 nd) fd st.2.1 nd)) st.1) 4 0 = wWa w h nd mean fl (fun c => zNb w h dc c nd) dO wg (zBG B dead hts w h) (zY V) fd st := rfl
      have hcd' : zSe (zNb w h dc st.1 nd) fd st.2.1 nd = wCd nd (fun c => zNb w h dc c nd) fd st := rfl
      have t2' := t2 hg st.1 (wWa w h nd mean fl (fun c => zNb w h dc c nd) dO wg (zBG B dead hts w h) (zY V) fd st) o1 y4
      rw [hcd'] at t2' ⊢
      rw [hcd'] at hwy
      rw [d5] at ihh
      obtain ⟨i5, i6⟩ := t_ix (a := 4 * (st.1 : Int) + (wWa w h nd mean fl (fun c => zNb w h dc c nd) dO wg (zBG B dead hts w h) (zY V) fd st : Int)) (n := mLen 70) (k := 4 * st.1 + wWa w h nd mean fl (fun c => zNb w h dc c nd) dO wg (zBG B dead hts w h) (zY V) fd st) (by omega) (by rw [mL70]; omega) (by rw [mL70]; omega)
      obtain ⟨P', R'', z1, z2⟩ := ihh R' (by omega) (by omega) hPu
      refine ⟨P', R'', ?_, z2⟩
      have q70 : ((upd s1 55 (iI ((i + 1 : Nat) : Int)), zRow (zRow s2 54 (upd P i (iI st.1))) 70 R', V) : MS).2.1 70 = R' := zRow_s (s2 := zRow s2 54 (upd P i (iI st.1))) (j := 70) (R := R')
      have bs := b_m24 (N := N) (σ := (upd s1 55 (iI ((i + 1 : Nat) : Int)), zRow (zRow s2 54 (upd P i (iI st.1))) 70 R', V)) e1 e2 y4 hw hh (hn ▸ o1)
      rw [if_neg hg, hwy, j4, n_le (by omega) (by omega) (by omega) (by omega) (by omega), if_neg n10, i_mul, i_add, if_pos i5, p_let, q70, i6, t2', i_add, p_let, bs, q_mc, d2]
      exact z1

/-! BY gen_init.py: PLAIN: the model is made -/
theorem t_k5 : (5 : Int32).toNatClampNeg = 5 := by decide +kernel
theorem t_k8 : (8 : Int32).toNatClampNeg = 8 := by decide +kernel
theorem t_k20 : (20 : Int32).toNatClampNeg = 20 := by decide +kernel
theorem t_k40 : (40 : Int32).toNatClampNeg = 40 := by decide +kernel
theorem t_k64 : (64 : Int32).toNatClampNeg = 64 := by decide +kernel
theorem t_k400 : (400 : Int32).toNatClampNeg = 400 := by decide +kernel
theorem t_k2000 : (2000 : Int32).toNatClampNeg = 2000 := by decide +kernel
theorem t_k4096 : (4096 : Int32).toNatClampNeg = 4096 := by decide +kernel
theorem t_k15625 : (15625 : Int32).toNatClampNeg = 15625 := by decide +kernel
def mS0 : MS := mSet (mSet (mSet (mSet mσ0 49 (-1)) 63 (-1)) 64 (-1)) 65 (-1)
def mAd (w j : Nat) : Nat := w + 1 + mIx.idxOf j
def eX3 (i : Nat) : uE := pEnt mS0 (mIx.getD i 0)
/-- a value as a code: nothing, an address behind w, a number -/
def cV (w : Nat) : Option (Nat ⊕ Int32) → Value
  | none => .null
  | some (.inl i) => .ref (w + 1 + i)
  | some (.inr v) => .int v
def cD0 : List (Option (Nat ⊕ Int32)) := (List.range 75).map (fun k => if mFI k = true then some (.inr 0) else none)
theorem cD0_ok {w : Nat} : uDefs tyX3 75 = cD0.map (cV w) := by
  unfold cD0 uDefs
  rw [List.map_map]
  refine List.map_congr_left (fun k hk => ?_)
  have hk : k < 75 := List.mem_range.mp hk
  have all : ∀ k : Fin 75, defaultValue (tyX3 k.1) = if mFI k.1 = true then Value.int 0 else Value.null := by decide +kernel
  rw [all ⟨k, hk⟩]
  show (if mFI k = true then Value.int 0 else Value.null) = cV w (if mFI k = true then some (.inr 0) else none)
  split <;> rfl
theorem cD1_ok {w : Nat} : mF (mAd w) mS0 = ((List.range 75).map (fun k => if mFI k = true then (some (.inr (mS0.1 k)) : Option (Nat ⊕ Int32)) else some (.inl (mIx.idxOf k)))).map (cV w) := by
  unfold mF
  rw [List.map_map]
  refine List.map_congr_left (fun k hk => ?_)
  show (if mFI k = true then Value.int (mS0.1 k) else Value.ref (mAd w k)) = cV w (if mFI k = true then some (.inr (mS0.1 k)) else some (.inl (mIx.idxOf k)))
  split <;> rfl
set_option maxRecDepth 100000 in
theorem c_x3i {N b : Nat} {g : uEnv} {u : UH} (hb : b ≤ u.1) (ho : uOld u) : ∃ u', f_X3_init N b g (uNew u 75 (.inr (2, uDefs tyX3 75))) u.1 = some u' ∧ iSt 2 u.1 (uNew u 75 (.inr (2, uDefs tyX3 75))) eX3 35 131448 (mF (mAd u.1) mS0) u' := by
  obtain ⟨v0, e0, c0, r0, o0, s0, y0⟩ := w_new (u := u) (n := 75) (e := .inr (2, uDefs tyX3 75)) ho
  rw [e0]
  have hw : u.1 < v0.1 := by omega
  have ew : v0.1 = u.1 + 1 := s0
  have i0 : iSt 2 u.1 v0 eX3 0 0 (uDefs tyX3 75) v0 := ⟨rfl, rfl, o0, c0, fun _ _ _ => rfl, fun i hi => absurd hi (by omega)⟩
  have l0 : (uDefs tyX3 75).length = 75 := uDefs_len
  obtain ⟨v1, e1, i1⟩ := i_new (b := b) (n := 500) (k := 1) (e := .inl (0, 500, .inl (fun _ => 0))) i0 hw hb (by rw [l0]; omega) rfl
  have e1 : uPut b (uNew v0 500 (.inl (0, 500, .inl (fun _ => 0)))) u.1 2 1 (va_rf (some v0.1)) = some v1 := e1
  obtain ⟨v2, e2, i2⟩ := i_new (b := b) (n := 8) (k := 11) (e := .inl (0, 8, .inl (fun _ => 0))) i1 hw hb (by simp only [List.length_set]; omega) rfl
  have e2 : uPut b (uNew v1 8 (.inl (0, 8, .inl (fun _ => 0)))) u.1 2 11 (va_rf (some v1.1)) = some v2 := e2
  obtain ⟨v3, e3, i3⟩ := i_new (b := b) (n := 64) (k := 14) (e := .inl (0, 64, .inl (fun _ => 0))) i2 hw hb (by simp only [List.length_set]; omega) rfl
  have e3 : uPut b (uNew v2 64 (.inl (0, 64, .inl (fun _ => 0)))) u.1 2 14 (va_rf (some v2.1)) = some v3 := e3
  obtain ⟨v4, e4, i4⟩ := i_new (b := b) (n := 8) (k := 15) (e := .inl (0, 8, .inl (fun _ => 0))) i3 hw hb (by simp only [List.length_set]; omega) rfl
  have e4 : uPut b (uNew v3 8 (.inl (0, 8, .inl (fun _ => 0)))) u.1 2 15 (va_rf (some v3.1)) = some v4 := e4
  obtain ⟨v5, e5, i5⟩ := i_new (b := b) (n := 64) (k := 16) (e := .inl (0, 64, .inl (fun _ => 0))) i4 hw hb (by simp only [List.length_set]; omega) rfl
  have e5 : uPut b (uNew v4 64 (.inl (0, 64, .inl (fun _ => 0)))) u.1 2 16 (va_rf (some v4.1)) = some v5 := e5
  obtain ⟨v6, e6, i6⟩ := i_new (b := b) (n := 8) (k := 17) (e := .inl (0, 8, .inl (fun _ => 0))) i5 hw hb (by simp only [List.length_set]; omega) rfl
  have e6 : uPut b (uNew v5 8 (.inl (0, 8, .inl (fun _ => 0)))) u.1 2 17 (va_rf (some v5.1)) = some v6 := e6
  obtain ⟨v7, e7, i7⟩ := i_new (b := b) (n := 8) (k := 18) (e := .inl (0, 8, .inl (fun _ => 0))) i6 hw hb (by simp only [List.length_set]; omega) rfl
  have e7 : uPut b (uNew v6 8 (.inl (0, 8, .inl (fun _ => 0)))) u.1 2 18 (va_rf (some v6.1)) = some v7 := e7
  obtain ⟨v8, e8, i8⟩ := i_new (b := b) (n := 8) (k := 19) (e := .inl (0, 8, .inl (fun _ => 0))) i7 hw hb (by simp only [List.length_set]; omega) rfl
  have e8 : uPut b (uNew v7 8 (.inl (0, 8, .inl (fun _ => 0)))) u.1 2 19 (va_rf (some v7.1)) = some v8 := e8
  obtain ⟨v9, e9, i9⟩ := i_new (b := b) (n := 64) (k := 20) (e := .inl (0, 64, .inl (fun _ => 0))) i8 hw hb (by simp only [List.length_set]; omega) rfl
  have e9 : uPut b (uNew v8 64 (.inl (0, 64, .inl (fun _ => 0)))) u.1 2 20 (va_rf (some v8.1)) = some v9 := e9
  obtain ⟨v10, e10, i10⟩ := i_new (b := b) (n := 64) (k := 21) (e := .inl (0, 64, .inl (fun _ => 0))) i9 hw hb (by simp only [List.length_set]; omega) rfl
  have e10 : uPut b (uNew v9 64 (.inl (0, 64, .inl (fun _ => 0)))) u.1 2 21 (va_rf (some v9.1)) = some v10 := e10
  obtain ⟨v11, e11, i11⟩ := i_new (b := b) (n := 6) (k := 30) (e := .inl (0, 6, .inl (fun _ => 0))) i10 hw hb (by simp only [List.length_set]; omega) rfl
  have e11 : uPut b (uNew v10 6 (.inl (0, 6, .inl (fun _ => 0)))) u.1 2 30 (va_rf (some v10.1)) = some v11 := e11
  obtain ⟨v12, e12, i12⟩ := i_new (b := b) (n := 6) (k := 31) (e := .inl (0, 6, .inl (fun _ => 0))) i11 hw hb (by simp only [List.length_set]; omega) rfl
  have e12 : uPut b (uNew v11 6 (.inl (0, 6, .inl (fun _ => 0)))) u.1 2 31 (va_rf (some v11.1)) = some v12 := e12
  obtain ⟨v13, e13, i13⟩ := i_new (b := b) (n := 6) (k := 32) (e := .inl (0, 6, .inl (fun _ => 0))) i12 hw hb (by simp only [List.length_set]; omega) rfl
  have e13 : uPut b (uNew v12 6 (.inl (0, 6, .inl (fun _ => 0)))) u.1 2 32 (va_rf (some v12.1)) = some v13 := e13
  obtain ⟨v14, e14, i14⟩ := i_new (b := b) (n := 400) (k := 33) (e := .inl (0, 400, .inl (fun _ => 0))) i13 hw hb (by simp only [List.length_set]; omega) rfl
  have e14 : uPut b (uNew v13 400 (.inl (0, 400, .inl (fun _ => 0)))) u.1 2 33 (va_rf (some v13.1)) = some v14 := e14
  obtain ⟨v15, e15, i15⟩ := i_new (b := b) (n := 100) (k := 41) (e := .inl (0, 100, .inl (fun _ => 0))) i14 hw hb (by simp only [List.length_set]; omega) rfl
  have e15 : uPut b (uNew v14 100 (.inl (0, 100, .inl (fun _ => 0)))) u.1 2 41 (va_rf (some v14.1)) = some v15 := e15
  obtain ⟨v16, e16, i16⟩ := i_new (b := b) (n := 100) (k := 42) (e := .inl (0, 100, .inl (fun _ => 0))) i15 hw hb (by simp only [List.length_set]; omega) rfl
  have e16 : uPut b (uNew v15 100 (.inl (0, 100, .inl (fun _ => 0)))) u.1 2 42 (va_rf (some v15.1)) = some v16 := e16
  obtain ⟨v17, e17, i17⟩ := i_new (b := b) (n := 100) (k := 43) (e := .inl (0, 100, .inl (fun _ => 0))) i16 hw hb (by simp only [List.length_set]; omega) rfl
  have e17 : uPut b (uNew v16 100 (.inl (0, 100, .inl (fun _ => 0)))) u.1 2 43 (va_rf (some v16.1)) = some v17 := e17
  obtain ⟨v18, e18, i18⟩ := i_new (b := b) (n := 5) (k := 44) (e := .inl (0, 5, .inl (fun _ => 0))) i17 hw hb (by simp only [List.length_set]; omega) rfl
  have e18 : uPut b (uNew v17 5 (.inl (0, 5, .inl (fun _ => 0)))) u.1 2 44 (va_rf (some v17.1)) = some v18 := e18
  obtain ⟨v19, e19, i19⟩ := i_new (b := b) (n := 5) (k := 45) (e := .inl (0, 5, .inl (fun _ => 0))) i18 hw hb (by simp only [List.length_set]; omega) rfl
  have e19 : uPut b (uNew v18 5 (.inl (0, 5, .inl (fun _ => 0)))) u.1 2 45 (va_rf (some v18.1)) = some v19 := e19
  obtain ⟨v20, e20, i20⟩ := i_new (b := b) (n := 40) (k := 46) (e := .inl (0, 40, .inl (fun _ => 0))) i19 hw hb (by simp only [List.length_set]; omega) rfl
  have e20 : uPut b (uNew v19 40 (.inl (0, 40, .inl (fun _ => 0)))) u.1 2 46 (va_rf (some v19.1)) = some v20 := e20
  obtain ⟨v21, e21, i21⟩ := i_new (b := b) (n := 6) (k := 47) (e := .inl (0, 6, .inl (fun _ => 0))) i20 hw hb (by simp only [List.length_set]; omega) rfl
  have e21 : uPut b (uNew v20 6 (.inl (0, 6, .inl (fun _ => 0)))) u.1 2 47 (va_rf (some v20.1)) = some v21 := e21
  obtain ⟨v22, e22, i22⟩ := i_new (b := b) (n := 102400) (k := 48) (e := .inl (3, 102400, .inr (.inl (fun _ => 0)))) i21 hw hb (by simp only [List.length_set]; omega) rfl
  have e22 : uPut b (uNew v21 102400 (.inl (3, 102400, .inr (.inl (fun _ => 0))))) u.1 2 48 (va_rf (some v21.1)) = some v22 := e22
  obtain ⟨v23, e23, i23⟩ := i_put (b := b) (k := 49) (v := .int (-1)) i22 hw hb (by simp only [List.length_set]; omega)
  obtain ⟨v24, e24, i24⟩ := i_new (b := b) (n := 20) (k := 52) (e := .inl (0, 20, .inl (fun _ => 0))) i23 hw hb (by simp only [List.length_set]; omega) rfl
  have e24 : uPut b (uNew v23 20 (.inl (0, 20, .inl (fun _ => 0)))) u.1 2 52 (va_rf (some v23.1)) = some v24 := e24
  obtain ⟨v25, e25, i25⟩ := i_new (b := b) (n := 5) (k := 53) (e := .inl (0, 5, .inl (fun _ => 0))) i24 hw hb (by simp only [List.length_set]; omega) rfl
  have e25 : uPut b (uNew v24 5 (.inl (0, 5, .inl (fun _ => 0)))) u.1 2 53 (va_rf (some v24.1)) = some v25 := e25
  obtain ⟨v26, e26, i26⟩ := i_new (b := b) (n := 2000) (k := 54) (e := .inl (0, 2000, .inl (fun _ => 0))) i25 hw hb (by simp only [List.length_set]; omega) rfl
  have e26 : uPut b (uNew v25 2000 (.inl (0, 2000, .inl (fun _ => 0)))) u.1 2 54 (va_rf (some v25.1)) = some v26 := e26
  obtain ⟨v27, e27, i27⟩ := i_new (b := b) (n := 4096) (k := 56) (e := .inl (0, 4096, .inl (fun _ => 0))) i26 hw hb (by simp only [List.length_set]; omega) rfl
  have e27 : uPut b (uNew v26 4096 (.inl (0, 4096, .inl (fun _ => 0)))) u.1 2 56 (va_rf (some v26.1)) = some v27 := e27
  obtain ⟨v28, e28, i28⟩ := i_new (b := b) (n := 8) (k := 57) (e := .inl (0, 8, .inl (fun _ => 0))) i27 hw hb (by simp only [List.length_set]; omega) rfl
  have e28 : uPut b (uNew v27 8 (.inl (0, 8, .inl (fun _ => 0)))) u.1 2 57 (va_rf (some v27.1)) = some v28 := e28
  obtain ⟨v29, e29, i29⟩ := i_new (b := b) (n := 8) (k := 60) (e := .inl (0, 8, .inl (fun _ => 0))) i28 hw hb (by simp only [List.length_set]; omega) rfl
  have e29 : uPut b (uNew v28 8 (.inl (0, 8, .inl (fun _ => 0)))) u.1 2 60 (va_rf (some v28.1)) = some v29 := e29
  obtain ⟨v30, e30, i30⟩ := i_new (b := b) (n := 8) (k := 61) (e := .inl (0, 8, .inl (fun _ => 0))) i29 hw hb (by simp only [List.length_set]; omega) rfl
  have e30 : uPut b (uNew v29 8 (.inl (0, 8, .inl (fun _ => 0)))) u.1 2 61 (va_rf (some v29.1)) = some v30 := e30
  obtain ⟨v31, e31, i31⟩ := i_new (b := b) (n := 8) (k := 62) (e := .inl (2, 8, .inl (fun _ => 0))) i30 hw hb (by simp only [List.length_set]; omega) rfl
  have e31 : uPut b (uNew v30 8 (.inl (2, 8, .inl (fun _ => 0)))) u.1 2 62 (va_rf (some v30.1)) = some v31 := e31
  obtain ⟨v32, e32, i32⟩ := i_put (b := b) (k := 63) (v := .int (-1)) i31 hw hb (by simp only [List.length_set]; omega)
  obtain ⟨v33, e33, i33⟩ := i_put (b := b) (k := 64) (v := .int (-1)) i32 hw hb (by simp only [List.length_set]; omega)
  obtain ⟨v34, e34, i34⟩ := i_put (b := b) (k := 65) (v := .int (-1)) i33 hw hb (by simp only [List.length_set]; omega)
  obtain ⟨v35, e35, i35⟩ := i_new (b := b) (n := 15625) (k := 68) (e := .inl (0, 15625, .inl (fun _ => 0))) i34 hw hb (by simp only [List.length_set]; omega) rfl
  have e35 : uPut b (uNew v34 15625 (.inl (0, 15625, .inl (fun _ => 0)))) u.1 2 68 (va_rf (some v34.1)) = some v35 := e35
  obtain ⟨v36, e36, i36⟩ := i_new (b := b) (n := 400) (k := 70) (e := .inl (0, 400, .inl (fun _ => 0))) i35 hw hb (by simp only [List.length_set]; omega) rfl
  have e36 : uPut b (uNew v35 400 (.inl (0, 400, .inl (fun _ => 0)))) u.1 2 70 (va_rf (some v35.1)) = some v36 := e36
  obtain ⟨v37, e37, i37⟩ := i_new (b := b) (n := 3200) (k := 71) (e := .inl (0, 3200, .inl (fun _ => 0))) i36 hw hb (by simp only [List.length_set]; omega) rfl
  have e37 : uPut b (uNew v36 3200 (.inl (0, 3200, .inl (fun _ => 0)))) u.1 2 71 (va_rf (some v36.1)) = some v37 := e37
  obtain ⟨v38, e38, i38⟩ := i_new (b := b) (n := 100) (k := 72) (e := .inl (0, 100, .inl (fun _ => 0))) i37 hw hb (by simp only [List.length_set]; omega) rfl
  have e38 : uPut b (uNew v37 100 (.inl (0, 100, .inl (fun _ => 0)))) u.1 2 72 (va_rf (some v37.1)) = some v38 := e38
  obtain ⟨v39, e39, i39⟩ := i_new (b := b) (n := 2000) (k := 74) (e := .inl (0, 2000, .inl (fun _ => 0))) i38 hw hb (by simp only [List.length_set]; omega) rfl
  have e39 : uPut b (uNew v38 2000 (.inl (0, 2000, .inl (fun _ => 0)))) u.1 2 74 (va_rf (some v38.1)) = some v39 := e39
  refine ⟨v39, ?_, ?_⟩
  · unfold f_X3_init f_X3_init_10 f_X3_init_18 f_X3_init_26 f_X3_init_34 f_X3_init_42 f_X3_init_50 f_X3_init_58 f_X3_init_66 f_X3_init_74 f_X3_init_82 f_X3_init_90 f_X3_init_98 f_X3_init_106 f_X3_init_115 f_X3_init_123 f_X3_init_131 f_X3_init_139 f_X3_init_146 f_X3_init_153 f_X3_init_161 f_X3_init_169 f_X3_init_177 f_X3_init_190 f_X3_init_197 f_X3_init_206 f_X3_init_215 f_X3_init_223 f_X3_init_231 f_X3_init_239 f_X3_init_247 f_X3_init_271 f_X3_init_280 f_X3_init_289 f_X3_init_297 f_X3_init_306
    rw [t_c5, t_c102400, t_c100, t_c3200, t_c6, t_k5, t_k8, t_k20, t_k40, t_k64, t_k400, t_k2000, t_k4096, t_k15625]
    rw [if_pos (by decide), p_let, p_let, p_bs, e1, p_bs, if_pos (by decide), p_let, p_let, p_bs, e2, p_bs, if_pos (by decide), p_let, p_let, p_bs, e3, p_bs, if_pos (by decide), p_let, p_let, p_bs, e4, p_bs, if_pos (by decide), p_let, p_let, p_bs, e5, p_bs, if_pos (by decide), p_let, p_let, p_bs, e6, p_bs, if_pos (by decide), p_let, p_let, p_bs, e7, p_bs, if_pos (by decide), p_let, p_let, p_bs, e8, p_bs, if_pos (by decide), p_let, p_let, p_bs, e9, p_bs, if_pos (by decide), p_let, p_let, p_bs, e10, p_bs, if_pos (by decide), p_let, p_let, p_bs, e11, p_bs, if_pos (by decide), p_let, p_let, p_bs, e12, p_bs, if_pos (by decide), p_let, p_let, p_bs, e13, p_bs, if_pos (by decide), p_let, p_let, p_bs, e14, p_bs, if_pos (by decide), p_let, p_let, p_bs, e15, p_bs, if_pos (by decide), p_let, p_let, p_bs, e16, p_bs, if_pos (by decide), p_let, p_let, p_bs, e17, p_bs, if_pos (by decide), p_let, p_let, p_bs, e18, p_bs, if_pos (by decide), p_let, p_let, p_bs, e19, p_bs, if_pos (by decide), p_let, p_let, p_bs, e20, p_bs, if_pos (by decide), p_let, p_let, p_bs, e21, p_bs, if_pos (by decide), p_let, p_let, p_bs, e22, p_bs, e23, p_bs, if_pos (by decide), p_let, p_let, p_bs, e24, p_bs, if_pos (by decide), p_let, p_let, p_bs, e25, p_bs, if_pos (by decide), p_let, p_let, p_bs, e26, p_bs, if_pos (by decide), p_let, p_let, p_bs, e27, p_bs, if_pos (by decide), p_let, p_let, p_bs, e28, p_bs, if_pos (by decide), p_let, p_let, p_bs, e29, p_bs, if_pos (by decide), p_let, p_let, p_bs, e30, p_bs, if_pos (by decide), p_let, p_let, p_bs, e31, p_bs, e32, p_bs, e33, p_bs, e34, p_bs, if_pos (by decide), p_let, p_let, p_bs, e35, p_bs, if_pos (by decide), p_let, p_let, p_bs, e36, p_bs, if_pos (by decide), p_let, p_let, p_bs, e37, p_bs, if_pos (by decide), p_let, p_let, p_bs, e38, p_bs, if_pos (by decide), p_let, p_let, p_bs, e39, p_bs]
  · have hh := i39
    obtain ⟨h1, h2, h3, h4, h5, h6⟩ := hh
    refine ⟨h1, h2, h3, h4.trans ?_, h5, h6⟩
    rw [ew, cD0_ok (w := u.1), cD1_ok (w := u.1)]
    show some (Sum.inr (2, ((((((((((((((((((((((((((((((((((((((((cD0.map (cV u.1)).set 1 (cV u.1 (some (.inl 0)))).set 11 (cV u.1 (some (.inl 1)))).set 14 (cV u.1 (some (.inl 2)))).set 15 (cV u.1 (some (.inl 3)))).set 16 (cV u.1 (some (.inl 4)))).set 17 (cV u.1 (some (.inl 5)))).set 18 (cV u.1 (some (.inl 6)))).set 19 (cV u.1 (some (.inl 7)))).set 20 (cV u.1 (some (.inl 8)))).set 21 (cV u.1 (some (.inl 9)))).set 30 (cV u.1 (some (.inl 10)))).set 31 (cV u.1 (some (.inl 11)))).set 32 (cV u.1 (some (.inl 12)))).set 33 (cV u.1 (some (.inl 13)))).set 41 (cV u.1 (some (.inl 14)))).set 42 (cV u.1 (some (.inl 15)))).set 43 (cV u.1 (some (.inl 16)))).set 44 (cV u.1 (some (.inl 17)))).set 45 (cV u.1 (some (.inl 18)))).set 46 (cV u.1 (some (.inl 19)))).set 47 (cV u.1 (some (.inl 20)))).set 48 (cV u.1 (some (.inl 21)))).set 49 (cV u.1 (some (.inr (-1))))).set 52 (cV u.1 (some (.inl 22)))).set 53 (cV u.1 (some (.inl 23)))).set 54 (cV u.1 (some (.inl 24)))).set 56 (cV u.1 (some (.inl 25)))).set 57 (cV u.1 (some (.inl 26)))).set 60 (cV u.1 (some (.inl 27)))).set 61 (cV u.1 (some (.inl 28)))).set 62 (cV u.1 (some (.inl 29)))).set 63 (cV u.1 (some (.inr (-1))))).set 64 (cV u.1 (some (.inr (-1))))).set 65 (cV u.1 (some (.inr (-1))))).set 68 (cV u.1 (some (.inl 30)))).set 70 (cV u.1 (some (.inl 31)))).set 71 (cV u.1 (some (.inl 32)))).set 72 (cV u.1 (some (.inl 33)))).set 74 (cV u.1 (some (.inl 34)))))) = _
    simp only [← List.map_set]
    refine congrArg (fun z => some (Sum.inr (2, List.map (cV u.1) z))) ?_
    decide +kernel

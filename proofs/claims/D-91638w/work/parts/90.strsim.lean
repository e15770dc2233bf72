/-! BY gen_str.py -/
section
variable {N b : Nat} {g : uEnv} {A : pA} {u : UH}
set_option maxRecDepth 100000 in
theorem s_word_26 (hA : pGood b A)  {σ : MS}  : f_X3_word_26 N b g A.1 (pUp A u σ) = (f_word_26 N σ).map (pL A u) := by
  simp only [f_X3_word_26, f_word_26, p_is, p_ldZ hA, p_stZ hA, p_ldL hA, p_stL hA, p_ib, p_fit, p_ucall, p_mcall, p_mcallv, p_mite, p_mbv, p_mb2, p_let, p_bs, p_ms, p_mn, p_pL, if_true, eq_self]
set_option maxRecDepth 100000 in
theorem s_word_63 (hA : pGood b A) {a : Nat} {tx : List Int32} (ht : pLit b u a tx) {k32 : UH → Option Nat → Int32 → Int32 → Option (Int32 × UH)} {k32' : MS → Int32 → Int32 → Option (Int32 × MS)} (hk32 : ∀ (σ : MS) (z0 : Int32) (z1 : Int32), k32 (pUp A u σ) (some a) z0 z1 = (k32' σ z0 z1).map (pL A u)) {σ : MS} {x3 : Int32} {s0 : Int32} : f_X3_word_63 N b g A.1 k32 (pUp A u σ) (some a) x3 s0 = (f_word_63 N tx k32' σ x3 s0).map (pL A u) := by
  simp only [f_X3_word_63, f_word_63, hk32, p_is, t_is hA ht, t_len hA ht, t_at hA ht, p_uc, p_uci, p_ldZ hA, p_stZ hA, p_ldL hA, p_stL hA, p_ib, p_fit, p_ucall, p_mcall, p_mcallv, p_mite, p_mbv, p_mb2, p_let, p_bs, p_ms, p_mn, p_pL, if_true, eq_self]
set_option maxRecDepth 100000 in
theorem s_word_62 (hA : pGood b A) {a : Nat} {tx : List Int32} (ht : pLit b u a tx) {k32 : UH → Option Nat → Int32 → Int32 → Option (Int32 × UH)} {k32' : MS → Int32 → Int32 → Option (Int32 × MS)} (hk32 : ∀ (σ : MS) (z0 : Int32) (z1 : Int32), k32 (pUp A u σ) (some a) z0 z1 = (k32' σ z0 z1).map (pL A u)) {σ : MS} {x3 : Int32} : f_X3_word_62 N b g A.1 k32 (pUp A u σ) (some a) x3 = (f_word_62 N tx k32' σ x3).map (pL A u) := by
  simp only [f_X3_word_62, f_word_62, s_word_63 hA ht hk32, hk32, p_is, t_is hA ht, t_len hA ht, t_at hA ht, p_uc, p_uci, p_ldZ hA, p_stZ hA, p_ldL hA, p_stL hA, p_ib, p_fit, p_ucall, p_mcall, p_mcallv, p_mite, p_mbv, p_mb2, p_let, p_bs, p_ms, p_mn, p_pL, if_true, eq_self]
set_option maxRecDepth 100000 in
theorem s_word_32 (hA : pGood b A) {a : Nat} {tx : List Int32} (ht : pLit b u a tx)  : ∀ (n : Nat) (σ : MS) (x2 : Int32) (x3 : Int32), f_X3_word_32 N b g A.1 n (pUp A u σ) (some a) x2 x3 = (f_word_32 N tx n σ x2 x3).map (pL A u) := by
  intro n
  induction n with
  | zero => intro σ x2 x3; rfl
  | succ n ih =>
    intro σ x2 x3
    simp only [f_X3_word_32, f_word_32, s_word_62 hA ht ih, s_word_63 hA ht ih, p_gi (k := 8) rfl, p_gr (k := 11) rfl, p_ldI hA (j := 11) rfl, p_is, t_is hA ht, t_len hA ht, t_at hA ht, p_uc, p_uci, p_ldZ hA, p_stZ hA, p_ldL hA, p_stL hA, p_ib, p_fit, p_ucall, p_mcall, p_mcallv, p_mite, p_mbv, p_mb2, p_let, p_bs, p_ms, p_mn, p_pL, if_true, eq_self, ih]
set_option maxRecDepth 100000 in
theorem s_word (hA : pGood b A) {a : Nat} {tx : List Int32} (ht : pLit b u a tx)  {σ : MS}  : f_X3_word N b g (pUp A u σ) A.1 (some a) = (f_word N tx σ).map (pL A u) := by
  simp only [f_X3_word, f_word, s_word_32 hA ht, s_word_26 hA, p_gi (k := 6) rfl, p_gi (k := 8) rfl, p_gi (k := 13) rfl, p_is, t_is hA ht, t_len hA ht, t_at hA ht, p_uc, p_uci, p_ldZ hA, p_stZ hA, p_ldL hA, p_stL hA, p_ib, p_fit, p_ucall, p_mcall, p_mcallv, p_mite, p_mbv, p_mb2, p_let, p_bs, p_ms, p_mn, p_pL, if_true, eq_self]
set_option maxRecDepth 100000 in
theorem s_isName_113 (hA : pGood b A)  {σ : MS} {s0 : Int32} : f_X3_isName_113 N b g A.1 (pUp A u σ) s0 = (f_isName_113 N σ s0).map (pL A u) := by
  simp only [f_X3_isName_113, f_isName_113, p_is, p_ldZ hA, p_stZ hA, p_ldL hA, p_stL hA, p_ib, p_fit, p_ucall, p_mcall, p_mcallv, p_mite, p_mbv, p_mb2, p_let, p_bs, p_ms, p_mn, p_pL, if_true, eq_self]
set_option maxRecDepth 100000 in
theorem s_isName_112 (hA : pGood b A)  {σ : MS}  : f_X3_isName_112 N b g A.1 (pUp A u σ) = (f_isName_112 N σ).map (pL A u) := by
  simp only [f_X3_isName_112, f_isName_112, s_isName_113 hA, p_is, p_ldZ hA, p_stZ hA, p_ldL hA, p_stL hA, p_ib, p_fit, p_ucall, p_mcall, p_mcallv, p_mite, p_mbv, p_mb2, p_let, p_bs, p_ms, p_mn, p_pL, if_true, eq_self]
set_option maxRecDepth 100000 in
theorem s_isName_95 (hA : pGood b A)  {σ : MS} {s0 : Int32} : f_X3_isName_95 N b g A.1 (pUp A u σ) s0 = (f_isName_95 N σ s0).map (pL A u) := by
  simp only [f_X3_isName_95, f_isName_95, s_isName_113 hA, s_isName_112 hA, p_gi (k := 6) rfl, p_is, p_ldZ hA, p_stZ hA, p_ldL hA, p_stL hA, p_ib, p_fit, p_ucall, p_mcall, p_mcallv, p_mite, p_mbv, p_mb2, p_let, p_bs, p_ms, p_mn, p_pL, if_true, eq_self]
set_option maxRecDepth 100000 in
theorem s_isName_90 (hA : pGood b A)  {σ : MS}  : f_X3_isName_90 N b g A.1 (pUp A u σ) = (f_isName_90 N σ).map (pL A u) := by
  simp only [f_X3_isName_90, f_isName_90, s_isName_95 hA, p_is, p_ldZ hA, p_stZ hA, p_ldL hA, p_stL hA, p_ib, p_fit, p_ucall, p_mcall, p_mcallv, p_mite, p_mbv, p_mb2, p_let, p_bs, p_ms, p_mn, p_pL, if_true, eq_self]
set_option maxRecDepth 100000 in
theorem s_isName (hA : pGood b A) (hT : ∀ j < 52, pLit b u (g.2.1 j) (pTx j))  {σ : MS}  : f_X3_isName N b g (pUp A u σ) A.1 = (f_isName N σ).map (pL A u) := by
  simp only [f_X3_isName, f_isName, s_word hA (hT 32 (by decide)), s_word hA (hT 33 (by decide)), s_word hA (hT 34 (by decide)), s_word hA (hT 35 (by decide)), s_word hA (hT 36 (by decide)), s_word hA (hT 37 (by decide)), s_word hA (hT 38 (by decide)), s_word hA (hT 39 (by decide)), s_word hA (hT 40 (by decide)), s_word hA (hT 41 (by decide)), s_isName_95 hA, s_isName_90 hA, p_is, p_ldZ hA, p_stZ hA, p_ldL hA, p_stL hA, p_ib, p_fit, p_ucall, p_mcall, p_mcallv, p_mite, p_mbv, p_mb2, p_let, p_bs, p_ms, p_mn, p_pL, if_true, eq_self]
set_option maxRecDepth 100000 in
theorem s_must (hA : pGood b A) {a : Nat} {tx : List Int32} (ht : pLit b u a tx)  {σ : MS}  : f_X3_must N b g (pUp A u σ) A.1 (some a) = (f_must N tx σ).map (pL A u) := by
  simp only [f_X3_must, f_must, s_word hA ht, s_wrong hA, s_next hA, p_gi (k := 4) rfl, p_gi (k := 13) rfl, p_is, t_is hA ht, t_len hA ht, t_at hA ht, p_uc, p_uci, p_ldZ hA, p_stZ hA, p_ldL hA, p_stL hA, p_ib, p_fit, p_ucall, p_mcall, p_mcallv, p_mite, p_mbv, p_mb2, p_let, p_bs, p_ms, p_mn, p_pL, if_true, eq_self]
set_option maxRecDepth 100000 in
theorem s_groundLine_203 (hA : pGood b A)  {σ : MS}  : f_X3_groundLine_203 N b g A.1 (pUp A u σ) = (f_groundLine_203 N σ).map (pUp A u) := by
  simp only [f_X3_groundLine_203, f_groundLine_203, p_is, p_ldZ hA, p_stZ hA, p_ldL hA, p_stL hA, p_ib, p_fit, p_ucall, p_mcall, p_mcallv, p_mite, p_mbv, p_mb2, p_let, p_bs, p_ms, p_mn, p_pL, if_true, eq_self]
set_option maxRecDepth 100000 in
theorem s_groundLine_83 (hA : pGood b A) (hT : ∀ j < 52, pLit b u (g.2.1 j) (pTx j))  : ∀ (n : Nat) (σ : MS) (x1 : Int32), f_X3_groundLine_83 N b g A.1 n (pUp A u σ) x1 = (f_groundLine_83 N n σ x1).map (pUp A u) := by
  intro n
  induction n with
  | zero => intro σ x1; rfl
  | succ n ih =>
    intro σ x1
    simp only [f_X3_groundLine_83, f_groundLine_83, s_next hA, s_must hA (hT 42 (by decide)), s_must hA (hT 43 (by decide)), s_pairs hA (j1 := 11) rfl, s_pairs hA (j1 := 14) rfl, s_pairs hA (j1 := 15) rfl, s_pairs hA (j1 := 18) rfl, s_pairs hA (j1 := 19) rfl, s_pairs hA (j1 := 20) rfl, s_pairs hA (j1 := 21) rfl, s_groundLine_203 hA, p_gi (k := 8) rfl, p_gi (k := 13) rfl, p_gi (k := 22) rfl, p_gr (k := 11) rfl, p_gr (k := 14) rfl, p_gr (k := 15) rfl, p_gr (k := 18) rfl, p_gr (k := 19) rfl, p_gr (k := 20) rfl, p_gr (k := 21) rfl, p_put hA (k := 22) rfl, p_ldI hA (j := 11) rfl, p_stI hA (j := 11) rfl, p_ldI hA (j := 14) rfl, p_stI hA (j := 14) rfl, p_ldI hA (j := 15) rfl, p_stI hA (j := 15) rfl, p_ldI hA (j := 18) rfl, p_stI hA (j := 18) rfl, p_ldI hA (j := 19) rfl, p_stI hA (j := 19) rfl, p_ldI hA (j := 20) rfl, p_stI hA (j := 20) rfl, p_ldI hA (j := 21) rfl, p_stI hA (j := 21) rfl, p_is, p_ldZ hA, p_stZ hA, p_ldL hA, p_stL hA, p_ib, p_fit, p_ucall, p_mcall, p_mcallv, p_mite, p_mbv, p_mb2, p_let, p_bs, p_ms, p_mn, p_pL, if_true, eq_self, ih]
set_option maxRecDepth 100000 in
theorem s_groundLine_73 (hA : pGood b A) (hT : ∀ j < 52, pLit b u (g.2.1 j) (pTx j))  {σ : MS}  : f_X3_groundLine_73 N b g A.1 (pUp A u σ) = (f_groundLine_73 N σ).map (pUp A u) := by
  simp only [f_X3_groundLine_73, f_groundLine_73, s_groundLine_83 hA hT, p_gi (k := 13) rfl, p_is, p_ldZ hA, p_stZ hA, p_ldL hA, p_stL hA, p_ib, p_fit, p_ucall, p_mcall, p_mcallv, p_mite, p_mbv, p_mb2, p_let, p_bs, p_ms, p_mn, p_pL, if_true, eq_self]
set_option maxRecDepth 100000 in
theorem s_groundLine_47 (hA : pGood b A) (hT : ∀ j < 52, pLit b u (g.2.1 j) (pTx j))  {σ : MS}  : f_X3_groundLine_47 N b g A.1 (pUp A u σ) = (f_groundLine_47 N σ).map (pUp A u) := by
  simp only [f_X3_groundLine_47, f_groundLine_47, s_wrong hA, s_groundLine_73 hA hT, p_gi (k := 4) rfl, p_gi (k := 13) rfl, p_gi (k := 22) rfl, p_is, p_ldZ hA, p_stZ hA, p_ldL hA, p_stL hA, p_ib, p_fit, p_ucall, p_mcall, p_mcallv, p_mite, p_mbv, p_mb2, p_let, p_bs, p_ms, p_mn, p_pL, if_true, eq_self]
set_option maxRecDepth 100000 in
theorem s_groundLine (hA : pGood b A) (hT : ∀ j < 52, pLit b u (g.2.1 j) (pTx j))  {σ : MS}  : f_X3_groundLine N b g (pUp A u σ) A.1 = (f_groundLine N σ).map (pUp A u) := by
  simp only [f_X3_groundLine, f_groundLine, s_isName hA hT, s_wrong hA, s_find hA (j1 := 14) rfl (j2 := 15) rfl, s_find hA (j1 := 15) rfl (j2 := 14) rfl, s_groundLine_47 hA hT, p_gi (k := 4) rfl, p_gi (k := 22) rfl, p_gr (k := 14) rfl, p_gr (k := 15) rfl, p_is, p_ldZ hA, p_stZ hA, p_ldL hA, p_stL hA, p_ib, p_fit, p_ucall, p_mcall, p_mcallv, p_mite, p_mbv, p_mb2, p_let, p_bs, p_ms, p_mn, p_pL, if_true, eq_self]
set_option maxRecDepth 100000 in
theorem s_tryLine_223 (hA : pGood b A)  {σ : MS}  : f_X3_tryLine_223 N b g A.1 (pUp A u σ) = (f_tryLine_223 N σ).map (pUp A u) := by
  simp only [f_X3_tryLine_223, f_tryLine_223, p_is, p_ldZ hA, p_stZ hA, p_ldL hA, p_stL hA, p_ib, p_fit, p_ucall, p_mcall, p_mcallv, p_mite, p_mbv, p_mb2, p_let, p_bs, p_ms, p_mn, p_pL, if_true, eq_self]
set_option maxRecDepth 100000 in
theorem s_tryLine_83 (hA : pGood b A) (hT : ∀ j < 52, pLit b u (g.2.1 j) (pTx j))  : ∀ (n : Nat) (σ : MS) (x1 : Int32), f_X3_tryLine_83 N b g A.1 n (pUp A u σ) x1 = (f_tryLine_83 N n σ x1).map (pUp A u) := by
  intro n
  induction n with
  | zero => intro σ x1; rfl
  | succ n ih =>
    intro σ x1
    simp only [f_X3_tryLine_83, f_tryLine_83, s_next hA, s_must hA (hT 49 (by decide)), s_must hA (hT 50 (by decide)), s_must hA (hT 51 (by decide)), s_signed hA, s_number hA, s_tryLine_223 hA, p_gi (k := 8) rfl, p_gi (k := 13) rfl, p_gi (k := 23) rfl, p_gr (k := 11) rfl, p_gr (k := 16) rfl, p_gr (k := 17) rfl, p_gr (k := 30) rfl, p_gr (k := 31) rfl, p_gr (k := 32) rfl, p_put hA (k := 23) rfl, p_ldI hA (j := 11) rfl, p_stI hA (j := 11) rfl, p_ldI hA (j := 16) rfl, p_stI hA (j := 16) rfl, p_ldI hA (j := 17) rfl, p_stI hA (j := 17) rfl, p_ldI hA (j := 30) rfl, p_stI hA (j := 30) rfl, p_ldI hA (j := 31) rfl, p_stI hA (j := 31) rfl, p_ldI hA (j := 32) rfl, p_stI hA (j := 32) rfl, p_is, p_ldZ hA, p_stZ hA, p_ldL hA, p_stL hA, p_ib, p_fit, p_ucall, p_mcall, p_mcallv, p_mite, p_mbv, p_mb2, p_let, p_bs, p_ms, p_mn, p_pL, if_true, eq_self, ih]
set_option maxRecDepth 100000 in
theorem s_tryLine_73 (hA : pGood b A) (hT : ∀ j < 52, pLit b u (g.2.1 j) (pTx j))  {σ : MS}  : f_X3_tryLine_73 N b g A.1 (pUp A u σ) = (f_tryLine_73 N σ).map (pUp A u) := by
  simp only [f_X3_tryLine_73, f_tryLine_73, s_tryLine_83 hA hT, p_gi (k := 13) rfl, p_is, p_ldZ hA, p_stZ hA, p_ldL hA, p_stL hA, p_ib, p_fit, p_ucall, p_mcall, p_mcallv, p_mite, p_mbv, p_mb2, p_let, p_bs, p_ms, p_mn, p_pL, if_true, eq_self]
set_option maxRecDepth 100000 in
theorem s_tryLine_47 (hA : pGood b A) (hT : ∀ j < 52, pLit b u (g.2.1 j) (pTx j))  {σ : MS}  : f_X3_tryLine_47 N b g A.1 (pUp A u σ) = (f_tryLine_47 N σ).map (pUp A u) := by
  simp only [f_X3_tryLine_47, f_tryLine_47, s_wrong hA, s_tryLine_73 hA hT, p_gi (k := 4) rfl, p_gi (k := 13) rfl, p_gi (k := 23) rfl, p_is, p_ldZ hA, p_stZ hA, p_ldL hA, p_stL hA, p_ib, p_fit, p_ucall, p_mcall, p_mcallv, p_mite, p_mbv, p_mb2, p_let, p_bs, p_ms, p_mn, p_pL, if_true, eq_self]
set_option maxRecDepth 100000 in
theorem s_tryLine (hA : pGood b A) (hT : ∀ j < 52, pLit b u (g.2.1 j) (pTx j))  {σ : MS}  : f_X3_tryLine N b g (pUp A u σ) A.1 = (f_tryLine N σ).map (pUp A u) := by
  simp only [f_X3_tryLine, f_tryLine, s_isName hA hT, s_wrong hA, s_find hA (j1 := 16) rfl (j2 := 17) rfl, s_find hA (j1 := 17) rfl (j2 := 16) rfl, s_tryLine_47 hA hT, p_gi (k := 4) rfl, p_gi (k := 23) rfl, p_gr (k := 16) rfl, p_gr (k := 17) rfl, p_is, p_ldZ hA, p_stZ hA, p_ldL hA, p_stL hA, p_ib, p_fit, p_ucall, p_mcall, p_mcallv, p_mite, p_mbv, p_mb2, p_let, p_bs, p_ms, p_mn, p_pL, if_true, eq_self]
set_option maxRecDepth 100000 in
theorem s_line_187 (hA : pGood b A)  {σ : MS}  : f_X3_line_187 N b g A.1 (pUp A u σ) = (f_line_187 N σ).map (pUp A u) := by
  simp only [f_X3_line_187, f_line_187, p_is, p_ldZ hA, p_stZ hA, p_ldL hA, p_stL hA, p_ib, p_fit, p_ucall, p_mcall, p_mcallv, p_mite, p_mbv, p_mb2, p_let, p_bs, p_ms, p_mn, p_pL, if_true, eq_self]
set_option maxRecDepth 100000 in
theorem s_line (hA : pGood b A) (hT : ∀ j < 52, pLit b u (g.2.1 j) (pTx j))  {σ : MS}  : f_X3_line N b g (pUp A u σ) A.1 = (f_line N σ).map (pUp A u) := by
  simp only [f_X3_line, f_line, s_word hA (hT 32 (by decide)), s_word hA (hT 33 (by decide)), s_word hA (hT 34 (by decide)), s_wrong hA, s_line_187 hA, s_next hA, s_tryLine hA hT, s_must hA (hT 44 (by decide)), s_must hA (hT 45 (by decide)), s_must hA (hT 46 (by decide)), s_must hA (hT 47 (by decide)), s_must hA (hT 48 (by decide)), s_number hA, s_groundLine hA hT, p_gi (k := 4) rfl, p_gi (k := 29) rfl, p_put hA (k := 24) rfl, p_put hA (k := 25) rfl, p_put hA (k := 26) rfl, p_put hA (k := 27) rfl, p_put hA (k := 28) rfl, p_put hA (k := 29) rfl, p_is, p_ldZ hA, p_stZ hA, p_ldL hA, p_stL hA, p_ib, p_fit, p_ucall, p_mcall, p_mcallv, p_mite, p_mbv, p_mb2, p_let, p_bs, p_ms, p_mn, p_pL, if_true, eq_self]
set_option maxRecDepth 100000 in
theorem s_book_195 (hA : pGood b A)  : ∀ (n : Nat) (σ : MS) (x2 : Int32), f_X3_book_195 N b g A.1 n (pUp A u σ) x2 = (f_book_195 N n σ x2).map (pL A u) := by
  intro n
  induction n with
  | zero => intro σ x2; rfl
  | succ n ih =>
    intro σ x2
    simp only [f_X3_book_195, f_book_195, p_gi (k := 22) rfl, p_gr (k := 47) rfl, p_stI hA (j := 47) rfl, p_is, p_ldZ hA, p_stZ hA, p_ldL hA, p_stL hA, p_ib, p_fit, p_ucall, p_mcall, p_mcallv, p_mite, p_mbv, p_mb2, p_let, p_bs, p_ms, p_mn, p_pL, if_true, eq_self, ih]
set_option maxRecDepth 100000 in
theorem s_book_140 (hA : pGood b A)  {σ : MS}  : f_X3_book_140 N b g A.1 (pUp A u σ) = (f_book_140 N σ).map (pL A u) := by
  simp only [f_X3_book_140, f_book_140, s_book_195 hA, s_store hA, s_no hA, p_gi (k := 13) rfl, p_put hA (k := 12) rfl, p_put hA (k := 34) rfl, p_put hA (k := 37) rfl, p_put hA (k := 38) rfl, p_put hA (k := 40) rfl, p_put hA (k := 51) rfl, p_put hA (k := 69) rfl, p_is, p_ldZ hA, p_stZ hA, p_ldL hA, p_stL hA, p_ib, p_fit, p_ucall, p_mcall, p_mcallv, p_mite, p_mbv, p_mb2, p_let, p_bs, p_ms, p_mn, p_pL, if_true, eq_self]
set_option maxRecDepth 100000 in
theorem s_book_116 (hA : pGood b A)  {σ : MS}  : f_X3_book_116 N b g A.1 (pUp A u σ) = (f_book_116 N σ).map (pL A u) := by
  simp only [f_X3_book_116, f_book_116, s_book_140 hA, s_wrong hA, p_gi (k := 4) rfl, p_gi (k := 6) rfl, p_gi (k := 13) rfl, p_is, p_ldZ hA, p_stZ hA, p_ldL hA, p_stL hA, p_ib, p_fit, p_ucall, p_mcall, p_mcallv, p_mite, p_mbv, p_mb2, p_let, p_bs, p_ms, p_mn, p_pL, if_true, eq_self]
set_option maxRecDepth 100000 in
theorem s_book_89 (hA : pGood b A) (hT : ∀ j < 52, pLit b u (g.2.1 j) (pTx j))  : ∀ (n : Nat) (σ : MS) , f_X3_book_89 N b g A.1 n (pUp A u σ) = (f_book_89 N n σ).map (pL A u) := by
  intro n
  induction n with
  | zero => intro σ ; rfl
  | succ n ih =>
    intro σ 
    simp only [f_X3_book_89, f_book_89, s_next hA, s_line hA hT, s_book_116 hA, p_gi (k := 6) rfl, p_gi (k := 13) rfl, p_is, p_ldZ hA, p_stZ hA, p_ldL hA, p_stL hA, p_ib, p_fit, p_ucall, p_mcall, p_mcallv, p_mite, p_mbv, p_mb2, p_let, p_bs, p_ms, p_mn, p_pL, if_true, eq_self, ih]
set_option maxRecDepth 100000 in
theorem s_book (hA : pGood b A) (hT : ∀ j < 52, pLit b u (g.2.1 j) (pTx j))  {σ : MS} {x1 : Int32} : f_X3_book N b g (pUp A u σ) A.1 x1 = (f_book N σ x1).map (pL A u) := by
  simp only [f_X3_book, f_book, s_good hA, s_within hA, s_no hA, s_store hA, s_begins hA, s_line hA hT, s_book_89 hA hT, p_gi (k := 2) rfl, p_put hA (k := 2) rfl, p_put hA (k := 9) rfl, p_put hA (k := 22) rfl, p_put hA (k := 23) rfl, p_put hA (k := 24) rfl, p_put hA (k := 25) rfl, p_put hA (k := 26) rfl, p_put hA (k := 27) rfl, p_put hA (k := 28) rfl, p_put hA (k := 29) rfl, p_is, p_ldZ hA, p_stZ hA, p_ldL hA, p_stL hA, p_ib, p_fit, p_ucall, p_mcall, p_mcallv, p_mite, p_mbv, p_mb2, p_let, p_bs, p_ms, p_mn, p_pL, if_true, eq_self]
set_option maxRecDepth 100000 in
theorem s_wayWord_53 (hA : pGood b A)  {σ : MS} {s0 : Int32} : f_X3_wayWord_53 N b g A.1 (pUp A u σ) s0 = (f_wayWord_53 N σ s0).map (pL A u) := by
  simp only [f_X3_wayWord_53, f_wayWord_53, p_is, p_ldZ hA, p_stZ hA, p_ldL hA, p_stL hA, p_ib, p_fit, p_ucall, p_mcall, p_mcallv, p_mite, p_mbv, p_mb2, p_let, p_bs, p_ms, p_mn, p_pL, if_true, eq_self]
set_option maxRecDepth 100000 in
theorem s_wayWord (hA : pGood b A) (hT : ∀ j < 52, pLit b u (g.2.1 j) (pTx j))  {σ : MS}  : f_X3_wayWord N b g (pUp A u σ) A.1 = (f_wayWord N σ).map (pL A u) := by
  simp only [f_X3_wayWord, f_wayWord, s_word hA (hT 38 (by decide)), s_word hA (hT 39 (by decide)), s_word hA (hT 40 (by decide)), s_word hA (hT 41 (by decide)), s_wayWord_53 hA, p_is, p_ldZ hA, p_stZ hA, p_ldL hA, p_stL hA, p_ib, p_fit, p_ucall, p_mcall, p_mcallv, p_mite, p_mbv, p_mb2, p_let, p_bs, p_ms, p_mn, p_pL, if_true, eq_self]
set_option maxRecDepth 100000 in
theorem s_opens_87 (hA : pGood b A)  {σ : MS} {x2 : Int32} {x4 : Int32} : f_X3_opens_87 N b g A.1 (pUp A u σ) x2 x4 = (f_opens_87 N σ x2 x4).map (pL A u) := by
  simp only [f_X3_opens_87, f_opens_87, s_order hA, p_is, p_ldZ hA, p_stZ hA, p_ldL hA, p_stL hA, p_ib, p_fit, p_ucall, p_mcall, p_mcallv, p_mite, p_mbv, p_mb2, p_let, p_bs, p_ms, p_mn, p_pL, if_true, eq_self]
set_option maxRecDepth 100000 in
theorem s_opens_30 (hA : pGood b A) (hT : ∀ j < 52, pLit b u (g.2.1 j) (pTx j))  {σ : MS} {x1 : Int32} {x2 : Int32} {x3 : Int32} : f_X3_opens_30 N b g A.1 (pUp A u σ) x1 x2 x3 = (f_opens_30 N σ x1 x2 x3).map (pL A u) := by
  simp only [f_X3_opens_30, f_opens_30, s_wrong hA, s_next hA, s_number hA, s_opens_87 hA, s_must hA (hT 36 (by decide)), s_isName hA hT, s_find hA (j1 := 14) rfl (j2 := 15) rfl, s_find hA (j1 := 14) rfl (j2 := 60) rfl, s_find hA (j1 := 15) rfl (j2 := 14) rfl, s_find hA (j1 := 15) rfl (j2 := 60) rfl, s_find hA (j1 := 60) rfl (j2 := 14) rfl, s_find hA (j1 := 60) rfl (j2 := 15) rfl, s_order hA, p_gi (k := 4) rfl, p_gi (k := 6) rfl, p_gi (k := 7) rfl, p_gi (k := 13) rfl, p_gi (k := 22) rfl, p_gi (k := 37) rfl, p_gi (k := 59) rfl, p_gr (k := 14) rfl, p_gr (k := 15) rfl, p_gr (k := 60) rfl, p_gr (k := 62) rfl, p_put hA (k := 59) rfl, p_stI hA (j := 14) rfl, p_stI hA (j := 15) rfl, p_stI hA (j := 60) rfl, p_is, p_ldZ hA, p_stZ hA, p_ldL hA, p_stL hA, p_ib, p_fit, p_ucall, p_mcall, p_mcallv, p_mite, p_mbv, p_mb2, p_let, p_bs, p_ms, p_mn, p_pL, if_true, eq_self]
set_option maxRecDepth 100000 in
theorem s_opens (hA : pGood b A) (hT : ∀ j < 52, pLit b u (g.2.1 j) (pTx j))  {σ : MS} {x1 : Int32} : f_X3_opens N b g (pUp A u σ) A.1 x1 = (f_opens N σ x1).map (pL A u) := by
  simp only [f_X3_opens, f_opens, s_wayWord hA hT, s_word hA (hT 35 (by decide)), s_opens_30 hA hT, s_wrong hA, p_gi (k := 4) rfl, p_is, p_ldZ hA, p_stZ hA, p_ldL hA, p_stL hA, p_ib, p_fit, p_ucall, p_mcall, p_mcallv, p_mite, p_mbv, p_mb2, p_let, p_bs, p_ms, p_mn, p_pL, if_true, eq_self]
set_option maxRecDepth 100000 in
theorem s_reads_244 (hA : pGood b A)  {σ : MS}  : f_X3_reads_244 N b g A.1 (pUp A u σ) = (f_reads_244 N σ).map (pUp A u) := by
  simp only [f_X3_reads_244, f_reads_244, p_is, p_ldZ hA, p_stZ hA, p_ldL hA, p_stL hA, p_ib, p_fit, p_ucall, p_mcall, p_mcallv, p_mite, p_mbv, p_mb2, p_let, p_bs, p_ms, p_mn, p_pL, if_true, eq_self]
set_option maxRecDepth 100000 in
theorem s_reads_234 (hA : pGood b A)  {σ : MS}  : f_X3_reads_234 N b g A.1 (pUp A u σ) = (f_reads_234 N σ).map (pUp A u) := by
  simp only [f_X3_reads_234, f_reads_234, s_wrong hA, s_reads_244 hA, p_gi (k := 4) rfl, p_is, p_ldZ hA, p_stZ hA, p_ldL hA, p_stL hA, p_ib, p_fit, p_ucall, p_mcall, p_mcallv, p_mite, p_mbv, p_mb2, p_let, p_bs, p_ms, p_mn, p_pL, if_true, eq_self]
set_option maxRecDepth 100000 in
theorem s_reads_220 (hA : pGood b A) {k4 : UH → Int32 → Int32 → Option (UH)} {k4' : MS → Int32 → Int32 → Option (MS)} (hk4 : ∀ (σ : MS) (z0 : Int32) (z1 : Int32), k4 (pUp A u σ) z0 z1 = (k4' σ z0 z1).map (pUp A u)) {σ : MS} {x1 : Int32} {x2 : Int32} : f_X3_reads_220 N b g A.1 k4 (pUp A u σ) x1 x2 = (f_reads_220 N k4' σ x1 x2).map (pUp A u) := by
  simp only [f_X3_reads_220, f_reads_220, hk4, p_is, p_ldZ hA, p_stZ hA, p_ldL hA, p_stL hA, p_ib, p_fit, p_ucall, p_mcall, p_mcallv, p_mite, p_mbv, p_mb2, p_let, p_bs, p_ms, p_mn, p_pL, if_true, eq_self]
set_option maxRecDepth 100000 in
theorem s_reads_211 (hA : pGood b A) {k4 : UH → Int32 → Int32 → Option (UH)} {k4' : MS → Int32 → Int32 → Option (MS)} (hk4 : ∀ (σ : MS) (z0 : Int32) (z1 : Int32), k4 (pUp A u σ) z0 z1 = (k4' σ z0 z1).map (pUp A u)) {σ : MS} {x1 : Int32} {s0 : Int32} : f_X3_reads_211 N b g A.1 k4 (pUp A u σ) x1 s0 = (f_reads_211 N k4' σ x1 s0).map (pUp A u) := by
  simp only [f_X3_reads_211, f_reads_211, s_reads_220 hA hk4, s_next hA, hk4, p_is, p_ldZ hA, p_stZ hA, p_ldL hA, p_stL hA, p_ib, p_fit, p_ucall, p_mcall, p_mcallv, p_mite, p_mbv, p_mb2, p_let, p_bs, p_ms, p_mn, p_pL, if_true, eq_self]
set_option maxRecDepth 100000 in
theorem s_reads_189 (hA : pGood b A) {k4 : UH → Int32 → Int32 → Option (UH)} {k4' : MS → Int32 → Int32 → Option (MS)} (hk4 : ∀ (σ : MS) (z0 : Int32) (z1 : Int32), k4 (pUp A u σ) z0 z1 = (k4' σ z0 z1).map (pUp A u)) {σ : MS} {x1 : Int32} {x2 : Int32} {x4 : Int32} : f_X3_reads_189 N b g A.1 k4 (pUp A u σ) x1 x2 x4 = (f_reads_189 N k4' σ x1 x2 x4).map (pUp A u) := by
  simp only [f_X3_reads_189, f_reads_189, s_reads_211 hA hk4, hk4, p_gi (k := 6) rfl, p_is, p_ldZ hA, p_stZ hA, p_ldL hA, p_stL hA, p_ib, p_fit, p_ucall, p_mcall, p_mcallv, p_mite, p_mbv, p_mb2, p_let, p_bs, p_ms, p_mn, p_pL, if_true, eq_self]
set_option maxRecDepth 100000 in
theorem s_reads_186 (hA : pGood b A) {k4 : UH → Int32 → Int32 → Option (UH)} {k4' : MS → Int32 → Int32 → Option (MS)} (hk4 : ∀ (σ : MS) (z0 : Int32) (z1 : Int32), k4 (pUp A u σ) z0 z1 = (k4' σ z0 z1).map (pUp A u)) {k35 : UH → Int32 → Int32 → Int32 → Option (UH)} {k35' : MS → Int32 → Int32 → Int32 → Option (MS)} (hk35 : ∀ (σ : MS) (z0 : Int32) (z1 : Int32) (z2 : Int32), k35 (pUp A u σ) z0 z1 z2 = (k35' σ z0 z1 z2).map (pUp A u)) {σ : MS} {x1 : Int32} {x2 : Int32} {x4 : Int32} : f_X3_reads_186 N b g A.1 k4 k35 (pUp A u σ) x1 x2 x4 = (f_reads_186 N k4' k35' σ x1 x2 x4).map (pUp A u) := by
  simp only [f_X3_reads_186, f_reads_186, hk4, hk35, p_is, p_ldZ hA, p_stZ hA, p_ldL hA, p_stL hA, p_ib, p_fit, p_ucall, p_mcall, p_mcallv, p_mite, p_mbv, p_mb2, p_let, p_bs, p_ms, p_mn, p_pL, if_true, eq_self]
set_option maxRecDepth 100000 in
theorem s_reads_183 (hA : pGood b A) {k4 : UH → Int32 → Int32 → Option (UH)} {k4' : MS → Int32 → Int32 → Option (MS)} (hk4 : ∀ (σ : MS) (z0 : Int32) (z1 : Int32), k4 (pUp A u σ) z0 z1 = (k4' σ z0 z1).map (pUp A u)) {k35 : UH → Int32 → Int32 → Int32 → Option (UH)} {k35' : MS → Int32 → Int32 → Int32 → Option (MS)} (hk35 : ∀ (σ : MS) (z0 : Int32) (z1 : Int32) (z2 : Int32), k35 (pUp A u σ) z0 z1 z2 = (k35' σ z0 z1 z2).map (pUp A u)) {σ : MS} {x1 : Int32} {x2 : Int32} {x4 : Int32} {s0 : Int32} : f_X3_reads_183 N b g A.1 k4 k35 (pUp A u σ) x1 x2 x4 s0 (some A.1) = (f_reads_183 N k4' k35' σ x1 x2 x4 s0).map (pUp A u) := by
  simp only [f_X3_reads_183, f_reads_183, s_lands hA, s_reads_186 hA hk4 hk35, hk4, hk35, p_is, p_ldZ hA, p_stZ hA, p_ldL hA, p_stL hA, p_ib, p_fit, p_ucall, p_mcall, p_mcallv, p_mite, p_mbv, p_mb2, p_let, p_bs, p_ms, p_mn, p_pL, if_true, eq_self]
set_option maxRecDepth 100000 in
theorem s_reads_83 (hA : pGood b A) {k4 : UH → Int32 → Int32 → Option (UH)} {k4' : MS → Int32 → Int32 → Option (MS)} (hk4 : ∀ (σ : MS) (z0 : Int32) (z1 : Int32), k4 (pUp A u σ) z0 z1 = (k4' σ z0 z1).map (pUp A u)) {k35 : UH → Int32 → Int32 → Int32 → Option (UH)} {k35' : MS → Int32 → Int32 → Int32 → Option (MS)} (hk35 : ∀ (σ : MS) (z0 : Int32) (z1 : Int32) (z2 : Int32), k35 (pUp A u σ) z0 z1 z2 = (k35' σ z0 z1 z2).map (pUp A u)) {σ : MS} {x1 : Int32} {x2 : Int32} {x4 : Int32} {s0 : Int32} : f_X3_reads_83 N b g A.1 k4 k35 (pUp A u σ) x1 x2 x4 s0 = (f_reads_83 N k4' k35' σ x1 x2 x4 s0).map (pUp A u) := by
  simp only [f_X3_reads_83, f_reads_83, s_reads_183 hA hk4 hk35, s_next hA, s_order hA, s_lands hA, s_reads_186 hA hk4 hk35, s_wrong hA, hk4, hk35, p_gi (k := 4) rfl, p_gi (k := 6) rfl, p_gr (k := 60) rfl, p_gr (k := 61) rfl, p_gr (k := 62) rfl, p_ldI hA (j := 60) rfl, p_stI hA (j := 60) rfl, p_ldI hA (j := 61) rfl, p_stI hA (j := 61) rfl, p_is, p_ldZ hA, p_stZ hA, p_ldL hA, p_stL hA, p_ib, p_fit, p_ucall, p_mcall, p_mcallv, p_mite, p_mbv, p_mb2, p_let, p_bs, p_ms, p_mn, p_pL, if_true, eq_self]
set_option maxRecDepth 100000 in
theorem s_reads_82 (hA : pGood b A) {k4 : UH → Int32 → Int32 → Option (UH)} {k4' : MS → Int32 → Int32 → Option (MS)} (hk4 : ∀ (σ : MS) (z0 : Int32) (z1 : Int32), k4 (pUp A u σ) z0 z1 = (k4' σ z0 z1).map (pUp A u)) {k35 : UH → Int32 → Int32 → Int32 → Option (UH)} {k35' : MS → Int32 → Int32 → Int32 → Option (MS)} (hk35 : ∀ (σ : MS) (z0 : Int32) (z1 : Int32) (z2 : Int32), k35 (pUp A u σ) z0 z1 z2 = (k35' σ z0 z1 z2).map (pUp A u)) {σ : MS} {x1 : Int32} {x2 : Int32} {x4 : Int32} : f_X3_reads_82 N b g A.1 k4 k35 (pUp A u σ) x1 x2 x4 = (f_reads_82 N k4' k35' σ x1 x2 x4).map (pUp A u) := by
  simp only [f_X3_reads_82, f_reads_82, s_reads_83 hA hk4 hk35, hk4, hk35, p_is, p_ldZ hA, p_stZ hA, p_ldL hA, p_stL hA, p_ib, p_fit, p_ucall, p_mcall, p_mcallv, p_mite, p_mbv, p_mb2, p_let, p_bs, p_ms, p_mn, p_pL, if_true, eq_self]
set_option maxRecDepth 100000 in
theorem s_reads_35 (hA : pGood b A) (hT : ∀ j < 52, pLit b u (g.2.1 j) (pTx j)) {k4 : UH → Int32 → Int32 → Option (UH)} {k4' : MS → Int32 → Int32 → Option (MS)} (hk4 : ∀ (σ : MS) (z0 : Int32) (z1 : Int32), k4 (pUp A u σ) z0 z1 = (k4' σ z0 z1).map (pUp A u)) : ∀ (n : Nat) (σ : MS) (x1 : Int32) (x2 : Int32) (x4 : Int32), f_X3_reads_35 N b g A.1 k4 n (pUp A u σ) x1 x2 x4 = (f_reads_35 N k4' n σ x1 x2 x4).map (pUp A u) := by
  intro n
  induction n with
  | zero => intro σ x1 x2 x4; rfl
  | succ n ih =>
    intro σ x1 x2 x4
    simp only [f_X3_reads_35, f_reads_35, s_reads_189 hA hk4, s_next hA, s_word hA (hT 37 (by decide)), s_reads_82 hA hk4 ih, s_reads_83 hA hk4 ih, hk4, p_gi (k := 6) rfl, p_gr (k := 62) rfl, p_is, p_ldZ hA, p_stZ hA, p_ldL hA, p_stL hA, p_ib, p_fit, p_ucall, p_mcall, p_mcallv, p_mite, p_mbv, p_mb2, p_let, p_bs, p_ms, p_mn, p_pL, if_true, eq_self, ih]
set_option maxRecDepth 100000 in
theorem s_reads_4 (hA : pGood b A) (hT : ∀ j < 52, pLit b u (g.2.1 j) (pTx j))  : ∀ (n : Nat) (σ : MS) (x1 : Int32) (x2 : Int32), f_X3_reads_4 N b g A.1 n (pUp A u σ) x1 x2 = (f_reads_4 N n σ x1 x2).map (pUp A u) := by
  intro n
  induction n with
  | zero => intro σ x1 x2; rfl
  | succ n ih =>
    intro σ x1 x2
    simp only [f_X3_reads_4, f_reads_4, s_reads_234 hA, s_reads_244 hA, s_opens hA hT, s_reads_35 hA hT ih, p_gi (k := 6) rfl, p_gi (k := 13) rfl, p_is, p_ldZ hA, p_stZ hA, p_ldL hA, p_stL hA, p_ib, p_fit, p_ucall, p_mcall, p_mcallv, p_mite, p_mbv, p_mb2, p_let, p_bs, p_ms, p_mn, p_pL, if_true, eq_self, ih]
set_option maxRecDepth 100000 in
theorem s_reads (hA : pGood b A) (hT : ∀ j < 52, pLit b u (g.2.1 j) (pTx j))  {σ : MS}  : f_X3_reads N b g (pUp A u σ) A.1 = (f_reads N σ).map (pUp A u) := by
  simp only [f_X3_reads, f_reads, s_reads_4 hA hT, p_is, p_ldZ hA, p_stZ hA, p_ldL hA, p_stL hA, p_ib, p_fit, p_ucall, p_mcall, p_mcallv, p_mite, p_mbv, p_mb2, p_let, p_bs, p_ms, p_mn, p_pL, if_true, eq_self]
set_option maxRecDepth 100000 in
theorem s_plan (hA : pGood b A) (hT : ∀ j < 52, pLit b u (g.2.1 j) (pTx j))  {σ : MS} {x1 : Int32} : f_X3_plan N b g (pUp A u σ) A.1 x1 = (f_plan N σ x1).map (pL A u) := by
  simp only [f_X3_plan, f_plan, s_good hA, s_no hA, s_within hA, s_begins hA, s_reads hA hT, p_gi (k := 2) rfl, p_gi (k := 13) rfl, p_gi (k := 34) rfl, p_gi (k := 40) rfl, p_gi (k := 58) rfl, p_gr (k := 57) rfl, p_put hA (k := 2) rfl, p_put hA (k := 9) rfl, p_put hA (k := 40) rfl, p_put hA (k := 58) rfl, p_put hA (k := 59) rfl, p_stI hA (j := 57) rfl, p_is, p_ldZ hA, p_stZ hA, p_ldL hA, p_stL hA, p_ib, p_fit, p_ucall, p_mcall, p_mcallv, p_mite, p_mbv, p_mb2, p_let, p_bs, p_ms, p_mn, p_pL, if_true, eq_self]
end

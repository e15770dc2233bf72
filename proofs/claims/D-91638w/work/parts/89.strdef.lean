/-! BY gen_str.py: the methods with strings, over sigma -/
def pTx (j : Nat) : List Int32 := ((gTx[j]?).getD ([], 0)).1
def f_word_26 (N : Nat) (σ : MS) : Option (Int32 × MS) :=
    some (0, σ)
def f_word_63 (N : Nat) (tx : List Int32) (k32 : MS → Int32 → Int32 → Option (Int32 × MS)) (σ : MS) (x3 : Int32) (s0 : Int32) : Option (Int32 × MS) :=
    mlet (x3 + 1) fun y1 =>
    k32 σ s0 y1
def f_word_62 (N : Nat) (tx : List Int32) (k32 : MS → Int32 → Int32 → Option (Int32 × MS)) (σ : MS) (x3 : Int32) : Option (Int32 × MS) :=
    f_word_63 N tx k32 σ x3 0
def f_word_32 (N : Nat) (tx : List Int32) : Nat → MS → Int32 → Int32 → Option (Int32 × MS)
  | 0, _, _, _ => none
  | n + 1, σ, x2, x3 =>
    mlet (σ.1 8) fun y1 =>
    if y1 ≤ x3 then
    if mBit x2 = true then
    some (x2, σ)
    else
    none
    else
    if x2 = 0 then
    f_word_62 N tx (f_word_32 N tx n) σ x3
    else
    if mIn x3 (mLen 11) = true then mlet (σ.2.1 11 x3.toNatClampNeg) fun y7 =>
    if mIn x3 tx.length = true then mlet (tx.getD x3.toNatClampNeg 0) fun r12 =>
    if y7 = r12 then
    f_word_63 N tx (f_word_32 N tx n) σ x3 1
    else
    f_word_62 N tx (f_word_32 N tx n) σ x3
    else none
    else none
def f_word (N : Nat) (tx : List Int32) (σ : MS) : Option (Int32 × MS) :=
    mlet (σ.1 13) fun y1 =>
    if y1 = 0 then
    mlet (σ.1 6) fun y3 =>
    if y3 = 2 then
    mlet (σ.1 8) fun y5 =>
    mlet (Int32.ofNat tx.length) fun r10 =>
    if y5 = r10 then
    f_word_32 N tx N σ 1 0
    else
    f_word_26 N σ
    else
    f_word_26 N σ
    else
    f_word_26 N σ
def f_isName_113 (N : Nat) (σ : MS) (s0 : Int32) : Option (Int32 × MS) :=
    if mBit s0 = true then
    some (s0, σ)
    else
    none
def f_isName_112 (N : Nat) (σ : MS) : Option (Int32 × MS) :=
    f_isName_113 N σ 0
def f_isName_95 (N : Nat) (σ : MS) (s0 : Int32) : Option (Int32 × MS) :=
    mlet (σ.1 6) fun y1 =>
    if y1 = 2 then
    if s0 = 0 then
    f_isName_113 N σ 1
    else
    f_isName_112 N σ
    else
    f_isName_112 N σ
def f_isName_90 (N : Nat) (σ : MS) : Option (Int32 × MS) :=
    f_isName_95 N σ 1
def f_isName (N : Nat) (σ : MS) : Option (Int32 × MS) :=
    mcall (f_word N (pTx 32) σ) fun r4 σ2 =>
    if r4 = 0 then
    mcall (f_word N (pTx 33) σ2) fun r9 σ7 =>
    if r9 = 0 then
    mcall (f_word N (pTx 34) σ7) fun r14 σ12 =>
    if r14 = 0 then
    mcall (f_word N (pTx 35) σ12) fun r19 σ17 =>
    if r19 = 0 then
    mcall (f_word N (pTx 36) σ17) fun r24 σ22 =>
    if r24 = 0 then
    mcall (f_word N (pTx 37) σ22) fun r29 σ27 =>
    if r29 = 0 then
    mcall (f_word N (pTx 38) σ27) fun r34 σ32 =>
    if r34 = 0 then
    mcall (f_word N (pTx 39) σ32) fun r39 σ37 =>
    if r39 = 0 then
    mcall (f_word N (pTx 40) σ37) fun r44 σ42 =>
    if r44 = 0 then
    mcall (f_word N (pTx 41) σ42) fun r49 σ47 =>
    if r49 = 0 then
    f_isName_95 N σ47 0
    else
    f_isName_90 N σ47
    else
    f_isName_90 N σ42
    else
    f_isName_90 N σ37
    else
    f_isName_90 N σ32
    else
    f_isName_90 N σ27
    else
    f_isName_90 N σ22
    else
    f_isName_90 N σ17
    else
    f_isName_90 N σ12
    else
    f_isName_90 N σ7
    else
    f_isName_90 N σ2
def f_must (N : Nat) (tx : List Int32) (σ : MS) : Option (Int32 × MS) :=
    mlet (σ.1 13) fun y1 =>
    if y1 = 0 then
    mcall (f_word N tx σ) fun r6 σ4 =>
    if r6 = 0 then
    mlet (σ4.1 4) fun y11 =>
    mcall (f_wrong N σ4 1 y11) fun r15 σ13 =>
    if mBit r15 = true then
    some (r15, σ13)
    else
    none
    else
    mcallv (f_next N σ4) fun σ9 =>
    some (1, σ9)
    else
    some (0, σ)
def f_groundLine_203 (N : Nat) (σ : MS) : Option (MS) :=
    some σ
def f_groundLine_83 (N : Nat) : Nat → MS → Int32 → Option (MS)
  | 0, _, _ => none
  | n + 1, σ, x1 =>
    mlet (σ.1 8) fun y1 =>
    if y1 ≤ x1 then
    mlet (σ.1 22) fun y4 =>
    mlet (σ.1 8) fun y5 =>
    if mIn y4 (mLen 15) = true then mlet (mArr σ 15 y4.toNatClampNeg y5) fun σ7 =>
    mcallv (f_next N σ7) fun σ9 =>
    mcall (f_must N (pTx 42) σ9) fun r14 σ12 =>
    mlet (σ12.1 22) fun y16 =>
    mcall (f_pairs N 20 σ12 1) fun r21 σ19 =>
    if mIn y16 (mLen 18) = true then mlet (mArr σ19 18 y16.toNatClampNeg r21) fun σ23 =>
    mcall (f_must N (pTx 43) σ23) fun r27 σ25 =>
    mlet (σ25.1 22) fun y29 =>
    mcall (f_pairs N 21 σ25 0) fun r34 σ32 =>
    if mIn y29 (mLen 19) = true then mlet (mArr σ32 19 y29.toNatClampNeg r34) fun σ36 =>
    mlet (σ36.1 13) fun y37 =>
    if y37 = 0 then
    mlet (σ36.1 22) fun y39 =>
    mlet (mSet σ36 22 ((y39 + 1))) fun σ40 =>
    f_groundLine_203 N σ40
    else
    f_groundLine_203 N σ36
    else none
    else none
    else none
    else
    mlet (σ.1 22) fun y42 =>
    if mIn x1 (mLen 11) = true then mlet (σ.2.1 11 x1.toNatClampNeg) fun y45 =>
    if mIn ((8 * y42) + x1) (mLen 14) = true then mlet (mArr σ 14 ((8 * y42) + x1).toNatClampNeg y45) fun σ47 =>
    mlet (x1 + 1) fun y48 =>
    f_groundLine_83 N n σ47 y48
    else none
    else none
def f_groundLine_73 (N : Nat) (σ : MS) : Option (MS) :=
    mlet (σ.1 13) fun y1 =>
    if y1 = 0 then
    f_groundLine_83 N N σ 0
    else
    some σ
def f_groundLine_47 (N : Nat) (σ : MS) : Option (MS) :=
    mlet (σ.1 13) fun y1 =>
    if y1 = 0 then
    mlet (σ.1 22) fun y3 =>
    if y3 = 8 then
    mlet (σ.1 4) fun y5 =>
    mcall (f_wrong N σ 5 y5) fun r9 σ7 =>
    f_groundLine_73 N σ7
    else
    f_groundLine_73 N σ
    else
    f_groundLine_73 N σ
def f_groundLine (N : Nat) (σ : MS) : Option (MS) :=
    mcall (f_isName N σ) fun r4 σ2 =>
    if r4 = 0 then
    mlet (σ2.1 4) fun y19 =>
    mcall (f_wrong N σ2 1 y19) fun r23 σ21 =>
    some σ21
    else
    mlet (σ2.1 22) fun y8 =>
    mcall (f_find N 14 15 σ2 y8) fun r12 σ10 =>
    if r12 < 0 then
    f_groundLine_47 N σ10
    else
    mlet (σ10.1 4) fun y14 =>
    mcall (f_wrong N σ10 3 y14) fun r18 σ16 =>
    f_groundLine_47 N σ16
def f_tryLine_223 (N : Nat) (σ : MS) : Option (MS) :=
    some σ
def f_tryLine_83 (N : Nat) : Nat → MS → Int32 → Option (MS)
  | 0, _, _ => none
  | n + 1, σ, x1 =>
    mlet (σ.1 8) fun y1 =>
    if y1 ≤ x1 then
    mlet (σ.1 23) fun y4 =>
    mlet (σ.1 8) fun y5 =>
    if mIn y4 (mLen 17) = true then mlet (mArr σ 17 y4.toNatClampNeg y5) fun σ7 =>
    mcallv (f_next N σ7) fun σ9 =>
    mcall (f_must N (pTx 49) σ9) fun r14 σ12 =>
    mlet (σ12.1 23) fun y16 =>
    mcall (f_signed N σ12 (-4) 4) fun r20 σ18 =>
    if mIn y16 (mLen 30) = true then mlet (mArr σ18 30 y16.toNatClampNeg r20) fun σ22 =>
    mcall (f_must N (pTx 50) σ22) fun r26 σ24 =>
    mlet (σ24.1 23) fun y28 =>
    mcall (f_signed N σ24 (-4) 4) fun r32 σ30 =>
    if mIn y28 (mLen 31) = true then mlet (mArr σ30 31 y28.toNatClampNeg r32) fun σ34 =>
    mcall (f_must N (pTx 51) σ34) fun r38 σ36 =>
    mlet (σ36.1 23) fun y40 =>
    mcall (f_number N σ36 1 99) fun r44 σ42 =>
    if mIn y40 (mLen 32) = true then mlet (mArr σ42 32 y40.toNatClampNeg r44) fun σ46 =>
    mlet (σ46.1 13) fun y47 =>
    if y47 = 0 then
    mlet (σ46.1 23) fun y49 =>
    mlet (mSet σ46 23 ((y49 + 1))) fun σ50 =>
    f_tryLine_223 N σ50
    else
    f_tryLine_223 N σ46
    else none
    else none
    else none
    else none
    else
    mlet (σ.1 23) fun y52 =>
    if mIn x1 (mLen 11) = true then mlet (σ.2.1 11 x1.toNatClampNeg) fun y55 =>
    if mIn ((8 * y52) + x1) (mLen 16) = true then mlet (mArr σ 16 ((8 * y52) + x1).toNatClampNeg y55) fun σ57 =>
    mlet (x1 + 1) fun y58 =>
    f_tryLine_83 N n σ57 y58
    else none
    else none
def f_tryLine_73 (N : Nat) (σ : MS) : Option (MS) :=
    mlet (σ.1 13) fun y1 =>
    if y1 = 0 then
    f_tryLine_83 N N σ 0
    else
    some σ
def f_tryLine_47 (N : Nat) (σ : MS) : Option (MS) :=
    mlet (σ.1 13) fun y1 =>
    if y1 = 0 then
    mlet (σ.1 23) fun y3 =>
    if y3 = 6 then
    mlet (σ.1 4) fun y5 =>
    mcall (f_wrong N σ 5 y5) fun r9 σ7 =>
    f_tryLine_73 N σ7
    else
    f_tryLine_73 N σ
    else
    f_tryLine_73 N σ
def f_tryLine (N : Nat) (σ : MS) : Option (MS) :=
    mcall (f_isName N σ) fun r4 σ2 =>
    if r4 = 0 then
    mlet (σ2.1 4) fun y19 =>
    mcall (f_wrong N σ2 1 y19) fun r23 σ21 =>
    some σ21
    else
    mlet (σ2.1 23) fun y8 =>
    mcall (f_find N 16 17 σ2 y8) fun r12 σ10 =>
    if r12 < 0 then
    f_tryLine_47 N σ10
    else
    mlet (σ10.1 4) fun y14 =>
    mcall (f_wrong N σ10 3 y14) fun r18 σ16 =>
    f_tryLine_47 N σ16
def f_line_187 (N : Nat) (σ : MS) : Option (MS) :=
    some σ
def f_line (N : Nat) (σ : MS) : Option (MS) :=
    mcall (f_word N (pTx 32) σ) fun r4 σ2 =>
    if r4 = 0 then
    mcall (f_word N (pTx 33) σ2) fun r9 σ7 =>
    if r9 = 0 then
    mcall (f_word N (pTx 34) σ7) fun r14 σ12 =>
    if r14 = 0 then
    mlet (σ12.1 4) fun y16 =>
    mcall (f_wrong N σ12 1 y16) fun r20 σ18 =>
    f_line_187 N σ18
    else
    mcallv (f_next N σ12) fun σ22 =>
    mcallv (f_tryLine N σ22) fun σ25 =>
    f_line_187 N σ25
    else
    mlet (σ7.1 29) fun y27 =>
    if y27 = 0 then
    mcallv (f_next N σ7) fun σ30 =>
    mlet (mSet σ30 29 (1)) fun σ32 =>
    mcall (f_must N (pTx 44) σ32) fun r36 σ34 =>
    mcall (f_number N σ34 2 6) fun r40 σ38 =>
    mlet (mSet σ38 24 (r40)) fun σ41 =>
    mcall (f_must N (pTx 45) σ41) fun r45 σ43 =>
    mcall (f_number N σ43 1 999) fun r49 σ47 =>
    mlet (mSet σ47 25 (r49)) fun σ50 =>
    mcall (f_must N (pTx 46) σ50) fun r54 σ52 =>
    mcall (f_number N σ52 1 300) fun r58 σ56 =>
    mlet (mSet σ56 26 (r58)) fun σ59 =>
    mcall (f_must N (pTx 47) σ59) fun r63 σ61 =>
    mcall (f_number N σ61 0 300) fun r67 σ65 =>
    mlet (mSet σ65 27 (r67)) fun σ68 =>
    mcall (f_must N (pTx 48) σ68) fun r72 σ70 =>
    mcall (f_number N σ70 0 99) fun r76 σ74 =>
    mlet (mSet σ74 28 (r76)) fun σ77 =>
    f_line_187 N σ77
    else
    mlet (σ7.1 4) fun y78 =>
    mcall (f_wrong N σ7 3 y78) fun r82 σ80 =>
    some σ80
    else
    mcallv (f_next N σ2) fun σ84 =>
    mcallv (f_groundLine N σ84) fun σ87 =>
    f_line_187 N σ87
def f_book_195 (N : Nat) : Nat → MS → Int32 → Option (Int32 × MS)
  | 0, _, _ => none
  | n + 1, σ, x2 =>
    if 6 ≤ x2 then
    mlet (σ.1 22) fun y2 =>
    some (y2, σ)
    else
    if mIn x2 (mLen 47) = true then mlet (mArr σ 47 x2.toNatClampNeg 0) fun σ5 =>
    mlet (x2 + 1) fun y6 =>
    f_book_195 N n σ5 y6
    else none
def f_book_140 (N : Nat) (σ : MS) : Option (Int32 × MS) :=
    mlet (σ.1 13) fun y1 =>
    if y1 = 0 then
    mlet (mSet σ 12 (1)) fun σ3 =>
    mlet (mSet σ3 69 (0)) fun σ4 =>
    mlet (mSet σ4 34 (0)) fun σ5 =>
    mlet (mSet σ5 40 (0)) fun σ6 =>
    mlet (mSet σ6 37 (0)) fun σ7 =>
    mlet (mSet σ7 38 (0)) fun σ8 =>
    mlet (mSet σ8 51 (0)) fun σ9 =>
    f_book_195 N N σ9 0
    else
    mcallv (f_store N σ 1) fun σ11 =>
    mcall (f_no N σ11 4) fun r16 σ14 =>
    some (r16, σ14)
def f_book_116 (N : Nat) (σ : MS) : Option (Int32 × MS) :=
    mlet (σ.1 13) fun y1 =>
    if y1 = 0 then
    mlet (σ.1 6) fun y3 =>
    if y3 = 0 then
    f_book_140 N σ
    else
    mlet (σ.1 4) fun y5 =>
    mcall (f_wrong N σ 1 y5) fun r9 σ7 =>
    f_book_140 N σ7
    else
    f_book_140 N σ
def f_book_89 (N : Nat) : Nat → MS → Option (Int32 × MS)
  | 0, _ => none
  | n + 1, σ =>
    mlet (σ.1 13) fun y1 =>
    if y1 = 0 then
    mlet (σ.1 6) fun y3 =>
    if y3 = 59 then
    mcallv (f_next N σ) fun σ6 =>
    mcallv (f_line N σ6) fun σ9 =>
    f_book_89 N n σ9
    else
    f_book_116 N σ
    else
    f_book_116 N σ
def f_book (N : Nat) (σ : MS) (x1 : Int32) : Option (Int32 × MS) :=
    mcallv (f_good N σ) fun σ2 =>
    mlet (σ2.1 2) fun y4 =>
    mcall (f_within N σ2 x1 0 y4) fun r7 σ5 =>
    if r7 = 0 then
    mcall (f_no N σ5 2) fun r31 σ29 =>
    some (r31, σ29)
    else
    mlet (mSet σ5 2 (0)) fun σ9 =>
    mlet (mSet σ9 9 (0)) fun σ10 =>
    mcallv (f_store N σ10 0) fun σ12 =>
    mlet (mSet σ12 22 (0)) fun σ14 =>
    mlet (mSet σ14 23 (0)) fun σ15 =>
    mlet (mSet σ15 24 (4)) fun σ16 =>
    mlet (mSet σ16 25 (100)) fun σ17 =>
    mlet (mSet σ17 26 (100)) fun σ18 =>
    mlet (mSet σ18 27 (100)) fun σ19 =>
    mlet (mSet σ19 28 (0)) fun σ20 =>
    mlet (mSet σ20 29 (0)) fun σ21 =>
    mcallv (f_begins N σ21 x1) fun σ23 =>
    mcallv (f_line N σ23) fun σ26 =>
    f_book_89 N N σ26
def f_wayWord_53 (N : Nat) (σ : MS) (s0 : Int32) : Option (Int32 × MS) :=
    some (s0, σ)
def f_wayWord (N : Nat) (σ : MS) : Option (Int32 × MS) :=
    mcall (f_word N (pTx 38) σ) fun r4 σ2 =>
    if r4 = 0 then
    mcall (f_word N (pTx 39) σ2) fun r9 σ7 =>
    if r9 = 0 then
    mcall (f_word N (pTx 40) σ7) fun r14 σ12 =>
    if r14 = 0 then
    mcall (f_word N (pTx 41) σ12) fun r19 σ17 =>
    if r19 = 0 then
    f_wayWord_53 N σ17 (-1)
    else
    f_wayWord_53 N σ17 3
    else
    f_wayWord_53 N σ12 2
    else
    f_wayWord_53 N σ7 1
    else
    f_wayWord_53 N σ2 0
def f_opens_87 (N : Nat) (σ : MS) (x2 : Int32) (x4 : Int32) : Option (Int32 × MS) :=
    mcall (f_order N σ 0 x2 x4 0) fun r4 σ2 =>
    some (0, σ2)
def f_opens_30 (N : Nat) (σ : MS) (x1 : Int32) (x2 : Int32) (x3 : Int32) : Option (Int32 × MS) :=
    mlet (σ.1 59) fun y1 =>
    if y1 = 40 then
    mlet (σ.1 4) fun y97 =>
    mcall (f_wrong N σ 5 y97) fun r101 σ99 =>
    if mBit r101 = true then
    some (r101, σ99)
    else
    none
    else
    mlet (σ.1 59) fun y3 =>
    mlet (mSet σ 59 ((y3 + 1))) fun σ4 =>
    mcallv (f_next N σ4) fun σ6 =>
    if x3 = 0 then
    mlet (σ6.1 6) fun y91 =>
    if y91 = 3 then
    mcall (f_number N σ6 1 9) fun r96 σ94 =>
    f_opens_87 N σ94 x2 r96
    else
    f_opens_87 N σ6 x2 1
    else
    mlet (σ6.1 6) fun y9 =>
    if y9 = 3 then
    mlet (σ6.1 7) fun y11 =>
    mlet (σ6.1 37) fun y12 =>
    if y11 < y12 then
    mcallv (f_next N σ6) fun σ15 =>
    mcall (f_must N (pTx 36) σ15) fun r20 σ18 =>
    mlet (σ18.1 13) fun y21 =>
    if y21 = 0 then
    mcall (f_isName N σ18) fun r26 σ24 =>
    if r26 = 0 then
    mlet (σ24.1 4) fun y73 =>
    mcall (f_wrong N σ24 1 y73) fun r77 σ75 =>
    if mBit r77 = true then
    some (r77, σ75)
    else
    none
    else
    mlet (σ24.1 22) fun y30 =>
    mcall (f_find N 14 15 σ24 y30) fun r34 σ32 =>
    if 0 ≤ r34 then
    mcallv (f_next N σ32) fun σ37 =>
    mlet (σ37.1 6) fun y39 =>
    if y39 = 40 then
    if x1 = 6 then
    mlet (σ37.1 4) fun y55 =>
    mcall (f_wrong N σ37 5 y55) fun r59 σ57 =>
    if mBit r59 = true then
    some (r59, σ57)
    else
    none
    else
    mcallv (f_next N σ37) fun σ43 =>
    mcall (f_order N σ43 1 y11 r34 0) fun r49 σ47 =>
    if mIn x1 (mLen 60) = true then mlet (mArr σ47 60 x1.toNatClampNeg r49) fun σ51 =>
    if mIn x1 8 = true then mlet (mArr σ51 62 x1.toNatClampNeg (vp_nar .boolean 0)) fun σ54 =>
    some (1, σ54)
    else none
    else none
    else
    mlet (σ37.1 4) fun y61 =>
    mcall (f_wrong N σ37 1 y61) fun r65 σ63 =>
    if mBit r65 = true then
    some (r65, σ63)
    else
    none
    else
    mlet (σ32.1 4) fun y67 =>
    mcall (f_wrong N σ32 2 y67) fun r71 σ69 =>
    if mBit r71 = true then
    some (r71, σ69)
    else
    none
    else
    some (0, σ18)
    else
    mlet (σ6.1 4) fun y79 =>
    mcall (f_wrong N σ6 2 y79) fun r83 σ81 =>
    if mBit r83 = true then
    some (r83, σ81)
    else
    none
    else
    mlet (σ6.1 4) fun y85 =>
    mcall (f_wrong N σ6 1 y85) fun r89 σ87 =>
    if mBit r89 = true then
    some (r89, σ87)
    else
    none
def f_opens (N : Nat) (σ : MS) (x1 : Int32) : Option (Int32 × MS) :=
    mcall (f_wayWord N σ) fun r4 σ2 =>
    mcall (f_word N (pTx 35) σ2) fun r8 σ6 =>
    if 0 ≤ r4 then
    f_opens_30 N σ6 x1 r4 r8
    else
    if r8 = 0 then
    mlet (σ6.1 4) fun y11 =>
    mcall (f_wrong N σ6 1 y11) fun r15 σ13 =>
    if mBit r15 = true then
    some (r15, σ13)
    else
    none
    else
    f_opens_30 N σ6 x1 r4 r8
def f_reads_244 (N : Nat) (σ : MS) : Option (MS) :=
    some σ
def f_reads_234 (N : Nat) (σ : MS) : Option (MS) :=
    mlet (σ.1 4) fun y1 =>
    mcall (f_wrong N σ 1 y1) fun r5 σ3 =>
    f_reads_244 N σ3
def f_reads_220 (N : Nat) (k4 : MS → Int32 → Int32 → Option (MS)) (σ : MS) (x1 : Int32) (x2 : Int32) : Option (MS) :=
    k4 σ x1 x2
def f_reads_211 (N : Nat) (k4 : MS → Int32 → Int32 → Option (MS)) (σ : MS) (x1 : Int32) (s0 : Int32) : Option (MS) :=
    if s0 = 0 then
    f_reads_220 N k4 σ x1 s0
    else
    mcallv (f_next N σ) fun σ3 =>
    f_reads_220 N k4 σ3 x1 s0
def f_reads_189 (N : Nat) (k4 : MS → Int32 → Int32 → Option (MS)) (σ : MS) (x1 : Int32) (x2 : Int32) (x4 : Int32) : Option (MS) :=
    if x4 = 0 then
    k4 σ x1 x2
    else
    mlet (σ.1 6) fun y2 =>
    if y2 = 59 then
    f_reads_211 N k4 σ x1 1
    else
    f_reads_211 N k4 σ x1 0
def f_reads_186 (N : Nat) (k4 : MS → Int32 → Int32 → Option (MS)) (k35 : MS → Int32 → Int32 → Int32 → Option (MS)) (σ : MS) (x1 : Int32) (x2 : Int32) (x4 : Int32) : Option (MS) :=
    k35 σ x1 x2 x4
def f_reads_183 (N : Nat) (k4 : MS → Int32 → Int32 → Option (MS)) (k35 : MS → Int32 → Int32 → Int32 → Option (MS)) (σ : MS) (x1 : Int32) (x2 : Int32) (x4 : Int32) (s0 : Int32) : Option (MS) :=
    mcallv (f_lands N σ s0) fun σ3 =>
    f_reads_186 N k4 k35 σ3 x1 x2 x4
def f_reads_83 (N : Nat) (k4 : MS → Int32 → Int32 → Option (MS)) (k35 : MS → Int32 → Int32 → Int32 → Option (MS)) (σ : MS) (x1 : Int32) (x2 : Int32) (x4 : Int32) (s0 : Int32) : Option (MS) :=
    if s0 = 0 then
    if mIn x1 8 = true then mlet (σ.2.1 62 x1.toNatClampNeg) fun y4 =>
    if y4 = 0 then
    if mIn x1 (mLen 60) = true then mlet (σ.2.1 60 x1.toNatClampNeg) fun y8 =>
    f_reads_183 N k4 k35 σ x1 x2 x4 y8
    else none
    else
    if mIn x1 (mLen 61) = true then mlet (σ.2.1 61 x1.toNatClampNeg) fun y11 =>
    f_reads_183 N k4 k35 σ x1 x2 x4 y11
    else none
    else none
    else
    mcallv (f_next N σ) fun σ13 =>
    mlet (σ13.1 6) fun y15 =>
    if y15 = 40 then
    mcallv (f_next N σ13) fun σ18 =>
    mcall (f_order N σ18 2 0 0 0) fun r24 σ22 =>
    if mIn x1 (mLen 61) = true then mlet (mArr σ22 61 x1.toNatClampNeg r24) fun σ26 =>
    if mIn x1 (mLen 60) = true then mlet (σ26.2.1 60 x1.toNatClampNeg) fun y29 =>
    mcallv (f_lands N σ26 y29) fun σ31 =>
    if mIn x1 8 = true then mlet (mArr σ31 62 x1.toNatClampNeg (vp_nar .boolean 1)) fun σ35 =>
    mlet (x1 + 1) fun y36 =>
    f_reads_186 N k4 k35 σ35 y36 x2 0
    else none
    else none
    else none
    else
    mlet (σ13.1 4) fun y37 =>
    mcall (f_wrong N σ13 1 y37) fun r41 σ39 =>
    some σ39
def f_reads_82 (N : Nat) (k4 : MS → Int32 → Int32 → Option (MS)) (k35 : MS → Int32 → Int32 → Int32 → Option (MS)) (σ : MS) (x1 : Int32) (x2 : Int32) (x4 : Int32) : Option (MS) :=
    f_reads_83 N k4 k35 σ x1 x2 x4 0
def f_reads_35 (N : Nat) (k4 : MS → Int32 → Int32 → Option (MS)) : Nat → MS → Int32 → Int32 → Int32 → Option (MS)
  | 0, _, _, _, _ => none
  | n + 1, σ, x1, x2, x4 =>
    if x4 = 0 then
    f_reads_189 N k4 σ x1 x2 x4
    else
    if x1 ≤ 0 then
    f_reads_189 N k4 σ x1 x2 x4
    else
    mlet (σ.1 6) fun y3 =>
    if y3 = 41 then
    mcallv (f_next N σ) fun σ6 =>
    mlet (x1 + (-1)) fun y8 =>
    if mIn y8 8 = true then mlet (σ6.2.1 62 y8.toNatClampNeg) fun y11 =>
    if y11 = 0 then
    mcall (f_word N (pTx 37) σ6) fun r16 σ14 =>
    if r16 = 0 then
    f_reads_82 N k4 (f_reads_35 N k4 n) σ14 y8 x2 x4
    else
    f_reads_83 N k4 (f_reads_35 N k4 n) σ14 y8 x2 x4 1
    else
    f_reads_82 N k4 (f_reads_35 N k4 n) σ6 y8 x2 x4
    else none
    else
    f_reads_189 N k4 σ x1 x2 x4
def f_reads_4 (N : Nat) : Nat → MS → Int32 → Int32 → Option (MS)
  | 0, _, _, _ => none
  | n + 1, σ, x1, x2 =>
    if x2 = 0 then
    if 0 < x1 then
    f_reads_234 N σ
    else
    mlet (σ.1 6) fun y3 =>
    if y3 = 0 then
    f_reads_244 N σ
    else
    f_reads_234 N σ
    else
    mcall (f_opens N σ x1) fun r8 σ6 =>
    mlet (σ6.1 13) fun y9 =>
    if y9 = 0 then
    if r8 = 0 then
    f_reads_35 N (f_reads_4 N n) N σ6 x1 x2 1
    else
    mlet (x1 + 1) fun y12 =>
    f_reads_4 N n σ6 y12 x2
    else
    some σ6
def f_reads (N : Nat) (σ : MS) : Option (MS) :=
    f_reads_4 N N σ 0 1
def f_plan (N : Nat) (σ : MS) (x1 : Int32) : Option (Int32 × MS) :=
    mcallv (f_good N σ) fun σ2 =>
    mlet (σ2.1 34) fun y4 =>
    if y4 = 0 then
    mcall (f_no N σ2 1) fun r48 σ46 =>
    some (r48, σ46)
    else
    mlet (σ2.1 2) fun y6 =>
    mcall (f_within N σ2 x1 0 y6) fun r9 σ7 =>
    if r9 = 0 then
    mcall (f_no N σ7 2) fun r44 σ42 =>
    some (r44, σ42)
    else
    mlet (mSet σ7 2 (0)) fun σ11 =>
    mlet (mSet σ11 9 (0)) fun σ12 =>
    mlet (mSet σ12 58 (0)) fun σ13 =>
    mlet (mSet σ13 59 (0)) fun σ14 =>
    mcallv (f_begins N σ14 x1) fun σ16 =>
    mcallv (f_reads N σ16) fun σ19 =>
    mlet (σ19.1 13) fun y21 =>
    if y21 = 0 then
    mlet (σ19.1 40) fun y23 =>
    if y23 = 8 then
    mcall (f_no N σ19 3) fun r36 σ34 =>
    some (r36, σ34)
    else
    mlet (σ19.1 40) fun y26 =>
    mlet (σ19.1 58) fun y27 =>
    if mIn y26 (mLen 57) = true then mlet (mArr σ19 57 y26.toNatClampNeg y27) fun σ29 =>
    mlet (σ29.1 40) fun y30 =>
    mlet (mSet σ29 40 ((y30 + 1))) fun σ31 =>
    mlet (σ31.1 40) fun y32 =>
    some (y32 - 1, σ31)
    else none
    else
    mcall (f_no N σ19 4) fun r40 σ38 =>
    some (r40, σ38)

/-! block lemmas -/
set_option maxRecDepth 100000
/-- X4_code(I)I -/
theorem b_211_0 {D : ca_} {V : vv_} {Qr : qr_} {Qt : qt_} (hD : Mo_ D) (hV : Cl_ wd0 D V Qr Qt m_211) (hW : Wk_ V) (x0 : Int) (M : mm_) (h :
 D 212 [.inl x0] M (ri_ fun v1 M1 =>
  (if v1 = 0 then
   D 213 [.inl x0] M1 (ri_ fun v2 M2 =>
    (if v2 = 0 then
     (if x0 = 95 then
      Qr [.inl 37] M2
     else
      Qr [.inl 0] M2)
    else
     Qr [.inl (w32 ((w32 (x0 - 48)) + 27))] M2)) Qt
  else
   Qr [.inl (w32 ((w32 (x0 - 97)) + 1))] M1)) Qt) : V 0 [ii x0] [] M := bx_go hD hV hW [] 13 h
/-- X4_isLetter(I)Z -/
theorem b_212_0 {D : ca_} {V : vv_} {Qr : qr_} {Qt : qt_} (hD : Mo_ D) (hV : Cl_ wd0 D V Qr Qt m_212) (hW : Wk_ V) (x0 : Int) (M : mm_) (h :
 (if x0 < 97 then
  bl_ 0 ∧ Qr [.inl 0] M
 else
  (if x0 ≤ 122 then
   bl_ 1 ∧ Qr [.inl 1] M
  else
   bl_ 0 ∧ Qr [.inl 0] M))) : V 0 [ii x0] [] M := bx_go hD hV hW [] 9 h
/-- X4_isDigit(I)Z -/
theorem b_213_0 {D : ca_} {V : vv_} {Qr : qr_} {Qt : qt_} (hD : Mo_ D) (hV : Cl_ wd0 D V Qr Qt m_213) (hW : Wk_ V) (x0 : Int) (M : mm_) (h :
 (if x0 < 48 then
  bl_ 0 ∧ Qr [.inl 0] M
 else
  (if x0 ≤ 57 then
   bl_ 1 ∧ Qr [.inl 1] M
  else
   bl_ 0 ∧ Qr [.inl 0] M))) : V 0 [ii x0] [] M := bx_go hD hV hW [] 9 h
/-- X4_feed(IIIII)Z -/
theorem b_214_0 {D : ca_} {V : vv_} {Qr : qr_} {Qt : qt_} (hD : Mo_ D) (hV : Cl_ wd0 D V Qr Qt m_214) (hW : Wk_ V) (x1 : Int) (x2 : Int) (x3 : Int) (x4 : Int) (x5 : Int) (M : mm_) (h :
 (if M 6 3 ≤ 4980 then
  D 215 [.inr (.inr 6), .inl x1] M (rv_ fun M1 =>
   D 215 [.inr (.inr 6), .inl x2] M1 (rv_ fun M2 =>
    D 215 [.inr (.inr 6), .inl x3] M2 (rv_ fun M3 =>
     D 215 [.inr (.inr 6), .inl x4] M3 (rv_ fun M4 =>
      D 215 [.inr (.inr 6), .inl x5] M4 (rv_ fun M5 =>
       bl_ 1 ∧ Qr [.inl 1] M5) Qt) Qt) Qt) Qt) Qt
 else
  bl_ 0 ∧ Qr [.inl 0] M)) : V 0 [rr 6, ii x1, ii x2, ii x3, ii x4, ii x5] [] M := bx_go hD hV hW [] 21 h
/-- X4_four(I)V -/
theorem b_215_0 {D : ca_} {V : vv_} {Qr : qr_} {Qt : qt_} (hD : Mo_ D) (hV : Cl_ wd0 D V Qr Qt m_215) (hW : Wk_ V) (x1 : Int) (M : mm_) (h :
 V 3 [rr 6, ii x1, ii 24] [] M) : V 0 [rr 6, ii x1, none] [] M := bx_go hD hV hW [(3, [])] 3 h
theorem b_215_3 {D : ca_} {V : vv_} {Qr : qr_} {Qt : qt_} (hD : Mo_ D) (hV : Cl_ wd0 D V Qr Qt m_215) (hW : Wk_ V) (x1 : Int) (x2 : Int) (M : mm_) (h :
 (if x2 < 0 then
  Qr [] M
 else
  ((0 ≤ M 6 3 ∧ M 6 3 < 5000) ∧ -128 ≤ ib_ (sr_ x1 x2) ∧ ib_ (sr_ x1 x2) ≤ 127) ∧
   V 3 [rr 6, ii x1, ii (w32 (x2 + (-8)))] [] (up_ (up_ M 145 (M 6 3) (ib_ (sr_ x1 x2))) 6 3 (w32 ((M 6 3) + 1))))) : V 3 [rr 6, ii x1, ii x2] [] M := bx_go hD hV hW [(3, [])] 20 h
/-- X4_load(I)I -/
theorem b_216_0 {D : ca_} {V : vv_} {Qr : qr_} {Qt : qt_} (hD : Mo_ D) (hV : Cl_ wd0 D V Qr Qt m_216) (hW : Wk_ V) (x1 : Int) (M : mm_) (h :
 (if x1 < 0 then
  Qr [.inl ((-2))] M
 else
  (if x1 ≤ M 6 3 then
   D 217 [.inr (.inr 6), .inl x1] M (rv_ fun M1 =>
    D 218 [.inr (.inr 6)] M1 (ri_ fun v1 M2 =>
     (if v1 = 0 then
      (bl_ (M2 6 6) → (if M2 6 6 = 0 then
       Qr [.inl (M2 6 13)] (up_ M2 6 119 (M2 6 14))
      else
       V 100 [rr 6, ii x1, ii (M2 6 13), ii 0] [] (up_ M2 6 119 (M2 6 14))))
     else
      V 29 [rr 6, ii x1, ii 0, none] [] M2)) Qt) Qt
  else
   Qr [.inl ((-2))] M))) : V 0 [rr 6, ii x1, none, none] [] M := bx_go hD hV hW [(29, [3]), (100, [])] 25 h
theorem i_216 : inq_ 0 k_216 = true := by decide +kernel
theorem z_216_16 : Sf_ k_216 g_216_16 := Sf_of i_216 16 rfl
theorem b_216_29 {D : ca_} {V : vv_} {Qr : qr_} {Qt : qt_} (hD : Mo_ D) (hV : Cl_ wd0 D V Qr Qt m_216) (hW : Wk_ V) (x1 : Int) (x2 : Int) (M : mm_) (h :
 (if x2 < x1 then
  (0 ≤ x2 ∧ x2 < 5000) ∧ (-128 ≤ M 146 x2 ∧ M 146 x2 ≤ 127 →
   ((0 ≤ x2 ∧ x2 < 5000) ∧ -128 ≤ M 146 x2 ∧ M 146 x2 ≤ 127) ∧
   V 29 [rr 6, ii x1, ii (w32 (x2 + 1)), none] [] (up_ M 147 x2 (M 146 x2)))
 else
  bl_ 1 ∧ bl_ 0 ∧ D 316 [.inr (.inr 6)] (up_ (up_ (up_ (up_ M 6 5 x1) 6 6 1) 6 126 0) 6 163 0) (rv_ fun M1 =>
   Qr [.inl 0] M1) Qt)) : V 29 [rr 6, ii x1, ii x2, none] [] M := bx_go hD (m := (g_216_16, m_216.2)) (Cl_sf z_216_16 hV) hW [(29, [3]), (100, [])] 19 h
theorem z_216_57 : Sf_ k_216 g_216_57 := Sf_tr z_216_16 41 rfl
theorem b_216_100 {D : ca_} {V : vv_} {Qr : qr_} {Qt : qt_} (hD : Mo_ D) (hV : Cl_ wd0 D V Qr Qt m_216) (hW : Wk_ V) (x1 : Int) (x2 : Int) (x3 : Int) (M : mm_) (h :
 (if x3 < M 6 5 then
  (0 ≤ x3 ∧ x3 < 5000) ∧ (-128 ≤ M 147 x3 ∧ M 147 x3 ≤ 127 →
   ((0 ≤ x3 ∧ x3 < 5000) ∧ -128 ≤ M 147 x3 ∧ M 147 x3 ≤ 127) ∧
   V 100 [rr 6, ii x1, ii x2, ii (w32 (x3 + 1))] [] (up_ M 146 x3 (M 147 x3)))
 else
  D 218 [.inr (.inr 6)] (up_ M 6 4 (M 6 5)) (ri_ fun v1 M1 =>
   Qr [.inl x2] M1) Qt)) : V 100 [rr 6, ii x1, ii x2, ii x3] [] M := bx_go hD (m := (g_216_57, m_216.2)) (Cl_sf z_216_57 hV) hW [(29, [3]), (100, [])] 15 h
/-- X4_toText(I)V -/
theorem b_217_0 {D : ca_} {V : vv_} {Qr : qr_} {Qt : qt_} (hD : Mo_ D) (hV : Cl_ wd0 D V Qr Qt m_217) (hW : Wk_ V) (x1 : Int) (M : mm_) (h :
 V 2 [rr 6, ii x1, ii 0] [] M) : V 0 [rr 6, ii x1, none] [] M := bx_go hD hV hW [(2, [])] 3 h
theorem b_217_2 {D : ca_} {V : vv_} {Qr : qr_} {Qt : qt_} (hD : Mo_ D) (hV : Cl_ wd0 D V Qr Qt m_217) (hW : Wk_ V) (x1 : Int) (x2 : Int) (M : mm_) (h :
 (if x2 < x1 then
  (0 ≤ x2 ∧ x2 < 5000) ∧ (-128 ≤ M 145 x2 ∧ M 145 x2 ≤ 127 →
   ((0 ≤ x2 ∧ x2 < 5000) ∧ -128 ≤ M 145 x2 ∧ M 145 x2 ≤ 127) ∧
   V 2 [rr 6, ii x1, ii (w32 (x2 + 1))] [] (up_ M 146 x2 (M 145 x2)))
 else
  Qr [] (up_ (up_ M 6 4 x1) 6 3 0))) : V 2 [rr 6, ii x1, ii x2] [] M := bx_go hD hV hW [(2, [])] 14 h
/-- X4_parse()Z -/
theorem b_218_0 {D : ca_} {V : vv_} {Qr : qr_} {Qt : qt_} (hD : Mo_ D) (hV : Cl_ wd0 D V Qr Qt m_218) (hW : Wk_ V)  (M : mm_) (h :
 bl_ 0 ∧ D 219 [.inr (.inr 6)] (up_ (up_ (up_ (up_ (up_ (up_ M 6 17 0) 6 18 0) 6 19 0) 6 58 0) 6 13 0) 6 16 0) (rv_ fun M1 =>
  D 226 [.inr (.inr 6)] M1 (rv_ fun M2 =>
   (if M2 6 13 ≤ 0 then
    D 315 [.inr (.inr 6)] M2 (rv_ fun M3 =>
     bl_ 1 ∧ D 226 [.inr (.inr 6)] (up_ M3 6 16 1) (rv_ fun M4 =>
      bl_ 0 ∧ (if M4 6 13 = 0 then
       bl_ 1 ∧ Qr [.inl 1] (up_ M4 6 16 0)
      else
       bl_ 0 ∧ Qr [.inl 0] (up_ M4 6 16 0))) Qt) Qt
   else
    bl_ 0 ∧ Qr [.inl 0] M2)) Qt) Qt) : V 0 [rr 6] [] M := bx_go hD hV hW [] 41 h
/-- X4_cut()V -/
theorem b_219_0 {D : ca_} {V : vv_} {Qr : qr_} {Qt : qt_} (hD : Mo_ D) (hV : Cl_ wd0 D V Qr Qt m_219) (hW : Wk_ V)  (M : mm_) (h :
 V 9 [rr 6, ii 0, ii 0] [] (up_ M 6 11 0)) : V 0 [rr 6, none, none] [] M := bx_go hD hV hW [(9, [])] 8 h
theorem i_219 : inq_ 0 k_219 = true := by decide +kernel
theorem z_219_7 : Sf_ k_219 g_219_7 := Sf_of i_219 7 rfl
theorem b_219_9 {D : ca_} {V : vv_} {Qr : qr_} {Qt : qt_} (hD : Mo_ D) (hV : Cl_ wd0 D V Qr Qt m_219) (hW : Wk_ V) (x1 : Int) (x2 : Int) (M : mm_) (h :
 (if x2 = 0 then
  (if M 6 11 ≤ 1200 then
   D 220 [.inr (.inr 6), .inl x1] M (ri_ fun v1 M3 =>
    (if v1 < M3 6 4 then
     D 222 [.inr (.inr 6), .inl v1] M3 (ri_ fun v2 M4 =>
      (0 ≤ w32 ((M4 6 11) - 1) ∧ w32 ((M4 6 11) - 1) < 1202) ∧
       (if M4 149 (w32 ((M4 6 11) - 1)) = 5 then
       V 9 [rr 6, ii v2, ii 1] [] M4
      else
       V 9 [rr 6, ii v2, ii 0] [] M4)) Qt
    else
     (if x2 = 0 then
      (if M3 6 11 ≤ 1200 then
       D 224 [.inr (.inr 6), .inl 0, .inl (M3 6 4), .inr (.inl 0)] M3 (rv_ fun M5 =>
        Qr [] M5) Qt
      else
       Qr [] M3)
     else
      Qr [] M3))) Qt
  else
   (if x2 = 0 then
    (if M 6 11 ≤ 1200 then
     D 224 [.inr (.inr 6), .inl 0, .inl (M 6 4), .inr (.inl 0)] M (rv_ fun M2 =>
      Qr [] M2) Qt
    else
     Qr [] M)
   else
    Qr [] M))
 else
  (if x2 = 0 then
   (if M 6 11 ≤ 1200 then
    D 224 [.inr (.inr 6), .inl 0, .inl (M 6 4), .inr (.inl 0)] M (rv_ fun M1 =>
     Qr [] M1) Qt
   else
    Qr [] M)
  else
   Qr [] M))) : V 9 [rr 6, ii x1, ii x2] [] M := bx_go hD (m := (g_219_7, m_219.2)) (Cl_sf z_219_7 hV) hW [(9, [])] 32 h
/-- X4_behindBlanks(I)I -/
theorem b_220_0 {D : ca_} {V : vv_} {Qr : qr_} {Qt : qt_} (hD : Mo_ D) (hV : Cl_ wd0 D V Qr Qt m_220) (hW : Wk_ V) (x1 : Int) (M : mm_) (h :
 V 4 [rr 6, ii x1, ii x1, ii 1, none] [] M) : V 0 [rr 6, ii x1, none, none, none] [] M := bx_go hD hV hW [(4, [4]), (30, [])] 5 h
theorem b_220_4 {D : ca_} {V : vv_} {Qr : qr_} {Qt : qt_} (hD : Mo_ D) (hV : Cl_ wd0 D V Qr Qt m_220) (hW : Wk_ V) (x1 : Int) (x2 : Int) (x3 : Int) (M : mm_) (h :
 (if x3 = 0 then
  Qr [.inl x2] M
 else
  (if x2 < M 6 4 then
   D 221 [.inr (.inr 6), .inl x2] M (ri_ fun v1 M1 =>
    (if v1 = 35 then
     V 30 [rr 6, ii x1, ii x2, ii x3, ii v1] [] M1
    else
     (if v1 = 9 then
      V 4 [rr 6, ii x1, ii (w32 (x2 + 1)), ii x3, none] [] M1
     else
      (if v1 = 10 then
       V 4 [rr 6, ii x1, ii (w32 (x2 + 1)), ii x3, none] [] M1
      else
       (if v1 = 13 then
        V 4 [rr 6, ii x1, ii (w32 (x2 + 1)), ii x3, none] [] M1
       else
        (if v1 = 32 then
         V 4 [rr 6, ii x1, ii (w32 (x2 + 1)), ii x3, none] [] M1
        else
         V 4 [rr 6, ii x1, ii x2, ii 0, none] [] M1)))))) Qt
  else
   Qr [.inl x2] M))) : V 4 [rr 6, ii x1, ii x2, ii x3, none] [] M := bx_go hD hV hW [(4, [4]), (30, [])] 29 h
theorem i_220 : inq_ 0 k_220 = true := by decide +kernel
theorem z_220_17 : Sf_ k_220 g_220_17 := Sf_of i_220 17 rfl
theorem b_220_30 {D : ca_} {V : vv_} {Qr : qr_} {Qt : qt_} (hD : Mo_ D) (hV : Cl_ wd0 D V Qr Qt m_220) (hW : Wk_ V) (x1 : Int) (x2 : Int) (x3 : Int) (x4 : Int) (M : mm_) (h :
 (if x2 < M 6 4 then
  D 221 [.inr (.inr 6), .inl x2] M (ri_ fun v1 M1 =>
   (if v1 = 10 then
    V 4 [rr 6, ii x1, ii x2, ii x3, none] [] M1
   else
    V 30 [rr 6, ii x1, ii (w32 (x2 + 1)), ii x3, ii x4] [] M1)) Qt
 else
  V 4 [rr 6, ii x1, ii x2, ii x3, none] [] M)) : V 30 [rr 6, ii x1, ii x2, ii x3, ii x4] [] M := bx_go hD (m := (g_220_17, m_220.2)) (Cl_sf z_220_17 hV) hW [(4, [4]), (30, [])] 12 h
/-- X4_byteAt(I)I -/
theorem b_221_0 {D : ca_} {V : vv_} {Qr : qr_} {Qt : qt_} (hD : Mo_ D) (hV : Cl_ wd0 D V Qr Qt m_221) (hW : Wk_ V) (x1 : Int) (M : mm_) (h :
 (if x1 < M 6 4 then
  (0 ≤ x1 ∧ x1 < 5000) ∧ (-128 ≤ M 146 x1 ∧ M 146 x1 ≤ 127 →
   Qr [.inl (an_ (M 146 x1) 255)] M)
 else
  Qr [.inl 0] M)) : V 0 [rr 6, ii x1] [] M := bx_go hD hV hW [] 12 h
/-- X4_one(I)I -/
theorem b_222_0 {D : ca_} {V : vv_} {Qr : qr_} {Qt : qt_} (hD : Mo_ D) (hV : Cl_ wd0 D V Qr Qt m_222) (hW : Wk_ V) (x1 : Int) (M : mm_) (h :
 D 221 [.inr (.inr 6), .inl x1] M (ri_ fun v1 M1 =>
  D 212 [.inl v1] M1 (ri_ fun v2 M2 =>
   (if v2 = 0 then
    D 213 [.inl v1] M2 (ri_ fun v3 M3 =>
     (if v3 = 0 then
      D 221 [.inr (.inr 6), .inl (w32 (x1 + 1))] M3 (ri_ fun v4 M4 =>
       (if v1 = 58 then
        (if v4 = 61 then
         V 151 [rr 6, ii x1, ii v1, ii v4, ii 256, none] [] M4
        else
         (if v1 = 47 then
          (if v4 = 61 then
           V 151 [rr 6, ii x1, ii v1, ii v4, ii 257, none] [] M4
          else
           V 76 [rr 6, ii x1, ii v1, ii v4, none, none] [] M4)
         else
          V 76 [rr 6, ii x1, ii v1, ii v4, none, none] [] M4))
       else
        (if v1 = 47 then
         (if v4 = 61 then
          V 151 [rr 6, ii x1, ii v1, ii v4, ii 257, none] [] M4
         else
          V 76 [rr 6, ii x1, ii v1, ii v4, none, none] [] M4)
        else
         V 76 [rr 6, ii x1, ii v1, ii v4, none, none] [] M4))) Qt
     else
      D 225 [.inr (.inr 6), .inl x1] M3 (ri_ fun v5 M5 =>
       Qr [.inl v5] M5) Qt)) Qt
   else
    D 223 [.inr (.inr 6), .inl x1] M2 (ri_ fun v6 M6 =>
     Qr [.inl v6] M6) Qt)) Qt) Qt) : V 0 [rr 6, ii x1, none, none, none, none] [] M := bx_go hD hV hW [(76, [4, 5]), (112, [4, 5]), (151, [5]), (259, [5])] 32 h
theorem i_222 : inq_ 0 k_222 = true := by decide +kernel
theorem z_222_40 : Sf_ k_222 g_222_40 := Sf_of i_222 40 rfl
theorem b_222_76 {D : ca_} {V : vv_} {Qr : qr_} {Qt : qt_} (hD : Mo_ D) (hV : Cl_ wd0 D V Qr Qt m_222) (hW : Wk_ V) (x1 : Int) (x2 : Int) (x3 : Int) (M : mm_) (h :
 (if x2 = 60 then
  (if x3 = 61 then
   V 151 [rr 6, ii x1, ii x2, ii x3, ii 258, none] [] M
  else
   (if x2 = 62 then
    (if x3 = 61 then
     V 151 [rr 6, ii x1, ii x2, ii x3, ii 259, none] [] M
    else
     V 112 [rr 6, ii x1, ii x2, ii x3, none, none] [] M)
   else
    V 112 [rr 6, ii x1, ii x2, ii x3, none, none] [] M))
 else
  (if x2 = 62 then
   (if x3 = 61 then
    V 151 [rr 6, ii x1, ii x2, ii x3, ii 259, none] [] M
   else
    V 112 [rr 6, ii x1, ii x2, ii x3, none, none] [] M)
  else
   V 112 [rr 6, ii x1, ii x2, ii x3, none, none] [] M))) : V 76 [rr 6, ii x1, ii x2, ii x3, none, none] [] M := bx_go hD (m := (g_222_40, m_222.2)) (Cl_sf z_222_40 hV) hW [(76, [4, 5]), (112, [4, 5]), (151, [5]), (259, [5])] 16 h
theorem z_222_56 : Sf_ k_222 g_222_56 := Sf_tr z_222_40 16 rfl
theorem b_222_112 {D : ca_} {V : vv_} {Qr : qr_} {Qt : qt_} (hD : Mo_ D) (hV : Cl_ wd0 D V Qr Qt m_222) (hW : Wk_ V) (x1 : Int) (x2 : Int) (x3 : Int) (M : mm_) (h :
 (if x2 = 45 then
  (if x3 = 62 then
   V 151 [rr 6, ii x1, ii x2, ii x3, ii 260, none] [] M
  else
   (if x2 = 46 then
    (if x3 = 46 then
     V 151 [rr 6, ii x1, ii x2, ii x3, ii 261, none] [] M
    else
     V 151 [rr 6, ii x1, ii x2, ii x3, ii 0, none] [] M)
   else
    V 151 [rr 6, ii x1, ii x2, ii x3, ii 0, none] [] M))
 else
  (if x2 = 46 then
   (if x3 = 46 then
    V 151 [rr 6, ii x1, ii x2, ii x3, ii 261, none] [] M
   else
    V 151 [rr 6, ii x1, ii x2, ii x3, ii 0, none] [] M)
  else
   V 151 [rr 6, ii x1, ii x2, ii x3, ii 0, none] [] M))) : V 112 [rr 6, ii x1, ii x2, ii x3, none, none] [] M := bx_go hD (m := (g_222_56, m_222.2)) (Cl_sf z_222_56 hV) hW [(76, [4, 5]), (112, [4, 5]), (151, [5]), (259, [5])] 16 h
theorem z_222_74 : Sf_ k_222 g_222_74 := Sf_tr z_222_56 18 rfl
theorem b_222_151 {D : ca_} {V : vv_} {Qr : qr_} {Qt : qt_} (hD : Mo_ D) (hV : Cl_ wd0 D V Qr Qt m_222) (hW : Wk_ V) (x1 : Int) (x2 : Int) (x3 : Int) (x4 : Int) (M : mm_) (h :
 (if x4 ≤ 0 then
  (if x2 = 40 then
   V 259 [rr 6, ii x1, ii x2, ii x3, ii x4, none] [] M
  else
   (if x2 = 41 then
    V 259 [rr 6, ii x1, ii x2, ii x3, ii x4, none] [] M
   else
    (if x2 = 91 then
     V 259 [rr 6, ii x1, ii x2, ii x3, ii x4, none] [] M
    else
     (if x2 = 93 then
      V 259 [rr 6, ii x1, ii x2, ii x3, ii x4, none] [] M
     else
      (if x2 = 44 then
       V 259 [rr 6, ii x1, ii x2, ii x3, ii x4, none] [] M
      else
       (if x2 = 59 then
        V 259 [rr 6, ii x1, ii x2, ii x3, ii x4, none] [] M
       else
        (if x2 = 58 then
         V 259 [rr 6, ii x1, ii x2, ii x3, ii x4, none] [] M
        else
         (if x2 = 42 then
          V 259 [rr 6, ii x1, ii x2, ii x3, ii x4, none] [] M
         else
          (if x2 = 43 then
           V 259 [rr 6, ii x1, ii x2, ii x3, ii x4, none] [] M
          else
           (if x2 = 47 then
            V 259 [rr 6, ii x1, ii x2, ii x3, ii x4, none] [] M
           else
            (if x2 = 37 then
             V 259 [rr 6, ii x1, ii x2, ii x3, ii x4, none] [] M
            else
             (if x2 = 61 then
              V 259 [rr 6, ii x1, ii x2, ii x3, ii x4, none] [] M
             else
              (if x2 = 60 then
               V 259 [rr 6, ii x1, ii x2, ii x3, ii x4, none] [] M
              else
               (if x2 = 62 then
                V 259 [rr 6, ii x1, ii x2, ii x3, ii x4, none] [] M
               else
                (if x2 = 45 then
                 V 259 [rr 6, ii x1, ii x2, ii x3, ii x4, none] [] M
                else
                 (if (0 : Int) = 0 then
                  D 224 [.inr (.inr 6), .inl 5, .inl x1, .inr (.inl x2)] M (rv_ fun M1 =>
                   Qr [.inl (w32 (x1 + 1))] M1) Qt
                 else
                  D 224 [.inr (.inr 6), .inl 3, .inl x1, .inr (.inl x2)] M (rv_ fun M2 =>
                   Qr [.inl (w32 (x1 + 1))] M2) Qt))))))))))))))))
 else
  D 224 [.inr (.inr 6), .inl 3, .inl x1, .inr (.inl x4)] M (rv_ fun M3 =>
   Qr [.inl (w32 (x1 + 2))] M3) Qt)) : V 151 [rr 6, ii x1, ii x2, ii x3, ii x4, none] [] M := bx_go hD (m := (g_222_74, m_222.2)) (Cl_sf z_222_74 hV) hW [(76, [4, 5]), (112, [4, 5]), (151, [5]), (259, [5])] 62 h
theorem z_222_131 : Sf_ k_222 g_222_131 := Sf_tr z_222_74 57 rfl
theorem b_222_259 {D : ca_} {V : vv_} {Qr : qr_} {Qt : qt_} (hD : Mo_ D) (hV : Cl_ wd0 D V Qr Qt m_222) (hW : Wk_ V) (x1 : Int) (x2 : Int) (x3 : Int) (x4 : Int) (M : mm_) (h :
 (if (1 : Int) = 0 then
  D 224 [.inr (.inr 6), .inl 5, .inl x1, .inr (.inl x2)] M (rv_ fun M1 =>
   Qr [.inl (w32 (x1 + 1))] M1) Qt
 else
  D 224 [.inr (.inr 6), .inl 3, .inl x1, .inr (.inl x2)] M (rv_ fun M2 =>
   Qr [.inl (w32 (x1 + 1))] M2) Qt)) : V 259 [rr 6, ii x1, ii x2, ii x3, ii x4, none] [] M := bx_go hD (m := (g_222_131, m_222.2)) (Cl_sf z_222_131 hV) hW [(76, [4, 5]), (112, [4, 5]), (151, [5]), (259, [5])] 16 h
/-- X4_nameFrom(I)I -/
theorem b_223_0 {D : ca_} {V : vv_} {Qr : qr_} {Qt : qt_} (hD : Mo_ D) (hV : Cl_ wd0 D V Qr Qt m_223) (hW : Wk_ V) (x1 : Int) (M : mm_) (h :
 V 4 [rr 6, ii x1, ii x1, jj 0, none, none] [] M) : V 0 [rr 6, ii x1, none, none, none, none] [] M := bx_go hD hV hW [(4, [4, 5]), (48, [4]), (81, [4])] 5 h
theorem b_223_4 {D : ca_} {V : vv_} {Qr : qr_} {Qt : qt_} (hD : Mo_ D) (hV : Cl_ wd0 D V Qr Qt m_223) (hW : Wk_ V) (x1 : Int) (x2 : Int) (x3 : Int) (M : mm_) (h :
 D 221 [.inr (.inr 6), .inl x2] M (ri_ fun v1 M1 =>
  D 211 [.inl v1] M1 (ri_ fun v2 M2 =>
   (if v2 ≤ 0 then
    V 48 [rr 6, ii x1, ii x2, jj x3, none, ii 0] [] M2
   else
    (if w32 (x2 - x1) < 10 then
     D 221 [.inr (.inr 6), .inl x2] M2 (ri_ fun v3 M3 =>
      D 211 [.inl v3] M3 (ri_ fun v4 M4 =>
       V 4 [rr 6, ii x1, ii (w32 (x2 + 1)), jj (w64 ((w64 (38 * x3)) + v4)), none, none] [] M4) Qt) Qt
    else
     V 4 [rr 6, ii x1, ii (w32 (x2 + 1)), jj x3, none, none] [] M2))) Qt) Qt) : V 4 [rr 6, ii x1, ii x2, jj x3, none, none] [] M := bx_go hD hV hW [(4, [4, 5]), (48, [4]), (81, [4])] 23 h
theorem i_223 : inq_ 0 k_223 = true := by decide +kernel
theorem z_223_28 : Sf_ k_223 g_223_28 := Sf_of i_223 28 rfl
theorem b_223_48 {D : ca_} {V : vv_} {Qr : qr_} {Qt : qt_} (hD : Mo_ D) (hV : Cl_ wd0 D V Qr Qt m_223) (hW : Wk_ V) (x1 : Int) (x2 : Int) (x3 : Int) (x5 : Int) (M : mm_) (h :
 (if x5 < 48 then
  (0 ≤ x5 ∧ x5 < 48) ∧
   (if (if M 148 x5 < x3 then -1 else if M 148 x5 = x3 then 0 else 1) = 0 then
   (if w32 (x2 - x1) ≤ 10 then
    V 81 [rr 6, ii x1, ii x2, jj x3, none, ii x5] [] M
   else
    V 48 [rr 6, ii x1, ii x2, jj x3, none, ii (w32 (x5 + 1))] [] M)
  else
   V 48 [rr 6, ii x1, ii x2, jj x3, none, ii (w32 (x5 + 1))] [] M)
 else
  V 81 [rr 6, ii x1, ii x2, jj x3, none, ii x5] [] M)) : V 48 [rr 6, ii x1, ii x2, jj x3, none, ii x5] [] M := bx_go hD (m := (g_223_28, m_223.2)) (Cl_sf z_223_28 hV) hW [(4, [4, 5]), (48, [4]), (81, [4])] 18 h
theorem z_223_45 : Sf_ k_223 g_223_45 := Sf_tr z_223_28 17 rfl
theorem b_223_81 {D : ca_} {V : vv_} {Qr : qr_} {Qt : qt_} (hD : Mo_ D) (hV : Cl_ wd0 D V Qr Qt m_223) (hW : Wk_ V) (x1 : Int) (x2 : Int) (x3 : Int) (x5 : Int) (M : mm_) (h :
 (if w32 (x2 - x1) ≤ 10 then
  (if x5 < 48 then
   D 224 [.inr (.inr 6), .inl 4, .inl x1, .inr (.inl x5)] M (rv_ fun M2 =>
    Qr [.inl x2] M2) Qt
  else
   D 224 [.inr (.inr 6), .inl 1, .inl x1, .inr (.inl x3)] M (rv_ fun M1 =>
    Qr [.inl x2] M1) Qt)
 else
  D 224 [.inr (.inr 6), .inl 5, .inl x1, .inr (.inl 0)] M (rv_ fun M3 =>
   Qr [.inl x2] M3) Qt)) : V 81 [rr 6, ii x1, ii x2, jj x3, none, ii x5] [] M := bx_go hD (m := (g_223_45, m_223.2)) (Cl_sf z_223_45 hV) hW [(4, [4, 5]), (48, [4]), (81, [4])] 17 h
/-- X4_token(IIJ)V -/
theorem b_224_0 {D : ca_} {V : vv_} {Qr : qr_} {Qt : qt_} (hD : Mo_ D) (hV : Cl_ wd0 D V Qr Qt m_224) (hW : Wk_ V) (x1 : Int) (x2 : Int) (x3 : Int) (M : mm_) (h :
 (0 ≤ M 6 11 ∧ M 6 11 < 1202) ∧
  (0 ≤ M 6 11 ∧ M 6 11 < 1202) ∧
  (0 ≤ M 6 11 ∧ M 6 11 < 1202) ∧
  Qr [] (up_ (up_ (up_ (up_ M 149 (M 6 11) x1) 150 (M 6 11) x2) 151 (M 6 11) x3) 6 11 (w32 ((M 6 11) + 1)))) : V 0 [rr 6, ii x1, ii x2, jj x3, none] [] M := bx_go hD hV hW [] 25 h
/-- X4_numberFrom(I)I -/
theorem b_225_0 {D : ca_} {V : vv_} {Qr : qr_} {Qt : qt_} (hD : Mo_ D) (hV : Cl_ wd0 D V Qr Qt m_225) (hW : Wk_ V) (x1 : Int) (M : mm_) (h :
 V 4 [rr 6, ii x1, ii x1, jj 0, none, none] [] M) : V 0 [rr 6, ii x1, none, none, none, none] [] M := bx_go hD hV hW [(4, [4, 5])] 5 h
theorem b_225_4 {D : ca_} {V : vv_} {Qr : qr_} {Qt : qt_} (hD : Mo_ D) (hV : Cl_ wd0 D V Qr Qt m_225) (hW : Wk_ V) (x1 : Int) (x2 : Int) (x3 : Int) (M : mm_) (h :
 D 221 [.inr (.inr 6), .inl x2] M (ri_ fun v1 M1 =>
  D 213 [.inl v1] M1 (ri_ fun v2 M2 =>
   (if v2 = 0 then
    (if w32 (x2 - x1) < 10 then
     D 221 [.inr (.inr 6), .inl x2] M2 (ri_ fun v3 M5 =>
      D 211 [.inl v3] M5 (ri_ fun v4 M6 =>
       (if v4 = 0 then
        (if (1 : Int) = 0 then
         D 224 [.inr (.inr 6), .inl 5, .inl x1, .inr (.inl x3)] M6 (rv_ fun M9 =>
          Qr [.inl x2] M9) Qt
        else
         D 224 [.inr (.inr 6), .inl 2, .inl x1, .inr (.inl x3)] M6 (rv_ fun M10 =>
          Qr [.inl x2] M10) Qt)
       else
        (if (0 : Int) = 0 then
         D 224 [.inr (.inr 6), .inl 5, .inl x1, .inr (.inl x3)] M6 (rv_ fun M7 =>
          Qr [.inl x2] M7) Qt
        else
         D 224 [.inr (.inr 6), .inl 2, .inl x1, .inr (.inl x3)] M6 (rv_ fun M8 =>
          Qr [.inl x2] M8) Qt))) Qt) Qt
    else
     (if (0 : Int) = 0 then
      D 224 [.inr (.inr 6), .inl 5, .inl x1, .inr (.inl x3)] M2 (rv_ fun M3 =>
       Qr [.inl x2] M3) Qt
     else
      D 224 [.inr (.inr 6), .inl 2, .inl x1, .inr (.inl x3)] M2 (rv_ fun M4 =>
       Qr [.inl x2] M4) Qt))
   else
    (if w32 (x2 - x1) < 9 then
     D 221 [.inr (.inr 6), .inl x2] M2 (ri_ fun v5 M11 =>
      V 4 [rr 6, ii x1, ii (w32 (x2 + 1)), jj (w64 ((w64 ((w64 (10 * x3)) + v5)) - 48)), none, none] [] M11) Qt
    else
     V 4 [rr 6, ii x1, ii (w32 (x2 + 1)), jj x3, none, none] [] M2))) Qt) Qt) : V 4 [rr 6, ii x1, ii x2, jj x3, none, none] [] M := bx_go hD hV hW [(4, [4, 5])] 28 h
/-- X4_system()V -/
theorem b_226_0 {D : ca_} {V : vv_} {Qr : qr_} {Qt : qt_} (hD : Mo_ D) (hV : Cl_ wd0 D V Qr Qt m_226) (hW : Wk_ V)  (M : mm_) (h :
 V 49 [rr 6, ii 0, ii 0, ii 0, ii 1] [] (up_ (up_ (up_ (up_ (up_ (up_ (up_ (up_ M 6 12 0) 6 15 0) 6 75 0) 6 104 0) 6 62 0) 6 63 0) 6 90 0) 6 76 0)) : V 0 [rr 6, none, none, none, none] [] M := bx_go hD hV hW [(49, []), (73, [])] 33 h
theorem i_226 : inq_ 0 k_226 = true := by decide +kernel
theorem z_226_32 : Sf_ k_226 g_226_32 := Sf_of i_226 32 rfl
theorem b_226_49 {D : ca_} {V : vv_} {Qr : qr_} {Qt : qt_} (hD : Mo_ D) (hV : Cl_ wd0 D V Qr Qt m_226) (hW : Wk_ V) (x1 : Int) (x2 : Int) (x3 : Int) (x4 : Int) (M : mm_) (h :
 D 227 [.inr (.inr 6)] M (ri_ fun v1 M1 =>
  (if v1 = 0 then
   (if x4 = 0 then
    (0 ≤ M1 6 12 ∧ M1 6 12 < 1202) ∧
     (if M1 149 (M1 6 12) = 0 then
     Qr [] M1
    else
     V 73 [rr 6, ii x1, ii x2, ii x3, ii x4] [] M1)
   else
    V 73 [rr 6, ii x1, ii x2, ii x3, ii x4] [] M1)
  else
   Qr [] M1)) Qt) : V 49 [rr 6, ii x1, ii x2, ii x3, ii x4] [] M := bx_go hD (m := (g_226_32, m_226.2)) (Cl_sf z_226_32 hV) hW [(49, []), (73, [])] 12 h
theorem z_226_43 : Sf_ k_226 g_226_43 := Sf_tr z_226_32 11 rfl
theorem b_226_73 {D : ca_} {V : vv_} {Qr : qr_} {Qt : qt_} (hD : Mo_ D) (hV : Cl_ wd0 D V Qr Qt m_226) (hW : Wk_ V) (x1 : Int) (x2 : Int) (x3 : Int) (x4 : Int) (M : mm_) (h :
 D 228 [.inr (.inr 6), .inl 0] M (ri_ fun v1 M1 =>
  (if v1 = 0 then
   D 228 [.inr (.inr 6), .inl 1] M1 (ri_ fun v2 M2 =>
    (if v2 = 0 then
     D 228 [.inr (.inr 6), .inl 2] M2 (ri_ fun v3 M3 =>
      (if v3 = 0 then
       D 234 [.inr (.inr 6)] M3 (rv_ fun M4 =>
        V 49 [rr 6, ii x1, ii x2, ii x3, ii 0] [] M4) Qt
      else
       D 252 [.inr (.inr 6), .inl x3] M3 (rv_ fun M5 =>
        V 49 [rr 6, ii x1, ii x2, ii (w32 (x3 + 1)), ii 0] [] M5) Qt)) Qt
    else
     D 245 [.inr (.inr 6), .inl x2] M2 (rv_ fun M6 =>
      V 49 [rr 6, ii x1, ii (w32 (x2 + 1)), ii x3, ii 0] [] M6) Qt)) Qt
  else
   D 232 [.inr (.inr 6)] M1 (rv_ fun M7 =>
    V 49 [rr 6, ii x1, ii x2, ii x3, ii 0] [] M7) Qt)) Qt) : V 73 [rr 6, ii x1, ii x2, ii x3, ii x4] [] M := bx_go hD (m := (g_226_43, m_226.2)) (Cl_sf z_226_43 hV) hW [(49, []), (73, [])] 20 h
/-- X4_stops()Z -/
theorem b_227_0 {D : ca_} {V : vv_} {Qr : qr_} {Qt : qt_} (hD : Mo_ D) (hV : Cl_ wd0 D V Qr Qt m_227) (hW : Wk_ V)  (M : mm_) (h :
 (if M 6 13 ≤ 0 then
  bl_ 0 ∧ Qr [.inl 0] M
 else
  (bl_ (M 6 16) → (if M 6 16 = 0 then
   bl_ 1 ∧ Qr [.inl 1] M
  else
   bl_ 0 ∧ Qr [.inl 0] M)))) : V 0 [rr 6] [] M := bx_go hD hV hW [] 9 h
/-- X4_mayWord(I)Z -/
theorem b_228_0 {D : ca_} {V : vv_} {Qr : qr_} {Qt : qt_} (hD : Mo_ D) (hV : Cl_ wd0 D V Qr Qt m_228) (hW : Wk_ V) (x1 : Int) (M : mm_) (h :
 D 227 [.inr (.inr 6)] M (ri_ fun v1 M1 =>
  (if v1 = 0 then
   D 229 [.inr (.inr 6), .inl x1] M1 (ri_ fun v2 M3 =>
    (if v2 = 0 then
     (if (0 : Int) = 0 then
      bl_ 0 ∧ Qr [.inl 0] M3
     else
      D 230 [.inr (.inr 6)] M3 (rv_ fun M4 =>
       bl_ 0 ∧ Qr [.inl 0] M4) Qt)
    else
     (if (1 : Int) = 0 then
      bl_ 1 ∧ Qr [.inl 1] M3
     else
      D 230 [.inr (.inr 6)] M3 (rv_ fun M5 =>
       bl_ 1 ∧ Qr [.inl 1] M5) Qt))) Qt
  else
   (if (0 : Int) = 0 then
    bl_ 0 ∧ Qr [.inl 0] M1
   else
    D 230 [.inr (.inr 6)] M1 (rv_ fun M2 =>
     bl_ 0 ∧ Qr [.inl 0] M2) Qt))) Qt) : V 0 [rr 6, ii x1, none] [] M := bx_go hD hV hW [] 16 h
/-- X4_isWord(I)Z -/
theorem b_229_0 {D : ca_} {V : vv_} {Qr : qr_} {Qt : qt_} (hD : Mo_ D) (hV : Cl_ wd0 D V Qr Qt m_229) (hW : Wk_ V) (x1 : Int) (M : mm_) (h :
 (0 ≤ M 6 12 ∧ M 6 12 < 1202) ∧
  (if M 149 (M 6 12) = 4 then
  (0 ≤ M 6 12 ∧ M 6 12 < 1202) ∧
   (if (if M 151 (M 6 12) < x1 then -1 else if M 151 (M 6 12) = x1 then 0 else 1) = 0 then
   bl_ 1 ∧ Qr [.inl 1] M
  else
   bl_ 0 ∧ Qr [.inl 0] M)
 else
  bl_ 0 ∧ Qr [.inl 0] M)) : V 0 [rr 6, ii x1] [] M := bx_go hD hV hW [] 19 h
/-- X4_take()V -/
theorem b_230_0 {D : ca_} {V : vv_} {Qr : qr_} {Qt : qt_} (hD : Mo_ D) (hV : Cl_ wd0 D V Qr Qt m_230) (hW : Wk_ V)  (M : mm_) (h :
 (if M 6 12 = 1200 then
  (0 ≤ M 6 12 ∧ M 6 12 < 1202) ∧
   D 231 [.inr (.inr 6), .inl 2, .inl (M 150 (M 6 12))] M (rv_ fun M2 =>
   D 227 [.inr (.inr 6)] M2 (ri_ fun v2 M3 =>
    (if v2 = 0 then
     Qr [] (up_ M3 6 12 (w32 ((M3 6 12) + 1)))
    else
     Qr [] M3)) Qt) Qt
 else
  D 227 [.inr (.inr 6)] M (ri_ fun v1 M1 =>
   (if v1 = 0 then
    Qr [] (up_ M1 6 12 (w32 ((M1 6 12) + 1)))
   else
    Qr [] M1)) Qt)) : V 0 [rr 6] [] M := bx_go hD hV hW [] 22 h
/-- X4_breaks(II)V -/
theorem b_231_0 {D : ca_} {V : vv_} {Qr : qr_} {Qt : qt_} (hD : Mo_ D) (hV : Cl_ wd0 D V Qr Qt m_231) (hW : Wk_ V) (x1 : Int) (x2 : Int) (M : mm_) (h :
 (if M 6 13 = 0 then
  Qr [] (up_ (up_ M 6 13 x1) 6 14 x2)
 else
  Qr [] M)) : V 0 [rr 6, ii x1, ii x2] [] M := bx_go hD hV hW [] 10 h
/-- X4_signals()V -/
theorem b_232_0 {D : ca_} {V : vv_} {Qr : qr_} {Qt : qt_} (hD : Mo_ D) (hV : Cl_ wd0 D V Qr Qt m_232) (hW : Wk_ V)  (M : mm_) (h :
 V 2 [rr 6, ii 1, none, none] [] M) : V 0 [rr 6, none, none, none] [] M := bx_go hD hV hW [(2, [2, 3]), (75, [])] 3 h
theorem b_232_2 {D : ca_} {V : vv_} {Qr : qr_} {Qt : qt_} (hD : Mo_ D) (hV : Cl_ wd0 D V Qr Qt m_232) (hW : Wk_ V) (x1 : Int) (M : mm_) (h :
 (if x1 = 0 then
  D 244 [.inr (.inr 6), .inl 59] M (rv_ fun M1 =>
   Qr [] M1) Qt
 else
  D 227 [.inr (.inr 6)] M (ri_ fun v1 M2 =>
   (if v1 = 0 then
    D 233 [.inr (.inr 6)] M2 (ri_ fun v2 M4 =>
     D 227 [.inr (.inr 6)] M4 (ri_ fun v3 M5 =>
      (if v3 = 0 then
       (bl_ (M5 6 16) → (if M5 6 16 = 0 then
        (if M5 6 17 = 20 then
         (0 ≤ v2 ∧ v2 < 1202) ∧
          D 231 [.inr (.inr 6), .inl 2, .inl (M5 150 v2)] M5 (rv_ fun M8 =>
          Qr [] M8) Qt
        else
         D 235 [.inr (.inr 6), .inl v2] M5 (rv_ fun M7 =>
          (bl_ (M7 6 16) → (if M7 6 16 = 0 then
           V 75 [rr 6, ii x1, ii v2, ii (M7 6 17)] [] M7
          else
           V 75 [rr 6, ii x1, ii v2, ii 0] [] M7))) Qt)
       else
        D 235 [.inr (.inr 6), .inl v2] M5 (rv_ fun M6 =>
         (bl_ (M6 6 16) → (if M6 6 16 = 0 then
          V 75 [rr 6, ii x1, ii v2, ii (M6 6 17)] [] M6
         else
          V 75 [rr 6, ii x1, ii v2, ii 0] [] M6))) Qt))
      else
       Qr [] M5)) Qt) Qt
   else
    D 244 [.inr (.inr 6), .inl 59] M2 (rv_ fun M3 =>
     Qr [] M3) Qt)) Qt)) : V 2 [rr 6, ii x1, none, none] [] M := bx_go hD hV hW [(2, [2, 3]), (75, [])] 28 h
theorem i_232 : inq_ 0 k_232 = true := by decide +kernel
theorem z_232_40 : Sf_ k_232 g_232_40 := Sf_of i_232 40 rfl
theorem b_232_75 {D : ca_} {V : vv_} {Qr : qr_} {Qt : qt_} (hD : Mo_ D) (hV : Cl_ wd0 D V Qr Qt m_232) (hW : Wk_ V) (x1 : Int) (x2 : Int) (x3 : Int) (M : mm_) (h :
 (bl_ (M 6 16) → (if M 6 16 = 0 then
  (0 ≤ x2 ∧ x2 < 1202) ∧
   (0 ≤ x3 ∧ x3 < 20) ∧
   (0 ≤ x2 ∧ x2 < 1202) ∧
   (0 ≤ x3 ∧ x3 < 20) ∧
   (0 ≤ x3 ∧ x3 < 20) ∧
   D 237 [.inr (.inr 6), .inl 40] (up_ (up_ (up_ (up_ M 152 x3 (M 151 x2)) 155 x3 (M 150 x2)) 156 x3 0) 6 17 (w32 ((M 6 17) + 1))) (ri_ fun v4 M5 =>
   (if v4 = 0 then
    D 242 [.inr (.inr 6), .inl 44] M5 (ri_ fun v5 M6 =>
     V 2 [rr 6, ii v5, none, none] [] M6) Qt
   else
    D 238 [.inr (.inr 6), .inl x3] M5 (rv_ fun M7 =>
     D 242 [.inr (.inr 6), .inl 44] M7 (ri_ fun v6 M8 =>
      V 2 [rr 6, ii v6, none, none] [] M8) Qt) Qt)) Qt
 else
  D 237 [.inr (.inr 6), .inl 40] M (ri_ fun v1 M1 =>
   (if v1 = 0 then
    D 242 [.inr (.inr 6), .inl 44] M1 (ri_ fun v2 M2 =>
     V 2 [rr 6, ii v2, none, none] [] M2) Qt
   else
    D 238 [.inr (.inr 6), .inl x3] M1 (rv_ fun M3 =>
     D 242 [.inr (.inr 6), .inl 44] M3 (ri_ fun v3 M4 =>
      V 2 [rr 6, ii v3, none, none] [] M4) Qt) Qt)) Qt))) : V 75 [rr 6, ii x1, ii x2, ii x3] [] M := bx_go hD (m := (g_232_40, m_232.2)) (Cl_sf z_232_40 hV) hW [(2, [2, 3]), (75, [])] 43 h
/-- X4_name()I -/
theorem b_233_0 {D : ca_} {V : vv_} {Qr : qr_} {Qt : qt_} (hD : Mo_ D) (hV : Cl_ wd0 D V Qr Qt m_233) (hW : Wk_ V)  (M : mm_) (h :
 D 227 [.inr (.inr 6)] M (ri_ fun v1 M1 =>
  (if v1 = 0 then
   (0 ≤ M1 6 12 ∧ M1 6 12 < 1202) ∧
    (if M1 149 (M1 6 12) = 1 then
    D 230 [.inr (.inr 6)] M1 (rv_ fun M3 =>
     Qr [.inl (M 6 12)] M3) Qt
   else
    D 234 [.inr (.inr 6)] M1 (rv_ fun M2 =>
     Qr [.inl (M 6 12)] M2) Qt)
  else
   Qr [.inl (M 6 12)] M1)) Qt) : V 0 [rr 6, none] [] M := bx_go hD hV hW [] 18 h
/-- X4_wrong()V -/
theorem b_234_0 {D : ca_} {V : vv_} {Qr : qr_} {Qt : qt_} (hD : Mo_ D) (hV : Cl_ wd0 D V Qr Qt m_234) (hW : Wk_ V)  (M : mm_) (h :
 (0 ≤ M 6 12 ∧ M 6 12 < 1202) ∧
  D 231 [.inr (.inr 6), .inl 1, .inl (M 150 (M 6 12))] M (rv_ fun M1 =>
  Qr [] M1) Qt) : V 0 [rr 6] [] M := bx_go hD hV hW [] 9 h
/-- X4_global(I)V -/
theorem b_235_0 {D : ca_} {V : vv_} {Qr : qr_} {Qt : qt_} (hD : Mo_ D) (hV : Cl_ wd0 D V Qr Qt m_235) (hW : Wk_ V) (x1 : Int) (M : mm_) (h :
 (bl_ (M 6 16) → (if M 6 16 = 0 then
  D 227 [.inr (.inr 6)] M (ri_ fun v1 M1 =>
   (if v1 = 0 then
    (0 ≤ x1 ∧ x1 < 1202) ∧
     (0 ≤ M1 6 58 ∧ M1 6 58 < 36) ∧
     (0 ≤ x1 ∧ x1 < 1202) ∧
     (0 ≤ M1 6 58 ∧ M1 6 58 < 36) ∧
     Qr [] (up_ (up_ (up_ M1 190 (M1 6 58) (M1 151 x1)) 191 (M1 6 58) (M1 150 x1)) 6 58 (w32 ((M1 6 58) + 1)))
   else
    Qr [] M1)) Qt
 else
  V 9 [rr 6, ii x1, ii 0] [] M))) : V 0 [rr 6, ii x1, none] [] M := bx_go hD hV hW [(9, [])] 31 h
theorem b_235_9 {D : ca_} {V : vv_} {Qr : qr_} {Qt : qt_} (hD : Mo_ D) (hV : Cl_ wd0 D V Qr Qt m_235) (hW : Wk_ V) (x1 : Int) (x2 : Int) (M : mm_) (h :
 (if x2 < M 6 58 then
  (0 ≤ x2 ∧ x2 < 36) ∧
   (0 ≤ x1 ∧ x1 < 1202) ∧
   (if (if M 190 x2 < M 151 x1 then -1 else if M 190 x2 = M 151 x1 then 0 else 1) = 0 then
   (0 ≤ x2 ∧ x2 < 36) ∧
    (0 ≤ x1 ∧ x1 < 1202) ∧
    (if M 191 x2 < M 150 x1 then
    (0 ≤ x1 ∧ x1 < 1202) ∧
     D 236 [.inr (.inr 6), .inl 3, .inl (M 150 x1)] M (rv_ fun M1 =>
     V 9 [rr 6, ii x1, ii (w32 (x2 + 1))] [] M1) Qt
   else
    V 9 [rr 6, ii x1, ii (w32 (x2 + 1))] [] M)
  else
   V 9 [rr 6, ii x1, ii (w32 (x2 + 1))] [] M)
 else
  Qr [] M)) : V 9 [rr 6, ii x1, ii x2] [] M := bx_go hD hV hW [(9, [])] 33 h
/-- X4_note(II)V -/
theorem b_236_0 {D : ca_} {V : vv_} {Qr : qr_} {Qt : qt_} (hD : Mo_ D) (hV : Cl_ wd0 D V Qr Qt m_236) (hW : Wk_ V) (x1 : Int) (x2 : Int) (M : mm_) (h :
 (bl_ (M 6 16) → (if M 6 16 = 0 then
  Qr [] M
 else
  (if M 6 13 = 0 then
   Qr [] (up_ (up_ M 6 13 x1) 6 14 x2)
  else
   (if x2 < M 6 14 then
    Qr [] (up_ (up_ M 6 13 x1) 6 14 x2)
   else
    (if x2 = M 6 14 then
     (if x1 < M 6 13 then
      Qr [] (up_ (up_ M 6 13 x1) 6 14 x2)
     else
      Qr [] M)
    else
     Qr [] M)))))) : V 0 [rr 6, ii x1, ii x2] [] M := bx_go hD hV hW [] 25 h
/-- X4_isSign(I)Z -/
theorem b_237_0 {D : ca_} {V : vv_} {Qr : qr_} {Qt : qt_} (hD : Mo_ D) (hV : Cl_ wd0 D V Qr Qt m_237) (hW : Wk_ V) (x1 : Int) (M : mm_) (h :
 (0 ≤ M 6 12 ∧ M 6 12 < 1202) ∧
  (if M 149 (M 6 12) = 3 then
  (0 ≤ M 6 12 ∧ M 6 12 < 1202) ∧
   (if (if M 151 (M 6 12) < x1 then -1 else if M 151 (M 6 12) = x1 then 0 else 1) = 0 then
   bl_ 1 ∧ Qr [.inl 1] M
  else
   bl_ 0 ∧ Qr [.inl 0] M)
 else
  bl_ 0 ∧ Qr [.inl 0] M)) : V 0 [rr 6, ii x1] [] M := bx_go hD hV hW [] 19 h
/-- X4_sorts(I)V -/
theorem b_238_0 {D : ca_} {V : vv_} {Qr : qr_} {Qt : qt_} (hD : Mo_ D) (hV : Cl_ wd0 D V Qr Qt m_238) (hW : Wk_ V) (x1 : Int) (M : mm_) (h :
 D 239 [.inr (.inr 6), .inl 40] M (rv_ fun M1 =>
  V 10 [rr 6, ii x1, ii 0, ii 1, none, none] [] M1) Qt) : V 0 [rr 6, ii x1, none, none, none, none] [] M := bx_go hD hV hW [(10, [4, 5]), (57, [])] 8 h
theorem i_238 : inq_ 0 k_238 = true := by decide +kernel
theorem z_238_7 : Sf_ k_238 g_238_7 := Sf_of i_238 7 rfl
theorem b_238_10 {D : ca_} {V : vv_} {Qr : qr_} {Qt : qt_} (hD : Mo_ D) (hV : Cl_ wd0 D V Qr Qt m_238) (hW : Wk_ V) (x1 : Int) (x2 : Int) (x3 : Int) (M : mm_) (h :
 (if x3 = 0 then
  D 243 [.inr (.inr 6), .inl 41] M (rv_ fun M1 =>
   Qr [] M1) Qt
 else
  D 227 [.inr (.inr 6)] M (ri_ fun v1 M2 =>
   (if v1 = 0 then
    (0 ≤ M2 6 12 ∧ M2 6 12 < 1202) ∧
     D 241 [.inr (.inr 6)] M2 (ri_ fun v2 M4 =>
     D 227 [.inr (.inr 6)] M4 (ri_ fun v3 M5 =>
      (if v3 = 0 then
       (if x2 = 3 then
        D 231 [.inr (.inr 6), .inl 2, .inl (M2 150 (M2 6 12))] M5 (rv_ fun M6 =>
         V 57 [rr 6, ii x1, ii x2, ii x3, ii (M2 150 (M2 6 12)), ii v2] [] M6) Qt
       else
        V 57 [rr 6, ii x1, ii x2, ii x3, ii (M2 150 (M2 6 12)), ii v2] [] M5)
      else
       V 57 [rr 6, ii x1, ii x2, ii x3, ii (M2 150 (M2 6 12)), ii v2] [] M5)) Qt) Qt
   else
    D 243 [.inr (.inr 6), .inl 41] M2 (rv_ fun M3 =>
     Qr [] M3) Qt)) Qt)) : V 10 [rr 6, ii x1, ii x2, ii x3, none, none] [] M := bx_go hD (m := (g_238_7, m_238.2)) (Cl_sf z_238_7 hV) hW [(10, [4, 5]), (57, [])] 25 h
theorem z_238_31 : Sf_ k_238 g_238_31 := Sf_tr z_238_7 24 rfl
theorem b_238_57 {D : ca_} {V : vv_} {Qr : qr_} {Qt : qt_} (hD : Mo_ D) (hV : Cl_ wd0 D V Qr Qt m_238) (hW : Wk_ V) (x1 : Int) (x2 : Int) (x3 : Int) (x4 : Int) (x5 : Int) (M : mm_) (h :
 D 227 [.inr (.inr 6)] M (ri_ fun v1 M1 =>
  (if v1 = 0 then
   (bl_ (M1 6 16) → (if M1 6 16 = 0 then
    (0 ≤ w32 ((w32 (3 * x1)) + x2) ∧ w32 ((w32 (3 * x1)) + x2) < 60) ∧
     (bl_ (M1 6 16) → (if M1 6 16 = 0 then
     (0 ≤ x1 ∧ x1 < 20) ∧
      D 242 [.inr (.inr 6), .inl 44] (up_ (up_ M1 157 (w32 ((w32 (3 * x1)) + x2)) x5) 156 x1 (w32 (x2 + 1))) (ri_ fun v5 M5 =>
      V 10 [rr 6, ii x1, ii (w32 (x2 + 1)), ii v5, none, none] [] M5) Qt
    else
     D 242 [.inr (.inr 6), .inl 44] (up_ M1 157 (w32 ((w32 (3 * x1)) + x2)) x5) (ri_ fun v4 M4 =>
      V 10 [rr 6, ii x1, ii (w32 (x2 + 1)), ii v4, none, none] [] M4) Qt))
   else
    (bl_ (M1 6 16) → (if M1 6 16 = 0 then
     (0 ≤ x1 ∧ x1 < 20) ∧
      D 242 [.inr (.inr 6), .inl 44] (up_ M1 156 x1 (w32 (x2 + 1))) (ri_ fun v3 M3 =>
      V 10 [rr 6, ii x1, ii (w32 (x2 + 1)), ii v3, none, none] [] M3) Qt
    else
     D 242 [.inr (.inr 6), .inl 44] M1 (ri_ fun v2 M2 =>
      V 10 [rr 6, ii x1, ii (w32 (x2 + 1)), ii v2, none, none] [] M2) Qt))))
  else
   Qr [] M1)) Qt) : V 57 [rr 6, ii x1, ii x2, ii x3, ii x4, ii x5] [] M := bx_go hD (m := (g_238_31, m_238.2)) (Cl_sf z_238_31 hV) hW [(10, [4, 5]), (57, [])] 30 h
/-- X4_openSign(I)V -/
theorem b_239_0 {D : ca_} {V : vv_} {Qr : qr_} {Qt : qt_} (hD : Mo_ D) (hV : Cl_ wd0 D V Qr Qt m_239) (hW : Wk_ V) (x1 : Int) (M : mm_) (h :
 D 227 [.inr (.inr 6)] M (ri_ fun v1 M1 =>
  (if v1 = 0 then
   D 237 [.inr (.inr 6), .inl x1] M1 (ri_ fun v2 M2 =>
    (if v2 = 0 then
     D 234 [.inr (.inr 6)] M2 (rv_ fun M5 =>
      Qr [] M5) Qt
    else
     D 240 [.inr (.inr 6)] M2 (rv_ fun M3 =>
      D 230 [.inr (.inr 6)] M3 (rv_ fun M4 =>
       Qr [] M4) Qt) Qt)) Qt
  else
   Qr [] M1)) Qt) : V 0 [rr 6, ii x1] [] M := bx_go hD hV hW [] 12 h
/-- X4_opens()V -/
theorem b_240_0 {D : ca_} {V : vv_} {Qr : qr_} {Qt : qt_} (hD : Mo_ D) (hV : Cl_ wd0 D V Qr Qt m_240) (hW : Wk_ V)  (M : mm_) (h :
 (if w32 ((M 6 15) + 1) ≤ 12 then
  Qr [] (up_ M 6 15 (w32 ((M 6 15) + 1)))
 else
  (0 ≤ M 6 12 ∧ M 6 12 < 1202) ∧
   D 231 [.inr (.inr 6), .inl 2, .inl (M 150 (M 6 12))] (up_ M 6 15 (w32 ((M 6 15) + 1))) (rv_ fun M1 =>
   Qr [] M1) Qt)) : V 0 [rr 6] [] M := bx_go hD hV hW [] 19 h
/-- X4_sort()I -/
theorem b_241_0 {D : ca_} {V : vv_} {Qr : qr_} {Qt : qt_} (hD : Mo_ D) (hV : Cl_ wd0 D V Qr Qt m_241) (hW : Wk_ V)  (M : mm_) (h :
 D 229 [.inr (.inr 6), .inl 28] M (ri_ fun v1 M1 =>
  (if v1 = 0 then
   D 229 [.inr (.inr 6), .inl 29] M1 (ri_ fun v2 M2 =>
    (if v2 = 0 then
     D 229 [.inr (.inr 6), .inl 30] M2 (ri_ fun v3 M3 =>
      (if v3 = 0 then
       D 227 [.inr (.inr 6)] M3 (ri_ fun v4 M4 =>
        (if v4 = 0 then
         (if (0 : Int) ≤ 0 then
          D 234 [.inr (.inr 6)] M4 (rv_ fun M5 =>
           Qr [.inl 0] M5) Qt
         else
          D 230 [.inr (.inr 6)] M4 (rv_ fun M6 =>
           Qr [.inl 0] M6) Qt)
        else
         Qr [.inl 0] M4)) Qt
      else
       D 227 [.inr (.inr 6)] M3 (ri_ fun v5 M7 =>
        (if v5 = 0 then
         (if (3 : Int) ≤ 0 then
          D 234 [.inr (.inr 6)] M7 (rv_ fun M8 =>
           Qr [.inl 3] M8) Qt
         else
          D 230 [.inr (.inr 6)] M7 (rv_ fun M9 =>
           Qr [.inl 3] M9) Qt)
        else
         Qr [.inl 0] M7)) Qt)) Qt
    else
     D 227 [.inr (.inr 6)] M2 (ri_ fun v6 M10 =>
      (if v6 = 0 then
       (if (2 : Int) ≤ 0 then
        D 234 [.inr (.inr 6)] M10 (rv_ fun M11 =>
         Qr [.inl 2] M11) Qt
       else
        D 230 [.inr (.inr 6)] M10 (rv_ fun M12 =>
         Qr [.inl 2] M12) Qt)
      else
       Qr [.inl 0] M10)) Qt)) Qt
  else
   D 227 [.inr (.inr 6)] M1 (ri_ fun v7 M13 =>
    (if v7 = 0 then
     (if (1 : Int) ≤ 0 then
      D 234 [.inr (.inr 6)] M13 (rv_ fun M14 =>
       Qr [.inl 1] M14) Qt
     else
      D 230 [.inr (.inr 6)] M13 (rv_ fun M15 =>
       Qr [.inl 1] M15) Qt)
    else
     Qr [.inl 0] M13)) Qt)) Qt) : V 0 [rr 6, none] [] M := bx_go hD hV hW [] 25 h
/-- X4_maySign(I)Z -/
theorem b_242_0 {D : ca_} {V : vv_} {Qr : qr_} {Qt : qt_} (hD : Mo_ D) (hV : Cl_ wd0 D V Qr Qt m_242) (hW : Wk_ V) (x1 : Int) (M : mm_) (h :
 D 227 [.inr (.inr 6)] M (ri_ fun v1 M1 =>
  (if v1 = 0 then
   D 237 [.inr (.inr 6), .inl x1] M1 (ri_ fun v2 M3 =>
    (if v2 = 0 then
     (if (0 : Int) = 0 then
      bl_ 0 ∧ Qr [.inl 0] M3
     else
      D 230 [.inr (.inr 6)] M3 (rv_ fun M4 =>
       bl_ 0 ∧ Qr [.inl 0] M4) Qt)
    else
     (if (1 : Int) = 0 then
      bl_ 1 ∧ Qr [.inl 1] M3
     else
      D 230 [.inr (.inr 6)] M3 (rv_ fun M5 =>
       bl_ 1 ∧ Qr [.inl 1] M5) Qt))) Qt
  else
   (if (0 : Int) = 0 then
    bl_ 0 ∧ Qr [.inl 0] M1
   else
    D 230 [.inr (.inr 6)] M1 (rv_ fun M2 =>
     bl_ 0 ∧ Qr [.inl 0] M2) Qt))) Qt) : V 0 [rr 6, ii x1, none] [] M := bx_go hD hV hW [] 16 h
/-- X4_closeSign(I)V -/
theorem b_243_0 {D : ca_} {V : vv_} {Qr : qr_} {Qt : qt_} (hD : Mo_ D) (hV : Cl_ wd0 D V Qr Qt m_243) (hW : Wk_ V) (x1 : Int) (M : mm_) (h :
 D 244 [.inr (.inr 6), .inl x1] M (rv_ fun M1 =>
  D 227 [.inr (.inr 6)] M1 (ri_ fun v1 M2 =>
   (if v1 = 0 then
    Qr [] (up_ M2 6 15 (w32 ((M2 6 15) - 1)))
   else
    Qr [] M2)) Qt) Qt) : V 0 [rr 6, ii x1] [] M := bx_go hD hV hW [] 13 h
/-- X4_sign(I)V -/
theorem b_244_0 {D : ca_} {V : vv_} {Qr : qr_} {Qt : qt_} (hD : Mo_ D) (hV : Cl_ wd0 D V Qr Qt m_244) (hW : Wk_ V) (x1 : Int) (M : mm_) (h :
 D 227 [.inr (.inr 6)] M (ri_ fun v1 M1 =>
  (if v1 = 0 then
   D 237 [.inr (.inr 6), .inl x1] M1 (ri_ fun v2 M2 =>
    (if v2 = 0 then
     D 234 [.inr (.inr 6)] M2 (rv_ fun M3 =>
      Qr [] M3) Qt
    else
     D 230 [.inr (.inr 6)] M2 (rv_ fun M4 =>
      Qr [] M4) Qt)) Qt
  else
   Qr [] M1)) Qt) : V 0 [rr 6, ii x1] [] M := bx_go hD hV hW [] 11 h
/-- X4_routeLine(I)V -/
theorem b_245_0 {D : ca_} {V : vv_} {Qr : qr_} {Qt : qt_} (hD : Mo_ D) (hV : Cl_ wd0 D V Qr Qt m_245) (hW : Wk_ V) (x1 : Int) (M : mm_) (h :
 D 233 [.inr (.inr 6)] M (ri_ fun v1 M1 =>
  D 227 [.inr (.inr 6)] M1 (ri_ fun v2 M2 =>
   (if v2 = 0 then
    (bl_ (M2 6 16) → (if M2 6 16 = 0 then
     (if x1 = 10 then
      (0 ≤ v1 ∧ v1 < 1202) ∧
       D 231 [.inr (.inr 6), .inl 2, .inl (M2 150 v1)] M2 (rv_ fun M3 =>
       Qr [] M3) Qt
     else
      V 38 [rr 6, ii x1, ii v1, none, none, none, none, none, none, none, none, none, none] [] M2)
    else
     V 38 [rr 6, ii x1, ii v1, none, none, none, none, none, none, none, none, none, none] [] M2))
   else
    Qr [] M2)) Qt) Qt) : V 0 [rr 6, ii x1, none, none, none, none, none, none, none, none, none, none, none] [] M := bx_go hD hV hW [(38, [3, 4, 5, 6, 7, 8, 9, 10, 11, 12]), (140, [4, 6, 10, 11, 12]), (155, [4, 6, 12]), (206, [4, 6]), (217, [4, 6, 12])] 20 h
theorem i_245 : inq_ 0 k_245 = true := by decide +kernel
theorem z_245_21 : Sf_ k_245 g_245_21 := Sf_of i_245 21 rfl
theorem b_245_38 {D : ca_} {V : vv_} {Qr : qr_} {Qt : qt_} (hD : Mo_ D) (hV : Cl_ wd0 D V Qr Qt m_245) (hW : Wk_ V) (x1 : Int) (x2 : Int) (M : mm_) (h :
 D 235 [.inr (.inr 6), .inl x2] M (rv_ fun M1 =>
  D 246 [.inr (.inr 6)] M1 (rl_ fun v1 M2 =>
   D 244 [.inr (.inr 6), .inl 260] M2 (rv_ fun M3 =>
    D 246 [.inr (.inr 6)] M3 (rl_ fun v2 M4 =>
     D 228 [.inr (.inr 6), .inl 24] M4 (ri_ fun v3 M5 =>
      (if v3 = 0 then
       V 140 [rr 6, ii x1, ii x2, jj v1, none, jj v2, none, ii ((-1)), ii ((-1)), ii 0, none, none, none] [] M5
      else
       D 248 [.inr (.inr 6), .inl 200] M5 (ri_ fun v4 M6 =>
        D 242 [.inr (.inr 6), .inl 261] M6 (ri_ fun v5 M7 =>
         (if v5 = 0 then
          V 140 [rr 6, ii x1, ii x2, jj v1, none, jj v2, none, ii v4, ii v4, ii 0, none, none, none] [] M7
         else
          (0 ≤ M7 6 12 ∧ M7 6 12 < 1202) ∧
           D 248 [.inr (.inr 6), .inl 200] M7 (ri_ fun v6 M8 =>
           (if v4 ≤ v6 then
            V 140 [rr 6, ii x1, ii x2, jj v1, none, jj v2, none, ii v4, ii v6, ii 1, none, none, none] [] M8
           else
            D 236 [.inr (.inr 6), .inl 6, .inl (M7 150 (M7 6 12))] M8 (rv_ fun M9 =>
             V 140 [rr 6, ii x1, ii x2, jj v1, none, jj v2, none, ii v4, ii v6, ii 1, none, none, none] [] M9) Qt)) Qt)) Qt) Qt)) Qt) Qt) Qt) Qt) Qt) : V 38 [rr 6, ii x1, ii x2, none, none, none, none, none, none, none, none, none, none] [] M := bx_go hD (m := (g_245_21, m_245.2)) (Cl_sf z_245_21 hV) hW [(38, [3, 4, 5, 6, 7, 8, 9, 10, 11, 12]), (140, [4, 6, 10, 11, 12]), (155, [4, 6, 12]), (206, [4, 6]), (217, [4, 6, 12])] 52 h
theorem z_245_72 : Sf_ k_245 g_245_72 := Sf_tr z_245_21 51 rfl
theorem b_245_140 {D : ca_} {V : vv_} {Qr : qr_} {Qt : qt_} (hD : Mo_ D) (hV : Cl_ wd0 D V Qr Qt m_245) (hW : Wk_ V) (x1 : Int) (x2 : Int) (x3 : Int) (x5 : Int) (x7 : Int) (x8 : Int) (x9 : Int) (M : mm_) (h :
 D 250 [.inr (.inr 6), .inl 23] M (rv_ fun M1 =>
  V 155 [rr 6, ii x1, ii x2, jj x3, none, jj x5, none, ii x7, ii x8, ii x9, ii (M1 6 12), ii 1, none] [] M1) Qt) : V 140 [rr 6, ii x1, ii x2, jj x3, none, jj x5, none, ii x7, ii x8, ii x9, none, none, none] [] M := bx_go hD (m := (g_245_72, m_245.2)) (Cl_sf z_245_72 hV) hW [(38, [3, 4, 5, 6, 7, 8, 9, 10, 11, 12]), (140, [4, 6, 10, 11, 12]), (155, [4, 6, 12]), (206, [4, 6]), (217, [4, 6, 12])] 9 h
theorem z_245_80 : Sf_ k_245 g_245_80 := Sf_tr z_245_72 8 rfl
theorem b_245_155 {D : ca_} {V : vv_} {Qr : qr_} {Qt : qt_} (hD : Mo_ D) (hV : Cl_ wd0 D V Qr Qt m_245) (hW : Wk_ V) (x1 : Int) (x2 : Int) (x3 : Int) (x5 : Int) (x7 : Int) (x8 : Int) (x9 : Int) (x10 : Int) (x11 : Int) (M : mm_) (h :
 (if x11 = 0 then
  V 217 [rr 6, ii x1, ii x2, jj x3, none, jj x5, none, ii x7, ii x8, ii x9, ii x10, ii x11, none] [] M
 else
  D 227 [.inr (.inr 6)] M (ri_ fun v1 M1 =>
   (if v1 = 0 then
    D 233 [.inr (.inr 6)] M1 (ri_ fun v2 M2 =>
     (bl_ (M2 6 16) → (if M2 6 16 = 0 then
      V 206 [rr 6, ii x1, ii x2, jj x3, none, jj x5, none, ii x7, ii x8, ii x9, ii x10, ii x11, ii v2] [] M2
     else
      (0 ≤ v2 ∧ v2 < 1202) ∧
       D 251 [.inr (.inr 6), .inr (.inl (M2 151 v2))] M2 (ri_ fun v3 M3 =>
       (if v3 < 0 then
        (0 ≤ v2 ∧ v2 < 1202) ∧
         D 236 [.inr (.inr 6), .inl 4, .inl (M3 150 v2)] M3 (rv_ fun M4 =>
         V 206 [rr 6, ii x1, ii x2, jj x3, none, jj x5, none, ii x7, ii x8, ii x9, ii x10, ii x11, ii v2] [] M4) Qt
       else
        V 206 [rr 6, ii x1, ii x2, jj x3, none, jj x5, none, ii x7, ii x8, ii x9, ii x10, ii x11, ii v2] [] M3)) Qt))) Qt
   else
    V 217 [rr 6, ii x1, ii x2, jj x3, none, jj x5, none, ii x7, ii x8, ii x9, ii x10, ii x11, none] [] M1)) Qt)) : V 155 [rr 6, ii x1, ii x2, jj x3, none, jj x5, none, ii x7, ii x8, ii x9, ii x10, ii x11, none] [] M := bx_go hD (m := (g_245_80, m_245.2)) (Cl_sf z_245_80 hV) hW [(38, [3, 4, 5, 6, 7, 8, 9, 10, 11, 12]), (140, [4, 6, 10, 11, 12]), (155, [4, 6, 12]), (206, [4, 6]), (217, [4, 6, 12])] 26 h
theorem z_245_105 : Sf_ k_245 g_245_105 := Sf_tr z_245_80 25 rfl
theorem b_245_206 {D : ca_} {V : vv_} {Qr : qr_} {Qt : qt_} (hD : Mo_ D) (hV : Cl_ wd0 D V Qr Qt m_245) (hW : Wk_ V) (x1 : Int) (x2 : Int) (x3 : Int) (x5 : Int) (x7 : Int) (x8 : Int) (x9 : Int) (x10 : Int) (x11 : Int) (x12 : Int) (M : mm_) (h :
 D 242 [.inr (.inr 6), .inl 44] M (ri_ fun v1 M1 =>
  V 155 [rr 6, ii x1, ii x2, jj x3, none, jj x5, none, ii x7, ii x8, ii x9, ii x10, ii v1, none] [] M1) Qt) : V 206 [rr 6, ii x1, ii x2, jj x3, none, jj x5, none, ii x7, ii x8, ii x9, ii x10, ii x11, ii x12] [] M := bx_go hD (m := (g_245_105, m_245.2)) (Cl_sf z_245_105 hV) hW [(38, [3, 4, 5, 6, 7, 8, 9, 10, 11, 12]), (140, [4, 6, 10, 11, 12]), (155, [4, 6, 12]), (206, [4, 6]), (217, [4, 6, 12])] 6 h
theorem z_245_110 : Sf_ k_245 g_245_110 := Sf_tr z_245_105 5 rfl
theorem b_245_217 {D : ca_} {V : vv_} {Qr : qr_} {Qt : qt_} (hD : Mo_ D) (hV : Cl_ wd0 D V Qr Qt m_245) (hW : Wk_ V) (x1 : Int) (x2 : Int) (x3 : Int) (x5 : Int) (x7 : Int) (x8 : Int) (x9 : Int) (x10 : Int) (x11 : Int) (M : mm_) (h :
 D 244 [.inr (.inr 6), .inl 59] M (rv_ fun M1 =>
  (bl_ (M1 6 16) → (if M1 6 16 = 0 then
   D 227 [.inr (.inr 6)] M1 (ri_ fun v1 M2 =>
    (if v1 = 0 then
     (0 ≤ x2 ∧ x2 < 1202) ∧
      (0 ≤ x1 ∧ x1 < 10) ∧
      (0 ≤ x1 ∧ x1 < 10) ∧
      (0 ≤ x1 ∧ x1 < 10) ∧
      (0 ≤ x1 ∧ x1 < 10) ∧
      (0 ≤ x1 ∧ x1 < 10) ∧
      ((0 ≤ x1 ∧ x1 < 10) ∧ bl_ x9) ∧
      (0 ≤ x1 ∧ x1 < 10) ∧
      Qr [] (up_ (up_ (up_ (up_ (up_ (up_ (up_ (up_ M2 153 x1 (M2 151 x2)) 158 x1 x3) 159 x1 x5) 162 x1 x7) 163 x1 x8) 166 x1 x9) 165 x1 x10) 6 18 (w32 ((M2 6 18) + 1)))
    else
     Qr [] M2)) Qt
  else
   Qr [] M1))) Qt) : V 217 [rr 6, ii x1, ii x2, jj x3, none, jj x5, none, ii x7, ii x8, ii x9, ii x10, ii x11, none] [] M := bx_go hD (m := (g_245_110, m_245.2)) (Cl_sf z_245_110 hV) hW [(38, [3, 4, 5, 6, 7, 8, 9, 10, 11, 12]), (140, [4, 6, 10, 11, 12]), (155, [4, 6, 12]), (206, [4, 6]), (217, [4, 6, 12])] 54 h
/-- X4_side()J -/
theorem b_246_0 {D : ca_} {V : vv_} {Qr : qr_} {Qt : qt_} (hD : Mo_ D) (hV : Cl_ wd0 D V Qr Qt m_246) (hW : Wk_ V)  (M : mm_) (h :
 D 228 [.inr (.inr 6), .inl 25] M (ri_ fun v1 M1 =>
  (if v1 = 0 then
   D 233 [.inr (.inr 6)] M1 (ri_ fun v2 M2 =>
    (bl_ (M2 6 16) → (if M2 6 16 = 0 then
     (0 ≤ v2 ∧ v2 < 1202) ∧
      Qr [.inr (.inl (M2 151 v2))] M2
    else
     (0 ≤ v2 ∧ v2 < 1202) ∧
      D 247 [.inr (.inr 6), .inr (.inl (M2 151 v2))] M2 (ri_ fun v3 M3 =>
      (if v3 < 0 then
       (0 ≤ v2 ∧ v2 < 1202) ∧
        D 236 [.inr (.inr 6), .inl 4, .inl (M3 150 v2)] M3 (rv_ fun M4 =>
        (0 ≤ v2 ∧ v2 < 1202) ∧
         Qr [.inr (.inl (M4 151 v2))] M4) Qt
      else
       (0 ≤ v2 ∧ v2 < 1202) ∧
        Qr [.inr (.inl (M3 151 v2))] M3)) Qt))) Qt
  else
   Qr [.inr (.inl 0)] M1)) Qt) : V 0 [rr 6, none] [] M := bx_go hD hV hW [] 29 h
/-- X4_typeOf(J)I -/
theorem b_247_0 {D : ca_} {V : vv_} {Qr : qr_} {Qt : qt_} (hD : Mo_ D) (hV : Cl_ wd0 D V Qr Qt m_247) (hW : Wk_ V) (x1 : Int) (M : mm_) (h :
 V 2 [rr 6, jj x1, none, ii 0] [] M) : V 0 [rr 6, jj x1, none, none] [] M := bx_go hD hV hW [(2, [2])] 3 h
theorem b_247_2 {D : ca_} {V : vv_} {Qr : qr_} {Qt : qt_} (hD : Mo_ D) (hV : Cl_ wd0 D V Qr Qt m_247) (hW : Wk_ V) (x1 : Int) (x3 : Int) (M : mm_) (h :
 (if x3 < M 6 19 then
  (0 ≤ x3 ∧ x3 < 6) ∧
   (if (if M 154 x3 < x1 then -1 else if M 154 x3 = x1 then 0 else 1) = 0 then
   Qr [.inl x3] M
  else
   V 2 [rr 6, jj x1, none, ii (w32 (x3 + 1))] [] M)
 else
  Qr [.inl ((-1))] M)) : V 2 [rr 6, jj x1, none, ii x3] [] M := bx_go hD hV hW [(2, [2])] 14 h
/-- X4_bounded(I)I -/
theorem b_248_0 {D : ca_} {V : vv_} {Qr : qr_} {Qt : qt_} (hD : Mo_ D) (hV : Cl_ wd0 D V Qr Qt m_248) (hW : Wk_ V) (x1 : Int) (M : mm_) (h :
 (0 ≤ M 6 12 ∧ M 6 12 < 1202) ∧
  D 249 [.inr (.inr 6)] M (ri_ fun v1 M1 =>
  D 227 [.inr (.inr 6)] M1 (ri_ fun v2 M2 =>
   (if v2 = 0 then
    (if v1 ≤ x1 then
     Qr [.inl v1] M2
    else
     D 231 [.inr (.inr 6), .inl 2, .inl (M 150 (M 6 12))] M2 (rv_ fun M3 =>
      Qr [.inl v1] M3) Qt)
   else
    Qr [.inl v1] M2)) Qt) Qt) : V 0 [rr 6, ii x1, none, none] [] M := bx_go hD hV hW [] 21 h
/-- X4_number()I -/
theorem b_249_0 {D : ca_} {V : vv_} {Qr : qr_} {Qt : qt_} (hD : Mo_ D) (hV : Cl_ wd0 D V Qr Qt m_249) (hW : Wk_ V)  (M : mm_) (h :
 D 227 [.inr (.inr 6)] M (ri_ fun v1 M1 =>
  (if v1 = 0 then
   (0 ≤ M1 6 12 ∧ M1 6 12 < 1202) ∧
    (if M1 149 (M1 6 12) = 2 then
    (0 ≤ M1 6 12 ∧ M1 6 12 < 1202) ∧
     (0 ≤ M1 6 12 ∧ M1 6 12 < 1202) ∧
     (if M1 149 (M1 6 12) = 2 then
     D 230 [.inr (.inr 6)] M1 (rv_ fun M5 =>
      Qr [.inl (w32 (M1 151 (M1 6 12)))] M5) Qt
    else
     D 234 [.inr (.inr 6)] M1 (rv_ fun M4 =>
      Qr [.inl (w32 (M1 151 (M1 6 12)))] M4) Qt)
   else
    (0 ≤ M1 6 12 ∧ M1 6 12 < 1202) ∧
     (if M1 149 (M1 6 12) = 2 then
     D 230 [.inr (.inr 6)] M1 (rv_ fun M3 =>
      Qr [.inl 0] M3) Qt
    else
     D 234 [.inr (.inr 6)] M1 (rv_ fun M2 =>
      Qr [.inl 0] M2) Qt))
  else
   Qr [.inl 0] M1)) Qt) : V 0 [rr 6, none] [] M := bx_go hD hV hW [] 30 h
/-- X4_word(I)V -/
theorem b_250_0 {D : ca_} {V : vv_} {Qr : qr_} {Qt : qt_} (hD : Mo_ D) (hV : Cl_ wd0 D V Qr Qt m_250) (hW : Wk_ V) (x1 : Int) (M : mm_) (h :
 D 227 [.inr (.inr 6)] M (ri_ fun v1 M1 =>
  (if v1 = 0 then
   D 229 [.inr (.inr 6), .inl x1] M1 (ri_ fun v2 M2 =>
    (if v2 = 0 then
     D 234 [.inr (.inr 6)] M2 (rv_ fun M3 =>
      Qr [] M3) Qt
    else
     D 230 [.inr (.inr 6)] M2 (rv_ fun M4 =>
      Qr [] M4) Qt)) Qt
  else
   Qr [] M1)) Qt) : V 0 [rr 6, ii x1] [] M := bx_go hD hV hW [] 11 h
/-- X4_signalOf(J)I -/
theorem b_251_0 {D : ca_} {V : vv_} {Qr : qr_} {Qt : qt_} (hD : Mo_ D) (hV : Cl_ wd0 D V Qr Qt m_251) (hW : Wk_ V) (x1 : Int) (M : mm_) (h :
 V 2 [rr 6, jj x1, none, ii 0] [] M) : V 0 [rr 6, jj x1, none, none] [] M := bx_go hD hV hW [(2, [2])] 3 h
theorem b_251_2 {D : ca_} {V : vv_} {Qr : qr_} {Qt : qt_} (hD : Mo_ D) (hV : Cl_ wd0 D V Qr Qt m_251) (hW : Wk_ V) (x1 : Int) (x3 : Int) (M : mm_) (h :
 (if x3 < M 6 17 then
  (0 ≤ x3 ∧ x3 < 20) ∧
   (if (if M 152 x3 < x1 then -1 else if M 152 x3 = x1 then 0 else 1) = 0 then
   Qr [.inl x3] M
  else
   V 2 [rr 6, jj x1, none, ii (w32 (x3 + 1))] [] M)
 else
  Qr [.inl ((-1))] M)) : V 2 [rr 6, jj x1, none, ii x3] [] M := bx_go hD hV hW [(2, [2])] 14 h
/-- X4_process(I)V -/
theorem b_252_0 {D : ca_} {V : vv_} {Qr : qr_} {Qt : qt_} (hD : Mo_ D) (hV : Cl_ wd0 D V Qr Qt m_252) (hW : Wk_ V) (x1 : Int) (M : mm_) (h :
 D 233 [.inr (.inr 6)] M (ri_ fun v1 M1 =>
  D 227 [.inr (.inr 6)] M1 (ri_ fun v2 M2 =>
   (if v2 = 0 then
    (bl_ (M2 6 16) → (if M2 6 16 = 0 then
     (if x1 = 6 then
      (0 ≤ v1 ∧ v1 < 1202) ∧
       D 231 [.inr (.inr 6), .inl 2, .inl (M2 150 v1)] M2 (rv_ fun M3 =>
       Qr [] M3) Qt
     else
      V 38 [rr 6, ii x1, ii v1, none, none, none, none] [] M2)
    else
     V 38 [rr 6, ii x1, ii v1, none, none, none, none] [] M2))
   else
    Qr [] M2)) Qt) Qt) : V 0 [rr 6, ii x1, none, none, none, none, none] [] M := bx_go hD hV hW [(38, [3, 4, 5, 6]), (131, [3, 4, 5, 6]), (180, [6]), (220, []), (259, [])] 20 h
theorem i_252 : inq_ 0 k_252 = true := by decide +kernel
theorem z_252_21 : Sf_ k_252 g_252_21 := Sf_of i_252 21 rfl
theorem b_252_38 {D : ca_} {V : vv_} {Qr : qr_} {Qt : qt_} (hD : Mo_ D) (hV : Cl_ wd0 D V Qr Qt m_252) (hW : Wk_ V) (x1 : Int) (x2 : Int) (M : mm_) (h :
 D 235 [.inr (.inr 6), .inl x2] M (rv_ fun M1 =>
  (bl_ (M1 6 16) → (if M1 6 16 = 0 then
   (0 ≤ x2 ∧ x2 < 1202) ∧
    (0 ≤ x1 ∧ x1 < 6) ∧
    (0 ≤ x2 ∧ x2 < 1202) ∧
    (0 ≤ x1 ∧ x1 < 6) ∧
    (0 ≤ x1 ∧ x1 < 6) ∧
    (0 ≤ x1 ∧ x1 < 6) ∧
    (0 ≤ x1 ∧ x1 < 6) ∧
    (0 ≤ x1 ∧ x1 < 6) ∧
    (0 ≤ x1 ∧ x1 < 6) ∧
    (0 ≤ x1 ∧ x1 < 6) ∧
    V 131 [rr 6, ii x1, ii x2, none, none, none, none] [] (up_ (up_ (up_ (up_ (up_ (up_ (up_ (up_ (up_ (up_ M1 6 61 x1) 154 x1 (M1 151 x2)) 167 x1 (M1 150 x2)) 170 x1 0) 171 x1 0) 172 x1 0) 173 x1 0) 174 x1 0) 175 x1 0) 6 19 (w32 ((M1 6 19) + 1)))
  else
   V 131 [rr 6, ii x1, ii x2, none, none, none, none] [] (up_ M1 6 61 x1)))) Qt) : V 38 [rr 6, ii x1, ii x2, none, none, none, none] [] M := bx_go hD (m := (g_252_21, m_252.2)) (Cl_sf z_252_21 hV) hW [(38, [3, 4, 5, 6]), (131, [3, 4, 5, 6]), (180, [6]), (220, []), (259, [])] 62 h
theorem z_252_82 : Sf_ k_252 g_252_82 := Sf_tr z_252_21 61 rfl
theorem b_252_131 {D : ca_} {V : vv_} {Qr : qr_} {Qt : qt_} (hD : Mo_ D) (hV : Cl_ wd0 D V Qr Qt m_252) (hW : Wk_ V) (x1 : Int) (x2 : Int) (M : mm_) (h :
 D 248 [.inr (.inr 6), .inl 200] M (ri_ fun v1 M1 =>
  D 244 [.inr (.inr 6), .inl 261] M1 (rv_ fun M2 =>
   (0 ≤ M2 6 12 ∧ M2 6 12 < 1202) ∧
    D 248 [.inr (.inr 6), .inl 200] M2 (ri_ fun v2 M3 =>
    (if v1 ≤ v2 then
     V 180 [rr 6, ii x1, ii x2, ii v1, ii (M2 150 (M2 6 12)), ii v2, none] [] M3
    else
     D 236 [.inr (.inr 6), .inl 6, .inl (M2 150 (M2 6 12))] M3 (rv_ fun M4 =>
      V 180 [rr 6, ii x1, ii x2, ii v1, ii (M2 150 (M2 6 12)), ii v2, none] [] M4) Qt)) Qt) Qt) Qt) : V 131 [rr 6, ii x1, ii x2, none, none, none, none] [] M := bx_go hD (m := (g_252_82, m_252.2)) (Cl_sf z_252_82 hV) hW [(38, [3, 4, 5, 6]), (131, [3, 4, 5, 6]), (180, [6]), (220, []), (259, [])] 25 h
theorem z_252_106 : Sf_ k_252 g_252_106 := Sf_tr z_252_82 24 rfl
theorem b_252_180 {D : ca_} {V : vv_} {Qr : qr_} {Qt : qt_} (hD : Mo_ D) (hV : Cl_ wd0 D V Qr Qt m_252) (hW : Wk_ V) (x1 : Int) (x2 : Int) (x3 : Int) (x4 : Int) (x5 : Int) (M : mm_) (h :
 D 227 [.inr (.inr 6)] M (ri_ fun v1 M1 =>
  (if v1 = 0 then
   (0 ≤ x1 ∧ x1 < 6) ∧
    (0 ≤ x1 ∧ x1 < 6) ∧
    D 237 [.inr (.inr 6), .inl 40] (up_ (up_ M1 168 x1 x3) 169 x1 x5) (ri_ fun v4 M4 =>
    (if v4 = 0 then
     V 220 [rr 6, ii x1, ii x2, ii x3, ii x4, ii x5, ii 0] [] M4
    else
     D 253 [.inr (.inr 6)] M4 (ri_ fun v5 M5 =>
      V 220 [rr 6, ii x1, ii x2, ii x3, ii x4, ii x5, ii v5] [] M5) Qt)) Qt
  else
   D 237 [.inr (.inr 6), .inl 40] M1 (ri_ fun v2 M2 =>
    (if v2 = 0 then
     V 220 [rr 6, ii x1, ii x2, ii x3, ii x4, ii x5, ii 0] [] M2
    else
     D 253 [.inr (.inr 6)] M2 (ri_ fun v3 M3 =>
      V 220 [rr 6, ii x1, ii x2, ii x3, ii x4, ii x5, ii v3] [] M3) Qt)) Qt)) Qt) : V 180 [rr 6, ii x1, ii x2, ii x3, ii x4, ii x5, none] [] M := bx_go hD (m := (g_252_106, m_252.2)) (Cl_sf z_252_106 hV) hW [(38, [3, 4, 5, 6]), (131, [3, 4, 5, 6]), (180, [6]), (220, []), (259, [])] 23 h
theorem z_252_128 : Sf_ k_252 g_252_128 := Sf_tr z_252_106 22 rfl
theorem b_252_220 {D : ca_} {V : vv_} {Qr : qr_} {Qt : qt_} (hD : Mo_ D) (hV : Cl_ wd0 D V Qr Qt m_252) (hW : Wk_ V) (x1 : Int) (x2 : Int) (x3 : Int) (x4 : Int) (x5 : Int) (x6 : Int) (M : mm_) (h :
 D 244 [.inr (.inr 6), .inl 59] M (rv_ fun M1 =>
  D 257 [.inr (.inr 6), .inl x6] M1 (rv_ fun M2 =>
   D 250 [.inr (.inr 6), .inl 5] M2 (rv_ fun M3 =>
    D 244 [.inr (.inr 6), .inl 59] M3 (rv_ fun M4 =>
     (0 ≤ x1 ∧ x1 < 6) ∧
      D 260 [.inr (.inr 6), .inl 1, .inl 0] (up_ M4 176 x1 (M4 6 75)) (rv_ fun M5 =>
      V 259 [rr 6, ii x1, ii x2, ii x3, ii x4, ii x5, ii x6] [] M5) Qt) Qt) Qt) Qt) Qt) : V 220 [rr 6, ii x1, ii x2, ii x3, ii x4, ii x5, ii x6] [] M := bx_go hD (m := (g_252_128, m_252.2)) (Cl_sf z_252_128 hV) hW [(38, [3, 4, 5, 6]), (131, [3, 4, 5, 6]), (180, [6]), (220, []), (259, [])] 23 h
theorem z_252_150 : Sf_ k_252 g_252_150 := Sf_tr z_252_128 22 rfl
theorem b_252_259 {D : ca_} {V : vv_} {Qr : qr_} {Qt : qt_} (hD : Mo_ D) (hV : Cl_ wd0 D V Qr Qt m_252) (hW : Wk_ V) (x1 : Int) (x2 : Int) (x3 : Int) (x4 : Int) (x5 : Int) (x6 : Int) (M : mm_) (h :
 D 228 [.inr (.inr 6), .inl 6] M (ri_ fun v1 M1 =>
  (if v1 = 0 then
   D 250 [.inr (.inr 6), .inl 20] M1 (rv_ fun M2 =>
    D 244 [.inr (.inr 6), .inl 59] M2 (rv_ fun M3 =>
     Qr [] M3) Qt) Qt
  else
   D 304 [.inr (.inr 6)] M1 (rv_ fun M4 =>
    V 259 [rr 6, ii x1, ii x2, ii x3, ii x4, ii x5, ii x6] [] M4) Qt)) Qt) : V 259 [rr 6, ii x1, ii x2, ii x3, ii x4, ii x5, ii x6] [] M := bx_go hD (m := (g_252_150, m_252.2)) (Cl_sf z_252_150 hV) hW [(38, [3, 4, 5, 6]), (131, [3, 4, 5, 6]), (180, [6]), (220, []), (259, [])] 11 h
/-- X4_pars()I -/
theorem b_253_0 {D : ca_} {V : vv_} {Qr : qr_} {Qt : qt_} (hD : Mo_ D) (hV : Cl_ wd0 D V Qr Qt m_253) (hW : Wk_ V)  (M : mm_) (h :
 D 239 [.inr (.inr 6), .inl 40] M (rv_ fun M1 =>
  V 10 [rr 6, ii 0, ii 1, none, none, none] [] M1) Qt) : V 0 [rr 6, none, none, none, none, none] [] M := bx_go hD hV hW [(10, [3, 4, 5]), (49, [4, 5]), (113, [])] 8 h
theorem i_253 : inq_ 0 k_253 = true := by decide +kernel
theorem z_253_7 : Sf_ k_253 g_253_7 := Sf_of i_253 7 rfl
theorem b_253_10 {D : ca_} {V : vv_} {Qr : qr_} {Qt : qt_} (hD : Mo_ D) (hV : Cl_ wd0 D V Qr Qt m_253) (hW : Wk_ V) (x1 : Int) (x2 : Int) (M : mm_) (h :
 (if x2 = 0 then
  D 243 [.inr (.inr 6), .inl 41] M (rv_ fun M1 =>
   Qr [.inl x1] M1) Qt
 else
  D 227 [.inr (.inr 6)] M (ri_ fun v1 M2 =>
   (if v1 = 0 then
    D 233 [.inr (.inr 6)] M2 (ri_ fun v2 M4 =>
     D 227 [.inr (.inr 6)] M4 (ri_ fun v3 M5 =>
      (if v3 = 0 then
       (if x1 = 3 then
        (0 ≤ v2 ∧ v2 < 1202) ∧
         D 231 [.inr (.inr 6), .inl 2, .inl (M5 150 v2)] M5 (rv_ fun M6 =>
         V 49 [rr 6, ii x1, ii x2, ii v2, none, none] [] M6) Qt
       else
        V 49 [rr 6, ii x1, ii x2, ii v2, none, none] [] M5)
      else
       V 49 [rr 6, ii x1, ii x2, ii v2, none, none] [] M5)) Qt) Qt
   else
    D 243 [.inr (.inr 6), .inl 41] M2 (rv_ fun M3 =>
     Qr [.inl x1] M3) Qt)) Qt)) : V 10 [rr 6, ii x1, ii x2, none, none, none] [] M := bx_go hD (m := (g_253_7, m_253.2)) (Cl_sf z_253_7 hV) hW [(10, [3, 4, 5]), (49, [4, 5]), (113, [])] 22 h
theorem z_253_28 : Sf_ k_253 g_253_28 := Sf_tr z_253_7 21 rfl
theorem b_253_49 {D : ca_} {V : vv_} {Qr : qr_} {Qt : qt_} (hD : Mo_ D) (hV : Cl_ wd0 D V Qr Qt m_253) (hW : Wk_ V) (x1 : Int) (x2 : Int) (x3 : Int) (M : mm_) (h :
 D 227 [.inr (.inr 6)] M (ri_ fun v1 M1 =>
  (if v1 = 0 then
   D 254 [.inr (.inr 6), .inl x1, .inl x3] M1 (rv_ fun M2 =>
    D 244 [.inr (.inr 6), .inl 58] M2 (rv_ fun M3 =>
     (0 ≤ M3 6 12 ∧ M3 6 12 < 1202) ∧
      D 241 [.inr (.inr 6)] M3 (ri_ fun v2 M4 =>
      D 227 [.inr (.inr 6)] M4 (ri_ fun v3 M5 =>
       (if v3 = 0 then
        (bl_ (M5 6 16) → (if M5 6 16 = 0 then
         D 256 [.inr (.inr 6), .inl x1, .inl v2, .inl 0, .inl (M3 150 (M3 6 12))] M5 (rv_ fun M6 =>
          V 113 [rr 6, ii x1, ii x2, ii x3, ii (M3 150 (M3 6 12)), ii v2] [] M6) Qt
        else
         V 113 [rr 6, ii x1, ii x2, ii x3, ii (M3 150 (M3 6 12)), ii v2] [] M5))
       else
        Qr [.inl x1] M5)) Qt) Qt) Qt) Qt
  else
   Qr [.inl x1] M1)) Qt) : V 49 [rr 6, ii x1, ii x2, ii x3, none, none] [] M := bx_go hD (m := (g_253_28, m_253.2)) (Cl_sf z_253_28 hV) hW [(10, [3, 4, 5]), (49, [4, 5]), (113, [])] 32 h
theorem z_253_63 : Sf_ k_253 g_253_63 := Sf_tr z_253_28 35 rfl
theorem b_253_113 {D : ca_} {V : vv_} {Qr : qr_} {Qt : qt_} (hD : Mo_ D) (hV : Cl_ wd0 D V Qr Qt m_253) (hW : Wk_ V) (x1 : Int) (x2 : Int) (x3 : Int) (x4 : Int) (x5 : Int) (M : mm_) (h :
 (bl_ (M 6 16) → (if M 6 16 = 0 then
  (0 ≤ M 6 61 ∧ M 6 61 < 6) ∧
   D 242 [.inr (.inr 6), .inl 44] (up_ M 170 (M 6 61) (w32 (x1 + 1))) (ri_ fun v2 M2 =>
   V 10 [rr 6, ii (w32 (x1 + 1)), ii v2, none, none, none] [] M2) Qt
 else
  D 242 [.inr (.inr 6), .inl 44] M (ri_ fun v1 M1 =>
   V 10 [rr 6, ii (w32 (x1 + 1)), ii v1, none, none, none] [] M1) Qt))) : V 113 [rr 6, ii x1, ii x2, ii x3, ii x4, ii x5] [] M := bx_go hD (m := (g_253_63, m_253.2)) (Cl_sf z_253_63 hV) hW [(10, [3, 4, 5]), (49, [4, 5]), (113, [])] 16 h
/-- X4_variable(II)V -/
theorem b_254_0 {D : ca_} {V : vv_} {Qr : qr_} {Qt : qt_} (hD : Mo_ D) (hV : Cl_ wd0 D V Qr Qt m_254) (hW : Wk_ V) (x1 : Int) (x2 : Int) (M : mm_) (h :
 D 227 [.inr (.inr 6)] M (ri_ fun v1 M1 =>
  (if v1 = 0 then
   (bl_ (M1 6 16) → (if M1 6 16 = 0 then
    (if x1 = 8 then
     (0 ≤ x2 ∧ x2 < 1202) ∧
      D 231 [.inr (.inr 6), .inl 2, .inl (M1 150 x2)] M1 (rv_ fun M2 =>
      Qr [] M2) Qt
    else
     V 33 [rr 6, ii x1, ii x2, none] [] M1)
   else
    V 33 [rr 6, ii x1, ii x2, none] [] M1))
  else
   Qr [] M1)) Qt) : V 0 [rr 6, ii x1, ii x2, none] [] M := bx_go hD hV hW [(33, [3])] 17 h
theorem i_254 : inq_ 0 k_254 = true := by decide +kernel
theorem z_254_18 : Sf_ k_254 g_254_18 := Sf_of i_254 18 rfl
theorem b_254_33 {D : ca_} {V : vv_} {Qr : qr_} {Qt : qt_} (hD : Mo_ D) (hV : Cl_ wd0 D V Qr Qt m_254) (hW : Wk_ V) (x1 : Int) (x2 : Int) (M : mm_) (h :
 (bl_ (M 6 16) → (if M 6 16 = 0 then
  (0 ≤ x2 ∧ x2 < 1202) ∧
   (0 ≤ w32 ((w32 (8 * (M 6 61))) + x1) ∧ w32 ((w32 (8 * (M 6 61))) + x1) < 48) ∧
   (0 ≤ x2 ∧ x2 < 1202) ∧
   (0 ≤ w32 ((w32 (8 * (M 6 61))) + x1) ∧ w32 ((w32 (8 * (M 6 61))) + x1) < 48) ∧
   (0 ≤ M 6 61 ∧ M 6 61 < 6) ∧
   (0 ≤ M 6 61 ∧ M 6 61 < 6) ∧
   Qr [] (up_ (up_ (up_ M 177 (w32 ((w32 (8 * (M 6 61))) + x1)) (M 151 x2)) 181 (w32 ((w32 (8 * (M 6 61))) + x1)) (M 150 x2)) 171 (M 6 61) (w32 ((M 171 (M 6 61)) + 1)))
 else
  D 255 [.inr (.inr 6), .inl x2] M (rv_ fun M1 =>
   Qr [] M1) Qt))) : V 33 [rr 6, ii x1, ii x2, none] [] M := bx_go hD (m := (g_254_18, m_254.2)) (Cl_sf z_254_18 hV) hW [(33, [3])] 36 h
/-- X4_own(I)V -/
theorem b_255_0 {D : ca_} {V : vv_} {Qr : qr_} {Qt : qt_} (hD : Mo_ D) (hV : Cl_ wd0 D V Qr Qt m_255) (hW : Wk_ V) (x1 : Int) (M : mm_) (h :
 V 2 [rr 6, ii x1, ii 0] [] M) : V 0 [rr 6, ii x1, none] [] M := bx_go hD hV hW [(2, []), (81, [])] 3 h
theorem b_255_2 {D : ca_} {V : vv_} {Qr : qr_} {Qt : qt_} (hD : Mo_ D) (hV : Cl_ wd0 D V Qr Qt m_255) (hW : Wk_ V) (x1 : Int) (x2 : Int) (M : mm_) (h :
 (0 ≤ M 6 61 ∧ M 6 61 < 6) ∧
  (if x2 < M 171 (M 6 61) then
  (0 ≤ w32 ((w32 (8 * (M 6 61))) + x2) ∧ w32 ((w32 (8 * (M 6 61))) + x2) < 48) ∧
   (0 ≤ x1 ∧ x1 < 1202) ∧
   (if (if M 177 (w32 ((w32 (8 * (M 6 61))) + x2)) < M 151 x1 then -1 else if M 177 (w32 ((w32 (8 * (M 6 61))) + x2)) = M 151 x1 then 0 else 1) = 0 then
   (0 ≤ w32 ((w32 (8 * (M 6 61))) + x2) ∧ w32 ((w32 (8 * (M 6 61))) + x2) < 48) ∧
    (0 ≤ x1 ∧ x1 < 1202) ∧
    (if M 181 (w32 ((w32 (8 * (M 6 61))) + x2)) < M 150 x1 then
    (0 ≤ x1 ∧ x1 < 1202) ∧
     D 236 [.inr (.inr 6), .inl 3, .inl (M 150 x1)] M (rv_ fun M1 =>
     V 2 [rr 6, ii x1, ii (w32 (x2 + 1))] [] M1) Qt
   else
    V 2 [rr 6, ii x1, ii (w32 (x2 + 1))] [] M)
  else
   V 2 [rr 6, ii x1, ii (w32 (x2 + 1))] [] M)
 else
  V 81 [rr 6, ii x1, ii 0] [] M)) : V 2 [rr 6, ii x1, ii x2] [] M := bx_go hD hV hW [(2, []), (81, [])] 46 h
theorem i_255 : inq_ 0 k_255 = true := by decide +kernel
theorem z_255_49 : Sf_ k_255 g_255_49 := Sf_of i_255 49 rfl
theorem b_255_81 {D : ca_} {V : vv_} {Qr : qr_} {Qt : qt_} (hD : Mo_ D) (hV : Cl_ wd0 D V Qr Qt m_255) (hW : Wk_ V) (x1 : Int) (x2 : Int) (M : mm_) (h :
 (0 ≤ M 6 61 ∧ M 6 61 < 6) ∧
  (if x2 < M 173 (M 6 61) then
  (0 ≤ w32 ((w32 (3 * (M 6 61))) + x2) ∧ w32 ((w32 (3 * (M 6 61))) + x2) < 18) ∧
   (0 ≤ x1 ∧ x1 < 1202) ∧
   (if (if M 178 (w32 ((w32 (3 * (M 6 61))) + x2)) < M 151 x1 then -1 else if M 178 (w32 ((w32 (3 * (M 6 61))) + x2)) = M 151 x1 then 0 else 1) = 0 then
   (0 ≤ w32 ((w32 (3 * (M 6 61))) + x2) ∧ w32 ((w32 (3 * (M 6 61))) + x2) < 18) ∧
    (0 ≤ x1 ∧ x1 < 1202) ∧
    (if M 185 (w32 ((w32 (3 * (M 6 61))) + x2)) < M 150 x1 then
    (0 ≤ x1 ∧ x1 < 1202) ∧
     D 236 [.inr (.inr 6), .inl 3, .inl (M 150 x1)] M (rv_ fun M1 =>
     V 81 [rr 6, ii x1, ii (w32 (x2 + 1))] [] M1) Qt
   else
    V 81 [rr 6, ii x1, ii (w32 (x2 + 1))] [] M)
  else
   V 81 [rr 6, ii x1, ii (w32 (x2 + 1))] [] M)
 else
  Qr [] M)) : V 81 [rr 6, ii x1, ii x2] [] M := bx_go hD (m := (g_255_49, m_255.2)) (Cl_sf z_255_49 hV) hW [(2, []), (81, [])] 46 h
/-- X4_holds(IIII)V -/
theorem b_256_0 {D : ca_} {V : vv_} {Qr : qr_} {Qt : qt_} (hD : Mo_ D) (hV : Cl_ wd0 D V Qr Qt m_256) (hW : Wk_ V) (x1 : Int) (x2 : Int) (x3 : Int) (x4 : Int) (M : mm_) (h :
 (0 ≤ w32 ((w32 (8 * (M 6 61))) + x1) ∧ w32 ((w32 (8 * (M 6 61))) + x1) < 48) ∧
  (0 ≤ w32 ((w32 (8 * (M 6 61))) + x1) ∧ w32 ((w32 (8 * (M 6 61))) + x1) < 48) ∧
  (0 ≤ M 6 61 ∧ M 6 61 < 6) ∧
  (0 ≤ w32 ((w32 (8 * (M 6 61))) + x1) ∧ w32 ((w32 (8 * (M 6 61))) + x1) < 48) ∧
  (0 ≤ M 6 61 ∧ M 6 61 < 6) ∧
  (if x3 = 0 then
  (0 ≤ M 6 61 ∧ M 6 61 < 6) ∧
   (0 ≤ M 6 61 ∧ M 6 61 < 6) ∧
   (if (up_ M 172 (M 6 61) (w32 ((M 172 (M 6 61)) + 1))) 172 (M 6 61) ≤ 16 then
   Qr [] (up_ (up_ (up_ (up_ M 182 (w32 ((w32 (8 * (M 6 61))) + x1)) x2) 183 (w32 ((w32 (8 * (M 6 61))) + x1)) x3) 184 (w32 ((w32 (8 * (M 6 61))) + x1)) (M 172 (M 6 61))) 172 (M 6 61) (w32 ((M 172 (M 6 61)) + 1)))
  else
   D 231 [.inr (.inr 6), .inl 2, .inl x4] (up_ (up_ (up_ (up_ M 182 (w32 ((w32 (8 * (M 6 61))) + x1)) x2) 183 (w32 ((w32 (8 * (M 6 61))) + x1)) x3) 184 (w32 ((w32 (8 * (M 6 61))) + x1)) (M 172 (M 6 61))) 172 (M 6 61) (w32 ((M 172 (M 6 61)) + 1))) (rv_ fun M2 =>
    Qr [] M2) Qt)
 else
  (0 ≤ M 6 61 ∧ M 6 61 < 6) ∧
   (0 ≤ M 6 61 ∧ M 6 61 < 6) ∧
   (if (up_ M 172 (M 6 61) (w32 ((M 172 (M 6 61)) + x3))) 172 (M 6 61) ≤ 16 then
   Qr [] (up_ (up_ (up_ (up_ M 182 (w32 ((w32 (8 * (M 6 61))) + x1)) x2) 183 (w32 ((w32 (8 * (M 6 61))) + x1)) x3) 184 (w32 ((w32 (8 * (M 6 61))) + x1)) (M 172 (M 6 61))) 172 (M 6 61) (w32 ((M 172 (M 6 61)) + x3)))
  else
   D 231 [.inr (.inr 6), .inl 2, .inl x4] (up_ (up_ (up_ (up_ M 182 (w32 ((w32 (8 * (M 6 61))) + x1)) x2) 183 (w32 ((w32 (8 * (M 6 61))) + x1)) x3) 184 (w32 ((w32 (8 * (M 6 61))) + x1)) (M 172 (M 6 61))) 172 (M 6 61) (w32 ((M 172 (M 6 61)) + x3))) (rv_ fun M1 =>
    Qr [] M1) Qt))) : V 0 [rr 6, ii x1, ii x2, ii x3, ii x4, none] [] M := bx_go hD hV hW [] 50 h
/-- X4_declarations(I)V -/
theorem b_257_0 {D : ca_} {V : vv_} {Qr : qr_} {Qt : qt_} (hD : Mo_ D) (hV : Cl_ wd0 D V Qr Qt m_257) (hW : Wk_ V) (x1 : Int) (M : mm_) (h :
 V 7 [rr 6, ii x1, ii x1, ii 0, ii 1] [] M) : V 0 [rr 6, ii x1, none, none, none] [] M := bx_go hD hV hW [(7, [])] 7 h
theorem i_257 : inq_ 0 k_257 = true := by decide +kernel
theorem z_257_6 : Sf_ k_257 g_257_6 := Sf_of i_257 6 rfl
theorem b_257_7 {D : ca_} {V : vv_} {Qr : qr_} {Qt : qt_} (hD : Mo_ D) (hV : Cl_ wd0 D V Qr Qt m_257) (hW : Wk_ V) (x1 : Int) (x2 : Int) (x3 : Int) (x4 : Int) (M : mm_) (h :
 (if x4 = 0 then
  Qr [] M
 else
  D 227 [.inr (.inr 6)] M (ri_ fun v1 M1 =>
   (if v1 = 0 then
    D 228 [.inr (.inr 6), .inl 3] M1 (ri_ fun v2 M2 =>
     (if v2 = 0 then
      D 228 [.inr (.inr 6), .inl 4] M2 (ri_ fun v3 M3 =>
       (if v3 = 0 then
        V 7 [rr 6, ii x1, ii x2, ii x3, ii 0] [] M3
       else
        D 259 [.inr (.inr 6), .inl x3] M3 (rv_ fun M4 =>
         V 7 [rr 6, ii x1, ii x2, ii (w32 (x3 + 1)), ii x4] [] M4) Qt)) Qt
     else
      D 258 [.inr (.inr 6), .inl x2] M2 (rv_ fun M5 =>
       V 7 [rr 6, ii x1, ii (w32 (x2 + 1)), ii x3, ii x4] [] M5) Qt)) Qt
   else
    Qr [] M1)) Qt)) : V 7 [rr 6, ii x1, ii x2, ii x3, ii x4] [] M := bx_go hD (m := (g_257_6, m_257.2)) (Cl_sf z_257_6 hV) hW [(7, [])] 19 h
/-- X4_declared(I)V -/
theorem b_258_0 {D : ca_} {V : vv_} {Qr : qr_} {Qt : qt_} (hD : Mo_ D) (hV : Cl_ wd0 D V Qr Qt m_258) (hW : Wk_ V) (x1 : Int) (M : mm_) (h :
 D 233 [.inr (.inr 6)] M (ri_ fun v1 M1 =>
  D 254 [.inr (.inr 6), .inl x1, .inl v1] M1 (rv_ fun M2 =>
   D 244 [.inr (.inr 6), .inl 58] M2 (rv_ fun M3 =>
    (0 ≤ M3 6 12 ∧ M3 6 12 < 1202) ∧
     D 241 [.inr (.inr 6)] M3 (ri_ fun v2 M4 =>
     D 227 [.inr (.inr 6)] M4 (ri_ fun v3 M5 =>
      (if v3 = 0 then
       D 237 [.inr (.inr 6), .inl 91] M5 (ri_ fun v4 M6 =>
        (if v4 = 0 then
         (bl_ (M6 6 16) → (if M6 6 16 = 0 then
          D 256 [.inr (.inr 6), .inl x1, .inl v2, .inl 0, .inl (M3 150 (M3 6 12))] M6 (rv_ fun M13 =>
           D 244 [.inr (.inr 6), .inl 59] M13 (rv_ fun M14 =>
            Qr [] M14) Qt) Qt
         else
          D 244 [.inr (.inr 6), .inl 59] M6 (rv_ fun M12 =>
           Qr [] M12) Qt))
        else
         D 239 [.inr (.inr 6), .inl 91] M6 (rv_ fun M7 =>
          (0 ≤ M7 6 12 ∧ M7 6 12 < 1202) ∧
           D 249 [.inr (.inr 6)] M7 (ri_ fun v5 M8 =>
           D 227 [.inr (.inr 6)] M8 (ri_ fun v6 M9 =>
            (if v6 = 0 then
             (if v5 < 1 then
              D 231 [.inr (.inr 6), .inl 2, .inl (M7 150 (M7 6 12))] M9 (rv_ fun M10 =>
               V 119 [rr 6, ii x1, ii v1, ii (M3 150 (M3 6 12)), ii v2, ii (M7 150 (M7 6 12)), ii v5, none] [] M10) Qt
             else
              (if v5 ≤ 8 then
               V 119 [rr 6, ii x1, ii v1, ii (M3 150 (M3 6 12)), ii v2, ii (M7 150 (M7 6 12)), ii v5, none] [] M9
              else
               D 231 [.inr (.inr 6), .inl 2, .inl (M7 150 (M7 6 12))] M9 (rv_ fun M11 =>
                V 119 [rr 6, ii x1, ii v1, ii (M3 150 (M3 6 12)), ii v2, ii (M7 150 (M7 6 12)), ii v5, none] [] M11) Qt))
            else
             V 119 [rr 6, ii x1, ii v1, ii (M3 150 (M3 6 12)), ii v2, ii (M7 150 (M7 6 12)), ii v5, none] [] M9)) Qt) Qt) Qt)) Qt
      else
       Qr [] M5)) Qt) Qt) Qt) Qt) Qt) : V 0 [rr 6, ii x1, none, none, none, none, none, none] [] M := bx_go hD hV hW [(119, [7])] 52 h
theorem i_258 : inq_ 0 k_258 = true := by decide +kernel
theorem z_258_62 : Sf_ k_258 g_258_62 := Sf_of i_258 62 rfl
theorem b_258_119 {D : ca_} {V : vv_} {Qr : qr_} {Qt : qt_} (hD : Mo_ D) (hV : Cl_ wd0 D V Qr Qt m_258) (hW : Wk_ V) (x1 : Int) (x2 : Int) (x3 : Int) (x4 : Int) (x5 : Int) (x6 : Int) (M : mm_) (h :
 (0 ≤ M 6 12 ∧ M 6 12 < 1202) ∧
  D 243 [.inr (.inr 6), .inl 93] M (rv_ fun M1 =>
  D 227 [.inr (.inr 6)] M1 (ri_ fun v1 M2 =>
   (if v1 = 0 then
    (bl_ (M2 6 16) → (if M2 6 16 = 0 then
     D 256 [.inr (.inr 6), .inl x1, .inl x4, .inl x6, .inl (M 150 (M 6 12))] M2 (rv_ fun M5 =>
      D 244 [.inr (.inr 6), .inl 59] M5 (rv_ fun M6 =>
       Qr [] M6) Qt) Qt
    else
     D 244 [.inr (.inr 6), .inl 59] M2 (rv_ fun M4 =>
      Qr [] M4) Qt))
   else
    D 244 [.inr (.inr 6), .inl 59] M2 (rv_ fun M3 =>
     Qr [] M3) Qt)) Qt) Qt) : V 119 [rr 6, ii x1, ii x2, ii x3, ii x4, ii x5, ii x6, none] [] M := bx_go hD (m := (g_258_62, m_258.2)) (Cl_sf z_258_62 hV) hW [(119, [7])] 25 h
/-- X4_timerLine(I)V -/
theorem b_259_0 {D : ca_} {V : vv_} {Qr : qr_} {Qt : qt_} (hD : Mo_ D) (hV : Cl_ wd0 D V Qr Qt m_259) (hW : Wk_ V) (x1 : Int) (M : mm_) (h :
 D 233 [.inr (.inr 6)] M (ri_ fun v1 M1 =>
  D 227 [.inr (.inr 6)] M1 (ri_ fun v2 M2 =>
   (if v2 = 0 then
    (bl_ (M2 6 16) → (if M2 6 16 = 0 then
     (if x1 = 3 then
      (0 ≤ v1 ∧ v1 < 1202) ∧
       D 231 [.inr (.inr 6), .inl 2, .inl (M2 150 v1)] M2 (rv_ fun M3 =>
       Qr [] M3) Qt
     else
      V 37 [rr 6, ii x1, ii v1] [] M2)
    else
     V 37 [rr 6, ii x1, ii v1] [] M2))
   else
    Qr [] M2)) Qt) Qt) : V 0 [rr 6, ii x1, none] [] M := bx_go hD hV hW [(37, [])] 20 h
theorem i_259 : inq_ 0 k_259 = true := by decide +kernel
theorem z_259_21 : Sf_ k_259 g_259_21 := Sf_of i_259 21 rfl
theorem b_259_37 {D : ca_} {V : vv_} {Qr : qr_} {Qt : qt_} (hD : Mo_ D) (hV : Cl_ wd0 D V Qr Qt m_259) (hW : Wk_ V) (x1 : Int) (x2 : Int) (M : mm_) (h :
 (bl_ (M 6 16) → (if M 6 16 = 0 then
  (0 ≤ x2 ∧ x2 < 1202) ∧
   (0 ≤ w32 ((w32 (3 * (M 6 61))) + x1) ∧ w32 ((w32 (3 * (M 6 61))) + x1) < 18) ∧
   (0 ≤ x2 ∧ x2 < 1202) ∧
   (0 ≤ w32 ((w32 (3 * (M 6 61))) + x1) ∧ w32 ((w32 (3 * (M 6 61))) + x1) < 18) ∧
   (0 ≤ M 6 61 ∧ M 6 61 < 6) ∧
   (0 ≤ M 6 61 ∧ M 6 61 < 6) ∧
   D 244 [.inr (.inr 6), .inl 59] (up_ (up_ (up_ M 178 (w32 ((w32 (3 * (M 6 61))) + x1)) (M 151 x2)) 185 (w32 ((w32 (3 * (M 6 61))) + x1)) (M 150 x2)) 173 (M 6 61) (w32 ((M 173 (M 6 61)) + 1))) (rv_ fun M1 =>
   Qr [] M1) Qt
 else
  D 255 [.inr (.inr 6), .inl x2] M (rv_ fun M2 =>
   (0 ≤ x2 ∧ x2 < 1202) ∧
    D 251 [.inr (.inr 6), .inr (.inl (M2 151 x2))] M2 (ri_ fun v1 M3 =>
    (if v1 < 0 then
     D 244 [.inr (.inr 6), .inl 59] M3 (rv_ fun M4 =>
      Qr [] M4) Qt
    else
     (0 ≤ x2 ∧ x2 < 1202) ∧
      D 236 [.inr (.inr 6), .inl 3, .inl (M3 150 x2)] M3 (rv_ fun M5 =>
      D 244 [.inr (.inr 6), .inl 59] M5 (rv_ fun M6 =>
       Qr [] M6) Qt) Qt)) Qt) Qt))) : V 37 [rr 6, ii x1, ii x2] [] M := bx_go hD (m := (g_259_21, m_259.2)) (Cl_sf z_259_21 hV) hW [(37, [])] 42 h
/-- X4_trans(ZI)V -/
theorem b_260_0 {D : ca_} {V : vv_} {Qr : qr_} {Qt : qt_} (hD : Mo_ D) (hV : Cl_ wd0 D V Qr Qt m_260) (hW : Wk_ V) (x1 : Int) (x2 : Int) (M : mm_) (h :
 D 227 [.inr (.inr 6)] M (ri_ fun v1 M1 =>
  (if v1 = 0 then
   (0 ≤ M1 6 76 ∧ M1 6 76 < 1300) ∧
    (0 ≤ M1 6 76 ∧ M1 6 76 < 1300) ∧
    ((0 ≤ M1 6 76 ∧ M1 6 76 < 1300) ∧ bl_ x1) ∧
    (0 ≤ M1 6 76 ∧ M1 6 76 < 1300) ∧
    (0 ≤ M1 6 76 ∧ M1 6 76 < 1300) ∧
    bl_ 0 ∧ V 77 [rr 6, ii x1, ii x2, ii (M1 6 76), ii 0, ii 1, none] [] (up_ (up_ (up_ (up_ (up_ (up_ (up_ (up_ M1 6 76 (w32 ((M1 6 76) + 1))) 211 (M1 6 76) (M1 6 61)) 212 (M1 6 76) x2) 215 (M1 6 76) x1) 213 (M1 6 76) 0) 214 (M1 6 76) 0) 6 102 0) 6 103 0)
  else
   Qr [] M1)) Qt) : V 0 [rr 6, ii x1, ii x2, none, none, none, none] [] M := bx_go hD hV hW [(77, [6]), (92, []), (122, []), (158, []), (208, [])] 49 h
theorem i_260 : inq_ 0 k_260 = true := by decide +kernel
theorem z_260_49 : Sf_ k_260 g_260_49 := Sf_of i_260 49 rfl
theorem b_260_77 {D : ca_} {V : vv_} {Qr : qr_} {Qt : qt_} (hD : Mo_ D) (hV : Cl_ wd0 D V Qr Qt m_260) (hW : Wk_ V) (x1 : Int) (x2 : Int) (x3 : Int) (x4 : Int) (x5 : Int) (M : mm_) (h :
 (if x5 = 0 then
  (bl_ (M 6 103) → (if M 6 103 = 0 then
   (0 ≤ M 6 12 ∧ M 6 12 < 1202) ∧
    D 236 [.inr (.inr 6), .inl 6, .inl (M 150 (M 6 12))] M (rv_ fun M1 =>
    Qr [] M1) Qt
  else
   Qr [] M))
 else
  D 227 [.inr (.inr 6)] M (ri_ fun v1 M2 =>
   (if v1 = 0 then
    V 92 [rr 6, ii x1, ii x2, ii x3, ii x4, ii x5, ii 0] [] M2
   else
    (bl_ (M2 6 103) → (if M2 6 103 = 0 then
     (0 ≤ M2 6 12 ∧ M2 6 12 < 1202) ∧
      D 236 [.inr (.inr 6), .inl 6, .inl (M2 150 (M2 6 12))] M2 (rv_ fun M3 =>
      Qr [] M3) Qt
    else
     Qr [] M2)))) Qt)) : V 77 [rr 6, ii x1, ii x2, ii x3, ii x4, ii x5, none] [] M := bx_go hD (m := (g_260_49, m_260.2)) (Cl_sf z_260_49 hV) hW [(77, [6]), (92, []), (122, []), (158, []), (208, [])] 17 h
theorem z_260_56 : Sf_ k_260 g_260_56 := Sf_tr z_260_49 7 rfl
theorem b_260_92 {D : ca_} {V : vv_} {Qr : qr_} {Qt : qt_} (hD : Mo_ D) (hV : Cl_ wd0 D V Qr Qt m_260) (hW : Wk_ V) (x1 : Int) (x2 : Int) (x3 : Int) (x4 : Int) (x5 : Int) (x6 : Int) (M : mm_) (h :
 (if x4 = 0 then
  D 227 [.inr (.inr 6)] M (ri_ fun v1 M1 =>
   (if v1 = 0 then
    D 261 [.inr (.inr 6)] M1 (ri_ fun v2 M2 =>
     (if v2 = 0 then
      V 122 [rr 6, ii x1, ii x2, ii x3, ii x4, ii x5, ii x6] [] M2
     else
      D 262 [.inr (.inr 6), .inl x3] M2 (rv_ fun M3 =>
       V 92 [rr 6, ii x1, ii x2, ii x3, ii x4, ii x5, ii 1] [] M3) Qt)) Qt
   else
    V 122 [rr 6, ii x1, ii x2, ii x3, ii x4, ii x5, ii x6] [] M1)) Qt
 else
  V 122 [rr 6, ii x1, ii x2, ii x3, ii x4, ii x5, ii x6] [] M)) : V 92 [rr 6, ii x1, ii x2, ii x3, ii x4, ii x5, ii x6] [] M := bx_go hD (m := (g_260_56, m_260.2)) (Cl_sf z_260_56 hV) hW [(77, [6]), (92, []), (122, []), (158, []), (208, [])] 15 h
theorem z_260_70 : Sf_ k_260 g_260_70 := Sf_tr z_260_56 14 rfl
theorem b_260_122 {D : ca_} {V : vv_} {Qr : qr_} {Qt : qt_} (hD : Mo_ D) (hV : Cl_ wd0 D V Qr Qt m_260) (hW : Wk_ V) (x1 : Int) (x2 : Int) (x3 : Int) (x4 : Int) (x5 : Int) (x6 : Int) (M : mm_) (h :
 D 227 [.inr (.inr 6)] M (ri_ fun v1 M1 =>
  (if v1 = 0 then
   (if x4 = 0 then
    D 263 [.inr (.inr 6)] M1 (ri_ fun v2 M2 =>
     (if v2 = 0 then
      V 158 [rr 6, ii x1, ii x2, ii x3, ii x4, ii x5, ii x6] [] M2
     else
      D 264 [.inr (.inr 6), .inl x3] M2 (rv_ fun M3 =>
       bl_ 1 ∧ V 77 [rr 6, ii x1, ii x2, ii x3, ii 1, ii x5, none] [] (up_ M3 6 103 1)) Qt)) Qt
   else
    V 158 [rr 6, ii x1, ii x2, ii x3, ii x4, ii x5, ii x6] [] M1)
  else
   Qr [] M1)) Qt) : V 122 [rr 6, ii x1, ii x2, ii x3, ii x4, ii x5, ii x6] [] M := bx_go hD (m := (g_260_70, m_260.2)) (Cl_sf z_260_70 hV) hW [(77, [6]), (92, []), (122, []), (158, []), (208, [])] 19 h
theorem z_260_88 : Sf_ k_260 g_260_88 := Sf_tr z_260_70 18 rfl
theorem b_260_158 {D : ca_} {V : vv_} {Qr : qr_} {Qt : qt_} (hD : Mo_ D) (hV : Cl_ wd0 D V Qr Qt m_260) (hW : Wk_ V) (x1 : Int) (x2 : Int) (x3 : Int) (x4 : Int) (x5 : Int) (x6 : Int) (M : mm_) (h :
 (if x4 = 0 then
  D 229 [.inr (.inr 6), .inl 18] M (ri_ fun v2 M3 =>
   (if v2 = 0 then
    (if x4 = 0 then
     D 295 [.inr (.inr 6)] M3 (ri_ fun v3 M4 =>
      (if v3 = 0 then
       V 208 [rr 6, ii x1, ii x2, ii x3, ii x4, ii x5, ii x6] [] M4
      else
       D 296 [.inr (.inr 6)] M4 (rv_ fun M5 =>
        bl_ 0 ∧ V 77 [rr 6, ii x1, ii x2, ii x3, ii x4, ii x5, none] [] (up_ M5 6 103 0)) Qt)) Qt
    else
     V 208 [rr 6, ii x1, ii x2, ii x3, ii x4, ii x5, ii x6] [] M3)
   else
    D 269 [.inr (.inr 6)] M3 (rv_ fun M6 =>
     bl_ 0 ∧ V 77 [rr 6, ii x1, ii x2, ii x3, ii x4, ii x5, none] [] (up_ M6 6 103 0)) Qt)) Qt
 else
  (if x4 = 0 then
   D 295 [.inr (.inr 6)] M (ri_ fun v1 M1 =>
    (if v1 = 0 then
     V 208 [rr 6, ii x1, ii x2, ii x3, ii x4, ii x5, ii x6] [] M1
    else
     D 296 [.inr (.inr 6)] M1 (rv_ fun M2 =>
      bl_ 0 ∧ V 77 [rr 6, ii x1, ii x2, ii x3, ii x4, ii x5, none] [] (up_ M2 6 103 0)) Qt)) Qt
  else
   V 208 [rr 6, ii x1, ii x2, ii x3, ii x4, ii x5, ii x6] [] M))) : V 158 [rr 6, ii x1, ii x2, ii x3, ii x4, ii x5, ii x6] [] M := bx_go hD (m := (g_260_88, m_260.2)) (Cl_sf z_260_88 hV) hW [(77, [6]), (92, []), (122, []), (158, []), (208, [])] 19 h
theorem z_260_111 : Sf_ k_260 g_260_111 := Sf_tr z_260_88 23 rfl
theorem b_260_208 {D : ca_} {V : vv_} {Qr : qr_} {Qt : qt_} (hD : Mo_ D) (hV : Cl_ wd0 D V Qr Qt m_260) (hW : Wk_ V) (x1 : Int) (x2 : Int) (x3 : Int) (x4 : Int) (x5 : Int) (x6 : Int) (M : mm_) (h :
 (if x6 = 0 then
  (if M 6 102 = 0 then
   V 77 [rr 6, ii x1, ii x2, ii x3, ii x4, ii 0, none] [] M
  else
   D 303 [.inr (.inr 6)] M (rv_ fun M1 =>
    V 77 [rr 6, ii x1, ii x2, ii x3, ii 0, ii x5, none] [] M1) Qt)
 else
  D 234 [.inr (.inr 6)] M (rv_ fun M2 =>
   V 77 [rr 6, ii x1, ii x2, ii x3, ii x4, ii x5, none] [] M2) Qt)) : V 208 [rr 6, ii x1, ii x2, ii x3, ii x4, ii x5, ii x6] [] M := bx_go hD (m := (g_260_111, m_260.2)) (Cl_sf z_260_111 hV) hW [(77, [6]), (92, []), (122, []), (158, []), (208, [])] 11 h
/-- X4_isLabel()Z -/
theorem b_261_0 {D : ca_} {V : vv_} {Qr : qr_} {Qt : qt_} (hD : Mo_ D) (hV : Cl_ wd0 D V Qr Qt m_261) (hW : Wk_ V)  (M : mm_) (h :
 (0 ≤ M 6 12 ∧ M 6 12 < 1202) ∧
  (if M 149 (M 6 12) = 1 then
  (0 ≤ w32 ((M 6 12) + 1) ∧ w32 ((M 6 12) + 1) < 1202) ∧
   (if M 149 (w32 ((M 6 12) + 1)) = 3 then
   (0 ≤ w32 ((M 6 12) + 1) ∧ w32 ((M 6 12) + 1) < 1202) ∧
    (if (if M 151 (w32 ((M 6 12) + 1)) < 58 then -1 else if M 151 (w32 ((M 6 12) + 1)) = 58 then 0 else 1) = 0 then
    bl_ 1 ∧ Qr [.inl 1] M
   else
    bl_ 0 ∧ Qr [.inl 0] M)
  else
   bl_ 0 ∧ Qr [.inl 0] M)
 else
  bl_ 0 ∧ Qr [.inl 0] M)) : V 0 [rr 6] [] M := bx_go hD hV hW [] 29 h
/-- X4_label(I)V -/
theorem b_262_0 {D : ca_} {V : vv_} {Qr : qr_} {Qt : qt_} (hD : Mo_ D) (hV : Cl_ wd0 D V Qr Qt m_262) (hW : Wk_ V) (x1 : Int) (M : mm_) (h :
 D 233 [.inr (.inr 6)] M (ri_ fun v1 M1 =>
  D 227 [.inr (.inr 6)] M1 (ri_ fun v2 M2 =>
   (if v2 = 0 then
    (bl_ (M2 6 16) → (if M2 6 16 = 0 then
     (0 ≤ M2 6 61 ∧ M2 6 61 < 6) ∧
      (if M2 175 (M2 6 61) = 10 then
      (0 ≤ v1 ∧ v1 < 1202) ∧
       D 231 [.inr (.inr 6), .inl 2, .inl (M2 150 v1)] M2 (rv_ fun M3 =>
       Qr [] M3) Qt
     else
      V 46 [rr 6, ii x1, ii v1, none, none] [] M2)
    else
     V 46 [rr 6, ii x1, ii v1, none, none] [] M2))
   else
    Qr [] M2)) Qt) Qt) : V 0 [rr 6, ii x1, none, none, none] [] M := bx_go hD hV hW [(46, [3, 4]), (61, [4]), (129, [])] 24 h
theorem i_262 : inq_ 0 k_262 = true := by decide +kernel
theorem z_262_25 : Sf_ k_262 g_262_25 := Sf_of i_262 25 rfl
theorem b_262_46 {D : ca_} {V : vv_} {Qr : qr_} {Qt : qt_} (hD : Mo_ D) (hV : Cl_ wd0 D V Qr Qt m_262) (hW : Wk_ V) (x1 : Int) (x2 : Int) (M : mm_) (h :
 D 244 [.inr (.inr 6), .inl 58] M (rv_ fun M1 =>
  (bl_ (M1 6 16) → (if M1 6 16 = 0 then
   D 227 [.inr (.inr 6)] M1 (ri_ fun v1 M2 =>
    (if v1 = 0 then
     (0 ≤ M2 6 61 ∧ M2 6 61 < 6) ∧
      (0 ≤ x2 ∧ x2 < 1202) ∧
      (0 ≤ w32 ((w32 (10 * (M2 6 61))) + (M2 175 (M2 6 61))) ∧ w32 ((w32 (10 * (M2 6 61))) + (M2 175 (M2 6 61))) < 60) ∧
      (0 ≤ M2 6 61 ∧ M2 6 61 < 6) ∧
      (0 ≤ x2 ∧ x2 < 1202) ∧
      (0 ≤ w32 ((w32 (10 * (M2 6 61))) + (M2 175 (M2 6 61))) ∧ w32 ((w32 (10 * (M2 6 61))) + (M2 175 (M2 6 61))) < 60) ∧
      (0 ≤ M2 6 61 ∧ M2 6 61 < 6) ∧
      (0 ≤ M2 6 61 ∧ M2 6 61 < 6) ∧
      Qr [] (up_ (up_ (up_ M2 180 (w32 ((w32 (10 * (M2 6 61))) + (M2 175 (M2 6 61)))) (M2 151 x2)) 187 (w32 ((w32 (10 * (M2 6 61))) + (M2 175 (M2 6 61)))) (M2 150 x2)) 175 (M2 6 61) (w32 ((M2 175 (M2 6 61)) + 1)))
    else
     Qr [] M2)) Qt
  else
   V 61 [rr 6, ii x1, ii x2, ii 0, none] [] M1))) Qt) : V 46 [rr 6, ii x1, ii x2, none, none] [] M := bx_go hD (m := (g_262_25, m_262.2)) (Cl_sf z_262_25 hV) hW [(46, [3, 4]), (61, [4]), (129, [])] 53 h
theorem z_262_33 : Sf_ k_262 g_262_33 := Sf_tr z_262_25 8 rfl
theorem b_262_61 {D : ca_} {V : vv_} {Qr : qr_} {Qt : qt_} (hD : Mo_ D) (hV : Cl_ wd0 D V Qr Qt m_262) (hW : Wk_ V) (x1 : Int) (x2 : Int) (x3 : Int) (M : mm_) (h :
 (0 ≤ M 6 61 ∧ M 6 61 < 6) ∧
  (if x3 < M 175 (M 6 61) then
  (0 ≤ w32 ((w32 (10 * (M 6 61))) + x3) ∧ w32 ((w32 (10 * (M 6 61))) + x3) < 60) ∧
   (0 ≤ x2 ∧ x2 < 1202) ∧
   (if (if M 180 (w32 ((w32 (10 * (M 6 61))) + x3)) < M 151 x2 then -1 else if M 180 (w32 ((w32 (10 * (M 6 61))) + x3)) = M 151 x2 then 0 else 1) = 0 then
   (0 ≤ w32 ((w32 (10 * (M 6 61))) + x3) ∧ w32 ((w32 (10 * (M 6 61))) + x3) < 60) ∧
    (0 ≤ x2 ∧ x2 < 1202) ∧
    (if M 187 (w32 ((w32 (10 * (M 6 61))) + x3)) < M 150 x2 then
    (0 ≤ x2 ∧ x2 < 1202) ∧
     D 236 [.inr (.inr 6), .inl 3, .inl (M 150 x2)] M (rv_ fun M1 =>
     V 129 [rr 6, ii x1, ii x2, ii x3, ii (w32 ((w32 (10 * (M 6 61))) + x3))] [] M1) Qt
   else
    V 129 [rr 6, ii x1, ii x2, ii x3, ii (w32 ((w32 (10 * (M 6 61))) + x3))] [] M)
  else
   V 129 [rr 6, ii x1, ii x2, ii x3, ii (w32 ((w32 (10 * (M 6 61))) + x3))] [] M)
 else
  Qr [] M)) : V 61 [rr 6, ii x1, ii x2, ii x3, none] [] M := bx_go hD (m := (g_262_33, m_262.2)) (Cl_sf z_262_33 hV) hW [(46, [3, 4]), (61, [4]), (129, [])] 41 h
theorem z_262_73 : Sf_ k_262 g_262_73 := Sf_tr z_262_33 40 rfl
theorem b_262_129 {D : ca_} {V : vv_} {Qr : qr_} {Qt : qt_} (hD : Mo_ D) (hV : Cl_ wd0 D V Qr Qt m_262) (hW : Wk_ V) (x1 : Int) (x2 : Int) (x3 : Int) (x4 : Int) (M : mm_) (h :
 (0 ≤ x4 ∧ x4 < 60) ∧
  (0 ≤ x2 ∧ x2 < 1202) ∧
  (if M 187 x4 = M 150 x2 then
  (0 ≤ x4 ∧ x4 < 60) ∧
   (0 ≤ x4 ∧ x4 < 60) ∧
   V 61 [rr 6, ii x1, ii x2, ii (w32 (x3 + 1)), none] [] (up_ (up_ M 188 x4 (M 6 75)) 189 x4 x1)
 else
  V 61 [rr 6, ii x1, ii x2, ii (w32 (x3 + 1)), none] [] M)) : V 129 [rr 6, ii x1, ii x2, ii x3, ii x4] [] M := bx_go hD (m := (g_262_73, m_262.2)) (Cl_sf z_262_73 hV) hW [(46, [3, 4]), (61, [4]), (129, [])] 23 h
/-- X4_isLast()Z -/
theorem b_263_0 {D : ca_} {V : vv_} {Qr : qr_} {Qt : qt_} (hD : Mo_ D) (hV : Cl_ wd0 D V Qr Qt m_263) (hW : Wk_ V)  (M : mm_) (h :
 D 229 [.inr (.inr 6), .inl 11] M (ri_ fun v1 M1 =>
  (if v1 = 0 then
   D 229 [.inr (.inr 6), .inl 12] M1 (ri_ fun v2 M2 =>
    (if v2 = 0 then
     D 229 [.inr (.inr 6), .inl 13] M2 (ri_ fun v3 M3 =>
      (if v3 = 0 then
       bl_ 0 ∧ Qr [.inl 0] M3
      else
       bl_ 1 ∧ Qr [.inl 1] M3)) Qt
    else
     bl_ 1 ∧ Qr [.inl 1] M2)) Qt
  else
   bl_ 1 ∧ Qr [.inl 1] M1)) Qt) : V 0 [rr 6] [] M := bx_go hD hV hW [] 15 h
/-- X4_last(I)V -/
theorem b_264_0 {D : ca_} {V : vv_} {Qr : qr_} {Qt : qt_} (hD : Mo_ D) (hV : Cl_ wd0 D V Qr Qt m_264) (hW : Wk_ V) (x1 : Int) (M : mm_) (h :
 (0 ≤ M 6 12 ∧ M 6 12 < 1202) ∧
  D 228 [.inr (.inr 6), .inl 11] M (ri_ fun v1 M1 =>
  (if v1 = 0 then
   D 228 [.inr (.inr 6), .inl 12] M1 (ri_ fun v2 M2 =>
    (if v2 = 0 then
     D 228 [.inr (.inr 6), .inl 13] M2 (ri_ fun v3 M3 =>
      (if v3 = 0 then
       D 244 [.inr (.inr 6), .inl 59] M3 (rv_ fun M4 =>
        Qr [] M4) Qt
      else
       D 233 [.inr (.inr 6)] M3 (ri_ fun v4 M5 =>
        D 227 [.inr (.inr 6)] M5 (ri_ fun v5 M6 =>
         (if v5 = 0 then
          (0 ≤ v4 ∧ v4 < 1202) ∧
           D 268 [.inr (.inr 6), .inl (M6 6 61), .inr (.inl (M6 151 v4))] M6 (ri_ fun v6 M7 =>
           (bl_ (M7 6 16) → (if M7 6 16 = 0 then
            V 109 [rr 6, ii x1, ii (M 150 (M 6 12)), ii v4, ii v6] [] M7
           else
            (if v6 < 0 then
             (0 ≤ v4 ∧ v4 < 1202) ∧
              D 236 [.inr (.inr 6), .inl 4, .inl (M7 150 v4)] M7 (rv_ fun M8 =>
              V 109 [rr 6, ii x1, ii (M 150 (M 6 12)), ii v4, ii v6] [] M8) Qt
            else
             V 109 [rr 6, ii x1, ii (M 150 (M 6 12)), ii v4, ii v6] [] M7)))) Qt
         else
          Qr [] M6)) Qt) Qt)) Qt
    else
     D 266 [.inr (.inr 6), .inl 9, .inl (M 150 (M 6 12))] M2 (ri_ fun v7 M9 =>
      D 244 [.inr (.inr 6), .inl 59] M9 (rv_ fun M10 =>
       Qr [] M10) Qt) Qt)) Qt
  else
   D 265 [.inr (.inr 6), .inl x1, .inl (M 150 (M 6 12))] M1 (rv_ fun M11 =>
    D 244 [.inr (.inr 6), .inl 59] M11 (rv_ fun M12 =>
     Qr [] M12) Qt) Qt)) Qt) : V 0 [rr 6, ii x1, none, none, none] [] M := bx_go hD hV hW [(109, [])] 46 h
theorem i_264 : inq_ 0 k_264 = true := by decide +kernel
theorem z_264_57 : Sf_ k_264 g_264_57 := Sf_of i_264 57 rfl
theorem b_264_109 {D : ca_} {V : vv_} {Qr : qr_} {Qt : qt_} (hD : Mo_ D) (hV : Cl_ wd0 D V Qr Qt m_264) (hW : Wk_ V) (x1 : Int) (x2 : Int) (x3 : Int) (x4 : Int) (M : mm_) (h :
 (bl_ (M 6 16) → (if M 6 16 = 0 then
  D 266 [.inr (.inr 6), .inl 10, .inl x2] M (ri_ fun v1 M1 =>
   (0 ≤ v1 ∧ v1 < 1300) ∧
    D 244 [.inr (.inr 6), .inl 59] (up_ M1 205 v1 x4) (rv_ fun M2 =>
    Qr [] M2) Qt) Qt
 else
  (if x4 < 0 then
   D 266 [.inr (.inr 6), .inl 10, .inl x2] M (ri_ fun v2 M3 =>
    (0 ≤ v2 ∧ v2 < 1300) ∧
     D 244 [.inr (.inr 6), .inl 59] (up_ M3 205 v2 x4) (rv_ fun M4 =>
     Qr [] M4) Qt) Qt
  else
   (0 ≤ x1 ∧ x1 < 1300) ∧
    (0 ≤ x1 ∧ x1 < 1300) ∧
    D 266 [.inr (.inr 6), .inl 10, .inl x2] (up_ M 214 x1 (or_ (M 214 x1) (sl_ 1 x4))) (ri_ fun v3 M5 =>
    (0 ≤ v3 ∧ v3 < 1300) ∧
     D 244 [.inr (.inr 6), .inl 59] (up_ M5 205 v3 x4) (rv_ fun M6 =>
     Qr [] M6) Qt) Qt)))) : V 109 [rr 6, ii x1, ii x2, ii x3, ii x4] [] M := bx_go hD (m := (g_264_57, m_264.2)) (Cl_sf z_264_57 hV) hW [(109, [])] 27 h
/-- X4_next(II)V -/
theorem b_265_0 {D : ca_} {V : vv_} {Qr : qr_} {Qt : qt_} (hD : Mo_ D) (hV : Cl_ wd0 D V Qr Qt m_265) (hW : Wk_ V) (x1 : Int) (x2 : Int) (M : mm_) (h :
 (0 ≤ M 6 12 ∧ M 6 12 < 1202) ∧
  D 242 [.inr (.inr 6), .inl 45] M (ri_ fun v1 M1 =>
  (if v1 = 0 then
   D 233 [.inr (.inr 6)] M1 (ri_ fun v2 M2 =>
    D 227 [.inr (.inr 6)] M2 (ri_ fun v3 M3 =>
     (if v3 = 0 then
      (0 ≤ v2 ∧ v2 < 1202) ∧
       D 267 [.inr (.inr 6), .inl (M3 6 61), .inr (.inl (M3 151 v2))] M3 (ri_ fun v4 M4 =>
       (bl_ (M4 6 16) → (if M4 6 16 = 0 then
        V 99 [rr 6, ii x1, ii x2, ii (M 150 (M 6 12)), ii v2, ii v4] [] M4
       else
        (if v4 < 0 then
         (0 ≤ v2 ∧ v2 < 1202) ∧
          D 236 [.inr (.inr 6), .inl 4, .inl (M4 150 v2)] M4 (rv_ fun M5 =>
          V 99 [rr 6, ii x1, ii x2, ii (M 150 (M 6 12)), ii v2, ii v4] [] M5) Qt
        else
         V 99 [rr 6, ii x1, ii x2, ii (M 150 (M 6 12)), ii v2, ii v4] [] M4)))) Qt
     else
      Qr [] M3)) Qt) Qt
  else
   (0 ≤ x1 ∧ x1 < 1300) ∧ (bl_ (M1 215 x1) →
    (if M1 215 x1 = 0 then
    D 266 [.inr (.inr 6), .inl 8, .inl x2] M1 (ri_ fun v5 M6 =>
     Qr [] M6) Qt
   else
    D 236 [.inr (.inr 6), .inl 6, .inl (M 150 (M 6 12))] M1 (rv_ fun M7 =>
     D 266 [.inr (.inr 6), .inl 8, .inl x2] M7 (ri_ fun v6 M8 =>
      Qr [] M8) Qt) Qt)))) Qt) : V 0 [rr 6, ii x1, ii x2, none, none, none] [] M := bx_go hD hV hW [(99, [])] 38 h
theorem i_265 : inq_ 0 k_265 = true := by decide +kernel
theorem z_265_53 : Sf_ k_265 g_265_53 := Sf_of i_265 53 rfl
theorem b_265_99 {D : ca_} {V : vv_} {Qr : qr_} {Qt : qt_} (hD : Mo_ D) (hV : Cl_ wd0 D V Qr Qt m_265) (hW : Wk_ V) (x1 : Int) (x2 : Int) (x3 : Int) (x4 : Int) (x5 : Int) (M : mm_) (h :
 (bl_ (M 6 16) → (if M 6 16 = 0 then
  D 266 [.inr (.inr 6), .inl 8, .inl x2] M (ri_ fun v1 M1 =>
   (0 ≤ v1 ∧ v1 < 1300) ∧
    Qr [] (up_ M1 205 v1 x5)) Qt
 else
  (if x5 < 0 then
   D 266 [.inr (.inr 6), .inl 8, .inl x2] M (ri_ fun v2 M2 =>
    (0 ≤ v2 ∧ v2 < 1300) ∧
     Qr [] (up_ M2 205 v2 x5)) Qt
  else
   (0 ≤ x1 ∧ x1 < 1300) ∧
    (0 ≤ x1 ∧ x1 < 1300) ∧
    D 266 [.inr (.inr 6), .inl 8, .inl x2] (up_ M 213 x1 (or_ (M 213 x1) (sl_ 1 x5))) (ri_ fun v3 M3 =>
    (0 ≤ v3 ∧ v3 < 1300) ∧
     Qr [] (up_ M3 205 v3 x5)) Qt)))) : V 99 [rr 6, ii x1, ii x2, ii x3, ii x4, ii x5] [] M := bx_go hD (m := (g_265_53, m_265.2)) (Cl_sf z_265_53 hV) hW [(99, [])] 24 h
/-- X4_emit(II)I -/
theorem b_266_0 {D : ca_} {V : vv_} {Qr : qr_} {Qt : qt_} (hD : Mo_ D) (hV : Cl_ wd0 D V Qr Qt m_266) (hW : Wk_ V) (x1 : Int) (x2 : Int) (M : mm_) (h :
 (0 ≤ M 6 75 ∧ M 6 75 < 1300) ∧
  (0 ≤ M 6 75 ∧ M 6 75 < 1300) ∧
  (0 ≤ M 6 75 ∧ M 6 75 < 1300) ∧
  (0 ≤ M 6 75 ∧ M 6 75 < 1300) ∧
  (0 ≤ M 6 75 ∧ M 6 75 < 1300) ∧
  (0 ≤ M 6 75 ∧ M 6 75 < 1300) ∧
  (0 ≤ M 6 75 ∧ M 6 75 < 1300) ∧
  Qr [.inl (M 6 75)] (up_ (up_ (up_ (up_ (up_ (up_ (up_ (up_ M 203 (M 6 75) x1) 204 (M 6 75) x2) 205 (M 6 75) ((-1))) 206 (M 6 75) ((-1))) 207 (M 6 75) ((-1))) 208 (M 6 75) ((-1))) 210 (M 6 75) 0) 6 75 (w32 ((M 6 75) + 1)))) : V 0 [rr 6, ii x1, ii x2, none] [] M := bx_go hD hV hW [] 46 h
/-- X4_stateOf(IJ)I -/
theorem b_267_0 {D : ca_} {V : vv_} {Qr : qr_} {Qt : qt_} (hD : Mo_ D) (hV : Cl_ wd0 D V Qr Qt m_267) (hW : Wk_ V) (x1 : Int) (x2 : Int) (M : mm_) (h :
 V 3 [rr 6, ii x1, jj x2, none, ii 0] [] M) : V 0 [rr 6, ii x1, jj x2, none, none] [] M := bx_go hD hV hW [(3, [3])] 3 h
theorem b_267_3 {D : ca_} {V : vv_} {Qr : qr_} {Qt : qt_} (hD : Mo_ D) (hV : Cl_ wd0 D V Qr Qt m_267) (hW : Wk_ V) (x1 : Int) (x2 : Int) (x4 : Int) (M : mm_) (h :
 (0 ≤ x1 ∧ x1 < 6) ∧
  (if x4 < M 174 x1 then
  (0 ≤ w32 ((w32 (12 * x1)) + x4) ∧ w32 ((w32 (12 * x1)) + x4) < 72) ∧
   (if (if M 179 (w32 ((w32 (12 * x1)) + x4)) < x2 then -1 else if M 179 (w32 ((w32 (12 * x1)) + x4)) = x2 then 0 else 1) = 0 then
   Qr [.inl x4] M
  else
   V 3 [rr 6, ii x1, jj x2, none, ii (w32 (x4 + 1))] [] M)
 else
  Qr [.inl ((-1))] M)) : V 3 [rr 6, ii x1, jj x2, none, ii x4] [] M := bx_go hD hV hW [(3, [3])] 20 h
/-- X4_labelOf(IJ)I -/
theorem b_268_0 {D : ca_} {V : vv_} {Qr : qr_} {Qt : qt_} (hD : Mo_ D) (hV : Cl_ wd0 D V Qr Qt m_268) (hW : Wk_ V) (x1 : Int) (x2 : Int) (M : mm_) (h :
 V 3 [rr 6, ii x1, jj x2, none, ii 0] [] M) : V 0 [rr 6, ii x1, jj x2, none, none] [] M := bx_go hD hV hW [(3, [3])] 3 h
theorem b_268_3 {D : ca_} {V : vv_} {Qr : qr_} {Qt : qt_} (hD : Mo_ D) (hV : Cl_ wd0 D V Qr Qt m_268) (hW : Wk_ V) (x1 : Int) (x2 : Int) (x4 : Int) (M : mm_) (h :
 (0 ≤ x1 ∧ x1 < 6) ∧
  (if x4 < M 175 x1 then
  (0 ≤ w32 ((w32 (10 * x1)) + x4) ∧ w32 ((w32 (10 * x1)) + x4) < 60) ∧
   (if (if M 180 (w32 ((w32 (10 * x1)) + x4)) < x2 then -1 else if M 180 (w32 ((w32 (10 * x1)) + x4)) = x2 then 0 else 1) = 0 then
   Qr [.inl x4] M
  else
   V 3 [rr 6, ii x1, jj x2, none, ii (w32 (x4 + 1))] [] M)
 else
  Qr [.inl ((-1))] M)) : V 3 [rr 6, ii x1, jj x2, none, ii x4] [] M := bx_go hD hV hW [(3, [3])] 20 h
/-- X4_decide()V -/
theorem b_269_0 {D : ca_} {V : vv_} {Qr : qr_} {Qt : qt_} (hD : Mo_ D) (hV : Cl_ wd0 D V Qr Qt m_269) (hW : Wk_ V)  (M : mm_) (h :
 (0 ≤ M 6 12 ∧ M 6 12 < 1202) ∧
  D 240 [.inr (.inr 6)] M (rv_ fun M1 =>
  D 250 [.inr (.inr 6), .inl 18] M1 (rv_ fun M2 =>
   D 270 [.inr (.inr 6), .inl 0] M2 (ri_ fun v1 M3 =>
    D 227 [.inr (.inr 6)] M3 (ri_ fun v2 M4 =>
     (if v2 = 0 then
      (bl_ (M4 6 109) → (if M4 6 109 = 0 then
       (bl_ (M4 6 109) → (if M4 6 109 = 0 then
        (if M4 6 107 = 3 then
         D 236 [.inr (.inr 6), .inl 5, .inl (M4 6 108)] M4 (rv_ fun M5 =>
          V 76 [rr 6, ii (M 150 (M 6 12)), ii v1, ii 0, none] [] M5) Qt
        else
         V 76 [rr 6, ii (M 150 (M 6 12)), ii v1, ii (M4 6 107), none] [] M4)
       else
        V 76 [rr 6, ii (M 150 (M 6 12)), ii v1, ii (M4 6 107), none] [] M4))
      else
       (bl_ (M4 6 109) → (if M4 6 109 = 0 then
        (if M4 6 107 = 3 then
         D 236 [.inr (.inr 6), .inl 5, .inl (M4 6 108)] M4 (rv_ fun M6 =>
          V 76 [rr 6, ii (M 150 (M 6 12)), ii v1, ii 0, none] [] M6) Qt
        else
         V 76 [rr 6, ii (M 150 (M 6 12)), ii v1, ii 0, none] [] M4)
       else
        V 76 [rr 6, ii (M 150 (M 6 12)), ii v1, ii 0, none] [] M4))))
     else
      Qr [] M4)) Qt) Qt) Qt) Qt) : V 0 [rr 6, none, none, none, none] [] M := bx_go hD hV hW [(76, [4])] 39 h
theorem i_269 : inq_ 0 k_269 = true := by decide +kernel
theorem z_269_41 : Sf_ k_269 g_269_41 := Sf_of i_269 41 rfl
theorem b_269_76 {D : ca_} {V : vv_} {Qr : qr_} {Qt : qt_} (hD : Mo_ D) (hV : Cl_ wd0 D V Qr Qt m_269) (hW : Wk_ V) (x1 : Int) (x2 : Int) (x3 : Int) (M : mm_) (h :
 D 244 [.inr (.inr 6), .inl 59] M (rv_ fun M1 =>
  D 227 [.inr (.inr 6)] M1 (ri_ fun v1 M2 =>
   (if v1 = 0 then
    D 266 [.inr (.inr 6), .inl 6, .inl x1] M2 (ri_ fun v2 M3 =>
     (0 ≤ v2 ∧ v2 < 1300) ∧
      (0 ≤ M3 6 102 ∧ M3 6 102 < 14) ∧
      (0 ≤ M3 6 102 ∧ M3 6 102 < 14) ∧
      (0 ≤ M3 6 102 ∧ M3 6 102 < 14) ∧
      (0 ≤ M3 6 102 ∧ M3 6 102 < 14) ∧
      (0 ≤ M3 6 102 ∧ M3 6 102 < 14) ∧
      ((0 ≤ M3 6 102 ∧ M3 6 102 < 14) ∧ bl_ 0) ∧
      ((0 ≤ M3 6 102 ∧ M3 6 102 < 14) ∧ bl_ 1) ∧
      D 291 [.inr (.inr 6)] (up_ (up_ (up_ (up_ (up_ (up_ (up_ (up_ (up_ M3 205 v2 x2) 220 (M3 6 102) v2) 221 (M3 6 102) 0) 222 (M3 6 102) ((-1))) 223 (M3 6 102) x3) 224 (M3 6 102) ((-1))) 225 (M3 6 102) 0) 226 (M3 6 102) 1) 6 102 (w32 ((M3 6 102) + 1))) (rv_ fun M4 =>
      Qr [] M4) Qt) Qt
   else
    Qr [] M2)) Qt) Qt) : V 76 [rr 6, ii x1, ii x2, ii x3, none] [] M := bx_go hD (m := (g_269_41, m_269.2)) (Cl_sf z_269_41 hV) hW [(76, [4])] 67 h
/-- X4_wanted(I)I -/
theorem b_270_0 {D : ca_} {V : vv_} {Qr : qr_} {Qt : qt_} (hD : Mo_ D) (hV : Cl_ wd0 D V Qr Qt m_270) (hW : Wk_ V) (x1 : Int) (M : mm_) (h :
 D 227 [.inr (.inr 6)] M (ri_ fun v1 M1 =>
  (if v1 = 0 then
   D 271 [.inr (.inr 6)] M1 (rv_ fun M2 =>
    D 227 [.inr (.inr 6)] M2 (ri_ fun v2 M3 =>
     (if v2 = 0 then
      D 277 [.inr (.inr 6), .inl 0, .inl 0] M3 (rv_ fun M4 =>
       (if x1 ≤ 0 then
        Qr [.inl (M1 6 104)] M4
       else
        (bl_ (M4 6 109) → (if M4 6 109 = 0 then
         (if M4 6 107 = x1 then
          Qr [.inl (M1 6 104)] M4
         else
          D 236 [.inr (.inr 6), .inl 5, .inl (M4 6 108)] M4 (rv_ fun M5 =>
           Qr [.inl (M1 6 104)] M5) Qt)
        else
         Qr [.inl (M1 6 104)] M4)))) Qt
     else
      Qr [.inl ((-1))] M3)) Qt) Qt
  else
   Qr [.inl ((-1))] M1)) Qt) : V 0 [rr 6, ii x1, none] [] M := bx_go hD hV hW [] 31 h
/-- X4_expression()V -/
theorem b_271_0 {D : ca_} {V : vv_} {Qr : qr_} {Qt : qt_} (hD : Mo_ D) (hV : Cl_ wd0 D V Qr Qt m_271) (hW : Wk_ V)  (M : mm_) (h :
 ((0 ≤ (0 : Int) ∧ (0 : Int) < 40) ∧ bl_ 0) ∧
  V 26 [rr 6, ii 0, ii 1, none] [] (up_ (up_ (up_ (up_ M 6 112 0) 6 116 0) 6 118 0) 234 0 0)) : V 0 [rr 6, none, none, none] [] M := bx_go hD hV hW [(26, [3]), (90, [3]), (142, [3])] 19 h
theorem i_271 : inq_ 0 k_271 = true := by decide +kernel
theorem z_271_18 : Sf_ k_271 g_271_18 := Sf_of i_271 18 rfl
theorem b_271_26 {D : ca_} {V : vv_} {Qr : qr_} {Qt : qt_} (hD : Mo_ D) (hV : Cl_ wd0 D V Qr Qt m_271) (hW : Wk_ V) (x1 : Int) (x2 : Int) (M : mm_) (h :
 (if x2 = 0 then
  V 142 [rr 6, ii x1, ii x2, none] [] M
 else
  D 227 [.inr (.inr 6)] M (ri_ fun v1 M1 =>
   (if v1 = 0 then
    (if x1 = 0 then
     D 272 [.inr (.inr 6)] M1 (ri_ fun v5 M7 =>
      V 26 [rr 6, ii v5, ii x2, none] [] M7) Qt
    else
     (if M1 6 118 ≤ 0 then
      V 90 [rr 6, ii x1, ii x2, none] [] M1
     else
      D 284 [.inr (.inr 6)] M1 (ri_ fun v2 M2 =>
       (0 ≤ v2 ∧ v2 < 1240) ∧
        (if M2 229 v2 = 1 then
        D 237 [.inr (.inr 6), .inl 41] M2 (ri_ fun v4 M5 =>
         (if v4 = 0 then
          V 90 [rr 6, ii x1, ii x2, none] [] M5
         else
          D 285 [.inr (.inr 6)] M5 (rv_ fun M6 =>
           V 26 [rr 6, ii x1, ii x2, none] [] M6) Qt)) Qt
       else
        D 237 [.inr (.inr 6), .inl 93] M2 (ri_ fun v3 M3 =>
         (if v3 = 0 then
          V 90 [rr 6, ii x1, ii x2, none] [] M3
         else
          D 285 [.inr (.inr 6)] M3 (rv_ fun M4 =>
           V 26 [rr 6, ii x1, ii x2, none] [] M4) Qt)) Qt)) Qt))
   else
    V 142 [rr 6, ii x1, ii x2, none] [] M1)) Qt)) : V 26 [rr 6, ii x1, ii x2, none] [] M := bx_go hD (m := (g_271_18, m_271.2)) (Cl_sf z_271_18 hV) hW [(26, [3]), (90, [3]), (142, [3])] 26 h
theorem z_271_48 : Sf_ k_271 g_271_48 := Sf_tr z_271_18 30 rfl
theorem b_271_90 {D : ca_} {V : vv_} {Qr : qr_} {Qt : qt_} (hD : Mo_ D) (hV : Cl_ wd0 D V Qr Qt m_271) (hW : Wk_ V) (x1 : Int) (x2 : Int) (M : mm_) (h :
 D 288 [.inr (.inr 6)] M (ri_ fun v1 M1 =>
  (if v1 = 0 then
   (if M1 6 118 ≤ 0 then
    V 26 [rr 6, ii x1, ii 0, none] [] M1
   else
    D 234 [.inr (.inr 6)] M1 (rv_ fun M2 =>
     V 26 [rr 6, ii x1, ii 0, none] [] M2) Qt)
  else
   (if v1 = 3 then
    (0 ≤ M1 6 118 ∧ M1 6 118 < 40) ∧ (bl_ (M1 234 (M1 6 118)) →
     (if M1 234 (M1 6 118) = 0 then
     D 289 [.inr (.inr 6), .inl v1] M1 (rv_ fun M4 =>
      V 26 [rr 6, ii 0, ii x2, none] [] M4) Qt
    else
     (if M1 6 118 ≤ 0 then
      V 26 [rr 6, ii x1, ii 0, none] [] M1
     else
      D 234 [.inr (.inr 6)] M1 (rv_ fun M5 =>
       V 26 [rr 6, ii x1, ii 0, none] [] M5) Qt)))
   else
    D 289 [.inr (.inr 6), .inl v1] M1 (rv_ fun M3 =>
     V 26 [rr 6, ii 0, ii x2, none] [] M3) Qt))) Qt) : V 90 [rr 6, ii x1, ii x2, none] [] M := bx_go hD (m := (g_271_48, m_271.2)) (Cl_sf z_271_48 hV) hW [(26, [3]), (90, [3]), (142, [3])] 24 h
theorem z_271_76 : Sf_ k_271 g_271_76 := Sf_tr z_271_48 28 rfl
theorem b_271_142 {D : ca_} {V : vv_} {Qr : qr_} {Qt : qt_} (hD : Mo_ D) (hV : Cl_ wd0 D V Qr Qt m_271) (hW : Wk_ V) (x1 : Int) (x2 : Int) (M : mm_) (h :
 D 227 [.inr (.inr 6)] M (ri_ fun v1 M1 =>
  (if v1 = 0 then
   D 286 [.inr (.inr 6), .inl 0] M1 (rv_ fun M2 =>
    (0 ≤ (0 : Int) ∧ (0 : Int) < 1202) ∧
     (0 ≤ (0 : Int) ∧ (0 : Int) < 1202) ∧
     (0 ≤ (0 : Int) ∧ (0 : Int) < 1202) ∧ (bl_ (M2 233 0) →
     bl_ (M2 233 0) ∧ Qr [] (up_ (up_ (up_ M2 6 107 (M2 231 0)) 6 108 (M2 232 0)) 6 109 (M2 233 0)))) Qt
  else
   Qr [] M1)) Qt) : V 142 [rr 6, ii x1, ii x2, none] [] M := bx_go hD (m := (g_271_76, m_271.2)) (Cl_sf z_271_76 hV) hW [(26, [3]), (90, [3]), (142, [3])] 25 h
/-- X4_start()Z -/
theorem b_272_0 {D : ca_} {V : vv_} {Qr : qr_} {Qt : qt_} (hD : Mo_ D) (hV : Cl_ wd0 D V Qr Qt m_272) (hW : Wk_ V)  (M : mm_) (h :
 (0 ≤ M 6 12 ∧ M 6 12 < 1202) ∧
  D 237 [.inr (.inr 6), .inl 45] M (ri_ fun v1 M1 =>
  (if v1 = 0 then
   D 229 [.inr (.inr 6), .inl 41] M1 (ri_ fun v2 M2 =>
    (if v2 = 0 then
     D 237 [.inr (.inr 6), .inl 40] M2 (ri_ fun v3 M3 =>
      (if v3 = 0 then
       (0 ≤ M3 6 12 ∧ M3 6 12 < 1202) ∧
        (if M3 149 (M3 6 12) = 1 then
        D 275 [.inr (.inr 6), .inl (M 150 (M 6 12))] M3 (ri_ fun v6 M9 =>
         bl_ v6 ∧ Qr [.inl v6] M9) Qt
       else
        (0 ≤ M3 6 12 ∧ M3 6 12 < 1202) ∧
         (if M3 149 (M3 6 12) = 2 then
         (0 ≤ M3 6 12 ∧ M3 6 12 < 1202) ∧
          D 277 [.inr (.inr 6), .inl 1, .inl (w32 (M3 151 (M3 6 12)))] M3 (rv_ fun M5 =>
          D 230 [.inr (.inr 6)] M5 (rv_ fun M6 =>
           D 227 [.inr (.inr 6)] M6 (ri_ fun v5 M7 =>
            (if v5 = 0 then
             D 278 [.inr (.inr 6), .inl 1, .inl (M 150 (M 6 12)), .inl 0] M7 (rv_ fun M8 =>
              bl_ 1 ∧ Qr [.inl 1] M8) Qt
            else
             bl_ 1 ∧ Qr [.inl 1] M7)) Qt) Qt) Qt
        else
         D 281 [.inr (.inr 6), .inl (M 150 (M 6 12))] M3 (ri_ fun v4 M4 =>
          bl_ v4 ∧ Qr [.inl v4] M4) Qt))
      else
       D 239 [.inr (.inr 6), .inl 40] M3 (rv_ fun M10 =>
        D 227 [.inr (.inr 6)] M10 (ri_ fun v7 M11 =>
         (if v7 = 0 then
          D 274 [.inr (.inr 6), .inl 1, .inl (M3 6 12)] M11 (rv_ fun M12 =>
           bl_ 0 ∧ Qr [.inl 0] M12) Qt
         else
          bl_ 0 ∧ Qr [.inl 0] M11)) Qt) Qt)) Qt
    else
     V 28 [rr 6, ii (M 150 (M 6 12)), none] [] M2)) Qt
  else
   V 28 [rr 6, ii (M 150 (M 6 12)), none] [] M1)) Qt) : V 0 [rr 6, none, none] [] M := bx_go hD hV hW [(28, [2])] 53 h
theorem i_272 : inq_ 0 k_272 = true := by decide +kernel
theorem z_272_14 : Sf_ k_272 g_272_14 := Sf_of i_272 14 rfl
theorem b_272_28 {D : ca_} {V : vv_} {Qr : qr_} {Qt : qt_} (hD : Mo_ D) (hV : Cl_ wd0 D V Qr Qt m_272) (hW : Wk_ V) (x1 : Int) (M : mm_) (h :
 D 240 [.inr (.inr 6)] M (rv_ fun M1 =>
  D 237 [.inr (.inr 6), .inl 45] M1 (ri_ fun v1 M2 =>
   (if v1 = 0 then
    D 273 [.inr (.inr 6), .inl 14, .inl (M2 6 12)] M2 (rv_ fun M3 =>
     D 230 [.inr (.inr 6)] M3 (rv_ fun M4 =>
      bl_ 0 ∧ Qr [.inl 0] M4) Qt) Qt
   else
    D 273 [.inr (.inr 6), .inl 13, .inl (M2 6 12)] M2 (rv_ fun M5 =>
     D 230 [.inr (.inr 6)] M5 (rv_ fun M6 =>
      bl_ 0 ∧ Qr [.inl 0] M6) Qt) Qt)) Qt) Qt) : V 28 [rr 6, ii x1, none] [] M := bx_go hD (m := (g_272_14, m_272.2)) (Cl_sf z_272_14 hV) hW [(28, [2])] 16 h
/-- X4_hold(II)V -/
theorem b_273_0 {D : ca_} {V : vv_} {Qr : qr_} {Qt : qt_} (hD : Mo_ D) (hV : Cl_ wd0 D V Qr Qt m_273) (hW : Wk_ V) (x1 : Int) (x2 : Int) (M : mm_) (h :
 (0 ≤ M 6 112 ∧ M 6 112 < 1240) ∧
  (0 ≤ M 6 112 ∧ M 6 112 < 1240) ∧
  Qr [] (up_ (up_ (up_ M 229 (M 6 112) x1) 230 (M 6 112) x2) 6 112 (w32 ((M 6 112) + 1)))) : V 0 [rr 6, ii x1, ii x2] [] M := bx_go hD hV hW [] 19 h
/-- X4_bracket(II)V -/
theorem b_274_0 {D : ca_} {V : vv_} {Qr : qr_} {Qt : qt_} (hD : Mo_ D) (hV : Cl_ wd0 D V Qr Qt m_274) (hW : Wk_ V) (x1 : Int) (x2 : Int) (M : mm_) (h :
 D 273 [.inr (.inr 6), .inl x1, .inl x2] M (rv_ fun M1 =>
  ((0 ≤ w32 ((M1 6 118) + 1) ∧ w32 ((M1 6 118) + 1) < 40) ∧ bl_ 0) ∧
   Qr [] (up_ (up_ M1 6 118 (w32 ((M1 6 118) + 1))) 234 (w32 ((M1 6 118) + 1)) 0)) Qt) : V 0 [rr 6, ii x1, ii x2] [] M := bx_go hD hV hW [] 17 h
/-- X4_named(I)Z -/
theorem b_275_0 {D : ca_} {V : vv_} {Qr : qr_} {Qt : qt_} (hD : Mo_ D) (hV : Cl_ wd0 D V Qr Qt m_275) (hW : Wk_ V) (x1 : Int) (M : mm_) (h :
 D 233 [.inr (.inr 6)] M (ri_ fun v1 M1 =>
  D 227 [.inr (.inr 6)] M1 (ri_ fun v2 M2 =>
   (if v2 = 0 then
    (0 ≤ v1 ∧ v1 < 1202) ∧
     D 276 [.inr (.inr 6), .inl (M2 6 61), .inr (.inl (M2 151 v1))] M2 (ri_ fun v3 M3 =>
     D 237 [.inr (.inr 6), .inl 91] M3 (ri_ fun v4 M4 =>
      (bl_ (M4 6 16) → (if M4 6 16 = 0 then
       V 54 [rr 6, ii x1, ii v1, ii v3, ii v4] [] M4
      else
       (if v3 < 0 then
        D 236 [.inr (.inr 6), .inl 4, .inl x1] M4 (rv_ fun M5 =>
         V 54 [rr 6, ii x1, ii v1, ii v3, ii v4] [] M5) Qt
       else
        V 54 [rr 6, ii x1, ii v1, ii v3, ii v4] [] M4)))) Qt) Qt
   else
    bl_ 1 ∧ Qr [.inl 1] M2)) Qt) Qt) : V 0 [rr 6, ii x1, none, none, none] [] M := bx_go hD hV hW [(54, []), (90, [])] 29 h
theorem i_275 : inq_ 0 k_275 = true := by decide +kernel
theorem z_275_30 : Sf_ k_275 g_275_30 := Sf_of i_275 30 rfl
theorem b_275_54 {D : ca_} {V : vv_} {Qr : qr_} {Qt : qt_} (hD : Mo_ D) (hV : Cl_ wd0 D V Qr Qt m_275) (hW : Wk_ V) (x1 : Int) (x2 : Int) (x3 : Int) (x4 : Int) (M : mm_) (h :
 (bl_ (M 6 16) → (if M 6 16 = 0 then
  V 90 [rr 6, ii x1, ii x2, ii x3, ii x4] [] M
 else
  (if x3 < 0 then
   V 90 [rr 6, ii x1, ii x2, ii x3, ii x4] [] M
  else
   (0 ≤ x3 ∧ x3 < 48) ∧
    (if M 183 x3 ≤ 0 then
    (if x4 = 0 then
     V 90 [rr 6, ii x1, ii x2, ii x3, ii x4] [] M
    else
     D 236 [.inr (.inr 6), .inl 5, .inl x1] M (rv_ fun M1 =>
      V 90 [rr 6, ii x1, ii x2, ii x3, ii x4] [] M1) Qt)
   else
    (if x4 = 1 then
     V 90 [rr 6, ii x1, ii x2, ii x3, ii x4] [] M
    else
     D 236 [.inr (.inr 6), .inl 5, .inl x1] M (rv_ fun M2 =>
      V 90 [rr 6, ii x1, ii x2, ii x3, ii x4] [] M2) Qt)))))) : V 54 [rr 6, ii x1, ii x2, ii x3, ii x4] [] M := bx_go hD (m := (g_275_30, m_275.2)) (Cl_sf z_275_30 hV) hW [(54, []), (90, [])] 19 h
theorem z_275_49 : Sf_ k_275 g_275_49 := Sf_tr z_275_30 19 rfl
theorem b_275_90 {D : ca_} {V : vv_} {Qr : qr_} {Qt : qt_} (hD : Mo_ D) (hV : Cl_ wd0 D V Qr Qt m_275) (hW : Wk_ V) (x1 : Int) (x2 : Int) (x3 : Int) (x4 : Int) (M : mm_) (h :
 (if x4 = 0 then
  D 277 [.inr (.inr 6), .inl 11, .inl x3] M (rv_ fun M1 =>
   (if x3 < 0 then
    (if x3 < 0 then
     D 278 [.inr (.inr 6), .inl 0, .inl x1, .inl 1] M1 (rv_ fun M5 =>
      bl_ 1 ∧ Qr [.inl 1] M5) Qt
    else
     (0 ≤ x3 ∧ x3 < 48) ∧
      (if M1 183 x3 ≤ 0 then
      D 278 [.inr (.inr 6), .inl 0, .inl x1, .inl 0] M1 (rv_ fun M6 =>
       bl_ 1 ∧ Qr [.inl 1] M6) Qt
     else
      D 278 [.inr (.inr 6), .inl 0, .inl x1, .inl 1] M1 (rv_ fun M7 =>
       bl_ 1 ∧ Qr [.inl 1] M7) Qt))
   else
    (0 ≤ x3 ∧ x3 < 48) ∧
     (if x3 < 0 then
     D 278 [.inr (.inr 6), .inl (M1 182 x3), .inl x1, .inl 1] M1 (rv_ fun M2 =>
      bl_ 1 ∧ Qr [.inl 1] M2) Qt
    else
     (0 ≤ x3 ∧ x3 < 48) ∧
      (if M1 183 x3 ≤ 0 then
      D 278 [.inr (.inr 6), .inl (M1 182 x3), .inl x1, .inl 0] M1 (rv_ fun M3 =>
       bl_ 1 ∧ Qr [.inl 1] M3) Qt
     else
      D 278 [.inr (.inr 6), .inl (M1 182 x3), .inl x1, .inl 1] M1 (rv_ fun M4 =>
       bl_ 1 ∧ Qr [.inl 1] M4) Qt)))) Qt
 else
  D 239 [.inr (.inr 6), .inl 91] M (rv_ fun M8 =>
   D 227 [.inr (.inr 6)] M8 (ri_ fun v1 M9 =>
    (if v1 = 0 then
     D 274 [.inr (.inr 6), .inl 2, .inl x2] M9 (rv_ fun M10 =>
      bl_ 0 ∧ Qr [.inl 0] M10) Qt
    else
     bl_ 0 ∧ Qr [.inl 0] M9)) Qt) Qt)) : V 90 [rr 6, ii x1, ii x2, ii x3, ii x4] [] M := bx_go hD (m := (g_275_49, m_275.2)) (Cl_sf z_275_49 hV) hW [(54, []), (90, [])] 26 h
/-- X4_variableOf(IJ)I -/
theorem b_276_0 {D : ca_} {V : vv_} {Qr : qr_} {Qt : qt_} (hD : Mo_ D) (hV : Cl_ wd0 D V Qr Qt m_276) (hW : Wk_ V) (x1 : Int) (x2 : Int) (M : mm_) (h :
 V 3 [rr 6, ii x1, jj x2, none, ii 0] [] M) : V 0 [rr 6, ii x1, jj x2, none, none] [] M := bx_go hD hV hW [(3, [3])] 3 h
theorem b_276_3 {D : ca_} {V : vv_} {Qr : qr_} {Qt : qt_} (hD : Mo_ D) (hV : Cl_ wd0 D V Qr Qt m_276) (hW : Wk_ V) (x1 : Int) (x2 : Int) (x4 : Int) (M : mm_) (h :
 (0 ≤ x1 ∧ x1 < 6) ∧
  (if x4 < M 171 x1 then
  (0 ≤ w32 ((w32 (8 * x1)) + x4) ∧ w32 ((w32 (8 * x1)) + x4) < 48) ∧
   (if (if M 177 (w32 ((w32 (8 * x1)) + x4)) < x2 then -1 else if M 177 (w32 ((w32 (8 * x1)) + x4)) = x2 then 0 else 1) = 0 then
   Qr [.inl (w32 ((w32 (8 * x1)) + x4))] M
  else
   V 3 [rr 6, ii x1, jj x2, none, ii (w32 (x4 + 1))] [] M)
 else
  Qr [.inl ((-1))] M)) : V 3 [rr 6, ii x1, jj x2, none, ii x4] [] M := bx_go hD hV hW [(3, [3])] 23 h
/-- X4_put(II)V -/
theorem b_277_0 {D : ca_} {V : vv_} {Qr : qr_} {Qt : qt_} (hD : Mo_ D) (hV : Cl_ wd0 D V Qr Qt m_277) (hW : Wk_ V) (x1 : Int) (x2 : Int) (M : mm_) (h :
 (0 ≤ M 6 104 ∧ M 6 104 < 3000) ∧
  (0 ≤ M 6 104 ∧ M 6 104 < 3000) ∧
  Qr [] (up_ (up_ (up_ M 227 (M 6 104) x1) 228 (M 6 104) x2) 6 104 (w32 ((M 6 104) + 1)))) : V 0 [rr 6, ii x1, ii x2] [] M := bx_go hD hV hW [] 19 h
/-- X4_operand(IIZ)V -/
theorem b_278_0 {D : ca_} {V : vv_} {Qr : qr_} {Qt : qt_} (hD : Mo_ D) (hV : Cl_ wd0 D V Qr Qt m_278) (hW : Wk_ V) (x1 : Int) (x2 : Int) (x3 : Int) (M : mm_) (h :
 (0 ≤ M 6 116 ∧ M 6 116 < 1202) ∧
  (0 ≤ M 6 116 ∧ M 6 116 < 1202) ∧
  ((0 ≤ M 6 116 ∧ M 6 116 < 1202) ∧ bl_ x3) ∧
  D 279 [.inr (.inr 6)] (up_ (up_ (up_ (up_ M 231 (M 6 116) x1) 232 (M 6 116) x2) 233 (M 6 116) x3) 6 116 (w32 ((M 6 116) + 1))) (rv_ fun M1 =>
  Qr [] M1) Qt) : V 0 [rr 6, ii x1, ii x2, ii x3] [] M := bx_go hD hV hW [] 27 h
/-- X4_prefixes()V -/
theorem b_279_0 {D : ca_} {V : vv_} {Qr : qr_} {Qt : qt_} (hD : Mo_ D) (hV : Cl_ wd0 D V Qr Qt m_279) (hW : Wk_ V)  (M : mm_) (h :
 (if M 6 112 ≤ 0 then
  Qr [] M
 else
  (0 ≤ w32 ((M 6 112) - 1) ∧ w32 ((M 6 112) - 1) < 1240) ∧
   (if M 229 (w32 ((M 6 112) - 1)) = 13 then
   V 39 [rr 6, none, none, none] [] M
  else
   (0 ≤ w32 ((M 6 112) - 1) ∧ w32 ((M 6 112) - 1) < 1240) ∧
    (if M 229 (w32 ((M 6 112) - 1)) = 14 then
    V 39 [rr 6, none, none, none] [] M
   else
    Qr [] M)))) : V 0 [rr 6, none, none, none] [] M := bx_go hD hV hW [(0, [1, 2, 3]), (39, [1, 2, 3]), (79, [2, 3]), (147, [])] 22 h
theorem i_279 : inq_ 0 k_279 = true := by decide +kernel
theorem z_279_21 : Sf_ k_279 g_279_21 := Sf_of i_279 21 rfl
theorem b_279_39 {D : ca_} {V : vv_} {Qr : qr_} {Qt : qt_} (hD : Mo_ D) (hV : Cl_ wd0 D V Qr Qt m_279) (hW : Wk_ V)  (M : mm_) (h :
 (0 ≤ w32 ((M 6 112) - 1) ∧ w32 ((M 6 112) - 1) < 1240) ∧
  (if M 229 (w32 ((M 6 112) - 1)) = 13 then
  V 79 [rr 6, ii 1, none, none] [] (up_ (up_ M 6 112 (w32 ((M 6 112) - 1))) 6 15 (w32 ((M 6 15) - 1)))
 else
  V 79 [rr 6, ii 0, none, none] [] (up_ (up_ M 6 112 (w32 ((M 6 112) - 1))) 6 15 (w32 ((M 6 15) - 1))))) : V 39 [rr 6, none, none, none] [] M := bx_go hD (m := (g_279_21, m_279.2)) (Cl_sf z_279_21 hV) hW [(0, [1, 2, 3]), (39, [1, 2, 3]), (79, [2, 3]), (147, [])] 23 h
theorem z_279_44 : Sf_ k_279 g_279_44 := Sf_tr z_279_21 23 rfl
theorem b_279_79 {D : ca_} {V : vv_} {Qr : qr_} {Qt : qt_} (hD : Mo_ D) (hV : Cl_ wd0 D V Qr Qt m_279) (hW : Wk_ V) (x1 : Int) (M : mm_) (h :
 (0 ≤ M 6 112 ∧ M 6 112 < 1240) ∧
  D 277 [.inr (.inr 6), .inl (M 229 (M 6 112)), .inl 0] M (rv_ fun M1 =>
  (0 ≤ w32 ((M1 6 116) - 1) ∧ w32 ((M1 6 116) - 1) < 1202) ∧ (bl_ (M1 233 (w32 ((M1 6 116) - 1))) →
   (if M1 233 (w32 ((M1 6 116) - 1)) = 0 then
   (if x1 = 0 then
    D 280 [.inr (.inr 6), .inl (w32 ((M1 6 116) - 1)), .inl 2] M1 (ri_ fun v1 M2 =>
     (if v1 = 0 then
      (if x1 = 0 then
       (0 ≤ w32 ((M1 6 116) - 1) ∧ w32 ((M1 6 116) - 1) < 1202) ∧
        V 147 [rr 6, ii x1, ii (w32 ((M1 6 116) - 1)), ii 0] [] (up_ M2 231 (w32 ((M1 6 116) - 1)) 2)
      else
       (0 ≤ w32 ((M1 6 116) - 1) ∧ w32 ((M1 6 116) - 1) < 1202) ∧
        V 147 [rr 6, ii x1, ii (w32 ((M1 6 116) - 1)), ii 0] [] (up_ M2 231 (w32 ((M1 6 116) - 1)) 1))
     else
      (if x1 = 0 then
       (0 ≤ w32 ((M1 6 116) - 1) ∧ w32 ((M1 6 116) - 1) < 1202) ∧
        V 147 [rr 6, ii x1, ii (w32 ((M1 6 116) - 1)), ii 1] [] (up_ M2 231 (w32 ((M1 6 116) - 1)) 2)
      else
       (0 ≤ w32 ((M1 6 116) - 1) ∧ w32 ((M1 6 116) - 1) < 1202) ∧
        V 147 [rr 6, ii x1, ii (w32 ((M1 6 116) - 1)), ii 1] [] (up_ M2 231 (w32 ((M1 6 116) - 1)) 1)))) Qt
   else
    D 280 [.inr (.inr 6), .inl (w32 ((M1 6 116) - 1)), .inl 1] M1 (ri_ fun v2 M3 =>
     (if v2 = 0 then
      (if x1 = 0 then
       (0 ≤ w32 ((M1 6 116) - 1) ∧ w32 ((M1 6 116) - 1) < 1202) ∧
        V 147 [rr 6, ii x1, ii (w32 ((M1 6 116) - 1)), ii 0] [] (up_ M3 231 (w32 ((M1 6 116) - 1)) 2)
      else
       (0 ≤ w32 ((M1 6 116) - 1) ∧ w32 ((M1 6 116) - 1) < 1202) ∧
        V 147 [rr 6, ii x1, ii (w32 ((M1 6 116) - 1)), ii 0] [] (up_ M3 231 (w32 ((M1 6 116) - 1)) 1))
     else
      (if x1 = 0 then
       (0 ≤ w32 ((M1 6 116) - 1) ∧ w32 ((M1 6 116) - 1) < 1202) ∧
        V 147 [rr 6, ii x1, ii (w32 ((M1 6 116) - 1)), ii 1] [] (up_ M3 231 (w32 ((M1 6 116) - 1)) 2)
      else
       (0 ≤ w32 ((M1 6 116) - 1) ∧ w32 ((M1 6 116) - 1) < 1202) ∧
        V 147 [rr 6, ii x1, ii (w32 ((M1 6 116) - 1)), ii 1] [] (up_ M3 231 (w32 ((M1 6 116) - 1)) 1)))) Qt)
  else
   (if x1 = 0 then
    (0 ≤ w32 ((M1 6 116) - 1) ∧ w32 ((M1 6 116) - 1) < 1202) ∧
     V 147 [rr 6, ii x1, ii (w32 ((M1 6 116) - 1)), ii 1] [] (up_ M1 231 (w32 ((M1 6 116) - 1)) 2)
   else
    (0 ≤ w32 ((M1 6 116) - 1) ∧ w32 ((M1 6 116) - 1) < 1202) ∧
     V 147 [rr 6, ii x1, ii (w32 ((M1 6 116) - 1)), ii 1] [] (up_ M1 231 (w32 ((M1 6 116) - 1)) 1))))) Qt) : V 79 [rr 6, ii x1, none, none] [] M := bx_go hD (m := (g_279_44, m_279.2)) (Cl_sf z_279_44 hV) hW [(0, [1, 2, 3]), (39, [1, 2, 3]), (79, [2, 3]), (147, [])] 38 h
theorem z_279_84 : Sf_ k_279 g_279_84 := Sf_tr z_279_44 40 rfl
theorem b_279_147 {D : ca_} {V : vv_} {Qr : qr_} {Qt : qt_} (hD : Mo_ D) (hV : Cl_ wd0 D V Qr Qt m_279) (hW : Wk_ V) (x1 : Int) (x2 : Int) (x3 : Int) (M : mm_) (h :
 (0 ≤ M 6 112 ∧ M 6 112 < 1240) ∧
  (0 ≤ M 230 (M 6 112) ∧ M 230 (M 6 112) < 1202) ∧
  (0 ≤ x2 ∧ x2 < 1202) ∧
  ((0 ≤ x2 ∧ x2 < 1202) ∧ bl_ x3) ∧
  V 0 [rr 6, none, none, none] [] (up_ (up_ M 232 x2 (M 150 (M 230 (M 6 112)))) 233 x2 x3)) : V 147 [rr 6, ii x1, ii x2, ii x3] [] M := bx_go hD (m := (g_279_84, m_279.2)) (Cl_sf z_279_84 hV) hW [(0, [1, 2, 3]), (39, [1, 2, 3]), (79, [2, 3]), (147, [])] 19 h
/-- X4_asks(II)Z -/
theorem b_280_0 {D : ca_} {V : vv_} {Qr : qr_} {Qt : qt_} (hD : Mo_ D) (hV : Cl_ wd0 D V Qr Qt m_280) (hW : Wk_ V) (x1 : Int) (x2 : Int) (M : mm_) (h :
 (0 ≤ x1 ∧ x1 < 1202) ∧ (bl_ (M 233 x1) →
  (if M 233 x1 = 0 then
  (0 ≤ x1 ∧ x1 < 1202) ∧
   (if M 231 x1 = x2 then
   (if (0 : Int) = 0 then
    bl_ 0 ∧ Qr [.inl 0] M
   else
    (0 ≤ x1 ∧ x1 < 1202) ∧
     D 236 [.inr (.inr 6), .inl 5, .inl (M 232 x1)] M (rv_ fun M2 =>
     bl_ 0 ∧ Qr [.inl 0] M2) Qt)
  else
   (if (1 : Int) = 0 then
    bl_ 1 ∧ Qr [.inl 1] M
   else
    (0 ≤ x1 ∧ x1 < 1202) ∧
     D 236 [.inr (.inr 6), .inl 5, .inl (M 232 x1)] M (rv_ fun M3 =>
     bl_ 1 ∧ Qr [.inl 1] M3) Qt))
 else
  (if (0 : Int) = 0 then
   bl_ 0 ∧ Qr [.inl 0] M
  else
   (0 ≤ x1 ∧ x1 < 1202) ∧
    D 236 [.inr (.inr 6), .inl 5, .inl (M 232 x1)] M (rv_ fun M1 =>
    bl_ 0 ∧ Qr [.inl 0] M1) Qt)))) : V 0 [rr 6, ii x1, ii x2, none] [] M := bx_go hD hV hW [] 25 h
/-- X4_told(I)Z -/
theorem b_281_0 {D : ca_} {V : vv_} {Qr : qr_} {Qt : qt_} (hD : Mo_ D) (hV : Cl_ wd0 D V Qr Qt m_281) (hW : Wk_ V) (x1 : Int) (M : mm_) (h :
 (0 ≤ M 6 12 ∧ M 6 12 < 1202) ∧
  (if M 149 (M 6 12) = 4 then
  (0 ≤ M 6 12 ∧ M 6 12 < 1202) ∧
   V 28 [rr 6, ii x1, ii (w32 (M 151 (M 6 12))), none] [] M
 else
  V 28 [rr 6, ii x1, ii ((-1)), none] [] M)) : V 0 [rr 6, ii x1, none, none] [] M := bx_go hD hV hW [(28, [3]), (200, [3])] 16 h
theorem i_281 : inq_ 0 k_281 = true := by decide +kernel
theorem z_281_16 : Sf_ k_281 g_281_16 := Sf_of i_281 16 rfl
theorem b_281_28 {D : ca_} {V : vv_} {Qr : qr_} {Qt : qt_} (hD : Mo_ D) (hV : Cl_ wd0 D V Qr Qt m_281) (hW : Wk_ V) (x1 : Int) (x2 : Int) (M : mm_) (h :
 (if x2 = 39 then
  D 230 [.inr (.inr 6)] M (rv_ fun M15 =>
   D 282 [.inr (.inr 6)] M15 (ri_ fun v2 M16 =>
    D 277 [.inr (.inr 6), .inl 10, .inl v2] M16 (rv_ fun M17 =>
     D 227 [.inr (.inr 6)] M17 (ri_ fun v3 M18 =>
      (if v3 = 0 then
       (bl_ (M18 6 16) → (if M18 6 16 = 0 then
        D 278 [.inr (.inr 6), .inl 2, .inl x1, .inl 0] M18 (rv_ fun M19 =>
         bl_ 1 ∧ Qr [.inl 1] M19) Qt
       else
        (if v2 < 0 then
         D 278 [.inr (.inr 6), .inl 2, .inl x1, .inl 1] M18 (rv_ fun M21 =>
          bl_ 1 ∧ Qr [.inl 1] M21) Qt
        else
         D 278 [.inr (.inr 6), .inl 2, .inl x1, .inl 0] M18 (rv_ fun M20 =>
          bl_ 1 ∧ Qr [.inl 1] M20) Qt)))
      else
       bl_ 1 ∧ Qr [.inl 1] M18)) Qt) Qt) Qt) Qt
 else
  (if x2 < 31 then
   D 234 [.inr (.inr 6)] M (rv_ fun M1 =>
    bl_ 1 ∧ Qr [.inl 1] M1) Qt
  else
   (if x2 ≤ 40 then
    D 230 [.inr (.inr 6)] M (rv_ fun M2 =>
     D 227 [.inr (.inr 6)] M2 (ri_ fun v1 M3 =>
      (if v1 = 0 then
       (if x2 = 31 then
        (if x2 = 31 then
         D 277 [.inr (.inr 6), .inl 1, .inl 1] M3 (rv_ fun M5 =>
          V 200 [rr 6, ii x1, ii x2, none] [] M5) Qt
        else
         D 277 [.inr (.inr 6), .inl 1, .inl 0] M3 (rv_ fun M4 =>
          V 200 [rr 6, ii x1, ii x2, none] [] M4) Qt)
       else
        (if x2 = 32 then
         (if x2 = 31 then
          D 277 [.inr (.inr 6), .inl 1, .inl 1] M3 (rv_ fun M13 =>
           V 200 [rr 6, ii x1, ii x2, none] [] M13) Qt
         else
          D 277 [.inr (.inr 6), .inl 1, .inl 0] M3 (rv_ fun M12 =>
           V 200 [rr 6, ii x1, ii x2, none] [] M12) Qt)
        else
         (if x2 = 33 then
          D 277 [.inr (.inr 6), .inl 1, .inl 0] M3 (rv_ fun M11 =>
           V 200 [rr 6, ii x1, ii x2, none] [] M11) Qt
         else
          (if x2 < 34 then
           (if x2 = 38 then
            D 277 [.inr (.inr 6), .inl 8, .inl 0] M3 (rv_ fun M7 =>
             V 200 [rr 6, ii x1, ii x2, none] [] M7) Qt
           else
            D 277 [.inr (.inr 6), .inl 9, .inl 0] M3 (rv_ fun M6 =>
             V 200 [rr 6, ii x1, ii x2, none] [] M6) Qt)
          else
           (if x2 ≤ 37 then
            D 277 [.inr (.inr 6), .inl 5, .inl (w32 (x2 - 34))] M3 (rv_ fun M10 =>
             V 200 [rr 6, ii x1, ii x2, none] [] M10) Qt
           else
            (if x2 = 38 then
             D 277 [.inr (.inr 6), .inl 8, .inl 0] M3 (rv_ fun M9 =>
              V 200 [rr 6, ii x1, ii x2, none] [] M9) Qt
            else
             D 277 [.inr (.inr 6), .inl 9, .inl 0] M3 (rv_ fun M8 =>
              V 200 [rr 6, ii x1, ii x2, none] [] M8) Qt))))))
      else
       bl_ 1 ∧ Qr [.inl 1] M3)) Qt) Qt
   else
    D 234 [.inr (.inr 6)] M (rv_ fun M14 =>
     bl_ 1 ∧ Qr [.inl 1] M14) Qt)))) : V 28 [rr 6, ii x1, ii x2, none] [] M := bx_go hD (m := (g_281_16, m_281.2)) (Cl_sf z_281_16 hV) hW [(28, [3]), (200, [3])] 38 h
theorem z_281_108 : Sf_ k_281 g_281_108 := Sf_tr z_281_16 92 rfl
theorem b_281_200 {D : ca_} {V : vv_} {Qr : qr_} {Qt : qt_} (hD : Mo_ D) (hV : Cl_ wd0 D V Qr Qt m_281) (hW : Wk_ V) (x1 : Int) (x2 : Int) (M : mm_) (h :
 (if x2 = 31 then
  D 278 [.inr (.inr 6), .inl 2, .inl x1, .inl 0] M (rv_ fun M1 =>
   bl_ 1 ∧ Qr [.inl 1] M1) Qt
 else
  (if x2 = 32 then
   D 278 [.inr (.inr 6), .inl 2, .inl x1, .inl 0] M (rv_ fun M4 =>
    bl_ 1 ∧ Qr [.inl 1] M4) Qt
  else
   (if x2 ≤ 37 then
    D 278 [.inr (.inr 6), .inl 3, .inl x1, .inl 0] M (rv_ fun M3 =>
     bl_ 1 ∧ Qr [.inl 1] M3) Qt
   else
    D 278 [.inr (.inr 6), .inl 1, .inl x1, .inl 0] M (rv_ fun M2 =>
     bl_ 1 ∧ Qr [.inl 1] M2) Qt)))) : V 200 [rr 6, ii x1, ii x2, none] [] M := bx_go hD (m := (g_281_108, m_281.2)) (Cl_sf z_281_108 hV) hW [(28, [3]), (200, [3])] 17 h
/-- X4_timerNamed()I -/
theorem b_282_0 {D : ca_} {V : vv_} {Qr : qr_} {Qt : qt_} (hD : Mo_ D) (hV : Cl_ wd0 D V Qr Qt m_282) (hW : Wk_ V)  (M : mm_) (h :
 D 233 [.inr (.inr 6)] M (ri_ fun v1 M1 =>
  D 227 [.inr (.inr 6)] M1 (ri_ fun v2 M2 =>
   (if v2 = 0 then
    (0 ≤ v1 ∧ v1 < 1202) ∧
     D 283 [.inr (.inr 6), .inl (M2 6 61), .inr (.inl (M2 151 v1))] M2 (ri_ fun v3 M3 =>
     (bl_ (M3 6 16) → (if M3 6 16 = 0 then
      Qr [.inl v3] M3
     else
      (if v3 < 0 then
       (0 ≤ v1 ∧ v1 < 1202) ∧
        D 236 [.inr (.inr 6), .inl 4, .inl (M3 150 v1)] M3 (rv_ fun M4 =>
        Qr [.inl v3] M4) Qt
      else
       Qr [.inl v3] M3)))) Qt
   else
    Qr [.inl ((-1))] M2)) Qt) Qt) : V 0 [rr 6, none, none] [] M := bx_go hD hV hW [] 29 h
/-- X4_timerOf(IJ)I -/
theorem b_283_0 {D : ca_} {V : vv_} {Qr : qr_} {Qt : qt_} (hD : Mo_ D) (hV : Cl_ wd0 D V Qr Qt m_283) (hW : Wk_ V) (x1 : Int) (x2 : Int) (M : mm_) (h :
 V 3 [rr 6, ii x1, jj x2, none, ii 0] [] M) : V 0 [rr 6, ii x1, jj x2, none, none] [] M := bx_go hD hV hW [(3, [3])] 3 h
theorem b_283_3 {D : ca_} {V : vv_} {Qr : qr_} {Qt : qt_} (hD : Mo_ D) (hV : Cl_ wd0 D V Qr Qt m_283) (hW : Wk_ V) (x1 : Int) (x2 : Int) (x4 : Int) (M : mm_) (h :
 (0 ≤ x1 ∧ x1 < 6) ∧
  (if x4 < M 173 x1 then
  (0 ≤ w32 ((w32 (3 * x1)) + x4) ∧ w32 ((w32 (3 * x1)) + x4) < 18) ∧
   (if (if M 178 (w32 ((w32 (3 * x1)) + x4)) < x2 then -1 else if M 178 (w32 ((w32 (3 * x1)) + x4)) = x2 then 0 else 1) = 0 then
   Qr [.inl x4] M
  else
   V 3 [rr 6, ii x1, jj x2, none, ii (w32 (x4 + 1))] [] M)
 else
  Qr [.inl ((-1))] M)) : V 3 [rr 6, ii x1, jj x2, none, ii x4] [] M := bx_go hD hV hW [(3, [3])] 20 h
/-- X4_lastBracket()I -/
theorem b_284_0 {D : ca_} {V : vv_} {Qr : qr_} {Qt : qt_} (hD : Mo_ D) (hV : Cl_ wd0 D V Qr Qt m_284) (hW : Wk_ V)  (M : mm_) (h :
 V 7 [rr 6, ii (w32 ((M 6 112) - 1))] [] M) : V 0 [rr 6, none] [] M := bx_go hD hV hW [(7, [])] 6 h
theorem b_284_7 {D : ca_} {V : vv_} {Qr : qr_} {Qt : qt_} (hD : Mo_ D) (hV : Cl_ wd0 D V Qr Qt m_284) (hW : Wk_ V) (x1 : Int) (M : mm_) (h :
 (0 ≤ x1 ∧ x1 < 1240) ∧
  (if M 229 x1 = 1 then
  Qr [.inl x1] M
 else
  (0 ≤ x1 ∧ x1 < 1240) ∧
   (if M 229 x1 = 2 then
   Qr [.inl x1] M
  else
   V 7 [rr 6, ii (w32 (x1 + (-1)))] [] M))) : V 7 [rr 6, ii x1] [] M := bx_go hD hV hW [(7, [])] 15 h
/-- X4_closes()V -/
theorem b_285_0 {D : ca_} {V : vv_} {Qr : qr_} {Qt : qt_} (hD : Mo_ D) (hV : Cl_ wd0 D V Qr Qt m_285) (hW : Wk_ V)  (M : mm_) (h :
 D 286 [.inr (.inr 6), .inl 1] M (rv_ fun M1 =>
  (0 ≤ w32 ((M1 6 112) - 1) ∧ w32 ((M1 6 112) - 1) < 1240) ∧
   (0 ≤ w32 ((M1 6 112) - 1) ∧ w32 ((M1 6 112) - 1) < 1240) ∧
   (if M1 229 (w32 ((M1 6 112) - 1)) = 1 then
   D 243 [.inr (.inr 6), .inl 41] (up_ M1 6 112 (w32 ((M1 6 112) - 1))) (rv_ fun M3 =>
    V 55 [rr 6, ii (M1 229 (w32 ((M1 6 112) - 1))), ii (M1 230 (w32 ((M1 6 112) - 1))), none, none, none] [] M3) Qt
  else
   D 243 [.inr (.inr 6), .inl 93] (up_ M1 6 112 (w32 ((M1 6 112) - 1))) (rv_ fun M2 =>
    V 55 [rr 6, ii (M1 229 (w32 ((M1 6 112) - 1))), ii (M1 230 (w32 ((M1 6 112) - 1))), none, none, none] [] M2) Qt)) Qt) : V 0 [rr 6, none, none, none, none, none] [] M := bx_go hD hV hW [(55, [3, 4, 5]), (143, [5])] 33 h
theorem i_285 : inq_ 0 k_285 = true := by decide +kernel
theorem z_285_33 : Sf_ k_285 g_285_33 := Sf_of i_285 33 rfl
theorem b_285_55 {D : ca_} {V : vv_} {Qr : qr_} {Qt : qt_} (hD : Mo_ D) (hV : Cl_ wd0 D V Qr Qt m_285) (hW : Wk_ V) (x1 : Int) (x2 : Int) (M : mm_) (h :
 D 227 [.inr (.inr 6)] M (ri_ fun v1 M1 =>
  (if v1 = 0 then
   (if x1 = 1 then
    (0 ≤ w32 ((M1 6 116) - 1) ∧ w32 ((M1 6 116) - 1) < 1202) ∧
     (0 ≤ x2 ∧ x2 < 1202) ∧
     (0 ≤ w32 ((M1 6 116) - 1) ∧ w32 ((M1 6 116) - 1) < 1202) ∧ (bl_ (M1 233 (w32 ((M1 6 116) - 1))) →
     D 278 [.inr (.inr 6), .inl (M1 231 (w32 ((M1 6 116) - 1))), .inl (M1 150 x2), .inl (M1 233 (w32 ((M1 6 116) - 1)))] (up_ (up_ M1 6 118 (w32 ((M1 6 118) - 1))) 6 116 (w32 ((M1 6 116) - 1))) (rv_ fun M3 =>
     Qr [] M3) Qt)
   else
    (0 ≤ w32 ((M1 6 116) - 1) ∧ w32 ((M1 6 116) - 1) < 1202) ∧ (bl_ (M1 233 (w32 ((M1 6 116) - 1))) →
     (if M1 233 (w32 ((M1 6 116) - 1)) = 0 then
     D 280 [.inr (.inr 6), .inl (w32 ((M1 6 116) - 1)), .inl 1] (up_ (up_ M1 6 118 (w32 ((M1 6 118) - 1))) 6 116 (w32 ((M1 6 116) - 1))) (ri_ fun v2 M2 =>
      (if v2 = 0 then
       V 143 [rr 6, ii x1, ii x2, ii (w32 ((M1 6 116) - 1)), ii 0, none] [] M2
      else
       V 143 [rr 6, ii x1, ii x2, ii (w32 ((M1 6 116) - 1)), ii 1, none] [] M2)) Qt
    else
     V 143 [rr 6, ii x1, ii x2, ii (w32 ((M1 6 116) - 1)), ii 1, none] [] (up_ (up_ M1 6 118 (w32 ((M1 6 118) - 1))) 6 116 (w32 ((M1 6 116) - 1))))))
  else
   Qr [] M1)) Qt) : V 55 [rr 6, ii x1, ii x2, none, none, none] [] M := bx_go hD (m := (g_285_33, m_285.2)) (Cl_sf z_285_33 hV) hW [(55, [3, 4, 5]), (143, [5])] 38 h
theorem z_285_86 : Sf_ k_285 g_285_86 := Sf_tr z_285_33 53 rfl
theorem b_285_143 {D : ca_} {V : vv_} {Qr : qr_} {Qt : qt_} (hD : Mo_ D) (hV : Cl_ wd0 D V Qr Qt m_285) (hW : Wk_ V) (x1 : Int) (x2 : Int) (x3 : Int) (x4 : Int) (M : mm_) (h :
 (0 ≤ x2 ∧ x2 < 1202) ∧
  D 276 [.inr (.inr 6), .inl (M 6 61), .inr (.inl (M 151 x2))] M (ri_ fun v1 M1 =>
  D 277 [.inr (.inr 6), .inl 12, .inl v1] M1 (rv_ fun M2 =>
   (if v1 < 0 then
    (0 ≤ x2 ∧ x2 < 1202) ∧
     (if x4 = 0 then
     (if v1 < 0 then
      D 278 [.inr (.inr 6), .inl 0, .inl (M2 150 x2), .inl 1] M2 (rv_ fun M8 =>
       Qr [] M8) Qt
     else
      (0 ≤ v1 ∧ v1 < 48) ∧
       (if M2 183 v1 = 0 then
       D 278 [.inr (.inr 6), .inl 0, .inl (M2 150 x2), .inl 1] M2 (rv_ fun M10 =>
        Qr [] M10) Qt
      else
       D 278 [.inr (.inr 6), .inl 0, .inl (M2 150 x2), .inl 0] M2 (rv_ fun M9 =>
        Qr [] M9) Qt))
    else
     D 278 [.inr (.inr 6), .inl 0, .inl (M2 150 x2), .inl 1] M2 (rv_ fun M7 =>
      Qr [] M7) Qt)
   else
    (0 ≤ v1 ∧ v1 < 48) ∧
     (0 ≤ x2 ∧ x2 < 1202) ∧
     (if x4 = 0 then
     (if v1 < 0 then
      D 278 [.inr (.inr 6), .inl (M2 182 v1), .inl (M2 150 x2), .inl 1] M2 (rv_ fun M4 =>
       Qr [] M4) Qt
     else
      (0 ≤ v1 ∧ v1 < 48) ∧
       (if M2 183 v1 = 0 then
       D 278 [.inr (.inr 6), .inl (M2 182 v1), .inl (M2 150 x2), .inl 1] M2 (rv_ fun M6 =>
        Qr [] M6) Qt
      else
       D 278 [.inr (.inr 6), .inl (M2 182 v1), .inl (M2 150 x2), .inl 0] M2 (rv_ fun M5 =>
        Qr [] M5) Qt))
    else
     D 278 [.inr (.inr 6), .inl (M2 182 v1), .inl (M2 150 x2), .inl 1] M2 (rv_ fun M3 =>
      Qr [] M3) Qt))) Qt) Qt) : V 143 [rr 6, ii x1, ii x2, ii x3, ii x4, none] [] M := bx_go hD (m := (g_285_86, m_285.2)) (Cl_sf z_285_86 hV) hW [(55, [3, 4, 5]), (143, [5])] 37 h
/-- X4_reduce(I)V -/
theorem b_286_0 {D : ca_} {V : vv_} {Qr : qr_} {Qt : qt_} (hD : Mo_ D) (hV : Cl_ wd0 D V Qr Qt m_286) (hW : Wk_ V) (x1 : Int) (M : mm_) (h :
 (if x1 < 1 then
  V 11 [rr 6, ii x1, ii 1, none, none, none, none, none, none, none] [] M
 else
  V 11 [rr 6, ii x1, ii x1, none, none, none, none, none, none, none] [] M)) : V 0 [rr 6, ii x1, none, none, none, none, none, none, none, none] [] M := bx_go hD hV hW [(11, [3, 4, 5, 6, 7, 8, 9]), (105, [7, 8, 9]), (117, [7, 8, 9]), (176, [8, 9]), (218, [7, 8, 9])] 7 h
theorem i_286 : inq_ 0 k_286 = true := by decide +kernel
theorem z_286_7 : Sf_ k_286 g_286_7 := Sf_of i_286 7 rfl
theorem b_286_11 {D : ca_} {V : vv_} {Qr : qr_} {Qt : qt_} (hD : Mo_ D) (hV : Cl_ wd0 D V Qr Qt m_286) (hW : Wk_ V) (x1 : Int) (x2 : Int) (M : mm_) (h :
 (if M 6 112 ≤ 0 then
  Qr [] M
 else
  (0 ≤ w32 ((M 6 112) - 1) ∧ w32 ((M 6 112) - 1) < 1240) ∧
   D 287 [.inl (M 229 (w32 ((M 6 112) - 1)))] M (ri_ fun v1 M1 =>
   (if v1 < x2 then
    Qr [] M1
   else
    (0 ≤ w32 ((M1 6 112) - 1) ∧ w32 ((M1 6 112) - 1) < 1240) ∧
     D 277 [.inr (.inr 6), .inl (M1 229 (w32 ((M1 6 112) - 1))), .inl 0] (up_ M1 6 112 (w32 ((M1 6 112) - 1))) (rv_ fun M2 =>
     (0 ≤ w32 ((M2 6 116) - 2) ∧ w32 ((M2 6 116) - 2) < 1202) ∧ (bl_ (M2 233 (w32 ((M2 6 116) - 2))) →
      (if M2 233 (w32 ((M2 6 116) - 2)) = 0 then
      (0 ≤ w32 ((M2 6 116) - 1) ∧ w32 ((M2 6 116) - 1) < 1202) ∧ (bl_ (M2 233 (w32 ((M2 6 116) - 1))) →
       (if M2 233 (w32 ((M2 6 116) - 1)) = 0 then
       V 105 [rr 6, ii x1, ii x2, ii (M1 229 (w32 ((M1 6 112) - 1))), ii (w32 ((M2 6 116) - 1)), ii (w32 ((M2 6 116) - 2)), ii 0, none, none, none] [] M2
      else
       V 105 [rr 6, ii x1, ii x2, ii (M1 229 (w32 ((M1 6 112) - 1))), ii (w32 ((M2 6 116) - 1)), ii (w32 ((M2 6 116) - 2)), ii 1, none, none, none] [] M2))
     else
      V 105 [rr 6, ii x1, ii x2, ii (M1 229 (w32 ((M1 6 112) - 1))), ii (w32 ((M2 6 116) - 1)), ii (w32 ((M2 6 116) - 2)), ii 1, none, none, none] [] M2))) Qt)) Qt)) : V 11 [rr 6, ii x1, ii x2, none, none, none, none, none, none, none] [] M := bx_go hD (m := (g_286_7, m_286.2)) (Cl_sf z_286_7 hV) hW [(11, [3, 4, 5, 6, 7, 8, 9]), (105, [7, 8, 9]), (117, [7, 8, 9]), (176, [8, 9]), (218, [7, 8, 9])] 53 h
theorem z_286_60 : Sf_ k_286 g_286_60 := Sf_tr z_286_7 53 rfl
theorem b_286_105 {D : ca_} {V : vv_} {Qr : qr_} {Qt : qt_} (hD : Mo_ D) (hV : Cl_ wd0 D V Qr Qt m_286) (hW : Wk_ V) (x1 : Int) (x2 : Int) (x3 : Int) (x4 : Int) (x5 : Int) (x6 : Int) (M : mm_) (h :
 (if x3 = 25 then
  V 117 [rr 6, ii x1, ii x2, ii x3, ii x4, ii x5, ii x6, none, none, none] [] M
 else
  (if x3 = 26 then
   V 117 [rr 6, ii x1, ii x2, ii x3, ii x4, ii x5, ii x6, none, none, none] [] M
  else
   (if x3 = 31 then
    V 176 [rr 6, ii x1, ii x2, ii x3, ii x4, ii x5, ii x6, ii 2, none, none] [] M
   else
    (if x3 = 32 then
     V 176 [rr 6, ii x1, ii x2, ii x3, ii x4, ii x5, ii x6, ii 2, none, none] [] M
    else
     V 176 [rr 6, ii x1, ii x2, ii x3, ii x4, ii x5, ii x6, ii 1, none, none] [] M))))) : V 105 [rr 6, ii x1, ii x2, ii x3, ii x4, ii x5, ii x6, none, none, none] [] M := bx_go hD (m := (g_286_60, m_286.2)) (Cl_sf z_286_60 hV) hW [(11, [3, 4, 5, 6, 7, 8, 9]), (105, [7, 8, 9]), (117, [7, 8, 9]), (176, [8, 9]), (218, [7, 8, 9])] 16 h
theorem z_286_66 : Sf_ k_286 g_286_66 := Sf_tr z_286_60 6 rfl
theorem b_286_117 {D : ca_} {V : vv_} {Qr : qr_} {Qt : qt_} (hD : Mo_ D) (hV : Cl_ wd0 D V Qr Qt m_286) (hW : Wk_ V) (x1 : Int) (x2 : Int) (x3 : Int) (x4 : Int) (x5 : Int) (x6 : Int) (M : mm_) (h :
 (if x6 = 0 then
  (0 ≤ x5 ∧ x5 < 1202) ∧
   (0 ≤ x4 ∧ x4 < 1202) ∧
   (if M 231 x5 = M 231 x4 then
   V 218 [rr 6, ii x1, ii x2, ii x3, ii x4, ii x5, ii x6, none, none, none] [] M
  else
   (0 ≤ x4 ∧ x4 < 1202) ∧
    D 236 [.inr (.inr 6), .inl 5, .inl (M 232 x4)] M (rv_ fun M1 =>
    V 218 [rr 6, ii x1, ii x2, ii x3, ii x4, ii x5, ii 1, none, none, none] [] M1) Qt)
 else
  V 218 [rr 6, ii x1, ii x2, ii x3, ii x4, ii x5, ii x6, none, none, none] [] M)) : V 117 [rr 6, ii x1, ii x2, ii x3, ii x4, ii x5, ii x6, none, none, none] [] M := bx_go hD (m := (g_286_66, m_286.2)) (Cl_sf z_286_66 hV) hW [(11, [3, 4, 5, 6, 7, 8, 9]), (105, [7, 8, 9]), (117, [7, 8, 9]), (176, [8, 9]), (218, [7, 8, 9])] 22 h
theorem z_286_97 : Sf_ k_286 g_286_97 := Sf_tr z_286_66 31 rfl
theorem b_286_176 {D : ca_} {V : vv_} {Qr : qr_} {Qt : qt_} (hD : Mo_ D) (hV : Cl_ wd0 D V Qr Qt m_286) (hW : Wk_ V) (x1 : Int) (x2 : Int) (x3 : Int) (x4 : Int) (x5 : Int) (x6 : Int) (x7 : Int) (M : mm_) (h :
 D 280 [.inr (.inr 6), .inl x5, .inl x7] M (ri_ fun v1 M1 =>
  D 280 [.inr (.inr 6), .inl x4, .inl x7] M1 (ri_ fun v2 M2 =>
   (if x6 = 0 then
    (if v1 = 0 then
     (if v2 = 0 then
      V 218 [rr 6, ii x1, ii x2, ii x3, ii x4, ii x5, ii 0, none, none, none] [] M2
     else
      V 218 [rr 6, ii x1, ii x2, ii x3, ii x4, ii x5, ii 1, none, none, none] [] M2)
    else
     V 218 [rr 6, ii x1, ii x2, ii x3, ii x4, ii x5, ii 1, none, none, none] [] M2)
   else
    V 218 [rr 6, ii x1, ii x2, ii x3, ii x4, ii x5, ii 1, none, none, none] [] M2)) Qt) Qt) : V 176 [rr 6, ii x1, ii x2, ii x3, ii x4, ii x5, ii x6, ii x7, none, none] [] M := bx_go hD (m := (g_286_97, m_286.2)) (Cl_sf z_286_97 hV) hW [(11, [3, 4, 5, 6, 7, 8, 9]), (105, [7, 8, 9]), (117, [7, 8, 9]), (176, [8, 9]), (218, [7, 8, 9])] 20 h
theorem z_286_117 : Sf_ k_286 g_286_117 := Sf_tr z_286_97 20 rfl
theorem b_286_218 {D : ca_} {V : vv_} {Qr : qr_} {Qt : qt_} (hD : Mo_ D) (hV : Cl_ wd0 D V Qr Qt m_286) (hW : Wk_ V) (x1 : Int) (x2 : Int) (x3 : Int) (x4 : Int) (x5 : Int) (x6 : Int) (M : mm_) (h :
 (if x3 < 25 then
  (0 ≤ x5 ∧ x5 < 1202) ∧
   ((0 ≤ x5 ∧ x5 < 1202) ∧ bl_ x6) ∧
   V 11 [rr 6, ii x1, ii x2, none, none, none, none, none, none, none] [] (up_ (up_ (up_ M 6 116 (w32 ((M 6 116) - 1))) 231 x5 1) 233 x5 x6)
 else
  (0 ≤ x5 ∧ x5 < 1202) ∧
   ((0 ≤ x5 ∧ x5 < 1202) ∧ bl_ x6) ∧
   V 11 [rr 6, ii x1, ii x2, none, none, none, none, none, none, none] [] (up_ (up_ (up_ M 6 116 (w32 ((M 6 116) - 1))) 231 x5 2) 233 x5 x6))) : V 218 [rr 6, ii x1, ii x2, ii x3, ii x4, ii x5, ii x6, none, none, none] [] M := bx_go hD (m := (g_286_117, m_286.2)) (Cl_sf z_286_117 hV) hW [(11, [3, 4, 5, 6, 7, 8, 9]), (105, [7, 8, 9]), (117, [7, 8, 9]), (176, [8, 9]), (218, [7, 8, 9])] 22 h
/-- X4_levelOf(I)I -/
theorem b_287_0 {D : ca_} {V : vv_} {Qr : qr_} {Qt : qt_} (hD : Mo_ D) (hV : Cl_ wd0 D V Qr Qt m_287) (hW : Wk_ V) (x0 : Int) (M : mm_) (h :
 (if x0 = 32 then
  Qr [.inl 1] M
 else
  (if x0 = 31 then
   Qr [.inl 2] M
  else
   (if x0 < 25 then
    (if x0 < 22 then
     (if x0 < 20 then
      Qr [.inl 0] M
     else
      Qr [.inl 4] M)
    else
     Qr [.inl 5] M)
   else
    Qr [.inl 3] M)))) : V 0 [ii x0] [] M := bx_go hD hV hW [] 18 h
/-- X4_level()I -/
theorem b_288_0 {D : ca_} {V : vv_} {Qr : qr_} {Qt : qt_} (hD : Mo_ D) (hV : Cl_ wd0 D V Qr Qt m_288) (hW : Wk_ V)  (M : mm_) (h :
 D 229 [.inr (.inr 6), .inl 43] M (ri_ fun v1 M1 =>
  (if v1 = 0 then
   D 229 [.inr (.inr 6), .inl 42] M1 (ri_ fun v2 M2 =>
    (if v2 = 0 then
     D 237 [.inr (.inr 6), .inl 61] M2 (ri_ fun v3 M3 =>
      (if v3 = 0 then
       D 237 [.inr (.inr 6), .inl 257] M3 (ri_ fun v4 M4 =>
        (if v4 = 0 then
         D 237 [.inr (.inr 6), .inl 60] M4 (ri_ fun v5 M5 =>
          (if v5 = 0 then
           D 237 [.inr (.inr 6), .inl 258] M5 (ri_ fun v6 M6 =>
            (if v6 = 0 then
             D 237 [.inr (.inr 6), .inl 62] M6 (ri_ fun v7 M7 =>
              (if v7 = 0 then
               D 237 [.inr (.inr 6), .inl 259] M7 (ri_ fun v8 M8 =>
                (if v8 = 0 then
                 D 237 [.inr (.inr 6), .inl 43] M8 (ri_ fun v9 M9 =>
                  (if v9 = 0 then
                   D 237 [.inr (.inr 6), .inl 45] M9 (ri_ fun v10 M10 =>
                    (if v10 = 0 then
                     D 237 [.inr (.inr 6), .inl 42] M10 (ri_ fun v11 M11 =>
                      (if v11 = 0 then
                       D 237 [.inr (.inr 6), .inl 47] M11 (ri_ fun v12 M12 =>
                        (if v12 = 0 then
                         D 237 [.inr (.inr 6), .inl 37] M12 (ri_ fun v13 M13 =>
                          (if v13 = 0 then
                           Qr [.inl 0] M13
                          else
                           Qr [.inl 5] M13)) Qt
                        else
                         Qr [.inl 5] M12)) Qt
                      else
                       Qr [.inl 5] M11)) Qt
                    else
                     Qr [.inl 4] M10)) Qt
                  else
                   Qr [.inl 4] M9)) Qt
                else
                 Qr [.inl 3] M8)) Qt
              else
               Qr [.inl 3] M7)) Qt
            else
             Qr [.inl 3] M6)) Qt
          else
           Qr [.inl 3] M5)) Qt
        else
         Qr [.inl 3] M4)) Qt
      else
       Qr [.inl 3] M3)) Qt
    else
     Qr [.inl 2] M2)) Qt
  else
   Qr [.inl 1] M1)) Qt) : V 0 [rr 6] [] M := bx_go hD hV hW [] 55 h
/-- X4_between(I)V -/
theorem b_289_0 {D : ca_} {V : vv_} {Qr : qr_} {Qt : qt_} (hD : Mo_ D) (hV : Cl_ wd0 D V Qr Qt m_289) (hW : Wk_ V) (x1 : Int) (M : mm_) (h :
 D 286 [.inr (.inr 6), .inl x1] M (rv_ fun M1 =>
  (if x1 = 3 then
   ((0 ≤ M1 6 118 ∧ M1 6 118 < 40) ∧ bl_ 1) ∧
    D 290 [.inr (.inr 6)] (up_ M1 234 (M1 6 118) 1) (ri_ fun v1 M2 =>
    D 273 [.inr (.inr 6), .inl v1, .inl (M2 6 12)] M2 (rv_ fun M3 =>
     D 230 [.inr (.inr 6)] M3 (rv_ fun M4 =>
      Qr [] M4) Qt) Qt) Qt
  else
   (if x1 ≤ 3 then
    ((0 ≤ M1 6 118 ∧ M1 6 118 < 40) ∧ bl_ 0) ∧
     D 290 [.inr (.inr 6)] (up_ M1 234 (M1 6 118) 0) (ri_ fun v2 M5 =>
     D 273 [.inr (.inr 6), .inl v2, .inl (M5 6 12)] M5 (rv_ fun M6 =>
      D 230 [.inr (.inr 6)] M6 (rv_ fun M7 =>
       Qr [] M7) Qt) Qt) Qt
   else
    (0 ≤ M1 6 118 ∧ M1 6 118 < 40) ∧ (bl_ (M1 234 (M1 6 118)) →
     (if M1 234 (M1 6 118) = 0 then
     ((0 ≤ M1 6 118 ∧ M1 6 118 < 40) ∧ bl_ 0) ∧
      D 290 [.inr (.inr 6)] (up_ M1 234 (M1 6 118) 0) (ri_ fun v3 M8 =>
      D 273 [.inr (.inr 6), .inl v3, .inl (M8 6 12)] M8 (rv_ fun M9 =>
       D 230 [.inr (.inr 6)] M9 (rv_ fun M10 =>
        Qr [] M10) Qt) Qt) Qt
    else
     ((0 ≤ M1 6 118 ∧ M1 6 118 < 40) ∧ bl_ 1) ∧
      D 290 [.inr (.inr 6)] (up_ M1 234 (M1 6 118) 1) (ri_ fun v4 M11 =>
      D 273 [.inr (.inr 6), .inl v4, .inl (M11 6 12)] M11 (rv_ fun M12 =>
       D 230 [.inr (.inr 6)] M12 (rv_ fun M13 =>
        Qr [] M13) Qt) Qt) Qt))))) Qt) : V 0 [rr 6, ii x1] [] M := bx_go hD hV hW [] 31 h
/-- X4_signHere()I -/
theorem b_290_0 {D : ca_} {V : vv_} {Qr : qr_} {Qt : qt_} (hD : Mo_ D) (hV : Cl_ wd0 D V Qr Qt m_290) (hW : Wk_ V)  (M : mm_) (h :
 D 229 [.inr (.inr 6), .inl 43] M (ri_ fun v1 M1 =>
  (if v1 = 0 then
   D 229 [.inr (.inr 6), .inl 42] M1 (ri_ fun v2 M2 =>
    (if v2 = 0 then
     (0 ≤ M2 6 12 ∧ M2 6 12 < 1202) ∧
      (if w32 (M2 151 (M2 6 12)) = 61 then
      Qr [.inl 25] M2
     else
      (if w32 (M2 151 (M2 6 12)) = 257 then
       Qr [.inl 26] M2
      else
       (if w32 (M2 151 (M2 6 12)) = 60 then
        Qr [.inl 27] M2
       else
        (if w32 (M2 151 (M2 6 12)) = 258 then
         Qr [.inl 28] M2
        else
         (if w32 (M2 151 (M2 6 12)) = 62 then
          Qr [.inl 29] M2
         else
          (if w32 (M2 151 (M2 6 12)) = 259 then
           Qr [.inl 30] M2
          else
           (if w32 (M2 151 (M2 6 12)) = 43 then
            Qr [.inl 20] M2
           else
            (if w32 (M2 151 (M2 6 12)) = 45 then
             Qr [.inl 21] M2
            else
             (if w32 (M2 151 (M2 6 12)) = 42 then
              Qr [.inl 22] M2
             else
              (if w32 (M2 151 (M2 6 12)) = 47 then
               Qr [.inl 23] M2
              else
               Qr [.inl 24] M2))))))))))
    else
     Qr [.inl 31] M2)) Qt
  else
   Qr [.inl 32] M1)) Qt) : V 0 [rr 6, none] [] M := bx_go hD hV hW [] 48 h
/-- X4_branch()V -/
theorem b_291_0 {D : ca_} {V : vv_} {Qr : qr_} {Qt : qt_} (hD : Mo_ D) (hV : Cl_ wd0 D V Qr Qt m_291) (hW : Wk_ V)  (M : mm_) (h :
 V 9 [rr 6, ii (w32 ((M 6 102) - 1)), ii 1, none] [] M) : V 0 [rr 6, none, none, none] [] M := bx_go hD hV hW [(9, [3])] 8 h
theorem i_291 : inq_ 0 k_291 = true := by decide +kernel
theorem z_291_7 : Sf_ k_291 g_291_7 := Sf_of i_291 7 rfl
theorem b_291_9 {D : ca_} {V : vv_} {Qr : qr_} {Qt : qt_} (hD : Mo_ D) (hV : Cl_ wd0 D V Qr Qt m_291) (hW : Wk_ V) (x1 : Int) (x2 : Int) (M : mm_) (h :
 (if x2 = 0 then
  D 244 [.inr (.inr 6), .inl 58] M (rv_ fun M1 =>
   Qr [] M1) Qt
 else
  D 227 [.inr (.inr 6)] M (ri_ fun v1 M2 =>
   (if v1 = 0 then
    (0 ≤ M2 6 12 ∧ M2 6 12 < 1202) ∧
     D 292 [.inr (.inr 6)] M2 (ri_ fun v2 M4 =>
     (if v2 = 0 then
      D 234 [.inr (.inr 6)] M4 (rv_ fun M8 =>
       Qr [] M8) Qt
     else
      (0 ≤ x1 ∧ x1 < 14) ∧
       (if M4 221 x1 = 8 then
       D 231 [.inr (.inr 6), .inl 2, .inl (M2 150 (M2 6 12))] M4 (rv_ fun M7 =>
        Qr [] M7) Qt
      else
       (0 ≤ x1 ∧ x1 < 14) ∧
        (0 ≤ x1 ∧ x1 < 14) ∧
        D 293 [.inr (.inr 6), .inl x1, .inl (M2 150 (M2 6 12))] (up_ M4 221 x1 (w32 ((M4 221 x1) + 1))) (rv_ fun M5 =>
        D 242 [.inr (.inr 6), .inl 44] M5 (ri_ fun v3 M6 =>
         V 9 [rr 6, ii x1, ii v3, none] [] M6) Qt) Qt))) Qt
   else
    D 244 [.inr (.inr 6), .inl 58] M2 (rv_ fun M3 =>
     Qr [] M3) Qt)) Qt)) : V 9 [rr 6, ii x1, ii x2, none] [] M := bx_go hD (m := (g_291_7, m_291.2)) (Cl_sf z_291_7 hV) hW [(9, [3])] 38 h
/-- X4_isRange()Z -/
theorem b_292_0 {D : ca_} {V : vv_} {Qr : qr_} {Qt : qt_} (hD : Mo_ D) (hV : Cl_ wd0 D V Qr Qt m_292) (hW : Wk_ V)  (M : mm_) (h :
 (0 ≤ M 6 12 ∧ M 6 12 < 1202) ∧
  (if M 149 (M 6 12) = 2 then
  bl_ 1 ∧ Qr [.inl 1] M
 else
  D 237 [.inr (.inr 6), .inl 45] M (ri_ fun v1 M1 =>
   (if v1 = 0 then
    D 229 [.inr (.inr 6), .inl 31] M1 (ri_ fun v2 M2 =>
     (if v2 = 0 then
      D 229 [.inr (.inr 6), .inl 32] M2 (ri_ fun v3 M3 =>
       (if v3 = 0 then
        bl_ 0 ∧ Qr [.inl 0] M3
       else
        bl_ 1 ∧ Qr [.inl 1] M3)) Qt
     else
      bl_ 1 ∧ Qr [.inl 1] M2)) Qt
   else
    bl_ 1 ∧ Qr [.inl 1] M1)) Qt)) : V 0 [rr 6] [] M := bx_go hD hV hW [] 22 h
/-- X4_range(II)V -/
theorem b_293_0 {D : ca_} {V : vv_} {Qr : qr_} {Qt : qt_} (hD : Mo_ D) (hV : Cl_ wd0 D V Qr Qt m_293) (hW : Wk_ V) (x1 : Int) (x2 : Int) (M : mm_) (h :
 D 229 [.inr (.inr 6), .inl 31] M (ri_ fun v1 M1 =>
  (if v1 = 0 then
   D 229 [.inr (.inr 6), .inl 32] M1 (ri_ fun v3 M3 =>
    (if v3 = 0 then
     D 294 [.inr (.inr 6)] M3 (ri_ fun v4 M4 =>
      (0 ≤ x1 ∧ x1 < 14) ∧
       (if M4 223 x1 = 2 then
       D 236 [.inr (.inr 6), .inl 5, .inl x2] M4 (rv_ fun M5 =>
        V 83 [rr 6, ii x1, ii x2, ii v4, ii v4, none] [] M5) Qt
      else
       V 83 [rr 6, ii x1, ii x2, ii v4, ii v4, none] [] M4)) Qt
    else
     D 229 [.inr (.inr 6), .inl 31] M3 (ri_ fun v5 M6 =>
      (if v5 = 0 then
       V 33 [rr 6, ii x1, ii x2, ii 0, none, none] [] M6
      else
       V 33 [rr 6, ii x1, ii x2, ii 1, none, none] [] M6)) Qt)) Qt
  else
   D 229 [.inr (.inr 6), .inl 31] M1 (ri_ fun v2 M2 =>
    (if v2 = 0 then
     V 33 [rr 6, ii x1, ii x2, ii 0, none, none] [] M2
    else
     V 33 [rr 6, ii x1, ii x2, ii 1, none, none] [] M2)) Qt)) Qt) : V 0 [rr 6, ii x1, ii x2, none, none, none] [] M := bx_go hD hV hW [(33, [4, 5]), (83, [5]), (124, [5])] 24 h
theorem i_293 : inq_ 0 k_293 = true := by decide +kernel
theorem z_293_16 : Sf_ k_293 g_293_16 := Sf_of i_293 16 rfl
theorem b_293_33 {D : ca_} {V : vv_} {Qr : qr_} {Qt : qt_} (hD : Mo_ D) (hV : Cl_ wd0 D V Qr Qt m_293) (hW : Wk_ V) (x1 : Int) (x2 : Int) (x3 : Int) (M : mm_) (h :
 D 230 [.inr (.inr 6)] M (rv_ fun M1 =>
  (0 ≤ x1 ∧ x1 < 14) ∧
   (if M1 223 x1 = 1 then
   D 236 [.inr (.inr 6), .inl 5, .inl x2] M1 (rv_ fun M2 =>
    V 124 [rr 6, ii x1, ii x2, ii x3, ii x3, none] [] M2) Qt
  else
   V 124 [rr 6, ii x1, ii x2, ii x3, ii x3, none] [] M1)) Qt) : V 33 [rr 6, ii x1, ii x2, ii x3, none, none] [] M := bx_go hD (m := (g_293_16, m_293.2)) (Cl_sf z_293_16 hV) hW [(33, [4, 5]), (83, [5]), (124, [5])] 16 h
theorem z_293_46 : Sf_ k_293 g_293_46 := Sf_tr z_293_16 30 rfl
theorem b_293_83 {D : ca_} {V : vv_} {Qr : qr_} {Qt : qt_} (hD : Mo_ D) (hV : Cl_ wd0 D V Qr Qt m_293) (hW : Wk_ V) (x1 : Int) (x2 : Int) (x3 : Int) (x4 : Int) (M : mm_) (h :
 D 242 [.inr (.inr 6), .inl 261] M (ri_ fun v1 M1 =>
  (if v1 = 0 then
   V 124 [rr 6, ii x1, ii x2, ii x3, ii x4, none] [] M1
  else
   (0 ≤ M1 6 12 ∧ M1 6 12 < 1202) ∧
    D 294 [.inr (.inr 6)] M1 (ri_ fun v2 M2 =>
    (if x3 ≤ v2 then
     V 124 [rr 6, ii x1, ii x2, ii x3, ii v2, none] [] M2
    else
     D 236 [.inr (.inr 6), .inl 6, .inl (M1 150 (M1 6 12))] M2 (rv_ fun M3 =>
      V 124 [rr 6, ii x1, ii x2, ii x3, ii v2, none] [] M3) Qt)) Qt)) Qt) : V 83 [rr 6, ii x1, ii x2, ii x3, ii x4, none] [] M := bx_go hD (m := (g_293_46, m_293.2)) (Cl_sf z_293_46 hV) hW [(33, [4, 5]), (83, [5]), (124, [5])] 21 h
theorem z_293_66 : Sf_ k_293 g_293_66 := Sf_tr z_293_46 20 rfl
theorem b_293_124 {D : ca_} {V : vv_} {Qr : qr_} {Qt : qt_} (hD : Mo_ D) (hV : Cl_ wd0 D V Qr Qt m_293) (hW : Wk_ V) (x1 : Int) (x2 : Int) (x3 : Int) (x4 : Int) (M : mm_) (h :
 D 227 [.inr (.inr 6)] M (ri_ fun v1 M1 =>
  (if v1 = 0 then
   (0 ≤ M1 6 90 ∧ M1 6 90 < 1300) ∧
    (0 ≤ M1 6 90 ∧ M1 6 90 < 1300) ∧
    (0 ≤ M1 6 90 ∧ M1 6 90 < 1300) ∧
    (0 ≤ M1 6 90 ∧ M1 6 90 < 1300) ∧
    (0 ≤ x1 ∧ x1 < 14) ∧
    (if M1 222 x1 < 0 then
    (0 ≤ x1 ∧ x1 < 14) ∧
     (0 ≤ M1 220 x1 ∧ M1 220 x1 < 1300) ∧
     (0 ≤ x1 ∧ x1 < 14) ∧
     Qr [] (up_ (up_ (up_ (up_ (up_ (up_ (up_ M1 216 (M1 6 90) x3) 217 (M1 6 90) x4) 218 (M1 6 90) (M1 6 75)) 219 (M1 6 90) ((-1))) 206 (M1 220 x1) (M1 6 90)) 222 x1 (M1 6 90)) 6 90 (w32 ((M1 6 90) + 1)))
   else
    (0 ≤ x1 ∧ x1 < 14) ∧
     (0 ≤ M1 222 x1 ∧ M1 222 x1 < 1300) ∧
     (0 ≤ x1 ∧ x1 < 14) ∧
     Qr [] (up_ (up_ (up_ (up_ (up_ (up_ (up_ M1 216 (M1 6 90) x3) 217 (M1 6 90) x4) 218 (M1 6 90) (M1 6 75)) 219 (M1 6 90) ((-1))) 219 (M1 222 x1) (M1 6 90)) 222 x1 (M1 6 90)) 6 90 (w32 ((M1 6 90) + 1))))
  else
   Qr [] M1)) Qt) : V 124 [rr 6, ii x1, ii x2, ii x3, ii x4, none] [] M := bx_go hD (m := (g_293_66, m_293.2)) (Cl_sf z_293_66 hV) hW [(33, [4, 5]), (83, [5]), (124, [5])] 53 h
/-- X4_bound()I -/
theorem b_294_0 {D : ca_} {V : vv_} {Qr : qr_} {Qt : qt_} (hD : Mo_ D) (hV : Cl_ wd0 D V Qr Qt m_294) (hW : Wk_ V)  (M : mm_) (h :
 D 242 [.inr (.inr 6), .inl 45] M (ri_ fun v1 M1 =>
  D 249 [.inr (.inr 6)] M1 (ri_ fun v2 M2 =>
   (if v1 = 0 then
    Qr [.inl v2] M2
   else
    Qr [.inl (w32 (-v2))] M2)) Qt) Qt) : V 0 [rr 6, none, none] [] M := bx_go hD hV hW [] 13 h
/-- X4_isAct()Z -/
theorem b_295_0 {D : ca_} {V : vv_} {Qr : qr_} {Qt : qt_} (hD : Mo_ D) (hV : Cl_ wd0 D V Qr Qt m_295) (hW : Wk_ V)  (M : mm_) (h :
 (0 ≤ M 6 12 ∧ M 6 12 < 1202) ∧
  (if M 149 (M 6 12) = 1 then
  bl_ 1 ∧ Qr [.inl 1] M
 else
  D 229 [.inr (.inr 6), .inl 14] M (ri_ fun v1 M1 =>
   (if v1 = 0 then
    D 229 [.inr (.inr 6), .inl 15] M1 (ri_ fun v2 M2 =>
     (if v2 = 0 then
      D 229 [.inr (.inr 6), .inl 16] M2 (ri_ fun v3 M3 =>
       (if v3 = 0 then
        D 229 [.inr (.inr 6), .inl 17] M3 (ri_ fun v4 M4 =>
         (if v4 = 0 then
          D 229 [.inr (.inr 6), .inl 18] M4 (ri_ fun v5 M5 =>
           (if v5 = 0 then
            bl_ 0 ∧ Qr [.inl 0] M5
           else
            bl_ 1 ∧ Qr [.inl 1] M5)) Qt
         else
          bl_ 1 ∧ Qr [.inl 1] M4)) Qt
       else
        bl_ 1 ∧ Qr [.inl 1] M3)) Qt
     else
      bl_ 1 ∧ Qr [.inl 1] M2)) Qt
   else
    bl_ 1 ∧ Qr [.inl 1] M1)) Qt)) : V 0 [rr 6] [] M := bx_go hD hV hW [] 30 h
/-- X4_act()V -/
theorem b_296_0 {D : ca_} {V : vv_} {Qr : qr_} {Qt : qt_} (hD : Mo_ D) (hV : Cl_ wd0 D V Qr Qt m_296) (hW : Wk_ V)  (M : mm_) (h :
 (0 ≤ M 6 12 ∧ M 6 12 < 1202) ∧
  D 228 [.inr (.inr 6), .inl 14] M (ri_ fun v1 M1 =>
  (if v1 = 0 then
   D 228 [.inr (.inr 6), .inl 15] M1 (ri_ fun v2 M2 =>
    (if v2 = 0 then
     D 228 [.inr (.inr 6), .inl 16] M2 (ri_ fun v3 M3 =>
      (if v3 = 0 then
       D 228 [.inr (.inr 6), .inl 17] M3 (ri_ fun v4 M4 =>
        (if v4 = 0 then
         D 302 [.inr (.inr 6), .inl (M 150 (M 6 12))] M4 (rv_ fun M5 =>
          Qr [] M5) Qt
        else
         D 301 [.inr (.inr 6), .inl (M 150 (M 6 12))] M4 (rv_ fun M6 =>
          Qr [] M6) Qt)) Qt
      else
       D 282 [.inr (.inr 6)] M3 (ri_ fun v5 M7 =>
        D 227 [.inr (.inr 6)] M7 (ri_ fun v6 M8 =>
         (if v6 = 0 then
          D 266 [.inr (.inr 6), .inl 4, .inl (M 150 (M 6 12))] M8 (ri_ fun v7 M9 =>
           (0 ≤ v7 ∧ v7 < 1300) ∧
            D 244 [.inr (.inr 6), .inl 59] (up_ M9 205 v7 v5) (rv_ fun M10 =>
            Qr [] M10) Qt) Qt
         else
          Qr [] M8)) Qt) Qt)) Qt
    else
     D 282 [.inr (.inr 6)] M2 (ri_ fun v8 M11 =>
      D 270 [.inr (.inr 6), .inl 1] M11 (ri_ fun v9 M12 =>
       D 227 [.inr (.inr 6)] M12 (ri_ fun v10 M13 =>
        (if v10 = 0 then
         D 266 [.inr (.inr 6), .inl 3, .inl (M 150 (M 6 12))] M13 (ri_ fun v11 M14 =>
          (0 ≤ v11 ∧ v11 < 1300) ∧
           (0 ≤ v11 ∧ v11 < 1300) ∧
           D 244 [.inr (.inr 6), .inl 59] (up_ (up_ M14 205 v11 v8) 206 v11 v9) (rv_ fun M15 =>
           Qr [] M15) Qt) Qt
        else
         Qr [] M13)) Qt) Qt) Qt)) Qt
  else
   D 297 [.inr (.inr 6), .inl (M 150 (M 6 12))] M1 (rv_ fun M16 =>
    Qr [] M16) Qt)) Qt) : V 0 [rr 6, none, none, none, none] [] M := bx_go hD hV hW [] 44 h
/-- X4_output(I)V -/
theorem b_297_0 {D : ca_} {V : vv_} {Qr : qr_} {Qt : qt_} (hD : Mo_ D) (hV : Cl_ wd0 D V Qr Qt m_297) (hW : Wk_ V) (x1 : Int) (M : mm_) (h :
 D 233 [.inr (.inr 6)] M (ri_ fun v1 M1 =>
  D 227 [.inr (.inr 6)] M1 (ri_ fun v2 M2 =>
   (if v2 = 0 then
    (0 ≤ v1 ∧ v1 < 1202) ∧
     D 251 [.inr (.inr 6), .inr (.inl (M2 151 v1))] M2 (ri_ fun v3 M3 =>
     (bl_ (M3 6 16) → (if M3 6 16 = 0 then
      V 46 [rr 6, ii x1, ii v1, ii v3, none, none, none] [] M3
     else
      (if v3 < 0 then
       (0 ≤ v1 ∧ v1 < 1202) ∧
        D 236 [.inr (.inr 6), .inl 4, .inl (M3 150 v1)] M3 (rv_ fun M4 =>
        V 46 [rr 6, ii x1, ii v1, ii v3, none, none, none] [] M4) Qt
      else
       V 46 [rr 6, ii x1, ii v1, ii v3, none, none, none] [] M3)))) Qt
   else
    Qr [] M2)) Qt) Qt) : V 0 [rr 6, ii x1, none, none, none, none, none] [] M := bx_go hD hV hW [(46, [4, 5, 6]), (115, [5, 6]), (203, []), (253, [])] 26 h
theorem i_297 : inq_ 0 k_297 = true := by decide +kernel
theorem z_297_26 : Sf_ k_297 g_297_26 := Sf_of i_297 26 rfl
theorem b_297_46 {D : ca_} {V : vv_} {Qr : qr_} {Qt : qt_} (hD : Mo_ D) (hV : Cl_ wd0 D V Qr Qt m_297) (hW : Wk_ V) (x1 : Int) (x2 : Int) (x3 : Int) (M : mm_) (h :
 D 266 [.inr (.inr 6), .inl 2, .inl x1] M (ri_ fun v1 M1 =>
  (0 ≤ v1 ∧ v1 < 1300) ∧
   (0 ≤ v1 ∧ v1 < 1300) ∧
   (0 ≤ v1 ∧ v1 < 1300) ∧
   (if x3 < 0 then
   (if x3 < 0 then
    (0 ≤ x2 ∧ x2 < 1202) ∧
     D 298 [.inr (.inr 6), .inl v1, .inl ((-1)), .inl ((-1)), .inl (M1 150 x2)] (up_ (up_ (up_ M1 205 v1 x3) 206 v1 ((-1))) 207 v1 ((-1))) (rv_ fun M5 =>
     V 115 [rr 6, ii x1, ii x2, ii x3, ii v1, none, none] [] M5) Qt
   else
    (0 ≤ x3 ∧ x3 < 20) ∧
     (0 ≤ x2 ∧ x2 < 1202) ∧
     D 298 [.inr (.inr 6), .inl v1, .inl ((-1)), .inl (M1 156 x3), .inl (M1 150 x2)] (up_ (up_ (up_ M1 205 v1 x3) 206 v1 ((-1))) 207 v1 ((-1))) (rv_ fun M4 =>
     V 115 [rr 6, ii x1, ii x2, ii x3, ii v1, none, none] [] M4) Qt)
  else
   (if x3 < 0 then
    (0 ≤ x2 ∧ x2 < 1202) ∧
     D 298 [.inr (.inr 6), .inl v1, .inl (w32 (3 * x3)), .inl ((-1)), .inl (M1 150 x2)] (up_ (up_ (up_ M1 205 v1 x3) 206 v1 ((-1))) 207 v1 ((-1))) (rv_ fun M3 =>
     V 115 [rr 6, ii x1, ii x2, ii x3, ii v1, none, none] [] M3) Qt
   else
    (0 ≤ x3 ∧ x3 < 20) ∧
     (0 ≤ x2 ∧ x2 < 1202) ∧
     D 298 [.inr (.inr 6), .inl v1, .inl (w32 (3 * x3)), .inl (M1 156 x3), .inl (M1 150 x2)] (up_ (up_ (up_ M1 205 v1 x3) 206 v1 ((-1))) 207 v1 ((-1))) (rv_ fun M2 =>
     V 115 [rr 6, ii x1, ii x2, ii x3, ii v1, none, none] [] M2) Qt))) Qt) : V 46 [rr 6, ii x1, ii x2, ii x3, none, none, none] [] M := bx_go hD (m := (g_297_26, m_297.2)) (Cl_sf z_297_26 hV) hW [(46, [4, 5, 6]), (115, [5, 6]), (203, []), (253, [])] 39 h
theorem z_297_68 : Sf_ k_297 g_297_68 := Sf_tr z_297_26 42 rfl
theorem b_297_115 {D : ca_} {V : vv_} {Qr : qr_} {Qt : qt_} (hD : Mo_ D) (hV : Cl_ wd0 D V Qr Qt m_297) (hW : Wk_ V) (x1 : Int) (x2 : Int) (x3 : Int) (x4 : Int) (M : mm_) (h :
 D 228 [.inr (.inr 6), .inl 21] M (ri_ fun v1 M1 =>
  (if v1 = 0 then
   D 228 [.inr (.inr 6), .inl 22] M1 (ri_ fun v2 M2 =>
    (if v2 = 0 then
     D 244 [.inr (.inr 6), .inl 59] M2 (rv_ fun M3 =>
      Qr [] M3) Qt
    else
     D 233 [.inr (.inr 6)] M2 (ri_ fun v3 M4 =>
      D 227 [.inr (.inr 6)] M4 (ri_ fun v4 M5 =>
       (if v4 = 0 then
        (0 ≤ v3 ∧ v3 < 1202) ∧
         D 300 [.inr (.inr 6), .inr (.inl (M5 151 v3))] M5 (ri_ fun v5 M6 =>
         (bl_ (M6 6 16) → (if M6 6 16 = 0 then
          V 203 [rr 6, ii x1, ii x2, ii x3, ii x4, ii v3, ii v5] [] M6
         else
          (if v5 < 0 then
           (0 ≤ v3 ∧ v3 < 1202) ∧
            D 236 [.inr (.inr 6), .inl 4, .inl (M6 150 v3)] M6 (rv_ fun M7 =>
            V 203 [rr 6, ii x1, ii x2, ii x3, ii x4, ii v3, ii v5] [] M7) Qt
          else
           V 203 [rr 6, ii x1, ii x2, ii x3, ii x4, ii v3, ii v5] [] M6)))) Qt
       else
        Qr [] M5)) Qt) Qt)) Qt
  else
   D 270 [.inr (.inr 6), .inl 3] M1 (ri_ fun v6 M8 =>
    (0 ≤ x4 ∧ x4 < 1300) ∧
     D 244 [.inr (.inr 6), .inl 59] (up_ M8 206 x4 v6) (rv_ fun M9 =>
     Qr [] M9) Qt) Qt)) Qt) : V 115 [rr 6, ii x1, ii x2, ii x3, ii x4, none, none] [] M := bx_go hD (m := (g_297_68, m_297.2)) (Cl_sf z_297_68 hV) hW [(46, [4, 5, 6]), (115, [5, 6]), (203, []), (253, [])] 34 h
theorem z_297_112 : Sf_ k_297 g_297_112 := Sf_tr z_297_68 44 rfl
theorem b_297_203 {D : ca_} {V : vv_} {Qr : qr_} {Qt : qt_} (hD : Mo_ D) (hV : Cl_ wd0 D V Qr Qt m_297) (hW : Wk_ V) (x1 : Int) (x2 : Int) (x3 : Int) (x4 : Int) (x5 : Int) (x6 : Int) (M : mm_) (h :
 (bl_ (M 6 16) → (if M 6 16 = 0 then
  (0 ≤ x4 ∧ x4 < 1300) ∧
   D 244 [.inr (.inr 6), .inl 59] (up_ M 207 x4 x6) (rv_ fun M1 =>
   Qr [] M1) Qt
 else
  (if x6 < 0 then
   (0 ≤ x4 ∧ x4 < 1300) ∧
    D 244 [.inr (.inr 6), .inl 59] (up_ M 207 x4 x6) (rv_ fun M2 =>
    Qr [] M2) Qt
  else
   (0 ≤ x6 ∧ x6 < 10) ∧
    (0 ≤ M 6 61 ∧ M 6 61 < 6) ∧
    (if (if M 158 x6 < M 154 (M 6 61) then -1 else if M 158 x6 = M 154 (M 6 61) then 0 else 1) = 0 then
    (if x3 < 0 then
     (0 ≤ x4 ∧ x4 < 1300) ∧
      D 244 [.inr (.inr 6), .inl 59] (up_ M 207 x4 x6) (rv_ fun M3 =>
      Qr [] M3) Qt
    else
     (0 ≤ x6 ∧ x6 < 10) ∧
      (if an_ (sr_ (M 164 x6) x3) 1 = 0 then
      V 253 [rr 6, ii x1, ii x2, ii x3, ii x4, ii x5, ii x6] [] M
     else
      (0 ≤ x4 ∧ x4 < 1300) ∧
       D 244 [.inr (.inr 6), .inl 59] (up_ M 207 x4 x6) (rv_ fun M4 =>
       Qr [] M4) Qt))
   else
    V 253 [rr 6, ii x1, ii x2, ii x3, ii x4, ii x5, ii x6] [] M))))) : V 203 [rr 6, ii x1, ii x2, ii x3, ii x4, ii x5, ii x6] [] M := bx_go hD (m := (g_297_112, m_297.2)) (Cl_sf z_297_112 hV) hW [(46, [4, 5, 6]), (115, [5, 6]), (203, []), (253, [])] 36 h
theorem z_297_139 : Sf_ k_297 g_297_139 := Sf_tr z_297_112 27 rfl
theorem b_297_253 {D : ca_} {V : vv_} {Qr : qr_} {Qt : qt_} (hD : Mo_ D) (hV : Cl_ wd0 D V Qr Qt m_297) (hW : Wk_ V) (x1 : Int) (x2 : Int) (x3 : Int) (x4 : Int) (x5 : Int) (x6 : Int) (M : mm_) (h :
 (0 ≤ x5 ∧ x5 < 1202) ∧
  D 236 [.inr (.inr 6), .inl 6, .inl (M 150 x5)] M (rv_ fun M1 =>
  (0 ≤ x4 ∧ x4 < 1300) ∧
   D 244 [.inr (.inr 6), .inl 59] (up_ M1 207 x4 x6) (rv_ fun M2 =>
   Qr [] M2) Qt) Qt) : V 253 [rr 6, ii x1, ii x2, ii x3, ii x4, ii x5, ii x6] [] M := bx_go hD (m := (g_297_139, m_297.2)) (Cl_sf z_297_139 hV) hW [(46, [4, 5, 6]), (115, [5, 6]), (203, []), (253, [])] 16 h
/-- X4_values(IIII)V -/
theorem b_298_0 {D : ca_} {V : vv_} {Qr : qr_} {Qt : qt_} (hD : Mo_ D) (hV : Cl_ wd0 D V Qr Qt m_298) (hW : Wk_ V) (x1 : Int) (x2 : Int) (x3 : Int) (x4 : Int) (M : mm_) (h :
 D 237 [.inr (.inr 6), .inl 40] M (ri_ fun v1 M1 =>
  (if v1 = 0 then
   V 137 [rr 6, ii x1, ii x2, ii x3, ii x4, ii 0, none, none, none] [] M1
  else
   D 239 [.inr (.inr 6), .inl 40] M1 (rv_ fun M2 =>
    V 21 [rr 6, ii x1, ii x2, ii x3, ii x4, ii 0, ii 1, none, none] [] M2) Qt)) Qt) : V 0 [rr 6, ii x1, ii x2, ii x3, ii x4, none, none, none, none] [] M := bx_go hD hV hW [(21, [7, 8]), (88, [8]), (137, [6, 7, 8])] 12 h
theorem i_298 : inq_ 0 k_298 = true := by decide +kernel
theorem z_298_11 : Sf_ k_298 g_298_11 := Sf_of i_298 11 rfl
theorem b_298_21 {D : ca_} {V : vv_} {Qr : qr_} {Qt : qt_} (hD : Mo_ D) (hV : Cl_ wd0 D V Qr Qt m_298) (hW : Wk_ V) (x1 : Int) (x2 : Int) (x3 : Int) (x4 : Int) (x5 : Int) (x6 : Int) (M : mm_) (h :
 (if x6 = 0 then
  D 243 [.inr (.inr 6), .inl 41] M (rv_ fun M1 =>
   V 137 [rr 6, ii x1, ii x2, ii x3, ii x4, ii x5, none, none, none] [] M1) Qt
 else
  D 227 [.inr (.inr 6)] M (ri_ fun v1 M2 =>
   (if v1 = 0 then
    (if x5 = 3 then
     D 299 [.inr (.inr 6)] M2 (rv_ fun M4 =>
      Qr [] M4) Qt
    else
     (if x3 ≤ x5 then
      V 88 [rr 6, ii x1, ii x2, ii x3, ii x4, ii x5, ii x6, ii 0, none] [] M2
     else
      (if x2 < (-1) then
       (0 ≤ w32 ((w32 (8 * (w32 (((-2)) - x2)))) + x5) ∧ w32 ((w32 (8 * (w32 (((-2)) - x2)))) + x5) < 48) ∧
        V 88 [rr 6, ii x1, ii x2, ii x3, ii x4, ii x5, ii x6, ii (M2 182 (w32 ((w32 (8 * (w32 (((-2)) - x2)))) + x5))), none] [] M2
      else
       (0 ≤ w32 (x2 + x5) ∧ w32 (x2 + x5) < 60) ∧
        V 88 [rr 6, ii x1, ii x2, ii x3, ii x4, ii x5, ii x6, ii (M2 157 (w32 (x2 + x5))), none] [] M2)))
   else
    D 243 [.inr (.inr 6), .inl 41] M2 (rv_ fun M3 =>
     V 137 [rr 6, ii x1, ii x2, ii x3, ii x4, ii x5, none, none, none] [] M3) Qt)) Qt)) : V 21 [rr 6, ii x1, ii x2, ii x3, ii x4, ii x5, ii x6, none, none] [] M := bx_go hD (m := (g_298_11, m_298.2)) (Cl_sf z_298_11 hV) hW [(21, [7, 8]), (88, [8]), (137, [6, 7, 8])] 27 h
theorem z_298_48 : Sf_ k_298 g_298_48 := Sf_tr z_298_11 37 rfl
theorem b_298_88 {D : ca_} {V : vv_} {Qr : qr_} {Qt : qt_} (hD : Mo_ D) (hV : Cl_ wd0 D V Qr Qt m_298) (hW : Wk_ V) (x1 : Int) (x2 : Int) (x3 : Int) (x4 : Int) (x5 : Int) (x6 : Int) (x7 : Int) (M : mm_) (h :
 D 270 [.inr (.inr 6), .inl x7] M (ri_ fun v1 M1 =>
  D 227 [.inr (.inr 6)] M1 (ri_ fun v2 M2 =>
   (if v2 = 0 then
    (0 ≤ w32 ((w32 (3 * x1)) + x5) ∧ w32 ((w32 (3 * x1)) + x5) < 3900) ∧
     D 242 [.inr (.inr 6), .inl 44] (up_ M2 209 (w32 ((w32 (3 * x1)) + x5)) v1) (ri_ fun v3 M3 =>
     V 21 [rr 6, ii x1, ii x2, ii x3, ii x4, ii (w32 (x5 + 1)), ii v3, none, none] [] M3) Qt
   else
    Qr [] M2)) Qt) Qt) : V 88 [rr 6, ii x1, ii x2, ii x3, ii x4, ii x5, ii x6, ii x7, none] [] M := bx_go hD (m := (g_298_48, m_298.2)) (Cl_sf z_298_48 hV) hW [(21, [7, 8]), (88, [8]), (137, [6, 7, 8])] 23 h
theorem z_298_74 : Sf_ k_298 g_298_74 := Sf_tr z_298_48 26 rfl
theorem b_298_137 {D : ca_} {V : vv_} {Qr : qr_} {Qt : qt_} (hD : Mo_ D) (hV : Cl_ wd0 D V Qr Qt m_298) (hW : Wk_ V) (x1 : Int) (x2 : Int) (x3 : Int) (x4 : Int) (x5 : Int) (M : mm_) (h :
 D 227 [.inr (.inr 6)] M (ri_ fun v1 M1 =>
  (if v1 = 0 then
   (0 ≤ x1 ∧ x1 < 1300) ∧
    (bl_ (M1 6 16) → (if M1 6 16 = 0 then
    Qr [] (up_ M1 210 x1 x5)
   else
    (if x3 < 0 then
     Qr [] (up_ M1 210 x1 x5)
    else
     (if x5 = x3 then
      Qr [] (up_ M1 210 x1 x5)
     else
      D 236 [.inr (.inr 6), .inl 5, .inl x4] (up_ M1 210 x1 x5) (rv_ fun M2 =>
       Qr [] M2) Qt))))
  else
   Qr [] M1)) Qt) : V 137 [rr 6, ii x1, ii x2, ii x3, ii x4, ii x5, none, none, none] [] M := bx_go hD (m := (g_298_74, m_298.2)) (Cl_sf z_298_74 hV) hW [(21, [7, 8]), (88, [8]), (137, [6, 7, 8])] 21 h
/-- X4_fourth()V -/
theorem b_299_0 {D : ca_} {V : vv_} {Qr : qr_} {Qt : qt_} (hD : Mo_ D) (hV : Cl_ wd0 D V Qr Qt m_299) (hW : Wk_ V)  (M : mm_) (h :
 (0 ≤ M 6 12 ∧ M 6 12 < 1202) ∧
  (if M 149 (M 6 12) = 1 then
  V 89 [rr 6, none] [] M
 else
  (0 ≤ M 6 12 ∧ M 6 12 < 1202) ∧
   (if M 149 (M 6 12) = 2 then
   V 89 [rr 6, none] [] M
  else
   D 237 [.inr (.inr 6), .inl 40] M (ri_ fun v1 M1 =>
    (if v1 = 0 then
     D 237 [.inr (.inr 6), .inl 45] M1 (ri_ fun v2 M2 =>
      (if v2 = 0 then
       (0 ≤ M2 6 12 ∧ M2 6 12 < 1202) ∧
        (if M2 149 (M2 6 12) = 4 then
        (0 ≤ M2 6 12 ∧ M2 6 12 < 1202) ∧
         (if (if M2 151 (M2 6 12) < 31 then -1 else if M2 151 (M2 6 12) = 31 then 0 else 1) < 0 then
         V 93 [rr 6, none] [] M2
        else
         (0 ≤ M2 6 12 ∧ M2 6 12 < 1202) ∧
          (if (if M2 151 (M2 6 12) < 41 then -1 else if M2 151 (M2 6 12) = 41 then 0 else 1) ≤ 0 then
          V 89 [rr 6, none] [] M2
         else
          V 93 [rr 6, none] [] M2))
       else
        V 93 [rr 6, none] [] M2)
      else
       V 89 [rr 6, none] [] M2)) Qt
    else
     V 89 [rr 6, none] [] M1)) Qt))) : V 0 [rr 6, none] [] M := bx_go hD hV hW [(89, [1]), (93, [1])] 46 h
theorem i_299 : inq_ 0 k_299 = true := by decide +kernel
theorem z_299_45 : Sf_ k_299 g_299_45 := Sf_of i_299 45 rfl
theorem b_299_89 {D : ca_} {V : vv_} {Qr : qr_} {Qt : qt_} (hD : Mo_ D) (hV : Cl_ wd0 D V Qr Qt m_299) (hW : Wk_ V)  (M : mm_) (h :
 (if (1 : Int) = 0 then
  D 234 [.inr (.inr 6)] M (rv_ fun M1 =>
   Qr [] M1) Qt
 else
  (0 ≤ M 6 12 ∧ M 6 12 < 1202) ∧
   D 231 [.inr (.inr 6), .inl 2, .inl (M 150 (M 6 12))] M (rv_ fun M2 =>
   Qr [] M2) Qt)) : V 89 [rr 6, none] [] M := bx_go hD (m := (g_299_45, m_299.2)) (Cl_sf z_299_45 hV) hW [(89, [1]), (93, [1])] 15 h
theorem z_299_47 : Sf_ k_299 g_299_47 := Sf_tr z_299_45 2 rfl
theorem b_299_93 {D : ca_} {V : vv_} {Qr : qr_} {Qt : qt_} (hD : Mo_ D) (hV : Cl_ wd0 D V Qr Qt m_299) (hW : Wk_ V)  (M : mm_) (h :
 (if (0 : Int) = 0 then
  D 234 [.inr (.inr 6)] M (rv_ fun M1 =>
   Qr [] M1) Qt
 else
  (0 ≤ M 6 12 ∧ M 6 12 < 1202) ∧
   D 231 [.inr (.inr 6), .inl 2, .inl (M 150 (M 6 12))] M (rv_ fun M2 =>
   Qr [] M2) Qt)) : V 93 [rr 6, none] [] M := bx_go hD (m := (g_299_47, m_299.2)) (Cl_sf z_299_47 hV) hW [(89, [1]), (93, [1])] 14 h
/-- X4_routeOf(J)I -/
theorem b_300_0 {D : ca_} {V : vv_} {Qr : qr_} {Qt : qt_} (hD : Mo_ D) (hV : Cl_ wd0 D V Qr Qt m_300) (hW : Wk_ V) (x1 : Int) (M : mm_) (h :
 V 2 [rr 6, jj x1, none, ii 0] [] M) : V 0 [rr 6, jj x1, none, none] [] M := bx_go hD hV hW [(2, [2])] 3 h
theorem b_300_2 {D : ca_} {V : vv_} {Qr : qr_} {Qt : qt_} (hD : Mo_ D) (hV : Cl_ wd0 D V Qr Qt m_300) (hW : Wk_ V) (x1 : Int) (x3 : Int) (M : mm_) (h :
 (if x3 < M 6 18 then
  (0 ≤ x3 ∧ x3 < 10) ∧
   (if (if M 153 x3 < x1 then -1 else if M 153 x3 = x1 then 0 else 1) = 0 then
   Qr [.inl x3] M
  else
   V 2 [rr 6, jj x1, none, ii (w32 (x3 + 1))] [] M)
 else
  Qr [.inl ((-1))] M)) : V 2 [rr 6, jj x1, none, ii x3] [] M := bx_go hD hV hW [(2, [2])] 14 h
/-- X4_create(I)V -/
theorem b_301_0 {D : ca_} {V : vv_} {Qr : qr_} {Qt : qt_} (hD : Mo_ D) (hV : Cl_ wd0 D V Qr Qt m_301) (hW : Wk_ V) (x1 : Int) (M : mm_) (h :
 D 233 [.inr (.inr 6)] M (ri_ fun v1 M1 =>
  D 227 [.inr (.inr 6)] M1 (ri_ fun v2 M2 =>
   (if v2 = 0 then
    (0 ≤ v1 ∧ v1 < 1202) ∧
     D 247 [.inr (.inr 6), .inr (.inl (M2 151 v1))] M2 (ri_ fun v3 M3 =>
     (bl_ (M3 6 16) → (if M3 6 16 = 0 then
      V 46 [rr 6, ii x1, ii v1, ii v3, none] [] M3
     else
      (if v3 < 0 then
       (0 ≤ v1 ∧ v1 < 1202) ∧
        D 236 [.inr (.inr 6), .inl 4, .inl (M3 150 v1)] M3 (rv_ fun M4 =>
        V 46 [rr 6, ii x1, ii v1, ii v3, none] [] M4) Qt
      else
       V 46 [rr 6, ii x1, ii v1, ii v3, none] [] M3)))) Qt
   else
    Qr [] M2)) Qt) Qt) : V 0 [rr 6, ii x1, none, none, none] [] M := bx_go hD hV hW [(46, [4])] 26 h
theorem i_301 : inq_ 0 k_301 = true := by decide +kernel
theorem z_301_26 : Sf_ k_301 g_301_26 := Sf_of i_301 26 rfl
theorem b_301_46 {D : ca_} {V : vv_} {Qr : qr_} {Qt : qt_} (hD : Mo_ D) (hV : Cl_ wd0 D V Qr Qt m_301) (hW : Wk_ V) (x1 : Int) (x2 : Int) (x3 : Int) (M : mm_) (h :
 D 266 [.inr (.inr 6), .inl 5, .inl x1] M (ri_ fun v1 M1 =>
  (0 ≤ v1 ∧ v1 < 1300) ∧
   (if x3 < 0 then
   (if x3 < 0 then
    (0 ≤ x2 ∧ x2 < 1202) ∧
     D 298 [.inr (.inr 6), .inl v1, .inl ((-1)), .inl ((-1)), .inl (M1 150 x2)] (up_ M1 205 v1 x3) (rv_ fun M8 =>
     D 244 [.inr (.inr 6), .inl 59] M8 (rv_ fun M9 =>
      Qr [] M9) Qt) Qt
   else
    (0 ≤ x3 ∧ x3 < 6) ∧
     (0 ≤ x2 ∧ x2 < 1202) ∧
     D 298 [.inr (.inr 6), .inl v1, .inl ((-1)), .inl (M1 170 x3), .inl (M1 150 x2)] (up_ M1 205 v1 x3) (rv_ fun M6 =>
     D 244 [.inr (.inr 6), .inl 59] M6 (rv_ fun M7 =>
      Qr [] M7) Qt) Qt)
  else
   (if x3 < 0 then
    (0 ≤ x2 ∧ x2 < 1202) ∧
     D 298 [.inr (.inr 6), .inl v1, .inl (w32 (((-2)) - x3)), .inl ((-1)), .inl (M1 150 x2)] (up_ M1 205 v1 x3) (rv_ fun M4 =>
     D 244 [.inr (.inr 6), .inl 59] M4 (rv_ fun M5 =>
      Qr [] M5) Qt) Qt
   else
    (0 ≤ x3 ∧ x3 < 6) ∧
     (0 ≤ x2 ∧ x2 < 1202) ∧
     D 298 [.inr (.inr 6), .inl v1, .inl (w32 (((-2)) - x3)), .inl (M1 170 x3), .inl (M1 150 x2)] (up_ M1 205 v1 x3) (rv_ fun M2 =>
     D 244 [.inr (.inr 6), .inl 59] M2 (rv_ fun M3 =>
      Qr [] M3) Qt) Qt))) Qt) : V 46 [rr 6, ii x1, ii x2, ii x3, none] [] M := bx_go hD (m := (g_301_26, m_301.2)) (Cl_sf z_301_26 hV) hW [(46, [4])] 32 h
/-- X4_assign(I)V -/
theorem b_302_0 {D : ca_} {V : vv_} {Qr : qr_} {Qt : qt_} (hD : Mo_ D) (hV : Cl_ wd0 D V Qr Qt m_302) (hW : Wk_ V) (x1 : Int) (M : mm_) (h :
 D 233 [.inr (.inr 6)] M (ri_ fun v1 M1 =>
  D 227 [.inr (.inr 6)] M1 (ri_ fun v2 M2 =>
   (if v2 = 0 then
    (0 ≤ v1 ∧ v1 < 1202) ∧
     D 276 [.inr (.inr 6), .inl (M2 6 61), .inr (.inl (M2 151 v1))] M2 (ri_ fun v3 M3 =>
     D 237 [.inr (.inr 6), .inl 91] M3 (ri_ fun v4 M4 =>
      (bl_ (M4 6 16) → (if M4 6 16 = 0 then
       V 58 [rr 6, ii x1, ii v1, ii v3, ii v4, none, none, none, none] [] M4
      else
       (if v3 < 0 then
        (0 ≤ v1 ∧ v1 < 1202) ∧
         D 236 [.inr (.inr 6), .inl 4, .inl (M4 150 v1)] M4 (rv_ fun M5 =>
         V 58 [rr 6, ii x1, ii v1, ii v3, ii v4, none, none, none, none] [] M5) Qt
       else
        V 58 [rr 6, ii x1, ii v1, ii v3, ii v4, none, none, none, none] [] M4)))) Qt) Qt
   else
    Qr [] M2)) Qt) Qt) : V 0 [rr 6, ii x1, none, none, none, none, none, none, none] [] M := bx_go hD hV hW [(58, [5, 6, 7, 8]), (99, [5, 6, 7, 8]), (149, [7, 8])] 32 h
theorem i_302 : inq_ 0 k_302 = true := by decide +kernel
theorem z_302_32 : Sf_ k_302 g_302_32 := Sf_of i_302 32 rfl
theorem b_302_58 {D : ca_} {V : vv_} {Qr : qr_} {Qt : qt_} (hD : Mo_ D) (hV : Cl_ wd0 D V Qr Qt m_302) (hW : Wk_ V) (x1 : Int) (x2 : Int) (x3 : Int) (x4 : Int) (M : mm_) (h :
 (bl_ (M 6 16) → (if M 6 16 = 0 then
  V 99 [rr 6, ii x1, ii x2, ii x3, ii x4, none, none, none, none] [] M
 else
  (if x3 < 0 then
   V 99 [rr 6, ii x1, ii x2, ii x3, ii x4, none, none, none, none] [] M
  else
   (0 ≤ x3 ∧ x3 < 48) ∧
    (if M 183 x3 ≤ 0 then
    (if x4 = 0 then
     V 99 [rr 6, ii x1, ii x2, ii x3, ii x4, none, none, none, none] [] M
    else
     (0 ≤ x2 ∧ x2 < 1202) ∧
      D 236 [.inr (.inr 6), .inl 5, .inl (M 150 x2)] M (rv_ fun M1 =>
      V 99 [rr 6, ii x1, ii x2, ii x3, ii x4, none, none, none, none] [] M1) Qt)
   else
    (if x4 = 1 then
     V 99 [rr 6, ii x1, ii x2, ii x3, ii x4, none, none, none, none] [] M
    else
     (0 ≤ x2 ∧ x2 < 1202) ∧
      D 236 [.inr (.inr 6), .inl 5, .inl (M 150 x2)] M (rv_ fun M2 =>
      V 99 [rr 6, ii x1, ii x2, ii x3, ii x4, none, none, none, none] [] M2) Qt)))))) : V 58 [rr 6, ii x1, ii x2, ii x3, ii x4, none, none, none, none] [] M := bx_go hD (m := (g_302_32, m_302.2)) (Cl_sf z_302_32 hV) hW [(58, [5, 6, 7, 8]), (99, [5, 6, 7, 8]), (149, [7, 8])] 22 h
theorem z_302_54 : Sf_ k_302 g_302_54 := Sf_tr z_302_32 22 rfl
theorem b_302_99 {D : ca_} {V : vv_} {Qr : qr_} {Qt : qt_} (hD : Mo_ D) (hV : Cl_ wd0 D V Qr Qt m_302) (hW : Wk_ V) (x1 : Int) (x2 : Int) (x3 : Int) (x4 : Int) (M : mm_) (h :
 (if x4 = 0 then
  D 244 [.inr (.inr 6), .inl 256] M (rv_ fun M1 =>
   (if x3 < 0 then
    V 149 [rr 6, ii x1, ii x2, ii x3, ii x4, ii ((-1)), ii 0, none, none] [] M1
   else
    (0 ≤ x3 ∧ x3 < 48) ∧
     V 149 [rr 6, ii x1, ii x2, ii x3, ii x4, ii ((-1)), ii (M1 182 x3), none, none] [] M1)) Qt
 else
  D 239 [.inr (.inr 6), .inl 91] M (rv_ fun M2 =>
   D 270 [.inr (.inr 6), .inl 1] M2 (ri_ fun v1 M3 =>
    D 243 [.inr (.inr 6), .inl 93] M3 (rv_ fun M4 =>
     D 244 [.inr (.inr 6), .inl 256] M4 (rv_ fun M5 =>
      (if x3 < 0 then
       V 149 [rr 6, ii x1, ii x2, ii x3, ii x4, ii v1, ii 0, none, none] [] M5
      else
       (0 ≤ x3 ∧ x3 < 48) ∧
        V 149 [rr 6, ii x1, ii x2, ii x3, ii x4, ii v1, ii (M5 182 x3), none, none] [] M5)) Qt) Qt) Qt) Qt)) : V 99 [rr 6, ii x1, ii x2, ii x3, ii x4, none, none, none, none] [] M := bx_go hD (m := (g_302_54, m_302.2)) (Cl_sf z_302_54 hV) hW [(58, [5, 6, 7, 8]), (99, [5, 6, 7, 8]), (149, [7, 8])] 25 h
theorem z_302_80 : Sf_ k_302 g_302_80 := Sf_tr z_302_54 26 rfl
theorem b_302_149 {D : ca_} {V : vv_} {Qr : qr_} {Qt : qt_} (hD : Mo_ D) (hV : Cl_ wd0 D V Qr Qt m_302) (hW : Wk_ V) (x1 : Int) (x2 : Int) (x3 : Int) (x4 : Int) (x5 : Int) (x6 : Int) (M : mm_) (h :
 D 270 [.inr (.inr 6), .inl x6] M (ri_ fun v1 M1 =>
  D 227 [.inr (.inr 6)] M1 (ri_ fun v2 M2 =>
   (if v2 = 0 then
    D 266 [.inr (.inr 6), .inl 1, .inl x1] M2 (ri_ fun v3 M3 =>
     (0 ≤ v3 ∧ v3 < 1300) ∧
      (0 ≤ v3 ∧ v3 < 1300) ∧
      (0 ≤ v3 ∧ v3 < 1300) ∧
      D 244 [.inr (.inr 6), .inl 59] (up_ (up_ (up_ M3 205 v3 x3) 206 v3 x5) 207 v3 v1) (rv_ fun M4 =>
      Qr [] M4) Qt) Qt
   else
    Qr [] M2)) Qt) Qt) : V 149 [rr 6, ii x1, ii x2, ii x3, ii x4, ii x5, ii x6, none, none] [] M := bx_go hD (m := (g_302_80, m_302.2)) (Cl_sf z_302_80 hV) hW [(58, [5, 6, 7, 8]), (99, [5, 6, 7, 8]), (149, [7, 8])] 31 h
/-- X4_behindPart()V -/
theorem b_303_0 {D : ca_} {V : vv_} {Qr : qr_} {Qt : qt_} (hD : Mo_ D) (hV : Cl_ wd0 D V Qr Qt m_303) (hW : Wk_ V)  (M : mm_) (h :
 (0 ≤ w32 ((M 6 102) - 1) ∧ w32 ((M 6 102) - 1) < 14) ∧ (bl_ (M 226 (w32 ((M 6 102) - 1))) →
  (bl_ (M 6 103) → ((0 ≤ w32 ((M 6 102) - 1) ∧ w32 ((M 6 102) - 1) < 14) ∧ bl_ (an_ (M 226 (w32 ((M 6 102) - 1))) (M 6 103))) ∧
  (0 ≤ M 6 12 ∧ M 6 12 < 1202) ∧
  D 266 [.inr (.inr 6), .inl 7, .inl (M 150 (M 6 12))] (up_ M 226 (w32 ((M 6 102) - 1)) (an_ (M 226 (w32 ((M 6 102) - 1))) (M 6 103))) (ri_ fun v1 M1 =>
  (0 ≤ w32 ((M 6 102) - 1) ∧ w32 ((M 6 102) - 1) < 14) ∧
   (0 ≤ v1 ∧ v1 < 1300) ∧
   (0 ≤ w32 ((M 6 102) - 1) ∧ w32 ((M 6 102) - 1) < 14) ∧
   bl_ 0 ∧ (0 ≤ w32 ((M 6 102) - 1) ∧ w32 ((M 6 102) - 1) < 14) ∧ (bl_ (M1 225 (w32 ((M 6 102) - 1))) →
   (if M1 225 (w32 ((M 6 102) - 1)) = 0 then
   D 292 [.inr (.inr 6)] (up_ (up_ (up_ M1 206 v1 (M1 224 (w32 ((M 6 102) - 1)))) 224 (w32 ((M 6 102) - 1)) v1) 6 103 0) (ri_ fun v2 M2 =>
    (if v2 = 0 then
     V 83 [rr 6, ii (w32 ((M 6 102) - 1)), ii v1, none] [] M2
    else
     D 291 [.inr (.inr 6)] M2 (rv_ fun M3 =>
      Qr [] M3) Qt)) Qt
  else
   V 83 [rr 6, ii (w32 ((M 6 102) - 1)), ii v1, none] [] (up_ (up_ (up_ M1 206 v1 (M1 224 (w32 ((M 6 102) - 1)))) 224 (w32 ((M 6 102) - 1)) v1) 6 103 0)))) Qt))) : V 0 [rr 6, none, none, none] [] M := bx_go hD hV hW [(83, [3]), (132, [3]), (179, [])] 51 h
theorem i_303 : inq_ 0 k_303 = true := by decide +kernel
theorem z_303_50 : Sf_ k_303 g_303_50 := Sf_of i_303 50 rfl
theorem b_303_83 {D : ca_} {V : vv_} {Qr : qr_} {Qt : qt_} (hD : Mo_ D) (hV : Cl_ wd0 D V Qr Qt m_303) (hW : Wk_ V) (x1 : Int) (x2 : Int) (M : mm_) (h :
 (0 ≤ x1 ∧ x1 < 14) ∧ (bl_ (M 225 x1) →
  (if M 225 x1 = 0 then
  D 228 [.inr (.inr 6), .inl 19] M (ri_ fun v1 M1 =>
   (if v1 = 0 then
    V 132 [rr 6, ii x1, ii x2, none] [] M1
   else
    D 244 [.inr (.inr 6), .inl 58] M1 (rv_ fun M2 =>
     ((0 ≤ x1 ∧ x1 < 14) ∧ bl_ 1) ∧
      (0 ≤ x1 ∧ x1 < 14) ∧
      (0 ≤ M2 220 x1 ∧ M2 220 x1 < 1300) ∧
      Qr [] (up_ (up_ M2 225 x1 1) 207 (M2 220 x1) (M2 6 75))) Qt)) Qt
 else
  V 132 [rr 6, ii x1, ii x2, none] [] M))) : V 83 [rr 6, ii x1, ii x2, none] [] M := bx_go hD (m := (g_303_50, m_303.2)) (Cl_sf z_303_50 hV) hW [(83, [3]), (132, [3]), (179, [])] 28 h
theorem z_303_77 : Sf_ k_303 g_303_77 := Sf_tr z_303_50 27 rfl
theorem b_303_132 {D : ca_} {V : vv_} {Qr : qr_} {Qt : qt_} (hD : Mo_ D) (hV : Cl_ wd0 D V Qr Qt m_303) (hW : Wk_ V) (x1 : Int) (x2 : Int) (M : mm_) (h :
 D 250 [.inr (.inr 6), .inl 20] M (rv_ fun M1 =>
  D 244 [.inr (.inr 6), .inl 59] M1 (rv_ fun M2 =>
   D 227 [.inr (.inr 6)] M2 (ri_ fun v1 M3 =>
    (if v1 = 0 then
     (0 ≤ x1 ∧ x1 < 14) ∧
      V 179 [rr 6, ii x1, ii x2, ii (M3 224 x1)] [] (up_ (up_ M3 6 15 (w32 ((M3 6 15) - 1))) 6 102 (w32 ((M3 6 102) - 1)))
    else
     Qr [] M3)) Qt) Qt) Qt) : V 132 [rr 6, ii x1, ii x2, none] [] M := bx_go hD (m := (g_303_77, m_303.2)) (Cl_sf z_303_77 hV) hW [(83, [3]), (132, [3]), (179, [])] 27 h
theorem z_303_104 : Sf_ k_303 g_303_104 := Sf_tr z_303_77 27 rfl
theorem b_303_179 {D : ca_} {V : vv_} {Qr : qr_} {Qt : qt_} (hD : Mo_ D) (hV : Cl_ wd0 D V Qr Qt m_303) (hW : Wk_ V) (x1 : Int) (x2 : Int) (x3 : Int) (M : mm_) (h :
 (if x3 < 0 then
  (0 ≤ x1 ∧ x1 < 14) ∧
   (0 ≤ M 220 x1 ∧ M 220 x1 < 1300) ∧
   (0 ≤ x1 ∧ x1 < 14) ∧ (bl_ (M 225 x1) →
   (if M 225 x1 = 0 then
   bl_ 0 ∧ Qr [] (up_ (up_ M 208 (M 220 x1) (M 6 75)) 6 103 0)
  else
   (0 ≤ x1 ∧ x1 < 14) ∧ (bl_ (M 226 x1) →
    (if M 226 x1 = 0 then
    bl_ 0 ∧ Qr [] (up_ (up_ M 208 (M 220 x1) (M 6 75)) 6 103 0)
   else
    bl_ 1 ∧ Qr [] (up_ (up_ M 208 (M 220 x1) (M 6 75)) 6 103 1)))))
 else
  (0 ≤ x3 ∧ x3 < 1300) ∧
   (0 ≤ x3 ∧ x3 < 1300) ∧
   V 179 [rr 6, ii x1, ii x2, ii (M 206 x3)] [] (up_ M 205 x3 (M 6 75)))) : V 179 [rr 6, ii x1, ii x2, ii x3] [] M := bx_go hD (m := (g_303_104, m_303.2)) (Cl_sf z_303_104 hV) hW [(83, [3]), (132, [3]), (179, [])] 26 h
/-- X4_stateLine()V -/
theorem b_304_0 {D : ca_} {V : vv_} {Qr : qr_} {Qt : qt_} (hD : Mo_ D) (hV : Cl_ wd0 D V Qr Qt m_304) (hW : Wk_ V)  (M : mm_) (h :
 D 242 [.inr (.inr 6), .inl 42] M (ri_ fun v1 M1 =>
  (if v1 = 0 then
   V 20 [rr 6, ii 0, ii 1, none] [] M1
  else
   D 244 [.inr (.inr 6), .inl 59] M1 (rv_ fun M2 =>
    V 70 [rr 6, ii 4095, ii 1, none] [] M2) Qt)) Qt) : V 0 [rr 6, none, none, none] [] M := bx_go hD hV hW [(20, [3]), (70, [3])] 15 h
theorem i_304 : inq_ 0 k_304 = true := by decide +kernel
theorem z_304_11 : Sf_ k_304 g_304_11 := Sf_of i_304 11 rfl
theorem b_304_20 {D : ca_} {V : vv_} {Qr : qr_} {Qt : qt_} (hD : Mo_ D) (hV : Cl_ wd0 D V Qr Qt m_304) (hW : Wk_ V) (x1 : Int) (x2 : Int) (M : mm_) (h :
 (if x2 = 0 then
  D 244 [.inr (.inr 6), .inl 59] M (rv_ fun M1 =>
   V 70 [rr 6, ii x1, ii 1, none] [] M1) Qt
 else
  D 227 [.inr (.inr 6)] M (ri_ fun v1 M2 =>
   (if v1 = 0 then
    D 233 [.inr (.inr 6)] M2 (ri_ fun v2 M4 =>
     D 227 [.inr (.inr 6)] M4 (ri_ fun v3 M5 =>
      (if v3 = 0 then
       D 305 [.inr (.inr 6), .inl v2] M5 (ri_ fun v4 M6 =>
        D 242 [.inr (.inr 6), .inl 44] M6 (ri_ fun v5 M7 =>
         V 20 [rr 6, ii (or_ x1 v4), ii v5, none] [] M7) Qt) Qt
      else
       Qr [] M5)) Qt) Qt
   else
    D 244 [.inr (.inr 6), .inl 59] M2 (rv_ fun M3 =>
     V 70 [rr 6, ii x1, ii 1, none] [] M3) Qt)) Qt)) : V 20 [rr 6, ii x1, ii x2, none] [] M := bx_go hD (m := (g_304_11, m_304.2)) (Cl_sf z_304_11 hV) hW [(20, [3]), (70, [3])] 23 h
theorem z_304_39 : Sf_ k_304 g_304_39 := Sf_tr z_304_11 28 rfl
theorem b_304_70 {D : ca_} {V : vv_} {Qr : qr_} {Qt : qt_} (hD : Mo_ D) (hV : Cl_ wd0 D V Qr Qt m_304) (hW : Wk_ V) (x1 : Int) (x2 : Int) (M : mm_) (h :
 (if x2 = 0 then
  Qr [] M
 else
  D 227 [.inr (.inr 6)] M (ri_ fun v1 M1 =>
   (if v1 = 0 then
    D 228 [.inr (.inr 6), .inl 7] M1 (ri_ fun v2 M2 =>
     (if v2 = 0 then
      D 228 [.inr (.inr 6), .inl 8] M2 (ri_ fun v3 M3 =>
       (if v3 = 0 then
        D 228 [.inr (.inr 6), .inl 9] M3 (ri_ fun v4 M4 =>
         (if v4 = 0 then
          D 228 [.inr (.inr 6), .inl 10] M4 (ri_ fun v5 M5 =>
           (if v5 = 0 then
            V 70 [rr 6, ii x1, ii 0, none] [] M5
           else
            D 244 [.inr (.inr 6), .inl 59] M5 (rv_ fun M6 =>
             D 307 [.inr (.inr 6), .inl 3, .inl x1] M6 (ri_ fun v6 M7 =>
              D 260 [.inr (.inr 6), .inl 0, .inl x1] M7 (rv_ fun M8 =>
               D 314 [.inr (.inr 6), .inl v6] M8 (rv_ fun M9 =>
                V 70 [rr 6, ii x1, ii x2, none] [] M9) Qt) Qt) Qt) Qt)) Qt
         else
          D 313 [.inr (.inr 6), .inl x1] M4 (rv_ fun M10 =>
           V 70 [rr 6, ii x1, ii x2, none] [] M10) Qt)) Qt
       else
        D 312 [.inr (.inr 6), .inl x1] M3 (rv_ fun M11 =>
         V 70 [rr 6, ii x1, ii x2, none] [] M11) Qt)) Qt
     else
      D 306 [.inr (.inr 6), .inl x1] M2 (rv_ fun M12 =>
       V 70 [rr 6, ii x1, ii x2, none] [] M12) Qt)) Qt
   else
    Qr [] M1)) Qt)) : V 70 [rr 6, ii x1, ii x2, none] [] M := bx_go hD (m := (g_304_39, m_304.2)) (Cl_sf z_304_39 hV) hW [(20, [3]), (70, [3])] 38 h
/-- X4_stateHere(I)I -/
theorem b_305_0 {D : ca_} {V : vv_} {Qr : qr_} {Qt : qt_} (hD : Mo_ D) (hV : Cl_ wd0 D V Qr Qt m_305) (hW : Wk_ V) (x1 : Int) (M : mm_) (h :
 (0 ≤ x1 ∧ x1 < 1202) ∧
  D 267 [.inr (.inr 6), .inl (M 6 61), .inr (.inl (M 151 x1))] M (ri_ fun v1 M1 =>
  (if v1 < 0 then
   (bl_ (M1 6 16) → (if M1 6 16 = 0 then
    (0 ≤ M1 6 61 ∧ M1 6 61 < 6) ∧
     (if M1 174 (M1 6 61) = 12 then
     (0 ≤ x1 ∧ x1 < 1202) ∧
      D 231 [.inr (.inr 6), .inl 2, .inl (M1 150 x1)] M1 (rv_ fun M2 =>
      Qr [.inl 0] M2) Qt
    else
     (0 ≤ M1 6 61 ∧ M1 6 61 < 6) ∧
      (0 ≤ x1 ∧ x1 < 1202) ∧
      (0 ≤ w32 ((w32 (12 * (M1 6 61))) + (M1 174 (M1 6 61))) ∧ w32 ((w32 (12 * (M1 6 61))) + (M1 174 (M1 6 61))) < 72) ∧
      (0 ≤ x1 ∧ x1 < 1202) ∧
      (0 ≤ w32 ((w32 (12 * (M1 6 61))) + (M1 174 (M1 6 61))) ∧ w32 ((w32 (12 * (M1 6 61))) + (M1 174 (M1 6 61))) < 72) ∧
      (0 ≤ M1 6 61 ∧ M1 6 61 < 6) ∧
      (0 ≤ M1 6 61 ∧ M1 6 61 < 6) ∧
      Qr [.inl (sl_ 1 (M1 174 (M1 6 61)))] (up_ (up_ (up_ M1 179 (w32 ((w32 (12 * (M1 6 61))) + (M1 174 (M1 6 61)))) (M1 151 x1)) 186 (w32 ((w32 (12 * (M1 6 61))) + (M1 174 (M1 6 61)))) (M1 150 x1)) 174 (M1 6 61) (w32 ((M1 174 (M1 6 61)) + 1))))
   else
    Qr [.inl (sl_ 1 v1)] M1))
  else
   Qr [.inl (sl_ 1 v1)] M1)) Qt) : V 0 [rr 6, ii x1, none] [] M := bx_go hD hV hW [] 66 h
/-- X4_input(I)V -/
theorem b_306_0 {D : ca_} {V : vv_} {Qr : qr_} {Qt : qt_} (hD : Mo_ D) (hV : Cl_ wd0 D V Qr Qt m_306) (hW : Wk_ V) (x1 : Int) (M : mm_) (h :
 D 307 [.inr (.inr 6), .inl 0, .inl x1] M (ri_ fun v1 M1 =>
  V 9 [rr 6, ii x1, ii v1, ii 1] [] M1) Qt) : V 0 [rr 6, ii x1, none, none] [] M := bx_go hD hV hW [(9, []), (37, []), (74, [])] 8 h
theorem i_306 : inq_ 0 k_306 = true := by decide +kernel
theorem z_306_7 : Sf_ k_306 g_306_7 := Sf_of i_306 7 rfl
theorem b_306_9 {D : ca_} {V : vv_} {Qr : qr_} {Qt : qt_} (hD : Mo_ D) (hV : Cl_ wd0 D V Qr Qt m_306) (hW : Wk_ V) (x1 : Int) (x2 : Int) (x3 : Int) (M : mm_) (h :
 (if x3 = 0 then
  V 37 [rr 6, ii x1, ii x2, ii x3] [] M
 else
  D 227 [.inr (.inr 6)] M (ri_ fun v1 M1 =>
   (if v1 = 0 then
    D 308 [.inr (.inr 6), .inl x2, .inl x1, .inl 1] M1 (rv_ fun M2 =>
     D 242 [.inr (.inr 6), .inl 44] M2 (ri_ fun v2 M3 =>
      V 9 [rr 6, ii x1, ii x2, ii v2] [] M3) Qt) Qt
   else
    V 37 [rr 6, ii x1, ii x2, ii x3] [] M1)) Qt)) : V 9 [rr 6, ii x1, ii x2, ii x3] [] M := bx_go hD (m := (g_306_7, m_306.2)) (Cl_sf z_306_7 hV) hW [(9, []), (37, []), (74, [])] 16 h
theorem z_306_22 : Sf_ k_306 g_306_22 := Sf_tr z_306_7 15 rfl
theorem b_306_37 {D : ca_} {V : vv_} {Qr : qr_} {Qt : qt_} (hD : Mo_ D) (hV : Cl_ wd0 D V Qr Qt m_306) (hW : Wk_ V) (x1 : Int) (x2 : Int) (x3 : Int) (M : mm_) (h :
 D 227 [.inr (.inr 6)] M (ri_ fun v1 M1 =>
  (if v1 = 0 then
   (0 ≤ x2 ∧ x2 < 1300) ∧
    D 228 [.inr (.inr 6), .inl 26] (up_ M1 199 x2 (M1 6 63)) (ri_ fun v4 M4 =>
    (if v4 = 0 then
     V 74 [rr 6, ii x1, ii x2, ii x3] [] M4
    else
     D 270 [.inr (.inr 6), .inl 2] M4 (ri_ fun v5 M5 =>
      (0 ≤ x2 ∧ x2 < 1300) ∧
       V 74 [rr 6, ii x1, ii x2, ii x3] [] (up_ M5 196 x2 v5)) Qt)) Qt
  else
   D 228 [.inr (.inr 6), .inl 26] M1 (ri_ fun v2 M2 =>
    (if v2 = 0 then
     V 74 [rr 6, ii x1, ii x2, ii x3] [] M2
    else
     D 270 [.inr (.inr 6), .inl 2] M2 (ri_ fun v3 M3 =>
      (0 ≤ x2 ∧ x2 < 1300) ∧
       V 74 [rr 6, ii x1, ii x2, ii x3] [] (up_ M3 196 x2 v3)) Qt)) Qt)) Qt) : V 37 [rr 6, ii x1, ii x2, ii x3] [] M := bx_go hD (m := (g_306_22, m_306.2)) (Cl_sf z_306_22 hV) hW [(9, []), (37, []), (74, [])] 21 h
theorem z_306_42 : Sf_ k_306 g_306_42 := Sf_tr z_306_22 20 rfl
theorem b_306_74 {D : ca_} {V : vv_} {Qr : qr_} {Qt : qt_} (hD : Mo_ D) (hV : Cl_ wd0 D V Qr Qt m_306) (hW : Wk_ V) (x1 : Int) (x2 : Int) (x3 : Int) (M : mm_) (h :
 D 244 [.inr (.inr 6), .inl 59] M (rv_ fun M1 =>
  D 227 [.inr (.inr 6)] M1 (ri_ fun v1 M2 =>
   (if v1 = 0 then
    (0 ≤ x2 ∧ x2 < 1300) ∧
     D 260 [.inr (.inr 6), .inl 0, .inl x1] (up_ M2 197 x2 (M2 6 75)) (rv_ fun M4 =>
     Qr [] M4) Qt
   else
    D 260 [.inr (.inr 6), .inl 0, .inl x1] M2 (rv_ fun M3 =>
     Qr [] M3) Qt)) Qt) Qt) : V 74 [rr 6, ii x1, ii x2, ii x3] [] M := bx_go hD (m := (g_306_42, m_306.2)) (Cl_sf z_306_42 hV) hW [(9, []), (37, []), (74, [])] 17 h
/-- X4_stim(II)I -/
theorem b_307_0 {D : ca_} {V : vv_} {Qr : qr_} {Qt : qt_} (hD : Mo_ D) (hV : Cl_ wd0 D V Qr Qt m_307) (hW : Wk_ V) (x1 : Int) (x2 : Int) (M : mm_) (h :
 D 227 [.inr (.inr 6)] M (ri_ fun v1 M1 =>
  (if v1 = 0 then
   (0 ≤ M 6 62 ∧ M 6 62 < 1300) ∧
    (0 ≤ M 6 62 ∧ M 6 62 < 1300) ∧
    (0 ≤ M 6 62 ∧ M 6 62 < 1300) ∧
    (0 ≤ M 6 62 ∧ M 6 62 < 1300) ∧
    (0 ≤ M 6 62 ∧ M 6 62 < 1300) ∧
    (0 ≤ M 6 62 ∧ M 6 62 < 1300) ∧
    (0 ≤ M 6 62 ∧ M 6 62 < 1300) ∧
    (0 ≤ M 6 62 ∧ M 6 62 < 1300) ∧
    Qr [.inl (M 6 62)] (up_ (up_ (up_ (up_ (up_ (up_ (up_ (up_ (up_ M1 192 (M 6 62) (M1 6 61)) 193 (M 6 62) x1) 194 (M 6 62) x2) 195 (M 6 62) 0) 196 (M 6 62) ((-1))) 197 (M 6 62) (M1 6 75)) 198 (M 6 62) (M1 6 63)) 199 (M 6 62) (M1 6 63)) 6 62 (w32 ((M1 6 62) + 1)))
  else
   Qr [.inl (M 6 62)] M1)) Qt) : V 0 [rr 6, ii x1, ii x2, none] [] M := bx_go hD hV hW [] 58 h
/-- X4_heard(IIZ)V -/
theorem b_308_0 {D : ca_} {V : vv_} {Qr : qr_} {Qt : qt_} (hD : Mo_ D) (hV : Cl_ wd0 D V Qr Qt m_308) (hW : Wk_ V) (x1 : Int) (x2 : Int) (x3 : Int) (M : mm_) (h :
 (0 ≤ M 6 12 ∧ M 6 12 < 1202) ∧
  D 242 [.inr (.inr 6), .inl 42] M (ri_ fun v1 M1 =>
  (if v1 = 0 then
   D 233 [.inr (.inr 6)] M1 (ri_ fun v2 M2 =>
    D 227 [.inr (.inr 6)] M2 (ri_ fun v3 M3 =>
     (if v3 = 0 then
      (0 ≤ v2 ∧ v2 < 1202) ∧
       D 251 [.inr (.inr 6), .inr (.inl (M3 151 v2))] M3 (ri_ fun v4 M4 =>
       (0 ≤ v2 ∧ v2 < 1202) ∧
        D 283 [.inr (.inr 6), .inl (M4 6 61), .inr (.inl (M4 151 v2))] M4 (ri_ fun v5 M5 =>
        (if v5 < 0 then
         V 98 [rr 6, ii x1, ii x2, ii x3, ii (M 150 (M 6 12)), ii v4, ii v2, ii v4, ii v5] [] M5
        else
         V 98 [rr 6, ii x1, ii x2, ii x3, ii (M 150 (M 6 12)), ii (w32 (100 + v5)), ii v2, ii v4, ii v5] [] M5)) Qt) Qt
     else
      Qr [] M3)) Qt) Qt
  else
   D 227 [.inr (.inr 6)] M1 (ri_ fun v6 M6 =>
    (if v6 = 0 then
     (if (200 : Int) < 0 then
      V 132 [rr 6, ii x1, ii x2, ii x3, ii (M 150 (M 6 12)), ii 200, ii (M 6 12), none, none] [] M6
     else
      D 309 [.inr (.inr 6), .inl x2, .inl 200, .inl (M 150 (M 6 12))] M6 (rv_ fun M7 =>
       V 132 [rr 6, ii x1, ii x2, ii x3, ii (M 150 (M 6 12)), ii 200, ii (M 6 12), none, none] [] M7) Qt)
    else
     Qr [] M6)) Qt)) Qt) : V 0 [rr 6, ii x1, ii x2, ii x3, none, none, none, none, none] [] M := bx_go hD hV hW [(98, []), (132, [7, 8])] 45 h
theorem i_308 : inq_ 0 k_308 = true := by decide +kernel
theorem z_308_49 : Sf_ k_308 g_308_49 := Sf_of i_308 49 rfl
theorem b_308_98 {D : ca_} {V : vv_} {Qr : qr_} {Qt : qt_} (hD : Mo_ D) (hV : Cl_ wd0 D V Qr Qt m_308) (hW : Wk_ V) (x1 : Int) (x2 : Int) (x3 : Int) (x4 : Int) (x5 : Int) (x6 : Int) (x7 : Int) (x8 : Int) (M : mm_) (h :
 (if x5 < 0 then
  D 236 [.inr (.inr 6), .inl 4, .inl x4] M (rv_ fun M3 =>
   D 227 [.inr (.inr 6)] M3 (ri_ fun v2 M4 =>
    (if v2 = 0 then
     (if x5 < 0 then
      V 132 [rr 6, ii x1, ii x2, ii x3, ii x4, ii x5, ii x6, none, none] [] M4
     else
      D 309 [.inr (.inr 6), .inl x2, .inl x5, .inl x4] M4 (rv_ fun M5 =>
       V 132 [rr 6, ii x1, ii x2, ii x3, ii x4, ii x5, ii x6, none, none] [] M5) Qt)
    else
     Qr [] M4)) Qt) Qt
 else
  D 227 [.inr (.inr 6)] M (ri_ fun v1 M1 =>
   (if v1 = 0 then
    (if x5 < 0 then
     V 132 [rr 6, ii x1, ii x2, ii x3, ii x4, ii x5, ii x6, none, none] [] M1
    else
     D 309 [.inr (.inr 6), .inl x2, .inl x5, .inl x4] M1 (rv_ fun M2 =>
      V 132 [rr 6, ii x1, ii x2, ii x3, ii x4, ii x5, ii x6, none, none] [] M2) Qt)
   else
    Qr [] M1)) Qt)) : V 98 [rr 6, ii x1, ii x2, ii x3, ii x4, ii x5, ii x6, ii x7, ii x8] [] M := bx_go hD (m := (g_308_49, m_308.2)) (Cl_sf z_308_49 hV) hW [(98, []), (132, [7, 8])] 17 h
theorem z_308_66 : Sf_ k_308 g_308_66 := Sf_tr z_308_49 17 rfl
theorem b_308_132 {D : ca_} {V : vv_} {Qr : qr_} {Qt : qt_} (hD : Mo_ D) (hV : Cl_ wd0 D V Qr Qt m_308) (hW : Wk_ V) (x1 : Int) (x2 : Int) (x3 : Int) (x4 : Int) (x5 : Int) (x6 : Int) (M : mm_) (h :
 (0 ≤ M 6 63 ∧ M 6 63 < 1300) ∧
  (0 ≤ M 6 63 ∧ M 6 63 < 1300) ∧
  (if x3 = 0 then
  Qr [] (up_ (up_ (up_ M 200 (M 6 63) x5) 201 (M 6 63) 0) 6 63 (w32 ((M 6 63) + 1)))
 else
  (if x5 = 200 then
   Qr [] (up_ (up_ (up_ M 200 (M 6 63) x5) 201 (M 6 63) 0) 6 63 (w32 ((M 6 63) + 1)))
  else
   D 237 [.inr (.inr 6), .inl 40] (up_ (up_ (up_ M 200 (M 6 63) x5) 201 (M 6 63) 0) 6 63 (w32 ((M 6 63) + 1))) (ri_ fun v1 M1 =>
    (if v1 = 0 then
     Qr [] M1
    else
     D 310 [.inr (.inr 6), .inl (M 6 63), .inl x5, .inl x4] M1 (rv_ fun M2 =>
      Qr [] M2) Qt)) Qt))) : V 132 [rr 6, ii x1, ii x2, ii x3, ii x4, ii x5, ii x6, none, none] [] M := bx_go hD (m := (g_308_66, m_308.2)) (Cl_sf z_308_66 hV) hW [(98, []), (132, [7, 8])] 34 h
/-- X4_again(III)V -/
theorem b_309_0 {D : ca_} {V : vv_} {Qr : qr_} {Qt : qt_} (hD : Mo_ D) (hV : Cl_ wd0 D V Qr Qt m_309) (hW : Wk_ V) (x1 : Int) (x2 : Int) (x3 : Int) (M : mm_) (h :
 (bl_ (M 6 16) → (if M 6 16 = 0 then
  Qr [] M
 else
  V 11 [rr 6, ii x1, ii x2, ii x3, ii 0, none, none] [] M))) : V 0 [rr 6, ii x1, ii x2, ii x3, none, none, none] [] M := bx_go hD hV hW [(11, [5, 6]), (99, [])] 6 h
theorem i_309 : inq_ 0 k_309 = true := by decide +kernel
theorem z_309_6 : Sf_ k_309 g_309_6 := Sf_of i_309 6 rfl
theorem b_309_11 {D : ca_} {V : vv_} {Qr : qr_} {Qt : qt_} (hD : Mo_ D) (hV : Cl_ wd0 D V Qr Qt m_309) (hW : Wk_ V) (x1 : Int) (x2 : Int) (x3 : Int) (x4 : Int) (M : mm_) (h :
 (if x4 < M 6 62 then
  (0 ≤ x4 ∧ x4 < 1300) ∧
   (if M 192 x4 = M 6 61 then
   (0 ≤ x4 ∧ x4 < 1300) ∧
    (0 ≤ M 6 61 ∧ M 6 61 < 6) ∧
    (if an_ (an_ (M 194 x4) x1) (w32 ((sl_ 1 (M 174 (M 6 61))) - 1)) = 0 then
    V 11 [rr 6, ii x1, ii x2, ii x3, ii (w32 (x4 + 1)), none, none] [] M
   else
    (if x4 = w32 ((M 6 62) - 1) then
     (0 ≤ x4 ∧ x4 < 1300) ∧
      V 99 [rr 6, ii x1, ii x2, ii x3, ii x4, ii (M 6 63), ii (M 198 x4)] [] M
    else
     (0 ≤ x4 ∧ x4 < 1300) ∧
      (0 ≤ x4 ∧ x4 < 1300) ∧
      V 99 [rr 6, ii x1, ii x2, ii x3, ii x4, ii (M 199 x4), ii (M 198 x4)] [] M))
  else
   V 11 [rr 6, ii x1, ii x2, ii x3, ii (w32 (x4 + 1)), none, none] [] M)
 else
  Qr [] M)) : V 11 [rr 6, ii x1, ii x2, ii x3, ii x4, none, none] [] M := bx_go hD (m := (g_309_6, m_309.2)) (Cl_sf z_309_6 hV) hW [(11, [5, 6]), (99, [])] 45 h
theorem z_309_54 : Sf_ k_309 g_309_54 := Sf_tr z_309_6 48 rfl
theorem b_309_99 {D : ca_} {V : vv_} {Qr : qr_} {Qt : qt_} (hD : Mo_ D) (hV : Cl_ wd0 D V Qr Qt m_309) (hW : Wk_ V) (x1 : Int) (x2 : Int) (x3 : Int) (x4 : Int) (x5 : Int) (x6 : Int) (M : mm_) (h :
 (if x6 < x5 then
  (0 ≤ x6 ∧ x6 < 1300) ∧
   (if M 200 x6 = x2 then
   D 236 [.inr (.inr 6), .inl 6, .inl x3] M (rv_ fun M1 =>
    V 99 [rr 6, ii x1, ii x2, ii x3, ii x4, ii x5, ii (w32 (x6 + 1))] [] M1) Qt
  else
   V 99 [rr 6, ii x1, ii x2, ii x3, ii x4, ii x5, ii (w32 (x6 + 1))] [] M)
 else
  V 11 [rr 6, ii x1, ii x2, ii x3, ii (w32 (x4 + 1)), none, none] [] M)) : V 99 [rr 6, ii x1, ii x2, ii x3, ii x4, ii x5, ii x6] [] M := bx_go hD (m := (g_309_54, m_309.2)) (Cl_sf z_309_54 hV) hW [(11, [5, 6]), (99, [])] 16 h
/-- X4_valuesOf(III)V -/
theorem b_310_0 {D : ca_} {V : vv_} {Qr : qr_} {Qt : qt_} (hD : Mo_ D) (hV : Cl_ wd0 D V Qr Qt m_310) (hW : Wk_ V) (x1 : Int) (x2 : Int) (x3 : Int) (M : mm_) (h :
 D 239 [.inr (.inr 6), .inl 40] M (rv_ fun M1 =>
  V 18 [rr 6, ii x1, ii x2, ii x3, ii 0, ii (M1 6 12), ii 1, none] [] M1) Qt) : V 0 [rr 6, ii x1, ii x2, ii x3, none, none, none, none] [] M := bx_go hD hV hW [(18, [7]), (61, []), (102, [7])] 11 h
theorem i_310 : inq_ 0 k_310 = true := by decide +kernel
theorem z_310_10 : Sf_ k_310 g_310_10 := Sf_of i_310 10 rfl
theorem b_310_18 {D : ca_} {V : vv_} {Qr : qr_} {Qt : qt_} (hD : Mo_ D) (hV : Cl_ wd0 D V Qr Qt m_310) (hW : Wk_ V) (x1 : Int) (x2 : Int) (x3 : Int) (x4 : Int) (x5 : Int) (x6 : Int) (M : mm_) (h :
 (if x6 = 0 then
  V 102 [rr 6, ii x1, ii x2, ii x3, ii x4, ii x5, ii x6, none] [] M
 else
  D 227 [.inr (.inr 6)] M (ri_ fun v1 M1 =>
   (if v1 = 0 then
    D 233 [.inr (.inr 6)] M1 (ri_ fun v2 M2 =>
     D 227 [.inr (.inr 6)] M2 (ri_ fun v3 M3 =>
      (if v3 = 0 then
       (if x4 = 3 then
        (0 ≤ v2 ∧ v2 < 1202) ∧
         D 231 [.inr (.inr 6), .inl 2, .inl (M3 150 v2)] M3 (rv_ fun M4 =>
         V 61 [rr 6, ii x1, ii x2, ii x3, ii x4, ii x5, ii x6, ii v2] [] M4) Qt
       else
        V 61 [rr 6, ii x1, ii x2, ii x3, ii x4, ii x5, ii x6, ii v2] [] M3)
      else
       V 61 [rr 6, ii x1, ii x2, ii x3, ii x4, ii x5, ii x6, ii v2] [] M3)) Qt) Qt
   else
    V 102 [rr 6, ii x1, ii x2, ii x3, ii x4, ii x5, ii x6, none] [] M1)) Qt)) : V 18 [rr 6, ii x1, ii x2, ii x3, ii x4, ii x5, ii x6, none] [] M := bx_go hD (m := (g_310_10, m_310.2)) (Cl_sf z_310_10 hV) hW [(18, [7]), (61, []), (102, [7])] 22 h
theorem z_310_31 : Sf_ k_310 g_310_31 := Sf_tr z_310_10 21 rfl
theorem b_310_61 {D : ca_} {V : vv_} {Qr : qr_} {Qt : qt_} (hD : Mo_ D) (hV : Cl_ wd0 D V Qr Qt m_310) (hW : Wk_ V) (x1 : Int) (x2 : Int) (x3 : Int) (x4 : Int) (x5 : Int) (x6 : Int) (x7 : Int) (M : mm_) (h :
 D 227 [.inr (.inr 6)] M (ri_ fun v1 M1 =>
  (if v1 = 0 then
   (bl_ (M1 6 16) → (if M1 6 16 = 0 then
    D 242 [.inr (.inr 6), .inl 44] M1 (ri_ fun v2 M2 =>
     V 18 [rr 6, ii x1, ii x2, ii x3, ii (w32 (x4 + 1)), ii x5, ii v2, none] [] M2) Qt
   else
    D 311 [.inr (.inr 6), .inl x1, .inl x2, .inl x4, .inl x7, .inl x5] M1 (rv_ fun M3 =>
     D 242 [.inr (.inr 6), .inl 44] M3 (ri_ fun v3 M4 =>
      V 18 [rr 6, ii x1, ii x2, ii x3, ii (w32 (x4 + 1)), ii x5, ii v3, none] [] M4) Qt) Qt))
  else
   Qr [] M1)) Qt) : V 61 [rr 6, ii x1, ii x2, ii x3, ii x4, ii x5, ii x6, ii x7] [] M := bx_go hD (m := (g_310_31, m_310.2)) (Cl_sf z_310_31 hV) hW [(18, [7]), (61, []), (102, [7])] 20 h
theorem z_310_51 : Sf_ k_310 g_310_51 := Sf_tr z_310_31 20 rfl
theorem b_310_102 {D : ca_} {V : vv_} {Qr : qr_} {Qt : qt_} (hD : Mo_ D) (hV : Cl_ wd0 D V Qr Qt m_310) (hW : Wk_ V) (x1 : Int) (x2 : Int) (x3 : Int) (x4 : Int) (x5 : Int) (x6 : Int) (M : mm_) (h :
 D 243 [.inr (.inr 6), .inl 41] M (rv_ fun M1 =>
  D 227 [.inr (.inr 6)] M1 (ri_ fun v1 M2 =>
   (if v1 = 0 then
    (0 ≤ x1 ∧ x1 < 1300) ∧
     (if x2 < 100 then
     (if x2 < 0 then
      (if x4 = x4 then
       Qr [] (up_ M2 201 x1 x4)
      else
       D 236 [.inr (.inr 6), .inl 5, .inl x3] (up_ M2 201 x1 x4) (rv_ fun M4 =>
        Qr [] M4) Qt)
     else
      (0 ≤ x2 ∧ x2 < 20) ∧
       (if x4 = M2 156 x2 then
       Qr [] (up_ M2 201 x1 x4)
      else
       D 236 [.inr (.inr 6), .inl 5, .inl x3] (up_ M2 201 x1 x4) (rv_ fun M3 =>
        Qr [] M3) Qt))
    else
     (if x4 = 0 then
      Qr [] (up_ M2 201 x1 x4)
     else
      D 236 [.inr (.inr 6), .inl 5, .inl x3] (up_ M2 201 x1 x4) (rv_ fun M5 =>
       Qr [] M5) Qt))
   else
    Qr [] M2)) Qt) Qt) : V 102 [rr 6, ii x1, ii x2, ii x3, ii x4, ii x5, ii x6, none] [] M := bx_go hD (m := (g_310_51, m_310.2)) (Cl_sf z_310_51 hV) hW [(18, [7]), (61, []), (102, [7])] 29 h
/-- X4_into(IIIII)V -/
theorem b_311_0 {D : ca_} {V : vv_} {Qr : qr_} {Qt : qt_} (hD : Mo_ D) (hV : Cl_ wd0 D V Qr Qt m_311) (hW : Wk_ V) (x1 : Int) (x2 : Int) (x3 : Int) (x4 : Int) (x5 : Int) (M : mm_) (h :
 (0 ≤ x4 ∧ x4 < 1202) ∧
  D 276 [.inr (.inr 6), .inl (M 6 61), .inr (.inl (M 151 x4))] M (ri_ fun v1 M1 =>
  V 21 [rr 6, ii x1, ii x2, ii x3, ii x4, ii x5, ii v1, ii x5] [] M1) Qt) : V 0 [rr 6, ii x1, ii x2, ii x3, ii x4, ii x5, none, none] [] M := bx_go hD hV hW [(21, [])] 12 h
theorem i_311 : inq_ 0 k_311 = true := by decide +kernel
theorem z_311_11 : Sf_ k_311 g_311_11 := Sf_of i_311 11 rfl
theorem b_311_21 {D : ca_} {V : vv_} {Qr : qr_} {Qt : qt_} (hD : Mo_ D) (hV : Cl_ wd0 D V Qr Qt m_311) (hW : Wk_ V) (x1 : Int) (x2 : Int) (x3 : Int) (x4 : Int) (x5 : Int) (x6 : Int) (x7 : Int) (M : mm_) (h :
 (if x7 < x4 then
  (0 ≤ x7 ∧ x7 < 1202) ∧
   (0 ≤ x4 ∧ x4 < 1202) ∧
   (if (if M 151 x7 < M 151 x4 then -1 else if M 151 x7 = M 151 x4 then 0 else 1) = 0 then
   (0 ≤ x4 ∧ x4 < 1202) ∧
    D 236 [.inr (.inr 6), .inl 3, .inl (M 150 x4)] M (rv_ fun M8 =>
    V 21 [rr 6, ii x1, ii x2, ii x3, ii x4, ii x5, ii x6, ii (w32 (x7 + 2))] [] M8) Qt
  else
   V 21 [rr 6, ii x1, ii x2, ii x3, ii x4, ii x5, ii x6, ii (w32 (x7 + 2))] [] M)
 else
  (if x6 < 0 then
   (0 ≤ x4 ∧ x4 < 1202) ∧
    D 236 [.inr (.inr 6), .inl 4, .inl (M 150 x4)] M (rv_ fun M7 =>
    Qr [] M7) Qt
  else
   (0 ≤ x6 ∧ x6 < 48) ∧
    (0 ≤ w32 ((w32 (3 * x1)) + x3) ∧ w32 ((w32 (3 * x1)) + x3) < 3900) ∧
    (0 ≤ x6 ∧ x6 < 48) ∧
    (if M 183 x6 = 0 then
    (if x2 < 0 then
     (if (1 : Int) = 0 then
      (0 ≤ x4 ∧ x4 < 1202) ∧
       D 236 [.inr (.inr 6), .inl 5, .inl (M 150 x4)] (up_ M 202 (w32 ((w32 (3 * x1)) + x3)) (M 184 x6)) (rv_ fun M2 =>
       Qr [] M2) Qt
     else
      Qr [] (up_ M 202 (w32 ((w32 (3 * x1)) + x3)) (M 184 x6)))
    else
     (if x2 < 100 then
      (0 ≤ x2 ∧ x2 < 20) ∧
       (if x3 < M 156 x2 then
       (0 ≤ x6 ∧ x6 < 48) ∧
        (0 ≤ w32 ((w32 (3 * x2)) + x3) ∧ w32 ((w32 (3 * x2)) + x3) < 60) ∧
        (if M 182 x6 = M 157 (w32 ((w32 (3 * x2)) + x3)) then
        (if (1 : Int) = 0 then
         (0 ≤ x4 ∧ x4 < 1202) ∧
          D 236 [.inr (.inr 6), .inl 5, .inl (M 150 x4)] (up_ M 202 (w32 ((w32 (3 * x1)) + x3)) (M 184 x6)) (rv_ fun M6 =>
          Qr [] M6) Qt
        else
         Qr [] (up_ M 202 (w32 ((w32 (3 * x1)) + x3)) (M 184 x6)))
       else
        (if (0 : Int) = 0 then
         (0 ≤ x4 ∧ x4 < 1202) ∧
          D 236 [.inr (.inr 6), .inl 5, .inl (M 150 x4)] (up_ M 202 (w32 ((w32 (3 * x1)) + x3)) (M 184 x6)) (rv_ fun M5 =>
          Qr [] M5) Qt
        else
         Qr [] (up_ M 202 (w32 ((w32 (3 * x1)) + x3)) (M 184 x6))))
      else
       (if (1 : Int) = 0 then
        (0 ≤ x4 ∧ x4 < 1202) ∧
         D 236 [.inr (.inr 6), .inl 5, .inl (M 150 x4)] (up_ M 202 (w32 ((w32 (3 * x1)) + x3)) (M 184 x6)) (rv_ fun M4 =>
         Qr [] M4) Qt
       else
        Qr [] (up_ M 202 (w32 ((w32 (3 * x1)) + x3)) (M 184 x6))))
     else
      (if (1 : Int) = 0 then
       (0 ≤ x4 ∧ x4 < 1202) ∧
        D 236 [.inr (.inr 6), .inl 5, .inl (M 150 x4)] (up_ M 202 (w32 ((w32 (3 * x1)) + x3)) (M 184 x6)) (rv_ fun M3 =>
        Qr [] M3) Qt
      else
       Qr [] (up_ M 202 (w32 ((w32 (3 * x1)) + x3)) (M 184 x6)))))
   else
    (if (0 : Int) = 0 then
     (0 ≤ x4 ∧ x4 < 1202) ∧
      D 236 [.inr (.inr 6), .inl 5, .inl (M 150 x4)] (up_ M 202 (w32 ((w32 (3 * x1)) + x3)) (M 184 x6)) (rv_ fun M1 =>
      Qr [] M1) Qt
    else
     Qr [] (up_ M 202 (w32 ((w32 (3 * x1)) + x3)) (M 184 x6))))))) : V 21 [rr 6, ii x1, ii x2, ii x3, ii x4, ii x5, ii x6, ii x7] [] M := bx_go hD (m := (g_311_11, m_311.2)) (Cl_sf z_311_11 hV) hW [(21, [])] 59 h
/-- X4_save(I)V -/
theorem b_312_0 {D : ca_} {V : vv_} {Qr : qr_} {Qt : qt_} (hD : Mo_ D) (hV : Cl_ wd0 D V Qr Qt m_312) (hW : Wk_ V) (x1 : Int) (M : mm_) (h :
 D 307 [.inr (.inr 6), .inl 1, .inl x1] M (ri_ fun v1 M1 =>
  D 237 [.inr (.inr 6), .inl 42] M1 (ri_ fun v2 M2 =>
   V 17 [rr 6, ii x1, ii v1, ii 1, ii v2] [] M2) Qt) Qt) : V 0 [rr 6, ii x1, none, none, none] [] M := bx_go hD hV hW [(17, [])] 12 h
theorem i_312 : inq_ 0 k_312 = true := by decide +kernel
theorem z_312_11 : Sf_ k_312 g_312_11 := Sf_of i_312 11 rfl
theorem b_312_17 {D : ca_} {V : vv_} {Qr : qr_} {Qt : qt_} (hD : Mo_ D) (hV : Cl_ wd0 D V Qr Qt m_312) (hW : Wk_ V) (x1 : Int) (x2 : Int) (x3 : Int) (x4 : Int) (M : mm_) (h :
 (if x3 = 0 then
  D 227 [.inr (.inr 6)] M (ri_ fun v1 M1 =>
   (if v1 = 0 then
    (0 ≤ x2 ∧ x2 < 1300) ∧
     D 244 [.inr (.inr 6), .inl 59] (up_ M1 199 x2 (M1 6 63)) (rv_ fun M3 =>
     Qr [] M3) Qt
   else
    D 244 [.inr (.inr 6), .inl 59] M1 (rv_ fun M2 =>
     Qr [] M2) Qt)) Qt
 else
  D 227 [.inr (.inr 6)] M (ri_ fun v2 M4 =>
   (if v2 = 0 then
    D 308 [.inr (.inr 6), .inl x2, .inl x1, .inl 0] M4 (rv_ fun M8 =>
     (if x4 = 0 then
      D 242 [.inr (.inr 6), .inl 44] M8 (ri_ fun v5 M11 =>
       (if v5 = 0 then
        (if (0 : Int) = 0 then
         V 17 [rr 6, ii x1, ii x2, ii 0, ii x4] [] M11
        else
         D 237 [.inr (.inr 6), .inl 42] M11 (ri_ fun v6 M12 =>
          (if v6 = 0 then
           V 17 [rr 6, ii x1, ii x2, ii 0, ii x4] [] M12
          else
           D 234 [.inr (.inr 6)] M12 (rv_ fun M13 =>
            V 17 [rr 6, ii x1, ii x2, ii 0, ii x4] [] M13) Qt)) Qt)
       else
        (if (1 : Int) = 0 then
         V 17 [rr 6, ii x1, ii x2, ii 1, ii x4] [] M11
        else
         D 237 [.inr (.inr 6), .inl 42] M11 (ri_ fun v7 M14 =>
          (if v7 = 0 then
           V 17 [rr 6, ii x1, ii x2, ii 1, ii x4] [] M14
          else
           D 234 [.inr (.inr 6)] M14 (rv_ fun M15 =>
            V 17 [rr 6, ii x1, ii x2, ii 1, ii x4] [] M15) Qt)) Qt))) Qt
     else
      (if (0 : Int) = 0 then
       V 17 [rr 6, ii x1, ii x2, ii 0, ii x4] [] M8
      else
       D 237 [.inr (.inr 6), .inl 42] M8 (ri_ fun v4 M9 =>
        (if v4 = 0 then
         V 17 [rr 6, ii x1, ii x2, ii 0, ii x4] [] M9
        else
         D 234 [.inr (.inr 6)] M9 (rv_ fun M10 =>
          V 17 [rr 6, ii x1, ii x2, ii 0, ii x4] [] M10) Qt)) Qt))) Qt
   else
    D 227 [.inr (.inr 6)] M4 (ri_ fun v3 M5 =>
     (if v3 = 0 then
      (0 ≤ x2 ∧ x2 < 1300) ∧
       D 244 [.inr (.inr 6), .inl 59] (up_ M5 199 x2 (M5 6 63)) (rv_ fun M7 =>
       Qr [] M7) Qt
     else
      D 244 [.inr (.inr 6), .inl 59] M5 (rv_ fun M6 =>
       Qr [] M6) Qt)) Qt)) Qt)) : V 17 [rr 6, ii x1, ii x2, ii x3, ii x4] [] M := bx_go hD (m := (g_312_11, m_312.2)) (Cl_sf z_312_11 hV) hW [(17, [])] 29 h
/-- X4_when(I)V -/
theorem b_313_0 {D : ca_} {V : vv_} {Qr : qr_} {Qt : qt_} (hD : Mo_ D) (hV : Cl_ wd0 D V Qr Qt m_313) (hW : Wk_ V) (x1 : Int) (M : mm_) (h :
 D 307 [.inr (.inr 6), .inl 2, .inl x1] M (ri_ fun v1 M1 =>
  D 270 [.inr (.inr 6), .inl 2] M1 (ri_ fun v2 M2 =>
   D 227 [.inr (.inr 6)] M2 (ri_ fun v3 M3 =>
    (if v3 = 0 then
     (0 ≤ v1 ∧ v1 < 1300) ∧
      V 27 [rr 6, ii x1, ii v1, ii v2, none] [] (up_ M3 196 v1 v2)
    else
     V 27 [rr 6, ii x1, ii v1, ii v2, none] [] M3)) Qt) Qt) Qt) : V 0 [rr 6, ii x1, none, none, none] [] M := bx_go hD hV hW [(27, [4]), (59, [4])] 18 h
theorem i_313 : inq_ 0 k_313 = true := by decide +kernel
theorem z_313_17 : Sf_ k_313 g_313_17 := Sf_of i_313 17 rfl
theorem b_313_27 {D : ca_} {V : vv_} {Qr : qr_} {Qt : qt_} (hD : Mo_ D) (hV : Cl_ wd0 D V Qr Qt m_313) (hW : Wk_ V) (x1 : Int) (x2 : Int) (x3 : Int) (M : mm_) (h :
 D 228 [.inr (.inr 6), .inl 27] M (ri_ fun v1 M1 =>
  (if v1 = 0 then
   V 59 [rr 6, ii x1, ii x2, ii x3, none] [] M1
  else
   D 248 [.inr (.inr 6), .inl 9] M1 (ri_ fun v2 M2 =>
    D 227 [.inr (.inr 6)] M2 (ri_ fun v3 M3 =>
     (if v3 = 0 then
      (0 ≤ x2 ∧ x2 < 1300) ∧
       V 59 [rr 6, ii x1, ii x2, ii x3, none] [] (up_ M3 195 x2 v2)
     else
      V 59 [rr 6, ii x1, ii x2, ii x3, none] [] M3)) Qt) Qt)) Qt) : V 27 [rr 6, ii x1, ii x2, ii x3, none] [] M := bx_go hD (m := (g_313_17, m_313.2)) (Cl_sf z_313_17 hV) hW [(27, [4]), (59, [4])] 17 h
theorem z_313_33 : Sf_ k_313 g_313_33 := Sf_tr z_313_17 16 rfl
theorem b_313_59 {D : ca_} {V : vv_} {Qr : qr_} {Qt : qt_} (hD : Mo_ D) (hV : Cl_ wd0 D V Qr Qt m_313) (hW : Wk_ V) (x1 : Int) (x2 : Int) (x3 : Int) (M : mm_) (h :
 D 244 [.inr (.inr 6), .inl 59] M (rv_ fun M1 =>
  D 227 [.inr (.inr 6)] M1 (ri_ fun v1 M2 =>
   (if v1 = 0 then
    (0 ≤ x2 ∧ x2 < 1300) ∧
     D 260 [.inr (.inr 6), .inl 0, .inl x1] (up_ M2 197 x2 (M2 6 75)) (rv_ fun M4 =>
     Qr [] M4) Qt
   else
    D 260 [.inr (.inr 6), .inl 0, .inl x1] M2 (rv_ fun M3 =>
     Qr [] M3) Qt)) Qt) Qt) : V 59 [rr 6, ii x1, ii x2, ii x3, none] [] M := bx_go hD (m := (g_313_33, m_313.2)) (Cl_sf z_313_33 hV) hW [(27, [4]), (59, [4])] 17 h
/-- X4_endStim(I)V -/
theorem b_314_0 {D : ca_} {V : vv_} {Qr : qr_} {Qt : qt_} (hD : Mo_ D) (hV : Cl_ wd0 D V Qr Qt m_314) (hW : Wk_ V) (x1 : Int) (M : mm_) (h :
 D 227 [.inr (.inr 6)] M (ri_ fun v1 M1 =>
  (if v1 = 0 then
   (0 ≤ x1 ∧ x1 < 1300) ∧
    (0 ≤ x1 ∧ x1 < 1300) ∧
    (if M1 199 x1 < M1 198 x1 then
    (0 ≤ x1 ∧ x1 < 1300) ∧
     (0 ≤ x1 ∧ x1 < 1300) ∧
     Qr [] (up_ M1 199 x1 (M1 198 x1))
   else
    (0 ≤ x1 ∧ x1 < 1300) ∧
     (0 ≤ x1 ∧ x1 < 1300) ∧
     Qr [] (up_ M1 199 x1 (M1 199 x1)))
  else
   Qr [] M1)) Qt) : V 0 [rr 6, ii x1] [] M := bx_go hD hV hW [] 22 h
/-- X4_resolve()V -/
theorem b_315_0 {D : ca_} {V : vv_} {Qr : qr_} {Qt : qt_} (hD : Mo_ D) (hV : Cl_ wd0 D V Qr Qt m_315) (hW : Wk_ V)  (M : mm_) (h :
 V 2 [rr 6, ii 0, none, none] [] M) : V 0 [rr 6, none, none, none] [] M := bx_go hD hV hW [(2, [2, 3]), (41, [2, 3]), (86, [3]), (123, [])] 3 h
theorem b_315_2 {D : ca_} {V : vv_} {Qr : qr_} {Qt : qt_} (hD : Mo_ D) (hV : Cl_ wd0 D V Qr Qt m_315) (hW : Wk_ V) (x1 : Int) (M : mm_) (h :
 (if x1 < M 6 18 then
  (0 ≤ x1 ∧ x1 < 10) ∧
   (if (if M 158 x1 < 0 then -1 else if M 158 x1 = 0 then 0 else 1) = 0 then
   (0 ≤ x1 ∧ x1 < 10) ∧
    V 41 [rr 6, ii x1, none, none] [] (up_ M 160 x1 ((-1)))
  else
   (0 ≤ x1 ∧ x1 < 10) ∧
    D 247 [.inr (.inr 6), .inr (.inl (M 158 x1))] M (ri_ fun v1 M1 =>
    (0 ≤ x1 ∧ x1 < 10) ∧
     V 41 [rr 6, ii x1, none, none] [] (up_ M1 160 x1 v1)) Qt)
 else
  Qr [] M)) : V 2 [rr 6, ii x1, none, none] [] M := bx_go hD hV hW [(2, [2, 3]), (41, [2, 3]), (86, [3]), (123, [])] 22 h
theorem i_315 : inq_ 0 k_315 = true := by decide +kernel
theorem z_315_25 : Sf_ k_315 g_315_25 := Sf_of i_315 25 rfl
theorem b_315_41 {D : ca_} {V : vv_} {Qr : qr_} {Qt : qt_} (hD : Mo_ D) (hV : Cl_ wd0 D V Qr Qt m_315) (hW : Wk_ V) (x1 : Int) (M : mm_) (h :
 (0 ≤ x1 ∧ x1 < 10) ∧
  (if (if M 159 x1 < 0 then -1 else if M 159 x1 = 0 then 0 else 1) = 0 then
  (0 ≤ x1 ∧ x1 < 10) ∧
   (0 ≤ x1 ∧ x1 < 10) ∧
   (0 ≤ x1 ∧ x1 < 10) ∧
   V 86 [rr 6, ii x1, ii (M 165 x1), none] [] (up_ (up_ M 161 x1 ((-1))) 164 x1 0)
 else
  (0 ≤ x1 ∧ x1 < 10) ∧
   D 247 [.inr (.inr 6), .inr (.inl (M 159 x1))] M (ri_ fun v1 M1 =>
   (0 ≤ x1 ∧ x1 < 10) ∧
    (0 ≤ x1 ∧ x1 < 10) ∧
    (0 ≤ x1 ∧ x1 < 10) ∧
    V 86 [rr 6, ii x1, ii (M1 165 x1), none] [] (up_ (up_ M1 161 x1 v1) 164 x1 0)) Qt)) : V 41 [rr 6, ii x1, none, none] [] M := bx_go hD (m := (g_315_25, m_315.2)) (Cl_sf z_315_25 hV) hW [(2, [2, 3]), (41, [2, 3]), (86, [3]), (123, [])] 28 h
theorem z_315_54 : Sf_ k_315 g_315_54 := Sf_tr z_315_25 29 rfl
theorem b_315_86 {D : ca_} {V : vv_} {Qr : qr_} {Qt : qt_} (hD : Mo_ D) (hV : Cl_ wd0 D V Qr Qt m_315) (hW : Wk_ V) (x1 : Int) (x2 : Int) (M : mm_) (h :
 (0 ≤ x2 ∧ x2 < 1202) ∧
  (if M 149 x2 = 1 then
  (0 ≤ x2 ∧ x2 < 1202) ∧
   D 251 [.inr (.inr 6), .inr (.inl (M 151 x2))] M (ri_ fun v1 M1 =>
   (if v1 < 0 then
    V 123 [rr 6, ii x1, ii x2, ii v1] [] M1
   else
    (0 ≤ x1 ∧ x1 < 10) ∧
     (0 ≤ x1 ∧ x1 < 10) ∧
     V 123 [rr 6, ii x1, ii x2, ii v1] [] (up_ M1 164 x1 (or_ (M1 164 x1) (sl_ 1 v1))))) Qt
 else
  V 2 [rr 6, ii (w32 (x1 + 1)), none, none] [] M)) : V 86 [rr 6, ii x1, ii x2, none] [] M := bx_go hD (m := (g_315_54, m_315.2)) (Cl_sf z_315_54 hV) hW [(2, [2, 3]), (41, [2, 3]), (86, [3]), (123, [])] 26 h
theorem z_315_79 : Sf_ k_315 g_315_79 := Sf_tr z_315_54 25 rfl
theorem b_315_123 {D : ca_} {V : vv_} {Qr : qr_} {Qt : qt_} (hD : Mo_ D) (hV : Cl_ wd0 D V Qr Qt m_315) (hW : Wk_ V) (x1 : Int) (x2 : Int) (x3 : Int) (M : mm_) (h :
 (0 ≤ w32 (x2 + 1) ∧ w32 (x2 + 1) < 1202) ∧
  (if M 149 (w32 (x2 + 1)) = 3 then
  (0 ≤ w32 (x2 + 1) ∧ w32 (x2 + 1) < 1202) ∧
   (if (if M 151 (w32 (x2 + 1)) < 44 then -1 else if M 151 (w32 (x2 + 1)) = 44 then 0 else 1) = 0 then
   V 86 [rr 6, ii x1, ii (w32 (x2 + 2)), none] [] M
  else
   V 2 [rr 6, ii (w32 (x1 + 1)), none, none] [] M)
 else
  V 2 [rr 6, ii (w32 (x1 + 1)), none, none] [] M)) : V 123 [rr 6, ii x1, ii x2, ii x3] [] M := bx_go hD (m := (g_315_79, m_315.2)) (Cl_sf z_315_79 hV) hW [(2, [2, 3]), (41, [2, 3]), (86, [3]), (123, [])] 21 h
/-- X4_warn()V -/
theorem b_316_0 {D : ca_} {V : vv_} {Qr : qr_} {Qt : qt_} (hD : Mo_ D) (hV : Cl_ wd0 D V Qr Qt m_316) (hW : Wk_ V)  (M : mm_) (h :
 V 7 [rr 6, ii 0, none, none, none, none] [] (up_ M 6 120 0)) : V 0 [rr 6, none, none, none, none, none] [] M := bx_go hD hV hW [(7, [2, 3, 4, 5]), (22, [3, 4, 5]), (87, [5]), (135, [5]), (193, [5]), (244, [2, 3, 4, 5]), (259, [5]), (307, [5]), (325, []), (381, [5]), (424, [5])] 6 h
theorem b_316_7 {D : ca_} {V : vv_} {Qr : qr_} {Qt : qt_} (hD : Mo_ D) (hV : Cl_ wd0 D V Qr Qt m_316) (hW : Wk_ V) (x1 : Int) (M : mm_) (h :
 (if x1 < M 6 19 then
  D 317 [.inr (.inr 6), .inl x1] M (rv_ fun M1 =>
   V 22 [rr 6, ii x1, ii 0, none, none, none] [] M1) Qt
 else
  V 244 [rr 6, ii 0, none, none, none, none] [] M)) : V 7 [rr 6, ii x1, none, none, none, none] [] M := bx_go hD hV hW [(7, [2, 3, 4, 5]), (22, [3, 4, 5]), (87, [5]), (135, [5]), (193, [5]), (244, [2, 3, 4, 5]), (259, [5]), (307, [5]), (325, []), (381, [5]), (424, [5])] 10 h
theorem i_316 : inq_ 0 k_316 = true := by decide +kernel
theorem z_316_14 : Sf_ k_316 g_316_14 := Sf_of i_316 14 rfl
theorem b_316_22 {D : ca_} {V : vv_} {Qr : qr_} {Qt : qt_} (hD : Mo_ D) (hV : Cl_ wd0 D V Qr Qt m_316) (hW : Wk_ V) (x1 : Int) (x2 : Int) (M : mm_) (h :
 (0 ≤ x1 ∧ x1 < 6) ∧
  (if x2 < M 174 x1 then
  (0 ≤ x1 ∧ x1 < 6) ∧
   (if an_ (sr_ (M 237 x1) x2) 1 = 0 then
   (0 ≤ w32 ((w32 (12 * x1)) + x2) ∧ w32 ((w32 (12 * x1)) + x2) < 72) ∧
    D 318 [.inr (.inr 6), .inl 1, .inl (M 186 (w32 ((w32 (12 * x1)) + x2)))] M (rv_ fun M1 =>
    V 22 [rr 6, ii x1, ii (w32 (x2 + 1)), none, none, none] [] M1) Qt
  else
   V 22 [rr 6, ii x1, ii (w32 (x2 + 1)), none, none, none] [] M)
 else
  (0 ≤ x1 ∧ x1 < 6) ∧
   (if M 168 x1 ≤ 0 then
   V 87 [rr 6, ii x1, ii 0, ii 0, ii 0, none] [] M
  else
   V 87 [rr 6, ii x1, ii 1, ii 0, ii 0, none] [] M))) : V 22 [rr 6, ii x1, ii x2, none, none, none] [] M := bx_go hD (m := (g_316_14, m_316.2)) (Cl_sf z_316_14 hV) hW [(7, [2, 3, 4, 5]), (22, [3, 4, 5]), (87, [5]), (135, [5]), (193, [5]), (244, [2, 3, 4, 5]), (259, [5]), (307, [5]), (325, []), (381, [5]), (424, [5])] 29 h
theorem z_316_55 : Sf_ k_316 g_316_55 := Sf_tr z_316_14 41 rfl
theorem b_316_87 {D : ca_} {V : vv_} {Qr : qr_} {Qt : qt_} (hD : Mo_ D) (hV : Cl_ wd0 D V Qr Qt m_316) (hW : Wk_ V) (x1 : Int) (x2 : Int) (x3 : Int) (x4 : Int) (M : mm_) (h :
 (if x4 < M 6 75 then
  (0 ≤ x4 ∧ x4 < 1300) ∧
   (if M 203 x4 = 5 then
   (0 ≤ x4 ∧ x4 < 1300) ∧
    (if M 205 x4 = x1 then
    V 87 [rr 6, ii x1, ii (or_ x2 1), ii x3, ii (w32 (x4 + 1)), none] [] M
   else
    V 87 [rr 6, ii x1, ii (or_ x2 0), ii x3, ii (w32 (x4 + 1)), none] [] M)
  else
   V 87 [rr 6, ii x1, ii (or_ x2 0), ii x3, ii (w32 (x4 + 1)), none] [] M)
 else
  V 135 [rr 6, ii x1, ii x2, ii x3, ii 0, none] [] M)) : V 87 [rr 6, ii x1, ii x2, ii x3, ii x4, none] [] M := bx_go hD (m := (g_316_55, m_316.2)) (Cl_sf z_316_55 hV) hW [(7, [2, 3, 4, 5]), (22, [3, 4, 5]), (87, [5]), (135, [5]), (193, [5]), (244, [2, 3, 4, 5]), (259, [5]), (307, [5]), (325, []), (381, [5]), (424, [5])] 24 h
theorem z_316_81 : Sf_ k_316 g_316_81 := Sf_tr z_316_55 26 rfl
theorem b_316_135 {D : ca_} {V : vv_} {Qr : qr_} {Qt : qt_} (hD : Mo_ D) (hV : Cl_ wd0 D V Qr Qt m_316) (hW : Wk_ V) (x1 : Int) (x2 : Int) (x3 : Int) (x4 : Int) (M : mm_) (h :
 (if x4 < M 6 76 then
  (0 ≤ x4 ∧ x4 < 1300) ∧
   (if M 211 x4 = x1 then
   (0 ≤ x4 ∧ x4 < 1300) ∧
    V 135 [rr 6, ii x1, ii x2, ii (or_ x3 (M 214 x4)), ii (w32 (x4 + 1)), none] [] M
  else
   V 135 [rr 6, ii x1, ii x2, ii (or_ x3 0), ii (w32 (x4 + 1)), none] [] M)
 else
  (if x2 = 0 then
   (0 ≤ x1 ∧ x1 < 6) ∧
    D 318 [.inr (.inr 6), .inl 4, .inl (M 167 x1)] M (rv_ fun M1 =>
    V 193 [rr 6, ii x1, ii x2, ii x3, ii 0, none] [] M1) Qt
  else
   V 193 [rr 6, ii x1, ii x2, ii x3, ii 0, none] [] M))) : V 135 [rr 6, ii x1, ii x2, ii x3, ii x4, none] [] M := bx_go hD (m := (g_316_81, m_316.2)) (Cl_sf z_316_81 hV) hW [(7, [2, 3, 4, 5]), (22, [3, 4, 5]), (87, [5]), (135, [5]), (193, [5]), (244, [2, 3, 4, 5]), (259, [5]), (307, [5]), (325, []), (381, [5]), (424, [5])] 21 h
theorem z_316_113 : Sf_ k_316 g_316_113 := Sf_tr z_316_81 32 rfl
theorem b_316_193 {D : ca_} {V : vv_} {Qr : qr_} {Qt : qt_} (hD : Mo_ D) (hV : Cl_ wd0 D V Qr Qt m_316) (hW : Wk_ V) (x1 : Int) (x2 : Int) (x3 : Int) (x4 : Int) (M : mm_) (h :
 (0 ≤ x1 ∧ x1 < 6) ∧
  (if x4 < M 175 x1 then
  (if an_ (sr_ x3 x4) 1 = 0 then
   (0 ≤ w32 ((w32 (10 * x1)) + x4) ∧ w32 ((w32 (10 * x1)) + x4) < 60) ∧
    D 318 [.inr (.inr 6), .inl 5, .inl (M 187 (w32 ((w32 (10 * x1)) + x4)))] M (rv_ fun M1 =>
    V 193 [rr 6, ii x1, ii x2, ii x3, ii (w32 (x4 + 1)), none] [] M1) Qt
  else
   V 193 [rr 6, ii x1, ii x2, ii x3, ii (w32 (x4 + 1)), none] [] M)
 else
  V 7 [rr 6, ii (w32 (x1 + 1)), none, none, none, none] [] M)) : V 193 [rr 6, ii x1, ii x2, ii x3, ii x4, none] [] M := bx_go hD (m := (g_316_113, m_316.2)) (Cl_sf z_316_113 hV) hW [(7, [2, 3, 4, 5]), (22, [3, 4, 5]), (87, [5]), (135, [5]), (193, [5]), (244, [2, 3, 4, 5]), (259, [5]), (307, [5]), (325, []), (381, [5]), (424, [5])] 26 h
theorem z_316_142 : Sf_ k_316 g_316_142 := Sf_tr z_316_113 29 rfl
theorem b_316_244 {D : ca_} {V : vv_} {Qr : qr_} {Qt : qt_} (hD : Mo_ D) (hV : Cl_ wd0 D V Qr Qt m_316) (hW : Wk_ V) (x1 : Int) (M : mm_) (h :
 (if x1 < M 6 17 then
  V 259 [rr 6, ii x1, ii 0, ii 0, ii 0, none] [] M
 else
  Qr [] M)) : V 244 [rr 6, ii x1, none, none, none, none] [] M := bx_go hD (m := (g_316_142, m_316.2)) (Cl_sf z_316_142 hV) hW [(7, [2, 3, 4, 5]), (22, [3, 4, 5]), (87, [5]), (135, [5]), (193, [5]), (244, [2, 3, 4, 5]), (259, [5]), (307, [5]), (325, []), (381, [5]), (424, [5])] 11 h
theorem z_316_152 : Sf_ k_316 g_316_152 := Sf_tr z_316_142 10 rfl
theorem b_316_259 {D : ca_} {V : vv_} {Qr : qr_} {Qt : qt_} (hD : Mo_ D) (hV : Cl_ wd0 D V Qr Qt m_316) (hW : Wk_ V) (x1 : Int) (x2 : Int) (x3 : Int) (x4 : Int) (M : mm_) (h :
 (if x4 < M 6 75 then
  (0 ≤ x4 ∧ x4 < 1300) ∧
   (if M 203 x4 = 2 then
   (0 ≤ x4 ∧ x4 < 1300) ∧
    (if M 205 x4 = x1 then
    V 259 [rr 6, ii x1, ii (or_ x2 1), ii x3, ii (w32 (x4 + 1)), none] [] M
   else
    V 259 [rr 6, ii x1, ii (or_ x2 0), ii x3, ii (w32 (x4 + 1)), none] [] M)
  else
   V 259 [rr 6, ii x1, ii (or_ x2 0), ii x3, ii (w32 (x4 + 1)), none] [] M)
 else
  V 307 [rr 6, ii x1, ii x2, ii x3, ii 0, none] [] M)) : V 259 [rr 6, ii x1, ii x2, ii x3, ii x4, none] [] M := bx_go hD (m := (g_316_152, m_316.2)) (Cl_sf z_316_152 hV) hW [(7, [2, 3, 4, 5]), (22, [3, 4, 5]), (87, [5]), (135, [5]), (193, [5]), (244, [2, 3, 4, 5]), (259, [5]), (307, [5]), (325, []), (381, [5]), (424, [5])] 24 h
theorem z_316_178 : Sf_ k_316 g_316_178 := Sf_tr z_316_152 26 rfl
theorem b_316_307 {D : ca_} {V : vv_} {Qr : qr_} {Qt : qt_} (hD : Mo_ D) (hV : Cl_ wd0 D V Qr Qt m_316) (hW : Wk_ V) (x1 : Int) (x2 : Int) (x3 : Int) (x4 : Int) (M : mm_) (h :
 (if x4 < M 6 62 then
  (0 ≤ x4 ∧ x4 < 1300) ∧
   V 325 [rr 6, ii x1, ii x2, ii x3, ii x4, ii (M 198 x4)] [] M
 else
  V 381 [rr 6, ii x1, ii x2, ii x3, ii 0, none] [] M)) : V 307 [rr 6, ii x1, ii x2, ii x3, ii x4, none] [] M := bx_go hD (m := (g_316_178, m_316.2)) (Cl_sf z_316_178 hV) hW [(7, [2, 3, 4, 5]), (22, [3, 4, 5]), (87, [5]), (135, [5]), (193, [5]), (244, [2, 3, 4, 5]), (259, [5]), (307, [5]), (325, []), (381, [5]), (424, [5])] 10 h
theorem z_316_187 : Sf_ k_316 g_316_187 := Sf_tr z_316_178 9 rfl
theorem b_316_325 {D : ca_} {V : vv_} {Qr : qr_} {Qt : qt_} (hD : Mo_ D) (hV : Cl_ wd0 D V Qr Qt m_316) (hW : Wk_ V) (x1 : Int) (x2 : Int) (x3 : Int) (x4 : Int) (x5 : Int) (M : mm_) (h :
 (0 ≤ x4 ∧ x4 < 1300) ∧
  (if x5 < M 199 x4 then
  (0 ≤ x4 ∧ x4 < 1300) ∧
   (if M 193 x4 = 0 then
   (0 ≤ x5 ∧ x5 < 1300) ∧
    (if M 200 x5 = x1 then
    V 325 [rr 6, ii x1, ii x2, ii (or_ x3 1), ii x4, ii (w32 (x5 + 1))] [] M
   else
    V 325 [rr 6, ii x1, ii x2, ii (or_ x3 0), ii x4, ii (w32 (x5 + 1))] [] M)
  else
   V 325 [rr 6, ii x1, ii x2, ii (or_ x3 0), ii x4, ii (w32 (x5 + 1))] [] M)
 else
  V 307 [rr 6, ii x1, ii x2, ii x3, ii (w32 (x4 + 1)), none] [] M)) : V 325 [rr 6, ii x1, ii x2, ii x3, ii x4, ii x5] [] M := bx_go hD (m := (g_316_187, m_316.2)) (Cl_sf z_316_187 hV) hW [(7, [2, 3, 4, 5]), (22, [3, 4, 5]), (87, [5]), (135, [5]), (193, [5]), (244, [2, 3, 4, 5]), (259, [5]), (307, [5]), (325, []), (381, [5]), (424, [5])] 25 h
theorem z_316_216 : Sf_ k_316 g_316_216 := Sf_tr z_316_187 29 rfl
theorem b_316_381 {D : ca_} {V : vv_} {Qr : qr_} {Qt : qt_} (hD : Mo_ D) (hV : Cl_ wd0 D V Qr Qt m_316) (hW : Wk_ V) (x1 : Int) (x2 : Int) (x3 : Int) (x4 : Int) (M : mm_) (h :
 (if x4 < M 6 18 then
  (0 ≤ x4 ∧ x4 < 10) ∧
   (if M 160 x4 = (-1) then
   (0 ≤ x4 ∧ x4 < 10) ∧
    (if an_ (sr_ (M 164 x4) x1) 1 = 1 then
    V 424 [rr 6, ii x1, ii (or_ x2 1), ii x3, ii x4, none] [] M
   else
    V 424 [rr 6, ii x1, ii (or_ x2 0), ii x3, ii x4, none] [] M)
  else
   V 424 [rr 6, ii x1, ii (or_ x2 0), ii x3, ii x4, none] [] M)
 else
  (if x2 = 0 then
   (0 ≤ x1 ∧ x1 < 20) ∧
    D 318 [.inr (.inr 6), .inl 2, .inl (M 155 x1)] M (rv_ fun M2 =>
    (if x3 = 0 then
     (0 ≤ x1 ∧ x1 < 20) ∧
      D 318 [.inr (.inr 6), .inl 3, .inl (M2 155 x1)] M2 (rv_ fun M3 =>
      V 244 [rr 6, ii (w32 (x1 + 1)), none, none, none, none] [] M3) Qt
    else
     V 244 [rr 6, ii (w32 (x1 + 1)), none, none, none, none] [] M2)) Qt
  else
   (if x3 = 0 then
    (0 ≤ x1 ∧ x1 < 20) ∧
     D 318 [.inr (.inr 6), .inl 3, .inl (M 155 x1)] M (rv_ fun M1 =>
     V 244 [rr 6, ii (w32 (x1 + 1)), none, none, none, none] [] M1) Qt
   else
    V 244 [rr 6, ii (w32 (x1 + 1)), none, none, none, none] [] M)))) : V 381 [rr 6, ii x1, ii x2, ii x3, ii x4, none] [] M := bx_go hD (m := (g_316_216, m_316.2)) (Cl_sf z_316_216 hV) hW [(7, [2, 3, 4, 5]), (22, [3, 4, 5]), (87, [5]), (135, [5]), (193, [5]), (244, [2, 3, 4, 5]), (259, [5]), (307, [5]), (325, []), (381, [5]), (424, [5])] 26 h
theorem z_316_242 : Sf_ k_316 g_316_242 := Sf_tr z_316_216 26 rfl
theorem b_316_424 {D : ca_} {V : vv_} {Qr : qr_} {Qt : qt_} (hD : Mo_ D) (hV : Cl_ wd0 D V Qr Qt m_316) (hW : Wk_ V) (x1 : Int) (x2 : Int) (x3 : Int) (x4 : Int) (M : mm_) (h :
 (0 ≤ x4 ∧ x4 < 10) ∧
  (if M 161 x4 = (-1) then
  (0 ≤ x4 ∧ x4 < 10) ∧
   (if an_ (sr_ (M 164 x4) x1) 1 = 1 then
   V 381 [rr 6, ii x1, ii x2, ii (or_ x3 1), ii (w32 (x4 + 1)), none] [] M
  else
   V 381 [rr 6, ii x1, ii x2, ii (or_ x3 0), ii (w32 (x4 + 1)), none] [] M)
 else
  V 381 [rr 6, ii x1, ii x2, ii (or_ x3 0), ii (w32 (x4 + 1)), none] [] M)) : V 424 [rr 6, ii x1, ii x2, ii x3, ii x4, none] [] M := bx_go hD (m := (g_316_242, m_316.2)) (Cl_sf z_316_242 hV) hW [(7, [2, 3, 4, 5]), (22, [3, 4, 5]), (87, [5]), (135, [5]), (193, [5]), (244, [2, 3, 4, 5]), (259, [5]), (307, [5]), (325, []), (381, [5]), (424, [5])] 24 h
/-- X4_come(I)V -/
theorem b_317_0 {D : ca_} {V : vv_} {Qr : qr_} {Qt : qt_} (hD : Mo_ D) (hV : Cl_ wd0 D V Qr Qt m_317) (hW : Wk_ V) (x1 : Int) (M : mm_) (h :
 (0 ≤ x1 ∧ x1 < 6) ∧
  V 9 [rr 6, ii x1, ii 0, none, none, none] [] (up_ M 237 x1 0)) : V 0 [rr 6, ii x1, none, none, none, none] [] M := bx_go hD hV hW [(9, [3, 4, 5]), (55, [3, 4, 5]), (63, [4, 5]), (127, [4, 5]), (177, [5])] 8 h
theorem i_317 : inq_ 0 k_317 = true := by decide +kernel
theorem z_317_7 : Sf_ k_317 g_317_7 := Sf_of i_317 7 rfl
theorem b_317_9 {D : ca_} {V : vv_} {Qr : qr_} {Qt : qt_} (hD : Mo_ D) (hV : Cl_ wd0 D V Qr Qt m_317) (hW : Wk_ V) (x1 : Int) (x2 : Int) (M : mm_) (h :
 (if x2 < M 6 76 then
  (0 ≤ x2 ∧ x2 < 1300) ∧
   (if M 211 x2 = x1 then
   (0 ≤ x2 ∧ x2 < 1300) ∧ (bl_ (M 215 x2) →
    (if M 215 x2 = 0 then
    ((0 ≤ x2 ∧ x2 < 1300) ∧ bl_ 0) ∧
     V 9 [rr 6, ii x1, ii (w32 (x2 + 1)), none, none, none] [] (up_ M 238 x2 0)
   else
    ((0 ≤ x2 ∧ x2 < 1300) ∧ bl_ 1) ∧
     V 9 [rr 6, ii x1, ii (w32 (x2 + 1)), none, none, none] [] (up_ M 238 x2 1)))
  else
   ((0 ≤ x2 ∧ x2 < 1300) ∧ bl_ 0) ∧
    V 9 [rr 6, ii x1, ii (w32 (x2 + 1)), none, none, none] [] (up_ M 238 x2 0))
 else
  V 55 [rr 6, ii x1, ii 1, none, none, none] [] M)) : V 9 [rr 6, ii x1, ii x2, none, none, none] [] M := bx_go hD (m := (g_317_7, m_317.2)) (Cl_sf z_317_7 hV) hW [(9, [3, 4, 5]), (55, [3, 4, 5]), (63, [4, 5]), (127, [4, 5]), (177, [5])] 24 h
theorem z_317_33 : Sf_ k_317 g_317_33 := Sf_tr z_317_7 26 rfl
theorem b_317_55 {D : ca_} {V : vv_} {Qr : qr_} {Qt : qt_} (hD : Mo_ D) (hV : Cl_ wd0 D V Qr Qt m_317) (hW : Wk_ V) (x1 : Int) (x2 : Int) (M : mm_) (h :
 (if x2 = 0 then
  Qr [] M
 else
  V 63 [rr 6, ii x1, ii 0, ii 0, none, none] [] M)) : V 55 [rr 6, ii x1, ii x2, none, none, none] [] M := bx_go hD (m := (g_317_33, m_317.2)) (Cl_sf z_317_33 hV) hW [(9, [3, 4, 5]), (55, [3, 4, 5]), (63, [4, 5]), (127, [4, 5]), (177, [5])] 7 h
theorem z_317_39 : Sf_ k_317 g_317_39 := Sf_tr z_317_33 6 rfl
theorem b_317_63 {D : ca_} {V : vv_} {Qr : qr_} {Qt : qt_} (hD : Mo_ D) (hV : Cl_ wd0 D V Qr Qt m_317) (hW : Wk_ V) (x1 : Int) (x2 : Int) (x3 : Int) (M : mm_) (h :
 (if x3 < M 6 76 then
  (0 ≤ x3 ∧ x3 < 1300) ∧
   (if M 211 x3 = x1 then
   (0 ≤ x3 ∧ x3 < 1300) ∧ (bl_ (M 238 x3) →
    (if M 238 x3 = 0 then
    (0 ≤ x3 ∧ x3 < 1300) ∧ (bl_ (M 215 x3) →
     (if M 215 x3 = 0 then
     (0 ≤ x3 ∧ x3 < 1300) ∧
      (0 ≤ x1 ∧ x1 < 6) ∧
      (if an_ (M 212 x3) (M 237 x1) = 0 then
      V 127 [rr 6, ii x1, ii x2, ii x3, none, none] [] M
     else
      ((0 ≤ x3 ∧ x3 < 1300) ∧ bl_ 1) ∧
       V 127 [rr 6, ii x1, ii 1, ii x3, none, none] [] (up_ M 238 x3 1))
    else
     V 127 [rr 6, ii x1, ii x2, ii x3, none, none] [] M))
   else
    V 127 [rr 6, ii x1, ii x2, ii x3, none, none] [] M))
  else
   V 63 [rr 6, ii x1, ii x2, ii (w32 (x3 + 1)), none, none] [] M)
 else
  V 55 [rr 6, ii x1, ii x2, none, none, none] [] M)) : V 63 [rr 6, ii x1, ii x2, ii x3, none, none] [] M := bx_go hD (m := (g_317_39, m_317.2)) (Cl_sf z_317_39 hV) hW [(9, [3, 4, 5]), (55, [3, 4, 5]), (63, [4, 5]), (127, [4, 5]), (177, [5])] 38 h
theorem z_317_77 : Sf_ k_317 g_317_77 := Sf_tr z_317_39 38 rfl
theorem b_317_127 {D : ca_} {V : vv_} {Qr : qr_} {Qt : qt_} (hD : Mo_ D) (hV : Cl_ wd0 D V Qr Qt m_317) (hW : Wk_ V) (x1 : Int) (x2 : Int) (x3 : Int) (M : mm_) (h :
 (0 ≤ x3 ∧ x3 < 1300) ∧ (bl_ (M 238 x3) →
  (if M 238 x3 = 0 then
  V 63 [rr 6, ii x1, ii x2, ii (w32 (x3 + 1)), none, none] [] M
 else
  (0 ≤ x3 ∧ x3 < 1300) ∧
   (0 ≤ x1 ∧ x1 < 6) ∧
   (if an_ (M 213 x3) (xo_ (M 237 x1) ((-1))) = 0 then
   V 177 [rr 6, ii x1, ii x2, ii x3, ii 0, none] [] M
  else
   (0 ≤ x1 ∧ x1 < 6) ∧
    (0 ≤ x3 ∧ x3 < 1300) ∧
    (0 ≤ x1 ∧ x1 < 6) ∧
    V 177 [rr 6, ii x1, ii 1, ii x3, ii 0, none] [] (up_ M 237 x1 (or_ (M 237 x1) (M 213 x3))))))) : V 127 [rr 6, ii x1, ii x2, ii x3, none, none] [] M := bx_go hD (m := (g_317_77, m_317.2)) (Cl_sf z_317_77 hV) hW [(9, [3, 4, 5]), (55, [3, 4, 5]), (63, [4, 5]), (127, [4, 5]), (177, [5])] 33 h
theorem z_317_110 : Sf_ k_317 g_317_110 := Sf_tr z_317_77 33 rfl
theorem b_317_177 {D : ca_} {V : vv_} {Qr : qr_} {Qt : qt_} (hD : Mo_ D) (hV : Cl_ wd0 D V Qr Qt m_317) (hW : Wk_ V) (x1 : Int) (x2 : Int) (x3 : Int) (x4 : Int) (M : mm_) (h :
 (0 ≤ x1 ∧ x1 < 6) ∧
  (if x4 < M 175 x1 then
  (0 ≤ w32 ((w32 (10 * x1)) + x4) ∧ w32 ((w32 (10 * x1)) + x4) < 60) ∧
   (0 ≤ x3 ∧ x3 < 1300) ∧
   (if an_ (sr_ (M 214 x3) x4) 1 = 1 then
   (0 ≤ M 189 (w32 ((w32 (10 * x1)) + x4)) ∧ M 189 (w32 ((w32 (10 * x1)) + x4)) < 1300) ∧ (bl_ (M 238 (M 189 (w32 ((w32 (10 * x1)) + x4)))) →
    (if M 238 (M 189 (w32 ((w32 (10 * x1)) + x4))) = 0 then
    ((0 ≤ M 189 (w32 ((w32 (10 * x1)) + x4)) ∧ M 189 (w32 ((w32 (10 * x1)) + x4)) < 1300) ∧ bl_ 1) ∧
     V 177 [rr 6, ii x1, ii 1, ii x3, ii (w32 (x4 + 1)), none] [] (up_ M 238 (M 189 (w32 ((w32 (10 * x1)) + x4))) 1)
   else
    V 177 [rr 6, ii x1, ii x2, ii x3, ii (w32 (x4 + 1)), none] [] M))
  else
   V 177 [rr 6, ii x1, ii x2, ii x3, ii (w32 (x4 + 1)), none] [] M)
 else
  V 63 [rr 6, ii x1, ii x2, ii (w32 (x3 + 1)), none, none] [] M)) : V 177 [rr 6, ii x1, ii x2, ii x3, ii x4, none] [] M := bx_go hD (m := (g_317_110, m_317.2)) (Cl_sf z_317_110 hV) hW [(9, [3, 4, 5]), (55, [3, 4, 5]), (63, [4, 5]), (127, [4, 5]), (177, [5])] 40 h
/-- X4_warnOf(II)V -/
theorem b_318_0 {D : ca_} {V : vv_} {Qr : qr_} {Qt : qt_} (hD : Mo_ D) (hV : Cl_ wd0 D V Qr Qt m_318) (hW : Wk_ V) (x1 : Int) (x2 : Int) (M : mm_) (h :
 V 5 [rr 6, ii x1, ii x2, ii (M 6 120)] [] M) : V 0 [rr 6, ii x1, ii x2, none] [] M := bx_go hD hV hW [(5, []), (45, []), (79, [])] 4 h
theorem b_318_5 {D : ca_} {V : vv_} {Qr : qr_} {Qt : qt_} (hD : Mo_ D) (hV : Cl_ wd0 D V Qr Qt m_318) (hW : Wk_ V) (x1 : Int) (x2 : Int) (x3 : Int) (M : mm_) (h :
 (if x3 ≤ 0 then
  V 79 [rr 6, ii x1, ii x2, ii x3] [] M
 else
  (0 ≤ w32 (x3 - 1) ∧ w32 (x3 - 1) < 400) ∧
   (if M 236 (w32 (x3 - 1)) ≤ x2 then
   (0 ≤ w32 (x3 - 1) ∧ w32 (x3 - 1) < 400) ∧
    (if M 236 (w32 (x3 - 1)) = x2 then
    (0 ≤ w32 (x3 - 1) ∧ w32 (x3 - 1) < 400) ∧
     (if M 235 (w32 (x3 - 1)) ≤ x1 then
     V 79 [rr 6, ii x1, ii x2, ii x3] [] M
    else
     V 45 [rr 6, ii x1, ii x2, ii x3] [] M)
   else
    V 79 [rr 6, ii x1, ii x2, ii x3] [] M)
  else
   V 45 [rr 6, ii x1, ii x2, ii x3] [] M))) : V 5 [rr 6, ii x1, ii x2, ii x3] [] M := bx_go hD hV hW [(5, []), (45, []), (79, [])] 27 h
theorem i_318 : inq_ 0 k_318 = true := by decide +kernel
theorem z_318_29 : Sf_ k_318 g_318_29 := Sf_of i_318 29 rfl
theorem b_318_45 {D : ca_} {V : vv_} {Qr : qr_} {Qt : qt_} (hD : Mo_ D) (hV : Cl_ wd0 D V Qr Qt m_318) (hW : Wk_ V) (x1 : Int) (x2 : Int) (x3 : Int) (M : mm_) (h :
 (0 ≤ w32 (x3 - 1) ∧ w32 (x3 - 1) < 400) ∧
  (0 ≤ x3 ∧ x3 < 400) ∧
  (0 ≤ w32 (x3 - 1) ∧ w32 (x3 - 1) < 400) ∧
  (0 ≤ x3 ∧ x3 < 400) ∧
  V 5 [rr 6, ii x1, ii x2, ii (w32 (x3 + (-1)))] [] (up_ (up_ M 235 x3 (M 235 (w32 (x3 - 1)))) 236 x3 (M 236 (w32 (x3 - 1))))) : V 45 [rr 6, ii x1, ii x2, ii x3] [] M := bx_go hD (m := (g_318_29, m_318.2)) (Cl_sf z_318_29 hV) hW [(5, []), (45, []), (79, [])] 23 h
theorem z_318_51 : Sf_ k_318 g_318_51 := Sf_tr z_318_29 22 rfl
theorem b_318_79 {D : ca_} {V : vv_} {Qr : qr_} {Qt : qt_} (hD : Mo_ D) (hV : Cl_ wd0 D V Qr Qt m_318) (hW : Wk_ V) (x1 : Int) (x2 : Int) (x3 : Int) (M : mm_) (h :
 (0 ≤ x3 ∧ x3 < 400) ∧
  (0 ≤ x3 ∧ x3 < 400) ∧
  Qr [] (up_ (up_ (up_ M 235 x3 x1) 236 x3 x2) 6 120 (w32 ((M 6 120) + 1)))) : V 79 [rr 6, ii x1, ii x2, ii x3] [] M := bx_go hD (m := (g_318_51, m_318.2)) (Cl_sf z_318_51 hV) hW [(5, []), (45, []), (79, [])] 17 h
/-- X4_place()I -/
theorem b_319_0 {D : ca_} {V : vv_} {Qr : qr_} {Qt : qt_} (hD : Mo_ D) (hV : Cl_ wd0 D V Qr Qt m_319) (hW : Wk_ V)  (M : mm_) (h :
 Qr [.inl (M 6 119)] M) : V 0 [rr 6] [] M := bx_go hD hV hW [] 3 h
/-- X4_warning(II)I -/
theorem b_320_0 {D : ca_} {V : vv_} {Qr : qr_} {Qt : qt_} (hD : Mo_ D) (hV : Cl_ wd0 D V Qr Qt m_320) (hW : Wk_ V) (x1 : Int) (x2 : Int) (M : mm_) (h :
 (if x1 < 0 then
  Qr [.inl ((-1))] M
 else
  (if x1 < M 6 120 then
   (if x2 < 0 then
    Qr [.inl ((-1))] M
   else
    (if x2 ≤ 1 then
     (if x2 = 0 then
      (0 ≤ x1 ∧ x1 < 400) ∧
       Qr [.inl (M 235 x1)] M
     else
      (0 ≤ x1 ∧ x1 < 400) ∧
       Qr [.inl (M 236 x1)] M)
    else
     Qr [.inl ((-1))] M))
  else
   Qr [.inl ((-1))] M))) : V 0 [rr 6, ii x1, ii x2] [] M := bx_go hD hV hW [] 19 h
/-- X4_begin(I)I -/
theorem b_321_0 {D : ca_} {V : vv_} {Qr : qr_} {Qt : qt_} (hD : Mo_ D) (hV : Cl_ wd0 D V Qr Qt m_321) (hW : Wk_ V) (x1 : Int) (M : mm_) (h :
 (bl_ (M 6 6) → (if M 6 6 = 0 then
  Qr [.inl ((-1))] M
 else
  V 11 [rr 6, ii x1, ii 0, none] [] M))) : V 0 [rr 6, ii x1, none, none] [] M := bx_go hD hV hW [(11, [3]), (135, [3]), (145, [])] 6 h
theorem i_321 : inq_ 0 k_321 = true := by decide +kernel
theorem z_321_7 : Sf_ k_321 g_321_7 := Sf_of i_321 7 rfl
theorem b_321_11 {D : ca_} {V : vv_} {Qr : qr_} {Qt : qt_} (hD : Mo_ D) (hV : Cl_ wd0 D V Qr Qt m_321) (hW : Wk_ V) (x1 : Int) (x2 : Int) (M : mm_) (h :
 (if x2 < 1104 then
  (0 ≤ x2 ∧ x2 < 1104) ∧
   V 11 [rr 6, ii x1, ii (w32 (x2 + 1)), none] [] (up_ M 239 x2 0)
 else
  (0 ≤ (1 : Int) ∧ (1 : Int) < 1104) ∧
   bl_ 1 ∧ bl_ 0 ∧ bl_ 0 ∧ V 135 [rr 6, ii x1, ii 0, none] [] (up_ (up_ (up_ (up_ (up_ (up_ (up_ (up_ (up_ (up_ (up_ (up_ (up_ (up_ (up_ (up_ (up_ (up_ (up_ (up_ M 239 1 1) 6 126 1) 6 127 0) 6 128 0) 6 129 x1) 6 130 0) 6 131 0) 6 132 0) 6 133 0) 6 134 0) 6 135 0) 6 136 0) 6 137 0) 6 144 0) 6 145 0) 6 142 0) 6 143 0) 6 163 0) 6 169 0) 6 164 0))) : V 11 [rr 6, ii x1, ii x2, none] [] M := bx_go hD (m := (g_321_7, m_321.2)) (Cl_sf z_321_7 hV) hW [(11, [3]), (135, [3]), (145, [])] 68 h
theorem z_321_81 : Sf_ k_321 g_321_81 := Sf_tr z_321_7 74 rfl
theorem b_321_135 {D : ca_} {V : vv_} {Qr : qr_} {Qt : qt_} (hD : Mo_ D) (hV : Cl_ wd0 D V Qr Qt m_321) (hW : Wk_ V) (x1 : Int) (x2 : Int) (M : mm_) (h :
 (if x2 < M 6 19 then
  V 145 [rr 6, ii x1, ii x2, ii 0] [] M
 else
  (0 ≤ (0 : Int) ∧ (0 : Int) < 1104) ∧
   Qr [.inl (M 239 0)] M)) : V 135 [rr 6, ii x1, ii x2, none] [] M := bx_go hD (m := (g_321_81, m_321.2)) (Cl_sf z_321_81 hV) hW [(11, [3]), (135, [3]), (145, [])] 9 h
theorem z_321_87 : Sf_ k_321 g_321_87 := Sf_tr z_321_81 6 rfl
theorem b_321_145 {D : ca_} {V : vv_} {Qr : qr_} {Qt : qt_} (hD : Mo_ D) (hV : Cl_ wd0 D V Qr Qt m_321) (hW : Wk_ V) (x1 : Int) (x2 : Int) (x3 : Int) (M : mm_) (h :
 (0 ≤ x2 ∧ x2 < 6) ∧
  (if x3 < M 168 x2 then
  (0 ≤ (0 : Int) ∧ (0 : Int) < 1104) ∧
   (if M 239 0 < 12 then
   D 322 [.inr (.inr 6), .inl x2, .inl 0] M (ri_ fun v1 M1 =>
    V 145 [rr 6, ii x1, ii x2, ii (w32 (x3 + 1))] [] M1) Qt
  else
   V 135 [rr 6, ii x1, ii (w32 (x2 + 1)), none] [] M)
 else
  V 135 [rr 6, ii x1, ii (w32 (x2 + 1)), none] [] M)) : V 145 [rr 6, ii x1, ii x2, ii x3] [] M := bx_go hD (m := (g_321_87, m_321.2)) (Cl_sf z_321_87 hV) hW [(11, [3]), (135, [3]), (145, [])] 20 h
/-- X4_make(II)I -/
theorem b_322_0 {D : ca_} {V : vv_} {Qr : qr_} {Qt : qt_} (hD : Mo_ D) (hV : Cl_ wd0 D V Qr Qt m_322) (hW : Wk_ V) (x1 : Int) (x2 : Int) (M : mm_) (h :
 (0 ≤ (0 : Int) ∧ (0 : Int) < 1104) ∧
  D 323 [.inl (M 239 0)] M (ri_ fun v1 M1 =>
  V 16 [rr 6, ii x1, ii x2, ii (M 239 0), ii v1, ii 0] [] M1) Qt) : V 0 [rr 6, ii x1, ii x2, none, none, none] [] M := bx_go hD hV hW [(16, []), (86, [])] 11 h
theorem i_322 : inq_ 0 k_322 = true := by decide +kernel
theorem z_322_10 : Sf_ k_322 g_322_10 := Sf_of i_322 10 rfl
theorem b_322_16 {D : ca_} {V : vv_} {Qr : qr_} {Qt : qt_} (hD : Mo_ D) (hV : Cl_ wd0 D V Qr Qt m_322) (hW : Wk_ V) (x1 : Int) (x2 : Int) (x3 : Int) (x4 : Int) (x5 : Int) (M : mm_) (h :
 (if x5 < 56 then
  (0 ≤ w32 (x4 + x5) ∧ w32 (x4 + x5) < 1104) ∧
   V 16 [rr 6, ii x1, ii x2, ii x3, ii x4, ii (w32 (x5 + 1))] [] (up_ M 239 (w32 (x4 + x5)) 0)
 else
  (0 ≤ (1 : Int) ∧ (1 : Int) < 1104) ∧
   (0 ≤ x4 ∧ x4 < 1104) ∧
   (0 ≤ w32 (x4 + 1) ∧ w32 (x4 + 1) < 1104) ∧
   (0 ≤ w32 (x4 + 2) ∧ w32 (x4 + 2) < 1104) ∧
   (0 ≤ w32 (x4 + 4) ∧ w32 (x4 + 4) < 1104) ∧
   V 86 [rr 6, ii x1, ii x2, ii x3, ii x4, ii 0] [] (up_ (up_ (up_ (up_ M 239 x4 (M 239 1)) 239 (w32 (x4 + 1)) x1) 239 (w32 (x4 + 2)) ((-1))) 239 (w32 (x4 + 4)) x2))) : V 16 [rr 6, ii x1, ii x2, ii x3, ii x4, ii x5] [] M := bx_go hD (m := (g_322_10, m_322.2)) (Cl_sf z_322_10 hV) hW [(16, []), (86, [])] 35 h
theorem z_322_53 : Sf_ k_322 g_322_53 := Sf_tr z_322_10 43 rfl
theorem b_322_86 {D : ca_} {V : vv_} {Qr : qr_} {Qt : qt_} (hD : Mo_ D) (hV : Cl_ wd0 D V Qr Qt m_322) (hW : Wk_ V) (x1 : Int) (x2 : Int) (x3 : Int) (x4 : Int) (x5 : Int) (M : mm_) (h :
 (if x5 < 3 then
  (0 ≤ w32 ((w32 (x4 + 22)) + x5) ∧ w32 ((w32 (x4 + 22)) + x5) < 1104) ∧
   V 86 [rr 6, ii x1, ii x2, ii x3, ii x4, ii (w32 (x5 + 1))] [] (up_ M 239 (w32 ((w32 (x4 + 22)) + x5)) ((-1)))
 else
  (0 ≤ (0 : Int) ∧ (0 : Int) < 1104) ∧
   (0 ≤ (0 : Int) ∧ (0 : Int) < 1104) ∧
   (0 ≤ (1 : Int) ∧ (1 : Int) < 1104) ∧
   (0 ≤ (1 : Int) ∧ (1 : Int) < 1104) ∧
   (bl_ (M 6 127) → (if M 6 127 = 0 then
   (0 ≤ x4 ∧ x4 < 1104) ∧
    D 324 [.inr (.inr 6), .inl 0, .inl ((up_ (up_ M 239 0 (w32 ((M 239 0) + 1))) 239 1 (w32 ((M 239 1) + 1))) 239 x4), .inl ((-1)), .inl x2] (up_ (up_ (up_ M 239 0 (w32 ((M 239 0) + 1))) 239 1 (w32 ((M 239 1) + 1))) 6 131 (w32 ((M 6 131) + 1))) (rv_ fun M2 =>
    Qr [.inl x3] M2) Qt
  else
   (0 ≤ x4 ∧ x4 < 1104) ∧
    D 324 [.inr (.inr 6), .inl 0, .inl ((up_ (up_ M 239 0 (w32 ((M 239 0) + 1))) 239 1 (w32 ((M 239 1) + 1))) 239 x4), .inl ((-1)), .inl x2] (up_ (up_ M 239 0 (w32 ((M 239 0) + 1))) 239 1 (w32 ((M 239 1) + 1))) (rv_ fun M1 =>
    Qr [.inl x3] M1) Qt)))) : V 86 [rr 6, ii x1, ii x2, ii x3, ii x4, ii x5] [] M := bx_go hD (m := (g_322_53, m_322.2)) (Cl_sf z_322_53 hV) hW [(16, []), (86, [])] 39 h
/-- X4_base(I)I -/
theorem b_323_0 {D : ca_} {V : vv_} {Qr : qr_} {Qt : qt_} (hD : Mo_ D) (hV : Cl_ wd0 D V Qr Qt m_323) (hW : Wk_ V) (x0 : Int) (M : mm_) (h :
 Qr [.inl (w32 (2 + (w32 (56 * x0))))] M) : V 0 [ii x0] [] M := bx_go hD hV hW [] 6 h
/-- X4_write(IIII)V -/
theorem b_324_0 {D : ca_} {V : vv_} {Qr : qr_} {Qt : qt_} (hD : Mo_ D) (hV : Cl_ wd0 D V Qr Qt m_324) (hW : Wk_ V) (x1 : Int) (x2 : Int) (x3 : Int) (x4 : Int) (M : mm_) (h :
 (bl_ (M 6 127) → (if M 6 127 = 0 then
  (500 : Int) ≠ 0 ∧ (0 ≤ w32 (4 * (Int.tmod (w32 ((M 6 143) + (M 6 142))) 500)) ∧ w32 (4 * (Int.tmod (w32 ((M 6 143) + (M 6 142))) 500)) < 2000) ∧
   (0 ≤ w32 ((w32 (4 * (Int.tmod (w32 ((M 6 143) + (M 6 142))) 500))) + 1) ∧ w32 ((w32 (4 * (Int.tmod (w32 ((M 6 143) + (M 6 142))) 500))) + 1) < 2000) ∧
   (0 ≤ w32 ((w32 (4 * (Int.tmod (w32 ((M 6 143) + (M 6 142))) 500))) + 2) ∧ w32 ((w32 (4 * (Int.tmod (w32 ((M 6 143) + (M 6 142))) 500))) + 2) < 2000) ∧
   (0 ≤ w32 ((w32 (4 * (Int.tmod (w32 ((M 6 143) + (M 6 142))) 500))) + 3) ∧ w32 ((w32 (4 * (Int.tmod (w32 ((M 6 143) + (M 6 142))) 500))) + 3) < 2000) ∧
   (if M 6 142 < 500 then
   Qr [] (up_ (up_ (up_ (up_ (up_ M 240 (w32 (4 * (Int.tmod (w32 ((M 6 143) + (M 6 142))) 500))) x1) 240 (w32 ((w32 (4 * (Int.tmod (w32 ((M 6 143) + (M 6 142))) 500))) + 1)) x2) 240 (w32 ((w32 (4 * (Int.tmod (w32 ((M 6 143) + (M 6 142))) 500))) + 2)) x3) 240 (w32 ((w32 (4 * (Int.tmod (w32 ((M 6 143) + (M 6 142))) 500))) + 3)) x4) 6 142 (w32 ((M 6 142) + 1)))
  else
   (500 : Int) ≠ 0 ∧ Qr [] (up_ (up_ (up_ (up_ (up_ M 240 (w32 (4 * (Int.tmod (w32 ((M 6 143) + (M 6 142))) 500))) x1) 240 (w32 ((w32 (4 * (Int.tmod (w32 ((M 6 143) + (M 6 142))) 500))) + 1)) x2) 240 (w32 ((w32 (4 * (Int.tmod (w32 ((M 6 143) + (M 6 142))) 500))) + 2)) x3) 240 (w32 ((w32 (4 * (Int.tmod (w32 ((M 6 143) + (M 6 142))) 500))) + 3)) x4) 6 143 (Int.tmod (w32 ((M 6 143) + 1)) 500)))
 else
  Qr [] M))) : V 0 [rr 6, ii x1, ii x2, ii x3, ii x4, none] [] M := bx_go hD hV hW [] 52 h
/-- X4_run(I)I -/
theorem b_325_0 {D : ca_} {V : vv_} {Qr : qr_} {Qt : qt_} (hD : Mo_ D) (hV : Cl_ wd0 D V Qr Qt m_325) (hW : Wk_ V) (x1 : Int) (M : mm_) (h :
 (bl_ (M 6 126) → (if M 6 126 = 0 then
  Qr [.inl ((-1))] M
 else
  (if x1 < 1 then
   Qr [.inl ((-1))] M
  else
   (if x1 ≤ 1000 then
    V 23 [rr 6, ii x1, ii 0, none, none] [] M
   else
    Qr [.inl ((-1))] M))))) : V 0 [rr 6, ii x1, none, none, none] [] M := bx_go hD hV hW [(23, [3, 4])] 12 h
theorem i_325 : inq_ 0 k_325 = true := by decide +kernel
theorem z_325_13 : Sf_ k_325 g_325_13 := Sf_of i_325 13 rfl
theorem b_325_23 {D : ca_} {V : vv_} {Qr : qr_} {Qt : qt_} (hD : Mo_ D) (hV : Cl_ wd0 D V Qr Qt m_325) (hW : Wk_ V) (x1 : Int) (x2 : Int) (M : mm_) (h :
 (if x2 < x1 then
  D 326 [.inr (.inr 6)] M (rv_ fun M1 =>
   D 335 [.inr (.inr 6)] M1 (ri_ fun v1 M2 =>
    (if v1 < 0 then
     D 361 [.inr (.inr 6)] M2 (ri_ fun v2 M3 =>
      (if v2 < 0 then
       Qr [.inl x2] M3
      else
       V 23 [rr 6, ii x1, ii x2, none, none] [] (up_ M3 6 128 v2))) Qt
    else
     D 323 [.inl v1] M2 (ri_ fun v3 M4 =>
      (0 ≤ v3 ∧ v3 < 1104) ∧
       D 336 [.inr (.inr 6), .inl v1] (up_ M4 6 130 (M4 239 v3)) (ri_ fun v4 M5 =>
       D 345 [.inr (.inr 6), .inl v1, .inl v4] M5 (rv_ fun M6 =>
        V 23 [rr 6, ii x1, ii (w32 (x2 + 1)), none, none] [] (up_ M6 6 136 (w32 ((M6 6 136) + 1)))) Qt) Qt) Qt)) Qt) Qt
 else
  Qr [.inl x2] M)) : V 23 [rr 6, ii x1, ii x2, none, none] [] M := bx_go hD (m := (g_325_13, m_325.2)) (Cl_sf z_325_13 hV) hW [(23, [3, 4])] 33 h
/-- X4_due()V -/
theorem b_326_0 {D : ca_} {V : vv_} {Qr : qr_} {Qt : qt_} (hD : Mo_ D) (hV : Cl_ wd0 D V Qr Qt m_326) (hW : Wk_ V)  (M : mm_) (h :
 V 2 [rr 6, ii 0, none, none] [] M) : V 0 [rr 6, none, none, none] [] M := bx_go hD hV hW [(2, [2, 3]), (10, [2, 3]), (56, [2, 3]), (68, [3])] 3 h
theorem b_326_2 {D : ca_} {V : vv_} {Qr : qr_} {Qt : qt_} (hD : Mo_ D) (hV : Cl_ wd0 D V Qr Qt m_326) (hW : Wk_ V) (x1 : Int) (M : mm_) (h :
 (if x1 < M 6 18 then
  V 10 [rr 6, ii x1, none, none] [] M
 else
  V 56 [rr 6, ii 0, none, none] [] M)) : V 2 [rr 6, ii x1, none, none] [] M := bx_go hD hV hW [(2, [2, 3]), (10, [2, 3]), (56, [2, 3]), (68, [3])] 7 h
theorem i_326 : inq_ 0 k_326 = true := by decide +kernel
theorem z_326_6 : Sf_ k_326 g_326_6 := Sf_of i_326 6 rfl
theorem b_326_10 {D : ca_} {V : vv_} {Qr : qr_} {Qt : qt_} (hD : Mo_ D) (hV : Cl_ wd0 D V Qr Qt m_326) (hW : Wk_ V) (x1 : Int) (M : mm_) (h :
 D 327 [.inl x1] M (ri_ fun v1 M1 =>
  (0 ≤ v1 ∧ v1 < 1104) ∧
   (if M1 239 v1 ≤ 0 then
   V 2 [rr 6, ii (w32 (x1 + 1)), none, none] [] M1
  else
   D 327 [.inl x1] M1 (ri_ fun v2 M2 =>
    (0 ≤ w32 (v2 + 4) ∧ w32 (v2 + 4) < 1104) ∧
     (if M2 239 (w32 (v2 + 4)) ≤ M2 6 128 then
     D 328 [.inr (.inr 6), .inl x1] M2 (rv_ fun M3 =>
      V 10 [rr 6, ii x1, none, none] [] M3) Qt
    else
     V 2 [rr 6, ii (w32 (x1 + 1)), none, none] [] M2)) Qt)) Qt) : V 10 [rr 6, ii x1, none, none] [] M := bx_go hD (m := (g_326_6, m_326.2)) (Cl_sf z_326_6 hV) hW [(2, [2, 3]), (10, [2, 3]), (56, [2, 3]), (68, [3])] 21 h
theorem z_326_30 : Sf_ k_326 g_326_30 := Sf_tr z_326_6 24 rfl
theorem b_326_56 {D : ca_} {V : vv_} {Qr : qr_} {Qt : qt_} (hD : Mo_ D) (hV : Cl_ wd0 D V Qr Qt m_326) (hW : Wk_ V) (x1 : Int) (M : mm_) (h :
 (0 ≤ (0 : Int) ∧ (0 : Int) < 1104) ∧
  (if x1 < M 239 0 then
  V 68 [rr 6, ii x1, ii 0, none] [] M
 else
  Qr [] M)) : V 56 [rr 6, ii x1, none, none] [] M := bx_go hD (m := (g_326_30, m_326.2)) (Cl_sf z_326_30 hV) hW [(2, [2, 3]), (10, [2, 3]), (56, [2, 3]), (68, [3])] 9 h
theorem z_326_38 : Sf_ k_326 g_326_38 := Sf_tr z_326_30 8 rfl
theorem b_326_68 {D : ca_} {V : vv_} {Qr : qr_} {Qt : qt_} (hD : Mo_ D) (hV : Cl_ wd0 D V Qr Qt m_326) (hW : Wk_ V) (x1 : Int) (x2 : Int) (M : mm_) (h :
 (if x2 < 3 then
  D 323 [.inl x1] M (ri_ fun v1 M1 =>
   (0 ≤ w32 ((w32 (v1 + 22)) + x2) ∧ w32 ((w32 (v1 + 22)) + x2) < 1104) ∧
    (if M1 239 (w32 ((w32 (v1 + 22)) + x2)) < 0 then
    V 68 [rr 6, ii x1, ii (w32 (x2 + 1)), none] [] M1
   else
    (if M1 239 (w32 ((w32 (v1 + 22)) + x2)) ≤ M1 6 128 then
     D 334 [.inr (.inr 6), .inl x1, .inl x2] M1 (rv_ fun M2 =>
      V 68 [rr 6, ii x1, ii (w32 (x2 + 1)), none] [] M2) Qt
    else
     V 68 [rr 6, ii x1, ii (w32 (x2 + 1)), none] [] M1))) Qt
 else
  V 56 [rr 6, ii (w32 (x1 + 1)), none, none] [] M)) : V 68 [rr 6, ii x1, ii x2, none] [] M := bx_go hD (m := (g_326_38, m_326.2)) (Cl_sf z_326_38 hV) hW [(2, [2, 3]), (10, [2, 3]), (56, [2, 3]), (68, [3])] 26 h
/-- X4_row(I)I -/
theorem b_327_0 {D : ca_} {V : vv_} {Qr : qr_} {Qt : qt_} (hD : Mo_ D) (hV : Cl_ wd0 D V Qr Qt m_327) (hW : Wk_ V) (x0 : Int) (M : mm_) (h :
 Qr [.inl (w32 (674 + (w32 (43 * x0))))] M) : V 0 [ii x0] [] M := bx_go hD hV hW [] 6 h
/-- X4_firstOf(I)V -/
theorem b_328_0 {D : ca_} {V : vv_} {Qr : qr_} {Qt : qt_} (hD : Mo_ D) (hV : Cl_ wd0 D V Qr Qt m_328) (hW : Wk_ V) (x1 : Int) (M : mm_) (h :
 D 327 [.inl x1] M (ri_ fun v1 M1 =>
  (0 ≤ w32 (v1 + 1) ∧ w32 (v1 + 1) < 1104) ∧
   (0 ≤ w32 (v1 + 2) ∧ w32 (v1 + 2) < 1104) ∧
   (0 ≤ w32 (v1 + 3) ∧ w32 (v1 + 3) < 1104) ∧
   V 37 [rr 6, ii x1, ii v1, ii (M1 239 (w32 (v1 + 1))), ii (M1 239 (w32 (v1 + 2))), ii (M1 239 (w32 (v1 + 3))), ii 0] [] M1) Qt) : V 0 [rr 6, ii x1, none, none, none, none, none] [] M := bx_go hD hV hW [(37, []), (72, []), (114, [])] 27 h
theorem i_328 : inq_ 0 k_328 = true := by decide +kernel
theorem z_328_26 : Sf_ k_328 g_328_26 := Sf_of i_328 26 rfl
theorem b_328_37 {D : ca_} {V : vv_} {Qr : qr_} {Qt : qt_} (hD : Mo_ D) (hV : Cl_ wd0 D V Qr Qt m_328) (hW : Wk_ V) (x1 : Int) (x2 : Int) (x3 : Int) (x4 : Int) (x5 : Int) (x6 : Int) (M : mm_) (h :
 (if x6 < 3 then
  (0 ≤ w32 ((w32 (x2 + 5)) + x6) ∧ w32 ((w32 (x2 + 5)) + x6) < 1104) ∧
   (0 ≤ x6 ∧ x6 < 3) ∧
   V 37 [rr 6, ii x1, ii x2, ii x3, ii x4, ii x5, ii (w32 (x6 + 1))] [] (up_ M 242 x6 (M 239 (w32 ((w32 (x2 + 5)) + x6))))
 else
  V 72 [rr 6, ii x1, ii x2, ii x3, ii x4, ii x5, ii (w32 (x2 + 1))] [] M)) : V 37 [rr 6, ii x1, ii x2, ii x3, ii x4, ii x5, ii x6] [] M := bx_go hD (m := (g_328_26, m_328.2)) (Cl_sf z_328_26 hV) hW [(37, []), (72, []), (114, [])] 18 h
theorem z_328_47 : Sf_ k_328 g_328_47 := Sf_tr z_328_26 21 rfl
theorem b_328_72 {D : ca_} {V : vv_} {Qr : qr_} {Qt : qt_} (hD : Mo_ D) (hV : Cl_ wd0 D V Qr Qt m_328) (hW : Wk_ V) (x1 : Int) (x2 : Int) (x3 : Int) (x4 : Int) (x5 : Int) (x6 : Int) (M : mm_) (h :
 (if x6 < w32 ((w32 (x2 + 1)) + 35) then
  (0 ≤ w32 (x6 + 7) ∧ w32 (x6 + 7) < 1104) ∧
   (0 ≤ x6 ∧ x6 < 1104) ∧
   V 72 [rr 6, ii x1, ii x2, ii x3, ii x4, ii x5, ii (w32 (x6 + 1))] [] (up_ M 239 x6 (M 239 (w32 (x6 + 7))))
 else
  V 114 [rr 6, ii x1, ii x2, ii x3, ii x4, ii x5, ii (w32 ((w32 (x2 + 1)) + 35))] [] M)) : V 72 [rr 6, ii x1, ii x2, ii x3, ii x4, ii x5, ii x6] [] M := bx_go hD (m := (g_328_47, m_328.2)) (Cl_sf z_328_47 hV) hW [(37, []), (72, []), (114, [])] 20 h
theorem z_328_72 : Sf_ k_328 g_328_72 := Sf_tr z_328_47 25 rfl
theorem b_328_114 {D : ca_} {V : vv_} {Qr : qr_} {Qt : qt_} (hD : Mo_ D) (hV : Cl_ wd0 D V Qr Qt m_328) (hW : Wk_ V) (x1 : Int) (x2 : Int) (x3 : Int) (x4 : Int) (x5 : Int) (x6 : Int) (M : mm_) (h :
 (if x6 < w32 (x2 + 43) then
  (0 ≤ x6 ∧ x6 < 1104) ∧
   V 114 [rr 6, ii x1, ii x2, ii x3, ii x4, ii x5, ii (w32 (x6 + 1))] [] (up_ M 239 x6 0)
 else
  (0 ≤ x2 ∧ x2 < 1104) ∧
   (0 ≤ x2 ∧ x2 < 1104) ∧
   D 329 [.inr (.inr 6), .inl x3, .inl x4, .inl x5] (up_ M 239 x2 (w32 ((M 239 x2) - 1))) (rv_ fun M1 =>
   Qr [] M1) Qt)) : V 114 [rr 6, ii x1, ii x2, ii x3, ii x4, ii x5, ii x6] [] M := bx_go hD (m := (g_328_72, m_328.2)) (Cl_sf z_328_72 hV) hW [(37, []), (72, []), (114, [])] 19 h
/-- X4_arrive(III)V -/
theorem b_329_0 {D : ca_} {V : vv_} {Qr : qr_} {Qt : qt_} (hD : Mo_ D) (hV : Cl_ wd0 D V Qr Qt m_329) (hW : Wk_ V) (x1 : Int) (x2 : Int) (x3 : Int) (M : mm_) (h :
 (if x3 = 0 then
  D 324 [.inr (.inr 6), .inl 4, .inl 0, .inl x1, .inl x2] M (rv_ fun M5 =>
   (bl_ (M5 6 127) → (if M5 6 127 = 0 then
    D 330 [.inr (.inr 6), .inl x1, .inl x2] M5 (rv_ fun M6 =>
     Qr [] M6) Qt
   else
    Qr [] M5))) Qt
 else
  D 331 [.inr (.inr 6), .inl x3] M (ri_ fun v1 M1 =>
   (if v1 < 0 then
    D 333 [.inr (.inr 6), .inl x3, .inl x1, .inl x2] M1 (rv_ fun M2 =>
     Qr [] M2) Qt
   else
    D 332 [.inr (.inr 6), .inl v1, .inl x1, .inl x2] M1 (ri_ fun v2 M3 =>
     (if v2 = 0 then
      D 333 [.inr (.inr 6), .inl x3, .inl x1, .inl x2] M3 (rv_ fun M4 =>
       Qr [] M4) Qt
     else
      Qr [] M3)) Qt)) Qt)) : V 0 [rr 6, ii x1, ii x2, ii x3, none] [] M := bx_go hD hV hW [] 20 h
/-- X4_writeOut(II)V -/
theorem b_330_0 {D : ca_} {V : vv_} {Qr : qr_} {Qt : qt_} (hD : Mo_ D) (hV : Cl_ wd0 D V Qr Qt m_330) (hW : Wk_ V) (x1 : Int) (x2 : Int) (M : mm_) (h :
 (0 ≤ w32 (6 * (M 6 144)) ∧ w32 (6 * (M 6 144)) < 1200) ∧
  (0 ≤ w32 ((w32 (6 * (M 6 144))) + 1) ∧ w32 ((w32 (6 * (M 6 144))) + 1) < 1200) ∧
  (0 ≤ w32 ((w32 (6 * (M 6 144))) + 2) ∧ w32 ((w32 (6 * (M 6 144))) + 2) < 1200) ∧
  V 39 [rr 6, ii x1, ii x2, ii (w32 (6 * (M 6 144))), ii 0] [] (up_ (up_ (up_ M 241 (w32 (6 * (M 6 144))) x1) 241 (w32 ((w32 (6 * (M 6 144))) + 1)) x2) 241 (w32 ((w32 (6 * (M 6 144))) + 2)) (M 6 128))) : V 0 [rr 6, ii x1, ii x2, none, none] [] M := bx_go hD hV hW [(39, [])] 28 h
theorem i_330 : inq_ 0 k_330 = true := by decide +kernel
theorem z_330_27 : Sf_ k_330 g_330_27 := Sf_of i_330 27 rfl
theorem b_330_39 {D : ca_} {V : vv_} {Qr : qr_} {Qt : qt_} (hD : Mo_ D) (hV : Cl_ wd0 D V Qr Qt m_330) (hW : Wk_ V) (x1 : Int) (x2 : Int) (x3 : Int) (x4 : Int) (M : mm_) (h :
 (if x4 < 3 then
  (0 ≤ x4 ∧ x4 < 3) ∧
   (0 ≤ w32 ((w32 (x3 + 3)) + x4) ∧ w32 ((w32 (x3 + 3)) + x4) < 1200) ∧
   V 39 [rr 6, ii x1, ii x2, ii x3, ii (w32 (x4 + 1))] [] (up_ M 241 (w32 ((w32 (x3 + 3)) + x4)) (M 242 x4))
 else
  (200 : Int) ≠ 0 ∧ (if M 6 145 < 200 then
   Qr [] (up_ (up_ (up_ M 6 144 (Int.tmod (w32 ((M 6 144) + 1)) 200)) 6 145 (w32 ((M 6 145) + 1))) 6 137 (w32 ((M 6 137) + 1)))
  else
   Qr [] (up_ (up_ (up_ M 6 144 (Int.tmod (w32 ((M 6 144) + 1)) 200)) 6 145 200) 6 137 (w32 ((M 6 137) + 1)))))) : V 39 [rr 6, ii x1, ii x2, ii x3, ii x4] [] M := bx_go hD (m := (g_330_27, m_330.2)) (Cl_sf z_330_27 hV) hW [(39, [])] 29 h
/-- X4_slotOf(I)I -/
theorem b_331_0 {D : ca_} {V : vv_} {Qr : qr_} {Qt : qt_} (hD : Mo_ D) (hV : Cl_ wd0 D V Qr Qt m_331) (hW : Wk_ V) (x1 : Int) (M : mm_) (h :
 V 2 [rr 6, ii x1, ii 0] [] M) : V 0 [rr 6, ii x1, none] [] M := bx_go hD hV hW [(2, [])] 3 h
theorem b_331_2 {D : ca_} {V : vv_} {Qr : qr_} {Qt : qt_} (hD : Mo_ D) (hV : Cl_ wd0 D V Qr Qt m_331) (hW : Wk_ V) (x1 : Int) (x2 : Int) (M : mm_) (h :
 (0 ≤ (0 : Int) ∧ (0 : Int) < 1104) ∧
  (if x2 < M 239 0 then
  D 323 [.inl x2] M (ri_ fun v1 M1 =>
   (0 ≤ v1 ∧ v1 < 1104) ∧
    (if M1 239 v1 = x1 then
    Qr [.inl x2] M1
   else
    V 2 [rr 6, ii x1, ii (w32 (x2 + 1))] [] M1)) Qt
 else
  Qr [.inl ((-1))] M)) : V 2 [rr 6, ii x1, ii x2] [] M := bx_go hD hV hW [(2, [])] 16 h
/-- X4_queue(III)Z -/
theorem b_332_0 {D : ca_} {V : vv_} {Qr : qr_} {Qt : qt_} (hD : Mo_ D) (hV : Cl_ wd0 D V Qr Qt m_332) (hW : Wk_ V) (x1 : Int) (x2 : Int) (x3 : Int) (M : mm_) (h :
 D 323 [.inl x1] M (ri_ fun v1 M1 =>
  (0 ≤ w32 (v1 + 25) ∧ w32 (v1 + 25) < 1104) ∧
   (if M1 239 (w32 (v1 + 25)) = 6 then
   bl_ 0 ∧ Qr [.inl 0] M1
  else
   (0 ≤ w32 (v1 + 25) ∧ w32 (v1 + 25) < 1104) ∧
    (0 ≤ w32 ((w32 ((w32 (v1 + 25)) + 1)) + (w32 (5 * (M1 239 (w32 (v1 + 25)))))) ∧ w32 ((w32 ((w32 (v1 + 25)) + 1)) + (w32 (5 * (M1 239 (w32 (v1 + 25)))))) < 1104) ∧
    (0 ≤ w32 ((w32 ((w32 ((w32 (v1 + 25)) + 1)) + (w32 (5 * (M1 239 (w32 (v1 + 25))))))) + 1) ∧ w32 ((w32 ((w32 ((w32 (v1 + 25)) + 1)) + (w32 (5 * (M1 239 (w32 (v1 + 25))))))) + 1) < 1104) ∧
    V 60 [rr 6, ii x1, ii x2, ii x3, ii (w32 (v1 + 25)), ii (w32 ((w32 ((w32 (v1 + 25)) + 1)) + (w32 (5 * (M1 239 (w32 (v1 + 25))))))), ii 0] [] (up_ (up_ M1 239 (w32 ((w32 ((w32 (v1 + 25)) + 1)) + (w32 (5 * (M1 239 (w32 (v1 + 25))))))) x2) 239 (w32 ((w32 ((w32 ((w32 (v1 + 25)) + 1)) + (w32 (5 * (M1 239 (w32 (v1 + 25))))))) + 1)) x3))) Qt) : V 0 [rr 6, ii x1, ii x2, ii x3, none, none, none] [] M := bx_go hD hV hW [(60, [])] 37 h
theorem i_332 : inq_ 0 k_332 = true := by decide +kernel
theorem z_332_38 : Sf_ k_332 g_332_38 := Sf_of i_332 38 rfl
theorem b_332_60 {D : ca_} {V : vv_} {Qr : qr_} {Qt : qt_} (hD : Mo_ D) (hV : Cl_ wd0 D V Qr Qt m_332) (hW : Wk_ V) (x1 : Int) (x2 : Int) (x3 : Int) (x4 : Int) (x5 : Int) (x6 : Int) (M : mm_) (h :
 (if x6 < 3 then
  (0 ≤ x6 ∧ x6 < 3) ∧
   (0 ≤ w32 ((w32 (x5 + 2)) + x6) ∧ w32 ((w32 (x5 + 2)) + x6) < 1104) ∧
   V 60 [rr 6, ii x1, ii x2, ii x3, ii x4, ii x5, ii (w32 (x6 + 1))] [] (up_ M 239 (w32 ((w32 (x5 + 2)) + x6)) (M 242 x6))
 else
  (0 ≤ x4 ∧ x4 < 1104) ∧
   (0 ≤ x4 ∧ x4 < 1104) ∧
   bl_ 1 ∧ Qr [.inl 1] (up_ M 239 x4 (w32 ((M 239 x4) + 1))))) : V 60 [rr 6, ii x1, ii x2, ii x3, ii x4, ii x5, ii x6] [] M := bx_go hD (m := (g_332_38, m_332.2)) (Cl_sf z_332_38 hV) hW [(60, [])] 18 h
/-- X4_lose(III)V -/
theorem b_333_0 {D : ca_} {V : vv_} {Qr : qr_} {Qt : qt_} (hD : Mo_ D) (hV : Cl_ wd0 D V Qr Qt m_333) (hW : Wk_ V) (x1 : Int) (x2 : Int) (x3 : Int) (M : mm_) (h :
 D 324 [.inr (.inr 6), .inl 3, .inl x1, .inl x2, .inl x3] M (rv_ fun M1 =>
  (bl_ (M1 6 127) → (if M1 6 127 = 0 then
   Qr [] (up_ (up_ M1 6 138 (w32 ((M1 6 138) + 1))) 6 132 (w32 ((M1 6 132) + 1)))
  else
   Qr [] (up_ M1 6 138 (w32 ((M1 6 138) + 1)))))) Qt) : V 0 [rr 6, ii x1, ii x2, ii x3] [] M := bx_go hD hV hW [] 22 h
/-- X4_timerComes(II)V -/
theorem b_334_0 {D : ca_} {V : vv_} {Qr : qr_} {Qt : qt_} (hD : Mo_ D) (hV : Cl_ wd0 D V Qr Qt m_334) (hW : Wk_ V) (x1 : Int) (x2 : Int) (M : mm_) (h :
 D 323 [.inl x1] M (ri_ fun v1 M1 =>
  (0 ≤ v1 ∧ v1 < 1104) ∧
   D 323 [.inl x1] M1 (ri_ fun v2 M2 =>
   (0 ≤ w32 ((w32 (v2 + 22)) + x2) ∧ w32 ((w32 (v2 + 22)) + x2) < 1104) ∧
    D 324 [.inr (.inr 6), .inl 8, .inl (M1 239 v1), .inl (w32 (100 + x2)), .inl (M1 239 v1)] (up_ M2 239 (w32 ((w32 (v2 + 22)) + x2)) ((-1))) (rv_ fun M3 =>
    V 40 [rr 6, ii x1, ii x2, ii (M1 239 v1), ii 0] [] M3) Qt) Qt) Qt) : V 0 [rr 6, ii x1, ii x2, none, none] [] M := bx_go hD hV hW [(40, [])] 27 h
theorem i_334 : inq_ 0 k_334 = true := by decide +kernel
theorem z_334_26 : Sf_ k_334 g_334_26 := Sf_of i_334 26 rfl
theorem b_334_40 {D : ca_} {V : vv_} {Qr : qr_} {Qt : qt_} (hD : Mo_ D) (hV : Cl_ wd0 D V Qr Qt m_334) (hW : Wk_ V) (x1 : Int) (x2 : Int) (x3 : Int) (x4 : Int) (M : mm_) (h :
 (if x4 < 3 then
  (0 ≤ x4 ∧ x4 < 3) ∧
   V 40 [rr 6, ii x1, ii x2, ii x3, ii (w32 (x4 + 1))] [] (up_ M 242 x4 0)
 else
  D 332 [.inr (.inr 6), .inl x1, .inl (w32 (100 + x2)), .inl x3] M (ri_ fun v1 M1 =>
   (if v1 = 0 then
    D 333 [.inr (.inr 6), .inl x3, .inl (w32 (100 + x2)), .inl x3] M1 (rv_ fun M2 =>
     Qr [] M2) Qt
   else
    Qr [] M1)) Qt)) : V 40 [rr 6, ii x1, ii x2, ii x3, ii x4] [] M := bx_go hD (m := (g_334_26, m_334.2)) (Cl_sf z_334_26 hV) hW [(40, [])] 19 h
/-- X4_ready()I -/
theorem b_335_0 {D : ca_} {V : vv_} {Qr : qr_} {Qt : qt_} (hD : Mo_ D) (hV : Cl_ wd0 D V Qr Qt m_335) (hW : Wk_ V)  (M : mm_) (h :
 (0 ≤ (0 : Int) ∧ (0 : Int) < 1104) ∧
  V 9 [rr 6, ii (M 239 0), ii 0, none, none] [] M) : V 0 [rr 6, none, none, none, none] [] M := bx_go hD hV hW [(9, [3, 4]), (38, [4])] 8 h
theorem i_335 : inq_ 0 k_335 = true := by decide +kernel
theorem z_335_7 : Sf_ k_335 g_335_7 := Sf_of i_335 7 rfl
theorem b_335_9 {D : ca_} {V : vv_} {Qr : qr_} {Qt : qt_} (hD : Mo_ D) (hV : Cl_ wd0 D V Qr Qt m_335) (hW : Wk_ V) (x1 : Int) (x2 : Int) (M : mm_) (h :
 (if x2 < x1 then
  D 323 [.inl x2] M (ri_ fun v1 M1 =>
   (0 ≤ v1 ∧ v1 < 1104) ∧
    (if M1 239 v1 ≤ M1 6 130 then
    V 9 [rr 6, ii x1, ii (w32 (x2 + 1)), none, none] [] M1
   else
    V 38 [rr 6, ii x1, ii x2, ii 0, none] [] M1)) Qt
 else
  V 38 [rr 6, ii x1, ii x2, ii 0, none] [] M)) : V 9 [rr 6, ii x1, ii x2, none, none] [] M := bx_go hD (m := (g_335_7, m_335.2)) (Cl_sf z_335_7 hV) hW [(9, [3, 4]), (38, [4])] 14 h
theorem z_335_22 : Sf_ k_335 g_335_22 := Sf_tr z_335_7 15 rfl
theorem b_335_38 {D : ca_} {V : vv_} {Qr : qr_} {Qt : qt_} (hD : Mo_ D) (hV : Cl_ wd0 D V Qr Qt m_335) (hW : Wk_ V) (x1 : Int) (x2 : Int) (x3 : Int) (M : mm_) (h :
 (if x3 < x1 then
  x1 ≠ 0 ∧ D 336 [.inr (.inr 6), .inl (Int.tmod (w32 (x2 + x3)) x1)] M (ri_ fun v1 M1 =>
   (if v1 ≤ 0 then
    V 38 [rr 6, ii x1, ii x2, ii (w32 (x3 + 1)), none] [] M1
   else
    Qr [.inl (Int.tmod (w32 (x2 + x3)) x1)] M1)) Qt
 else
  Qr [.inl ((-1))] M)) : V 38 [rr 6, ii x1, ii x2, ii x3, none] [] M := bx_go hD (m := (g_335_22, m_335.2)) (Cl_sf z_335_22 hV) hW [(9, [3, 4]), (38, [4])] 16 h
/-- X4_stepOf(I)I -/
theorem b_336_0 {D : ca_} {V : vv_} {Qr : qr_} {Qt : qt_} (hD : Mo_ D) (hV : Cl_ wd0 D V Qr Qt m_336) (hW : Wk_ V) (x1 : Int) (M : mm_) (h :
 D 323 [.inl x1] M (ri_ fun v1 M1 =>
  (0 ≤ w32 (v1 + 1) ∧ w32 (v1 + 1) < 1104) ∧
   (0 ≤ w32 (v1 + 2) ∧ w32 (v1 + 2) < 1104) ∧
   (if M1 239 (w32 (v1 + 2)) < 0 then
   Qr [.inl 1] M1
  else
   V 34 [rr 6, ii x1, ii v1, ii (M1 239 (w32 (v1 + 1))), ii (M1 239 (w32 (v1 + 2))), ii 0, none] [] M1)) Qt) : V 0 [rr 6, ii x1, none, none, none, none, none] [] M := bx_go hD hV hW [(34, [6]), (99, []), (142, [])] 22 h
theorem i_336 : inq_ 0 k_336 = true := by decide +kernel
theorem z_336_23 : Sf_ k_336 g_336_23 := Sf_of i_336 23 rfl
theorem b_336_34 {D : ca_} {V : vv_} {Qr : qr_} {Qt : qt_} (hD : Mo_ D) (hV : Cl_ wd0 D V Qr Qt m_336) (hW : Wk_ V) (x1 : Int) (x2 : Int) (x3 : Int) (x4 : Int) (x5 : Int) (M : mm_) (h :
 (0 ≤ w32 (x2 + 25) ∧ w32 (x2 + 25) < 1104) ∧
  (if x5 < M 239 (w32 (x2 + 25)) then
  (0 ≤ w32 ((w32 ((w32 (x2 + 25)) + 1)) + (w32 (5 * x5))) ∧ w32 ((w32 ((w32 (x2 + 25)) + 1)) + (w32 (5 * x5))) < 1104) ∧
   D 337 [.inr (.inr 6), .inl x3, .inl x4, .inl (M 239 (w32 ((w32 ((w32 (x2 + 25)) + 1)) + (w32 (5 * x5)))))] (up_ M 6 152 x5) (ri_ fun v1 M1 =>
   (if v1 = 0 then
    D 337 [.inr (.inr 6), .inl x3, .inl x4, .inl 200] M1 (ri_ fun v2 M2 =>
     (if v2 = 0 then
      Qr [.inl 3] M2
     else
      V 99 [rr 6, ii x1, ii x2, ii x3, ii x4, ii x5, ii (M 239 (w32 ((w32 ((w32 (x2 + 25)) + 1)) + (w32 (5 * x5)))))] [] M2)) Qt
   else
    V 99 [rr 6, ii x1, ii x2, ii x3, ii x4, ii x5, ii (M 239 (w32 ((w32 ((w32 (x2 + 25)) + 1)) + (w32 (5 * x5)))))] [] M1)) Qt
 else
  V 142 [rr 6, ii x1, ii x2, ii x3, ii x4, ii ((-1)), ii 0] [] M)) : V 34 [rr 6, ii x1, ii x2, ii x3, ii x4, ii x5, none] [] M := bx_go hD (m := (g_336_23, m_336.2)) (Cl_sf z_336_23 hV) hW [(34, [6]), (99, []), (142, [])] 38 h
theorem z_336_61 : Sf_ k_336 g_336_61 := Sf_tr z_336_23 38 rfl
theorem b_336_99 {D : ca_} {V : vv_} {Qr : qr_} {Qt : qt_} (hD : Mo_ D) (hV : Cl_ wd0 D V Qr Qt m_336) (hW : Wk_ V) (x1 : Int) (x2 : Int) (x3 : Int) (x4 : Int) (x5 : Int) (x6 : Int) (M : mm_) (h :
 (0 ≤ M 6 151 ∧ M 6 151 < 1300) ∧
  (if M 193 (M 6 151) = 0 then
  (0 ≤ M 6 151 ∧ M 6 151 < 1300) ∧
   D 338 [.inr (.inr 6), .inl x1, .inl (M 196 (M 6 151))] M (ri_ fun v1 M1 =>
   (if v1 = 0 then
    V 34 [rr 6, ii x1, ii x2, ii x3, ii x4, ii (w32 (x5 + 1)), none] [] M1
   else
    Qr [.inl 2] M1)) Qt
 else
  V 34 [rr 6, ii x1, ii x2, ii x3, ii x4, ii (w32 (x5 + 1)), none] [] M)) : V 99 [rr 6, ii x1, ii x2, ii x3, ii x4, ii x5, ii x6] [] M := bx_go hD (m := (g_336_61, m_336.2)) (Cl_sf z_336_61 hV) hW [(34, [6]), (99, []), (142, [])] 18 h
theorem z_336_84 : Sf_ k_336 g_336_84 := Sf_tr z_336_61 23 rfl
theorem b_336_142 {D : ca_} {V : vv_} {Qr : qr_} {Qt : qt_} (hD : Mo_ D) (hV : Cl_ wd0 D V Qr Qt m_336) (hW : Wk_ V) (x1 : Int) (x2 : Int) (x3 : Int) (x4 : Int) (x5 : Int) (x6 : Int) (M : mm_) (h :
 (if x6 < M 6 62 then
  (0 ≤ x6 ∧ x6 < 1300) ∧
   (if M 192 x6 = x3 then
   (0 ≤ x6 ∧ x6 < 1300) ∧
    (if M 193 x6 = 2 then
    (0 ≤ x6 ∧ x6 < 1300) ∧
     (if an_ (sr_ (M 194 x6) x4) 1 = 0 then
     V 142 [rr 6, ii x1, ii x2, ii x3, ii x4, ii x5, ii (w32 (x6 + 1))] [] M
    else
     (if x5 < 0 then
      (0 ≤ x6 ∧ x6 < 1300) ∧
       D 338 [.inr (.inr 6), .inl x1, .inl (M 196 x6)] M (ri_ fun v1 M1 =>
       (if v1 = 0 then
        V 142 [rr 6, ii x1, ii x2, ii x3, ii x4, ii x5, ii (w32 (x6 + 1))] [] M1
       else
        V 142 [rr 6, ii x1, ii x2, ii x3, ii x4, ii x6, ii (w32 (x6 + 1))] [] M1)) Qt
     else
      (0 ≤ x6 ∧ x6 < 1300) ∧
       (0 ≤ x5 ∧ x5 < 1300) ∧
       (if M 195 x6 < M 195 x5 then
       (0 ≤ x6 ∧ x6 < 1300) ∧
        D 338 [.inr (.inr 6), .inl x1, .inl (M 196 x6)] M (ri_ fun v2 M2 =>
        (if v2 = 0 then
         V 142 [rr 6, ii x1, ii x2, ii x3, ii x4, ii x5, ii (w32 (x6 + 1))] [] M2
        else
         V 142 [rr 6, ii x1, ii x2, ii x3, ii x4, ii x6, ii (w32 (x6 + 1))] [] M2)) Qt
      else
       V 142 [rr 6, ii x1, ii x2, ii x3, ii x4, ii x5, ii (w32 (x6 + 1))] [] M)))
   else
    V 142 [rr 6, ii x1, ii x2, ii x3, ii x4, ii x5, ii (w32 (x6 + 1))] [] M)
  else
   V 142 [rr 6, ii x1, ii x2, ii x3, ii x4, ii x5, ii (w32 (x6 + 1))] [] M)
 else
  (if x5 < 0 then
   Qr [.inl 0] (up_ M 6 151 x5)
  else
   Qr [.inl 4] (up_ M 6 151 x5)))) : V 142 [rr 6, ii x1, ii x2, ii x3, ii x4, ii x5, ii x6] [] M := bx_go hD (m := (g_336_84, m_336.2)) (Cl_sf z_336_84 hV) hW [(34, [6]), (99, []), (142, [])] 49 h
/-- X4_listed(III)Z -/
theorem b_337_0 {D : ca_} {V : vv_} {Qr : qr_} {Qt : qt_} (hD : Mo_ D) (hV : Cl_ wd0 D V Qr Qt m_337) (hW : Wk_ V) (x1 : Int) (x2 : Int) (x3 : Int) (M : mm_) (h :
 V 3 [rr 6, ii x1, ii x2, ii x3, ii 0, none] [] M) : V 0 [rr 6, ii x1, ii x2, ii x3, none, none] [] M := bx_go hD hV hW [(3, [5]), (49, [])] 3 h
theorem b_337_3 {D : ca_} {V : vv_} {Qr : qr_} {Qt : qt_} (hD : Mo_ D) (hV : Cl_ wd0 D V Qr Qt m_337) (hW : Wk_ V) (x1 : Int) (x2 : Int) (x3 : Int) (x4 : Int) (M : mm_) (h :
 (if x4 < M 6 62 then
  (0 ≤ x4 ∧ x4 < 1300) ∧
   (if M 192 x4 = x1 then
   (0 ≤ x4 ∧ x4 < 1300) ∧
    (if an_ (sr_ (M 194 x4) x2) 1 = 0 then
    V 3 [rr 6, ii x1, ii x2, ii x3, ii (w32 (x4 + 1)), none] [] M
   else
    (0 ≤ x4 ∧ x4 < 1300) ∧
     V 49 [rr 6, ii x1, ii x2, ii x3, ii x4, ii (M 198 x4)] [] M)
  else
   V 3 [rr 6, ii x1, ii x2, ii x3, ii (w32 (x4 + 1)), none] [] M)
 else
  bl_ 0 ∧ Qr [.inl 0] M)) : V 3 [rr 6, ii x1, ii x2, ii x3, ii x4, none] [] M := bx_go hD hV hW [(3, [5]), (49, [])] 25 h
theorem i_337 : inq_ 0 k_337 = true := by decide +kernel
theorem z_337_27 : Sf_ k_337 g_337_27 := Sf_of i_337 27 rfl
theorem b_337_49 {D : ca_} {V : vv_} {Qr : qr_} {Qt : qt_} (hD : Mo_ D) (hV : Cl_ wd0 D V Qr Qt m_337) (hW : Wk_ V) (x1 : Int) (x2 : Int) (x3 : Int) (x4 : Int) (x5 : Int) (M : mm_) (h :
 (0 ≤ x4 ∧ x4 < 1300) ∧
  (if x5 < M 199 x4 then
  (0 ≤ x5 ∧ x5 < 1300) ∧
   (if M 200 x5 = x3 then
   bl_ 1 ∧ Qr [.inl 1] (up_ (up_ M 6 151 x4) 6 153 x5)
  else
   V 49 [rr 6, ii x1, ii x2, ii x3, ii x4, ii (w32 (x5 + 1))] [] M)
 else
  V 3 [rr 6, ii x1, ii x2, ii x3, ii (w32 (x4 + 1)), none] [] M)) : V 49 [rr 6, ii x1, ii x2, ii x3, ii x4, ii x5] [] M := bx_go hD (m := (g_337_27, m_337.2)) (Cl_sf z_337_27 hV) hW [(3, [5]), (49, [])] 20 h
/-- X4_isTrue(II)Z -/
theorem b_338_0 {D : ca_} {V : vv_} {Qr : qr_} {Qt : qt_} (hD : Mo_ D) (hV : Cl_ wd0 D V Qr Qt m_338) (hW : Wk_ V) (x1 : Int) (x2 : Int) (M : mm_) (h :
 (if x2 < 0 then
  bl_ 1 ∧ Qr [.inl 1] M
 else
  D 339 [.inr (.inr 6), .inl x1, .inl x2] M (ri_ fun v1 M1 =>
   (if M1 6 149 = 0 then
    (if v1 = 0 then
     bl_ 0 ∧ Qr [.inl 0] M1
    else
     bl_ 1 ∧ Qr [.inl 1] M1)
   else
    bl_ 0 ∧ Qr [.inl 0] M1)) Qt)) : V 0 [rr 6, ii x1, ii x2, none] [] M := bx_go hD hV hW [] 15 h
/-- X4_work(II)I -/
theorem b_339_0 {D : ca_} {V : vv_} {Qr : qr_} {Qt : qt_} (hD : Mo_ D) (hV : Cl_ wd0 D V Qr Qt m_339) (hW : Wk_ V) (x1 : Int) (x2 : Int) (M : mm_) (h :
 V 12 [rr 6, ii x1, ii x2, ii x2] [] (up_ (up_ M 6 148 0) 6 149 0)) : V 0 [rr 6, ii x1, ii x2, none] [] M := bx_go hD hV hW [(12, [])] 9 h
theorem i_339 : inq_ 0 k_339 = true := by decide +kernel
theorem z_339_8 : Sf_ k_339 g_339_8 := Sf_of i_339 8 rfl
theorem b_339_12 {D : ca_} {V : vv_} {Qr : qr_} {Qt : qt_} (hD : Mo_ D) (hV : Cl_ wd0 D V Qr Qt m_339) (hW : Wk_ V) (x1 : Int) (x2 : Int) (x3 : Int) (M : mm_) (h :
 (0 ≤ x3 ∧ x3 < 3000) ∧
  (if M 227 x3 = 0 then
  (if M 6 148 ≤ 0 then
   Qr [.inl 0] M
  else
   (0 ≤ w32 ((M 6 148) - 1) ∧ w32 ((M 6 148) - 1) < 1202) ∧
    Qr [.inl (M 243 (w32 ((M 6 148) - 1)))] M)
 else
  (if M 6 149 = 0 then
   (0 ≤ x3 ∧ x3 < 3000) ∧
    (0 ≤ x3 ∧ x3 < 3000) ∧
    D 340 [.inr (.inr 6), .inl x1, .inl (M 227 x3), .inl (M 228 x3)] M (rv_ fun M1 =>
    V 12 [rr 6, ii x1, ii x2, ii (w32 (x3 + 1))] [] M1) Qt
  else
   (if M 6 148 ≤ 0 then
    Qr [.inl 0] M
   else
    (0 ≤ w32 ((M 6 148) - 1) ∧ w32 ((M 6 148) - 1) < 1202) ∧
     Qr [.inl (M 243 (w32 ((M 6 148) - 1)))] M)))) : V 12 [rr 6, ii x1, ii x2, ii x3] [] M := bx_go hD (m := (g_339_8, m_339.2)) (Cl_sf z_339_8 hV) hW [(12, [])] 22 h
/-- X4_formStep(III)V -/
theorem b_340_0 {D : ca_} {V : vv_} {Qr : qr_} {Qt : qt_} (hD : Mo_ D) (hV : Cl_ wd0 D V Qr Qt m_340) (hW : Wk_ V) (x1 : Int) (x2 : Int) (x3 : Int) (M : mm_) (h :
 D 323 [.inl x1] M (ri_ fun v1 M1 =>
  (if x2 = 1 then D 341 [.inr (.inr 6), .inl x3] M1 (rv_ fun M16 =>
    Qr [] M16) Qt else
  (if x2 = 2 then (0 ≤ w32 ((w32 ((M1 6 148) - 1)) - 1) ∧ w32 ((w32 ((M1 6 148) - 1)) - 1) < 1202) ∧
    (0 ≤ w32 ((M1 6 148) - 1) ∧ w32 ((M1 6 148) - 1) < 1202) ∧
    D 343 [.inr (.inr 6), .inl x2, .inl (M1 243 (w32 ((w32 ((M1 6 148) - 1)) - 1))), .inl (M1 243 (w32 ((M1 6 148) - 1)))] (up_ M1 6 148 (w32 ((M1 6 148) - 1))) (rv_ fun M15 =>
    Qr [] M15) Qt else
  (if x2 = 3 then (0 ≤ w32 ((w32 ((M1 6 148) - 1)) - 1) ∧ w32 ((w32 ((M1 6 148) - 1)) - 1) < 1202) ∧
    (0 ≤ w32 ((M1 6 148) - 1) ∧ w32 ((M1 6 148) - 1) < 1202) ∧
    D 343 [.inr (.inr 6), .inl x2, .inl (M1 243 (w32 ((w32 ((M1 6 148) - 1)) - 1))), .inl (M1 243 (w32 ((M1 6 148) - 1)))] (up_ M1 6 148 (w32 ((M1 6 148) - 1))) (rv_ fun M14 =>
    Qr [] M14) Qt else
  (if x2 = 4 then (0 ≤ w32 ((w32 ((M1 6 148) - 1)) - 1) ∧ w32 ((w32 ((M1 6 148) - 1)) - 1) < 1202) ∧
    (0 ≤ w32 ((M1 6 148) - 1) ∧ w32 ((M1 6 148) - 1) < 1202) ∧
    D 343 [.inr (.inr 6), .inl x2, .inl (M1 243 (w32 ((w32 ((M1 6 148) - 1)) - 1))), .inl (M1 243 (w32 ((M1 6 148) - 1)))] (up_ M1 6 148 (w32 ((M1 6 148) - 1))) (rv_ fun M13 =>
    Qr [] M13) Qt else
  (if x2 = 5 then (if x3 = 0 then
    (0 ≤ v1 ∧ v1 < 1104) ∧
     D 341 [.inr (.inr 6), .inl (M1 239 v1)] M1 (rv_ fun M12 =>
     Qr [] M12) Qt
   else
    (0 ≤ w32 ((w32 (v1 + 2)) + x3) ∧ w32 ((w32 (v1 + 2)) + x3) < 1104) ∧
     D 341 [.inr (.inr 6), .inl (M1 239 (w32 ((w32 (v1 + 2)) + x3)))] M1 (rv_ fun M11 =>
     Qr [] M11) Qt) else
  (if x2 = 6 then (0 ≤ w32 ((w32 ((M1 6 148) - 1)) - 1) ∧ w32 ((w32 ((M1 6 148) - 1)) - 1) < 1202) ∧
    (0 ≤ w32 ((M1 6 148) - 1) ∧ w32 ((M1 6 148) - 1) < 1202) ∧
    D 343 [.inr (.inr 6), .inl x2, .inl (M1 243 (w32 ((w32 ((M1 6 148) - 1)) - 1))), .inl (M1 243 (w32 ((M1 6 148) - 1)))] (up_ M1 6 148 (w32 ((M1 6 148) - 1))) (rv_ fun M10 =>
    Qr [] M10) Qt else
  (if x2 = 7 then (0 ≤ w32 ((w32 ((M1 6 148) - 1)) - 1) ∧ w32 ((w32 ((M1 6 148) - 1)) - 1) < 1202) ∧
    (0 ≤ w32 ((M1 6 148) - 1) ∧ w32 ((M1 6 148) - 1) < 1202) ∧
    D 343 [.inr (.inr 6), .inl x2, .inl (M1 243 (w32 ((w32 ((M1 6 148) - 1)) - 1))), .inl (M1 243 (w32 ((M1 6 148) - 1)))] (up_ M1 6 148 (w32 ((M1 6 148) - 1))) (rv_ fun M9 =>
    Qr [] M9) Qt else
  (if x2 = 8 then D 341 [.inr (.inr 6), .inl (M1 6 128)] M1 (rv_ fun M8 =>
    Qr [] M8) Qt else
  (if x2 = 9 then (0 ≤ w32 (v1 + 25) ∧ w32 (v1 + 25) < 1104) ∧
    D 341 [.inr (.inr 6), .inl (M1 239 (w32 (v1 + 25)))] M1 (rv_ fun M7 =>
    Qr [] M7) Qt else
  (if x2 = 10 then D 342 [.inr (.inr 6), .inl x1, .inl x3] M1 (ri_ fun v2 M4 =>
    (if v2 = 0 then
     D 341 [.inr (.inr 6), .inl 0] M4 (rv_ fun M5 =>
      Qr [] M5) Qt
    else
     D 341 [.inr (.inr 6), .inl 1] M4 (rv_ fun M6 =>
      Qr [] M6) Qt)) Qt else
  (if x2 = 11 then (0 ≤ x3 ∧ x3 < 48) ∧
    (0 ≤ w32 ((w32 (v1 + 6)) + (M1 184 x3)) ∧ w32 ((w32 (v1 + 6)) + (M1 184 x3)) < 1104) ∧
    D 341 [.inr (.inr 6), .inl (M1 239 (w32 ((w32 (v1 + 6)) + (M1 184 x3))))] M1 (rv_ fun M3 =>
    Qr [] M3) Qt else
  (if x2 = 12 then (0 ≤ w32 ((M1 6 148) - 1) ∧ w32 ((M1 6 148) - 1) < 1202) ∧
    (if M1 243 (w32 ((M1 6 148) - 1)) < 0 then
    Qr [] (up_ M1 6 149 1)
   else
    (0 ≤ w32 ((M1 6 148) - 1) ∧ w32 ((M1 6 148) - 1) < 1202) ∧
     (0 ≤ x3 ∧ x3 < 48) ∧
     (if M1 243 (w32 ((M1 6 148) - 1)) < M1 183 x3 then
     (0 ≤ x3 ∧ x3 < 48) ∧
      (0 ≤ w32 ((M1 6 148) - 1) ∧ w32 ((M1 6 148) - 1) < 1202) ∧
      (0 ≤ w32 ((w32 ((w32 (v1 + 6)) + (M1 184 x3))) + (M1 243 (w32 ((M1 6 148) - 1)))) ∧ w32 ((w32 ((w32 (v1 + 6)) + (M1 184 x3))) + (M1 243 (w32 ((M1 6 148) - 1)))) < 1104) ∧
      (0 ≤ w32 ((M1 6 148) - 1) ∧ w32 ((M1 6 148) - 1) < 1202) ∧
      Qr [] (up_ M1 243 (w32 ((M1 6 148) - 1)) (M1 239 (w32 ((w32 ((w32 (v1 + 6)) + (M1 184 x3))) + (M1 243 (w32 ((M1 6 148) - 1)))))))
    else
     Qr [] (up_ M1 6 149 1))) else
  (if x2 = 13 then (0 ≤ w32 ((M1 6 148) - 1) ∧ w32 ((M1 6 148) - 1) < 1202) ∧
    (0 ≤ w32 ((M1 6 148) - 1) ∧ w32 ((M1 6 148) - 1) < 1202) ∧
    Qr [] (up_ M1 243 (w32 ((M1 6 148) - 1)) (w32 (-(M1 243 (w32 ((M1 6 148) - 1)))))) else
  (if x2 = 14 then (0 ≤ w32 ((M1 6 148) - 1) ∧ w32 ((M1 6 148) - 1) < 1202) ∧
    (0 ≤ w32 ((M1 6 148) - 1) ∧ w32 ((M1 6 148) - 1) < 1202) ∧
    Qr [] (up_ M1 243 (w32 ((M1 6 148) - 1)) (w32 (1 - (M1 243 (w32 ((M1 6 148) - 1)))))) else
  (0 ≤ w32 ((w32 ((M1 6 148) - 1)) - 1) ∧ w32 ((w32 ((M1 6 148) - 1)) - 1) < 1202) ∧
    (0 ≤ w32 ((M1 6 148) - 1) ∧ w32 ((M1 6 148) - 1) < 1202) ∧
    D 343 [.inr (.inr 6), .inl x2, .inl (M1 243 (w32 ((w32 ((M1 6 148) - 1)) - 1))), .inl (M1 243 (w32 ((M1 6 148) - 1)))] (up_ M1 6 148 (w32 ((M1 6 148) - 1))) (rv_ fun M2 =>
    Qr [] M2) Qt))))))))))))))) Qt) : V 0 [rr 6, ii x1, ii x2, ii x3, none] [] M := bx_go hD hV hW [] 52 h
/-- X4_push(I)V -/
theorem b_341_0 {D : ca_} {V : vv_} {Qr : qr_} {Qt : qt_} (hD : Mo_ D) (hV : Cl_ wd0 D V Qr Qt m_341) (hW : Wk_ V) (x1 : Int) (M : mm_) (h :
 (0 ≤ M 6 148 ∧ M 6 148 < 1202) ∧
  Qr [] (up_ (up_ M 243 (M 6 148) x1) 6 148 (w32 ((M 6 148) + 1)))) : V 0 [rr 6, ii x1] [] M := bx_go hD hV hW [] 13 h
/-- X4_isActive(II)Z -/
theorem b_342_0 {D : ca_} {V : vv_} {Qr : qr_} {Qt : qt_} (hD : Mo_ D) (hV : Cl_ wd0 D V Qr Qt m_342) (hW : Wk_ V) (x1 : Int) (x2 : Int) (M : mm_) (h :
 D 323 [.inl x1] M (ri_ fun v1 M1 =>
  (0 ≤ w32 ((w32 (v1 + 22)) + x2) ∧ w32 ((w32 (v1 + 22)) + x2) < 1104) ∧
   (if M1 239 (w32 ((w32 (v1 + 22)) + x2)) < 0 then
   V 29 [rr 6, ii x1, ii x2, ii v1, ii 0, ii 0] [] M1
  else
   V 29 [rr 6, ii x1, ii x2, ii v1, ii 1, ii 0] [] M1)) Qt) : V 0 [rr 6, ii x1, ii x2, none, none, none] [] M := bx_go hD hV hW [(29, [])] 18 h
theorem i_342 : inq_ 0 k_342 = true := by decide +kernel
theorem z_342_18 : Sf_ k_342 g_342_18 := Sf_of i_342 18 rfl
theorem b_342_29 {D : ca_} {V : vv_} {Qr : qr_} {Qt : qt_} (hD : Mo_ D) (hV : Cl_ wd0 D V Qr Qt m_342) (hW : Wk_ V) (x1 : Int) (x2 : Int) (x3 : Int) (x4 : Int) (x5 : Int) (M : mm_) (h :
 (0 ≤ w32 (x3 + 25) ∧ w32 (x3 + 25) < 1104) ∧
  (if x5 < M 239 (w32 (x3 + 25)) then
  (if x4 = 0 then
   (0 ≤ w32 ((w32 ((w32 (x3 + 25)) + 1)) + (w32 (5 * x5))) ∧ w32 ((w32 ((w32 (x3 + 25)) + 1)) + (w32 (5 * x5))) < 1104) ∧
    (if M 239 (w32 ((w32 ((w32 (x3 + 25)) + 1)) + (w32 (5 * x5)))) = w32 (100 + x2) then
    V 29 [rr 6, ii x1, ii x2, ii x3, ii 1, ii (w32 (x5 + 1))] [] M
   else
    V 29 [rr 6, ii x1, ii x2, ii x3, ii 0, ii (w32 (x5 + 1))] [] M)
  else
   V 29 [rr 6, ii x1, ii x2, ii x3, ii 1, ii (w32 (x5 + 1))] [] M)
 else
  bl_ x4 ∧ Qr [.inl x4] M)) : V 29 [rr 6, ii x1, ii x2, ii x3, ii x4, ii x5] [] M := bx_go hD (m := (g_342_18, m_342.2)) (Cl_sf z_342_18 hV) hW [(29, [])] 32 h
/-- X4_two(III)V -/
theorem b_343_0 {D : ca_} {V : vv_} {Qr : qr_} {Qt : qt_} (hD : Mo_ D) (hV : Cl_ wd0 D V Qr Qt m_343) (hW : Wk_ V) (x1 : Int) (x2 : Int) (x3 : Int) (M : mm_) (h :
 (if x1 = 23 then
  (if x3 = 0 then
   Qr [] (up_ M 6 149 2)
  else
   V 22 [rr 6, ii x1, ii x2, ii x3] [] M)
 else
  (if x1 = 24 then
   (if x3 = 0 then
    Qr [] (up_ M 6 149 2)
   else
    V 22 [rr 6, ii x1, ii x2, ii x3] [] M)
  else
   V 22 [rr 6, ii x1, ii x2, ii x3] [] M))) : V 0 [rr 6, ii x1, ii x2, ii x3] [] M := bx_go hD hV hW [(22, [])] 12 h
theorem i_343 : inq_ 0 k_343 = true := by decide +kernel
theorem z_343_12 : Sf_ k_343 g_343_12 := Sf_of i_343 12 rfl
theorem b_343_22 {D : ca_} {V : vv_} {Qr : qr_} {Qt : qt_} (hD : Mo_ D) (hV : Cl_ wd0 D V Qr Qt m_343) (hW : Wk_ V) (x1 : Int) (x2 : Int) (x3 : Int) (M : mm_) (h :
 (if x1 < 25 then
  (if x1 = 20 then
   (0 ≤ w32 ((M 6 148) - 1) ∧ w32 ((M 6 148) - 1) < 1202) ∧
    Qr [] (up_ M 243 (w32 ((M 6 148) - 1)) (w32 (x2 + x3)))
  else
   (if x1 = 21 then
    (0 ≤ w32 ((M 6 148) - 1) ∧ w32 ((M 6 148) - 1) < 1202) ∧
     Qr [] (up_ M 243 (w32 ((M 6 148) - 1)) (w32 (x2 - x3)))
   else
    (if x1 = 22 then
     (0 ≤ w32 ((M 6 148) - 1) ∧ w32 ((M 6 148) - 1) < 1202) ∧
      Qr [] (up_ M 243 (w32 ((M 6 148) - 1)) (w32 (x2 * x3)))
    else
     (if x1 = 23 then
      x3 ≠ 0 ∧ (0 ≤ w32 ((M 6 148) - 1) ∧ w32 ((M 6 148) - 1) < 1202) ∧
       Qr [] (up_ M 243 (w32 ((M 6 148) - 1)) (w32 (Int.tdiv x2 x3)))
     else
      x3 ≠ 0 ∧ (0 ≤ w32 ((M 6 148) - 1) ∧ w32 ((M 6 148) - 1) < 1202) ∧
       Qr [] (up_ M 243 (w32 ((M 6 148) - 1)) (Int.tmod x2 x3))))))
 else
  D 344 [.inl x1, .inl x2, .inl x3] M (ri_ fun v1 M1 =>
   (if v1 = 0 then
    (0 ≤ w32 ((M 6 148) - 1) ∧ w32 ((M 6 148) - 1) < 1202) ∧
     Qr [] (up_ M1 243 (w32 ((M 6 148) - 1)) 0)
   else
    (0 ≤ w32 ((M 6 148) - 1) ∧ w32 ((M 6 148) - 1) < 1202) ∧
     Qr [] (up_ M1 243 (w32 ((M 6 148) - 1)) 1))) Qt)) : V 22 [rr 6, ii x1, ii x2, ii x3] [] M := bx_go hD (m := (g_343_12, m_343.2)) (Cl_sf z_343_12 hV) hW [(22, [])] 27 h
/-- X4_isSo(III)Z -/
theorem b_344_0 {D : ca_} {V : vv_} {Qr : qr_} {Qt : qt_} (hD : Mo_ D) (hV : Cl_ wd0 D V Qr Qt m_344) (hW : Wk_ V) (x0 : Int) (x1 : Int) (x2 : Int) (M : mm_) (h :
 (if x0 = 25 then (if x1 = x2 then
   bl_ 1 ∧ Qr [.inl 1] M
  else
   bl_ 0 ∧ Qr [.inl 0] M) else
 (if x0 = 26 then (if x1 = x2 then
   bl_ 0 ∧ Qr [.inl 0] M
  else
   bl_ 1 ∧ Qr [.inl 1] M) else
 (if x0 = 27 then (if x1 < x2 then
   bl_ 1 ∧ Qr [.inl 1] M
  else
   bl_ 0 ∧ Qr [.inl 0] M) else
 (if x0 = 28 then (if x1 ≤ x2 then
   bl_ 1 ∧ Qr [.inl 1] M
  else
   bl_ 0 ∧ Qr [.inl 0] M) else
 (if x0 = 29 then (if x1 ≤ x2 then
   bl_ 0 ∧ Qr [.inl 0] M
  else
   bl_ 1 ∧ Qr [.inl 1] M) else
 (if x0 = 30 then (if x1 < x2 then
   bl_ 0 ∧ Qr [.inl 0] M
  else
   bl_ 1 ∧ Qr [.inl 1] M) else
 (if x0 = 31 then (if x1 = 0 then
   bl_ 0 ∧ Qr [.inl 0] M
  else
   (if x2 = 0 then
    bl_ 0 ∧ Qr [.inl 0] M
   else
    bl_ 1 ∧ Qr [.inl 1] M)) else
 (if x1 = 0 then
   (if x2 = 0 then
    bl_ 0 ∧ Qr [.inl 0] M
   else
    bl_ 1 ∧ Qr [.inl 1] M)
  else
   bl_ 1 ∧ Qr [.inl 1] M))))))))) : V 0 [ii x0, ii x1, ii x2] [] M := bx_go hD hV hW [] 9 h
/-- X4_step(II)V -/
theorem b_345_0 {D : ca_} {V : vv_} {Qr : qr_} {Qt : qt_} (hD : Mo_ D) (hV : Cl_ wd0 D V Qr Qt m_345) (hW : Wk_ V) (x1 : Int) (x2 : Int) (M : mm_) (h :
 D 323 [.inl x1] M (ri_ fun v1 M1 =>
  (0 ≤ v1 ∧ v1 < 1104) ∧
   (if x2 = 1 then
   (0 ≤ w32 (v1 + 1) ∧ w32 (v1 + 1) < 1104) ∧
    (0 ≤ M1 239 (w32 (v1 + 1)) ∧ M1 239 (w32 (v1 + 1)) < 6) ∧
    D 346 [.inr (.inr 6), .inl x1, .inl (M1 176 (M1 239 (w32 (v1 + 1))))] M1 (rv_ fun M3 =>
    Qr [] M3) Qt
  else
   (if x2 = 4 then
    (0 ≤ w32 (v1 + 3) ∧ w32 (v1 + 3) < 1104) ∧
     (0 ≤ M1 6 151 ∧ M1 6 151 < 1300) ∧
     D 346 [.inr (.inr 6), .inl x1, .inl (M1 197 (M1 6 151))] (up_ M1 239 (w32 (v1 + 3)) (M1 239 v1)) (rv_ fun M2 =>
     Qr [] M2) Qt
   else
    (0 ≤ w32 ((w32 ((w32 (v1 + 25)) + 1)) + (w32 (5 * (M1 6 152)))) ∧ w32 ((w32 ((w32 (v1 + 25)) + 1)) + (w32 (5 * (M1 6 152)))) < 1104) ∧
     (0 ≤ w32 ((w32 ((w32 ((w32 (v1 + 25)) + 1)) + (w32 (5 * (M1 6 152))))) + 1) ∧ w32 ((w32 ((w32 ((w32 (v1 + 25)) + 1)) + (w32 (5 * (M1 6 152))))) + 1) < 1104) ∧
     (0 ≤ w32 (v1 + 3) ∧ w32 (v1 + 3) < 1104) ∧
     (if x2 = 2 then
     V 136 [rr 6, ii x1, ii x2, ii v1, ii (M1 239 v1), ii (w32 ((w32 ((w32 (v1 + 25)) + 1)) + (w32 (5 * (M1 6 152))))), ii (M1 239 (w32 ((w32 ((w32 (v1 + 25)) + 1)) + (w32 (5 * (M1 6 152)))))), ii (M1 239 (w32 ((w32 ((w32 ((w32 (v1 + 25)) + 1)) + (w32 (5 * (M1 6 152))))) + 1))), ii (M1 6 153), ii (M1 6 151), ii 0] [] (up_ M1 239 (w32 (v1 + 3)) (M1 239 (w32 ((w32 ((w32 ((w32 (v1 + 25)) + 1)) + (w32 (5 * (M1 6 152))))) + 1))))
    else
     V 188 [rr 6, ii x1, ii x2, ii v1, ii (M1 239 v1), ii (w32 ((w32 ((w32 (v1 + 25)) + 1)) + (w32 (5 * (M1 6 152))))), ii (M1 239 (w32 ((w32 ((w32 (v1 + 25)) + 1)) + (w32 (5 * (M1 6 152)))))), ii (M1 239 (w32 ((w32 ((w32 ((w32 (v1 + 25)) + 1)) + (w32 (5 * (M1 6 152))))) + 1))), ii (M1 6 153), ii (M1 6 151), none] [] (up_ M1 239 (w32 (v1 + 3)) (M1 239 (w32 ((w32 ((w32 ((w32 (v1 + 25)) + 1)) + (w32 (5 * (M1 6 152))))) + 1)))))))) Qt) : V 0 [rr 6, ii x1, ii x2, none, none, none, none, none, none, none, none] [] M := bx_go hD hV hW [(136, []), (188, [10])] 56 h
theorem i_345 : inq_ 0 k_345 = true := by decide +kernel
theorem z_345_84 : Sf_ k_345 g_345_84 := Sf_of i_345 84 rfl
theorem b_345_136 {D : ca_} {V : vv_} {Qr : qr_} {Qt : qt_} (hD : Mo_ D) (hV : Cl_ wd0 D V Qr Qt m_345) (hW : Wk_ V) (x1 : Int) (x2 : Int) (x3 : Int) (x4 : Int) (x5 : Int) (x6 : Int) (x7 : Int) (x8 : Int) (x9 : Int) (x10 : Int) (M : mm_) (h :
 (0 ≤ x8 ∧ x8 < 1300) ∧
  (if x10 < M 201 x8 then
  (0 ≤ w32 ((w32 (3 * x8)) + x10) ∧ w32 ((w32 (3 * x8)) + x10) < 3900) ∧
   (0 ≤ w32 ((w32 (x5 + 2)) + x10) ∧ w32 ((w32 (x5 + 2)) + x10) < 1104) ∧
   (0 ≤ w32 ((w32 (x3 + 6)) + (M 202 (w32 ((w32 (3 * x8)) + x10)))) ∧ w32 ((w32 (x3 + 6)) + (M 202 (w32 ((w32 (3 * x8)) + x10)))) < 1104) ∧
   V 136 [rr 6, ii x1, ii x2, ii x3, ii x4, ii x5, ii x6, ii x7, ii x8, ii x9, ii (w32 (x10 + 1))] [] (up_ M 239 (w32 ((w32 (x3 + 6)) + (M 202 (w32 ((w32 (3 * x8)) + x10))))) (M 239 (w32 ((w32 (x5 + 2)) + x10))))
 else
  V 188 [rr 6, ii x1, ii x2, ii x3, ii x4, ii x5, ii x6, ii x7, ii x8, ii x9, none] [] M)) : V 136 [rr 6, ii x1, ii x2, ii x3, ii x4, ii x5, ii x6, ii x7, ii x8, ii x9, ii x10] [] M := bx_go hD (m := (g_345_84, m_345.2)) (Cl_sf z_345_84 hV) hW [(136, []), (188, [10])] 32 h
theorem z_345_115 : Sf_ k_345 g_345_115 := Sf_tr z_345_84 31 rfl
theorem b_345_188 {D : ca_} {V : vv_} {Qr : qr_} {Qt : qt_} (hD : Mo_ D) (hV : Cl_ wd0 D V Qr Qt m_345) (hW : Wk_ V) (x1 : Int) (x2 : Int) (x3 : Int) (x4 : Int) (x5 : Int) (x6 : Int) (x7 : Int) (x8 : Int) (x9 : Int) (M : mm_) (h :
 D 353 [.inr (.inr 6), .inl x1, .inl (M 6 152)] M (rv_ fun M1 =>
  (if x2 = 2 then
   D 324 [.inr (.inr 6), .inl 2, .inl x4, .inl x6, .inl x7] M1 (rv_ fun M3 =>
    (0 ≤ x9 ∧ x9 < 1300) ∧
     D 346 [.inr (.inr 6), .inl x1, .inl (M3 197 x9)] M3 (rv_ fun M4 =>
     Qr [] M4) Qt) Qt
  else
   D 333 [.inr (.inr 6), .inl x4, .inl x6, .inl x7] M1 (rv_ fun M2 =>
    Qr [] M2) Qt)) Qt) : V 188 [rr 6, ii x1, ii x2, ii x3, ii x4, ii x5, ii x6, ii x7, ii x8, ii x9, none] [] M := bx_go hD (m := (g_345_115, m_345.2)) (Cl_sf z_345_115 hV) hW [(136, []), (188, [10])] 23 h
/-- X4_perform(II)V -/
theorem b_346_0 {D : ca_} {V : vv_} {Qr : qr_} {Qt : qt_} (hD : Mo_ D) (hV : Cl_ wd0 D V Qr Qt m_346) (hW : Wk_ V) (x1 : Int) (x2 : Int) (M : mm_) (h :
 V 8 [rr 6, ii x1, ii x2, ii x2, ii 0, ii 1, none, none] [] M) : V 0 [rr 6, ii x1, ii x2, none, none, none, none, none] [] M := bx_go hD hV hW [(8, [6, 7]), (126, [7])] 7 h
theorem i_346 : inq_ 0 k_346 = true := by decide +kernel
theorem z_346_6 : Sf_ k_346 g_346_6 := Sf_of i_346 6 rfl
theorem b_346_8 {D : ca_} {V : vv_} {Qr : qr_} {Qt : qt_} (hD : Mo_ D) (hV : Cl_ wd0 D V Qr Qt m_346) (hW : Wk_ V) (x1 : Int) (x2 : Int) (x3 : Int) (x4 : Int) (x5 : Int) (M : mm_) (h :
 (if x5 = 0 then
  Qr [] M
 else
  (0 ≤ x3 ∧ x3 < 1300) ∧
   (if M 203 x3 = 7 then
   (0 ≤ x3 ∧ x3 < 1300) ∧
    V 8 [rr 6, ii x1, ii x2, ii (M 205 x3), ii x4, ii x5, none, none] [] M
  else
   (if w32 (x4 + 1) ≤ 200 then
    (0 ≤ x3 ∧ x3 < 1300) ∧
     (if M 203 x3 = 6 then (0 ≤ x3 ∧ x3 < 1300) ∧
      D 339 [.inr (.inr 6), .inl x1, .inl (M 205 x3)] M (ri_ fun v5 M9 =>
      (if M9 6 149 = 0 then
       D 349 [.inr (.inr 6), .inl x3, .inl v5] M9 (ri_ fun v6 M11 =>
        V 8 [rr 6, ii x1, ii x2, ii v6, ii (w32 (x4 + 1)), ii x5, none, none] [] M11) Qt
      else
       (if M9 6 149 ≤ 0 then
        V 8 [rr 6, ii x1, ii x2, ii (w32 (x3 + 1)), ii (w32 (x4 + 1)), ii x5, none, none] [] M9
       else
        (0 ≤ x3 ∧ x3 < 1300) ∧
         D 347 [.inr (.inr 6), .inl x1, .inl (M9 6 149), .inl (M9 204 x3)] M9 (rv_ fun M10 =>
         Qr [] M10) Qt))) Qt else
    (if M 203 x3 = 7 then D 350 [.inr (.inr 6), .inl x1, .inl x3] M (ri_ fun v4 M7 =>
      (if v4 ≤ 0 then
       V 8 [rr 6, ii x1, ii x2, ii (w32 (x3 + 1)), ii (w32 (x4 + 1)), ii x5, none, none] [] M7
      else
       (0 ≤ x3 ∧ x3 < 1300) ∧
        D 347 [.inr (.inr 6), .inl x1, .inl v4, .inl (M7 204 x3)] M7 (rv_ fun M8 =>
        Qr [] M8) Qt)) Qt else
    (if M 203 x3 = 8 then (0 ≤ x3 ∧ x3 < 1300) ∧
      (if M 205 x3 < 0 then
      V 126 [rr 6, ii x1, ii x2, ii x3, ii (w32 (x4 + 1)), ii x5, ii 0, none] [] M
     else
      D 323 [.inl x1] M (ri_ fun v3 M6 =>
       (0 ≤ x3 ∧ x3 < 1300) ∧
        (0 ≤ w32 (v3 + 2) ∧ w32 (v3 + 2) < 1104) ∧
        V 126 [rr 6, ii x1, ii x2, ii x3, ii (w32 (x4 + 1)), ii x5, ii 0, none] [] (up_ M6 239 (w32 (v3 + 2)) (M6 205 x3))) Qt) else
    (if M 203 x3 = 9 then D 348 [.inr (.inr 6), .inl x1] M (rv_ fun M4 =>
      (if (0 : Int) ≤ 0 then
       V 8 [rr 6, ii x1, ii x2, ii (w32 (x3 + 1)), ii (w32 (x4 + 1)), ii 0, none, none] [] M4
      else
       (0 ≤ x3 ∧ x3 < 1300) ∧
        D 347 [.inr (.inr 6), .inl x1, .inl 0, .inl (M4 204 x3)] M4 (rv_ fun M5 =>
        Qr [] M5) Qt)) Qt else
    (if M 203 x3 = 10 then D 323 [.inl x1] M (ri_ fun v2 M3 =>
      (0 ≤ w32 (v2 + 1) ∧ w32 (v2 + 1) < 1104) ∧
       (0 ≤ x3 ∧ x3 < 1300) ∧
       (0 ≤ w32 ((w32 (10 * (M3 239 (w32 (v2 + 1))))) + (M3 205 x3)) ∧ w32 ((w32 (10 * (M3 239 (w32 (v2 + 1))))) + (M3 205 x3)) < 60) ∧
       V 8 [rr 6, ii x1, ii x2, ii (M3 188 (w32 ((w32 (10 * (M3 239 (w32 (v2 + 1))))) + (M3 205 x3)))), ii (w32 (x4 + 1)), ii x5, none, none] [] M3) Qt else
    D 350 [.inr (.inr 6), .inl x1, .inl x3] M (ri_ fun v1 M1 =>
      (if v1 ≤ 0 then
       V 8 [rr 6, ii x1, ii x2, ii (w32 (x3 + 1)), ii (w32 (x4 + 1)), ii x5, none, none] [] M1
      else
       (0 ≤ x3 ∧ x3 < 1300) ∧
        D 347 [.inr (.inr 6), .inl x1, .inl v1, .inl (M1 204 x3)] M1 (rv_ fun M2 =>
        Qr [] M2) Qt)) Qt)))))
   else
    (0 ≤ x3 ∧ x3 < 1300) ∧
     D 347 [.inr (.inr 6), .inl x1, .inl 4, .inl (M 204 x3)] M (rv_ fun M12 =>
     Qr [] M12) Qt)))) : V 8 [rr 6, ii x1, ii x2, ii x3, ii x4, ii x5, none, none] [] M := bx_go hD (m := (g_346_6, m_346.2)) (Cl_sf z_346_6 hV) hW [(8, [6, 7]), (126, [7])] 43 h
theorem z_346_56 : Sf_ k_346 g_346_56 := Sf_tr z_346_6 50 rfl
theorem b_346_126 {D : ca_} {V : vv_} {Qr : qr_} {Qt : qt_} (hD : Mo_ D) (hV : Cl_ wd0 D V Qr Qt m_346) (hW : Wk_ V) (x1 : Int) (x2 : Int) (x3 : Int) (x4 : Int) (x5 : Int) (x6 : Int) (M : mm_) (h :
 D 323 [.inl x1] M (ri_ fun v1 M1 =>
  (0 ≤ v1 ∧ v1 < 1104) ∧
   D 324 [.inr (.inr 6), .inl 5, .inl (M1 239 v1), .inl ((-1)), .inl 0] M1 (rv_ fun M2 =>
   (if x6 ≤ 0 then
    V 8 [rr 6, ii x1, ii x2, ii (w32 (x3 + 1)), ii x4, ii 0, none, none] [] M2
   else
    (0 ≤ x3 ∧ x3 < 1300) ∧
     D 347 [.inr (.inr 6), .inl x1, .inl x6, .inl (M2 204 x3)] M2 (rv_ fun M3 =>
     Qr [] M3) Qt)) Qt) Qt) : V 126 [rr 6, ii x1, ii x2, ii x3, ii x4, ii x5, ii x6, none] [] M := bx_go hD (m := (g_346_56, m_346.2)) (Cl_sf z_346_56 hV) hW [(8, [6, 7]), (126, [7])] 24 h
/-- X4_fail(III)V -/
theorem b_347_0 {D : ca_} {V : vv_} {Qr : qr_} {Qt : qt_} (hD : Mo_ D) (hV : Cl_ wd0 D V Qr Qt m_347) (hW : Wk_ V) (x1 : Int) (x2 : Int) (x3 : Int) (M : mm_) (h :
 (bl_ (M 6 127) → (if M 6 127 = 0 then
  D 323 [.inl x1] (up_ (up_ (up_ (up_ M 6 139 (w32 ((M 6 139) + 1))) 6 133 (w32 ((M 6 133) + 1))) 6 134 x2) 6 135 x3) (ri_ fun v2 M4 =>
   (0 ≤ v2 ∧ v2 < 1104) ∧
    D 324 [.inr (.inr 6), .inl 7, .inl (M4 239 v2), .inl ((-1)), .inl 0] M4 (rv_ fun M5 =>
    D 348 [.inr (.inr 6), .inl x1] M5 (rv_ fun M6 =>
     Qr [] M6) Qt) Qt) Qt
 else
  D 323 [.inl x1] (up_ M 6 139 (w32 ((M 6 139) + 1))) (ri_ fun v1 M1 =>
   (0 ≤ v1 ∧ v1 < 1104) ∧
    D 324 [.inr (.inr 6), .inl 7, .inl (M1 239 v1), .inl ((-1)), .inl 0] M1 (rv_ fun M2 =>
    D 348 [.inr (.inr 6), .inl x1] M2 (rv_ fun M3 =>
     Qr [] M3) Qt) Qt) Qt))) : V 0 [rr 6, ii x1, ii x2, ii x3] [] M := bx_go hD hV hW [] 35 h
/-- X4_stop(I)V -/
theorem b_348_0 {D : ca_} {V : vv_} {Qr : qr_} {Qt : qt_} (hD : Mo_ D) (hV : Cl_ wd0 D V Qr Qt m_348) (hW : Wk_ V) (x1 : Int) (M : mm_) (h :
 D 323 [.inl x1] M (ri_ fun v1 M1 =>
  (0 ≤ v1 ∧ v1 < 1104) ∧
   D 324 [.inr (.inr 6), .inl 6, .inl (M1 239 v1), .inl ((-1)), .inl 0] M1 (rv_ fun M2 =>
   V 24 [rr 6, ii x1, ii v1, ii (M1 239 v1), ii 0] [] M2) Qt) Qt) : V 0 [rr 6, ii x1, none, none, none] [] M := bx_go hD hV hW [(24, []), (84, []), (136, [])] 17 h
theorem i_348 : inq_ 0 k_348 = true := by decide +kernel
theorem z_348_16 : Sf_ k_348 g_348_16 := Sf_of i_348 16 rfl
theorem b_348_24 {D : ca_} {V : vv_} {Qr : qr_} {Qt : qt_} (hD : Mo_ D) (hV : Cl_ wd0 D V Qr Qt m_348) (hW : Wk_ V) (x1 : Int) (x2 : Int) (x3 : Int) (x4 : Int) (M : mm_) (h :
 (0 ≤ w32 (x2 + 25) ∧ w32 (x2 + 25) < 1104) ∧
  (if x4 < M 239 (w32 (x2 + 25)) then
  (0 ≤ w32 ((w32 ((w32 (x2 + 25)) + 1)) + (w32 (5 * x4))) ∧ w32 ((w32 ((w32 (x2 + 25)) + 1)) + (w32 (5 * x4))) < 1104) ∧
   (0 ≤ w32 ((w32 ((w32 (x2 + 25)) + 2)) + (w32 (5 * x4))) ∧ w32 ((w32 ((w32 (x2 + 25)) + 2)) + (w32 (5 * x4))) < 1104) ∧
   D 333 [.inr (.inr 6), .inl x3, .inl (M 239 (w32 ((w32 ((w32 (x2 + 25)) + 1)) + (w32 (5 * x4))))), .inl (M 239 (w32 ((w32 ((w32 (x2 + 25)) + 2)) + (w32 (5 * x4)))))] M (rv_ fun M1 =>
   V 24 [rr 6, ii x1, ii x2, ii x3, ii (w32 (x4 + 1))] [] M1) Qt
 else
  V 84 [rr 6, ii x1, ii x2, ii x3, ii x2] [] M)) : V 24 [rr 6, ii x1, ii x2, ii x3, ii x4] [] M := bx_go hD (m := (g_348_16, m_348.2)) (Cl_sf z_348_16 hV) hW [(24, []), (84, []), (136, [])] 38 h
theorem z_348_55 : Sf_ k_348 g_348_55 := Sf_tr z_348_16 39 rfl
theorem b_348_84 {D : ca_} {V : vv_} {Qr : qr_} {Qt : qt_} (hD : Mo_ D) (hV : Cl_ wd0 D V Qr Qt m_348) (hW : Wk_ V) (x1 : Int) (x2 : Int) (x3 : Int) (x4 : Int) (M : mm_) (h :
 (0 ≤ (0 : Int) ∧ (0 : Int) < 1104) ∧
  D 323 [.inl (w32 ((M 239 0) - 1))] M (ri_ fun v1 M1 =>
  (if x4 < v1 then
   (0 ≤ w32 (x4 + 56) ∧ w32 (x4 + 56) < 1104) ∧
    (0 ≤ x4 ∧ x4 < 1104) ∧
    V 84 [rr 6, ii x1, ii x2, ii x3, ii (w32 (x4 + 1))] [] (up_ M1 239 x4 (M1 239 (w32 (x4 + 56))))
  else
   (0 ≤ (0 : Int) ∧ (0 : Int) < 1104) ∧
    D 323 [.inl (w32 ((M1 239 0) - 1))] M1 (ri_ fun v2 M2 =>
    V 136 [rr 6, ii x1, ii x2, ii x3, ii v2] [] M2) Qt)) Qt) : V 84 [rr 6, ii x1, ii x2, ii x3, ii x4] [] M := bx_go hD (m := (g_348_55, m_348.2)) (Cl_sf z_348_55 hV) hW [(24, []), (84, []), (136, [])] 22 h
theorem z_348_84 : Sf_ k_348 g_348_84 := Sf_tr z_348_55 29 rfl
theorem b_348_136 {D : ca_} {V : vv_} {Qr : qr_} {Qt : qt_} (hD : Mo_ D) (hV : Cl_ wd0 D V Qr Qt m_348) (hW : Wk_ V) (x1 : Int) (x2 : Int) (x3 : Int) (x4 : Int) (M : mm_) (h :
 (0 ≤ (0 : Int) ∧ (0 : Int) < 1104) ∧
  D 323 [.inl (M 239 0)] M (ri_ fun v1 M1 =>
  (if x4 < v1 then
   (0 ≤ x4 ∧ x4 < 1104) ∧
    V 136 [rr 6, ii x1, ii x2, ii x3, ii (w32 (x4 + 1))] [] (up_ M1 239 x4 0)
  else
   (0 ≤ (0 : Int) ∧ (0 : Int) < 1104) ∧
    (0 ≤ (0 : Int) ∧ (0 : Int) < 1104) ∧
    Qr [] (up_ M1 239 0 (w32 ((M1 239 0) - 1))))) Qt) : V 136 [rr 6, ii x1, ii x2, ii x3, ii x4] [] M := bx_go hD (m := (g_348_84, m_348.2)) (Cl_sf z_348_84 hV) hW [(24, []), (84, []), (136, [])] 16 h
/-- X4_goal(II)I -/
theorem b_349_0 {D : ca_} {V : vv_} {Qr : qr_} {Qt : qt_} (hD : Mo_ D) (hV : Cl_ wd0 D V Qr Qt m_349) (hW : Wk_ V) (x1 : Int) (x2 : Int) (M : mm_) (h :
 (0 ≤ x1 ∧ x1 < 1300) ∧
  V 7 [rr 6, ii x1, ii x2, ii (M 206 x1)] [] M) : V 0 [rr 6, ii x1, ii x2, none] [] M := bx_go hD hV hW [(7, [])] 6 h
theorem b_349_7 {D : ca_} {V : vv_} {Qr : qr_} {Qt : qt_} (hD : Mo_ D) (hV : Cl_ wd0 D V Qr Qt m_349) (hW : Wk_ V) (x1 : Int) (x2 : Int) (x3 : Int) (M : mm_) (h :
 (if x3 < 0 then
  (0 ≤ x1 ∧ x1 < 1300) ∧
   (if M 207 x1 < 0 then
   (0 ≤ x1 ∧ x1 < 1300) ∧
    Qr [.inl (M 208 x1)] M
  else
   (0 ≤ x1 ∧ x1 < 1300) ∧
    Qr [.inl (M 207 x1)] M)
 else
  (0 ≤ x3 ∧ x3 < 1300) ∧
   (if x2 < M 216 x3 then
   (0 ≤ x3 ∧ x3 < 1300) ∧
    V 7 [rr 6, ii x1, ii x2, ii (M 219 x3)] [] M
  else
   (0 ≤ x3 ∧ x3 < 1300) ∧
    (if x2 ≤ M 217 x3 then
    (0 ≤ x3 ∧ x3 < 1300) ∧
     Qr [.inl (M 218 x3)] M
   else
    (0 ≤ x3 ∧ x3 < 1300) ∧
     V 7 [rr 6, ii x1, ii x2, ii (M 219 x3)] [] M)))) : V 7 [rr 6, ii x1, ii x2, ii x3] [] M := bx_go hD hV hW [(7, [])] 21 h
/-- X4_does(II)I -/
theorem b_350_0 {D : ca_} {V : vv_} {Qr : qr_} {Qt : qt_} (hD : Mo_ D) (hV : Cl_ wd0 D V Qr Qt m_350) (hW : Wk_ V) (x1 : Int) (x2 : Int) (M : mm_) (h :
 D 323 [.inl x1] M (ri_ fun v1 M1 =>
  (0 ≤ x2 ∧ x2 < 1300) ∧
   (if M1 203 x2 = 1 then D 351 [.inr (.inr 6), .inl x1, .inl x2] M1 (ri_ fun v6 M8 =>
    Qr [.inl v6] M8) Qt else
  (if M1 203 x2 = 2 then D 356 [.inr (.inr 6), .inl x1, .inl x2] M1 (ri_ fun v5 M7 =>
    Qr [.inl v5] M7) Qt else
  (if M1 203 x2 = 3 then (0 ≤ x2 ∧ x2 < 1300) ∧
    D 339 [.inr (.inr 6), .inl x1, .inl (M1 206 x2)] M1 (ri_ fun v4 M5 =>
    (if M5 6 149 ≤ 0 then
     (0 ≤ x2 ∧ x2 < 1300) ∧
      D 352 [.inr (.inr 6), .inl x1, .inl (M5 205 x2)] M5 (rv_ fun M6 =>
      (if v4 < 0 then
       V 107 [rr 6, ii x1, ii x2, ii v1, ii v4, jj (w64 ((M6 6 128) + 0)), none] [] M6
      else
       V 107 [rr 6, ii x1, ii x2, ii v1, ii v4, jj (w64 ((M6 6 128) + v4)), none] [] M6)) Qt
    else
     Qr [.inl (M5 6 149)] M5)) Qt else
  (if M1 203 x2 = 4 then (0 ≤ x2 ∧ x2 < 1300) ∧
    D 352 [.inr (.inr 6), .inl x1, .inl (M1 205 x2)] M1 (rv_ fun M4 =>
    Qr [.inl 0] M4) Qt else
  (if M1 203 x2 = 5 then D 354 [.inr (.inr 6), .inl x1, .inl x2] M1 (ri_ fun v3 M3 =>
    Qr [.inl v3] M3) Qt else
  D 356 [.inr (.inr 6), .inl x1, .inl x2] M1 (ri_ fun v2 M2 =>
    Qr [.inl v2] M2) Qt)))))) Qt) : V 0 [rr 6, ii x1, ii x2, none, none, none, none] [] M := bx_go hD hV hW [(107, [6])] 37 h
theorem i_350 : inq_ 0 k_350 = true := by decide +kernel
theorem z_350_45 : Sf_ k_350 g_350_45 := Sf_of i_350 45 rfl
theorem b_350_107 {D : ca_} {V : vv_} {Qr : qr_} {Qt : qt_} (hD : Mo_ D) (hV : Cl_ wd0 D V Qr Qt m_350) (hW : Wk_ V) (x1 : Int) (x2 : Int) (x3 : Int) (x4 : Int) (x5 : Int) (M : mm_) (h :
 (0 ≤ x2 ∧ x2 < 1300) ∧
  (bl_ (M 6 127) → (if M 6 127 = 0 then
  (if (if x5 < 2000000000 then -1 else if x5 = 2000000000 then 0 else 1) ≤ 0 then
   (0 ≤ w32 ((w32 (x3 + 22)) + (M 205 x2)) ∧ w32 ((w32 (x3 + 22)) + (M 205 x2)) < 1104) ∧
    Qr [.inl 0] (up_ M 239 (w32 ((w32 (x3 + 22)) + (M 205 x2))) (w32 x5))
  else
   (0 ≤ w32 ((w32 (x3 + 22)) + (M 205 x2)) ∧ w32 ((w32 (x3 + 22)) + (M 205 x2)) < 1104) ∧
    Qr [.inl 0] (up_ M 239 (w32 ((w32 (x3 + 22)) + (M 205 x2))) 2000000000))
 else
  (0 ≤ w32 ((w32 (x3 + 22)) + (M 205 x2)) ∧ w32 ((w32 (x3 + 22)) + (M 205 x2)) < 1104) ∧
   Qr [.inl 0] (up_ M 239 (w32 ((w32 (x3 + 22)) + (M 205 x2))) 0)))) : V 107 [rr 6, ii x1, ii x2, ii x3, ii x4, jj x5, none] [] M := bx_go hD (m := (g_350_45, m_350.2)) (Cl_sf z_350_45 hV) hW [(107, [6])] 22 h
/-- X4_assigns(II)I -/
theorem b_351_0 {D : ca_} {V : vv_} {Qr : qr_} {Qt : qt_} (hD : Mo_ D) (hV : Cl_ wd0 D V Qr Qt m_351) (hW : Wk_ V) (x1 : Int) (x2 : Int) (M : mm_) (h :
 (0 ≤ x2 ∧ x2 < 1300) ∧
  (0 ≤ x2 ∧ x2 < 1300) ∧
  (if M 206 x2 < 0 then
  V 62 [rr 6, ii x1, ii x2, ii (M 205 x2), ii 0, none] [] M
 else
  (0 ≤ x2 ∧ x2 < 1300) ∧
   D 339 [.inr (.inr 6), .inl x1, .inl (M 206 x2)] M (ri_ fun v1 M1 =>
   (if M1 6 149 ≤ 0 then
    (if v1 < 0 then
     Qr [.inl 1] M1
    else
     (0 ≤ M 205 x2 ∧ M 205 x2 < 48) ∧
      (if v1 < M1 183 (M 205 x2) then
      V 62 [rr 6, ii x1, ii x2, ii (M 205 x2), ii v1, none] [] M1
     else
      Qr [.inl 1] M1))
   else
    Qr [.inl (M1 6 149)] M1)) Qt)) : V 0 [rr 6, ii x1, ii x2, none, none, none] [] M := bx_go hD hV hW [(62, [5])] 33 h
theorem i_351 : inq_ 0 k_351 = true := by decide +kernel
theorem z_351_36 : Sf_ k_351 g_351_36 := Sf_of i_351 36 rfl
theorem b_351_62 {D : ca_} {V : vv_} {Qr : qr_} {Qt : qt_} (hD : Mo_ D) (hV : Cl_ wd0 D V Qr Qt m_351) (hW : Wk_ V) (x1 : Int) (x2 : Int) (x3 : Int) (x4 : Int) (M : mm_) (h :
 (0 ≤ x2 ∧ x2 < 1300) ∧
  D 339 [.inr (.inr 6), .inl x1, .inl (M 207 x2)] M (ri_ fun v1 M1 =>
  (if M1 6 149 ≤ 0 then
   D 323 [.inl x1] M1 (ri_ fun v2 M2 =>
    (0 ≤ x3 ∧ x3 < 48) ∧
     (0 ≤ w32 ((w32 ((w32 (v2 + 6)) + (M2 184 x3))) + x4) ∧ w32 ((w32 ((w32 (v2 + 6)) + (M2 184 x3))) + x4) < 1104) ∧
     Qr [.inl 0] (up_ M2 239 (w32 ((w32 ((w32 (v2 + 6)) + (M2 184 x3))) + x4)) v1)) Qt
  else
   Qr [.inl (M1 6 149)] M1)) Qt) : V 62 [rr 6, ii x1, ii x2, ii x3, ii x4, none] [] M := bx_go hD (m := (g_351_36, m_351.2)) (Cl_sf z_351_36 hV) hW [(62, [5])] 28 h
/-- X4_unset(II)V -/
theorem b_352_0 {D : ca_} {V : vv_} {Qr : qr_} {Qt : qt_} (hD : Mo_ D) (hV : Cl_ wd0 D V Qr Qt m_352) (hW : Wk_ V) (x1 : Int) (x2 : Int) (M : mm_) (h :
 D 323 [.inl x1] M (ri_ fun v1 M1 =>
  (0 ≤ w32 ((w32 (v1 + 22)) + x2) ∧ w32 ((w32 (v1 + 22)) + x2) < 1104) ∧
   V 20 [rr 6, ii x1, ii x2, ii v1, ii 0] [] (up_ M1 239 (w32 ((w32 (v1 + 22)) + x2)) ((-1)))) Qt) : V 0 [rr 6, ii x1, ii x2, none, none] [] M := bx_go hD hV hW [(20, [])] 15 h
theorem i_352 : inq_ 0 k_352 = true := by decide +kernel
theorem z_352_14 : Sf_ k_352 g_352_14 := Sf_of i_352 14 rfl
theorem b_352_20 {D : ca_} {V : vv_} {Qr : qr_} {Qt : qt_} (hD : Mo_ D) (hV : Cl_ wd0 D V Qr Qt m_352) (hW : Wk_ V) (x1 : Int) (x2 : Int) (x3 : Int) (x4 : Int) (M : mm_) (h :
 (0 ≤ w32 (x3 + 25) ∧ w32 (x3 + 25) < 1104) ∧
  (if x4 < M 239 (w32 (x3 + 25)) then
  (0 ≤ w32 ((w32 ((w32 (x3 + 25)) + 1)) + (w32 (5 * x4))) ∧ w32 ((w32 ((w32 (x3 + 25)) + 1)) + (w32 (5 * x4))) < 1104) ∧
   (if M 239 (w32 ((w32 ((w32 (x3 + 25)) + 1)) + (w32 (5 * x4)))) = w32 (100 + x2) then
   D 353 [.inr (.inr 6), .inl x1, .inl x4] M (rv_ fun M1 =>
    V 20 [rr 6, ii x1, ii x2, ii x3, ii x4] [] M1) Qt
  else
   V 20 [rr 6, ii x1, ii x2, ii x3, ii (w32 (x4 + 1))] [] M)
 else
  Qr [] M)) : V 20 [rr 6, ii x1, ii x2, ii x3, ii x4] [] M := bx_go hD (m := (g_352_14, m_352.2)) (Cl_sf z_352_14 hV) hW [(20, [])] 30 h
/-- X4_unqueue(II)V -/
theorem b_353_0 {D : ca_} {V : vv_} {Qr : qr_} {Qt : qt_} (hD : Mo_ D) (hV : Cl_ wd0 D V Qr Qt m_353) (hW : Wk_ V) (x1 : Int) (x2 : Int) (M : mm_) (h :
 D 323 [.inl x1] M (ri_ fun v1 M1 =>
  V 17 [rr 6, ii x1, ii x2, ii (w32 (v1 + 25)), ii (w32 ((w32 ((w32 (v1 + 25)) + 1)) + (w32 (5 * x2))))] [] M1) Qt) : V 0 [rr 6, ii x1, ii x2, none, none] [] M := bx_go hD hV hW [(17, []), (58, [])] 14 h
theorem i_353 : inq_ 0 k_353 = true := by decide +kernel
theorem z_353_13 : Sf_ k_353 g_353_13 := Sf_of i_353 13 rfl
theorem b_353_17 {D : ca_} {V : vv_} {Qr : qr_} {Qt : qt_} (hD : Mo_ D) (hV : Cl_ wd0 D V Qr Qt m_353) (hW : Wk_ V) (x1 : Int) (x2 : Int) (x3 : Int) (x4 : Int) (M : mm_) (h :
 (if x4 < w32 ((w32 (x3 + 1)) + 25) then
  (0 ≤ w32 (x4 + 5) ∧ w32 (x4 + 5) < 1104) ∧
   (0 ≤ x4 ∧ x4 < 1104) ∧
   V 17 [rr 6, ii x1, ii x2, ii x3, ii (w32 (x4 + 1))] [] (up_ M 239 x4 (M 239 (w32 (x4 + 5))))
 else
  V 58 [rr 6, ii x1, ii x2, ii x3, ii (w32 ((w32 (x3 + 1)) + 25))] [] M)) : V 17 [rr 6, ii x1, ii x2, ii x3, ii x4] [] M := bx_go hD (m := (g_353_13, m_353.2)) (Cl_sf z_353_13 hV) hW [(17, []), (58, [])] 20 h
theorem z_353_38 : Sf_ k_353 g_353_38 := Sf_tr z_353_13 25 rfl
theorem b_353_58 {D : ca_} {V : vv_} {Qr : qr_} {Qt : qt_} (hD : Mo_ D) (hV : Cl_ wd0 D V Qr Qt m_353) (hW : Wk_ V) (x1 : Int) (x2 : Int) (x3 : Int) (x4 : Int) (M : mm_) (h :
 (if x4 < w32 ((w32 (x3 + 1)) + 30) then
  (0 ≤ x4 ∧ x4 < 1104) ∧
   V 58 [rr 6, ii x1, ii x2, ii x3, ii (w32 (x4 + 1))] [] (up_ M 239 x4 0)
 else
  (0 ≤ x3 ∧ x3 < 1104) ∧
   (0 ≤ x3 ∧ x3 < 1104) ∧
   Qr [] (up_ M 239 x3 (w32 ((M 239 x3) - 1))))) : V 58 [rr 6, ii x1, ii x2, ii x3, ii x4] [] M := bx_go hD (m := (g_353_38, m_353.2)) (Cl_sf z_353_38 hV) hW [(17, []), (58, [])] 16 h
/-- X4_makes(II)I -/
theorem b_354_0 {D : ca_} {V : vv_} {Qr : qr_} {Qt : qt_} (hD : Mo_ D) (hV : Cl_ wd0 D V Qr Qt m_354) (hW : Wk_ V) (x1 : Int) (x2 : Int) (M : mm_) (h :
 D 355 [.inr (.inr 6), .inl x1, .inl x2] M (ri_ fun v1 M1 =>
  (if v1 ≤ 0 then
   (0 ≤ x2 ∧ x2 < 1300) ∧
    V 27 [rr 6, ii x1, ii x2, ii v1, ii (M1 205 x2), ii 0, ii 0, none, none] [] M1
  else
   Qr [.inl v1] M1)) Qt) : V 0 [rr 6, ii x1, ii x2, none, none, none, none, none, none] [] M := bx_go hD hV hW [(27, [7, 8]), (130, [])] 17 h
theorem i_354 : inq_ 0 k_354 = true := by decide +kernel
theorem z_354_18 : Sf_ k_354 g_354_18 := Sf_of i_354 18 rfl
theorem b_354_27 {D : ca_} {V : vv_} {Qr : qr_} {Qt : qt_} (hD : Mo_ D) (hV : Cl_ wd0 D V Qr Qt m_354) (hW : Wk_ V) (x1 : Int) (x2 : Int) (x3 : Int) (x4 : Int) (x5 : Int) (x6 : Int) (M : mm_) (h :
 (0 ≤ (0 : Int) ∧ (0 : Int) < 1104) ∧
  (if x6 < M 239 0 then
  D 323 [.inl x6] M (ri_ fun v3 M3 =>
   (0 ≤ w32 (v3 + 1) ∧ w32 (v3 + 1) < 1104) ∧
    (if M3 239 (w32 (v3 + 1)) = x4 then
    V 27 [rr 6, ii x1, ii x2, ii x3, ii x4, ii (w32 (x5 + 1)), ii (w32 (x6 + 1)), none, none] [] M3
   else
    V 27 [rr 6, ii x1, ii x2, ii x3, ii x4, ii (w32 (x5 + 0)), ii (w32 (x6 + 1)), none, none] [] M3)) Qt
 else
  D 323 [.inl x1] M (ri_ fun v1 M1 =>
   (0 ≤ x4 ∧ x4 < 6) ∧
    (if x5 < M1 169 x4 then
    (0 ≤ (0 : Int) ∧ (0 : Int) < 1104) ∧
     (if M1 239 0 = 12 then
     (0 ≤ w32 (v1 + 5) ∧ w32 (v1 + 5) < 1104) ∧
      Qr [.inl 0] (up_ M1 239 (w32 (v1 + 5)) 0)
    else
     (0 ≤ v1 ∧ v1 < 1104) ∧
      D 322 [.inr (.inr 6), .inl x4, .inl (M1 239 v1)] M1 (ri_ fun v2 M2 =>
      V 130 [rr 6, ii x1, ii x2, ii x3, ii x4, ii x5, ii v1, ii v2, ii 0] [] M2) Qt)
   else
    (0 ≤ w32 (v1 + 5) ∧ w32 (v1 + 5) < 1104) ∧
     Qr [.inl 0] (up_ M1 239 (w32 (v1 + 5)) 0))) Qt)) : V 27 [rr 6, ii x1, ii x2, ii x3, ii x4, ii x5, ii x6, none, none] [] M := bx_go hD (m := (g_354_18, m_354.2)) (Cl_sf z_354_18 hV) hW [(27, [7, 8]), (130, [])] 32 h
theorem z_354_75 : Sf_ k_354 g_354_75 := Sf_tr z_354_18 57 rfl
theorem b_354_130 {D : ca_} {V : vv_} {Qr : qr_} {Qt : qt_} (hD : Mo_ D) (hV : Cl_ wd0 D V Qr Qt m_354) (hW : Wk_ V) (x1 : Int) (x2 : Int) (x3 : Int) (x4 : Int) (x5 : Int) (x6 : Int) (x7 : Int) (x8 : Int) (M : mm_) (h :
 (0 ≤ x4 ∧ x4 < 6) ∧
  (if x8 < M 170 x4 then
  D 323 [.inl x7] M (ri_ fun v2 M2 =>
   (0 ≤ w32 ((w32 (8 * x4)) + x8) ∧ w32 ((w32 (8 * x4)) + x8) < 48) ∧
    (0 ≤ x8 ∧ x8 < 3) ∧
    (0 ≤ w32 ((w32 (v2 + 6)) + (M2 184 (w32 ((w32 (8 * x4)) + x8)))) ∧ w32 ((w32 (v2 + 6)) + (M2 184 (w32 ((w32 (8 * x4)) + x8)))) < 1104) ∧
    V 130 [rr 6, ii x1, ii x2, ii x3, ii x4, ii x5, ii x6, ii x7, ii (w32 (x8 + 1))] [] (up_ M2 239 (w32 ((w32 (v2 + 6)) + (M2 184 (w32 ((w32 (8 * x4)) + x8))))) (M2 244 x8))) Qt
 else
  D 323 [.inl x7] M (ri_ fun v1 M1 =>
   (0 ≤ v1 ∧ v1 < 1104) ∧
    (0 ≤ w32 (x6 + 5) ∧ w32 (x6 + 5) < 1104) ∧
    Qr [.inl 0] (up_ M1 239 (w32 (x6 + 5)) (M1 239 v1))) Qt)) : V 130 [rr 6, ii x1, ii x2, ii x3, ii x4, ii x5, ii x6, ii x7, ii x8] [] M := bx_go hD (m := (g_354_75, m_354.2)) (Cl_sf z_354_75 hV) hW [(27, [7, 8]), (130, [])] 29 h
/-- X4_workAll(II)I -/
theorem b_355_0 {D : ca_} {V : vv_} {Qr : qr_} {Qt : qt_} (hD : Mo_ D) (hV : Cl_ wd0 D V Qr Qt m_355) (hW : Wk_ V) (x1 : Int) (x2 : Int) (M : mm_) (h :
 V 2 [rr 6, ii x1, ii x2, ii 0] [] M) : V 0 [rr 6, ii x1, ii x2, none] [] M := bx_go hD hV hW [(2, []), (22, [])] 3 h
theorem b_355_2 {D : ca_} {V : vv_} {Qr : qr_} {Qt : qt_} (hD : Mo_ D) (hV : Cl_ wd0 D V Qr Qt m_355) (hW : Wk_ V) (x1 : Int) (x2 : Int) (x3 : Int) (M : mm_) (h :
 (if x3 < 3 then
  (0 ≤ x3 ∧ x3 < 3) ∧
   V 2 [rr 6, ii x1, ii x2, ii (w32 (x3 + 1))] [] (up_ M 244 x3 0)
 else
  V 22 [rr 6, ii x1, ii x2, ii 0] [] M)) : V 2 [rr 6, ii x1, ii x2, ii x3] [] M := bx_go hD hV hW [(2, []), (22, [])] 11 h
theorem i_355 : inq_ 0 k_355 = true := by decide +kernel
theorem z_355_14 : Sf_ k_355 g_355_14 := Sf_of i_355 14 rfl
theorem b_355_22 {D : ca_} {V : vv_} {Qr : qr_} {Qt : qt_} (hD : Mo_ D) (hV : Cl_ wd0 D V Qr Qt m_355) (hW : Wk_ V) (x1 : Int) (x2 : Int) (x3 : Int) (M : mm_) (h :
 (0 ≤ x2 ∧ x2 < 1300) ∧
  (if x3 < M 210 x2 then
  (0 ≤ w32 ((w32 (3 * x2)) + x3) ∧ w32 ((w32 (3 * x2)) + x3) < 3900) ∧
   D 339 [.inr (.inr 6), .inl x1, .inl (M 209 (w32 ((w32 (3 * x2)) + x3)))] M (ri_ fun v1 M1 =>
   (0 ≤ x3 ∧ x3 < 3) ∧
    (if M1 6 149 ≤ 0 then
    V 22 [rr 6, ii x1, ii x2, ii (w32 (x3 + 1))] [] (up_ M1 244 x3 v1)
   else
    Qr [.inl (M1 6 149)] (up_ M1 244 x3 v1))) Qt
 else
  Qr [.inl 0] M)) : V 22 [rr 6, ii x1, ii x2, ii x3] [] M := bx_go hD (m := (g_355_14, m_355.2)) (Cl_sf z_355_14 hV) hW [(2, []), (22, [])] 27 h
/-- X4_sends(II)I -/
theorem b_356_0 {D : ca_} {V : vv_} {Qr : qr_} {Qt : qt_} (hD : Mo_ D) (hV : Cl_ wd0 D V Qr Qt m_356) (hW : Wk_ V) (x1 : Int) (x2 : Int) (M : mm_) (h :
 D 355 [.inr (.inr 6), .inl x1, .inl x2] M (ri_ fun v1 M1 =>
  (if v1 ≤ 0 then
   D 323 [.inl x1] M1 (ri_ fun v2 M2 =>
    (0 ≤ w32 (v2 + 1) ∧ w32 (v2 + 1) < 1104) ∧
     (0 ≤ v2 ∧ v2 < 1104) ∧
     (0 ≤ x2 ∧ x2 < 1300) ∧
     (0 ≤ x2 ∧ x2 < 1300) ∧
     (0 ≤ x2 ∧ x2 < 1300) ∧
     (if M2 206 x2 < 0 then
     (if M2 207 x2 < 0 then
      D 357 [.inr (.inr 6), .inl (M2 239 (w32 (v2 + 1))), .inl 0, .inl (M2 205 x2), .inl 1] M2 (ri_ fun v3 M3 =>
       V 180 [rr 6, ii x1, ii x2, ii v1, ii v2, ii (M2 239 (w32 (v2 + 1))), ii (M2 239 v2), ii (M2 205 x2), ii 0, ii v3, none] [] M3) Qt
     else
      V 180 [rr 6, ii x1, ii x2, ii v1, ii v2, ii (M2 239 (w32 (v2 + 1))), ii (M2 239 v2), ii (M2 205 x2), ii 0, ii (M2 207 x2), none] [] M2)
    else
     (0 ≤ x2 ∧ x2 < 1300) ∧
      D 339 [.inr (.inr 6), .inl x1, .inl (M2 206 x2)] M2 (ri_ fun v4 M4 =>
      (if M4 6 149 ≤ 0 then
       (if v4 = 0 then
        V 109 [rr 6, ii x1, ii x2, ii v1, ii v2, ii (M2 239 (w32 (v2 + 1))), ii (M2 239 v2), ii (M2 205 x2), ii v4, ii (M2 207 x2), ii ((-1))] [] M4
       else
        D 331 [.inr (.inr 6), .inl v4] M4 (ri_ fun v5 M5 =>
         V 109 [rr 6, ii x1, ii x2, ii v1, ii v2, ii (M2 239 (w32 (v2 + 1))), ii (M2 239 v2), ii (M2 205 x2), ii v4, ii (M2 207 x2), ii v5] [] M5) Qt)
      else
       Qr [.inl (M4 6 149)] M4)) Qt)) Qt
  else
   Qr [.inl v1] M1)) Qt) : V 0 [rr 6, ii x1, ii x2, none, none, none, none, none, none, none, none] [] M := bx_go hD hV hW [(109, []), (180, [10]), (219, [])] 57 h
theorem i_356 : inq_ 0 k_356 = true := by decide +kernel
theorem z_356_63 : Sf_ k_356 g_356_63 := Sf_of i_356 63 rfl
theorem b_356_109 {D : ca_} {V : vv_} {Qr : qr_} {Qt : qt_} (hD : Mo_ D) (hV : Cl_ wd0 D V Qr Qt m_356) (hW : Wk_ V) (x1 : Int) (x2 : Int) (x3 : Int) (x4 : Int) (x5 : Int) (x6 : Int) (x7 : Int) (x8 : Int) (x9 : Int) (x10 : Int) (M : mm_) (h :
 (if x10 < 0 then
  D 324 [.inr (.inr 6), .inl 1, .inl x6, .inl x7, .inl x8] M (rv_ fun M4 =>
   D 333 [.inr (.inr 6), .inl x8, .inl x7, .inl x6] M4 (rv_ fun M5 =>
    Qr [.inl 0] M5) Qt) Qt
 else
  D 323 [.inl x10] M (ri_ fun v1 M1 =>
   (0 ≤ w32 (v1 + 1) ∧ w32 (v1 + 1) < 1104) ∧
    D 357 [.inr (.inr 6), .inl x5, .inl (M1 239 (w32 (v1 + 1))), .inl x7, .inl 0] M1 (ri_ fun v2 M2 =>
    (if v2 < 0 then
     Qr [.inl 3] M2
    else
     D 324 [.inr (.inr 6), .inl 1, .inl x6, .inl x7, .inl x8] M2 (rv_ fun M3 =>
      V 219 [rr 6, ii x1, ii x2, ii x3, ii x4, ii x5, ii x6, ii x7, ii x8, ii v2, ii 0] [] M3) Qt)) Qt) Qt)) : V 109 [rr 6, ii x1, ii x2, ii x3, ii x4, ii x5, ii x6, ii x7, ii x8, ii x9, ii x10] [] M := bx_go hD (m := (g_356_63, m_356.2)) (Cl_sf z_356_63 hV) hW [(109, []), (180, [10]), (219, [])] 27 h
theorem z_356_101 : Sf_ k_356 g_356_101 := Sf_tr z_356_63 38 rfl
theorem b_356_180 {D : ca_} {V : vv_} {Qr : qr_} {Qt : qt_} (hD : Mo_ D) (hV : Cl_ wd0 D V Qr Qt m_356) (hW : Wk_ V) (x1 : Int) (x2 : Int) (x3 : Int) (x4 : Int) (x5 : Int) (x6 : Int) (x7 : Int) (x8 : Int) (x9 : Int) (M : mm_) (h :
 (if x9 < 0 then
  (if x9 < 0 then
   Qr [.inl 3] M
  else
   D 324 [.inr (.inr 6), .inl 1, .inl x6, .inl x7, .inl x8] M (rv_ fun M1 =>
    V 219 [rr 6, ii x1, ii x2, ii x3, ii x4, ii x5, ii x6, ii x7, ii x8, ii x9, ii 0] [] M1) Qt)
 else
  (0 ≤ x9 ∧ x9 < 10) ∧
   D 358 [.inr (.inr 6), .inl (M 161 x9)] M (ri_ fun v1 M2 =>
   (if x9 < 0 then
    Qr [.inl 3] M2
   else
    D 324 [.inr (.inr 6), .inl 1, .inl x6, .inl x7, .inl v1] M2 (rv_ fun M3 =>
     V 219 [rr 6, ii x1, ii x2, ii x3, ii x4, ii x5, ii x6, ii x7, ii v1, ii x9, ii 0] [] M3) Qt)) Qt)) : V 180 [rr 6, ii x1, ii x2, ii x3, ii x4, ii x5, ii x6, ii x7, ii x8, ii x9, none] [] M := bx_go hD (m := (g_356_101, m_356.2)) (Cl_sf z_356_101 hV) hW [(109, []), (180, [10]), (219, [])] 20 h
theorem z_356_122 : Sf_ k_356 g_356_122 := Sf_tr z_356_101 21 rfl
theorem b_356_219 {D : ca_} {V : vv_} {Qr : qr_} {Qt : qt_} (hD : Mo_ D) (hV : Cl_ wd0 D V Qr Qt m_356) (hW : Wk_ V) (x1 : Int) (x2 : Int) (x3 : Int) (x4 : Int) (x5 : Int) (x6 : Int) (x7 : Int) (x8 : Int) (x9 : Int) (x10 : Int) (M : mm_) (h :
 (if x10 < 3 then
  (0 ≤ x10 ∧ x10 < 3) ∧
   (0 ≤ x10 ∧ x10 < 3) ∧
   V 219 [rr 6, ii x1, ii x2, ii x3, ii x4, ii x5, ii x6, ii x7, ii x8, ii x9, ii (w32 (x10 + 1))] [] (up_ M 242 x10 (M 244 x10))
 else
  (if x8 = 0 then
   (0 ≤ x9 ∧ x9 < 10) ∧
    (if M 161 x9 < 0 then
    D 359 [.inr (.inr 6), .inl x9, .inl x7, .inl x6, .inl x8] M (rv_ fun M2 =>
     Qr [.inl 0] M2) Qt
   else
    D 333 [.inr (.inr 6), .inl 0, .inl x7, .inl x6] M (rv_ fun M3 =>
     Qr [.inl 0] M3) Qt)
  else
   D 359 [.inr (.inr 6), .inl x9, .inl x7, .inl x6, .inl x8] M (rv_ fun M1 =>
    Qr [.inl 0] M1) Qt))) : V 219 [rr 6, ii x1, ii x2, ii x3, ii x4, ii x5, ii x6, ii x7, ii x8, ii x9, ii x10] [] M := bx_go hD (m := (g_356_122, m_356.2)) (Cl_sf z_356_122 hV) hW [(109, []), (180, [10]), (219, [])] 18 h
/-- X4_route(IIIZ)I -/
theorem b_357_0 {D : ca_} {V : vv_} {Qr : qr_} {Qt : qt_} (hD : Mo_ D) (hV : Cl_ wd0 D V Qr Qt m_357) (hW : Wk_ V) (x1 : Int) (x2 : Int) (x3 : Int) (x4 : Int) (M : mm_) (h :
 V 3 [rr 6, ii x1, ii x2, ii x3, ii x4, ii 0] [] M) : V 0 [rr 6, ii x1, ii x2, ii x3, ii x4, none] [] M := bx_go hD hV hW [(3, [])] 3 h
theorem b_357_3 {D : ca_} {V : vv_} {Qr : qr_} {Qt : qt_} (hD : Mo_ D) (hV : Cl_ wd0 D V Qr Qt m_357) (hW : Wk_ V) (x1 : Int) (x2 : Int) (x3 : Int) (x4 : Int) (x5 : Int) (M : mm_) (h :
 (if x5 < M 6 18 then
  (0 ≤ x5 ∧ x5 < 10) ∧
   (if M 160 x5 = x1 then
   (if x4 = 0 then
    (0 ≤ x5 ∧ x5 < 10) ∧
     (if M 161 x5 = x2 then
     (0 ≤ x5 ∧ x5 < 10) ∧
      (if an_ (sr_ (M 164 x5) x3) 1 = 1 then
      Qr [.inl x5] M
     else
      V 3 [rr 6, ii x1, ii x2, ii x3, ii x4, ii (w32 (x5 + 1))] [] M)
    else
     V 3 [rr 6, ii x1, ii x2, ii x3, ii x4, ii (w32 (x5 + 1))] [] M)
   else
    (0 ≤ x5 ∧ x5 < 10) ∧
     (if an_ (sr_ (M 164 x5) x3) 1 = 1 then
     Qr [.inl x5] M
    else
     V 3 [rr 6, ii x1, ii x2, ii x3, ii x4, ii (w32 (x5 + 1))] [] M))
  else
   V 3 [rr 6, ii x1, ii x2, ii x3, ii x4, ii (w32 (x5 + 1))] [] M)
 else
  Qr [.inl ((-1))] M)) : V 3 [rr 6, ii x1, ii x2, ii x3, ii x4, ii x5] [] M := bx_go hD hV hW [(3, [])] 31 h
/-- X4_least(I)I -/
theorem b_358_0 {D : ca_} {V : vv_} {Qr : qr_} {Qt : qt_} (hD : Mo_ D) (hV : Cl_ wd0 D V Qr Qt m_358) (hW : Wk_ V) (x1 : Int) (M : mm_) (h :
 V 2 [rr 6, ii x1, ii 0] [] M) : V 0 [rr 6, ii x1, none] [] M := bx_go hD hV hW [(2, [])] 3 h
theorem b_358_2 {D : ca_} {V : vv_} {Qr : qr_} {Qt : qt_} (hD : Mo_ D) (hV : Cl_ wd0 D V Qr Qt m_358) (hW : Wk_ V) (x1 : Int) (x2 : Int) (M : mm_) (h :
 (0 ≤ (0 : Int) ∧ (0 : Int) < 1104) ∧
  (if x2 < M 239 0 then
  (if x1 < 0 then
   V 2 [rr 6, ii x1, ii (w32 (x2 + 1))] [] M
  else
   D 323 [.inl x2] M (ri_ fun v1 M1 =>
    (0 ≤ w32 (v1 + 1) ∧ w32 (v1 + 1) < 1104) ∧
     (if M1 239 (w32 (v1 + 1)) = x1 then
     D 323 [.inl x2] M1 (ri_ fun v2 M2 =>
      (0 ≤ v2 ∧ v2 < 1104) ∧
       Qr [.inl (M2 239 v2)] M2) Qt
    else
     V 2 [rr 6, ii x1, ii (w32 (x2 + 1))] [] M1)) Qt)
 else
  Qr [.inl 0] M)) : V 2 [rr 6, ii x1, ii x2] [] M := bx_go hD hV hW [(2, [])] 23 h
/-- X4_send(IIII)V -/
theorem b_359_0 {D : ca_} {V : vv_} {Qr : qr_} {Qt : qt_} (hD : Mo_ D) (hV : Cl_ wd0 D V Qr Qt m_359) (hW : Wk_ V) (x1 : Int) (x2 : Int) (x3 : Int) (x4 : Int) (M : mm_) (h :
 D 327 [.inl x1] M (ri_ fun v1 M1 =>
  (0 ≤ x1 ∧ x1 < 10) ∧
   (if M1 162 x1 < 0 then
   (0 ≤ v1 ∧ v1 < 1104) ∧
    (if M1 239 v1 = 0 then
    D 329 [.inr (.inr 6), .inl x2, .inl x3, .inl x4] M1 (rv_ fun M2 =>
     Qr [] M2) Qt
   else
    V 34 [rr 6, ii x1, ii x2, ii x3, ii x4, ii v1, none, none] [] M1)
  else
   V 34 [rr 6, ii x1, ii x2, ii x3, ii x4, ii v1, none, none] [] M1)) Qt) : V 0 [rr 6, ii x1, ii x2, ii x3, ii x4, none, none, none] [] M := bx_go hD hV hW [(34, [6, 7]), (155, [])] 19 h
theorem i_359 : inq_ 0 k_359 = true := by decide +kernel
theorem z_359_19 : Sf_ k_359 g_359_19 := Sf_of i_359 19 rfl
theorem b_359_34 {D : ca_} {V : vv_} {Qr : qr_} {Qt : qt_} (hD : Mo_ D) (hV : Cl_ wd0 D V Qr Qt m_359) (hW : Wk_ V) (x1 : Int) (x2 : Int) (x3 : Int) (x4 : Int) (x5 : Int) (M : mm_) (h :
 (0 ≤ x5 ∧ x5 < 1104) ∧
  (if M 239 x5 = 6 then
  D 333 [.inr (.inr 6), .inl x4, .inl x2, .inl x3] M (rv_ fun M3 =>
   Qr [] M3) Qt
 else
  (0 ≤ x5 ∧ x5 < 1104) ∧
   (0 ≤ w32 ((w32 (x5 + 1)) + (w32 (7 * (M 239 x5)))) ∧ w32 ((w32 (x5 + 1)) + (w32 (7 * (M 239 x5)))) < 1104) ∧
   (0 ≤ w32 ((w32 ((w32 (x5 + 1)) + (w32 (7 * (M 239 x5))))) + 1) ∧ w32 ((w32 ((w32 (x5 + 1)) + (w32 (7 * (M 239 x5))))) + 1) < 1104) ∧
   (0 ≤ w32 ((w32 ((w32 (x5 + 1)) + (w32 (7 * (M 239 x5))))) + 2) ∧ w32 ((w32 ((w32 (x5 + 1)) + (w32 (7 * (M 239 x5))))) + 2) < 1104) ∧
   (bl_ (M 6 127) → (if M 6 127 = 0 then
   (0 ≤ x5 ∧ x5 < 1104) ∧
    (if (up_ (up_ (up_ M 239 (w32 ((w32 (x5 + 1)) + (w32 (7 * (M 239 x5))))) x2) 239 (w32 ((w32 ((w32 (x5 + 1)) + (w32 (7 * (M 239 x5))))) + 1)) x3) 239 (w32 ((w32 ((w32 (x5 + 1)) + (w32 (7 * (M 239 x5))))) + 2)) x4) 239 x5 ≤ 0 then
    D 360 [.inr (.inr 6), .inl x1, .inl 0] (up_ (up_ (up_ M 239 (w32 ((w32 (x5 + 1)) + (w32 (7 * (M 239 x5))))) x2) 239 (w32 ((w32 ((w32 (x5 + 1)) + (w32 (7 * (M 239 x5))))) + 1)) x3) 239 (w32 ((w32 ((w32 (x5 + 1)) + (w32 (7 * (M 239 x5))))) + 2)) x4) (ri_ fun v1 M1 =>
     (0 ≤ w32 ((w32 ((w32 (x5 + 1)) + (w32 (7 * (M 239 x5))))) + 3) ∧ w32 ((w32 ((w32 (x5 + 1)) + (w32 (7 * (M 239 x5))))) + 3) < 1104) ∧
      V 155 [rr 6, ii x1, ii x2, ii x3, ii x4, ii x5, ii (w32 ((w32 (x5 + 1)) + (w32 (7 * (M 239 x5))))), ii 0] [] (up_ M1 239 (w32 ((w32 ((w32 (x5 + 1)) + (w32 (7 * (M 239 x5))))) + 3)) v1)) Qt
   else
    (0 ≤ w32 ((w32 ((w32 ((w32 (x5 + 1)) + (w32 (7 * (M 239 x5))))) - 7)) + 3) ∧ w32 ((w32 ((w32 ((w32 (x5 + 1)) + (w32 (7 * (M 239 x5))))) - 7)) + 3) < 1104) ∧
     D 360 [.inr (.inr 6), .inl x1, .inl ((up_ (up_ (up_ M 239 (w32 ((w32 (x5 + 1)) + (w32 (7 * (M 239 x5))))) x2) 239 (w32 ((w32 ((w32 (x5 + 1)) + (w32 (7 * (M 239 x5))))) + 1)) x3) 239 (w32 ((w32 ((w32 (x5 + 1)) + (w32 (7 * (M 239 x5))))) + 2)) x4) 239 (w32 ((w32 ((w32 ((w32 (x5 + 1)) + (w32 (7 * (M 239 x5))))) - 7)) + 3)))] (up_ (up_ (up_ M 239 (w32 ((w32 (x5 + 1)) + (w32 (7 * (M 239 x5))))) x2) 239 (w32 ((w32 ((w32 (x5 + 1)) + (w32 (7 * (M 239 x5))))) + 1)) x3) 239 (w32 ((w32 ((w32 (x5 + 1)) + (w32 (7 * (M 239 x5))))) + 2)) x4) (ri_ fun v2 M2 =>
     (0 ≤ w32 ((w32 ((w32 (x5 + 1)) + (w32 (7 * (M 239 x5))))) + 3) ∧ w32 ((w32 ((w32 (x5 + 1)) + (w32 (7 * (M 239 x5))))) + 3) < 1104) ∧
      V 155 [rr 6, ii x1, ii x2, ii x3, ii x4, ii x5, ii (w32 ((w32 (x5 + 1)) + (w32 (7 * (M 239 x5))))), ii 0] [] (up_ M2 239 (w32 ((w32 ((w32 (x5 + 1)) + (w32 (7 * (M 239 x5))))) + 3)) v2)) Qt)
  else
   (0 ≤ w32 ((w32 ((w32 (x5 + 1)) + (w32 (7 * (M 239 x5))))) + 3) ∧ w32 ((w32 ((w32 (x5 + 1)) + (w32 (7 * (M 239 x5))))) + 3) < 1104) ∧
    V 155 [rr 6, ii x1, ii x2, ii x3, ii x4, ii x5, ii (w32 ((w32 (x5 + 1)) + (w32 (7 * (M 239 x5))))), ii 0] [] (up_ (up_ (up_ (up_ M 239 (w32 ((w32 (x5 + 1)) + (w32 (7 * (M 239 x5))))) x2) 239 (w32 ((w32 ((w32 (x5 + 1)) + (w32 (7 * (M 239 x5))))) + 1)) x3) 239 (w32 ((w32 ((w32 (x5 + 1)) + (w32 (7 * (M 239 x5))))) + 2)) x4) 239 (w32 ((w32 ((w32 (x5 + 1)) + (w32 (7 * (M 239 x5))))) + 3)) 0))))) : V 34 [rr 6, ii x1, ii x2, ii x3, ii x4, ii x5, none, none] [] M := bx_go hD (m := (g_359_19, m_359.2)) (Cl_sf z_359_19 hV) hW [(34, [6, 7]), (155, [])] 65 h
theorem z_359_92 : Sf_ k_359 g_359_92 := Sf_tr z_359_19 73 rfl
theorem b_359_155 {D : ca_} {V : vv_} {Qr : qr_} {Qt : qt_} (hD : Mo_ D) (hV : Cl_ wd0 D V Qr Qt m_359) (hW : Wk_ V) (x1 : Int) (x2 : Int) (x3 : Int) (x4 : Int) (x5 : Int) (x6 : Int) (x7 : Int) (M : mm_) (h :
 (if x7 < 3 then
  (0 ≤ x7 ∧ x7 < 3) ∧
   (0 ≤ w32 ((w32 (x6 + 4)) + x7) ∧ w32 ((w32 (x6 + 4)) + x7) < 1104) ∧
   V 155 [rr 6, ii x1, ii x2, ii x3, ii x4, ii x5, ii x6, ii (w32 (x7 + 1))] [] (up_ M 239 (w32 ((w32 (x6 + 4)) + x7)) (M 242 x7))
 else
  (0 ≤ x5 ∧ x5 < 1104) ∧
   (0 ≤ x5 ∧ x5 < 1104) ∧
   Qr [] (up_ M 239 x5 (w32 ((M 239 x5) + 1))))) : V 155 [rr 6, ii x1, ii x2, ii x3, ii x4, ii x5, ii x6, ii x7] [] M := bx_go hD (m := (g_359_92, m_359.2)) (Cl_sf z_359_92 hV) hW [(34, [6, 7]), (155, [])] 18 h
/-- X4_timeOn(II)I -/
theorem b_360_0 {D : ca_} {V : vv_} {Qr : qr_} {Qt : qt_} (hD : Mo_ D) (hV : Cl_ wd0 D V Qr Qt m_360) (hW : Wk_ V) (x1 : Int) (x2 : Int) (M : mm_) (h :
 (0 ≤ x1 ∧ x1 < 10) ∧
  (if M 162 x1 < 0 then
  V 20 [rr 6, ii x1, ii x2, ii 0, none, none] [] M
 else
  (0 ≤ x1 ∧ x1 < 10) ∧
   V 20 [rr 6, ii x1, ii x2, ii (M 162 x1), none, none] [] M)) : V 0 [rr 6, ii x1, ii x2, none, none, none] [] M := bx_go hD hV hW [(20, [4, 5]), (71, [4, 5])] 11 h
theorem i_360 : inq_ 0 k_360 = true := by decide +kernel
theorem z_360_12 : Sf_ k_360 g_360_12 := Sf_of i_360 12 rfl
theorem b_360_20 {D : ca_} {V : vv_} {Qr : qr_} {Qt : qt_} (hD : Mo_ D) (hV : Cl_ wd0 D V Qr Qt m_360) (hW : Wk_ V) (x1 : Int) (x2 : Int) (x3 : Int) (M : mm_) (h :
 (0 ≤ x1 ∧ x1 < 10) ∧ (bl_ (M 166 x1) →
  (if M 166 x1 = 0 then
  V 71 [rr 6, ii x1, ii x2, ii x3, none, none] [] M
 else
  (0 ≤ x1 ∧ x1 < 10) ∧
   (0 ≤ x1 ∧ x1 < 10) ∧
   (w32 ((w32 ((M 163 x1) - (M 162 x1))) + 1)) ≠ 0 ∧ V 71 [rr 6, ii x1, ii x2, ii (w32 (x3 + (Int.tmod (us_ (w32 ((w32 ((M 6 129) * 1103515245)) + 12345)) 16) (w32 ((w32 ((M 163 x1) - (M 162 x1))) + 1))))), none, none] [] (up_ M 6 129 (w32 ((w32 ((M 6 129) * 1103515245)) + 12345)))))) : V 20 [rr 6, ii x1, ii x2, ii x3, none, none] [] M := bx_go hD (m := (g_360_12, m_360.2)) (Cl_sf z_360_12 hV) hW [(20, [4, 5]), (71, [4, 5])] 33 h
theorem z_360_44 : Sf_ k_360 g_360_44 := Sf_tr z_360_12 32 rfl
theorem b_360_71 {D : ca_} {V : vv_} {Qr : qr_} {Qt : qt_} (hD : Mo_ D) (hV : Cl_ wd0 D V Qr Qt m_360) (hW : Wk_ V) (x1 : Int) (x2 : Int) (x3 : Int) (M : mm_) (h :
 (if (if w64 ((M 6 128) + x3) < 2000000000 then -1 else if w64 ((M 6 128) + x3) = 2000000000 then 0 else 1) ≤ 0 then
  (if (if w64 ((M 6 128) + x3) < x2 then -1 else if w64 ((M 6 128) + x3) = x2 then 0 else 1) < 0 then
   Qr [.inl x2] M
  else
   Qr [.inl (w32 (w64 ((M 6 128) + x3)))] M)
 else
  (if (if 2000000000 < x2 then -1 else if 2000000000 = x2 then 0 else 1) < 0 then
   Qr [.inl x2] M
  else
   Qr [.inl (w32 2000000000)] M))) : V 71 [rr 6, ii x1, ii x2, ii x3, none, none] [] M := bx_go hD (m := (g_360_44, m_360.2)) (Cl_sf z_360_44 hV) hW [(20, [4, 5]), (71, [4, 5])] 21 h
/-- X4_leastTime()I -/
theorem b_361_0 {D : ca_} {V : vv_} {Qr : qr_} {Qt : qt_} (hD : Mo_ D) (hV : Cl_ wd0 D V Qr Qt m_361) (hW : Wk_ V)  (M : mm_) (h :
 V 4 [rr 6, ii ((-1)), ii 0, none, none] [] M) : V 0 [rr 6, none, none, none, none] [] M := bx_go hD hV hW [(4, [3, 4]), (63, [3, 4]), (75, [4])] 5 h
theorem b_361_4 {D : ca_} {V : vv_} {Qr : qr_} {Qt : qt_} (hD : Mo_ D) (hV : Cl_ wd0 D V Qr Qt m_361) (hW : Wk_ V) (x1 : Int) (x2 : Int) (M : mm_) (h :
 (if x2 < M 6 18 then
  D 327 [.inl x2] M (ri_ fun v1 M1 =>
   (0 ≤ v1 ∧ v1 < 1104) ∧
    (if M1 239 v1 ≤ 0 then
    V 4 [rr 6, ii x1, ii (w32 (x2 + 1)), none, none] [] M1
   else
    (if x1 < 0 then
     D 327 [.inl x2] M1 (ri_ fun v2 M2 =>
      (0 ≤ w32 (v2 + 4) ∧ w32 (v2 + 4) < 1104) ∧
       V 4 [rr 6, ii (M2 239 (w32 (v2 + 4))), ii (w32 (x2 + 1)), none, none] [] M2) Qt
    else
     D 327 [.inl x2] M1 (ri_ fun v3 M3 =>
      (0 ≤ w32 (v3 + 4) ∧ w32 (v3 + 4) < 1104) ∧
       (if M3 239 (w32 (v3 + 4)) < x1 then
       D 327 [.inl x2] M3 (ri_ fun v4 M4 =>
        (0 ≤ w32 (v4 + 4) ∧ w32 (v4 + 4) < 1104) ∧
         V 4 [rr 6, ii (M4 239 (w32 (v4 + 4))), ii (w32 (x2 + 1)), none, none] [] M4) Qt
      else
       V 4 [rr 6, ii x1, ii (w32 (x2 + 1)), none, none] [] M3)) Qt))) Qt
 else
  V 63 [rr 6, ii x1, ii 0, none, none] [] M)) : V 4 [rr 6, ii x1, ii x2, none, none] [] M := bx_go hD hV hW [(4, [3, 4]), (63, [3, 4]), (75, [4])] 32 h
theorem i_361 : inq_ 0 k_361 = true := by decide +kernel
theorem z_361_37 : Sf_ k_361 g_361_37 := Sf_of i_361 37 rfl
theorem b_361_63 {D : ca_} {V : vv_} {Qr : qr_} {Qt : qt_} (hD : Mo_ D) (hV : Cl_ wd0 D V Qr Qt m_361) (hW : Wk_ V) (x1 : Int) (x2 : Int) (M : mm_) (h :
 (0 ≤ (0 : Int) ∧ (0 : Int) < 1104) ∧
  (if x2 < M 239 0 then
  V 75 [rr 6, ii x1, ii x2, ii 0, none] [] M
 else
  Qr [.inl x1] M)) : V 63 [rr 6, ii x1, ii x2, none, none] [] M := bx_go hD (m := (g_361_37, m_361.2)) (Cl_sf z_361_37 hV) hW [(4, [3, 4]), (63, [3, 4]), (75, [4])] 9 h
theorem z_361_45 : Sf_ k_361 g_361_45 := Sf_tr z_361_37 8 rfl
theorem b_361_75 {D : ca_} {V : vv_} {Qr : qr_} {Qt : qt_} (hD : Mo_ D) (hV : Cl_ wd0 D V Qr Qt m_361) (hW : Wk_ V) (x1 : Int) (x2 : Int) (x3 : Int) (M : mm_) (h :
 (if x3 < 3 then
  D 323 [.inl x2] M (ri_ fun v1 M1 =>
   (0 ≤ w32 ((w32 (v1 + 22)) + x3) ∧ w32 ((w32 (v1 + 22)) + x3) < 1104) ∧
    (if M1 239 (w32 ((w32 (v1 + 22)) + x3)) < 0 then
    V 75 [rr 6, ii x1, ii x2, ii (w32 (x3 + 1)), none] [] M1
   else
    (if x1 < 0 then
     V 75 [rr 6, ii (M1 239 (w32 ((w32 (v1 + 22)) + x3))), ii x2, ii (w32 (x3 + 1)), none] [] M1
    else
     (if M1 239 (w32 ((w32 (v1 + 22)) + x3)) < x1 then
      V 75 [rr 6, ii (M1 239 (w32 ((w32 (v1 + 22)) + x3))), ii x2, ii (w32 (x3 + 1)), none] [] M1
     else
      V 75 [rr 6, ii x1, ii x2, ii (w32 (x3 + 1)), none] [] M1)))) Qt
 else
  V 63 [rr 6, ii x1, ii (w32 (x2 + 1)), none, none] [] M)) : V 75 [rr 6, ii x1, ii x2, ii x3, none] [] M := bx_go hD (m := (g_361_45, m_361.2)) (Cl_sf z_361_45 hV) hW [(4, [3, 4]), (63, [3, 4]), (75, [4])] 25 h
/-- X4_go(I)I -/
theorem b_362_0 {D : ca_} {V : vv_} {Qr : qr_} {Qt : qt_} (hD : Mo_ D) (hV : Cl_ wd0 D V Qr Qt m_362) (hW : Wk_ V) (x1 : Int) (M : mm_) (h :
 (bl_ (M 6 126) → (if M 6 126 = 0 then
  Qr [.inl ((-1))] M
 else
  D 326 [.inr (.inr 6)] M (rv_ fun M1 =>
   D 331 [.inr (.inr 6), .inl x1] M1 (ri_ fun v1 M2 =>
    (if x1 < 1 then
     Qr [.inl 0] M2
    else
     (if v1 < 0 then
      Qr [.inl 0] M2
     else
      D 336 [.inr (.inr 6), .inl v1] M2 (ri_ fun v2 M3 =>
       (if v2 = 0 then
        Qr [.inl 0] M3
       else
        D 345 [.inr (.inr 6), .inl v1, .inl v2] (up_ M3 6 130 x1) (rv_ fun M4 =>
         Qr [.inl 1] (up_ M4 6 136 (w32 ((M4 6 136) + 1)))) Qt)) Qt))) Qt) Qt))) : V 0 [rr 6, ii x1, none, none] [] M := bx_go hD hV hW [] 35 h
/-- X4_none(II)I -/
theorem b_363_0 {D : ca_} {V : vv_} {Qr : qr_} {Qt : qt_} (hD : Mo_ D) (hV : Cl_ wd0 D V Qr Qt m_363) (hW : Wk_ V) (x1 : Int) (x2 : Int) (M : mm_) (h :
 (bl_ (M 6 126) → (if M 6 126 = 0 then
  Qr [.inl ((-1))] M
 else
  D 326 [.inr (.inr 6)] M (rv_ fun M1 =>
   D 331 [.inr (.inr 6), .inl x1] M1 (ri_ fun v1 M2 =>
    (if x1 < 1 then
     (if (-1 : Int) < 0 then
      Qr [.inl 0] M2
     else
      D 365 [.inr (.inr 6), .inl v1, .inl ((-1))] M2 (rv_ fun M3 =>
       Qr [.inl 1] M3) Qt)
    else
     (if v1 < 0 then
      (if (-1 : Int) < 0 then
       Qr [.inl 0] M2
      else
       D 365 [.inr (.inr 6), .inl v1, .inl ((-1))] M2 (rv_ fun M6 =>
        Qr [.inl 1] M6) Qt)
     else
      D 364 [.inr (.inr 6), .inl v1, .inl x2] M2 (ri_ fun v2 M4 =>
       (if v2 < 0 then
        Qr [.inl 0] M4
       else
        D 365 [.inr (.inr 6), .inl v1, .inl v2] M4 (rv_ fun M5 =>
         Qr [.inl 1] M5) Qt)) Qt))) Qt) Qt))) : V 0 [rr 6, ii x1, ii x2, none, none] [] M := bx_go hD hV hW [] 27 h
/-- X4_freely(II)I -/
theorem b_364_0 {D : ca_} {V : vv_} {Qr : qr_} {Qt : qt_} (hD : Mo_ D) (hV : Cl_ wd0 D V Qr Qt m_364) (hW : Wk_ V) (x1 : Int) (x2 : Int) (M : mm_) (h :
 D 323 [.inl x1] M (ri_ fun v1 M1 =>
  (0 ≤ w32 (v1 + 2) ∧ w32 (v1 + 2) < 1104) ∧
   V 18 [rr 6, ii x1, ii x2, ii x2, ii (M1 239 (w32 (v1 + 2))), ii 0] [] M1) Qt) : V 0 [rr 6, ii x1, ii x2, none, none, none] [] M := bx_go hD hV hW [(18, [])] 13 h
theorem i_364 : inq_ 0 k_364 = true := by decide +kernel
theorem z_364_12 : Sf_ k_364 g_364_12 := Sf_of i_364 12 rfl
theorem b_364_18 {D : ca_} {V : vv_} {Qr : qr_} {Qt : qt_} (hD : Mo_ D) (hV : Cl_ wd0 D V Qr Qt m_364) (hW : Wk_ V) (x1 : Int) (x2 : Int) (x3 : Int) (x4 : Int) (x5 : Int) (M : mm_) (h :
 (if x5 < M 6 62 then
  (if x4 < 0 then
   Qr [.inl ((-1))] M
  else
   (if x2 < 0 then
    Qr [.inl ((-1))] M
   else
    (0 ≤ x5 ∧ x5 < 1300) ∧
     D 323 [.inl x1] M (ri_ fun v1 M1 =>
     (0 ≤ w32 (v1 + 1) ∧ w32 (v1 + 1) < 1104) ∧
      (if M 192 x5 = M1 239 (w32 (v1 + 1)) then
      (0 ≤ x5 ∧ x5 < 1300) ∧
       (if M1 193 x5 = 3 then
       (0 ≤ x5 ∧ x5 < 1300) ∧
        (if an_ (sr_ (M1 194 x5) x4) 1 = 0 then
        V 18 [rr 6, ii x1, ii x2, ii x3, ii x4, ii (w32 (x5 + 1))] [] M1
       else
        (if x3 = 0 then
         Qr [.inl x5] M1
        else
         V 18 [rr 6, ii x1, ii x2, ii (w32 (x3 + (-1))), ii x4, ii (w32 (x5 + 1))] [] M1))
      else
       V 18 [rr 6, ii x1, ii x2, ii x3, ii x4, ii (w32 (x5 + 1))] [] M1)
     else
      V 18 [rr 6, ii x1, ii x2, ii x3, ii x4, ii (w32 (x5 + 1))] [] M1)) Qt))
 else
  Qr [.inl ((-1))] M)) : V 18 [rr 6, ii x1, ii x2, ii x3, ii x4, ii x5] [] M := bx_go hD (m := (g_364_12, m_364.2)) (Cl_sf z_364_12 hV) hW [(18, [])] 41 h
/-- X4_spontaneous(II)V -/
theorem b_365_0 {D : ca_} {V : vv_} {Qr : qr_} {Qt : qt_} (hD : Mo_ D) (hV : Cl_ wd0 D V Qr Qt m_365) (hW : Wk_ V) (x1 : Int) (x2 : Int) (M : mm_) (h :
 D 323 [.inl x1] M (ri_ fun v1 M1 =>
  D 323 [.inl x1] M1 (ri_ fun v2 M2 =>
   (0 ≤ v2 ∧ v2 < 1104) ∧
    (0 ≤ w32 (v1 + 3) ∧ w32 (v1 + 3) < 1104) ∧
    (0 ≤ x2 ∧ x2 < 1300) ∧
    D 346 [.inr (.inr 6), .inl x1, .inl (M2 197 x2)] (up_ M2 239 (w32 (v1 + 3)) (M2 239 v2)) (rv_ fun M3 =>
    Qr [] M3) Qt) Qt) Qt) : V 0 [rr 6, ii x1, ii x2] [] M := bx_go hD hV hW [] 20 h
/-- X4_wait(I)I -/
theorem b_366_0 {D : ca_} {V : vv_} {Qr : qr_} {Qt : qt_} (hD : Mo_ D) (hV : Cl_ wd0 D V Qr Qt m_366) (hW : Wk_ V) (x1 : Int) (M : mm_) (h :
 (bl_ (M 6 126) → (if M 6 126 = 0 then
  Qr [.inl ((-1))] M
 else
  (if x1 < 0 then
   Qr [.inl ((-1))] M
  else
   (if x1 ≤ 1000000 then
    (if M 6 128 ≤ w32 (2000000000 - x1) then
     Qr [.inl (w32 ((M 6 128) + x1))] (up_ M 6 128 (w32 ((M 6 128) + x1)))
    else
     Qr [.inl 2000000000] (up_ M 6 128 2000000000))
   else
    Qr [.inl ((-1))] M))))) : V 0 [rr 6, ii x1] [] M := bx_go hD hV hW [] 23 h
/-- X4_put_2(IIIII)I -/
theorem b_367_0 {D : ca_} {V : vv_} {Qr : qr_} {Qt : qt_} (hD : Mo_ D) (hV : Cl_ wd0 D V Qr Qt m_367) (hW : Wk_ V) (x1 : Int) (x2 : Int) (x3 : Int) (x4 : Int) (x5 : Int) (M : mm_) (h :
 (bl_ (M 6 126) → (if M 6 126 = 0 then
  Qr [.inl ((-1))] M
 else
  D 331 [.inr (.inr 6), .inl x2] M (ri_ fun v1 M1 =>
   (if x1 < 0 then
    Qr [.inl 0] M1
   else
    (if x1 < M1 6 17 then
     (if x2 < 1 then
      Qr [.inl 0] M1
     else
      (if v1 < 0 then
       Qr [.inl 0] M1
      else
       D 323 [.inl v1] M1 (ri_ fun v2 M2 =>
        (0 ≤ w32 (v2 + 1) ∧ w32 (v2 + 1) < 1104) ∧
         D 357 [.inr (.inr 6), .inl ((-1)), .inl (M2 239 (w32 (v2 + 1))), .inl x1, .inl 0] M2 (ri_ fun v3 M3 =>
         (if v3 < 0 then
          Qr [.inl 0] M3
         else
          V 71 [rr 6, ii x1, ii x2, ii x3, ii x4, ii x5, ii v1, ii v3, ii 0, none] [] M3)) Qt) Qt))
    else
     Qr [.inl 0] M1))) Qt))) : V 0 [rr 6, ii x1, ii x2, ii x3, ii x4, ii x5, none, none, none, none] [] M := bx_go hD hV hW [(71, [9]), (101, [])] 36 h
theorem i_367 : inq_ 0 k_367 = true := by decide +kernel
theorem z_367_41 : Sf_ k_367 g_367_41 := Sf_of i_367 41 rfl
theorem b_367_71 {D : ca_} {V : vv_} {Qr : qr_} {Qt : qt_} (hD : Mo_ D) (hV : Cl_ wd0 D V Qr Qt m_367) (hW : Wk_ V) (x1 : Int) (x2 : Int) (x3 : Int) (x4 : Int) (x5 : Int) (x6 : Int) (x7 : Int) (x8 : Int) (M : mm_) (h :
 (if x8 < 3 then
  (if x8 = 0 then
   V 101 [rr 6, ii x1, ii x2, ii x3, ii x4, ii x5, ii x6, ii x7, ii x8, ii x3] [] M
  else
   (if x8 = 1 then
    V 101 [rr 6, ii x1, ii x2, ii x3, ii x4, ii x5, ii x6, ii x7, ii x8, ii x4] [] M
   else
    V 101 [rr 6, ii x1, ii x2, ii x3, ii x4, ii x5, ii x6, ii x7, ii x8, ii x5] [] M))
 else
  D 359 [.inr (.inr 6), .inl x7, .inl x1, .inl 0, .inl x2] M (rv_ fun M1 =>
   Qr [.inl 1] M1) Qt)) : V 71 [rr 6, ii x1, ii x2, ii x3, ii x4, ii x5, ii x6, ii x7, ii x8, none] [] M := bx_go hD (m := (g_367_41, m_367.2)) (Cl_sf z_367_41 hV) hW [(71, [9]), (101, [])] 12 h
theorem z_367_55 : Sf_ k_367 g_367_55 := Sf_tr z_367_41 14 rfl
theorem b_367_101 {D : ca_} {V : vv_} {Qr : qr_} {Qt : qt_} (hD : Mo_ D) (hV : Cl_ wd0 D V Qr Qt m_367) (hW : Wk_ V) (x1 : Int) (x2 : Int) (x3 : Int) (x4 : Int) (x5 : Int) (x6 : Int) (x7 : Int) (x8 : Int) (x9 : Int) (M : mm_) (h :
 (0 ≤ x1 ∧ x1 < 20) ∧
  (if x8 < M 156 x1 then
  (0 ≤ w32 ((w32 (3 * x1)) + x8) ∧ w32 ((w32 (3 * x1)) + x8) < 60) ∧
   (if M 157 (w32 ((w32 (3 * x1)) + x8)) = 2 then
   (if x9 = 0 then
    (0 ≤ x8 ∧ x8 < 3) ∧
     V 71 [rr 6, ii x1, ii x2, ii x3, ii x4, ii x5, ii x6, ii x7, ii (w32 (x8 + 1)), none] [] (up_ M 242 x8 x9)
   else
    (0 ≤ x8 ∧ x8 < 3) ∧
     V 71 [rr 6, ii x1, ii x2, ii x3, ii x4, ii x5, ii x6, ii x7, ii (w32 (x8 + 1)), none] [] (up_ M 242 x8 1))
  else
   (0 ≤ x8 ∧ x8 < 3) ∧
    V 71 [rr 6, ii x1, ii x2, ii x3, ii x4, ii x5, ii x6, ii x7, ii (w32 (x8 + 1)), none] [] (up_ M 242 x8 x9))
 else
  (0 ≤ x8 ∧ x8 < 3) ∧
   V 71 [rr 6, ii x1, ii x2, ii x3, ii x4, ii x5, ii x6, ii x7, ii (w32 (x8 + 1)), none] [] (up_ M 242 x8 0))) : V 101 [rr 6, ii x1, ii x2, ii x3, ii x4, ii x5, ii x6, ii x7, ii x8, ii x9] [] M := bx_go hD (m := (g_367_55, m_367.2)) (Cl_sf z_367_55 hV) hW [(71, [9]), (101, [])] 27 h
/-- X4_alive(I)I -/
theorem b_368_0 {D : ca_} {V : vv_} {Qr : qr_} {Qt : qt_} (hD : Mo_ D) (hV : Cl_ wd0 D V Qr Qt m_368) (hW : Wk_ V) (x1 : Int) (M : mm_) (h :
 (bl_ (M 6 126) → (if M 6 126 = 0 then
  Qr [.inl ((-1))] M
 else
  (if x1 < 0 then
   Qr [.inl ((-1))] M
  else
   (0 ≤ (0 : Int) ∧ (0 : Int) < 1104) ∧
    (if x1 < M 239 0 then
    D 323 [.inl x1] M (ri_ fun v1 M1 =>
     (0 ≤ v1 ∧ v1 < 1104) ∧
      Qr [.inl (M1 239 v1)] M1) Qt
   else
    Qr [.inl ((-1))] M))))) : V 0 [rr 6, ii x1] [] M := bx_go hD hV hW [] 18 h
/-- X4_instance(II)I -/
theorem b_369_0 {D : ca_} {V : vv_} {Qr : qr_} {Qt : qt_} (hD : Mo_ D) (hV : Cl_ wd0 D V Qr Qt m_369) (hW : Wk_ V) (x1 : Int) (x2 : Int) (M : mm_) (h :
 D 370 [.inr (.inr 6), .inl x1] M (ri_ fun v1 M1 =>
  (if v1 < 0 then
   Qr [.inl ((-1))] M1
  else
   D 323 [.inl v1] M1 (ri_ fun v2 M2 =>
    (if x2 = 0 then (0 ≤ w32 (v2 + 1) ∧ w32 (v2 + 1) < 1104) ∧
      Qr [.inl (M2 239 (w32 (v2 + 1)))] M2 else
    (if x2 = 1 then (0 ≤ w32 (v2 + 2) ∧ w32 (v2 + 2) < 1104) ∧
      Qr [.inl (M2 239 (w32 (v2 + 2)))] M2 else
    (if x2 = 2 then (0 ≤ w32 (v2 + 25) ∧ w32 (v2 + 25) < 1104) ∧
      Qr [.inl (M2 239 (w32 (v2 + 25)))] M2 else
    (if x2 = 3 then (0 ≤ w32 (v2 + 3) ∧ w32 (v2 + 3) < 1104) ∧
      Qr [.inl (M2 239 (w32 (v2 + 3)))] M2 else
    (if x2 = 4 then (0 ≤ w32 (v2 + 4) ∧ w32 (v2 + 4) < 1104) ∧
      Qr [.inl (M2 239 (w32 (v2 + 4)))] M2 else
    (if x2 = 5 then (0 ≤ w32 (v2 + 5) ∧ w32 (v2 + 5) < 1104) ∧
      Qr [.inl (M2 239 (w32 (v2 + 5)))] M2 else
    (if x2 = 6 then D 336 [.inr (.inr 6), .inl v1] M2 (ri_ fun v3 M3 =>
      Qr [.inl v3] M3) Qt else
    Qr [.inl ((-1))] M2)))))))) Qt)) Qt) : V 0 [rr 6, ii x1, ii x2, none, none] [] M := bx_go hD hV hW [] 18 h
/-- X4_slotAsked(I)I -/
theorem b_370_0 {D : ca_} {V : vv_} {Qr : qr_} {Qt : qt_} (hD : Mo_ D) (hV : Cl_ wd0 D V Qr Qt m_370) (hW : Wk_ V) (x1 : Int) (M : mm_) (h :
 (bl_ (M 6 126) → (if M 6 126 = 0 then
  Qr [.inl ((-1))] M
 else
  (if x1 ≤ 0 then
   Qr [.inl ((-1))] M
  else
   D 331 [.inr (.inr 6), .inl x1] M (ri_ fun v1 M1 =>
    Qr [.inl v1] M1) Qt)))) : V 0 [rr 6, ii x1] [] M := bx_go hD hV hW [] 10 h
/-- X4_cell(II)I -/
theorem b_371_0 {D : ca_} {V : vv_} {Qr : qr_} {Qt : qt_} (hD : Mo_ D) (hV : Cl_ wd0 D V Qr Qt m_371) (hW : Wk_ V) (x1 : Int) (x2 : Int) (M : mm_) (h :
 D 370 [.inr (.inr 6), .inl x1] M (ri_ fun v1 M1 =>
  (if v1 < 0 then
   Qr [.inl 0] M1
  else
   (if x2 < 0 then
    Qr [.inl 0] M1
   else
    D 323 [.inl v1] M1 (ri_ fun v2 M2 =>
     (0 ≤ w32 (v2 + 1) ∧ w32 (v2 + 1) < 1104) ∧
      (0 ≤ M2 239 (w32 (v2 + 1)) ∧ M2 239 (w32 (v2 + 1)) < 6) ∧
      (if x2 < M2 172 (M2 239 (w32 (v2 + 1))) then
      D 323 [.inl v1] M2 (ri_ fun v3 M3 =>
       (0 ≤ w32 ((w32 (v3 + 6)) + x2) ∧ w32 ((w32 (v3 + 6)) + x2) < 1104) ∧
        Qr [.inl (M3 239 (w32 ((w32 (v3 + 6)) + x2)))] M3) Qt
     else
      Qr [.inl 0] M2)) Qt))) Qt) : V 0 [rr 6, ii x1, ii x2, none] [] M := bx_go hD hV hW [] 30 h
/-- X4_timer(II)I -/
theorem b_372_0 {D : ca_} {V : vv_} {Qr : qr_} {Qt : qt_} (hD : Mo_ D) (hV : Cl_ wd0 D V Qr Qt m_372) (hW : Wk_ V) (x1 : Int) (x2 : Int) (M : mm_) (h :
 D 370 [.inr (.inr 6), .inl x1] M (ri_ fun v1 M1 =>
  (if v1 < 0 then
   Qr [.inl ((-1))] M1
  else
   (if x2 < 0 then
    Qr [.inl ((-1))] M1
   else
    D 323 [.inl v1] M1 (ri_ fun v2 M2 =>
     (0 ≤ w32 (v2 + 1) ∧ w32 (v2 + 1) < 1104) ∧
      (0 ≤ M2 239 (w32 (v2 + 1)) ∧ M2 239 (w32 (v2 + 1)) < 6) ∧
      (if x2 < M2 173 (M2 239 (w32 (v2 + 1))) then
      D 323 [.inl v1] M2 (ri_ fun v3 M3 =>
       (0 ≤ w32 ((w32 (v3 + 22)) + x2) ∧ w32 ((w32 (v3 + 22)) + x2) < 1104) ∧
        Qr [.inl (M3 239 (w32 ((w32 (v3 + 22)) + x2)))] M3) Qt
     else
      Qr [.inl ((-1))] M2)) Qt))) Qt) : V 0 [rr 6, ii x1, ii x2, none] [] M := bx_go hD hV hW [] 30 h
/-- X4_queued(III)I -/
theorem b_373_0 {D : ca_} {V : vv_} {Qr : qr_} {Qt : qt_} (hD : Mo_ D) (hV : Cl_ wd0 D V Qr Qt m_373) (hW : Wk_ V) (x1 : Int) (x2 : Int) (x3 : Int) (M : mm_) (h :
 D 370 [.inr (.inr 6), .inl x1] M (ri_ fun v1 M1 =>
  (if v1 < 0 then
   Qr [.inl ((-1))] M1
  else
   (if x2 < 0 then
    Qr [.inl ((-1))] M1
   else
    D 323 [.inl v1] M1 (ri_ fun v2 M2 =>
     (0 ≤ w32 (v2 + 25) ∧ w32 (v2 + 25) < 1104) ∧
      (if x2 < M2 239 (w32 (v2 + 25)) then
      (if x3 < 0 then
       Qr [.inl ((-1))] M2
      else
       (if x3 < 5 then
        D 323 [.inl v1] M2 (ri_ fun v3 M3 =>
         (0 ≤ w32 ((w32 ((w32 ((w32 (v3 + 25)) + 1)) + (w32 (5 * x2)))) + x3) ∧ w32 ((w32 ((w32 ((w32 (v3 + 25)) + 1)) + (w32 (5 * x2)))) + x3) < 1104) ∧
          Qr [.inl (M3 239 (w32 ((w32 ((w32 ((w32 (v3 + 25)) + 1)) + (w32 (5 * x2)))) + x3)))] M3) Qt
       else
        Qr [.inl ((-1))] M2))
     else
      Qr [.inl ((-1))] M2)) Qt))) Qt) : V 0 [rr 6, ii x1, ii x2, ii x3, none] [] M := bx_go hD hV hW [] 38 h
/-- X4_way(III)I -/
theorem b_374_0 {D : ca_} {V : vv_} {Qr : qr_} {Qt : qt_} (hD : Mo_ D) (hV : Cl_ wd0 D V Qr Qt m_374) (hW : Wk_ V) (x1 : Int) (x2 : Int) (x3 : Int) (M : mm_) (h :
 (bl_ (M 6 126) → (if M 6 126 = 0 then
  Qr [.inl ((-1))] M
 else
  (if x1 < 0 then
   Qr [.inl ((-1))] M
  else
   (if x1 < M 6 18 then
    (if x2 < 0 then
     Qr [.inl ((-1))] M
    else
     D 327 [.inl x1] M (ri_ fun v1 M1 =>
      (0 ≤ v1 ∧ v1 < 1104) ∧
       (if x2 < M1 239 v1 then
       (if x3 < 0 then
        Qr [.inl ((-1))] M1
       else
        (if x3 < 7 then
         D 327 [.inl x1] M1 (ri_ fun v2 M2 =>
          (0 ≤ w32 ((w32 ((w32 (v2 + 1)) + (w32 (7 * x2)))) + x3) ∧ w32 ((w32 ((w32 (v2 + 1)) + (w32 (7 * x2)))) + x3) < 1104) ∧
           Qr [.inl (M2 239 (w32 ((w32 ((w32 (v2 + 1)) + (w32 (7 * x2)))) + x3)))] M2) Qt
        else
         Qr [.inl ((-1))] M1))
      else
       Qr [.inl ((-1))] M1)) Qt)
   else
    Qr [.inl ((-1))] M))))) : V 0 [rr 6, ii x1, ii x2, ii x3] [] M := bx_go hD hV hW [] 37 h
/-- X4_out(II)I -/
theorem b_375_0 {D : ca_} {V : vv_} {Qr : qr_} {Qt : qt_} (hD : Mo_ D) (hV : Cl_ wd0 D V Qr Qt m_375) (hW : Wk_ V) (x1 : Int) (x2 : Int) (M : mm_) (h :
 (bl_ (M 6 126) → (if M 6 126 = 0 then
  Qr [.inl ((-1))] M
 else
  (if x1 < 0 then
   Qr [.inl ((-1))] M
  else
   (if x1 < M 6 145 then
    (if x2 < 0 then
     Qr [.inl ((-1))] M
    else
     (if x2 ≤ 5 then
      (200 : Int) ≠ 0 ∧ (0 ≤ w32 ((w32 (6 * (Int.tmod (w32 ((w32 ((w32 ((M 6 144) - (M 6 145))) + x1)) + 200)) 200))) + x2) ∧ w32 ((w32 (6 * (Int.tmod (w32 ((w32 ((w32 ((M 6 144) - (M 6 145))) + x1)) + 200)) 200))) + x2) < 1200) ∧
       Qr [.inl (M 241 (w32 ((w32 (6 * (Int.tmod (w32 ((w32 ((w32 ((M 6 144) - (M 6 145))) + x1)) + 200)) 200))) + x2)))] M
     else
      Qr [.inl ((-1))] M))
   else
    Qr [.inl ((-1))] M))))) : V 0 [rr 6, ii x1, ii x2] [] M := bx_go hD hV hW [] 33 h
/-- X4_event(II)I -/
theorem b_376_0 {D : ca_} {V : vv_} {Qr : qr_} {Qt : qt_} (hD : Mo_ D) (hV : Cl_ wd0 D V Qr Qt m_376) (hW : Wk_ V) (x1 : Int) (x2 : Int) (M : mm_) (h :
 (bl_ (M 6 126) → (if M 6 126 = 0 then
  Qr [.inl ((-1))] M
 else
  (if x1 < 0 then
   Qr [.inl ((-1))] M
  else
   (if x1 < M 6 142 then
    (if x2 < 0 then
     Qr [.inl ((-1))] M
    else
     (if x2 ≤ 3 then
      (500 : Int) ≠ 0 ∧ (0 ≤ w32 ((w32 (4 * (Int.tmod (w32 ((M 6 143) + x1)) 500))) + x2) ∧ w32 ((w32 (4 * (Int.tmod (w32 ((M 6 143) + x1)) 500))) + x2) < 2000) ∧
       Qr [.inl (M 240 (w32 ((w32 (4 * (Int.tmod (w32 ((M 6 143) + x1)) 500))) + x2)))] M
     else
      Qr [.inl ((-1))] M))
   else
    Qr [.inl ((-1))] M))))) : V 0 [rr 6, ii x1, ii x2] [] M := bx_go hD hV hW [] 28 h
/-- X4_count(I)I -/
theorem b_377_0 {D : ca_} {V : vv_} {Qr : qr_} {Qt : qt_} (hD : Mo_ D) (hV : Cl_ wd0 D V Qr Qt m_377) (hW : Wk_ V) (x1 : Int) (M : mm_) (h :
 (if x1 = 0 then (bl_ (M 6 6) → (if M 6 6 = 0 then
   Qr [.inl 0] M
  else
   Qr [.inl (M 6 17)] M)) else
 (if x1 = 1 then (bl_ (M 6 6) → (if M 6 6 = 0 then
   Qr [.inl 0] M
  else
   Qr [.inl (M 6 18)] M)) else
 (if x1 = 2 then (bl_ (M 6 6) → (if M 6 6 = 0 then
   Qr [.inl 0] M
  else
   Qr [.inl (M 6 19)] M)) else
 (if x1 = 3 then (bl_ (M 6 6) → (if M 6 6 = 0 then
   Qr [.inl 0] M
  else
   Qr [.inl (M 6 120)] M)) else
 (if x1 = 4 then (if x1 < 0 then
   Qr [.inl ((-1))] M
  else
   (if x1 ≤ 18 then
    (bl_ (M 6 126) → (if M 6 126 = 0 then
     Qr [.inl 0] M
    else
     D 378 [.inr (.inr 6), .inl x1] M (ri_ fun v11 M11 =>
      Qr [.inl v11] M11) Qt))
   else
    Qr [.inl ((-1))] M)) else
 (if x1 = 5 then (if x1 < 0 then
   Qr [.inl ((-1))] M
  else
   (if x1 ≤ 18 then
    (bl_ (M 6 126) → (if M 6 126 = 0 then
     Qr [.inl 0] M
    else
     D 378 [.inr (.inr 6), .inl x1] M (ri_ fun v10 M10 =>
      Qr [.inl v10] M10) Qt))
   else
    Qr [.inl ((-1))] M)) else
 (if x1 = 6 then (if x1 < 0 then
   Qr [.inl ((-1))] M
  else
   (if x1 ≤ 18 then
    (bl_ (M 6 126) → (if M 6 126 = 0 then
     Qr [.inl 0] M
    else
     D 378 [.inr (.inr 6), .inl x1] M (ri_ fun v9 M9 =>
      Qr [.inl v9] M9) Qt))
   else
    Qr [.inl ((-1))] M)) else
 (if x1 = 7 then (if x1 < 0 then
   Qr [.inl ((-1))] M
  else
   (if x1 ≤ 18 then
    (bl_ (M 6 126) → (if M 6 126 = 0 then
     Qr [.inl 0] M
    else
     D 378 [.inr (.inr 6), .inl x1] M (ri_ fun v8 M8 =>
      Qr [.inl v8] M8) Qt))
   else
    Qr [.inl ((-1))] M)) else
 (if x1 = 8 then (if x1 < 0 then
   Qr [.inl ((-1))] M
  else
   (if x1 ≤ 18 then
    (bl_ (M 6 126) → (if M 6 126 = 0 then
     Qr [.inl 0] M
    else
     D 378 [.inr (.inr 6), .inl x1] M (ri_ fun v7 M7 =>
      Qr [.inl v7] M7) Qt))
   else
    Qr [.inl ((-1))] M)) else
 (if x1 = 9 then (if x1 < 0 then
   Qr [.inl ((-1))] M
  else
   (if x1 ≤ 18 then
    (bl_ (M 6 126) → (if M 6 126 = 0 then
     Qr [.inl 0] M
    else
     D 378 [.inr (.inr 6), .inl x1] M (ri_ fun v6 M6 =>
      Qr [.inl v6] M6) Qt))
   else
    Qr [.inl ((-1))] M)) else
 (if x1 = 10 then (if x1 < 0 then
   Qr [.inl ((-1))] M
  else
   (if x1 ≤ 18 then
    (bl_ (M 6 126) → (if M 6 126 = 0 then
     Qr [.inl 0] M
    else
     D 378 [.inr (.inr 6), .inl x1] M (ri_ fun v5 M5 =>
      Qr [.inl v5] M5) Qt))
   else
    Qr [.inl ((-1))] M)) else
 (if x1 = 11 then (if x1 < 0 then
   Qr [.inl ((-1))] M
  else
   (if x1 ≤ 18 then
    (bl_ (M 6 126) → (if M 6 126 = 0 then
     Qr [.inl 0] M
    else
     D 378 [.inr (.inr 6), .inl x1] M (ri_ fun v4 M4 =>
      Qr [.inl v4] M4) Qt))
   else
    Qr [.inl ((-1))] M)) else
 (if x1 = 12 then (if x1 < 0 then
   Qr [.inl ((-1))] M
  else
   (if x1 ≤ 18 then
    (bl_ (M 6 126) → (if M 6 126 = 0 then
     Qr [.inl 0] M
    else
     D 378 [.inr (.inr 6), .inl x1] M (ri_ fun v3 M3 =>
      Qr [.inl v3] M3) Qt))
   else
    Qr [.inl ((-1))] M)) else
 (if x1 = 13 then (if x1 < 0 then
   Qr [.inl ((-1))] M
  else
   (if x1 ≤ 18 then
    (bl_ (M 6 126) → (if M 6 126 = 0 then
     Qr [.inl 0] M
    else
     D 378 [.inr (.inr 6), .inl x1] M (ri_ fun v2 M2 =>
      Qr [.inl v2] M2) Qt))
   else
    Qr [.inl ((-1))] M)) else
 (if x1 = 14 then Qr [.inl (M 6 3)] M else
 (if x1 < 0 then
   Qr [.inl ((-1))] M
  else
   (if x1 ≤ 18 then
    (bl_ (M 6 126) → (if M 6 126 = 0 then
     Qr [.inl 0] M
    else
     D 378 [.inr (.inr 6), .inl x1] M (ri_ fun v1 M1 =>
      Qr [.inl v1] M1) Qt))
   else
    Qr [.inl ((-1))] M)))))))))))))))))) : V 0 [rr 6, ii x1] [] M := bx_go hD hV hW [] 15 h
/-- X4_counted(I)I -/
theorem b_378_0 {D : ca_} {V : vv_} {Qr : qr_} {Qt : qt_} (hD : Mo_ D) (hV : Cl_ wd0 D V Qr Qt m_378) (hW : Wk_ V) (x1 : Int) (M : mm_) (h :
 (if x1 = 4 then Qr [.inl (M 6 128)] M else
 (if x1 = 5 then (0 ≤ (0 : Int) ∧ (0 : Int) < 1104) ∧
   Qr [.inl (M 239 0)] M else
 (if x1 = 6 then Qr [.inl (M 6 131)] M else
 (if x1 = 7 then Qr [.inl (M 6 132)] M else
 (if x1 = 8 then Qr [.inl (M 6 133)] M else
 (if x1 = 9 then Qr [.inl (M 6 134)] M else
 (if x1 = 10 then Qr [.inl (M 6 135)] M else
 (if x1 = 11 then Qr [.inl (M 6 136)] M else
 (if x1 = 12 then Qr [.inl (M 6 137)] M else
 (if x1 = 13 then Qr [.inl (M 6 142)] M else
 (if x1 = 14 then Qr [.inl (M 6 164)] M else
 (if x1 = 15 then Qr [.inl (M 6 129)] M else
 (if x1 = 16 then Qr [.inl (M 6 163)] M else
 (if x1 = 17 then (bl_ (M 6 169) → (if M 6 169 = 0 then
   Qr [.inl 0] M
  else
   Qr [.inl 1] M)) else
 Qr [.inl (M 6 164)] M))))))))))))))) : V 0 [rr 6, ii x1] [] M := bx_go hD hV hW [] 8 h
/-- X4_type(II)I -/
theorem b_379_0 {D : ca_} {V : vv_} {Qr : qr_} {Qt : qt_} (hD : Mo_ D) (hV : Cl_ wd0 D V Qr Qt m_379) (hW : Wk_ V) (x1 : Int) (x2 : Int) (M : mm_) (h :
 (bl_ (M 6 6) → (if M 6 6 = 0 then
  Qr [.inl ((-1))] M
 else
  (if x1 < 0 then
   Qr [.inl ((-1))] M
  else
   (if x1 < M 6 19 then
    (if x2 = 0 then (0 ≤ x1 ∧ x1 < 6) ∧
      Qr [.inl (M 174 x1)] M else
    (if x2 = 1 then (0 ≤ x1 ∧ x1 < 6) ∧
      Qr [.inl (M 172 x1)] M else
    (if x2 = 2 then (0 ≤ x1 ∧ x1 < 6) ∧
      Qr [.inl (M 173 x1)] M else
    (if x2 = 3 then (0 ≤ x1 ∧ x1 < 6) ∧
      Qr [.inl (M 168 x1)] M else
    (if x2 = 4 then (0 ≤ x1 ∧ x1 < 6) ∧
      Qr [.inl (M 169 x1)] M else
    Qr [.inl ((-1))] M)))))
   else
    Qr [.inl ((-1))] M))))) : V 0 [rr 6, ii x1, ii x2] [] M := bx_go hD hV hW [] 16 h
/-- X4_search(I)I -/
theorem b_380_0 {D : ca_} {V : vv_} {Qr : qr_} {Qt : qt_} (hD : Mo_ D) (hV : Cl_ wd0 D V Qr Qt m_380) (hW : Wk_ V) (x1 : Int) (M : mm_) (h :
 (bl_ (M 6 126) → (if M 6 126 = 0 then
  Qr [.inl ((-1))] M
 else
  (if x1 < 1 then
   Qr [.inl ((-1))] M
  else
   (if x1 ≤ 200 then
    V 23 [rr 6, ii x1, ii 0] [] M
   else
    Qr [.inl ((-1))] M))))) : V 0 [rr 6, ii x1, none] [] M := bx_go hD hV hW [(23, []), (89, []), (189, [])] 12 h
theorem i_380 : inq_ 0 k_380 = true := by decide +kernel
theorem z_380_13 : Sf_ k_380 g_380_13 := Sf_of i_380 13 rfl
theorem b_380_23 {D : ca_} {V : vv_} {Qr : qr_} {Qt : qt_} (hD : Mo_ D) (hV : Cl_ wd0 D V Qr Qt m_380) (hW : Wk_ V) (x1 : Int) (x2 : Int) (M : mm_) (h :
 (if x2 < 1104 then
  (0 ≤ x2 ∧ x2 < 1104) ∧
   (0 ≤ x2 ∧ x2 < 1104) ∧
   V 23 [rr 6, ii x1, ii (w32 (x2 + 1))] [] (up_ M 246 x2 (M 239 x2))
 else
  bl_ 1 ∧ bl_ 0 ∧ D 381 [.inr (.inr 6)] (up_ (up_ (up_ (up_ (up_ M 6 127 1) 6 165 x1) 6 163 0) 6 164 0) 6 169 0) (rv_ fun M1 =>
   D 382 [.inr (.inr 6)] M1 (ri_ fun v1 M2 =>
    D 383 [.inr (.inr 6), .inl ((-1)), .inl ((-1)), .inl v1] M2 (rv_ fun M3 =>
     V 89 [rr 6, ii x1, ii 0] [] M3) Qt) Qt) Qt)) : V 23 [rr 6, ii x1, ii x2] [] M := bx_go hD (m := (g_380_13, m_380.2)) (Cl_sf z_380_13 hV) hW [(23, []), (89, []), (189, [])] 29 h
theorem z_380_51 : Sf_ k_380 g_380_51 := Sf_tr z_380_13 38 rfl
theorem b_380_89 {D : ca_} {V : vv_} {Qr : qr_} {Qt : qt_} (hD : Mo_ D) (hV : Cl_ wd0 D V Qr Qt m_380) (hW : Wk_ V) (x1 : Int) (x2 : Int) (M : mm_) (h :
 (if x2 < M 6 163 then
  (bl_ (M 6 169) → (if M 6 169 = 0 then
   D 384 [.inr (.inr 6), .inl x2] (up_ (up_ (up_ M 6 166 0) 6 167 0) 6 168 0) (rv_ fun M1 =>
    D 389 [.inr (.inr 6), .inl x2] M1 (rv_ fun M2 =>
     D 390 [.inr (.inr 6), .inl x2] M2 (rv_ fun M3 =>
      D 391 [.inr (.inr 6), .inl x2] M3 (rv_ fun M4 =>
       (bl_ (M4 6 169) → (if M4 6 169 = 0 then
        (0 ≤ x2 ∧ x2 < 200) ∧
         (0 ≤ x2 ∧ x2 < 200) ∧
         (0 ≤ x2 ∧ x2 < 200) ∧
         V 89 [rr 6, ii x1, ii (w32 (x2 + 1))] [] (up_ (up_ (up_ M4 250 x2 (M4 6 166)) 251 x2 (M4 6 167)) 252 x2 (M4 6 168))
       else
        V 89 [rr 6, ii x1, ii (w32 (x2 + 1))] [] M4))) Qt) Qt) Qt) Qt
  else
   bl_ 0 ∧ V 189 [rr 6, ii x1, ii 0] [] (up_ M 6 127 0)))
 else
  bl_ 0 ∧ V 189 [rr 6, ii x1, ii 0] [] (up_ M 6 127 0))) : V 89 [rr 6, ii x1, ii x2] [] M := bx_go hD (m := (g_380_51, m_380.2)) (Cl_sf z_380_51 hV) hW [(23, []), (89, []), (189, [])] 52 h
theorem z_380_107 : Sf_ k_380 g_380_107 := Sf_tr z_380_51 56 rfl
theorem b_380_189 {D : ca_} {V : vv_} {Qr : qr_} {Qt : qt_} (hD : Mo_ D) (hV : Cl_ wd0 D V Qr Qt m_380) (hW : Wk_ V) (x1 : Int) (x2 : Int) (M : mm_) (h :
 (if x2 < 1104 then
  (0 ≤ x2 ∧ x2 < 1104) ∧
   (0 ≤ x2 ∧ x2 < 1104) ∧
   V 189 [rr 6, ii x1, ii (w32 (x2 + 1))] [] (up_ M 239 x2 (M 246 x2))
 else
  Qr [.inl (M 6 163)] M)) : V 189 [rr 6, ii x1, ii x2] [] M := bx_go hD (m := (g_380_107, m_380.2)) (Cl_sf z_380_107 hV) hW [(23, []), (89, []), (189, [])] 14 h
/-- X4_plain()V -/
theorem b_381_0 {D : ca_} {V : vv_} {Qr : qr_} {Qt : qt_} (hD : Mo_ D) (hV : Cl_ wd0 D V Qr Qt m_381) (hW : Wk_ V)  (M : mm_) (h :
 V 2 [rr 6, ii 0, none] [] M) : V 0 [rr 6, none, none] [] M := bx_go hD hV hW [(2, [2]), (12, []), (58, [2]), (70, [])] 3 h
theorem b_381_2 {D : ca_} {V : vv_} {Qr : qr_} {Qt : qt_} (hD : Mo_ D) (hV : Cl_ wd0 D V Qr Qt m_381) (hW : Wk_ V) (x1 : Int) (M : mm_) (h :
 (if x1 < M 6 18 then
  V 12 [rr 6, ii x1, ii 0] [] M
 else
  V 58 [rr 6, ii 0, none] [] M)) : V 2 [rr 6, ii x1, none] [] M := bx_go hD hV hW [(2, [2]), (12, []), (58, [2]), (70, [])] 7 h
theorem i_381 : inq_ 0 k_381 = true := by decide +kernel
theorem z_381_8 : Sf_ k_381 g_381_8 := Sf_of i_381 8 rfl
theorem b_381_12 {D : ca_} {V : vv_} {Qr : qr_} {Qt : qt_} (hD : Mo_ D) (hV : Cl_ wd0 D V Qr Qt m_381) (hW : Wk_ V) (x1 : Int) (x2 : Int) (M : mm_) (h :
 D 327 [.inl x1] M (ri_ fun v1 M1 =>
  (0 ≤ v1 ∧ v1 < 1104) ∧
   (if x2 < M1 239 v1 then
   D 327 [.inl x1] M1 (ri_ fun v2 M2 =>
    (0 ≤ w32 ((w32 ((w32 (v2 + 1)) + (w32 (7 * x2)))) + 3) ∧ w32 ((w32 ((w32 (v2 + 1)) + (w32 (7 * x2)))) + 3) < 1104) ∧
     V 12 [rr 6, ii x1, ii (w32 (x2 + 1))] [] (up_ M2 239 (w32 ((w32 ((w32 (v2 + 1)) + (w32 (7 * x2)))) + 3)) 0)) Qt
  else
   V 2 [rr 6, ii (w32 (x1 + 1)), none] [] M1)) Qt) : V 12 [rr 6, ii x1, ii x2] [] M := bx_go hD (m := (g_381_8, m_381.2)) (Cl_sf z_381_8 hV) hW [(2, [2]), (12, []), (58, [2]), (70, [])] 24 h
theorem z_381_35 : Sf_ k_381 g_381_35 := Sf_tr z_381_8 27 rfl
theorem b_381_58 {D : ca_} {V : vv_} {Qr : qr_} {Qt : qt_} (hD : Mo_ D) (hV : Cl_ wd0 D V Qr Qt m_381) (hW : Wk_ V) (x1 : Int) (M : mm_) (h :
 (0 ≤ (0 : Int) ∧ (0 : Int) < 1104) ∧
  (if x1 < M 239 0 then
  V 70 [rr 6, ii x1, ii 0] [] M
 else
  Qr [] M)) : V 58 [rr 6, ii x1, none] [] M := bx_go hD (m := (g_381_35, m_381.2)) (Cl_sf z_381_35 hV) hW [(2, [2]), (12, []), (58, [2]), (70, [])] 9 h
theorem z_381_43 : Sf_ k_381 g_381_43 := Sf_tr z_381_35 8 rfl
theorem b_381_70 {D : ca_} {V : vv_} {Qr : qr_} {Qt : qt_} (hD : Mo_ D) (hV : Cl_ wd0 D V Qr Qt m_381) (hW : Wk_ V) (x1 : Int) (x2 : Int) (M : mm_) (h :
 (if x2 < 3 then
  D 323 [.inl x1] M (ri_ fun v1 M1 =>
   (0 ≤ w32 ((w32 (v1 + 22)) + x2) ∧ w32 ((w32 (v1 + 22)) + x2) < 1104) ∧
    (if M1 239 (w32 ((w32 (v1 + 22)) + x2)) ≤ 0 then
    V 70 [rr 6, ii x1, ii (w32 (x2 + 1))] [] M1
   else
    D 323 [.inl x1] M1 (ri_ fun v2 M2 =>
     (0 ≤ w32 ((w32 (v2 + 22)) + x2) ∧ w32 ((w32 (v2 + 22)) + x2) < 1104) ∧
      V 70 [rr 6, ii x1, ii (w32 (x2 + 1))] [] (up_ M2 239 (w32 ((w32 (v2 + 22)) + x2)) 0)) Qt)) Qt
 else
  V 58 [rr 6, ii (w32 (x1 + 1)), none] [] M)) : V 70 [rr 6, ii x1, ii x2] [] M := bx_go hD (m := (g_381_43, m_381.2)) (Cl_sf z_381_43 hV) hW [(2, [2]), (12, []), (58, [2]), (70, [])] 26 h
/-- X4_sum()I -/
theorem b_382_0 {D : ca_} {V : vv_} {Qr : qr_} {Qt : qt_} (hD : Mo_ D) (hV : Cl_ wd0 D V Qr Qt m_382) (hW : Wk_ V)  (M : mm_) (h :
 V 4 [rr 6, ii 0, ii 0] [] M) : V 0 [rr 6, none, none] [] M := bx_go hD hV hW [(4, [])] 5 h
theorem b_382_4 {D : ca_} {V : vv_} {Qr : qr_} {Qt : qt_} (hD : Mo_ D) (hV : Cl_ wd0 D V Qr Qt m_382) (hW : Wk_ V) (x1 : Int) (x2 : Int) (M : mm_) (h :
 (if x2 < 1104 then
  (0 ≤ x2 ∧ x2 < 1104) ∧
   V 4 [rr 6, ii (w32 ((w32 (31 * x1)) + (M 239 x2))), ii (w32 (x2 + 1))] [] M
 else
  Qr [.inl x1] M)) : V 4 [rr 6, ii x1, ii x2] [] M := bx_go hD hV hW [(4, [])] 15 h
/-- X4_keep(III)V -/
theorem b_383_0 {D : ca_} {V : vv_} {Qr : qr_} {Qt : qt_} (hD : Mo_ D) (hV : Cl_ wd0 D V Qr Qt m_383) (hW : Wk_ V) (x1 : Int) (x2 : Int) (x3 : Int) (M : mm_) (h :
 V 9 [rr 6, ii x1, ii x2, ii x3, ii (M 6 163), ii 0] [] M) : V 0 [rr 6, ii x1, ii x2, ii x3, none, none] [] M := bx_go hD hV hW [(9, []), (83, [])] 6 h
theorem b_383_9 {D : ca_} {V : vv_} {Qr : qr_} {Qt : qt_} (hD : Mo_ D) (hV : Cl_ wd0 D V Qr Qt m_383) (hW : Wk_ V) (x1 : Int) (x2 : Int) (x3 : Int) (x4 : Int) (x5 : Int) (M : mm_) (h :
 (if x5 < 1104 then
  (0 ≤ x5 ∧ x5 < 1104) ∧
   (0 ≤ w32 ((w32 (1104 * x4)) + x5) ∧ w32 ((w32 (1104 * x4)) + x5) < 220800) ∧
   V 9 [rr 6, ii x1, ii x2, ii x3, ii x4, ii (w32 (x5 + 1))] [] (up_ M 245 (w32 ((w32 (1104 * x4)) + x5)) (M 239 x5))
 else
  (0 ≤ x4 ∧ x4 < 200) ∧
   (0 ≤ x4 ∧ x4 < 200) ∧
   (if x1 < 0 then
   (0 ≤ x4 ∧ x4 < 200) ∧
    V 83 [rr 6, ii x1, ii x2, ii x3, ii x4, ii x5] [] (up_ (up_ (up_ M 247 x4 x1) 248 x4 x2) 249 x4 0)
  else
   (0 ≤ x1 ∧ x1 < 200) ∧
    (0 ≤ x4 ∧ x4 < 200) ∧
    V 83 [rr 6, ii x1, ii x2, ii x3, ii x4, ii x5] [] (up_ (up_ (up_ M 247 x4 x1) 248 x4 x2) 249 x4 (w32 ((M 249 x1) + 1)))))) : V 9 [rr 6, ii x1, ii x2, ii x3, ii x4, ii x5] [] M := bx_go hD hV hW [(9, []), (83, [])] 26 h
theorem i_383 : inq_ 0 k_383 = true := by decide +kernel
theorem z_383_46 : Sf_ k_383 g_383_46 := Sf_of i_383 46 rfl
theorem b_383_83 {D : ca_} {V : vv_} {Qr : qr_} {Qt : qt_} (hD : Mo_ D) (hV : Cl_ wd0 D V Qr Qt m_383) (hW : Wk_ V) (x1 : Int) (x2 : Int) (x3 : Int) (x4 : Int) (x5 : Int) (M : mm_) (h :
 (0 ≤ x4 ∧ x4 < 200) ∧
  (0 ≤ x4 ∧ x4 < 200) ∧
  (0 ≤ x4 ∧ x4 < 200) ∧
  (0 ≤ x4 ∧ x4 < 200) ∧
  Qr [] (up_ (up_ (up_ (up_ (up_ M 250 x4 ((-1))) 251 x4 ((-1))) 252 x4 ((-1))) 253 x4 x3) 6 163 (w32 ((M 6 163) + 1)))) : V 83 [rr 6, ii x1, ii x2, ii x3, ii x4, ii x5] [] M := bx_go hD (m := (g_383_46, m_383.2)) (Cl_sf z_383_46 hV) hW [(9, []), (83, [])] 27 h
/-- X4_stepsOf(I)V -/
theorem b_384_0 {D : ca_} {V : vv_} {Qr : qr_} {Qt : qt_} (hD : Mo_ D) (hV : Cl_ wd0 D V Qr Qt m_384) (hW : Wk_ V) (x1 : Int) (M : mm_) (h :
 (0 ≤ w32 (1104 * x1) ∧ w32 (1104 * x1) < 220800) ∧
  V 13 [rr 6, ii x1, ii (M 245 (w32 (1104 * x1))), ii 0, none] [] M) : V 0 [rr 6, ii x1, none, none, none] [] M := bx_go hD hV hW [(13, [4])] 10 h
theorem i_384 : inq_ 0 k_384 = true := by decide +kernel
theorem z_384_9 : Sf_ k_384 g_384_9 := Sf_of i_384 9 rfl
theorem b_384_13 {D : ca_} {V : vv_} {Qr : qr_} {Qt : qt_} (hD : Mo_ D) (hV : Cl_ wd0 D V Qr Qt m_384) (hW : Wk_ V) (x1 : Int) (x2 : Int) (x3 : Int) (M : mm_) (h :
 (if x3 < x2 then
  (bl_ (M 6 169) → (if M 6 169 = 0 then
   D 385 [.inr (.inr 6), .inl x1] M (rv_ fun M1 =>
    D 336 [.inr (.inr 6), .inl x3] M1 (ri_ fun v1 M2 =>
     (if v1 ≤ 0 then
      V 13 [rr 6, ii x1, ii x2, ii (w32 (x3 + 1)), none] [] M2
     else
      D 345 [.inr (.inr 6), .inl x3, .inl v1] M2 (rv_ fun M3 =>
       D 387 [.inr (.inr 6), .inl x1] M3 (rv_ fun M4 =>
        V 13 [rr 6, ii x1, ii x2, ii (w32 (x3 + 1)), none] [] M4) Qt) Qt)) Qt) Qt
  else
   Qr [] M))
 else
  Qr [] M)) : V 13 [rr 6, ii x1, ii x2, ii x3, none] [] M := bx_go hD (m := (g_384_9, m_384.2)) (Cl_sf z_384_9 hV) hW [(13, [4])] 25 h
/-- X4_tries(I)V -/
theorem b_385_0 {D : ca_} {V : vv_} {Qr : qr_} {Qt : qt_} (hD : Mo_ D) (hV : Cl_ wd0 D V Qr Qt m_385) (hW : Wk_ V) (x1 : Int) (M : mm_) (h :
 D 386 [.inr (.inr 6), .inl x1] M (rv_ fun M1 =>
  Qr [] (up_ (up_ M1 6 138 0) 6 139 0)) Qt) : V 0 [rr 6, ii x1] [] M := bx_go hD hV hW [] 10 h
/-- X4_load1(I)V -/
theorem b_386_0 {D : ca_} {V : vv_} {Qr : qr_} {Qt : qt_} (hD : Mo_ D) (hV : Cl_ wd0 D V Qr Qt m_386) (hW : Wk_ V) (x1 : Int) (M : mm_) (h :
 V 2 [rr 6, ii x1, ii 0] [] M) : V 0 [rr 6, ii x1, none] [] M := bx_go hD hV hW [(2, [])] 3 h
theorem b_386_2 {D : ca_} {V : vv_} {Qr : qr_} {Qt : qt_} (hD : Mo_ D) (hV : Cl_ wd0 D V Qr Qt m_386) (hW : Wk_ V) (x1 : Int) (x2 : Int) (M : mm_) (h :
 (if x2 < 1104 then
  (0 ≤ w32 ((w32 (1104 * x1)) + x2) ∧ w32 ((w32 (1104 * x1)) + x2) < 220800) ∧
   (0 ≤ x2 ∧ x2 < 1104) ∧
   V 2 [rr 6, ii x1, ii (w32 (x2 + 1))] [] (up_ M 239 x2 (M 245 (w32 ((w32 (1104 * x1)) + x2))))
 else
  Qr [] M)) : V 2 [rr 6, ii x1, ii x2] [] M := bx_go hD hV hW [(2, [])] 18 h
/-- X4_moved(I)V -/
theorem b_387_0 {D : ca_} {V : vv_} {Qr : qr_} {Qt : qt_} (hD : Mo_ D) (hV : Cl_ wd0 D V Qr Qt m_387) (hW : Wk_ V) (x1 : Int) (M : mm_) (h :
 D 382 [.inr (.inr 6)] (up_ (up_ (up_ M 6 164 (w32 ((M 6 164) + 1))) 6 167 (w32 ((M 6 167) + (M 6 138)))) 6 168 (w32 ((M 6 168) + (M 6 139)))) (ri_ fun v1 M1 =>
  V 43 [rr 6, ii x1, ii v1, ii 0] [] M1) Qt) : V 0 [rr 6, ii x1, none, none] [] M := bx_go hD hV hW [(43, []), (66, [])] 26 h
theorem i_387 : inq_ 0 k_387 = true := by decide +kernel
theorem z_387_25 : Sf_ k_387 g_387_25 := Sf_of i_387 25 rfl
theorem b_387_43 {D : ca_} {V : vv_} {Qr : qr_} {Qt : qt_} (hD : Mo_ D) (hV : Cl_ wd0 D V Qr Qt m_387) (hW : Wk_ V) (x1 : Int) (x2 : Int) (x3 : Int) (M : mm_) (h :
 (if x3 < M 6 163 then
  D 388 [.inr (.inr 6), .inl x3, .inl x2] M (ri_ fun v1 M1 =>
   (if v1 = 0 then
    V 43 [rr 6, ii x1, ii x2, ii (w32 (x3 + 1))] [] M1
   else
    V 66 [rr 6, ii x1, ii x2, ii x3] [] M1)) Qt
 else
  V 66 [rr 6, ii x1, ii x2, ii x3] [] M)) : V 43 [rr 6, ii x1, ii x2, ii x3] [] M := bx_go hD (m := (g_387_25, m_387.2)) (Cl_sf z_387_25 hV) hW [(43, []), (66, [])] 12 h
theorem z_387_36 : Sf_ k_387 g_387_36 := Sf_tr z_387_25 11 rfl
theorem b_387_66 {D : ca_} {V : vv_} {Qr : qr_} {Qt : qt_} (hD : Mo_ D) (hV : Cl_ wd0 D V Qr Qt m_387) (hW : Wk_ V) (x1 : Int) (x2 : Int) (x3 : Int) (M : mm_) (h :
 (if x3 = M 6 163 then
  (if M 6 163 = M 6 165 then
   bl_ 1 ∧ Qr [] (up_ M 6 169 1)
  else
   D 383 [.inr (.inr 6), .inl x1, .inl (M 6 166), .inl x2] M (rv_ fun M1 =>
    Qr [] (up_ M1 6 166 (w32 ((M1 6 166) + 1)))) Qt)
 else
  Qr [] (up_ M 6 166 (w32 ((M 6 166) + 1))))) : V 66 [rr 6, ii x1, ii x2, ii x3] [] M := bx_go hD (m := (g_387_36, m_387.2)) (Cl_sf z_387_36 hV) hW [(43, []), (66, [])] 22 h
/-- X4_isState(II)Z -/
theorem b_388_0 {D : ca_} {V : vv_} {Qr : qr_} {Qt : qt_} (hD : Mo_ D) (hV : Cl_ wd0 D V Qr Qt m_388) (hW : Wk_ V) (x1 : Int) (x2 : Int) (M : mm_) (h :
 (0 ≤ x1 ∧ x1 < 200) ∧
  (if M 253 x1 = x2 then
  V 19 [rr 6, ii x1, ii x2, ii 1, ii 0] [] M
 else
  V 19 [rr 6, ii x1, ii x2, ii 0, ii 0] [] M)) : V 0 [rr 6, ii x1, ii x2, none, none] [] M := bx_go hD hV hW [(19, [])] 12 h
theorem i_388 : inq_ 0 k_388 = true := by decide +kernel
theorem z_388_12 : Sf_ k_388 g_388_12 := Sf_of i_388 12 rfl
theorem b_388_19 {D : ca_} {V : vv_} {Qr : qr_} {Qt : qt_} (hD : Mo_ D) (hV : Cl_ wd0 D V Qr Qt m_388) (hW : Wk_ V) (x1 : Int) (x2 : Int) (x3 : Int) (x4 : Int) (M : mm_) (h :
 (if x4 < 1104 then
  (if x3 = 0 then
   bl_ x3 ∧ Qr [.inl x3] M
  else
   (0 ≤ w32 ((w32 (1104 * x1)) + x4) ∧ w32 ((w32 (1104 * x1)) + x4) < 220800) ∧
    (0 ≤ x4 ∧ x4 < 1104) ∧
    (if M 245 (w32 ((w32 (1104 * x1)) + x4)) = M 239 x4 then
    V 19 [rr 6, ii x1, ii x2, ii 1, ii (w32 (x4 + 1))] [] M
   else
    V 19 [rr 6, ii x1, ii x2, ii 0, ii (w32 (x4 + 1))] [] M))
 else
  bl_ x3 ∧ Qr [.inl x3] M)) : V 19 [rr 6, ii x1, ii x2, ii x3, ii x4] [] M := bx_go hD (m := (g_388_12, m_388.2)) (Cl_sf z_388_12 hV) hW [(19, [])] 24 h
/-- X4_arrivalsOf(I)V -/
theorem b_389_0 {D : ca_} {V : vv_} {Qr : qr_} {Qt : qt_} (hD : Mo_ D) (hV : Cl_ wd0 D V Qr Qt m_389) (hW : Wk_ V) (x1 : Int) (M : mm_) (h :
 V 2 [rr 6, ii x1, ii 0] [] M) : V 0 [rr 6, ii x1, none] [] M := bx_go hD hV hW [(2, [])] 3 h
theorem b_389_2 {D : ca_} {V : vv_} {Qr : qr_} {Qt : qt_} (hD : Mo_ D) (hV : Cl_ wd0 D V Qr Qt m_389) (hW : Wk_ V) (x1 : Int) (x2 : Int) (M : mm_) (h :
 (if x2 < M 6 18 then
  (bl_ (M 6 169) → (if M 6 169 = 0 then
   D 327 [.inl x2] M (ri_ fun v1 M1 =>
    (0 ≤ w32 ((w32 (1104 * x1)) + v1) ∧ w32 ((w32 (1104 * x1)) + v1) < 220800) ∧
     (if M1 245 (w32 ((w32 (1104 * x1)) + v1)) = 0 then
     V 2 [rr 6, ii x1, ii (w32 (x2 + 1))] [] M1
    else
     D 385 [.inr (.inr 6), .inl x1] M1 (rv_ fun M2 =>
      D 328 [.inr (.inr 6), .inl x2] M2 (rv_ fun M3 =>
       D 387 [.inr (.inr 6), .inl x1] M3 (rv_ fun M4 =>
        V 2 [rr 6, ii x1, ii (w32 (x2 + 1))] [] M4) Qt) Qt) Qt)) Qt
  else
   Qr [] M))
 else
  Qr [] M)) : V 2 [rr 6, ii x1, ii x2] [] M := bx_go hD hV hW [(2, [])] 29 h
/-- X4_timersOf(I)V -/
theorem b_390_0 {D : ca_} {V : vv_} {Qr : qr_} {Qt : qt_} (hD : Mo_ D) (hV : Cl_ wd0 D V Qr Qt m_390) (hW : Wk_ V) (x1 : Int) (M : mm_) (h :
 (0 ≤ w32 (1104 * x1) ∧ w32 (1104 * x1) < 220800) ∧
  V 13 [rr 6, ii x1, ii (M 245 (w32 (1104 * x1))), ii 0, none] [] M) : V 0 [rr 6, ii x1, none, none, none] [] M := bx_go hD hV hW [(13, [4]), (21, [])] 10 h
theorem i_390 : inq_ 0 k_390 = true := by decide +kernel
theorem z_390_9 : Sf_ k_390 g_390_9 := Sf_of i_390 9 rfl
theorem b_390_13 {D : ca_} {V : vv_} {Qr : qr_} {Qt : qt_} (hD : Mo_ D) (hV : Cl_ wd0 D V Qr Qt m_390) (hW : Wk_ V) (x1 : Int) (x2 : Int) (x3 : Int) (M : mm_) (h :
 (if x3 < x2 then
  V 21 [rr 6, ii x1, ii x2, ii x3, ii 0] [] M
 else
  Qr [] M)) : V 13 [rr 6, ii x1, ii x2, ii x3, none] [] M := bx_go hD (m := (g_390_9, m_390.2)) (Cl_sf z_390_9 hV) hW [(13, [4]), (21, [])] 6 h
theorem z_390_14 : Sf_ k_390 g_390_14 := Sf_tr z_390_9 5 rfl
theorem b_390_21 {D : ca_} {V : vv_} {Qr : qr_} {Qt : qt_} (hD : Mo_ D) (hV : Cl_ wd0 D V Qr Qt m_390) (hW : Wk_ V) (x1 : Int) (x2 : Int) (x3 : Int) (x4 : Int) (M : mm_) (h :
 (if x4 < 3 then
  (bl_ (M 6 169) → (if M 6 169 = 0 then
   D 323 [.inl x3] M (ri_ fun v1 M1 =>
    (0 ≤ w32 ((w32 ((w32 ((w32 (1104 * x1)) + v1)) + 22)) + x4) ∧ w32 ((w32 ((w32 ((w32 (1104 * x1)) + v1)) + 22)) + x4) < 220800) ∧
     (if M1 245 (w32 ((w32 ((w32 ((w32 (1104 * x1)) + v1)) + 22)) + x4)) < 0 then
     V 21 [rr 6, ii x1, ii x2, ii x3, ii (w32 (x4 + 1))] [] M1
    else
     D 385 [.inr (.inr 6), .inl x1] M1 (rv_ fun M2 =>
      D 334 [.inr (.inr 6), .inl x3, .inl x4] M2 (rv_ fun M3 =>
       D 387 [.inr (.inr 6), .inl x1] M3 (rv_ fun M4 =>
        V 21 [rr 6, ii x1, ii x2, ii x3, ii (w32 (x4 + 1))] [] M4) Qt) Qt) Qt)) Qt
  else
   V 13 [rr 6, ii x1, ii x2, ii (w32 (x3 + 1)), none] [] M))
 else
  V 13 [rr 6, ii x1, ii x2, ii (w32 (x3 + 1)), none] [] M)) : V 21 [rr 6, ii x1, ii x2, ii x3, ii x4] [] M := bx_go hD (m := (g_390_14, m_390.2)) (Cl_sf z_390_14 hV) hW [(13, [4]), (21, [])] 33 h
/-- X4_freeOf(I)V -/
theorem b_391_0 {D : ca_} {V : vv_} {Qr : qr_} {Qt : qt_} (hD : Mo_ D) (hV : Cl_ wd0 D V Qr Qt m_391) (hW : Wk_ V) (x1 : Int) (M : mm_) (h :
 (0 ≤ w32 (1104 * x1) ∧ w32 (1104 * x1) < 220800) ∧
  V 13 [rr 6, ii x1, ii (M 245 (w32 (1104 * x1))), ii 0, none, none, none] [] M) : V 0 [rr 6, ii x1, none, none, none, none, none] [] M := bx_go hD hV hW [(13, [4, 5, 6]), (24, [6])] 10 h
theorem i_391 : inq_ 0 k_391 = true := by decide +kernel
theorem z_391_9 : Sf_ k_391 g_391_9 := Sf_of i_391 9 rfl
theorem b_391_13 {D : ca_} {V : vv_} {Qr : qr_} {Qt : qt_} (hD : Mo_ D) (hV : Cl_ wd0 D V Qr Qt m_391) (hW : Wk_ V) (x1 : Int) (x2 : Int) (x3 : Int) (M : mm_) (h :
 (if x3 < x2 then
  V 24 [rr 6, ii x1, ii x2, ii x3, ii 0, ii 1, none] [] M
 else
  Qr [] M)) : V 13 [rr 6, ii x1, ii x2, ii x3, none, none, none] [] M := bx_go hD (m := (g_391_9, m_391.2)) (Cl_sf z_391_9 hV) hW [(13, [4, 5, 6]), (24, [6])] 8 h
theorem z_391_16 : Sf_ k_391 g_391_16 := Sf_tr z_391_9 7 rfl
theorem b_391_24 {D : ca_} {V : vv_} {Qr : qr_} {Qt : qt_} (hD : Mo_ D) (hV : Cl_ wd0 D V Qr Qt m_391) (hW : Wk_ V) (x1 : Int) (x2 : Int) (x3 : Int) (x4 : Int) (x5 : Int) (M : mm_) (h :
 (if x5 = 0 then
  V 13 [rr 6, ii x1, ii x2, ii (w32 (x3 + 1)), none, none, none] [] M
 else
  (bl_ (M 6 169) → (if M 6 169 = 0 then
   D 385 [.inr (.inr 6), .inl x1] M (rv_ fun M1 =>
    D 364 [.inr (.inr 6), .inl x3, .inl x4] M1 (ri_ fun v1 M2 =>
     (if v1 < 0 then
      (if (0 : Int) = 0 then
       V 24 [rr 6, ii x1, ii x2, ii x3, ii (w32 (x4 + 1)), ii 0, none] [] M2
      else
       D 365 [.inr (.inr 6), .inl x3, .inl v1] M2 (rv_ fun M3 =>
        D 387 [.inr (.inr 6), .inl x1] M3 (rv_ fun M4 =>
         V 24 [rr 6, ii x1, ii x2, ii x3, ii (w32 (x4 + 1)), ii 0, none] [] M4) Qt) Qt)
     else
      (if (1 : Int) = 0 then
       V 24 [rr 6, ii x1, ii x2, ii x3, ii (w32 (x4 + 1)), ii 1, none] [] M2
      else
       D 365 [.inr (.inr 6), .inl x3, .inl v1] M2 (rv_ fun M5 =>
        D 387 [.inr (.inr 6), .inl x1] M5 (rv_ fun M6 =>
         V 24 [rr 6, ii x1, ii x2, ii x3, ii (w32 (x4 + 1)), ii 1, none] [] M6) Qt) Qt))) Qt) Qt
  else
   V 13 [rr 6, ii x1, ii x2, ii (w32 (x3 + 1)), none, none, none] [] M)))) : V 24 [rr 6, ii x1, ii x2, ii x3, ii x4, ii x5, none] [] M := bx_go hD (m := (g_391_16, m_391.2)) (Cl_sf z_391_16 hV) hW [(13, [4, 5, 6]), (24, [6])] 30 h
/-- X4_state(II)I -/
theorem b_392_0 {D : ca_} {V : vv_} {Qr : qr_} {Qt : qt_} (hD : Mo_ D) (hV : Cl_ wd0 D V Qr Qt m_392) (hW : Wk_ V) (x1 : Int) (x2 : Int) (M : mm_) (h :
 (bl_ (M 6 126) → (if M 6 126 = 0 then
  Qr [.inl ((-1))] M
 else
  (if x1 < 0 then
   Qr [.inl ((-1))] M
  else
   (if x1 < M 6 163 then
    (if x2 = 0 then (0 ≤ x1 ∧ x1 < 200) ∧
      Qr [.inl (M 247 x1)] M else
    (if x2 = 1 then (0 ≤ x1 ∧ x1 < 200) ∧
      Qr [.inl (M 248 x1)] M else
    (if x2 = 2 then (0 ≤ x1 ∧ x1 < 200) ∧
      Qr [.inl (M 249 x1)] M else
    (if x2 = 3 then (0 ≤ x1 ∧ x1 < 200) ∧
      Qr [.inl (M 250 x1)] M else
    (if x2 = 4 then (0 ≤ x1 ∧ x1 < 200) ∧
      Qr [.inl (M 251 x1)] M else
    (if x2 = 5 then (0 ≤ x1 ∧ x1 < 200) ∧
      Qr [.inl (M 252 x1)] M else
    (if x2 = 6 then (0 ≤ w32 (1104 * x1) ∧ w32 (1104 * x1) < 220800) ∧
      Qr [.inl (M 245 (w32 (1104 * x1)))] M else
    Qr [.inl ((-1))] M)))))))
   else
    Qr [.inl ((-1))] M))))) : V 0 [rr 6, ii x1, ii x2] [] M := bx_go hD hV hW [] 18 h
/-- X4_first(III)I -/
theorem b_393_0 {D : ca_} {V : vv_} {Qr : qr_} {Qt : qt_} (hD : Mo_ D) (hV : Cl_ wd0 D V Qr Qt m_393) (hW : Wk_ V) (x1 : Int) (x2 : Int) (x3 : Int) (M : mm_) (h :
 (bl_ (M 6 126) → (if M 6 126 = 0 then
  Qr [.inl ((-1))] M
 else
  (if x1 < 0 then
   Qr [.inl ((-1))] M
  else
   (if x1 ≤ 4 then
    (if x1 = 4 then
     (if x2 < 0 then
      Qr [.inl ((-1))] M
     else
      (if x2 < M 6 19 then
       (if x3 < (-1) then
        Qr [.inl ((-1))] M
       else
        (0 ≤ x2 ∧ x2 < 6) ∧
         (if x3 < M 174 x2 then
         V 55 [rr 6, ii x1, ii x2, ii x3, ii 0, none] [] M
        else
         Qr [.inl ((-1))] M))
      else
       Qr [.inl ((-1))] M))
    else
     V 55 [rr 6, ii x1, ii x2, ii x3, ii 0, none] [] M)
   else
    Qr [.inl ((-1))] M))))) : V 0 [rr 6, ii x1, ii x2, ii x3, none, none] [] M := bx_go hD hV hW [(55, [5])] 29 h
theorem i_393 : inq_ 0 k_393 = true := by decide +kernel
theorem z_393_32 : Sf_ k_393 g_393_32 := Sf_of i_393 32 rfl
theorem b_393_55 {D : ca_} {V : vv_} {Qr : qr_} {Qt : qt_} (hD : Mo_ D) (hV : Cl_ wd0 D V Qr Qt m_393) (hW : Wk_ V) (x1 : Int) (x2 : Int) (x3 : Int) (x4 : Int) (M : mm_) (h :
 (if x4 < M 6 163 then
  (if x1 = 0 then
   (0 ≤ x4 ∧ x4 < 200) ∧
    (if M 250 x4 = 0 then
    (if (1 : Int) = 0 then
     V 55 [rr 6, ii x1, ii x2, ii x3, ii (w32 (x4 + 1)), none] [] M
    else
     Qr [.inl x4] M)
   else
    (if (0 : Int) = 0 then
     V 55 [rr 6, ii x1, ii x2, ii x3, ii (w32 (x4 + 1)), none] [] M
    else
     Qr [.inl x4] M))
  else
   (if x1 = 1 then
    (0 ≤ x4 ∧ x4 < 200) ∧
     (if M 250 x4 = 0 then
     D 394 [.inr (.inr 6), .inl x4] M (ri_ fun v2 M2 =>
      (if v2 = 0 then
       (if (0 : Int) = 0 then
        V 55 [rr 6, ii x1, ii x2, ii x3, ii (w32 (x4 + 1)), none] [] M2
       else
        Qr [.inl x4] M2)
      else
       (if (1 : Int) = 0 then
        V 55 [rr 6, ii x1, ii x2, ii x3, ii (w32 (x4 + 1)), none] [] M2
       else
        Qr [.inl x4] M2))) Qt
    else
     (if (0 : Int) = 0 then
      V 55 [rr 6, ii x1, ii x2, ii x3, ii (w32 (x4 + 1)), none] [] M
     else
      Qr [.inl x4] M))
   else
    (if x1 = 2 then
     (0 ≤ x4 ∧ x4 < 200) ∧
      (if M 251 x4 ≤ 0 then
      (if (0 : Int) = 0 then
       V 55 [rr 6, ii x1, ii x2, ii x3, ii (w32 (x4 + 1)), none] [] M
      else
       Qr [.inl x4] M)
     else
      (if (1 : Int) = 0 then
       V 55 [rr 6, ii x1, ii x2, ii x3, ii (w32 (x4 + 1)), none] [] M
      else
       Qr [.inl x4] M))
    else
     (if x1 = 3 then
      (0 ≤ x4 ∧ x4 < 200) ∧
       (if M 252 x4 ≤ 0 then
       (if (0 : Int) = 0 then
        V 55 [rr 6, ii x1, ii x2, ii x3, ii (w32 (x4 + 1)), none] [] M
       else
        Qr [.inl x4] M)
      else
       (if (1 : Int) = 0 then
        V 55 [rr 6, ii x1, ii x2, ii x3, ii (w32 (x4 + 1)), none] [] M
       else
        Qr [.inl x4] M))
     else
      D 395 [.inr (.inr 6), .inl x4, .inl x2, .inl x3] M (ri_ fun v1 M1 =>
       (if v1 = 0 then
        V 55 [rr 6, ii x1, ii x2, ii x3, ii (w32 (x4 + 1)), none] [] M1
       else
        Qr [.inl x4] M1)) Qt))))
 else
  Qr [.inl ((-1))] M)) : V 55 [rr 6, ii x1, ii x2, ii x3, ii x4, none] [] M := bx_go hD (m := (g_393_32, m_393.2)) (Cl_sf z_393_32 hV) hW [(55, [5])] 28 h
/-- X4_waitsAny(I)Z -/
theorem b_394_0 {D : ca_} {V : vv_} {Qr : qr_} {Qt : qt_} (hD : Mo_ D) (hV : Cl_ wd0 D V Qr Qt m_394) (hW : Wk_ V) (x1 : Int) (M : mm_) (h :
 V 4 [rr 6, ii x1, ii 0, ii 0] [] M) : V 0 [rr 6, ii x1, none, none] [] M := bx_go hD hV hW [(4, [])] 5 h
theorem b_394_4 {D : ca_} {V : vv_} {Qr : qr_} {Qt : qt_} (hD : Mo_ D) (hV : Cl_ wd0 D V Qr Qt m_394) (hW : Wk_ V) (x1 : Int) (x2 : Int) (x3 : Int) (M : mm_) (h :
 (0 ≤ w32 (1104 * x1) ∧ w32 (1104 * x1) < 220800) ∧
  (if x3 < M 245 (w32 (1104 * x1)) then
  (if x2 = 0 then
   D 323 [.inl x3] M (ri_ fun v1 M1 =>
    (0 ≤ w32 ((w32 ((w32 (1104 * x1)) + v1)) + 25) ∧ w32 ((w32 ((w32 (1104 * x1)) + v1)) + 25) < 220800) ∧
     (if M1 245 (w32 ((w32 ((w32 (1104 * x1)) + v1)) + 25)) ≤ 0 then
     V 4 [rr 6, ii x1, ii 0, ii (w32 (x3 + 1))] [] M1
    else
     V 4 [rr 6, ii x1, ii 1, ii (w32 (x3 + 1))] [] M1)) Qt
  else
   V 4 [rr 6, ii x1, ii 1, ii (w32 (x3 + 1))] [] M)
 else
  bl_ x2 ∧ Qr [.inl x2] M)) : V 4 [rr 6, ii x1, ii x2, ii x3] [] M := bx_go hD hV hW [(4, [])] 28 h
/-- X4_isIn(III)Z -/
theorem b_395_0 {D : ca_} {V : vv_} {Qr : qr_} {Qt : qt_} (hD : Mo_ D) (hV : Cl_ wd0 D V Qr Qt m_395) (hW : Wk_ V) (x1 : Int) (x2 : Int) (x3 : Int) (M : mm_) (h :
 V 6 [rr 6, ii x1, ii x2, ii x3, ii 0, ii 0] [] M) : V 0 [rr 6, ii x1, ii x2, ii x3, none, none] [] M := bx_go hD hV hW [(6, [])] 5 h
theorem b_395_6 {D : ca_} {V : vv_} {Qr : qr_} {Qt : qt_} (hD : Mo_ D) (hV : Cl_ wd0 D V Qr Qt m_395) (hW : Wk_ V) (x1 : Int) (x2 : Int) (x3 : Int) (x4 : Int) (x5 : Int) (M : mm_) (h :
 (0 ≤ w32 (1104 * x1) ∧ w32 (1104 * x1) < 220800) ∧
  (if x5 < M 245 (w32 (1104 * x1)) then
  (if x4 = 0 then
   D 323 [.inl x5] M (ri_ fun v1 M1 =>
    (0 ≤ w32 ((w32 ((w32 (1104 * x1)) + v1)) + 1) ∧ w32 ((w32 ((w32 (1104 * x1)) + v1)) + 1) < 220800) ∧
     (if M1 245 (w32 ((w32 ((w32 (1104 * x1)) + v1)) + 1)) = x2 then
     D 323 [.inl x5] M1 (ri_ fun v2 M2 =>
      (0 ≤ w32 ((w32 ((w32 (1104 * x1)) + v2)) + 2) ∧ w32 ((w32 ((w32 (1104 * x1)) + v2)) + 2) < 220800) ∧
       (if M2 245 (w32 ((w32 ((w32 (1104 * x1)) + v2)) + 2)) = x3 then
       V 6 [rr 6, ii x1, ii x2, ii x3, ii 1, ii (w32 (x5 + 1))] [] M2
      else
       V 6 [rr 6, ii x1, ii x2, ii x3, ii 0, ii (w32 (x5 + 1))] [] M2)) Qt
    else
     V 6 [rr 6, ii x1, ii x2, ii x3, ii 0, ii (w32 (x5 + 1))] [] M1)) Qt
  else
   V 6 [rr 6, ii x1, ii x2, ii x3, ii 1, ii (w32 (x5 + 1))] [] M)
 else
  bl_ x4 ∧ Qr [.inl x4] M)) : V 6 [rr 6, ii x1, ii x2, ii x3, ii x4, ii x5] [] M := bx_go hD hV hW [(6, [])] 42 h
/-- X4_visit(I)I -/
theorem b_396_0 {D : ca_} {V : vv_} {Qr : qr_} {Qt : qt_} (hD : Mo_ D) (hV : Cl_ wd0 D V Qr Qt m_396) (hW : Wk_ V) (x1 : Int) (M : mm_) (h :
 (bl_ (M 6 126) → (if M 6 126 = 0 then
  Qr [.inl ((-1))] M
 else
  (if x1 < 0 then
   Qr [.inl 0] M
  else
   (if x1 < M 6 163 then
    D 386 [.inr (.inr 6), .inl x1] M (rv_ fun M1 =>
     V 30 [rr 6, ii x1, ii 0, none] [] M1) Qt
   else
    Qr [.inl 0] M))))) : V 0 [rr 6, ii x1, none, none] [] M := bx_go hD hV hW [(30, [3]), (40, []), (89, [3]), (101, [])] 15 h
theorem i_396 : inq_ 0 k_396 = true := by decide +kernel
theorem z_396_18 : Sf_ k_396 g_396_18 := Sf_of i_396 18 rfl
theorem b_396_30 {D : ca_} {V : vv_} {Qr : qr_} {Qt : qt_} (hD : Mo_ D) (hV : Cl_ wd0 D V Qr Qt m_396) (hW : Wk_ V) (x1 : Int) (x2 : Int) (M : mm_) (h :
 (if x2 < M 6 18 then
  V 40 [rr 6, ii x1, ii x2, ii 0] [] M
 else
  V 89 [rr 6, ii x1, ii 0, none] [] M)) : V 30 [rr 6, ii x1, ii x2, none] [] M := bx_go hD (m := (g_396_18, m_396.2)) (Cl_sf z_396_18 hV) hW [(30, [3]), (40, []), (89, [3]), (101, [])] 7 h
theorem z_396_24 : Sf_ k_396 g_396_24 := Sf_tr z_396_18 6 rfl
theorem b_396_40 {D : ca_} {V : vv_} {Qr : qr_} {Qt : qt_} (hD : Mo_ D) (hV : Cl_ wd0 D V Qr Qt m_396) (hW : Wk_ V) (x1 : Int) (x2 : Int) (x3 : Int) (M : mm_) (h :
 D 327 [.inl x2] M (ri_ fun v1 M1 =>
  (0 ≤ v1 ∧ v1 < 1104) ∧
   (if x3 < M1 239 v1 then
   D 327 [.inl x2] M1 (ri_ fun v2 M2 =>
    (0 ≤ w32 ((w32 ((w32 (v2 + 1)) + (w32 (7 * x3)))) + 3) ∧ w32 ((w32 ((w32 (v2 + 1)) + (w32 (7 * x3)))) + 3) < 1104) ∧
     V 40 [rr 6, ii x1, ii x2, ii (w32 (x3 + 1))] [] (up_ M2 239 (w32 ((w32 ((w32 (v2 + 1)) + (w32 (7 * x3)))) + 3)) (M2 6 128))) Qt
  else
   V 30 [rr 6, ii x1, ii (w32 (x2 + 1)), none] [] M1)) Qt) : V 40 [rr 6, ii x1, ii x2, ii x3] [] M := bx_go hD (m := (g_396_24, m_396.2)) (Cl_sf z_396_24 hV) hW [(30, [3]), (40, []), (89, [3]), (101, [])] 25 h
theorem z_396_52 : Sf_ k_396 g_396_52 := Sf_tr z_396_24 28 rfl
theorem b_396_89 {D : ca_} {V : vv_} {Qr : qr_} {Qt : qt_} (hD : Mo_ D) (hV : Cl_ wd0 D V Qr Qt m_396) (hW : Wk_ V) (x1 : Int) (x2 : Int) (M : mm_) (h :
 (0 ≤ (0 : Int) ∧ (0 : Int) < 1104) ∧
  (if x2 < M 239 0 then
  V 101 [rr 6, ii x1, ii x2, ii 0] [] M
 else
  Qr [.inl 1] (up_ M 6 130 0))) : V 89 [rr 6, ii x1, ii x2, none] [] M := bx_go hD (m := (g_396_52, m_396.2)) (Cl_sf z_396_52 hV) hW [(30, [3]), (40, []), (89, [3]), (101, [])] 11 h
theorem z_396_60 : Sf_ k_396 g_396_60 := Sf_tr z_396_52 8 rfl
theorem b_396_101 {D : ca_} {V : vv_} {Qr : qr_} {Qt : qt_} (hD : Mo_ D) (hV : Cl_ wd0 D V Qr Qt m_396) (hW : Wk_ V) (x1 : Int) (x2 : Int) (x3 : Int) (M : mm_) (h :
 (if x3 < 3 then
  D 323 [.inl x2] M (ri_ fun v1 M1 =>
   (0 ≤ w32 ((w32 (v1 + 22)) + x3) ∧ w32 ((w32 (v1 + 22)) + x3) < 1104) ∧
    (if M1 239 (w32 ((w32 (v1 + 22)) + x3)) < 0 then
    V 101 [rr 6, ii x1, ii x2, ii (w32 (x3 + 1))] [] M1
   else
    D 323 [.inl x2] M1 (ri_ fun v2 M2 =>
     (0 ≤ w32 ((w32 (v2 + 22)) + x3) ∧ w32 ((w32 (v2 + 22)) + x3) < 1104) ∧
      V 101 [rr 6, ii x1, ii x2, ii (w32 (x3 + 1))] [] (up_ M2 239 (w32 ((w32 (v2 + 22)) + x3)) (M2 6 128))) Qt)) Qt
 else
  V 89 [rr 6, ii x1, ii (w32 (x2 + 1)), none] [] M)) : V 101 [rr 6, ii x1, ii x2, ii x3] [] M := bx_go hD (m := (g_396_60, m_396.2)) (Cl_sf z_396_60 hV) hW [(30, [3]), (40, []), (89, [3]), (101, [])] 27 h
/-- X4_chart(I)I -/
theorem b_397_0 {D : ca_} {V : vv_} {Qr : qr_} {Qt : qt_} (hD : Mo_ D) (hV : Cl_ wd0 D V Qr Qt m_397) (hW : Wk_ V) (x1 : Int) (M : mm_) (h :
 (if x1 < 0 then
  Qr [.inl ((-2))] M
 else
  (if x1 ≤ M 6 3 then
   D 217 [.inr (.inr 6), .inl x1] M (rv_ fun M1 =>
    (bl_ (M1 6 126) → (if M1 6 126 = 0 then
     Qr [.inl ((-1))] M1
    else
     bl_ 0 ∧ D 219 [.inr (.inr 6)] (up_ (up_ M1 6 13 0) 6 16 0) (rv_ fun M2 =>
      D 398 [.inr (.inr 6)] M2 (rv_ fun M3 =>
       (if M3 6 13 = 0 then
        bl_ 1 ∧ D 398 [.inr (.inr 6)] (up_ M3 6 16 1) (rv_ fun M4 =>
         bl_ 0 ∧ V 68 [rr 6, ii x1] [] (up_ M4 6 16 0)) Qt
       else
        V 68 [rr 6, ii x1] [] M3)) Qt) Qt))) Qt
  else
   Qr [.inl ((-2))] M))) : V 0 [rr 6, ii x1] [] M := bx_go hD hV hW [(68, [])] 34 h
theorem i_397 : inq_ 0 k_397 = true := by decide +kernel
theorem z_397_37 : Sf_ k_397 g_397_37 := Sf_of i_397 37 rfl
theorem b_397_68 {D : ca_} {V : vv_} {Qr : qr_} {Qt : qt_} (hD : Mo_ D) (hV : Cl_ wd0 D V Qr Qt m_397) (hW : Wk_ V) (x1 : Int) (M : mm_) (h :
 (if M 6 13 ≤ 0 then
  D 405 [.inr (.inr 6)] M (rv_ fun M1 =>
   (if M1 6 188 ≤ 0 then
    Qr [.inl 0] M1
   else
    Qr [.inl 1] M1)) Qt
 else
  Qr [.inl (w32 (((-10)) - (M 6 13)))] (up_ M 6 119 (M 6 14)))) : V 68 [rr 6, ii x1] [] M := bx_go hD (m := (g_397_37, m_397.2)) (Cl_sf z_397_37 hV) hW [(68, [])] 12 h
/-- X4_chartText()V -/
theorem b_398_0 {D : ca_} {V : vv_} {Qr : qr_} {Qt : qt_} (hD : Mo_ D) (hV : Cl_ wd0 D V Qr Qt m_398) (hW : Wk_ V)  (M : mm_) (h :
 D 250 [.inr (.inr 6), .inl 44] (up_ (up_ (up_ (up_ (up_ (up_ M 6 12 0) 6 15 0) 6 170 0) 6 171 0) 6 172 0) 6 186 0) (rv_ fun M1 =>
  D 244 [.inr (.inr 6), .inl 59] M1 (rv_ fun M2 =>
   V 42 [rr 6] [] M2) Qt) Qt) : V 0 [rr 6] [] M := bx_go hD hV hW [(42, []), (173, []), (222, [])] 25 h
theorem i_398 : inq_ 0 k_398 = true := by decide +kernel
theorem z_398_24 : Sf_ k_398 g_398_24 := Sf_of i_398 24 rfl
theorem b_398_42 {D : ca_} {V : vv_} {Qr : qr_} {Qt : qt_} (hD : Mo_ D) (hV : Cl_ wd0 D V Qr Qt m_398) (hW : Wk_ V)  (M : mm_) (h :
 D 227 [.inr (.inr 6)] M (ri_ fun v1 M1 =>
  (if v1 = 0 then
   (0 ≤ M1 6 12 ∧ M1 6 12 < 1202) ∧
    (if M1 149 (M1 6 12) = 0 then
    D 227 [.inr (.inr 6)] M1 (ri_ fun v3 M4 =>
     (if v3 = 0 then
      (if M4 6 186 ≤ 0 then
       Qr [] M4
      else
       D 234 [.inr (.inr 6)] M4 (rv_ fun M5 =>
        Qr [] M5) Qt)
     else
      Qr [] M4)) Qt
   else
    D 228 [.inr (.inr 6), .inl 45] M1 (ri_ fun v4 M6 =>
     (if v4 = 0 then
      (0 ≤ M6 6 12 ∧ M6 6 12 < 1202) ∧
       (if M6 149 (M6 6 12) = 1 then
       D 401 [.inr (.inr 6)] M6 (rv_ fun M7 =>
        V 42 [rr 6] [] M7) Qt
      else
       D 229 [.inr (.inr 6), .inl 25] M6 (ri_ fun v5 M8 =>
        (if v5 = 0 then
         D 229 [.inr (.inr 6), .inl 46] M8 (ri_ fun v6 M9 =>
          (if v6 = 0 then
           D 229 [.inr (.inr 6), .inl 47] M9 (ri_ fun v7 M11 =>
            (if v7 = 0 then
             (if M11 6 186 ≤ 0 then
              V 173 [rr 6] [] M11
             else
              D 229 [.inr (.inr 6), .inl 43] M11 (ri_ fun v8 M12 =>
               (if v8 = 0 then
                V 173 [rr 6] [] M12
               else
                (0 ≤ w32 ((M12 6 186) - 1) ∧ w32 ((M12 6 186) - 1) < 3) ∧
                 (0 ≤ M12 263 (w32 ((M12 6 186) - 1)) ∧ M12 263 (w32 ((M12 6 186) - 1)) < 6) ∧ (bl_ (M12 266 (M12 263 (w32 ((M12 6 186) - 1)))) →
                 (if M12 266 (M12 263 (w32 ((M12 6 186) - 1))) = 0 then
                 D 404 [.inr (.inr 6)] M12 (rv_ fun M13 =>
                  V 42 [rr 6] [] M13) Qt
                else
                 V 173 [rr 6] [] M12)))) Qt)
            else
             D 403 [.inr (.inr 6)] M11 (rv_ fun M14 =>
              V 42 [rr 6] [] M14) Qt)) Qt
          else
           D 403 [.inr (.inr 6)] M9 (rv_ fun M10 =>
            V 42 [rr 6] [] M10) Qt)) Qt
        else
         D 401 [.inr (.inr 6)] M8 (rv_ fun M15 =>
          V 42 [rr 6] [] M15) Qt)) Qt)
     else
      D 399 [.inr (.inr 6)] M6 (rv_ fun M16 =>
       V 42 [rr 6] [] M16) Qt)) Qt)
  else
   D 227 [.inr (.inr 6)] M1 (ri_ fun v2 M2 =>
    (if v2 = 0 then
     (if M2 6 186 ≤ 0 then
      Qr [] M2
     else
      D 234 [.inr (.inr 6)] M2 (rv_ fun M3 =>
       Qr [] M3) Qt)
    else
     Qr [] M2)) Qt)) Qt) : V 42 [rr 6] [] M := bx_go hD (m := (g_398_24, m_398.2)) (Cl_sf z_398_24 hV) hW [(42, []), (173, []), (222, [])] 54 h
theorem z_398_86 : Sf_ k_398 g_398_86 := Sf_tr z_398_24 62 rfl
theorem b_398_173 {D : ca_} {V : vv_} {Qr : qr_} {Qt : qt_} (hD : Mo_ D) (hV : Cl_ wd0 D V Qr Qt m_398) (hW : Wk_ V)  (M : mm_) (h :
 (if M 6 186 ≤ 0 then
  D 234 [.inr (.inr 6)] M (rv_ fun M1 =>
   V 42 [rr 6] [] M1) Qt
 else
  D 229 [.inr (.inr 6), .inl 20] M (ri_ fun v1 M2 =>
   (if v1 = 0 then
    D 234 [.inr (.inr 6)] M2 (rv_ fun M3 =>
     V 42 [rr 6] [] M3) Qt
   else
    (0 ≤ w32 ((M2 6 186) - 1) ∧ w32 ((M2 6 186) - 1) < 3) ∧
     (0 ≤ M2 263 (w32 ((M2 6 186) - 1)) ∧ M2 263 (w32 ((M2 6 186) - 1)) < 6) ∧ (bl_ (M2 266 (M2 263 (w32 ((M2 6 186) - 1)))) →
     (if M2 266 (M2 263 (w32 ((M2 6 186) - 1))) = 0 then
     (0 ≤ w32 ((M2 6 186) - 1) ∧ w32 ((M2 6 186) - 1) < 3) ∧
      (if M2 264 (w32 ((M2 6 186) - 1)) ≤ 0 then
      D 234 [.inr (.inr 6)] M2 (rv_ fun M4 =>
       V 42 [rr 6] [] M4) Qt
     else
      V 222 [rr 6] [] M2)
    else
     V 222 [rr 6] [] M2)))) Qt)) : V 173 [rr 6] [] M := bx_go hD (m := (g_398_86, m_398.2)) (Cl_sf z_398_86 hV) hW [(42, []), (173, []), (222, [])] 30 h
theorem z_398_112 : Sf_ k_398 g_398_112 := Sf_tr z_398_86 26 rfl
theorem b_398_222 {D : ca_} {V : vv_} {Qr : qr_} {Qt : qt_} (hD : Mo_ D) (hV : Cl_ wd0 D V Qr Qt m_398) (hW : Wk_ V)  (M : mm_) (h :
 D 230 [.inr (.inr 6)] M (rv_ fun M1 =>
  D 244 [.inr (.inr 6), .inl 59] M1 (rv_ fun M2 =>
   D 227 [.inr (.inr 6)] M2 (ri_ fun v1 M3 =>
    (if v1 = 0 then
     V 42 [rr 6] [] (up_ M3 6 186 (w32 ((M3 6 186) - 1)))
    else
     V 42 [rr 6] [] M3)) Qt) Qt) Qt) : V 222 [rr 6] [] M := bx_go hD (m := (g_398_112, m_398.2)) (Cl_sf z_398_112 hV) hW [(42, []), (173, []), (222, [])] 16 h
/-- X4_inst()V -/
theorem b_399_0 {D : ca_} {V : vv_} {Qr : qr_} {Qt : qt_} (hD : Mo_ D) (hV : Cl_ wd0 D V Qr Qt m_399) (hW : Wk_ V)  (M : mm_) (h :
 D 233 [.inr (.inr 6)] M (ri_ fun v1 M1 =>
  D 227 [.inr (.inr 6)] M1 (ri_ fun v2 M2 =>
   (if v2 = 0 then
    (if M2 6 170 = 8 then
     (0 ≤ v1 ∧ v1 < 1202) ∧
      D 231 [.inr (.inr 6), .inl 2, .inl (M2 150 v1)] M2 (rv_ fun M5 =>
      Qr [] M5) Qt
    else
     (0 ≤ v1 ∧ v1 < 1202) ∧
      D 400 [.inr (.inr 6), .inr (.inl (M2 151 v1))] M2 (ri_ fun v3 M3 =>
      (if v3 < 0 then
       V 58 [rr 6, ii v1, none] [] M3
      else
       (0 ≤ v1 ∧ v1 < 1202) ∧
        D 236 [.inr (.inr 6), .inl 3, .inl (M3 150 v1)] M3 (rv_ fun M4 =>
        V 58 [rr 6, ii v1, none] [] M4) Qt)) Qt)
   else
    Qr [] M2)) Qt) Qt) : V 0 [rr 6, none, none] [] M := bx_go hD hV hW [(58, [2])] 25 h
theorem i_399 : inq_ 0 k_399 = true := by decide +kernel
theorem z_399_33 : Sf_ k_399 g_399_33 := Sf_of i_399 33 rfl
theorem b_399_58 {D : ca_} {V : vv_} {Qr : qr_} {Qt : qt_} (hD : Mo_ D) (hV : Cl_ wd0 D V Qr Qt m_399) (hW : Wk_ V) (x1 : Int) (M : mm_) (h :
 D 244 [.inr (.inr 6), .inl 61] M (rv_ fun M1 =>
  D 249 [.inr (.inr 6)] M1 (ri_ fun v1 M2 =>
   D 244 [.inr (.inr 6), .inl 59] M2 (rv_ fun M3 =>
    D 227 [.inr (.inr 6)] M3 (ri_ fun v2 M4 =>
     (if v2 = 0 then
      (0 ≤ x1 ∧ x1 < 1202) ∧
       (0 ≤ M4 6 170 ∧ M4 6 170 < 8) ∧
       (0 ≤ M4 6 170 ∧ M4 6 170 < 8) ∧
       Qr [] (up_ (up_ (up_ M4 254 (M4 6 170) (M4 151 x1)) 255 (M4 6 170) v1) 6 170 (w32 ((M4 6 170) + 1)))
     else
      Qr [] M4)) Qt) Qt) Qt) Qt) : V 58 [rr 6, ii x1, none] [] M := bx_go hD (m := (g_399_33, m_399.2)) (Cl_sf z_399_33 hV) hW [(58, [2])] 34 h
/-- X4_instOf(J)I -/
theorem b_400_0 {D : ca_} {V : vv_} {Qr : qr_} {Qt : qt_} (hD : Mo_ D) (hV : Cl_ wd0 D V Qr Qt m_400) (hW : Wk_ V) (x1 : Int) (M : mm_) (h :
 V 2 [rr 6, jj x1, none, ii 0] [] M) : V 0 [rr 6, jj x1, none, none] [] M := bx_go hD hV hW [(2, [2])] 3 h
theorem b_400_2 {D : ca_} {V : vv_} {Qr : qr_} {Qt : qt_} (hD : Mo_ D) (hV : Cl_ wd0 D V Qr Qt m_400) (hW : Wk_ V) (x1 : Int) (x3 : Int) (M : mm_) (h :
 (if x3 < M 6 170 then
  (0 ≤ x3 ∧ x3 < 8) ∧
   (if (if M 254 x3 < x1 then -1 else if M 254 x3 = x1 then 0 else 1) = 0 then
   Qr [.inl x3] M
  else
   V 2 [rr 6, jj x1, none, ii (w32 (x3 + 1))] [] M)
 else
  Qr [.inl ((-1))] M)) : V 2 [rr 6, jj x1, none, ii x3] [] M := bx_go hD hV hW [(2, [2])] 14 h
/-- X4_line()V -/
theorem b_401_0 {D : ca_} {V : vv_} {Qr : qr_} {Qt : qt_} (hD : Mo_ D) (hV : Cl_ wd0 D V Qr Qt m_401) (hW : Wk_ V)  (M : mm_) (h :
 (0 ≤ M 6 12 ∧ M 6 12 < 1202) ∧
  (if M 6 171 = 40 then
  D 231 [.inr (.inr 6), .inl 2, .inl (M 150 (M 6 12))] M (rv_ fun M9 =>
   Qr [] M9) Qt
 else
  D 402 [.inr (.inr 6)] M (ri_ fun v1 M1 =>
   D 244 [.inr (.inr 6), .inl 260] M1 (rv_ fun M2 =>
    D 402 [.inr (.inr 6)] M2 (ri_ fun v2 M3 =>
     D 244 [.inr (.inr 6), .inl 58] M3 (rv_ fun M4 =>
      D 233 [.inr (.inr 6)] M4 (ri_ fun v3 M5 =>
       D 227 [.inr (.inr 6)] M5 (ri_ fun v4 M6 =>
        (if v4 = 0 then
         (0 ≤ v3 ∧ v3 < 1202) ∧
          D 251 [.inr (.inr 6), .inr (.inl (M6 151 v3))] M6 (ri_ fun v5 M7 =>
          (if v5 < 0 then
           (0 ≤ v3 ∧ v3 < 1202) ∧
            D 236 [.inr (.inr 6), .inl 4, .inl (M7 150 v3)] M7 (rv_ fun M8 =>
            V 93 [rr 6, ii (M 150 (M 6 12)), ii v1, ii v2, ii v3, ii v5, none] [] M8) Qt
          else
           V 93 [rr 6, ii (M 150 (M 6 12)), ii v1, ii v2, ii v3, ii v5, none] [] M7)) Qt
        else
         Qr [] M6)) Qt) Qt) Qt) Qt) Qt) Qt)) : V 0 [rr 6, none, none, none, none, none, none] [] M := bx_go hD hV hW [(93, [6]), (154, [])] 45 h
theorem i_401 : inq_ 0 k_401 = true := by decide +kernel
theorem z_401_50 : Sf_ k_401 g_401_50 := Sf_of i_401 50 rfl
theorem b_401_93 {D : ca_} {V : vv_} {Qr : qr_} {Qt : qt_} (hD : Mo_ D) (hV : Cl_ wd0 D V Qr Qt m_401) (hW : Wk_ V) (x1 : Int) (x2 : Int) (x3 : Int) (x4 : Int) (x5 : Int) (M : mm_) (h :
 D 244 [.inr (.inr 6), .inl 59] M (rv_ fun M1 =>
  D 227 [.inr (.inr 6)] M1 (ri_ fun v1 M2 =>
   (if v1 = 0 then
    (0 ≤ M2 6 171 ∧ M2 6 171 < 40) ∧
     (0 ≤ M2 6 171 ∧ M2 6 171 < 40) ∧
     (0 ≤ M2 6 171 ∧ M2 6 171 < 40) ∧
     (0 ≤ M2 6 171 ∧ M2 6 171 < 40) ∧
     V 154 [rr 6, ii x1, ii x2, ii x3, ii x4, ii x5, ii 0] [] (up_ (up_ (up_ (up_ M2 256 (M2 6 171) x2) 257 (M2 6 171) x3) 258 (M2 6 171) x5) 259 (M2 6 171) (M2 6 186))
   else
    Qr [] M2)) Qt) Qt) : V 93 [rr 6, ii x1, ii x2, ii x3, ii x4, ii x5, none] [] M := bx_go hD (m := (g_401_50, m_401.2)) (Cl_sf z_401_50 hV) hW [(93, [6]), (154, [])] 34 h
theorem z_401_84 : Sf_ k_401 g_401_84 := Sf_tr z_401_50 34 rfl
theorem b_401_154 {D : ca_} {V : vv_} {Qr : qr_} {Qt : qt_} (hD : Mo_ D) (hV : Cl_ wd0 D V Qr Qt m_401) (hW : Wk_ V) (x1 : Int) (x2 : Int) (x3 : Int) (x4 : Int) (x5 : Int) (x6 : Int) (M : mm_) (h :
 (if x6 < M 6 186 then
  (0 ≤ x6 ∧ x6 < 3) ∧
   (0 ≤ w32 ((w32 (3 * (M 6 171))) + x6) ∧ w32 ((w32 (3 * (M 6 171))) + x6) < 120) ∧
   (0 ≤ x6 ∧ x6 < 3) ∧
   (0 ≤ w32 ((w32 (3 * (M 6 171))) + x6) ∧ w32 ((w32 (3 * (M 6 171))) + x6) < 120) ∧
   V 154 [rr 6, ii x1, ii x2, ii x3, ii x4, ii x5, ii (w32 (x6 + 1))] [] (up_ (up_ M 260 (w32 ((w32 (3 * (M 6 171))) + x6)) (M 263 x6)) 261 (w32 ((w32 (3 * (M 6 171))) + x6)) (M 264 x6))
 else
  Qr [] (up_ M 6 171 (w32 ((M 6 171) + 1))))) : V 154 [rr 6, ii x1, ii x2, ii x3, ii x4, ii x5, ii x6] [] M := bx_go hD (m := (g_401_84, m_401.2)) (Cl_sf z_401_84 hV) hW [(93, [6]), (154, [])] 33 h
/-- X4_party()I -/
theorem b_402_0 {D : ca_} {V : vv_} {Qr : qr_} {Qt : qt_} (hD : Mo_ D) (hV : Cl_ wd0 D V Qr Qt m_402) (hW : Wk_ V)  (M : mm_) (h :
 D 228 [.inr (.inr 6), .inl 25] M (ri_ fun v1 M1 =>
  (if v1 = 0 then
   D 233 [.inr (.inr 6)] M1 (ri_ fun v2 M2 =>
    D 227 [.inr (.inr 6)] M2 (ri_ fun v3 M3 =>
     (if v3 = 0 then
      (0 ≤ v2 ∧ v2 < 1202) ∧
       D 400 [.inr (.inr 6), .inr (.inl (M3 151 v2))] M3 (ri_ fun v4 M4 =>
       (if v4 < 0 then
        (0 ≤ v2 ∧ v2 < 1202) ∧
         D 236 [.inr (.inr 6), .inl 4, .inl (M4 150 v2)] M4 (rv_ fun M5 =>
         Qr [.inl v4] M5) Qt
       else
        Qr [.inl v4] M4)) Qt
     else
      Qr [.inl ((-1))] M3)) Qt) Qt
  else
   Qr [.inl ((-1))] M1)) Qt) : V 0 [rr 6, none, none] [] M := bx_go hD hV hW [] 28 h
/-- X4_block()V -/
theorem b_403_0 {D : ca_} {V : vv_} {Qr : qr_} {Qt : qt_} (hD : Mo_ D) (hV : Cl_ wd0 D V Qr Qt m_403) (hW : Wk_ V)  (M : mm_) (h :
 (if M 6 172 = 6 then
  (0 ≤ M 6 12 ∧ M 6 12 < 1202) ∧
   D 231 [.inr (.inr 6), .inl 2, .inl (M 150 (M 6 12))] M (rv_ fun M1 =>
   Qr [] M1) Qt
 else
  (if M 6 186 = 3 then
   (0 ≤ M 6 12 ∧ M 6 12 < 1202) ∧
    D 231 [.inr (.inr 6), .inl 2, .inl (M 150 (M 6 12))] M (rv_ fun M3 =>
    Qr [] M3) Qt
  else
   D 229 [.inr (.inr 6), .inl 47] M (ri_ fun v1 M2 =>
    ((0 ≤ M 6 172 ∧ M 6 172 < 6) ∧ bl_ v1) ∧
     (0 ≤ M2 6 172 ∧ M2 6 172 < 6) ∧ (bl_ ((up_ M2 266 (M 6 172) v1) 266 (M2 6 172)) →
     (if (up_ M2 266 (M 6 172) v1) 266 (M2 6 172) = 0 then
     (0 ≤ M2 6 172 ∧ M2 6 172 < 6) ∧
      V 73 [rr 6] [] (up_ (up_ M2 266 (M 6 172) v1) 262 (M2 6 172) 1)
    else
     (0 ≤ M2 6 172 ∧ M2 6 172 < 6) ∧
      V 73 [rr 6] [] (up_ (up_ M2 266 (M 6 172) v1) 262 (M2 6 172) 2)))) Qt))) : V 0 [rr 6] [] M := bx_go hD hV hW [(73, [])] 30 h
theorem i_403 : inq_ 0 k_403 = true := by decide +kernel
theorem z_403_39 : Sf_ k_403 g_403_39 := Sf_of i_403 39 rfl
theorem b_403_73 {D : ca_} {V : vv_} {Qr : qr_} {Qt : qt_} (hD : Mo_ D) (hV : Cl_ wd0 D V Qr Qt m_403) (hW : Wk_ V)  (M : mm_) (h :
 (0 ≤ M 6 186 ∧ M 6 186 < 3) ∧
  (0 ≤ M 6 186 ∧ M 6 186 < 3) ∧
  D 230 [.inr (.inr 6)] (up_ (up_ M 263 (M 6 186) (M 6 172)) 264 (M 6 186) 0) (rv_ fun M1 =>
  D 227 [.inr (.inr 6)] M1 (ri_ fun v1 M2 =>
   (if v1 = 0 then
    Qr [] (up_ (up_ M2 6 172 (w32 ((M2 6 172) + 1))) 6 186 (w32 ((M2 6 186) + 1)))
   else
    Qr [] M2)) Qt) Qt) : V 73 [rr 6] [] M := bx_go hD (m := (g_403_39, m_403.2)) (Cl_sf z_403_39 hV) hW [(73, [])] 31 h
/-- X4_orRow()V -/
theorem b_404_0 {D : ca_} {V : vv_} {Qr : qr_} {Qt : qt_} (hD : Mo_ D) (hV : Cl_ wd0 D V Qr Qt m_404) (hW : Wk_ V)  (M : mm_) (h :
 (0 ≤ w32 ((M 6 186) - 1) ∧ w32 ((M 6 186) - 1) < 3) ∧
  (0 ≤ M 263 (w32 ((M 6 186) - 1)) ∧ M 263 (w32 ((M 6 186) - 1)) < 6) ∧
  (if M 262 (M 263 (w32 ((M 6 186) - 1))) = 4 then
  (0 ≤ M 6 12 ∧ M 6 12 < 1202) ∧
   D 231 [.inr (.inr 6), .inl 2, .inl (M 150 (M 6 12))] M (rv_ fun M3 =>
   Qr [] M3) Qt
 else
  D 230 [.inr (.inr 6)] M (rv_ fun M1 =>
   D 227 [.inr (.inr 6)] M1 (ri_ fun v1 M2 =>
    (if v1 = 0 then
     (0 ≤ M 263 (w32 ((M 6 186) - 1)) ∧ M 263 (w32 ((M 6 186) - 1)) < 6) ∧
      (0 ≤ M 263 (w32 ((M 6 186) - 1)) ∧ M 263 (w32 ((M 6 186) - 1)) < 6) ∧
      (0 ≤ w32 ((M2 6 186) - 1) ∧ w32 ((M2 6 186) - 1) < 3) ∧
      (0 ≤ w32 ((M2 6 186) - 1) ∧ w32 ((M2 6 186) - 1) < 3) ∧
      Qr [] (up_ (up_ M2 262 (M 263 (w32 ((M 6 186) - 1))) (w32 ((M2 262 (M 263 (w32 ((M 6 186) - 1)))) + 1))) 264 (w32 ((M2 6 186) - 1)) (w32 ((M2 264 (w32 ((M2 6 186) - 1))) + 1)))
    else
     Qr [] M2)) Qt) Qt)) : V 0 [rr 6, none] [] M := bx_go hD hV hW [] 39 h
/-- X4_judge()V -/
theorem b_405_0 {D : ca_} {V : vv_} {Qr : qr_} {Qt : qt_} (hD : Mo_ D) (hV : Cl_ wd0 D V Qr Qt m_405) (hW : Wk_ V)  (M : mm_) (h :
 V 15 [rr 6, ii 0, none] [] (up_ (up_ M 6 187 (M 6 171)) 6 188 0)) : V 0 [rr 6, none, none] [] M := bx_go hD hV hW [(15, [2]), (40, [])] 10 h
theorem i_405 : inq_ 0 k_405 = true := by decide +kernel
theorem z_405_9 : Sf_ k_405 g_405_9 := Sf_of i_405 9 rfl
theorem b_405_15 {D : ca_} {V : vv_} {Qr : qr_} {Qt : qt_} (hD : Mo_ D) (hV : Cl_ wd0 D V Qr Qt m_405) (hW : Wk_ V) (x1 : Int) (M : mm_) (h :
 (if x1 < M 6 172 then
  (0 ≤ x1 ∧ x1 < 6) ∧
   V 15 [rr 6, ii (w32 (x1 + 1)), none] [] (up_ M 265 x1 0)
 else
  V 40 [rr 6, ii 0, ii 1] [] M)) : V 15 [rr 6, ii x1, none] [] M := bx_go hD (m := (g_405_9, m_405.2)) (Cl_sf z_405_9 hV) hW [(15, [2]), (40, [])] 12 h
theorem z_405_24 : Sf_ k_405 g_405_24 := Sf_tr z_405_9 15 rfl
theorem b_405_40 {D : ca_} {V : vv_} {Qr : qr_} {Qt : qt_} (hD : Mo_ D) (hV : Cl_ wd0 D V Qr Qt m_405) (hW : Wk_ V) (x1 : Int) (x2 : Int) (M : mm_) (h :
 (if x2 = 0 then
  Qr [] M
 else
  (if x1 < 1000 then
   D 406 [.inr (.inr 6)] M (ri_ fun v1 M1 =>
    (if v1 = 0 then
     D 412 [.inr (.inr 6)] (up_ M1 6 188 (w32 ((M 6 188) + 0))) (ri_ fun v2 M2 =>
      V 40 [rr 6, ii (w32 (x1 + 1)), ii v2] [] M2) Qt
    else
     D 412 [.inr (.inr 6)] (up_ M1 6 188 (w32 ((M 6 188) + 1))) (ri_ fun v3 M3 =>
      V 40 [rr 6, ii (w32 (x1 + 1)), ii v3] [] M3) Qt)) Qt
  else
   Qr [] M))) : V 40 [rr 6, ii x1, ii x2] [] M := bx_go hD (m := (g_405_24, m_405.2)) (Cl_sf z_405_24 hV) hW [(15, [2]), (40, [])] 21 h
/-- X4_allKeep()Z -/
theorem b_406_0 {D : ca_} {V : vv_} {Qr : qr_} {Qt : qt_} (hD : Mo_ D) (hV : Cl_ wd0 D V Qr Qt m_406) (hW : Wk_ V)  (M : mm_) (h :
 V 4 [rr 6, ii 1, ii 0] [] M) : V 0 [rr 6, none, none] [] M := bx_go hD hV hW [(4, [])] 5 h
theorem b_406_4 {D : ca_} {V : vv_} {Qr : qr_} {Qt : qt_} (hD : Mo_ D) (hV : Cl_ wd0 D V Qr Qt m_406) (hW : Wk_ V) (x1 : Int) (x2 : Int) (M : mm_) (h :
 (if x2 < M 6 170 then
  (if x1 = 0 then
   bl_ x1 ∧ Qr [.inl x1] M
  else
   D 407 [.inr (.inr 6), .inl x2] M (ri_ fun v1 M1 =>
    V 4 [rr 6, ii v1, ii (w32 (x2 + 1))] [] M1) Qt)
 else
  bl_ x1 ∧ Qr [.inl x1] M)) : V 4 [rr 6, ii x1, ii x2] [] M := bx_go hD hV hW [(4, [])] 13 h
/-- X4_keeps(I)Z -/
theorem b_407_0 {D : ca_} {V : vv_} {Qr : qr_} {Qt : qt_} (hD : Mo_ D) (hV : Cl_ wd0 D V Qr Qt m_407) (hW : Wk_ V) (x1 : Int) (M : mm_) (h :
 V 9 [rr 6, ii x1, ii 1, ii 0] [] (up_ M 6 189 0)) : V 0 [rr 6, ii x1, none, none] [] M := bx_go hD hV hW [(9, []), (61, [])] 8 h
theorem i_407 : inq_ 0 k_407 = true := by decide +kernel
theorem z_407_7 : Sf_ k_407 g_407_7 := Sf_of i_407 7 rfl
theorem b_407_9 {D : ca_} {V : vv_} {Qr : qr_} {Qt : qt_} (hD : Mo_ D) (hV : Cl_ wd0 D V Qr Qt m_407) (hW : Wk_ V) (x1 : Int) (x2 : Int) (x3 : Int) (M : mm_) (h :
 (if x3 < M 6 171 then
  (if x2 = 0 then
   (if x2 = 0 then
    bl_ 0 ∧ Qr [.inl 0] M
   else
    D 410 [.inr (.inr 6), .inl x1, .inl (M 6 189)] M (ri_ fun v2 M2 =>
     (if v2 < 0 then
      bl_ 1 ∧ Qr [.inl 1] M2
     else
      bl_ 0 ∧ Qr [.inl 0] M2)) Qt)
  else
   D 408 [.inr (.inr 6), .inl x3] M (ri_ fun v3 M3 =>
    (if v3 = 0 then
     V 9 [rr 6, ii x1, ii x2, ii (w32 (x3 + 1))] [] M3
    else
     (0 ≤ x3 ∧ x3 < 40) ∧
      (if M3 256 x3 = x1 then
      (0 ≤ x3 ∧ x3 < 40) ∧
       (0 ≤ x3 ∧ x3 < 40) ∧
       D 409 [.inr (.inr 6), .inl x1, .inl 1, .inl (M3 258 x3), .inl (M3 257 x3)] M3 (ri_ fun v4 M4 =>
       V 61 [rr 6, ii x1, ii v4, ii x3] [] M4) Qt
     else
      V 61 [rr 6, ii x1, ii x2, ii x3] [] M3))) Qt)
 else
  (if x2 = 0 then
   bl_ 0 ∧ Qr [.inl 0] M
  else
   D 410 [.inr (.inr 6), .inl x1, .inl (M 6 189)] M (ri_ fun v1 M1 =>
    (if v1 < 0 then
     bl_ 1 ∧ Qr [.inl 1] M1
    else
     bl_ 0 ∧ Qr [.inl 0] M1)) Qt))) : V 9 [rr 6, ii x1, ii x2, ii x3] [] M := bx_go hD (m := (g_407_7, m_407.2)) (Cl_sf z_407_7 hV) hW [(9, []), (61, [])] 30 h
theorem z_407_37 : Sf_ k_407 g_407_37 := Sf_tr z_407_7 30 rfl
theorem b_407_61 {D : ca_} {V : vv_} {Qr : qr_} {Qt : qt_} (hD : Mo_ D) (hV : Cl_ wd0 D V Qr Qt m_407) (hW : Wk_ V) (x1 : Int) (x2 : Int) (x3 : Int) (M : mm_) (h :
 (if x2 = 0 then
  V 9 [rr 6, ii x1, ii x2, ii (w32 (x3 + 1))] [] M
 else
  (0 ≤ x3 ∧ x3 < 40) ∧
   (if M 257 x3 = x1 then
   (0 ≤ x3 ∧ x3 < 40) ∧
    (0 ≤ x3 ∧ x3 < 40) ∧
    D 409 [.inr (.inr 6), .inl x1, .inl 2, .inl (M 258 x3), .inl (M 256 x3)] M (ri_ fun v1 M1 =>
    V 9 [rr 6, ii x1, ii v1, ii (w32 (x3 + 1))] [] M1) Qt
  else
   V 9 [rr 6, ii x1, ii x2, ii (w32 (x3 + 1))] [] M))) : V 61 [rr 6, ii x1, ii x2, ii x3] [] M := bx_go hD (m := (g_407_37, m_407.2)) (Cl_sf z_407_37 hV) hW [(9, []), (61, [])] 24 h
/-- X4_isChosen(I)Z -/
theorem b_408_0 {D : ca_} {V : vv_} {Qr : qr_} {Qt : qt_} (hD : Mo_ D) (hV : Cl_ wd0 D V Qr Qt m_408) (hW : Wk_ V) (x1 : Int) (M : mm_) (h :
 V 4 [rr 6, ii x1, ii 1, ii 0] [] M) : V 0 [rr 6, ii x1, none, none] [] M := bx_go hD hV hW [(4, [])] 5 h
theorem b_408_4 {D : ca_} {V : vv_} {Qr : qr_} {Qt : qt_} (hD : Mo_ D) (hV : Cl_ wd0 D V Qr Qt m_408) (hW : Wk_ V) (x1 : Int) (x2 : Int) (x3 : Int) (M : mm_) (h :
 (0 ≤ x1 ∧ x1 < 40) ∧
  (if x3 < M 259 x1 then
  (if x2 = 0 then
   V 4 [rr 6, ii x1, ii 0, ii (w32 (x3 + 1))] [] M
  else
   (0 ≤ w32 ((w32 (3 * x1)) + x3) ∧ w32 ((w32 (3 * x1)) + x3) < 120) ∧
    (0 ≤ M 260 (w32 ((w32 (3 * x1)) + x3)) ∧ M 260 (w32 ((w32 (3 * x1)) + x3)) < 6) ∧
    (0 ≤ w32 ((w32 (3 * x1)) + x3) ∧ w32 ((w32 (3 * x1)) + x3) < 120) ∧
    (if M 265 (M 260 (w32 ((w32 (3 * x1)) + x3))) = M 261 (w32 ((w32 (3 * x1)) + x3)) then
    V 4 [rr 6, ii x1, ii 1, ii (w32 (x3 + 1))] [] M
   else
    V 4 [rr 6, ii x1, ii 0, ii (w32 (x3 + 1))] [] M))
 else
  bl_ x2 ∧ Qr [.inl x2] M)) : V 4 [rr 6, ii x1, ii x2, ii x3] [] M := bx_go hD hV hW [(4, [])] 34 h
/-- X4_isNext(IIII)Z -/
theorem b_409_0 {D : ca_} {V : vv_} {Qr : qr_} {Qt : qt_} (hD : Mo_ D) (hV : Cl_ wd0 D V Qr Qt m_409) (hW : Wk_ V) (x1 : Int) (x2 : Int) (x3 : Int) (x4 : Int) (M : mm_) (h :
 D 410 [.inr (.inr 6), .inl x1, .inl (M 6 189)] M (ri_ fun v1 M1 =>
  (if v1 < 0 then
   bl_ 0 ∧ Qr [.inl 0] M1
  else
   (500 : Int) ≠ 0 ∧ (0 ≤ w32 (4 * (Int.tmod (w32 ((M1 6 143) + v1)) 500)) ∧ w32 (4 * (Int.tmod (w32 ((M1 6 143) + v1)) 500)) < 2000) ∧
    (if M1 240 (w32 (4 * (Int.tmod (w32 ((M1 6 143) + v1)) 500))) = x2 then
    (0 ≤ w32 ((w32 (4 * (Int.tmod (w32 ((M1 6 143) + v1)) 500))) + 2) ∧ w32 ((w32 (4 * (Int.tmod (w32 ((M1 6 143) + v1)) 500))) + 2) < 2000) ∧
     (if M1 240 (w32 ((w32 (4 * (Int.tmod (w32 ((M1 6 143) + v1)) 500))) + 2)) = x3 then
     (0 ≤ w32 ((w32 (4 * (Int.tmod (w32 ((M1 6 143) + v1)) 500))) + 3) ∧ w32 ((w32 (4 * (Int.tmod (w32 ((M1 6 143) + v1)) 500))) + 3) < 2000) ∧
      (if x4 < 0 then
      (if M1 240 (w32 ((w32 (4 * (Int.tmod (w32 ((M1 6 143) + v1)) 500))) + 3)) = 0 then
       bl_ 1 ∧ Qr [.inl 1] (up_ M1 6 189 (w32 (v1 + 1)))
      else
       bl_ 0 ∧ Qr [.inl 0] (up_ M1 6 189 (w32 (v1 + 1))))
     else
      (0 ≤ x4 ∧ x4 < 8) ∧
       (if M1 240 (w32 ((w32 (4 * (Int.tmod (w32 ((M1 6 143) + v1)) 500))) + 3)) = M1 255 x4 then
       bl_ 1 ∧ Qr [.inl 1] (up_ M1 6 189 (w32 (v1 + 1)))
      else
       bl_ 0 ∧ Qr [.inl 0] (up_ M1 6 189 (w32 (v1 + 1)))))
    else
     bl_ 0 ∧ Qr [.inl 0] (up_ M1 6 189 (w32 (v1 + 1))))
   else
    bl_ 0 ∧ Qr [.inl 0] (up_ M1 6 189 (w32 (v1 + 1)))))) Qt) : V 0 [rr 6, ii x1, ii x2, ii x3, ii x4, none, none] [] M := bx_go hD hV hW [] 52 h
/-- X4_nextEvent(II)I -/
theorem b_410_0 {D : ca_} {V : vv_} {Qr : qr_} {Qt : qt_} (hD : Mo_ D) (hV : Cl_ wd0 D V Qr Qt m_410) (hW : Wk_ V) (x1 : Int) (x2 : Int) (M : mm_) (h :
 V 2 [rr 6, ii x1, ii x2, ii x2, none] [] M) : V 0 [rr 6, ii x1, ii x2, none, none] [] M := bx_go hD hV hW [(2, [4]), (46, [])] 3 h
theorem b_410_2 {D : ca_} {V : vv_} {Qr : qr_} {Qt : qt_} (hD : Mo_ D) (hV : Cl_ wd0 D V Qr Qt m_410) (hW : Wk_ V) (x1 : Int) (x2 : Int) (x3 : Int) (M : mm_) (h :
 (if x3 < M 6 142 then
  (500 : Int) ≠ 0 ∧ (0 ≤ w32 (4 * (Int.tmod (w32 ((M 6 143) + x3)) 500)) ∧ w32 (4 * (Int.tmod (w32 ((M 6 143) + x3)) 500)) < 2000) ∧
   (if M 240 (w32 (4 * (Int.tmod (w32 ((M 6 143) + x3)) 500))) = 1 then
   V 46 [rr 6, ii x1, ii x2, ii x3, ii (w32 (4 * (Int.tmod (w32 ((M 6 143) + x3)) 500)))] [] M
  else
   (0 ≤ w32 (4 * (Int.tmod (w32 ((M 6 143) + x3)) 500)) ∧ w32 (4 * (Int.tmod (w32 ((M 6 143) + x3)) 500)) < 2000) ∧
    (if M 240 (w32 (4 * (Int.tmod (w32 ((M 6 143) + x3)) 500))) = 2 then
    V 46 [rr 6, ii x1, ii x2, ii x3, ii (w32 (4 * (Int.tmod (w32 ((M 6 143) + x3)) 500)))] [] M
   else
    V 2 [rr 6, ii x1, ii x2, ii (w32 (x3 + 1)), none] [] M))
 else
  Qr [.inl ((-1))] M)) : V 2 [rr 6, ii x1, ii x2, ii x3, none] [] M := bx_go hD hV hW [(2, [4]), (46, [])] 28 h
theorem i_410 : inq_ 0 k_410 = true := by decide +kernel
theorem z_410_27 : Sf_ k_410 g_410_27 := Sf_of i_410 27 rfl
theorem b_410_46 {D : ca_} {V : vv_} {Qr : qr_} {Qt : qt_} (hD : Mo_ D) (hV : Cl_ wd0 D V Qr Qt m_410) (hW : Wk_ V) (x1 : Int) (x2 : Int) (x3 : Int) (x4 : Int) (M : mm_) (h :
 (0 ≤ w32 (x4 + 1) ∧ w32 (x4 + 1) < 2000) ∧
  (0 ≤ x1 ∧ x1 < 8) ∧
  (if M 240 (w32 (x4 + 1)) = M 255 x1 then
  (0 ≤ w32 (x4 + 2) ∧ w32 (x4 + 2) < 2000) ∧
   D 411 [.inr (.inr 6), .inl (M 240 (w32 (x4 + 2)))] M (ri_ fun v1 M1 =>
   (if v1 = 0 then
    V 2 [rr 6, ii x1, ii x2, ii (w32 (x3 + 1)), none] [] M1
   else
    Qr [.inl x3] M1)) Qt
 else
  V 2 [rr 6, ii x1, ii x2, ii (w32 (x3 + 1)), none] [] M)) : V 46 [rr 6, ii x1, ii x2, ii x3, ii x4] [] M := bx_go hD (m := (g_410_27, m_410.2)) (Cl_sf z_410_27 hV) hW [(2, [4]), (46, [])] 24 h
/-- X4_isNamed(I)Z -/
theorem b_411_0 {D : ca_} {V : vv_} {Qr : qr_} {Qt : qt_} (hD : Mo_ D) (hV : Cl_ wd0 D V Qr Qt m_411) (hW : Wk_ V) (x1 : Int) (M : mm_) (h :
 V 4 [rr 6, ii x1, ii 0, ii 0] [] M) : V 0 [rr 6, ii x1, none, none] [] M := bx_go hD hV hW [(4, [])] 5 h
theorem b_411_4 {D : ca_} {V : vv_} {Qr : qr_} {Qt : qt_} (hD : Mo_ D) (hV : Cl_ wd0 D V Qr Qt m_411) (hW : Wk_ V) (x1 : Int) (x2 : Int) (x3 : Int) (M : mm_) (h :
 (if x3 < M 6 171 then
  (if x2 = 0 then
   (0 ≤ x3 ∧ x3 < 40) ∧
    (if M 258 x3 = x1 then
    V 4 [rr 6, ii x1, ii 1, ii (w32 (x3 + 1))] [] M
   else
    V 4 [rr 6, ii x1, ii 0, ii (w32 (x3 + 1))] [] M)
  else
   V 4 [rr 6, ii x1, ii 1, ii (w32 (x3 + 1))] [] M)
 else
  bl_ x2 ∧ Qr [.inl x2] M)) : V 4 [rr 6, ii x1, ii x2, ii x3] [] M := bx_go hD hV hW [(4, [])] 18 h
/-- X4_changes()Z -/
theorem b_412_0 {D : ca_} {V : vv_} {Qr : qr_} {Qt : qt_} (hD : Mo_ D) (hV : Cl_ wd0 D V Qr Qt m_412) (hW : Wk_ V)  (M : mm_) (h :
 V 7 [rr 6, ii (w32 ((M 6 172) - 1))] [] M) : V 0 [rr 6, none] [] M := bx_go hD hV hW [(7, [])] 6 h
theorem b_412_7 {D : ca_} {V : vv_} {Qr : qr_} {Qt : qt_} (hD : Mo_ D) (hV : Cl_ wd0 D V Qr Qt m_412) (hW : Wk_ V) (x1 : Int) (M : mm_) (h :
 (if x1 < 0 then
  bl_ 0 ∧ Qr [.inl 0] M
 else
  (0 ≤ x1 ∧ x1 < 6) ∧
   (0 ≤ x1 ∧ x1 < 6) ∧
   (0 ≤ x1 ∧ x1 < 6) ∧
   (0 ≤ x1 ∧ x1 < 6) ∧
   (if (up_ M 265 x1 (w32 ((M 265 x1) + 1))) 265 x1 < M 262 x1 then
   bl_ 1 ∧ Qr [.inl 1] (up_ M 265 x1 (w32 ((M 265 x1) + 1)))
  else
   (0 ≤ x1 ∧ x1 < 6) ∧
    V 7 [rr 6, ii (w32 (x1 + (-1)))] [] (up_ (up_ M 265 x1 (w32 ((M 265 x1) + 1))) 265 x1 0)))) : V 7 [rr 6, ii x1] [] M := bx_go hD hV hW [(7, [])] 27 h
/-- X4_choices(I)I -/
theorem b_413_0 {D : ca_} {V : vv_} {Qr : qr_} {Qt : qt_} (hD : Mo_ D) (hV : Cl_ wd0 D V Qr Qt m_413) (hW : Wk_ V) (x1 : Int) (M : mm_) (h :
 (if x1 = 0 then
  Qr [.inl (M 6 187)] M
 else
  (if x1 = 1 then
   Qr [.inl (M 6 188)] M
  else
   Qr [.inl ((-1))] M))) : V 0 [rr 6, ii x1] [] M := bx_go hD hV hW [] 9 h

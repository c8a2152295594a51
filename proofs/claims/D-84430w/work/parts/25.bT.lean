/-! block lemmas -/
set_option maxRecDepth 100000
/-- X2_read([BI)V -/
theorem b_191a_0 {D : ca_} {V : vv_} {Qr : qr_} {Qt : qt_} (hD : Mo_ D) (hV : Cl_ wd0 D V Qr Qt m_191) (hW : Wk_ V) (x2 : Int) (M : mm_) (h :
 V 2 [rr 2, rr 9, ii x2, ii 0] [] M) : V 0 [rr 2, rr 9, ii x2, none] [] M := bx_go hD hV hW [(2, []), (39, [])] 3 h
theorem b_191a_2 {D : ca_} {V : vv_} {Qr : qr_} {Qt : qt_} (hD : Mo_ D) (hV : Cl_ wd0 D V Qr Qt m_191) (hW : Wk_ V) (x2 : Int) (x3 : Int) (M : mm_) (h :
 (if x3 < x2 then
  (0 ≤ x3 ∧ x3 < 5000) ∧ (-128 ≤ M 9 x3 ∧ M 9 x3 ≤ 127 →
   ((0 ≤ x3 ∧ x3 < 5000) ∧ -128 ≤ M 9 x3 ∧ M 9 x3 ≤ 127) ∧
   V 2 [rr 2, rr 9, ii x2, ii (w32 (x3 + 1))] [] (up_ M 69 x3 (M 9 x3)))
 else
  V 39 [rr 2, rr 9, ii x2, ii 1] [] (up_ (up_ (up_ M 2 5 x2) 2 6 0) 2 7 0))) : V 2 [rr 2, rr 9, ii x2, ii x3] [] M := bx_go hD hV hW [(2, []), (39, [])] 15 h
theorem i_191 : inq_ 0 k_191 = true := by decide +kernel
theorem z_191_25 : Sf_ k_191 g_191_25 := Sf_of i_191 25 rfl
theorem b_191a_39 {D : ca_} {V : vv_} {Qr : qr_} {Qt : qt_} (hD : Mo_ D) (hV : Cl_ wd0 D V Qr Qt m_191) (hW : Wk_ V) (x2 : Int) (x3 : Int) (M : mm_) (h :
 (if x3 = 0 then
  Qr [] M
 else
  D 192 [.inr (.inr 2)] M (rv_ fun M1 =>
   (0 ≤ M1 2 6 ∧ M1 2 6 < 1202) ∧
    D 194 [.inr (.inr 2)] (up_ M1 71 (M1 2 6) (M1 2 7)) (ri_ fun v1 M2 =>
    (0 ≤ M1 2 6 ∧ M1 2 6 < 1202) ∧
     (0 ≤ M2 2 6 ∧ M2 2 6 < 1202) ∧
     (0 ≤ M2 2 6 ∧ M2 2 6 < 1202) ∧
     (if (up_ M2 70 (M1 2 6) v1) 70 (M2 2 6) = 102 then
     V 39 [rr 2, rr 9, ii x2, ii 0] [] (up_ (up_ (up_ M2 70 (M1 2 6) v1) 72 (M2 2 6) (M2 2 7)) 2 6 (w32 ((M2 2 6) + 1)))
    else
     (if M2 2 6 ≤ 1200 then
      V 39 [rr 2, rr 9, ii x2, ii 1] [] (up_ (up_ (up_ M2 70 (M1 2 6) v1) 72 (M2 2 6) (M2 2 7)) 2 6 (w32 ((M2 2 6) + 1)))
     else
      V 39 [rr 2, rr 9, ii x2, ii 0] [] (up_ (up_ (up_ M2 70 (M1 2 6) v1) 72 (M2 2 6) (M2 2 7)) 2 6 (w32 ((M2 2 6) + 1)))))) Qt) Qt)) : V 39 [rr 2, rr 9, ii x2, ii x3] [] M := bx_go hD (m := (g_191_25, m_191.2)) (Cl_sf z_191_25 hV) hW [(2, []), (39, [])] 47 h
/-- X2_read([BI)V -/
theorem b_191b_0 {D : ca_} {V : vv_} {Qr : qr_} {Qt : qt_} (hD : Mo_ D) (hV : Cl_ wd0 D V Qr Qt m_191) (hW : Wk_ V) (x2 : Int) (M : mm_) (h :
 V 2 [rr 3, rr 9, ii x2, ii 0] [] M) : V 0 [rr 3, rr 9, ii x2, none] [] M := bx_go hD hV hW [(2, []), (39, [])] 3 h
theorem b_191b_2 {D : ca_} {V : vv_} {Qr : qr_} {Qt : qt_} (hD : Mo_ D) (hV : Cl_ wd0 D V Qr Qt m_191) (hW : Wk_ V) (x2 : Int) (x3 : Int) (M : mm_) (h :
 (if x3 < x2 then
  (0 ≤ x3 ∧ x3 < 5000) ∧ (-128 ≤ M 9 x3 ∧ M 9 x3 ≤ 127 →
   ((0 ≤ x3 ∧ x3 < 5000) ∧ -128 ≤ M 9 x3 ∧ M 9 x3 ≤ 127) ∧
   V 2 [rr 3, rr 9, ii x2, ii (w32 (x3 + 1))] [] (up_ M 74 x3 (M 9 x3)))
 else
  V 39 [rr 3, rr 9, ii x2, ii 1] [] (up_ (up_ (up_ M 3 5 x2) 3 6 0) 3 7 0))) : V 2 [rr 3, rr 9, ii x2, ii x3] [] M := bx_go hD hV hW [(2, []), (39, [])] 15 h
theorem b_191b_39 {D : ca_} {V : vv_} {Qr : qr_} {Qt : qt_} (hD : Mo_ D) (hV : Cl_ wd0 D V Qr Qt m_191) (hW : Wk_ V) (x2 : Int) (x3 : Int) (M : mm_) (h :
 (if x3 = 0 then
  Qr [] M
 else
  D 192 [.inr (.inr 3)] M (rv_ fun M1 =>
   (0 ≤ M1 3 6 ∧ M1 3 6 < 1202) ∧
    D 194 [.inr (.inr 3)] (up_ M1 76 (M1 3 6) (M1 3 7)) (ri_ fun v1 M2 =>
    (0 ≤ M1 3 6 ∧ M1 3 6 < 1202) ∧
     (0 ≤ M2 3 6 ∧ M2 3 6 < 1202) ∧
     (0 ≤ M2 3 6 ∧ M2 3 6 < 1202) ∧
     (if (up_ M2 75 (M1 3 6) v1) 75 (M2 3 6) = 102 then
     V 39 [rr 3, rr 9, ii x2, ii 0] [] (up_ (up_ (up_ M2 75 (M1 3 6) v1) 77 (M2 3 6) (M2 3 7)) 3 6 (w32 ((M2 3 6) + 1)))
    else
     (if M2 3 6 ≤ 1200 then
      V 39 [rr 3, rr 9, ii x2, ii 1] [] (up_ (up_ (up_ M2 75 (M1 3 6) v1) 77 (M2 3 6) (M2 3 7)) 3 6 (w32 ((M2 3 6) + 1)))
     else
      V 39 [rr 3, rr 9, ii x2, ii 0] [] (up_ (up_ (up_ M2 75 (M1 3 6) v1) 77 (M2 3 6) (M2 3 7)) 3 6 (w32 ((M2 3 6) + 1)))))) Qt) Qt)) : V 39 [rr 3, rr 9, ii x2, ii x3] [] M := bx_go hD (m := (g_191_25, m_191.2)) (Cl_sf z_191_25 hV) hW [(2, []), (39, [])] 47 h
/-- X2_blanks()V -/
theorem b_192a_0 {D : ca_} {V : vv_} {Qr : qr_} {Qt : qt_} (hD : Mo_ D) (hV : Cl_ wd0 D V Qr Qt m_192) (hW : Wk_ V)  (M : mm_) (h :
 V 2 [rr 2, ii 1, none] [] M) : V 0 [rr 2, none, none] [] M := bx_go hD hV hW [(2, [2]), (21, []), (59, []), (95, [])] 3 h
theorem b_192a_2 {D : ca_} {V : vv_} {Qr : qr_} {Qt : qt_} (hD : Mo_ D) (hV : Cl_ wd0 D V Qr Qt m_192) (hW : Wk_ V) (x1 : Int) (M : mm_) (h :
 (if x1 = 0 then
  Qr [] M
 else
  D 193 [.inr (.inr 2), .inl (M 2 7)] M (ri_ fun v1 M1 =>
   (if v1 = 35 then
    V 21 [rr 2, ii x1, ii v1] [] M1
   else
    V 59 [rr 2, ii x1, ii v1] [] M1)) Qt)) : V 2 [rr 2, ii x1, none] [] M := bx_go hD hV hW [(2, [2]), (21, []), (59, []), (95, [])] 11 h
theorem i_192 : inq_ 0 k_192 = true := by decide +kernel
theorem z_192_12 : Sf_ k_192 g_192_12 := Sf_of i_192 12 rfl
theorem b_192a_21 {D : ca_} {V : vv_} {Qr : qr_} {Qt : qt_} (hD : Mo_ D) (hV : Cl_ wd0 D V Qr Qt m_192) (hW : Wk_ V) (x1 : Int) (x2 : Int) (M : mm_) (h :
 (if M 2 7 < M 2 5 then
  (0 ≤ M 2 7 ∧ M 2 7 < 5000) ∧ (-128 ≤ M 69 (M 2 7) ∧ M 69 (M 2 7) ≤ 127 →
   (if M 69 (M 2 7) = 10 then
   V 59 [rr 2, ii x1, ii x2] [] M
  else
   V 21 [rr 2, ii x1, ii x2] [] (up_ M 2 7 (w32 ((M 2 7) + 1)))))
 else
  V 59 [rr 2, ii x1, ii x2] [] M)) : V 21 [rr 2, ii x1, ii x2] [] M := bx_go hD (m := (g_192_12, m_192.2)) (Cl_sf z_192_12 hV) hW [(2, [2]), (21, []), (59, []), (95, [])] 20 h
theorem z_192_31 : Sf_ k_192 g_192_31 := Sf_tr z_192_12 19 rfl
theorem b_192a_59 {D : ca_} {V : vv_} {Qr : qr_} {Qt : qt_} (hD : Mo_ D) (hV : Cl_ wd0 D V Qr Qt m_192) (hW : Wk_ V) (x1 : Int) (x2 : Int) (M : mm_) (h :
 (if x2 = 9 then
  V 95 [rr 2, ii 1, ii x2] [] M
 else
  (if x2 = 10 then
   V 95 [rr 2, ii 1, ii x2] [] M
  else
   (if x2 = 13 then
    V 95 [rr 2, ii 1, ii x2] [] M
   else
    (if x2 = 32 then
     V 95 [rr 2, ii 1, ii x2] [] M
    else
     (if x2 = 35 then
      V 95 [rr 2, ii 1, ii x2] [] M
     else
      V 95 [rr 2, ii 0, ii x2] [] M)))))) : V 59 [rr 2, ii x1, ii x2] [] M := bx_go hD (m := (g_192_31, m_192.2)) (Cl_sf z_192_31 hV) hW [(2, [2]), (21, []), (59, []), (95, [])] 19 h
theorem z_192_50 : Sf_ k_192 g_192_50 := Sf_tr z_192_31 19 rfl
theorem b_192a_95 {D : ca_} {V : vv_} {Qr : qr_} {Qt : qt_} (hD : Mo_ D) (hV : Cl_ wd0 D V Qr Qt m_192) (hW : Wk_ V) (x1 : Int) (x2 : Int) (M : mm_) (h :
 (if x1 = 0 then
  V 2 [rr 2, ii x1, none] [] M
 else
  (if M 2 7 < M 2 5 then
   (if x2 = 35 then
    V 2 [rr 2, ii x1, none] [] M
   else
    V 2 [rr 2, ii x1, none] [] (up_ M 2 7 (w32 ((M 2 7) + 1))))
  else
   V 2 [rr 2, ii x1, none] [] M))) : V 95 [rr 2, ii x1, ii x2] [] M := bx_go hD (m := (g_192_50, m_192.2)) (Cl_sf z_192_50 hV) hW [(2, [2]), (21, []), (59, []), (95, [])] 18 h
/-- X2_blanks()V -/
theorem b_192b_0 {D : ca_} {V : vv_} {Qr : qr_} {Qt : qt_} (hD : Mo_ D) (hV : Cl_ wd0 D V Qr Qt m_192) (hW : Wk_ V)  (M : mm_) (h :
 V 2 [rr 3, ii 1, none] [] M) : V 0 [rr 3, none, none] [] M := bx_go hD hV hW [(2, [2]), (21, []), (59, []), (95, [])] 3 h
theorem b_192b_2 {D : ca_} {V : vv_} {Qr : qr_} {Qt : qt_} (hD : Mo_ D) (hV : Cl_ wd0 D V Qr Qt m_192) (hW : Wk_ V) (x1 : Int) (M : mm_) (h :
 (if x1 = 0 then
  Qr [] M
 else
  D 193 [.inr (.inr 3), .inl (M 3 7)] M (ri_ fun v1 M1 =>
   (if v1 = 35 then
    V 21 [rr 3, ii x1, ii v1] [] M1
   else
    V 59 [rr 3, ii x1, ii v1] [] M1)) Qt)) : V 2 [rr 3, ii x1, none] [] M := bx_go hD hV hW [(2, [2]), (21, []), (59, []), (95, [])] 11 h
theorem b_192b_21 {D : ca_} {V : vv_} {Qr : qr_} {Qt : qt_} (hD : Mo_ D) (hV : Cl_ wd0 D V Qr Qt m_192) (hW : Wk_ V) (x1 : Int) (x2 : Int) (M : mm_) (h :
 (if M 3 7 < M 3 5 then
  (0 ≤ M 3 7 ∧ M 3 7 < 5000) ∧ (-128 ≤ M 74 (M 3 7) ∧ M 74 (M 3 7) ≤ 127 →
   (if M 74 (M 3 7) = 10 then
   V 59 [rr 3, ii x1, ii x2] [] M
  else
   V 21 [rr 3, ii x1, ii x2] [] (up_ M 3 7 (w32 ((M 3 7) + 1)))))
 else
  V 59 [rr 3, ii x1, ii x2] [] M)) : V 21 [rr 3, ii x1, ii x2] [] M := bx_go hD (m := (g_192_12, m_192.2)) (Cl_sf z_192_12 hV) hW [(2, [2]), (21, []), (59, []), (95, [])] 20 h
theorem b_192b_59 {D : ca_} {V : vv_} {Qr : qr_} {Qt : qt_} (hD : Mo_ D) (hV : Cl_ wd0 D V Qr Qt m_192) (hW : Wk_ V) (x1 : Int) (x2 : Int) (M : mm_) (h :
 (if x2 = 9 then
  V 95 [rr 3, ii 1, ii x2] [] M
 else
  (if x2 = 10 then
   V 95 [rr 3, ii 1, ii x2] [] M
  else
   (if x2 = 13 then
    V 95 [rr 3, ii 1, ii x2] [] M
   else
    (if x2 = 32 then
     V 95 [rr 3, ii 1, ii x2] [] M
    else
     (if x2 = 35 then
      V 95 [rr 3, ii 1, ii x2] [] M
     else
      V 95 [rr 3, ii 0, ii x2] [] M)))))) : V 59 [rr 3, ii x1, ii x2] [] M := bx_go hD (m := (g_192_31, m_192.2)) (Cl_sf z_192_31 hV) hW [(2, [2]), (21, []), (59, []), (95, [])] 19 h
theorem b_192b_95 {D : ca_} {V : vv_} {Qr : qr_} {Qt : qt_} (hD : Mo_ D) (hV : Cl_ wd0 D V Qr Qt m_192) (hW : Wk_ V) (x1 : Int) (x2 : Int) (M : mm_) (h :
 (if x1 = 0 then
  V 2 [rr 3, ii x1, none] [] M
 else
  (if M 3 7 < M 3 5 then
   (if x2 = 35 then
    V 2 [rr 3, ii x1, none] [] M
   else
    V 2 [rr 3, ii x1, none] [] (up_ M 3 7 (w32 ((M 3 7) + 1))))
  else
   V 2 [rr 3, ii x1, none] [] M))) : V 95 [rr 3, ii x1, ii x2] [] M := bx_go hD (m := (g_192_50, m_192.2)) (Cl_sf z_192_50 hV) hW [(2, [2]), (21, []), (59, []), (95, [])] 18 h
/-- X2_byteAt(I)I -/
theorem b_193a_0 {D : ca_} {V : vv_} {Qr : qr_} {Qt : qt_} (hD : Mo_ D) (hV : Cl_ wd0 D V Qr Qt m_193) (hW : Wk_ V) (x1 : Int) (M : mm_) (h :
 (if x1 < M 2 5 then
  (0 ≤ x1 ∧ x1 < 5000) ∧ (-128 ≤ M 69 x1 ∧ M 69 x1 ≤ 127 →
   Qr [.inl (an_ (M 69 x1) 255)] M)
 else
  Qr [.inl ((-1))] M)) : V 0 [rr 2, ii x1] [] M := bx_go hD hV hW [] 12 h
/-- X2_byteAt(I)I -/
theorem b_193b_0 {D : ca_} {V : vv_} {Qr : qr_} {Qt : qt_} (hD : Mo_ D) (hV : Cl_ wd0 D V Qr Qt m_193) (hW : Wk_ V) (x1 : Int) (M : mm_) (h :
 (if x1 < M 3 5 then
  (0 ≤ x1 ∧ x1 < 5000) ∧ (-128 ≤ M 74 x1 ∧ M 74 x1 ≤ 127 →
   Qr [.inl (an_ (M 74 x1) 255)] M)
 else
  Qr [.inl ((-1))] M)) : V 0 [rr 3, ii x1] [] M := bx_go hD hV hW [] 12 h
/-- X2_kind()I -/
theorem b_194a_0 {D : ca_} {V : vv_} {Qr : qr_} {Qt : qt_} (hD : Mo_ D) (hV : Cl_ wd0 D V Qr Qt m_194) (hW : Wk_ V)  (M : mm_) (h :
 D 193 [.inr (.inr 2), .inl (M 2 7)] M (ri_ fun v1 M1 =>
  (if v1 = (-1) then
   Qr [.inl 102] M1
  else
   D 195 [.inl v1] M1 (ri_ fun v2 M2 =>
    (if v2 = 0 then
     D 197 [.inl v1] M2 (ri_ fun v3 M3 =>
      (if v3 = 0 then
       D 193 [.inr (.inr 2), .inl (w32 ((M3 2 7) + 1))] (up_ M3 2 7 (w32 ((M3 2 7) + 1))) (ri_ fun v4 M4 =>
        (if v1 = 58 then
         (if v4 = 61 then
          V 164 [rr 2, ii v1, ii v4, ii 110, none] [] M4
         else
          (if v1 = 47 then
           (if v4 = 61 then
            V 164 [rr 2, ii v1, ii v4, ii 111, none] [] M4
           else
            V 94 [rr 2, ii v1, ii v4, none, none] [] M4)
          else
           V 94 [rr 2, ii v1, ii v4, none, none] [] M4))
        else
         (if v1 = 47 then
          (if v4 = 61 then
           V 164 [rr 2, ii v1, ii v4, ii 111, none] [] M4
          else
           V 94 [rr 2, ii v1, ii v4, none, none] [] M4)
         else
          V 94 [rr 2, ii v1, ii v4, none, none] [] M4))) Qt
      else
       D 198 [.inr (.inr 2)] M3 (ri_ fun v5 M5 =>
        Qr [.inl v5] M5) Qt)) Qt
    else
     D 196 [.inr (.inr 2)] M2 (ri_ fun v6 M6 =>
      Qr [.inl v6] M6) Qt)) Qt)) Qt) : V 0 [rr 2, none, none, none, none] [] M := bx_go hD hV hW [(94, [3, 4]), (128, [3, 4]), (164, [4])] 41 h
theorem i_194 : inq_ 0 k_194 = true := by decide +kernel
theorem z_194_49 : Sf_ k_194 g_194_49 := Sf_of i_194 49 rfl
theorem b_194a_94 {D : ca_} {V : vv_} {Qr : qr_} {Qt : qt_} (hD : Mo_ D) (hV : Cl_ wd0 D V Qr Qt m_194) (hW : Wk_ V) (x1 : Int) (x2 : Int) (M : mm_) (h :
 (if x1 = 60 then
  (if x2 = 61 then
   V 164 [rr 2, ii x1, ii x2, ii 112, none] [] M
  else
   (if x1 = 62 then
    (if x2 = 61 then
     V 164 [rr 2, ii x1, ii x2, ii 113, none] [] M
    else
     V 128 [rr 2, ii x1, ii x2, none, none] [] M)
   else
    V 128 [rr 2, ii x1, ii x2, none, none] [] M))
 else
  (if x1 = 62 then
   (if x2 = 61 then
    V 164 [rr 2, ii x1, ii x2, ii 113, none] [] M
   else
    V 128 [rr 2, ii x1, ii x2, none, none] [] M)
  else
   V 128 [rr 2, ii x1, ii x2, none, none] [] M))) : V 94 [rr 2, ii x1, ii x2, none, none] [] M := bx_go hD (m := (g_194_49, m_194.2)) (Cl_sf z_194_49 hV) hW [(94, [3, 4]), (128, [3, 4]), (164, [4])] 16 h
theorem z_194_65 : Sf_ k_194 g_194_65 := Sf_tr z_194_49 16 rfl
theorem b_194a_128 {D : ca_} {V : vv_} {Qr : qr_} {Qt : qt_} (hD : Mo_ D) (hV : Cl_ wd0 D V Qr Qt m_194) (hW : Wk_ V) (x1 : Int) (x2 : Int) (M : mm_) (h :
 (if x1 = 45 then
  (if x2 = 62 then
   V 164 [rr 2, ii x1, ii x2, ii 114, none] [] M
  else
   (if x1 = 46 then
    (if x2 = 46 then
     V 164 [rr 2, ii x1, ii x2, ii 115, none] [] M
    else
     V 164 [rr 2, ii x1, ii x2, ii ((-1)), none] [] M)
   else
    V 164 [rr 2, ii x1, ii x2, ii ((-1)), none] [] M))
 else
  (if x1 = 46 then
   (if x2 = 46 then
    V 164 [rr 2, ii x1, ii x2, ii 115, none] [] M
   else
    V 164 [rr 2, ii x1, ii x2, ii ((-1)), none] [] M)
  else
   V 164 [rr 2, ii x1, ii x2, ii ((-1)), none] [] M))) : V 128 [rr 2, ii x1, ii x2, none, none] [] M := bx_go hD (m := (g_194_65, m_194.2)) (Cl_sf z_194_65 hV) hW [(94, [3, 4]), (128, [3, 4]), (164, [4])] 16 h
theorem z_194_83 : Sf_ k_194 g_194_83 := Sf_tr z_194_65 18 rfl
theorem b_194a_164 {D : ca_} {V : vv_} {Qr : qr_} {Qt : qt_} (hD : Mo_ D) (hV : Cl_ wd0 D V Qr Qt m_194) (hW : Wk_ V) (x1 : Int) (x2 : Int) (x3 : Int) (M : mm_) (h :
 (if x3 = (-1) then
  D 427 [.inr (.inr 1002), .inl (ic_ x1)] M (ri_ fun v1 M1 =>
   (if v1 < 0 then
    Qr [.inl 103] M1
   else
    Qr [.inl (w32 (200 + x1))] M1)) Qt
 else
  Qr [.inl x3] (up_ M 2 7 (w32 ((M 2 7) + 1))))) : V 164 [rr 2, ii x1, ii x2, ii x3, none] [] M := bx_go hD (m := (g_194_83, m_194.2)) (Cl_sf z_194_83 hV) hW [(94, [3, 4]), (128, [3, 4]), (164, [4])] 15 h
/-- X2_kind()I -/
theorem b_194b_0 {D : ca_} {V : vv_} {Qr : qr_} {Qt : qt_} (hD : Mo_ D) (hV : Cl_ wd0 D V Qr Qt m_194) (hW : Wk_ V)  (M : mm_) (h :
 D 193 [.inr (.inr 3), .inl (M 3 7)] M (ri_ fun v1 M1 =>
  (if v1 = (-1) then
   Qr [.inl 102] M1
  else
   D 195 [.inl v1] M1 (ri_ fun v2 M2 =>
    (if v2 = 0 then
     D 197 [.inl v1] M2 (ri_ fun v3 M3 =>
      (if v3 = 0 then
       D 193 [.inr (.inr 3), .inl (w32 ((M3 3 7) + 1))] (up_ M3 3 7 (w32 ((M3 3 7) + 1))) (ri_ fun v4 M4 =>
        (if v1 = 58 then
         (if v4 = 61 then
          V 164 [rr 3, ii v1, ii v4, ii 110, none] [] M4
         else
          (if v1 = 47 then
           (if v4 = 61 then
            V 164 [rr 3, ii v1, ii v4, ii 111, none] [] M4
           else
            V 94 [rr 3, ii v1, ii v4, none, none] [] M4)
          else
           V 94 [rr 3, ii v1, ii v4, none, none] [] M4))
        else
         (if v1 = 47 then
          (if v4 = 61 then
           V 164 [rr 3, ii v1, ii v4, ii 111, none] [] M4
          else
           V 94 [rr 3, ii v1, ii v4, none, none] [] M4)
         else
          V 94 [rr 3, ii v1, ii v4, none, none] [] M4))) Qt
      else
       D 198 [.inr (.inr 3)] M3 (ri_ fun v5 M5 =>
        Qr [.inl v5] M5) Qt)) Qt
    else
     D 196 [.inr (.inr 3)] M2 (ri_ fun v6 M6 =>
      Qr [.inl v6] M6) Qt)) Qt)) Qt) : V 0 [rr 3, none, none, none, none] [] M := bx_go hD hV hW [(94, [3, 4]), (128, [3, 4]), (164, [4])] 41 h
theorem b_194b_94 {D : ca_} {V : vv_} {Qr : qr_} {Qt : qt_} (hD : Mo_ D) (hV : Cl_ wd0 D V Qr Qt m_194) (hW : Wk_ V) (x1 : Int) (x2 : Int) (M : mm_) (h :
 (if x1 = 60 then
  (if x2 = 61 then
   V 164 [rr 3, ii x1, ii x2, ii 112, none] [] M
  else
   (if x1 = 62 then
    (if x2 = 61 then
     V 164 [rr 3, ii x1, ii x2, ii 113, none] [] M
    else
     V 128 [rr 3, ii x1, ii x2, none, none] [] M)
   else
    V 128 [rr 3, ii x1, ii x2, none, none] [] M))
 else
  (if x1 = 62 then
   (if x2 = 61 then
    V 164 [rr 3, ii x1, ii x2, ii 113, none] [] M
   else
    V 128 [rr 3, ii x1, ii x2, none, none] [] M)
  else
   V 128 [rr 3, ii x1, ii x2, none, none] [] M))) : V 94 [rr 3, ii x1, ii x2, none, none] [] M := bx_go hD (m := (g_194_49, m_194.2)) (Cl_sf z_194_49 hV) hW [(94, [3, 4]), (128, [3, 4]), (164, [4])] 16 h
theorem b_194b_128 {D : ca_} {V : vv_} {Qr : qr_} {Qt : qt_} (hD : Mo_ D) (hV : Cl_ wd0 D V Qr Qt m_194) (hW : Wk_ V) (x1 : Int) (x2 : Int) (M : mm_) (h :
 (if x1 = 45 then
  (if x2 = 62 then
   V 164 [rr 3, ii x1, ii x2, ii 114, none] [] M
  else
   (if x1 = 46 then
    (if x2 = 46 then
     V 164 [rr 3, ii x1, ii x2, ii 115, none] [] M
    else
     V 164 [rr 3, ii x1, ii x2, ii ((-1)), none] [] M)
   else
    V 164 [rr 3, ii x1, ii x2, ii ((-1)), none] [] M))
 else
  (if x1 = 46 then
   (if x2 = 46 then
    V 164 [rr 3, ii x1, ii x2, ii 115, none] [] M
   else
    V 164 [rr 3, ii x1, ii x2, ii ((-1)), none] [] M)
  else
   V 164 [rr 3, ii x1, ii x2, ii ((-1)), none] [] M))) : V 128 [rr 3, ii x1, ii x2, none, none] [] M := bx_go hD (m := (g_194_65, m_194.2)) (Cl_sf z_194_65 hV) hW [(94, [3, 4]), (128, [3, 4]), (164, [4])] 16 h
theorem b_194b_164 {D : ca_} {V : vv_} {Qr : qr_} {Qt : qt_} (hD : Mo_ D) (hV : Cl_ wd0 D V Qr Qt m_194) (hW : Wk_ V) (x1 : Int) (x2 : Int) (x3 : Int) (M : mm_) (h :
 (if x3 = (-1) then
  D 427 [.inr (.inr 1002), .inl (ic_ x1)] M (ri_ fun v1 M1 =>
   (if v1 < 0 then
    Qr [.inl 103] M1
   else
    Qr [.inl (w32 (200 + x1))] M1)) Qt
 else
  Qr [.inl x3] (up_ M 3 7 (w32 ((M 3 7) + 1))))) : V 164 [rr 3, ii x1, ii x2, ii x3, none] [] M := bx_go hD (m := (g_194_83, m_194.2)) (Cl_sf z_194_83 hV) hW [(94, [3, 4]), (128, [3, 4]), (164, [4])] 15 h
/-- X2_isSmall(I)Z -/
theorem b_195_0 {D : ca_} {V : vv_} {Qr : qr_} {Qt : qt_} (hD : Mo_ D) (hV : Cl_ wd0 D V Qr Qt m_195) (hW : Wk_ V) (x0 : Int) (M : mm_) (h :
 (if x0 < 97 then
  bl_ 0 ∧ Qr [.inl 0] M
 else
  (if x0 ≤ 122 then
   bl_ 1 ∧ Qr [.inl 1] M
  else
   bl_ 0 ∧ Qr [.inl 0] M))) : V 0 [ii x0] [] M := bx_go hD hV hW [] 9 h
/-- X2_word()I -/
theorem b_196a_0 {D : ca_} {V : vv_} {Qr : qr_} {Qt : qt_} (hD : Mo_ D) (hV : Cl_ wd0 D V Qr Qt m_196) (hW : Wk_ V)  (M : mm_) (h :
 V 5 [rr 2, ii (M 2 7), none, none, none, none, none, none] [] M) : V 0 [rr 2, none, none, none, none, none, none, none] [] M := bx_go hD hV hW [(5, [2, 3, 4, 5, 6, 7]), (80, [5, 6, 7]), (120, [])] 4 h
theorem b_196a_5 {D : ca_} {V : vv_} {Qr : qr_} {Qt : qt_} (hD : Mo_ D) (hV : Cl_ wd0 D V Qr Qt m_196) (hW : Wk_ V) (x1 : Int) (M : mm_) (h :
 D 193 [.inr (.inr 2), .inl (M 2 7)] M (ri_ fun v1 M1 =>
  D 195 [.inl v1] M1 (ri_ fun v2 M2 =>
   (if v2 = 0 then
    D 193 [.inr (.inr 2), .inl (M2 2 7)] M2 (ri_ fun v3 M3 =>
     D 197 [.inl v3] M3 (ri_ fun v4 M4 =>
      (if v4 = 0 then
       D 193 [.inr (.inr 2), .inl (M4 2 7)] M4 (ri_ fun v5 M5 =>
        (if v5 = 95 then
         V 5 [rr 2, ii x1, none, none, none, none, none, none] [] (up_ M5 2 7 (w32 ((M5 2 7) + 1)))
        else
         (if w32 ((M5 2 7) - x1) ≤ 10 then
          V 80 [rr 2, ii x1, ii (w32 ((M5 2 7) - x1)), ii 0, ii 1, none, none, none] [] M5
         else
          Qr [.inl 103] M5))) Qt
      else
       V 5 [rr 2, ii x1, none, none, none, none, none, none] [] (up_ M4 2 7 (w32 ((M4 2 7) + 1))))) Qt) Qt
   else
    V 5 [rr 2, ii x1, none, none, none, none, none, none] [] (up_ M2 2 7 (w32 ((M2 2 7) + 1))))) Qt) Qt) : V 5 [rr 2, ii x1, none, none, none, none, none, none] [] M := bx_go hD hV hW [(5, [2, 3, 4, 5, 6, 7]), (80, [5, 6, 7]), (120, [])] 31 h
theorem i_196 : inq_ 0 k_196 = true := by decide +kernel
theorem z_196_42 : Sf_ k_196 g_196_42 := Sf_of i_196 42 rfl
theorem b_196a_80 {D : ca_} {V : vv_} {Qr : qr_} {Qt : qt_} (hD : Mo_ D) (hV : Cl_ wd0 D V Qr Qt m_196) (hW : Wk_ V) (x1 : Int) (x2 : Int) (x3 : Int) (x4 : Int) (M : mm_) (h :
 D 420 [.inr (.inr 1001)] M (ri_ fun v1 M1 =>
  (if x4 < v1 then
   D 422 [.inr (.inr 1001), .inl 32, .inl x4] M1 (ri_ fun v2 M2 =>
    (if w32 (v2 - x4) = x2 then
     V 120 [rr 2, ii x1, ii x2, ii x3, ii x4, ii v2, ii 1, ii 0] [] M2
    else
     V 120 [rr 2, ii x1, ii x2, ii x3, ii x4, ii v2, ii 0, ii 0] [] M2)) Qt
  else
   Qr [.inl 100] M1)) Qt) : V 80 [rr 2, ii x1, ii x2, ii x3, ii x4, none, none, none] [] M := bx_go hD (m := (g_196_42, m_196.2)) (Cl_sf z_196_42 hV) hW [(5, [2, 3, 4, 5, 6, 7]), (80, [5, 6, 7]), (120, [])] 20 h
theorem z_196_62 : Sf_ k_196 g_196_62 := Sf_tr z_196_42 20 rfl
theorem b_196a_120 {D : ca_} {V : vv_} {Qr : qr_} {Qt : qt_} (hD : Mo_ D) (hV : Cl_ wd0 D V Qr Qt m_196) (hW : Wk_ V) (x1 : Int) (x2 : Int) (x3 : Int) (x4 : Int) (x5 : Int) (x6 : Int) (x7 : Int) (M : mm_) (h :
 (if x7 < x2 then
  (if x6 = 0 then
   (if x6 = 0 then
    V 80 [rr 2, ii x1, ii x2, ii (w32 (x3 + 1)), ii (w32 (x5 + 1)), none, none, none] [] M
   else
    Qr [.inl x3] M)
  else
   D 425 [.inr (.inr 1001), .inl (w32 (x4 + x7))] M (ri_ fun v1 M1 =>
    (0 ≤ w32 (x1 + x7) ∧ w32 (x1 + x7) < 5000) ∧ (-128 ≤ M1 69 (w32 (x1 + x7)) ∧ M1 69 (w32 (x1 + x7)) ≤ 127 →
     (if v1 = M1 69 (w32 (x1 + x7)) then
     V 120 [rr 2, ii x1, ii x2, ii x3, ii x4, ii x5, ii 1, ii (w32 (x7 + 1))] [] M1
    else
     V 120 [rr 2, ii x1, ii x2, ii x3, ii x4, ii x5, ii 0, ii (w32 (x7 + 1))] [] M1))) Qt)
 else
  (if x6 = 0 then
   V 80 [rr 2, ii x1, ii x2, ii (w32 (x3 + 1)), ii (w32 (x5 + 1)), none, none, none] [] M
  else
   Qr [.inl x3] M))) : V 120 [rr 2, ii x1, ii x2, ii x3, ii x4, ii x5, ii x6, ii x7] [] M := bx_go hD (m := (g_196_62, m_196.2)) (Cl_sf z_196_62 hV) hW [(5, [2, 3, 4, 5, 6, 7]), (80, [5, 6, 7]), (120, [])] 23 h
/-- X2_word()I -/
theorem b_196b_0 {D : ca_} {V : vv_} {Qr : qr_} {Qt : qt_} (hD : Mo_ D) (hV : Cl_ wd0 D V Qr Qt m_196) (hW : Wk_ V)  (M : mm_) (h :
 V 5 [rr 3, ii (M 3 7), none, none, none, none, none, none] [] M) : V 0 [rr 3, none, none, none, none, none, none, none] [] M := bx_go hD hV hW [(5, [2, 3, 4, 5, 6, 7]), (80, [5, 6, 7]), (120, [])] 4 h
theorem b_196b_5 {D : ca_} {V : vv_} {Qr : qr_} {Qt : qt_} (hD : Mo_ D) (hV : Cl_ wd0 D V Qr Qt m_196) (hW : Wk_ V) (x1 : Int) (M : mm_) (h :
 D 193 [.inr (.inr 3), .inl (M 3 7)] M (ri_ fun v1 M1 =>
  D 195 [.inl v1] M1 (ri_ fun v2 M2 =>
   (if v2 = 0 then
    D 193 [.inr (.inr 3), .inl (M2 3 7)] M2 (ri_ fun v3 M3 =>
     D 197 [.inl v3] M3 (ri_ fun v4 M4 =>
      (if v4 = 0 then
       D 193 [.inr (.inr 3), .inl (M4 3 7)] M4 (ri_ fun v5 M5 =>
        (if v5 = 95 then
         V 5 [rr 3, ii x1, none, none, none, none, none, none] [] (up_ M5 3 7 (w32 ((M5 3 7) + 1)))
        else
         (if w32 ((M5 3 7) - x1) ≤ 10 then
          V 80 [rr 3, ii x1, ii (w32 ((M5 3 7) - x1)), ii 0, ii 1, none, none, none] [] M5
         else
          Qr [.inl 103] M5))) Qt
      else
       V 5 [rr 3, ii x1, none, none, none, none, none, none] [] (up_ M4 3 7 (w32 ((M4 3 7) + 1))))) Qt) Qt
   else
    V 5 [rr 3, ii x1, none, none, none, none, none, none] [] (up_ M2 3 7 (w32 ((M2 3 7) + 1))))) Qt) Qt) : V 5 [rr 3, ii x1, none, none, none, none, none, none] [] M := bx_go hD hV hW [(5, [2, 3, 4, 5, 6, 7]), (80, [5, 6, 7]), (120, [])] 31 h
theorem b_196b_80 {D : ca_} {V : vv_} {Qr : qr_} {Qt : qt_} (hD : Mo_ D) (hV : Cl_ wd0 D V Qr Qt m_196) (hW : Wk_ V) (x1 : Int) (x2 : Int) (x3 : Int) (x4 : Int) (M : mm_) (h :
 D 420 [.inr (.inr 1001)] M (ri_ fun v1 M1 =>
  (if x4 < v1 then
   D 422 [.inr (.inr 1001), .inl 32, .inl x4] M1 (ri_ fun v2 M2 =>
    (if w32 (v2 - x4) = x2 then
     V 120 [rr 3, ii x1, ii x2, ii x3, ii x4, ii v2, ii 1, ii 0] [] M2
    else
     V 120 [rr 3, ii x1, ii x2, ii x3, ii x4, ii v2, ii 0, ii 0] [] M2)) Qt
  else
   Qr [.inl 100] M1)) Qt) : V 80 [rr 3, ii x1, ii x2, ii x3, ii x4, none, none, none] [] M := bx_go hD (m := (g_196_42, m_196.2)) (Cl_sf z_196_42 hV) hW [(5, [2, 3, 4, 5, 6, 7]), (80, [5, 6, 7]), (120, [])] 20 h
theorem b_196b_120 {D : ca_} {V : vv_} {Qr : qr_} {Qt : qt_} (hD : Mo_ D) (hV : Cl_ wd0 D V Qr Qt m_196) (hW : Wk_ V) (x1 : Int) (x2 : Int) (x3 : Int) (x4 : Int) (x5 : Int) (x6 : Int) (x7 : Int) (M : mm_) (h :
 (if x7 < x2 then
  (if x6 = 0 then
   (if x6 = 0 then
    V 80 [rr 3, ii x1, ii x2, ii (w32 (x3 + 1)), ii (w32 (x5 + 1)), none, none, none] [] M
   else
    Qr [.inl x3] M)
  else
   D 425 [.inr (.inr 1001), .inl (w32 (x4 + x7))] M (ri_ fun v1 M1 =>
    (0 ≤ w32 (x1 + x7) ∧ w32 (x1 + x7) < 5000) ∧ (-128 ≤ M1 74 (w32 (x1 + x7)) ∧ M1 74 (w32 (x1 + x7)) ≤ 127 →
     (if v1 = M1 74 (w32 (x1 + x7)) then
     V 120 [rr 3, ii x1, ii x2, ii x3, ii x4, ii x5, ii 1, ii (w32 (x7 + 1))] [] M1
    else
     V 120 [rr 3, ii x1, ii x2, ii x3, ii x4, ii x5, ii 0, ii (w32 (x7 + 1))] [] M1))) Qt)
 else
  (if x6 = 0 then
   V 80 [rr 3, ii x1, ii x2, ii (w32 (x3 + 1)), ii (w32 (x5 + 1)), none, none, none] [] M
  else
   Qr [.inl x3] M))) : V 120 [rr 3, ii x1, ii x2, ii x3, ii x4, ii x5, ii x6, ii x7] [] M := bx_go hD (m := (g_196_62, m_196.2)) (Cl_sf z_196_62 hV) hW [(5, [2, 3, 4, 5, 6, 7]), (80, [5, 6, 7]), (120, [])] 23 h
/-- X2_isDigit(I)Z -/
theorem b_197_0 {D : ca_} {V : vv_} {Qr : qr_} {Qt : qt_} (hD : Mo_ D) (hV : Cl_ wd0 D V Qr Qt m_197) (hW : Wk_ V) (x0 : Int) (M : mm_) (h :
 (if x0 < 48 then
  bl_ 0 ∧ Qr [.inl 0] M
 else
  (if x0 ≤ 57 then
   bl_ 1 ∧ Qr [.inl 1] M
  else
   bl_ 0 ∧ Qr [.inl 0] M))) : V 0 [ii x0] [] M := bx_go hD hV hW [] 9 h
/-- X2_number()I -/
theorem b_198a_0 {D : ca_} {V : vv_} {Qr : qr_} {Qt : qt_} (hD : Mo_ D) (hV : Cl_ wd0 D V Qr Qt m_198) (hW : Wk_ V)  (M : mm_) (h :
 V 7 [rr 2, ii (M 2 7), ii 0] [] M) : V 0 [rr 2, none, none] [] M := bx_go hD hV hW [(7, [])] 6 h
theorem b_198a_7 {D : ca_} {V : vv_} {Qr : qr_} {Qt : qt_} (hD : Mo_ D) (hV : Cl_ wd0 D V Qr Qt m_198) (hW : Wk_ V) (x1 : Int) (x2 : Int) (M : mm_) (h :
 D 193 [.inr (.inr 2), .inl (M 2 7)] M (ri_ fun v1 M1 =>
  D 197 [.inl v1] M1 (ri_ fun v2 M2 =>
   (if v2 = 0 then
    (0 ≤ M2 2 6 ∧ M2 2 6 < 1202) ∧
     (if w32 ((M2 2 7) - x1) ≤ 9 then
     D 193 [.inr (.inr 2), .inl (M2 2 7)] (up_ M2 73 (M2 2 6) x2) (ri_ fun v3 M3 =>
      D 195 [.inl v3] M3 (ri_ fun v4 M4 =>
       (if v4 = 0 then
        D 193 [.inr (.inr 2), .inl (M4 2 7)] M4 (ri_ fun v5 M5 =>
         (if v5 = 95 then
          Qr [.inl 103] M5
         else
          Qr [.inl 101] M5)) Qt
       else
        Qr [.inl 103] M4)) Qt) Qt
    else
     Qr [.inl 103] (up_ M2 73 (M2 2 6) x2))
   else
    (if w32 ((M2 2 7) - x1) < 9 then
     D 193 [.inr (.inr 2), .inl (M2 2 7)] M2 (ri_ fun v6 M6 =>
      V 7 [rr 2, ii x1, ii (w32 ((w32 ((w32 (10 * x2)) + v6)) - 48))] [] (up_ M6 2 7 (w32 ((M6 2 7) + 1)))) Qt
    else
     V 7 [rr 2, ii x1, ii x2] [] (up_ M2 2 7 (w32 ((M2 2 7) + 1)))))) Qt) Qt) : V 7 [rr 2, ii x1, ii x2] [] M := bx_go hD hV hW [(7, [])] 33 h
/-- X2_number()I -/
theorem b_198b_0 {D : ca_} {V : vv_} {Qr : qr_} {Qt : qt_} (hD : Mo_ D) (hV : Cl_ wd0 D V Qr Qt m_198) (hW : Wk_ V)  (M : mm_) (h :
 V 7 [rr 3, ii (M 3 7), ii 0] [] M) : V 0 [rr 3, none, none] [] M := bx_go hD hV hW [(7, [])] 6 h
theorem b_198b_7 {D : ca_} {V : vv_} {Qr : qr_} {Qt : qt_} (hD : Mo_ D) (hV : Cl_ wd0 D V Qr Qt m_198) (hW : Wk_ V) (x1 : Int) (x2 : Int) (M : mm_) (h :
 D 193 [.inr (.inr 3), .inl (M 3 7)] M (ri_ fun v1 M1 =>
  D 197 [.inl v1] M1 (ri_ fun v2 M2 =>
   (if v2 = 0 then
    (0 ≤ M2 3 6 ∧ M2 3 6 < 1202) ∧
     (if w32 ((M2 3 7) - x1) ≤ 9 then
     D 193 [.inr (.inr 3), .inl (M2 3 7)] (up_ M2 78 (M2 3 6) x2) (ri_ fun v3 M3 =>
      D 195 [.inl v3] M3 (ri_ fun v4 M4 =>
       (if v4 = 0 then
        D 193 [.inr (.inr 3), .inl (M4 3 7)] M4 (ri_ fun v5 M5 =>
         (if v5 = 95 then
          Qr [.inl 103] M5
         else
          Qr [.inl 101] M5)) Qt
       else
        Qr [.inl 103] M4)) Qt) Qt
    else
     Qr [.inl 103] (up_ M2 78 (M2 3 6) x2))
   else
    (if w32 ((M2 3 7) - x1) < 9 then
     D 193 [.inr (.inr 3), .inl (M2 3 7)] M2 (ri_ fun v6 M6 =>
      V 7 [rr 3, ii x1, ii (w32 ((w32 ((w32 (10 * x2)) + v6)) - 48))] [] (up_ M6 3 7 (w32 ((M6 3 7) + 1)))) Qt
    else
     V 7 [rr 3, ii x1, ii x2] [] (up_ M2 3 7 (w32 ((M2 3 7) + 1)))))) Qt) Qt) : V 7 [rr 3, ii x1, ii x2] [] M := bx_go hD hV hW [(7, [])] 33 h
/-- X2_areLike(II)Z -/
theorem b_199a_0 {D : ca_} {V : vv_} {Qr : qr_} {Qt : qt_} (hD : Mo_ D) (hV : Cl_ wd0 D V Qr Qt m_199) (hW : Wk_ V) (x1 : Int) (x2 : Int) (M : mm_) (h :
 (0 ≤ x1 ∧ x1 < 1202) ∧
  (0 ≤ x1 ∧ x1 < 1202) ∧
  (0 ≤ x2 ∧ x2 < 1202) ∧
  (0 ≤ x2 ∧ x2 < 1202) ∧
  (if w32 ((M 72 x1) - (M 71 x1)) = w32 ((M 72 x2) - (M 71 x2)) then
  V 38 [rr 2, ii x1, ii x2, ii 1, ii 0] [] M
 else
  V 38 [rr 2, ii x1, ii x2, ii 0, ii 0] [] M)) : V 0 [rr 2, ii x1, ii x2, none, none] [] M := bx_go hD hV hW [(38, [])] 25 h
theorem i_199 : inq_ 0 k_199 = true := by decide +kernel
theorem z_199_25 : Sf_ k_199 g_199_25 := Sf_of i_199 25 rfl
theorem b_199a_38 {D : ca_} {V : vv_} {Qr : qr_} {Qt : qt_} (hD : Mo_ D) (hV : Cl_ wd0 D V Qr Qt m_199) (hW : Wk_ V) (x1 : Int) (x2 : Int) (x3 : Int) (x4 : Int) (M : mm_) (h :
 (0 ≤ x1 ∧ x1 < 1202) ∧
  (0 ≤ x1 ∧ x1 < 1202) ∧
  (if x4 < w32 ((M 72 x1) - (M 71 x1)) then
  (if x3 = 0 then
   bl_ x3 ∧ Qr [.inl x3] M
  else
   (0 ≤ x1 ∧ x1 < 1202) ∧
    (0 ≤ w32 ((M 71 x1) + x4) ∧ w32 ((M 71 x1) + x4) < 5000) ∧ (-128 ≤ M 69 (w32 ((M 71 x1) + x4)) ∧ M 69 (w32 ((M 71 x1) + x4)) ≤ 127 →
    (0 ≤ x2 ∧ x2 < 1202) ∧
    (0 ≤ w32 ((M 71 x2) + x4) ∧ w32 ((M 71 x2) + x4) < 5000) ∧ (-128 ≤ M 69 (w32 ((M 71 x2) + x4)) ∧ M 69 (w32 ((M 71 x2) + x4)) ≤ 127 →
    (if M 69 (w32 ((M 71 x1) + x4)) = M 69 (w32 ((M 71 x2) + x4)) then
    V 38 [rr 2, ii x1, ii x2, ii 1, ii (w32 (x4 + 1))] [] M
   else
    V 38 [rr 2, ii x1, ii x2, ii 0, ii (w32 (x4 + 1))] [] M))))
 else
  bl_ x3 ∧ Qr [.inl x3] M)) : V 38 [rr 2, ii x1, ii x2, ii x3, ii x4] [] M := bx_go hD (m := (g_199_25, m_199.2)) (Cl_sf z_199_25 hV) hW [(38, [])] 38 h
/-- X2_areLike(II)Z -/
theorem b_199b_0 {D : ca_} {V : vv_} {Qr : qr_} {Qt : qt_} (hD : Mo_ D) (hV : Cl_ wd0 D V Qr Qt m_199) (hW : Wk_ V) (x1 : Int) (x2 : Int) (M : mm_) (h :
 (0 ≤ x1 ∧ x1 < 1202) ∧
  (0 ≤ x1 ∧ x1 < 1202) ∧
  (0 ≤ x2 ∧ x2 < 1202) ∧
  (0 ≤ x2 ∧ x2 < 1202) ∧
  (if w32 ((M 77 x1) - (M 76 x1)) = w32 ((M 77 x2) - (M 76 x2)) then
  V 38 [rr 3, ii x1, ii x2, ii 1, ii 0] [] M
 else
  V 38 [rr 3, ii x1, ii x2, ii 0, ii 0] [] M)) : V 0 [rr 3, ii x1, ii x2, none, none] [] M := bx_go hD hV hW [(38, [])] 25 h
theorem b_199b_38 {D : ca_} {V : vv_} {Qr : qr_} {Qt : qt_} (hD : Mo_ D) (hV : Cl_ wd0 D V Qr Qt m_199) (hW : Wk_ V) (x1 : Int) (x2 : Int) (x3 : Int) (x4 : Int) (M : mm_) (h :
 (0 ≤ x1 ∧ x1 < 1202) ∧
  (0 ≤ x1 ∧ x1 < 1202) ∧
  (if x4 < w32 ((M 77 x1) - (M 76 x1)) then
  (if x3 = 0 then
   bl_ x3 ∧ Qr [.inl x3] M
  else
   (0 ≤ x1 ∧ x1 < 1202) ∧
    (0 ≤ w32 ((M 76 x1) + x4) ∧ w32 ((M 76 x1) + x4) < 5000) ∧ (-128 ≤ M 74 (w32 ((M 76 x1) + x4)) ∧ M 74 (w32 ((M 76 x1) + x4)) ≤ 127 →
    (0 ≤ x2 ∧ x2 < 1202) ∧
    (0 ≤ w32 ((M 76 x2) + x4) ∧ w32 ((M 76 x2) + x4) < 5000) ∧ (-128 ≤ M 74 (w32 ((M 76 x2) + x4)) ∧ M 74 (w32 ((M 76 x2) + x4)) ≤ 127 →
    (if M 74 (w32 ((M 76 x1) + x4)) = M 74 (w32 ((M 76 x2) + x4)) then
    V 38 [rr 3, ii x1, ii x2, ii 1, ii (w32 (x4 + 1))] [] M
   else
    V 38 [rr 3, ii x1, ii x2, ii 0, ii (w32 (x4 + 1))] [] M))))
 else
  bl_ x3 ∧ Qr [.inl x3] M)) : V 38 [rr 3, ii x1, ii x2, ii x3, ii x4] [] M := bx_go hD (m := (g_199_25, m_199.2)) (Cl_sf z_199_25 hV) hW [(38, [])] 38 h
/-- X3_carries(II)Z -/
theorem b_205a_0 {D : ca_} {V : vv_} {Qr : qr_} {Qt : qt_} (hD : Mo_ D) (hV : Cl_ wd0 D V Qr Qt m_205) (hW : Wk_ V) (x1 : Int) (x2 : Int) (M : mm_) (h :
 (0 ≤ x1 ∧ x1 < 10) ∧
  (if an_ (sr_ (M 86 x1) x2) 1 = 0 then
  bl_ 0 ∧ Qr [.inl 0] M
 else
  bl_ 1 ∧ Qr [.inl 1] M)) : V 0 [rr 4, ii x1, ii x2] [] M := bx_go hD hV hW [] 12 h
/-- X3_carries(II)Z -/
theorem b_205b_0 {D : ca_} {V : vv_} {Qr : qr_} {Qt : qt_} (hD : Mo_ D) (hV : Cl_ wd0 D V Qr Qt m_205) (hW : Wk_ V) (x1 : Int) (x2 : Int) (M : mm_) (h :
 (0 ≤ x1 ∧ x1 < 10) ∧
  (if an_ (sr_ (M 119 x1) x2) 1 = 0 then
  bl_ 0 ∧ Qr [.inl 0] M
 else
  bl_ 1 ∧ Qr [.inl 1] M)) : V 0 [rr 5, ii x1, ii x2] [] M := bx_go hD hV hW [] 12 h
/-- X3_put(I)V -/
theorem b_207_0 {D : ca_} {V : vv_} {Qr : qr_} {Qt : qt_} (hD : Mo_ D) (hV : Cl_ wd0 D V Qr Qt m_207) (hW : Wk_ V) (x1 : Int) (M : mm_) (h :
 (0 ≤ M 5 3 ∧ M 5 3 < 12000) ∧
  Qr [] (up_ (up_ M 142 (M 5 3) x1) 5 3 (w32 ((M 5 3) + 1)))) : V 0 [rr 5, ii x1] [] M := bx_go hD hV hW [] 13 h
/-- J4_length()I -/
theorem b_420a_0 {D : ca_} {V : vv_} {Qr : qr_} {Qt : qt_} (hD : Mo_ D) (hV : Cl_ wd0 D V Qr Qt m_420) (hW : Wk_ V)  (M : mm_) (h :
 D 421 [.inr (.inr 1001)] M (ri_ fun v1 M1 =>
  Qr [.inl (sr_ 257 v1)] M1) Qt) : V 0 [rr 1001] [] M := bx_go hD hV hW [] 7 h
/-- J4_length()I -/
theorem b_420b_0 {D : ca_} {V : vv_} {Qr : qr_} {Qt : qt_} (hD : Mo_ D) (hV : Cl_ wd0 D V Qr Qt m_420) (hW : Wk_ V)  (M : mm_) (h :
 D 421 [.inr (.inr 1002)] M (ri_ fun v1 M1 =>
  Qr [.inl (sr_ 15 v1)] M1) Qt) : V 0 [rr 1002] [] M := bx_go hD hV hW [] 7 h
/-- J4_coder()B -/
theorem b_421a_0 {D : ca_} {V : vv_} {Qr : qr_} {Qt : qt_} (hD : Mo_ D) (hV : Cl_ wd0 D V Qr Qt m_421) (hW : Wk_ V)  (M : mm_) (h :
 (if (1 : Int) = 0 then
  (-128 ≤ 1 ∧ 1 ≤ 127) ∧ Qr [.inl 1] M
 else
  (-128 ≤ M 1001 1 ∧ M 1001 1 ≤ 127) ∧ Qr [.inl (M 1001 1)] M)) : V 0 [rr 1001] [] M := bx_go hD hV hW [] 6 h
/-- J4_coder()B -/
theorem b_421b_0 {D : ca_} {V : vv_} {Qr : qr_} {Qt : qt_} (hD : Mo_ D) (hV : Cl_ wd0 D V Qr Qt m_421) (hW : Wk_ V)  (M : mm_) (h :
 (if (1 : Int) = 0 then
  (-128 ≤ 1 ∧ 1 ≤ 127) ∧ Qr [.inl 1] M
 else
  (-128 ≤ M 1002 1 ∧ M 1002 1 ≤ 127) ∧ Qr [.inl (M 1002 1)] M)) : V 0 [rr 1002] [] M := bx_go hD hV hW [] 6 h
/-- J4_indexOf(II)I -/
theorem b_422a_0 {D : ca_} {V : vv_} {Qr : qr_} {Qt : qt_} (hD : Mo_ D) (hV : Cl_ wd0 D V Qr Qt m_422) (hW : Wk_ V) (x1 : Int) (x2 : Int) (M : mm_) (h :
 D 423 [.inr (.inr 1001)] M (ri_ fun v1 M1 =>
  (if v1 = 0 then
   D 420 [.inr (.inr 1001)] M1 (ri_ fun v2 M2 =>
    False) Qt
  else
   D 420 [.inr (.inr 1001)] M1 (ri_ fun v3 M3 =>
    D 430 [.inr (.inr 1011), .inl x1, .inl x2, .inl v3] M3 (ri_ fun v4 M4 =>
     Qr [.inl v4] M4) Qt) Qt)) Qt) : V 0 [rr 1001, ii x1, ii x2] [] M := bx_go hD hV hW [] 12 h
/-- J4_indexOf(II)I -/
theorem b_422b_0 {D : ca_} {V : vv_} {Qr : qr_} {Qt : qt_} (hD : Mo_ D) (hV : Cl_ wd0 D V Qr Qt m_422) (hW : Wk_ V) (x1 : Int) (x2 : Int) (M : mm_) (h :
 D 423 [.inr (.inr 1002)] M (ri_ fun v1 M1 =>
  (if v1 = 0 then
   D 420 [.inr (.inr 1002)] M1 (ri_ fun v2 M2 =>
    False) Qt
  else
   D 420 [.inr (.inr 1002)] M1 (ri_ fun v3 M3 =>
    D 430 [.inr (.inr 1012), .inl x1, .inl x2, .inl v3] M3 (ri_ fun v4 M4 =>
     Qr [.inl v4] M4) Qt) Qt)) Qt) : V 0 [rr 1002, ii x1, ii x2] [] M := bx_go hD hV hW [] 12 h
/-- J4_isLatin1()Z -/
theorem b_423a_0 {D : ca_} {V : vv_} {Qr : qr_} {Qt : qt_} (hD : Mo_ D) (hV : Cl_ wd0 D V Qr Qt m_423) (hW : Wk_ V)  (M : mm_) (h :
 (if (1 : Int) = 0 then
  bl_ 0 ∧ Qr [.inl 0] M
 else
  (if M 1001 1 = 0 then
   bl_ 1 ∧ Qr [.inl 1] M
  else
   bl_ 0 ∧ Qr [.inl 0] M))) : V 0 [rr 1001] [] M := bx_go hD hV hW [] 8 h
/-- J4_isLatin1()Z -/
theorem b_423b_0 {D : ca_} {V : vv_} {Qr : qr_} {Qt : qt_} (hD : Mo_ D) (hV : Cl_ wd0 D V Qr Qt m_423) (hW : Wk_ V)  (M : mm_) (h :
 (if (1 : Int) = 0 then
  bl_ 0 ∧ Qr [.inl 0] M
 else
  (if M 1002 1 = 0 then
   bl_ 1 ∧ Qr [.inl 1] M
  else
   bl_ 0 ∧ Qr [.inl 0] M))) : V 0 [rr 1002] [] M := bx_go hD hV hW [] 8 h
/-- J4_charAt(I)C -/
theorem b_425_0 {D : ca_} {V : vv_} {Qr : qr_} {Qt : qt_} (hD : Mo_ D) (hV : Cl_ wd0 D V Qr Qt m_425) (hW : Wk_ V) (x1 : Int) (M : mm_) (h :
 D 423 [.inr (.inr 1001)] M (ri_ fun v1 M1 =>
  (if v1 = 0 then
   False
  else
   D 433 [.inr (.inr 1011), .inl x1] M1 (ri_ fun v2 M2 =>
    (0 ≤ v2 ∧ v2 ≤ 65535) ∧ Qr [.inl v2] M2) Qt)) Qt) : V 0 [rr 1001, ii x1] [] M := bx_go hD hV hW [] 8 h
/-- J4_checkIndex(II)V -/
theorem b_426_0 {D : ca_} {V : vv_} {Qr : qr_} {Qt : qt_} (hD : Mo_ D) (hV : Cl_ wd0 D V Qr Qt m_426) (hW : Wk_ V) (x0 : Int) (x1 : Int) (M : mm_) (h :
 D 437 [.inl x0, .inl x1, .inr (.inr 1999)] M (ri_ fun v1 M1 =>
  Qr [] M1) Qt) : V 0 [ii x0, ii x1] [] M := bx_go hD hV hW [] 6 h
/-- J4_indexOf_2(I)I -/
theorem b_427_0 {D : ca_} {V : vv_} {Qr : qr_} {Qt : qt_} (hD : Mo_ D) (hV : Cl_ wd0 D V Qr Qt m_427) (hW : Wk_ V) (x1 : Int) (M : mm_) (h :
 D 422 [.inr (.inr 1002), .inl x1, .inl 0] M (ri_ fun v1 M1 =>
  Qr [.inl v1] M1) Qt) : V 0 [rr 1002, ii x1] [] M := bx_go hD hV hW [] 5 h
/-- J5_indexOf([BIII)I -/
theorem b_430a_0 {D : ca_} {V : vv_} {Qr : qr_} {Qt : qt_} (hD : Mo_ D) (hV : Cl_ wd0 D V Qr Qt m_430) (hW : Wk_ V) (x1 : Int) (x2 : Int) (x3 : Int) (M : mm_) (h :
 D 431 [.inl x1] M (ri_ fun v1 M1 =>
  (if v1 = 0 then
   Qr [.inl ((-1))] M1
  else
   (if (if x2 < 0 then 0 else x2) < (if 257 < x3 then 257 else x3) then
    D 432 [.inr (.inr 1011), .inl x1, .inl (if x2 < 0 then 0 else x2), .inl (if 257 < x3 then 257 else x3)] M1 (ri_ fun v2 M2 =>
     Qr [.inl v2] M2) Qt
   else
    Qr [.inl ((-1))] M1))) Qt) : V 0 [rr 1011, ii x1, ii x2, ii x3] [] M := bx_go hD hV hW [] 21 h
/-- J5_indexOf([BIII)I -/
theorem b_430b_0 {D : ca_} {V : vv_} {Qr : qr_} {Qt : qt_} (hD : Mo_ D) (hV : Cl_ wd0 D V Qr Qt m_430) (hW : Wk_ V) (x1 : Int) (x2 : Int) (x3 : Int) (M : mm_) (h :
 D 431 [.inl x1] M (ri_ fun v1 M1 =>
  (if v1 = 0 then
   Qr [.inl ((-1))] M1
  else
   (if (if x2 < 0 then 0 else x2) < (if 15 < x3 then 15 else x3) then
    D 432 [.inr (.inr 1012), .inl x1, .inl (if x2 < 0 then 0 else x2), .inl (if 15 < x3 then 15 else x3)] M1 (ri_ fun v2 M2 =>
     Qr [.inl v2] M2) Qt
   else
    Qr [.inl ((-1))] M1))) Qt) : V 0 [rr 1012, ii x1, ii x2, ii x3] [] M := bx_go hD hV hW [] 21 h
/-- J5_canEncode(I)Z -/
theorem b_431_0 {D : ca_} {V : vv_} {Qr : qr_} {Qt : qt_} (hD : Mo_ D) (hV : Cl_ wd0 D V Qr Qt m_431) (hW : Wk_ V) (x0 : Int) (M : mm_) (h :
 (if x0 < 0 then
  bl_ 0 ∧ Qr [.inl 0] M
 else
  (if x0 ≤ 255 then
   bl_ 1 ∧ Qr [.inl 1] M
  else
   bl_ 0 ∧ Qr [.inl 0] M))) : V 0 [ii x0] [] M := bx_go hD hV hW [] 8 h
/-- J5_indexOfChar([BIII)I -/
theorem b_432a_0 {D : ca_} {V : vv_} {Qr : qr_} {Qt : qt_} (hD : Mo_ D) (hV : Cl_ wd0 D V Qr Qt m_432) (hW : Wk_ V) (x1 : Int) (x2 : Int) (x3 : Int) (M : mm_) (h :
 V 7 [rr 1011, ii x1, ii x2, ii x3, ii (ib_ x1), ii x2] [] M) : V 0 [rr 1011, ii x1, ii x2, ii x3, none, none] [] M := bx_go hD hV hW [(7, [])] 6 h
theorem b_432a_7 {D : ca_} {V : vv_} {Qr : qr_} {Qt : qt_} (hD : Mo_ D) (hV : Cl_ wd0 D V Qr Qt m_432) (hW : Wk_ V) (x1 : Int) (x2 : Int) (x3 : Int) (x4 : Int) (x5 : Int) (M : mm_) (h :
 (if x5 < x3 then
  (0 ≤ x5 ∧ x5 < 257) ∧
   (if M 1011 x5 = x4 then
   Qr [.inl x5] M
  else
   V 7 [rr 1011, ii x1, ii x2, ii x3, ii x4, ii (w32 (x5 + 1))] [] M)
 else
  Qr [.inl ((-1))] M)) : V 7 [rr 1011, ii x1, ii x2, ii x3, ii x4, ii x5] [] M := bx_go hD hV hW [(7, [])] 11 h
/-- J5_indexOfChar([BIII)I -/
theorem b_432b_0 {D : ca_} {V : vv_} {Qr : qr_} {Qt : qt_} (hD : Mo_ D) (hV : Cl_ wd0 D V Qr Qt m_432) (hW : Wk_ V) (x1 : Int) (x2 : Int) (x3 : Int) (M : mm_) (h :
 V 7 [rr 1012, ii x1, ii x2, ii x3, ii (ib_ x1), ii x2] [] M) : V 0 [rr 1012, ii x1, ii x2, ii x3, none, none] [] M := bx_go hD hV hW [(7, [])] 6 h
theorem b_432b_7 {D : ca_} {V : vv_} {Qr : qr_} {Qt : qt_} (hD : Mo_ D) (hV : Cl_ wd0 D V Qr Qt m_432) (hW : Wk_ V) (x1 : Int) (x2 : Int) (x3 : Int) (x4 : Int) (x5 : Int) (M : mm_) (h :
 (if x5 < x3 then
  (0 ≤ x5 ∧ x5 < 15) ∧
   (if M 1012 x5 = x4 then
   Qr [.inl x5] M
  else
   V 7 [rr 1012, ii x1, ii x2, ii x3, ii x4, ii (w32 (x5 + 1))] [] M)
 else
  Qr [.inl ((-1))] M)) : V 7 [rr 1012, ii x1, ii x2, ii x3, ii x4, ii x5] [] M := bx_go hD hV hW [(7, [])] 11 h
/-- J5_charAt([BI)C -/
theorem b_433_0 {D : ca_} {V : vv_} {Qr : qr_} {Qt : qt_} (hD : Mo_ D) (hV : Cl_ wd0 D V Qr Qt m_433) (hW : Wk_ V) (x1 : Int) (M : mm_) (h :
 D 426 [.inl x1, .inl 257] M (rv_ fun M1 =>
  (0 ≤ x1 ∧ x1 < 257) ∧
   (0 ≤ ic_ (an_ (M1 1011 x1) 255) ∧ ic_ (an_ (M1 1011 x1) 255) ≤ 65535) ∧ Qr [.inl (ic_ (an_ (M1 1011 x1) 255))] M1) Qt) : V 0 [rr 1011, ii x1] [] M := bx_go hD hV hW [] 11 h
/-- J6_checkIndex(IILjava/util/function/BiFunction;)I -/
theorem b_437_0 {D : ca_} {V : vv_} {Qr : qr_} {Qt : qt_} (hD : Mo_ D) (hV : Cl_ wd0 D V Qr Qt m_437) (hW : Wk_ V) (x0 : Int) (x1 : Int) (M : mm_) (h :
 (if x0 < 0 then
  False
 else
  (if x0 < x1 then
   Qr [.inl x0] M
  else
   False))) : V 0 [ii x0, ii x1, rr 1999] [] M := bx_go hD hV hW [] 9 h

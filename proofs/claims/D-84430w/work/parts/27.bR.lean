/-! block lemmas -/
set_option maxRecDepth 100000
/-- X1_reads([BILExchangeHouse$Plan;)I -/
theorem b_101_0 {D : ca_} {V : vv_} {Qr : qr_} {Qt : qt_} (hD : Mo_ D) (hV : Cl_ wd0 D V Qr Qt m_101) (hW : Wk_ V) (x2 : Int) (M : mm_) (h :
 5 = 5 ∧ (5 : Int) = 5 ∧
  (5 : Int) = 5 ∧
  (5 : Int) = 5 ∧
  (5 : Int) = 5 ∧
  (5 : Int) = 5 ∧
  (5 : Int) = 5 ∧
  bl_ 0 ∧ D 191 [.inr (.inr 2), .inr (.inr 9), .inl x2] (up_ (up_ (up_ (up_ (up_ (up_ (up_ (up_ (up_ (up_ M 1 2 5) 5 0 0) 5 1 0) 5 2 0) 5 3 0) 5 4 0) 5 36 0) 1 4 0) 1 5 ((-1))) 1 9 0) (rv_ fun M1 =>
  bl_ 0 ∧ D 102 [.inr (.inr 1)] (up_ M1 1 8 0) (rv_ fun M2 =>
   bl_ 1 ∧ V 96 [rr 1, rr 9, ii x2, rr 5, none] [] (up_ (up_ M2 1 9 1) 1 32 0)) (fun r M9 => (r = 7 ∨ r = 8) ∧ V 173 [rr 1, rr 9, ii x2, rr 5, none] [.inr (.inr r)] M9)) Qt) : V 0 [rr 1, rr 9, ii x2, rr 5, none] [] M := bx_go hD hV hW [(96, [4]), (173, [4])] 53 h
theorem i_101 : inq_ 0 k_101 = true := by decide +kernel
theorem z_101_52 : Sf_ k_101 g_101_52 := Sf_of i_101 52 rfl
theorem b_101_96 {D : ca_} {V : vv_} {Qr : qr_} {Qt : qt_} (hD : Mo_ D) (hV : Cl_ wd0 D V Qr Qt m_101) (hW : Wk_ V) (x2 : Int) (M : mm_) (h :
 M 1 2 = 5 ∧
  (if M 1 32 < M 5 1 then
  (0 ≤ M 1 32 ∧ M 1 32 < 10) ∧
   D 122 [.inr (.inr 1)] (up_ M 1 3 (M 55 (M 1 32))) (rv_ fun M3 =>
   V 96 [rr 1, rr 9, ii x2, rr 5, none] [] M3) (fun r M9 => (r = 7 ∨ r = 8) ∧ V 173 [rr 1, rr 9, ii x2, rr 5, none] [.inr (.inr r)] M9)
 else
  bl_ 0 ∧ bl_ 1 ∧ D 102 [.inr (.inr 1)] (up_ (up_ (up_ (up_ (up_ M 1 9 0) 1 8 1) 1 21 0) 1 22 0) 1 23 0) (rv_ fun M1 =>
   (if M1 1 4 = 0 then
    D 179 [.inr (.inr 1)] M1 (rv_ fun M2 =>
     Qr [.inl (M2 1 4)] M2) (fun r M9 => (r = 7 ∨ r = 8) ∧ V 173 [rr 1, rr 9, ii x2, rr 5, none] [.inr (.inr r)] M9)
   else
    Qr [.inl (M1 1 4)] M1)) (fun r M9 => (r = 7 ∨ r = 8) ∧ V 173 [rr 1, rr 9, ii x2, rr 5, none] [.inr (.inr r)] M9))) : V 96 [rr 1, rr 9, ii x2, rr 5, none] [] M := bx_go hD (m := (g_101_52, m_101.2)) (Cl_sf z_101_52 hV) hW [(96, [4]), (173, [4])] 32 h
theorem z_101_91 : Sf_ k_101 g_101_91 := Sf_tr z_101_52 39 rfl
theorem b_101_173_7 {D : ca_} {V : vv_} {Qr : qr_} {Qt : qt_} (hD : Mo_ D) (hV : Cl_ wd0 D V Qr Qt m_101) (hW : Wk_ V) (x2 : Int) (M : mm_) (h :
 Qr [.inl (M 1 4)] M) : V 173 [rr 1, rr 9, ii x2, rr 5, none] [.inr (.inr 7)] M := bx_go hD (m := (g_101_91, m_101.2)) (Cl_sf z_101_91 hV) hW [(96, [4]), (173, [4])] 4 h
theorem b_101_173_8 {D : ca_} {V : vv_} {Qr : qr_} {Qt : qt_} (hD : Mo_ D) (hV : Cl_ wd0 D V Qr Qt m_101) (hW : Wk_ V) (x2 : Int) (M : mm_) (h :
 Qr [.inl (M 1 4)] M) : V 173 [rr 1, rr 9, ii x2, rr 5, none] [.inr (.inr 8)] M := bx_go hD (m := (g_101_91, m_101.2)) (Cl_sf z_101_91 hV) hW [(96, [4]), (173, [4])] 4 h
/-- X1_goesThrough()V -/
theorem b_102_0 {D : ca_} {V : vv_} {Qr : qr_} {Qt : qt_} (hD : Mo_ D) (hV : Cl_ wd0 D V Qr Qt m_102) (hW : Wk_ V)  (M : mm_) (h :
 V 25 [rr 1] [] (up_ (up_ (up_ (up_ (up_ M 1 3 0) 1 6 0) 1 31 0) 1 32 0) 1 33 0)) : V 0 [rr 1] [] M := bx_go hD hV hW [(25, [])] 16 h
theorem i_102 : inq_ 0 k_102 = true := by decide +kernel
theorem z_102_15 : Sf_ k_102 g_102_15 := Sf_of i_102 15 rfl
theorem b_102_25 {D : ca_} {V : vv_} {Qr : qr_} {Qt : qt_} (hD : Mo_ D) (hV : Cl_ wd0 D V Qr Qt m_102) (hW : Wk_ V)  (M : mm_) (h :
 D 103 [.inr (.inr 1), .inl 0] M (ri_ fun v1 M1 =>
  (if v1 = 0 then
   D 103 [.inr (.inr 1), .inl 1] M1 (ri_ fun v2 M2 =>
    (if v2 = 0 then
     D 103 [.inr (.inr 1), .inl 2] M2 (ri_ fun v3 M3 =>
      (if v3 = 0 then
       D 109 [.inr (.inr 1)] M3 (rf_r fun v4 M4 =>
        (if v4 = 1999 then False else Qt v4 M4)) Qt
      else
       D 126 [.inr (.inr 1)] M3 (rv_ fun M5 =>
        D 103 [.inr (.inr 1), .inl 102] M5 (ri_ fun v5 M6 =>
         (if v5 = 0 then
          V 25 [rr 1] [] M6
         else
          Qr [] M6)) Qt) Qt)) Qt
    else
     D 122 [.inr (.inr 1)] M2 (rv_ fun M7 =>
      D 103 [.inr (.inr 1), .inl 102] M7 (ri_ fun v6 M8 =>
       (if v6 = 0 then
        V 25 [rr 1] [] M8
       else
        Qr [] M8)) Qt) Qt)) Qt
  else
   D 104 [.inr (.inr 1)] M1 (rv_ fun M9 =>
    D 103 [.inr (.inr 1), .inl 102] M9 (ri_ fun v7 M10 =>
     (if v7 = 0 then
      V 25 [rr 1] [] M10
     else
      Qr [] M10)) Qt) Qt)) Qt) : V 25 [rr 1] [] M := bx_go hD (m := (g_102_15, m_102.2)) (Cl_sf z_102_15 hV) hW [(25, [])] 20 h
/-- X1_is(I)Z -/
theorem b_103_0 {D : ca_} {V : vv_} {Qr : qr_} {Qt : qt_} (hD : Mo_ D) (hV : Cl_ wd0 D V Qr Qt m_103) (hW : Wk_ V) (x1 : Int) (M : mm_) (h :
 (0 ≤ M 1 3 ∧ M 1 3 < 1202) ∧
  (if M 70 (M 1 3) = x1 then
  bl_ 1 ∧ Qr [.inl 1] M
 else
  bl_ 0 ∧ Qr [.inl 0] M)) : V 0 [rr 1, ii x1] [] M := bx_go hD hV hW [] 11 h
/-- X1_signals()V -/
theorem b_104_0 {D : ca_} {V : vv_} {Qr : qr_} {Qt : qt_} (hD : Mo_ D) (hV : Cl_ wd0 D V Qr Qt m_104) (hW : Wk_ V)  (M : mm_) (h :
 D 105 [.inr (.inr 1)] M (rv_ fun M1 =>
  D 107 [.inr (.inr 1)] M1 (ri_ fun v1 M2 =>
   (bl_ (M2 1 8) → (if M2 1 8 = 0 then
    M2 1 2 = 5 ∧
     (if M2 5 0 = 20 then
     D 110 [.inr (.inr 1), .inl 1, .inl v1] M2 (rv_ fun M4 =>
      V 38 [rr 1, ii v1, none, none, none] [] M4) Qt
    else
     D 110 [.inr (.inr 1), .inl 0, .inl v1] M2 (rv_ fun M3 =>
      V 38 [rr 1, ii v1, none, none, none] [] M3) Qt)
   else
    V 78 [rr 1, ii v1, none, none, none] [] M2))) Qt) Qt) : V 0 [rr 1, none, none, none, none] [] M := bx_go hD hV hW [(0, [1, 2, 3, 4]), (38, [2, 3, 4]), (78, [2, 3, 4]), (108, [4]), (128, [])] 19 h
theorem i_104 : inq_ 0 k_104 = true := by decide +kernel
theorem z_104_19 : Sf_ k_104 g_104_19 := Sf_of i_104 19 rfl
theorem b_104_38 {D : ca_} {V : vv_} {Qr : qr_} {Qt : qt_} (hD : Mo_ D) (hV : Cl_ wd0 D V Qr Qt m_104) (hW : Wk_ V) (x1 : Int) (M : mm_) (h :
 D 111 [.inr (.inr 1), .inl x1] M (ri_ fun v1 M1 =>
  (if v1 = 0 then
   M1 1 2 = 5 ∧
    (0 ≤ M1 5 0 ∧ M1 5 0 < 20) ∧
    M1 1 2 = 5 ∧
    V 78 [rr 1, ii x1, none, none, none] [] (up_ (up_ M1 56 (M1 5 0) x1) 5 0 (w32 ((M1 5 0) + 1)))
  else
   D 116 [.inr (.inr 1), .inl 3, .inl x1] M1 (rv_ fun M2 =>
    M2 1 2 = 5 ∧
     (0 ≤ M2 5 0 ∧ M2 5 0 < 20) ∧
     M2 1 2 = 5 ∧
     V 78 [rr 1, ii x1, none, none, none] [] (up_ (up_ M2 56 (M2 5 0) x1) 5 0 (w32 ((M2 5 0) + 1)))) Qt)) Qt) : V 38 [rr 1, ii x1, none, none, none] [] M := bx_go hD (m := (g_104_19, m_104.2)) (Cl_sf z_104_19 hV) hW [(0, [1, 2, 3, 4]), (38, [2, 3, 4]), (78, [2, 3, 4]), (108, [4]), (128, [])] 23 h
theorem z_104_41 : Sf_ k_104 g_104_41 := Sf_tr z_104_19 22 rfl
theorem b_104_78 {D : ca_} {V : vv_} {Qr : qr_} {Qt : qt_} (hD : Mo_ D) (hV : Cl_ wd0 D V Qr Qt m_104) (hW : Wk_ V) (x1 : Int) (M : mm_) (h :
 D 117 [.inr (.inr 1), .inl 40] (up_ M 1 31 (w32 ((M 1 31) + 1))) (ri_ fun v1 M1 =>
  (if v1 = 0 then
   M1 1 2 = 5 ∧
    (0 ≤ M 1 31 ∧ M 1 31 < 20) ∧
    D 117 [.inr (.inr 1), .inl 44] (up_ M1 112 (M 1 31) 0) (ri_ fun v2 M2 =>
    (if v2 = 0 then
     D 121 [.inr (.inr 1), .inl 59] M2 (rv_ fun M3 =>
      Qr [] M3) Qt
    else
     V 0 [rr 1, none, none, none, none] [] M2)) Qt
  else
   D 118 [.inr (.inr 1)] M1 (rv_ fun M4 =>
    V 108 [rr 1, ii x1, ii (M 1 31), ii 0, none] [] M4) Qt)) Qt) : V 78 [rr 1, ii x1, none, none, none] [] M := bx_go hD (m := (g_104_41, m_104.2)) (Cl_sf z_104_41 hV) hW [(0, [1, 2, 3, 4]), (38, [2, 3, 4]), (78, [2, 3, 4]), (108, [4]), (128, [])] 29 h
theorem z_104_58 : Sf_ k_104 g_104_58 := Sf_tr z_104_41 17 rfl
theorem b_104_108 {D : ca_} {V : vv_} {Qr : qr_} {Qt : qt_} (hD : Mo_ D) (hV : Cl_ wd0 D V Qr Qt m_104) (hW : Wk_ V) (x1 : Int) (x2 : Int) (x3 : Int) (M : mm_) (h :
 D 105 [.inr (.inr 1)] M (rv_ fun M1 =>
  (if x3 = 3 then
   D 119 [.inr (.inr 1), .inl 1] M1 (ri_ fun v2 M3 =>
    V 128 [rr 1, ii x1, ii x2, ii x3, ii v2] [] M3) Qt
  else
   D 119 [.inr (.inr 1), .inl 0] M1 (ri_ fun v1 M2 =>
    V 128 [rr 1, ii x1, ii x2, ii x3, ii v1] [] M2) Qt)) Qt) : V 108 [rr 1, ii x1, ii x2, ii x3, none] [] M := bx_go hD (m := (g_104_58, m_104.2)) (Cl_sf z_104_58 hV) hW [(0, [1, 2, 3, 4]), (38, [2, 3, 4]), (78, [2, 3, 4]), (108, [4]), (128, [])] 11 h
theorem z_104_69 : Sf_ k_104 g_104_69 := Sf_tr z_104_58 11 rfl
theorem b_104_128 {D : ca_} {V : vv_} {Qr : qr_} {Qt : qt_} (hD : Mo_ D) (hV : Cl_ wd0 D V Qr Qt m_104) (hW : Wk_ V) (x1 : Int) (x2 : Int) (x3 : Int) (x4 : Int) (M : mm_) (h :
 M 1 2 = 5 ∧
  (0 ≤ w32 ((w32 (3 * x2)) + x3) ∧ w32 ((w32 (3 * x2)) + x3) < 60) ∧
  D 117 [.inr (.inr 1), .inl 44] (up_ M 113 (w32 ((w32 (3 * x2)) + x3)) x4) (ri_ fun v1 M1 =>
  (if v1 = 0 then
   D 121 [.inr (.inr 1), .inl 41] M1 (rv_ fun M2 =>
    M2 1 2 = 5 ∧
     (0 ≤ x2 ∧ x2 < 20) ∧
     D 117 [.inr (.inr 1), .inl 44] (up_ (up_ M2 1 6 (w32 ((M2 1 6) - 1))) 112 x2 (w32 (x3 + 1))) (ri_ fun v2 M3 =>
     (if v2 = 0 then
      D 121 [.inr (.inr 1), .inl 59] M3 (rv_ fun M4 =>
       Qr [] M4) Qt
     else
      V 0 [rr 1, none, none, none, none] [] M3)) Qt) Qt
  else
   V 108 [rr 1, ii x1, ii x2, ii (w32 (x3 + 1)), none] [] M1)) Qt) : V 128 [rr 1, ii x1, ii x2, ii x3, ii x4] [] M := bx_go hD (m := (g_104_69, m_104.2)) (Cl_sf z_104_69 hV) hW [(0, [1, 2, 3, 4]), (38, [2, 3, 4]), (78, [2, 3, 4]), (108, [4]), (128, [])] 38 h
/-- X1_goes()V -/
theorem b_105_0 {D : ca_} {V : vv_} {Qr : qr_} {Qt : qt_} (hD : Mo_ D) (hV : Cl_ wd0 D V Qr Qt m_105) (hW : Wk_ V)  (M : mm_) (h :
 (if M 1 3 < 1200 then
  Qr [] (up_ M 1 3 (w32 ((M 1 3) + 1)))
 else
  D 106 [.inr (.inr 1), .inl 2, .inl (M 1 3)] M (rf_r fun v1 M1 =>
   (if v1 = 1999 then False else Qt v1 M1)) Qt)) : V 0 [rr 1] [] M := bx_go hD hV hW [] 11 h
/-- X1_fails(II)Ljava/lang/IllegalStateException; -/
theorem b_106_0 {D : ca_} {V : vv_} {Qr : qr_} {Qt : qt_} (hD : Mo_ D) (hV : Cl_ wd0 D V Qr Qt m_106) (hW : Wk_ V) (x1 : Int) (x2 : Int) (M : mm_) (h :
 (0 ≤ x2 ∧ x2 < 1202) ∧
  Qr [.inr (.inr 8)] (up_ (up_ M 1 4 x1) 1 5 (M 71 x2))) : V 0 [rr 1, ii x1, ii x2] [] M := bx_go hD hV hW [] 13 h
/-- X1_name()I -/
theorem b_107_0 {D : ca_} {V : vv_} {Qr : qr_} {Qt : qt_} (hD : Mo_ D) (hV : Cl_ wd0 D V Qr Qt m_107) (hW : Wk_ V)  (M : mm_) (h :
 D 108 [.inr (.inr 1), .inl 100] M (rv_ fun M1 =>
  Qr [.inl (M 1 3)] M1) Qt) : V 0 [rr 1, none] [] M := bx_go hD hV hW [] 8 h
/-- X1_must(I)V -/
theorem b_108_0 {D : ca_} {V : vv_} {Qr : qr_} {Qt : qt_} (hD : Mo_ D) (hV : Cl_ wd0 D V Qr Qt m_108) (hW : Wk_ V) (x1 : Int) (M : mm_) (h :
 D 103 [.inr (.inr 1), .inl x1] M (ri_ fun v1 M1 =>
  (if v1 = 0 then
   D 109 [.inr (.inr 1)] M1 (rf_r fun v2 M3 =>
    (if v2 = 1999 then False else Qt v2 M3)) Qt
  else
   D 105 [.inr (.inr 1)] M1 (rv_ fun M2 =>
    Qr [] M2) Qt)) Qt) : V 0 [rr 1, ii x1] [] M := bx_go hD hV hW [] 7 h
/-- X1_syntax()Ljava/lang/IllegalStateException; -/
theorem b_109_0 {D : ca_} {V : vv_} {Qr : qr_} {Qt : qt_} (hD : Mo_ D) (hV : Cl_ wd0 D V Qr Qt m_109) (hW : Wk_ V)  (M : mm_) (h :
 D 106 [.inr (.inr 1), .inl 1, .inl (M 1 3)] M (rf_r fun v1 M1 =>
  (if 4 = 4 ∧ v1 ≠ 1999 then Qr [.inr (.inr v1)] M1 else False)) Qt) : V 0 [rr 1] [] M := bx_go hD hV hW [] 6 h
/-- X1_room(ZI)V -/
theorem b_110_0 {D : ca_} {V : vv_} {Qr : qr_} {Qt : qt_} (hD : Mo_ D) (hV : Cl_ wd0 D V Qr Qt m_110) (hW : Wk_ V) (x1 : Int) (x2 : Int) (M : mm_) (h :
 (if x1 = 0 then
  Qr [] M
 else
  D 106 [.inr (.inr 1), .inl 2, .inl x2] M (rf_r fun v1 M1 =>
   (if v1 = 1999 then False else Qt v1 M1)) Qt)) : V 0 [rr 1, ii x1, ii x2] [] M := bx_go hD hV hW [] 7 h
/-- X1_isTold(I)Z -/
theorem b_111_0 {D : ca_} {V : vv_} {Qr : qr_} {Qt : qt_} (hD : Mo_ D) (hV : Cl_ wd0 D V Qr Qt m_111) (hW : Wk_ V) (x1 : Int) (M : mm_) (h :
 D 112 [.inr (.inr 1), .inl x1] M (ri_ fun v1 M1 =>
  (if v1 = (-1) then
   D 114 [.inr (.inr 1), .inl x1] M1 (ri_ fun v2 M2 =>
    (if v2 = (-1) then
     D 115 [.inr (.inr 1), .inl x1] M2 (ri_ fun v3 M3 =>
      (if v3 = (-1) then
       bl_ 0 ∧ Qr [.inl 0] M3
      else
       bl_ 1 ∧ Qr [.inl 1] M3)) Qt
    else
     bl_ 1 ∧ Qr [.inl 1] M2)) Qt
  else
   bl_ 1 ∧ Qr [.inl 1] M1)) Qt) : V 0 [rr 1, ii x1] [] M := bx_go hD hV hW [] 18 h
/-- X1_signalOf(I)I -/
theorem b_112_0 {D : ca_} {V : vv_} {Qr : qr_} {Qt : qt_} (hD : Mo_ D) (hV : Cl_ wd0 D V Qr Qt m_112) (hW : Wk_ V) (x1 : Int) (M : mm_) (h :
 M 1 2 = 5 ∧
  D 113 [.inr (.inr 1), .inr (.inr 56), .inl 0, .inl (M 5 0), .inl x1] M (ri_ fun v1 M1 =>
  Qr [.inl v1] M1) Qt) : V 0 [rr 1, ii x1] [] M := bx_go hD hV hW [] 10 h
/-- X1_find([IIII)I -/
theorem b_113a_0 {D : ca_} {V : vv_} {Qr : qr_} {Qt : qt_} (hD : Mo_ D) (hV : Cl_ wd0 D V Qr Qt m_113) (hW : Wk_ V) (x2 : Int) (x3 : Int) (x4 : Int) (M : mm_) (h :
 V 3 [rr 1, rr 56, ii x2, ii x3, ii x4, ii x2] [] M) : V 0 [rr 1, rr 56, ii x2, ii x3, ii x4, none] [] M := bx_go hD hV hW [(3, [])] 3 h
theorem b_113a_3 {D : ca_} {V : vv_} {Qr : qr_} {Qt : qt_} (hD : Mo_ D) (hV : Cl_ wd0 D V Qr Qt m_113) (hW : Wk_ V) (x2 : Int) (x3 : Int) (x4 : Int) (x5 : Int) (M : mm_) (h :
 (if x5 < w32 (x2 + x3) then
  (0 ≤ x5 ∧ x5 < 20) ∧
   D 199 [.inr (.inr 2), .inl (M 56 x5), .inl x4] M (ri_ fun v1 M1 =>
   (if v1 = 0 then
    V 3 [rr 1, rr 56, ii x2, ii x3, ii x4, ii (w32 (x5 + 1))] [] M1
   else
    Qr [.inl (w32 (x5 - x2))] M1)) Qt
 else
  Qr [.inl ((-1))] M)) : V 3 [rr 1, rr 56, ii x2, ii x3, ii x4, ii x5] [] M := bx_go hD hV hW [(3, [])] 17 h
/-- X1_find([IIII)I -/
theorem b_113b_0 {D : ca_} {V : vv_} {Qr : qr_} {Qt : qt_} (hD : Mo_ D) (hV : Cl_ wd0 D V Qr Qt m_113) (hW : Wk_ V) (x2 : Int) (x3 : Int) (x4 : Int) (M : mm_) (h :
 V 3 [rr 1, rr 57, ii x2, ii x3, ii x4, ii x2] [] M) : V 0 [rr 1, rr 57, ii x2, ii x3, ii x4, none] [] M := bx_go hD hV hW [(3, [])] 3 h
theorem b_113b_3 {D : ca_} {V : vv_} {Qr : qr_} {Qt : qt_} (hD : Mo_ D) (hV : Cl_ wd0 D V Qr Qt m_113) (hW : Wk_ V) (x2 : Int) (x3 : Int) (x4 : Int) (x5 : Int) (M : mm_) (h :
 (if x5 < w32 (x2 + x3) then
  (0 ≤ x5 ∧ x5 < 10) ∧
   D 199 [.inr (.inr 2), .inl (M 57 x5), .inl x4] M (ri_ fun v1 M1 =>
   (if v1 = 0 then
    V 3 [rr 1, rr 57, ii x2, ii x3, ii x4, ii (w32 (x5 + 1))] [] M1
   else
    Qr [.inl (w32 (x5 - x2))] M1)) Qt
 else
  Qr [.inl ((-1))] M)) : V 3 [rr 1, rr 57, ii x2, ii x3, ii x4, ii x5] [] M := bx_go hD hV hW [(3, [])] 17 h
/-- X1_find([IIII)I -/
theorem b_113c_0 {D : ca_} {V : vv_} {Qr : qr_} {Qt : qt_} (hD : Mo_ D) (hV : Cl_ wd0 D V Qr Qt m_113) (hW : Wk_ V) (x2 : Int) (x3 : Int) (x4 : Int) (M : mm_) (h :
 V 3 [rr 1, rr 58, ii x2, ii x3, ii x4, ii x2] [] M) : V 0 [rr 1, rr 58, ii x2, ii x3, ii x4, none] [] M := bx_go hD hV hW [(3, [])] 3 h
theorem b_113c_3 {D : ca_} {V : vv_} {Qr : qr_} {Qt : qt_} (hD : Mo_ D) (hV : Cl_ wd0 D V Qr Qt m_113) (hW : Wk_ V) (x2 : Int) (x3 : Int) (x4 : Int) (x5 : Int) (M : mm_) (h :
 (if x5 < w32 (x2 + x3) then
  (0 ≤ x5 ∧ x5 < 6) ∧
   D 199 [.inr (.inr 2), .inl (M 58 x5), .inl x4] M (ri_ fun v1 M1 =>
   (if v1 = 0 then
    V 3 [rr 1, rr 58, ii x2, ii x3, ii x4, ii (w32 (x5 + 1))] [] M1
   else
    Qr [.inl (w32 (x5 - x2))] M1)) Qt
 else
  Qr [.inl ((-1))] M)) : V 3 [rr 1, rr 58, ii x2, ii x3, ii x4, ii x5] [] M := bx_go hD hV hW [(3, [])] 17 h
/-- X1_find([IIII)I -/
theorem b_113d_0 {D : ca_} {V : vv_} {Qr : qr_} {Qt : qt_} (hD : Mo_ D) (hV : Cl_ wd0 D V Qr Qt m_113) (hW : Wk_ V) (x2 : Int) (x3 : Int) (x4 : Int) (M : mm_) (h :
 V 3 [rr 1, rr 59, ii x2, ii x3, ii x4, ii x2] [] M) : V 0 [rr 1, rr 59, ii x2, ii x3, ii x4, none] [] M := bx_go hD hV hW [(3, [])] 3 h
theorem b_113d_3 {D : ca_} {V : vv_} {Qr : qr_} {Qt : qt_} (hD : Mo_ D) (hV : Cl_ wd0 D V Qr Qt m_113) (hW : Wk_ V) (x2 : Int) (x3 : Int) (x4 : Int) (x5 : Int) (M : mm_) (h :
 (if x5 < w32 (x2 + x3) then
  (0 ≤ x5 ∧ x5 < 72) ∧
   D 199 [.inr (.inr 2), .inl (M 59 x5), .inl x4] M (ri_ fun v1 M1 =>
   (if v1 = 0 then
    V 3 [rr 1, rr 59, ii x2, ii x3, ii x4, ii (w32 (x5 + 1))] [] M1
   else
    Qr [.inl (w32 (x5 - x2))] M1)) Qt
 else
  Qr [.inl ((-1))] M)) : V 3 [rr 1, rr 59, ii x2, ii x3, ii x4, ii x5] [] M := bx_go hD hV hW [(3, [])] 17 h
/-- X1_find([IIII)I -/
theorem b_113e_0 {D : ca_} {V : vv_} {Qr : qr_} {Qt : qt_} (hD : Mo_ D) (hV : Cl_ wd0 D V Qr Qt m_113) (hW : Wk_ V) (x2 : Int) (x3 : Int) (x4 : Int) (M : mm_) (h :
 V 3 [rr 1, rr 60, ii x2, ii x3, ii x4, ii x2] [] M) : V 0 [rr 1, rr 60, ii x2, ii x3, ii x4, none] [] M := bx_go hD hV hW [(3, [])] 3 h
theorem b_113e_3 {D : ca_} {V : vv_} {Qr : qr_} {Qt : qt_} (hD : Mo_ D) (hV : Cl_ wd0 D V Qr Qt m_113) (hW : Wk_ V) (x2 : Int) (x3 : Int) (x4 : Int) (x5 : Int) (M : mm_) (h :
 (if x5 < w32 (x2 + x3) then
  (0 ≤ x5 ∧ x5 < 48) ∧
   D 199 [.inr (.inr 2), .inl (M 60 x5), .inl x4] M (ri_ fun v1 M1 =>
   (if v1 = 0 then
    V 3 [rr 1, rr 60, ii x2, ii x3, ii x4, ii (w32 (x5 + 1))] [] M1
   else
    Qr [.inl (w32 (x5 - x2))] M1)) Qt
 else
  Qr [.inl ((-1))] M)) : V 3 [rr 1, rr 60, ii x2, ii x3, ii x4, ii x5] [] M := bx_go hD hV hW [(3, [])] 17 h
/-- X1_find([IIII)I -/
theorem b_113f_0 {D : ca_} {V : vv_} {Qr : qr_} {Qt : qt_} (hD : Mo_ D) (hV : Cl_ wd0 D V Qr Qt m_113) (hW : Wk_ V) (x2 : Int) (x3 : Int) (x4 : Int) (M : mm_) (h :
 V 3 [rr 1, rr 61, ii x2, ii x3, ii x4, ii x2] [] M) : V 0 [rr 1, rr 61, ii x2, ii x3, ii x4, none] [] M := bx_go hD hV hW [(3, [])] 3 h
theorem b_113f_3 {D : ca_} {V : vv_} {Qr : qr_} {Qt : qt_} (hD : Mo_ D) (hV : Cl_ wd0 D V Qr Qt m_113) (hW : Wk_ V) (x2 : Int) (x3 : Int) (x4 : Int) (x5 : Int) (M : mm_) (h :
 (if x5 < w32 (x2 + x3) then
  (0 ≤ x5 ∧ x5 < 18) ∧
   D 199 [.inr (.inr 2), .inl (M 61 x5), .inl x4] M (ri_ fun v1 M1 =>
   (if v1 = 0 then
    V 3 [rr 1, rr 61, ii x2, ii x3, ii x4, ii (w32 (x5 + 1))] [] M1
   else
    Qr [.inl (w32 (x5 - x2))] M1)) Qt
 else
  Qr [.inl ((-1))] M)) : V 3 [rr 1, rr 61, ii x2, ii x3, ii x4, ii x5] [] M := bx_go hD hV hW [(3, [])] 17 h
/-- X1_find([IIII)I -/
theorem b_113g_0 {D : ca_} {V : vv_} {Qr : qr_} {Qt : qt_} (hD : Mo_ D) (hV : Cl_ wd0 D V Qr Qt m_113) (hW : Wk_ V) (x2 : Int) (x3 : Int) (x4 : Int) (M : mm_) (h :
 V 3 [rr 1, rr 62, ii x2, ii x3, ii x4, ii x2] [] M) : V 0 [rr 1, rr 62, ii x2, ii x3, ii x4, none] [] M := bx_go hD hV hW [(3, [])] 3 h
theorem b_113g_3 {D : ca_} {V : vv_} {Qr : qr_} {Qt : qt_} (hD : Mo_ D) (hV : Cl_ wd0 D V Qr Qt m_113) (hW : Wk_ V) (x2 : Int) (x3 : Int) (x4 : Int) (x5 : Int) (M : mm_) (h :
 (if x5 < w32 (x2 + x3) then
  (0 ≤ x5 ∧ x5 < 60) ∧
   D 199 [.inr (.inr 2), .inl (M 62 x5), .inl x4] M (ri_ fun v1 M1 =>
   (if v1 = 0 then
    V 3 [rr 1, rr 62, ii x2, ii x3, ii x4, ii (w32 (x5 + 1))] [] M1
   else
    Qr [.inl (w32 (x5 - x2))] M1)) Qt
 else
  Qr [.inl ((-1))] M)) : V 3 [rr 1, rr 62, ii x2, ii x3, ii x4, ii x5] [] M := bx_go hD hV hW [(3, [])] 17 h
/-- X1_routeOf(I)I -/
theorem b_114_0 {D : ca_} {V : vv_} {Qr : qr_} {Qt : qt_} (hD : Mo_ D) (hV : Cl_ wd0 D V Qr Qt m_114) (hW : Wk_ V) (x1 : Int) (M : mm_) (h :
 M 1 2 = 5 ∧
  D 113 [.inr (.inr 1), .inr (.inr 57), .inl 0, .inl (M 5 1), .inl x1] M (ri_ fun v1 M1 =>
  Qr [.inl v1] M1) Qt) : V 0 [rr 1, ii x1] [] M := bx_go hD hV hW [] 10 h
/-- X1_typeOf(I)I -/
theorem b_115_0 {D : ca_} {V : vv_} {Qr : qr_} {Qt : qt_} (hD : Mo_ D) (hV : Cl_ wd0 D V Qr Qt m_115) (hW : Wk_ V) (x1 : Int) (M : mm_) (h :
 M 1 2 = 5 ∧
  D 113 [.inr (.inr 1), .inr (.inr 58), .inl 0, .inl (M 5 2), .inl x1] M (ri_ fun v1 M1 =>
  Qr [.inl v1] M1) Qt) : V 0 [rr 1, ii x1] [] M := bx_go hD hV hW [] 10 h
/-- X1_notes(II)V -/
theorem b_116_0 {D : ca_} {V : vv_} {Qr : qr_} {Qt : qt_} (hD : Mo_ D) (hV : Cl_ wd0 D V Qr Qt m_116) (hW : Wk_ V) (x1 : Int) (x2 : Int) (M : mm_) (h :
 (0 ≤ x2 ∧ x2 < 1202) ∧
  (if M 1 4 = 0 then
  Qr [] (up_ (up_ (up_ M 1 7 (w32 ((M 1 7) + 1))) 1 4 x1) 1 5 (M 71 x2))
 else
  (if M 1 5 < M 71 x2 then
   Qr [] (up_ M 1 7 (w32 ((M 1 7) + 1)))
  else
   (if M 1 5 = M 71 x2 then
    (if M 1 4 ≤ x1 then
     Qr [] (up_ M 1 7 (w32 ((M 1 7) + 1)))
    else
     Qr [] (up_ (up_ (up_ M 1 7 (w32 ((M 1 7) + 1))) 1 4 x1) 1 5 (M 71 x2)))
   else
    Qr [] (up_ (up_ (up_ M 1 7 (w32 ((M 1 7) + 1))) 1 4 x1) 1 5 (M 71 x2)))))) : V 0 [rr 1, ii x1, ii x2, none] [] M := bx_go hD hV hW [] 34 h
/-- X1_isSign(C)Z -/
theorem b_117_0 {D : ca_} {V : vv_} {Qr : qr_} {Qt : qt_} (hD : Mo_ D) (hV : Cl_ wd0 D V Qr Qt m_117) (hW : Wk_ V) (x1 : Int) (M : mm_) (h :
 (0 ≤ M 1 3 ∧ M 1 3 < 1202) ∧
  (if M 70 (M 1 3) = w32 (200 + x1) then
  bl_ 1 ∧ Qr [.inl 1] M
 else
  bl_ 0 ∧ Qr [.inl 0] M)) : V 0 [rr 1, ii x1] [] M := bx_go hD hV hW [] 13 h
/-- X1_opens()V -/
theorem b_118_0 {D : ca_} {V : vv_} {Qr : qr_} {Qt : qt_} (hD : Mo_ D) (hV : Cl_ wd0 D V Qr Qt m_118) (hW : Wk_ V)  (M : mm_) (h :
 (if M 1 6 = 12 then
  D 106 [.inr (.inr 1), .inl 2, .inl (M 1 3)] M (rf_r fun v1 M1 =>
   (if v1 = 1999 then False else Qt v1 M1)) Qt
 else
  Qr [] (up_ M 1 6 (w32 ((M 1 6) + 1))))) : V 0 [rr 1] [] M := bx_go hD hV hW [] 11 h
/-- X1_sort(Z)I -/
theorem b_119_0 {D : ca_} {V : vv_} {Qr : qr_} {Qt : qt_} (hD : Mo_ D) (hV : Cl_ wd0 D V Qr Qt m_119) (hW : Wk_ V) (x1 : Int) (M : mm_) (h :
 D 120 [.inr (.inr 1)] M (ri_ fun v1 M1 =>
  (if v1 < 28 then
   D 109 [.inr (.inr 1)] M1 (rf_r fun v2 M2 =>
    (if v2 = 1999 then False else Qt v2 M2)) Qt
  else
   (if v1 ≤ 30 then
    D 110 [.inr (.inr 1), .inl x1, .inl (M1 1 3)] M1 (rv_ fun M3 =>
     D 105 [.inr (.inr 1)] M3 (rv_ fun M4 =>
      Qr [.inl (w32 (v1 - 28))] M4) Qt) Qt
   else
    D 109 [.inr (.inr 1)] M1 (rf_r fun v3 M5 =>
     (if v3 = 1999 then False else Qt v3 M5)) Qt))) Qt) : V 0 [rr 1, ii x1, none] [] M := bx_go hD hV hW [] 20 h
/-- X1_kind()I -/
theorem b_120_0 {D : ca_} {V : vv_} {Qr : qr_} {Qt : qt_} (hD : Mo_ D) (hV : Cl_ wd0 D V Qr Qt m_120) (hW : Wk_ V)  (M : mm_) (h :
 (0 ≤ M 1 3 ∧ M 1 3 < 1202) ∧
  Qr [.inl (M 70 (M 1 3))] M) : V 0 [rr 1] [] M := bx_go hD hV hW [] 7 h
/-- X1_mustSign(C)V -/
theorem b_121_0 {D : ca_} {V : vv_} {Qr : qr_} {Qt : qt_} (hD : Mo_ D) (hV : Cl_ wd0 D V Qr Qt m_121) (hW : Wk_ V) (x1 : Int) (M : mm_) (h :
 D 117 [.inr (.inr 1), .inl x1] M (ri_ fun v1 M1 =>
  (if v1 = 0 then
   D 109 [.inr (.inr 1)] M1 (rf_r fun v2 M3 =>
    (if v2 = 1999 then False else Qt v2 M3)) Qt
  else
   D 105 [.inr (.inr 1)] M1 (rv_ fun M2 =>
    Qr [] M2) Qt)) Qt) : V 0 [rr 1, ii x1] [] M := bx_go hD hV hW [] 7 h
/-- X1_route()V -/
theorem b_122_0 {D : ca_} {V : vv_} {Qr : qr_} {Qt : qt_} (hD : Mo_ D) (hV : Cl_ wd0 D V Qr Qt m_122) (hW : Wk_ V)  (M : mm_) (h :
 D 105 [.inr (.inr 1)] M (rv_ fun M1 =>
  D 107 [.inr (.inr 1)] M1 (ri_ fun v1 M2 =>
   (bl_ (M2 1 8) → (if M2 1 8 = 0 then
    (bl_ (M2 1 9) → (if M2 1 9 = 0 then
     M2 1 2 = 5 ∧
      (if M2 5 1 = 10 then
      D 110 [.inr (.inr 1), .inl 1, .inl v1] M2 (rv_ fun M6 =>
       D 111 [.inr (.inr 1), .inl v1] M6 (ri_ fun v3 M7 =>
        (if v3 = 0 then
         V 64 [rr 1, ii (M 1 3), ii v1, none, none, none, none] [] M7
        else
         D 116 [.inr (.inr 1), .inl 3, .inl v1] M7 (rv_ fun M8 =>
          V 64 [rr 1, ii (M 1 3), ii v1, none, none, none, none] [] M8) Qt)) Qt) Qt
     else
      D 110 [.inr (.inr 1), .inl 0, .inl v1] M2 (rv_ fun M3 =>
       D 111 [.inr (.inr 1), .inl v1] M3 (ri_ fun v2 M4 =>
        (if v2 = 0 then
         V 64 [rr 1, ii (M 1 3), ii v1, none, none, none, none] [] M4
        else
         D 116 [.inr (.inr 1), .inl 3, .inl v1] M4 (rv_ fun M5 =>
          V 64 [rr 1, ii (M 1 3), ii v1, none, none, none, none] [] M5) Qt)) Qt) Qt)
    else
     V 103 [rr 1, ii (M 1 3), ii v1, none, none, none, none] [] M2))
   else
    V 103 [rr 1, ii (M 1 3), ii v1, none, none, none, none] [] M2))) Qt) Qt) : V 0 [rr 1, none, none, none, none, none, none] [] M := bx_go hD hV hW [(64, [3, 4, 5, 6]), (103, [3, 4, 5, 6]), (351, [5, 6]), (390, [])] 33 h
theorem i_122 : inq_ 0 k_122 = true := by decide +kernel
theorem z_122_33 : Sf_ k_122 g_122_33 := Sf_of i_122 33 rfl
theorem b_122_64 {D : ca_} {V : vv_} {Qr : qr_} {Qt : qt_} (hD : Mo_ D) (hV : Cl_ wd0 D V Qr Qt m_122) (hW : Wk_ V) (x1 : Int) (x2 : Int) (M : mm_) (h :
 M 1 2 = 5 ∧
  (0 ≤ M 5 1 ∧ M 5 1 < 10) ∧
  M 1 2 = 5 ∧
  (0 ≤ M 5 1 ∧ M 5 1 < 10) ∧
  M 1 2 = 5 ∧
  V 103 [rr 1, ii x1, ii x2, none, none, none, none] [] (up_ (up_ (up_ M 57 (M 5 1) x2) 55 (M 5 1) x1) 5 1 (w32 ((M 5 1) + 1)))) : V 64 [rr 1, ii x1, ii x2, none, none, none, none] [] M := bx_go hD (m := (g_122_33, m_122.2)) (Cl_sf z_122_33 hV) hW [(64, [3, 4, 5, 6]), (103, [3, 4, 5, 6]), (351, [5, 6]), (390, [])] 22 h
theorem z_122_54 : Sf_ k_122 g_122_54 := Sf_tr z_122_33 21 rfl
theorem b_122_103 {D : ca_} {V : vv_} {Qr : qr_} {Qt : qt_} (hD : Mo_ D) (hV : Cl_ wd0 D V Qr Qt m_122) (hW : Wk_ V) (x1 : Int) (x2 : Int) (M : mm_) (h :
 M 1 2 = 5 ∧
  D 123 [.inr (.inr 1)] (up_ M 1 32 (w32 ((M 1 32) + 1))) (ri_ fun v1 M1 =>
  (0 ≤ w32 (2 * (M 1 32)) ∧ w32 (2 * (M 1 32)) < 20) ∧
   D 108 [.inr (.inr 1), .inl 114] (up_ M1 114 (w32 (2 * (M 1 32))) v1) (rv_ fun M2 =>
   M2 1 2 = 5 ∧
    D 123 [.inr (.inr 1)] M2 (ri_ fun v2 M3 =>
    (0 ≤ w32 ((w32 (2 * (M 1 32))) + 1) ∧ w32 ((w32 (2 * (M 1 32))) + 1) < 20) ∧
     M3 1 2 = 5 ∧
     D 103 [.inr (.inr 1), .inl 24] (up_ M3 114 (w32 ((w32 (2 * (M 1 32))) + 1)) v2) (ri_ fun v3 M4 =>
     ((0 ≤ M 1 32 ∧ M 1 32 < 10) ∧ bl_ v3) ∧
      M4 1 2 = 5 ∧
      (0 ≤ M 1 32 ∧ M 1 32 < 10) ∧
      M4 1 2 = 5 ∧
      (0 ≤ M 1 32 ∧ M 1 32 < 10) ∧
      M4 1 2 = 5 ∧
      ((0 ≤ M 1 32 ∧ M 1 32 < 10) ∧ bl_ 0) ∧
      M4 1 2 = 5 ∧
      (0 ≤ M 1 32 ∧ M 1 32 < 10) ∧ (bl_ ((up_ M4 117 (M 1 32) v3) 117 (M 1 32)) →
      (if (up_ M4 117 (M 1 32) v3) 117 (M 1 32) = 0 then
      D 108 [.inr (.inr 1), .inl 23] (up_ (up_ (up_ (up_ M4 117 (M 1 32) v3) 115 (M 1 32) 0) 116 (M 1 32) 0) 118 (M 1 32) 0) (rv_ fun M5 =>
       M5 1 2 = 5 ∧
        (0 ≤ M 1 32 ∧ M 1 32 < 10) ∧
        V 351 [rr 1, ii x1, ii x2, ii (M 1 32), ii 1, none, none] [] (up_ M5 119 (M 1 32) 0)) Qt
     else
      D 105 [.inr (.inr 1)] (up_ (up_ (up_ (up_ M4 117 (M 1 32) v3) 115 (M 1 32) 0) 116 (M 1 32) 0) 118 (M 1 32) 0) (rv_ fun M6 =>
       M6 1 2 = 5 ∧
        D 124 [.inr (.inr 1), .inl 200] M6 (ri_ fun v4 M7 =>
        (0 ≤ M 1 32 ∧ M 1 32 < 10) ∧
         M7 1 2 = 5 ∧
         M7 1 2 = 5 ∧
         (0 ≤ M 1 32 ∧ M 1 32 < 10) ∧
         (0 ≤ M 1 32 ∧ M 1 32 < 10) ∧
         D 103 [.inr (.inr 1), .inl 115] (up_ (up_ M7 115 (M 1 32) v4) 116 (M 1 32) ((up_ M7 115 (M 1 32) v4) 115 (M 1 32))) (ri_ fun v5 M8 =>
         (if v5 = 0 then
          D 108 [.inr (.inr 1), .inl 23] M8 (rv_ fun M9 =>
           M9 1 2 = 5 ∧
            (0 ≤ M 1 32 ∧ M 1 32 < 10) ∧
            V 351 [rr 1, ii x1, ii x2, ii (M 1 32), ii 1, none, none] [] (up_ M9 119 (M 1 32) 0)) Qt
         else
          D 105 [.inr (.inr 1)] M8 (rv_ fun M10 =>
           M10 1 2 = 5 ∧
            ((0 ≤ M 1 32 ∧ M 1 32 < 10) ∧ bl_ 1) ∧
            M10 1 2 = 5 ∧
            D 124 [.inr (.inr 1), .inl 200] (up_ M10 118 (M 1 32) 1) (ri_ fun v6 M11 =>
            (0 ≤ M 1 32 ∧ M 1 32 < 10) ∧
             (bl_ (M11 1 8) → (if M11 1 8 = 0 then
             D 108 [.inr (.inr 1), .inl 23] (up_ M11 116 (M 1 32) v6) (rv_ fun M12 =>
              M12 1 2 = 5 ∧
               (0 ≤ M 1 32 ∧ M 1 32 < 10) ∧
               V 351 [rr 1, ii x1, ii x2, ii (M 1 32), ii 1, none, none] [] (up_ M12 119 (M 1 32) 0)) Qt
            else
             M11 1 2 = 5 ∧
              (0 ≤ M 1 32 ∧ M 1 32 < 10) ∧
              M11 1 2 = 5 ∧
              (0 ≤ M 1 32 ∧ M 1 32 < 10) ∧
              (if (up_ M11 116 (M 1 32) v6) 116 (M 1 32) < M11 115 (M 1 32) then
              D 116 [.inr (.inr 1), .inl 6, .inl (M10 1 3)] (up_ M11 116 (M 1 32) v6) (rv_ fun M14 =>
               D 108 [.inr (.inr 1), .inl 23] M14 (rv_ fun M15 =>
                M15 1 2 = 5 ∧
                 (0 ≤ M 1 32 ∧ M 1 32 < 10) ∧
                 V 351 [rr 1, ii x1, ii x2, ii (M 1 32), ii 1, none, none] [] (up_ M15 119 (M 1 32) 0)) Qt) Qt
             else
              D 108 [.inr (.inr 1), .inl 23] (up_ M11 116 (M 1 32) v6) (rv_ fun M13 =>
               M13 1 2 = 5 ∧
                (0 ≤ M 1 32 ∧ M 1 32 < 10) ∧
                V 351 [rr 1, ii x1, ii x2, ii (M 1 32), ii 1, none, none] [] (up_ M13 119 (M 1 32) 0)) Qt)))) Qt) Qt)) Qt) Qt) Qt))) Qt) Qt) Qt) Qt) : V 103 [rr 1, ii x1, ii x2, none, none, none, none] [] M := bx_go hD (m := (g_122_54, m_122.2)) (Cl_sf z_122_54 hV) hW [(64, [3, 4, 5, 6]), (103, [3, 4, 5, 6]), (351, [5, 6]), (390, [])] 137 h
theorem z_122_190 : Sf_ k_122 g_122_190 := Sf_tr z_122_54 136 rfl
theorem b_122_351 {D : ca_} {V : vv_} {Qr : qr_} {Qt : qt_} (hD : Mo_ D) (hV : Cl_ wd0 D V Qr Qt m_122) (hW : Wk_ V) (x1 : Int) (x2 : Int) (x3 : Int) (x4 : Int) (M : mm_) (h :
 (if x4 = 0 then
  D 121 [.inr (.inr 1), .inl 59] M (rv_ fun M1 =>
   Qr [] M1) Qt
 else
  D 107 [.inr (.inr 1)] M (ri_ fun v1 M2 =>
   D 112 [.inr (.inr 1), .inl v1] M2 (ri_ fun v2 M3 =>
    (bl_ (M3 1 8) → (if M3 1 8 = 0 then
     V 390 [rr 1, ii x1, ii x2, ii x3, ii x4, ii v1, ii v2] [] M3
    else
     (if v2 = (-1) then
      D 116 [.inr (.inr 1), .inl 4, .inl v1] M3 (rv_ fun M4 =>
       V 390 [rr 1, ii x1, ii x2, ii x3, ii x4, ii v1, ii v2] [] M4) Qt
     else
      V 390 [rr 1, ii x1, ii x2, ii x3, ii x4, ii v1, ii v2] [] M3)))) Qt) Qt)) : V 351 [rr 1, ii x1, ii x2, ii x3, ii x4, none, none] [] M := bx_go hD (m := (g_122_190, m_122.2)) (Cl_sf z_122_190 hV) hW [(64, [3, 4, 5, 6]), (103, [3, 4, 5, 6]), (351, [5, 6]), (390, [])] 20 h
theorem z_122_209 : Sf_ k_122 g_122_209 := Sf_tr z_122_190 19 rfl
theorem b_122_390 {D : ca_} {V : vv_} {Qr : qr_} {Qt : qt_} (hD : Mo_ D) (hV : Cl_ wd0 D V Qr Qt m_122) (hW : Wk_ V) (x1 : Int) (x2 : Int) (x3 : Int) (x4 : Int) (x5 : Int) (x6 : Int) (M : mm_) (h :
 (if x6 = (-1) then
  D 117 [.inr (.inr 1), .inl 44] M (ri_ fun v1 M1 =>
   (if v1 = 0 then
    V 351 [rr 1, ii x1, ii x2, ii x3, ii v1, none, none] [] M1
   else
    D 105 [.inr (.inr 1)] M1 (rv_ fun M2 =>
     V 351 [rr 1, ii x1, ii x2, ii x3, ii v1, none, none] [] M2) Qt)) Qt
 else
  M 1 2 = 5 ∧
   (0 ≤ x3 ∧ x3 < 10) ∧
   (0 ≤ x3 ∧ x3 < 10) ∧
   D 117 [.inr (.inr 1), .inl 44] (up_ M 119 x3 (or_ (M 119 x3) (sl_ 1 x6))) (ri_ fun v2 M3 =>
   (if v2 = 0 then
    V 351 [rr 1, ii x1, ii x2, ii x3, ii v2, none, none] [] M3
   else
    D 105 [.inr (.inr 1)] M3 (rv_ fun M4 =>
     V 351 [rr 1, ii x1, ii x2, ii x3, ii v2, none, none] [] M4) Qt)) Qt)) : V 390 [rr 1, ii x1, ii x2, ii x3, ii x4, ii x5, ii x6] [] M := bx_go hD (m := (g_122_209, m_122.2)) (Cl_sf z_122_209 hV) hW [(64, [3, 4, 5, 6]), (103, [3, 4, 5, 6]), (351, [5, 6]), (390, [])] 24 h
/-- X1_side()I -/
theorem b_123_0 {D : ca_} {V : vv_} {Qr : qr_} {Qt : qt_} (hD : Mo_ D) (hV : Cl_ wd0 D V Qr Qt m_123) (hW : Wk_ V)  (M : mm_) (h :
 D 103 [.inr (.inr 1), .inl 25] M (ri_ fun v1 M1 =>
  (if v1 = 0 then
   D 107 [.inr (.inr 1)] M1 (ri_ fun v2 M2 =>
    D 115 [.inr (.inr 1), .inl v2] M2 (ri_ fun v3 M3 =>
     (bl_ (M3 1 8) → (if M3 1 8 = 0 then
      Qr [.inl v3] M3
     else
      (if v3 = (-1) then
       D 116 [.inr (.inr 1), .inl 4, .inl v2] M3 (rv_ fun M4 =>
        Qr [.inl v3] M4) Qt
      else
       Qr [.inl v3] M3)))) Qt) Qt
  else
   D 105 [.inr (.inr 1)] M1 (rv_ fun M5 =>
    Qr [.inl ((-2))] M5) Qt)) Qt) : V 0 [rr 1, none, none] [] M := bx_go hD hV hW [] 23 h
/-- X1_count(I)I -/
theorem b_124_0 {D : ca_} {V : vv_} {Qr : qr_} {Qt : qt_} (hD : Mo_ D) (hV : Cl_ wd0 D V Qr Qt m_124) (hW : Wk_ V) (x1 : Int) (M : mm_) (h :
 D 103 [.inr (.inr 1), .inl 101] M (ri_ fun v1 M1 =>
  (if v1 = 0 then
   D 109 [.inr (.inr 1)] M1 (rf_r fun v4 M6 =>
    (if v4 = 1999 then False else Qt v4 M6)) Qt
  else
   (0 ≤ M1 1 3 ∧ M1 1 3 < 1202) ∧
    (if M1 73 (M1 1 3) ≤ x1 then
    D 110 [.inr (.inr 1), .inl 0, .inl (M 1 3)] M1 (rv_ fun M2 =>
     D 125 [.inr (.inr 1)] M2 (ri_ fun v2 M3 =>
      Qr [.inl v2] M3) Qt) Qt
   else
    D 110 [.inr (.inr 1), .inl 1, .inl (M 1 3)] M1 (rv_ fun M4 =>
     D 125 [.inr (.inr 1)] M4 (ri_ fun v3 M5 =>
      Qr [.inl v3] M5) Qt) Qt))) Qt) : V 0 [rr 1, ii x1, none] [] M := bx_go hD hV hW [] 23 h
/-- X1_number()I -/
theorem b_125_0 {D : ca_} {V : vv_} {Qr : qr_} {Qt : qt_} (hD : Mo_ D) (hV : Cl_ wd0 D V Qr Qt m_125) (hW : Wk_ V)  (M : mm_) (h :
 (0 ≤ M 1 3 ∧ M 1 3 < 1202) ∧
  D 108 [.inr (.inr 1), .inl 101] M (rv_ fun M1 =>
  Qr [.inl (M 73 (M 1 3))] M1) Qt) : V 0 [rr 1, none] [] M := bx_go hD hV hW [] 12 h
/-- X1_process()V -/
theorem b_126_0 {D : ca_} {V : vv_} {Qr : qr_} {Qt : qt_} (hD : Mo_ D) (hV : Cl_ wd0 D V Qr Qt m_126) (hW : Wk_ V)  (M : mm_) (h :
 D 105 [.inr (.inr 1)] M (rv_ fun M1 =>
  D 107 [.inr (.inr 1)] M1 (ri_ fun v1 M2 =>
   (bl_ (M2 1 8) → (if M2 1 8 = 0 then
    M2 1 2 = 5 ∧
     (if M2 5 2 = 6 then
     D 110 [.inr (.inr 1), .inl 1, .inl v1] M2 (rv_ fun M6 =>
      D 111 [.inr (.inr 1), .inl v1] M6 (ri_ fun v3 M7 =>
       (if v3 = 0 then
        V 52 [rr 1, ii v1, none, none, none, none, none] [] M7
       else
        D 116 [.inr (.inr 1), .inl 3, .inl v1] M7 (rv_ fun M8 =>
         V 52 [rr 1, ii v1, none, none, none, none, none] [] M8) Qt)) Qt) Qt
    else
     D 110 [.inr (.inr 1), .inl 0, .inl v1] M2 (rv_ fun M3 =>
      D 111 [.inr (.inr 1), .inl v1] M3 (ri_ fun v2 M4 =>
       (if v2 = 0 then
        V 52 [rr 1, ii v1, none, none, none, none, none] [] M4
       else
        D 116 [.inr (.inr 1), .inl 3, .inl v1] M4 (rv_ fun M5 =>
         V 52 [rr 1, ii v1, none, none, none, none, none] [] M5) Qt)) Qt) Qt)
   else
    V 158 [rr 1, ii v1, none, none, none, none, none] [] M2))) Qt) Qt) : V 0 [rr 1, none, none, none, none, none, none] [] M := bx_go hD hV hW [(52, [2, 3, 4, 5, 6]), (158, [2, 3, 4, 5, 6]), (281, [3, 4, 5, 6]), (296, [4, 5, 6]), (322, [5, 6]), (399, [4, 5, 6]), (461, [4, 5, 6])] 27 h
theorem i_126 : inq_ 0 k_126 = true := by decide +kernel
theorem z_126_27 : Sf_ k_126 g_126_27 := Sf_of i_126 27 rfl
theorem b_126_52 {D : ca_} {V : vv_} {Qr : qr_} {Qt : qt_} (hD : Mo_ D) (hV : Cl_ wd0 D V Qr Qt m_126) (hW : Wk_ V) (x1 : Int) (M : mm_) (h :
 M 1 2 = 5 ∧
  (0 ≤ M 5 2 ∧ M 5 2 < 6) ∧
  M 1 2 = 5 ∧
  M 1 2 = 5 ∧
  (0 ≤ M 5 2 ∧ M 5 2 < 6) ∧
  M 1 2 = 5 ∧
  M 1 2 = 5 ∧
  (0 ≤ M 5 2 ∧ M 5 2 < 6) ∧
  M 1 2 = 5 ∧
  M 1 2 = 5 ∧
  (0 ≤ M 5 2 ∧ M 5 2 < 6) ∧
  M 1 2 = 5 ∧
  M 1 2 = 5 ∧
  (0 ≤ M 5 2 ∧ M 5 2 < 6) ∧
  M 1 2 = 5 ∧
  M 1 2 = 5 ∧
  (0 ≤ M 5 2 ∧ M 5 2 < 6) ∧
  M 1 2 = 5 ∧
  V 158 [rr 1, ii x1, none, none, none, none, none] [] (up_ (up_ (up_ (up_ (up_ (up_ (up_ M 58 (M 5 2) x1) 124 (M 5 2) 0) 126 (M 5 2) 0) 123 (M 5 2) 0) 128 (M 5 2) 0) 125 (M 5 2) 0) 5 2 (w32 ((M 5 2) + 1)))) : V 52 [rr 1, ii x1, none, none, none, none, none] [] M := bx_go hD (m := (g_126_27, m_126.2)) (Cl_sf z_126_27 hV) hW [(52, [2, 3, 4, 5, 6]), (158, [2, 3, 4, 5, 6]), (281, [3, 4, 5, 6]), (296, [4, 5, 6]), (322, [5, 6]), (399, [4, 5, 6]), (461, [4, 5, 6])] 55 h
theorem z_126_81 : Sf_ k_126 g_126_81 := Sf_tr z_126_27 54 rfl
theorem b_126_158 {D : ca_} {V : vv_} {Qr : qr_} {Qt : qt_} (hD : Mo_ D) (hV : Cl_ wd0 D V Qr Qt m_126) (hW : Wk_ V) (x1 : Int) (M : mm_) (h :
 M 1 2 = 5 ∧
  D 124 [.inr (.inr 1), .inl 200] (up_ (up_ (up_ (up_ (up_ M 1 18 (M 1 33)) 1 33 (w32 ((M 1 33) + 1))) 1 19 0) 1 20 0) 1 29 0) (ri_ fun v1 M1 =>
  (0 ≤ M 1 33 ∧ M 1 33 < 6) ∧
   D 108 [.inr (.inr 1), .inl 115] (up_ M1 120 (M 1 33) v1) (rv_ fun M2 =>
   M2 1 2 = 5 ∧
    D 124 [.inr (.inr 1), .inl 200] M2 (ri_ fun v2 M3 =>
    (0 ≤ M2 1 18 ∧ M2 1 18 < 6) ∧
     (bl_ (M3 1 8) → (if M3 1 8 = 0 then
     V 281 [rr 1, ii x1, ii (M2 1 3), none, none, none, none] [] (up_ M3 121 (M2 1 18) v2)
    else
     M3 1 2 = 5 ∧
      (0 ≤ M3 1 18 ∧ M3 1 18 < 6) ∧
      M3 1 2 = 5 ∧
      (0 ≤ M3 1 18 ∧ M3 1 18 < 6) ∧
      (if (up_ M3 121 (M2 1 18) v2) 121 (M3 1 18) < M3 120 (M3 1 18) then
      D 116 [.inr (.inr 1), .inl 6, .inl (M2 1 3)] (up_ M3 121 (M2 1 18) v2) (rv_ fun M4 =>
       V 281 [rr 1, ii x1, ii (M2 1 3), none, none, none, none] [] M4) Qt
     else
      V 281 [rr 1, ii x1, ii (M2 1 3), none, none, none, none] [] (up_ M3 121 (M2 1 18) v2))))) Qt) Qt) Qt) : V 158 [rr 1, ii x1, none, none, none, none, none] [] M := bx_go hD (m := (g_126_81, m_126.2)) (Cl_sf z_126_81 hV) hW [(52, [2, 3, 4, 5, 6]), (158, [2, 3, 4, 5, 6]), (281, [3, 4, 5, 6]), (296, [4, 5, 6]), (322, [5, 6]), (399, [4, 5, 6]), (461, [4, 5, 6])] 64 h
theorem z_126_144 : Sf_ k_126 g_126_144 := Sf_tr z_126_81 63 rfl
theorem b_126_281 {D : ca_} {V : vv_} {Qr : qr_} {Qt : qt_} (hD : Mo_ D) (hV : Cl_ wd0 D V Qr Qt m_126) (hW : Wk_ V) (x1 : Int) (x2 : Int) (M : mm_) (h :
 D 117 [.inr (.inr 1), .inl 40] M (ri_ fun v1 M1 =>
  (if v1 = 0 then
   M1 1 2 = 5 ∧
    (0 ≤ M1 1 18 ∧ M1 1 18 < 6) ∧
    D 121 [.inr (.inr 1), .inl 59] (up_ M1 122 (M1 1 18) 0) (rv_ fun M2 =>
    V 399 [rr 1, ii x1, ii x2, ii 0, none, none, none] [] M2) Qt
  else
   D 118 [.inr (.inr 1)] M1 (rv_ fun M3 =>
    V 296 [rr 1, ii x1, ii x2, ii 0, none, none, none] [] M3) Qt)) Qt) : V 281 [rr 1, ii x1, ii x2, none, none, none, none] [] M := bx_go hD (m := (g_126_144, m_126.2)) (Cl_sf z_126_144 hV) hW [(52, [2, 3, 4, 5, 6]), (158, [2, 3, 4, 5, 6]), (281, [3, 4, 5, 6]), (296, [4, 5, 6]), (322, [5, 6]), (399, [4, 5, 6]), (461, [4, 5, 6])] 17 h
theorem z_126_152 : Sf_ k_126 g_126_152 := Sf_tr z_126_144 8 rfl
theorem b_126_296 {D : ca_} {V : vv_} {Qr : qr_} {Qt : qt_} (hD : Mo_ D) (hV : Cl_ wd0 D V Qr Qt m_126) (hW : Wk_ V) (x1 : Int) (x2 : Int) (x3 : Int) (M : mm_) (h :
 D 105 [.inr (.inr 1)] M (rv_ fun M1 =>
  D 107 [.inr (.inr 1)] M1 (ri_ fun v1 M2 =>
   (if x3 = 3 then
    D 110 [.inr (.inr 1), .inl 1, .inl v1] M2 (rv_ fun M4 =>
     V 322 [rr 1, ii x1, ii x2, ii x3, ii v1, none, none] [] M4) Qt
   else
    D 110 [.inr (.inr 1), .inl 0, .inl v1] M2 (rv_ fun M3 =>
     V 322 [rr 1, ii x1, ii x2, ii x3, ii v1, none, none] [] M3) Qt)) Qt) Qt) : V 296 [rr 1, ii x1, ii x2, ii x3, none, none, none] [] M := bx_go hD (m := (g_126_152, m_126.2)) (Cl_sf z_126_152 hV) hW [(52, [2, 3, 4, 5, 6]), (158, [2, 3, 4, 5, 6]), (281, [3, 4, 5, 6]), (296, [4, 5, 6]), (322, [5, 6]), (399, [4, 5, 6]), (461, [4, 5, 6])] 14 h
theorem z_126_166 : Sf_ k_126 g_126_166 := Sf_tr z_126_152 14 rfl
theorem b_126_322 {D : ca_} {V : vv_} {Qr : qr_} {Qt : qt_} (hD : Mo_ D) (hV : Cl_ wd0 D V Qr Qt m_126) (hW : Wk_ V) (x1 : Int) (x2 : Int) (x3 : Int) (x4 : Int) (M : mm_) (h :
 D 121 [.inr (.inr 1), .inl 58] M (rv_ fun M1 =>
  D 119 [.inr (.inr 1), .inl 0] M1 (ri_ fun v1 M2 =>
   D 127 [.inr (.inr 1), .inl x4, .inl v1, .inl 0, .inl (M1 1 3)] M2 (rv_ fun M3 =>
    D 117 [.inr (.inr 1), .inl 44] M3 (ri_ fun v2 M4 =>
     (if v2 = 0 then
      D 121 [.inr (.inr 1), .inl 41] M4 (rv_ fun M5 =>
       M5 1 2 = 5 ∧
        (0 ≤ M5 1 18 ∧ M5 1 18 < 6) ∧
        D 121 [.inr (.inr 1), .inl 59] (up_ (up_ M5 1 6 (w32 ((M5 1 6) - 1))) 122 (M5 1 18) (w32 (x3 + 1))) (rv_ fun M6 =>
        V 399 [rr 1, ii x1, ii x2, ii (w32 (x3 + 1)), none, none, none] [] M6) Qt) Qt
     else
      V 296 [rr 1, ii x1, ii x2, ii (w32 (x3 + 1)), none, none, none] [] M4)) Qt) Qt) Qt) Qt) : V 322 [rr 1, ii x1, ii x2, ii x3, ii x4, none, none] [] M := bx_go hD (m := (g_126_166, m_126.2)) (Cl_sf z_126_166 hV) hW [(52, [2, 3, 4, 5, 6]), (158, [2, 3, 4, 5, 6]), (281, [3, 4, 5, 6]), (296, [4, 5, 6]), (322, [5, 6]), (399, [4, 5, 6]), (461, [4, 5, 6])] 41 h
theorem z_126_206 : Sf_ k_126 g_126_206 := Sf_tr z_126_166 40 rfl
theorem b_126_399 {D : ca_} {V : vv_} {Qr : qr_} {Qt : qt_} (hD : Mo_ D) (hV : Cl_ wd0 D V Qr Qt m_126) (hW : Wk_ V) (x1 : Int) (x2 : Int) (x3 : Int) (M : mm_) (h :
 D 103 [.inr (.inr 1), .inl 3] M (ri_ fun v1 M1 =>
  (if v1 = 0 then
   D 103 [.inr (.inr 1), .inl 4] M1 (ri_ fun v2 M3 =>
    (if v2 = 0 then
     D 108 [.inr (.inr 1), .inl 5] M3 (rv_ fun M4 =>
      D 121 [.inr (.inr 1), .inl 59] M4 (rv_ fun M5 =>
       M5 1 2 = 5 ∧
        M5 1 2 = 5 ∧
        (0 ≤ M5 1 18 ∧ M5 1 18 < 6) ∧
        D 131 [.inr (.inr 1), .inl ((-1))] (up_ M5 127 (M5 1 18) (M5 5 3)) (rv_ fun M6 =>
        D 132 [.inr (.inr 1)] M6 (rv_ fun M7 =>
         V 461 [rr 1, ii x1, ii x2, ii x3, none, none, none] [] M7) Qt) Qt) Qt) Qt
    else
     D 130 [.inr (.inr 1)] M3 (rv_ fun M8 =>
      V 399 [rr 1, ii x1, ii x2, ii x3, none, none, none] [] M8) Qt)) Qt
  else
   D 130 [.inr (.inr 1)] M1 (rv_ fun M2 =>
    V 399 [rr 1, ii x1, ii x2, ii x3, none, none, none] [] M2) Qt)) Qt) : V 399 [rr 1, ii x1, ii x2, ii x3, none, none, none] [] M := bx_go hD (m := (g_126_206, m_126.2)) (Cl_sf z_126_206 hV) hW [(52, [2, 3, 4, 5, 6]), (158, [2, 3, 4, 5, 6]), (281, [3, 4, 5, 6]), (296, [4, 5, 6]), (322, [5, 6]), (399, [4, 5, 6]), (461, [4, 5, 6])] 29 h
theorem z_126_237 : Sf_ k_126 g_126_237 := Sf_tr z_126_206 31 rfl
theorem b_126_461 {D : ca_} {V : vv_} {Qr : qr_} {Qt : qt_} (hD : Mo_ D) (hV : Cl_ wd0 D V Qr Qt m_126) (hW : Wk_ V) (x1 : Int) (x2 : Int) (x3 : Int) (M : mm_) (h :
 D 103 [.inr (.inr 1), .inl 6] M (ri_ fun v1 M1 =>
  (if v1 = 0 then
   D 108 [.inr (.inr 1), .inl 20] M1 (rv_ fun M2 =>
    D 121 [.inr (.inr 1), .inl 59] M2 (rv_ fun M3 =>
     (bl_ (M3 1 8) → (if M3 1 8 = 0 then
      Qr [] M3
     else
      D 178 [.inr (.inr 1)] M3 (rv_ fun M4 =>
       Qr [] M4) Qt))) Qt) Qt
  else
   D 167 [.inr (.inr 1)] M1 (rv_ fun M5 =>
    V 461 [rr 1, ii x1, ii x2, ii x3, none, none, none] [] M5) Qt)) Qt) : V 461 [rr 1, ii x1, ii x2, ii x3, none, none, none] [] M := bx_go hD (m := (g_126_237, m_126.2)) (Cl_sf z_126_237 hV) hW [(52, [2, 3, 4, 5, 6]), (158, [2, 3, 4, 5, 6]), (281, [3, 4, 5, 6]), (296, [4, 5, 6]), (322, [5, 6]), (399, [4, 5, 6]), (461, [4, 5, 6])] 16 h
/-- X1_variableIs(IIII)V -/
theorem b_127_0 {D : ca_} {V : vv_} {Qr : qr_} {Qt : qt_} (hD : Mo_ D) (hV : Cl_ wd0 D V Qr Qt m_127) (hW : Wk_ V) (x1 : Int) (x2 : Int) (x3 : Int) (x4 : Int) (M : mm_) (h :
 (bl_ (M 1 8) → (if M 1 8 = 0 then
  M 1 2 = 5 ∧
   (0 ≤ M 1 18 ∧ M 1 18 < 6) ∧
   (if M 124 (M 1 18) = 8 then
   D 110 [.inr (.inr 1), .inl 1, .inl x1] M (rv_ fun M2 =>
    V 39 [rr 1, ii x1, ii x2, ii x3, ii x4, ii (M 124 (M 1 18))] [] M2) Qt
  else
   D 110 [.inr (.inr 1), .inl 0, .inl x1] M (rv_ fun M1 =>
    V 39 [rr 1, ii x1, ii x2, ii x3, ii x4, ii (M 124 (M 1 18))] [] M1) Qt)
 else
  Qr [] M))) : V 0 [rr 1, ii x1, ii x2, ii x3, ii x4, none] [] M := bx_go hD hV hW [(39, []), (97, [])] 19 h
theorem i_127 : inq_ 0 k_127 = true := by decide +kernel
theorem z_127_20 : Sf_ k_127 g_127_20 := Sf_of i_127 20 rfl
theorem b_127_39 {D : ca_} {V : vv_} {Qr : qr_} {Qt : qt_} (hD : Mo_ D) (hV : Cl_ wd0 D V Qr Qt m_127) (hW : Wk_ V) (x1 : Int) (x2 : Int) (x3 : Int) (x4 : Int) (x5 : Int) (M : mm_) (h :
 M 1 2 = 5 ∧
  (0 ≤ M 1 18 ∧ M 1 18 < 6) ∧
  (if w32 ((M 125 (M 1 18)) + (if 1 < x3 then x3 else 1)) ≤ 16 then
  D 110 [.inr (.inr 1), .inl 0, .inl x4] M (rv_ fun M1 =>
   D 128 [.inr (.inr 1), .inl x1] M1 (ri_ fun v1 M2 =>
    (if v1 = (-1) then
     D 129 [.inr (.inr 1), .inl x1] M2 (ri_ fun v2 M4 =>
      (if v2 = (-1) then
       V 97 [rr 1, ii x1, ii x2, ii x3, ii x4, ii x5] [] M4
      else
       D 116 [.inr (.inr 1), .inl 3, .inl x1] M4 (rv_ fun M5 =>
        V 97 [rr 1, ii x1, ii x2, ii x3, ii x4, ii x5] [] M5) Qt)) Qt
    else
     D 116 [.inr (.inr 1), .inl 3, .inl x1] M2 (rv_ fun M3 =>
      V 97 [rr 1, ii x1, ii x2, ii x3, ii x4, ii x5] [] M3) Qt)) Qt) Qt
 else
  D 110 [.inr (.inr 1), .inl 1, .inl x4] M (rv_ fun M6 =>
   D 128 [.inr (.inr 1), .inl x1] M6 (ri_ fun v3 M7 =>
    (if v3 = (-1) then
     D 129 [.inr (.inr 1), .inl x1] M7 (ri_ fun v4 M9 =>
      (if v4 = (-1) then
       V 97 [rr 1, ii x1, ii x2, ii x3, ii x4, ii x5] [] M9
      else
       D 116 [.inr (.inr 1), .inl 3, .inl x1] M9 (rv_ fun M10 =>
        V 97 [rr 1, ii x1, ii x2, ii x3, ii x4, ii x5] [] M10) Qt)) Qt
    else
     D 116 [.inr (.inr 1), .inl 3, .inl x1] M7 (rv_ fun M8 =>
      V 97 [rr 1, ii x1, ii x2, ii x3, ii x4, ii x5] [] M8) Qt)) Qt) Qt)) : V 39 [rr 1, ii x1, ii x2, ii x3, ii x4, ii x5] [] M := bx_go hD (m := (g_127_20, m_127.2)) (Cl_sf z_127_20 hV) hW [(39, []), (97, [])] 32 h
theorem z_127_52 : Sf_ k_127 g_127_52 := Sf_tr z_127_20 32 rfl
theorem b_127_97 {D : ca_} {V : vv_} {Qr : qr_} {Qt : qt_} (hD : Mo_ D) (hV : Cl_ wd0 D V Qr Qt m_127) (hW : Wk_ V) (x1 : Int) (x2 : Int) (x3 : Int) (x4 : Int) (x5 : Int) (M : mm_) (h :
 (0 ≤ w32 ((w32 (8 * (M 1 18))) + x5) ∧ w32 ((w32 (8 * (M 1 18))) + x5) < 48) ∧
  M 1 2 = 5 ∧
  (0 ≤ w32 ((w32 (8 * (M 1 18))) + x5) ∧ w32 ((w32 (8 * (M 1 18))) + x5) < 48) ∧
  M 1 2 = 5 ∧
  (0 ≤ w32 ((w32 (8 * (M 1 18))) + x5) ∧ w32 ((w32 (8 * (M 1 18))) + x5) < 48) ∧
  M 1 2 = 5 ∧
  M 1 2 = 5 ∧
  (0 ≤ M 1 18 ∧ M 1 18 < 6) ∧
  (0 ≤ w32 ((w32 (8 * (M 1 18))) + x5) ∧ w32 ((w32 (8 * (M 1 18))) + x5) < 48) ∧
  M 1 2 = 5 ∧
  (0 ≤ M 1 18 ∧ M 1 18 < 6) ∧
  (0 ≤ M 1 18 ∧ M 1 18 < 6) ∧
  M 1 2 = 5 ∧
  (0 ≤ M 1 18 ∧ M 1 18 < 6) ∧
  (0 ≤ M 1 18 ∧ M 1 18 < 6) ∧
  Qr [] (up_ (up_ (up_ (up_ (up_ (up_ M 60 (w32 ((w32 (8 * (M 1 18))) + x5)) x1) 130 (w32 ((w32 (8 * (M 1 18))) + x5)) x2) 131 (w32 ((w32 (8 * (M 1 18))) + x5)) x3) 132 (w32 ((w32 (8 * (M 1 18))) + x5)) (M 125 (M 1 18))) 125 (M 1 18) (w32 ((M 125 (M 1 18)) + (if 1 < x3 then x3 else 1)))) 124 (M 1 18) (w32 ((M 124 (M 1 18)) + 1)))) : V 97 [rr 1, ii x1, ii x2, ii x3, ii x4, ii x5] [] M := bx_go hD (m := (g_127_52, m_127.2)) (Cl_sf z_127_52 hV) hW [(39, []), (97, [])] 71 h
/-- X1_variableOf(I)I -/
theorem b_128_0 {D : ca_} {V : vv_} {Qr : qr_} {Qt : qt_} (hD : Mo_ D) (hV : Cl_ wd0 D V Qr Qt m_128) (hW : Wk_ V) (x1 : Int) (M : mm_) (h :
 M 1 2 = 5 ∧
  (0 ≤ M 1 18 ∧ M 1 18 < 6) ∧
  D 113 [.inr (.inr 1), .inr (.inr 60), .inl (w32 (8 * (M 1 18))), .inl (M 124 (M 1 18)), .inl x1] M (ri_ fun v1 M1 =>
  Qr [.inl v1] M1) Qt) : V 0 [rr 1, ii x1] [] M := bx_go hD hV hW [] 16 h
/-- X1_timerOf(I)I -/
theorem b_129_0 {D : ca_} {V : vv_} {Qr : qr_} {Qt : qt_} (hD : Mo_ D) (hV : Cl_ wd0 D V Qr Qt m_129) (hW : Wk_ V) (x1 : Int) (M : mm_) (h :
 M 1 2 = 5 ∧
  (0 ≤ M 1 18 ∧ M 1 18 < 6) ∧
  D 113 [.inr (.inr 1), .inr (.inr 61), .inl (w32 (3 * (M 1 18))), .inl (M 126 (M 1 18)), .inl x1] M (ri_ fun v1 M1 =>
  Qr [.inl v1] M1) Qt) : V 0 [rr 1, ii x1] [] M := bx_go hD hV hW [] 16 h
/-- X1_declares()V -/
theorem b_130_0 {D : ca_} {V : vv_} {Qr : qr_} {Qt : qt_} (hD : Mo_ D) (hV : Cl_ wd0 D V Qr Qt m_130) (hW : Wk_ V)  (M : mm_) (h :
 D 103 [.inr (.inr 1), .inl 4] M (ri_ fun v1 M1 =>
  D 105 [.inr (.inr 1)] M1 (rv_ fun M2 =>
   D 107 [.inr (.inr 1)] M2 (ri_ fun v2 M3 =>
    (if v1 = 0 then
     (bl_ (M3 1 8) → (if M3 1 8 = 0 then
      M3 1 2 = 5 ∧
       (0 ≤ M3 1 18 ∧ M3 1 18 < 6) ∧
       (if M3 124 (M3 1 18) = 8 then
       D 110 [.inr (.inr 1), .inl 1, .inl v2] M3 (rv_ fun M5 =>
        V 172 [rr 1, ii v1, ii v2, none, none, none, none] [] M5) Qt
      else
       D 110 [.inr (.inr 1), .inl 0, .inl v2] M3 (rv_ fun M4 =>
        V 172 [rr 1, ii v1, ii v2, none, none, none, none] [] M4) Qt)
     else
      V 172 [rr 1, ii v1, ii v2, none, none, none, none] [] M3))
    else
     (bl_ (M3 1 8) → (if M3 1 8 = 0 then
      M3 1 2 = 5 ∧
       (0 ≤ M3 1 18 ∧ M3 1 18 < 6) ∧
       (if M3 126 (M3 1 18) = 3 then
       D 110 [.inr (.inr 1), .inl 1, .inl v2] M3 (rv_ fun M15 =>
        D 128 [.inr (.inr 1), .inl v2] M15 (ri_ fun v6 M16 =>
         (if v6 = (-1) then
          D 129 [.inr (.inr 1), .inl v2] M16 (ri_ fun v7 M18 =>
           (if v7 = (-1) then
            V 76 [rr 1, ii v1, ii v2, none, none, none, none] [] M18
           else
            D 116 [.inr (.inr 1), .inl 3, .inl v2] M18 (rv_ fun M19 =>
             V 76 [rr 1, ii v1, ii v2, none, none, none, none] [] M19) Qt)) Qt
         else
          D 116 [.inr (.inr 1), .inl 3, .inl v2] M16 (rv_ fun M17 =>
           V 76 [rr 1, ii v1, ii v2, none, none, none, none] [] M17) Qt)) Qt) Qt
      else
       D 110 [.inr (.inr 1), .inl 0, .inl v2] M3 (rv_ fun M10 =>
        D 128 [.inr (.inr 1), .inl v2] M10 (ri_ fun v4 M11 =>
         (if v4 = (-1) then
          D 129 [.inr (.inr 1), .inl v2] M11 (ri_ fun v5 M13 =>
           (if v5 = (-1) then
            V 76 [rr 1, ii v1, ii v2, none, none, none, none] [] M13
           else
            D 116 [.inr (.inr 1), .inl 3, .inl v2] M13 (rv_ fun M14 =>
             V 76 [rr 1, ii v1, ii v2, none, none, none, none] [] M14) Qt)) Qt
         else
          D 116 [.inr (.inr 1), .inl 3, .inl v2] M11 (rv_ fun M12 =>
           V 76 [rr 1, ii v1, ii v2, none, none, none, none] [] M12) Qt)) Qt) Qt)
     else
      D 112 [.inr (.inr 1), .inl v2] M3 (ri_ fun v3 M6 =>
       (if v3 = (-1) then
        D 121 [.inr (.inr 1), .inl 59] M6 (rv_ fun M7 =>
         Qr [] M7) Qt
       else
        D 116 [.inr (.inr 1), .inl 3, .inl v2] M6 (rv_ fun M8 =>
         D 121 [.inr (.inr 1), .inl 59] M8 (rv_ fun M9 =>
          Qr [] M9) Qt) Qt)) Qt)))) Qt) Qt) Qt) : V 0 [rr 1, none, none, none, none, none, none] [] M := bx_go hD hV hW [(76, [3, 4, 5, 6]), (172, [3, 4, 5, 6]), (240, [])] 42 h
theorem i_130 : inq_ 0 k_130 = true := by decide +kernel
theorem z_130_42 : Sf_ k_130 g_130_42 := Sf_of i_130 42 rfl
theorem b_130_76 {D : ca_} {V : vv_} {Qr : qr_} {Qt : qt_} (hD : Mo_ D) (hV : Cl_ wd0 D V Qr Qt m_130) (hW : Wk_ V) (x1 : Int) (x2 : Int) (M : mm_) (h :
 M 1 2 = 5 ∧
  (0 ≤ M 1 18 ∧ M 1 18 < 6) ∧
  (0 ≤ w32 ((w32 (3 * (M 1 18))) + (M 126 (M 1 18))) ∧ w32 ((w32 (3 * (M 1 18))) + (M 126 (M 1 18))) < 18) ∧
  M 1 2 = 5 ∧
  (0 ≤ M 1 18 ∧ M 1 18 < 6) ∧
  (0 ≤ M 1 18 ∧ M 1 18 < 6) ∧
  D 121 [.inr (.inr 1), .inl 59] (up_ (up_ M 61 (w32 ((w32 (3 * (M 1 18))) + (M 126 (M 1 18)))) x2) 126 (M 1 18) (w32 ((M 126 (M 1 18)) + 1))) (rv_ fun M1 =>
  Qr [] M1) Qt) : V 76 [rr 1, ii x1, ii x2, none, none, none, none] [] M := bx_go hD (m := (g_130_42, m_130.2)) (Cl_sf z_130_42 hV) hW [(76, [3, 4, 5, 6]), (172, [3, 4, 5, 6]), (240, [])] 30 h
theorem z_130_95 : Sf_ k_130 g_130_95 := Sf_tr z_130_42 53 rfl
theorem b_130_172 {D : ca_} {V : vv_} {Qr : qr_} {Qt : qt_} (hD : Mo_ D) (hV : Cl_ wd0 D V Qr Qt m_130) (hW : Wk_ V) (x1 : Int) (x2 : Int) (M : mm_) (h :
 D 121 [.inr (.inr 1), .inl 58] M (rv_ fun M1 =>
  D 119 [.inr (.inr 1), .inl 0] M1 (ri_ fun v1 M2 =>
   D 117 [.inr (.inr 1), .inl 91] M2 (ri_ fun v2 M3 =>
    (if v2 = 0 then
     D 127 [.inr (.inr 1), .inl x2, .inl v1, .inl 0, .inl (M1 1 3)] M3 (rv_ fun M4 =>
      D 121 [.inr (.inr 1), .inl 59] M4 (rv_ fun M5 =>
       Qr [] M5) Qt) Qt
    else
     D 118 [.inr (.inr 1)] M3 (rv_ fun M6 =>
      D 105 [.inr (.inr 1)] M6 (rv_ fun M7 =>
       D 124 [.inr (.inr 1), .inl 8] M7 (ri_ fun v3 M8 =>
        (if v3 = 0 then
         D 110 [.inr (.inr 1), .inl 1, .inl (M7 1 3)] M8 (rv_ fun M10 =>
          V 240 [rr 1, ii x1, ii x2, ii (M1 1 3), ii v1, ii v3, ii (M7 1 3)] [] M10) Qt
        else
         D 110 [.inr (.inr 1), .inl 0, .inl (M7 1 3)] M8 (rv_ fun M9 =>
          V 240 [rr 1, ii x1, ii x2, ii (M1 1 3), ii v1, ii v3, ii (M7 1 3)] [] M9) Qt)) Qt) Qt) Qt)) Qt) Qt) Qt) : V 172 [rr 1, ii x1, ii x2, none, none, none, none] [] M := bx_go hD (m := (g_130_95, m_130.2)) (Cl_sf z_130_95 hV) hW [(76, [3, 4, 5, 6]), (172, [3, 4, 5, 6]), (240, [])] 35 h
theorem z_130_130 : Sf_ k_130 g_130_130 := Sf_tr z_130_95 35 rfl
theorem b_130_240 {D : ca_} {V : vv_} {Qr : qr_} {Qt : qt_} (hD : Mo_ D) (hV : Cl_ wd0 D V Qr Qt m_130) (hW : Wk_ V) (x1 : Int) (x2 : Int) (x3 : Int) (x4 : Int) (x5 : Int) (x6 : Int) (M : mm_) (h :
 D 121 [.inr (.inr 1), .inl 93] M (rv_ fun M1 =>
  D 127 [.inr (.inr 1), .inl x2, .inl x4, .inl x5, .inl (M 1 3)] (up_ M1 1 6 (w32 ((M1 1 6) - 1))) (rv_ fun M2 =>
   D 121 [.inr (.inr 1), .inl 59] M2 (rv_ fun M3 =>
    Qr [] M3) Qt) Qt) Qt) : V 240 [rr 1, ii x1, ii x2, ii x3, ii x4, ii x5, ii x6] [] M := bx_go hD (m := (g_130_130, m_130.2)) (Cl_sf z_130_130 hV) hW [(76, [3, 4, 5, 6]), (172, [3, 4, 5, 6]), (240, [])] 22 h
/-- X1_stands(I)V -/
theorem b_131_0 {D : ca_} {V : vv_} {Qr : qr_} {Qt : qt_} (hD : Mo_ D) (hV : Cl_ wd0 D V Qr Qt m_131) (hW : Wk_ V) (x1 : Int) (M : mm_) (h :
 (0 ≤ M 1 29 ∧ M 1 29 < 600) ∧
  (0 ≤ M 1 29 ∧ M 1 29 < 600) ∧
  (0 ≤ M 1 29 ∧ M 1 29 < 600) ∧
  (0 ≤ M 1 29 ∧ M 1 29 < 600) ∧
  Qr [] (up_ (up_ (up_ (up_ (up_ M 66 (M 1 29) x1) 63 (M 1 29) 0) 64 (M 1 29) 0) 65 (M 1 29) 0) 1 29 (w32 ((M 1 29) + 1)))) : V 0 [rr 1, ii x1] [] M := bx_go hD hV hW [] 31 h
/-- X1_trans()V -/
theorem b_132_0 {D : ca_} {V : vv_} {Qr : qr_} {Qt : qt_} (hD : Mo_ D) (hV : Cl_ wd0 D V Qr Qt m_132) (hW : Wk_ V)  (M : mm_) (h :
 D 133 [.inr (.inr 1)] M (ri_ fun v1 M1 =>
  (if v1 = 0 then
   (bl_ (M1 1 8) → (if M1 1 8 = 0 then
    Qr [] M1
   else
    D 116 [.inr (.inr 1), .inl 6, .inl (M1 1 3)] M1 (rv_ fun M2 =>
     Qr [] M2) Qt))
  else
   Qr [] M1)) Qt) : V 0 [rr 1] [] M := bx_go hD hV hW [] 12 h
/-- X1_part()Z -/
theorem b_133_0 {D : ca_} {V : vv_} {Qr : qr_} {Qt : qt_} (hD : Mo_ D) (hV : Cl_ wd0 D V Qr Qt m_133) (hW : Wk_ V)  (M : mm_) (h :
 D 134 [.inr (.inr 1)] M (ri_ fun v1 M1 =>
  V 7 [rr 1, ii 0, ii v1, none] [] M1) Qt) : V 0 [rr 1, none, none, none] [] M := bx_go hD hV hW [(7, [3]), (11, [3])] 6 h
theorem b_133_7 {D : ca_} {V : vv_} {Qr : qr_} {Qt : qt_} (hD : Mo_ D) (hV : Cl_ wd0 D V Qr Qt m_133) (hW : Wk_ V) (x1 : Int) (x2 : Int) (M : mm_) (h :
 (if x2 = 0 then
  bl_ x1 ∧ Qr [.inl x1] M
 else
  V 11 [rr 1, ii x1, ii x2, none] [] M)) : V 7 [rr 1, ii x1, ii x2, none] [] M := bx_go hD hV hW [(7, [3]), (11, [3])] 4 h
theorem i_133 : inq_ 0 k_133 = true := by decide +kernel
theorem z_133_7 : Sf_ k_133 g_133_7 := Sf_of i_133 7 rfl
theorem b_133_11 {D : ca_} {V : vv_} {Qr : qr_} {Qt : qt_} (hD : Mo_ D) (hV : Cl_ wd0 D V Qr Qt m_133) (hW : Wk_ V) (x1 : Int) (x2 : Int) (M : mm_) (h :
 D 136 [.inr (.inr 1)] M (ri_ fun v1 M1 =>
  (if v1 = 0 then
   D 134 [.inr (.inr 1)] M1 (ri_ fun v2 M2 =>
    (if v2 = 0 then
     D 109 [.inr (.inr 1)] M2 (rf_r fun v8 M11 =>
      (if v8 = 1999 then False else Qt v8 M11)) Qt
    else
     D 138 [.inr (.inr 1), .inl 30] M2 (rv_ fun M3 =>
      D 139 [.inr (.inr 1)] M3 (ri_ fun v3 M4 =>
       D 138 [.inr (.inr 1), .inl v3] M4 (rv_ fun M5 =>
        D 135 [.inr (.inr 1)] M5 (ri_ fun v4 M6 =>
         (if v4 = 0 then
          D 143 [.inr (.inr 1)] M6 (ri_ fun v5 M7 =>
           (if v4 = 0 then
            D 134 [.inr (.inr 1)] M7 (ri_ fun v6 M8 =>
             (if v6 = 0 then
              V 7 [rr 1, ii v5, ii 0, none] [] M8
             else
              V 7 [rr 1, ii v5, ii 1, none] [] M8)) Qt
           else
            V 7 [rr 1, ii v5, ii 0, none] [] M7)) Qt
         else
          D 140 [.inr (.inr 1)] M6 (rv_ fun M9 =>
           (if v4 = 0 then
            D 134 [.inr (.inr 1)] M9 (ri_ fun v7 M10 =>
             (if v7 = 0 then
              V 7 [rr 1, ii v4, ii 0, none] [] M10
             else
              V 7 [rr 1, ii v4, ii 1, none] [] M10)) Qt
           else
            V 7 [rr 1, ii v4, ii 0, none] [] M9)) Qt)) Qt) Qt) Qt) Qt)) Qt
  else
   D 137 [.inr (.inr 1)] M1 (rv_ fun M12 =>
    V 11 [rr 1, ii x1, ii x2, none] [] M12) Qt)) Qt) : V 11 [rr 1, ii x1, ii x2, none] [] M := bx_go hD (m := (g_133_7, m_133.2)) (Cl_sf z_133_7 hV) hW [(7, [3]), (11, [3])] 33 h
/-- X1_begins()Z -/
theorem b_134_0 {D : ca_} {V : vv_} {Qr : qr_} {Qt : qt_} (hD : Mo_ D) (hV : Cl_ wd0 D V Qr Qt m_134) (hW : Wk_ V)  (M : mm_) (h :
 D 103 [.inr (.inr 1), .inl 100] M (ri_ fun v1 M1 =>
  (if v1 = 0 then
   D 103 [.inr (.inr 1), .inl 14] M1 (ri_ fun v2 M2 =>
    (if v2 = 0 then
     D 103 [.inr (.inr 1), .inl 15] M2 (ri_ fun v3 M3 =>
      (if v3 = 0 then
       D 103 [.inr (.inr 1), .inl 16] M3 (ri_ fun v4 M4 =>
        (if v4 = 0 then
         D 103 [.inr (.inr 1), .inl 17] M4 (ri_ fun v5 M5 =>
          (if v5 = 0 then
           D 103 [.inr (.inr 1), .inl 18] M5 (ri_ fun v6 M6 =>
            (if v6 = 0 then
             D 135 [.inr (.inr 1)] M6 (ri_ fun v7 M7 =>
              (if v7 = 0 then
               bl_ 0 ∧ Qr [.inl 0] M7
              else
               bl_ 1 ∧ Qr [.inl 1] M7)) Qt
            else
             bl_ 1 ∧ Qr [.inl 1] M6)) Qt
          else
           bl_ 1 ∧ Qr [.inl 1] M5)) Qt
        else
         bl_ 1 ∧ Qr [.inl 1] M4)) Qt
      else
       bl_ 1 ∧ Qr [.inl 1] M3)) Qt
    else
     bl_ 1 ∧ Qr [.inl 1] M2)) Qt
  else
   bl_ 1 ∧ Qr [.inl 1] M1)) Qt) : V 0 [rr 1] [] M := bx_go hD hV hW [] 30 h
/-- X1_isLast()Z -/
theorem b_135_0 {D : ca_} {V : vv_} {Qr : qr_} {Qt : qt_} (hD : Mo_ D) (hV : Cl_ wd0 D V Qr Qt m_135) (hW : Wk_ V)  (M : mm_) (h :
 D 103 [.inr (.inr 1), .inl 11] M (ri_ fun v1 M1 =>
  (if v1 = 0 then
   D 103 [.inr (.inr 1), .inl 12] M1 (ri_ fun v2 M2 =>
    (if v2 = 0 then
     D 103 [.inr (.inr 1), .inl 13] M2 (ri_ fun v3 M3 =>
      (if v3 = 0 then
       bl_ 0 ∧ Qr [.inl 0] M3
      else
       bl_ 1 ∧ Qr [.inl 1] M3)) Qt
    else
     bl_ 1 ∧ Qr [.inl 1] M2)) Qt
  else
   bl_ 1 ∧ Qr [.inl 1] M1)) Qt) : V 0 [rr 1] [] M := bx_go hD hV hW [] 15 h
/-- X1_isLabel()Z -/
theorem b_136_0 {D : ca_} {V : vv_} {Qr : qr_} {Qt : qt_} (hD : Mo_ D) (hV : Cl_ wd0 D V Qr Qt m_136) (hW : Wk_ V)  (M : mm_) (h :
 D 103 [.inr (.inr 1), .inl 100] M (ri_ fun v1 M1 =>
  (if v1 = 0 then
   bl_ 0 ∧ Qr [.inl 0] M1
  else
   (0 ≤ w32 ((M1 1 3) + 1) ∧ w32 ((M1 1 3) + 1) < 1202) ∧
    (if M1 70 (w32 ((M1 1 3) + 1)) = 258 then
    bl_ 1 ∧ Qr [.inl 1] M1
   else
    bl_ 0 ∧ Qr [.inl 0] M1))) Qt) : V 0 [rr 1] [] M := bx_go hD hV hW [] 17 h
/-- X1_label()V -/
theorem b_137_0 {D : ca_} {V : vv_} {Qr : qr_} {Qt : qt_} (hD : Mo_ D) (hV : Cl_ wd0 D V Qr Qt m_137) (hW : Wk_ V)  (M : mm_) (h :
 (bl_ (M 1 8) → (if M 1 8 = 0 then
  M 1 2 = 5 ∧
   (0 ≤ M 1 18 ∧ M 1 18 < 6) ∧
   (if M 128 (M 1 18) = 10 then
   D 110 [.inr (.inr 1), .inl 1, .inl (M 1 3)] M (rv_ fun M4 =>
    V 41 [rr 1, ii (M 1 3), ii (M 128 (M 1 18))] [] M4) Qt
  else
   D 110 [.inr (.inr 1), .inl 0, .inl (M 1 3)] M (rv_ fun M3 =>
    V 41 [rr 1, ii (M 1 3), ii (M 128 (M 1 18))] [] M3) Qt)
 else
  M 1 2 = 5 ∧
   M 1 2 = 5 ∧
   (0 ≤ w32 ((w32 (10 * (M 1 18))) + (M 1 19)) ∧ w32 ((w32 (10 * (M 1 18))) + (M 1 19)) < 60) ∧
   (0 ≤ w32 ((M 1 29) - 1) ∧ w32 ((M 1 29) - 1) < 600) ∧
   (0 ≤ w32 ((M 1 29) - 1) ∧ w32 ((M 1 29) - 1) < 600) ∧
   D 105 [.inr (.inr 1)] (up_ (up_ (up_ M 129 (w32 ((w32 (10 * (M 1 18))) + (M 1 19))) (M 5 3)) 64 (w32 ((M 1 29) - 1)) (or_ (M 64 (w32 ((M 1 29) - 1))) (sl_ 1 (M 1 19)))) 1 19 (w32 ((M 1 19) + 1))) (rv_ fun M1 =>
   D 105 [.inr (.inr 1)] M1 (rv_ fun M2 =>
    Qr [] M2) Qt) Qt))) : V 0 [rr 1, none, none] [] M := bx_go hD hV hW [(41, []), (68, [])] 45 h
theorem i_137 : inq_ 0 k_137 = true := by decide +kernel
theorem z_137_22 : Sf_ k_137 g_137_22 := Sf_of i_137 22 rfl
theorem b_137_41 {D : ca_} {V : vv_} {Qr : qr_} {Qt : qt_} (hD : Mo_ D) (hV : Cl_ wd0 D V Qr Qt m_137) (hW : Wk_ V) (x1 : Int) (x2 : Int) (M : mm_) (h :
 D 113 [.inr (.inr 1), .inr (.inr 62), .inl (w32 (10 * (M 1 18))), .inl x2, .inl x1] M (ri_ fun v1 M1 =>
  (if v1 = (-1) then
   V 68 [rr 1, ii x1, ii x2] [] M1
  else
   D 116 [.inr (.inr 1), .inl 3, .inl x1] M1 (rv_ fun M2 =>
    V 68 [rr 1, ii x1, ii x2] [] M2) Qt)) Qt) : V 41 [rr 1, ii x1, ii x2] [] M := bx_go hD (m := (g_137_22, m_137.2)) (Cl_sf z_137_22 hV) hW [(41, []), (68, [])] 17 h
theorem z_137_38 : Sf_ k_137 g_137_38 := Sf_tr z_137_22 16 rfl
theorem b_137_68 {D : ca_} {V : vv_} {Qr : qr_} {Qt : qt_} (hD : Mo_ D) (hV : Cl_ wd0 D V Qr Qt m_137) (hW : Wk_ V) (x1 : Int) (x2 : Int) (M : mm_) (h :
 (0 ≤ w32 ((w32 (10 * (M 1 18))) + x2) ∧ w32 ((w32 (10 * (M 1 18))) + x2) < 60) ∧
  M 1 2 = 5 ∧
  (0 ≤ M 1 18 ∧ M 1 18 < 6) ∧
  (0 ≤ M 1 18 ∧ M 1 18 < 6) ∧
  D 105 [.inr (.inr 1)] (up_ (up_ M 62 (w32 ((w32 (10 * (M 1 18))) + x2)) x1) 128 (M 1 18) (w32 ((M 128 (M 1 18)) + 1))) (rv_ fun M1 =>
  D 105 [.inr (.inr 1)] M1 (rv_ fun M2 =>
   Qr [] M2) Qt) Qt) : V 68 [rr 1, ii x1, ii x2] [] M := bx_go hD (m := (g_137_38, m_137.2)) (Cl_sf z_137_38 hV) hW [(41, []), (68, [])] 26 h
/-- X1_puts(I)V -/
theorem b_138_0 {D : ca_} {V : vv_} {Qr : qr_} {Qt : qt_} (hD : Mo_ D) (hV : Cl_ wd0 D V Qr Qt m_138) (hW : Wk_ V) (x1 : Int) (M : mm_) (h :
 (bl_ (M 1 8) → (if M 1 8 = 0 then
  Qr [] M
 else
  M 1 2 = 5 ∧
   D 207 [.inr (.inr 5), .inl x1] M (rv_ fun M1 =>
   Qr [] M1) Qt))) : V 0 [rr 1, ii x1] [] M := bx_go hD hV hW [] 8 h
/-- X1_here()I -/
theorem b_139_0 {D : ca_} {V : vv_} {Qr : qr_} {Qt : qt_} (hD : Mo_ D) (hV : Cl_ wd0 D V Qr Qt m_139) (hW : Wk_ V)  (M : mm_) (h :
 (0 ≤ M 1 3 ∧ M 1 3 < 1202) ∧
  Qr [.inl (M 71 (M 1 3))] M) : V 0 [rr 1] [] M := bx_go hD hV hW [] 7 h
/-- X1_last()V -/
theorem b_140_0 {D : ca_} {V : vv_} {Qr : qr_} {Qt : qt_} (hD : Mo_ D) (hV : Cl_ wd0 D V Qr Qt m_140) (hW : Wk_ V)  (M : mm_) (h :
 D 103 [.inr (.inr 1), .inl 12] M (ri_ fun v1 M1 =>
  (if v1 = 0 then
   D 103 [.inr (.inr 1), .inl 13] M1 (ri_ fun v2 M2 =>
    (if v2 = 0 then
     D 105 [.inr (.inr 1)] M2 (rv_ fun M3 =>
      D 141 [.inr (.inr 1)] M3 (rv_ fun M4 =>
       D 121 [.inr (.inr 1), .inl 59] M4 (rv_ fun M5 =>
        Qr [] M5) Qt) Qt) Qt
    else
     D 105 [.inr (.inr 1)] M2 (rv_ fun M6 =>
      D 107 [.inr (.inr 1)] M6 (ri_ fun v3 M7 =>
       (bl_ (M7 1 8) → (if M7 1 8 = 0 then
        D 121 [.inr (.inr 1), .inl 59] M7 (rv_ fun M8 =>
         Qr [] M8) Qt
       else
        M7 1 2 = 5 ∧
         (0 ≤ M7 1 18 ∧ M7 1 18 < 6) ∧
         D 113 [.inr (.inr 1), .inr (.inr 62), .inl (w32 (10 * (M7 1 18))), .inl (M7 128 (M7 1 18)), .inl v3] M7 (ri_ fun v4 M9 =>
         (if v4 = (-1) then
          D 116 [.inr (.inr 1), .inl 4, .inl v3] M9 (rv_ fun M10 =>
           V 107 [rr 1, ii v3, ii v4] [] M10) Qt
         else
          (0 ≤ w32 ((M9 1 29) - 1) ∧ w32 ((M9 1 29) - 1) < 600) ∧
           (0 ≤ w32 ((M9 1 29) - 1) ∧ w32 ((M9 1 29) - 1) < 600) ∧
           V 107 [rr 1, ii v3, ii v4] [] (up_ M9 65 (w32 ((M9 1 29) - 1)) (or_ (M9 65 (w32 ((M9 1 29) - 1))) (sl_ 1 v4))))) Qt))) Qt) Qt)) Qt
  else
   D 105 [.inr (.inr 1)] M1 (rv_ fun M11 =>
    D 138 [.inr (.inr 1), .inl 41] M11 (rv_ fun M12 =>
     D 121 [.inr (.inr 1), .inl 59] M12 (rv_ fun M13 =>
      Qr [] M13) Qt) Qt) Qt)) Qt) : V 0 [rr 1, none, none] [] M := bx_go hD hV hW [(107, [])] 49 h
theorem i_140 : inq_ 0 k_140 = true := by decide +kernel
theorem z_140_59 : Sf_ k_140 g_140_59 := Sf_of i_140 59 rfl
theorem b_140_107 {D : ca_} {V : vv_} {Qr : qr_} {Qt : qt_} (hD : Mo_ D) (hV : Cl_ wd0 D V Qr Qt m_140) (hW : Wk_ V) (x1 : Int) (x2 : Int) (M : mm_) (h :
 D 138 [.inr (.inr 1), .inl 42] M (rv_ fun M1 =>
  D 138 [.inr (.inr 1), .inl (w32 ((w32 (10 * (M1 1 18))) + (if 0 < x2 then x2 else 0)))] M1 (rv_ fun M2 =>
   D 121 [.inr (.inr 1), .inl 59] M2 (rv_ fun M3 =>
    Qr [] M3) Qt) Qt) Qt) : V 107 [rr 1, ii x1, ii x2] [] M := bx_go hD (m := (g_140_59, m_140.2)) (Cl_sf z_140_59 hV) hW [(107, [])] 18 h
/-- X1_next()V -/
theorem b_141_0 {D : ca_} {V : vv_} {Qr : qr_} {Qt : qt_} (hD : Mo_ D) (hV : Cl_ wd0 D V Qr Qt m_141) (hW : Wk_ V)  (M : mm_) (h :
 D 117 [.inr (.inr 1), .inl 45] M (ri_ fun v1 M1 =>
  (if v1 = 0 then
   D 107 [.inr (.inr 1)] M1 (ri_ fun v2 M2 =>
    (bl_ (M2 1 8) → (if M2 1 8 = 0 then
     Qr [] M2
    else
     D 142 [.inr (.inr 1), .inl v2] M2 (ri_ fun v3 M3 =>
      (if v3 = (-1) then
       D 116 [.inr (.inr 1), .inl 4, .inl v2] M3 (rv_ fun M6 =>
        D 138 [.inr (.inr 1), .inl 39] M6 (rv_ fun M7 =>
         D 138 [.inr (.inr 1), .inl v3] M7 (rv_ fun M8 =>
          Qr [] M8) Qt) Qt) Qt
      else
       (0 ≤ w32 ((M3 1 29) - 1) ∧ w32 ((M3 1 29) - 1) < 600) ∧
        (0 ≤ w32 ((M3 1 29) - 1) ∧ w32 ((M3 1 29) - 1) < 600) ∧
        D 138 [.inr (.inr 1), .inl 39] (up_ M3 63 (w32 ((M3 1 29) - 1)) (or_ (M3 63 (w32 ((M3 1 29) - 1))) (sl_ 1 v3))) (rv_ fun M4 =>
        D 138 [.inr (.inr 1), .inl v3] M4 (rv_ fun M5 =>
         Qr [] M5) Qt) Qt)) Qt))) Qt
  else
   (bl_ (M1 1 8) → (if M1 1 8 = 0 then
    D 105 [.inr (.inr 1)] M1 (rv_ fun M9 =>
     D 138 [.inr (.inr 1), .inl 40] M9 (rv_ fun M10 =>
      Qr [] M10) Qt) Qt
   else
    (0 ≤ w32 ((M1 1 29) - 1) ∧ w32 ((M1 1 29) - 1) < 600) ∧
     (if M1 66 (w32 ((M1 1 29) - 1)) = (-1) then
     D 116 [.inr (.inr 1), .inl 6, .inl (M1 1 3)] M1 (rv_ fun M13 =>
      D 105 [.inr (.inr 1)] M13 (rv_ fun M14 =>
       D 138 [.inr (.inr 1), .inl 40] M14 (rv_ fun M15 =>
        Qr [] M15) Qt) Qt) Qt
    else
     D 105 [.inr (.inr 1)] M1 (rv_ fun M11 =>
      D 138 [.inr (.inr 1), .inl 40] M11 (rv_ fun M12 =>
       Qr [] M12) Qt) Qt))))) Qt) : V 0 [rr 1, none, none] [] M := bx_go hD hV hW [] 37 h
/-- X1_stateOf(I)I -/
theorem b_142_0 {D : ca_} {V : vv_} {Qr : qr_} {Qt : qt_} (hD : Mo_ D) (hV : Cl_ wd0 D V Qr Qt m_142) (hW : Wk_ V) (x1 : Int) (M : mm_) (h :
 M 1 2 = 5 ∧
  (0 ≤ M 1 18 ∧ M 1 18 < 6) ∧
  D 113 [.inr (.inr 1), .inr (.inr 59), .inl (w32 (12 * (M 1 18))), .inl (M 123 (M 1 18)), .inl x1] M (ri_ fun v1 M1 =>
  Qr [.inl v1] M1) Qt) : V 0 [rr 1, ii x1] [] M := bx_go hD hV hW [] 16 h
/-- X1_act()Z -/
theorem b_143_0 {D : ca_} {V : vv_} {Qr : qr_} {Qt : qt_} (hD : Mo_ D) (hV : Cl_ wd0 D V Qr Qt m_143) (hW : Wk_ V)  (M : mm_) (h :
 D 103 [.inr (.inr 1), .inl 100] M (ri_ fun v1 M1 =>
  (if v1 = 0 then
   D 103 [.inr (.inr 1), .inl 14] M1 (ri_ fun v2 M2 =>
    (if v2 = 0 then
     D 103 [.inr (.inr 1), .inl 15] M2 (ri_ fun v3 M3 =>
      (if v3 = 0 then
       D 103 [.inr (.inr 1), .inl 16] M3 (ri_ fun v4 M4 =>
        (if v4 = 0 then
         D 103 [.inr (.inr 1), .inl 17] M4 (ri_ fun v5 M5 =>
          (if v5 = 0 then
           D 161 [.inr (.inr 1)] M5 (ri_ fun v6 M6 =>
            D 121 [.inr (.inr 1), .inl 59] M6 (rv_ fun M7 =>
             bl_ v6 ∧ Qr [.inl v6] M7) Qt) Qt
          else
           D 160 [.inr (.inr 1)] M5 (rv_ fun M8 =>
            D 121 [.inr (.inr 1), .inl 59] M8 (rv_ fun M9 =>
             bl_ 0 ∧ Qr [.inl 0] M9) Qt) Qt)) Qt
        else
         V 52 [rr 1, ii 0, none, none, none] [] M4)) Qt
      else
       V 52 [rr 1, ii 0, none, none, none] [] M3)) Qt
    else
     D 157 [.inr (.inr 1)] M2 (rv_ fun M10 =>
      D 121 [.inr (.inr 1), .inl 59] M10 (rv_ fun M11 =>
       bl_ 0 ∧ Qr [.inl 0] M11) Qt) Qt)) Qt
  else
   D 144 [.inr (.inr 1)] M1 (rv_ fun M12 =>
    D 121 [.inr (.inr 1), .inl 59] M12 (rv_ fun M13 =>
     bl_ 0 ∧ Qr [.inl 0] M13) Qt) Qt)) Qt) : V 0 [rr 1, none, none, none, none] [] M := bx_go hD hV hW [(52, [2, 3, 4]), (103, [])] 30 h
theorem i_143 : inq_ 0 k_143 = true := by decide +kernel
theorem z_143_24 : Sf_ k_143 g_143_24 := Sf_of i_143 24 rfl
theorem b_143_52 {D : ca_} {V : vv_} {Qr : qr_} {Qt : qt_} (hD : Mo_ D) (hV : Cl_ wd0 D V Qr Qt m_143) (hW : Wk_ V) (x1 : Int) (M : mm_) (h :
 D 103 [.inr (.inr 1), .inl 15] M (ri_ fun v1 M1 =>
  D 105 [.inr (.inr 1)] M1 (rv_ fun M2 =>
   D 107 [.inr (.inr 1)] M2 (ri_ fun v2 M3 =>
    D 129 [.inr (.inr 1), .inl v2] M3 (ri_ fun v3 M4 =>
     (bl_ (M4 1 8) → (if M4 1 8 = 0 then
      (if v1 = 0 then
       V 103 [rr 1, ii x1, ii v1, ii v2, ii v3] [] M4
      else
       D 145 [.inr (.inr 1), .inl 0] M4 (rv_ fun M5 =>
        V 103 [rr 1, ii x1, ii v1, ii v2, ii v3] [] M5) Qt)
     else
      (if v3 = (-1) then
       D 116 [.inr (.inr 1), .inl 4, .inl v2] M4 (rv_ fun M7 =>
        (if v1 = 0 then
         V 103 [rr 1, ii x1, ii v1, ii v2, ii v3] [] M7
        else
         D 145 [.inr (.inr 1), .inl 0] M7 (rv_ fun M8 =>
          V 103 [rr 1, ii x1, ii v1, ii v2, ii v3] [] M8) Qt)) Qt
      else
       (if v1 = 0 then
        V 103 [rr 1, ii x1, ii v1, ii v2, ii v3] [] M4
       else
        D 145 [.inr (.inr 1), .inl 0] M4 (rv_ fun M6 =>
         V 103 [rr 1, ii x1, ii v1, ii v2, ii v3] [] M6) Qt))))) Qt) Qt) Qt) Qt) : V 52 [rr 1, ii x1, none, none, none] [] M := bx_go hD (m := (g_143_24, m_143.2)) (Cl_sf z_143_24 hV) hW [(52, [2, 3, 4]), (103, [])] 29 h
theorem z_143_52 : Sf_ k_143 g_143_52 := Sf_tr z_143_24 28 rfl
theorem b_143_103 {D : ca_} {V : vv_} {Qr : qr_} {Qt : qt_} (hD : Mo_ D) (hV : Cl_ wd0 D V Qr Qt m_143) (hW : Wk_ V) (x1 : Int) (x2 : Int) (x3 : Int) (x4 : Int) (M : mm_) (h :
 (if x2 = 0 then
  D 138 [.inr (.inr 1), .inl 35] M (rv_ fun M1 =>
   D 138 [.inr (.inr 1), .inl x4] M1 (rv_ fun M2 =>
    D 121 [.inr (.inr 1), .inl 59] M2 (rv_ fun M3 =>
     bl_ x1 ∧ Qr [.inl x1] M3) Qt) Qt) Qt
 else
  D 138 [.inr (.inr 1), .inl 34] M (rv_ fun M4 =>
   D 138 [.inr (.inr 1), .inl x4] M4 (rv_ fun M5 =>
    D 121 [.inr (.inr 1), .inl 59] M5 (rv_ fun M6 =>
     bl_ x1 ∧ Qr [.inl x1] M6) Qt) Qt) Qt)) : V 103 [rr 1, ii x1, ii x2, ii x3, ii x4] [] M := bx_go hD (m := (g_143_52, m_143.2)) (Cl_sf z_143_52 hV) hW [(52, [2, 3, 4]), (103, [])] 15 h
/-- X1_gets()V -/
theorem b_144_0 {D : ca_} {V : vv_} {Qr : qr_} {Qt : qt_} (hD : Mo_ D) (hV : Cl_ wd0 D V Qr Qt m_144) (hW : Wk_ V)  (M : mm_) (h :
 D 107 [.inr (.inr 1)] M (ri_ fun v1 M1 =>
  D 128 [.inr (.inr 1), .inl v1] M1 (ri_ fun v2 M2 =>
   (if v2 = (-1) then
    (bl_ (M2 1 8) → (if M2 1 8 = 0 then
     V 63 [rr 1, ii v1, ii v2, ii (w32 ((w32 (8 * (M2 1 18))) + v2)), ii 0, none] [] M2
    else
     (if v2 = (-1) then
      D 116 [.inr (.inr 1), .inl 4, .inl v1] M2 (rv_ fun M3 =>
       V 63 [rr 1, ii v1, ii v2, ii (w32 ((w32 (8 * (M2 1 18))) + v2)), ii 0, none] [] M3) Qt
     else
      V 63 [rr 1, ii v1, ii v2, ii (w32 ((w32 (8 * (M2 1 18))) + v2)), ii 0, none] [] M2)))
   else
    M2 1 2 = 5 ∧
     (0 ≤ w32 ((w32 (8 * (M2 1 18))) + v2) ∧ w32 ((w32 (8 * (M2 1 18))) + v2) < 48) ∧
     (if M2 131 (w32 ((w32 (8 * (M2 1 18))) + v2)) ≤ 0 then
     (bl_ (M2 1 8) → (if M2 1 8 = 0 then
      V 63 [rr 1, ii v1, ii v2, ii (w32 ((w32 (8 * (M2 1 18))) + v2)), ii 0, none] [] M2
     else
      (if v2 = (-1) then
       D 116 [.inr (.inr 1), .inl 4, .inl v1] M2 (rv_ fun M4 =>
        V 63 [rr 1, ii v1, ii v2, ii (w32 ((w32 (8 * (M2 1 18))) + v2)), ii 0, none] [] M4) Qt
      else
       V 63 [rr 1, ii v1, ii v2, ii (w32 ((w32 (8 * (M2 1 18))) + v2)), ii 0, none] [] M2)))
    else
     (bl_ (M2 1 8) → (if M2 1 8 = 0 then
      V 63 [rr 1, ii v1, ii v2, ii (w32 ((w32 (8 * (M2 1 18))) + v2)), ii 1, none] [] M2
     else
      (if v2 = (-1) then
       D 116 [.inr (.inr 1), .inl 4, .inl v1] M2 (rv_ fun M5 =>
        V 63 [rr 1, ii v1, ii v2, ii (w32 ((w32 (8 * (M2 1 18))) + v2)), ii 1, none] [] M5) Qt
      else
       V 63 [rr 1, ii v1, ii v2, ii (w32 ((w32 (8 * (M2 1 18))) + v2)), ii 1, none] [] M2)))))) Qt) Qt) : V 0 [rr 1, none, none, none, none, none] [] M := bx_go hD hV hW [(63, [5]), (96, []), (158, []), (186, [])] 37 h
theorem i_144 : inq_ 0 k_144 = true := by decide +kernel
theorem z_144_37 : Sf_ k_144 g_144_37 := Sf_of i_144 37 rfl
theorem b_144_63 {D : ca_} {V : vv_} {Qr : qr_} {Qt : qt_} (hD : Mo_ D) (hV : Cl_ wd0 D V Qr Qt m_144) (hW : Wk_ V) (x1 : Int) (x2 : Int) (x3 : Int) (x4 : Int) (M : mm_) (h :
 D 117 [.inr (.inr 1), .inl 91] M (ri_ fun v1 M1 =>
  (bl_ (M1 1 8) → (if M1 1 8 = 0 then
   V 96 [rr 1, ii x1, ii x2, ii x3, ii x4, ii v1] [] M1
  else
   (if x2 = (-1) then
    V 96 [rr 1, ii x1, ii x2, ii x3, ii x4, ii v1] [] M1
   else
    (if x4 = v1 then
     V 96 [rr 1, ii x1, ii x2, ii x3, ii x4, ii v1] [] M1
    else
     D 116 [.inr (.inr 1), .inl 5, .inl x1] M1 (rv_ fun M2 =>
      V 96 [rr 1, ii x1, ii x2, ii x3, ii x4, ii v1] [] M2) Qt))))) Qt) : V 63 [rr 1, ii x1, ii x2, ii x3, ii x4, none] [] M := bx_go hD (m := (g_144_37, m_144.2)) (Cl_sf z_144_37 hV) hW [(63, [5]), (96, []), (158, []), (186, [])] 18 h
theorem z_144_54 : Sf_ k_144 g_144_54 := Sf_tr z_144_37 17 rfl
theorem b_144_96 {D : ca_} {V : vv_} {Qr : qr_} {Qt : qt_} (hD : Mo_ D) (hV : Cl_ wd0 D V Qr Qt m_144) (hW : Wk_ V) (x1 : Int) (x2 : Int) (x3 : Int) (x4 : Int) (x5 : Int) (M : mm_) (h :
 (if x5 = 0 then
  V 158 [rr 1, ii x1, ii x2, ii x3, ii x4, ii x5] [] M
 else
  D 118 [.inr (.inr 1)] M (rv_ fun M1 =>
   D 105 [.inr (.inr 1)] M1 (rv_ fun M2 =>
    D 145 [.inr (.inr 1), .inl 0] M2 (rv_ fun M3 =>
     D 121 [.inr (.inr 1), .inl 93] M3 (rv_ fun M4 =>
      D 138 [.inr (.inr 1), .inl 45] (up_ M4 1 6 (w32 ((M4 1 6) - 1))) (rv_ fun M5 =>
       (if x4 = 0 then
        D 138 [.inr (.inr 1), .inl 1] M5 (rv_ fun M6 =>
         V 158 [rr 1, ii x1, ii x2, ii x3, ii x4, ii x5] [] M6) Qt
       else
        M5 1 2 = 5 ∧
         (0 ≤ x3 ∧ x3 < 48) ∧
         D 138 [.inr (.inr 1), .inl (M5 131 x3)] M5 (rv_ fun M7 =>
         V 158 [rr 1, ii x1, ii x2, ii x3, ii x4, ii x5] [] M7) Qt)) Qt) Qt) Qt) Qt) Qt)) : V 96 [rr 1, ii x1, ii x2, ii x3, ii x4, ii x5] [] M := bx_go hD (m := (g_144_54, m_144.2)) (Cl_sf z_144_54 hV) hW [(63, [5]), (96, []), (158, []), (186, [])] 32 h
theorem z_144_86 : Sf_ k_144 g_144_86 := Sf_tr z_144_54 32 rfl
theorem b_144_158 {D : ca_} {V : vv_} {Qr : qr_} {Qt : qt_} (hD : Mo_ D) (hV : Cl_ wd0 D V Qr Qt m_144) (hW : Wk_ V) (x1 : Int) (x2 : Int) (x3 : Int) (x4 : Int) (x5 : Int) (M : mm_) (h :
 D 108 [.inr (.inr 1), .inl 110] M (rv_ fun M1 =>
  (if x2 = (-1) then
   D 145 [.inr (.inr 1), .inl ((-1))] M1 (rv_ fun M3 =>
    V 186 [rr 1, ii x1, ii x2, ii x3, ii x4, ii x5] [] M3) Qt
  else
   M1 1 2 = 5 ∧
    (0 ≤ x3 ∧ x3 < 48) ∧
    D 145 [.inr (.inr 1), .inl (M1 130 x3)] M1 (rv_ fun M2 =>
    V 186 [rr 1, ii x1, ii x2, ii x3, ii x4, ii x5] [] M2) Qt)) Qt) : V 158 [rr 1, ii x1, ii x2, ii x3, ii x4, ii x5] [] M := bx_go hD (m := (g_144_86, m_144.2)) (Cl_sf z_144_86 hV) hW [(63, [5]), (96, []), (158, []), (186, [])] 14 h
theorem z_144_101 : Sf_ k_144 g_144_101 := Sf_tr z_144_86 15 rfl
theorem b_144_186 {D : ca_} {V : vv_} {Qr : qr_} {Qt : qt_} (hD : Mo_ D) (hV : Cl_ wd0 D V Qr Qt m_144) (hW : Wk_ V) (x1 : Int) (x2 : Int) (x3 : Int) (x4 : Int) (x5 : Int) (M : mm_) (h :
 (if x5 = 0 then
  D 138 [.inr (.inr 1), .inl 31] M (rv_ fun M1 =>
   (if x2 = (-1) then
    D 138 [.inr (.inr 1), .inl 0] M1 (rv_ fun M3 =>
     Qr [] M3) Qt
   else
    M1 1 2 = 5 ∧
     (0 ≤ x3 ∧ x3 < 48) ∧
     D 138 [.inr (.inr 1), .inl (M1 132 x3)] M1 (rv_ fun M2 =>
     Qr [] M2) Qt)) Qt
 else
  D 138 [.inr (.inr 1), .inl 32] M (rv_ fun M4 =>
   (if x2 = (-1) then
    D 138 [.inr (.inr 1), .inl 0] M4 (rv_ fun M6 =>
     Qr [] M6) Qt
   else
    M4 1 2 = 5 ∧
     (0 ≤ x3 ∧ x3 < 48) ∧
     D 138 [.inr (.inr 1), .inl (M4 132 x3)] M4 (rv_ fun M5 =>
     Qr [] M5) Qt)) Qt)) : V 186 [rr 1, ii x1, ii x2, ii x3, ii x4, ii x5] [] M := bx_go hD (m := (g_144_101, m_144.2)) (Cl_sf z_144_101 hV) hW [(63, [5]), (96, []), (158, []), (186, [])] 17 h
/-- X1_wants(I)V -/
theorem b_145_0 {D : ca_} {V : vv_} {Qr : qr_} {Qt : qt_} (hD : Mo_ D) (hV : Cl_ wd0 D V Qr Qt m_145) (hW : Wk_ V) (x1 : Int) (M : mm_) (h :
 D 146 [.inr (.inr 1)] M (ri_ fun v1 M1 =>
  (bl_ (M1 1 8) → (if M1 1 8 = 0 then
   Qr [] M1
  else
   (if x1 = (-1) then
    Qr [] M1
   else
    (if v1 = (-1) then
     Qr [] M1
    else
     (if v1 = x1 then
      Qr [] M1
     else
      D 116 [.inr (.inr 1), .inl 5, .inl (M 1 3)] M1 (rv_ fun M2 =>
       Qr [] M2) Qt)))))) Qt) : V 0 [rr 1, ii x1, none, none] [] M := bx_go hD hV hW [] 23 h
/-- X1_e()I -/
theorem b_146_0 {D : ca_} {V : vv_} {Qr : qr_} {Qt : qt_} (hD : Mo_ D) (hV : Cl_ wd0 D V Qr Qt m_146) (hW : Wk_ V)  (M : mm_) (h :
 D 147 [.inr (.inr 1)] M (ri_ fun v1 M1 =>
  V 15 [rr 1, ii (M 1 7), ii (M 1 3), ii v1, none] [] M1) Qt) : V 0 [rr 1, none, none, none, none] [] M := bx_go hD hV hW [(15, [4])] 10 h
theorem i_146 : inq_ 0 k_146 = true := by decide +kernel
theorem z_146_9 : Sf_ k_146 g_146_9 := Sf_of i_146 9 rfl
theorem b_146_15 {D : ca_} {V : vv_} {Qr : qr_} {Qt : qt_} (hD : Mo_ D) (hV : Cl_ wd0 D V Qr Qt m_146) (hW : Wk_ V) (x1 : Int) (x2 : Int) (x3 : Int) (M : mm_) (h :
 D 103 [.inr (.inr 1), .inl 43] M (ri_ fun v1 M1 =>
  (if v1 = 0 then
   (if M1 1 7 ≤ x1 then
    Qr [.inl x3] M1
   else
    Qr [.inl ((-1))] M1)
  else
   D 156 [.inr (.inr 1), .inl x3, .inl 1, .inl x2] M1 (rv_ fun M2 =>
    D 105 [.inr (.inr 1)] M2 (rv_ fun M3 =>
     D 147 [.inr (.inr 1)] M3 (ri_ fun v2 M4 =>
      D 156 [.inr (.inr 1), .inl v2, .inl 1, .inl (M3 1 3)] M4 (rv_ fun M5 =>
       D 138 [.inr (.inr 1), .inl 18] M5 (rv_ fun M6 =>
        V 15 [rr 1, ii x1, ii x2, ii 1, none] [] M6) Qt) Qt) Qt) Qt) Qt)) Qt) : V 15 [rr 1, ii x1, ii x2, ii x3, none] [] M := bx_go hD (m := (g_146_9, m_146.2)) (Cl_sf z_146_9 hV) hW [(15, [4])] 27 h
/-- X1_con()I -/
theorem b_147_0 {D : ca_} {V : vv_} {Qr : qr_} {Qt : qt_} (hD : Mo_ D) (hV : Cl_ wd0 D V Qr Qt m_147) (hW : Wk_ V)  (M : mm_) (h :
 D 148 [.inr (.inr 1)] M (ri_ fun v1 M1 =>
  V 15 [rr 1, ii (M 1 7), ii (M 1 3), ii v1, none] [] M1) Qt) : V 0 [rr 1, none, none, none, none] [] M := bx_go hD hV hW [(15, [4])] 10 h
theorem i_147 : inq_ 0 k_147 = true := by decide +kernel
theorem z_147_9 : Sf_ k_147 g_147_9 := Sf_of i_147 9 rfl
theorem b_147_15 {D : ca_} {V : vv_} {Qr : qr_} {Qt : qt_} (hD : Mo_ D) (hV : Cl_ wd0 D V Qr Qt m_147) (hW : Wk_ V) (x1 : Int) (x2 : Int) (x3 : Int) (M : mm_) (h :
 D 103 [.inr (.inr 1), .inl 42] M (ri_ fun v1 M1 =>
  (if v1 = 0 then
   (if M1 1 7 ≤ x1 then
    Qr [.inl x3] M1
   else
    Qr [.inl ((-1))] M1)
  else
   D 156 [.inr (.inr 1), .inl x3, .inl 1, .inl x2] M1 (rv_ fun M2 =>
    D 105 [.inr (.inr 1)] M2 (rv_ fun M3 =>
     D 148 [.inr (.inr 1)] M3 (ri_ fun v2 M4 =>
      D 156 [.inr (.inr 1), .inl v2, .inl 1, .inl (M3 1 3)] M4 (rv_ fun M5 =>
       D 138 [.inr (.inr 1), .inl 17] M5 (rv_ fun M6 =>
        V 15 [rr 1, ii x1, ii x2, ii 1, none] [] M6) Qt) Qt) Qt) Qt) Qt)) Qt) : V 15 [rr 1, ii x1, ii x2, ii x3, none] [] M := bx_go hD (m := (g_147_9, m_147.2)) (Cl_sf z_147_9 hV) hW [(15, [4])] 27 h
/-- X1_rel()I -/
theorem b_148_0 {D : ca_} {V : vv_} {Qr : qr_} {Qt : qt_} (hD : Mo_ D) (hV : Cl_ wd0 D V Qr Qt m_148) (hW : Wk_ V)  (M : mm_) (h :
 D 149 [.inr (.inr 1)] M (ri_ fun v1 M1 =>
  D 117 [.inr (.inr 1), .inl 61] M1 (ri_ fun v2 M2 =>
   (if v2 = 0 then
    D 103 [.inr (.inr 1), .inl 111] M2 (ri_ fun v3 M3 =>
     (if v3 = 0 then
      D 117 [.inr (.inr 1), .inl 60] M3 (ri_ fun v4 M4 =>
       (if v4 = 0 then
        D 103 [.inr (.inr 1), .inl 112] M4 (ri_ fun v5 M5 =>
         (if v5 = 0 then
          D 117 [.inr (.inr 1), .inl 62] M5 (ri_ fun v6 M6 =>
           (if v6 = 0 then
            D 103 [.inr (.inr 1), .inl 113] M6 (ri_ fun v7 M7 =>
             (if v7 = 0 then
              V 102 [rr 1, ii (M 1 7), ii (M 1 3), ii v1, ii ((-1)), none, none, none] [] M7
             else
              V 102 [rr 1, ii (M 1 7), ii (M 1 3), ii v1, ii 24, none, none, none] [] M7)) Qt
           else
            V 102 [rr 1, ii (M 1 7), ii (M 1 3), ii v1, ii 23, none, none, none] [] M6)) Qt
         else
          V 102 [rr 1, ii (M 1 7), ii (M 1 3), ii v1, ii 22, none, none, none] [] M5)) Qt
       else
        V 102 [rr 1, ii (M 1 7), ii (M 1 3), ii v1, ii 21, none, none, none] [] M4)) Qt
     else
      V 102 [rr 1, ii (M 1 7), ii (M 1 3), ii v1, ii 20, none, none, none] [] M3)) Qt
   else
    V 102 [rr 1, ii (M 1 7), ii (M 1 3), ii v1, ii 19, none, none, none] [] M2)) Qt) Qt) : V 0 [rr 1, none, none, none, none, none, none, none] [] M := bx_go hD hV hW [(102, [5, 6, 7]), (143, [6, 7])] 37 h
theorem i_148 : inq_ 0 k_148 = true := by decide +kernel
theorem z_148_47 : Sf_ k_148 g_148_47 := Sf_of i_148 47 rfl
theorem b_148_102 {D : ca_} {V : vv_} {Qr : qr_} {Qt : qt_} (hD : Mo_ D) (hV : Cl_ wd0 D V Qr Qt m_148) (hW : Wk_ V) (x1 : Int) (x2 : Int) (x3 : Int) (x4 : Int) (M : mm_) (h :
 (if x4 = (-1) then
  Qr [.inl x3] M
 else
  (if x4 = 19 then
   (if (1 : Int) = 0 then
    D 156 [.inr (.inr 1), .inl x3, .inl 0, .inl x2] M (rv_ fun M1 =>
     V 143 [rr 1, ii x1, ii x2, ii x3, ii x4, ii 1, none, none] [] M1) Qt
   else
    V 143 [rr 1, ii x1, ii x2, ii x3, ii x4, ii 1, none, none] [] M)
  else
   (if x4 = 20 then
    (if (1 : Int) = 0 then
     D 156 [.inr (.inr 1), .inl x3, .inl 0, .inl x2] M (rv_ fun M3 =>
      V 143 [rr 1, ii x1, ii x2, ii x3, ii x4, ii 1, none, none] [] M3) Qt
    else
     V 143 [rr 1, ii x1, ii x2, ii x3, ii x4, ii 1, none, none] [] M)
   else
    (if (0 : Int) = 0 then
     D 156 [.inr (.inr 1), .inl x3, .inl 0, .inl x2] M (rv_ fun M2 =>
      V 143 [rr 1, ii x1, ii x2, ii x3, ii x4, ii 0, none, none] [] M2) Qt
    else
     V 143 [rr 1, ii x1, ii x2, ii x3, ii x4, ii 0, none, none] [] M))))) : V 102 [rr 1, ii x1, ii x2, ii x3, ii x4, none, none, none] [] M := bx_go hD (m := (g_148_47, m_148.2)) (Cl_sf z_148_47 hV) hW [(102, [5, 6, 7]), (143, [6, 7])] 20 h
theorem z_148_69 : Sf_ k_148 g_148_69 := Sf_tr z_148_47 22 rfl
theorem b_148_143 {D : ca_} {V : vv_} {Qr : qr_} {Qt : qt_} (hD : Mo_ D) (hV : Cl_ wd0 D V Qr Qt m_148) (hW : Wk_ V) (x1 : Int) (x2 : Int) (x3 : Int) (x4 : Int) (x5 : Int) (M : mm_) (h :
 D 105 [.inr (.inr 1)] M (rv_ fun M1 =>
  D 149 [.inr (.inr 1)] M1 (ri_ fun v1 M2 =>
   (if x5 = 0 then
    D 156 [.inr (.inr 1), .inl v1, .inl 0, .inl (M1 1 3)] M2 (rv_ fun M3 =>
     D 138 [.inr (.inr 1), .inl x4] M3 (rv_ fun M4 =>
      (if M4 1 7 ≤ x1 then
       Qr [.inl 1] M4
      else
       Qr [.inl ((-1))] M4)) Qt) Qt
   else
    D 156 [.inr (.inr 1), .inl v1, .inl x3, .inl (M1 1 3)] M2 (rv_ fun M5 =>
     D 138 [.inr (.inr 1), .inl x4] M5 (rv_ fun M6 =>
      (if M6 1 7 ≤ x1 then
       Qr [.inl 1] M6
      else
       Qr [.inl ((-1))] M6)) Qt) Qt)) Qt) Qt) : V 143 [rr 1, ii x1, ii x2, ii x3, ii x4, ii x5, none, none] [] M := bx_go hD (m := (g_148_69, m_148.2)) (Cl_sf z_148_69 hV) hW [(102, [5, 6, 7]), (143, [6, 7])] 26 h
/-- X1_sum()I -/
theorem b_149_0 {D : ca_} {V : vv_} {Qr : qr_} {Qt : qt_} (hD : Mo_ D) (hV : Cl_ wd0 D V Qr Qt m_149) (hW : Wk_ V)  (M : mm_) (h :
 D 150 [.inr (.inr 1)] M (ri_ fun v1 M1 =>
  V 15 [rr 1, ii (M 1 7), ii (M 1 3), ii v1, none, none] [] M1) Qt) : V 0 [rr 1, none, none, none, none, none] [] M := bx_go hD hV hW [(15, [4, 5]), (58, [5])] 10 h
theorem i_149 : inq_ 0 k_149 = true := by decide +kernel
theorem z_149_9 : Sf_ k_149 g_149_9 := Sf_of i_149 9 rfl
theorem b_149_15 {D : ca_} {V : vv_} {Qr : qr_} {Qt : qt_} (hD : Mo_ D) (hV : Cl_ wd0 D V Qr Qt m_149) (hW : Wk_ V) (x1 : Int) (x2 : Int) (x3 : Int) (M : mm_) (h :
 D 117 [.inr (.inr 1), .inl 43] M (ri_ fun v1 M1 =>
  (if v1 = 0 then
   D 117 [.inr (.inr 1), .inl 45] M1 (ri_ fun v3 M4 =>
    (if v3 = 0 then
     (if M4 1 7 ≤ x1 then
      Qr [.inl x3] M4
     else
      Qr [.inl ((-1))] M4)
    else
     D 156 [.inr (.inr 1), .inl x3, .inl 0, .inl x2] M4 (rv_ fun M5 =>
      D 117 [.inr (.inr 1), .inl 43] M5 (ri_ fun v4 M6 =>
       (if v4 = 0 then
        V 58 [rr 1, ii x1, ii x2, ii x3, ii 11, none] [] M6
       else
        V 58 [rr 1, ii x1, ii x2, ii x3, ii 10, none] [] M6)) Qt) Qt)) Qt
  else
   D 156 [.inr (.inr 1), .inl x3, .inl 0, .inl x2] M1 (rv_ fun M2 =>
    D 117 [.inr (.inr 1), .inl 43] M2 (ri_ fun v2 M3 =>
     (if v2 = 0 then
      V 58 [rr 1, ii x1, ii x2, ii x3, ii 11, none] [] M3
     else
      V 58 [rr 1, ii x1, ii x2, ii x3, ii 10, none] [] M3)) Qt) Qt)) Qt) : V 15 [rr 1, ii x1, ii x2, ii x3, none, none] [] M := bx_go hD (m := (g_149_9, m_149.2)) (Cl_sf z_149_9 hV) hW [(15, [4, 5]), (58, [5])] 21 h
theorem z_149_30 : Sf_ k_149 g_149_30 := Sf_tr z_149_9 21 rfl
theorem b_149_58 {D : ca_} {V : vv_} {Qr : qr_} {Qt : qt_} (hD : Mo_ D) (hV : Cl_ wd0 D V Qr Qt m_149) (hW : Wk_ V) (x1 : Int) (x2 : Int) (x3 : Int) (x4 : Int) (M : mm_) (h :
 D 105 [.inr (.inr 1)] M (rv_ fun M1 =>
  D 150 [.inr (.inr 1)] M1 (ri_ fun v1 M2 =>
   D 156 [.inr (.inr 1), .inl v1, .inl 0, .inl (M1 1 3)] M2 (rv_ fun M3 =>
    D 138 [.inr (.inr 1), .inl x4] M3 (rv_ fun M4 =>
     V 15 [rr 1, ii x1, ii x2, ii 0, none, none] [] M4) Qt) Qt) Qt) Qt) : V 58 [rr 1, ii x1, ii x2, ii x3, ii x4, none] [] M := bx_go hD (m := (g_149_30, m_149.2)) (Cl_sf z_149_30 hV) hW [(15, [4, 5]), (58, [5])] 18 h
/-- X1_prod()I -/
theorem b_150_0 {D : ca_} {V : vv_} {Qr : qr_} {Qt : qt_} (hD : Mo_ D) (hV : Cl_ wd0 D V Qr Qt m_150) (hW : Wk_ V)  (M : mm_) (h :
 D 151 [.inr (.inr 1)] M (ri_ fun v1 M1 =>
  V 15 [rr 1, ii (M 1 7), ii (M 1 3), ii v1, none, none] [] M1) Qt) : V 0 [rr 1, none, none, none, none, none] [] M := bx_go hD hV hW [(15, [4, 5]), (42, [4, 5]), (81, [5])] 10 h
theorem i_150 : inq_ 0 k_150 = true := by decide +kernel
theorem z_150_9 : Sf_ k_150 g_150_9 := Sf_of i_150 9 rfl
theorem b_150_15 {D : ca_} {V : vv_} {Qr : qr_} {Qt : qt_} (hD : Mo_ D) (hV : Cl_ wd0 D V Qr Qt m_150) (hW : Wk_ V) (x1 : Int) (x2 : Int) (x3 : Int) (M : mm_) (h :
 D 117 [.inr (.inr 1), .inl 42] M (ri_ fun v1 M1 =>
  (if v1 = 0 then
   D 117 [.inr (.inr 1), .inl 47] M1 (ri_ fun v2 M2 =>
    (if v2 = 0 then
     D 117 [.inr (.inr 1), .inl 37] M2 (ri_ fun v3 M3 =>
      (if v3 = 0 then
       (if M3 1 7 ≤ x1 then
        Qr [.inl x3] M3
       else
        Qr [.inl ((-1))] M3)
      else
       V 42 [rr 1, ii x1, ii x2, ii x3, none, none] [] M3)) Qt
    else
     V 42 [rr 1, ii x1, ii x2, ii x3, none, none] [] M2)) Qt
  else
   V 42 [rr 1, ii x1, ii x2, ii x3, none, none] [] M1)) Qt) : V 15 [rr 1, ii x1, ii x2, ii x3, none, none] [] M := bx_go hD (m := (g_150_9, m_150.2)) (Cl_sf z_150_9 hV) hW [(15, [4, 5]), (42, [4, 5]), (81, [5])] 19 h
theorem z_150_21 : Sf_ k_150 g_150_21 := Sf_tr z_150_9 12 rfl
theorem b_150_42 {D : ca_} {V : vv_} {Qr : qr_} {Qt : qt_} (hD : Mo_ D) (hV : Cl_ wd0 D V Qr Qt m_150) (hW : Wk_ V) (x1 : Int) (x2 : Int) (x3 : Int) (M : mm_) (h :
 D 156 [.inr (.inr 1), .inl x3, .inl 0, .inl x2] M (rv_ fun M1 =>
  D 117 [.inr (.inr 1), .inl 42] M1 (ri_ fun v1 M2 =>
   (if v1 = 0 then
    D 117 [.inr (.inr 1), .inl 47] M2 (ri_ fun v2 M3 =>
     (if v2 = 0 then
      V 81 [rr 1, ii x1, ii x2, ii x3, ii 14, none] [] M3
     else
      V 81 [rr 1, ii x1, ii x2, ii x3, ii 13, none] [] M3)) Qt
   else
    V 81 [rr 1, ii x1, ii x2, ii x3, ii 12, none] [] M2)) Qt) Qt) : V 42 [rr 1, ii x1, ii x2, ii x3, none, none] [] M := bx_go hD (m := (g_150_21, m_150.2)) (Cl_sf z_150_21 hV) hW [(15, [4, 5]), (42, [4, 5]), (81, [5])] 17 h
theorem z_150_40 : Sf_ k_150 g_150_40 := Sf_tr z_150_21 19 rfl
theorem b_150_81 {D : ca_} {V : vv_} {Qr : qr_} {Qt : qt_} (hD : Mo_ D) (hV : Cl_ wd0 D V Qr Qt m_150) (hW : Wk_ V) (x1 : Int) (x2 : Int) (x3 : Int) (x4 : Int) (M : mm_) (h :
 D 105 [.inr (.inr 1)] M (rv_ fun M1 =>
  D 151 [.inr (.inr 1)] M1 (ri_ fun v1 M2 =>
   D 156 [.inr (.inr 1), .inl v1, .inl 0, .inl (M1 1 3)] M2 (rv_ fun M3 =>
    D 138 [.inr (.inr 1), .inl x4] M3 (rv_ fun M4 =>
     V 15 [rr 1, ii x1, ii x2, ii 0, none, none] [] M4) Qt) Qt) Qt) Qt) : V 81 [rr 1, ii x1, ii x2, ii x3, ii x4, none] [] M := bx_go hD (m := (g_150_40, m_150.2)) (Cl_sf z_150_40 hV) hW [(15, [4, 5]), (42, [4, 5]), (81, [5])] 18 h
/-- X1_un()I -/
theorem b_151_0 {D : ca_} {V : vv_} {Qr : qr_} {Qt : qt_} (hD : Mo_ D) (hV : Cl_ wd0 D V Qr Qt m_151) (hW : Wk_ V)  (M : mm_) (h :
 D 117 [.inr (.inr 1), .inl 45] M (ri_ fun v1 M1 =>
  (if v1 = 0 then
   D 103 [.inr (.inr 1), .inl 41] M1 (ri_ fun v2 M2 =>
    (if v2 = 0 then
     D 152 [.inr (.inr 1)] M2 (ri_ fun v3 M3 =>
      Qr [.inl v3] M3) Qt
    else
     V 25 [rr 1, ii v1, none, none, none] [] M2)) Qt
  else
   V 25 [rr 1, ii v1, none, none, none] [] M1)) Qt) : V 0 [rr 1, none, none, none, none] [] M := bx_go hD hV hW [(25, [2, 3, 4]), (54, [])] 13 h
theorem i_151 : inq_ 0 k_151 = true := by decide +kernel
theorem z_151_13 : Sf_ k_151 g_151_13 := Sf_of i_151 13 rfl
theorem b_151_25 {D : ca_} {V : vv_} {Qr : qr_} {Qt : qt_} (hD : Mo_ D) (hV : Cl_ wd0 D V Qr Qt m_151) (hW : Wk_ V) (x1 : Int) (M : mm_) (h :
 D 118 [.inr (.inr 1)] M (rv_ fun M1 =>
  D 105 [.inr (.inr 1)] M1 (rv_ fun M2 =>
   (if x1 = 0 then
    V 54 [rr 1, ii x1, ii (M 1 7), ii (M2 1 3), ii 1] [] M2
   else
    V 54 [rr 1, ii x1, ii (M 1 7), ii (M2 1 3), ii 0] [] M2)) Qt) Qt) : V 25 [rr 1, ii x1, none, none, none] [] M := bx_go hD (m := (g_151_13, m_151.2)) (Cl_sf z_151_13 hV) hW [(25, [2, 3, 4]), (54, [])] 16 h
theorem z_151_29 : Sf_ k_151 g_151_29 := Sf_tr z_151_13 16 rfl
theorem b_151_54 {D : ca_} {V : vv_} {Qr : qr_} {Qt : qt_} (hD : Mo_ D) (hV : Cl_ wd0 D V Qr Qt m_151) (hW : Wk_ V) (x1 : Int) (x2 : Int) (x3 : Int) (x4 : Int) (M : mm_) (h :
 D 151 [.inr (.inr 1)] M (ri_ fun v1 M1 =>
  D 156 [.inr (.inr 1), .inl v1, .inl x4, .inl x3] M1 (rv_ fun M2 =>
   (if x1 = 0 then
    D 138 [.inr (.inr 1), .inl 16] (up_ M2 1 6 (w32 ((M2 1 6) - 1))) (rv_ fun M3 =>
     (if M3 1 7 ≤ x2 then
      Qr [.inl x4] M3
     else
      Qr [.inl ((-1))] M3)) Qt
   else
    D 138 [.inr (.inr 1), .inl 15] (up_ M2 1 6 (w32 ((M2 1 6) - 1))) (rv_ fun M4 =>
     (if M4 1 7 ≤ x2 then
      Qr [.inl x4] M4
     else
      Qr [.inl ((-1))] M4)) Qt)) Qt) Qt) : V 54 [rr 1, ii x1, ii x2, ii x3, ii x4] [] M := bx_go hD (m := (g_151_29, m_151.2)) (Cl_sf z_151_29 hV) hW [(25, [2, 3, 4]), (54, [])] 25 h
/-- X1_first()I -/
theorem b_152_0 {D : ca_} {V : vv_} {Qr : qr_} {Qt : qt_} (hD : Mo_ D) (hV : Cl_ wd0 D V Qr Qt m_152) (hW : Wk_ V)  (M : mm_) (h :
 D 120 [.inr (.inr 1)] M (ri_ fun v1 M1 =>
  (if v1 = 31 then D 153 [.inr (.inr 1), .inl 1, .inl 1] M1 (ri_ fun v16 M27 =>
    Qr [.inl v16] M27) Qt else
  (if v1 = 32 then D 153 [.inr (.inr 1), .inl 0, .inl 1] M1 (ri_ fun v15 M26 =>
    Qr [.inl v15] M26) Qt else
  (if v1 = 33 then D 153 [.inr (.inr 1), .inl 0, .inl 2] M1 (ri_ fun v14 M25 =>
    Qr [.inl v14] M25) Qt else
  (if v1 = 34 then D 154 [.inr (.inr 1), .inl 1, .inl 2] M1 (ri_ fun v13 M24 =>
    Qr [.inl v13] M24) Qt else
  (if v1 = 35 then D 154 [.inr (.inr 1), .inl 2, .inl 2] M1 (ri_ fun v12 M23 =>
    Qr [.inl v12] M23) Qt else
  (if v1 = 36 then D 154 [.inr (.inr 1), .inl 3, .inl 2] M1 (ri_ fun v11 M22 =>
    Qr [.inl v11] M22) Qt else
  (if v1 = 37 then D 154 [.inr (.inr 1), .inl 4, .inl 2] M1 (ri_ fun v10 M21 =>
    Qr [.inl v10] M21) Qt else
  (if v1 = 38 then D 154 [.inr (.inr 1), .inl 5, .inl 0] M1 (ri_ fun v9 M20 =>
    Qr [.inl v9] M20) Qt else
  (if v1 = 39 then D 105 [.inr (.inr 1)] M1 (rv_ fun M10 =>
    D 107 [.inr (.inr 1)] M10 (ri_ fun v7 M11 =>
     D 129 [.inr (.inr 1), .inl v7] M11 (ri_ fun v8 M12 =>
      (bl_ (M12 1 8) → (if M12 1 8 = 0 then
       D 138 [.inr (.inr 1), .inl 7] M12 (rv_ fun M13 =>
        D 138 [.inr (.inr 1), .inl v8] M13 (rv_ fun M14 =>
         (if v8 = (-1) then
          Qr [.inl ((-1))] M14
         else
          Qr [.inl 1] M14)) Qt) Qt
      else
       (if v8 = (-1) then
        D 116 [.inr (.inr 1), .inl 4, .inl v7] M12 (rv_ fun M17 =>
         D 138 [.inr (.inr 1), .inl 7] M17 (rv_ fun M18 =>
          D 138 [.inr (.inr 1), .inl v8] M18 (rv_ fun M19 =>
           (if v8 = (-1) then
            Qr [.inl ((-1))] M19
           else
            Qr [.inl 1] M19)) Qt) Qt) Qt
       else
        D 138 [.inr (.inr 1), .inl 7] M12 (rv_ fun M15 =>
         D 138 [.inr (.inr 1), .inl v8] M15 (rv_ fun M16 =>
          (if v8 = (-1) then
           Qr [.inl ((-1))] M16
          else
           Qr [.inl 1] M16)) Qt) Qt)))) Qt) Qt) Qt else
  (if v1 = 40 then D 154 [.inr (.inr 1), .inl 6, .inl 0] M1 (ri_ fun v6 M9 =>
    Qr [.inl v6] M9) Qt else
  (if v1 = 100 then D 155 [.inr (.inr 1)] M1 (ri_ fun v5 M8 =>
    Qr [.inl v5] M8) Qt else
  (if v1 = 101 then (0 ≤ M1 1 3 ∧ M1 1 3 < 1202) ∧
    D 153 [.inr (.inr 1), .inl (M1 73 (M1 1 3)), .inl 0] M1 (ri_ fun v4 M7 =>
    Qr [.inl v4] M7) Qt else
  (if v1 = 240 then D 118 [.inr (.inr 1)] M1 (rv_ fun M3 =>
    D 105 [.inr (.inr 1)] M3 (rv_ fun M4 =>
     D 146 [.inr (.inr 1)] M4 (ri_ fun v3 M5 =>
      D 121 [.inr (.inr 1), .inl 41] M5 (rv_ fun M6 =>
       Qr [.inl v3] (up_ M6 1 6 (w32 ((M6 1 6) - 1)))) Qt) Qt) Qt) Qt else
  D 109 [.inr (.inr 1)] M1 (rf_r fun v2 M2 =>
    (if v2 = 1999 then False else Qt v2 M2)) Qt)))))))))))))) Qt) : V 0 [rr 1, none, none] [] M := bx_go hD hV hW [] 34 h
/-- X1_pushes(II)I -/
theorem b_153_0 {D : ca_} {V : vv_} {Qr : qr_} {Qt : qt_} (hD : Mo_ D) (hV : Cl_ wd0 D V Qr Qt m_153) (hW : Wk_ V) (x1 : Int) (x2 : Int) (M : mm_) (h :
 D 105 [.inr (.inr 1)] M (rv_ fun M1 =>
  D 138 [.inr (.inr 1), .inl 0] M1 (rv_ fun M2 =>
   D 138 [.inr (.inr 1), .inl x1] M2 (rv_ fun M3 =>
    Qr [.inl x2] M3) Qt) Qt) Qt) : V 0 [rr 1, ii x1, ii x2] [] M := bx_go hD hV hW [] 10 h
/-- X1_says(II)I -/
theorem b_154_0 {D : ca_} {V : vv_} {Qr : qr_} {Qt : qt_} (hD : Mo_ D) (hV : Cl_ wd0 D V Qr Qt m_154) (hW : Wk_ V) (x1 : Int) (x2 : Int) (M : mm_) (h :
 D 105 [.inr (.inr 1)] M (rv_ fun M1 =>
  D 138 [.inr (.inr 1), .inl x1] M1 (rv_ fun M2 =>
   Qr [.inl x2] M2) Qt) Qt) : V 0 [rr 1, ii x1, ii x2] [] M := bx_go hD hV hW [] 7 h
/-- X1_variable()I -/
theorem b_155_0 {D : ca_} {V : vv_} {Qr : qr_} {Qt : qt_} (hD : Mo_ D) (hV : Cl_ wd0 D V Qr Qt m_155) (hW : Wk_ V)  (M : mm_) (h :
 D 107 [.inr (.inr 1)] M (ri_ fun v1 M1 =>
  D 128 [.inr (.inr 1), .inl v1] M1 (ri_ fun v2 M2 =>
   (if v2 = (-1) then
    (bl_ (M2 1 8) → (if M2 1 8 = 0 then
     V 70 [rr 1, ii (M 1 7), ii v1, ii v2, ii (w32 ((w32 (8 * (M2 1 18))) + v2)), ii 0, none] [] M2
    else
     (if v2 = (-1) then
      D 116 [.inr (.inr 1), .inl 4, .inl v1] M2 (rv_ fun M3 =>
       V 70 [rr 1, ii (M 1 7), ii v1, ii v2, ii (w32 ((w32 (8 * (M2 1 18))) + v2)), ii 0, none] [] M3) Qt
     else
      V 70 [rr 1, ii (M 1 7), ii v1, ii v2, ii (w32 ((w32 (8 * (M2 1 18))) + v2)), ii 0, none] [] M2)))
   else
    M2 1 2 = 5 ∧
     (0 ≤ w32 ((w32 (8 * (M2 1 18))) + v2) ∧ w32 ((w32 (8 * (M2 1 18))) + v2) < 48) ∧
     (if M2 131 (w32 ((w32 (8 * (M2 1 18))) + v2)) ≤ 0 then
     (bl_ (M2 1 8) → (if M2 1 8 = 0 then
      V 70 [rr 1, ii (M 1 7), ii v1, ii v2, ii (w32 ((w32 (8 * (M2 1 18))) + v2)), ii 0, none] [] M2
     else
      (if v2 = (-1) then
       D 116 [.inr (.inr 1), .inl 4, .inl v1] M2 (rv_ fun M4 =>
        V 70 [rr 1, ii (M 1 7), ii v1, ii v2, ii (w32 ((w32 (8 * (M2 1 18))) + v2)), ii 0, none] [] M4) Qt
      else
       V 70 [rr 1, ii (M 1 7), ii v1, ii v2, ii (w32 ((w32 (8 * (M2 1 18))) + v2)), ii 0, none] [] M2)))
    else
     (bl_ (M2 1 8) → (if M2 1 8 = 0 then
      V 70 [rr 1, ii (M 1 7), ii v1, ii v2, ii (w32 ((w32 (8 * (M2 1 18))) + v2)), ii 1, none] [] M2
     else
      (if v2 = (-1) then
       D 116 [.inr (.inr 1), .inl 4, .inl v1] M2 (rv_ fun M5 =>
        V 70 [rr 1, ii (M 1 7), ii v1, ii v2, ii (w32 ((w32 (8 * (M2 1 18))) + v2)), ii 1, none] [] M5) Qt
      else
       V 70 [rr 1, ii (M 1 7), ii v1, ii v2, ii (w32 ((w32 (8 * (M2 1 18))) + v2)), ii 1, none] [] M2)))))) Qt) Qt) : V 0 [rr 1, none, none, none, none, none, none] [] M := bx_go hD hV hW [(70, [6]), (103, []), (221, [])] 40 h
theorem i_155 : inq_ 0 k_155 = true := by decide +kernel
theorem z_155_40 : Sf_ k_155 g_155_40 := Sf_of i_155 40 rfl
theorem b_155_70 {D : ca_} {V : vv_} {Qr : qr_} {Qt : qt_} (hD : Mo_ D) (hV : Cl_ wd0 D V Qr Qt m_155) (hW : Wk_ V) (x1 : Int) (x2 : Int) (x3 : Int) (x4 : Int) (x5 : Int) (M : mm_) (h :
 D 117 [.inr (.inr 1), .inl 91] M (ri_ fun v1 M1 =>
  (bl_ (M1 1 8) → (if M1 1 8 = 0 then
   V 103 [rr 1, ii x1, ii x2, ii x3, ii x4, ii x5, ii v1] [] M1
  else
   (if x3 = (-1) then
    V 103 [rr 1, ii x1, ii x2, ii x3, ii x4, ii x5, ii v1] [] M1
   else
    (if x5 = v1 then
     V 103 [rr 1, ii x1, ii x2, ii x3, ii x4, ii x5, ii v1] [] M1
    else
     D 116 [.inr (.inr 1), .inl 5, .inl x2] M1 (rv_ fun M2 =>
      V 103 [rr 1, ii x1, ii x2, ii x3, ii x4, ii x5, ii v1] [] M2) Qt))))) Qt) : V 70 [rr 1, ii x1, ii x2, ii x3, ii x4, ii x5, none] [] M := bx_go hD (m := (g_155_40, m_155.2)) (Cl_sf z_155_40 hV) hW [(70, [6]), (103, []), (221, [])] 18 h
theorem z_155_57 : Sf_ k_155 g_155_57 := Sf_tr z_155_40 17 rfl
theorem b_155_103 {D : ca_} {V : vv_} {Qr : qr_} {Qt : qt_} (hD : Mo_ D) (hV : Cl_ wd0 D V Qr Qt m_155) (hW : Wk_ V) (x1 : Int) (x2 : Int) (x3 : Int) (x4 : Int) (x5 : Int) (x6 : Int) (M : mm_) (h :
 (if x6 = 0 then
  D 138 [.inr (.inr 1), .inl 8] M (rv_ fun M1 =>
   (if x3 = (-1) then
    D 138 [.inr (.inr 1), .inl 0] M1 (rv_ fun M3 =>
     V 221 [rr 1, ii x1, ii x2, ii x3, ii x4, ii x5, ii x6] [] M3) Qt
   else
    M1 1 2 = 5 ∧
     (0 ≤ x4 ∧ x4 < 48) ∧
     D 138 [.inr (.inr 1), .inl (M1 132 x4)] M1 (rv_ fun M2 =>
     V 221 [rr 1, ii x1, ii x2, ii x3, ii x4, ii x5, ii x6] [] M2) Qt)) Qt
 else
  D 118 [.inr (.inr 1)] M (rv_ fun M4 =>
   D 105 [.inr (.inr 1)] M4 (rv_ fun M5 =>
    D 145 [.inr (.inr 1), .inl 0] M5 (rv_ fun M6 =>
     D 121 [.inr (.inr 1), .inl 93] M6 (rv_ fun M7 =>
      D 138 [.inr (.inr 1), .inl 9] (up_ M7 1 6 (w32 ((M7 1 6) - 1))) (rv_ fun M8 =>
       (if x3 = (-1) then
        D 138 [.inr (.inr 1), .inl 0] M8 (rv_ fun M12 =>
         (if x5 = 0 then
          D 138 [.inr (.inr 1), .inl 1] M12 (rv_ fun M13 =>
           V 221 [rr 1, ii x1, ii x2, ii x3, ii x4, ii x5, ii x6] [] M13) Qt
         else
          M12 1 2 = 5 ∧
           (0 ≤ x4 ∧ x4 < 48) ∧
           D 138 [.inr (.inr 1), .inl (M12 131 x4)] M12 (rv_ fun M14 =>
           V 221 [rr 1, ii x1, ii x2, ii x3, ii x4, ii x5, ii x6] [] M14) Qt)) Qt
       else
        M8 1 2 = 5 ∧
         (0 ≤ x4 ∧ x4 < 48) ∧
         D 138 [.inr (.inr 1), .inl (M8 132 x4)] M8 (rv_ fun M9 =>
         (if x5 = 0 then
          D 138 [.inr (.inr 1), .inl 1] M9 (rv_ fun M10 =>
           V 221 [rr 1, ii x1, ii x2, ii x3, ii x4, ii x5, ii x6] [] M10) Qt
         else
          M9 1 2 = 5 ∧
           (0 ≤ x4 ∧ x4 < 48) ∧
           D 138 [.inr (.inr 1), .inl (M9 131 x4)] M9 (rv_ fun M11 =>
           V 221 [rr 1, ii x1, ii x2, ii x3, ii x4, ii x5, ii x6] [] M11) Qt)) Qt)) Qt) Qt) Qt) Qt) Qt)) : V 103 [rr 1, ii x1, ii x2, ii x3, ii x4, ii x5, ii x6] [] M := bx_go hD (m := (g_155_57, m_155.2)) (Cl_sf z_155_57 hV) hW [(70, [6]), (103, []), (221, [])] 43 h
theorem z_155_117 : Sf_ k_155 g_155_117 := Sf_tr z_155_57 60 rfl
theorem b_155_221 {D : ca_} {V : vv_} {Qr : qr_} {Qt : qt_} (hD : Mo_ D) (hV : Cl_ wd0 D V Qr Qt m_155) (hW : Wk_ V) (x1 : Int) (x2 : Int) (x3 : Int) (x4 : Int) (x5 : Int) (x6 : Int) (M : mm_) (h :
 (if x3 = (-1) then
  Qr [.inl ((-1))] M
 else
  (if M 1 7 ≤ x1 then
   M 1 2 = 5 ∧
    (0 ≤ x4 ∧ x4 < 48) ∧
    Qr [.inl (M 130 x4)] M
  else
   Qr [.inl ((-1))] M))) : V 221 [rr 1, ii x1, ii x2, ii x3, ii x4, ii x5, ii x6] [] M := bx_go hD (m := (g_155_117, m_155.2)) (Cl_sf z_155_117 hV) hW [(70, [6]), (103, []), (221, [])] 13 h
/-- X1_holds(III)V -/
theorem b_156_0 {D : ca_} {V : vv_} {Qr : qr_} {Qt : qt_} (hD : Mo_ D) (hV : Cl_ wd0 D V Qr Qt m_156) (hW : Wk_ V) (x1 : Int) (x2 : Int) (x3 : Int) (M : mm_) (h :
 (bl_ (M 1 8) → (if M 1 8 = 0 then
  Qr [] M
 else
  (if x1 = (-1) then
   Qr [] M
  else
   (if x1 = x2 then
    Qr [] M
   else
    D 116 [.inr (.inr 1), .inl 5, .inl x3] M (rv_ fun M1 =>
     Qr [] M1) Qt))))) : V 0 [rr 1, ii x1, ii x2, ii x3] [] M := bx_go hD hV hW [] 14 h
/-- X1_output()V -/
theorem b_157_0 {D : ca_} {V : vv_} {Qr : qr_} {Qt : qt_} (hD : Mo_ D) (hV : Cl_ wd0 D V Qr Qt m_157) (hW : Wk_ V)  (M : mm_) (h :
 D 105 [.inr (.inr 1)] M (rv_ fun M1 =>
  D 107 [.inr (.inr 1)] M1 (ri_ fun v1 M2 =>
   D 112 [.inr (.inr 1), .inl v1] M2 (ri_ fun v2 M3 =>
    (bl_ (M3 1 8) → (if M3 1 8 = 0 then
     V 33 [rr 1, ii v1, ii v2, none, none, none, none, none] [] M3
    else
     (if v2 = (-1) then
      D 116 [.inr (.inr 1), .inl 4, .inl v1] M3 (rv_ fun M4 =>
       V 33 [rr 1, ii v1, ii v2, none, none, none, none, none] [] M4) Qt
     else
      V 33 [rr 1, ii v1, ii v2, none, none, none, none, none] [] M3)))) Qt) Qt) Qt) : V 0 [rr 1, none, none, none, none, none, none, none] [] M := bx_go hD hV hW [(33, [3, 4, 5, 6, 7]), (69, [4, 5, 6, 7]), (143, [6, 7]), (208, []), (266, [7])] 20 h
theorem i_157 : inq_ 0 k_157 = true := by decide +kernel
theorem z_157_19 : Sf_ k_157 g_157_19 := Sf_of i_157 19 rfl
theorem b_157_33 {D : ca_} {V : vv_} {Qr : qr_} {Qt : qt_} (hD : Mo_ D) (hV : Cl_ wd0 D V Qr Qt m_157) (hW : Wk_ V) (x1 : Int) (x2 : Int) (M : mm_) (h :
 (if x2 = (-1) then
  (if x2 = (-1) then
   V 69 [rr 1, ii x1, ii x2, ii 0, none, none, none, none] [] M
  else
   M 1 2 = 5 ∧
    (0 ≤ x2 ∧ x2 < 20) ∧
    V 69 [rr 1, ii x1, ii x2, ii (M 112 x2), none, none, none, none] [] M)
 else
  (if x2 = (-1) then
   V 69 [rr 1, ii x1, ii x2, ii 0, none, none, none, none] [] (up_ M 1 21 (or_ (M 1 21) (sl_ 1 x2)))
  else
   M 1 2 = 5 ∧
    (0 ≤ x2 ∧ x2 < 20) ∧
    V 69 [rr 1, ii x1, ii x2, ii (M 112 x2), none, none, none, none] [] (up_ M 1 21 (or_ (M 1 21) (sl_ 1 x2)))))) : V 33 [rr 1, ii x1, ii x2, none, none, none, none, none] [] M := bx_go hD (m := (g_157_19, m_157.2)) (Cl_sf z_157_19 hV) hW [(33, [3, 4, 5, 6, 7]), (69, [4, 5, 6, 7]), (143, [6, 7]), (208, []), (266, [7])] 21 h
theorem z_157_41 : Sf_ k_157 g_157_41 := Sf_tr z_157_19 22 rfl
theorem b_157_69 {D : ca_} {V : vv_} {Qr : qr_} {Qt : qt_} (hD : Mo_ D) (hV : Cl_ wd0 D V Qr Qt m_157) (hW : Wk_ V) (x1 : Int) (x2 : Int) (x3 : Int) (M : mm_) (h :
 M 1 2 = 5 ∧
  D 158 [.inr (.inr 1), .inr (.inr 113), .inl (w32 (3 * (if 0 < x2 then x2 else 0))), .inl x3] M (ri_ fun v1 M1 =>
  (bl_ (M1 1 8) → (if M1 1 8 = 0 then
   D 103 [.inr (.inr 1), .inl 21] M1 (ri_ fun v2 M2 =>
    (if v2 = 0 then
     D 103 [.inr (.inr 1), .inl 22] M2 (ri_ fun v3 M3 =>
      (if v3 = 0 then
       V 143 [rr 1, ii x1, ii x2, ii x3, ii v1, ii 0, none, none] [] M3
      else
       V 143 [rr 1, ii x1, ii x2, ii x3, ii v1, ii 2, none, none] [] M3)) Qt
    else
     V 143 [rr 1, ii x1, ii x2, ii x3, ii v1, ii 1, none, none] [] M2)) Qt
  else
   (if x2 = (-1) then
    D 103 [.inr (.inr 1), .inl 21] M1 (ri_ fun v4 M4 =>
     (if v4 = 0 then
      D 103 [.inr (.inr 1), .inl 22] M4 (ri_ fun v5 M5 =>
       (if v5 = 0 then
        V 143 [rr 1, ii x1, ii x2, ii x3, ii v1, ii 0, none, none] [] M5
       else
        V 143 [rr 1, ii x1, ii x2, ii x3, ii v1, ii 2, none, none] [] M5)) Qt
     else
      V 143 [rr 1, ii x1, ii x2, ii x3, ii v1, ii 1, none, none] [] M4)) Qt
   else
    (if v1 = x3 then
     D 103 [.inr (.inr 1), .inl 21] M1 (ri_ fun v6 M6 =>
      (if v6 = 0 then
       D 103 [.inr (.inr 1), .inl 22] M6 (ri_ fun v7 M7 =>
        (if v7 = 0 then
         V 143 [rr 1, ii x1, ii x2, ii x3, ii v1, ii 0, none, none] [] M7
        else
         V 143 [rr 1, ii x1, ii x2, ii x3, ii v1, ii 2, none, none] [] M7)) Qt
      else
       V 143 [rr 1, ii x1, ii x2, ii x3, ii v1, ii 1, none, none] [] M6)) Qt
    else
     D 116 [.inr (.inr 1), .inl 5, .inl x1] M1 (rv_ fun M8 =>
      D 103 [.inr (.inr 1), .inl 21] M8 (ri_ fun v8 M9 =>
       (if v8 = 0 then
        D 103 [.inr (.inr 1), .inl 22] M9 (ri_ fun v9 M10 =>
         (if v9 = 0 then
          V 143 [rr 1, ii x1, ii x2, ii x3, ii v1, ii 0, none, none] [] M10
         else
          V 143 [rr 1, ii x1, ii x2, ii x3, ii v1, ii 2, none, none] [] M10)) Qt
       else
        V 143 [rr 1, ii x1, ii x2, ii x3, ii v1, ii 1, none, none] [] M9)) Qt) Qt))))) Qt) : V 69 [rr 1, ii x1, ii x2, ii x3, none, none, none, none] [] M := bx_go hD (m := (g_157_41, m_157.2)) (Cl_sf z_157_41 hV) hW [(33, [3, 4, 5, 6, 7]), (69, [4, 5, 6, 7]), (143, [6, 7]), (208, []), (266, [7])] 37 h
theorem z_157_80 : Sf_ k_157 g_157_80 := Sf_tr z_157_41 39 rfl
theorem b_157_143 {D : ca_} {V : vv_} {Qr : qr_} {Qt : qt_} (hD : Mo_ D) (hV : Cl_ wd0 D V Qr Qt m_157) (hW : Wk_ V) (x1 : Int) (x2 : Int) (x3 : Int) (x4 : Int) (x5 : Int) (M : mm_) (h :
 (if x5 = 1 then
  D 105 [.inr (.inr 1)] M (rv_ fun M5 =>
   D 145 [.inr (.inr 1), .inl 2] M5 (rv_ fun M6 =>
    V 266 [rr 1, ii x1, ii x2, ii x3, ii x4, ii x5, ii ((-1)), none] [] M6) Qt) Qt
 else
  (if x5 = 2 then
   D 105 [.inr (.inr 1)] M (rv_ fun M1 =>
    D 107 [.inr (.inr 1)] M1 (ri_ fun v1 M2 =>
     D 114 [.inr (.inr 1), .inl v1] M2 (ri_ fun v2 M3 =>
      (bl_ (M3 1 8) → (if M3 1 8 = 0 then
       V 208 [rr 1, ii x1, ii x2, ii x3, ii x4, ii x5, ii v2, ii v1] [] M3
      else
       (if v2 = (-1) then
        D 116 [.inr (.inr 1), .inl 4, .inl v1] M3 (rv_ fun M4 =>
         V 208 [rr 1, ii x1, ii x2, ii x3, ii x4, ii x5, ii v2, ii v1] [] M4) Qt
       else
        V 208 [rr 1, ii x1, ii x2, ii x3, ii x4, ii x5, ii v2, ii v1] [] M3)))) Qt) Qt) Qt
  else
   V 266 [rr 1, ii x1, ii x2, ii x3, ii x4, ii x5, ii ((-1)), none] [] M))) : V 143 [rr 1, ii x1, ii x2, ii x3, ii x4, ii x5, none, none] [] M := bx_go hD (m := (g_157_80, m_157.2)) (Cl_sf z_157_80 hV) hW [(33, [3, 4, 5, 6, 7]), (69, [4, 5, 6, 7]), (143, [6, 7]), (208, []), (266, [7])] 28 h
theorem z_157_113 : Sf_ k_157 g_157_113 := Sf_tr z_157_80 33 rfl
theorem b_157_208 {D : ca_} {V : vv_} {Qr : qr_} {Qt : qt_} (hD : Mo_ D) (hV : Cl_ wd0 D V Qr Qt m_157) (hW : Wk_ V) (x1 : Int) (x2 : Int) (x3 : Int) (x4 : Int) (x5 : Int) (x6 : Int) (x7 : Int) (M : mm_) (h :
 (bl_ (M 1 8) → (if M 1 8 = 0 then
  V 266 [rr 1, ii x1, ii x2, ii x3, ii x4, ii x5, ii x6, none] [] M
 else
  (if x6 = (-1) then
   V 266 [rr 1, ii x1, ii x2, ii x3, ii x4, ii x5, ii x6, none] [] M
  else
   M 1 2 = 5 ∧
    (0 ≤ w32 (2 * x6) ∧ w32 (2 * x6) < 20) ∧
    (if M 114 (w32 (2 * x6)) = M 1 18 then
    (if x2 = (-1) then
     V 266 [rr 1, ii x1, ii x2, ii x3, ii x4, ii x5, ii x6, none] [] M
    else
     M 1 2 = 5 ∧
      D 205 [.inr (.inr 5), .inl x6, .inl x2] M (ri_ fun v1 M2 =>
      (if v1 = 0 then
       D 116 [.inr (.inr 1), .inl 6, .inl x7] M2 (rv_ fun M3 =>
        V 266 [rr 1, ii x1, ii x2, ii x3, ii x4, ii x5, ii x6, none] [] M3) Qt
      else
       V 266 [rr 1, ii x1, ii x2, ii x3, ii x4, ii x5, ii x6, none] [] M2)) Qt)
   else
    D 116 [.inr (.inr 1), .inl 6, .inl x7] M (rv_ fun M1 =>
     V 266 [rr 1, ii x1, ii x2, ii x3, ii x4, ii x5, ii x6, none] [] M1) Qt))))) : V 208 [rr 1, ii x1, ii x2, ii x3, ii x4, ii x5, ii x6, ii x7] [] M := bx_go hD (m := (g_157_113, m_157.2)) (Cl_sf z_157_113 hV) hW [(33, [3, 4, 5, 6, 7]), (69, [4, 5, 6, 7]), (143, [6, 7]), (208, []), (266, [7])] 30 h
theorem z_157_142 : Sf_ k_157 g_157_142 := Sf_tr z_157_113 29 rfl
theorem b_157_266 {D : ca_} {V : vv_} {Qr : qr_} {Qt : qt_} (hD : Mo_ D) (hV : Cl_ wd0 D V Qr Qt m_157) (hW : Wk_ V) (x1 : Int) (x2 : Int) (x3 : Int) (x4 : Int) (x5 : Int) (x6 : Int) (M : mm_) (h :
 D 138 [.inr (.inr 1), .inl 33] M (rv_ fun M1 =>
  D 138 [.inr (.inr 1), .inl x2] M1 (rv_ fun M2 =>
   D 138 [.inr (.inr 1), .inl x4] M2 (rv_ fun M3 =>
    D 138 [.inr (.inr 1), .inl x5] M3 (rv_ fun M4 =>
     D 138 [.inr (.inr 1), .inl x6] M4 (rv_ fun M5 =>
      Qr [] M5) Qt) Qt) Qt) Qt) Qt) : V 266 [rr 1, ii x1, ii x2, ii x3, ii x4, ii x5, ii x6, none] [] M := bx_go hD (m := (g_157_142, m_157.2)) (Cl_sf z_157_142 hV) hW [(33, [3, 4, 5, 6, 7]), (69, [4, 5, 6, 7]), (143, [6, 7]), (208, []), (266, [7])] 16 h
/-- X1_values([III)I -/
theorem b_158a_0 {D : ca_} {V : vv_} {Qr : qr_} {Qt : qt_} (hD : Mo_ D) (hV : Cl_ wd0 D V Qr Qt m_158) (hW : Wk_ V) (x2 : Int) (x3 : Int) (M : mm_) (h :
 D 117 [.inr (.inr 1), .inl 40] M (ri_ fun v1 M1 =>
  (if v1 = 0 then
   Qr [.inl 0] M1
  else
   D 118 [.inr (.inr 1)] M1 (rv_ fun M2 =>
    V 18 [rr 1, rr 113, ii x2, ii x3, ii 0] [] M2) Qt)) Qt) : V 0 [rr 1, rr 113, ii x2, ii x3, none] [] M := bx_go hD hV hW [(18, []), (65, [])] 9 h
theorem i_158 : inq_ 0 k_158 = true := by decide +kernel
theorem z_158_10 : Sf_ k_158 g_158_10 := Sf_of i_158 10 rfl
theorem b_158a_18 {D : ca_} {V : vv_} {Qr : qr_} {Qt : qt_} (hD : Mo_ D) (hV : Cl_ wd0 D V Qr Qt m_158) (hW : Wk_ V) (x2 : Int) (x3 : Int) (x4 : Int) (M : mm_) (h :
 D 105 [.inr (.inr 1)] M (rv_ fun M1 =>
  (if x4 = 3 then
   D 159 [.inr (.inr 1)] M1 (ri_ fun v1 M4 =>
    (if v1 = 0 then
     (if x4 < x3 then
      (0 ≤ w32 (x2 + x4) ∧ w32 (x2 + x4) < 60) ∧
       D 145 [.inr (.inr 1), .inl (M4 113 (w32 (x2 + x4)))] M4 (rv_ fun M6 =>
       V 65 [rr 1, rr 113, ii x2, ii x3, ii x4] [] M6) Qt
     else
      D 145 [.inr (.inr 1), .inl ((-1))] M4 (rv_ fun M5 =>
       V 65 [rr 1, rr 113, ii x2, ii x3, ii x4] [] M5) Qt)
    else
     D 106 [.inr (.inr 1), .inl 2, .inl (M4 1 3)] M4 (rf_r fun v2 M7 =>
      (if v2 = 1999 then False else Qt v2 M7)) Qt)) Qt
  else
   (if x4 < x3 then
    (0 ≤ w32 (x2 + x4) ∧ w32 (x2 + x4) < 60) ∧
     D 145 [.inr (.inr 1), .inl (M1 113 (w32 (x2 + x4)))] M1 (rv_ fun M3 =>
     V 65 [rr 1, rr 113, ii x2, ii x3, ii x4] [] M3) Qt
   else
    D 145 [.inr (.inr 1), .inl ((-1))] M1 (rv_ fun M2 =>
     V 65 [rr 1, rr 113, ii x2, ii x3, ii x4] [] M2) Qt))) Qt) : V 18 [rr 1, rr 113, ii x2, ii x3, ii x4] [] M := bx_go hD (m := (g_158_10, m_158.2)) (Cl_sf z_158_10 hV) hW [(18, []), (65, [])] 20 h
theorem z_158_36 : Sf_ k_158 g_158_36 := Sf_tr z_158_10 26 rfl
theorem b_158a_65 {D : ca_} {V : vv_} {Qr : qr_} {Qt : qt_} (hD : Mo_ D) (hV : Cl_ wd0 D V Qr Qt m_158) (hW : Wk_ V) (x2 : Int) (x3 : Int) (x4 : Int) (M : mm_) (h :
 D 117 [.inr (.inr 1), .inl 44] M (ri_ fun v1 M1 =>
  (if v1 = 0 then
   D 121 [.inr (.inr 1), .inl 41] M1 (rv_ fun M2 =>
    Qr [.inl (w32 (x4 + 1))] (up_ M2 1 6 (w32 ((M2 1 6) - 1)))) Qt
  else
   V 18 [rr 1, rr 113, ii x2, ii x3, ii (w32 (x4 + 1))] [] M1)) Qt) : V 65 [rr 1, rr 113, ii x2, ii x3, ii x4] [] M := bx_go hD (m := (g_158_36, m_158.2)) (Cl_sf z_158_36 hV) hW [(18, []), (65, [])] 16 h
/-- X1_values([III)I -/
theorem b_158b_0 {D : ca_} {V : vv_} {Qr : qr_} {Qt : qt_} (hD : Mo_ D) (hV : Cl_ wd0 D V Qr Qt m_158) (hW : Wk_ V) (x2 : Int) (x3 : Int) (M : mm_) (h :
 D 117 [.inr (.inr 1), .inl 40] M (ri_ fun v1 M1 =>
  (if v1 = 0 then
   Qr [.inl 0] M1
  else
   D 118 [.inr (.inr 1)] M1 (rv_ fun M2 =>
    V 18 [rr 1, rr 130, ii x2, ii x3, ii 0] [] M2) Qt)) Qt) : V 0 [rr 1, rr 130, ii x2, ii x3, none] [] M := bx_go hD hV hW [(18, []), (65, [])] 9 h
theorem b_158b_18 {D : ca_} {V : vv_} {Qr : qr_} {Qt : qt_} (hD : Mo_ D) (hV : Cl_ wd0 D V Qr Qt m_158) (hW : Wk_ V) (x2 : Int) (x3 : Int) (x4 : Int) (M : mm_) (h :
 D 105 [.inr (.inr 1)] M (rv_ fun M1 =>
  (if x4 = 3 then
   D 159 [.inr (.inr 1)] M1 (ri_ fun v1 M4 =>
    (if v1 = 0 then
     (if x4 < x3 then
      (0 ≤ w32 (x2 + x4) ∧ w32 (x2 + x4) < 48) ∧
       D 145 [.inr (.inr 1), .inl (M4 130 (w32 (x2 + x4)))] M4 (rv_ fun M6 =>
       V 65 [rr 1, rr 130, ii x2, ii x3, ii x4] [] M6) Qt
     else
      D 145 [.inr (.inr 1), .inl ((-1))] M4 (rv_ fun M5 =>
       V 65 [rr 1, rr 130, ii x2, ii x3, ii x4] [] M5) Qt)
    else
     D 106 [.inr (.inr 1), .inl 2, .inl (M4 1 3)] M4 (rf_r fun v2 M7 =>
      (if v2 = 1999 then False else Qt v2 M7)) Qt)) Qt
  else
   (if x4 < x3 then
    (0 ≤ w32 (x2 + x4) ∧ w32 (x2 + x4) < 48) ∧
     D 145 [.inr (.inr 1), .inl (M1 130 (w32 (x2 + x4)))] M1 (rv_ fun M3 =>
     V 65 [rr 1, rr 130, ii x2, ii x3, ii x4] [] M3) Qt
   else
    D 145 [.inr (.inr 1), .inl ((-1))] M1 (rv_ fun M2 =>
     V 65 [rr 1, rr 130, ii x2, ii x3, ii x4] [] M2) Qt))) Qt) : V 18 [rr 1, rr 130, ii x2, ii x3, ii x4] [] M := bx_go hD (m := (g_158_10, m_158.2)) (Cl_sf z_158_10 hV) hW [(18, []), (65, [])] 20 h
theorem b_158b_65 {D : ca_} {V : vv_} {Qr : qr_} {Qt : qt_} (hD : Mo_ D) (hV : Cl_ wd0 D V Qr Qt m_158) (hW : Wk_ V) (x2 : Int) (x3 : Int) (x4 : Int) (M : mm_) (h :
 D 117 [.inr (.inr 1), .inl 44] M (ri_ fun v1 M1 =>
  (if v1 = 0 then
   D 121 [.inr (.inr 1), .inl 41] M1 (rv_ fun M2 =>
    Qr [.inl (w32 (x4 + 1))] (up_ M2 1 6 (w32 ((M2 1 6) - 1)))) Qt
  else
   V 18 [rr 1, rr 130, ii x2, ii x3, ii (w32 (x4 + 1))] [] M1)) Qt) : V 65 [rr 1, rr 130, ii x2, ii x3, ii x4] [] M := bx_go hD (m := (g_158_36, m_158.2)) (Cl_sf z_158_36 hV) hW [(18, []), (65, [])] 16 h
/-- X1_beginsE()Z -/
theorem b_159_0 {D : ca_} {V : vv_} {Qr : qr_} {Qt : qt_} (hD : Mo_ D) (hV : Cl_ wd0 D V Qr Qt m_159) (hW : Wk_ V)  (M : mm_) (h :
 D 120 [.inr (.inr 1)] M (ri_ fun v1 M1 =>
  (if v1 = 101 then
   bl_ 1 ∧ Qr [.inl 1] M1
  else
   (if v1 = 100 then
    bl_ 1 ∧ Qr [.inl 1] M1
   else
    (if v1 < 31 then
     (if v1 = 240 then
      bl_ 1 ∧ Qr [.inl 1] M1
     else
      (if v1 = 245 then
       bl_ 1 ∧ Qr [.inl 1] M1
      else
       bl_ 0 ∧ Qr [.inl 0] M1))
    else
     (if v1 ≤ 41 then
      bl_ 1 ∧ Qr [.inl 1] M1
     else
      (if v1 = 240 then
       bl_ 1 ∧ Qr [.inl 1] M1
      else
       (if v1 = 245 then
        bl_ 1 ∧ Qr [.inl 1] M1
       else
        bl_ 0 ∧ Qr [.inl 0] M1))))))) Qt) : V 0 [rr 1, none] [] M := bx_go hD hV hW [] 24 h
/-- X1_create()V -/
theorem b_160_0 {D : ca_} {V : vv_} {Qr : qr_} {Qt : qt_} (hD : Mo_ D) (hV : Cl_ wd0 D V Qr Qt m_160) (hW : Wk_ V)  (M : mm_) (h :
 D 105 [.inr (.inr 1)] M (rv_ fun M1 =>
  D 107 [.inr (.inr 1)] M1 (ri_ fun v1 M2 =>
   D 115 [.inr (.inr 1), .inl v1] M2 (ri_ fun v2 M3 =>
    (bl_ (M3 1 8) → (if M3 1 8 = 0 then
     V 33 [rr 1, ii v1, ii v2, none, none] [] M3
    else
     (if v2 = (-1) then
      D 116 [.inr (.inr 1), .inl 4, .inl v1] M3 (rv_ fun M4 =>
       V 33 [rr 1, ii v1, ii v2, none, none] [] M4) Qt
     else
      V 33 [rr 1, ii v1, ii v2, none, none] [] M3)))) Qt) Qt) Qt) : V 0 [rr 1, none, none, none, none] [] M := bx_go hD hV hW [(33, [3, 4]), (76, [4])] 20 h
theorem i_160 : inq_ 0 k_160 = true := by decide +kernel
theorem z_160_19 : Sf_ k_160 g_160_19 := Sf_of i_160 19 rfl
theorem b_160_33 {D : ca_} {V : vv_} {Qr : qr_} {Qt : qt_} (hD : Mo_ D) (hV : Cl_ wd0 D V Qr Qt m_160) (hW : Wk_ V) (x1 : Int) (x2 : Int) (M : mm_) (h :
 (if x2 = (-1) then
  (if x2 = (-1) then
   V 76 [rr 1, ii x1, ii x2, ii 0, none] [] M
  else
   (bl_ (M 1 8) → (if M 1 8 = 0 then
    V 76 [rr 1, ii x1, ii x2, ii 0, none] [] M
   else
    M 1 2 = 5 ∧
     (0 ≤ x2 ∧ x2 < 6) ∧
     V 76 [rr 1, ii x1, ii x2, ii (M 122 x2), none] [] M)))
 else
  (if x2 = (-1) then
   V 76 [rr 1, ii x1, ii x2, ii 0, none] [] (up_ M 1 23 (or_ (M 1 23) (sl_ 1 x2)))
  else
   (bl_ (M 1 8) → (if M 1 8 = 0 then
    V 76 [rr 1, ii x1, ii x2, ii 0, none] [] (up_ M 1 23 (or_ (M 1 23) (sl_ 1 x2)))
   else
    M 1 2 = 5 ∧
     (0 ≤ x2 ∧ x2 < 6) ∧
     V 76 [rr 1, ii x1, ii x2, ii (M 122 x2), none] [] (up_ M 1 23 (or_ (M 1 23) (sl_ 1 x2)))))))) : V 33 [rr 1, ii x1, ii x2, none, none] [] M := bx_go hD (m := (g_160_19, m_160.2)) (Cl_sf z_160_19 hV) hW [(33, [3, 4]), (76, [4])] 24 h
theorem z_160_44 : Sf_ k_160 g_160_44 := Sf_tr z_160_19 25 rfl
theorem b_160_76 {D : ca_} {V : vv_} {Qr : qr_} {Qt : qt_} (hD : Mo_ D) (hV : Cl_ wd0 D V Qr Qt m_160) (hW : Wk_ V) (x1 : Int) (x2 : Int) (x3 : Int) (M : mm_) (h :
 M 1 2 = 5 ∧
  D 158 [.inr (.inr 1), .inr (.inr 130), .inl (w32 (8 * (if 0 < x2 then x2 else 0))), .inl x3] M (ri_ fun v1 M1 =>
  (bl_ (M1 1 8) → (if M1 1 8 = 0 then
   D 138 [.inr (.inr 1), .inl 36] M1 (rv_ fun M2 =>
    D 138 [.inr (.inr 1), .inl x2] M2 (rv_ fun M3 =>
     D 138 [.inr (.inr 1), .inl v1] M3 (rv_ fun M4 =>
      Qr [] M4) Qt) Qt) Qt
  else
   (if x2 = (-1) then
    D 138 [.inr (.inr 1), .inl 36] M1 (rv_ fun M5 =>
     D 138 [.inr (.inr 1), .inl x2] M5 (rv_ fun M6 =>
      D 138 [.inr (.inr 1), .inl v1] M6 (rv_ fun M7 =>
       Qr [] M7) Qt) Qt) Qt
   else
    (if v1 = x3 then
     D 138 [.inr (.inr 1), .inl 36] M1 (rv_ fun M8 =>
      D 138 [.inr (.inr 1), .inl x2] M8 (rv_ fun M9 =>
       D 138 [.inr (.inr 1), .inl v1] M9 (rv_ fun M10 =>
        Qr [] M10) Qt) Qt) Qt
    else
     D 116 [.inr (.inr 1), .inl 5, .inl x1] M1 (rv_ fun M11 =>
      D 138 [.inr (.inr 1), .inl 36] M11 (rv_ fun M12 =>
       D 138 [.inr (.inr 1), .inl x2] M12 (rv_ fun M13 =>
        D 138 [.inr (.inr 1), .inl v1] M13 (rv_ fun M14 =>
         Qr [] M14) Qt) Qt) Qt) Qt))))) Qt) : V 76 [rr 1, ii x1, ii x2, ii x3, none] [] M := bx_go hD (m := (g_160_44, m_160.2)) (Cl_sf z_160_44 hV) hW [(33, [3, 4]), (76, [4])] 35 h
/-- X1_decide()Z -/
theorem b_161_0 {D : ca_} {V : vv_} {Qr : qr_} {Qt : qt_} (hD : Mo_ D) (hV : Cl_ wd0 D V Qr Qt m_161) (hW : Wk_ V)  (M : mm_) (h :
 D 118 [.inr (.inr 1)] M (rv_ fun M1 =>
  D 105 [.inr (.inr 1)] M1 (rv_ fun M2 =>
   D 146 [.inr (.inr 1)] M2 (ri_ fun v1 M3 =>
    (bl_ (M3 1 8) → (if M3 1 8 = 0 then
     D 121 [.inr (.inr 1), .inl 59] M3 (rv_ fun M4 =>
      V 50 [rr 1, ii (M2 1 3), ii v1, ii 0, ii ((-1)), ii 1, none, none, none, none, none, none, none] [] M4) Qt
    else
     (if v1 = 2 then
      D 116 [.inr (.inr 1), .inl 5, .inl (M2 1 3)] M3 (rv_ fun M6 =>
       D 121 [.inr (.inr 1), .inl 59] M6 (rv_ fun M7 =>
        V 50 [rr 1, ii (M2 1 3), ii v1, ii 0, ii ((-1)), ii 1, none, none, none, none, none, none, none] [] M7) Qt) Qt
     else
      D 121 [.inr (.inr 1), .inl 59] M3 (rv_ fun M5 =>
       V 50 [rr 1, ii (M2 1 3), ii v1, ii 0, ii ((-1)), ii 1, none, none, none, none, none, none, none] [] M5) Qt)))) Qt) Qt) Qt) : V 0 [rr 1, none, none, none, none, none, none, none, none, none, none, none, none] [] M := bx_go hD hV hW [(50, [6, 7, 8, 9, 10, 11, 12]), (87, [10, 11, 12]), (115, [10, 11, 12]), (174, [10, 11, 12]), (209, [12]), (240, []), (321, [])] 30 h
theorem i_161 : inq_ 0 k_161 = true := by decide +kernel
theorem z_161_29 : Sf_ k_161 g_161_29 := Sf_of i_161 29 rfl
theorem b_161_50 {D : ca_} {V : vv_} {Qr : qr_} {Qt : qt_} (hD : Mo_ D) (hV : Cl_ wd0 D V Qr Qt m_161) (hW : Wk_ V) (x1 : Int) (x2 : Int) (x3 : Int) (x4 : Int) (x5 : Int) (M : mm_) (h :
 D 162 [.inr (.inr 1)] M (ri_ fun v1 M1 =>
  (bl_ (M1 1 8) → (if M1 1 8 = 0 then
   D 162 [.inr (.inr 1)] M1 (ri_ fun v2 M2 =>
    V 87 [rr 1, ii x1, ii x2, ii x3, ii x4, ii x5, ii 0, ii v1, ii v2, ii 1, none, none, none] [] M2) Qt
  else
   M1 1 2 = 5 ∧
    (0 ≤ v1 ∧ v1 < 12000) ∧
    D 162 [.inr (.inr 1)] (up_ M1 142 v1 43) (ri_ fun v3 M3 =>
    V 87 [rr 1, ii x1, ii x2, ii x3, ii x4, ii x5, ii 0, ii v1, ii v3, ii 1, none, none, none] [] M3) Qt))) Qt) : V 50 [rr 1, ii x1, ii x2, ii x3, ii x4, ii x5, none, none, none, none, none, none, none] [] M := bx_go hD (m := (g_161_29, m_161.2)) (Cl_sf z_161_29 hV) hW [(50, [6, 7, 8, 9, 10, 11, 12]), (87, [10, 11, 12]), (115, [10, 11, 12]), (174, [10, 11, 12]), (209, [12]), (240, []), (321, [])] 20 h
theorem z_161_48 : Sf_ k_161 g_161_48 := Sf_tr z_161_29 19 rfl
theorem b_161_87 {D : ca_} {V : vv_} {Qr : qr_} {Qt : qt_} (hD : Mo_ D) (hV : Cl_ wd0 D V Qr Qt m_161) (hW : Wk_ V) (x1 : Int) (x2 : Int) (x3 : Int) (x4 : Int) (x5 : Int) (x6 : Int) (x7 : Int) (x8 : Int) (x9 : Int) (M : mm_) (h :
 (if x9 = 0 then
  (bl_ (M 1 8) → (if M 1 8 = 0 then
   V 174 [rr 1, ii x1, ii x2, ii x3, ii x4, ii x5, ii x6, ii x7, ii x8, ii x9, none, none, none] [] M
  else
   M 1 2 = 5 ∧
    (0 ≤ x8 ∧ x8 < 12000) ∧
    V 174 [rr 1, ii x1, ii x2, ii x3, ii x4, ii x5, ii x6, ii x7, ii x8, ii x9, none, none, none] [] (up_ M 142 x8 x6)))
 else
  (if x3 = 8 then
   D 163 [.inr (.inr 1)] M (ri_ fun v1 M1 =>
    (if v1 = 0 then
     V 115 [rr 1, ii x1, ii x2, ii x3, ii x4, ii x5, ii x6, ii x7, ii x8, ii x9, none, none, none] [] M1
    else
     D 106 [.inr (.inr 1), .inl 2, .inl (M1 1 3)] M1 (rf_r fun v2 M2 =>
      (if v2 = 1999 then False else Qt v2 M2)) Qt)) Qt
  else
   V 115 [rr 1, ii x1, ii x2, ii x3, ii x4, ii x5, ii x6, ii x7, ii x8, ii x9, none, none, none] [] M))) : V 87 [rr 1, ii x1, ii x2, ii x3, ii x4, ii x5, ii x6, ii x7, ii x8, ii x9, none, none, none] [] M := bx_go hD (m := (g_161_48, m_161.2)) (Cl_sf z_161_48 hV) hW [(50, [6, 7, 8, 9, 10, 11, 12]), (87, [10, 11, 12]), (115, [10, 11, 12]), (174, [10, 11, 12]), (209, [12]), (240, []), (321, [])] 14 h
theorem z_161_62 : Sf_ k_161 g_161_62 := Sf_tr z_161_48 14 rfl
theorem b_161_115 {D : ca_} {V : vv_} {Qr : qr_} {Qt : qt_} (hD : Mo_ D) (hV : Cl_ wd0 D V Qr Qt m_161) (hW : Wk_ V) (x1 : Int) (x2 : Int) (x3 : Int) (x4 : Int) (x5 : Int) (x6 : Int) (x7 : Int) (x8 : Int) (x9 : Int) (M : mm_) (h :
 (if x2 = 2 then
  D 164 [.inr (.inr 1), .inl ((-1))] M (rv_ fun M4 =>
   D 117 [.inr (.inr 1), .inl 44] M4 (ri_ fun v2 M5 =>
    (if v2 = 0 then
     V 87 [rr 1, ii x1, ii x2, ii (w32 (x3 + 1)), ii x4, ii x5, ii (w32 (x6 + 1)), ii x7, ii x8, ii v2, none, none, none] [] M5
    else
     D 105 [.inr (.inr 1)] M5 (rv_ fun M6 =>
      V 87 [rr 1, ii x1, ii x2, ii (w32 (x3 + 1)), ii x4, ii x5, ii (w32 (x6 + 1)), ii x7, ii x8, ii v2, none, none, none] [] M6) Qt)) Qt) Qt
 else
  D 164 [.inr (.inr 1), .inl x2] M (rv_ fun M1 =>
   D 117 [.inr (.inr 1), .inl 44] M1 (ri_ fun v1 M2 =>
    (if v1 = 0 then
     V 87 [rr 1, ii x1, ii x2, ii (w32 (x3 + 1)), ii x4, ii x5, ii (w32 (x6 + 1)), ii x7, ii x8, ii v1, none, none, none] [] M2
    else
     D 105 [.inr (.inr 1)] M2 (rv_ fun M3 =>
      V 87 [rr 1, ii x1, ii x2, ii (w32 (x3 + 1)), ii x4, ii x5, ii (w32 (x6 + 1)), ii x7, ii x8, ii v1, none, none, none] [] M3) Qt)) Qt) Qt)) : V 115 [rr 1, ii x1, ii x2, ii x3, ii x4, ii x5, ii x6, ii x7, ii x8, ii x9, none, none, none] [] M := bx_go hD (m := (g_161_62, m_161.2)) (Cl_sf z_161_62 hV) hW [(50, [6, 7, 8, 9, 10, 11, 12]), (87, [10, 11, 12]), (115, [10, 11, 12]), (174, [10, 11, 12]), (209, [12]), (240, []), (321, [])] 19 h
theorem z_161_90 : Sf_ k_161 g_161_90 := Sf_tr z_161_62 28 rfl
theorem b_161_174 {D : ca_} {V : vv_} {Qr : qr_} {Qt : qt_} (hD : Mo_ D) (hV : Cl_ wd0 D V Qr Qt m_161) (hW : Wk_ V) (x1 : Int) (x2 : Int) (x3 : Int) (x4 : Int) (x5 : Int) (x6 : Int) (x7 : Int) (x8 : Int) (x9 : Int) (M : mm_) (h :
 D 162 [.inr (.inr 1)] M (ri_ fun v1 M1 =>
  D 121 [.inr (.inr 1), .inl 58] M1 (rv_ fun M2 =>
   D 133 [.inr (.inr 1)] M2 (ri_ fun v2 M3 =>
    (if x5 = 0 then
     V 209 [rr 1, ii x1, ii x2, ii x3, ii x4, ii 0, ii x6, ii x7, ii x8, ii x9, ii v1, ii v2, none] [] M3
    else
     (if v2 = 0 then
      V 209 [rr 1, ii x1, ii x2, ii x3, ii x4, ii 0, ii x6, ii x7, ii x8, ii x9, ii v1, ii v2, none] [] M3
     else
      V 209 [rr 1, ii x1, ii x2, ii x3, ii x4, ii 1, ii x6, ii x7, ii x8, ii x9, ii v1, ii v2, none] [] M3))) Qt) Qt) Qt) : V 174 [rr 1, ii x1, ii x2, ii x3, ii x4, ii x5, ii x6, ii x7, ii x8, ii x9, none, none, none] [] M := bx_go hD (m := (g_161_90, m_161.2)) (Cl_sf z_161_90 hV) hW [(50, [6, 7, 8, 9, 10, 11, 12]), (87, [10, 11, 12]), (115, [10, 11, 12]), (174, [10, 11, 12]), (209, [12]), (240, []), (321, [])] 17 h
theorem z_161_107 : Sf_ k_161 g_161_107 := Sf_tr z_161_90 17 rfl
theorem b_161_209 {D : ca_} {V : vv_} {Qr : qr_} {Qt : qt_} (hD : Mo_ D) (hV : Cl_ wd0 D V Qr Qt m_161) (hW : Wk_ V) (x1 : Int) (x2 : Int) (x3 : Int) (x4 : Int) (x5 : Int) (x6 : Int) (x7 : Int) (x8 : Int) (x9 : Int) (x10 : Int) (x11 : Int) (M : mm_) (h :
 D 138 [.inr (.inr 1), .inl 38] M (rv_ fun M1 =>
  D 162 [.inr (.inr 1)] M1 (ri_ fun v1 M2 =>
   (bl_ (M2 1 8) → (if M2 1 8 = 0 then
    V 240 [rr 1, ii x1, ii x2, ii x3, ii x4, ii x5, ii x6, ii x7, ii x8, ii x9, ii x10, ii x11, ii v1] [] M2
   else
    M2 1 2 = 5 ∧
     (0 ≤ v1 ∧ v1 < 12000) ∧
     V 240 [rr 1, ii x1, ii x2, ii x3, ii x4, ii x5, ii x6, ii x7, ii x8, ii x9, ii x10, ii x11, ii v1] [] (up_ M2 142 v1 x4)))) Qt) Qt) : V 209 [rr 1, ii x1, ii x2, ii x3, ii x4, ii x5, ii x6, ii x7, ii x8, ii x9, ii x10, ii x11, none] [] M := bx_go hD (m := (g_161_107, m_161.2)) (Cl_sf z_161_107 hV) hW [(50, [6, 7, 8, 9, 10, 11, 12]), (87, [10, 11, 12]), (115, [10, 11, 12]), (174, [10, 11, 12]), (209, [12]), (240, []), (321, [])] 16 h
theorem z_161_122 : Sf_ k_161 g_161_122 := Sf_tr z_161_107 15 rfl
theorem b_161_240 {D : ca_} {V : vv_} {Qr : qr_} {Qt : qt_} (hD : Mo_ D) (hV : Cl_ wd0 D V Qr Qt m_161) (hW : Wk_ V) (x1 : Int) (x2 : Int) (x3 : Int) (x4 : Int) (x5 : Int) (x6 : Int) (x7 : Int) (x8 : Int) (x9 : Int) (x10 : Int) (x11 : Int) (x12 : Int) (M : mm_) (h :
 D 166 [.inr (.inr 1), .inl x10] M (rv_ fun M1 =>
  D 163 [.inr (.inr 1)] M1 (ri_ fun v1 M2 =>
   (if v1 = 0 then
    D 138 [.inr (.inr 1), .inl 44] M2 (rv_ fun M3 =>
     D 103 [.inr (.inr 1), .inl 19] M3 (ri_ fun v2 M4 =>
      (if v2 = 0 then
       D 108 [.inr (.inr 1), .inl 20] M4 (rv_ fun M5 =>
        V 321 [rr 1, ii x1, ii x2, ii x3, ii x12, ii x5, ii v2, ii x7, ii x8, ii x9, ii x10, ii x11, ii x12] [] (up_ M5 1 6 (w32 ((M5 1 6) - 1)))) Qt
      else
       D 105 [.inr (.inr 1)] M4 (rv_ fun M6 =>
        D 121 [.inr (.inr 1), .inl 58] M6 (rv_ fun M7 =>
         D 133 [.inr (.inr 1)] M7 (ri_ fun v3 M8 =>
          (if v3 = 0 then
           D 108 [.inr (.inr 1), .inl 20] M8 (rv_ fun M9 =>
            V 321 [rr 1, ii x1, ii x2, ii x3, ii x12, ii 0, ii v2, ii x7, ii x8, ii x9, ii x10, ii x11, ii x12] [] (up_ M9 1 6 (w32 ((M9 1 6) - 1)))) Qt
          else
           (if x5 = 0 then
            D 108 [.inr (.inr 1), .inl 20] M8 (rv_ fun M10 =>
             V 321 [rr 1, ii x1, ii x2, ii x3, ii x12, ii 0, ii v2, ii x7, ii x8, ii x9, ii x10, ii x11, ii x12] [] (up_ M10 1 6 (w32 ((M10 1 6) - 1)))) Qt
           else
            D 108 [.inr (.inr 1), .inl 20] M8 (rv_ fun M11 =>
             V 321 [rr 1, ii x1, ii x2, ii x3, ii x12, ii 1, ii v2, ii x7, ii x8, ii x9, ii x10, ii x11, ii x12] [] (up_ M11 1 6 (w32 ((M11 1 6) - 1)))) Qt))) Qt) Qt) Qt)) Qt) Qt
   else
    V 50 [rr 1, ii x1, ii x2, ii x3, ii x12, ii x5, none, none, none, none, none, none, none] [] M2)) Qt) Qt) : V 240 [rr 1, ii x1, ii x2, ii x3, ii x4, ii x5, ii x6, ii x7, ii x8, ii x9, ii x10, ii x11, ii x12] [] M := bx_go hD (m := (g_161_122, m_161.2)) (Cl_sf z_161_122 hV) hW [(50, [6, 7, 8, 9, 10, 11, 12]), (87, [10, 11, 12]), (115, [10, 11, 12]), (174, [10, 11, 12]), (209, [12]), (240, []), (321, [])] 40 h
theorem z_161_162 : Sf_ k_161 g_161_162 := Sf_tr z_161_122 40 rfl
theorem b_161_321 {D : ca_} {V : vv_} {Qr : qr_} {Qt : qt_} (hD : Mo_ D) (hV : Cl_ wd0 D V Qr Qt m_161) (hW : Wk_ V) (x1 : Int) (x2 : Int) (x3 : Int) (x4 : Int) (x5 : Int) (x6 : Int) (x7 : Int) (x8 : Int) (x9 : Int) (x10 : Int) (x11 : Int) (x12 : Int) (M : mm_) (h :
 (bl_ (M 1 8) → (if M 1 8 = 0 then
  (if x5 = 0 then
   bl_ 0 ∧ Qr [.inl 0] M
  else
   (if x6 = 0 then
    bl_ 0 ∧ Qr [.inl 0] M
   else
    bl_ 1 ∧ Qr [.inl 1] M))
 else
  (if x4 = (-1) then
   (if x5 = 0 then
    bl_ 0 ∧ Qr [.inl 0] M
   else
    (if x6 = 0 then
     bl_ 0 ∧ Qr [.inl 0] M
    else
     bl_ 1 ∧ Qr [.inl 1] M))
  else
   M 1 2 = 5 ∧
    (0 ≤ x4 ∧ x4 < 12000) ∧
    D 166 [.inr (.inr 1), .inl x4] M (rv_ fun M1 =>
    V 321 [rr 1, ii x1, ii x2, ii x3, ii (M 142 x4), ii x5, ii x6, ii (M 142 x4), ii x8, ii x9, ii x10, ii x11, ii x12] [] M1) Qt)))) : V 321 [rr 1, ii x1, ii x2, ii x3, ii x4, ii x5, ii x6, ii x7, ii x8, ii x9, ii x10, ii x11, ii x12] [] M := bx_go hD (m := (g_161_162, m_161.2)) (Cl_sf z_161_162 hV) hW [(50, [6, 7, 8, 9, 10, 11, 12]), (87, [10, 11, 12]), (115, [10, 11, 12]), (174, [10, 11, 12]), (209, [12]), (240, []), (321, [])] 19 h
/-- X1_later()I -/
theorem b_162_0 {D : ca_} {V : vv_} {Qr : qr_} {Qt : qt_} (hD : Mo_ D) (hV : Cl_ wd0 D V Qr Qt m_162) (hW : Wk_ V)  (M : mm_) (h :
 M 1 2 = 5 ∧
  D 138 [.inr (.inr 1), .inl 0] M (rv_ fun M1 =>
  Qr [.inl (M 5 3)] M1) Qt) : V 0 [rr 1, none] [] M := bx_go hD hV hW [] 9 h
/-- X1_isRange()Z -/
theorem b_163_0 {D : ca_} {V : vv_} {Qr : qr_} {Qt : qt_} (hD : Mo_ D) (hV : Cl_ wd0 D V Qr Qt m_163) (hW : Wk_ V)  (M : mm_) (h :
 D 103 [.inr (.inr 1), .inl 101] M (ri_ fun v1 M1 =>
  (if v1 = 0 then
   D 117 [.inr (.inr 1), .inl 45] M1 (ri_ fun v2 M2 =>
    (if v2 = 0 then
     D 103 [.inr (.inr 1), .inl 31] M2 (ri_ fun v3 M3 =>
      (if v3 = 0 then
       D 103 [.inr (.inr 1), .inl 32] M3 (ri_ fun v4 M4 =>
        (if v4 = 0 then
         bl_ 0 ∧ Qr [.inl 0] M4
        else
         bl_ 1 ∧ Qr [.inl 1] M4)) Qt
      else
       bl_ 1 ∧ Qr [.inl 1] M3)) Qt
    else
     bl_ 1 ∧ Qr [.inl 1] M2)) Qt
  else
   bl_ 1 ∧ Qr [.inl 1] M1)) Qt) : V 0 [rr 1] [] M := bx_go hD hV hW [] 19 h
/-- X1_range(I)V -/
theorem b_164_0 {D : ca_} {V : vv_} {Qr : qr_} {Qt : qt_} (hD : Mo_ D) (hV : Cl_ wd0 D V Qr Qt m_164) (hW : Wk_ V) (x1 : Int) (M : mm_) (h :
 D 103 [.inr (.inr 1), .inl 31] M (ri_ fun v1 M1 =>
  (if v1 = 0 then
   D 103 [.inr (.inr 1), .inl 32] M1 (ri_ fun v2 M3 =>
    (if v2 = 0 then
     D 165 [.inr (.inr 1)] M3 (ri_ fun v3 M4 =>
      (bl_ (M4 1 8) → (if M4 1 8 = 0 then
       V 107 [rr 1, ii x1, ii (M 1 3), ii v3, ii v3, none] [] M4
      else
       (if x1 = 1 then
        D 116 [.inr (.inr 1), .inl 5, .inl (M 1 3)] M4 (rv_ fun M5 =>
         V 107 [rr 1, ii x1, ii (M 1 3), ii v3, ii v3, none] [] M5) Qt
       else
        V 107 [rr 1, ii x1, ii (M 1 3), ii v3, ii v3, none] [] M4)))) Qt
    else
     (bl_ (M3 1 8) → (if M3 1 8 = 0 then
      V 40 [rr 1, ii x1, ii (M 1 3), none, none, none] [] M3
     else
      (if x1 = 0 then
       D 116 [.inr (.inr 1), .inl 5, .inl (M 1 3)] M3 (rv_ fun M6 =>
        V 40 [rr 1, ii x1, ii (M 1 3), none, none, none] [] M6) Qt
      else
       V 40 [rr 1, ii x1, ii (M 1 3), none, none, none] [] M3))))) Qt
  else
   (bl_ (M1 1 8) → (if M1 1 8 = 0 then
    V 40 [rr 1, ii x1, ii (M 1 3), none, none, none] [] M1
   else
    (if x1 = 0 then
     D 116 [.inr (.inr 1), .inl 5, .inl (M 1 3)] M1 (rv_ fun M2 =>
      V 40 [rr 1, ii x1, ii (M 1 3), none, none, none] [] M2) Qt
    else
     V 40 [rr 1, ii x1, ii (M 1 3), none, none, none] [] M1))))) Qt) : V 0 [rr 1, ii x1, none, none, none, none] [] M := bx_go hD hV hW [(40, [3, 4, 5]), (107, [5])] 27 h
theorem i_164 : inq_ 0 k_164 = true := by decide +kernel
theorem z_164_20 : Sf_ k_164 g_164_20 := Sf_of i_164 20 rfl
theorem b_164_40 {D : ca_} {V : vv_} {Qr : qr_} {Qt : qt_} (hD : Mo_ D) (hV : Cl_ wd0 D V Qr Qt m_164) (hW : Wk_ V) (x1 : Int) (x2 : Int) (M : mm_) (h :
 D 103 [.inr (.inr 1), .inl 31] M (ri_ fun v1 M1 =>
  (if v1 = 0 then
   D 138 [.inr (.inr 1), .inl 0] M1 (rv_ fun M2 =>
    D 103 [.inr (.inr 1), .inl 31] M2 (ri_ fun v2 M3 =>
     (if v2 = 0 then
      D 138 [.inr (.inr 1), .inl 0] M3 (rv_ fun M4 =>
       D 105 [.inr (.inr 1)] M4 (rv_ fun M5 =>
        Qr [] M5) Qt) Qt
     else
      D 138 [.inr (.inr 1), .inl 1] M3 (rv_ fun M6 =>
       D 105 [.inr (.inr 1)] M6 (rv_ fun M7 =>
        Qr [] M7) Qt) Qt)) Qt) Qt
  else
   D 138 [.inr (.inr 1), .inl 1] M1 (rv_ fun M8 =>
    D 103 [.inr (.inr 1), .inl 31] M8 (ri_ fun v3 M9 =>
     (if v3 = 0 then
      D 138 [.inr (.inr 1), .inl 0] M9 (rv_ fun M10 =>
       D 105 [.inr (.inr 1)] M10 (rv_ fun M11 =>
        Qr [] M11) Qt) Qt
     else
      D 138 [.inr (.inr 1), .inl 1] M9 (rv_ fun M12 =>
       D 105 [.inr (.inr 1)] M12 (rv_ fun M13 =>
        Qr [] M13) Qt) Qt)) Qt) Qt)) Qt) : V 40 [rr 1, ii x1, ii x2, none, none, none] [] M := bx_go hD (m := (g_164_20, m_164.2)) (Cl_sf z_164_20 hV) hW [(40, [3, 4, 5]), (107, [5])] 19 h
theorem z_164_56 : Sf_ k_164 g_164_56 := Sf_tr z_164_20 36 rfl
theorem b_164_107 {D : ca_} {V : vv_} {Qr : qr_} {Qt : qt_} (hD : Mo_ D) (hV : Cl_ wd0 D V Qr Qt m_164) (hW : Wk_ V) (x1 : Int) (x2 : Int) (x3 : Int) (x4 : Int) (M : mm_) (h :
 D 103 [.inr (.inr 1), .inl 115] M (ri_ fun v1 M1 =>
  (if v1 = 0 then
   D 138 [.inr (.inr 1), .inl x3] M1 (rv_ fun M2 =>
    D 138 [.inr (.inr 1), .inl x4] M2 (rv_ fun M3 =>
     Qr [] M3) Qt) Qt
  else
   D 105 [.inr (.inr 1)] M1 (rv_ fun M4 =>
    D 165 [.inr (.inr 1)] M4 (ri_ fun v2 M5 =>
     (bl_ (M5 1 8) → (if M5 1 8 = 0 then
      D 138 [.inr (.inr 1), .inl x3] M5 (rv_ fun M6 =>
       D 138 [.inr (.inr 1), .inl v2] M6 (rv_ fun M7 =>
        Qr [] M7) Qt) Qt
     else
      (if v2 < x3 then
       D 116 [.inr (.inr 1), .inl 6, .inl (M4 1 3)] M5 (rv_ fun M10 =>
        D 138 [.inr (.inr 1), .inl x3] M10 (rv_ fun M11 =>
         D 138 [.inr (.inr 1), .inl v2] M11 (rv_ fun M12 =>
          Qr [] M12) Qt) Qt) Qt
      else
       D 138 [.inr (.inr 1), .inl x3] M5 (rv_ fun M8 =>
        D 138 [.inr (.inr 1), .inl v2] M8 (rv_ fun M9 =>
         Qr [] M9) Qt) Qt)))) Qt) Qt)) Qt) : V 107 [rr 1, ii x1, ii x2, ii x3, ii x4, none] [] M := bx_go hD (m := (g_164_56, m_164.2)) (Cl_sf z_164_56 hV) hW [(40, [3, 4, 5]), (107, [5])] 29 h
/-- X1_bound()I -/
theorem b_165_0 {D : ca_} {V : vv_} {Qr : qr_} {Qt : qt_} (hD : Mo_ D) (hV : Cl_ wd0 D V Qr Qt m_165) (hW : Wk_ V)  (M : mm_) (h :
 D 117 [.inr (.inr 1), .inl 45] M (ri_ fun v1 M1 =>
  (if v1 = 0 then
   D 125 [.inr (.inr 1)] M1 (ri_ fun v2 M2 =>
    (if v1 = 0 then
     Qr [.inl v2] M2
    else
     Qr [.inl (w32 (-v2))] M2)) Qt
  else
   D 105 [.inr (.inr 1)] M1 (rv_ fun M3 =>
    D 125 [.inr (.inr 1)] M3 (ri_ fun v3 M4 =>
     (if v1 = 0 then
      Qr [.inl v3] M4
     else
      Qr [.inl (w32 (-v3))] M4)) Qt) Qt)) Qt) : V 0 [rr 1, none, none] [] M := bx_go hD hV hW [] 17 h
/-- X1_told(I)V -/
theorem b_166_0 {D : ca_} {V : vv_} {Qr : qr_} {Qt : qt_} (hD : Mo_ D) (hV : Cl_ wd0 D V Qr Qt m_166) (hW : Wk_ V) (x1 : Int) (M : mm_) (h :
 (bl_ (M 1 8) → (if M 1 8 = 0 then
  Qr [] M
 else
  M 1 2 = 5 ∧
   M 1 2 = 5 ∧
   (0 ≤ x1 ∧ x1 < 12000) ∧
   Qr [] (up_ M 142 x1 (M 5 3))))) : V 0 [rr 1, ii x1] [] M := bx_go hD hV hW [] 12 h
/-- X1_state()V -/
theorem b_167_0 {D : ca_} {V : vv_} {Qr : qr_} {Qt : qt_} (hD : Mo_ D) (hV : Cl_ wd0 D V Qr Qt m_167) (hW : Wk_ V)  (M : mm_) (h :
 D 105 [.inr (.inr 1)] M (rv_ fun M1 =>
  D 117 [.inr (.inr 1), .inl 42] (up_ M1 1 34 0) (ri_ fun v1 M2 =>
   (if v1 = 0 then
    V 47 [rr 1, ii 1, none, none] [] M2
   else
    D 105 [.inr (.inr 1)] M2 (rv_ fun M3 =>
     M3 1 2 = 5 ∧
      (0 ≤ M3 1 18 ∧ M3 1 18 < 6) ∧
      D 121 [.inr (.inr 1), .inl 59] (up_ M3 1 34 (w32 ((sl_ 1 (M3 123 (M3 1 18))) - 1))) (rv_ fun M4 =>
      V 172 [rr 1, ii 1, none, none] [] M4) Qt) Qt)) Qt) Qt) : V 0 [rr 1, none, none, none] [] M := bx_go hD hV hW [(47, [2, 3]), (103, []), (134, []), (172, [2, 3])] 30 h
theorem i_167 : inq_ 0 k_167 = true := by decide +kernel
theorem z_167_26 : Sf_ k_167 g_167_26 := Sf_of i_167 26 rfl
theorem b_167_47 {D : ca_} {V : vv_} {Qr : qr_} {Qt : qt_} (hD : Mo_ D) (hV : Cl_ wd0 D V Qr Qt m_167) (hW : Wk_ V) (x1 : Int) (M : mm_) (h :
 (if x1 = 0 then
  D 121 [.inr (.inr 1), .inl 59] M (rv_ fun M1 =>
   V 172 [rr 1, ii 1, none, none] [] M1) Qt
 else
  D 107 [.inr (.inr 1)] M (ri_ fun v1 M2 =>
   D 142 [.inr (.inr 1), .inl v1] M2 (ri_ fun v2 M3 =>
    (bl_ (M3 1 8) → (if M3 1 8 = 0 then
     (if v2 = (-1) then
      M3 1 2 = 5 ∧
       (0 ≤ M3 1 18 ∧ M3 1 18 < 6) ∧
       (if M3 123 (M3 1 18) = 12 then
       D 110 [.inr (.inr 1), .inl 1, .inl v1] M3 (rv_ fun M5 =>
        V 103 [rr 1, ii x1, ii v1, ii (M3 123 (M3 1 18))] [] M5) Qt
      else
       D 110 [.inr (.inr 1), .inl 0, .inl v1] M3 (rv_ fun M4 =>
        V 103 [rr 1, ii x1, ii v1, ii (M3 123 (M3 1 18))] [] M4) Qt)
     else
      V 134 [rr 1, ii x1, ii v1, ii v2] [] M3)
    else
     V 134 [rr 1, ii x1, ii v1, ii v2] [] M3))) Qt) Qt)) : V 47 [rr 1, ii x1, none, none] [] M := bx_go hD (m := (g_167_26, m_167.2)) (Cl_sf z_167_26 hV) hW [(47, [2, 3]), (103, []), (134, []), (172, [2, 3])] 31 h
theorem z_167_57 : Sf_ k_167 g_167_57 := Sf_tr z_167_26 31 rfl
theorem b_167_103 {D : ca_} {V : vv_} {Qr : qr_} {Qt : qt_} (hD : Mo_ D) (hV : Cl_ wd0 D V Qr Qt m_167) (hW : Wk_ V) (x1 : Int) (x2 : Int) (x3 : Int) (M : mm_) (h :
 (0 ≤ w32 ((w32 (12 * (M 1 18))) + x3) ∧ w32 ((w32 (12 * (M 1 18))) + x3) < 72) ∧
  M 1 2 = 5 ∧
  (0 ≤ M 1 18 ∧ M 1 18 < 6) ∧
  (0 ≤ M 1 18 ∧ M 1 18 < 6) ∧
  V 134 [rr 1, ii x1, ii x2, ii x3] [] (up_ (up_ M 59 (w32 ((w32 (12 * (M 1 18))) + x3)) x2) 123 (M 1 18) (w32 ((M 123 (M 1 18)) + 1)))) : V 103 [rr 1, ii x1, ii x2, ii x3] [] M := bx_go hD (m := (g_167_57, m_167.2)) (Cl_sf z_167_57 hV) hW [(47, [2, 3]), (103, []), (134, []), (172, [2, 3])] 21 h
theorem z_167_77 : Sf_ k_167 g_167_77 := Sf_tr z_167_57 20 rfl
theorem b_167_134 {D : ca_} {V : vv_} {Qr : qr_} {Qt : qt_} (hD : Mo_ D) (hV : Cl_ wd0 D V Qr Qt m_167) (hW : Wk_ V) (x1 : Int) (x2 : Int) (x3 : Int) (M : mm_) (h :
 D 117 [.inr (.inr 1), .inl 44] (up_ M 1 34 (or_ (M 1 34) (sl_ 1 x3))) (ri_ fun v1 M1 =>
  (if v1 = 0 then
   V 47 [rr 1, ii v1, none, none] [] M1
  else
   D 105 [.inr (.inr 1)] M1 (rv_ fun M2 =>
    V 47 [rr 1, ii v1, none, none] [] M2) Qt)) Qt) : V 134 [rr 1, ii x1, ii x2, ii x3] [] M := bx_go hD (m := (g_167_77, m_167.2)) (Cl_sf z_167_77 hV) hW [(47, [2, 3]), (103, []), (134, []), (172, [2, 3])] 18 h
theorem z_167_99 : Sf_ k_167 g_167_99 := Sf_tr z_167_77 22 rfl
theorem b_167_172 {D : ca_} {V : vv_} {Qr : qr_} {Qt : qt_} (hD : Mo_ D) (hV : Cl_ wd0 D V Qr Qt m_167) (hW : Wk_ V) (x1 : Int) (M : mm_) (h :
 (if x1 = 0 then
  Qr [] M
 else
  D 103 [.inr (.inr 1), .inl 7] M (ri_ fun v1 M1 =>
   (if v1 = 0 then
    D 103 [.inr (.inr 1), .inl 8] M1 (ri_ fun v2 M2 =>
     (if v2 = 0 then
      D 103 [.inr (.inr 1), .inl 9] M2 (ri_ fun v3 M3 =>
       (if v3 = 0 then
        D 103 [.inr (.inr 1), .inl 10] M3 (ri_ fun v4 M4 =>
         (if v4 = 0 then
          V 172 [rr 1, ii 0, none, none] [] M4
         else
          D 177 [.inr (.inr 1)] M4 (rv_ fun M5 =>
           V 172 [rr 1, ii x1, none, none] [] M5) Qt)) Qt
       else
        D 176 [.inr (.inr 1)] M3 (rv_ fun M6 =>
         V 172 [rr 1, ii x1, none, none] [] M6) Qt)) Qt
     else
      D 175 [.inr (.inr 1)] M2 (rv_ fun M7 =>
       V 172 [rr 1, ii x1, none, none] [] M7) Qt)) Qt
   else
    D 168 [.inr (.inr 1)] M1 (rv_ fun M8 =>
     V 172 [rr 1, ii x1, none, none] [] M8) Qt)) Qt)) : V 172 [rr 1, ii x1, none, none] [] M := bx_go hD (m := (g_167_99, m_167.2)) (Cl_sf z_167_99 hV) hW [(47, [2, 3]), (103, []), (134, []), (172, [2, 3])] 22 h
/-- X1_input()V -/
theorem b_168_0 {D : ca_} {V : vv_} {Qr : qr_} {Qt : qt_} (hD : Mo_ D) (hV : Cl_ wd0 D V Qr Qt m_168) (hW : Wk_ V)  (M : mm_) (h :
 M 1 2 = 5 ∧
  V 8 [rr 1, ii (M 5 4), none, none, none] [] M) : V 0 [rr 1, none, none, none, none] [] M := bx_go hD hV hW [(8, [2, 3, 4]), (52, [3, 4]), (81, [])] 5 h
theorem b_168_8 {D : ca_} {V : vv_} {Qr : qr_} {Qt : qt_} (hD : Mo_ D) (hV : Cl_ wd0 D V Qr Qt m_168) (hW : Wk_ V) (x1 : Int) (M : mm_) (h :
 D 105 [.inr (.inr 1)] M (rv_ fun M1 =>
  D 169 [.inr (.inr 1)] M1 (rv_ fun M2 =>
   D 117 [.inr (.inr 1), .inl 44] M2 (ri_ fun v1 M3 =>
    (if v1 = 0 then
     D 103 [.inr (.inr 1), .inl 26] M3 (ri_ fun v2 M4 =>
      (if v2 = 0 then
       V 52 [rr 1, ii x1, ii ((-1)), none, none] [] M4
      else
       D 105 [.inr (.inr 1)] M4 (rv_ fun M5 =>
        M5 1 2 = 5 ∧
         D 174 [.inr (.inr 1)] M5 (rv_ fun M6 =>
         V 52 [rr 1, ii x1, ii (M5 5 3), none, none] [] M6) Qt) Qt)) Qt
    else
     V 8 [rr 1, ii x1, none, none, none] [] M3)) Qt) Qt) Qt) : V 8 [rr 1, ii x1, none, none, none] [] M := bx_go hD hV hW [(8, [2, 3, 4]), (52, [3, 4]), (81, [])] 23 h
theorem i_168 : inq_ 0 k_168 = true := by decide +kernel
theorem z_168_26 : Sf_ k_168 g_168_26 := Sf_of i_168 26 rfl
theorem b_168_52 {D : ca_} {V : vv_} {Qr : qr_} {Qt : qt_} (hD : Mo_ D) (hV : Cl_ wd0 D V Qr Qt m_168) (hW : Wk_ V) (x1 : Int) (x2 : Int) (M : mm_) (h :
 D 121 [.inr (.inr 1), .inl 59] M (rv_ fun M1 =>
  M1 1 2 = 5 ∧
   D 131 [.inr (.inr 1), .inl (M1 1 34)] M1 (rv_ fun M2 =>
   D 132 [.inr (.inr 1)] M2 (rv_ fun M3 =>
    V 81 [rr 1, ii x1, ii x2, ii (M1 5 3), ii x1] [] M3) Qt) Qt) Qt) : V 52 [rr 1, ii x1, ii x2, none, none] [] M := bx_go hD (m := (g_168_26, m_168.2)) (Cl_sf z_168_26 hV) hW [(8, [2, 3, 4]), (52, [3, 4]), (81, [])] 16 h
theorem z_168_41 : Sf_ k_168 g_168_41 := Sf_tr z_168_26 15 rfl
theorem b_168_81 {D : ca_} {V : vv_} {Qr : qr_} {Qt : qt_} (hD : Mo_ D) (hV : Cl_ wd0 D V Qr Qt m_168) (hW : Wk_ V) (x1 : Int) (x2 : Int) (x3 : Int) (x4 : Int) (M : mm_) (h :
 M 1 2 = 5 ∧
  (if x4 < M 5 4 then
  M 1 2 = 5 ∧
   (0 ≤ x4 ∧ x4 < 600) ∧
   M 1 2 = 5 ∧
   (0 ≤ x4 ∧ x4 < 600) ∧
   V 81 [rr 1, ii x1, ii x2, ii x3, ii (w32 (x4 + 1))] [] (up_ (up_ M 139 x4 x2) 141 x4 x3)
 else
  Qr [] M)) : V 81 [rr 1, ii x1, ii x2, ii x3, ii x4] [] M := bx_go hD (m := (g_168_41, m_168.2)) (Cl_sf z_168_41 hV) hW [(8, [2, 3, 4]), (52, [3, 4]), (81, [])] 20 h
/-- X1_in()V -/
theorem b_169_0 {D : ca_} {V : vv_} {Qr : qr_} {Qt : qt_} (hD : Mo_ D) (hV : Cl_ wd0 D V Qr Qt m_169) (hW : Wk_ V)  (M : mm_) (h :
 D 117 [.inr (.inr 1), .inl 42] M (ri_ fun v1 M1 =>
  (if v1 = 0 then
   D 107 [.inr (.inr 1)] M1 (ri_ fun v2 M2 =>
    (bl_ (M2 1 8) → (if M2 1 8 = 0 then
     D 117 [.inr (.inr 1), .inl 40] M2 (ri_ fun v3 M3 =>
      (if v3 = 0 then
       Qr [] M3
      else
       D 118 [.inr (.inr 1)] M3 (rv_ fun M4 =>
        V 135 [rr 1, ii v2, ii ((-1)), ii ((-1)), ii 0, ii (M4 1 3), none] [] M4) Qt)) Qt
    else
     D 172 [.inr (.inr 1), .inl v2] M2 (ri_ fun v4 M5 =>
      (if v4 = (-1) then
       D 116 [.inr (.inr 1), .inl 4, .inl v2] M5 (rv_ fun M7 =>
        V 83 [rr 1, ii v2, ii v4, ii ((-1)), none, none, none] [] M7) Qt
      else
       D 170 [.inr (.inr 1), .inl v4, .inl v2] M5 (rv_ fun M6 =>
        V 83 [rr 1, ii v2, ii v4, ii ((-1)), none, none, none] [] M6) Qt)) Qt))) Qt
  else
   (bl_ (M1 1 8) → (if M1 1 8 = 0 then
    D 105 [.inr (.inr 1)] M1 (rv_ fun M8 =>
     Qr [] M8) Qt
   else
    D 170 [.inr (.inr 1), .inl 200, .inl (M1 1 3)] M1 (rv_ fun M9 =>
     D 171 [.inr (.inr 1), .inl 0, .inl 200] M9 (ri_ fun v5 M10 =>
      D 105 [.inr (.inr 1)] M10 (rv_ fun M11 =>
       Qr [] M11) Qt) Qt) Qt)))) Qt) : V 0 [rr 1, none, none, none, none, none, none] [] M := bx_go hD hV hW [(83, [4, 5, 6]), (135, [6]), (201, [])] 27 h
theorem i_169 : inq_ 0 k_169 = true := by decide +kernel
theorem z_169_46 : Sf_ k_169 g_169_46 := Sf_of i_169 46 rfl
theorem b_169_83 {D : ca_} {V : vv_} {Qr : qr_} {Qt : qt_} (hD : Mo_ D) (hV : Cl_ wd0 D V Qr Qt m_169) (hW : Wk_ V) (x1 : Int) (x2 : Int) (x3 : Int) (M : mm_) (h :
 D 171 [.inr (.inr 1), .inl 0, .inl x2] M (ri_ fun v1 M1 =>
  (if x2 < 0 then
   D 117 [.inr (.inr 1), .inl 40] M1 (ri_ fun v2 M2 =>
    (if v2 = 0 then
     Qr [] M2
    else
     D 118 [.inr (.inr 1)] M2 (rv_ fun M3 =>
      V 135 [rr 1, ii x1, ii x2, ii v1, ii 0, ii (M3 1 3), none] [] M3) Qt)) Qt
  else
   (if x2 < 100 then
    D 117 [.inr (.inr 1), .inl 40] (up_ M1 1 22 (or_ (M1 1 22) (sl_ 1 x2))) (ri_ fun v4 M6 =>
     (if v4 = 0 then
      Qr [] M6
     else
      D 118 [.inr (.inr 1)] M6 (rv_ fun M7 =>
       V 135 [rr 1, ii x1, ii x2, ii v1, ii 0, ii (M7 1 3), none] [] M7) Qt)) Qt
   else
    D 117 [.inr (.inr 1), .inl 40] M1 (ri_ fun v3 M4 =>
     (if v3 = 0 then
      Qr [] M4
     else
      D 118 [.inr (.inr 1)] M4 (rv_ fun M5 =>
       V 135 [rr 1, ii x1, ii x2, ii v1, ii 0, ii (M5 1 3), none] [] M5) Qt)) Qt))) Qt) : V 83 [rr 1, ii x1, ii x2, ii x3, none, none, none] [] M := bx_go hD (m := (g_169_46, m_169.2)) (Cl_sf z_169_46 hV) hW [(83, [4, 5, 6]), (135, [6]), (201, [])] 30 h
theorem z_169_76 : Sf_ k_169 g_169_76 := Sf_tr z_169_46 30 rfl
theorem b_169_135 {D : ca_} {V : vv_} {Qr : qr_} {Qt : qt_} (hD : Mo_ D) (hV : Cl_ wd0 D V Qr Qt m_169) (hW : Wk_ V) (x1 : Int) (x2 : Int) (x3 : Int) (x4 : Int) (x5 : Int) (M : mm_) (h :
 D 105 [.inr (.inr 1)] M (rv_ fun M1 =>
  D 103 [.inr (.inr 1), .inl 100] M1 (ri_ fun v1 M2 =>
   (if v1 = 0 then
    D 109 [.inr (.inr 1)] M2 (rf_r fun v2 M9 =>
     (if v2 = 1999 then False else Qt v2 M9)) Qt
   else
    (if x4 = 3 then
     D 110 [.inr (.inr 1), .inl 1, .inl (M2 1 3)] M2 (rv_ fun M6 =>
      D 105 [.inr (.inr 1)] M6 (rv_ fun M7 =>
       (bl_ (M7 1 8) → (if M7 1 8 = 0 then
        V 201 [rr 1, ii x1, ii x2, ii x3, ii x4, ii x5, ii (M1 1 3)] [] M7
       else
        D 173 [.inr (.inr 1), .inl x3, .inl x2, .inl (M1 1 3), .inl x4, .inl x5] M7 (rv_ fun M8 =>
         V 201 [rr 1, ii x1, ii x2, ii x3, ii x4, ii x5, ii (M1 1 3)] [] M8) Qt))) Qt) Qt
    else
     D 110 [.inr (.inr 1), .inl 0, .inl (M2 1 3)] M2 (rv_ fun M3 =>
      D 105 [.inr (.inr 1)] M3 (rv_ fun M4 =>
       (bl_ (M4 1 8) → (if M4 1 8 = 0 then
        V 201 [rr 1, ii x1, ii x2, ii x3, ii x4, ii x5, ii (M1 1 3)] [] M4
       else
        D 173 [.inr (.inr 1), .inl x3, .inl x2, .inl (M1 1 3), .inl x4, .inl x5] M4 (rv_ fun M5 =>
         V 201 [rr 1, ii x1, ii x2, ii x3, ii x4, ii x5, ii (M1 1 3)] [] M5) Qt))) Qt) Qt))) Qt) Qt) : V 135 [rr 1, ii x1, ii x2, ii x3, ii x4, ii x5, none] [] M := bx_go hD (m := (g_169_76, m_169.2)) (Cl_sf z_169_76 hV) hW [(83, [4, 5, 6]), (135, [6]), (201, [])] 31 h
theorem z_169_110 : Sf_ k_169 g_169_110 := Sf_tr z_169_76 34 rfl
theorem b_169_201 {D : ca_} {V : vv_} {Qr : qr_} {Qt : qt_} (hD : Mo_ D) (hV : Cl_ wd0 D V Qr Qt m_169) (hW : Wk_ V) (x1 : Int) (x2 : Int) (x3 : Int) (x4 : Int) (x5 : Int) (x6 : Int) (M : mm_) (h :
 D 117 [.inr (.inr 1), .inl 44] M (ri_ fun v1 M1 =>
  (if v1 = 0 then
   D 121 [.inr (.inr 1), .inl 41] M1 (rv_ fun M2 =>
    (bl_ (M2 1 8) → (if M2 1 8 = 0 then
     Qr [] (up_ M2 1 6 (w32 ((M2 1 6) - 1)))
    else
     (if x2 = (-1) then
      Qr [] (up_ M2 1 6 (w32 ((M2 1 6) - 1)))
     else
      M2 1 2 = 5 ∧
       (0 ≤ x3 ∧ x3 < 600) ∧
       (if x2 < 100 then
       M2 1 2 = 5 ∧
        (0 ≤ x2 ∧ x2 < 20) ∧
        (if w32 (x4 + 1) = M2 112 x2 then
        Qr [] (up_ (up_ M2 1 6 (w32 ((M2 1 6) - 1))) 138 x3 (w32 (x4 + 1)))
       else
        D 116 [.inr (.inr 1), .inl 5, .inl x1] (up_ (up_ M2 1 6 (w32 ((M2 1 6) - 1))) 138 x3 (w32 (x4 + 1))) (rv_ fun M4 =>
         Qr [] M4) Qt)
      else
       (if w32 (x4 + 1) = 0 then
        Qr [] (up_ (up_ M2 1 6 (w32 ((M2 1 6) - 1))) 138 x3 (w32 (x4 + 1)))
       else
        D 116 [.inr (.inr 1), .inl 5, .inl x1] (up_ (up_ M2 1 6 (w32 ((M2 1 6) - 1))) 138 x3 (w32 (x4 + 1))) (rv_ fun M3 =>
         Qr [] M3) Qt)))))) Qt
  else
   V 135 [rr 1, ii x1, ii x2, ii x3, ii (w32 (x4 + 1)), ii x5, none] [] M1)) Qt) : V 201 [rr 1, ii x1, ii x2, ii x3, ii x4, ii x5, ii x6] [] M := bx_go hD (m := (g_169_110, m_169.2)) (Cl_sf z_169_110 hV) hW [(83, [4, 5, 6]), (135, [6]), (201, [])] 44 h
/-- X1_unlikeOthers(II)V -/
theorem b_170_0 {D : ca_} {V : vv_} {Qr : qr_} {Qt : qt_} (hD : Mo_ D) (hV : Cl_ wd0 D V Qr Qt m_170) (hW : Wk_ V) (x1 : Int) (x2 : Int) (M : mm_) (h :
 V 5 [rr 1, ii x1, ii x2, ii 0, ii 0] [] M) : V 0 [rr 1, ii x1, ii x2, none, none] [] M := bx_go hD hV hW [(5, [])] 5 h
theorem b_170_5 {D : ca_} {V : vv_} {Qr : qr_} {Qt : qt_} (hD : Mo_ D) (hV : Cl_ wd0 D V Qr Qt m_170) (hW : Wk_ V) (x1 : Int) (x2 : Int) (x3 : Int) (x4 : Int) (M : mm_) (h :
 M 1 2 = 5 ∧
  (if x4 < M 5 4 then
  (if x3 = 0 then
   M 1 2 = 5 ∧
    (0 ≤ x4 ∧ x4 < 600) ∧
    (if M 134 x4 = M 1 18 then
    M 1 2 = 5 ∧
     (0 ≤ x4 ∧ x4 < 600) ∧
     (if M 133 x4 < 2 then
     M 1 2 = 5 ∧
      (0 ≤ x4 ∧ x4 < 600) ∧
      (if M 136 x4 = x1 then
      M 1 2 = 5 ∧
       (0 ≤ x4 ∧ x4 < 600) ∧
       (if an_ (M 135 x4) (M 1 34) = 0 then
       V 5 [rr 1, ii x1, ii x2, ii 0, ii (w32 (x4 + 1))] [] M
      else
       V 5 [rr 1, ii x1, ii x2, ii 1, ii (w32 (x4 + 1))] [] M)
     else
      V 5 [rr 1, ii x1, ii x2, ii 0, ii (w32 (x4 + 1))] [] M)
    else
     V 5 [rr 1, ii x1, ii x2, ii 0, ii (w32 (x4 + 1))] [] M)
   else
    V 5 [rr 1, ii x1, ii x2, ii 0, ii (w32 (x4 + 1))] [] M)
  else
   (if x3 = 0 then
    Qr [] M
   else
    D 116 [.inr (.inr 1), .inl 6, .inl x2] M (rv_ fun M2 =>
     Qr [] M2) Qt))
 else
  (if x3 = 0 then
   Qr [] M
  else
   D 116 [.inr (.inr 1), .inl 6, .inl x2] M (rv_ fun M1 =>
    Qr [] M1) Qt))) : V 5 [rr 1, ii x1, ii x2, ii x3, ii x4] [] M := bx_go hD hV hW [(5, [])] 44 h
/-- X1_stim(II)I -/
theorem b_171_0 {D : ca_} {V : vv_} {Qr : qr_} {Qt : qt_} (hD : Mo_ D) (hV : Cl_ wd0 D V Qr Qt m_171) (hW : Wk_ V) (x1 : Int) (x2 : Int) (M : mm_) (h :
 M 1 2 = 5 ∧
  M 1 2 = 5 ∧
  M 1 2 = 5 ∧
  (0 ≤ M 5 4 ∧ M 5 4 < 600) ∧
  M 1 2 = 5 ∧
  (0 ≤ M 5 4 ∧ M 5 4 < 600) ∧
  M 1 2 = 5 ∧
  (0 ≤ M 5 4 ∧ M 5 4 < 600) ∧
  M 1 2 = 5 ∧
  (0 ≤ M 5 4 ∧ M 5 4 < 600) ∧
  M 1 2 = 5 ∧
  (0 ≤ M 5 4 ∧ M 5 4 < 600) ∧
  M 1 2 = 5 ∧
  (0 ≤ M 5 4 ∧ M 5 4 < 600) ∧
  M 1 2 = 5 ∧
  (0 ≤ M 5 4 ∧ M 5 4 < 600) ∧
  Qr [.inl (M 5 4)] (up_ (up_ (up_ (up_ (up_ (up_ (up_ (up_ M 5 4 (w32 ((M 5 4) + 1))) 133 (M 5 4) x1) 134 (M 5 4) (M 1 18)) 135 (M 5 4) (M 1 34)) 136 (M 5 4) x2) 138 (M 5 4) 0) 139 (M 5 4) ((-1))) 140 (M 5 4) 0)) : V 0 [rr 1, ii x1, ii x2, none] [] M := bx_go hD hV hW [] 57 h
/-- X1_signalOrTimer(I)I -/
theorem b_172_0 {D : ca_} {V : vv_} {Qr : qr_} {Qt : qt_} (hD : Mo_ D) (hV : Cl_ wd0 D V Qr Qt m_172) (hW : Wk_ V) (x1 : Int) (M : mm_) (h :
 D 129 [.inr (.inr 1), .inl x1] M (ri_ fun v1 M1 =>
  (if v1 = (-1) then
   D 112 [.inr (.inr 1), .inl x1] M1 (ri_ fun v2 M2 =>
    Qr [.inl v2] M2) Qt
  else
   Qr [.inl (w32 (100 + v1))] M1)) Qt) : V 0 [rr 1, ii x1, none] [] M := bx_go hD hV hW [] 12 h
/-- X1_takes(IIIII)V -/
theorem b_173_0 {D : ca_} {V : vv_} {Qr : qr_} {Qt : qt_} (hD : Mo_ D) (hV : Cl_ wd0 D V Qr Qt m_173) (hW : Wk_ V) (x1 : Int) (x2 : Int) (x3 : Int) (x4 : Int) (x5 : Int) (M : mm_) (h :
 V 6 [rr 1, ii x1, ii x2, ii x3, ii x4, ii x5, ii (w32 (x5 + 1)), none, none] [] M) : V 0 [rr 1, ii x1, ii x2, ii x3, ii x4, ii x5, none, none, none] [] M := bx_go hD hV hW [(6, [7, 8]), (151, [])] 5 h
theorem b_173_6 {D : ca_} {V : vv_} {Qr : qr_} {Qt : qt_} (hD : Mo_ D) (hV : Cl_ wd0 D V Qr Qt m_173) (hW : Wk_ V) (x1 : Int) (x2 : Int) (x3 : Int) (x4 : Int) (x5 : Int) (x6 : Int) (M : mm_) (h :
 (if x6 < x3 then
  D 199 [.inr (.inr 2), .inl x6, .inl x3] M (ri_ fun v2 M9 =>
   (if v2 = 0 then
    V 6 [rr 1, ii x1, ii x2, ii x3, ii x4, ii x5, ii (w32 (x6 + 2)), none, none] [] M9
   else
    D 116 [.inr (.inr 1), .inl 3, .inl x3] M9 (rv_ fun M10 =>
     V 6 [rr 1, ii x1, ii x2, ii x3, ii x4, ii x5, ii (w32 (x6 + 2)), none, none] [] M10) Qt)) Qt
 else
  D 128 [.inr (.inr 1), .inl x3] M (ri_ fun v1 M1 =>
   (if v1 = (-1) then
    D 116 [.inr (.inr 1), .inl 4, .inl x3] M1 (rv_ fun M8 =>
     Qr [] M8) Qt
   else
    M1 1 2 = 5 ∧
     (0 ≤ w32 ((w32 (8 * (M1 1 18))) + v1) ∧ w32 ((w32 (8 * (M1 1 18))) + v1) < 48) ∧
     (if M1 131 (w32 ((w32 (8 * (M1 1 18))) + v1)) ≤ 0 then
     (if x2 < 0 then
      (if (0 : Int) = 0 then
       V 151 [rr 1, ii x1, ii x2, ii x3, ii x4, ii x5, ii v1, ii (w32 ((w32 (8 * (M1 1 18))) + v1)), ii 0] [] M1
      else
       D 116 [.inr (.inr 1), .inl 5, .inl x3] M1 (rv_ fun M3 =>
        V 151 [rr 1, ii x1, ii x2, ii x3, ii x4, ii x5, ii v1, ii (w32 ((w32 (8 * (M1 1 18))) + v1)), ii 0] [] M3) Qt)
     else
      (if x2 < 100 then
       M1 1 2 = 5 ∧
        (0 ≤ x2 ∧ x2 < 20) ∧
        (if x4 < M1 112 x2 then
        M1 1 2 = 5 ∧
         (0 ≤ w32 ((w32 (3 * x2)) + x4) ∧ w32 ((w32 (3 * x2)) + x4) < 60) ∧
         M1 1 2 = 5 ∧
         (0 ≤ w32 ((w32 (8 * (M1 1 18))) + v1) ∧ w32 ((w32 (8 * (M1 1 18))) + v1) < 48) ∧
         (if M1 113 (w32 ((w32 (3 * x2)) + x4)) = M1 130 (w32 ((w32 (8 * (M1 1 18))) + v1)) then
         (if (0 : Int) = 0 then
          V 151 [rr 1, ii x1, ii x2, ii x3, ii x4, ii x5, ii v1, ii (w32 ((w32 (8 * (M1 1 18))) + v1)), ii 0] [] M1
         else
          D 116 [.inr (.inr 1), .inl 5, .inl x3] M1 (rv_ fun M6 =>
           V 151 [rr 1, ii x1, ii x2, ii x3, ii x4, ii x5, ii v1, ii (w32 ((w32 (8 * (M1 1 18))) + v1)), ii 0] [] M6) Qt)
        else
         (if (1 : Int) = 0 then
          V 151 [rr 1, ii x1, ii x2, ii x3, ii x4, ii x5, ii v1, ii (w32 ((w32 (8 * (M1 1 18))) + v1)), ii 1] [] M1
         else
          D 116 [.inr (.inr 1), .inl 5, .inl x3] M1 (rv_ fun M7 =>
           V 151 [rr 1, ii x1, ii x2, ii x3, ii x4, ii x5, ii v1, ii (w32 ((w32 (8 * (M1 1 18))) + v1)), ii 1] [] M7) Qt))
       else
        (if (0 : Int) = 0 then
         V 151 [rr 1, ii x1, ii x2, ii x3, ii x4, ii x5, ii v1, ii (w32 ((w32 (8 * (M1 1 18))) + v1)), ii 0] [] M1
        else
         D 116 [.inr (.inr 1), .inl 5, .inl x3] M1 (rv_ fun M5 =>
          V 151 [rr 1, ii x1, ii x2, ii x3, ii x4, ii x5, ii v1, ii (w32 ((w32 (8 * (M1 1 18))) + v1)), ii 0] [] M5) Qt))
      else
       (if (0 : Int) = 0 then
        V 151 [rr 1, ii x1, ii x2, ii x3, ii x4, ii x5, ii v1, ii (w32 ((w32 (8 * (M1 1 18))) + v1)), ii 0] [] M1
       else
        D 116 [.inr (.inr 1), .inl 5, .inl x3] M1 (rv_ fun M4 =>
         V 151 [rr 1, ii x1, ii x2, ii x3, ii x4, ii x5, ii v1, ii (w32 ((w32 (8 * (M1 1 18))) + v1)), ii 0] [] M4) Qt)))
    else
     (if (1 : Int) = 0 then
      V 151 [rr 1, ii x1, ii x2, ii x3, ii x4, ii x5, ii v1, ii (w32 ((w32 (8 * (M1 1 18))) + v1)), ii 1] [] M1
     else
      D 116 [.inr (.inr 1), .inl 5, .inl x3] M1 (rv_ fun M2 =>
       V 151 [rr 1, ii x1, ii x2, ii x3, ii x4, ii x5, ii v1, ii (w32 ((w32 (8 * (M1 1 18))) + v1)), ii 1] [] M2) Qt)))) Qt)) : V 6 [rr 1, ii x1, ii x2, ii x3, ii x4, ii x5, ii x6, none, none] [] M := bx_go hD hV hW [(6, [7, 8]), (151, [])] 60 h
theorem i_173 : inq_ 0 k_173 = true := by decide +kernel
theorem z_173_81 : Sf_ k_173 g_173_81 := Sf_of i_173 81 rfl
theorem b_173_151 {D : ca_} {V : vv_} {Qr : qr_} {Qt : qt_} (hD : Mo_ D) (hV : Cl_ wd0 D V Qr Qt m_173) (hW : Wk_ V) (x1 : Int) (x2 : Int) (x3 : Int) (x4 : Int) (x5 : Int) (x6 : Int) (x7 : Int) (x8 : Int) (M : mm_) (h :
 M 1 2 = 5 ∧
  M 1 2 = 5 ∧
  (0 ≤ x7 ∧ x7 < 48) ∧
  (0 ≤ w32 ((w32 (3 * x1)) + x4) ∧ w32 ((w32 (3 * x1)) + x4) < 1800) ∧
  Qr [] (up_ M 137 (w32 ((w32 (3 * x1)) + x4)) (M 132 x7))) : V 151 [rr 1, ii x1, ii x2, ii x3, ii x4, ii x5, ii x6, ii x7, ii x8] [] M := bx_go hD (m := (g_173_81, m_173.2)) (Cl_sf z_173_81 hV) hW [(6, [7, 8]), (151, [])] 15 h
/-- X1_asked()V -/
theorem b_174_0 {D : ca_} {V : vv_} {Qr : qr_} {Qt : qt_} (hD : Mo_ D) (hV : Cl_ wd0 D V Qr Qt m_174) (hW : Wk_ V)  (M : mm_) (h :
 D 145 [.inr (.inr 1), .inl 1] M (rv_ fun M1 =>
  D 138 [.inr (.inr 1), .inl 25] M1 (rv_ fun M2 =>
   Qr [] M2) Qt) Qt) : V 0 [rr 1] [] M := bx_go hD hV hW [] 7 h
/-- X1_save()V -/
theorem b_175_0 {D : ca_} {V : vv_} {Qr : qr_} {Qt : qt_} (hD : Mo_ D) (hV : Cl_ wd0 D V Qr Qt m_175) (hW : Wk_ V)  (M : mm_) (h :
 D 105 [.inr (.inr 1)] M (rv_ fun M1 =>
  D 117 [.inr (.inr 1), .inl 42] M1 (ri_ fun v1 M2 =>
   (if v1 = 0 then
    V 49 [rr 1, ii 1, none, none, none] [] M2
   else
    (bl_ (M2 1 8) → (if M2 1 8 = 0 then
     D 105 [.inr (.inr 1)] M2 (rv_ fun M3 =>
      D 121 [.inr (.inr 1), .inl 59] M3 (rv_ fun M4 =>
       Qr [] M4) Qt) Qt
    else
     D 170 [.inr (.inr 1), .inl 200, .inl (M2 1 3)] M2 (rv_ fun M5 =>
      D 171 [.inr (.inr 1), .inl 1, .inl 200] M5 (ri_ fun v2 M6 =>
       D 105 [.inr (.inr 1)] M6 (rv_ fun M7 =>
        D 121 [.inr (.inr 1), .inl 59] M7 (rv_ fun M8 =>
         Qr [] M8) Qt) Qt) Qt) Qt)))) Qt) Qt) : V 0 [rr 1, none, none, none, none] [] M := bx_go hD hV hW [(49, [2, 3, 4])] 26 h
theorem i_175 : inq_ 0 k_175 = true := by decide +kernel
theorem z_175_24 : Sf_ k_175 g_175_24 := Sf_of i_175 24 rfl
theorem b_175_49 {D : ca_} {V : vv_} {Qr : qr_} {Qt : qt_} (hD : Mo_ D) (hV : Cl_ wd0 D V Qr Qt m_175) (hW : Wk_ V) (x1 : Int) (M : mm_) (h :
 (if x1 = 0 then
  D 121 [.inr (.inr 1), .inl 59] M (rv_ fun M1 =>
   Qr [] M1) Qt
 else
  D 107 [.inr (.inr 1)] M (ri_ fun v1 M2 =>
   (bl_ (M2 1 8) → (if M2 1 8 = 0 then
    D 117 [.inr (.inr 1), .inl 44] M2 (ri_ fun v2 M3 =>
     (if v2 = 0 then
      V 49 [rr 1, ii v2, none, none, none] [] M3
     else
      D 105 [.inr (.inr 1)] M3 (rv_ fun M4 =>
       V 49 [rr 1, ii v2, none, none, none] [] M4) Qt)) Qt
   else
    D 172 [.inr (.inr 1), .inl v1] M2 (ri_ fun v3 M5 =>
     (if v3 = (-1) then
      D 116 [.inr (.inr 1), .inl 4, .inl v1] M5 (rv_ fun M10 =>
       D 171 [.inr (.inr 1), .inl 1, .inl v3] M10 (ri_ fun v6 M11 =>
        D 117 [.inr (.inr 1), .inl 44] M11 (ri_ fun v7 M12 =>
         (if v7 = 0 then
          V 49 [rr 1, ii v7, none, none, none] [] M12
         else
          D 105 [.inr (.inr 1)] M12 (rv_ fun M13 =>
           V 49 [rr 1, ii v7, none, none, none] [] M13) Qt)) Qt) Qt) Qt
     else
      D 170 [.inr (.inr 1), .inl v3, .inl v1] M5 (rv_ fun M6 =>
       D 171 [.inr (.inr 1), .inl 1, .inl v3] M6 (ri_ fun v4 M7 =>
        D 117 [.inr (.inr 1), .inl 44] M7 (ri_ fun v5 M8 =>
         (if v5 = 0 then
          V 49 [rr 1, ii v5, none, none, none] [] M8
         else
          D 105 [.inr (.inr 1)] M8 (rv_ fun M9 =>
           V 49 [rr 1, ii v5, none, none, none] [] M9) Qt)) Qt) Qt) Qt)) Qt))) Qt)) : V 49 [rr 1, ii x1, none, none, none] [] M := bx_go hD (m := (g_175_24, m_175.2)) (Cl_sf z_175_24 hV) hW [(49, [2, 3, 4])] 35 h
/-- X1_when()V -/
theorem b_176_0 {D : ca_} {V : vv_} {Qr : qr_} {Qt : qt_} (hD : Mo_ D) (hV : Cl_ wd0 D V Qr Qt m_176) (hW : Wk_ V)  (M : mm_) (h :
 D 105 [.inr (.inr 1)] M (rv_ fun M1 =>
  (bl_ (M1 1 8) → (if M1 1 8 = 0 then
   V 22 [rr 1, ii ((-1)), none, none, none] [] M1
  else
   D 171 [.inr (.inr 1), .inl 2, .inl ((-1))] M1 (ri_ fun v1 M2 =>
    V 22 [rr 1, ii v1, none, none, none] [] M2) Qt))) Qt) : V 0 [rr 1, none, none, none, none] [] M := bx_go hD hV hW [(22, [2, 3, 4]), (56, [4])] 12 h
theorem i_176 : inq_ 0 k_176 = true := by decide +kernel
theorem z_176_12 : Sf_ k_176 g_176_12 := Sf_of i_176 12 rfl
theorem b_176_22 {D : ca_} {V : vv_} {Qr : qr_} {Qt : qt_} (hD : Mo_ D) (hV : Cl_ wd0 D V Qr Qt m_176) (hW : Wk_ V) (x1 : Int) (M : mm_) (h :
 M 1 2 = 5 ∧
  D 174 [.inr (.inr 1)] M (rv_ fun M1 =>
  D 103 [.inr (.inr 1), .inl 27] M1 (ri_ fun v1 M2 =>
   (if v1 = 0 then
    V 56 [rr 1, ii x1, ii (M 5 3), ii 0, none] [] M2
   else
    D 105 [.inr (.inr 1)] M2 (rv_ fun M3 =>
     D 124 [.inr (.inr 1), .inl 9] M3 (ri_ fun v2 M4 =>
      V 56 [rr 1, ii x1, ii (M 5 3), ii v2, none] [] M4) Qt) Qt)) Qt) Qt) : V 22 [rr 1, ii x1, none, none, none] [] M := bx_go hD (m := (g_176_12, m_176.2)) (Cl_sf z_176_12 hV) hW [(22, [2, 3, 4]), (56, [4])] 19 h
theorem z_176_30 : Sf_ k_176 g_176_30 := Sf_tr z_176_12 18 rfl
theorem b_176_56 {D : ca_} {V : vv_} {Qr : qr_} {Qt : qt_} (hD : Mo_ D) (hV : Cl_ wd0 D V Qr Qt m_176) (hW : Wk_ V) (x1 : Int) (x2 : Int) (x3 : Int) (M : mm_) (h :
 D 121 [.inr (.inr 1), .inl 59] M (rv_ fun M1 =>
  M1 1 2 = 5 ∧
   D 131 [.inr (.inr 1), .inl (M1 1 34)] M1 (rv_ fun M2 =>
   D 132 [.inr (.inr 1)] M2 (rv_ fun M3 =>
    (bl_ (M3 1 8) → (if M3 1 8 = 0 then
     Qr [] M3
    else
     M3 1 2 = 5 ∧
      (0 ≤ x1 ∧ x1 < 600) ∧
      M3 1 2 = 5 ∧
      (0 ≤ x1 ∧ x1 < 600) ∧
      M3 1 2 = 5 ∧
      (0 ≤ x1 ∧ x1 < 600) ∧
      Qr [] (up_ (up_ (up_ M3 139 x1 x2) 140 x1 x3) 141 x1 (M1 5 3))))) Qt) Qt) Qt) : V 56 [rr 1, ii x1, ii x2, ii x3, none] [] M := bx_go hD (m := (g_176_30, m_176.2)) (Cl_sf z_176_30 hV) hW [(22, [2, 3, 4]), (56, [4])] 35 h
/-- X1_nothing()V -/
theorem b_177_0 {D : ca_} {V : vv_} {Qr : qr_} {Qt : qt_} (hD : Mo_ D) (hV : Cl_ wd0 D V Qr Qt m_177) (hW : Wk_ V)  (M : mm_) (h :
 D 105 [.inr (.inr 1)] M (rv_ fun M1 =>
  D 121 [.inr (.inr 1), .inl 59] M1 (rv_ fun M2 =>
   (bl_ (M2 1 8) → (if M2 1 8 = 0 then
    V 28 [rr 1, ii ((-1)), none] [] M2
   else
    D 171 [.inr (.inr 1), .inl 3, .inl ((-1))] M2 (ri_ fun v1 M3 =>
     V 28 [rr 1, ii v1, none] [] M3) Qt))) Qt) Qt) : V 0 [rr 1, none, none] [] M := bx_go hD hV hW [(28, [2])] 15 h
theorem i_177 : inq_ 0 k_177 = true := by decide +kernel
theorem z_177_15 : Sf_ k_177 g_177_15 := Sf_of i_177 15 rfl
theorem b_177_28 {D : ca_} {V : vv_} {Qr : qr_} {Qt : qt_} (hD : Mo_ D) (hV : Cl_ wd0 D V Qr Qt m_177) (hW : Wk_ V) (x1 : Int) (M : mm_) (h :
 M 1 2 = 5 ∧
  D 131 [.inr (.inr 1), .inl (M 1 34)] M (rv_ fun M1 =>
  D 132 [.inr (.inr 1)] M1 (rv_ fun M2 =>
   (bl_ (M2 1 8) → (if M2 1 8 = 0 then
    Qr [] M2
   else
    M2 1 2 = 5 ∧
     (0 ≤ x1 ∧ x1 < 600) ∧
     Qr [] (up_ M2 141 x1 (M 5 3))))) Qt) Qt) : V 28 [rr 1, ii x1, none] [] M := bx_go hD (m := (g_177_15, m_177.2)) (Cl_sf z_177_15 hV) hW [(28, [2])] 20 h
/-- X1_comeTo()V -/
theorem b_178_0 {D : ca_} {V : vv_} {Qr : qr_} {Qt : qt_} (hD : Mo_ D) (hV : Cl_ wd0 D V Qr Qt m_178) (hW : Wk_ V)  (M : mm_) (h :
 V 2 [rr 1, ii 1, none, none, none, none] [] M) : V 0 [rr 1, none, none, none, none, none] [] M := bx_go hD hV hW [(2, [2, 3, 4, 5]), (10, [3, 4, 5]), (20, [4, 5]), (108, [5]), (161, [5]), (173, [])] 3 h
theorem b_178_2 {D : ca_} {V : vv_} {Qr : qr_} {Qt : qt_} (hD : Mo_ D) (hV : Cl_ wd0 D V Qr Qt m_178) (hW : Wk_ V) (x1 : Int) (M : mm_) (h :
 (if x1 = 0 then
  V 108 [rr 1, ii x1, ii 0, ii 0, ii 0, none] [] M
 else
  V 10 [rr 1, ii 0, ii 0, none, none, none] [] M)) : V 2 [rr 1, ii x1, none, none, none, none] [] M := bx_go hD hV hW [(2, [2, 3, 4, 5]), (10, [3, 4, 5]), (20, [4, 5]), (108, [5]), (161, [5]), (173, [])] 9 h
theorem i_178 : inq_ 0 k_178 = true := by decide +kernel
theorem z_178_8 : Sf_ k_178 g_178_8 := Sf_of i_178 8 rfl
theorem b_178_10 {D : ca_} {V : vv_} {Qr : qr_} {Qt : qt_} (hD : Mo_ D) (hV : Cl_ wd0 D V Qr Qt m_178) (hW : Wk_ V) (x1 : Int) (x2 : Int) (M : mm_) (h :
 (if x2 < M 1 29 then
  V 20 [rr 1, ii x1, ii x2, ii 0, none, none] [] M
 else
  V 2 [rr 1, ii x1, none, none, none, none] [] M)) : V 10 [rr 1, ii x1, ii x2, none, none, none] [] M := bx_go hD (m := (g_178_8, m_178.2)) (Cl_sf z_178_8 hV) hW [(2, [2, 3, 4, 5]), (10, [3, 4, 5]), (20, [4, 5]), (108, [5]), (161, [5]), (173, [])] 7 h
theorem z_178_14 : Sf_ k_178 g_178_14 := Sf_tr z_178_8 6 rfl
theorem b_178_20 {D : ca_} {V : vv_} {Qr : qr_} {Qt : qt_} (hD : Mo_ D) (hV : Cl_ wd0 D V Qr Qt m_178) (hW : Wk_ V) (x1 : Int) (x2 : Int) (x3 : Int) (M : mm_) (h :
 (if x3 < M 1 29 then
  (0 ≤ x2 ∧ x2 < 600) ∧
   (0 ≤ x3 ∧ x3 < 600) ∧
   (if an_ (M 65 x2) (M 64 x3) = 0 then
   V 20 [rr 1, ii x1, ii x2, ii (w32 (x3 + 1)), none, none] [] M
  else
   (0 ≤ x2 ∧ x2 < 600) ∧
    (0 ≤ x3 ∧ x3 < 600) ∧
    (0 ≤ x2 ∧ x2 < 600) ∧
    (if or_ (M 63 x2) (M 63 x3) = M 63 x2 then
    V 20 [rr 1, ii x1, ii x2, ii (w32 (x3 + 1)), none, none] [] M
   else
    (0 ≤ x2 ∧ x2 < 600) ∧
     (0 ≤ x3 ∧ x3 < 600) ∧
     (0 ≤ x2 ∧ x2 < 600) ∧
     V 20 [rr 1, ii 1, ii x2, ii (w32 (x3 + 1)), none, none] [] (up_ M 63 x2 (or_ (M 63 x2) (M 63 x3)))))
 else
  V 10 [rr 1, ii x1, ii (w32 (x2 + 1)), none, none, none] [] M)) : V 20 [rr 1, ii x1, ii x2, ii x3, none, none] [] M := bx_go hD (m := (g_178_14, m_178.2)) (Cl_sf z_178_14 hV) hW [(2, [2, 3, 4, 5]), (10, [3, 4, 5]), (20, [4, 5]), (108, [5]), (161, [5]), (173, [])] 44 h
theorem z_178_67 : Sf_ k_178 g_178_67 := Sf_tr z_178_14 53 rfl
theorem b_178_108 {D : ca_} {V : vv_} {Qr : qr_} {Qt : qt_} (hD : Mo_ D) (hV : Cl_ wd0 D V Qr Qt m_178) (hW : Wk_ V) (x1 : Int) (x2 : Int) (x3 : Int) (x4 : Int) (M : mm_) (h :
 (if x4 < M 1 29 then
  (0 ≤ x4 ∧ x4 < 600) ∧
   (if M 66 x4 = (-1) then
   (0 ≤ x4 ∧ x4 < 600) ∧
    (0 ≤ x4 ∧ x4 < 600) ∧
    V 108 [rr 1, ii x1, ii (or_ x2 (M 63 x4)), ii (or_ x3 (M 65 x4)), ii (w32 (x4 + 1)), none] [] M
  else
   (0 ≤ x4 ∧ x4 < 600) ∧
    V 108 [rr 1, ii x1, ii (or_ x2 0), ii (or_ x3 (M 65 x4)), ii (w32 (x4 + 1)), none] [] M)
 else
  V 161 [rr 1, ii x1, ii x2, ii x3, ii ((-1)), none] [] M)) : V 108 [rr 1, ii x1, ii x2, ii x3, ii x4, none] [] M := bx_go hD (m := (g_178_67, m_178.2)) (Cl_sf z_178_67 hV) hW [(2, [2, 3, 4, 5]), (10, [3, 4, 5]), (20, [4, 5]), (108, [5]), (161, [5]), (173, [])] 28 h
theorem z_178_97 : Sf_ k_178 g_178_97 := Sf_tr z_178_67 30 rfl
theorem b_178_161 {D : ca_} {V : vv_} {Qr : qr_} {Qt : qt_} (hD : Mo_ D) (hV : Cl_ wd0 D V Qr Qt m_178) (hW : Wk_ V) (x1 : Int) (x2 : Int) (x3 : Int) (x4 : Int) (M : mm_) (h :
 (if x4 = x2 then
  (0 ≤ M 1 18 ∧ M 1 18 < 6) ∧
   (0 ≤ M 1 18 ∧ M 1 18 < 6) ∧
   Qr [] (up_ (up_ M 67 (M 1 18) (xo_ x2 ((-1)))) 68 (M 1 18) (xo_ x3 ((-1))))
 else
  V 173 [rr 1, ii x1, ii x2, ii x3, ii x2, ii 0] [] M)) : V 161 [rr 1, ii x1, ii x2, ii x3, ii x4, none] [] M := bx_go hD (m := (g_178_97, m_178.2)) (Cl_sf z_178_97 hV) hW [(2, [2, 3, 4, 5]), (10, [3, 4, 5]), (20, [4, 5]), (108, [5]), (161, [5]), (173, [])] 20 h
theorem z_178_104 : Sf_ k_178 g_178_104 := Sf_tr z_178_97 7 rfl
theorem b_178_173 {D : ca_} {V : vv_} {Qr : qr_} {Qt : qt_} (hD : Mo_ D) (hV : Cl_ wd0 D V Qr Qt m_178) (hW : Wk_ V) (x1 : Int) (x2 : Int) (x3 : Int) (x4 : Int) (x5 : Int) (M : mm_) (h :
 (if x5 < M 1 29 then
  (0 ≤ x5 ∧ x5 < 600) ∧
   (if M 66 x5 = (-1) then
   V 173 [rr 1, ii x1, ii x2, ii x3, ii x4, ii (w32 (x5 + 1))] [] M
  else
   (0 ≤ x5 ∧ x5 < 600) ∧
    (if an_ (M 66 x5) x2 = 0 then
    V 173 [rr 1, ii x1, ii x2, ii x3, ii x4, ii (w32 (x5 + 1))] [] M
   else
    (0 ≤ x5 ∧ x5 < 600) ∧
     V 173 [rr 1, ii x1, ii (or_ x2 (M 63 x5)), ii x3, ii x4, ii (w32 (x5 + 1))] [] M))
 else
  V 161 [rr 1, ii x1, ii x2, ii x3, ii x4, none] [] M)) : V 173 [rr 1, ii x1, ii x2, ii x3, ii x4, ii x5] [] M := bx_go hD (m := (g_178_104, m_178.2)) (Cl_sf z_178_104 hV) hW [(2, [2, 3, 4, 5]), (10, [3, 4, 5]), (20, [4, 5]), (108, [5]), (161, [5]), (173, [])] 27 h
/-- X1_warns()V -/
theorem b_179_0 {D : ca_} {V : vv_} {Qr : qr_} {Qt : qt_} (hD : Mo_ D) (hV : Cl_ wd0 D V Qr Qt m_179) (hW : Wk_ V)  (M : mm_) (h :
 V 6 [rr 1, ii 0, ii 0, ii 0, none] [] M) : V 0 [rr 1, none, none, none, none] [] M := bx_go hD hV hW [(6, [4]), (49, [4]), (91, [4]), (126, [4]), (158, [4]), (172, []), (260, [])] 7 h
theorem i_179 : inq_ 0 k_179 = true := by decide +kernel
theorem z_179_6 : Sf_ k_179 g_179_6 := Sf_of i_179 6 rfl
theorem b_179_6 {D : ca_} {V : vv_} {Qr : qr_} {Qt : qt_} (hD : Mo_ D) (hV : Cl_ wd0 D V Qr Qt m_179) (hW : Wk_ V) (x1 : Int) (x2 : Int) (x3 : Int) (M : mm_) (h :
 M 1 2 = 5 ∧
  (if x3 < M 5 1 then
  M 1 2 = 5 ∧
   (0 ≤ w32 (2 * x3) ∧ w32 (2 * x3) < 20) ∧
   (if M 114 (w32 (2 * x3)) = (-2) then
   M 1 2 = 5 ∧
    (0 ≤ x3 ∧ x3 < 10) ∧
    V 49 [rr 1, ii (or_ x1 (M 119 x3)), ii x2, ii x3, none] [] M
  else
   V 49 [rr 1, ii (or_ x1 0), ii x2, ii x3, none] [] M)
 else
  V 91 [rr 1, ii x1, ii x2, ii 0, none] [] M)) : V 6 [rr 1, ii x1, ii x2, ii x3, none] [] M := bx_go hD (m := (g_179_6, m_179.2)) (Cl_sf z_179_6 hV) hW [(6, [4]), (49, [4]), (91, [4]), (126, [4]), (158, [4]), (172, []), (260, [])] 24 h
theorem z_179_30 : Sf_ k_179 g_179_30 := Sf_tr z_179_6 24 rfl
theorem b_179_49 {D : ca_} {V : vv_} {Qr : qr_} {Qt : qt_} (hD : Mo_ D) (hV : Cl_ wd0 D V Qr Qt m_179) (hW : Wk_ V) (x1 : Int) (x2 : Int) (x3 : Int) (M : mm_) (h :
 M 1 2 = 5 ∧
  (0 ≤ w32 ((w32 (2 * x3)) + 1) ∧ w32 ((w32 (2 * x3)) + 1) < 20) ∧
  (if M 114 (w32 ((w32 (2 * x3)) + 1)) = (-2) then
  M 1 2 = 5 ∧
   (0 ≤ x3 ∧ x3 < 10) ∧
   V 6 [rr 1, ii x1, ii (or_ x2 (M 119 x3)), ii (w32 (x3 + 1)), none] [] M
 else
  V 6 [rr 1, ii x1, ii (or_ x2 0), ii (w32 (x3 + 1)), none] [] M)) : V 49 [rr 1, ii x1, ii x2, ii x3, none] [] M := bx_go hD (m := (g_179_30, m_179.2)) (Cl_sf z_179_30 hV) hW [(6, [4]), (49, [4]), (91, [4]), (126, [4]), (158, [4]), (172, []), (260, [])] 23 h
theorem z_179_55 : Sf_ k_179 g_179_55 := Sf_tr z_179_30 25 rfl
theorem b_179_91 {D : ca_} {V : vv_} {Qr : qr_} {Qt : qt_} (hD : Mo_ D) (hV : Cl_ wd0 D V Qr Qt m_179) (hW : Wk_ V) (x1 : Int) (x2 : Int) (x3 : Int) (M : mm_) (h :
 M 1 2 = 5 ∧
  (if x3 < M 5 0 then
  (if an_ (sr_ (or_ (M 1 21) x1) x3) 1 = 0 then
   (0 ≤ x3 ∧ x3 < 20) ∧
    D 180 [.inr (.inr 1), .inl 2, .inl (M 56 x3)] M (rv_ fun M1 =>
    V 126 [rr 1, ii x1, ii x2, ii x3, none] [] M1) Qt
  else
   V 126 [rr 1, ii x1, ii x2, ii x3, none] [] M)
 else
  V 158 [rr 1, ii x1, ii x2, ii 0, none] [] M)) : V 91 [rr 1, ii x1, ii x2, ii x3, none] [] M := bx_go hD (m := (g_179_55, m_179.2)) (Cl_sf z_179_55 hV) hW [(6, [4]), (49, [4]), (91, [4]), (126, [4]), (158, [4]), (172, []), (260, [])] 22 h
theorem z_179_76 : Sf_ k_179 g_179_76 := Sf_tr z_179_55 21 rfl
theorem b_179_126 {D : ca_} {V : vv_} {Qr : qr_} {Qt : qt_} (hD : Mo_ D) (hV : Cl_ wd0 D V Qr Qt m_179) (hW : Wk_ V) (x1 : Int) (x2 : Int) (x3 : Int) (M : mm_) (h :
 (if an_ (sr_ (or_ (M 1 22) x2) x3) 1 = 0 then
  (0 ≤ x3 ∧ x3 < 20) ∧
   D 180 [.inr (.inr 1), .inl 3, .inl (M 56 x3)] M (rv_ fun M1 =>
   V 91 [rr 1, ii x1, ii x2, ii (w32 (x3 + 1)), none] [] M1) Qt
 else
  V 91 [rr 1, ii x1, ii x2, ii (w32 (x3 + 1)), none] [] M)) : V 126 [rr 1, ii x1, ii x2, ii x3, none] [] M := bx_go hD (m := (g_179_76, m_179.2)) (Cl_sf z_179_76 hV) hW [(6, [4]), (49, [4]), (91, [4]), (126, [4]), (158, [4]), (172, []), (260, [])] 19 h
theorem z_179_96 : Sf_ k_179 g_179_96 := Sf_tr z_179_76 20 rfl
theorem b_179_158 {D : ca_} {V : vv_} {Qr : qr_} {Qt : qt_} (hD : Mo_ D) (hV : Cl_ wd0 D V Qr Qt m_179) (hW : Wk_ V) (x1 : Int) (x2 : Int) (x3 : Int) (M : mm_) (h :
 M 1 2 = 5 ∧
  (if x3 < M 5 2 then
  V 172 [rr 1, ii x1, ii x2, ii x3, ii 0] [] M
 else
  Qr [] M)) : V 158 [rr 1, ii x1, ii x2, ii x3, none] [] M := bx_go hD (m := (g_179_96, m_179.2)) (Cl_sf z_179_96 hV) hW [(6, [4]), (49, [4]), (91, [4]), (126, [4]), (158, [4]), (172, []), (260, [])] 8 h
theorem z_179_103 : Sf_ k_179 g_179_103 := Sf_tr z_179_96 7 rfl
theorem b_179_172 {D : ca_} {V : vv_} {Qr : qr_} {Qt : qt_} (hD : Mo_ D) (hV : Cl_ wd0 D V Qr Qt m_179) (hW : Wk_ V) (x1 : Int) (x2 : Int) (x3 : Int) (x4 : Int) (M : mm_) (h :
 M 1 2 = 5 ∧
  (0 ≤ x3 ∧ x3 < 6) ∧
  (if x4 < M 123 x3 then
  (0 ≤ x3 ∧ x3 < 6) ∧
   (if an_ (sr_ (M 67 x3) x4) 1 = 0 then
   V 172 [rr 1, ii x1, ii x2, ii x3, ii (w32 (x4 + 1))] [] M
  else
   (0 ≤ w32 ((w32 (12 * x3)) + x4) ∧ w32 ((w32 (12 * x3)) + x4) < 72) ∧
    D 180 [.inr (.inr 1), .inl 1, .inl (M 59 (w32 ((w32 (12 * x3)) + x4)))] M (rv_ fun M2 =>
    V 172 [rr 1, ii x1, ii x2, ii x3, ii (w32 (x4 + 1))] [] M2) Qt)
 else
  M 1 2 = 5 ∧
   (0 ≤ x3 ∧ x3 < 6) ∧
   (if M 120 x3 = 0 then
   (if an_ (sr_ (M 1 23) x3) 1 = 0 then
    (0 ≤ x3 ∧ x3 < 6) ∧
     D 180 [.inr (.inr 1), .inl 4, .inl (M 58 x3)] M (rv_ fun M1 =>
     V 260 [rr 1, ii x1, ii x2, ii x3, ii 0] [] M1) Qt
   else
    V 260 [rr 1, ii x1, ii x2, ii x3, ii 0] [] M)
  else
   V 260 [rr 1, ii x1, ii x2, ii x3, ii 0] [] M))) : V 172 [rr 1, ii x1, ii x2, ii x3, ii x4] [] M := bx_go hD (m := (g_179_103, m_179.2)) (Cl_sf z_179_103 hV) hW [(6, [4]), (49, [4]), (91, [4]), (126, [4]), (158, [4]), (172, []), (260, [])] 30 h
theorem z_179_154 : Sf_ k_179 g_179_154 := Sf_tr z_179_103 51 rfl
theorem b_179_260 {D : ca_} {V : vv_} {Qr : qr_} {Qt : qt_} (hD : Mo_ D) (hV : Cl_ wd0 D V Qr Qt m_179) (hW : Wk_ V) (x1 : Int) (x2 : Int) (x3 : Int) (x4 : Int) (M : mm_) (h :
 M 1 2 = 5 ∧
  (0 ≤ x3 ∧ x3 < 6) ∧
  (if x4 < M 128 x3 then
  (0 ≤ x3 ∧ x3 < 6) ∧
   (if an_ (sr_ (M 68 x3) x4) 1 = 0 then
   V 260 [rr 1, ii x1, ii x2, ii x3, ii (w32 (x4 + 1))] [] M
  else
   (0 ≤ w32 ((w32 (10 * x3)) + x4) ∧ w32 ((w32 (10 * x3)) + x4) < 60) ∧
    D 180 [.inr (.inr 1), .inl 5, .inl (M 62 (w32 ((w32 (10 * x3)) + x4)))] M (rv_ fun M1 =>
    V 260 [rr 1, ii x1, ii x2, ii x3, ii (w32 (x4 + 1))] [] M1) Qt)
 else
  V 158 [rr 1, ii x1, ii x2, ii (w32 (x3 + 1)), none] [] M)) : V 260 [rr 1, ii x1, ii x2, ii x3, ii x4] [] M := bx_go hD (m := (g_179_154, m_179.2)) (Cl_sf z_179_154 hV) hW [(6, [4]), (49, [4]), (91, [4]), (126, [4]), (158, [4]), (172, []), (260, [])] 30 h
/-- X1_warn(II)V -/
theorem b_180_0 {D : ca_} {V : vv_} {Qr : qr_} {Qt : qt_} (hD : Mo_ D) (hV : Cl_ wd0 D V Qr Qt m_180) (hW : Wk_ V) (x1 : Int) (x2 : Int) (M : mm_) (h :
 (0 ≤ x2 ∧ x2 < 1202) ∧
  M 1 2 = 5 ∧
  V 19 [rr 1, ii x1, ii x2, ii (M 71 x2), ii (M 5 36)] [] M) : V 0 [rr 1, ii x1, ii x2, none, none] [] M := bx_go hD hV hW [(19, []), (72, []), (122, [])] 11 h
theorem i_180 : inq_ 0 k_180 = true := by decide +kernel
theorem z_180_10 : Sf_ k_180 g_180_10 := Sf_of i_180 10 rfl
theorem b_180_19 {D : ca_} {V : vv_} {Qr : qr_} {Qt : qt_} (hD : Mo_ D) (hV : Cl_ wd0 D V Qr Qt m_180) (hW : Wk_ V) (x1 : Int) (x2 : Int) (x3 : Int) (x4 : Int) (M : mm_) (h :
 (if x4 ≤ 0 then
  V 122 [rr 1, ii x1, ii x2, ii x3, ii x4] [] M
 else
  M 1 2 = 5 ∧
   (0 ≤ w32 (x4 - 1) ∧ w32 (x4 - 1) < 200) ∧
   (if M 144 (w32 (x4 - 1)) ≤ x3 then
   M 1 2 = 5 ∧
    (0 ≤ w32 (x4 - 1) ∧ w32 (x4 - 1) < 200) ∧
    (if M 144 (w32 (x4 - 1)) = x3 then
    M 1 2 = 5 ∧
     (0 ≤ w32 (x4 - 1) ∧ w32 (x4 - 1) < 200) ∧
     (if M 143 (w32 (x4 - 1)) ≤ x1 then
     V 122 [rr 1, ii x1, ii x2, ii x3, ii x4] [] M
    else
     V 72 [rr 1, ii x1, ii x2, ii x3, ii x4] [] M)
   else
    V 122 [rr 1, ii x1, ii x2, ii x3, ii x4] [] M)
  else
   V 72 [rr 1, ii x1, ii x2, ii x3, ii x4] [] M))) : V 19 [rr 1, ii x1, ii x2, ii x3, ii x4] [] M := bx_go hD (m := (g_180_10, m_180.2)) (Cl_sf z_180_10 hV) hW [(19, []), (72, []), (122, [])] 30 h
theorem z_180_39 : Sf_ k_180 g_180_39 := Sf_tr z_180_10 29 rfl
theorem b_180_72 {D : ca_} {V : vv_} {Qr : qr_} {Qt : qt_} (hD : Mo_ D) (hV : Cl_ wd0 D V Qr Qt m_180) (hW : Wk_ V) (x1 : Int) (x2 : Int) (x3 : Int) (x4 : Int) (M : mm_) (h :
 M 1 2 = 5 ∧
  M 1 2 = 5 ∧
  (0 ≤ w32 (x4 - 1) ∧ w32 (x4 - 1) < 200) ∧
  (0 ≤ x4 ∧ x4 < 200) ∧
  M 1 2 = 5 ∧
  M 1 2 = 5 ∧
  (0 ≤ w32 (x4 - 1) ∧ w32 (x4 - 1) < 200) ∧
  (0 ≤ x4 ∧ x4 < 200) ∧
  V 19 [rr 1, ii x1, ii x2, ii x3, ii (w32 (x4 + (-1)))] [] (up_ (up_ M 143 x4 (M 143 (w32 (x4 - 1)))) 144 x4 (M 144 (w32 (x4 - 1))))) : V 72 [rr 1, ii x1, ii x2, ii x3, ii x4] [] M := bx_go hD (m := (g_180_39, m_180.2)) (Cl_sf z_180_39 hV) hW [(19, []), (72, []), (122, [])] 27 h
theorem z_180_65 : Sf_ k_180 g_180_65 := Sf_tr z_180_39 26 rfl
theorem b_180_122 {D : ca_} {V : vv_} {Qr : qr_} {Qt : qt_} (hD : Mo_ D) (hV : Cl_ wd0 D V Qr Qt m_180) (hW : Wk_ V) (x1 : Int) (x2 : Int) (x3 : Int) (x4 : Int) (M : mm_) (h :
 M 1 2 = 5 ∧
  (0 ≤ x4 ∧ x4 < 200) ∧
  M 1 2 = 5 ∧
  (0 ≤ x4 ∧ x4 < 200) ∧
  M 1 2 = 5 ∧
  Qr [] (up_ (up_ (up_ M 143 x4 x1) 144 x4 x3) 5 36 (w32 ((M 5 36) + 1)))) : V 122 [rr 1, ii x1, ii x2, ii x3, ii x4] [] M := bx_go hD (m := (g_180_65, m_180.2)) (Cl_sf z_180_65 hV) hW [(19, []), (72, []), (122, [])] 20 h

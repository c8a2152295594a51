/-! block lemmas -/
set_option maxRecDepth 100000
/-- X0_run(I)I -/
theorem b_0_0 {D : ca_} {V : vv_} {Qr : qr_} {Qt : qt_} (hD : Mo_ D) (hV : Cl_ wd0 D V Qr Qt m_0) (hW : Wk_ V) (x1 : Int) (M : mm_) (h :
 (bl_ (M 0 4) → (if M 0 4 = 0 then
  Qr [.inl ((-1))] M
 else
  (if x1 < 1 then
   Qr [.inl ((-1))] M
  else
   (if x1 ≤ 1000 then
    V 23 [rr 0, ii x1, ii 0, none, none] [] M
   else
    Qr [.inl ((-1))] M))))) : V 0 [rr 0, ii x1, none, none, none] [] M := bx_go hD hV hW [(23, [3, 4])] 12 h
theorem i_0 : inq_ 0 k_0 = true := by decide +kernel
theorem z_0_13 : Sf_ k_0 g_0_13 := Sf_of i_0 13 rfl
theorem b_0_23 {D : ca_} {V : vv_} {Qr : qr_} {Qt : qt_} (hD : Mo_ D) (hV : Cl_ wd0 D V Qr Qt m_0) (hW : Wk_ V) (x1 : Int) (x2 : Int) (M : mm_) (h :
 (if x2 < x1 then
  D 1 [.inr (.inr 0)] M (rv_ fun M1 =>
   D 11 [.inr (.inr 0)] M1 (ri_ fun v1 M2 =>
    (if v1 = (-1) then
     D 21 [.inr (.inr 0)] M2 (ri_ fun v2 M4 =>
      (if v2 = (-1) then
       Qr [.inl x2] M4
      else
       V 23 [rr 0, ii x1, ii x2, none, none] [] (up_ M4 0 9 v2))) Qt
    else
     (0 ≤ v1 ∧ v1 < 12) ∧
      D 22 [.inr (.inr 0), .inl v1] (up_ M2 0 11 (M2 10 v1)) (rv_ fun M3 =>
      V 23 [rr 0, ii x1, ii (w32 (x2 + 1)), none, none] [] (up_ M3 0 31 (w32 ((M3 0 31) + 1)))) Qt)) Qt) Qt
 else
  Qr [.inl x2] M)) : V 23 [rr 0, ii x1, ii x2, none, none] [] M := bx_go hD (m := (g_0_13, m_0.2)) (Cl_sf z_0_13 hV) hW [(23, [3, 4])] 29 h
/-- X0_due()V -/
theorem b_1_0 {D : ca_} {V : vv_} {Qr : qr_} {Qt : qt_} (hD : Mo_ D) (hV : Cl_ wd0 D V Qr Qt m_1) (hW : Wk_ V)  (M : mm_) (h :
 V 2 [rr 0, ii 0, none] [] M) : V 0 [rr 0, none, none] [] M := bx_go hD hV hW [(2, [2]), (13, [2]), (57, [2]), (67, [])] 3 h
theorem b_1_2 {D : ca_} {V : vv_} {Qr : qr_} {Qt : qt_} (hD : Mo_ D) (hV : Cl_ wd0 D V Qr Qt m_1) (hW : Wk_ V) (x1 : Int) (M : mm_) (h :
 (if x1 < M 4 1 then
  V 13 [rr 0, ii x1, none] [] M
 else
  V 57 [rr 0, ii 0, none] [] M)) : V 2 [rr 0, ii x1, none] [] M := bx_go hD hV hW [(2, [2]), (13, [2]), (57, [2]), (67, [])] 8 h
theorem i_1 : inq_ 0 k_1 = true := by decide +kernel
theorem z_1_7 : Sf_ k_1 g_1_7 := Sf_of i_1 7 rfl
theorem b_1_13 {D : ca_} {V : vv_} {Qr : qr_} {Qt : qt_} (hD : Mo_ D) (hV : Cl_ wd0 D V Qr Qt m_1) (hW : Wk_ V) (x1 : Int) (M : mm_) (h :
 (0 ≤ x1 ∧ x1 < 10) ∧
  (if M 21 x1 ≤ 0 then
  V 2 [rr 0, ii (w32 (x1 + 1)), none] [] M
 else
  D 2 [.inl x1, .inl 0] M (ri_ fun v1 M1 =>
   (0 ≤ w32 (v1 + 3) ∧ w32 (v1 + 3) < 420) ∧
    (if M1 22 (w32 (v1 + 3)) ≤ M1 0 9 then
    D 3 [.inr (.inr 0), .inl x1] M1 (rv_ fun M2 =>
     V 13 [rr 0, ii x1, none] [] M2) Qt
   else
    V 2 [rr 0, ii (w32 (x1 + 1)), none] [] M1)) Qt)) : V 13 [rr 0, ii x1, none] [] M := bx_go hD (m := (g_1_7, m_1.2)) (Cl_sf z_1_7 hV) hW [(2, [2]), (13, [2]), (57, [2]), (67, [])] 21 h
theorem z_1_31 : Sf_ k_1 g_1_31 := Sf_tr z_1_7 24 rfl
theorem b_1_57 {D : ca_} {V : vv_} {Qr : qr_} {Qt : qt_} (hD : Mo_ D) (hV : Cl_ wd0 D V Qr Qt m_1) (hW : Wk_ V) (x1 : Int) (M : mm_) (h :
 (if x1 < M 0 7 then
  V 67 [rr 0, ii x1, ii 0] [] M
 else
  Qr [] M)) : V 57 [rr 0, ii x1, none] [] M := bx_go hD (m := (g_1_31, m_1.2)) (Cl_sf z_1_31 hV) hW [(2, [2]), (13, [2]), (57, [2]), (67, [])] 7 h
theorem z_1_37 : Sf_ k_1 g_1_37 := Sf_tr z_1_31 6 rfl
theorem b_1_67 {D : ca_} {V : vv_} {Qr : qr_} {Qt : qt_} (hD : Mo_ D) (hV : Cl_ wd0 D V Qr Qt m_1) (hW : Wk_ V) (x1 : Int) (x2 : Int) (M : mm_) (h :
 (0 ≤ x1 ∧ x1 < 12) ∧
  (0 ≤ M 11 x1 ∧ M 11 x1 < 6) ∧
  (if x2 < M 93 (M 11 x1) then
  (0 ≤ w32 ((w32 (3 * x1)) + x2) ∧ w32 ((w32 (3 * x1)) + x2) < 36) ∧ (bl_ (M 16 (w32 ((w32 (3 * x1)) + x2))) →
   (if M 16 (w32 ((w32 (3 * x1)) + x2)) = 0 then
   V 67 [rr 0, ii x1, ii (w32 (x2 + 1))] [] M
  else
   (0 ≤ w32 ((w32 (3 * x1)) + x2) ∧ w32 ((w32 (3 * x1)) + x2) < 36) ∧
    (if M 17 (w32 ((w32 (3 * x1)) + x2)) ≤ M 0 9 then
    D 10 [.inr (.inr 0), .inl x1, .inl x2] M (rv_ fun M1 =>
     V 67 [rr 0, ii x1, ii (w32 (x2 + 1))] [] M1) Qt
   else
    V 67 [rr 0, ii x1, ii (w32 (x2 + 1))] [] M)))
 else
  V 57 [rr 0, ii (w32 (x1 + 1)), none] [] M)) : V 67 [rr 0, ii x1, ii x2] [] M := bx_go hD (m := (g_1_37, m_1.2)) (Cl_sf z_1_37 hV) hW [(2, [2]), (13, [2]), (57, [2]), (67, [])] 37 h
/-- X0_onWay(II)I -/
theorem b_2_0 {D : ca_} {V : vv_} {Qr : qr_} {Qt : qt_} (hD : Mo_ D) (hV : Cl_ wd0 D V Qr Qt m_2) (hW : Wk_ V) (x0 : Int) (x1 : Int) (M : mm_) (h :
 Qr [.inl (w32 (7 * (w32 ((w32 (6 * x0)) + x1))))] M) : V 0 [ii x0, ii x1] [] M := bx_go hD hV hW [] 8 h
/-- X0_lands(I)V -/
theorem b_3_0 {D : ca_} {V : vv_} {Qr : qr_} {Qt : qt_} (hD : Mo_ D) (hV : Cl_ wd0 D V Qr Qt m_3) (hW : Wk_ V) (x1 : Int) (M : mm_) (h :
 D 2 [.inl x1, .inl 0] M (ri_ fun v1 M1 =>
  (0 ≤ v1 ∧ v1 < 420) ∧
   (0 ≤ w32 (v1 + 1) ∧ w32 (v1 + 1) < 420) ∧
   (0 ≤ w32 (v1 + 2) ∧ w32 (v1 + 2) < 420) ∧
   (0 ≤ w32 (v1 + 4) ∧ w32 (v1 + 4) < 420) ∧
   (0 ≤ w32 (v1 + 5) ∧ w32 (v1 + 5) < 420) ∧
   (0 ≤ w32 (v1 + 6) ∧ w32 (v1 + 6) < 420) ∧
   (0 ≤ x1 ∧ x1 < 10) ∧
   (0 ≤ x1 ∧ x1 < 10) ∧
   V 77 [rr 0, ii x1, ii v1, ii (M1 22 v1), ii (M1 22 (w32 (v1 + 1))), ii (M1 22 (w32 (v1 + 2))), ii (M1 22 (w32 (v1 + 4))), ii (M1 22 (w32 (v1 + 5))), ii (M1 22 (w32 (v1 + 6))), ii v1] [] (up_ M1 21 x1 (w32 ((M1 21 x1) - 1)))) Qt) : V 0 [rr 0, ii x1, none, none, none, none, none, none, none, none] [] M := bx_go hD hV hW [(77, [])] 55 h
theorem i_3 : inq_ 0 k_3 = true := by decide +kernel
theorem z_3_54 : Sf_ k_3 g_3_54 := Sf_of i_3 54 rfl
theorem b_3_77 {D : ca_} {V : vv_} {Qr : qr_} {Qt : qt_} (hD : Mo_ D) (hV : Cl_ wd0 D V Qr Qt m_3) (hW : Wk_ V) (x1 : Int) (x2 : Int) (x3 : Int) (x4 : Int) (x5 : Int) (x6 : Int) (x7 : Int) (x8 : Int) (x9 : Int) (M : mm_) (h :
 (0 ≤ x1 ∧ x1 < 10) ∧
  (if x9 < w32 (x2 + (w32 (7 * (M 21 x1)))) then
  (0 ≤ w32 (x9 + 7) ∧ w32 (x9 + 7) < 420) ∧
   (0 ≤ x9 ∧ x9 < 420) ∧
   V 77 [rr 0, ii x1, ii x2, ii x3, ii x4, ii x5, ii x6, ii x7, ii x8, ii (w32 (x9 + 1))] [] (up_ M 22 x9 (M 22 (w32 (x9 + 7))))
 else
  D 4 [.inr (.inr 0), .inl x3, .inl x4, .inl x5, .inl x6, .inl x7, .inl x8] M (rv_ fun M1 =>
   Qr [] M1) Qt)) : V 77 [rr 0, ii x1, ii x2, ii x3, ii x4, ii x5, ii x6, ii x7, ii x8, ii x9] [] M := bx_go hD (m := (g_3_54, m_3.2)) (Cl_sf z_3_54 hV) hW [(77, [])] 23 h
/-- X0_arrives(IIIIII)V -/
theorem b_4_0 {D : ca_} {V : vv_} {Qr : qr_} {Qt : qt_} (hD : Mo_ D) (hV : Cl_ wd0 D V Qr Qt m_4) (hW : Wk_ V) (x1 : Int) (x2 : Int) (x3 : Int) (x4 : Int) (x5 : Int) (x6 : Int) (M : mm_) (h :
 (if x3 = 0 then
  D 5 [.inr (.inr 0), .inl 4, .inl 0, .inl x1, .inl x2] M (rv_ fun M4 =>
   (bl_ (M4 0 25) → (if M4 0 25 = 0 then
    (0 ≤ w32 (6 * (M4 0 33)) ∧ w32 (6 * (M4 0 33)) < 1200) ∧
     (0 ≤ w32 ((w32 (6 * (M4 0 33))) + 1) ∧ w32 ((w32 (6 * (M4 0 33))) + 1) < 1200) ∧
     (0 ≤ w32 ((w32 (6 * (M4 0 33))) + 2) ∧ w32 ((w32 (6 * (M4 0 33))) + 2) < 1200) ∧
     (0 ≤ w32 ((w32 (6 * (M4 0 33))) + 3) ∧ w32 ((w32 (6 * (M4 0 33))) + 3) < 1200) ∧
     (0 ≤ w32 ((w32 (6 * (M4 0 33))) + 4) ∧ w32 ((w32 (6 * (M4 0 33))) + 4) < 1200) ∧
     (0 ≤ w32 ((w32 (6 * (M4 0 33))) + 5) ∧ w32 ((w32 (6 * (M4 0 33))) + 5) < 1200) ∧
     (200 : Int) ≠ 0 ∧ Qr [] (up_ (up_ (up_ (up_ (up_ (up_ (up_ (up_ (up_ M4 24 (w32 (6 * (M4 0 33))) x1) 24 (w32 ((w32 (6 * (M4 0 33))) + 1)) x2) 24 (w32 ((w32 (6 * (M4 0 33))) + 2)) (M4 0 9)) 24 (w32 ((w32 (6 * (M4 0 33))) + 3)) x4) 24 (w32 ((w32 (6 * (M4 0 33))) + 4)) x5) 24 (w32 ((w32 (6 * (M4 0 33))) + 5)) x6) 0 33 (Int.tmod (w32 ((M4 0 33) + 1)) 200)) 0 34 (if w32 ((M4 0 34) + 1) < 200 then w32 ((M4 0 34) + 1) else 200)) 0 32 (w32 ((M4 0 32) + 1)))
   else
    Qr [] M4))) Qt
 else
  D 6 [.inr (.inr 0), .inl x3] M (ri_ fun v1 M1 =>
   (if v1 = (-1) then
    D 7 [.inr (.inr 0), .inl x3, .inl x1, .inl x2] M1 (rv_ fun M3 =>
     Qr [] M3) Qt
   else
    D 8 [.inr (.inr 0), .inl v1, .inl x1, .inl x2, .inl x4, .inl x5, .inl x6] M1 (rv_ fun M2 =>
     Qr [] M2) Qt)) Qt)) : V 0 [rr 0, ii x1, ii x2, ii x3, ii x4, ii x5, ii x6, none] [] M := bx_go hD hV hW [] 80 h
/-- X0_tellsEvent(IIII)V -/
theorem b_5_0 {D : ca_} {V : vv_} {Qr : qr_} {Qt : qt_} (hD : Mo_ D) (hV : Cl_ wd0 D V Qr Qt m_5) (hW : Wk_ V) (x1 : Int) (x2 : Int) (x3 : Int) (x4 : Int) (M : mm_) (h :
 (bl_ (M 0 25) → (if M 0 25 = 0 then
  (0 ≤ w32 (4 * (M 0 35)) ∧ w32 (4 * (M 0 35)) < 2000) ∧
   (0 ≤ w32 ((w32 (4 * (M 0 35))) + 1) ∧ w32 ((w32 (4 * (M 0 35))) + 1) < 2000) ∧
   (0 ≤ w32 ((w32 (4 * (M 0 35))) + 2) ∧ w32 ((w32 (4 * (M 0 35))) + 2) < 2000) ∧
   (0 ≤ w32 ((w32 (4 * (M 0 35))) + 3) ∧ w32 ((w32 (4 * (M 0 35))) + 3) < 2000) ∧
   (500 : Int) ≠ 0 ∧ Qr [] (up_ (up_ (up_ (up_ (up_ (up_ M 23 (w32 (4 * (M 0 35))) x1) 23 (w32 ((w32 (4 * (M 0 35))) + 1)) x2) 23 (w32 ((w32 (4 * (M 0 35))) + 2)) x3) 23 (w32 ((w32 (4 * (M 0 35))) + 3)) x4) 0 35 (Int.tmod (w32 ((M 0 35) + 1)) 500)) 0 36 (if w32 ((M 0 36) + 1) < 500 then w32 ((M 0 36) + 1) else 500))
 else
  Qr [] M))) : V 0 [rr 0, ii x1, ii x2, ii x3, ii x4, none] [] M := bx_go hD hV hW [] 51 h
/-- X0_slotOf(I)I -/
theorem b_6_0 {D : ca_} {V : vv_} {Qr : qr_} {Qt : qt_} (hD : Mo_ D) (hV : Cl_ wd0 D V Qr Qt m_6) (hW : Wk_ V) (x1 : Int) (M : mm_) (h :
 V 2 [rr 0, ii x1, ii 0] [] M) : V 0 [rr 0, ii x1, none] [] M := bx_go hD hV hW [(2, [])] 3 h
theorem b_6_2 {D : ca_} {V : vv_} {Qr : qr_} {Qt : qt_} (hD : Mo_ D) (hV : Cl_ wd0 D V Qr Qt m_6) (hW : Wk_ V) (x1 : Int) (x2 : Int) (M : mm_) (h :
 (if x2 < M 0 7 then
  (0 ≤ x2 ∧ x2 < 12) ∧
   (if M 10 x2 = x1 then
   Qr [.inl x2] M
  else
   V 2 [rr 0, ii x1, ii (w32 (x2 + 1))] [] M)
 else
  Qr [.inl ((-1))] M)) : V 2 [rr 0, ii x1, ii x2] [] M := bx_go hD hV hW [(2, [])] 13 h
/-- X0_loses(III)V -/
theorem b_7_0 {D : ca_} {V : vv_} {Qr : qr_} {Qt : qt_} (hD : Mo_ D) (hV : Cl_ wd0 D V Qr Qt m_7) (hW : Wk_ V) (x1 : Int) (x2 : Int) (x3 : Int) (M : mm_) (h :
 (bl_ (M 0 25) → (if M 0 25 = 0 then
  D 5 [.inr (.inr 0), .inl 3, .inl x1, .inl x2, .inl x3] (up_ (up_ M 0 37 (w32 ((M 0 37) + 1))) 0 27 (w32 ((M 0 27) + 1))) (rv_ fun M2 =>
   Qr [] M2) Qt
 else
  D 5 [.inr (.inr 0), .inl 3, .inl x1, .inl x2, .inl x3] (up_ M 0 37 (w32 ((M 0 37) + 1))) (rv_ fun M1 =>
   Qr [] M1) Qt))) : V 0 [rr 0, ii x1, ii x2, ii x3] [] M := bx_go hD hV hW [] 22 h
/-- X0_comes(IIIIII)V -/
theorem b_8_0 {D : ca_} {V : vv_} {Qr : qr_} {Qt : qt_} (hD : Mo_ D) (hV : Cl_ wd0 D V Qr Qt m_8) (hW : Wk_ V) (x1 : Int) (x2 : Int) (x3 : Int) (x4 : Int) (x5 : Int) (x6 : Int) (M : mm_) (h :
 (0 ≤ x1 ∧ x1 < 12) ∧
  (if M 14 x1 = 6 then
  (0 ≤ x1 ∧ x1 < 12) ∧
   D 7 [.inr (.inr 0), .inl (M 10 x1), .inl x2, .inl x3] M (rv_ fun M2 =>
   Qr [] M2) Qt
 else
  (0 ≤ x1 ∧ x1 < 12) ∧
   D 9 [.inl x1, .inl (M 14 x1)] M (ri_ fun v1 M1 =>
   (0 ≤ v1 ∧ v1 < 360) ∧
    (0 ≤ w32 (v1 + 1) ∧ w32 (v1 + 1) < 360) ∧
    (0 ≤ w32 (v1 + 2) ∧ w32 (v1 + 2) < 360) ∧
    (0 ≤ w32 (v1 + 3) ∧ w32 (v1 + 3) < 360) ∧
    (0 ≤ w32 (v1 + 4) ∧ w32 (v1 + 4) < 360) ∧
    (0 ≤ x1 ∧ x1 < 12) ∧
    (0 ≤ x1 ∧ x1 < 12) ∧
    Qr [] (up_ (up_ (up_ (up_ (up_ (up_ M1 15 v1 x2) 15 (w32 (v1 + 1)) x3) 15 (w32 (v1 + 2)) x4) 15 (w32 (v1 + 3)) x5) 15 (w32 (v1 + 4)) x6) 14 x1 (w32 ((M1 14 x1) + 1)))) Qt)) : V 0 [rr 0, ii x1, ii x2, ii x3, ii x4, ii x5, ii x6, none] [] M := bx_go hD hV hW [] 55 h
/-- X0_item(II)I -/
theorem b_9_0 {D : ca_} {V : vv_} {Qr : qr_} {Qt : qt_} (hD : Mo_ D) (hV : Cl_ wd0 D V Qr Qt m_9) (hW : Wk_ V) (x0 : Int) (x1 : Int) (M : mm_) (h :
 Qr [.inl (w32 (5 * (w32 ((w32 (6 * x0)) + x1))))] M) : V 0 [ii x0, ii x1] [] M := bx_go hD hV hW [] 8 h
/-- X0_rings(II)V -/
theorem b_10_0 {D : ca_} {V : vv_} {Qr : qr_} {Qt : qt_} (hD : Mo_ D) (hV : Cl_ wd0 D V Qr Qt m_10) (hW : Wk_ V) (x1 : Int) (x2 : Int) (M : mm_) (h :
 ((0 ≤ w32 ((w32 (3 * x1)) + x2) ∧ w32 ((w32 (3 * x1)) + x2) < 36) ∧ bl_ 0) ∧
  (0 ≤ x1 ∧ x1 < 12) ∧
  (0 ≤ x1 ∧ x1 < 12) ∧
  D 5 [.inr (.inr 0), .inl 8, .inl (M 10 x1), .inl (w32 (100 + x2)), .inl (M 10 x1)] (up_ M 16 (w32 ((w32 (3 * x1)) + x2)) 0) (rv_ fun M1 =>
  (0 ≤ x1 ∧ x1 < 12) ∧
   D 8 [.inr (.inr 0), .inl x1, .inl (w32 (100 + x2)), .inl (M1 10 x1), .inl 0, .inl 0, .inl 0] M1 (rv_ fun M2 =>
   Qr [] M2) Qt) Qt) : V 0 [rr 0, ii x1, ii x2] [] M := bx_go hD hV hW [] 37 h
/-- X0_nextReady()I -/
theorem b_11_0 {D : ca_} {V : vv_} {Qr : qr_} {Qt : qt_} (hD : Mo_ D) (hV : Cl_ wd0 D V Qr Qt m_11) (hW : Wk_ V)  (M : mm_) (h :
 V 2 [rr 0, ii 0, none, none] [] M) : V 0 [rr 0, none, none, none] [] M := bx_go hD hV hW [(2, [2, 3]), (31, [3])] 3 h
theorem b_11_2 {D : ca_} {V : vv_} {Qr : qr_} {Qt : qt_} (hD : Mo_ D) (hV : Cl_ wd0 D V Qr Qt m_11) (hW : Wk_ V) (x1 : Int) (M : mm_) (h :
 (if x1 < M 0 7 then
  (0 ≤ x1 ∧ x1 < 12) ∧
   (if M 10 x1 ≤ M 0 11 then
   V 2 [rr 0, ii (w32 (x1 + 1)), none, none] [] M
  else
   V 31 [rr 0, ii x1, ii 0, none] [] M)
 else
  V 31 [rr 0, ii x1, ii 0, none] [] M)) : V 2 [rr 0, ii x1, none, none] [] M := bx_go hD hV hW [(2, [2, 3]), (31, [3])] 14 h
theorem i_11 : inq_ 0 k_11 = true := by decide +kernel
theorem z_11_17 : Sf_ k_11 g_11_17 := Sf_of i_11 17 rfl
theorem b_11_31 {D : ca_} {V : vv_} {Qr : qr_} {Qt : qt_} (hD : Mo_ D) (hV : Cl_ wd0 D V Qr Qt m_11) (hW : Wk_ V) (x1 : Int) (x2 : Int) (M : mm_) (h :
 (if x2 < M 0 7 then
  (M 0 7) ≠ 0 ∧ D 12 [.inr (.inr 0), .inl (Int.tmod (w32 (x1 + x2)) (M 0 7))] M (ri_ fun v1 M1 =>
   (if v1 = 0 then
    V 31 [rr 0, ii x1, ii (w32 (x2 + 1)), none] [] M1
   else
    Qr [.inl (Int.tmod (w32 (x1 + x2)) (M 0 7))] M1)) Qt
 else
  Qr [.inl ((-1))] M)) : V 31 [rr 0, ii x1, ii x2, none] [] M := bx_go hD (m := (g_11_17, m_11.2)) (Cl_sf z_11_17 hV) hW [(2, [2, 3]), (31, [3])] 18 h
/-- X0_would(I)I -/
theorem b_12_0 {D : ca_} {V : vv_} {Qr : qr_} {Qt : qt_} (hD : Mo_ D) (hV : Cl_ wd0 D V Qr Qt m_12) (hW : Wk_ V) (x1 : Int) (M : mm_) (h :
 (0 ≤ x1 ∧ x1 < 12) ∧
  (if M 12 x1 = (-1) then
  Qr [.inl 1] (up_ (up_ M 0 41 ((-1))) 0 42 ((-1)))
 else
  V 24 [rr 0, ii x1, ii 0, none] [] (up_ (up_ M 0 41 ((-1))) 0 42 ((-1))))) : V 0 [rr 0, ii x1, none, none] [] M := bx_go hD hV hW [(24, [3]), (130, [3]), (228, [3])] 15 h
theorem i_12 : inq_ 0 k_12 = true := by decide +kernel
theorem z_12_16 : Sf_ k_12 g_12_16 := Sf_of i_12 16 rfl
theorem b_12_24 {D : ca_} {V : vv_} {Qr : qr_} {Qt : qt_} (hD : Mo_ D) (hV : Cl_ wd0 D V Qr Qt m_12) (hW : Wk_ V) (x1 : Int) (x2 : Int) (M : mm_) (h :
 (0 ≤ x1 ∧ x1 < 12) ∧
  (if x2 < M 14 x1 then
  D 9 [.inl x1, .inl x2] M (ri_ fun v1 M1 =>
   (0 ≤ v1 ∧ v1 < 360) ∧
    D 13 [.inr (.inr 0), .inl x1, .inl (M1 15 v1)] M1 (ri_ fun v2 M2 =>
    (if v2 = (-1) then
     (if v2 = (-1) then
      Qr [.inl 3] (up_ (up_ M2 0 41 x2) 0 42 v2)
     else
      Qr [.inl 2] (up_ (up_ M2 0 41 x2) 0 42 v2))
    else
     (0 ≤ v2 ∧ v2 < 600) ∧
      (if M2 100 v2 = 1 then
      V 24 [rr 0, ii x1, ii (w32 (x2 + 1)), none] [] M2
     else
      (0 ≤ v2 ∧ v2 < 600) ∧
       (if M2 106 v2 = (-1) then
       (if v2 = (-1) then
        Qr [.inl 3] (up_ (up_ M2 0 41 x2) 0 42 v2)
       else
        Qr [.inl 2] (up_ (up_ M2 0 41 x2) 0 42 v2))
      else
       (0 ≤ v2 ∧ v2 < 600) ∧
        D 14 [.inr (.inr 0), .inl x1, .inl (M2 106 v2)] M2 (ri_ fun v3 M3 =>
        (if v3 = 0 then
         V 24 [rr 0, ii x1, ii (w32 (x2 + 1)), none] [] M3
        else
         (if v2 = (-1) then
          Qr [.inl 3] (up_ (up_ M3 0 41 x2) 0 42 v2)
         else
          Qr [.inl 2] (up_ (up_ M3 0 41 x2) 0 42 v2)))) Qt)))) Qt) Qt
 else
  V 130 [rr 0, ii x1, ii 0, none] [] M)) : V 24 [rr 0, ii x1, ii x2, none] [] M := bx_go hD (m := (g_12_16, m_12.2)) (Cl_sf z_12_16 hV) hW [(24, [3]), (130, [3]), (228, [3])] 54 h
theorem z_12_76 : Sf_ k_12 g_12_76 := Sf_tr z_12_16 60 rfl
theorem b_12_130 {D : ca_} {V : vv_} {Qr : qr_} {Qt : qt_} (hD : Mo_ D) (hV : Cl_ wd0 D V Qr Qt m_12) (hW : Wk_ V) (x1 : Int) (x2 : Int) (M : mm_) (h :
 (if x2 < M 4 4 then
  (0 ≤ x2 ∧ x2 < 600) ∧
   (0 ≤ x1 ∧ x1 < 12) ∧
   (if M 101 x2 = M 11 x1 then
   (0 ≤ x2 ∧ x2 < 600) ∧
    (if M 100 x2 = 2 then
    (0 ≤ x2 ∧ x2 < 600) ∧
     (0 ≤ x1 ∧ x1 < 12) ∧
     (if an_ (sr_ (M 102 x2) (M 12 x1)) 1 = 0 then
     V 130 [rr 0, ii x1, ii (w32 (x2 + 1)), none] [] M
    else
     (if M 0 42 = (-1) then
      V 228 [rr 0, ii x1, ii x2, none] [] M
     else
      (0 ≤ x2 ∧ x2 < 600) ∧
       (0 ≤ M 0 42 ∧ M 0 42 < 600) ∧
       (if M 107 x2 < M 107 (M 0 42) then
       V 228 [rr 0, ii x1, ii x2, none] [] M
      else
       V 130 [rr 0, ii x1, ii (w32 (x2 + 1)), none] [] M)))
   else
    V 130 [rr 0, ii x1, ii (w32 (x2 + 1)), none] [] M)
  else
   V 130 [rr 0, ii x1, ii (w32 (x2 + 1)), none] [] M)
 else
  (if M 0 42 = (-1) then
   Qr [.inl 0] M
  else
   Qr [.inl 4] M))) : V 130 [rr 0, ii x1, ii x2, none] [] M := bx_go hD (m := (g_12_76, m_12.2)) (Cl_sf z_12_76 hV) hW [(24, [3]), (130, [3]), (228, [3])] 54 h
theorem z_12_128 : Sf_ k_12 g_12_128 := Sf_tr z_12_76 52 rfl
theorem b_12_228 {D : ca_} {V : vv_} {Qr : qr_} {Qt : qt_} (hD : Mo_ D) (hV : Cl_ wd0 D V Qr Qt m_12) (hW : Wk_ V) (x1 : Int) (x2 : Int) (M : mm_) (h :
 (0 ≤ x2 ∧ x2 < 600) ∧
  D 14 [.inr (.inr 0), .inl x1, .inl (M 106 x2)] M (ri_ fun v1 M1 =>
  (if v1 = 0 then
   V 130 [rr 0, ii x1, ii (w32 (x2 + 1)), none] [] M1
  else
   V 130 [rr 0, ii x1, ii (w32 (x2 + 1)), none] [] (up_ M1 0 42 x2))) Qt) : V 228 [rr 0, ii x1, ii x2, none] [] M := bx_go hD (m := (g_12_128, m_12.2)) (Cl_sf z_12_128 hV) hW [(24, [3]), (130, [3]), (228, [3])] 15 h
/-- X0_stimOf(II)I -/
theorem b_13_0 {D : ca_} {V : vv_} {Qr : qr_} {Qt : qt_} (hD : Mo_ D) (hV : Cl_ wd0 D V Qr Qt m_13) (hW : Wk_ V) (x1 : Int) (x2 : Int) (M : mm_) (h :
 V 5 [rr 0, ii x1, ii x2, ii ((-1)), ii 0] [] M) : V 0 [rr 0, ii x1, ii x2, none, none] [] M := bx_go hD hV hW [(5, [])] 5 h
theorem b_13_5 {D : ca_} {V : vv_} {Qr : qr_} {Qt : qt_} (hD : Mo_ D) (hV : Cl_ wd0 D V Qr Qt m_13) (hW : Wk_ V) (x1 : Int) (x2 : Int) (x3 : Int) (x4 : Int) (M : mm_) (h :
 (if x4 < M 4 4 then
  (0 ≤ x4 ∧ x4 < 600) ∧
   (0 ≤ x1 ∧ x1 < 12) ∧
   (if M 101 x4 = M 11 x1 then
   (0 ≤ x4 ∧ x4 < 600) ∧
    (if M 100 x4 ≤ 1 then
    (0 ≤ x4 ∧ x4 < 600) ∧
     (0 ≤ x1 ∧ x1 < 12) ∧
     (if an_ (sr_ (M 102 x4) (M 12 x1)) 1 = 0 then
     V 5 [rr 0, ii x1, ii x2, ii x3, ii (w32 (x4 + 1))] [] M
    else
     (0 ≤ x4 ∧ x4 < 600) ∧
      (if M 103 x4 = x2 then
      Qr [.inl x4] M
     else
      (0 ≤ x4 ∧ x4 < 600) ∧
       (if M 103 x4 = 200 then
       V 5 [rr 0, ii x1, ii x2, ii x4, ii (w32 (x4 + 1))] [] M
      else
       V 5 [rr 0, ii x1, ii x2, ii x3, ii (w32 (x4 + 1))] [] M)))
   else
    V 5 [rr 0, ii x1, ii x2, ii x3, ii (w32 (x4 + 1))] [] M)
  else
   V 5 [rr 0, ii x1, ii x2, ii x3, ii (w32 (x4 + 1))] [] M)
 else
  Qr [.inl x3] M)) : V 5 [rr 0, ii x1, ii x2, ii x3, ii x4] [] M := bx_go hD hV hW [(5, [])] 54 h
/-- X0_holds(II)Z -/
theorem b_14_0 {D : ca_} {V : vv_} {Qr : qr_} {Qt : qt_} (hD : Mo_ D) (hV : Cl_ wd0 D V Qr Qt m_14) (hW : Wk_ V) (x1 : Int) (x2 : Int) (M : mm_) (h :
 D 15 [.inr (.inr 0), .inl x2] (up_ (up_ M 0 45 0) 0 46 x1) (ri_ fun v1 M1 =>
  (0 ≤ (0 : Int) ∧ (0 : Int) < 64) ∧
   (if M1 26 0 = 0 then
   bl_ 0 ∧ Qr [.inl 0] M1
  else
   bl_ 1 ∧ Qr [.inl 1] M1)) (fun r M9 => (r = 7 ∨ r = 8) ∧ V 31 [rr 0, ii x1, ii x2, none] [.inr (.inr r)] M9)) : V 0 [rr 0, ii x1, ii x2, none] [] M := bx_go hD hV hW [(31, [3])] 18 h
theorem b_14_31_7 {D : ca_} {V : vv_} {Qr : qr_} {Qt : qt_} (hD : Mo_ D) (hV : Cl_ wd0 D V Qr Qt m_14) (hW : Wk_ V) (x1 : Int) (x2 : Int) (M : mm_) (h :
 bl_ 0 ∧ Qr [.inl 0] M) : V 31 [rr 0, ii x1, ii x2, none] [.inr (.inr 7)] M := bx_go hD hV hW [(31, [3])] 3 h
theorem b_14_31_8 {D : ca_} {V : vv_} {Qr : qr_} {Qt : qt_} (hD : Mo_ D) (hV : Cl_ wd0 D V Qr Qt m_14) (hW : Wk_ V) (x1 : Int) (x2 : Int) (M : mm_) (h :
 bl_ 0 ∧ Qr [.inl 0] M) : V 31 [rr 0, ii x1, ii x2, none] [.inr (.inr 8)] M := bx_go hD hV hW [(31, [3])] 3 h
/-- X0_works(I)I -/
theorem b_15_0 {D : ca_} {V : vv_} {Qr : qr_} {Qt : qt_} (hD : Mo_ D) (hV : Cl_ wd0 D V Qr Qt m_15) (hW : Wk_ V) (x1 : Int) (M : mm_) (h :
 V 10 [rr 0, ii x1, rr 109, ii x1, none, none] [] M) : V 0 [rr 0, ii x1, none, none, none, none] [] M := bx_go hD hV hW [(10, [4, 5]), (365, [5])] 7 h
theorem i_15 : inq_ 0 k_15 = true := by decide +kernel
theorem z_15_6 : Sf_ k_15 g_15_6 := Sf_of i_15 6 rfl
theorem b_15_10 {D : ca_} {V : vv_} {Qr : qr_} {Qt : qt_} (hD : Mo_ D) (hV : Cl_ wd0 D V Qr Qt m_15) (hW : Wk_ V) (x1 : Int) (x3 : Int) (M : mm_) (h :
 (0 ≤ x3 ∧ x3 < 12000) ∧
  (if M 109 x3 < 25 then
  (if M 109 x3 = 0 then (0 ≤ w32 (x3 + 1) ∧ w32 (x3 + 1) < 12000) ∧
    D 16 [.inr (.inr 0), .inl (M 109 (w32 (x3 + 1)))] M (rv_ fun M43 =>
    V 365 [rr 0, ii x1, rr 109, ii x3, ii (M 109 x3), none] [] M43) Qt else
  (if M 109 x3 = 1 then (0 ≤ M 0 46 ∧ M 0 46 < 12) ∧
    D 16 [.inr (.inr 0), .inl (M 10 (M 0 46))] M (rv_ fun M42 =>
    V 365 [rr 0, ii x1, rr 109, ii x3, ii (M 109 x3), none] [] M42) Qt else
  (if M 109 x3 = 2 then (0 ≤ M 0 46 ∧ M 0 46 < 12) ∧
    D 16 [.inr (.inr 0), .inl (M 18 (M 0 46))] M (rv_ fun M41 =>
    V 365 [rr 0, ii x1, rr 109, ii x3, ii (M 109 x3), none] [] M41) Qt else
  (if M 109 x3 = 3 then (0 ≤ M 0 46 ∧ M 0 46 < 12) ∧
    D 16 [.inr (.inr 0), .inl (M 19 (M 0 46))] M (rv_ fun M40 =>
    V 365 [rr 0, ii x1, rr 109, ii x3, ii (M 109 x3), none] [] M40) Qt else
  (if M 109 x3 = 4 then (0 ≤ M 0 46 ∧ M 0 46 < 12) ∧
    D 16 [.inr (.inr 0), .inl (M 20 (M 0 46))] M (rv_ fun M39 =>
    V 365 [rr 0, ii x1, rr 109, ii x3, ii (M 109 x3), none] [] M39) Qt else
  (if M 109 x3 = 5 then D 16 [.inr (.inr 0), .inl (M 0 9)] M (rv_ fun M38 =>
    V 365 [rr 0, ii x1, rr 109, ii x3, ii (M 109 x3), none] [] M38) Qt else
  (if M 109 x3 = 6 then (0 ≤ M 0 46 ∧ M 0 46 < 12) ∧
    D 16 [.inr (.inr 0), .inl (M 14 (M 0 46))] M (rv_ fun M37 =>
    V 365 [rr 0, ii x1, rr 109, ii x3, ii (M 109 x3), none] [] M37) Qt else
  (if M 109 x3 = 7 then (0 ≤ w32 (x3 + 1) ∧ w32 (x3 + 1) < 12000) ∧
    D 17 [.inr (.inr 0), .inl (M 109 (w32 (x3 + 1)))] M (ri_ fun v24 M34 =>
    (if v24 = 0 then
     D 16 [.inr (.inr 0), .inl 0] M34 (rv_ fun M35 =>
      V 365 [rr 0, ii x1, rr 109, ii x3, ii (M 109 x3), none] [] M35) Qt
    else
     D 16 [.inr (.inr 0), .inl 1] M34 (rv_ fun M36 =>
      V 365 [rr 0, ii x1, rr 109, ii x3, ii (M 109 x3), none] [] M36) Qt)) Qt else
  (if M 109 x3 = 8 then (0 ≤ w32 (x3 + 1) ∧ w32 (x3 + 1) < 12000) ∧
    (0 ≤ w32 ((w32 (16 * (M 0 46))) + (M 109 (w32 (x3 + 1)))) ∧ w32 ((w32 (16 * (M 0 46))) + (M 109 (w32 (x3 + 1)))) < 192) ∧
    D 16 [.inr (.inr 0), .inl (M 13 (w32 ((w32 (16 * (M 0 46))) + (M 109 (w32 (x3 + 1))))))] M (rv_ fun M33 =>
    V 365 [rr 0, ii x1, rr 109, ii x3, ii (M 109 x3), none] [] M33) Qt else
  (if M 109 x3 = 9 then D 18 [.inr (.inr 0)] M (ri_ fun v21 M29 =>
    (if v21 < 0 then
     D 19 [.inr (.inr 0), .inl 1] M29 (rf_r fun v22 M30 =>
      (if v22 = 1999 then False else Qt v22 M30)) Qt
    else
     (0 ≤ w32 (x3 + 2) ∧ w32 (x3 + 2) < 12000) ∧
      (if v21 < M29 109 (w32 (x3 + 2)) then
      (0 ≤ w32 (x3 + 1) ∧ w32 (x3 + 1) < 12000) ∧
       (0 ≤ w32 ((w32 ((w32 (16 * (M29 0 46))) + (M29 109 (w32 (x3 + 1))))) + v21) ∧ w32 ((w32 ((w32 (16 * (M29 0 46))) + (M29 109 (w32 (x3 + 1))))) + v21) < 192) ∧
       D 16 [.inr (.inr 0), .inl (M29 13 (w32 ((w32 ((w32 (16 * (M29 0 46))) + (M29 109 (w32 (x3 + 1))))) + v21)))] M29 (rv_ fun M31 =>
       V 365 [rr 0, ii x1, rr 109, ii x3, ii (M 109 x3), none] [] M31) Qt
     else
      D 19 [.inr (.inr 0), .inl 1] M29 (rf_r fun v23 M32 =>
       (if v23 = 1999 then False else Qt v23 M32)) Qt))) Qt else
  (if M 109 x3 = 10 then D 18 [.inr (.inr 0)] M (ri_ fun v18 M25 =>
    D 18 [.inr (.inr 0)] M25 (ri_ fun v19 M26 =>
     D 20 [.inr (.inr 0), .inl (M 109 x3), .inl v19, .inl v18] M26 (ri_ fun v20 M27 =>
      D 16 [.inr (.inr 0), .inl v20] M27 (rv_ fun M28 =>
       V 365 [rr 0, ii x1, rr 109, ii x3, ii (M 109 x3), none] [] M28) Qt) Qt) Qt) Qt else
  (if M 109 x3 = 11 then D 18 [.inr (.inr 0)] M (ri_ fun v15 M21 =>
    D 18 [.inr (.inr 0)] M21 (ri_ fun v16 M22 =>
     D 20 [.inr (.inr 0), .inl (M 109 x3), .inl v16, .inl v15] M22 (ri_ fun v17 M23 =>
      D 16 [.inr (.inr 0), .inl v17] M23 (rv_ fun M24 =>
       V 365 [rr 0, ii x1, rr 109, ii x3, ii (M 109 x3), none] [] M24) Qt) Qt) Qt) Qt else
  (if M 109 x3 = 12 then D 18 [.inr (.inr 0)] M (ri_ fun v12 M17 =>
    D 18 [.inr (.inr 0)] M17 (ri_ fun v13 M18 =>
     D 20 [.inr (.inr 0), .inl (M 109 x3), .inl v13, .inl v12] M18 (ri_ fun v14 M19 =>
      D 16 [.inr (.inr 0), .inl v14] M19 (rv_ fun M20 =>
       V 365 [rr 0, ii x1, rr 109, ii x3, ii (M 109 x3), none] [] M20) Qt) Qt) Qt) Qt else
  (if M 109 x3 = 13 then D 18 [.inr (.inr 0)] M (ri_ fun v9 M13 =>
    D 18 [.inr (.inr 0)] M13 (ri_ fun v10 M14 =>
     D 20 [.inr (.inr 0), .inl (M 109 x3), .inl v10, .inl v9] M14 (ri_ fun v11 M15 =>
      D 16 [.inr (.inr 0), .inl v11] M15 (rv_ fun M16 =>
       V 365 [rr 0, ii x1, rr 109, ii x3, ii (M 109 x3), none] [] M16) Qt) Qt) Qt) Qt else
  (if M 109 x3 = 14 then D 18 [.inr (.inr 0)] M (ri_ fun v6 M9 =>
    D 18 [.inr (.inr 0)] M9 (ri_ fun v7 M10 =>
     D 20 [.inr (.inr 0), .inl (M 109 x3), .inl v7, .inl v6] M10 (ri_ fun v8 M11 =>
      D 16 [.inr (.inr 0), .inl v8] M11 (rv_ fun M12 =>
       V 365 [rr 0, ii x1, rr 109, ii x3, ii (M 109 x3), none] [] M12) Qt) Qt) Qt) Qt else
  (if M 109 x3 = 15 then D 18 [.inr (.inr 0)] M (ri_ fun v5 M7 =>
    D 16 [.inr (.inr 0), .inl (w32 (-v5))] M7 (rv_ fun M8 =>
     V 365 [rr 0, ii x1, rr 109, ii x3, ii (M 109 x3), none] [] M8) Qt) Qt else
  (if M 109 x3 = 16 then D 18 [.inr (.inr 0)] M (ri_ fun v4 M5 =>
    D 16 [.inr (.inr 0), .inl (w32 (1 - v4))] M5 (rv_ fun M6 =>
     V 365 [rr 0, ii x1, rr 109, ii x3, ii (M 109 x3), none] [] M6) Qt) Qt else
  D 18 [.inr (.inr 0)] M (ri_ fun v1 M1 =>
    D 18 [.inr (.inr 0)] M1 (ri_ fun v2 M2 =>
     D 20 [.inr (.inr 0), .inl (M 109 x3), .inl v2, .inl v1] M2 (ri_ fun v3 M3 =>
      D 16 [.inr (.inr 0), .inl v3] M3 (rv_ fun M4 =>
       V 365 [rr 0, ii x1, rr 109, ii x3, ii (M 109 x3), none] [] M4) Qt) Qt) Qt) Qt)))))))))))))))))
 else
  Qr [.inl x3] M)) : V 10 [rr 0, ii x1, rr 109, ii x3, none, none] [] M := bx_go hD (m := (g_15_6, m_15.2)) (Cl_sf z_15_6 hV) hW [(10, [4, 5]), (365, [5])] 40 h
theorem z_15_159 : Sf_ k_15 g_15_159 := Sf_tr z_15_6 153 rfl
theorem b_15_365 {D : ca_} {V : vv_} {Qr : qr_} {Qt : qt_} (hD : Mo_ D) (hV : Cl_ wd0 D V Qr Qt m_15) (hW : Wk_ V) (x1 : Int) (x3 : Int) (x4 : Int) (M : mm_) (h :
 (if x4 = 9 then
  V 10 [rr 0, ii x1, rr 109, ii (w32 (x3 + 3)), none, none] [] M
 else
  (if x4 = 0 then
   V 10 [rr 0, ii x1, rr 109, ii (w32 (x3 + 2)), none, none] [] M
  else
   (if x4 = 7 then
    V 10 [rr 0, ii x1, rr 109, ii (w32 (x3 + 2)), none, none] [] M
   else
    (if x4 = 8 then
     V 10 [rr 0, ii x1, rr 109, ii (w32 (x3 + 2)), none, none] [] M
    else
     V 10 [rr 0, ii x1, rr 109, ii (w32 (x3 + 1)), none, none] [] M))))) : V 365 [rr 0, ii x1, rr 109, ii x3, ii x4, none] [] M := bx_go hD (m := (g_15_159, m_15.2)) (Cl_sf z_15_159 hV) hW [(10, [4, 5]), (365, [5])] 18 h
/-- X0_push(I)V -/
theorem b_16_0 {D : ca_} {V : vv_} {Qr : qr_} {Qt : qt_} (hD : Mo_ D) (hV : Cl_ wd0 D V Qr Qt m_16) (hW : Wk_ V) (x1 : Int) (M : mm_) (h :
 (0 ≤ M 0 45 ∧ M 0 45 < 64) ∧
  Qr [] (up_ (up_ M 26 (M 0 45) x1) 0 45 (w32 ((M 0 45) + 1)))) : V 0 [rr 0, ii x1] [] M := bx_go hD hV hW [] 13 h
/-- X0_isActive(I)Z -/
theorem b_17_0 {D : ca_} {V : vv_} {Qr : qr_} {Qt : qt_} (hD : Mo_ D) (hV : Cl_ wd0 D V Qr Qt m_17) (hW : Wk_ V) (x1 : Int) (M : mm_) (h :
 (0 ≤ w32 ((w32 (3 * (M 0 46))) + x1) ∧ w32 ((w32 (3 * (M 0 46))) + x1) < 36) ∧ (bl_ (M 16 (w32 ((w32 (3 * (M 0 46))) + x1))) →
  V 16 [rr 0, ii x1, ii (M 16 (w32 ((w32 (3 * (M 0 46))) + x1))), ii 0] [] M)) : V 0 [rr 0, ii x1, none, none] [] M := bx_go hD hV hW [(16, [])] 13 h
theorem i_17 : inq_ 0 k_17 = true := by decide +kernel
theorem z_17_12 : Sf_ k_17 g_17_12 := Sf_of i_17 12 rfl
theorem b_17_16 {D : ca_} {V : vv_} {Qr : qr_} {Qt : qt_} (hD : Mo_ D) (hV : Cl_ wd0 D V Qr Qt m_17) (hW : Wk_ V) (x1 : Int) (x2 : Int) (x3 : Int) (M : mm_) (h :
 (0 ≤ M 0 46 ∧ M 0 46 < 12) ∧
  (if x3 < M 14 (M 0 46) then
  (if x2 = 0 then
   D 9 [.inl (M 0 46), .inl x3] M (ri_ fun v1 M1 =>
    (0 ≤ v1 ∧ v1 < 360) ∧
     (if M1 15 v1 = w32 (100 + x1) then
     V 16 [rr 0, ii x1, ii 1, ii (w32 (x3 + 1))] [] M1
    else
     V 16 [rr 0, ii x1, ii 0, ii (w32 (x3 + 1))] [] M1)) Qt
  else
   bl_ x2 ∧ Qr [.inl x2] M)
 else
  bl_ x2 ∧ Qr [.inl x2] M)) : V 16 [rr 0, ii x1, ii x2, ii x3] [] M := bx_go hD (m := (g_17_12, m_17.2)) (Cl_sf z_17_12 hV) hW [(16, [])] 26 h
/-- X0_pop()I -/
theorem b_18_0 {D : ca_} {V : vv_} {Qr : qr_} {Qt : qt_} (hD : Mo_ D) (hV : Cl_ wd0 D V Qr Qt m_18) (hW : Wk_ V)  (M : mm_) (h :
 (0 ≤ w32 ((M 0 45) - 1) ∧ w32 ((M 0 45) - 1) < 64) ∧
  Qr [.inl (M 26 (w32 ((M 0 45) - 1)))] (up_ M 0 45 (w32 ((M 0 45) - 1)))) : V 0 [rr 0] [] M := bx_go hD hV hW [] 12 h
/-- X0_fails(I)Ljava/lang/IllegalStateException; -/
theorem b_19_0 {D : ca_} {V : vv_} {Qr : qr_} {Qt : qt_} (hD : Mo_ D) (hV : Cl_ wd0 D V Qr Qt m_19) (hW : Wk_ V) (x1 : Int) (M : mm_) (h :
 Qr [.inr (.inr 7)] (up_ M 0 49 x1)) : V 0 [rr 0, ii x1] [] M := bx_go hD hV hW [] 6 h
/-- X0_both(III)I -/
theorem b_20_0 {D : ca_} {V : vv_} {Qr : qr_} {Qt : qt_} (hD : Mo_ D) (hV : Cl_ wd0 D V Qr Qt m_20) (hW : Wk_ V) (x1 : Int) (x2 : Int) (x3 : Int) (M : mm_) (h :
 (if x1 = 10 then Qr [.inl (w32 (x2 + x3))] M else
 (if x1 = 11 then Qr [.inl (w32 (x2 - x3))] M else
 (if x1 = 12 then Qr [.inl (w32 (x2 * x3))] M else
 (if x1 = 13 then (if x3 = 0 then
   D 19 [.inr (.inr 0), .inl 2] M (rf_r fun v2 M2 =>
    (if v2 = 1999 then False else Qt v2 M2)) Qt
  else
   (if x1 = 13 then
    x3 ≠ 0 ∧ Qr [.inl (w32 (Int.tdiv x2 x3))] M
   else
    x3 ≠ 0 ∧ Qr [.inl (Int.tmod x2 x3)] M)) else
 (if x1 = 14 then (if x3 = 0 then
   D 19 [.inr (.inr 0), .inl 2] M (rf_r fun v1 M1 =>
    (if v1 = 1999 then False else Qt v1 M1)) Qt
  else
   (if x1 = 13 then
    x3 ≠ 0 ∧ Qr [.inl (w32 (Int.tdiv x2 x3))] M
   else
    x3 ≠ 0 ∧ Qr [.inl (Int.tmod x2 x3)] M)) else
 (if x1 = 15 then (if x2 < x3 then
   Qr [.inl 0] M
  else
   Qr [.inl 1] M) else
 (if x1 = 16 then (if x2 < x3 then
   Qr [.inl 0] M
  else
   Qr [.inl 1] M) else
 (if x1 = 17 then Qr [.inl (an_ x2 x3)] M else
 (if x1 = 18 then Qr [.inl (or_ x2 x3)] M else
 (if x1 = 19 then (if x2 = x3 then
   Qr [.inl 1] M
  else
   Qr [.inl 0] M) else
 (if x1 = 20 then (if x2 = x3 then
   Qr [.inl 0] M
  else
   Qr [.inl 1] M) else
 (if x1 = 21 then (if x2 < x3 then
   Qr [.inl 1] M
  else
   Qr [.inl 0] M) else
 (if x1 = 22 then (if x2 ≤ x3 then
   Qr [.inl 1] M
  else
   Qr [.inl 0] M) else
 (if x1 = 23 then (if x2 ≤ x3 then
   Qr [.inl 0] M
  else
   Qr [.inl 1] M) else
 (if x2 < x3 then
   Qr [.inl 0] M
  else
   Qr [.inl 1] M)))))))))))))))) : V 0 [rr 0, ii x1, ii x2, ii x3] [] M := bx_go hD hV hW [] 12 h
/-- X0_nextTime()I -/
theorem b_21_0 {D : ca_} {V : vv_} {Qr : qr_} {Qt : qt_} (hD : Mo_ D) (hV : Cl_ wd0 D V Qr Qt m_21) (hW : Wk_ V)  (M : mm_) (h :
 V 4 [rr 0, ii ((-1)), ii 0, none, none] [] M) : V 0 [rr 0, none, none, none, none] [] M := bx_go hD hV hW [(4, [3, 4]), (66, [3, 4]), (76, [4])] 5 h
theorem b_21_4 {D : ca_} {V : vv_} {Qr : qr_} {Qt : qt_} (hD : Mo_ D) (hV : Cl_ wd0 D V Qr Qt m_21) (hW : Wk_ V) (x1 : Int) (x2 : Int) (M : mm_) (h :
 (if x2 < M 4 1 then
  (0 ≤ x2 ∧ x2 < 10) ∧
   (if M 21 x2 ≤ 0 then
   V 4 [rr 0, ii x1, ii (w32 (x2 + 1)), none, none] [] M
  else
   (if x1 = (-1) then
    D 2 [.inl x2, .inl 0] M (ri_ fun v1 M1 =>
     (0 ≤ w32 (v1 + 3) ∧ w32 (v1 + 3) < 420) ∧
      V 4 [rr 0, ii (M1 22 (w32 (v1 + 3))), ii (w32 (x2 + 1)), none, none] [] M1) Qt
   else
    D 2 [.inl x2, .inl 0] M (ri_ fun v2 M2 =>
     (0 ≤ w32 (v2 + 3) ∧ w32 (v2 + 3) < 420) ∧
      (if M2 22 (w32 (v2 + 3)) < x1 then
      D 2 [.inl x2, .inl 0] M2 (ri_ fun v3 M3 =>
       (0 ≤ w32 (v3 + 3) ∧ w32 (v3 + 3) < 420) ∧
        V 4 [rr 0, ii (M3 22 (w32 (v3 + 3))), ii (w32 (x2 + 1)), none, none] [] M3) Qt
     else
      V 4 [rr 0, ii x1, ii (w32 (x2 + 1)), none, none] [] M2)) Qt))
 else
  V 66 [rr 0, ii x1, ii 0, none, none] [] M)) : V 4 [rr 0, ii x1, ii x2, none, none] [] M := bx_go hD hV hW [(4, [3, 4]), (66, [3, 4]), (76, [4])] 35 h
theorem i_21 : inq_ 0 k_21 = true := by decide +kernel
theorem z_21_40 : Sf_ k_21 g_21_40 := Sf_of i_21 40 rfl
theorem b_21_66 {D : ca_} {V : vv_} {Qr : qr_} {Qt : qt_} (hD : Mo_ D) (hV : Cl_ wd0 D V Qr Qt m_21) (hW : Wk_ V) (x1 : Int) (x2 : Int) (M : mm_) (h :
 (if x2 < M 0 7 then
  V 76 [rr 0, ii x1, ii x2, ii 0, none] [] M
 else
  Qr [.inl x1] M)) : V 66 [rr 0, ii x1, ii x2, none, none] [] M := bx_go hD (m := (g_21_40, m_21.2)) (Cl_sf z_21_40 hV) hW [(4, [3, 4]), (66, [3, 4]), (76, [4])] 7 h
theorem z_21_46 : Sf_ k_21 g_21_46 := Sf_tr z_21_40 6 rfl
theorem b_21_76 {D : ca_} {V : vv_} {Qr : qr_} {Qt : qt_} (hD : Mo_ D) (hV : Cl_ wd0 D V Qr Qt m_21) (hW : Wk_ V) (x1 : Int) (x2 : Int) (x3 : Int) (M : mm_) (h :
 (if x3 < 3 then
  (0 ≤ w32 ((w32 (3 * x2)) + x3) ∧ w32 ((w32 (3 * x2)) + x3) < 36) ∧ (bl_ (M 16 (w32 ((w32 (3 * x2)) + x3))) →
   (if M 16 (w32 ((w32 (3 * x2)) + x3)) = 0 then
   V 76 [rr 0, ii x1, ii x2, ii (w32 (x3 + 1)), none] [] M
  else
   (if x1 = (-1) then
    (0 ≤ w32 ((w32 (3 * x2)) + x3) ∧ w32 ((w32 (3 * x2)) + x3) < 36) ∧
     V 76 [rr 0, ii (M 17 (w32 ((w32 (3 * x2)) + x3))), ii x2, ii (w32 (x3 + 1)), none] [] M
   else
    (0 ≤ w32 ((w32 (3 * x2)) + x3) ∧ w32 ((w32 (3 * x2)) + x3) < 36) ∧
     (if M 17 (w32 ((w32 (3 * x2)) + x3)) < x1 then
     (0 ≤ w32 ((w32 (3 * x2)) + x3) ∧ w32 ((w32 (3 * x2)) + x3) < 36) ∧
      V 76 [rr 0, ii (M 17 (w32 ((w32 (3 * x2)) + x3))), ii x2, ii (w32 (x3 + 1)), none] [] M
    else
     V 76 [rr 0, ii x1, ii x2, ii (w32 (x3 + 1)), none] [] M))))
 else
  V 66 [rr 0, ii x1, ii (w32 (x2 + 1)), none, none] [] M)) : V 76 [rr 0, ii x1, ii x2, ii x3, none] [] M := bx_go hD (m := (g_21_46, m_21.2)) (Cl_sf z_21_46 hV) hW [(4, [3, 4]), (66, [3, 4]), (76, [4])] 31 h
/-- X0_steps(I)V -/
theorem b_22_0 {D : ca_} {V : vv_} {Qr : qr_} {Qt : qt_} (hD : Mo_ D) (hV : Cl_ wd0 D V Qr Qt m_22) (hW : Wk_ V) (x1 : Int) (M : mm_) (h :
 D 12 [.inr (.inr 0), .inl x1] M (ri_ fun v1 M1 =>
  (0 ≤ x1 ∧ x1 < 12) ∧
   (if v1 = 1 then
   (0 ≤ x1 ∧ x1 < 12) ∧
    (0 ≤ M1 11 x1 ∧ M1 11 x1 < 6) ∧
    D 23 [.inr (.inr 0), .inl x1, .inl (M1 94 (M1 11 x1))] M1 (rv_ fun M4 =>
    Qr [] M4) Qt
  else
   (if v1 = 4 then
    (0 ≤ x1 ∧ x1 < 12) ∧
     (0 ≤ M1 0 42 ∧ M1 0 42 < 600) ∧
     D 23 [.inr (.inr 0), .inl x1, .inl (M1 108 (M1 0 42))] (up_ M1 18 x1 (M1 10 x1)) (rv_ fun M3 =>
     Qr [] M3) Qt
   else
    D 9 [.inl x1, .inl (M1 0 41)] M1 (ri_ fun v2 M2 =>
     (0 ≤ v2 ∧ v2 < 360) ∧
      (0 ≤ w32 (v2 + 1) ∧ w32 (v2 + 1) < 360) ∧
      V 117 [rr 0, ii x1, ii v1, ii (M1 10 x1), ii v2, ii (M2 15 v2), ii (M2 15 (w32 (v2 + 1))), ii (M2 0 42), rr 25, ii 0] [] M2) Qt))) Qt) : V 0 [rr 0, ii x1, none, none, none, none, none, none, none, none] [] M := bx_go hD hV hW [(117, []), (160, []), (233, [])] 41 h
theorem i_22 : inq_ 0 k_22 = true := by decide +kernel
theorem z_22_67 : Sf_ k_22 g_22_67 := Sf_of i_22 67 rfl
theorem b_22_117 {D : ca_} {V : vv_} {Qr : qr_} {Qt : qt_} (hD : Mo_ D) (hV : Cl_ wd0 D V Qr Qt m_22) (hW : Wk_ V) (x1 : Int) (x2 : Int) (x3 : Int) (x4 : Int) (x5 : Int) (x6 : Int) (x7 : Int) (x9 : Int) (M : mm_) (h :
 (if x9 < 3 then
  (0 ≤ w32 ((w32 (x4 + 2)) + x9) ∧ w32 ((w32 (x4 + 2)) + x9) < 360) ∧
   (0 ≤ x9 ∧ x9 < 3) ∧
   V 117 [rr 0, ii x1, ii x2, ii x3, ii x4, ii x5, ii x6, ii x7, rr 25, ii (w32 (x9 + 1))] [] (up_ M 25 x9 (M 15 (w32 ((w32 (x4 + 2)) + x9))))
 else
  (0 ≤ x1 ∧ x1 < 12) ∧
   (0 ≤ x1 ∧ x1 < 12) ∧
   V 160 [rr 0, ii x1, ii x2, ii x3, ii x4, ii x5, ii x6, ii x7, rr 25, ii x4] [] (up_ M 14 x1 (w32 ((M 14 x1) - 1))))) : V 117 [rr 0, ii x1, ii x2, ii x3, ii x4, ii x5, ii x6, ii x7, rr 25, ii x9] [] M := bx_go hD (m := (g_22_67, m_22.2)) (Cl_sf z_22_67 hV) hW [(117, []), (160, []), (233, [])] 17 h
theorem z_22_93 : Sf_ k_22 g_22_93 := Sf_tr z_22_67 26 rfl
theorem b_22_160 {D : ca_} {V : vv_} {Qr : qr_} {Qt : qt_} (hD : Mo_ D) (hV : Cl_ wd0 D V Qr Qt m_22) (hW : Wk_ V) (x1 : Int) (x2 : Int) (x3 : Int) (x4 : Int) (x5 : Int) (x6 : Int) (x7 : Int) (x9 : Int) (M : mm_) (h :
 (0 ≤ x1 ∧ x1 < 12) ∧
  D 9 [.inl x1, .inl (M 14 x1)] M (ri_ fun v1 M1 =>
  (if x9 < v1 then
   (0 ≤ w32 (x9 + 5) ∧ w32 (x9 + 5) < 360) ∧
    (0 ≤ x9 ∧ x9 < 360) ∧
    V 160 [rr 0, ii x1, ii x2, ii x3, ii x4, ii x5, ii x6, ii x7, rr 25, ii (w32 (x9 + 1))] [] (up_ M1 15 x9 (M1 15 (w32 (x9 + 5))))
  else
   (0 ≤ x1 ∧ x1 < 12) ∧
    (if x2 = 3 then
    D 7 [.inr (.inr 0), .inl x3, .inl x5, .inl x6] (up_ M1 18 x1 x6) (rv_ fun M3 =>
     Qr [] M3) Qt
   else
    D 5 [.inr (.inr 0), .inl 2, .inl x3, .inl x5, .inl x6] (up_ M1 18 x1 x6) (rv_ fun M2 =>
     V 233 [rr 0, ii x1, ii x2, ii x3, ii x4, ii x5, ii x6, ii x7, rr 25, ii 0] [] M2) Qt))) Qt) : V 160 [rr 0, ii x1, ii x2, ii x3, ii x4, ii x5, ii x6, ii x7, rr 25, ii x9] [] M := bx_go hD (m := (g_22_93, m_22.2)) (Cl_sf z_22_93 hV) hW [(117, []), (160, []), (233, [])] 25 h
theorem z_22_135 : Sf_ k_22 g_22_135 := Sf_tr z_22_93 42 rfl
theorem b_22_233 {D : ca_} {V : vv_} {Qr : qr_} {Qt : qt_} (hD : Mo_ D) (hV : Cl_ wd0 D V Qr Qt m_22) (hW : Wk_ V) (x1 : Int) (x2 : Int) (x3 : Int) (x4 : Int) (x5 : Int) (x6 : Int) (x7 : Int) (x9 : Int) (M : mm_) (h :
 (0 ≤ x7 ∧ x7 < 600) ∧
  (if x9 < M 105 x7 then
  (0 ≤ w32 ((w32 (3 * x7)) + x9) ∧ w32 ((w32 (3 * x7)) + x9) < 1800) ∧
   (0 ≤ x9 ∧ x9 < 3) ∧
   (0 ≤ w32 ((w32 (16 * x1)) + (M 104 (w32 ((w32 (3 * x7)) + x9)))) ∧ w32 ((w32 (16 * x1)) + (M 104 (w32 ((w32 (3 * x7)) + x9)))) < 192) ∧
   V 233 [rr 0, ii x1, ii x2, ii x3, ii x4, ii x5, ii x6, ii x7, rr 25, ii (w32 (x9 + 1))] [] (up_ M 13 (w32 ((w32 (16 * x1)) + (M 104 (w32 ((w32 (3 * x7)) + x9))))) (M 25 x9))
 else
  (0 ≤ x7 ∧ x7 < 600) ∧
   D 23 [.inr (.inr 0), .inl x1, .inl (M 108 x7)] M (rv_ fun M1 =>
   Qr [] M1) Qt)) : V 233 [rr 0, ii x1, ii x2, ii x3, ii x4, ii x5, ii x6, ii x7, rr 25, ii x9] [] M := bx_go hD (m := (g_22_135, m_22.2)) (Cl_sf z_22_135 hV) hW [(117, []), (160, []), (233, [])] 29 h
/-- X0_does(II)V -/
theorem b_23_0 {D : ca_} {V : vv_} {Qr : qr_} {Qt : qt_} (hD : Mo_ D) (hV : Cl_ wd0 D V Qr Qt m_23) (hW : Wk_ V) (x1 : Int) (x2 : Int) (M : mm_) (h :
 V 17 [rr 0, ii x1, ii x2, ii x2] [] (up_ (up_ (up_ M 0 46 x1) 0 45 0) 0 47 0)) : V 0 [rr 0, ii x1, ii x2, none] [] M := bx_go hD hV hW [(17, []), (38, [3])] 12 h
theorem i_23 : inq_ 0 k_23 = true := by decide +kernel
theorem z_23_11 : Sf_ k_23 g_23_11 := Sf_of i_23 11 rfl
theorem b_23_17 {D : ca_} {V : vv_} {Qr : qr_} {Qt : qt_} (hD : Mo_ D) (hV : Cl_ wd0 D V Qr Qt m_23) (hW : Wk_ V) (x1 : Int) (x2 : Int) (x3 : Int) (M : mm_) (h :
 (if x3 = (-1) then
  Qr [] M
 else
  D 15 [.inr (.inr 0), .inl x3] M (ri_ fun v1 M1 =>
   D 24 [.inr (.inr 0), .inl v1] M1 (ri_ fun v2 M2 =>
    V 17 [rr 0, ii x1, ii x2, ii v2] [] M2) (fun r M9 => (r = 7 ∨ r = 8) ∧ V 38 [rr 0, ii x1, ii x2, none] [.inr (.inr r)] M9)) (fun r M9 => (r = 7 ∨ r = 8) ∧ V 38 [rr 0, ii x1, ii x2, none] [.inr (.inr r)] M9))) : V 17 [rr 0, ii x1, ii x2, ii x3] [] M := bx_go hD (m := (g_23_11, m_23.2)) (Cl_sf z_23_11 hV) hW [(17, []), (38, [3])] 11 h
theorem z_23_22 : Sf_ k_23 g_23_22 := Sf_tr z_23_11 11 rfl
theorem b_23_38_7 {D : ca_} {V : vv_} {Qr : qr_} {Qt : qt_} (hD : Mo_ D) (hV : Cl_ wd0 D V Qr Qt m_23) (hW : Wk_ V) (x1 : Int) (x2 : Int) (M : mm_) (h :
 (bl_ (M 0 25) → (if M 0 25 = 0 then
  (0 ≤ x1 ∧ x1 < 12) ∧
   D 5 [.inr (.inr 0), .inl 7, .inl (M 10 x1), .inl ((-1)), .inl 0] (up_ (up_ (up_ (up_ M 0 38 (w32 ((M 0 38) + 1))) 0 28 (w32 ((M 0 28) + 1))) 0 29 (M 0 49)) 0 30 (M 0 50)) (rv_ fun M3 =>
   D 32 [.inr (.inr 0), .inl x1] M3 (rv_ fun M4 =>
    Qr [] M4) Qt) Qt
 else
  (0 ≤ x1 ∧ x1 < 12) ∧
   D 5 [.inr (.inr 0), .inl 7, .inl (M 10 x1), .inl ((-1)), .inl 0] (up_ M 0 38 (w32 ((M 0 38) + 1))) (rv_ fun M1 =>
   D 32 [.inr (.inr 0), .inl x1] M1 (rv_ fun M2 =>
    Qr [] M2) Qt) Qt))) : V 38 [rr 0, ii x1, ii x2, none] [.inr (.inr 7)] M := bx_go hD (m := (g_23_22, m_23.2)) (Cl_sf z_23_22 hV) hW [(17, []), (38, [3])] 37 h
theorem b_23_38_8 {D : ca_} {V : vv_} {Qr : qr_} {Qt : qt_} (hD : Mo_ D) (hV : Cl_ wd0 D V Qr Qt m_23) (hW : Wk_ V) (x1 : Int) (x2 : Int) (M : mm_) (h :
 (bl_ (M 0 25) → (if M 0 25 = 0 then
  (0 ≤ x1 ∧ x1 < 12) ∧
   D 5 [.inr (.inr 0), .inl 7, .inl (M 10 x1), .inl ((-1)), .inl 0] (up_ (up_ (up_ (up_ M 0 38 (w32 ((M 0 38) + 1))) 0 28 (w32 ((M 0 28) + 1))) 0 29 (M 0 49)) 0 30 (M 0 50)) (rv_ fun M3 =>
   D 32 [.inr (.inr 0), .inl x1] M3 (rv_ fun M4 =>
    Qr [] M4) Qt) Qt
 else
  (0 ≤ x1 ∧ x1 < 12) ∧
   D 5 [.inr (.inr 0), .inl 7, .inl (M 10 x1), .inl ((-1)), .inl 0] (up_ M 0 38 (w32 ((M 0 38) + 1))) (rv_ fun M1 =>
   D 32 [.inr (.inr 0), .inl x1] M1 (rv_ fun M2 =>
    Qr [] M2) Qt) Qt))) : V 38 [rr 0, ii x1, ii x2, none] [.inr (.inr 8)] M := bx_go hD (m := (g_23_22, m_23.2)) (Cl_sf z_23_22 hV) hW [(17, []), (38, [3])] 37 h
/-- X0_act(I)I -/
theorem b_24_0 {D : ca_} {V : vv_} {Qr : qr_} {Qt : qt_} (hD : Mo_ D) (hV : Cl_ wd0 D V Qr Qt m_24) (hW : Wk_ V) (x1 : Int) (M : mm_) (h :
 (0 ≤ x1 ∧ x1 < 12000) ∧
  (if M 109 x1 = 30 then (0 ≤ w32 (x1 + 1) ∧ w32 (x1 + 1) < 12000) ∧
   (if M 0 47 = 200 then
   D 19 [.inr (.inr 0), .inl 4] (up_ M 0 50 (M 109 (w32 (x1 + 1)))) (rf_r fun v7 M16 =>
    (if v7 = 1999 then False else Qt v7 M16)) Qt
  else
   Qr [.inl (w32 (x1 + 2))] (up_ (up_ M 0 50 (M 109 (w32 (x1 + 1)))) 0 47 (w32 ((M 0 47) + 1)))) else
 (if M 109 x1 = 31 then (0 ≤ w32 (x1 + 1) ∧ w32 (x1 + 1) < 12000) ∧
   D 18 [.inr (.inr 0)] M (ri_ fun v6 M15 =>
   (0 ≤ w32 ((w32 (16 * (M 0 46))) + (M 109 (w32 (x1 + 1)))) ∧ w32 ((w32 (16 * (M 0 46))) + (M 109 (w32 (x1 + 1)))) < 192) ∧
    Qr [.inl (w32 (x1 + 2))] (up_ M15 13 (w32 ((w32 (16 * (M 0 46))) + (M 109 (w32 (x1 + 1))))) v6)) Qt else
 (if M 109 x1 = 32 then D 18 [.inr (.inr 0)] M (ri_ fun v4 M13 =>
   (0 ≤ w32 (x1 + 1) ∧ w32 (x1 + 1) < 12000) ∧
    D 18 [.inr (.inr 0)] M13 (ri_ fun v5 M14 =>
    (0 ≤ w32 ((w32 ((w32 (16 * (M13 0 46))) + (M13 109 (w32 (x1 + 1))))) + v5) ∧ w32 ((w32 ((w32 (16 * (M13 0 46))) + (M13 109 (w32 (x1 + 1))))) + v5) < 192) ∧
     Qr [.inl (w32 (x1 + 2))] (up_ M14 13 (w32 ((w32 ((w32 (16 * (M13 0 46))) + (M13 109 (w32 (x1 + 1))))) + v5)) v4)) Qt) Qt else
 (if M 109 x1 = 33 then (0 ≤ w32 (x1 + 1) ∧ w32 (x1 + 1) < 12000) ∧
   (0 ≤ w32 (x1 + 2) ∧ w32 (x1 + 2) < 12000) ∧
   (0 ≤ w32 (x1 + 3) ∧ w32 (x1 + 3) < 12000) ∧
   (0 ≤ w32 (x1 + 4) ∧ w32 (x1 + 4) < 12000) ∧
   D 25 [.inr (.inr 0), .inl (M 109 (w32 (x1 + 1))), .inl (M 109 (w32 (x1 + 2))), .inl (M 109 (w32 (x1 + 3))), .inl (M 109 (w32 (x1 + 4)))] M (rv_ fun M12 =>
   Qr [.inl (w32 (x1 + 5))] M12) Qt else
 (if M 109 x1 = 34 then D 18 [.inr (.inr 0)] M (ri_ fun v3 M10 =>
   (0 ≤ w32 (x1 + 1) ∧ w32 (x1 + 1) < 12000) ∧
    D 28 [.inr (.inr 0), .inl (M10 109 (w32 (x1 + 1)))] M10 (rv_ fun M11 =>
    (0 ≤ w32 (x1 + 1) ∧ w32 (x1 + 1) < 12000) ∧
     ((0 ≤ w32 ((w32 (3 * (M11 0 46))) + (M11 109 (w32 (x1 + 1)))) ∧ w32 ((w32 (3 * (M11 0 46))) + (M11 109 (w32 (x1 + 1)))) < 36) ∧ bl_ 1) ∧
     (0 ≤ w32 (x1 + 1) ∧ w32 (x1 + 1) < 12000) ∧
     (0 ≤ w32 ((w32 (3 * (M11 0 46))) + (M11 109 (w32 (x1 + 1)))) ∧ w32 ((w32 (3 * (M11 0 46))) + (M11 109 (w32 (x1 + 1)))) < 36) ∧
     Qr [.inl (w32 (x1 + 2))] (up_ (up_ M11 16 (w32 ((w32 (3 * (M11 0 46))) + (M11 109 (w32 (x1 + 1))))) 1) 17 (w32 ((w32 (3 * (M11 0 46))) + (M11 109 (w32 (x1 + 1))))) (w32 (if w64 ((M11 0 9) + (if 0 < v3 then v3 else 0)) < 2000000000 then w64 ((M11 0 9) + (if 0 < v3 then v3 else 0)) else 2000000000)))) Qt) Qt else
 (if M 109 x1 = 35 then (0 ≤ w32 (x1 + 1) ∧ w32 (x1 + 1) < 12000) ∧
   D 28 [.inr (.inr 0), .inl (M 109 (w32 (x1 + 1)))] M (rv_ fun M9 =>
   Qr [.inl (w32 (x1 + 2))] M9) Qt else
 (if M 109 x1 = 36 then (0 ≤ w32 (x1 + 1) ∧ w32 (x1 + 1) < 12000) ∧
   (0 ≤ w32 (x1 + 2) ∧ w32 (x1 + 2) < 12000) ∧
   D 29 [.inr (.inr 0), .inl (M 109 (w32 (x1 + 1))), .inl (M 109 (w32 (x1 + 2)))] M (rv_ fun M8 =>
   Qr [.inl (w32 (x1 + 3))] M8) Qt else
 (if M 109 x1 = 37 then D 32 [.inr (.inr 0), .inl (M 0 46)] M (rv_ fun M7 =>
   Qr [.inl ((-1))] M7) Qt else
 (if M 109 x1 = 38 then (0 ≤ w32 (x1 + 1) ∧ w32 (x1 + 1) < 12000) ∧
   Qr [.inl (M 109 (w32 (x1 + 1)))] M else
 (if M 109 x1 = 39 then (0 ≤ w32 (x1 + 1) ∧ w32 (x1 + 1) < 12000) ∧
   (0 ≤ M 0 46 ∧ M 0 46 < 12) ∧
   (0 ≤ M 0 46 ∧ M 0 46 < 12) ∧
   D 5 [.inr (.inr 0), .inl 5, .inl (M 10 (M 0 46)), .inl ((-1)), .inl 0] (up_ M 12 (M 0 46) (M 109 (w32 (x1 + 1)))) (rv_ fun M6 =>
   Qr [.inl ((-1))] M6) Qt else
 (if M 109 x1 = 40 then (0 ≤ M 0 46 ∧ M 0 46 < 12) ∧
   D 5 [.inr (.inr 0), .inl 5, .inl (M 10 (M 0 46)), .inl ((-1)), .inl 0] M (rv_ fun M5 =>
   Qr [.inl ((-1))] M5) Qt else
 (if M 109 x1 = 41 then D 32 [.inr (.inr 0), .inl (M 0 46)] M (rv_ fun M4 =>
   Qr [.inl ((-1))] M4) Qt else
 (if M 109 x1 = 42 then (0 ≤ w32 (x1 + 1) ∧ w32 (x1 + 1) < 12000) ∧
   (0 ≤ M 109 (w32 (x1 + 1)) ∧ M 109 (w32 (x1 + 1)) < 60) ∧
   Qr [.inl (M 96 (M 109 (w32 (x1 + 1))))] M else
 (if M 109 x1 = 43 then (0 ≤ w32 (x1 + 1) ∧ w32 (x1 + 1) < 12000) ∧
   (0 ≤ w32 ((M 0 45) - 1) ∧ w32 ((M 0 45) - 1) < 64) ∧
   V 385 [rr 0, ii x1, rr 109, ii (M 109 (w32 (x1 + 1))), ii (M 26 (w32 ((M 0 45) - 1))), ii 0, ii 0] [] M else
 (if M 109 x1 = 44 then Qr [.inl (w32 (x1 + 1))] (up_ M 0 45 (w32 ((M 0 45) - 1))) else
 (if M 109 x1 = 45 then (0 ≤ w32 ((M 0 45) - 1) ∧ w32 ((M 0 45) - 1) < 64) ∧
   (if M 26 (w32 ((M 0 45) - 1)) < 0 then
   D 19 [.inr (.inr 0), .inl 1] M (rf_r fun v1 M2 =>
    (if v1 = 1999 then False else Qt v1 M2)) Qt
  else
   (0 ≤ w32 ((M 0 45) - 1) ∧ w32 ((M 0 45) - 1) < 64) ∧
    (0 ≤ w32 (x1 + 1) ∧ w32 (x1 + 1) < 12000) ∧
    (if M 26 (w32 ((M 0 45) - 1)) < M 109 (w32 (x1 + 1)) then
    Qr [.inl (w32 (x1 + 2))] M
   else
    D 19 [.inr (.inr 0), .inl 1] M (rf_r fun v2 M3 =>
     (if v2 = 1999 then False else Qt v2 M3)) Qt)) else
 D 32 [.inr (.inr 0), .inl (M 0 46)] M (rv_ fun M1 =>
   Qr [.inl ((-1))] M1) Qt))))))))))))))))) : V 0 [rr 0, ii x1, none, none, none, none, none] [] M := bx_go hD hV hW [(385, []), (439, [])] 60 h
theorem i_24 : inq_ 0 k_24 = true := by decide +kernel
theorem z_24_228 : Sf_ k_24 g_24_228 := Sf_of i_24 228 rfl
theorem b_24_385 {D : ca_} {V : vv_} {Qr : qr_} {Qt : qt_} (hD : Mo_ D) (hV : Cl_ wd0 D V Qr Qt m_24) (hW : Wk_ V) (x1 : Int) (x3 : Int) (x4 : Int) (x5 : Int) (x6 : Int) (M : mm_) (h :
 (if x6 < x3 then
  (if x5 = 0 then
   (0 ≤ w32 ((w32 (x1 + 2)) + (w32 (2 * x6))) ∧ w32 ((w32 (x1 + 2)) + (w32 (2 * x6))) < 12000) ∧
    (if x4 < M 109 (w32 ((w32 (x1 + 2)) + (w32 (2 * x6)))) then
    V 385 [rr 0, ii x1, rr 109, ii x3, ii x4, ii 0, ii (w32 (x6 + 1))] [] M
   else
    (0 ≤ w32 ((w32 (x1 + 3)) + (w32 (2 * x6))) ∧ w32 ((w32 (x1 + 3)) + (w32 (2 * x6))) < 12000) ∧
     (if x4 ≤ M 109 (w32 ((w32 (x1 + 3)) + (w32 (2 * x6)))) then
     V 385 [rr 0, ii x1, rr 109, ii x3, ii x4, ii 1, ii (w32 (x6 + 1))] [] M
    else
     V 385 [rr 0, ii x1, rr 109, ii x3, ii x4, ii 0, ii (w32 (x6 + 1))] [] M))
  else
   V 439 [rr 0, ii x1, rr 109, ii x3, ii x4, ii x5, ii x6] [] M)
 else
  V 439 [rr 0, ii x1, rr 109, ii x3, ii x4, ii x5, ii x6] [] M)) : V 385 [rr 0, ii x1, rr 109, ii x3, ii x4, ii x5, ii x6] [] M := bx_go hD (m := (g_24_228, m_24.2)) (Cl_sf z_24_228 hV) hW [(385, []), (439, [])] 33 h
theorem z_24_261 : Sf_ k_24 g_24_261 := Sf_tr z_24_228 33 rfl
theorem b_24_439 {D : ca_} {V : vv_} {Qr : qr_} {Qt : qt_} (hD : Mo_ D) (hV : Cl_ wd0 D V Qr Qt m_24) (hW : Wk_ V) (x1 : Int) (x3 : Int) (x4 : Int) (x5 : Int) (x6 : Int) (M : mm_) (h :
 (if x5 = 0 then
  (0 ≤ w32 ((w32 (x1 + 2)) + (w32 (2 * x3))) ∧ w32 ((w32 (x1 + 2)) + (w32 (2 * x3))) < 12000) ∧
   Qr [.inl (M 109 (w32 ((w32 (x1 + 2)) + (w32 (2 * x3)))))] M
 else
  Qr [.inl (w32 ((w32 (x1 + 3)) + (w32 (2 * x3))))] (up_ M 0 45 (w32 ((M 0 45) - 1))))) : V 439 [rr 0, ii x1, rr 109, ii x3, ii x4, ii x5, ii x6] [] M := bx_go hD (m := (g_24_261, m_24.2)) (Cl_sf z_24_261 hV) hW [(385, []), (439, [])] 16 h
/-- X0_output(IIII)V -/
theorem b_25_0 {D : ca_} {V : vv_} {Qr : qr_} {Qt : qt_} (hD : Mo_ D) (hV : Cl_ wd0 D V Qr Qt m_25) (hW : Wk_ V) (x1 : Int) (x2 : Int) (x3 : Int) (x4 : Int) (M : mm_) (h :
 (0 ≤ M 0 46 ∧ M 0 46 < 12) ∧
  (0 ≤ M 0 46 ∧ M 0 46 < 12) ∧
  (if x3 = 1 then
  D 18 [.inr (.inr 0)] M (ri_ fun v1 M1 =>
   V 37 [rr 0, ii x1, ii x2, ii x3, ii x4, ii (M 10 (M 0 46)), ii (M 11 (M 0 46)), ii v1, none, none, none, none, none, none, none] [] M1) Qt
 else
  V 37 [rr 0, ii x1, ii x2, ii x3, ii x4, ii (M 10 (M 0 46)), ii (M 11 (M 0 46)), ii 0, none, none, none, none, none, none, none] [] M)) : V 0 [rr 0, ii x1, ii x2, ii x3, ii x4, none, none, none, none, none, none, none, none, none, none] [] M := bx_go hD hV hW [(37, [8, 9, 10, 11, 12, 13, 14]), (66, [9, 10, 11, 12, 13, 14]), (110, [11, 12, 13, 14]), (227, [12, 13, 14]), (266, [])] 20 h
theorem i_25 : inq_ 0 k_25 = true := by decide +kernel
theorem z_25_20 : Sf_ k_25 g_25_20 := Sf_of i_25 20 rfl
theorem b_25_37 {D : ca_} {V : vv_} {Qr : qr_} {Qt : qt_} (hD : Mo_ D) (hV : Cl_ wd0 D V Qr Qt m_25) (hW : Wk_ V) (x1 : Int) (x2 : Int) (x3 : Int) (x4 : Int) (x5 : Int) (x6 : Int) (x7 : Int) (M : mm_) (h :
 (if x2 ≤ 0 then
  V 66 [rr 0, ii x1, ii x2, ii x3, ii x4, ii x5, ii x6, ii x7, ii 0, none, none, none, none, none, none] [] (up_ M 0 45 (w32 ((M 0 45) - x2)))
 else
  (0 ≤ w32 ((M 0 45) - x2) ∧ w32 ((M 0 45) - x2) < 64) ∧
   V 66 [rr 0, ii x1, ii x2, ii x3, ii x4, ii x5, ii x6, ii x7, ii (M 26 (w32 ((M 0 45) - x2))), none, none, none, none, none, none] [] (up_ M 0 45 (w32 ((M 0 45) - x2))))) : V 37 [rr 0, ii x1, ii x2, ii x3, ii x4, ii x5, ii x6, ii x7, none, none, none, none, none, none, none] [] M := bx_go hD (m := (g_25_20, m_25.2)) (Cl_sf z_25_20 hV) hW [(37, [8, 9, 10, 11, 12, 13, 14]), (66, [9, 10, 11, 12, 13, 14]), (110, [11, 12, 13, 14]), (227, [12, 13, 14]), (266, [])] 16 h
theorem z_25_36 : Sf_ k_25 g_25_36 := Sf_tr z_25_20 16 rfl
theorem b_25_66 {D : ca_} {V : vv_} {Qr : qr_} {Qt : qt_} (hD : Mo_ D) (hV : Cl_ wd0 D V Qr Qt m_25) (hW : Wk_ V) (x1 : Int) (x2 : Int) (x3 : Int) (x4 : Int) (x5 : Int) (x6 : Int) (x7 : Int) (x8 : Int) (M : mm_) (h :
 (if x2 ≤ 1 then
  (if x2 ≤ 2 then
   V 110 [rr 0, ii x1, ii x2, ii x3, ii x4, ii x5, ii x6, ii x7, ii x8, ii 0, ii 0, none, none, none, none] [] M
  else
   (0 ≤ w32 ((M 0 45) + 2) ∧ w32 ((M 0 45) + 2) < 64) ∧
    V 110 [rr 0, ii x1, ii x2, ii x3, ii x4, ii x5, ii x6, ii x7, ii x8, ii 0, ii (M 26 (w32 ((M 0 45) + 2))), none, none, none, none] [] M)
 else
  (0 ≤ w32 ((M 0 45) + 1) ∧ w32 ((M 0 45) + 1) < 64) ∧
   (if x2 ≤ 2 then
   V 110 [rr 0, ii x1, ii x2, ii x3, ii x4, ii x5, ii x6, ii x7, ii x8, ii (M 26 (w32 ((M 0 45) + 1))), ii 0, none, none, none, none] [] M
  else
   (0 ≤ w32 ((M 0 45) + 2) ∧ w32 ((M 0 45) + 2) < 64) ∧
    V 110 [rr 0, ii x1, ii x2, ii x3, ii x4, ii x5, ii x6, ii x7, ii x8, ii (M 26 (w32 ((M 0 45) + 1))), ii (M 26 (w32 ((M 0 45) + 2))), none, none, none, none] [] M))) : V 66 [rr 0, ii x1, ii x2, ii x3, ii x4, ii x5, ii x6, ii x7, ii x8, none, none, none, none, none, none] [] M := bx_go hD (m := (g_25_36, m_25.2)) (Cl_sf z_25_36 hV) hW [(37, [8, 9, 10, 11, 12, 13, 14]), (66, [9, 10, 11, 12, 13, 14]), (110, [11, 12, 13, 14]), (227, [12, 13, 14]), (266, [])] 25 h
theorem z_25_62 : Sf_ k_25 g_25_62 := Sf_tr z_25_36 26 rfl
theorem b_25_110 {D : ca_} {V : vv_} {Qr : qr_} {Qt : qt_} (hD : Mo_ D) (hV : Cl_ wd0 D V Qr Qt m_25) (hW : Wk_ V) (x1 : Int) (x2 : Int) (x3 : Int) (x4 : Int) (x5 : Int) (x6 : Int) (x7 : Int) (x8 : Int) (x9 : Int) (x10 : Int) (M : mm_) (h :
 (if x3 = 1 then
  D 6 [.inr (.inr 0), .inl x7] M (ri_ fun v2 M2 =>
   (if v2 = (-1) then
    D 5 [.inr (.inr 0), .inl 1, .inl x5, .inl x1, .inl x7] M2 (rv_ fun M7 =>
     D 7 [.inr (.inr 0), .inl x7, .inl x1, .inl x5] M7 (rv_ fun M8 =>
      Qr [] M8) Qt) Qt
   else
    (0 ≤ v2 ∧ v2 < 12) ∧
     D 26 [.inr (.inr 0), .inl x6, .inl (M2 11 v2), .inl x1, .inl 0] M2 (ri_ fun v3 M3 =>
     (if v3 = (-1) then
      D 19 [.inr (.inr 0), .inl 3] M3 (rf_r fun v4 M6 =>
       (if v4 = 1999 then False else Qt v4 M6)) Qt
     else
      D 5 [.inr (.inr 0), .inl 1, .inl x5, .inl x1, .inl x7] M3 (rv_ fun M4 =>
       D 27 [.inr (.inr 0), .inl v3, .inl x1, .inl x5, .inl x7, .inl x8, .inl x9, .inl x10] M4 (rv_ fun M5 =>
        Qr [] M5) Qt) Qt)) Qt)) Qt
 else
  (if x3 = 2 then
   V 227 [rr 0, ii x1, ii x2, ii x3, ii x4, ii x5, ii x6, ii x7, ii x8, ii x9, ii x10, ii x4, none, none, none] [] M
  else
   D 26 [.inr (.inr 0), .inl x6, .inl ((-1)), .inl x1, .inl 1] M (ri_ fun v1 M1 =>
    V 227 [rr 0, ii x1, ii x2, ii x3, ii x4, ii x5, ii x6, ii x7, ii x8, ii x9, ii x10, ii v1, none, none, none] [] M1) Qt))) : V 110 [rr 0, ii x1, ii x2, ii x3, ii x4, ii x5, ii x6, ii x7, ii x8, ii x9, ii x10, none, none, none, none] [] M := bx_go hD (m := (g_25_62, m_25.2)) (Cl_sf z_25_62 hV) hW [(37, [8, 9, 10, 11, 12, 13, 14]), (66, [9, 10, 11, 12, 13, 14]), (110, [11, 12, 13, 14]), (227, [12, 13, 14]), (266, [])] 39 h
theorem z_25_129 : Sf_ k_25 g_25_129 := Sf_tr z_25_62 67 rfl
theorem b_25_227 {D : ca_} {V : vv_} {Qr : qr_} {Qt : qt_} (hD : Mo_ D) (hV : Cl_ wd0 D V Qr Qt m_25) (hW : Wk_ V) (x1 : Int) (x2 : Int) (x3 : Int) (x4 : Int) (x5 : Int) (x6 : Int) (x7 : Int) (x8 : Int) (x9 : Int) (x10 : Int) (x11 : Int) (M : mm_) (h :
 (if x11 = (-1) then
  D 19 [.inr (.inr 0), .inl 3] M (rf_r fun v1 M1 =>
   (if v1 = 1999 then False else Qt v1 M1)) Qt
 else
  (0 ≤ w32 ((w32 (2 * x11)) + 1) ∧ w32 ((w32 (2 * x11)) + 1) < 20) ∧
   V 266 [rr 0, ii x1, ii x2, ii x3, ii x4, ii x5, ii x6, ii x7, ii x8, ii x9, ii x10, ii x11, ii (M 81 (w32 ((w32 (2 * x11)) + 1))), ii 0, ii (w32 ((M 0 7) - 1))] [] M)) : V 227 [rr 0, ii x1, ii x2, ii x3, ii x4, ii x5, ii x6, ii x7, ii x8, ii x9, ii x10, ii x11, none, none, none] [] M := bx_go hD (m := (g_25_129, m_25.2)) (Cl_sf z_25_129 hV) hW [(37, [8, 9, 10, 11, 12, 13, 14]), (66, [9, 10, 11, 12, 13, 14]), (110, [11, 12, 13, 14]), (227, [12, 13, 14]), (266, [])] 21 h
theorem z_25_153 : Sf_ k_25 g_25_153 := Sf_tr z_25_129 24 rfl
theorem b_25_266 {D : ca_} {V : vv_} {Qr : qr_} {Qt : qt_} (hD : Mo_ D) (hV : Cl_ wd0 D V Qr Qt m_25) (hW : Wk_ V) (x1 : Int) (x2 : Int) (x3 : Int) (x4 : Int) (x5 : Int) (x6 : Int) (x7 : Int) (x8 : Int) (x9 : Int) (x10 : Int) (x11 : Int) (x12 : Int) (x13 : Int) (x14 : Int) (M : mm_) (h :
 (if x14 < 0 then
  D 5 [.inr (.inr 0), .inl 1, .inl x5, .inl x1, .inl x13] M (rv_ fun M1 =>
   (if x13 = 0 then
    (if x12 = (-2) then
     D 27 [.inr (.inr 0), .inl x11, .inl x1, .inl x5, .inl x13, .inl x8, .inl x9, .inl x10] M1 (rv_ fun M3 =>
      Qr [] M3) Qt
    else
     D 7 [.inr (.inr 0), .inl 0, .inl x1, .inl x5] M1 (rv_ fun M4 =>
      Qr [] M4) Qt)
   else
    D 27 [.inr (.inr 0), .inl x11, .inl x1, .inl x5, .inl x13, .inl x8, .inl x9, .inl x10] M1 (rv_ fun M2 =>
     Qr [] M2) Qt)) Qt
 else
  (0 ≤ x14 ∧ x14 < 12) ∧
   (if x12 = M 11 x14 then
   (0 ≤ x14 ∧ x14 < 12) ∧
    V 266 [rr 0, ii x1, ii x2, ii x3, ii x4, ii x5, ii x6, ii x7, ii x8, ii x9, ii x10, ii x11, ii x12, ii (M 10 x14), ii (w32 (x14 + (-1)))] [] M
  else
   V 266 [rr 0, ii x1, ii x2, ii x3, ii x4, ii x5, ii x6, ii x7, ii x8, ii x9, ii x10, ii x11, ii x12, ii x13, ii (w32 (x14 + (-1)))] [] M))) : V 266 [rr 0, ii x1, ii x2, ii x3, ii x4, ii x5, ii x6, ii x7, ii x8, ii x9, ii x10, ii x11, ii x12, ii x13, ii x14] [] M := bx_go hD (m := (g_25_153, m_25.2)) (Cl_sf z_25_153 hV) hW [(37, [8, 9, 10, 11, 12, 13, 14]), (66, [9, 10, 11, 12, 13, 14]), (110, [11, 12, 13, 14]), (227, [12, 13, 14]), (266, [])] 23 h
/-- X0_wayFrom(IIIZ)I -/
theorem b_26_0 {D : ca_} {V : vv_} {Qr : qr_} {Qt : qt_} (hD : Mo_ D) (hV : Cl_ wd0 D V Qr Qt m_26) (hW : Wk_ V) (x1 : Int) (x2 : Int) (x3 : Int) (x4 : Int) (M : mm_) (h :
 V 3 [rr 0, ii x1, ii x2, ii x3, ii x4, ii 0] [] M) : V 0 [rr 0, ii x1, ii x2, ii x3, ii x4, none] [] M := bx_go hD hV hW [(3, [])] 3 h
theorem b_26_3 {D : ca_} {V : vv_} {Qr : qr_} {Qt : qt_} (hD : Mo_ D) (hV : Cl_ wd0 D V Qr Qt m_26) (hW : Wk_ V) (x1 : Int) (x2 : Int) (x3 : Int) (x4 : Int) (x5 : Int) (M : mm_) (h :
 (if x5 < M 4 1 then
  (0 ≤ w32 (2 * x5) ∧ w32 (2 * x5) < 20) ∧
   (if M 81 (w32 (2 * x5)) = x1 then
   (if x4 = 0 then
    (0 ≤ w32 ((w32 (2 * x5)) + 1) ∧ w32 ((w32 (2 * x5)) + 1) < 20) ∧
     (if M 81 (w32 ((w32 (2 * x5)) + 1)) = x2 then
     D 205 [.inr (.inr 4), .inl x5, .inl x3] M (ri_ fun v2 M2 =>
      (if v2 = 0 then
       V 3 [rr 0, ii x1, ii x2, ii x3, ii x4, ii (w32 (x5 + 1))] [] M2
      else
       Qr [.inl x5] M2)) Qt
    else
     V 3 [rr 0, ii x1, ii x2, ii x3, ii x4, ii (w32 (x5 + 1))] [] M)
   else
    D 205 [.inr (.inr 4), .inl x5, .inl x3] M (ri_ fun v1 M1 =>
     (if v1 = 0 then
      V 3 [rr 0, ii x1, ii x2, ii x3, ii x4, ii (w32 (x5 + 1))] [] M1
     else
      Qr [.inl x5] M1)) Qt)
  else
   V 3 [rr 0, ii x1, ii x2, ii x3, ii x4, ii (w32 (x5 + 1))] [] M)
 else
  Qr [.inl ((-1))] M)) : V 3 [rr 0, ii x1, ii x2, ii x3, ii x4, ii x5] [] M := bx_go hD hV hW [(3, [])] 36 h
/-- X0_goesBy(IIIIIII)V -/
theorem b_27_0 {D : ca_} {V : vv_} {Qr : qr_} {Qt : qt_} (hD : Mo_ D) (hV : Cl_ wd0 D V Qr Qt m_27) (hW : Wk_ V) (x1 : Int) (x2 : Int) (x3 : Int) (x4 : Int) (x5 : Int) (x6 : Int) (x7 : Int) (M : mm_) (h :
 (0 ≤ x1 ∧ x1 < 10) ∧ (bl_ (M 84 x1) →
  (if M 84 x1 = 0 then
  (0 ≤ x1 ∧ x1 < 10) ∧
   (if M 21 x1 = 0 then
   D 4 [.inr (.inr 0), .inl x2, .inl x3, .inl x4, .inl x5, .inl x6, .inl x7] M (rv_ fun M1 =>
    Qr [] M1) Qt
  else
   V 36 [rr 0, ii x1, ii x2, ii x3, ii x4, ii x5, ii x6, ii x7, none, none, none] [] M)
 else
  V 36 [rr 0, ii x1, ii x2, ii x3, ii x4, ii x5, ii x6, ii x7, none, none, none] [] M))) : V 0 [rr 0, ii x1, ii x2, ii x3, ii x4, ii x5, ii x6, ii x7, none, none, none] [] M := bx_go hD hV hW [(36, [8, 9, 10]), (135, [9, 10]), (184, [10])] 20 h
theorem i_27 : inq_ 0 k_27 = true := by decide +kernel
theorem z_27_20 : Sf_ k_27 g_27_20 := Sf_of i_27 20 rfl
theorem b_27_36 {D : ca_} {V : vv_} {Qr : qr_} {Qt : qt_} (hD : Mo_ D) (hV : Cl_ wd0 D V Qr Qt m_27) (hW : Wk_ V) (x1 : Int) (x2 : Int) (x3 : Int) (x4 : Int) (x5 : Int) (x6 : Int) (x7 : Int) (M : mm_) (h :
 (0 ≤ x1 ∧ x1 < 10) ∧
  (if M 21 x1 = 6 then
  D 7 [.inr (.inr 0), .inl x4, .inl x2, .inl x3] M (rv_ fun M1 =>
   Qr [] M1) Qt
 else
  (0 ≤ x1 ∧ x1 < 10) ∧
   (0 ≤ x1 ∧ x1 < 10) ∧ (bl_ (M 85 x1) →
   (if M 85 x1 = 0 then
   V 135 [rr 0, ii x1, ii x2, ii x3, ii x4, ii x5, ii x6, ii x7, ii (M 82 x1), none, none] [] M
  else
   (bl_ (M 0 25) → (if M 0 25 = 0 then
    (0 ≤ x1 ∧ x1 < 10) ∧
     (0 ≤ x1 ∧ x1 < 10) ∧
     (w32 ((w32 ((M 83 x1) - (M 82 x1))) + 1)) ≠ 0 ∧ V 135 [rr 0, ii x1, ii x2, ii x3, ii x4, ii x5, ii x6, ii x7, ii (w32 ((M 82 x1) + (Int.tmod (us_ (w32 ((w32 ((M 0 10) * 1103515245)) + 12345)) 16) (w32 ((w32 ((M 83 x1) - (M 82 x1))) + 1))))), none, none] [] (up_ M 0 10 (w32 ((w32 ((M 0 10) * 1103515245)) + 12345)))
   else
    V 135 [rr 0, ii x1, ii x2, ii x3, ii x4, ii x5, ii x6, ii x7, ii (M 82 x1), none, none] [] M)))))) : V 36 [rr 0, ii x1, ii x2, ii x3, ii x4, ii x5, ii x6, ii x7, none, none, none] [] M := bx_go hD (m := (g_27_20, m_27.2)) (Cl_sf z_27_20 hV) hW [(36, [8, 9, 10]), (135, [9, 10]), (184, [10])] 51 h
theorem z_27_76 : Sf_ k_27 g_27_76 := Sf_tr z_27_20 56 rfl
theorem b_27_135 {D : ca_} {V : vv_} {Qr : qr_} {Qt : qt_} (hD : Mo_ D) (hV : Cl_ wd0 D V Qr Qt m_27) (hW : Wk_ V) (x1 : Int) (x2 : Int) (x3 : Int) (x4 : Int) (x5 : Int) (x6 : Int) (x7 : Int) (x8 : Int) (M : mm_) (h :
 (0 ≤ x1 ∧ x1 < 10) ∧
  (if M 21 x1 ≤ 0 then
  V 184 [rr 0, ii x1, ii x2, ii x3, ii x4, ii x5, ii x6, ii x7, ii x8, ii (if w32 ((M 0 9) + x8) < 2000000000 then w32 ((M 0 9) + x8) else 2000000000), none] [] M
 else
  (0 ≤ x1 ∧ x1 < 10) ∧
   D 2 [.inl x1, .inl (w32 ((M 21 x1) - 1))] M (ri_ fun v1 M1 =>
   (0 ≤ w32 (v1 + 3) ∧ w32 (v1 + 3) < 420) ∧
    V 184 [rr 0, ii x1, ii x2, ii x3, ii x4, ii x5, ii x6, ii x7, ii x8, ii (if (if w32 ((M 0 9) + x8) < 2000000000 then w32 ((M 0 9) + x8) else 2000000000) < M1 22 (w32 (v1 + 3)) then M1 22 (w32 (v1 + 3)) else (if w32 ((M 0 9) + x8) < 2000000000 then w32 ((M 0 9) + x8) else 2000000000)), none] [] M1) Qt)) : V 135 [rr 0, ii x1, ii x2, ii x3, ii x4, ii x5, ii x6, ii x7, ii x8, none, none] [] M := bx_go hD (m := (g_27_76, m_27.2)) (Cl_sf z_27_76 hV) hW [(36, [8, 9, 10]), (135, [9, 10]), (184, [10])] 29 h
theorem z_27_104 : Sf_ k_27 g_27_104 := Sf_tr z_27_76 28 rfl
theorem b_27_184 {D : ca_} {V : vv_} {Qr : qr_} {Qt : qt_} (hD : Mo_ D) (hV : Cl_ wd0 D V Qr Qt m_27) (hW : Wk_ V) (x1 : Int) (x2 : Int) (x3 : Int) (x4 : Int) (x5 : Int) (x6 : Int) (x7 : Int) (x8 : Int) (x9 : Int) (M : mm_) (h :
 (0 ≤ x1 ∧ x1 < 10) ∧
  D 2 [.inl x1, .inl (M 21 x1)] M (ri_ fun v1 M1 =>
  (0 ≤ v1 ∧ v1 < 420) ∧
   (0 ≤ w32 (v1 + 1) ∧ w32 (v1 + 1) < 420) ∧
   (0 ≤ w32 (v1 + 2) ∧ w32 (v1 + 2) < 420) ∧
   (0 ≤ w32 (v1 + 3) ∧ w32 (v1 + 3) < 420) ∧
   (0 ≤ w32 (v1 + 4) ∧ w32 (v1 + 4) < 420) ∧
   (0 ≤ w32 (v1 + 5) ∧ w32 (v1 + 5) < 420) ∧
   (0 ≤ w32 (v1 + 6) ∧ w32 (v1 + 6) < 420) ∧
   (0 ≤ x1 ∧ x1 < 10) ∧
   (0 ≤ x1 ∧ x1 < 10) ∧
   Qr [] (up_ (up_ (up_ (up_ (up_ (up_ (up_ (up_ M1 22 v1 x2) 22 (w32 (v1 + 1)) x3) 22 (w32 (v1 + 2)) x4) 22 (w32 (v1 + 3)) x9) 22 (w32 (v1 + 4)) x5) 22 (w32 (v1 + 5)) x6) 22 (w32 (v1 + 6)) x7) 21 x1 (w32 ((M1 21 x1) + 1)))) Qt) : V 184 [rr 0, ii x1, ii x2, ii x3, ii x4, ii x5, ii x6, ii x7, ii x8, ii x9, none] [] M := bx_go hD (m := (g_27_104, m_27.2)) (Cl_sf z_27_104 hV) hW [(36, [8, 9, 10]), (135, [9, 10]), (184, [10])] 63 h
/-- X0_resets(I)V -/
theorem b_28_0 {D : ca_} {V : vv_} {Qr : qr_} {Qt : qt_} (hD : Mo_ D) (hV : Cl_ wd0 D V Qr Qt m_28) (hW : Wk_ V) (x1 : Int) (M : mm_) (h :
 ((0 ≤ w32 ((w32 (3 * (M 0 46))) + x1) ∧ w32 ((w32 (3 * (M 0 46))) + x1) < 36) ∧ bl_ 0) ∧
  V 18 [rr 0, ii x1, ii 0, ii 0, none] [] (up_ M 16 (w32 ((w32 (3 * (M 0 46))) + x1)) 0)) : V 0 [rr 0, ii x1, none, none, none] [] M := bx_go hD hV hW [(18, [4]), (57, [])] 15 h
theorem i_28 : inq_ 0 k_28 = true := by decide +kernel
theorem z_28_14 : Sf_ k_28 g_28_14 := Sf_of i_28 14 rfl
theorem b_28_18 {D : ca_} {V : vv_} {Qr : qr_} {Qt : qt_} (hD : Mo_ D) (hV : Cl_ wd0 D V Qr Qt m_28) (hW : Wk_ V) (x1 : Int) (x2 : Int) (x3 : Int) (M : mm_) (h :
 (0 ≤ M 0 46 ∧ M 0 46 < 12) ∧
  (if x3 < M 14 (M 0 46) then
  D 9 [.inl (M 0 46), .inl x3] M (ri_ fun v1 M1 =>
   (0 ≤ v1 ∧ v1 < 360) ∧
    (if M1 15 v1 = w32 (100 + x1) then
    V 18 [rr 0, ii x1, ii x2, ii (w32 (x3 + 1)), none] [] M1
   else
    V 57 [rr 0, ii x1, ii x2, ii x3, ii 0] [] M1)) Qt
 else
  (0 ≤ M 0 46 ∧ M 0 46 < 12) ∧
   Qr [] (up_ M 14 (M 0 46) x2))) : V 18 [rr 0, ii x1, ii x2, ii x3, none] [] M := bx_go hD (m := (g_28_14, m_28.2)) (Cl_sf z_28_14 hV) hW [(18, [4]), (57, [])] 22 h
theorem z_28_35 : Sf_ k_28 g_28_35 := Sf_tr z_28_14 21 rfl
theorem b_28_57 {D : ca_} {V : vv_} {Qr : qr_} {Qt : qt_} (hD : Mo_ D) (hV : Cl_ wd0 D V Qr Qt m_28) (hW : Wk_ V) (x1 : Int) (x2 : Int) (x3 : Int) (x4 : Int) (M : mm_) (h :
 (if x4 < 5 then
  D 9 [.inl (M 0 46), .inl x2] M (ri_ fun v1 M1 =>
   D 9 [.inl (M1 0 46), .inl x3] M1 (ri_ fun v2 M2 =>
    (0 ≤ w32 (v2 + x4) ∧ w32 (v2 + x4) < 360) ∧
     (0 ≤ w32 (v1 + x4) ∧ w32 (v1 + x4) < 360) ∧
     V 57 [rr 0, ii x1, ii x2, ii x3, ii (w32 (x4 + 1))] [] (up_ M2 15 (w32 (v1 + x4)) (M2 15 (w32 (v2 + x4))))) Qt) Qt
 else
  V 18 [rr 0, ii x1, ii (w32 (x2 + 1)), ii (w32 (x3 + 1)), none] [] M)) : V 57 [rr 0, ii x1, ii x2, ii x3, ii x4] [] M := bx_go hD (m := (g_28_35, m_28.2)) (Cl_sf z_28_35 hV) hW [(18, [4]), (57, [])] 24 h
/-- X0_creates(II)V -/
theorem b_29_0 {D : ca_} {V : vv_} {Qr : qr_} {Qt : qt_} (hD : Mo_ D) (hV : Cl_ wd0 D V Qr Qt m_29) (hW : Wk_ V) (x1 : Int) (x2 : Int) (M : mm_) (h :
 (if M 0 7 = 12 then
  (0 ≤ M 0 46 ∧ M 0 46 < 12) ∧
   Qr [] (up_ (up_ M 0 45 (w32 ((M 0 45) - x2))) 20 (M 0 46) 0)
 else
  D 30 [.inr (.inr 0), .inl x1] (up_ M 0 45 (w32 ((M 0 45) - x2))) (ri_ fun v1 M1 =>
   (0 ≤ x1 ∧ x1 < 6) ∧
    (if v1 < M1 88 x1 then
    (0 ≤ M1 0 46 ∧ M1 0 46 < 12) ∧
     D 31 [.inr (.inr 0), .inl x1, .inl (M1 10 (M1 0 46))] M1 (ri_ fun v2 M2 =>
     V 65 [rr 0, ii x1, ii x2, ii v2, ii 0] [] M2) Qt
   else
    (0 ≤ M1 0 46 ∧ M1 0 46 < 12) ∧
     Qr [] (up_ M1 20 (M1 0 46) 0))) Qt)) : V 0 [rr 0, ii x1, ii x2, none, none] [] M := bx_go hD hV hW [(65, [])] 31 h
theorem i_29 : inq_ 0 k_29 = true := by decide +kernel
theorem z_29_37 : Sf_ k_29 g_29_37 := Sf_of i_29 37 rfl
theorem b_29_65 {D : ca_} {V : vv_} {Qr : qr_} {Qt : qt_} (hD : Mo_ D) (hV : Cl_ wd0 D V Qr Qt m_29) (hW : Wk_ V) (x1 : Int) (x2 : Int) (x3 : Int) (x4 : Int) (M : mm_) (h :
 (if x4 < x2 then
  (0 ≤ w32 ((M 0 45) + x4) ∧ w32 ((M 0 45) + x4) < 64) ∧
   (0 ≤ w32 ((w32 (16 * x3)) + x4) ∧ w32 ((w32 (16 * x3)) + x4) < 192) ∧
   V 65 [rr 0, ii x1, ii x2, ii x3, ii (w32 (x4 + 1))] [] (up_ M 13 (w32 ((w32 (16 * x3)) + x4)) (M 26 (w32 ((M 0 45) + x4))))
 else
  (0 ≤ x3 ∧ x3 < 12) ∧
   (0 ≤ M 0 46 ∧ M 0 46 < 12) ∧
   Qr [] (up_ M 20 (M 0 46) (M 10 x3)))) : V 65 [rr 0, ii x1, ii x2, ii x3, ii x4] [] M := bx_go hD (m := (g_29_37, m_29.2)) (Cl_sf z_29_37 hV) hW [(65, [])] 21 h
/-- X0_aliveOf(I)I -/
theorem b_30_0 {D : ca_} {V : vv_} {Qr : qr_} {Qt : qt_} (hD : Mo_ D) (hV : Cl_ wd0 D V Qr Qt m_30) (hW : Wk_ V) (x1 : Int) (M : mm_) (h :
 V 4 [rr 0, ii x1, ii 0, ii 0] [] M) : V 0 [rr 0, ii x1, none, none] [] M := bx_go hD hV hW [(4, [])] 5 h
theorem b_30_4 {D : ca_} {V : vv_} {Qr : qr_} {Qt : qt_} (hD : Mo_ D) (hV : Cl_ wd0 D V Qr Qt m_30) (hW : Wk_ V) (x1 : Int) (x2 : Int) (x3 : Int) (M : mm_) (h :
 (if x3 < M 0 7 then
  (0 ≤ x3 ∧ x3 < 12) ∧
   (if M 11 x3 = x1 then
   V 4 [rr 0, ii x1, ii (w32 (x2 + 1)), ii (w32 (x3 + 1))] [] M
  else
   V 4 [rr 0, ii x1, ii (w32 (x2 + 0)), ii (w32 (x3 + 1))] [] M)
 else
  Qr [.inl x2] M)) : V 4 [rr 0, ii x1, ii x2, ii x3] [] M := bx_go hD hV hW [(4, [])] 18 h
/-- X0_makes(II)I -/
theorem b_31_0 {D : ca_} {V : vv_} {Qr : qr_} {Qt : qt_} (hD : Mo_ D) (hV : Cl_ wd0 D V Qr Qt m_31) (hW : Wk_ V) (x1 : Int) (x2 : Int) (M : mm_) (h :
 (0 ≤ M 0 7 ∧ M 0 7 < 12) ∧
  (bl_ (M 0 25) → (if M 0 25 = 0 then
  (0 ≤ M 0 7 ∧ M 0 7 < 12) ∧
   (0 ≤ M 0 7 ∧ M 0 7 < 12) ∧
   V 69 [rr 0, ii x1, ii x2, ii (M 0 7), ii 0] [] (up_ (up_ (up_ (up_ (up_ (up_ M 0 7 (w32 ((M 0 7) + 1))) 10 (M 0 7) (M 0 8)) 0 8 (w32 ((M 0 8) + 1))) 0 26 (w32 ((M 0 26) + 1))) 11 (M 0 7) x1) 12 (M 0 7) ((-1)))
 else
  (0 ≤ M 0 7 ∧ M 0 7 < 12) ∧
   (0 ≤ M 0 7 ∧ M 0 7 < 12) ∧
   V 69 [rr 0, ii x1, ii x2, ii (M 0 7), ii 0] [] (up_ (up_ (up_ (up_ (up_ M 0 7 (w32 ((M 0 7) + 1))) 10 (M 0 7) (M 0 8)) 0 8 (w32 ((M 0 8) + 1))) 11 (M 0 7) x1) 12 (M 0 7) ((-1)))))) : V 0 [rr 0, ii x1, ii x2, none, none] [] M := bx_go hD hV hW [(69, []), (105, [])] 43 h
theorem i_31 : inq_ 0 k_31 = true := by decide +kernel
theorem z_31_42 : Sf_ k_31 g_31_42 := Sf_of i_31 42 rfl
theorem b_31_69 {D : ca_} {V : vv_} {Qr : qr_} {Qt : qt_} (hD : Mo_ D) (hV : Cl_ wd0 D V Qr Qt m_31) (hW : Wk_ V) (x1 : Int) (x2 : Int) (x3 : Int) (x4 : Int) (M : mm_) (h :
 (if x4 < 16 then
  (0 ≤ w32 ((w32 (16 * x3)) + x4) ∧ w32 ((w32 (16 * x3)) + x4) < 192) ∧
   V 69 [rr 0, ii x1, ii x2, ii x3, ii (w32 (x4 + 1))] [] (up_ M 13 (w32 ((w32 (16 * x3)) + x4)) 0)
 else
  (0 ≤ x3 ∧ x3 < 12) ∧
   V 105 [rr 0, ii x1, ii x2, ii x3, ii 0] [] (up_ M 14 x3 0))) : V 69 [rr 0, ii x1, ii x2, ii x3, ii x4] [] M := bx_go hD (m := (g_31_42, m_31.2)) (Cl_sf z_31_42 hV) hW [(69, []), (105, [])] 15 h
theorem z_31_63 : Sf_ k_31 g_31_63 := Sf_tr z_31_42 21 rfl
theorem b_31_105 {D : ca_} {V : vv_} {Qr : qr_} {Qt : qt_} (hD : Mo_ D) (hV : Cl_ wd0 D V Qr Qt m_31) (hW : Wk_ V) (x1 : Int) (x2 : Int) (x3 : Int) (x4 : Int) (M : mm_) (h :
 (if x4 < 3 then
  ((0 ≤ w32 ((w32 (3 * x3)) + x4) ∧ w32 ((w32 (3 * x3)) + x4) < 36) ∧ bl_ 0) ∧
   V 105 [rr 0, ii x1, ii x2, ii x3, ii (w32 (x4 + 1))] [] (up_ M 16 (w32 ((w32 (3 * x3)) + x4)) 0)
 else
  (0 ≤ x3 ∧ x3 < 12) ∧
   (0 ≤ x3 ∧ x3 < 12) ∧
   (0 ≤ x3 ∧ x3 < 12) ∧
   (0 ≤ x3 ∧ x3 < 12) ∧
   D 5 [.inr (.inr 0), .inl 0, .inl (M 10 x3), .inl ((-1)), .inl x2] (up_ (up_ (up_ M 18 x3 0) 19 x3 x2) 20 x3 0) (rv_ fun M1 =>
   Qr [.inl x3] M1) Qt)) : V 105 [rr 0, ii x1, ii x2, ii x3, ii x4] [] M := bx_go hD (m := (g_31_63, m_31.2)) (Cl_sf z_31_63 hV) hW [(69, []), (105, [])] 29 h
/-- X0_stops(I)V -/
theorem b_32_0 {D : ca_} {V : vv_} {Qr : qr_} {Qt : qt_} (hD : Mo_ D) (hV : Cl_ wd0 D V Qr Qt m_32) (hW : Wk_ V) (x1 : Int) (M : mm_) (h :
 (0 ≤ x1 ∧ x1 < 12) ∧
  D 5 [.inr (.inr 0), .inl 6, .inl (M 10 x1), .inl ((-1)), .inl 0] M (rv_ fun M1 =>
  V 18 [rr 0, ii x1, ii (M 10 x1), ii 0, none] [] M1) Qt) : V 0 [rr 0, ii x1, none, none, none] [] M := bx_go hD hV hW [(18, [4]), (73, [4]), (182, []), (224, []), (266, [])] 14 h
theorem i_32 : inq_ 0 k_32 = true := by decide +kernel
theorem z_32_13 : Sf_ k_32 g_32_13 := Sf_of i_32 13 rfl
theorem b_32_18 {D : ca_} {V : vv_} {Qr : qr_} {Qt : qt_} (hD : Mo_ D) (hV : Cl_ wd0 D V Qr Qt m_32) (hW : Wk_ V) (x1 : Int) (x2 : Int) (x3 : Int) (M : mm_) (h :
 (0 ≤ x1 ∧ x1 < 12) ∧
  (if x3 < M 14 x1 then
  D 9 [.inl x1, .inl x3] M (ri_ fun v1 M1 =>
   (0 ≤ v1 ∧ v1 < 360) ∧
    D 9 [.inl x1, .inl x3] M1 (ri_ fun v2 M2 =>
    (0 ≤ w32 (v2 + 1) ∧ w32 (v2 + 1) < 360) ∧
     D 7 [.inr (.inr 0), .inl x2, .inl (M1 15 v1), .inl (M2 15 (w32 (v2 + 1)))] M2 (rv_ fun M3 =>
     V 18 [rr 0, ii x1, ii x2, ii (w32 (x3 + 1)), none] [] M3) Qt) Qt) Qt
 else
  V 73 [rr 0, ii x1, ii x2, ii x1, none] [] (up_ M 0 7 (w32 ((M 0 7) - 1))))) : V 18 [rr 0, ii x1, ii x2, ii x3, none] [] M := bx_go hD (m := (g_32_13, m_32.2)) (Cl_sf z_32_13 hV) hW [(18, [4]), (73, [4]), (182, []), (224, []), (266, [])] 26 h
theorem z_32_46 : Sf_ k_32 g_32_46 := Sf_tr z_32_13 33 rfl
theorem b_32_73 {D : ca_} {V : vv_} {Qr : qr_} {Qt : qt_} (hD : Mo_ D) (hV : Cl_ wd0 D V Qr Qt m_32) (hW : Wk_ V) (x1 : Int) (x2 : Int) (x3 : Int) (M : mm_) (h :
 (if x3 < M 0 7 then
  (0 ≤ w32 (x3 + 1) ∧ w32 (x3 + 1) < 12) ∧
   (0 ≤ x3 ∧ x3 < 12) ∧
   (0 ≤ w32 (x3 + 1) ∧ w32 (x3 + 1) < 12) ∧
   (0 ≤ x3 ∧ x3 < 12) ∧
   (0 ≤ w32 (x3 + 1) ∧ w32 (x3 + 1) < 12) ∧
   (0 ≤ x3 ∧ x3 < 12) ∧
   (0 ≤ w32 (x3 + 1) ∧ w32 (x3 + 1) < 12) ∧
   (0 ≤ x3 ∧ x3 < 12) ∧
   (0 ≤ w32 (x3 + 1) ∧ w32 (x3 + 1) < 12) ∧
   (0 ≤ x3 ∧ x3 < 12) ∧
   (0 ≤ w32 (x3 + 1) ∧ w32 (x3 + 1) < 12) ∧
   (0 ≤ x3 ∧ x3 < 12) ∧
   (0 ≤ w32 (x3 + 1) ∧ w32 (x3 + 1) < 12) ∧
   (0 ≤ x3 ∧ x3 < 12) ∧
   V 182 [rr 0, ii x1, ii x2, ii x3, ii 0] [] (up_ (up_ (up_ (up_ (up_ (up_ (up_ M 10 x3 (M 10 (w32 (x3 + 1)))) 11 x3 (M 11 (w32 (x3 + 1)))) 12 x3 (M 12 (w32 (x3 + 1)))) 14 x3 (M 14 (w32 (x3 + 1)))) 18 x3 (M 18 (w32 (x3 + 1)))) 19 x3 (M 19 (w32 (x3 + 1)))) 20 x3 (M 20 (w32 (x3 + 1))))
 else
  Qr [] M)) : V 73 [rr 0, ii x1, ii x2, ii x3, none] [] M := bx_go hD (m := (g_32_46, m_32.2)) (Cl_sf z_32_46 hV) hW [(18, [4]), (73, [4]), (182, []), (224, []), (266, [])] 77 h
theorem z_32_122 : Sf_ k_32 g_32_122 := Sf_tr z_32_46 76 rfl
theorem b_32_182 {D : ca_} {V : vv_} {Qr : qr_} {Qt : qt_} (hD : Mo_ D) (hV : Cl_ wd0 D V Qr Qt m_32) (hW : Wk_ V) (x1 : Int) (x2 : Int) (x3 : Int) (x4 : Int) (M : mm_) (h :
 (if x4 < 16 then
  (0 ≤ w32 ((w32 (16 * (w32 (x3 + 1)))) + x4) ∧ w32 ((w32 (16 * (w32 (x3 + 1)))) + x4) < 192) ∧
   (0 ≤ w32 ((w32 (16 * x3)) + x4) ∧ w32 ((w32 (16 * x3)) + x4) < 192) ∧
   V 182 [rr 0, ii x1, ii x2, ii x3, ii (w32 (x4 + 1))] [] (up_ M 13 (w32 ((w32 (16 * x3)) + x4)) (M 13 (w32 ((w32 (16 * (w32 (x3 + 1)))) + x4))))
 else
  V 224 [rr 0, ii x1, ii x2, ii x3, ii 0] [] M)) : V 182 [rr 0, ii x1, ii x2, ii x3, ii x4] [] M := bx_go hD (m := (g_32_122, m_32.2)) (Cl_sf z_32_122 hV) hW [(18, [4]), (73, [4]), (182, []), (224, []), (266, [])] 24 h
theorem z_32_147 : Sf_ k_32 g_32_147 := Sf_tr z_32_122 25 rfl
theorem b_32_224 {D : ca_} {V : vv_} {Qr : qr_} {Qt : qt_} (hD : Mo_ D) (hV : Cl_ wd0 D V Qr Qt m_32) (hW : Wk_ V) (x1 : Int) (x2 : Int) (x3 : Int) (x4 : Int) (M : mm_) (h :
 (if x4 < 30 then
  (0 ≤ w32 ((w32 (30 * (w32 (x3 + 1)))) + x4) ∧ w32 ((w32 (30 * (w32 (x3 + 1)))) + x4) < 360) ∧
   (0 ≤ w32 ((w32 (30 * x3)) + x4) ∧ w32 ((w32 (30 * x3)) + x4) < 360) ∧
   V 224 [rr 0, ii x1, ii x2, ii x3, ii (w32 (x4 + 1))] [] (up_ M 15 (w32 ((w32 (30 * x3)) + x4)) (M 15 (w32 ((w32 (30 * (w32 (x3 + 1)))) + x4))))
 else
  V 266 [rr 0, ii x1, ii x2, ii x3, ii 0] [] M)) : V 224 [rr 0, ii x1, ii x2, ii x3, ii x4] [] M := bx_go hD (m := (g_32_147, m_32.2)) (Cl_sf z_32_147 hV) hW [(18, [4]), (73, [4]), (182, []), (224, []), (266, [])] 24 h
theorem z_32_172 : Sf_ k_32 g_32_172 := Sf_tr z_32_147 25 rfl
theorem b_32_266 {D : ca_} {V : vv_} {Qr : qr_} {Qt : qt_} (hD : Mo_ D) (hV : Cl_ wd0 D V Qr Qt m_32) (hW : Wk_ V) (x1 : Int) (x2 : Int) (x3 : Int) (x4 : Int) (M : mm_) (h :
 (if x4 < 3 then
  (0 ≤ w32 ((w32 (3 * (w32 (x3 + 1)))) + x4) ∧ w32 ((w32 (3 * (w32 (x3 + 1)))) + x4) < 36) ∧ (bl_ (M 16 (w32 ((w32 (3 * (w32 (x3 + 1)))) + x4))) →
   ((0 ≤ w32 ((w32 (3 * x3)) + x4) ∧ w32 ((w32 (3 * x3)) + x4) < 36) ∧ bl_ (M 16 (w32 ((w32 (3 * (w32 (x3 + 1)))) + x4)))) ∧
   (0 ≤ w32 ((w32 (3 * (w32 (x3 + 1)))) + x4) ∧ w32 ((w32 (3 * (w32 (x3 + 1)))) + x4) < 36) ∧
   (0 ≤ w32 ((w32 (3 * x3)) + x4) ∧ w32 ((w32 (3 * x3)) + x4) < 36) ∧
   V 266 [rr 0, ii x1, ii x2, ii x3, ii (w32 (x4 + 1))] [] (up_ (up_ M 16 (w32 ((w32 (3 * x3)) + x4)) (M 16 (w32 ((w32 (3 * (w32 (x3 + 1)))) + x4)))) 17 (w32 ((w32 (3 * x3)) + x4)) (M 17 (w32 ((w32 (3 * (w32 (x3 + 1)))) + x4)))))
 else
  V 73 [rr 0, ii x1, ii x2, ii (w32 (x3 + 1)), none] [] M)) : V 266 [rr 0, ii x1, ii x2, ii x3, ii x4] [] M := bx_go hD (m := (g_32_172, m_32.2)) (Cl_sf z_32_172 hV) hW [(18, [4]), (73, [4]), (182, []), (224, []), (266, [])] 42 h
/-- X0_go(I)I -/
theorem b_33_0 {D : ca_} {V : vv_} {Qr : qr_} {Qt : qt_} (hD : Mo_ D) (hV : Cl_ wd0 D V Qr Qt m_33) (hW : Wk_ V) (x1 : Int) (M : mm_) (h :
 (bl_ (M 0 4) → (if M 0 4 = 0 then
  Qr [.inl ((-1))] M
 else
  D 1 [.inr (.inr 0)] M (rv_ fun M1 =>
   D 6 [.inr (.inr 0), .inl x1] M1 (ri_ fun v1 M2 =>
    (if v1 = (-1) then
     Qr [.inl 0] M2
    else
     D 12 [.inr (.inr 0), .inl v1] M2 (ri_ fun v2 M3 =>
      (if v2 = 0 then
       Qr [.inl 0] M3
      else
       D 22 [.inr (.inr 0), .inl v1] (up_ M3 0 11 x1) (rv_ fun M4 =>
        Qr [.inl 1] (up_ M4 0 31 (w32 ((M4 0 31) + 1)))) Qt)) Qt)) Qt) Qt))) : V 0 [rr 0, ii x1, none] [] M := bx_go hD hV hW [] 30 h
/-- X0_none(II)I -/
theorem b_34_0 {D : ca_} {V : vv_} {Qr : qr_} {Qt : qt_} (hD : Mo_ D) (hV : Cl_ wd0 D V Qr Qt m_34) (hW : Wk_ V) (x1 : Int) (x2 : Int) (M : mm_) (h :
 (bl_ (M 0 4) → (if M 0 4 = 0 then
  Qr [.inl ((-1))] M
 else
  D 1 [.inr (.inr 0)] M (rv_ fun M1 =>
   D 6 [.inr (.inr 0), .inl x1] M1 (ri_ fun v1 M2 =>
    (if v1 = (-1) then
     (if (-1 : Int) = (-1) then
      Qr [.inl 0] M2
     else
      D 36 [.inr (.inr 0), .inl v1, .inl ((-1))] M2 (rv_ fun M3 =>
       Qr [.inl 1] M3) Qt)
    else
     (if x2 < 0 then
      (if (-1 : Int) = (-1) then
       Qr [.inl 0] M2
      else
       D 36 [.inr (.inr 0), .inl v1, .inl ((-1))] M2 (rv_ fun M6 =>
        Qr [.inl 1] M6) Qt)
     else
      D 35 [.inr (.inr 0), .inl v1, .inl x2] M2 (ri_ fun v2 M4 =>
       (if v2 = (-1) then
        Qr [.inl 0] M4
       else
        D 36 [.inr (.inr 0), .inl v1, .inl v2] M4 (rv_ fun M5 =>
         Qr [.inl 1] M5) Qt)) Qt))) Qt) Qt))) : V 0 [rr 0, ii x1, ii x2, none, none] [] M := bx_go hD hV hW [] 28 h
/-- X0_noneOf(II)I -/
theorem b_35_0 {D : ca_} {V : vv_} {Qr : qr_} {Qt : qt_} (hD : Mo_ D) (hV : Cl_ wd0 D V Qr Qt m_35) (hW : Wk_ V) (x1 : Int) (x2 : Int) (M : mm_) (h :
 V 5 [rr 0, ii x1, ii x2, ii x2, ii 0] [] M) : V 0 [rr 0, ii x1, ii x2, none, none] [] M := bx_go hD hV hW [(5, [])] 5 h
theorem b_35_5 {D : ca_} {V : vv_} {Qr : qr_} {Qt : qt_} (hD : Mo_ D) (hV : Cl_ wd0 D V Qr Qt m_35) (hW : Wk_ V) (x1 : Int) (x2 : Int) (x3 : Int) (x4 : Int) (M : mm_) (h :
 (if x4 < M 4 4 then
  (0 ≤ x1 ∧ x1 < 12) ∧
   (if M 12 x1 = (-1) then
   Qr [.inl ((-1))] M
  else
   (0 ≤ x4 ∧ x4 < 600) ∧
    (0 ≤ x1 ∧ x1 < 12) ∧
    (if M 101 x4 = M 11 x1 then
    (0 ≤ x4 ∧ x4 < 600) ∧
     (if M 100 x4 = 3 then
     (0 ≤ x4 ∧ x4 < 600) ∧
      (0 ≤ x1 ∧ x1 < 12) ∧
      (if an_ (sr_ (M 102 x4) (M 12 x1)) 1 = 0 then
      V 5 [rr 0, ii x1, ii x2, ii x3, ii (w32 (x4 + 1))] [] M
     else
      (if x3 = 0 then
       Qr [.inl x4] M
      else
       V 5 [rr 0, ii x1, ii x2, ii (w32 (x3 + (-1))), ii (w32 (x4 + 1))] [] M))
    else
     V 5 [rr 0, ii x1, ii x2, ii x3, ii (w32 (x4 + 1))] [] M)
   else
    V 5 [rr 0, ii x1, ii x2, ii x3, ii (w32 (x4 + 1))] [] M))
 else
  Qr [.inl ((-1))] M)) : V 5 [rr 0, ii x1, ii x2, ii x3, ii x4] [] M := bx_go hD hV hW [(5, [])] 47 h
/-- X0_moves(II)V -/
theorem b_36_0 {D : ca_} {V : vv_} {Qr : qr_} {Qt : qt_} (hD : Mo_ D) (hV : Cl_ wd0 D V Qr Qt m_36) (hW : Wk_ V) (x1 : Int) (x2 : Int) (M : mm_) (h :
 (0 ≤ x1 ∧ x1 < 12) ∧
  (0 ≤ x1 ∧ x1 < 12) ∧
  (0 ≤ x2 ∧ x2 < 600) ∧
  D 23 [.inr (.inr 0), .inl x1, .inl (M 108 x2)] (up_ M 18 x1 (M 10 x1)) (rv_ fun M1 =>
  Qr [] M1) Qt) : V 0 [rr 0, ii x1, ii x2] [] M := bx_go hD hV hW [] 17 h
/-- X0_search(I)I -/
theorem b_37_0 {D : ca_} {V : vv_} {Qr : qr_} {Qt : qt_} (hD : Mo_ D) (hV : Cl_ wd0 D V Qr Qt m_37) (hW : Wk_ V) (x1 : Int) (M : mm_) (h :
 (bl_ (M 0 4) → (if M 0 4 = 0 then
  Qr [.inl ((-1))] M
 else
  (if x1 < 1 then
   Qr [.inl ((-1))] M
  else
   (if x1 ≤ 200 then
    V 23 [rr 0, ii x1, ii 0, none, none, none] [] M
   else
    Qr [.inl ((-1))] M))))) : V 0 [rr 0, ii x1, none, none, none, none] [] M := bx_go hD hV hW [(23, [3, 4, 5]), (49, [3, 4, 5]), (83, [3, 4, 5]), (156, [3, 4, 5]), (188, []), (341, []), (387, [3, 4, 5]), (413, [3, 4, 5])] 12 h
theorem i_37 : inq_ 0 k_37 = true := by decide +kernel
theorem z_37_13 : Sf_ k_37 g_37_13 := Sf_of i_37 13 rfl
theorem b_37_23 {D : ca_} {V : vv_} {Qr : qr_} {Qt : qt_} (hD : Mo_ D) (hV : Cl_ wd0 D V Qr Qt m_37) (hW : Wk_ V) (x1 : Int) (x2 : Int) (M : mm_) (h :
 (if x2 < 36 then
  (0 ≤ x2 ∧ x2 < 36) ∧
   (0 ≤ x2 ∧ x2 < 96) ∧
   V 23 [rr 0, ii x1, ii (w32 (x2 + 1)), none, none, none] [] (up_ M 41 x2 (M 17 x2))
 else
  V 49 [rr 0, ii x1, ii 0, none, none, none] [] M)) : V 23 [rr 0, ii x1, ii x2, none, none, none] [] M := bx_go hD (m := (g_37_13, m_37.2)) (Cl_sf z_37_13 hV) hW [(23, [3, 4, 5]), (49, [3, 4, 5]), (83, [3, 4, 5]), (156, [3, 4, 5]), (188, []), (341, []), (387, [3, 4, 5]), (413, [3, 4, 5])] 14 h
theorem z_37_28 : Sf_ k_37 g_37_28 := Sf_tr z_37_13 15 rfl
theorem b_37_49 {D : ca_} {V : vv_} {Qr : qr_} {Qt : qt_} (hD : Mo_ D) (hV : Cl_ wd0 D V Qr Qt m_37) (hW : Wk_ V) (x1 : Int) (x2 : Int) (M : mm_) (h :
 (if x2 < 60 then
  (0 ≤ w32 ((w32 (7 * x2)) + 3) ∧ w32 ((w32 (7 * x2)) + 3) < 420) ∧
   (0 ≤ w32 (36 + x2) ∧ w32 (36 + x2) < 96) ∧
   V 49 [rr 0, ii x1, ii (w32 (x2 + 1)), none, none, none] [] (up_ M 41 (w32 (36 + x2)) (M 22 (w32 ((w32 (7 * x2)) + 3))))
 else
  V 83 [rr 0, ii x1, ii 0, none, none, none] [] M)) : V 49 [rr 0, ii x1, ii x2, none, none, none] [] M := bx_go hD (m := (g_37_28, m_37.2)) (Cl_sf z_37_28 hV) hW [(23, [3, 4, 5]), (49, [3, 4, 5]), (83, [3, 4, 5]), (156, [3, 4, 5]), (188, []), (341, []), (387, [3, 4, 5]), (413, [3, 4, 5])] 20 h
theorem z_37_49 : Sf_ k_37 g_37_49 := Sf_tr z_37_28 21 rfl
theorem b_37_83 {D : ca_} {V : vv_} {Qr : qr_} {Qt : qt_} (hD : Mo_ D) (hV : Cl_ wd0 D V Qr Qt m_37) (hW : Wk_ V) (x1 : Int) (x2 : Int) (M : mm_) (h :
 (if x2 < 1024 then
  (0 ≤ x2 ∧ x2 < 1024) ∧
   V 83 [rr 0, ii x1, ii (w32 (x2 + 1)), none, none, none] [] (up_ M 31 x2 ((-1)))
 else
  bl_ 1 ∧ D 38 [.inr (.inr 0), .inl 0] (up_ M 0 25 1) (rv_ fun M1 =>
   D 40 [.inr (.inr 0), .inl 0] M1 (rv_ fun M2 =>
    (0 ≤ (0 : Int) ∧ (0 : Int) < 200) ∧
     (0 ≤ (0 : Int) ∧ (0 : Int) < 200) ∧
     (0 ≤ (0 : Int) ∧ (0 : Int) < 200) ∧
     V 156 [rr 0, ii x1, ii 0, none, none, none] [] (up_ (up_ (up_ (up_ (up_ (up_ M2 32 0 ((-1))) 33 0 ((-1))) 34 0 0) 0 62 1) 0 63 0) 0 64 0)) Qt) Qt)) : V 83 [rr 0, ii x1, ii x2, none, none, none] [] M := bx_go hD (m := (g_37_49, m_37.2)) (Cl_sf z_37_49 hV) hW [(23, [3, 4, 5]), (49, [3, 4, 5]), (83, [3, 4, 5]), (156, [3, 4, 5]), (188, []), (341, []), (387, [3, 4, 5]), (413, [3, 4, 5])] 39 h
theorem z_37_94 : Sf_ k_37 g_37_94 := Sf_tr z_37_49 45 rfl
theorem b_37_156 {D : ca_} {V : vv_} {Qr : qr_} {Qt : qt_} (hD : Mo_ D) (hV : Cl_ wd0 D V Qr Qt m_37) (hW : Wk_ V) (x1 : Int) (x2 : Int) (M : mm_) (h :
 (if x2 < M 0 62 then
  (if M 0 63 = 0 then
   D 41 [.inr (.inr 0), .inl x2] M (rv_ fun M3 =>
    D 43 [.inr (.inr 0)] M3 (rv_ fun M4 =>
     V 188 [rr 0, ii x1, ii x2, ii 0, ii 0, ii 0] [] M4) Qt) Qt
  else
   D 41 [.inr (.inr 0), .inl 0] M (rv_ fun M2 =>
    V 387 [rr 0, ii x1, ii 0, none, none, none] [] M2) Qt)
 else
  D 41 [.inr (.inr 0), .inl 0] M (rv_ fun M1 =>
   V 387 [rr 0, ii x1, ii 0, none, none, none] [] M1) Qt)) : V 156 [rr 0, ii x1, ii x2, none, none, none] [] M := bx_go hD (m := (g_37_94, m_37.2)) (Cl_sf z_37_94 hV) hW [(23, [3, 4, 5]), (49, [3, 4, 5]), (83, [3, 4, 5]), (156, [3, 4, 5]), (188, []), (341, []), (387, [3, 4, 5]), (413, [3, 4, 5])] 19 h
theorem z_37_112 : Sf_ k_37 g_37_112 := Sf_tr z_37_94 18 rfl
theorem b_37_188 {D : ca_} {V : vv_} {Qr : qr_} {Qt : qt_} (hD : Mo_ D) (hV : Cl_ wd0 D V Qr Qt m_37) (hW : Wk_ V) (x1 : Int) (x2 : Int) (x3 : Int) (x4 : Int) (x5 : Int) (M : mm_) (h :
 (if x3 < M 0 69 then
  D 41 [.inr (.inr 0), .inl x2] M (rv_ fun M1 =>
   D 45 [.inr (.inr 0), .inl x3] (up_ (up_ M1 0 37 0) 0 38 0) (rv_ fun M2 =>
    D 38 [.inr (.inr 0), .inl (M2 0 62)] (up_ M2 0 64 (w32 ((M2 0 64) + 1))) (rv_ fun M3 =>
     D 46 [.inr (.inr 0), .inl (M3 0 62)] M3 (ri_ fun v1 M4 =>
      (if v1 = (-1) then
       (if M4 0 62 = x1 then
        V 341 [rr 0, ii x1, ii x2, ii x3, ii (w32 (x4 + (M2 0 37))), ii (w32 (x5 + (M2 0 38)))] [] (up_ M4 0 63 1)
       else
        D 40 [.inr (.inr 0), .inl (M4 0 62)] M4 (rv_ fun M5 =>
         (0 ≤ M5 0 62 ∧ M5 0 62 < 200) ∧
          (0 ≤ M5 0 62 ∧ M5 0 62 < 200) ∧
          (0 ≤ x2 ∧ x2 < 200) ∧
          (0 ≤ M5 0 62 ∧ M5 0 62 < 200) ∧
          V 188 [rr 0, ii x1, ii x2, ii (w32 (x3 + 1)), ii (w32 (x4 + (M2 0 37))), ii (w32 (x5 + (M2 0 38)))] [] (up_ (up_ (up_ (up_ M5 32 (M5 0 62) x2) 33 (M5 0 62) x3) 34 (M5 0 62) (w32 ((M5 34 x2) + 1))) 0 62 (w32 ((M5 0 62) + 1)))) Qt)
      else
       V 188 [rr 0, ii x1, ii x2, ii (w32 (x3 + 1)), ii (w32 (x4 + (M2 0 37))), ii (w32 (x5 + (M2 0 38)))] [] M4)) Qt) Qt) Qt) Qt
 else
  V 341 [rr 0, ii x1, ii x2, ii x3, ii x4, ii x5] [] M)) : V 188 [rr 0, ii x1, ii x2, ii x3, ii x4, ii x5] [] M := bx_go hD (m := (g_37_112, m_37.2)) (Cl_sf z_37_112 hV) hW [(23, [3, 4, 5]), (49, [3, 4, 5]), (83, [3, 4, 5]), (156, [3, 4, 5]), (188, []), (341, []), (387, [3, 4, 5]), (413, [3, 4, 5])] 82 h
theorem z_37_197 : Sf_ k_37 g_37_197 := Sf_tr z_37_112 85 rfl
theorem b_37_341 {D : ca_} {V : vv_} {Qr : qr_} {Qt : qt_} (hD : Mo_ D) (hV : Cl_ wd0 D V Qr Qt m_37) (hW : Wk_ V) (x1 : Int) (x2 : Int) (x3 : Int) (x4 : Int) (x5 : Int) (M : mm_) (h :
 (if M 0 63 = 0 then
  (0 ≤ x2 ∧ x2 < 200) ∧
   (0 ≤ x2 ∧ x2 < 200) ∧
   (0 ≤ x2 ∧ x2 < 200) ∧
   V 156 [rr 0, ii x1, ii (w32 (x2 + 1)), none, none, none] [] (up_ (up_ (up_ M 35 x2 x3) 36 x2 x4) 37 x2 x5)
 else
  D 41 [.inr (.inr 0), .inl 0] M (rv_ fun M1 =>
   V 387 [rr 0, ii x1, ii 0, none, none, none] [] M1) Qt)) : V 341 [rr 0, ii x1, ii x2, ii x3, ii x4, ii x5] [] M := bx_go hD (m := (g_37_197, m_37.2)) (Cl_sf z_37_197 hV) hW [(23, [3, 4, 5]), (49, [3, 4, 5]), (83, [3, 4, 5]), (156, [3, 4, 5]), (188, []), (341, []), (387, [3, 4, 5]), (413, [3, 4, 5])] 21 h
theorem z_37_223 : Sf_ k_37 g_37_223 := Sf_tr z_37_197 26 rfl
theorem b_37_387 {D : ca_} {V : vv_} {Qr : qr_} {Qt : qt_} (hD : Mo_ D) (hV : Cl_ wd0 D V Qr Qt m_37) (hW : Wk_ V) (x1 : Int) (x2 : Int) (M : mm_) (h :
 (if x2 < 36 then
  (0 ≤ x2 ∧ x2 < 96) ∧
   (0 ≤ x2 ∧ x2 < 36) ∧
   V 387 [rr 0, ii x1, ii (w32 (x2 + 1)), none, none, none] [] (up_ M 17 x2 (M 41 x2))
 else
  V 413 [rr 0, ii x1, ii 0, none, none, none] [] M)) : V 387 [rr 0, ii x1, ii x2, none, none, none] [] M := bx_go hD (m := (g_37_223, m_37.2)) (Cl_sf z_37_223 hV) hW [(23, [3, 4, 5]), (49, [3, 4, 5]), (83, [3, 4, 5]), (156, [3, 4, 5]), (188, []), (341, []), (387, [3, 4, 5]), (413, [3, 4, 5])] 14 h
theorem z_37_238 : Sf_ k_37 g_37_238 := Sf_tr z_37_223 15 rfl
theorem b_37_413 {D : ca_} {V : vv_} {Qr : qr_} {Qt : qt_} (hD : Mo_ D) (hV : Cl_ wd0 D V Qr Qt m_37) (hW : Wk_ V) (x1 : Int) (x2 : Int) (M : mm_) (h :
 (if x2 < 60 then
  (0 ≤ w32 (36 + x2) ∧ w32 (36 + x2) < 96) ∧
   (0 ≤ w32 ((w32 (7 * x2)) + 3) ∧ w32 ((w32 (7 * x2)) + 3) < 420) ∧
   V 413 [rr 0, ii x1, ii (w32 (x2 + 1)), none, none, none] [] (up_ M 22 (w32 ((w32 (7 * x2)) + 3)) (M 41 (w32 (36 + x2))))
 else
  bl_ 0 ∧ Qr [.inl (M 0 62)] (up_ M 0 25 0))) : V 413 [rr 0, ii x1, ii x2, none, none, none] [] M := bx_go hD (m := (g_37_238, m_37.2)) (Cl_sf z_37_238 hV) hW [(23, [3, 4, 5]), (49, [3, 4, 5]), (83, [3, 4, 5]), (156, [3, 4, 5]), (188, []), (341, []), (387, [3, 4, 5]), (413, [3, 4, 5])] 20 h
/-- X0_pack(I)V -/
theorem b_38_0 {D : ca_} {V : vv_} {Qr : qr_} {Qt : qt_} (hD : Mo_ D) (hV : Cl_ wd0 D V Qr Qt m_38) (hW : Wk_ V) (x1 : Int) (M : mm_) (h :
 D 39 [.inr (.inr 0), .inl (M 0 7)] (up_ M 0 65 (w32 (1100 * x1))) (rv_ fun M1 =>
  D 39 [.inr (.inr 0), .inl (M1 0 8)] M1 (rv_ fun M2 =>
   V 27 [rr 0, ii x1, ii 0, none, none] [] M2) Qt) Qt) : V 0 [rr 0, ii x1, none, none, none] [] M := bx_go hD hV hW [(27, [3, 4]), (100, []), (145, []), (199, []), (243, [3, 4]), (266, [4]), (279, []), (352, [4])] 16 h
theorem i_38 : inq_ 0 k_38 = true := by decide +kernel
theorem z_38_15 : Sf_ k_38 g_38_15 := Sf_of i_38 15 rfl
theorem b_38_27 {D : ca_} {V : vv_} {Qr : qr_} {Qt : qt_} (hD : Mo_ D) (hV : Cl_ wd0 D V Qr Qt m_38) (hW : Wk_ V) (x1 : Int) (x2 : Int) (M : mm_) (h :
 (if x2 < M 0 7 then
  (0 ≤ x2 ∧ x2 < 12) ∧
   D 39 [.inr (.inr 0), .inl (M 10 x2)] M (rv_ fun M1 =>
   (0 ≤ x2 ∧ x2 < 12) ∧
    D 39 [.inr (.inr 0), .inl (M1 11 x2)] M1 (rv_ fun M2 =>
    (0 ≤ x2 ∧ x2 < 12) ∧
     D 39 [.inr (.inr 0), .inl (M2 12 x2)] M2 (rv_ fun M3 =>
     (0 ≤ x2 ∧ x2 < 12) ∧
      D 39 [.inr (.inr 0), .inl (M3 18 x2)] M3 (rv_ fun M4 =>
      (0 ≤ x2 ∧ x2 < 12) ∧
       D 39 [.inr (.inr 0), .inl (M4 19 x2)] M4 (rv_ fun M5 =>
       (0 ≤ x2 ∧ x2 < 12) ∧
        D 39 [.inr (.inr 0), .inl (M5 20 x2)] M5 (rv_ fun M6 =>
        V 100 [rr 0, ii x1, ii x2, ii 0, ii 0] [] M6) Qt) Qt) Qt) Qt) Qt) Qt
 else
  V 243 [rr 0, ii x1, ii 0, none, none] [] M)) : V 27 [rr 0, ii x1, ii x2, none, none] [] M := bx_go hD (m := (g_38_15, m_38.2)) (Cl_sf z_38_15 hV) hW [(27, [3, 4]), (100, []), (145, []), (199, []), (243, [3, 4]), (266, [4]), (279, []), (352, [4])] 45 h
theorem z_38_59 : Sf_ k_38 g_38_59 := Sf_tr z_38_15 44 rfl
theorem b_38_100 {D : ca_} {V : vv_} {Qr : qr_} {Qt : qt_} (hD : Mo_ D) (hV : Cl_ wd0 D V Qr Qt m_38) (hW : Wk_ V) (x1 : Int) (x2 : Int) (x3 : Int) (x4 : Int) (M : mm_) (h :
 (if x4 < 3 then
  (0 ≤ w32 ((w32 (3 * x2)) + x4) ∧ w32 ((w32 (3 * x2)) + x4) < 36) ∧ (bl_ (M 16 (w32 ((w32 (3 * x2)) + x4))) →
   (if M 16 (w32 ((w32 (3 * x2)) + x4)) = 0 then
   V 100 [rr 0, ii x1, ii x2, ii (or_ x3 0), ii (w32 (x4 + 1))] [] M
  else
   V 100 [rr 0, ii x1, ii x2, ii (or_ x3 (sl_ 1 x4)), ii (w32 (x4 + 1))] [] M))
 else
  D 39 [.inr (.inr 0), .inl x3] M (rv_ fun M1 =>
   V 145 [rr 0, ii x1, ii x2, ii x3, ii 0] [] M1) Qt)) : V 100 [rr 0, ii x1, ii x2, ii x3, ii x4] [] M := bx_go hD (m := (g_38_59, m_38.2)) (Cl_sf z_38_59 hV) hW [(27, [3, 4]), (100, []), (145, []), (199, []), (243, [3, 4]), (266, [4]), (279, []), (352, [4])] 22 h
theorem z_38_86 : Sf_ k_38 g_38_86 := Sf_tr z_38_59 27 rfl
theorem b_38_145 {D : ca_} {V : vv_} {Qr : qr_} {Qt : qt_} (hD : Mo_ D) (hV : Cl_ wd0 D V Qr Qt m_38) (hW : Wk_ V) (x1 : Int) (x2 : Int) (x3 : Int) (x4 : Int) (M : mm_) (h :
 (0 ≤ x2 ∧ x2 < 12) ∧
  (0 ≤ M 11 x2 ∧ M 11 x2 < 6) ∧
  (if x4 < M 92 (M 11 x2) then
  (0 ≤ w32 ((w32 (16 * x2)) + x4) ∧ w32 ((w32 (16 * x2)) + x4) < 192) ∧
   D 39 [.inr (.inr 0), .inl (M 13 (w32 ((w32 (16 * x2)) + x4)))] M (rv_ fun M2 =>
   V 145 [rr 0, ii x1, ii x2, ii x3, ii (w32 (x4 + 1))] [] M2) Qt
 else
  (0 ≤ x2 ∧ x2 < 12) ∧
   D 39 [.inr (.inr 0), .inl (M 14 x2)] M (rv_ fun M1 =>
   V 199 [rr 0, ii x1, ii x2, ii x3, ii 0] [] M1) Qt)) : V 145 [rr 0, ii x1, ii x2, ii x3, ii x4] [] M := bx_go hD (m := (g_38_86, m_38.2)) (Cl_sf z_38_86 hV) hW [(27, [3, 4]), (100, []), (145, []), (199, []), (243, [3, 4]), (266, [4]), (279, []), (352, [4])] 23 h
theorem z_38_116 : Sf_ k_38 g_38_116 := Sf_tr z_38_86 30 rfl
theorem b_38_199 {D : ca_} {V : vv_} {Qr : qr_} {Qt : qt_} (hD : Mo_ D) (hV : Cl_ wd0 D V Qr Qt m_38) (hW : Wk_ V) (x1 : Int) (x2 : Int) (x3 : Int) (x4 : Int) (M : mm_) (h :
 (0 ≤ x2 ∧ x2 < 12) ∧
  (if x4 < w32 (5 * (M 14 x2)) then
  D 9 [.inl x2, .inl 0] M (ri_ fun v1 M1 =>
   (0 ≤ w32 (v1 + x4) ∧ w32 (v1 + x4) < 360) ∧
    D 39 [.inr (.inr 0), .inl (M1 15 (w32 (v1 + x4)))] M1 (rv_ fun M2 =>
    V 199 [rr 0, ii x1, ii x2, ii x3, ii (w32 (x4 + 1))] [] M2) Qt) Qt
 else
  V 27 [rr 0, ii x1, ii (w32 (x2 + 1)), none, none] [] M)) : V 199 [rr 0, ii x1, ii x2, ii x3, ii x4] [] M := bx_go hD (m := (g_38_116, m_38.2)) (Cl_sf z_38_116 hV) hW [(27, [3, 4]), (100, []), (145, []), (199, []), (243, [3, 4]), (266, [4]), (279, []), (352, [4])] 21 h
theorem z_38_140 : Sf_ k_38 g_38_140 := Sf_tr z_38_116 24 rfl
theorem b_38_243 {D : ca_} {V : vv_} {Qr : qr_} {Qt : qt_} (hD : Mo_ D) (hV : Cl_ wd0 D V Qr Qt m_38) (hW : Wk_ V) (x1 : Int) (x2 : Int) (M : mm_) (h :
 (if x2 < M 4 1 then
  (0 ≤ x2 ∧ x2 < 10) ∧
   D 39 [.inr (.inr 0), .inl (M 21 x2)] M (rv_ fun M1 =>
   V 266 [rr 0, ii x1, ii x2, ii 0, none] [] M1) Qt
 else
  (0 ≤ x1 ∧ x1 < 201) ∧
   V 352 [rr 0, ii x1, ii 17, ii (w32 (1100 * x1)), none] [] (up_ M 28 x1 (w32 ((M 0 65) - (w32 (1100 * x1))))))) : V 243 [rr 0, ii x1, ii x2, none, none] [] M := bx_go hD (m := (g_38_140, m_38.2)) (Cl_sf z_38_140 hV) hW [(27, [3, 4]), (100, []), (145, []), (199, []), (243, [3, 4]), (266, [4]), (279, []), (352, [4])] 22 h
theorem z_38_153 : Sf_ k_38 g_38_153 := Sf_tr z_38_140 13 rfl
theorem b_38_266 {D : ca_} {V : vv_} {Qr : qr_} {Qt : qt_} (hD : Mo_ D) (hV : Cl_ wd0 D V Qr Qt m_38) (hW : Wk_ V) (x1 : Int) (x2 : Int) (x3 : Int) (M : mm_) (h :
 (0 ≤ x2 ∧ x2 < 10) ∧
  (if x3 < M 21 x2 then
  V 279 [rr 0, ii x1, ii x2, ii x3, ii 0] [] M
 else
  V 243 [rr 0, ii x1, ii (w32 (x2 + 1)), none, none] [] M)) : V 266 [rr 0, ii x1, ii x2, ii x3, none] [] M := bx_go hD (m := (g_38_153, m_38.2)) (Cl_sf z_38_153 hV) hW [(27, [3, 4]), (100, []), (145, []), (199, []), (243, [3, 4]), (266, [4]), (279, []), (352, [4])] 9 h
theorem z_38_161 : Sf_ k_38 g_38_161 := Sf_tr z_38_153 8 rfl
theorem b_38_279 {D : ca_} {V : vv_} {Qr : qr_} {Qt : qt_} (hD : Mo_ D) (hV : Cl_ wd0 D V Qr Qt m_38) (hW : Wk_ V) (x1 : Int) (x2 : Int) (x3 : Int) (x4 : Int) (M : mm_) (h :
 (if x4 < 7 then
  (if x4 = 3 then
   V 279 [rr 0, ii x1, ii x2, ii x3, ii (w32 (x4 + 1))] [] M
  else
   D 2 [.inl x2, .inl x3] M (ri_ fun v1 M1 =>
    (0 ≤ w32 (v1 + x4) ∧ w32 (v1 + x4) < 420) ∧
     D 39 [.inr (.inr 0), .inl (M1 22 (w32 (v1 + x4)))] M1 (rv_ fun M2 =>
     V 279 [rr 0, ii x1, ii x2, ii x3, ii (w32 (x4 + 1))] [] M2) Qt) Qt)
 else
  V 266 [rr 0, ii x1, ii x2, ii (w32 (x3 + 1)), none] [] M)) : V 279 [rr 0, ii x1, ii x2, ii x3, ii x4] [] M := bx_go hD (m := (g_38_161, m_38.2)) (Cl_sf z_38_161 hV) hW [(27, [3, 4]), (100, []), (145, []), (199, []), (243, [3, 4]), (266, [4]), (279, []), (352, [4])] 19 h
theorem z_38_199 : Sf_ k_38 g_38_199 := Sf_tr z_38_161 38 rfl
theorem b_38_352 {D : ca_} {V : vv_} {Qr : qr_} {Qt : qt_} (hD : Mo_ D) (hV : Cl_ wd0 D V Qr Qt m_38) (hW : Wk_ V) (x1 : Int) (x2 : Int) (x3 : Int) (M : mm_) (h :
 (if x3 < M 0 65 then
  (0 ≤ x3 ∧ x3 < 221100) ∧
   V 352 [rr 0, ii x1, ii (w32 ((w32 (31 * x2)) + (M 27 x3))), ii (w32 (x3 + 1)), none] [] M
 else
  (0 ≤ x1 ∧ x1 < 201) ∧
   Qr [] (up_ M 29 x1 (xo_ x2 (us_ x2 13))))) : V 352 [rr 0, ii x1, ii x2, ii x3, none] [] M := bx_go hD (m := (g_38_199, m_38.2)) (Cl_sf z_38_199 hV) hW [(27, [3, 4]), (100, []), (145, []), (199, []), (243, [3, 4]), (266, [4]), (279, []), (352, [4])] 16 h
/-- X0_packs(I)V -/
theorem b_39_0 {D : ca_} {V : vv_} {Qr : qr_} {Qt : qt_} (hD : Mo_ D) (hV : Cl_ wd0 D V Qr Qt m_39) (hW : Wk_ V) (x1 : Int) (M : mm_) (h :
 (0 ≤ M 0 65 ∧ M 0 65 < 221100) ∧
  Qr [] (up_ (up_ M 27 (M 0 65) x1) 0 65 (w32 ((M 0 65) + 1)))) : V 0 [rr 0, ii x1] [] M := bx_go hD hV hW [] 13 h
/-- X0_keeps(I)V -/
theorem b_40_0 {D : ca_} {V : vv_} {Qr : qr_} {Qt : qt_} (hD : Mo_ D) (hV : Cl_ wd0 D V Qr Qt m_40) (hW : Wk_ V) (x1 : Int) (M : mm_) (h :
 (0 ≤ x1 ∧ x1 < 201) ∧
  (0 ≤ an_ (M 29 x1) 1023 ∧ an_ (M 29 x1) 1023 < 1024) ∧
  (0 ≤ x1 ∧ x1 < 201) ∧
  (0 ≤ x1 ∧ x1 < 201) ∧
  (0 ≤ an_ (M 29 x1) 1023 ∧ an_ (M 29 x1) 1023 < 1024) ∧
  (0 ≤ x1 ∧ x1 < 200) ∧
  (0 ≤ x1 ∧ x1 < 200) ∧
  (0 ≤ x1 ∧ x1 < 200) ∧
  Qr [] (up_ (up_ (up_ (up_ (up_ M 30 x1 (M 31 (an_ (M 29 x1) 1023))) 31 (an_ (M 29 x1) 1023) x1) 35 x1 ((-1))) 36 x1 ((-1))) 37 x1 ((-1)))) : V 0 [rr 0, ii x1] [] M := bx_go hD hV hW [] 39 h
/-- X0_unpack(I)V -/
theorem b_41_0 {D : ca_} {V : vv_} {Qr : qr_} {Qt : qt_} (hD : Mo_ D) (hV : Cl_ wd0 D V Qr Qt m_41) (hW : Wk_ V) (x1 : Int) (M : mm_) (h :
 D 42 [.inr (.inr 0)] (up_ M 0 65 (w32 (1100 * x1))) (ri_ fun v1 M1 =>
  D 42 [.inr (.inr 0)] (up_ M1 0 7 v1) (ri_ fun v2 M2 =>
   V 27 [rr 0, ii x1, ii 0, none, none] [] (up_ M2 0 8 v2)) Qt) Qt) : V 0 [rr 0, ii x1, none, none, none] [] M := bx_go hD hV hW [(27, [3, 4]), (103, []), (158, []), (223, []), (267, [3, 4]), (290, [4]), (303, [])] 16 h
theorem i_41 : inq_ 0 k_41 = true := by decide +kernel
theorem z_41_15 : Sf_ k_41 g_41_15 := Sf_of i_41 15 rfl
theorem b_41_27 {D : ca_} {V : vv_} {Qr : qr_} {Qt : qt_} (hD : Mo_ D) (hV : Cl_ wd0 D V Qr Qt m_41) (hW : Wk_ V) (x1 : Int) (x2 : Int) (M : mm_) (h :
 (if x2 < M 0 7 then
  D 42 [.inr (.inr 0)] M (ri_ fun v1 M1 =>
   (0 ≤ x2 ∧ x2 < 12) ∧
    D 42 [.inr (.inr 0)] (up_ M1 10 x2 v1) (ri_ fun v2 M2 =>
    (0 ≤ x2 ∧ x2 < 12) ∧
     D 42 [.inr (.inr 0)] (up_ M2 11 x2 v2) (ri_ fun v3 M3 =>
     (0 ≤ x2 ∧ x2 < 12) ∧
      D 42 [.inr (.inr 0)] (up_ M3 12 x2 v3) (ri_ fun v4 M4 =>
      (0 ≤ x2 ∧ x2 < 12) ∧
       D 42 [.inr (.inr 0)] (up_ M4 18 x2 v4) (ri_ fun v5 M5 =>
       (0 ≤ x2 ∧ x2 < 12) ∧
        D 42 [.inr (.inr 0)] (up_ M5 19 x2 v5) (ri_ fun v6 M6 =>
        (0 ≤ x2 ∧ x2 < 12) ∧
         D 42 [.inr (.inr 0)] (up_ M6 20 x2 v6) (ri_ fun v7 M7 =>
         V 103 [rr 0, ii x1, ii x2, ii v7, ii 0] [] M7) Qt) Qt) Qt) Qt) Qt) Qt) Qt
 else
  V 267 [rr 0, ii x1, ii 0, none, none] [] M)) : V 27 [rr 0, ii x1, ii x2, none, none] [] M := bx_go hD (m := (g_41_15, m_41.2)) (Cl_sf z_41_15 hV) hW [(27, [3, 4]), (103, []), (158, []), (223, []), (267, [3, 4]), (290, [4]), (303, [])] 46 h
theorem z_41_60 : Sf_ k_41 g_41_60 := Sf_tr z_41_15 45 rfl
theorem b_41_103 {D : ca_} {V : vv_} {Qr : qr_} {Qt : qt_} (hD : Mo_ D) (hV : Cl_ wd0 D V Qr Qt m_41) (hW : Wk_ V) (x1 : Int) (x2 : Int) (x3 : Int) (x4 : Int) (M : mm_) (h :
 (if x4 < 3 then
  (if an_ (sr_ x3 x4) 1 = 0 then
   ((0 ≤ w32 ((w32 (3 * x2)) + x4) ∧ w32 ((w32 (3 * x2)) + x4) < 36) ∧ bl_ 0) ∧
    (0 ≤ w32 ((w32 (3 * x2)) + x4) ∧ w32 ((w32 (3 * x2)) + x4) < 36) ∧
    V 103 [rr 0, ii x1, ii x2, ii x3, ii (w32 (x4 + 1))] [] (up_ (up_ M 16 (w32 ((w32 (3 * x2)) + x4)) 0) 17 (w32 ((w32 (3 * x2)) + x4)) (M 0 9))
  else
   ((0 ≤ w32 ((w32 (3 * x2)) + x4) ∧ w32 ((w32 (3 * x2)) + x4) < 36) ∧ bl_ 1) ∧
    (0 ≤ w32 ((w32 (3 * x2)) + x4) ∧ w32 ((w32 (3 * x2)) + x4) < 36) ∧
    V 103 [rr 0, ii x1, ii x2, ii x3, ii (w32 (x4 + 1))] [] (up_ (up_ M 16 (w32 ((w32 (3 * x2)) + x4)) 1) 17 (w32 ((w32 (3 * x2)) + x4)) (M 0 9)))
 else
  V 158 [rr 0, ii x1, ii x2, ii x3, ii 0] [] M)) : V 103 [rr 0, ii x1, ii x2, ii x3, ii x4] [] M := bx_go hD (m := (g_41_60, m_41.2)) (Cl_sf z_41_60 hV) hW [(27, [3, 4]), (103, []), (158, []), (223, []), (267, [3, 4]), (290, [4]), (303, [])] 32 h
theorem z_41_94 : Sf_ k_41 g_41_94 := Sf_tr z_41_60 34 rfl
theorem b_41_158 {D : ca_} {V : vv_} {Qr : qr_} {Qt : qt_} (hD : Mo_ D) (hV : Cl_ wd0 D V Qr Qt m_41) (hW : Wk_ V) (x1 : Int) (x2 : Int) (x3 : Int) (x4 : Int) (M : mm_) (h :
 (if x4 < 16 then
  (0 ≤ x2 ∧ x2 < 12) ∧
   (0 ≤ M 11 x2 ∧ M 11 x2 < 6) ∧
   (if x4 < M 92 (M 11 x2) then
   D 42 [.inr (.inr 0)] M (ri_ fun v2 M2 =>
    (0 ≤ w32 ((w32 (16 * x2)) + x4) ∧ w32 ((w32 (16 * x2)) + x4) < 192) ∧
     V 158 [rr 0, ii x1, ii x2, ii x3, ii (w32 (x4 + 1))] [] (up_ M2 13 (w32 ((w32 (16 * x2)) + x4)) v2)) Qt
  else
   (0 ≤ w32 ((w32 (16 * x2)) + x4) ∧ w32 ((w32 (16 * x2)) + x4) < 192) ∧
    V 158 [rr 0, ii x1, ii x2, ii x3, ii (w32 (x4 + 1))] [] (up_ M 13 (w32 ((w32 (16 * x2)) + x4)) 0))
 else
  D 42 [.inr (.inr 0)] M (ri_ fun v1 M1 =>
   (0 ≤ x2 ∧ x2 < 12) ∧
    V 223 [rr 0, ii x1, ii x2, ii x3, ii 0] [] (up_ M1 14 x2 v1)) Qt)) : V 158 [rr 0, ii x1, ii x2, ii x3, ii x4] [] M := bx_go hD (m := (g_41_94, m_41.2)) (Cl_sf z_41_94 hV) hW [(27, [3, 4]), (103, []), (158, []), (223, []), (267, [3, 4]), (290, [4]), (303, [])] 27 h
theorem z_41_129 : Sf_ k_41 g_41_129 := Sf_tr z_41_94 35 rfl
theorem b_41_223 {D : ca_} {V : vv_} {Qr : qr_} {Qt : qt_} (hD : Mo_ D) (hV : Cl_ wd0 D V Qr Qt m_41) (hW : Wk_ V) (x1 : Int) (x2 : Int) (x3 : Int) (x4 : Int) (M : mm_) (h :
 (0 ≤ x2 ∧ x2 < 12) ∧
  (if x4 < w32 (5 * (M 14 x2)) then
  D 9 [.inl x2, .inl 0] M (ri_ fun v1 M1 =>
   D 42 [.inr (.inr 0)] M1 (ri_ fun v2 M2 =>
    (0 ≤ w32 (v1 + x4) ∧ w32 (v1 + x4) < 360) ∧
     V 223 [rr 0, ii x1, ii x2, ii x3, ii (w32 (x4 + 1))] [] (up_ M2 15 (w32 (v1 + x4)) v2)) Qt) Qt
 else
  V 27 [rr 0, ii x1, ii (w32 (x2 + 1)), none, none] [] M)) : V 223 [rr 0, ii x1, ii x2, ii x3, ii x4] [] M := bx_go hD (m := (g_41_129, m_41.2)) (Cl_sf z_41_129 hV) hW [(27, [3, 4]), (103, []), (158, []), (223, []), (267, [3, 4]), (290, [4]), (303, [])] 21 h
theorem z_41_153 : Sf_ k_41 g_41_153 := Sf_tr z_41_129 24 rfl
theorem b_41_267 {D : ca_} {V : vv_} {Qr : qr_} {Qt : qt_} (hD : Mo_ D) (hV : Cl_ wd0 D V Qr Qt m_41) (hW : Wk_ V) (x1 : Int) (x2 : Int) (M : mm_) (h :
 (if x2 < M 4 1 then
  D 42 [.inr (.inr 0)] M (ri_ fun v1 M1 =>
   (0 ≤ x2 ∧ x2 < 10) ∧
    V 290 [rr 0, ii x1, ii x2, ii 0, none] [] (up_ M1 21 x2 v1)) Qt
 else
  Qr [] M)) : V 267 [rr 0, ii x1, ii x2, none, none] [] M := bx_go hD (m := (g_41_153, m_41.2)) (Cl_sf z_41_153 hV) hW [(27, [3, 4]), (103, []), (158, []), (223, []), (267, [3, 4]), (290, [4]), (303, [])] 14 h
theorem z_41_166 : Sf_ k_41 g_41_166 := Sf_tr z_41_153 13 rfl
theorem b_41_290 {D : ca_} {V : vv_} {Qr : qr_} {Qt : qt_} (hD : Mo_ D) (hV : Cl_ wd0 D V Qr Qt m_41) (hW : Wk_ V) (x1 : Int) (x2 : Int) (x3 : Int) (M : mm_) (h :
 (0 ≤ x2 ∧ x2 < 10) ∧
  (if x3 < M 21 x2 then
  V 303 [rr 0, ii x1, ii x2, ii x3, ii 0] [] M
 else
  V 267 [rr 0, ii x1, ii (w32 (x2 + 1)), none, none] [] M)) : V 290 [rr 0, ii x1, ii x2, ii x3, none] [] M := bx_go hD (m := (g_41_166, m_41.2)) (Cl_sf z_41_166 hV) hW [(27, [3, 4]), (103, []), (158, []), (223, []), (267, [3, 4]), (290, [4]), (303, [])] 9 h
theorem z_41_174 : Sf_ k_41 g_41_174 := Sf_tr z_41_166 8 rfl
theorem b_41_303 {D : ca_} {V : vv_} {Qr : qr_} {Qt : qt_} (hD : Mo_ D) (hV : Cl_ wd0 D V Qr Qt m_41) (hW : Wk_ V) (x1 : Int) (x2 : Int) (x3 : Int) (x4 : Int) (M : mm_) (h :
 (if x4 < 7 then
  D 2 [.inl x2, .inl x3] M (ri_ fun v1 M1 =>
   (if x4 = 3 then
    (0 ≤ w32 (v1 + x4) ∧ w32 (v1 + x4) < 420) ∧
     V 303 [rr 0, ii x1, ii x2, ii x3, ii (w32 (x4 + 1))] [] (up_ M1 22 (w32 (v1 + x4)) (M1 0 9))
   else
    D 42 [.inr (.inr 0)] M1 (ri_ fun v2 M2 =>
     (0 ≤ w32 (v1 + x4) ∧ w32 (v1 + x4) < 420) ∧
      V 303 [rr 0, ii x1, ii x2, ii x3, ii (w32 (x4 + 1))] [] (up_ M2 22 (w32 (v1 + x4)) v2)) Qt)) Qt
 else
  V 290 [rr 0, ii x1, ii x2, ii (w32 (x3 + 1)), none] [] M)) : V 303 [rr 0, ii x1, ii x2, ii x3, ii x4] [] M := bx_go hD (m := (g_41_174, m_41.2)) (Cl_sf z_41_174 hV) hW [(27, [3, 4]), (103, []), (158, []), (223, []), (267, [3, 4]), (290, [4]), (303, [])] 20 h
/-- X0_takes()I -/
theorem b_42_0 {D : ca_} {V : vv_} {Qr : qr_} {Qt : qt_} (hD : Mo_ D) (hV : Cl_ wd0 D V Qr Qt m_42) (hW : Wk_ V)  (M : mm_) (h :
 (0 ≤ w32 ((w32 ((M 0 65) + 1)) - 1) ∧ w32 ((w32 ((M 0 65) + 1)) - 1) < 221100) ∧
  Qr [.inl (M 27 (w32 ((w32 ((M 0 65) + 1)) - 1)))] (up_ M 0 65 (w32 ((M 0 65) + 1)))) : V 0 [rr 0] [] M := bx_go hD hV hW [] 14 h
/-- X0_finds()V -/
theorem b_43_0 {D : ca_} {V : vv_} {Qr : qr_} {Qt : qt_} (hD : Mo_ D) (hV : Cl_ wd0 D V Qr Qt m_43) (hW : Wk_ V)  (M : mm_) (h :
 V 7 [rr 0, ii 0, none] [] (up_ M 0 69 0)) : V 0 [rr 0, none, none] [] M := bx_go hD hV hW [(7, [2]), (38, [2]), (73, [2]), (111, [2]), (121, [])] 6 h
theorem b_43_7 {D : ca_} {V : vv_} {Qr : qr_} {Qt : qt_} (hD : Mo_ D) (hV : Cl_ wd0 D V Qr Qt m_43) (hW : Wk_ V) (x1 : Int) (M : mm_) (h :
 (if x1 < M 0 7 then
  D 12 [.inr (.inr 0), .inl x1] M (ri_ fun v1 M1 =>
   (if v1 = 0 then
    V 7 [rr 0, ii (w32 (x1 + 1)), none] [] M1
   else
    D 44 [.inr (.inr 0), .inl 0, .inl x1, .inl 0] M1 (rv_ fun M2 =>
     V 7 [rr 0, ii (w32 (x1 + 1)), none] [] M2) Qt)) Qt
 else
  V 38 [rr 0, ii 0, none] [] M)) : V 7 [rr 0, ii x1, none] [] M := bx_go hD hV hW [(7, [2]), (38, [2]), (73, [2]), (111, [2]), (121, [])] 16 h
theorem i_43 : inq_ 0 k_43 = true := by decide +kernel
theorem z_43_22 : Sf_ k_43 g_43_22 := Sf_of i_43 22 rfl
theorem b_43_38 {D : ca_} {V : vv_} {Qr : qr_} {Qt : qt_} (hD : Mo_ D) (hV : Cl_ wd0 D V Qr Qt m_43) (hW : Wk_ V) (x1 : Int) (M : mm_) (h :
 (if x1 < M 4 1 then
  (0 ≤ x1 ∧ x1 < 10) ∧
   (if M 21 x1 = 0 then
   V 38 [rr 0, ii (w32 (x1 + 1)), none] [] M
  else
   D 44 [.inr (.inr 0), .inl 1, .inl x1, .inl 0] M (rv_ fun M1 =>
    V 38 [rr 0, ii (w32 (x1 + 1)), none] [] M1) Qt)
 else
  V 73 [rr 0, ii 0, none] [] M)) : V 38 [rr 0, ii x1, none] [] M := bx_go hD (m := (g_43_22, m_43.2)) (Cl_sf z_43_22 hV) hW [(7, [2]), (38, [2]), (73, [2]), (111, [2]), (121, [])] 18 h
theorem z_43_41 : Sf_ k_43 g_43_41 := Sf_tr z_43_22 19 rfl
theorem b_43_73 {D : ca_} {V : vv_} {Qr : qr_} {Qt : qt_} (hD : Mo_ D) (hV : Cl_ wd0 D V Qr Qt m_43) (hW : Wk_ V) (x1 : Int) (M : mm_) (h :
 (if x1 < w32 (3 * (M 0 7)) then
  (0 ≤ x1 ∧ x1 < 36) ∧ (bl_ (M 16 x1) →
   (if M 16 x1 = 0 then
   V 73 [rr 0, ii (w32 (x1 + 1)), none] [] M
  else
   (3 : Int) ≠ 0 ∧ (3 : Int) ≠ 0 ∧ D 44 [.inr (.inr 0), .inl 2, .inl (w32 (Int.tdiv x1 3)), .inl (Int.tmod x1 3)] M (rv_ fun M1 =>
    V 73 [rr 0, ii (w32 (x1 + 1)), none] [] M1) Qt))
 else
  V 111 [rr 0, ii 0, none] [] M)) : V 73 [rr 0, ii x1, none] [] M := bx_go hD (m := (g_43_41, m_43.2)) (Cl_sf z_43_41 hV) hW [(7, [2]), (38, [2]), (73, [2]), (111, [2]), (121, [])] 23 h
theorem z_43_65 : Sf_ k_43 g_43_65 := Sf_tr z_43_41 24 rfl
theorem b_43_111 {D : ca_} {V : vv_} {Qr : qr_} {Qt : qt_} (hD : Mo_ D) (hV : Cl_ wd0 D V Qr Qt m_43) (hW : Wk_ V) (x1 : Int) (M : mm_) (h :
 (if x1 < M 0 7 then
  V 121 [rr 0, ii x1, ii 0] [] M
 else
  Qr [] M)) : V 111 [rr 0, ii x1, none] [] M := bx_go hD (m := (g_43_65, m_43.2)) (Cl_sf z_43_65 hV) hW [(7, [2]), (38, [2]), (73, [2]), (111, [2]), (121, [])] 7 h
theorem z_43_71 : Sf_ k_43 g_43_71 := Sf_tr z_43_65 6 rfl
theorem b_43_121 {D : ca_} {V : vv_} {Qr : qr_} {Qt : qt_} (hD : Mo_ D) (hV : Cl_ wd0 D V Qr Qt m_43) (hW : Wk_ V) (x1 : Int) (x2 : Int) (M : mm_) (h :
 (if x2 < M 4 4 then
  (0 ≤ x1 ∧ x1 < 12) ∧
   (if M 12 x1 = (-1) then
   V 111 [rr 0, ii (w32 (x1 + 1)), none] [] M
  else
   (0 ≤ x2 ∧ x2 < 600) ∧
    (0 ≤ x1 ∧ x1 < 12) ∧
    (if M 101 x2 = M 11 x1 then
    (0 ≤ x2 ∧ x2 < 600) ∧
     (if M 100 x2 = 3 then
     (0 ≤ x2 ∧ x2 < 600) ∧
      (0 ≤ x1 ∧ x1 < 12) ∧
      (if an_ (sr_ (M 102 x2) (M 12 x1)) 1 = 0 then
      V 121 [rr 0, ii x1, ii (w32 (x2 + 1))] [] M
     else
      D 44 [.inr (.inr 0), .inl 3, .inl x1, .inl x2] M (rv_ fun M1 =>
       V 121 [rr 0, ii x1, ii (w32 (x2 + 1))] [] M1) Qt)
    else
     V 121 [rr 0, ii x1, ii (w32 (x2 + 1))] [] M)
   else
    V 121 [rr 0, ii x1, ii (w32 (x2 + 1))] [] M))
 else
  V 111 [rr 0, ii (w32 (x1 + 1)), none] [] M)) : V 121 [rr 0, ii x1, ii x2] [] M := bx_go hD (m := (g_43_71, m_43.2)) (Cl_sf z_43_71 hV) hW [(7, [2]), (38, [2]), (73, [2]), (111, [2]), (121, [])] 49 h
/-- X0_adds(III)V -/
theorem b_44_0 {D : ca_} {V : vv_} {Qr : qr_} {Qt : qt_} (hD : Mo_ D) (hV : Cl_ wd0 D V Qr Qt m_44) (hW : Wk_ V) (x1 : Int) (x2 : Int) (x3 : Int) (M : mm_) (h :
 (0 ≤ M 0 69 ∧ M 0 69 < 7258) ∧
  (0 ≤ M 0 69 ∧ M 0 69 < 7258) ∧
  (0 ≤ M 0 69 ∧ M 0 69 < 7258) ∧
  Qr [] (up_ (up_ (up_ (up_ M 38 (M 0 69) x1) 39 (M 0 69) x2) 40 (M 0 69) x3) 0 69 (w32 ((M 0 69) + 1)))) : V 0 [rr 0, ii x1, ii x2, ii x3] [] M := bx_go hD hV hW [] 25 h
/-- X0_move(I)V -/
theorem b_45_0 {D : ca_} {V : vv_} {Qr : qr_} {Qt : qt_} (hD : Mo_ D) (hV : Cl_ wd0 D V Qr Qt m_45) (hW : Wk_ V) (x1 : Int) (M : mm_) (h :
 (0 ≤ x1 ∧ x1 < 7258) ∧
  (if M 38 x1 = 0 then (0 ≤ x1 ∧ x1 < 7258) ∧
   D 22 [.inr (.inr 0), .inl (M 39 x1)] M (rv_ fun M4 =>
   Qr [] M4) Qt else
 (if M 38 x1 = 1 then (0 ≤ x1 ∧ x1 < 7258) ∧
   D 3 [.inr (.inr 0), .inl (M 39 x1)] M (rv_ fun M3 =>
   Qr [] M3) Qt else
 (if M 38 x1 = 2 then (0 ≤ x1 ∧ x1 < 7258) ∧
   (0 ≤ x1 ∧ x1 < 7258) ∧
   D 10 [.inr (.inr 0), .inl (M 39 x1), .inl (M 40 x1)] M (rv_ fun M2 =>
   Qr [] M2) Qt else
 (0 ≤ x1 ∧ x1 < 7258) ∧
   (0 ≤ x1 ∧ x1 < 7258) ∧
   D 36 [.inr (.inr 0), .inl (M 39 x1), .inl (M 40 x1)] M (rv_ fun M1 =>
   Qr [] M1) Qt)))) : V 0 [rr 0, ii x1] [] M := bx_go hD hV hW [] 17 h
/-- X0_like(I)I -/
theorem b_46_0 {D : ca_} {V : vv_} {Qr : qr_} {Qt : qt_} (hD : Mo_ D) (hV : Cl_ wd0 D V Qr Qt m_46) (hW : Wk_ V) (x1 : Int) (M : mm_) (h :
 (0 ≤ x1 ∧ x1 < 201) ∧
  (0 ≤ an_ (M 29 x1) 1023 ∧ an_ (M 29 x1) 1023 < 1024) ∧
  V 16 [rr 0, ii x1, ii (M 31 (an_ (M 29 x1) 1023)), none, none] [] M) : V 0 [rr 0, ii x1, none, none, none] [] M := bx_go hD hV hW [(16, [3, 4]), (60, [])] 11 h
theorem i_46 : inq_ 0 k_46 = true := by decide +kernel
theorem z_46_10 : Sf_ k_46 g_46_10 := Sf_of i_46 10 rfl
theorem b_46_16 {D : ca_} {V : vv_} {Qr : qr_} {Qt : qt_} (hD : Mo_ D) (hV : Cl_ wd0 D V Qr Qt m_46) (hW : Wk_ V) (x1 : Int) (x2 : Int) (M : mm_) (h :
 (if x2 = (-1) then
  Qr [.inl ((-1))] M
 else
  (0 ≤ x2 ∧ x2 < 201) ∧
   (0 ≤ x1 ∧ x1 < 201) ∧
   (if M 29 x2 = M 29 x1 then
   (0 ≤ x2 ∧ x2 < 201) ∧
    (0 ≤ x1 ∧ x1 < 201) ∧
    (if M 28 x2 = M 28 x1 then
    V 60 [rr 0, ii x1, ii x2, ii 1, ii 0] [] M
   else
    V 60 [rr 0, ii x1, ii x2, ii 0, ii 0] [] M)
  else
   V 60 [rr 0, ii x1, ii x2, ii 0, ii 0] [] M))) : V 16 [rr 0, ii x1, ii x2, none, none] [] M := bx_go hD (m := (g_46_10, m_46.2)) (Cl_sf z_46_10 hV) hW [(16, [3, 4]), (60, [])] 27 h
theorem z_46_37 : Sf_ k_46 g_46_37 := Sf_tr z_46_10 27 rfl
theorem b_46_60 {D : ca_} {V : vv_} {Qr : qr_} {Qt : qt_} (hD : Mo_ D) (hV : Cl_ wd0 D V Qr Qt m_46) (hW : Wk_ V) (x1 : Int) (x2 : Int) (x3 : Int) (x4 : Int) (M : mm_) (h :
 (0 ≤ x1 ∧ x1 < 201) ∧
  (if x4 < M 28 x1 then
  (if x3 = 0 then
   (if x3 = 0 then
    (0 ≤ x2 ∧ x2 < 201) ∧
     V 16 [rr 0, ii x1, ii (M 30 x2), none, none] [] M
   else
    Qr [.inl x2] M)
  else
   (0 ≤ w32 ((w32 (1100 * x2)) + x4) ∧ w32 ((w32 (1100 * x2)) + x4) < 221100) ∧
    (0 ≤ w32 ((w32 (1100 * x1)) + x4) ∧ w32 ((w32 (1100 * x1)) + x4) < 221100) ∧
    (if M 27 (w32 ((w32 (1100 * x2)) + x4)) = M 27 (w32 ((w32 (1100 * x1)) + x4)) then
    V 60 [rr 0, ii x1, ii x2, ii 1, ii (w32 (x4 + 1))] [] M
   else
    V 60 [rr 0, ii x1, ii x2, ii 0, ii (w32 (x4 + 1))] [] M))
 else
  (if x3 = 0 then
   (0 ≤ x2 ∧ x2 < 201) ∧
    V 16 [rr 0, ii x1, ii (M 30 x2), none, none] [] M
  else
   Qr [.inl x2] M))) : V 60 [rr 0, ii x1, ii x2, ii x3, ii x4] [] M := bx_go hD (m := (g_46_37, m_46.2)) (Cl_sf z_46_37 hV) hW [(16, [3, 4]), (60, [])] 31 h
/-- X0_state(II)I -/
theorem b_47_0 {D : ca_} {V : vv_} {Qr : qr_} {Qt : qt_} (hD : Mo_ D) (hV : Cl_ wd0 D V Qr Qt m_47) (hW : Wk_ V) (x1 : Int) (x2 : Int) (M : mm_) (h :
 (bl_ (M 0 4) → (if M 0 4 = 0 then
  Qr [.inl ((-1))] M
 else
  (if x1 < 0 then
   Qr [.inl ((-1))] M
  else
   (if x1 < M 0 62 then
    (if x2 = 0 then (0 ≤ x1 ∧ x1 < 200) ∧
      Qr [.inl (M 32 x1)] M else
    (if x2 = 1 then (0 ≤ x1 ∧ x1 < 200) ∧
      Qr [.inl (M 33 x1)] M else
    (if x2 = 2 then (0 ≤ x1 ∧ x1 < 200) ∧
      Qr [.inl (M 34 x1)] M else
    (if x2 = 3 then (0 ≤ x1 ∧ x1 < 200) ∧
      Qr [.inl (M 35 x1)] M else
    (if x2 = 4 then (0 ≤ x1 ∧ x1 < 200) ∧
      Qr [.inl (M 36 x1)] M else
    (if x2 = 5 then (0 ≤ x1 ∧ x1 < 200) ∧
      Qr [.inl (M 37 x1)] M else
    (if x2 = 6 then (0 ≤ w32 (1100 * x1) ∧ w32 (1100 * x1) < 221100) ∧
      Qr [.inl (M 27 (w32 (1100 * x1)))] M else
    Qr [.inl ((-1))] M)))))))
   else
    Qr [.inl ((-1))] M))))) : V 0 [rr 0, ii x1, ii x2] [] M := bx_go hD hV hW [] 18 h
/-- X0_first(III)I -/
theorem b_48_0 {D : ca_} {V : vv_} {Qr : qr_} {Qt : qt_} (hD : Mo_ D) (hV : Cl_ wd0 D V Qr Qt m_48) (hW : Wk_ V) (x1 : Int) (x2 : Int) (x3 : Int) (M : mm_) (h :
 (bl_ (M 0 4) → (if M 0 4 = 0 then
  Qr [.inl ((-1))] M
 else
  (if x1 < 0 then
   Qr [.inl ((-1))] M
  else
   (if x1 ≤ 4 then
    (if x1 = 4 then
     (if x2 < 0 then
      Qr [.inl ((-1))] M
     else
      (if x2 < M 4 2 then
       V 41 [rr 0, ii x1, ii x2, ii x3, ii 0, none] [] M
      else
       Qr [.inl ((-1))] M))
    else
     V 41 [rr 0, ii x1, ii x2, ii x3, ii 0, none] [] M)
   else
    Qr [.inl ((-1))] M))))) : V 0 [rr 0, ii x1, ii x2, ii x3, none, none] [] M := bx_go hD hV hW [(41, [5])] 21 h
theorem i_48 : inq_ 0 k_48 = true := by decide +kernel
theorem z_48_22 : Sf_ k_48 g_48_22 := Sf_of i_48 22 rfl
theorem b_48_41 {D : ca_} {V : vv_} {Qr : qr_} {Qt : qt_} (hD : Mo_ D) (hV : Cl_ wd0 D V Qr Qt m_48) (hW : Wk_ V) (x1 : Int) (x2 : Int) (x3 : Int) (x4 : Int) (M : mm_) (h :
 (if x4 < M 0 62 then
  (if x1 = 4 then
   D 49 [.inr (.inr 0), .inl x4, .inl x2, .inl x3] M (ri_ fun v2 M2 =>
    (if v2 = 0 then
     V 41 [rr 0, ii x1, ii x2, ii x3, ii (w32 (x4 + 1)), none] [] M2
    else
     Qr [.inl x4] M2)) Qt
  else
   (if x1 = 3 then
    (0 ≤ x4 ∧ x4 < 200) ∧
     (if M 37 x4 ≤ 0 then
     (if (0 : Int) = 0 then
      V 41 [rr 0, ii x1, ii x2, ii x3, ii (w32 (x4 + 1)), none] [] M
     else
      Qr [.inl x4] M)
    else
     (if (1 : Int) = 0 then
      V 41 [rr 0, ii x1, ii x2, ii x3, ii (w32 (x4 + 1)), none] [] M
     else
      Qr [.inl x4] M))
   else
    (if x1 = 2 then
     (0 ≤ x4 ∧ x4 < 200) ∧
      (if M 36 x4 ≤ 0 then
      (if (0 : Int) = 0 then
       V 41 [rr 0, ii x1, ii x2, ii x3, ii (w32 (x4 + 1)), none] [] M
      else
       Qr [.inl x4] M)
     else
      (if (1 : Int) = 0 then
       V 41 [rr 0, ii x1, ii x2, ii x3, ii (w32 (x4 + 1)), none] [] M
      else
       Qr [.inl x4] M))
    else
     (0 ≤ x4 ∧ x4 < 200) ∧
      (if M 35 x4 = 0 then
      (if x1 = 0 then
       (if (1 : Int) = 0 then
        V 41 [rr 0, ii x1, ii x2, ii x3, ii (w32 (x4 + 1)), none] [] M
       else
        Qr [.inl x4] M)
      else
       D 49 [.inr (.inr 0), .inl x4, .inl ((-1)), .inl 0] M (ri_ fun v1 M1 =>
        (if v1 = 0 then
         (if (0 : Int) = 0 then
          V 41 [rr 0, ii x1, ii x2, ii x3, ii (w32 (x4 + 1)), none] [] M1
         else
          Qr [.inl x4] M1)
        else
         (if (1 : Int) = 0 then
          V 41 [rr 0, ii x1, ii x2, ii x3, ii (w32 (x4 + 1)), none] [] M1
         else
          Qr [.inl x4] M1))) Qt)
     else
      (if (0 : Int) = 0 then
       V 41 [rr 0, ii x1, ii x2, ii x3, ii (w32 (x4 + 1)), none] [] M
      else
       Qr [.inl x4] M)))))
 else
  Qr [.inl ((-1))] M)) : V 41 [rr 0, ii x1, ii x2, ii x3, ii x4, none] [] M := bx_go hD (m := (g_48_22, m_48.2)) (Cl_sf z_48_22 hV) hW [(41, [5])] 34 h
/-- X0_hasOne(III)Z -/
theorem b_49_0 {D : ca_} {V : vv_} {Qr : qr_} {Qt : qt_} (hD : Mo_ D) (hV : Cl_ wd0 D V Qr Qt m_49) (hW : Wk_ V) (x1 : Int) (x2 : Int) (x3 : Int) (M : mm_) (h :
 V 12 [rr 0, ii x1, ii x2, ii x3, ii (w32 ((w32 (1100 * x1)) + 2)), ii 0, none, none] [] M) : V 0 [rr 0, ii x1, ii x2, ii x3, none, none, none, none] [] M := bx_go hD hV hW [(12, [6, 7]), (64, [7]), (99, [])] 9 h
theorem i_49 : inq_ 0 k_49 = true := by decide +kernel
theorem z_49_8 : Sf_ k_49 g_49_8 := Sf_of i_49 8 rfl
theorem b_49_12 {D : ca_} {V : vv_} {Qr : qr_} {Qt : qt_} (hD : Mo_ D) (hV : Cl_ wd0 D V Qr Qt m_49) (hW : Wk_ V) (x1 : Int) (x2 : Int) (x3 : Int) (x4 : Int) (x5 : Int) (M : mm_) (h :
 (0 ≤ w32 (1100 * x1) ∧ w32 (1100 * x1) < 221100) ∧
  (if x5 < M 27 (w32 (1100 * x1)) then
  (0 ≤ w32 (x4 + 1) ∧ w32 (x4 + 1) < 221100) ∧
   (if x2 = (-1) then
   V 64 [rr 0, ii x1, ii x2, ii x3, ii x4, ii x5, ii (M 27 (w32 (x4 + 1))), none] [] M
  else
   (if M 27 (w32 (x4 + 1)) = x2 then
    (0 ≤ w32 (x4 + 2) ∧ w32 (x4 + 2) < 221100) ∧
     (if M 27 (w32 (x4 + 2)) = x3 then
     bl_ 1 ∧ Qr [.inl 1] M
    else
     V 64 [rr 0, ii x1, ii x2, ii x3, ii x4, ii x5, ii (M 27 (w32 (x4 + 1))), none] [] M)
   else
    V 64 [rr 0, ii x1, ii x2, ii x3, ii x4, ii x5, ii (M 27 (w32 (x4 + 1))), none] [] M))
 else
  bl_ 0 ∧ Qr [.inl 0] M)) : V 12 [rr 0, ii x1, ii x2, ii x3, ii x4, ii x5, none, none] [] M := bx_go hD (m := (g_49_8, m_49.2)) (Cl_sf z_49_8 hV) hW [(12, [6, 7]), (64, [7]), (99, [])] 31 h
theorem z_49_39 : Sf_ k_49 g_49_39 := Sf_tr z_49_8 31 rfl
theorem b_49_64 {D : ca_} {V : vv_} {Qr : qr_} {Qt : qt_} (hD : Mo_ D) (hV : Cl_ wd0 D V Qr Qt m_49) (hW : Wk_ V) (x1 : Int) (x2 : Int) (x3 : Int) (x4 : Int) (x5 : Int) (x6 : Int) (M : mm_) (h :
 (0 ≤ x6 ∧ x6 < 6) ∧
  (0 ≤ w32 ((w32 (x4 + 7)) + (M 92 x6)) ∧ w32 ((w32 (x4 + 7)) + (M 92 x6)) < 221100) ∧
  (if x2 = (-1) then
  (if M 27 (w32 ((w32 (x4 + 7)) + (M 92 x6))) ≤ 0 then
   V 99 [rr 0, ii x1, ii x2, ii x3, ii x4, ii x5, ii x6, ii (M 27 (w32 ((w32 (x4 + 7)) + (M 92 x6))))] [] M
  else
   bl_ 1 ∧ Qr [.inl 1] M)
 else
  V 99 [rr 0, ii x1, ii x2, ii x3, ii x4, ii x5, ii x6, ii (M 27 (w32 ((w32 (x4 + 7)) + (M 92 x6))))] [] M)) : V 64 [rr 0, ii x1, ii x2, ii x3, ii x4, ii x5, ii x6, none] [] M := bx_go hD (m := (g_49_39, m_49.2)) (Cl_sf z_49_39 hV) hW [(12, [6, 7]), (64, [7]), (99, [])] 20 h
theorem z_49_59 : Sf_ k_49 g_49_59 := Sf_tr z_49_39 20 rfl
theorem b_49_99 {D : ca_} {V : vv_} {Qr : qr_} {Qt : qt_} (hD : Mo_ D) (hV : Cl_ wd0 D V Qr Qt m_49) (hW : Wk_ V) (x1 : Int) (x2 : Int) (x3 : Int) (x4 : Int) (x5 : Int) (x6 : Int) (x7 : Int) (M : mm_) (h :
 (0 ≤ x6 ∧ x6 < 6) ∧
  V 12 [rr 0, ii x1, ii x2, ii x3, ii (w32 (x4 + (w32 ((w32 (8 + (M 92 x6))) + (w32 (5 * x7)))))), ii (w32 (x5 + 1)), none, none] [] M) : V 99 [rr 0, ii x1, ii x2, ii x3, ii x4, ii x5, ii x6, ii x7] [] M := bx_go hD (m := (g_49_59, m_49.2)) (Cl_sf z_49_59 hV) hW [(12, [6, 7]), (64, [7]), (99, [])] 17 h
/-- X0_visit(I)I -/
theorem b_50_0 {D : ca_} {V : vv_} {Qr : qr_} {Qt : qt_} (hD : Mo_ D) (hV : Cl_ wd0 D V Qr Qt m_50) (hW : Wk_ V) (x1 : Int) (M : mm_) (h :
 (bl_ (M 0 4) → (if M 0 4 = 0 then
  Qr [.inl ((-1))] M
 else
  (if x1 < 0 then
   Qr [.inl 0] M
  else
   (if x1 < M 0 62 then
    D 41 [.inr (.inr 0), .inl x1] M (rv_ fun M1 =>
     Qr [.inl 1] (up_ M1 0 11 0)) Qt
   else
    Qr [.inl 0] M))))) : V 0 [rr 0, ii x1] [] M := bx_go hD hV hW [] 17 h
/-- X0_feed(IIIII)Z -/
theorem b_52_0 {D : ca_} {V : vv_} {Qr : qr_} {Qt : qt_} (hD : Mo_ D) (hV : Cl_ wd0 D V Qr Qt m_52) (hW : Wk_ V) (x1 : Int) (x2 : Int) (x3 : Int) (x4 : Int) (x5 : Int) (M : mm_) (h :
 (if w32 ((M 0 6) + 20) ≤ 5000 then
  D 53 [.inr (.inr 0), .inl x1] M (rv_ fun M1 =>
   D 53 [.inr (.inr 0), .inl x2] M1 (rv_ fun M2 =>
    D 53 [.inr (.inr 0), .inl x3] M2 (rv_ fun M3 =>
     D 53 [.inr (.inr 0), .inl x4] M3 (rv_ fun M4 =>
      D 53 [.inr (.inr 0), .inl x5] M4 (rv_ fun M5 =>
       bl_ 1 ∧ Qr [.inl 1] M5) Qt) Qt) Qt) Qt) Qt
 else
  bl_ 0 ∧ Qr [.inl 0] M)) : V 0 [rr 0, ii x1, ii x2, ii x3, ii x4, ii x5] [] M := bx_go hD hV hW [] 23 h
/-- X0_feed4(I)V -/
theorem b_53_0 {D : ca_} {V : vv_} {Qr : qr_} {Qt : qt_} (hD : Mo_ D) (hV : Cl_ wd0 D V Qr Qt m_53) (hW : Wk_ V) (x1 : Int) (M : mm_) (h :
 V 3 [rr 0, ii x1, ii 24] [] M) : V 0 [rr 0, ii x1, none] [] M := bx_go hD hV hW [(3, [])] 3 h
theorem b_53_3 {D : ca_} {V : vv_} {Qr : qr_} {Qt : qt_} (hD : Mo_ D) (hV : Cl_ wd0 D V Qr Qt m_53) (hW : Wk_ V) (x1 : Int) (x2 : Int) (M : mm_) (h :
 (if x2 < 0 then
  Qr [] M
 else
  ((0 ≤ M 0 6 ∧ M 0 6 < 5000) ∧ -128 ≤ ib_ (sr_ x1 x2) ∧ ib_ (sr_ x1 x2) ≤ 127) ∧
   V 3 [rr 0, ii x1, ii (w32 (x2 + (-8)))] [] (up_ (up_ M 9 (M 0 6) (ib_ (sr_ x1 x2))) 0 6 (w32 ((M 0 6) + 1))))) : V 3 [rr 0, ii x1, ii x2] [] M := bx_go hD hV hW [(3, [])] 20 h
/-- X0_load(I)I -/
theorem b_54_0 {D : ca_} {V : vv_} {Qr : qr_} {Qt : qt_} (hD : Mo_ D) (hV : Cl_ wd0 D V Qr Qt m_54) (hW : Wk_ V) (x1 : Int) (M : mm_) (h :
 (if x1 < 0 then
  Qr [.inl ((-2))] M
 else
  (if x1 ≤ M 0 6 then
   D 101 [.inr (.inr 1), .inr (.inr 9), .inl x1, .inr (.inr 5)] (up_ M 0 6 0) (ri_ fun v1 M1 =>
    (if v1 = 0 then
     False
    else
     Qr [.inl v1] (up_ M1 0 71 (M1 1 5)))) Qt
  else
   Qr [.inl ((-2))] M))) : V 0 [rr 0, ii x1, none, none, none, none, none] [] M := bx_go hD hV hW [(75, [5, 6]), (136, [])] 27 h
theorem i_54 : inq_ 0 k_54 = true := by decide +kernel
theorem z_54_41 : Sf_ k_54 g_54_41 := Sf_of i_54 41 rfl
theorem b_54_75 {D : ca_} {V : vv_} {Qr : qr_} {Qt : qt_} (hD : Mo_ D) (hV : Cl_ wd0 D V Qr Qt m_54) (hW : Wk_ V) (x1 : Int) (x2 : Int) (x4 : Int) (M : mm_) (h :
 (if x4 < M 4 0 then
  (0 ≤ x4 ∧ x4 < 20) ∧
   (0 ≤ M 56 x4 ∧ M 56 x4 < 1202) ∧
   (0 ≤ M 56 x4 ∧ M 56 x4 < 1202) ∧
   (0 ≤ x4 ∧ x4 < 20) ∧
   V 136 [rr 0, ii x1, ii x2, rr 4, ii x4, ii (M 56 x4), ii 0] [] (up_ M 43 x4 (w32 ((M 72 (M 56 x4)) - (M 71 (M 56 x4)))))
 else
  bl_ 1 ∧ bl_ 0 ∧ Qr [.inl 0] (up_ (up_ M 0 3 1) 0 4 0))) : V 75 [rr 0, ii x1, ii x2, rr 4, ii x4, none, none] [] M := bx_go hD (m := (g_54_41, m_54.2)) (Cl_sf z_54_41 hV) hW [(75, [5, 6]), (136, [])] 31 h
theorem z_54_71 : Sf_ k_54 g_54_71 := Sf_tr z_54_41 30 rfl
theorem b_54_136 {D : ca_} {V : vv_} {Qr : qr_} {Qt : qt_} (hD : Mo_ D) (hV : Cl_ wd0 D V Qr Qt m_54) (hW : Wk_ V) (x1 : Int) (x2 : Int) (x4 : Int) (x5 : Int) (x6 : Int) (M : mm_) (h :
 (0 ≤ x4 ∧ x4 < 20) ∧
  (if x6 < M 43 x4 then
  (0 ≤ x5 ∧ x5 < 1202) ∧
   (0 ≤ w32 ((M 71 x5) + x6) ∧ w32 ((M 71 x5) + x6) < 5000) ∧ (-128 ≤ M 69 (w32 ((M 71 x5) + x6)) ∧ M 69 (w32 ((M 71 x5) + x6)) ≤ 127 →
   ((0 ≤ w32 ((w32 (10 * x4)) + x6) ∧ w32 ((w32 (10 * x4)) + x6) < 200) ∧ -128 ≤ M 69 (w32 ((M 71 x5) + x6)) ∧ M 69 (w32 ((M 71 x5) + x6)) ≤ 127) ∧
   V 136 [rr 0, ii x1, ii x2, rr 4, ii x4, ii x5, ii (w32 (x6 + 1))] [] (up_ M 42 (w32 ((w32 (10 * x4)) + x6)) (M 69 (w32 ((M 71 x5) + x6)))))
 else
  V 75 [rr 0, ii x1, ii x2, rr 4, ii (w32 (x4 + 1)), none, none] [] M)) : V 136 [rr 0, ii x1, ii x2, rr 4, ii x4, ii x5, ii x6] [] M := bx_go hD (m := (g_54_71, m_54.2)) (Cl_sf z_54_71 hV) hW [(75, [5, 6]), (136, [])] 30 h
/-- X0_place()I -/
theorem b_55_0 {D : ca_} {V : vv_} {Qr : qr_} {Qt : qt_} (hD : Mo_ D) (hV : Cl_ wd0 D V Qr Qt m_55) (hW : Wk_ V)  (M : mm_) (h :
 Qr [.inl (M 0 71)] M) : V 0 [rr 0] [] M := bx_go hD hV hW [] 3 h
/-- X0_warning(II)I -/
theorem b_56_0 {D : ca_} {V : vv_} {Qr : qr_} {Qt : qt_} (hD : Mo_ D) (hV : Cl_ wd0 D V Qr Qt m_56) (hW : Wk_ V) (x1 : Int) (x2 : Int) (M : mm_) (h :
 (bl_ (M 0 3) → (if M 0 3 = 0 then
  Qr [.inl ((-1))] M
 else
  (if x1 < 0 then
   Qr [.inl ((-1))] M
  else
   (if x1 < M 4 36 then
    (if x2 = 0 then
     (0 ≤ x1 ∧ x1 < 200) ∧
      Qr [.inl (M 110 x1)] M
    else
     (if x2 = 1 then
      (0 ≤ x1 ∧ x1 < 200) ∧
       Qr [.inl (M 111 x1)] M
     else
      Qr [.inl ((-1))] M))
   else
    Qr [.inl ((-1))] M))))) : V 0 [rr 0, ii x1, ii x2] [] M := bx_go hD hV hW [] 22 h
/-- X0_begin(I)I -/
theorem b_57_0 {D : ca_} {V : vv_} {Qr : qr_} {Qt : qt_} (hD : Mo_ D) (hV : Cl_ wd0 D V Qr Qt m_57) (hW : Wk_ V) (x1 : Int) (M : mm_) (h :
 (bl_ (M 0 3) → (if M 0 3 = 0 then
  Qr [.inl ((-1))] M
 else
  bl_ 1 ∧ bl_ 0 ∧ V 116 [rr 0, ii x1, ii 0, none] [] (up_ (up_ (up_ (up_ (up_ (up_ (up_ (up_ (up_ (up_ (up_ (up_ (up_ (up_ (up_ (up_ (up_ (up_ (up_ (up_ (up_ M 0 4 1) 0 10 x1) 0 25 0) 0 7 0) 0 26 0) 0 8 1) 0 9 0) 0 11 0) 0 27 0) 0 28 0) 0 29 0) 0 30 0) 0 31 0) 0 32 0) 0 33 0) 0 34 0) 0 35 0) 0 36 0) 0 62 0) 0 63 0) 0 64 0)))) : V 0 [rr 0, ii x1, none, none] [] M := bx_go hD hV hW [(116, [3]), (137, [3]), (150, [])] 69 h
theorem i_57 : inq_ 0 k_57 = true := by decide +kernel
theorem z_57_70 : Sf_ k_57 g_57_70 := Sf_of i_57 70 rfl
theorem b_57_116 {D : ca_} {V : vv_} {Qr : qr_} {Qt : qt_} (hD : Mo_ D) (hV : Cl_ wd0 D V Qr Qt m_57) (hW : Wk_ V) (x1 : Int) (x2 : Int) (M : mm_) (h :
 (if x2 < 10 then
  (0 ≤ x2 ∧ x2 < 10) ∧
   V 116 [rr 0, ii x1, ii (w32 (x2 + 1)), none] [] (up_ M 21 x2 0)
 else
  V 137 [rr 0, ii x1, ii 0, none] [] M)) : V 116 [rr 0, ii x1, ii x2, none] [] M := bx_go hD (m := (g_57_70, m_57.2)) (Cl_sf z_57_70 hV) hW [(116, [3]), (137, [3]), (150, [])] 11 h
theorem z_57_82 : Sf_ k_57 g_57_82 := Sf_tr z_57_70 12 rfl
theorem b_57_137 {D : ca_} {V : vv_} {Qr : qr_} {Qt : qt_} (hD : Mo_ D) (hV : Cl_ wd0 D V Qr Qt m_57) (hW : Wk_ V) (x1 : Int) (x2 : Int) (M : mm_) (h :
 (if x2 < M 4 2 then
  V 150 [rr 0, ii x1, ii x2, ii 0] [] M
 else
  Qr [.inl (M 0 7)] M)) : V 137 [rr 0, ii x1, ii x2, none] [] M := bx_go hD (m := (g_57_82, m_57.2)) (Cl_sf z_57_82 hV) hW [(116, [3]), (137, [3]), (150, [])] 8 h
theorem z_57_89 : Sf_ k_57 g_57_89 := Sf_tr z_57_82 7 rfl
theorem b_57_150 {D : ca_} {V : vv_} {Qr : qr_} {Qt : qt_} (hD : Mo_ D) (hV : Cl_ wd0 D V Qr Qt m_57) (hW : Wk_ V) (x1 : Int) (x2 : Int) (x3 : Int) (M : mm_) (h :
 (0 ≤ x2 ∧ x2 < 6) ∧
  (if x3 < M 87 x2 then
  (if M 0 7 < 12 then
   D 31 [.inr (.inr 0), .inl x2, .inl 0] M (ri_ fun v1 M1 =>
    V 150 [rr 0, ii x1, ii x2, ii (w32 (x3 + 1))] [] M1) Qt
  else
   V 137 [rr 0, ii x1, ii (w32 (x2 + 1)), none] [] M)
 else
  V 137 [rr 0, ii x1, ii (w32 (x2 + 1)), none] [] M)) : V 150 [rr 0, ii x1, ii x2, ii x3] [] M := bx_go hD (m := (g_57_89, m_57.2)) (Cl_sf z_57_89 hV) hW [(116, [3]), (137, [3]), (150, [])] 19 h
/-- X0_wait(I)I -/
theorem b_58_0 {D : ca_} {V : vv_} {Qr : qr_} {Qt : qt_} (hD : Mo_ D) (hV : Cl_ wd0 D V Qr Qt m_58) (hW : Wk_ V) (x1 : Int) (M : mm_) (h :
 (bl_ (M 0 4) → (if M 0 4 = 0 then
  Qr [.inl ((-1))] M
 else
  (if x1 < 0 then
   Qr [.inl ((-1))] M
  else
   (if x1 ≤ 1000000 then
    Qr [.inl (if w32 ((M 0 9) + x1) < 2000000000 then w32 ((M 0 9) + x1) else 2000000000)] (up_ M 0 9 (if w32 ((M 0 9) + x1) < 2000000000 then w32 ((M 0 9) + x1) else 2000000000))
   else
    Qr [.inl ((-1))] M))))) : V 0 [rr 0, ii x1] [] M := bx_go hD hV hW [] 19 h
/-- X0_put(IIIII)I -/
theorem b_59_0 {D : ca_} {V : vv_} {Qr : qr_} {Qt : qt_} (hD : Mo_ D) (hV : Cl_ wd0 D V Qr Qt m_59) (hW : Wk_ V) (x1 : Int) (x2 : Int) (x3 : Int) (x4 : Int) (x5 : Int) (M : mm_) (h :
 (bl_ (M 0 4) → (if M 0 4 = 0 then
  Qr [.inl ((-1))] M
 else
  D 6 [.inr (.inr 0), .inl x2] M (ri_ fun v1 M1 =>
   (if v1 = (-1) then
    Qr [.inl 0] M1
   else
    (if x1 < 0 then
     Qr [.inl 0] M1
    else
     (if x1 < M1 4 0 then
      (0 ≤ v1 ∧ v1 < 12) ∧
       D 26 [.inr (.inr 0), .inl ((-2)), .inl (M1 11 v1), .inl x1, .inl 0] M1 (ri_ fun v2 M2 =>
       (if v2 = (-1) then
        Qr [.inl 0] M2
       else
        D 60 [.inr (.inr 0), .inl x1, .inl 0, .inl x3] M2 (ri_ fun v3 M3 =>
         D 60 [.inr (.inr 0), .inl x1, .inl 1, .inl x4] M3 (ri_ fun v4 M4 =>
          D 60 [.inr (.inr 0), .inl x1, .inl 2, .inl x5] M4 (ri_ fun v5 M5 =>
           D 27 [.inr (.inr 0), .inl v2, .inl x1, .inl 0, .inl x2, .inl v3, .inl v4, .inl v5] M5 (rv_ fun M6 =>
            Qr [.inl 1] M6) Qt) Qt) Qt) Qt)) Qt
     else
      Qr [.inl 0] M1)))) Qt))) : V 0 [rr 0, ii x1, ii x2, ii x3, ii x4, ii x5, none, none] [] M := bx_go hD hV hW [] 53 h
/-- X0_given(III)I -/
theorem b_60_0 {D : ca_} {V : vv_} {Qr : qr_} {Qt : qt_} (hD : Mo_ D) (hV : Cl_ wd0 D V Qr Qt m_60) (hW : Wk_ V) (x1 : Int) (x2 : Int) (x3 : Int) (M : mm_) (h :
 (0 ≤ x1 ∧ x1 < 20) ∧
  (if x2 < M 79 x1 then
  (0 ≤ w32 ((w32 (3 * x1)) + x2) ∧ w32 ((w32 (3 * x1)) + x2) < 60) ∧
   (if M 80 (w32 ((w32 (3 * x1)) + x2)) = 1 then
   (if x3 = 0 then
    Qr [.inl x3] M
   else
    Qr [.inl 1] M)
  else
   Qr [.inl x3] M)
 else
  Qr [.inl 0] M)) : V 0 [rr 0, ii x1, ii x2, ii x3] [] M := bx_go hD hV hW [] 23 h
/-- X0_alive(I)I -/
theorem b_61_0 {D : ca_} {V : vv_} {Qr : qr_} {Qt : qt_} (hD : Mo_ D) (hV : Cl_ wd0 D V Qr Qt m_61) (hW : Wk_ V) (x1 : Int) (M : mm_) (h :
 (bl_ (M 0 4) → (if M 0 4 = 0 then
  Qr [.inl ((-1))] M
 else
  (if x1 < 0 then
   Qr [.inl ((-1))] M
  else
   (if x1 < M 0 7 then
    (0 ≤ x1 ∧ x1 < 12) ∧
     Qr [.inl (M 10 x1)] M
   else
    Qr [.inl ((-1))] M))))) : V 0 [rr 0, ii x1] [] M := bx_go hD hV hW [] 14 h
/-- X0_instance(II)I -/
theorem b_62_0 {D : ca_} {V : vv_} {Qr : qr_} {Qt : qt_} (hD : Mo_ D) (hV : Cl_ wd0 D V Qr Qt m_62) (hW : Wk_ V) (x1 : Int) (x2 : Int) (M : mm_) (h :
 (bl_ (M 0 4) → (if M 0 4 = 0 then
  V 17 [rr 0, ii x1, ii x2, ii ((-1))] [] M
 else
  D 6 [.inr (.inr 0), .inl x1] M (ri_ fun v1 M1 =>
   V 17 [rr 0, ii x1, ii x2, ii v1] [] M1) Qt))) : V 0 [rr 0, ii x1, ii x2, none] [] M := bx_go hD hV hW [(17, [])] 9 h
theorem i_62 : inq_ 0 k_62 = true := by decide +kernel
theorem z_62_9 : Sf_ k_62 g_62_9 := Sf_of i_62 9 rfl
theorem b_62_17 {D : ca_} {V : vv_} {Qr : qr_} {Qt : qt_} (hD : Mo_ D) (hV : Cl_ wd0 D V Qr Qt m_62) (hW : Wk_ V) (x1 : Int) (x2 : Int) (x3 : Int) (M : mm_) (h :
 (if x3 = (-1) then
  Qr [.inl ((-1))] M
 else
  (if x2 = 0 then (0 ≤ x3 ∧ x3 < 12) ∧
    Qr [.inl (M 11 x3)] M else
  (if x2 = 1 then (0 ≤ x3 ∧ x3 < 12) ∧
    Qr [.inl (M 12 x3)] M else
  (if x2 = 2 then (0 ≤ x3 ∧ x3 < 12) ∧
    Qr [.inl (M 14 x3)] M else
  (if x2 = 3 then (0 ≤ x3 ∧ x3 < 12) ∧
    Qr [.inl (M 18 x3)] M else
  (if x2 = 4 then (0 ≤ x3 ∧ x3 < 12) ∧
    Qr [.inl (M 19 x3)] M else
  (if x2 = 5 then (0 ≤ x3 ∧ x3 < 12) ∧
    Qr [.inl (M 20 x3)] M else
  (if x2 = 6 then D 12 [.inr (.inr 0), .inl x3] M (ri_ fun v1 M1 =>
    Qr [.inl v1] M1) Qt else
  Qr [.inl ((-1))] M))))))))) : V 17 [rr 0, ii x1, ii x2, ii x3] [] M := bx_go hD (m := (g_62_9, m_62.2)) (Cl_sf z_62_9 hV) hW [(17, [])] 10 h
/-- X0_cell(II)I -/
theorem b_63_0 {D : ca_} {V : vv_} {Qr : qr_} {Qt : qt_} (hD : Mo_ D) (hV : Cl_ wd0 D V Qr Qt m_63) (hW : Wk_ V) (x1 : Int) (x2 : Int) (M : mm_) (h :
 (bl_ (M 0 4) → (if M 0 4 = 0 then
  V 17 [rr 0, ii x1, ii x2, ii ((-1))] [] M
 else
  D 6 [.inr (.inr 0), .inl x1] M (ri_ fun v1 M1 =>
   V 17 [rr 0, ii x1, ii x2, ii v1] [] M1) Qt))) : V 0 [rr 0, ii x1, ii x2, none] [] M := bx_go hD hV hW [(17, [])] 9 h
theorem i_63 : inq_ 0 k_63 = true := by decide +kernel
theorem z_63_9 : Sf_ k_63 g_63_9 := Sf_of i_63 9 rfl
theorem b_63_17 {D : ca_} {V : vv_} {Qr : qr_} {Qt : qt_} (hD : Mo_ D) (hV : Cl_ wd0 D V Qr Qt m_63) (hW : Wk_ V) (x1 : Int) (x2 : Int) (x3 : Int) (M : mm_) (h :
 (if x3 = (-1) then
  Qr [.inl 0] M
 else
  (if x2 < 0 then
   Qr [.inl 0] M
  else
   (0 ≤ x3 ∧ x3 < 12) ∧
    (0 ≤ M 11 x3 ∧ M 11 x3 < 6) ∧
    (if x2 < M 92 (M 11 x3) then
    (0 ≤ w32 ((w32 (16 * x3)) + x2) ∧ w32 ((w32 (16 * x3)) + x2) < 192) ∧
     Qr [.inl (M 13 (w32 ((w32 (16 * x3)) + x2)))] M
   else
    Qr [.inl 0] M)))) : V 17 [rr 0, ii x1, ii x2, ii x3] [] M := bx_go hD (m := (g_63_9, m_63.2)) (Cl_sf z_63_9 hV) hW [(17, [])] 24 h
/-- X0_timer(II)I -/
theorem b_64_0 {D : ca_} {V : vv_} {Qr : qr_} {Qt : qt_} (hD : Mo_ D) (hV : Cl_ wd0 D V Qr Qt m_64) (hW : Wk_ V) (x1 : Int) (x2 : Int) (M : mm_) (h :
 (bl_ (M 0 4) → (if M 0 4 = 0 then
  V 17 [rr 0, ii x1, ii x2, ii ((-1))] [] M
 else
  D 6 [.inr (.inr 0), .inl x1] M (ri_ fun v1 M1 =>
   V 17 [rr 0, ii x1, ii x2, ii v1] [] M1) Qt))) : V 0 [rr 0, ii x1, ii x2, none] [] M := bx_go hD hV hW [(17, [])] 9 h
theorem i_64 : inq_ 0 k_64 = true := by decide +kernel
theorem z_64_9 : Sf_ k_64 g_64_9 := Sf_of i_64 9 rfl
theorem b_64_17 {D : ca_} {V : vv_} {Qr : qr_} {Qt : qt_} (hD : Mo_ D) (hV : Cl_ wd0 D V Qr Qt m_64) (hW : Wk_ V) (x1 : Int) (x2 : Int) (x3 : Int) (M : mm_) (h :
 (if x3 = (-1) then
  Qr [.inl ((-1))] M
 else
  (if x2 < 0 then
   Qr [.inl ((-1))] M
  else
   (if x2 < 3 then
    (0 ≤ w32 ((w32 (3 * x3)) + x2) ∧ w32 ((w32 (3 * x3)) + x2) < 36) ∧ (bl_ (M 16 (w32 ((w32 (3 * x3)) + x2))) →
     (if M 16 (w32 ((w32 (3 * x3)) + x2)) = 0 then
     Qr [.inl ((-1))] M
    else
     (0 ≤ w32 ((w32 (3 * x3)) + x2) ∧ w32 ((w32 (3 * x3)) + x2) < 36) ∧
      Qr [.inl (M 17 (w32 ((w32 (3 * x3)) + x2)))] M))
   else
    Qr [.inl ((-1))] M)))) : V 17 [rr 0, ii x1, ii x2, ii x3] [] M := bx_go hD (m := (g_64_9, m_64.2)) (Cl_sf z_64_9 hV) hW [(17, [])] 26 h
/-- X0_queued(III)I -/
theorem b_65_0 {D : ca_} {V : vv_} {Qr : qr_} {Qt : qt_} (hD : Mo_ D) (hV : Cl_ wd0 D V Qr Qt m_65) (hW : Wk_ V) (x1 : Int) (x2 : Int) (x3 : Int) (M : mm_) (h :
 (bl_ (M 0 4) → (if M 0 4 = 0 then
  V 18 [rr 0, ii x1, ii x2, ii x3, ii ((-1))] [] M
 else
  D 6 [.inr (.inr 0), .inl x1] M (ri_ fun v1 M1 =>
   V 18 [rr 0, ii x1, ii x2, ii x3, ii v1] [] M1) Qt))) : V 0 [rr 0, ii x1, ii x2, ii x3, none] [] M := bx_go hD hV hW [(18, [])] 9 h
theorem i_65 : inq_ 0 k_65 = true := by decide +kernel
theorem z_65_9 : Sf_ k_65 g_65_9 := Sf_of i_65 9 rfl
theorem b_65_18 {D : ca_} {V : vv_} {Qr : qr_} {Qt : qt_} (hD : Mo_ D) (hV : Cl_ wd0 D V Qr Qt m_65) (hW : Wk_ V) (x1 : Int) (x2 : Int) (x3 : Int) (x4 : Int) (M : mm_) (h :
 (if x4 = (-1) then
  Qr [.inl ((-1))] M
 else
  (if x2 < 0 then
   Qr [.inl ((-1))] M
  else
   (0 ≤ x4 ∧ x4 < 12) ∧
    (if x2 < M 14 x4 then
    (if x3 < 0 then
     Qr [.inl ((-1))] M
    else
     (if x3 ≤ 4 then
      D 9 [.inl x4, .inl x2] M (ri_ fun v1 M1 =>
       (0 ≤ w32 (v1 + x3) ∧ w32 (v1 + x3) < 360) ∧
        Qr [.inl (M1 15 (w32 (v1 + x3)))] M1) Qt
     else
      Qr [.inl ((-1))] M))
   else
    Qr [.inl ((-1))] M)))) : V 18 [rr 0, ii x1, ii x2, ii x3, ii x4] [] M := bx_go hD (m := (g_65_9, m_65.2)) (Cl_sf z_65_9 hV) hW [(18, [])] 25 h
/-- X0_way(III)I -/
theorem b_66_0 {D : ca_} {V : vv_} {Qr : qr_} {Qt : qt_} (hD : Mo_ D) (hV : Cl_ wd0 D V Qr Qt m_66) (hW : Wk_ V) (x1 : Int) (x2 : Int) (x3 : Int) (M : mm_) (h :
 (bl_ (M 0 4) → (if M 0 4 = 0 then
  Qr [.inl ((-1))] M
 else
  (if x1 < 0 then
   Qr [.inl ((-1))] M
  else
   (if x1 < M 4 1 then
    (if x2 < 0 then
     Qr [.inl ((-1))] M
    else
     (0 ≤ x1 ∧ x1 < 10) ∧
      (if x2 < M 21 x1 then
      (if x3 < 0 then
       Qr [.inl ((-1))] M
      else
       (if x3 ≤ 6 then
        D 2 [.inl x1, .inl x2] M (ri_ fun v1 M1 =>
         (0 ≤ w32 (v1 + x3) ∧ w32 (v1 + x3) < 420) ∧
          Qr [.inl (M1 22 (w32 (v1 + x3)))] M1) Qt
       else
        Qr [.inl ((-1))] M))
     else
      Qr [.inl ((-1))] M))
   else
    Qr [.inl ((-1))] M))))) : V 0 [rr 0, ii x1, ii x2, ii x3] [] M := bx_go hD hV hW [] 32 h
/-- X0_out(II)I -/
theorem b_67_0 {D : ca_} {V : vv_} {Qr : qr_} {Qt : qt_} (hD : Mo_ D) (hV : Cl_ wd0 D V Qr Qt m_67) (hW : Wk_ V) (x1 : Int) (x2 : Int) (M : mm_) (h :
 (bl_ (M 0 4) → (if M 0 4 = 0 then
  Qr [.inl ((-1))] M
 else
  (if x1 < 0 then
   Qr [.inl ((-1))] M
  else
   (if x1 < M 0 34 then
    (if x2 < 0 then
     Qr [.inl ((-1))] M
    else
     (if x2 ≤ 5 then
      (200 : Int) ≠ 0 ∧ (0 ≤ w32 ((w32 (6 * (Int.tmod (w32 ((w32 ((w32 ((M 0 33) + 200)) - (M 0 34))) + x1)) 200))) + x2) ∧ w32 ((w32 (6 * (Int.tmod (w32 ((w32 ((w32 ((M 0 33) + 200)) - (M 0 34))) + x1)) 200))) + x2) < 1200) ∧
       Qr [.inl (M 24 (w32 ((w32 (6 * (Int.tmod (w32 ((w32 ((w32 ((M 0 33) + 200)) - (M 0 34))) + x1)) 200))) + x2)))] M
     else
      Qr [.inl ((-1))] M))
   else
    Qr [.inl ((-1))] M))))) : V 0 [rr 0, ii x1, ii x2] [] M := bx_go hD hV hW [] 33 h
/-- X0_event(II)I -/
theorem b_68_0 {D : ca_} {V : vv_} {Qr : qr_} {Qt : qt_} (hD : Mo_ D) (hV : Cl_ wd0 D V Qr Qt m_68) (hW : Wk_ V) (x1 : Int) (x2 : Int) (M : mm_) (h :
 (bl_ (M 0 4) → (if M 0 4 = 0 then
  Qr [.inl ((-1))] M
 else
  (if x1 < 0 then
   Qr [.inl ((-1))] M
  else
   (if x1 < M 0 36 then
    (if x2 < 0 then
     Qr [.inl ((-1))] M
    else
     (if x2 ≤ 3 then
      D 69 [.inr (.inr 0), .inl x1] M (ri_ fun v1 M1 =>
       (0 ≤ w32 (v1 + x2) ∧ w32 (v1 + x2) < 2000) ∧
        Qr [.inl (M1 23 (w32 (v1 + x2)))] M1) Qt
     else
      Qr [.inl ((-1))] M))
   else
    Qr [.inl ((-1))] M))))) : V 0 [rr 0, ii x1, ii x2] [] M := bx_go hD hV hW [] 23 h
/-- X0_eventAt(I)I -/
theorem b_69_0 {D : ca_} {V : vv_} {Qr : qr_} {Qt : qt_} (hD : Mo_ D) (hV : Cl_ wd0 D V Qr Qt m_69) (hW : Wk_ V) (x1 : Int) (M : mm_) (h :
 (500 : Int) ≠ 0 ∧ Qr [.inl (w32 (4 * (Int.tmod (w32 ((w32 ((w32 ((M 0 35) + 500)) - (M 0 36))) + x1)) 500)))] M) : V 0 [rr 0, ii x1] [] M := bx_go hD hV hW [] 14 h
/-- X0_count(I)I -/
theorem b_70_0 {D : ca_} {V : vv_} {Qr : qr_} {Qt : qt_} (hD : Mo_ D) (hV : Cl_ wd0 D V Qr Qt m_70) (hW : Wk_ V) (x1 : Int) (M : mm_) (h :
 (if x1 < 0 then
  Qr [.inl ((-1))] M
 else
  (if x1 ≤ 18 then
   (if x1 = 14 then
    Qr [.inl (M 0 6)] M
   else
    (if x1 < 4 then
     (bl_ (M 0 3) → (if M 0 3 = 0 then
      Qr [.inl 0] M
     else
      (if x1 = 0 then
       Qr [.inl (M 4 0)] M
      else
       (if x1 = 1 then
        Qr [.inl (M 4 1)] M
       else
        (if x1 = 2 then
         Qr [.inl (M 4 2)] M
        else
         Qr [.inl (M 4 36)] M)))))
    else
     (bl_ (M 0 4) → (if M 0 4 = 0 then
      Qr [.inl 0] M
     else
      (if x1 = 4 then Qr [.inl (M 0 9)] M else
      (if x1 = 5 then Qr [.inl (M 0 7)] M else
      (if x1 = 6 then Qr [.inl (M 0 26)] M else
      (if x1 = 7 then Qr [.inl (M 0 27)] M else
      (if x1 = 8 then Qr [.inl (M 0 28)] M else
      (if x1 = 9 then Qr [.inl (M 0 29)] M else
      (if x1 = 10 then Qr [.inl (M 0 30)] M else
      (if x1 = 11 then Qr [.inl (M 0 31)] M else
      (if x1 = 12 then Qr [.inl (M 0 32)] M else
      (if x1 = 13 then Qr [.inl (M 0 36)] M else
      (if x1 = 14 then Qr [.inl (M 0 64)] M else
      (if x1 = 15 then Qr [.inl (M 0 10)] M else
      (if x1 = 16 then Qr [.inl (M 0 62)] M else
      (if x1 = 17 then Qr [.inl (M 0 63)] M else
      Qr [.inl (M 0 64)] M))))))))))))))))))
  else
   Qr [.inl ((-1))] M))) : V 0 [rr 0, ii x1] [] M := bx_go hD hV hW [] 27 h
/-- X0_type(II)I -/
theorem b_71_0 {D : ca_} {V : vv_} {Qr : qr_} {Qt : qt_} (hD : Mo_ D) (hV : Cl_ wd0 D V Qr Qt m_71) (hW : Wk_ V) (x1 : Int) (x2 : Int) (M : mm_) (h :
 (bl_ (M 0 3) → (if M 0 3 = 0 then
  Qr [.inl ((-1))] M
 else
  (if x1 < 0 then
   Qr [.inl ((-1))] M
  else
   (if x1 < M 4 2 then
    (if x2 = 0 then (0 ≤ x1 ∧ x1 < 6) ∧
      Qr [.inl (M 90 x1)] M else
    (if x2 = 1 then (0 ≤ x1 ∧ x1 < 6) ∧
      Qr [.inl (M 92 x1)] M else
    (if x2 = 2 then (0 ≤ x1 ∧ x1 < 6) ∧
      Qr [.inl (M 93 x1)] M else
    (if x2 = 3 then (0 ≤ x1 ∧ x1 < 6) ∧
      Qr [.inl (M 87 x1)] M else
    (if x2 = 4 then (0 ≤ x1 ∧ x1 < 6) ∧
      Qr [.inl (M 88 x1)] M else
    Qr [.inl ((-1))] M)))))
   else
    Qr [.inl ((-1))] M))))) : V 0 [rr 0, ii x1, ii x2] [] M := bx_go hD hV hW [] 18 h
/-- X0_chart(I)I -/
theorem b_72_0 {D : ca_} {V : vv_} {Qr : qr_} {Qt : qt_} (hD : Mo_ D) (hV : Cl_ wd0 D V Qr Qt m_72) (hW : Wk_ V) (x1 : Int) (M : mm_) (h :
 (if x1 < 0 then
  Qr [.inl ((-2))] M
 else
  (if x1 ≤ M 0 6 then
   (bl_ (M 0 4) → (if M 0 4 = 0 then
    Qr [.inl ((-1))] (up_ M 0 6 0)
   else
    D 191 [.inr (.inr 3), .inr (.inr 9), .inl x1] (up_ M 0 6 0) (rv_ fun M1 =>
     D 73 [.inr (.inr 0), .inl 44] (up_ (up_ (up_ (up_ (up_ (up_ (up_ (up_ M1 0 75 0) 0 76 0) 0 77 0) 0 78 0) 0 79 0) 0 94 ((-1))) 0 95 0) 0 92 0) (rv_ fun M2 =>
      D 76 [.inr (.inr 0), .inl 59] M2 (rv_ fun M3 =>
       D 77 [.inr (.inr 0)] M3 (rv_ fun M4 =>
        D 74 [.inr (.inr 0), .inl 102] M4 (ri_ fun v1 M5 =>
         (if v1 = 0 then
          D 75 [.inr (.inr 0), .inl 1, .inl (M5 0 75)] M5 (rf_r fun v3 M7 =>
           (if v3 = 1999 then False else (v3 = 7 ∨ v3 = 8) ∧ V 119 [rr 0, ii x1, none] [.inr (.inr v3)] M7)) (fun r M9 => (r = 7 ∨ r = 8) ∧ V 119 [rr 0, ii x1, none] [.inr (.inr r)] M9)
         else
          (if M5 0 92 = 0 then
           D 85 [.inr (.inr 0)] (up_ M5 0 96 (M5 0 76)) (ri_ fun v2 M6 =>
            (if v2 ≤ 0 then
             Qr [.inl 0] (up_ M6 0 97 v2)
            else
             Qr [.inl 1] (up_ M6 0 97 v2))) Qt
          else
           Qr [.inl (w32 (((-10)) - (M5 0 92)))] (up_ M5 0 71 (M5 0 93))))) (fun r M9 => (r = 7 ∨ r = 8) ∧ V 119 [rr 0, ii x1, none] [.inr (.inr r)] M9)) (fun r M9 => (r = 7 ∨ r = 8) ∧ V 119 [rr 0, ii x1, none] [.inr (.inr r)] M9)) (fun r M9 => (r = 7 ∨ r = 8) ∧ V 119 [rr 0, ii x1, none] [.inr (.inr r)] M9)) (fun r M9 => (r = 7 ∨ r = 8) ∧ V 119 [rr 0, ii x1, none] [.inr (.inr r)] M9)) Qt))
  else
   Qr [.inl ((-2))] M))) : V 0 [rr 0, ii x1, none] [] M := bx_go hD hV hW [(119, [2])] 72 h
theorem i_72 : inq_ 0 k_72 = true := by decide +kernel
theorem z_72_65 : Sf_ k_72 g_72_65 := Sf_of i_72 65 rfl
theorem b_72_119_7 {D : ca_} {V : vv_} {Qr : qr_} {Qt : qt_} (hD : Mo_ D) (hV : Cl_ wd0 D V Qr Qt m_72) (hW : Wk_ V) (x1 : Int) (M : mm_) (h :
 Qr [.inl (w32 (((-10)) - (M 0 92)))] (up_ M 0 71 (M 0 93))) : V 119 [rr 0, ii x1, none] [.inr (.inr 7)] M := bx_go hD (m := (g_72_65, m_72.2)) (Cl_sf z_72_65 hV) hW [(119, [2])] 10 h
theorem b_72_119_8 {D : ca_} {V : vv_} {Qr : qr_} {Qt : qt_} (hD : Mo_ D) (hV : Cl_ wd0 D V Qr Qt m_72) (hW : Wk_ V) (x1 : Int) (M : mm_) (h :
 Qr [.inl (w32 (((-10)) - (M 0 92)))] (up_ M 0 71 (M 0 93))) : V 119 [rr 0, ii x1, none] [.inr (.inr 8)] M := bx_go hD (m := (g_72_65, m_72.2)) (Cl_sf z_72_65 hV) hW [(119, [2])] 10 h
/-- X0_passes(I)V -/
theorem b_73_0 {D : ca_} {V : vv_} {Qr : qr_} {Qt : qt_} (hD : Mo_ D) (hV : Cl_ wd0 D V Qr Qt m_73) (hW : Wk_ V) (x1 : Int) (M : mm_) (h :
 D 74 [.inr (.inr 0), .inl x1] M (ri_ fun v1 M1 =>
  (if v1 = 0 then
   D 75 [.inr (.inr 0), .inl 1, .inl (M1 0 75)] M1 (rf_r fun v3 M3 =>
    (if v3 = 1999 then False else Qt v3 M3)) Qt
  else
   (if M1 0 75 < 1200 then
    Qr [] (up_ M1 0 75 (w32 ((M1 0 75) + 1)))
   else
    D 75 [.inr (.inr 0), .inl 2, .inl (M1 0 75)] M1 (rf_r fun v2 M2 =>
     (if v2 = 1999 then False else Qt v2 M2)) Qt))) Qt) : V 0 [rr 0, ii x1] [] M := bx_go hD hV hW [] 15 h
/-- X0_now(I)Z -/
theorem b_74_0 {D : ca_} {V : vv_} {Qr : qr_} {Qt : qt_} (hD : Mo_ D) (hV : Cl_ wd0 D V Qr Qt m_74) (hW : Wk_ V) (x1 : Int) (M : mm_) (h :
 (0 ≤ M 0 75 ∧ M 0 75 < 1202) ∧
  (if M 75 (M 0 75) = x1 then
  bl_ 1 ∧ Qr [.inl 1] M
 else
  bl_ 0 ∧ Qr [.inl 0] M)) : V 0 [rr 0, ii x1] [] M := bx_go hD hV hW [] 11 h
/-- X0_bad(II)Ljava/lang/IllegalStateException; -/
theorem b_75_0 {D : ca_} {V : vv_} {Qr : qr_} {Qt : qt_} (hD : Mo_ D) (hV : Cl_ wd0 D V Qr Qt m_75) (hW : Wk_ V) (x1 : Int) (x2 : Int) (M : mm_) (h :
 (0 ≤ x2 ∧ x2 < 1202) ∧
  Qr [.inr (.inr 7)] (up_ (up_ M 0 92 x1) 0 93 (M 76 x2))) : V 0 [rr 0, ii x1, ii x2] [] M := bx_go hD hV hW [] 13 h
/-- X0_passesSign(C)V -/
theorem b_76_0 {D : ca_} {V : vv_} {Qr : qr_} {Qt : qt_} (hD : Mo_ D) (hV : Cl_ wd0 D V Qr Qt m_76) (hW : Wk_ V) (x1 : Int) (M : mm_) (h :
 D 73 [.inr (.inr 0), .inl (w32 (200 + x1))] M (rv_ fun M1 =>
  Qr [] M1) Qt) : V 0 [rr 0, ii x1] [] M := bx_go hD hV hW [] 6 h
/-- X0_rowsOfLines()V -/
theorem b_77_0 {D : ca_} {V : vv_} {Qr : qr_} {Qt : qt_} (hD : Mo_ D) (hV : Cl_ wd0 D V Qr Qt m_77) (hW : Wk_ V)  (M : mm_) (h :
 V 2 [rr 0, ii 1] [] M) : V 0 [rr 0, none] [] M := bx_go hD hV hW [(2, [])] 3 h
theorem b_77_2 {D : ca_} {V : vv_} {Qr : qr_} {Qt : qt_} (hD : Mo_ D) (hV : Cl_ wd0 D V Qr Qt m_77) (hW : Wk_ V) (x1 : Int) (M : mm_) (h :
 (if x1 = 0 then
  Qr [] M
 else
  D 74 [.inr (.inr 0), .inl 45] M (ri_ fun v1 M1 =>
   (if v1 = 0 then
    D 74 [.inr (.inr 0), .inl 46] M1 (ri_ fun v2 M2 =>
     (if v2 = 0 then
      D 74 [.inr (.inr 0), .inl 47] M2 (ri_ fun v3 M4 =>
       (if v3 = 0 then
        D 74 [.inr (.inr 0), .inl 100] M4 (ri_ fun v4 M5 =>
         (if v4 = 0 then
          D 74 [.inr (.inr 0), .inl 25] M5 (ri_ fun v5 M7 =>
           (if v5 = 0 then
            V 2 [rr 0, ii 0] [] M7
           else
            D 82 [.inr (.inr 0)] M7 (rv_ fun M8 =>
             V 2 [rr 0, ii x1] [] M8) Qt)) Qt
         else
          D 82 [.inr (.inr 0)] M5 (rv_ fun M6 =>
           V 2 [rr 0, ii x1] [] M6) Qt)) Qt
       else
        D 81 [.inr (.inr 0)] M4 (rv_ fun M9 =>
         V 2 [rr 0, ii x1] [] M9) Qt)) Qt
     else
      D 81 [.inr (.inr 0)] M2 (rv_ fun M3 =>
       V 2 [rr 0, ii x1] [] M3) Qt)) Qt
   else
    D 78 [.inr (.inr 0)] M1 (rv_ fun M10 =>
     V 2 [rr 0, ii x1] [] M10) Qt)) Qt)) : V 2 [rr 0, ii x1] [] M := bx_go hD hV hW [(2, [])] 26 h
/-- X0_inst()V -/
theorem b_78_0 {D : ca_} {V : vv_} {Qr : qr_} {Qt : qt_} (hD : Mo_ D) (hV : Cl_ wd0 D V Qr Qt m_78) (hW : Wk_ V)  (M : mm_) (h :
 D 73 [.inr (.inr 0), .inl 45] M (rv_ fun M1 =>
  D 74 [.inr (.inr 0), .inl 100] M1 (ri_ fun v1 M2 =>
   (if v1 = 0 then
    D 75 [.inr (.inr 0), .inl 1, .inl (M2 0 75)] M2 (rf_r fun v4 M7 =>
     (if v4 = 1999 then False else Qt v4 M7)) Qt
   else
    (if M2 0 77 = 8 then
     D 75 [.inr (.inr 0), .inl 2, .inl (M2 0 75)] M2 (rf_r fun v3 M6 =>
      (if v3 = 1999 then False else Qt v3 M6)) Qt
    else
     D 73 [.inr (.inr 0), .inl 100] M2 (rv_ fun M3 =>
      D 79 [.inr (.inr 0), .inl (M1 0 75)] M3 (ri_ fun v2 M4 =>
       (if v2 = (-1) then
        V 70 [rr 0, ii (M1 0 75), none] [] M4
       else
        D 80 [.inr (.inr 0), .inl 3, .inl (M1 0 75)] M4 (rv_ fun M5 =>
         V 70 [rr 0, ii (M1 0 75), none] [] M5) Qt)) Qt) Qt))) Qt) Qt) : V 0 [rr 0, none, none] [] M := bx_go hD hV hW [(70, [2])] 27 h
theorem i_78 : inq_ 0 k_78 = true := by decide +kernel
theorem z_78_38 : Sf_ k_78 g_78_38 := Sf_of i_78 38 rfl
theorem b_78_70 {D : ca_} {V : vv_} {Qr : qr_} {Qt : qt_} (hD : Mo_ D) (hV : Cl_ wd0 D V Qr Qt m_78) (hW : Wk_ V) (x1 : Int) (M : mm_) (h :
 D 76 [.inr (.inr 0), .inl 61] M (rv_ fun M1 =>
  (0 ≤ M1 0 75 ∧ M1 0 75 < 1202) ∧
   D 73 [.inr (.inr 0), .inl 101] M1 (rv_ fun M2 =>
   D 76 [.inr (.inr 0), .inl 59] M2 (rv_ fun M3 =>
    (0 ≤ M3 0 77 ∧ M3 0 77 < 8) ∧
     (0 ≤ M3 0 77 ∧ M3 0 77 < 8) ∧
     Qr [] (up_ (up_ (up_ M3 44 (M3 0 77) x1) 45 (M3 0 77) (M1 78 (M1 0 75))) 0 77 (w32 ((M3 0 77) + 1)))) Qt) Qt) Qt) : V 70 [rr 0, ii x1, none] [] M := bx_go hD (m := (g_78_38, m_78.2)) (Cl_sf z_78_38 hV) hW [(70, [2])] 35 h
/-- X0_instOf(I)I -/
theorem b_79_0 {D : ca_} {V : vv_} {Qr : qr_} {Qt : qt_} (hD : Mo_ D) (hV : Cl_ wd0 D V Qr Qt m_79) (hW : Wk_ V) (x1 : Int) (M : mm_) (h :
 V 2 [rr 0, ii x1, ii 0] [] M) : V 0 [rr 0, ii x1, none] [] M := bx_go hD hV hW [(2, [])] 3 h
theorem b_79_2 {D : ca_} {V : vv_} {Qr : qr_} {Qt : qt_} (hD : Mo_ D) (hV : Cl_ wd0 D V Qr Qt m_79) (hW : Wk_ V) (x1 : Int) (x2 : Int) (M : mm_) (h :
 (if x2 < M 0 77 then
  (0 ≤ x2 ∧ x2 < 8) ∧
   D 199 [.inr (.inr 3), .inl (M 44 x2), .inl x1] M (ri_ fun v1 M1 =>
   (if v1 = 0 then
    V 2 [rr 0, ii x1, ii (w32 (x2 + 1))] [] M1
   else
    Qr [.inl x2] M1)) Qt
 else
  Qr [.inl ((-1))] M)) : V 2 [rr 0, ii x1, ii x2] [] M := bx_go hD hV hW [(2, [])] 16 h
/-- X0_noted(II)V -/
theorem b_80_0 {D : ca_} {V : vv_} {Qr : qr_} {Qt : qt_} (hD : Mo_ D) (hV : Cl_ wd0 D V Qr Qt m_80) (hW : Wk_ V) (x1 : Int) (x2 : Int) (M : mm_) (h :
 (0 ≤ x2 ∧ x2 < 1202) ∧
  (if M 0 92 = 0 then
  Qr [] (up_ (up_ M 0 92 x1) 0 93 (M 76 x2))
 else
  (if M 0 93 < M 76 x2 then
   Qr [] M
  else
   (if M 0 93 = M 76 x2 then
    (if M 0 92 ≤ x1 then
     Qr [] M
    else
     Qr [] (up_ (up_ M 0 92 x1) 0 93 (M 76 x2)))
   else
    Qr [] (up_ (up_ M 0 92 x1) 0 93 (M 76 x2)))))) : V 0 [rr 0, ii x1, ii x2, none] [] M := bx_go hD hV hW [] 28 h
/-- X0_alt()V -/
theorem b_81_0 {D : ca_} {V : vv_} {Qr : qr_} {Qt : qt_} (hD : Mo_ D) (hV : Cl_ wd0 D V Qr Qt m_81) (hW : Wk_ V)  (M : mm_) (h :
 D 74 [.inr (.inr 0), .inl 47] M (ri_ fun v1 M1 =>
  (if M1 0 78 = 6 then
   D 75 [.inr (.inr 0), .inl 2, .inl (M1 0 75)] M1 (rf_r fun v2 M2 =>
    (if v2 = 1999 then False else Qt v2 M2)) Qt
  else
   (if M1 0 79 = 3 then
    D 75 [.inr (.inr 0), .inl 2, .inl (M1 0 75)] M1 (rf_r fun v3 M5 =>
     (if v3 = 1999 then False else Qt v3 M5)) Qt
   else
    (if v1 = 0 then
     D 73 [.inr (.inr 0), .inl 46] M1 (rv_ fun M3 =>
      V 49 [rr 0, ii v1, none] [] M3) Qt
    else
     D 73 [.inr (.inr 0), .inl 47] M1 (rv_ fun M4 =>
      V 49 [rr 0, ii v1, none] [] M4) Qt)))) Qt) : V 0 [rr 0, none, none] [] M := bx_go hD hV hW [(49, [2]), (99, []), (146, []), (208, [])] 19 h
theorem i_81 : inq_ 0 k_81 = true := by decide +kernel
theorem z_81_25 : Sf_ k_81 g_81_25 := Sf_of i_81 25 rfl
theorem b_81_49 {D : ca_} {V : vv_} {Qr : qr_} {Qt : qt_} (hD : Mo_ D) (hV : Cl_ wd0 D V Qr Qt m_81) (hW : Wk_ V) (x1 : Int) (M : mm_) (h :
 (0 ≤ M 0 78 ∧ M 0 78 < 6) ∧
  (0 ≤ M 0 78 ∧ M 0 78 < 6) ∧
  (if x1 = 0 then
  (0 ≤ M 0 78 ∧ M 0 78 < 6) ∧
   V 99 [rr 0, ii x1, ii (M 0 78)] [] (up_ (up_ (up_ (up_ M 0 78 (w32 ((M 0 78) + 1))) 52 (M 0 78) (M 0 94)) 53 (M 0 78) (M 0 95)) 51 (M 0 78) 1)
 else
  (0 ≤ M 0 78 ∧ M 0 78 < 6) ∧
   V 99 [rr 0, ii x1, ii (M 0 78)] [] (up_ (up_ (up_ (up_ M 0 78 (w32 ((M 0 78) + 1))) 52 (M 0 78) (M 0 94)) 53 (M 0 78) (M 0 95)) 51 (M 0 78) 2))) : V 49 [rr 0, ii x1, none] [] M := bx_go hD (m := (g_81_25, m_81.2)) (Cl_sf z_81_25 hV) hW [(49, [2]), (99, []), (146, []), (208, [])] 30 h
theorem z_81_55 : Sf_ k_81 g_81_55 := Sf_tr z_81_25 30 rfl
theorem b_81_99 {D : ca_} {V : vv_} {Qr : qr_} {Qt : qt_} (hD : Mo_ D) (hV : Cl_ wd0 D V Qr Qt m_81) (hW : Wk_ V) (x1 : Int) (x2 : Int) (M : mm_) (h :
 D 77 [.inr (.inr 0)] (up_ (up_ (up_ M 0 79 (w32 ((M 0 79) + 1))) 0 94 x2) 0 95 0) (rv_ fun M1 =>
  (if x1 = 0 then
   D 74 [.inr (.inr 0), .inl 43] M1 (ri_ fun v1 M2 =>
    (if v1 = 0 then
     D 75 [.inr (.inr 0), .inl 1, .inl (M2 0 75)] M2 (rf_r fun v2 M3 =>
      (if v2 = 1999 then False else Qt v2 M3)) Qt
    else
     V 146 [rr 0, ii x1, ii x2] [] M2)) Qt
  else
   V 208 [rr 0, ii x1, ii x2] [] M1)) Qt) : V 99 [rr 0, ii x1, ii x2] [] M := bx_go hD (m := (g_81_55, m_81.2)) (Cl_sf z_81_55 hV) hW [(49, [2]), (99, []), (146, []), (208, [])] 26 h
theorem z_81_81 : Sf_ k_81 g_81_81 := Sf_tr z_81_55 26 rfl
theorem b_81_146 {D : ca_} {V : vv_} {Qr : qr_} {Qt : qt_} (hD : Mo_ D) (hV : Cl_ wd0 D V Qr Qt m_81) (hW : Wk_ V) (x1 : Int) (x2 : Int) (M : mm_) (h :
 D 74 [.inr (.inr 0), .inl 43] M (ri_ fun v1 M1 =>
  (if v1 = 0 then
   V 208 [rr 0, ii x1, ii x2] [] M1
  else
   (0 ≤ x2 ∧ x2 < 6) ∧
    (if M1 51 x2 = 4 then
    D 75 [.inr (.inr 0), .inl 2, .inl (M1 0 75)] M1 (rf_r fun v2 M4 =>
     (if v2 = 1999 then False else Qt v2 M4)) Qt
   else
    D 73 [.inr (.inr 0), .inl 43] M1 (rv_ fun M2 =>
     (0 ≤ x2 ∧ x2 < 6) ∧
      (0 ≤ x2 ∧ x2 < 6) ∧
      (0 ≤ x2 ∧ x2 < 6) ∧
      D 77 [.inr (.inr 0)] (up_ (up_ M2 0 95 (M2 51 x2)) 51 x2 (w32 ((M2 51 x2) + 1))) (rv_ fun M3 =>
      V 146 [rr 0, ii x1, ii x2] [] M3) Qt) Qt))) Qt) : V 146 [rr 0, ii x1, ii x2] [] M := bx_go hD (m := (g_81_81, m_81.2)) (Cl_sf z_81_81 hV) hW [(49, [2]), (99, []), (146, []), (208, [])] 31 h
theorem z_81_117 : Sf_ k_81 g_81_117 := Sf_tr z_81_81 36 rfl
theorem b_81_208 {D : ca_} {V : vv_} {Qr : qr_} {Qt : qt_} (hD : Mo_ D) (hV : Cl_ wd0 D V Qr Qt m_81) (hW : Wk_ V) (x1 : Int) (x2 : Int) (M : mm_) (h :
 D 73 [.inr (.inr 0), .inl 20] M (rv_ fun M1 =>
  D 76 [.inr (.inr 0), .inl 59] M1 (rv_ fun M2 =>
   (0 ≤ x2 ∧ x2 < 6) ∧
    (0 ≤ x2 ∧ x2 < 6) ∧
    Qr [] (up_ (up_ (up_ M2 0 79 (w32 ((M2 0 79) - 1))) 0 94 (M2 52 x2)) 0 95 (M2 53 x2))) Qt) Qt) : V 208 [rr 0, ii x1, ii x2] [] M := bx_go hD (m := (g_81_117, m_81.2)) (Cl_sf z_81_117 hV) hW [(49, [2]), (99, []), (146, []), (208, [])] 25 h
/-- X0_line()V -/
theorem b_82_0 {D : ca_} {V : vv_} {Qr : qr_} {Qt : qt_} (hD : Mo_ D) (hV : Cl_ wd0 D V Qr Qt m_82) (hW : Wk_ V)  (M : mm_) (h :
 (if M 0 76 = 40 then
  D 75 [.inr (.inr 0), .inl 2, .inl (M 0 75)] M (rf_r fun v4 M8 =>
   (if v4 = 1999 then False else Qt v4 M8)) Qt
 else
  D 83 [.inr (.inr 0)] M (ri_ fun v1 M1 =>
   D 73 [.inr (.inr 0), .inl 114] M1 (rv_ fun M2 =>
    D 83 [.inr (.inr 0)] M2 (ri_ fun v2 M3 =>
     D 76 [.inr (.inr 0), .inl 58] M3 (rv_ fun M4 =>
      D 73 [.inr (.inr 0), .inl 100] M4 (rv_ fun M5 =>
       D 84 [.inr (.inr 0), .inl (M4 0 75)] M5 (ri_ fun v3 M6 =>
        (if v3 = (-1) then
         D 80 [.inr (.inr 0), .inl 4, .inl (M4 0 75)] M6 (rv_ fun M7 =>
          V 71 [rr 0, ii v1, ii v2, ii (M4 0 75), ii v3] [] M7) Qt
        else
         V 71 [rr 0, ii v1, ii v2, ii (M4 0 75), ii v3] [] M6)) Qt) Qt) Qt) Qt) Qt) Qt)) : V 0 [rr 0, none, none, none, none] [] M := bx_go hD hV hW [(71, [])] 34 h
theorem i_82 : inq_ 0 k_82 = true := by decide +kernel
theorem z_82_39 : Sf_ k_82 g_82_39 := Sf_of i_82 39 rfl
theorem b_82_71 {D : ca_} {V : vv_} {Qr : qr_} {Qt : qt_} (hD : Mo_ D) (hV : Cl_ wd0 D V Qr Qt m_82) (hW : Wk_ V) (x1 : Int) (x2 : Int) (x3 : Int) (x4 : Int) (M : mm_) (h :
 D 76 [.inr (.inr 0), .inl 59] M (rv_ fun M1 =>
  (0 ≤ M1 0 76 ∧ M1 0 76 < 40) ∧
   (0 ≤ M1 0 76 ∧ M1 0 76 < 40) ∧
   (0 ≤ M1 0 76 ∧ M1 0 76 < 40) ∧
   (0 ≤ M1 0 76 ∧ M1 0 76 < 40) ∧
   (0 ≤ M1 0 76 ∧ M1 0 76 < 40) ∧
   Qr [] (up_ (up_ (up_ (up_ (up_ (up_ M1 46 (M1 0 76) x1) 47 (M1 0 76) x2) 48 (M1 0 76) x4) 49 (M1 0 76) (M1 0 94)) 50 (M1 0 76) (M1 0 95)) 0 76 (w32 ((M1 0 76) + 1)))) Qt) : V 71 [rr 0, ii x1, ii x2, ii x3, ii x4] [] M := bx_go hD (m := (g_82_39, m_82.2)) (Cl_sf z_82_39 hV) hW [(71, [])] 42 h
/-- X0_side()I -/
theorem b_83_0 {D : ca_} {V : vv_} {Qr : qr_} {Qt : qt_} (hD : Mo_ D) (hV : Cl_ wd0 D V Qr Qt m_83) (hW : Wk_ V)  (M : mm_) (h :
 D 74 [.inr (.inr 0), .inl 25] M (ri_ fun v1 M1 =>
  (if v1 = 0 then
   D 73 [.inr (.inr 0), .inl 100] M1 (rv_ fun M2 =>
    D 79 [.inr (.inr 0), .inl (M1 0 75)] M2 (ri_ fun v2 M3 =>
     (if v2 = (-1) then
      D 80 [.inr (.inr 0), .inl 4, .inl (M1 0 75)] M3 (rv_ fun M4 =>
       Qr [.inl v2] M4) Qt
     else
      Qr [.inl v2] M3)) Qt) Qt
  else
   D 73 [.inr (.inr 0), .inl 25] M1 (rv_ fun M5 =>
    Qr [.inl ((-2))] M5) Qt)) Qt) : V 0 [rr 0, none, none] [] M := bx_go hD hV hW [] 23 h
/-- X0_signalOf(I)I -/
theorem b_84_0 {D : ca_} {V : vv_} {Qr : qr_} {Qt : qt_} (hD : Mo_ D) (hV : Cl_ wd0 D V Qr Qt m_84) (hW : Wk_ V) (x1 : Int) (M : mm_) (h :
 (0 ≤ x1 ∧ x1 < 1202) ∧
  (0 ≤ x1 ∧ x1 < 1202) ∧
  V 22 [rr 0, ii x1, ii (w32 ((M 77 x1) - (M 76 x1))), ii 0, none, none] [] M) : V 0 [rr 0, ii x1, none, none, none, none] [] M := bx_go hD hV hW [(22, [4, 5]), (53, [])] 15 h
theorem i_84 : inq_ 0 k_84 = true := by decide +kernel
theorem z_84_14 : Sf_ k_84 g_84_14 := Sf_of i_84 14 rfl
theorem b_84_22 {D : ca_} {V : vv_} {Qr : qr_} {Qt : qt_} (hD : Mo_ D) (hV : Cl_ wd0 D V Qr Qt m_84) (hW : Wk_ V) (x1 : Int) (x2 : Int) (x3 : Int) (M : mm_) (h :
 (if x3 < M 4 0 then
  (0 ≤ x3 ∧ x3 < 20) ∧
   (if M 43 x3 = x2 then
   V 53 [rr 0, ii x1, ii x2, ii x3, ii 1, ii 0] [] M
  else
   V 53 [rr 0, ii x1, ii x2, ii x3, ii 0, ii 0] [] M)
 else
  Qr [.inl ((-1))] M)) : V 22 [rr 0, ii x1, ii x2, ii x3, none, none] [] M := bx_go hD (m := (g_84_14, m_84.2)) (Cl_sf z_84_14 hV) hW [(22, [4, 5]), (53, [])] 17 h
theorem z_84_31 : Sf_ k_84 g_84_31 := Sf_tr z_84_14 17 rfl
theorem b_84_53 {D : ca_} {V : vv_} {Qr : qr_} {Qt : qt_} (hD : Mo_ D) (hV : Cl_ wd0 D V Qr Qt m_84) (hW : Wk_ V) (x1 : Int) (x2 : Int) (x3 : Int) (x4 : Int) (x5 : Int) (M : mm_) (h :
 (if x5 < x2 then
  (if x4 = 0 then
   (if x4 = 0 then
    V 22 [rr 0, ii x1, ii x2, ii (w32 (x3 + 1)), none, none] [] M
   else
    Qr [.inl x3] M)
  else
   (0 ≤ w32 ((w32 (10 * x3)) + x5) ∧ w32 ((w32 (10 * x3)) + x5) < 200) ∧ (-128 ≤ M 42 (w32 ((w32 (10 * x3)) + x5)) ∧ M 42 (w32 ((w32 (10 * x3)) + x5)) ≤ 127 →
    (0 ≤ x1 ∧ x1 < 1202) ∧
    (0 ≤ w32 ((M 76 x1) + x5) ∧ w32 ((M 76 x1) + x5) < 5000) ∧ (-128 ≤ M 74 (w32 ((M 76 x1) + x5)) ∧ M 74 (w32 ((M 76 x1) + x5)) ≤ 127 →
    (if M 42 (w32 ((w32 (10 * x3)) + x5)) = M 74 (w32 ((M 76 x1) + x5)) then
    V 53 [rr 0, ii x1, ii x2, ii x3, ii 1, ii (w32 (x5 + 1))] [] M
   else
    V 53 [rr 0, ii x1, ii x2, ii x3, ii 0, ii (w32 (x5 + 1))] [] M))))
 else
  (if x4 = 0 then
   V 22 [rr 0, ii x1, ii x2, ii (w32 (x3 + 1)), none, none] [] M
  else
   Qr [.inl x3] M))) : V 53 [rr 0, ii x1, ii x2, ii x3, ii x4, ii x5] [] M := bx_go hD (m := (g_84_31, m_84.2)) (Cl_sf z_84_31 hV) hW [(22, [4, 5]), (53, [])] 31 h
/-- X0_choosing()I -/
theorem b_85_0 {D : ca_} {V : vv_} {Qr : qr_} {Qt : qt_} (hD : Mo_ D) (hV : Cl_ wd0 D V Qr Qt m_85) (hW : Wk_ V)  (M : mm_) (h :
 V 2 [rr 0, ii 0, none, none, none, none] [] M) : V 0 [rr 0, none, none, none, none, none] [] M := bx_go hD hV hW [(2, [2, 3, 4, 5]), (29, [4, 5]), (46, []), (95, []), (133, [])] 3 h
theorem b_85_2 {D : ca_} {V : vv_} {Qr : qr_} {Qt : qt_} (hD : Mo_ D) (hV : Cl_ wd0 D V Qr Qt m_85) (hW : Wk_ V) (x1 : Int) (M : mm_) (h :
 (if x1 < M 0 78 then
  (0 ≤ x1 ∧ x1 < 6) ∧
   V 2 [rr 0, ii (w32 (x1 + 1)), none, none, none, none] [] (up_ M 54 x1 0)
 else
  V 29 [rr 0, ii 0, ii 1, ii 0, none, none] [] M)) : V 2 [rr 0, ii x1, none, none, none, none] [] M := bx_go hD hV hW [(2, [2, 3, 4, 5]), (29, [4, 5]), (46, []), (95, []), (133, [])] 12 h
theorem i_85 : inq_ 0 k_85 = true := by decide +kernel
theorem z_85_19 : Sf_ k_85 g_85_19 := Sf_of i_85 19 rfl
theorem b_85_29 {D : ca_} {V : vv_} {Qr : qr_} {Qt : qt_} (hD : Mo_ D) (hV : Cl_ wd0 D V Qr Qt m_85) (hW : Wk_ V) (x1 : Int) (x2 : Int) (x3 : Int) (M : mm_) (h :
 (if x3 < 1000 then
  (if x2 = 0 then
   Qr [.inl x1] M
  else
   V 46 [rr 0, ii x1, ii x2, ii x3, ii 1, ii 0] [] M)
 else
  Qr [.inl x1] M)) : V 29 [rr 0, ii x1, ii x2, ii x3, none, none] [] M := bx_go hD (m := (g_85_19, m_85.2)) (Cl_sf z_85_19 hV) hW [(2, [2, 3, 4, 5]), (29, [4, 5]), (46, []), (95, []), (133, [])] 10 h
theorem z_85_28 : Sf_ k_85 g_85_28 := Sf_tr z_85_19 9 rfl
theorem b_85_46 {D : ca_} {V : vv_} {Qr : qr_} {Qt : qt_} (hD : Mo_ D) (hV : Cl_ wd0 D V Qr Qt m_85) (hW : Wk_ V) (x1 : Int) (x2 : Int) (x3 : Int) (x4 : Int) (x5 : Int) (M : mm_) (h :
 (if x5 < M 0 77 then
  (if x4 = 0 then
   (if x4 = 0 then
    V 95 [rr 0, ii (w32 (x1 + 0)), ii x2, ii x3, ii x4, ii (w32 ((M 0 78) - 1))] [] M
   else
    V 95 [rr 0, ii (w32 (x1 + 1)), ii x2, ii x3, ii x4, ii (w32 ((M 0 78) - 1))] [] M)
  else
   D 86 [.inr (.inr 0), .inl x5] M (ri_ fun v1 M1 =>
    V 46 [rr 0, ii x1, ii x2, ii x3, ii v1, ii (w32 (x5 + 1))] [] M1) Qt)
 else
  (if x4 = 0 then
   V 95 [rr 0, ii (w32 (x1 + 0)), ii x2, ii x3, ii x4, ii (w32 ((M 0 78) - 1))] [] M
  else
   V 95 [rr 0, ii (w32 (x1 + 1)), ii x2, ii x3, ii x4, ii (w32 ((M 0 78) - 1))] [] M))) : V 46 [rr 0, ii x1, ii x2, ii x3, ii x4, ii x5] [] M := bx_go hD (m := (g_85_28, m_85.2)) (Cl_sf z_85_28 hV) hW [(2, [2, 3, 4, 5]), (29, [4, 5]), (46, []), (95, []), (133, [])] 19 h
theorem z_85_53 : Sf_ k_85 g_85_53 := Sf_tr z_85_28 25 rfl
theorem b_85_95 {D : ca_} {V : vv_} {Qr : qr_} {Qt : qt_} (hD : Mo_ D) (hV : Cl_ wd0 D V Qr Qt m_85) (hW : Wk_ V) (x1 : Int) (x2 : Int) (x3 : Int) (x4 : Int) (x5 : Int) (M : mm_) (h :
 (if x5 < 0 then
  V 133 [rr 0, ii x1, ii x2, ii x3, ii x4, ii x5] [] M
 else
  (0 ≤ x5 ∧ x5 < 6) ∧
   (0 ≤ x5 ∧ x5 < 6) ∧
   (if M 54 x5 = w32 ((M 51 x5) - 1) then
   (0 ≤ x5 ∧ x5 < 6) ∧
    V 95 [rr 0, ii x1, ii x2, ii x3, ii x4, ii (w32 (x5 + (-1)))] [] (up_ M 54 x5 0)
  else
   V 133 [rr 0, ii x1, ii x2, ii x3, ii x4, ii x5] [] M))) : V 95 [rr 0, ii x1, ii x2, ii x3, ii x4, ii x5] [] M := bx_go hD (m := (g_85_53, m_85.2)) (Cl_sf z_85_53 hV) hW [(2, [2, 3, 4, 5]), (29, [4, 5]), (46, []), (95, []), (133, [])] 21 h
theorem z_85_73 : Sf_ k_85 g_85_73 := Sf_tr z_85_53 20 rfl
theorem b_85_133 {D : ca_} {V : vv_} {Qr : qr_} {Qt : qt_} (hD : Mo_ D) (hV : Cl_ wd0 D V Qr Qt m_85) (hW : Wk_ V) (x1 : Int) (x2 : Int) (x3 : Int) (x4 : Int) (x5 : Int) (M : mm_) (h :
 (if x5 < 0 then
  (if (0 : Int) = 0 then
   V 29 [rr 0, ii x1, ii 0, ii (w32 (x3 + 1)), none, none] [] M
  else
   (0 ≤ x5 ∧ x5 < 6) ∧
    (0 ≤ x5 ∧ x5 < 6) ∧
    V 29 [rr 0, ii x1, ii 0, ii (w32 (x3 + 1)), none, none] [] (up_ M 54 x5 (w32 ((M 54 x5) + 1))))
 else
  (if (1 : Int) = 0 then
   V 29 [rr 0, ii x1, ii 1, ii (w32 (x3 + 1)), none, none] [] M
  else
   (0 ≤ x5 ∧ x5 < 6) ∧
    (0 ≤ x5 ∧ x5 < 6) ∧
    V 29 [rr 0, ii x1, ii 1, ii (w32 (x3 + 1)), none, none] [] (up_ M 54 x5 (w32 ((M 54 x5) + 1)))))) : V 133 [rr 0, ii x1, ii x2, ii x3, ii x4, ii x5] [] M := bx_go hD (m := (g_85_73, m_85.2)) (Cl_sf z_85_73 hV) hW [(2, [2, 3, 4, 5]), (29, [4, 5]), (46, []), (95, []), (133, [])] 18 h
/-- X0_follows(I)Z -/
theorem b_86_0 {D : ca_} {V : vv_} {Qr : qr_} {Qt : qt_} (hD : Mo_ D) (hV : Cl_ wd0 D V Qr Qt m_86) (hW : Wk_ V) (x1 : Int) (M : mm_) (h :
 V 7 [rr 0, ii x1, ii 0] [] (up_ M 0 98 0)) : V 0 [rr 0, ii x1, none] [] M := bx_go hD hV hW [(7, []), (79, [])] 6 h
theorem b_86_7 {D : ca_} {V : vv_} {Qr : qr_} {Qt : qt_} (hD : Mo_ D) (hV : Cl_ wd0 D V Qr Qt m_86) (hW : Wk_ V) (x1 : Int) (x2 : Int) (M : mm_) (h :
 (if x2 < M 0 76 then
  (0 ≤ x2 ∧ x2 < 40) ∧
   (0 ≤ x2 ∧ x2 < 40) ∧
   D 87 [.inr (.inr 0), .inl (M 49 x2), .inl (M 50 x2)] M (ri_ fun v2 M2 =>
   (if v2 = 0 then
    V 7 [rr 0, ii x1, ii (w32 (x2 + 1))] [] M2
   else
    (0 ≤ x2 ∧ x2 < 40) ∧
     (if M2 46 x2 = x1 then
     (0 ≤ x1 ∧ x1 < 8) ∧
      (0 ≤ x2 ∧ x2 < 40) ∧
      (0 ≤ x2 ∧ x2 < 40) ∧
      D 88 [.inr (.inr 0), .inl (M2 47 x2)] M2 (ri_ fun v3 M3 =>
      D 89 [.inr (.inr 0), .inl (M2 45 x1), .inl 1, .inl (M2 48 x2), .inl v3] M3 (ri_ fun v4 M4 =>
       (if v4 = 0 then
        bl_ 0 ∧ Qr [.inl 0] M4
       else
        V 79 [rr 0, ii x1, ii x2] [] M4)) Qt) Qt
    else
     V 79 [rr 0, ii x1, ii x2] [] M2))) Qt
 else
  (0 ≤ x1 ∧ x1 < 8) ∧
   D 90 [.inr (.inr 0), .inl (M 45 x1)] M (ri_ fun v1 M1 =>
   (if v1 = (-1) then
    bl_ 1 ∧ Qr [.inl 1] M1
   else
    bl_ 0 ∧ Qr [.inl 0] M1)) Qt)) : V 7 [rr 0, ii x1, ii x2] [] M := bx_go hD hV hW [(7, []), (79, [])] 41 h
theorem i_86 : inq_ 0 k_86 = true := by decide +kernel
theorem z_86_47 : Sf_ k_86 g_86_47 := Sf_of i_86 47 rfl
theorem b_86_79 {D : ca_} {V : vv_} {Qr : qr_} {Qt : qt_} (hD : Mo_ D) (hV : Cl_ wd0 D V Qr Qt m_86) (hW : Wk_ V) (x1 : Int) (x2 : Int) (M : mm_) (h :
 (0 ≤ x2 ∧ x2 < 40) ∧
  (if M 47 x2 = x1 then
  (0 ≤ x1 ∧ x1 < 8) ∧
   (0 ≤ x2 ∧ x2 < 40) ∧
   (0 ≤ x2 ∧ x2 < 40) ∧
   D 88 [.inr (.inr 0), .inl (M 46 x2)] M (ri_ fun v1 M1 =>
   D 89 [.inr (.inr 0), .inl (M 45 x1), .inl 2, .inl (M 48 x2), .inl v1] M1 (ri_ fun v2 M2 =>
    (if v2 = 0 then
     bl_ 0 ∧ Qr [.inl 0] M2
    else
     V 7 [rr 0, ii x1, ii (w32 (x2 + 1))] [] M2)) Qt) Qt
 else
  V 7 [rr 0, ii x1, ii (w32 (x2 + 1))] [] M)) : V 79 [rr 0, ii x1, ii x2] [] M := bx_go hD (m := (g_86_47, m_86.2)) (Cl_sf z_86_47 hV) hW [(7, []), (79, [])] 27 h
/-- X0_isChosen(II)Z -/
theorem b_87_0 {D : ca_} {V : vv_} {Qr : qr_} {Qt : qt_} (hD : Mo_ D) (hV : Cl_ wd0 D V Qr Qt m_87) (hW : Wk_ V) (x1 : Int) (x2 : Int) (M : mm_) (h :
 V 5 [rr 0, ii x1, ii x2, ii x1, ii x2] [] M) : V 0 [rr 0, ii x1, ii x2, none, none] [] M := bx_go hD hV hW [(5, [])] 5 h
theorem b_87_5 {D : ca_} {V : vv_} {Qr : qr_} {Qt : qt_} (hD : Mo_ D) (hV : Cl_ wd0 D V Qr Qt m_87) (hW : Wk_ V) (x1 : Int) (x2 : Int) (x3 : Int) (x4 : Int) (M : mm_) (h :
 (if x3 = (-1) then
  bl_ 1 ∧ Qr [.inl 1] M
 else
  (0 ≤ x3 ∧ x3 < 6) ∧
   (if M 54 x3 = x4 then
   (0 ≤ x3 ∧ x3 < 6) ∧
    (0 ≤ x3 ∧ x3 < 6) ∧
    V 5 [rr 0, ii x1, ii x2, ii (M 52 x3), ii (M 53 x3)] [] M
  else
   bl_ 0 ∧ Qr [.inl 0] M))) : V 5 [rr 0, ii x1, ii x2, ii x3, ii x4] [] M := bx_go hD hV hW [(5, [])] 21 h
/-- X0_pidOf(I)I -/
theorem b_88_0 {D : ca_} {V : vv_} {Qr : qr_} {Qt : qt_} (hD : Mo_ D) (hV : Cl_ wd0 D V Qr Qt m_88) (hW : Wk_ V) (x1 : Int) (M : mm_) (h :
 (if x1 = (-2) then
  Qr [.inl 0] M
 else
  (0 ≤ x1 ∧ x1 < 8) ∧
   Qr [.inl (M 45 x1)] M)) : V 0 [rr 0, ii x1] [] M := bx_go hD hV hW [] 8 h
/-- X0_isNext(IIII)Z -/
theorem b_89_0 {D : ca_} {V : vv_} {Qr : qr_} {Qt : qt_} (hD : Mo_ D) (hV : Cl_ wd0 D V Qr Qt m_89) (hW : Wk_ V) (x1 : Int) (x2 : Int) (x3 : Int) (x4 : Int) (M : mm_) (h :
 D 90 [.inr (.inr 0), .inl x1] M (ri_ fun v1 M1 =>
  (if v1 = (-1) then
   bl_ 0 ∧ Qr [.inl 0] M1
  else
   (0 ≤ v1 ∧ v1 < 2000) ∧
    (if M1 23 v1 = x2 then
    (0 ≤ w32 (v1 + 2) ∧ w32 (v1 + 2) < 2000) ∧
     (if M1 23 (w32 (v1 + 2)) = x3 then
     (0 ≤ w32 (v1 + 3) ∧ w32 (v1 + 3) < 2000) ∧
      (if M1 23 (w32 (v1 + 3)) = x4 then
      bl_ 1 ∧ Qr [.inl 1] M1
     else
      bl_ 0 ∧ Qr [.inl 0] M1)
    else
     bl_ 0 ∧ Qr [.inl 0] M1)
   else
    bl_ 0 ∧ Qr [.inl 0] M1))) Qt) : V 0 [rr 0, ii x1, ii x2, ii x3, ii x4, none] [] M := bx_go hD hV hW [] 32 h
/-- X0_nextOf(I)I -/
theorem b_90_0 {D : ca_} {V : vv_} {Qr : qr_} {Qt : qt_} (hD : Mo_ D) (hV : Cl_ wd0 D V Qr Qt m_90) (hW : Wk_ V) (x1 : Int) (M : mm_) (h :
 (if M 0 98 < M 0 36 then
  D 69 [.inr (.inr 0), .inl (M 0 98)] M (ri_ fun v1 M1 =>
   (0 ≤ v1 ∧ v1 < 2000) ∧
    (if M1 23 v1 = 1 then
    V 50 [rr 0, ii x1, ii v1] [] (up_ M1 0 98 (w32 ((M1 0 98) + 1)))
   else
    (0 ≤ v1 ∧ v1 < 2000) ∧
     (if M1 23 v1 = 2 then
     V 50 [rr 0, ii x1, ii v1] [] (up_ M1 0 98 (w32 ((M1 0 98) + 1)))
    else
     V 0 [rr 0, ii x1, none] [] (up_ M1 0 98 (w32 ((M1 0 98) + 1)))))) Qt
 else
  Qr [.inl ((-1))] M)) : V 0 [rr 0, ii x1, none] [] M := bx_go hD hV hW [(0, [2]), (50, [])] 30 h
theorem i_90 : inq_ 0 k_90 = true := by decide +kernel
theorem z_90_28 : Sf_ k_90 g_90_28 := Sf_of i_90 28 rfl
theorem b_90_50 {D : ca_} {V : vv_} {Qr : qr_} {Qt : qt_} (hD : Mo_ D) (hV : Cl_ wd0 D V Qr Qt m_90) (hW : Wk_ V) (x1 : Int) (x2 : Int) (M : mm_) (h :
 (0 ≤ w32 (x2 + 1) ∧ w32 (x2 + 1) < 2000) ∧
  (if M 23 (w32 (x2 + 1)) = x1 then
  (0 ≤ w32 (x2 + 2) ∧ w32 (x2 + 2) < 2000) ∧
   D 91 [.inr (.inr 0), .inl (M 23 (w32 (x2 + 2)))] M (ri_ fun v1 M1 =>
   (if v1 = 0 then
    V 0 [rr 0, ii x1, none] [] M1
   else
    Qr [.inl x2] M1)) Qt
 else
  V 0 [rr 0, ii x1, none] [] M)) : V 50 [rr 0, ii x1, ii x2] [] M := bx_go hD (m := (g_90_28, m_90.2)) (Cl_sf z_90_28 hV) hW [(0, [2]), (50, [])] 19 h
/-- X0_isNamed(I)Z -/
theorem b_91_0 {D : ca_} {V : vv_} {Qr : qr_} {Qt : qt_} (hD : Mo_ D) (hV : Cl_ wd0 D V Qr Qt m_91) (hW : Wk_ V) (x1 : Int) (M : mm_) (h :
 V 2 [rr 0, ii x1, ii 0] [] M) : V 0 [rr 0, ii x1, none] [] M := bx_go hD hV hW [(2, [])] 3 h
theorem b_91_2 {D : ca_} {V : vv_} {Qr : qr_} {Qt : qt_} (hD : Mo_ D) (hV : Cl_ wd0 D V Qr Qt m_91) (hW : Wk_ V) (x1 : Int) (x2 : Int) (M : mm_) (h :
 (if x2 < M 0 76 then
  (0 ≤ x2 ∧ x2 < 40) ∧
   (if M 48 x2 = x1 then
   bl_ 1 ∧ Qr [.inl 1] M
  else
   V 2 [rr 0, ii x1, ii (w32 (x2 + 1))] [] M)
 else
  bl_ 0 ∧ Qr [.inl 0] M)) : V 2 [rr 0, ii x1, ii x2] [] M := bx_go hD hV hW [(2, [])] 13 h
/-- X0_choices(I)I -/
theorem b_92_0 {D : ca_} {V : vv_} {Qr : qr_} {Qt : qt_} (hD : Mo_ D) (hV : Cl_ wd0 D V Qr Qt m_92) (hW : Wk_ V) (x1 : Int) (M : mm_) (h :
 (if x1 = 0 then
  Qr [.inl (M 0 96)] M
 else
  (if x1 = 1 then
   Qr [.inl (M 0 97)] M
  else
   Qr [.inl ((-1))] M))) : V 0 [rr 0, ii x1] [] M := bx_go hD hV hW [] 9 h

section T457_lw
/-! the law's loop, on the pure machine -/
/-- load, as the law sees it -/
def LDo (M : mm_) (x : Int) (Qr : qr_) : Prop := (x < 0 ∨ M 0 6 < x → Qr [.inl (-2)] M) ∧ (0 ≤ x ∧ x ≤ M 0 6 → Tr_ wd0 pg0 133 101 [.inr (.inr 1), .inr (.inr 9), .inl x, .inr (.inr 5)] (up_ M 0 6 0) (ri_ fun v M1 => (v = 0 → (LDP (swM M1) ∧ M1 1 2 = 5) ∧ ∀ M3, LDF (swM M1) M3 → Qr [.inl 0] M3) ∧ (v ≠ 0 → Qr [.inl v] (up_ M1 0 71 (M1 1 5)))) (fun _ _ => False))
def lwD : ca_ := fun n as M Qr Qt => if n = 54 then (match as with
  | [.inr (.inr 0), .inl x] => LDo M x Qr
  | _ => False) else Tr_ wd0 pg0 140 n as M Qr Qt
theorem LDo_m [Inhabited fz_] {M : mm_} {x : Int} {Qr Qr' : qr_} (hr : ∀ vs M, Qr vs M → Qr' vs M) (h : LDo M x Qr) : LDo M x Qr' := by
  refine ⟨fun c => hr _ _ (h.1 c), fun c => Tr_m (h.2 c) (fun vs M1 g => ?_) (fun _ _ h => h)⟩
  obtain ⟨v, e, g1, g2⟩ := g
  exact ⟨v, e, fun z => ⟨(g1 z).1, fun M3 l => hr _ _ ((g1 z).2 M3 l)⟩, fun z => hr _ _ (g2 z)⟩
theorem lwD_m [Inhabited fz_] : Mo_ lwD := by
  intro n as M Qr Qr' Qt Qt' hr ht h
  unfold lwD at h ⊢
  by_cases c : n = 54
  · rw [if_pos c] at h ⊢
    split at h
    · exact LDo_m hr h
    · exact h.elim
  · rw [if_neg c] at h ⊢
    exact Tr_mono 140 n as M Qr Qr' Qt Qt' hr ht h
section LWa
variable {V : vv_} {Qr : qr_} {Qt : qt_} {i : Int} {M : mm_}

set_option maxRecDepth 100000 in
theorem b_450_152 [Inhabited fz_] (hV : Cl_ wd0 lwD V Qr Qt m_450) (hW : Wk_ V) (h : (0 ≤ w32 (i + 1) ∧ w32 (i + 1) < M 1000 (-1)) ∧ (0 ≤ w32 (i + 2) ∧ w32 (i + 2) < M 1000 (-1)) ∧ (0 ≤ w32 (i + 3) ∧ w32 (i + 3) < M 1000 (-1)) ∧ (0 ≤ w32 (i + 4) ∧ w32 (i + 4) < M 1000 (-1)) ∧ (0 ≤ w32 (i + 5) ∧ w32 (i + 5) < M 1000 (-1)) ∧ lwD 52 [.inr (.inr 0), .inl (M 1000 (w32 (i + 1))), .inl (M 1000 (w32 (i + 2))), .inl (M 1000 (w32 (i + 3))), .inl (M 1000 (w32 (i + 4))), .inl (M 1000 (w32 (i + 5)))] M (ri_ fun v1 M1 => (0 ≤ w32 (i + 1) ∧ w32 (i + 1) < M1 1000 (-1)) ∧ (0 ≤ w32 (i + 2) ∧ w32 (i + 2) < M1 1000 (-1)) ∧ (0 ≤ w32 (i + 3) ∧ w32 (i + 3) < M1 1000 (-1)) ∧ (0 ≤ w32 (i + 4) ∧ w32 (i + 4) < M1 1000 (-1)) ∧ (0 ≤ w32 (i + 5) ∧ w32 (i + 5) < M1 1000 (-1)) ∧ lwD 214 [.inr (.inr 6), .inl (M1 1000 (w32 (i + 1))), .inl (M1 1000 (w32 (i + 2))), .inl (M1 1000 (w32 (i + 3))), .inl (M1 1000 (w32 (i + 4))), .inl (M1 1000 (w32 (i + 5)))] M1 (ri_ fun v2 M2 => if v1 = v2 then V 970 [rr 1000, rr 0, rr 6, ii i] [] M2 else bl_ 0 ∧ Qr [.inl 0] M2) Qt) Qt) : V 152 [rr 1000, rr 0, rr 6, ii i] [] M := bx_go lwD_m hV hW [(970, [])] 59 h
set_option maxRecDepth 100000 in
theorem b_450_215 [Inhabited fz_] (hV : Cl_ wd0 lwD V Qr Qt m_450) (hW : Wk_ V) (h : (0 ≤ w32 (i + 1) ∧ w32 (i + 1) < M 1000 (-1)) ∧ lwD 54 [.inr (.inr 0), .inl (M 1000 (w32 (i + 1)))] M (ri_ fun v1 M1 => (0 ≤ w32 (i + 1) ∧ w32 (i + 1) < M1 1000 (-1)) ∧ lwD 216 [.inr (.inr 6), .inl (M1 1000 (w32 (i + 1)))] M1 (ri_ fun v2 M2 => if v1 = v2 then V 970 [rr 1000, rr 0, rr 6, ii i] [] M2 else bl_ 0 ∧ Qr [.inl 0] M2) Qt) Qt) : V 215 [rr 1000, rr 0, rr 6, ii i] [] M := bx_go lwD_m hV hW [(970, [])] 19 h
set_option maxRecDepth 100000 in
theorem b_450_238 [Inhabited fz_] (hV : Cl_ wd0 lwD V Qr Qt m_450) (hW : Wk_ V) (h : lwD 55 [.inr (.inr 0)] M (ri_ fun v1 M1 => lwD 319 [.inr (.inr 6)] M1 (ri_ fun v2 M2 => if v1 = v2 then V 970 [rr 1000, rr 0, rr 6, ii i] [] M2 else bl_ 0 ∧ Qr [.inl 0] M2) Qt) Qt) : V 238 [rr 1000, rr 0, rr 6, ii i] [] M := bx_go lwD_m hV hW [(970, [])] 9 h
set_option maxRecDepth 100000 in
theorem b_450_251 [Inhabited fz_] (hV : Cl_ wd0 lwD V Qr Qt m_450) (hW : Wk_ V) (h : (0 ≤ w32 (i + 1) ∧ w32 (i + 1) < M 1000 (-1)) ∧ (0 ≤ w32 (i + 2) ∧ w32 (i + 2) < M 1000 (-1)) ∧ lwD 56 [.inr (.inr 0), .inl (M 1000 (w32 (i + 1))), .inl (M 1000 (w32 (i + 2)))] M (ri_ fun v1 M1 => (0 ≤ w32 (i + 1) ∧ w32 (i + 1) < M1 1000 (-1)) ∧ (0 ≤ w32 (i + 2) ∧ w32 (i + 2) < M1 1000 (-1)) ∧ lwD 320 [.inr (.inr 6), .inl (M1 1000 (w32 (i + 1))), .inl (M1 1000 (w32 (i + 2)))] M1 (ri_ fun v2 M2 => if v1 = v2 then V 970 [rr 1000, rr 0, rr 6, ii i] [] M2 else bl_ 0 ∧ Qr [.inl 0] M2) Qt) Qt) : V 251 [rr 1000, rr 0, rr 6, ii i] [] M := bx_go lwD_m hV hW [(970, [])] 29 h
set_option maxRecDepth 100000 in
theorem b_450_284 [Inhabited fz_] (hV : Cl_ wd0 lwD V Qr Qt m_450) (hW : Wk_ V) (h : (0 ≤ w32 (i + 1) ∧ w32 (i + 1) < M 1000 (-1)) ∧ lwD 57 [.inr (.inr 0), .inl (M 1000 (w32 (i + 1)))] M (ri_ fun v1 M1 => (0 ≤ w32 (i + 1) ∧ w32 (i + 1) < M1 1000 (-1)) ∧ lwD 321 [.inr (.inr 6), .inl (M1 1000 (w32 (i + 1)))] M1 (ri_ fun v2 M2 => if v1 = v2 then V 970 [rr 1000, rr 0, rr 6, ii i] [] M2 else bl_ 0 ∧ Qr [.inl 0] M2) Qt) Qt) : V 284 [rr 1000, rr 0, rr 6, ii i] [] M := bx_go lwD_m hV hW [(970, [])] 19 h
set_option maxRecDepth 100000 in
theorem b_450_307 [Inhabited fz_] (hV : Cl_ wd0 lwD V Qr Qt m_450) (hW : Wk_ V) (h : (0 ≤ w32 (i + 1) ∧ w32 (i + 1) < M 1000 (-1)) ∧ lwD 0 [.inr (.inr 0), .inl (M 1000 (w32 (i + 1)))] M (ri_ fun v1 M1 => (0 ≤ w32 (i + 1) ∧ w32 (i + 1) < M1 1000 (-1)) ∧ lwD 325 [.inr (.inr 6), .inl (M1 1000 (w32 (i + 1)))] M1 (ri_ fun v2 M2 => if v1 = v2 then V 970 [rr 1000, rr 0, rr 6, ii i] [] M2 else bl_ 0 ∧ Qr [.inl 0] M2) Qt) Qt) : V 307 [rr 1000, rr 0, rr 6, ii i] [] M := bx_go lwD_m hV hW [(970, [])] 19 h
set_option maxRecDepth 100000 in
theorem b_450_330 [Inhabited fz_] (hV : Cl_ wd0 lwD V Qr Qt m_450) (hW : Wk_ V) (h : (0 ≤ w32 (i + 1) ∧ w32 (i + 1) < M 1000 (-1)) ∧ lwD 33 [.inr (.inr 0), .inl (M 1000 (w32 (i + 1)))] M (ri_ fun v1 M1 => (0 ≤ w32 (i + 1) ∧ w32 (i + 1) < M1 1000 (-1)) ∧ lwD 362 [.inr (.inr 6), .inl (M1 1000 (w32 (i + 1)))] M1 (ri_ fun v2 M2 => if v1 = v2 then V 970 [rr 1000, rr 0, rr 6, ii i] [] M2 else bl_ 0 ∧ Qr [.inl 0] M2) Qt) Qt) : V 330 [rr 1000, rr 0, rr 6, ii i] [] M := bx_go lwD_m hV hW [(970, [])] 19 h
set_option maxRecDepth 100000 in
theorem b_450_353 [Inhabited fz_] (hV : Cl_ wd0 lwD V Qr Qt m_450) (hW : Wk_ V) (h : (0 ≤ w32 (i + 1) ∧ w32 (i + 1) < M 1000 (-1)) ∧ (0 ≤ w32 (i + 2) ∧ w32 (i + 2) < M 1000 (-1)) ∧ lwD 34 [.inr (.inr 0), .inl (M 1000 (w32 (i + 1))), .inl (M 1000 (w32 (i + 2)))] M (ri_ fun v1 M1 => (0 ≤ w32 (i + 1) ∧ w32 (i + 1) < M1 1000 (-1)) ∧ (0 ≤ w32 (i + 2) ∧ w32 (i + 2) < M1 1000 (-1)) ∧ lwD 363 [.inr (.inr 6), .inl (M1 1000 (w32 (i + 1))), .inl (M1 1000 (w32 (i + 2)))] M1 (ri_ fun v2 M2 => if v1 = v2 then V 970 [rr 1000, rr 0, rr 6, ii i] [] M2 else bl_ 0 ∧ Qr [.inl 0] M2) Qt) Qt) : V 353 [rr 1000, rr 0, rr 6, ii i] [] M := bx_go lwD_m hV hW [(970, [])] 29 h
set_option maxRecDepth 100000 in
theorem b_450_386 [Inhabited fz_] (hV : Cl_ wd0 lwD V Qr Qt m_450) (hW : Wk_ V) (h : (0 ≤ w32 (i + 1) ∧ w32 (i + 1) < M 1000 (-1)) ∧ lwD 58 [.inr (.inr 0), .inl (M 1000 (w32 (i + 1)))] M (ri_ fun v1 M1 => (0 ≤ w32 (i + 1) ∧ w32 (i + 1) < M1 1000 (-1)) ∧ lwD 366 [.inr (.inr 6), .inl (M1 1000 (w32 (i + 1)))] M1 (ri_ fun v2 M2 => if v1 = v2 then V 970 [rr 1000, rr 0, rr 6, ii i] [] M2 else bl_ 0 ∧ Qr [.inl 0] M2) Qt) Qt) : V 386 [rr 1000, rr 0, rr 6, ii i] [] M := bx_go lwD_m hV hW [(970, [])] 19 h
set_option maxRecDepth 100000 in
theorem b_450_409 [Inhabited fz_] (hV : Cl_ wd0 lwD V Qr Qt m_450) (hW : Wk_ V) (h : (0 ≤ w32 (i + 1) ∧ w32 (i + 1) < M 1000 (-1)) ∧ (0 ≤ w32 (i + 2) ∧ w32 (i + 2) < M 1000 (-1)) ∧ (0 ≤ w32 (i + 3) ∧ w32 (i + 3) < M 1000 (-1)) ∧ (0 ≤ w32 (i + 4) ∧ w32 (i + 4) < M 1000 (-1)) ∧ (0 ≤ w32 (i + 5) ∧ w32 (i + 5) < M 1000 (-1)) ∧ lwD 59 [.inr (.inr 0), .inl (M 1000 (w32 (i + 1))), .inl (M 1000 (w32 (i + 2))), .inl (M 1000 (w32 (i + 3))), .inl (M 1000 (w32 (i + 4))), .inl (M 1000 (w32 (i + 5)))] M (ri_ fun v1 M1 => (0 ≤ w32 (i + 1) ∧ w32 (i + 1) < M1 1000 (-1)) ∧ (0 ≤ w32 (i + 2) ∧ w32 (i + 2) < M1 1000 (-1)) ∧ (0 ≤ w32 (i + 3) ∧ w32 (i + 3) < M1 1000 (-1)) ∧ (0 ≤ w32 (i + 4) ∧ w32 (i + 4) < M1 1000 (-1)) ∧ (0 ≤ w32 (i + 5) ∧ w32 (i + 5) < M1 1000 (-1)) ∧ lwD 367 [.inr (.inr 6), .inl (M1 1000 (w32 (i + 1))), .inl (M1 1000 (w32 (i + 2))), .inl (M1 1000 (w32 (i + 3))), .inl (M1 1000 (w32 (i + 4))), .inl (M1 1000 (w32 (i + 5)))] M1 (ri_ fun v2 M2 => if v1 = v2 then V 970 [rr 1000, rr 0, rr 6, ii i] [] M2 else bl_ 0 ∧ Qr [.inl 0] M2) Qt) Qt) : V 409 [rr 1000, rr 0, rr 6, ii i] [] M := bx_go lwD_m hV hW [(970, [])] 59 h
set_option maxRecDepth 100000 in
theorem b_450_472 [Inhabited fz_] (hV : Cl_ wd0 lwD V Qr Qt m_450) (hW : Wk_ V) (h : (0 ≤ w32 (i + 1) ∧ w32 (i + 1) < M 1000 (-1)) ∧ lwD 61 [.inr (.inr 0), .inl (M 1000 (w32 (i + 1)))] M (ri_ fun v1 M1 => (0 ≤ w32 (i + 1) ∧ w32 (i + 1) < M1 1000 (-1)) ∧ lwD 368 [.inr (.inr 6), .inl (M1 1000 (w32 (i + 1)))] M1 (ri_ fun v2 M2 => if v1 = v2 then V 970 [rr 1000, rr 0, rr 6, ii i] [] M2 else bl_ 0 ∧ Qr [.inl 0] M2) Qt) Qt) : V 472 [rr 1000, rr 0, rr 6, ii i] [] M := bx_go lwD_m hV hW [(970, [])] 19 h
set_option maxRecDepth 100000 in
theorem b_450_495 [Inhabited fz_] (hV : Cl_ wd0 lwD V Qr Qt m_450) (hW : Wk_ V) (h : (0 ≤ w32 (i + 1) ∧ w32 (i + 1) < M 1000 (-1)) ∧ (0 ≤ w32 (i + 2) ∧ w32 (i + 2) < M 1000 (-1)) ∧ lwD 62 [.inr (.inr 0), .inl (M 1000 (w32 (i + 1))), .inl (M 1000 (w32 (i + 2)))] M (ri_ fun v1 M1 => (0 ≤ w32 (i + 1) ∧ w32 (i + 1) < M1 1000 (-1)) ∧ (0 ≤ w32 (i + 2) ∧ w32 (i + 2) < M1 1000 (-1)) ∧ lwD 369 [.inr (.inr 6), .inl (M1 1000 (w32 (i + 1))), .inl (M1 1000 (w32 (i + 2)))] M1 (ri_ fun v2 M2 => if v1 = v2 then V 970 [rr 1000, rr 0, rr 6, ii i] [] M2 else bl_ 0 ∧ Qr [.inl 0] M2) Qt) Qt) : V 495 [rr 1000, rr 0, rr 6, ii i] [] M := bx_go lwD_m hV hW [(970, [])] 29 h
set_option maxRecDepth 100000 in
theorem b_450_528 [Inhabited fz_] (hV : Cl_ wd0 lwD V Qr Qt m_450) (hW : Wk_ V) (h : (0 ≤ w32 (i + 1) ∧ w32 (i + 1) < M 1000 (-1)) ∧ (0 ≤ w32 (i + 2) ∧ w32 (i + 2) < M 1000 (-1)) ∧ lwD 63 [.inr (.inr 0), .inl (M 1000 (w32 (i + 1))), .inl (M 1000 (w32 (i + 2)))] M (ri_ fun v1 M1 => (0 ≤ w32 (i + 1) ∧ w32 (i + 1) < M1 1000 (-1)) ∧ (0 ≤ w32 (i + 2) ∧ w32 (i + 2) < M1 1000 (-1)) ∧ lwD 371 [.inr (.inr 6), .inl (M1 1000 (w32 (i + 1))), .inl (M1 1000 (w32 (i + 2)))] M1 (ri_ fun v2 M2 => if v1 = v2 then V 970 [rr 1000, rr 0, rr 6, ii i] [] M2 else bl_ 0 ∧ Qr [.inl 0] M2) Qt) Qt) : V 528 [rr 1000, rr 0, rr 6, ii i] [] M := bx_go lwD_m hV hW [(970, [])] 29 h
set_option maxRecDepth 100000 in
theorem b_450_561 [Inhabited fz_] (hV : Cl_ wd0 lwD V Qr Qt m_450) (hW : Wk_ V) (h : (0 ≤ w32 (i + 1) ∧ w32 (i + 1) < M 1000 (-1)) ∧ (0 ≤ w32 (i + 2) ∧ w32 (i + 2) < M 1000 (-1)) ∧ lwD 64 [.inr (.inr 0), .inl (M 1000 (w32 (i + 1))), .inl (M 1000 (w32 (i + 2)))] M (ri_ fun v1 M1 => (0 ≤ w32 (i + 1) ∧ w32 (i + 1) < M1 1000 (-1)) ∧ (0 ≤ w32 (i + 2) ∧ w32 (i + 2) < M1 1000 (-1)) ∧ lwD 372 [.inr (.inr 6), .inl (M1 1000 (w32 (i + 1))), .inl (M1 1000 (w32 (i + 2)))] M1 (ri_ fun v2 M2 => if v1 = v2 then V 970 [rr 1000, rr 0, rr 6, ii i] [] M2 else bl_ 0 ∧ Qr [.inl 0] M2) Qt) Qt) : V 561 [rr 1000, rr 0, rr 6, ii i] [] M := bx_go lwD_m hV hW [(970, [])] 29 h
set_option maxRecDepth 100000 in
theorem b_450_594 [Inhabited fz_] (hV : Cl_ wd0 lwD V Qr Qt m_450) (hW : Wk_ V) (h : (0 ≤ w32 (i + 1) ∧ w32 (i + 1) < M 1000 (-1)) ∧ (0 ≤ w32 (i + 2) ∧ w32 (i + 2) < M 1000 (-1)) ∧ (0 ≤ w32 (i + 3) ∧ w32 (i + 3) < M 1000 (-1)) ∧ lwD 65 [.inr (.inr 0), .inl (M 1000 (w32 (i + 1))), .inl (M 1000 (w32 (i + 2))), .inl (M 1000 (w32 (i + 3)))] M (ri_ fun v1 M1 => (0 ≤ w32 (i + 1) ∧ w32 (i + 1) < M1 1000 (-1)) ∧ (0 ≤ w32 (i + 2) ∧ w32 (i + 2) < M1 1000 (-1)) ∧ (0 ≤ w32 (i + 3) ∧ w32 (i + 3) < M1 1000 (-1)) ∧ lwD 373 [.inr (.inr 6), .inl (M1 1000 (w32 (i + 1))), .inl (M1 1000 (w32 (i + 2))), .inl (M1 1000 (w32 (i + 3)))] M1 (ri_ fun v2 M2 => if v1 = v2 then V 970 [rr 1000, rr 0, rr 6, ii i] [] M2 else bl_ 0 ∧ Qr [.inl 0] M2) Qt) Qt) : V 594 [rr 1000, rr 0, rr 6, ii i] [] M := bx_go lwD_m hV hW [(970, [])] 39 h
set_option maxRecDepth 100000 in
theorem b_450_637 [Inhabited fz_] (hV : Cl_ wd0 lwD V Qr Qt m_450) (hW : Wk_ V) (h : (0 ≤ w32 (i + 1) ∧ w32 (i + 1) < M 1000 (-1)) ∧ (0 ≤ w32 (i + 2) ∧ w32 (i + 2) < M 1000 (-1)) ∧ (0 ≤ w32 (i + 3) ∧ w32 (i + 3) < M 1000 (-1)) ∧ lwD 66 [.inr (.inr 0), .inl (M 1000 (w32 (i + 1))), .inl (M 1000 (w32 (i + 2))), .inl (M 1000 (w32 (i + 3)))] M (ri_ fun v1 M1 => (0 ≤ w32 (i + 1) ∧ w32 (i + 1) < M1 1000 (-1)) ∧ (0 ≤ w32 (i + 2) ∧ w32 (i + 2) < M1 1000 (-1)) ∧ (0 ≤ w32 (i + 3) ∧ w32 (i + 3) < M1 1000 (-1)) ∧ lwD 374 [.inr (.inr 6), .inl (M1 1000 (w32 (i + 1))), .inl (M1 1000 (w32 (i + 2))), .inl (M1 1000 (w32 (i + 3)))] M1 (ri_ fun v2 M2 => if v1 = v2 then V 970 [rr 1000, rr 0, rr 6, ii i] [] M2 else bl_ 0 ∧ Qr [.inl 0] M2) Qt) Qt) : V 637 [rr 1000, rr 0, rr 6, ii i] [] M := bx_go lwD_m hV hW [(970, [])] 39 h
set_option maxRecDepth 100000 in
theorem b_450_680 [Inhabited fz_] (hV : Cl_ wd0 lwD V Qr Qt m_450) (hW : Wk_ V) (h : (0 ≤ w32 (i + 1) ∧ w32 (i + 1) < M 1000 (-1)) ∧ (0 ≤ w32 (i + 2) ∧ w32 (i + 2) < M 1000 (-1)) ∧ lwD 67 [.inr (.inr 0), .inl (M 1000 (w32 (i + 1))), .inl (M 1000 (w32 (i + 2)))] M (ri_ fun v1 M1 => (0 ≤ w32 (i + 1) ∧ w32 (i + 1) < M1 1000 (-1)) ∧ (0 ≤ w32 (i + 2) ∧ w32 (i + 2) < M1 1000 (-1)) ∧ lwD 375 [.inr (.inr 6), .inl (M1 1000 (w32 (i + 1))), .inl (M1 1000 (w32 (i + 2)))] M1 (ri_ fun v2 M2 => if v1 = v2 then V 970 [rr 1000, rr 0, rr 6, ii i] [] M2 else bl_ 0 ∧ Qr [.inl 0] M2) Qt) Qt) : V 680 [rr 1000, rr 0, rr 6, ii i] [] M := bx_go lwD_m hV hW [(970, [])] 29 h
set_option maxRecDepth 100000 in
theorem b_450_713 [Inhabited fz_] (hV : Cl_ wd0 lwD V Qr Qt m_450) (hW : Wk_ V) (h : (0 ≤ w32 (i + 1) ∧ w32 (i + 1) < M 1000 (-1)) ∧ (0 ≤ w32 (i + 2) ∧ w32 (i + 2) < M 1000 (-1)) ∧ lwD 68 [.inr (.inr 0), .inl (M 1000 (w32 (i + 1))), .inl (M 1000 (w32 (i + 2)))] M (ri_ fun v1 M1 => (0 ≤ w32 (i + 1) ∧ w32 (i + 1) < M1 1000 (-1)) ∧ (0 ≤ w32 (i + 2) ∧ w32 (i + 2) < M1 1000 (-1)) ∧ lwD 376 [.inr (.inr 6), .inl (M1 1000 (w32 (i + 1))), .inl (M1 1000 (w32 (i + 2)))] M1 (ri_ fun v2 M2 => if v1 = v2 then V 970 [rr 1000, rr 0, rr 6, ii i] [] M2 else bl_ 0 ∧ Qr [.inl 0] M2) Qt) Qt) : V 713 [rr 1000, rr 0, rr 6, ii i] [] M := bx_go lwD_m hV hW [(970, [])] 29 h
set_option maxRecDepth 100000 in
theorem b_450_746 [Inhabited fz_] (hV : Cl_ wd0 lwD V Qr Qt m_450) (hW : Wk_ V) (h : (0 ≤ w32 (i + 1) ∧ w32 (i + 1) < M 1000 (-1)) ∧ lwD 70 [.inr (.inr 0), .inl (M 1000 (w32 (i + 1)))] M (ri_ fun v1 M1 => (0 ≤ w32 (i + 1) ∧ w32 (i + 1) < M1 1000 (-1)) ∧ lwD 377 [.inr (.inr 6), .inl (M1 1000 (w32 (i + 1)))] M1 (ri_ fun v2 M2 => if v1 = v2 then V 970 [rr 1000, rr 0, rr 6, ii i] [] M2 else bl_ 0 ∧ Qr [.inl 0] M2) Qt) Qt) : V 746 [rr 1000, rr 0, rr 6, ii i] [] M := bx_go lwD_m hV hW [(970, [])] 19 h
set_option maxRecDepth 100000 in
theorem b_450_769 [Inhabited fz_] (hV : Cl_ wd0 lwD V Qr Qt m_450) (hW : Wk_ V) (h : (0 ≤ w32 (i + 1) ∧ w32 (i + 1) < M 1000 (-1)) ∧ (0 ≤ w32 (i + 2) ∧ w32 (i + 2) < M 1000 (-1)) ∧ lwD 71 [.inr (.inr 0), .inl (M 1000 (w32 (i + 1))), .inl (M 1000 (w32 (i + 2)))] M (ri_ fun v1 M1 => (0 ≤ w32 (i + 1) ∧ w32 (i + 1) < M1 1000 (-1)) ∧ (0 ≤ w32 (i + 2) ∧ w32 (i + 2) < M1 1000 (-1)) ∧ lwD 379 [.inr (.inr 6), .inl (M1 1000 (w32 (i + 1))), .inl (M1 1000 (w32 (i + 2)))] M1 (ri_ fun v2 M2 => if v1 = v2 then V 970 [rr 1000, rr 0, rr 6, ii i] [] M2 else bl_ 0 ∧ Qr [.inl 0] M2) Qt) Qt) : V 769 [rr 1000, rr 0, rr 6, ii i] [] M := bx_go lwD_m hV hW [(970, [])] 29 h
set_option maxRecDepth 100000 in
theorem b_450_802 [Inhabited fz_] (hV : Cl_ wd0 lwD V Qr Qt m_450) (hW : Wk_ V) (h : (0 ≤ w32 (i + 1) ∧ w32 (i + 1) < M 1000 (-1)) ∧ lwD 37 [.inr (.inr 0), .inl (M 1000 (w32 (i + 1)))] M (ri_ fun v1 M1 => (0 ≤ w32 (i + 1) ∧ w32 (i + 1) < M1 1000 (-1)) ∧ lwD 380 [.inr (.inr 6), .inl (M1 1000 (w32 (i + 1)))] M1 (ri_ fun v2 M2 => if v1 = v2 then V 970 [rr 1000, rr 0, rr 6, ii i] [] M2 else bl_ 0 ∧ Qr [.inl 0] M2) Qt) Qt) : V 802 [rr 1000, rr 0, rr 6, ii i] [] M := bx_go lwD_m hV hW [(970, [])] 19 h
set_option maxRecDepth 100000 in
theorem b_450_825 [Inhabited fz_] (hV : Cl_ wd0 lwD V Qr Qt m_450) (hW : Wk_ V) (h : (0 ≤ w32 (i + 1) ∧ w32 (i + 1) < M 1000 (-1)) ∧ (0 ≤ w32 (i + 2) ∧ w32 (i + 2) < M 1000 (-1)) ∧ lwD 47 [.inr (.inr 0), .inl (M 1000 (w32 (i + 1))), .inl (M 1000 (w32 (i + 2)))] M (ri_ fun v1 M1 => (0 ≤ w32 (i + 1) ∧ w32 (i + 1) < M1 1000 (-1)) ∧ (0 ≤ w32 (i + 2) ∧ w32 (i + 2) < M1 1000 (-1)) ∧ lwD 392 [.inr (.inr 6), .inl (M1 1000 (w32 (i + 1))), .inl (M1 1000 (w32 (i + 2)))] M1 (ri_ fun v2 M2 => if v1 = v2 then V 970 [rr 1000, rr 0, rr 6, ii i] [] M2 else bl_ 0 ∧ Qr [.inl 0] M2) Qt) Qt) : V 825 [rr 1000, rr 0, rr 6, ii i] [] M := bx_go lwD_m hV hW [(970, [])] 29 h
set_option maxRecDepth 100000 in
theorem b_450_858 [Inhabited fz_] (hV : Cl_ wd0 lwD V Qr Qt m_450) (hW : Wk_ V) (h : (0 ≤ w32 (i + 1) ∧ w32 (i + 1) < M 1000 (-1)) ∧ (0 ≤ w32 (i + 2) ∧ w32 (i + 2) < M 1000 (-1)) ∧ (0 ≤ w32 (i + 3) ∧ w32 (i + 3) < M 1000 (-1)) ∧ lwD 48 [.inr (.inr 0), .inl (M 1000 (w32 (i + 1))), .inl (M 1000 (w32 (i + 2))), .inl (M 1000 (w32 (i + 3)))] M (ri_ fun v1 M1 => (0 ≤ w32 (i + 1) ∧ w32 (i + 1) < M1 1000 (-1)) ∧ (0 ≤ w32 (i + 2) ∧ w32 (i + 2) < M1 1000 (-1)) ∧ (0 ≤ w32 (i + 3) ∧ w32 (i + 3) < M1 1000 (-1)) ∧ lwD 393 [.inr (.inr 6), .inl (M1 1000 (w32 (i + 1))), .inl (M1 1000 (w32 (i + 2))), .inl (M1 1000 (w32 (i + 3)))] M1 (ri_ fun v2 M2 => if v1 = v2 then V 970 [rr 1000, rr 0, rr 6, ii i] [] M2 else bl_ 0 ∧ Qr [.inl 0] M2) Qt) Qt) : V 858 [rr 1000, rr 0, rr 6, ii i] [] M := bx_go lwD_m hV hW [(970, [])] 39 h
set_option maxRecDepth 100000 in
theorem b_450_901 [Inhabited fz_] (hV : Cl_ wd0 lwD V Qr Qt m_450) (hW : Wk_ V) (h : (0 ≤ w32 (i + 1) ∧ w32 (i + 1) < M 1000 (-1)) ∧ lwD 50 [.inr (.inr 0), .inl (M 1000 (w32 (i + 1)))] M (ri_ fun v1 M1 => (0 ≤ w32 (i + 1) ∧ w32 (i + 1) < M1 1000 (-1)) ∧ lwD 396 [.inr (.inr 6), .inl (M1 1000 (w32 (i + 1)))] M1 (ri_ fun v2 M2 => if v1 = v2 then V 970 [rr 1000, rr 0, rr 6, ii i] [] M2 else bl_ 0 ∧ Qr [.inl 0] M2) Qt) Qt) : V 901 [rr 1000, rr 0, rr 6, ii i] [] M := bx_go lwD_m hV hW [(970, [])] 19 h
set_option maxRecDepth 100000 in
theorem b_450_924 [Inhabited fz_] (hV : Cl_ wd0 lwD V Qr Qt m_450) (hW : Wk_ V) (h : (0 ≤ w32 (i + 1) ∧ w32 (i + 1) < M 1000 (-1)) ∧ lwD 72 [.inr (.inr 0), .inl (M 1000 (w32 (i + 1)))] M (ri_ fun v1 M1 => (0 ≤ w32 (i + 1) ∧ w32 (i + 1) < M1 1000 (-1)) ∧ lwD 397 [.inr (.inr 6), .inl (M1 1000 (w32 (i + 1)))] M1 (ri_ fun v2 M2 => if v1 = v2 then V 970 [rr 1000, rr 0, rr 6, ii i] [] M2 else bl_ 0 ∧ Qr [.inl 0] M2) Qt) Qt) : V 924 [rr 1000, rr 0, rr 6, ii i] [] M := bx_go lwD_m hV hW [(970, [])] 19 h
set_option maxRecDepth 100000 in
theorem b_450_947 [Inhabited fz_] (hV : Cl_ wd0 lwD V Qr Qt m_450) (hW : Wk_ V) (h : (0 ≤ w32 (i + 1) ∧ w32 (i + 1) < M 1000 (-1)) ∧ lwD 92 [.inr (.inr 0), .inl (M 1000 (w32 (i + 1)))] M (ri_ fun v1 M1 => (0 ≤ w32 (i + 1) ∧ w32 (i + 1) < M1 1000 (-1)) ∧ lwD 413 [.inr (.inr 6), .inl (M1 1000 (w32 (i + 1)))] M1 (ri_ fun v2 M2 => if v1 = v2 then V 970 [rr 1000, rr 0, rr 6, ii i] [] M2 else bl_ 0 ∧ Qr [.inl 0] M2) Qt) Qt) : V 947 [rr 1000, rr 0, rr 6, ii i] [] M := bx_go lwD_m hV hW [(970, [])] 19 h
set_option maxRecDepth 100000 in
theorem b_450_970 [Inhabited fz_] (hV : Cl_ wd0 lwD V Qr Qt m_450) (hW : Wk_ V) (h : V 18 [rr 1000, rr 0, rr 6, ii (w32 (i + 6))] [] M) : V 970 [rr 1000, rr 0, rr 6, ii i] [] M := bx_go lwD_m hV hW [(18, [])] 3 h
set_option maxRecDepth 100000 in
theorem b_450_18 [Inhabited fz_] (hV : Cl_ wd0 lwD V Qr Qt m_450) (hW : Wk_ V) (h : if i ≤ w32 (M 1000 (-1) - 6) then (0 ≤ i ∧ i < M 1000 (-1)) ∧ (if an_ (M 1000 i) 31 = 0 then V 152 [rr 1000, rr 0, rr 6, ii i] [] M else (if an_ (M 1000 i) 31 = 1 then V 215 [rr 1000, rr 0, rr 6, ii i] [] M else (if an_ (M 1000 i) 31 = 2 then V 238 [rr 1000, rr 0, rr 6, ii i] [] M else (if an_ (M 1000 i) 31 = 3 then V 251 [rr 1000, rr 0, rr 6, ii i] [] M else (if an_ (M 1000 i) 31 = 4 then V 284 [rr 1000, rr 0, rr 6, ii i] [] M else (if an_ (M 1000 i) 31 = 5 then V 307 [rr 1000, rr 0, rr 6, ii i] [] M else (if an_ (M 1000 i) 31 = 6 then V 330 [rr 1000, rr 0, rr 6, ii i] [] M else (if an_ (M 1000 i) 31 = 7 then V 353 [rr 1000, rr 0, rr 6, ii i] [] M else (if an_ (M 1000 i) 31 = 8 then V 386 [rr 1000, rr 0, rr 6, ii i] [] M else (if an_ (M 1000 i) 31 = 9 then V 409 [rr 1000, rr 0, rr 6, ii i] [] M else (if an_ (M 1000 i) 31 = 10 then V 472 [rr 1000, rr 0, rr 6, ii i] [] M else (if an_ (M 1000 i) 31 = 11 then V 495 [rr 1000, rr 0, rr 6, ii i] [] M else (if an_ (M 1000 i) 31 = 12 then V 528 [rr 1000, rr 0, rr 6, ii i] [] M else (if an_ (M 1000 i) 31 = 13 then V 561 [rr 1000, rr 0, rr 6, ii i] [] M else (if an_ (M 1000 i) 31 = 14 then V 594 [rr 1000, rr 0, rr 6, ii i] [] M else (if an_ (M 1000 i) 31 = 15 then V 637 [rr 1000, rr 0, rr 6, ii i] [] M else (if an_ (M 1000 i) 31 = 16 then V 680 [rr 1000, rr 0, rr 6, ii i] [] M else (if an_ (M 1000 i) 31 = 17 then V 713 [rr 1000, rr 0, rr 6, ii i] [] M else (if an_ (M 1000 i) 31 = 18 then V 746 [rr 1000, rr 0, rr 6, ii i] [] M else (if an_ (M 1000 i) 31 = 19 then V 769 [rr 1000, rr 0, rr 6, ii i] [] M else (if an_ (M 1000 i) 31 = 20 then V 802 [rr 1000, rr 0, rr 6, ii i] [] M else (if an_ (M 1000 i) 31 = 21 then V 825 [rr 1000, rr 0, rr 6, ii i] [] M else (if an_ (M 1000 i) 31 = 22 then V 858 [rr 1000, rr 0, rr 6, ii i] [] M else (if an_ (M 1000 i) 31 = 23 then V 901 [rr 1000, rr 0, rr 6, ii i] [] M else (if an_ (M 1000 i) 31 = 24 then V 924 [rr 1000, rr 0, rr 6, ii i] [] M else (if an_ (M 1000 i) 31 = 25 then V 947 [rr 1000, rr 0, rr 6, ii i] [] M else V 970 [rr 1000, rr 0, rr 6, ii i] [] M)))))))))))))))))))))))))) else bl_ 1 ∧ Qr [.inl 1] M) : V 18 [rr 1000, rr 0, rr 6, ii i] [] M := bx_go lwD_m hV hW [(152, []), (215, []), (238, []), (251, []), (284, []), (307, []), (330, []), (353, []), (386, []), (409, []), (472, []), (495, []), (528, []), (561, []), (594, []), (637, []), (680, []), (713, []), (746, []), (769, []), (802, []), (825, []), (858, []), (901, []), (924, []), (947, []), (970, [])] 14 h
/-- what stands between two calls -/
def LWI [Inhabited fz_] (c i : Int) (M : mm_) : Prop := TOP c M M ∧ (0 ≤ c ∧ c ≤ 64 ∧ i = 6 * c) ∧ (0 ≤ M 1000 (-1) ∧ M 1000 (-1) ≤ 384) ∧ ∀ j, R32 (M 1000 j)
theorem J1_go [Inhabited fz_] {c : Int} {nx nq : Nat} {ax : List pv_} {aq : mm_ → List pv_} (hx : nx ≠ 54) (hq : nq ≠ 54) (h : LWI c i M) (hL : i + 6 ≤ M 1000 (-1)) (hV : Cl_ wd0 lwD V Qr Qt m_450) (hW : Wk_ V) (ha : ∀ M1, M1 1000 = M 1000 → aq M1 = aq M) (j : ∀ N, TOP c M N → JT 140 nx ax 140 nq (aq M) M N (TOP (c + 1))) (hb : ∀ M1 : mm_, M1 1000 = M 1000 → Prop) (hK : ∀ M', LWI (c + 1) (i + 6) M' → V 18 [rr 1000, rr 0, rr 6, ii (i + 6)] [] M') :
    lwD nx ax M (ri_ fun v1 M1 => M1 1000 = M 1000 ∧ lwD nq (aq M1) M1 (ri_ fun v2 M2 => if v1 = v2 then V 970 [rr 1000, rr 0, rr 6, ii i] [] M2 else bl_ 0 ∧ Qr [.inl 0] M2) Qt) Qt := by
  obtain ⟨t, hc, hl, r⟩ := h
  unfold lwD
  rw [if_neg hx]
  refine Tr_m (J1_of t j) (fun vs M1 g => ?_) (fun _ _ h => h.elim)
  obtain ⟨v, e, e1, g⟩ := g
  refine ⟨v, e, e1, ?_⟩
  rw [if_neg hq, ha M1 e1]
  refine Tr_m g (fun ws M2 g => ?_) (fun _ _ h => h.elim)
  obtain ⟨w, ew, w0, t2, e2⟩ := g
  refine ⟨w, ew, ?_⟩
  show if v = w then V 970 [rr 1000, rr 0, rr 6, ii i] [] M2 else bl_ 0 ∧ Qr [.inl 0] M2
  rw [if_pos w0.symm]
  refine b_450_970 hV hW ?_
  rw [w32_id (by (clear hx hq hL hV hW ha j hK t hl r e e1 g ew w0 t2 e2; lia)) (by omega)]
  exact hK M2 ⟨t2, ⟨by omega, by omega, by (clear hx hq hL hV hW ha j hK t hl r e e1 g ew w0 t2 e2; lia)⟩, by rw [e2]; exact hl, by rw [e2]; exact r⟩
theorem lw_0 [Inhabited fz_] {c : Int} (h9 : LWI c i M) (hL : i + 6 ≤ M 1000 (-1)) (hV : Cl_ wd0 lwD V Qr Qt m_450) (hW : Wk_ V) (hK : ∀ M', LWI (c + 1) (i + 6) M' → V 18 [rr 1000, rr 0, rr 6, ii (i + 6)] [] M') : V 152 [rr 1000, rr 0, rr 6, ii i] [] M := by
  have r := h9.2.2.2
  have hc : 0 ≤ c ∧ c ≤ 100 := by have := h9.2.1; omega
  have hl := h9.2.2.1
  have hi := h9.2.1
  refine b_450_152 hV hW ?_
  have g := J1_go (nx := 52) (nq := 214) (aq := fun M1 => [.inr (.inr 6), .inl (M1 1000 (w32 (i + 1))), .inl (M1 1000 (w32 (i + 2))), .inl (M1 1000 (w32 (i + 3))), .inl (M1 1000 (w32 (i + 4))), .inl (M1 1000 (w32 (i + 5)))]) (by decide) (by decide) h9 hL hV hW (fun M1 e => by simp only [e]) (fun N h => op_52 h) (fun _ _ => True) hK
  exact ⟨by rw [w32_id (by omega) (by omega)]; omega, by rw [w32_id (by (clear h9 hL hV hW hK r hl g; lia)) (by omega)]; omega, by rw [w32_id (by omega) (by omega)]; omega, by rw [w32_id (by omega) (by omega)]; omega, by rw [w32_id (by omega) (by omega)]; omega, lwD_m _ _ _ _ _ _ _ (fun vs M1 ⟨v, e, e1, q⟩ => ⟨v, e, by rw [e1, w32_id (by omega) (by omega)]; (clear h9 hV hW hK r hl g e e1 q; omega), by rw [e1, w32_id (by omega) (by omega)]; (clear h9 hV hW hK r hl g e e1 q; omega), by rw [e1, w32_id (by omega) (by omega)]; (clear h9 hV hW hK r hl g e e1 q; omega), by rw [e1, w32_id (by omega) (by omega)]; (clear h9 hV hW hK r hl g e e1 q; omega), by rw [e1, w32_id (by omega) (by omega)]; omega, q⟩) (fun _ _ h => h) g⟩
theorem lw_2 [Inhabited fz_] {c : Int} (h9 : LWI c i M) (hL : i + 6 ≤ M 1000 (-1)) (hV : Cl_ wd0 lwD V Qr Qt m_450) (hW : Wk_ V) (hK : ∀ M', LWI (c + 1) (i + 6) M' → V 18 [rr 1000, rr 0, rr 6, ii (i + 6)] [] M') : V 238 [rr 1000, rr 0, rr 6, ii i] [] M := by
  have r := h9.2.2.2
  have hc : 0 ≤ c ∧ c ≤ 100 := by have := h9.2.1; omega
  have hl := h9.2.2.1
  have hi := h9.2.1
  refine b_450_238 hV hW ?_
  have g := J1_go (nx := 55) (nq := 319) (aq := fun M1 => [.inr (.inr 6)]) (by decide) (by decide) h9 hL hV hW (fun M1 e => rfl) (fun N h => op_55 h) (fun _ _ => True) hK
  exact lwD_m _ _ _ _ _ _ _ (fun vs M1 ⟨v, e, e1, q⟩ => ⟨v, e, q⟩) (fun _ _ h => h) g
theorem lw_3 [Inhabited fz_] {c : Int} (h9 : LWI c i M) (hL : i + 6 ≤ M 1000 (-1)) (hV : Cl_ wd0 lwD V Qr Qt m_450) (hW : Wk_ V) (hK : ∀ M', LWI (c + 1) (i + 6) M' → V 18 [rr 1000, rr 0, rr 6, ii (i + 6)] [] M') : V 251 [rr 1000, rr 0, rr 6, ii i] [] M := by
  have r := h9.2.2.2
  have hc : 0 ≤ c ∧ c ≤ 100 := by have := h9.2.1; omega
  have hl := h9.2.2.1
  have hi := h9.2.1
  refine b_450_251 hV hW ?_
  have g := J1_go (nx := 56) (nq := 320) (aq := fun M1 => [.inr (.inr 6), .inl (M1 1000 (w32 (i + 1))), .inl (M1 1000 (w32 (i + 2)))]) (by decide) (by decide) h9 hL hV hW (fun M1 e => by simp only [e]) (fun N h => op_56 h) (fun _ _ => True) hK
  exact ⟨by rw [w32_id (by omega) (by omega)]; omega, by rw [w32_id (by omega) (by omega)]; omega, lwD_m _ _ _ _ _ _ _ (fun vs M1 ⟨v, e, e1, q⟩ => ⟨v, e, by rw [e1, w32_id (by omega) (by omega)]; omega, by rw [e1, w32_id (by omega) (by omega)]; omega, q⟩) (fun _ _ h => h) g⟩
theorem lw_4 [Inhabited fz_] {c : Int} (h9 : LWI c i M) (hL : i + 6 ≤ M 1000 (-1)) (hV : Cl_ wd0 lwD V Qr Qt m_450) (hW : Wk_ V) (hK : ∀ M', LWI (c + 1) (i + 6) M' → V 18 [rr 1000, rr 0, rr 6, ii (i + 6)] [] M') : V 284 [rr 1000, rr 0, rr 6, ii i] [] M := by
  have r := h9.2.2.2
  have hc : 0 ≤ c ∧ c ≤ 100 := by have := h9.2.1; omega
  have hl := h9.2.2.1
  have hi := h9.2.1
  refine b_450_284 hV hW ?_
  have g := J1_go (nx := 57) (nq := 321) (aq := fun M1 => [.inr (.inr 6), .inl (M1 1000 (w32 (i + 1)))]) (by decide) (by decide) h9 hL hV hW (fun M1 e => by simp only [e]) (fun N h => op_57 h hc.1) (fun _ _ => True) hK
  exact ⟨by rw [w32_id (by omega) (by omega)]; omega, lwD_m _ _ _ _ _ _ _ (fun vs M1 ⟨v, e, e1, q⟩ => ⟨v, e, by rw [e1, w32_id (by omega) (by omega)]; omega, q⟩) (fun _ _ h => h) g⟩
theorem lw_5 [Inhabited fz_] {c : Int} (h9 : LWI c i M) (hL : i + 6 ≤ M 1000 (-1)) (hV : Cl_ wd0 lwD V Qr Qt m_450) (hW : Wk_ V) (hK : ∀ M', LWI (c + 1) (i + 6) M' → V 18 [rr 1000, rr 0, rr 6, ii (i + 6)] [] M') : V 307 [rr 1000, rr 0, rr 6, ii i] [] M := by
  have r := h9.2.2.2
  have hc : 0 ≤ c ∧ c ≤ 100 := by have := h9.2.1; omega
  have hl := h9.2.2.1
  have hi := h9.2.1
  refine b_450_307 hV hW ?_
  have g := J1_go (nx := 0) (nq := 325) (aq := fun M1 => [.inr (.inr 6), .inl (M1 1000 (w32 (i + 1)))]) (by decide) (by decide) h9 hL hV hW (fun M1 e => by simp only [e]) (fun N h => op_0 h hc) (fun _ _ => True) hK
  exact ⟨by rw [w32_id (by omega) (by omega)]; omega, lwD_m _ _ _ _ _ _ _ (fun vs M1 ⟨v, e, e1, q⟩ => ⟨v, e, by rw [e1, w32_id (by omega) (by omega)]; omega, q⟩) (fun _ _ h => h) g⟩
theorem lw_6 [Inhabited fz_] {c : Int} (h9 : LWI c i M) (hL : i + 6 ≤ M 1000 (-1)) (hV : Cl_ wd0 lwD V Qr Qt m_450) (hW : Wk_ V) (hK : ∀ M', LWI (c + 1) (i + 6) M' → V 18 [rr 1000, rr 0, rr 6, ii (i + 6)] [] M') : V 330 [rr 1000, rr 0, rr 6, ii i] [] M := by
  have r := h9.2.2.2
  have hc : 0 ≤ c ∧ c ≤ 100 := by have := h9.2.1; omega
  have hl := h9.2.2.1
  have hi := h9.2.1
  refine b_450_330 hV hW ?_
  have g := J1_go (nx := 33) (nq := 362) (aq := fun M1 => [.inr (.inr 6), .inl (M1 1000 (w32 (i + 1)))]) (by decide) (by decide) h9 hL hV hW (fun M1 e => by simp only [e]) (fun N h => op_33 h hc) (fun _ _ => True) hK
  exact ⟨by rw [w32_id (by omega) (by omega)]; omega, lwD_m _ _ _ _ _ _ _ (fun vs M1 ⟨v, e, e1, q⟩ => ⟨v, e, by rw [e1, w32_id (by omega) (by omega)]; omega, q⟩) (fun _ _ h => h) g⟩
theorem lw_7 [Inhabited fz_] {c : Int} (h9 : LWI c i M) (hL : i + 6 ≤ M 1000 (-1)) (hV : Cl_ wd0 lwD V Qr Qt m_450) (hW : Wk_ V) (hK : ∀ M', LWI (c + 1) (i + 6) M' → V 18 [rr 1000, rr 0, rr 6, ii (i + 6)] [] M') : V 353 [rr 1000, rr 0, rr 6, ii i] [] M := by
  have r := h9.2.2.2
  have hc : 0 ≤ c ∧ c ≤ 100 := by have := h9.2.1; omega
  have hl := h9.2.2.1
  have hi := h9.2.1
  refine b_450_353 hV hW ?_
  have g := J1_go (nx := 34) (nq := 363) (aq := fun M1 => [.inr (.inr 6), .inl (M1 1000 (w32 (i + 1))), .inl (M1 1000 (w32 (i + 2)))]) (by decide) (by decide) h9 hL hV hW (fun M1 e => by simp only [e]) (fun N h => op_34 h hc (r _)) (fun _ _ => True) hK
  exact ⟨by rw [w32_id (by omega) (by omega)]; omega, by rw [w32_id (by omega) (by omega)]; omega, lwD_m _ _ _ _ _ _ _ (fun vs M1 ⟨v, e, e1, q⟩ => ⟨v, e, by rw [e1, w32_id (by omega) (by omega)]; omega, by rw [e1, w32_id (by omega) (by omega)]; omega, q⟩) (fun _ _ h => h) g⟩
theorem lw_8 [Inhabited fz_] {c : Int} (h9 : LWI c i M) (hL : i + 6 ≤ M 1000 (-1)) (hV : Cl_ wd0 lwD V Qr Qt m_450) (hW : Wk_ V) (hK : ∀ M', LWI (c + 1) (i + 6) M' → V 18 [rr 1000, rr 0, rr 6, ii (i + 6)] [] M') : V 386 [rr 1000, rr 0, rr 6, ii i] [] M := by
  have r := h9.2.2.2
  have hc : 0 ≤ c ∧ c ≤ 100 := by have := h9.2.1; omega
  have hl := h9.2.2.1
  have hi := h9.2.1
  refine b_450_386 hV hW ?_
  have g := J1_go (nx := 58) (nq := 366) (aq := fun M1 => [.inr (.inr 6), .inl (M1 1000 (w32 (i + 1)))]) (by decide) (by decide) h9 hL hV hW (fun M1 e => by simp only [e]) (fun N h => op_58 h) (fun _ _ => True) hK
  exact ⟨by rw [w32_id (by omega) (by omega)]; omega, lwD_m _ _ _ _ _ _ _ (fun vs M1 ⟨v, e, e1, q⟩ => ⟨v, e, by rw [e1, w32_id (by omega) (by omega)]; omega, q⟩) (fun _ _ h => h) g⟩
theorem lw_9 [Inhabited fz_] {c : Int} (h9 : LWI c i M) (hL : i + 6 ≤ M 1000 (-1)) (hV : Cl_ wd0 lwD V Qr Qt m_450) (hW : Wk_ V) (hK : ∀ M', LWI (c + 1) (i + 6) M' → V 18 [rr 1000, rr 0, rr 6, ii (i + 6)] [] M') : V 409 [rr 1000, rr 0, rr 6, ii i] [] M := by
  have r := h9.2.2.2
  have hc : 0 ≤ c ∧ c ≤ 100 := by have := h9.2.1; omega
  have hl := h9.2.2.1
  have hi := h9.2.1
  refine b_450_409 hV hW ?_
  have g := J1_go (nx := 59) (nq := 367) (aq := fun M1 => [.inr (.inr 6), .inl (M1 1000 (w32 (i + 1))), .inl (M1 1000 (w32 (i + 2))), .inl (M1 1000 (w32 (i + 3))), .inl (M1 1000 (w32 (i + 4))), .inl (M1 1000 (w32 (i + 5)))]) (by decide) (by decide) h9 hL hV hW (fun M1 e => by simp only [e]) (fun N h => op_59 h (r _) (r _) (r _)) (fun _ _ => True) hK
  exact ⟨by rw [w32_id (by omega) (by omega)]; omega, by rw [w32_id (by omega) (by omega)]; omega, by rw [w32_id (by omega) (by omega)]; omega, by rw [w32_id (by omega) (by omega)]; omega, by rw [w32_id (by omega) (by omega)]; omega, lwD_m _ _ _ _ _ _ _ (fun vs M1 ⟨v, e, e1, q⟩ => ⟨v, e, by rw [e1, w32_id (by omega) (by omega)]; omega, by rw [e1, w32_id (by omega) (by omega)]; omega, by rw [e1, w32_id (by omega) (by omega)]; omega, by rw [e1, w32_id (by omega) (by omega)]; omega, by rw [e1, w32_id (by omega) (by omega)]; omega, q⟩) (fun _ _ h => h) g⟩
theorem lw_10 [Inhabited fz_] {c : Int} (h9 : LWI c i M) (hL : i + 6 ≤ M 1000 (-1)) (hV : Cl_ wd0 lwD V Qr Qt m_450) (hW : Wk_ V) (hK : ∀ M', LWI (c + 1) (i + 6) M' → V 18 [rr 1000, rr 0, rr 6, ii (i + 6)] [] M') : V 472 [rr 1000, rr 0, rr 6, ii i] [] M := by
  have r := h9.2.2.2
  have hc : 0 ≤ c ∧ c ≤ 100 := by have := h9.2.1; omega
  have hl := h9.2.2.1
  have hi := h9.2.1
  refine b_450_472 hV hW ?_
  have g := J1_go (nx := 61) (nq := 368) (aq := fun M1 => [.inr (.inr 6), .inl (M1 1000 (w32 (i + 1)))]) (by decide) (by decide) h9 hL hV hW (fun M1 e => by simp only [e]) (fun N h => op_61 h) (fun _ _ => True) hK
  exact ⟨by rw [w32_id (by omega) (by omega)]; omega, lwD_m _ _ _ _ _ _ _ (fun vs M1 ⟨v, e, e1, q⟩ => ⟨v, e, by rw [e1, w32_id (by omega) (by omega)]; omega, q⟩) (fun _ _ h => h) g⟩
theorem lw_11 [Inhabited fz_] {c : Int} (h9 : LWI c i M) (hL : i + 6 ≤ M 1000 (-1)) (hV : Cl_ wd0 lwD V Qr Qt m_450) (hW : Wk_ V) (hK : ∀ M', LWI (c + 1) (i + 6) M' → V 18 [rr 1000, rr 0, rr 6, ii (i + 6)] [] M') : V 495 [rr 1000, rr 0, rr 6, ii i] [] M := by
  have r := h9.2.2.2
  have hc : 0 ≤ c ∧ c ≤ 100 := by have := h9.2.1; omega
  have hl := h9.2.2.1
  have hi := h9.2.1
  refine b_450_495 hV hW ?_
  have g := J1_go (nx := 62) (nq := 369) (aq := fun M1 => [.inr (.inr 6), .inl (M1 1000 (w32 (i + 1))), .inl (M1 1000 (w32 (i + 2)))]) (by decide) (by decide) h9 hL hV hW (fun M1 e => by simp only [e]) (fun N h => op_62 h) (fun _ _ => True) hK
  exact ⟨by rw [w32_id (by omega) (by omega)]; omega, by rw [w32_id (by omega) (by omega)]; omega, lwD_m _ _ _ _ _ _ _ (fun vs M1 ⟨v, e, e1, q⟩ => ⟨v, e, by rw [e1, w32_id (by omega) (by omega)]; omega, by rw [e1, w32_id (by omega) (by omega)]; omega, q⟩) (fun _ _ h => h) g⟩
theorem lw_12 [Inhabited fz_] {c : Int} (h9 : LWI c i M) (hL : i + 6 ≤ M 1000 (-1)) (hV : Cl_ wd0 lwD V Qr Qt m_450) (hW : Wk_ V) (hK : ∀ M', LWI (c + 1) (i + 6) M' → V 18 [rr 1000, rr 0, rr 6, ii (i + 6)] [] M') : V 528 [rr 1000, rr 0, rr 6, ii i] [] M := by
  have r := h9.2.2.2
  have hc : 0 ≤ c ∧ c ≤ 100 := by have := h9.2.1; omega
  have hl := h9.2.2.1
  have hi := h9.2.1
  refine b_450_528 hV hW ?_
  have g := J1_go (nx := 63) (nq := 371) (aq := fun M1 => [.inr (.inr 6), .inl (M1 1000 (w32 (i + 1))), .inl (M1 1000 (w32 (i + 2)))]) (by decide) (by decide) h9 hL hV hW (fun M1 e => by simp only [e]) (fun N h => op_63 h) (fun _ _ => True) hK
  exact ⟨by rw [w32_id (by omega) (by omega)]; omega, by rw [w32_id (by omega) (by omega)]; omega, lwD_m _ _ _ _ _ _ _ (fun vs M1 ⟨v, e, e1, q⟩ => ⟨v, e, by rw [e1, w32_id (by omega) (by omega)]; omega, by rw [e1, w32_id (by omega) (by omega)]; omega, q⟩) (fun _ _ h => h) g⟩
theorem lw_13 [Inhabited fz_] {c : Int} (h9 : LWI c i M) (hL : i + 6 ≤ M 1000 (-1)) (hV : Cl_ wd0 lwD V Qr Qt m_450) (hW : Wk_ V) (hK : ∀ M', LWI (c + 1) (i + 6) M' → V 18 [rr 1000, rr 0, rr 6, ii (i + 6)] [] M') : V 561 [rr 1000, rr 0, rr 6, ii i] [] M := by
  have r := h9.2.2.2
  have hc : 0 ≤ c ∧ c ≤ 100 := by have := h9.2.1; omega
  have hl := h9.2.2.1
  have hi := h9.2.1
  refine b_450_561 hV hW ?_
  have g := J1_go (nx := 64) (nq := 372) (aq := fun M1 => [.inr (.inr 6), .inl (M1 1000 (w32 (i + 1))), .inl (M1 1000 (w32 (i + 2)))]) (by decide) (by decide) h9 hL hV hW (fun M1 e => by simp only [e]) (fun N h => op_64 h) (fun _ _ => True) hK
  exact ⟨by rw [w32_id (by omega) (by omega)]; omega, by rw [w32_id (by omega) (by omega)]; omega, lwD_m _ _ _ _ _ _ _ (fun vs M1 ⟨v, e, e1, q⟩ => ⟨v, e, by rw [e1, w32_id (by omega) (by omega)]; omega, by rw [e1, w32_id (by omega) (by omega)]; omega, q⟩) (fun _ _ h => h) g⟩
theorem lw_14 [Inhabited fz_] {c : Int} (h9 : LWI c i M) (hL : i + 6 ≤ M 1000 (-1)) (hV : Cl_ wd0 lwD V Qr Qt m_450) (hW : Wk_ V) (hK : ∀ M', LWI (c + 1) (i + 6) M' → V 18 [rr 1000, rr 0, rr 6, ii (i + 6)] [] M') : V 594 [rr 1000, rr 0, rr 6, ii i] [] M := by
  have r := h9.2.2.2
  have hc : 0 ≤ c ∧ c ≤ 100 := by have := h9.2.1; omega
  have hl := h9.2.2.1
  have hi := h9.2.1
  refine b_450_594 hV hW ?_
  have g := J1_go (nx := 65) (nq := 373) (aq := fun M1 => [.inr (.inr 6), .inl (M1 1000 (w32 (i + 1))), .inl (M1 1000 (w32 (i + 2))), .inl (M1 1000 (w32 (i + 3)))]) (by decide) (by decide) h9 hL hV hW (fun M1 e => by simp only [e]) (fun N h => op_65 h) (fun _ _ => True) hK
  exact ⟨by rw [w32_id (by omega) (by omega)]; (clear h9 hV hW hK r hl g; omega), by rw [w32_id (by omega) (by omega)]; omega, by rw [w32_id (by omega) (by omega)]; omega, lwD_m _ _ _ _ _ _ _ (fun vs M1 ⟨v, e, e1, q⟩ => ⟨v, e, by rw [e1, w32_id (by omega) (by omega)]; omega, by rw [e1, w32_id (by omega) (by omega)]; omega, by rw [e1, w32_id (by omega) (by omega)]; omega, q⟩) (fun _ _ h => h) g⟩
theorem lw_15 [Inhabited fz_] {c : Int} (h9 : LWI c i M) (hL : i + 6 ≤ M 1000 (-1)) (hV : Cl_ wd0 lwD V Qr Qt m_450) (hW : Wk_ V) (hK : ∀ M', LWI (c + 1) (i + 6) M' → V 18 [rr 1000, rr 0, rr 6, ii (i + 6)] [] M') : V 637 [rr 1000, rr 0, rr 6, ii i] [] M := by
  have r := h9.2.2.2
  have hc : 0 ≤ c ∧ c ≤ 100 := by have := h9.2.1; omega
  have hl := h9.2.2.1
  have hi := h9.2.1
  refine b_450_637 hV hW ?_
  have g := J1_go (nx := 66) (nq := 374) (aq := fun M1 => [.inr (.inr 6), .inl (M1 1000 (w32 (i + 1))), .inl (M1 1000 (w32 (i + 2))), .inl (M1 1000 (w32 (i + 3)))]) (by decide) (by decide) h9 hL hV hW (fun M1 e => by simp only [e]) (fun N h => op_66 h) (fun _ _ => True) hK
  exact ⟨by rw [w32_id (by omega) (by omega)]; (clear h9 hV hW hK r hl g; omega), by rw [w32_id (by omega) (by omega)]; omega, by rw [w32_id (by omega) (by omega)]; omega, lwD_m _ _ _ _ _ _ _ (fun vs M1 ⟨v, e, e1, q⟩ => ⟨v, e, by rw [e1, w32_id (by omega) (by omega)]; omega, by rw [e1, w32_id (by omega) (by omega)]; omega, by rw [e1, w32_id (by omega) (by omega)]; omega, q⟩) (fun _ _ h => h) g⟩
theorem lw_16 [Inhabited fz_] {c : Int} (h9 : LWI c i M) (hL : i + 6 ≤ M 1000 (-1)) (hV : Cl_ wd0 lwD V Qr Qt m_450) (hW : Wk_ V) (hK : ∀ M', LWI (c + 1) (i + 6) M' → V 18 [rr 1000, rr 0, rr 6, ii (i + 6)] [] M') : V 680 [rr 1000, rr 0, rr 6, ii i] [] M := by
  have r := h9.2.2.2
  have hc : 0 ≤ c ∧ c ≤ 100 := by have := h9.2.1; omega
  have hl := h9.2.2.1
  have hi := h9.2.1
  refine b_450_680 hV hW ?_
  have g := J1_go (nx := 67) (nq := 375) (aq := fun M1 => [.inr (.inr 6), .inl (M1 1000 (w32 (i + 1))), .inl (M1 1000 (w32 (i + 2)))]) (by decide) (by decide) h9 hL hV hW (fun M1 e => by simp only [e]) (fun N h => op_67 h) (fun _ _ => True) hK
  exact ⟨by rw [w32_id (by omega) (by omega)]; omega, by rw [w32_id (by omega) (by omega)]; omega, lwD_m _ _ _ _ _ _ _ (fun vs M1 ⟨v, e, e1, q⟩ => ⟨v, e, by rw [e1, w32_id (by omega) (by omega)]; omega, by rw [e1, w32_id (by omega) (by omega)]; omega, q⟩) (fun _ _ h => h) g⟩
theorem lw_17 [Inhabited fz_] {c : Int} (h9 : LWI c i M) (hL : i + 6 ≤ M 1000 (-1)) (hV : Cl_ wd0 lwD V Qr Qt m_450) (hW : Wk_ V) (hK : ∀ M', LWI (c + 1) (i + 6) M' → V 18 [rr 1000, rr 0, rr 6, ii (i + 6)] [] M') : V 713 [rr 1000, rr 0, rr 6, ii i] [] M := by
  have r := h9.2.2.2
  have hc : 0 ≤ c ∧ c ≤ 100 := by have := h9.2.1; omega
  have hl := h9.2.2.1
  have hi := h9.2.1
  refine b_450_713 hV hW ?_
  have g := J1_go (nx := 68) (nq := 376) (aq := fun M1 => [.inr (.inr 6), .inl (M1 1000 (w32 (i + 1))), .inl (M1 1000 (w32 (i + 2)))]) (by decide) (by decide) h9 hL hV hW (fun M1 e => by simp only [e]) (fun N h => op_68 h) (fun _ _ => True) hK
  exact ⟨by rw [w32_id (by omega) (by omega)]; omega, by rw [w32_id (by omega) (by omega)]; omega, lwD_m _ _ _ _ _ _ _ (fun vs M1 ⟨v, e, e1, q⟩ => ⟨v, e, by rw [e1, w32_id (by omega) (by omega)]; omega, by rw [e1, w32_id (by omega) (by omega)]; omega, q⟩) (fun _ _ h => h) g⟩
theorem lw_18 [Inhabited fz_] {c : Int} (h9 : LWI c i M) (hL : i + 6 ≤ M 1000 (-1)) (hV : Cl_ wd0 lwD V Qr Qt m_450) (hW : Wk_ V) (hK : ∀ M', LWI (c + 1) (i + 6) M' → V 18 [rr 1000, rr 0, rr 6, ii (i + 6)] [] M') : V 746 [rr 1000, rr 0, rr 6, ii i] [] M := by
  have r := h9.2.2.2
  have hc : 0 ≤ c ∧ c ≤ 100 := by have := h9.2.1; omega
  have hl := h9.2.2.1
  have hi := h9.2.1
  refine b_450_746 hV hW ?_
  have g := J1_go (nx := 70) (nq := 377) (aq := fun M1 => [.inr (.inr 6), .inl (M1 1000 (w32 (i + 1)))]) (by decide) (by decide) h9 hL hV hW (fun M1 e => by simp only [e]) (fun N h => op_70 h) (fun _ _ => True) hK
  exact ⟨by rw [w32_id (by omega) (by omega)]; omega, lwD_m _ _ _ _ _ _ _ (fun vs M1 ⟨v, e, e1, q⟩ => ⟨v, e, by rw [e1, w32_id (by omega) (by omega)]; omega, q⟩) (fun _ _ h => h) g⟩
theorem lw_19 [Inhabited fz_] {c : Int} (h9 : LWI c i M) (hL : i + 6 ≤ M 1000 (-1)) (hV : Cl_ wd0 lwD V Qr Qt m_450) (hW : Wk_ V) (hK : ∀ M', LWI (c + 1) (i + 6) M' → V 18 [rr 1000, rr 0, rr 6, ii (i + 6)] [] M') : V 769 [rr 1000, rr 0, rr 6, ii i] [] M := by
  have r := h9.2.2.2
  have hc : 0 ≤ c ∧ c ≤ 100 := by have := h9.2.1; omega
  have hl := h9.2.2.1
  have hi := h9.2.1
  refine b_450_769 hV hW ?_
  have g := J1_go (nx := 71) (nq := 379) (aq := fun M1 => [.inr (.inr 6), .inl (M1 1000 (w32 (i + 1))), .inl (M1 1000 (w32 (i + 2)))]) (by decide) (by decide) h9 hL hV hW (fun M1 e => by simp only [e]) (fun N h => op_71 h) (fun _ _ => True) hK
  exact ⟨by rw [w32_id (by omega) (by omega)]; omega, by rw [w32_id (by (clear h9 hL hV hW hK r hl g; lia)) (by omega)]; omega, lwD_m _ _ _ _ _ _ _ (fun vs M1 ⟨v, e, e1, q⟩ => ⟨v, e, by rw [e1, w32_id (by omega) (by omega)]; omega, by rw [e1, w32_id (by omega) (by omega)]; omega, q⟩) (fun _ _ h => h) g⟩
theorem lw_20 [Inhabited fz_] {c : Int} (h9 : LWI c i M) (hL : i + 6 ≤ M 1000 (-1)) (hV : Cl_ wd0 lwD V Qr Qt m_450) (hW : Wk_ V) (hK : ∀ M', LWI (c + 1) (i + 6) M' → V 18 [rr 1000, rr 0, rr 6, ii (i + 6)] [] M') : V 802 [rr 1000, rr 0, rr 6, ii i] [] M := by
  have r := h9.2.2.2
  have hc : 0 ≤ c ∧ c ≤ 100 := by have := h9.2.1; omega
  have hl := h9.2.2.1
  have hi := h9.2.1
  refine b_450_802 hV hW ?_
  have g := J1_go (nx := 37) (nq := 380) (aq := fun M1 => [.inr (.inr 6), .inl (M1 1000 (w32 (i + 1)))]) (by decide) (by decide) h9 hL hV hW (fun M1 e => by simp only [e]) (fun N h => op_37 h hc) (fun _ _ => True) hK
  exact ⟨by rw [w32_id (by omega) (by omega)]; omega, lwD_m _ _ _ _ _ _ _ (fun vs M1 ⟨v, e, e1, q⟩ => ⟨v, e, by rw [e1, w32_id (by omega) (by omega)]; omega, q⟩) (fun _ _ h => h) g⟩
theorem lw_21 [Inhabited fz_] {c : Int} (h9 : LWI c i M) (hL : i + 6 ≤ M 1000 (-1)) (hV : Cl_ wd0 lwD V Qr Qt m_450) (hW : Wk_ V) (hK : ∀ M', LWI (c + 1) (i + 6) M' → V 18 [rr 1000, rr 0, rr 6, ii (i + 6)] [] M') : V 825 [rr 1000, rr 0, rr 6, ii i] [] M := by
  have r := h9.2.2.2
  have hc : 0 ≤ c ∧ c ≤ 100 := by have := h9.2.1; omega
  have hl := h9.2.2.1
  have hi := h9.2.1
  refine b_450_825 hV hW ?_
  have g := J1_go (nx := 47) (nq := 392) (aq := fun M1 => [.inr (.inr 6), .inl (M1 1000 (w32 (i + 1))), .inl (M1 1000 (w32 (i + 2)))]) (by decide) (by decide) h9 hL hV hW (fun M1 e => by simp only [e]) (fun N h => op_47 h) (fun _ _ => True) hK
  exact ⟨by rw [w32_id (by omega) (by omega)]; omega, by rw [w32_id (by omega) (by omega)]; omega, lwD_m _ _ _ _ _ _ _ (fun vs M1 ⟨v, e, e1, q⟩ => ⟨v, e, by rw [e1, w32_id (by omega) (by omega)]; omega, by rw [e1, w32_id (by omega) (by omega)]; omega, q⟩) (fun _ _ h => h) g⟩
theorem lw_22 [Inhabited fz_] {c : Int} (h9 : LWI c i M) (hL : i + 6 ≤ M 1000 (-1)) (hV : Cl_ wd0 lwD V Qr Qt m_450) (hW : Wk_ V) (hK : ∀ M', LWI (c + 1) (i + 6) M' → V 18 [rr 1000, rr 0, rr 6, ii (i + 6)] [] M') : V 858 [rr 1000, rr 0, rr 6, ii i] [] M := by
  have r := h9.2.2.2
  have hc : 0 ≤ c ∧ c ≤ 100 := by have := h9.2.1; omega
  have hl := h9.2.2.1
  have hi := h9.2.1
  refine b_450_858 hV hW ?_
  have g := J1_go (nx := 48) (nq := 393) (aq := fun M1 => [.inr (.inr 6), .inl (M1 1000 (w32 (i + 1))), .inl (M1 1000 (w32 (i + 2))), .inl (M1 1000 (w32 (i + 3)))]) (by decide) (by decide) h9 hL hV hW (fun M1 e => by simp only [e]) (fun N h => op_48 h) (fun _ _ => True) hK
  exact ⟨by rw [w32_id (by omega) (by omega)]; omega, by rw [w32_id (by omega) (by omega)]; omega, by rw [w32_id (by omega) (by omega)]; omega, lwD_m _ _ _ _ _ _ _ (fun vs M1 ⟨v, e, e1, q⟩ => ⟨v, e, by rw [e1, w32_id (by omega) (by omega)]; omega, by rw [e1, w32_id (by omega) (by omega)]; omega, by rw [e1, w32_id (by omega) (by omega)]; omega, q⟩) (fun _ _ h => h) g⟩
theorem lw_23 [Inhabited fz_] {c : Int} (h9 : LWI c i M) (hL : i + 6 ≤ M 1000 (-1)) (hV : Cl_ wd0 lwD V Qr Qt m_450) (hW : Wk_ V) (hK : ∀ M', LWI (c + 1) (i + 6) M' → V 18 [rr 1000, rr 0, rr 6, ii (i + 6)] [] M') : V 901 [rr 1000, rr 0, rr 6, ii i] [] M := by
  have r := h9.2.2.2
  have hc : 0 ≤ c ∧ c ≤ 100 := by have := h9.2.1; omega
  have hl := h9.2.2.1
  have hi := h9.2.1
  refine b_450_901 hV hW ?_
  have g := J1_go (nx := 50) (nq := 396) (aq := fun M1 => [.inr (.inr 6), .inl (M1 1000 (w32 (i + 1)))]) (by decide) (by decide) h9 hL hV hW (fun M1 e => by simp only [e]) (fun N h => op_50 h hc) (fun _ _ => True) hK
  exact ⟨by rw [w32_id (by omega) (by omega)]; (clear h9 hV hW hK r hl g; omega), lwD_m _ _ _ _ _ _ _ (fun vs M1 ⟨v, e, e1, q⟩ => ⟨v, e, by rw [e1, w32_id (by omega) (by omega)]; omega, q⟩) (fun _ _ h => h) g⟩
theorem lw_24 [Inhabited fz_] {c : Int} (h9 : LWI c i M) (hL : i + 6 ≤ M 1000 (-1)) (hV : Cl_ wd0 lwD V Qr Qt m_450) (hW : Wk_ V) (hK : ∀ M', LWI (c + 1) (i + 6) M' → V 18 [rr 1000, rr 0, rr 6, ii (i + 6)] [] M') : V 924 [rr 1000, rr 0, rr 6, ii i] [] M := by
  have r := h9.2.2.2
  have hc : 0 ≤ c ∧ c ≤ 100 := by have := h9.2.1; omega
  have hl := h9.2.2.1
  have hi := h9.2.1
  refine b_450_924 hV hW ?_
  have g := J1_go (nx := 72) (nq := 397) (aq := fun M1 => [.inr (.inr 6), .inl (M1 1000 (w32 (i + 1)))]) (by decide) (by decide) h9 hL hV hW (fun M1 e => by simp only [e]) (fun N h => op_72 h) (fun _ _ => True) hK
  exact ⟨by rw [w32_id (by omega) (by omega)]; omega, lwD_m _ _ _ _ _ _ _ (fun vs M1 ⟨v, e, e1, q⟩ => ⟨v, e, by rw [e1, w32_id (by omega) (by omega)]; omega, q⟩) (fun _ _ h => h) g⟩
theorem lw_25 [Inhabited fz_] {c : Int} (h9 : LWI c i M) (hL : i + 6 ≤ M 1000 (-1)) (hV : Cl_ wd0 lwD V Qr Qt m_450) (hW : Wk_ V) (hK : ∀ M', LWI (c + 1) (i + 6) M' → V 18 [rr 1000, rr 0, rr 6, ii (i + 6)] [] M') : V 947 [rr 1000, rr 0, rr 6, ii i] [] M := by
  have r := h9.2.2.2
  have hc : 0 ≤ c ∧ c ≤ 100 := by have := h9.2.1; omega
  have hl := h9.2.2.1
  have hi := h9.2.1
  refine b_450_947 hV hW ?_
  have g := J1_go (nx := 92) (nq := 413) (aq := fun M1 => [.inr (.inr 6), .inl (M1 1000 (w32 (i + 1)))]) (by decide) (by decide) h9 hL hV hW (fun M1 e => by simp only [e]) (fun N h => op_92 h) (fun _ _ => True) hK
  exact ⟨by rw [w32_id (by omega) (by omega)]; omega, lwD_m _ _ _ _ _ _ _ (fun vs M1 ⟨v, e, e1, q⟩ => ⟨v, e, by rw [e1, w32_id (by omega) (by omega)]; (clear h9 hV hW hK r hl g e e1 q; omega), q⟩) (fun _ _ h => h) g⟩
theorem lw_1 [Inhabited fz_] {c : Int} (h9 : LWI c i M) (hL : i + 6 ≤ M 1000 (-1)) (hV : Cl_ wd0 lwD V Qr Qt m_450) (hW : Wk_ V) (hK : ∀ M', LWI (c + 1) (i + 6) M' → V 18 [rr 1000, rr 0, rr 6, ii (i + 6)] [] M') : V 215 [rr 1000, rr 0, rr 6, ii i] [] M := by
  obtain ⟨t, hi, hl, r⟩ := id h9
  have fin : ∀ M2 : mm_, TOP (c + 1) M2 M2 → M2 1000 = M 1000 → V 970 [rr 1000, rr 0, rr 6, ii i] [] M2 := fun M2 t2 e2 => by
    refine b_450_970 hV hW ?_
    rw [w32_id (by (clear h9 hL hV hW hK t hl r t2 e2; lia)) (by (clear h9 hL hV hW hK t hl r t2 e2; lia))]
    exact hK M2 ⟨t2, ⟨by omega, by omega, by (clear h9 hL hV hW hK t hl r t2 e2; lia)⟩, by rw [e2]; exact hl, by rw [e2]; exact r⟩
  have fq : ∀ (v : Int) (M1 : mm_), M1 1000 = M 1000 → Tr_ wd0 pg0 140 216 [.inr (.inr 6), .inl (M 1000 (i + 1))] M1 (ri_ fun v' M2 => v' = v ∧ TOP (c + 1) M2 M2 ∧ M2 1000 = M1 1000) (fun _ _ => False) →
      (0 ≤ i + 1 ∧ i + 1 < M1 1000 (-1)) ∧ lwD 216 [.inr (.inr 6), .inl (M1 1000 (i + 1))] M1 (ri_ fun v2 M2 => if v = v2 then V 970 [rr 1000, rr 0, rr 6, ii i] [] M2 else bl_ 0 ∧ Qr [.inl 0] M2) Qt := fun v M1 e1 g => by
    refine ⟨by rw [e1]; omega, ?_⟩
    unfold lwD
    rw [if_neg (by decide), e1]
    refine Tr_m g (fun ws M2 g => ?_) (fun _ _ h => h.elim)
    obtain ⟨w, ew, w0, t2, e2⟩ := g
    refine ⟨w, ew, ?_⟩
    show if v = w then V 970 [rr 1000, rr 0, rr 6, ii i] [] M2 else bl_ 0 ∧ Qr [.inl 0] M2
    rw [if_pos w0.symm]
    exact fin M2 t2 (e2.trans e1)
  refine b_450_215 hV hW ⟨by rw [w32_id (by (clear h9 hL hV hW hK t hl r fin fq; omega)) (by omega)]; (clear h9 hV hW hK t hl r fin fq; omega), ?_⟩
  rw [w32_id (x := i + 1) (by omega) (by omega)]
  show LDo M (M 1000 (i + 1)) _
  generalize ex : M 1000 (i + 1) = x at *
  refine ⟨fun hx => ?_, fun hx => ?_⟩
  · refine ri_i ?_
    refine fq (-2) M rfl (t_216 (d := 139) fun V hV hW => b_216_0 (Tr_mono _) hV hW _ _ ?_)
    have e3 := t.1.1.1.1.1.1
    by_cases c0 : x < 0
    · rw [if_pos c0]; exact ri_i ⟨rfl, TOP_m t, rfl⟩
    · rw [if_neg c0, if_neg (by (clear h9 hL hK t hi hl r fin ex fq hV hW; omega))]; exact ri_i ⟨rfl, TOP_m t, rfl⟩
  · refine Tr_m (L1_of t (by (clear h9 hL hV hW hK t hl r fin ex fq hx; omega)) hx) (fun vs M1 g => ?_) (fun _ _ h => h)
    obtain ⟨v, e, e1, g1, g2⟩ := g
    refine ⟨v, e, fun z => ⟨(g1 z).1, fun M3 ml => ri_i (fq 0 M3 ?_ ((g1 z).2 M3 ml))⟩, fun z => ri_i (fq v _ (by rw [up_ne (by decide)]; exact e1) (g2 z))⟩
    rw [ml.1 1000 (by decide), swM_r (by decide) (by decide) (by decide) (by decide)]; exact e1
theorem law_l [Inhabited fz_] (hV : Cl_ wd0 lwD V Qr Qt m_450) (hW : Wk_ V) (hq : ∀ M, Qr [.inl 1] M) : ∀ (n : Nat) (c i : Int) (M : mm_), 64 - c ≤ (n : Int) → LWI c i M → V 18 [rr 1000, rr 0, rr 6, ii i] [] M
  | n, c, i, M, hn, h => by
    refine b_450_18 hV hW ?_
    have hi := h.2.1
    have hl := h.2.2.1
    rw [w32_id (x := M 1000 (-1) - 6) (by (clear hV hW hq hn h hi; omega)) (by (clear hV hW hq hn h hi; omega))]
    by_cases cc : i ≤ M 1000 (-1) - 6
    · rw [if_pos cc]
      refine ⟨by omega, ?_⟩
      obtain ⟨n, rfl⟩ : ∃ m, n = m + 1 := ⟨n - 1, by omega⟩
      have K : ∀ M', LWI (c + 1) (i + 6) M' → V 18 [rr 1000, rr 0, rr 6, ii (i + 6)] [] M' := fun M' h' => law_l hV hW hq n (c + 1) (i + 6) M' (by omega) h'
      have hL : i + 6 ≤ M 1000 (-1) := by omega

      by_cases c0 : an_ (M 1000 i) 31 = 0
      · rw [if_pos c0]; exact lw_0 h hL hV hW K
      rw [if_neg c0]
      by_cases c1 : an_ (M 1000 i) 31 = 1
      · rw [if_pos c1]; exact lw_1 h hL hV hW K
      rw [if_neg c1]
      by_cases c2 : an_ (M 1000 i) 31 = 2
      · rw [if_pos c2]; exact lw_2 h hL hV hW K
      rw [if_neg c2]
      by_cases c3 : an_ (M 1000 i) 31 = 3
      · rw [if_pos c3]; exact lw_3 h hL hV hW K
      rw [if_neg c3]
      by_cases c4 : an_ (M 1000 i) 31 = 4
      · rw [if_pos c4]; exact lw_4 h hL hV hW K
      rw [if_neg c4]
      by_cases c5 : an_ (M 1000 i) 31 = 5
      · rw [if_pos c5]; exact lw_5 h hL hV hW K
      rw [if_neg c5]
      by_cases c6 : an_ (M 1000 i) 31 = 6
      · rw [if_pos c6]; exact lw_6 h hL hV hW K
      rw [if_neg c6]
      by_cases c7 : an_ (M 1000 i) 31 = 7
      · rw [if_pos c7]; exact lw_7 h hL hV hW K
      rw [if_neg c7]
      by_cases c8 : an_ (M 1000 i) 31 = 8
      · rw [if_pos c8]; exact lw_8 h hL hV hW K
      rw [if_neg c8]
      by_cases c9 : an_ (M 1000 i) 31 = 9
      · rw [if_pos c9]; exact lw_9 h hL hV hW K
      rw [if_neg c9]
      by_cases c10 : an_ (M 1000 i) 31 = 10
      · rw [if_pos c10]; exact lw_10 h hL hV hW K
      rw [if_neg c10]
      by_cases c11 : an_ (M 1000 i) 31 = 11
      · rw [if_pos c11]; exact lw_11 h hL hV hW K
      rw [if_neg c11]
      by_cases c12 : an_ (M 1000 i) 31 = 12
      · rw [if_pos c12]; exact lw_12 h hL hV hW K
      rw [if_neg c12]
      by_cases c13 : an_ (M 1000 i) 31 = 13
      · rw [if_pos c13]; exact lw_13 h hL hV hW K
      rw [if_neg c13]
      by_cases c14 : an_ (M 1000 i) 31 = 14
      · rw [if_pos c14]; exact lw_14 h hL hV hW K
      rw [if_neg c14]
      by_cases c15 : an_ (M 1000 i) 31 = 15
      · rw [if_pos c15]; exact lw_15 h hL hV hW K
      rw [if_neg c15]
      by_cases c16 : an_ (M 1000 i) 31 = 16
      · rw [if_pos c16]; exact lw_16 h hL hV hW K
      rw [if_neg c16]
      by_cases c17 : an_ (M 1000 i) 31 = 17
      · rw [if_pos c17]; exact lw_17 h hL hV hW K
      rw [if_neg c17]
      by_cases c18 : an_ (M 1000 i) 31 = 18
      · rw [if_pos c18]; exact lw_18 h hL hV hW K
      rw [if_neg c18]
      by_cases c19 : an_ (M 1000 i) 31 = 19
      · rw [if_pos c19]; exact lw_19 h hL hV hW K
      rw [if_neg c19]
      by_cases c20 : an_ (M 1000 i) 31 = 20
      · rw [if_pos c20]; exact lw_20 h hL hV hW K
      rw [if_neg c20]
      by_cases c21 : an_ (M 1000 i) 31 = 21
      · rw [if_pos c21]; exact lw_21 h hL hV hW K
      rw [if_neg c21]
      by_cases c22 : an_ (M 1000 i) 31 = 22
      · rw [if_pos c22]; exact lw_22 h hL hV hW K
      rw [if_neg c22]
      by_cases c23 : an_ (M 1000 i) 31 = 23
      · rw [if_pos c23]; exact lw_23 h hL hV hW K
      rw [if_neg c23]
      by_cases c24 : an_ (M 1000 i) 31 = 24
      · rw [if_pos c24]; exact lw_24 h hL hV hW K
      rw [if_neg c24]
      by_cases c25 : an_ (M 1000 i) 31 = 25
      · rw [if_pos c25]; exact lw_25 h hL hV hW K
      rw [if_neg c25]
      refine b_450_970 hV hW ?_
      rw [w32_id (by (clear hV hW hq h hl cc hn K hL c0 c1 c2 c3 c4 c5 c6 c7 c8 c9 c10 c11 c12 c13 c14 c15 c16 c17 c18 c19 c20 c21 c22 c23 c24 c25; lia)) (by omega)]
      exact K M ⟨TOP_m h.1, ⟨by (clear hV hW hq h hl cc hn K hL c0 c1 c2 c3 c4 c5 c6 c7 c8 c9 c10 c11 c12 c13 c14 c15 c16 c17 c18 c19 c20 c21 c22 c23 c24 c25; omega), by (clear hV hW hq h hn K hL c0 c1 c2 c3 c4 c5 c6 c7 c8 c9 c10 c11 c12 c13 c14 c15 c16 c17 c18 c19 c20 c21 c22 c23 c24 c25; lia), by (clear hV hW hq h hl cc hn K hL c0 c1 c2 c3 c4 c5 c6 c7 c8 c9 c10 c11 c12 c13 c14 c15 c16 c17 c18 c19 c20 c21 c22 c23 c24 c25; lia)⟩, hl, h.2.2.2⟩
    · rw [if_neg cc]; exact ⟨.inr rfl, hq M⟩
end LWa
end T457_lw

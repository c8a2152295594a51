section T411_pa
/-! the search: arrivals and timers of a state (Q 389, 390) -/
section PBa
variable {M N M' N' M1 N1 Mu N0 : mm_} {a b k n n1 B x1 x3 x4 x5 y3 y4 y5 c w i cnt : Int} {R L : List (Int × Int × Int)}
theorem p_389 [Inhabited fz_] (hx1 : x1 ≤ 200) : ∀ (j : Nat) (r n x3 x4 x5 : Int) (M N : mm_), PHA x1 k n B x3 x4 x5 M N (arL (N0 239) r j ++ R) → REF k Mu N0 M N → r + j = N0 6 18 → 0 ≤ r → PDN x1 k n B x3 x4 x5 M N R (fun N' => ∀ (V : vv_) (Qr : qr_) (Qt : qt_), Cl_ wd0 (Tr_ wd0 pg0 9) V Qr Qt m_389 → Wk_ V → Qr [] N' → V 2 [rr 6, ii k, ii r] [] N) := fun j => by
  induction j with
  | zero =>
    intro r n x3 x4 x5 M N h hf hr r0
    refine PDN_0 h (fun V Qr Qt hV hW g => b_389_2 (Tr_mono _) hV hW _ _ _ ?_)
    rw [hf.2.2.1.2 18 (by decide), if_neg (by (clear hx1 h hf r0 hV hW g; lia))]; exact g
  | succ j ih =>
    intro r n x3 x4 x5 M N h hf hr r0
    obtain ⟨hI, hcut, hk, h0, hm, hl, h7⟩ := id h
    obtain ⟨⟨hV', hP, hA⟩, ⟨hS, hb⟩, hl12, h16, h64⟩ := id hI
    have n2 := hS.2.1
    have k2 : 0 ≤ k ∧ k < 200 := by omega
    have h18 := hf.1.1.2.1.1
    have e18 : N 6 18 = N0 6 18 := hf.2.2.1.2 18 (by decide)
    have hR : sR r = 674 + 43 * r := rfl
    have ef := hf.2.1 (sR r) (by (clear hx1 ih h hf hI hcut hk h0 hm hl h7 hV' hP hA hS hb hl12 h16 h64 n2 k2 h18; lia)) (by (clear hx1 ih h hf hI hcut hk h0 hm hl h7 hV' hP hA hS hb hl12 h16 h64 n2 k2; omega))
    rw [rwk_i (by omega) (by omega)] at ef
    have wr : w32 (r + 1) = r + 1 := w32_id (by (clear hx1 ih h hf hI hcut hk h0 hm hl h7 hV' hP hA hS hb hl12 h16 h64 n2 k2 h18 hR ef; lia)) (by (clear hx1 ih h hf r0 hI hcut hk h0 hm hl h7 hV' hP hA hS hb hl12 h16 h64 n2 k2 hR ef; omega))
    have wx : w32 (w32 (1104 * k) + sR r) = 1104 * k + sR r := by rw [w32_id (x := 1104 * k) (by (clear hx1 ih h hf hr r0 hI hcut h0 hm hl h7 hV' hP hA hS hb hl12 h16 h64 n2 h18 e18 hR ef wr; lia)) (by omega), w32_id (by (clear hx1 ih h hf hI hcut h0 hm hl h7 hV' hP hA hS hb hl12 h16 h64 n2 ef; lia)) (by (clear hx1 ih h hf hI hcut h0 hm hl h7 hV' hP hA hS hb hl12 h16 h64 n2 ef; lia))]
    unfold arL at h
    by_cases c0 : N0 239 (sR r) = 0
    · rw [if_pos c0] at h
      refine PDN_s RC_rf KMV_rf (Int.le_refl _) (ih (r + 1) n x3 x4 x5 M N h hf (by (clear hx1 ih hf r0 hI hcut hk h0 hm hl h7 hV' hP hA hS hb hl12 h16 h64 n2 k2 h18 e18 hR ef wr wx h c0; lia)) (by (clear hx1 ih hf hI hcut hk h0 hm hl h7 hV' hP hA hS hb hl12 h16 h64 n2 k2 h18 hR ef wx h c0; lia))) (fun N' hq V Qr Qt hV hW g => b_389_2 (Tr_mono _) hV hW _ _ _ ?_)
      rw [e18, if_pos (by (clear hx1 ih hf r0 hI hcut hk h0 hm hl h7 hV' hP hA hS hb hl12 h16 h64 n2 k2 h18 hR ef wx h c0 hq hV hW g; omega)), if_pos hcut.2]
      refine fun _ => Ex_le (d := 1) (by decide) (q_327 (by (clear hx1 ih hf hI hcut hk h0 hm hl h7 hV' hP hA hS hb hl12 h16 h64 n2 k2 hR ef wx h c0 hq hV hW g; lia))) _ _ (ri_i ?_)
      rw [wx, ← ef, if_pos c0, wr]; exact ⟨by (clear hx1 ih hf hI hcut h0 hm hl h7 hV' hP hA hS hb hl12 h16 h64 n2 ef wx h c0 hq hV hW g; lia), hq V Qr Qt hV hW g⟩
    · rw [if_neg c0] at h
      obtain ⟨b3, m1, m2, m3⟩ := PHA_mv h
      obtain ⟨c, n', M', N', N2, y4, y5, d1, d2, d3, d4, d5, d6, d7, d8⟩ := it_mv (AQ := fun N2 => Ex_ 4 328 [.inr (.inr 6), .inl r] (trQ N k) [] N2) hI hcut hk hx1 b3 (fun M1 u ru Pz ty b8 b7 => by
        obtain ⟨t1, t2, t3, t4⟩ := tr_s (N := N) (k := k)
        have r1 := ru 0 0
        have hr2 : 0 ≤ r ∧ r < trQ N k 6 18 := by rw [t3 18 (by decide), e18]; omega
        have o := (r1.2.1.2.1 r hr2.1 hr2.2).1
        have o3 : trQ N k 239 (sR r) = p37 M1 0 0 21 r := o.2.2
        rw [t4 _ (by (clear hx1 ih hf hI hcut hk h0 hm hl h7 hV' hP hA hS hb hl12 h16 h64 n2 k2 h18 ef wx h c0 b3 m1 m2 m3 u ru Pz ty b8 b7 t1 t2 t3 t4 r1 hr2 o o3; lia)) (by (clear hx1 ih hf r0 hI hcut hk h0 hm hl h7 hV' hP hA hS hb hl12 h16 h64 n2 k2 ef wx h c0 b3 m1 m2 m3 u ru Pz ty b8 b7 t1 t2 t3 t4 r1 hr2 o o3; lia)), ← hf.2.1 (sR r) (by omega) (by omega)] at o3
        have h1 : 0 < p37 M1 0 0 21 r := by (clear hx1 ih hf hr r0 hI hcut hk h0 hm hl h7 hV' hP hA hS hb hl12 h16 h64 n2 k2 h18 e18 hR wr wx h b3 m1 m2 m3 u ru Pz ty b8 b7 t1 t2 t3 t4 r1 hr2; lia)
        refine ⟨lX (p37 M1 0 0) r, lQ (trQ N k) r, fun Qr Qt g => t_45 fun V hV hW => b_45_0 (Tr_mono _) hV hW _ _ ⟨by (clear hx1 ih hf hr r0 hI hcut hk hm hV' hP hA hS hb hl12 h64 n2 k2 h18 e18 hR ef wr wx h c0 m1 m2 m3 u ru Pz ty b8 b7 t1 t2 t3 t4 r1 hr2 o o3 h1 g hV hW; omega), ?_⟩, q_328 r1 hr2 h1, RU_l r1 hr2 h1, TYA_l r1 ty hr2 h1, ⟨XRF_l, QRF_l⟩, ?_⟩
        · have e38 : p37 M1 0 0 38 = M 38 := by rw [p37_r (by decide)]; exact u.1 38 (by decide)
          have e39 : p37 M1 0 0 39 = M 39 := by rw [p37_r (by decide)]; exact u.1 39 (by decide)
          have m1' : M 38 x3 = 1 := m1
          have m2' : M 39 x3 = r := m2
          rw [e38, e39, if_neg (by (clear hx1 ih hf hr r0 hI hcut hk h0 hm hl h7 hV' hP hA hS hb hl12 h16 h64 n2 k2 h18 e18 hR ef wr wx h c0 b3 m2 m3 u ru Pz ty b8 b7 t1 t2 t3 t4 r1 hr2 o o3 h1 g hV hW e38 e39 m1' m2'; lia)), if_pos m1', m2']
          exact ⟨by omega, Ex_le (d := 5) (by decide) (x_3 r1 hr2 h1) _ _ (rv_i g)⟩
        · rw [(KPX_l (M := p37 M1 0 0) (r := r)).2.1, p37_0 (by decide) (by decide)]; (clear hx1 ih hf hr r0 hI hcut hk h0 hm hl h7 hV' hP hA hS hb hl12 h16 h64 n2 k2 h18 e18 hR ef wr wx h c0 b3 m1 m2 m3 u ru Pz ty b8 b7 t1 t2 t3 t4 r1 hr2 o o3 h1; lia))
      have qst : ∀ (V : vv_) (Qr : qr_) (Qt : qt_), Cl_ wd0 (Tr_ wd0 pg0 9) V Qr Qt m_389 → Wk_ V → V 2 [rr 6, ii k, ii (r + 1)] [] N' → V 2 [rr 6, ii k, ii r] [] N := fun V Qr Qt hV hW g => b_389_2 (Tr_mono _) hV hW _ _ _ (by
        rw [e18, if_pos (by (clear hx1 ih hf r0 hI hcut hk h0 hm hl h7 hV' hP hA hS hb hl12 h16 h64 n2 k2 h18 hR ef wx h c0 b3 m1 m2 m3 d1 d2 d3 d4 d5 d6 d7 d8 hV hW g; omega)), if_pos hcut.2]
        refine fun _ => Ex_le (d := 1) (by decide) (q_327 (by (clear hx1 ih hf hI hcut hk h0 hm hl h7 hV' hP hA hS hb hl12 h16 h64 n2 k2 hR ef wx h c0 b3 m1 m2 m3 d1 d2 d3 d4 d5 d6 d7 d8 hV hW g; omega))) _ _ (ri_i ?_)
        rw [wx, ← ef, if_neg c0, wr]
        exact ⟨by (clear hx1 ih hf hI hcut h0 hm hl h7 hV' hP hA hS hb hl12 h16 h64 n2 ef wx h c0 b3 m1 m2 m3 d1 d2 d3 d4 d5 d6 d7 d8 hV hW g; lia), Ex_le (d := 2) (by decide) (q_385 k2) _ _ (rv_i (Ex_le (d := 4) (by decide) d2 _ _ (rv_i (Ex_le (d := 3) (by decide) d3 _ _ (rv_i g)))))⟩)
      rcases d1 with e | e
      · subst e
        rw [if_pos rfl] at d4; rw [if_pos rfl] at d4 d5
        exact PDN_s d4 d8 d7 (ih (r + 1) n' (x3 + 1) y4 y5 M' N' (PHA_n h d5 d6 d7 d8) (REF_k hf d8 hk) (by (clear hx1 ih hf r0 hI hcut hk h0 hm hl h7 hV' hP hA hS hb hl12 h16 h64 n2 k2 h18 e18 hR ef wr wx h c0 b3 m1 m2 m3 d2 d3 d7 d8 qst d4 d5 d6; lia)) (by (clear hx1 ih hf hI hcut hk h0 hm hl h7 hV' hP hA hS hb hl12 h16 h64 n2 k2 h18 hR ef wx h c0 b3 m1 m2 m3 d2 d3 d7 d8 qst d4 d5 d6; lia))) (fun N'' hq V Qr Qt hV hW g => qst V Qr Qt hV hW (hq V Qr Qt hV hW g))
      · subst e
        rw [if_neg (by decide)] at d4; rw [if_neg (by decide)] at d4 d5
        refine PDN_c d4 d5 d6 d7 d8 (fun V Qr Qt hV hW g => qst V Qr Qt hV hW (b_389_2 (Tr_mono _) hV hW _ _ _ ?_))
        by_cases ce : r + 1 < N' 6 18
        · rw [if_pos ce, d6.2, if_neg (by decide)]; exact fun _ => g
        · rw [if_neg ce]; exact g
/-- Q, when it was cut -/
theorem c_389 [Inhabited fz_] (hN : N 6 169 = 1) {V : vv_} {Qr : qr_} {Qt : qt_} (hV : Cl_ wd0 (Tr_ wd0 pg0 9) V Qr Qt m_389) (hW : Wk_ V) (g : Qr [] N) : V 2 [rr 6, ii k, ii 0] [] N := b_389_2 (Tr_mono _) hV hW _ _ _ (by
  by_cases ce : 0 < N 6 18
  · rw [if_pos ce, hN, if_neg (by decide)]; exact fun _ => g
  · rw [if_neg ce]; exact g)
theorem c_390 [Inhabited fz_] (hN : N 6 169 = 1) (hc : cnt ≤ 12) {V : vv_} {Qr : qr_} {Qt : qt_} (hV : Cl_ wd0 (Tr_ wd0 pg0 9) V Qr Qt m_390) (hW : Wk_ V) (g : Qr [] N) : ∀ (j : Nat) (i : Int), i + j = cnt → 0 ≤ i → V 13 [rr 6, ii k, ii cnt, ii i, none] [] N := fun j => by
  induction j with
  | zero => intro i hi i0; refine b_390_13 (Tr_mono _) hV hW _ _ _ _ ?_; rw [if_neg (by omega)]; exact g
  | succ j ih =>
    intro i hi i0
    refine b_390_13 (Tr_mono _) hV hW _ _ _ _ ?_
    rw [if_pos (by omega)]
    refine b_390_21 (Tr_mono _) hV hW _ _ _ _ _ ?_
    rw [if_pos (by decide), hN, if_neg (by decide), w32_id (x := i + 1) (by omega) (by omega)]
    exact fun _ => ih (i + 1) (by omega) (by omega)
theorem c_391 [Inhabited fz_] (hN : N 6 169 = 1) (hc : cnt ≤ 12) {V : vv_} {Qr : qr_} {Qt : qt_} (hV : Cl_ wd0 (Tr_ wd0 pg0 9) V Qr Qt m_391) (hW : Wk_ V) (g : Qr [] N) : ∀ (j : Nat) (i : Int), i + j = cnt → 0 ≤ i → V 13 [rr 6, ii k, ii cnt, ii i, none, none, none] [] N := fun j => by
  induction j with
  | zero => intro i hi i0; refine b_391_13 (Tr_mono _) hV hW _ _ _ _ ?_; rw [if_neg (by omega)]; exact g
  | succ j ih =>
    intro i hi i0
    refine b_391_13 (Tr_mono _) hV hW _ _ _ _ ?_
    rw [if_pos (by omega)]
    refine b_391_24 (Tr_mono _) hV hW _ _ _ _ _ _ ?_
    rw [if_neg (by decide), hN, if_neg (by decide), w32_id (x := i + 1) (by omega) (by omega)]
    exact fun _ => ih (i + 1) (by omega) (by omega)
/-- timers -/
def en_390 (V : vv_) (k cnt kk : Int) (N : mm_) : Prop := if kk % 3 = 0 then V 13 [rr 6, ii k, ii cnt, ii (kk / 3), none] [] N else V 21 [rr 6, ii k, ii cnt, ii (kk / 3), ii (kk % 3)] [] N
theorem p_390 [Inhabited fz_] (hx1 : x1 ≤ 200) (hcn : 0 ≤ cnt ∧ cnt ≤ 12) : ∀ (j : Nat) (kk n x3 x4 x5 : Int) (M N : mm_), PHA x1 k n B x3 x4 x5 M N (tmL (N0 239) kk j ++ R) → REF k Mu N0 M N → kk + j = 3 * cnt → 0 ≤ kk → Mu 0 7 = cnt → PDN x1 k n B x3 x4 x5 M N R (fun N' => ∀ (V : vv_) (Qr : qr_) (Qt : qt_), Cl_ wd0 (Tr_ wd0 pg0 9) V Qr Qt m_390 → Wk_ V → Qr [] N' → en_390 V k cnt kk N) := fun j => by
  induction j with
  | zero =>
    intro kk n x3 x4 x5 M N h hf hr r0 h7u
    refine PDN_0 h (fun V Qr Qt hV hW g => ?_)
    unfold en_390
    rw [if_pos (by (clear hx1 hcn h hf r0 hV hW g; lia))]
    refine b_390_13 (Tr_mono _) hV hW _ _ _ _ ?_
    rw [if_neg (by omega)]; exact g
  | succ j ih =>
    intro kk n x3 x4 x5 M N h hf hr r0 h7u
    obtain ⟨hI, hcut, hk, h0, hm, hl, h7⟩ := id h
    obtain ⟨⟨hV', hP, hA⟩, ⟨hS, hb⟩, hl12, h16, h64⟩ := id hI
    have n2 := hS.2.1
    have k2 : 0 ≤ k ∧ k < 200 := by omega
    generalize hi : kk / 3 = i
    generalize ht : kk % 3 = t
    have ekk : kk = 3 * i + t := by (clear hx1 hcn ih h hf r0 hI hcut hk h0 hm hl h7 hV' hP hA hS hb hl12 h16 h64 n2 k2; lia)
    have t3 : 0 ≤ t ∧ t < 3 := by (clear hx1 hcn ih h hf r0 hI hcut hk h0 hm hl h7 hV' hP hA hS hb hl12 h16 h64 n2 k2 ekk; lia)
    have hB : sB i = 2 + 56 * i := rfl
    have ef := hf.2.1 (sB i + 22 + t) (by (clear hx1 ih h hf hI hcut hk h0 hm hl h7 hV' hP hA hS hb hl12 h16 h64 n2 k2 ekk t3; lia)) (by (clear hx1 ih h hf hI hcut hk h0 hm hl h7 hV' hP hA hS hb hl12 h16 h64 n2 k2 ekk t3; lia))
    rw [rwk_i (by omega) (by omega)] at ef
    have wt : w32 (t + 1) = t + 1 := w32_id (by (clear hx1 hcn ih h hf r0 hI hcut hk h0 hm hl h7 hV' hP hA hS hb hl12 h16 h64 n2 k2 ekk t3 hB ef; lia)) (by omega)
    have wx : w32 (w32 (w32 (w32 (1104 * k) + sB i) + 22) + t) = 1104 * k + (sB i + 22 + t) := by
      rw [w32_id (x := 1104 * k) (by (clear hx1 hcn ih h hf hr r0 h7u hI hcut h0 hm hl h7 hV' hP hA hS hb hl12 h16 h64 n2 hi ht ekk t3 hB ef wt; lia)) (by (clear hx1 hcn ih h hf hr r0 h7u hI hcut h0 hm hl h7 hV' hP hA hS hb hl12 h16 h64 n2 hi ht ekk t3 hB ef wt; lia)), w32_id (x := 1104 * k + sB i) (by (clear hx1 ih h hf hI hcut h0 hm hl h7 hV' hP hA hS hb hl12 h16 h64 n2 ekk t3 ef; lia)) (by (clear hx1 ih h hf hI hcut h0 hm hl h7 hV' hP hA hS hb hl12 h16 h64 n2 ekk t3 ef; lia)), w32_id (x := 1104 * k + sB i + 22) (by (clear hx1 ih h hf hI hcut h0 hm hl h7 hV' hP hA hS hb hl12 h16 h64 n2 ekk t3 ef; lia)) (by (clear hx1 ih h hf hI hcut h0 hm hl h7 hV' hP hA hS hb hl12 h16 h64 n2 ekk t3 ef; lia)), w32_id (by (clear hx1 ih h hf hI hcut h0 hm hl h7 hV' hP hA hS hb hl12 h16 h64 n2 ekk t3 ef; lia)) (by (clear hx1 ih h hf hI hcut h0 hm hl h7 hV' hP hA hS hb hl12 h16 h64 n2 ekk t3 ef; lia))]; (clear hx1 hcn ih h hf hr r0 h7u hI hcut hk h0 hm hl h7 hV' hP hA hS hb hl12 h16 h64 n2 k2 hi ht ekk t3 hB ef wt; lia)
    -- at the timer
    have to21 : ∀ (V : vv_) (Qr : qr_) (Qt : qt_), Cl_ wd0 (Tr_ wd0 pg0 9) V Qr Qt m_390 → Wk_ V → V 21 [rr 6, ii k, ii cnt, ii i, ii t] [] N → en_390 V k cnt kk N := fun V Qr Qt hV hW g => by
      unfold en_390
      rw [hi, ht]
      by_cases c : t = 0
      · rw [if_pos c]
        refine b_390_13 (Tr_mono _) hV hW _ _ _ _ ?_
        rw [if_pos (by (clear hx1 hcn ih h hf r0 hI hcut hk h0 hm hl h7 hV' hP hA hS hb hl12 h16 h64 n2 k2 ekk t3 ef hV hW g; lia)), ← c]; exact g
      · rw [if_neg c]; exact g
    have nx : ∀ (A : mm_) (V : vv_) (Qr : qr_) (Qt : qt_), Cl_ wd0 (Tr_ wd0 pg0 9) V Qr Qt m_390 → Wk_ V → en_390 V k cnt (kk + 1) A → V 21 [rr 6, ii k, ii cnt, ii i, ii (t + 1)] [] A := fun A V Qr Qt hV hW g => by
      unfold en_390 at g
      by_cases c : t = 2
      · rw [if_pos (by (clear hx1 hcn ih h hf r0 hI hcut hk h0 hm hl h7 hV' hP hA hS hb hl12 h16 h64 n2 k2 ekk t3 ef to21 hV hW g; lia)), show (kk + 1) / 3 = i + 1 by (clear hx1 hcn ih h hf r0 hI hcut hk h0 hm hl h7 hV' hP hA hS hb hl12 h16 h64 n2 k2 ekk t3 ef to21 hV hW g; lia)] at g
        refine b_390_21 (Tr_mono _) hV hW _ _ _ _ _ ?_
        rw [if_neg (by (clear hx1 hcn ih h hf hr r0 h7u hI hcut hk h0 hm hl h7 hV' hP hA hS hb hl12 h16 h64 n2 k2 hi ht ekk t3 ef to21 hV hW g; lia)), w32_id (x := i + 1) (by (clear hx1 ih h hf hI hcut hk h0 hm hl h7 hV' hP hA hS hb hl12 h16 h64 n2 k2 ekk t3 ef to21 hV hW g; lia)) (by (clear hx1 ih h hf hI hcut hk h0 hm hl h7 hV' hP hA hS hb hl12 h16 h64 n2 k2 ekk t3 ef to21 hV hW g; lia))]; exact g
      · rw [if_neg (by (clear hx1 hcn ih h hf r0 hI hcut hk h0 hm hl h7 hV' hP hA hS hb hl12 h16 h64 n2 k2 ekk t3 ef to21 hV hW g; lia)), show (kk + 1) / 3 = i by (clear hx1 hcn ih h hf r0 hI hcut hk h0 hm hl h7 hV' hP hA hS hb hl12 h16 h64 n2 k2 ekk t3 ef to21 hV hW g; lia), show (kk + 1) % 3 = t + 1 by (clear hx1 hcn ih h hf r0 hI hcut hk h0 hm hl h7 hV' hP hA hS hb hl12 h16 h64 n2 k2 ekk t3 ef to21 hV hW g; lia)] at g
        exact g
    unfold tmL at h
    rw [hi, ht] at h
    by_cases c0 : N0 239 (sB i + 22 + t) < 0
    · rw [if_pos c0] at h
      refine PDN_s RC_rf KMV_rf (Int.le_refl _) (ih (kk + 1) n x3 x4 x5 M N h hf (by (clear hx1 hcn ih hf r0 h7u hI hcut hk h0 hm hl h7 hV' hP hA hS hb hl12 h16 h64 n2 k2 hi ht ekk t3 hB ef wt wx to21 nx h c0; lia)) (by (clear hx1 hcn ih hf hI hcut hk h0 hm hl h7 hV' hP hA hS hb hl12 h16 h64 n2 k2 ekk t3 ef to21 nx h c0; lia)) h7u) (fun N' hq V Qr Qt hV hW g => to21 V Qr Qt hV hW (b_390_21 (Tr_mono _) hV hW _ _ _ _ _ ?_))
      rw [if_pos t3.2, if_pos hcut.2]
      refine fun _ => Ex_le (d := 1) (by decide) (q_323 (by (clear hx1 ih hf hI hcut hk h0 hm hl h7 hV' hP hA hS hb hl12 h16 h64 n2 k2 ekk t3 ef to21 nx h c0 hq hV hW g; lia))) _ _ (ri_i ?_)
      rw [wx, ← ef, if_pos c0, wt]; exact ⟨by (clear hx1 ih hf hI hcut h0 hm hl h7 hV' hP hA hS hb hl12 h16 h64 n2 ekk t3 ef to21 nx h c0 hq hV hW g; lia), nx N V Qr Qt hV hW (hq V Qr Qt hV hW g)⟩
    · rw [if_neg c0] at h
      obtain ⟨b3, m1, m2, m3⟩ := PHA_mv h
      obtain ⟨c, n', M', N', N2, y4, y5, d1, d2, d3, d4, d5, d6, d7, d8⟩ := it_mv (AQ := fun N2 => Ex_ 3 334 [.inr (.inr 6), .inl i, .inl t] (trQ N k) [] N2) hI hcut hk hx1 b3 (fun M1 u ru Pz ty b8 b7 => by
        have r1 := ru 0 0
        have e07 := hf.1.1.1.1.2.2
        have hk2 : 0 ≤ i ∧ i < p37 M1 0 0 0 7 := by
          rw [p37_0 (by decide) (by decide), b7, ← hf.2.1 0 (by decide) (by decide)]; (clear hx1 hcn ih hf hI hcut hk h0 hm hl h7 hV' hP hA hS hb hl12 h16 h64 n2 k2 ekk t3 ef to21 nx h c0 b3 m1 m2 m3 u ru Pz ty b8 b7 r1; lia)
        refine ⟨rgX (p37 M1 0 0) i t, rgQ (trQ N k) i t, fun Qr Qt g => t_45 fun V hV hW => b_45_0 (Tr_mono _) hV hW _ _ ⟨by (clear hx1 hcn ih hf hr r0 h7u hI hcut hk hm hV' hP hA hS hb hl12 h64 n2 k2 hi ht ekk t3 hB ef wt wx to21 nx h c0 m1 m2 m3 u ru Pz ty b8 b7 r1 e07 hk2 g hV hW; omega), ?_⟩, q_334 r1 hk2 t3, RU_rg r1 hk2 t3, TYA_rg r1 ty hk2 t3, ⟨XRF_rg, QRF_rg⟩, ?_⟩
        · have e38 : p37 M1 0 0 38 = M 38 := by rw [p37_r (by decide)]; exact u.1 38 (by decide)
          have e39 : p37 M1 0 0 39 = M 39 := by rw [p37_r (by decide)]; exact u.1 39 (by decide)
          have e40 : p37 M1 0 0 40 = M 40 := by rw [p37_r (by decide)]; exact u.1 40 (by decide)
          have m1' : M 38 x3 = 2 := m1
          have m2' : M 39 x3 = i := m2
          have m3' : M 40 x3 = t := m3
          rw [e38, e39, e40, if_neg (by (clear hx1 hcn ih hf hr r0 h7u hI hcut hk h0 hm hl h7 hV' hP hA hS hb hl12 h16 h64 n2 k2 hi ht ekk t3 hB ef wt wx to21 nx h c0 b3 m2 m3 u ru Pz ty b8 b7 r1 e07 hk2 g hV hW e38 e39 e40 m1' m2' m3'; lia)), if_neg (by (clear hx1 hcn ih hf hr r0 h7u hI hcut hk h0 hm hl h7 hV' hP hA hS hb hl12 h16 h64 n2 k2 hi ht ekk t3 hB ef wt wx to21 nx h c0 b3 m2 m3 u ru Pz ty b8 b7 r1 e07 hk2 g hV hW e38 e39 e40 m1' m2' m3'; omega)), if_pos m1', m2', m3']
          exact ⟨by omega, by omega, Ex_le (d := 4) (by decide) (x_10 r1 hk2 t3) _ _ (rv_i g)⟩
        · rw [(rgX_s (M := p37 M1 0 0) (k := i) (t := t)).2.2, p37_0 (by decide) (by decide)]; (clear hx1 hcn ih hf hr r0 h7u hI hcut hk h0 hm hl h7 hV' hP hA hS hb hl12 h16 h64 n2 k2 hi ht ekk t3 hB ef wt wx to21 nx h c0 b3 m1 m2 m3 u ru Pz ty b8 b7 r1 e07 hk2; lia))
      have qst : ∀ (V : vv_) (Qr : qr_) (Qt : qt_), Cl_ wd0 (Tr_ wd0 pg0 9) V Qr Qt m_390 → Wk_ V → en_390 V k cnt (kk + 1) N' → en_390 V k cnt kk N := fun V Qr Qt hV hW g => to21 V Qr Qt hV hW (b_390_21 (Tr_mono _) hV hW _ _ _ _ _ (by
        rw [if_pos t3.2, if_pos hcut.2]
        refine fun _ => Ex_le (d := 1) (by decide) (q_323 (by (clear hx1 ih hf hI hcut hk h0 hm hl h7 hV' hP hA hS hb hl12 h16 h64 n2 k2 ekk t3 ef to21 nx h c0 b3 m1 m2 m3 d1 d2 d3 d4 d5 d6 d7 d8 hV hW g; lia))) _ _ (ri_i ?_)
        rw [wx, ← ef, if_neg c0, wt]
        exact ⟨by (clear hx1 ih hf hI hcut h0 hm hl h7 hV' hP hA hS hb hl12 h16 h64 n2 ekk t3 ef to21 nx h c0 b3 m1 m2 m3 d1 d2 d3 d4 d5 d6 d7 d8 hV hW g; lia), Ex_le (d := 2) (by decide) (q_385 k2) _ _ (rv_i (Ex_le (d := 3) (by decide) d2 _ _ (rv_i (Ex_le (d := 3) (by decide) d3 _ _ (rv_i (nx N' V Qr Qt hV hW g))))))⟩))
      rcases d1 with e | e
      · subst e
        rw [if_pos rfl] at d4; rw [if_pos rfl] at d4 d5
        exact PDN_s d4 d8 d7 (ih (kk + 1) n' (x3 + 1) y4 y5 M' N' (PHA_n h d5 d6 d7 d8) (REF_k hf d8 hk) (by (clear hx1 hcn ih hf r0 h7u hI hcut hk h0 hm hl h7 hV' hP hA hS hb hl12 h16 h64 n2 k2 hi ht ekk t3 hB ef wt wx to21 nx h c0 b3 m1 m2 m3 d2 d3 d7 d8 qst d4 d5 d6; lia)) (by (clear hx1 hcn ih hf hI hcut hk h0 hm hl h7 hV' hP hA hS hb hl12 h16 h64 n2 k2 ekk t3 ef to21 nx h c0 b3 m1 m2 m3 d2 d3 d7 d8 qst d4 d5 d6; lia)) h7u) (fun N'' hq V Qr Qt hV hW g => qst V Qr Qt hV hW (hq V Qr Qt hV hW g))
      · subst e
        rw [if_neg (by decide)] at d4; rw [if_neg (by decide)] at d4 d5
        refine PDN_c d4 d5 d6 d7 d8 (fun V Qr Qt hV hW g => qst V Qr Qt hV hW ?_)
        unfold en_390
        by_cases c3 : (kk + 1) % 3 = 0
        · rw [if_pos c3]
          exact c_390 d6.2 hcn.2 hV hW g (cnt - (kk + 1) / 3).toNat _ (by (clear hx1 hcn ih hf r0 hI hcut hk h0 hm hl h7 hV' hP hA hS hb hl12 h16 h64 n2 k2 ekk t3 ef to21 nx h c0 b3 m1 m2 m3 d2 d3 d7 d8 qst d4 d5 d6 hV hW g; lia)) (by (clear hx1 hcn ih hf hI hcut hk h0 hm hl h7 hV' hP hA hS hb hl12 h16 h64 n2 k2 ekk t3 ef to21 nx h c0 b3 m1 m2 m3 d2 d3 d7 d8 qst d4 d5 d6 hV hW g; lia))
        · rw [if_neg c3]
          refine b_390_21 (Tr_mono _) hV hW _ _ _ _ _ ?_
          rw [if_pos (by (clear hx1 hcn ih hf r0 hI hcut hk h0 hm hl h7 hV' hP hA hS hb hl12 h16 h64 n2 k2 ekk t3 ef to21 nx h c0 b3 m1 m2 m3 d2 d3 d7 d8 qst d4 d5 d6 hV hW g c3; lia)), d6.2, if_neg (by decide), w32_id (x := (kk + 1) / 3 + 1) (by (clear hx1 ih hf hI hcut hk h0 hm hl h7 hV' hP hA hS hb hl12 h16 h64 n2 k2 ekk t3 ef to21 nx h c0 b3 m1 m2 m3 d2 d3 d7 d8 qst d4 d5 d6 hV hW g c3; lia)) (by (clear hx1 ih hf hI hcut hk h0 hm hl h7 hV' hP hA hS hb hl12 h16 h64 n2 k2 ekk t3 ef to21 nx h c0 b3 m1 m2 m3 d2 d3 d7 d8 qst d4 d5 d6 hV hW g c3; lia))]
          exact fun _ => c_390 d6.2 hcn.2 hV hW g (cnt - ((kk + 1) / 3 + 1)).toNat _ (by (clear hx1 hcn ih hf r0 hI hcut hk h0 hm hl h7 hV' hP hA hS hb hl12 h16 h64 n2 k2 ekk t3 ef to21 nx h c0 b3 m1 m2 m3 d2 d3 d7 d8 qst d4 d5 d6 hV hW g; lia)) (by (clear hx1 ih hf hI hcut hk h0 hm hl h7 hV' hP hA hS hb hl12 h16 h64 n2 k2 ekk t3 ef to21 nx h c0 b3 m1 m2 m3 d2 d3 d7 d8 qst d4 d5 d6 hV hW g c3; lia))
end PBa
end T411_pa
section T412_pf
/-! the search: the NONEs of a state (Q 391), all its moves -/
def nthL : List Int → Nat → Int
  | [], _ => -1
  | a :: _, 0 => a
  | _ :: L, m + 1 => nthL L m
section PFa
variable {M N M' N' M1 N1 Mu N0 : mm_} {a b k n n1 B x1 x3 x4 x5 y3 y4 y5 c w i cnt T st m : Int} {R R1 L : List (Int × Int × Int)} {QE QF : mm_ → Prop}
theorem nthL_a [Inhabited fz_] : ∀ (pre K : List Int), nthL (pre ++ K) pre.length = nthL K 0
  | [], K => rfl
  | a :: pre, K => by show nthL (pre ++ K) pre.length = _; exact nthL_a pre K
theorem q_18n [Inhabited fz_] {x2 : Int} (hx2 : 0 ≤ x2) (hi : 0 ≤ i ∧ i < 12) (hT : N 239 (sB i + 1) = T) (hst : 0 ≤ st) (h62 : N 6 62 ≤ 600) {V : vv_} {Qr : qr_} {Qt : qt_} (hV : Cl_ wd0 (Tr_ wd0 pg0 1) V Qr Qt m_364) (hW : Wk_ V) : ∀ (j : Nat) (k : Int) (l : Nat), k + j = N 6 62 → 0 ≤ k → (l : Int) < 2147483648 → Qr [.inl (nthL (frQ N T st k j) l)] N → V 18 [rr 6, ii i, ii x2, ii (l : Int), ii st, ii k] [] N := fun j => by
  have hB : sB i = 2 + 56 * i := rfl
  have ws : w32 (sB i + 1) = sB i + 1 := w32_id (by omega) (by omega)
  induction j with
  | zero =>
    intro k l hk k0 _ g
    refine b_364_18 (Tr_mono _) hV hW _ _ _ _ _ _ ?_
    rw [if_neg (by (clear hx2 hi hT hst h62 hV hW hB ws k0 g; omega))]; exact g
  | succ j ih =>
    intro k l hk k0 hl g
    have wk : w32 (k + 1) = k + 1 := w32_id (by (clear hx2 hi hT hst h62 hV hW hB ws ih hk hl g; lia)) (by omega)
    refine b_364_18 (Tr_mono _) hV hW _ _ _ _ _ _ ?_
    rw [if_pos (by (clear hx2 hi hT hst h62 hV hW hB ws ih k0 hl g wk; omega)), if_neg (by (clear hx2 hi hT h62 hV hW hB ws ih hk k0 hl g wk; lia)), if_neg (by omega)]
    refine ⟨by (clear hx2 hi hT hst hV hW hB ws ih hl g; omega), Ex_le (d := 1) (by decide) (q_323 (by omega)) _ _ (ri_i ?_)⟩
    rw [ws, hT]
    refine ⟨by (clear hx2 hT hst h62 hV hW ws ih hk k0 hl g wk; omega), ?_⟩
    unfold frQ at g
    by_cases c1 : N 192 k = T
    · rw [if_pos c1]
      refine ⟨by omega, ?_⟩
      by_cases c2 : N 193 k = 3
      · rw [if_pos c2]
        refine ⟨by omega, ?_⟩
        by_cases c3 : an_ (sr_ (N 194 k) st) 1 = 0
        · rw [if_neg (fun e => e.2 c3)] at g
          rw [if_pos c3, wk]; exact ih (k + 1) l (by (clear hx2 hi hT hst h62 hV hW hB ws ih k0 hl wk g c1 c2 c3; lia)) (by (clear hx2 hi hT hst h62 hV hW hB ws ih hk hl g c1 c2 c3; lia)) hl g
        · rw [if_pos ⟨⟨c1, c2⟩, c3⟩] at g
          rw [if_neg c3]
          cases l with
          | zero => rw [if_pos (by (clear hx2 hi hT hst h62 hV hW hB ws ih hk k0 wk c1 c2 c3 hl g; lia))]; exact g
          | succ l =>
            rw [if_neg (by omega), wk, show ((l + 1 : Nat) : Int) + -1 = (l : Int) by omega, w32_id (x := (l : Int)) (by omega) (by omega)]
            exact ih (k + 1) l (by (clear hx2 hi hT hst h62 hV hW hB ws ih k0 wk c1 c2 c3 hl g; lia)) (by (clear hx2 hi hT hst h62 hV hW hB ws ih hk c1 c2 c3 hl g; lia)) (by omega) g
      · rw [if_neg (fun e => c2 e.1.2)] at g
        rw [if_neg c2, wk]; exact ih (k + 1) l (by omega) (by omega) hl g
    · rw [if_neg (fun e => c1 e.1.1)] at g
      rw [if_neg c1, wk]; exact ih (k + 1) l (by omega) (by omega) hl g
theorem q_364n [Inhabited fz_] (hi : 0 ≤ i ∧ i < 12) (h62 : 0 ≤ N 6 62 ∧ N 6 62 ≤ 600) {l : Nat} (hl : (l : Int) < 2147483648) : Ex_ 2 364 [.inr (.inr 6), .inl i, .inl (l : Int)] N [.inl (nthL (frS N (N 239) i) l)] N := fun Qr Qt g => t_364 fun V hV hW => b_364_0 (Tr_mono _) hV hW _ _ _ (by
  have hB : sB i = 2 + 56 * i := rfl
  refine Ex_le (d := 1) (by decide) (q_323 (by omega)) _ _ (ri_i ?_)
  rw [w32_id (x := sB i + 2) (by omega) (by omega)]
  refine ⟨by omega, ?_⟩
  unfold frS at g
  by_cases c : N 239 (sB i + 2) < 0
  · rw [if_pos c] at g
    refine b_364_18 (Tr_mono _) hV hW _ _ _ _ _ _ ?_
    by_cases c2 : 0 < N 6 62
    · rw [if_pos c2, if_pos c]; exact g
    · rw [if_neg c2]; exact g
  · rw [if_neg c] at g
    exact q_18n (by omega) hi rfl (by omega) h62.2 hV hW (N 6 62).toNat 0 l (by omega) (by decide) hl g)
theorem frQ_m [Inhabited fz_] : ∀ (j : Nat) (k q : Int), 0 ≤ k → q ∈ frQ N T st k j → (k ≤ q ∧ q < k + j) ∧ N 192 q = T ∧ N 193 q = 3
  | 0, k, q, _, h => by unfold frQ at h; exact absurd h (by simp)
  | j + 1, k, q, k0, h => by
    unfold frQ at h
    split at h
    · rename_i c
      rcases List.mem_cons.1 h with e | e
      · subst e; exact ⟨by omega, c.1.1, c.1.2⟩
      · obtain ⟨a, b⟩ := frQ_m j (k + 1) q (by omega) e
        exact ⟨by omega, b⟩
    · obtain ⟨a, b⟩ := frQ_m j (k + 1) q (by omega) h
      exact ⟨by omega, b⟩
theorem frQ_t [Inhabited fz_] (h : ∀ r : Nat, r ∈ [192, 193, 194] → N' r = N r) : ∀ (j : Nat) (k : Int), frQ N' T st k j = frQ N T st k j
  | 0, _ => rfl
  | j + 1, k => by unfold frQ; rw [h 192 (by decide), h 193 (by decide), h 194 (by decide), frQ_t h j]
theorem frS_t [Inhabited fz_] {f g : Int → Int} (h : ∀ r : Nat, r ∈ [192, 193, 194] → N' r = N r) (h62 : N' 6 62 = N 6 62) (e1 : g (sB i + 1) = f (sB i + 1)) (e2 : g (sB i + 2) = f (sB i + 2)) : frS N' g i = frS N f i := by
  unfold frS; rw [e1, e2, h62, frQ_t h]
theorem tbN_s [Inhabited fz_] (hq : QSF N N') : tbN N' = tbN N := by
  funext r
  unfold tbN
  split
  · funext i
    split
    · rename_i hi
      exact hq.2 i (fun e => by simp only [tfL, qfL, List.mem_cons, List.not_mem_nil, or_false] at hi e; omega)
    · rfl
  · split
    · exact hq.1 r (fun e => by simp only [sqA, List.mem_cons, List.not_mem_nil, or_false] at e; (clear hq; omega)) (fun e => by simp only [quL, List.mem_cons, List.not_mem_nil, or_false] at e; omega)
    · rfl
theorem PDN_b [Inhabited fz_] (h : PDN x1 k n B x3 x4 x5 M N R1 QE) (h0 : ∀ n' y3 y4 y5 M' N', PHA x1 k n' B y3 y4 y5 M' N' R1 → KMV n M N M' N' → n ≤ n' → QE N' → PDN x1 k n' B y3 y4 y5 M' N' R QF) (h1 : ∀ M' N', KMV n M N M' N' → QE N' → N' 6 169 = 1 → QF N') : PDN x1 k n B x3 x4 x5 M N R QF := by
  obtain ⟨c, n', y3, y4, y5, M', N', e1, e2, e3, e4, e5, e6, e7, e8⟩ := h
  rcases e1 with e | e
  · subst e
    rw [if_pos rfl] at e3
    exact PDN_s e3 e7 e6 (h0 n' y3 y4 y5 M' N' (e8 rfl) e7 e6 e2) (fun _ h => h)
  · subst e
    rw [if_neg (by decide)] at e3
    exact PDN_c e3 e4 e5 e6 e7 (h1 M' N' e7 e2 e5.2)
/-- the NONEs of one instance -/
theorem p_391i [Inhabited fz_] (hB : B + 40400 ≤ 2000000000) (hx1 : x1 ≤ 200) (hcn : cnt ≤ 12) (hi : 0 ≤ i ∧ i < cnt) (h7u : Mu 0 7 = cnt) : ∀ (K pre : List Int) (n x3 x4 x5 : Int) (M N : mm_), frS N0 (N0 239) i = pre ++ K → PHA x1 k n B x3 x4 x5 M N (K.map (nmv N0 i) ++ R) → REF k Mu N0 M N → PDN x1 k n B x3 x4 x5 M N R (fun N' => ∀ (V : vv_) (Qr : qr_) (Qt : qt_), Cl_ wd0 (Tr_ wd0 pg0 9) V Qr Qt m_391 → Wk_ V → V 13 [rr 6, ii k, ii cnt, ii (i + 1), none, none, none] [] N' → V 24 [rr 6, ii k, ii cnt, ii i, ii (pre.length : Int), ii 1, none] [] N) := fun K => by
  induction K with
  | nil =>
    intro pre n x3 x4 x5 M N hfr h hf
    obtain ⟨hI, hcut, hk, h0, hm, hl, h7⟩ := id h
    obtain ⟨⟨hV', hP, hA⟩, ⟨hS, hb⟩, hl12, h16, h64⟩ := id hI
    have n2 := hS.2.1
    have k2 : 0 ≤ k ∧ k < 200 := by omega
    have hB' : sB i = 2 + 56 * i := rfl
    obtain ⟨t1, t2, t3, t4⟩ := tr_s (N := N) (k := k)
    have qs := QSF_tr hf.2.2.1 t1
    have ps := ps_b hf.1.2.1
    have efr : frS (trQ N k) (trQ N k 239) i = pre ++ [] := by
      rw [← hfr]
      exact frS_t (fun r hr => qs.1 r (fun e => by revert hr e; simp only [sqA, List.mem_cons, List.not_mem_nil, or_false]; (clear hB hx1 hcn hi h7u hfr h hf hI hcut hk h0 hm hl h7 hV' hP hA hS hb hl12 h16 h64 n2 k2 hB' t1 t2 t3 t4 qs ps; omega)) (fun e => by revert hr e; simp only [quL, List.mem_cons, List.not_mem_nil, or_false]; (clear hB hx1 hcn hi h7u hfr h hf hI hcut hk h0 hm hl h7 hV' hP hA hS hb hl12 h16 h64 n2 k2 hB' t1 t2 t3 t4 qs ps; lia))) (qs.2 62 (by decide)) (by rw [t4 _ (by (clear hB hx1 hcn h7u hfr h hf hI hcut hk h0 hm hl h7 hV' hP hA hS hb hl12 h16 h64 n2 k2 t1 t2 t3 t4 qs ps; lia)) (by (clear hB hx1 hfr h hf hI hcut hk h0 hm hl h7 hV' hP hA hS hb hl12 h16 h64 n2 k2 t1 t2 t3 t4 qs ps; lia)), hf.2.1 _ (by omega) (by omega)]) (by rw [t4 _ (by (clear hB hx1 hcn h7u hfr h hf hI hcut hk h0 hm hl h7 hV' hP hA hS hb hl12 h16 h64 n2 k2 t1 t2 t3 t4 qs ps; omega)) (by (clear hB hx1 hfr h hf hI hcut hk h0 hm hl h7 hV' hP hA hS hb hl12 h16 h64 n2 k2 t1 t2 t3 t4 qs ps; omega)), hf.2.1 _ (by omega) (by omega)])
    have pl : pre.length ≤ 600 := by
      have : (frS N0 (N0 239) i).length ≤ 600 := by
        unfold frS
        split
        · decide
        · have : ∀ (j : Nat) (k : Int), (frQ N0 (N0 239 (sB i + 1)) (N0 239 (sB i + 2)) k j).length ≤ j := fun j => by
            induction j with
            | zero => intro k; unfold frQ; exact Nat.le_refl _
            | succ j ih => intro k; unfold frQ; split; rw [List.length_cons]; have := ih (k + 1); (clear hB hx1 hcn hi h7u hfr h hf hI hcut hk h0 hm hl h7 hV' hP hA hS hb hl12 h16 h64 n2 k2 hB' t1 t2 t3 t4 qs ps efr ih; omega); have := ih (k + 1); (clear hB hx1 hcn hi h7u hfr h hf hI hcut hk h0 hm hl h7 hV' hP hA hS hb hl12 h16 h64 n2 k2 hB' t1 t2 t3 t4 qs ps efr ih; omega)
          have := this (N0 6 62).toNat 0
          omega
      rw [hfr, List.append_nil] at this; exact this
    have q364 := q_364n (N := trQ N k) (i := i) (by (clear hB hx1 hfr h hf hI hcut hk h0 hm hl h7 hV' hP hA hS hb hl12 h16 h64 n2 k2 hB' t1 t2 t3 t4 qs ps efr pl; omega)) (by rw [qs.2 62 (by decide)]; exact ps.1) (l := pre.length) (by (clear hB hx1 hcn hi h7u hfr h hf hI hcut hk h0 hm hl h7 hV' hP hA hS hb hl12 h16 h64 n2 k2 hB' t1 t2 t3 t4 qs ps efr; omega))
    rw [efr, nthL_a] at q364
    obtain ⟨M1, x41, u, ru, ty, b8, b7⟩ := j_trv hV' hP hA hS hk
    have kq : KMV n M N M (trQ N k) := KMV_q t1 t2 (t3 130 (by decide))
    have I1 := ITV_q hI u (ru 0 0) (ty 0 0) t1 t2 (fun i hi => t3 i (fun c => by revert hi c; simp only [List.mem_cons, List.not_mem_nil, or_false]; (clear hB hx1 hcn hi h7u hfr h hf hI hcut hk h0 hm hl h7 hV' hP hA hS hb hl12 h16 h64 n2 k2 hB' t1 t2 t3 t4 qs ps efr pl q364 x41 u ru ty b8 b7 kq; lia)))
    have h1 : PHA x1 k n B x3 x4 x5 M (trQ N k) R := ⟨I1, ⟨hcut.1, by rw [t3 169 (by decide)]; exact hcut.2⟩, hk, h0, hm, hl, h7⟩
    refine PDN_s (QE := fun N' => N' = trQ N k) RC_rf kq (Int.le_refl _) (PDN_0 h1 rfl) (fun N' hq V Qr Qt hV hW g => b_391_24 (Tr_mono _) hV hW _ _ _ _ _ _ ?_)
    subst hq
    rw [if_neg (by decide), if_pos hcut.2]
    refine fun _ => Ex_le (d := 2) (by decide) (q_385 k2) _ _ (rv_i (Ex_le (d := 2) (by decide) q364 _ _ (ri_i ?_)))
    rw [if_pos (by decide), if_pos rfl]
    refine b_391_24 (Tr_mono _) hV hW _ _ _ _ _ _ ?_
    rw [if_pos rfl, w32_id (x := i + 1) (by omega) (by omega)]; exact g
  | cons q K ih =>
    intro pre n x3 x4 x5 M N hfr h hf
    rw [List.map_cons, List.cons_append] at h
    obtain ⟨hI, hcut, hk, h0, hm, hl, h7⟩ := id h
    obtain ⟨⟨hV', hP, hA⟩, ⟨hS, hb⟩, hl12, h16, h64⟩ := id hI
    have n2 := hS.2.1
    have k2 : 0 ≤ k ∧ k < 200 := by omega
    have hB' : sB i = 2 + 56 * i := rfl
    obtain ⟨t1, t2, t3, t4⟩ := tr_s (N := N) (k := k)
    have qs := QSF_tr hf.2.2.1 t1
    have ps := ps_b hf.1.2.1
    have qr : ∀ r : Nat, r ∈ [192, 193, 194] → trQ N k r = N0 r := fun r hr => qs.1 r (fun e => by revert hr e; simp only [sqA, List.mem_cons, List.not_mem_nil, or_false]; (clear hB hx1 hcn hi h7u ih hfr h hf hI hcut hk h0 hm hl h7 hV' hP hA hS hb hl12 h16 h64 n2 k2 hB' t1 t2 t3 t4 qs ps; omega)) (fun e => by revert hr e; simp only [quL, List.mem_cons, List.not_mem_nil, or_false]; (clear hB hx1 hcn hi h7u ih hfr h hf hI hcut hk h0 hm hl h7 hV' hP hA hS hb hl12 h16 h64 n2 k2 hB' t1 t2 t3 t4 qs ps; omega))
    have efr : frS (trQ N k) (trQ N k 239) i = pre ++ q :: K := by
      rw [← hfr]
      exact frS_t qr (qs.2 62 (by decide)) (by rw [t4 _ (by (clear hB hx1 hcn h7u ih hfr h hf hI hcut hk h0 hm hl h7 hV' hP hA hS hb hl12 h16 h64 n2 k2 t1 t2 t3 t4 qs ps qr; lia)) (by (clear hB hx1 ih hfr h hf hI hcut hk h0 hm hl h7 hV' hP hA hS hb hl12 h16 h64 n2 k2 t1 t2 t3 t4 qs ps qr; lia)), hf.2.1 _ (by omega) (by omega)]) (by rw [t4 _ (by (clear hB hx1 hcn h7u ih hfr h hf hI hcut hk h0 hm hl h7 hV' hP hA hS hb hl12 h16 h64 n2 k2 t1 t2 t3 t4 qs ps qr; lia)) (by (clear hB hx1 ih hfr h hf hI hcut hk h0 hm hl h7 hV' hP hA hS hb hl12 h16 h64 n2 k2 t1 t2 t3 t4 qs ps qr; lia)), hf.2.1 _ (by omega) (by omega)])
    have pl : pre.length ≤ 600 := by
      have : (frS N0 (N0 239) i).length ≤ 600 := by
        unfold frS
        split
        · decide
        · have : ∀ (j : Nat) (k : Int), (frQ N0 (N0 239 (sB i + 1)) (N0 239 (sB i + 2)) k j).length ≤ j := fun j => by
            induction j with
            | zero => intro k; unfold frQ; exact Nat.le_refl _
            | succ j ih => intro k; unfold frQ; split; rw [List.length_cons]; have := ih (k + 1); (clear hB hx1 hcn hi h7u hfr h hf hI hcut hk h0 hm hl h7 hV' hP hA hS hb hl12 h16 h64 n2 k2 hB' t1 t2 t3 t4 qs ps qr efr ih; omega); have := ih (k + 1); (clear hB hx1 hcn hi h7u hfr h hf hI hcut hk h0 hm hl h7 hV' hP hA hS hb hl12 h16 h64 n2 k2 hB' t1 t2 t3 t4 qs ps qr efr ih; omega)
          have := this (N0 6 62).toNat 0
          (clear hB hx1 hcn hi h7u ih hfr h hf hI hcut hk h0 hm hl h7 hV' hP hA hS hb hl12 h16 h64 n2 k2 hB' t1 t2 t3 t4 qs qr efr; omega)
      rw [hfr, List.length_append] at this; (clear hB hx1 hcn hi h7u ih hfr h hf hI hcut hk h0 hm hl h7 hV' hP hA hS hb hl12 h16 h64 n2 k2 hB' t1 t2 t3 t4 qs ps qr efr; lia)
    have mq : (0 ≤ q ∧ q < N0 6 62) ∧ N0 192 q = N0 239 (sB i + 1) ∧ N0 193 q = 3 := by
      have m : q ∈ frS N0 (N0 239) i := by rw [hfr]; simp
      unfold frS at m
      split at m
      · exact absurd m (by simp)
      · obtain ⟨c1, c2⟩ := frQ_m _ _ _ (by decide) m
        exact ⟨by (clear hB hx1 hcn hi h7u ih hfr h hf hI hcut hk h0 hm hl h7 hV' hP hA hS hb hl12 h16 h64 n2 k2 hB' t1 t2 t3 t4 qs qr efr pl m c2; omega), c2⟩
    have q364 := q_364n (N := trQ N k) (i := i) (by (clear hB hx1 ih hfr h hf hI hcut hk h0 hm hl h7 hV' hP hA hS hb hl12 h16 h64 n2 k2 hB' t1 t2 t3 t4 qs ps qr efr pl mq; lia)) (by rw [qs.2 62 (by decide)]; exact ps.1) (l := pre.length) (by (clear hB hx1 hcn hi h7u ih hfr h hf hI hcut hk h0 hm hl h7 hV' hP hA hS hb hl12 h16 h64 n2 k2 hB' t1 t2 t3 t4 qs ps qr efr mq; lia))
    rw [efr, nthL_a] at q364
    have q364' : Ex_ 2 364 [.inr (.inr 6), .inl i, .inl (pre.length : Int)] (trQ N k) [.inl q] (trQ N k) := q364
    obtain ⟨b3, m1, m2, m3⟩ := PHA_mv h
    obtain ⟨c, n', M', N', N2, y4, y5, d1, d2, d3, d4, d5, d6, d7, d8⟩ := it_mv (AQ := fun N2 => Ex_ 9 365 [.inr (.inr 6), .inl i, .inl q] (trQ N k) [] N2) hI hcut hk hx1 b3 (fun M1 u ru Pz ty b8 b7 => by
      have r1 : RU 1 (p37 M1 0 0) (trQ N k) := ru 0 0
      have e07 := hf.1.1.1.1.2.2
      have hk2 : 0 ≤ i ∧ i < p37 M1 0 0 0 7 := by
        rw [p37_0 (by decide) (by decide), b7, ← hf.2.1 0 (by decide) (by decide)]; (clear hB hx1 hcn ih hfr h hf hI hcut hk h0 hm hl h7 hV' hP hA hS hb hl12 h16 h64 n2 k2 hB' t1 t2 t3 t4 qs ps qr efr pl mq q364 q364' b3 m1 m2 m3 u ru Pz ty b8 b7 r1; omega)
      have e8 : p37 M1 0 0 0 8 = M1 0 8 := p37_0 (by decide) (by decide)
      have hin := r1.1.2.2.1 i hk2.1 hk2.2
      have i2 : p37 M1 0 0 11 i = trQ N k 239 (sB i + 1) := hin.1.2.1
      rw [t4 _ (by (clear hB hx1 hcn h7u ih hfr h hf hI hcut hk h0 hm hl h7 hV' hP hA hS hb hl12 h16 h64 n2 k2 t1 t2 t3 t4 qs ps qr efr pl mq q364 q364' b3 m1 m2 m3 u ru Pz ty b8 b7 r1 e07 hk2 e8 hin i2; lia)) (by (clear hB hx1 ih hfr h hf hI hcut hk h0 hm hl h7 hV' hP hA hS hb hl12 h16 h64 n2 k2 t1 t2 t3 t4 qs ps qr efr pl mq q364 q364' b3 m1 m2 m3 u ru Pz ty b8 b7 r1 hk2 e8 hin i2; lia)), ← hf.2.1 _ (by omega) (by omega)] at i2
      have hrow : ROWk (p37 M1 0 0) (trQ N k) q 0 (xsf (tbN N0) q.toNat) := by
        refine ⟨by rw [qs.2 62 (by decide)]; exact mq.1, ⟨by decide, ?_⟩, by rw [tbN_s qs]; (clear hB hx1 hcn hi h7u ih hfr h hf hI hcut hk h0 hm hl h7 hV' hP hA hS hb hl12 h16 h64 n2 k2 hB' t1 t2 t3 t4 qs ps qr efr pl mq q364 q364' b3 m1 m2 m3 u ru Pz ty b8 b7 r1 e07 hk2 e8 hin i2; lia)⟩
        rw [nsK_e, qr 193 (by decide), mq.2.2, if_neg (by decide)]; decide
      obtain ⟨Me, Ne, xe, qe, re, Ae, fe, c8⟩ := j_36 r1 Pz ty hk2 (by rw [e8]; (clear hx1 hcn hi h7u ih hfr h hf hI hcut h0 hm hl h7 hV' hP hA hS hb hl12 h16 h64 n2 hB' t1 t2 t3 t4 qs ps qr efr pl mq q364 q364' b3 m1 m2 m3 u ru Pz ty b7 r1 e07 hk2 hin i2 hrow; lia)) hrow (by rw [qr 193 (by decide)]; exact mq.2.2) (by rw [qr 192 (by decide), i2]; exact mq.2.1)
      refine ⟨Me, Ne, fun Qr Qt g => t_45 fun V hV hW => b_45_0 (Tr_mono _) hV hW _ _ ⟨by (clear hB hx1 hcn hi h7u ih hfr h hf hI hcut hk hm hV' hP hA hS hb hl12 h64 n2 k2 hB' t1 t2 t3 t4 qs ps qr efr pl mq q364 q364' m1 m2 m3 u ru Pz ty b8 b7 r1 e07 hk2 e8 hin i2 hrow xe qe re Ae fe c8 g hV hW; omega), ?_⟩, qe, re, Ae, fe, by rw [e8] at c8; exact c8⟩
      have e38 : p37 M1 0 0 38 = M 38 := by rw [p37_r (by decide)]; exact u.1 38 (by decide)
      have e39 : p37 M1 0 0 39 = M 39 := by rw [p37_r (by decide)]; exact u.1 39 (by decide)
      have e40 : p37 M1 0 0 40 = M 40 := by rw [p37_r (by decide)]; exact u.1 40 (by decide)
      have m1' : M 38 x3 = 3 := m1
      have m2' : M 39 x3 = i := m2
      have m3' : M 40 x3 = xsf (tbN N0) q.toNat := m3
      rw [e38, e39, e40, if_neg (by (clear hB hx1 hcn hi h7u ih hfr h hf hI hcut hk h0 hm hl h7 hV' hP hA hS hb hl12 h16 h64 n2 k2 hB' t1 t2 t3 t4 qs ps qr efr pl mq q364 q364' b3 m2 m3 u ru Pz ty b8 b7 r1 e07 hk2 e8 hin i2 hrow xe qe re Ae fe c8 g hV hW e38 e39 e40 m2' m3'; lia)), if_neg (by (clear hB hx1 hcn hi h7u ih hfr h hf hI hcut hk h0 hm hl h7 hV' hP hA hS hb hl12 h16 h64 n2 k2 hB' t1 t2 t3 t4 qs ps qr efr pl mq q364 q364' b3 m2 m3 u ru Pz ty b8 b7 r1 e07 hk2 e8 hin i2 hrow xe qe re Ae fe c8 g hV hW e38 e39 e40 m2' m3'; lia)), if_neg (by (clear hB hx1 hcn hi h7u ih hfr h hf hI hcut hk h0 hm hl h7 hV' hP hA hS hb hl12 h16 h64 n2 k2 hB' t1 t2 t3 t4 qs ps qr efr pl mq q364 q364' b3 m2 m3 u ru Pz ty b8 b7 r1 e07 hk2 e8 hin i2 hrow xe qe re Ae fe c8 g hV hW e38 e39 e40 m2' m3'; lia)), m2', m3']
      exact ⟨by omega, by omega, xe _ _ (rv_i g)⟩)
    have wl : w32 ((pre.length : Int) + 1) = (((pre ++ [q]).length : Nat) : Int) := by rw [w32_id (by (clear hB hx1 hcn hi h7u ih hfr h hf hI hcut hk h0 hm hl h7 hV' hP hA hS hb hl12 h16 h64 n2 k2 hB' t1 t2 t3 t4 qs ps qr efr mq q364 q364' b3 m1 m2 m3 d1 d2 d3 d4 d5 d6 d7 d8; lia)) (by omega), List.length_append]; rfl
    have qst : ∀ (V : vv_) (Qr : qr_) (Qt : qt_), Cl_ wd0 (Tr_ wd0 pg0 9) V Qr Qt m_391 → Wk_ V → V 24 [rr 6, ii k, ii cnt, ii i, ii ((pre ++ [q]).length : Int), ii 1, none] [] N' → V 24 [rr 6, ii k, ii cnt, ii i, ii (pre.length : Int), ii 1, none] [] N := fun V Qr Qt hV hW g => b_391_24 (Tr_mono _) hV hW _ _ _ _ _ _ (by
      rw [if_neg (by decide), if_pos hcut.2]
      refine fun _ => Ex_le (d := 2) (by decide) (q_385 k2) _ _ (rv_i (Ex_le (d := 2) (by decide) q364' _ _ (ri_i ?_)))
      rw [if_neg (by (clear hB hx1 hcn hi h7u ih hfr h hf hI hcut hk h0 hm hl h7 hV' hP hA hS hb hl12 h16 h64 n2 k2 hB' t1 t2 t3 t4 qs ps qr efr pl q364 q364' b3 m1 m2 m3 d1 d2 d3 d4 d5 d6 d7 d8 wl hV hW g; omega)), if_neg (by decide), wl]
      exact d2 _ _ (rv_i (Ex_le (d := 3) (by decide) d3 _ _ (rv_i g))))
    rcases d1 with e | e
    · subst e
      rw [if_pos rfl] at d4; rw [if_pos rfl] at d4 d5
      exact PDN_s d4 d8 d7 (ih (pre ++ [q]) n' (x3 + 1) y4 y5 M' N' (by rw [hfr, List.append_assoc]; rfl) (PHA_n h d5 d6 d7 d8) (REF_k hf d8 hk)) (fun N'' hq V Qr Qt hV hW g => qst V Qr Qt hV hW (hq V Qr Qt hV hW g))
    · subst e
      rw [if_neg (by decide)] at d4; rw [if_neg (by decide)] at d4 d5
      refine PDN_c d4 d5 d6 d7 d8 (fun V Qr Qt hV hW g => qst V Qr Qt hV hW (b_391_24 (Tr_mono _) hV hW _ _ _ _ _ _ ?_))
      rw [if_neg (by decide), d6.2, if_neg (by decide), w32_id (x := i + 1) (by (clear hB hx1 hcn h7u ih hfr h hf hI hcut hk h0 hm hl h7 hV' hP hA hS hb hl12 h16 h64 n2 k2 hB' t1 t2 t3 t4 qs ps qr efr pl mq q364 q364' b3 m1 m2 m3 d2 d3 d7 d8 wl qst d4 d5 d6 hV hW g; omega)) (by (clear hB hx1 ih hfr h hf hI hcut hk h0 hm hl h7 hV' hP hA hS hb hl12 h16 h64 n2 k2 hB' t1 t2 t3 t4 qs ps qr efr pl mq q364 q364' b3 m1 m2 m3 d2 d3 d7 d8 wl qst d4 d5 d6 hV hW g; lia))]
      exact fun _ => g
theorem p_391 [Inhabited fz_] (hB : B + 40400 ≤ 2000000000) (hx1 : x1 ≤ 200) (hcn : cnt ≤ 12) (h7u : Mu 0 7 = cnt) : ∀ (j : Nat) (i n x3 x4 x5 : Int) (M N : mm_), PHA x1 k n B x3 x4 x5 M N (frL N0 (N0 239) i j ++ R) → REF k Mu N0 M N → i + j = cnt → 0 ≤ i → PDN x1 k n B x3 x4 x5 M N R (fun N' => ∀ (V : vv_) (Qr : qr_) (Qt : qt_), Cl_ wd0 (Tr_ wd0 pg0 9) V Qr Qt m_391 → Wk_ V → Qr [] N' → V 13 [rr 6, ii k, ii cnt, ii i, none, none, none] [] N) := fun j => by
  induction j with
  | zero =>
    intro i n x3 x4 x5 M N h hf hr r0
    refine PDN_0 h (fun V Qr Qt hV hW g => b_391_13 (Tr_mono _) hV hW _ _ _ _ ?_)
    rw [if_neg (by omega)]; exact g
  | succ j ih =>
    intro i n x3 x4 x5 M N h hf hr r0
    have hk := h.2.2.1
    unfold frL at h
    rw [List.append_assoc] at h
    refine PDN_b (p_391i hB hx1 hcn (by omega) h7u (frS N0 (N0 239) i) [] n x3 x4 x5 M N rfl h hf) (fun n' y3 y4 y5 M' N' h' km hn hq => ?_) (fun M' N' km hq hc V Qr Qt hV hW g => ?_)
    · refine PDN_s RC_rf KMV_rf (Int.le_refl _) (ih (i + 1) n' y3 y4 y5 M' N' h' (REF_k hf km hk) (by (clear hB hx1 hcn ih hf r0 hk h h' km hn hq; lia)) (by (clear hB hx1 hcn h7u ih hf hr hk h h' km hn hq; omega))) (fun N'' hq2 V Qr Qt hV hW g => b_391_13 (Tr_mono _) hV hW _ _ _ _ ?_)
      rw [if_pos (by omega)]
      exact hq V Qr Qt hV hW (hq2 V Qr Qt hV hW g)
    · refine b_391_13 (Tr_mono _) hV hW _ _ _ _ ?_
      rw [if_pos (by omega)]
      exact hq V Qr Qt hV hW (c_391 hc hcn hV hW g j (i + 1) (by (clear hB hx1 hcn ih hf r0 hk h km hq hc hV hW g; lia)) (by (clear hB hx1 hcn h7u ih hf hr hk h km hq hc hV hW g; omega)))
/-- all moves of a state -/
theorem p_st [Inhabited fz_] (hB : B + 40400 ≤ 2000000000) (hx1 : x1 ≤ 200) (hcn : 0 ≤ cnt ∧ cnt ≤ 12) (h7u : Mu 0 7 = cnt) {L1 : List (Int × Int × Int)} (hL : STL N0 0 cnt.toNat L1) (h : PHA x1 k n B x3 x4 x5 M N (L1 ++ arL (N0 239) 0 (N0 6 18).toNat ++ tmL (N0 239) 0 (3 * cnt).toNat ++ frL N0 (N0 239) 0 cnt.toNat)) (hf : REF k Mu N0 M N) : PDN x1 k n B x3 x4 x5 M N [] (fun N' => ∃ Na Nb Nc, Ex_ 10 384 [.inr (.inr 6), .inl k] N [] Na ∧ Ex_ 10 389 [.inr (.inr 6), .inl k] Na [] Nb ∧ Ex_ 10 390 [.inr (.inr 6), .inl k] Nb [] Nc ∧ Ex_ 10 391 [.inr (.inr 6), .inl k] Nc [] N') := by
  have hk := h.2.2.1
  have n2 := h.1.2.1.1.2.1
  have h18 := hf.1.1.2.1.1
  have e07 := hf.1.1.1.1.2.2
  have hc0 : ∀ (N : mm_), (∀ i, 0 ≤ i → i < 1104 → N0 239 i = rwk N k i) → rwk N k 0 = cnt := fun N h => by rw [← h 0 (by decide) (by decide)]; (clear hB hx1 hcn hL hf hk n2 h18 h; omega)
  have w1 : w32 (1104 * k) = 1104 * k := w32_id (by (clear hB hx1 hcn h7u hL h hf n2 h18 e07 hc0; lia)) (by (clear hB hx1 hcn h7u hL h hf h18 e07 hc0; omega))
  have rd : ∀ (N : mm_), (∀ i, 0 ≤ i → i < 1104 → N0 239 i = rwk N k i) → N 245 (1104 * k) = cnt := fun N h => by
    have := hc0 N h
    rw [rwk_i (by decide) (by decide), Int.add_zero] at this; exact this
  rw [List.append_assoc, List.append_assoc] at h
  refine PDN_b (p_384 (cnt := cnt) hB hx1 cnt.toNat 0 n x3 x4 x5 M N L1 h hf hL (by (clear hB hx1 hL h hf hk n2 h18 hc0 w1 rd; lia)) (by decide) (hc0 N hf.2.1)) (fun n1 y3 y4 y5 Ma Na ha ka na qa => ?_) (fun Ma Na ka qa ca => ?_)
  · have fa := REF_k hf ka hk
    have Ea : Ex_ 10 384 [.inr (.inr 6), .inl k] N [] Na := fun Qr Qt g => t_384 fun V hV hW => b_384_0 (Tr_mono _) hV hW _ _ ⟨by (clear hB hx1 hcn h7u hL h hf h18 e07 hc0 rd ha ka na qa fa g hV hW; omega), by rw [w1, rd N hf.2.1]; exact qa V Qr Qt hV hW g⟩
    refine PDN_b (p_389 hx1 (N0 6 18).toNat 0 n1 y3 y4 y5 Ma Na ha fa (by (clear hB hx1 hcn h7u hL h hf hk n2 e07 hc0 w1 rd ha ka na qa fa Ea; omega)) (by decide)) (fun n2 z3 z4 z5 Mb Nb hb kb nb qb => ?_) (fun Mb Nb kb qb cb => ?_)
    · have hk1 : 0 ≤ k ∧ k < n1 := by (clear hB hx1 hcn h7u hL h hf h18 e07 hc0 w1 rd ha ka qa fa Ea hb kb nb qb; lia)
      have fb := REF_k fa kb hk1
      have Eb : Ex_ 10 389 [.inr (.inr 6), .inl k] Na [] Nb := fun Qr Qt g => t_389 fun V hV hW => b_389_0 (Tr_mono _) hV hW _ _ (qb V Qr Qt hV hW g)
      have hk2 : 0 ≤ k ∧ k < n2 := by (clear hB hx1 hcn h7u hL h hf h18 e07 hc0 w1 rd ha ka na qa fa Ea hb kb qb fb Eb; omega)
      refine PDN_b (p_390 hx1 hcn (3 * cnt).toNat 0 n2 z3 z4 z5 Mb Nb hb fb (by (clear hB hx1 hL h hf hk h18 hc0 w1 rd ha ka na qa fa Ea hb kb nb qb hk1 fb Eb hk2; lia)) (by decide) h7u) (fun n3 v3 v4 v5 Mc Nc hc kc nc qc => ?_) (fun Mc Nc kc qc cc => ?_)
      · have fc := REF_k fb kc hk2
        have Ec : Ex_ 10 390 [.inr (.inr 6), .inl k] Nb [] Nc := fun Qr Qt g => t_390 fun V hV hW => b_390_0 (Tr_mono _) hV hW _ _ ⟨by (clear hB hx1 hcn h7u hL h hf h18 e07 hc0 rd ha ka na qa fa Ea hb kb nb qb hk1 fb Eb hk2 hc kc nc qc fc g hV hW; lia), by
          rw [w1, rd Nb fb.2.1]
          have := qc V Qr Qt hV hW g
          unfold en_390 at this
          exact this⟩
        rw [← List.append_nil (frL N0 (N0 239) 0 cnt.toNat)] at hc
        refine PDN_s RC_rf KMV_rf (Int.le_refl _) (p_391 hB hx1 hcn.2 h7u cnt.toNat 0 n3 v3 v4 v5 Mc Nc hc fc (by (clear hB hx1 hL h hf hk h18 hc0 w1 rd ha ka na qa fa Ea hb kb nb qb hk1 fb Eb hk2 hc kc nc qc fc Ec; lia)) (by decide)) (fun N' hq => ⟨Na, Nb, Nc, Ea, Eb, Ec, fun Qr Qt g => t_391 fun V hV hW => b_391_0 (Tr_mono _) hV hW _ _ ⟨by omega, by rw [w1, rd Nc fc.2.1]; exact hq V Qr Qt hV hW g⟩⟩)
      · have fc := REF_k fb kc hk2
        have Ec : Ex_ 10 390 [.inr (.inr 6), .inl k] Nb [] Nc := fun Qr Qt g => t_390 fun V hV hW => b_390_0 (Tr_mono _) hV hW _ _ ⟨by (clear hB hx1 hcn h7u hL h hf h18 e07 hc0 rd ha ka na qa fa Ea hb kb nb qb hk1 fb Eb hk2 kc qc cc fc g hV hW; omega), by
          rw [w1, rd Nb fb.2.1]
          have := qc V Qr Qt hV hW g
          unfold en_390 at this
          exact this⟩
        exact ⟨Na, Nb, Nc, Ea, Eb, Ec, fun Qr Qt g => t_391 fun V hV hW => b_391_0 (Tr_mono _) hV hW _ _ ⟨by omega, by rw [w1, rd Nc fc.2.1]; exact c_391 cc hcn.2 hV hW g cnt.toNat 0 (by (clear hB hx1 hL h hf hk h18 hc0 w1 rd ha ka na qa fa Ea hb kb nb qb hk1 fb Eb hk2 kc qc cc fc Ec g hV hW; lia)) (by decide)⟩⟩
    · have hk1 : 0 ≤ k ∧ k < n1 := by (clear hB hx1 hcn h7u hL h hf n2 h18 e07 hc0 w1 rd ha ka qa fa Ea kb qb cb; omega)
      have fb := REF_k fa kb hk1
      have Eb : Ex_ 10 389 [.inr (.inr 6), .inl k] Na [] Nb := fun Qr Qt g => t_389 fun V hV hW => b_389_0 (Tr_mono _) hV hW _ _ (qb V Qr Qt hV hW g)
      exact ⟨Na, Nb, Nb, Ea, Eb, fun Qr Qt g => t_390 fun V hV hW => b_390_0 (Tr_mono _) hV hW _ _ ⟨by (clear hB hx1 hcn h7u hL h hf h18 e07 hc0 rd ha ka na qa fa Ea kb qb cb hk1 fb Eb g hV hW; lia), by rw [w1, rd Nb fb.2.1]; exact c_390 cb hcn.2 hV hW g cnt.toNat 0 (by (clear hB hx1 hL h hf hk n2 h18 hc0 w1 rd ha ka na qa fa Ea kb qb cb hk1 fb Eb g hV hW; lia)) (by decide)⟩, fun Qr Qt g => t_391 fun V hV hW => b_391_0 (Tr_mono _) hV hW _ _ ⟨by omega, by rw [w1, rd Nb fb.2.1]; exact c_391 cb hcn.2 hV hW g cnt.toNat 0 (by omega) (by decide)⟩⟩
  · have fa := REF_k hf ka hk
    have Ea : Ex_ 10 384 [.inr (.inr 6), .inl k] N [] Na := fun Qr Qt g => t_384 fun V hV hW => b_384_0 (Tr_mono _) hV hW _ _ ⟨by (clear hB hx1 hcn h7u hL h hf h18 e07 hc0 rd ka qa ca fa g hV hW; omega), by rw [w1, rd N hf.2.1]; exact qa V Qr Qt hV hW g⟩
    exact ⟨Na, Na, Na, Ea, fun Qr Qt g => t_389 fun V hV hW => b_389_0 (Tr_mono _) hV hW _ _ (c_389 ca hV hW g), fun Qr Qt g => t_390 fun V hV hW => b_390_0 (Tr_mono _) hV hW _ _ ⟨by omega, by rw [w1, rd Na fa.2.1]; exact c_390 ca hcn.2 hV hW g cnt.toNat 0 (by (clear hB hx1 hL h hf hk n2 h18 hc0 w1 rd ka qa ca fa Ea g hV hW; lia)) (by decide)⟩, fun Qr Qt g => t_391 fun V hV hW => b_391_0 (Tr_mono _) hV hW _ _ ⟨by omega, by rw [w1, rd Na fa.2.1]; exact c_391 ca hcn.2 hV hW g cnt.toNat 0 (by omega) (by decide)⟩⟩
end PFa
end T412_pf
section T413_ol
/-! the search: all states (X 37 at 156 | Q 380 at 89) -/
def KM0 (n : Int) (M N M' N' : mm_) : Prop := (XSF M M' ∧ QSF N N') ∧ M' 41 = M 41 ∧ N' 246 = N 246 ∧ (∀ j, 0 ≤ j → j < n → rwk N' j = rwk N j) ∧ (M' 0 11 = M 0 11 ∧ N' 6 130 = N 6 130)
def HDS [Inhabited fz_] (x1 n B : Int) (M N : mm_) : Prop := ITV x1 n B (N 6 166) (N 6 167) (N 6 168) M N
section OLa
variable {M N M' N' M1 N1 Mu N0 A : mm_} {a b k n n1 B x1 x3 x4 x5 y3 y4 y5 c w i cnt : Int}
theorem KM0_rf [Inhabited fz_] : KM0 n M N M N := ⟨⟨XSF_rf, QSF_rf⟩, rfl, rfl, fun _ _ _ => rfl, rfl, rfl⟩
theorem KM0_tr [Inhabited fz_] (h : KM0 n M N M1 N1) (g : KM0 n1 M1 N1 M' N') (hn : n ≤ n1) : KM0 n M N M' N' := ⟨⟨XSF_tr h.1.1 g.1.1, QSF_tr h.1.2 g.1.2⟩, g.2.1.trans h.2.1, g.2.2.1.trans h.2.2.1, fun j j0 j1 => (g.2.2.2.1 j j0 (by omega)).trans (h.2.2.2.1 j j0 j1), g.2.2.2.2.1.trans h.2.2.2.2.1, g.2.2.2.2.2.trans h.2.2.2.2.2⟩
theorem KM0_k [Inhabited fz_] (h : KMV n M N M' N') : KM0 n M N M' N' := ⟨h.1, h.2.1.1 41 (by decide), h.2.2.1, h.2.2.2.1, h.2.2.2.2⟩
theorem RVX_c [Inhabited fz_] (h : RVX M N) (h23 : M' 23 = M 23) (h24 : M' 24 = M 24) (hf : ∀ i : Int, i ∈ rfX → i ∉ [7, 8, 37, 38] → M' 0 i = M 0 i) (hq : ∀ r : Nat, r ∈ [172, 173, 174, 239, 240, 241] → N' r = N r) (h6 : ∀ i : Int, i ∈ rfQ → N' 6 i = N 6 i) : RVX M' N' := by
  obtain ⟨Mv, hr, v1, v2⟩ := h
  refine ⟨fun r => if r ∈ [10, 11, 12, 13, 14, 15, 16, 17, 18, 19, 20, 21, 22] then Mv r else if r = 0 then (fun i => if i ∈ [7, 8, 37, 38, 65] then Mv 0 i else M' 0 i) else M' r, RU_cc hr (fun r hr' => ?_) (fun i hi => ?_) hq h6, fun r hr' => ?_, fun i hi => ?_⟩
  · show (if r ∈ [10, 11, 12, 13, 14, 15, 16, 17, 18, 19, 20, 21, 22] then Mv r else if r = 0 then (fun i => if i ∈ [7, 8, 37, 38, 65] then Mv 0 i else M' 0 i) else M' r) = Mv r
    by_cases c : r ∈ [10, 11, 12, 13, 14, 15, 16, 17, 18, 19, 20, 21, 22]
    · rw [if_pos c]
    · rw [if_neg c, if_neg (fun e => by rw [e] at hr'; revert hr'; decide)]
      have : r = 23 ∨ r = 24 := by revert hr' c; simp only [List.mem_cons, List.not_mem_nil, or_false]; (clear h23 h24 hf hq h6 hr v1 v2; lia)
      rcases this with e | e
      · rw [e, h23, v1 23 (by decide)]
      · rw [e, h24, v1 24 (by decide)]
  · show (if (0 : Nat) ∈ [10, 11, 12, 13, 14, 15, 16, 17, 18, 19, 20, 21, 22] then Mv 0 else if (0 : Nat) = 0 then (fun i => if i ∈ [7, 8, 37, 38, 65] then Mv 0 i else M' 0 i) else M' 0) i = Mv 0 i
    rw [if_neg (by decide), if_pos rfl]
    by_cases c : i ∈ [7, 8, 37, 38, 65]
    · show (if i ∈ [7, 8, 37, 38, 65] then Mv 0 i else M' 0 i) = _
      rw [if_pos c]
    · show (if i ∈ [7, 8, 37, 38, 65] then Mv 0 i else M' 0 i) = _
      rw [if_neg c, hf i hi (fun e => c (by revert e; simp only [List.mem_cons, List.not_mem_nil, or_false]; (clear h23 h24 hf hq h6 hr v1 v2 hi c; lia))), v2 i c]
  · show (if r ∈ [10, 11, 12, 13, 14, 15, 16, 17, 18, 19, 20, 21, 22] then Mv r else if r = 0 then (fun i => if i ∈ [7, 8, 37, 38, 65] then Mv 0 i else M' 0 i) else M' r) = M' r
    rw [if_neg (fun e => hr' (List.mem_cons_of_mem _ e)), if_neg (fun e => hr' (by rw [e]; decide))]
  · show (if (0 : Nat) ∈ [10, 11, 12, 13, 14, 15, 16, 17, 18, 19, 20, 21, 22] then Mv 0 else if (0 : Nat) = 0 then (fun i => if i ∈ [7, 8, 37, 38, 65] then Mv 0 i else M' 0 i) else M' 0) i = M' 0 i
    rw [if_neg (by decide), if_pos rfl]
    show (if i ∈ [7, 8, 37, 38, 65] then Mv 0 i else M' 0 i) = _
    rw [if_neg (fun e => hi (by revert e; simp only [List.mem_cons, List.not_mem_nil, or_false]; (clear h23 h24 hf hq h6 hr v1 v2 hi; lia)))]
/-- one state -/
theorem o_1 [Inhabited fz_] (hB : B + 40400 ≤ 2000000000) (hx1 : x1 ≤ 200) (h : HDS x1 n B M N) (hc : CUT M N 0) (hk : 0 ≤ k ∧ k < n) : ∃ c n' M' N', (c = 0 ∨ c = 1) ∧ HDS x1 n' B M' N' ∧ CUT M' N' c ∧ n ≤ n' ∧ KM0 n M N M' N'
    ∧ (c = 0 → RC 10 m_37 156 [rr 0, ii x1, ii k, none, none, none] M 156 [rr 0, ii x1, ii (k + 1), none, none, none] M' ∧ RC 10 m_380 89 [rr 6, ii x1, ii k] N 89 [rr 6, ii x1, ii (k + 1)] N')
    ∧ (c = 1 → (∀ Me, Ex_ 2 41 [.inr (.inr 0), .inl 0] M' [] Me → RC 10 m_37 156 [rr 0, ii x1, ii k, none, none, none] M 387 [rr 0, ii x1, ii 0, none, none, none] Me) ∧ RC 10 m_380 89 [rr 6, ii x1, ii k] N 189 [rr 6, ii x1, ii 0] (up_ N' 6 127 0)) := by
  obtain ⟨⟨hV, hP, hA⟩, ⟨hS, hb⟩, ⟨hl1, hl2⟩, h16, h64⟩ := id h
  have n2 := hS.2.1
  have k2 : 0 ≤ k ∧ k < 200 := by omega
  have e62 : M 0 62 = n := hS.1.1
  have e163 : N 6 163 = n := hS.1.2
  -- X unpacks, finds
  obtain ⟨M1, x41, u, ru, ty, b8, b7⟩ := j_trv hV hP hA hS hk
  have r1 := ru (M1 0 37) (M1 0 38)
  rw [p37_s] at r1
  have t1 := ty (M1 0 37) (M1 0 38)
  generalize hN0 : q37 (wr_ N 239 (ldF (N 239) (rwk N k))) (M1 0 37) (M1 0 38) = N0 at r1 t1
  have s0 : QSF N N0 := by rw [← hN0]; exact QSF_ld
  have p1 : PLr M1 N0 := PLr_s hP (XSF_u u) s0
  have e239 : ∀ i, 0 ≤ i → i < 1104 → N0 239 i = rwk N k i := fun i i0 i1 => by rw [← hN0, q37_r (by decide), wr_same]; unfold ldF; rw [if_pos ⟨i0, i1⟩]
  obtain ⟨A, L1, x43, gm, stl, mvl, ml⟩ := x_43 r1 p1 t1
  have c12 := r1.1.1
  -- Q's counters
  generalize hNz : up_ (up_ (up_ N 6 166 0) 6 167 0) 6 168 0 = Nz
  have zr : ∀ r : Nat, r ≠ 6 → Nz r = N r := fun r c => by rw [← hNz, up_ne c, up_ne c, up_ne c]
  have z0 : ∀ i : Int, i ∉ [166, 167, 168] → Nz 6 i = N 6 i := fun i hi => by
    simp only [List.mem_cons, List.not_mem_nil, or_false, not_or] at hi
    rw [← hNz, upo hi.2.2, upo hi.2.1, upo hi.1]
  have zs : QSF N Nz := by rw [← hNz]; exact QSF_tr (QSF_tr (QSF_up (.inr (by decide)) (fun _ => by decide)) (QSF_up (.inr (by decide)) (fun _ => by decide))) (QSF_up (.inr (by decide)) (fun _ => by decide))
  have zw : rwk Nz k = rwk N k := by unfold rwk; rw [zr 245 (by decide)]
  have axs : XSF M A := XSF_tr (XSF_u u) (XSF_gm gm)
  have ar : ∀ r : Nat, r ∈ [23, 24, 27, 28, 29, 30, 31, 32, 33, 34, 35, 36, 37, 41] → A r = M r := fun r hr => by rw [gm.1 r (fun e => by revert hr e; simp only [List.mem_cons, List.not_mem_nil, or_false]; (clear hB hx1 h hc hk hV hP hA hS hb hl1 hl2 h16 h64 n2 k2 e62 e163 x41 u ru ty b8 b7 hN0 r1 t1 s0 p1 e239 x43 gm stl mvl ml c12 hNz zr z0 zs zw axs; omega)), u.1 r (fun e => by revert hr e; simp only [List.mem_cons, List.not_mem_nil, or_false]; (clear hB hx1 h hc hk hV hP hA hS hb hl1 hl2 h16 h64 n2 k2 e62 e163 x41 u ru ty b8 b7 hN0 r1 t1 s0 p1 e239 x43 gm stl mvl ml c12 hNz zr z0 zs zw axs; omega))]
  have a0 : ∀ i : Int, i ∈ 11 :: 62 :: 63 :: 64 :: rfX → i ∉ [7, 8] → A 0 i = M 0 i := fun i hi h' => by rw [gm.2 i (fun e => by revert hi e; simp only [rfX, List.mem_cons, List.not_mem_nil, or_false]; (clear hB hx1 h hc hk hV hP hA hS hb hl1 hl2 h16 h64 n2 k2 e62 e163 x41 u ru ty b8 b7 hN0 r1 t1 s0 p1 e239 x43 gm stl mvl ml c12 hNz zr z0 zs zw axs ar h'; omega)), u.2 i (fun e => by revert hi h' e; simp only [rfX, List.mem_cons, List.not_mem_nil, or_false]; omega)]
  have IA : ITV x1 n B 0 0 0 A Nz := by
    refine ⟨⟨RVX_c hV (ar 23 (by decide)) (ar 24 (by decide)) (fun i hi h' => a0 i (by revert hi; simp only [List.mem_cons]; intro hi; exact .inr (.inr (.inr (.inr hi)))) (fun e => h' (by revert e; simp only [List.mem_cons, List.not_mem_nil, or_false]; (clear hB hx1 h hc hk hV hP hA hS hb hl1 hl2 h16 h64 n2 k2 e62 e163 x41 u ru ty b8 b7 hN0 r1 t1 s0 p1 e239 x43 gm stl mvl ml c12 hNz zr z0 zs zw axs ar a0 hi h'; lia)))) (fun r hr => zr r (fun c => by rw [c] at hr; revert hr; decide)) (fun i hi => z0 i (fun c => by revert hi c; simp only [rfQ, List.mem_cons, List.not_mem_nil, or_false]; (clear hB hx1 h hc hk hV hP hA hS hb hl1 hl2 h16 h64 n2 k2 e62 e163 x41 u ru ty b8 b7 hN0 r1 t1 s0 p1 e239 x43 gm stl mvl ml c12 hNz zr z0 zs zw axs ar a0; omega))), PLr_s hP axs zs, TYA_c hA (TYT_s zs) (zr 239 (by decide))⟩, ⟨SST_c hS (a0 62 (by decide) (by decide)) (z0 163 (by decide)) (fun r hr k _ _ _ => by rw [ar r (by revert hr; simp only [List.mem_cons, List.not_mem_nil, or_false]; (clear hB hx1 h hc hk hV hP hA hS hb hl1 hl2 h16 h64 n2 k2 e62 e163 x41 u ru ty b8 b7 hN0 r1 t1 s0 p1 e239 x43 gm stl mvl ml c12 hNz zr z0 zs zw axs ar a0; lia))]) (fun r hr => zr r (fun c => by rw [c] at hr; revert hr; decide)) (z0 18 (by decide)) ⟨z0 19 (by decide), z0 17 (by decide)⟩ (fun k k0 k1 => pkL_len (PKB_of hP) (hS.2.2 k k0 k1).1.1), BKT_c hb (fun i _ _ => by rw [ar 29 (by decide)]) (ar 30 (by decide)) (ar 31 (by decide))⟩, ⟨hl1, by rw [z0 165 (by decide)]; exact hl2⟩, ⟨by rw [← hNz, upo (by decide), upo (by decide), up_at], by rw [← hNz, upo (by decide), up_at], by rw [← hNz, up_at]⟩, by rw [a0 64 (by decide) (by decide), z0 164 (by decide)]; exact h64⟩
  have ph : PHA x1 k n B 0 0 0 A Nz (L1 ++ arL (N0 239) 0 (N0 6 18).toNat ++ tmL (N0 239) 0 (3 * M1 0 7).toNat ++ frL N0 (N0 239) 0 (M1 0 7).toNat) := ⟨IA, ⟨by rw [a0 63 (by decide) (by decide)]; exact hc.1, by rw [z0 169 (by decide)]; exact hc.2⟩, hk, by decide, mvl.1, by rw [mvl.2, Int.zero_add], by rw [mvl.2]; (clear hB hx1 h hc hk hV hP hA hS hb hl1 hl2 h16 h64 n2 k2 e62 e163 x41 u ru ty b8 b7 hN0 r1 t1 s0 p1 e239 x43 gm stl mvl c12 hNz zr z0 zs zw axs ar a0 IA; omega)⟩
  have rf : REF k M1 N0 A Nz := ⟨⟨r1, p1, t1⟩, fun i i0 i1 => by rw [zw]; exact e239 i i0 i1, ⟨fun r h1 h2 => by rw [zs.1 r h1 h2, s0.1 r h1 h2], fun i hi => by rw [zs.2 i hi, s0.2 i hi]⟩, by rw [gm.2 9 (by decide)]⟩
  have pd := p_st hB hx1 (cnt := M1 0 7) ⟨c12.1, c12.2.1⟩ rfl stl ph rf
  obtain ⟨c, n', y3, y4, y5, M', N', d1, ⟨Na, Nb, Nc, q1, q2, q3, q4⟩, d3, d4, d5, d6, d7, d8⟩ := pd
  -- X comes to 341
  have kz : KM0 n M N A Nz := ⟨⟨axs, zs⟩, ar 41 (by decide), zr 246 (by decide), fun j _ _ => by unfold rwk; rw [zr 245 (by decide)], a0 11 (by decide) (by decide), z0 130 (by decide)⟩
  have km : KM0 n M N M' N' := KM0_tr kz (KM0_k d7) (Int.le_refl _)
  have x156 : ∀ (V : vv_) (Qr : qr_) (Qt : qt_), Cl_ wd0 (Tr_ wd0 pg0 10) V Qr Qt m_37 → Wk_ V → V 341 [rr 0, ii x1, ii k, ii y3, ii y4, ii y5] [] M' → V 156 [rr 0, ii x1, ii k, none, none, none] [] M := fun V Qr Qt hV hW g => b_37_156 (Tr_mono _) hV hW _ _ _ (by
    rw [e62, if_pos hk.2, if_pos hc.1]
    refine Ex_le (d := 2) (by decide) x41 _ _ (rv_i (Ex_le (d := 6) (by decide) x43 _ _ (rv_i (d3 V Qr Qt hV hW ?_))))
    rcases d1 with e | e
    · subst e
      rw [if_pos rfl]
      obtain ⟨_, _, _, _, _, hl, _⟩ := d8 rfl
      rw [List.length_nil] at hl
      refine b_37_188 (Tr_mono _) hV hW _ _ _ _ _ _ ?_
      rw [if_neg (by (clear hB hx1 h hc hk hP hA hS hb hl1 hl2 h16 h64 n2 k2 e62 e163 x41 u ru ty b8 b7 hN0 r1 t1 s0 p1 e239 x43 gm stl mvl ml c12 hNz zr z0 zs zw axs ar a0 IA ph rf q1 q2 q3 q4 d4 d6 d7 kz km hV hW g d3 d5 d8; omega))]; exact g
    · subst e
      rw [if_neg (by decide)]; exact g)
  have q89 : ∀ (V : vv_) (Qr : qr_) (Qt : qt_), Cl_ wd0 (Tr_ wd0 pg0 10) V Qr Qt m_380 → Wk_ V → ((bl_ (N' 6 169) → (if N' 6 169 = 0 then (0 ≤ k ∧ k < 200) ∧ (0 ≤ k ∧ k < 200) ∧ (0 ≤ k ∧ k < 200) ∧ V 89 [rr 6, ii x1, ii (w32 (k + 1))] [] (up_ (up_ (up_ N' 250 k (N' 6 166)) 251 k (N' 6 167)) 252 k (N' 6 168)) else V 89 [rr 6, ii x1, ii (w32 (k + 1))] [] N'))) → V 89 [rr 6, ii x1, ii k] [] N := fun V Qr Qt hV hW g => b_380_89 (Tr_mono _) hV hW _ _ _ (by
    rw [e163, if_pos hk.2, if_pos hc.2, hNz]
    exact fun _ => q1 _ _ (rv_i (q2 _ _ (rv_i (q3 _ _ (rv_i (q4 _ _ (rv_i g)))))))
    )
  have wk : w32 (k + 1) = k + 1 := w32_id (by omega) (by omega)
  obtain ⟨⟨hV', hP', hA'⟩, ⟨hS', hb'⟩, ⟨hl1', hl2'⟩, ⟨f3, f4, f5⟩, h64'⟩ := id d4
  rcases d1 with e | e
  · subst e
    obtain ⟨c63, c169⟩ := d5
    generalize hM2 : up_ (up_ (up_ M' 35 k y3) 36 k y4) 37 k y5 = M2
    generalize hN2 : up_ (up_ (up_ N' 250 k y3) 251 k y4) 252 k y5 = N2
    have m2r : ∀ r : Nat, r ∉ [35, 36, 37] → M2 r = M' r := fun r hr => by
      have e : ∀ q : Nat, q ∈ [35, 36, 37] → r ≠ q := fun q hq e => hr (by rw [e]; exact hq)
      rw [← hM2, up_ne (e 37 (by decide)), up_ne (e 36 (by decide)), up_ne (e 35 (by decide))]
    have n2r : ∀ r : Nat, r ∉ [250, 251, 252] → N2 r = N' r := fun r hr => by
      have e : ∀ q : Nat, q ∈ [250, 251, 252] → r ≠ q := fun q hq e => hr (by rw [e]; exact hq)
      rw [← hN2, up_ne (e 252 (by decide)), up_ne (e 251 (by decide)), up_ne (e 250 (by decide))]
    have m35 : ∀ j, M2 35 j = (if j = k then y3 else M' 35 j) ∧ M2 36 j = (if j = k then y4 else M' 36 j) ∧ M2 37 j = (if j = k then y5 else M' 37 j) := fun j => by
      rw [← hM2]
      by_cases c : j = k
      · rw [c, if_pos rfl, if_pos rfl, if_pos rfl]
        exact ⟨by rw [up_ne (by decide), up_ne (by decide), up_at], by rw [up_ne (by decide), up_at], by rw [up_at]⟩
      · rw [if_neg c, if_neg c, if_neg c]
        exact ⟨by rw [up_ne (by decide), up_ne (by decide), upo c], by rw [up_ne (by decide), upo c, up_ne (by decide)], by rw [upo c, up_ne (by decide), up_ne (by decide)]⟩
    have n250 : ∀ j, N2 250 j = (if j = k then y3 else N' 250 j) ∧ N2 251 j = (if j = k then y4 else N' 251 j) ∧ N2 252 j = (if j = k then y5 else N' 252 j) := fun j => by
      rw [← hN2]
      by_cases c : j = k
      · rw [c, if_pos rfl, if_pos rfl, if_pos rfl]
        exact ⟨by rw [up_ne (by decide), up_ne (by decide), up_at], by rw [up_ne (by decide), up_at], by rw [up_at]⟩
      · rw [if_neg c, if_neg c, if_neg c]
        exact ⟨by rw [up_ne (by decide), up_ne (by decide), upo c], by rw [up_ne (by decide), upo c, up_ne (by decide)], by rw [upo c, up_ne (by decide), up_ne (by decide)]⟩
    have xs2 : XSF M' M2 := by rw [← hM2]; exact XSF_tr (XSF_tr (XSF_up (.inl (by decide)) (fun c => absurd c (by decide))) (XSF_up (.inl (by decide)) (fun c => absurd c (by decide)))) (XSF_up (.inl (by decide)) (fun c => absurd c (by decide)))
    have qs2 : QSF N' N2 := by rw [← hN2]; exact QSF_tr (QSF_tr (QSF_up (.inl (by decide)) (fun c => absurd c (by decide))) (QSF_up (.inl (by decide)) (fun c => absurd c (by decide)))) (QSF_up (.inl (by decide)) (fun c => absurd c (by decide)))
    have w2 : ∀ j, rwk N2 j = rwk N' j := fun j => by unfold rwk; rw [n2r 245 (by decide)]
    have S2 : SST M2 N2 n' B := by
      refine ⟨by rw [m2r 0 (by decide), n2r 6 (by decide)]; exact hS'.1, hS'.2.1, fun j j0 j1 => ?_⟩
      obtain ⟨s1, s2⟩ := hS'.2.2 j j0 j1
      refine ⟨SFK_c s1 (w2 j) (by rw [n2r 6 (by decide)]) (by rw [n2r 6 (by decide)]; exact ⟨rfl, rfl⟩) (fun r hr => n2r r (fun c => by revert hr c; simp only [List.mem_cons, List.not_mem_nil, or_false]; (clear hB hx1 h hc hk hV hP hA hS hb hl1 hl2 h16 h64 n2 k2 e62 e163 x41 u ru ty b8 b7 hN0 r1 t1 s0 p1 e239 x43 gm stl mvl ml c12 hNz zr z0 zs zw axs ar a0 IA ph rf q1 q2 q3 q4 d4 d6 d7 kz km x156 q89 wk hV' hP' hA' hS' hb' hl1' hl2' h64' f3 f4 f5 d3 d8 c63 c169 hM2 hN2 m2r n2r m35 n250 xs2 qs2 w2 j0 j1 s1 s2; omega))) (fun h => by rw [m2r 27 (by decide)]; exact h) (by rw [m2r 28 (by decide)]) (by rw [m2r 29 (by decide)]) (by rw [n2r 253 (by decide)]), ?_⟩
      unfold SEQ at s2 ⊢
      rw [m2r 32 (by decide), m2r 33 (by decide), m2r 34 (by decide), n2r 247 (by decide), n2r 248 (by decide), n2r 249 (by decide), (m35 j).1, (m35 j).2.1, (m35 j).2.2, (n250 j).1, (n250 j).2.1, (n250 j).2.2]
      refine ⟨s2.1, ?_⟩
      by_cases c : j = k
      · rw [if_pos c, if_pos c, if_pos c, if_pos c, if_pos c, if_pos c]; exact ⟨rfl, rfl, rfl⟩
      · rw [if_neg c, if_neg c, if_neg c, if_neg c, if_neg c, if_neg c]; exact s2.2
    refine ⟨0, n', M2, N2, .inl rfl, ⟨⟨RVX_c hV' (m2r 23 (by decide)) (m2r 24 (by decide)) (fun i _ _ => by rw [m2r 0 (by decide)]) (fun r hr => n2r r (fun c => by revert hr c; simp only [List.mem_cons, List.not_mem_nil, or_false]; (clear hB hx1 h hc hk hV hP hA hS hb hl1 hl2 h16 h64 n2 k2 e62 e163 x41 u ru ty b8 b7 hN0 r1 t1 s0 p1 e239 x43 gm stl mvl ml c12 hNz zr z0 zs zw axs ar a0 IA ph rf q1 q2 q3 q4 d4 d6 d7 kz km x156 q89 wk hV' hP' hA' hS' hb' hl1' hl2' h64' f3 f4 f5 d3 d8 c63 c169 hM2 hN2 m2r n2r m35 n250 xs2 qs2 w2 S2; omega))) (fun i _ => by rw [n2r 6 (by decide)]), PLr_s hP' xs2 qs2, TYA_c hA' (TYT_s qs2) (n2r 239 (by decide))⟩, ⟨S2, BKT_c hb' (fun i _ _ => by rw [m2r 29 (by decide)]) (m2r 30 (by decide)) (m2r 31 (by decide))⟩, ⟨hl1', by rw [n2r 6 (by decide)]; exact hl2'⟩, ⟨rfl, rfl, rfl⟩, by rw [m2r 0 (by decide), n2r 6 (by decide)]; exact h64'⟩, ⟨by rw [m2r 0 (by decide)]; exact c63, by rw [n2r 6 (by decide)]; exact c169⟩, d6, KM0_tr km ⟨⟨xs2, qs2⟩, m2r 41 (by decide), n2r 246 (by decide), fun j _ _ => w2 j, by rw [m2r 0 (by decide)], by rw [n2r 6 (by decide)]⟩ (Int.le_refl _), fun _ => ⟨fun V Qr Qt hV hW g => x156 V Qr Qt hV hW (b_37_341 (Tr_mono _) hV hW _ _ _ _ _ _ ?_), fun V Qr Qt hV hW g => q89 V Qr Qt hV hW ?_⟩, fun e => absurd e (by decide)⟩
    · rw [if_pos c63, wk, hM2]; exact ⟨k2, k2, k2, g⟩
    · rw [if_pos c169, f3, f4, f5, wk, hN2]; exact fun _ => ⟨k2, k2, k2, g⟩
  · subst e
    obtain ⟨c63, c169⟩ := d5
    refine ⟨1, n', M', N', .inr rfl, ⟨⟨hV', hP', hA'⟩, ⟨hS', hb'⟩, ⟨hl1', hl2'⟩, ⟨rfl, rfl, rfl⟩, h64'⟩, ⟨c63, c169⟩, d6, km, fun e => absurd e (by decide), fun _ => ⟨fun Me xe V Qr Qt hV hW g => x156 V Qr Qt hV hW (b_37_341 (Tr_mono _) hV hW _ _ _ _ _ _ ?_), fun V Qr Qt hV hW g => q89 V Qr Qt hV hW ?_⟩⟩
    · rw [if_neg (by (clear hB hx1 h hc hk hP hA hS hb hl1 hl2 h16 h64 n2 k2 e62 e163 x41 u ru ty b8 b7 hN0 r1 t1 s0 p1 e239 x43 gm stl mvl ml c12 hNz zr z0 zs zw axs ar a0 IA ph rf q1 q2 q3 q4 d4 d6 d7 kz km x156 q89 wk hV' hP' hA' hS' hb' hl1' hl2' h64' f3 f4 f5 d3 d8 c169 xe hV hW g; lia))]
      exact Ex_le (d := 2) (by decide) xe _ _ (rv_i g)
    · rw [if_neg (by (clear hB hx1 h hc hk hP hA hS hb hl1 hl2 h16 h64 n2 k2 e62 e163 x41 u ru ty b8 b7 hN0 r1 t1 s0 p1 e239 x43 gm stl mvl ml c12 hNz zr z0 zs zw axs ar a0 IA ph rf q1 q2 q3 q4 d4 d6 d7 kz km x156 q89 wk hV' hP' hA' hS' hb' hl1' hl2' h64' f3 f4 f5 d3 d8 c63 hV hW g; lia)), wk]
      refine fun _ => b_380_89 (Tr_mono _) hV hW _ _ _ ?_
      by_cases ce : k + 1 < N' 6 163
      · rw [if_pos ce, if_neg (by omega)]; exact fun _ => ⟨.inl rfl, g⟩
      · rw [if_neg ce]; exact ⟨.inl rfl, g⟩
/-- all states -/
theorem o_156 [Inhabited fz_] (hB : B + 40400 ≤ 2000000000) (hx1 : x1 ≤ 200) : ∀ (j : Nat) (k n : Int) (M N : mm_), k + j = x1 → 0 ≤ k → k ≤ n → HDS x1 n B M N → CUT M N 0 → ∃ c n' Mf Nf, (c = 0 ∨ c = 1) ∧ HDS x1 n' B Mf Nf ∧ CUT Mf Nf c ∧ n ≤ n' ∧ KM0 n M N Mf Nf ∧ (∀ Me, Ex_ 2 41 [.inr (.inr 0), .inl 0] Mf [] Me → RC 10 m_37 156 [rr 0, ii x1, ii k, none, none, none] M 387 [rr 0, ii x1, ii 0, none, none, none] Me) ∧ RC 10 m_380 89 [rr 6, ii x1, ii k] N 189 [rr 6, ii x1, ii 0] (up_ Nf 6 127 0) := fun j => by
  have endq : ∀ (k n : Int) (M N : mm_), HDS x1 n B M N → CUT M N 0 → ¬ k < n → ∃ c n' Mf Nf, (c = 0 ∨ c = 1) ∧ HDS x1 n' B Mf Nf ∧ CUT Mf Nf c ∧ n ≤ n' ∧ KM0 n M N Mf Nf ∧ (∀ Me, Ex_ 2 41 [.inr (.inr 0), .inl 0] Mf [] Me → RC 10 m_37 156 [rr 0, ii x1, ii k, none, none, none] M 387 [rr 0, ii x1, ii 0, none, none, none] Me) ∧ RC 10 m_380 89 [rr 6, ii x1, ii k] N 189 [rr 6, ii x1, ii 0] (up_ Nf 6 127 0) := fun k n M N h hc hk => by
    have e62 : M 0 62 = n := h.2.1.1.1.1
    have e163 : N 6 163 = n := h.2.1.1.1.2
    refine ⟨0, n, M, N, .inl rfl, h, hc, Int.le_refl _, KM0_rf, fun Me xe V Qr Qt hV hW g => b_37_156 (Tr_mono _) hV hW _ _ _ ?_, fun V Qr Qt hV hW g => b_380_89 (Tr_mono _) hV hW _ _ _ ?_⟩
    · rw [e62, if_neg hk]; exact Ex_le (d := 2) (by decide) xe _ _ (rv_i g)
    · rw [e163, if_neg hk]; exact ⟨.inl rfl, g⟩
  induction j with
  | zero =>
    intro k n M N hj k0 kn h hc
    exact endq k n M N h hc (by have := h.2.2.1.1; (clear hB hx1 endq k0 h hc; omega))
  | succ j ih =>
    intro k n M N hj k0 kn h hc
    by_cases ck : k < n
    · obtain ⟨c, n', M', N', d1, d2, d3, d4, d5, d6, d7⟩ := o_1 hB hx1 h hc ⟨k0, ck⟩
      rcases d1 with e | e
      · subst e
        obtain ⟨a1, a2⟩ := d6 rfl
        obtain ⟨c', n'', Mf, Nf, g1, g2, g3, g4, g5, g6, g7⟩ := ih (k + 1) n' M' N' (by omega) (by omega) (by omega) d2 d3
        exact ⟨c', n'', Mf, Nf, g1, g2, g3, by omega, KM0_tr d5 g5 d4, fun Me xe => RC_tr a1 (g6 Me xe), RC_tr a2 g7⟩
      · subst e
        obtain ⟨a1, a2⟩ := d7 rfl
        exact ⟨1, n', M', N', .inr rfl, d2, d3, d4, d5, a1, a2⟩
    · exact endq k n M N h hc ck
end OLa
end T413_ol
section T414_sv
/-! the search: times set aside (Q 381), times set to now (Q 396) -/
noncomputable def svF (f : Int → Int) (S : Int → Prop) (v : Int) : Int → Int := fun i => @ite _ (S i) (Classical.propDecidable _) v (f i)
noncomputable def svM (N : mm_) (S : Int → Prop) (v : Int) : mm_ := wr_ N 239 (svF (N 239) S v)
/-- places of times: routes ahead of r, and of r the first q -/
def RSI (N : mm_) (r q j : Int) : Prop := (∃ r' q', (0 ≤ r' ∧ r' < r) ∧ (0 ≤ q' ∧ q' < N 239 (sR r')) ∧ j = sR r' + 1 + 7 * q' + 3) ∨ ∃ q', (0 ≤ q' ∧ q' < q) ∧ j = sR r + 1 + 7 * q' + 3
/-- places of clocks that are P -/
def CKI (N : mm_) (P : Int → Prop) (k t j : Int) : Prop := (∃ k' t', (0 ≤ k' ∧ k' < k) ∧ (0 ≤ t' ∧ t' < 3) ∧ P (N 239 j) ∧ j = sB k' + 22 + t') ∨ ∃ t', (0 ≤ t' ∧ t' < t) ∧ P (N 239 j) ∧ j = sB k + 22 + t'
def FSI (N : mm_) (P : Int → Prop) (j : Int) : Prop := RSI N (N 6 18) 0 j ∨ CKI N P (N 239 0) 0 j
section SVa
variable {N : mm_} {f : Int → Int} {S S' : Int → Prop} {P : Int → Prop} {i v r q k t j x1 : Int}
theorem svF_in [Inhabited fz_] (h : S i) : svF f S v i = v := by unfold svF; rw [if_pos h]
theorem svF_out [Inhabited fz_] (h : ¬ S i) : svF f S v i = f i := by unfold svF; rw [if_neg h]
theorem svM_c [Inhabited fz_] (h : ∀ j, S j ↔ S' j) : svM N S v = svM N S' v := by
  have : S = S' := by funext j; exact propext (h j)
  rw [this]
theorem svM_0 [Inhabited fz_] (h : ∀ j, ¬ S j) : svM N S v = N := by
  unfold svM
  have : svF (N 239) S v = N 239 := by funext j; exact svF_out (h j)
  rw [this, wr_id]
theorem svM_r [Inhabited fz_] {r : Nat} (h : r ≠ 239) : svM N S v r = N r := wr_ne h
theorem svM_i [Inhabited fz_] : svM N S v 239 i = svF (N 239) S v i := by unfold svM; rw [wr_same]
theorem svM_up [Inhabited fz_] : up_ (svM N S v) 239 i v = svM N (fun j => S j ∨ j = i) v := by
  unfold svM
  rw [up_wr]
  congr 1
  funext j
  unfold su_
  by_cases c : j = i
  · rw [if_pos c, svF_in (.inr c)]
  · rw [if_neg c]
    by_cases d : S j
    · rw [svF_in d, svF_in (.inl d)]
    · rw [svF_out d, svF_out (fun e => e.elim d c)]
theorem RSI_z [Inhabited fz_] (h : ∀ r, 0 ≤ r → r < N 6 18 → 0 ≤ N 239 (sR r) ∧ N 239 (sR r) ≤ 6) (h18 : N 6 18 ≤ 10) (hr : 0 ≤ r ∧ r ≤ N 6 18) (hq : q ≤ 6) (hj : RSI N r q j) : 674 ≤ j ∧ (j - 674) % 43 ≠ 0 := by
  rcases hj with ⟨r', q', a, b, c⟩ | ⟨q', a, c⟩
  · have := h r' a.1 (by omega)
    unfold sR at c; (clear h hq; lia)
  · unfold sR at c; (clear h; lia)
theorem RSI_s [Inhabited fz_] (h0 : 0 ≤ q) : RSI N r (q + 1) j ↔ (RSI N r q j ∨ j = sR r + 1 + 7 * q + 3) := by
  unfold RSI
  constructor
  · rintro (h | ⟨q', a, c⟩)
    · exact .inl (.inl h)
    · by_cases e : q' = q
      · rw [e] at c; exact .inr c
      · exact .inl (.inr ⟨q', by (clear h0 c; lia), c⟩)
  · rintro ((h | ⟨q', a, c⟩) | c)
    · exact .inl h
    · exact .inr ⟨q', by omega, c⟩
    · exact .inr ⟨q, by (clear c; lia), c⟩
theorem RSI_n [Inhabited fz_] (h0 : 0 ≤ r) : RSI N r (N 239 (sR r)) j ↔ RSI N (r + 1) 0 j := by
  unfold RSI
  constructor
  · rintro (⟨r', q', a, b, c⟩ | ⟨q', a, c⟩)
    · exact .inl ⟨r', q', by omega, b, c⟩
    · exact .inl ⟨r, q', by omega, a, c⟩
  · rintro (⟨r', q', a, b, c⟩ | ⟨q', a, c⟩)
    · by_cases e : r' = r
      · rw [e] at b c; exact .inr ⟨q', b, c⟩
      · exact .inl ⟨r', q', by (clear h0 b c; omega), b, c⟩
    · omega
theorem CKI_s [Inhabited fz_] (h0 : 0 ≤ t) : CKI N P k (t + 1) j ↔ (CKI N P k t j ∨ (P (N 239 j) ∧ j = sB k + 22 + t)) := by
  unfold CKI
  constructor
  · rintro (h | ⟨t', a, p, c⟩)
    · exact .inl (.inl h)
    · by_cases e : t' = t
      · rw [e] at c; exact .inr ⟨p, c⟩
      · exact .inl (.inr ⟨t', by (clear h0 p; lia), p, c⟩)
  · rintro ((h | ⟨t', a, p, c⟩) | ⟨p, c⟩)
    · exact .inl h
    · exact .inr ⟨t', by (clear h0 p; lia), p, c⟩
    · exact .inr ⟨t, by (clear p; lia), p, c⟩
theorem CKI_n [Inhabited fz_] (h0 : 0 ≤ k) : CKI N P k 3 j ↔ CKI N P (k + 1) 0 j := by
  unfold CKI
  constructor
  · rintro (⟨r', q', a, b, c⟩ | ⟨q', a, c⟩)
    · exact .inl ⟨r', q', by (clear h0 b c; omega), b, c⟩
    · exact .inl ⟨k, q', by omega, a, c⟩
  · rintro (⟨r', q', a, b, p, c⟩ | ⟨q', a, c⟩)
    · by_cases e : r' = k
      · rw [e] at c; exact .inr ⟨q', b, p, c⟩
      · exact .inl ⟨r', q', by omega, b, p, c⟩
    · omega
theorem CKI_z [Inhabited fz_] (hk : 0 ≤ k ∧ k ≤ 12) (ht : 0 ≤ t ∧ t ≤ 3) (hj : CKI N P k t j) : 24 ≤ j ∧ (j - 2) % 56 < 25 ∧ 22 ≤ (j - 2) % 56 ∧ (j < sB k + 22 + t) := by
  rcases hj with ⟨k', t', a, b, p, c⟩ | ⟨t', a, p, c⟩
  · unfold sB at *; (clear p; omega)
  · unfold sB at *; (clear p; omega)

/-! 381 -/
theorem t_381a [Inhabited fz_] (hro : ∀ r, 0 ≤ r → r < N 6 18 → 0 ≤ N 239 (sR r) ∧ N 239 (sR r) ≤ 6) (h18 : 0 ≤ N 6 18 ∧ N 6 18 ≤ 10) (hr : 0 ≤ r ∧ r < N 6 18) : ∀ (n : Nat) (q : Int), q + n = N 239 (sR r) → 0 ≤ q → RC 1 m_381 12 [rr 6, ii r, ii q] (svM N (RSI N r q) 0) 2 [rr 6, ii (r + 1), none] (svM N (RSI N (r + 1) 0) 0) := fun n => by
  have hc := hro r hr.1 hr.2
  have hR : sR r = 674 + 43 * r := rfl
  have rd : ∀ q, q ≤ 6 → svM N (RSI N r q) 0 239 (sR r) = N 239 (sR r) := fun q hq => by rw [svM_i, svF_out (fun e => by have := RSI_z hro h18.2 (by (clear hro h18 hc hR hq e; omega)) hq e; (clear hro h18 hr hc hq e; omega))]
  induction n with
  | zero =>
    intro q hq q0 V Qr Qt hV hW g
    refine b_381_12 (Tr_mono _) hV hW _ _ _ (q_327 (by omega) _ _ (ri_i ⟨by omega, ?_⟩))
    rw [rd q (by omega), if_neg (by (clear hro h18 hr hc hR rd q0 hV hW g; omega)), w32_id (x := r + 1) (by (clear hro h18 hc hR rd hq q0 hV hW g; lia)) (by omega)]
    have e : q = N 239 (sR r) := by omega
    rw [e, svM_c (fun j => RSI_n hr.1)]; exact g
  | succ n ih =>
    intro q hq q0
    refine RC_tr (fun V Qr Qt hV hW g => ?_) (ih (q + 1) (by omega) (by omega))
    refine b_381_12 (Tr_mono _) hV hW _ _ _ (q_327 (by omega) _ _ (ri_i ⟨by omega, ?_⟩))
    rw [rd q (by omega), if_pos (by (clear hro h18 hr hc hR rd ih q0 hV hW g; omega))]
    refine q_327 (by omega) _ _ (ri_i ?_)
    rw [w32_id (x := sR r + 1) (by omega) (by omega), w32_id (x := 7 * q) (by omega) (by (clear hro h18 hr hR rd ih q0 hV hW g; omega)), w32_id (x := sR r + 1 + 7 * q) (by (clear hro hc rd ih hq hV hW g; lia)) (by omega), w32_id (x := sR r + 1 + 7 * q + 3) (by omega) (by (clear hro rd ih q0 hV hW g; omega)), w32_id (x := q + 1) (by (clear hro h18 hr hc hR rd ih hq hV hW g; omega)) (by (clear hro h18 hr hR rd ih q0 hV hW g; omega))]
    skip
    rw [svM_up, svM_c (fun j => (RSI_s q0).symm)]
    exact ⟨by omega, g⟩
theorem t_381b [Inhabited fz_] (hro : ∀ r, 0 ≤ r → r < N 6 18 → 0 ≤ N 239 (sR r) ∧ N 239 (sR r) ≤ 6) (h18 : 0 ≤ N 6 18 ∧ N 6 18 ≤ 10) : ∀ (n : Nat) (r : Int), r + n = N 6 18 → 0 ≤ r → RC 1 m_381 2 [rr 6, ii r, none] (svM N (RSI N r 0) 0) 58 [rr 6, ii 0, none] (svM N (RSI N (N 6 18) 0) 0) := fun n => by
  induction n with
  | zero =>
    intro r hr r0 V Qr Qt hV hW g
    refine b_381_2 (Tr_mono _) hV hW _ _ ?_
    rw [svM_r (by decide), if_neg (by (clear hro h18 r0 hV hW g; lia)), show r = N 6 18 by (clear hro h18 r0 hV hW g; lia)]; exact g
  | succ n ih =>
    intro r hr r0
    have hc := hro r r0 (by omega)
    refine RC_tr (RC_tr (fun V Qr Qt hV hW g => b_381_2 (Tr_mono _) hV hW _ _ ?_) (t_381a hro h18 ⟨r0, by omega⟩ (N 239 (sR r)).toNat 0 (by (clear hro h18 ih hr r0; omega)) (by decide))) (ih (r + 1) (by omega) (by omega))
    rw [svM_r (by decide), if_pos (by omega)]; exact g
theorem t_381c [Inhabited fz_] (hn : 0 ≤ N 239 0 ∧ N 239 0 ≤ 12) (hro : ∀ r, 0 ≤ r → r < N 6 18 → 0 ≤ N 239 (sR r) ∧ N 239 (sR r) ≤ 6) (h18 : 0 ≤ N 6 18 ∧ N 6 18 ≤ 10) (hk : 0 ≤ k ∧ k < N 239 0) : ∀ (n : Nat) (t : Int), t + n = 3 → 0 ≤ t → RC 1 m_381 70 [rr 6, ii k, ii t] (svM N (fun j => RSI N (N 6 18) 0 j ∨ CKI N (fun c => 0 < c) k t j) 0) 58 [rr 6, ii (k + 1), none] (svM N (fun j => RSI N (N 6 18) 0 j ∨ CKI N (fun c => 0 < c) (k + 1) 0 j) 0) := fun n => by
  have hB : sB k = 2 + 56 * k := rfl
  induction n with
  | zero =>
    intro t ht t0 V Qr Qt hV hW g
    have e : t = 3 := by (clear hn hro h18 hk hB t0 hV hW g; lia)
    subst e
    refine b_381_70 (Tr_mono _) hV hW _ _ _ ?_
    rw [if_neg (by omega), w32_id (x := k + 1) (by omega) (by omega), svM_c (fun j => or_congr Iff.rfl (CKI_n hk.1))]; exact g
  | succ n ih =>
    intro t ht t0
    have rd : svM N (fun j => RSI N (N 6 18) 0 j ∨ CKI N (fun c => 0 < c) k t j) 0 239 (sB k + 22 + t) = N 239 (sB k + 22 + t) := by
      rw [svM_i, svF_out (fun e => ?_)]
      rcases e with e | e
      · have := RSI_z hro h18.2 (by omega) (by decide) e; (clear hro h18 ih e; omega)
      · have := CKI_z (by omega) (by omega) e; omega
    refine RC_tr (fun V Qr Qt hV hW g => ?_) (ih (t + 1) (by omega) (by omega))
    refine b_381_70 (Tr_mono _) hV hW _ _ _ ?_
    rw [if_pos (by (clear hn hro h18 hk hB ih rd hV hW g; omega))]
    refine q_323 (by omega) _ _ (ri_i ?_)
    rw [w32_id (x := sB k + 22) (by (clear hro h18 ih ht t0 rd hV hW g; lia)) (by omega), w32_id (x := sB k + 22 + t) (by omega) (by omega), w32_id (x := t + 1) (by omega) (by omega), rd]
    refine ⟨by omega, ?_⟩
    by_cases c : N 239 (sB k + 22 + t) ≤ 0
    · rw [if_pos c, svM_c (S' := fun j => RSI N (N 6 18) 0 j ∨ CKI N (fun c => 0 < c) k (t + 1) j) (fun j => ?_)]
      · exact g
      · refine or_congr Iff.rfl ⟨fun h => (CKI_s t0).2 (.inl h), fun h => ?_⟩
        rcases (CKI_s t0).1 h with h | ⟨p, e⟩
        · exact h
        · rw [e] at p; exact absurd p (by show ¬ _; omega)
    · rw [if_neg c]
      refine q_323 (by omega) _ _ (ri_i ?_)
      rw [w32_id (x := sB k + 22) (by omega) (by omega), w32_id (x := sB k + 22 + t) (by omega) (by (clear hro h18 ih rd hV hW g c; omega))]
      skip
      rw [svM_up, svM_c (S' := fun j => RSI N (N 6 18) 0 j ∨ CKI N (fun c => 0 < c) k (t + 1) j) (fun j => ?_)]
      · exact ⟨by omega, g⟩
      · rw [CKI_s t0, or_assoc]
        refine or_congr Iff.rfl (or_congr Iff.rfl ⟨fun e => ⟨by rw [e]; show _; omega, e⟩, fun h => h.2⟩)
theorem t_381d [Inhabited fz_] (hn : 0 ≤ N 239 0 ∧ N 239 0 ≤ 12) (hro : ∀ r, 0 ≤ r → r < N 6 18 → 0 ≤ N 239 (sR r) ∧ N 239 (sR r) ≤ 6) (h18 : 0 ≤ N 6 18 ∧ N 6 18 ≤ 10) : ∀ (n : Nat) (k : Int), k + n = N 239 0 → 0 ≤ k → ∀ (V : vv_) (Qr : qr_) (Qt : qt_), Cl_ wd0 (Tr_ wd0 pg0 1) V Qr Qt m_381 → Wk_ V → Qr [] (svM N (FSI N (fun c => 0 < c)) 0) → V 58 [rr 6, ii k, none] [] (svM N (fun j => RSI N (N 6 18) 0 j ∨ CKI N (fun c => 0 < c) k 0 j) 0) := fun n => by
  have rd : ∀ k, 0 ≤ k ∧ k ≤ 12 → svM N (fun j => RSI N (N 6 18) 0 j ∨ CKI N (fun c => 0 < c) k 0 j) 0 239 0 = N 239 0 := fun k hk => by
    rw [svM_i, svF_out (fun e => ?_)]
    rcases e with e | e
    · have := RSI_z hro h18.2 (by omega) (by decide) e; omega
    · have := CKI_z hk (by decide) e; omega
  induction n with
  | zero =>
    intro k hk k0 V Qr Qt hV hW g
    refine b_381_58 (Tr_mono _) hV hW _ _ ⟨by decide, ?_⟩
    rw [rd k (by omega), if_neg (by omega), show k = N 239 0 by (clear hn hro h18 rd k0 hV hW g; lia)]; exact g
  | succ n ih =>
    intro k hk k0 V Qr Qt hV hW g
    refine b_381_58 (Tr_mono _) hV hW _ _ ⟨by decide, ?_⟩
    rw [rd k (by (clear hro h18 rd ih hV hW g; omega)), if_pos (by omega)]
    exact t_381c hn hro h18 ⟨k0, by omega⟩ 3 0 (by decide) (by decide) V Qr Qt hV hW (ih (k + 1) (by (clear hn hro h18 rd ih k0 hV hW g; lia)) (by omega) V Qr Qt hV hW g)

/-! 396 -/
theorem t_396a [Inhabited fz_] (hro : ∀ r, 0 ≤ r → r < N 6 18 → 0 ≤ N 239 (sR r) ∧ N 239 (sR r) ≤ 6) (h18 : 0 ≤ N 6 18 ∧ N 6 18 ≤ 10) (hv : N 6 128 = v) (hr : 0 ≤ r ∧ r < N 6 18) : ∀ (n : Nat) (q : Int), q + n = N 239 (sR r) → 0 ≤ q → RC 1 m_396 40 [rr 6, ii x1, ii r, ii q] (svM N (RSI N r q) v) 30 [rr 6, ii x1, ii (r + 1), none] (svM N (RSI N (r + 1) 0) v) := fun n => by
  have hc := hro r hr.1 hr.2
  have hR : sR r = 674 + 43 * r := rfl
  have rd : ∀ q, q ≤ 6 → svM N (RSI N r q) v 239 (sR r) = N 239 (sR r) := fun q hq => by rw [svM_i, svF_out (fun e => by have := RSI_z hro h18.2 (by (clear hro h18 hv hc hR hq e; omega)) hq e; (clear hro h18 hv hr hc hq e; omega))]
  induction n with
  | zero =>
    intro q hq q0 V Qr Qt hV hW g
    refine b_396_40 (Tr_mono _) hV hW _ _ _ _ (q_327 (by omega) _ _ (ri_i ⟨by omega, ?_⟩))
    rw [rd q (by (clear hro h18 hv hr hR rd q0 hV hW g; omega)), if_neg (by (clear hro h18 hv hr hc hR rd q0 hV hW g; omega)), w32_id (x := r + 1) (by omega) (by omega)]
    have e : q = N 239 (sR r) := by (clear hro h18 hv hr hc hR rd q0 hV hW g; lia)
    rw [e, svM_c (fun j => RSI_n hr.1)]; exact g
  | succ n ih =>
    intro q hq q0
    refine RC_tr (fun V Qr Qt hV hW g => ?_) (ih (q + 1) (by (clear hro h18 hv hr hc hR rd ih q0; omega)) (by omega))
    refine b_396_40 (Tr_mono _) hV hW _ _ _ _ (q_327 (by (clear hro hv hc hR rd ih hq q0 hV hW g; omega)) _ _ (ri_i ⟨by omega, ?_⟩))
    rw [rd q (by (clear hro h18 hv hr hR rd ih q0 hV hW g; omega)), if_pos (by (clear hro h18 hv hr hc hR rd ih q0 hV hW g; omega))]
    refine q_327 (by omega) _ _ (ri_i ?_)
    rw [w32_id (x := sR r + 1) (by (clear hro hv hc rd ih hq q0 hV hW g; lia)) (by omega), w32_id (x := 7 * q) (by omega) (by omega), w32_id (x := sR r + 1 + 7 * q) (by (clear hro hv hc rd ih hq hV hW g; lia)) (by (clear hro hv rd ih q0 hV hW g; omega)), w32_id (x := sR r + 1 + 7 * q + 3) (by (clear hro hv hc rd ih hq hV hW g; lia)) (by (clear hro hv rd ih q0 hV hW g; omega)), w32_id (x := q + 1) (by omega) (by (clear hro h18 hv hr hR rd ih q0 hV hW g; omega))]
    rw [show svM N (RSI N r q) v 6 128 = v by rw [svM_r (by decide)]; exact hv]
    rw [svM_up, svM_c (fun j => (RSI_s q0).symm)]
    exact ⟨by (clear hro hv rd ih hV hW g; lia), g⟩
theorem t_396b [Inhabited fz_] (hro : ∀ r, 0 ≤ r → r < N 6 18 → 0 ≤ N 239 (sR r) ∧ N 239 (sR r) ≤ 6) (h18 : 0 ≤ N 6 18 ∧ N 6 18 ≤ 10) (hv : N 6 128 = v) : ∀ (n : Nat) (r : Int), r + n = N 6 18 → 0 ≤ r → RC 1 m_396 30 [rr 6, ii x1, ii r, none] (svM N (RSI N r 0) v) 89 [rr 6, ii x1, ii 0, none] (svM N (RSI N (N 6 18) 0) v) := fun n => by
  induction n with
  | zero =>
    intro r hr r0 V Qr Qt hV hW g
    refine b_396_30 (Tr_mono _) hV hW _ _ _ ?_
    rw [svM_r (by decide), if_neg (by (clear hro h18 hv r0 hV hW g; omega)), show r = N 6 18 by (clear hro h18 hv r0 hV hW g; lia)]; exact g
  | succ n ih =>
    intro r hr r0
    have hc := hro r r0 (by (clear hro h18 hv ih r0; omega))
    refine RC_tr (RC_tr (fun V Qr Qt hV hW g => b_396_30 (Tr_mono _) hV hW _ _ _ ?_) (t_396a hro h18 hv ⟨r0, by omega⟩ (N 239 (sR r)).toNat 0 (by (clear hro h18 hv ih hr r0; omega)) (by decide))) (ih (r + 1) (by (clear hro h18 hv ih r0 hc; omega)) (by omega))
    rw [svM_r (by decide), if_pos (by omega)]; exact g
theorem t_396c [Inhabited fz_] (hn : 0 ≤ N 239 0 ∧ N 239 0 ≤ 12) (hro : ∀ r, 0 ≤ r → r < N 6 18 → 0 ≤ N 239 (sR r) ∧ N 239 (sR r) ≤ 6) (h18 : 0 ≤ N 6 18 ∧ N 6 18 ≤ 10) (hv : N 6 128 = v) (hk : 0 ≤ k ∧ k < N 239 0) : ∀ (n : Nat) (t : Int), t + n = 3 → 0 ≤ t → RC 1 m_396 101 [rr 6, ii x1, ii k, ii t] (svM N (fun j => RSI N (N 6 18) 0 j ∨ CKI N (fun c => 0 ≤ c) k t j) v) 89 [rr 6, ii x1, ii (k + 1), none] (svM N (fun j => RSI N (N 6 18) 0 j ∨ CKI N (fun c => 0 ≤ c) (k + 1) 0 j) v) := fun n => by
  have hB : sB k = 2 + 56 * k := rfl
  induction n with
  | zero =>
    intro t ht t0 V Qr Qt hV hW g
    have e : t = 3 := by (clear hn hro h18 hv hk hB t0 hV hW g; lia)
    subst e
    refine b_396_101 (Tr_mono _) hV hW _ _ _ _ ?_
    rw [if_neg (by omega), w32_id (x := k + 1) (by omega) (by (clear hro h18 hv hB hV hW g ht t0; omega)), svM_c (fun j => or_congr Iff.rfl (CKI_n hk.1))]; exact g
  | succ n ih =>
    intro t ht t0
    have rd : svM N (fun j => RSI N (N 6 18) 0 j ∨ CKI N (fun c => 0 ≤ c) k t j) v 239 (sB k + 22 + t) = N 239 (sB k + 22 + t) := by
      rw [svM_i, svF_out (fun e => ?_)]
      rcases e with e | e
      · have := RSI_z hro h18.2 (by omega) (by decide) e; (clear hro h18 hv ih e; omega)
      · have := CKI_z (by omega) (by omega) e; omega
    refine RC_tr (fun V Qr Qt hV hW g => ?_) (ih (t + 1) (by (clear hn hro h18 hv hk hB ih t0 rd; lia)) (by (clear hn hro h18 hv hk hB ih rd; omega)))
    refine b_396_101 (Tr_mono _) hV hW _ _ _ _ ?_
    rw [if_pos (by (clear hn hro h18 hv hk hB ih rd hV hW g; omega))]
    refine q_323 (by (clear hro h18 hv hB ih ht t0 rd hV hW g; lia)) _ _ (ri_i ?_)
    rw [w32_id (x := sB k + 22) (by (clear hro h18 hv ih ht t0 rd hV hW g; lia)) (by omega), w32_id (x := sB k + 22 + t) (by (clear hro h18 hv ih rd hV hW g; omega)) (by (clear hro h18 hv ih rd hV hW g; omega)), w32_id (x := t + 1) (by omega) (by omega), rd]
    refine ⟨by omega, ?_⟩
    by_cases c : N 239 (sB k + 22 + t) < 0
    · rw [if_pos c, svM_c (S' := fun j => RSI N (N 6 18) 0 j ∨ CKI N (fun c => 0 ≤ c) k (t + 1) j) (fun j => ?_)]
      · exact g
      · refine or_congr Iff.rfl ⟨fun h => (CKI_s t0).2 (.inl h), fun h => ?_⟩
        rcases (CKI_s t0).1 h with h | ⟨p, e⟩
        · exact h
        · rw [e] at p; exact absurd p (by show ¬ _; (clear hn hro h18 hv hk hB ih ht t0 rd hV hW g h e; omega))
    · rw [if_neg c]
      refine q_323 (by omega) _ _ (ri_i ?_)
      rw [w32_id (x := sB k + 22) (by omega) (by omega), w32_id (x := sB k + 22 + t) (by omega) (by omega)]
      rw [show svM N (fun j => RSI N (N 6 18) 0 j ∨ CKI N (fun c => 0 ≤ c) k t j) v 6 128 = v by rw [svM_r (by decide)]; exact hv]
      rw [svM_up, svM_c (S' := fun j => RSI N (N 6 18) 0 j ∨ CKI N (fun c => 0 ≤ c) k (t + 1) j) (fun j => ?_)]
      · exact ⟨by omega, g⟩
      · rw [CKI_s t0, or_assoc]
        refine or_congr Iff.rfl (or_congr Iff.rfl ⟨fun e => ⟨by rw [e]; show _; (clear hn hro h18 hv hk hB ih ht t0 rd hV hW g e; omega), e⟩, fun h => h.2⟩)
theorem t_396d [Inhabited fz_] (hn : 0 ≤ N 239 0 ∧ N 239 0 ≤ 12) (hro : ∀ r, 0 ≤ r → r < N 6 18 → 0 ≤ N 239 (sR r) ∧ N 239 (sR r) ≤ 6) (h18 : 0 ≤ N 6 18 ∧ N 6 18 ≤ 10) (hv : N 6 128 = v) : ∀ (n : Nat) (k : Int), k + n = N 239 0 → 0 ≤ k → ∀ (V : vv_) (Qr : qr_) (Qt : qt_), Cl_ wd0 (Tr_ wd0 pg0 1) V Qr Qt m_396 → Wk_ V → Qr [.inl 1] (up_ (svM N (FSI N (fun c => 0 ≤ c)) v) 6 130 0) → V 89 [rr 6, ii x1, ii k, none] [] (svM N (fun j => RSI N (N 6 18) 0 j ∨ CKI N (fun c => 0 ≤ c) k 0 j) v) := fun n => by
  have rd : ∀ k, 0 ≤ k ∧ k ≤ 12 → svM N (fun j => RSI N (N 6 18) 0 j ∨ CKI N (fun c => 0 ≤ c) k 0 j) v 239 0 = N 239 0 := fun k hk => by
    rw [svM_i, svF_out (fun e => ?_)]
    rcases e with e | e
    · have := RSI_z hro h18.2 (by (clear hn hro hv hk e; omega)) (by decide) e; omega
    · have := CKI_z hk (by decide) e; omega
  induction n with
  | zero =>
    intro k hk k0 V Qr Qt hV hW g
    refine b_396_89 (Tr_mono _) hV hW _ _ _ ⟨by decide, ?_⟩
    rw [rd k (by (clear hro h18 hv rd k0 hV hW g; omega)), if_neg (by (clear hn hro h18 hv rd k0 hV hW g; omega)), show k = N 239 0 by (clear hn hro h18 hv rd k0 hV hW g; lia)]; exact g
  | succ n ih =>
    intro k hk k0 V Qr Qt hV hW g
    refine b_396_89 (Tr_mono _) hV hW _ _ _ ⟨by decide, ?_⟩
    rw [rd k (by (clear hro h18 hv rd ih hV hW g; omega)), if_pos (by (clear hn hro h18 hv rd ih k0 hV hW g; omega))]
    exact t_396c hn hro h18 hv ⟨k0, by omega⟩ 3 0 (by decide) (by decide) V Qr Qt hV hW (ih (k + 1) (by (clear hn hro h18 hv rd ih k0 hV hW g; omega)) (by omega) V Qr Qt hV hW g)

theorem q_381 [Inhabited fz_] (hn : 0 ≤ N 239 0 ∧ N 239 0 ≤ 12) (hro : ∀ r, 0 ≤ r → r < N 6 18 → 0 ≤ N 239 (sR r) ∧ N 239 (sR r) ≤ 6) (h18 : 0 ≤ N 6 18 ∧ N 6 18 ≤ 10) : Ex_ 2 381 [.inr (.inr 6)] N [] (svM N (FSI N (fun c => 0 < c)) 0) := fun Qr Qt g => t_381 fun V hV hW => b_381_0 (Tr_mono _) hV hW _ (by
  have a := t_381b hro h18 (N 6 18).toNat 0 (by omega) (by decide) V Qr Qt hV hW
  have e0 : svM N (RSI N 0 0) 0 = N := svM_0 (fun j h => by rcases h with ⟨r', q', x, _⟩ | ⟨q', x, _⟩ <;> omega)
  rw [e0] at a
  refine a ?_
  have d := t_381d hn hro h18 (N 239 0).toNat 0 (by omega) (by decide) V Qr Qt hV hW g
  rw [svM_c (S' := RSI N (N 6 18) 0) (fun j => ⟨fun h => h.elim id (fun h => by rcases h with ⟨r', q', x, _⟩ | ⟨q', x, _⟩ <;> omega), fun h => .inl h⟩)] at d
  exact d)
theorem q_396v [Inhabited fz_] {V : vv_} {Qr : qr_} {Qt : qt_} (hV : Cl_ wd0 (Tr_ wd0 pg0 1) V Qr Qt m_396) (hW : Wk_ V) (hn : 0 ≤ N 239 0 ∧ N 239 0 ≤ 12) (hro : ∀ r, 0 ≤ r → r < N 6 18 → 0 ≤ N 239 (sR r) ∧ N 239 (sR r) ≤ 6) (h18 : 0 ≤ N 6 18 ∧ N 6 18 ≤ 10) (hv : N 6 128 = v) (g : Qr [.inl 1] (up_ (svM N (FSI N (fun c => 0 ≤ c)) v) 6 130 0)) : V 30 [rr 6, ii x1, ii 0, none] [] N := by
  have a := t_396b (x1 := x1) hro h18 hv (N 6 18).toNat 0 (by (clear hV hW hn hro hv g; omega)) (by decide) V Qr Qt hV hW
  have e0 : svM N (RSI N 0 0) v = N := svM_0 (fun j h => by rcases h with ⟨r', q', x, _⟩ | ⟨q', x, _⟩ <;> omega)
  rw [e0] at a
  refine a ?_
  have d := t_396d (x1 := x1) hn hro h18 hv (N 239 0).toNat 0 (by (clear hV hW hro h18 hv g a e0; omega)) (by decide) V Qr Qt hV hW g
  rw [svM_c (S' := RSI N (N 6 18) 0) (fun j => ⟨fun h => h.elim id (fun h => by rcases h with ⟨r', q', x, _⟩ | ⟨q', x, _⟩ <;> omega), fun h => .inl h⟩)] at d
  exact d
end SVa
end T414_sv
section T415_si
/-! the search begins (X 37, Q 380) -/
def k41 (M : mm_) : Int → Int := fun i => if 0 ≤ i ∧ i < 36 then M 17 i else if 36 ≤ i ∧ i < 96 then M 22 (7 * (i - 36) + 3) else M 41 i
def siX (M : mm_) : mm_ := up_ (wr_ (wr_ M 41 (k41 M)) 31 (flf (M 31) 0 1024 (-1))) 0 25 1
def siQ (N : mm_) (x1 : Int) : mm_ := up_ (up_ (up_ (up_ (up_ (wr_ N 246 (ldF (N 246) (N 239))) 6 127 1) 6 165 x1) 6 163 0) 6 164 0) 6 169 0
section SIa
variable {M N Ms Np M' N' A : mm_} {f : Int → Int} {k r t x1 a b : Int}
theorem RU_01 [Inhabited fz_] (h : RU 0 M N) (hx : ∀ r : Nat, r ∈ [10, 11, 12, 13, 14, 15, 16, 17, 18, 19, 20, 21, 22, 23, 24] → Ms r = M r) (h0 : ∀ i : Int, i ∈ rfX → i ≠ 25 → i ≠ 37 → i ≠ 38 → Ms 0 i = M 0 i) (h25 : Ms 0 25 = 1) (hq : ∀ r : Nat, r ∈ [172, 173, 174, 240, 241] → Np r = N r) (h6 : ∀ i : Int, i ∈ rfQ → i ≠ 127 → i ≠ 138 → i ≠ 139 → Np 6 i = N 6 i) (h127 : Np 6 127 = 1) (h37 : Ms 0 37 = Np 6 138 ∧ Ms 0 38 = Np 6 139) (hz : Np 239 = svF (N 239) (FSI N (fun c => 0 < c)) 0) (hf : (∀ i, 0 ≤ i → i < 1200 → M 24 i = fz 24 i) ∧ ∀ i, 0 ≤ i → i < 2000 → M 23 i = fz 23 i) : RU 1 Ms Np := by
  obtain ⟨⟨a1, a2, a3, a4⟩, ⟨b1, b2, b3⟩, c, d, e⟩ := h
  have hro : ∀ r, 0 ≤ r → r < N 6 18 → 0 ≤ N 239 (sR r) ∧ N 239 (sR r) ≤ 6 := fun r r0 r1 => by have := (b2 r r0 r1).1; (clear hx h0 h25 hq h6 h127 h37 hz hf a1 a2 a3 a4 b1 b2 b3 c d e r0 r1; omega)
  have out : ∀ j, ¬ FSI N (fun c => 0 < c) j → Np 239 j = N 239 j := fun j hj => by rw [hz, svF_out hj]
  have rz : ∀ j, RSI N (N 6 18) 0 j → 674 ≤ j ∧ (j - 674) % 43 ≠ 0 := fun j hj => RSI_z hro b1.2 (by (clear hx h0 h25 hq h6 h127 h37 hz hf a1 a2 a3 a4 b2 b3 c d e hro out hj; omega)) (by decide) hj
  have cz : ∀ j, CKI N (fun c => 0 < c) (N 239 0) 0 j → 24 ≤ j ∧ (j - 2) % 56 < 25 ∧ 22 ≤ (j - 2) % 56 ∧ (j < sB (N 239 0) + 22 + 0) := fun j hj => CKI_z (by (clear hx h0 h25 hq h6 h127 h37 hz hf a2 a3 a4 b1 b2 b3 c d e hro out rz hj; omega)) (by decide) hj
  have n12 := a1
  have hB0 : sB (N 239 0) = 2 + 56 * N 239 0 := rfl
  -- places that stay
  have s1 : ∀ k i, 0 ≤ k → k < 12 → 0 ≤ i → i < 56 → (i < 22 ∨ 25 ≤ i) → Np 239 (sB k + i) = N 239 (sB k + i) := fun k i k0 k1 i0 i1 hi => by
    have hB : sB k = 2 + 56 * k := rfl
    refine out _ (fun hj => ?_)
    rcases hj with hj | hj
    · have := rz _ hj; (clear hx h0 h25 hq h6 h127 h37 hz hf a1 a2 a3 a4 b1 b2 b3 c d e hro out rz cz n12 hB0 hi hj; omega)
    · have := cz _ hj; (clear hx h0 h25 hq h6 h127 h37 hz hf a1 a2 a3 a4 b1 b2 b3 c d e hro out rz cz n12 hB0 k0 k1 hj; omega)
  have g0 : Np 239 0 = N 239 0 := out _ (fun hj => by rcases hj with hj | hj; have := rz _ hj; omega; have := cz _ hj; omega)
  have g1 : Np 239 1 = N 239 1 := out _ (fun hj => by rcases hj with hj | hj; have := rz _ hj; omega; have := cz _ hj; omega)
  refine ⟨⟨?_, ?_, fun k k0 k1 => ?_, fun k k0 k1 i i0 i1 => ?_⟩, ⟨?_, fun r r0 r1 => ?_, fun r r0 r1 i i0 i1 => ?_⟩, ?_, ?_, ?_⟩
  · rw [h0 7 (by decide) (by decide) (by decide) (by decide), g0]; exact a1
  · rw [h0 8 (by decide) (by decide) (by decide) (by decide), g1]; exact a2
  · rw [h0 7 (by decide) (by decide) (by decide) (by decide)] at k1
    have hB : sB k = 2 + 56 * k := rfl
    have s := fun i i0 i1 hi => s1 k i k0 (by (clear hx h0 h25 hq h6 h127 h37 hz hf a2 a3 a4 b1 b2 b3 c d e hro out rz cz n12 hB0 s1 g1 k0 hB i0 i1 hi; omega)) i0 i1 hi
    have z0 := s 0 (by decide) (by decide) (by decide)
    rw [Int.add_zero] at z0
    obtain ⟨p1, p2, p3, p4, p5, p6, p7⟩ := a3 k k0 k1
    unfold IN
    rw [hx 10 (by decide), hx 11 (by decide), hx 12 (by decide), hx 13 (by decide), hx 14 (by decide), hx 15 (by decide), hx 16 (by decide), hx 17 (by decide), hx 18 (by decide), hx 19 (by decide), hx 20 (by decide), h0 8 (by decide) (by decide) (by decide) (by decide), h6 19 (by decide) (by decide) (by decide) (by decide), hq 172 (by decide), hq 173 (by decide), hq 174 (by decide), z0, s 1 (by decide) (by decide) (by decide), s 2 (by decide) (by decide) (by decide), s 3 (by decide) (by decide) (by decide), s 4 (by decide) (by decide) (by decide), s 5 (by decide) (by decide) (by decide), s 25 (by decide) (by decide) (by decide)]
    refine ⟨p1, p2, ⟨fun i i0 i1 => ?_, fun i i0 i1 i2 => ?_⟩, fun t t0 t1 => ?_, p5, fun i i0 i1 => ?_, fun i i0 i1 => ?_⟩
    · rw [show sB k + 6 + i = sB k + (6 + i) by (clear hx h0 h25 hq h6 h127 h37 hz hf a1 a2 a3 a4 b1 b2 b3 c d e hro out rz cz n12 hB0 s1 g0 g1 k0 k1 hB s z0 p1 p2 p3 p4 p5 p6 p7 i0 i1; lia), s (6 + i) (by (clear hx h0 h25 hq h6 h127 h37 hz hf a1 a2 a3 a4 b1 b2 b3 c d e hro out rz cz n12 hB0 s1 g0 g1 k0 k1 hB s z0 p1 p2 p3 p4 p5 p6 p7; lia)) (by (clear hx h0 h25 hq h6 h127 h37 hz hf a1 a2 a3 a4 b1 b2 b3 c d e hro out rz cz n12 hB0 s1 g0 g1 k0 k1 hB s z0 p1 p2 p3 p4 p5 p6 p7; lia)) (by (clear hx h0 h25 hq h6 h127 h37 hz hf a1 a2 a3 a4 b1 b2 b3 c d e hro out rz cz n12 hB0 s1 g0 g1 k0 k1 hB s z0 p1 p2 p3 p4 p5 p6 p7; omega)), show sB k + (6 + i) = sB k + 6 + i by (clear hx h0 h25 hq h6 h127 h37 hz hf a1 a2 a3 a4 b1 b2 b3 c d e hro out rz cz n12 hB0 s1 g0 g1 k0 k1 hB s z0 p1 p2 p3 p4 p5 p6 p7 i0 i1; lia)]; exact p3.1 i i0 i1
    · rw [show sB k + 6 + i = sB k + (6 + i) by (clear hx h0 h25 hq h6 h127 h37 hz hf a1 a2 a3 a4 b1 b2 b3 c d e hro out rz cz n12 hB0 s1 g0 g1 k0 k1 hB s z0 p1 p2 p3 p4 p5 p6 p7 i0 i1 i2; lia), s (6 + i) (by omega) (by omega) (by omega), show sB k + (6 + i) = sB k + 6 + i by (clear hx h0 h25 hq h6 h127 h37 hz hf a1 a2 a3 a4 b1 b2 b3 c d e hro out rz cz n12 hB0 s1 g0 g1 k0 k1 hB s z0 p1 p2 p3 p4 p5 p6 p7 i0 i1 i2; lia)]; exact p3.2 i i0 i1 i2
    · have tm := p4 t t0 t1
      refine ⟨?_, tm.2⟩
      have nr : ¬ RSI N (N 6 18) 0 (sB k + 22 + t) := fun hj => by have := rz _ hj; (clear hx h0 h25 hq h6 h127 h37 hz hf a2 a3 a4 b1 b2 b3 c d e hro out rz cz n12 hB0 s1 g1 s z0 p1 p2 p3 p4 p5 p6 p7 tm hj; omega)
      rcases tm.1 with ⟨u1, u2, u3⟩ | ⟨u1, u2⟩
      · have u4 : N 239 (sB k + 22 + t) = M 17 (3 * k + t) := by (clear hx h0 h25 hq h6 h127 h37 hz hf a1 a2 a3 a4 b1 b2 b3 c d e hro out rz cz n12 hB0 s1 g0 g1 k0 k1 hB s z0 p1 p2 p3 p4 p5 p6 p7 t0 t1 tm nr u1 u2; lia)
        refine .inl ⟨u1, u2, .inr ⟨rfl, ?_⟩⟩
        by_cases c0 : 0 < N 239 (sB k + 22 + t)
        · rw [hz, svF_in (.inr (.inl ⟨k, t, ⟨k0, by (clear hx h0 h25 hq h6 h127 h37 hz hf a2 a3 a4 b1 b2 b3 c d e hro out rz cz n12 hB0 s1 g1 k0 hB s z0 p1 p2 p3 p4 p5 p6 p7 t0 t1 tm nr u1 u2 u3 u4 c0; omega)⟩, ⟨t0, t1⟩, c0, rfl⟩))]
        · rw [out _ (fun hj => ?_)]
          · (clear hx h0 h25 hq h6 h127 h37 hz hf a1 a2 a3 a4 b1 b2 b3 c d e hro out rz cz n12 hB0 s1 g0 g1 k0 k1 hB s z0 p1 p2 p3 p4 p5 p6 p7 t0 t1 tm nr u1 u3; omega)
          · rcases hj with hj | hj
            · exact nr hj
            · rcases hj with ⟨k', t', q1, q2, q3, q4⟩ | ⟨t', q1, _⟩
              · exact c0 q3
              · (clear hx h0 h25 hq h6 h127 h37 hz hf a1 a2 a3 a4 b1 b2 b3 c d e hro out rz cz n12 hB0 s1 g0 g1 k0 k1 hB s z0 p1 p2 p3 p4 p5 p6 p7 t0 t1 tm nr u1 u2 u3 u4 c0; omega)
      · refine .inr ⟨u1, ?_⟩
        rw [out _ (fun hj => ?_)]
        · exact u2
        · rcases hj with hj | hj
          · exact nr hj
          · rcases hj with ⟨k', t', q1, q2, q3, q4⟩ | ⟨t', q1, _⟩
            · have q3' : 0 < N 239 (sB k + 22 + t) := q3
              (clear hx h0 h25 hq h6 h127 h37 hz hf a1 a2 a3 a4 b1 b2 b3 c d e hro out rz cz n12 hB0 s1 g0 g1 k0 k1 hB s z0 p1 p2 p3 p4 p5 p6 p7 t0 t1 tm nr u1 q1 q2 q4 q3'; omega)
            · omega
    · rw [show sB k + 26 + i = sB k + (26 + i) by (clear hx h0 h25 hq h6 h127 h37 hz hf a1 a2 a3 a4 b1 b2 b3 c d e hro out rz cz n12 hB0 s1 g0 g1 k0 k1 hB s z0 p1 p2 p3 p4 p5 p6 p7 i0 i1; lia), s (26 + i) (by (clear hx h0 h25 hq h6 h127 h37 hz hf a1 a2 a3 a4 b1 b2 b3 c d e hro out rz cz n12 hB0 s1 g0 g1 k0 k1 hB s z0 p1 p2 p3 p4 p5 p6 p7 i1; lia)) (by (clear hx h0 h25 hq h6 h127 h37 hz hf a1 a2 a3 a4 b1 b2 b3 c d e hro out rz cz n12 hB0 s1 g0 g1 k0 k1 hB s z0 p1 p2 p3 p4 p6 p7 i0; lia)) (by (clear hx h0 h25 hq h6 h127 h37 hz hf a1 a2 a3 a4 b1 b2 b3 c d e hro out rz cz n12 hB0 s1 g0 g1 k0 k1 hB s z0 p1 p2 p3 p4 p5 p6 p7 i1; omega)), show sB k + (26 + i) = sB k + 26 + i by (clear hx h0 h25 hq h6 h127 h37 hz hf a1 a2 a3 a4 b1 b2 b3 c d e hro out rz cz n12 hB0 s1 g0 g1 k0 k1 hB s z0 p1 p2 p3 p4 p5 p6 p7 i0 i1; lia)]; exact p6 i i0 i1
    · rw [show sB k + 26 + i = sB k + (26 + i) by omega, s (26 + i) (by (clear hx h0 h25 hq h6 h127 h37 hz hf a1 a2 a3 a4 b1 b2 b3 c d e hro out rz cz n12 hB0 s1 g0 g1 k0 k1 hB s z0 p1 p2 p3 p4 p6 p7 i1; lia)) (by (clear hx h0 h25 hq h6 h127 h37 hz hf a1 a2 a3 a4 b1 b2 b3 c d e hro out rz cz n12 hB0 s1 g0 g1 k0 k1 hB s z0 p1 p2 p3 p4 p5 p6 p7 i0; omega)) (by (clear hx h0 h25 hq h6 h127 h37 hz hf a1 a2 a3 a4 b1 b2 b3 c d e hro out rz cz n12 hB0 s1 g0 g1 k0 k1 hB s z0 p1 p2 p3 p4 p6 p7; lia)), show sB k + (26 + i) = sB k + 26 + i by (clear hx h0 h25 hq h6 h127 h37 hz hf a1 a2 a3 a4 b1 b2 b3 c d e hro out rz cz n12 hB0 s1 g0 g1 k0 k1 hB s z0 p1 p2 p3 p4 p5 p6 p7 i0 i1; lia)]; exact p7 i i0 i1
  · rw [h0 7 (by decide) (by decide) (by decide) (by decide)] at k0
    have hB : sB k = 2 + 56 * k := rfl
    rw [out _ (fun hj => ?_)]
    · exact a4 k k0 k1 i i0 i1
    · rcases hj with hj | hj
      · have := rz _ hj; (clear hx h0 h25 hq h6 h127 h37 hz hf a2 a3 a4 b1 b2 b3 c d e hro out rz cz n12 hB0 s1 g1 hj; omega)
      · have := cz _ hj; (clear hx h0 h25 hq h6 h127 h37 hz hf a2 a3 a4 b1 b2 b3 c d e hro out rz cz n12 s1 g1 k1 hj; omega)
  · rw [h6 18 (by decide) (by decide) (by decide) (by decide)]; exact b1
  · rw [h6 18 (by decide) (by decide) (by decide) (by decide)] at r1
    have hR : sR r = 674 + 43 * r := rfl
    obtain ⟨o1, o2, o3⟩ := b2 r r0 r1
    have nc : ∀ i, 0 ≤ i → ¬ CKI N (fun c => 0 < c) (N 239 0) 0 (sR r + i) := fun i i0 hj => by have := cz _ hj; (clear hx h0 h25 hq h6 h127 h37 hz hf a2 a3 a4 b2 b3 c d e hro out rz cz n12 s1 g1 o1 o2 o3 hj; lia)
    have q0 : Np 239 (sR r) = N 239 (sR r) := out _ (fun hj => by
      rcases hj with hj | hj
      · have := rz _ hj; (clear hx h0 h25 hq h6 h127 h37 hz hf a1 a2 a3 a4 b1 b2 b3 c d e hro out rz cz n12 hB0 s1 g0 g1 r0 r1 o1 o2 o3 nc hj; lia)
      · have := nc 0 (by decide); rw [Int.add_zero] at this; exact this hj)
    have other : ∀ i, 0 ≤ i → i < 43 → (∀ q, 0 ≤ q → q < N 239 (sR r) → i ≠ 1 + 7 * q + 3) → Np 239 (sR r + i) = N 239 (sR r + i) := fun i i0 i1 hi => out _ (fun hj => by
      rcases hj with hj | hj
      · rcases hj with ⟨r', q', x1, x2, x3⟩ | ⟨q', x1, _⟩
        · have h' := hro r' x1.1 x1.2
          have er : r' = r := by unfold sR at x3; (clear hx h0 h25 hq h6 h127 h37 hz hf a1 a2 a3 a4 b1 b2 b3 c d e hro out rz cz n12 hB0 s1 g0 g1 r0 r1 hR o1 o2 o3 nc q0 hi x1; lia)
          subst er
          exact hi q' x2.1 x2.2 (by (clear hx h0 h25 hq h6 h127 h37 hz hf a1 a2 a3 a4 b1 b2 b3 c d e hro out rz cz n12 hB0 s1 g0 g1 i0 i1 x1 x2 h' r0 r1 hR o1 o2 o3 nc q0 hi; lia))
        · omega
      · exact nc i i0 hj)
    unfold RO
    rw [hx 21 (by decide), hx 22 (by decide), q0]
    refine ⟨o1, fun q q0' q1 => ⟨fun j j0 j1 j3 => ?_, ?_, fun z => absurd z (by decide), fun _ => ?_⟩, fun i i0 i1 => ?_⟩
    · have := other (1 + 7 * q + j) (by (clear hx h0 h25 hq h6 h127 h37 hz hf a1 a2 a3 a4 b1 b2 b3 c d e hro out rz cz n12 hB0 s1 g0 g1 r0 r1 hR o2 o3 nc other j3; lia)) (by (clear hx h0 h25 hq h6 h127 h37 hz hf a1 a2 a3 a4 b1 b2 b3 c d e hro out rz cz n12 hB0 s1 g0 g1 r0 r1 hR o2 o3 nc other j3; omega)) (fun q' a b => by (clear hx h0 h25 hq h6 h127 h37 hz hf a1 a2 a3 a4 b1 b2 b3 c d e hro out rz cz n12 hB0 s1 g0 g1 r0 r1 hR o1 o2 o3 nc q0 other q0' q1 a b; lia))
      rw [show sR r + (1 + 7 * q + j) = sR r + 1 + 7 * q + j by (clear hx h0 h25 hq h6 h127 h37 hz hf a1 a2 a3 a4 b1 b2 b3 c d e hro out rz cz n12 hB0 s1 g0 g1 r0 r1 hR o1 o2 o3 nc q0 other q0' q1 j0 j1 j3 this; lia)] at this
      rw [this]; exact (o2 q q0' q1).1 j j0 j1 j3
    · exact (o2 q q0' q1).2.1
    · rw [hz, svF_in (.inl (.inl ⟨r, q, ⟨r0, r1⟩, ⟨q0', by (clear hx h0 h25 hq h6 h127 h37 hz hf a1 a2 a3 a4 b1 b2 b3 c d e hro out rz cz n12 hB0 s1 g0 g1 r0 r1 hR o2 o3 nc other q0'; omega)⟩, rfl⟩))]
    · have := other (1 + i) (by (clear hx h0 h25 hq h6 h127 h37 hz hf a1 a2 a3 a4 b1 b2 b3 c d e hro out rz cz n12 hB0 s1 g0 g1 r0 r1 hR o2 o3 nc other i1; lia)) (by omega) (fun q' a b => by (clear hx h0 h25 hq h6 h127 h37 hz hf a1 a2 a3 a4 b1 b2 b3 c d e hro out rz cz n12 hB0 s1 g0 g1 r0 r1 hR o2 o3 nc other i1 a; omega))
      rw [show sR r + (1 + i) = sR r + 1 + i by (clear hx h0 h25 hq h6 h127 h37 hz hf a1 a2 a3 a4 b1 b2 b3 c d e hro out rz cz n12 hB0 s1 g0 g1 r0 r1 hR o1 o2 o3 nc q0 other i0 i1 this; lia)] at this
      rw [this]; exact o3 i i0 i1
  · rw [h6 18 (by decide) (by decide) (by decide) (by decide)] at r0
    have hR : sR r = 674 + 43 * r := rfl
    rw [out _ (fun hj => ?_)]
    · exact b3 r r0 r1 i i0 i1
    · rcases hj with hj | hj
      · rcases hj with ⟨r', q', x1, x2, x3⟩ | ⟨q', x1, _⟩
        · have h' := hro r' x1.1 x1.2
          unfold sR at x3; (clear hx h0 h25 hq h6 h127 h37 hz hf a1 a2 a3 a4 b1 b2 b3 c d e hro out rz cz n12 hB0 s1 g0 g1 r1 hR; lia)
        · omega
      · have := cz _ hj; (clear hx h0 h25 hq h6 h127 h37 hz hf a2 a3 a4 b2 b3 c d e hro out rz cz n12 s1 g1 hj; lia)
  · unfold RSC at c ⊢
    rw [h25, h127, h0 9 (by decide) (by decide) (by decide) (by decide), h0 10 (by decide) (by decide) (by decide) (by decide), h0 26 (by decide) (by decide) (by decide) (by decide), h0 27 (by decide) (by decide) (by decide) (by decide), h0 28 (by decide) (by decide) (by decide) (by decide), h0 29 (by decide) (by decide) (by decide) (by decide), h0 30 (by decide) (by decide) (by decide) (by decide), h0 31 (by decide) (by decide) (by decide) (by decide), h6 128 (by decide) (by decide) (by decide) (by decide), h6 129 (by decide) (by decide) (by decide) (by decide), h6 131 (by decide) (by decide) (by decide) (by decide), h6 132 (by decide) (by decide) (by decide) (by decide), h6 133 (by decide) (by decide) (by decide) (by decide), h6 134 (by decide) (by decide) (by decide) (by decide), h6 135 (by decide) (by decide) (by decide) (by decide), h6 136 (by decide) (by decide) (by decide) (by decide)]
    exact ⟨⟨rfl, rfl, .inr rfl⟩, c.2.1, c.2.2.1, c.2.2.2.1, fun _ => h37⟩
  · unfold ROU at d ⊢
    rw [h0 32 (by decide) (by decide) (by decide) (by decide), h0 33 (by decide) (by decide) (by decide) (by decide), h0 34 (by decide) (by decide) (by decide) (by decide), h6 137 (by decide) (by decide) (by decide) (by decide), h6 144 (by decide) (by decide) (by decide) (by decide), h6 145 (by decide) (by decide) (by decide) (by decide), hx 24 (by decide), hq 241 (by decide)]
    exact ⟨d.1, fun i i0 i1 => ⟨(d.2 i i0 i1).1, fun _ => hf.1 i i0 i1⟩⟩
  · unfold REV at e ⊢
    rw [h0 35 (by decide) (by decide) (by decide) (by decide), h0 36 (by decide) (by decide) (by decide) (by decide), h6 142 (by decide) (by decide) (by decide) (by decide), h6 143 (by decide) (by decide) (by decide) (by decide), hx 23 (by decide), hq 240 (by decide)]
    exact ⟨e.1, fun i i0 i1 => ⟨(e.2 i i0 i1).1, fun _ => hf.2 i i0 i1⟩⟩
/-- what is of sorts does not look at times -/
theorem TYA_sv2 [Inhabited fz_] {P : Int → Prop} {v : Int} (b1 : 0 ≤ N 6 18 ∧ N 6 18 ≤ 10) (n12 : 0 ≤ N 239 0 ∧ N 239 0 ≤ 12) (hro : ∀ r, 0 ≤ r → r < N 6 18 → 0 ≤ N 239 (sR r) ∧ N 239 (sR r) ≤ 6) (hA : TYA N) (ht : TYT N Np) (hz : Np 239 = svF (N 239) (FSI N P) v) (hv : R32 v) : TYA Np := by
  have out : ∀ j, ¬ FSI N P j → Np 239 j = N 239 j := fun j hj => by rw [hz, svF_out hj]
  have rz : ∀ j, RSI N (N 6 18) 0 j → 674 ≤ j ∧ (j - 674) % 43 ≠ 0 := fun j hj => RSI_z hro b1.2 (by omega) (by decide) hj
  have cz : ∀ j, CKI N P (N 239 0) 0 j → 24 ≤ j ∧ (j - 2) % 56 < 25 ∧ 22 ≤ (j - 2) % 56 ∧ (j < sB (N 239 0) + 22 + 0) := fun j hj => CKI_z (by omega) (by decide) hj
  have hB0 : sB (N 239 0) = 2 + 56 * N 239 0 := rfl
  have g0 : Np 239 0 = N 239 0 := out _ (fun hj => by rcases hj with hj | hj; have := rz _ hj; omega; have := cz _ hj; omega)
  have s1 : ∀ k i, 0 ≤ k → k < 12 → 0 ≤ i → i < 56 → (i < 22 ∨ 25 ≤ i) → Np 239 (sB k + i) = N 239 (sB k + i) := fun k i k0 k1 i0 i1 hi => by
    have hB : sB k = 2 + 56 * k := rfl
    refine out _ (fun hj => ?_)
    rcases hj with hj | hj
    · have := rz _ hj; omega
    · have := cz _ hj; (clear b1 n12 hro hA ht hz hv out rz cz hB0 g0 k0 k1 hj; omega)
  refine ⟨fun k k0 k1 k2 => ?_, fun r r0 r1 r2 => ?_, fun j => ?_⟩
  · rw [g0] at k2
    have q := hA.1 k k0 k1 k2
    have e25 := s1 k 25 k0 k1 (by decide) (by decide) (by decide)
    refine TIN_q q ht (s1 k 1 k0 k1 (by decide) (by decide) (by decide)) (fun i i0 i1 => s1 k (6 + i) k0 k1 (by (clear b1 n12 hro hA ht hz hv out rz cz hB0 g0 s1 k0 k1 k2 q e25; lia)) (by (clear b1 n12 hro hA ht hz hv out rz cz hB0 g0 s1 k0 k1 k2 q e25; omega)) (by (clear b1 n12 hro hA ht hz hv out rz cz hB0 g0 s1 k0 k1 k2 q e25; omega))) (fun p p0 p1 p2 => ?_)
    have p2' : p < Np 239 (sB k + 25) := p2
    rw [e25] at p2'
    have := q.2 p p0 p1 p2'
    show SGV Np (Np 239 (sB k + (26 + 5 * p))) (fun v => Np 239 (sB k + (28 + 5 * p + v)))
    rw [s1 k (26 + 5 * p) k0 k1 (by (clear b1 n12 hro hA ht hz hv out rz cz hB0 g0 s1 k0 k1 k2 q e25 p2 p2' this; lia)) (by (clear b1 n12 hro hA ht hz hv out rz cz hB0 g0 s1 k0 k1 k2 q e25 p2 p2' this; lia)) (by (clear b1 n12 hro hA ht hz hv out rz cz hB0 g0 s1 k0 k1 k2 q e25 p2 p2' this; omega))]
    exact SGV_c this ht (fun v v0 v1 => s1 k (28 + 5 * p + v) k0 k1 (by (clear b1 n12 hro hA ht hz hv out rz cz hB0 g0 s1 k0 k1 k2 q e25 p2 p2' this; lia)) (by omega) (by omega))
  · rw [ht.2.1] at r2
    have hR : sR r = 674 + 43 * r := rfl
    have q := hA.2.1 r r0 r1 r2
    have nc : ∀ i, 0 ≤ i → ¬ CKI N P (N 239 0) 0 (sR r + i) := fun i i0 hj => by have := cz _ hj; omega
    have other : ∀ i, 0 ≤ i → i < 43 → (i = 0 ∨ (i - 1) % 7 ≠ 3) → Np 239 (sR r + i) = N 239 (sR r + i) := fun i i0 i1 hi => out _ (fun hj => by
      rcases hj with hj | hj
      · rcases hj with ⟨r', q', x1, x2, x3⟩ | ⟨q', x1, _⟩
        · have h' := hro r' x1.1 x1.2
          have er : r' = r := by unfold sR at x3; omega
          subst er
          rcases hi with hi | hi <;> (clear b1 n12 hro hA ht hz hv out rz cz hB0 g0 s1 i0 i1 x1 x2 h' r0 r1 r2 hR q nc; omega)
        · (clear b1 n12 hro hA ht hz hv out rz cz hB0 g0 s1 r0 r1 r2 hR q nc i0 i1 hi; omega)
      · exact nc i i0 hj)
    unfold TRO at q ⊢
    rw [show (fun j => Np 239 (sR r + j)) 0 = N 239 (sR r + 0) from other 0 (by decide) (by decide) (.inl rfl)]
    intro p p0 p1 p2
    have := q p p0 p1 p2
    show SGV Np (Np 239 (sR r + (1 + 7 * p))) (fun v => Np 239 (sR r + (5 + 7 * p + v)))
    rw [other (1 + 7 * p) (by (clear b1 n12 hro hA ht hz hv out rz cz hB0 g0 s1 r0 r1 r2 hR q nc other p2 this; lia)) (by (clear b1 n12 hro hA ht hz hv out rz cz hB0 g0 s1 r0 r1 r2 hR q nc other p2 this; lia)) (.inr (by (clear b1 n12 hro hA ht hz hv out rz cz hB0 g0 s1 r0 r1 r2 hR q nc other p0 p1 p2 this; lia)))]
    exact SGV_c this ht (fun v v0 v1 => other (5 + 7 * p + v) (by (clear b1 n12 hro hA ht hz hv out rz cz hB0 g0 s1 r0 r1 r2 hR q nc other p2 this; lia)) (by (clear b1 n12 hro hA ht hz hv out rz cz hB0 g0 s1 r0 r1 r2 hR q nc other p2 this; omega)) (.inr (by (clear b1 n12 hro hA ht hz hv out rz cz hB0 g0 s1 r0 r1 r2 hR q nc other p0 p1 p2 this; omega))))
  · rw [hz]; unfold svF
    split
    · exact hv
    · exact hA.2.2 j
theorem TYA_sv [Inhabited fz_] {P : Int → Prop} {v : Int} (h : RU 0 M N) (hA : TYA N) (ht : TYT N Np) (hz : Np 239 = svF (N 239) (FSI N P) v) (hv : R32 v) : TYA Np := TYA_sv2 h.2.1.1 (by have := h.1.1; omega) (fun r r0 r1 => by have := (h.2.1.2.1 r r0 r1).1; omega) hA ht hz hv
end SIa
end T415_si
section T416_sb
/-! the search begins: the first state (X 37 to 156 | Q 380 to 89) -/
section SBa
variable {M N Ms Np M' N' A : mm_} {f : Int → Int} {k r t x1 a b : Int}
theorem x_23k [Inhabited fz_] {V : vv_} {Qr : qr_} {Qt : qt_} (hV : Cl_ wd0 (Tr_ wd0 pg0 10) V Qr Qt m_37) (hW : Wk_ V) (g : V 83 [rr 0, ii x1, ii 0, none, none, none] [] (wr_ M 41 (k41 M))) : V 23 [rr 0, ii x1, ii 0, none, none, none] [] M := by
  have e17 : ∀ g : Int → Int, wr_ M 41 g 17 = M 17 := fun g => wr_ne (by decide)
  have e22 : ∀ g : Int → Int, wr_ M 41 g 22 = M 22 := fun g => wr_ne (by decide)
  have l2 : ∀ (n : Nat) (x : Int), x + n = 60 → 0 ≤ x → V 49 [rr 0, ii x1, ii x, none, none, none] [] (wr_ M 41 (fun i => if 0 ≤ i ∧ i < 36 then M 17 i else if 36 ≤ i ∧ i < 36 + x then M 22 (7 * (i - 36) + 3) else M 41 i)) := fun n => by
    induction n with
    | zero =>
      intro x hx x0
      refine b_37_49 (Tr_mono _) hV hW _ _ _ ?_
      rw [if_neg (by omega), show x = 60 by (clear hV hW g e17 e22 x0; lia)]; exact g
    | succ n ih =>
      intro x hx x0
      refine b_37_49 (Tr_mono _) hV hW _ _ _ ?_
      rw [if_pos (by (clear hV hW g e17 e22 ih; omega)), w32_id (x := 7 * x) (by omega) (by (clear hV hW g e17 e22 ih; lia)), w32_id (x := 7 * x + 3) (by omega) (by omega), w32_id (x := 36 + x) (by omega) (by (clear hV hW g e17 e22 ih; omega)), w32_id (x := x + 1) (by omega) (by omega), e22, up_wr]
      refine ⟨by omega, by omega, ?_⟩
      have := ih (x + 1) (by (clear hV hW g e17 e22 ih x0; lia)) (by omega)
      have e : su_ (fun i => if 0 ≤ i ∧ i < 36 then M 17 i else if 36 ≤ i ∧ i < 36 + x then M 22 (7 * (i - 36) + 3) else M 41 i) (36 + x) (M 22 (7 * x + 3)) = fun i => if 0 ≤ i ∧ i < 36 then M 17 i else if 36 ≤ i ∧ i < 36 + (x + 1) then M 22 (7 * (i - 36) + 3) else M 41 i := by
        funext i
        unfold su_
        by_cases c : i = 36 + x
        · rw [if_pos c, if_neg (by omega), if_pos (by (clear hV hW g e17 e22 ih this; omega)), show 7 * (i - 36) + 3 = 7 * x + 3 by (clear hV hW g e17 e22 ih x0 this; lia)]
        · rw [if_neg c]
          show (if 0 ≤ i ∧ i < 36 then M 17 i else if 36 ≤ i ∧ i < 36 + x then M 22 (7 * (i - 36) + 3) else M 41 i) = _
          by_cases c1 : 0 ≤ i ∧ i < 36
          · rw [if_pos c1, if_pos c1]
          · rw [if_neg c1, if_neg c1]
            by_cases c2 : 36 ≤ i ∧ i < 36 + x
            · rw [if_pos c2, if_pos (by omega)]
            · rw [if_neg c2, if_neg (by omega)]
      rw [e]; exact this
  have l1 : ∀ (n : Nat) (x : Int), x + n = 36 → 0 ≤ x → V 23 [rr 0, ii x1, ii x, none, none, none] [] (wr_ M 41 (fun i => if 0 ≤ i ∧ i < x then M 17 i else M 41 i)) := fun n => by
    induction n with
    | zero =>
      intro x hx x0
      refine b_37_23 (Tr_mono _) hV hW _ _ _ ?_
      rw [if_neg (by (clear hV hW g e17 e22 l2 x0; lia)), show x = 36 by (clear hV hW g e17 e22 l2 x0; lia)]
      have := l2 60 0 (by decide) (by decide)
      rw [show (fun i => if 0 ≤ i ∧ i < 36 then M 17 i else if 36 ≤ i ∧ i < 36 + 0 then M 22 (7 * (i - 36) + 3) else M 41 i) = fun i => if 0 ≤ i ∧ i < 36 then M 17 i else M 41 i by
        funext i
        by_cases c1 : 0 ≤ i ∧ i < 36
        · rw [if_pos c1, if_pos c1]
        · rw [if_neg c1, if_neg c1, if_neg (by (clear hV hW g e17 e22 l2 hx x0 this c1; omega))]] at this
      exact this
    | succ n ih =>
      intro x hx x0
      refine b_37_23 (Tr_mono _) hV hW _ _ _ ?_
      rw [if_pos (by (clear hV hW g e17 e22 l2 ih; omega)), w32_id (x := x + 1) (by (clear hV hW g e17 e22 l2 ih; omega)) (by omega), e17, up_wr]
      refine ⟨by omega, by omega, ?_⟩
      have := ih (x + 1) (by omega) (by omega)
      have e : su_ (fun i => if 0 ≤ i ∧ i < x then M 17 i else M 41 i) x (M 17 x) = fun i => if 0 ≤ i ∧ i < x + 1 then M 17 i else M 41 i := by
        funext i
        unfold su_
        by_cases c : i = x
        · rw [if_pos c, if_pos (by omega), c]
        · rw [if_neg c]
          show (if 0 ≤ i ∧ i < x then M 17 i else M 41 i) = _
          by_cases c1 : 0 ≤ i ∧ i < x
          · rw [if_pos c1, if_pos (by omega)]
          · rw [if_neg c1, if_neg (by (clear hV hW g e17 e22 l2 ih x0 this; lia))]
      rw [e]; exact this
  have := l1 36 0 (by decide) (by decide)
  rw [show (fun i => if 0 ≤ i ∧ i < 0 then M 17 i else M 41 i) = M 41 by funext i; rw [if_neg (by omega)], wr_id] at this
  exact this
theorem x_83k [Inhabited fz_] {V : vv_} {Qr : qr_} {Qt : qt_} (hV : Cl_ wd0 (Tr_ wd0 pg0 10) V Qr Qt m_37) (hW : Wk_ V) (g : V 83 [rr 0, ii x1, ii 1024, none, none, none] [] (wr_ A 31 (flf (A 31) 0 1024 (-1)))) : V 83 [rr 0, ii x1, ii 0, none, none, none] [] A := by
  have l : ∀ (j : Nat) (x : Int), x + j = 1024 → 0 ≤ x → V 83 [rr 0, ii x1, ii x, none, none, none] [] (wr_ A 31 (flf (A 31) 0 x (-1))) := fun j => by
    induction j with
    | zero => intro x hx x0; rw [show x = 1024 by omega]; exact g
    | succ j ih =>
      intro x hx x0
      refine b_37_83 (Tr_mono _) hV hW _ _ _ ?_
      rw [if_pos (by omega), w32_id (x := x + 1) (by omega) (by omega), flf_s x0]
      exact ⟨by omega, ih (x + 1) (by omega) (by omega)⟩
  have := l 1024 0 (by decide) (by decide)
  rw [flf_0, wr_id] at this
  exact this
theorem q_23k [Inhabited fz_] {V : vv_} {Qr : qr_} {Qt : qt_} (hV : Cl_ wd0 (Tr_ wd0 pg0 10) V Qr Qt m_380) (hW : Wk_ V) (g : V 23 [rr 6, ii x1, ii 1104] [] (wr_ N 246 (ldF (N 246) (N 239)))) : V 23 [rr 6, ii x1, ii 0] [] N := by
  have e239 : ∀ g : Int → Int, wr_ N 246 g 239 = N 239 := fun g => wr_ne (by decide)
  have l : ∀ (n : Nat) (x : Int), x + n = 1104 → 0 ≤ x → V 23 [rr 6, ii x1, ii x] [] (wr_ N 246 (fun i => if 0 ≤ i ∧ i < x then N 239 i else N 246 i)) := fun n => by
    induction n with
    | zero => intro x hx x0; rw [show x = 1104 by omega]; exact g
    | succ n ih =>
      intro x hx x0
      refine b_380_23 (Tr_mono _) hV hW _ _ _ ?_
      rw [if_pos (by omega), w32_id (x := x + 1) (by omega) (by omega), e239, up_wr]
      refine ⟨by (clear hV hW g e239 ih; omega), by omega, ?_⟩
      have := ih (x + 1) (by omega) (by omega)
      have e : su_ (fun i => if 0 ≤ i ∧ i < x then N 239 i else N 246 i) x (N 239 x) = fun i => if 0 ≤ i ∧ i < x + 1 then N 239 i else N 246 i := by
        funext i
        unfold su_
        by_cases c : i = x
        · rw [if_pos c, if_pos (by omega), c]
        · rw [if_neg c]
          show (if 0 ≤ i ∧ i < x then N 239 i else N 246 i) = _
          by_cases c1 : 0 ≤ i ∧ i < x
          · rw [if_pos c1, if_pos (by omega)]
          · rw [if_neg c1, if_neg (by omega)]
      rw [e]; exact this
  have := l 1104 0 (by decide) (by decide)
  rw [show (fun i => if 0 ≤ i ∧ i < 0 then N 239 i else N 246 i) = N 246 by funext i; rw [if_neg (by omega)], wr_id] at this
  exact this
set_option maxHeartbeats 4000000 in
theorem si_all [Inhabited fz_] (h : STp M N) (hf : (∀ i, 0 ≤ i → i < 1200 → M 24 i = fz 24 i) ∧ ∀ i, 0 ≤ i → i < 2000 → M 23 i = fz 23 i) (hx : 1 ≤ x1 ∧ x1 ≤ 200) : ∃ Mi Ni, RC 10 m_37 23 [rr 0, ii x1, ii 0, none, none, none] M 156 [rr 0, ii x1, ii 0, none, none, none] Mi ∧ RC 10 m_380 23 [rr 6, ii x1, ii 0] N 89 [rr 6, ii x1, ii 0] Ni ∧ HDS x1 1 (M 0 8) Mi Ni ∧ CUT Mi Ni 0 ∧ (XSF M Mi ∧ QSF N Ni) ∧ Mi 41 = k41 M ∧ (∀ i, 0 ≤ i → i < 1104 → Ni 246 i = N 239 i) ∧ (∀ i, 0 ≤ i → i < 1104 → rwk Ni 0 i = svF (N 239) (FSI N (fun c => 0 < c)) 0 i) ∧ (Mi 0 11 = M 0 11 ∧ Ni 6 130 = N 6 130) := by
  obtain ⟨hR, hP, hA, hw⟩ := h
  have n12 := hR.1.1
  have h18 := hR.2.1.1
  have hro : ∀ r, 0 ≤ r → r < N 6 18 → 0 ≤ N 239 (sR r) ∧ N 239 (sR r) ≤ 6 := fun r r0 r1 => by have := (hR.2.1.2.1 r r0 r1).1; (clear hf hx hR hP hA hw n12 h18 r0 r1; omega)
  -- X
  generalize hMs : siX M = Ms
  have msr : ∀ r : Nat, r ∉ [0, 31, 41] → Ms r = M r := fun r hr => by
    have e : ∀ q : Nat, q ∈ [0, 31, 41] → r ≠ q := fun q hq e => hr (by rw [e]; exact hq)
    rw [← hMs]; unfold siX; rw [up_ne (e 0 (by decide)), wr_ne (e 31 (by decide)), wr_ne (e 41 (by decide))]
  have ms0 : ∀ i : Int, i ≠ 25 → Ms 0 i = M 0 i := fun i c => by rw [← hMs]; unfold siX; rw [upo c, wr_ne (by decide), wr_ne (by decide)]
  have ms25 : Ms 0 25 = 1 := by rw [← hMs]; unfold siX; rw [up_at]
  have ms41 : Ms 41 = k41 M := by rw [← hMs]; unfold siX; rw [up_ne (by decide), wr_ne (by decide), wr_same]
  have ms31 : ∀ b, 0 ≤ b → b < 1024 → Ms 31 b = -1 := fun b b0 b1 => by rw [← hMs]; unfold siX; rw [up_ne (by decide), wr_same]; unfold flf; rw [if_pos ⟨b0, b1⟩]
  have fMs : XSF M Ms := by rw [← hMs]; unfold siX; exact XSF_tr (XSF_tr (XSF_wr (.inl (by decide)) (by decide)) (XSF_wr (.inl (by decide)) (by decide))) (XSF_up (.inr (by decide)) (fun _ => by decide))
  -- Q
  generalize hNq : siQ N x1 = Nq
  have nqr : ∀ r : Nat, r ∉ [6, 246] → Nq r = N r := fun r hr => by
    have e : ∀ q : Nat, q ∈ [6, 246] → r ≠ q := fun q hq e => hr (by rw [e]; exact hq)
    rw [← hNq]; unfold siQ; rw [up_ne (e 6 (by decide)), up_ne (e 6 (by decide)), up_ne (e 6 (by decide)), up_ne (e 6 (by decide)), up_ne (e 6 (by decide)), wr_ne (e 246 (by decide))]
  have nq0 : ∀ i : Int, i ∉ [127, 165, 163, 164, 169] → Nq 6 i = N 6 i := fun i hi => by
    simp only [List.mem_cons, List.not_mem_nil, or_false, not_or] at hi
    rw [← hNq]; unfold siQ; rw [upo hi.2.2.2.2, upo hi.2.2.2.1, upo hi.2.2.1, upo hi.2.1, upo hi.1, wr_ne (by decide)]
  have nq127 : Nq 6 127 = 1 := by rw [← hNq]; unfold siQ; rw [upo (by decide), upo (by decide), upo (by decide), upo (by decide), up_at]
  have nq165 : Nq 6 165 = x1 := by rw [← hNq]; unfold siQ; rw [upo (by decide), upo (by decide), upo (by decide), up_at]
  have nq163 : Nq 6 163 = 0 := by rw [← hNq]; unfold siQ; rw [upo (by decide), upo (by decide), up_at]
  have nq164 : Nq 6 164 = 0 := by rw [← hNq]; unfold siQ; rw [upo (by decide), up_at]
  have nq169 : Nq 6 169 = 0 := by rw [← hNq]; unfold siQ; rw [up_at]
  have nq246 : ∀ i, 0 ≤ i → i < 1104 → Nq 246 i = N 239 i := fun i i0 i1 => by rw [← hNq]; unfold siQ; rw [up_ne (by decide), up_ne (by decide), up_ne (by decide), up_ne (by decide), up_ne (by decide), wr_same]; unfold ldF; rw [if_pos ⟨i0, i1⟩]
  have fNq : QSF N Nq := by rw [← hNq]; unfold siQ; exact QSF_tr (QSF_tr (QSF_tr (QSF_tr (QSF_tr (QSF_wr (.inl (by decide)) (by decide)) (QSF_up (.inr (by decide)) (fun _ => by decide))) (QSF_up (.inr (by decide)) (fun _ => by decide))) (QSF_up (.inr (by decide)) (fun _ => by decide))) (QSF_up (.inr (by decide)) (fun _ => by decide))) (QSF_up (.inr (by decide)) (fun _ => by decide))
  have e239 : Nq 239 = N 239 := nqr 239 (by decide)
  have q381 := q_381 (N := Nq) (by rw [e239]; (clear hf hx hR hP hA hw h18 hro hMs msr ms0 ms25 ms41 ms31 fMs hNq nqr nq0 nq127 nq165 nq163 nq164 nq169 nq246 fNq e239; omega)) (by rw [e239, nq0 18 (by decide)]; exact hro) (by rw [nq0 18 (by decide)]; exact h18)
  have eS : ∀ j, FSI Nq (fun c => 0 < c) j ↔ FSI N (fun c => 0 < c) j := fun j => by unfold FSI RSI CKI; rw [e239, nq0 18 (by decide)]
  rw [svM_c eS] at q381
  generalize hNp : svM Nq (FSI N (fun c => 0 < c)) 0 = Np at q381
  have npr : ∀ r : Nat, r ≠ 239 → Np r = Nq r := fun r c => by rw [← hNp]; exact svM_r c
  have np239 : Np 239 = svF (N 239) (FSI N (fun c => 0 < c)) 0 := by rw [← hNp]; unfold svM; rw [wr_same, e239]
  have fNp : QSF N Np := QSF_tr fNq (by rw [← hNp]; unfold svM; exact QSF_wr (.inr (by decide)) (by decide))
  have np0 : ∀ i : Int, i ∉ [127, 165, 163, 164, 169] → Np 6 i = N 6 i := fun i hi => by rw [npr 6 (by decide)]; exact nq0 i hi
  -- a run of X that fits Q
  have RV : ∀ (Nv : mm_) (Mv : mm_), (∀ r : Nat, r ≠ 6 → Nv r = Np r) → (∀ i : Int, i ≠ 138 → i ≠ 139 → Nv 6 i = Np 6 i) → (∀ r : Nat, r ≠ 0 → Mv r = Ms r) → (∀ i : Int, i ≠ 37 → i ≠ 38 → Mv 0 i = Ms 0 i) → (Mv 0 37 = Nv 6 138 ∧ Mv 0 38 = Nv 6 139) → RU 1 Mv Nv := fun Nv Mv a1 a2 b1 b2 b3 => RU_01 hR (fun r hr => by rw [b1 r (fun c => by rw [c] at hr; revert hr; decide), msr r (fun c => by revert hr c; simp only [List.mem_cons, List.not_mem_nil, or_false]; (clear hf hx hR hP hA hw n12 h18 hro hMs msr ms0 ms25 ms41 ms31 fMs hNq nqr nq0 nq127 nq165 nq163 nq164 nq169 nq246 fNq e239 eS hNp q381 npr np239 fNp np0 a1 a2 b1 b2 b3; omega))]) (fun i hi c1 c2 c3 => by rw [b2 i c2 c3, ms0 i c1]) (by rw [b2 25 (by decide) (by decide)]; exact ms25) (fun r hr => by rw [a1 r (fun c => by rw [c] at hr; revert hr; decide), npr r (fun c => by rw [c] at hr; revert hr; decide), nqr r (fun c => by revert hr c; simp only [List.mem_cons, List.not_mem_nil, or_false]; (clear hf hx hR hP hA hw n12 h18 hro hMs msr ms0 ms25 ms41 ms31 fMs hNq nqr nq0 nq127 nq165 nq163 nq164 nq169 nq246 fNq e239 eS hNp q381 npr np239 fNp np0 a1 a2 b1 b2 b3; omega))]) (fun i hi c1 c2 c3 => by rw [a2 i c2 c3, np0 i (fun c => by revert hi c; simp only [rfQ, List.mem_cons, List.not_mem_nil, or_false]; (clear hf hx hR hP hA hw n12 h18 hro hMs msr ms0 ms25 ms41 ms31 fMs hNq nqr nq0 nq127 nq165 nq163 nq164 nq169 nq246 fNq e239 eS hNp q381 npr np239 fNp np0 a1 a2 b1 b2 b3; omega))]) (by rw [a2 127 (by decide) (by decide), npr 6 (by decide)]; exact nq127) b3 (by rw [a1 239 (by decide)]; exact np239) hf
  have TA : TYA Np := TYA_sv hR hA (TYT_s fNp) np239 (by unfold R32; omega)
  have Pp : PLr Ms Np := PLr_s hP fMs fNp
  -- X packs
  have Rk : RU 1 Ms (q37 Np (Ms 0 37) (Ms 0 38)) := RV _ _ (fun r c => q37_r c) (fun i c c' => q37_0 c c') (fun _ _ => rfl) (fun _ _ _ => rfl) ⟨q37_v.1.symm, q37_v.2.symm⟩
  have x38 := x_38 Rk (PLr_s Pp XSF_rf QSF_q37) (k := 0) (by decide)
  rw [q37_r (r := 239) (by decide), pkL_t (N := Np) (q37_0 (by decide) (by decide)) (q37_r (by decide))] at x38
  have vr : VR Np (Np 239) := by
    have := VR_of Rk
    rw [q37_r (r := 239) (by decide)] at this
    exact VR_t this (q37_0 (by decide) (by decide)).symm (q37_0 (by decide) (by decide)).symm (fun r hr => (q37_r (fun c => by rw [c] at hr; revert hr; decide)).symm)
  have hN := PKB_of Pp
  have lL := pkL_len hN vr
  generalize hL : pkL Np (Np 239) = L at x38 lL
  generalize hM3 : pakX Ms 0 L = M3 at x38
  have m3r : ∀ r : Nat, r ∉ [0, 27, 28, 29] → M3 r = Ms r := fun r hr => by rw [← hM3, pak_r hr]
  have m30 : ∀ i : Int, i ≠ 65 → M3 0 i = Ms 0 i := fun i hi => by rw [← hM3, pak_0 hi]
  have m328 : M3 28 0 = L.length := by rw [← hM3, pak_28, up_at]
  have m329 : M3 29 0 = hshL L := by rw [← hM3, pak_29, up_at]
  have m327 : RDL (M3 27) 0 L := by
    rw [← hM3, pak_27]
    have := RDL_lw (f := Ms 27) (a := 1100 * 0) L []
    rw [List.nil_append, List.length_nil] at this
    simpa using this
  have fM3 : XSF Ms M3 := by
    rw [← hM3]; unfold pakX pkW
    exact XSF_tr (XSF_tr (XSF_tr (XSF_wr (.inl (by decide)) (by decide)) (XSF_up (.inr (by decide)) (fun _ => by decide))) (XSF_up (.inl (by decide)) (fun c => absurd c (by decide)))) (XSF_up (.inl (by decide)) (fun c => absurd c (by decide)))
  have x40 := x_40 (M := M3) (n := 0) (by decide)
  have b0 : BKT M3 0 := ⟨fun k k0 k1 => by (clear hf hx hR hP hA hw n12 h18 hro hMs msr ms0 ms25 ms41 ms31 fMs hNq nqr nq0 nq127 nq165 nq163 nq164 nq169 nq246 fNq e239 eS hNp q381 npr np239 fNp np0 RV TA Pp Rk vr hN hL lL hM3 x38 m3r m30 m328 m329 m327 fM3 x40; omega), fun b b0 b1 => by rw [m3r 31 (by decide), ms31 b b0 b1]; rfl⟩
  have b5 := BKT_kp b0 (Int.le_refl _)
  generalize hM5 : kpX M3 0 = M5 at x40 b5
  have m5r : ∀ r : Nat, r ∉ [30, 31, 35, 36, 37] → M5 r = M3 r := fun r hr => by
    have e : ∀ q : Nat, q ∈ [30, 31, 35, 36, 37] → r ≠ q := fun q hq e => hr (by rw [e]; exact hq)
    rw [← hM5]; unfold kpX
    rw [up_ne (e 37 (by decide)), up_ne (e 36 (by decide)), up_ne (e 35 (by decide)), up_ne (e 31 (by decide)), up_ne (e 30 (by decide))]
  have m5v : M5 35 0 = -1 ∧ M5 36 0 = -1 ∧ M5 37 0 = -1 := by
    rw [← hM5]; unfold kpX
    exact ⟨by rw [up_ne (by decide), up_ne (by decide), up_at], by rw [up_ne (by decide), up_at], by rw [up_at]⟩
  generalize hMi : up_ (up_ (up_ (up_ (up_ (up_ M5 32 0 (-1)) 33 0 (-1)) 34 0 0) 0 62 1) 0 63 0) 0 64 0 = Mi
  have mir : ∀ r : Nat, r ∉ [0, 32, 33, 34] → Mi r = M5 r := fun r hr => by
    have e : ∀ q : Nat, q ∈ [0, 32, 33, 34] → r ≠ q := fun q hq e => hr (by rw [e]; exact hq)
    rw [← hMi, up_ne (e 0 (by decide)), up_ne (e 0 (by decide)), up_ne (e 0 (by decide)), up_ne (e 34 (by decide)), up_ne (e 33 (by decide)), up_ne (e 32 (by decide))]
  have mi0 : ∀ i : Int, i ∉ [62, 63, 64, 65] → Mi 0 i = Ms 0 i := fun i hi => by
    simp only [List.mem_cons, List.not_mem_nil, or_false, not_or] at hi
    rw [← hMi, upo hi.2.2.1, upo hi.2.1, upo hi.1, up_ne (by decide), up_ne (by decide), up_ne (by decide), m5r 0 (by decide), m30 i hi.2.2.2]
  have mi62 : Mi 0 62 = 1 ∧ Mi 0 63 = 0 ∧ Mi 0 64 = 0 := by rw [← hMi]; exact ⟨by rw [upo (by decide), upo (by decide), up_at], by rw [upo (by decide), up_at], by rw [up_at]⟩
  have mi32 : Mi 32 0 = -1 ∧ Mi 33 0 = -1 ∧ Mi 34 0 = 0 := by
    rw [← hMi]
    exact ⟨by rw [up_ne (by decide), up_ne (by decide), up_ne (by decide), up_ne (by decide), up_ne (by decide), up_at], by rw [up_ne (by decide), up_ne (by decide), up_ne (by decide), up_ne (by decide), up_at], by rw [up_ne (by decide), up_ne (by decide), up_ne (by decide), up_at]⟩
  have fMi : XSF M Mi := by
    refine XSF_tr fMs (XSF_tr fM3 ?_)
    rw [← hMi, ← hM5]; unfold kpX
    exact XSF_tr (XSF_tr (XSF_tr (XSF_tr (XSF_tr (XSF_tr (XSF_tr (XSF_tr (XSF_tr (XSF_tr (XSF_up (.inl (by decide)) (fun c => absurd c (by decide))) (XSF_up (.inl (by decide)) (fun c => absurd c (by decide)))) (XSF_up (.inl (by decide)) (fun c => absurd c (by decide)))) (XSF_up (.inl (by decide)) (fun c => absurd c (by decide)))) (XSF_up (.inl (by decide)) (fun c => absurd c (by decide)))) (XSF_up (.inl (by decide)) (fun c => absurd c (by decide)))) (XSF_up (.inl (by decide)) (fun c => absurd c (by decide)))) (XSF_up (.inl (by decide)) (fun c => absurd c (by decide)))) (XSF_up (.inr (by decide)) (fun _ => by decide))) (XSF_up (.inr (by decide)) (fun _ => by decide))) (XSF_up (.inr (by decide)) (fun _ => by decide))
  -- Q keeps
  have q382 := q_382 (N := Np)
  generalize hv : smF (Np 239) = v at q382
  have q383 := q_383 (N := Np) (n := 0) (fr := -1) (mv := -1) (v := v) (by rw [npr 6 (by decide)]; exact nq163) (by decide) (.inl rfl)
  generalize hNi : kpQ Np 0 (-1) (-1) v = Ni at q383
  have nir : ∀ r : Nat, r ∉ [6, 245, 247, 248, 249, 250, 251, 252, 253] → Ni r = Np r := fun r hr => by
    have e : ∀ q : Nat, q ∈ [6, 245, 247, 248, 249, 250, 251, 252, 253] → r ≠ q := fun q hq e => hr (by rw [e]; exact hq)
    rw [← hNi]; unfold kpQ
    rw [up_ne (e 6 (by decide)), up_ne (e 253 (by decide)), up_ne (e 252 (by decide)), up_ne (e 251 (by decide)), up_ne (e 250 (by decide)), up_ne (e 249 (by decide)), up_ne (e 248 (by decide)), up_ne (e 247 (by decide)), wr_ne (e 245 (by decide))]
  have ni6 : ∀ i : Int, i ≠ 163 → Ni 6 i = Np 6 i := fun i h1 => by
    rw [← hNi]; unfold kpQ
    rw [upo h1, up_ne (by decide), up_ne (by decide), up_ne (by decide), up_ne (by decide), up_ne (by decide), up_ne (by decide), up_ne (by decide), wr_ne (by decide)]
  have ni163 : Ni 6 163 = 1 := by rw [← hNi]; unfold kpQ; rw [up_at]; rfl
  have ni245 : Ni 245 = kcF Np 0 := by
    rw [← hNi]; unfold kpQ
    rw [up_ne (by decide), up_ne (by decide), up_ne (by decide), up_ne (by decide), up_ne (by decide), up_ne (by decide), up_ne (by decide), up_ne (by decide), wr_same]
  have niv : Ni 247 0 = -1 ∧ Ni 248 0 = -1 ∧ Ni 249 0 = 0 ∧ Ni 250 0 = -1 ∧ Ni 251 0 = -1 ∧ Ni 252 0 = -1 ∧ Ni 253 0 = v := by
    rw [← hNi]; unfold kpQ
    refine ⟨?_, ?_, ?_, ?_, ?_, ?_, ?_⟩
    · rw [up_ne (by decide), up_ne (by decide), up_ne (by decide), up_ne (by decide), up_ne (by decide), up_ne (by decide), up_ne (by decide), up_at]
    · rw [up_ne (by decide), up_ne (by decide), up_ne (by decide), up_ne (by decide), up_ne (by decide), up_ne (by decide), up_at]
    · rw [up_ne (by decide), up_ne (by decide), up_ne (by decide), up_ne (by decide), up_ne (by decide), up_at]; rfl
    · rw [up_ne (by decide), up_ne (by decide), up_ne (by decide), up_ne (by decide), up_at]
    · rw [up_ne (by decide), up_ne (by decide), up_ne (by decide), up_at]
    · rw [up_ne (by decide), up_ne (by decide), up_at]
    · rw [up_ne (by decide), up_at]
  have fNi : QSF Np Ni := by
    rw [← hNi]; unfold kpQ
    exact QSF_tr (QSF_tr (QSF_tr (QSF_tr (QSF_tr (QSF_tr (QSF_tr (QSF_tr (QSF_wr (.inl (by decide)) (by decide)) (QSF_up (.inl (by decide)) (fun c => absurd c (by decide)))) (QSF_up (.inl (by decide)) (fun c => absurd c (by decide)))) (QSF_up (.inl (by decide)) (fun c => absurd c (by decide)))) (QSF_up (.inl (by decide)) (fun c => absurd c (by decide)))) (QSF_up (.inl (by decide)) (fun c => absurd c (by decide)))) (QSF_up (.inl (by decide)) (fun c => absurd c (by decide)))) (QSF_up (.inl (by decide)) (fun c => absurd c (by decide)))) (QSF_up (.inr (by decide)) (fun _ => by decide))
  have rw0 : ∀ i, 0 ≤ i → i < 1104 → Np 239 i = rwk Ni 0 i := fun i i0 i1 => by
    rw [rwk_i i0 i1, ni245]; unfold kcF
    rw [if_pos (by (clear hf hx hR hP hA hw n12 h18 hro hMs msr ms0 ms25 ms41 ms31 fMs hNq nqr nq0 nq127 nq165 nq163 nq164 nq169 nq246 fNq e239 eS hNp q381 npr np239 fNp np0 RV TA Pp Rk vr hN hL lL hM3 x38 m3r m30 m328 m329 m327 fM3 b0 hM5 x40 b5 m5r m5v hMi mir mi0 mi62 mi32 fMi hv q382 hNi q383 nir ni6 ni163 ni245 niv fNi; omega)), show 1104 * 0 + i - 1104 * 0 = i by (clear hf hx hR hP hA hw n12 h18 hro hMs msr ms0 ms25 ms41 ms31 fMs hNq nqr nq0 nq127 nq165 nq163 nq164 nq169 nq246 fNq e239 eS hNp q381 npr np239 fNp np0 RV TA Pp Rk vr hN hL lL hM3 x38 m3r m30 m328 m329 m327 fM3 b0 hM5 x40 b5 m5r m5v hMi mir mi0 mi62 mi32 fMi hv q382 hNi q383 nir ni6 ni163 ni245 niv fNi i0 i1; lia)]
  have tr' : ∀ r : Nat, r ∈ [156, 157, 171, 172, 173, 174, 182, 183, 184] → Ni r = Np r := fun r hr => nir r (fun c => by revert hr c; simp only [List.mem_cons, List.not_mem_nil, or_false]; (clear hf hx hR hP hA hw n12 h18 hro hMs msr ms0 ms25 ms41 ms31 fMs hNq nqr nq0 nq127 nq165 nq163 nq164 nq169 nq246 fNq e239 eS hNp q381 npr np239 fNp np0 RV TA Pp Rk vr hN hL lL hM3 x38 m3r m30 m328 m329 m327 fM3 b0 hM5 x40 b5 m5r m5v hMi mir mi0 mi62 mi32 fMi hv q382 hNi q383 nir ni6 ni163 ni245 niv fNi rw0; omega))
  have h18' : Ni 6 18 = Np 6 18 := ni6 18 (by decide)
  have h19' : Ni 6 19 = Np 6 19 := ni6 19 (by decide)
  have vr' : VR Ni (Np 239) := VR_t vr h18' h19' (fun r hr => tr' r (by revert hr; simp only [List.mem_cons, List.not_mem_nil, or_false]; (clear hf hx hR hP hA hw n12 h18 hro hMs msr ms0 ms25 ms41 ms31 fMs hNq nqr nq0 nq127 nq165 nq163 nq164 nq169 nq246 fNq e239 eS hNp q381 npr np239 fNp np0 RV TA Pp Rk vr hN hL lL hM3 x38 m3r m30 m328 m329 m327 fM3 b0 hM5 x40 b5 m5r m5v hMi mir mi0 mi62 mi32 fMi hv q382 hNi q383 nir ni6 ni163 ni245 niv fNi rw0 tr' h18' h19'; lia)))
  have Pi : PLr Mi Ni := PLr_s hP fMi (QSF_tr fNp fNi)
  have vrn : VR Ni (rwk Ni 0) := VR_c (by rw [h18']; exact hN.1) vr' rw0
  have pkn : pkL Ni (rwk Ni 0) = L := by rw [← pkL_cg (PKB_of Pi) vr' rw0, pkL_t h18' (tr' 172 (by decide))]; exact hL
  have S : SST Mi Ni 1 (M 0 8) := by
    refine ⟨⟨mi62.1, ni163⟩, by decide, fun j j0 j1 => ?_⟩
    have e : j = 0 := by (clear hf hx hR hP hA hw n12 h18 hro hMs msr ms0 ms25 ms41 ms31 fMs hNq nqr nq0 nq127 nq165 nq163 nq164 nq169 nq246 fNq e239 eS hNp q381 npr np239 fNp np0 RV TA Pp Rk vr hN hL lL hM3 x38 m3r m30 m328 m329 m327 fM3 b0 hM5 x40 b5 m5r m5v hMi mir mi0 mi62 mi32 fMi hv q382 hNi q383 nir ni6 ni163 ni245 niv fNi rw0 tr' h18' h19' vr' Pi vrn pkn; omega)
    subst e
    refine ⟨⟨vrn, TYR_c (TYR_of TA) ⟨fun r hr => tr' r (by revert hr; simp only [List.mem_cons, List.not_mem_nil, or_false]; (clear hf hx hR hP hA hw n12 h18 hro hMs msr ms0 ms25 ms41 ms31 fMs hNq nqr nq0 nq127 nq165 nq163 nq164 nq169 nq246 fNq e239 eS hNp q381 npr np239 fNp np0 RV TA Pp Rk vr hN hL lL hM3 x38 m3r m30 m328 m329 m327 fM3 b0 hM5 x40 b5 m5r m5v hMi mir mi0 mi62 mi32 fMi hv q382 hNi q383 nir ni6 ni163 ni245 niv fNi rw0 tr' h18' h19' vr' Pi vrn pkn j0 j1; lia)), h18', ni6 17 (by decide)⟩ vr.1.1 (fun i i0 i1 => (rw0 i i0 i1).symm), ?_, ⟨by rw [pkn, mir 27 (by decide), m5r 27 (by decide)]; exact m327, by rw [pkn, mir 28 (by decide), m5r 28 (by decide)]; exact m328, by rw [pkn, mir 29 (by decide), m5r 29 (by decide)]; exact m329⟩, ?_⟩, ?_⟩
    · rw [← rw0 1 (by decide) (by decide)]
      have := Rk.1.2.1.1
      rw [q37_r (r := 239) (by decide), ms0 8 (by decide)] at this
      (clear hf hx hR hP hA hw n12 h18 hro hMs msr ms0 ms25 ms41 ms31 fMs hNq nqr nq0 nq127 nq165 nq163 nq164 nq169 nq246 fNq e239 eS hNp q381 npr np239 fNp np0 RV TA Pp Rk vr hN hL lL hM3 x38 m3r m30 m328 m329 m327 fM3 b0 hM5 x40 b5 m5r m5v hMi mir mi0 mi62 mi32 fMi hv q382 hNi q383 nir ni6 ni163 ni245 niv fNi rw0 tr' h18' h19' vr' Pi vrn pkn j0 j1; omega)
    · rw [niv.2.2.2.2.2.2, ← hv]; exact sumR_cg _ _ _ (fun i i0 i1 => rw0 i i0 (by (clear hf hx hR hP hA hw n12 h18 hro hMs msr ms0 ms25 ms41 ms31 fMs hNq nqr nq0 nq127 nq165 nq163 nq164 nq169 nq246 fNq e239 eS hNp q381 npr np239 fNp np0 RV TA Pp Rk vr hN hL lL hM3 x38 m3r m30 m328 m329 m327 fM3 b0 hM5 x40 b5 m5r m5v hMi mir mi0 mi62 mi32 fMi hv q382 hNi q383 nir ni6 ni163 ni245 niv fNi rw0 tr' h18' h19' vr' Pi vrn pkn j0 j1; omega)))
    · unfold SEQ
      rw [mi32.1, mi32.2.1, mi32.2.2, mir 35 (by decide), mir 36 (by decide), mir 37 (by decide), m5v.1, m5v.2.1, m5v.2.2, niv.1, niv.2.1, niv.2.2.1, niv.2.2.2.1, niv.2.2.2.2.1, niv.2.2.2.2.2.1]
      exact ⟨⟨rfl, rfl, rfl⟩, rfl, rfl, rfl⟩
  refine ⟨Mi, Ni, fun V Qr Qt hV hW g => x_23k hV hW (x_83k hV hW (b_37_83 (Tr_mono _) hV hW _ _ _ ?_)), fun V Qr Qt hV hW g => q_23k hV hW (b_380_23 (Tr_mono _) hV hW _ _ _ ?_), ⟨⟨?_, Pi, TYA_c TA (TYT_s fNi) (nir 239 (by decide))⟩, ⟨S, BKT_c b5 (fun i i0 i1 => by rw [mir 29 (by decide)]) (mir 30 (by decide)) (mir 31 (by decide))⟩, ⟨hx.1, by rw [ni6 165 (by decide), npr 6 (by decide)]; exact nq165⟩, ⟨rfl, rfl, rfl⟩, by rw [mi62.2.2, ni6 164 (by decide), npr 6 (by decide)]; exact nq164.symm⟩, ⟨mi62.2.1, by rw [ni6 169 (by decide), npr 6 (by decide)]; exact nq169⟩, ⟨fMi, QSF_tr fNp fNi⟩, by rw [mir 41 (by decide), m5r 41 (by decide), m3r 41 (by decide)]; exact ms41, fun i i0 i1 => by rw [nir 246 (by decide), npr 246 (by decide)]; exact nq246 i i0 i1, fun i i0 i1 => by rw [← rw0 i i0 i1, np239], by rw [mi0 11 (by decide), ms0 11 (by decide)], by rw [ni6 130 (by decide)]; exact np0 130 (by decide)⟩
  · rw [if_neg (by decide)]
    refine ⟨.inr rfl, ?_⟩
    have eMs : up_ (wr_ (wr_ M 41 (k41 M)) 31 (flf (wr_ M 41 (k41 M) 31) 0 1024 (-1))) 0 25 1 = Ms := by rw [← hMs]; unfold siX; rw [wr_ne (r := 41) (r' := 31) (by decide)]
    rw [eMs]
    refine Ex_le (d := 2) (by decide) x38 _ _ (rv_i (Ex_le (d := 1) (by decide) x40 _ _ (rv_i ?_)))
    rw [hMi]
    exact ⟨by decide, by decide, by decide, g⟩
  · rw [if_neg (by decide)]
    refine ⟨.inr rfl, .inl rfl, ?_⟩
    rw [show up_ (up_ (up_ (up_ (up_ (wr_ N 246 (ldF (N 246) (N 239))) 6 127 1) 6 165 x1) 6 163 0) 6 164 0) 6 169 0 = Nq from hNq]
    exact Ex_le (d := 2) (by decide) q381 _ _ (rv_i (Ex_le (d := 1) (by decide) q382 _ _ (ri_i (Ex_le (d := 1) (by decide) q383 _ _ (rv_i g)))))
  · -- the run fits
    refine ⟨p37 Mi (Ni 6 138) (Ni 6 139), RU_cc (RV Np (p37 Ms (Np 6 138) (Np 6 139)) (fun _ _ => rfl) (fun _ _ _ => rfl) (fun r c => p37_r c) (fun i c c' => p37_0 c c') p37_v) (fun r hr => ?_) (fun i hi => ?_) (fun r hr => nir r (fun c => by revert hr c; simp only [List.mem_cons, List.not_mem_nil, or_false]; (clear hf hx hR hP hA hw n12 h18 hro hMs msr ms0 ms25 ms41 ms31 fMs hNq nqr nq0 nq127 nq165 nq163 nq164 nq169 nq246 fNq e239 eS hNp q381 npr np239 fNp np0 RV TA Pp Rk vr hN hL lL hM3 x38 m3r m30 m328 m329 m327 fM3 b0 hM5 x40 b5 m5r m5v hMi mir mi0 mi62 mi32 fMi hv q382 hNi q383 nir ni6 ni163 ni245 niv fNi rw0 tr' h18' h19' vr' Pi vrn pkn S; omega))) (fun i hi => ni6 i (fun c => by rw [c] at hi; revert hi; decide)), fun r hr => p37_r (fun c => hr (by rw [c]; decide)), fun i hi => p37_0 (fun c => hi (by rw [c]; decide)) (fun c => hi (by rw [c]; decide))⟩
    · have r0 : r ≠ 0 := fun c => by rw [c] at hr; revert hr; decide
      rw [p37_r r0, p37_r r0, mir r (fun c => by revert hr c; simp only [List.mem_cons, List.not_mem_nil, or_false]; (clear hf hx hR hP hA hw n12 h18 hro hMs msr ms0 ms25 ms41 ms31 fMs hNq nqr nq0 nq127 nq165 nq163 nq164 nq169 nq246 fNq e239 eS hNp q381 npr np239 fNp np0 RV TA Pp Rk vr hN hL lL hM3 x38 m3r m30 m328 m329 m327 fM3 b0 hM5 x40 b5 m5r m5v hMi mir mi0 mi62 mi32 fMi hv q382 hNi q383 nir ni6 ni163 ni245 niv fNi rw0 tr' h18' h19' vr' Pi vrn pkn S r0; omega)), m5r r (fun c => by revert hr c; simp only [List.mem_cons, List.not_mem_nil, or_false]; (clear hf hx hR hP hA hw n12 h18 hro hMs msr ms0 ms25 ms41 ms31 fMs hNq nqr nq0 nq127 nq165 nq163 nq164 nq169 nq246 fNq e239 eS hNp q381 npr np239 fNp np0 RV TA Pp Rk vr hN hL lL hM3 x38 m3r m30 m328 m329 m327 fM3 b0 hM5 x40 b5 m5r m5v hMi mir mi0 mi62 mi32 fMi hv q382 hNi q383 nir ni6 ni163 ni245 niv fNi rw0 tr' h18' h19' vr' Pi vrn pkn S r0; omega)), m3r r (fun c => by revert hr c; simp only [List.mem_cons, List.not_mem_nil, or_false]; (clear hf hx hR hP hA hw n12 h18 hro hMs msr ms0 ms25 ms41 ms31 fMs hNq nqr nq0 nq127 nq165 nq163 nq164 nq169 nq246 fNq e239 eS hNp q381 npr np239 fNp np0 RV TA Pp Rk vr hN hL lL hM3 x38 m3r m30 m328 m329 m327 fM3 b0 hM5 x40 b5 m5r m5v hMi mir mi0 mi62 mi32 fMi hv q382 hNi q383 nir ni6 ni163 ni245 niv fNi rw0 tr' h18' h19' vr' Pi vrn pkn S r0; omega))]
    · by_cases c : i = 37
      · rw [c, p37_v.1, p37_v.1, ni6 138 (by decide)]
      · by_cases c2 : i = 38
        · rw [c2, p37_v.2, p37_v.2, ni6 139 (by decide)]
        · rw [p37_0 c c2, p37_0 c c2, mi0 i (fun e => by revert hi e; simp only [rfX, List.mem_cons, List.not_mem_nil, or_false]; (clear hf hx hR hP hA hw n12 h18 hro hMs msr ms0 ms25 ms41 ms31 fMs hNq nqr nq0 nq127 nq165 nq163 nq164 nq169 nq246 fNq e239 eS hNp q381 npr np239 fNp np0 RV TA Pp Rk vr hN hL lL hM3 x38 m3r m30 m328 m329 m327 fM3 b0 hM5 x40 b5 m5r m5v hMi mir mi0 mi62 mi32 fMi hv q382 hNi q383 nir ni6 ni163 ni245 niv fNi rw0 tr' h18' h19' vr' Pi vrn pkn S c c2; omega))]
end SBa
end T416_sb

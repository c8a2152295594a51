section T417_sw
/-! the search whole (X 37 | Q 380) -/
section SWf
theorem RU_fz (i i' : Inhabited fz_) {M N : mm_} (h : @RU i 0 M N) : @RU i' 0 M N := by
  obtain ⟨h1, h2, h3, h4, h5⟩ := h
  exact ⟨h1, h2, h3, ⟨h4.1, fun j j0 j1 => ⟨(h4.2 j j0 j1).1, fun c => absurd c (by decide)⟩⟩, h5.1, fun j j0 j1 => ⟨(h5.2 j j0 j1).1, fun c => absurd c (by decide)⟩⟩
theorem RNS_fz (i i' : Inhabited fz_) {M N : mm_} (h : @RNS i M N) : @RNS i' M N := ⟨⟨RU_fz i i' h.1.1, h.1.2⟩, h.2⟩
end SWf
def r17 (A : mm_) : mm_ := wr_ A 17 (fun i => if 0 ≤ i ∧ i < 36 then A 41 i else A 17 i)
def r22 (A : mm_) : mm_ := wr_ A 22 (fun i => if (0 ≤ i ∧ i < 420) ∧ i % 7 = 3 then A 41 (36 + i / 7) else A 22 i)
section SWa
variable {M N Ms Np M' N' A Mf Nf Me : mm_} {f : Int → Int} {k r t x1 a b n B c : Int}
theorem x_387k [Inhabited fz_] {V : vv_} {Qr : qr_} {Qt : qt_} (hV : Cl_ wd0 (Tr_ wd0 pg0 10) V Qr Qt m_37) (hW : Wk_ V) (g : Qr [.inl (A 0 62)] (up_ (r22 (r17 A)) 0 25 0)) : V 387 [rr 0, ii x1, ii 0, none, none, none] [] A := by
  have l2 : ∀ (B : mm_), Qr [.inl (B 0 62)] (up_ (r22 B) 0 25 0) → V 413 [rr 0, ii x1, ii 0, none, none, none] [] B := fun B g => by
    have e41 : ∀ g : Int → Int, wr_ B 22 g 41 = B 41 := fun g => wr_ne (by decide)
    have l : ∀ (n : Nat) (x : Int), x + n = 60 → 0 ≤ x → V 413 [rr 0, ii x1, ii x, none, none, none] [] (wr_ B 22 (fun i => if (0 ≤ i ∧ i < 7 * x) ∧ i % 7 = 3 then B 41 (36 + i / 7) else B 22 i)) := fun n => by
      induction n with
      | zero =>
        intro x hx x0
        refine b_37_413 (Tr_mono _) hV hW _ _ _ ?_
        rw [if_neg (by (clear hV hW g e41 x0; omega)), show x = 60 by omega, wr_ne (by decide)]; exact ⟨.inl rfl, g⟩
      | succ n ih =>
        intro x hx x0
        refine b_37_413 (Tr_mono _) hV hW _ _ _ ?_
        rw [if_pos (by omega), w32_id (x := 7 * x) (by (clear hV hW g e41 ih; omega)) (by omega), w32_id (x := 7 * x + 3) (by omega) (by omega), w32_id (x := 36 + x) (by (clear hV hW g e41 ih; omega)) (by omega), w32_id (x := x + 1) (by omega) (by omega), e41, up_wr]
        refine ⟨by omega, by omega, ?_⟩
        have := ih (x + 1) (by omega) (by omega)
        have e : su_ (fun i => if (0 ≤ i ∧ i < 7 * x) ∧ i % 7 = 3 then B 41 (36 + i / 7) else B 22 i) (7 * x + 3) (B 41 (36 + x)) = fun i => if (0 ≤ i ∧ i < 7 * (x + 1)) ∧ i % 7 = 3 then B 41 (36 + i / 7) else B 22 i := by
          funext i
          unfold su_
          by_cases c : i = 7 * x + 3
          · rw [if_pos c, if_pos (by (clear hV hW g e41 ih this; omega)), show i / 7 = x by omega]
          · rw [if_neg c]
            show (if (0 ≤ i ∧ i < 7 * x) ∧ i % 7 = 3 then B 41 (36 + i / 7) else B 22 i) = _
            by_cases c1 : (0 ≤ i ∧ i < 7 * x) ∧ i % 7 = 3
            · rw [if_pos c1, if_pos (by omega)]
            · rw [if_neg c1, if_neg (by omega)]
        rw [e]; exact this
    have := l 60 0 (by decide) (by decide)
    rw [show (fun i => if (0 ≤ i ∧ i < 7 * 0) ∧ i % 7 = 3 then B 41 (36 + i / 7) else B 22 i) = B 22 by funext i; rw [if_neg (by omega)], wr_id] at this
    exact this
  have e41 : ∀ g : Int → Int, wr_ A 17 g 41 = A 41 := fun g => wr_ne (by decide)
  have l : ∀ (n : Nat) (x : Int), x + n = 36 → 0 ≤ x → V 387 [rr 0, ii x1, ii x, none, none, none] [] (wr_ A 17 (fun i => if 0 ≤ i ∧ i < x then A 41 i else A 17 i)) := fun n => by
    induction n with
    | zero =>
      intro x hx x0
      refine b_37_387 (Tr_mono _) hV hW _ _ _ ?_
      rw [if_neg (by (clear hV hW g l2 e41 x0; omega)), show x = 36 by (clear hV hW g l2 e41 x0; lia)]
      refine l2 (r17 A) ?_
      rw [show r17 A 0 = A 0 from wr_ne (by decide)]; exact g
    | succ n ih =>
      intro x hx x0
      refine b_37_387 (Tr_mono _) hV hW _ _ _ ?_
      rw [if_pos (by omega), w32_id (x := x + 1) (by (clear hV hW g l2 e41 ih; omega)) (by omega), e41, up_wr]
      refine ⟨by omega, by omega, ?_⟩
      have := ih (x + 1) (by omega) (by omega)
      have e : su_ (fun i => if 0 ≤ i ∧ i < x then A 41 i else A 17 i) x (A 41 x) = fun i => if 0 ≤ i ∧ i < x + 1 then A 41 i else A 17 i := by
        funext i
        unfold su_
        by_cases c : i = x
        · rw [if_pos c, if_pos (by omega), c]
        · rw [if_neg c]
          show (if 0 ≤ i ∧ i < x then A 41 i else A 17 i) = _
          by_cases c1 : 0 ≤ i ∧ i < x
          · rw [if_pos c1, if_pos (by omega)]
          · rw [if_neg c1, if_neg (by omega)]
      rw [e]; exact this
  have := l 36 0 (by decide) (by decide)
  rw [show (fun i => if 0 ≤ i ∧ i < 0 then A 41 i else A 17 i) = A 17 by funext i; rw [if_neg (by omega)], wr_id] at this
  exact this
theorem q_189k [Inhabited fz_] {V : vv_} {Qr : qr_} {Qt : qt_} (hV : Cl_ wd0 (Tr_ wd0 pg0 10) V Qr Qt m_380) (hW : Wk_ V) (g : Qr [.inl (N 6 163)] (wr_ N 239 (ldF (N 239) (N 246)))) : V 189 [rr 6, ii x1, ii 0] [] N := by
  have e246 : ∀ g : Int → Int, wr_ N 239 g 246 = N 246 := fun g => wr_ne (by decide)
  have l : ∀ (n : Nat) (x : Int), x + n = 1104 → 0 ≤ x → V 189 [rr 6, ii x1, ii x] [] (wr_ N 239 (fun i => if 0 ≤ i ∧ i < x then N 246 i else N 239 i)) := fun n => by
    induction n with
    | zero =>
      intro x hx x0
      refine b_380_189 (Tr_mono _) hV hW _ _ _ ?_
      rw [if_neg (by omega), show x = 1104 by (clear hV hW g e246 x0; lia), wr_ne (r' := 6) (by decide)]; exact g
    | succ n ih =>
      intro x hx x0
      refine b_380_189 (Tr_mono _) hV hW _ _ _ ?_
      rw [if_pos (by omega), w32_id (x := x + 1) (by omega) (by omega), e246, up_wr]
      refine ⟨by omega, by omega, ?_⟩
      have := ih (x + 1) (by omega) (by omega)
      have e : su_ (fun i => if 0 ≤ i ∧ i < x then N 246 i else N 239 i) x (N 246 x) = fun i => if 0 ≤ i ∧ i < x + 1 then N 246 i else N 239 i := by
        funext i
        unfold su_
        by_cases c : i = x
        · rw [if_pos c, if_pos (by (clear hV hW g e246 ih this; omega)), c]
        · rw [if_neg c]
          show (if 0 ≤ i ∧ i < x then N 246 i else N 239 i) = _
          by_cases c1 : 0 ≤ i ∧ i < x
          · rw [if_pos c1, if_pos (by (clear hV hW g e246 ih x0 this c; omega))]
          · rw [if_neg c1, if_neg (by omega)]
      rw [e]; exact this
  have := l 1104 0 (by decide) (by decide)
  rw [show (fun i => if 0 ≤ i ∧ i < 0 then N 246 i else N 239 i) = N 239 by funext i; rw [if_neg (by omega)], wr_id] at this
  exact this
/-- the run as it was -/
theorem RU_end [Inhabited fz_] (h : RU 0 M N) (hv : RVX Mf Nf) (hu : UF Mf Me) (h41 : Mf 41 = k41 M) (h246 : ∀ i, 0 ≤ i → i < 1104 → Nf 246 i = N 239 i) (hf : ∀ i, 0 ≤ i → i < 1104 → f i = svF (N 239) (FSI N (fun c => 0 < c)) 0 i) (h7 : Me 0 7 = f 0) (h8 : Me 0 8 = f 1) (hS : ∀ j, 0 ≤ j → j < f 0 → SLD Me f j) (hR : ∀ j, 0 ≤ j → j < N 6 18 → ROD Me f j) (h18 : Nf 6 18 = N 6 18) (h19 : Nf 6 19 = N 6 19) (hq : ∀ r : Nat, r ∈ [172, 173, 174] → Nf r = N r) : RU 0 (up_ (r22 (r17 Me)) 0 25 0) (wr_ (up_ Nf 6 127 0) 239 (ldF (up_ Nf 6 127 0 239) (up_ Nf 6 127 0 246))) ∧ up_ (r22 (r17 Me)) 0 25 0 0 8 = M 0 8 := by
  obtain ⟨Mv, ⟨_, _, vc, vd, ve⟩, v1, v2⟩ := hv
  obtain ⟨⟨a1, a2, a3, a4⟩, ⟨b1, b2, b3⟩, c, _, _⟩ := h
  generalize hZ : up_ (r22 (r17 Me)) 0 25 0 = Z
  generalize hY : wr_ (up_ Nf 6 127 0) 239 (ldF (up_ Nf 6 127 0 239) (up_ Nf 6 127 0 246)) = Y
  have zr : ∀ r : Nat, r ∉ [0, 17, 22] → Z r = Me r := fun r hr => by
    have e : ∀ q : Nat, q ∈ [0, 17, 22] → r ≠ q := fun q hq e => hr (by rw [e]; exact hq)
    rw [← hZ, up_ne (e 0 (by decide))]; unfold r22 r17; rw [wr_ne (e 22 (by decide)), wr_ne (e 17 (by decide))]
  have z0 : ∀ i : Int, i ≠ 25 → Z 0 i = Me 0 i := fun i c => by rw [← hZ, upo c]; unfold r22 r17; rw [wr_ne (by decide), wr_ne (by decide)]
  have z25 : Z 0 25 = 0 := by rw [← hZ, up_at]
  have e41 : Me 41 = k41 M := by rw [hu.1 41 (by decide)]; exact h41
  have z17 : ∀ i, 0 ≤ i → i < 36 → Z 17 i = M 17 i := fun i i0 i1 => by
    rw [← hZ, up_ne (by decide)]; unfold r22; rw [wr_ne (by decide)]; unfold r17; rw [wr_same, if_pos ⟨i0, i1⟩, e41]; unfold k41; rw [if_pos ⟨i0, i1⟩]
  have z22 : ∀ i, 0 ≤ i → i < 420 → i % 7 ≠ 3 → Z 22 i = Me 22 i := fun i i0 i1 i2 => by
    rw [← hZ, up_ne (by decide)]; unfold r22; rw [wr_same, if_neg (by (clear hu h41 h246 hf h7 h8 hS hR h18 h19 hq vc vd ve v1 v2 a1 a2 a3 a4 b1 b2 b3 c hZ hY zr z0 z25 e41 z17 i0 i1; lia))]; unfold r17; rw [wr_ne (by decide)]
  have z22t : ∀ i, 0 ≤ i → i < 420 → i % 7 = 3 → Z 22 i = M 22 i := fun i i0 i1 i2 => by
    rw [← hZ, up_ne (by decide)]; unfold r22; rw [wr_same, if_pos ⟨⟨i0, i1⟩, i2⟩]; unfold r17; rw [wr_ne (by decide), e41]; unfold k41; rw [if_neg (by (clear hu h41 h246 hf h7 h8 hS hR h18 h19 hq vc vd ve v1 v2 a1 a2 a3 a4 b1 b2 b3 c hZ hY zr z0 z25 e41 z17 z22; lia)), if_pos (by (clear hu h41 h246 hf h7 h8 hS hR h18 h19 hq vc vd ve v1 v2 a1 a2 a3 a4 b1 b2 b3 c hZ hY zr z0 z25 e41 z17 z22; omega)), show 7 * (36 + i / 7 - 36) + 3 = i by (clear hu h41 h246 hf h7 h8 hS hR h18 h19 hq vc vd ve v1 v2 a1 a2 a3 a4 b1 b2 b3 c hZ hY zr z0 z25 e41 z17 z22 i0 i1; lia)]
  have yr : ∀ r : Nat, r ∉ [6, 239] → Y r = Nf r := fun r hr => by
    have e : ∀ q : Nat, q ∈ [6, 239] → r ≠ q := fun q hq e => hr (by rw [e]; exact hq)
    rw [← hY, wr_ne (e 239 (by decide)), up_ne (e 6 (by decide))]
  have y6 : ∀ i : Int, i ≠ 127 → Y 6 i = Nf 6 i := fun i c => by rw [← hY, wr_ne (by decide), upo c]
  have y127 : Y 6 127 = 0 := by rw [← hY, wr_ne (by decide), up_at]
  have y239 : ∀ i, 0 ≤ i → i < 1104 → Y 239 i = N 239 i := fun i i0 i1 => by
    rw [← hY, wr_same]; unfold ldF; rw [if_pos ⟨i0, i1⟩, up_ne (by decide)]; exact h246 i i0 i1
  -- f away from times
  have hro : ∀ r, 0 ≤ r → r < N 6 18 → 0 ≤ N 239 (sR r) ∧ N 239 (sR r) ≤ 6 := fun r r0 r1 => by have := (b2 r r0 r1).1; (clear hu h41 h246 hf h7 h8 hS hR h18 h19 hq vc vd ve v1 v2 a1 a2 a3 a4 b1 b2 b3 c hZ hY zr z0 z25 e41 z17 z22 z22t yr y6 y127 y239 r0 r1; omega)
  have rz : ∀ j, RSI N (N 6 18) 0 j → 674 ≤ j ∧ (j - 674) % 43 ≠ 0 := fun j hj => RSI_z hro b1.2 (by omega) (by decide) hj
  have cz : ∀ j, CKI N (fun c => 0 < c) (N 239 0) 0 j → 24 ≤ j ∧ (j - 2) % 56 < 25 ∧ 22 ≤ (j - 2) % 56 ∧ (j < sB (N 239 0) + 22 + 0) := fun j hj => CKI_z (by (clear hu h41 h246 hf h7 h8 hS hR h18 h19 hq vc vd ve v1 v2 a2 a3 a4 b1 b2 b3 c hZ hY zr z0 z25 e41 z17 z22 z22t yr y6 y127 y239 hro rz hj; omega)) (by decide) hj
  have hB0 : sB (N 239 0) = 2 + 56 * N 239 0 := rfl
  have out : ∀ j, 0 ≤ j → j < 1104 → ¬ FSI N (fun c => 0 < c) j → f j = N 239 j := fun j j0 j1 hj => by rw [hf j j0 j1, svF_out hj]
  have f0 : f 0 = N 239 0 := out 0 (by decide) (by decide) (fun hj => by rcases hj with hj | hj; have := rz _ hj; (clear hu h41 h246 hf h7 h8 hS hR h18 h19 hq vc vd ve v1 v2 a1 a2 a3 a4 b1 b2 b3 c hZ hY zr z0 z25 e41 z17 z22 z22t yr y6 y127 y239 hro rz cz hB0 out hj; omega); have := cz _ hj; omega)
  have f1 : f 1 = N 239 1 := out 1 (by decide) (by decide) (fun hj => by rcases hj with hj | hj; have := rz _ hj; omega; have := cz _ hj; omega)
  have s1 : ∀ k i, 0 ≤ k → k < 12 → 0 ≤ i → i < 56 → (i < 22 ∨ 25 ≤ i) → f (sB k + i) = N 239 (sB k + i) := fun k i k0 k1 i0 i1 hi => by
    have hB : sB k = 2 + 56 * k := rfl
    refine out _ (by (clear hu h41 h246 hf h7 h8 hS hR h18 h19 hq vc vd ve v1 v2 a1 a2 a3 a4 b1 b2 b3 c hZ hY zr z0 z25 e41 z17 z22 z22t yr y6 y127 y239 hro rz cz hB0 out f0 f1 hi; lia)) (by (clear hu h41 h246 hf h7 h8 hS hR h18 h19 hq vc vd ve v1 v2 a1 a2 a3 a4 b1 b2 b3 c hZ hY zr z0 z25 e41 z17 z22 z22t yr y6 y127 y239 hro rz cz hB0 out f0 f1 hi; omega)) (fun hj => ?_)
    rcases hj with hj | hj
    · have := rz _ hj; (clear hu h41 h246 hf h7 h8 hS hR h18 h19 hq vc vd ve v1 v2 a1 a2 a3 a4 b1 b2 b3 c hZ hY zr z0 z25 e41 z17 z22 z22t yr y6 y127 y239 hro rz cz hB0 out f0 f1 hi hj; omega)
    · have := cz _ hj; (clear hu h41 h246 hf h7 h8 hS hR h18 h19 hq vc vd ve v1 v2 a1 a2 a3 a4 b1 b2 b3 c hZ hY zr z0 z25 e41 z17 z22 z22t yr y6 y127 y239 hro rz cz hB0 out f0 f1 k0 k1 hj; omega)
  refine ⟨⟨⟨?_, ?_, fun k k0 k1 => ?_, fun k k0 k1 i i0 i1 => ?_⟩, ⟨?_, fun r r0 r1 => ?_, fun r r0 r1 i i0 i1 => ?_⟩, ?_, ?_, ?_⟩, ?_⟩
  · rw [z0 7 (by decide), h7, f0, y239 0 (by decide) (by decide)]; omega
  · rw [z0 8 (by decide), h8, f1, y239 1 (by decide) (by decide)]; exact ⟨rfl, by (clear hu h41 h246 hf h7 h8 hS hR h18 h19 hq vc vd ve v1 v2 a1 a3 a4 b1 b2 b3 c hZ hY zr z0 z25 e41 z17 z22 z22t yr y6 y127 y239 hro rz cz hB0 out f0 f1 s1; omega)⟩
  · rw [z0 7 (by decide), h7, f0] at k1
    have hB : sB k = 2 + 56 * k := rfl
    have k12 : k < 12 := by (clear hu h41 h246 hf h7 h8 hS hR h18 h19 hq vc vd ve v1 v2 a2 a3 a4 b1 b2 b3 c hZ hY zr z0 z25 e41 z17 z22 z22t yr y6 y127 y239 hro rz cz hB0 out f0 f1 s1 k0 hB; omega)
    have s := fun i i0 i1 hi => s1 k i k0 k12 i0 i1 hi
    have w0 := s 0 (by decide) (by decide) (by decide)
    rw [Int.add_zero] at w0
    obtain ⟨⟨d1, d2, d3, d4, d5, d6⟩, dc, dt, dq, dl⟩ := hS k k0 (by (clear hu h41 h246 hf h7 h8 hS hR h18 h19 hq vc vd ve v1 v2 a1 a2 a3 a4 b1 b2 b3 c hZ hY zr z0 z25 e41 z17 z22 z22t yr y6 y127 y239 hro rz cz hB0 out f1 s1 k0 hB k12 s w0; omega))
    obtain ⟨⟨p1, p2, p3, p4, p5, p6⟩, pb, ⟨pc1, pc2⟩, pt, ⟨pq1, pq2, pq3⟩, pl1, pl2⟩ := a3 k k0 (by (clear hu h41 h246 hf h7 h8 hS hR h18 h19 hq vc vd ve v1 v2 a2 a3 a4 b1 b2 b3 c hZ hY zr z0 z25 e41 z17 z22 z22t yr y6 y127 y239 hro rz cz hB0 out f0 f1 s1 k0 hB k12 s w0 d1 d2 d3 d4 d5 d6 dc dt dq dl; omega))
    have ey : ∀ i, 0 ≤ i → i < 56 → Y 239 (sB k + i) = N 239 (sB k + i) := fun i i0 i1 => y239 _ (by (clear hu h41 h246 hf h7 h8 hS hR h18 h19 hq vc vd ve v1 v2 a1 a2 a3 a4 b1 b2 b3 c hZ hY zr z0 z25 e41 z17 z22 z22t yr y6 y127 y239 hro rz cz hB0 out f0 f1 s1 k1 s w0 d1 d2 d3 d4 d5 d6 dc dt dq dl p1 p2 p3 p4 p5 p6 pb pc1 pc2 pt pq1 pq2 pq3 pl1 pl2; lia)) (by (clear hu h41 h246 hf h7 h8 hS hR h18 h19 hq vc vd ve v1 v2 a1 a2 a3 a4 b1 b2 b3 c hZ hY zr z0 z25 e41 z17 z22 z22t yr y6 y127 y239 hro rz cz hB0 out f0 f1 s1 k1 s w0 d1 d2 d3 d4 d5 d6 dc dt dq dl p1 p2 p3 p4 p5 p6 pb pc1 pc2 pt pq1 pq2 pq3 pl1 pl2; omega))
    have ey0 := ey 0 (by decide) (by decide)
    rw [Int.add_zero] at ey0
    unfold IN
    rw [zr 10 (by decide), zr 11 (by decide), zr 12 (by decide), zr 13 (by decide), zr 14 (by decide), zr 15 (by decide), zr 16 (by decide), zr 18 (by decide), zr 19 (by decide), zr 20 (by decide), z0 8 (by decide), h8, f1, y6 19 (by decide), h19, yr 172 (by decide), yr 173 (by decide), yr 174 (by decide), hq 172 (by decide), hq 173 (by decide), hq 174 (by decide), d1, d2, d3, d4, d5, d6, dq, w0, s 1 (by decide) (by decide) (by decide), s 2 (by decide) (by decide) (by decide), s 3 (by decide) (by decide) (by decide), s 4 (by decide) (by decide) (by decide), s 5 (by decide) (by decide) (by decide), s 25 (by decide) (by decide) (by decide), ey0, ey 1 (by decide) (by decide), ey 2 (by decide) (by decide), ey 3 (by decide) (by decide), ey 4 (by decide) (by decide), ey 5 (by decide) (by decide), ey 25 (by decide) (by decide)]
    rw [p1, p2, p3, a2.1] at pb
    rw [p2] at pc2 pt
    rw [s 25 (by decide) (by decide) (by decide)] at dl
    refine ⟨⟨rfl, rfl, rfl, rfl, rfl, rfl⟩, pb, ⟨fun i i0 i1 => ?_, fun i i0 i1 i2 => ?_⟩, fun t t0 t1 => ?_, ⟨by (clear hu h41 h246 hf h7 h8 hS hR h18 h19 hq vc vd ve v1 v2 a1 a2 a3 a4 b1 b2 b3 c hZ hY zr z0 z25 e41 z17 z22 z22t yr y6 y127 y239 hro rz cz hB0 out f0 f1 s1 k0 k1 hB k12 s w0 d1 d2 d3 d4 d5 d6 dc dt dq dl p1 p2 p3 p4 p5 p6 pb pc1 pc2 pt pl1 pl2 ey ey0; lia), by (clear hu h41 h246 hf h7 h8 hS hR h18 h19 hq vc vd ve v1 v2 a1 a2 a3 a4 b1 b2 b3 c hZ hY zr z0 z25 e41 z17 z22 z22t yr y6 y127 y239 hro rz cz hB0 out f0 f1 s1 k0 k1 hB k12 s w0 d1 d2 d3 d4 d5 d6 dc dt dq dl p1 p2 p3 p4 p5 p6 pb pc1 pc2 pt pl1 pl2 ey ey0; omega), rfl⟩, fun i i0 i1 => ?_, fun i i0 i1 => ?_⟩
    · rw [dc i i0 i1, show sB k + 6 + i = sB k + (6 + i) by (clear hu h41 h246 hf h7 h8 hS hR h18 h19 hq vc vd ve v1 v2 a1 a2 a3 a4 b1 b2 b3 c hZ hY zr z0 z25 e41 z17 z22 z22t yr y6 y127 y239 hro rz cz hB0 out f0 f1 s1 k0 k1 hB k12 s w0 d1 d2 d3 d4 d5 d6 dc dt dq dl p1 p2 p3 p4 p5 p6 pb pc1 pc2 pt pq1 pq2 pq3 pl1 pl2 ey ey0 i0 i1; lia), s (6 + i) (by (clear hu h41 h246 hf h7 h8 hS hR h18 h19 hq vc vd ve v1 v2 a1 a2 a3 a4 b1 b2 b3 c hZ hY zr z0 z25 e41 z17 z22 z22t yr y6 y127 y239 hro rz cz hB0 out f0 f1 s1 k0 k1 hB k12 s w0 d1 d2 d3 d4 d5 d6 dc dt dq dl p1 p2 p3 p4 p5 p6 pb pc1 pc2 pt pq1 pq2 pq3 pl1 pl2 ey ey0; lia)) (by (clear hu h41 h246 hf h7 h8 hS hR h18 h19 hq vc vd ve v1 v2 a1 a2 a3 a4 b1 b2 b3 c hZ hY zr z0 z25 e41 z17 z22 z22t yr y6 y127 y239 hro rz cz hB0 out f0 f1 s1 k0 k1 hB k12 s w0 d1 d2 d3 d4 d5 d6 dc dt dq dl p1 p2 p3 p4 p5 p6 pb pc1 pc2 pt pq1 pq2 pq3 pl1 pl2 ey ey0; omega)) (by (clear hu h41 h246 hf h7 h8 hS hR h18 h19 hq vc vd ve v1 v2 a1 a2 a3 a4 b1 b2 b3 c hZ hY zr z0 z25 e41 z17 z22 z22t yr y6 y127 y239 hro rz cz hB0 out f0 f1 s1 k0 k1 hB k12 s w0 d1 d2 d3 d4 d5 d6 dc dt dq dl p1 p2 p3 p4 p5 p6 pb pc1 pc2 pt pq1 pq2 pq3 pl1 pl2 ey ey0; omega)), ey (6 + i) (by omega) (by omega)]
    · rw [show sB k + 6 + i = sB k + (6 + i) by (clear hu h41 h246 hf h7 h8 hS hR h18 h19 hq vc vd ve v1 v2 a1 a2 a3 a4 b1 b2 b3 c hZ hY zr z0 z25 e41 z17 z22 z22t yr y6 y127 y239 hro rz cz hB0 out f0 f1 s1 k0 k1 hB k12 s w0 d1 d2 d3 d4 d5 d6 dc dt dq dl p1 p2 p3 p4 p5 p6 pb pc1 pc2 pt pq1 pq2 pq3 pl1 pl2 ey ey0 i0 i1 i2; lia), ey (6 + i) (by omega) (by omega), show sB k + (6 + i) = sB k + 6 + i by (clear hu h41 h246 hf h7 h8 hS hR h18 h19 hq vc vd ve v1 v2 a1 a2 a3 a4 b1 b2 b3 c hZ hY zr z0 z25 e41 z17 z22 z22t yr y6 y127 y239 hro rz cz hB0 out f0 f1 s1 k0 k1 hB k12 s w0 d1 d2 d3 d4 d5 d6 dc dt dq dl p1 p2 p3 p4 p5 p6 pb pc1 pc2 pt pq1 pq2 pq3 pl1 pl2 ey ey0 i0 i1 i2; lia)]; exact pc2 i i0 i1 i2
    · obtain ⟨t16, t17⟩ := dt t t0 t1
      have tm := pt t t0 t1
      rw [z17 (3 * k + t) (by (clear hu h41 h246 hf h7 h8 hS hR h18 h19 hq vc vd ve v1 v2 a1 a2 a3 a4 b1 b2 b3 c hZ hY zr z0 z25 e41 z17 z22 z22t yr y6 y127 y239 hro rz cz hB0 out f0 f1 s1 k1 hB s w0 d1 d2 d3 d4 d5 d6 dc dt dq dl p1 p2 p3 p4 p5 p6 pb pc1 pc2 pt pq1 pq2 pq3 pl1 pl2 ey ey0 t16 t17 tm; lia)) (by omega), t16, show sB k + 22 + t = sB k + (22 + t) by (clear hu h41 h246 hf h7 h8 hS hR h18 h19 hq vc vd ve v1 v2 a1 a2 a3 a4 b1 b2 b3 c hZ hY zr z0 z25 e41 z17 z22 z22t yr y6 y127 y239 hro rz cz hB0 out f0 f1 s1 k0 k1 hB k12 s w0 d1 d2 d3 d4 d5 d6 dc dt dq dl p1 p2 p3 p4 p5 p6 pb pc1 pc2 pt pq1 pq2 pq3 pl1 pl2 ey ey0 t0 t1 t16 t17 tm; lia), ey (22 + t) (by (clear hu h41 h246 hf h7 h8 hS hR h18 h19 hq vc vd ve v1 v2 a1 a2 a3 a4 b1 b2 b3 c hZ hY zr z0 z25 e41 z17 z22 z22t yr y6 y127 y239 hro rz cz hB0 out f0 f1 s1 k0 k1 hB k12 s w0 d1 d2 d3 d4 d5 d6 dc dt dq dl p1 p2 p3 p4 p5 p6 pb pc1 pc2 pt pq1 pq2 pq3 pl1 pl2 ey ey0 t16 t17 tm; lia)) (by (clear hu h41 h246 hf h7 h8 hS hR h18 h19 hq vc vd ve v1 v2 a1 a2 a3 a4 b1 b2 b3 c hZ hY zr z0 z25 e41 z17 z22 z22t yr y6 y127 y239 hro rz cz hB0 out f0 f1 s1 k0 k1 hB k12 s w0 d1 d2 d3 d4 d5 d6 dc dt dq dl p1 p2 p3 p4 p5 p6 pb pc1 pc2 pt pq1 pq2 pq3 pl1 pl2 ey ey0 t16 t17 tm; omega))]
      rw [show sB k + 22 + t = sB k + (22 + t) by omega] at tm
      have fin : f (sB k + (22 + t)) = N 239 (sB k + (22 + t)) ∨ (0 < N 239 (sB k + (22 + t)) ∧ f (sB k + (22 + t)) = 0) := by
        by_cases c0 : FSI N (fun c => 0 < c) (sB k + (22 + t))
        · refine .inr ⟨?_, by rw [hf _ (by (clear hu h41 h246 hf h7 h8 hS hR h18 h19 hq vc vd ve v1 v2 a1 a2 a3 a4 b1 b2 b3 c hZ hY zr z0 z25 e41 z17 z22 z22t yr y6 y127 y239 hro rz cz hB0 out f0 f1 s1 k1 s w0 d1 d2 d3 d4 d5 d6 dc dt dq dl p1 p2 p3 p4 p5 p6 pb pc1 pc2 pt pq1 pq2 pq3 pl1 pl2 ey ey0 t16 t17 tm c0; omega)) (by (clear hu h41 h246 hf h7 h8 hS hR h18 h19 hq vc vd ve v1 v2 a1 a2 a3 a4 b1 b2 b3 c hZ hY zr z0 z25 e41 z17 z22 z22t yr y6 y127 y239 hro rz cz hB0 out f0 f1 s1 k1 s w0 d1 d2 d3 d4 d5 d6 dc dt dq dl p1 p2 p3 p4 p5 p6 pb pc1 pc2 pt pq1 pq2 pq3 pl1 pl2 ey ey0 t16 t17 tm c0; omega)), svF_in c0]⟩
          rcases c0 with hj | hj
          · have := rz _ hj; omega
          · rcases hj with ⟨k', t', q1, q2, q3, q4⟩ | ⟨t', q1, _⟩
            · exact q3
            · (clear hu h41 h246 hf h7 h8 hS hR h18 h19 hq vc vd ve v1 v2 a1 a2 a3 a4 b1 b2 b3 c hZ hY zr z0 z25 e41 z17 z22 z22t yr y6 y127 y239 hro rz cz hB0 out f0 f1 s1 k0 k1 hB k12 s w0 d1 d2 d3 d4 d5 d6 dc dt dq dl p1 p2 p3 p4 p5 p6 pb pc1 pc2 pt pq1 pq2 pq3 pl1 pl2 ey ey0 t0 t1 t16 t17 tm; omega)
        · exact .inl (out _ (by omega) (by omega) c0)
      rcases tm.1 with ⟨u1, u2, u3⟩ | ⟨u1, u2⟩
      · have e1 : (if 0 ≤ f (sB k + (22 + t)) then (1 : Int) else 0) = 1 := by rw [if_pos (by (clear hu h41 h246 hf h7 h8 hS hR h18 h19 hq vc vd ve v1 v2 a1 a2 a3 a4 b1 b2 b3 c hZ hY zr z0 z25 e41 z17 z22 z22t yr y6 y127 y239 hro rz cz hB0 out f0 f1 s1 k0 k1 hB k12 s w0 d1 d2 d3 d4 d5 d6 dc dt dq dl p1 p2 p3 p4 p5 p6 pb pc1 pc2 pt pq1 pq2 pq3 pl1 pl2 ey ey0 t0 t1 t16 t17 tm u1; omega))]
        rw [e1]
        exact ⟨.inl ⟨rfl, u2, .inl ⟨rfl, by (clear hu h41 h246 hf h7 h8 hS hR h18 h19 hq vc vd ve v1 v2 a1 a2 a3 a4 b1 b2 b3 c hZ hY zr z0 z25 e41 z17 z22 z22t yr y6 y127 y239 hro rz cz hB0 out f0 f1 s1 k0 k1 hB k12 s w0 d1 d2 d3 d4 d5 d6 dc dt dq dl p1 p2 p3 p4 p5 p6 pb pc1 pc2 pt pq1 pq2 pq3 pl1 pl2 ey ey0 t0 t1 t16 t17 tm fin u1 u2; omega)⟩⟩, fun hh => by have := tm.2 hh; (clear hu h41 h246 hf h7 h8 hS hR h18 h19 hq vc vd ve v1 v2 a1 a2 a3 a4 b1 b2 b3 c hZ hY zr z0 z25 e41 z17 z22 z22t yr y6 y127 y239 hro rz cz hB0 out f0 f1 s1 k0 k1 hB k12 s w0 d1 d2 d3 d4 d5 d6 dc dt dq dl p1 p2 p3 p4 p5 p6 pb pc1 pc2 pt pq1 pq2 pq3 pl1 pl2 ey ey0 t0 t1 t16 t17 tm fin u2 u3 e1 hh; lia)⟩
      · have e1 : (if 0 ≤ f (sB k + (22 + t)) then (1 : Int) else 0) = 0 := by rw [if_neg (by (clear hu h41 h246 hf h7 h8 hS hR h18 h19 hq vc vd ve v1 v2 a1 a2 a3 a4 b1 b2 b3 c hZ hY zr z0 z25 e41 z17 z22 z22t yr y6 y127 y239 hro rz cz hB0 out f0 f1 s1 k0 k1 hB k12 s w0 d1 d2 d3 d4 d5 d6 dc dt dq dl p1 p2 p3 p4 p5 p6 pb pc1 pc2 pt pq1 pq2 pq3 pl1 pl2 ey ey0 t0 t1 t16 t17 tm u1; omega))]
        rw [e1]
        exact ⟨.inr ⟨rfl, u2⟩, fun _ => rfl⟩
    · rw [show sB k + 26 + i = sB k + (26 + i) by (clear hu h41 h246 hf h7 h8 hS hR h18 h19 hq vc vd ve v1 v2 a1 a2 a3 a4 b1 b2 b3 c hZ hY zr z0 z25 e41 z17 z22 z22t yr y6 y127 y239 hro rz cz hB0 out f0 f1 s1 k0 k1 hB k12 s w0 d1 d2 d3 d4 d5 d6 dc dt dq dl p1 p2 p3 p4 p5 p6 pb pc1 pc2 pt pq1 pq2 pq3 pl1 pl2 ey ey0 i0 i1; lia), ey (26 + i) (by (clear hu h41 h246 hf h7 h8 hS hR h18 h19 hq vc vd ve v1 v2 a1 a2 a3 a4 b1 b2 b3 c hZ hY zr z0 z25 e41 z17 z22 z22t yr y6 y127 y239 hro rz cz hB0 out f0 f1 s1 k0 k1 hB k12 s w0 d1 d2 d3 d4 d5 d6 dc dt dq dl p1 p2 p3 p4 p5 p6 pb pc1 pc2 pt pq1 pq2 pq3 pl1 pl2 ey ey0 i1; lia)) (by (clear hu h41 h246 hf h7 h8 hS hR h18 h19 hq vc vd ve v1 v2 a1 a2 a3 a4 b1 b2 b3 c hZ hY zr z0 z25 e41 z17 z22 z22t yr y6 y127 y239 hro rz cz hB0 out f0 f1 s1 k0 k1 hB k12 s w0 d1 d2 d3 d4 d5 d6 dc dt dq dl p1 p2 p3 p4 p5 p6 pb pc1 pc2 pt pl1 pl2 ey ey0 i0; lia)), dl i i0 i1, show sB k + 26 + i = sB k + (26 + i) by (clear hu h41 h246 hf h7 h8 hS hR h18 h19 hq vc vd ve v1 v2 a1 a2 a3 a4 b1 b2 b3 c hZ hY zr z0 z25 e41 z17 z22 z22t yr y6 y127 y239 hro rz cz hB0 out f0 f1 s1 k0 k1 hB k12 s w0 d1 d2 d3 d4 d5 d6 dc dt dq dl p1 p2 p3 p4 p5 p6 pb pc1 pc2 pt pq1 pq2 pq3 pl1 pl2 ey ey0 i0 i1; lia), s (26 + i) (by omega) (by omega) (by (clear hu h41 h246 hf h7 h8 hS hR h18 h19 hq vc vd ve v1 v2 a1 a2 a3 a4 b1 b2 b3 c hZ hY zr z0 z25 e41 z17 z22 z22t yr y6 y127 y239 hro rz cz hB0 out f0 f1 s1 k0 k1 hB k12 s w0 d1 d2 d3 d4 d5 d6 dc dt dq dl p1 p2 p3 p4 p5 p6 pb pc1 pc2 pt pq1 pq2 pq3 pl1 pl2 ey ey0 i1; omega))]
    · rw [show sB k + 26 + i = sB k + (26 + i) by (clear hu h41 h246 hf h7 h8 hS hR h18 h19 hq vc vd ve v1 v2 a1 a2 a3 a4 b1 b2 b3 c hZ hY zr z0 z25 e41 z17 z22 z22t yr y6 y127 y239 hro rz cz hB0 out f0 f1 s1 k0 k1 hB k12 s w0 d1 d2 d3 d4 d5 d6 dc dt dq dl p1 p2 p3 p4 p5 p6 pb pc1 pc2 pt pq1 pq2 pq3 pl1 pl2 ey ey0 i0 i1; lia), ey (26 + i) (by (clear hu h41 h246 hf h7 h8 hS hR h18 h19 hq vc vd ve v1 v2 a1 a2 a3 a4 b1 b2 b3 c hZ hY zr z0 z25 e41 z17 z22 z22t yr y6 y127 y239 hro rz cz hB0 out f0 f1 s1 k0 k1 hB k12 s w0 d1 d2 d3 d4 d5 d6 dc dt dq dl p1 p2 p3 p4 p5 p6 pb pc1 pc2 pt pl1 pl2 ey ey0 i1; lia)) (by (clear hu h41 h246 hf h7 h8 hS hR h18 h19 hq vc vd ve v1 v2 a1 a2 a3 a4 b1 b2 b3 c hZ hY zr z0 z25 e41 z17 z22 z22t yr y6 y127 y239 hro rz cz hB0 out f0 f1 s1 k0 k1 hB k12 s w0 d1 d2 d3 d4 d5 d6 dc dt dq dl p1 p2 p3 p4 p5 p6 pb pc1 pc2 pt pq1 pq2 pq3 pl1 pl2 ey ey0 i0; omega)), show sB k + (26 + i) = sB k + 26 + i by (clear hu h41 h246 hf h7 h8 hS hR h18 h19 hq vc vd ve v1 v2 a1 a2 a3 a4 b1 b2 b3 c hZ hY zr z0 z25 e41 z17 z22 z22t yr y6 y127 y239 hro rz cz hB0 out f0 f1 s1 k0 k1 hB k12 s w0 d1 d2 d3 d4 d5 d6 dc dt dq dl p1 p2 p3 p4 p5 p6 pb pc1 pc2 pt pq1 pq2 pq3 pl1 pl2 ey ey0 i0 i1; lia)]; exact pl2 i (by (clear hu h41 h246 hf h7 h8 hS hR h18 h19 hq vc vd ve v1 v2 a1 a2 a3 a4 b1 b2 b3 c hZ hY zr z0 z25 e41 z17 z22 z22t yr y6 y127 y239 hro rz cz hB0 out f0 f1 s1 k0 k1 hB k12 s w0 d1 d2 d3 d4 d5 d6 dc dt dq dl p1 p2 p3 p4 p5 p6 pb pc1 pc2 pt pq1 pq2 pl1 pl2 ey ey0 i1; lia)) i1
  · rw [z0 7 (by decide), h7, f0] at k0
    have hB : sB k = 2 + 56 * k := rfl
    rw [y239 _ (by (clear hu h41 h246 hf h7 h8 hS hR h18 h19 hq vc vd ve v1 v2 a2 a3 a4 b1 b2 b3 c hZ hY zr z0 z25 e41 z17 z22 z22t yr y6 y127 y239 hro rz cz hB0 out f0 f1 s1; lia)) (by (clear hu h41 h246 hf h7 h8 hS hR h18 h19 hq vc vd ve v1 v2 a2 a3 a4 b1 b2 b3 c hZ hY zr z0 z25 e41 z17 z22 z22t yr y6 y127 y239 hro rz cz hB0 out f0 f1 s1; omega))]; exact a4 k (by (clear hu h41 h246 hf h7 h8 hS hR h18 h19 hq vc vd ve v1 v2 a2 a3 a4 b1 b2 b3 c hZ hY zr z0 z25 e41 z17 z22 z22t yr y6 y127 y239 hro rz cz hB0 out f0 f1 s1 k1 i0 i1 hB; omega)) k1 i i0 i1
  · rw [y6 18 (by decide), h18]; exact b1
  · rw [y6 18 (by decide), h18] at r1
    have hR' : sR r = 674 + 43 * r := rfl
    obtain ⟨o1, o2⟩ := hR r r0 r1
    obtain ⟨q1, q2, q3⟩ := b2 r r0 r1
    have nc : ∀ i, 0 ≤ i → ¬ CKI N (fun c => 0 < c) (N 239 0) 0 (sR r + i) := fun i i0 hj => by have := cz _ hj; (clear hu h41 h246 hf h7 h8 hS hR h18 h19 hq vc vd ve v1 v2 a2 a3 a4 b2 b3 c hZ hY zr z0 z25 e41 z17 z22 z22t yr y6 y127 y239 hro rz cz out f0 f1 s1 o1 o2 q1 q2 q3 hj; omega)
    have other : ∀ i, 0 ≤ i → i < 43 → (i = 0 ∨ (i - 1) % 7 ≠ 3) → f (sR r + i) = N 239 (sR r + i) := fun i i0 i1 hi => out _ (by (clear hu h41 h246 hf h7 h8 hS hR h18 h19 hq vc vd ve v1 v2 a1 a2 a3 a4 b2 b3 c hZ hY zr z0 z25 e41 z17 z22 z22t yr y6 y127 y239 hro rz cz hB0 out f0 f1 s1 o1 o2 q1 q2 q3 nc hi; lia)) (by (clear hu h41 h246 hf h7 h8 hS hR h18 h19 hq vc vd ve v1 v2 a1 a2 a3 a4 b2 b3 c hZ hY zr z0 z25 e41 z17 z22 z22t yr y6 y127 y239 hro rz cz hB0 out f0 f1 s1 o1 o2 q1 q2 q3 nc hi; omega)) (fun hj => by
      rcases hj with hj | hj
      · rcases hj with ⟨r', q', x1, x2, x3⟩ | ⟨q', x1, _⟩
        · have h' := hro r' x1.1 x1.2
          have er : r' = r := by unfold sR at x3; (clear hu h41 h246 hf h7 h8 hS hR h18 h19 hq vc vd ve v1 v2 a1 a2 a3 a4 b1 b2 b3 c hZ hY zr z0 z25 e41 z17 z22 z22t yr y6 y127 y239 hro rz cz hB0 out f0 f1 s1 r0 r1 hR' o1 o2 q1 q2 q3 nc hi x1; lia)
          subst er
          rcases hi with hi | hi <;> omega
        · omega
      · exact nc i i0 hj)
    have e0 := other 0 (by decide) (by decide) (.inl rfl)
    rw [Int.add_zero] at e0
    rw [e0] at o1 o2
    unfold RO
    rw [zr 21 (by decide), y239 (sR r) (by (clear hu h41 h246 hf h7 h8 hS hR h18 h19 hq vc vd ve v1 v2 a1 a2 a3 a4 b2 b3 c hZ hY zr z0 z25 e41 z17 z22 z22t yr y6 y127 y239 hro rz cz hB0 out f0 f1 s1 o1 o2 q1 q2 q3 nc other e0; lia)) (by (clear hu h41 h246 hf h7 h8 hS hR h18 h19 hq vc vd ve v1 v2 a1 a2 a3 a4 b2 b3 c hZ hY zr z0 z25 e41 z17 z22 z22t yr y6 y127 y239 hro rz cz hB0 out f0 f1 s1 o1 o2 q1 q2 q3 nc other e0; lia)), o1]
    refine ⟨⟨by (clear hu h41 h246 hf h7 h8 hS hR h18 h19 hq vc vd ve v1 v2 a1 a2 a3 a4 b1 b2 b3 c hZ hY zr z0 z25 e41 z17 z22 z22t yr y6 y127 y239 hro rz cz hB0 out f0 f1 s1 r0 r1 hR' o1 o2 q2 q3 nc other; lia), by (clear hu h41 h246 hf h7 h8 hS hR h18 h19 hq vc vd ve v1 v2 a1 a2 a3 a4 b1 b2 b3 c hZ hY zr z0 z25 e41 z17 z22 z22t yr y6 y127 y239 hro rz cz hB0 out f0 f1 s1 r0 r1 hR' o1 o2 q2 q3 nc other; omega), rfl⟩, fun q q0 q1' => ⟨fun j j0 j1 j3 => ?_, ?_, fun _ => ?_, fun z => absurd z (by decide)⟩, fun i i0 i1 => ?_⟩
    · rw [y239 _ (by (clear hu h41 h246 hf h7 h8 hS hR h18 h19 hq vc vd ve v1 v2 a1 a2 a3 a4 b2 b3 c hZ hY zr z0 z25 e41 z17 z22 z22t yr y6 y127 y239 hro rz cz hB0 out f0 f1 s1 o1 o2 q2 q3 nc other j3; lia)) (by (clear hu h41 h246 hf h7 h8 hS hR h18 h19 hq vc vd ve v1 v2 a1 a2 a3 a4 b2 b3 c hZ hY zr z0 z25 e41 z17 z22 z22t yr y6 y127 y239 hro rz cz hB0 out f0 f1 s1 o1 o2 q2 q3 nc other j3; omega)), z22 _ (by (clear hu h41 h246 hf h7 h8 hS hR h18 h19 hq vc vd ve v1 v2 a1 a2 a3 a4 b2 b3 c hZ hY zr z0 z25 e41 z17 z22 z22t yr y6 y127 y239 hro rz cz hB0 out f0 f1 s1 hR' o1 o2 q2 q3 nc other j3; lia)) (by (clear hu h41 h246 hf h7 h8 hS hR h18 h19 hq vc vd ve v1 v2 a1 a2 a3 a4 b2 b3 c hZ hY zr z0 z25 e41 z17 z22 z22t yr y6 y127 y239 hro rz cz hB0 out f0 f1 s1 hR' o1 o2 q2 q3 nc other j3; lia)) (by (clear hu h41 h246 hf h7 h8 hS hR h18 h19 hq vc vd ve v1 v2 a1 a2 a3 a4 b1 b2 b3 c hZ hY zr z0 z25 e41 z17 z22 z22t yr y6 y127 y239 hro rz cz hB0 out f0 f1 s1 r0 r1 hR' o1 o2 q1 q2 q3 nc other e0 q0 q1'; lia)), (o2 q q0 q1').1 j j0 j1 j3]
      have := other (1 + 7 * q + j) (by (clear hu h41 h246 hf h7 h8 hS hR h18 h19 hq vc vd ve v1 v2 a1 a2 a3 a4 b1 b2 b3 c hZ hY zr z0 z25 e41 z17 z22 z22t yr y6 y127 y239 hro rz cz hB0 out f0 f1 s1 r0 r1 hR' o1 o2 q2 q3 nc other j3; lia)) (by (clear hu h41 h246 hf h7 h8 hS hR h18 h19 hq vc vd ve v1 v2 a1 a2 a3 a4 b1 b2 b3 c hZ hY zr z0 z25 e41 z17 z22 z22t yr y6 y127 y239 hro rz cz hB0 out f0 f1 s1 r0 r1 hR' o1 o2 q2 q3 nc other j3; lia)) (.inr (by (clear hu h41 h246 hf h7 h8 hS hR h18 h19 hq vc vd ve v1 v2 a1 a2 a3 a4 b1 b2 b3 c hZ hY zr z0 z25 e41 z17 z22 z22t yr y6 y127 y239 hro rz cz hB0 out f0 f1 s1 r0 r1 hR' o1 o2 q1 q2 q3 nc other e0 q0 q1'; lia)))
      rw [show sR r + (1 + 7 * q + j) = sR r + 1 + 7 * q + j by (clear hu h41 h246 hf h7 h8 hS hR h18 h19 hq vc vd ve v1 v2 a1 a2 a3 a4 b1 b2 b3 c hZ hY zr z0 z25 e41 z17 z22 z22t yr y6 y127 y239 hro rz cz hB0 out f0 f1 s1 r0 r1 hR' o1 o2 q1 q2 q3 nc other e0 q0 q1' j0 j1 j3 this; lia)] at this; exact this
    · rw [z22t _ (by (clear hu h41 h246 hf h7 h8 hS hR h18 h19 hq vc vd ve v1 v2 a1 a2 a3 a4 b2 b3 c hZ hY zr z0 z25 e41 z17 z22 z22t yr y6 y127 y239 hro rz cz hB0 out f0 f1 s1 hR' o1 o2 q1 q2 q3 nc other e0 q1'; lia)) (by (clear hu h41 h246 hf h7 h8 hS hR h18 h19 hq vc vd ve v1 v2 a1 a2 a3 a4 b2 b3 c hZ hY zr z0 z25 e41 z17 z22 z22t yr y6 y127 y239 hro rz cz hB0 out f0 f1 s1 hR' o1 o2 q2 q3 nc other q0; lia)) (by (clear hu h41 h246 hf h7 h8 hS hR h18 h19 hq vc vd ve v1 v2 a1 a2 a3 a4 b1 b2 b3 c hZ hY zr z0 z25 e41 z17 z22 z22t yr y6 y127 y239 hro rz cz hB0 out f0 f1 s1 r0 r1 hR' o1 o2 q1 q2 q3 nc other e0 q0 q1'; lia))]; exact (q2 q q0 (by (clear hu h41 h246 hf h7 h8 hS hR h18 h19 hq vc vd ve v1 v2 a1 a2 a3 a4 b1 b2 b3 c hZ hY zr z0 z25 e41 z17 z22 z22t yr y6 y127 y239 hro rz cz hB0 out f0 f1 s1 r0 r1 hR' o1 o2 q2 q3 nc other q0; omega))).2.1
    · rw [z22t _ (by omega) (by omega) (by omega), y239 _ (by (clear hu h41 h246 hf h7 h8 hS hR h18 h19 hq vc vd ve v1 v2 a1 a2 a3 a4 b2 b3 c hZ hY zr z0 z25 e41 z17 z22 z22t yr y6 y127 y239 hro rz cz hB0 out f0 f1 s1 o1 o2 q1 q2 q3 nc other e0 q1'; lia)) (by (clear hu h41 h246 hf h7 h8 hS hR h18 h19 hq vc vd ve v1 v2 a1 a2 a3 a4 b2 b3 c hZ hY zr z0 z25 e41 z17 z22 z22t yr y6 y127 y239 hro rz cz hB0 out f0 f1 s1 o1 o2 q2 q3 nc other q0; lia))]; exact (q2 q q0 (by omega)).2.2.1 rfl
    · rw [y239 _ (by (clear hu h41 h246 hf h7 h8 hS hR h18 h19 hq vc vd ve v1 v2 a1 a2 a3 a4 b2 b3 c hZ hY zr z0 z25 e41 z17 z22 z22t yr y6 y127 y239 hro rz cz hB0 out f0 f1 s1 o1 o2 q2 q3 nc other i1; omega)) (by (clear hu h41 h246 hf h7 h8 hS hR h18 h19 hq vc vd ve v1 v2 a1 a2 a3 a4 b2 b3 c hZ hY zr z0 z25 e41 z17 z22 z22t yr y6 y127 y239 hro rz cz hB0 out f0 f1 s1 o1 o2 q1 q2 q3 nc other e0 i0; lia))]; exact q3 i (by (clear hu h41 h246 hf h7 h8 hS hR h18 h19 hq vc vd ve v1 v2 a1 a2 a3 a4 b1 b2 b3 c hZ hY zr z0 z25 e41 z17 z22 z22t yr y6 y127 y239 hro rz cz hB0 out f0 f1 s1 r0 r1 hR' o1 o2 q2 q3 nc other i1; lia)) i1
  · rw [y6 18 (by decide), h18] at r0
    have hR' : sR r = 674 + 43 * r := rfl
    rw [y239 _ (by (clear hu h41 h246 hf h7 h8 hS hR h18 h19 hq vc vd ve v1 v2 a1 a2 a3 a4 b2 b3 c hZ hY zr z0 z25 e41 z17 z22 z22t yr y6 y127 y239 hro rz cz hB0 out f0 f1 s1; lia)) (by (clear hu h41 h246 hf h7 h8 hS hR h18 h19 hq vc vd ve v1 v2 a1 a2 a3 a4 b2 b3 c hZ hY zr z0 z25 e41 z17 z22 z22t yr y6 y127 y239 hro rz cz hB0 out f0 f1 s1; omega))]; exact b3 r r0 r1 i i0 i1
  · have ex : ∀ i : Int, i ∉ [7, 8, 25, 37, 38, 65] → Z 0 i = Mv 0 i := fun i hi => by
      rw [z0 i (fun c => hi (by rw [c]; decide)), hu.2 i (fun c => hi (by revert c; simp only [List.mem_cons, List.not_mem_nil, or_false]; (clear hu h41 h246 hf h7 h8 hS hR h18 h19 hq vc vd ve v1 v2 a1 a2 a3 a4 b1 b2 b3 c hZ hY zr z0 z25 e41 z17 z22 z22t yr y6 y127 y239 hro rz cz hB0 out f0 f1 s1 hi; lia))), v2 i (fun c => hi (by revert c; simp only [List.mem_cons, List.not_mem_nil, or_false]; (clear hu h41 h246 hf h7 h8 hS hR h18 h19 hq vc vd ve v1 v2 a1 a2 a3 a4 b1 b2 b3 c hZ hY zr z0 z25 e41 z17 z22 z22t yr y6 y127 y239 hro rz cz hB0 out f0 f1 s1 hi; lia)))]
    unfold RSC at vc ⊢
    rw [z25, y127, ex 9 (by decide), ex 10 (by decide), ex 26 (by decide), ex 27 (by decide), ex 28 (by decide), ex 29 (by decide), ex 30 (by decide), ex 31 (by decide), y6 128 (by decide), y6 129 (by decide), y6 131 (by decide), y6 132 (by decide), y6 133 (by decide), y6 134 (by decide), y6 135 (by decide), y6 136 (by decide)]
    exact ⟨⟨rfl, rfl, .inl rfl⟩, vc.2.1, vc.2.2.1, vc.2.2.2.1, fun z => absurd z (by decide)⟩
  · have ex : ∀ i : Int, i ∉ [7, 8, 25, 37, 38, 65] → Z 0 i = Mv 0 i := fun i hi => by
      rw [z0 i (fun c => hi (by rw [c]; decide)), hu.2 i (fun c => hi (by revert c; simp only [List.mem_cons, List.not_mem_nil, or_false]; (clear hu h41 h246 hf h7 h8 hS hR h18 h19 hq vc vd ve v1 v2 a1 a2 a3 a4 b1 b2 b3 c hZ hY zr z0 z25 e41 z17 z22 z22t yr y6 y127 y239 hro rz cz hB0 out f0 f1 s1 hi; lia))), v2 i (fun c => hi (by revert c; simp only [List.mem_cons, List.not_mem_nil, or_false]; (clear hu h41 h246 hf h7 h8 hS hR h18 h19 hq vc vd ve v1 v2 a1 a2 a3 a4 b1 b2 b3 c hZ hY zr z0 z25 e41 z17 z22 z22t yr y6 y127 y239 hro rz cz hB0 out f0 f1 s1 hi; lia)))]
    unfold ROU at vd ⊢
    rw [ex 32 (by decide), ex 33 (by decide), ex 34 (by decide), y6 137 (by decide), y6 144 (by decide), y6 145 (by decide), zr 24 (by decide), hu.1 24 (by decide), ← v1 24 (by decide), yr 241 (by decide)]
    exact ⟨vd.1, fun i i0 i1 => ⟨(vd.2 i i0 i1).1, fun z => absurd z (by decide)⟩⟩
  · have ex : ∀ i : Int, i ∉ [7, 8, 25, 37, 38, 65] → Z 0 i = Mv 0 i := fun i hi => by
      rw [z0 i (fun c => hi (by rw [c]; decide)), hu.2 i (fun c => hi (by revert c; simp only [List.mem_cons, List.not_mem_nil, or_false]; (clear hu h41 h246 hf h7 h8 hS hR h18 h19 hq vc vd ve v1 v2 a1 a2 a3 a4 b1 b2 b3 c hZ hY zr z0 z25 e41 z17 z22 z22t yr y6 y127 y239 hro rz cz hB0 out f0 f1 s1 hi; lia))), v2 i (fun c => hi (by revert c; simp only [List.mem_cons, List.not_mem_nil, or_false]; (clear hu h41 h246 hf h7 h8 hS hR h18 h19 hq vc vd ve v1 v2 a1 a2 a3 a4 b1 b2 b3 c hZ hY zr z0 z25 e41 z17 z22 z22t yr y6 y127 y239 hro rz cz hB0 out f0 f1 s1 hi; lia)))]
    unfold REV at ve ⊢
    rw [ex 35 (by decide), ex 36 (by decide), y6 142 (by decide), y6 143 (by decide), zr 23 (by decide), hu.1 23 (by decide), ← v1 23 (by decide), yr 240 (by decide)]
    exact ⟨ve.1, fun i i0 i1 => ⟨(ve.2 i i0 i1).1, fun z => absurd z (by decide)⟩⟩
  · rw [z0 8 (by decide), h8, f1]; exact a2.1.symm
end SWa
end T417_sw
section T418_sx
/-! the search as called (X 37 | Q 380) -/
section SXf
variable {M N : mm_} {x1 : Int}
/-- what a search leaves -/
def SRC (M N : mm_) (B : Int) : Prop := ∃ n, SST M N n B
theorem j_37f [Inhabited fz_] (h : RNS M N) (hf : (∀ i, 0 ≤ i → i < 1200 → M 24 i = fz 24 i) ∧ ∀ i, 0 ≤ i → i < 2000 → M 23 i = fz 23 i) (hB : M 0 8 + 40400 ≤ 2000000000) : ∃ v M' N', Ex_ 11 37 [.inr (.inr 0), .inl x1] M [.inl v] M' ∧ Ex_ 11 380 [.inr (.inr 6), .inl x1] N [.inl v] N' ∧ RNS M' N' ∧ (XSF M M' ∧ QSF N N') ∧ M' 0 8 = M 0 8 ∧ ((M' = M ∧ N' = N) ∨ (SRC M' N' (M 0 8) ∧ SCT M' N')) := by
  obtain ⟨st, r1, r2⟩ := h
  by_cases c1 : x1 < 1
  · refine ⟨-1, M, N, fun Qr Qt g => t_37 fun V hV hW => b_37_0 (Tr_mono _) hV hW _ _ fun _ => ?_, fun Qr Qt g => t_380 fun V hV hW => b_380_0 (Tr_mono _) hV hW _ _ fun _ => ?_, ⟨st, r1, r2⟩, ⟨XSF_rf, QSF_rf⟩, rfl, .inl ⟨rfl, rfl⟩⟩
    · rw [if_neg (by omega), if_pos c1]; exact g
    · rw [if_neg (by omega), if_pos c1]; exact g
  by_cases c2 : x1 ≤ 200
  · obtain ⟨Mi, Ni, xi, qi, hd, ct, fi, k41i, k246, rw0, wn⟩ := si_all (x1 := x1) st hf ⟨by omega, c2⟩
    obtain ⟨c, n, Mf, Nf, bc, hF, cF, nF, kF, xF, qF⟩ := o_156 hB c2 x1.toNat 0 1 Mi Ni (by omega) (by decide) (by decide) hd ct
    obtain ⟨⟨hV, hP, hA⟩, ⟨hS, hb⟩, ⟨hl1, hl2⟩, h16, h64⟩ := hF
    have n2 := hS.2.1
    obtain ⟨⟨s1, s2, s3, s4, s5⟩, _⟩ := hS.2.2 0 (by decide) (by omega)
    obtain ⟨Me, x41, u, ⟨h7, h8⟩, d1, d2⟩ := x_41 hP s1 (k := 0) (by decide) s4.1
    have fN : QSF N Nf := QSF_tr fi.2 kF.1.2
    have fM : XSF M Mf := XSF_tr fi.1 kF.1.1
    have e18 : Nf 6 18 = N 6 18 := fN.2 18 (by decide)
    have er := kF.2.2.2.1 0 (by decide) (by decide)
    obtain ⟨ru, e8⟩ := RU_end (Me := Me) (f := rwk Nf 0) st.1 hV u (by rw [kF.2.1]; exact k41i) (fun i i0 i1 => by rw [kF.2.2.1]; exact k246 i i0 i1) (fun i i0 i1 => by rw [er]; exact rw0 i i0 i1) h7 h8 d1 (by rw [← e18]; exact d2) e18 (fN.2 19 (by decide)) (fun r hr => fN.1 r (fun e => by revert hr e; simp only [sqA, List.mem_cons, List.not_mem_nil, or_false]; (clear hf hB st r1 r2 c1 c2 xi qi hd ct fi k41i k246 rw0 wn bc cF nF kF xF qF hV hP hA hS hb hl1 hl2 h16 h64 n2 s1 s2 s3 s4 s5 x41 u h7 h8 d1 d2 fN fM e18 er; omega)) (fun e => by revert hr e; simp only [quL, List.mem_cons, List.not_mem_nil, or_false]; (clear hf hB st r1 r2 c1 c2 xi qi hd ct fi k41i k246 rw0 wn bc cF nF kF xF qF hV hP hA hS hb hl1 hl2 h16 h64 n2 s1 s2 s3 s4 s5 x41 u h7 h8 d1 d2 fN fM e18 er; omega)))
    generalize hZ : up_ (r22 (r17 Me)) 0 25 0 = Z at ru e8
    generalize hY : wr_ (up_ Nf 6 127 0) 239 (ldF (up_ Nf 6 127 0 239) (up_ Nf 6 127 0 246)) = Y at ru
    have zr : ∀ r : Nat, r ∉ [0, 17, 22] → Z r = Me r := fun r hr => by
      have e : ∀ q : Nat, q ∈ [0, 17, 22] → r ≠ q := fun q hq e => hr (by rw [e]; exact hq)
      rw [← hZ, up_ne (e 0 (by decide))]; unfold r22 r17; rw [wr_ne (e 22 (by decide)), wr_ne (e 17 (by decide))]
    have z0 : ∀ i : Int, i ≠ 25 → Z 0 i = Me 0 i := fun i c => by rw [← hZ, upo c]; unfold r22 r17; rw [wr_ne (by decide), wr_ne (by decide)]
    have yr : ∀ r : Nat, r ∉ [6, 239] → Y r = Nf r := fun r hr => by
      have e : ∀ q : Nat, q ∈ [6, 239] → r ≠ q := fun q hq e => hr (by rw [e]; exact hq)
      rw [← hY, wr_ne (e 239 (by decide)), up_ne (e 6 (by decide))]
    have y6 : ∀ i : Int, i ≠ 127 → Y 6 i = Nf 6 i := fun i c => by rw [← hY, wr_ne (by decide), upo c]
    have fZ : XSF Mf Z := by
      refine XSF_tr (XSF_u u) ?_
      rw [← hZ]; unfold r22 r17
      exact XSF_tr (XSF_tr (XSF_wr (.inr (by decide)) (by decide)) (XSF_wr (.inr (by decide)) (by decide))) (XSF_up (.inr (by decide)) (fun _ => by decide))
    have fY : QSF Nf Y := by rw [← hY]; exact QSF_tr (QSF_up (.inr (by decide)) (fun _ => by decide)) (QSF_wr (.inr (by decide)) (by decide))
    have fMZ := XSF_tr fM fZ
    have fNY := QSF_tr fN fY
    have z62 : ∀ i : Int, i ∉ [7, 8, 25, 65] → Z 0 i = Mf 0 i := fun i hi => by rw [z0 i (fun c => hi (by rw [c]; decide)), u.2 i (fun c => hi (by revert c; simp only [List.mem_cons, List.not_mem_nil, or_false]; (clear hf hB st r1 r2 c1 c2 xi qi hd ct fi k41i k246 rw0 wn bc cF nF kF xF qF hV hP hA hS hb hl1 hl2 h16 h64 n2 s1 s2 s3 s4 s5 x41 u h7 h8 d1 d2 fN fM e18 er hZ e8 hY ru zr z0 yr y6 fZ fY fMZ fNY hi; lia)))]
    have tA : TYA (up_ Nf 6 127 0) := TYA_c hA ⟨fun r hr => up_ne (fun c => by rw [c] at hr; revert hr; decide), upo (by decide), upo (by decide)⟩ (up_ne (by decide))
    have n12 := st.1.1.1
    have TY : TYA Y := by
      rw [← hY]
      refine TYA_un tA (TYR_c (N := N) (f := N 239) (TYR_of st.2.2.1) ⟨fun r hr => by rw [up_ne (fun c => by rw [c] at hr; revert hr; decide)]; exact fN.1 r (fun e => by revert hr e; simp only [sqA, List.mem_cons, List.not_mem_nil, or_false]; (clear hf hB st r1 r2 c1 c2 xi qi hd ct fi k41i k246 rw0 wn bc cF nF kF xF qF hV hP hA hS hb hl1 hl2 h16 h64 n2 s1 s2 s3 s4 s5 x41 u h7 h8 d1 d2 fN fM e18 er hZ e8 hY ru zr z0 yr y6 fZ fY fMZ fNY z62 tA n12; omega)) (fun e => by revert hr e; simp only [quL, List.mem_cons, List.not_mem_nil, or_false]; (clear hf hB st r1 r2 c1 c2 xi qi hd ct fi k41i k246 rw0 wn bc cF nF kF xF qF hV hP hA hS hb hl1 hl2 h16 h64 n2 s1 s2 s3 s4 s5 x41 u h7 h8 d1 d2 fN fM e18 er hZ e8 hY ru zr z0 yr y6 fZ fY fMZ fNY z62 tA n12; omega)), by rw [upo (by decide)]; exact e18, by rw [upo (by decide)]; exact fN.2 17 (by decide)⟩ (by (clear hf hB st r1 r2 c1 c2 xi qi hd ct fi k41i k246 rw0 wn bc cF nF kF xF qF hV hP hA hS hb hl1 hl2 h16 h64 n2 s1 s2 s3 s4 s5 x41 u h7 h8 d1 d2 fN fM e18 er hZ e8 hY ru zr z0 yr y6 fZ fY fMZ fNY z62 tA; omega)) (fun i i0 i1 => by rw [up_ne (by decide), kF.2.2.1]; exact k246 i i0 i1)) (by rw [up_ne (by decide), kF.2.2.1, k246 0 (by decide) (by decide)]; omega)
    have S : SST Z Y n (M 0 8) := SST_c hS (z62 62 (by decide)) (y6 163 (by decide)) (fun r hr k _ _ _ => by rw [zr r (fun c => by revert hr c; simp only [List.mem_cons, List.not_mem_nil, or_false]; (clear hf hB st r1 r2 c1 c2 xi qi hd ct fi k41i k246 rw0 wn bc cF nF kF xF qF hV hP hA hS hb hl1 hl2 h16 h64 n2 s1 s2 s3 s4 s5 x41 u h7 h8 d1 d2 fN fM e18 er hZ e8 hY ru zr z0 yr y6 fZ fY fMZ fNY z62 tA n12 TY; omega)), u.1 r (fun c => by revert hr c; simp only [List.mem_cons, List.not_mem_nil, or_false]; (clear hf hB st r1 r2 c1 c2 xi qi hd ct fi k41i k246 rw0 wn bc cF nF kF xF qF hV hP hA hS hb hl1 hl2 h16 h64 n2 s1 s2 s3 s4 s5 x41 u h7 h8 d1 d2 fN fM e18 er hZ e8 hY ru zr z0 yr y6 fZ fY fMZ fNY z62 tA n12 TY; omega))]) (fun r hr => yr r (fun c => by revert hr c; simp only [List.mem_cons, List.not_mem_nil, or_false]; (clear hf hB st r1 r2 c1 c2 xi qi hd ct fi k41i k246 rw0 wn bc cF nF kF xF qF hV hP hA hS hb hl1 hl2 h16 h64 n2 s1 s2 s3 s4 s5 x41 u h7 h8 d1 d2 fN fM e18 er hZ e8 hY ru zr z0 yr y6 fZ fY fMZ fNY z62 tA n12 TY; omega))) (y6 18 (by decide)) ⟨y6 19 (by decide), y6 17 (by decide)⟩ (fun k k0 k1 => pkL_len (PKB_of hP) (hS.2.2 k k0 k1).1.1)
    refine ⟨Mf 0 62, Z, Y, fun Qr Qt g => t_37 fun V hV hW => b_37_0 (Tr_mono _) hV hW _ _ fun _ => ?_, fun Qr Qt g => t_380 fun V hV hW => b_380_0 (Tr_mono _) hV hW _ _ fun _ => ?_, ⟨⟨ru, PLr_s st.2.1 fMZ fNY, TY, ?_⟩, ?_, ?_⟩, ⟨fMZ, fNY⟩, e8, .inr ⟨⟨n, S⟩, ?_⟩⟩
    · rw [if_neg (by (clear hf hB st r2 c1 c2 xi qi hd ct fi k41i k246 rw0 wn bc cF nF kF xF qF hP hA hS hb hl1 hl2 h16 h64 n2 s1 s2 s3 s4 s5 x41 u h7 h8 d1 d2 fN fM e18 er hZ e8 hY ru zr z0 yr y6 fZ fY fMZ fNY z62 tA n12 TY S g hV hW; lia)), if_neg c1, if_pos c2]
      refine xi V Qr Qt hV hW (xF Me x41 V Qr Qt hV hW (x_387k hV hW ?_))
      rw [hZ, u.2 62 (by decide)]; exact g
    · rw [if_neg (by (clear hf hB st r1 c1 c2 xi qi hd ct fi k41i k246 rw0 wn bc cF nF kF xF qF hP hA hS hb hl1 hl2 h16 h64 n2 s1 s2 s3 s4 s5 x41 u h7 h8 d1 d2 fN fM e18 er hZ e8 hY ru zr z0 yr y6 fZ fY fMZ fNY z62 tA n12 TY S g hV hW; lia)), if_neg c1, if_pos c2]
      refine qi V Qr Qt hV hW (qF V Qr Qt hV hW (q_189k hV hW ?_))
      rw [hY, upo (by decide), hS.1.2, ← hS.1.1]; exact g
    · rw [z62 11 (by decide), y6 130 (by decide), kF.2.2.2.2.1, kF.2.2.2.2.2, wn.1, wn.2]; exact st.2.2.2
    · rw [fMZ.2 4 (by decide)]; exact r1
    · rw [fNY.2 126 (by decide)]; exact r2
    · refine ⟨by rw [z62 62 (by decide), y6 163 (by decide), hS.1.1, hS.1.2], ⟨by rw [z62 63 (by decide), y6 169 (by decide), cF.1, cF.2], by rw [y6 169 (by decide), cF.2]; exact bc⟩, by rw [z62 64 (by decide), y6 164 (by decide)]; exact h64⟩
  · refine ⟨-1, M, N, fun Qr Qt g => t_37 fun V hV hW => b_37_0 (Tr_mono _) hV hW _ _ fun _ => ?_, fun Qr Qt g => t_380 fun V hV hW => b_380_0 (Tr_mono _) hV hW _ _ fun _ => ?_, ⟨st, r1, r2⟩, ⟨XSF_rf, QSF_rf⟩, rfl, .inl ⟨rfl, rfl⟩⟩
    · rw [if_neg (by omega), if_neg c1, if_neg c2]; exact g
    · rw [if_neg (by omega), if_neg c1, if_neg c2]; exact g
end SXf
section SXg
theorem j_37 (i : Inhabited fz_) {M N : mm_} {x1 : Int} (h : @RNS i M N) (hB : M 0 8 + 40400 ≤ 2000000000) : ∃ v M' N', Ex_ 11 37 [.inr (.inr 0), .inl x1] M [.inl v] M' ∧ Ex_ 11 380 [.inr (.inr 6), .inl x1] N [.inl v] N' ∧ @RNS i M' N' ∧ (XSF M M' ∧ QSF N N') ∧ M' 0 8 = M 0 8 ∧ ((M' = M ∧ N' = N) ∨ (SRC M' N' (M 0 8) ∧ SCT M' N')) := by
  let i' : Inhabited fz_ := ⟨M⟩
  obtain ⟨v, M', N', a1, a2, a3, a4⟩ := @j_37f M N x1 i' (RNS_fz i i' h) ⟨fun _ _ _ => rfl, fun _ _ _ => rfl⟩ hB
  exact ⟨v, M', N', a1, a2, RNS_fz i' i a3, a4⟩
end SXg
end T418_sx
section T419_sv
/-! what was found: state, first (X 47-49 | Q 392-395) -/
def TSR (M N : mm_) (B : Int) : Prop := (M 0 62 = 0 ∧ N 6 163 = 0) ∨ SRC M N B
/-- an instance in a state, or (ty none) one with a signal -/
def HOc (f : Int → Int) (ty s i : Int) : Prop := (ty ≠ -1 ∧ f (sB i + 1) = ty ∧ f (sB i + 2) = s) ∨ (ty = -1 ∧ 0 < f (sB i + 25))
section STa
variable {M N M' N' : mm_} {f : Int → Int} {k x1 x2 x3 B a ty s n : Int}
theorem TSR_k [Inhabited fz_] (h : TSR M N B) : (M 0 62 = N 6 163) ∧ ∀ k, 0 ≤ k → k < M 0 62 → k < 200 ∧ SFK M N B k ∧ SEQ M N k := by
  rcases h with ⟨a, b⟩ | ⟨n, h1, h2, h3⟩
  · exact ⟨by lia, fun k k0 k1 => by omega⟩
  · exact ⟨by (clear h2 h3; lia), fun k k0 k1 => ⟨by omega, h3 k k0 (by omega)⟩⟩
theorem j_47 [Inhabited fz_] (h : LKR M N) (hs : M 0 4 = 1 → TSR M N B) : SM2 1 47 [.inr (.inr 0), .inl x1, .inl x2] 1 392 [.inr (.inr 6), .inl x1, .inl x2] M N := by
  by_cases c0 : M 0 4 = 0
  · have c0' : N 6 126 = 0 := by rcases h with h | h; exact h.2; have := h.2.1; (clear hs h; lia)
    refine ⟨-1, fun Qr Qt g => t_47 fun V hV hW => b_47_0 (Tr_mono _) hV hW _ _ _ fun _ => ?_, fun Qr Qt g => t_392 fun V hV hW => b_392_0 (Tr_mono _) hV hW _ _ _ fun _ => ?_⟩
    · rw [if_pos c0]; exact g
    · rw [if_pos c0']; exact g
  obtain ⟨st, r1, r2⟩ := h.resolve_left (fun e => c0 e.1)
  obtain ⟨e62, hk⟩ := TSR_k (hs r1)
  by_cases c : x1 < 0 ∨ ¬ x1 < M 0 62
  · refine ⟨-1, fun Qr Qt g => t_47 fun V hV hW => b_47_0 (Tr_mono _) hV hW _ _ _ fun _ => ?_, fun Qr Qt g => t_392 fun V hV hW => b_392_0 (Tr_mono _) hV hW _ _ _ fun _ => ?_⟩
    · rw [if_neg c0]
      by_cases c1 : x1 < 0
      · rw [if_pos c1]; exact g
      · rw [if_neg c1, if_neg (by omega)]; exact g
    · rw [if_neg (by omega)]
      by_cases c1 : x1 < 0
      · rw [if_pos c1]; exact g
      · rw [if_neg c1, if_neg (by omega)]; exact g
  · obtain ⟨k2, ⟨a1, a2, a3, ⟨a4, _⟩, a5⟩, ⟨s1, s2, s3⟩, s4, s5, s6⟩ := hk x1 (by omega) (by omega)
    have e27 : M 27 (1100 * x1) = N 245 (1104 * x1) := by
      have := a4.1
      rw [rwk_i (by decide) (by decide), Int.add_zero] at this; exact this
    have w1 : w32 (1100 * x1) = 1100 * x1 := w32_id (by omega) (by omega)
    have w2 : w32 (1104 * x1) = 1104 * x1 := w32_id (by omega) (by omega)
    refine ⟨if x2 = 0 then M 32 x1 else if x2 = 1 then M 33 x1 else if x2 = 2 then M 34 x1 else if x2 = 3 then M 35 x1 else if x2 = 4 then M 36 x1 else if x2 = 5 then M 37 x1 else if x2 = 6 then M 27 (1100 * x1) else -1, fun Qr Qt g => t_47 fun V hV hW => b_47_0 (Tr_mono _) hV hW _ _ _ fun _ => ?_, fun Qr Qt g => t_392 fun V hV hW => b_392_0 (Tr_mono _) hV hW _ _ _ fun _ => ?_⟩
    · rw [if_neg c0, if_neg (by omega), if_pos (by (clear h hs c0 st r1 r2 hk k2 a1 a2 a3 a5 a4 s1 s2 s3 s4 s5 s6 e27 w1 w2 g hV hW; omega)), w1]
      by_cases c0 : x2 = 0
      · rw [if_pos c0] at g ⊢; exact ⟨by omega, g⟩
      rw [if_neg c0] at g ⊢
      by_cases c1 : x2 = 1
      · rw [if_pos c1] at g ⊢; exact ⟨by omega, g⟩
      rw [if_neg c1] at g ⊢
      by_cases c2 : x2 = 2
      · rw [if_pos c2] at g ⊢; exact ⟨by omega, g⟩
      rw [if_neg c2] at g ⊢
      by_cases c3 : x2 = 3
      · rw [if_pos c3] at g ⊢; exact ⟨by omega, g⟩
      rw [if_neg c3] at g ⊢
      by_cases c4 : x2 = 4
      · rw [if_pos c4] at g ⊢; exact ⟨by omega, g⟩
      rw [if_neg c4] at g ⊢
      by_cases c5 : x2 = 5
      · rw [if_pos c5] at g ⊢; exact ⟨by omega, g⟩
      rw [if_neg c5] at g ⊢
      by_cases c6 : x2 = 6
      · rw [if_pos c6] at g ⊢; exact ⟨by (clear h hs st r1 r2 e62 hk a1 a2 a3 a5 a4 s1 s2 s3 s4 s5 s6 e27 w1 w2 g hV hW c0 c1 c2 c3 c4 c5 c6; omega), g⟩
      rw [if_neg c6] at g ⊢; exact g
    · rw [if_neg (by omega), if_neg (by omega), if_pos (by omega), w2, ← e27, ← s1, ← s2, ← s3, ← s4, ← s5, ← s6]
      by_cases c0 : x2 = 0
      · rw [if_pos c0] at g ⊢; exact ⟨by omega, g⟩
      rw [if_neg c0] at g ⊢
      by_cases c1 : x2 = 1
      · rw [if_pos c1] at g ⊢; exact ⟨by omega, g⟩
      rw [if_neg c1] at g ⊢
      by_cases c2 : x2 = 2
      · rw [if_pos c2] at g ⊢; exact ⟨by omega, g⟩
      rw [if_neg c2] at g ⊢
      by_cases c3 : x2 = 3
      · rw [if_pos c3] at g ⊢; exact ⟨by omega, g⟩
      rw [if_neg c3] at g ⊢
      by_cases c4 : x2 = 4
      · rw [if_pos c4] at g ⊢; exact ⟨by omega, g⟩
      rw [if_neg c4] at g ⊢
      by_cases c5 : x2 = 5
      · rw [if_pos c5] at g ⊢; exact ⟨by omega, g⟩
      rw [if_neg c5] at g ⊢
      by_cases c6 : x2 = 6
      · rw [if_pos c6] at g ⊢; exact ⟨by (clear h hs st r1 r2 e62 hk a1 a2 a3 a5 a4 s1 s2 s3 s4 s5 s6 e27 w1 w2 g hV hW c0 c1 c2 c3 c4 c5 c6; omega), g⟩
      rw [if_neg c6] at g ⊢; exact g
/-- X: hasOne -/
theorem x_49 [Inhabited fz_] (hP : PLr M N) (hv : VR N f) (hk : 0 ≤ k ∧ k < 200) (hr : RDL (M 27) (1100 * k) (pkL N f)) : ∃ u, BV u ∧ (u = 1 ↔ ∃ i, (0 ≤ i ∧ i < f 0) ∧ HOc f ty s i) ∧ Ex_ 1 49 [.inr (.inr 0), .inl k, .inl ty, .inl s] M [.inl u] M := by
  have hN := PKB_of hP
  obtain ⟨⟨f1, f1'⟩, f2, f3, f4, f5⟩ := id hv
  have lp := pkL_len hN hv
  unfold pkL at hr lp
  rw [List.length_cons, List.length_cons, List.length_append] at lp
  obtain ⟨r0, r1, hr⟩ := hr
  obtain ⟨hr1, hr2⟩ := RDL_app _ _ hr
  have wk : w32 (1100 * k) = 1100 * k := w32_id (by omega) (by omega)
  have l : ∀ (n : Nat) (x a : Int), x + n = f 0 → 0 ≤ x → 1100 * k + 2 ≤ a → a + (slsL N f x n).length ≤ 1100 * k + 1020 → RDL (M 27) a (slsL N f x n) → ∃ u, BV u ∧ (u = 1 ↔ ∃ i, (x ≤ i ∧ i < f 0) ∧ HOc f ty s i) ∧ ∀ (V : vv_) (Qr : qr_) (Qt : qt_), Cl_ wd0 (Tr_ wd0 pg0 0) V Qr Qt m_49 → Wk_ V → Qr [.inl u] M → V 12 [rr 0, ii k, ii ty, ii s, ii a, ii x, none, none] [] M := fun n => by
    induction n with
    | zero =>
      intro x a hx x0 a0 a1 hd
      refine ⟨0, .inl rfl, ⟨fun e => absurd e (by decide), fun ⟨i, hi, _⟩ => by (clear hP hv hk hN f1 f1' f2 f3 f4 f5 lp r1 hr hr1 hr2 wk x0 a0 a1 hd hi; omega)⟩, fun V Qr Qt hV hW g => b_49_12 (Tr_mono _) hV hW _ _ _ _ _ _ ⟨by omega, ?_⟩⟩
      rw [wk, r0, if_neg (by (clear hP hv hk hN f1 f1' f2 f3 f4 f5 lp r1 hr hr1 hr2 wk x0 a0 a1 hd hV hW g; lia))]; exact ⟨.inl rfl, g⟩
    | succ n ih =>
      intro x a hx x0 a0 a1 hd
      have vx := f2 x x0 (by omega)
      have hT := vx.1.2.1
      have pT := hN.2.2 _ hT.1 hT.2
      have h6 := hN.2.1
      have pt := PL_T hP hT
      have q6 := vx.2.2.2.1
      unfold slsL at hd a1
      rw [List.length_append] at a1
      obtain ⟨hd1, hd2⟩ := RDL_app _ _ hd
      have ls : ((slL N f (sB x)).length : Int) = 8 + N 172 (f (sB x + 1)) + 5 * f (sB x + 25) := by
        unfold slL slT; simp only [List.length_cons, List.length_append, rgl_len]; (clear hP hv hk hN f1 f1' f2 f3 f4 f5 lp r0 r1 hr hr1 hr2 wk ih hx x0 a0 vx hT h6 hd a1 hd1 hd2; lia)
      obtain ⟨e0, e1, e2, e3, e4, e5, e6, hd1⟩ := hd1
      unfold slT at hd1
      obtain ⟨hd3, hd4⟩ := RDL_app _ _ hd1
      rw [rgl_len] at hd4
      have eq := hd4.1
      have ea : a + 1 + 1 + 1 + 1 + 1 + 1 + 1 + ((N 172 (f (sB x + 1))).toNat : Int) = a + 7 + N 172 (f (sB x + 1)) := by (clear hP hv hk hN f1 f1' f2 f3 f4 f5 lp r0 r1 hr hr1 hr2 wk ih hx x0 a0 vx hT h6 q6 hd a1 hd2 e0 e1 e2 e3 e4 e5 e6 hd1 hd3 hd4; lia)
      rw [ea] at eq
      rw [show a + 1 + 1 = a + 2 by (clear hP hv hk hN f1 f1' f2 f3 f4 f5 lp r0 r1 hr hr1 hr2 wk ih hx x0 a0 vx hT pT h6 pt q6 hd a1 hd2 ls e0 e1 e2 e3 e4 e5 e6 hd1 hd3 hd4 eq ea; lia)] at e2
      obtain ⟨u, u1, u2, u3⟩ := ih (x + 1) (a + (slL N f (sB x)).length) (by omega) (by (clear hP hv hk hN f1 f1' f2 f3 f4 f5 lp r0 r1 hr hr1 hr2 wk ih hx a0 vx hT pT h6 pt q6 hd a1 hd2 ls e0 e1 e2 e3 e4 e5 e6 hd1 hd3 hd4 eq ea; lia)) (by (clear hP hv hk hN f1 f1' f2 f3 f4 f5 lp r0 r1 hr hr1 hr2 wk ih hx x0 vx hT pT h6 q6 hd a1 hd2 e0 e1 e2 e3 e4 e5 e6 hd1 hd3 hd4; lia)) (by (clear hP hv hk hN f1 f1' f2 f3 f4 f5 lp r0 r1 hr hr1 hr2 wk ih hx x0 a0 vx hT pT h6 q6 hd hd2 e0 e1 e2 e3 e4 e5 e6 hd1 hd3 hd4; lia)) hd2
      have b1 : 0 ≤ w32 (a + 1) ∧ w32 (a + 1) < 221100 := by rw [w32_id (by (clear hP hv hN f1 f1' f2 f3 f4 f5 lp r0 r1 hr hr1 hr2 wk ih hx x0 vx hT pT h6 pt q6 hd a1 hd2 ls e0 e1 e2 e3 e4 e5 e6 hd1 hd3 hd4 eq ea u1 u2 u3; lia)) (by (clear hP hv hN f1 f1' f2 f3 f4 f5 lp r0 r1 hr hr1 hr2 wk ih hx x0 vx hT pT h6 q6 hd hd2 e0 e1 e2 e3 e4 e5 e6 hd1 hd3 hd4 u1 u2 u3; lia))]; (clear hP hv hN f1 f1' f2 f3 f4 f5 lp r0 r1 hr hr1 hr2 wk ih hx x0 vx hT pT h6 q6 hd hd2 e0 e1 e2 e3 e4 e5 e6 hd1 hd3 hd4 u1 u2 u3; lia)
      have wa1 : w32 (a + 1) = a + 1 := w32_id (by omega) (by omega)
      have wa2 : w32 (a + 2) = a + 2 := w32_id (by (clear hP hv hk hN f1 f1' f2 f3 f4 f5 lp r0 r1 hr hr1 hr2 wk ih hx x0 a0 vx hT pT h6 pt q6 hd a1 hd2 ls e0 e1 e2 e3 e4 e5 e6 hd1 hd3 hd4 eq ea u1 u2 u3; omega)) (by (clear hP hv hk hN f1 f1' f2 f3 f4 f5 lp r0 r1 hr hr1 hr2 wk ih hx x0 a0 vx hT pT h6 pt q6 hd a1 hd2 ls e0 e1 e2 e3 e4 e5 e6 hd1 hd3 hd4 eq ea u1 u2 u3; omega))
      have wa7 : w32 (w32 (a + 7) + M 92 (f (sB x + 1))) = a + 7 + N 172 (f (sB x + 1)) := by rw [pt.2.2.2.1.1, w32_id (x := a + 7) (by (clear hP hv hk hN f1 f1' f2 f3 f4 f5 lp r0 r1 hr hr1 hr2 wk ih hx x0 a0 vx hT pT h6 pt q6 hd a1 hd2 ls e0 e1 e2 e3 e4 e5 e6 hd1 hd3 hd4 eq ea u1 u2 u3; lia)) (by (clear hP hv hk hN f1 f1' f2 f3 f4 f5 lp r0 r1 hr hr1 hr2 wk ih hx x0 a0 vx hT pT h6 pt q6 hd a1 hd2 ls e0 e1 e2 e3 e4 e5 e6 hd1 hd3 hd4 eq ea u1 u2 u3; omega)), w32_id (by (clear hP hv hk hN f1 f1' f2 f3 f4 f5 lp r0 r1 hr hr1 hr2 wk ih hx x0 a0 vx hT h6 q6 hd a1 hd2 e0 e1 e2 e3 e4 e5 e6 hd1 hd3 hd4 u1 u2 u3; lia)) (by (clear hP hv hk hN f1 f1' f2 f3 f4 f5 lp r0 r1 hr hr1 hr2 wk ih hx x0 a0 vx hT h6 q6 hd a1 hd2 e0 e1 e2 e3 e4 e5 e6 hd1 hd3 hd4 u1 u2 u3; lia))]
      have wn : w32 (a + w32 (w32 (8 + M 92 (f (sB x + 1))) + w32 (5 * f (sB x + 25)))) = a + (slL N f (sB x)).length := by
        rw [pt.2.2.2.1.1, w32_id (x := 8 + N 172 (f (sB x + 1))) (by (clear hP hv hk hN f1 f1' f2 f3 f4 f5 lp r0 r1 hr hr1 hr2 wk ih hx x0 a0 vx hT h6 q6 hd a1 hd2 e0 e1 e2 e3 e4 e5 e6 hd1 hd3 hd4 u1 u2 u3 b1; lia)) (by (clear hP hv hk hN f1 f1' f2 f3 f4 f5 lp r0 r1 hr hr1 hr2 wk ih hx x0 a0 vx hT h6 q6 hd a1 hd2 e0 e1 e2 e3 e4 e5 e6 hd1 hd3 hd4 u1 u2 u3 b1; lia)), w32_id (x := 5 * f (sB x + 25)) (by (clear hP hv hk hN f1 f1' f2 f3 f4 f5 lp r0 r1 hr hr1 hr2 wk ih hx x0 a0 vx hT pT h6 pt hd a1 hd2 ls e0 e1 e2 e3 e4 e5 e6 hd1 hd3 hd4 ea u1 u2 u3 b1 wa1 wa2 wa7; lia)) (by (clear hP hv hk hN f1 f1' f2 f3 f4 f5 lp r0 r1 hr hr1 hr2 wk ih hx x0 a0 vx hT pT h6 pt hd a1 hd2 ls e0 e1 e2 e3 e4 e5 e6 hd1 hd3 hd4 ea u1 u2 u3 b1 wa1 wa2 wa7; lia)), w32_id (x := 8 + N 172 (f (sB x + 1)) + 5 * f (sB x + 25)) (by (clear hP hv hk hN f1 f1' f2 f3 f4 f5 lp r0 r1 hr hr1 hr2 wk ih hx x0 a0 vx hT pT h6 q6 hd a1 hd2 e0 e1 e2 e3 e4 e5 e6 hd1 hd3 hd4 u1 u2 u3 b1; lia)) (by (clear hP hv hk hN f1 f1' f2 f3 f4 f5 lp r0 r1 hr hr1 hr2 wk ih hx x0 a0 vx hT h6 hd a1 hd2 e0 e1 e2 e3 e4 e5 e6 hd1 hd3 hd4 u1 u2 u3 b1; lia)), w32_id (by (clear hP hv hk hN f1 f1' f2 f3 f4 f5 lp r0 r1 hr hr1 hr2 wk ih hx x0 a0 vx hT h6 hd a1 hd2 e0 e1 e2 e3 e4 e5 e6 hd1 hd3 hd4 u1 u2 u3; lia)) (by (clear hP hv hk hN f1 f1' f2 f3 f4 f5 lp r0 r1 hr hr1 hr2 wk ih hx x0 vx hT h6 q6 hd hd2 e0 e1 e2 e3 e4 e5 e6 hd1 hd3 hd4 u1 u2 u3; lia)), ls]
      have next : ¬ HOc f ty s x → ∃ u, BV u ∧ (u = 1 ↔ ∃ i, (x ≤ i ∧ i < f 0) ∧ HOc f ty s i) ∧ ∀ (V : vv_) (Qr : qr_) (Qt : qt_), Cl_ wd0 (Tr_ wd0 pg0 0) V Qr Qt m_49 → Wk_ V → Qr [.inl u] M → V 99 [rr 0, ii k, ii ty, ii s, ii a, ii x, ii (f (sB x + 1)), ii (f (sB x + 25))] [] M := fun hno => by
        refine ⟨u, u1, ?_, fun V Qr Qt hV hW g => b_49_99 (Tr_mono _) hV hW _ _ _ _ _ _ _ _ ⟨by (clear hP hv hk hN f1 f1' f2 f3 f4 f5 lp r0 r1 hr hr1 hr2 wk ih hx x0 a0 vx pT h6 q6 hd a1 hd2 ls e0 e2 e3 e4 e5 e6 hd1 hd3 hd4 eq ea u1 u2 u3 b1 wa1 wa2 wa7 wn hno hV hW g; omega), ?_⟩⟩
        · rw [u2]
          exact ⟨fun ⟨i, hi, h⟩ => ⟨i, by (clear hP hv hk hN f1 f1' f2 f3 f4 f5 lp r1 hr hr1 hr2 wk ih x0 a0 vx hT pT h6 pt q6 hd a1 hd2 ls e0 e1 e2 e3 e4 e5 e6 hd1 hd3 hd4 eq ea u1 u2 u3 b1 wa1 wa2 wa7 wn hno h; omega), h⟩, fun ⟨i, hi, h⟩ => by
            by_cases c : i = x
            · rw [c] at h; exact absurd h hno
            · exact ⟨i, by (clear hP hv hk hN f1 f1' f2 f3 f4 f5 lp r1 hr hr1 hr2 wk ih x0 a0 vx hT pT h6 pt q6 hd a1 hd2 ls e0 e1 e2 e3 e4 e5 e6 hd1 hd3 hd4 eq ea u1 u2 u3 b1 wa1 wa2 wa7 wn hno h; omega), h⟩⟩
        · rw [wn, w32_id (x := x + 1) (by (clear hP hv hk hN f1 f1' f2 f3 f4 f5 lp r0 r1 hr hr1 hr2 wk ih hx a0 vx hT pT h6 pt q6 hd a1 hd2 ls e0 e1 e2 e3 e4 e5 e6 hd1 hd3 hd4 eq ea u1 u2 u3 b1 wa1 wa2 wa7 wn hno hV hW g; lia)) (by (clear hP hv hk hN f1' f2 f3 f4 f5 lp r1 hr hr1 hr2 wk ih x0 a0 vx hT pT h6 pt q6 hd a1 hd2 ls e0 e1 e2 e3 e4 e5 e6 hd1 hd3 hd4 eq ea u1 u2 u3 b1 wa1 wa2 wa7 wn hno hV hW g; omega))]; exact u3 V Qr Qt hV hW g
      -- at 64
      have at64 : (ty ≠ -1 → ¬ HOc f ty s x) → ∃ u, BV u ∧ (u = 1 ↔ ∃ i, (x ≤ i ∧ i < f 0) ∧ HOc f ty s i) ∧ ∀ (V : vv_) (Qr : qr_) (Qt : qt_), Cl_ wd0 (Tr_ wd0 pg0 0) V Qr Qt m_49 → Wk_ V → Qr [.inl u] M → V 64 [rr 0, ii k, ii ty, ii s, ii a, ii x, ii (f (sB x + 1)), none] [] M := fun hno => by
        by_cases cy : ty = -1
        · by_cases cq : f (sB x + 25) ≤ 0
          · obtain ⟨u', w1, w2, w3⟩ := next (fun h => by rcases h with h | h; exact h.1 cy; (clear hP hv hk hN f1 f1' f2 f3 f4 f5 lp r0 r1 hr hr1 hr2 wk ih hx x0 a0 vx hT pT h6 pt hd a1 hd2 ls e0 e1 e2 e3 e4 e5 e6 hd1 hd3 hd4 ea u1 u2 u3 b1 wa1 wa2 wa7 wn next hno cy; lia))
            refine ⟨u', w1, w2, fun V Qr Qt hV hW g => b_49_64 (Tr_mono _) hV hW _ _ _ _ _ _ _ ⟨by omega, ?_⟩⟩
            rw [wa7, eq, if_pos cy, if_pos cq]; exact ⟨by (clear hP hv hN f1 f1' f2 f3 f4 f5 lp r0 r1 hr hr1 hr2 wk ih hx x0 a0 vx hT h6 hd hd2 e0 e1 e2 e3 e4 e5 e6 hd1 hd3 hd4 u1 u2 u3 next hno cy w1 w2 w3 hV hW g; lia), w3 V Qr Qt hV hW g⟩
          · refine ⟨1, .inr rfl, ⟨fun _ => ⟨x, by (clear hP hv hk hN f1 f1' f2 f3 f4 f5 lp r1 hr hr1 hr2 wk ih x0 a0 vx hT pT h6 pt q6 hd a1 hd2 ls e0 e1 e2 e3 e4 e5 e6 hd1 hd3 hd4 eq ea u1 u2 u3 b1 wa1 wa2 wa7 wn next hno cy cq; omega), .inr ⟨cy, by omega⟩⟩, fun _ => rfl⟩, fun V Qr Qt hV hW g => b_49_64 (Tr_mono _) hV hW _ _ _ _ _ _ _ ⟨by omega, ?_⟩⟩
            rw [wa7, eq, if_pos cy, if_neg cq]; exact ⟨by (clear hP hv hN f1 f1' f2 f3 f4 f5 lp r0 r1 hr hr1 hr2 wk ih hx x0 a0 vx hT h6 q6 hd hd2 e0 e1 e2 e3 e4 e5 e6 hd1 hd3 hd4 u1 u2 u3 next hno cy cq hV hW g; lia), .inr rfl, g⟩
        · obtain ⟨u', w1, w2, w3⟩ := next (hno cy)
          refine ⟨u', w1, w2, fun V Qr Qt hV hW g => b_49_64 (Tr_mono _) hV hW _ _ _ _ _ _ _ ⟨by omega, ?_⟩⟩
          rw [wa7, eq, if_neg cy]; exact ⟨by (clear hP hv hN f1 f1' f2 f3 f4 f5 lp r0 r1 hr hr1 hr2 wk ih hx x0 a0 vx hT h6 q6 hd hd2 e0 e1 e2 e3 e4 e5 e6 hd1 hd3 hd4 u1 u2 u3 next hno cy w1 w2 w3 hV hW g; lia), w3 V Qr Qt hV hW g⟩
      by_cases cy : ty = -1
      · obtain ⟨u', w1, w2, w3⟩ := at64 (fun h => absurd cy h)
        refine ⟨u', w1, w2, fun V Qr Qt hV hW g => b_49_12 (Tr_mono _) hV hW _ _ _ _ _ _ ⟨by (clear hP hv hN f1 f1' f2 f3 f4 f5 lp r0 r1 hr hr1 hr2 ih hx x0 a0 vx hT h6 hd hd2 e0 e1 e2 e3 e4 e5 e6 hd1 hd3 hd4 u1 u2 u3 next at64 cy w1 w2 w3 hV hW g; omega), ?_⟩⟩
        rw [wk, r0, if_pos (by (clear hP hv hk hN f1 f1' f2 f3 f4 f5 lp r1 hr hr1 hr2 wk ih x0 a0 vx hT pT h6 pt q6 hd a1 hd2 ls e0 e1 e2 e3 e4 e5 e6 hd1 hd3 hd4 eq ea u1 u2 u3 b1 wa1 wa2 wa7 wn next at64 cy w1 w2 w3 hV hW g; lia)), if_pos cy, wa1, e1]; exact ⟨by (clear hP hv hk hN f1 f1' f2 f3 f4 f5 lp r0 r1 hr hr1 hr2 wk ih hx x0 a0 vx hT pT h6 pt q6 hd a1 hd2 ls e0 e1 e2 e3 e4 e5 e6 hd1 hd3 hd4 eq ea u1 u2 u3 wa7 wn next at64 cy w1 w2 w3 hV hW g; omega), w3 V Qr Qt hV hW g⟩
      · by_cases ct : f (sB x + 1) = ty
        · by_cases cs : f (sB x + 2) = s
          · refine ⟨1, .inr rfl, ⟨fun _ => ⟨x, by (clear hP hv hk hN f1 f1' f2 f3 f4 f5 lp r1 hr hr1 hr2 wk ih x0 a0 vx hT pT h6 pt q6 hd a1 hd2 ls e0 e1 e2 e3 e4 e5 e6 hd1 hd3 hd4 eq ea u1 u2 u3 b1 wa1 wa2 wa7 wn next at64 cy ct cs; omega), .inl ⟨cy, ct, cs⟩⟩, fun _ => rfl⟩, fun V Qr Qt hV hW g => b_49_12 (Tr_mono _) hV hW _ _ _ _ _ _ ⟨by (clear hP hv hN f1 f1' f2 f3 f4 f5 lp r0 r1 hr hr1 hr2 ih hx x0 a0 vx hT h6 hd hd2 e0 e1 e2 e3 e4 e5 e6 hd1 hd3 hd4 u1 u2 u3 next at64 cy ct cs hV hW g; omega), ?_⟩⟩
            rw [wk, r0, if_pos (by (clear hP hv hk hN f1 f1' f2 f3 f4 f5 lp r1 hr hr1 hr2 wk ih x0 a0 vx hT pT h6 pt q6 hd a1 hd2 ls e0 e1 e2 e3 e4 e5 e6 hd1 hd3 hd4 eq ea u1 u2 u3 b1 wa1 wa2 wa7 wn next at64 cy ct cs hV hW g; omega)), if_neg cy, wa1, wa2, e1, e2, if_pos ct, if_pos cs]; exact ⟨by (clear hP hv hk hN f1 f1' f2 f3 f4 f5 lp r0 r1 hr hr1 hr2 wk ih hx x0 a0 vx hT pT h6 pt q6 hd a1 hd2 ls e0 e1 e2 e3 e4 e5 e6 hd1 hd3 hd4 eq ea u1 u2 u3 wa7 wn next at64 cy ct cs hV hW g; omega), by (clear hP hv hN f1 f1' f2 f3 f4 f5 lp r0 r1 hr hr1 hr2 wk ih hx x0 a0 vx hT pT h6 q6 hd hd2 e0 e1 e2 e3 e4 e5 e6 hd1 hd3 hd4 u1 u2 u3 next at64 cy ct cs hV hW g; lia), .inr rfl, g⟩
          · obtain ⟨u', w1, w2, w3⟩ := at64 (fun _ h => by rcases h with h | h; exact cs h.2.2; exact cy h.1)
            refine ⟨u', w1, w2, fun V Qr Qt hV hW g => b_49_12 (Tr_mono _) hV hW _ _ _ _ _ _ ⟨by (clear hP hv hN f1 f1' f2 f3 f4 f5 lp r0 r1 hr hr1 hr2 ih hx x0 a0 vx hT h6 hd hd2 e0 e1 e2 e3 e4 e5 e6 hd1 hd3 hd4 u1 u2 u3 next at64 cy ct cs w1 w2 w3 hV hW g; omega), ?_⟩⟩
            rw [wk, r0, if_pos (by omega), if_neg cy, wa1, wa2, e1, e2, if_pos ct, if_neg cs]; exact ⟨by omega, by (clear hP hv hN f1 f1' f2 f3 f4 f5 lp r0 r1 hr hr1 hr2 wk ih hx x0 a0 vx hT pT h6 q6 hd hd2 e0 e1 e2 e3 e4 e5 e6 hd1 hd3 hd4 u1 u2 u3 next at64 cy ct cs w1 w2 w3 hV hW g; lia), w3 V Qr Qt hV hW g⟩
        · obtain ⟨u', w1, w2, w3⟩ := at64 (fun _ h => by rcases h with h | h; exact ct h.2.1; exact cy h.1)
          refine ⟨u', w1, w2, fun V Qr Qt hV hW g => b_49_12 (Tr_mono _) hV hW _ _ _ _ _ _ ⟨by (clear hP hv hN f1 f1' f2 f3 f4 f5 lp r0 r1 hr hr1 hr2 ih hx x0 a0 vx hT h6 hd hd2 e0 e1 e2 e3 e4 e5 e6 hd1 hd3 hd4 u1 u2 u3 next at64 cy ct w1 w2 w3 hV hW g; omega), ?_⟩⟩
          rw [wk, r0, if_pos (by omega), if_neg cy, wa1, e1, if_neg ct]; exact ⟨by (clear hP hv hk hN f1 f1' f2 f3 f4 f5 lp r0 r1 hr hr1 hr2 wk ih hx x0 a0 vx hT pT h6 pt q6 hd a1 hd2 ls e0 e1 e2 e3 e4 e5 e6 hd1 hd3 hd4 eq ea u1 u2 u3 wa7 wn next at64 cy ct w1 w2 w3 hV hW g; omega), w3 V Qr Qt hV hW g⟩
  obtain ⟨u, u1, u2, u3⟩ := l (f 0).toNat 0 (1100 * k + 1 + 1) (by (clear hP hv hk hN f1' f2 f3 f4 f5 lp r1 hr hr1 hr2 wk l; lia)) (by decide) (by (clear hP hv hk hN f1 f1' f2 f3 f4 f5 lp r0 r1 hr hr1 hr2 wk l; lia)) (by (clear hP hv hk hN f1 f1' f2 f3 f4 f5 r0 r1 hr hr1 hr2 wk l; lia)) hr1
  refine ⟨u, u1, u2, fun Qr Qt g => t_49 fun V hV hW => b_49_0 (Tr_mono _) hV hW _ _ _ _ ?_⟩
  rw [wk, w32_id (x := 1100 * k + 2) (by omega) (by omega), show 1100 * k + 2 = 1100 * k + 1 + 1 by (clear hP hv hk hN f1 f1' f2 f3 f4 f5 lp r0 r1 hr hr1 hr2 wk l u1 u2 u3 g hV hW; lia)]
  exact u3 V Qr Qt hV hW g
/-- Q: waitsAny -/
theorem q_394 [Inhabited fz_] (hv : VR N (rwk N k)) (hk : 0 ≤ k ∧ k < 200) : ∃ u, BV u ∧ (u = 1 ↔ ∃ i, (0 ≤ i ∧ i < rwk N k 0) ∧ HOc (rwk N k) (-1) s i) ∧ Ex_ 2 394 [.inr (.inr 6), .inl k] N [.inl u] N := by
  have f1 := hv.1.1
  have wk : w32 (1104 * k) = 1104 * k := w32_id (by (clear hv f1; omega)) (by omega)
  have e0 : N 245 (1104 * k) = rwk N k 0 := by rw [rwk_i (by decide) (by decide), Int.add_zero]
  have done : ∀ (n : Nat) (x : Int), x + n = rwk N k 0 → 0 ≤ x → ∀ (V : vv_) (Qr : qr_) (Qt : qt_), Cl_ wd0 (Tr_ wd0 pg0 1) V Qr Qt m_394 → Wk_ V → Qr [.inl 1] N → V 4 [rr 6, ii k, ii 1, ii x] [] N := fun n => by
    induction n with
    | zero => intro x hx x0 V Qr Qt hV hW g; refine b_394_4 (Tr_mono _) hV hW _ _ _ _ ⟨by omega, ?_⟩; rw [wk, e0, if_neg (by (clear hv hk f1 wk x0 hV hW g; lia))]; exact ⟨.inr rfl, g⟩
    | succ n ih =>
      intro x hx x0 V Qr Qt hV hW g
      refine b_394_4 (Tr_mono _) hV hW _ _ _ _ ⟨by omega, ?_⟩
      rw [wk, e0, if_pos (by omega), if_neg (by decide), w32_id (x := x + 1) (by omega) (by omega)]
      exact ih (x + 1) (by omega) (by omega) V Qr Qt hV hW g
  have l : ∀ (n : Nat) (x : Int), x + n = rwk N k 0 → 0 ≤ x → ∃ u, BV u ∧ (u = 1 ↔ ∃ i, (x ≤ i ∧ i < rwk N k 0) ∧ HOc (rwk N k) (-1) s i) ∧ ∀ (V : vv_) (Qr : qr_) (Qt : qt_), Cl_ wd0 (Tr_ wd0 pg0 1) V Qr Qt m_394 → Wk_ V → Qr [.inl u] N → V 4 [rr 6, ii k, ii 0, ii x] [] N := fun n => by
    induction n with
    | zero =>
      intro x hx x0
      refine ⟨0, .inl rfl, ⟨fun e => absurd e (by decide), fun ⟨i, hi, _⟩ => by omega⟩, fun V Qr Qt hV hW g => b_394_4 (Tr_mono _) hV hW _ _ _ _ ⟨by omega, ?_⟩⟩
      rw [wk, e0, if_neg (by omega)]; exact ⟨.inl rfl, g⟩
    | succ n ih =>
      intro x hx x0
      have hB : sB x = 2 + 56 * x := rfl
      have wi : w32 (w32 (w32 (1104 * k) + sB x) + 25) = 1104 * k + (sB x + 25) := by rw [wk, w32_id (x := 1104 * k + sB x) (by (clear hv f1 wk e0 done ih hx; lia)) (by omega), w32_id (by omega) (by omega)]; (clear hv hk f1 wk e0 done ih hx x0 hB; lia)
      have er : N 245 (1104 * k + (sB x + 25)) = rwk N k (sB x + 25) := (rwk_i (by (clear hv hk f1 wk e0 done ih hx wi; lia)) (by (clear hv hk wk done ih x0 wi; omega))).symm
      have wx : w32 (x + 1) = x + 1 := w32_id (by omega) (by omega)
      by_cases c : rwk N k (sB x + 25) ≤ 0
      · obtain ⟨u, u1, u2, u3⟩ := ih (x + 1) (by omega) (by omega)
        refine ⟨u, u1, ?_, fun V Qr Qt hV hW g => b_394_4 (Tr_mono _) hV hW _ _ _ _ ⟨by (clear hv f1 e0 done ih hx x0 hB wi er wx c u1 u2 u3 hV hW g; omega), ?_⟩⟩
        · rw [u2]
          exact ⟨fun ⟨i, hi, h⟩ => ⟨i, by (clear hv hk f1 wk done ih x0 hB wi er c u1 u2 u3 h; omega), h⟩, fun ⟨i, hi, h⟩ => by
            by_cases e : i = x
            · rw [e] at h; rcases h with h | h; exact absurd rfl h.1; (clear hv hk f1 wk e0 done ih hx x0 hB wi er wx u1 u2 u3 hi e; omega)
            · exact ⟨i, by (clear hv hk f1 wk done ih x0 hB wi er c u1 u2 u3 h; lia), h⟩⟩
        · rw [if_pos (by rw [wk, e0]; omega), if_pos rfl]
          refine q_323 (by (clear hv hk wk done ih hB wi er c u1 u2 u3 hV hW g; omega)) _ _ (ri_i ?_)
          rw [wi, er, if_pos c, wx]; exact ⟨by (clear hv wk done ih wi er c u1 u2 u3 hV hW g; lia), u3 V Qr Qt hV hW g⟩
      · refine ⟨1, .inr rfl, ⟨fun _ => ⟨x, by omega, .inr ⟨rfl, by omega⟩⟩, fun _ => rfl⟩, fun V Qr Qt hV hW g => b_394_4 (Tr_mono _) hV hW _ _ _ _ ⟨by omega, ?_⟩⟩
        rw [if_pos (by rw [wk, e0]; omega), if_pos rfl]
        refine q_323 (by omega) _ _ (ri_i ?_)
        rw [wi, er, if_neg c, wx]; exact ⟨by (clear hv wk done ih wi er c hV hW g; omega), done n (x + 1) (by omega) (by omega) V Qr Qt hV hW g⟩
  obtain ⟨u, u1, u2, u3⟩ := l (rwk N k 0).toNat 0 (by omega) (by decide)
  exact ⟨u, u1, u2, fun Qr Qt g => t_394 fun V hV hW => b_394_0 (Tr_mono _) hV hW _ _ (u3 V Qr Qt hV hW g)⟩
/-- Q: isIn -/
theorem q_395 [Inhabited fz_] (hv : VR N (rwk N k)) (hk : 0 ≤ k ∧ k < 200) (hty : ty ≠ -1) : ∃ u, BV u ∧ (u = 1 ↔ ∃ i, (0 ≤ i ∧ i < rwk N k 0) ∧ HOc (rwk N k) ty s i) ∧ Ex_ 2 395 [.inr (.inr 6), .inl k, .inl ty, .inl s] N [.inl u] N := by
  have f1 := hv.1.1
  have wk : w32 (1104 * k) = 1104 * k := w32_id (by omega) (by omega)
  have e0 : N 245 (1104 * k) = rwk N k 0 := by rw [rwk_i (by decide) (by decide), Int.add_zero]
  have done : ∀ (n : Nat) (x : Int), x + n = rwk N k 0 → 0 ≤ x → ∀ (V : vv_) (Qr : qr_) (Qt : qt_), Cl_ wd0 (Tr_ wd0 pg0 1) V Qr Qt m_395 → Wk_ V → Qr [.inl 1] N → V 6 [rr 6, ii k, ii ty, ii s, ii 1, ii x] [] N := fun n => by
    induction n with
    | zero => intro x hx x0 V Qr Qt hV hW g; refine b_395_6 (Tr_mono _) hV hW _ _ _ _ _ _ ⟨by omega, ?_⟩; rw [wk, e0, if_neg (by omega)]; exact ⟨.inr rfl, g⟩
    | succ n ih =>
      intro x hx x0 V Qr Qt hV hW g
      refine b_395_6 (Tr_mono _) hV hW _ _ _ _ _ _ ⟨by omega, ?_⟩
      rw [wk, e0, if_pos (by omega), if_neg (by decide), w32_id (x := x + 1) (by omega) (by omega)]
      exact ih (x + 1) (by omega) (by omega) V Qr Qt hV hW g
  have l : ∀ (n : Nat) (x : Int), x + n = rwk N k 0 → 0 ≤ x → ∃ u, BV u ∧ (u = 1 ↔ ∃ i, (x ≤ i ∧ i < rwk N k 0) ∧ HOc (rwk N k) ty s i) ∧ ∀ (V : vv_) (Qr : qr_) (Qt : qt_), Cl_ wd0 (Tr_ wd0 pg0 1) V Qr Qt m_395 → Wk_ V → Qr [.inl u] N → V 6 [rr 6, ii k, ii ty, ii s, ii 0, ii x] [] N := fun n => by
    induction n with
    | zero =>
      intro x hx x0
      refine ⟨0, .inl rfl, ⟨fun e => absurd e (by decide), fun ⟨i, hi, _⟩ => by (clear hv hk hty f1 wk done x0 hi; omega)⟩, fun V Qr Qt hV hW g => b_395_6 (Tr_mono _) hV hW _ _ _ _ _ _ ⟨by omega, ?_⟩⟩
      rw [wk, e0, if_neg (by omega)]; exact ⟨.inl rfl, g⟩
    | succ n ih =>
      intro x hx x0
      have hB : sB x = 2 + 56 * x := rfl
      have wi : ∀ j, 0 ≤ j → j < 56 → w32 (w32 (w32 (1104 * k) + sB x) + j) = 1104 * k + (sB x + j) := fun j j0 j1 => by rw [wk, w32_id (x := 1104 * k + sB x) (by (clear hv hty f1 wk e0 done ih hx j0 j1; lia)) (by (clear hv hty wk done ih x0 j0 j1; omega)), w32_id (by (clear hv hty f1 wk e0 done ih hx; lia)) (by omega)]; (clear hv hk hty f1 wk e0 done ih hx x0 hB j0 j1; lia)
      have er : ∀ j, 0 ≤ j → j < 56 → N 245 (1104 * k + (sB x + j)) = rwk N k (sB x + j) := fun j j0 j1 => (rwk_i (by (clear hv hk hty f1 wk e0 done ih hx wi; lia)) (by (clear hv hk hty wk done ih x0 wi; omega))).symm
      have wx : w32 (x + 1) = x + 1 := w32_id (by omega) (by omega)
      have no : ¬ HOc (rwk N k) ty s x → ∃ u, BV u ∧ (u = 1 ↔ ∃ i, (x ≤ i ∧ i < rwk N k 0) ∧ HOc (rwk N k) ty s i) ∧ ∀ (V : vv_) (Qr : qr_) (Qt : qt_), Cl_ wd0 (Tr_ wd0 pg0 1) V Qr Qt m_395 → Wk_ V → Qr [.inl u] N → V 6 [rr 6, ii k, ii ty, ii s, ii 0, ii (x + 1)] [] N := fun hno => by
        obtain ⟨u, u1, u2, u3⟩ := ih (x + 1) (by omega) (by omega)
        refine ⟨u, u1, ?_, u3⟩
        rw [u2]
        exact ⟨fun ⟨i, hi, h⟩ => ⟨i, by (clear hv hk hty f1 wk done ih x0 hB wi er hno u1 u2 u3 h; omega), h⟩, fun ⟨i, hi, h⟩ => by
          by_cases e : i = x
          · rw [e] at h; exact absurd h hno
          · exact ⟨i, by (clear hv hk hty f1 wk done ih x0 hB wi er hno u1 u2 u3 h; omega), h⟩⟩
      by_cases ct : rwk N k (sB x + 1) = ty
      · by_cases cs : rwk N k (sB x + 2) = s
        · refine ⟨1, .inr rfl, ⟨fun _ => ⟨x, by omega, .inl ⟨hty, ct, cs⟩⟩, fun _ => rfl⟩, fun V Qr Qt hV hW g => b_395_6 (Tr_mono _) hV hW _ _ _ _ _ _ ⟨by (clear hv hty f1 e0 done ih hx x0 hB wi er wx no ct cs hV hW g; lia), ?_⟩⟩
          rw [if_pos (by rw [wk, e0]; (clear hv hk hty f1 wk done ih x0 hB wi er wx no ct cs hV hW g; omega)), if_pos rfl]
          refine q_323 (by (clear hv hk hty wk done ih hB wi er no ct cs hV hW g; omega)) _ _ (ri_i ?_)
          rw [wi 1 (by decide) (by decide), er 1 (by decide) (by decide), if_pos ct]
          refine ⟨by (clear hv hty wk done ih wi er no ct cs hV hW g; lia), q_323 (by omega) _ _ (ri_i ?_)⟩
          rw [wi 2 (by decide) (by decide), er 2 (by decide) (by decide), if_pos cs, wx]
          exact ⟨by omega, done n (x + 1) (by (clear hv hk hty f1 wk done ih x0 hB wi er wx no ct cs hV hW g; lia)) (by omega) V Qr Qt hV hW g⟩
        · obtain ⟨u, u1, u2, u3⟩ := no (fun h => by rcases h with h | h; exact cs h.2.2; exact hty h.1)
          refine ⟨u, u1, u2, fun V Qr Qt hV hW g => b_395_6 (Tr_mono _) hV hW _ _ _ _ _ _ ⟨by (clear hv hty f1 e0 done ih hx x0 hB wi er wx no ct cs u1 u2 u3 hV hW g; omega), ?_⟩⟩
          rw [if_pos (by rw [wk, e0]; (clear hv hk hty f1 wk done ih x0 hB wi er wx no ct cs u1 u2 u3 hV hW g; omega)), if_pos rfl]
          refine q_323 (by (clear hv hk hty wk done ih hB wi er no ct cs u1 u2 u3 hV hW g; omega)) _ _ (ri_i ?_)
          rw [wi 1 (by decide) (by decide), er 1 (by decide) (by decide), if_pos ct]
          refine ⟨by (clear hv hty wk done ih wi er no ct cs u1 u2 u3 hV hW g; lia), q_323 (by omega) _ _ (ri_i ?_)⟩
          rw [wi 2 (by decide) (by decide), er 2 (by decide) (by decide), if_neg cs, wx]
          exact ⟨by (clear hv hty wk done ih wi er no ct cs u1 u2 u3 hV hW g; lia), u3 V Qr Qt hV hW g⟩
      · obtain ⟨u, u1, u2, u3⟩ := no (fun h => by rcases h with h | h; exact ct h.2.1; exact hty h.1)
        refine ⟨u, u1, u2, fun V Qr Qt hV hW g => b_395_6 (Tr_mono _) hV hW _ _ _ _ _ _ ⟨by omega, ?_⟩⟩
        rw [if_pos (by rw [wk, e0]; omega), if_pos rfl]
        refine q_323 (by omega) _ _ (ri_i ?_)
        rw [wi 1 (by decide) (by decide), er 1 (by decide) (by decide), if_neg ct, wx]
        exact ⟨by (clear hv hty wk done ih wi er no ct u1 u2 u3 hV hW g; lia), u3 V Qr Qt hV hW g⟩
  obtain ⟨u, u1, u2, u3⟩ := l (rwk N k 0).toNat 0 (by (clear hv hk hty wk done l; omega)) (by decide)
  exact ⟨u, u1, u2, fun Qr Qt g => t_395 fun V hV hW => b_395_0 (Tr_mono _) hV hW _ _ _ _ (u3 V Qr Qt hV hW g)⟩
end STa
end T419_sv
section T420_fv
/-! what was found: first, visit (X 48, 50 | Q 393, 396) -/
section FVa
variable {M N M' N' M1 : mm_} {f : Int → Int} {k x1 x2 x3 B a ty s n : Int}
theorem bv_eq [Inhabited fz_] {u v : Int} {P : Prop} (hu : BV u) (hv : BV v) (h1 : u = 1 ↔ P) (h2 : v = 1 ↔ P) : u = v := by
  rcases hu with a | a <;> rcases hv with b | b
  · (clear h1 h2; lia)
  · have := h1.2 (h2.1 b); omega
  · have := h2.2 (h1.1 a); (clear h1 h2 a; lia)
  · (clear h1 h2; lia)
/-- one state is asked -/
theorem fs_1 [Inhabited fz_] (hP : PLr M N) (hk : k < 200 ∧ SFK M N B k ∧ SEQ M N k) (k0 : 0 ≤ k) (k1 : k < M 0 62) (e62 : M 0 62 = N 6 163) (h1 : 0 ≤ x1 ∧ x1 ≤ 4) (h2 : x1 = 4 → 0 ≤ x2) : ∃ u, BV u ∧ (∀ (V : vv_) (Qr : qr_) (Qt : qt_), Cl_ wd0 (Tr_ wd0 pg0 1) V Qr Qt m_48 → Wk_ V → (u = 0 → V 41 [rr 0, ii x1, ii x2, ii x3, ii (k + 1), none] [] M) → (u = 1 → Qr [.inl k] M) → V 41 [rr 0, ii x1, ii x2, ii x3, ii k, none] [] M) ∧ (∀ (V : vv_) (Qr : qr_) (Qt : qt_), Cl_ wd0 (Tr_ wd0 pg0 2) V Qr Qt m_393 → Wk_ V → (u = 0 → V 55 [rr 6, ii x1, ii x2, ii x3, ii (k + 1), none] [] N) → (u = 1 → Qr [.inl k] N) → V 55 [rr 6, ii x1, ii x2, ii x3, ii k, none] [] N) ∧ (x1 = 4 → (u = 1 ↔ ∃ i, (0 ≤ i ∧ i < rwk N k 0) ∧ HOc (rwk N k) x2 x3 i)) := by
  obtain ⟨k2, ⟨a1, a2, a3, ⟨a4, _⟩, a5⟩, ⟨s1, s2, s3⟩, s4, s5, s6⟩ := hk
  have wk : w32 (k + 1) = k + 1 := w32_id (by (clear hP k1 e62 h1 h2 a1 a2 a3 a5 a4 s1 s2 s3 s4 s5 s6; omega)) (by omega)
  have bit : ∀ (c : Prop) (_ : Decidable c), ∃ u : Int, BV u ∧ (u = 1 ↔ c) := fun c hc => by
    by_cases h : c
    · exact ⟨1, .inr rfl, ⟨fun _ => h, fun _ => rfl⟩⟩
    · exact ⟨0, .inl rfl, ⟨fun e => absurd e (by decide), fun e => absurd e h⟩⟩
  by_cases c4 : x1 = 4
  · obtain ⟨u, u1, u2, u3⟩ := x_49 (ty := x2) (s := x3) hP a1 (k := k) (by (clear hP k1 e62 h1 h2 a1 a2 a3 a5 a4 s1 s2 s3 s4 s5 s6 bit c4; lia)) a4
    obtain ⟨v, v1, v2, v3⟩ := q_395 (ty := x2) (s := x3) a1 (by omega) (by have := h2 c4; omega)
    have e := bv_eq u1 v1 u2 v2
    subst e
    refine ⟨u, u1, fun V Qr Qt hV hW g0 g1 => b_48_41 (Tr_mono _) hV hW _ _ _ _ _ ?_, fun V Qr Qt hV hW g0 g1 => b_393_55 (Tr_mono _) hV hW _ _ _ _ _ ?_, fun _ => u2⟩
    · rw [if_pos k1, if_pos c4]
      refine u3 _ _ (ri_i ?_)
      by_cases c : u = 0
      · rw [if_pos c, wk]; exact g0 c
      · rw [if_neg c]; exact g1 (u1.resolve_left c)
    · rw [if_pos (by (clear hP k0 h1 h2 k2 a1 a2 a3 a5 a4 s1 s2 s3 s4 s5 s6 bit c4 u1 u2 u3 v1 v2 v3 hV hW g0 g1; omega)), if_neg (by omega), if_neg (by omega), if_neg (by omega), if_neg (by omega)]
      refine v3 _ _ (ri_i ?_)
      by_cases c : u = 0
      · rw [if_pos c, wk]; exact g0 c
      · rw [if_neg c]; exact g1 (u1.resolve_left c)
  · by_cases c3 : x1 = 3
    · obtain ⟨u, u1, u2⟩ := bit (0 < M 37 k) inferInstance
      refine ⟨u, u1, fun V Qr Qt hV hW g0 g1 => b_48_41 (Tr_mono _) hV hW _ _ _ _ _ ?_, fun V Qr Qt hV hW g0 g1 => b_393_55 (Tr_mono _) hV hW _ _ _ _ _ ?_, fun e => absurd e c4⟩
      · rw [if_pos k1, if_neg c4, if_pos c3]
        refine ⟨by omega, ?_⟩
        by_cases c : M 37 k ≤ 0
        · rw [if_pos c, if_pos rfl, wk]; exact g0 (u1.resolve_right (fun e => by have := u2.1 e; (clear hP k0 k1 e62 h1 h2 k2 a1 a2 a3 a5 a4 s1 s2 s3 s4 s5 wk bit c4 c3 u1 u2 hV hW g0 g1 e; lia)))
        · rw [if_neg c, if_neg (by decide)]; exact g1 (u2.2 (by (clear hP k0 k1 e62 h1 h2 k2 a1 a2 a3 a5 a4 s1 s2 s3 s4 s5 wk bit c4 c3 u1 u2 hV hW g0 g1; lia)))
      · rw [if_pos (by omega), if_neg (by omega), if_neg (by omega), if_neg (by omega), if_pos c3, ← s6]
        refine ⟨by omega, ?_⟩
        by_cases c : M 37 k ≤ 0
        · rw [if_pos c, if_pos rfl, wk]; exact g0 (u1.resolve_right (fun e => by have := u2.1 e; omega))
        · rw [if_neg c, if_neg (by decide)]; exact g1 (u2.2 (by omega))
    · by_cases c2 : x1 = 2
      · obtain ⟨u, u1, u2⟩ := bit (0 < M 36 k) inferInstance
        refine ⟨u, u1, fun V Qr Qt hV hW g0 g1 => b_48_41 (Tr_mono _) hV hW _ _ _ _ _ ?_, fun V Qr Qt hV hW g0 g1 => b_393_55 (Tr_mono _) hV hW _ _ _ _ _ ?_, fun e => absurd e c4⟩
        · rw [if_pos k1, if_neg c4, if_neg c3, if_pos c2]
          refine ⟨by omega, ?_⟩
          by_cases c : M 36 k ≤ 0
          · rw [if_pos c, if_pos rfl, wk]; exact g0 (u1.resolve_right (fun e => by have := u2.1 e; (clear hP k0 k1 e62 h1 h2 k2 a1 a2 a3 a5 a4 s1 s2 s3 s4 s6 wk bit c4 c3 c2 u1 u2 hV hW g0 g1 e; lia)))
          · rw [if_neg c, if_neg (by decide)]; exact g1 (u2.2 (by (clear hP k0 k1 e62 h1 h2 k2 a1 a2 a3 a5 a4 s1 s2 s3 s4 s6 wk bit c4 c3 c2 u1 u2 hV hW g0 g1; lia)))
        · rw [if_pos (by omega), if_neg (by omega), if_neg (by omega), if_pos c2, ← s5]
          refine ⟨by omega, ?_⟩
          by_cases c : M 36 k ≤ 0
          · rw [if_pos c, if_pos rfl, wk]; exact g0 (u1.resolve_right (fun e => by have := u2.1 e; omega))
          · rw [if_neg c, if_neg (by decide)]; exact g1 (u2.2 (by omega))
      · by_cases c0 : x1 = 0
        · obtain ⟨u, u1, u2⟩ := bit (M 35 k = 0) inferInstance
          refine ⟨u, u1, fun V Qr Qt hV hW g0 g1 => b_48_41 (Tr_mono _) hV hW _ _ _ _ _ ?_, fun V Qr Qt hV hW g0 g1 => b_393_55 (Tr_mono _) hV hW _ _ _ _ _ ?_, fun e => absurd e c4⟩
          · rw [if_pos k1, if_neg c4, if_neg c3, if_neg c2]
            refine ⟨by omega, ?_⟩
            by_cases c : M 35 k = 0
            · rw [if_pos c, if_pos c0, if_neg (by decide)]; exact g1 (u2.2 c)
            · rw [if_neg c, if_pos rfl, wk]; exact g0 (u1.resolve_right (fun e => c (u2.1 e)))
          · rw [if_pos (by omega), if_pos c0, ← s4]
            refine ⟨by omega, ?_⟩
            by_cases c : M 35 k = 0
            · rw [if_pos c, if_neg (by decide)]; exact g1 (u2.2 c)
            · rw [if_neg c, if_pos rfl, wk]; exact g0 (u1.resolve_right (fun e => c (u2.1 e)))
        · have c1 : x1 = 1 := by (clear hP k0 k1 e62 h2 k2 a1 a2 a3 a5 a4 s1 s2 s3 s4 s5 s6 wk bit; lia)
          obtain ⟨u, u1, u2, u3⟩ := x_49 (ty := -1) (s := 0) hP a1 (k := k) (by omega) a4
          obtain ⟨v, v1, v2, v3⟩ := q_394 (s := 0) a1 (by omega)
          have e := bv_eq u1 v1 u2 v2
          subst e
          by_cases c : M 35 k = 0
          · refine ⟨u, u1, fun V Qr Qt hV hW g0 g1 => b_48_41 (Tr_mono _) hV hW _ _ _ _ _ ?_, fun V Qr Qt hV hW g0 g1 => b_393_55 (Tr_mono _) hV hW _ _ _ _ _ ?_, fun e => absurd e c4⟩
            · rw [if_pos k1, if_neg c4, if_neg c3, if_neg c2, if_pos c, if_neg c0]
              refine ⟨by omega, u3 _ _ (ri_i ?_)⟩
              by_cases cu : u = 0
              · rw [if_pos cu, if_pos rfl, wk]; exact g0 cu
              · rw [if_neg cu, if_neg (by decide)]; exact g1 (u1.resolve_left cu)
            · rw [if_pos (by omega), if_neg c0, if_pos c1, ← s4, if_pos c]
              refine ⟨by omega, v3 _ _ (ri_i ?_)⟩
              by_cases cu : u = 0
              · rw [if_pos cu, if_pos rfl, wk]; exact g0 cu
              · rw [if_neg cu, if_neg (by decide)]; exact g1 (u1.resolve_left cu)
          · refine ⟨0, .inl rfl, fun V Qr Qt hV hW g0 g1 => b_48_41 (Tr_mono _) hV hW _ _ _ _ _ ?_, fun V Qr Qt hV hW g0 g1 => b_393_55 (Tr_mono _) hV hW _ _ _ _ _ ?_, fun e => absurd e c4⟩
            · rw [if_pos k1, if_neg c4, if_neg c3, if_neg c2, if_neg c, if_pos rfl, wk]
              exact ⟨by omega, g0 rfl⟩
            · rw [if_pos (by omega), if_neg c0, if_pos c1, ← s4, if_neg c, if_pos rfl, wk]
              exact ⟨by omega, g0 rfl⟩
theorem fs_l [Inhabited fz_] (hP : PLr M N) (ht : TSR M N B) (h1 : 0 ≤ x1 ∧ x1 ≤ 4) (h2 : x1 = 4 → 0 ≤ x2) : ∀ (j : Nat) (k : Int), k + j = M 0 62 → 0 ≤ k → ∃ v, (∀ (V : vv_) (Qr : qr_) (Qt : qt_), Cl_ wd0 (Tr_ wd0 pg0 1) V Qr Qt m_48 → Wk_ V → Qr [.inl v] M → V 41 [rr 0, ii x1, ii x2, ii x3, ii k, none] [] M) ∧ (∀ (V : vv_) (Qr : qr_) (Qt : qt_), Cl_ wd0 (Tr_ wd0 pg0 2) V Qr Qt m_393 → Wk_ V → Qr [.inl v] N → V 55 [rr 6, ii x1, ii x2, ii x3, ii k, none] [] N) ∧ (x1 = 4 → (∀ k i, 0 ≤ k → k < M 0 62 → 0 ≤ i → i < rwk N k 0 → ¬ HOc (rwk N k) x2 x3 i) → v = -1) := fun j => by
  obtain ⟨e62, hk⟩ := TSR_k ht
  induction j with
  | zero =>
    intro k hj k0
    refine ⟨-1, fun V Qr Qt hV hW g => b_48_41 (Tr_mono _) hV hW _ _ _ _ _ ?_, fun V Qr Qt hV hW g => b_393_55 (Tr_mono _) hV hW _ _ _ _ _ ?_, fun _ _ => rfl⟩
    · rw [if_neg (by omega)]; exact g
    · rw [if_neg (by (clear hP ht h1 h2 hk k0 hV hW g; lia))]; exact g
  | succ j ih =>
    intro k hj k0
    obtain ⟨u, u1, u2, u3, u4⟩ := fs_1 (x3 := x3) hP (hk k k0 (by omega)) k0 (by omega) e62 h1 h2
    rcases u1 with e | e
    · obtain ⟨v, v1, v2, v3⟩ := ih (k + 1) (by (clear hP ht h1 h2 hk ih k0 u2 u3 u4 e; lia)) (by omega)
      exact ⟨v, fun V Qr Qt hV hW g => u2 V Qr Qt hV hW (fun _ => v1 V Qr Qt hV hW g) (fun e1 => by omega), fun V Qr Qt hV hW g => u3 V Qr Qt hV hW (fun _ => v2 V Qr Qt hV hW g) (fun e1 => by omega), v3⟩
    · refine ⟨k, fun V Qr Qt hV hW g => u2 V Qr Qt hV hW (fun e1 => by omega) (fun _ => g), fun V Qr Qt hV hW g => u3 V Qr Qt hV hW (fun e1 => by omega) (fun _ => g), fun c4 hno => ?_⟩
      obtain ⟨i, hi, ho⟩ := (u4 c4).1 e
      exact absurd ho (hno k i k0 (by omega) hi.1 hi.2)
theorem j_48 [Inhabited fz_] (h : LKR M N) (hs : M 0 4 = 1 → TSR M N B) : SM2 2 48 [.inr (.inr 0), .inl x1, .inl x2, .inl x3] 3 393 [.inr (.inr 6), .inl x1, .inl x2, .inl x3] M N := by
  by_cases c0 : M 0 4 = 0
  · have c0' : N 6 126 = 0 := by rcases h with h | h; exact h.2; have := h.2.1; (clear hs h; lia)
    refine ⟨-1, fun Qr Qt g => t_48 fun V hV hW => b_48_0 (Tr_mono _) hV hW _ _ _ _ fun _ => ?_, fun Qr Qt g => t_393 fun V hV hW => b_393_0 (Tr_mono _) hV hW _ _ _ _ fun _ => ?_⟩
    · rw [if_pos c0]; exact g
    · rw [if_pos c0']; exact g
  obtain ⟨st, r1, r2⟩ := h.resolve_left (fun e => c0 e.1)
  have ht := hs r1
  have hP := st.2.1
  have p6 := hP.1.2.2
  rw [tbN_6 (by decide), swc_5] at p6
  have n62 : 0 ≤ M 0 62 := by rcases ht with a | ⟨n, a⟩; omega; have := a.1.1; have := a.2.1; omega
  by_cases c : x1 < 0 ∨ ¬ x1 ≤ 4 ∨ (x1 = 4 ∧ (x2 < 0 ∨ ¬ x2 < M 4 2))
  · refine ⟨-1, fun Qr Qt g => t_48 fun V hV hW => b_48_0 (Tr_mono _) hV hW _ _ _ _ fun _ => ?_, fun Qr Qt g => t_393 fun V hV hW => b_393_0 (Tr_mono _) hV hW _ _ _ _ fun _ => ?_⟩
    · rw [if_neg c0]
      by_cases d1 : x1 < 0
      · rw [if_pos d1]; exact g
      rw [if_neg d1]
      by_cases d2 : x1 ≤ 4
      · rw [if_pos d2, if_pos (by (clear h hs c0 st r1 r2 ht hP p6 n62 g hV hW; omega))]
        by_cases d3 : x2 < 0
        · rw [if_pos d3]; exact g
        · rw [if_neg d3, if_neg (by omega)]; exact g
      · rw [if_neg d2]; exact g
    · rw [if_neg (by (clear h hs c0 st r1 ht hP p6 n62 c g hV hW; lia))]
      by_cases d1 : x1 < 0
      · rw [if_pos d1]; exact g
      rw [if_neg d1]
      by_cases d2 : x1 ≤ 4
      · rw [if_pos d2, if_pos (by omega)]
        by_cases d3 : x2 < 0
        · rw [if_pos d3]; exact g
        · rw [if_neg d3, if_neg (by (clear h hs c0 st r1 r2 ht hP n62 g hV hW; omega))]; exact g
      · rw [if_neg d2]; exact g
  · obtain ⟨v, v1, v2, v3⟩ := fs_l (x1 := x1) (x2 := x2) (x3 := x3) hP ht (by omega) (by omega) (M 0 62).toNat 0 (by (clear h hs c0 st r1 r2 ht hP p6 c; omega)) (by decide)
    have x48 : Ex_ 2 48 [.inr (.inr 0), .inl x1, .inl x2, .inl x3] M [.inl v] M := fun Qr Qt g => t_48 fun V hV hW => b_48_0 (Tr_mono _) hV hW _ _ _ _ fun _ => by
      rw [if_neg c0, if_neg (by (clear h hs c0 st r1 r2 ht hP p6 n62 v1 v2 v3 g hV hW; omega)), if_pos (by omega)]
      have := v1 V Qr Qt hV hW g
      by_cases d : x1 = 4
      · rw [if_pos d, if_neg (by omega), if_pos (by (clear h hs c0 st r1 r2 ht hP n62 v1 v2 g hV hW this; omega))]; exact this
      · rw [if_neg d]; exact this
    by_cases d : x1 = 4 ∧ (x3 < -1 ∨ ¬ x3 < N 174 x2)
    · have ev : v = -1 := v3 d.1 (fun k i k0 k1 i0 i1 ho => by
        obtain ⟨e62, hk⟩ := TSR_k ht
        obtain ⟨_, ⟨a1, _⟩, _⟩ := hk k k0 k1
        have vs := (a1.2.1 i i0 i1).1.2.2
        rcases ho with ⟨_, e1, e2⟩ | ⟨e, _⟩
        · rw [e1, e2] at vs; (clear h hs c0 st r1 r2 ht hP p6 n62 c v1 v2 v3 x48 k0 k1 i0 i1 e62 hk a1 e1; lia)
        · (clear h hs c0 st r1 r2 ht hP p6 n62 v1 v2 x48 k0 k1 i0 i1 e62 hk a1 vs; omega))
      subst ev
      refine ⟨-1, x48, fun Qr Qt g => t_393 fun V hV hW => b_393_0 (Tr_mono _) hV hW _ _ _ _ fun _ => ?_⟩
      rw [if_neg (by (clear h hs c0 st r1 ht hP p6 n62 c d v1 v2 v3 x48 g hV hW; lia)), if_neg (by (clear h hs c0 st r1 r2 ht hP p6 n62 c v1 v2 v3 x48 g hV hW; omega)), if_pos (by omega), if_pos d.1, if_neg (by (clear h hs c0 st r1 r2 ht hP p6 n62 v1 v2 x48 g hV hW; omega)), if_pos (by omega)]
      by_cases d3 : x3 < -1
      · rw [if_pos d3]; exact g
      · rw [if_neg d3, if_neg (by (clear h hs c0 st r1 r2 ht hP p6 n62 c v1 v2 x48 g hV hW; omega))]; exact ⟨by omega, g⟩
    · refine ⟨v, x48, fun Qr Qt g => t_393 fun V hV hW => b_393_0 (Tr_mono _) hV hW _ _ _ _ fun _ => ?_⟩
      rw [if_neg (by omega), if_neg (by omega), if_pos (by omega)]
      have := v2 V Qr Qt hV hW g
      by_cases d4 : x1 = 4
      · rw [if_pos d4, if_neg (by omega), if_pos (by omega), if_neg (by omega), if_pos (by omega)]; exact ⟨by omega, this⟩
      · rw [if_neg d4]; exact this
/-- a state is visited -/
theorem RU_vis [Inhabited fz_] (h : RU 0 M N) (hv : VR N f) (hu : UF M M1) (h7 : M1 0 7 = f 0) (h8 : M1 0 8 = f 1) (hS : ∀ j, 0 ≤ j → j < f 0 → SLD M1 f j) (hR : ∀ j, 0 ≤ j → j < N 6 18 → ROD M1 f j) {Nw : mm_} (hr : ∀ r : Nat, r ≠ 6 → r ≠ 239 → Nw r = N r) (h6 : ∀ i : Int, i ≠ 130 → Nw 6 i = N 6 i) (hz : ∀ i, 0 ≤ i → i < 1104 → Nw 239 i = svF f (FSI (wr_ N 239 (ldF (N 239) f)) (fun c => 0 ≤ c)) (N 6 128) i) : RU 0 (up_ M1 0 11 0) Nw := by
  obtain ⟨h1, h2, h3, h4, h5⟩ := h
  obtain ⟨⟨f1, f1'⟩, f2, f3, f4, f5⟩ := hv
  have h18 := h2.1
  have n9 := h3.2.1
  generalize hA : wr_ N 239 (ldF (N 239) f) = A at hz
  have ea : ∀ i, 0 ≤ i → i < 1104 → A 239 i = f i := fun i i0 i1 => by rw [← hA, wr_same]; unfold ldF; rw [if_pos ⟨i0, i1⟩]
  have e18 : A 6 18 = N 6 18 := by rw [← hA, wr_ne (by decide)]
  have hro : ∀ r, 0 ≤ r → r < A 6 18 → 0 ≤ A 239 (sR r) ∧ A 239 (sR r) ≤ 6 := fun r r0 r1 => by
    have hR' : sR r = 674 + 43 * r := rfl
    rw [e18] at r1
    rw [ea _ (by (clear hu h7 h8 hS hR hr h6 h1 h2 h3 h4 h5 f1 f1' f2 f3 f4 f5 n9 hA hz ea; lia)) (by omega)]; exact (f4 r r0 r1).1
  have e0 := ea 0 (by decide) (by decide)
  have rz : ∀ j, RSI A (A 6 18) 0 j → 674 ≤ j ∧ (j - 674) % 43 ≠ 0 := fun j hj => RSI_z hro (by (clear hu h7 h8 hS hR hr h6 h1 h2 h3 h4 h5 f1 f1' f2 f3 f4 f5 n9 hA hz ea hro e0 hj; omega)) (by omega) (by decide) hj
  have cz : ∀ j, CKI A (fun c => 0 ≤ c) (A 239 0) 0 j → 24 ≤ j ∧ (j - 2) % 56 < 25 ∧ 22 ≤ (j - 2) % 56 ∧ (j < sB (A 239 0) + 22 + 0) := fun j hj => CKI_z (by (clear hu h7 h8 hS hR hr h6 h1 h2 h3 h4 h5 f1' f2 f3 f4 f5 h18 n9 hA hz ea e18 hro rz hj; omega)) (by decide) hj
  have hB0 : sB (A 239 0) = 2 + 56 * A 239 0 := rfl
  have out : ∀ j, 0 ≤ j → j < 1104 → ¬ FSI A (fun c => 0 ≤ c) j → Nw 239 j = f j := fun j j0 j1 hj => by rw [hz j j0 j1, svF_out hj]
  have g0 : Nw 239 0 = f 0 := out 0 (by decide) (by decide) (fun hj => by rcases hj with hj | hj; have := rz _ hj; omega; have := cz _ hj; omega)
  have g1 : Nw 239 1 = f 1 := out 1 (by decide) (by decide) (fun hj => by rcases hj with hj | hj; have := rz _ hj; omega; have := cz _ hj; omega)
  have s1 : ∀ k i, 0 ≤ k → k < 12 → 0 ≤ i → i < 56 → (i < 22 ∨ 25 ≤ i) → Nw 239 (sB k + i) = f (sB k + i) := fun k i k0 k1 i0 i1 hi => by
    have hB : sB k = 2 + 56 * k := rfl
    refine out _ (by (clear hu h7 h8 hS hR hr h6 h1 h2 h3 h4 h5 f1 f1' f2 f3 f4 f5 h18 n9 hA hz ea e18 hro e0 rz cz hB0 out g0 g1 hi; lia)) (by (clear hu h7 h8 hS hR hr h6 h1 h2 h3 h4 h5 f1 f1' f2 f3 f4 f5 h18 n9 hA hz ea e18 hro e0 rz cz hB0 out g0 g1 hi; omega)) (fun hj => ?_)
    rcases hj with hj | hj
    · have := rz _ hj; (clear hu h7 h8 hS hR hr h6 h1 h2 h3 h4 h5 f1 f1' f2 f3 f4 f5 h18 n9 hA hz ea e18 hro e0 rz cz hB0 out g0 g1 hi hj; omega)
    · have := cz _ hj; omega
  have zr : ∀ r : Nat, r ≠ 0 → up_ M1 0 11 0 r = M1 r := fun r c => up_ne c
  have z0 : ∀ i : Int, i ≠ 11 → up_ M1 0 11 0 0 i = M1 0 i := fun i c => upo c
  refine ⟨⟨?_, ?_, fun k k0 k1 => ?_, fun k k0 k1 i i0 i1 => ?_⟩, ⟨?_, fun r r0 r1 => ?_, fun r r0 r1 i i0 i1 => ?_⟩, RSC_c h3 (fun i hi => by rw [z0 i (fun c => by rw [c] at hi; revert hi; decide)]; exact hu.2 i (by revert hi; simp only [List.mem_cons, List.not_mem_nil, or_false]; omega)) (fun i hi => h6 i (fun c => by rw [c] at hi; revert hi; decide)), ROU_c h4 (fun i hi => by rw [z0 i (fun c => by rw [c] at hi; revert hi; decide)]; exact hu.2 i (by revert hi; simp only [List.mem_cons, List.not_mem_nil, or_false]; (clear hu h7 h8 hS hR hr h6 h1 h2 h3 h4 h5 f1 f1' f2 f3 f4 f5 h18 n9 hA hz ea e18 hro e0 rz cz hB0 out g0 g1 s1 zr z0; lia))) (by rw [zr 24 (by decide)]; exact hu.1 24 (by decide)) (fun i hi => h6 i (fun c => by rw [c] at hi; revert hi; decide)) (hr 241 (by decide) (by decide)), REV_c h5 (fun i hi => by rw [z0 i (fun c => by rw [c] at hi; revert hi; decide)]; exact hu.2 i (by revert hi; simp only [List.mem_cons, List.not_mem_nil, or_false]; (clear hu h7 h8 hS hR hr h6 h1 h2 h3 h4 h5 f1 f1' f2 f3 f4 f5 h18 n9 hA hz ea e18 hro e0 rz cz hB0 out g0 g1 s1 zr z0; lia))) (by rw [zr 23 (by decide)]; exact hu.1 23 (by decide)) (fun i hi => h6 i (fun c => by rw [c] at hi; revert hi; decide)) (hr 240 (by decide) (by decide))⟩
  · rw [z0 7 (by decide), h7, g0]; (clear hu h7 h8 hS hR hr h6 h1 h2 h3 h4 h5 f1' f2 f3 f4 f5 h18 n9 hA hz ea e18 hro rz cz hB0 out g1 s1 zr z0; lia)
  · rw [z0 8 (by decide), h8, g1]; exact ⟨rfl, f1'⟩
  · rw [z0 7 (by decide), h7] at k1
    obtain ⟨⟨d1, d2, d3, d4, d5, d6⟩, dc, dt, dq, dl⟩ := hS k k0 k1
    obtain ⟨v1, v2, v3, v4, v5⟩ := f2 k k0 k1
    have hB : sB k = 2 + 56 * k := rfl
    have s := fun i i0 i1 hi => s1 k i k0 (by (clear hu h7 h8 hS hR hr h6 h1 h2 h3 h4 h5 f1' f2 f3 f4 f5 h18 n9 hA hz ea e18 hro rz cz hB0 out g1 s1 zr z0 k0 d1 d2 d3 d4 d5 d6 dc dt dq dl v1 v2 v3 v4 v5 hB i0 i1 hi; lia)) i0 i1 hi
    have w0 := s 0 (by decide) (by decide) (by decide)
    rw [Int.add_zero] at w0
    unfold IN
    rw [zr 10 (by decide), zr 11 (by decide), zr 12 (by decide), zr 13 (by decide), zr 14 (by decide), zr 15 (by decide), zr 16 (by decide), zr 17 (by decide), zr 18 (by decide), zr 19 (by decide), zr 20 (by decide), z0 8 (by decide), h8, h6 19 (by decide), hr 172 (by decide) (by decide), hr 173 (by decide) (by decide), hr 174 (by decide) (by decide), d1, d2, d3, d4, d5, d6, dq, w0, s 1 (by decide) (by decide) (by decide), s 2 (by decide) (by decide) (by decide), s 3 (by decide) (by decide) (by decide), s 4 (by decide) (by decide) (by decide), s 5 (by decide) (by decide) (by decide), s 25 (by decide) (by decide) (by decide)]
    refine ⟨⟨rfl, rfl, rfl, rfl, rfl, rfl⟩, v1, ⟨fun i i0 i1 => ?_, fun i i0 i1 i2 => ?_⟩, fun t t0 t1 => ?_, ⟨v4.1, v4.2, rfl⟩, fun i i0 i1 => ?_, fun i i0 i1 => ?_⟩
    · rw [dc i i0 i1, show sB k + 6 + i = sB k + (6 + i) by (clear hu h7 h8 hS hR hr h6 h1 h2 h3 h4 h5 f1 f1' f2 f3 f4 f5 h18 n9 hA hz ea e18 hro e0 rz cz hB0 out g0 g1 s1 zr z0 k0 k1 d1 d2 d3 d4 d5 d6 dc dt dq dl v1 v2 v3 v4 v5 hB s w0 i0 i1; lia), s (6 + i) (by (clear hu h7 h8 hS hR hr h6 h1 h2 h3 h4 h5 f1 f1' f2 f3 f4 f5 h18 n9 hA hz ea e18 hro e0 rz cz hB0 out g0 g1 s1 zr z0 k0 k1 d1 d2 d3 d4 d5 d6 dc dt dq dl v1 v2 v3 v4 v5 hB s w0; omega)) (by (clear hu h7 h8 hS hR hr h6 h1 h2 h3 h4 h5 f1 f1' f2 f3 f4 f5 h18 n9 hA hz ea e18 hro e0 rz cz hB0 out g0 g1 s1 zr z0 k0 k1 d1 d2 d3 d4 d5 d6 dc dt dq dl v1 v2 v3 v4 v5 hB s w0; omega)) (by (clear hu h7 h8 hS hR hr h6 h1 h2 h3 h4 h5 f1 f1' f2 f3 f4 f5 h18 n9 hA hz ea e18 hro e0 rz cz hB0 out g0 g1 s1 zr z0 k0 k1 d1 d2 d3 d4 d5 d6 dc dt dq dl v1 v2 v3 v4 v5 hB s w0; omega))]
    · rw [show sB k + 6 + i = sB k + (6 + i) by (clear hu h7 h8 hS hR hr h6 h1 h2 h3 h4 h5 f1 f1' f2 f3 f4 f5 h18 n9 hA hz ea e18 hro e0 rz cz hB0 out g0 g1 s1 zr z0 k0 k1 d1 d2 d3 d4 d5 d6 dc dt dq dl v1 v2 v3 v4 v5 hB s w0 i0 i1 i2; lia), s (6 + i) (by omega) (by omega) (by omega), show sB k + (6 + i) = sB k + 6 + i by (clear hu h7 h8 hS hR hr h6 h1 h2 h3 h4 h5 f1 f1' f2 f3 f4 f5 h18 n9 hA hz ea e18 hro e0 rz cz hB0 out g0 g1 s1 zr z0 k0 k1 d1 d2 d3 d4 d5 d6 dc dt dq dl v1 v2 v3 v4 v5 hB s w0 i0 i1 i2; lia)]; exact v2 i i0 i1 i2
    · obtain ⟨t16, t17⟩ := dt t t0 t1
      rw [hu.2 9 (by decide)] at t17
      have nr : ¬ RSI A (A 6 18) 0 (sB k + 22 + t) := fun hj => by have := rz _ hj; (clear hu h7 h8 hS hR hr h6 h1 h2 h3 h4 h5 f1' f2 f3 f4 f5 h18 n9 hA hz ea e18 hro rz cz hB0 out g1 s1 zr z0 d1 d2 d3 d4 d5 d6 dc dt dq dl v1 v2 v3 v4 v5 s w0 t16 t17 hj; omega)
      rcases (v3 t t0 t1).1 with c | c
      · have ec : Nw 239 (sB k + 22 + t) = N 6 128 := by
          rw [hz _ (by (clear hu h7 h8 hS hR hr h6 h1 h2 h3 h4 h5 f1' f2 f3 f4 f5 h18 n9 hA hz ea e18 hro rz cz hB0 out g1 s1 zr z0 d1 d2 d3 d4 d5 d6 dc dt dq dl v1 v2 v3 v4 v5 s w0 t16 t17 nr c; lia)) (by (clear hu h7 h8 hS hR hr h6 h1 h2 h3 h4 h5 f1' f2 f3 f4 f5 h18 n9 hA hz ea e18 hro rz cz hB0 out g1 s1 zr z0 d1 d2 d3 d4 d5 d6 dc dt dq dl v1 v2 v3 v4 v5 s w0 t16 t17 nr c; lia)), svF_in (.inr (.inl ⟨k, t, ⟨k0, by (clear hu h7 h8 hS hR hr h6 h1 h2 h3 h4 h5 f1 f1' f2 f3 f4 f5 h18 n9 hA hz ea e18 hro rz cz hB0 out g1 s1 zr z0 k0 d1 d2 d3 d4 d5 d6 dc dt dq dl v1 v2 v3 v4 v5 hB s w0 t0 t1 t16 t17 nr c; lia)⟩, ⟨t0, t1⟩, by show 0 ≤ A 239 (sB k + 22 + t); rw [ea _ (by omega) (by omega)]; (clear hu h7 h8 hS hR hr h6 h1 h2 h3 h4 h5 f1 f1' f2 f3 f4 f5 h18 n9 hA hz ea e18 hro e0 rz cz hB0 out g0 g1 s1 zr z0 k0 k1 d1 d2 d3 d4 d5 d6 dc dt dq dl v1 v2 v3 v4 v5 hB s w0 t0 t1 t16 t17 nr; omega), rfl⟩))]
        rw [c, if_pos (by decide)] at t16
        rw [t16, t17, ec]
        exact ⟨.inl ⟨rfl, by (clear hu h7 h8 hS hR hr h6 h1 h2 h3 h4 h5 f1 f1' f2 f3 f4 f5 h18 hA hz ea e18 hro e0 rz cz hB0 out g0 g1 s1 zr z0 k0 k1 d1 d2 d3 d4 d5 d6 dc dt dq dl v1 v2 v3 v4 v5 hB s w0 t0 t1 t16 nr c; lia), .inl ⟨rfl, by (clear hu h7 h8 hS hR hr h6 h1 h2 h3 h4 h5 f1 f1' f2 f3 f4 f5 h18 hA hz ea e18 hro e0 rz cz hB0 out g0 g1 s1 zr z0 k0 k1 d1 d2 d3 d4 d5 d6 dc dt dq dl v1 v2 v3 v4 v5 hB s w0 t0 t1 t16 t17 nr c ec; lia)⟩⟩, fun hh => by have := (v3 t t0 t1).2 hh; (clear hu h7 h8 hS hR hr h6 h1 h2 h3 h4 h5 f1 f1' f2 f3 f4 f5 h18 n9 hA hz ea e18 hro e0 rz cz hB0 out g0 g1 s1 zr z0 k0 k1 d1 d2 d3 d4 d5 d6 dc dt dq dl v1 v2 v3 v4 v5 hB s w0 t0 t1 t16 t17 nr ec hh; omega)⟩
      · have ec : Nw 239 (sB k + 22 + t) = -1 := by
          rw [out _ (by omega) (by omega) (fun hj => ?_)]
          · exact c
          · rcases hj with hj | hj
            · exact nr hj
            · rcases hj with ⟨k', t', q1, q2, q3, q4⟩ | ⟨t', q1, _⟩
              · have q3' : 0 ≤ A 239 (sB k + 22 + t) := q3
                rw [ea _ (by (clear hu h7 h8 hS hR hr h6 h1 h2 h3 h4 h5 f1 f1' f2 f3 f4 f5 h18 n9 hA hz ea e18 hro e0 rz cz hB0 out g0 g1 s1 zr z0 k1 d1 d2 d3 d4 d5 d6 dc dt dq dl v1 v2 v3 v4 v5 s w0 t16 t17 nr c q1 q2 q3 q3'; lia)) (by (clear hu h7 h8 hS hR hr h6 h1 h2 h3 h4 h5 f1' f2 f3 f4 f5 h18 n9 hA hz ea e18 hro rz cz hB0 out g1 s1 zr z0 k0 d1 d2 d3 d4 d5 d6 dc dt dq dl v1 v2 v3 v4 v5 s w0 t16 t17 nr c q1 q2 q3 q3'; omega))] at q3'; omega
              · (clear hu h7 h8 hS hR hr h6 h1 h2 h3 h4 h5 f1 f1' f2 f3 f4 f5 h18 n9 hA hz ea e18 hro e0 rz cz hB0 out g0 g1 s1 zr z0 k0 k1 d1 d2 d3 d4 d5 d6 dc dt dq dl v1 v2 v3 v4 v5 hB s w0 t0 t1 t16 t17 nr c; omega)
        rw [c, if_neg (by decide)] at t16
        rw [t16, ec]
        exact ⟨.inr ⟨rfl, rfl⟩, fun _ => rfl⟩
    · rw [dl i i0 i1, show sB k + 26 + i = sB k + (26 + i) by (clear hu h7 h8 hS hR hr h6 h1 h2 h3 h4 h5 f1 f1' f2 f3 f4 f5 h18 n9 hA hz ea e18 hro e0 rz cz hB0 out g0 g1 s1 zr z0 k0 k1 d1 d2 d3 d4 d5 d6 dc dt dq dl v1 v2 v3 v4 v5 hB s w0 i0 i1; lia), s (26 + i) (by (clear hu h7 h8 hS hR hr h6 h1 h2 h3 h4 h5 f1 f1' f2 f3 f4 f5 h18 n9 hA hz ea e18 hro e0 rz cz hB0 out g0 g1 s1 zr z0 k0 k1 d1 d2 d3 d4 d5 d6 dc dt dq dl v1 v2 v3 v4 v5 hB s w0 i1; omega)) (by (clear hu h7 h8 hS hR hr h6 h1 h2 h3 h4 h5 f1 f1' f2 f3 f4 f5 h18 n9 hA hz ea e18 hro e0 rz cz hB0 out g0 g1 s1 zr z0 k0 k1 d1 d2 d3 d4 d5 d6 dc dt dq dl v1 v2 v3 v5 hB s w0 i0; lia)) (by (clear hu h7 h8 hS hR hr h6 h1 h2 h3 h4 h5 f1 f1' f2 f3 f4 f5 h18 n9 hA hz ea e18 hro e0 rz cz hB0 out g0 g1 s1 zr z0 k0 k1 d1 d2 d3 d4 d5 d6 dc dt dq dl v1 v2 v3 v4 v5 hB s w0 i1; omega))]
    · rw [show sB k + 26 + i = sB k + (26 + i) by omega, s (26 + i) (by (clear hu h7 h8 hS hR hr h6 h1 h2 h3 h4 h5 f1 f1' f2 f3 f4 f5 h18 n9 hA hz ea e18 hro e0 rz cz hB0 out g0 g1 s1 zr z0 k0 k1 d1 d2 d3 d4 d5 d6 dc dt dq dl v1 v2 v3 v5 hB s w0 i1; lia)) (by (clear hu h7 h8 hS hR hr h6 h1 h2 h3 h4 h5 f1 f1' f2 f3 f4 f5 h18 n9 hA hz ea e18 hro e0 rz cz hB0 out g0 g1 s1 zr z0 k0 k1 d1 d2 d3 d4 d5 d6 dc dt dq dl v1 v2 v3 v4 v5 hB s w0 i0; omega)) (by (clear hu h7 h8 hS hR hr h6 h1 h2 h3 h4 h5 f1 f1' f2 f3 f4 f5 h18 n9 hA hz ea e18 hro e0 rz cz hB0 out g0 g1 s1 zr z0 k0 k1 d1 d2 d3 d4 d5 d6 dc dt dq dl v1 v2 v3 v5 hB s w0; omega)), show sB k + (26 + i) = sB k + 26 + i by (clear hu h7 h8 hS hR hr h6 h1 h2 h3 h4 h5 f1 f1' f2 f3 f4 f5 h18 n9 hA hz ea e18 hro e0 rz cz hB0 out g0 g1 s1 zr z0 k0 k1 d1 d2 d3 d4 d5 d6 dc dt dq dl v1 v2 v3 v4 v5 hB s w0 i0 i1; lia)]; exact v5 i i0 i1
  · rw [z0 7 (by decide), h7] at k0
    have hB : sB k = 2 + 56 * k := rfl
    rw [out _ (by (clear hu h7 h8 hS hR hr h6 h1 h2 h3 h4 h5 f1' f2 f3 f4 f5 h18 n9 hA hz ea e18 hro rz cz hB0 out g1 s1 zr z0; lia)) (by (clear hu h7 h8 hS hR hr h6 h1 h2 h3 h4 h5 f1' f2 f3 f4 f5 h18 n9 hA hz ea e18 hro rz cz hB0 out g1 s1 zr z0; lia)) (fun hj => ?_)]
    · exact f3 k k0 k1 i i0 i1
    · rcases hj with hj | hj
      · have := rz _ hj; (clear hu h7 h8 hS hR hr h6 h1 h2 h3 h4 h5 f1' f2 f3 f4 f5 h18 n9 hA hz ea e18 hro rz cz hB0 out g1 s1 zr z0 hj; lia)
      · have := cz _ hj; (clear hu h7 h8 hS hR hr h6 h1 h2 h3 h4 h5 f1 f1' f2 f3 f4 f5 h18 n9 hA hz ea e18 hro rz cz out g1 s1 zr z0 k1 hj; omega)
  · rw [h6 18 (by decide)]; exact h18
  · rw [h6 18 (by decide)] at r1
    have hR' : sR r = 674 + 43 * r := rfl
    obtain ⟨o1, o2⟩ := hR r r0 r1
    obtain ⟨q1, q2, q3⟩ := f4 r r0 r1
    have nc : ∀ i, 0 ≤ i → ¬ CKI A (fun c => 0 ≤ c) (A 239 0) 0 (sR r + i) := fun i i0 hj => by have := cz _ hj; (clear hu h7 h8 hS hR hr h6 h1 h2 h3 h4 h5 f1' f2 f3 f4 f5 n9 hA hz ea hro rz cz out g1 s1 zr z0 o1 o2 q1 q2 q3 hj; lia)
    have other : ∀ i, 0 ≤ i → i < 43 → (∀ q, 0 ≤ q → q < f (sR r) → i ≠ 1 + 7 * q + 3) → Nw 239 (sR r + i) = f (sR r + i) := fun i i0 i1 hi => out _ (by (clear hu h7 h8 hS hR hr h6 h1 h2 h3 h4 h5 f1 f1' f2 f3 f4 f5 n9 hA hz ea hro e0 rz cz hB0 out g0 g1 s1 zr z0 o1 o2 q1 q2 q3 nc hi; lia)) (by (clear hu h7 h8 hS hR hr h6 h1 h2 h3 h4 h5 f1 f1' f2 f3 f4 f5 n9 hA hz ea hro e0 rz cz hB0 out g0 g1 s1 zr z0 o1 o2 q1 q2 q3 nc hi; lia)) (fun hj => by
      rcases hj with hj | hj
      · rcases hj with ⟨r', q', x1, x2, x3⟩ | ⟨q', x1, _⟩
        · have h' := hro r' x1.1 x1.2
          have er : r' = r := by unfold sR at x3; (clear hu h7 h8 hS hR hr h6 h1 h2 h3 h4 h5 f1 f1' f2 f3 f4 f5 h18 n9 hA hz ea e18 hro e0 rz cz hB0 out g0 g1 s1 zr z0 r0 r1 hR' o1 o2 q1 q2 q3 nc hi x1; lia)
          subst er
          rw [ea _ (by omega) (by (clear hu h7 h8 hS hR hr h6 h1 h2 h3 h4 h5 f1 f1' f2 f3 f4 f5 n9 hA hz ea hro e0 rz cz hB0 out g0 g1 s1 zr z0 i0 i1 x2 h' r0 r1 o1 o2 q1 q2 q3 nc hi x3; lia))] at x2
          exact hi q' x2.1 x2.2 (by (clear hu h7 h8 hS hR hr h6 h1 h2 h3 h4 h5 f1 f1' f2 f3 f4 f5 h18 n9 hA hz ea e18 hro e0 rz cz hB0 out g0 g1 s1 zr z0 i0 i1 x1 x2 h' r0 r1 hR' o1 o2 q1 q2 q3 nc hi; lia))
        · omega
      · exact nc i i0 hj)
    have e0' := other 0 (by decide) (by decide) (fun q a b => by (clear hu h7 h8 hS hR hr h6 h1 h2 h3 h4 h5 f1 f1' f2 f3 f4 f5 h18 n9 hA hz ea e18 hro e0 rz cz hB0 out g0 g1 s1 zr z0 r0 r1 hR' o1 o2 q1 q2 q3 nc other a b; lia))
    rw [Int.add_zero] at e0'
    unfold RO
    rw [zr 21 (by decide), zr 22 (by decide), e0', o1]
    refine ⟨⟨q1.1, q1.2, rfl⟩, fun q q0 q1' => ⟨fun j j0 j1 j3 => ?_, ?_, fun _ => ?_, fun z => absurd z (by decide)⟩, fun i i0 i1 => ?_⟩
    · rw [(o2 q q0 q1').1 j j0 j1 j3]
      have := other (1 + 7 * q + j) (by (clear hu h7 h8 hS hR hr h6 h1 h2 h3 h4 h5 f1 f1' f2 f3 f4 f5 h18 n9 hA hz ea e18 hro e0 rz cz hB0 out g0 g1 s1 zr z0 r0 r1 hR' o1 o2 q2 q3 nc other j3; lia)) (by (clear hu h7 h8 hS hR hr h6 h1 h2 h3 h4 h5 f1 f1' f2 f3 f4 f5 h18 n9 hA hz ea e18 hro e0 rz cz hB0 out g0 g1 s1 zr z0 r0 r1 hR' o1 o2 q2 q3 nc other j3; lia)) (fun q' a b => by (clear hu h7 h8 hS hR hr h6 h1 h2 h3 h4 h5 f1 f1' f2 f3 f4 f5 h18 n9 hA hz ea e18 hro e0 rz cz hB0 out g0 g1 s1 zr z0 r0 r1 hR' o1 o2 q1 q2 q3 nc other e0' q0 q1' a b; lia))
      rw [show sR r + (1 + 7 * q + j) = sR r + 1 + 7 * q + j by (clear hu h7 h8 hS hR hr h6 h1 h2 h3 h4 h5 f1 f1' f2 f3 f4 f5 h18 n9 hA hz ea e18 hro e0 rz cz hB0 out g0 g1 s1 zr z0 r0 r1 hR' o1 o2 q1 q2 q3 nc other e0' q0 q1' j0 j1 j3 this; lia)] at this; exact this.symm
    · rw [(o2 q q0 q1').2, hu.2 9 (by decide)]; (clear hu h7 h8 hS hR hr h6 h1 h2 h3 h4 h5 f1 f1' f2 f3 f4 f5 h18 hA hz ea e18 hro e0 rz cz hB0 out g0 g1 s1 zr z0 r0 r1 hR' o1 o2 q1 q2 q3 nc other e0' q0 q1'; lia)
    · rw [(o2 q q0 q1').2, hu.2 9 (by decide), hz _ (by (clear hu h7 h8 hS hR hr h6 h1 h2 h3 h4 h5 f1 f1' f2 f3 f4 f5 n9 hA hz ea hro e0 rz cz hB0 out g0 g1 s1 zr z0 o1 o2 q1 q2 q3 nc other e0' q1'; lia)) (by (clear hu h7 h8 hS hR hr h6 h1 h2 h3 h4 h5 f1 f1' f2 f3 f4 f5 n9 hA hz ea hro e0 rz cz hB0 out g0 g1 s1 zr z0 o1 o2 q2 q3 nc other q0; lia)), svF_in (.inl (.inl ⟨r, q, ⟨r0, by omega⟩, ⟨q0, by rw [ea _ (by (clear hu h7 h8 hS hR hr h6 h1 h2 h3 h4 h5 f1 f1' f2 f3 f4 f5 n9 hA hz ea hro e0 rz cz hB0 out g0 g1 s1 zr z0 o1 o2 q1 q2 q3 nc other e0' q0 q1'; lia)) (by (clear hu h7 h8 hS hR hr h6 h1 h2 h3 h4 h5 f1 f1' f2 f3 f4 f5 n9 hA hz ea hro e0 rz cz hB0 out g0 g1 s1 zr z0 o1 o2 q1 q2 q3 nc other e0' q0 q1'; lia))]; exact q1'⟩, rfl⟩))]; exact n9.1
    · have := other (1 + i) (by (clear hu h7 h8 hS hR hr h6 h1 h2 h3 h4 h5 f1 f1' f2 f3 f4 f5 h18 n9 hA hz ea e18 hro e0 rz cz hB0 out g0 g1 s1 zr z0 r0 r1 hR' o1 o2 q2 q3 nc other i1; lia)) (by (clear hu h7 h8 hS hR hr h6 h1 h2 h3 h4 h5 f1 f1' f2 f3 f4 f5 h18 n9 hA hz ea e18 hro e0 rz cz hB0 out g0 g1 s1 zr z0 r0 r1 hR' o1 o2 q1 q2 q3 nc other e0' i0; omega)) (fun q' a b => by (clear hu h7 h8 hS hR hr h6 h1 h2 h3 h4 h5 f1 f1' f2 f3 f4 f5 h18 n9 hA hz ea e18 hro e0 rz cz hB0 out g0 g1 s1 zr z0 r0 r1 hR' o1 o2 q1 q2 q3 nc other i1 a; omega))
      rw [show sR r + (1 + i) = sR r + 1 + i by (clear hu h7 h8 hS hR hr h6 h1 h2 h3 h4 h5 f1 f1' f2 f3 f4 f5 h18 n9 hA hz ea e18 hro e0 rz cz hB0 out g0 g1 s1 zr z0 r0 r1 hR' o1 o2 q1 q2 q3 nc other e0' i0 i1 this; lia)] at this
      rw [this]; exact q3 i i0 i1
  · rw [h6 18 (by decide)] at r0
    have hR' : sR r = 674 + 43 * r := rfl
    rw [out _ (by (clear hu h7 h8 hS hR hr h6 h1 h2 h3 h4 h5 f1 f1' f2 f3 f4 f5 n9 hA hz ea hro e0 rz cz hB0 out g0 g1 s1 zr z0; lia)) (by (clear hu h7 h8 hS hR hr h6 h1 h2 h3 h4 h5 f1 f1' f2 f3 f4 f5 n9 hA hz ea hro e0 rz cz hB0 out g0 g1 s1 zr z0; omega)) (fun hj => ?_)]
    · exact f5 r r0 r1 i i0 i1
    · rcases hj with hj | hj
      · rcases hj with ⟨r', q', x1, x2, x3⟩ | ⟨q', x1, _⟩
        · have h' := hro r' x1.1 x1.2
          unfold sR at x3; omega
        · (clear hu h7 h8 hS hR hr h6 h1 h2 h3 h4 h5 f1 f1' f2 f3 f4 f5 h18 n9 hA hz ea e18 hro e0 rz cz hB0 out g0 g1 s1 zr z0 r0 r1 i0 i1 hR'; omega)
      · have := cz _ hj; (clear hu h7 h8 hS hR hr h6 h1 h2 h3 h4 h5 f1' f2 f3 f4 f5 n9 hA hz ea hro rz cz out g1 s1 zr z0 hj; lia)
theorem j_50 [Inhabited fz_] (h : RNS M N) (ht : TSR M N B) (hB : B + 40000 ≤ 2000000000) : ∃ v M' N', Ex_ 3 50 [.inr (.inr 0), .inl x1] M [.inl v] M' ∧ Ex_ 2 396 [.inr (.inr 6), .inl x1] N [.inl v] N' ∧ RNS M' N' ∧ ((∀ r : Nat, r ∉ xuL → M' r = M r) ∧ (∀ i : Int, i ∉ 11 :: 65 :: xfL → M' 0 i = M 0 i) ∧ (∀ r : Nat, r ∉ quL → N' r = N r) ∧ ∀ i : Int, i ∉ 130 :: qfL → N' 6 i = N 6 i) ∧ (M' 0 8 = M 0 8 ∨ M' 0 8 ≤ B + 40000) ∧ TSR M' N' B := by
  obtain ⟨st, r1, r2⟩ := h
  obtain ⟨e62, hk⟩ := TSR_k ht
  by_cases c : x1 < 0 ∨ ¬ x1 < M 0 62
  · refine ⟨0, M, N, fun Qr Qt g => t_50 fun V hV hW => b_50_0 (Tr_mono _) hV hW _ _ fun _ => ?_, fun Qr Qt g => t_396 fun V hV hW => b_396_0 (Tr_mono _) hV hW _ _ fun _ => ?_, ⟨st, r1, r2⟩, ⟨fun _ _ => rfl, fun _ _ => rfl, fun _ _ => rfl, fun _ _ => rfl⟩, .inl rfl, ht⟩
    · rw [if_neg (by (clear ht hB st r2 e62 hk c g hV hW; lia))]
      by_cases c1 : x1 < 0
      · rw [if_pos c1]; exact g
      · rw [if_neg c1, if_neg (by omega)]; exact g
    · rw [if_neg (by omega)]
      by_cases c1 : x1 < 0
      · rw [if_pos c1]; exact g
      · rw [if_neg c1, if_neg (by omega)]; exact g
  · obtain ⟨k2, ⟨a1, a2, a3, ⟨a4, a4'⟩, a5⟩, sq⟩ := hk x1 (by omega) (by omega)
    obtain ⟨hR, hP, hA, hw⟩ := st
    obtain ⟨M1, x41, u, ⟨h7, h8⟩, d1, d2⟩ := x_41 hP a1 (k := x1) (by omega) a4
    have h18 := hR.2.1.1
    have q386 := q_386 (N := N) (k := x1) (by (clear ht hB r1 r2 e62 hk sq a1 a2 a3 a5 a4 a4' hR hP hA hw x41 u h7 h8 d1 d2 h18; omega))
    have eld : ldF (N 239) (fun i => N 245 (1104 * x1 + i)) = ldF (N 239) (rwk N x1) := by
      funext i; unfold ldF rwk
      by_cases c : 0 ≤ i ∧ i < 1104
      · rw [if_pos c, if_pos c, if_pos c]
      · rw [if_neg c, if_neg c]
    rw [eld] at q386
    generalize hA1 : wr_ N 239 (ldF (N 239) (rwk N x1)) = A at q386
    have ea : ∀ i, 0 ≤ i → i < 1104 → A 239 i = rwk N x1 i := fun i i0 i1 => by rw [← hA1, wr_same]; unfold ldF; rw [if_pos ⟨i0, i1⟩]
    have ar : ∀ r : Nat, r ≠ 239 → A r = N r := fun r c => by rw [← hA1, wr_ne c]
    have hro : ∀ r, 0 ≤ r → r < A 6 18 → 0 ≤ A 239 (sR r) ∧ A 239 (sR r) ≤ 6 := fun r r0 r1 => by
      have hR' : sR r = 674 + 43 * r := rfl
      rw [ar 6 (by decide)] at r1
      rw [ea _ (by (clear ht hB r2 e62 hk c k2 sq a1 a2 a3 a5 a4 a4' hR hP hA hw x41 u h7 h8 d1 d2 eld hA1 q386 ea ar; lia)) (by (clear ht hB r2 e62 hk c k2 sq a1 a2 a3 a5 a4 a4' hR hP hA hw x41 u h7 h8 d1 d2 eld hA1 q386 ea ar; omega))]; exact (a1.2.2.2.1 r r0 r1).1
    have n12 : 0 ≤ A 239 0 ∧ A 239 0 ≤ 12 := by rw [ea 0 (by decide) (by decide)]; exact a1.1.1
    have b18 : 0 ≤ A 6 18 ∧ A 6 18 ≤ 10 := by rw [ar 6 (by decide)]; exact h18
    have e128 : A 6 128 = N 6 128 := by rw [ar 6 (by decide)]
    generalize hNw : up_ (svM A (FSI A (fun c => 0 ≤ c)) (N 6 128)) 6 130 0 = Nw
    have wr : ∀ r : Nat, r ≠ 6 → r ≠ 239 → Nw r = N r := fun r c1 c2 => by rw [← hNw, up_ne c1, svM_r c2, ar r c2]
    have w6 : ∀ i : Int, i ≠ 130 → Nw 6 i = N 6 i := fun i c => by rw [← hNw, upo c, svM_r (by decide), ar 6 (by decide)]
    have w239 : Nw 239 = svF (A 239) (FSI A (fun c => 0 ≤ c)) (N 6 128) := by rw [← hNw, up_ne (by decide)]; unfold svM; rw [wr_same]
    have n9 := hR.2.2.1.2.1
    have ru : RU 0 (up_ M1 0 11 0) Nw := RU_vis hR a1 u h7 h8 d1 d2 wr w6 (fun i i0 i1 => by
      rw [hA1, w239]
      by_cases c : FSI A (fun c => 0 ≤ c) i
      · rw [svF_in c, svF_in c]
      · rw [svF_out c, svF_out c, ea i i0 i1])
    have tA : TYA A := by rw [← hA1]; exact TYA_un hA a2 a1.1.1
    have tW : TYA Nw := TYA_sv2 (P := fun c => 0 ≤ c) (v := N 6 128) b18 n12 hro tA ⟨fun r hr => by rw [wr r (fun c => by rw [c] at hr; revert hr; decide) (fun c => by rw [c] at hr; revert hr; decide), ar r (fun c => by rw [c] at hr; revert hr; decide)], by rw [w6 18 (by decide), ar 6 (by decide)], by rw [w6 17 (by decide), ar 6 (by decide)]⟩ w239 (by unfold R32; (clear ht hB r1 r2 e62 hk c k2 sq a1 a2 a3 a5 a4 a4' hR hP hA hw x41 u h7 h8 d1 d2 h18 eld hA1 q386 ea ar hro n12 b18 e128 hNw wr w6 w239 ru tA; omega))
    have xr : ∀ r : Nat, r ∉ xuL → up_ M1 0 11 0 r = M r := fun r hr => by rw [up_ne (fun c => hr (by rw [c]; decide))]; exact u.1 r (fun c => hr (by revert c; simp only [xuL, List.mem_cons, List.not_mem_nil, or_false]; (clear ht hB r1 r2 e62 hk c k2 sq a1 a2 a3 a5 a4 a4' hR hP hA hw x41 u h7 h8 d1 d2 h18 eld hA1 q386 ea ar hro n12 b18 e128 hNw wr w6 w239 n9 ru tA tW hr; lia)))
    have x0 : ∀ i : Int, i ∉ 11 :: 65 :: xfL → up_ M1 0 11 0 0 i = M 0 i := fun i hi => by rw [upo (fun c => hi (by rw [c]; decide))]; exact u.2 i (fun c => hi (by revert c; simp only [xfL, List.mem_cons, List.not_mem_nil, or_false]; (clear ht hB r1 r2 e62 hk c k2 sq a1 a2 a3 a5 a4 a4' hR hP hA hw x41 u h7 h8 d1 d2 h18 eld hA1 q386 ea ar hro n12 b18 e128 hNw wr w6 w239 n9 ru tA tW xr hi; lia)))
    have q0 : ∀ r : Nat, r ∉ quL → Nw r = N r := fun r hr => wr r (fun c => hr (by rw [c]; decide)) (fun c => hr (by rw [c]; decide))
    have qf : ∀ i : Int, i ∉ 130 :: qfL → Nw 6 i = N 6 i := fun i hi => w6 i (fun c => hi (by rw [c]; decide))
    have Pw : PLr (up_ M1 0 11 0) Nw := by
      have e1 : swc (up_ M1 0 11 0) = swc M := by
        funext r
        unfold swc
        split
        · exact xr 4 (by decide)
        · split
          · rename_i c
            exact xr _ (fun e => by simp only [xuL, List.mem_cons, List.not_mem_nil, or_false] at e; (clear ht hB r1 r2 e62 hk k2 sq a1 a2 a3 a5 a4 a4' hR hP hA hw x41 u h7 h8 d1 d2 h18 eld hA1 q386 ea ar hro n12 b18 e128 hNw wr w6 w239 n9 ru tA tW xr x0 q0 qf; omega))
          · rfl
      have e2 : tbN Nw = tbN N := by
        funext r
        unfold tbN
        split
        · funext i
          split
          · rename_i hi
            exact w6 i (fun e => by rw [e] at hi; revert hi; decide)
          · rfl
        · split
          · rename_i c c'
            exact wr r c (by (clear ht hB r1 r2 e62 hk k2 sq a1 a2 a3 a5 a4 a4' hR hP hA hw x41 u h7 h8 d1 d2 h18 eld hA1 q386 ea ar hro n12 b18 e128 hNw wr w6 w239 n9 ru tA tW xr x0 q0 qf e1 c; omega))
          · rfl
      unfold PLr; rw [e1, e2]; exact hP
    have ts : TSR (up_ M1 0 11 0) Nw B := by
      rcases ht with ⟨t1, t2⟩ | ⟨n, S⟩
      · omega
      · exact .inr ⟨n, SST_c S (x0 62 (by decide)) (w6 163 (by decide)) (fun r hr k _ _ _ => by rw [xr r (fun c => by revert hr c; simp only [xuL, List.mem_cons, List.not_mem_nil, or_false]; (clear hB r1 r2 e62 hk c k2 sq a1 a2 a3 a5 a4 a4' hR hP hA hw x41 u h7 h8 d1 d2 h18 eld hA1 q386 ea ar hro n12 b18 e128 hNw wr w6 w239 n9 ru tA tW xr x0 q0 qf Pw S; omega))]) (fun r hr => wr r (fun c => by rw [c] at hr; revert hr; decide) (fun c => by rw [c] at hr; revert hr; decide)) (w6 18 (by decide)) ⟨w6 19 (by decide), w6 17 (by decide)⟩ (fun k k0 k1 => pkL_len (PKB_of hP) (S.2.2 k k0 k1).1.1)⟩
    refine ⟨1, up_ M1 0 11 0, Nw, fun Qr Qt g => t_50 fun V hV hW => b_50_0 (Tr_mono _) hV hW _ _ fun _ => ?_, fun Qr Qt g => t_396 fun V hV hW => b_396_0 (Tr_mono _) hV hW _ _ fun _ => ?_, ⟨⟨ru, Pw, tW, by rw [up_at, ← hNw, up_at]⟩, by rw [x0 4 (by decide)]; exact r1, by rw [w6 126 (by decide)]; exact r2⟩, ⟨xr, x0, q0, qf⟩, .inr ?_, ts⟩
    · rw [if_neg (by (clear ht hB r2 e62 hk c k2 sq a1 a2 a3 a5 a4 a4' hR hP hA hw x41 u h7 h8 d1 d2 h18 eld hA1 q386 ea ar hro n12 b18 e128 hNw wr w6 w239 n9 ru tA tW xr x0 q0 qf Pw ts g hV hW; lia)), if_neg (by omega), if_pos (by omega)]
      exact x41 _ _ (rv_i g)
    · rw [if_neg (by omega), if_neg (by omega), if_pos (by omega)]
      refine q386 _ _ (rv_i (q_396v hV hW n12 hro b18 e128 ?_))
      rw [hNw]; exact g
    · rw [upo (by decide), h8]; (clear ht hB r1 r2 e62 hk sq a1 a2 a5 a4 a4' hR hP hA hw x41 u h7 d1 d2 h18 eld hA1 q386 ea ar hro n12 b18 e128 hNw wr w6 w239 n9 ru tA tW xr x0 q0 qf Pw ts; omega)
end FVa
end T420_fv
section T421_tb
/-! X's tokens of a chart: the lemmas of role 2 turned to role 3 (written by mk421.py) -/
section TK
variable {d : Nat} {M : mm_} {K : Int → mm_ → Prop} {Kv : mm_ → Prop} {Qt : qt_}
theorem s_193b {x : Int} (h0 : 0 ≤ x) (hn : M 3 5 ≤ 5000) (h : K (by_ (M 74) (M 3 5) x) M) : Tr_ wd0 pg0 (d + 1) 193 [.inr (.inr 3), .inl x] M (ri_ K) Qt := t_193b fun V hV hW => b_193b_0 (Tr_mono d) hV hW x M (by
  unfold by_ at h
  split
  · rename_i h1
    rw [if_pos h1] at h
    exact ⟨by omega, fun h2 => ri_i (by rw [an255 h2.1 h2.2]; exact h)⟩
  · rename_i h1
    rw [if_neg h1] at h
    exact ri_i h)
end TK
section TK
variable {d : Nat} {K : Int → mm_ → Prop} {Kv : mm_ → Prop} {Qr : qr_} {Qt : qt_} {V : vv_}
theorem l_192b_21 (hV : Cl_ wd0 (Tr_ wd0 pg0 d) V Qr Qt m_192) (hW : Wk_ V) {x1 x2 : Int} : ∀ (k : Nat) (M : mm_), (M 3 5 - M 3 7).toNat ≤ k → 0 ≤ M 3 7 → M 3 5 ≤ 5000 → V 59 [rr 3, ii x1, ii x2] [] (up_ M 3 7 (cm_ (M 74) (M 3 5) (M 3 7))) → V 21 [rr 3, ii x1, ii x2] [] M := by
  intro k
  induction k with
  | zero =>
    intro M hk h0 h5 h
    refine b_192b_21 (Tr_mono d) hV hW x1 x2 M ?_
    rw [if_neg (by omega)]
    unfold cm_ at h
    rw [if_neg (by omega), up_id] at h
    exact h
  | succ k ih =>
    intro M hk h0 h5 h
    refine b_192b_21 (Tr_mono d) hV hW x1 x2 M ?_
    unfold cm_ at h
    split
    · refine ⟨by omega, fun _ => ?_⟩
      split
      · rename_i h1 h9 h2
        rw [if_neg (by omega), up_id] at h
        exact h
      · rename_i h1 h9 h2
        rw [if_pos ⟨h1, h2⟩] at h
        refine ih _ ?_ ?_ ?_ ?_ <;> simp only [ua_, if_true, if_false, reduceIte, Int.reduceEq, Nat.reduceEqDiff] <;> (try rw [w32_id (by omega) (by omega)])
        · (clear hV hW ih h0 h5 h h1 h9; omega)
        · omega
        · omega
        · rw [up_up]; exact h
    · rename_i h1
      rw [if_neg (by omega), up_id] at h
      exact h
theorem l_192b_2 (hV : Cl_ wd0 (Tr_ wd0 pg0 (d + 1)) V Qr Qt m_192) (hW : Wk_ V) : ∀ (k : Nat) (M : mm_), (M 3 5 - M 3 7).toNat < k → 0 ≤ M 3 7 → M 3 7 ≤ M 3 5 → M 3 5 ≤ 5000 → (∀ i, 0 ≤ i → i < 5000 → -128 ≤ M 74 i ∧ M 74 i ≤ 127) → Qr [] (up_ M 3 7 (bk_ (M 74) (M 3 5) (M 3 7))) → V 2 [rr 3, ii 1, none] [] M := by
  intro k
  induction k with
  | zero => intro M hk; (clear hV hW; lia)
  | succ k ih =>
    intro M hk h0 h7 h5 hb h
    have h2out : ∀ M', Qr [] M' → V 2 [rr 3, ii 0, none] [] M' := fun M' h' => b_192b_2 (Tr_mono _) hV hW 0 M' (by rw [if_pos rfl]; exact h')
    refine b_192b_2 (Tr_mono _) hV hW 1 M ?_
    rw [if_neg (by decide)]
    refine s_193b h0 h5 ?_
    unfold by_
    unfold bk_ at h
    by_cases ha : M 3 7 < M 3 5
    · have hb1 := hb (M 3 7) h0 (by omega)
      rw [if_pos ha]
      rw [if_pos ha] at h
      split
      · rename_i h9'
        have h9 : M 74 (M 3 7) = 35 := by (clear hV hW ih hk h0 h7 h5 hb h2out h ha; lia)
        rw [if_pos h9] at h
        have hc : cm_ (M 74) (M 3 5) (M 3 7) = cm_ (M 74) (M 3 5) (M 3 7 + 1) := by
          rw [cm_, if_pos ⟨ha, by (clear hV hW ih hk h0 h7 h5 hb h2out h ha h9; lia)⟩]
        have hg := cm_ge (M 74) (M 3 5) (M 3 7 + 1)
        have hl := cm_le (M 74) (M 3 5) (M 3 7 + 1) (by (clear hV hW ih hk h0 h7 h5 hb h2out h hb1 h9' h9 hc hg; omega))
        refine l_192b_21 hV hW _ M (Nat.le_refl _) h0 h5 ?_
        rw [hc]
        refine b_192b_59 (Tr_mono _) hV hW _ _ _ ?_
        simp only [h9, Int.reduceMod, Int.reduceEq, if_false, if_true, reduceIte]
        refine b_192b_95 (Tr_mono _) hV hW _ _ _ ?_
        have hgo : V 2 [rr 3, ii 1, none] [] (up_ M 3 7 (cm_ (M 74) (M 3 5) (M 3 7 + 1))) := by
          refine ih _ ?_ ?_ ?_ ?_ ?_ ?_ <;> simp only [ua_, if_true, if_false, reduceIte, Int.reduceEq, Nat.reduceEqDiff]
          · (clear hV hW ih h0 h7 h5 hb h2out h hb1 h9' h9 hc; lia)
          · (clear hV hW ih hk h7 h5 hb h2out h ha hb1 h9' h9 hc hl; omega)
          · omega
          · omega
          · exact hb
          · rw [up_up]; exact h
        simp only [Int.reduceEq, if_false, if_true, reduceIte, ite_self]
        exact hgo
      · rename_i h9'
        have h9 : ¬ M 74 (M 3 7) = 35 := by (clear hV hW ih hk h0 h7 h5 hb h2out h ha hb1; lia)
        rw [if_neg h9] at h
        refine b_192b_59 (Tr_mono _) hV hW _ _ _ ?_
        have hgo : M 74 (M 3 7) = 9 ∨ M 74 (M 3 7) = 10 ∨ M 74 (M 3 7) = 13 ∨ M 74 (M 3 7) = 32 → V 95 [rr 3, ii 1, ii (M 74 (M 3 7) % 256)] [] M := by
          intro hx
          rw [if_pos hx] at h
          refine b_192b_95 (Tr_mono _) hV hW _ _ _ ?_
          rw [if_neg (by decide), if_pos ha, if_neg (by omega), w32_id (by omega) (by omega)]
          refine ih _ ?_ ?_ ?_ ?_ ?_ ?_ <;> simp only [ua_, if_true, if_false, reduceIte, Int.reduceEq, Nat.reduceEqDiff]
          · (clear hV hW ih h0 h7 h5 hb h2out h hb1; lia)
          · omega
          · omega
          · omega
          · exact hb
          · rw [up_up]; exact h
        split
        · exact hgo (by (clear hV hW ih hk h0 h7 h5 hb h2out h ha h9' h9 hgo; omega))
        · split
          · exact hgo (by (clear hV hW ih hk h0 h7 h5 hb h2out h ha h9' h9 hgo; lia))
          · split
            · exact hgo (by (clear hV hW ih hk h0 h7 h5 hb h2out h ha h9' h9 hgo; lia))
            · split
              · exact hgo (by omega)
              · rw [if_neg (by (clear hV hW ih hk h0 h7 h5 hb h2out h ha hb1 h9' h9 hgo; lia)), up_id] at h
                refine b_192b_95 (Tr_mono _) hV hW _ _ _ ?_
                rw [if_pos rfl]
                exact h2out _ h
    · rw [if_neg ha] at h ⊢
      rw [if_neg (by decide)]
      rw [up_id] at h
      refine b_192b_59 (Tr_mono _) hV hW _ _ _ ?_
      simp only [Int.reduceNeg, Int.reduceEq, if_false, reduceIte]
      refine b_192b_95 (Tr_mono _) hV hW _ _ _ ?_
      rw [if_pos rfl]
      exact h2out _ h
theorem s_192b {M : mm_} (h0 : 0 ≤ M 3 7) (h7 : M 3 7 ≤ M 3 5) (h5 : M 3 5 ≤ 5000) (hb : ∀ i, 0 ≤ i → i < 5000 → -128 ≤ M 74 i ∧ M 74 i ≤ 127) (h : Kv (up_ M 3 7 (bk_ (M 74) (M 3 5) (M 3 7)))) : Tr_ wd0 pg0 (d + 2) 192 [.inr (.inr 3)] M (rv_ Kv) Qt := t_192b fun V hV hW => b_192b_0 (Tr_mono _) hV hW M (l_192b_2 hV hW _ M (Nat.lt_succ_self _) h0 h7 h5 hb (rv_i h))
end TK
section TV
variable {d : Nat} {M : mm_} {K : Int → mm_ → Prop} {Kv : mm_ → Prop} {Qr : qr_} {Qt : qt_} {V : vv_}
theorem l_196b_5 (hV : Cl_ wd0 (Tr_ wd0 pg0 (d + 1)) V Qr Qt m_196) (hW : Wk_ V) {x1 : Int} (hx : 0 ≤ x1) : ∀ (k : Nat) (M : mm_), (M 3 5 - M 3 7).toNat ≤ k → x1 ≤ M 3 7 → M 3 7 ≤ M 3 5 → M 3 5 ≤ 5000 →
    (ne_ (M 74) (M 3 5) (M 3 7) - x1 ≤ 10 → V 80 [rr 3, ii x1, ii (ne_ (M 74) (M 3 5) (M 3 7) - x1), ii 0, ii 1, none, none, none] [] (up_ M 3 7 (ne_ (M 74) (M 3 5) (M 3 7)))) →
    (10 < ne_ (M 74) (M 3 5) (M 3 7) - x1 → Qr [.inl 103] (up_ M 3 7 (ne_ (M 74) (M 3 5) (M 3 7)))) → V 5 [rr 3, ii x1, none, none, none, none, none, none] [] M := by
  intro k
  induction k with
  | zero =>
    intro M hk h1 h2 h5 ha hb
    have hn : ne_ (M 74) (M 3 5) (M 3 7) = M 3 7 := by
      unfold ne_
      rw [dif_neg (fun h => by have := cd_by h; (clear hV hW hx h1 h2 h5 h; lia))]
    rw [hn, up_id] at ha hb
    have hby : by_ (M 74) (M 3 5) (M 3 7) = -1 := by unfold by_; rw [if_neg (by (clear hV hW hx h2 h5; lia))]
    refine b_196b_5 (Tr_mono _) hV hW x1 M (s_193b (by (clear hV hW hk h2 h5 ha hb hby; lia)) h5 (s_195 ?_))
    rw [hby, if_pos (by decide)]
    refine s_193b (by omega) h5 (s_197 ?_)
    rw [hby, if_pos (by decide)]
    refine s_193b (by omega) h5 ?_
    rw [hby, if_neg (by decide), w32_id (by omega) (by omega)]
    split
    · exact ha (by omega)
    · exact hb (by omega)
  | succ k ih =>
    intro M hk h1 h2 h5 ha hb
    have hgo : 0 < cd_ (by_ (M 74) (M 3 5) (M 3 7)) → V 5 [rr 3, ii x1, none, none, none, none, none, none] [] (up_ M 3 7 (w32 (M 3 7 + 1))) := by
      intro hc
      have hl := cd_by hc
      have hn : ne_ (M 74) (M 3 5) (M 3 7) = ne_ (M 74) (M 3 5) (M 3 7 + 1) := by rw [ne_, dif_pos hc]
      rw [hn] at ha hb
      rw [w32_id (by omega) (by omega)]
      refine ih _ ?_ ?_ ?_ ?_ ?_ ?_ <;> simp only [ua_, if_true, if_false, reduceIte, Int.reduceEq, Nat.reduceEqDiff, up_up]
      · omega
      · (clear hV hW hx ih hk h2 h5 ha hb hc hl hn; omega)
      · (clear hV hW hx ih hk h1 h2 h5 ha hb hc hn; omega)
      · omega
      · exact ha
      · exact hb
    have hnp := @cd_pos (by_ (M 74) (M 3 5) (M 3 7))
    refine b_196b_5 (Tr_mono _) hV hW x1 M (s_193b (by omega) h5 (s_195 ?_))
    split
    · rename_i h6
      refine s_193b (by omega) h5 (s_197 ?_)
      split
      · rename_i h7
        refine s_193b (by omega) h5 ?_
        split
        · rename_i h8
          exact hgo (hnp.mpr (.inr (.inr h8)))
        · rename_i h8
          have hc : ¬ 0 < cd_ (by_ (M 74) (M 3 5) (M 3 7)) := fun h => by have := hnp.mp h; (clear hV hW hx ih hk h1 h2 h5 ha hb hgo hnp h; lia)
          have hn : ne_ (M 74) (M 3 5) (M 3 7) = M 3 7 := by rw [ne_, dif_neg hc]
          rw [hn, up_id] at ha hb
          rw [w32_id (by (clear hV hW hx ih hk h2 h5 ha hb hgo hnp h6 h7 h8 hc; omega)) (by (clear hV hW ih hk h1 ha hb hgo hnp h6 h7 h8 hc; omega))]
          split
          · exact ha (by omega)
          · exact hb (by (clear hV hW hx ih hk h1 h2 h5 ha hb hgo hnp h6 h7 h8 hc; omega))
      · rename_i h7
        exact hgo (hnp.mpr (.inr (.inl (by revert h7; unfold dg_; split <;> simp))))
    · rename_i h6
      exact hgo (hnp.mpr (.inl (by revert h6; unfold sm_; split <;> simp)))
end TV
section TU
variable {d : Nat} {M : mm_} {K : Int → mm_ → Prop} {Kv : mm_ → Prop} {Qr : qr_} {Qt : qt_} {V : vv_}
theorem l_196b_120 (hr : RO_ M) (hV : Cl_ wd0 (Tr_ wd0 pg0 (d + 4)) V Qr Qt m_196) (hW : Wk_ V) {x1 n w k e : Int} (hx : 0 ≤ x1) (hn : x1 + n ≤ 5000) (hw : 0 ≤ w ∧ w < 48) (hk : 1 ≤ k) (he : e < 257) (hen : e - k = n) (h80 : V 80 [rr 3, ii x1, ii n, ii (w + 1), ii (e + 1), none, none, none] [] M ∨ ∀ j, 0 ≤ j → j < n → pAl (k + j) = M 74 (x1 + j)) (hq : (∀ j, 0 ≤ j → j < n → pAl (k + j) = M 74 (x1 + j)) → Qr [.inl w] M) :
    ∀ (c : Nat) (i : Int), (n - i).toNat ≤ c → 0 ≤ i → i ≤ n → (∀ j, 0 ≤ j → j < i → pAl (k + j) = M 74 (x1 + j)) → V 120 [rr 3, ii x1, ii n, ii w, ii k, ii e, ii 1, ii i] [] M := by
  intro c
  induction c with
  | zero =>
    intro i hc h0 hi hj
    have : i = n := by (clear hr hV hW hx hn hw h80 hq hj; omega)
    subst this
    refine b_196b_120 (Tr_mono _) hV hW x1 i w k e 1 i M ?_
    rw [if_neg (by omega), if_neg (by decide)]
    exact hq hj
  | succ c ih =>
    intro i hc h0 hi hj
    refine b_196b_120 (Tr_mono _) hV hW x1 n w k e 1 i M ?_
    by_cases h1 : i < n
    · rw [if_pos h1, if_neg (by decide), w32_id (x := k + i) (by (clear hr hV hW hw he h80 hq ih hc hi hj; lia)) (by omega), w32_id (x := x1 + i) (by omega) (by omega)]
      refine s_425 hr (by (clear hr hV hW hw he h80 hq ih hc hi hj; lia)) (by omega) (pAl_r (by omega) (by omega)) ⟨by omega, fun hb => ?_⟩
      rw [w32_id (x := i + 1) (by omega) (by omega)]
      split
      · rename_i h2
        refine ih _ (by (clear hr hV hW hx hn hw hk he h80 hq ih h0 hi hj h1 hb h2; omega)) (by omega) (by (clear hr hV hW hx hn hw hk he h80 hq ih hc h0 hi hj hb h2; omega)) (fun j h3 h4 => ?_)
        by_cases h5 : j = i
        · subst h5; exact h2
        · exact hj j h3 (by omega)
      · rename_i h2
        refine b_196b_120 (Tr_mono _) hV hW x1 n w k e 0 (i + 1) M ?_
        simp only [if_true, reduceIte, ite_self]
        rw [w32_id (x := w + 1) (by omega) (by (clear hr hV hW hx hn hk he hen h80 hq ih hc h0 hi hj h1 hb h2; omega)), w32_id (x := e + 1) (by (clear hr hV hW hx hn hw he h80 hq ih hc hi hj hb h2; omega)) (by omega)]
        rcases h80 with h80 | h80
        · exact h80
        · exact absurd (h80 i h0 h1) h2
    · have : i = n := by (clear hr hV hW hx hn hw hk he h80 hq ih hc h0 hj; omega)
      subst this
      rw [if_neg (by omega), if_neg (by decide)]
      exact hq hj
theorem l_196b_80 (hr : RO_ M) (hV : Cl_ wd0 (Tr_ wd0 pg0 (d + 4)) V Qr Qt m_196) (hW : Wk_ V) {x1 n : Int} (hx : 0 ≤ x1) (h0 : 0 < n) (hn : x1 + n ≤ 5000) (hf : ∀ i, x1 ≤ i → i < x1 + n → 0 < cd_ (M 74 i % 256)) (hb : ∀ i, x1 ≤ i → i < x1 + n → -128 ≤ M 74 i ∧ M 74 i ≤ 127) :
    ∀ (c w : Nat), w + c = 48 → Qr [.inl (if pWi (hs_ (M 74) x1 n.toNat) c w < 48 then (pWi (hs_ (M 74) x1 n.toNat) c w : Int) else 100)] M → V 80 [rr 3, ii x1, ii n, ii (w : Int), ii (pWp w), none, none, none] [] M := by
  intro c
  induction c with
  | zero =>
    intro w hw h
    have hw : w = 48 := by omega
    subst hw
    refine b_196b_80 (Tr_mono _) hV hW x1 n _ _ M (s_420a hr ?_)
    have : pWp 48 = 257 := by decide
    rw [this, if_neg (by decide)]
    exact h
  | succ c ih =>
    intro w hw h
    have hw8 : w < 48 := by omega
    have hl := w_len hw8
    have hi := w_is hw8 (Int.le_of_lt h0) hf hb
    unfold pWi at h
    refine b_196b_80 (Tr_mono _) hV hW x1 n _ _ M (s_420a hr ?_)
    rw [if_pos (by omega)]
    refine s_422a hr (e := pWp (w + 1) - 1) (by omega) (by omega) (by omega) (w_no32 hw8) hl.2.2.2.1 ?_
    rw [w32_id (by omega) (by omega)]
    have hnext : pWh w ≠ hs_ (M 74) x1 n.toNat → V 80 [rr 3, ii x1, ii n, ii ((w : Int) + 1), ii (pWp (w + 1) - 1 + 1), none, none, none] [] M := by
      intro hne
      rw [if_neg hne] at h
      have := ih (w + 1) (by omega) h
      have h9 : pWp (w + 1) - 1 + 1 = pWp (w + 1) := by (clear hr hV hW hx h0 hn hf hb ih hw hw8 hl hi h hne this; lia)
      rw [h9]
      exact this
    split
    · rename_i h1
      refine l_196b_120 hr hV hW hx hn (by omega) (by omega) (by omega) h1 ?_ ?_ _ 0 (Nat.le_refl _) (by omega) (by omega) (fun j h3 h4 => by omega)
      · by_cases h2 : pWh w = hs_ (M 74) x1 n.toNat
        · exact .inr (hi.mp h2).2
        · exact .inl (hnext h2)
      · intro h2
        rw [if_pos (hi.mpr ⟨h1, h2⟩), if_pos hw8] at h
        exact h
    · rename_i h1
      have hne : pWh w ≠ hs_ (M 74) x1 n.toNat := fun h2 => h1 (hi.mp h2).1
      refine b_196b_120 (Tr_mono _) hV hW x1 n _ _ _ 0 0 M ?_
      simp only [if_true, reduceIte, ite_self]
      rw [w32_id (by omega) (by omega), w32_id (by omega) (by omega)]
      exact hnext hne
end TU
section TX
variable {d : Nat} {M : mm_} {K : Int → mm_ → Prop} {Kv : mm_ → Prop} {Qr : qr_} {Qt : qt_} {V : vv_}
theorem s_196b (hr : RO_ M) (h0 : 0 ≤ M 3 7) (h5 : M 3 5 ≤ 5000) (hb : ∀ i, 0 ≤ i → i < 5000 → -128 ≤ M 74 i ∧ M 74 i ≤ 127) (hc : 0 < cd_ (by_ (M 74) (M 3 5) (M 3 7))) (h : K (wk_ (M 74) (M 3 7) (ne_ (M 74) (M 3 5) (M 3 7))) (up_ M 3 7 (ne_ (M 74) (M 3 5) (M 3 7)))) : Tr_ wd0 pg0 (d + 5) 196 [.inr (.inr 3)] M (ri_ K) Qt := t_196b fun V hV hW => b_196b_0 (Tr_mono _) hV hW M (by
  have hl := cd_by hc
  have hg : M 3 7 + 1 ≤ ne_ (M 74) (M 3 5) (M 3 7) := by
    rw [ne_, dif_pos hc]; exact ne_ge _ _ _
  have hle := ne_le (M 74) (M 3 5) (M 3 7) (by omega)
  have hin := ne_in (M 74) (M 3 5) (M 3 7)
  unfold wk_ at h
  refine l_196b_5 hV hW h0 _ M (Nat.le_refl _) (by omega) (by omega) h5 (fun h10 => ?_) (fun h10 => ?_)
  · rw [if_pos h10] at h
    have hM : (up_ M 3 7 (ne_ (M 74) (M 3 5) (M 3 7))) 74 = M 74 := up_ne (by decide)
    have hw : pWp 0 = 1 := by decide
    have := l_196b_80 (RO_up hr (by decide)) hV hW (M := up_ M 3 7 (ne_ (M 74) (M 3 5) (M 3 7))) (x1 := M 3 7) (n := ne_ (M 74) (M 3 5) (M 3 7) - M 3 7) h0 (by (clear hr h0 h5 hb hc h hV hW hl hle hin hM hw; omega)) (by omega) (fun i h1 h2 => by rw [hM]; exact (hin i h1 (by omega)).1) (fun i h1 h2 => by rw [hM]; exact hb i (by (clear hr h5 hb hc h hV hW hl hg hle hin h10 hM hw h2; omega)) (by (clear hr hb hc h hV hW hl hin hM hw h1; omega))) 48 0 rfl (by rw [hM]; exact ri_i h)
    rw [hw] at this
    exact this
  · rw [if_neg (by (clear hr h0 h5 hb hc h hV hW hl hg hle hin; omega))] at h
    exact ri_i h)
end TX
section TN
variable {d : Nat} {M : mm_} {K : Int → mm_ → Prop} {Kv : mm_ → Prop} {Qr : qr_} {Qt : qt_} {V : vv_}
theorem l_198b (hV : Cl_ wd0 (Tr_ wd0 pg0 (d + 1)) V Qr Qt m_198) (hW : Wk_ V) {x1 : Int} (hx : 0 ≤ x1) : ∀ (k : Nat) (M : mm_), (M 3 5 - M 3 7).toNat < k → x1 ≤ M 3 7 → M 3 7 ≤ M 3 5 → M 3 5 ≤ 5000 → 0 ≤ M 3 6 → M 3 6 < 1202 →
    (∀ i, x1 ≤ i → i < M 3 7 → dg_ (M 74 i % 256) = 1) →
    Qr [.inl (uk_ (M 74) (M 3 5) x1 (ue_ (M 74) (M 3 5) (M 3 7)))] (up_ (up_ M 3 7 (ue_ (M 74) (M 3 5) (M 3 7))) 78 (M 3 6) (uv_ (M 74) x1 (ue_ (M 74) (M 3 5) (M 3 7) - x1).toNat)) → V 7 [rr 3, ii x1, ii (uv_ (M 74) x1 (M 3 7 - x1).toNat)] [] M := by
  intro k
  induction k with
  | zero => intro M hk; (clear hV hW hx; lia)
  | succ k ih =>
    intro M hk h1 h2 h5 h6 h7 hd h
    refine b_198b_7 (Tr_mono _) hV hW x1 _ M (s_193b (by omega) h5 (s_197 ?_))
    rcases dg01 (by_ (M 74) (M 3 5) (M 3 7)) with h8 | h8
    · have hn : ue_ (M 74) (M 3 5) (M 3 7) = M 3 7 := by rw [ue_, dif_neg (by (clear hV hW hx ih hk h1 h2 h5 h6 h7 hd h; lia))]
      rw [hn, up_id] at h
      rw [if_pos h8]
      refine ⟨⟨h6, h7⟩, ?_⟩
      rw [w32_id (by (clear hV hW hx ih hk h2 h5 h6 h7 hd h h8; lia)) (by (clear hV hW ih hk h1 h6 h7 hd h h8; lia))]
      unfold uk_ at h
      have hcp := @cd_pos (by_ (M 74) (M 3 5) (M 3 7))
      have e5 : ∀ v, (up_ M 78 (M 3 6) v) 3 = M 3 := fun v => up_ne (by decide)
      have e9 : ∀ v, (up_ M 78 (M 3 6) v) 74 = M 74 := fun v => up_ne (by decide)
      split
      · rename_i h9
        rw [if_pos h9] at h
        refine s_193b (by omega) (by rw [e5]; exact h5) (s_195 ?_)
        rw [e5, e9]
        rcases sm01 (by_ (M 74) (M 3 5) (M 3 7)) with h10 | h10
        · rw [if_pos h10]
          refine s_193b (by (clear hV hW ih hk h2 h5 h6 h7 hd h h8 hcp e5 e9 h10; lia)) (by rw [e5]; exact h5) ?_
          rw [e5, e9]
          split
          · rename_i h11
            rw [if_pos (hcp.mpr (.inr (.inr h11)))] at h
            exact h
          · rename_i h11
            rw [if_neg (fun hc => by have := hcp.mp hc; (clear hV hW hx ih hk h1 h2 h5 h6 h7 hd h hn hcp e5 e9 h9 hc; lia))] at h
            exact h
        · rw [if_neg (by omega)]
          rw [if_pos (hcp.mpr (.inl h10))] at h
          exact h
      · rename_i h9
        rw [if_neg h9] at h
        exact h
    · have hl := dg_by h8
      have hn : ue_ (M 74) (M 3 5) (M 3 7) = ue_ (M 74) (M 3 5) (M 3 7 + 1) := by rw [ue_, dif_pos h8]
      rw [hn] at h
      rw [if_neg (by omega)]
      have h8' := h8
      unfold by_ at h8'
      rw [if_pos hl] at h8'
      have hdr : 48 ≤ M 74 (M 3 7) % 256 ∧ M 74 (M 3 7) % 256 ≤ 57 := by
        unfold dg_ at h8'
        split at h8'
        · assumption
        · omega
      have hm : (M 3 7 + 1 - x1).toNat = (M 3 7 - x1).toNat + 1 := by (clear hV hW hx ih hk h2 h5 h6 h7 hd h h8 hl hn h8' hdr; lia)
      have hcast : (((M 3 7 - x1).toNat : Nat) : Int) = M 3 7 - x1 := by omega
      have hv := uv_r (f := M 74) (a := x1) (M 3 7 - x1).toNat (fun j hj => hd _ (by omega) (by (clear hV hW hx ih hk h1 h2 h5 h6 h7 hd h h8 hl hn h8' hdr hm; omega)))
      have hgo : V 7 [rr 3, ii x1, ii (uv_ (M 74) x1 (M 3 7 + 1 - x1).toNat)] [] (up_ M 3 7 (w32 (M 3 7 + 1))) := by
        rw [w32_id (by omega) (by omega)]
        have := ih (up_ M 3 7 (M 3 7 + 1))
        simp only [ua_, if_true, if_false, reduceIte, Int.reduceEq, Nat.reduceEqDiff, up_up] at this
        refine this (by (clear hV hW hx ih h2 hd h h8 hn h8' hdr hm hv; lia)) (by (clear hV hW hx ih hk h2 h5 h6 h7 hd h h8 hl hn h8' hdr hm hv this; omega)) (by omega) h5 h6 h7 (fun i h9 h10 => ?_) h
        by_cases h11 : i = M 3 7
        · rw [h11]; exact h8'
        · exact hd i h9 (by (clear hV hW hx ih hk h1 h2 h5 h6 h7 hd h h8 hl hn h8' hdr hm hcast hv this h9; lia))
      rw [hm] at hgo
      unfold uv_ at hgo
      rw [w32_id (x := M 3 7 - x1) (by (clear hV hW hx ih hk h2 h5 h6 h7 hd h h8 hl hn h8' hdr hm hv hgo; omega)) (by (clear hV hW ih hk h1 h2 h6 h7 hd h h8 hn h8' hdr hm hv hgo; omega))]
      split
      · rename_i h9
        rw [if_pos (by (clear hV hW hx ih hk h2 h5 h6 h7 hd h h8 hl hn h8' hdr hm hv hgo; omega)), hcast] at hgo
        refine s_193b (by (clear hV hW ih hk h2 h5 h6 h7 hd h h8 hl hn h8' hdr hm hv hgo; omega)) h5 ?_
        have hby : by_ (M 74) (M 3 5) (M 3 7) = M 74 (M 3 7) % 256 := by unfold by_; rw [if_pos hl]
        rw [hby]
        have hx1 : x1 + (M 3 7 - x1) = M 3 7 := by (clear hV hW hx ih hk h1 h2 h5 h6 h7 hd h h8 hl hn h8' hdr hm hcast hv hgo h9 hby; lia)
        rw [hx1] at hgo
        have hp : (10 : Int) ^ (min (M 3 7 - x1).toNat 9) ≤ 100000000 := (by decide : ∀ m : Fin 9, (10 : Int) ^ m.val ≤ 100000000) ⟨min (M 3 7 - x1).toNat 9, by omega⟩
        have hw : w32 (w32 (w32 (10 * uv_ (M 74) x1 (M 3 7 - x1).toNat) + M 74 (M 3 7) % 256) - 48) = 10 * uv_ (M 74) x1 (M 3 7 - x1).toNat + (M 74 (M 3 7) % 256 - 48) := by
          unfold w32; (clear hV hW hx ih hk h1 h2 h5 h6 h7 hd h h8 hl hn h8' hm hcast hgo h9 hx1; omega)
        rw [hw]
        exact hgo
      · rename_i h9
        rw [if_neg (by omega)] at hgo
        exact hgo
theorem s_198b (h0 : 0 ≤ M 3 7) (h2 : M 3 7 ≤ M 3 5) (h5 : M 3 5 ≤ 5000) (h6 : 0 ≤ M 3 6) (h7 : M 3 6 < 1202) (h : K (uk_ (M 74) (M 3 5) (M 3 7) (ue_ (M 74) (M 3 5) (M 3 7))) (up_ (up_ M 3 7 (ue_ (M 74) (M 3 5) (M 3 7))) 78 (M 3 6) (uv_ (M 74) (M 3 7) (ue_ (M 74) (M 3 5) (M 3 7) - M 3 7).toNat))) : Tr_ wd0 pg0 (d + 2) 198 [.inr (.inr 3)] M (ri_ K) Qt := t_198b fun V hV hW => b_198b_0 (Tr_mono _) hV hW M (by
  have := l_198b hV hW h0 _ M (Nat.lt_succ_self _) (Int.le_refl _) h2 h5 h6 h7 (fun i h8 h9 => by omega) (ri_i h)
  have h8 : (M 3 7 - M 3 7).toNat = 0 := by (clear h0 h2 h5 h6 h7 h hV hW this; lia)
  rw [h8] at this
  exact this)
end TN
def tkmB (M : mm_) : mm_ := if dg_ (by_ (M 74) (M 3 5) (M 3 7)) = 1 then up_ (up_ M 3 7 (tkk_ (M 74) (M 3 5) (M 3 7)).2) 78 (M 3 6) (uv_ (M 74) (M 3 7) (ue_ (M 74) (M 3 5) (M 3 7) - M 3 7).toNat) else up_ M 3 7 (tkk_ (M 74) (M 3 5) (M 3 7)).2
section TK5
variable {d : Nat} {M : mm_} {K : Int → mm_ → Prop} {Kv : mm_ → Prop} {Qr : qr_} {Qt : qt_} {V : vv_}
theorem l_194b_164 (hr : RO_ M) (hV : Cl_ wd0 (Tr_ wd0 pg0 (d + 5)) V Qr Qt m_194) (hW : Wk_ V) {c e : Int} (h0 : 0 ≤ c) (h1 : c ≤ 255) (h7 : 0 ≤ M 3 7) (h8 : M 3 7 ≤ 5001) (h : tw_ c e = -1 → Qr [.inl (if c ∈ sgL then 200 + c else 103)] M) (h2 : tw_ c e ≠ -1 → Qr [.inl (tw_ c e)] (up_ M 3 7 (M 3 7 + 1))) : V 164 [rr 3, ii c, ii e, ii (tw_ c e), none] [] M := by
  refine b_194b_164 (Tr_mono _) hV hW c e _ M ?_
  split
  · rename_i h3
    have hic : ic_ c = c := by unfold ic_; (clear hr hV hW h7 h8 h h2 h3; lia)
    rw [hic]
    refine s_427 hr h0 h1 (fun v hv => ?_)
    have := h h3
    split
    · rename_i h4
      rw [if_neg (hv.mp h4)] at this
      exact this
    · rename_i h4
      rw [if_pos (Classical.byContradiction fun h5 => h4 (hv.mpr h5))] at this
      rw [w32_id (by omega) (by omega)]
      exact this
  · rename_i h3
    rw [w32_id (by omega) (by omega)]
    exact h2 h3
theorem l_194b_two (hV : Cl_ wd0 (Tr_ wd0 pg0 (d + 5)) V Qr Qt m_194) (hW : Wk_ V) {c e : Int} (h : V 164 [rr 3, ii c, ii e, ii (tw_ c e), none] [] M) : (if c = 58 then
         (if e = 61 then
          V 164 [rr 3, ii c, ii e, ii 110, none] [] M
         else
          (if c = 47 then
           (if e = 61 then
            V 164 [rr 3, ii c, ii e, ii 111, none] [] M
           else
            V 94 [rr 3, ii c, ii e, none, none] [] M)
          else
           V 94 [rr 3, ii c, ii e, none, none] [] M))
        else
         (if c = 47 then
          (if e = 61 then
           V 164 [rr 3, ii c, ii e, ii 111, none] [] M
          else
           V 94 [rr 3, ii c, ii e, none, none] [] M)
         else
          V 94 [rr 3, ii c, ii e, none, none] [] M)) := by
  unfold tw_ at h
  have h128 : ¬ (c = 58 ∧ e = 61) → ¬ (c = 47 ∧ e = 61) → ¬ (c = 60 ∧ e = 61) → ¬ (c = 62 ∧ e = 61) → V 128 [rr 3, ii c, ii e, none, none] [] M := by
    intro h1 h2 h3 h4
    rw [if_neg h1, if_neg h2, if_neg h3, if_neg h4] at h
    refine b_194b_128 (Tr_mono _) hV hW c e M ?_
    by_cases h5 : c = 45 <;> by_cases h6 : c = 46 <;> by_cases h7 : e = 62 <;> by_cases h8 : e = 46 <;> simp_all
  have h94 : ¬ (c = 58 ∧ e = 61) → ¬ (c = 47 ∧ e = 61) → V 94 [rr 3, ii c, ii e, none, none] [] M := by
    intro h1 h2
    rw [if_neg h1, if_neg h2] at h
    refine b_194b_94 (Tr_mono _) hV hW c e M ?_
    by_cases h5 : c = 60 <;> by_cases h6 : c = 62 <;> by_cases h7 : e = 61 <;> simp_all
  by_cases h5 : c = 58 <;> by_cases h6 : c = 47 <;> by_cases h7 : e = 61 <;> simp_all
theorem s_194b (hr : RO_ M) (h0 : 0 ≤ M 3 7) (h2 : M 3 7 ≤ M 3 5) (h5 : M 3 5 ≤ 5000) (h6 : 0 ≤ M 3 6) (h7 : M 3 6 < 1202) (hb : ∀ i, 0 ≤ i → i < 5000 → -128 ≤ M 74 i ∧ M 74 i ≤ 127) (h : K (tkk_ (M 74) (M 3 5) (M 3 7)).1 (tkmB M)) : Tr_ wd0 pg0 (d + 6) 194 [.inr (.inr 3)] M (ri_ K) Qt := t_194b fun V hV hW => b_194b_0 (Tr_mono _) hV hW M (s_193b h0 h5 (by
  unfold tkmB at h
  have ht : tkk_ (M 74) (M 3 5) (M 3 7) = tkk_ (M 74) (M 3 5) (M 3 7) := rfl
  conv at ht => rhs; unfold tkk_
  by_cases h1 : M 3 7 < M 3 5
  · have hby : by_ (M 74) (M 3 5) (M 3 7) = M 74 (M 3 7) % 256 := by unfold by_; rw [if_pos h1]
    rw [if_neg (show ¬ by_ (M 74) (M 3 5) (M 3 7) = -1 by (clear hr h0 h2 h5 h6 h7 hb h hV hW ht h1; lia))]
    rw [if_neg (by omega)] at ht
    refine s_195 ?_
    rcases sm01 (by_ (M 74) (M 3 5) (M 3 7)) with h8 | h8
    · rw [if_pos h8]
      rw [if_neg (by (clear hr h0 h2 h5 h6 h7 hb h hV hW ht h1 hby; lia))] at ht
      refine s_197 ?_
      rcases dg01 (by_ (M 74) (M 3 5) (M 3 7)) with h9 | h9
      · rw [if_pos h9]
        rw [if_neg (by (clear hr h0 h2 h5 h6 h7 hb h hV hW ht h1 hby h8; lia))] at ht
        rw [if_neg (by omega)] at h
        rw [w32_id (by omega) (by omega)]
        have e7 : ∀ v, (up_ M 3 7 v) 3 7 = v := fun v => up_at
        have e5 : ∀ v, (up_ M 3 7 v) 3 5 = M 3 5 := fun v => up_off (by decide)
        have e9 : ∀ v, (up_ M 3 7 v) 74 = M 74 := fun v => up_ne (by decide)
        refine s_193b (by (clear hr h2 h5 h6 h7 hb h hV hW ht h1 hby h8 h9 e7 e5 e9; lia)) (by rw [e5]; exact h5) ?_
        rw [e5, e9]
        refine l_194b_two hV hW (l_194b_164 (RO_up hr (by decide)) hV hW (by (clear hr h0 h2 h5 h6 h7 hb h hV hW ht h1 h8 h9 e7 e5 e9; lia)) (by (clear hr h0 h2 h5 h6 h7 hb h hV hW ht h1 h8 h9 e7 e5 e9; lia)) (by rw [e7]; omega) (by rw [e7]; omega) (fun h10 => ?_) (fun h10 => ?_))
        · rw [if_pos h10] at ht
          rw [ht] at h
          exact ri_i h
        · rw [if_neg h10] at ht
          rw [ht] at h
          rw [e7, up_up]
          have : M 3 7 + 1 + 1 = M 3 7 + 2 := by omega
          rw [this]
          exact ri_i h
      · rw [if_neg (by (clear hr h0 h2 h5 h6 h7 hb h hV hW ht h1 hby h8; lia))]
        rw [if_pos h9] at ht
        rw [if_pos h9, ht] at h
        exact s_198b h0 h2 h5 h6 h7 (ri_i h)
    · rw [if_neg (by (clear hr h0 h2 h5 h6 h7 hb h hV hW ht h1 hby; lia))]
      have h9 : dg_ (by_ (M 74) (M 3 5) (M 3 7)) = 0 := by
        unfold sm_ at h8
        unfold dg_
        split at h8
        · rw [if_neg (by (clear hr h0 h2 h5 h6 h7 hb h hV hW ht h1 h8; lia))]
        · (clear hr h0 h2 h5 h6 h7 hb h hV hW ht h1 hby; omega)
      rw [if_pos h8] at ht
      rw [if_neg (by omega), ht] at h
      exact s_196b hr h0 h5 hb (cd_pos.mpr (.inl h8)) (ri_i h)
  · have hby : by_ (M 74) (M 3 5) (M 3 7) = -1 := by unfold by_; rw [if_neg h1]
    rw [if_pos hby]
    rw [if_pos h1] at ht
    rw [ht, hby, if_neg (by decide), up_id] at h
    exact ri_i h))
end TK5
section AL
variable {d : Nat} {M : mm_} {K : Int → mm_ → Prop} {Kv : mm_ → Prop} {Qr : qr_} {Qt : qt_} {V : vv_}
theorem l_199b (hV : Cl_ wd0 (Tr_ wd0 pg0 d) V Qr Qt m_199) (hW : Wk_ V) {x y : Int} (hx : 0 ≤ x ∧ x < 1202) (hy : 0 ≤ y ∧ y < 1202) (h1 : 0 ≤ M 76 x) (h2 : M 76 x ≤ M 77 x) (h3 : M 77 x ≤ 5000) (h4 : 0 ≤ M 76 y) (h5 : M 76 y ≤ M 77 y) (h6 : M 77 y ≤ 5000) (he : M 77 x - M 76 x = M 77 y - M 76 y)
    (ht : (∀ j, 0 ≤ j → j < M 77 x - M 76 x → M 74 (M 76 x + j) = M 74 (M 76 y + j)) → Qr [.inl 1] M) (hf : (¬ ∀ j, 0 ≤ j → j < M 77 x - M 76 x → M 74 (M 76 x + j) = M 74 (M 76 y + j)) → Qr [.inl 0] M) :
    ∀ (c : Nat) (k : Int), (M 77 x - M 76 x - k).toNat ≤ c → 0 ≤ k → k ≤ M 77 x - M 76 x → (∀ j, 0 ≤ j → j < k → M 74 (M 76 x + j) = M 74 (M 76 y + j)) → V 38 [rr 3, ii x, ii y, ii 1, ii k] [] M := by
  intro c
  induction c with
  | zero =>
    intro k hc h0 hk hj
    refine b_199b_38 (Tr_mono _) hV hW x y 1 k M ⟨hx, hx, ?_⟩
    rw [w32_id (by (clear hV hW hx hy h1 h3 h4 h5 h6 ht hf hc h0 hk hj; omega)) (by omega), if_neg (by (clear hV hW hx hy h4 h5 h6 ht hf hk hj; lia))]
    exact ⟨.inr rfl, ht (fun j h7 h8 => hj j h7 (by (clear hV hW hx hy h4 h5 h6 ht hf hj h7; omega)))⟩
  | succ c ih =>
    intro k hc h0 hk hj
    refine b_199b_38 (Tr_mono _) hV hW x y 1 k M ⟨hx, hx, ?_⟩
    rw [w32_id (by (clear hV hW hx hy h1 h3 h4 h5 h6 ht hf ih hc h0 hk hj; lia)) (by (clear hV hW hx hy h2 h4 h5 h6 ht hf ih hc h0 hk hj; omega))]
    by_cases h7 : k < M 77 x - M 76 x
    · rw [if_pos h7, if_neg (by decide), w32_id (x := M 76 x + k) (by (clear hV hW hx hy h2 h3 h4 h5 h6 ht hf ih hc hk hj h7; lia)) (by omega), w32_id (x := M 76 y + k) (by (clear hV hW hx hy h1 h2 h3 h5 h6 he ht hf ih hc hk hj h7; lia)) (by (clear hV hW hx hy h5 ht hf ih hc h0 hk hj; omega)), w32_id (x := k + 1) (by omega) (by omega)]
      refine ⟨hx, by omega, fun _ => ⟨hy, by (clear hV hW hx hy h5 ht hf ih hc hk hj; omega), fun _ => ?_⟩⟩
      by_cases h8 : M 74 (M 76 x + k) = M 74 (M 76 y + k)
      · rw [if_pos h8]
        refine ih _ (by omega) (by omega) (by omega) (fun j h9 h10 => ?_)
        by_cases h11 : j = k
        · rw [h11]; exact h8
        · exact hj j h9 (by (clear hV hW hx hy h1 h2 h3 h4 h5 h6 he ht hf ih hc h0 hk hj h7 h8 h9; omega))
      · rw [if_neg h8]
        refine b_199b_38 (Tr_mono _) hV hW x y 0 (k + 1) M ⟨hx, hx, ?_⟩
        have hq := hf (fun h9 => h8 (h9 k h0 h7))
        rw [if_pos rfl]
        split
        · exact ⟨.inl rfl, hq⟩
        · exact ⟨.inl rfl, hq⟩
    · rw [if_neg h7]
      exact ⟨.inr rfl, ht (fun j h8 h9 => hj j h8 (by (clear hV hW hx hy h1 h2 h3 h4 h5 h6 ht hf ih hc h0 hj h8; omega)))⟩
theorem s_199b {x y : Int} (hx : 0 ≤ x ∧ x < 1202) (hy : 0 ≤ y ∧ y < 1202) (h1 : 0 ≤ M 76 x) (h2 : M 76 x ≤ M 77 x) (h3 : M 77 x ≤ 5000) (h4 : 0 ≤ M 76 y) (h5 : M 76 y ≤ M 77 y) (h6 : M 77 y ≤ 5000)
    (ht : M 77 x - M 76 x = M 77 y - M 76 y → (∀ j, 0 ≤ j → j < M 77 x - M 76 x → M 74 (M 76 x + j) = M 74 (M 76 y + j)) → K 1 M) (hf : ¬ (M 77 x - M 76 x = M 77 y - M 76 y ∧ ∀ j, 0 ≤ j → j < M 77 x - M 76 x → M 74 (M 76 x + j) = M 74 (M 76 y + j)) → K 0 M) : Tr_ wd0 pg0 (d + 1) 199 [.inr (.inr 3), .inl x, .inl y] M (ri_ K) Qt := t_199b fun V hV hW => b_199b_0 (Tr_mono _) hV hW x y M (by
  refine ⟨hx, hx, hy, hy, ?_⟩
  rw [w32_id (by omega) (by omega), w32_id (by omega) (by omega)]
  by_cases he : M 77 x - M 76 x = M 77 y - M 76 y
  · rw [if_pos he]
    exact l_199b hV hW hx hy h1 h2 h3 h4 h5 h6 he (fun h => ri_i (ht he h)) (fun h => ri_i (hf (fun h9 => h h9.2))) _ 0 (Nat.le_refl _) (by omega) (by omega) (fun j h7 h8 => by omega)
  · rw [if_neg he]
    refine b_199b_38 (Tr_mono _) hV hW x y 0 0 M ⟨hx, hx, ?_⟩
    have hq : ri_ K [.inl 0] M := ri_i (hf (fun h9 => he h9.1))
    rw [if_pos rfl]
    split
    · exact ⟨.inl rfl, hq⟩
    · exact ⟨.inl rfl, hq⟩)
end AL
section RD
variable {d : Nat} {M : mm_} {K : Int → mm_ → Prop} {Kv : mm_ → Prop} {Qr : qr_} {Qt : qt_} {V : vv_}
theorem l_191b_2 (hV : Cl_ wd0 (Tr_ wd0 pg0 d) V Qr Qt m_191) (hW : Wk_ V) {n : Int} (hn : n ≤ 5000) (hb : ∀ i, 0 ≤ i → i < 5000 → -128 ≤ M 9 i ∧ M 9 i ≤ 127)
    (h : V 39 [rr 3, rr 9, ii n, ii 1] [] (up_ (up_ (up_ (wr_ M 74 (cp_ (M 9) (M 74) n)) 3 5 n) 3 6 0) 3 7 0)) : ∀ (c : Nat) (k : Int), (n - k).toNat ≤ c → 0 ≤ k → k ≤ n → V 2 [rr 3, rr 9, ii n, ii k] [] (wr_ M 74 (cp_ (M 9) (M 74) k)) := by
  intro c
  induction c with
  | zero =>
    intro k hc h0 hk
    have : k = n := by omega
    subst this
    refine b_191b_2 (Tr_mono _) hV hW k k _ ?_
    rw [if_neg (by (clear hV hW hb h0 hn h hc hk; lia))]
    exact h
  | succ c ih =>
    intro k hc h0 hk
    refine b_191b_2 (Tr_mono _) hV hW n k _ ?_
    by_cases h1 : k < n
    · rw [if_pos h1]
      have e9 : (wr_ M 74 (cp_ (M 9) (M 74) k)) 9 = M 9 := wr_ne (by decide)
      rw [e9]
      refine ⟨by omega, fun h2 => ⟨⟨by (clear hV hW hb h ih hc hk e9 h2; omega), h2⟩, ?_⟩⟩
      rw [up_wr, cp_su h0, w32_id (by omega) (by omega)]
      exact ih (k + 1) (by (clear hV hW hn hb h ih h0 hk h1 e9 h2; omega)) (by omega) (by omega)
    · rw [if_neg h1]
      have : k = n := by omega
      subst this
      exact h
end RD
def TXB (M : mm_) (f : Int → Int) (n : Int) (m : Nat) : Prop := ∀ i : Nat, i < m → M 76 i = ps_ f n i ∧ M 75 i = kd_ f n i ∧ M 77 i = en9_ f n i ∧ (dg_ (by_ f n (ps_ f n i)) = 1 → M 78 i = uv_ f (ps_ f n i) (ue_ f n (ps_ f n i) - ps_ f n i).toNat)
section RD
variable {d : Nat} {K : Int → mm_ → Prop} {Kv : mm_ → Prop} {Qr : qr_} {Qt : qt_} {V : vv_}
theorem l_191b_39 (hV : Cl_ wd0 (Tr_ wd0 pg0 (d + 6)) V Qr Qt m_191) (hW : Wk_ V) {n : Int} {f : Int → Int} {M0 : mm_} (hn0 : 0 ≤ n) (hn : n ≤ 5000) (hb : ∀ i, 0 ≤ i → i < 5000 → -128 ≤ f i ∧ f i ≤ 127)
    (hq : ∀ M' (m : Nat), Fr_ [3, 75, 76, 77, 78] M0 M' → M' 3 5 = n → TXB M' f n m → (∀ j : Nat, j + 1 < m → kd_ f n j ≠ 102) → 1 ≤ m → m ≤ 1202 → (kd_ f n (m - 1) = 102 ∨ m = 1202) → Qr [] M') :
    ∀ (c m : Nat) (M : mm_), 1202 - m ≤ c → m ≤ 1201 → Fr_ [3, 75, 76, 77, 78] M0 M → M 3 6 = m → M 3 5 = n → M 74 = f → RO_ M → 0 ≤ M 3 7 → M 3 7 ≤ n → bk_ f n (M 3 7) = ps_ f n m → TXB M f n m → (∀ j : Nat, j < m → kd_ f n j ≠ 102) → V 39 [rr 3, rr 9, ii n, ii 1] [] M := by
  intro c
  induction c with
  | zero => intro m M h1 h2; (clear hV hW hn0 hn hb hq; omega)
  | succ c ih =>
    intro m M hc hm hF h6 h5 h69 hr h7 h7n hps hT hk
    subst h69
    have hpr := ps_r (M 74) n hn0 m
    have hte := tk_end (f := M 74) hpr.2
    refine b_191b_39 (Tr_mono _) hV hW n 1 M ?_
    rw [if_neg (by decide)]
    refine s_192b h7 (by omega) (by omega) hb ?_
    rw [h5, hps]
    -- memory behind the blanks
    generalize hM1 : up_ M 3 7 (ps_ (M 74) n m) = M1
    have a26 : M1 3 6 = m := by rw [← hM1, up_off (by decide)]; exact h6
    have a25 : M1 3 5 = n := by rw [← hM1, up_off (by decide)]; exact h5
    have a27 : M1 3 7 = ps_ (M 74) n m := by rw [← hM1, up_at]
    have ane : ∀ r, r ≠ 3 → M1 r = M r := fun r h => by rw [← hM1, up_ne h]
    rw [a26, a27]
    refine ⟨by (clear hV hW hn0 hn hc hF h5 hr h7 h7n hb hq ih hps hT hk hpr hte hM1 a25 a27 ane; lia), ?_⟩
    generalize hM2 : up_ M1 76 (m : Int) (ps_ (M 74) n m) = M2
    have b2 : M2 3 = M1 3 := by rw [← hM2, up_ne (by decide)]
    have b71 : M2 76 m = ps_ (M 74) n m := by rw [← hM2, up_at]
    have b71' : ∀ i, i ≠ (m : Int) → M2 76 i = M 76 i := fun i h => by rw [← hM2, up_off h, ane 76 (by decide)]
    have bne : ∀ r, r ≠ 3 → r ≠ 76 → M2 r = M r := fun r h h' => by rw [← hM2, up_ne h', ane r h]
    have b69 : M2 74 = M 74 := bne 74 (by decide) (by decide)
    have hro : RO_ M2 := by
      rw [← hM2, ← hM1]; exact RO_up (RO_up hr (by decide)) (by decide)
    refine s_194b hro (by rw [b2, a27]; (clear hV hW hn0 hn hc hm hF h6 h5 hr h7 h7n hb hq ih hps hT hk hte hM1 a26 a25 ane hM2 b2 b71' bne b69 hro; lia)) (by rw [b2, a27, a25]; (clear hV hW hn0 hn hc hm hF h6 hr h7 h7n hb hq ih hps hT hk hte hM1 a26 ane hM2 b2 b71' bne b69 hro; lia)) (by rw [b2, a25]; exact hn) (by rw [b2, a26]; (clear hV hW hn0 hn hc hF h5 hr h7 h7n hb hq ih hps hT hk hpr hte hM1 a25 a27 ane hM2 b2 b71 b71' bne b69 hro; lia)) (by rw [b2, a26]; (clear hV hW hn0 hn hc hF h5 hr h7 h7n hb hq ih hps hT hk hpr hte hM1 a25 a27 ane hM2 b2 b71 b71' bne b69 hro; lia)) (by rw [b69]; exact hb) ?_
    rw [b69, b2, a25, a27]
    have hkd : (tkk_ (M 74) n (ps_ (M 74) n m)).1 = kd_ (M 74) n m := rfl
    rw [hkd]
    generalize hM3 : tkmB M2 = M3
    have c27 : M3 3 7 = en9_ (M 74) n m := by
      rw [← hM3]; unfold tkmB; split
      · rw [up_ne (by decide), up_at, b69, b2, a25, a27]; rfl
      · rw [up_at, b69, b2, a25, a27]; rfl
    have c2 : ∀ i, i ≠ 7 → M3 3 i = M1 3 i := by
      intro i h
      rw [← hM3]; unfold tkmB; split
      · rw [up_ne (by decide), up_off h, b2]
      · rw [up_off h, b2]
    have cne : ∀ r, r ≠ 3 → r ≠ 78 → M3 r = M2 r := by
      intro r h h'
      rw [← hM3]; unfold tkmB; split
      · rw [up_ne h', up_ne h]
      · rw [up_ne h]
    have c73 : dg_ (by_ (M 74) n (ps_ (M 74) n m)) = 1 → M3 78 m = uv_ (M 74) (ps_ (M 74) n m) (ue_ (M 74) n (ps_ (M 74) n m) - ps_ (M 74) n m).toNat := by
      intro h
      rw [← hM3]; unfold tkmB
      rw [if_pos (by rw [b69, b2, a25, a27]; exact h), b69, b2, a25, a26, a27, up_at]
    have c73' : ∀ i, i ≠ (m : Int) → M3 78 i = M 78 i := by
      intro i h
      rw [← hM3]; unfold tkmB; split
      · rw [b2, a26, up_off h, up_ne (by decide), bne 78 (by decide) (by decide)]
      · rw [up_ne (by decide), bne 78 (by decide) (by decide)]
    rw [c2 6 (by decide), a26]
    refine ⟨by (clear hV hW hn0 hn hc hF h5 hr h7 h7n hb hq ih hps hT hk hpr hte hM1 a25 a27 ane hM2 b2 b71 b71' bne b69 hro hkd hM3 c27 c2 cne c73 c73'; lia), by omega, by omega, ?_⟩
    rw [up_at, c27, w32_id (by (clear hV hW hn0 hn hc hF h5 hr h7 h7n hb hq ih hps hT hk hpr hte hM1 a25 a27 ane hM2 b2 b71 b71' bne b69 hro hkd hM3 c27 c2 cne c73 c73'; lia)) (by omega)]
    generalize hM4 : up_ (up_ (up_ M3 75 (m : Int) (kd_ (M 74) n m)) 77 (m : Int) (en9_ (M 74) n m)) 3 6 ((m : Int) + 1) = M4
    have d26 : M4 3 6 = m + 1 := by rw [← hM4, up_at]
    have d25 : M4 3 5 = n := by rw [← hM4, up_off (by decide), up_ne (by decide), up_ne (by decide), c2 5 (by decide)]; exact a25
    have d27 : M4 3 7 = en9_ (M 74) n m := by rw [← hM4, up_off (by decide), up_ne (by decide), up_ne (by decide)]; exact c27
    have dne : ∀ r, r ∉ [3, 75, 76, 77, 78] → M4 r = M r := by
      intro r h
      simp only [List.mem_cons, List.not_mem_nil, or_false, not_or] at h
      rw [← hM4, up_ne h.1, up_ne h.2.2.2.1, up_ne h.2.1, cne r h.1 h.2.2.2.2, bne r h.1 h.2.2.1]
    have dF : Fr_ [3, 75, 76, 77, 78] M0 M4 := fun r h => by rw [dne r h]; exact hF r h
    have dT : TXB M4 (M 74) n (m + 1) := by
      intro i hi
      by_cases h : i = m
      · subst h
        refine ⟨?_, ?_, ?_, ?_⟩
        · rw [← hM4, up_ne (by decide), up_ne (by decide), up_ne (by decide), cne 76 (by decide) (by decide)]; exact b71
        · rw [← hM4, up_ne (by decide), up_ne (by decide), up_at]
        · rw [← hM4, up_ne (by decide), up_at]
        · intro h9
          rw [← hM4, up_ne (by decide), up_ne (by decide), up_ne (by decide)]; exact c73 h9
      · have hne : (i : Int) ≠ (m : Int) := by (clear hV hW hn0 hn hc hm hF h5 hr h7 h7n hb hq ih hps hT hk hpr hte hM1 a25 a27 ane hM2 b2 b71 b71' bne b69 hro hkd hM3 c27 c2 cne c73 c73' hM4 d25 d27 dne dF hi; lia)
        have := hT i (by (clear hV hW hn0 hn hc hm hF h5 hr h7 h7n hb hq ih hps hT hk hpr hte hM1 a25 a27 ane hM2 b2 b71 b71' bne b69 hro hkd hM3 c27 c2 cne c73 c73' hM4 d25 d27 dne dF h; lia))
        refine ⟨?_, ?_, ?_, ?_⟩
        · rw [← hM4, up_ne (by decide), up_ne (by decide), up_ne (by decide), cne 76 (by decide) (by decide), b71' _ hne]; exact this.1
        · rw [← hM4, up_ne (by decide), up_ne (by decide), up_off hne, cne 75 (by decide) (by decide), bne 75 (by decide) (by decide)]; exact this.2.1
        · rw [← hM4, up_ne (by decide), up_off hne, up_ne (by decide), cne 77 (by decide) (by decide), bne 77 (by decide) (by decide)]; exact this.2.2.1
        · intro h9
          rw [← hM4, up_ne (by decide), up_ne (by decide), up_ne (by decide), c73' _ hne]; exact this.2.2.2 h9
    have hout : (kd_ (M 74) n m = 102 ∨ m = 1201) → V 39 [rr 3, rr 9, ii n, ii 0] [] M4 := by
      intro h
      refine b_191b_39 (Tr_mono _) hV hW n 0 M4 ?_
      rw [if_pos rfl]
      refine hq M4 (m + 1) dF d25 dT (fun j hj => hk j (by (clear hV hW hn0 hn hc hm hF h5 hr h7 h7n hb hq ih hps hT hk hpr hte hM1 a25 a27 ane hM2 b2 b71 b71' bne b69 hro hkd hM3 c27 c2 cne c73 c73' hM4 d25 d27 dne dF dT h; lia))) (by (clear hV hW hn0 hn hc hF h5 hr h7 h7n hb hq ih hps hT hk hpr hte hM1 a25 a27 ane hM2 b2 b71 b71' bne b69 hro hkd hM3 c27 c2 cne c73 c73' hM4 d25 d27 dne dF dT h; lia)) (by (clear hV hW hn0 hn hc hF h5 hr h7 h7n hb hq ih hps hT hk hpr hte hM1 a25 a27 ane hM2 b2 b71 b71' bne b69 hro hkd hM3 c27 c2 cne c73 c73' hM4 d25 d27 dne dF dT h; lia)) ?_
      rcases h with h | h
      · exact .inl h
      · exact .inr (by (clear hV hW hn0 hn hc hm hF h5 hr h7 h7n hb hq ih hps hT hk hpr hte hM1 a25 a27 ane hM2 b2 b71 b71' bne b69 hro hkd hM3 c27 c2 cne c73 c73' hM4 d25 d27 dne dF dT; lia))
    split
    · rename_i h
      exact hout (.inl h)
    · rename_i h
      split
      · rename_i h'
        refine ih (m + 1) M4 (by (clear hV hW hn0 hn hF h5 hr h7 h7n hb hq ih hps hT hk hpr hM1 a25 a27 ane hM2 b2 b71 b71' bne b69 hro hkd hM3 c27 c2 cne c73' hM4 d25 d27 dne dF dT; lia)) (by (clear hV hW hn0 hn hc hF h5 hr h7 h7n hb hq ih hps hT hk hpr hte hM1 a25 a27 ane hM2 b2 b71 b71' bne b69 hro hkd hM3 c27 c2 cne c73 c73' hM4 d25 d27 dne dF dT hout h; lia)) dF (by rw [d26]; (clear hV hW hn0 hn hc hm hF h6 h5 hr h7 h7n hb hq ih hps hT hk hpr hte hM1 a26 a25 a27 ane hM2 b2 b71 b71' bne b69 hro hkd hM3 c27 c2 cne c73 c73' hM4 d26 d25 d27 dne dF dT hout h h'; lia)) d25 (dne 74 (by decide)) ?_ ?_ ?_ ?_ dT ?_
        · unfold RO_
          rw [dne 1001 (by decide), dne 1002 (by decide), dne 1011 (by decide), dne 1012 (by decide)]
          exact hr
        · rw [d27]; unfold en9_; (clear hV hW hn0 hn hc hm hF h6 h5 hr h7 h7n hb hq ih hps hT hk hM1 a26 a25 ane hM2 b2 b71' bne b69 hro hkd hM3 c27 c2 cne c73 c73' hM4 d26 d25 d27 dne dF dT hout h h'; lia)
        · rw [d27]; unfold en9_; (clear hV hW hn0 hn hc hm hF h6 hr h7 h7n hb hq ih hps hT hk hpr hM1 a26 a27 ane hM2 b2 b71 b71' bne b69 hro hkd hM3 c27 c2 cne c73 c73' hM4 d26 d27 dne dF dT hout h h'; omega)
        · rw [d27]; rfl
        · intro j hj
          by_cases h9 : j = m
          · rw [h9]; exact h
          · exact hk j (by (clear hV hW hn0 hn hc hm hF h5 hr h7 h7n hb hq ih hps hT hk hpr hte hM1 a25 a27 ane hM2 b2 b71 b71' bne b69 hro hkd hM3 c27 c2 cne c73 c73' hM4 d25 d27 dne dF dT hout h h'; lia))
      · rename_i h'
        exact hout (.inr (by (clear hV hW hn0 hn hc hF h5 hr h7 h7n hb hq ih hps hT hk hpr hte hM1 a25 a27 ane hM2 b2 b71 b71' bne b69 hro hkd hM3 c27 c2 cne c73 c73' hM4 d25 d27 dne dF dT hout h; lia)))
end RD
section RD
variable {d : Nat} {K : Int → mm_ → Prop} {Kv : mm_ → Prop} {Qr : qr_} {Qt : qt_} {V : vv_}
theorem s_191b {n : Int} {M : mm_} (hn0 : 0 ≤ n) (hn : n ≤ 5000) (hro : RO_ M) (hb : ∀ i, 0 ≤ i → i < 5000 → -128 ≤ M 9 i ∧ M 9 i ≤ 127) (hb2 : ∀ i, 0 ≤ i → i < 5000 → -128 ≤ M 74 i ∧ M 74 i ≤ 127)
    (hq : ∀ M' (m : Nat), Fr_ [3, 74, 75, 76, 77, 78] M M' → M' 74 = cp_ (M 9) (M 74) n → M' 3 5 = n → TXB M' (M' 74) n m → (∀ j : Nat, j + 1 < m → kd_ (M' 74) n j ≠ 102) → 1 ≤ m → m ≤ 1202 → (kd_ (M' 74) n (m - 1) = 102 ∨ m = 1202) → Kv M') :
    Tr_ wd0 pg0 (d + 7) 191 [.inr (.inr 3), .inr (.inr 9), .inl n] M (rv_ Kv) Qt := t_191b fun V hV hW => b_191b_0 (Tr_mono _) hV hW n M (by
  have h1 := l_191b_2 (M := M) hV hW (n := n) hn hb (by
    refine l_191b_39 (f := cp_ (M 9) (M 74) n) (M0 := wr_ M 74 (cp_ (M 9) (M 74) n)) hV hW hn0 hn ?_ ?_ 1202 0 _ (by omega) (by omega) ?_ ?_ ?_ ?_ ?_ ?_ ?_ ?_ ?_ ?_
    · intro i h0 h9
      unfold cp_
      split
      · exact hb i h0 h9
      · exact hb2 i h0 h9
    · intro M' m hF h5 hT hk h1 h2 h3
      have e69 : M' 74 = cp_ (M 9) (M 74) n := by rw [hF 74 (by decide), wr_same]
      refine rv_i (hq M' m (fun r h => ?_) e69 h5 (by rw [e69]; exact hT) (by rw [e69]; exact hk) h1 h2 (by rw [e69]; exact h3))
      simp only [List.mem_cons, List.not_mem_nil, or_false, not_or] at h
      rw [hF r (by simp only [List.mem_cons, List.not_mem_nil, or_false, not_or]; exact ⟨h.1, h.2.2⟩), wr_ne h.2.1]
    · exact Fr_up (Fr_up (Fr_up Fr_rf (by decide)) (by decide)) (by decide)
    · rw [up_off (by decide), up_at]; rfl
    · rw [up_off (by decide), up_off (by decide), up_at]
    · rw [up_ne (by decide), up_ne (by decide), up_ne (by decide), wr_same]
    · refine RO_up (RO_up (RO_up ?_ (by decide)) (by decide)) (by decide)
      unfold RO_
      rw [wr_ne (by decide), wr_ne (by decide), wr_ne (by decide), wr_ne (by decide)]
      exact hro
    · rw [up_at]; (clear hn0 hn hro hb hb2 hq hV hW; lia)
    · rw [up_at]; omega
    · rw [up_at]; rfl
    · intro i hi; (clear hn0 hn hro hb hb2 hq hV hW; lia)
    · intro j hj; omega) n.toNat 0 (by (clear hro hb hb2 hq hV hW; lia)) (Int.le_refl _) hn0
  rw [cp_0, wr_id] at h1
  exact h1)
end RD
def gdB (M : mm_) (i : Int) : Prop := 0 ≤ i ∧ i ≤ 1200 ∧ ∀ j, 0 ≤ j → j < i → M 75 j ≠ 102 ∧ M 75 j ≠ 103
def lk9B (M : mm_) (x y : Int) : Prop := M 77 x - M 76 x = M 77 y - M 76 y ∧ ∀ j, 0 ≤ j → j < M 77 x - M 76 x → M 74 (M 76 x + j) = M 74 (M 76 y + j)
def TksB (Mx Mq : mm_) : Prop := ∀ i, gdB Mx i → KQ (Mx 75 i) (Mq 149 i) (Mq 151 i) ∧ Mx 76 i = Mq 150 i ∧ (Mx 75 i = 101 → Mq 151 i = Mx 78 i ∧ 0 ≤ Mx 78 i ∧ Mx 78 i < 1000000000) ∧ (0 ≤ Mx 76 i ∧ Mx 76 i ≤ Mx 77 i ∧ Mx 77 i ≤ 5000) ∧ (∀ j, gdB Mx j → j < i → Mx 76 j < Mx 76 i) ∧ (Mx 75 i = 100 → Mx 77 i - Mx 76 i ≤ 10 ∧ 0 < Mq 151 i) ∧ (∀ j, gdB Mx j → Mx 75 i = 100 → Mx 75 j = 100 → (lk9B Mx i j ↔ Mq 151 i = Mq 151 j))
section AG
variable {f g : Int → Int} {n : Int}
end AG
theorem Tks_iB {Mx Mq : mm_} {g : Int → Int} {n : Int} {m m' : Nat} (hn0 : 0 ≤ n) (hn : n ≤ 5000) (hb : ∀ i, 0 ≤ i → i < 5000 → -128 ≤ Mx 74 i ∧ Mx 74 i ≤ 127) (hag : Ag_ g (Mx 74) n) (hT : TXB Mx (Mx 74) n m) (hm1 : 1 ≤ m) (hm2 : kd_ (Mx 74) n (m - 1) = 102 ∨ m = 1202) (hQ : QT_ Mq g n m') : TksB Mx Mq := by
  have hps : ∀ i, ps_ g n i = ps_ (Mx 74) n i := ps_ag hag hn0
  have hX : ∀ i : Nat, (i : Int) ≤ 1200 → (∀ j : Int, 0 ≤ j → j < i → Mx 75 j ≠ 102 ∧ Mx 75 j ≠ 103) → i < m := by
    intro i hi hj
    refine Classical.byContradiction fun h => ?_
    rcases hm2 with h1 | h1
    · have h2 := (hT (m - 1) (by (clear hn0 hn hb hag hT hQ hps hi hj h h1; omega))).2.1
      have := (hj ((m - 1 : Nat) : Int) (by (clear hn0 hn hb hag hT hm1 hQ hps hi hj h h1 h2; omega)) (by omega)).1
      rw [h2, h1] at this
      exact this rfl
    · (clear hn0 hn hb hag hT hm1 hQ hps hj; omega)
  have hK : ∀ i : Nat, (i : Int) ≤ 1200 → (∀ j : Int, 0 ≤ j → j < i → Mx 75 j ≠ 102 ∧ Mx 75 j ≠ 103) → ∀ k : Nat, k < i → kd_ (Mx 74) n k ≠ 102 ∧ kd_ (Mx 74) n k ≠ 103 := by
    intro i hi hj k hk
    have h1 := hX i hi hj
    have h2 := (hT k (by omega)).2.1
    have := hj k (by (clear hn0 hn hb hag hT hm1 hm2 hQ hps hX hi hj hk h1 h2; lia)) (by omega)
    rw [h2] at this
    exact this
  have hqq : ∀ i : Nat, (i : Int) ≤ 1200 → (∀ j : Int, 0 ≤ j → j < i → Mx 75 j ≠ 102 ∧ Mx 75 j ≠ 103) → i < m' := by
    intro i hi hj
    refine Classical.byContradiction fun h => ?_
    obtain ⟨h1, h2, h3, h4, h5⟩ := hQ
    have h6 := hK i hi hj (m' - 1) (by omega)
    rw [hps] at h5
    have h7 : ps_ (Mx 74) n (m' - 1) < n := Classical.byContradiction fun h8 => h6.1 (kd_102.mpr h8)
    rcases h5 with h5 | h5 | h5
    · exact h5 h7
    · have h8 := kq_at (f := Mx 74) h7
      rw [qo_ag hag (ps_r (Mx 74) n hn0 _).1 h7] at h5
      rw [h5] at h8
      unfold KQ at h8
      have : (tkk_ (Mx 74) n (ps_ (Mx 74) n (m' - 1))).1 = 103 := by (clear hn0 hn hb hag hT hm1 hm2 hps hX hK hi hj h h1 h2 h3 h4 h6 h7 h5; omega)
      exact h6.2 this
    · (clear hn0 hn hb hag hT hm1 hm2 hps hX hK hj h1 h2 h3 h4 h6 h7; omega)
  have hY : ∀ i : Nat, gdB Mx i → Mx 76 i = ps_ (Mx 74) n i ∧ Mx 75 i = kd_ (Mx 74) n i ∧ Mx 77 i = en9_ (Mx 74) n i ∧ (dg_ (by_ (Mx 74) n (ps_ (Mx 74) n i)) = 1 → Mx 78 i = uv_ (Mx 74) (ps_ (Mx 74) n i) (ue_ (Mx 74) n (ps_ (Mx 74) n i) - ps_ (Mx 74) n i).toNat) ∧ Mq 150 i = ps_ (Mx 74) n i ∧ KQ (kd_ (Mx 74) n i) (Mq 149 i) (Mq 151 i) ∧ (ps_ (Mx 74) n i < n → Mq 151 i = (qo_ (Mx 74) n (ps_ (Mx 74) n i)).2.1) ∧ (∀ k : Nat, k < i → kd_ (Mx 74) n k ≠ 102) := by
    intro i hi
    have h1 := hT i (hX i hi.2.1 hi.2.2)
    have h2 := hQ.1 i (hqq i hi.2.1 hi.2.2)
    rw [hps] at h2
    refine ⟨h1.1, h1.2.1, h1.2.2.1, h1.2.2.2, h2.1, ?_, ?_, fun k hk => (hK i hi.2.1 hi.2.2 k hk).1⟩
    · by_cases h3 : ps_ (Mx 74) n i < n
      · have h4 := h2.2.1 h3
        rw [qo_ag hag (ps_r (Mx 74) n hn0 _).1 h3] at h4
        rw [h4.1, h4.2]; exact kq_at h3
      · rw [(h2.2.2 h3).1]
        have : kd_ (Mx 74) n i = 102 := kd_102.mpr h3
        rw [this]; exact .inr (.inr (.inl ⟨rfl, rfl⟩))
    · intro h3
      have h4 := h2.2.1 h3
      rw [qo_ag hag (ps_r (Mx 74) n hn0 _).1 h3] at h4
      exact h4.2
  intro i hi
  obtain ⟨i', rfl⟩ := Int.eq_ofNat_of_zero_le hi.1
  have h := hY i' hi
  have hp := ps_r (Mx 74) n hn0 i'
  have ht := tk_end (f := Mx 74) hp.2
  refine ⟨by rw [h.2.1]; exact h.2.2.2.2.2.1, by rw [h.1, h.2.2.2.2.1], ?_, ?_, ?_, ?_, ?_⟩
  · intro h1
    rw [h.2.1] at h1
    have h2 := nu_at h1
    have h3 := h.2.2.2.1 h2.1
    have hr := uv_r (f := Mx 74) (a := ps_ (Mx 74) n i') (ue_ (Mx 74) n (ps_ (Mx 74) n i') - ps_ (Mx 74) n i').toNat (fun j hj => (ue_in (Mx 74) n (ps_ (Mx 74) n i') _ (by (clear hn0 hn hb hag hT hm1 hm2 hQ hps hX hK hqq hY hi h hp ht h1 h2 h3 hj; lia)) (by (clear hn0 hn hb hag hT hm1 hm2 hQ hps hX hK hqq hY hi hp ht h1 h2 h3; omega))).1)
    rw [h.2.2.2.2.2.2.1 h2.2.1, h2.2.2, h3]
    refine ⟨rfl, hr.1, Int.lt_of_lt_of_le hr.2 ?_⟩
    have : (10 : Int) ^ min (ue_ (Mx 74) n (ps_ (Mx 74) n i') - ps_ (Mx 74) n i').toNat 9 ≤ 10 ^ 9 := by
      exact_mod_cast Nat.pow_le_pow_right (by omega) (Nat.min_le_right _ _)
    omega
  · rw [h.1, h.2.2.1]
    unfold en9_
    (clear hb hag hT hm1 hm2 hQ hps hX hK hqq hY hi; omega)
  · intro j hj hji
    obtain ⟨j', rfl⟩ := Int.eq_ofNat_of_zero_le hj.1
    rw [h.1, (hY j' hj).1]
    exact ps_mono hn0 i' (by (clear hn0 hn hb hag hT hm1 hm2 hQ hps hX hK hqq hY hi h hp ht hj; omega)) h.2.2.2.2.2.2.2
  · intro h1
    rw [h.2.1] at h1
    have h2 := nm_at h1
    refine ⟨by rw [h.1, h.2.2.1]; unfold en9_; rw [h2.2.2.1]; omega, ?_⟩
    rw [h.2.2.2.2.2.2.1 h2.2.1, h2.2.2.2.2]
    have h3 : ps_ (Mx 74) n i' + 1 ≤ ne_ (Mx 74) n (ps_ (Mx 74) n i') := by
      rw [ne_, dif_pos (cd_w h2.1)]; exact ne_ge _ _ _
    obtain ⟨q, hq⟩ : ∃ q : Nat, (ne_ (Mx 74) n (ps_ (Mx 74) n i') - ps_ (Mx 74) n i').toNat = q + 1 := ⟨(ne_ (Mx 74) n (ps_ (Mx 74) n i') - ps_ (Mx 74) n i').toNat - 1, by omega⟩
    rw [hq]
    exact hs_pos fun j hj => (ne_in (Mx 74) n (ps_ (Mx 74) n i') _ (by (clear hn0 hn hb hag hT hm1 hm2 hQ hps hX hK hqq hY hi h hp ht h1 h2 h3 hq hj; lia)) (by (clear hn0 hn hb hag hT hm1 hm2 hQ hps hX hK hqq hY hi hp h1; omega))).1
  · intro j hj h1 h2
    obtain ⟨j', rfl⟩ := Int.eq_ofNat_of_zero_le hj.1
    have h' := hY j' hj
    rw [h.2.1] at h1
    rw [h'.2.1] at h2
    have hi2 := nm_at h1
    have hj2 := nm_at h2
    have hp' := ps_r (Mx 74) n hn0 j'
    rw [h.2.2.2.2.2.2.1 hi2.2.1, hi2.2.2.2.2, h'.2.2.2.2.2.2.1 hj2.2.1, hj2.2.2.2.2]
    unfold lk9B
    rw [h.1, h.2.2.1, h'.1, h'.2.2.1]
    unfold en9_
    rw [hi2.2.2.1, hj2.2.2.1]
    have hge := ne_ge (Mx 74) n (ps_ (Mx 74) n i')
    have hge' := ne_ge (Mx 74) n (ps_ (Mx 74) n j')
    have hle := ne_le (Mx 74) n (ps_ (Mx 74) n i') (by omega)
    have hle' := ne_le (Mx 74) n (ps_ (Mx 74) n j') (by (clear hn0 hn hb hag hT hm1 hm2 hQ hps hX hK hqq hY hi h hp ht h1 hj h2 hi2 hp' hge hge' hle; omega))
    constructor
    · rintro ⟨h3, h4⟩
      rw [h3]
      refine hs_eq _ fun k hk => ?_
      rw [h4 k (by (clear hn0 hn hb hag hT hm1 hm2 hQ hps hX hK hqq hY hi h hp ht h1 hj h2 h' hi2 hj2 hp' hge hge' hle hle' h3 h4 hk; lia)) (by (clear hn0 hn hb hag hT hm1 hm2 hQ hps hX hK hqq hY hi hp ht h1 hj h2 hi2 hj2 hp' hge hge' hle hle' h4; omega))]
    · intro h3
      have h4 := hs_inj (f := Mx 74) (g := Mx 74) _ _ (fun k hk => (ne_in (Mx 74) n (ps_ (Mx 74) n i') _ (by omega) (by (clear hn0 hn hb hag hT hm1 hm2 hQ hps hX hK hqq hY hi hp ht h1 hj h2 h' hi2 hj2 hp' hge hge' hle hle' h3; omega))).1) (fun k hk => (ne_in (Mx 74) n (ps_ (Mx 74) n j') _ (by (clear hn0 hn hb hag hT hm1 hm2 hQ hps hX hK hqq hY hi h hp ht h1 hj h2 h' hi2 hj2 hp' hge hge' hle hle' h3 hk; lia)) (by (clear hn0 hn hb hag hT hm1 hm2 hQ hps hX hK hqq hY hi h hp ht h1 hj h2 hi2 hj2 hp' hge hge' hle hle' h3; omega))).1) h3
      refine ⟨by (clear hn0 hn hb hag hT hm1 hm2 hQ hps hX hK hqq hY hi hp h1 hj h2 hp' hge hle hle' h3; lia), fun k h5 h6 => ?_⟩
      have h7 := h4.2 k.toNat (by omega)
      have e : ((k.toNat : Nat) : Int) = k := by (clear hn0 hn hb hag hT hm1 hm2 hQ hps hX hK hqq hY hi h hp ht h1 hj h2 h' hi2 hj2 hp' hge hge' hle hle' h3 h4 h6 h7; lia)
      rw [e] at h7
      have b1 := hb (ps_ (Mx 74) n i' + k) (by (clear hn0 hn hb hag hT hm1 hm2 hQ hps hX hK hqq hY hi ht h1 hj h2 h' hi2 hj2 hp' hge hge' hle hle' h3 h4 h6 h7; omega)) (by (clear hb hag hT hm1 hm2 hQ hps hX hK hqq hY hi h1 hj h2 h' hj2 hp' hge hge' hle hle' h3 h4 h5 h7; omega))
      have b2 := hb (ps_ (Mx 74) n j' + k) (by (clear hn0 hn hb hag hT hm1 hm2 hQ hps hX hK hqq hY hi h hp ht h1 hj h2 hi2 hj2 hge hge' hle hle' h3 h4 h6 h7 b1; omega)) (by (clear hb hag hT hm1 hm2 hQ hps hX hK hqq hY hi hp h1 hj h2 hp' hge hge' hle h3 h7 b1; lia))
      (clear hn0 hn hb hag hT hm1 hm2 hQ hps hX hK hqq hY hi h hp ht h1 hj h2 h' hi2 hj2 hp' hge hge' hle hle' h3 h4 h5 h6 e; lia)
end T421_tb

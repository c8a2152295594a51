section T415_si
/-! the search begins (X 37, Q 380) -/
def k41 (M : mm_) : Int → Int := fun i => if 0 ≤ i ∧ i < 36 then M 17 i else if 36 ≤ i ∧ i < 96 then M 22 (7 * (i - 36) + 3) else M 41 i
def siX (M : mm_) : mm_ := up_ (wr_ (wr_ M 41 (k41 M)) 31 (flf (M 31) 0 1024 (-1))) 0 25 1
def siQ (N : mm_) (x1 : Int) : mm_ := up_ (up_ (up_ (up_ (up_ (wr_ N 246 (ldF (N 246) (N 239))) 6 127 1) 6 165 x1) 6 163 0) 6 164 0) 6 169 0
section SIa
variable {M N Ms Np M' N' A : mm_} {f : Int → Int} {k r t x1 a b : Int}
theorem RU_01 [Inhabited fz_] (h : RU 0 M N) (hx : ∀ r : Nat, r ∈ [10, 11, 12, 13, 14, 15, 16, 17, 18, 19, 20, 21, 22, 23, 24] → Ms r = M r) (h0 : ∀ i : Int, i ∈ rfX → i ≠ 25 → i ≠ 37 → i ≠ 38 → Ms 0 i = M 0 i) (h25 : Ms 0 25 = 1) (hq : ∀ r : Nat, r ∈ [172, 173, 174, 240, 241] → Np r = N r) (h6 : ∀ i : Int, i ∈ rfQ → i ≠ 127 → i ≠ 138 → i ≠ 139 → Np 6 i = N 6 i) (h127 : Np 6 127 = 1) (h37 : Ms 0 37 = Np 6 138 ∧ Ms 0 38 = Np 6 139) (hz : Np 239 = svF (N 239) (FSI N (fun c => 0 < c)) 0) (hf : (∀ i, 0 ≤ i → i < 1200 → M 24 i = fz 24 i) ∧ ∀ i, 0 ≤ i → i < 2000 → M 23 i = fz 23 i) : RU 1 Ms Np := by
  obtain ⟨⟨a1, a2, a3, a4⟩, ⟨b1, b2, b3⟩, c, d, e⟩ := h
  have hro : ∀ r, 0 ≤ r → r < N 6 18 → 0 ≤ N 239 (sR r) ∧ N 239 (sR r) ≤ 6 := fun r r0 r1 => by have := (b2 r r0 r1).1; omega
  have out : ∀ j, ¬ FSI N (fun c => 0 < c) j → Np 239 j = N 239 j := fun j hj => by rw [hz, svF_out hj]
  have rz : ∀ j, RSI N (N 6 18) 0 j → 674 ≤ j ∧ (j - 674) % 43 ≠ 0 := fun j hj => RSI_z hro b1.2 (by omega) (by decide) hj
  have cz : ∀ j, CKI N (fun c => 0 < c) (N 239 0) 0 j → 24 ≤ j ∧ (j - 2) % 56 < 25 ∧ 22 ≤ (j - 2) % 56 ∧ (j < sB (N 239 0) + 22 + 0) := fun j hj => CKI_z (by omega) (by decide) hj
  have n12 := a1
  have hB0 : sB (N 239 0) = 2 + 56 * N 239 0 := rfl
  -- places that stay
  have s1 : ∀ k i, 0 ≤ k → k < 12 → 0 ≤ i → i < 56 → (i < 22 ∨ 25 ≤ i) → Np 239 (sB k + i) = N 239 (sB k + i) := fun k i k0 k1 i0 i1 hi => by
    have hB : sB k = 2 + 56 * k := rfl
    refine out _ (fun hj => ?_)
    rcases hj with hj | hj
    · have := rz _ hj; omega
    · have := cz _ hj; omega
  have g0 : Np 239 0 = N 239 0 := out _ (fun hj => by rcases hj with hj | hj; have := rz _ hj; omega; have := cz _ hj; omega)
  have g1 : Np 239 1 = N 239 1 := out _ (fun hj => by rcases hj with hj | hj; have := rz _ hj; omega; have := cz _ hj; omega)
  refine ⟨⟨?_, ?_, fun k k0 k1 => ?_, fun k k0 k1 i i0 i1 => ?_⟩, ⟨?_, fun r r0 r1 => ?_, fun r r0 r1 i i0 i1 => ?_⟩, ?_, ?_, ?_⟩
  · rw [h0 7 (by decide) (by decide) (by decide) (by decide), g0]; exact a1
  · rw [h0 8 (by decide) (by decide) (by decide) (by decide), g1]; exact a2
  · rw [h0 7 (by decide) (by decide) (by decide) (by decide)] at k1
    have hB : sB k = 2 + 56 * k := rfl
    have s := fun i i0 i1 hi => s1 k i k0 (by omega) i0 i1 hi
    have z0 := s 0 (by decide) (by decide) (by decide)
    rw [Int.add_zero] at z0
    obtain ⟨p1, p2, p3, p4, p5, p6, p7⟩ := a3 k k0 k1
    unfold IN
    rw [hx 10 (by decide), hx 11 (by decide), hx 12 (by decide), hx 13 (by decide), hx 14 (by decide), hx 15 (by decide), hx 16 (by decide), hx 17 (by decide), hx 18 (by decide), hx 19 (by decide), hx 20 (by decide), h0 8 (by decide) (by decide) (by decide) (by decide), h6 19 (by decide) (by decide) (by decide) (by decide), hq 172 (by decide), hq 173 (by decide), hq 174 (by decide), z0, s 1 (by decide) (by decide) (by decide), s 2 (by decide) (by decide) (by decide), s 3 (by decide) (by decide) (by decide), s 4 (by decide) (by decide) (by decide), s 5 (by decide) (by decide) (by decide), s 25 (by decide) (by decide) (by decide)]
    refine ⟨p1, p2, ⟨fun i i0 i1 => ?_, fun i i0 i1 i2 => ?_⟩, fun t t0 t1 => ?_, p5, fun i i0 i1 => ?_, fun i i0 i1 => ?_⟩
    · rw [show sB k + 6 + i = sB k + (6 + i) by omega, s (6 + i) (by omega) (by omega) (by omega), show sB k + (6 + i) = sB k + 6 + i by omega]; exact p3.1 i i0 i1
    · rw [show sB k + 6 + i = sB k + (6 + i) by omega, s (6 + i) (by omega) (by omega) (by omega), show sB k + (6 + i) = sB k + 6 + i by omega]; exact p3.2 i i0 i1 i2
    · have tm := p4 t t0 t1
      refine ⟨?_, tm.2⟩
      have nr : ¬ RSI N (N 6 18) 0 (sB k + 22 + t) := fun hj => by have := rz _ hj; omega
      rcases tm.1 with ⟨u1, u2, u3⟩ | ⟨u1, u2⟩
      · have u4 : N 239 (sB k + 22 + t) = M 17 (3 * k + t) := by omega
        refine .inl ⟨u1, u2, .inr ⟨rfl, ?_⟩⟩
        by_cases c0 : 0 < N 239 (sB k + 22 + t)
        · rw [hz, svF_in (.inr (.inl ⟨k, t, ⟨k0, by omega⟩, ⟨t0, t1⟩, c0, rfl⟩))]
        · rw [out _ (fun hj => ?_)]
          · omega
          · rcases hj with hj | hj
            · exact nr hj
            · rcases hj with ⟨k', t', q1, q2, q3, q4⟩ | ⟨t', q1, _⟩
              · exact c0 q3
              · omega
      · refine .inr ⟨u1, ?_⟩
        rw [out _ (fun hj => ?_)]
        · exact u2
        · rcases hj with hj | hj
          · exact nr hj
          · rcases hj with ⟨k', t', q1, q2, q3, q4⟩ | ⟨t', q1, _⟩
            · have q3' : 0 < N 239 (sB k + 22 + t) := q3
              omega
            · omega
    · rw [show sB k + 26 + i = sB k + (26 + i) by omega, s (26 + i) (by omega) (by omega) (by omega), show sB k + (26 + i) = sB k + 26 + i by omega]; exact p6 i i0 i1
    · rw [show sB k + 26 + i = sB k + (26 + i) by omega, s (26 + i) (by omega) (by omega) (by omega), show sB k + (26 + i) = sB k + 26 + i by omega]; exact p7 i i0 i1
  · rw [h0 7 (by decide) (by decide) (by decide) (by decide)] at k0
    have hB : sB k = 2 + 56 * k := rfl
    rw [out _ (fun hj => ?_)]
    · exact a4 k k0 k1 i i0 i1
    · rcases hj with hj | hj
      · have := rz _ hj; omega
      · have := cz _ hj; omega
  · rw [h6 18 (by decide) (by decide) (by decide) (by decide)]; exact b1
  · rw [h6 18 (by decide) (by decide) (by decide) (by decide)] at r1
    have hR : sR r = 674 + 43 * r := rfl
    obtain ⟨o1, o2, o3⟩ := b2 r r0 r1
    have nc : ∀ i, 0 ≤ i → ¬ CKI N (fun c => 0 < c) (N 239 0) 0 (sR r + i) := fun i i0 hj => by have := cz _ hj; omega
    have q0 : Np 239 (sR r) = N 239 (sR r) := out _ (fun hj => by
      rcases hj with hj | hj
      · have := rz _ hj; omega
      · have := nc 0 (by decide); rw [Int.add_zero] at this; exact this hj)
    have other : ∀ i, 0 ≤ i → i < 43 → (∀ q, 0 ≤ q → q < N 239 (sR r) → i ≠ 1 + 7 * q + 3) → Np 239 (sR r + i) = N 239 (sR r + i) := fun i i0 i1 hi => out _ (fun hj => by
      rcases hj with hj | hj
      · rcases hj with ⟨r', q', x1, x2, x3⟩ | ⟨q', x1, _⟩
        · have h' := hro r' x1.1 x1.2
          have er : r' = r := by unfold sR at x3; omega
          subst er
          exact hi q' x2.1 x2.2 (by omega)
        · omega
      · exact nc i i0 hj)
    unfold RO
    rw [hx 21 (by decide), hx 22 (by decide), q0]
    refine ⟨o1, fun q q0' q1 => ⟨fun j j0 j1 j3 => ?_, ?_, fun z => absurd z (by decide), fun _ => ?_⟩, fun i i0 i1 => ?_⟩
    · have := other (1 + 7 * q + j) (by omega) (by omega) (fun q' a b => by omega)
      rw [show sR r + (1 + 7 * q + j) = sR r + 1 + 7 * q + j by omega] at this
      rw [this]; exact (o2 q q0' q1).1 j j0 j1 j3
    · exact (o2 q q0' q1).2.1
    · rw [hz, svF_in (.inl (.inl ⟨r, q, ⟨r0, r1⟩, ⟨q0', by omega⟩, rfl⟩))]
    · have := other (1 + i) (by omega) (by omega) (fun q' a b => by omega)
      rw [show sR r + (1 + i) = sR r + 1 + i by omega] at this
      rw [this]; exact o3 i i0 i1
  · rw [h6 18 (by decide) (by decide) (by decide) (by decide)] at r0
    have hR : sR r = 674 + 43 * r := rfl
    rw [out _ (fun hj => ?_)]
    · exact b3 r r0 r1 i i0 i1
    · rcases hj with hj | hj
      · rcases hj with ⟨r', q', x1, x2, x3⟩ | ⟨q', x1, _⟩
        · have h' := hro r' x1.1 x1.2
          unfold sR at x3; omega
        · omega
      · have := cz _ hj; omega
  · unfold RSC at c ⊢
    rw [h25, h127, h0 9 (by decide) (by decide) (by decide) (by decide), h0 10 (by decide) (by decide) (by decide) (by decide), h0 26 (by decide) (by decide) (by decide) (by decide), h0 27 (by decide) (by decide) (by decide) (by decide), h0 28 (by decide) (by decide) (by decide) (by decide), h0 29 (by decide) (by decide) (by decide) (by decide), h0 30 (by decide) (by decide) (by decide) (by decide), h0 31 (by decide) (by decide) (by decide) (by decide), h6 128 (by decide) (by decide) (by decide) (by decide), h6 129 (by decide) (by decide) (by decide) (by decide), h6 131 (by decide) (by decide) (by decide) (by decide), h6 132 (by decide) (by decide) (by decide) (by decide), h6 133 (by decide) (by decide) (by decide) (by decide), h6 134 (by decide) (by decide) (by decide) (by decide), h6 135 (by decide) (by decide) (by decide) (by decide), h6 136 (by decide) (by decide) (by decide) (by decide)]
    exact ⟨⟨rfl, rfl, .inr rfl⟩, c.2.1, c.2.2.1, c.2.2.2.1, fun _ => h37⟩
  · unfold ROU at d ⊢
    rw [h0 32 (by decide) (by decide) (by decide) (by decide), h0 33 (by decide) (by decide) (by decide) (by decide), h0 34 (by decide) (by decide) (by decide) (by decide), h6 137 (by decide) (by decide) (by decide) (by decide), h6 144 (by decide) (by decide) (by decide) (by decide), h6 145 (by decide) (by decide) (by decide) (by decide), hx 24 (by decide), hq 241 (by decide)]
    exact ⟨d.1, fun i i0 i1 => ⟨(d.2 i i0 i1).1, fun _ => hf.1 i i0 i1⟩⟩
  · unfold REV at e ⊢
    rw [h0 35 (by decide) (by decide) (by decide) (by decide), h0 36 (by decide) (by decide) (by decide) (by decide), h6 142 (by decide) (by decide) (by decide) (by decide), h6 143 (by decide) (by decide) (by decide) (by decide), hx 23 (by decide), hq 240 (by decide)]
    exact ⟨e.1, fun i i0 i1 => ⟨(e.2 i i0 i1).1, fun _ => hf.2 i i0 i1⟩⟩
/-- what is of sorts does not look at times -/
theorem TYA_sv2 [Inhabited fz_] {P : Int → Prop} {v : Int} (b1 : 0 ≤ N 6 18 ∧ N 6 18 ≤ 10) (n12 : 0 ≤ N 239 0 ∧ N 239 0 ≤ 12) (hro : ∀ r, 0 ≤ r → r < N 6 18 → 0 ≤ N 239 (sR r) ∧ N 239 (sR r) ≤ 6) (hA : TYA N) (ht : TYT N Np) (hz : Np 239 = svF (N 239) (FSI N P) v) (hv : R32 v) : TYA Np := by
  have out : ∀ j, ¬ FSI N P j → Np 239 j = N 239 j := fun j hj => by rw [hz, svF_out hj]
  have rz : ∀ j, RSI N (N 6 18) 0 j → 674 ≤ j ∧ (j - 674) % 43 ≠ 0 := fun j hj => RSI_z hro b1.2 (by omega) (by decide) hj
  have cz : ∀ j, CKI N P (N 239 0) 0 j → 24 ≤ j ∧ (j - 2) % 56 < 25 ∧ 22 ≤ (j - 2) % 56 ∧ (j < sB (N 239 0) + 22 + 0) := fun j hj => CKI_z (by omega) (by decide) hj
  have hB0 : sB (N 239 0) = 2 + 56 * N 239 0 := rfl
  have g0 : Np 239 0 = N 239 0 := out _ (fun hj => by rcases hj with hj | hj; have := rz _ hj; omega; have := cz _ hj; omega)
  have s1 : ∀ k i, 0 ≤ k → k < 12 → 0 ≤ i → i < 56 → (i < 22 ∨ 25 ≤ i) → Np 239 (sB k + i) = N 239 (sB k + i) := fun k i k0 k1 i0 i1 hi => by
    have hB : sB k = 2 + 56 * k := rfl
    refine out _ (fun hj => ?_)
    rcases hj with hj | hj
    · have := rz _ hj; omega
    · have := cz _ hj; omega
  refine ⟨fun k k0 k1 k2 => ?_, fun r r0 r1 r2 => ?_, fun j => ?_⟩
  · rw [g0] at k2
    have q := hA.1 k k0 k1 k2
    have e25 := s1 k 25 k0 k1 (by decide) (by decide) (by decide)
    refine TIN_q q ht (s1 k 1 k0 k1 (by decide) (by decide) (by decide)) (fun i i0 i1 => s1 k (6 + i) k0 k1 (by omega) (by omega) (by omega)) (fun p p0 p1 p2 => ?_)
    have p2' : p < Np 239 (sB k + 25) := p2
    rw [e25] at p2'
    have := q.2 p p0 p1 p2'
    show SGV Np (Np 239 (sB k + (26 + 5 * p))) (fun v => Np 239 (sB k + (28 + 5 * p + v)))
    rw [s1 k (26 + 5 * p) k0 k1 (by omega) (by omega) (by omega)]
    exact SGV_c this ht (fun v v0 v1 => s1 k (28 + 5 * p + v) k0 k1 (by omega) (by omega) (by omega))
  · rw [ht.2.1] at r2
    have hR : sR r = 674 + 43 * r := rfl
    have q := hA.2.1 r r0 r1 r2
    have nc : ∀ i, 0 ≤ i → ¬ CKI N P (N 239 0) 0 (sR r + i) := fun i i0 hj => by have := cz _ hj; omega
    have other : ∀ i, 0 ≤ i → i < 43 → (i = 0 ∨ (i - 1) % 7 ≠ 3) → Np 239 (sR r + i) = N 239 (sR r + i) := fun i i0 i1 hi => out _ (fun hj => by
      rcases hj with hj | hj
      · rcases hj with ⟨r', q', x1, x2, x3⟩ | ⟨q', x1, _⟩
        · have h' := hro r' x1.1 x1.2
          have er : r' = r := by unfold sR at x3; omega
          subst er
          rcases hi with hi | hi <;> omega
        · omega
      · exact nc i i0 hj)
    unfold TRO at q ⊢
    rw [show (fun j => Np 239 (sR r + j)) 0 = N 239 (sR r + 0) from other 0 (by decide) (by decide) (.inl rfl)]
    intro p p0 p1 p2
    have := q p p0 p1 p2
    show SGV Np (Np 239 (sR r + (1 + 7 * p))) (fun v => Np 239 (sR r + (5 + 7 * p + v)))
    rw [other (1 + 7 * p) (by omega) (by omega) (.inr (by omega))]
    exact SGV_c this ht (fun v v0 v1 => other (5 + 7 * p + v) (by omega) (by omega) (.inr (by omega)))
  · rw [hz]; unfold svF
    split
    · exact hv
    · exact hA.2.2 j
theorem TYA_sv [Inhabited fz_] {P : Int → Prop} {v : Int} (h : RU 0 M N) (hA : TYA N) (ht : TYT N Np) (hz : Np 239 = svF (N 239) (FSI N P) v) (hv : R32 v) : TYA Np := TYA_sv2 h.2.1.1 (by have := h.1.1; omega) (fun r r0 r1 => by have := (h.2.1.2.1 r r0 r1).1; omega) hA ht hz hv
end SIa
end T415_si
section T416_sb
/-! the search begins: the first state (X 37 to 156 | Q 380 to 89) -/
section SBa
variable {M N Ms Np M' N' A : mm_} {f : Int → Int} {k r t x1 a b : Int}
theorem x_23k [Inhabited fz_] {V : vv_} {Qr : qr_} {Qt : qt_} (hV : Cl_ wd0 (Tr_ wd0 pg0 10) V Qr Qt m_37) (hW : Wk_ V) (g : V 83 [rr 0, ii x1, ii 0, none, none, none] [] (wr_ M 41 (k41 M))) : V 23 [rr 0, ii x1, ii 0, none, none, none] [] M := by
  have e17 : ∀ g : Int → Int, wr_ M 41 g 17 = M 17 := fun g => wr_ne (by decide)
  have e22 : ∀ g : Int → Int, wr_ M 41 g 22 = M 22 := fun g => wr_ne (by decide)
  have l2 : ∀ (n : Nat) (x : Int), x + n = 60 → 0 ≤ x → V 49 [rr 0, ii x1, ii x, none, none, none] [] (wr_ M 41 (fun i => if 0 ≤ i ∧ i < 36 then M 17 i else if 36 ≤ i ∧ i < 36 + x then M 22 (7 * (i - 36) + 3) else M 41 i)) := fun n => by
    induction n with
    | zero =>
      intro x hx x0
      refine b_37_49 (Tr_mono _) hV hW _ _ _ ?_
      rw [if_neg (by omega), show x = 60 by omega]; exact g
    | succ n ih =>
      intro x hx x0
      refine b_37_49 (Tr_mono _) hV hW _ _ _ ?_
      rw [if_pos (by omega), w32_id (x := 7 * x) (by omega) (by omega), w32_id (x := 7 * x + 3) (by omega) (by omega), w32_id (x := 36 + x) (by omega) (by omega), w32_id (x := x + 1) (by omega) (by omega), e22, up_wr]
      refine ⟨by omega, by omega, ?_⟩
      have := ih (x + 1) (by omega) (by omega)
      have e : su_ (fun i => if 0 ≤ i ∧ i < 36 then M 17 i else if 36 ≤ i ∧ i < 36 + x then M 22 (7 * (i - 36) + 3) else M 41 i) (36 + x) (M 22 (7 * x + 3)) = fun i => if 0 ≤ i ∧ i < 36 then M 17 i else if 36 ≤ i ∧ i < 36 + (x + 1) then M 22 (7 * (i - 36) + 3) else M 41 i := by
        funext i
        unfold su_
        by_cases c : i = 36 + x
        · rw [if_pos c, if_neg (by omega), if_pos (by omega), show 7 * (i - 36) + 3 = 7 * x + 3 by omega]
        · rw [if_neg c]
          show (if 0 ≤ i ∧ i < 36 then M 17 i else if 36 ≤ i ∧ i < 36 + x then M 22 (7 * (i - 36) + 3) else M 41 i) = _
          by_cases c1 : 0 ≤ i ∧ i < 36
          · rw [if_pos c1, if_pos c1]
          · rw [if_neg c1, if_neg c1]
            by_cases c2 : 36 ≤ i ∧ i < 36 + x
            · rw [if_pos c2, if_pos (by omega)]
            · rw [if_neg c2, if_neg (by omega)]
      rw [e]; exact this
  have l1 : ∀ (n : Nat) (x : Int), x + n = 36 → 0 ≤ x → V 23 [rr 0, ii x1, ii x, none, none, none] [] (wr_ M 41 (fun i => if 0 ≤ i ∧ i < x then M 17 i else M 41 i)) := fun n => by
    induction n with
    | zero =>
      intro x hx x0
      refine b_37_23 (Tr_mono _) hV hW _ _ _ ?_
      rw [if_neg (by omega), show x = 36 by omega]
      have := l2 60 0 (by decide) (by decide)
      rw [show (fun i => if 0 ≤ i ∧ i < 36 then M 17 i else if 36 ≤ i ∧ i < 36 + 0 then M 22 (7 * (i - 36) + 3) else M 41 i) = fun i => if 0 ≤ i ∧ i < 36 then M 17 i else M 41 i by
        funext i
        by_cases c1 : 0 ≤ i ∧ i < 36
        · rw [if_pos c1, if_pos c1]
        · rw [if_neg c1, if_neg c1, if_neg (by omega)]] at this
      exact this
    | succ n ih =>
      intro x hx x0
      refine b_37_23 (Tr_mono _) hV hW _ _ _ ?_
      rw [if_pos (by omega), w32_id (x := x + 1) (by omega) (by omega), e17, up_wr]
      refine ⟨by omega, by omega, ?_⟩
      have := ih (x + 1) (by omega) (by omega)
      have e : su_ (fun i => if 0 ≤ i ∧ i < x then M 17 i else M 41 i) x (M 17 x) = fun i => if 0 ≤ i ∧ i < x + 1 then M 17 i else M 41 i := by
        funext i
        unfold su_
        by_cases c : i = x
        · rw [if_pos c, if_pos (by omega), c]
        · rw [if_neg c]
          show (if 0 ≤ i ∧ i < x then M 17 i else M 41 i) = _
          by_cases c1 : 0 ≤ i ∧ i < x
          · rw [if_pos c1, if_pos (by omega)]
          · rw [if_neg c1, if_neg (by omega)]
      rw [e]; exact this
  have := l1 36 0 (by decide) (by decide)
  rw [show (fun i => if 0 ≤ i ∧ i < 0 then M 17 i else M 41 i) = M 41 by funext i; rw [if_neg (by omega)], wr_id] at this
  exact this
theorem x_83k [Inhabited fz_] {V : vv_} {Qr : qr_} {Qt : qt_} (hV : Cl_ wd0 (Tr_ wd0 pg0 10) V Qr Qt m_37) (hW : Wk_ V) (g : V 83 [rr 0, ii x1, ii 1024, none, none, none] [] (wr_ A 31 (flf (A 31) 0 1024 (-1)))) : V 83 [rr 0, ii x1, ii 0, none, none, none] [] A := by
  have l : ∀ (j : Nat) (x : Int), x + j = 1024 → 0 ≤ x → V 83 [rr 0, ii x1, ii x, none, none, none] [] (wr_ A 31 (flf (A 31) 0 x (-1))) := fun j => by
    induction j with
    | zero => intro x hx x0; rw [show x = 1024 by omega]; exact g
    | succ j ih =>
      intro x hx x0
      refine b_37_83 (Tr_mono _) hV hW _ _ _ ?_
      rw [if_pos (by omega), w32_id (x := x + 1) (by omega) (by omega), flf_s x0]
      exact ⟨by omega, ih (x + 1) (by omega) (by omega)⟩
  have := l 1024 0 (by decide) (by decide)
  rw [flf_0, wr_id] at this
  exact this
theorem q_23k [Inhabited fz_] {V : vv_} {Qr : qr_} {Qt : qt_} (hV : Cl_ wd0 (Tr_ wd0 pg0 10) V Qr Qt m_380) (hW : Wk_ V) (g : V 23 [rr 6, ii x1, ii 1104] [] (wr_ N 246 (ldF (N 246) (N 239)))) : V 23 [rr 6, ii x1, ii 0] [] N := by
  have e239 : ∀ g : Int → Int, wr_ N 246 g 239 = N 239 := fun g => wr_ne (by decide)
  have l : ∀ (n : Nat) (x : Int), x + n = 1104 → 0 ≤ x → V 23 [rr 6, ii x1, ii x] [] (wr_ N 246 (fun i => if 0 ≤ i ∧ i < x then N 239 i else N 246 i)) := fun n => by
    induction n with
    | zero => intro x hx x0; rw [show x = 1104 by omega]; exact g
    | succ n ih =>
      intro x hx x0
      refine b_380_23 (Tr_mono _) hV hW _ _ _ ?_
      rw [if_pos (by omega), w32_id (x := x + 1) (by omega) (by omega), e239, up_wr]
      refine ⟨by omega, by omega, ?_⟩
      have := ih (x + 1) (by omega) (by omega)
      have e : su_ (fun i => if 0 ≤ i ∧ i < x then N 239 i else N 246 i) x (N 239 x) = fun i => if 0 ≤ i ∧ i < x + 1 then N 239 i else N 246 i := by
        funext i
        unfold su_
        by_cases c : i = x
        · rw [if_pos c, if_pos (by omega), c]
        · rw [if_neg c]
          show (if 0 ≤ i ∧ i < x then N 239 i else N 246 i) = _
          by_cases c1 : 0 ≤ i ∧ i < x
          · rw [if_pos c1, if_pos (by omega)]
          · rw [if_neg c1, if_neg (by omega)]
      rw [e]; exact this
  have := l 1104 0 (by decide) (by decide)
  rw [show (fun i => if 0 ≤ i ∧ i < 0 then N 239 i else N 246 i) = N 246 by funext i; rw [if_neg (by omega)], wr_id] at this
  exact this
set_option maxHeartbeats 4000000 in
theorem si_all [Inhabited fz_] (h : STp M N) (hf : (∀ i, 0 ≤ i → i < 1200 → M 24 i = fz 24 i) ∧ ∀ i, 0 ≤ i → i < 2000 → M 23 i = fz 23 i) (hx : 1 ≤ x1 ∧ x1 ≤ 200) : ∃ Mi Ni, RC 10 m_37 23 [rr 0, ii x1, ii 0, none, none, none] M 156 [rr 0, ii x1, ii 0, none, none, none] Mi ∧ RC 10 m_380 23 [rr 6, ii x1, ii 0] N 89 [rr 6, ii x1, ii 0] Ni ∧ HDS x1 1 (M 0 8) Mi Ni ∧ CUT Mi Ni 0 ∧ (XSF M Mi ∧ QSF N Ni) ∧ Mi 41 = k41 M ∧ (∀ i, 0 ≤ i → i < 1104 → Ni 246 i = N 239 i) ∧ (∀ i, 0 ≤ i → i < 1104 → rwk Ni 0 i = svF (N 239) (FSI N (fun c => 0 < c)) 0 i) ∧ (Mi 0 11 = M 0 11 ∧ Ni 6 130 = N 6 130) := by
  obtain ⟨hR, hP, hA, hw⟩ := h
  have n12 := hR.1.1
  have h18 := hR.2.1.1
  have hro : ∀ r, 0 ≤ r → r < N 6 18 → 0 ≤ N 239 (sR r) ∧ N 239 (sR r) ≤ 6 := fun r r0 r1 => by have := (hR.2.1.2.1 r r0 r1).1; omega
  -- X
  generalize hMs : siX M = Ms
  have msr : ∀ r : Nat, r ∉ [0, 31, 41] → Ms r = M r := fun r hr => by
    have e : ∀ q : Nat, q ∈ [0, 31, 41] → r ≠ q := fun q hq e => hr (by rw [e]; exact hq)
    rw [← hMs]; unfold siX; rw [up_ne (e 0 (by decide)), wr_ne (e 31 (by decide)), wr_ne (e 41 (by decide))]
  have ms0 : ∀ i : Int, i ≠ 25 → Ms 0 i = M 0 i := fun i c => by rw [← hMs]; unfold siX; rw [upo c, wr_ne (by decide), wr_ne (by decide)]
  have ms25 : Ms 0 25 = 1 := by rw [← hMs]; unfold siX; rw [up_at]
  have ms41 : Ms 41 = k41 M := by rw [← hMs]; unfold siX; rw [up_ne (by decide), wr_ne (by decide), wr_same]
  have ms31 : ∀ b, 0 ≤ b → b < 1024 → Ms 31 b = -1 := fun b b0 b1 => by rw [← hMs]; unfold siX; rw [up_ne (by decide), wr_same]; unfold flf; rw [if_pos ⟨b0, b1⟩]
  have fMs : XSF M Ms := by rw [← hMs]; unfold siX; exact XSF_tr (XSF_tr (XSF_wr (.inl (by decide)) (by decide)) (XSF_wr (.inl (by decide)) (by decide))) (XSF_up (.inr (by decide)) (fun _ => by decide))
  -- Q
  generalize hNq : siQ N x1 = Nq
  have nqr : ∀ r : Nat, r ∉ [6, 246] → Nq r = N r := fun r hr => by
    have e : ∀ q : Nat, q ∈ [6, 246] → r ≠ q := fun q hq e => hr (by rw [e]; exact hq)
    rw [← hNq]; unfold siQ; rw [up_ne (e 6 (by decide)), up_ne (e 6 (by decide)), up_ne (e 6 (by decide)), up_ne (e 6 (by decide)), up_ne (e 6 (by decide)), wr_ne (e 246 (by decide))]
  have nq0 : ∀ i : Int, i ∉ [127, 165, 163, 164, 169] → Nq 6 i = N 6 i := fun i hi => by
    simp only [List.mem_cons, List.not_mem_nil, or_false, not_or] at hi
    rw [← hNq]; unfold siQ; rw [upo hi.2.2.2.2, upo hi.2.2.2.1, upo hi.2.2.1, upo hi.2.1, upo hi.1, wr_ne (by decide)]
  have nq127 : Nq 6 127 = 1 := by rw [← hNq]; unfold siQ; rw [upo (by decide), upo (by decide), upo (by decide), upo (by decide), up_at]
  have nq165 : Nq 6 165 = x1 := by rw [← hNq]; unfold siQ; rw [upo (by decide), upo (by decide), upo (by decide), up_at]
  have nq163 : Nq 6 163 = 0 := by rw [← hNq]; unfold siQ; rw [upo (by decide), upo (by decide), up_at]
  have nq164 : Nq 6 164 = 0 := by rw [← hNq]; unfold siQ; rw [upo (by decide), up_at]
  have nq169 : Nq 6 169 = 0 := by rw [← hNq]; unfold siQ; rw [up_at]
  have nq246 : ∀ i, 0 ≤ i → i < 1104 → Nq 246 i = N 239 i := fun i i0 i1 => by rw [← hNq]; unfold siQ; rw [up_ne (by decide), up_ne (by decide), up_ne (by decide), up_ne (by decide), up_ne (by decide), wr_same]; unfold ldF; rw [if_pos ⟨i0, i1⟩]
  have fNq : QSF N Nq := by rw [← hNq]; unfold siQ; exact QSF_tr (QSF_tr (QSF_tr (QSF_tr (QSF_tr (QSF_wr (.inl (by decide)) (by decide)) (QSF_up (.inr (by decide)) (fun _ => by decide))) (QSF_up (.inr (by decide)) (fun _ => by decide))) (QSF_up (.inr (by decide)) (fun _ => by decide))) (QSF_up (.inr (by decide)) (fun _ => by decide))) (QSF_up (.inr (by decide)) (fun _ => by decide))
  have e239 : Nq 239 = N 239 := nqr 239 (by decide)
  have q381 := q_381 (N := Nq) (by rw [e239]; omega) (by rw [e239, nq0 18 (by decide)]; exact hro) (by rw [nq0 18 (by decide)]; exact h18)
  have eS : ∀ j, FSI Nq (fun c => 0 < c) j ↔ FSI N (fun c => 0 < c) j := fun j => by unfold FSI RSI CKI; rw [e239, nq0 18 (by decide)]
  rw [svM_c eS] at q381
  generalize hNp : svM Nq (FSI N (fun c => 0 < c)) 0 = Np at q381
  have npr : ∀ r : Nat, r ≠ 239 → Np r = Nq r := fun r c => by rw [← hNp]; exact svM_r c
  have np239 : Np 239 = svF (N 239) (FSI N (fun c => 0 < c)) 0 := by rw [← hNp]; unfold svM; rw [wr_same, e239]
  have fNp : QSF N Np := QSF_tr fNq (by rw [← hNp]; unfold svM; exact QSF_wr (.inr (by decide)) (by decide))
  have np0 : ∀ i : Int, i ∉ [127, 165, 163, 164, 169] → Np 6 i = N 6 i := fun i hi => by rw [npr 6 (by decide)]; exact nq0 i hi
  -- a run of X that fits Q
  have RV : ∀ (Nv : mm_) (Mv : mm_), (∀ r : Nat, r ≠ 6 → Nv r = Np r) → (∀ i : Int, i ≠ 138 → i ≠ 139 → Nv 6 i = Np 6 i) → (∀ r : Nat, r ≠ 0 → Mv r = Ms r) → (∀ i : Int, i ≠ 37 → i ≠ 38 → Mv 0 i = Ms 0 i) → (Mv 0 37 = Nv 6 138 ∧ Mv 0 38 = Nv 6 139) → RU 1 Mv Nv := fun Nv Mv a1 a2 b1 b2 b3 => RU_01 hR (fun r hr => by rw [b1 r (fun c => by rw [c] at hr; revert hr; decide), msr r (fun c => by revert hr c; simp only [List.mem_cons, List.not_mem_nil, or_false]; omega)]) (fun i hi c1 c2 c3 => by rw [b2 i c2 c3, ms0 i c1]) (by rw [b2 25 (by decide) (by decide)]; exact ms25) (fun r hr => by rw [a1 r (fun c => by rw [c] at hr; revert hr; decide), npr r (fun c => by rw [c] at hr; revert hr; decide), nqr r (fun c => by revert hr c; simp only [List.mem_cons, List.not_mem_nil, or_false]; omega)]) (fun i hi c1 c2 c3 => by rw [a2 i c2 c3, np0 i (fun c => by revert hi c; simp only [rfQ, List.mem_cons, List.not_mem_nil, or_false]; omega)]) (by rw [a2 127 (by decide) (by decide), npr 6 (by decide)]; exact nq127) b3 (by rw [a1 239 (by decide)]; exact np239) hf
  have TA : TYA Np := TYA_sv hR hA (TYT_s fNp) np239 (by unfold R32; omega)
  have Pp : PLr Ms Np := PLr_s hP fMs fNp
  -- X packs
  have Rk : RU 1 Ms (q37 Np (Ms 0 37) (Ms 0 38)) := RV _ _ (fun r c => q37_r c) (fun i c c' => q37_0 c c') (fun _ _ => rfl) (fun _ _ _ => rfl) ⟨q37_v.1.symm, q37_v.2.symm⟩
  have x38 := x_38 Rk (PLr_s Pp XSF_rf QSF_q37) (k := 0) (by decide)
  rw [q37_r (r := 239) (by decide), pkL_t (N := Np) (q37_0 (by decide) (by decide)) (q37_r (by decide))] at x38
  have vr : VR Np (Np 239) := by
    have := VR_of Rk
    rw [q37_r (r := 239) (by decide)] at this
    exact VR_t this (q37_0 (by decide) (by decide)).symm (q37_0 (by decide) (by decide)).symm (fun r hr => (q37_r (fun c => by rw [c] at hr; revert hr; decide)).symm)
  have hN := PKB_of Pp
  have lL := pkL_len hN vr
  generalize hL : pkL Np (Np 239) = L at x38 lL
  generalize hM3 : pakX Ms 0 L = M3 at x38
  have m3r : ∀ r : Nat, r ∉ [0, 27, 28, 29] → M3 r = Ms r := fun r hr => by rw [← hM3, pak_r hr]
  have m30 : ∀ i : Int, i ≠ 65 → M3 0 i = Ms 0 i := fun i hi => by rw [← hM3, pak_0 hi]
  have m328 : M3 28 0 = L.length := by rw [← hM3, pak_28, up_at]
  have m329 : M3 29 0 = hshL L := by rw [← hM3, pak_29, up_at]
  have m327 : RDL (M3 27) 0 L := by
    rw [← hM3, pak_27]
    have := RDL_lw (f := Ms 27) (a := 1100 * 0) L []
    rw [List.nil_append, List.length_nil] at this
    simpa using this
  have fM3 : XSF Ms M3 := by
    rw [← hM3]; unfold pakX pkW
    exact XSF_tr (XSF_tr (XSF_tr (XSF_wr (.inl (by decide)) (by decide)) (XSF_up (.inr (by decide)) (fun _ => by decide))) (XSF_up (.inl (by decide)) (fun c => absurd c (by decide)))) (XSF_up (.inl (by decide)) (fun c => absurd c (by decide)))
  have x40 := x_40 (M := M3) (n := 0) (by decide)
  have b0 : BKT M3 0 := ⟨fun k k0 k1 => by omega, fun b b0 b1 => by rw [m3r 31 (by decide), ms31 b b0 b1]; rfl⟩
  have b5 := BKT_kp b0 (Int.le_refl _)
  generalize hM5 : kpX M3 0 = M5 at x40 b5
  have m5r : ∀ r : Nat, r ∉ [30, 31, 35, 36, 37] → M5 r = M3 r := fun r hr => by
    have e : ∀ q : Nat, q ∈ [30, 31, 35, 36, 37] → r ≠ q := fun q hq e => hr (by rw [e]; exact hq)
    rw [← hM5]; unfold kpX
    rw [up_ne (e 37 (by decide)), up_ne (e 36 (by decide)), up_ne (e 35 (by decide)), up_ne (e 31 (by decide)), up_ne (e 30 (by decide))]
  have m5v : M5 35 0 = -1 ∧ M5 36 0 = -1 ∧ M5 37 0 = -1 := by
    rw [← hM5]; unfold kpX
    exact ⟨by rw [up_ne (by decide), up_ne (by decide), up_at], by rw [up_ne (by decide), up_at], by rw [up_at]⟩
  generalize hMi : up_ (up_ (up_ (up_ (up_ (up_ M5 32 0 (-1)) 33 0 (-1)) 34 0 0) 0 62 1) 0 63 0) 0 64 0 = Mi
  have mir : ∀ r : Nat, r ∉ [0, 32, 33, 34] → Mi r = M5 r := fun r hr => by
    have e : ∀ q : Nat, q ∈ [0, 32, 33, 34] → r ≠ q := fun q hq e => hr (by rw [e]; exact hq)
    rw [← hMi, up_ne (e 0 (by decide)), up_ne (e 0 (by decide)), up_ne (e 0 (by decide)), up_ne (e 34 (by decide)), up_ne (e 33 (by decide)), up_ne (e 32 (by decide))]
  have mi0 : ∀ i : Int, i ∉ [62, 63, 64, 65] → Mi 0 i = Ms 0 i := fun i hi => by
    simp only [List.mem_cons, List.not_mem_nil, or_false, not_or] at hi
    rw [← hMi, upo hi.2.2.1, upo hi.2.1, upo hi.1, up_ne (by decide), up_ne (by decide), up_ne (by decide), m5r 0 (by decide), m30 i hi.2.2.2]
  have mi62 : Mi 0 62 = 1 ∧ Mi 0 63 = 0 ∧ Mi 0 64 = 0 := by rw [← hMi]; exact ⟨by rw [upo (by decide), upo (by decide), up_at], by rw [upo (by decide), up_at], by rw [up_at]⟩
  have mi32 : Mi 32 0 = -1 ∧ Mi 33 0 = -1 ∧ Mi 34 0 = 0 := by
    rw [← hMi]
    exact ⟨by rw [up_ne (by decide), up_ne (by decide), up_ne (by decide), up_ne (by decide), up_ne (by decide), up_at], by rw [up_ne (by decide), up_ne (by decide), up_ne (by decide), up_ne (by decide), up_at], by rw [up_ne (by decide), up_ne (by decide), up_ne (by decide), up_at]⟩
  have fMi : XSF M Mi := by
    refine XSF_tr fMs (XSF_tr fM3 ?_)
    rw [← hMi, ← hM5]; unfold kpX
    exact XSF_tr (XSF_tr (XSF_tr (XSF_tr (XSF_tr (XSF_tr (XSF_tr (XSF_tr (XSF_tr (XSF_tr (XSF_up (.inl (by decide)) (fun c => absurd c (by decide))) (XSF_up (.inl (by decide)) (fun c => absurd c (by decide)))) (XSF_up (.inl (by decide)) (fun c => absurd c (by decide)))) (XSF_up (.inl (by decide)) (fun c => absurd c (by decide)))) (XSF_up (.inl (by decide)) (fun c => absurd c (by decide)))) (XSF_up (.inl (by decide)) (fun c => absurd c (by decide)))) (XSF_up (.inl (by decide)) (fun c => absurd c (by decide)))) (XSF_up (.inl (by decide)) (fun c => absurd c (by decide)))) (XSF_up (.inr (by decide)) (fun _ => by decide))) (XSF_up (.inr (by decide)) (fun _ => by decide))) (XSF_up (.inr (by decide)) (fun _ => by decide))
  -- Q keeps
  have q382 := q_382 (N := Np)
  generalize hv : smF (Np 239) = v at q382
  have q383 := q_383 (N := Np) (n := 0) (fr := -1) (mv := -1) (v := v) (by rw [npr 6 (by decide)]; exact nq163) (by decide) (.inl rfl)
  generalize hNi : kpQ Np 0 (-1) (-1) v = Ni at q383
  have nir : ∀ r : Nat, r ∉ [6, 245, 247, 248, 249, 250, 251, 252, 253] → Ni r = Np r := fun r hr => by
    have e : ∀ q : Nat, q ∈ [6, 245, 247, 248, 249, 250, 251, 252, 253] → r ≠ q := fun q hq e => hr (by rw [e]; exact hq)
    rw [← hNi]; unfold kpQ
    rw [up_ne (e 6 (by decide)), up_ne (e 253 (by decide)), up_ne (e 252 (by decide)), up_ne (e 251 (by decide)), up_ne (e 250 (by decide)), up_ne (e 249 (by decide)), up_ne (e 248 (by decide)), up_ne (e 247 (by decide)), wr_ne (e 245 (by decide))]
  have ni6 : ∀ i : Int, i ≠ 163 → Ni 6 i = Np 6 i := fun i h1 => by
    rw [← hNi]; unfold kpQ
    rw [upo h1, up_ne (by decide), up_ne (by decide), up_ne (by decide), up_ne (by decide), up_ne (by decide), up_ne (by decide), up_ne (by decide), wr_ne (by decide)]
  have ni163 : Ni 6 163 = 1 := by rw [← hNi]; unfold kpQ; rw [up_at]; rfl
  have ni245 : Ni 245 = kcF Np 0 := by
    rw [← hNi]; unfold kpQ
    rw [up_ne (by decide), up_ne (by decide), up_ne (by decide), up_ne (by decide), up_ne (by decide), up_ne (by decide), up_ne (by decide), up_ne (by decide), wr_same]
  have niv : Ni 247 0 = -1 ∧ Ni 248 0 = -1 ∧ Ni 249 0 = 0 ∧ Ni 250 0 = -1 ∧ Ni 251 0 = -1 ∧ Ni 252 0 = -1 ∧ Ni 253 0 = v := by
    rw [← hNi]; unfold kpQ
    refine ⟨?_, ?_, ?_, ?_, ?_, ?_, ?_⟩
    · rw [up_ne (by decide), up_ne (by decide), up_ne (by decide), up_ne (by decide), up_ne (by decide), up_ne (by decide), up_ne (by decide), up_at]
    · rw [up_ne (by decide), up_ne (by decide), up_ne (by decide), up_ne (by decide), up_ne (by decide), up_ne (by decide), up_at]
    · rw [up_ne (by decide), up_ne (by decide), up_ne (by decide), up_ne (by decide), up_ne (by decide), up_at]; rfl
    · rw [up_ne (by decide), up_ne (by decide), up_ne (by decide), up_ne (by decide), up_at]
    · rw [up_ne (by decide), up_ne (by decide), up_ne (by decide), up_at]
    · rw [up_ne (by decide), up_ne (by decide), up_at]
    · rw [up_ne (by decide), up_at]
  have fNi : QSF Np Ni := by
    rw [← hNi]; unfold kpQ
    exact QSF_tr (QSF_tr (QSF_tr (QSF_tr (QSF_tr (QSF_tr (QSF_tr (QSF_tr (QSF_wr (.inl (by decide)) (by decide)) (QSF_up (.inl (by decide)) (fun c => absurd c (by decide)))) (QSF_up (.inl (by decide)) (fun c => absurd c (by decide)))) (QSF_up (.inl (by decide)) (fun c => absurd c (by decide)))) (QSF_up (.inl (by decide)) (fun c => absurd c (by decide)))) (QSF_up (.inl (by decide)) (fun c => absurd c (by decide)))) (QSF_up (.inl (by decide)) (fun c => absurd c (by decide)))) (QSF_up (.inl (by decide)) (fun c => absurd c (by decide)))) (QSF_up (.inr (by decide)) (fun _ => by decide))
  have rw0 : ∀ i, 0 ≤ i → i < 1104 → Np 239 i = rwk Ni 0 i := fun i i0 i1 => by
    rw [rwk_i i0 i1, ni245]; unfold kcF
    rw [if_pos (by omega), show 1104 * 0 + i - 1104 * 0 = i by omega]
  have tr' : ∀ r : Nat, r ∈ [156, 157, 171, 172, 173, 174, 182, 183, 184] → Ni r = Np r := fun r hr => nir r (fun c => by revert hr c; simp only [List.mem_cons, List.not_mem_nil, or_false]; omega)
  have h18' : Ni 6 18 = Np 6 18 := ni6 18 (by decide)
  have h19' : Ni 6 19 = Np 6 19 := ni6 19 (by decide)
  have vr' : VR Ni (Np 239) := VR_t vr h18' h19' (fun r hr => tr' r (by revert hr; simp only [List.mem_cons, List.not_mem_nil, or_false]; omega))
  have Pi : PLr Mi Ni := PLr_s hP fMi (QSF_tr fNp fNi)
  have vrn : VR Ni (rwk Ni 0) := VR_c (by rw [h18']; exact hN.1) vr' rw0
  have pkn : pkL Ni (rwk Ni 0) = L := by rw [← pkL_cg (PKB_of Pi) vr' rw0, pkL_t h18' (tr' 172 (by decide))]; exact hL
  have S : SST Mi Ni 1 (M 0 8) := by
    refine ⟨⟨mi62.1, ni163⟩, by decide, fun j j0 j1 => ?_⟩
    have e : j = 0 := by omega
    subst e
    refine ⟨⟨vrn, TYR_c (TYR_of TA) ⟨fun r hr => tr' r (by revert hr; simp only [List.mem_cons, List.not_mem_nil, or_false]; omega), h18', ni6 17 (by decide)⟩ vr.1.1 (fun i i0 i1 => (rw0 i i0 i1).symm), ?_, ⟨by rw [pkn, mir 27 (by decide), m5r 27 (by decide)]; exact m327, by rw [pkn, mir 28 (by decide), m5r 28 (by decide)]; exact m328, by rw [pkn, mir 29 (by decide), m5r 29 (by decide)]; exact m329⟩, ?_⟩, ?_⟩
    · rw [← rw0 1 (by decide) (by decide)]
      have := Rk.1.2.1.1
      rw [q37_r (r := 239) (by decide), ms0 8 (by decide)] at this
      omega
    · rw [niv.2.2.2.2.2.2, ← hv]; exact sumR_cg _ _ _ (fun i i0 i1 => rw0 i i0 (by omega))
    · unfold SEQ
      rw [mi32.1, mi32.2.1, mi32.2.2, mir 35 (by decide), mir 36 (by decide), mir 37 (by decide), m5v.1, m5v.2.1, m5v.2.2, niv.1, niv.2.1, niv.2.2.1, niv.2.2.2.1, niv.2.2.2.2.1, niv.2.2.2.2.2.1]
      exact ⟨⟨rfl, rfl, rfl⟩, rfl, rfl, rfl⟩
  refine ⟨Mi, Ni, fun V Qr Qt hV hW g => x_23k hV hW (x_83k hV hW (b_37_83 (Tr_mono _) hV hW _ _ _ ?_)), fun V Qr Qt hV hW g => q_23k hV hW (b_380_23 (Tr_mono _) hV hW _ _ _ ?_), ⟨⟨?_, Pi, TYA_c TA (TYT_s fNi) (nir 239 (by decide))⟩, ⟨S, BKT_c b5 (fun i i0 i1 => by rw [mir 29 (by decide)]) (mir 30 (by decide)) (mir 31 (by decide))⟩, ⟨hx.1, by rw [ni6 165 (by decide), npr 6 (by decide)]; exact nq165⟩, ⟨rfl, rfl, rfl⟩, by rw [mi62.2.2, ni6 164 (by decide), npr 6 (by decide)]; exact nq164.symm⟩, ⟨mi62.2.1, by rw [ni6 169 (by decide), npr 6 (by decide)]; exact nq169⟩, ⟨fMi, QSF_tr fNp fNi⟩, by rw [mir 41 (by decide), m5r 41 (by decide), m3r 41 (by decide)]; exact ms41, fun i i0 i1 => by rw [nir 246 (by decide), npr 246 (by decide)]; exact nq246 i i0 i1, fun i i0 i1 => by rw [← rw0 i i0 i1, np239], by rw [mi0 11 (by decide), ms0 11 (by decide)], by rw [ni6 130 (by decide)]; exact np0 130 (by decide)⟩
  · rw [if_neg (by decide)]
    refine ⟨.inr rfl, ?_⟩
    have eMs : up_ (wr_ (wr_ M 41 (k41 M)) 31 (flf (wr_ M 41 (k41 M) 31) 0 1024 (-1))) 0 25 1 = Ms := by rw [← hMs]; unfold siX; rw [wr_ne (r := 41) (r' := 31) (by decide)]
    rw [eMs]
    refine Ex_le (d := 2) (by decide) x38 _ _ (rv_i (Ex_le (d := 1) (by decide) x40 _ _ (rv_i ?_)))
    rw [hMi]
    exact ⟨by decide, by decide, by decide, g⟩
  · rw [if_neg (by decide)]
    refine ⟨.inr rfl, .inl rfl, ?_⟩
    rw [show up_ (up_ (up_ (up_ (up_ (wr_ N 246 (ldF (N 246) (N 239))) 6 127 1) 6 165 x1) 6 163 0) 6 164 0) 6 169 0 = Nq from hNq]
    exact Ex_le (d := 2) (by decide) q381 _ _ (rv_i (Ex_le (d := 1) (by decide) q382 _ _ (ri_i (Ex_le (d := 1) (by decide) q383 _ _ (rv_i g)))))
  · -- the run fits
    refine ⟨p37 Mi (Ni 6 138) (Ni 6 139), RU_cc (RV Np (p37 Ms (Np 6 138) (Np 6 139)) (fun _ _ => rfl) (fun _ _ _ => rfl) (fun r c => p37_r c) (fun i c c' => p37_0 c c') p37_v) (fun r hr => ?_) (fun i hi => ?_) (fun r hr => nir r (fun c => by revert hr c; simp only [List.mem_cons, List.not_mem_nil, or_false]; omega)) (fun i hi => ni6 i (fun c => by rw [c] at hi; revert hi; decide)), fun r hr => p37_r (fun c => hr (by rw [c]; decide)), fun i hi => p37_0 (fun c => hi (by rw [c]; decide)) (fun c => hi (by rw [c]; decide))⟩
    · have r0 : r ≠ 0 := fun c => by rw [c] at hr; revert hr; decide
      rw [p37_r r0, p37_r r0, mir r (fun c => by revert hr c; simp only [List.mem_cons, List.not_mem_nil, or_false]; omega), m5r r (fun c => by revert hr c; simp only [List.mem_cons, List.not_mem_nil, or_false]; omega), m3r r (fun c => by revert hr c; simp only [List.mem_cons, List.not_mem_nil, or_false]; omega)]
    · by_cases c : i = 37
      · rw [c, p37_v.1, p37_v.1, ni6 138 (by decide)]
      · by_cases c2 : i = 38
        · rw [c2, p37_v.2, p37_v.2, ni6 139 (by decide)]
        · rw [p37_0 c c2, p37_0 c c2, mi0 i (fun e => by revert hi e; simp only [rfX, List.mem_cons, List.not_mem_nil, or_false]; omega)]
end SBa
end T416_sb
section T417_sw
/-! the search whole (X 37 | Q 380) -/
section SWf
theorem RU_fz (i i' : Inhabited fz_) {M N : mm_} (h : @RU i 0 M N) : @RU i' 0 M N := by
  obtain ⟨h1, h2, h3, h4, h5⟩ := h
  exact ⟨h1, h2, h3, ⟨h4.1, fun j j0 j1 => ⟨(h4.2 j j0 j1).1, fun c => absurd c (by decide)⟩⟩, h5.1, fun j j0 j1 => ⟨(h5.2 j j0 j1).1, fun c => absurd c (by decide)⟩⟩
theorem RNS_fz (i i' : Inhabited fz_) {M N : mm_} (h : @RNS i M N) : @RNS i' M N := ⟨⟨RU_fz i i' h.1.1, h.1.2⟩, h.2⟩
end SWf
def r17 (A : mm_) : mm_ := wr_ A 17 (fun i => if 0 ≤ i ∧ i < 36 then A 41 i else A 17 i)
def r22 (A : mm_) : mm_ := wr_ A 22 (fun i => if (0 ≤ i ∧ i < 420) ∧ i % 7 = 3 then A 41 (36 + i / 7) else A 22 i)
section SWa
variable {M N Ms Np M' N' A Mf Nf Me : mm_} {f : Int → Int} {k r t x1 a b n B c : Int}
theorem x_387k [Inhabited fz_] {V : vv_} {Qr : qr_} {Qt : qt_} (hV : Cl_ wd0 (Tr_ wd0 pg0 10) V Qr Qt m_37) (hW : Wk_ V) (g : Qr [.inl (A 0 62)] (up_ (r22 (r17 A)) 0 25 0)) : V 387 [rr 0, ii x1, ii 0, none, none, none] [] A := by
  have l2 : ∀ (B : mm_), Qr [.inl (B 0 62)] (up_ (r22 B) 0 25 0) → V 413 [rr 0, ii x1, ii 0, none, none, none] [] B := fun B g => by
    have e41 : ∀ g : Int → Int, wr_ B 22 g 41 = B 41 := fun g => wr_ne (by decide)
    have l : ∀ (n : Nat) (x : Int), x + n = 60 → 0 ≤ x → V 413 [rr 0, ii x1, ii x, none, none, none] [] (wr_ B 22 (fun i => if (0 ≤ i ∧ i < 7 * x) ∧ i % 7 = 3 then B 41 (36 + i / 7) else B 22 i)) := fun n => by
      induction n with
      | zero =>
        intro x hx x0
        refine b_37_413 (Tr_mono _) hV hW _ _ _ ?_
        rw [if_neg (by omega), show x = 60 by omega, wr_ne (by decide)]; exact ⟨.inl rfl, g⟩
      | succ n ih =>
        intro x hx x0
        refine b_37_413 (Tr_mono _) hV hW _ _ _ ?_
        rw [if_pos (by omega), w32_id (x := 7 * x) (by omega) (by omega), w32_id (x := 7 * x + 3) (by omega) (by omega), w32_id (x := 36 + x) (by omega) (by omega), w32_id (x := x + 1) (by omega) (by omega), e41, up_wr]
        refine ⟨by omega, by omega, ?_⟩
        have := ih (x + 1) (by omega) (by omega)
        have e : su_ (fun i => if (0 ≤ i ∧ i < 7 * x) ∧ i % 7 = 3 then B 41 (36 + i / 7) else B 22 i) (7 * x + 3) (B 41 (36 + x)) = fun i => if (0 ≤ i ∧ i < 7 * (x + 1)) ∧ i % 7 = 3 then B 41 (36 + i / 7) else B 22 i := by
          funext i
          unfold su_
          by_cases c : i = 7 * x + 3
          · rw [if_pos c, if_pos (by omega), show i / 7 = x by omega]
          · rw [if_neg c]
            show (if (0 ≤ i ∧ i < 7 * x) ∧ i % 7 = 3 then B 41 (36 + i / 7) else B 22 i) = _
            by_cases c1 : (0 ≤ i ∧ i < 7 * x) ∧ i % 7 = 3
            · rw [if_pos c1, if_pos (by omega)]
            · rw [if_neg c1, if_neg (by omega)]
        rw [e]; exact this
    have := l 60 0 (by decide) (by decide)
    rw [show (fun i => if (0 ≤ i ∧ i < 7 * 0) ∧ i % 7 = 3 then B 41 (36 + i / 7) else B 22 i) = B 22 by funext i; rw [if_neg (by omega)], wr_id] at this
    exact this
  have e41 : ∀ g : Int → Int, wr_ A 17 g 41 = A 41 := fun g => wr_ne (by decide)
  have l : ∀ (n : Nat) (x : Int), x + n = 36 → 0 ≤ x → V 387 [rr 0, ii x1, ii x, none, none, none] [] (wr_ A 17 (fun i => if 0 ≤ i ∧ i < x then A 41 i else A 17 i)) := fun n => by
    induction n with
    | zero =>
      intro x hx x0
      refine b_37_387 (Tr_mono _) hV hW _ _ _ ?_
      rw [if_neg (by omega), show x = 36 by omega]
      refine l2 (r17 A) ?_
      rw [show r17 A 0 = A 0 from wr_ne (by decide)]; exact g
    | succ n ih =>
      intro x hx x0
      refine b_37_387 (Tr_mono _) hV hW _ _ _ ?_
      rw [if_pos (by omega), w32_id (x := x + 1) (by omega) (by omega), e41, up_wr]
      refine ⟨by omega, by omega, ?_⟩
      have := ih (x + 1) (by omega) (by omega)
      have e : su_ (fun i => if 0 ≤ i ∧ i < x then A 41 i else A 17 i) x (A 41 x) = fun i => if 0 ≤ i ∧ i < x + 1 then A 41 i else A 17 i := by
        funext i
        unfold su_
        by_cases c : i = x
        · rw [if_pos c, if_pos (by omega), c]
        · rw [if_neg c]
          show (if 0 ≤ i ∧ i < x then A 41 i else A 17 i) = _
          by_cases c1 : 0 ≤ i ∧ i < x
          · rw [if_pos c1, if_pos (by omega)]
          · rw [if_neg c1, if_neg (by omega)]
      rw [e]; exact this
  have := l 36 0 (by decide) (by decide)
  rw [show (fun i => if 0 ≤ i ∧ i < 0 then A 41 i else A 17 i) = A 17 by funext i; rw [if_neg (by omega)], wr_id] at this
  exact this
theorem q_189k [Inhabited fz_] {V : vv_} {Qr : qr_} {Qt : qt_} (hV : Cl_ wd0 (Tr_ wd0 pg0 10) V Qr Qt m_380) (hW : Wk_ V) (g : Qr [.inl (N 6 163)] (wr_ N 239 (ldF (N 239) (N 246)))) : V 189 [rr 6, ii x1, ii 0] [] N := by
  have e246 : ∀ g : Int → Int, wr_ N 239 g 246 = N 246 := fun g => wr_ne (by decide)
  have l : ∀ (n : Nat) (x : Int), x + n = 1104 → 0 ≤ x → V 189 [rr 6, ii x1, ii x] [] (wr_ N 239 (fun i => if 0 ≤ i ∧ i < x then N 246 i else N 239 i)) := fun n => by
    induction n with
    | zero =>
      intro x hx x0
      refine b_380_189 (Tr_mono _) hV hW _ _ _ ?_
      rw [if_neg (by omega), show x = 1104 by omega, wr_ne (r' := 6) (by decide)]; exact g
    | succ n ih =>
      intro x hx x0
      refine b_380_189 (Tr_mono _) hV hW _ _ _ ?_
      rw [if_pos (by omega), w32_id (x := x + 1) (by omega) (by omega), e246, up_wr]
      refine ⟨by omega, by omega, ?_⟩
      have := ih (x + 1) (by omega) (by omega)
      have e : su_ (fun i => if 0 ≤ i ∧ i < x then N 246 i else N 239 i) x (N 246 x) = fun i => if 0 ≤ i ∧ i < x + 1 then N 246 i else N 239 i := by
        funext i
        unfold su_
        by_cases c : i = x
        · rw [if_pos c, if_pos (by omega), c]
        · rw [if_neg c]
          show (if 0 ≤ i ∧ i < x then N 246 i else N 239 i) = _
          by_cases c1 : 0 ≤ i ∧ i < x
          · rw [if_pos c1, if_pos (by omega)]
          · rw [if_neg c1, if_neg (by omega)]
      rw [e]; exact this
  have := l 1104 0 (by decide) (by decide)
  rw [show (fun i => if 0 ≤ i ∧ i < 0 then N 246 i else N 239 i) = N 239 by funext i; rw [if_neg (by omega)], wr_id] at this
  exact this
/-- the run as it was -/
theorem RU_end [Inhabited fz_] (h : RU 0 M N) (hv : RVX Mf Nf) (hu : UF Mf Me) (h41 : Mf 41 = k41 M) (h246 : ∀ i, 0 ≤ i → i < 1104 → Nf 246 i = N 239 i) (hf : ∀ i, 0 ≤ i → i < 1104 → f i = svF (N 239) (FSI N (fun c => 0 < c)) 0 i) (h7 : Me 0 7 = f 0) (h8 : Me 0 8 = f 1) (hS : ∀ j, 0 ≤ j → j < f 0 → SLD Me f j) (hR : ∀ j, 0 ≤ j → j < N 6 18 → ROD Me f j) (h18 : Nf 6 18 = N 6 18) (h19 : Nf 6 19 = N 6 19) (hq : ∀ r : Nat, r ∈ [172, 173, 174] → Nf r = N r) : RU 0 (up_ (r22 (r17 Me)) 0 25 0) (wr_ (up_ Nf 6 127 0) 239 (ldF (up_ Nf 6 127 0 239) (up_ Nf 6 127 0 246))) ∧ up_ (r22 (r17 Me)) 0 25 0 0 8 = M 0 8 := by
  obtain ⟨Mv, ⟨_, _, vc, vd, ve⟩, v1, v2⟩ := hv
  obtain ⟨⟨a1, a2, a3, a4⟩, ⟨b1, b2, b3⟩, c, _, _⟩ := h
  generalize hZ : up_ (r22 (r17 Me)) 0 25 0 = Z
  generalize hY : wr_ (up_ Nf 6 127 0) 239 (ldF (up_ Nf 6 127 0 239) (up_ Nf 6 127 0 246)) = Y
  have zr : ∀ r : Nat, r ∉ [0, 17, 22] → Z r = Me r := fun r hr => by
    have e : ∀ q : Nat, q ∈ [0, 17, 22] → r ≠ q := fun q hq e => hr (by rw [e]; exact hq)
    rw [← hZ, up_ne (e 0 (by decide))]; unfold r22 r17; rw [wr_ne (e 22 (by decide)), wr_ne (e 17 (by decide))]
  have z0 : ∀ i : Int, i ≠ 25 → Z 0 i = Me 0 i := fun i c => by rw [← hZ, upo c]; unfold r22 r17; rw [wr_ne (by decide), wr_ne (by decide)]
  have z25 : Z 0 25 = 0 := by rw [← hZ, up_at]
  have e41 : Me 41 = k41 M := by rw [hu.1 41 (by decide)]; exact h41
  have z17 : ∀ i, 0 ≤ i → i < 36 → Z 17 i = M 17 i := fun i i0 i1 => by
    rw [← hZ, up_ne (by decide)]; unfold r22; rw [wr_ne (by decide)]; unfold r17; rw [wr_same, if_pos ⟨i0, i1⟩, e41]; unfold k41; rw [if_pos ⟨i0, i1⟩]
  have z22 : ∀ i, 0 ≤ i → i < 420 → i % 7 ≠ 3 → Z 22 i = Me 22 i := fun i i0 i1 i2 => by
    rw [← hZ, up_ne (by decide)]; unfold r22; rw [wr_same, if_neg (by omega)]; unfold r17; rw [wr_ne (by decide)]
  have z22t : ∀ i, 0 ≤ i → i < 420 → i % 7 = 3 → Z 22 i = M 22 i := fun i i0 i1 i2 => by
    rw [← hZ, up_ne (by decide)]; unfold r22; rw [wr_same, if_pos ⟨⟨i0, i1⟩, i2⟩]; unfold r17; rw [wr_ne (by decide), e41]; unfold k41; rw [if_neg (by omega), if_pos (by omega), show 7 * (36 + i / 7 - 36) + 3 = i by omega]
  have yr : ∀ r : Nat, r ∉ [6, 239] → Y r = Nf r := fun r hr => by
    have e : ∀ q : Nat, q ∈ [6, 239] → r ≠ q := fun q hq e => hr (by rw [e]; exact hq)
    rw [← hY, wr_ne (e 239 (by decide)), up_ne (e 6 (by decide))]
  have y6 : ∀ i : Int, i ≠ 127 → Y 6 i = Nf 6 i := fun i c => by rw [← hY, wr_ne (by decide), upo c]
  have y127 : Y 6 127 = 0 := by rw [← hY, wr_ne (by decide), up_at]
  have y239 : ∀ i, 0 ≤ i → i < 1104 → Y 239 i = N 239 i := fun i i0 i1 => by
    rw [← hY, wr_same]; unfold ldF; rw [if_pos ⟨i0, i1⟩, up_ne (by decide)]; exact h246 i i0 i1
  -- f away from times
  have hro : ∀ r, 0 ≤ r → r < N 6 18 → 0 ≤ N 239 (sR r) ∧ N 239 (sR r) ≤ 6 := fun r r0 r1 => by have := (b2 r r0 r1).1; omega
  have rz : ∀ j, RSI N (N 6 18) 0 j → 674 ≤ j ∧ (j - 674) % 43 ≠ 0 := fun j hj => RSI_z hro b1.2 (by omega) (by decide) hj
  have cz : ∀ j, CKI N (fun c => 0 < c) (N 239 0) 0 j → 24 ≤ j ∧ (j - 2) % 56 < 25 ∧ 22 ≤ (j - 2) % 56 ∧ (j < sB (N 239 0) + 22 + 0) := fun j hj => CKI_z (by omega) (by decide) hj
  have hB0 : sB (N 239 0) = 2 + 56 * N 239 0 := rfl
  have out : ∀ j, 0 ≤ j → j < 1104 → ¬ FSI N (fun c => 0 < c) j → f j = N 239 j := fun j j0 j1 hj => by rw [hf j j0 j1, svF_out hj]
  have f0 : f 0 = N 239 0 := out 0 (by decide) (by decide) (fun hj => by rcases hj with hj | hj; have := rz _ hj; omega; have := cz _ hj; omega)
  have f1 : f 1 = N 239 1 := out 1 (by decide) (by decide) (fun hj => by rcases hj with hj | hj; have := rz _ hj; omega; have := cz _ hj; omega)
  have s1 : ∀ k i, 0 ≤ k → k < 12 → 0 ≤ i → i < 56 → (i < 22 ∨ 25 ≤ i) → f (sB k + i) = N 239 (sB k + i) := fun k i k0 k1 i0 i1 hi => by
    have hB : sB k = 2 + 56 * k := rfl
    refine out _ (by omega) (by omega) (fun hj => ?_)
    rcases hj with hj | hj
    · have := rz _ hj; omega
    · have := cz _ hj; omega
  refine ⟨⟨⟨?_, ?_, fun k k0 k1 => ?_, fun k k0 k1 i i0 i1 => ?_⟩, ⟨?_, fun r r0 r1 => ?_, fun r r0 r1 i i0 i1 => ?_⟩, ?_, ?_, ?_⟩, ?_⟩
  · rw [z0 7 (by decide), h7, f0, y239 0 (by decide) (by decide)]; omega
  · rw [z0 8 (by decide), h8, f1, y239 1 (by decide) (by decide)]; exact ⟨rfl, by omega⟩
  · rw [z0 7 (by decide), h7, f0] at k1
    have hB : sB k = 2 + 56 * k := rfl
    have k12 : k < 12 := by omega
    have s := fun i i0 i1 hi => s1 k i k0 k12 i0 i1 hi
    have w0 := s 0 (by decide) (by decide) (by decide)
    rw [Int.add_zero] at w0
    obtain ⟨⟨d1, d2, d3, d4, d5, d6⟩, dc, dt, dq, dl⟩ := hS k k0 (by omega)
    obtain ⟨⟨p1, p2, p3, p4, p5, p6⟩, pb, ⟨pc1, pc2⟩, pt, ⟨pq1, pq2, pq3⟩, pl1, pl2⟩ := a3 k k0 (by omega)
    have ey : ∀ i, 0 ≤ i → i < 56 → Y 239 (sB k + i) = N 239 (sB k + i) := fun i i0 i1 => y239 _ (by omega) (by omega)
    have ey0 := ey 0 (by decide) (by decide)
    rw [Int.add_zero] at ey0
    unfold IN
    rw [zr 10 (by decide), zr 11 (by decide), zr 12 (by decide), zr 13 (by decide), zr 14 (by decide), zr 15 (by decide), zr 16 (by decide), zr 18 (by decide), zr 19 (by decide), zr 20 (by decide), z0 8 (by decide), h8, f1, y6 19 (by decide), h19, yr 172 (by decide), yr 173 (by decide), yr 174 (by decide), hq 172 (by decide), hq 173 (by decide), hq 174 (by decide), d1, d2, d3, d4, d5, d6, dq, w0, s 1 (by decide) (by decide) (by decide), s 2 (by decide) (by decide) (by decide), s 3 (by decide) (by decide) (by decide), s 4 (by decide) (by decide) (by decide), s 5 (by decide) (by decide) (by decide), s 25 (by decide) (by decide) (by decide), ey0, ey 1 (by decide) (by decide), ey 2 (by decide) (by decide), ey 3 (by decide) (by decide), ey 4 (by decide) (by decide), ey 5 (by decide) (by decide), ey 25 (by decide) (by decide)]
    rw [p1, p2, p3, a2.1] at pb
    rw [p2] at pc2 pt
    rw [s 25 (by decide) (by decide) (by decide)] at dl
    refine ⟨⟨rfl, rfl, rfl, rfl, rfl, rfl⟩, pb, ⟨fun i i0 i1 => ?_, fun i i0 i1 i2 => ?_⟩, fun t t0 t1 => ?_, ⟨by omega, by omega, rfl⟩, fun i i0 i1 => ?_, fun i i0 i1 => ?_⟩
    · rw [dc i i0 i1, show sB k + 6 + i = sB k + (6 + i) by omega, s (6 + i) (by omega) (by omega) (by omega), ey (6 + i) (by omega) (by omega)]
    · rw [show sB k + 6 + i = sB k + (6 + i) by omega, ey (6 + i) (by omega) (by omega), show sB k + (6 + i) = sB k + 6 + i by omega]; exact pc2 i i0 i1 i2
    · obtain ⟨t16, t17⟩ := dt t t0 t1
      have tm := pt t t0 t1
      rw [z17 (3 * k + t) (by omega) (by omega), t16, show sB k + 22 + t = sB k + (22 + t) by omega, ey (22 + t) (by omega) (by omega)]
      rw [show sB k + 22 + t = sB k + (22 + t) by omega] at tm
      have fin : f (sB k + (22 + t)) = N 239 (sB k + (22 + t)) ∨ (0 < N 239 (sB k + (22 + t)) ∧ f (sB k + (22 + t)) = 0) := by
        by_cases c0 : FSI N (fun c => 0 < c) (sB k + (22 + t))
        · refine .inr ⟨?_, by rw [hf _ (by omega) (by omega), svF_in c0]⟩
          rcases c0 with hj | hj
          · have := rz _ hj; omega
          · rcases hj with ⟨k', t', q1, q2, q3, q4⟩ | ⟨t', q1, _⟩
            · exact q3
            · omega
        · exact .inl (out _ (by omega) (by omega) c0)
      rcases tm.1 with ⟨u1, u2, u3⟩ | ⟨u1, u2⟩
      · have e1 : (if 0 ≤ f (sB k + (22 + t)) then (1 : Int) else 0) = 1 := by rw [if_pos (by omega)]
        rw [e1]
        exact ⟨.inl ⟨rfl, u2, .inl ⟨rfl, by omega⟩⟩, fun hh => by have := tm.2 hh; omega⟩
      · have e1 : (if 0 ≤ f (sB k + (22 + t)) then (1 : Int) else 0) = 0 := by rw [if_neg (by omega)]
        rw [e1]
        exact ⟨.inr ⟨rfl, u2⟩, fun _ => rfl⟩
    · rw [show sB k + 26 + i = sB k + (26 + i) by omega, ey (26 + i) (by omega) (by omega), dl i i0 i1, show sB k + 26 + i = sB k + (26 + i) by omega, s (26 + i) (by omega) (by omega) (by omega)]
    · rw [show sB k + 26 + i = sB k + (26 + i) by omega, ey (26 + i) (by omega) (by omega), show sB k + (26 + i) = sB k + 26 + i by omega]; exact pl2 i (by omega) i1
  · rw [z0 7 (by decide), h7, f0] at k0
    have hB : sB k = 2 + 56 * k := rfl
    rw [y239 _ (by omega) (by omega)]; exact a4 k (by omega) k1 i i0 i1
  · rw [y6 18 (by decide), h18]; exact b1
  · rw [y6 18 (by decide), h18] at r1
    have hR' : sR r = 674 + 43 * r := rfl
    obtain ⟨o1, o2⟩ := hR r r0 r1
    obtain ⟨q1, q2, q3⟩ := b2 r r0 r1
    have nc : ∀ i, 0 ≤ i → ¬ CKI N (fun c => 0 < c) (N 239 0) 0 (sR r + i) := fun i i0 hj => by have := cz _ hj; omega
    have other : ∀ i, 0 ≤ i → i < 43 → (i = 0 ∨ (i - 1) % 7 ≠ 3) → f (sR r + i) = N 239 (sR r + i) := fun i i0 i1 hi => out _ (by omega) (by omega) (fun hj => by
      rcases hj with hj | hj
      · rcases hj with ⟨r', q', x1, x2, x3⟩ | ⟨q', x1, _⟩
        · have h' := hro r' x1.1 x1.2
          have er : r' = r := by unfold sR at x3; omega
          subst er
          rcases hi with hi | hi <;> omega
        · omega
      · exact nc i i0 hj)
    have e0 := other 0 (by decide) (by decide) (.inl rfl)
    rw [Int.add_zero] at e0
    rw [e0] at o1 o2
    unfold RO
    rw [zr 21 (by decide), y239 (sR r) (by omega) (by omega), o1]
    refine ⟨⟨by omega, by omega, rfl⟩, fun q q0 q1' => ⟨fun j j0 j1 j3 => ?_, ?_, fun _ => ?_, fun z => absurd z (by decide)⟩, fun i i0 i1 => ?_⟩
    · rw [y239 _ (by omega) (by omega), z22 _ (by omega) (by omega) (by omega), (o2 q q0 q1').1 j j0 j1 j3]
      have := other (1 + 7 * q + j) (by omega) (by omega) (.inr (by omega))
      rw [show sR r + (1 + 7 * q + j) = sR r + 1 + 7 * q + j by omega] at this; exact this
    · rw [z22t _ (by omega) (by omega) (by omega)]; exact (q2 q q0 (by omega)).2.1
    · rw [z22t _ (by omega) (by omega) (by omega), y239 _ (by omega) (by omega)]; exact (q2 q q0 (by omega)).2.2.1 rfl
    · rw [y239 _ (by omega) (by omega)]; exact q3 i (by omega) i1
  · rw [y6 18 (by decide), h18] at r0
    have hR' : sR r = 674 + 43 * r := rfl
    rw [y239 _ (by omega) (by omega)]; exact b3 r r0 r1 i i0 i1
  · have ex : ∀ i : Int, i ∉ [7, 8, 25, 37, 38, 65] → Z 0 i = Mv 0 i := fun i hi => by
      rw [z0 i (fun c => hi (by rw [c]; decide)), hu.2 i (fun c => hi (by revert c; simp only [List.mem_cons, List.not_mem_nil, or_false]; omega)), v2 i (fun c => hi (by revert c; simp only [List.mem_cons, List.not_mem_nil, or_false]; omega))]
    unfold RSC at vc ⊢
    rw [z25, y127, ex 9 (by decide), ex 10 (by decide), ex 26 (by decide), ex 27 (by decide), ex 28 (by decide), ex 29 (by decide), ex 30 (by decide), ex 31 (by decide), y6 128 (by decide), y6 129 (by decide), y6 131 (by decide), y6 132 (by decide), y6 133 (by decide), y6 134 (by decide), y6 135 (by decide), y6 136 (by decide)]
    exact ⟨⟨rfl, rfl, .inl rfl⟩, vc.2.1, vc.2.2.1, vc.2.2.2.1, fun z => absurd z (by decide)⟩
  · have ex : ∀ i : Int, i ∉ [7, 8, 25, 37, 38, 65] → Z 0 i = Mv 0 i := fun i hi => by
      rw [z0 i (fun c => hi (by rw [c]; decide)), hu.2 i (fun c => hi (by revert c; simp only [List.mem_cons, List.not_mem_nil, or_false]; omega)), v2 i (fun c => hi (by revert c; simp only [List.mem_cons, List.not_mem_nil, or_false]; omega))]
    unfold ROU at vd ⊢
    rw [ex 32 (by decide), ex 33 (by decide), ex 34 (by decide), y6 137 (by decide), y6 144 (by decide), y6 145 (by decide), zr 24 (by decide), hu.1 24 (by decide), ← v1 24 (by decide), yr 241 (by decide)]
    exact ⟨vd.1, fun i i0 i1 => ⟨(vd.2 i i0 i1).1, fun z => absurd z (by decide)⟩⟩
  · have ex : ∀ i : Int, i ∉ [7, 8, 25, 37, 38, 65] → Z 0 i = Mv 0 i := fun i hi => by
      rw [z0 i (fun c => hi (by rw [c]; decide)), hu.2 i (fun c => hi (by revert c; simp only [List.mem_cons, List.not_mem_nil, or_false]; omega)), v2 i (fun c => hi (by revert c; simp only [List.mem_cons, List.not_mem_nil, or_false]; omega))]
    unfold REV at ve ⊢
    rw [ex 35 (by decide), ex 36 (by decide), y6 142 (by decide), y6 143 (by decide), zr 23 (by decide), hu.1 23 (by decide), ← v1 23 (by decide), yr 240 (by decide)]
    exact ⟨ve.1, fun i i0 i1 => ⟨(ve.2 i i0 i1).1, fun z => absurd z (by decide)⟩⟩
  · rw [z0 8 (by decide), h8, f1]; exact a2.1.symm
end SWa
end T417_sw
section T418_sx
/-! the search as called (X 37 | Q 380) -/
section SXf
variable {M N : mm_} {x1 : Int}
/-- what a search leaves -/
def SRC (M N : mm_) (B : Int) : Prop := ∃ n, SST M N n B
theorem j_37f [Inhabited fz_] (h : RNS M N) (hf : (∀ i, 0 ≤ i → i < 1200 → M 24 i = fz 24 i) ∧ ∀ i, 0 ≤ i → i < 2000 → M 23 i = fz 23 i) (hB : M 0 8 + 40400 ≤ 2000000000) : ∃ v M' N', Ex_ 11 37 [.inr (.inr 0), .inl x1] M [.inl v] M' ∧ Ex_ 11 380 [.inr (.inr 6), .inl x1] N [.inl v] N' ∧ RNS M' N' ∧ (XSF M M' ∧ QSF N N') ∧ M' 0 8 = M 0 8 ∧ ((M' = M ∧ N' = N) ∨ (SRC M' N' (M 0 8) ∧ SCT M' N')) := by
  obtain ⟨st, r1, r2⟩ := h
  by_cases c1 : x1 < 1
  · refine ⟨-1, M, N, fun Qr Qt g => t_37 fun V hV hW => b_37_0 (Tr_mono _) hV hW _ _ fun _ => ?_, fun Qr Qt g => t_380 fun V hV hW => b_380_0 (Tr_mono _) hV hW _ _ fun _ => ?_, ⟨st, r1, r2⟩, ⟨XSF_rf, QSF_rf⟩, rfl, .inl ⟨rfl, rfl⟩⟩
    · rw [if_neg (by omega), if_pos c1]; exact g
    · rw [if_neg (by omega), if_pos c1]; exact g
  by_cases c2 : x1 ≤ 200
  · obtain ⟨Mi, Ni, xi, qi, hd, ct, fi, k41i, k246, rw0, wn⟩ := si_all (x1 := x1) st hf ⟨by omega, c2⟩
    obtain ⟨c, n, Mf, Nf, bc, hF, cF, nF, kF, xF, qF⟩ := o_156 hB c2 x1.toNat 0 1 Mi Ni (by omega) (by decide) (by decide) hd ct
    obtain ⟨⟨hV, hP, hA⟩, ⟨hS, hb⟩, ⟨hl1, hl2⟩, h16, h64⟩ := hF
    have n2 := hS.2.1
    obtain ⟨⟨s1, s2, s3, s4, s5⟩, _⟩ := hS.2.2 0 (by decide) (by omega)
    obtain ⟨Me, x41, u, ⟨h7, h8⟩, d1, d2⟩ := x_41 hP s1 (k := 0) (by decide) s4.1
    have fN : QSF N Nf := QSF_tr fi.2 kF.1.2
    have fM : XSF M Mf := XSF_tr fi.1 kF.1.1
    have e18 : Nf 6 18 = N 6 18 := fN.2 18 (by decide)
    have er := kF.2.2.2.1 0 (by decide) (by decide)
    obtain ⟨ru, e8⟩ := RU_end (Me := Me) (f := rwk Nf 0) st.1 hV u (by rw [kF.2.1]; exact k41i) (fun i i0 i1 => by rw [kF.2.2.1]; exact k246 i i0 i1) (fun i i0 i1 => by rw [er]; exact rw0 i i0 i1) h7 h8 d1 (by rw [← e18]; exact d2) e18 (fN.2 19 (by decide)) (fun r hr => fN.1 r (fun e => by revert hr e; simp only [sqA, List.mem_cons, List.not_mem_nil, or_false]; omega) (fun e => by revert hr e; simp only [quL, List.mem_cons, List.not_mem_nil, or_false]; omega))
    generalize hZ : up_ (r22 (r17 Me)) 0 25 0 = Z at ru e8
    generalize hY : wr_ (up_ Nf 6 127 0) 239 (ldF (up_ Nf 6 127 0 239) (up_ Nf 6 127 0 246)) = Y at ru
    have zr : ∀ r : Nat, r ∉ [0, 17, 22] → Z r = Me r := fun r hr => by
      have e : ∀ q : Nat, q ∈ [0, 17, 22] → r ≠ q := fun q hq e => hr (by rw [e]; exact hq)
      rw [← hZ, up_ne (e 0 (by decide))]; unfold r22 r17; rw [wr_ne (e 22 (by decide)), wr_ne (e 17 (by decide))]
    have z0 : ∀ i : Int, i ≠ 25 → Z 0 i = Me 0 i := fun i c => by rw [← hZ, upo c]; unfold r22 r17; rw [wr_ne (by decide), wr_ne (by decide)]
    have yr : ∀ r : Nat, r ∉ [6, 239] → Y r = Nf r := fun r hr => by
      have e : ∀ q : Nat, q ∈ [6, 239] → r ≠ q := fun q hq e => hr (by rw [e]; exact hq)
      rw [← hY, wr_ne (e 239 (by decide)), up_ne (e 6 (by decide))]
    have y6 : ∀ i : Int, i ≠ 127 → Y 6 i = Nf 6 i := fun i c => by rw [← hY, wr_ne (by decide), upo c]
    have fZ : XSF Mf Z := by
      refine XSF_tr (XSF_u u) ?_
      rw [← hZ]; unfold r22 r17
      exact XSF_tr (XSF_tr (XSF_wr (.inr (by decide)) (by decide)) (XSF_wr (.inr (by decide)) (by decide))) (XSF_up (.inr (by decide)) (fun _ => by decide))
    have fY : QSF Nf Y := by rw [← hY]; exact QSF_tr (QSF_up (.inr (by decide)) (fun _ => by decide)) (QSF_wr (.inr (by decide)) (by decide))
    have fMZ := XSF_tr fM fZ
    have fNY := QSF_tr fN fY
    have z62 : ∀ i : Int, i ∉ [7, 8, 25, 65] → Z 0 i = Mf 0 i := fun i hi => by rw [z0 i (fun c => hi (by rw [c]; decide)), u.2 i (fun c => hi (by revert c; simp only [List.mem_cons, List.not_mem_nil, or_false]; omega))]
    have tA : TYA (up_ Nf 6 127 0) := TYA_c hA ⟨fun r hr => up_ne (fun c => by rw [c] at hr; revert hr; decide), upo (by decide), upo (by decide)⟩ (up_ne (by decide))
    have n12 := st.1.1.1
    have TY : TYA Y := by
      rw [← hY]
      refine TYA_un tA (TYR_c (N := N) (f := N 239) (TYR_of st.2.2.1) ⟨fun r hr => by rw [up_ne (fun c => by rw [c] at hr; revert hr; decide)]; exact fN.1 r (fun e => by revert hr e; simp only [sqA, List.mem_cons, List.not_mem_nil, or_false]; omega) (fun e => by revert hr e; simp only [quL, List.mem_cons, List.not_mem_nil, or_false]; omega), by rw [upo (by decide)]; exact e18, by rw [upo (by decide)]; exact fN.2 17 (by decide)⟩ (by omega) (fun i i0 i1 => by rw [up_ne (by decide), kF.2.2.1]; exact k246 i i0 i1)) (by rw [up_ne (by decide), kF.2.2.1, k246 0 (by decide) (by decide)]; omega)
    have S : SST Z Y n (M 0 8) := SST_c hS (z62 62 (by decide)) (y6 163 (by decide)) (fun r hr k _ _ _ => by rw [zr r (fun c => by revert hr c; simp only [List.mem_cons, List.not_mem_nil, or_false]; omega), u.1 r (fun c => by revert hr c; simp only [List.mem_cons, List.not_mem_nil, or_false]; omega)]) (fun r hr => yr r (fun c => by revert hr c; simp only [List.mem_cons, List.not_mem_nil, or_false]; omega)) (y6 18 (by decide)) ⟨y6 19 (by decide), y6 17 (by decide)⟩ (fun k k0 k1 => pkL_len (PKB_of hP) (hS.2.2 k k0 k1).1.1)
    refine ⟨Mf 0 62, Z, Y, fun Qr Qt g => t_37 fun V hV hW => b_37_0 (Tr_mono _) hV hW _ _ fun _ => ?_, fun Qr Qt g => t_380 fun V hV hW => b_380_0 (Tr_mono _) hV hW _ _ fun _ => ?_, ⟨⟨ru, PLr_s st.2.1 fMZ fNY, TY, ?_⟩, ?_, ?_⟩, ⟨fMZ, fNY⟩, e8, .inr ⟨⟨n, S⟩, ?_⟩⟩
    · rw [if_neg (by omega), if_neg c1, if_pos c2]
      refine xi V Qr Qt hV hW (xF Me x41 V Qr Qt hV hW (x_387k hV hW ?_))
      rw [hZ, u.2 62 (by decide)]; exact g
    · rw [if_neg (by omega), if_neg c1, if_pos c2]
      refine qi V Qr Qt hV hW (qF V Qr Qt hV hW (q_189k hV hW ?_))
      rw [hY, upo (by decide), hS.1.2, ← hS.1.1]; exact g
    · rw [z62 11 (by decide), y6 130 (by decide), kF.2.2.2.2.1, kF.2.2.2.2.2, wn.1, wn.2]; exact st.2.2.2
    · rw [fMZ.2 4 (by decide)]; exact r1
    · rw [fNY.2 126 (by decide)]; exact r2
    · refine ⟨by rw [z62 62 (by decide), y6 163 (by decide), hS.1.1, hS.1.2], ⟨by rw [z62 63 (by decide), y6 169 (by decide), cF.1, cF.2], by rw [y6 169 (by decide), cF.2]; exact bc⟩, by rw [z62 64 (by decide), y6 164 (by decide)]; exact h64⟩
  · refine ⟨-1, M, N, fun Qr Qt g => t_37 fun V hV hW => b_37_0 (Tr_mono _) hV hW _ _ fun _ => ?_, fun Qr Qt g => t_380 fun V hV hW => b_380_0 (Tr_mono _) hV hW _ _ fun _ => ?_, ⟨st, r1, r2⟩, ⟨XSF_rf, QSF_rf⟩, rfl, .inl ⟨rfl, rfl⟩⟩
    · rw [if_neg (by omega), if_neg c1, if_neg c2]; exact g
    · rw [if_neg (by omega), if_neg c1, if_neg c2]; exact g
end SXf
section SXg
theorem j_37 (i : Inhabited fz_) {M N : mm_} {x1 : Int} (h : @RNS i M N) (hB : M 0 8 + 40400 ≤ 2000000000) : ∃ v M' N', Ex_ 11 37 [.inr (.inr 0), .inl x1] M [.inl v] M' ∧ Ex_ 11 380 [.inr (.inr 6), .inl x1] N [.inl v] N' ∧ @RNS i M' N' ∧ (XSF M M' ∧ QSF N N') ∧ M' 0 8 = M 0 8 ∧ ((M' = M ∧ N' = N) ∨ (SRC M' N' (M 0 8) ∧ SCT M' N')) := by
  let i' : Inhabited fz_ := ⟨M⟩
  obtain ⟨v, M', N', a1, a2, a3, a4⟩ := @j_37f M N x1 i' (RNS_fz i i' h) ⟨fun _ _ _ => rfl, fun _ _ _ => rfl⟩ hB
  exact ⟨v, M', N', a1, a2, RNS_fz i' i a3, a4⟩
end SXg
end T418_sx
section T419_sv
/-! what was found: state, first (X 47-49 | Q 392-395) -/
def TSR (M N : mm_) (B : Int) : Prop := (M 0 62 = 0 ∧ N 6 163 = 0) ∨ SRC M N B
/-- an instance in a state, or (ty none) one with a signal -/
def HOc (f : Int → Int) (ty s i : Int) : Prop := (ty ≠ -1 ∧ f (sB i + 1) = ty ∧ f (sB i + 2) = s) ∨ (ty = -1 ∧ 0 < f (sB i + 25))
section STa
variable {M N M' N' : mm_} {f : Int → Int} {k x1 x2 x3 B a ty s n : Int}
theorem TSR_k [Inhabited fz_] (h : TSR M N B) : (M 0 62 = N 6 163) ∧ ∀ k, 0 ≤ k → k < M 0 62 → k < 200 ∧ SFK M N B k ∧ SEQ M N k := by
  rcases h with ⟨a, b⟩ | ⟨n, h1, h2, h3⟩
  · exact ⟨by omega, fun k k0 k1 => by omega⟩
  · exact ⟨by omega, fun k k0 k1 => ⟨by omega, h3 k k0 (by omega)⟩⟩
theorem j_47 [Inhabited fz_] (h : LKR M N) (hs : M 0 4 = 1 → TSR M N B) : SM2 1 47 [.inr (.inr 0), .inl x1, .inl x2] 1 392 [.inr (.inr 6), .inl x1, .inl x2] M N := by
  by_cases c0 : M 0 4 = 0
  · have c0' : N 6 126 = 0 := by rcases h with h | h; exact h.2; have := h.2.1; omega
    refine ⟨-1, fun Qr Qt g => t_47 fun V hV hW => b_47_0 (Tr_mono _) hV hW _ _ _ fun _ => ?_, fun Qr Qt g => t_392 fun V hV hW => b_392_0 (Tr_mono _) hV hW _ _ _ fun _ => ?_⟩
    · rw [if_pos c0]; exact g
    · rw [if_pos c0']; exact g
  obtain ⟨st, r1, r2⟩ := h.resolve_left (fun e => c0 e.1)
  obtain ⟨e62, hk⟩ := TSR_k (hs r1)
  by_cases c : x1 < 0 ∨ ¬ x1 < M 0 62
  · refine ⟨-1, fun Qr Qt g => t_47 fun V hV hW => b_47_0 (Tr_mono _) hV hW _ _ _ fun _ => ?_, fun Qr Qt g => t_392 fun V hV hW => b_392_0 (Tr_mono _) hV hW _ _ _ fun _ => ?_⟩
    · rw [if_neg c0]
      by_cases c1 : x1 < 0
      · rw [if_pos c1]; exact g
      · rw [if_neg c1, if_neg (by omega)]; exact g
    · rw [if_neg (by omega)]
      by_cases c1 : x1 < 0
      · rw [if_pos c1]; exact g
      · rw [if_neg c1, if_neg (by omega)]; exact g
  · obtain ⟨k2, ⟨a1, a2, a3, ⟨a4, _⟩, a5⟩, ⟨s1, s2, s3⟩, s4, s5, s6⟩ := hk x1 (by omega) (by omega)
    have e27 : M 27 (1100 * x1) = N 245 (1104 * x1) := by
      have := a4.1
      rw [rwk_i (by decide) (by decide), Int.add_zero] at this; exact this
    have w1 : w32 (1100 * x1) = 1100 * x1 := w32_id (by omega) (by omega)
    have w2 : w32 (1104 * x1) = 1104 * x1 := w32_id (by omega) (by omega)
    refine ⟨if x2 = 0 then M 32 x1 else if x2 = 1 then M 33 x1 else if x2 = 2 then M 34 x1 else if x2 = 3 then M 35 x1 else if x2 = 4 then M 36 x1 else if x2 = 5 then M 37 x1 else if x2 = 6 then M 27 (1100 * x1) else -1, fun Qr Qt g => t_47 fun V hV hW => b_47_0 (Tr_mono _) hV hW _ _ _ fun _ => ?_, fun Qr Qt g => t_392 fun V hV hW => b_392_0 (Tr_mono _) hV hW _ _ _ fun _ => ?_⟩
    · rw [if_neg c0, if_neg (by omega), if_pos (by omega), w1]
      by_cases c0 : x2 = 0
      · rw [if_pos c0] at g ⊢; exact ⟨by omega, g⟩
      rw [if_neg c0] at g ⊢
      by_cases c1 : x2 = 1
      · rw [if_pos c1] at g ⊢; exact ⟨by omega, g⟩
      rw [if_neg c1] at g ⊢
      by_cases c2 : x2 = 2
      · rw [if_pos c2] at g ⊢; exact ⟨by omega, g⟩
      rw [if_neg c2] at g ⊢
      by_cases c3 : x2 = 3
      · rw [if_pos c3] at g ⊢; exact ⟨by omega, g⟩
      rw [if_neg c3] at g ⊢
      by_cases c4 : x2 = 4
      · rw [if_pos c4] at g ⊢; exact ⟨by omega, g⟩
      rw [if_neg c4] at g ⊢
      by_cases c5 : x2 = 5
      · rw [if_pos c5] at g ⊢; exact ⟨by omega, g⟩
      rw [if_neg c5] at g ⊢
      by_cases c6 : x2 = 6
      · rw [if_pos c6] at g ⊢; exact ⟨by omega, g⟩
      rw [if_neg c6] at g ⊢; exact g
    · rw [if_neg (by omega), if_neg (by omega), if_pos (by omega), w2, ← e27, ← s1, ← s2, ← s3, ← s4, ← s5, ← s6]
      by_cases c0 : x2 = 0
      · rw [if_pos c0] at g ⊢; exact ⟨by omega, g⟩
      rw [if_neg c0] at g ⊢
      by_cases c1 : x2 = 1
      · rw [if_pos c1] at g ⊢; exact ⟨by omega, g⟩
      rw [if_neg c1] at g ⊢
      by_cases c2 : x2 = 2
      · rw [if_pos c2] at g ⊢; exact ⟨by omega, g⟩
      rw [if_neg c2] at g ⊢
      by_cases c3 : x2 = 3
      · rw [if_pos c3] at g ⊢; exact ⟨by omega, g⟩
      rw [if_neg c3] at g ⊢
      by_cases c4 : x2 = 4
      · rw [if_pos c4] at g ⊢; exact ⟨by omega, g⟩
      rw [if_neg c4] at g ⊢
      by_cases c5 : x2 = 5
      · rw [if_pos c5] at g ⊢; exact ⟨by omega, g⟩
      rw [if_neg c5] at g ⊢
      by_cases c6 : x2 = 6
      · rw [if_pos c6] at g ⊢; exact ⟨by omega, g⟩
      rw [if_neg c6] at g ⊢; exact g
/-- X: hasOne -/
theorem x_49 [Inhabited fz_] (hP : PLr M N) (hv : VR N f) (hk : 0 ≤ k ∧ k < 200) (hr : RDL (M 27) (1100 * k) (pkL N f)) : ∃ u, BV u ∧ (u = 1 ↔ ∃ i, (0 ≤ i ∧ i < f 0) ∧ HOc f ty s i) ∧ Ex_ 1 49 [.inr (.inr 0), .inl k, .inl ty, .inl s] M [.inl u] M := by
  have hN := PKB_of hP
  obtain ⟨⟨f1, f1'⟩, f2, f3, f4, f5⟩ := id hv
  have lp := pkL_len hN hv
  unfold pkL at hr lp
  rw [List.length_cons, List.length_cons, List.length_append] at lp
  obtain ⟨r0, r1, hr⟩ := hr
  obtain ⟨hr1, hr2⟩ := RDL_app _ _ hr
  have wk : w32 (1100 * k) = 1100 * k := w32_id (by omega) (by omega)
  have l : ∀ (n : Nat) (x a : Int), x + n = f 0 → 0 ≤ x → 1100 * k + 2 ≤ a → a + (slsL N f x n).length ≤ 1100 * k + 1020 → RDL (M 27) a (slsL N f x n) → ∃ u, BV u ∧ (u = 1 ↔ ∃ i, (x ≤ i ∧ i < f 0) ∧ HOc f ty s i) ∧ ∀ (V : vv_) (Qr : qr_) (Qt : qt_), Cl_ wd0 (Tr_ wd0 pg0 0) V Qr Qt m_49 → Wk_ V → Qr [.inl u] M → V 12 [rr 0, ii k, ii ty, ii s, ii a, ii x, none, none] [] M := fun n => by
    induction n with
    | zero =>
      intro x a hx x0 a0 a1 hd
      refine ⟨0, .inl rfl, ⟨fun e => absurd e (by decide), fun ⟨i, hi, _⟩ => by omega⟩, fun V Qr Qt hV hW g => b_49_12 (Tr_mono _) hV hW _ _ _ _ _ _ ⟨by omega, ?_⟩⟩
      rw [wk, r0, if_neg (by omega)]; exact ⟨.inl rfl, g⟩
    | succ n ih =>
      intro x a hx x0 a0 a1 hd
      have vx := f2 x x0 (by omega)
      have hT := vx.1.2.1
      have pT := hN.2.2 _ hT.1 hT.2
      have h6 := hN.2.1
      have pt := PL_T hP hT
      have q6 := vx.2.2.2.1
      unfold slsL at hd a1
      rw [List.length_append] at a1
      obtain ⟨hd1, hd2⟩ := RDL_app _ _ hd
      have ls : ((slL N f (sB x)).length : Int) = 8 + N 172 (f (sB x + 1)) + 5 * f (sB x + 25) := by
        unfold slL slT; simp only [List.length_cons, List.length_append, rgl_len]; omega
      obtain ⟨e0, e1, e2, e3, e4, e5, e6, hd1⟩ := hd1
      unfold slT at hd1
      obtain ⟨hd3, hd4⟩ := RDL_app _ _ hd1
      rw [rgl_len] at hd4
      have eq := hd4.1
      have ea : a + 1 + 1 + 1 + 1 + 1 + 1 + 1 + ((N 172 (f (sB x + 1))).toNat : Int) = a + 7 + N 172 (f (sB x + 1)) := by omega
      rw [ea] at eq
      rw [show a + 1 + 1 = a + 2 by omega] at e2
      obtain ⟨u, u1, u2, u3⟩ := ih (x + 1) (a + (slL N f (sB x)).length) (by omega) (by omega) (by omega) (by omega) hd2
      have b1 : 0 ≤ w32 (a + 1) ∧ w32 (a + 1) < 221100 := by rw [w32_id (by omega) (by omega)]; omega
      have wa1 : w32 (a + 1) = a + 1 := w32_id (by omega) (by omega)
      have wa2 : w32 (a + 2) = a + 2 := w32_id (by omega) (by omega)
      have wa7 : w32 (w32 (a + 7) + M 92 (f (sB x + 1))) = a + 7 + N 172 (f (sB x + 1)) := by rw [pt.2.2.2.1.1, w32_id (x := a + 7) (by omega) (by omega), w32_id (by omega) (by omega)]
      have wn : w32 (a + w32 (w32 (8 + M 92 (f (sB x + 1))) + w32 (5 * f (sB x + 25)))) = a + (slL N f (sB x)).length := by
        rw [pt.2.2.2.1.1, w32_id (x := 8 + N 172 (f (sB x + 1))) (by omega) (by omega), w32_id (x := 5 * f (sB x + 25)) (by omega) (by omega), w32_id (x := 8 + N 172 (f (sB x + 1)) + 5 * f (sB x + 25)) (by omega) (by omega), w32_id (by omega) (by omega), ls]
      have next : ¬ HOc f ty s x → ∃ u, BV u ∧ (u = 1 ↔ ∃ i, (x ≤ i ∧ i < f 0) ∧ HOc f ty s i) ∧ ∀ (V : vv_) (Qr : qr_) (Qt : qt_), Cl_ wd0 (Tr_ wd0 pg0 0) V Qr Qt m_49 → Wk_ V → Qr [.inl u] M → V 99 [rr 0, ii k, ii ty, ii s, ii a, ii x, ii (f (sB x + 1)), ii (f (sB x + 25))] [] M := fun hno => by
        refine ⟨u, u1, ?_, fun V Qr Qt hV hW g => b_49_99 (Tr_mono _) hV hW _ _ _ _ _ _ _ _ ⟨by omega, ?_⟩⟩
        · rw [u2]
          exact ⟨fun ⟨i, hi, h⟩ => ⟨i, by omega, h⟩, fun ⟨i, hi, h⟩ => by
            by_cases c : i = x
            · rw [c] at h; exact absurd h hno
            · exact ⟨i, by omega, h⟩⟩
        · rw [wn, w32_id (x := x + 1) (by omega) (by omega)]; exact u3 V Qr Qt hV hW g
      -- at 64
      have at64 : (ty ≠ -1 → ¬ HOc f ty s x) → ∃ u, BV u ∧ (u = 1 ↔ ∃ i, (x ≤ i ∧ i < f 0) ∧ HOc f ty s i) ∧ ∀ (V : vv_) (Qr : qr_) (Qt : qt_), Cl_ wd0 (Tr_ wd0 pg0 0) V Qr Qt m_49 → Wk_ V → Qr [.inl u] M → V 64 [rr 0, ii k, ii ty, ii s, ii a, ii x, ii (f (sB x + 1)), none] [] M := fun hno => by
        by_cases cy : ty = -1
        · by_cases cq : f (sB x + 25) ≤ 0
          · obtain ⟨u', w1, w2, w3⟩ := next (fun h => by rcases h with h | h; exact h.1 cy; omega)
            refine ⟨u', w1, w2, fun V Qr Qt hV hW g => b_49_64 (Tr_mono _) hV hW _ _ _ _ _ _ _ ⟨by omega, ?_⟩⟩
            rw [wa7, eq, if_pos cy, if_pos cq]; exact ⟨by omega, w3 V Qr Qt hV hW g⟩
          · refine ⟨1, .inr rfl, ⟨fun _ => ⟨x, by omega, .inr ⟨cy, by omega⟩⟩, fun _ => rfl⟩, fun V Qr Qt hV hW g => b_49_64 (Tr_mono _) hV hW _ _ _ _ _ _ _ ⟨by omega, ?_⟩⟩
            rw [wa7, eq, if_pos cy, if_neg cq]; exact ⟨by omega, .inr rfl, g⟩
        · obtain ⟨u', w1, w2, w3⟩ := next (hno cy)
          refine ⟨u', w1, w2, fun V Qr Qt hV hW g => b_49_64 (Tr_mono _) hV hW _ _ _ _ _ _ _ ⟨by omega, ?_⟩⟩
          rw [wa7, eq, if_neg cy]; exact ⟨by omega, w3 V Qr Qt hV hW g⟩
      by_cases cy : ty = -1
      · obtain ⟨u', w1, w2, w3⟩ := at64 (fun h => absurd cy h)
        refine ⟨u', w1, w2, fun V Qr Qt hV hW g => b_49_12 (Tr_mono _) hV hW _ _ _ _ _ _ ⟨by omega, ?_⟩⟩
        rw [wk, r0, if_pos (by omega), if_pos cy, wa1, e1]; exact ⟨by omega, w3 V Qr Qt hV hW g⟩
      · by_cases ct : f (sB x + 1) = ty
        · by_cases cs : f (sB x + 2) = s
          · refine ⟨1, .inr rfl, ⟨fun _ => ⟨x, by omega, .inl ⟨cy, ct, cs⟩⟩, fun _ => rfl⟩, fun V Qr Qt hV hW g => b_49_12 (Tr_mono _) hV hW _ _ _ _ _ _ ⟨by omega, ?_⟩⟩
            rw [wk, r0, if_pos (by omega), if_neg cy, wa1, wa2, e1, e2, if_pos ct, if_pos cs]; exact ⟨by omega, by omega, .inr rfl, g⟩
          · obtain ⟨u', w1, w2, w3⟩ := at64 (fun _ h => by rcases h with h | h; exact cs h.2.2; exact cy h.1)
            refine ⟨u', w1, w2, fun V Qr Qt hV hW g => b_49_12 (Tr_mono _) hV hW _ _ _ _ _ _ ⟨by omega, ?_⟩⟩
            rw [wk, r0, if_pos (by omega), if_neg cy, wa1, wa2, e1, e2, if_pos ct, if_neg cs]; exact ⟨by omega, by omega, w3 V Qr Qt hV hW g⟩
        · obtain ⟨u', w1, w2, w3⟩ := at64 (fun _ h => by rcases h with h | h; exact ct h.2.1; exact cy h.1)
          refine ⟨u', w1, w2, fun V Qr Qt hV hW g => b_49_12 (Tr_mono _) hV hW _ _ _ _ _ _ ⟨by omega, ?_⟩⟩
          rw [wk, r0, if_pos (by omega), if_neg cy, wa1, e1, if_neg ct]; exact ⟨by omega, w3 V Qr Qt hV hW g⟩
  obtain ⟨u, u1, u2, u3⟩ := l (f 0).toNat 0 (1100 * k + 1 + 1) (by omega) (by decide) (by omega) (by omega) hr1
  refine ⟨u, u1, u2, fun Qr Qt g => t_49 fun V hV hW => b_49_0 (Tr_mono _) hV hW _ _ _ _ ?_⟩
  rw [wk, w32_id (x := 1100 * k + 2) (by omega) (by omega), show 1100 * k + 2 = 1100 * k + 1 + 1 by omega]
  exact u3 V Qr Qt hV hW g
/-- Q: waitsAny -/
theorem q_394 [Inhabited fz_] (hv : VR N (rwk N k)) (hk : 0 ≤ k ∧ k < 200) : ∃ u, BV u ∧ (u = 1 ↔ ∃ i, (0 ≤ i ∧ i < rwk N k 0) ∧ HOc (rwk N k) (-1) s i) ∧ Ex_ 2 394 [.inr (.inr 6), .inl k] N [.inl u] N := by
  have f1 := hv.1.1
  have wk : w32 (1104 * k) = 1104 * k := w32_id (by omega) (by omega)
  have e0 : N 245 (1104 * k) = rwk N k 0 := by rw [rwk_i (by decide) (by decide), Int.add_zero]
  have done : ∀ (n : Nat) (x : Int), x + n = rwk N k 0 → 0 ≤ x → ∀ (V : vv_) (Qr : qr_) (Qt : qt_), Cl_ wd0 (Tr_ wd0 pg0 1) V Qr Qt m_394 → Wk_ V → Qr [.inl 1] N → V 4 [rr 6, ii k, ii 1, ii x] [] N := fun n => by
    induction n with
    | zero => intro x hx x0 V Qr Qt hV hW g; refine b_394_4 (Tr_mono _) hV hW _ _ _ _ ⟨by omega, ?_⟩; rw [wk, e0, if_neg (by omega)]; exact ⟨.inr rfl, g⟩
    | succ n ih =>
      intro x hx x0 V Qr Qt hV hW g
      refine b_394_4 (Tr_mono _) hV hW _ _ _ _ ⟨by omega, ?_⟩
      rw [wk, e0, if_pos (by omega), if_neg (by decide), w32_id (x := x + 1) (by omega) (by omega)]
      exact ih (x + 1) (by omega) (by omega) V Qr Qt hV hW g
  have l : ∀ (n : Nat) (x : Int), x + n = rwk N k 0 → 0 ≤ x → ∃ u, BV u ∧ (u = 1 ↔ ∃ i, (x ≤ i ∧ i < rwk N k 0) ∧ HOc (rwk N k) (-1) s i) ∧ ∀ (V : vv_) (Qr : qr_) (Qt : qt_), Cl_ wd0 (Tr_ wd0 pg0 1) V Qr Qt m_394 → Wk_ V → Qr [.inl u] N → V 4 [rr 6, ii k, ii 0, ii x] [] N := fun n => by
    induction n with
    | zero =>
      intro x hx x0
      refine ⟨0, .inl rfl, ⟨fun e => absurd e (by decide), fun ⟨i, hi, _⟩ => by omega⟩, fun V Qr Qt hV hW g => b_394_4 (Tr_mono _) hV hW _ _ _ _ ⟨by omega, ?_⟩⟩
      rw [wk, e0, if_neg (by omega)]; exact ⟨.inl rfl, g⟩
    | succ n ih =>
      intro x hx x0
      have hB : sB x = 2 + 56 * x := rfl
      have wi : w32 (w32 (w32 (1104 * k) + sB x) + 25) = 1104 * k + (sB x + 25) := by rw [wk, w32_id (x := 1104 * k + sB x) (by omega) (by omega), w32_id (by omega) (by omega)]; omega
      have er : N 245 (1104 * k + (sB x + 25)) = rwk N k (sB x + 25) := (rwk_i (by omega) (by omega)).symm
      have wx : w32 (x + 1) = x + 1 := w32_id (by omega) (by omega)
      by_cases c : rwk N k (sB x + 25) ≤ 0
      · obtain ⟨u, u1, u2, u3⟩ := ih (x + 1) (by omega) (by omega)
        refine ⟨u, u1, ?_, fun V Qr Qt hV hW g => b_394_4 (Tr_mono _) hV hW _ _ _ _ ⟨by omega, ?_⟩⟩
        · rw [u2]
          exact ⟨fun ⟨i, hi, h⟩ => ⟨i, by omega, h⟩, fun ⟨i, hi, h⟩ => by
            by_cases e : i = x
            · rw [e] at h; rcases h with h | h; exact absurd rfl h.1; omega
            · exact ⟨i, by omega, h⟩⟩
        · rw [if_pos (by rw [wk, e0]; omega), if_pos rfl]
          refine q_323 (by omega) _ _ (ri_i ?_)
          rw [wi, er, if_pos c, wx]; exact ⟨by omega, u3 V Qr Qt hV hW g⟩
      · refine ⟨1, .inr rfl, ⟨fun _ => ⟨x, by omega, .inr ⟨rfl, by omega⟩⟩, fun _ => rfl⟩, fun V Qr Qt hV hW g => b_394_4 (Tr_mono _) hV hW _ _ _ _ ⟨by omega, ?_⟩⟩
        rw [if_pos (by rw [wk, e0]; omega), if_pos rfl]
        refine q_323 (by omega) _ _ (ri_i ?_)
        rw [wi, er, if_neg c, wx]; exact ⟨by omega, done n (x + 1) (by omega) (by omega) V Qr Qt hV hW g⟩
  obtain ⟨u, u1, u2, u3⟩ := l (rwk N k 0).toNat 0 (by omega) (by decide)
  exact ⟨u, u1, u2, fun Qr Qt g => t_394 fun V hV hW => b_394_0 (Tr_mono _) hV hW _ _ (u3 V Qr Qt hV hW g)⟩
/-- Q: isIn -/
theorem q_395 [Inhabited fz_] (hv : VR N (rwk N k)) (hk : 0 ≤ k ∧ k < 200) (hty : ty ≠ -1) : ∃ u, BV u ∧ (u = 1 ↔ ∃ i, (0 ≤ i ∧ i < rwk N k 0) ∧ HOc (rwk N k) ty s i) ∧ Ex_ 2 395 [.inr (.inr 6), .inl k, .inl ty, .inl s] N [.inl u] N := by
  have f1 := hv.1.1
  have wk : w32 (1104 * k) = 1104 * k := w32_id (by omega) (by omega)
  have e0 : N 245 (1104 * k) = rwk N k 0 := by rw [rwk_i (by decide) (by decide), Int.add_zero]
  have done : ∀ (n : Nat) (x : Int), x + n = rwk N k 0 → 0 ≤ x → ∀ (V : vv_) (Qr : qr_) (Qt : qt_), Cl_ wd0 (Tr_ wd0 pg0 1) V Qr Qt m_395 → Wk_ V → Qr [.inl 1] N → V 6 [rr 6, ii k, ii ty, ii s, ii 1, ii x] [] N := fun n => by
    induction n with
    | zero => intro x hx x0 V Qr Qt hV hW g; refine b_395_6 (Tr_mono _) hV hW _ _ _ _ _ _ ⟨by omega, ?_⟩; rw [wk, e0, if_neg (by omega)]; exact ⟨.inr rfl, g⟩
    | succ n ih =>
      intro x hx x0 V Qr Qt hV hW g
      refine b_395_6 (Tr_mono _) hV hW _ _ _ _ _ _ ⟨by omega, ?_⟩
      rw [wk, e0, if_pos (by omega), if_neg (by decide), w32_id (x := x + 1) (by omega) (by omega)]
      exact ih (x + 1) (by omega) (by omega) V Qr Qt hV hW g
  have l : ∀ (n : Nat) (x : Int), x + n = rwk N k 0 → 0 ≤ x → ∃ u, BV u ∧ (u = 1 ↔ ∃ i, (x ≤ i ∧ i < rwk N k 0) ∧ HOc (rwk N k) ty s i) ∧ ∀ (V : vv_) (Qr : qr_) (Qt : qt_), Cl_ wd0 (Tr_ wd0 pg0 1) V Qr Qt m_395 → Wk_ V → Qr [.inl u] N → V 6 [rr 6, ii k, ii ty, ii s, ii 0, ii x] [] N := fun n => by
    induction n with
    | zero =>
      intro x hx x0
      refine ⟨0, .inl rfl, ⟨fun e => absurd e (by decide), fun ⟨i, hi, _⟩ => by omega⟩, fun V Qr Qt hV hW g => b_395_6 (Tr_mono _) hV hW _ _ _ _ _ _ ⟨by omega, ?_⟩⟩
      rw [wk, e0, if_neg (by omega)]; exact ⟨.inl rfl, g⟩
    | succ n ih =>
      intro x hx x0
      have hB : sB x = 2 + 56 * x := rfl
      have wi : ∀ j, 0 ≤ j → j < 56 → w32 (w32 (w32 (1104 * k) + sB x) + j) = 1104 * k + (sB x + j) := fun j j0 j1 => by rw [wk, w32_id (x := 1104 * k + sB x) (by omega) (by omega), w32_id (by omega) (by omega)]; omega
      have er : ∀ j, 0 ≤ j → j < 56 → N 245 (1104 * k + (sB x + j)) = rwk N k (sB x + j) := fun j j0 j1 => (rwk_i (by omega) (by omega)).symm
      have wx : w32 (x + 1) = x + 1 := w32_id (by omega) (by omega)
      have no : ¬ HOc (rwk N k) ty s x → ∃ u, BV u ∧ (u = 1 ↔ ∃ i, (x ≤ i ∧ i < rwk N k 0) ∧ HOc (rwk N k) ty s i) ∧ ∀ (V : vv_) (Qr : qr_) (Qt : qt_), Cl_ wd0 (Tr_ wd0 pg0 1) V Qr Qt m_395 → Wk_ V → Qr [.inl u] N → V 6 [rr 6, ii k, ii ty, ii s, ii 0, ii (x + 1)] [] N := fun hno => by
        obtain ⟨u, u1, u2, u3⟩ := ih (x + 1) (by omega) (by omega)
        refine ⟨u, u1, ?_, u3⟩
        rw [u2]
        exact ⟨fun ⟨i, hi, h⟩ => ⟨i, by omega, h⟩, fun ⟨i, hi, h⟩ => by
          by_cases e : i = x
          · rw [e] at h; exact absurd h hno
          · exact ⟨i, by omega, h⟩⟩
      by_cases ct : rwk N k (sB x + 1) = ty
      · by_cases cs : rwk N k (sB x + 2) = s
        · refine ⟨1, .inr rfl, ⟨fun _ => ⟨x, by omega, .inl ⟨hty, ct, cs⟩⟩, fun _ => rfl⟩, fun V Qr Qt hV hW g => b_395_6 (Tr_mono _) hV hW _ _ _ _ _ _ ⟨by omega, ?_⟩⟩
          rw [if_pos (by rw [wk, e0]; omega), if_pos rfl]
          refine q_323 (by omega) _ _ (ri_i ?_)
          rw [wi 1 (by decide) (by decide), er 1 (by decide) (by decide), if_pos ct]
          refine ⟨by omega, q_323 (by omega) _ _ (ri_i ?_)⟩
          rw [wi 2 (by decide) (by decide), er 2 (by decide) (by decide), if_pos cs, wx]
          exact ⟨by omega, done n (x + 1) (by omega) (by omega) V Qr Qt hV hW g⟩
        · obtain ⟨u, u1, u2, u3⟩ := no (fun h => by rcases h with h | h; exact cs h.2.2; exact hty h.1)
          refine ⟨u, u1, u2, fun V Qr Qt hV hW g => b_395_6 (Tr_mono _) hV hW _ _ _ _ _ _ ⟨by omega, ?_⟩⟩
          rw [if_pos (by rw [wk, e0]; omega), if_pos rfl]
          refine q_323 (by omega) _ _ (ri_i ?_)
          rw [wi 1 (by decide) (by decide), er 1 (by decide) (by decide), if_pos ct]
          refine ⟨by omega, q_323 (by omega) _ _ (ri_i ?_)⟩
          rw [wi 2 (by decide) (by decide), er 2 (by decide) (by decide), if_neg cs, wx]
          exact ⟨by omega, u3 V Qr Qt hV hW g⟩
      · obtain ⟨u, u1, u2, u3⟩ := no (fun h => by rcases h with h | h; exact ct h.2.1; exact hty h.1)
        refine ⟨u, u1, u2, fun V Qr Qt hV hW g => b_395_6 (Tr_mono _) hV hW _ _ _ _ _ _ ⟨by omega, ?_⟩⟩
        rw [if_pos (by rw [wk, e0]; omega), if_pos rfl]
        refine q_323 (by omega) _ _ (ri_i ?_)
        rw [wi 1 (by decide) (by decide), er 1 (by decide) (by decide), if_neg ct, wx]
        exact ⟨by omega, u3 V Qr Qt hV hW g⟩
  obtain ⟨u, u1, u2, u3⟩ := l (rwk N k 0).toNat 0 (by omega) (by decide)
  exact ⟨u, u1, u2, fun Qr Qt g => t_395 fun V hV hW => b_395_0 (Tr_mono _) hV hW _ _ _ _ (u3 V Qr Qt hV hW g)⟩
end STa
end T419_sv

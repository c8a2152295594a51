section T335_la
/-! the run: the first on a route arrives -/
/-- within a method: from one place to another -/
def RC (d : Nat) (m : md_) (pc : Nat) (ls : lo_) (M : mm_) (pc' : Nat) (ls' : lo_) (M' : mm_) : Prop := ∀ (V : vv_) (Qr : qr_) (Qt : qt_), Cl_ wd0 (Tr_ wd0 pg0 d) V Qr Qt m → Wk_ V → V pc' ls' [] M' → V pc ls [] M
theorem RC_rf [Inhabited fz_] {d : Nat} {m : md_} {pc : Nat} {ls : lo_} {M : mm_} : RC d m pc ls M pc ls M := fun _ _ _ _ _ h => h
theorem RC_tr [Inhabited fz_] {d : Nat} {m : md_} {pc pc1 pc2 : Nat} {ls l1 l2 : lo_} {M M1 M2 : mm_} (h : RC d m pc ls M pc1 l1 M1) (g : RC d m pc1 l1 M1 pc2 l2 M2) : RC d m pc ls M pc2 l2 M2 := fun V Qr Qt hV hW hk => h V Qr Qt hV hW (g V Qr Qt hV hW hk)
section LAa
variable {z : Int} {M N M' N' : mm_} {r k a b c sg sn rc p : Int}
theorem RI_l [Inhabited fz_] (h : RI z M N) (h0 : M' 0 7 = M 0 7 ∧ M' 0 8 = M 0 8) (hx : ∀ q : Nat, q ∈ [10, 11, 12, 13, 14, 15, 16, 17, 18, 19, 20] → M' q = M q) (hN : ∀ i, i < 674 → N' 239 i = N 239 i) (h19 : N' 6 19 = N 6 19) (hq : ∀ q : Nat, q ∈ [172, 173, 174] → N' q = N q) : RI z M' N' := by
  obtain ⟨a1, a2, a3, a4⟩ := h
  refine ⟨by rw [h0.1, hN 0 (by decide)]; exact a1, by rw [h0.2, hN 1 (by decide)]; exact a2, fun k k0 k1 => ?_, fun k k0 k1 i i0 i1 => ?_⟩
  · rw [h0.1] at k1
    have hB : sB k = 2 + 56 * k := rfl
    exact IN_o (a3 k k0 k1) (Int.le_of_eq h0.2.symm) (fun q hq' => by rw [hx q (by simp only [List.mem_cons, List.not_mem_nil, or_false] at hq' ⊢; omega)]) (fun i _ _ => by rw [hx 13 (by decide)]) (fun i _ _ => by rw [hx 15 (by decide)]) (fun i _ _ => by rw [hx 16 (by decide), hx 17 (by decide)]; exact ⟨rfl, rfl⟩) (fun i i0 i1 => hN _ (by omega)) h19 hq
  · rw [h0.1] at k0
    have hB : sB k = 2 + 56 * k := rfl
    rw [hN _ (by omega)]; exact a4 k k0 k1 i i0 i1
theorem RRt_r [Inhabited fz_] (h : RRt z M N) (hr : 0 ≤ r ∧ r < N 6 18) (h21 : ∀ i, i ≠ r → M' 21 i = M 21 i) (h22 : ∀ i, i < 42 * r ∨ 42 * r + 42 ≤ i → M' 22 i = M 22 i) (hN : ∀ i, i < sR r ∨ sR r + 43 ≤ i → N' 239 i = N 239 i) (h18 : N' 6 18 = N 6 18) (hR : RO z M' N' r) : RRt z M' N' := by
  obtain ⟨a1, a2, a3⟩ := h
  have hr' : sR r = 674 + 43 * r := rfl
  refine ⟨by rw [h18]; exact a1, fun q q0 q1 => ?_, fun q q0 q1 i i0 i1 => ?_⟩
  · rw [h18] at q1
    by_cases e : q = r
    · rw [e]; exact hR
    · have hq' : sR q = 674 + 43 * q := rfl
      obtain ⟨b1, b2, b3⟩ := a2 q q0 q1
      unfold RO
      rw [h21 q e, hN (sR q) (by omega)]
      refine ⟨b1, fun j j0 j1 => ?_, fun i i0 i1 => by rw [hN _ (by omega)]; exact b3 i i0 i1⟩
      obtain ⟨c1, c2, c3, c4⟩ := b2 j j0 j1
      exact ⟨fun i i0 i1 i2 => by rw [h22 _ (by omega), hN _ (by omega)]; exact c1 i i0 i1 i2, by rw [h22 _ (by omega)]; exact c2, fun hz => by rw [h22 _ (by omega), hN _ (by omega)]; exact c3 hz, fun hz => by rw [hN _ (by omega)]; exact c4 hz⟩
  · rw [h18] at q0
    have hq' : sR q = 674 + 43 * q := rfl
    rw [hN _ (by omega)]; exact a3 q q0 q1 i i0 i1
/-- the first row goes -/
def shX (M : mm_) (r : Int) : mm_ := wr_ (up_ M 21 r (M 21 r - 1)) 22 (cpf (M 22) (42 * r) (42 * r + 7 * (M 21 r - 1)) 7)
def shF (f : Int → Int) (q : Int) : Int → Int := su_ (flf (cpf f (q + 1) (q + 36) 7) (q + 36) (q + 43) 0) q (f q - 1)
def shQ (N : mm_) (r : Int) : mm_ := wr_ (up_ (up_ (up_ N 242 0 (N 239 (sR r + 5))) 242 1 (N 239 (sR r + 6))) 242 2 (N 239 (sR r + 7))) 239 (shF (N 239) (sR r))
theorem shQ_r [Inhabited fz_] {q : Nat} (h : q ≠ 239) (h' : q ≠ 242) : shQ N r q = N q := by unfold shQ; rw [wr_ne h, up_ne h', up_ne h', up_ne h']
theorem shQ_2 [Inhabited fz_] : shQ N r 242 0 = N 239 (sR r + 5) ∧ shQ N r 242 1 = N 239 (sR r + 6) ∧ shQ N r 242 2 = N 239 (sR r + 7) := by
  unfold shQ
  rw [wr_ne (by decide)]
  exact ⟨by rw [upo (by decide), upo (by decide), up_at], by rw [upo (by decide), up_at], up_at⟩
theorem RU_sh [Inhabited fz_] (h : RU z M N) (hr : 0 ≤ r ∧ r < N 6 18) (h1 : 0 < M 21 r) : RU z (shX M r) (shQ N r) := by
  obtain ⟨r1, r2, r3, r4, r5⟩ := h
  have hR : sR r = 674 + 43 * r := rfl
  obtain ⟨⟨b1, b2, b3⟩, b4, b5⟩ := r2.2.1 r hr.1 hr.2
  have xr : ∀ q : Nat, q ≠ 21 → q ≠ 22 → shX M r q = M q := fun q e e' => by unfold shX; rw [wr_ne e', up_ne e]
  have nr : ∀ q : Nat, q ≠ 239 → q ≠ 242 → shQ N r q = N q := fun q e e' => shQ_r e e'
  have n239 : shQ N r 239 = shF (N 239) (sR r) := wr_same
  have x22 : shX M r 22 = cpf (M 22) (42 * r) (42 * r + 7 * (M 21 r - 1)) 7 := wr_same
  have x21 : ∀ i, shX M r 21 i = if i = r then M 21 r - 1 else M 21 i := fun i => by
    unfold shX
    rw [wr_ne (by decide)]
    by_cases e : i = r
    · rw [if_pos e, e, up_at]
    · rw [if_neg e, upo e]
  have no : ∀ i, i < sR r ∨ sR r + 43 ≤ i → shQ N r 239 i = N 239 i := fun i hi => by
    rw [n239]; unfold shF su_ flf cpf
    rw [if_neg (by omega), if_neg (by omega), if_neg (by omega)]
  have ni : ∀ i, 0 ≤ i → i < 42 → shQ N r 239 (sR r + 1 + i) = if i < 35 then N 239 (sR r + 1 + i + 7) else 0 := fun i i0 i1 => by
    rw [n239]; unfold shF su_ flf cpf
    rw [if_neg (by omega)]
    by_cases e : i < 35
    · rw [if_pos e, if_neg (by omega), if_pos (by omega)]
    · rw [if_neg e, if_pos (by omega)]
  have nq : shQ N r 239 (sR r) = M 21 r - 1 := by rw [n239]; unfold shF su_; rw [if_pos rfl, b3]
  refine ⟨RI_l r1 ⟨by rw [xr 0 (by decide) (by decide)], by rw [xr 0 (by decide) (by decide)]⟩ (fun q hq => xr q (fun e => by rw [e] at hq; revert hq; decide) (fun e => by rw [e] at hq; revert hq; decide)) (fun i hi => no i (by omega)) (by rw [nr 6 (by decide) (by decide)]) (fun q hq => nr q (fun e => by rw [e] at hq; revert hq; decide) (fun e => by rw [e] at hq; revert hq; decide)), RRt_r r2 hr (fun i hi => by rw [x21, if_neg hi]) (fun i hi => by rw [x22]; unfold cpf; rw [if_neg (by omega)]) no (by rw [nr 6 (by decide) (by decide)]) ?_, RSC_c r3 (fun i _ => by rw [xr 0 (by decide) (by decide)]) (fun i _ => by rw [nr 6 (by decide) (by decide)]), ROU_c r4 (fun i _ => by rw [xr 0 (by decide) (by decide)]) (xr 24 (by decide) (by decide)) (fun i _ => by rw [nr 6 (by decide) (by decide)]) (nr 241 (by decide) (by decide)), REV_c r5 (fun i _ => by rw [xr 0 (by decide) (by decide)]) (xr 23 (by decide) (by decide)) (fun i _ => by rw [nr 6 (by decide) (by decide)]) (nr 240 (by decide) (by decide))⟩
  have e21 : shX M r 21 r = M 21 r - 1 := by rw [x21, if_pos rfl]
  unfold RO
  rw [e21, nq, x22]
  refine ⟨by omega, fun q q0 q1 => ?_, fun i i0 i1 => ?_⟩
  · obtain ⟨c1, c2, c3, c4⟩ := b4 (q + 1) (by omega) (by omega)
    have cx : ∀ j, 0 ≤ j → j < 7 → cpf (M 22) (42 * r) (42 * r + 7 * (M 21 r - 1)) 7 (42 * r + 7 * q + j) = M 22 (42 * r + 7 * (q + 1) + j) := fun j j0 j1 => by
      unfold cpf; rw [if_pos (by omega)]; congr 1; omega
    have cq : ∀ j, 0 ≤ j → j < 7 → shQ N r 239 (sR r + 1 + 7 * q + j) = N 239 (sR r + 1 + 7 * (q + 1) + j) := fun j j0 j1 => by
      have := ni (7 * q + j) (by omega) (by omega)
      rw [if_pos (by omega)] at this
      rw [show sR r + 1 + 7 * q + j = sR r + 1 + (7 * q + j) by omega, this]; congr 1; omega
    refine ⟨fun j j0 j1 j2 => by rw [cx j j0 j1, cq j j0 j1]; exact c1 j j0 j1 j2, by rw [cx 3 (by decide) (by decide)]; exact c2, fun hz => by rw [cx 3 (by decide) (by decide), cq 3 (by decide) (by decide)]; exact c3 hz, fun hz => by rw [cq 3 (by decide) (by decide)]; exact c4 hz⟩
  · rw [ni i (by omega) i1]
    by_cases e : i < 35
    · rw [if_pos e]
      have := b5 (i + 7) (by omega) (by omega)
      rw [← Int.add_assoc] at this; exact this
    · rw [if_neg e]
def lX (M : mm_) (r : Int) : mm_ := aX (shX M r) (M 22 (42 * r)) (M 22 (42 * r + 1)) (M 22 (42 * r + 2)) (M 22 (42 * r + 4)) (M 22 (42 * r + 5)) (M 22 (42 * r + 6))
def lQ (N : mm_) (r : Int) : mm_ := aQ (shQ N r) (N 239 (sR r + 1)) (N 239 (sR r + 2)) (N 239 (sR r + 3))
theorem RU_l [Inhabited fz_] (h : RU z M N) (hr : 0 ≤ r ∧ r < N 6 18) (h1 : 0 < M 21 r) : RU z (lX M r) (lQ N r) := by
  obtain ⟨⟨b1, b2, b3⟩, b4, b5⟩ := h.2.1.2.1 r hr.1 hr.2
  obtain ⟨c1, _⟩ := b4 0 (by decide) h1
  have e : ∀ j, 0 ≤ j → j < 7 → j ≠ 3 → M 22 (42 * r + j) = N 239 (sR r + 1 + j) := fun j j0 j1 j2 => by
    have := c1 j j0 j1 j2
    rw [show 42 * r + 7 * 0 + j = 42 * r + j by omega, show sR r + 1 + 7 * 0 + j = sR r + 1 + j by omega] at this; exact this
  have e0 := e 0 (by decide) (by decide) (by decide)
  rw [Int.add_zero, Int.add_zero] at e0
  unfold lX lQ
  rw [e0, e 1 (by decide) (by decide) (by decide), e 2 (by decide) (by decide) (by decide)]
  rw [show sR r + 1 + 1 = sR r + 2 by omega, show sR r + 1 + 2 = sR r + 3 by omega]
  refine RU_a (RU_sh h hr h1) ?_
  obtain ⟨g1, g2, g3⟩ := shQ_2 (N := N) (r := r)
  rw [g1, g2, g3, e 4 (by decide) (by decide) (by decide), e 5 (by decide) (by decide) (by decide), e 6 (by decide) (by decide) (by decide)]
  refine ⟨?_, ?_, ?_⟩ <;> (congr 1; omega)
theorem x_2 [Inhabited fz_] (hk : 0 ≤ r ∧ r < 10) (ha : 0 ≤ a ∧ a ≤ 6) : Ex_ 1 2 [.inl r, .inl a] M [.inl (42 * r + 7 * a)] M := fun Qr Qt hq => t_2 fun V hV hW => b_2_0 (Tr_mono _) hV hW _ _ _ (by
  rw [w32_id (x := 6 * r) (by omega) (by omega), w32_id (x := 6 * r + a) (by omega) (by omega), w32_id (x := 7 * (6 * r + a)) (by omega) (by omega), show 7 * (6 * r + a) = 42 * r + 7 * a by omega]; exact hq)
theorem x_3 [Inhabited fz_] (h : RU z M N) (hr : 0 ≤ r ∧ r < N 6 18) (h1 : 0 < M 21 r) : Ex_ 5 3 [.inr (.inr 0), .inl r] M [] (lX M r) := fun Qr Qt hq => t_3 fun V hV hW => b_3_0 (Tr_mono _) hV hW _ _ (by
  have hb := (h.2.1.2.1 r hr.1 hr.2).1
  have h10 := h.2.1.1
  refine Ex_le (d := 1) (by decide) (x_2 (a := 0) (by omega) (by decide)) _ _ (ri_i ?_)
  rw [show 42 * r + 7 * 0 = 42 * r by omega, w32_id (x := 42 * r + 1) (by omega) (by omega), w32_id (x := 42 * r + 2) (by omega) (by omega), w32_id (x := 42 * r + 4) (by omega) (by omega), w32_id (x := 42 * r + 5) (by omega) (by omega), w32_id (x := 42 * r + 6) (by omega) (by omega), w32_id (x := M 21 r - 1) (by omega) (by omega)]
  refine ⟨by omega, by omega, by omega, by omega, by omega, by omega, by omega, by omega, ?_⟩
  have e22 : up_ M 21 r (M 21 r - 1) 22 = M 22 := up_ne (by decide)
  have l : ∀ (j : Nat) (x : Int), x + j = 42 * r + 7 * (M 21 r - 1) → 42 * r ≤ x → V 77 [rr 0, ii r, ii (42 * r), ii (M 22 (42 * r)), ii (M 22 (42 * r + 1)), ii (M 22 (42 * r + 2)), ii (M 22 (42 * r + 4)), ii (M 22 (42 * r + 5)), ii (M 22 (42 * r + 6)), ii x] [] (wr_ (up_ M 21 r (M 21 r - 1)) 22 (cpf (M 22) (42 * r) x 7)) := fun j => by
    induction j with
    | zero =>
      intro x hx h0
      refine b_3_77 (Tr_mono _) hV hW _ _ _ _ _ _ _ _ _ _ ⟨by omega, ?_⟩
      rw [wr_ne (by decide), up_at, w32_id (x := 7 * (M 21 r - 1)) (by omega) (by omega), w32_id (x := 42 * r + 7 * (M 21 r - 1)) (by omega) (by omega), if_neg (by omega)]
      have ex : x = 42 * r + 7 * (M 21 r - 1) := by omega
      rw [ex]
      exact x_4 (RU_sh h hr h1) _ _ (rv_i hq)
    | succ j ih =>
      intro x hx h0
      refine b_3_77 (Tr_mono _) hV hW _ _ _ _ _ _ _ _ _ _ ⟨by omega, ?_⟩
      rw [wr_ne (by decide), up_at, w32_id (x := 7 * (M 21 r - 1)) (by omega) (by omega), w32_id (x := 42 * r + 7 * (M 21 r - 1)) (by omega) (by omega), if_pos (by omega), w32_id (x := x + 7) (by omega) (by omega), w32_id (x := x + 1) (by omega) (by omega)]
      refine ⟨by omega, by omega, ?_⟩
      rw [wr_same, cpf_s h0 (by decide)]
      exact ih (x + 1) (by omega) (by omega)
  have := l (7 * (M 21 r - 1)).toNat (42 * r) (by omega) (by omega)
  rw [cpf_0, ← e22, wr_id, e22] at this
  exact this)
theorem q_328 [Inhabited fz_] (h : RU z M N) (hr : 0 ≤ r ∧ r < N 6 18) (h1 : 0 < M 21 r) : Ex_ 4 328 [.inr (.inr 6), .inl r] N [] (lQ N r) := fun Qr Qt hq => t_328 fun V hV hW => b_328_0 (Tr_mono _) hV hW _ _ (by
  have hb := (h.2.1.2.1 r hr.1 hr.2).1
  have h10 := h.2.1.1
  have hR : sR r = 674 + 43 * r := rfl
  refine Ex_le (d := 1) (by decide) (q_327 (by omega)) _ _ (ri_i ?_)
  rw [w32_id (x := sR r + 1) (by omega) (by omega), w32_id (x := sR r + 2) (by omega) (by omega), w32_id (x := sR r + 3) (by omega) (by omega)]
  refine ⟨by omega, by omega, by omega, ?_⟩
  -- the values
  refine b_328_37 (Tr_mono _) hV hW _ _ _ _ _ _ _ ?_
  rw [if_pos (by decide), w32_id (x := sR r + 5) (by omega) (by omega), w32_id (x := sR r + 5 + 0) (by omega) (by omega), w32_id (x := (0 : Int) + 1) (by decide) (by decide)]
  refine ⟨by omega, by decide, ?_⟩
  refine b_328_37 (Tr_mono _) hV hW _ _ _ _ _ _ _ ?_
  rw [if_pos (by decide), w32_id (x := sR r + 5) (by omega) (by omega), w32_id (x := sR r + 5 + (0 + 1)) (by omega) (by omega), w32_id (x := (0 : Int) + 1 + 1) (by decide) (by decide)]
  refine ⟨by omega, by decide, ?_⟩
  refine b_328_37 (Tr_mono _) hV hW _ _ _ _ _ _ _ ?_
  rw [if_pos (by decide), w32_id (x := sR r + 5) (by omega) (by omega), w32_id (x := sR r + 5 + (0 + 1 + 1)) (by omega) (by omega), w32_id (x := (0 : Int) + 1 + 1 + 1) (by decide) (by decide)]
  refine ⟨by omega, by decide, ?_⟩
  refine b_328_37 (Tr_mono _) hV hW _ _ _ _ _ _ _ ?_
  rw [if_neg (by decide), w32_id (x := sR r + 1) (by omega) (by omega), up_ne (r' := 239) (by decide), up_ne (r' := 239) (by decide), up_ne (r' := 239) (by decide), show sR r + 5 + 0 = sR r + 5 by omega, show sR r + 5 + (0 + 1) = sR r + 6 by omega, show sR r + 5 + (0 + 1 + 1) = sR r + 7 by omega]
  show V 72 [rr 6, ii r, ii (sR r), ii (N 239 (sR r + 1)), ii (N 239 (sR r + 2)), ii (N 239 (sR r + 3)), ii (sR r + 1)] [] (up_ (up_ (up_ N 242 0 (N 239 (sR r + 5))) 242 1 (N 239 (sR r + 6))) 242 2 (N 239 (sR r + 7)))
  generalize eA : up_ (up_ (up_ N 242 0 (N 239 (sR r + 5))) 242 1 (N 239 (sR r + 6))) 242 2 (N 239 (sR r + 7)) = A
  have e239 : A 239 = N 239 := by rw [← eA, up_ne (by decide), up_ne (by decide), up_ne (by decide)]
  have l2 : ∀ (j : Nat) (x : Int), x + j = sR r + 43 → sR r + 36 ≤ x → V 114 [rr 6, ii r, ii (sR r), ii (N 239 (sR r + 1)), ii (N 239 (sR r + 2)), ii (N 239 (sR r + 3)), ii x] [] (wr_ A 239 (flf (cpf (N 239) (sR r + 1) (sR r + 36) 7) (sR r + 36) x 0)) := fun j => by
    induction j with
    | zero =>
      intro x hx h0
      refine b_328_114 (Tr_mono _) hV hW _ _ _ _ _ _ _ ?_
      rw [w32_id (x := sR r + 43) (by omega) (by omega), if_neg (by omega)]
      refine ⟨by omega, by omega, ?_⟩
      have ex : x = sR r + 43 := by omega
      have eq : flf (cpf (N 239) (sR r + 1) (sR r + 36) 7) (sR r + 36) (sR r + 43) 0 (sR r) = N 239 (sR r) := by unfold flf cpf; rw [if_neg (by omega), if_neg (by omega)]
      rw [ex, wr_same, eq, w32_id (x := N 239 (sR r) - 1) (by omega) (by omega), up_wr]
      unfold lQ shQ shF at hq
      rw [eA] at hq
      refine q_329 (M := shX M r) (N := wr_ A 239 (su_ (flf (cpf (N 239) (sR r + 1) (sR r + 36) 7) (sR r + 36) (sR r + 43) 0) (sR r) (N 239 (sR r) - 1))) (z := z) ?_ _ _ (rv_i hq)
      have := RU_sh h hr h1
      unfold shQ shF at this
      rw [eA] at this; exact this
    | succ j ih =>
      intro x hx h0
      refine b_328_114 (Tr_mono _) hV hW _ _ _ _ _ _ _ ?_
      rw [w32_id (x := sR r + 43) (by omega) (by omega), if_pos (by omega), w32_id (x := x + 1) (by omega) (by omega), flf_s h0]
      exact ⟨by omega, ih (x + 1) (by omega) (by omega)⟩
  have l1 : ∀ (j : Nat) (x : Int), x + j = sR r + 36 → sR r + 1 ≤ x → V 72 [rr 6, ii r, ii (sR r), ii (N 239 (sR r + 1)), ii (N 239 (sR r + 2)), ii (N 239 (sR r + 3)), ii x] [] (wr_ A 239 (cpf (N 239) (sR r + 1) x 7)) := fun j => by
    induction j with
    | zero =>
      intro x hx h0
      refine b_328_72 (Tr_mono _) hV hW _ _ _ _ _ _ _ ?_
      rw [w32_id (x := sR r + 1) (by omega) (by omega), w32_id (x := sR r + 1 + 35) (by omega) (by omega), if_neg (by omega)]
      have ex : x = sR r + 36 := by omega
      have := l2 7 (sR r + 36) (by omega) (by omega)
      rw [flf_0] at this
      rw [ex, show sR r + 1 + 35 = sR r + 36 by omega]; exact this
    | succ j ih =>
      intro x hx h0
      refine b_328_72 (Tr_mono _) hV hW _ _ _ _ _ _ _ ?_
      rw [w32_id (x := sR r + 1) (by omega) (by omega), w32_id (x := sR r + 1 + 35) (by omega) (by omega), if_pos (by omega), w32_id (x := x + 7) (by omega) (by omega), w32_id (x := x + 1) (by omega) (by omega), wr_same, cpf_s h0 (by decide)]
      exact ⟨by omega, by omega, ih (x + 1) (by omega) (by omega)⟩
  have := l1 35 (sR r + 1) (by omega) (by omega)
  rw [cpf_0, ← e239, wr_id, e239] at this
  exact this)
end LAa
end T335_la
section T336_pl
/-! the plan that runs -/
/-- X's plan, at the places of the one that is read -/
def swc (M : mm_) : mm_ := fun r => if r = 5 then M 4 else if 112 ≤ r ∧ r ≤ 144 then M (r - 33) else fun _ => 0
def tfL : List Int := [17, 18, 19, 62, 63, 75, 76, 90, 104]
/-- Q's tables -/
def tbN (N : mm_) : mm_ := fun r => if r = 6 then (fun i => if i ∈ tfL then N 6 i else 0) else if 152 ≤ r ∧ r ≤ 234 then N r else fun _ => 0
/-- the cells of parameters; cells lie apart -/
def PPC (N : mm_) (T : Int) : Prop := (∀ v, 0 ≤ v → v < N 170 T → N 183 (8 * T + v) = 0 ∧ N 184 (8 * T + v) = v) ∧ ∀ i k, 0 ≤ i → i < k → k < N 171 T → N 184 (8 * T + i) + (if 1 < N 183 (8 * T + i) then N 183 (8 * T + i) else 1) ≤ N 184 (8 * T + k)
def PTY (M N : mm_) (T : Int) : Prop := ((M 120 T = N 168 T ∧ 0 ≤ N 168 T ∧ N 168 T ≤ 200) ∧ (M 121 T = N 169 T ∧ 0 ≤ N 169 T ∧ N 169 T ≤ 200)) ∧ (M 122 T = N 170 T ∧ 0 ≤ N 170 T ∧ N 170 T ≤ 3 ∧ N 170 T ≤ N 171 T ∧ PPC N T) ∧ ((M 123 T = N 174 T ∧ 0 ≤ N 174 T ∧ N 174 T ≤ 12) ∧ (M 124 T = N 171 T ∧ 0 ≤ N 171 T ∧ N 171 T ≤ 8) ∧ (M 125 T = N 172 T ∧ 0 ≤ N 172 T ∧ N 172 T ≤ 16) ∧ (M 126 T = N 173 T ∧ 0 ≤ N 173 T ∧ N 173 T ≤ 3) ∧ (M 128 T = N 175 T ∧ 0 ≤ N 175 T ∧ N 175 T ≤ 10))
  ∧ (∀ k, 0 ≤ k → k < N 171 T → (M 130 (8 * T + k) + 1 = N 182 (8 * T + k) ∧ M 131 (8 * T + k) = N 183 (8 * T + k) ∧ M 132 (8 * T + k) = N 184 (8 * T + k)) ∧ (0 ≤ N 183 (8 * T + k) ∧ N 183 (8 * T + k) ≤ 8) ∧ 0 ≤ N 184 (8 * T + k) ∧ N 184 (8 * T + k) + (if 1 < N 183 (8 * T + k) then N 183 (8 * T + k) else 1) ≤ N 172 T)
  ∧ ATP M N T (N 176 T) (M 127 T) ∧ ∀ l, 0 ≤ l → l < N 175 T → ATP M N T (N 188 (10 * T + l)) (M 129 (10 * T + l))
def PST (M N : mm_) : Prop := (0 ≤ N 6 62 ∧ xsf N (N 6 62).toNat = M 5 4 ∧ M 5 4 ≤ 600 ∧ N 6 62 ≤ 600 ∧ N 6 63 ≤ 600) ∧ ∀ k, 0 ≤ k → k < N 6 62 → ((0 ≤ N 192 k ∧ N 192 k < 6) ∧ (0 ≤ N 193 k ∧ N 193 k ≤ 3) ∧ (0 ≤ N 198 k ∧ N 198 k ≤ N 199 k ∧ N 199 k ≤ N 6 63) ∧ (2 ≤ N 193 k → N 199 k = N 198 k))
  ∧ ∀ j, 0 ≤ j → j < nsK N k → (M 133 (xsf N k.toNat + j) = N 193 k ∧ M 134 (xsf N k.toNat + j) = N 192 k ∧ MB (M 123 (N 192 k)) (M 135 (xsf N k.toNat + j)) (N 194 k) ∧ (N 193 k < 2 → M 136 (xsf N k.toNat + j) = N 200 (N 198 k + j))) ∧ SRO M N k (xsf N k.toNat + j) (N 198 k + j)
def PLB (M N : mm_) : Prop := ((M 5 0 = N 6 17 ∧ 0 ≤ N 6 17 ∧ N 6 17 ≤ 20) ∧ (M 5 1 = N 6 18 ∧ 0 ≤ N 6 18 ∧ N 6 18 ≤ 10) ∧ (M 5 2 = N 6 19 ∧ 0 ≤ N 6 19 ∧ N 6 19 ≤ 6))
  ∧ (∀ T, 0 ≤ T → T < N 6 19 → PTY M N T) ∧ (∀ r, 0 ≤ r → r < N 6 18 → RT2 M N r ∧ M 114 (2 * r) ≠ -1 ∧ M 114 (2 * r + 1) ≠ -1 ∧ M 115 r ≤ M 116 r) ∧ PST M N
  ∧ (∀ s, 0 ≤ s → s < N 6 17 → (0 ≤ N 156 s ∧ N 156 s ≤ 3 ∧ M 112 s = N 156 s) ∧ ∀ i, 0 ≤ i → i < N 156 s → N 157 (3 * s + i) = M 113 (3 * s + i) + 1 ∧ 0 ≤ M 113 (3 * s + i) ∧ M 113 (3 * s + i) ≤ 2)
  ∧ (M 5 3 ≤ 11200 ∧ N 6 75 ≤ 1200 ∧ N 6 90 ≤ 1200 ∧ N 6 104 ≤ 2400)
/-- X's plan and Q's tables -/
def PLr (M N : mm_) : Prop := PLB (swc M) (tbN N)
def xuL : List Nat := [0, 10, 11, 12, 13, 14, 15, 16, 17, 18, 19, 20, 21, 22, 23, 24, 25, 26]
def xfL : List Int := [7, 8, 10, 25, 26, 27, 28, 29, 30, 31, 32, 33, 34, 35, 36, 37, 38, 41, 42, 45, 46, 47, 49, 50]
def quL : List Nat := [6, 239, 240, 241, 242, 243, 244]
def qfL : List Int := [127, 129, 131, 132, 133, 134, 135, 136, 137, 138, 139, 142, 143, 144, 145, 148, 149, 151, 152, 153]
/-- what a run may change -/
def XRF (M M' : mm_) : Prop := (∀ r : Nat, r ∉ xuL → M' r = M r) ∧ ∀ i : Int, i ∉ xfL → M' 0 i = M 0 i
def QRF (N N' : mm_) : Prop := (∀ r : Nat, r ∉ quL → N' r = N r) ∧ ∀ i : Int, i ∉ qfL → N' 6 i = N 6 i
section PLa
variable {z : Int} {M N M' N' M1 N1 : mm_} {r k t a b c sg sn rc p : Int}
theorem XRF_rf [Inhabited fz_] : XRF M M := ⟨fun _ _ => rfl, fun _ _ => rfl⟩
theorem QRF_rf [Inhabited fz_] : QRF N N := ⟨fun _ _ => rfl, fun _ _ => rfl⟩
theorem XRF_tr [Inhabited fz_] (h : XRF M M1) (g : XRF M1 M') : XRF M M' := ⟨fun r hr => (g.1 r hr).trans (h.1 r hr), fun i hi => (g.2 i hi).trans (h.2 i hi)⟩
theorem QRF_tr [Inhabited fz_] (h : QRF N N1) (g : QRF N1 N') : QRF N N' := ⟨fun r hr => (g.1 r hr).trans (h.1 r hr), fun i hi => (g.2 i hi).trans (h.2 i hi)⟩
theorem XRF_up [Inhabited fz_] {q : Nat} {i v : Int} (h : q ∈ xuL) (h0 : q = 0 → i ∈ xfL) : XRF M (up_ M q i v) := ⟨fun r hr => up_ne (fun e => hr (by rw [e]; exact h)), fun j hj => by
  by_cases e : (0 : Nat) = q
  · subst e; exact upo (fun e2 => hj (by rw [e2]; exact h0 rfl))
  · rw [up_ne e]⟩
theorem QRF_up [Inhabited fz_] {q : Nat} {i v : Int} (h : q ∈ quL) (h0 : q = 6 → i ∈ qfL) : QRF N (up_ N q i v) := ⟨fun r hr => up_ne (fun e => hr (by rw [e]; exact h)), fun j hj => by
  by_cases e : (6 : Nat) = q
  · subst e; exact upo (fun e2 => hj (by rw [e2]; exact h0 rfl))
  · rw [up_ne e]⟩
theorem XRF_wr [Inhabited fz_] {q : Nat} {f : Int → Int} (h : q ∈ xuL) (h0 : q ≠ 0) : XRF M (wr_ M q f) := ⟨fun r hr => wr_ne (fun e => hr (by rw [e]; exact h)), fun j _ => by rw [wr_ne (fun e => h0 e.symm)]⟩
theorem QRF_wr [Inhabited fz_] {q : Nat} {f : Int → Int} (h : q ∈ quL) (h0 : q ≠ 6) : QRF N (wr_ N q f) := ⟨fun r hr => wr_ne (fun e => hr (by rw [e]; exact h)), fun j _ => by rw [wr_ne (fun e => h0 e.symm)]⟩
theorem swc_e [Inhabited fz_] (h : XRF M M') : swc M' = swc M := by
  funext r
  unfold swc
  split
  · rw [h.1 4 (by decide)]
  · split
    · rename_i c
      exact h.1 _ (fun e => by simp only [xuL, List.mem_cons, List.not_mem_nil, or_false] at e; omega)
    · rfl
theorem tbN_e [Inhabited fz_] (h : QRF N N') : tbN N' = tbN N := by
  funext r
  unfold tbN
  split
  · funext i
    split
    · rename_i hi
      exact h.2 i (fun e => by simp only [tfL, qfL, List.mem_cons, List.not_mem_nil, or_false] at hi e; omega)
    · rfl
  · split
    · exact h.1 r (fun e => by simp only [quL, List.mem_cons, List.not_mem_nil, or_false] at e; omega)
    · rfl
theorem PLr_c [Inhabited fz_] (h : PLr M N) (hx : XRF M M') (hq : QRF N N') : PLr M' N' := by
  unfold PLr; rw [swc_e hx, tbN_e hq]; exact h
theorem swc_r [Inhabited fz_] {q : Nat} (h : 79 ≤ q) (h' : q ≤ 111) : swc M (q + 33) = M q := by
  unfold swc; rw [if_neg (by omega), if_pos (by omega)]; congr 1
theorem swc_5 [Inhabited fz_] : swc M 5 = M 4 := rfl
theorem tbN_r [Inhabited fz_] {q : Nat} (h : 152 ≤ q) (h' : q ≤ 234) : tbN N q = N q := by unfold tbN; rw [if_neg (by omega), if_pos ⟨h, h'⟩]
theorem tbN_6 [Inhabited fz_] {i : Int} (h : i ∈ tfL) : tbN N 6 i = N 6 i := by unfold tbN; rw [if_pos rfl, if_pos h]
theorem XRF_ev [Inhabited fz_] : XRF M (evX M k a b c) := ⟨fun r hr => EvX_ev.1 r (fun e => hr (by rw [e]; decide)) (fun e => hr (by rw [e]; decide)), fun i hi => EvX_ev.2 i (fun e => hi (by rw [e]; decide)) (fun e => hi (by rw [e]; decide))⟩
theorem QRF_ev [Inhabited fz_] : QRF N (evQ N k a b c) := ⟨fun r hr => EvQ_ev.1 r (fun e => hr (by rw [e]; decide)) (fun e => hr (by rw [e]; decide)), fun i hi => EvQ_ev.2 i (fun e => hi (by rw [e]; decide)) (fun e => hi (by rw [e]; decide))⟩
theorem XRF_lo [Inhabited fz_] : XRF M (loX M p a b) := ⟨fun r hr => LoX_lo.1 r (fun e => hr (by rw [e]; decide)) (fun e => hr (by rw [e]; decide)), fun i hi => LoX_lo.2 i (fun e => hi (by simp only [xfL, List.mem_cons, List.not_mem_nil, or_false] at e ⊢; omega))⟩
theorem QRF_lo [Inhabited fz_] : QRF N (loQ N p a b) := ⟨fun r hr => LoQ_lo.1 r (fun e => hr (by rw [e]; decide)) (fun e => hr (by rw [e]; decide)), fun i hi => LoQ_lo.2 i (fun e => hi (by simp only [qfL, List.mem_cons, List.not_mem_nil, or_false] at e ⊢; omega))⟩
theorem XRF_q [Inhabited fz_] : XRF M (qX M k sg sn a b c) := ⟨fun r hr => qX_r (fun e => hr (by rw [e]; decide)) (fun e => hr (by rw [e]; decide)), fun i _ => by rw [qX_r (by decide) (by decide)]⟩
theorem QRF_q [Inhabited fz_] : QRF N (qQ N k sg sn) := ⟨fun r hr => qQ_r (fun e => hr (by rw [e]; decide)), fun i _ => by rw [qQ_r (by decide)]⟩
theorem XRF_cm [Inhabited fz_] : XRF M (cmX_ M k sg sn a b c) := by unfold cmX_; split; exact XRF_lo; exact XRF_q
theorem QRF_cm [Inhabited fz_] : QRF N (cmQ_ N k sg sn p) := by unfold cmQ_; split; exact QRF_lo; exact QRF_q
theorem XRF_out [Inhabited fz_] : XRF M (outX M sg sn a b c) := ⟨fun r hr => outX_r (fun e => hr (by rw [e]; decide)) (fun e => hr (by rw [e]; decide)), fun i hi => outX_0 (fun e => hi (by simp only [xfL, List.mem_cons, List.not_mem_nil, or_false] at e ⊢; omega))⟩
theorem QRF_out [Inhabited fz_] : QRF N (outQ N sg sn) := ⟨fun r hr => outQ_r (fun e => hr (by rw [e]; decide)) (fun e => hr (by rw [e]; decide)), fun i hi => outQ_6 (fun e => hi (by simp only [qfL, List.mem_cons, List.not_mem_nil, or_false] at e ⊢; omega))⟩
theorem XRF_a [Inhabited fz_] : XRF M (aX M sg sn rc a b c) := by
  unfold aX
  split
  · split
    · exact XRF_tr XRF_ev XRF_out
    · exact XRF_ev
  · split
    · exact XRF_lo
    · exact XRF_cm
theorem QRF_a [Inhabited fz_] : QRF N (aQ N sg sn rc) := by
  unfold aQ
  split
  · split
    · exact QRF_tr QRF_ev QRF_out
    · exact QRF_ev
  · split
    · exact QRF_lo
    · exact QRF_cm
theorem XRF_l [Inhabited fz_] : XRF M (lX M r) := by unfold lX shX; exact XRF_tr (XRF_tr (XRF_up (by decide) (fun e => absurd e (by decide))) (XRF_wr (by decide) (by decide))) XRF_a
theorem QRF_l [Inhabited fz_] : QRF N (lQ N r) := by
  unfold lQ shQ
  exact QRF_tr (QRF_tr (QRF_tr (QRF_tr (QRF_up (by decide) (fun e => absurd e (by decide))) (QRF_up (by decide) (fun e => absurd e (by decide)))) (QRF_up (by decide) (fun e => absurd e (by decide)))) (QRF_wr (by decide) (by decide))) QRF_a
/-- an arrival leaves routes, timers, pids as they are -/
theorem aX_s [Inhabited fz_] {q : Nat} (h : q ∉ [0, 14, 15, 23, 24]) : aX M sg sn rc a b c q = M q := by
  have e : ∀ x : Nat, x ∈ [0, 14, 15, 23, 24] → q ≠ x := fun x hx e => h (by rw [e]; exact hx)
  have ev : ∀ (A : mm_) (k a b c : Int), evX A k a b c q = A q := fun A k a b c => EvX_ev.1 q (e 0 (by decide)) (e 23 (by decide))
  unfold aX
  split
  · split
    · rw [outX_r (e 0 (by decide)) (e 24 (by decide)), ev]
    · exact ev _ _ _ _ _
  · split
    · exact LoX_lo.1 q (e 0 (by decide)) (e 23 (by decide))
    · unfold cmX_
      split
      · exact LoX_lo.1 q (e 0 (by decide)) (e 23 (by decide))
      · exact qX_r (e 14 (by decide)) (e 15 (by decide))
theorem aX_0 [Inhabited fz_] {i : Int} (h : i ∉ [27, 32, 33, 34, 35, 36, 37]) : aX M sg sn rc a b c 0 i = M 0 i := by
  have e : ∀ x : Int, x ∈ [27, 32, 33, 34, 35, 36, 37] → i ≠ x := fun x hx e => h (by rw [e]; exact hx)
  have ev : ∀ (A : mm_) (k a b c : Int), evX A k a b c 0 i = A 0 i := fun A k a b c => EvX_ev.2 i (e 35 (by decide)) (e 36 (by decide))
  have lo : ∀ (p s b : Int), loX M p s b 0 i = M 0 i := fun p s b => LoX_lo.2 i (fun c => h (by simp only [List.mem_cons, List.not_mem_nil, or_false] at c ⊢; omega))
  unfold aX
  split
  · split
    · rw [outX_0 (fun c => h (by simp only [List.mem_cons, List.not_mem_nil, or_false] at c ⊢; omega)), ev]
    · exact ev _ _ _ _ _
  · split
    · exact lo _ _ _
    · unfold cmX_
      split
      · exact lo _ _ _
      · rw [qX_r (by decide) (by decide)]
theorem lX_21 [Inhabited fz_] : lX M r 21 r = M 21 r - 1 := by unfold lX; rw [aX_s (by decide)]; unfold shX; rw [wr_ne (by decide), up_at]
end PLa
end T336_pl
section T337_du
/-! the run: timers come; what is due -/
def g0Q (N : mm_) : mm_ := up_ (up_ (up_ N 242 0 0) 242 1 0) 242 2 0
def rgX (M : mm_) (k t : Int) : mm_ := cmX_ (evX (up_ M 16 (3 * k + t) 0) 8 (M 10 k) (100 + t) (M 10 k)) k (100 + t) (M 10 k) 0 0 0
def rgQ (N : mm_) (k t : Int) : mm_ := cmQ_ (g0Q (evQ (up_ N 239 (sB k + 22 + t) (-1)) 8 (N 239 (sB k)) (100 + t) (N 239 (sB k)))) k (100 + t) (N 239 (sB k)) (N 239 (sB k))
section DUa
variable {z : Int} {M N M' N' : mm_} {r k t a b c sg sn rc p : Int}
theorem RU_2 [Inhabited fz_] (h : RU z M N) (hq : ∀ q : Nat, q ∉ [242, 243, 244] → N' q = N q) : RU z M N' := by
  have e6 := hq 6 (by decide)
  obtain ⟨h1, h2, h3, h4, h5⟩ := h
  exact ⟨RI_c h1 ⟨rfl, rfl⟩ (fun _ _ => rfl) (hq 239 (by decide)) (by rw [e6]) (fun q hq' => hq q (fun e => by simp only [List.mem_cons, List.not_mem_nil, or_false] at e hq'; omega)), RRt_c h2 rfl rfl (hq 239 (by decide)) (by rw [e6]), RSC_c h3 (fun _ _ => rfl) (fun i _ => by rw [e6]), ROU_c h4 (fun _ _ => rfl) rfl (fun i _ => by rw [e6]) (hq 241 (by decide)), REV_c h5 (fun _ _ => rfl) rfl (fun i _ => by rw [e6]) (hq 240 (by decide))⟩
theorem g0Q_r [Inhabited fz_] {q : Nat} (h : q ≠ 242) : g0Q N q = N q := by unfold g0Q; rw [up_ne h, up_ne h, up_ne h]
/-- a timer is off -/
theorem RU_of [Inhabited fz_] (h : RU z M N) (hk : 0 ≤ k ∧ k < M 0 7) (ht : 0 ≤ t ∧ t < 3) : RU z (up_ M 16 (3 * k + t) 0) (up_ N 239 (sB k + 22 + t) (-1)) := by
  obtain ⟨h1, h2, h3, h4, h5⟩ := h
  have n12 := h1.1
  have hB : sB k = 2 + 56 * k := rfl
  obtain ⟨i1, i2, i3, i4, j1, j4, j5⟩ := h1.2.2.1 k hk.1 hk.2
  have xr : ∀ q : Nat, q ≠ 16 → up_ M 16 (3 * k + t) 0 q = M q := fun q e => up_ne e
  have nr : ∀ q : Nat, q ≠ 239 → up_ N 239 (sB k + 22 + t) (-1) q = N q := fun q e => up_ne e
  have no : ∀ i, i ≠ sB k + 22 + t → up_ N 239 (sB k + 22 + t) (-1) 239 i = N 239 i := fun i e => upo e
  refine ⟨RI_k h1 hk ⟨by rw [xr 0 (by decide)], by rw [xr 0 (by decide)]⟩ (fun q hq i _ => by rw [xr q (fun e => by rw [e] at hq; revert hq; decide)]) (fun i _ => by rw [xr 13 (by decide)]) (fun i _ => by rw [xr 15 (by decide)]) (fun i hi => by rw [xr 17 (by decide), upo (by omega)]; exact ⟨rfl, rfl⟩) (fun i hi => no i (by omega)) (by rw [nr 6 (by decide)]) (fun q hq => nr q (fun e => by rw [e] at hq; revert hq; decide)) ?_, RRt_k h2 (xr 21 (by decide)) (xr 22 (by decide)) (fun i hi => no i (by omega)) (by rw [nr 6 (by decide)]), RSC_c h3 (fun i _ => by rw [xr 0 (by decide)]) (fun i _ => by rw [nr 6 (by decide)]), ROU_c h4 (fun i _ => by rw [xr 0 (by decide)]) (xr 24 (by decide)) (fun i _ => by rw [nr 6 (by decide)]) (nr 241 (by decide)), REV_c h5 (fun i _ => by rw [xr 0 (by decide)]) (xr 23 (by decide)) (fun i _ => by rw [nr 6 (by decide)]) (nr 240 (by decide))⟩
  unfold IN
  rw [xr 10 (by decide), xr 11 (by decide), xr 12 (by decide), xr 18 (by decide), xr 19 (by decide), xr 20 (by decide), xr 0 (by decide), xr 13 (by decide), xr 14 (by decide), xr 15 (by decide), xr 17 (by decide), nr 6 (by decide), nr 172 (by decide), nr 173 (by decide), nr 174 (by decide), no (sB k) (by omega), no (sB k + 1) (by omega), no (sB k + 2) (by omega), no (sB k + 3) (by omega), no (sB k + 4) (by omega), no (sB k + 5) (by omega), no (sB k + 25) (by omega)]
  refine ⟨i1, i2, ⟨fun i i0 i1 => by rw [no _ (by omega)]; exact i3.1 i i0 i1, fun i i0 i1 i2 => by rw [no _ (by omega)]; exact i3.2 i i0 i1 i2⟩, fun s s0 s1 => ?_, j1, fun i i0 i1 => by rw [no _ (by omega)]; exact j4 i i0 i1, fun i i0 i1 => by rw [no _ (by omega)]; exact j5 i i0 i1⟩
  by_cases e : s = t
  · rw [e, up_at, up_at]; exact ⟨.inr ⟨rfl, rfl⟩, fun _ => rfl⟩
  · rw [upo (by omega), upo (by omega)]; exact i4 s s0 s1
theorem RU_rg [Inhabited fz_] (h : RU z M N) (hk : 0 ≤ k ∧ k < M 0 7) (ht : 0 ≤ t ∧ t < 3) : RU z (rgX M k t) (rgQ N k t) := by
  have hp := (h.1.2.2.1 k hk.1 hk.2).1.1
  unfold rgX rgQ
  rw [← hp]
  have h1 := RU_of h hk ht
  have h2 := RU_ev (k := 8) (a := M 10 k) (s := 100 + t) (b := M 10 k) h1
  have h3 : RU z (evX (up_ M 16 (3 * k + t) 0) 8 (M 10 k) (100 + t) (M 10 k)) (g0Q (evQ (up_ N 239 (sB k + 22 + t) (-1)) 8 (M 10 k) (100 + t) (M 10 k))) := RU_2 h2 (fun q hq => g0Q_r (fun e => hq (by rw [e]; decide)))
  refine RU_cm h3 ⟨hk.1, ?_⟩ ?_ ?_
  · rw [EvX_ev.2 7 (by decide) (by decide), up_ne (by decide)]; exact hk.2
  · unfold g0Q
    exact ⟨by rw [upo (by decide), upo (by decide), up_at], by rw [upo (by decide), up_at], up_at⟩
  · rw [EvX_ev.1 10 (by decide) (by decide), up_ne (by decide)]
theorem x_10 [Inhabited fz_] (h : RU z M N) (hk : 0 ≤ k ∧ k < M 0 7) (ht : 0 ≤ t ∧ t < 3) : Ex_ 4 10 [.inr (.inr 0), .inl k, .inl t] M [] (rgX M k t) := fun Qr Qt hq => t_10 fun V hV hW => b_10_0 (Tr_mono _) hV hW _ _ _ (by
  have n12 := h.1.1
  have h1 := RU_of h hk ht
  obtain ⟨b1, b2, b3⟩ := RU_b5 h1
  have h2 := RU_ev (k := 8) (a := M 10 k) (s := 100 + t) (b := M 10 k) h1
  rw [w32_id (x := 3 * k) (by omega) (by omega), w32_id (x := 3 * k + t) (by omega) (by omega), w32_id (x := 100 + t) (by omega) (by omega)]
  refine ⟨⟨by omega, .inl rfl⟩, by omega, by omega, Ex_le (d := 1) (by decide) (x_5 b1 b2 b3) _ _ (rv_i ⟨by omega, ?_⟩)⟩
  have e10 : evX (up_ M 16 (3 * k + t) 0) 8 (M 10 k) (100 + t) (M 10 k) 10 = M 10 := by rw [EvX_ev.1 10 (by decide) (by decide), up_ne (by decide)]
  rw [e10]
  refine x_8 h2 ⟨hk.1, ?_⟩ _ _ (rv_i hq)
  rw [EvX_ev.2 7 (by decide) (by decide), up_ne (by decide)]; exact hk.2)
theorem q_334 [Inhabited fz_] (h : RU z M N) (hk : 0 ≤ k ∧ k < M 0 7) (ht : 0 ≤ t ∧ t < 3) : Ex_ 3 334 [.inr (.inr 6), .inl k, .inl t] N [] (rgQ N k t) := fun Qr Qt hq => t_334 fun V hV hW => b_334_0 (Tr_mono _) hV hW _ _ _ (by
  have n12 := h.1.1
  have hB : sB k = 2 + 56 * k := rfl
  have hp := (h.1.2.2.1 k hk.1 hk.2).1.1
  have h1 := RU_of h hk ht
  obtain ⟨b1, b2, b3⟩ := RU_b324 h1
  have h2 := RU_ev (k := 8) (a := N 239 (sB k)) (s := 100 + t) (b := N 239 (sB k)) h1
  refine Ex_le (d := 1) (by decide) (q_323 (by omega)) _ _ (ri_i ⟨by omega, Ex_le (d := 1) (by decide) (q_323 (by omega)) _ _ (ri_i ?_)⟩)
  rw [w32_id (x := sB k + 22) (by omega) (by omega), w32_id (x := sB k + 22 + t) (by omega) (by omega), w32_id (x := 100 + t) (by omega) (by omega)]
  refine ⟨by omega, Ex_le (d := 1) (by decide) (q_324 b1 b2 b3) _ _ (rv_i ?_)⟩
  unfold rgQ g0Q at hq
  have hm : ∀ A : mm_, RU z (evX (up_ M 16 (3 * k + t) 0) 8 (N 239 (sB k)) (100 + t) (N 239 (sB k))) A → 0 ≤ k ∧ k < evX (up_ M 16 (3 * k + t) 0) 8 (N 239 (sB k)) (100 + t) (N 239 (sB k)) 0 7 := fun A _ => by rw [EvX_ev.2 7 (by decide) (by decide), up_ne (by decide)]; exact hk
  generalize evQ (up_ N 239 (sB k + 22 + t) (-1)) 8 (N 239 (sB k)) (100 + t) (N 239 (sB k)) = N1 at *
  refine b_334_40 (Tr_mono _) hV hW _ _ _ _ _ ?_
  rw [if_pos (by decide), w32_id (x := (0 : Int) + 1) (by decide) (by decide)]
  refine ⟨by decide, ?_⟩
  refine b_334_40 (Tr_mono _) hV hW _ _ _ _ _ ?_
  rw [if_pos (by decide), w32_id (x := (0 : Int) + 1 + 1) (by decide) (by decide)]
  refine ⟨by decide, ?_⟩
  refine b_334_40 (Tr_mono _) hV hW _ _ _ _ _ ?_
  rw [if_pos (by decide), w32_id (x := (0 : Int) + 1 + 1 + 1) (by decide) (by decide)]
  refine ⟨by decide, ?_⟩
  refine b_334_40 (Tr_mono _) hV hW _ _ _ _ _ ?_
  rw [if_neg (by decide), w32_id (x := 100 + t) (by omega) (by omega)]
  rw [show up_ (up_ (up_ N1 242 0 0) 242 (0 + 1) 0) 242 (0 + 1 + 1) 0 = up_ (up_ (up_ N1 242 0 0) 242 1 0) 242 2 0 from rfl]
  have h3 : RU z (evX (up_ M 16 (3 * k + t) 0) 8 (N 239 (sB k)) (100 + t) (N 239 (sB k))) (up_ (up_ (up_ N1 242 0 0) 242 1 0) 242 2 0) := RU_2 h2 (fun q hq => by rw [up_ne (fun e => hq (by rw [e]; decide)), up_ne (fun e => hq (by rw [e]; decide)), up_ne (fun e => hq (by rw [e]; decide))])
  have hk1 := hm _ h3
  have j := (h3.1.2.2.1 _ hk1.1 hk1.2).2.2.2.2.1
  refine q_332 h3 hk1 _ _ (ri_i ?_)
  unfold cmQ_ at hq
  rw [j.2.2] at hq
  generalize evX (up_ M 16 (3 * k + t) 0) 8 (N 239 (sB k)) (100 + t) (N 239 (sB k)) = M1 at *
  by_cases c2 : M1 14 k = 6
  · rw [if_pos c2] at hq
    rw [if_pos c2, if_pos c2, if_pos rfl]
    exact q_333 h3 _ _ (rv_i hq)
  · rw [if_neg c2] at hq
    rw [if_neg c2, if_neg c2, if_neg (by decide)]; exact hq)
theorem XRF_rg [Inhabited fz_] : XRF M (rgX M k t) := by unfold rgX; exact XRF_tr (XRF_tr (XRF_up (by decide) (fun e => absurd e (by decide))) XRF_ev) XRF_cm
theorem QRF_g0 [Inhabited fz_] : QRF N (g0Q N) := by unfold g0Q; exact QRF_tr (QRF_tr (QRF_up (by decide) (fun e => absurd e (by decide))) (QRF_up (by decide) (fun e => absurd e (by decide)))) (QRF_up (by decide) (fun e => absurd e (by decide)))
theorem QRF_rg [Inhabited fz_] : QRF N (rgQ N k t) := by unfold rgQ; exact QRF_tr (QRF_tr (QRF_tr (QRF_up (by decide) (fun e => absurd e (by decide))) QRF_ev) QRF_g0) QRF_cm
/-- rings leave living and types -/
theorem rgX_s [Inhabited fz_] : rgX M k t 11 = M 11 ∧ rgX M k t 0 7 = M 0 7 ∧ rgX M k t 0 8 = M 0 8 := by
  unfold rgX cmX_
  have e : ∀ q : Nat, q ≠ 0 → q ≠ 23 → q ≠ 16 → evX (up_ M 16 (3 * k + t) 0) 8 (M 10 k) (100 + t) (M 10 k) q = M q := fun q h1 h2 h3 => by rw [EvX_ev.1 q h1 h2, up_ne h3]
  have e0 : ∀ i : Int, i ≠ 35 → i ≠ 36 → evX (up_ M 16 (3 * k + t) 0) 8 (M 10 k) (100 + t) (M 10 k) 0 i = M 0 i := fun i h1 h2 => by rw [EvX_ev.2 i h1 h2, up_ne (by decide)]
  split
  · rw [LoX_lo.1 11 (by decide) (by decide), LoX_lo.2 7 (by decide), LoX_lo.2 8 (by decide), e 11 (by decide) (by decide) (by decide), e0 7 (by decide) (by decide), e0 8 (by decide) (by decide)]; exact ⟨rfl, rfl, rfl⟩
  · rw [qX_r (by decide) (by decide), qX_r (by decide) (by decide), e 11 (by decide) (by decide) (by decide), e0 7 (by decide) (by decide), e0 8 (by decide) (by decide)]; exact ⟨rfl, rfl, rfl⟩
end DUa
end T337_du
section T339_mk
/-! the run: an instance more (X 31 | Q 322) -/
def mkA (M : mm_) : mm_ := if M 0 25 = 0 then up_ (up_ (up_ (up_ M 0 7 (M 0 7 + 1)) 10 (M 0 7) (M 0 8)) 0 8 (M 0 8 + 1)) 0 26 (w32 (M 0 26 + 1)) else up_ (up_ (up_ M 0 7 (M 0 7 + 1)) 10 (M 0 7) (M 0 8)) 0 8 (M 0 8 + 1)
def mkX0 (M : mm_) (T p : Int) : mm_ := up_ (up_ (up_ (wr_ (up_ (wr_ (up_ (up_ (mkA M) 11 (M 0 7) T) 12 (M 0 7) (-1)) 13 (flf (M 13) (16 * M 0 7) (16 * M 0 7 + 16) 0)) 14 (M 0 7) 0) 16 (flf (M 16) (3 * M 0 7) (3 * M 0 7 + 3) 0)) 18 (M 0 7) 0) 19 (M 0 7) p) 20 (M 0 7) 0
def mkF (f : Int → Int) (b T p : Int) : Int → Int := flf (su_ (su_ (su_ (su_ (flf f b (b + 56) 0) b (f 1)) (b + 1) T) (b + 2) (-1)) (b + 4) p) (b + 22) (b + 25) (-1)
def mkB (N : mm_) (T p : Int) : mm_ := up_ (up_ (wr_ N 239 (mkF (N 239) (sB (N 239 0)) T p)) 239 0 (N 239 0 + 1)) 239 1 (N 239 1 + 1)
def mkQ0 (N : mm_) (T p : Int) : mm_ := if N 6 127 = 0 then up_ (mkB N T p) 6 131 (w32 (N 6 131 + 1)) else mkB N T p
def mkX (M : mm_) (T p : Int) : mm_ := evX (mkX0 M T p) 0 (M 0 8) (-1) p
def mkQ (N : mm_) (T p : Int) : mm_ := evQ (mkQ0 N T p) 0 (N 239 1) (-1) p
section MKa
variable {z : Int} {M N M' N' : mm_} {T p k t : Int}
theorem mkA_r [Inhabited fz_] {q : Nat} (h : q ≠ 0) (h' : q ≠ 10) : mkA M q = M q := by unfold mkA; split <;> simp only [up_ne h, up_ne h']
theorem mkA_0 [Inhabited fz_] {i : Int} (h : i ∉ [7, 8, 26]) : mkA M 0 i = M 0 i := by
  have e : ∀ x : Int, x ∈ [7, 8, 26] → i ≠ x := fun x hx e => h (by rw [e]; exact hx)
  unfold mkA; split
  · rw [upo (e 26 (by decide)), upo (e 8 (by decide)), up_ne (by decide), upo (e 7 (by decide))]
  · rw [upo (e 8 (by decide)), up_ne (by decide), upo (e 7 (by decide))]
theorem mkA_7 [Inhabited fz_] : mkA M 0 7 = M 0 7 + 1 ∧ mkA M 0 8 = M 0 8 + 1 ∧ mkA M 0 26 = (if M 0 25 = 0 then w32 (M 0 26 + 1) else M 0 26) := by
  unfold mkA
  split
  · exact ⟨by rw [upo (by decide), upo (by decide), up_ne (by decide), up_at], by rw [upo (by decide), up_at], up_at⟩
  · exact ⟨by rw [upo (by decide), up_ne (by decide), up_at], up_at, by rw [upo (by decide), up_ne (by decide), upo (by decide)]⟩
theorem mkA_10 [Inhabited fz_] {i : Int} : mkA M 10 i = if i = M 0 7 then M 0 8 else M 10 i := by
  have e : mkA M 10 i = up_ (up_ M 0 7 (M 0 7 + 1)) 10 (M 0 7) (M 0 8) 10 i := by
    unfold mkA; split
    · rw [up_ne (by decide), up_ne (by decide)]
    · rw [up_ne (by decide)]
  rw [e]
  by_cases c : i = M 0 7
  · rw [if_pos c, c, up_at]
  · rw [if_neg c, upo c, up_ne (by decide)]
theorem mkX0_r [Inhabited fz_] {q : Nat} (h : q ∉ [0, 10, 11, 12, 13, 14, 16, 18, 19, 20]) : mkX0 M T p q = M q := by
  have e : ∀ x : Nat, x ∈ [0, 10, 11, 12, 13, 14, 16, 18, 19, 20] → q ≠ x := fun x hx e => h (by rw [e]; exact hx)
  unfold mkX0
  rw [up_ne (e 20 (by decide)), up_ne (e 19 (by decide)), up_ne (e 18 (by decide)), wr_ne (e 16 (by decide)), up_ne (e 14 (by decide)), wr_ne (e 13 (by decide)), up_ne (e 12 (by decide)), up_ne (e 11 (by decide)), mkA_r (e 0 (by decide)) (e 10 (by decide))]
theorem mkX0_0 [Inhabited fz_] {q : Nat} (h : q = 0 ∨ q = 10) : mkX0 M T p q = mkA M q := by
  unfold mkX0
  rw [up_ne (by omega), up_ne (by omega), up_ne (by omega), wr_ne (by omega), up_ne (by omega), wr_ne (by omega), up_ne (by omega), up_ne (by omega)]
theorem mkX0_s [Inhabited fz_] {i : Int} : (mkX0 M T p 11 i = if i = M 0 7 then T else M 11 i) ∧ (mkX0 M T p 12 i = if i = M 0 7 then -1 else M 12 i) ∧ (mkX0 M T p 14 i = if i = M 0 7 then 0 else M 14 i) ∧ (mkX0 M T p 18 i = if i = M 0 7 then 0 else M 18 i) ∧ (mkX0 M T p 19 i = if i = M 0 7 then p else M 19 i) ∧ (mkX0 M T p 20 i = if i = M 0 7 then 0 else M 20 i) := by
  unfold mkX0
  by_cases c : i = M 0 7
  · rw [if_pos c, if_pos c, if_pos c, if_pos c, if_pos c, if_pos c, c]
    refine ⟨?_, ?_, ?_, ?_, ?_, up_at⟩
    · rw [up_ne (by decide), up_ne (by decide), up_ne (by decide), wr_ne (by decide), up_ne (by decide), wr_ne (by decide), up_ne (by decide), up_at]
    · rw [up_ne (by decide), up_ne (by decide), up_ne (by decide), wr_ne (by decide), up_ne (by decide), wr_ne (by decide), up_at]
    · rw [up_ne (by decide), up_ne (by decide), up_ne (by decide), wr_ne (by decide), up_at]
    · rw [up_ne (by decide), up_ne (by decide), up_at]
    · rw [up_ne (by decide), up_at]
  · rw [if_neg c, if_neg c, if_neg c, if_neg c, if_neg c, if_neg c]
    refine ⟨?_, ?_, ?_, ?_, ?_, ?_⟩
    · rw [up_ne (by decide), up_ne (by decide), up_ne (by decide), wr_ne (by decide), up_ne (by decide), wr_ne (by decide), up_ne (by decide), upo c, mkA_r (by decide) (by decide)]
    · rw [up_ne (by decide), up_ne (by decide), up_ne (by decide), wr_ne (by decide), up_ne (by decide), wr_ne (by decide), upo c, up_ne (by decide), mkA_r (by decide) (by decide)]
    · rw [up_ne (by decide), up_ne (by decide), up_ne (by decide), wr_ne (by decide), upo c, wr_ne (by decide), up_ne (by decide), up_ne (by decide), mkA_r (by decide) (by decide)]
    · rw [up_ne (by decide), up_ne (by decide), upo c, wr_ne (by decide), up_ne (by decide), wr_ne (by decide), up_ne (by decide), up_ne (by decide), mkA_r (by decide) (by decide)]
    · rw [up_ne (by decide), upo c, up_ne (by decide), wr_ne (by decide), up_ne (by decide), wr_ne (by decide), up_ne (by decide), up_ne (by decide), mkA_r (by decide) (by decide)]
    · rw [upo c, up_ne (by decide), up_ne (by decide), wr_ne (by decide), up_ne (by decide), wr_ne (by decide), up_ne (by decide), up_ne (by decide), mkA_r (by decide) (by decide)]
theorem mkX0_13 [Inhabited fz_] : mkX0 M T p 13 = flf (M 13) (16 * M 0 7) (16 * M 0 7 + 16) 0 := by
  unfold mkX0
  rw [up_ne (by decide), up_ne (by decide), up_ne (by decide), wr_ne (by decide), up_ne (by decide), wr_same]
theorem mkX0_16 [Inhabited fz_] : mkX0 M T p 16 = flf (M 16) (3 * M 0 7) (3 * M 0 7 + 3) 0 := by
  unfold mkX0
  rw [up_ne (by decide), up_ne (by decide), up_ne (by decide), wr_same]
theorem mkB_r [Inhabited fz_] {q : Nat} (h : q ≠ 239) : mkB N T p q = N q := by unfold mkB; rw [up_ne h, up_ne h, wr_ne h]
theorem mkQ0_r [Inhabited fz_] {q : Nat} (h : q ≠ 239) (h' : q ≠ 6) : mkQ0 N T p q = N q := by
  unfold mkQ0; split
  · rw [up_ne h', mkB_r h]
  · exact mkB_r h
theorem mkQ0_6 [Inhabited fz_] {i : Int} (h : i ≠ 131) : mkQ0 N T p 6 i = N 6 i := by
  unfold mkQ0; split
  · rw [upo h, mkB_r (by decide)]
  · rw [mkB_r (by decide)]
theorem mkQ0_131 [Inhabited fz_] : mkQ0 N T p 6 131 = (if N 6 127 = 0 then w32 (N 6 131 + 1) else N 6 131) := by
  unfold mkQ0; split
  · rw [up_at]
  · rw [mkB_r (by decide)]
theorem mkQ0_239 [Inhabited fz_] : mkQ0 N T p 239 = mkB N T p 239 := by
  unfold mkQ0; split
  · rw [up_ne (by decide)]
  · rfl
theorem mkB_239 [Inhabited fz_] {i : Int} (h1 : i ≠ 0) (h2 : i ≠ 1) : mkB N T p 239 i = mkF (N 239) (sB (N 239 0)) T p i := by
  unfold mkB; rw [upo h2, upo h1, wr_same]
theorem mkF_o [Inhabited fz_] {f : Int → Int} {b i : Int} (h : i < b ∨ b + 56 ≤ i) : mkF f b T p i = f i := by
  unfold mkF flf su_
  rw [if_neg (by omega), if_neg (by omega), if_neg (by omega), if_neg (by omega), if_neg (by omega)]
  exact if_neg (by omega)
theorem mkF_i [Inhabited fz_] {f : Int → Int} {b j : Int} (h0 : 0 ≤ j) (h : j < 56) : mkF f b T p (b + j) = if 22 ≤ j ∧ j < 25 then -1 else if j = 4 then p else if j = 2 then -1 else if j = 1 then T else if j = 0 then f 1 else 0 := by
  unfold mkF flf su_
  by_cases c1 : 22 ≤ j ∧ j < 25
  · rw [if_pos (by omega), if_pos c1]
  · rw [if_neg (by omega), if_neg c1]
    by_cases c2 : j = 4
    · rw [if_pos (by omega), if_pos c2]
    · rw [if_neg (by omega), if_neg c2]
      by_cases c3 : j = 2
      · rw [if_pos (by omega), if_pos c3]
      · rw [if_neg (by omega), if_neg c3]
        by_cases c4 : j = 1
        · rw [if_pos (by omega), if_pos c4]
        · rw [if_neg (by omega), if_neg c4]
          by_cases c5 : j = 0
          · rw [if_pos (by omega), if_pos c5]
          · rw [if_neg (by omega), if_neg c5]
            exact if_pos (by omega)
theorem RU_mk0 [Inhabited fz_] (h : RU z M N) (hn : M 0 7 < 12) (hT : 0 ≤ T ∧ T < N 6 19) (h174 : 0 ≤ N 174 T) (h172 : 0 ≤ N 172 T) : RU z (mkX0 M T p) (mkQ0 N T p) := by
  obtain ⟨h1, h2, h3, h4, h5⟩ := h
  obtain ⟨a1, a2, a3, a4⟩ := id h1
  have x0 : ∀ i : Int, i ∉ [7, 8, 26] → mkX0 M T p 0 i = M 0 i := fun i hi => by rw [mkX0_0 (.inl rfl)]; exact mkA_0 hi
  have x7 : mkX0 M T p 0 7 = M 0 7 + 1 := by rw [mkX0_0 (.inl rfl)]; exact mkA_7.1
  have x8 : mkX0 M T p 0 8 = M 0 8 + 1 := by rw [mkX0_0 (.inl rfl)]; exact mkA_7.2.1
  have x26 : mkX0 M T p 0 26 = (if M 0 25 = 0 then w32 (M 0 26 + 1) else M 0 26) := by rw [mkX0_0 (.inl rfl)]; exact mkA_7.2.2
  have x10 : ∀ i, mkX0 M T p 10 i = if i = M 0 7 then M 0 8 else M 10 i := fun i => by rw [mkX0_0 (.inr rfl)]; exact mkA_10
  have xr : ∀ q : Nat, q ∉ [0, 10, 11, 12, 13, 14, 16, 18, 19, 20] → mkX0 M T p q = M q := fun q hq => mkX0_r hq
  have xs := fun i => mkX0_s (M := M) (T := T) (p := p) (i := i)
  have n0 : mkQ0 N T p 239 0 = M 0 7 + 1 := by rw [mkQ0_239]; unfold mkB; rw [upo (by decide), up_at, a1.2.2]
  have n1 : mkQ0 N T p 239 1 = N 239 1 + 1 := by rw [mkQ0_239]; unfold mkB; rw [up_at]
  have hB : sB (M 0 7) = 2 + 56 * M 0 7 := rfl
  have nf : ∀ i, i ≠ 0 → i ≠ 1 → mkQ0 N T p 239 i = mkF (N 239) (sB (M 0 7)) T p i := fun i c1 c2 => by rw [mkQ0_239, mkB_239 c1 c2, a1.2.2]
  have no : ∀ i, i ≠ 0 → i ≠ 1 → (i < sB (M 0 7) ∨ sB (M 0 7) + 56 ≤ i) → mkQ0 N T p 239 i = N 239 i := fun i c1 c2 c3 => by rw [nf i c1 c2, mkF_o c3]
  have ni : ∀ j, 0 ≤ j → j < 56 → mkQ0 N T p 239 (sB (M 0 7) + j) = if 22 ≤ j ∧ j < 25 then -1 else if j = 4 then p else if j = 2 then -1 else if j = 1 then T else if j = 0 then N 239 1 else 0 := fun j j0 j1 => by rw [nf _ (by omega) (by omega), mkF_i j0 j1]
  have nr : ∀ q : Nat, q ≠ 239 → q ≠ 6 → mkQ0 N T p q = N q := fun q c1 c2 => mkQ0_r c1 c2
  have n6 : ∀ i : Int, i ≠ 131 → mkQ0 N T p 6 i = N 6 i := fun i hi => mkQ0_6 hi
  have ne : ∀ j v, 0 ≤ j → j < 56 → (v = if 22 ≤ j ∧ j < 25 then -1 else if j = 4 then p else if j = 2 then -1 else if j = 1 then T else if j = 0 then N 239 1 else 0) → mkQ0 N T p 239 (sB (M 0 7) + j) = v := fun j v j0 j1 e => by rw [ni j j0 j1, e]
  refine ⟨⟨by rw [x7, n0]; omega, by rw [x8, n1]; omega, fun k k0 k1 => ?_, fun k k0 k1 i i0 i1 => ?_⟩, RRt_k h2 (xr 21 (by decide)) (xr 22 (by decide)) (fun i hi => no i (by omega) (by omega) (by omega)) (n6 18 (by decide)), ?_, ROU_c h4 (fun i hi => x0 i (fun e => by simp only [List.mem_cons, List.not_mem_nil, or_false] at e hi; omega)) (xr 24 (by decide)) (fun i hi => n6 i (fun e => by rw [e] at hi; revert hi; decide)) (nr 241 (by decide) (by decide)), REV_c h5 (fun i hi => x0 i (fun e => by simp only [List.mem_cons, List.not_mem_nil, or_false] at e hi; omega)) (xr 23 (by decide)) (fun i hi => n6 i (fun e => by rw [e] at hi; revert hi; decide)) (nr 240 (by decide) (by decide))⟩
  · rw [x7] at k1
    have hK : sB k = 2 + 56 * k := rfl
    by_cases c : k = M 0 7
    · have s := xs (M 0 7)
      rw [if_pos rfl, if_pos rfl, if_pos rfl, if_pos rfl, if_pos rfl, if_pos rfl] at s
      have e0 : mkQ0 N T p 239 (sB (M 0 7)) = N 239 1 := by have := ne 0 (N 239 1) (by decide) (by decide) rfl; rw [Int.add_zero] at this; exact this
      rw [c]
      unfold IN
      rw [x10, if_pos rfl, s.1, s.2.1, s.2.2.1, s.2.2.2.1, s.2.2.2.2.1, s.2.2.2.2.2, x8, mkX0_13, mkX0_16, xr 17 (by decide), xr 15 (by decide), n6 19 (by decide), nr 172 (by decide) (by decide), nr 173 (by decide) (by decide), nr 174 (by decide) (by decide), e0, ne 1 T (by decide) (by decide) rfl, ne 2 (-1) (by decide) (by decide) rfl, ne 3 0 (by decide) (by decide) rfl, ne 4 p (by decide) (by decide) rfl, ne 5 0 (by decide) (by decide) rfl, ne 25 0 (by decide) (by decide) rfl]
      refine ⟨⟨a2.1, rfl, rfl, rfl, rfl, rfl⟩, ⟨by omega, hT, by omega, by omega⟩, ⟨fun i i0 i1 => ?_, fun i _ i0 i1 => ?_⟩, fun t t0 t1 => ?_, ⟨by decide, by decide, rfl⟩, fun i i0 i1 => by omega, fun i i0 i1 => ?_⟩
      · unfold flf; rw [if_pos (by omega), Int.add_assoc, ni _ (by omega) (by omega), if_neg (by omega), if_neg (by omega), if_neg (by omega), if_neg (by omega), if_neg (by omega)]
      · rw [Int.add_assoc, ni _ (by omega) (by omega), if_neg (by omega), if_neg (by omega), if_neg (by omega), if_neg (by omega), if_neg (by omega)]
      · have f0 : flf (M 16) (3 * M 0 7) (3 * M 0 7 + 3) 0 (3 * M 0 7 + t) = 0 := by unfold flf; rw [if_pos (by omega)]
        rw [f0, Int.add_assoc, ni _ (by omega) (by omega), if_pos (by omega)]
        exact ⟨.inr ⟨rfl, rfl⟩, fun _ => rfl⟩
      · rw [Int.add_assoc, ni _ (by omega) (by omega), if_neg (by omega), if_neg (by omega), if_neg (by omega), if_neg (by omega), if_neg (by omega)]
    · have s := xs k
      rw [if_neg c, if_neg c, if_neg c, if_neg c, if_neg c, if_neg c] at s
      refine IN_o (a3 k k0 (by omega)) (by rw [x8]; omega) (fun q hq => ?_) (fun i i0 i1 => ?_) (fun i i0 i1 => by rw [xr 15 (by decide)]) (fun i i0 i1 => ?_) (fun i i0 i1 => no _ (by omega) (by omega) (by omega)) (n6 19 (by decide)) (fun q hq => nr q (fun e => by rw [e] at hq; revert hq; decide) (fun e => by rw [e] at hq; revert hq; decide))
      · simp only [List.mem_cons, List.not_mem_nil, or_false] at hq
        rcases hq with e | e | e | e | e | e | e <;> subst e
        · rw [x10, if_neg c]
        · exact s.1
        · exact s.2.1
        · exact s.2.2.1
        · exact s.2.2.2.1
        · exact s.2.2.2.2.1
        · exact s.2.2.2.2.2
      · rw [mkX0_13]; unfold flf; rw [if_neg (by omega)]
      · rw [mkX0_16, xr 17 (by decide)]; unfold flf; rw [if_neg (by omega)]; exact ⟨rfl, rfl⟩
  · rw [x7] at k0
    have hK : sB k = 2 + 56 * k := rfl
    rw [no _ (by omega) (by omega) (by omega)]
    exact a4 k (by omega) k1 i i0 i1
  · obtain ⟨z1, z2, z3, ⟨l1, l2⟩, z5⟩ := h3
    unfold RSC
    rw [x26, mkQ0_131, z1.1, z1.2.1, l1]
    have e0 : ∀ i : Int, i ∈ [25, 9, 10, 11, 27, 28, 29, 30, 31, 37, 38] → mkX0 M T p 0 i = M 0 i := fun i hi => x0 i (fun e => by simp only [List.mem_cons, List.not_mem_nil, or_false] at e hi; omega)
    have e6 : ∀ i : Int, i ∈ [127, 128, 129, 130, 132, 133, 134, 135, 136, 138, 139] → mkQ0 N T p 6 i = N 6 i := fun i hi => n6 i (fun e => by rw [e] at hi; revert hi; decide)
    rw [e0 25 (by decide), e0 9 (by decide), e0 10 (by decide), e0 27 (by decide), e0 28 (by decide), e0 29 (by decide), e0 30 (by decide), e0 31 (by decide), e0 37 (by decide), e0 38 (by decide), e6 127 (by decide), e6 128 (by decide), e6 129 (by decide), e6 132 (by decide), e6 133 (by decide), e6 134 (by decide), e6 135 (by decide), e6 136 (by decide), e6 138 (by decide), e6 139 (by decide)]
    exact ⟨z1, z2, z3, ⟨rfl, l2⟩, z5⟩
theorem RU_mk [Inhabited fz_] (h : RU z M N) (hn : M 0 7 < 12) (hT : 0 ≤ T ∧ T < N 6 19) (h174 : 0 ≤ N 174 T) (h172 : 0 ≤ N 172 T) : RU z (mkX M T p) (mkQ N T p) := by
  unfold mkX mkQ
  rw [← h.1.2.1.1]; exact RU_ev (RU_mk0 h hn hT h174 h172)
theorem x_31 [Inhabited fz_] (h : RU z M N) (hn : M 0 7 < 12) (hp : M 0 8 < 2000000000) (hT : 0 ≤ T ∧ T < N 6 19) (h174 : 0 ≤ N 174 T) (h172 : 0 ≤ N 172 T) : Ex_ 2 31 [.inr (.inr 0), .inl T, .inl p] M [.inl (M 0 7)] (mkX M T p) := fun Qr Qt hq => t_31 fun V hV hW => b_31_0 (Tr_mono _) hV hW _ _ _ (by
  have n12 := h.1.1
  have p1 := h.1.2.1.2
  rw [w32_id (x := M 0 7 + 1) (by omega) (by omega), w32_id (x := M 0 8 + 1) (by omega) (by omega)]
  refine ⟨by omega, fun _ => ?_⟩
  obtain ⟨b1, b2, b3⟩ := RU_b5 (RU_mk0 (p := p) h hn hT h174 h172)
  have e10 : mkX0 M T p 10 (M 0 7) = M 0 8 := by rw [mkX0_0 (.inr rfl), mkA_10, if_pos rfl]
  have go : ∀ A : mm_, A = mkA M → V 69 [rr 0, ii T, ii p, ii (M 0 7), ii 0] [] (up_ (up_ A 11 (M 0 7) T) 12 (M 0 7) (-1)) := fun A hA => by
    subst hA
    have e13 : up_ (up_ (mkA M) 11 (M 0 7) T) 12 (M 0 7) (-1) 13 = M 13 := by rw [up_ne (by decide), up_ne (by decide), mkA_r (by decide) (by decide)]
    generalize eA : up_ (up_ (mkA M) 11 (M 0 7) T) 12 (M 0 7) (-1) = A1 at *
    have e16 : up_ (wr_ A1 13 (flf (M 13) (16 * M 0 7) (16 * M 0 7 + 16) 0)) 14 (M 0 7) 0 16 = M 16 := by rw [up_ne (by decide), wr_ne (by decide), ← eA, up_ne (by decide), up_ne (by decide), mkA_r (by decide) (by decide)]
    have l2 : ∀ (j : Nat) (t : Int), t + j = 3 → 0 ≤ t → V 105 [rr 0, ii T, ii p, ii (M 0 7), ii t] [] (wr_ (up_ (wr_ A1 13 (flf (M 13) (16 * M 0 7) (16 * M 0 7 + 16) 0)) 14 (M 0 7) 0) 16 (flf (M 16) (3 * M 0 7) (3 * M 0 7 + t) 0)) := fun j => by
      induction j with
      | zero =>
        intro t hj t0
        refine b_31_105 (Tr_mono _) hV hW _ _ _ _ _ ?_
        rw [if_neg (by omega)]
        have et : t = 3 := by omega
        rw [et]
        unfold mkX mkX0 at hq
        unfold mkX0 at e10 b1 b2 b3
        rw [eA] at hq e10 b1 b2 b3
        have e10' : wr_ (up_ (wr_ A1 13 (flf (M 13) (16 * M 0 7) (16 * M 0 7 + 16) 0)) 14 (M 0 7) 0) 16 (flf (M 16) (3 * M 0 7) (3 * M 0 7 + 3) 0) 10 (M 0 7) = M 0 8 := by
          rw [up_ne (by decide), up_ne (by decide), up_ne (by decide)] at e10; exact e10
        rw [e10']
        exact ⟨by omega, by omega, by omega, by omega, x_5 b1 b2 b3 _ _ (rv_i hq)⟩
      | succ j ih =>
        intro t hj t0
        refine b_31_105 (Tr_mono _) hV hW _ _ _ _ _ ?_
        rw [if_pos (by omega), w32_id (x := 3 * M 0 7) (by omega) (by omega), w32_id (x := 3 * M 0 7 + t) (by omega) (by omega), w32_id (x := t + 1) (by omega) (by omega), flf_s (by omega), Int.add_assoc]
        exact ⟨⟨by omega, .inl rfl⟩, ih (t + 1) (by omega) (by omega)⟩
    have l1 : ∀ (j : Nat) (t : Int), t + j = 16 → 0 ≤ t → V 69 [rr 0, ii T, ii p, ii (M 0 7), ii t] [] (wr_ A1 13 (flf (M 13) (16 * M 0 7) (16 * M 0 7 + t) 0)) := fun j => by
      induction j with
      | zero =>
        intro t hj t0
        refine b_31_69 (Tr_mono _) hV hW _ _ _ _ _ ?_
        rw [if_neg (by omega)]
        have et : t = 16 := by omega
        have := l2 3 0 (by decide) (by decide)
        rw [Int.add_zero, flf_0, ← e16, wr_id] at this
        rw [et]; exact ⟨by omega, this⟩
      | succ j ih =>
        intro t hj t0
        refine b_31_69 (Tr_mono _) hV hW _ _ _ _ _ ?_
        rw [if_pos (by omega), w32_id (x := 16 * M 0 7) (by omega) (by omega), w32_id (x := 16 * M 0 7 + t) (by omega) (by omega), w32_id (x := t + 1) (by omega) (by omega), flf_s (by omega), Int.add_assoc]
        exact ⟨by omega, ih (t + 1) (by omega) (by omega)⟩
    have := l1 16 0 (by decide) (by decide)
    rw [Int.add_zero, flf_0, ← e13, wr_id] at this
    exact this
  by_cases c : M 0 25 = 0
  · rw [if_pos c]
    exact ⟨by omega, by omega, go _ (by unfold mkA; rw [if_pos c])⟩
  · rw [if_neg c]
    exact ⟨by omega, by omega, go _ (by unfold mkA; rw [if_neg c])⟩)
theorem q_322 [Inhabited fz_] (h : RU z M N) (hn : M 0 7 < 12) (hp : M 0 8 < 2000000000) (hT : 0 ≤ T ∧ T < N 6 19) (h174 : 0 ≤ N 174 T) (h172 : 0 ≤ N 172 T) : Ex_ 2 322 [.inr (.inr 6), .inl T, .inl p] N [.inl (M 0 7)] (mkQ N T p) := fun Qr Qt hq => t_322 fun V hV hW => b_322_0 (Tr_mono _) hV hW _ _ _ (by
  have n12 := h.1.1
  have p1 := h.1.2.1
  have hB : sB (M 0 7) = 2 + 56 * M 0 7 := rfl
  refine ⟨by decide, ?_⟩
  rw [n12.2.2]
  refine q_323 (by omega) _ _ (ri_i ?_)
  obtain ⟨b1, b2, b3⟩ := RU_b324 (RU_mk0 (p := p) h hn hT h174 h172)
  have f1 : ∀ x, sB (M 0 7) ≤ x → flf (N 239) (sB (M 0 7)) x 0 1 = N 239 1 := fun x hx => by unfold flf; rw [if_neg (by omega)]
  generalize eG : su_ (su_ (su_ (su_ (flf (N 239) (sB (M 0 7)) (sB (M 0 7) + 56) 0) (sB (M 0 7)) (N 239 1)) (sB (M 0 7) + 1) T) (sB (M 0 7) + 2) (-1)) (sB (M 0 7) + 4) p = G
  have eF : mkF (N 239) (sB (M 0 7)) T p = flf G (sB (M 0 7) + 22) (sB (M 0 7) + 25) (-1) := by unfold mkF; rw [eG]
  have l2 : ∀ (j : Nat) (t : Int), t + j = 3 → 0 ≤ t → V 86 [rr 6, ii T, ii p, ii (M 0 7), ii (sB (M 0 7)), ii t] [] (wr_ N 239 (flf G (sB (M 0 7) + 22) (sB (M 0 7) + 22 + t) (-1))) := fun j => by
    induction j with
    | zero =>
      intro t hj t0
      refine b_322_86 (Tr_mono _) hV hW _ _ _ _ _ _ ?_
      rw [if_neg (by omega)]
      have et : t = 3 := by omega
      rw [et, show sB (M 0 7) + 22 + 3 = sB (M 0 7) + 25 by omega, ← eF]
      have w0 : wr_ N 239 (mkF (N 239) (sB (M 0 7)) T p) 239 0 = N 239 0 := by rw [wr_same, mkF_o (by omega)]
      have w1 : wr_ N 239 (mkF (N 239) (sB (M 0 7)) T p) 239 1 = N 239 1 := by rw [wr_same, mkF_o (by omega)]
      have w6 : wr_ N 239 (mkF (N 239) (sB (M 0 7)) T p) 6 = N 6 := wr_ne (by decide)
      have eM : up_ (up_ (wr_ N 239 (mkF (N 239) (sB (M 0 7)) T p)) 239 0 (N 239 0 + 1)) 239 1 (N 239 1 + 1) = mkB N T p := by unfold mkB; rw [n12.2.2]
      have ep : mkB N T p 239 (sB (M 0 7)) = N 239 1 := by
        rw [mkB_239 (by omega) (by omega), n12.2.2]
        have := mkF_i (f := N 239) (b := sB (M 0 7)) (T := T) (p := p) (j := 0) (by decide) (by decide)
        rw [Int.add_zero] at this; exact this
      rw [w0, w1, w6, w32_id (x := N 239 0 + 1) (by omega) (by omega), w32_id (x := N 239 1 + 1) (by omega) (by omega), eM, ep]
      refine ⟨by decide, by decide, by decide, by decide, fun _ => ?_⟩
      unfold mkQ mkQ0 at hq
      unfold mkQ0 at b1 b2 b3
      by_cases c : N 6 127 = 0
      · rw [if_pos c] at hq b1 b2 b3 ⊢
        exact ⟨by omega, q_324 b1 b2 b3 _ _ (rv_i hq)⟩
      · rw [if_neg c] at hq b1 b2 b3 ⊢
        exact ⟨by omega, q_324 b1 b2 b3 _ _ (rv_i hq)⟩
    | succ j ih =>
      intro t hj t0
      refine b_322_86 (Tr_mono _) hV hW _ _ _ _ _ _ ?_
      rw [if_pos (by omega), w32_id (x := sB (M 0 7) + 22) (by omega) (by omega), w32_id (x := sB (M 0 7) + 22 + t) (by omega) (by omega), w32_id (x := t + 1) (by omega) (by omega), flf_s (by omega), Int.add_assoc (sB (M 0 7) + 22) t 1]
      exact ⟨by omega, ih (t + 1) (by omega) (by omega)⟩
  have l1 : ∀ (j : Nat) (t : Int), t + j = 56 → 0 ≤ t → V 16 [rr 6, ii T, ii p, ii (M 0 7), ii (sB (M 0 7)), ii t] [] (wr_ N 239 (flf (N 239) (sB (M 0 7)) (sB (M 0 7) + t) 0)) := fun j => by
    induction j with
    | zero =>
      intro t hj t0
      refine b_322_16 (Tr_mono _) hV hW _ _ _ _ _ _ ?_
      rw [if_neg (by omega)]
      have et : t = 56 := by omega
      have := l2 3 0 (by decide) (by decide)
      rw [Int.add_zero, flf_0] at this
      rw [et, wr_same, f1 _ (by omega), w32_id (x := sB (M 0 7) + 1) (by omega) (by omega), w32_id (x := sB (M 0 7) + 2) (by omega) (by omega), w32_id (x := sB (M 0 7) + 4) (by omega) (by omega), up_wr, up_wr, up_wr, up_wr, eG]
      exact ⟨by decide, by omega, by omega, by omega, by omega, this⟩
    | succ j ih =>
      intro t hj t0
      refine b_322_16 (Tr_mono _) hV hW _ _ _ _ _ _ ?_
      rw [if_pos (by omega), w32_id (x := sB (M 0 7) + t) (by omega) (by omega), w32_id (x := t + 1) (by omega) (by omega), flf_s (by omega), Int.add_assoc (sB (M 0 7)) t 1]
      exact ⟨by omega, ih (t + 1) (by omega) (by omega)⟩
  have := l1 56 0 (by decide) (by decide)
  rw [Int.add_zero, flf_0, wr_id] at this
  exact this)
theorem XRF_mk [Inhabited fz_] : XRF M (mkX M T p) := by
  unfold mkX
  refine XRF_tr ⟨fun r hr => mkX0_r (fun e => hr (by simp only [xuL, List.mem_cons, List.not_mem_nil, or_false] at e ⊢; omega)), fun i hi => ?_⟩ XRF_ev
  rw [mkX0_0 (.inl rfl)]; exact mkA_0 (fun e => hi (by simp only [xfL, List.mem_cons, List.not_mem_nil, or_false] at e ⊢; omega))
theorem QRF_mk [Inhabited fz_] : QRF N (mkQ N T p) := by
  unfold mkQ
  exact QRF_tr ⟨fun r hr => mkQ0_r (fun e => hr (by rw [e]; decide)) (fun e => hr (by rw [e]; decide)), fun i hi => mkQ0_6 (fun e => hi (by rw [e]; decide))⟩ QRF_ev
end MKa
end T339_mk
section T340_st
/-! the run: an instance stops (X 32 | Q 348) -/
section STa
variable {z : Int} {M N M' N' : mm_} {k k' p : Int}
theorem IN_m [Inhabited fz_] (h : IN z M N k') (h08 : M 0 8 ≤ M' 0 8) (hx : ∀ q : Nat, q ∈ [10, 11, 12, 14, 18, 19, 20] → M' q k = M q k') (h13 : ∀ i, 0 ≤ i → i < 16 → M' 13 (16 * k + i) = M 13 (16 * k' + i)) (h15 : ∀ i, 0 ≤ i → i < 30 → M' 15 (30 * k + i) = M 15 (30 * k' + i)) (h16 : ∀ i, 0 ≤ i → i < 3 → M' 16 (3 * k + i) = M 16 (3 * k' + i) ∧ M' 17 (3 * k + i) = M 17 (3 * k' + i)) (hN : ∀ j, 0 ≤ j → j < 56 → N' 239 (sB k + j) = N 239 (sB k' + j)) (h19 : N' 6 19 = N 6 19) (hq : ∀ q : Nat, q ∈ [172, 173, 174] → N' q = N q) : IN z M' N' k := by
  obtain ⟨⟨a1, a2, a3, a4, a5, a6⟩, ⟨b1, b2, b3⟩, ⟨c1, c2⟩, d1, ⟨e1, e2, e3⟩, e4, e5⟩ := h
  have h0 := hN 0 (by decide) (by decide)
  rw [Int.add_zero, Int.add_zero] at h0
  unfold IN
  rw [hx 10 (by decide), hx 11 (by decide), hx 12 (by decide), hx 14 (by decide), hx 18 (by decide), hx 19 (by decide), hx 20 (by decide), h19, hq 172 (by decide), hq 173 (by decide), hq 174 (by decide), h0, hN 1 (by decide) (by decide), hN 2 (by decide) (by decide), hN 3 (by decide) (by decide), hN 4 (by decide) (by decide), hN 5 (by decide) (by decide), hN 25 (by decide) (by decide)]
  have n6 : ∀ i, 0 ≤ i → i < 16 → N' 239 (sB k + 6 + i) = N 239 (sB k' + 6 + i) := fun i i0 i1 => by have := hN (6 + i) (by omega) (by omega); rw [← Int.add_assoc, ← Int.add_assoc] at this; exact this
  have n22 : ∀ i, 0 ≤ i → i < 3 → N' 239 (sB k + 22 + i) = N 239 (sB k' + 22 + i) := fun i i0 i1 => by have := hN (22 + i) (by omega) (by omega); rw [← Int.add_assoc, ← Int.add_assoc] at this; exact this
  have n26 : ∀ i, 0 ≤ i → i < 30 → N' 239 (sB k + 26 + i) = N 239 (sB k' + 26 + i) := fun i i0 i1 => by have := hN (26 + i) (by omega) (by omega); rw [← Int.add_assoc, ← Int.add_assoc] at this; exact this
  refine ⟨⟨a1, a2, a3, a4, a5, a6⟩, ⟨⟨b1.1, by omega⟩, b2, b3⟩, ⟨fun i i0 i1 => by rw [h13 i i0 i1, n6 i i0 i1]; exact c1 i i0 i1, fun i i0 i1 i2 => by rw [n6 i i1 i2]; exact c2 i i0 i1 i2⟩, fun t t0 t1 => by rw [(h16 t t0 t1).1, (h16 t t0 t1).2, n22 t t0 t1]; exact d1 t t0 t1, ⟨e1, e2, e3⟩, fun i i0 i1 => by rw [h15 i i0 (by omega), n26 i i0 (by omega)]; exact e4 i i0 i1, fun i i0 i1 => by rw [n26 i (by omega) i1]; exact e5 i i0 i1⟩
/-! the queue is lost -/
def lsX (k p : Int) : Nat → Int → mm_ → mm_
  | 0, _, M => M
  | n + 1, i, M => lsX k p n (i + 1) (loX M p (M 15 (30 * k + 5 * i)) (M 15 (30 * k + 5 * i + 1)))
def lsQ (k p : Int) : Nat → Int → mm_ → mm_
  | 0, _, N => N
  | n + 1, i, N => lsQ k p n (i + 1) (loQ N p (N 239 (sB k + 26 + 5 * i)) (N 239 (sB k + 27 + 5 * i)))
theorem LoX_tr [Inhabited fz_] {M1 : mm_} (h : LoX M M1) (g : LoX M1 M') : LoX M M' := ⟨fun r h1 h2 => (g.1 r h1 h2).trans (h.1 r h1 h2), fun i hi => (g.2 i hi).trans (h.2 i hi)⟩
theorem LoQ_tr [Inhabited fz_] {N1 : mm_} (h : LoQ N N1) (g : LoQ N1 N') : LoQ N N' := ⟨fun r h1 h2 => (g.1 r h1 h2).trans (h.1 r h1 h2), fun i hi => (g.2 i hi).trans (h.2 i hi)⟩
theorem ls_f [Inhabited fz_] : ∀ (n : Nat) (i : Int) (M N : mm_), LoX M (lsX k p n i M) ∧ LoQ N (lsQ k p n i N)
  | 0, _, _, _ => ⟨⟨fun _ _ _ => rfl, fun _ _ => rfl⟩, ⟨fun _ _ _ => rfl, fun _ _ => rfl⟩⟩
  | n + 1, i, M, N => ⟨LoX_tr LoX_lo (ls_f n (i + 1) _ N).1, LoQ_tr LoQ_lo (ls_f n (i + 1) M _).2⟩
theorem RU_ls [Inhabited fz_] : ∀ (n : Nat) (i : Int) (M N : mm_), RU z M N → (0 ≤ k ∧ k < M 0 7) → 0 ≤ i → i + n = M 14 k → RU z (lsX k p n i M) (lsQ k p n i N)
  | 0, _, _, _, h, _, _, _ => h
  | n + 1, i, M, N, h, hk, i0, hi => by
    have j := (h.1.2.2.1 k hk.1 hk.2).2.2.2.2
    have e1 := j.2.1 (5 * i) (by omega) (by omega)
    have e2 := j.2.1 (5 * i + 1) (by omega) (by omega)
    unfold lsX lsQ
    rw [show sB k + 27 + 5 * i = sB k + 26 + (5 * i + 1) by omega, ← e1, ← e2, show 30 * k + (5 * i + 1) = 30 * k + 5 * i + 1 by omega]
    exact RU_ls n (i + 1) _ _ (RU_lo h) (by rw [LoX_lo.2 7 (by decide)]; exact hk) (by omega) (by rw [LoX_lo.1 14 (by decide) (by decide)]; omega)
/-! the others move up -/
def SFX (M : mm_) (k c0 c1 c2 c3 : Int) (A : mm_) : Prop := (∀ r : Nat, r ∈ [10, 11, 12, 14, 18, 19, 20] → A r = cpf (M r) k c0 1) ∧ A 13 = cpf (M 13) (16 * k) c1 16 ∧ A 15 = cpf (M 15) (30 * k) c2 30 ∧ A 16 = cpf (M 16) (3 * k) c3 3 ∧ A 17 = cpf (M 17) (3 * k) c3 3 ∧ ∀ r : Nat, r ∉ [10, 11, 12, 13, 14, 15, 16, 17, 18, 19, 20] → A r = M r
def sfX (M : mm_) (k j : Int) : mm_ := fun r => if r ∈ [10, 11, 12, 14, 18, 19, 20] then cpf (M r) k j 1 else if r = 13 then cpf (M 13) (16 * k) (16 * j) 16 else if r = 15 then cpf (M 15) (30 * k) (30 * j) 30 else if r = 16 then cpf (M 16) (3 * k) (3 * j) 3 else if r = 17 then cpf (M 17) (3 * k) (3 * j) 3 else M r
theorem SFX_e [Inhabited fz_] {A : mm_} {j : Int} (h : SFX M k j (16 * j) (30 * j) (3 * j) A) : A = sfX M k j := by
  obtain ⟨h1, h2, h3, h4, h5, h6⟩ := h
  funext r
  unfold sfX
  by_cases c : r ∈ [10, 11, 12, 14, 18, 19, 20]
  · rw [if_pos c]; exact h1 r c
  · rw [if_neg c]
    by_cases c13 : r = 13
    · rw [if_pos c13, c13]; exact h2
    · rw [if_neg c13]
      by_cases c15 : r = 15
      · rw [if_pos c15, c15]; exact h3
      · rw [if_neg c15]
        by_cases c16 : r = 16
        · rw [if_pos c16, c16]; exact h4
        · rw [if_neg c16]
          by_cases c17 : r = 17
          · rw [if_pos c17, c17]; exact h5
          · rw [if_neg c17]
            exact h6 r (fun e => by simp only [List.mem_cons, List.not_mem_nil, or_false] at e c; omega)
theorem SFX_0 [Inhabited fz_] : SFX M k k (16 * k) (30 * k) (3 * k) M := ⟨fun r _ => cpf_0.symm, cpf_0.symm, cpf_0.symm, cpf_0.symm, cpf_0.symm, fun _ _ => rfl⟩
/-- one place of a copy -/
theorem cpf_1 [Inhabited fz_] {A : mm_} {r : Nat} {f : Int → Int} {lo x δ : Int} (h : A r = cpf f lo x δ) (h0 : lo ≤ x) (hd : 0 < δ) : up_ A r x (A r (x + δ)) r = cpf f lo (x + 1) δ := by
  have e : A = wr_ A r (cpf f lo x δ) := by rw [← h, wr_id]
  have s := cpf_s (M := A) (r := r) (f := f) (lo := lo) (x := x) (δ := δ) h0 hd
  rw [← e] at s
  rw [h, s, wr_same]
theorem SFX_s [Inhabited fz_] {A : mm_} {j c1 c2 c3 : Int} (h : SFX M k j c1 c2 c3 A) (h0 : k ≤ j) : SFX M k (j + 1) c1 c2 c3 (up_ (up_ (up_ (up_ (up_ (up_ (up_ A 10 j (A 10 (j + 1))) 11 j (A 11 (j + 1))) 12 j (A 12 (j + 1))) 14 j (A 14 (j + 1))) 18 j (A 18 (j + 1))) 19 j (A 19 (j + 1))) 20 j (A 20 (j + 1))) := by
  obtain ⟨h1, h2, h3, h4, h5, h6⟩ := h
  have o : ∀ (B : mm_) (r : Nat), B r = A r → up_ B r j (A r (j + 1)) r = up_ A r j (A r (j + 1)) r := fun B r e => by unfold up_; rw [if_pos rfl, if_pos rfl, e]
  refine ⟨fun r hr => ?_, ?_, ?_, ?_, ?_, fun r hr => ?_⟩
  · simp only [List.mem_cons, List.not_mem_nil, or_false] at hr
    rcases hr with e | e | e | e | e | e | e <;> subst e
    · rw [up_ne (by decide), up_ne (by decide), up_ne (by decide), up_ne (by decide), up_ne (by decide), up_ne (by decide)]; exact cpf_1 (h1 10 (by decide)) h0 (by decide)
    · rw [up_ne (by decide), up_ne (by decide), up_ne (by decide), up_ne (by decide), up_ne (by decide), o _ 11 (by rw [up_ne (by decide)])]; exact cpf_1 (h1 11 (by decide)) h0 (by decide)
    · rw [up_ne (by decide), up_ne (by decide), up_ne (by decide), up_ne (by decide), o _ 12 (by rw [up_ne (by decide), up_ne (by decide)])]; exact cpf_1 (h1 12 (by decide)) h0 (by decide)
    · rw [up_ne (by decide), up_ne (by decide), up_ne (by decide), o _ 14 (by rw [up_ne (by decide), up_ne (by decide), up_ne (by decide)])]; exact cpf_1 (h1 14 (by decide)) h0 (by decide)
    · rw [up_ne (by decide), up_ne (by decide), o _ 18 (by rw [up_ne (by decide), up_ne (by decide), up_ne (by decide), up_ne (by decide)])]; exact cpf_1 (h1 18 (by decide)) h0 (by decide)
    · rw [up_ne (by decide), o _ 19 (by rw [up_ne (by decide), up_ne (by decide), up_ne (by decide), up_ne (by decide), up_ne (by decide)])]; exact cpf_1 (h1 19 (by decide)) h0 (by decide)
    · rw [o _ 20 (by rw [up_ne (by decide), up_ne (by decide), up_ne (by decide), up_ne (by decide), up_ne (by decide), up_ne (by decide)])]; exact cpf_1 (h1 20 (by decide)) h0 (by decide)
  · rw [up_ne (by decide), up_ne (by decide), up_ne (by decide), up_ne (by decide), up_ne (by decide), up_ne (by decide), up_ne (by decide)]; exact h2
  · rw [up_ne (by decide), up_ne (by decide), up_ne (by decide), up_ne (by decide), up_ne (by decide), up_ne (by decide), up_ne (by decide)]; exact h3
  · rw [up_ne (by decide), up_ne (by decide), up_ne (by decide), up_ne (by decide), up_ne (by decide), up_ne (by decide), up_ne (by decide)]; exact h4
  · rw [up_ne (by decide), up_ne (by decide), up_ne (by decide), up_ne (by decide), up_ne (by decide), up_ne (by decide), up_ne (by decide)]; exact h5
  · have e : ∀ x : Nat, x ∈ [10, 11, 12, 13, 14, 15, 16, 17, 18, 19, 20] → r ≠ x := fun x hx e => hr (by rw [e]; exact hx)
    rw [up_ne (e 20 (by decide)), up_ne (e 19 (by decide)), up_ne (e 18 (by decide)), up_ne (e 14 (by decide)), up_ne (e 12 (by decide)), up_ne (e 11 (by decide)), up_ne (e 10 (by decide))]; exact h6 r hr
theorem SFX_13 [Inhabited fz_] {A : mm_} {j c1 c2 c3 : Int} (h : SFX M k j c1 c2 c3 A) (h0 : 16 * k ≤ c1) : SFX M k j (c1 + 1) c2 c3 (up_ A 13 c1 (A 13 (c1 + 16))) := by
  obtain ⟨h1, h2, h3, h4, h5, h6⟩ := h
  exact ⟨fun r hr => by rw [up_ne (fun e => by rw [e] at hr; revert hr; decide)]; exact h1 r hr, cpf_1 h2 h0 (by decide), by rw [up_ne (by decide)]; exact h3, by rw [up_ne (by decide)]; exact h4, by rw [up_ne (by decide)]; exact h5, fun r hr => by rw [up_ne (fun e => hr (by rw [e]; decide))]; exact h6 r hr⟩
theorem SFX_15 [Inhabited fz_] {A : mm_} {j c1 c2 c3 : Int} (h : SFX M k j c1 c2 c3 A) (h0 : 30 * k ≤ c2) : SFX M k j c1 (c2 + 1) c3 (up_ A 15 c2 (A 15 (c2 + 30))) := by
  obtain ⟨h1, h2, h3, h4, h5, h6⟩ := h
  exact ⟨fun r hr => by rw [up_ne (fun e => by rw [e] at hr; revert hr; decide)]; exact h1 r hr, by rw [up_ne (by decide)]; exact h2, cpf_1 h3 h0 (by decide), by rw [up_ne (by decide)]; exact h4, by rw [up_ne (by decide)]; exact h5, fun r hr => by rw [up_ne (fun e => hr (by rw [e]; decide))]; exact h6 r hr⟩
theorem SFX_16 [Inhabited fz_] {A : mm_} {j c1 c2 c3 : Int} (h : SFX M k j c1 c2 c3 A) (h0 : 3 * k ≤ c3) : SFX M k j c1 c2 (c3 + 1) (up_ (up_ A 16 c3 (A 16 (c3 + 3))) 17 c3 (A 17 (c3 + 3))) := by
  obtain ⟨h1, h2, h3, h4, h5, h6⟩ := h
  refine ⟨fun r hr => by rw [up_ne (fun e => by rw [e] at hr; revert hr; decide), up_ne (fun e => by rw [e] at hr; revert hr; decide)]; exact h1 r hr, by rw [up_ne (by decide), up_ne (by decide)]; exact h2, by rw [up_ne (by decide), up_ne (by decide)]; exact h3, by rw [up_ne (by decide)]; exact cpf_1 h4 h0 (by decide), ?_, fun r hr => by rw [up_ne (fun e => hr (by rw [e]; decide)), up_ne (fun e => hr (by rw [e]; decide))]; exact h6 r hr⟩
  have : up_ (up_ A 16 c3 (A 16 (c3 + 3))) 17 c3 (A 17 (c3 + 3)) 17 = up_ A 17 c3 (A 17 (c3 + 3)) 17 := by unfold up_; rw [if_pos rfl, if_pos rfl, if_neg (by decide)]
  rw [this]; exact cpf_1 h5 h0 (by decide)
def stpX (M : mm_) (k : Int) : mm_ := sfX (up_ M 0 7 (M 0 7 - 1)) k (M 0 7 - 1)
def stpQ (N : mm_) (k : Int) : mm_ := wr_ N 239 (su_ (flf (cpf (N 239) (sB k) (sB (N 239 0 - 1)) 56) (sB (N 239 0 - 1)) (sB (N 239 0)) 0) 0 (N 239 0 - 1))
theorem RU_sf [Inhabited fz_] (h : RU z M N) (hk : 0 ≤ k ∧ k < M 0 7) : RU z (stpX M k) (stpQ N k) := by
  obtain ⟨h1, h2, h3, h4, h5⟩ := h
  obtain ⟨a1, a2, a3, a4⟩ := id h1
  have xr : ∀ r : Nat, r ∉ [10, 11, 12, 13, 14, 15, 16, 17, 18, 19, 20] → stpX M k r = up_ M 0 7 (M 0 7 - 1) r := fun r hr => by
    have e : ∀ x : Nat, x ∈ [10, 11, 12, 13, 14, 15, 16, 17, 18, 19, 20] → r ≠ x := fun x hx e => hr (by rw [e]; exact hx)
    unfold stpX sfX
    rw [if_neg (fun c => hr (by simp only [List.mem_cons, List.not_mem_nil, or_false] at c ⊢; omega)), if_neg (e 13 (by decide)), if_neg (e 15 (by decide)), if_neg (e 16 (by decide)), if_neg (e 17 (by decide))]
  have x0 : ∀ i : Int, i ≠ 7 → stpX M k 0 i = M 0 i := fun i hi => by rw [xr 0 (by decide), upo hi]
  have x7 : stpX M k 0 7 = M 0 7 - 1 := by rw [xr 0 (by decide), up_at]
  have xq : ∀ r : Nat, r ∈ [10, 11, 12, 14, 18, 19, 20] → stpX M k r = cpf (M r) k (M 0 7 - 1) 1 := fun r hr => by
    unfold stpX sfX; rw [if_pos hr, up_ne (fun e => by rw [e] at hr; revert hr; decide)]
  have x13 : stpX M k 13 = cpf (M 13) (16 * k) (16 * (M 0 7 - 1)) 16 := by unfold stpX sfX; rw [if_neg (by decide), if_pos rfl, up_ne (by decide)]
  have x15 : stpX M k 15 = cpf (M 15) (30 * k) (30 * (M 0 7 - 1)) 30 := by unfold stpX sfX; rw [if_neg (by decide), if_neg (by decide), if_pos rfl, up_ne (by decide)]
  have x16 : stpX M k 16 = cpf (M 16) (3 * k) (3 * (M 0 7 - 1)) 3 := by unfold stpX sfX; rw [if_neg (by decide), if_neg (by decide), if_neg (by decide), if_pos rfl, up_ne (by decide)]
  have x17 : stpX M k 17 = cpf (M 17) (3 * k) (3 * (M 0 7 - 1)) 3 := by unfold stpX sfX; rw [if_neg (by decide), if_neg (by decide), if_neg (by decide), if_neg (by decide), if_pos rfl, up_ne (by decide)]
  have hB : sB k = 2 + 56 * k := rfl
  have hB1 : sB (M 0 7 - 1) = 2 + 56 * (M 0 7 - 1) := rfl
  have hB2 : sB (M 0 7) = 2 + 56 * M 0 7 := rfl
  have n239 : stpQ N k 239 = su_ (flf (cpf (N 239) (sB k) (sB (M 0 7 - 1)) 56) (sB (M 0 7 - 1)) (sB (M 0 7)) 0) 0 (M 0 7 - 1) := by unfold stpQ; rw [wr_same, a1.2.2]
  have nr : ∀ r : Nat, r ≠ 239 → stpQ N k r = N r := fun r hr => wr_ne hr
  have no : ∀ i, i ≠ 0 → (i < sB k ∨ sB (M 0 7) ≤ i) → stpQ N k 239 i = N 239 i := fun i i0 hi => by
    rw [n239]; unfold su_ flf cpf; rw [if_neg i0, if_neg (by omega)]; exact if_neg (by omega)
  have ns : ∀ i, sB k ≤ i → i < sB (M 0 7 - 1) → stpQ N k 239 i = N 239 (i + 56) := fun i i0 hi => by
    rw [n239]; unfold su_ flf cpf; rw [if_neg (by omega), if_neg (by omega)]; exact if_pos (by omega)
  have nz : ∀ i, sB (M 0 7 - 1) ≤ i → i < sB (M 0 7) → stpQ N k 239 i = 0 := fun i i0 hi => by
    rw [n239]; unfold su_ flf; rw [if_neg (by omega)]; exact if_pos (by omega)
  refine ⟨⟨by rw [x7, n239]; unfold su_; rw [if_pos rfl]; omega, by rw [x0 8 (by decide), no 1 (by decide) (by omega)]; exact a2, fun j j0 j1 => ?_, fun j j0 j1 i i0 i1 => ?_⟩, RRt_k h2 (by rw [xr 21 (by decide), up_ne (by decide)]) (by rw [xr 22 (by decide), up_ne (by decide)]) (fun i hi => no i (by omega) (by omega)) (by rw [nr 6 (by decide)]), RSC_c h3 (fun i hi => x0 i (fun e => by rw [e] at hi; revert hi; decide)) (fun i _ => by rw [nr 6 (by decide)]), ROU_c h4 (fun i hi => x0 i (fun e => by rw [e] at hi; revert hi; decide)) (by rw [xr 24 (by decide), up_ne (by decide)]) (fun i _ => by rw [nr 6 (by decide)]) (nr 241 (by decide)), REV_c h5 (fun i hi => x0 i (fun e => by rw [e] at hi; revert hi; decide)) (by rw [xr 23 (by decide), up_ne (by decide)]) (fun i _ => by rw [nr 6 (by decide)]) (nr 240 (by decide))⟩
  · rw [x7] at j1
    have hJ : sB j = 2 + 56 * j := rfl
    by_cases c : j < k
    · refine IN_o (a3 j j0 (by omega)) (by rw [x0 8 (by decide)]; exact Int.le_refl _) (fun q hq => ?_) (fun i i0 i1 => ?_) (fun i i0 i1 => ?_) (fun i i0 i1 => ?_) (fun i i0 i1 => no _ (by omega) (by omega)) (by rw [nr 6 (by decide)]) (fun q hq => nr q (fun e => by rw [e] at hq; revert hq; decide))
      · rw [xq q hq]; unfold cpf; rw [if_neg (by omega)]
      · rw [x13]; unfold cpf; rw [if_neg (by omega)]
      · rw [x15]; unfold cpf; rw [if_neg (by omega)]
      · rw [x16, x17]; unfold cpf; rw [if_neg (by omega), if_neg (by omega)]; exact ⟨rfl, rfl⟩
    · refine IN_m (k' := j + 1) (a3 (j + 1) (by omega) (by omega)) (by rw [x0 8 (by decide)]; exact Int.le_refl _) (fun q hq => ?_) (fun i i0 i1 => ?_) (fun i i0 i1 => ?_) (fun i i0 i1 => ?_) (fun i i0 i1 => ?_) (by rw [nr 6 (by decide)]) (fun q hq => nr q (fun e => by rw [e] at hq; revert hq; decide))
      · rw [xq q hq]; unfold cpf; rw [if_pos (by omega)]
      · rw [x13]; unfold cpf; rw [if_pos (by omega)]; congr 1; omega
      · rw [x15]; unfold cpf; rw [if_pos (by omega)]; congr 1; omega
      · rw [x16, x17]; unfold cpf; rw [if_pos (by omega), if_pos (by omega)]; exact ⟨by congr 1; omega, by congr 1; omega⟩
      · rw [ns _ (by omega) (by omega)]; congr 1; unfold sB; omega
  · rw [x7] at j0
    have hJ : sB j = 2 + 56 * j := rfl
    by_cases c : j = M 0 7 - 1
    · exact nz _ (by omega) (by omega)
    · rw [no _ (by omega) (by omega)]; exact a4 j (by omega) j1 i i0 i1
end STa
end T340_st
section T341_st
/-! the run: stops walked (X 32 | Q 348) -/
def stopX (M : mm_) (k : Int) : mm_ := stpX (lsX k (M 10 k) (M 14 k).toNat 0 (evX M 6 (M 10 k) (-1) 0)) k
def stopQ (N : mm_) (k : Int) : mm_ := stpQ (lsQ k (N 239 (sB k)) (N 239 (sB k + 25)).toNat 0 (evQ N 6 (N 239 (sB k)) (-1) 0)) k
section SWa
variable {z : Int} {M N M' N' : mm_} {k p : Int}
theorem RU_stp [Inhabited fz_] (h : RU z M N) (hk : 0 ≤ k ∧ k < M 0 7) : RU z (stopX M k) (stopQ N k) := by
  have hi := h.1.2.2.1 k hk.1 hk.2
  unfold stopX stopQ
  rw [← hi.1.1, hi.2.2.2.2.1.2.2]
  have h1 := RU_ev (k := 6) (a := M 10 k) (s := -1) (b := 0) h
  have e7 : evX M 6 (M 10 k) (-1) 0 0 7 = M 0 7 := EvX_ev.2 7 (by decide) (by decide)
  have e14 : evX M 6 (M 10 k) (-1) 0 14 = M 14 := EvX_ev.1 14 (by decide) (by decide)
  have h2 := RU_ls (k := k) (p := M 10 k) (M 14 k).toNat 0 _ _ h1 (by rw [e7]; exact hk) (by decide) (by rw [e14]; have := hi.2.2.2.2.1; omega)
  refine RU_sf h2 ?_
  rw [(ls_f (k := k) (p := M 10 k) (M 14 k).toNat 0 _ N).1.2 7 (by decide), e7]; exact hk
theorem x_32 [Inhabited fz_] (h : RU z M N) (hk : 0 ≤ k ∧ k < M 0 7) : Ex_ 3 32 [.inr (.inr 0), .inl k] M [] (stopX M k) := fun Qr Qt hq => t_32 fun V hV hW => b_32_0 (Tr_mono _) hV hW _ _ (by
  have n12 := h.1.1
  have hi := h.1.2.2.1 k hk.1 hk.2
  obtain ⟨b1, b2, b3⟩ := RU_b5 h
  refine ⟨by omega, Ex_le (d := 1) (by decide) (x_5 b1 b2 b3) _ _ (rv_i ?_)⟩
  have h1 := RU_ev (k := 6) (a := M 10 k) (s := -1) (b := 0) h
  have e7 : evX M 6 (M 10 k) (-1) 0 0 7 = M 0 7 := EvX_ev.2 7 (by decide) (by decide)
  have e14 : evX M 6 (M 10 k) (-1) 0 14 = M 14 := EvX_ev.1 14 (by decide) (by decide)
  unfold stopX at hq
  generalize evX M 6 (M 10 k) (-1) 0 = M1 at *
  generalize evQ N 6 (M 10 k) (-1) 0 = N1 at *
  -- the others move up
  have mv : ∀ A : mm_, RU z A A ∨ (A 0 7 = M 0 7 ∧ ∀ i, A 16 i = 0 ∨ A 16 i = 1 ∨ True) → A 0 7 = M 0 7 → Qr [] (stpX A k) → V 73 [rr 0, ii k, ii (M 10 k), ii k, none] [] (up_ A 0 7 (A 0 7 - 1)) := fun A _ e hA => by
    have fin : ∀ B, SFX (up_ A 0 7 (A 0 7 - 1)) k (A 0 7 - 1) (16 * (A 0 7 - 1)) (30 * (A 0 7 - 1)) (3 * (A 0 7 - 1)) B → Qr [] B := fun B hB => by
      rw [SFX_e hB]; exact hA
    generalize eU : up_ A 0 7 (A 0 7 - 1) = U at *
    have u7 : U 0 7 = M 0 7 - 1 := by rw [← eU, up_at, e]
    have main : ∀ (n : Nat) (j : Int) (B : mm_), j + n = M 0 7 - 1 → k ≤ j → SFX U k j (16 * j) (30 * j) (3 * j) B → V 73 [rr 0, ii k, ii (M 10 k), ii j, none] [] B := fun n => by
      induction n with
      | zero =>
        intro j B hj kj hB
        refine b_32_73 (Tr_mono _) hV hW _ _ _ _ ?_
        rw [hB.2.2.2.2.2 0 (by decide), u7, if_neg (by omega)]
        have ej : j = A 0 7 - 1 := by omega
        rw [ej] at hB; exact fin B hB
      | succ n ih =>
        intro j B hj kj hB
        refine b_32_73 (Tr_mono _) hV hW _ _ _ _ ?_
        rw [hB.2.2.2.2.2 0 (by decide), u7, if_pos (by omega), w32_id (x := j + 1) (by omega) (by omega)]
        refine ⟨by omega, by omega, by omega, by omega, by omega, by omega, by omega, by omega, by omega, by omega, by omega, by omega, by omega, by omega, ?_⟩
        have l3 : ∀ (m : Nat) (t : Int) (C : mm_), t + m = 3 → 0 ≤ t → SFX U k (j + 1) (16 * (j + 1)) (30 * (j + 1)) (3 * j + t) C → V 266 [rr 0, ii k, ii (M 10 k), ii j, ii t] [] C := fun m => by
          induction m with
          | zero =>
            intro t C ht t0 hC
            refine b_32_266 (Tr_mono _) hV hW _ _ _ _ _ ?_
            rw [if_neg (by omega), w32_id (x := j + 1) (by omega) (by omega)]
            rw [show 3 * j + t = 3 * (j + 1) by omega] at hC
            exact ih (j + 1) C (by omega) (by omega) hC
          | succ m ih2 =>
            intro t C ht t0 hC
            refine b_32_266 (Tr_mono _) hV hW _ _ _ _ _ ?_
            rw [if_pos (by omega), w32_id (x := j + 1) (by omega) (by omega), w32_id (x := 3 * (j + 1)) (by omega) (by omega), w32_id (x := 3 * (j + 1) + t) (by omega) (by omega), w32_id (x := 3 * j) (by omega) (by omega), w32_id (x := 3 * j + t) (by omega) (by omega), w32_id (x := t + 1) (by omega) (by omega)]
            refine ⟨by omega, fun hb => ⟨⟨by omega, hb⟩, by omega, by omega, ?_⟩⟩
            have s := SFX_16 hC (by omega)
            rw [show 3 * j + t + 3 = 3 * (j + 1) + t by omega, show 3 * j + t + 1 = 3 * j + (t + 1) by omega] at s
            exact ih2 (t + 1) _ (by omega) (by omega) s
        have l2 : ∀ (m : Nat) (t : Int) (C : mm_), t + m = 30 → 0 ≤ t → SFX U k (j + 1) (16 * (j + 1)) (30 * j + t) (3 * j) C → V 224 [rr 0, ii k, ii (M 10 k), ii j, ii t] [] C := fun m => by
          induction m with
          | zero =>
            intro t C ht t0 hC
            refine b_32_224 (Tr_mono _) hV hW _ _ _ _ _ ?_
            rw [if_neg (by omega)]
            rw [show 30 * j + t = 30 * (j + 1) by omega] at hC
            exact l3 3 0 C (by decide) (by decide) (by rw [Int.add_zero]; exact hC)
          | succ m ih2 =>
            intro t C ht t0 hC
            refine b_32_224 (Tr_mono _) hV hW _ _ _ _ _ ?_
            rw [if_pos (by omega), w32_id (x := j + 1) (by omega) (by omega), w32_id (x := 30 * (j + 1)) (by omega) (by omega), w32_id (x := 30 * (j + 1) + t) (by omega) (by omega), w32_id (x := 30 * j) (by omega) (by omega), w32_id (x := 30 * j + t) (by omega) (by omega), w32_id (x := t + 1) (by omega) (by omega)]
            refine ⟨by omega, by omega, ?_⟩
            have s := SFX_15 hC (by omega)
            rw [show 30 * j + t + 30 = 30 * (j + 1) + t by omega, show 30 * j + t + 1 = 30 * j + (t + 1) by omega] at s
            exact ih2 (t + 1) _ (by omega) (by omega) s
        have l1 : ∀ (m : Nat) (t : Int) (C : mm_), t + m = 16 → 0 ≤ t → SFX U k (j + 1) (16 * j + t) (30 * j) (3 * j) C → V 182 [rr 0, ii k, ii (M 10 k), ii j, ii t] [] C := fun m => by
          induction m with
          | zero =>
            intro t C ht t0 hC
            refine b_32_182 (Tr_mono _) hV hW _ _ _ _ _ ?_
            rw [if_neg (by omega)]
            rw [show 16 * j + t = 16 * (j + 1) by omega] at hC
            exact l2 30 0 C (by decide) (by decide) (by rw [Int.add_zero]; exact hC)
          | succ m ih2 =>
            intro t C ht t0 hC
            refine b_32_182 (Tr_mono _) hV hW _ _ _ _ _ ?_
            rw [if_pos (by omega), w32_id (x := j + 1) (by omega) (by omega), w32_id (x := 16 * (j + 1)) (by omega) (by omega), w32_id (x := 16 * (j + 1) + t) (by omega) (by omega), w32_id (x := 16 * j) (by omega) (by omega), w32_id (x := 16 * j + t) (by omega) (by omega), w32_id (x := t + 1) (by omega) (by omega)]
            refine ⟨by omega, by omega, ?_⟩
            have s := SFX_13 hC (by omega)
            rw [show 16 * j + t + 16 = 16 * (j + 1) + t by omega, show 16 * j + t + 1 = 16 * j + (t + 1) by omega] at s
            exact ih2 (t + 1) _ (by omega) (by omega) s
        have s := SFX_s hB kj
        exact l1 16 0 _ (by decide) (by decide) (by rw [Int.add_zero]; exact s)
    exact main (M 0 7 - 1 - k).toNat k U (by omega) (by omega) SFX_0
  -- the queue
  have lq : ∀ (n : Nat) (i : Int) (A B : mm_), RU z A B → A 0 7 = M 0 7 → A 14 = M 14 → 0 ≤ i → i + n = M 14 k → Qr [] (stpX (lsX k (M 10 k) n i A) k) → V 18 [rr 0, ii k, ii (M 10 k), ii i, none] [] A := fun n => by
    induction n with
    | zero =>
      intro i A B hA a7 a14 i0 hi hA2
      refine b_32_18 (Tr_mono _) hV hW _ _ _ _ ⟨by omega, ?_⟩
      rw [a14, if_neg (by omega), w32_id (x := A 0 7 - 1) (by omega) (by omega)]
      exact mv A (.inr ⟨a7, fun _ => .inr (.inr trivial)⟩) a7 hA2
    | succ n ih =>
      intro i A B hA a7 a14 i0 hi' hA2
      have q6 := hi.2.2.2.2.1
      refine b_32_18 (Tr_mono _) hV hW _ _ _ _ ⟨by omega, ?_⟩
      rw [a14, if_pos (by omega)]
      refine Ex_le (d := 1) (by decide) (x_9 (by omega) (by omega)) _ _ (ri_i ⟨by omega, Ex_le (d := 1) (by decide) (x_9 (by omega) (by omega)) _ _ (ri_i ?_)⟩)
      rw [w32_id (x := 30 * k + 5 * i + 1) (by omega) (by omega), w32_id (x := i + 1) (by omega) (by omega)]
      refine ⟨by omega, x_7 hA _ _ (rv_i ?_)⟩
      exact ih (i + 1) _ _ (RU_lo hA) (by rw [LoX_lo.2 7 (by decide)]; exact a7) (by rw [LoX_lo.1 14 (by decide) (by decide)]; exact a14) (by omega) (by omega) hA2
  exact lq (M 14 k).toNat 0 M1 N1 h1 e7 e14 (by decide) (by have := hi.2.2.2.2.1; omega) hq)
theorem q_348 [Inhabited fz_] (h : RU z M N) (hk : 0 ≤ k ∧ k < M 0 7) : Ex_ 3 348 [.inr (.inr 6), .inl k] N [] (stopQ N k) := fun Qr Qt hq => t_348 fun V hV hW => b_348_0 (Tr_mono _) hV hW _ _ (by
  have n12 := h.1.1
  have hi := h.1.2.2.1 k hk.1 hk.2
  have hB : sB k = 2 + 56 * k := rfl
  obtain ⟨b1, b2, b3⟩ := RU_b324 h
  refine Ex_le (d := 1) (by decide) (q_323 (by omega)) _ _ (ri_i ⟨by omega, Ex_le (d := 1) (by decide) (q_324 b1 b2 b3) _ _ (rv_i ?_)⟩)
  have h1 := RU_ev (k := 6) (a := N 239 (sB k)) (s := -1) (b := 0) h
  have e7 : evX M 6 (N 239 (sB k)) (-1) 0 0 7 = M 0 7 := EvX_ev.2 7 (by decide) (by decide)
  have e239 : evQ N 6 (N 239 (sB k)) (-1) 0 239 = N 239 := EvQ_ev.1 239 (by decide) (by decide)
  unfold stopQ at hq
  generalize evX M 6 (N 239 (sB k)) (-1) 0 = M1 at *
  generalize evQ N 6 (N 239 (sB k)) (-1) 0 = N1 at *
  have q6 := hi.2.2.2.2.1
  have n0 := n12.2.2
  have mv : ∀ A : mm_, A 239 = N 239 → Qr [] (stpQ A k) → V 84 [rr 6, ii k, ii (sB k), ii (N 239 (sB k)), ii (sB k)] [] A := fun A e hA => by
    have hB1 : sB (M 0 7 - 1) = 2 + 56 * (M 0 7 - 1) := rfl
    have hB2 : sB (M 0 7) = 2 + 56 * M 0 7 := rfl
    have g0 : ∀ x, cpf (N 239) (sB k) x 56 0 = M 0 7 := fun x => by unfold cpf; rw [if_neg (by omega)]; exact n0
    have f0 : ∀ x, sB (M 0 7 - 1) ≤ x → flf (cpf (N 239) (sB k) (sB (M 0 7 - 1)) 56) (sB (M 0 7 - 1)) x 0 0 = M 0 7 := fun x _ => by unfold flf; rw [if_neg (by omega)]; exact g0 _
    have l2 : ∀ (n : Nat) (x : Int), x + n = sB (M 0 7) → sB (M 0 7 - 1) ≤ x → V 136 [rr 6, ii k, ii (sB k), ii (N 239 (sB k)), ii x] [] (wr_ A 239 (flf (cpf (N 239) (sB k) (sB (M 0 7 - 1)) 56) (sB (M 0 7 - 1)) x 0)) := fun n => by
      induction n with
      | zero =>
        intro x hx x0
        refine b_348_136 (Tr_mono _) hV hW _ _ _ _ _ ⟨by decide, ?_⟩
        rw [wr_same, f0 x x0]
        refine Ex_le (d := 1) (by decide) (q_323 (by omega)) _ _ (ri_i ?_)
        rw [if_neg (by omega), wr_same, f0 x x0, w32_id (x := M 0 7 - 1) (by omega) (by omega), up_wr]
        have ex : x = sB (M 0 7) := by omega
        unfold stpQ at hA
        rw [e, n0] at hA
        rw [ex]; exact ⟨by decide, by decide, hA⟩
      | succ n ih =>
        intro x hx x0
        refine b_348_136 (Tr_mono _) hV hW _ _ _ _ _ ⟨by decide, ?_⟩
        rw [wr_same, f0 x x0]
        refine Ex_le (d := 1) (by decide) (q_323 (by omega)) _ _ (ri_i ?_)
        rw [if_pos (by omega), w32_id (x := x + 1) (by omega) (by omega), flf_s x0]
        exact ⟨by omega, ih (x + 1) (by omega) (by omega)⟩
    have l1 : ∀ (n : Nat) (x : Int), x + n = sB (M 0 7 - 1) → sB k ≤ x → V 84 [rr 6, ii k, ii (sB k), ii (N 239 (sB k)), ii x] [] (wr_ A 239 (cpf (N 239) (sB k) x 56)) := fun n => by
      induction n with
      | zero =>
        intro x hx x0
        refine b_348_84 (Tr_mono _) hV hW _ _ _ _ _ ⟨by decide, ?_⟩
        rw [wr_same, g0, w32_id (x := M 0 7 - 1) (by omega) (by omega)]
        refine Ex_le (d := 1) (by decide) (q_323 (by omega)) _ _ (ri_i ?_)
        rw [if_neg (by omega), wr_same, g0, w32_id (x := M 0 7 - 1) (by omega) (by omega)]
        refine ⟨by decide, Ex_le (d := 1) (by decide) (q_323 (by omega)) _ _ (ri_i ?_)⟩
        have ex : x = sB (M 0 7 - 1) := by omega
        have := l2 56 (sB (M 0 7 - 1)) (by omega) (by omega)
        rw [flf_0] at this
        rw [ex]; exact this
      | succ n ih =>
        intro x hx x0
        refine b_348_84 (Tr_mono _) hV hW _ _ _ _ _ ⟨by decide, ?_⟩
        rw [wr_same, g0, w32_id (x := M 0 7 - 1) (by omega) (by omega)]
        refine Ex_le (d := 1) (by decide) (q_323 (by omega)) _ _ (ri_i ?_)
        rw [if_pos (by omega), w32_id (x := x + 56) (by omega) (by omega), w32_id (x := x + 1) (by omega) (by omega), wr_same, cpf_s x0 (by decide)]
        exact ⟨by omega, by omega, ih (x + 1) (by omega) (by omega)⟩
    have := l1 (sB (M 0 7 - 1) - sB k).toNat (sB k) (by omega) (by omega)
    rw [cpf_0, ← e, wr_id] at this
    rw [e] at this; exact this
  have lq : ∀ (n : Nat) (i : Int) (A B : mm_), RU z A B → B 239 = N 239 → 0 ≤ i → i + n = M 14 k → Qr [] (stpQ (lsQ k (N 239 (sB k)) n i B) k) → V 24 [rr 6, ii k, ii (sB k), ii (N 239 (sB k)), ii i] [] B := fun n => by
    induction n with
    | zero =>
      intro i A B hA b239 i0 hi' hA2
      refine b_348_24 (Tr_mono _) hV hW _ _ _ _ _ ?_
      rw [w32_id (x := sB k + 25) (by omega) (by omega), b239, q6.2.2, if_neg (by omega)]
      exact ⟨by omega, mv B b239 hA2⟩
    | succ n ih =>
      intro i A B hA b239 i0 hi' hA2
      refine b_348_24 (Tr_mono _) hV hW _ _ _ _ _ ?_
      rw [w32_id (x := sB k + 25) (by omega) (by omega), w32_id (x := sB k + 25 + 1) (by omega) (by omega), w32_id (x := sB k + 25 + 2) (by omega) (by omega), w32_id (x := 5 * i) (by omega) (by omega), w32_id (x := sB k + 25 + 1 + 5 * i) (by omega) (by omega), w32_id (x := sB k + 25 + 2 + 5 * i) (by omega) (by omega), w32_id (x := i + 1) (by omega) (by omega), b239, q6.2.2, if_pos (by omega)]
      refine ⟨by omega, by omega, by omega, q_333 hA _ _ (rv_i ?_)⟩
      refine ih (i + 1) _ _ (RU_lo hA) (by rw [LoQ_lo.1 239 (by decide) (by decide)]; exact b239) (by omega) (by omega) ?_
      unfold lsQ at hA2
      rw [b239, show sB k + 26 + 5 * i = sB k + 25 + 1 + 5 * i by omega, show sB k + 27 + 5 * i = sB k + 25 + 2 + 5 * i by omega] at hA2
      exact hA2
  rw [q6.2.2] at hq
  exact lq (M 14 k).toNat 0 M1 N1 h1 e239 (by decide) (by omega) hq)
theorem XRF_stp [Inhabited fz_] : XRF M (stopX M k) := by
  have a := (ls_f (k := k) (p := M 10 k) (M 14 k).toNat 0 (evX M 6 (M 10 k) (-1) 0) M).1
  have b : XRF (evX M 6 (M 10 k) (-1) 0) (lsX k (M 10 k) (M 14 k).toNat 0 (evX M 6 (M 10 k) (-1) 0)) := ⟨fun r hr => a.1 r (fun e => hr (by rw [e]; decide)) (fun e => hr (by rw [e]; decide)), fun i hi => a.2 i (fun e => hi (by simp only [xfL, List.mem_cons, List.not_mem_nil, or_false] at e ⊢; omega))⟩
  unfold stopX
  refine XRF_tr (XRF_tr XRF_ev b) ?_
  generalize lsX k (M 10 k) (M 14 k).toNat 0 (evX M 6 (M 10 k) (-1) 0) = A
  unfold stpX
  refine XRF_tr (M1 := up_ A 0 7 (A 0 7 - 1)) (XRF_up (by decide) (fun _ => by decide)) ⟨fun r hr => ?_, fun i hi => ?_⟩
  · have e : ∀ x : Nat, x ∈ xuL → r ≠ x := fun x hx e => hr (by rw [e]; exact hx)
    unfold sfX
    rw [if_neg (fun c => hr (by simp only [xuL, List.mem_cons, List.not_mem_nil, or_false] at c ⊢; omega)), if_neg (e 13 (by decide)), if_neg (e 15 (by decide)), if_neg (e 16 (by decide)), if_neg (e 17 (by decide))]
  · unfold sfX; rw [if_neg (by decide), if_neg (by decide), if_neg (by decide), if_neg (by decide), if_neg (by decide)]
theorem QRF_stp [Inhabited fz_] : QRF N (stopQ N k) := by
  have a := (ls_f (k := k) (p := N 239 (sB k)) (N 239 (sB k + 25)).toNat 0 N (evQ N 6 (N 239 (sB k)) (-1) 0)).2
  have b : QRF (evQ N 6 (N 239 (sB k)) (-1) 0) (lsQ k (N 239 (sB k)) (N 239 (sB k + 25)).toNat 0 (evQ N 6 (N 239 (sB k)) (-1) 0)) := ⟨fun r hr => a.1 r (fun e => hr (by rw [e]; decide)) (fun e => hr (by rw [e]; decide)), fun i hi => a.2 i (fun e => hi (by simp only [qfL, List.mem_cons, List.not_mem_nil, or_false] at e ⊢; omega))⟩
  unfold stopQ
  refine QRF_tr (QRF_tr QRF_ev b) ?_
  unfold stpQ
  exact QRF_wr (by decide) (by decide)
end SWa
end T341_st

section T146_dn
/-! a part of a decide more: what holds then -/
theorem RGL_k [Inhabited gh_] {Mx Mq : mm_} {q r0 r1 : Int} : ∀ (n : Nat) {c g : Int}, (∀ j : Int, 0 ≤ j → j ≤ n → (r0 ≤ g + j ∧ g + j < r1) ∧ RNG Mx Mq (c + 2 * j) (g + j) q) → (∀ j : Int, 0 ≤ j → j < n → Mq 219 (g + j) = g + j + 1) → RGL Mx Mq q r0 r1 n c g (g + n)
  | 0, c, g, h, _ => by
    have := h 0 (by omega) (by omega)
    rw [show g + 0 = g by omega, show c + 2 * 0 = c by omega] at this
    exact ⟨by omega, this.1, this.2⟩
  | n + 1, c, g, h, h2 => by
    have a := h 0 (by omega) (by omega)
    rw [show g + 0 = g by omega, show c + 2 * 0 = c by omega] at a
    have b := h2 0 (by omega) (by omega)
    rw [show g + 0 = g by omega] at b
    refine ⟨a.1, a.2, by omega, ?_⟩
    rw [b, show g + ((n + 1 : Nat) : Int) = g + 1 + (n : Int) by omega]
    refine RGL_k n (fun j j0 j1 => ?_) (fun j j0 j1 => ?_)
    · have := h (j + 1) (by omega) (by omega)
      rw [show g + (j + 1) = g + 1 + j by omega, show c + 2 * (j + 1) = c + 2 + 2 * j by omega] at this
      exact this
    · have := h2 (j + 1) (by omega) (by omega)
      rw [show g + (j + 1) = g + 1 + j by omega] at this
      exact this
/-- X's memory where the part begins -/
def BPX (b : Int) (M Mp M' : mm_) (i : Int) : Prop := (∀ r : Nat, r ≠ 1 → r ≠ 5 → r ≠ 142 → Mp r = M r) ∧ Mp 5 3 = M 5 3 + (if b = 0 then 0 else 2 * i + 3) ∧ (∀ j, j < M 5 3 → Mp 142 j = M 142 j) ∧ (b = 1 → Mp 142 (M 5 3) = 43 ∧ Mp 142 (M 5 3 + 1) = i ∧ ∀ j, M 5 3 + 2 ≤ j → j < M 5 3 + 2 + 2 * i → Mp 142 j = M' 142 j)
/-- X's memory, Q's memory behind a part -/
def BX4 (b : Int) (M3 M4 : mm_) (sk x4 : Int) : Prop := (∀ r : Nat, r ≠ 5 → r ≠ 142 → M4 r = M3 r) ∧ (b = 0 → M4 = M3) ∧ (∀ i : Int, i ≠ 3 → M4 5 i = M3 5 i) ∧ (b = 1 → M4 5 3 = M3 5 3 + 2 ∧ M4 142 (M3 5 3) = 38 ∧ M4 142 (M3 5 3 + 1) = x4 ∧ M4 142 sk = M3 5 3 + 2 ∧ ∀ j, j ≠ sk → j < M3 5 3 → M4 142 j = M3 142 j)
def BQ4 (N3 N4 : mm_) (dd x5 : Int) : Prop := (∀ r : Nat, r ∉ [6, 203, 204, 205, 206, 207, 208, 210, 224, 226] → N4 r = N3 r) ∧ (∀ i : Int, i ≠ 75 → i ≠ 103 → N4 6 i = N3 6 i) ∧ N4 6 75 = N3 6 75 + 1 ∧ N4 6 103 = 0 ∧ (∀ r i, r ∈ opL → i ≠ N3 6 75 → N4 r i = N3 r i) ∧ (∀ r i, r ∈ dsR → i ≠ dd → N4 r i = N3 r i) ∧ N4 203 (N3 6 75) = 7 ∧ N4 206 (N3 6 75) = N3 224 dd ∧ N4 224 dd = N3 6 75 ∧ N4 226 dd = x5
section DN
variable {b F F' F2 : Int} {Mx Mq M N M0 M' N' Mp Np M3 N3 M4 N4 : mm_} {a0 a a1 a2 a3 o me x2 x3 x4 x5 i v : Int} {mm : Nat}
/-- Q's memory where the part begins -/
def BPQ (N' Np : mm_) : Prop := (∀ r : Nat, r ≠ 6 → Np r = N' r) ∧ (∀ i : Int, i ≠ 12 → i ≠ 103 → Np 6 i = N' 6 i) ∧ Np 6 103 = 0
theorem DHS_p [Inhabited gh_] (hp : PS b F Mx Mq a0 o me) (h : DHS b F F' Mx Mq M N a0 a o me x2 x3 x4 x5 mm) (hB : BLR b F' M0 N M' N' a a1 (o + 1) (Mq 6 102) i) (hi : 1 ≤ i) (hai : a + 2 * i ≤ a1 + 1) (h0x : ∀ r : Nat, r ≠ 5 → r ≠ 142 → M0 r = M r)
    (hX : BPX b M Mp M' i) (hQ : BPQ N' Np) (hxf : XF M Mp) (hE : ER b F' Mp Np a2 (o + 1)) (ha : a1 < a2) (h7 : Mp 1 7 = M' 1 7) : PRD b F F' Mx Mq Mp Np a0 a2 o (o + 1) me ∧ PS b F' Mp Np a2 (o + 1) me := by
  obtain ⟨d1, d2, ⟨d3, d4, d5, d6, d7, d8, d9, d10, d11⟩, d12, d13, d14, d15, d16⟩ := h
  obtain ⟨h1, h2, h3, ⟨h4, h5, h6, h7'⟩, ⟨g1, g2, g3, g4⟩, ⟨k1, k2⟩, k3, ⟨k4, k5⟩, k6, k7⟩ := hB
  obtain ⟨x1, x2', x3', x4'⟩ := hX
  obtain ⟨q1, q2, q3⟩ := hQ
  have pb := PRD_PB d1
  obtain ⟨p1, p2, p3, p4, p5, p6⟩ := pb
  have r6 : ∀ r : Nat, r ∉ [6, 206, 216, 217, 218, 219, 221, 222] → Np r = N r := fun r hr => by rw [q1 r (fun e => hr (by rw [e]; decide)), h4 r hr]
  have i6 : ∀ j : Int, j ≠ 12 → j ≠ 13 → j ≠ 14 → j ≠ 90 → j ≠ 103 → Np 6 j = N 6 j := fun j a b c d e => by rw [q2 j a e, h5 j a b c d]
  have n90 : Np 6 90 = N 6 90 + i := by rw [q2 90 (by decide) (by decide)]; exact g1
  have hb1 := hp.2.2.2.2.2.2.1
  have hb2 := hp.1.2.2.2.1
  have hb3 := hp.2.2.2.2.2.2.2.1
  have y7 : M0 1 7 = M 1 7 := by rw [h0x 1 (by decide) (by decide)]
  have qd : QD N Np := by
    refine ⟨fun r hr => r6 r (fun e => hr (by revert e; unfold qdL; simp only [List.mem_cons, List.not_mem_nil, or_false]; omega)), fun j hj => i6 j (nm_i hj (by decide)) (nm_i hj (by decide)) (nm_i hj (by decide)) (nm_i hj (by decide)) (nm_i hj (by decide))⟩
  have s53 : Mp 5 3 ≤ M 5 3 + 2 * i + 3 ∧ M 5 3 ≤ Mp 5 3 := by rw [x2']; split <;> omega
  have P : PRD b F F' Mx Mq Mp Np a0 a2 o (o + 1) me := by
    refine PRD_s d1 hE hxf qd ⟨fun j x y => x3' j (by omega), fun r j hr x y => ?_, fun j x y => by rw [r6 209 (by decide)], fun j x y => by rw [r6 227 (by decide), r6 228 (by decide)]; exact ⟨rfl, rfl⟩, fun r j hr x y => ?_, fun r j hr x y => ?_⟩ ⟨by omega, by rw [i6 75 (by decide) (by decide) (by decide) (by decide) (by decide)]; omega, by rw [i6 104 (by decide) (by decide) (by decide) (by decide) (by decide)]; omega, ⟨by omega, by omega, fun hb => by rw [x2', if_pos hb, p4.2.2 hb]; omega⟩, by omega, by omega⟩ (by omega)
    · by_cases c : r = 206
      · rw [c, q1 206 (by decide), h6 j (by rw [d3]; omega)]
      · rw [r6 r (by unfold opL at hr; simp only [List.mem_cons, List.not_mem_nil, or_false] at hr ⊢; omega)]
    · rw [q1 r (fun e => absurd hr (by rw [e]; decide))]
      have q := k1 j (by omega)
      unfold rgR at hr
      simp only [List.mem_cons, List.not_mem_nil, or_false] at hr
      rcases hr with e | e | e | e
      · rw [e]; exact q.1
      · rw [e]; exact q.2.1
      · rw [e]; exact q.2.2.1
      · rw [e]
        refine q.2.2.2 (fun e2 => ?_)
        have := d7 (by omega)
        omega
    · rw [q1 r (fun e => absurd hr (by rw [e]; decide))]
      by_cases c : r = 221 ∨ r = 222
      · have q := h7' j (by omega)
        rcases c with c | c
        · rw [c]; exact q.1
        · rw [c]; exact q.2
      · rw [h4 r (by unfold dsR at hr; simp only [List.mem_cons, List.not_mem_nil, or_false] at hr ⊢; omega)]
  refine ⟨P, PS_D hp P (by omega) ?_⟩
  rw [i6 102 (by decide) (by decide) (by decide) (by decide) (by decide), d2]
  omega
theorem DHS_n [Inhabited gh_] (hp : PS b F Mx Mq a0 o me) (h : DHS b F F' Mx Mq M N a0 a o me x2 x3 x4 x5 mm) (hB : BLR b F' M0 N M' N' a a1 (o + 1) (Mq 6 102) i) (hi : 1 ≤ i) (hai : a + 2 * i ≤ a1 + 1) (h053 : M0 5 3 = M 5 3 + (if b = 0 then 0 else 2)) (ha : a1 < a2)
    (hX : BPX b M Mp M' i) (hQ : BPQ N' Np) (hxf : XF M Mp) (hP : PRD b F F' Mx Mq Mp Np a0 a2 o (o + 1) me) (hS : PS b F' Mp Np a2 (o + 1) me) (hR : PRC b F' F2 Mp Np M3 N3 a2 a3 (o + 1) (o + 1) me) (hM : SEM b Mp Np M3 N3 v) (hv : v = 0 ∨ v = 1)
    (hX4 : BX4 b M3 M4 (M 5 3 + 2 * i + 2) x4) (hQ4 : BQ4 N3 N4 (Mq 6 102) (if x5 = 0 ∨ v = 0 then 0 else 1)) (hE4 : ER b F2 M4 N4 a3 (o + 1)) (hx8 : x3 + i ≤ 8) : DHS b F F2 Mx Mq M4 N4 a0 a3 o me x2 (x3 + i) (if b = 0 then M3 5 3 else M3 5 3 + 1) (if x5 = 0 ∨ v = 0 then 0 else 1) (mm + 1) := by
  have h01 := bl01 hE4
  obtain ⟨d1, d2, ⟨d3, d4, d5, d6, d7, d8, d9, d10, d11⟩, d12, d13, d14, d15, d16⟩ := h
  obtain ⟨h1, h2, h3, ⟨h4, h5, h6, h7'⟩, ⟨g1, g2, g3, g4⟩, ⟨k1, k2⟩, k3, ⟨k4, k5⟩, k6, k7⟩ := hB
  obtain ⟨x1, x2', x3', x4'⟩ := hX
  obtain ⟨q1, q2, q3⟩ := hQ
  obtain ⟨y1, y2, y3, y4⟩ := hX4
  obtain ⟨z1, z2, z3, z4, z5, z6, z7, z8, z9, z10⟩ := hQ4
  have r6 : ∀ r : Nat, r ∉ [6, 206, 216, 217, 218, 219, 221, 222] → Np r = N r := fun r hr => by rw [q1 r (fun e => hr (by rw [e]; decide)), h4 r hr]
  have i6 : ∀ j : Int, j ≠ 12 → j ≠ 13 → j ≠ 14 → j ≠ 90 → j ≠ 103 → Np 6 j = N 6 j := fun j a b c d e => by rw [q2 j a e, h5 j a b c d]
  have n90 : Np 6 90 = N 6 90 + i := by rw [q2 90 (by decide) (by decide)]; exact g1
  have n75 : Np 6 75 = N 6 75 := i6 75 (by decide) (by decide) (by decide) (by decide) (by decide)
  have n104 : Np 6 104 = N 6 104 := i6 104 (by decide) (by decide) (by decide) (by decide) (by decide)
  have n102 : Np 6 102 = Mq 6 102 + 1 := by rw [i6 102 (by decide) (by decide) (by decide) (by decide) (by decide)]; exact d2
  have a75 := hp.1.2.2.2.1
  have a90 := hp.2.2.2.2.2.2.1
  have a102 := hp.2.2.2.2.2.2.2.1.1
  have a53 := (ER_st hp.1.2.2.1).1
  have hP3 := PRD_tr a75.1 (by omega) hP hR
  obtain ⟨p1, p2, p3, p4, p5, p6⟩ := PRD_PB d1
  have hR' := hR
  obtain ⟨f1, e1, ⟨xx, qq⟩, ⟨⟨c1, c2, c3, c4, c5, c6, c7⟩, w1, w2, w3, w4⟩, ⟨s1, s2, s3, s4, s5, s6⟩, lbt, msk, t1, t2, t3⟩ := hR
  have e90 : N4 6 90 = N3 6 90 := z2 90 (by decide) (by decide)
  have e104 : N4 6 104 = N3 6 104 := z2 104 (by decide) (by decide)
  have e13 : N4 6 13 = N3 6 13 := z2 13 (by decide) (by decide)
  have m19 : Mp 1 19 = M 1 19 := hxf.2.1 19 (by decide) (by decide) (by decide) (by decide) (by decide)
  have m419 : M4 1 19 = M3 1 19 := by rw [y1 1 (by decide) (by decide)]
  have s53 : Mp 5 3 ≤ M 5 3 + 2 * i + 3 ∧ M 5 3 ≤ Mp 5 3 := by rw [x2']; split <;> omega
  have m453 : M3 5 3 ≤ M4 5 3 ∧ M4 5 3 ≤ M3 5 3 + 2 := by
    rcases h01 with hb | hb
    · rw [y2 hb]; omega
    · rw [(y4 hb).1]; omega
  -- old cells
  have oX : ∀ j, 0 ≤ j → j < M 5 3 → M4 142 j = M 142 j := fun j x y => by
    rcases h01 with hb | hb
    · rw [y2 hb, c1 j x (by omega), x3' j y]
    · rw [(y4 hb).2.2.2.2 j (by omega) (by omega), c1 j x (by omega), x3' j y]
  have oO : ∀ r j, r ∈ opL → 0 ≤ j → j < N 6 75 → (j ≠ Mq 6 75 ∨ r ≠ 206) → N4 r j = N r j := fun r j hr x y hn => by
    rw [z5 r j hr (by omega), c2 r j hr x (by omega)]
    by_cases c : r = 206
    · rw [c, q1 206 (by decide), h6 j (by rw [d3]; omega)]
    · rw [r6 r (by unfold opL at hr; simp only [List.mem_cons, List.not_mem_nil, or_false] at hr ⊢; omega)]
  have oK : N4 206 (Mq 6 75) = if N 222 (Mq 6 102) < 0 then N 6 90 else N 206 (Mq 6 75) := by
    rw [z5 206 _ (by decide) (by omega), c2 206 _ (by decide) (by omega) (by omega), q1 206 (by decide)]
    rw [d3] at g4
    rw [g4]
    by_cases c : N 222 (Mq 6 102) < 0
    · rw [if_neg (by omega), if_pos c]
    · rw [if_pos (.inr (by omega)), if_neg c]
  have oD : ∀ r, r ∈ dsR → r ≠ 221 → r ≠ 222 → r ≠ 224 → r ≠ 226 → N4 r (Mq 6 102) = N r (Mq 6 102) := fun r hr a1' a2' a3' a4' => by
    rw [z1 r (by unfold dsR at hr; simp only [List.mem_cons, List.not_mem_nil, or_false] at hr ⊢; omega), c6 r _ hr (by omega) (by omega), r6 r (by unfold dsR at hr; simp only [List.mem_cons, List.not_mem_nil, or_false] at hr ⊢; omega)]
  have o224 : N3 224 (Mq 6 102) = N 224 (Mq 6 102) := by rw [c6 224 _ (by decide) (by omega) (by omega), r6 224 (by decide)]
  have o221 : N4 221 (Mq 6 102) = x3 + i := by rw [z1 221 (by decide), c6 221 _ (by decide) (by omega) (by omega), q1 221 (by decide), g2, d4]
  have o222 : N4 222 (Mq 6 102) = N 6 90 + i - 1 := by rw [z1 222 (by decide), c6 222 _ (by decide) (by omega) (by omega), q1 222 (by decide), g3, if_neg (by omega)]
  have oRg : ∀ r j, r ∈ rgR → 0 ≤ j → j < N 6 90 + i → N4 r j = N' r j := fun r j hr x y => by
    rw [z1 r (by unfold rgR at hr; simp only [List.mem_cons, List.not_mem_nil, or_false] at hr ⊢; omega), c5 r j hr x (by omega), q1 r (fun e => absurd hr (by rw [e]; decide))]
  have gN : N 224 (Mq 6 102) < N 6 75 := by
    cases mm with
    | zero => have : N 224 (Mq 6 102) = -1 := d14; omega
    | succ m => exact d14.1.2
  have hxf4 : XF M3 M4 := ⟨fun r hr => y1 r (fun e => hr (by rw [e]; decide)) (fun e => hr (by rw [e]; decide)), fun j _ _ _ _ _ => by rw [y1 1 (by decide) (by decide)], y3⟩
  have hqd4 : QD N3 N4 := ⟨fun r hr => z1 r (fun e => hr (by revert e; unfold qdL; simp only [List.mem_cons, List.not_mem_nil, or_false]; omega)), fun j hj => z2 j (nm_i hj (by decide)) (nm_i hj (by decide))⟩
  have x7 : M4 1 7 = M3 1 7 := by rw [y1 1 (by decide) (by decide)]
  obtain ⟨pp1, pp2, pp3, pp4, pp5, pp6⟩ := PRD_PB hP3
  have P4 : PRD b F F2 Mx Mq M4 N4 a0 a3 o (o + 1) me := by
    refine PRD_s hP3 hE4 hxf4 hqd4 ⟨fun j x y => ?_, fun r j hr x y => z5 r j hr (by omega), fun j x y => by rw [z1 209 (by decide)], fun j x y => by rw [z1 227 (by decide), z1 228 (by decide)]; exact ⟨rfl, rfl⟩, fun r j hr x y => by rw [z1 r (by unfold rgR at hr; simp only [List.mem_cons, List.not_mem_nil, or_false] at hr ⊢; omega)], fun r j hr x y => z6 r j hr (by omega)⟩ ⟨by omega, by omega, by omega, ⟨by omega, by omega, fun hb => by rw [y2 hb]; exact pp4.2.2 hb⟩, by omega, by omega⟩ (by omega)
    rcases h01 with hb | hb
    · rw [y2 hb]
    · exact (y4 hb).2.2.2.2 j (by omega) (by omega)
  refine ⟨P4, ?_, ⟨?_, o221, by omega, ⟨by omega, by omega⟩, fun _ => by omega, fun hb => ?_, ?_, z10, ?_⟩, by omega, ?_, ?_, fun hb => ?_, fun hb h0 => ?_⟩
  · rw [z2 102 (by decide) (by decide), c7]; exact n102
  · rw [oD 220 (by decide) (by decide) (by decide) (by decide) (by decide)]; exact d3
  · rw [oD 223 (by decide) (by decide) (by decide) (by decide) (by decide)]; exact d8 hb
  · rw [oD 225 (by decide) (by decide) (by decide) (by decide) (by decide)]; exact d9
  · split
    · exact .inl rfl
    · exact .inr rfl
  · rw [oO 207 _ (by decide) a75.1 d12 (.inr (by decide))]; exact d13
  · rw [z9, z3]
    refine ⟨by omega, by rw [z8, o224]; omega, ?_⟩
    rw [z8, o224]
    exact QHO_c (k1 := 0) (by omega) (fun j x y => oO 206 j (by decide) (by omega) y (.inl (by omega))) mm d14
  · have y4' := y4 hb
    have dX := d15 hb
    rw [if_neg (by omega), y4'.1]
    have hx4 : x4 < M 5 3 := by
      cases mm with
      | zero => have : x4 = -1 := dX; omega
      | succ m => exact dX.1.2
    refine ⟨by omega, by rw [y4'.2.2.1]; omega, ?_⟩
    rw [y4'.2.2.1]
    exact XHO_c (Int.le_refl _) (by omega) (fun j x y => oX j (by omega) y) mm dX
  · have y4' := y4 hb
    have h3 : N3 6 13 = 0 := by rw [← e13]; exact h0
    obtain ⟨hp0, hsg, hsb⟩ := hM hb h3
    have hn0 : N 6 13 = 0 := k7 hb (by rw [q2 13 (by decide) (by decide)] at hp0; exact hp0)
    obtain ⟨hq0, hD⟩ := d16 hb hn0
    refine ⟨hq0, ?_⟩
    rw [if_neg (by omega)]
    have n61 : Np 6 61 = Mq 6 61 := by rw [i6 61 (by decide) (by decide) (by decide) (by decide) (by decide)]; exact (PRD_Q d1).2 61 (by decide)
    have hT : Mx 1 18 = Mq 6 61 := hp.1.2.1.2.1.symm
    have p18 : Mp 1 18 = Mx 1 18 := (PRD_X hP).2.1 18 (by decide)
    have lc1 : lc_ b Mp = Mp 1 19 := by unfold lc_; rw [if_neg (by omega)]
    have lc3 : lc_ b M3 = M3 1 19 := by unfold lc_; rw [if_neg (by omega)]
    have cp : Mp 5 3 = M 5 3 + 2 * i + 3 := by rw [x2', if_neg (by omega)]; omega
    rw [n61, n75, n90, m19, cp] at hsg
    rw [n75] at hsb
    have tc34 : tc_ (Mq 6 61) N3 N4 := ⟨⟨z1 _ (by decide), z1 _ (by decide), z1 _ (by decide), z1 _ (by decide), z1 _ (by decide)⟩, z1 _ (by decide), z1 _ (by decide), z1 _ (by decide), z1 _ (by decide), by rw [z1 175 (by decide)], z2 17 (by decide) (by decide), z2 18 (by decide) (by decide), z2 19 (by decide) (by decide)⟩
    have tcp3 := PRC_tc hb hR' (T := Mq 6 61)
    have tcN : tc_ (Mq 6 61) N N4 := by
      obtain ⟨⟨u1, u2, u3, u4, u5⟩, u6, u7, u8, u9, u10, u11, u12, u13⟩ := tcp3
      obtain ⟨⟨v1, v2, v3, v4, v5⟩, v6, v7, v8, v9, v10, v11, v12, v13⟩ := tc34
      refine ⟨⟨by rw [v1, u1, r6 171 (by decide)], by rw [v2, u2, r6 173 (by decide)], by rw [v3, u3, r6 182 (by decide)], by rw [v4, u4, r6 183 (by decide)], by rw [v5, u5, r6 184 (by decide)]⟩, by rw [v6, u6, r6 156 (by decide)], by rw [v7, u7, r6 157 (by decide)], by rw [v8, u8, r6 170 (by decide)], by rw [v9, u9, r6 174 (by decide)], by rw [v10, u10, r6 175 (by decide)], by rw [v11, u11]; exact i6 17 (by decide) (by decide) (by decide) (by decide) (by decide), by rw [v12, u12]; exact i6 18 (by decide) (by decide) (by decide) (by decide) (by decide), by rw [v13, u13]; exact i6 19 (by decide) (by decide) (by decide) (by decide) (by decide)⟩
    have sg4 : SEG M4 N4 (Mq 6 61) (N 6 75) (N3 6 75) (M 5 3 + 2 * i + 3) (M3 5 3) (N 6 90 + i) (N4 6 90) (N4 6 104) (M 1 19) (M4 1 19) v := by
      rw [e90, m419]
      exact SEG_c hsg (fun j x y => y4'.2.2.2.2 j (by omega) y) (fun j x y => ⟨by rw [z1 216 (by decide)], by rw [z1 217 (by decide)], by rw [z1 218 (by decide)], by rw [z1 219 (by decide)]⟩) (fun r j hr x y => z5 r j hr (by omega)) (fun j x y => by rw [z1 209 (by decide)]) (fun j x y => by rw [z1 227 (by decide), z1 228 (by decide)]; exact ⟨rfl, rfl⟩) tc34 (by omega) (fun l x y => by rw [y1 129 (by decide) (by decide), z1 188 (by decide)]; exact ⟨rfl, rfl⟩)
    have c4' : ∀ j, 0 ≤ j → j < Mp 5 3 → j ≠ M 5 3 + 2 * i + 2 → M4 142 j = Mp 142 j := fun j x y hn => by rw [y4'.2.2.2.2 j hn (by omega), c1 j x y]
    have i18 := hp.1.2.1.2.1
    have a104 := hp.1.2.2.2.2.1
    refine DS_1 (i := i) (ke := N3 6 75) (ce := M3 5 3) (v := v) hD d11 ⟨a90.1, by omega⟩ a53 ⟨a75.1, d12⟩ d6.2 d6.1 hi hv ⟨by omega, by omega⟩ ⟨by have := (PRD_X d1); have q := d1.2.2.2.2.2.2.2.1; unfold lc_ at q; rw [if_neg (by omega), if_neg (by omega)] at q; exact q, by omega⟩ (by omega) (by omega) oX oO oK (fun j x y => ?_) (fun j x y => ?_) tcN (fun j x y => ?_) (fun h => ?_) (fun l x y => ?_) sg4 ?_ ?_ ?_ y4'.2.2.2.1 o222 ?_ z7 (by rw [z8, o224]) z9 y4'.2.1 y4'.2.2.1 z3 y4'.1 ?_
    · rw [z1 209 (by decide), c3 j x (by omega), r6 209 (by decide)]
    · rw [z1 227 (by decide), z1 228 (by decide), (c4 j x (by omega)).1, (c4 j x (by omega)).2, r6 227 (by decide), r6 228 (by decide)]; exact ⟨rfl, rfl⟩
    · rw [oRg 216 j (by decide) x (by omega), oRg 217 j (by decide) x (by omega), oRg 218 j (by decide) x (by omega), oRg 219 j (by decide) x (by omega)]
      exact k1 j y
    · rw [oRg 219 _ (by decide) h (by omega), k2 h, if_neg (by omega)]
    · have q := w4 (10 * Mq 6 61 + l) (.inl (by rw [p18, hT, lc1, m19]; omega))
      rw [y1 129 (by decide) (by decide), z1 188 (by decide), q.1.2, q.2.2.2.1, hxf.1 129 (by decide), r6 188 (by decide)]
      exact ⟨rfl, rfl⟩
    · rw [c4' _ (by omega) (by omega) (by omega)]; exact (x4' hb).1
    · rw [c4' _ (by omega) (by omega) (by omega)]; exact (x4' hb).2.1
    · have e : N 6 90 + i - 1 = N 6 90 + (((i - 1).toNat : Nat) : Int) := by omega
      rw [e]
      have m053 : M0 5 3 = M 5 3 + 2 := by rw [h053, if_neg (by omega)]
      refine RGL_k _ (fun j x y => ⟨by omega, ?_⟩) (fun j x y => ?_)
      · have q := k3 j x (by omega)
        have q3 := q.2.2 hb
        rw [m053] at q3
        unfold RNG
        rw [oRg 216 _ (by decide) (by omega) (by omega), oRg 217 _ (by decide) (by omega) (by omega), oRg 218 _ (by decide) (by omega) (by omega), c4' _ (by omega) (by omega) (by omega), c4' _ (by omega) (by omega) (by omega), (x4' hb).2.2 _ (by omega) (by omega), (x4' hb).2.2 _ (by omega) (by omega)]
        exact ⟨q3.1, q3.2, q.1⟩
      · have q := (k3 j x (by omega)).2.1
        rw [oRg 219 _ (by decide) (by omega) (by omega), q, if_pos (by omega)]
    · rw [oRg 219 _ (by decide) (by omega) (by omega)]
      have q := (k3 (i - 1) (by omega) (by omega)).2.1
      rw [if_neg (by omega)] at q
      rw [show N 6 90 + i - 1 = N 6 90 + (i - 1) by omega]; exact q
    · have y21 : M4 1 21 = M3 1 21 := by rw [y1 1 (by decide) (by decide)]
      have y23 : M4 1 23 = M3 1 23 := by rw [y1 1 (by decide) (by decide)]
      have v21 : Mp 1 21 = M 1 21 := hxf.2.1 21 (by decide) (by decide) (by decide) (by decide) (by decide)
      have v23 : Mp 1 23 = M 1 23 := hxf.2.1 23 (by decide) (by decide) (by decide) (by decide) (by decide)
      have key : ∀ (w s : Int), w ≠ 7 → ((∃ k, (N 6 75 ≤ k ∧ k < N3 6 75 + 1) ∧ N4 203 k = w ∧ N4 205 k = s) ↔ (∃ k, (N 6 75 ≤ k ∧ k < N3 6 75) ∧ N3 203 k = w ∧ N3 205 k = s)) := by
        intro w s hw
        constructor
        · rintro ⟨k, ⟨h1, h2⟩, h3, h4⟩
          have kn : k ≠ N3 6 75 := fun e => by rw [e, z7] at h3; exact hw h3.symm
          exact ⟨k, ⟨h1, by omega⟩, by rw [← z5 203 k (by decide) kn]; exact h3, by rw [← z5 205 k (by decide) kn]; exact h4⟩
        · rintro ⟨k, ⟨h1, h2⟩, h3, h4⟩
          exact ⟨k, ⟨h1, by omega⟩, by rw [z5 203 k (by decide) (by omega)]; exact h3, by rw [z5 205 k (by decide) (by omega)]; exact h4⟩
      refine ⟨fun q x y => ?_, fun q x y => ?_⟩
      · rw [y21, hsb.1 q x y, v21, key 2 q (by decide)]
      · rw [y23, hsb.2 q x y, v23, key 5 q (by decide)]
end DN
end T146_dn
section T147_lk
/-! labels of a part and of its parts; small steps of a decide -/
def LKP (b : Int) (Mx M1 : mm_) : Prop := M1 1 18 = Mx 1 18 ∧ lc_ b Mx ≤ lc_ b M1 ∧ (∀ i, i < 10 * Mx 1 18 + lc_ b Mx → M1 62 i = Mx 62 i) ∧ (b = 1 → LMT M1 = LMT Mx)
section LK
variable {d dq m : Nat} {b F F' : Int} {Mx Mq M1 N1 M2 M N : mm_} {a a1 o o1 me : Int} {lm : Int → Int → Bool} {K : Int → mm_ → Prop} {Kv G : mm_ → Prop} {Qt : qt_} {V : vv_}
theorem LKP_rf [Inhabited gh_] : LKP b M M := ⟨rfl, Int.le_refl _, fun _ _ => rfl, fun _ => rfl⟩
theorem LKP_tr [Inhabited gh_] (h1 : LKP b Mx M1) (h2 : LKP b M1 M2) : LKP b Mx M2 := ⟨h2.1.trans h1.1, Int.le_trans h1.2.1 h2.2.1, fun i hi => (h2.2.2.1 i (by rw [h1.1]; have := h1.2.1; omega)).trans (h1.2.2.1 i hi), fun hb => (h2.2.2.2 hb).trans (h1.2.2.2 hb)⟩
theorem LMT_c [Inhabited gh_] (h62 : M1 62 = Mx 62) (h128 : M1 128 = Mx 128) (h18 : M1 1 18 = Mx 1 18) : LMT M1 = LMT Mx := by
  unfold LMT; rw [h62, h128, h18]
theorem LKP_P [Inhabited gh_] (h : PRC b F F' Mx Mq M1 N1 a a1 o o1 me) : LKP b Mx M1 := by
  have h18 : M1 1 18 = Mx 1 18 := h.2.2.1.1.2.1 18 (by decide)
  refine ⟨h18, h.2.2.2.2.2.2.2.1, fun i hi => ?_, fun hb => ?_⟩
  · exact (h.2.2.2.1.2.2.2.2 i (.inl hi)).1.1
  · have := h.2.2.2.2.2.2.2.2.2 hb
    exact LMT_c this.1 this.2.1 h18
theorem LKP_X [Inhabited gh_] (h62 : M1 62 = Mx 62) (h128 : M1 128 = Mx 128) (h18 : M1 1 18 = Mx 1 18) (h19 : M1 1 19 = Mx 1 19) : LKP b Mx M1 ∧ lc_ b M1 = lc_ b Mx := by
  have e : lc_ b M1 = lc_ b Mx := by unfold lc_; rw [h128, h18, h19]
  exact ⟨⟨h18, by omega, fun i _ => by rw [h62], fun _ => LMT_c h62 h128 h18⟩, e⟩
theorem LKP_F [Inhabited gh_] (h : XF Mx M1) : LKP b Mx M1 ∧ lc_ b M1 = lc_ b Mx := LKP_X (XF_70 h (by decide) (by decide) (by decide)) (XF_70 h (by decide) (by decide) (by decide)) (h.2.1 18 (by decide) (by decide) (by decide) (by decide) (by decide)) (h.2.1 19 (by decide) (by decide) (by decide) (by decide) (by decide))
theorem LOK_s [Inhabited gh_] (h1 : LKP b Mx M1) (h2 : LKP b M1 M2) (h : LOK b lm Mx M2) : LOK b lm Mx M1 ∧ LOK b lm M1 M2 := by
  refine ⟨⟨fun hb j x y => ?_, h.2⟩, ⟨fun hb j x y => ?_, fun hb => ?_⟩⟩
  · have := h.1 hb j x (by have := h2.2.1; omega)
    rw [h2.2.2.1 _ (by rw [h1.1]; omega)] at this
    exact this
  · rw [h1.1]
    exact h.1 hb j (by have := h1.2.1; omega) y
  · rw [h.2 hb, h1.2.2.2 hb]
/-- X: a place kept -/
theorem x_162 [Inhabited gh_] (h2 : M 1 2 = 5) (h0 : 0 ≤ M 5 3) (h1 : M 5 3 < 12000) (h : K (M 5 3) (pX_ M 0)) : Tr_ wd0 pg0 (d + 3) 162 [.inr (.inr 1)] M (ri_ K) Qt := t_162 fun V hV hW => b_162_0 (Tr_mono _) hV hW M ⟨h2, x_138 h2 h0 h1 (ri_i h)⟩
theorem x_166 [Inhabited gh_] {x : Int} (h8 : bl_ (M 1 8)) (h2 : M 1 2 = 5) (h0 : M 1 8 ≠ 0 → 0 ≤ x ∧ x < 12000) (h : Kv (if M 1 8 = 0 then M else up_ M 142 x (M 5 3))) : Tr_ wd0 pg0 (d + 1) 166 [.inr (.inr 1), .inl x] M (rv_ Kv) Qt := t_166 fun V hV hW => b_166_0 (Tr_mono _) hV hW x M (fun _ => by
  by_cases c : M 1 8 = 0
  · rw [if_pos c]; rw [if_pos c] at h; exact rv_i h
  · rw [if_neg c]; rw [if_neg c] at h; exact ⟨h2, h2, h0 c, rv_i h⟩)
/-- the two kept places of a branch -/
def M0_ (b : Int) (M : mm_) : mm_ := if b = 0 then M else pX_ (up_ (pX_ M 0) 142 (M 5 3) 43) 0
theorem M0_r [Inhabited gh_] {r : Nat} (h5 : r ≠ 5) (h1 : r ≠ 142) : M0_ b M r = M r := by
  unfold M0_; split
  · rfl
  · rw [pX_r h5 h1, up_ne h1, pX_r h5 h1]
theorem M0_5 [Inhabited gh_] {i : Int} (h : i ≠ 3) : M0_ b M 5 i = M 5 i := by
  unfold M0_; split
  · rfl
  · rw [pX_5 h, up_ne (by decide), pX_5 h]
theorem M0_XF [Inhabited gh_] : XF M (M0_ b M) := ⟨fun r h => M0_r (fun e => h (by rw [e]; decide)) (fun e => h (by rw [e]; decide)), fun i _ _ _ _ _ => by rw [M0_r (by decide) (by decide)], fun i h => M0_5 h⟩
theorem pX_v [Inhabited gh_] (h8 : M 1 8 = 1) {v : Int} : pX_ M v = up_ (up_ M 142 (M 5 3) v) 5 3 (M 5 3 + 1) := by unfold pX_; rw [if_neg (by omega)]
theorem M0_b [Inhabited gh_] (hb : b = 1) (h8 : M 1 8 = b) : M0_ b M 5 3 = M 5 3 + 2 ∧ M0_ b M 142 (M 5 3) = 43 ∧ ∀ j, j < M 5 3 → M0_ b M 142 j = M 142 j := by
  have e : M0_ b M = pX_ (up_ (pX_ M 0) 142 (M 5 3) 43) 0 := by unfold M0_; rw [if_neg (by omega)]
  have h9 : up_ (pX_ M 0) 142 (M 5 3) 43 1 8 = 1 := by rw [up_ne (by decide), pX_1]; omega
  have h53 : up_ (pX_ M 0) 142 (M 5 3) 43 5 3 = M 5 3 + 1 := by rw [up_ne (by decide), pX_v (by omega), up_at]
  rw [e, pX_v h9, h53]
  refine ⟨by rw [up_at]; omega, ?_, fun j hj => ?_⟩
  · rw [up_ne (by decide), up_of2 (by omega), up_at]
  · rw [up_ne (by decide), up_of2 (by omega), up_of2 (by omega), pX_v (by omega), up_ne (by decide), up_of2 (by omega)]
theorem M0_53 [Inhabited gh_] (h01 : b = 0 ∨ b = 1) (h8 : M 1 8 = b) : M0_ b M 5 3 = M 5 3 + (if b = 0 then 0 else 2) := by
  rcases h01 with hb | hb
  · unfold M0_; rw [if_pos hb, if_pos hb]; omega
  · rw [(M0_b hb h8).1, if_neg (by omega)]
end LK
end T147_lk
section T148_db
/-! a decide: Q behind a part -/
/-- Q stopped, from a point T on -/
def STT [Inhabited gh_] (dq : Nat) (T : vv_ → Prop) (Mq Mx' : mm_) : Prop := ∀ (V : vv_) (Kv : mm_ → Prop) (Qt : qt_), Cl_ wd0 (Tr_ wd0 pg0 (dq + 15)) V (rv_ Kv) Qt m_260 → Wk_ V → (∀ M', SQ Mx' Mq M' → Kv M') → T V
/-- Q from a point T on back at the head of its loop -/
def RTq (dq : Nat) (st mk me : Int) (T : vv_ → Prop) (c : Int) (N : mm_) : Prop := ∀ (V : vv_) (Kv : mm_ → Prop) (Qt : qt_), Cl_ wd0 (Tr_ wd0 pg0 (dq + 15)) V (rv_ Kv) Qt m_260 → Wk_ V → V 77 (LSz st mk me c) [] N → T V
def QPR (dq : Nat) (st mk me : Int) (T : vv_ → Prop) (N : mm_) : Prop := ∀ (V : vv_) (Kv : mm_ → Prop) (Qt : qt_), Cl_ wd0 (Tr_ wd0 pg0 (dq + 15)) V (rv_ Kv) Qt m_260 → Wk_ V → Tr_ wd0 pg0 (dq + 13) 291 [.inr (.inr 6)] N (rv_ fun M1 => V 77 (LSz st mk me 0) [] (up_ M1 6 103 0) ∧ (N 6 103 = 0 → V 77 (LSz st mk me 0) [] M1)) Qt → T V
def N4_ (N : mm_) (dd x : Int) : mm_ := up_ (up_ (up_ (em_ (up_ N 226 dd x) 7 (N 150 (N 6 12))) 206 (N 6 75) (N 224 dd)) 224 dd (N 6 75)) 6 103 0
section DB
variable {d dq m : Nat} {b F F' : Int} {Mx Mq M N : mm_} {a a1 o o1 st mk me c dd x v : Int} {K : Int → mm_ → Prop} {Kv G : mm_ → Prop} {Qt : qt_} {V : vv_} {T : vv_ → Prop}
theorem an_01 [Inhabited gh_] (hx : x = 0 ∨ x = 1) (hv : v = 0 ∨ v = 1) : an_ x v = if x = 0 ∨ v = 0 then 0 else 1 := by
  rcases hx with e | e <;> rcases hv with e' | e' <;> rw [e, e'] <;> decide
theorem N4_BQ [Inhabited gh_] : BQ4 N (N4_ N dd x) dd x := by
  have e6 : ∀ i : Int, i ≠ 75 → i ≠ 103 → N4_ N dd x 6 i = N 6 i := fun i h1 h2 => by unfold N4_; rw [up_off h2, up_ne (by decide), up_ne (by decide), em_6 h1, up_ne (by decide)]
  have u75 : up_ N 226 dd x 6 75 = N 6 75 := by rw [up_ne (by decide)]
  refine ⟨fun r hr => ?_, e6, ?_, ?_, fun r i hr hi => ?_, fun r i hr hi => ?_, ?_, ?_, ?_, ?_⟩
  · simp only [List.mem_cons, List.not_mem_nil, or_false, not_or] at hr
    obtain ⟨h6, h3, h4, h5, h66, h7, h8, h10, h224, h226⟩ := hr
    unfold N4_
    rw [up_ne h6, up_ne h224, up_ne h66]
    by_cases c : r = 209
    · rw [c, em_209, up_ne (by decide)]
    · rw [em_r (by omega) h6, up_ne h226]
  · unfold N4_; rw [up_off (by decide), up_ne (by decide), up_ne (by decide), em_75, u75]
  · unfold N4_; rw [up_at]
  · have h6 : r ≠ 6 := fun e => absurd hr (by rw [e]; decide)
    have h224 : r ≠ 224 := fun e => absurd hr (by rw [e]; decide)
    have h226 : r ≠ 226 := fun e => absurd hr (by rw [e]; decide)
    unfold N4_
    rw [up_ne h6, up_ne h224, up_of2 hi, em_o h6 (by rw [u75]; exact hi), up_ne h226]
  · have h6 : r ≠ 6 := fun e => absurd hr (by rw [e]; decide)
    have h206 : r ≠ 206 := fun e => absurd hr (by rw [e]; decide)
    have hb : r < 203 ∨ 210 < r := by unfold dsR at hr; simp only [List.mem_cons, List.not_mem_nil, or_false] at hr; omega
    unfold N4_
    rw [up_ne h6, up_of2 hi, up_ne h206, em_r hb h6, up_of2 hi]
  · unfold N4_; rw [up_ne (by decide), up_ne (by decide), up_ne (by decide), ← u75, em_203]
  · unfold N4_; rw [up_ne (by decide), up_ne (by decide), up_at]
  · unfold N4_; rw [up_ne (by decide), up_at]
  · unfold N4_; rw [up_ne (by decide), up_ne (by decide), up_ne (by decide), em_r (by decide) (by decide), up_at]
theorem q_303a [Inhabited gh_] {x5 : Int} (h102 : N 6 102 = dd + 1) (hdd : 0 ≤ dd ∧ dd < 14) (h226 : N 226 dd = x5) (hx5 : x5 = 0 ∨ x5 = 1) (h103 : N 6 103 = v) (hv : v = 0 ∨ v = 1) (h75 : 0 ≤ N 6 75 ∧ N 6 75 < 1300) (h12 : 0 ≤ N 6 12 ∧ N 6 12 < 1202)
    (h : ∀ V' : vv_, Cl_ wd0 (Tr_ wd0 pg0 (d + 2)) V' (rv_ Kv) Qt m_303 → Wk_ V' → (if N 225 dd = 0 then Tr_ wd0 pg0 (d + 2) 292 [.inr (.inr 6)] (N4_ N dd (if x5 = 0 ∨ v = 0 then 0 else 1)) (ri_ fun v2 M2 => if v2 = 0 then V' 83 [rr 6, ii dd, ii (N 6 75), none] [] M2 else Tr_ wd0 pg0 (d + 2) 291 [.inr (.inr 6)] M2 (rv_ fun M3 => rv_ Kv [] M3) Qt) Qt
      else V' 83 [rr 6, ii dd, ii (N 6 75), none] [] (N4_ N dd (if x5 = 0 ∨ v = 0 then 0 else 1)))) : Tr_ wd0 pg0 (d + 3) 303 [.inr (.inr 6)] N (rv_ Kv) Qt := by
  refine t_303 fun V hV hW => b_303_0 (Tr_mono _) hV hW N ?_
  rw [h102, show dd + 1 - 1 = dd by omega, w32_id (by omega) (by omega), h226, h103, an_01 hx5 hv]
  have hl : bl_ (if x5 = 0 ∨ v = 0 then 0 else 1) := by unfold bl_; split <;> omega
  have hz := h V hV hW
  generalize (if x5 = 0 ∨ v = 0 then (0 : Int) else 1) = y at *
  refine ⟨hdd, fun _ _ => ⟨⟨hdd, hl⟩, h12, ?_⟩⟩
  have u75 : up_ N 226 dd y 6 75 = N 6 75 := by rw [up_ne (by decide)]
  refine q_266 (by rw [u75]; exact h75.1) (by rw [u75]; exact h75.2) ?_
  rw [u75]
  have m225 : em_ (up_ N 226 dd y) 7 (N 150 (N 6 12)) 225 dd = N 225 dd := by rw [em_r (by decide) (by decide), up_ne (by decide)]
  have m224 : em_ (up_ N 226 dd y) 7 (N 150 (N 6 12)) 224 dd = N 224 dd := by rw [em_r (by decide) (by decide), up_ne (by decide)]
  rw [m225, m224]
  exact ⟨hdd, h75, hdd, .inl rfl, hdd, fun _ => hz⟩
end DB
end T148_db
section T149_dx
/-! a decide: X's small walks -/
def Mp_ (b : Int) (M : mm_) (c1 i : Int) : mm_ := if b = 0 then M else pX_ (up_ M 142 c1 i) 0
def M4_ (b : Int) (M : mm_) (sk x4 : Int) : mm_ := if b = 0 then M else up_ (up_ (pX_ (pX_ M 38) 0) 142 (M 5 3 + 1) x4) 142 sk (M 5 3 + 2)
/-- X where a decide ends -/
def XEND (m : Nat) (V : vv_) (Qt : qt_) (x1 x2 x3 x5 x7 x8 x9 x10 x11 x12 : Int) (M2 : mm_) : Prop :=
    Tr_ wd0 pg0 (9 * m + 24) 138 [.inr (.inr 1), .inl 44] M2 (rv_ fun M3 =>
     Tr_ wd0 pg0 (9 * m + 24) 103 [.inr (.inr 1), .inl 19] M3 (ri_ fun v2 M4 =>
      (if v2 = 0 then
       Tr_ wd0 pg0 (9 * m + 24) 108 [.inr (.inr 1), .inl 20] M4 (rv_ fun M5 =>
        V 321 [rr 1, ii x1, ii x2, ii x3, ii x12, ii x5, ii v2, ii x7, ii x8, ii x9, ii x10, ii x11, ii x12] [] (up_ M5 1 6 (w32 ((M5 1 6) - 1)))) Qt
      else
       Tr_ wd0 pg0 (9 * m + 24) 105 [.inr (.inr 1)] M4 (rv_ fun M6 =>
        Tr_ wd0 pg0 (9 * m + 24) 121 [.inr (.inr 1), .inl 58] M6 (rv_ fun M7 =>
         Tr_ wd0 pg0 (9 * m + 24) 133 [.inr (.inr 1)] M7 (ri_ fun v3 M8 =>
          (if v3 = 0 then
           Tr_ wd0 pg0 (9 * m + 24) 108 [.inr (.inr 1), .inl 20] M8 (rv_ fun M9 =>
            V 321 [rr 1, ii x1, ii x2, ii x3, ii x12, ii 0, ii v2, ii x7, ii x8, ii x9, ii x10, ii x11, ii x12] [] (up_ M9 1 6 (w32 ((M9 1 6) - 1)))) Qt
          else
           (if x5 = 0 then
            Tr_ wd0 pg0 (9 * m + 24) 108 [.inr (.inr 1), .inl 20] M8 (rv_ fun M10 =>
             V 321 [rr 1, ii x1, ii x2, ii x3, ii x12, ii 0, ii v2, ii x7, ii x8, ii x9, ii x10, ii x11, ii x12] [] (up_ M10 1 6 (w32 ((M10 1 6) - 1)))) Qt
           else
            Tr_ wd0 pg0 (9 * m + 24) 108 [.inr (.inr 1), .inl 20] M8 (rv_ fun M11 =>
             V 321 [rr 1, ii x1, ii x2, ii x3, ii x12, ii 1, ii v2, ii x7, ii x8, ii x9, ii x10, ii x11, ii x12] [] (up_ M11 1 6 (w32 ((M11 1 6) - 1)))) Qt))) Qt) Qt) Qt)) Qt) Qt
section DX
variable {d dq m : Nat} {b F F' : Int} {Mx Mq M N : mm_} {a o x1 x2 x3 x4 x5 x6 x7 x8 x9 x10 x11 x12 : Int} {K : Int → mm_ → Prop} {Kv G : mm_ → Prop} {Qt : qt_} {V : vv_}
theorem Tr_rc [Inhabited gh_] {n : Nat} {args : List pv_} {Kv' : mm_ → Prop} (h : Tr_ wd0 pg0 d n args M (rv_ Kv) Qt) (hr : ∀ M, Kv M → Kv' M) : Tr_ wd0 pg0 d n args M (rv_ Kv') Qt := Tr_m h (fun vs M hv => ⟨hv.1, hr M hv.2⟩) (fun _ _ h => h)
theorem Tr_ric [Inhabited gh_] {n : Nat} {args : List pv_} {K' : Int → mm_ → Prop} (h : Tr_ wd0 pg0 d n args M (ri_ K) Qt) (hr : ∀ v M, K v M → K' v M) : Tr_ wd0 pg0 d n args M (ri_ K') Qt := Tr_m h (fun vs M ⟨x, e, hv⟩ => ⟨x, e, hr x M hv⟩) (fun _ _ h => h)
theorem x_161_50 [Inhabited gh_] (hV : Cl_ wd0 (Tr_ wd0 pg0 (d + 3)) V (ri_ K) Qt m_161) (hW : Wk_ V) (h8 : M 1 8 = b) (h01 : b = 0 ∨ b = 1) (h2 : M 1 2 = 5) (h0 : 0 ≤ M 5 3) (h1 : M 5 3 + 2 < 12000) (h : V 87 [rr 1, ii x1, ii x2, ii x3, ii x4, ii x5, ii 0, ii (M 5 3), ii (if b = 0 then M 5 3 else M 5 3 + 1), ii 1, none, none, none] [] (M0_ b M)) : V 50 [rr 1, ii x1, ii x2, ii x3, ii x4, ii x5, none, none, none, none, none, none, none] [] M := by
  refine b_161_50 (Tr_mono _) hV hW _ _ _ _ _ _ (x_162 h2 h0 (by omega) fun _ => ?_)
  unfold M0_ at h
  rw [pX_1]
  rcases h01 with hb | hb
  · rw [if_pos hb, if_pos hb] at h
    rw [if_pos (by omega), pX_0 (by omega)]
    refine x_162 h2 h0 (by omega) ?_
    rw [pX_0 (by omega)]; exact h
  · rw [if_neg (by omega), if_neg (by omega)] at h
    rw [if_neg (by omega)]
    have e53 : up_ (pX_ M 0) 142 (M 5 3) 43 5 3 = M 5 3 + 1 := by rw [up_ne (by decide), pX_v (by omega), up_at]
    refine ⟨h2, by omega, x_162 (by rw [up_ne (by decide), pX_1]; exact h2) (by omega) (by omega) ?_⟩
    rw [e53]; exact h
theorem x_161_87 [Inhabited gh_] (hV : Cl_ wd0 (Tr_ wd0 pg0 (d + 3)) V (ri_ K) Qt m_161) (hW : Wk_ V) (h8 : M 1 8 = b) (h01 : b = 0 ∨ b = 1) (h2 : M 1 2 = 5) (h0 : 0 ≤ M 5 3) (h1 : M 5 3 < 12000) (hc : b = 1 → 0 ≤ x8 ∧ x8 < 12000)
    (h : Tr_ wd0 pg0 (d + 3) 121 [.inr (.inr 1), .inl 58] (Mp_ b M x8 x6) (rv_ fun M2 =>
      Tr_ wd0 pg0 (d + 3) 133 [.inr (.inr 1)] M2 (ri_ fun v2 M3 => V 209 [rr 1, ii x1, ii x2, ii x3, ii x4, ii (if x5 = 0 ∨ v2 = 0 then 0 else 1), ii x6, ii x7, ii x8, ii 0, ii (M 5 3), ii v2, none] [] M3) Qt) Qt) : V 87 [rr 1, ii x1, ii x2, ii x3, ii x4, ii x5, ii x6, ii x7, ii x8, ii 0, none, none, none] [] M := by
  have tail : ∀ M1 : mm_, M1 1 2 = 5 → M1 5 3 = M 5 3 → pX_ M1 0 = Mp_ b M x8 x6 → V 174 [rr 1, ii x1, ii x2, ii x3, ii x4, ii x5, ii x6, ii x7, ii x8, ii 0, none, none, none] [] M1 := fun M1 e2 e53 ep => by
    refine b_161_174 (Tr_mono _) hV hW _ _ _ _ _ _ _ _ _ _ (x_162 e2 (by omega) (by omega) ?_)
    rw [ep, e53]
    refine Tr_rc h (fun M2 h2 => ?_)
    refine Tr_ric h2 (fun v2 M3 h3 => ?_)
    by_cases c : x5 = 0
    · rw [if_pos c]; rw [if_pos (.inl c)] at h3; exact h3
    · rw [if_neg c]
      by_cases c2 : v2 = 0
      · rw [if_pos c2]; rw [if_pos (.inr c2)] at h3; exact h3
      · rw [if_neg c2]; rw [if_neg (by omega)] at h3; exact h3
  refine b_161_87 (Tr_mono _) hV hW _ _ _ _ _ _ _ _ _ _ ?_
  rw [if_pos rfl]
  intro _
  rcases h01 with hb | hb
  · rw [if_pos (by omega)]
    exact tail M h2 rfl (by unfold Mp_; rw [if_pos hb, pX_0 (by omega)])
  · rw [if_neg (by omega)]
    exact ⟨h2, hc hb, tail _ (by rw [up_ne (by decide)]; exact h2) (by rw [up_ne (by decide)]) (by unfold Mp_; rw [if_neg (by omega)])⟩
theorem x_161_209 [Inhabited gh_] (hV : Cl_ wd0 (Tr_ wd0 pg0 (9 * m + 24)) V (ri_ K) Qt m_161) (hW : Wk_ V) (h8 : M 1 8 = b) (h01 : b = 0 ∨ b = 1) (h2 : M 1 2 = 5) (h0 : 0 ≤ M 5 3) (h1 : M 5 3 + 2 < 12000) (hc : b = 1 → 0 ≤ x10 ∧ x10 < M 5 3) (hE : ER b F (M4_ b M x10 x4) N a o)
    (h : (isR (M 70) a → V 50 [rr 1, ii x1, ii x2, ii x3, ii (if b = 0 then M 5 3 else M 5 3 + 1), ii x5, none, none, none, none, none, none, none] [] (M4_ b M x10 x4)) ∧ (¬ isR (M 70) a → XEND m V Qt x1 x2 x3 x5 x7 x8 x9 x10 x11 (if b = 0 then M 5 3 else M 5 3 + 1) (M4_ b M x10 x4))) : V 209 [rr 1, ii x1, ii x2, ii x3, ii x4, ii x5, ii x6, ii x7, ii x8, ii x9, ii x10, ii x11, none] [] M := by
  have m70 : M4_ b M x10 x4 70 = M 70 := by
    unfold M4_; split
    · rfl
    · rw [up_ne (by decide), up_ne (by decide), pX_r (by decide) (by decide), pX_r (by decide) (by decide)]
  have fin : Tr_ wd0 pg0 (9 * m + 24) 163 [.inr (.inr 1)] (M4_ b M x10 x4) (ri_ fun v1 M2 => (if v1 = 0 then XEND m V Qt x1 x2 x3 x5 x7 x8 x9 x10 x11 (if b = 0 then M 5 3 else M 5 3 + 1) M2 else V 50 [rr 1, ii x1, ii x2, ii x3, ii (if b = 0 then M 5 3 else M 5 3 + 1), ii x5, none, none, none, none, none, none, none] [] M2)) Qt := by
    refine y_163 hE (fun c => ?_) (fun c => ?_)
    · rw [if_neg (by decide)]; rw [m70] at c; exact h.1 c
    · rw [if_pos rfl]; rw [m70] at c; exact h.2 c
  refine b_161_209 (Tr_mono _) hV hW _ _ _ _ _ _ _ _ _ _ _ _ (x_138 h2 h0 (by omega) ?_)
  rcases h01 with hb | hb
  · have e4 : M4_ b M x10 x4 = M := by unfold M4_; rw [if_pos hb]
    rw [e4, if_pos hb] at fin
    rw [pX_0 (by omega)]
    refine x_162 h2 h0 (by omega) fun _ => ?_
    rw [pX_0 (by omega), if_pos (by omega)]
    refine b_161_240 (Tr_mono _) hV hW _ _ _ _ _ _ _ _ _ _ _ _ _ (x_166 (.inl (by omega)) h2 (fun h => absurd (by omega) h) ?_)
    rw [if_pos (by omega)]
    exact fin
  · have g8 : pX_ M 38 1 8 = 1 := by rw [pX_1]; omega
    have g53 : pX_ M 38 5 3 = M 5 3 + 1 := by rw [pX_v (by omega), up_at]
    have k8 : pX_ (pX_ M 38) 0 1 8 = 1 := by rw [pX_1]; exact g8
    have k53 : pX_ (pX_ M 38) 0 5 3 = M 5 3 + 2 := by rw [pX_v g8, up_at, g53]; omega
    have e4 : M4_ b M x10 x4 = up_ (up_ (pX_ (pX_ M 38) 0) 142 (M 5 3 + 1) x4) 142 x10 (M 5 3 + 2) := by unfold M4_; rw [if_neg (by omega)]
    rw [e4, if_neg (by omega)] at fin
    refine x_162 (by rw [pX_1]; exact h2) (by omega) (by omega) fun _ => ?_
    rw [if_neg (by omega), g53]
    refine ⟨by rw [pX_1, pX_1]; exact h2, by omega, ?_⟩
    have j8 : up_ (pX_ (pX_ M 38) 0) 142 (M 5 3 + 1) x4 1 8 = 1 := by rw [up_ne (by decide)]; exact k8
    have j53 : up_ (pX_ (pX_ M 38) 0) 142 (M 5 3 + 1) x4 5 3 = M 5 3 + 2 := by rw [up_ne (by decide)]; exact k53
    refine b_161_240 (Tr_mono _) hV hW _ _ _ _ _ _ _ _ _ _ _ _ _ (x_166 (.inr j8) (by rw [up_ne (by decide), pX_1, pX_1]; exact h2) (fun _ => by have := hc hb; omega) ?_)
    rw [if_neg (by omega), j53]
    exact fin
theorem M4_BX [Inhabited gh_] (h8 : M 1 8 = b) (h01 : b = 0 ∨ b = 1) (hc : b = 1 → x10 < M 5 3) : BX4 b M (M4_ b M x10 x4) x10 x4 := by
  rcases h01 with hb | hb
  · have e4 : M4_ b M x10 x4 = M := by unfold M4_; rw [if_pos hb]
    rw [e4]
    exact ⟨fun _ _ _ => rfl, fun _ => rfl, fun _ _ => rfl, fun h => by omega⟩
  · have hc' := hc hb
    have g8 : pX_ M 38 1 8 = 1 := by rw [pX_1]; omega
    have g53 : pX_ M 38 5 3 = M 5 3 + 1 := by rw [pX_v (by omega), up_at]
    have e4 : M4_ b M x10 x4 = up_ (up_ (pX_ (pX_ M 38) 0) 142 (M 5 3 + 1) x4) 142 x10 (M 5 3 + 2) := by unfold M4_; rw [if_neg (by omega)]
    rw [e4]
    refine ⟨fun r h5 h1 => ?_, fun h => by omega, fun i hi => ?_, fun _ => ⟨?_, ?_, ?_, ?_, fun j hj hl => ?_⟩⟩
    · rw [up_ne h1, up_ne h1, pX_r h5 h1, pX_r h5 h1]
    · rw [up_ne (by decide), up_ne (by decide), pX_5 hi, pX_5 hi]
    · rw [up_ne (by decide), up_ne (by decide), pX_v g8, up_at, g53]; omega
    · rw [up_of2 (by omega), up_of2 (by omega), pX_v g8, up_ne (by decide), g53, up_of2 (by omega), pX_v (by omega), up_ne (by decide), up_at]
    · rw [up_of2 (by omega), up_at]
    · rw [up_at]
    · rw [up_of2 hj, up_of2 (by omega), pX_v g8, up_ne (by decide), g53, up_of2 (by omega), pX_v (by omega), up_ne (by decide), up_of2 (by omega)]
theorem M4_E [Inhabited gh_] (hE : ER b F M N a o) (hs : M 5 3 + 2 ≤ 9 * a + 1000) (hc : b = 1 → x10 < M 5 3) : ER b F (M4_ b M x10 x4) N a o := by
  have B := M4_BX (x4 := x4) hE.2.2.2.2.2.2.1 (bl01 hE) hc
  have e1 : M4_ b M x10 x4 1 = M 1 := B.1 1 (by decide) (by decide)
  have e70 : M4_ b M x10 x4 70 = M 70 := B.1 70 (by decide) (by decide)
  have s53 : M 5 3 ≤ M4_ b M x10 x4 5 3 ∧ M4_ b M x10 x4 5 3 ≤ M 5 3 + 2 := by
    rcases bl01 hE with hb | hb
    · rw [B.2.1 hb]; omega
    · rw [(B.2.2.2 hb).1]; omega
  obtain ⟨e1', e2, e3, e4, e5, e6, e7, e8, e9, e10, e11, e12, e13, e14, e15⟩ := hE
  exact ⟨gd_c e70 e1', by rw [e1]; exact e2, e3, by rw [e1]; exact e4, e5, e6, by rw [e1]; exact e7, e8, e9, e10, by unfold NR; rw [e1]; exact e11, by rw [e1]; exact e12, by rw [e1]; exact e13, by omega, by omega⟩
end DX
end T149_dx
section T150_bb
/-! a decide: a branch, X and Q -/
def QP3 (dq : Nat) (st mk me : Int) (T : vv_ → Prop) (N : mm_) (dd : Int) : Prop := ∃ k : Int, ∀ (V : vv_) (Kv : mm_ → Prop) (Qt : qt_), Cl_ wd0 (Tr_ wd0 pg0 (dq + 15)) V (rv_ Kv) Qt m_260 → Wk_ V
  → (∀ V' : vv_, Cl_ wd0 (Tr_ wd0 pg0 (dq + 14)) V' (rv_ fun M1 => V 77 (LSz st mk me 0) [] M1) Qt m_303 → Wk_ V' → Tr_ wd0 pg0 (dq + 14) 292 [.inr (.inr 6)] N (ri_ fun v2 M2 => if v2 = 0 then V' 83 [rr 6, ii dd, ii k, none] [] M2 else Tr_ wd0 pg0 (dq + 14) 291 [.inr (.inr 6)] M2 (rv_ fun M3 => rv_ (fun M1 => V 77 (LSz st mk me 0) [] M1) [] M3) Qt) Qt)
  → T V
section BB
variable {d dq m mm : Nat} {b F F' : Int} {Mx Mq M N Mx1 M' : mm_} {a a0 o st mk me x1 x2 x3 x4 x5 c1 i : Int} {K : Int → mm_ → Prop} {Kv G : mm_ → Prop} {Qt : qt_} {V : vv_} {T : vv_ → Prop}
theorem ER_X3 [Inhabited gh_] (h : ER b F Mx Mq a o) (e70 : Mx1 70 = Mx 70) (e1 : Mx1 1 = Mx 1) (h5 : 0 ≤ Mx1 5 3 ∧ Mx1 5 3 ≤ 9 * a + 1000) : ER b F Mx1 Mq a o := by
  obtain ⟨e1', e2, e3, e4, e5, e6, e7, e8, e9, e10, e11, e12, e13, e14, e15⟩ := h
  exact ⟨gd_c e70 e1', by rw [e1]; exact e2, e3, by rw [e1]; exact e4, e5, e6, by rw [e1]; exact e7, e8, e9, e10, by unfold NR; rw [e1]; exact e11, by rw [e1]; exact e12, by rw [e1]; exact e13, h5.1, h5.2⟩
theorem SQ_103 [Inhabited gh_] {v : Int} (h : SQ Mx N M) : SQ Mx N (up_ M 6 103 v) := ⟨⟨by rw [up_off (by decide)]; exact h.1.1, by rw [up_off (by decide)]; exact h.1.2⟩, by unfold in9_; rw [up_off (by decide)]; exact h.2.1, by rw [up_off (by decide)]; exact h.2.2.1, ⟨by rw [up_off (by decide)]; exact h.2.2.2.1.1, h.2.2.2.1.2⟩, QA_tr h.2.2.2.2 (QA_u6 (by decide))⟩
theorem afS_e [Inhabited gh_] {κ : Int → Int} {pt : sj_ → Option sj_} {a j r : Int} {s : sj_} (h : pt (a, j) = some s) : afS κ pt a j r = if isR κ s.1 then LQ (dcT1 κ pt) (s, r) else some s := by
  unfold afS; rw [h, Option.bind_some]
theorem afS_n [Inhabited gh_] {κ : Int → Int} {pt : sj_ → Option sj_} {a j r : Int} (h : afS κ pt a j r ≠ none) : pt (a, j) ≠ none := fun e => h (by unfold afS; rw [e, Option.bind_none])
theorem Mp_r [Inhabited gh_] {r : Nat} (h5 : r ≠ 5) (h1 : r ≠ 142) : Mp_ b M c1 i r = M r := by
  unfold Mp_; split
  · rfl
  · rw [pX_r h5 h1, up_ne h1]
theorem Mp_5 [Inhabited gh_] {j : Int} (h : j ≠ 3) : Mp_ b M c1 i 5 j = M 5 j := by
  unfold Mp_; split
  · rfl
  · rw [pX_5 h, up_ne (by decide)]
theorem Mp_XF [Inhabited gh_] : XF M (Mp_ b M c1 i) := ⟨fun r h => Mp_r (fun e => h (by rw [e]; decide)) (fun e => h (by rw [e]; decide)), fun i _ _ _ _ _ => by rw [Mp_r (by decide) (by decide)], fun i h => Mp_5 h⟩
theorem Mp_53 [Inhabited gh_] (h01 : b = 0 ∨ b = 1) (h8 : M 1 8 = b) : Mp_ b M c1 i 5 3 = M 5 3 + (if b = 0 then 0 else 1) := by
  rcases h01 with hb | hb
  · unfold Mp_; rw [if_pos hb, if_pos hb]; omega
  · unfold Mp_; rw [if_neg (by omega), if_neg (by omega), pX_v (by rw [up_ne (by decide)]; omega), up_at, up_ne (by decide)]
theorem Mp_142 [Inhabited gh_] (hb : b = 1) (h8 : M 1 8 = b) (hc : c1 < M 5 3) {j : Int} (hj : j < M 5 3) : Mp_ b M c1 i 142 j = if j = c1 then i else M 142 j := by
  unfold Mp_
  have e : up_ M 142 c1 i 5 3 = M 5 3 := by rw [up_ne (by decide)]
  rw [if_neg (by omega), pX_v (by rw [up_ne (by decide)]; omega), up_ne (by decide), e, up_of2 (by omega)]
  by_cases c : j = c1
  · rw [if_pos c, c, up_at]
  · rw [if_neg c, up_of2 c]
theorem BPX_m [Inhabited gh_] (h01 : b = 0 ∨ b = 1) (h8 : M 1 8 = b) {N' : mm_} {a1 dd : Int} (hB : BLR b F' (M0_ b M) N M' N' a a1 o dd i) (hi : 0 ≤ i) (hc : c1 = if b = 0 then M 5 3 else M 5 3 + 1) : BPX b M (nX_ (Mp_ b M' c1 i)) M' i ∧ XF M (nX_ (Mp_ b M' c1 i)) := by
  have hx := hB.2.1
  have h8' : M' 1 8 = b := hB.1.2.2.2.2.2.2.1
  have e53 := hB.2.2.2.2.2.2.2.1
  rw [M0_53 h01 h8] at e53
  refine ⟨⟨fun r h1 h5 h2 => ?_, ?_, fun j hj => ?_, fun hb => ?_⟩, XF_tr M0_XF (XF_tr hx (XF_tr Mp_XF nX_XF))⟩
  · rw [nX_ne h1, Mp_r h5 h2, XF_70 hx h1 h5 h2, M0_r h5 h2]
  · rw [nX_ne (by decide), Mp_53 h01 h8', e53.1]
    rcases h01 with hb | hb
    · simp only [if_pos hb]; omega
    · simp only [if_neg (show ¬ b = 0 by omega)]; omega
  · rw [nX_ne (by decide)]
    rcases h01 with hb | hb
    · have q := e53.2 j (by rw [if_pos hb]; omega)
      unfold Mp_; rw [if_pos hb, q]; unfold M0_; rw [if_pos hb]
    · rw [if_neg (by omega)] at hc
      have q := e53.2 j (by rw [if_neg (by omega)]; omega)
      have z := e53.1
      rw [if_neg (by omega), if_neg (by omega)] at z
      rw [Mp_142 hb h8' (by omega) (by omega), if_neg (by omega), q, (M0_b hb h8).2.2 j hj]
  · rw [if_neg (by omega)] at hc
    have z := e53.1
    rw [if_neg (by omega), if_neg (by omega)] at z
    refine ⟨?_, ?_, fun j x y => ?_⟩
    · rw [nX_ne (by decide), Mp_142 hb h8' (by omega) (by omega), if_neg (by omega), e53.2 _ (by rw [if_neg (by omega)]; omega), (M0_b hb h8).2.1]
    · rw [nX_ne (by decide), Mp_142 hb h8' (by omega) (by omega), if_pos hc.symm]
    · rw [nX_ne (by decide), Mp_142 hb h8' (by omega) (by omega), if_neg (by omega)]
end BB
end T150_bb
section T151_bm
/-! a decide: a branch, joined -/
section BM
variable {d dq m mm : Nat} {b F F' : Int} {Mx Mq M N Mx1 M' : mm_} {a a0 o st mk me x1 x2 x3 x4 x5 c1 i : Int} {K : Int → mm_ → Prop} {Kv G : mm_ → Prop} {Qt : qt_} {V : vv_} {T : vv_ → Prop}
theorem y_161b [Inhabited gh_] (hsp : SPART dq m) (hm : m + 1 ≤ 12) (ho : o = 11 - (m : Int)) (hp : PS b F Mx Mq a0 o me) (h : DHS b F F' Mx Mq M N a0 a o me x2 x3 x4 x5 mm) (hpre : QPR dq st mk me T N)
    (hS : b = 1 → LQ (dcT1 (Mx 70) (PTj (Mx 70) (LMT Mx) m)) ((a, lc_ b M), x3) ≠ none)
    (hV : Cl_ wd0 (Tr_ wd0 pg0 (9 * m + 24)) V (ri_ K) Qt m_161) (hW : Wk_ V)
    (hK : ∀ F2 M4 N4 a3 y3 y4 y5 y7 y8 y10 y11, DHS b F F2 Mx Mq M4 N4 a0 a3 o me x2 y3 y4 y5 (mm + 1) → x3 < y3 → LKP b M M4 → (∀ lm, LOK b lm M M4 → LQ (dcT1 (Mx 70) (PTj (Mx 70) lm m)) ((a, lc_ b M), x3) = if isR (Mx 70) a3 then LQ (dcT1 (Mx 70) (PTj (Mx 70) lm m)) ((a3, lc_ b M4), y3) else some (a3, lc_ b M4)) → QP3 dq st mk me T N4 (Mq 6 102) → a < a3 → N4 6 103 = 0 → 0 ≤ N4 222 (Mq 6 102)
      → (isR (Mx 70) a3 → V 50 [rr 1, ii x1, ii x2, ii y3, ii y4, ii y5, none, none, none, none, none, none, none] [] M4) ∧ (¬ isR (Mx 70) a3 → XEND m V Qt x1 x2 y3 y5 y7 y8 0 y10 y11 y4 M4))
    (hQ : b = 0 → ∀ Mx', XA Mx Mx' → STT dq T Mq Mx' → Qt 8 Mx') :
    V 50 [rr 1, ii x1, ii x2, ii x3, ii x4, ii x5, none, none, none, none, none, none, none] [] M := by
  have dq2 := hp.2.2.2.2.2.2.2.1
  have hps : PS b F' M N a (o + 1) me := PS_D hp h.1 (by omega) ⟨by have := h.2.1; omega, by have := h.2.1; omega⟩
  obtain ⟨⟨hT, hVT, hE, t4, t5, t6⟩, hG, hL, hst, u, w7, r90, d102, msk, c19, s53⟩ := hps
  have h' := h
  obtain ⟨d1, d2, ⟨d3, d4, d5, d6, d7, d8, d9, d10, d11⟩, d12, d13, d14, d15, d16⟩ := h'
  clear d16 d15 d14 d7
  have m8 : M 1 8 = b := hE.2.2.2.2.2.2.1
  have h01 := bl01 hE
  have ha := ER_a hE
  have st0 := ER_st hE
  have xM := PRD_X d1
  have qM := PRD_Q d1
  have m70 : M 70 = Mx 70 := xM.1 70 (by decide)
  have q75 := hp.1.2.2.2.1
  have e0_70 : M0_ b M 70 = Mx 70 := by rw [M0_r (by decide) (by decide), m70]
  have s0 := M0_53 h01 m8
  have s0' : M 5 3 ≤ M0_ b M 5 3 ∧ M0_ b M 5 3 ≤ M 5 3 + 2 := by rw [s0]; split <;> omega
  have hE0 : ER b F' (M0_ b M) N a (o + 1) := ER_X3 hE (M0_r (by decide) (by decide)) (M0_r (by decide) (by decide)) (by omega)
  have lk : b = 1 → LMT M = LMT Mx := (LKP_P d1).2.2.2
  refine x_161_50 (d := 9 * m + 21) hV hW m8 h01 hVT.1 st0.1 (by omega) ?_
  suffices hh : V 87 [rr 1, ii x1, ii x2, ii (x3 + 0), ii x4, ii x5, ii 0, ii (M 5 3), ii (if b = 0 then M 5 3 else M 5 3 + 1), ii 1, none, none, none] [] (M0_ b M) by rw [Int.add_zero] at hh; exact hh
  refine l_161r (D := 9 * m + 18) (dq := dq + 6) (F := F') (dd := Mq 6 102) (jj := lc_ b M) (pt := PTj (Mx 70) (LMT Mx) m) (jw_PTj m).1 (Tks_a (XF_XA M0_XF) QA_rf hT) (VT_a (XF_XA M0_XF) QA_rf hVT) (by omega) (by omega) (by omega) r90 d6 (by omega) ⟨d4, d5.1⟩ d8 (by rw [M0_r (by decide) (by decide)]; omega) (by omega) hV hW ?_ (8 - x3).toNat 0 (M0_ b M) N a (by omega) (BLR_0 hE0) (by omega) ?_ ?_ ?_
  · intro hb Mx' hx hq
    exact hQ hb Mx' (XA_tr xM (XA_tr (XF_XA M0_XF) (XF_XA hx))) (fun V Kv Qtq hV hW hk => hpre V Kv Qtq hV hW (hq _ _ fun M' hsq => ⟨q_260s77 hV hW (SQ_103 (SQ_q qM hsq)) hk, fun _ => q_260s77 hV hW (SQ_q qM hsq) hk⟩))
  · intro Kv Qtq hq
    refine t_291 fun V hV hW => b_291_0 (Tr_mono _) hV hW _ ?_
    rw [d2, show Mq 6 102 + 1 - 1 = Mq 6 102 by omega, w32_id (by omega) (by omega)]
    exact hq V hV hW
  · intro hb
    rw [e0_70, Int.add_zero]
    exact hS hb
  · intro M' N' a1 i hB hi hi8 hai k244 hsyn hS' hq
    rw [e0_70] at hS' k244
    have hE1 := hB.1
    have hxM' := XF_tr M0_XF hB.2.1
    have ha1 := ER_a hE1
    have st1 := ER_st hE1
    have qa : QA N N' := ⟨fun r hr => hB.2.2.2.1.1 r (fun e => hr (by revert e; unfold qaL; simp only [List.mem_cons, List.not_mem_nil, or_false]; omega)), fun j hj => hB.2.2.2.1.2.1 j (nm_i hj (by decide)) (nm_i hj (by decide)) (nm_i hj (by decide)) (nm_i hj (by decide))⟩
    have v12 : M' 1 2 = 5 := by rw [hxM'.2.1 2 (by decide) (by decide) (by decide) (by decide) (by decide)]; exact hVT.1
    have e53 := hB.2.2.2.2.2.2.2.1.1
    rw [s0] at e53
    have n53 : M 5 3 ≤ M' 5 3 ∧ M' 5 3 ≤ M 5 3 + 2 + 2 * i := by rw [e53]; split <;> omega
    obtain ⟨c1, hc1⟩ : ∃ c1 : Int, c1 = if b = 0 then M 5 3 else M 5 3 + 1 := ⟨_, rfl⟩
    rw [← hc1]
    have bc1 : b = 1 → c1 = M 5 3 + 1 ∧ M' 5 3 = M 5 3 + 2 + 2 * i := fun hb => by
      rw [if_neg (by omega)] at hc1 e53
      rw [if_neg (by omega)] at e53
      exact ⟨hc1, by omega⟩
    refine x_161_87 (d := 9 * m + 21) hV hW hE1.2.2.2.2.2.2.1 h01 v12 st1.1 st1.2 (fun hb => by have := bc1 hb; omega) ?_
    obtain ⟨hBP, hxf⟩ := BPX_m h01 m8 hB (by omega) hc1
    have p53 := Mp_53 (c1 := c1) (i := i) h01 hE1.2.2.2.2.2.2.1
    have p53' : M' 5 3 ≤ Mp_ b M' c1 i 5 3 ∧ Mp_ b M' c1 i 5 3 ≤ M' 5 3 + 1 := by rw [p53]; split <;> omega
    have hEm : ER b F' (Mp_ b M' c1 i) N' a1 (o + 1) := ER_X3 hE1 (Mp_r (by decide) (by decide)) (Mp_r (by decide) (by decide)) (by omega)
    have xa1 : XA M (Mp_ b M' c1 i) := XF_XA (XF_tr hxM' Mp_XF)
    have hTm : Tks (Mp_ b M' c1 i) N' := Tks_a xa1 qa hT
    have pm70 : Mp_ b M' c1 i 70 = Mx 70 := by rw [Mp_r (by decide) (by decide), XF_70 hxM' (by decide) (by decide) (by decide), m70]
    have pm71 : Mp_ b M' c1 i 71 = M' 71 := Mp_r (by decide) (by decide)
    refine y_121 hEm (by decide) (fun hb => by rw [pm70]; intro e; have e' : tS (Mx 70) 258 a1 = none := e; have := hS' hb; rw [e'] at this; exact this rfl) (fun k1 h12 hE2 => ?_) (fun hb k1 h12 => ?_) (fun hb k1 => ?_)
    rotate_left
    · have hsp := SQ_bf hEm hb (k := 2) (by decide) (QA_tr qM qa)
      exact hQ hb _ (XA_tr xM (XA_tr xa1 (XF_XA fl_XF))) (fun V Kv Qtq hV hW hk => hpre V Kv Qtq hV hW (hq _ _ fun V2 hV2 hW2 => j_244r hTm hEm hb (by decide) k1 h12 ⟨q_260s77 hV hW (SQ_103 hsp) hk, fun _ => q_260s77 hV hW hsp hk⟩))
    · have hsp := SQ_bf hEm hb (k := 1) (by decide) (QA_tr qM qa)
      exact hQ hb _ (XA_tr xM (XA_tr xa1 (XF_XA fl_XF))) (fun V Kv Qtq hV hW hk => hpre V Kv Qtq hV hW (hq _ _ fun V2 hV2 hW2 => j_244w hTm hEm hb (by decide) k1 ⟨q_260s77 hV hW (SQ_103 hsp) hk, fun _ => q_260s77 hV hW hsp hk⟩))
    have k1' : Mx 70 a1 = 258 := by rw [← pm70]; exact k1
    rw [tS_e k1' h12, Option.bind_some] at hS'
    have hpre2 : ∀ (V : vv_) (Kv : mm_ → Prop) (Qt : qt_), Cl_ wd0 (Tr_ wd0 pg0 (dq + 15)) V (rv_ Kv) Qt m_260 → Wk_ V → V 77 (LSz st mk me 0) [] (up_ (nx_ N') 6 103 0) → T V := fun V Kv Qtq hV hW hk => hpre V Kv Qtq hV hW (hq _ _ fun V2 hV2 hW2 => j_244t hTm hEm (by decide) k1 h12 ⟨hk, fun e0 => by rw [up_id' (by rw [nx_6 (by decide), hB.2.2.2.1.2.1 103 (by decide) (by decide) (by decide) (by decide)]; exact e0)] at hk; exact hk⟩)
    have hEp : ER b F' (nX_ (Mp_ b M' c1 i)) (up_ (nx_ N') 6 103 0) (a1 + 1) (o + 1) := ER_Q hE2 (up_off (by decide)) (up_off (by decide)) (up_off (by decide)) (up_off (by decide)) (up_off (by decide))
    have hBQ : BPQ N' (up_ (nx_ N') 6 103 0) := ⟨fun r hr => by rw [up_ne hr, nx_ne hr], fun j h1 h2 => by rw [up_off h2, nx_6 h1], up_at⟩
    obtain ⟨hPD, hPp⟩ := DHS_p hp h hB hi (by omega) (fun r h5 h1 => M0_r h5 h1) hBP hBQ hxf hEp (by omega) (by rw [nX_1 (by decide), Mp_r (by decide) (by decide)])
    have g70 : nX_ (Mp_ b M' c1 i) 70 = Mx 70 := by rw [nX_ne (by decide)]; exact pm70
    have lkp := LKP_F (b := b) hxf
    have n103 : up_ (nx_ N') 6 103 0 6 103 = 0 := up_at
    have n102 : up_ (nx_ N') 6 103 0 6 102 = Mq 6 102 + 1 := by rw [up_off (by decide), nx_6 (by decide), hB.2.2.2.1.2.1 102 (by decide) (by decide) (by decide) (by decide)]; exact d2
    have n225 : up_ (nx_ N') 6 103 0 225 (Mq 6 102) = 0 := by rw [up_ne (by decide), nx_ne (by decide), hB.2.2.2.1.1 225 (by decide)]; exact d9
    have n226 : up_ (nx_ N') 6 103 0 226 (Mq 6 102) = x5 := by rw [up_ne (by decide), nx_ne (by decide), hB.2.2.2.1.1 226 (by decide)]; exact d10
    have p53'' : nX_ (Mp_ b M' c1 i) 5 3 = Mp_ b M' c1 i 5 3 := by rw [nX_ne (by decide)]
    have hlcp : lc_ b (nX_ (Mp_ b M' c1 i)) = lc_ b M := lkp.2
    have hlmp : b = 1 → LMT (nX_ (Mp_ b M' c1 i)) = LMT Mx := fun hb => (lkp.1.2.2.2 hb).trans (lk hb)
    have bsk : b = 1 → M' 5 3 < Mp_ b M' c1 i 5 3 := fun hb => by rw [p53, if_neg (by omega)]; omega
    clear hE2 hEm hTm
    generalize nX_ (Mp_ b M' c1 i) = Mp at *
    generalize up_ (nx_ N') 6 103 0 = Np at *
    have ho' : (12 : Int) - (m : Int) = o + 1 := by omega
    refine Tr_le (d := 9 * m + 19) (by omega) ?_
    have hsp' := hsp b F' Mp Np (a1 + 1) me st mk
    rw [ho'] at hsp'
    refine hsp' _ Qt hPp n103 (fun hb => ?_) (fun F2 M3 N3 a3 v c hR hM hv h103 hc hsy hRT => ?_) (fun hb Mx' hx hstq => ?_)
    · rw [g70, hlcp, hlmp hb]
      exact afS_n (hS' hb)
    · have hE3 := hR.2.1
      have xa3 := XA_tr (PRD_X hPD) hR.2.2.1.1
      have qa3 := QA_tr (PRD_Q hPD) hR.2.2.1.2
      have b3 := hR.2.2.2.2.1
      have ha3 := ER_a hE3
      have st3 := ER_st hE3
      have pS3 := PS_tr hPp hR (by omega)
      have m370 : M3 70 = Mx 70 := xa3.1 70 (by decide)
      have v32 : M3 1 2 = 5 := by rw [xa3.2.1 2 (by decide)]; exact (hp.1.2.1).1
      have t53 : M3 5 3 ≤ 9 * a3 + 400 := pS3.2.2.2.2.2.2.2.2.2.2
      have mono53 : Mp 5 3 ≤ M3 5 3 := b3.2.2.2.1.1
      have sk3 : b = 1 → 0 ≤ M' 5 3 ∧ M' 5 3 < M3 5 3 := fun hb => ⟨st1.1, by have := bsk hb; omega⟩
      have k6 := hR.2.2.2.1.1.2.2.2.2.2
      have g102 : N3 6 102 = Mq 6 102 + 1 := k6.2.trans n102
      have g225 : N3 225 (Mq 6 102) = 0 := by rw [k6.1 225 _ (by decide) (by omega) (by omega)]; exact n225
      have g226 : N3 226 (Mq 6 102) = x5 := by rw [k6.1 226 _ (by decide) (by omega) (by omega)]; exact n226
      have g75 := pS3.1.2.2.2.1
      have B4 := N4_BQ (N := N3) (dd := Mq 6 102) (x := if x5 = 0 ∨ v = 0 then 0 else 1)
      have hE4 : ER b F2 (M4_ b M3 (M' 5 3) x4) (N4_ N3 (Mq 6 102) (if x5 = 0 ∨ v = 0 then 0 else 1)) a3 (o + 1) := ER_Q (M4_E hE3 (by omega) (fun hb => (sk3 hb).2)) (B4.2.1 12 (by decide) (by decide)) (B4.2.1 13 (by decide) (by decide)) (B4.2.1 14 (by decide) (by decide)) (B4.2.1 15 (by decide) (by decide)) (B4.2.1 16 (by decide) (by decide))
      have BX : BX4 b M3 (M4_ b M3 (M' 5 3) x4) (M' 5 3) x4 := M4_BX hE3.2.2.2.2.2.2.1 h01 (fun hb => (sk3 hb).2)
      have BX' : BX4 b M3 (M4_ b M3 (M' 5 3) x4) (M 5 3 + 2 * i + 2) x4 := ⟨BX.1, BX.2.1, BX.2.2.1, fun hb => by have q := BX.2.2.2 hb; rw [(bc1 hb).2, show M 5 3 + 2 + 2 * i = M 5 3 + 2 * i + 2 by omega] at q; rw [show M' 5 3 = M 5 3 + 2 * i + 2 by have := (bc1 hb).2; omega]; exact q⟩
      have D4 := DHS_n hp h hB hi (by omega) s0 (by omega) hBP hBQ hxf hPD hPp hR hM hv BX' B4 hE4 hi8
      have g222 : 0 ≤ N4_ N3 (Mq 6 102) (if x5 = 0 ∨ v = 0 then 0 else 1) 222 (Mq 6 102) := by
        rw [B4.1 222 (by decide), k6.1 222 _ (by decide) (by omega) (by omega), hBQ.1 222 (by decide), hB.2.2.2.2.1.2.2.1, if_neg (by omega)]
        omega
      have lk34 := LKP_X (b := b) (BX.1 62 (by decide) (by decide)) (BX.1 128 (by decide) (by decide)) (by rw [BX.1 1 (by decide) (by decide)]) (by rw [BX.1 1 (by decide) (by decide)])
      have lkM : LKP b M (M4_ b M3 (M' 5 3) x4) := LKP_tr lkp.1 (LKP_tr (LKP_P hR) lk34.1)
      refine x_161_209 hV hW hE3.2.2.2.2.2.2.1 h01 v32 st3.1 (by omega) sk3 hE4 ?_
      rw [m370]
      refine hK F2 _ _ a3 (x3 + i) _ _ _ _ _ _ D4 (by omega) lkM (fun lm hlm => ?_) ⟨N3 6 75, fun V Kv Qtq hV hW hk => ?_⟩ (by have := b3.1; omega) B4.2.2.2.1 g222
      · have l1 := (LOK_s lkp.1 (LKP_tr (LKP_P hR) lk34.1) hlm).2
        have l2 := (LOK_s (LKP_P hR) lk34.1 l1).1
        have e1 := hsyn (PTj (Mx 70) lm m) (jw_PTj m).1
        rw [e0_70, tS_e k1' h12, Option.bind_some, Int.add_zero] at e1
        have e2 := hsy lm l2
        rw [g70, hlcp] at e2
        rw [lk34.2]
        exact e1.trans (afS_e e2)
      · refine hpre2 V Kv Qtq hV hW (hRT V Kv Qtq hV hW ?_)
        have hT3 : Tks M3 N3 := pS3.1.1
        have hc' : c = 1 ∨ (c = 0 ∧ ¬ isA (M3 70) a3 ∧ ¬ isL (M3 70) a3) := by
          rw [g70] at hc
          rw [m370]
          rcases hc with q | q
          · exact .inl q.1
          · exact .inr q
        refine q_77e hT3 hE3 hc' hV hW (q_208b (by omega) hV hW (q_303a (d := dq + 12) (x5 := x5) g102 (by omega) g226 d11 h103 hv (by omega) (by have := hE3.2.2.1; omega) fun V' hV' hW' => ?_))
        rw [if_pos g225]
        exact hk V' hV' hW'
    · exact hQ hb Mx' (XA_tr (PRD_X hPD) hx) (fun V Kv Qtq hV hW hk => hpre2 V Kv Qtq hV hW (hstq V Kv Qtq hV hW (fun M' hsq => hk M' (SQ_q (PRD_Q hPD) hsq))))
end BM
end T151_bm
section T152_dt
/-! a decide: its end, patches -/
def M9_ (b : Int) (M : mm_) (o x4 : Int) (mm : Nat) : mm_ := if b = 0 then up_ (nX_ M) 1 6 o else xpt (M 5 3) mm (up_ (nX_ M) 1 6 o) x4
def N9_ (N : mm_) (o dd : Int) : mm_ := up_ (up_ (nx_ (nx_ N)) 6 15 o) 6 102 dd
def N8_ (N : mm_) (o dd vv : Int) (mq : Nat) : mm_ := up_ (up_ (qpt (N 6 75) mq (N9_ N o dd) (N 224 dd)) 208 (N 220 dd) (N 6 75)) 6 103 vv
section DT
variable {d dq m : Nat} {b F : Int} {Mx Mq M N : mm_} {a o x1 x2 x3 x4 x5 x6 x7 x8 x9 x10 x11 x12 lo hi k0 kc dd k z w : Int} {K : Int → mm_ → Prop} {Kv : mm_ → Prop} {G : Int → mm_ → Prop} {Qt : qt_} {V : vv_}
theorem x_161_321 [Inhabited gh_] (hlo : 0 ≤ lo) (hhi : hi ≤ 12000) (hV : Cl_ wd0 (Tr_ wd0 pg0 (d + 1)) V (ri_ K) Qt m_161) (hW : Wk_ V) (hz : x6 = 0 ∨ x6 = 1) (hw : x5 = 0 ∨ x5 = 1) : ∀ (n : Nat) {M : mm_} {x4 x7 : Int}, XHO lo hi n M x4 → M 1 8 = 1 → M 1 2 = 5 → K (if x5 = 0 ∨ x6 = 0 then 0 else 1) (xpt (M 5 3) n M x4) → V 321 [rr 1, ii x1, ii x2, ii x3, ii x4, ii x5, ii x6, ii x7, ii x8, ii x9, ii x10, ii x11, ii x12] [] M
  | 0, M, x4, x7, hx, h8, h2, h => by
    have e : x4 = -1 := hx
    refine b_161_321 (Tr_mono _) hV hW _ _ _ _ _ _ _ _ _ _ _ _ _ fun _ => ?_
    rw [if_neg (by omega), if_pos e]
    have h' : K (if x5 = 0 ∨ x6 = 0 then 0 else 1) M := h
    by_cases c : x5 = 0
    · rw [if_pos c]; rw [if_pos (.inl c)] at h'; exact ⟨.inl rfl, ri_i h'⟩
    · rw [if_neg c]
      by_cases c2 : x6 = 0
      · rw [if_pos c2]; rw [if_pos (.inr c2)] at h'; exact ⟨.inl rfl, ri_i h'⟩
      · rw [if_neg c2]; rw [if_neg (by omega)] at h'; exact ⟨.inr rfl, ri_i h'⟩
  | n + 1, M, x4, x7, hx, h8, h2, h => by
    obtain ⟨hb, hd, hr⟩ := hx
    refine b_161_321 (Tr_mono _) hV hW _ _ _ _ _ _ _ _ _ _ _ _ _ fun _ => ?_
    rw [if_neg (by omega), if_neg (by omega)]
    refine ⟨h2, by omega, x_166 (.inr h8) h2 (fun _ => by omega) ?_⟩
    rw [if_neg (by omega)]
    have e53 : up_ M 142 x4 (M 5 3) 5 3 = M 5 3 := by rw [up_ne (by decide)]
    refine x_161_321 hlo hhi hV hW hz hw n (XHO_u n hd hr) (by rw [up_ne (by decide)]; exact h8) (by rw [up_ne (by decide)]; exact h2) ?_
    rw [e53]; exact h
theorem q_303_179 [Inhabited gh_] (h0 : 0 ≤ k0) (hkc : kc ≤ 1300) (hdd : 0 ≤ dd ∧ dd < 14) (hV : Cl_ wd0 (Tr_ wd0 pg0 d) V (rv_ Kv) Qt m_303) (hW : Wk_ V) (hz : z = 0 ∨ z = 1) (hw : w = 0 ∨ w = 1) : ∀ (n : Nat) {N : mm_} {g : Int}, QHO k0 kc n N g → N 225 dd = z → N 226 dd = w → 0 ≤ N 220 dd ∧ N 220 dd < 1300 → Kv (up_ (up_ (qpt (N 6 75) n N g) 208 (N 220 dd) (N 6 75)) 6 103 (if w = 0 ∨ z = 0 then 0 else 1)) → V 179 [rr 6, ii dd, ii k, ii g] [] N
  | 0, N, g, hx, e5, e6, e20, h => by
    have e : g = -1 := hx
    refine b_303_179 (Tr_mono _) hV hW _ _ _ _ ?_
    rw [if_pos (by omega), e5, e6]
    have h' : Kv (up_ (up_ N 208 (N 220 dd) (N 6 75)) 6 103 (if w = 0 ∨ z = 0 then 0 else 1)) := h
    refine ⟨hdd, e20, hdd, fun _ => ?_⟩
    by_cases c : z = 0
    · rw [if_pos c]; rw [if_pos (.inr c)] at h'; exact ⟨.inl rfl, rv_i h'⟩
    · rw [if_neg c]
      refine ⟨hdd, fun _ => ?_⟩
      by_cases c2 : w = 0
      · rw [if_pos c2]; rw [if_pos (.inl c2)] at h'; exact ⟨.inl rfl, rv_i h'⟩
      · rw [if_neg c2]; rw [if_neg (by omega)] at h'; exact ⟨.inr rfl, rv_i h'⟩
  | n + 1, N, g, hx, e5, e6, e20, h => by
    obtain ⟨hb, hd, hr⟩ := hx
    refine b_303_179 (Tr_mono _) hV hW _ _ _ _ ?_
    rw [if_neg (by omega)]
    refine ⟨by omega, by omega, ?_⟩
    have e75 : up_ N 205 g (N 6 75) 6 75 = N 6 75 := by rw [up_ne (by decide)]
    have e220 : up_ N 205 g (N 6 75) 220 dd = N 220 dd := by rw [up_ne (by decide)]
    refine q_303_179 h0 hkc hdd hV hW hz hw n (QHO_c (k1 := 0) (Int.le_refl _) (fun j _ _ => by rw [up_ne (by decide)]) n hr) (by rw [up_ne (by decide)]; exact e5) (by rw [up_ne (by decide)]; exact e6) (by rw [e220]; exact e20) ?_
    rw [e75, e220]; exact h
theorem ER_od [Inhabited gh_] (h : ER b F M N a (o + 1)) (h0 : 0 ≤ o) : ER b F (up_ M 1 6 o) (up_ N 6 15 o) a o := by
  obtain ⟨e1, e2, e3, e4, e5, e6, e7, e8, e9, e10, e11, e12, e13, e14, e15⟩ := h
  refine ⟨gd_c (by rw [up_ne (by decide)]) e1, by rw [up_off (by decide)]; exact e2, by rw [up_off (by decide)]; exact e3, up_at, up_at, by omega, by rw [up_off (by decide)]; exact e7, by rw [up_off (by decide)]; exact e8, e9, fun hb => by rw [up_off (by decide)]; exact e10 hb, ?_, by rw [up_off (by decide)]; exact e12, by rw [up_off (by decide)]; exact e13, by rw [up_ne (by decide)]; exact e14, by rw [up_ne (by decide)]; exact e15⟩
  unfold NR
  rw [up_off (by decide), up_off (by decide), up_off (by decide), up_off (by decide), up_off (by decide), up_off (by decide)]
  exact e11
theorem M9_r [Inhabited gh_] {r : Nat} {mm : Nat} (h1 : r ≠ 1) (h2 : r ≠ 142) : M9_ b M o x4 mm r = M r := by
  unfold M9_; split
  · rw [up_ne h1, nX_ne h1]
  · rw [xpt_r h2, up_ne h1, nX_ne h1]
theorem M9_1 [Inhabited gh_] {mm : Nat} : M9_ b M o x4 mm 1 = up_ (nX_ M) 1 6 o 1 := by
  unfold M9_; split
  · rfl
  · rw [xpt_r (by decide)]
theorem M9_XF [Inhabited gh_] {mm : Nat} : XF M (M9_ b M o x4 mm) := ⟨fun r h => M9_r (fun e => h (by rw [e]; decide)) (fun e => h (by rw [e]; decide)), fun i h3 _ _ h6 _ => by rw [M9_1, up_off h6, nX_1 h3], fun i h => by rw [M9_r (by decide) (by decide)]⟩
end DT
end T152_dt
section T153_dt
/-! a decide: END and the semicolon -/
section DU
variable {d dq m : Nat} {b F : Int} {Mx Mq M N : mm_} {a o x1 x2 x3 x4 x5 x6 x7 x8 x9 x10 x11 x12 lo hi k0 kc dd k z w : Int} {K : Int → mm_ → Prop} {Kv : mm_ → Prop} {G : Int → mm_ → Prop} {Qt : qt_} {V : vv_}
/-- where a decide's END and semicolon end -/
def enT (κ : Int → Int) (a : Int) : Option Int := (tS κ 20 a).bind fun a9 => tS κ 259 a9
theorem N9_6 [Inhabited gh_] {i : Int} (h1 : i ≠ 12) (h2 : i ≠ 15) (h3 : i ≠ 102) : N9_ N o dd 6 i = N 6 i := by unfold N9_; rw [up_off h3, up_off h2, nx_6 h1, nx_6 h1]
theorem N9_r [Inhabited gh_] {r : Nat} (h : r ≠ 6) : N9_ N o dd r = N r := by unfold N9_; rw [up_ne h, up_ne h, nx_ne h, nx_ne h]
theorem N8_6 [Inhabited gh_] {i vv : Int} {mq : Nat} (h : i ≠ 103) : N8_ N o dd vv mq 6 i = N9_ N o dd 6 i := by unfold N8_; rw [up_off h, up_ne (by decide), qpt_r (by decide)]
theorem N8_103 [Inhabited gh_] {vv : Int} {mq : Nat} : N8_ N o dd vv mq 6 103 = vv := by unfold N8_; rw [up_at]
theorem y_161t [Inhabited gh_] {mm mq : Nat} (hT : Tks M N) (hE : ER b F M N a (o + 1)) (h2 : M 1 2 = 5) (h0 : 0 ≤ o) (hx : b = 1 → XHO lo hi mm M x4) (hlo : 0 ≤ lo) (hhi : hi ≤ 12000) (hq : QHO k0 kc mq N (N 224 dd)) (hk0 : 0 ≤ k0) (hkc : kc ≤ 1300) (hdd : 0 ≤ dd ∧ dd < 14) (h220 : 0 ≤ N 220 dd ∧ N 220 dd < 1300) (h102 : N 6 102 = dd + 1) (h225 : N 225 dd = x6) (h226 : b = 0 ∨ True → N 226 dd = x5) (hz : x6 = 0 ∨ x6 = 1) (hw : x5 = 0 ∨ x5 = 1)
    (hS : b = 1 → enT (M 70) a ≠ none)
    (hV : Cl_ wd0 (Tr_ wd0 pg0 (9 * m + 24)) V (ri_ fun v M5 => Tr_ wd0 pg0 (d + 3) 121 [.inr (.inr 1), .inl 59] M5 (rv_ (G v)) Qt) Qt m_161) (hW : Wk_ V)
    (hG : enT (M 70) a = some (a + 2) → ER b F (nX_ (M9_ b M o x4 mm)) (N8_ N o dd (if x5 = 0 ∨ x6 = 0 then 0 else 1) mq) (a + 2) o → (∀ (V' : vv_) (Kv : mm_ → Prop) (Qtq : qt_), Cl_ wd0 (Tr_ wd0 pg0 (dq + 14)) V' (rv_ Kv) Qtq m_303 → Wk_ V' → Kv (N8_ N o dd (if x5 = 0 ∨ x6 = 0 then 0 else 1) mq) → V' 132 [rr 6, ii dd, ii k, none] [] N) → G (if x5 = 0 ∨ x6 = 0 then 0 else 1) (nX_ (M9_ b M o x4 mm)))
    (hQ : b = 0 → ∀ Mx', XA M Mx' → (∀ (V' : vv_) (Kv : mm_ → Prop) (Qtq : qt_), Cl_ wd0 (Tr_ wd0 pg0 (dq + 14)) V' (rv_ Kv) Qtq m_303 → Wk_ V' → (∀ M', SQ Mx' N M' → Kv M') → V' 132 [rr 6, ii dd, ii k, none] [] N) → Qt 8 Mx') :
    Tr_ wd0 pg0 (9 * m + 24) 108 [.inr (.inr 1), .inl 20] M (rv_ fun M5 => V 321 [rr 1, ii x1, ii x2, ii x3, ii x4, ii x5, ii x6, ii x7, ii x8, ii x9, ii x10, ii x11, ii x12] [] (up_ M5 1 6 (w32 ((M5 1 6) - 1)))) Qt := by
  have ha := ER_a hE
  have h01 := bl01 hE
  have ho12 := hE.2.2.2.2.2.1
  have h226' := h226 (.inr trivial)
  refine y_108 hE (by decide) (fun hb e => by have := hS hb; unfold enT at this; rw [e] at this; exact this rfl) (fun k1 h12 hE9 => ?_) (fun hb k1 h12 => ?_) (fun hb k1 => ?_)
  rotate_left
  · have hsp := SQ_bf hE hb (k := 2) (by decide) QA_rf
    refine hQ hb _ (XF_XA fl_XF) fun V' Kv Qtq hV' hW' hk => b_303_132 (Tr_mono _) hV' hW' _ _ _ (j_250r hT hE hb (by decide) k1 h12 (q_244s hsp.1 (q_227s hsp.1 ?_)))
    rw [if_neg (by decide)]
    exact rv_i (hk _ hsp)
  · have hsp := SQ_bf hE hb (k := 1) (by decide) QA_rf
    refine hQ hb _ (XF_XA fl_XF) fun V' Kv Qtq hV' hW' hk => b_303_132 (Tr_mono _) hV' hW' _ _ _ (j_250w hT hE hb (by decide) k1 (q_244s hsp.1 (q_227s hsp.1 ?_)))
    rw [if_neg (by decide)]
    exact rv_i (hk _ hsp)
  have hT9 : Tks (nX_ M) (nx_ N) := Tks_c nX_XF nx_QF hT
  have e6 : nX_ M 1 6 = o + 1 := hE9.2.2.2.1
  rw [e6, show o + 1 - 1 = o by omega, w32_id (by omega) (by omega)]
  have hEo := ER_od hE9 h0
  have g53 : up_ (nX_ M) 1 6 o 5 3 = M 5 3 := by rw [up_ne (by decide), nX_ne (by decide)]
  have hE5 : ER b F (M9_ b M o x4 mm) (up_ (nx_ N) 6 15 o) (a + 1) o := ER_X3 hEo (by rw [M9_r (by decide) (by decide), up_ne (by decide), nX_ne (by decide)]) M9_1 (by rw [M9_r (by decide) (by decide)]; have := hEo.2.2.2.2.2.2.2.2.2.2.2.2.2; rw [g53] at this; exact this)
  have m70 : M9_ b M o x4 mm 70 = M 70 := M9_r (by decide) (by decide)
  have m71 : M9_ b M o x4 mm 71 = M 71 := M9_r (by decide) (by decide)
  have x71 : nX_ M 71 = M 71 := nX_ne (by decide)
  have x70 : nX_ M 70 = M 70 := nX_ne (by decide)
  have eS : enT (M 70) a = tS (M 70) 259 (a + 1) := by unfold enT; rw [tS_e k1 h12, Option.bind_some]
  rw [eS] at hS hG
  have main : Tr_ wd0 pg0 (d + 3) 121 [.inr (.inr 1), .inl 59] (M9_ b M o x4 mm) (rv_ (G (if x5 = 0 ∨ x6 = 0 then 0 else 1))) Qt := by
    refine y_121 hE5 (by decide) (fun hb => by rw [m70]; exact hS hb) (fun k2 h13 hE6 => ?_) (fun hb k2 h13 => ?_) (fun hb k2 => ?_)
    rotate_left
    · have hsp := SQ_bf (a := a + 1) hE9 hb (k := 2) (by decide) (QF_QA nx_QF)
      have e : flX_ (M9_ b M o x4 mm) 2 (a + 1) 1 4 = flX_ (nX_ M) 2 (a + 1) 1 4 ∧ flX_ (M9_ b M o x4 mm) 2 (a + 1) 1 5 = flX_ (nX_ M) 2 (a + 1) 1 5 := by
        unfold flX_; rw [up_off (by decide), up_at, up_off (by decide), up_at, up_at, up_at, m71, x71]; exact ⟨rfl, rfl⟩
      have hsp' : SQ (flX_ (M9_ b M o x4 mm) 2 (a + 1)) N (bf_ (nx_ N) 2 (nX_ M 71 (a + 1))) := ⟨hsp.1, hsp.2.1, by rw [e.1]; exact hsp.2.2.1, ⟨by rw [e.2]; exact hsp.2.2.2.1.1, fl_b7 hE5⟩, hsp.2.2.2.2⟩
      refine hQ hb _ (XF_XA (XF_tr M9_XF fl_XF)) fun V' Kv Qtq hV' hW' hk => b_303_132 (Tr_mono _) hV' hW' _ _ _ (j_250t hT hE (by decide) k1 h12 (j_244r hT9 hE9 hb (by decide) (by rw [x70, ← m70]; exact k2) h13 (q_227s hsp.1 ?_)))
      rw [if_neg (by decide)]
      exact rv_i (hk _ hsp')
    · have hsp := SQ_bf (a := a + 1) hE9 hb (k := 1) (by decide) (QF_QA nx_QF)
      have e : flX_ (M9_ b M o x4 mm) 1 (a + 1) 1 4 = flX_ (nX_ M) 1 (a + 1) 1 4 ∧ flX_ (M9_ b M o x4 mm) 1 (a + 1) 1 5 = flX_ (nX_ M) 1 (a + 1) 1 5 := by
        unfold flX_; rw [up_off (by decide), up_at, up_off (by decide), up_at, up_at, up_at, m71, x71]; exact ⟨rfl, rfl⟩
      have hsp' : SQ (flX_ (M9_ b M o x4 mm) 1 (a + 1)) N (bf_ (nx_ N) 1 (nX_ M 71 (a + 1))) := ⟨hsp.1, hsp.2.1, by rw [e.1]; exact hsp.2.2.1, ⟨by rw [e.2]; exact hsp.2.2.2.1.1, fl_b7 hE5⟩, hsp.2.2.2.2⟩
      refine hQ hb _ (XF_XA (XF_tr M9_XF fl_XF)) fun V' Kv Qtq hV' hW' hk => b_303_132 (Tr_mono _) hV' hW' _ _ _ (j_250t hT hE (by decide) k1 h12 (j_244w hT9 hE9 hb (by decide) (by rw [x70, ← m70]; exact k2) (q_227s hsp.1 ?_)))
      rw [if_neg (by decide)]
      exact rv_i (hk _ hsp')
    have k2' : M 70 (a + 1) = 259 := by rw [← m70]; exact k2
    have o15 : nx_ (nx_ N) 6 15 = o + 1 := by rw [nx_6 (by decide), nx_6 (by decide)]; exact hE.2.2.2.2.1
    have o102 : nx_ (nx_ N) 6 102 = dd + 1 := by rw [nx_6 (by decide), nx_6 (by decide)]; exact h102
    have hE10 : ER b F (nX_ (nX_ M)) (nx_ (nx_ N)) (a + 1 + 1) (o + 1) := (ER_go hE9 h13 (by rw [x70, k2']; decide)).1
    refine hG (by rw [tS_e k2' h13]; congr 1; omega) ?_ (fun V' Kv Qtq hV' hW' hk => b_303_132 (Tr_mono _) hV' hW' _ _ _ (j_250t hT hE (by decide) k1 h12 (j_244t hT9 hE9 (by decide) (by rw [x70]; exact k2') h13 (q_227g (ER_goq hE10) ?_))))
    · rw [show a + 2 = a + 1 + 1 by omega]
      refine ER_Q hE6 ?_ ?_ ?_ ?_ ?_
      · rw [N8_6 (by decide)]; unfold N9_; rw [up_off (by decide), up_off (by decide)]; unfold nx_; rw [up_at, up_at, up_at, up_off (by decide), up_at]
      · rw [N8_6 (by decide), N9_6 (by decide) (by decide) (by decide), nx_6 (by decide), up_off (by decide), nx_6 (by decide)]
      · rw [N8_6 (by decide), N9_6 (by decide) (by decide) (by decide), nx_6 (by decide), up_off (by decide), nx_6 (by decide)]
      · rw [N8_6 (by decide), nx_6 (by decide), up_at]; unfold N9_; rw [up_off (by decide), up_at]
      · rw [N8_6 (by decide), N9_6 (by decide) (by decide) (by decide), nx_6 (by decide), up_off (by decide), nx_6 (by decide)]
    · rw [if_pos rfl]
      refine ⟨hdd, ?_⟩
      rw [o15, o102, show o + 1 - 1 = o by omega, show dd + 1 - 1 = dd by omega, w32_id (by omega) (by omega), w32_id (by omega) (by omega)]
      have e224 : nx_ (nx_ N) 224 dd = N 224 dd := by rw [nx_ne (by decide), nx_ne (by decide)]
      rw [e224]
      have e9 : ∀ r : Nat, r ≠ 6 → N9_ N o dd r = N r := fun r h => N9_r h
      show V' 179 [rr 6, ii dd, ii k, ii (N 224 dd)] [] (N9_ N o dd)
      refine q_303_179 hk0 hkc hdd hV' hW' hz hw mq (QHO_c (k1 := 0) (Int.le_refl _) (fun j _ _ => by rw [e9 206 (by decide)]) mq hq) (by rw [e9 225 (by decide)]; exact h225) (by rw [e9 226 (by decide)]; exact h226') (by rw [e9 220 (by decide)]; exact h220) ?_
      rw [e9 220 (by decide), N9_6 (by decide) (by decide) (by decide)]
      exact hk
  rcases h01 with hb | hb
  · have e : M9_ b M o x4 mm = up_ (nX_ M) 1 6 o := by unfold M9_; rw [if_pos hb]
    rw [e] at main
    refine b_161_321 (Tr_mono _) hV hW _ _ _ _ _ _ _ _ _ _ _ _ _ fun _ => ?_
    rw [if_pos (by rw [up_off (by decide), nX_1 (by decide), hE.2.2.2.2.2.2.1]; exact hb)]
    by_cases c : x5 = 0
    · rw [if_pos c]; rw [if_pos (.inl c)] at main; exact ⟨.inl rfl, ri_i main⟩
    · rw [if_neg c]
      by_cases c2 : x6 = 0
      · rw [if_pos c2]; rw [if_pos (.inr c2)] at main; exact ⟨.inl rfl, ri_i main⟩
      · rw [if_neg c2]; rw [if_neg (by omega)] at main; exact ⟨.inr rfl, ri_i main⟩
  · have e : M9_ b M o x4 mm = xpt (M 5 3) mm (up_ (nX_ M) 1 6 o) x4 := by unfold M9_; rw [if_neg (by omega)]
    refine x_161_321 (d := 9 * m + 23) hlo hhi hV hW hz hw mm (XHO_c (Int.le_refl _) (Int.le_refl _) (fun j _ _ => by rw [up_ne (by decide), nX_ne (by decide)]) mm (hx hb)) (by rw [up_off (by decide), nX_1 (by decide), hE.2.2.2.2.2.2.1]; exact hb) (by rw [up_off (by decide), nX_1 (by decide)]; exact h2) ?_
    rw [g53, ← e]
    exact main
end DU
end T153_dt
section T154_e0
/-! a decide: its end without ELSE -/
section E0
variable {d dq m mm : Nat} {b F F' F2 : Int} {Mx Mq M N M' N' : mm_} {a a0 o st mk me x1 x2 x3 x4 x5 x7 x8 x9 x10 x11 x12 lo hi k0 kc v : Int} {K : Int → mm_ → Prop} {Kv : mm_ → Prop} {G : Int → mm_ → Prop} {Qt : qt_} {V : vv_}
theorem xpt_c [Inhabited gh_] : ∀ (n : Nat) {M M' : mm_} {h : Int}, XHO lo hi n M h → (∀ j, j < hi → M' 142 j = M 142 j) → ∀ j, j < hi → xpt v n M' h 142 j = xpt v n M h 142 j
  | 0, M, M', h, _, he, j, hj => he j hj
  | n + 1, M, M', h, hx, he, j, hj => by
    obtain ⟨hb, hd, hr⟩ := hx
    show xpt v n (up_ M' 142 h v) (M' 142 h) 142 j = xpt v n (up_ M 142 h v) (M 142 h) 142 j
    rw [he h hb.2]
    refine xpt_c n (XHO_u n hd hr) (fun i hi => ?_) j hj
    by_cases c : i = h
    · rw [c, up_at, up_at]
    · rw [up_of2 c, up_of2 c, he i hi]
theorem qpt_c [Inhabited gh_] : ∀ (n : Nat) {N N' : mm_} {g : Int}, N' 205 = N 205 → N' 206 = N 206 → qpt v n N' g 205 = qpt v n N g 205
  | 0, N, N', g, h5, _ => h5
  | n + 1, N, N', g, h5, h6 => by
    show qpt v n (up_ N' 205 g v) (N' 206 g) 205 = qpt v n (up_ N 205 g v) (N 206 g) 205
    rw [h6]
    refine qpt_c n ?_ (by rw [up_ne (by decide), up_ne (by decide), h6])
    funext i
    by_cases c : i = g
    · rw [c, up_at, up_at]
    · rw [up_of2 c, up_of2 c, h5]
theorem qpt_lo [Inhabited gh_] : ∀ (n : Nat) {N : mm_} {g j : Int}, QHO k0 kc n N g → j ≤ k0 ∨ kc ≤ j → qpt v n N g 205 j = N 205 j
  | 0, N, g, j, _, _ => rfl
  | n + 1, N, g, j, hx, hj => by
    obtain ⟨hb, hd, hr⟩ := hx
    show qpt v n (up_ N 205 g v) (N 206 g) 205 j = N 205 j
    rw [qpt_lo n (N := up_ N 205 g v) (QHO_c (k1 := 0) (Int.le_refl _) (fun j _ _ => by rw [up_ne (by decide)]) n hr) hj, up_of2 (by omega)]
theorem N8_r [Inhabited gh_] {o dd vv : Int} {mq r : Nat} (h6 : r ≠ 6) (h5 : r ≠ 205) (h8 : r ≠ 208) : N8_ N o dd vv mq r = N r := by
  unfold N8_; rw [up_ne h6, up_ne h8, qpt_r h5, N9_r h6]
theorem N8_205 [Inhabited gh_] {o dd vv : Int} {mq : Nat} : N8_ N o dd vv mq 205 = qpt (N 6 75) mq N (N 224 dd) 205 := by
  unfold N8_; rw [up_ne (by decide), up_ne (by decide)]
  exact qpt_c mq (N9_r (by decide)) (N9_r (by decide))
theorem N8_208 [Inhabited gh_] {o dd vv j : Int} {mq : Nat} : N8_ N o dd vv mq 208 j = if j = N 220 dd then N 6 75 else N 208 j := by
  unfold N8_; rw [up_ne (by decide)]
  by_cases c : j = N 220 dd
  · rw [if_pos c, c, up_at]
  · rw [if_neg c, up_of2 c, qpt_r (by decide), N9_r (by decide)]
theorem N8_QD [Inhabited gh_] {dd vv : Int} {mq : Nat} (h102 : True) : QD N (N8_ N o dd vv mq) := by
  refine ⟨fun r hr => N8_r (fun e => hr (by rw [e]; decide)) (fun e => hr (by rw [e]; decide)) (fun e => hr (by rw [e]; decide)), fun i hi => ?_⟩
  rw [N8_6 (nm_i hi (by decide)), N9_6 (nm_i hi (by decide)) (nm_i hi (by decide)) (nm_i hi (by decide))]
theorem N8_102 [Inhabited gh_] {dd vv : Int} {mq : Nat} : N8_ N o dd vv mq 6 102 = dd := by rw [N8_6 (by decide)]; unfold N9_; rw [up_at]
theorem N8_i [Inhabited gh_] {dd vv i : Int} {mq : Nat} (h1 : i ≠ 12) (h2 : i ≠ 15) (h3 : i ≠ 102) (h4 : i ≠ 103) : N8_ N o dd vv mq 6 i = N 6 i := by rw [N8_6 h4, N9_6 h1 h2 h3]
/-- the memories behind the end -/
theorem e_KB [Inhabited gh_] {mq : Nat} {vv : Int} {M0 N0 : mm_} (h : PRD b F F' Mx Mq M0 N0 a0 a o (o + 1) me) (xf : XF M0 M) (qd : QD N0 N) (kb : KB Mx Mq M0 N0 M N) (z5 : M0 5 3 ≤ M 5 3 ∧ M 5 3 ≤ M0 5 3 + 9 ∧ (b = 0 → M 5 3 = M0 5 3)) (z75 : N0 6 75 ≤ N 6 75 ∧ N 6 75 ≤ N0 6 75 + 1) (z104 : N 6 104 = N0 6 104) (z90 : N 6 90 = N0 6 90) (z7 : M 1 7 = M0 1 7)
    (hx : b = 1 → XHO (Mx 5 3) hi mm M x4) (hq : QHO (Mq 6 75) kc mq N (N 224 (Mq 6 102))) (h220 : N 220 (Mq 6 102) = Mq 6 75)
    (hE : ER b F' (nX_ (M9_ b M o x4 mm)) (N8_ N o (Mq 6 102) vv mq) (a + 2) o) : PRC b F F' Mx Mq (nX_ (M9_ b M o x4 mm)) (N8_ N o (Mq 6 102) vv mq) a0 (a + 2) o o me := by
  have pb := PRD_PB h
  obtain ⟨p1, p2, p3, p4, p5, p6⟩ := pb
  have h01 := bl01 hE
  have s5 : nX_ (M9_ b M o x4 mm) 5 3 = M 5 3 := by rw [nX_ne (by decide), M9_r (by decide) (by decide)]
  have s7 : nX_ (M9_ b M o x4 mm) 1 7 = M 1 7 := by rw [nX_1 (by decide), M9_1, up_off (by decide), nX_1 (by decide)]
  have i75 : N8_ N o (Mq 6 102) vv mq 6 75 = N 6 75 := N8_i (by decide) (by decide) (by decide) (by decide)
  have i104 : N8_ N o (Mq 6 102) vv mq 6 104 = N 6 104 := N8_i (by decide) (by decide) (by decide) (by decide)
  have i90 : N8_ N o (Mq 6 102) vv mq 6 90 = N 6 90 := N8_i (by decide) (by decide) (by decide) (by decide)
  refine PRD_C (PRD_s h hE (XF_tr xf (XF_tr M9_XF nX_XF)) (QD_tr qd (N8_QD trivial)) (KB_tr kb ⟨fun i x y => ?_, fun r i hr x y => ?_, fun i x y => ?_, fun i x y => ?_, fun r i hr x y => ?_, fun r i hr x y => ?_⟩) ⟨by omega, by rw [i75]; omega, by rw [i104]; omega, ⟨by omega, by omega, fun hb => by rw [s5, z5.2.2 hb]; exact p4.2.2 hb⟩, by rw [i90]; omega, by omega⟩ (by omega)) N8_102
  · rw [nX_ne (by decide)]
    unfold M9_
    rcases h01 with hb | hb
    · rw [if_pos hb, up_ne (by decide), nX_ne (by decide)]
    · rw [if_neg (by omega), xpt_hi mm (XHO_c (M := M) (Int.le_refl _) (Int.le_refl _) (fun j _ _ => by rw [up_ne (by decide), nX_ne (by decide)]) mm (hx hb)) (.inr y), up_ne (by decide), nX_ne (by decide)]
  · by_cases c : r = 205
    · rw [c, N8_205, qpt_lo mq hq (.inl (by omega))]
    · by_cases c2 : r = 208
      · rw [c2, N8_208, if_neg (by omega)]
      · rw [N8_r (fun e => absurd hr (by rw [e]; decide)) c c2]
  · rw [N8_r (by decide) (by decide) (by decide)]
  · rw [N8_r (by decide) (by decide) (by decide), N8_r (by decide) (by decide) (by decide)]; exact ⟨rfl, rfl⟩
  · rw [N8_r (fun e => absurd hr (by rw [e]; decide)) (fun e => absurd hr (by rw [e]; decide)) (fun e => absurd hr (by rw [e]; decide))]
  · rw [N8_r (fun e => absurd hr (by rw [e]; decide)) (fun e => absurd hr (by rw [e]; decide)) (fun e => absurd hr (by rw [e]; decide))]
end E0
end T154_e0
section T155_e0
/-! a decide: its end without ELSE, joined -/
section E1
variable {d dq m mm : Nat} {b F F' F2 : Int} {Mx Mq M N M' N' : mm_} {a a0 o st mk me x1 x2 x3 x4 x5 x7 x8 x9 x10 x11 x12 lo hi k0 kc v : Int} {K : Int → mm_ → Prop} {Kv : mm_ → Prop} {G : Int → mm_ → Prop} {Qt : qt_} {V : vv_} {T : vv_ → Prop}
theorem y_161e0 [Inhabited gh_] (hp : PS b F Mx Mq a0 o me) (h : DHS b F F' Mx Mq M N a0 a o me x2 x3 x4 x5 mm) (hl : 0 ≤ N 222 (Mq 6 102)) (hq3 : QP3 dq st mk me T N (Mq 6 102)) (hnR : ¬ isR (Mx 70) a) (h19 : Mx 70 a ≠ 19)
    (hS : b = 1 → enT (Mx 70) a ≠ none)
    (hV : Cl_ wd0 (Tr_ wd0 pg0 (9 * m + 24)) V (ri_ fun v M5 => Tr_ wd0 pg0 (d + 3) 121 [.inr (.inr 1), .inl 59] M5 (rv_ (G v)) Qt) Qt m_161) (hW : Wk_ V)
    (hG : ∀ M6 N6, PRC b F F' Mx Mq M6 N6 a0 (a + 2) o o me → SEM b Mx Mq M6 N6 0 → Mq 6 75 < N6 6 75 → N6 6 103 = 0 → enT (Mx 70) a = some (a + 2) → LKP b M M6 ∧ lc_ b M6 = lc_ b M → RTq dq st mk me T 0 N6 → G 0 M6)
    (hQ : b = 0 → ∀ Mx', XA Mx Mx' → STT dq T Mq Mx' → Qt 8 Mx') :
    Tr_ wd0 pg0 (9 * m + 24) 108 [.inr (.inr 1), .inl 20] (pX_ M 44) (rv_ fun M5 => V 321 [rr 1, ii x1, ii x2, ii x3, ii x4, ii x5, ii 0, ii x7, ii x8, ii x9, ii x10, ii x11, ii x12] [] (up_ M5 1 6 (w32 ((M5 1 6) - 1)))) Qt := by
  have dq2 := hp.2.2.2.2.2.2.2.1
  have ho := hp.1.2.2.1.2.2.2.2.2.1
  have hps : PS b F' M N a (o + 1) me := PS_D hp h.1 (by omega) ⟨by have := h.2.1; omega, by have := h.2.1; omega⟩
  obtain ⟨⟨hT, hVT, hE, t4, t5, t6⟩, hG', hL, hst, u, w7, r90, d102, msk, c19, s53⟩ := hps
  have h' := h
  obtain ⟨d1, d2, ⟨d3, d4, d5, d6, d7, d8, d9, d10, d11⟩, d12, d13, d14, d15, d16⟩ := h'
  have m8 : M 1 8 = b := hE.2.2.2.2.2.2.1
  have h01 := bl01 hE
  have st0 := ER_st hE
  have st1 := (ER_st hp.1.2.2.1).1
  have ha := ER_a hE
  have q75 := hp.1.2.2.2.1
  have q104 := hp.1.2.2.2.2.1
  have q90 := hp.2.2.2.2.2.2.1
  have xM := PRD_X d1
  have qM := PRD_Q d1
  have m70 : M 70 = Mx 70 := xM.1 70 (by decide)
  have p70 : pX_ M 44 70 = Mx 70 := by rw [pX_r (by decide) (by decide)]; exact m70
  have hE5 : ER b F' (pX_ M 44) N a (o + 1) := ER_pX hE (by omega)
  have hT5 : Tks (pX_ M 44) N := Tks_c pX_XF QF_rf hT
  have c142 : ∀ j, j < M 5 3 → pX_ M 44 142 j = M 142 j := fun j hj => by
    rcases h01 with hb | hb
    · rw [pX_0 (by omega)]
    · rw [pX_v (by omega), up_ne (by decide), up_of2 (by omega)]
  have c53 : M 5 3 ≤ pX_ M 44 5 3 ∧ pX_ M 44 5 3 ≤ M 5 3 + 1 ∧ (b = 0 → pX_ M 44 5 3 = M 5 3) ∧ (b = 1 → pX_ M 44 5 3 = M 5 3 + 1) := by
    rcases h01 with hb | hb
    · rw [pX_0 (by omega)]; exact ⟨by omega, by omega, fun _ => rfl, fun h => by omega⟩
    · rw [pX_v (by omega), up_at]; exact ⟨by omega, by omega, fun h => by omega, fun _ => rfl⟩
  have hx5 : b = 1 → XHO (Mx 5 3) (M 5 3) mm (pX_ M 44) x4 := fun hb => XHO_c (Int.le_refl _) (Int.le_refl _) (fun j _ hj => c142 j hj) mm (d15 hb)
  obtain ⟨k, hq3⟩ := hq3
  have toQ : ∀ (V : vv_) (Kv : mm_ → Prop) (Qt : qt_), Cl_ wd0 (Tr_ wd0 pg0 (dq + 15)) V (rv_ Kv) Qt m_260 → Wk_ V → (∀ V' : vv_, Cl_ wd0 (Tr_ wd0 pg0 (dq + 14)) V' (rv_ fun M1 => V 77 (LSz st mk me 0) [] M1) Qt m_303 → Wk_ V' → V' 132 [rr 6, ii (Mq 6 102), ii k, none] [] N) → T V := by
    intro V Kv Qtq hV hW hk
    refine hq3 V Kv Qtq hV hW fun V' hV' hW' => j_292 hT hE (fun c => absurd (by rw [m70] at c; exact c) hnR) (fun _ => ?_)
    rw [if_pos rfl]
    refine b_303_83 (Tr_mono _) hV' hW' _ _ _ ⟨by omega, fun _ => ?_⟩
    rw [if_pos d9]
    refine j_228f hT hE (by decide) (by rw [m70]; exact h19) ?_
    rw [if_pos rfl]
    exact hk V' hV' hW'
  refine y_161t (dq := dq) (lo := Mx 5 3) (hi := M 5 3) (k0 := Mq 6 75) (kc := N 6 75) (dd := Mq 6 102) (k := k) (mm := mm) (mq := mm) hT5 hE5 (by rw [pX_1]; exact hVT.1) (by omega) hx5 st1 (by omega) d14 q75.1 (by omega) (by omega) (by rw [d3]; omega) d2 d9 (fun _ => d10) (.inl rfl) d11 (fun hb => by rw [p70]; exact hS hb) hV hW (fun hen hE6 hq => ?_) (fun hb Mx' hx hq => ?_)
  rotate_left
  · exact hQ hb Mx' (XA_tr xM (XA_tr (XF_XA pX_XF) hx)) (fun V Kv Qtq hV hW hk => toQ V Kv Qtq hV hW fun V' hV' hW' => hq V' _ _ hV' hW' (fun M' hsq => q_260s77 hV hW (SQ_q qM hsq) hk))
  have ev : (if x5 = 0 ∨ (0 : Int) = 0 then (0 : Int) else 1) = 0 := if_pos (.inr rfl)
  rw [ev] at hE6 hq ⊢
  rw [p70] at hen
  have P := e_KB (hi := M 5 3) (kc := N 6 75) d1 pX_XF QD_rf ⟨fun i x y => c142 i (by have := (PRD_PB d1).2.2.2.1.1; omega), fun _ _ _ _ _ => rfl, fun _ _ _ => rfl, fun _ _ _ => ⟨rfl, rfl⟩, fun _ _ _ _ _ => rfl, fun _ _ _ _ _ => rfl⟩ ⟨c53.1, by omega, c53.2.2.1⟩ (by omega) rfl rfl (by rw [pX_1]) hx5 d14 d3 hE6
  have xf6 : XF M (nX_ (M9_ b (pX_ M 44) o x4 mm)) := XF_tr pX_XF (XF_tr M9_XF nX_XF)
  refine hG _ _ P ?_ (by rw [N8_i (by decide) (by decide) (by decide) (by decide)]; exact d12) N8_103 hen (LKP_F xf6) (fun V Kv Qtq hV hW hk => toQ V Kv Qtq hV hW fun V' hV' hW' => hq V' _ _ hV' hW' hk)
  intro hb h0
  have i75 : N8_ N o (Mq 6 102) 0 mm 6 75 = N 6 75 := N8_i (by decide) (by decide) (by decide) (by decide)
  have i104 : N8_ N o (Mq 6 102) 0 mm 6 104 = N 6 104 := N8_i (by decide) (by decide) (by decide) (by decide)
  have i90 : N8_ N o (Mq 6 102) 0 mm 6 90 = N 6 90 := N8_i (by decide) (by decide) (by decide) (by decide)
  rw [N8_i (by decide) (by decide) (by decide) (by decide)] at h0
  obtain ⟨g0, hD⟩ := d16 hb h0
  have e53 : nX_ (M9_ b (pX_ M 44) o x4 mm) 5 3 = M 5 3 + 1 := by rw [nX_ne (by decide), M9_r (by decide) (by decide)]; exact c53.2.2.2 hb
  have e19 : nX_ (M9_ b (pX_ M 44) o x4 mm) 1 19 = M 1 19 := xf6.2.1 19 (by decide) (by decide) (by decide) (by decide) (by decide)
  have e142 : nX_ (M9_ b (pX_ M 44) o x4 mm) 142 = xpt (M 5 3 + 1) mm (up_ (nX_ (pX_ M 44)) 1 6 o) x4 142 := by
    rw [nX_ne (by decide)]; unfold M9_; rw [if_neg (by omega), c53.2.2.2 hb]
  have xh := d15 hb
  have c142' : ∀ j, j < M 5 3 → up_ (nX_ (pX_ M 44)) 1 6 o 142 j = M 142 j := fun j hj => by rw [up_ne (by decide), nX_ne (by decide)]; exact c142 j hj
  have xlt : x4 < M 5 3 := by
    cases mm with
    | zero => have : x4 = -1 := xh; omega
    | succ n => exact xh.1.2
  refine ⟨g0, ?_, ?_⟩
  · rw [i75, e53, e19]
    refine DS_e0 hD st1 ⟨q75.1, d12⟩ hl i104 ⟨q90.1, i90⟩ (fun j _ hj => ?_) ?_ (fun r j hr x y h5 h8 => ?_) (fun j x y => by rw [N8_205]) (by rw [N8_208, if_pos d3.symm]) d13 (fun j _ _ => by rw [N8_r (by decide) (by decide) (by decide)]) (fun j _ _ => by rw [N8_r (by decide) (by decide) (by decide), N8_r (by decide) (by decide) (by decide)]; exact ⟨rfl, rfl⟩) ?_ (fun j _ _ => ?_) (fun l _ _ => ?_)
    · rw [e142]; exact xpt_c mm xh c142' j hj
    · rw [e142, xpt_hi mm (XHO_c (M := M) (lo := Mx 5 3) (hi := M 5 3) (Int.le_refl _) (Int.le_refl _) (fun j _ hj => c142' j hj) mm xh) (.inl xlt), up_ne (by decide), nX_ne (by decide), pX_v (by omega), up_ne (by decide), up_at]
    · by_cases c2 : r = 208
      · rw [c2, N8_208, if_neg (by rcases h8 with q | q; · exact absurd c2 q
                                   · omega)]
      · rw [N8_r (fun e => absurd hr (by rw [e]; decide)) h5 c2]
    · refine ⟨⟨?_, ?_, ?_, ?_, ?_⟩, ?_, ?_, ?_, ?_, ?_, ?_, ?_, ?_⟩
      all_goals first
        | exact N8_r (by decide) (by decide) (by decide)
        | exact N8_i (by decide) (by decide) (by decide) (by decide)
        | rw [N8_r (by decide) (by decide) (by decide)]
    · rw [N8_r (by decide) (by decide) (by decide), N8_r (by decide) (by decide) (by decide), N8_r (by decide) (by decide) (by decide), N8_r (by decide) (by decide) (by decide)]; exact ⟨rfl, rfl, rfl, rfl⟩
    · rw [XF_70 xf6 (by decide) (by decide) (by decide), N8_r (by decide) (by decide) (by decide)]; exact ⟨rfl, rfl⟩
  · obtain ⟨px, L, c1, t, pb, lb, ⟨g3, g6, g5, g7⟩, hall, hh, he, lab, sb⟩ := hD
    have key : ∀ (w s : Int), w ≠ 7 → ((∃ k, (Mq 6 75 ≤ k ∧ k < N8_ N o (Mq 6 102) 0 mm 6 75) ∧ N8_ N o (Mq 6 102) 0 mm 203 k = w ∧ N8_ N o (Mq 6 102) 0 mm 205 k = s) ↔ (∃ k, (Mq 6 75 ≤ k ∧ k < N 6 75) ∧ N 203 k = w ∧ N 205 k = s)) := by
      intro w s hw
      rw [i75, N8_r (by decide) (by decide) (by decide), N8_205]
      have q205 := qpt_205 (v := N 6 75) mm (N := N) (g := N 224 (Mq 6 102))
      have nk : ∀ k, N 203 k = w → ¬ INH N mm (N 224 (Mq 6 102)) k := fun k e hi => by have := (HOL_i mm hh k hi).1; omega
      constructor
      · rintro ⟨k, h1, h2, h3⟩
        rw [q205.2 k (nk k h2)] at h3
        exact ⟨k, h1, h2, h3⟩
      · rintro ⟨k, h1, h2, h3⟩
        exact ⟨k, h1, h2, by rw [q205.2 k (nk k h2)]; exact h3⟩
    have y21 := xf6.2.1 21 (by decide) (by decide) (by decide) (by decide) (by decide)
    have y23 := xf6.2.1 23 (by decide) (by decide) (by decide) (by decide) (by decide)
    refine ⟨fun q x y => ?_, fun q x y => ?_⟩
    · rw [y21, key 2 q (by decide)]; exact sb.1 q x y
    · rw [y23, key 5 q (by decide)]; exact sb.2 q x y
end E1
end T155_e0

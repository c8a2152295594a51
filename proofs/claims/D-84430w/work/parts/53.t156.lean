section T156_e1
/-! a decide: its end with ELSE: what it means -/
def EPQ (Mq N Np : mm_) : Prop := (∀ r : Nat, r ≠ 6 → r ≠ 207 → r ≠ 225 → Np r = N r) ∧ (∀ i : Int, i ≠ 12 → Np 6 i = N 6 i) ∧ Np 207 (Mq 6 75) = N 6 75 ∧ (∀ j, j ≠ Mq 6 75 → Np 207 j = N 207 j) ∧ Np 225 (Mq 6 102) = 1 ∧ (∀ j, j ≠ Mq 6 102 → Np 225 j = N 225 j)
def EPX (b : Int) (M Mp : mm_) : Prop := XF M Mp ∧ Mp 1 7 = M 1 7 ∧ (b = 0 → Mp 5 3 = M 5 3) ∧ (b = 1 → Mp 5 3 = M 5 3 + 1 ∧ Mp 142 (M 5 3) = 44) ∧ (∀ j, j < M 5 3 → Mp 142 j = M 142 j)
section E2
variable {d dq m mm : Nat} {b F F' F2 : Int} {Mx Mq M N M' N' Mp Np M3 N3 : mm_} {a a0 a2 a3 o st mk me x1 x2 x3 x4 x5 lo hi k0 kc v y : Int}
theorem qpt_k [Inhabited gh_] (h0 : 0 ≤ k0) : ∀ (n : Nat) {N N' : mm_} {g : Int}, QHO k0 kc n N g → (∀ j, 0 ≤ j → j < kc → N' 205 j = N 205 j) → (∀ j, 0 ≤ j → j < kc → N' 206 j = N 206 j) → ∀ j, 0 ≤ j → j < kc → qpt v n N' g 205 j = qpt v n N g 205 j
  | 0, N, N', g, _, h5, _, j, x, y => h5 j x y
  | n + 1, N, N', g, hx, h5, h6, j, x, y => by
    obtain ⟨hb, hd, hr⟩ := hx
    show qpt v n (up_ N' 205 g v) (N' 206 g) 205 j = qpt v n (up_ N 205 g v) (N 206 g) 205 j
    rw [h6 g (by omega) hb.2]
    refine qpt_k h0 n (QHO_c (k1 := 0) (Int.le_refl _) (fun j _ _ => by rw [up_ne (by decide)]) n hr) (fun i x y => ?_) (fun i x y => by rw [up_ne (by decide), up_ne (by decide)]; exact h6 i x y) j x y
    by_cases c : i = g
    · rw [c, up_at, up_at]
    · rw [up_of2 c, up_of2 c, h5 i x y]
theorem xpt_k [Inhabited gh_] (h0 : 0 ≤ lo) : ∀ (n : Nat) {M M' : mm_} {h : Int}, XHO lo hi n M h → (∀ j, 0 ≤ j → j < hi → M' 142 j = M 142 j) → ∀ j, 0 ≤ j → j < hi → xpt v n M' h 142 j = xpt v n M h 142 j
  | 0, M, M', h, _, he, j, x, hj => he j x hj
  | n + 1, M, M', h, hx, he, j, x, hj => by
    obtain ⟨hb, hd, hr⟩ := hx
    show xpt v n (up_ M' 142 h v) (M' 142 h) 142 j = xpt v n (up_ M 142 h v) (M 142 h) 142 j
    rw [he h (by omega) hb.2]
    refine xpt_k h0 n (XHO_u n hd hr) (fun i x hi => ?_) j x hj
    by_cases c : i = h
    · rw [c, up_at, up_at]
    · rw [up_of2 c, up_of2 c, he i x hi]
theorem e1_SEM [Inhabited gh_] (hp : PS b F Mx Mq a0 o me) (h : DHS b F F' Mx Mq M N a0 a o me x2 x3 x4 x5 mm) (hl : 0 ≤ N 222 (Mq 6 102)) (hX : EPX b M Mp) (hQ : EPQ Mq N Np) (hP : PRD b F F' Mx Mq Mp Np a0 a2 o (o + 1) me) (hR : PRC b F' F2 Mp Np M3 N3 a2 a3 (o + 1) (o + 1) me) (hM : SEM b Mp Np M3 N3 v) (hv : v = 0 ∨ v = 1)
    (hy : y = if x5 = 0 ∨ v = 0 then 0 else 1) : SEM b Mx Mq (nX_ (M9_ b M3 o x4 mm)) (N8_ (N4_ N3 (Mq 6 102) y) o (Mq 6 102) y (mm + 1)) y := by
  intro hb h0
  have B4 := N4_BQ (N := N3) (dd := Mq 6 102) (x := y)
  generalize N4_ N3 (Mq 6 102) y = N4 at *
  obtain ⟨z1, z2, z3, z4, z5, z6, z7, z8, z9, z10⟩ := B4
  rw [N8_i (by decide) (by decide) (by decide) (by decide), z2 13 (by decide) (by decide)] at h0
  obtain ⟨d1, d2, ⟨d3, d4, d5, d6, d7, d8, d9, d10, d11⟩, d12, d13, d14, d15, d16⟩ := h
  obtain ⟨q1, q2, q3, q4, q5, q6⟩ := hQ
  obtain ⟨xf, x7, xb0, xb1, x142⟩ := hX
  have xb := xb1 hb
  obtain ⟨hp0, hsg, hsb⟩ := hM hb h0
  rw [q2 13 (by decide)] at hp0
  obtain ⟨hq0, hD⟩ := d16 hb hp0
  have tcp3 := PRC_tc hb hR (T := Mq 6 61)
  have P3 := PRD_tr hp.1.2.2.2.1.1 (by rw [q2 102 (by decide)]; omega) hP hR
  obtain ⟨p1, p2, p3, p4, p5, p6⟩ := PRD_PB d1
  obtain ⟨f1, e1, ⟨xx, qq⟩, ⟨⟨c1, c2, c3, c4, c5, c6, c7⟩, w1, w2, w3, w4⟩, ⟨s1, s2, s3, s4, s5, s6⟩, lbt, msk, t1, t2, t3⟩ := hR
  have a75 := hp.1.2.2.2.1
  have a90 := hp.2.2.2.2.2.2.1
  have a102 := hp.2.2.2.2.2.2.2.1.1
  have a104 := hp.1.2.2.2.2.1
  have a53 := (ER_st hp.1.2.2.1).1
  have n75 : Np 6 75 = N 6 75 := q2 75 (by decide)
  have n90 : Np 6 90 = N 6 90 := q2 90 (by decide)
  have n104 : Np 6 104 = N 6 104 := q2 104 (by decide)
  have n102 : Np 6 102 = Mq 6 102 + 1 := by rw [q2 102 (by decide)]; exact d2
  have n61 : Np 6 61 = Mq 6 61 := by rw [q2 61 (by decide)]; exact (PRD_Q d1).2 61 (by decide)
  have m19 : Mp 1 19 = M 1 19 := xf.2.1 19 (by decide) (by decide) (by decide) (by decide) (by decide)
  have hT : Mx 1 18 = Mq 6 61 := hp.1.2.1.2.1.symm
  have p18 : Mp 1 18 = Mx 1 18 := (PRD_X hP).2.1 18 (by decide)
  have lc1 : lc_ b Mp = Mp 1 19 := by unfold lc_; rw [if_neg (by omega)]
  have lc3 : lc_ b M3 = M3 1 19 := by unfold lc_; rw [if_neg (by omega)]
  rw [lc1, lc3] at t1
  rw [n61, n75, n90, m19, xb.1] at hsg
  rw [n75] at hsb
  -- the last memories
  have i75 : N8_ N4 o (Mq 6 102) y (mm + 1) 6 75 = N3 6 75 + 1 := by rw [N8_i (by decide) (by decide) (by decide) (by decide)]; exact z3
  have i104 : N8_ N4 o (Mq 6 102) y (mm + 1) 6 104 = N3 6 104 := by rw [N8_i (by decide) (by decide) (by decide) (by decide)]; exact z2 104 (by decide) (by decide)
  have i90 : N8_ N4 o (Mq 6 102) y (mm + 1) 6 90 = N3 6 90 := by rw [N8_i (by decide) (by decide) (by decide) (by decide)]; exact z2 90 (by decide) (by decide)
  have xf6 : XF M3 (nX_ (M9_ b M3 o x4 mm)) := XF_tr M9_XF nX_XF
  have e53 : nX_ (M9_ b M3 o x4 mm) 5 3 = M3 5 3 := by rw [nX_ne (by decide), M9_r (by decide) (by decide)]
  have e19 : nX_ (M9_ b M3 o x4 mm) 1 19 = M3 1 19 := xf6.2.1 19 (by decide) (by decide) (by decide) (by decide) (by decide)
  have e142 : nX_ (M9_ b M3 o x4 mm) 142 = xpt (M3 5 3) mm (up_ (nX_ M3) 1 6 o) x4 142 := by
    rw [nX_ne (by decide)]; unfold M9_; rw [if_neg (by omega)]
  have xh := d15 hb
  have u142 : up_ (nX_ M3) 1 6 o 142 = M3 142 := by rw [up_ne (by decide), nX_ne (by decide)]
  have c142' : ∀ j, 0 ≤ j → j < M 5 3 → M3 142 j = M 142 j := fun j x hj => by rw [c1 j x (by omega)]; exact x142 j hj
  have xlt : x4 < M 5 3 := by
    cases mm with
    | zero => have : x4 = -1 := xh; omega
    | succ n => exact xh.1.2
  have xh3 : XHO (Mx 5 3) (M 5 3) mm (up_ (nX_ M3) 1 6 o) x4 := XHO_c (M := M) (Int.le_refl _) (Int.le_refl _) (fun j x hj => by rw [u142]; exact c142' j (by omega) hj) mm xh
  have hi142 : ∀ j, M 5 3 ≤ j → nX_ (M9_ b M3 o x4 mm) 142 j = M3 142 j := fun j hj => by rw [e142, xpt_hi mm xh3 (.inl (by omega)), u142]
  -- Q's ops
  have oN : ∀ r j, r ∈ opL → 0 ≤ j → j < N 6 75 → (r ≠ 207 ∨ j ≠ Mq 6 75) → N4 r j = N r j := fun r j hr x hj hn => by
    rw [z5 r j hr (by omega), c2 r j hr x (by omega)]
    by_cases c : r = 207
    · rw [c]; exact q4 j (by omega)
    · rw [q1 r (fun e => absurd hr (by rw [e]; decide)) c (fun e => absurd hr (by rw [e]; decide))]
  have o224 : N3 224 (Mq 6 102) = N 224 (Mq 6 102) := by rw [c6 224 _ (by decide) (by omega) (by omega), q1 224 (by decide) (by decide) (by decide)]
  have o220 : N4 220 (Mq 6 102) = Mq 6 75 := by rw [z1 220 (by decide), c6 220 _ (by decide) (by omega) (by omega), q1 220 (by decide) (by decide) (by decide)]; exact d3
  have j205 : N8_ N4 o (Mq 6 102) y (mm + 1) 205 = qpt (N3 6 75 + 1) mm (up_ N4 205 (N3 6 75) (N3 6 75 + 1)) (N 224 (Mq 6 102)) 205 := by
    rw [N8_205, z3, z9]
    show qpt (N3 6 75 + 1) mm (up_ N4 205 (N3 6 75) (N3 6 75 + 1)) (N4 206 (N3 6 75)) 205 = _
    rw [z8, o224]
  have qh : QHO (Mq 6 75) (N 6 75) mm (up_ N4 205 (N3 6 75) (N3 6 75 + 1)) (N 224 (Mq 6 102)) := QHO_c (k1 := 0) (Int.le_refl _) (fun j x hj => by rw [up_ne (by decide)]; exact oN 206 j (by decide) (by omega) hj (.inl (by decide))) mm d14
  have j205a : ∀ j, 0 ≤ j → j < N 6 75 → N8_ N4 o (Mq 6 102) y (mm + 1) 205 j = qpt (N3 6 75 + 1) mm N (N 224 (Mq 6 102)) 205 j := fun j x hj => by
    rw [j205]
    exact qpt_k a75.1 mm d14 (fun i x y => by rw [up_of2 (by omega)]; exact oN 205 i (by decide) x y (.inl (by decide))) (fun i x y => by rw [up_ne (by decide)]; exact oN 206 i (by decide) x y (.inl (by decide))) j x hj
  have j205b : ∀ j, N 6 75 ≤ j → j ≠ N3 6 75 → N8_ N4 o (Mq 6 102) y (mm + 1) 205 j = N3 205 j := fun j x hj => by
    rw [j205, qpt_lo mm qh (.inr x), up_of2 hj, z5 205 j (by decide) hj]
  have j205c : N8_ N4 o (Mq 6 102) y (mm + 1) 205 (N3 6 75) = N3 6 75 + 1 := by
    rw [j205, qpt_lo mm qh (.inr (by omega)), up_at]
  have j208 : ∀ j, j ≠ Mq 6 75 → N8_ N4 o (Mq 6 102) y (mm + 1) 208 j = N4 208 j := fun j hj => by rw [N8_208, o220, if_neg hj]
  have jr : ∀ r : Nat, r ≠ 6 → r ≠ 205 → r ≠ 208 → N8_ N4 o (Mq 6 102) y (mm + 1) r = N4 r := fun r h6 h5 h8 => N8_r h6 h5 h8
  have j6 : ∀ i : Int, i ≠ 12 → i ≠ 15 → i ≠ 102 → i ≠ 103 → N8_ N4 o (Mq 6 102) y (mm + 1) 6 i = N4 6 i := fun i h1 h2 h3 h4 => N8_i h1 h2 h3 h4
  generalize N8_ N4 o (Mq 6 102) y (mm + 1) = N6 at *
  generalize nX_ (M9_ b M3 o x4 mm) = M6 at *
  have tc36 : tc_ (Mq 6 61) N3 N6 := by
    refine ⟨⟨?_, ?_, ?_, ?_, ?_⟩, ?_, ?_, ?_, ?_, ?_, ?_, ?_, ?_⟩
    all_goals first
      | exact (jr _ (by decide) (by decide) (by decide)).trans (z1 _ (by decide))
      | exact (j6 _ (by decide) (by decide) (by decide) (by decide)).trans (z2 _ (by decide) (by decide))
      | rw [jr _ (by decide) (by decide) (by decide), z1 _ (by decide)]
  have tcN : tc_ (Mq 6 61) N N6 := by
    obtain ⟨⟨u1, u2, u3, u4, u5⟩, u6, u7, u8, u9, u10, u11, u12, u13⟩ := tcp3
    obtain ⟨⟨v1, v2, v3, v4, v5⟩, v6, v7, v8, v9, v10, v11, v12, v13⟩ := tc36
    have r6 : ∀ r : Nat, r ≠ 6 → r ≠ 207 → r ≠ 225 → Np r = N r := q1
    exact ⟨⟨by rw [v1, u1, r6 171 (by decide) (by decide) (by decide)], by rw [v2, u2, r6 173 (by decide) (by decide) (by decide)], by rw [v3, u3, r6 182 (by decide) (by decide) (by decide)], by rw [v4, u4, r6 183 (by decide) (by decide) (by decide)], by rw [v5, u5, r6 184 (by decide) (by decide) (by decide)]⟩, by rw [v6, u6, r6 156 (by decide) (by decide) (by decide)], by rw [v7, u7, r6 157 (by decide) (by decide) (by decide)], by rw [v8, u8, r6 170 (by decide) (by decide) (by decide)], by rw [v9, u9, r6 174 (by decide) (by decide) (by decide)], by rw [v10, u10, r6 175 (by decide) (by decide) (by decide)], by rw [v11, u11]; exact q2 17 (by decide), by rw [v12, u12]; exact q2 18 (by decide), by rw [v13, u13]; exact q2 19 (by decide)⟩
  have sg6 : SEG M6 N6 (Mq 6 61) (N 6 75) (N3 6 75) (M 5 3 + 1) (M3 5 3) (N 6 90) (N6 6 90) (N6 6 104) (M 1 19) (M6 1 19) v := by
    rw [i90, e19, i104]
    refine SEG_c hsg (fun j x _ => hi142 j (by omega)) (fun j _ _ => ?_) (fun r j hr x hj => ?_) (fun j _ _ => by rw [jr 209 (by decide) (by decide) (by decide), z1 209 (by decide)]) (fun j _ _ => by rw [jr 227 (by decide) (by decide) (by decide), jr 228 (by decide) (by decide) (by decide), z1 227 (by decide), z1 228 (by decide)]; exact ⟨rfl, rfl⟩) tc36 (Int.le_refl _) (fun l _ _ => by rw [XF_70 xf6 (by decide) (by decide) (by decide), jr 188 (by decide) (by decide) (by decide), z1 188 (by decide)]; exact ⟨rfl, rfl⟩)
    · rw [jr 216 (by decide) (by decide) (by decide), jr 217 (by decide) (by decide) (by decide), jr 218 (by decide) (by decide) (by decide), jr 219 (by decide) (by decide) (by decide), z1 216 (by decide), z1 217 (by decide), z1 218 (by decide), z1 219 (by decide)]; exact ⟨rfl, rfl, rfl, rfl⟩
    · by_cases c5 : r = 205
      · rw [c5]; exact j205b j x (by omega)
      · by_cases c8 : r = 208
        · rw [c8, j208 j (by omega)]; exact z5 208 j (by decide) (by omega)
        · rw [jr r (fun e => absurd hr (by rw [e]; decide)) c5 c8]; exact z5 r j hr (by omega)
  refine ⟨hq0, ?_, ?_⟩
  · rw [i75, e53, hy]
    refine DS_e1 hD d11 hv a53 ⟨a75.1, d12⟩ hl (by omega) ⟨a90.1, by omega⟩ (by omega) (by omega) (fun j x hj => ?_) ?_ (fun r j hr x hj h5 h8 => ?_) j205a ?_ (fun j x hj => ?_) (fun j x hj => ?_) tcN (fun j x hj => ?_) (fun l x hj => ?_) sg6 ?_ j205c
    · rw [e142]; exact xpt_k a53 mm xh (fun i x hi => by rw [u142]; exact c142' i x hi) j x hj
    · rw [hi142 _ (Int.le_refl _), c1 _ (by omega) (by omega)]; exact xb.2
    · by_cases c8 : r = 208
      · rw [c8, j208 j (by omega)]; exact oN 208 j (by decide) x hj (.inl (by decide))
      · rw [jr r (fun e => absurd hr (by rw [e]; decide)) h5 c8]; exact oN r j hr x hj (by omega)
    · rw [jr 207 (by decide) (by decide) (by decide), z5 207 _ (by decide) (by omega), c2 207 _ (by decide) a75.1 (by omega)]; exact q3
    · rw [jr 209 (by decide) (by decide) (by decide), z1 209 (by decide), c3 j x (by omega), q1 209 (by decide) (by decide) (by decide)]
    · rw [jr 227 (by decide) (by decide) (by decide), jr 228 (by decide) (by decide) (by decide), z1 227 (by decide), z1 228 (by decide), (c4 j x (by omega)).1, (c4 j x (by omega)).2, q1 227 (by decide) (by decide) (by decide), q1 228 (by decide) (by decide) (by decide)]; exact ⟨rfl, rfl⟩
    · rw [jr 216 (by decide) (by decide) (by decide), jr 217 (by decide) (by decide) (by decide), jr 218 (by decide) (by decide) (by decide), jr 219 (by decide) (by decide) (by decide), z1 216 (by decide), z1 217 (by decide), z1 218 (by decide), z1 219 (by decide), c5 216 j (by decide) x (by omega), c5 217 j (by decide) x (by omega), c5 218 j (by decide) x (by omega), c5 219 j (by decide) x (by omega), q1 216 (by decide) (by decide) (by decide), q1 217 (by decide) (by decide) (by decide), q1 218 (by decide) (by decide) (by decide), q1 219 (by decide) (by decide) (by decide)]; exact ⟨rfl, rfl, rfl, rfl⟩
    · have q := w4 (10 * Mq 6 61 + l) (.inl (by rw [p18, hT, lc1, m19]; omega))
      rw [XF_70 xf6 (by decide) (by decide) (by decide), jr 188 (by decide) (by decide) (by decide), z1 188 (by decide), q.1.2, q.2.2.2.1, XF_70 xf (by decide) (by decide) (by decide), q1 188 (by decide) (by decide) (by decide)]; exact ⟨rfl, rfl⟩
    · rw [jr 203 (by decide) (by decide) (by decide)]; exact z7
  · obtain ⟨px, L, c1', t, pb, lb, ⟨g3, g6, g5, g7⟩, hall, hh, he, lab, sb⟩ := hD
    have key : ∀ (w s : Int), w ≠ 7 → ((∃ k, (Mq 6 75 ≤ k ∧ k < N6 6 75) ∧ N6 203 k = w ∧ N6 205 k = s) ↔ ((∃ k, (Mq 6 75 ≤ k ∧ k < N 6 75) ∧ N 203 k = w ∧ N 205 k = s) ∨ (∃ k, (N 6 75 ≤ k ∧ k < N3 6 75) ∧ N3 203 k = w ∧ N3 205 k = s))) := by
      intro w s hw
      rw [i75, jr 203 (by decide) (by decide) (by decide)]
      have q205 := qpt_205 (v := N3 6 75 + 1) mm (N := N) (g := N 224 (Mq 6 102))
      have nk : ∀ k, N 203 k = w → ¬ INH N mm (N 224 (Mq 6 102)) k := fun k e hi => by have := (HOL_i mm hh k hi).1; omega
      constructor
      · rintro ⟨k, h1, h2, h3⟩
        have kn : k ≠ N3 6 75 := fun e => by rw [e, z7] at h2; exact hw h2.symm
        by_cases c : k < N 6 75
        · have e3 := oN 203 k (by decide) (by omega) c (.inl (by decide))
          rw [e3] at h2
          rw [j205a k (by omega) c, q205.2 k (nk k h2)] at h3
          exact .inl ⟨k, ⟨h1.1, c⟩, h2, h3⟩
        · rw [z5 203 k (by decide) kn] at h2
          rw [j205b k (by omega) kn] at h3
          exact .inr ⟨k, ⟨by omega, by omega⟩, h2, h3⟩
      · rintro (⟨k, h1, h2, h3⟩ | ⟨k, h1, h2, h3⟩)
        · refine ⟨k, ⟨h1.1, by omega⟩, ?_, ?_⟩
          · rw [oN 203 k (by decide) (by omega) h1.2 (.inl (by decide))]; exact h2
          · rw [j205a k (by omega) h1.2, q205.2 k (nk k h2)]; exact h3
        · refine ⟨k, ⟨by omega, by omega⟩, ?_, ?_⟩
          · rw [z5 203 k (by decide) (by omega)]; exact h2
          · rw [j205b k h1.1 (by omega)]; exact h3
    have y21 := xf6.2.1 21 (by decide) (by decide) (by decide) (by decide) (by decide)
    have y23 := xf6.2.1 23 (by decide) (by decide) (by decide) (by decide) (by decide)
    have v21 := xf.2.1 21 (by decide) (by decide) (by decide) (by decide) (by decide)
    have v23 := xf.2.1 23 (by decide) (by decide) (by decide) (by decide) (by decide)
    refine ⟨fun q x y => ?_, fun q x y => ?_⟩
    · rw [y21, hsb.1 q x y, v21, sb.1 q x y, key 2 q (by decide), or_assoc]
    · rw [y23, hsb.2 q x y, v23, sb.2 q x y, key 5 q (by decide), or_assoc]
end E2
end T156_e1
section T157_e1
/-! a decide: its end with ELSE, joined -/
/-- an end from the last part on, with its semicolon -/
def elU (κ : Int → Int) (pt : sj_ → Option sj_) (s : sj_) : Option sj_ := (if κ s.1 = 19 then (gS s.1).bind fun a1 => (tS κ 258 a1).bind fun a2 => pt (a2, s.2) else some s).bind fun s2 => (enT κ s2.1).bind fun a3 => some (a3, s2.2)
section E3
variable {d dq m mm : Nat} {b F F' F2 : Int} {Mx Mq M N M' N' Mp Np M3 N3 : mm_} {a a0 a2 a3 o st mk me x1 x2 x3 x4 x5 x7 x8 x9 x10 x11 x12 lo hi k0 kc v y : Int} {K : Int → mm_ → Prop} {Kv : mm_ → Prop} {G : Int → mm_ → Prop} {Qt : qt_} {V : vv_} {T : vv_ → Prop} {κ : Int → Int} {pt : sj_ → Option sj_}
theorem elU_e [Inhabited gh_] {s : sj_} : (elT κ pt s).bind (fun s1 => (tS κ 259 s1.1).bind fun a2 => some (a2, s1.2)) = elU κ pt s := by
  unfold elT elU
  generalize (if κ s.1 = 19 then (gS s.1).bind fun a1 => (tS κ 258 a1).bind fun a2 => pt (a2, s.2) else some s) = X
  cases X with
  | none => rfl
  | some s2 =>
    rw [Option.bind_some, Option.bind_some]
    unfold enT
    cases tS κ 20 s2.1 with
    | none => rfl
    | some a3 => rw [Option.bind_some, Option.bind_some, Option.bind_some]
theorem elU_0 [Inhabited gh_] {j : Int} (h : κ a ≠ 19) : elU κ pt (a, j) = (enT κ a).bind fun a3 => some (a3, j) := by
  unfold elU; rw [if_neg h, Option.bind_some]
theorem elU_1 [Inhabited gh_] {j : Int} (h : κ a = 19) : elU κ pt (a, j) = ((gS a).bind fun a1 => (tS κ 258 a1).bind fun a2 => pt (a2, j)).bind fun s2 => (enT κ s2.1).bind fun a3 => some (a3, s2.2) := by
  unfold elU; rw [if_pos h]
theorem SQ_uq [Inhabited gh_] {r : Nat} {i v : Int} (h6 : r ≠ 6) (hr : r ∈ qaL) (h : SQ Mx N M) : SQ Mx N (up_ M r i v) := ⟨⟨by rw [up_ne (Ne.symm h6)]; exact h.1.1, by rw [up_ne (Ne.symm h6)]; exact h.1.2⟩, by unfold in9_; rw [up_ne (Ne.symm h6)]; exact h.2.1, by rw [up_ne (Ne.symm h6)]; exact h.2.2.1, ⟨by rw [up_ne (Ne.symm h6)]; exact h.2.2.2.1.1, h.2.2.2.1.2⟩, QA_tr h.2.2.2.2 (QA_ur hr h6)⟩
theorem N4_QD [Inhabited gh_] {dd x : Int} : QD N (N4_ N dd x) := by
  obtain ⟨z1, z2, z3, z4, z5, z6, z7, z8, z9, z10⟩ := N4_BQ (N := N) (dd := dd) (x := x)
  exact ⟨fun r hr => z1 r (fun e => hr (by revert e; unfold qdL; simp only [List.mem_cons, List.not_mem_nil, or_false]; omega)), fun i hi => z2 i (nm_i hi (by decide)) (nm_i hi (by decide))⟩
theorem y_161e1 [Inhabited gh_] (hsp : SPART dq m) (ho : o = 11 - (m : Int)) (hp : PS b F Mx Mq a0 o me) (h : DHS b F F' Mx Mq M N a0 a o me x2 x3 x4 x5 mm) (hl : 0 ≤ N 222 (Mq 6 102)) (h103 : N 6 103 = 0) (hq3 : QP3 dq st mk me T N (Mq 6 102)) (hnR : ¬ isR (Mx 70) a) (h19 : Mx 70 a = 19)
    (hS : b = 1 → elU (Mx 70) (PTj (Mx 70) (LMT Mx) m) (a, lc_ b M) ≠ none)
    (hV : Cl_ wd0 (Tr_ wd0 pg0 (9 * m + 24)) V (ri_ fun v M5 => Tr_ wd0 pg0 (d + 3) 121 [.inr (.inr 1), .inl 59] M5 (rv_ (G v)) Qt) Qt m_161) (hW : Wk_ V)
    (hG : ∀ F2 M6 N6 a6 v, PRC b F F2 Mx Mq M6 N6 a0 a6 o o me → SEM b Mx Mq M6 N6 v → Mq 6 75 < N6 6 75 → (v = 0 ∨ v = 1) → N6 6 103 = v → LKP b M M6 → (∀ lm, LOK b lm M M6 → elU (Mx 70) (PTj (Mx 70) lm m) (a, lc_ b M) = some (a6, lc_ b M6)) → RTq dq st mk me T 0 N6 → G v M6)
    (hQ : b = 0 → ∀ Mx', XA Mx Mx' → STT dq T Mq Mx' → Qt 8 Mx') :
       Tr_ wd0 pg0 (9 * m + 24) 105 [.inr (.inr 1)] (pX_ M 44) (rv_ fun M6 =>
        Tr_ wd0 pg0 (9 * m + 24) 121 [.inr (.inr 1), .inl 58] M6 (rv_ fun M7 =>
         Tr_ wd0 pg0 (9 * m + 24) 133 [.inr (.inr 1)] M7 (ri_ fun v3 M8 =>
          (if v3 = 0 then
           Tr_ wd0 pg0 (9 * m + 24) 108 [.inr (.inr 1), .inl 20] M8 (rv_ fun M9 =>
            V 321 [rr 1, ii x1, ii x2, ii x3, ii x4, ii 0, ii 1, ii x7, ii x8, ii x9, ii x10, ii x11, ii x12] [] (up_ M9 1 6 (w32 ((M9 1 6) - 1)))) Qt
          else
           (if x5 = 0 then
            Tr_ wd0 pg0 (9 * m + 24) 108 [.inr (.inr 1), .inl 20] M8 (rv_ fun M10 =>
             V 321 [rr 1, ii x1, ii x2, ii x3, ii x4, ii 0, ii 1, ii x7, ii x8, ii x9, ii x10, ii x11, ii x12] [] (up_ M10 1 6 (w32 ((M10 1 6) - 1)))) Qt
           else
            Tr_ wd0 pg0 (9 * m + 24) 108 [.inr (.inr 1), .inl 20] M8 (rv_ fun M11 =>
             V 321 [rr 1, ii x1, ii x2, ii x3, ii x4, ii 1, ii 1, ii x7, ii x8, ii x9, ii x10, ii x11, ii x12] [] (up_ M11 1 6 (w32 ((M11 1 6) - 1)))) Qt))) Qt) Qt) Qt := by
  have dq2 := hp.2.2.2.2.2.2.2.1
  have hps : PS b F' M N a (o + 1) me := PS_D hp h.1 (by omega) ⟨by have := h.2.1; omega, by have := h.2.1; omega⟩
  obtain ⟨⟨hT, hVT, hE, t4, t5, t6⟩, hG', hL, hst, u, w7, r90, d102, msk, c19, s53⟩ := hps
  have h' := h
  obtain ⟨d1, d2, ⟨d3, d4, d5, d6, d7, d8, d9, d10, d11⟩, d12, d13, d14, d15, d16⟩ := h'
  clear d16 d7
  have m8 : M 1 8 = b := hE.2.2.2.2.2.2.1
  have h01 := bl01 hE
  have st0 := ER_st hE
  have st1 := (ER_st hp.1.2.2.1).1
  have ha := ER_a hE
  have q75 := hp.1.2.2.2.1
  have q104 := hp.1.2.2.2.2.1
  have q90 := hp.2.2.2.2.2.2.1
  have xM := PRD_X d1
  have qM := PRD_Q d1
  have m70 : M 70 = Mx 70 := xM.1 70 (by decide)
  have p70 : pX_ M 44 70 = Mx 70 := by rw [pX_r (by decide) (by decide)]; exact m70
  have hE5 : ER b F' (pX_ M 44) N a (o + 1) := ER_pX hE (by omega)
  have hT5 : Tks (pX_ M 44) N := Tks_c pX_XF QF_rf hT
  have c142 : ∀ j, j < M 5 3 → pX_ M 44 142 j = M 142 j := fun j hj => by
    rcases h01 with hb | hb
    · rw [pX_0 (by omega)]
    · rw [pX_v (by omega), up_ne (by decide), up_of2 (by omega)]
  have c53 : M 5 3 ≤ pX_ M 44 5 3 ∧ pX_ M 44 5 3 ≤ M 5 3 + 1 ∧ (b = 0 → pX_ M 44 5 3 = M 5 3) ∧ (b = 1 → pX_ M 44 5 3 = M 5 3 + 1 ∧ pX_ M 44 142 (M 5 3) = 44) := by
    rcases h01 with hb | hb
    · rw [pX_0 (by omega)]; exact ⟨by omega, by omega, fun _ => rfl, fun h => by omega⟩
    · rw [pX_v (by omega), up_at]; exact ⟨by omega, by omega, fun h => by omega, fun _ => ⟨rfl, by rw [up_ne (by decide), up_at]⟩⟩
  obtain ⟨k, hq3⟩ := hq3
  have toQ : ∀ (V : vv_) (Kv : mm_ → Prop) (Qt : qt_), Cl_ wd0 (Tr_ wd0 pg0 (dq + 15)) V (rv_ Kv) Qt m_260 → Wk_ V → Tr_ wd0 pg0 (dq + 14) 228 [.inr (.inr 6), .inl 19] N (ri_ fun v1 M1 => if v1 = 0 then False else Tr_ wd0 pg0 (dq + 14) 244 [.inr (.inr 6), .inl 58] M1 (rv_ fun M2 => M2 220 (Mq 6 102) = Mq 6 75 ∧ V 77 (LSz st mk me 0) [] (up_ (up_ M2 225 (Mq 6 102) 1) 207 (Mq 6 75) (M2 6 75))) Qt) Qt → T V := by
    intro V Kv Qtq hV hW hk
    refine hq3 V Kv Qtq hV hW fun V' hV' hW' => j_292 hT hE (fun c => absurd (by rw [m70] at c; exact c) hnR) (fun _ => ?_)
    rw [if_pos rfl]
    have bdd : 0 ≤ Mq 6 102 ∧ Mq 6 102 < 14 := by omega
    refine b_303_83 (Tr_mono _) hV' hW' _ _ _ ⟨bdd, fun _ => ?_⟩
    rw [if_pos d9]
    refine Tr_ric hk fun v1 M1 h1 => ?_
    by_cases c : v1 = 0
    · rw [if_pos c] at h1; exact h1.elim
    · rw [if_neg c] at h1; rw [if_neg c]
      refine Tr_rc h1 fun M2 h2 => ⟨⟨bdd, .inr rfl⟩, bdd, by rw [h2.1]; omega, ?_⟩
      rw [h2.1]; exact rv_i h2.2
  have sQ : ∀ {Mx' M2 : mm_} {V : vv_} {Kv : mm_ → Prop} {Qtq : qt_} {x : Int}, SQ Mx' Mq M2 → Cl_ wd0 (Tr_ wd0 pg0 (dq + 15)) V (rv_ Kv) Qtq m_260 → Wk_ V → (∀ M', SQ Mx' Mq M' → Kv M') → V 77 (LSz st mk me 0) [] (up_ (up_ M2 225 (Mq 6 102) 1) 207 (Mq 6 75) x) := fun hs hV hW hk => q_260s77 hV hW (SQ_uq (by decide) (by decide) (SQ_uq (by decide) (by decide) hs)) hk
  have eU := elU_1 (pt := PTj (Mx 70) (LMT Mx) m) (j := lc_ b M) h19
  rw [eU] at hS
  refine y_105 hE5 (by rw [p70, h19]; decide) (fun hb e => by have := hS hb; rw [e] at this; exact this rfl) (fun h12 hE6 => ?_) (fun hb h12 => ?_)
  rotate_left
  · have hsp := SQ_bf hE5 hb (k := 2) (by decide) qM
    refine hQ hb _ (XA_tr xM (XF_XA (XF_tr pX_XF fl_XF))) (fun V Kv Qtq hV hW hk => toQ V Kv Qtq hV hW (j_228r hT5 hE5 hb (by decide) (by rw [p70]; exact h19) h12 ?_))
    rw [if_neg (by decide)]
    exact q_244s hsp.1 ⟨by unfold bf_; rw [up_ne (by decide), up_ne (by decide)]; exact d3, sQ hsp hV hW hk⟩
  rw [gS_e h12, Option.bind_some] at hS
  have toQ2 : ∀ (V : vv_) (Kv : mm_ → Prop) (Qt : qt_), Cl_ wd0 (Tr_ wd0 pg0 (dq + 15)) V (rv_ Kv) Qt m_260 → Wk_ V → Tr_ wd0 pg0 (dq + 14) 244 [.inr (.inr 6), .inl 58] (nx_ N) (rv_ fun M2 => M2 220 (Mq 6 102) = Mq 6 75 ∧ V 77 (LSz st mk me 0) [] (up_ (up_ M2 225 (Mq 6 102) 1) 207 (Mq 6 75) (M2 6 75))) Qt → T V := fun V Kv Qtq hV hW hk => toQ V Kv Qtq hV hW (j_228t hT5 hE5 (by decide) (by rw [p70]; exact h19) h12 (by rw [if_neg (by decide)]; exact hk))
  have hT6 : Tks (nX_ (pX_ M 44)) (nx_ N) := Tks_c nX_XF nx_QF hT5
  have x70 : nX_ (pX_ M 44) 70 = Mx 70 := by rw [nX_ne (by decide)]; exact p70
  have n220 : nx_ N 220 (Mq 6 102) = Mq 6 75 := by rw [nx_ne (by decide)]; exact d3
  refine y_121 hE6 (by decide) (fun hb => by rw [x70]; intro e; have e' : tS (Mx 70) 258 (a + 1) = none := e; have := hS hb; rw [e'] at this; exact this rfl) (fun k1 h13 hE7 => ?_) (fun hb k1 h13 => ?_) (fun hb k1 => ?_)
  rotate_left
  · have hsp := SQ_bf hE6 hb (k := 2) (by decide) (QA_tr qM (QF_QA nx_QF))
    exact hQ hb _ (XA_tr xM (XF_XA (XF_tr pX_XF (XF_tr nX_XF fl_XF)))) (fun V Kv Qtq hV hW hk => toQ2 V Kv Qtq hV hW (j_244r hT6 hE6 hb (by decide) k1 h13 ⟨by unfold bf_; rw [up_ne (by decide), up_ne (by decide)]; exact n220, sQ hsp hV hW hk⟩))
  · have hsp := SQ_bf hE6 hb (k := 1) (by decide) (QA_tr qM (QF_QA nx_QF))
    exact hQ hb _ (XA_tr xM (XF_XA (XF_tr pX_XF (XF_tr nX_XF fl_XF)))) (fun V Kv Qtq hV hW hk => toQ2 V Kv Qtq hV hW (j_244w hT6 hE6 hb (by decide) k1 ⟨by unfold bf_; rw [up_ne (by decide), up_ne (by decide)]; exact n220, sQ hsp hV hW hk⟩))
  have k1' : Mx 70 (a + 1) = 258 := by rw [← x70]; exact k1
  rw [tS_e k1' h13, Option.bind_some] at hS
  have e75 : nx_ (nx_ N) 6 75 = N 6 75 := by rw [nx_6 (by decide), nx_6 (by decide)]
  have toQ3 : ∀ (V : vv_) (Kv : mm_ → Prop) (Qt : qt_), Cl_ wd0 (Tr_ wd0 pg0 (dq + 15)) V (rv_ Kv) Qt m_260 → Wk_ V → V 77 (LSz st mk me 0) [] (up_ (up_ (nx_ (nx_ N)) 225 (Mq 6 102) 1) 207 (Mq 6 75) (N 6 75)) → T V := fun V Kv Qtq hV hW hk => toQ2 V Kv Qtq hV hW (j_244t hT6 hE6 (by decide) k1 h13 ⟨by rw [nx_ne (by decide)]; exact n220, by rw [e75]; exact hk⟩)
  -- where the part begins
  have hX : EPX b M (nX_ (nX_ (pX_ M 44))) := by
    refine ⟨XF_tr pX_XF (XF_tr nX_XF nX_XF), by rw [nX_1 (by decide), nX_1 (by decide), pX_1], fun hb => ?_, fun hb => ?_, fun j hj => ?_⟩
    · rw [nX_ne (by decide), nX_ne (by decide)]; exact c53.2.2.1 hb
    · rw [nX_ne (by decide), nX_ne (by decide), nX_ne (by decide), nX_ne (by decide)]; exact c53.2.2.2 hb
    · rw [nX_ne (by decide), nX_ne (by decide)]; exact c142 j hj
  have hQQ : EPQ Mq N (up_ (up_ (nx_ (nx_ N)) 225 (Mq 6 102) 1) 207 (Mq 6 75) (N 6 75)) := by
    refine ⟨fun r h6 h7 h5 => by rw [up_ne h7, up_ne h5, nx_ne h6, nx_ne h6], fun i hi => by rw [up_ne (by decide), up_ne (by decide), nx_6 hi, nx_6 hi], up_at, fun j hj => by rw [up_of2 hj, up_ne (by decide), nx_ne (by decide), nx_ne (by decide)], by rw [up_ne (by decide), up_at], fun j hj => by rw [up_ne (by decide), up_of2 hj, nx_ne (by decide), nx_ne (by decide)]⟩
  have hEp : ER b F' (nX_ (nX_ (pX_ M 44))) (up_ (up_ (nx_ (nx_ N)) 225 (Mq 6 102) 1) 207 (Mq 6 75) (N 6 75)) (a + 1 + 1) (o + 1) := ER_Q hE7 (by rw [up_ne (by decide), up_ne (by decide)]) (by rw [up_ne (by decide), up_ne (by decide)]) (by rw [up_ne (by decide), up_ne (by decide)]) (by rw [up_ne (by decide), up_ne (by decide)]) (by rw [up_ne (by decide), up_ne (by decide)])
  have g53 : nX_ (nX_ (pX_ M 44)) 5 3 = pX_ M 44 5 3 := by rw [nX_ne (by decide), nX_ne (by decide)]
  have qd : QD N (up_ (up_ (nx_ (nx_ N)) 225 (Mq 6 102) 1) 207 (Mq 6 75) (N 6 75)) := QD_tr (QN_QD QN_nx) (QD_tr (QN_QD QN_nx) (QD_tr (QD_ur (by decide) (by decide)) (QD_ur (by decide) (by decide))))
  clear hE5 hE6 hE7 toQ toQ2 hT5 hT6
  generalize nX_ (nX_ (pX_ M 44)) = Mp at *
  generalize up_ (up_ (nx_ (nx_ N)) 225 (Mq 6 102) 1) 207 (Mq 6 75) (N 6 75) = Np at *
  have hX' := hX
  have hQ' := hQQ
  obtain ⟨xf, xx7, xb0, xb1, x142⟩ := hX'
  obtain ⟨z1, z2, z3, z4, z5, z6⟩ := hQ'
  obtain ⟨b1, b2, b3, b4, b5, b6⟩ := PRD_PB d1
  have hPD : PRD b F F' Mx Mq Mp Np a0 (a + 1 + 1) o (o + 1) me := by
    refine PRD_s d1 hEp xf qd ⟨fun j x hj => x142 j (by omega), fun r j hr x hj => ?_, fun j _ _ => by rw [z1 209 (by decide) (by decide) (by decide)], fun j _ _ => by rw [z1 227 (by decide) (by decide) (by decide), z1 228 (by decide) (by decide) (by decide)]; exact ⟨rfl, rfl⟩, fun r j hr x hj => ?_, fun r j hr x hj => ?_⟩ ⟨by omega, by rw [z2 75 (by decide)]; omega, by rw [z2 104 (by decide)]; omega, ⟨by omega, by omega, fun hb => by rw [xb0 hb]; exact b4.2.2 hb⟩, by rw [z2 90 (by decide)]; omega, by omega⟩ (by omega)
    · by_cases c : r = 207
      · rw [c]; exact z4 j (by omega)
      · rw [z1 r (fun e => absurd hr (by rw [e]; decide)) c (fun e => absurd hr (by rw [e]; decide))]
    · rw [z1 r (fun e => absurd hr (by rw [e]; decide)) (fun e => absurd hr (by rw [e]; decide)) (fun e => absurd hr (by rw [e]; decide))]
    · by_cases c : r = 225
      · rw [c]; exact z6 j (by omega)
      · rw [z1 r (fun e => absurd hr (by rw [e]; decide)) (fun e => absurd hr (by rw [e]; decide)) c]
  have n102 : Np 6 102 = Mq 6 102 + 1 := by rw [z2 102 (by decide)]; exact d2
  have hPp : PS b F' Mp Np (a + 1 + 1) (o + 1) me := PS_D hp hPD (by omega) (by omega)
  have lkp := LKP_F (b := b) xf
  have g70 : Mp 70 = Mx 70 := (PRD_X hPD).1 70 (by decide)
  have ho' : (12 : Int) - (m : Int) = o + 1 := by omega
  refine Tr_le (d := 9 * m + 19) (by omega) ?_
  have hsp' := hsp b F' Mp Np (a + 1 + 1) me st mk
  rw [ho'] at hsp'
  refine hsp' _ Qt hPp (by rw [z2 103 (by decide)]; exact h103) (fun hb => ?_) (fun F2 M3 N3 a3 v c hR hM hv h103' hc hsy hRT => ?_) (fun hb Mx' hx hstq => ?_)
  · rw [g70, lkp.2, show LMT Mp = LMT Mx from (LKP_P hPD).2.2.2 hb]
    intro e; have := hS hb; rw [e] at this; exact this rfl
  · have hE3 := hR.2.1
    have P3 := PRD_tr q75.1 (by omega) hPD hR
    have xa3 := PRD_X P3
    have b3' := hR.2.2.2.2.1
    have ha3 := ER_a hE3
    have st3 := ER_st hE3
    have pS3 := PS_tr hPp hR (by omega)
    have m370 : M3 70 = Mx 70 := xa3.1 70 (by decide)
    have v32 : M3 1 2 = 5 := by rw [xa3.2.1 2 (by decide)]; exact (hp.1.2.1).1
    have k6 := hR.2.2.2.1.1
    have g102 : N3 6 102 = Mq 6 102 + 1 := k6.2.2.2.2.2.2.trans n102
    have dsr : ∀ r : Nat, r ∈ dsR → r ≠ 225 → N3 r (Mq 6 102) = N r (Mq 6 102) := fun r hr h5 => by rw [k6.2.2.2.2.2.1 r _ hr (by omega) (by omega), z1 r (fun e => absurd hr (by rw [e]; decide)) (fun e => absurd hr (by rw [e]; decide)) h5]
    have g225 : N3 225 (Mq 6 102) = 1 := by rw [k6.2.2.2.2.2.1 225 _ (by decide) (by omega) (by omega)]; exact z5
    have g226 : N3 226 (Mq 6 102) = x5 := by rw [dsr 226 (by decide) (by decide)]; exact d10
    have g220 : N3 220 (Mq 6 102) = Mq 6 75 := by rw [dsr 220 (by decide) (by decide)]; exact d3
    have g75 := pS3.1.2.2.2.1
    have g75' : N 6 75 ≤ N3 6 75 := by have := b3'.2.1.1; rw [z2 75 (by decide)] at this; exact this
    obtain ⟨y, hy⟩ : ∃ y : Int, y = if x5 = 0 ∨ v = 0 then 0 else 1 := ⟨_, rfl⟩
    have hy01 : y = 0 ∨ y = 1 := by rw [hy]; split <;> omega
    have S6 := e1_SEM (x2 := x2) (x3 := x3) hp h hl hX hQQ hPD hR hM hv hy
    have B4 := N4_BQ (N := N3) (dd := Mq 6 102) (x := y)
    have qd4 := N4_QD (N := N3) (dd := Mq 6 102) (x := y)
    have hT3 : Tks M3 N3 := pS3.1.1
    have hc' : c = 1 ∨ (c = 0 ∧ ¬ isA (M3 70) a3 ∧ ¬ isL (M3 70) a3) := by
      rw [g70] at hc
      rw [m370]
      rcases hc with q | q
      · exact .inl q.1
      · exact .inr q
    have bdd : 0 ≤ Mq 6 102 ∧ Mq 6 102 < 14 := by omega
    have toQ4 : ∀ (V : vv_) (Kv : mm_ → Prop) (Qt : qt_), Cl_ wd0 (Tr_ wd0 pg0 (dq + 15)) V (rv_ Kv) Qt m_260 → Wk_ V → (∀ V' : vv_, Cl_ wd0 (Tr_ wd0 pg0 (dq + 14)) V' (rv_ fun M1 => V 77 (LSz st mk me 0) [] M1) Qt m_303 → Wk_ V' → V' 132 [rr 6, ii (Mq 6 102), ii (N3 6 75), none] [] (N4_ N3 (Mq 6 102) y)) → T V := by
      intro V Kv Qtq hV hW hk
      refine toQ3 V Kv Qtq hV hW (hRT V Kv Qtq hV hW (q_77e hT3 hE3 hc' hV hW (q_208b (by omega) hV hW (q_303a (d := dq + 12) (x5 := x5) g102 bdd g226 d11 h103' hv (by omega) (by have := hE3.2.2.1; omega) fun V' hV' hW' => ?_))))
      rw [if_neg (by omega), ← hy]
      refine b_303_83 (Tr_mono _) hV' hW' _ _ _ ⟨bdd, fun _ => ?_⟩
      rw [if_neg (by rw [B4.1 225 (by decide)]; omega)]
      exact hk V' hV' hW'
    have hE4 : ER b F2 M3 (N4_ N3 (Mq 6 102) y) a3 (o + 1) := ER_Q hE3 (B4.2.1 12 (by decide) (by decide)) (B4.2.1 13 (by decide) (by decide)) (B4.2.1 14 (by decide) (by decide)) (B4.2.1 15 (by decide) (by decide)) (B4.2.1 16 (by decide) (by decide))
    have hT4 : Tks M3 (N4_ N3 (Mq 6 102) y) := Tks_a XA_rf (QD_QA qd4) hT3
    have hx3 : b = 1 → XHO (Mx 5 3) (M 5 3) mm M3 x4 := fun hb => XHO_c (M := M) (Int.le_refl _) (Int.le_refl _) (fun j x hj => by rw [k6.1 j (by omega) (by have := xb1 hb; omega)]; exact x142 j hj) mm (d15 hb)
    have glt : N 224 (Mq 6 102) < N 6 75 := by
      cases mm with
      | zero => have : N 224 (Mq 6 102) = -1 := d14; omega
      | succ n => exact d14.1.2
    have hq4 : QHO (Mq 6 75) (N3 6 75 + 1) (mm + 1) (N4_ N3 (Mq 6 102) y) (N4_ N3 (Mq 6 102) y 224 (Mq 6 102)) := by
      rw [B4.2.2.2.2.2.2.2.2.1]
      refine ⟨by omega, ?_, ?_⟩
      · rw [B4.2.2.2.2.2.2.2.1, dsr 224 (by decide) (by decide)]; omega
      · rw [B4.2.2.2.2.2.2.2.1, dsr 224 (by decide) (by decide)]
        refine QHO_c (k1 := 0) (by omega) (fun j x hj => ?_) mm d14
        rw [B4.2.2.2.2.1 206 j (by decide) (by omega), k6.2.1 206 j (by decide) (by omega) (by rw [z2 75 (by decide)]; exact hj), z1 206 (by decide) (by decide) (by decide)]
    have ey : (if y = 0 ∨ (1 : Int) = 0 then (0 : Int) else 1) = y := by rcases hy01 with e | e <;> rw [e] <;> decide
    have e4220 : N4_ N3 (Mq 6 102) y 220 (Mq 6 102) = Mq 6 75 := by rw [B4.1 220 (by decide)]; exact g220
    have fin : Tr_ wd0 pg0 (9 * m + 24) 108 [.inr (.inr 1), .inl 20] M3 (rv_ fun M5 => V 321 [rr 1, ii x1, ii x2, ii x3, ii x4, ii y, ii 1, ii x7, ii x8, ii x9, ii x10, ii x11, ii x12] [] (up_ M5 1 6 (w32 ((M5 1 6) - 1)))) Qt := by
      refine y_161t (dq := dq) (lo := Mx 5 3) (hi := M 5 3) (k0 := Mq 6 75) (kc := N3 6 75 + 1) (dd := Mq 6 102) (k := N3 6 75) (mm := mm) (mq := mm + 1) hT4 hE4 v32 (by omega) hx3 st1 (by omega) hq4 q75.1 (by omega) bdd (by rw [e4220]; omega) (by rw [B4.2.1 102 (by decide) (by decide)]; exact g102) (by rw [B4.1 225 (by decide)]; exact g225) (fun _ => B4.2.2.2.2.2.2.2.2.2) (.inr rfl) hy01 (fun hb => ?_) hV hW (fun hen hE6 hq => ?_) (fun hb Mx' hx hq => ?_)
      · have e2 := hsy (LMT Mx) ⟨fun h => by omega, fun _ => ((LKP_P hPD).2.2.2 hb).symm⟩
        rw [g70, lkp.2] at e2
        have q := hS hb
        rw [e2, Option.bind_some] at q
        rw [m370]
        intro e; exact q (by rw [e]; rfl)
      · rw [ey] at hE6 hq ⊢
        rw [m370] at hen
        have P := e_KB (hi := M 5 3) (kc := N3 6 75 + 1) P3 XF_rf qd4 ⟨fun _ _ _ => rfl, fun r j hr x hj => B4.2.2.2.2.1 r j hr (by omega), fun j _ _ => by rw [B4.1 209 (by decide)], fun j _ _ => by rw [B4.1 227 (by decide), B4.1 228 (by decide)]; exact ⟨rfl, rfl⟩, fun r j hr x hj => by rw [B4.1 r (by unfold rgR at hr; simp only [List.mem_cons, List.not_mem_nil, or_false] at hr ⊢; omega)], fun r j hr x hj => B4.2.2.2.2.2.1 r j hr (by omega)⟩ ⟨Int.le_refl _, by omega, fun _ => rfl⟩ (by rw [B4.2.2.1]; omega) (B4.2.1 104 (by decide) (by decide)) (B4.2.1 90 (by decide) (by decide)) rfl hx3 hq4 e4220 hE6
        have xf6 : XF M3 (nX_ (M9_ b M3 o x4 mm)) := XF_tr M9_XF nX_XF
        have lk6 := LKP_F (b := b) xf6
        have lkM := LKP_tr lkp.1 (LKP_tr (LKP_P hR) lk6.1)
        refine hG F2 _ _ _ y P S6 (by rw [N8_i (by decide) (by decide) (by decide) (by decide), B4.2.2.1]; omega) hy01 N8_103 lkM (fun lm hlm => ?_) (fun V Kv Qtq hV hW hk => toQ4 V Kv Qtq hV hW fun V' hV' hW' => hq V' _ _ hV' hW' hk)
        have l1 := (LOK_s lkp.1 (LKP_tr (LKP_P hR) lk6.1) hlm).2
        have l2 := (LOK_s (LKP_P hR) lk6.1 l1).1
        have e2 := hsy lm l2
        rw [g70, lkp.2] at e2
        rw [elU_1 h19, gS_e h12, Option.bind_some, tS_e k1' h13, Option.bind_some, e2, Option.bind_some, hen, Option.bind_some, lk6.2]
      · exact hQ hb Mx' (XA_tr xa3 hx) (fun V Kv Qtq hV hW hk => toQ4 V Kv Qtq hV hW fun V' hV' hW' => hq V' _ _ hV' hW' (fun M' hsq => q_260s77 hV hW (SQ_q (QA_tr (PRD_Q P3) (QD_QA qd4)) hsq) hk))
    by_cases c : v = 0
    · rw [if_pos c]; rw [if_pos (.inr c)] at hy; rw [hy] at fin; exact fin
    · rw [if_neg c]
      by_cases c2 : x5 = 0
      · rw [if_pos c2]; rw [if_pos (.inl c2)] at hy; rw [hy] at fin; exact fin
      · rw [if_neg c2]; rw [if_neg (by omega)] at hy; rw [hy] at fin; exact fin
  · exact hQ hb Mx' (XA_tr (PRD_X hPD) hx) (fun V Kv Qtq hV hW hk => toQ3 V Kv Qtq hV hW (hstq V Kv Qtq hV hW (fun M' hsq => hk M' (SQ_q (PRD_Q hPD) hsq))))
end E3
end T157_e1
section T158_dw
/-! a decide: whole -/
/-- where a decide ends, with its semicolon -/
def dcU (κ : Int → Int) (pt : sj_ → Option sj_) (o : Int) (s : sj_) : Option sj_ := (dcT κ pt o s).bind fun s1 => (tS κ 259 s1.1).bind fun a2 => some (a2, s1.2)
/-- what holds behind a decide -/
def DGT [Inhabited gh_] (dq m : Nat) (st mk : Int) (T : vv_ → Prop) (b F : Int) (Mx Mq : mm_) (a0 o me : Int) (G : Int → mm_ → Prop) : Prop := ∀ F2 M6 N6 a6 v, PRC b F F2 Mx Mq M6 N6 a0 a6 o o me → SEM b Mx Mq M6 N6 v → Mq 6 75 < N6 6 75 → (v = 0 ∨ v = 1) → N6 6 103 = v → (∀ lm, LOK b lm Mx M6 → dcU (Mx 70) (PTj (Mx 70) lm m) o (a0, lc_ b Mx) = some (a6, lc_ b M6)) → RTq dq st mk me T 0 N6 → G v M6
/-- how far a decide's text is gone through -/
def DIN (m : Nat) (b : Int) (Mx M : mm_) (a0 a o x3 : Int) : Prop := ∀ lm, LOK b lm Mx M → dcT (Mx 70) (PTj (Mx 70) lm m) o (a0, lc_ b Mx) = (LQ (dcT1 (Mx 70) (PTj (Mx 70) lm m)) ((a, lc_ b M), x3)).bind (elT (Mx 70) (PTj (Mx 70) lm m))
section DW
variable {d dq m mm : Nat} {b F F' F2 : Int} {Mx Mq M N M' N' Ma : mm_} {a a0 o st mk me x1 x2 x3 x4 x5 x7 x8 x9 x10 x11 : Int} {K : Int → mm_ → Prop} {Kv : mm_ → Prop} {G : Int → mm_ → Prop} {Qt : qt_} {V : vv_} {T : vv_ → Prop}
theorem bind_n [Inhabited gh_] {α β : Type} {X : Option α} {f : α → Option β} (h : X.bind f ≠ none) : X ≠ none := fun e => h (by rw [e]; rfl)
theorem LOK_1 [Inhabited gh_] (hb : b = 1) : LOK b (LMT Mx) Mx M := ⟨fun h => by omega, fun _ => rfl⟩
theorem y_161x [Inhabited gh_] (hsp : SPART dq m) (ho : o = 11 - (m : Int)) (hp : PS b F Mx Mq a0 o me) (h : DHS b F F' Mx Mq M N a0 a o me x2 x3 x4 x5 mm) (hl : 0 ≤ N 222 (Mq 6 102)) (h103 : N 6 103 = 0) (hq3 : QP3 dq st mk me T N (Mq 6 102)) (hnR : ¬ isR (Mx 70) a)
    (hlk : LKP b Mx M) (hU : ∀ lm, LOK b lm Mx M → dcU (Mx 70) (PTj (Mx 70) lm m) o (a0, lc_ b Mx) = elU (Mx 70) (PTj (Mx 70) lm m) (a, lc_ b M))
    (hS : b = 1 → dcU (Mx 70) (PTj (Mx 70) (LMT Mx) m) o (a0, lc_ b Mx) ≠ none)
    (hV : Cl_ wd0 (Tr_ wd0 pg0 (9 * m + 24)) V (ri_ fun v M5 => Tr_ wd0 pg0 (d + 3) 121 [.inr (.inr 1), .inl 59] M5 (rv_ (G v)) Qt) Qt m_161) (hW : Wk_ V)
    (hG : DGT dq m st mk T b F Mx Mq a0 o me G)
    (hQ : b = 0 → ∀ Mx', XA Mx Mx' → STT dq T Mq Mx' → Qt 8 Mx') :
    XEND m V Qt x1 x2 x3 x5 x7 x8 x9 x10 x11 x4 M := by
  have dq2 := hp.2.2.2.2.2.2.2.1
  have hps : PS b F' M N a (o + 1) me := PS_D hp h.1 (by omega) ⟨by have := h.2.1; omega, by have := h.2.1; omega⟩
  have hE := PS_E hps
  have s53 := hps.2.2.2.2.2.2.2.2.2.2
  have st0 := ER_st hE
  have ha := ER_a hE
  have m70 : M 70 = Mx 70 := (PRD_X h.1).1 70 (by decide)
  have p70 : pX_ M 44 70 = Mx 70 := by rw [pX_r (by decide) (by decide)]; exact m70
  have hS' : b = 1 → elU (Mx 70) (PTj (Mx 70) (LMT Mx) m) (a, lc_ b M) ≠ none := fun hb => by have := hS hb; rw [hU _ (LOK_1 hb)] at this; exact this
  unfold XEND
  refine x_138 hps.1.2.1.1 st0.1 st0.2 ?_
  refine y_103 (ER_pX hE (by omega)) (fun c => ?_) (fun c => ?_)
  · rw [p70] at c
    rw [if_neg (by decide)]
    refine y_161e1 hsp ho hp h hl h103 hq3 hnR c hS' hV hW (fun F2 M6 N6 a6 v P S hlt hv h3 lk hsy hrt => ?_) hQ
    exact hG F2 M6 N6 a6 v P S hlt hv h3 (fun lm hlm => (hU lm (LOK_s hlk lk hlm).1).trans (hsy lm (LOK_s hlk lk hlm).2)) hrt
  · rw [p70] at c
    rw [if_pos rfl]
    refine y_161e0 hp h hl hq3 hnR c (fun hb => by have := hS' hb; rw [elU_0 c] at this; exact bind_n this) hV hW (fun M6 N6 P S hlt h3 hen lk hrt => ?_) hQ
    exact hG F' M6 N6 _ 0 P S hlt (.inl rfl) h3 (fun lm hlm => (hU lm (LOK_s hlk lk.1 hlm).1).trans (by rw [elU_0 c, hen, Option.bind_some, lk.2])) hrt
theorem DIN_s [Inhabited gh_] {y3 a3 : Int} (h : DIN m b Mx M a0 a o x3) (hlk : LKP b Mx M) (hlk2 : LKP b M M') (hsy : ∀ lm, LOK b lm M M' → LQ (dcT1 (Mx 70) (PTj (Mx 70) lm m)) ((a, lc_ b M), x3) = LQ (dcT1 (Mx 70) (PTj (Mx 70) lm m)) ((a3, lc_ b M'), y3)) : DIN m b Mx M' a0 a3 o y3 := fun lm hlm => by
  have q := LOK_s hlk hlk2 hlm
  have e := h lm q.1
  rw [hsy lm q.2] at e
  exact e
theorem DIN_e [Inhabited gh_] {a3 : Int} (h : DIN m b Mx M a0 a o x3) (hlk : LKP b Mx M) (hlk2 : LKP b M M') (hsy : ∀ lm, LOK b lm M M' → LQ (dcT1 (Mx 70) (PTj (Mx 70) lm m)) ((a, lc_ b M), x3) = some (a3, lc_ b M')) : ∀ lm, LOK b lm Mx M' → dcU (Mx 70) (PTj (Mx 70) lm m) o (a0, lc_ b Mx) = elU (Mx 70) (PTj (Mx 70) lm m) (a3, lc_ b M') := fun lm hlm => by
  have q := LOK_s hlk hlk2 hlm
  have e := h lm q.1
  rw [hsy lm q.2, Option.bind_some] at e
  unfold dcU
  rw [e]
  exact elU_e
theorem DIN_n [Inhabited gh_] (hb : b = 1) (h : DIN m b Mx M a0 a o x3) (hS : dcU (Mx 70) (PTj (Mx 70) (LMT Mx) m) o (a0, lc_ b Mx) ≠ none) : LQ (dcT1 (Mx 70) (PTj (Mx 70) (LMT Mx) m)) ((a, lc_ b M), x3) ≠ none := by
  unfold dcU at hS
  have q := bind_n hS
  rw [h _ (LOK_1 hb)] at q
  exact bind_n q
theorem y_161s [Inhabited gh_] (hsp : SPART dq m) (hm : m + 1 ≤ 12) (ho : o = 11 - (m : Int)) (hp : PS b F Mx Mq a0 o me) (h : DHS b F F' Mx Mq M N a0 a o me x2 x3 x4 x5 mm) (hpre : QPR dq st mk me T N) (hlk : LKP b Mx M) (hI : DIN m b Mx M a0 a o x3)
    (hS : b = 1 → dcU (Mx 70) (PTj (Mx 70) (LMT Mx) m) o (a0, lc_ b Mx) ≠ none)
    (hV : Cl_ wd0 (Tr_ wd0 pg0 (9 * m + 24)) V (ri_ fun v M5 => Tr_ wd0 pg0 (d + 3) 121 [.inr (.inr 1), .inl 59] M5 (rv_ (G v)) Qt) Qt m_161) (hW : Wk_ V)
    (hG : DGT dq m st mk T b F Mx Mq a0 o me G)
    (hQ : b = 0 → ∀ Mx', XA Mx Mx' → STT dq T Mq Mx' → Qt 8 Mx')
    (ih : ∀ F2 M4 N4 a3 y3 y4 y5, DHS b F F2 Mx Mq M4 N4 a0 a3 o me x2 y3 y4 y5 (mm + 1) → x3 < y3 → QPR dq st mk me T N4 → LKP b Mx M4 → DIN m b Mx M4 a0 a3 o y3 → V 50 [rr 1, ii x1, ii x2, ii y3, ii y4, ii y5, none, none, none, none, none, none, none] [] M4) :
    V 50 [rr 1, ii x1, ii x2, ii x3, ii x4, ii x5, none, none, none, none, none, none, none] [] M := by
  refine y_161b hsp hm ho hp h hpre (fun hb => DIN_n hb hI (hS hb)) hV hW (fun F2 M4 N4 a3 y3 y4 y5 y7 y8 y10 y11 hD hlt lk4 hsy hq3 haa h103 h222 => ⟨fun hR => ?_, fun hnR => ?_⟩) hQ
  · have dq2 := hp.2.2.2.2.2.2.2.1
    have hps : PS b F2 M4 N4 a3 (o + 1) me := PS_D hp hD.1 (by omega) ⟨by have := hD.2.1; omega, by have := hD.2.1; omega⟩
    have m70 : M4 70 = Mx 70 := (PRD_X hD.1).1 70 (by decide)
    refine ih F2 M4 N4 a3 y3 y4 y5 hD hlt ?_ (LKP_tr hlk lk4) (DIN_s hI hlk lk4 (fun lm hlm => (hsy lm hlm).trans (if_pos hR)))
    obtain ⟨k, hq3⟩ := hq3
    intro V Kv Qtq hV hW hk
    refine hq3 V Kv Qtq hV hW fun V' hV' hW' => j_292 hps.1.1 (PS_E hps) (fun _ => ?_) (fun c => absurd (by rw [m70]; exact hR) c)
    rw [if_neg (by decide)]
    exact Tr_le (d := dq + 13) (by omega) (Tr_rc hk fun M3 h3 => rv_i (h3.2 h103))
  · exact y_161x hsp ho hp hD h222 h103 hq3 hnR (LKP_tr hlk lk4) (DIN_e hI hlk lk4 (fun lm hlm => (hsy lm hlm).trans (if_neg hnR))) hS hV hW hG hQ
theorem y_161l [Inhabited gh_] (hsp : SPART dq m) (hm : m + 1 ≤ 12) (ho : o = 11 - (m : Int)) (hp : PS b F Mx Mq a0 o me)
    (hS : b = 1 → dcU (Mx 70) (PTj (Mx 70) (LMT Mx) m) o (a0, lc_ b Mx) ≠ none)
    (hV : Cl_ wd0 (Tr_ wd0 pg0 (9 * m + 24)) V (ri_ fun v M5 => Tr_ wd0 pg0 (d + 3) 121 [.inr (.inr 1), .inl 59] M5 (rv_ (G v)) Qt) Qt m_161) (hW : Wk_ V)
    (hG : DGT dq m st mk T b F Mx Mq a0 o me G)
    (hQ : b = 0 → ∀ Mx', XA Mx Mx' → STT dq T Mq Mx' → Qt 8 Mx') : ∀ (n : Nat) (F' : Int) (M N : mm_) (a x3 x4 x5 : Int) (mm : Nat), 8 - x3 ≤ (n : Int) → DHS b F F' Mx Mq M N a0 a o me x2 x3 x4 x5 mm → QPR dq st mk me T N → LKP b Mx M → DIN m b Mx M a0 a o x3 → V 50 [rr 1, ii x1, ii x2, ii x3, ii x4, ii x5, none, none, none, none, none, none, none] [] M
  | 0, F', M, N, a, x3, x4, x5, mm, hn, h, hpre, hlk, hI => y_161s hsp hm ho hp h hpre hlk hI hS hV hW hG hQ (fun F2 M4 N4 a3 y3 y4 y5 hD hlt _ _ _ => by have := hD.2.2.1.2.2.1; omega)
  | n + 1, F', M, N, a, x3, x4, x5, mm, hn, h, hpre, hlk, hI => y_161s hsp hm ho hp h hpre hlk hI hS hV hW hG hQ (fun F2 M4 N4 a3 y3 y4 y5 hD hlt h1 h2 h3 => y_161l hsp hm ho hp hS hV hW hG hQ n F2 M4 N4 a3 y3 y4 y5 (mm + 1) (by omega) hD h1 h2 h3)
/-- a decide whole: X's 161 and the semicolon behind it, Q from its loop's head -/
theorem y_161 [Inhabited gh_] (hsp : SPART dq m) (hm : m + 1 ≤ 12) (ho : o = 11 - (m : Int)) (hp : PS b F Mx Mq a0 o me) (hP : PXL b Mx Ma [Mx 71 a0, 30]) (hk : Mx 70 a0 = 18)
    (hS : b = 1 → dcU (Mx 70) (PTj (Mx 70) (LMT Mx) m) o (a0, lc_ b Mx) ≠ none)
    (hG : DGT dq m st mk T b F Mx Mq a0 o me G)
    (hQ : b = 0 → ∀ Mx', XA Mx Mx' → STT dq T Mq Mx' → Qt 8 Mx')
    (hq0 : ∀ (V : vv_) (Kv : mm_ → Prop) (Qt : qt_), Cl_ wd0 (Tr_ wd0 pg0 (dq + 15)) V (rv_ Kv) Qt m_260 → Wk_ V → Tr_ wd0 pg0 (dq + 15) 269 [.inr (.inr 6)] Mq (rv_ fun M3 => V 77 (LSz st mk me 0) [] (up_ M3 6 103 0)) Qt → T V) :
    Tr_ wd0 pg0 (9 * m + 25) 161 [.inr (.inr 1)] Ma (ri_ fun v M5 => Tr_ wd0 pg0 (d + 3) 121 [.inr (.inr 1), .inl 59] M5 (rv_ (G v)) Qt) Qt := by
  refine t_161 fun V hV hW => y_161h (dq := dq) hm ho hp hP hk (pt := PTj (Mx 70) (LMT Mx) m) (j := lc_ b Mx) (fun hb => bind_n (by have := hS hb; unfold dcU at this; exact this)) hV hW (fun M1 N1 a1 x1 x2 hD hxf hsy hq => ?_) (fun hb Mx' hx hq => ?_)
  · have lk1 := LKP_F (b := b) hxf
    refine y_161l hsp hm ho hp hS hV hW hG hQ 8 F M1 N1 a1 0 (-1) 1 0 (by decide) hD (fun V Kv Qtq hV hW h => hq0 V Kv Qtq hV hW (hq _ _ (Tr_rc h fun M3 h3 => h3.1))) lk1.1 (fun lm _ => ?_)
    rw [lk1.2]
    exact hsy _
  · exact hQ hb Mx' hx (fun V Kv Qtq hV hW hk => hq0 V Kv Qtq hV hW (hq _ _ fun M' hsq => q_260s77 hV hW (SQ_103 hsq) hk))
end DW
end T158_dw
section T159_pt
/-! parts: small steps -/
section P1
variable {d dq n : Nat} {b F F' : Int} {Mx Mq M N Mx1 Mq1 Mx2 Mq2 : mm_} {a a' o x st mk me x1 x2 x3 x4 x5 x6 v : Int} {K : Int → mm_ → Prop} {Kv : mm_ → Prop} {Qt : qt_} {V : vv_}
theorem y_135 [Inhabited gh_] (hE : ER b F Mx Mq a o) (ht : isL (Mx 70) a → K 1 Mx) (hf : ¬ isL (Mx 70) a → K 0 Mx) : Tr_ wd0 pg0 (d + 2) 135 [.inr (.inr 1)] Mx (ri_ K) Qt := by
  refine t_135 fun V hV hW => b_135_0 (Tr_mono _) hV hW Mx ?_
  refine y_103 hE (fun c => ?_) (fun c1 => ?_)
  · rw [if_neg (by decide)]; exact ⟨.inr rfl, ri_i (ht (by omega))⟩
  rw [if_pos rfl]
  refine y_103 hE (fun c => ?_) (fun c2 => ?_)
  · rw [if_neg (by decide)]; exact ⟨.inr rfl, ri_i (ht (by omega))⟩
  rw [if_pos rfl]
  refine y_103 hE (fun c => ?_) (fun c3 => ?_)
  · rw [if_neg (by decide)]; exact ⟨.inr rfl, ri_i (ht (by omega))⟩
  rw [if_pos rfl]
  exact ⟨.inl rfl, ri_i (hf (by omega))⟩
theorem y_134 [Inhabited gh_] (hE : ER b F Mx Mq a o) (ht : isA (Mx 70) a ∨ isL (Mx 70) a → K 1 Mx) (hf : ¬ isA (Mx 70) a → ¬ isL (Mx 70) a → K 0 Mx) : Tr_ wd0 pg0 (d + 3) 134 [.inr (.inr 1)] Mx (ri_ K) Qt := by
  refine t_134 fun V hV hW => b_134_0 (Tr_mono _) hV hW Mx ?_
  refine y_103 hE (fun c => ?_) (fun c1 => ?_)
  · rw [if_neg (by decide)]; exact ⟨.inr rfl, ri_i (ht (by omega))⟩
  rw [if_pos rfl]
  refine y_103 hE (fun c => ?_) (fun c2 => ?_)
  · rw [if_neg (by decide)]; exact ⟨.inr rfl, ri_i (ht (by omega))⟩
  rw [if_pos rfl]
  refine y_103 hE (fun c => ?_) (fun c3 => ?_)
  · rw [if_neg (by decide)]; exact ⟨.inr rfl, ri_i (ht (by omega))⟩
  rw [if_pos rfl]
  refine y_103 hE (fun c => ?_) (fun c4 => ?_)
  · rw [if_neg (by decide)]; exact ⟨.inr rfl, ri_i (ht (by omega))⟩
  rw [if_pos rfl]
  refine y_103 hE (fun c => ?_) (fun c5 => ?_)
  · rw [if_neg (by decide)]; exact ⟨.inr rfl, ri_i (ht (by omega))⟩
  rw [if_pos rfl]
  refine y_103 hE (fun c => ?_) (fun c6 => ?_)
  · rw [if_neg (by decide)]; exact ⟨.inr rfl, ri_i (ht (by omega))⟩
  rw [if_pos rfl]
  refine y_135 hE (fun c => ?_) (fun c => ?_)
  · rw [if_neg (by decide)]; exact ⟨.inr rfl, ri_i (ht (.inr c))⟩
  · rw [if_pos rfl]; exact ⟨.inl rfl, ri_i (hf (by omega) c)⟩
theorem y_136 [Inhabited gh_] (hE : ER b F Mx Mq a o) (ht : isN (Mx 70) a → K 1 Mx) (hf : ¬ isN (Mx 70) a → K 0 Mx) : Tr_ wd0 pg0 (d + 2) 136 [.inr (.inr 1)] Mx (ri_ K) Qt := by
  have ha := ER_a hE
  refine t_136 fun V hV hW => b_136_0 (Tr_mono _) hV hW Mx ?_
  refine y_103 hE (fun c => ?_) (fun c => ?_)
  · rw [if_neg (by decide), hE.2.1, w32_id (by omega) (by omega)]
    refine ⟨by omega, ?_⟩
    by_cases c2 : Mx 70 (a + 1) = 258
    · rw [if_pos c2]; exact ⟨.inr rfl, ri_i (ht ⟨c, c2⟩)⟩
    · rw [if_neg c2]; exact ⟨.inl rfl, ri_i (hf (fun h => c2 h.2))⟩
  · rw [if_pos rfl]; exact ⟨.inl rfl, ri_i (hf (fun h => c h.1))⟩
/-- an act at the last token: X -/
theorem x_143z [Inhabited gh_] (hE : ER b F Mx Mq a o) (hb : b = 0) (hk : Mx 70 a = 100) (h12 : a = 1200) (h : Qt 8 (flX_ Mx 2 a)) : Tr_ wd0 pg0 (d + 6) 143 [.inr (.inr 1)] Mx (ri_ K) Qt := by
  refine t_143 fun V hV hW => b_143_0 (Tr_mono _) hV hW Mx ?_
  refine y_103 hE (fun c => ?_) (fun c => absurd hk c)
  rw [if_neg (by decide)]
  refine t_144 fun V hV hW => b_144_0 (Tr_mono _) hV hW Mx ?_
  exact y_107 hE (fun hb1 => by omega) (fun _ h => by omega) (fun _ _ _ => h) (fun _ c => absurd hk c)
/-- a name at the last token: Q -/
theorem q_92z [Inhabited gh_] {Mx' : mm_} (hT : Tks M N) (hE : ER b F M N a o) (hb : b = 0) (hk : M 70 a = 100) (h12 : a = 1200) (hq : QA Mq N) (e4 : Mx' 1 4 = 2) (e5 : Mx' 1 5 = M 71 a ∧ 0 ≤ Mx' 1 7 ∧ Mx' 1 7 ≤ 1000001000 - (gg_ : Int)) (hV : Cl_ wd0 (Tr_ wd0 pg0 (d + 6)) V (rv_ Kv) Qt m_260) (hW : Wk_ V) (h : ∀ M', SQ Mx' Mq M' → Kv M') : V 92 [rr 6, ii x1, ii x2, ii x3, ii 0, ii 1, ii x6] [] N := by
  have hsp := SQ_bf hE hb (k := 2) (by decide) hq
  have hsp' : SQ Mx' Mq (bf_ N 2 (M 71 a)) := ⟨hsp.1, hsp.2.1, by rw [e4]; unfold bf_; rw [up_off (by decide), up_at], ⟨by rw [e5.1]; unfold bf_; rw [up_at], e5.2⟩, hsp.2.2.2.2⟩
  obtain ⟨g1, g2, g3, g4, g5, g6⟩ := ER_k hT hE
  refine b_260_92 (Tr_mono _) hV hW _ _ _ _ _ _ _ ?_
  rw [if_pos rfl]
  refine q_227g (ER_goq hE) ?_
  rw [if_pos rfl]
  have act : V 122 [rr 6, ii x1, ii x2, ii x3, ii 0, ii 1, ii x6] [] N := by
    refine q_158 (d := d + 4) hT hE (fun _ => by omega) hV hW (q_158a (d := d + 4) hT hE (by omega) (.inl hk) hV hW ?_)
    refine t_296 fun V2 hV2 hW2 => b_296_0 (Tr_mono _) hV2 hW2 _ ⟨g3, ?_⟩
    refine j_228f hT hE (by decide) (by omega) ?_
    rw [if_pos rfl]
    refine j_228f hT hE (by decide) (by omega) ?_
    rw [if_pos rfl]
    refine j_228f hT hE (by decide) (by omega) ?_
    rw [if_pos rfl]
    refine j_228f hT hE (by decide) (by omega) ?_
    rw [if_pos rfl]
    refine t_302 fun V3 hV3 hW3 => b_302_0 (Tr_mono _) hV3 hW3 _ _ (j_233r hT hE hb hk h12 (q_227s hsp.1 ?_))
    rw [if_neg (by decide)]
    exact rv_i (rv_i (q_260s77 hV hW (SQ_103 hsp') h))
  have lab : Tr_ wd0 pg0 (d + 6) 262 [.inr (.inr 6), .inl x3] N (rv_ fun M3 => V 92 [rr 6, ii x1, ii x2, ii x3, ii 0, ii 1, ii 1] [] M3) Qt := by
    refine t_262 fun V2 hV2 hW2 => b_262_0 (Tr_mono _) hV2 hW2 _ _ (j_233r hT hE hb hk h12 (q_227s hsp.1 ?_))
    rw [if_neg (by decide)]
    exact rv_i (q_260s92 hV hW hsp' h)
  refine t_261 fun V2 hV2 hW2 => b_261_0 (Tr_mono _) hV2 hW2 _ ⟨g3, ?_⟩
  have e12 : N 6 12 = a := hE.2.2.1
  have r1 : ri_ (fun v2 M2 => if v2 = 0 then V 122 [rr 6, ii x1, ii x2, ii x3, ii 0, ii 1, ii x6] [] M2 else Tr_ wd0 pg0 (d + 6) 262 [.inr (.inr 6), .inl x3] M2 (rv_ fun M3 => V 92 [rr 6, ii x1, ii x2, ii x3, ii 0, ii 1, ii 1] [] M3) Qt) [.inl 1] N := ri_i (by rw [if_neg (by decide)]; exact lab)
  have r0 : ri_ (fun v2 M2 => if v2 = 0 then V 122 [rr 6, ii x1, ii x2, ii x3, ii 0, ii 1, ii x6] [] M2 else Tr_ wd0 pg0 (d + 6) 262 [.inr (.inr 6), .inl x3] M2 (rv_ fun M3 => V 92 [rr 6, ii x1, ii x2, ii x3, ii 0, ii 1, ii 1] [] M3) Qt) [.inl 0] N := ri_i (by rw [if_pos rfl]; exact act)
  rw [e12, w32_id (by omega) (by omega)]
  have b1 : 0 ≤ a + 1 ∧ a + 1 < 1202 := by omega
  by_cases c1 : N 149 a = 1
  · rw [if_pos c1]
    refine ⟨b1, ?_⟩
    by_cases c2 : N 149 (a + 1) = 3
    · rw [if_pos c2]
      refine ⟨b1, ?_⟩
      by_cases c3 : (if N 151 (a + 1) < 58 then (-1 : Int) else if N 151 (a + 1) = 58 then 0 else 1) = 0
      · rw [if_pos c3]; exact ⟨.inr rfl, r1⟩
      · rw [if_neg c3]; exact ⟨.inl rfl, r0⟩
    · rw [if_neg c2]; exact ⟨.inl rfl, r0⟩
  · rw [if_neg c1]; exact ⟨.inl rfl, r0⟩
theorem PRC_103 [Inhabited gh_] (hp : PS b F M N a o me) : PRC b F F M N M (up_ N 6 103 v) a a o o me := by
  have e : ∀ r : Nat, r ≠ 6 → up_ N 6 103 v r = N r := fun r h => up_ne h
  have e6 : ∀ i : Int, i ≠ 103 → up_ N 6 103 v 6 i = N 6 i := fun i h => up_off h
  refine ⟨⟨Int.le_refl _, fun _ => rfl⟩, ER_Q (PS_E hp) (e6 _ (by decide)) (e6 _ (by decide)) (e6 _ (by decide)) (e6 _ (by decide)) (e6 _ (by decide)), ⟨XA_rf, QA_u6 (by decide)⟩, ⟨⟨fun _ _ _ => rfl, fun r i hr _ _ => by rw [e r (fun h => absurd hr (by rw [h]; decide))], fun _ _ _ => by rw [e 209 (by decide)], fun _ _ _ => by rw [e 227 (by decide), e 228 (by decide)]; exact ⟨rfl, rfl⟩, fun r i hr _ _ => by rw [e r (fun h => absurd hr (by rw [h]; decide))], fun r i hr _ _ => by rw [e r (fun h => absurd hr (by rw [h]; decide))], e6 _ (by decide)⟩, fun _ _ => ⟨rfl, rfl, rfl⟩, fun _ _ => by rw [e 213 (by decide), e 214 (by decide)]; exact ⟨rfl, rfl⟩, fun _ _ => by rw [e 175 (by decide)]; exact ⟨rfl, rfl⟩, fun _ _ => by rw [e 180 (by decide), e 187 (by decide), e 188 (by decide), e 189 (by decide)]; exact ⟨⟨rfl, rfl⟩, rfl, rfl, rfl, rfl⟩⟩, ⟨by omega, by rw [e6 75 (by decide)]; omega, by rw [e6 104 (by decide)]; omega, ⟨by omega, by omega, fun _ => rfl⟩, by rw [e6 90 (by decide)]; omega, by omega⟩, LBT_c hp.2.2.1 XA_rf (QA_u6 (by decide)) rfl rfl (e _ (by decide)) (e _ (by decide)) (e _ (by decide)) (Int.le_refl _), ?_, ⟨Int.le_refl _, fun _ => rfl, fun _ => ⟨rfl, rfl, e _ (by decide), e _ (by decide), e _ (by decide), fun l x y => by omega, fun l _ _ => ⟨fun h => .inl h, fun h => h.elim (fun h => h) (fun h => by omega)⟩⟩⟩⟩
  have := hp.2.2.2.2.2.2.2.2.1
  unfold MSK at this ⊢
  rw [e 213 (by decide), e 214 (by decide)]
  exact this
theorem tc_103 [Inhabited gh_] {T : Int} : tc_ T N (up_ N 6 103 v) := by
  refine ⟨⟨?_, ?_, ?_, ?_, ?_⟩, ?_, ?_, ?_, ?_, ?_, ?_, ?_, ?_⟩
  all_goals first
    | exact up_ne (by decide)
    | exact up_off (by decide)
    | rw [up_ne (by decide)]
theorem SEM_103 [Inhabited gh_] (h : SEM b Mx Mq M N x) : SEM b Mx Mq M (up_ N 6 103 v) x := by
  intro hb h0
  have e : ∀ r : Nat, r ≠ 6 → up_ N 6 103 v r = N r := fun r h => up_ne h
  have e6 : ∀ i : Int, i ≠ 103 → up_ N 6 103 v 6 i = N 6 i := fun i h => up_off h
  rw [e6 13 (by decide)] at h0
  obtain ⟨q0, sg, sb⟩ := h hb h0
  refine ⟨q0, ?_, ?_⟩
  · rw [e6 75 (by decide), e6 90 (by decide), e6 104 (by decide)]
    exact SEG_c sg (fun _ _ _ => rfl) (fun _ _ _ => by rw [e 216 (by decide), e 217 (by decide), e 218 (by decide), e 219 (by decide)]; exact ⟨rfl, rfl, rfl, rfl⟩) (fun r i hr _ _ => by rw [e r (fun h => absurd hr (by rw [h]; decide))]) (fun _ _ _ => by rw [e 209 (by decide)]) (fun _ _ _ => by rw [e 227 (by decide), e 228 (by decide)]; exact ⟨rfl, rfl⟩) tc_103 (Int.le_refl _) (fun _ _ _ => by rw [e 188 (by decide)]; exact ⟨rfl, rfl⟩)
  · unfold SBS
    rw [e6 75 (by decide), e 203 (by decide), e 205 (by decide)]
    exact sb
end P1
end T159_pt
section T160_sd
/-! what is said of a decide, for every number of brackets still to be opened -/
def dcV (κ : Int → Int) (lm : Int → Int → Bool) (n : Nat) (s : sj_) : Option sj_ := (DCj κ lm n s).bind fun s1 => (tS κ 259 s1.1).bind fun a2 => some (a2, s1.2)
def SDEC [Inhabited gh_] (dq n : Nat) : Prop := ∀ (b F : Int) (Mx Mq Ma : mm_) (a me st mk : Int) (T : vv_ → Prop) (G : Int → mm_ → Prop) (Qt : qt_), PS b F Mx Mq a (12 - (n : Int)) me → PXL b Mx Ma [Mx 71 a, 30] → Mx 70 a = 18 → (b = 1 → dcV (Mx 70) (LMT Mx) n (a, lc_ b Mx) ≠ none)
  → (∀ F2 M6 N6 a6 v, PRC b F F2 Mx Mq M6 N6 a a6 (12 - (n : Int)) (12 - (n : Int)) me → SEM b Mx Mq M6 N6 v → Mq 6 75 < N6 6 75 → (v = 0 ∨ v = 1) → N6 6 103 = v → (∀ lm, LOK b lm Mx M6 → dcV (Mx 70) lm n (a, lc_ b Mx) = some (a6, lc_ b M6)) → RTq dq st mk me T 0 N6 → G v M6)
  → (b = 0 → ∀ Mx', XA Mx Mx' → STT dq T Mq Mx' → Qt 8 Mx')
  → (∀ (V : vv_) (Kv : mm_ → Prop) (Qt : qt_), Cl_ wd0 (Tr_ wd0 pg0 (dq + 15)) V (rv_ Kv) Qt m_260 → Wk_ V → Tr_ wd0 pg0 (dq + 15) 269 [.inr (.inr 6)] Mq (rv_ fun M3 => V 77 (LSz st mk me 0) [] (up_ M3 6 103 0)) Qt → T V)
  → Tr_ wd0 pg0 (9 * n + 16) 161 [.inr (.inr 1)] Ma (ri_ fun v M5 => Tr_ wd0 pg0 (9 * n + 16) 121 [.inr (.inr 1), .inl 59] M5 (rv_ (G v)) Qt) Qt
section SD
variable {dq m : Nat}
theorem dcV_s [Inhabited gh_] {κ : Int → Int} {lm : Int → Int → Bool} {s : sj_} : dcV κ lm (m + 1) s = dcU κ (PTj κ lm m) (11 - (m : Int)) s := rfl
theorem dcV_0 [Inhabited gh_] {κ : Int → Int} {lm : Int → Int → Bool} {s : sj_} : dcV κ lm 0 s = none := by
  unfold dcV
  have e : DCj κ lm 0 s = none := by
    show dcT κ (fun _ => none) 12 s = none
    unfold dcT; rw [if_pos rfl]
  rw [e, Option.bind_none]
theorem SDEC_s [Inhabited gh_] (hsp : SPART dq m) (hm : m + 1 ≤ 12) : SDEC dq (m + 1) := by
  intro b F Mx Mq Ma a me st mk T G Qt hp hP hk hS hG hQ hq0
  have e1 : (12 : Int) - ((m + 1 : Nat) : Int) = 11 - (m : Int) := by omega
  rw [e1] at hp hG
  have e2 : 9 * (m + 1) + 16 = 9 * m + 22 + 3 := by omega
  rw [e2]
  refine Tr_le (d := 9 * m + 25) (by omega) (y_161 (dq := dq) (st := st) (mk := mk) (T := T) hsp hm rfl hp hP hk hS (fun F2 M6 N6 a6 v h1 h2 h3 h4 h5 h6 h7 => hG F2 M6 N6 a6 v h1 h2 h3 h4 h5 h6 h7) hQ hq0)
theorem SDEC_0 [Inhabited gh_] : SDEC dq 0 := by
  intro b F Mx Mq Ma a me st mk T G Qt hp hP hk hS hG hQ hq0
  have hE0 := PS_E hp
  have o12 : (12 : Int) - ((0 : Nat) : Int) = 12 := by omega
  rw [o12] at hE0
  have hT := hp.1.1
  have hb : b = 0 := by
    rcases bl01 hE0 with hb | hb
    · exact hb
    · exact absurd dcV_0 (hS hb)
  have eM : Ma = Mx := hP.2.2.1 hb
  rw [eM]
  obtain ⟨q1, q2, q3, q4, q5, q6⟩ := ER_k hT hE0
  have hsp0 := SQ_bf hE0 hb (k := 2) (by decide) QA_rf
  have e6 : ∀ i : Int, i ≠ 15 → bf_ (up_ Mq 6 15 13) 2 (Mx 71 a) 6 i = bf_ Mq 2 (Mx 71 a) 6 i := fun i hi => by
    unfold bf_
    by_cases c1 : i = 14
    · rw [c1, up_at, up_at]
    · rw [up_off c1, up_off c1]
      by_cases c2 : i = 13
      · rw [c2, up_at, up_at]
      · rw [up_off c2, up_off c2, up_off hi]
  have hsp : SQ (flX_ Mx 2 a) Mq (bf_ (up_ Mq 6 15 13) 2 (Mx 71 a)) := by
    refine ⟨⟨by rw [e6 13 (by decide)]; exact hsp0.1.1, by rw [e6 16 (by decide)]; exact hsp0.1.2⟩, by unfold in9_; rw [e6 12 (by decide)]; exact hsp0.2.1, by rw [e6 13 (by decide)]; exact hsp0.2.2.1, ⟨by rw [e6 14 (by decide)]; exact hsp0.2.2.2.1.1, hsp0.2.2.2.1.2⟩, ?_⟩
    exact QA_tr (QA_u6 (by decide)) (QA_tr (QA_u6 (by decide)) (QA_u6 (by decide)))
  refine t_161 fun V hV hW => b_161_0 (Tr_mono _) hV hW Mx ?_
  refine y_118 hE0 (fun hb1 => by omega) (fun h _ => by omega) (fun _ _ => ?_)
  refine hQ hb _ (XF_XA fl_XF) (fun V Kv Qtq hV hW hk9 => hq0 V Kv Qtq hV hW ?_)
  refine t_269 fun V2 hV2 hW2 => b_269_0 (Tr_mono _) hV2 hW2 Mq ⟨q3, ?_⟩
  refine q_240r (ER_ok hE0 hb) q3 (by rw [hE0.2.2.2.2.1]) ?_
  rw [q2]
  refine q_250s hsp.1 (q_270s hsp.1 (q_227s hsp.1 ?_))
  rw [if_neg (by decide)]
  exact rv_i (q_260s77 hV hW (SQ_103 hsp) hk9)
end SD
end T160_sd
section T161_pl
/-! parts: their items -/
/-- what holds behind a part, seen from an item of it -/
def PGO [Inhabited gh_] (dq n : Nat) (st mk me : Int) (T : vv_ → Prop) (b F : Int) (Mx Mq : mm_) (a : Int) (K0 : Int → mm_ → Prop) : Prop := ∀ F' M' N' a' v c, PRC b F F' Mx Mq M' N' a a' (12 - (n : Int)) (12 - (n : Int)) me → SEM b Mx Mq M' N' v → Mq 6 75 < N' 6 75 → (v = 0 ∨ v = 1) → N' 6 103 = v → ((c = 1 ∧ v = 1) ∨ (c = 0 ∧ ¬ isA (Mx 70) a' ∧ ¬ isL (Mx 70) a'))
  → (∀ lm, LOK b lm Mx M' → LQ (ptT1 (Mx 70) lm (DCj (Mx 70) lm n) (12 - (n : Int))) (a, lc_ b Mx) = some (a', lc_ b M')) → RTq dq st mk me T c N' → K0 v M'
section PL
variable {d dq n : Nat} {b F F' F2 : Int} {Mx Mq M N Ma M1 N1 M2 N2 : mm_} {a a1 a2 o x st mk me x1 x2 x3 x4 x5 x6 v : Int} {K K0 : Int → mm_ → Prop} {Kv : mm_ → Prop} {Qt : qt_} {V : vv_} {T : vv_ → Prop} {κ : Int → Int} {lm : Int → Int → Bool} {dec : sj_ → Option sj_}
/-- a label ahead -/
theorem SEM_lb [Inhabited gh_] (hp : PS b F Mx Mq a o me) (hP1 : PRC b F F' Mx Mq M1 N1 a a1 o o me) (h : (M1 5 3 = Mx 5 3 ∧ N1 6 75 = Mq 6 75 ∧ N1 6 90 = Mq 6 90 ∧ M1 1 21 = Mx 1 21 ∧ M1 1 23 = Mx 1 23 ∧ lc_ b M1 = lc_ b Mx + 1) ∧ (b = 0 → M1 62 (10 * Mx 1 18 + lc_ b Mx) = a) ∧ (b = 1 → N1 6 13 = 0 → Mq 6 13 = 0) ∧ (b = 1 → M1 129 (10 * Mx 1 18 + Mx 1 19) = Mx 5 3 ∧ N1 188 (10 * Mx 1 18 + Mx 1 19) = Mq 6 75))
    (hP2 : PRC b F' F2 M1 N1 M2 N2 a1 a2 o o me) (hlt : N1 6 75 < N2 6 75) (hS : SEM b M1 N1 M2 N2 v) : SEM b Mx Mq M2 N2 v := by
  intro hb h0
  obtain ⟨⟨e53, e75, e90, e21, e23, elc⟩, _, e13, e129⟩ := h
  obtain ⟨q0, sg, sb⟩ := hS hb h0
  obtain ⟨f1, f2⟩ := e129 hb
  have l1 : lc_ b M1 = M1 1 19 := by unfold lc_; rw [if_neg (by omega)]
  have l0 : lc_ b Mx = Mx 1 19 := by unfold lc_; rw [if_neg (by omega)]
  have hT : Mx 1 18 = Mq 6 61 := hp.1.2.1.2.1.symm
  have t18 : M1 1 18 = Mx 1 18 := hP1.2.2.1.1.2.1 18 (by decide)
  have n61 : N1 6 61 = Mq 6 61 := hP1.2.2.1.2.2 61 (by decide)
  have w4 := hP2.2.2.2.1.2.2.2.2
  refine ⟨e13 hb q0, ?_, ?_⟩
  · rw [n61, e75, e53, e90] at sg
    refine SEG_l (j1 := M1 1 19) (by omega) (by omega) sg (fun l x y => ?_)
    have el : l = Mx 1 19 := by omega
    have q := w4 (10 * Mx 1 18 + Mx 1 19) (.inl (by rw [t18, l1]; omega))
    rw [el, ← hT, q.1.2, q.2.2.2.1]
    exact ⟨f1, f2⟩
  · unfold SBS at sb ⊢
    rw [e75, e21, e23] at sb
    exact sb
theorem LQ_pt [Inhabited gh_] {o j : Int} (hd : jc_ dec) (h0 : 0 ≤ a) (h1 : a ≤ 1200) : LQ (ptT1 κ lm dec o) (a, j) = (ptT1 κ lm dec o (a, j)).bind (lk9 (LQ (ptT1 κ lm dec o))) := ptT_u (s := (a, j)) hd h0 h1
/-- a label's place in the text -/
theorem ptT1_n [Inhabited gh_] {o j : Int} (hn : isN κ a) (hl : lm j a = true) (h12 : a + 1 < 1200) : ptT1 κ lm dec o (a, j) = some (.inl (a + 2, j + 1)) := by
  unfold ptT1
  rw [if_pos hn, if_pos hl, gS_e (by omega), Option.bind_some, gS_e h12, Option.bind_some]
  show some (Sum.inl (a + 1 + 1, j + 1)) = some (Sum.inl (a + 2, j + 1))
  rw [show a + 1 + 1 = a + 2 by omega]
theorem ptT1_l [Inhabited gh_] {o j : Int} (hn : ¬ isN κ a) (hl : isL κ a) : ptT1 κ lm dec o (a, j) = (laS κ a).bind fun a1 => some (.inr (a1, j)) := by
  unfold ptT1; rw [if_neg hn, if_pos hl]
theorem ptT1_d [Inhabited gh_] {o j : Int} (hn : ¬ isN κ a) (hl : ¬ isL κ a) (hk : κ a = 18) : ptT1 κ lm dec o (a, j) = (dec (a, j)).bind fun s1 => (tS κ 259 s1.1).bind fun a2 => nxT κ (a2, s1.2) := by
  unfold ptT1; rw [if_neg hn, if_neg hl, if_pos hk]
theorem ptT1_a [Inhabited gh_] {o j : Int} (hn : ¬ isN κ a) (hl : ¬ isL κ a) (hk : κ a ≠ 18) (hA : isA κ a) : ptT1 κ lm dec o (a, j) = (acS κ (fun _ => none) o a).bind fun a1 => nxT κ (a1, j) := by
  unfold ptT1; rw [if_neg hn, if_neg hl, if_neg hk, if_pos hA]
theorem ptT1_w [Inhabited gh_] {o j : Int} (hn : ¬ isN κ a) (hl : ¬ isL κ a) (hA : ¬ isA κ a) : ptT1 κ lm dec o (a, j) = none := by
  unfold ptT1; rw [if_neg hn, if_neg hl, if_neg (show ¬ κ a = 18 by omega), if_neg hA]
theorem nxT_1 [Inhabited gh_] {s : sj_} (h : isA κ s.1 ∨ isL κ s.1) : nxT κ s = some (.inl s) := by unfold nxT; rw [if_pos h]
theorem nxT_0 [Inhabited gh_] {s : sj_} (h1 : ¬ isA κ s.1) (h2 : ¬ isL κ s.1) : nxT κ s = some (.inr s) := by unfold nxT; rw [if_neg (fun h => h.elim h1 h2)]
/-- the memory where an item begins -/
theorem PXL_2 [Inhabited gh_] (hp : PS b F Mx Mq a o me) : PXL b Mx (pX_ (pX_ Mx 30) (Mx 71 a)) [Mx 71 a, 30] := by
  have hE := PS_E hp
  have h8 := hE.2.2.2.2.2.2.1
  exact PXL_1 h8 (bl01 hE) (PXL_1 h8 (bl01 hE) PXL_0)
theorem TA_a [Inhabited gh_] (hp : PS b F Mx Mq a o me) (hP : PXL b Mx Ma [Mx 71 a, 30]) : TA b F Ma Mq a o ∧ GT b F Ma Mq (Ma 71 a) ∧ ER b F Ma Mq a o ∧ stt9 Ma Mq ∧ lbl9 Ma Mq := by
  have hE := PS_E hp
  have ha := ER_a hE
  have s0 := hp.2.2.2.2.2.2.2.2.2.2
  have st0 := ER_st hE
  obtain ⟨p1, p2, p3, p4, p5, p6, p7⟩ := hP
  have len : ((([Mx 71 a, 30] : List Int).length : Nat) : Int) = 2 := rfl
  rw [len] at p7
  have xa := XF_XA p1
  have hE' : ER b F Ma Mq a o := ER_X3 hE (XF_70 p1 (by decide) (by decide) (by decide)) p2 (by omega)
  have e71 : Ma 71 = Mx 71 := XF_70 p1 (by decide) (by decide) (by decide)
  refine ⟨⟨Tks_a xa QA_rf hp.1.1, VT_a xa QA_rf hp.1.2.1, hE', hp.1.2.2.2.1, hp.1.2.2.2.2.1, by omega⟩, by rw [e71]; exact GT_a xa QA_rf hp.2.1, hE', stt9_a xa QA_rf hp.2.2.2.1, ?_⟩
  exact (LBT_c hp.2.2.1 xa QA_rf (XF_70 p1 (by decide) (by decide) (by decide)) (XF_70 p1 (by decide) (by decide) (by decide)) rfl rfl rfl (Int.le_refl _)).1
end PL
end T161_pl
section T162_pl
/-! parts: a last, an act -/
section PM
variable {d dq n : Nat} {b F F' F2 : Int} {Mx Mq M N Ma M1 N1 M2 N2 MX MQ Mx' : mm_} {a a1 a2 a' o x st mk me x1 x2 x3 x4 x5 x6 v w : Int} {K K0 : Int → mm_ → Prop} {Kv : mm_ → Prop} {Qt : qt_} {V : vv_} {T : vv_ → Prop}
/-- Q's point T lies ahead of the labels of an item -/
def T92 (dq : Nat) (st mk me x6 : Int) (Mq : mm_) (T : vv_ → Prop) : Prop := ∀ (V : vv_) (Kv : mm_ → Prop) (Qt : qt_), Cl_ wd0 (Tr_ wd0 pg0 (dq + 15)) V (rv_ Kv) Qt m_260 → Wk_ V → V 92 [rr 6, ii st, ii mk, ii me, ii 0, ii 1, ii x6] [] Mq → T V
theorem lc_XC [Inhabited gh_] (hP : PXL b Mx Ma [Mx 71 a, 30]) (h62 : MX 62 = Ma 62) (h128 : MX 128 = Ma 128) (h18 : MX 1 18 = Ma 1 18) (h19 : MX 1 19 = Ma 1 19) (hC : XC MX Mx') : LKP b Mx Mx' ∧ lc_ b Mx' = lc_ b Mx := by
  refine LKP_X ?_ ?_ ?_ ?_
  · rw [hC.1 62 (by decide), h62, XF_70 hP.1 (by decide) (by decide) (by decide)]
  · rw [hC.1 128 (by decide), h128, XF_70 hP.1 (by decide) (by decide) (by decide)]
  · rw [hC.2.1 18 (by decide), h18, hP.2.1]
  · rw [hC.2.1 19 (by decide), h19, hP.2.1]
theorem LM_k [Inhabited gh_] (h : LM b Mx Mq me MX MQ) : MX 62 = Mx 62 ∧ MX 128 = Mx 128 ∧ MX 1 = Mx 1 ∧ MQ 6 = Mq 6 := by
  rcases h with ⟨h1, h2⟩ | ⟨_, k, _, ⟨_, h1, h2⟩ | ⟨_, h1, h2⟩⟩
  · rw [h1, h2]; exact ⟨rfl, rfl, rfl, rfl⟩
  · rw [h1, h2]; refine ⟨?_, ?_, ?_, ?_⟩ <;> rw [up_ne (by decide)]
  · rw [h1, h2]; refine ⟨?_, ?_, ?_, ?_⟩ <;> rw [up_ne (by decide)]
theorem SM_k [Inhabited gh_] (h : SM Mx MX w v) : MX 62 = Mx 62 ∧ MX 128 = Mx 128 ∧ MX 1 18 = Mx 1 18 ∧ MX 1 19 = Mx 1 19 := by
  unfold SM at h
  rcases h with ⟨h1, _⟩ | h
  · rw [h1]; exact ⟨rfl, rfl, rfl, rfl⟩
  · rcases h with ⟨_, _, h⟩ | ⟨_, _, h⟩
    · rw [h]; exact ⟨up_ne (by decide), up_ne (by decide), up_off (by decide), up_off (by decide)⟩
    · rw [h]; exact ⟨up_ne (by decide), up_ne (by decide), up_off (by decide), up_off (by decide)⟩
theorem y_133a [Inhabited gh_] (hp : PS b F Mx Mq a (12 - (n : Int)) me) (hP : PXL b Mx Ma [Mx 71 a, 30]) (hn : ¬ isN (Mx 70) a) (hl : isL (Mx 70) a) (hT92 : T92 dq st mk me x6 Mq T)
    (hS : b = 1 → LQ (ptT1 (Mx 70) (LMT Mx) (DCj (Mx 70) (LMT Mx) n) (12 - (n : Int))) (a, lc_ b Mx) ≠ none)
    (hG : PGO dq n st mk me T b F Mx Mq a K0) (hQ : b = 0 → ∀ Mx', XA Mx Mx' → STT dq T Mq Mx' → Qt 8 Mx') : Tr_ wd0 pg0 (d + 8) 140 [.inr (.inr 1)] Ma (rv_ (K0 1)) Qt := by
  obtain ⟨tA, tG, tE, t9, l9⟩ := TA_a hp hP
  have hE := PS_E hp
  have hT := hp.1.1
  have ha := ER_a hE
  have xa := XF_XA hP.1
  have a70 : Ma 70 = Mx 70 := XF_70 hP.1 (by decide) (by decide) (by decide)
  obtain ⟨u1, u2, u3⟩ := hp.2.2.2.2.1
  have eS : ∀ lm, LQ (ptT1 (Mx 70) lm (DCj (Mx 70) lm n) (12 - (n : Int))) (a, lc_ b Mx) = ((laS (Mx 70) a).bind fun a1 => some (Sum.inr (a1, lc_ b Mx))).bind (lk9 (LQ (ptT1 (Mx 70) lm (DCj (Mx 70) lm n) (12 - (n : Int))))) := fun lm => by
    have e := LQ_pt (κ := Mx 70) (lm := lm) (o := 12 - (n : Int)) (j := lc_ b Mx) (jw_PTj (κ := Mx 70) (lm := lm) n).2 ha.1 ha.2
    rw [ptT1_l hn hl] at e
    exact e
  have toQ : ∀ (V : vv_) (Kv : mm_ → Prop) (Qt : qt_), Cl_ wd0 (Tr_ wd0 pg0 (dq + 15)) V (rv_ Kv) Qt m_260 → Wk_ V → Tr_ wd0 pg0 (dq + 15) 264 [.inr (.inr 6), .inl me] Mq (rv_ fun M3 => V 77 (LSz st mk me 1) [] (up_ M3 6 103 1)) Qt → T V := fun V Kv Qtq hV hW h => hT92 V Kv Qtq hV hW (q_92 (d := dq + 14) hT hE (fun _ => hn) (fun _ h => by omega) hV hW (q_122l (d := dq + 13) hT hE hl hV hW h))
  refine y_140a (dq := dq + 9) (me := me) tA l9 t9 (by rw [hP.2.1]; exact u1) u2 (fun hb => by rw [hP.2.1, XF_70 hP.1 (by decide) (by decide) (by decide)]; exact u3 hb) (by rw [a70]; omega) (fun hb => by rw [a70]; have := hS hb; rw [eS] at this; exact bind_n (bind_n this)) (fun MX MQ Mx' Mq' a' w hLM hw hAR hla hq => ?_) (fun hb Mx' hx hq => ?_)
  · obtain ⟨P, S⟩ := LA_P hp hP hLM (by omega) hAR
    have k := LM_k hLM
    have lk := lc_XC hP k.1 k.2.1 (by rw [k.2.2.1]) (by rw [k.2.2.1]) hAR.2.1
    have e75 : Mq' 6 75 = Mq 6 75 + 1 := by rw [hAR.2.2.2.2.1, k.2.2.2]
    have p1 := PS_tr hp P (Int.le_refl _)
    rw [a70] at hla
    refine hG F Mx' (up_ Mq' 6 103 1) a' 1 1 (PRC_tr hp.1.2.2.2.1.1 P (PRC_103 p1)) (SEM_103 S) (by rw [up_off (by decide)]; omega) (.inr rfl) up_at (.inl ⟨rfl, rfl⟩) (fun lm _ => ?_) (fun V Kv Qtq hV hW hk => toQ V Kv Qtq hV hW (hq _ _ hk))
    rw [eS lm, hla, Option.bind_some, lk.2]
    rfl
  · exact hQ hb Mx' (XA_tr xa hx) (fun V Kv Qtq hV hW hk => toQ V Kv Qtq hV hW (hq _ _ fun M' hsq => q_260s77 hV hW (SQ_103 hsq) hk))
end PM
end T162_pl
section T163_pl
/-! parts: acts and decides as items -/
/-- what holds behind an act or a decide -/
def ITM [Inhabited gh_] (dq n : Nat) (st mk me : Int) (T : vv_ → Prop) (b F : Int) (Mx Mq : mm_) (a : Int) (G : Int → mm_ → Prop) : Prop := ∀ F1 M7 N7 a1 v, PRC b F F1 Mx Mq M7 N7 a a1 (12 - (n : Int)) (12 - (n : Int)) me → SEM b Mx Mq M7 N7 v → Mq 6 75 < N7 6 75 → (v = 0 ∨ v = 1) → N7 6 103 = v
  → (∀ lm, LOK b lm Mx M7 → ptT1 (Mx 70) lm (DCj (Mx 70) lm n) (12 - (n : Int)) (a, lc_ b Mx) = nxT (Mx 70) (a1, lc_ b M7)) → RTq dq st mk me T 0 N7 → G v M7
section PI
variable {d dq n : Nat} {b F F' F2 : Int} {Mx Mq M N Ma M1 N1 M2 N2 MX MQ Mx' : mm_} {a a1 a2 a' o x st mk me x1 x2 x3 x4 x5 x6 v w : Int} {K K0 G : Int → mm_ → Prop} {Kv : mm_ → Prop} {Qt : qt_} {V : vv_} {T : vv_ → Prop} {κ : Int → Int} {lm : Int → Int → Bool}
theorem y_133b [Inhabited gh_] (hn12 : n ≤ 12) (hp : PS b F Mx Mq a (12 - (n : Int)) me) (hP : PXL b Mx Ma [Mx 71 a, 30]) (hn : ¬ isN (Mx 70) a) (hl : ¬ isL (Mx 70) a) (hk : Mx 70 a ≠ 18) (hA : isA (Mx 70) a) (hz : b = 0 → Mx 70 a = 100 → a < 1200) (hT92 : T92 dq st mk me x6 Mq T)
    (hS : b = 1 → ptT1 (Mx 70) (LMT Mx) (DCj (Mx 70) (LMT Mx) n) (12 - (n : Int)) (a, lc_ b Mx) ≠ none)
    (hG : ITM dq n st mk me T b F Mx Mq a G) (hQ : b = 0 → ∀ Mx', XA Mx Mx' → STT dq T Mq Mx' → Qt 8 Mx') : Tr_ wd0 pg0 (9 * n + 17) 143 [.inr (.inr 1)] Ma (ri_ G) Qt := by
  obtain ⟨tA, tG, tE, t9, l9⟩ := TA_a hp hP
  have hE := PS_E hp
  have hT := hp.1.1
  have ha := ER_a hE
  have xa := XF_XA hP.1
  have a70 : Ma 70 = Mx 70 := XF_70 hP.1 (by decide) (by decide) (by decide)
  have toQ : (Mx 70 a = 100 → a < 1200) → ∀ (V : vv_) (Kv : mm_ → Prop) (Qt : qt_), Cl_ wd0 (Tr_ wd0 pg0 (dq + 15)) V (rv_ Kv) Qt m_260 → Wk_ V → Tr_ wd0 pg0 (dq + 15) 296 [.inr (.inr 6)] Mq (rv_ fun M3 => V 77 (LSz st mk me 0) [] (up_ M3 6 103 0)) Qt → T V := fun h12 V Kv Qtq hV hW h => hT92 V Kv Qtq hV hW (q_92 (d := dq + 14) hT hE (fun _ => hn) (fun _ => h12) hV hW (q_158 (d := dq + 13) hT hE (fun _ => hl) hV hW (q_158a (d := dq + 13) hT hE hk hA hV hW h)))
  refine y_143a (dq := dq) (dec := fun _ => none) hn12 rfl tA tG (by rw [a70]; omega) (fun hb => by rw [a70]; have := hS hb; rw [ptT1_a hn hl hk hA] at this; exact bind_n this) (fun MX Mx' Mq' a' w v hSM hw hAR hac hq => ?_) (fun hb Mx' hx hq => ?_)
  · obtain ⟨P, S⟩ := AR_P hp hP hSM (by omega) hAR
    have k := SM_k hSM
    have lk := lc_XC hP k.1 k.2.1 k.2.2.1 k.2.2.2 hAR.2.1
    have e75 : Mq' 6 75 = Mq 6 75 + 1 := hAR.2.2.2.2.1
    have a12 : a < 1200 := by have := hAR.1; have := (ER_a hAR.2.2.2.1).2; omega
    have p1 := PS_tr hp P (Int.le_refl _)
    rw [a70] at hac
    refine hG F Mx' (up_ Mq' 6 103 0) a' 0 (PRC_tr hp.1.2.2.2.1.1 P (PRC_103 p1)) (SEM_103 S) (by rw [up_off (by decide)]; omega) (.inl rfl) up_at (fun lm _ => ?_) (fun V Kv Qtq hV hW hk => toQ (fun _ => a12) V Kv Qtq hV hW (hq _ _ hk))
    rw [ptT1_a hn hl hk hA, hac, Option.bind_some, lk.2]
  · exact hQ hb Mx' (XA_tr xa hx) (fun V Kv Qtq hV hW hk => toQ (hz hb) V Kv Qtq hV hW (hq _ _ fun M' hsq => q_260s77 hV hW (SQ_103 hsq) hk))
theorem ptT1_v [Inhabited gh_] {j : Int} (hn : ¬ isN κ a) (hl : ¬ isL κ a) (hk : κ a = 18) : ptT1 κ lm (DCj κ lm n) o (a, j) = (dcV κ lm n (a, j)).bind (nxT κ) := by
  rw [ptT1_d hn hl hk]
  unfold dcV
  cases DCj κ lm n (a, j) with
  | none => rfl
  | some s1 =>
    rw [Option.bind_some, Option.bind_some]
    cases tS κ 259 s1.1 with
    | none => rfl
    | some a2 => rw [Option.bind_some, Option.bind_some, Option.bind_some]
theorem y_133d [Inhabited gh_] (hsd : SDEC dq n) (hp : PS b F Mx Mq a (12 - (n : Int)) me) (hP : PXL b Mx Ma [Mx 71 a, 30]) (hn : ¬ isN (Mx 70) a) (hl : ¬ isL (Mx 70) a) (hk : Mx 70 a = 18) (hT92 : T92 dq st mk me x6 Mq T)
    (hS : b = 1 → ptT1 (Mx 70) (LMT Mx) (DCj (Mx 70) (LMT Mx) n) (12 - (n : Int)) (a, lc_ b Mx) ≠ none)
    (hG : ITM dq n st mk me T b F Mx Mq a G) (hQ : b = 0 → ∀ Mx', XA Mx Mx' → STT dq T Mq Mx' → Qt 8 Mx') : Tr_ wd0 pg0 (9 * n + 17) 143 [.inr (.inr 1)] Ma (ri_ G) Qt := by
  obtain ⟨tA, tG, tE, t9, l9⟩ := TA_a hp hP
  have hE := PS_E hp
  have hT := hp.1.1
  have a70 : Ma 70 = Mx 70 := XF_70 hP.1 (by decide) (by decide) (by decide)
  refine t_143 fun V hV hW => b_143_0 (Tr_mono _) hV hW Ma ?_
  refine y_103 tE (fun c => by rw [a70] at c; omega) (fun _ => ?_)
  rw [if_pos rfl]
  refine y_103 tE (fun c => by rw [a70] at c; omega) (fun _ => ?_)
  rw [if_pos rfl]
  refine y_103 tE (fun c => by rw [a70] at c; omega) (fun _ => ?_)
  rw [if_pos rfl]
  refine y_103 tE (fun c => by rw [a70] at c; omega) (fun _ => ?_)
  rw [if_pos rfl]
  refine y_103 tE (fun c => by rw [a70] at c; omega) (fun _ => ?_)
  rw [if_pos rfl]
  refine hsd b F Mx Mq Ma a me st mk T (fun v M7 => bl_ v ∧ ri_ G [.inl v] M7) Qt hp hP hk (fun hb => ?_) (fun F2 M6 N6 a6 v P S hlt hv h3 hsy hrt => ?_) hQ (fun V Kv Qtq hV hW h => ?_)
  · have := hS hb
    rw [ptT1_v hn hl hk] at this
    exact bind_n this
  · refine ⟨hv, ri_i (hG F2 M6 N6 a6 v P S hlt hv h3 (fun lm hlm => ?_) hrt)⟩
    rw [ptT1_v hn hl hk, hsy lm hlm, Option.bind_some]
  · exact hT92 V Kv Qtq hV hW (q_92 (d := dq + 14) hT hE (fun _ => hn) (fun _ h => by omega) hV hW (q_158 (d := dq + 13) hT hE (fun _ => hl) hV hW (q_158d (d := dq + 13) hT hE hk hV hW h)))
end PI
end T163_pl
section T164_pp
/-! parts: the loop -/
section PP
variable {d dq n : Nat} {b F F' F2 : Int} {Mx Mq M N Ma M1 N1 M2 N2 MX MQ Mx' : mm_} {a a1 a2 a' o x st mk me x1 x2 x3 x4 x5 x6 v w : Int} {K K0 G : Int → mm_ → Prop} {Kv : mm_ → Prop} {Qt : qt_} {V : vv_} {T : vv_ → Prop} {κ : Int → Int} {lm : Int → Int → Bool}
/-- what the syntax says from here -/
def LPT (n : Nat) (κ : Int → Int) (lm : Int → Int → Bool) (s : sj_) : Option sj_ := LQ (ptT1 κ lm (DCj κ lm n) (12 - (n : Int))) s
theorem LPT_u [Inhabited gh_] {j : Int} (h0 : 0 ≤ a) (h1 : a ≤ 1200) : LPT n κ lm (a, j) = (ptT1 κ lm (DCj κ lm n) (12 - (n : Int)) (a, j)).bind (lk9 (LPT n κ lm)) := LQ_pt (jw_PTj (κ := κ) (lm := lm) n).2 h0 h1
theorem hQ_1 [Inhabited gh_] (hP : PRC b F F' Mx Mq M1 N1 a a1 o o me) (hQ : b = 0 → ∀ Mx', XA Mx Mx' → STT dq T Mq Mx' → Qt 8 Mx') : b = 0 → ∀ Mx', XA M1 Mx' → STT dq T N1 Mx' → Qt 8 Mx' := fun hb Mx' hx hs => hQ hb Mx' (XA_tr hP.2.2.1.1 hx) (fun V Kv Qtq hV hW hk => hs V Kv Qtq hV hW (fun M' hsq => hk M' (SQ_q hP.2.2.1.2 hsq)))
/-- a step more: what is owed from there -/
theorem PGO_1 [Inhabited gh_] (hp : PS b F Mx Mq a (12 - (n : Int)) me) (hP : PRC b F F' Mx Mq M1 N1 a a1 (12 - (n : Int)) (12 - (n : Int)) me) (hS : SEM b Mx Mq M1 N1 w)
    (hsy : ∀ lm, LOK b lm Mx M1 → LPT n (Mx 70) lm (a, lc_ b Mx) = LPT n (Mx 70) lm (a1, lc_ b M1)) (hG : PGO dq n st mk me T b F Mx Mq a K0) : PGO dq n st mk me T b F' M1 N1 a1 K0 := by
  intro F2 M2 N2 a2 v c P S hlt hv h3 hc hs hrt
  have e70 : M1 70 = Mx 70 := hP.2.2.1.1.1 70 (by decide)
  rw [e70] at hc
  refine hG F2 M2 N2 a2 v c (PRC_tr hp.1.2.2.2.1.1 hP P) (SEM_tr hp hP P hS S) (by have := hP.2.2.2.2.1.2.1.1; omega) hv h3 hc (fun lm hlm => ?_) hrt
  have q := LOK_s (LKP_P hP) (LKP_P P) hlm
  have e := hs lm q.2
  rw [e70] at e
  exact (hsy lm q.1).trans e
theorem ITM_lt [Inhabited gh_] (hE : ER b F Mx Mq a o) (hsy : ∀ lm, LOK b lm Mx M1 → ptT1 (Mx 70) lm (DCj (Mx 70) lm n) (12 - (n : Int)) (a, lc_ b Mx) = nxT (Mx 70) (a1, lc_ b M1)) : a + 1 ≤ a1 := by
  have ha := ER_a hE
  have main : ∀ lm, LOK b lm Mx M1 → a + 1 ≤ a1 := fun lm hlm => by
    have e := hsy lm hlm
    by_cases c : isA (Mx 70) a1 ∨ isL (Mx 70) a1
    · rw [nxT_1 c] at e
      exact (ptT1_b (jw_PTj (κ := Mx 70) (lm := lm) n).2 (a, lc_ b Mx) _ ha.1 ha.2 e (a1, lc_ b M1) (.inl rfl)).1
    · rw [nxT_0 (fun h => c (.inl h)) (fun h => c (.inr h))] at e
      exact (ptT1_b (jw_PTj (κ := Mx 70) (lm := lm) n).2 (a, lc_ b Mx) _ ha.1 ha.2 e (a1, lc_ b M1) (.inr rfl)).1
  rcases bl01 hE with hb | hb
  · exact main (fun _ _ => true) ⟨fun _ _ _ _ => rfl, fun h => by omega⟩
  · exact main (LMT Mx) (LOK_1 hb)
theorem y_133s [Inhabited gh_] (hn12 : n ≤ 12) (hsd : SDEC dq n) (hV : Cl_ wd0 (Tr_ wd0 pg0 (9 * n + 18)) V (ri_ K0) Qt m_133) (hW : Wk_ V) (hp : PS b F Mx Mq a (12 - (n : Int)) me) (hT92 : T92 dq st mk me x6 Mq T) (hx6 : (x6 = 0 ∧ (isA (Mx 70) a ∨ isL (Mx 70) a)) ∨ x6 = 1)
    (hS : b = 1 → LPT n (Mx 70) (LMT Mx) (a, lc_ b Mx) ≠ none)
    (hG : PGO dq n st mk me T b F Mx Mq a K0) (hQ : b = 0 → ∀ Mx', XA Mx Mx' → STT dq T Mq Mx' → Qt 8 Mx')
    (ih : ∀ F1 M1 N1 a1 y1 y6, a < a1 → PS b F1 M1 N1 a1 (12 - (n : Int)) me → T92 dq st mk me y6 N1 T → ((y6 = 0 ∧ (isA (M1 70) a1 ∨ isL (M1 70) a1)) ∨ y6 = 1) → (b = 1 → LPT n (M1 70) (LMT M1) (a1, lc_ b M1) ≠ none) → PGO dq n st mk me T b F1 M1 N1 a1 K0 → (b = 0 → ∀ Mx', XA M1 Mx' → STT dq T N1 Mx' → Qt 8 Mx') → V 11 [rr 1, ii y1, ii 1, none] [] M1) :
    V 11 [rr 1, ii x1, ii 1, none] [] Mx := by
  have hE := PS_E hp
  have hT := hp.1.1
  have ha := ER_a hE
  have h01 := bl01 hE
  have st0 := ER_st hE
  have s53 := hp.2.2.2.2.2.2.2.2.2.2
  have h12 := hp.1.2.1.1
  have hfl := hp.2.2.2.2.2.1
  have hS1 : b = 1 → ptT1 (Mx 70) (LMT Mx) (DCj (Mx 70) (LMT Mx) n) (12 - (n : Int)) (a, lc_ b Mx) ≠ none := fun hb => by have := hS hb; rw [LPT_u ha.1 ha.2] at this; exact bind_n this
  refine b_133_11 (Tr_mono _) hV hW _ _ _ ?_
  refine y_136 hE (fun hn => ?_) (fun hn => ?_)
  · -- a label
    rw [if_neg (by decide)]
    have step : ∀ F' M1 N1, LBR b F F' Mx Mq M1 N1 a (12 - (n : Int)) me → a + 1 < 1200 → (b = 1 → LMT Mx (lc_ b Mx) a = true) → (∀ (Kv : mm_ → Prop) (Qtq : qt_), Kv N1 → Tr_ wd0 pg0 (dq + 11 + 4) 262 [.inr (.inr 6), .inl me] Mq (rv_ Kv) Qtq) → V 11 [rr 1, ii x1, ii 1, none] [] M1 := by
      intro F' M1 N1 hL a12 hlm hq
      obtain ⟨P, L⟩ := LB_P hp (fun hb => by have q := of_decide_eq_true (hlm hb); have e : lc_ b Mx = Mx 1 19 := by (unfold lc_; rw [if_neg (by omega)])
                                             rw [e] at q; exact q.2.1) hL
      have p1 := PS_tr hp P (Int.le_refl _)
      have e70 : M1 70 = Mx 70 := P.2.2.1.1.1 70 (by decide)
      have lt62 : ∀ lm, LOK b lm Mx M1 → lm (lc_ b Mx) a = true := fun lm h => by
        rcases h01 with hb | hb
        · have q := h.1 hb (lc_ b Mx) (Int.le_refl _) (by rw [L.1.2.2.2.2.2]; omega)
          rw [L.2.1 hb] at q; exact q
        · rw [h.2 hb]; exact hlm hb
      have sy : ∀ lm, LOK b lm Mx M1 → LPT n (Mx 70) lm (a, lc_ b Mx) = LPT n (Mx 70) lm (a + 2, lc_ b M1) := fun lm h => by
        have e := LPT_u (n := n) (κ := Mx 70) (lm := lm) (j := lc_ b Mx) ha.1 ha.2
        rw [ptT1_n hn (lt62 lm h) a12, Option.bind_some, ← L.1.2.2.2.2.2] at e
        exact e
      refine ih F' M1 N1 (a + 2) x1 1 (by omega) p1 (fun V Kv Qtq hV hW h => hT92 V Kv Qtq hV hW (q_92l (d := dq + 14) hT hE hn (by omega) hV hW (hq _ _ h))) (.inr rfl) (fun hb => ?_) ?_ (hQ_1 P hQ)
      · rw [e70, show LMT M1 = LMT Mx from (LKP_P P).2.2.2 hb, ← sy _ (LOK_1 hb)]
        exact hS hb
      · intro F2 M2 N2 a2 v c P2 S2 hlt hv h3 hc hs hrt
        rw [e70] at hc
        refine hG F2 M2 N2 a2 v c (PRC_tr hp.1.2.2.2.1.1 P P2) (SEM_lb hp P L P2 hlt S2) (by have := L.1.2.1; omega) hv h3 hc (fun lm hlm2 => ?_) hrt
        have q := LOK_s (LKP_P P) (LKP_P P2) hlm2
        have e := hs lm q.2
        rw [e70] at e
        exact (sy lm q.1).trans e
    rcases h01 with hb | hb
    · by_cases c12 : a = 1200
      · refine Tr_le (d := 3) (by omega) (y_137z (d := 0) hp.1 hb hp.2.2.1 hn.1 c12 (fun Mx' hx e4 e5 => hQ hb Mx' hx (fun V Kv Qtq hV hW hk => hT92 V Kv Qtq hV hW (q_92z (d := dq + 9) hT hE hb hn.1 c12 QA_rf e4 e5 hV hW hk))))
      · refine Tr_le (d := 3) (by omega) (y_137p (d := 0) (dq := dq + 11) hp.1 hb hp.2.2.1 hn.1 hn.2 (by omega) (by omega) (fun F' Mx' Mq' hL a12 hq => step F' Mx' Mq' hL a12 (fun h => by omega) hq) (fun Mx' hx hq => hQ hb Mx' hx (fun V Kv Qtq hV hW hk => hT92 V Kv Qtq hV hW (q_92l (d := dq + 14) hT hE hn (by omega) hV hW (hq _ _ fun M' hsq => q_260s92 hV hW hsq hk)))))
    · have q := hS1 hb
      unfold ptT1 at q
      rw [if_pos hn] at q
      by_cases cl : LMT Mx (lc_ b Mx) a = true
      · rw [if_pos cl] at q
        have g1 : a < 1200 := gS_n (bind_n q)
        rw [gS_e g1, Option.bind_some] at q
        have g2 : a + 1 < 1200 := gS_n (bind_n q)
        have qd := of_decide_eq_true cl
        have el : lc_ b Mx = Mx 1 19 := by unfold lc_; rw [if_neg (by omega)]
        rw [el] at qd
        exact Tr_le (d := 3) (by omega) (y_137q (d := 0) (dq := dq + 11) hp.1 hb hp.2.2.1 hn.1 hn.2 g2 hp.2.2.2.2.1.1 ⟨qd.1, qd.2.1⟩ qd.2.2 (fun Mx' Mq' hL hq => step F Mx' Mq' hL g2 (fun _ => cl) hq))
      · rw [if_neg cl] at q
        exact absurd rfl q
  · rw [if_pos rfl]
    refine y_134 hE (fun hAL => ?_) (fun nA nL => ?_)
    rotate_left
    · -- nothing behind a label
      rw [if_pos rfl]
      have e6 : x6 = 1 := by
        rcases hx6 with ⟨_, h | h⟩ | h
        · exact absurd h nA
        · exact absurd h nL
        · exact h
      have hb : b = 0 := by
        rcases h01 with hb | hb
        · exact hb
        · exact absurd (ptT1_w hn nL nA) (hS1 hb)
      obtain ⟨g1, g2, g3, g4, g5, g6⟩ := ER_k hT hE
      refine x_109 (by unfold iX_; rw [hE.2.1]; exact ha) ?_
      rw [if_neg (by decide), hE.2.1]
      have hsp := SQ_bf hE hb (k := 1) (by decide) QA_rf
      refine hQ hb _ (XF_XA fl_XF) (fun V Kv Qtq hV hW hk => hT92 V Kv Qtq hV hW (q_92 (d := dq + 14) hT hE (fun _ => hn) (fun _ h => absurd (.inl h) nA) hV hW (q_158 (d := dq + 13) hT hE (fun _ => nL) hV hW (q_158n (d := dq + 13) hT hE (fun _ => nA) hV hW (b_260_208 (Tr_mono _) hV hW _ _ _ _ _ _ _ ?_)))))
      rw [if_neg (by omega)]
      refine q_234o g3 (ER_ok hE hb).1 ?_
      rw [g2]
      exact q_260s77 hV hW hsp hk
    rw [if_neg (by decide)]
    have hP := PXL_2 hp
    refine x_138 h12 st0.1 st0.2 ?_
    have i71 : pX_ Mx 30 71 = Mx 71 := pX_r (by decide) (by decide)
    have i3 : pX_ Mx 30 1 3 = a := by rw [pX_1]; exact hE.2.1
    refine x_139 (by unfold iX_; rw [i3]; exact ha) ?_
    rw [i3, i71]
    have hE30 := ER_pX (v := 30) hE (by omega)
    have st30 := ER_st hE30
    refine x_138 (by rw [pX_1]; exact h12) st30.1 st30.2 ?_
    obtain ⟨tA, tG, tE, t9, l9⟩ := TA_a hp hP
    have xa := XF_XA hP.1
    have a70 : pX_ (pX_ Mx 30) (Mx 71 a) 70 = Mx 70 := XF_70 hP.1 (by decide) (by decide) (by decide)
    have a71 : pX_ (pX_ Mx 30) (Mx 71 a) 71 = Mx 71 := XF_70 hP.1 (by decide) (by decide) (by decide)
    generalize pX_ (pX_ Mx 30) (Mx 71 a) = Ma at *
    refine y_135 tE (fun c => ?_) (fun c => ?_)
    · rw [a70] at c
      rw [if_neg (by decide)]
      refine Tr_rc (y_133a (d := 9 * n + 10) hp hP hn c hT92 hS hG hQ) (fun M9 h9 => ?_)
      rw [if_neg (by decide)]
      refine b_133_7 (Tr_mono _) hV hW _ _ _ ?_
      rw [if_pos rfl]
      exact ⟨.inr rfl, ri_i h9⟩
    · rw [a70] at c
      rw [if_pos rfl]
      have hA : isA (Mx 70) a := hAL.elim (fun h => h) (fun h => absurd h c)
      have fin : ITM dq n st mk me T b F Mx Mq a (fun v5 M7 => if (0 : Int) = 0 then Tr_ wd0 pg0 (9 * n + 18) 134 [.inr (.inr 1)] M7 (ri_ fun v6 M8 => if v6 = 0 then V 7 [rr 1, ii v5, ii 0, none] [] M8 else V 7 [rr 1, ii v5, ii 1, none] [] M8) Qt else V 7 [rr 1, ii v5, ii 0, none] [] M7) := by
        intro F1 M7 N7 a1 v P S hlt hv h3 hsy hrt
        rw [if_pos rfl]
        have hE7 := P.2.1
        have p7 := PS_tr hp P (Int.le_refl _)
        have e70 : M7 70 = Mx 70 := P.2.2.1.1.1 70 (by decide)
        have hlt1 := ITM_lt hE hsy
        refine y_134 hE7 (fun h => ?_) (fun h1 h2 => ?_)
        · rw [if_neg (by decide)]
          refine b_133_7 (Tr_mono _) hV hW _ _ _ ?_
          rw [if_neg (by decide)]
          have sy : ∀ lm, LOK b lm Mx M7 → LPT n (Mx 70) lm (a, lc_ b Mx) = LPT n (Mx 70) lm (a1, lc_ b M7) := fun lm hl => by
            have e := LPT_u (n := n) (κ := Mx 70) (lm := lm) (j := lc_ b Mx) ha.1 ha.2
            rw [hsy lm hl, nxT_1 (by rw [← e70]; exact h), Option.bind_some] at e
            exact e
          refine ih F1 M7 N7 a1 v 0 (by omega) p7 (fun V Kv Qtq hV hW h => hrt V Kv Qtq hV hW (q_77 (d := dq + 14) hE7 hV hW h)) (.inl ⟨rfl, h⟩) (fun hb => ?_) (PGO_1 hp P S sy hG) (hQ_1 P hQ)
          rw [e70, show LMT M7 = LMT Mx from (LKP_P P).2.2.2 hb, ← sy _ (LOK_1 hb)]
          exact hS hb
        · rw [if_pos rfl]
          rw [e70] at h1 h2
          refine b_133_7 (Tr_mono _) hV hW _ _ _ ?_
          rw [if_pos rfl]
          refine ⟨hv, ri_i (hG F1 M7 N7 a1 v 0 P S hlt hv h3 (.inr ⟨rfl, h1, h2⟩) (fun lm hl => ?_) hrt)⟩
          have e := LPT_u (n := n) (κ := Mx 70) (lm := lm) (j := lc_ b Mx) ha.1 ha.2
          rw [hsy lm hl, nxT_0 h1 h2, Option.bind_some] at e
          exact e
      refine Tr_le (d := 9 * n + 17) (by omega) ?_
      by_cases hk : Mx 70 a = 18
      · exact y_133d hsd hp hP hn c hk hT92 hS1 fin hQ
      · by_cases hz : b = 0 ∧ Mx 70 a = 100 ∧ a = 1200
        · refine Tr_le (d := 6) (by omega) (x_143z (d := 0) tE hz.1 (by rw [a70]; exact hz.2.1) hz.2.2 ?_)
          refine hQ hz.1 _ (XA_tr xa (XF_XA fl_XF)) (fun V Kv Qtq hV hW hk => hT92 V Kv Qtq hV hW (q_92z (d := dq + 9) hT hE hz.1 hz.2.1 hz.2.2 QA_rf fl_4 ⟨by rw [fl_5, a71], fl_b7 tE⟩ hV hW hk))
        · exact y_133b hn12 hp hP hn c hk hA (fun hb h100 => by omega) hT92 hS1 fin hQ
theorem y_133l [Inhabited gh_] (hn12 : n ≤ 12) (hsd : SDEC dq n) (hV : Cl_ wd0 (Tr_ wd0 pg0 (9 * n + 18)) V (ri_ K0) Qt m_133) (hW : Wk_ V) : ∀ (k : Nat) (F : Int) (Mx Mq : mm_) (a x1 x6 : Int), 1201 - a ≤ (k : Int) → PS b F Mx Mq a (12 - (n : Int)) me → T92 dq st mk me x6 Mq T → ((x6 = 0 ∧ (isA (Mx 70) a ∨ isL (Mx 70) a)) ∨ x6 = 1)
    → (b = 1 → LPT n (Mx 70) (LMT Mx) (a, lc_ b Mx) ≠ none)
    → PGO dq n st mk me T b F Mx Mq a K0 → (b = 0 → ∀ Mx', XA Mx Mx' → STT dq T Mq Mx' → Qt 8 Mx') → V 11 [rr 1, ii x1, ii 1, none] [] Mx
  | 0, F, Mx, Mq, a, x1, x6, hk, hp, h1, h2, h3, h4, h5 => by have := ER_a (PS_E hp); omega
  | k + 1, F, Mx, Mq, a, x1, x6, hk, hp, h1, h2, h3, h4, h5 => y_133s hn12 hsd hV hW hp h1 h2 h3 h4 h5 (fun F1 M1 N1 a1 y1 y6 hlt q1 q2 q3 q4 q5 q6 => y_133l hn12 hsd hV hW k F1 M1 N1 a1 y1 y6 (by omega) q1 q2 q3 q4 q5 q6)
end PP
end T164_pp
section T165_ps
/-! parts, whole -/
section PQ
variable {d dq n : Nat} {b F : Int} {Mx Mq : mm_} {a o me : Int} {κ : Int → Int} {lm : Int → Int → Bool}
theorem SEM_0 [Inhabited gh_] : SEM b Mx Mq Mx Mq 0 := fun _ h0 => ⟨h0, SEG_0, ⟨fun q _ _ => ⟨fun h => .inl h, fun h => h.elim (fun h => h) (fun ⟨k, h, _⟩ => by omega)⟩, fun q _ _ => ⟨fun h => .inl h, fun h => h.elim (fun h => h) (fun ⟨k, h, _⟩ => by omega)⟩⟩⟩
theorem PTj_1 [Inhabited gh_] {j : Int} (h : isA κ a ∨ isL κ a) : PTj κ lm n (a, j) = LPT n κ lm (a, j) := by
  rw [PTj_e]; unfold ptT; rw [if_pos h]; rfl
theorem PTj_0 [Inhabited gh_] {j : Int} (h1 : ¬ isA κ a) (h2 : ¬ isL κ a) : PTj κ lm n (a, j) = some (a, j) := by
  rw [PTj_e]; unfold ptT; rw [if_neg (fun h => h.elim h1 h2)]
theorem SPART_d [Inhabited gh_] (hn : n ≤ 12) (hsd : SDEC dq n) : SPART dq n := by
  intro b F Mx Mq a me st mk K Qt hp h103 hS hK hQ
  have hE := PS_E hp
  have ha := ER_a hE
  refine t_133 fun V hV hW => b_133_0 (Tr_mono _) hV hW _ ?_
  refine y_134 hE (fun h => ?_) (fun h1 h2 => ?_)
  · refine b_133_7 (Tr_mono _) hV hW _ _ _ ?_
    rw [if_neg (by decide)]
    refine y_133l (T := fun V => V 77 (LSz st mk me 0) [] Mq) hn hsd hV hW 1201 F Mx Mq a 0 0 (by omega) hp (fun V Kv Qtq hV hW h => q_77 (d := dq + 14) hE hV hW h) (.inl ⟨rfl, h⟩) (fun hb => by rw [← PTj_1 h]; exact hS hb) (fun F' M' N' a' v c P S hlt hv h3 hc hsy hrt => hK F' M' N' a' v c P S hv h3 hc (fun lm hl => (PTj_1 h).trans (hsy lm hl)) hrt) hQ
  · refine b_133_7 (Tr_mono _) hV hW _ _ _ ?_
    rw [if_pos rfl]
    exact ⟨.inl rfl, ri_i (hK F Mx Mq a 0 0 (PRC_rf hp) SEM_0 (.inl rfl) h103 (.inr ⟨rfl, h1, h2⟩) (fun lm _ => PTj_0 h1 h2) (fun V Kv Qtq hV hW h => h))⟩
/-- every part -/
theorem SPART_n [Inhabited gh_] : ∀ n : Nat, n ≤ 12 → SPART dq n
  | 0, h => SPART_d h SDEC_0
  | n + 1, h => SPART_d h (SDEC_s (SPART_n n (by omega)) h)
end PQ
end T165_ps
section T166_tr
/-! a trans -/
def tM_ (N : mm_) (st mk : Int) : mm_ := up_ (up_ (up_ (up_ (up_ (up_ (up_ (up_ N 6 76 (N 6 76 + 1)) 211 (N 6 76) (N 6 61)) 212 (N 6 76) mk) 215 (N 6 76) st) 213 (N 6 76) 0) 214 (N 6 76) 0) 6 102 0) 6 103 0
section TR
variable {d dq n : Nat} {b F F' : Int} {Mx Mq M N : mm_} {a o st mk me : Int} {K : Int → mm_ → Prop} {Kv : mm_ → Prop} {Qt : qt_} {V : vv_}
theorem tM_6 [Inhabited gh_] {i : Int} (h1 : i ≠ 76) (h2 : i ≠ 102) (h3 : i ≠ 103) : tM_ N st mk 6 i = N 6 i := by unfold tM_; rw [up_off h3, up_off h2, up_ne (by decide), up_ne (by decide), up_ne (by decide), up_ne (by decide), up_ne (by decide), up_off h1]
theorem tM_r [Inhabited gh_] {r : Nat} (h6 : r ≠ 6) (h1 : r ≠ 211) (h2 : r ≠ 212) (h3 : r ≠ 215) (h4 : r ≠ 213) (h5 : r ≠ 214) : tM_ N st mk r = N r := by unfold tM_; rw [up_ne h6, up_ne h6, up_ne h5, up_ne h4, up_ne h3, up_ne h2, up_ne h1, up_ne h6]
theorem tM_102 [Inhabited gh_] : tM_ N st mk 6 102 = 0 := by unfold tM_; rw [up_off (by decide), up_at]
theorem tM_103 [Inhabited gh_] : tM_ N st mk 6 103 = 0 := by unfold tM_; rw [up_at]
/-- Q: from the start of a trans to the head of its loop -/
theorem q_260i [Inhabited gh_] (hg : go_ N) (h76 : 0 ≤ N 6 76 ∧ N 6 76 < 1300) (hst : st = 0 ∨ st = 1) (h : ∀ V : vv_, Cl_ wd0 (Tr_ wd0 pg0 (d + 1)) V (rv_ Kv) Qt m_260 → Wk_ V → V 77 (LSz st mk (N 6 76) 0) [] (tM_ N st mk)) : Tr_ wd0 pg0 (d + 2) 260 [.inr (.inr 6), .inl st, .inl mk] N (rv_ Kv) Qt := by
  refine t_260 fun V hV hW => b_260_0 (Tr_mono _) hV hW _ _ _ (q_227g hg ?_)
  rw [if_pos rfl, w32_id (by omega) (by omega)]
  exact ⟨h76, h76, ⟨h76, hst⟩, h76, h76, .inl rfl, h V hV hW⟩
/-- Q: from behind the part to the end of a trans -/
theorem q_260e [Inhabited gh_] {c v : Int} (hT : Tks M N) (hE : ER b F M N a o) (hc : c = 1 ∨ (c = 0 ∧ ¬ isA (M 70) a ∧ ¬ isL (M 70) a)) (h102 : N 6 102 = 0) (h103 : N 6 103 = v) (hv : v = 0 ∨ v = 1) (hV : Cl_ wd0 (Tr_ wd0 pg0 (d + 2)) V (rv_ Kv) Qt m_260) (hW : Wk_ V) (h : Kv (Qn_ N b (if v = 0 then 6 else 0) (M 71 a))) : V 77 (LSz st mk me c) [] N := by
  obtain ⟨g1, g2, g3, g4, g5, g6⟩ := ER_k hT hE
  have n16 : N 6 16 = b := hE.2.2.2.2.2.2.2.1
  refine q_77e hT hE hc hV hW (b_260_208 (Tr_mono _) hV hW _ _ _ _ _ _ _ ?_)
  rw [if_pos rfl, if_pos h102]
  refine b_260_77 (Tr_mono _) hV hW _ _ _ _ _ _ ?_
  rw [if_pos rfl]
  intro _
  rcases hv with e | e
  · rw [if_pos (by omega)]
    refine ⟨g3, q_236 ?_⟩
    rw [g2]
    rw [if_pos e] at h
    have e9 : Qn_ N b 6 (M 71 a) = nt_ N 6 (M 71 a) := by
      unfold Qn_
      rcases bl01 hE with hb | hb
      · rw [if_pos (.inl hb)]; unfold nt_; rw [if_pos (by omega)]
      · rw [if_neg (by omega)]
    rw [e9] at h
    exact rv_i h
  · rw [if_neg (by omega)]
    rw [if_neg (by omega)] at h
    have e9 : Qn_ N b 0 (M 71 a) = N := by unfold Qn_; rw [if_pos (.inr rfl)]
    rw [e9] at h
    exact rv_i h
theorem y_132 [Inhabited gh_] (hp : PS b F Mx (tM_ Mq st mk) a 0 (Mq 6 76)) (hst : st = 0 ∨ st = 1)
    (hS : b = 1 → PTj (Mx 70) (LMT Mx) 12 (a, lc_ b Mx) ≠ none)
    (hK : ∀ F' M' N' a' v kk, PRC b F F' Mx (tM_ Mq st mk) M' N' a a' 0 0 (Mq 6 76) → SEM b Mx (tM_ Mq st mk) M' N' v → (v = 0 ∨ v = 1) → kk = (if v = 0 then 6 else 0) → ER b F' (Xn_ M' b kk a') (Qn_ N' b kk (M' 71 a')) a' 0 → (b = 1 → Qn_ N' b kk (M' 71 a') 6 13 = 0 → kk = 0 ∧ N' 6 13 = 0) → (∀ lm, LOK b lm Mx M' → PTj (Mx 70) lm 12 (a, lc_ b Mx) = some (a', lc_ b M'))
      → (∀ (Kv : mm_ → Prop) (Qtq : qt_), Kv (Qn_ N' b kk (M' 71 a')) → Tr_ wd0 pg0 (dq + 16) 260 [.inr (.inr 6), .inl st, .inl mk] Mq (rv_ Kv) Qtq) → Kv (Xn_ M' b kk a'))
    (hQ : b = 0 → ∀ Mx', XA Mx Mx' → (∀ (Kv : mm_ → Prop) (Qtq : qt_), (∀ M', SQ Mx' (tM_ Mq st mk) M' → Kv M') → Tr_ wd0 pg0 (dq + 16) 260 [.inr (.inr 6), .inl st, .inl mk] Mq (rv_ Kv) Qtq) → Qt 8 Mx') :
    Tr_ wd0 pg0 128 132 [.inr (.inr 1)] Mx (rv_ Kv) Qt := by
  have hE := PS_E hp
  have hg : go_ Mq := by
    have q := ER_goq hE
    unfold go_ at q ⊢
    rw [tM_6 (by decide) (by decide) (by decide), tM_6 (by decide) (by decide) (by decide)] at q
    exact q
  have h76 := hp.2.2.2.2.1.2.1
  have ini : ∀ (Kv : mm_ → Prop) (Qtq : qt_), (∀ V : vv_, Cl_ wd0 (Tr_ wd0 pg0 (dq + 15)) V (rv_ Kv) Qtq m_260 → Wk_ V → V 77 (LSz st mk (Mq 6 76) 0) [] (tM_ Mq st mk)) → Tr_ wd0 pg0 (dq + 16) 260 [.inr (.inr 6), .inl st, .inl mk] Mq (rv_ Kv) Qtq := fun Kv Qtq h => q_260i (d := dq + 14) hg h76 hst h
  refine t_132 fun V hV hW => b_132_0 (Tr_mono _) hV hW _ ?_
  refine (SPART_n (dq := dq) 12 (by decide)) b F Mx (tM_ Mq st mk) a (Mq 6 76) st mk _ Qt hp tM_103 hS (fun F' M' N' a' v c P S hv h3 hc hsy hrt => ?_) (fun hb Mx' hx hs => hQ hb Mx' hx fun Kv Qtq hk => ini _ _ fun V hV hW => hs V Kv Qtq hV hW hk)
  have P0 : PRC b F F' Mx (tM_ Mq st mk) M' N' a a' 0 0 (Mq 6 76) := P
  have hp1 := PS_tr hp P0 (Int.le_refl _)
  have hE1 := PS_E hp1
  have hT1 := hp1.1.1
  have ha1 := ER_a hE1
  have e70 : M' 70 = Mx 70 := P0.2.2.1.1.1 70 (by decide)
  have hg1 := hE1.1
  have hpa := tk_p hT1 hg1
  have hfl := hp1.2.2.2.2.2.1
  obtain ⟨kk, hkk⟩ : ∃ kk : Int, kk = if v = 0 then 6 else 0 := ⟨_, rfl⟩
  have hkc : kk = 0 ∨ (3 ≤ kk ∧ kk ≤ 6) := by rw [hkk]; split <;> omega
  obtain ⟨E1, E2, E3⟩ := ER_m (k := kk) (tk := a') hE1 hkc hpa (by omega)
  have main := hK F' M' N' a' v kk P0 S hv hkk E1 E3 hsy (fun Kv Qtq hk => ini _ _ fun V hV hW => hrt V Kv Qtq hV hW (q_260e (d := dq + 13) hT1 hE1 (by
    rw [e70]
    rcases hc with q | q
    · exact .inl q.1
    · exact .inr q) (by rw [P0.2.2.2.1.1.2.2.2.2.2.2]; exact tM_102) h3 hv hV hW (by rw [← hkk]; exact hk)))
  have m8 : M' 1 8 = b := hE1.2.2.2.2.2.2.1
  unfold Xn_ at main
  rcases hv with e | e
  · rw [if_pos e]
    rw [if_pos e] at hkk
    intro _
    rcases bl01 hE1 with hb | hb
    · rw [if_pos (by omega)]
      rw [if_pos (.inl hb)] at main
      exact rv_i main
    · rw [if_neg (by omega), hE1.2.1]
      rw [if_neg (by omega), hkk] at main
      exact x_116 (by omega) (by omega) (ER_fl hE1).1 (ER_fl hE1).2 (rv_i main)
  · rw [if_neg (by omega)]
    rw [if_neg (by omega)] at hkk
    rw [if_pos (.inr hkk)] at main
    exact rv_i main
end TR
end T166_tr

section T209_gr
/-! growth: a trans -/
section GU
variable {b F F' : Int} {M N M1 N1 M' N' Mx Mq : mm_} {lb ub T k c y i x me f a a' mask mx st mk v kk t p : Int}
theorem ATP_s [Inhabited gh_] {k0 k1 c0 c1 r0 r1 fe j0 j1 : Int} (h : SEG M N T k0 k1 c0 c1 r0 r1 fe j0 j1 1) (hk : 0 ≤ k0 ∧ k1 ≤ N 6 75) (hc : 0 ≤ c0 ∧ c1 ≤ M 5 3) (hr : 0 ≤ r0 ∧ r1 ≤ N 6 90) (hf : fe ≤ N 6 104) : ATP M N T k0 c0 ∧ ∀ l, j0 ≤ l → l < j1 → ATP M N T (N 188 (10 * T + l)) (M 129 (10 * T + l)) := by
  obtain ⟨px, L, ⟨p0, p1, p2⟩, ⟨l0, l1, l2⟩, h3, h4⟩ := h
  refine ⟨⟨k0, k1, c0, c1, r0, r1, fe, px, L, hk, hc, hr, hf, p2, ⟨l1, l2 rfl⟩, h3, p0, l0⟩, fun l a b => ?_⟩
  have := h4 l a b
  exact ⟨k0, k1, c0, c1, r0, r1, fe, px, L, hk, hc, hr, hf, p2, ⟨l1, l2 rfl⟩, h3, this.1.symm, this.2.1⟩
theorem bt_0 [Inhabited gh_] {l : Int} : ¬ bt_ 0 l := by
  unfold bt_
  rw [show (0 : Int).toNat = 0 from rfl, Nat.zero_testBit]
  exact fun h => by cases h
/-- what a trans keeps, from ahead of its stands on -/
theorem OLD_t [Inhabited gh_] (hb : b = 1) (h0 : 0 ≤ M1 1 29) (P : PRC b F F' (sX_ M1 mx) (tM_ N1 st mk) M' N' a a' 0 0 (N1 6 76)) : OLD M1 N1 M' N' ∧ M' 1 29 = M1 1 29 + 1 ∧ N' 6 76 = N1 6 76 + 1 := by
  obtain ⟨f1, e1, ⟨xa, qa⟩, ⟨⟨c1, c2, c3, c4, c5, c6, c7⟩, d1, d2, d3, d4⟩, ⟨p1, p2, p3, p4, p5, p6⟩, l1, m1, t1, t2, t3⟩ := P
  obtain ⟨u1, u2, u3, u4, u5, u6, u7⟩ := t3 hb
  have sr : ∀ r : Nat, r ≠ 1 → r ∉ txL → sX_ M1 mx r = M1 r := fun r h1 h2 => sX_r h1 (fun e => h2 (by rw [e]; decide)) (fun e => h2 (by rw [e]; decide)) (fun e => h2 (by rw [e]; decide)) (fun e => h2 (by rw [e]; decide))
  have s1 : ∀ i : Int, i ≠ 29 → sX_ M1 mx 1 i = M1 1 i := fun i h => sX_1 h
  have s29 : sX_ M1 mx 1 29 = M1 1 29 + 1 := by unfold sX_; rw [up_at]
  have s5 : sX_ M1 mx 5 = M1 5 := sr 5 (by decide) (by decide)
  have tr : ∀ r : Nat, r ≠ 6 → r ∉ tqL → tM_ N1 st mk r = N1 r := fun r h1 h2 => tM_r h1 (fun e => h2 (by rw [e]; decide)) (fun e => h2 (by rw [e]; decide)) (fun e => h2 (by rw [e]; decide)) (fun e => h2 (by rw [e]; decide)) (fun e => h2 (by rw [e]; decide))
  have t6 : ∀ i : Int, i ≠ 76 → i ≠ 102 → i ≠ 103 → tM_ N1 st mk 6 i = N1 6 i := fun i h1 h2 h3 => tM_6 h1 h2 h3
  have t76 : tM_ N1 st mk 6 76 = N1 6 76 + 1 := by unfold tM_; rw [up_off (by decide), up_off (by decide), up_ne (by decide), up_ne (by decide), up_ne (by decide), up_ne (by decide), up_ne (by decide), up_at]
  have lc : lc_ b (sX_ M1 mx) = M1 1 19 := by unfold lc_; rw [if_neg (by omega), s1 19 (by decide)]
  have lc' : lc_ b M' = M' 1 19 := by unfold lc_; rw [if_neg (by omega)]
  rw [lc, lc'] at t1
  rw [s5] at c1 p4
  rw [t6 75 (by decide) (by decide) (by decide)] at c2 c3 p2
  rw [t6 104 (by decide) (by decide) (by decide)] at c4 p3
  rw [t6 90 (by decide) (by decide) (by decide)] at c5 p5
  rw [s29] at d1
  rw [lc, s1 18 (by decide)] at d4
  rw [show M1 1 29 + 1 - 1 = M1 1 29 by omega] at d1
  have x29 : M' 1 29 = M1 1 29 + 1 := by rw [xa.2.1 29 (by decide), s29]
  have q76 : N' 6 76 = N1 6 76 + 1 := by rw [qa.2 76 (by decide), t76]
  refine ⟨⟨⟨⟨fun r hr => ?_, fun i hi => ?_, fun i h3 h4 => ?_⟩, ⟨by omega, ?_, by omega, t1⟩, fun i i0 i1 => ?_, fun r i hr i0 i1 => ?_, fun i i0 i1 => ?_, fun r i hr i0 i1 => ?_, fun i hi => ?_⟩, ⟨⟨fun r hr => ?_, fun i hi => ?_⟩, ⟨?_, ?_, p2.1, by omega, p5.1, p3.1⟩, fun r i hr i0 i1 => ?_, fun i i0 i1 => ?_, fun i i0 i1 => ?_, fun r i hr i0 i1 => ?_, fun i i0 i1 => ?_, fun r i hr i0 i1 => ?_, fun i i0 i1 => ?_, fun r i hr i0 i1 => ?_, fun i hi => ?_⟩⟩, x29, q76⟩
  · by_cases c62 : r = 62
    · rw [c62, u1, sr 62 (by decide) (by decide)]
    · by_cases c128 : r = 128
      · rw [c128, u2, sr 128 (by decide) (by decide)]
      · rw [xa.1 r (fun h => hr (by revert h; unfold xaL xeL; simp only [List.mem_cons, List.not_mem_nil, or_false]; omega)), sr r (fun e => hr (by rw [e]; decide)) (fun h => hr (by revert h; unfold txL xeL; simp only [List.mem_cons, List.not_mem_nil, or_false]; omega))]
  · rw [xa.2.1 i (fun h => hi (by revert h; unfold xaI xbI; simp only [List.mem_cons, List.not_mem_nil, or_false]; omega)), s1 i (nm_i hi (by decide))]
  · rw [xa.2.2 i h3, s5]
  · rw [xa.2.2 4 (by decide), s5]; exact Int.le_refl _
  · rw [c1 i i0 i1, sr 142 (by decide) (by decide)]
  · rw [xa.1 r (by revert hr; unfold st9L xaL; simp only [List.mem_cons, List.not_mem_nil, or_false]; omega), sr r (by intro e; rw [e] at hr; revert hr; decide) (by revert hr; unfold st9L txL; simp only [List.mem_cons, List.not_mem_nil, or_false]; omega)]
  · rw [xa.1 137 (by decide), sr 137 (by decide) (by decide)]
  · have hd := d1 i (by omega)
    have e : ∀ r : Nat, r ∈ txL → sX_ M1 mx r i = M1 r i := fun r hr => by
      unfold sX_
      rw [up_ne (fun e => by rw [e] at hr; revert hr; decide), up_of2 (by omega), up_of2 (by omega), up_of2 (by omega), up_of2 (by omega)]
    have hr' : r = 63 ∨ r = 64 ∨ r = 65 ∨ r = 66 := by revert hr; unfold txL; simp only [List.mem_cons, List.not_mem_nil, or_false]; exact fun h => h
    rcases hr' with q | q | q | q
    · rw [q, hd.1]; exact e 63 (by decide)
    · rw [q, hd.2.1]; exact e 64 (by decide)
    · rw [q, hd.2.2]; exact e 65 (by decide)
    · rw [q, xa.1 66 (by decide)]; exact e 66 (by decide)
  · rw [(d4 i hi).1.2, sr 129 (by decide) (by decide)]
  · by_cases c175 : r = 175
    · rw [c175, u3, tr 175 (by decide) (by decide)]
    · by_cases c180 : r = 180
      · rw [c180, u4, tr 180 (by decide) (by decide)]
      · by_cases c187 : r = 187
        · rw [c187, u5, tr 187 (by decide) (by decide)]
        · rw [qa.1 r (fun h => hr (by revert h; unfold qaL qeL; simp only [List.mem_cons, List.not_mem_nil, or_false]; omega)), tr r (fun e => hr (by rw [e]; decide)) (fun h => hr (by revert h; unfold tqL qeL; simp only [List.mem_cons, List.not_mem_nil, or_false]; omega))]
  · rw [qa.2 i (fun h => hi (by revert h; unfold qaI qbI; simp only [List.mem_cons, List.not_mem_nil, or_false]; omega)), t6 i (nm_i hi (by decide)) (nm_i hi (by decide)) (nm_i hi (by decide))]
  · rw [qa.2 62 (by decide), t6 62 (by decide) (by decide) (by decide)]; exact Int.le_refl _
  · rw [qa.2 63 (by decide), t6 63 (by decide) (by decide) (by decide)]; exact Int.le_refl _
  · rw [qa.1 r (by revert hr; unfold sq9L qaL; simp only [List.mem_cons, List.not_mem_nil, or_false]; omega), tr r (by intro e; rw [e] at hr; revert hr; decide) (by revert hr; unfold sq9L tqL; simp only [List.mem_cons, List.not_mem_nil, or_false]; omega)]
  · rw [qa.1 200 (by decide), qa.1 201 (by decide), tr 200 (by decide) (by decide), tr 201 (by decide) (by decide)]; exact ⟨rfl, rfl⟩
  · rw [qa.1 202 (by decide), tr 202 (by decide) (by decide)]
  · rw [c2 r i hr i0 i1, tr r (by intro e; rw [e] at hr; revert hr; decide) (by revert hr; unfold opL tqL; simp only [List.mem_cons, List.not_mem_nil, or_false]; omega)]
  · rw [c3 i i0 i1, tr 209 (by decide) (by decide)]
  · rw [c5 r i hr i0 i1, tr r (by intro e; rw [e] at hr; revert hr; decide) (by revert hr; unfold rgR tqL; simp only [List.mem_cons, List.not_mem_nil, or_false]; omega)]
  · have := c4 i i0 i1
    rw [this.1, this.2, tr 227 (by decide) (by decide), tr 228 (by decide) (by decide)]; exact ⟨rfl, rfl⟩
  · have e : ∀ r : Nat, r ∈ tqL → tM_ N1 st mk r i = N1 r i := fun r hr => by
      have h6 : r ≠ 6 := fun e => by rw [e] at hr; revert hr; decide
      unfold tM_
      rw [up_ne h6, up_ne h6, up_of2 (by omega), up_of2 (by omega), up_of2 (by omega), up_of2 (by omega), up_of2 (by omega), up_ne h6]
    have hd := d2 i (by omega)
    have hr' : r = 211 ∨ r = 212 ∨ r = 213 ∨ r = 214 ∨ r = 215 := by revert hr; unfold tqL; simp only [List.mem_cons, List.not_mem_nil, or_false]; exact fun h => h
    rcases hr' with q | q | q | q | q
    · rw [q, qa.1 211 (by decide)]; exact e 211 (by decide)
    · rw [q, qa.1 212 (by decide)]; exact e 212 (by decide)
    · rw [q, hd.1]; exact e 213 (by decide)
    · rw [q, hd.2]; exact e 214 (by decide)
    · rw [q, qa.1 215 (by decide)]; exact e 215 (by decide)
  · have := d4 i hi
    rw [this.2.2.2.1, this.2.2.2.2, tr 188 (by decide) (by decide), tr 189 (by decide) (by decide)]; exact ⟨rfl, rfl⟩
end GU
end T209_gr

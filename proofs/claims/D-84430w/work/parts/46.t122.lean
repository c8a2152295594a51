section T122_ou
/-! output: via a route -/
section OW
variable {d dq n : Nat} {b F : Int} {Mx Mq MX MQ Mx7 Mq7 Mx8 Mq8 M : mm_} {a a1 a7 o o1 s z p : Int} {K : Int → mm_ → Prop} {Kv G : mm_ → Prop} {Qt : qt_} {V : vv_} {dec : Int → Option Int}
abbrev cX_ (M : mm_) (r sg : Int) : Prop := M 114 (2 * r) ≠ M 1 18 ∨ (sg ≠ -1 ∧ an_ (sr_ (M 119 r) sg) 1 = 0)
abbrev cQ_ (M : mm_) (r sg : Int) : Prop := M 158 r ≠ M 154 (M 6 61) ∨ (0 ≤ sg ∧ an_ (sr_ (M 164 r) sg) 1 = 0)
/-- X behind the route's name -/
theorem l_157v [Inhabited gh_] {x1 sg x3 nn r q : Int} (h2 : M 1 2 = 5) (hr : r = -1 ∨ (0 ≤ r ∧ r < 10)) (hq : 0 ≤ q ∧ q < 1202) (hf : 0 ≤ M 1 7 ∧ M 1 7 < 2147483647) (hV : Cl_ wd0 (Tr_ wd0 pg0 (d + 15)) V (rv_ G) Qt m_157) (hW : Wk_ V)
    (hg : (M 1 8 = 0 ∨ r = -1 ∨ ¬ cX_ M r sg) → V 266 [rr 1, ii x1, ii sg, ii x3, ii nn, ii 2, ii r, none] [] M)
    (hb : M 1 8 ≠ 0 → r ≠ -1 → cX_ M r sg → V 266 [rr 1, ii x1, ii sg, ii x3, ii nn, ii 2, ii r, none] [] (nt1_ M 6 q)) : V 208 [rr 1, ii x1, ii sg, ii x3, ii nn, ii 2, ii r, ii q] [] M := by
  refine b_157_208 (Tr_mono _) hV hW _ _ _ _ _ _ _ _ ?_
  intro _
  by_cases c0 : M 1 8 = 0
  · rw [if_pos c0]; exact hg (.inl c0)
  · rw [if_neg c0]
    by_cases c1 : r = -1
    · rw [if_pos c1]; exact hg (.inr (.inl c1))
    · rw [if_neg c1, w32_id (by omega) (by omega)]
      refine ⟨h2, by omega, ?_⟩
      by_cases c2 : M 114 (2 * r) = M 1 18
      · rw [if_pos c2]
        by_cases c3 : sg = -1
        · rw [if_pos c3]; exact hg (.inr (.inr fun e => by rcases e with e | e; exact e c2; exact e.1 c3))
        · rw [if_neg c3]
          refine ⟨h2, t_205b fun V hV hW => b_205b_0 (Tr_mono _) hV hW _ _ _ ⟨by omega, ?_⟩⟩
          by_cases c4 : an_ (sr_ (M 119 r) sg) 1 = 0
          · rw [if_pos c4]
            refine ⟨.inl rfl, ri_i ?_⟩
            rw [if_pos rfl]
            exact x_116 hq.1 hq.2 hf.1 hf.2 (hb c0 c1 (.inr ⟨c3, c4⟩))
          · rw [if_neg c4]
            refine ⟨.inr rfl, ri_i ?_⟩
            rw [if_neg (by decide)]
            exact hg (.inr (.inr fun e => by rcases e with e | e; exact e c2; exact c4 e.2))
      · rw [if_neg c2]
        exact x_116 hq.1 hq.2 hf.1 hf.2 (hb c0 c1 (.inl c2))
/-- Q behind the route's name -/
theorem q_297v [Inhabited gh_] {x1 x2 sg k q r : Int} (hk : 0 ≤ k ∧ k < 1300) (hq : 0 ≤ q ∧ q < 1202) (hr : r = -1 ∨ (0 ≤ r ∧ r < 10)) (h61 : 0 ≤ M 6 61 ∧ M 6 61 < 6) (hs : -1 ≤ sg) (h16 : M 6 16 = b) (h01 : b = 0 ∨ b = 1) (hV : Cl_ wd0 (Tr_ wd0 pg0 (d + 3)) V (rv_ Kv) Qt m_297) (hW : Wk_ V)
    (h : Tr_ wd0 pg0 (d + 3) 244 [.inr (.inr 6), .inl 59] (up_ (Qn_ M b (if 0 ≤ r ∧ cQ_ M r sg then 6 else 0) (M 150 q)) 207 k r) (rv_ Kv) Qt) : V 203 [rr 6, ii x1, ii x2, ii sg, ii k, ii q, ii r] [] M := by
  refine b_297_203 (Tr_mono _) hV hW _ _ _ _ _ _ _ ?_
  intro _
  unfold Qn_ at h
  by_cases c0 : M 6 16 = 0
  · rw [if_pos c0]
    rw [if_pos (.inl (by omega))] at h
    exact ⟨hk, Tr_rv h⟩
  · rw [if_neg c0]
    have hb : b ≠ 0 := by omega
    by_cases c1 : r < 0
    · rw [if_pos c1]
      have e : (if 0 ≤ r ∧ cQ_ M r sg then (6 : Int) else 0) = 0 := if_neg (by omega)
      rw [e, if_pos (.inr rfl)] at h
      exact ⟨hk, Tr_rv h⟩
    · rw [if_neg c1]
      refine ⟨by omega, h61, ?_⟩
      have bad : cQ_ M r sg → V 253 [rr 6, ii x1, ii x2, ii sg, ii k, ii q, ii r] [] M := fun c => by
        have e : (if 0 ≤ r ∧ cQ_ M r sg then (6 : Int) else 0) = 6 := if_pos ⟨by omega, c⟩
        rw [e, if_neg (by omega)] at h
        exact b_297_253 (Tr_mono _) hV hW _ _ _ _ _ _ _ ⟨hq, q_236 ⟨hk, Tr_rv h⟩⟩
      have good : ¬ cQ_ M r sg → Tr_ wd0 pg0 (d + 3) 244 [.inr (.inr 6), .inl 59] (up_ M 207 k r) (rv_ fun M1 => rv_ Kv [] M1) Qt := fun c => by
        have e : (if 0 ≤ r ∧ cQ_ M r sg then (6 : Int) else 0) = 0 := if_neg (fun e => c e.2)
        rw [e, if_pos (.inr rfl)] at h
        exact Tr_rv h
      by_cases c2 : M 158 r = M 154 (M 6 61)
      · have e2 : (if M 158 r < M 154 (M 6 61) then (-1 : Int) else if M 158 r = M 154 (M 6 61) then 0 else 1) = 0 := by rw [if_neg (by omega), if_pos c2]
        rw [if_pos e2]
        by_cases c3 : sg < 0
        · rw [if_pos c3]
          exact ⟨hk, good (by unfold cQ_; omega)⟩
        · rw [if_neg c3]
          refine ⟨by omega, ?_⟩
          by_cases c4 : an_ (sr_ (M 164 r) sg) 1 = 0
          · rw [if_pos c4]; exact bad (.inr ⟨by omega, c4⟩)
          · rw [if_neg c4]; exact ⟨hk, good (fun e => by rcases e with e | e; exact e c2; exact c4 e.2)⟩
      · have e2 : (if M 158 r < M 154 (M 6 61) then (-1 : Int) else if M 158 r = M 154 (M 6 61) then 0 else 1) ≠ 0 := by
          rw [if_neg c2]; split <;> omega
        rw [if_neg e2]
        exact bad (.inl c2)
theorem l_157w [Inhabited gh_] {Mx3 Mq3 : mm_} {x1 sg x3 nn r q s9 z9 : Int} (hG : GT b F MX Mq (MX 71 a)) (hk0 : 0 ≤ Mq 6 75 ∧ Mq 6 75 < 1300) (hsg : sg = -1 ∨ (0 ≤ sg ∧ sg < Mq 6 17)) (hgX : gd_ MX q) (hpm : MX 71 a < MX 71 q) (hr : r = -1 ∨ (0 ≤ r ∧ r < Mq 6 18)) (O : OVM b F MX Mq Mx7 Mq7 a a7 o s z sg nn)
    (A3 : AM b F MX Mq Mx3 Mq3 a a1 o s9 z9) (hs9 : s9 ≤ 0) (hz9 : 2 ≤ z9) (ha9 : a + 2 ≤ a1) (hS : b = 1 → tS (MX 70) 259 a1 ≠ none)
    (q3r : ∀ r' : Nat, r' ≠ 6 → Mq3 r' = Mq7 r') (q36 : ∀ i : Int, i ≠ 12 → i ≠ 13 → i ≠ 14 → Mq3 6 i = Mq7 6 i) (x3r : Mx3 5 = Mx7 5 ∧ Mx3 142 = Mx7 142) (z13 : b = 1 → Mq3 6 13 = 0 → r ≠ -1 ∧ Mq7 6 13 = 0)
    (pre2 : ∀ (Kv : mm_ → Prop) (Qtq : qt_), (∀ V : vv_, Cl_ wd0 (Tr_ wd0 pg0 (dq + 13)) V (rv_ Kv) Qtq m_297 → Wk_ V → V 203 [rr 6, ii (MX 71 a), ii x1, ii sg, ii (Mq 6 75), ii q, ii r] [] Mq3) → Tr_ wd0 pg0 (dq + 15) 296 [.inr (.inr 6)] Mq (rv_ Kv) Qtq)
    (hK : ∀ Mx' Mq' a', Mq' 205 (Mq 6 75) = sg → AR b F MX Mq Mx' Mq' a a' o 2 sg → tS (MX 70) 259 a1 = some a' → (∀ (Kv : mm_ → Prop) (Qtq : qt_), Kv Mq' → Tr_ wd0 pg0 (dq + 15) 296 [.inr (.inr 6)] Mq (rv_ Kv) Qtq) → G Mx')
    (hQ : b = 0 → ∀ Mx', XA MX Mx' → (∀ (Kv : mm_ → Prop) (Qtq : qt_), (∀ M', SQ Mx' Mq M' → Kv M') → Tr_ wd0 pg0 (dq + 15) 296 [.inr (.inr 6)] Mq (rv_ Kv) Qtq) → Qt 8 Mx')
    (hV : Cl_ wd0 (Tr_ wd0 pg0 (d + 15)) V (rv_ fun M8 => Tr_ wd0 pg0 (d + 16) 121 [.inr (.inr 1), .inl 59] M8 (rv_ G) Qt) Qt m_157) (hW : Wk_ V) : V 208 [rr 1, ii x1, ii sg, ii x3, ii nn, ii 2, ii r, ii q] [] Mx3 := by
  obtain ⟨A, ⟨hs, hz, ha, hn0, hn3⟩, ⟨q75, q3, q4, q5, q6, q7, q10⟩, hv⟩ := O
  have h01 := (AM_E A).2.2.2.2.2.2.2.2.1
  have hTX : Tks MX Mq := A.1.1
  have h618 : Mq 6 18 ≤ 10 ∧ Mq 6 18 = MX 5 1 := ⟨by have := hG.2.2.1.1; omega, hG.2.2.1.1.2.2⟩
  have h617 : Mq 6 17 ≤ 20 := by have := hG.1.1.1; omega
  have hq1 : 0 ≤ q ∧ q < 1202 := ⟨hgX.1, by have := hgX.2.1; omega⟩
  have hr10 : r = -1 ∨ (0 ≤ r ∧ r < 10) := by omega
  have hsg1 : -1 ≤ sg := by omega
  have hE3 := AM_E A3
  have hx3 := AM_X A3
  have hq3 := AM_Q A3
  have hV3 := AM_V A3
  have y18 : Mx3 1 18 = Mq 6 61 := by rw [hx3.2.1 18 (by decide)]; exact A.1.2.1.2.1.symm
  have y61 : Mq3 6 61 = Mq 6 61 := hq3.2 61 (by decide)
  have c61 : 0 ≤ Mq3 6 61 ∧ Mq3 6 61 < 6 := by rw [hV3.2.1]; exact ⟨hV3.2.2.1, hV3.2.2.2.1⟩
  have e150 : Mq3 150 q = MX 71 q := by rw [(QC_QA hq3).1 150 (by decide), (hTX q hgX).2.1]
  obtain ⟨k6, hk6⟩ : ∃ k6, k6 = if 0 ≤ r ∧ cQ_ Mq3 r sg then (6 : Int) else 0 := ⟨_, rfl⟩
  have hkc6 : k6 = 0 ∨ (3 ≤ k6 ∧ k6 ≤ 6) := by rw [hk6]; split <;> omega
  obtain ⟨A4, hz4⟩ := AM_m (k := k6) (tk := q) A3 hkc6 hgX (by omega)
  have pre3 : ∀ (Kv : mm_ → Prop) (Qtq : qt_), Tr_ wd0 pg0 (dq + 13) 244 [.inr (.inr 6), .inl 59] (up_ (Qn_ Mq3 b k6 (MX 71 q)) 207 (Mq 6 75) r) (rv_ Kv) Qtq → Tr_ wd0 pg0 (dq + 15) 296 [.inr (.inr 6)] Mq (rv_ Kv) Qtq := by
    intro Kv Qtq hq
    refine pre2 _ _ fun V hV hW => q_297v hk0 hq1 hr10 c61 hsg1 hE3.2.2.2.2.2.2.2.1 h01 hV hW ?_
    rw [e150, ← hk6]; exact hq
  -- the end, wherever X's notes are
  have fin : ∀ Mx4, AM b F MX Mq Mx4 (Qn_ Mq3 b k6 (MX 71 q)) a a1 o s9 (z9 - 1) → Mx4 5 = Mx7 5 → Mx4 142 = Mx7 142 → V 266 [rr 1, ii x1, ii sg, ii x3, ii nn, ii 2, ii r, none] [] Mx4 := by
    intro Mx4 A5 x5 x142
    have A6 := AM_up (r := 207) (v := r) A5 (by decide) (rfl : Mq 6 75 = Mq 6 75)
    have u : ∀ r' : Nat, r' ≠ 6 → r' ≠ 207 → up_ (Qn_ Mq3 b k6 (MX 71 q)) 207 (Mq 6 75) r r' = Mq7 r' := fun r' h6 h7 => by rw [up_ne h7, Qn_r h6]; exact q3r r' h6
    have u6 : ∀ i : Int, i ≠ 12 → i ≠ 13 → i ≠ 14 → up_ (Qn_ Mq3 b k6 (MX 71 q)) 207 (Mq 6 75) r 6 i = Mq7 6 i := fun i h1 h2 h3 => by rw [up_ne (by decide), Qn_6 h2 h3]; exact q36 i h1 h2 h3
    refine l_157e (MX := MX) (dq := dq) A6 (by omega) (by omega) ha9 ⟨hn0, hn3⟩ ?_ ?_ ?_ ?_ ?_ ?_ (fun hb h0 => ?_) hS pre3 hK hQ hV hW
    · rw [u6 75 (by decide) (by decide) (by decide)]; exact q75
    · rw [u 203 (by decide) (by decide)]; exact q3
    · rw [u 204 (by decide) (by decide)]; exact q4
    · rw [u 205 (by decide) (by decide)]; exact q5
    · rw [u 210 (by decide) (by decide)]; exact q10
    · rw [up_at]
    · have h4 : Qn_ Mq3 b k6 (MX 71 q) 6 13 = 0 := by rw [up_ne (by decide)] at h0; exact h0
      have k60 := hz4 hb h4
      have h3 : Mq3 6 13 = 0 := by unfold Qn_ at h4; rw [if_pos (.inr k60)] at h4; exact h4
      obtain ⟨hr0, h7⟩ := z13 hb h3
      obtain ⟨g1, g2, g3⟩ := hv hb h7
      refine ⟨?_, ?_, Mx7 5 3, ?_, .inr (.inr ⟨rfl, ?_, ?_, ?_, ?_⟩)⟩
      · rw [u6 17 (by decide) (by decide) (by decide)]; exact g1
      · rw [u 156 (by decide) (by decide)]; exact g2
      · exact VAL_c (fun i _ _ => by rw [u 227 (by decide) (by decide), u 228 (by decide) (by decide)]; exact ⟨rfl, rfl⟩) ⟨u _ (by decide) (by decide), u _ (by decide) (by decide), u _ (by decide) (by decide), u _ (by decide) (by decide), u _ (by decide) (by decide)⟩ (by rw [u6 104 (by decide) (by decide) (by decide)]; omega) (fun i => by rw [u 157 (by decide) (by decide)]) _ (by omega) (fun i _ _ => by rw [u 209 (by decide) (by decide)]) (fun i _ _ => by rw [x142]) g3
      · rw [x5]
      · rw [u 206 (by decide) (by decide)]; exact q6
      · rw [up_at]; omega
      · rw [up_at, u6 18 (by decide) (by decide) (by decide)]
        have : Mq7 6 18 = Mq 6 18 := (QC_QA (AM_Q A)).2 18 (by decide)
        omega
  have nk0 : k6 = 0 → Qn_ Mq3 b k6 (MX 71 q) = Mq3 := fun e => by unfold Qn_; rw [if_pos (.inr e)]
  have G3 := GT_a (XC_XA hx3) (QC_QA hq3) hG
  have y8 := hE3.2.2.2.2.2.2.1
  -- what X and Q hold of the route
  have rel : b = 1 → r ≠ -1 → (cX_ Mx3 r sg ↔ cQ_ Mq3 r sg) ∨ (F ≤ 8 * MX 71 a ∧ cX_ Mx3 r sg) := fun hb hr1 => by
    have hrb : 0 ≤ r ∧ r < Mx3 5 1 := by
      have : Mx3 5 1 = MX 5 1 := hx3.2.2 1 (by decide)
      omega
    have e119 : Mx3 119 r = Mq3 164 r := ((G3.2.2.2 hb).1 r hrb.1 hrb.2).2.1
    rcases side_e G3 hb hrb with e | e
    · left
      unfold cX_ cQ_
      rw [e119]
      have e18 : Mx3 1 18 = Mq3 6 61 := by omega
      rw [e18]
      constructor
      · rintro (h | h)
        · exact .inl fun g => h (e.mpr g)
        · exact .inr ⟨by omega, h.2⟩
      · rintro (h | h)
        · exact .inl fun g => h (e.mp g)
        · exact .inr ⟨by omega, h.2⟩
    · right
      refine ⟨e.1, .inl fun g => e.2 (by omega)⟩
  refine l_157v hV3.1 hr10 hq1 (ER_fl hE3) hV hW (fun hgd => ?_) (fun h8 hr1 hc => ?_)
  · -- X notes nothing
    have A5 : AM b F MX Mq Mx3 (Qn_ Mq3 b k6 (MX 71 q)) a a1 o s9 (z9 - 1) := by
      have e : Xn_ Mx3 b k6 q = Mx3 := by
        unfold Xn_
        rw [if_pos]
        rcases h01 with hb | hb
        · exact .inl hb
        · right
          by_cases hr1 : r = -1
          · rw [hk6, if_neg (by omega)]
          · have hnc : ¬ cX_ Mx3 r sg := by
              rcases hgd with g | g | g
              · omega
              · exact absurd g hr1
              · exact g
            rcases rel hb hr1 with e | e
            · rw [hk6, if_neg (fun g => hnc (e.mpr g.2))]
            · exact absurd e.2 hnc
      rw [e] at A4; exact A4
    exact fin _ A5 x3r.1 x3r.2
  · have hb : b = 1 := by omega
    have n5 : nt1_ Mx3 6 q 5 = Mx7 5 := by rw [nt1_r (by decide)]; exact x3r.1
    have n142 : nt1_ Mx3 6 q 142 = Mx7 142 := by rw [nt1_r (by decide)]; exact x3r.2
    by_cases cq : cQ_ Mq3 r sg
    · have e6 : k6 = 6 := by rw [hk6, if_pos ⟨by omega, cq⟩]
      have e : Xn_ Mx3 b k6 q = nt1_ Mx3 6 q := by unfold Xn_; rw [if_neg (by omega), e6]
      rw [e] at A4
      exact fin _ A4 n5 n142
    · have e6 : k6 = 0 := by rw [hk6, if_neg (fun g => cq g.2)]
      have hF : F ≤ 8 * MX 71 a := by
        rcases rel hb hr1 with e | e
        · exact absurd (e.mp hc) cq
        · exact e.1
      have A5 := AM_mx (k := 6) (tk := q) A3 hb (by omega) hgX (by omega) (by omega)
      rw [← nk0 e6] at A5
      refine fin _ ?_ n5 n142
      obtain ⟨g1, g2, g3, g4, g5, g6, g7, g8, g9, g10, g11, g12, g13⟩ := A5
      exact ⟨g1, g2, g3, g4, g5, g6, g7, g8, g9, g10, g11, ⟨by omega, g12.2⟩, g13⟩
theorem l_157m2 [Inhabited gh_] {x1 sg x3 nn : Int} (hG : GT b F MX Mq (MX 71 a)) (hk0 : 0 ≤ Mq 6 75 ∧ Mq 6 75 < 1300) (hsg : sg = -1 ∨ (0 ≤ sg ∧ sg < Mq 6 17)) (O : OVM b F MX Mq Mx7 Mq7 a a7 o s z sg nn) (k2 : MX 70 a7 = 22) (hS : b = 1 → ovS (MX 70) o a7 ≠ none)
    (pre : ∀ (Kv : mm_ → Prop) (Qtq : qt_), (∀ V : vv_, Cl_ wd0 (Tr_ wd0 pg0 (dq + 13)) V (rv_ Kv) Qtq m_297 → Wk_ V → V 115 [rr 6, ii (MX 71 a), ii x1, ii sg, ii (Mq 6 75), none, none] [] Mq7) → Tr_ wd0 pg0 (dq + 15) 296 [.inr (.inr 6)] Mq (rv_ Kv) Qtq)
    (hK : ∀ Mx' Mq' a', Mq' 205 (Mq 6 75) = sg → AR b F MX Mq Mx' Mq' a a' o 2 sg → ovS (MX 70) o a7 = some a' → (∀ (Kv : mm_ → Prop) (Qtq : qt_), Kv Mq' → Tr_ wd0 pg0 (dq + 15) 296 [.inr (.inr 6)] Mq (rv_ Kv) Qtq) → G Mx')
    (hQ : b = 0 → ∀ Mx', XA MX Mx' → (∀ (Kv : mm_ → Prop) (Qtq : qt_), (∀ M', SQ Mx' Mq M' → Kv M') → Tr_ wd0 pg0 (dq + 15) 296 [.inr (.inr 6)] Mq (rv_ Kv) Qtq) → Qt 8 Mx')
    (hV : Cl_ wd0 (Tr_ wd0 pg0 (d + 15)) V (rv_ fun M8 => Tr_ wd0 pg0 (d + 16) 121 [.inr (.inr 1), .inl 59] M8 (rv_ G) Qt) Qt m_157) (hW : Wk_ V) : V 143 [rr 1, ii x1, ii sg, ii x3, ii nn, ii 2, none, none] [] Mx7 := by
  obtain ⟨A, ⟨hs, hz, ha, hn0, hn3⟩, ⟨q75, q3, q4, q5, q6, q7, q10⟩, hv⟩ := O
  have hE := AM_E A
  have hT := AM_T A
  have e70 := AM_70 A
  have e71 := AM_71 A
  have h01 := hE.2.2.2.2.2.2.2.2.1
  have k2' : Mx7 70 a7 = 22 := by rw [e70]; exact k2
  have eS : ovS (MX 70) o a7 = ((gS a7).bind (tS (MX 70) 100)).bind (tS (MX 70) 259) := by unfold ovS; rw [if_neg (by omega), if_pos k2]
  rw [eS] at hS hK
  have preA : ∀ (MQ : mm_), ((a7 < 1200 ∧ MQ = nx_ Mq7) ∨ (b = 0 ∧ a7 = 1200 ∧ MQ = bf_ Mq7 2 (Mx7 71 a7))) → ∀ (Kv : mm_ → Prop) (Qtq : qt_), (∀ V : vv_, Cl_ wd0 (Tr_ wd0 pg0 (dq + 13)) V (rv_ Kv) Qtq m_297 → Wk_ V → Tr_ wd0 pg0 (dq + 13) 233 [.inr (.inr 6)] MQ (ri_ fun v3 M4 => Tr_ wd0 pg0 (dq + 13) 227 [.inr (.inr 6)] M4 (ri_ fun v4 M5 =>
       (if v4 = 0 then
        (0 ≤ v3 ∧ v3 < 1202) ∧
         Tr_ wd0 pg0 (dq + 13) 300 [.inr (.inr 6), .inr (.inl (M5 151 v3))] M5 (ri_ fun v5 M6 =>
         (bl_ (M6 6 16) → (if M6 6 16 = 0 then
          V 203 [rr 6, ii (MX 71 a), ii x1, ii sg, ii (Mq 6 75), ii v3, ii v5] [] M6
         else
          (if v5 < 0 then
           (0 ≤ v3 ∧ v3 < 1202) ∧
            Tr_ wd0 pg0 (dq + 13) 236 [.inr (.inr 6), .inl 4, .inl (M6 150 v3)] M6 (rv_ fun M7 =>
            V 203 [rr 6, ii (MX 71 a), ii x1, ii sg, ii (Mq 6 75), ii v3, ii v5] [] M7) Qtq
          else
           V 203 [rr 6, ii (MX 71 a), ii x1, ii sg, ii (Mq 6 75), ii v3, ii v5] [] M6)))) Qtq
       else
        rv_ Kv [] M5)) Qtq) Qtq) → Tr_ wd0 pg0 (dq + 15) 296 [.inr (.inr 6)] Mq (rv_ Kv) Qtq := by
    intro MQ hMQ Kv Qtq hq
    refine pre _ _ fun V hV hW => b_297_115 (Tr_mono _) hV hW _ _ _ _ _ (j_228f hT hE (by decide) (by omega) ?_)
    rw [if_pos rfl]
    rcases hMQ with ⟨h12, e⟩ | ⟨hb, h12, e⟩
    · refine j_228t hT hE (by decide) k2' h12 ?_
      rw [if_neg (by decide), ← e]; exact hq V hV hW
    · refine j_228r hT hE hb (by decide) k2' h12 ?_
      rw [if_neg (by decide), ← e]; exact hq V hV hW
  refine b_157_143 (Tr_mono _) hV hW _ _ _ _ _ _ ?_
  rw [if_neg (by decide), if_pos rfl]
  refine y_105 hE (by omega) (fun hb => by intro e; rw [e] at hS; exact hS hb rfl) (fun h12 hE1 => ?_) (fun hb h12 => ?_)
  rotate_left
  · have hsp := SQ_bf hE hb (k := 2) (by decide) (QC_QA (AM_Q A))
    refine hQ hb _ (XA_tr (XC_XA (AM_X A)) (XF_XA fl_XF)) fun Kv Qtq hk9 => preA _ (.inr ⟨hb, h12, rfl⟩) _ _ fun V hV hW => q_233s hsp.1 (q_227s hsp.1 ?_)
    rw [if_neg (by decide)]
    exact rv_i (hk9 _ hsp)
  have A1 := AM_go A hE1
  have hT1 := AM_T A1
  have f70 := AM_70 A1
  have f71 := AM_71 A1
  rw [gS_e h12, Option.bind_some] at hS hK
  refine y_107 hE1 (fun hb => by rw [f70]; intro e; rw [e] at hS; exact hS hb rfl) (fun k1 h13 hE2 => ?_) (fun hb k1 h13 => ?_) (fun hb k1 => ?_)
  rotate_left
  · have hsp := SQ_bf hE1 hb (k := 2) (by decide) (QC_QA (AM_Q A1))
    refine hQ hb _ (XA_tr (XC_XA (AM_X A1)) (XF_XA fl_XF)) fun Kv Qtq hk9 => preA _ (.inl ⟨h12, rfl⟩) _ _ fun V hV hW => j_233r hT1 hE1 hb k1 h13 (q_227s hsp.1 ?_)
    rw [if_neg (by decide)]
    exact rv_i (hk9 _ hsp)
  · have hsp := SQ_bf hE1 hb (k := 1) (by decide) (QC_QA (AM_Q A1))
    refine hQ hb _ (XA_tr (XC_XA (AM_X A1)) (XF_XA fl_XF)) fun Kv Qtq hk9 => preA _ (.inl ⟨h12, rfl⟩) _ _ fun V hV hW => j_233w hT1 hE1 hb k1 (q_227s hsp.1 ?_)
    rw [if_neg (by decide)]
    exact rv_i (hk9 _ hsp)
  have A2 := AM_go A1 hE2
  have hT2 := AM_T A2
  have hV2' := AM_V A2
  have k1' : MX 70 (a7 + 1) = 100 := by rw [← f70]; exact k1
  have hgX : gd_ MX (a7 + 1) := gd_c f70.symm hE1.1
  have hnm : nm9_ (nX_ (nX_ Mx7)) (a7 + 1) := ⟨gd_c (AM_70 A2) hgX, by rw [AM_70 A2]; exact k1'⟩
  rw [tS_e k1' h13, Option.bind_some] at hS hK
  have G2 := GT_a (XC_XA (AM_X A2)) (QC_QA (AM_Q A2)) hG
  refine x_114R hT2 hV2' G2.2.2.1 hnm ?_
  have q151 : nx_ (nx_ Mq7) 151 = Mq 151 := (QC_QA (AM_Q A2)).1 151 (by decide)
  have hTX : Tks MX Mq := A.1.1
  have q150 : nx_ (nx_ Mq7) 150 (a7 + 1) = MX 71 (a7 + 1) := by rw [(QC_QA (AM_Q A2)).1 150 (by decide), (hTX (a7 + 1) hgX).2.1]
  rw [rtl_a (QC_QA (AM_Q A2)), q151]
  have hr := rtl_r (Mx := MX) (Mq := Mq) A.1.2.1 hG.2.2.1 (v := Mq 151 (a7 + 1))
  have h618 : Mq 6 18 ≤ 10 ∧ Mq 6 18 = MX 5 1 := ⟨by have := hG.2.2.1.1; omega, hG.2.2.1.1.2.2⟩
  have h617 : Mq 6 17 ≤ 20 := by have := hG.1.1.1; omega
  generalize hrr : rtl Mq (Mq 151 (a7 + 1)) = r at *
  obtain ⟨kk, hkk⟩ : ∃ kk, kk = if r = -1 then (4 : Int) else 0 := ⟨_, rfl⟩
  have hkc : kk = 0 ∨ (3 ≤ kk ∧ kk ≤ 6) := by rw [hkk]; split <;> omega
  have hq1 : 0 ≤ a7 + 1 ∧ a7 + 1 < 1202 := ⟨hgX.1, by have := hgX.2.1; omega⟩
  have hr4 : r = -1 ∨ 0 ≤ r := by omega
  obtain ⟨A3, hz3⟩ := AM_m (k := kk) (tk := a7 + 1) A2 hkc hgX (by omega)
  refine y_n4 (A := fun M => V 208 [rr 1, ii x1, ii sg, ii x3, ii nn, ii 2, ii r, ii (a7 + 1)] [] M) hE2 hq1 hkk ?_
  have pre2 : ∀ (Kv : mm_ → Prop) (Qtq : qt_), (∀ V : vv_, Cl_ wd0 (Tr_ wd0 pg0 (dq + 13)) V (rv_ Kv) Qtq m_297 → Wk_ V → V 203 [rr 6, ii (MX 71 a), ii x1, ii sg, ii (Mq 6 75), ii (a7 + 1), ii r] [] (Qn_ (nx_ (nx_ Mq7)) b kk (MX 71 (a7 + 1)))) → Tr_ wd0 pg0 (dq + 15) 296 [.inr (.inr 6)] Mq (rv_ Kv) Qtq := by
    intro Kv Qtq hq
    refine preA _ (.inl ⟨h12, rfl⟩) _ _ fun V hV hW => j_233t hT1 hE1 k1 h13 (q_227g (ER_goq hE2) ?_)
    rw [if_pos rfl]
    refine ⟨hq1, q_300R hV2' G2.2.2.1 ?_⟩
    rw [rtl_a (QC_QA (AM_Q A2)), q151, hrr]
    intro _
    have := hq V hV hW
    rw [← q_n4 (M := nx_ (nx_ Mq7)) (r := r) (k := 4) hE2.2.2.2.2.2.2.2.1 h01 hr4 hkk (by decide)] at this
    by_cases c : r < 0
    · rw [if_pos c] at this
      rw [if_pos c]
      by_cases c0 : nx_ (nx_ Mq7) 6 16 = 0
      · rw [if_pos c0]
        have e : nt_ (nx_ (nx_ Mq7)) 4 (MX 71 (a7 + 1)) = nx_ (nx_ Mq7) := by unfold nt_; rw [if_pos (by omega)]
        rw [e] at this; exact this
      · rw [if_neg c0]
        refine ⟨hq1, q_236 ?_⟩
        rw [q150]; exact this
    · rw [if_neg c] at this
      rw [if_neg c]
      split <;> exact this
  have q3r : ∀ r' : Nat, r' ≠ 6 → Qn_ (nx_ (nx_ Mq7)) b kk (MX 71 (a7 + 1)) r' = Mq7 r' := fun r' h => by rw [Qn_r h, nx_ne h, nx_ne h]
  have q36 : ∀ i : Int, i ≠ 12 → i ≠ 13 → i ≠ 14 → Qn_ (nx_ (nx_ Mq7)) b kk (MX 71 (a7 + 1)) 6 i = Mq7 6 i := fun i h1 h2 h3 => by rw [Qn_6 h2 h3, nx_6 h1, nx_6 h1]
  have x3r : Xn_ (nX_ (nX_ Mx7)) b kk (a7 + 1) 5 = Mx7 5 ∧ Xn_ (nX_ (nX_ Mx7)) b kk (a7 + 1) 142 = Mx7 142 := by rw [Xn_r (by decide), Xn_r (by decide), nX_ne (by decide), nX_ne (by decide), nX_ne (by decide), nX_ne (by decide)]; exact ⟨rfl, rfl⟩
  have z13 : b = 1 → Qn_ (nx_ (nx_ Mq7)) b kk (MX 71 (a7 + 1)) 6 13 = 0 → r ≠ -1 ∧ Mq7 6 13 = 0 := fun hb h0 => by
    have hk0 := hz3 hb h0
    refine ⟨fun e => by rw [if_pos e] at hkk; omega, ?_⟩
    unfold Qn_ at h0
    rw [if_pos (.inr hk0), nx_6 (by decide), nx_6 (by decide)] at h0; exact h0
  exact l_157w hG hk0 hsg hgX ((hTX (a7 + 1) hgX).2.2.2.2.1 a (A.1.2.2.1).1 (by omega)) hr ⟨A, ⟨hs, hz, ha, hn0, hn3⟩, ⟨q75, q3, q4, q5, q6, q7, q10⟩, hv⟩ A3 (by omega) (by omega) (by omega) hS q3r q36 x3r z13 pre2 hK hQ hV hW
end OW
end T122_ou

section T120_ou
/-! output: its end -/
section OU
variable {d dq n : Nat} {b F : Int} {Mx Mq MX MQ Mx1 Mq1 Mx8 Mq8 M : mm_} {a a1 a8 o o1 s z p : Int} {K : Int → mm_ → Prop} {Kv G : mm_ → Prop} {Qt : qt_} {V : vv_} {dec : Int → Option Int}
/-- what an output has: s signal, nn values, mode m, route or none -/
def OUM (Mx Mq : mm_) (T k c c2 fe s nn m : Int) : Prop := (0 ≤ s ∧ s < Mq 6 17) ∧ nn = Mq 156 s ∧ ∃ c1, VAL Mx Mq T fe (fun i => Mq 157 (3 * s + i)) k nn.toNat c c1
    ∧ ((m = 0 ∧ c2 = c1 ∧ Mq 206 k = -1 ∧ Mq 207 k = -1) ∨ (m = 1 ∧ Mq 207 k = -1 ∧ EXP Mx Mq T c1 c2 (Mq 206 k) fe 3) ∨ (m = 2 ∧ c2 = c1 ∧ Mq 206 k = -1 ∧ 0 ≤ Mq 207 k ∧ Mq 207 k < Mq 6 18))
theorem l_157e [Inhabited gh_] {x1 sg x3 nn m r : Int} (A : AM b F MX Mq Mx8 Mq8 a a8 o s z) (hs : s ≤ 2) (hz : -5 ≤ z) (ha : a + 2 ≤ a8) (hnn : 0 ≤ nn ∧ nn ≤ 3)
    (h75 : Mq8 6 75 = Mq 6 75 + 1) (h3 : Mq8 203 (Mq 6 75) = 2) (h4 : Mq8 204 (Mq 6 75) = MX 71 a) (h5 : Mq8 205 (Mq 6 75) = sg) (h10 : Mq8 210 (Mq 6 75) = nn) (h7 : Mq8 207 (Mq 6 75) = r)
    (hop : b = 1 → Mq8 6 13 = 0 → OUM Mx8 Mq8 (Mq 6 61) (Mq 6 75) (MX 5 3) (Mx8 5 3) (Mq8 6 104) sg nn m)
    (hS : b = 1 → tS (MX 70) 259 a8 ≠ none)
    (pre : ∀ (Kv : mm_ → Prop) (Qtq : qt_), Tr_ wd0 pg0 (dq + 13) 244 [.inr (.inr 6), .inl 59] Mq8 (rv_ Kv) Qtq → Tr_ wd0 pg0 (dq + 15) 296 [.inr (.inr 6)] Mq (rv_ Kv) Qtq)
    (hK : ∀ Mx' Mq' a', Mq' 205 (Mq 6 75) = sg → AR b F MX Mq Mx' Mq' a a' o 2 sg → tS (MX 70) 259 a8 = some a' → (∀ (Kv : mm_ → Prop) (Qtq : qt_), Kv Mq' → Tr_ wd0 pg0 (dq + 15) 296 [.inr (.inr 6)] Mq (rv_ Kv) Qtq) → G Mx')
    (hQ : b = 0 → ∀ Mx', XA MX Mx' → (∀ (Kv : mm_ → Prop) (Qtq : qt_), (∀ M', SQ Mx' Mq M' → Kv M') → Tr_ wd0 pg0 (dq + 15) 296 [.inr (.inr 6)] Mq (rv_ Kv) Qtq) → Qt 8 Mx')
    (hV : Cl_ wd0 (Tr_ wd0 pg0 (d + 15)) V (rv_ fun M8 => Tr_ wd0 pg0 (d + 16) 121 [.inr (.inr 1), .inl 59] M8 (rv_ G) Qt) Qt m_157) (hW : Wk_ V) : V 266 [rr 1, ii x1, ii sg, ii x3, ii nn, ii m, ii r, none] [] Mx8 := by
  have hE := AM_E A
  have h01 := hE.2.2.2.2.2.2.2.2.1
  have h18 := hE.2.2.2.2.2.2.1
  have P1 := PXL_1 (v := 33) h18 h01 (PXL_0 (b := b) (M := Mx8))
  have P2 := PXL_1 (v := sg) h18 h01 P1
  have P3 := PXL_1 (v := nn) h18 h01 P2
  have P4 := PXL_1 (v := m) h18 h01 P3
  have P5 := PXL_1 (v := r) h18 h01 P4
  have B1 := AM_p A P1 (by simp only [List.length_cons, List.length_nil]; (clear A hz ha hnn h75 h3 h4 h5 h10 h7 hop hS pre hK hQ hV hW hE h01 h18 P1 P2 P3 P4 P5; omega))
  have B2 := AM_p A P2 (by simp only [List.length_cons, List.length_nil]; omega)
  have B3 := AM_p A P3 (by simp only [List.length_cons, List.length_nil]; omega)
  have B4 := AM_p A P4 (by simp only [List.length_cons, List.length_nil]; omega)
  have B5 := AM_p A P5 (by simp only [List.length_cons, List.length_nil]; omega)
  refine b_157_266 (Tr_mono _) hV hW _ _ _ _ _ _ _ ?_
  refine x_138 (AM_V A).1 (ER_st hE).1 (ER_st hE).2 ?_
  refine x_138 (AM_V B1).1 (ER_st (AM_E B1)).1 (ER_st (AM_E B1)).2 ?_
  refine x_138 (AM_V B2).1 (ER_st (AM_E B2)).1 (ER_st (AM_E B2)).2 ?_
  refine x_138 (AM_V B3).1 (ER_st (AM_E B3)).1 (ER_st (AM_E B3)).2 ?_
  refine x_138 (AM_V B4).1 (ER_st (AM_E B4)).1 (ER_st (AM_E B4)).2 (rv_i ?_)
  refine y_end (Mx := MX) (Mq := Mq) (w := 2) (v := sg) B5 hS pre hz (by omega) h75 (by simp only [List.length_cons, List.length_nil]; (clear A hz hnn h75 h3 h4 h5 h10 h7 hop hS pre hK hQ hV hW hE h01 h18 P1 P2 P3 P4 P5 B1 B2 B3 B4 B5; lia)) ⟨h4, h3, fun _ => h5⟩ (fun hb h0 => ?_) (fun Mx' Mq' a' hA hs hq => hK Mx' Mq' a' (hA.2.2.2.2.2.2.2.2.2.2.2.2.1.2.2 (.inl rfl)) hA hs hq) hQ
  obtain ⟨g1, g2, c1, g3, g4⟩ := hop hb h0
  have hp5 := P5.2.2.2.1 hb
  obtain ⟨s5, s4, s3, s2, s1, _⟩ := hp5.2
  have cd : ∀ i, i < Mx8 5 3 → pX_ (pX_ (pX_ (pX_ (pX_ Mx8 33) sg) nn) m) r 142 i = Mx8 142 i := P5.2.2.2.2.1
  have lc : c1 ≤ Mx8 5 3 := by
    rcases g4 with g | g | g
    · (clear A hs hz ha hnn h75 h3 h4 h5 h10 h7 hop hS pre hK hQ hV hW hE h01 h18 P1 P2 P3 P4 P5 B1 B2 B3 B4 B5 hb h0 g1 g2 g3 hp5 s5 s4 s3 s2 s1 cd; omega)
    · exact (EXP_le g.2.2).1
    · (clear A hs hz ha hnn h75 h3 h4 h5 h10 h7 hop hS pre hK hQ hV hW hE h01 h18 P1 P2 P3 P4 P5 B1 B2 B3 B4 B5 hb h0 g1 g2 g3 hp5 s5 s4 s3 s2 s1 cd; omega)
  refine .inr (.inl ⟨h3, by rw [h5]; exact g1, by rw [h10]; exact hnn.1, by rw [h10]; exact hnn.2, by rw [h10, h5]; exact g2, c1, Mx8 5 3, m, ?_, ?_, ?_, ?_, ?_, ?_, ?_, ?_⟩)
  · rw [h10, h5]
    exact VAL_c (fun i _ _ => ⟨rfl, rfl⟩) tb_rf (by (clear A hs hz ha hnn h75 h3 h4 h5 h10 h7 hop hS pre hK hQ hV hW hE h01 h18 P1 P2 P3 P4 P5 B1 B2 B3 B4 B5 hb h0 g1 g2 g3 g4 hp5 s5 s4 s3 s2 s1 cd lc; lia)) (fun _ => rfl) _ (by (clear A hs hz ha h75 h3 h4 h5 h7 hop hS pre hK hQ hV hW hE h01 h18 P1 P2 P3 P4 P5 B1 B2 B3 B4 B5 hb h0 g1 g3 g4 hp5 s5 s4 s2 s1 cd lc; lia)) (fun i _ _ => rfl) (fun i _ hi => cd i (by (clear A hs hz ha hnn h75 h3 h4 h5 h10 h7 hop hS pre hK hQ hV hW hE h01 h18 P1 P2 P3 P4 P5 B1 B2 B3 B4 B5 hb h0 g1 g2 g3 g4 hp5 s5 s4 s3 s2 s1 cd; omega))) g3
  · rcases g4 with g | g | g
    · exact .inl g
    · exact .inr (.inl ⟨g.1, g.2.1, EXP_c g.2.2 (fun i _ hi => cd i hi) (fun i _ _ => ⟨rfl, rfl⟩) tb_rf (by omega)⟩)
    · exact .inr (.inr g)
  · simpa using s1
  · rw [h5]; exact s2
  · rw [h10]; exact s3
  · exact s4
  · rw [h7]; exact s5
  · rw [hp5.1]; rfl
end OU
end T120_ou
section T121_ou
/-! output: to, via, or neither -/
section OV
variable {d dq n : Nat} {b F : Int} {Mx Mq MX MQ Mx7 Mq7 Mx8 Mq8 M : mm_} {a a1 a7 o o1 s z p : Int} {K : Int → mm_ → Prop} {Kv G : mm_ → Prop} {Qt : qt_} {V : vv_} {dec : Int → Option Int}
/-- behind the values of an output -/
def OVM [Inhabited gh_] (b F : Int) (MX Mq Mx7 Mq7 : mm_) (a a7 o s z sg nn : Int) : Prop := AM b F MX Mq Mx7 Mq7 a a7 o s z ∧ (s ≤ 0 ∧ 7 ≤ z ∧ a + 2 ≤ a7 ∧ 0 ≤ nn ∧ nn ≤ 3) ∧ (Mq7 6 75 = Mq 6 75 + 1 ∧ Mq7 203 (Mq 6 75) = 2 ∧ Mq7 204 (Mq 6 75) = MX 71 a ∧ Mq7 205 (Mq 6 75) = sg ∧ Mq7 206 (Mq 6 75) = -1 ∧ Mq7 207 (Mq 6 75) = -1 ∧ Mq7 210 (Mq 6 75) = nn)
  ∧ (b = 1 → Mq7 6 13 = 0 → (0 ≤ sg ∧ sg < Mq7 6 17) ∧ nn = Mq7 156 sg ∧ VAL Mx7 Mq7 (Mq 6 61) (Mq7 6 104) (fun i => Mq7 157 (3 * sg + i)) (Mq 6 75) nn.toNat (MX 5 3) (Mx7 5 3))
def ovS (κ : Int → Int) (o a3 : Int) : Option Int := (if κ a3 = 21 then (gS a3).bind (ES κ 0 o) else if κ a3 = 22 then (gS a3).bind (tS κ 100) else some a3).bind (tS κ 259)
theorem l_157m0 [Inhabited gh_] {x1 sg x3 nn : Int} (O : OVM b F MX Mq Mx7 Mq7 a a7 o s z sg nn) (k1 : MX 70 a7 ≠ 21) (k2 : MX 70 a7 ≠ 22) (hS : b = 1 → ovS (MX 70) o a7 ≠ none)
    (pre : ∀ (Kv : mm_ → Prop) (Qtq : qt_), (∀ V : vv_, Cl_ wd0 (Tr_ wd0 pg0 (dq + 13)) V (rv_ Kv) Qtq m_297 → Wk_ V → V 115 [rr 6, ii (MX 71 a), ii x1, ii sg, ii (Mq 6 75), none, none] [] Mq7) → Tr_ wd0 pg0 (dq + 15) 296 [.inr (.inr 6)] Mq (rv_ Kv) Qtq)
    (hK : ∀ Mx' Mq' a', Mq' 205 (Mq 6 75) = sg → AR b F MX Mq Mx' Mq' a a' o 2 sg → ovS (MX 70) o a7 = some a' → (∀ (Kv : mm_ → Prop) (Qtq : qt_), Kv Mq' → Tr_ wd0 pg0 (dq + 15) 296 [.inr (.inr 6)] Mq (rv_ Kv) Qtq) → G Mx')
    (hQ : b = 0 → ∀ Mx', XA MX Mx' → (∀ (Kv : mm_ → Prop) (Qtq : qt_), (∀ M', SQ Mx' Mq M' → Kv M') → Tr_ wd0 pg0 (dq + 15) 296 [.inr (.inr 6)] Mq (rv_ Kv) Qtq) → Qt 8 Mx')
    (hV : Cl_ wd0 (Tr_ wd0 pg0 (d + 15)) V (rv_ fun M8 => Tr_ wd0 pg0 (d + 16) 121 [.inr (.inr 1), .inl 59] M8 (rv_ G) Qt) Qt m_157) (hW : Wk_ V) : V 143 [rr 1, ii x1, ii sg, ii x3, ii nn, ii 0, none, none] [] Mx7 := by
  obtain ⟨A, ⟨hs, hz, ha, hn0, hn3⟩, ⟨q75, q3, q4, q5, q6, q7, q10⟩, hv⟩ := O
  have hE := AM_E A
  have hT := AM_T A
  have e70 := AM_70 A
  have eS : ovS (MX 70) o a7 = tS (MX 70) 259 a7 := by unfold ovS; rw [if_neg k1, if_neg k2, Option.bind_some]
  rw [eS] at hS hK
  refine b_157_143 (Tr_mono _) hV hW _ _ _ _ _ _ ?_
  rw [if_neg (by decide), if_neg (by decide)]
  refine l_157e (MX := MX) (dq := dq) A (by omega) (by omega) ha ⟨hn0, hn3⟩ q75 q3 q4 q5 q10 q7 (fun hb h0 => ?_) hS (fun Kv Qtq hq => pre _ _ fun V hV hW => b_297_115 (Tr_mono _) hV hW _ _ _ _ _ (j_228f hT hE (by decide) (by rw [e70]; exact k1) ?_)) hK hQ hV hW
  · obtain ⟨g1, g2, g3⟩ := hv hb h0
    exact ⟨g1, g2, Mx7 5 3, g3, .inl ⟨rfl, rfl, q6, q7⟩⟩
  · rw [if_pos rfl]
    refine j_228f hT hE (by decide) (by rw [e70]; exact k2) ?_
    rw [if_pos rfl]
    exact Tr_rv hq
theorem l_157m1 [Inhabited gh_] {x1 sg x3 nn : Int} (hn : n ≤ 12) (ho : o = 12 - (n : Int)) (hk0 : 0 ≤ Mq 6 75 ∧ Mq 6 75 < 1300) (O : OVM b F MX Mq Mx7 Mq7 a a7 o s z sg nn) (k1 : MX 70 a7 = 21) (hS : b = 1 → ovS (MX 70) o a7 ≠ none)
    (pre : ∀ (Kv : mm_ → Prop) (Qtq : qt_), (∀ V : vv_, Cl_ wd0 (Tr_ wd0 pg0 (dq + 13)) V (rv_ Kv) Qtq m_297 → Wk_ V → V 115 [rr 6, ii (MX 71 a), ii x1, ii sg, ii (Mq 6 75), none, none] [] Mq7) → Tr_ wd0 pg0 (dq + 15) 296 [.inr (.inr 6)] Mq (rv_ Kv) Qtq)
    (hK : ∀ Mx' Mq' a', Mq' 205 (Mq 6 75) = sg → AR b F MX Mq Mx' Mq' a a' o 2 sg → ovS (MX 70) o a7 = some a' → (∀ (Kv : mm_ → Prop) (Qtq : qt_), Kv Mq' → Tr_ wd0 pg0 (dq + 15) 296 [.inr (.inr 6)] Mq (rv_ Kv) Qtq) → G Mx')
    (hQ : b = 0 → ∀ Mx', XA MX Mx' → (∀ (Kv : mm_ → Prop) (Qtq : qt_), (∀ M', SQ Mx' Mq M' → Kv M') → Tr_ wd0 pg0 (dq + 15) 296 [.inr (.inr 6)] Mq (rv_ Kv) Qtq) → Qt 8 Mx')
    (hV : Cl_ wd0 (Tr_ wd0 pg0 (9 * n + 15)) V (rv_ fun M8 => Tr_ wd0 pg0 (9 * n + 16) 121 [.inr (.inr 1), .inl 59] M8 (rv_ G) Qt) Qt m_157) (hW : Wk_ V) : V 143 [rr 1, ii x1, ii sg, ii x3, ii nn, ii 1, none, none] [] Mx7 := by
  obtain ⟨A, ⟨hs, hz, ha, hn0, hn3⟩, ⟨q75, q3, q4, q5, q6, q7, q10⟩, hv⟩ := O
  have hE := AM_E A
  have hT := AM_T A
  have e70 := AM_70 A
  have e71 := AM_71 A
  have k1' : Mx7 70 a7 = 21 := by rw [e70]; exact k1
  have eS : ovS (MX 70) o a7 = ((gS a7).bind (ES (MX 70) 0 o)).bind (tS (MX 70) 259) := by unfold ovS; rw [if_pos k1]
  rw [eS] at hS hK
  refine b_157_143 (Tr_mono _) hV hW _ _ _ _ _ _ ?_
  rw [if_pos rfl]
  refine y_105 hE (by (clear hn ho hk0 k1 hS pre hK hQ hV hW A hs hz ha hn0 hn3 hv q75 q3 q4 q5 q6 q7 q10 hE hT e70 e71 eS; lia)) (fun hb => by intro e; rw [e] at hS; exact hS hb rfl) (fun h12 hE1 => ?_) (fun hb h12 => ?_)
  rotate_left
  · have hsp := SQ_bf hE hb (k := 2) (by decide) (QC_QA (AM_Q A))
    refine hQ hb _ (XA_tr (XC_XA (AM_X A)) (XF_XA fl_XF)) fun Kv Qtq hk9 => pre _ _ fun V hV hW => b_297_115 (Tr_mono _) hV hW _ _ _ _ _ (j_228r hT hE hb (by decide) k1' h12 ?_)
    rw [if_neg (by decide)]
    refine q_270s hsp.1 ⟨hk0, q_244s (SQ_ur hsp (by decide) (by decide)).1 (rv_i (hk9 _ (SQ_ur hsp (by decide) (by decide))))⟩
  have A1 := AM_go A hE1
  have pre1 : ∀ (Kv : mm_ → Prop) (Qtq : qt_), Tr_ wd0 pg0 (dq + 13) 270 [.inr (.inr 6), .inl (2 + 1)] (nx_ Mq7) (ri_ fun v6 M8 => Tr_ wd0 pg0 (dq + 13) 244 [.inr (.inr 6), .inl 59] (up_ M8 206 (Mq 6 75) v6) (rv_ Kv) Qtq) Qtq → Tr_ wd0 pg0 (dq + 15) 296 [.inr (.inr 6)] Mq (rv_ Kv) Qtq := by
    intro Kv Qtq hq
    refine pre _ _ fun V hV hW => b_297_115 (Tr_mono _) hV hW _ _ _ _ _ (j_228t hT hE (by decide) k1' h12 ?_)
    rw [if_neg (by decide)]
    exact Tr_m hq (fun vs M ⟨x, e, g⟩ => ⟨x, e, hk0, Tr_rv g⟩) (fun _ _ g => g)
  have x8 : nX_ Mx7 5 3 = Mx7 5 3 ∧ nX_ Mx7 142 = Mx7 142 := by rw [nX_ne (by decide), nX_ne (by decide)]; exact ⟨rfl, rfl⟩
  have q8r : ∀ r : Nat, r ≠ 6 → nx_ Mq7 r = Mq7 r := fun r hr => nx_ne hr
  have q86 : ∀ i : Int, i ≠ 12 → nx_ Mq7 6 i = Mq7 6 i := fun i hi => nx_6 hi
  rw [gS_e h12, Option.bind_some] at hS hK
  generalize nX_ Mx7 = Mx8 at *
  generalize nx_ Mq7 = Mq8 at *
  have m70 := AM_70 A1
  refine Tr_le (d := 9 * n + 14) (by omega) ?_
  refine x_w (dq := dq + 1) (n := n) (w := 2) (wq := 2) hn ho (by omega) (by omega) (fun _ => rfl) (AM_T A1) (AM_V A1) hE1 (AM_f A1) (fun hb => by rw [m70]; intro e; have := hS hb; rw [e] at this; exact this rfl) (fun Mx9 Mq9 a9 hW9 hS9 hq9 => ?_) (fun hb Mx' hx9 hq9 => ?_)
  rotate_left
  · refine hQ hb Mx' (XA_tr (XC_XA (AM_X A1)) (XF_XA hx9)) fun Kv Qtq hk9 => pre1 _ _ (hq9 _ _ fun M' g1 g2 g3 g4 g5 => ?_)
    have hsp : SQ Mx' Mq M' := ⟨g1, g2, g3, g4, QA_tr (QC_QA (AM_Q A1)) (QF_QA g5)⟩
    exact q_244s (SQ_ur hsp (by decide) (by decide)).1 (hk9 _ (SQ_ur hsp (by decide) (by decide)))
  have A2 := AM_w A1 hW9
  have A3 := AM_up (r := 206) (v := Mq8 6 104) A2 (by decide) (rfl : Mq 6 75 = Mq 6 75)
  rw [m70] at hS9
  rw [hS9, Option.bind_some] at hS hK
  have w9r : ∀ r : Nat, r ≠ 6 → r < 227 → Mq9 r = Mq7 r := fun r h6 h27 => by rw [hW9.2.2.1.1 r (by simp only [List.mem_cons, List.not_mem_nil, or_false, not_or]; (clear hn ho hk0 k1 pre hQ hV hW A hs hz ha hn0 hn3 hv q75 q3 q4 q5 q6 q7 q10 hE hT e70 e71 k1' eS h12 x8 pre1 q8r q86 hE1 A1 m70 hK hS hW9 hS9 hq9 A2 A3; omega)), q8r r h6]
  have w96 : ∀ i : Int, i = 75 ∨ i = 17 ∨ i = 18 ∨ i = 61 → Mq9 6 i = Mq7 6 i := fun i hi => by rw [hW9.2.2.1.2 i (by (clear hn ho hk0 k1 pre hQ hV hW A hs hz ha hn0 hn3 hv q75 q3 q4 q5 q6 q7 q10 hE hT e70 e71 k1' eS h12 x8 pre1 q8r q86 hE1 A1 m70 hK hS hW9 hS9 hq9 A2 A3 w9r; lia)) (by (clear hn ho hk0 k1 pre hQ hV hW A hs hz ha hn0 hn3 hv q75 q3 q4 q5 q6 q7 q10 hE hT e70 e71 k1' eS h12 x8 pre1 q8r q86 hE1 A1 m70 hK hS hW9 hS9 hq9 A2 A3 w9r; lia)) (by (clear hn ho hk0 k1 pre hQ hV hW A hs hz ha hn0 hn3 hv q75 q3 q4 q5 q6 q7 q10 hE hT e70 e71 k1' eS h12 x8 pre1 q8r q86 hE1 A1 m70 hK hS hW9 hS9 hq9 A2 A3 w9r; lia)) (by (clear hn ho hk0 k1 pre hQ hV hW A hs hz ha hn0 hn3 hv q75 q3 q4 q5 q6 q7 q10 hE hT e70 e71 k1' eS h12 x8 pre1 q8r q86 hE1 A1 m70 hK hS hW9 hS9 hq9 A2 A3 w9r; lia)) (by (clear hn ho hk0 k1 pre hQ hV hW A hs hz ha hn0 hn3 hv q75 q3 q4 q5 q6 q7 q10 hE hT e70 e71 k1' eS h12 x8 pre1 q8r q86 hE1 A1 m70 hK hS hW9 hS9 hq9 A2 A3 w9r; lia)) (by (clear hn ho hk0 k1 pre hQ hV hW A hs hz ha hn0 hn3 hv q75 q3 q4 q5 q6 q7 q10 hE hT e70 e71 k1' eS h12 x8 pre1 q8r q86 hE1 A1 m70 hK hS hW9 hS9 hq9 A2 A3 w9r; lia)) (by (clear hn ho hk0 k1 pre hQ hV hW A hs hz ha hn0 hn3 hv q75 q3 q4 q5 q6 q7 q10 hE hT e70 e71 k1' eS h12 x8 pre1 q8r q86 hE1 A1 m70 hK hS hW9 hS9 hq9 A2 A3 w9r; lia)) (by (clear hn ho hk0 k1 pre hQ hV hW A hs hz ha hn0 hn3 hv q75 q3 q4 q5 q6 q7 q10 hE hT e70 e71 k1' eS h12 x8 pre1 q8r q86 hE1 A1 m70 hK hS hW9 hS9 hq9 A2 A3 w9r; lia)) (by (clear hn ho hk0 k1 pre hQ hV hW A hs hz ha hn0 hn3 hv q75 q3 q4 q5 q6 q7 q10 hE hT e70 e71 k1' eS h12 x8 pre1 q8r q86 hE1 A1 m70 hK hS hW9 hS9 hq9 A2 A3 w9r; lia)) (by (clear hn ho hk0 k1 pre hQ hV hW A hs hz ha hn0 hn3 hv q75 q3 q4 q5 q6 q7 q10 hE hT e70 e71 k1' eS h12 x8 pre1 q8r q86 hE1 A1 m70 hK hS hW9 hS9 hq9 A2 A3 w9r; lia)) (by (clear hn ho hk0 k1 pre hQ hV hW A hs hz ha hn0 hn3 hv q75 q3 q4 q5 q6 q7 q10 hE hT e70 e71 k1' eS h12 x8 pre1 q8r q86 hE1 A1 m70 hK hS hW9 hS9 hq9 A2 A3 w9r; lia)), q86 i (by omega)]
  refine l_157e (MX := MX) (dq := dq) A3 (by omega) (by omega) (by have := hW9.1; (clear hn ho hk0 k1 pre hQ hV hW A hs hz hn0 hn3 hv q75 q3 q4 q5 q6 q7 q10 hE hT e70 e71 k1' eS h12 x8 pre1 q8r q86 hE1 A1 m70 hK hS hW9 hS9 hq9 A2 A3 w9r w96; omega)) ⟨hn0, hn3⟩ ?_ ?_ ?_ ?_ ?_ ?_ (fun hb h0 => ?_) hS (fun Kv Qtq hq => pre1 _ _ (hq9 _ _ hq)) hK hQ hV hW
  · rw [up_ne (by decide), w96 75 (.inl rfl)]; exact q75
  · rw [up_ne (by decide), w9r 203 (by decide) (by decide)]; exact q3
  · rw [up_ne (by decide), w9r 204 (by decide) (by decide)]; exact q4
  · rw [up_ne (by decide), w9r 205 (by decide) (by decide)]; exact q5
  · rw [up_ne (by decide), w9r 210 (by decide) (by decide)]; exact q10
  · rw [up_ne (by decide), w9r 207 (by decide) (by decide)]; exact q7
  · rw [up_ne (by decide)] at h0
    obtain ⟨h8, t, ht, hx⟩ := hW9.2.2.2.2.2.2.2.2.2 hb h0
    have ht3 : t = 3 := by have := ht (by decide); (clear hn ho hk0 k1 pre hQ hV hW A hs hz ha hn0 hn3 hv q75 q3 q4 q5 q6 q7 q10 hE hT e70 e71 k1' eS h12 x8 pre1 q8r q86 hE1 A1 m70 hK hS hW9 hS9 hq9 A2 A3 w9r w96 hb h0 h8 ht hx; lia)
    rw [q86 13 (by decide)] at h8
    obtain ⟨g1, g2, g3⟩ := hv hb h8
    have h61 : Mq8 6 61 = Mq 6 61 := (AM_Q A1).2 61 (by decide)
    rw [ht3, h61] at hx
    have tbq : tb_ Mq9 (up_ Mq9 206 (Mq 6 75) (Mq8 6 104)) := QC_tb (QC_ur (by decide) (by decide))
    have tb7 : tb_ Mq7 (up_ Mq9 206 (Mq 6 75) (Mq8 6 104)) := ⟨by rw [tbq.1]; exact w9r _ (by decide) (by decide), by rw [tbq.2.1]; exact w9r _ (by decide) (by decide), by rw [tbq.2.2.1]; exact w9r _ (by decide) (by decide), by rw [tbq.2.2.2.1]; exact w9r _ (by decide) (by decide), by rw [tbq.2.2.2.2]; exact w9r _ (by decide) (by decide)⟩
    have f0 := (AM_f A)
    have q104 := q86 104 (by decide)
    have h104 := hW9.2.2.2.2.1
    refine ⟨?_, ?_, Mx8 5 3, ?_, .inr (.inl ⟨rfl, ?_, ?_⟩)⟩
    · rw [up_ne (by decide), w96 17 (by (clear hn ho hk0 k1 pre hQ hV hW A hs hz ha hn0 hn3 hv q75 q3 q4 q5 q6 q7 q10 hE hT e70 e71 k1' eS h12 x8 pre1 q8r q86 hE1 A1 m70 hK hS hW9 hS9 hq9 A2 A3 w9r w96 hb h0 h8 ht hx ht3 g1 g2 g3 h61 tbq tb7 f0 q104 h104; lia))]; exact g1
    · rw [up_ne (by decide), w9r 156 (by decide) (by decide)]; exact g2
    · rw [x8.1]
      refine VAL_c (fun i x y => ?_) tb7 (by rw [up_ne (by decide)]; (clear hn ho hk0 k1 pre hQ hV hW A hs hz ha hn0 hn3 hv q75 q3 q4 q5 q6 q7 q10 hE hT e70 e71 k1' eS h12 x8 pre1 q8r q86 hE1 A1 m70 hK hS hW9 hS9 hq9 A2 A3 w9r w96 hb h0 h8 ht hx ht3 g1 g2 g3 h61 tbq tb7 f0; omega)) (fun i => by rw [up_ne (by decide), w9r 157 (by decide) (by decide)]) _ (by (clear hn ho hk0 k1 pre hQ hV hW A hs hz ha hv q75 q3 q4 q5 q6 q7 hE hT e70 e71 k1' eS h12 x8 pre1 q8r q86 hE1 A1 m70 hK hS hW9 hS9 hq9 A2 A3 w9r w96 hb h0 h8 ht hx ht3 g1 g3 h61 tbq tb7 f0 q104 h104; lia)) (fun i _ _ => by rw [up_ne (by decide), w9r 209 (by decide) (by decide)]) (fun i x y => ?_) g3
      · have := hW9.2.2.2.2.2.1 i x (by (clear hn ho hk0 k1 pre hQ hV hW A hs hz ha hn0 hn3 hv q75 q3 q4 q5 q6 q7 q10 hE hT e70 e71 k1' eS h12 x8 pre1 q8r q86 hE1 A1 m70 hK hS hW9 hS9 hq9 A2 A3 w9r w96 hb h0 h8 ht hx ht3 g1 g2 g3 h61 tbq tb7 f0 h104 x; omega))
        rw [up_ne (by decide), up_ne (by decide), this.1, this.2, q8r 227 (by decide), q8r 228 (by decide)]; exact ⟨rfl, rfl⟩
      · have c0 := (ER_st A.1.2.2.1).1
        rw [hW9.2.2.2.2.2.2.2.1 i (by (clear hn ho hk0 k1 pre hQ hV hW A hs hz ha hn0 hn3 hv q75 q3 q4 q5 q6 q7 q10 hE hT e70 e71 k1' eS h12 x8 pre1 q8r q86 hE1 A1 m70 hK hS hW9 hS9 hq9 A2 A3 w9r w96 hb h0 h8 ht hx ht3 g1 g2 g3 h61 tbq tb7 f0 q104 h104 y; lia)) (by (clear hn ho hk0 k1 pre hQ hV hW A hs hz ha hn0 hn3 hv q75 q3 q4 q5 q6 q7 q10 hE hT e70 e71 k1' eS h12 pre1 q8r q86 hE1 A1 m70 hK hS hW9 hS9 hq9 A2 A3 w9r w96 hb h0 h8 ht hx ht3 g1 g2 g3 h61 tbq tb7 f0 q104 h104 x c0; omega)), x8.2]
    · rw [up_ne (by decide), w9r 207 (by decide) (by decide)]; exact q7
    · rw [up_at]
      exact EXP_c hx (fun i _ _ => rfl) (fun i _ _ => by rw [up_ne (by decide), up_ne (by decide)]; exact ⟨rfl, rfl⟩) tbq (by rw [up_ne (by decide)]; (clear hn ho hk0 k1 pre hQ hV hW A hs hz ha hn0 hn3 hv q75 q3 q4 q5 q6 q7 q10 hE hT e70 e71 k1' eS h12 x8 pre1 q8r q86 hE1 A1 m70 hK hS hW9 hS9 hq9 A2 A3 w9r w96 hb h0 h8 ht hx ht3 g1 g2 g3 h61 tbq tb7 f0 q104 h104; lia))
end OV
end T121_ou
section T122_ou
/-! output: via a route -/
section OW
variable {d dq n : Nat} {b F : Int} {Mx Mq MX MQ Mx7 Mq7 Mx8 Mq8 M : mm_} {a a1 a7 o o1 s z p : Int} {K : Int → mm_ → Prop} {Kv G : mm_ → Prop} {Qt : qt_} {V : vv_} {dec : Int → Option Int}
abbrev cX_ (M : mm_) (r sg : Int) : Prop := M 114 (2 * r) ≠ M 1 18 ∨ (sg ≠ -1 ∧ an_ (sr_ (M 119 r) sg) 1 = 0)
abbrev cQ_ (M : mm_) (r sg : Int) : Prop := M 158 r ≠ M 154 (M 6 61) ∨ (0 ≤ sg ∧ an_ (sr_ (M 164 r) sg) 1 = 0)
/-- X behind the route's name -/
theorem l_157v [Inhabited gh_] {x1 sg x3 nn r q : Int} (h2 : M 1 2 = 5) (hr : r = -1 ∨ (0 ≤ r ∧ r < 10)) (hq : 0 ≤ q ∧ q < 1202) (hf : 0 ≤ M 1 7 ∧ M 1 7 < 2147483647) (hV : Cl_ wd0 (Tr_ wd0 pg0 (d + 15)) V (rv_ G) Qt m_157) (hW : Wk_ V)
    (hg : (M 1 8 = 0 ∨ r = -1 ∨ ¬ cX_ M r sg) → V 266 [rr 1, ii x1, ii sg, ii x3, ii nn, ii 2, ii r, none] [] M)
    (hb : M 1 8 ≠ 0 → r ≠ -1 → cX_ M r sg → V 266 [rr 1, ii x1, ii sg, ii x3, ii nn, ii 2, ii r, none] [] (nt1_ M 6 q)) : V 208 [rr 1, ii x1, ii sg, ii x3, ii nn, ii 2, ii r, ii q] [] M := by
  refine b_157_208 (Tr_mono _) hV hW _ _ _ _ _ _ _ _ ?_
  intro _
  by_cases c0 : M 1 8 = 0
  · rw [if_pos c0]; exact hg (.inl c0)
  · rw [if_neg c0]
    by_cases c1 : r = -1
    · rw [if_pos c1]; exact hg (.inr (.inl c1))
    · rw [if_neg c1, w32_id (by (clear h2 hq hf hV hW; lia)) (by (clear h2 hq hf hV hW; lia))]
      refine ⟨h2, by lia, ?_⟩
      by_cases c2 : M 114 (2 * r) = M 1 18
      · rw [if_pos c2]
        by_cases c3 : sg = -1
        · rw [if_pos c3]; exact hg (.inr (.inr fun e => by rcases e with e | e; exact e c2; exact e.1 c3))
        · rw [if_neg c3]
          refine ⟨h2, t_205b fun V hV hW => b_205b_0 (Tr_mono _) hV hW _ _ _ ⟨by (clear h2 hq hf hV hW; lia), ?_⟩⟩
          by_cases c4 : an_ (sr_ (M 119 r) sg) 1 = 0
          · rw [if_pos c4]
            refine ⟨.inl rfl, ri_i ?_⟩
            rw [if_pos rfl]
            exact x_116 hq.1 hq.2 hf.1 hf.2 (hb c0 c1 (.inr ⟨c3, c4⟩))
          · rw [if_neg c4]
            refine ⟨.inr rfl, ri_i ?_⟩
            rw [if_neg (by decide)]
            exact hg (.inr (.inr fun e => by rcases e with e | e; exact e c2; exact c4 e.2))
      · rw [if_neg c2]
        exact x_116 hq.1 hq.2 hf.1 hf.2 (hb c0 c1 (.inl c2))
/-- Q behind the route's name -/
theorem q_297v [Inhabited gh_] {x1 x2 sg k q r : Int} (hk : 0 ≤ k ∧ k < 1300) (hq : 0 ≤ q ∧ q < 1202) (hr : r = -1 ∨ (0 ≤ r ∧ r < 10)) (h61 : 0 ≤ M 6 61 ∧ M 6 61 < 6) (hs : -1 ≤ sg) (h16 : M 6 16 = b) (h01 : b = 0 ∨ b = 1) (hV : Cl_ wd0 (Tr_ wd0 pg0 (d + 3)) V (rv_ Kv) Qt m_297) (hW : Wk_ V)
    (h : Tr_ wd0 pg0 (d + 3) 244 [.inr (.inr 6), .inl 59] (up_ (Qn_ M b (if 0 ≤ r ∧ cQ_ M r sg then 6 else 0) (M 150 q)) 207 k r) (rv_ Kv) Qt) : V 203 [rr 6, ii x1, ii x2, ii sg, ii k, ii q, ii r] [] M := by
  refine b_297_203 (Tr_mono _) hV hW _ _ _ _ _ _ _ ?_
  intro _
  unfold Qn_ at h
  by_cases c0 : M 6 16 = 0
  · rw [if_pos c0]
    rw [if_pos (.inl (by (clear hk hq hr h61 hs h01 hV hW h; lia)))] at h
    exact ⟨hk, Tr_rv h⟩
  · rw [if_neg c0]
    have hb : b ≠ 0 := by (clear hk hq hr h61 hs h01 hV hW h; lia)
    by_cases c1 : r < 0
    · rw [if_pos c1]
      have e : (if 0 ≤ r ∧ cQ_ M r sg then (6 : Int) else 0) = 0 := if_neg (by (clear hk hq hr h61 hs h16 h01 hV hW h c0 hb; omega))
      rw [e, if_pos (.inr rfl)] at h
      exact ⟨hk, Tr_rv h⟩
    · rw [if_neg c1]
      refine ⟨by (clear hk hq h61 hs hV hW h; omega), h61, ?_⟩
      have bad : cQ_ M r sg → V 253 [rr 6, ii x1, ii x2, ii sg, ii k, ii q, ii r] [] M := fun c => by
        have e : (if 0 ≤ r ∧ cQ_ M r sg then (6 : Int) else 0) = 6 := if_pos ⟨by omega, c⟩
        rw [e, if_neg (by (clear hk hq hr h61 hs h16 h01 hV hW h c0 c1; lia))] at h
        exact b_297_253 (Tr_mono _) hV hW _ _ _ _ _ _ _ ⟨hq, q_236 ⟨hk, Tr_rv h⟩⟩
      have good : ¬ cQ_ M r sg → Tr_ wd0 pg0 (d + 3) 244 [.inr (.inr 6), .inl 59] (up_ M 207 k r) (rv_ fun M1 => rv_ Kv [] M1) Qt := fun c => by
        have e : (if 0 ≤ r ∧ cQ_ M r sg then (6 : Int) else 0) = 0 := if_neg (fun e => c e.2)
        rw [e, if_pos (.inr rfl)] at h
        exact Tr_rv h
      by_cases c2 : M 158 r = M 154 (M 6 61)
      · have e2 : (if M 158 r < M 154 (M 6 61) then (-1 : Int) else if M 158 r = M 154 (M 6 61) then 0 else 1) = 0 := by rw [if_neg (by omega), if_pos c2]
        rw [if_pos e2]
        by_cases c3 : sg < 0
        · rw [if_pos c3]
          exact ⟨hk, good (by unfold cQ_; omega)⟩
        · rw [if_neg c3]
          refine ⟨by (clear hk hq h61 hs hV hW h; lia), ?_⟩
          by_cases c4 : an_ (sr_ (M 164 r) sg) 1 = 0
          · rw [if_pos c4]; exact bad (.inr ⟨by omega, c4⟩)
          · rw [if_neg c4]; exact ⟨hk, good (fun e => by rcases e with e | e; exact e c2; exact c4 e.2)⟩
      · have e2 : (if M 158 r < M 154 (M 6 61) then (-1 : Int) else if M 158 r = M 154 (M 6 61) then 0 else 1) ≠ 0 := by
          rw [if_neg c2]; split <;> omega
        rw [if_neg e2]
        exact bad (.inl c2)
theorem l_157w [Inhabited gh_] {Mx3 Mq3 : mm_} {x1 sg x3 nn r q s9 z9 : Int} (hG : GT b F MX Mq (MX 71 a)) (hk0 : 0 ≤ Mq 6 75 ∧ Mq 6 75 < 1300) (hsg : sg = -1 ∨ (0 ≤ sg ∧ sg < Mq 6 17)) (hgX : gd_ MX q) (hpm : MX 71 a < MX 71 q) (hr : r = -1 ∨ (0 ≤ r ∧ r < Mq 6 18)) (O : OVM b F MX Mq Mx7 Mq7 a a7 o s z sg nn)
    (A3 : AM b F MX Mq Mx3 Mq3 a a1 o s9 z9) (hs9 : s9 ≤ 0) (hz9 : 2 ≤ z9) (ha9 : a + 2 ≤ a1) (hS : b = 1 → tS (MX 70) 259 a1 ≠ none)
    (q3r : ∀ r' : Nat, r' ≠ 6 → Mq3 r' = Mq7 r') (q36 : ∀ i : Int, i ≠ 12 → i ≠ 13 → i ≠ 14 → Mq3 6 i = Mq7 6 i) (x3r : Mx3 5 = Mx7 5 ∧ Mx3 142 = Mx7 142) (z13 : b = 1 → Mq3 6 13 = 0 → r ≠ -1 ∧ Mq7 6 13 = 0)
    (pre2 : ∀ (Kv : mm_ → Prop) (Qtq : qt_), (∀ V : vv_, Cl_ wd0 (Tr_ wd0 pg0 (dq + 13)) V (rv_ Kv) Qtq m_297 → Wk_ V → V 203 [rr 6, ii (MX 71 a), ii x1, ii sg, ii (Mq 6 75), ii q, ii r] [] Mq3) → Tr_ wd0 pg0 (dq + 15) 296 [.inr (.inr 6)] Mq (rv_ Kv) Qtq)
    (hK : ∀ Mx' Mq' a', Mq' 205 (Mq 6 75) = sg → AR b F MX Mq Mx' Mq' a a' o 2 sg → tS (MX 70) 259 a1 = some a' → (∀ (Kv : mm_ → Prop) (Qtq : qt_), Kv Mq' → Tr_ wd0 pg0 (dq + 15) 296 [.inr (.inr 6)] Mq (rv_ Kv) Qtq) → G Mx')
    (hQ : b = 0 → ∀ Mx', XA MX Mx' → (∀ (Kv : mm_ → Prop) (Qtq : qt_), (∀ M', SQ Mx' Mq M' → Kv M') → Tr_ wd0 pg0 (dq + 15) 296 [.inr (.inr 6)] Mq (rv_ Kv) Qtq) → Qt 8 Mx')
    (hV : Cl_ wd0 (Tr_ wd0 pg0 (d + 15)) V (rv_ fun M8 => Tr_ wd0 pg0 (d + 16) 121 [.inr (.inr 1), .inl 59] M8 (rv_ G) Qt) Qt m_157) (hW : Wk_ V) : V 208 [rr 1, ii x1, ii sg, ii x3, ii nn, ii 2, ii r, ii q] [] Mx3 := by
  obtain ⟨A, ⟨hs, hz, ha, hn0, hn3⟩, ⟨q75, q3, q4, q5, q6, q7, q10⟩, hv⟩ := O
  have h01 := (AM_E A).2.2.2.2.2.2.2.2.1
  have hTX : Tks MX Mq := A.1.1
  have h618 : Mq 6 18 ≤ 10 ∧ Mq 6 18 = MX 5 1 := ⟨by have := hG.2.2.1.1; (clear hG hk0 hsg hgX hpm hr A3 hs9 hz9 ha9 hS q3r q36 x3r z13 pre2 hK hQ hV hW A hs hz ha hn0 hn3 hv q75 q3 q4 q5 q6 q7 q10 h01 hTX; omega), hG.2.2.1.1.2.2⟩
  have h617 : Mq 6 17 ≤ 20 := by have := hG.1.1.1; (clear hG hk0 hsg hgX hpm hr A3 hs9 hz9 ha9 hS q3r q36 x3r z13 pre2 hK hQ hV hW A hs hz ha hn0 hn3 hv q75 q3 q4 q5 q6 q7 q10 h01 hTX h618; omega)
  have hq1 : 0 ≤ q ∧ q < 1202 := ⟨hgX.1, by have := hgX.2.1; omega⟩
  have hr10 : r = -1 ∨ (0 ≤ r ∧ r < 10) := by (clear hG hk0 hsg hgX hpm A3 hs9 hz9 ha9 q3r q36 x3r pre2 hK hV hW A hs hz ha hn0 hn3 q75 q3 q4 q5 q6 q7 q10 hTX h617 hq1; lia)
  have hsg1 : -1 ≤ sg := by (clear hG hk0 hgX hpm A3 hs9 hz9 ha9 q3r q36 x3r pre2 hK hV hW A hs hz ha hn0 hn3 q75 q3 q4 q5 q6 q7 q10 hTX h618 h617 hq1; lia)
  have hE3 := AM_E A3
  have hx3 := AM_X A3
  have hq3 := AM_Q A3
  have hV3 := AM_V A3
  have y18 : Mx3 1 18 = Mq 6 61 := by rw [hx3.2.1 18 (by decide)]; exact A.1.2.1.2.1.symm
  have y61 : Mq3 6 61 = Mq 6 61 := hq3.2 61 (by decide)
  have c61 : 0 ≤ Mq3 6 61 ∧ Mq3 6 61 < 6 := by rw [hV3.2.1]; exact ⟨hV3.2.2.1, hV3.2.2.2.1⟩
  have e150 : Mq3 150 q = MX 71 q := by rw [(QC_QA hq3).1 150 (by decide), (hTX q hgX).2.1]
  obtain ⟨k6, hk6⟩ : ∃ k6, k6 = if 0 ≤ r ∧ cQ_ Mq3 r sg then (6 : Int) else 0 := ⟨_, rfl⟩
  have hkc6 : k6 = 0 ∨ (3 ≤ k6 ∧ k6 ≤ 6) := by rw [hk6]; split <;> omega
  obtain ⟨A4, hz4⟩ := AM_m (k := k6) (tk := q) A3 hkc6 hgX (by omega)
  have pre3 : ∀ (Kv : mm_ → Prop) (Qtq : qt_), Tr_ wd0 pg0 (dq + 13) 244 [.inr (.inr 6), .inl 59] (up_ (Qn_ Mq3 b k6 (MX 71 q)) 207 (Mq 6 75) r) (rv_ Kv) Qtq → Tr_ wd0 pg0 (dq + 15) 296 [.inr (.inr 6)] Mq (rv_ Kv) Qtq := by
    intro Kv Qtq hq
    refine pre2 _ _ fun V hV hW => q_297v hk0 hq1 hr10 c61 hsg1 hE3.2.2.2.2.2.2.2.1 h01 hV hW ?_
    rw [e150, ← hk6]; exact hq
  -- the end, wherever X's notes are
  have fin : ∀ Mx4, AM b F MX Mq Mx4 (Qn_ Mq3 b k6 (MX 71 q)) a a1 o s9 (z9 - 1) → Mx4 5 = Mx7 5 → Mx4 142 = Mx7 142 → V 266 [rr 1, ii x1, ii sg, ii x3, ii nn, ii 2, ii r, none] [] Mx4 := by
    intro Mx4 A5 x5 x142
    have A6 := AM_up (r := 207) (v := r) A5 (by decide) (rfl : Mq 6 75 = Mq 6 75)
    have u : ∀ r' : Nat, r' ≠ 6 → r' ≠ 207 → up_ (Qn_ Mq3 b k6 (MX 71 q)) 207 (Mq 6 75) r r' = Mq7 r' := fun r' h6 h7 => by rw [up_ne h7, Qn_r h6]; exact q3r r' h6
    have u6 : ∀ i : Int, i ≠ 12 → i ≠ 13 → i ≠ 14 → up_ (Qn_ Mq3 b k6 (MX 71 q)) 207 (Mq 6 75) r 6 i = Mq7 6 i := fun i h1 h2 h3 => by rw [up_ne (by decide), Qn_6 h2 h3]; exact q36 i h1 h2 h3
    refine l_157e (MX := MX) (dq := dq) A6 (by omega) (by omega) ha9 ⟨hn0, hn3⟩ ?_ ?_ ?_ ?_ ?_ ?_ (fun hb h0 => ?_) hS pre3 hK hQ hV hW
    · rw [u6 75 (by decide) (by decide) (by decide)]; exact q75
    · rw [u 203 (by decide) (by decide)]; exact q3
    · rw [u 204 (by decide) (by decide)]; exact q4
    · rw [u 205 (by decide) (by decide)]; exact q5
    · rw [u 210 (by decide) (by decide)]; exact q10
    · rw [up_at]
    · have h4 : Qn_ Mq3 b k6 (MX 71 q) 6 13 = 0 := by rw [up_ne (by decide)] at h0; exact h0
      have k60 := hz4 hb h4
      have h3 : Mq3 6 13 = 0 := by unfold Qn_ at h4; rw [if_pos (.inr k60)] at h4; exact h4
      obtain ⟨hr0, h7⟩ := z13 hb h3
      obtain ⟨g1, g2, g3⟩ := hv hb h7
      refine ⟨?_, ?_, Mx7 5 3, ?_, .inr (.inr ⟨rfl, ?_, ?_, ?_, ?_⟩)⟩
      · rw [u6 17 (by decide) (by decide) (by decide)]; exact g1
      · rw [u 156 (by decide) (by decide)]; exact g2
      · exact VAL_c (fun i _ _ => by rw [u 227 (by decide) (by decide), u 228 (by decide) (by decide)]; exact ⟨rfl, rfl⟩) ⟨u _ (by decide) (by decide), u _ (by decide) (by decide), u _ (by decide) (by decide), u _ (by decide) (by decide), u _ (by decide) (by decide)⟩ (by rw [u6 104 (by decide) (by decide) (by decide)]; (clear hG hk0 hsg hgX hpm hr A3 hs9 hz9 ha9 hS q3r q36 x3r z13 pre2 hK hQ hV hW A hs hz ha hn0 hn3 hv q75 q3 q4 q5 q6 q7 q10 h01 hTX h618 h617 hq1 hr10 hsg1 hE3 hx3 hq3 hV3 y18 y61 c61 e150 hk6 hkc6 A4 hz4 pre3 A5 x5 x142 A6 u u6 hb h0 h4 k60 h3 hr0 h7 g1 g2 g3; lia)) (fun i => by rw [u 157 (by decide) (by decide)]) _ (by (clear hG hk0 hsg hgX hpm hr A3 hs9 hz9 ha9 hS q3r q36 x3r z13 pre2 hK hQ hV hW A hs hz ha hv q75 q3 q4 q5 q6 q7 h01 hTX h618 h617 hq1 hr10 hsg1 hE3 hx3 hq3 hV3 y18 y61 c61 e150 hk6 hkc6 A4 hz4 pre3 A5 x5 x142 A6 u u6 hb h0 h4 k60 h3 hr0 h7 g1 g3; lia)) (fun i _ _ => by rw [u 209 (by decide) (by decide)]) (fun i _ _ => by rw [x142]) g3
      · rw [x5]
      · rw [u 206 (by decide) (by decide)]; exact q6
      · rw [up_at]; (clear hG hk0 hsg hgX hpm hr A3 hs9 hz9 ha9 hS q3r q36 x3r z13 pre2 hK hQ hV hW A hs hz ha hn0 hn3 hv q75 q3 q4 q5 q6 q7 q10 h01 hTX h618 h617 hq1 hsg1 hE3 hx3 hq3 hV3 y18 y61 c61 e150 A4 pre3 A5 x5 x142 A6 u u6 h0 h3 h7 g2 g3; lia)
      · rw [up_at, u6 18 (by decide) (by decide) (by decide)]
        have : Mq7 6 18 = Mq 6 18 := (QC_QA (AM_Q A)).2 18 (by decide)
        (clear hG hk0 hsg hgX hpm A3 hs9 hz9 ha9 q3r q36 x3r pre2 hK hV hW A hs hz ha hn0 hn3 q75 q3 q4 q5 q6 q7 q10 hTX h617 hq1 hsg1 hE3 hx3 hq3 hV3 y18 y61 c61 e150 A4 pre3 A5 x5 x142 A6 u u6 h0 g2 g3; lia)
  have nk0 : k6 = 0 → Qn_ Mq3 b k6 (MX 71 q) = Mq3 := fun e => by unfold Qn_; rw [if_pos (.inr e)]
  have G3 := GT_a (XC_XA hx3) (QC_QA hq3) hG
  have y8 := hE3.2.2.2.2.2.2.1
  -- what X and Q hold of the route
  have rel : b = 1 → r ≠ -1 → (cX_ Mx3 r sg ↔ cQ_ Mq3 r sg) ∨ (F ≤ 8 * MX 71 a ∧ cX_ Mx3 r sg) := fun hb hr1 => by
    have hrb : 0 ≤ r ∧ r < Mx3 5 1 := by
      have : Mx3 5 1 = MX 5 1 := hx3.2.2 1 (by decide)
      (clear hG hk0 hsg hgX hpm A3 hs9 hz9 ha9 q3r q36 x3r pre2 hK hV hW A hs hz ha hn0 hn3 q75 q3 q4 q5 q6 q7 q10 hTX h617 hq1 hE3 hx3 hq3 hV3 y18 y61 c61 e150 A4 pre3 fin G3 y8; lia)
    have e119 : Mx3 119 r = Mq3 164 r := ((G3.2.2.2 hb).1 r hrb.1 hrb.2).2.1
    rcases side_e G3 hb hrb with e | e
    · left
      unfold cX_ cQ_
      rw [e119]
      have e18 : Mx3 1 18 = Mq3 6 61 := by (clear hG hk0 hsg hgX hpm hr A3 hs9 hz9 ha9 hS q3r q36 x3r z13 pre2 hK hQ hV hW A hs hz ha hn0 hn3 hv q75 q3 q4 q5 q6 q7 q10 h01 hTX h618 h617 hq1 hr10 hsg1 hE3 hx3 hq3 hV3 c61 e150 hk6 hkc6 A4 hz4 pre3 fin nk0 G3 y8 hb hr1 hrb e119 e; lia)
      rw [e18]
      constructor
      · rintro (h | h)
        · exact .inl fun g => h (e.mpr g)
        · exact .inr ⟨by (clear hG hk0 hsg hgX hpm hr A3 hs9 hz9 ha9 hS q3r q36 x3r z13 pre2 hK hQ hV hW A hs hz ha hn0 hn3 hv q75 q3 q4 q5 q6 q7 q10 h01 hTX h618 h617 hq1 hr10 hE3 hx3 hq3 hV3 y18 y61 c61 e150 hk6 hkc6 A4 hz4 pre3 fin nk0 G3 y8 hb hr1 hrb e119 e e18; lia), h.2⟩
      · rintro (h | h)
        · exact .inl fun g => h (e.mp g)
        · exact .inr ⟨by (clear hG hk0 hsg hgX hpm hr A3 hs9 hz9 ha9 hS q3r q36 x3r z13 pre2 hK hQ hV hW A hs hz ha hn0 hn3 hv q75 q3 q4 q5 q6 q7 q10 h01 hTX h618 h617 hq1 hr10 hsg1 hE3 hx3 hq3 hV3 y18 y61 c61 e150 hk6 hkc6 A4 hz4 pre3 fin nk0 G3 y8 hb hr1 hrb e119 e e18; omega), h.2⟩
    · right
      refine ⟨e.1, .inl fun g => e.2 (by (clear hG hk0 hsg hgX hpm hr A3 hs9 hz9 ha9 hS q3r q36 x3r z13 pre2 hK hQ hV hW A hs hz ha hn0 hn3 hv q75 q3 q4 q5 q6 q7 q10 h01 hTX h618 h617 hq1 hr10 hsg1 hE3 hx3 hq3 hV3 c61 e150 hk6 hkc6 A4 hz4 pre3 fin nk0 G3 y8 hb hr1 hrb e119 e; lia))⟩
  refine l_157v hV3.1 hr10 hq1 (ER_fl hE3) hV hW (fun hgd => ?_) (fun h8 hr1 hc => ?_)
  · -- X notes nothing
    have A5 : AM b F MX Mq Mx3 (Qn_ Mq3 b k6 (MX 71 q)) a a1 o s9 (z9 - 1) := by
      have e : Xn_ Mx3 b k6 q = Mx3 := by
        unfold Xn_
        rw [if_pos]
        rcases h01 with hb | hb
        · exact .inl hb
        · right
          by_cases hr1 : r = -1
          · rw [hk6, if_neg (by (clear hG hk0 hsg hgX hpm hr A3 hs9 hz9 ha9 hS q3r q36 x3r z13 pre2 hK hQ hV hW A hs hz ha hn0 hn3 hv q75 q3 q4 q5 q6 q7 q10 hTX h618 h617 hq1 hr10 hsg1 hE3 hx3 hq3 hV3 y18 y61 c61 e150 hk6 hkc6 A4 hz4 pre3 fin nk0 G3 y8 rel hgd hb; omega))]
          · have hnc : ¬ cX_ Mx3 r sg := by
              rcases hgd with g | g | g
              · (clear hG hk0 hsg hgX hpm hr A3 hs9 hz9 ha9 hS q3r q36 x3r z13 pre2 hK hQ hV hW A hs hz ha hn0 hn3 hv q75 q3 q4 q5 q6 q7 q10 hTX h618 h617 hq1 hr10 hsg1 hE3 hx3 hq3 hV3 y18 y61 c61 e150 hk6 hkc6 A4 hz4 pre3 fin nk0 G3 rel hr1; lia)
              · exact absurd g hr1
              · exact g
            rcases rel hb hr1 with e | e
            · rw [hk6, if_neg (fun g => hnc (e.mpr g.2))]
            · exact absurd e.2 hnc
      rw [e] at A4; exact A4
    exact fin _ A5 x3r.1 x3r.2
  · have hb : b = 1 := by (clear hG hk0 hsg hgX hpm hr A3 hs9 hz9 ha9 hS q3r q36 x3r z13 pre2 hK hQ hV hW A hs hz ha hn0 hn3 hv q75 q3 q4 q5 q6 q7 q10 hTX h618 h617 hq1 hE3 hx3 hq3 hV3 c61 e150 A4 pre3 fin G3; lia)
    have n5 : nt1_ Mx3 6 q 5 = Mx7 5 := by rw [nt1_r (by decide)]; exact x3r.1
    have n142 : nt1_ Mx3 6 q 142 = Mx7 142 := by rw [nt1_r (by decide)]; exact x3r.2
    by_cases cq : cQ_ Mq3 r sg
    · have e6 : k6 = 6 := by rw [hk6, if_pos ⟨by (clear hG hk0 hsg hgX hpm hr A3 hs9 hz9 ha9 hS q3r q36 x3r z13 pre2 hK hQ hV hW A hs hz ha hn0 hn3 hv q75 q3 q4 q5 q6 q7 q10 h01 hTX h618 h617 hq1 hE3 hx3 hq3 hV3 c61 e150 A4 pre3 fin G3 n5 n142; lia), cq⟩]
      have e : Xn_ Mx3 b k6 q = nt1_ Mx3 6 q := by unfold Xn_; rw [if_neg (by (clear hG hk0 hsg hgX hpm hr A3 hs9 hz9 ha9 hS q3r q36 x3r z13 pre2 hK hQ hV hW A hs hz ha hn0 hn3 hv q75 q3 q4 q5 q6 q7 q10 h01 hTX h618 h617 hq1 hr10 hsg1 hE3 hx3 hq3 hV3 y18 y61 c61 e150 hkc6 A4 hz4 pre3 fin nk0 G3 y8 rel h8 hr1 hc n5 n142 cq; lia)), e6]
      rw [e] at A4
      exact fin _ A4 n5 n142
    · have e6 : k6 = 0 := by rw [hk6, if_neg (fun g => cq g.2)]
      have hF : F ≤ 8 * MX 71 a := by
        rcases rel hb hr1 with e | e
        · exact absurd (e.mp hc) cq
        · exact e.1
      have A5 := AM_mx (k := 6) (tk := q) A3 hb (by (clear hG hk0 hsg hgX hpm hr A3 hs9 hz9 ha9 hS q3r q36 x3r z13 pre2 hK hQ hV hW A hs hz ha hn0 hn3 hv q75 q3 q4 q5 q6 q7 q10 h01 hTX h618 h617 hq1 hr10 hsg1 hE3 hx3 hq3 hV3 y18 y61 c61 e150 hk6 hkc6 A4 hz4 pre3 fin nk0 G3 y8 rel h8 hr1 hc hb n5 n142 cq e6 hF; lia)) hgX (by omega) (by (clear hG hk0 hsg hgX hr A3 hs9 hz9 ha9 hS q3r q36 x3r z13 pre2 hK hQ hV hW A hs hz ha hn0 hn3 hv q75 q3 q5 q6 q7 q10 h01 hTX h618 h617 hq1 hr10 hsg1 hE3 hx3 hq3 hV3 y18 y61 c61 hk6 hkc6 A4 hz4 pre3 fin nk0 G3 y8 rel h8 hr1 hc hb n5 n142 cq e6; lia))
      rw [← nk0 e6] at A5
      refine fin _ ?_ n5 n142
      obtain ⟨g1, g2, g3, g4, g5, g6, g7, g8, g9, g10, g11, g12, g13⟩ := A5
      exact ⟨g1, g2, g3, g4, g5, g6, g7, g8, g9, g10, g11, ⟨by (clear hG hk0 hsg hgX hpm hr A3 hs9 hz9 ha9 hS q3r q36 x3r z13 pre2 hK hQ hV hW A hs hz ha hn0 hn3 hv q75 q3 q4 q5 q6 q7 q10 h01 hTX h618 h617 hq1 hr10 hsg1 hE3 hx3 hq3 hV3 y18 y61 c61 e150 hk6 hkc6 A4 hz4 pre3 fin nk0 G3 y8 rel h8 hr1 hc hb n5 n142 cq e6 hF g1 g2 g3 g4 g5 g6 g7 g8 g9 g10 g11 g13; lia), g12.2⟩, g13⟩
theorem l_157m2 [Inhabited gh_] {x1 sg x3 nn : Int} (hG : GT b F MX Mq (MX 71 a)) (hk0 : 0 ≤ Mq 6 75 ∧ Mq 6 75 < 1300) (hsg : sg = -1 ∨ (0 ≤ sg ∧ sg < Mq 6 17)) (O : OVM b F MX Mq Mx7 Mq7 a a7 o s z sg nn) (k2 : MX 70 a7 = 22) (hS : b = 1 → ovS (MX 70) o a7 ≠ none)
    (pre : ∀ (Kv : mm_ → Prop) (Qtq : qt_), (∀ V : vv_, Cl_ wd0 (Tr_ wd0 pg0 (dq + 13)) V (rv_ Kv) Qtq m_297 → Wk_ V → V 115 [rr 6, ii (MX 71 a), ii x1, ii sg, ii (Mq 6 75), none, none] [] Mq7) → Tr_ wd0 pg0 (dq + 15) 296 [.inr (.inr 6)] Mq (rv_ Kv) Qtq)
    (hK : ∀ Mx' Mq' a', Mq' 205 (Mq 6 75) = sg → AR b F MX Mq Mx' Mq' a a' o 2 sg → ovS (MX 70) o a7 = some a' → (∀ (Kv : mm_ → Prop) (Qtq : qt_), Kv Mq' → Tr_ wd0 pg0 (dq + 15) 296 [.inr (.inr 6)] Mq (rv_ Kv) Qtq) → G Mx')
    (hQ : b = 0 → ∀ Mx', XA MX Mx' → (∀ (Kv : mm_ → Prop) (Qtq : qt_), (∀ M', SQ Mx' Mq M' → Kv M') → Tr_ wd0 pg0 (dq + 15) 296 [.inr (.inr 6)] Mq (rv_ Kv) Qtq) → Qt 8 Mx')
    (hV : Cl_ wd0 (Tr_ wd0 pg0 (d + 15)) V (rv_ fun M8 => Tr_ wd0 pg0 (d + 16) 121 [.inr (.inr 1), .inl 59] M8 (rv_ G) Qt) Qt m_157) (hW : Wk_ V) : V 143 [rr 1, ii x1, ii sg, ii x3, ii nn, ii 2, none, none] [] Mx7 := by
  obtain ⟨A, ⟨hs, hz, ha, hn0, hn3⟩, ⟨q75, q3, q4, q5, q6, q7, q10⟩, hv⟩ := O
  have hE := AM_E A
  have hT := AM_T A
  have e70 := AM_70 A
  have e71 := AM_71 A
  have h01 := hE.2.2.2.2.2.2.2.2.1
  have k2' : Mx7 70 a7 = 22 := by rw [e70]; exact k2
  have eS : ovS (MX 70) o a7 = ((gS a7).bind (tS (MX 70) 100)).bind (tS (MX 70) 259) := by unfold ovS; rw [if_neg (by (clear hG hk0 hsg hS pre hK hQ hV hW A hs hz ha hn0 hn3 hv q75 q3 q4 q5 q6 q7 q10 hE hT e70 e71 h01 k2'; lia)), if_pos k2]
  rw [eS] at hS hK
  have preA : ∀ (MQ : mm_), ((a7 < 1200 ∧ MQ = nx_ Mq7) ∨ (b = 0 ∧ a7 = 1200 ∧ MQ = bf_ Mq7 2 (Mx7 71 a7))) → ∀ (Kv : mm_ → Prop) (Qtq : qt_), (∀ V : vv_, Cl_ wd0 (Tr_ wd0 pg0 (dq + 13)) V (rv_ Kv) Qtq m_297 → Wk_ V → Tr_ wd0 pg0 (dq + 13) 233 [.inr (.inr 6)] MQ (ri_ fun v3 M4 => Tr_ wd0 pg0 (dq + 13) 227 [.inr (.inr 6)] M4 (ri_ fun v4 M5 =>
       (if v4 = 0 then
        (0 ≤ v3 ∧ v3 < 1202) ∧
         Tr_ wd0 pg0 (dq + 13) 300 [.inr (.inr 6), .inr (.inl (M5 151 v3))] M5 (ri_ fun v5 M6 =>
         (bl_ (M6 6 16) → (if M6 6 16 = 0 then
          V 203 [rr 6, ii (MX 71 a), ii x1, ii sg, ii (Mq 6 75), ii v3, ii v5] [] M6
         else
          (if v5 < 0 then
           (0 ≤ v3 ∧ v3 < 1202) ∧
            Tr_ wd0 pg0 (dq + 13) 236 [.inr (.inr 6), .inl 4, .inl (M6 150 v3)] M6 (rv_ fun M7 =>
            V 203 [rr 6, ii (MX 71 a), ii x1, ii sg, ii (Mq 6 75), ii v3, ii v5] [] M7) Qtq
          else
           V 203 [rr 6, ii (MX 71 a), ii x1, ii sg, ii (Mq 6 75), ii v3, ii v5] [] M6)))) Qtq
       else
        rv_ Kv [] M5)) Qtq) Qtq) → Tr_ wd0 pg0 (dq + 15) 296 [.inr (.inr 6)] Mq (rv_ Kv) Qtq := by
    intro MQ hMQ Kv Qtq hq
    refine pre _ _ fun V hV hW => b_297_115 (Tr_mono _) hV hW _ _ _ _ _ (j_228f hT hE (by decide) (by (clear hG hk0 hsg k2 hS pre hK hQ A hs hz ha hn0 hn3 hv q75 q3 q4 q5 q6 q7 q10 hE hT e70 e71 h01 eS hMQ hq hV hW; lia)) ?_)
    rw [if_pos rfl]
    rcases hMQ with ⟨h12, e⟩ | ⟨hb, h12, e⟩
    · refine j_228t hT hE (by decide) k2' h12 ?_
      rw [if_neg (by decide), ← e]; exact hq V hV hW
    · refine j_228r hT hE hb (by decide) k2' h12 ?_
      rw [if_neg (by decide), ← e]; exact hq V hV hW
  refine b_157_143 (Tr_mono _) hV hW _ _ _ _ _ _ ?_
  rw [if_neg (by decide), if_pos rfl]
  refine y_105 hE (by (clear hG hk0 hsg k2 hS pre hK hQ hV hW A hs hz ha hn0 hn3 hv q75 q3 q4 q5 q6 q7 q10 hE hT e70 e71 h01 eS preA; lia)) (fun hb => by intro e; rw [e] at hS; exact hS hb rfl) (fun h12 hE1 => ?_) (fun hb h12 => ?_)
  rotate_left
  · have hsp := SQ_bf hE hb (k := 2) (by decide) (QC_QA (AM_Q A))
    refine hQ hb _ (XA_tr (XC_XA (AM_X A)) (XF_XA fl_XF)) fun Kv Qtq hk9 => preA _ (.inr ⟨hb, h12, rfl⟩) _ _ fun V hV hW => q_233s hsp.1 (q_227s hsp.1 ?_)
    rw [if_neg (by decide)]
    exact rv_i (hk9 _ hsp)
  have A1 := AM_go A hE1
  have hT1 := AM_T A1
  have f70 := AM_70 A1
  have f71 := AM_71 A1
  rw [gS_e h12, Option.bind_some] at hS hK
  refine y_107 hE1 (fun hb => by rw [f70]; intro e; rw [e] at hS; exact hS hb rfl) (fun k1 h13 hE2 => ?_) (fun hb k1 h13 => ?_) (fun hb k1 => ?_)
  rotate_left
  · have hsp := SQ_bf hE1 hb (k := 2) (by decide) (QC_QA (AM_Q A1))
    refine hQ hb _ (XA_tr (XC_XA (AM_X A1)) (XF_XA fl_XF)) fun Kv Qtq hk9 => preA _ (.inl ⟨h12, rfl⟩) _ _ fun V hV hW => j_233r hT1 hE1 hb k1 h13 (q_227s hsp.1 ?_)
    rw [if_neg (by decide)]
    exact rv_i (hk9 _ hsp)
  · have hsp := SQ_bf hE1 hb (k := 1) (by decide) (QC_QA (AM_Q A1))
    refine hQ hb _ (XA_tr (XC_XA (AM_X A1)) (XF_XA fl_XF)) fun Kv Qtq hk9 => preA _ (.inl ⟨h12, rfl⟩) _ _ fun V hV hW => j_233w hT1 hE1 hb k1 (q_227s hsp.1 ?_)
    rw [if_neg (by decide)]
    exact rv_i (hk9 _ hsp)
  have A2 := AM_go A1 hE2
  have hT2 := AM_T A2
  have hV2' := AM_V A2
  have k1' : MX 70 (a7 + 1) = 100 := by rw [← f70]; exact k1
  have hgX : gd_ MX (a7 + 1) := gd_c f70.symm hE1.1
  have hnm : nm9_ (nX_ (nX_ Mx7)) (a7 + 1) := ⟨gd_c (AM_70 A2) hgX, by rw [AM_70 A2]; exact k1'⟩
  rw [tS_e k1' h13, Option.bind_some] at hS hK
  have G2 := GT_a (XC_XA (AM_X A2)) (QC_QA (AM_Q A2)) hG
  refine x_114R hT2 hV2' G2.2.2.1 hnm ?_
  have q151 : nx_ (nx_ Mq7) 151 = Mq 151 := (QC_QA (AM_Q A2)).1 151 (by decide)
  have hTX : Tks MX Mq := A.1.1
  have q150 : nx_ (nx_ Mq7) 150 (a7 + 1) = MX 71 (a7 + 1) := by rw [(QC_QA (AM_Q A2)).1 150 (by decide), (hTX (a7 + 1) hgX).2.1]
  rw [rtl_a (QC_QA (AM_Q A2)), q151]
  have hr := rtl_r (Mx := MX) (Mq := Mq) A.1.2.1 hG.2.2.1 (v := Mq 151 (a7 + 1))
  have h618 : Mq 6 18 ≤ 10 ∧ Mq 6 18 = MX 5 1 := ⟨by have := hG.2.2.1.1; (clear hG hk0 hsg k2 hS pre hK hQ hV hW A hs hz ha hn0 hn3 hv q75 q3 q4 q5 q6 q7 q10 hE hT e70 e71 h01 k2' eS preA h12 hE1 A1 hT1 f70 f71 k1 h13 hE2 A2 hT2 hV2' k1' hgX hnm G2 q151 hTX q150 hr; lia), hG.2.2.1.1.2.2⟩
  have h617 : Mq 6 17 ≤ 20 := by have := hG.1.1.1; omega
  generalize hrr : rtl Mq (Mq 151 (a7 + 1)) = r at *
  obtain ⟨kk, hkk⟩ : ∃ kk, kk = if r = -1 then (4 : Int) else 0 := ⟨_, rfl⟩
  have hkc : kk = 0 ∨ (3 ≤ kk ∧ kk ≤ 6) := by rw [hkk]; split <;> (clear hG hk0 hsg k2 hS pre hK hQ hV hW A hs hz ha hn0 hn3 hv q75 q3 q4 q5 q6 q7 q10 hE hT e70 e71 h01 k2' eS preA h12 hE1 A1 hT1 f70 f71 k1 h13 hE2 A2 hT2 hV2' k1' hgX hnm G2 q151 hTX q150 h618 h617 hrr hr hkk; lia)
  have hq1 : 0 ≤ a7 + 1 ∧ a7 + 1 < 1202 := ⟨hgX.1, by have := hgX.2.1; (clear hG hk0 hsg k2 hS pre hK hQ hV hW A hs hz ha hn0 hn3 hv q75 q3 q4 q5 q6 q7 q10 hE hT e70 e71 h01 k2' eS preA h12 hE1 A1 hT1 f70 f71 k1 hE2 A2 hT2 hV2' k1' hgX hnm G2 q151 hTX q150 h618 h617 hrr hr hkk hkc this; omega)⟩
  have hr4 : r = -1 ∨ 0 ≤ r := by (clear hG hk0 hsg k2 hS pre hK hQ hV hW A hs hz ha hn0 hn3 hv q75 q3 q4 q5 q6 q7 q10 hE hT e70 e71 h01 k2' eS preA h12 hE1 A1 hT1 f70 f71 k1 h13 hE2 A2 hT2 hV2' k1' hgX hnm G2 q151 hTX q150 h618 h617 hrr hq1; lia)
  obtain ⟨A3, hz3⟩ := AM_m (k := kk) (tk := a7 + 1) A2 hkc hgX (by omega)
  refine y_n4 (A := fun M => V 208 [rr 1, ii x1, ii sg, ii x3, ii nn, ii 2, ii r, ii (a7 + 1)] [] M) hE2 hq1 hkk ?_
  have pre2 : ∀ (Kv : mm_ → Prop) (Qtq : qt_), (∀ V : vv_, Cl_ wd0 (Tr_ wd0 pg0 (dq + 13)) V (rv_ Kv) Qtq m_297 → Wk_ V → V 203 [rr 6, ii (MX 71 a), ii x1, ii sg, ii (Mq 6 75), ii (a7 + 1), ii r] [] (Qn_ (nx_ (nx_ Mq7)) b kk (MX 71 (a7 + 1)))) → Tr_ wd0 pg0 (dq + 15) 296 [.inr (.inr 6)] Mq (rv_ Kv) Qtq := by
    intro Kv Qtq hq
    refine preA _ (.inl ⟨h12, rfl⟩) _ _ fun V hV hW => j_233t hT1 hE1 k1 h13 (q_227g (ER_goq hE2) ?_)
    rw [if_pos rfl]
    refine ⟨hq1, q_300R hV2' G2.2.2.1 ?_⟩
    rw [rtl_a (QC_QA (AM_Q A2)), q151, hrr]
    intro _
    have := hq V hV hW
    rw [← q_n4 (M := nx_ (nx_ Mq7)) (r := r) (k := 4) hE2.2.2.2.2.2.2.2.1 h01 hr4 hkk (by decide)] at this
    by_cases c : r < 0
    · rw [if_pos c] at this
      rw [if_pos c]
      by_cases c0 : nx_ (nx_ Mq7) 6 16 = 0
      · rw [if_pos c0]
        have e : nt_ (nx_ (nx_ Mq7)) 4 (MX 71 (a7 + 1)) = nx_ (nx_ Mq7) := by unfold nt_; rw [if_pos (by omega)]
        rw [e] at this; exact this
      · rw [if_neg c0]
        refine ⟨hq1, q_236 ?_⟩
        rw [q150]; exact this
    · rw [if_neg c] at this
      rw [if_neg c]
      split <;> exact this
  have q3r : ∀ r' : Nat, r' ≠ 6 → Qn_ (nx_ (nx_ Mq7)) b kk (MX 71 (a7 + 1)) r' = Mq7 r' := fun r' h => by rw [Qn_r h, nx_ne h, nx_ne h]
  have q36 : ∀ i : Int, i ≠ 12 → i ≠ 13 → i ≠ 14 → Qn_ (nx_ (nx_ Mq7)) b kk (MX 71 (a7 + 1)) 6 i = Mq7 6 i := fun i h1 h2 h3 => by rw [Qn_6 h2 h3, nx_6 h1, nx_6 h1]
  have x3r : Xn_ (nX_ (nX_ Mx7)) b kk (a7 + 1) 5 = Mx7 5 ∧ Xn_ (nX_ (nX_ Mx7)) b kk (a7 + 1) 142 = Mx7 142 := by rw [Xn_r (by decide), Xn_r (by decide), nX_ne (by decide), nX_ne (by decide), nX_ne (by decide), nX_ne (by decide)]; exact ⟨rfl, rfl⟩
  have z13 : b = 1 → Qn_ (nx_ (nx_ Mq7)) b kk (MX 71 (a7 + 1)) 6 13 = 0 → r ≠ -1 ∧ Mq7 6 13 = 0 := fun hb h0 => by
    have hk0 := hz3 hb h0
    refine ⟨fun e => by rw [if_pos e] at hkk; (clear hG hsg k2 hS pre hK hQ hV hW A hs hz ha hn0 hn3 hv q75 q3 q4 q5 q6 q7 q10 hE hT e70 e71 h01 k2' eS preA h12 hE1 A1 hT1 f70 f71 k1 h13 hE2 A2 hT2 hV2' k1' hgX hnm G2 q151 hTX q150 h618 h617 hrr hr hkc hq1 hr4 A3 hz3 pre2 q3r q36 x3r hb h0 e; lia), ?_⟩
    unfold Qn_ at h0
    rw [if_pos (.inr hk0), nx_6 (by decide), nx_6 (by decide)] at h0; exact h0
  exact l_157w hG hk0 hsg hgX ((hTX (a7 + 1) hgX).2.2.2.2.1 a (A.1.2.2.1).1 (by omega)) hr ⟨A, ⟨hs, hz, ha, hn0, hn3⟩, ⟨q75, q3, q4, q5, q6, q7, q10⟩, hv⟩ A3 (by omega) (by omega) (by omega) hS q3r q36 x3r z13 pre2 hK hQ hV hW
end OW
end T122_ou
section T123_ou
/-! output whole -/
section OX
variable {d dq n : Nat} {b F : Int} {Mx Mq MX MQ Mx1 Mq1 Mx2 Mq2 M : mm_} {a a1 o o1 s z p : Int} {K : Int → mm_ → Prop} {Kv G : mm_ → Prop} {Qt : qt_} {V : vv_} {dec : Int → Option Int}
theorem ou_syn [Inhabited gh_] (hk : Mx 70 a = 14) : acS (Mx 70) dec o a = (gS a).bind fun a1 => (tS (Mx 70) 100 a1).bind fun a2 => (vS (Mx 70) o a2).bind (ovS (Mx 70) o) := by
  unfold acS ouS
  rw [if_neg (by omega), if_pos hk]
  cases gS a with
  | none => rfl
  | some a1 =>
    simp only [Option.bind_some]
    cases tS (Mx 70) 100 a1 with
    | none => rfl
    | some a2 =>
      simp only [Option.bind_some]
      generalize vS (Mx 70) o a2 = v
      cases v with
      | none => rfl
      | some a3 => rfl
set_option maxHeartbeats 4000000 in
theorem y_143o [Inhabited gh_] (hn : n ≤ 12) (ho : o = 12 - (n : Int)) (h : TA b F Mx Mq a o) (hG : GT b F Mx Mq (Mx 71 a)) (hk : Mx 70 a = 14) (hS : b = 1 → acS (Mx 70) dec o a ≠ none)
    (hK : ∀ MX Mx' Mq' a', SM Mx MX 2 (Mq' 205 (Mq 6 75)) → AR b F MX Mq Mx' Mq' a a' o 2 (Mq' 205 (Mq 6 75)) → acS (Mx 70) dec o a = some a' → (∀ (Kv : mm_ → Prop) (Qtq : qt_), Kv Mq' → Tr_ wd0 pg0 (dq + 15) 296 [.inr (.inr 6)] Mq (rv_ Kv) Qtq) → K 0 Mx')
    (hQ : b = 0 → ∀ Mx', XA Mx Mx' → (∀ (Kv : mm_ → Prop) (Qtq : qt_), (∀ M', SQ Mx' Mq M' → Kv M') → Tr_ wd0 pg0 (dq + 15) 296 [.inr (.inr 6)] Mq (rv_ Kv) Qtq) → Qt 8 Mx') :
    Tr_ wd0 pg0 (9 * n + 17) 143 [.inr (.inr 1)] Mx (ri_ K) Qt := by
  rw [ou_syn hk] at hS hK
  have A0 := AM_rf h
  have hE := AM_E A0
  have hT := AM_T A0
  have h01 := hE.2.2.2.2.2.2.2.2.1
  have h75 := h.2.2.2.1
  have hae := ER_a hE
  refine t_143 fun V hV hW => b_143_0 (Tr_mono _) hV hW Mx ?_
  refine y_103 hE (fun e => by omega) (fun _ => ?_)
  rw [if_pos rfl]
  refine y_103 hE (fun _ => ?_) (fun e => absurd hk e)
  rw [if_neg (by decide)]
  refine t_157 fun V2 hV2 hW2 => b_157_0 (Tr_mono _) hV2 hW2 Mx ?_
  refine y_105 hE (by omega) (fun hb => by intro e; rw [e] at hS; exact hS hb rfl) (fun h12 hE1 => ?_) (fun hb h12 => ?_)
  rotate_left
  · refine hQ hb _ (XF_XA fl_XF) fun Kv Qtq hk9 => Tr_297 hT hE hk (.inr ⟨hb, h12, rfl⟩) ?_
    have hsp := SQ_bf hE hb (k := 2) (by decide) QA_rf
    refine t_297 fun V hV hW => b_297_0 (Tr_mono _) hV hW _ _ ?_
    refine q_233s hsp.1 (q_227s hsp.1 ?_)
    rw [if_neg (by decide)]
    exact rv_i (hk9 _ hsp)
  have A1 := AM_go A0 hE1
  have hT1 := AM_T A1
  have e70 := AM_70 A1
  have e71 := AM_71 A1
  rw [gS_e h12, Option.bind_some] at hS
  have pre1 : ∀ (Kv : mm_ → Prop) (Qtq : qt_), Tr_ wd0 pg0 (dq + 14) 297 [.inr (.inr 6), .inl (Mx 71 a)] (nx_ Mq) (rv_ Kv) Qtq → Tr_ wd0 pg0 (dq + 15) 296 [.inr (.inr 6)] Mq (rv_ Kv) Qtq := fun Kv Qtq hq => Tr_297 (d := dq + 11) hT hE hk (.inl ⟨h12, rfl⟩) hq
  refine y_107 hE1 (fun hb => by rw [e70]; intro e; rw [e] at hS; exact hS hb rfl) (fun k1 h13 hE2 => ?_) (fun hb k1 h13 => ?_) (fun hb k1 => ?_)
  rotate_left
  · refine hQ hb _ (XA_tr (XC_XA (AM_X A1)) (XF_XA fl_XF)) fun Kv Qtq hk9 => pre1 _ _ ?_
    have hsp := SQ_bf hE1 hb (k := 2) (by decide) (QC_QA (AM_Q A1))
    refine t_297 fun V hV hW => b_297_0 (Tr_mono _) hV hW _ _ ?_
    refine j_233r hT1 hE1 hb k1 h13 (q_227s hsp.1 ?_)
    rw [if_neg (by decide)]
    exact rv_i (hk9 _ hsp)
  · refine hQ hb _ (XA_tr (XC_XA (AM_X A1)) (XF_XA fl_XF)) fun Kv Qtq hk9 => pre1 _ _ ?_
    have hsp := SQ_bf hE1 hb (k := 1) (by decide) (QC_QA (AM_Q A1))
    refine t_297 fun V hV hW => b_297_0 (Tr_mono _) hV hW _ _ ?_
    refine j_233w hT1 hE1 hb k1 (q_227s hsp.1 ?_)
    rw [if_neg (by decide)]
    exact rv_i (hk9 _ hsp)
  have A2 := AM_go A1 hE2
  have hT2 := AM_T A2
  have hV2' := AM_V A2
  have k1' : Mx 70 (a + 1) = 100 := by rw [← e70]; exact k1
  have hg1 : gd_ Mx (a + 1) := gd_c e70.symm hE1.1
  have hnm : nm9_ (nX_ (nX_ Mx)) (a + 1) := ⟨gd_c (AM_70 A2) hg1, by rw [AM_70 A2]; exact k1'⟩
  rw [tS_e k1' h13, Option.bind_some] at hS
  have hx2 := XC_XA (AM_X A2)
  have hq2 := QC_QA (AM_Q A2)
  have G2 := GT_a hx2 hq2 hG
  refine x_112R hT2 hV2' G2.1.1 hnm ?_
  have q151 : nx_ (nx_ Mq) 151 = Mq 151 := by rw [nx_ne (by decide), nx_ne (by decide)]
  have q150 : nx_ (nx_ Mq) 150 (a + 1) = Mx 71 (a + 1) := by rw [nx_ne (by decide), nx_ne (by decide), (hT (a + 1) hg1).2.1]
  rw [sgl_a hq2, q151]
  have hr := sgl_r (Mx := Mx) (Mq := Mq) h.2.1 hG.1.1 (v := Mq 151 (a + 1))
  have h617 : Mq 6 17 ≤ 20 ∧ Mq 6 17 = Mx 5 0 := ⟨by have := hG.1.1.1; (clear hn ho h hG hk hS hK hQ A0 hE hT h01 h75 hae hV hW hV2 hW2 h12 hE1 A1 hT1 e70 e71 pre1 k1 h13 hE2 A2 hT2 hV2' k1' hg1 hnm hx2 hq2 G2 q151 q150 hr; omega), hG.1.1.1.2.2⟩
  generalize hrr : sgl Mq (Mq 151 (a + 1)) = r at *
  obtain ⟨kk, hkk⟩ : ∃ kk, kk = if r = -1 then (4 : Int) else 0 := ⟨_, rfl⟩
  have hkc : kk = 0 ∨ (3 ≤ kk ∧ kk ≤ 6) := by rw [hkk]; split <;> omega
  obtain ⟨A3, hz3⟩ := AM_m (k := kk) (tk := a + 1) A2 hkc hg1 (by omega)
  refine y_n4 (A := fun M => V2 33 [rr 1, ii (a + 1), ii r, none, none, none, none, none] [] M) hE2 (by (clear hn ho h hG hk hS hK hQ A0 hE hT h01 h75 hV hW hV2 hW2 hE1 A1 hT1 e70 e71 pre1 k1 hE2 A2 hT2 hV2' k1' hg1 hnm hx2 hq2 G2 q151 q150 h617 hrr hr hkk hkc A3 hz3; omega)) hkk ?_
  -- Q up to the op
  have pre2 : ∀ (Kv : mm_ → Prop) (Qtq : qt_), (∀ V : vv_, Cl_ wd0 (Tr_ wd0 pg0 (dq + 13)) V (rv_ Kv) Qtq m_297 → Wk_ V → V 46 [rr 6, ii (Mx 71 a), ii (a + 1), ii r, none, none, none] [] (Qn_ (nx_ (nx_ Mq)) b kk (Mx 71 (a + 1)))) → Tr_ wd0 pg0 (dq + 15) 296 [.inr (.inr 6)] Mq (rv_ Kv) Qtq := by
    intro Kv Qtq hq
    refine pre1 _ _ (t_297 fun V hV hW => b_297_0 (Tr_mono _) hV hW _ _ ?_)
    refine j_233t hT1 hE1 k1 h13 (q_227g (ER_goq hE2) ?_)
    rw [if_pos rfl]
    refine ⟨by omega, q_251R hV2' G2.1.1 ?_⟩
    rw [sgl_a hq2, q151, hrr]
    intro _
    have := hq V hV hW
    rw [← q_n4 (M := nx_ (nx_ Mq)) (r := r) (k := 4) hE2.2.2.2.2.2.2.2.1 h01 (by (clear hn ho h hG hk hS hK hQ A0 hE hT h01 h75 hae hV2 hW2 h12 hE1 A1 hT1 e70 e71 pre1 k1 h13 hE2 A2 hT2 hV2' k1' hg1 hnm hx2 hq2 G2 q151 q150 h617 hrr A3 hq hV hW this; lia)) hkk (by decide)] at this
    have h16 : nx_ (nx_ Mq) 6 16 = b := hE2.2.2.2.2.2.2.2.1
    by_cases c : r < 0
    · rw [if_pos c] at this
      rw [if_pos c]
      by_cases c0 : nx_ (nx_ Mq) 6 16 = 0
      · rw [if_pos c0]
        have e : nt_ (nx_ (nx_ Mq)) 4 (Mx 71 (a + 1)) = nx_ (nx_ Mq) := by unfold nt_; rw [if_pos (by omega)]
        rw [e] at this; exact this
      · rw [if_neg c0]
        refine ⟨by omega, q_236 ?_⟩
        rw [q150]; exact this
    · rw [if_neg c] at this
      rw [if_neg c]
      split <;> exact this
  generalize hX3 : Xn_ (nX_ (nX_ Mx)) b kk (a + 1) = Mx3 at *
  generalize hQ3 : Qn_ (nx_ (nx_ Mq)) b kk (Mx 71 (a + 1)) = Mq3 at *
  have hE3 := AM_E A3
  have hx3 := AM_X A3
  have hq3 := AM_Q A3
  have q75 : Mq3 6 75 = Mq 6 75 := by rw [← hQ3, Qn_6 (by decide) (by decide), nx_6 (by decide), nx_6 (by decide)]
  have e53 : Mx3 5 3 = Mx 5 3 := by rw [← hX3, Xn_r (by decide), nX_ne (by decide), nX_ne (by decide)]
  have q3r : ∀ r' : Nat, r' ∉ qaL → Mq3 r' = Mq r' := fun r' hr' => QA_r (QC_QA hq3) hr'
  have q36 : ∀ i : Int, i ∉ qaI → Mq3 6 i = Mq 6 i := fun i hi => (QC_QA hq3).2 i hi
  -- where made changes
  obtain ⟨MX, hMX⟩ : ∃ MX, MX = if r = -1 then Mx else up_ Mx 1 21 (or_ (Mx 1 21) (sl_ 1 r)) := ⟨_, rfl⟩
  obtain ⟨Mx4, hM4⟩ : ∃ Mx4, Mx4 = if r = -1 then Mx3 else up_ Mx3 1 21 (or_ (Mx3 1 21) (sl_ 1 r)) := ⟨_, rfl⟩
  have hSM : SM Mx MX 2 r := by
    rw [hMX]
    by_cases c : r = -1
    · rw [if_pos c]; exact .inl ⟨rfl, .inr c⟩
    · rw [if_neg c]; exact .inr (.inl ⟨rfl, by (clear hn ho h hG hk hS hK hQ A0 hE hT h01 h75 hae hV hW hV2 hW2 h12 hE1 A1 hT1 e70 e71 pre1 k1 h13 hE2 A2 hT2 hV2' k1' hg1 hnm hx2 hq2 G2 q151 q150 hrr hX3 hQ3 pre2 A3 hE3 hx3 hq3 q75 e53 q3r q36 hMX hM4; lia), rfl⟩)
  have e21 : Mx3 1 21 = Mx 1 21 := hx3.2.1 21 (by decide)
  have A4 : AM b F MX Mq Mx4 Mq3 a (a + 1 + 1) o (0 - 3 - 3) (0 + 8 + 8 - 1) := by
    rw [hMX, hM4]
    by_cases c : r = -1
    · rw [if_pos c, if_pos c]; exact A3
    · rw [if_neg c, if_neg c, e21]; exact AM_bx (.inl rfl) A3
  have xm : XA Mx MX := by
    rw [hMX]; by_cases c : r = -1
    · rw [if_pos c]; exact XA_rf
    · rw [if_neg c]; exact XA_u1 (by decide)
  have m5 : ∀ r' : Nat, r' ≠ 1 → MX r' = Mx r' := fun r' hr' => by
    rw [hMX]; by_cases c : r = -1
    · rw [if_pos c]
    · rw [if_neg c, up_ne hr']
  have m45 : ∀ r' : Nat, r' ≠ 1 → Mx4 r' = Mx3 r' := fun r' hr' => by
    rw [hM4]; by_cases c : r = -1
    · rw [if_pos c]
    · rw [if_neg c, up_ne hr']
  have A5 := AM_up (r := 207) (v := -1) (AM_up (r := 206) (v := -1) (AM_up (r := 205) (v := r) (AM_em (w := 2) (p := Mx 71 a) A4 q75) (by decide) (rfl : Mq 6 75 = Mq 6 75)) (by decide) (rfl : Mq 6 75 = Mq 6 75)) (by decide) (rfl : Mq 6 75 = Mq 6 75)
  obtain ⟨X3, hX3v⟩ : ∃ X3, X3 = if r = -1 then 0 else Mx 112 r := ⟨_, rfl⟩
  obtain ⟨x2, hx2v⟩ : ∃ x2, x2 = if r = -1 then -1 else 3 * r := ⟨_, rfl⟩
  obtain ⟨x3, hx3v⟩ : ∃ x3, x3 = if r = -1 then -1 else Mq 156 r := ⟨_, rfl⟩
  have pr0 : r ≠ -1 → (0 ≤ Mx 112 r ∧ Mx 112 r ≤ 3 ∧ Mq 156 r = Mx 112 r) ∧ ∀ i : Int, 0 ≤ i → i < Mx 112 r → 0 ≤ Mx 113 (3 * r + i) ∧ Mx 113 (3 * r + i) ≤ 2 ∧ Mq 157 (3 * r + i) = Mx 113 (3 * r + i) + 1 := fun c => hG.1.2 r (by (clear hn ho h hG hk hS hK hQ A0 hE hT h01 h75 hae hV hW hV2 hW2 h12 hE1 A1 hT1 e70 e71 pre1 k1 h13 hE2 A2 hT2 hV2' k1' hg1 hnm hx2 hq2 G2 q151 q150 h617 hrr hX3 hQ3 pre2 A3 hE3 hx3 hq3 q75 e53 q3r q36 hMX hM4 hSM e21 A4 xm m5 m45 A5 hX3v hx2v hx3v; omega)) (by (clear hn ho h hG hk hS hK hQ A0 hE hT h01 h75 hae hV hW hV2 hW2 h12 hE1 A1 hT1 e70 e71 pre1 k1 h13 hE2 A2 hT2 hV2' k1' hg1 hnm hx2 hq2 G2 q151 q150 hrr hX3 hQ3 pre2 A3 hE3 hx3 hq3 q75 e53 q3r q36 hMX hM4 hSM e21 A4 xm m5 m45 A5 hX3v hx2v hx3v; lia))
  have hr20 : r = -1 ∨ (0 ≤ r ∧ r < 20) := by (clear hn ho h hG hk hS hK hQ A0 hE hT h01 h75 hae hV hW hV2 hW2 h12 hE1 A1 hT1 e70 e71 pre1 k1 h13 hE2 A2 hT2 hV2' k1' hg1 hnm hx2 hq2 G2 q151 q150 hrr hX3 hQ3 pre2 A3 hE3 hx3 hq3 q75 e53 q3r q36 hMX hM4 hSM e21 A4 xm m5 m45 A5 hX3v hx2v hx3v; omega)
  have pre3 : ∀ (Kv : mm_ → Prop) (Qtq : qt_), (∀ V : vv_, Cl_ wd0 (Tr_ wd0 pg0 (dq + 13)) V (rv_ Kv) Qtq m_297 → Wk_ V → Tr_ wd0 pg0 (dq + 13) 298 [.inr (.inr 6), .inl (Mq 6 75), .inl x2, .inl x3, .inl (Mx 71 (a + 1))] (up_ (up_ (up_ (em_ Mq3 2 (Mx 71 a)) 205 (Mq 6 75) r) 206 (Mq 6 75) (-1)) 207 (Mq 6 75) (-1)) (rv_ fun M8 => V 115 [rr 6, ii (Mx 71 a), ii (a + 1), ii r, ii (Mq 6 75), none, none] [] M8) Qtq) → Tr_ wd0 pg0 (dq + 15) 296 [.inr (.inr 6)] Mq (rv_ Kv) Qtq := by
    intro Kv Qtq hq
    refine pre2 _ _ fun V hV hW => b_297_46 (Tr_mono _) hV hW _ _ _ _ (q_266 (by (clear hn ho h hG hk hS hK hQ A0 hE hT h01 hae hV2 hW2 h12 hE1 A1 hT1 e70 e71 pre1 k1 h13 hE2 A2 hT2 hV2' k1' hg1 hnm hx2 hq2 G2 q151 q150 h617 hrr hr hkk hkc hX3 hQ3 hz3 pre2 A3 hE3 hx3 hq3 e53 q3r q36 hMX hM4 hSM e21 A4 xm m5 m45 A5 hX3v hx2v hx3v pr0 hr20 hq hV hW; omega)) (by (clear hn ho h hG hk hS hK hQ A0 hE hT h01 hV2 hW2 hE1 A1 hT1 e70 e71 pre1 k1 hE2 A2 hT2 hV2' k1' hg1 hnm hx2 hq2 G2 q151 q150 h617 hrr hr hkk hkc hX3 hQ3 hz3 pre2 A3 hE3 hx3 hq3 e53 q3r q36 hMX hM4 hSM e21 A4 xm m5 m45 A5 hX3v hx2v hx3v pr0 hr20 hq hV hW; omega)) ?_)
    rw [q75]
    have hk75 : 0 ≤ Mq 6 75 ∧ Mq 6 75 < 1300 := by (clear hn ho h hG hk hS hK hQ A0 hE hT h01 hV2 hW2 hE1 A1 hT1 e70 e71 pre1 k1 hE2 A2 hT2 hV2' k1' hg1 hnm hx2 hq2 G2 q151 q150 h617 hrr hr hkk hkc hX3 hQ3 hz3 pre2 A3 hE3 hx3 hq3 e53 q3r q36 hMX hM4 hSM e21 A4 xm m5 m45 A5 hX3v hx2v hx3v pr0 hr20 hq hV hW; omega)
    refine ⟨hk75, hk75, hk75, ?_⟩
    have e150 : em_ Mq3 2 (Mx 71 a) 150 (a + 1) = Mx 71 (a + 1) := by rw [em_r (.inl (by decide)) (by decide), q3r 150 (by decide), (hT (a + 1) hg1).2.1]
    have hq' := hq V hV hW
    have ha2 : 0 ≤ a + 1 ∧ a + 1 < 1202 := by (clear hn ho h hG hk hS hK hQ A0 hE hT h01 h75 hV2 hW2 hE1 A1 hT1 e70 e71 pre1 k1 hE2 A2 hT2 hV2' k1' hg1 hnm hx2 hq2 G2 q151 q150 h617 hrr hr hkk hkc hX3 hQ3 hz3 pre2 A3 hE3 hx3 hq3 q75 e53 q3r q36 hMX hM4 hSM e21 A4 xm m5 m45 A5 hX3v hx2v hx3v pr0 hr20 hq hV hW hk75 e150 hq'; omega)
    by_cases c : r = -1
    · rw [if_pos (by omega), if_pos (by omega), e150]
      rw [hx2v, hx3v, if_pos c, if_pos c] at hq'
      exact ⟨ha2, hq'⟩
    · have c0 : 0 ≤ r ∧ r < 20 := by (clear hn ho h hG hk hS hK hQ A0 hE hT h01 h75 hae hV2 hW2 h12 hE1 A1 hT1 e70 e71 pre1 k1 h13 hE2 A2 hT2 hV2' k1' hg1 hnm hx2 hq2 G2 q151 q150 h617 hrr hr hkk hkc hX3 hQ3 hz3 pre2 A3 hE3 hx3 hq3 q75 e53 q3r q36 hMX hM4 hSM e21 A4 xm m5 m45 A5 hX3v hx2v hx3v pr0 hq hV hW hk75 e150 hq' ha2; lia)
      rw [if_neg (by (clear hn ho h hG hk hS hK hQ A0 hE hT h01 h75 hae hV2 hW2 h12 hE1 A1 hT1 e70 e71 pre1 k1 h13 hE2 A2 hT2 hV2' k1' hg1 hnm hx2 hq2 G2 q151 q150 h617 hrr hr hkk hkc hX3 hQ3 hz3 pre2 A3 hE3 hx3 hq3 q75 e53 q3r q36 hMX hM4 hSM e21 A4 xm m5 m45 A5 hX3v hx2v hx3v pr0 hr20 hq hV hW hk75 e150 hq' ha2 c; omega)), if_neg (by omega), e150]
      rw [hx2v, hx3v, if_neg c, if_neg c] at hq'
      have e156 : em_ Mq3 2 (Mx 71 a) 156 r = Mq 156 r := by rw [em_r (.inl (by decide)) (by decide), q3r 156 (by decide)]
      rw [e156, w32_id (by (clear hn ho h hG hk hS hK hQ A0 hE hT h01 h75 hae hV2 hW2 h12 hE1 A1 hT1 e70 e71 pre1 k1 h13 hE2 A2 hT2 hV2' k1' hg1 hnm hx2 hq2 G2 q151 q150 h617 hrr hr hkk hkc hX3 hQ3 hz3 pre2 A3 hE3 hx3 hq3 q75 e53 q3r q36 hMX hM4 hSM e21 A4 xm m5 m45 A5 hX3v hx2v hx3v pr0 hr20 hq hV hW hk75 e150 hq' ha2 c e156; omega)) (by (clear hn ho h hG hk hS hK hQ A0 hE hT h01 h75 hae hV2 hW2 h12 hE1 A1 hT1 e70 e71 pre1 k1 h13 hE2 A2 hT2 hV2' k1' hg1 hnm hx2 hq2 G2 q151 q150 h617 hrr hr hkk hkc hX3 hQ3 hz3 pre2 A3 hE3 hx3 hq3 q75 e53 q3r q36 hMX hM4 hSM e21 A4 xm m5 m45 A5 hX3v hx2v hx3v pr0 hr20 hq hV hW hk75 e150 hq' ha2 c e156; lia))]
      exact ⟨c0, ha2, hq'⟩
  have goal69 : V2 69 [rr 1, ii (a + 1), ii r, ii X3, none, none, none, none] [] Mx4 := by
    refine b_157_69 (Tr_mono _) hV2 hW2 _ _ _ _ ?_
    refine ⟨(AM_V A4).1, ?_⟩
    have eX2 : w32 (3 * (if 0 < r then r else 0)) = 3 * (if r = -1 then 0 else r) := by
      by_cases c : r = -1
      · rw [if_neg (by (clear hn ho h hG hk hS hK hQ A0 hE hT h01 h75 hae hV hW hV2 hW2 h12 hE1 A1 hT1 e70 e71 pre1 k1 h13 hE2 A2 hT2 hV2' k1' hg1 hnm hx2 hq2 G2 q151 q150 h617 hrr hr hkk hkc hX3 hQ3 hz3 pre2 A3 hE3 hx3 hq3 q75 e53 q3r q36 hMX hM4 hSM e21 A4 xm m5 m45 A5 hX3v hx2v hx3v pr0 hr20 pre3; lia)), if_pos c]; decide
      · rw [if_neg c]
        by_cases c2 : 0 < r
        · rw [if_pos c2, w32_id (by (clear hn ho h hG hk hS hK hQ A0 hE hT h01 h75 hae hV hW hV2 hW2 h12 hE1 A1 hT1 e70 e71 pre1 k1 h13 hE2 A2 hT2 hV2' k1' hg1 hnm hx2 hq2 G2 q151 q150 h617 hrr hr hkk hkc hX3 hQ3 hz3 pre2 A3 hE3 hx3 hq3 q75 e53 q3r q36 hMX hM4 hSM e21 A4 xm m5 m45 A5 hX3v hx2v hx3v pr0 hr20 pre3 c; lia)) (by (clear hn ho h hG hk hS hK hQ A0 hE hT h01 h75 hae hV hW hV2 hW2 h12 hE1 A1 hT1 e70 e71 pre1 k1 h13 hE2 A2 hT2 hV2' k1' hg1 hnm hx2 hq2 G2 q151 q150 h617 hrr hr hkk hkc hX3 hQ3 hz3 pre2 A3 hE3 hx3 hq3 q75 e53 q3r q36 hMX hM4 hSM e21 A4 xm m5 m45 A5 hX3v hx2v hx3v pr0 pre3 c2; omega))]
        · rw [if_neg c2, show r = 0 by (clear hn ho h hG hk hS hK hQ A0 hE hT h01 h75 hae hV hW hV2 hW2 h12 hE1 A1 hT1 e70 e71 pre1 k1 h13 hE2 A2 hT2 hV2' k1' hg1 hnm hx2 hq2 G2 q151 q150 h617 hrr hr hkk hkc hX3 hQ3 hz3 pre2 A3 hE3 hx3 hq3 q75 e53 q3r q36 hMX hM4 hSM e21 A4 xm m5 m45 A5 hX3v hx2v hx3v pr0 pre3; lia)]; decide
    rw [eX2]
    refine v_158a (Mx := MX) (Mq := Mq) (Mx1 := Mx4) (x2 := x2) (x3 := x3) (x4 := Mx 71 (a + 1)) (w := fun j => if j < X3 then Mx 113 (3 * r + j) else -1) (wq := fun j => if j < X3 then Mx 113 (3 * r + j) else -1) (dq := dq) hn ho A5 (by decide) (by decide) ?_ (by omega) ?_ ?_ ?_ ?_ ?_ ?_ ?_
    · rw [hX3v]; split
      · decide
      · rename_i c; exact (pr0 c).1.2.1
    · intro j j0 j3
      by_cases c3 : j < X3
      · have c : r ≠ -1 := fun e => by rw [if_pos e] at hX3v; (clear hn ho h hG hk hS hK hQ A0 hE hT h01 h75 hae hV hW hV2 hW2 h12 hE1 A1 hT1 e70 e71 pre1 k1 h13 hE2 A2 hT2 hV2' k1' hg1 hnm hx2 hq2 G2 q151 q150 h617 hrr hr hkk hkc hX3 hQ3 hz3 pre2 A3 hE3 hx3 hq3 q75 e53 q3r q36 hMX hM4 hSM e21 A4 xm m5 m45 A5 hx2v hx3v pr0 hr20 pre3 eX2 e; lia)
        rw [if_neg c] at hX3v
        have := (pr0 c).2 j j0 (by (clear hn ho h hG hk hS hK hQ A0 hE hT h01 h75 hae hV hW hV2 hW2 h12 hE1 A1 hT1 e70 e71 pre1 k1 h13 hE2 A2 hT2 hV2' k1' hg1 hnm hx2 hq2 G2 q151 q150 h617 hrr hr hkk hkc hX3 hQ3 hz3 pre2 A3 hE3 hx3 hq3 q75 e53 q3r q36 hMX hM4 hSM e21 A4 xm m5 m45 A5 hx2v hx3v pr0 hr20 pre3 eX2 j0 j3 c; omega))
        rw [if_pos c3]; exact ⟨by (clear hn ho h hG hk hS hK hQ A0 hE hT h01 h75 hae hV hW hV2 hW2 h12 hE1 A1 hT1 e70 e71 pre1 k1 h13 hE2 A2 hT2 hV2' k1' hg1 hnm hx2 hq2 G2 q151 q150 h617 hrr hr hkk hkc hX3 hQ3 hz3 pre2 A3 hE3 hx3 hq3 q75 e53 q3r q36 hMX hM4 hSM e21 A4 xm m5 m45 A5 hX3v hx2v hx3v pr0 hr20 pre3 eX2 j0 j3 c3 c; omega), by (clear hn ho h hG hk hS hK hQ A0 hE hT h01 h75 hae hV hW hV2 hW2 h12 hE1 A1 hT1 e70 e71 pre1 k1 h13 hE2 A2 hT2 hV2' k1' hg1 hnm hx2 hq2 G2 q151 q150 h617 hrr hr hkk hkc hX3 hQ3 hz3 pre2 A3 hE3 hx3 hq3 q75 e53 q3r q36 hMX hM4 hSM e21 A4 xm m5 m45 A5 hX3v hx2v hx3v pr0 hr20 pre3 eX2 j0 j3 c3 c; omega), fun _ => rfl⟩
      · rw [if_neg c3]; exact ⟨by decide, by decide, fun _ => rfl⟩
    · intro j M j0 j3 hxc
      refine ⟨fun c => ?_, fun c => if_neg c⟩
      have c2 : r ≠ -1 := fun e => by rw [if_pos e] at hX3v; omega
      rw [if_neg c2] at hX3v
      have q := (pr0 c2).2 j j0 (by omega)
      have q0 := (pr0 c2).1
      have c0 : 0 ≤ r ∧ r < 20 := by (clear hn ho h hG hk hS hK hQ A0 hE hT h01 h75 hae hV hW hV2 hW2 h12 hE1 A1 hT1 e70 e71 pre1 k1 h13 hE2 A2 hT2 hV2' k1' hg1 hnm hx2 hq2 G2 q151 q150 h617 hrr hr hkk hkc hX3 hQ3 hz3 pre2 A3 hE3 hx3 hq3 q75 e53 q3r q36 hMX hM4 hSM e21 A4 xm m5 m45 A5 hX3v hx2v hx3v pr0 pre3 eX2 j0 j3 hxc c q q0; lia)
      rw [if_neg c2, if_pos c, w32_id (by (clear hn ho h hG hk hS hK hQ A0 hE hT h01 h75 hae hV hW hV2 hW2 h12 hE1 A1 hT1 e70 e71 pre1 k1 h13 hE2 A2 hT2 hV2' k1' hg1 hnm hx2 hq2 G2 q151 q150 h617 hrr hr hkk hkc hX3 hQ3 hz3 pre2 A3 hE3 hx3 hq3 q75 e53 q3r q36 hMX hM4 hSM e21 A4 xm m5 m45 A5 hX3v hx2v hx3v pr0 hr20 pre3 eX2 hxc c c2 q q0; lia)) (by (clear hn ho h hG hk hS hK hQ A0 hE hT h01 h75 hae hV hW hV2 hW2 h12 hE1 A1 hT1 e70 e71 pre1 k1 h13 hE2 A2 hT2 hV2' k1' hg1 hnm hx2 hq2 G2 q151 q150 h617 hrr hr hkk hkc hX3 hQ3 hz3 pre2 A3 hE3 hx3 hq3 q75 e53 q3r q36 hMX hM4 hSM e21 A4 xm m5 m45 A5 hX3v hx2v hx3v pr0 hr20 pre3 eX2 hxc c c2 q q0; omega))]
      have e113 : M 113 = Mx 113 := by rw [hxc.1 113 (by decide), m45 113 (by decide), hx3.1 113 (by decide)]
      rw [e113]
      exact ⟨by (clear hn ho h hG hk hS hK hQ A0 hE hT h01 h75 hae hV hW hV2 hW2 h12 hE1 A1 hT1 e70 e71 pre1 k1 h13 hE2 A2 hT2 hV2' k1' hg1 hnm hx2 hq2 G2 q151 q150 h617 hrr hr hkk hkc hX3 hQ3 hz3 pre2 A3 hE3 hx3 hq3 q75 e53 q3r q36 hMX hM4 hSM e21 A4 xm m5 m45 A5 hX3v hx2v hx3v pr0 hr20 pre3 eX2 hxc c c2 q q0 e113; omega), rfl, q.1⟩
    · intro V j M j0 j3 hqc hv
      unfold F21
      by_cases c : x3 ≤ j
      · have : ¬ j < X3 := by
          by_cases c2 : r = -1
          · rw [if_pos c2] at hX3v; omega
          · rw [if_neg c2] at hX3v hx3v; have := (pr0 c2).1; (clear hn ho h hG hk hS hK hQ A0 hE hT h01 h75 hae hV hW hV2 hW2 h12 hE1 A1 hT1 e70 e71 pre1 k1 h13 hE2 A2 hT2 hV2' k1' hg1 hnm hx2 hq2 G2 q151 q150 h617 hrr hr hkk hkc hX3 hQ3 hz3 pre2 A3 hE3 hx3 hq3 q75 e53 q3r q36 hMX hM4 hSM e21 A4 xm m5 m45 A5 hx2v pr0 hr20 pre3 eX2 j0 j3 hqc hv c2; lia)
        rw [if_pos c]; rw [if_neg this] at hv; exact hv
      · have c2 : r ≠ -1 := fun e => by rw [if_pos e] at hx3v; (clear hn ho h hG hk hS hK hQ A0 hE hT h01 h75 hae hV hW hV2 hW2 h12 hE1 A1 hT1 e70 e71 pre1 k1 h13 hE2 A2 hT2 hV2' k1' hg1 hnm hx2 hq2 G2 q151 q150 h617 hrr hr hkk hkc hX3 hQ3 hz3 pre2 A3 hE3 hx3 hq3 q75 e53 q3r q36 hMX hM4 hSM e21 A4 xm m5 m45 A5 hX3v hx2v pr0 hr20 pre3 eX2 hqc hv e; lia)
        rw [if_neg c2] at hx2v hx3v hX3v
        have q0 := (pr0 c2).1
        have c0 : 0 ≤ r ∧ r < 20 := by (clear hn ho h hG hk hS hK hQ A0 hE hT h01 h75 hae hV hW hV2 hW2 h12 hE1 A1 hT1 e70 e71 pre1 k1 h13 hE2 A2 hT2 hV2' k1' hg1 hnm hx2 hq2 G2 q151 q150 h617 hrr hr hkk hkc hX3 hQ3 hz3 pre2 A3 hE3 hx3 hq3 q75 e53 q3r q36 hMX hM4 hSM e21 A4 xm m5 m45 A5 hX3v hx2v hx3v pr0 pre3 eX2 j0 j3 hqc hv c q0; lia)
        have q := (pr0 c2).2 j j0 (by (clear hn ho h hG hk hS hK hQ A0 hE hT h01 h75 hae hV hW hV2 hW2 h12 hE1 A1 hT1 e70 e71 pre1 k1 h13 hE2 A2 hT2 hV2' k1' hg1 hnm hx2 hq2 G2 q151 q150 h617 hrr hr hkk hkc hX3 hQ3 hz3 pre2 A3 hE3 hx3 hq3 q75 e53 q3r q36 hMX hM4 hSM e21 A4 xm m5 m45 A5 hX3v hx2v pr0 hr20 pre3 eX2 j0 j3 hqc hv c2 c0; lia))
        rw [if_neg c, if_neg (by (clear hn ho h hG hk hS hK hQ A0 hE hT h01 h75 hae hV hW hV2 hW2 h12 hE1 A1 hT1 e70 e71 pre1 k1 h13 hE2 A2 hT2 hV2' k1' hg1 hnm hx2 hq2 G2 q151 q150 h617 hrr hr hkk hkc hX3 hQ3 hz3 pre2 A3 hE3 hx3 hq3 q75 e53 q3r q36 hMX hM4 hSM e21 A4 xm m5 m45 A5 hX3v hx3v pr0 hr20 pre3 eX2 j0 j3 hqc hv c c2 q0 q; lia))]; rw [if_pos (by (clear hn ho h hG hk hS hK hQ A0 hE hT h01 h75 hae hV hW hV2 hW2 h12 hE1 A1 hT1 e70 e71 pre1 k1 h13 hE2 A2 hT2 hV2' k1' hg1 hnm hx2 hq2 G2 q151 q150 h617 hrr hr hkk hkc hX3 hQ3 hz3 pre2 A3 hE3 hx3 hq3 q75 e53 q3r q36 hMX hM4 hSM e21 A4 xm m5 m45 A5 hx2v pr0 hr20 pre3 eX2 j0 j3 hqc hv c2 c0 q; omega))] at hv
        rw [w32_id (by (clear hn ho h hG hk hS hK hQ A0 hE hT h01 h75 hae hV hW hV2 hW2 h12 hE1 A1 hT1 e70 e71 pre1 k1 h13 hE2 A2 hT2 hV2' k1' hg1 hnm hx2 hq2 G2 q151 q150 h617 hrr hr hkk hkc hX3 hQ3 hz3 pre2 A3 hE3 hx3 hq3 q75 e53 q3r q36 hMX hM4 hSM e21 A4 xm m5 m45 A5 hX3v hx3v pr0 hr20 pre3 eX2 hqc hv c c2 q0 q; omega)) (by (clear hn ho h hG hk hS hK hQ A0 hE hT h01 h75 hae hV hW hV2 hW2 h12 hE1 A1 hT1 e70 e71 pre1 k1 h13 hE2 A2 hT2 hV2' k1' hg1 hnm hx2 hq2 G2 q151 q150 h617 hrr hr hkk hkc hX3 hQ3 hz3 pre2 A3 hE3 hx3 hq3 q75 e53 q3r q36 hMX hM4 hSM e21 A4 xm m5 m45 A5 hX3v hx3v pr0 hr20 pre3 eX2 hqc hv c c2 q0 q; omega))]
        have ex2 : x2 + j = 3 * r + j := by (clear hn ho h hG hk hS hK hQ A0 hE hT h01 h75 hae hV hW hV2 hW2 h12 hE1 A1 hT1 e70 e71 pre1 k1 h13 hE2 A2 hT2 hV2' k1' hg1 hnm hx2 hq2 G2 q151 q150 h617 hrr hr hkk hkc hX3 hQ3 hz3 pre2 A3 hE3 hx3 hq3 q75 e53 q3r q36 hMX hM4 hSM e21 A4 xm m5 m45 A5 hX3v hx3v pr0 hr20 pre3 eX2 j0 j3 hqc hv c c2 q0 c0 q; lia)
        rw [ex2]
        have e157 : M 157 = Mq 157 := by rw [hqc.1 157 (by decide), up_ne (by decide), up_ne (by decide), up_ne (by decide), em_r (.inl (by decide)) (by decide), q3r 157 (by decide)]
        rw [e157, q.2.2]
        exact ⟨by (clear hn ho h hG hk hS hK hQ A0 hE hT h01 h75 hae hV hW hV2 hW2 h12 hE1 A1 hT1 e70 e71 pre1 k1 h13 hE2 A2 hT2 hV2' k1' hg1 hnm hx2 hq2 G2 q151 q150 h617 hrr hr hkk hkc hX3 hQ3 hz3 pre2 A3 hE3 hx3 hq3 q75 e53 q3r q36 hMX hM4 hSM e21 A4 xm m5 m45 A5 hX3v hx2v hx3v pr0 hr20 pre3 eX2 hqc hv c c2 q0 q ex2 e157; lia), hv⟩
    · rw [m45 5 (by decide), m5 5 (by decide)]; exact e53
    · intro hb e
      have := hS hb
      rw [m5 70 (by decide)] at e
      rw [e] at this; exact this rfl
    · -- behind the values
      intro Mx6 Mq6 a6 nn s6 z6 A6 hz6 hs6 hx6 hq6 hnn h210 hv6 hval6 hq6'
      rw [m5 70 (by decide)] at hv6
      rw [gS_e h12, Option.bind_some, tS_e k1' h13, Option.bind_some, hv6, Option.bind_some] at hK
      rw [hv6, Option.bind_some] at hS
      have hE6 := AM_E A6
      obtain ⟨k5, hk5⟩ : ∃ k5, k5 = k5v_ x3 nn := ⟨_, rfl⟩
      have hkc5 : k5 = 0 ∨ (3 ≤ k5 ∧ k5 ≤ 6) := by rw [hk5]; unfold k5v_; split <;> decide
      have hgX : gd_ MX (a + 1) := gd_c (m5 70 (by decide)) hg1
      obtain ⟨A7, hz7⟩ := AM_m (k := k5) (tk := a + 1) A6 hkc5 hgX (by (clear hn ho h hG hk hQ A0 hE hT h01 h75 hae hV hW hV2 hW2 h12 hE1 A1 hT1 e70 e71 pre1 k1 h13 hE2 A2 hT2 hV2' k1' hg1 hnm hx2 hq2 G2 q151 q150 h617 hrr hr hkk hkc hX3 hQ3 hz3 pre2 A3 hE3 hx3 hq3 q75 e53 q3r q36 hMX hM4 hSM e21 A4 xm m5 m45 A5 hX3v hx2v hx3v pr0 hr20 pre3 eX2 hS hK A6 hs6 hx6 hq6 hnn h210 hv6 hval6 hq6' hE6 hk5 hkc5 hgX; omega))
      rw [m5 71 (by decide)] at A7 hz7
      have ha2 : 0 ≤ a + 1 ∧ a + 1 < 1202 := by (clear hn ho h hG hk hQ A0 hE hT h01 h75 hV hW hV2 hW2 hE1 A1 hT1 e70 e71 pre1 k1 hE2 A2 hT2 hV2' k1' hg1 hnm hx2 hq2 G2 q151 q150 h617 hrr hr hkk hkc hX3 hQ3 hz3 pre2 A3 hE3 hx3 hq3 q75 e53 q3r q36 hMX hM4 hSM e21 A4 xm m5 m45 A5 hX3v hx2v hx3v pr0 hr20 pre3 eX2 hS hK A6 hz6 hs6 hx6 hq6 hnn h210 hv6 hval6 hq6' hE6 hk5 hkc5 hgX A7 hz7; omega)
      have a26 : a + 1 + 1 ≤ a6 := inw_v (κ := Mx 70) (o := o) _ _ (by (clear hn ho h hG hk hQ A0 hE hT h01 h75 hV hW hV2 hW2 hE1 A1 hT1 e70 e71 pre1 k1 hE2 A2 hT2 hV2' k1' hg1 hnm hx2 hq2 G2 q151 q150 h617 hrr hr hkk hkc hX3 hQ3 hz3 pre2 A3 hE3 hx3 hq3 q75 e53 q3r q36 hMX hM4 hSM e21 A4 xm m5 m45 A5 hX3v hx2v hx3v pr0 hr20 pre3 eX2 hS hK A6 hz6 hs6 hx6 hq6 hnn h210 hv6 hval6 hq6' hE6 hk5 hkc5 hgX A7 hz7 ha2; omega)) (by have := ER_a hE2; (clear hn ho h hG hk hQ A0 hE hT h01 h75 hV hW hV2 hW2 hE1 A1 hT1 e70 e71 pre1 k1 hE2 A2 hT2 hV2' k1' hg1 hnm hx2 hq2 G2 q151 q150 h617 hrr hr hkk hkc hX3 hQ3 hz3 pre2 A3 hE3 hx3 hq3 q75 e53 q3r q36 hMX hM4 hSM e21 A4 xm m5 m45 A5 hX3v hx2v hx3v pr0 hr20 pre3 eX2 hS hK A6 hz6 hs6 hx6 hq6 hnn h210 hv6 hval6 hq6' hE6 hk5 hkc5 hgX A7 hz7 ha2 this; omega)) hv6 |>.1
      refine y_n5v (q := x3) (kk := k5) (A := fun M => Tr_ wd0 pg0 (9 * n + 15) 103 [.inr (.inr 1), .inl 21] M (ri_ fun v2 M2 =>
    (if v2 = 0 then
     Tr_ wd0 pg0 (9 * n + 15) 103 [.inr (.inr 1), .inl 22] M2 (ri_ fun v3 M3 =>
      (if v3 = 0 then
       V2 143 [rr 1, ii (a + 1), ii r, ii X3, ii nn, ii 0, none, none] [] M3
      else
       V2 143 [rr 1, ii (a + 1), ii r, ii X3, ii nn, ii 2, none, none] [] M3)) Qt
    else
     V2 143 [rr 1, ii (a + 1), ii r, ii X3, ii nn, ii 1, none, none] [] M2)) Qt) hE6 ha2 ?_ hk5 ?_
      · by_cases c : r = -1
        · exact .inl ⟨c, by rw [hx3v, if_pos c]⟩
        · refine .inr ⟨c, fun hb => ?_⟩
          rw [hx3v, hX3v, if_neg c, if_neg c]
          exact ⟨(pr0 c).1.2.2, (pr0 c).1.1⟩
      generalize hX7 : Xn_ Mx6 b k5 (a + 1) = Mx7 at *
      rw [← hk5] at hq6'
      have x7e : Mx7 5 = Mx6 5 ∧ Mx7 142 = Mx6 142 := by rw [← hX7, Xn_r (by decide), Xn_r (by decide)]; exact ⟨rfl, rfl⟩
      have pre7 : ∀ (Kv : mm_ → Prop) (Qtq : qt_), (∀ V : vv_, Cl_ wd0 (Tr_ wd0 pg0 (dq + 13)) V (rv_ Kv) Qtq m_297 → Wk_ V → V 115 [rr 6, ii (MX 71 a), ii (a + 1), ii r, ii (Mq 6 75), none, none] [] (Qn_ Mq6 b k5 (Mx 71 (a + 1)))) → Tr_ wd0 pg0 (dq + 15) 296 [.inr (.inr 6)] Mq (rv_ Kv) Qtq := fun Kv Qtq hq => pre3 _ _ fun V hV hW => hq6' _ _ (by have := hq V hV hW; rw [m5 71 (by decide)] at this; exact this)
      have q7r : ∀ r' : Nat, r' ≠ 6 → Qn_ Mq6 b k5 (Mx 71 (a + 1)) r' = Mq6 r' := fun r' hr' => Qn_r hr'
      have q713 : b = 1 → Qn_ Mq6 b k5 (Mx 71 (a + 1)) 6 13 = 0 → k5 = 0 ∧ Mq6 6 13 = 0 := fun hb h0 => by
        have := hz7 hb h0
        unfold Qn_ at h0; rw [if_pos (.inr this)] at h0; exact ⟨this, h0⟩
      have q76 : ∀ i : Int, i ≠ 13 → i ≠ 14 → Qn_ Mq6 b k5 (Mx 71 (a + 1)) 6 i = Mq6 6 i := fun i h1 h2 => Qn_6 h1 h2
      generalize hQ7 : Qn_ Mq6 b k5 (Mx 71 (a + 1)) = Mq7 at *
      have hE7 := AM_E A7
      have o6 : ∀ r' : Nat, r' ∉ qvL → Mq7 r' = up_ (up_ (up_ (em_ Mq3 2 (Mx 71 a)) 205 (Mq 6 75) r) 206 (Mq 6 75) (-1)) 207 (Mq 6 75) (-1) r' := fun r' hr' => by rw [q7r r' (fun e => hr' (by rw [e]; decide)), hq6.1 r' hr']
      have o66 : ∀ i : Int, i ∉ qvI → Mq7 6 i = em_ Mq3 2 (Mx 71 a) 6 i := fun i hi => by rw [q76 i (nm_i hi (by decide)) (nm_i hi (by decide)), hq6.2.1 i hi, up_ne (by decide), up_ne (by decide), up_ne (by decide)]
      have Ov : OVM b F MX Mq Mx7 Mq7 a a6 o s6 (z6 - 1) r nn := by
        refine ⟨A7, ⟨hs6, by (clear hn ho h hG hk hQ A0 hE hT h01 h75 hae hV hW hV2 hW2 h12 hE1 A1 hT1 e70 e71 pre1 k1 h13 hE2 A2 hT2 hV2' k1' hg1 hnm hx2 hq2 G2 q151 q150 h617 hrr hr hkk hkc hX3 hQ3 hz3 pre2 A3 hE3 hx3 hq3 q75 e53 q3r q36 hMX hM4 hSM e21 A4 xm m5 m45 A5 hX3v hx2v hx3v pr0 hr20 pre3 eX2 hS hK A6 hs6 hx6 hq6 hnn h210 hv6 hval6 hE6 hk5 hkc5 hgX ha2 a26 hX7 x7e hQ7 hq6' hz7 A7 pre7 q7r q713 q76 hE7 o6 o66; omega), by (clear hn ho h hG hk hQ A0 hE hT h01 h75 hae hV hW hV2 hW2 h12 hE1 A1 hT1 e70 e71 pre1 k1 h13 hE2 A2 hT2 hV2' k1' hg1 hnm hx2 hq2 G2 q151 q150 h617 hrr hr hkk hkc hX3 hQ3 hz3 pre2 A3 hE3 hx3 hq3 q75 e53 q3r q36 hMX hM4 hSM e21 A4 xm m5 m45 A5 hX3v hx2v hx3v pr0 hr20 pre3 eX2 hS hK A6 hz6 hs6 hx6 hq6 hnn h210 hv6 hval6 hE6 hk5 hkc5 hgX ha2 hX7 x7e hQ7 hq6' hz7 A7 pre7 q7r q713 q76 hE7 o6 o66; omega), hnn.1, hnn.2⟩, ⟨?_, ?_, ?_, ?_, ?_, ?_, ?_⟩, fun hb h0 => ?_⟩
        · rw [o66 75 (by decide), em_75, q75]
        · rw [o6 203 (by decide), up_ne (by decide), up_ne (by decide), up_ne (by decide), ← q75, em_203]
        · rw [o6 204 (by decide), up_ne (by decide), up_ne (by decide), up_ne (by decide), ← q75, em_204, m5 71 (by decide)]
        · rw [o6 205 (by decide), up_ne (by decide), up_ne (by decide), up_at]
        · rw [o6 206 (by decide), up_ne (by decide), up_at]
        · rw [o6 207 (by decide), up_at]
        · rw [q7r 210 (by decide)]; exact h210
        · obtain ⟨k50, h613⟩ := q713 hb h0
          have h313 : Mq3 6 13 = 0 := by
            have := hq6.2.2 hb h613
            rw [up_ne (by decide), up_ne (by decide), up_ne (by decide), em_6 (by decide)] at this; exact this
          have hk0 := hz3 hb h313
          have hr0 : r ≠ -1 := fun e => by rw [if_pos e] at hkk; (clear hn ho h hG hk hQ A0 hE hT h01 h75 hae hV hW hV2 hW2 h12 hE1 A1 hT1 e70 e71 pre1 k1 h13 hE2 A2 hT2 hV2' k1' hg1 hnm hx2 hq2 G2 q151 q150 h617 hrr hr hkc hX3 hQ3 hz3 pre2 A3 hE3 hx3 hq3 q75 e53 q3r q36 hMX hM4 hSM e21 A4 xm m5 m45 A5 hX3v hx2v hx3v pr0 hr20 pre3 eX2 hS hK A6 hz6 hs6 hx6 hq6 hnn h210 hv6 hval6 hE6 hk5 hkc5 hgX ha2 a26 hX7 x7e hQ7 hq6' hz7 A7 pre7 q7r q713 q76 hE7 o6 o66 hb h0 k50 h613 h313 e; lia)
          have pq := pr0 hr0
          rw [if_neg hr0] at hx3v hX3v
          have hnq : nn = Mq 156 r := by
            have : k5v_ x3 nn = 0 := by (clear hn ho h hG hk hQ A0 hE hT h01 h75 hae hV hW hV2 hW2 h12 hE1 A1 hT1 e70 e71 pre1 k1 h13 hE2 A2 hT2 hV2' k1' hg1 hnm hx2 hq2 G2 q151 q150 h617 hrr hr hkk hkc hX3 hQ3 hz3 pre2 A3 hE3 hx3 hq3 q75 e53 q3r q36 hMX hM4 hSM e21 A4 xm m5 m45 A5 hX3v hx2v hx3v pr0 hr20 pre3 eX2 hS hK A6 hz6 hs6 hx6 hq6 hnn h210 hv6 hval6 hE6 hkc5 hgX ha2 a26 hX7 x7e hQ7 hq6' hz7 A7 pre7 q7r q713 q76 hE7 o6 o66 hb h0 h613 h313 hk0 hr0 pq; lia)
            unfold k5v_ at this
            by_cases c : x3 < 0 ∨ nn = x3
            · (clear hn ho h hG hk hQ A0 hE hT h01 h75 hae hV hW hV2 hW2 h12 hE1 A1 hT1 e70 e71 pre1 k1 h13 hE2 A2 hT2 hV2' k1' hg1 hnm hx2 hq2 G2 q151 q150 h617 hrr hr hkk hkc hX3 hQ3 hz3 pre2 A3 hE3 hx3 hq3 q75 e53 q3r q36 hMX hM4 hSM e21 A4 xm m5 m45 A5 hX3v hx2v pr0 hr20 pre3 eX2 hS hK A6 hz6 hs6 hx6 hq6 hnn hv6 hval6 hE6 hk5 hkc5 hgX ha2 a26 hX7 x7e hQ7 hq6' hz7 A7 pre7 q7r q713 q76 hE7 o6 o66 hb h0 k50 h613 h313 hk0 hr0 this; omega)
            · rw [if_neg c] at this; (clear hn ho h hG hk hQ A0 hE hT h01 h75 hae hV hW hV2 hW2 h12 hE1 A1 hT1 e70 e71 pre1 k1 h13 hE2 A2 hT2 hV2' k1' hg1 hnm hx2 hq2 G2 q151 q150 h617 hrr hr hkk hkc hX3 hQ3 hz3 pre2 A3 hE3 hx3 hq3 q75 e53 q3r q36 hMX hM4 hSM e21 A4 xm m5 m45 A5 hX3v hx2v hx3v pr0 hr20 pre3 eX2 hS hK A6 hz6 hs6 hx6 hq6 hnn h210 hv6 hval6 hE6 hk5 hkc5 hgX ha2 a26 hX7 x7e hQ7 hq6' hz7 A7 pre7 q7r q713 q76 hE7 o6 o66 hb h0 k50 h613 h313 hk0 hr0 pq c; lia)
          have hv7 := hval6 hb h613 (by (clear hn ho h hG hk hQ A0 hE hT h01 h75 hae hV hW hV2 hW2 h12 hE1 A1 hT1 e70 e71 pre1 k1 h13 hE2 A2 hT2 hV2' k1' hg1 hnm hx2 hq2 G2 q151 q150 h617 hrr hr hkk hkc hX3 hQ3 hz3 pre2 A3 hE3 hx3 hq3 q75 e53 q3r q36 hMX hM4 hSM e21 A4 xm m5 m45 A5 hx2v hx3v pr0 hr20 pre3 eX2 hS hK A6 hz6 hs6 hx6 hq6 hnn hv6 hval6 hE6 hk5 hkc5 hgX ha2 a26 hX7 x7e hQ7 hq6' hz7 A7 pre7 q7r q713 q76 hE7 o6 o66 hb h0 k50 h613 h313 hk0 hr0; omega))
          have w17 : Mq7 6 17 = Mq 6 17 := by rw [o66 17 (by decide), em_6 (by decide), q36 17 (by decide)]
          have w156 : Mq7 156 = Mq 156 := by rw [o6 156 (by decide), up_ne (by decide), up_ne (by decide), up_ne (by decide), em_r (.inl (by decide)) (by decide), q3r 156 (by decide)]
          have w157 : Mq7 157 = Mq 157 := by rw [o6 157 (by decide), up_ne (by decide), up_ne (by decide), up_ne (by decide), em_r (.inl (by decide)) (by decide), q3r 157 (by decide)]
          refine ⟨by rw [w17]; (clear hn ho h hG hk hQ A0 hE hT h01 h75 hae hV hW hV2 hW2 h12 hE1 A1 hT1 e70 e71 pre1 k1 h13 hE2 A2 hT2 hV2' k1' hg1 hnm hx2 hq2 G2 q151 q150 hrr hX3 hQ3 pre2 A3 hE3 hx3 hq3 q75 e53 q3r q36 hMX hM4 hSM e21 A4 xm m5 m45 A5 hx2v hx3v pre3 eX2 hK A6 hz6 hs6 hx6 hq6 hnn hv6 hE6 hgX ha2 a26 hX7 x7e hQ7 hq6' A7 pre7 q7r q76 hE7 o6 o66 hv7 w156 w157; lia), by rw [w156]; exact hnq, ?_⟩
          rw [w157, x7e.1]
          refine VAL_c (σ := fun i => Mq 157 (3 * r + i)) (Mx := Mx6) (Mq := Mq6) (fe := Mq6 6 104) (fun i _ _ => by rw [q7r 227 (by decide), q7r 228 (by decide)]; exact ⟨rfl, rfl⟩) ⟨q7r _ (by decide), q7r _ (by decide), q7r _ (by decide), q7r _ (by decide), q7r _ (by decide)⟩ (by rw [q76 104 (by decide) (by decide)]; (clear hn ho h hG hk hQ A0 hE hT h01 h75 hae hV hW hV2 hW2 h12 hE1 A1 hT1 e70 e71 pre1 k1 h13 hE2 A2 hT2 hV2' k1' hg1 hnm hx2 hq2 G2 q151 q150 h617 hrr hr hkk hkc hX3 hQ3 hz3 pre2 A3 hE3 hx3 hq3 q75 e53 q3r q36 hMX hM4 hSM e21 A4 xm m5 m45 A5 hX3v hx2v hx3v pr0 hr20 pre3 eX2 hS hK A6 hz6 hs6 hx6 hq6 hnn h210 hv6 hval6 hE6 hk5 hkc5 hgX ha2 a26 hX7 x7e hQ7 hq6' hz7 A7 pre7 q7r q713 q76 hE7 o6 o66 hb h0 k50 h613 h313 hk0 hr0 pq hnq hv7 w17 w156 w157; lia)) (fun _ => rfl) _ (by (clear hn ho h hG hk hQ A0 hE hT h01 h75 hae hV hW hV2 hW2 h12 hE1 A1 hT1 e70 e71 pre1 k1 h13 hE2 A2 hT2 hV2' k1' hg1 hnm hx2 hq2 G2 q151 q150 h617 hrr hr hkk hkc hX3 hQ3 hz3 pre2 A3 hE3 hx3 hq3 q75 e53 q3r q36 hMX hM4 hSM e21 A4 xm m5 m45 A5 hX3v hx2v hx3v pr0 hr20 pre3 eX2 hS hK A6 hz6 hs6 hx6 hq6 hv6 hval6 hE6 hk5 hkc5 hgX ha2 a26 hX7 x7e hQ7 hq6' hz7 A7 pre7 q7r q713 q76 hE7 o6 o66 hb h0 k50 h613 h313 hk0 hr0 pq hnq hv7 w17 w156 w157; omega)) (fun i _ _ => by rw [q7r 209 (by decide)]) (fun i _ hi => by rw [x7e.2]) (VAL_s _ (fun i hi => ?_) hv7)
          have := pq.2 (i : Int) (by (clear hn ho h hG hk hQ A0 hE hT h01 h75 hae hV hW hV2 hW2 h12 hE1 A1 hT1 e70 e71 pre1 k1 h13 hE2 A2 hT2 hV2' k1' hg1 hnm hx2 hq2 G2 q151 q150 h617 hrr hr hkk hkc hX3 hQ3 hz3 pre2 A3 hE3 hx3 hq3 q75 e53 q3r q36 hMX hM4 hSM e21 A4 xm m5 m45 A5 hX3v hx2v hx3v pr0 hr20 pre3 eX2 hS hK A6 hz6 hs6 hx6 hq6 hnn h210 hv6 hval6 hE6 hk5 hkc5 hgX ha2 a26 hX7 x7e hQ7 hq6' hz7 A7 pre7 q7r q713 q76 hE7 o6 o66 hb h0 k50 h613 h313 hk0 hr0 pq hnq hv7 w17 w156 w157 hi; lia)) (by (clear hn ho h hG hk hQ A0 hE hT h01 h75 hae hV hW hV2 hW2 h12 hE1 A1 hT1 e70 e71 pre1 k1 h13 hE2 A2 hT2 hV2' k1' hg1 hnm hx2 hq2 G2 q151 q150 h617 hrr hr hkk hkc hX3 hQ3 hz3 pre2 A3 hE3 hx3 hq3 q75 e53 q3r q36 hMX hM4 hSM e21 A4 xm m5 m45 A5 hX3v hx2v hx3v pr0 hr20 pre3 eX2 hS hK A6 hz6 hs6 hx6 hq6 hv6 hval6 hE6 hk5 hkc5 hgX ha2 a26 hX7 x7e hQ7 hq6' hz7 A7 pre7 q7r q713 q76 hE7 o6 o66 hb h0 k50 h613 h313 hk0 hr0 hv7 w17 w156 w157; omega))
          show Mq 157 (3 * r + (i : Int)) = (if (i : Int) < X3 then Mx 113 (3 * r + i) else -1) + 1
          rw [if_pos (by (clear hn ho h hG hk hQ A0 hE hT h01 h75 hae hV hW hV2 hW2 h12 hE1 A1 hT1 e70 e71 pre1 k1 h13 hE2 A2 hT2 hV2' k1' hg1 hnm hx2 hq2 G2 q151 q150 h617 hrr hr hkk hkc hX3 hQ3 hz3 pre2 A3 hE3 hx3 hq3 q75 e53 q3r q36 hMX hM4 hSM e21 A4 xm m5 m45 A5 hx2v hx3v pr0 hr20 pre3 eX2 hS hK A6 hz6 hs6 hx6 hq6 hv6 hval6 hE6 hk5 hkc5 hgX ha2 a26 hX7 x7e hQ7 hq6' hz7 A7 pre7 q7r q713 q76 hE7 o6 o66 hb h0 k50 h613 h313 hk0 hr0 hv7 w17 w156 w157 this; omega))]; exact this.2.2
      have G7 : GT b F MX Mq (MX 71 a) := by rw [m5 71 (by decide)]; exact GT_a xm QA_rf hG
      have e70' : Mx7 70 = MX 70 := AM_70 A7
      have hS' : b = 1 → ovS (MX 70) o a6 ≠ none := fun hb => by rw [m5 70 (by decide)]; exact hS hb
      have hk75 : 0 ≤ Mq 6 75 ∧ Mq 6 75 < 1300 := by (clear hn ho h hG hk hQ A0 hE hT h01 hV hW hV2 hW2 hE1 A1 hT1 e70 e71 pre1 k1 hE2 A2 hT2 hV2' k1' hg1 hnm hx2 hq2 G2 q151 q150 h617 hrr hr hkk hkc hX3 hQ3 hz3 pre2 A3 hE3 hx3 hq3 e53 q3r q36 hMX hM4 hSM e21 A4 xm m5 m45 A5 hX3v hx2v hx3v pr0 hr20 pre3 eX2 hS hK A6 hz6 hs6 hx6 hq6 hnn h210 hv6 hval6 hE6 hk5 hkc5 hgX ha2 a26 hX7 x7e hQ7 hq6' hz7 A7 pre7 q7r q713 q76 hE7 o6 o66 Ov G7 e70' hS'; lia)
      have hK' : ∀ Mx' Mq' a', Mq' 205 (Mq 6 75) = r → AR b F MX Mq Mx' Mq' a a' o 2 r → ovS (MX 70) o a6 = some a' → (∀ (Kv : mm_ → Prop) (Qtq : qt_), Kv Mq' → Tr_ wd0 pg0 (dq + 15) 296 [.inr (.inr 6)] Mq (rv_ Kv) Qtq) → bl_ 0 ∧ ri_ K [.inl 0] Mx' := fun Mx' Mq' a' h1 h2 h3 h4 => ⟨.inl rfl, ri_i (hK MX Mx' Mq' a' (by rw [h1]; exact hSM) (by rw [h1]; exact h2) (by rw [m5 70 (by decide)] at h3; exact h3) h4)⟩
      have hQ' : b = 0 → ∀ Mx', XA MX Mx' → (∀ (Kv : mm_ → Prop) (Qtq : qt_), (∀ M', SQ Mx' Mq M' → Kv M') → Tr_ wd0 pg0 (dq + 15) 296 [.inr (.inr 6)] Mq (rv_ Kv) Qtq) → Qt 8 Mx' := fun hb Mx' hx hq => hQ hb Mx' (XA_tr xm hx) hq
      refine y_103 hE7 (fun k2 => ?_) (fun k2 => ?_)
      · rw [if_neg (by decide)]
        exact l_157m1 (dq := dq) hn ho hk75 Ov (by rw [← e70']; exact k2) hS' pre7 hK' hQ' hV2 hW2
      · rw [if_pos rfl]
        refine y_103 hE7 (fun k3 => ?_) (fun k3 => ?_)
        · rw [if_neg (by decide)]
          exact l_157m2 (dq := dq) (d := 9 * n) G7 hk75 (by omega) Ov (by rw [← e70']; exact k3) hS' pre7 hK' hQ' hV2 hW2
        · rw [if_pos rfl]
          exact l_157m0 (dq := dq) (d := 9 * n) Ov (by rw [← e70']; exact k2) (by rw [← e70']; exact k3) hS' pre7 hK' hQ' hV2 hW2
    · intro hb Mx' hx hq
      refine hQ hb Mx' (XA_tr xm hx) fun Kv Qtq hk9 => pre3 _ _ fun V hV hW => hq _ _ fun M' hM' => b_297_115 (Tr_mono _) hV hW _ _ _ _ _ (q_228s hM'.1 ?_)
      rw [if_pos rfl]
      refine q_228s hM'.1 ?_
      rw [if_pos rfl]
      exact q_244s hM'.1 (rv_i (hk9 _ hM'))
  -- sent
  refine b_157_33 (Tr_mono _) hV2 hW2 _ _ _ ?_
  by_cases c : r = -1
  · rw [if_pos c, if_pos c]
    rw [hM4, if_pos c, hX3v, if_pos c] at goal69
    exact goal69
  · rw [if_neg c, if_neg c]
    rw [hM4, if_neg c, hX3v, if_neg c] at goal69
    have e112 : Mx3 112 r = Mx 112 r := by rw [hx3.1 112 (by decide)]
    rw [e112]
    exact ⟨(AM_V A3).1, by omega, goal69⟩
end OX
end T123_ou
section T124_lb
/-! labels -/
/-- X's fault key comes from a label (pass 1); the bound of Q's by the labels passed (pass 2) -/
def LBG [Inhabited gh_] (b F : Int) (Mx Mq : mm_) : Prop := (b = 0 → ff_ = 0 ∨ F = ff_ ∨ ∃ k i : Int, (0 ≤ i ∧ i < k ∧ k < Mx 128 (Mx 1 18)) ∧ Mq 180 (10 * Mx 1 18 + i) = Mq 180 (10 * Mx 1 18 + k) ∧ F = 8 * Mx 71 (Mx 62 (10 * Mx 1 18 + k)) + 3)
  ∧ (b = 1 → ∀ k : Int, 0 ≤ k → k < Mx 128 (Mx 1 18) → bb_ k ≤ bb_ (k + 1) ∨ ((∃ i : Int, (0 ≤ i ∧ i < k) ∧ Mq 180 (10 * Mx 1 18 + i) = Mq 180 (10 * Mx 1 18 + k)) ∧ 8 * Mx 71 (Mx 62 (10 * Mx 1 18 + k)) + 3 ≤ bb_ (k + 1)))
/-- the labels of the type at hand, told up to a token -/
def LBT [Inhabited gh_] (b F : Int) (Mx Mq : mm_) (a : Int) : Prop := lbl9 Mx Mq ∧ (∀ k : Int, 0 ≤ k → k < Mx 128 (Mx 1 18) → Mq 187 (10 * Mx 1 18 + k) = Mx 71 (Mx 62 (10 * Mx 1 18 + k)) ∧ (b = 0 → Mx 62 (10 * Mx 1 18 + k) < a) ∧ ∀ i : Int, 0 ≤ i → i < k → Mx 62 (10 * Mx 1 18 + i) < Mx 62 (10 * Mx 1 18 + k) ∧ (Mq 180 (10 * Mx 1 18 + i) = Mq 180 (10 * Mx 1 18 + k) → F ≤ 8 * Mx 71 (Mx 62 (10 * Mx 1 18 + k)) + 3)) ∧ LBG b F Mx Mq
section LB
variable {d dq n : Nat} {b F F' : Int} {Mx Mq Mx1 Mq1 M : mm_} {a a1 o j p me T : Int} {K : Int → mm_ → Prop} {Kv G : mm_ → Prop} {Qt : qt_} {V : vv_}
theorem nt_nt [Inhabited gh_] {k : Int} : nt_ (nt_ M k p) k p = nt_ M k p := by
  unfold nt_
  by_cases c : M 6 16 = 0
  · rw [if_pos c, if_pos c]
  · rw [if_neg c]
    by_cases c2 : M 6 13 = 0 ∨ p < M 6 14 ∨ p = M 6 14 ∧ k < M 6 13
    · rw [if_pos c2, bf_6 (by decide) (by decide), if_neg c, bf_13, bf_14]
      by_cases c3 : k = 0 ∨ p < p ∨ p = p ∧ k < k
      · rw [if_pos c3]
        unfold bf_
        funext r i
        by_cases h6 : r = 6
        · subst h6
          by_cases i4 : i = 14
          · rw [i4, up_at, up_at]
          · rw [up_off i4, up_off i4]
            by_cases i3 : i = 13
            · rw [i3, up_at, up_at]
            · rw [up_off i3, up_off i4]
        · rw [up_ne h6, up_ne h6]
      · rw [if_neg c3]
    · rw [if_neg c2, if_neg c, if_neg c2]
/-- Q alone notes what comes behind a fault of the first pass -/
theorem ER_nq [Inhabited gh_] {k p : Int} (h : ER b F Mx Mq a o) (hb1 : b = 1) (hk : 1 ≤ k ∧ k ≤ 7) (hp0 : 0 ≤ p ∧ p ≤ 5000) (hF : F ≤ 8 * p + k) : ER b F Mx (nt_ Mq k p) a o := by
  obtain ⟨e1, e2, e3, e4, e5, e6, e7, e8, e9, e10, e11, e12, e13, e14, e15⟩ := h
  obtain ⟨n1, n2, n3, n4⟩ := e11
  have hfq : fqq_ (nt_ Mq k p) = np_ 1 (fqq_ Mq) k p := by rw [nt_fq, e8, hb1]
  have k2 := kk_np (q := fqq_ Mq) (k := k) (p := p) n2 hk.1 hk.2 hp0.1 hp0.2
  have f13 : nt_ Mq k p 6 13 = (np_ 1 (fqq_ Mq) k p).1 := congrArg Prod.fst hfq
  have f14 : nt_ Mq k p 6 14 = (np_ 1 (fqq_ Mq) k p).2 := congrArg Prod.snd hfq
  have hkq : kk_ (fqq_ Mq).1 (fqq_ Mq).2 = kk_ (Mq 6 13) (Mq 6 14) := rfl
  refine ⟨e1, e2, by rw [nt_6 (by decide) (by decide)]; exact e3, e4, by rw [nt_6 (by decide) (by decide)]; exact e5, e6, e7, by rw [nt_6 (by decide) (by decide)]; exact e8, e9, fun hb => absurd (hb.symm.trans hb1) (by decide), ⟨n1, by rw [f13, f14]; exact k2.2, ?_, n4.1, .inr ?_⟩, e12, e13, e14, e15⟩
  · rw [f13, f14, k2.1, n3, hkq]; (clear hk hp0 e1 e2 e3 e4 e5 e6 e7 e9 e10 e12 e13 e14 e15 n1 n2 n3 hfq k2 f13 f14; lia)
  · rw [f13, f14, k2.1, hkq]; have := n4.2; (clear hk hp0 hF e1 e2 e3 e4 e5 e6 e7 e9 e10 e12 e13 e14 e15 n1 n2 n3 n4 hfq k2 f13 f14 hkq; omega)
/-- X alone notes, in the first pass -/
theorem ER_n1 [Inhabited gh_] {k tk : Int} (h : ER b F Mx Mq a o) (hb : b = 0) (hk : 1 ≤ k ∧ k ≤ 7) (hp0 : 0 ≤ Mx 71 tk ∧ Mx 71 tk ≤ 5000) (hf : Mx 1 7 + 1 + 8 * (1201 - a) ≤ 1000001000 - (gg_ : Int)) : ER b (min F (8 * Mx 71 tk + k)) (nt1_ Mx k tk) Mq a o := by
  obtain ⟨e1, e2, e3, e4, e5, e6, e7, e8, e9, e10, e11, e12, e13, e14, e15⟩ := h
  obtain ⟨n1, n2, n3, n4⟩ := e11
  have k1 := kk_nt1 (M := Mx) (k := k) (t := tk) n1 hk.1 hk.2 hp0.1 hp0.2
  refine ⟨gd_c (nt1_r (by decide)) e1, by rw [nt1_1 (by decide) (by decide) (by decide)]; exact e2, e3, by rw [nt1_1 (by decide) (by decide) (by decide)]; exact e4, e5, e6, by rw [nt1_1 (by decide) (by decide) (by decide)]; exact e7, e8, e9, e10, ⟨k1.2, n2, ?_, by (clear hb hk hp0 hf e1 e2 e3 e4 e5 e6 e7 e8 e9 e10 e12 e13 e14 e15 n1 n2 n3 k1; omega), by rw [nt1_1 (by decide) (by decide) (by decide)]; exact n4.2⟩, by rw [nt1_7]; (clear hb hk hp0 hf e1 e2 e3 e4 e5 e6 e7 e8 e9 e10 e13 e14 e15 n1 n2 n3 n4 k1; omega), by rw [nt1_7]; omega, by rw [nt1_r (by decide)]; exact e14, by rw [nt1_r (by decide)]; exact e15⟩
  rw [k1.1, n3]; (clear hb hk hp0 hf e1 e2 e3 e4 e5 e6 e7 e8 e9 e10 e12 e13 e14 e15 n1 n2 k1; lia)
/-- Q's loop over the labels told -/
theorem l_262 [Inhabited gh_] (hV : Cl_ wd0 (Tr_ wd0 pg0 (d + 1)) V (rv_ Kv) Qt m_262) (hW : Wk_ V) {x1 m : Int} (h16 : M 6 16 = 1) (h61 : M 6 61 = T) (hT0 : 0 ≤ T ∧ T < 6) (hm : M 175 T = m ∧ 0 ≤ m ∧ m ≤ 10) (hj : 0 ≤ j ∧ j < m) (ha : 0 ≤ a ∧ a < 1202)
    (hat : ∀ k, 0 ≤ k → k < m → (M 187 (10 * T + k) = M 150 a ↔ k = j) ∧ (k < j → M 187 (10 * T + k) < M 150 a) ∧ (j < k → M 150 a < M 187 (10 * T + k)))
    (hfin : ∀ kk, (kk = 0 ∨ kk = 3) → (kk = 3 ↔ ∃ i, 0 ≤ i ∧ i < j ∧ M 180 (10 * T + i) = M 151 a) → Kv (up_ (up_ (Qn_ M 1 kk (M 150 a)) 188 (10 * T + j) (M 6 75)) 189 (10 * T + j) x1)) :
    ∀ (n : Nat) (k kk : Int), (n : Int) + k = m → 0 ≤ k → (kk = 0 ∨ kk = 3) → (kk = 3 ↔ ∃ i, 0 ≤ i ∧ i < j ∧ i < k ∧ M 180 (10 * T + i) = M 151 a) → V 61 [rr 6, ii x1, ii a, ii k, none] [] (if k ≤ j then Qn_ M 1 kk (M 150 a) else up_ (up_ (Qn_ M 1 kk (M 150 a)) 188 (10 * T + j) (M 6 75)) 189 (10 * T + j) x1) := by
  intro n
  induction n with
  | zero =>
    intro k kk hn hk hkk hd
    have e61 : ∀ i : Int, i = 61 → (if k ≤ j then Qn_ M 1 kk (M 150 a) else up_ (up_ (Qn_ M 1 kk (M 150 a)) 188 (10 * T + j) (M 6 75)) 189 (10 * T + j) x1) 6 i = T := fun i hi => by
      rw [if_neg (by omega), up_ne (by decide), up_ne (by decide), hi, Qn_6 (by decide) (by decide)]; exact h61
    refine b_262_61 (Tr_mono _) hV hW _ _ _ _ ?_
    rw [e61 61 rfl]
    refine ⟨hT0, ?_⟩
    rw [if_neg (c := k ≤ j) (by omega)]
    have e175 : up_ (up_ (Qn_ M 1 kk (M 150 a)) 188 (10 * T + j) (M 6 75)) 189 (10 * T + j) x1 175 T = m := by rw [up_ne (by decide), up_ne (by decide), Qn_r (by decide)]; exact hm.1
    rw [e175, if_neg (by omega)]
    exact rv_i (hfin kk hkk ⟨fun e => by obtain ⟨i, g1, g2, g3, g4⟩ := hd.mp e; exact ⟨i, g1, g2, g4⟩, fun ⟨i, g1, g2, g4⟩ => hd.mpr ⟨i, g1, g2, by (clear hV hW h16 h61 hT0 hm ha hat hfin hk hkk hd e61 g1 g4; omega), g4⟩⟩)
  | succ n ih =>
    intro k kk hn hk hkk hd
    have hkm : k < m := by (clear hV hW h16 h61 hT0 hm hj ha hat hfin ih hk hkk hd; omega)
    have r6 : ∀ r : Nat, r ≠ 6 → r ≠ 188 → r ≠ 189 → (if k ≤ j then Qn_ M 1 kk (M 150 a) else up_ (up_ (Qn_ M 1 kk (M 150 a)) 188 (10 * T + j) (M 6 75)) 189 (10 * T + j) x1) r = M r := fun r h6 h8 h9 => by
      by_cases c : k ≤ j
      · rw [if_pos c, Qn_r h6]
      · rw [if_neg c, up_ne h9, up_ne h8, Qn_r h6]
    have e6 : ∀ i : Int, i ≠ 13 → i ≠ 14 → (if k ≤ j then Qn_ M 1 kk (M 150 a) else up_ (up_ (Qn_ M 1 kk (M 150 a)) 188 (10 * T + j) (M 6 75)) 189 (10 * T + j) x1) 6 i = M 6 i := fun i h3 h4 => by
      by_cases c : k ≤ j
      · rw [if_pos c, Qn_6 h3 h4]
      · rw [if_neg c, up_ne (by decide), up_ne (by decide), Qn_6 h3 h4]
    have hin : w32 (w32 (10 * T) + k) = 10 * T + k := by rw [w32_id (x := 10 * T) (by omega) (by omega), w32_id (by omega) (by (clear hV hW h16 h61 ha hat hfin ih hk hkk hd r6 e6; omega))]
    have hk1 : w32 (k + 1) = k + 1 := w32_id (by (clear hV hW h16 h61 hT0 hm hj ha hat hfin ih hn hkk hd hkm r6 e6; lia)) (by omega)
    have hb60 : 0 ≤ 10 * T + k ∧ 10 * T + k < 60 := by (clear hV hW h16 h61 ha hat hfin ih hkk hd r6 e6; lia)
    have q := hat k hk hkm
    -- the second half of a turn
    have half : ∀ kk', (kk' = 0 ∨ kk' = 3) → (kk' = 3 ↔ ∃ i, 0 ≤ i ∧ i < j ∧ i < k + 1 ∧ M 180 (10 * T + i) = M 151 a) → V 129 [rr 6, ii x1, ii a, ii k, ii (10 * T + k)] [] (if k ≤ j then Qn_ M 1 kk' (M 150 a) else up_ (up_ (Qn_ M 1 kk' (M 150 a)) 188 (10 * T + j) (M 6 75)) 189 (10 * T + j) x1) := by
      intro kk' hkk' hd'
      have := ih (k + 1) kk' (by (clear hV hW h16 h61 hT0 hm hj ha hat hfin ih hk hkk hd hkm r6 e6 hin hk1 hb60 q hkk' hd'; lia)) (by (clear hV hW h16 h61 hT0 hm hj ha hat hfin ih hn hkk hd hkm r6 e6 hb60 q hkk' hd'; lia)) hkk' hd'
      refine b_262_129 (Tr_mono _) hV hW _ _ _ _ _ ⟨hb60, ha, ?_⟩
      by_cases c : k = j
      · have c1 : k ≤ j := by (clear hV hW h16 h61 hT0 hm hj ha hat hfin ih hn hk hkk hd hkm r6 e6 hb60 q hkk' hd' this; lia)
        rw [if_pos c1, Qn_r (by decide), Qn_r (by decide), if_pos (q.1.mpr c)]
        rw [if_neg (by (clear hV hW h16 h61 hT0 hm hj ha hat hfin ih hn hk hkk hd hkm r6 e6 hb60 q hkk' hd' this c1; lia))] at this
        refine ⟨hb60, hb60, ?_⟩
        rw [hk1, Qn_6 (by decide) (by decide)]
        rw [← c] at this
        exact this
      · have e187 : (if k ≤ j then Qn_ M 1 kk' (M 150 a) else up_ (up_ (Qn_ M 1 kk' (M 150 a)) 188 (10 * T + j) (M 6 75)) 189 (10 * T + j) x1) 187 = M 187 := by
          by_cases c2 : k ≤ j
          · rw [if_pos c2, Qn_r (by decide)]
          · rw [if_neg c2, up_ne (by decide), up_ne (by decide), Qn_r (by decide)]
        have e150 : (if k ≤ j then Qn_ M 1 kk' (M 150 a) else up_ (up_ (Qn_ M 1 kk' (M 150 a)) 188 (10 * T + j) (M 6 75)) 189 (10 * T + j) x1) 150 = M 150 := by
          by_cases c2 : k ≤ j
          · rw [if_pos c2, Qn_r (by decide)]
          · rw [if_neg c2, up_ne (by decide), up_ne (by decide), Qn_r (by decide)]
        rw [e187, e150, if_neg (fun e => c (q.1.mp e)), hk1]
        have e : (if k ≤ j then Qn_ M 1 kk' (M 150 a) else up_ (up_ (Qn_ M 1 kk' (M 150 a)) 188 (10 * T + j) (M 6 75)) 189 (10 * T + j) x1) = (if k + 1 ≤ j then Qn_ M 1 kk' (M 150 a) else up_ (up_ (Qn_ M 1 kk' (M 150 a)) 188 (10 * T + j) (M 6 75)) 189 (10 * T + j) x1) := by
          by_cases c2 : k ≤ j
          · rw [if_pos c2, if_pos (by (clear hV hW h16 h61 hT0 hm hj ha hat hfin ih hn hk hkk hd hkm r6 e6 hb60 q hkk' hd' this e187 e150; lia))]
          · rw [if_neg c2, if_neg (by (clear hV hW h16 h61 hT0 hm hj ha hat hfin ih hn hk hkk hd hkm r6 e6 hb60 q hkk' hd' this c e187 e150; lia))]
        rw [e]; exact this
    refine b_262_61 (Tr_mono _) hV hW _ _ _ _ ?_
    rw [e6 61 (by decide) (by decide), h61, r6 175 (by decide) (by decide) (by decide), hm.1, r6 180 (by decide) (by decide) (by decide), r6 151 (by decide) (by decide) (by decide), r6 187 (by decide) (by decide) (by decide), r6 150 (by decide) (by decide) (by decide), hin]
    refine ⟨hT0, ?_⟩
    rw [if_pos hkm]
    refine ⟨hb60, ha, ?_⟩
    by_cases c : M 180 (10 * T + k) = M 151 a
    · have e1 : (if M 180 (10 * T + k) < M 151 a then (-1 : Int) else if M 180 (10 * T + k) = M 151 a then 0 else 1) = 0 := by rw [if_neg (by (clear hV hW h16 h61 hT0 hm hj ha hat hfin ih hn hk hkk hd hkm r6 e6 hin hk1 hb60 q half; omega)), if_pos c]
      rw [if_pos e1]
      refine ⟨hb60, ha, ?_⟩
      by_cases c2 : M 187 (10 * T + k) < M 150 a
      · have kj : k < j := by
          by_cases c3 : k = j
          · have := q.1.mpr c3; (clear hV hW h16 h61 hT0 hm hj ha hat hfin ih hn hk hkk hd hkm r6 e6 hin hk1 hb60 q half c e1 c3; lia)
          · by_cases c4 : k < j
            · exact c4
            · have := q.2.2 (by (clear hV hW h16 h61 hT0 hm hj ha hat hfin ih hn hk hkk hd hkm r6 e6 hb60 q half c e1 c2; omega)); (clear hV hW h16 h61 hT0 hm hj ha hat hfin ih hn hk hkk hd hkm r6 e6 hin hk1 hb60 q half c e1 c3 c4; omega)
        rw [if_pos c2]
        refine ⟨ha, q_236 ?_⟩
        have := half 3 (.inr rfl) ⟨fun _ => ⟨k, hk, kj, by (clear hV hW h16 h61 hT0 hm hj ha hat hfin ih hn hk hkk hd hkm r6 e6 hin hk1 hb60 q half c e1 c2 kj; lia), c⟩, fun _ => rfl⟩
        rw [if_pos (by omega)] at this ⊢
        have en : nt_ (Qn_ M 1 kk (M 150 a)) 3 (M 150 a) = Qn_ M 1 3 (M 150 a) := by
          unfold Qn_
          rw [if_neg (c := (1 : Int) = 0 ∨ (3 : Int) = 0) (by decide)]
          rcases hkk with e | e
          · rw [if_pos (.inr e)]
          · rw [if_neg (by (clear hV hW h16 h61 hT0 hm hj ha hat hfin ih hn hk hd hkm r6 e6 hin hk1 hb60 q half c e1 c2 kj this; lia)), e, nt_nt]
        rw [en]; exact this
      · rw [if_neg c2]; exact half kk hkk ⟨fun e => by obtain ⟨i, g1, g2, g3, g4⟩ := hd.mp e; exact ⟨i, g1, g2, by (clear hV hW h16 h61 hT0 hm hj ha hat hfin ih hn hk hkk hd hkm r6 e6 hb60 q half c e1 c2 e g1 g2 g4; lia), g4⟩, fun ⟨i, g1, g2, g3, g4⟩ => hd.mpr ⟨i, g1, g2, by
          by_cases e : i = k
          · rw [e] at g2; exact absurd (q.2.1 g2) c2
          · (clear hV hW h16 h61 hT0 hm hj ha hat hfin ih hn hk hkk hd hkm r6 e6 hb60 q half c e1 c2 g1 g2 g4; lia), g4⟩⟩
    · have e1 : (if M 180 (10 * T + k) < M 151 a then (-1 : Int) else if M 180 (10 * T + k) = M 151 a then 0 else 1) ≠ 0 := by
        rw [if_neg c]; split <;> omega
      rw [if_neg e1]; exact half kk hkk ⟨fun e => by obtain ⟨i, g1, g2, g3, g4⟩ := hd.mp e; exact ⟨i, g1, g2, by omega, g4⟩, fun ⟨i, g1, g2, g3, g4⟩ => hd.mpr ⟨i, g1, g2, by
        by_cases e : i = k
        · rw [e] at g4; exact absurd g4 c
        · omega, g4⟩⟩
end LB
end T124_lb
section T125_lb
/-! a label of X and of Q -/
def LBR [Inhabited gh_] (b F F' : Int) (Mx Mq Mx' Mq' : mm_) (a o me : Int) : Prop :=
  (F' ≤ F ∧ (b = 1 → F' = F)) ∧ ER b F' Mx' Mq' (a + 2) o ∧ LBT b F' Mx' Mq' (a + 2) ∧ (Fr_ [1, 62, 64, 128, 129] Mx Mx' ∧ ∀ i : Int, i ≠ 3 → i ≠ 4 → i ≠ 5 → i ≠ 7 → i ≠ 19 → Mx' 1 i = Mx 1 i) ∧ (Mx 1 7 ≤ Mx' 1 7 ∧ Mx' 1 7 ≤ Mx 1 7 + 1) ∧ (Fr_ [6, 175, 180, 187, 188, 189] Mq Mq' ∧ ∀ i : Int, i ≠ 12 → i ≠ 13 → i ≠ 14 → Mq' 6 i = Mq 6 i)
  ∧ (b = 0 → (Mx' 128 (Mx 1 18) = Mx 128 (Mx 1 18) + 1 ∧ ∀ i, i ≠ Mx 1 18 → Mx' 128 i = Mx 128 i) ∧ (Mx' 62 (10 * Mx 1 18 + Mx 128 (Mx 1 18)) = a ∧ ∀ i, i ≠ 10 * Mx 1 18 + Mx 128 (Mx 1 18) → Mx' 62 i = Mx 62 i) ∧ Mx' 64 = Mx 64 ∧ Mx' 129 = Mx 129 ∧ Mx' 1 19 = Mx 1 19 ∧ Mq' 188 = Mq 188 ∧ Mq' 189 = Mq 189 ∧ (∀ i, i ≠ Mx 1 18 → Mq' 175 i = Mq 175 i) ∧ (∀ i, i ≠ 10 * Mx 1 18 + Mx 128 (Mx 1 18) → Mq' 180 i = Mq 180 i ∧ Mq' 187 i = Mq 187 i))
  ∧ (b = 1 → Mx' 62 = Mx 62 ∧ Mx' 128 = Mx 128 ∧ Mx' 1 19 = Mx 1 19 + 1 ∧ (Mx' 129 (10 * Mx 1 18 + Mx 1 19) = Mx 5 3 ∧ ∀ i, i ≠ 10 * Mx 1 18 + Mx 1 19 → Mx' 129 i = Mx 129 i) ∧ (Mx' 64 (Mx 1 29 - 1) = or_ (Mx 64 (Mx 1 29 - 1)) (sl_ 1 (Mx 1 19)) ∧ ∀ i, i ≠ Mx 1 29 - 1 → Mx' 64 i = Mx 64 i)
    ∧ Mq' 175 = Mq 175 ∧ Mq' 180 = Mq 180 ∧ Mq' 187 = Mq 187 ∧ (Mq' 188 (10 * Mx 1 18 + Mx 1 19) = Mq 6 75 ∧ Mq' 189 (10 * Mx 1 18 + Mx 1 19) = me) ∧ (∀ i, i ≠ 10 * Mx 1 18 + Mx 1 19 → Mq' 188 i = Mq 188 i ∧ Mq' 189 i = Mq 189 i) ∧ (Mq' 6 13 = 0 → Mq 6 13 = 0))
section LB
variable {d dq n : Nat} {b F F' : Int} {Mx Mq Mx1 Mq1 M : mm_} {a a1 o j p me T : Int} {K : Int → mm_ → Prop} {Kv G : mm_ → Prop} {Qt : qt_} {V : vv_}
theorem y_137p [Inhabited gh_] (h : TA b F Mx Mq a o) (hb : b = 0) (hL : LBT b F Mx Mq a) (hk : Mx 70 a = 100) (hk1 : Mx 70 (a + 1) = 258) (h12 : a < 1200) (hfl : Mx 1 7 + 8 * (1201 - a) + 1 ≤ 1000001000 - (gg_ : Int))
    (hK : ∀ F' Mx' Mq', LBR b F F' Mx Mq Mx' Mq' a o me → (a + 1 < 1200) → (∀ (Kv : mm_ → Prop) (Qtq : qt_), Kv Mq' → Tr_ wd0 pg0 (dq + 4) 262 [.inr (.inr 6), .inl me] Mq (rv_ Kv) Qtq) → Kv Mx')
    (hQ : ∀ Mx', XA Mx Mx' → (∀ (Kv : mm_ → Prop) (Qtq : qt_), (∀ M', SQ Mx' Mq M' → Kv M') → Tr_ wd0 pg0 (dq + 4) 262 [.inr (.inr 6), .inl me] Mq (rv_ Kv) Qtq) → Qt 8 Mx') :
    Tr_ wd0 pg0 (d + 3) 137 [.inr (.inr 1)] Mx (rv_ Kv) Qt := by
  obtain ⟨hT, hVT, hE, h75, h104, h53⟩ := h
  have hER := hE
  have e3 := hE.2.1
  have h8 : Mx 1 8 = 0 := by rw [hE.2.2.2.2.2.2.1]; exact hb
  have h16 : Mq 6 16 = 0 := by rw [hE.2.2.2.2.2.2.2.1]; exact hb
  have h13 : Mq 6 13 = 0 := hE.2.2.2.2.2.2.2.2.2.1 hb
  have hga := hE.1
  have hpa := tk_p hT hga
  have ha0 := ER_a hE
  have hE1 := (ER_go hE h12 (by omega)).1
  obtain ⟨hl9, hl2, hlg⟩ := hL
  have hTT : Mq 6 61 = Mx 1 18 := hVT.2.1
  have hT0 : 0 ≤ Mx 1 18 ∧ Mx 1 18 < 6 := ⟨hVT.2.2.1, hVT.2.2.2.1⟩
  have hc := hl9.1
  have hq175 : Mq 175 (Mx 1 18) = Mx 128 (Mx 1 18) := hc.2.2
  have hp0 : Mq 150 a = Mx 71 a := (hT a hga).2.1.symm
  have hnm : nm9_ Mx a := ⟨hga, hk⟩
  have hb71 := hE.2.2.2.2.2.2.2.2.2.2.2.1
  have hb72 := hE.2.2.2.2.2.2.2.2.2.2.2.2.1
  have ha12 : 0 ≤ a ∧ a < 1202 := by (clear hb hk hk1 hfl hK hQ hT hVT hE h75 h104 h53 hER h8 h16 h13 hga hpa hE1 hl9 hl2 hlg hTT hT0 hc hq175 hp0 hnm hb71 hb72; omega)
  have go1 : ∀ (Kv : mm_ → Prop) (Qtq : qt_) (V : vv_), (Mq 175 (Mx 1 18) ≠ 10 → V 46 [rr 6, ii me, ii a, none, none] [] (nx_ Mq)) → (Mq 175 (Mx 1 18) = 10 → rv_ Kv [] (bf_ (nx_ Mq) 2 (Mx 71 a))) → Cl_ wd0 (Tr_ wd0 pg0 (dq + 3)) V (rv_ Kv) Qtq m_262 → Wk_ V → V 0 [rr 6, ii me, none, none, none] [] Mq := by
    intro Kv Qtq V hg hs hV hW
    refine b_262_0 (Tr_mono _) hV hW _ _ (j_233t hT hE hk h12 (q_227g (ER_goq hE1) ?_))
    rw [if_pos rfl]
    intro _
    have e61 : nx_ Mq 6 61 = Mx 1 18 := by rw [nx_6 (by decide)]; exact hTT
    have e175 : nx_ Mq 175 = Mq 175 := nx_ne (by decide)
    have e150 : nx_ Mq 150 a = Mx 71 a := by rw [nx_ne (by decide)]; exact hp0
    rw [if_pos (by rw [nx_6 (by decide)]; exact h16), e61, e175, e150]
    refine ⟨hT0, ?_⟩
    by_cases c : Mq 175 (Mx 1 18) = 10
    · rw [if_pos c]
      exact ⟨ha12, q_231o (by rw [nx_6 (by decide)]; exact h13) (hs c)⟩
    · rw [if_neg c]; exact hg c
  refine t_137 fun V hV hW => b_137_0 (Tr_mono _) hV hW Mx ?_
  intro _
  rw [if_pos h8, e3]
  refine ⟨hVT.1, hT0, ?_⟩
  by_cases c10 : Mx 128 (Mx 1 18) = 10
  · rw [if_pos c10]
    refine x_110 ha12.1 ha12.2 (fun e => absurd e (by decide)) (fun _ => ?_)
    refine hQ _ (XF_XA fl_XF) fun Kv Qtq hk9 => t_262 fun V hV hW => go1 Kv Qtq V (fun e => absurd (by (clear hb hk hk1 h12 hfl hK hQ hT hVT hE h75 h104 h53 hER e3 h8 h16 h13 hga hpa ha0 hE1 hl9 hl2 hlg hTT hT0 hq175 hp0 hnm hb71 hb72 ha12 go1 hk9 hV hW e; omega)) e) (fun _ => rv_i (hk9 _ ?_)) hV hW
    have hsp := sp_bf (k := 2) (p := Mx 71 a) hE1 hb (by decide)
    exact ⟨hsp.1, hsp.2, by rw [bf_13, fl_4], ⟨by rw [bf_14, fl_5], fl_b7 hE⟩, QA_tr (QF_QA nx_QF) (QF_QA bf_QF)⟩
  rw [if_neg c10]
  have hc10 : Mx 128 (Mx 1 18) < 10 := by (clear hb hk hk1 h12 hfl hK hQ hT hVT hE h75 h104 h53 hER e3 h8 h16 h13 hga hpa ha0 hE1 hl9 hl2 hlg hTT hT0 hq175 hp0 hnm hb71 hb72 ha12 go1 hV hW; lia)
  refine x_110 ha12.1 ha12.2 (fun _ => ?_) (fun e => absurd rfl e)
  refine b_137_41 (Tr_mono _) hV hW _ _ _ ?_
  refine x_113R hT hVT hl9 hnm ?_
  -- what X has noted
  obtain ⟨M1, F', hM1, hE2, hM1r, hM1i, h7b, hF1, hF2, hF3⟩ : ∃ (M1 : mm_) (F' : Int), (V 68 [rr 1, ii a, ii (Mx 128 (Mx 1 18))] [] M1 → (if lbl Mq (Mq 151 a) = -1 then V 68 [rr 1, ii a, ii (Mx 128 (Mx 1 18))] [] Mx else Tr_ wd0 pg0 (d + 2) 116 [.inr (.inr 1), .inl 3, .inl a] Mx (rv_ fun M2 => V 68 [rr 1, ii a, ii (Mx 128 (Mx 1 18))] [] M2) Qt))
      ∧ ER b F' M1 Mq a o ∧ (∀ r : Nat, r ≠ 1 → M1 r = Mx r) ∧ (∀ i : Int, i ≠ 4 → i ≠ 5 → i ≠ 7 → M1 1 i = Mx 1 i) ∧ (Mx 1 7 ≤ M1 1 7 ∧ M1 1 7 ≤ Mx 1 7 + 1) ∧ F' ≤ F ∧ (lbl Mq (Mq 151 a) ≠ -1 → F' ≤ 8 * Mx 71 a + 3) ∧ (F' = F ∨ (lbl Mq (Mq 151 a) ≠ -1 ∧ F' = 8 * Mx 71 a + 3)) := by
    by_cases c : lbl Mq (Mq 151 a) = -1
    · refine ⟨Mx, F, fun h => by rw [if_pos c]; exact h, hE, fun _ _ => rfl, fun _ _ _ _ => rfl, by omega, Int.le_refl _, fun e => absurd c e, .inl rfl⟩
    · refine ⟨nt1_ Mx 3 a, min F (8 * Mx 71 a + 3), fun h => by rw [if_neg c]; exact x_116 ha12.1 ha12.2 (ER_fl hE).1 (ER_fl hE).2 h, ER_n1 hE hb (by decide) hpa (by (clear hb hk hk1 h12 hK hQ hT hVT hE h75 h104 h53 hER h8 h16 h13 hga hpa ha0 hE1 hl9 hl2 hlg hTT hT0 hc hq175 hp0 hnm hb71 hb72 ha12 go1 hV hW c10 hc10 c; lia)), fun r hr => nt1_r hr, fun i a b c => nt1_1 a b c, by rw [nt1_7]; omega, by (clear hb hk hk1 h12 hfl hK hQ hT hVT hE h75 h104 h53 hER e3 h8 h16 h13 hga hpa ha0 hE1 hl9 hl2 hlg hTT hT0 hc hq175 hnm hb71 hb72 ha12 go1 hV hW c10 hc10 c; omega), fun _ => by (clear hb hk hk1 h12 hfl hK hQ hT hVT hE h75 h104 h53 hER e3 h8 h16 h13 hga hpa ha0 hE1 hl9 hl2 hlg hTT hT0 hc hq175 hnm hb71 hb72 ha12 go1 hV hW c10 hc10 c; omega), by (clear hb hk hk1 h12 hfl hK hQ hT hVT hE h75 h104 h53 hER e3 h8 h16 h13 hga hpa ha0 hE1 hl9 hl2 hlg hTT hT0 hc hq175 hnm hb71 hb72 ha12 go1 hV hW c10 hc10; lia)⟩
  refine hM1 ?_
  have i10 : w32 (w32 (10 * Mx 1 18) + Mx 128 (Mx 1 18)) = 10 * Mx 1 18 + Mx 128 (Mx 1 18) := by rw [w32_id (x := 10 * Mx 1 18) (by (clear hb hk hk1 h12 hfl hK hQ hT hVT hE h75 h104 h53 hER e3 h8 h16 h13 hga hpa ha0 hE1 hl9 hl2 hlg hTT hc hq175 hp0 hnm hb71 hb72 ha12 go1 hV hW c10 hc10 hM1 hE2 hM1r hM1i h7b hF1 hF2 hF3; lia)) (by (clear hb hk hk1 h12 hfl hK hQ hT hVT hE h75 h104 h53 hER e3 h8 h16 h13 hga hpa ha0 hE1 hl9 hl2 hlg hTT hc hq175 hp0 hnm hb71 hb72 ha12 go1 hV hW c10 hc10 hM1 hE2 hM1r hM1i h7b hF1 hF2 hF3; omega)), w32_id (by (clear hb hk hk1 h12 hfl hK hQ hT hVT hE h75 h104 h53 hER e3 h8 h16 h13 hga hpa ha0 hE1 hl9 hl2 hlg hTT hq175 hp0 hnm hb71 hb72 ha12 go1 hV hW c10 hM1 hE2 hM1r hM1i h7b hF1 hF2 hF3; lia)) (by (clear hb hk hk1 h12 hfl hK hQ hT hVT hE h75 h104 h53 hER e3 h8 h16 h13 hga hpa ha0 hE1 hl9 hl2 hlg hTT hq175 hp0 hnm hb71 hb72 ha12 go1 hV hW c10 hM1 hE2 hM1r hM1i h7b hF1 hF2 hF3; omega))]
  have ei1 : w32 (Mx 128 (Mx 1 18) + 1) = Mx 128 (Mx 1 18) + 1 := w32_id (by (clear hb hk hk1 h12 hfl hK hQ hT hVT hE h75 h104 h53 hER e3 h8 h16 h13 hga hpa ha0 hE1 hl9 hl2 hlg hTT hT0 hq175 hp0 hnm hb71 hb72 ha12 go1 hV hW c10 hM1 hE2 hM1r hM1i h7b hF1 hF2 hF3; lia)) (by (clear hb hk hk1 h12 hfl hK hQ hT hVT hE h75 h104 h53 hER e3 h8 h16 h13 hga hpa ha0 hE1 hl9 hl2 hlg hTT hT0 hq175 hp0 hnm hb71 hb72 ha12 go1 hV hW c10 hM1 hE2 hM1r hM1i h7b hF1 hF2 hF3; lia))
  refine b_137_68 (Tr_mono _) hV hW _ _ _ ?_
  rw [hM1i 18 (by decide) (by decide) (by decide), hM1i 2 (by decide) (by decide) (by decide), hM1r 128 (by decide), i10, ei1]
  refine ⟨by (clear hb hk hk1 h12 hfl hK hQ hT hVT hE h75 h104 h53 hER e3 h8 h16 h13 hga hpa ha0 hE1 hl9 hl2 hlg hTT hq175 hp0 hnm hb71 hb72 ha12 go1 hV hW c10 hM1 hE2 hM1r hM1i h7b hF1 hF2 hF3; lia), hVT.1, hT0, hT0, ?_⟩
  -- the table
  have hl9' := hl9.2
  generalize hTk : Mx 1 18 = T at *
  generalize hKk : Mx 128 T = k0 at *
  have x70 : up_ (up_ M1 62 (10 * T + k0) a) 128 T (k0 + 1) 70 = Mx 70 := by rw [up_ne (by decide), up_ne (by decide), hM1r 70 (by decide)]
  have x71 : up_ (up_ M1 62 (10 * T + k0) a) 128 T (k0 + 1) 71 = Mx 71 := by rw [up_ne (by decide), up_ne (by decide), hM1r 71 (by decide)]
  have hE3 : ER b F' (up_ (up_ M1 62 (10 * T + k0) a) 128 T (k0 + 1)) Mq a o := ER_X2 hE2 (by rw [up_ne (by decide), up_ne (by decide)]) (fun i _ _ => by rw [up_ne (by decide), up_ne (by decide)]) (by rw [up_ne (by decide), up_ne (by decide)]) (by rw [up_ne (by decide), up_ne (by decide)])
  have hT3 : Tks (up_ (up_ M1 62 (10 * T + k0) a) 128 T (k0 + 1)) Mq := by
    unfold Tks gd_ lk9_ at *
    have z : ∀ r : Nat, r = 69 ∨ r = 70 ∨ r = 71 ∨ r = 72 ∨ r = 73 → up_ (up_ M1 62 (10 * T + k0) a) 128 T (k0 + 1) r = Mx r := fun r hr => by rw [up_ne (by (clear hb hk hk1 h12 hfl hK hQ hT hVT hE h75 h104 h53 hER e3 h8 h16 h13 hga hpa ha0 hE1 hl9 hlg hp0 hnm hb71 hb72 ha12 hV hW hE2 hM1r hM1i h7b hF1 hF2 hF3 hTk hTT hT0 go1 hKk hl2 hc hq175 c10 hc10 hM1 i10 ei1 hl9' x70 x71 hE3; lia)), up_ne (by (clear hb hk hk1 h12 hfl hK hQ hT hVT hE h75 h104 h53 hER e3 h8 h16 h13 hga hpa ha0 hE1 hl9 hlg hp0 hnm hb71 hb72 ha12 hV hW hE2 hM1r hM1i h7b hF1 hF2 hF3 hTk hTT hT0 go1 hKk hl2 hc hq175 c10 hc10 hM1 i10 ei1 hl9' x70 x71 hE3; lia)), hM1r r (by (clear hb hk hk1 h12 hfl hK hQ hT hVT hE h75 h104 h53 hER e3 h8 h16 h13 hga hpa ha0 hE1 hl9 hlg hp0 hnm hb71 hb72 ha12 hV hW hE2 hM1r hM1i h7b hF1 hF2 hF3 hTk hTT hT0 go1 hKk hl2 hc hq175 c10 hc10 hM1 i10 ei1 hl9' x70 x71 hE3; lia))]
    rw [z 69 (by decide), z 70 (by decide), z 71 (by decide), z 72 (by decide), z 73 (by decide)]
    exact hT
  have x1i : ∀ i : Int, i ≠ 4 → i ≠ 5 → i ≠ 7 → up_ (up_ M1 62 (10 * T + k0) a) 128 T (k0 + 1) 1 i = Mx 1 i := fun i a b c => by rw [up_ne (by decide), up_ne (by decide), hM1i i a b c]
  have x17 : up_ (up_ M1 62 (10 * T + k0) a) 128 T (k0 + 1) 1 7 = M1 1 7 := by rw [up_ne (by decide), up_ne (by decide)]
  have x62 : up_ (up_ M1 62 (10 * T + k0) a) 128 T (k0 + 1) 62 (10 * T + k0) = a ∧ ∀ i, i ≠ 10 * T + k0 → up_ (up_ M1 62 (10 * T + k0) a) 128 T (k0 + 1) 62 i = Mx 62 i := ⟨by rw [up_ne (by decide), up_at], fun i hi => by rw [up_ne (by decide), up_off hi, hM1r 62 (by decide)]⟩
  have x128 : up_ (up_ M1 62 (10 * T + k0) a) 128 T (k0 + 1) 128 T = k0 + 1 ∧ ∀ i, i ≠ T → up_ (up_ M1 62 (10 * T + k0) a) 128 T (k0 + 1) 128 i = Mx 128 i := ⟨by rw [up_at], fun i hi => by rw [up_off hi, up_ne (by decide), hM1r 128 (by decide)]⟩
  have xr : ∀ r : Nat, r ≠ 1 → r ≠ 62 → r ≠ 128 → up_ (up_ M1 62 (10 * T + k0) a) 128 T (k0 + 1) r = Mx r := fun r h1 h2 h3 => by rw [up_ne h3, up_ne h2, hM1r r h1]
  have hXA3 : XA Mx (up_ (up_ M1 62 (10 * T + k0) a) 128 T (k0 + 1)) := ⟨fun r hr => xr r (fun e => hr (by rw [e]; decide)) (fun e => hr (by rw [e]; decide)) (fun e => hr (by rw [e]; decide)), fun i hi => x1i i (nm_i hi (by decide)) (nm_i hi (by decide)) (nm_i hi (by decide)), fun i _ => by rw [xr 5 (by decide) (by decide) (by decide)]⟩
  generalize up_ (up_ M1 62 (10 * T + k0) a) 128 T (k0 + 1) = M3 at *
  refine y_105 hE3 (by rw [x70]; (clear hb hk1 h12 hfl hK hQ hT hVT hE h75 h104 h53 hER e3 h8 h16 h13 hga hpa ha0 hE1 hl9 hlg hp0 hnm hb71 hb72 ha12 hV hW hE2 hM1r hM1i h7b hF1 hF2 hF3 hTk hTT hT0 go1 hKk hl2 hc hq175 c10 hc10 hM1 i10 ei1 hl9' x70 x71 hE3 hT3 x1i x17 x62 x128 xr hXA3; lia)) (fun hb1 => by omega) (fun _ hE4 => ?_) (fun _ h12' => by (clear hb hk hk1 hfl hK hQ hT hVT hE h75 h104 h53 hER h8 h16 h13 hga hpa hE1 hl9 hlg hp0 hnm hb71 hb72 ha12 hV hW hE2 hM1r hM1i h7b hF1 hF2 hF3 hTk hTT hT0 go1 hKk hl2 hc hq175 c10 hc10 hM1 i10 ei1 hl9' x70 x71 hE3 hT3 x1i x17 x128 xr hXA3; omega))
  have y70 : nX_ M3 70 = Mx 70 := by rw [nX_ne (by decide)]; exact x70
  have y71 : nX_ M3 71 = Mx 71 := by rw [nX_ne (by decide)]; exact x71
  have hT4 : Tks (nX_ M3) (nx_ Mq) := Tks_c nX_XF nx_QF hT3
  refine y_105 hE4 (by rw [y70, hk1]; decide) (fun hb1 => by omega) (fun h13' hE5 => ?_) (fun _ h13' => ?_)
  rotate_left
  · refine hQ _ (XA_tr (XA_tr hXA3 (XF_XA nX_XF)) (XF_XA fl_XF)) fun Kv Qtq hk9 => t_262 fun V hV hW => go1 Kv Qtq V (fun _ => ?_) (fun e => absurd (by (clear hb hk hk1 h12 hfl hK hQ hT hVT hE h75 h104 h53 hER e3 h8 h16 h13 hga hpa ha0 hE1 hl9 hlg hp0 hnm hb71 hb72 ha12 hE2 hM1r hM1i h7b hF1 hF2 hF3 hTk hT0 go1 hKk hl2 hq175 c10 hM1 hl9' x70 x71 hE3 hT3 x1i x17 x62 xr hXA3 hE4 y70 y71 hT4 h13' hk9 hV hW; lia)) c10) hV hW
    have hsp := SQ_bf hE4 hb (k := 2) (by decide) (QF_QA (M := Mq) nx_QF)
    refine b_262_46 (Tr_mono _) hV hW _ _ _ (j_244r hT4 hE4 hb (by decide) (by rw [y70]; exact hk1) h13' ?_)
    intro _
    rw [if_pos (by rw [bf_6 (by decide) (by decide), nx_6 (by decide)]; exact h16)]
    refine q_227s hsp.1 ?_
    rw [if_neg (by decide)]
    exact rv_i (hk9 _ hsp)
  refine rv_i (hK F' _ (up_ (up_ (up_ (nx_ (nx_ Mq)) 180 (10 * T + k0) (Mq 151 a)) 187 (10 * T + k0) (Mx 71 a)) 175 T (k0 + 1)) ?_ h13' (fun Kv Qtq hk9 => t_262 fun V hV hW => go1 Kv Qtq V (fun _ => ?_) (fun e => absurd (by omega) c10) hV hW))
  rotate_left
  · refine b_262_46 (Tr_mono _) hV hW _ _ _ (j_244t hT4 hE4 (by decide) (by rw [y70]; exact hk1) h13' ?_)
    have z6 : ∀ i : Int, i ≠ 12 → nx_ (nx_ Mq) 6 i = Mq 6 i := fun i hi => by rw [nx_6 hi, nx_6 hi]
    have zr : ∀ r : Nat, r ≠ 6 → nx_ (nx_ Mq) r = Mq r := fun r hr => by rw [nx_ne hr, nx_ne hr]
    intro _
    rw [if_pos (by rw [z6 16 (by decide)]; exact h16)]
    refine q_227g (ER_goq hE5) ?_
    rw [if_pos rfl, z6 61 (by decide), hTT, zr 175 (by decide), hq175, zr 151 (by decide), zr 150 (by decide), i10, hp0, ei1]
    exact ⟨hT0, ha12, by (clear hb hk hk1 h12 hfl hK hQ hT hVT hE h75 h104 h53 hER e3 h8 h16 h13 hga hpa ha0 hE1 hl9 hlg hp0 hnm hb71 hb72 ha12 hE2 hM1r hM1i h7b hF1 hF2 hF3 hTk go1 hKk hl2 hq175 c10 hM1 hl9' x70 x71 hE3 hT3 x1i x17 x62 xr hXA3 hE4 y70 y71 hT4 h13' hE5 hk9 hV hW z6 zr; lia), hT0, ha12, by omega, hT0, hT0, rv_i hk9⟩
  -- what holds then
  have w6 : ∀ i : Int, i ≠ 12 → up_ (up_ (up_ (nx_ (nx_ Mq)) 180 (10 * T + k0) (Mq 151 a)) 187 (10 * T + k0) (Mx 71 a)) 175 T (k0 + 1) 6 i = Mq 6 i := fun i hi => by rw [up_ne (by decide), up_ne (by decide), up_ne (by decide), nx_6 hi, nx_6 hi]
  have wr : ∀ r : Nat, r ≠ 6 → r ≠ 180 → r ≠ 187 → r ≠ 175 → up_ (up_ (up_ (nx_ (nx_ Mq)) 180 (10 * T + k0) (Mq 151 a)) 187 (10 * T + k0) (Mx 71 a)) 175 T (k0 + 1) r = Mq r := fun r h1 h2 h3 h4 => by rw [up_ne h4, up_ne h3, up_ne h2, nx_ne h1, nx_ne h1]
  have w180 : up_ (up_ (up_ (nx_ (nx_ Mq)) 180 (10 * T + k0) (Mq 151 a)) 187 (10 * T + k0) (Mx 71 a)) 175 T (k0 + 1) 180 (10 * T + k0) = Mq 151 a ∧ ∀ i, i ≠ 10 * T + k0 → up_ (up_ (up_ (nx_ (nx_ Mq)) 180 (10 * T + k0) (Mq 151 a)) 187 (10 * T + k0) (Mx 71 a)) 175 T (k0 + 1) 180 i = Mq 180 i := ⟨by rw [up_ne (by decide), up_ne (by decide), up_at], fun i hi => by rw [up_ne (by decide), up_ne (by decide), up_off hi, nx_ne (by decide), nx_ne (by decide)]⟩
  have w187 : up_ (up_ (up_ (nx_ (nx_ Mq)) 180 (10 * T + k0) (Mq 151 a)) 187 (10 * T + k0) (Mx 71 a)) 175 T (k0 + 1) 187 (10 * T + k0) = Mx 71 a ∧ ∀ i, i ≠ 10 * T + k0 → up_ (up_ (up_ (nx_ (nx_ Mq)) 180 (10 * T + k0) (Mq 151 a)) 187 (10 * T + k0) (Mx 71 a)) 175 T (k0 + 1) 187 i = Mq 187 i := ⟨by rw [up_ne (by decide), up_at], fun i hi => by rw [up_ne (by decide), up_off hi, up_ne (by decide), nx_ne (by decide), nx_ne (by decide)]⟩
  have w175 : up_ (up_ (up_ (nx_ (nx_ Mq)) 180 (10 * T + k0) (Mq 151 a)) 187 (10 * T + k0) (Mx 71 a)) 175 T (k0 + 1) 175 T = k0 + 1 ∧ ∀ i, i ≠ T → up_ (up_ (up_ (nx_ (nx_ Mq)) 180 (10 * T + k0) (Mq 151 a)) 187 (10 * T + k0) (Mx 71 a)) 175 T (k0 + 1) 175 i = Mq 175 i := ⟨by rw [up_at], fun i hi => by rw [up_off hi, up_ne (by decide), up_ne (by decide), nx_ne (by decide), nx_ne (by decide)]⟩
  have hE6 : ER b F' (nX_ (nX_ M3)) (up_ (up_ (up_ (nx_ (nx_ Mq)) 180 (10 * T + k0) (Mq 151 a)) 187 (10 * T + k0) (Mx 71 a)) 175 T (k0 + 1)) (a + 2) o := by
    have := ER_Q (Mq' := up_ (up_ (up_ (nx_ (nx_ Mq)) 180 (10 * T + k0) (Mq 151 a)) 187 (10 * T + k0) (Mx 71 a)) 175 T (k0 + 1)) hE5 (by rw [up_ne (by decide), up_ne (by decide), up_ne (by decide)]) (by rw [up_ne (by decide), up_ne (by decide), up_ne (by decide)]) (by rw [up_ne (by decide), up_ne (by decide), up_ne (by decide)]) (by rw [up_ne (by decide), up_ne (by decide), up_ne (by decide)]) (by rw [up_ne (by decide), up_ne (by decide), up_ne (by decide)])
    rw [show a + 1 + 1 = a + 2 by (clear hb hk hk1 h12 hfl hK hQ hT hVT hE h75 h104 h53 hER e3 h8 h16 h13 hga hpa ha0 hE1 hl9 hlg hp0 hnm hb71 hb72 ha12 hV hW hE2 hM1r hM1i h7b hF1 hF2 hF3 hTk hTT hT0 go1 hKk hl2 hc hq175 c10 hc10 hM1 i10 ei1 hl9' x70 x71 hE3 hT3 x1i x17 x62 x128 xr hXA3 hE4 y70 y71 hT4 h13' hE5 w6 wr w180 w187 w175 this; lia)] at this
    exact this
  generalize up_ (up_ (up_ (nx_ (nx_ Mq)) 180 (10 * T + k0) (Mq 151 a)) 187 (10 * T + k0) (Mx 71 a)) 175 T (k0 + 1) = Mq6 at *
  have z1 : ∀ i : Int, i ≠ 3 → nX_ (nX_ M3) 1 i = M3 1 i := fun i hi => by rw [nX_1 hi, nX_1 hi]
  have zr : ∀ r : Nat, r ≠ 1 → nX_ (nX_ M3) r = M3 r := fun r hr => by rw [nX_ne hr, nX_ne hr]
  refine ⟨⟨hF1, fun hb1 => by omega⟩, hE6, ?_, ⟨fun r hr => ?_, fun i a3 a4 a5 a7 a19 => ?_⟩, ?_, ⟨fun r hr => ?_, fun i a b c => w6 i a⟩, fun _ => ?_, fun hb1 => by omega⟩
  · have hLG : LBG b F' (nX_ (nX_ M3)) Mq6 := by
      refine ⟨fun _ => ?_, fun hb1 => by omega⟩
      rw [z1 18 (by decide), x1i 18 (by decide) (by decide) (by decide), hTk, zr 128 (by decide), zr 62 (by decide), zr 71 (by decide), x71, x128.1]
      have old : F' = F → ff_ = 0 ∨ F' = ff_ ∨ ∃ k i : Int, (0 ≤ i ∧ i < k ∧ k < k0 + 1) ∧ Mq6 180 (10 * T + i) = Mq6 180 (10 * T + k) ∧ F' = 8 * Mx 71 (M3 62 (10 * T + k)) + 3 := fun e => by
        have h9 := hlg.1 hb
        rw [hTk, hKk] at h9
        rcases h9 with h9 | h9 | ⟨k, i, h9, h10, h11⟩
        · exact .inl h9
        · exact .inr (.inl (by rw [e]; exact h9))
        · exact .inr (.inr ⟨k, i, by (clear hb hk hk1 h12 hfl hK hQ hT hVT hE h75 h104 h53 hER e3 h8 h16 h13 hga hpa ha0 hE1 hl9 hlg hp0 hnm hb71 hb72 ha12 hV hW hE2 hM1r hM1i h7b hF1 hF2 hF3 hTk hT0 go1 hKk hl2 hq175 c10 hc10 hM1 hl9' x70 x71 hE3 hT3 x1i x17 x62 xr hXA3 hE4 y70 y71 hT4 h13' hE5 w6 wr w180 w187 hE6 z1 zr e h10 h11; lia), by rw [w180.2 _ (by (clear hb hk hk1 h12 hfl hK hQ hT hVT hE h75 h104 h53 hER e3 h8 h16 h13 hga hpa ha0 hE1 hl9 hlg hp0 hnm hb71 hb72 ha12 hV hW hE2 hM1r hM1i h7b hF1 hF2 hF3 hTk hT0 go1 hKk hl2 hq175 c10 hc10 hM1 hl9' x70 x71 hE3 hT3 x1i x17 x62 xr hXA3 hE4 y70 y71 hT4 h13' hE5 w6 wr w180 w187 hE6 z1 zr e h10 h11; lia)), w180.2 _ (by (clear hb hk hk1 h12 hfl hK hQ hT hVT hE h75 h104 h53 hER e3 h8 h16 h13 hga hpa ha0 hE1 hl9 hlg hp0 hnm hb71 hb72 ha12 hV hW hE2 hM1r hM1i h7b hF1 hF2 hF3 hTk hT0 go1 hKk hl2 hq175 c10 hc10 hM1 hl9' x70 x71 hE3 hT3 x1i x17 x62 xr hXA3 hE4 y70 y71 hT4 h13' hE5 w6 wr w180 w187 hE6 z1 zr e h10 h11; omega))]; exact h10, by rw [x62.2 _ (by (clear hb hk hk1 h12 hfl hK hQ hT hVT hE h75 h104 h53 hER e3 h8 h16 h13 hga hpa ha0 hE1 hl9 hlg hp0 hnm hb71 hb72 ha12 hV hW hE2 hM1r hM1i h7b hF1 hF2 hF3 hTk hT0 go1 hKk hl2 hq175 c10 hc10 hM1 hl9' x70 x71 hE3 hT3 x1i x17 x62 xr hXA3 hE4 y70 y71 hT4 h13' hE5 w6 wr w180 w187 hE6 z1 zr e h10 h11; lia)), e]; exact h11⟩)
      rcases hF3 with e | ⟨e1, e2⟩
      · exact old e
      · obtain ⟨i, i0, i1, i2⟩ : ∃ i : Int, 0 ≤ i ∧ i < k0 ∧ Mq 180 (10 * T + i) = Mq 151 a := by
          have h9 : lbl Mq (Mq 151 a) ≠ -1 := e1
          unfold lbl at h9
          rw [hTT, hq175] at h9
          rcases fi_r (fun i => Mq 180 (10 * T + i)) (Mq 151 a) k0.toNat 0 with z | z
          · exact absurd z h9
          · exact ⟨_, z.1, by have := z.2.1; (clear hb hk hk1 h12 hfl hK hQ hT hVT hE h75 h104 h53 hER e3 h8 h16 h13 hga hpa ha0 hE1 hl9 hlg hp0 hnm hb71 hb72 ha12 hV hW hE2 hM1r hM1i h7b hF1 hF2 hTk hT0 go1 hKk hl2 hq175 c10 hM1 hl9' x70 x71 hE3 hT3 x1i x17 x62 xr hXA3 hE4 y70 y71 hT4 h13' hE5 w6 wr w180 w187 hE6 z1 zr old e1 e2 h9 this; lia), z.2.2⟩
        exact .inr (.inr ⟨k0, i, by (clear hb hk hk1 h12 hfl hK hQ hT hVT hE h75 h104 h53 hER e3 h8 h16 h13 hga hpa ha0 hE1 hl9 hlg hp0 hnm hb71 hb72 ha12 hV hW hE2 hM1r hM1i h7b hF1 hF2 hTk hT0 go1 hKk hl2 hq175 c10 hc10 hM1 hl9' x70 x71 hE3 hT3 x1i x17 x62 xr hXA3 hE4 y70 y71 hT4 h13' hE5 w6 wr w180 w187 hE6 z1 zr old e1 e2 i2; lia), by rw [w180.2 _ (by (clear hb hk hk1 h12 hfl hK hQ hT hVT hE h75 h104 h53 hER e3 h8 h16 h13 hga hpa ha0 hE1 hl9 hlg hp0 hnm hb71 hb72 ha12 hV hW hE2 hM1r hM1i h7b hF1 hF2 hTk hT0 go1 hKk hl2 hq175 c10 hc10 hM1 hl9' x70 x71 hE3 hT3 x1i x17 x62 xr hXA3 hE4 y70 y71 hT4 h13' hE5 w6 wr w180 w187 hE6 z1 zr old e1 e2 i0 i2; lia)), w180.1]; exact i2, by rw [x62.1]; exact e2⟩)
    unfold LBT lbl9 nm9_ gd_
    rw [z1 18 (by decide), x1i 18 (by decide) (by decide) (by decide), hTk, zr 128 (by decide), zr 62 (by decide), zr 70 (by decide), zr 71 (by decide), x70, x71, wr 151 (by decide) (by decide) (by decide) (by decide), x128.1, w175.1]
    refine ⟨⟨⟨by (clear hb hk hk1 h12 hfl hK hQ hT hVT hE h75 h104 h53 hER e3 h8 h16 h13 hga hpa ha0 hE1 hl9 hlg hp0 hnm hb71 hb72 ha12 hV hW hE2 hM1r hM1i h7b hF1 hF2 hF3 hTk hT0 go1 hKk hl2 hq175 c10 hM1 hl9' x70 x71 hE3 hT3 x1i x17 x62 xr hXA3 hE4 y70 y71 hT4 h13' hE5 w6 wr w180 w187 hE6 z1 zr hLG; lia), by (clear hb hk hk1 h12 hfl hK hQ hT hVT hE h75 h104 h53 hER e3 h8 h16 h13 hga hpa ha0 hE1 hl9 hlg hp0 hnm hb71 hb72 ha12 hV hW hE2 hM1r hM1i h7b hF1 hF2 hF3 hTk hT0 go1 hKk hl2 hq175 c10 hM1 hl9' x70 x71 hE3 hT3 x1i x17 x62 xr hXA3 hE4 y70 y71 hT4 h13' hE5 w6 wr w180 w187 hE6 z1 zr hLG; lia), rfl⟩, fun k g0 g1 => ?_⟩, fun k g0 g1 => ?_, hLG⟩
    · by_cases c : k = k0
      · rw [c, x62.1, w180.1]; exact ⟨hnm, rfl⟩
      · rw [x62.2 _ (by (clear hb hk hk1 h12 hfl hK hQ hT hVT hE h75 h104 h53 hER e3 h8 h16 h13 hga hpa ha0 hE1 hl9 hlg hp0 hnm hb71 hb72 ha12 hV hW hE2 hM1r hM1i h7b hF1 hF2 hF3 hTk hT0 go1 hKk hl2 hq175 c10 hc10 hM1 hl9' x70 x71 hE3 hT3 x1i x17 x62 xr hXA3 hE4 y70 y71 hT4 h13' hE5 w6 wr w180 w187 hE6 z1 zr hLG g0 g1; lia)), w180.2 _ (by (clear hb hk hk1 h12 hfl hK hQ hT hVT hE h75 h104 h53 hER e3 h8 h16 h13 hga hpa ha0 hE1 hl9 hlg hp0 hnm hb71 hb72 ha12 hV hW hE2 hM1r hM1i h7b hF1 hF2 hF3 hTk hT0 go1 hKk hl2 hq175 c10 hc10 hM1 hl9' x70 x71 hE3 hT3 x1i x17 x62 xr hXA3 hE4 y70 y71 hT4 h13' hE5 w6 wr w180 w187 hE6 z1 zr hLG g0 g1; lia))]
        have := hl9' k g0 (by (clear hb hk hk1 h12 hfl hK hQ hT hVT hE h75 h104 h53 hER e3 h8 h16 h13 hga hpa ha0 hE1 hl9 hlg hp0 hnm hb71 hb72 ha12 hV hW hE2 hM1r hM1i h7b hF1 hF2 hF3 hTk hT0 go1 hKk hl2 hq175 c10 hc10 hM1 hl9' x70 x71 hE3 hT3 x1i x17 x62 xr hXA3 hE4 y70 y71 hT4 h13' hE5 w6 wr w180 w187 hE6 z1 zr hLG g0; lia))
        exact this
    · by_cases c : k = k0
      · rw [c, x62.1, w187.1, w180.1]
        refine ⟨rfl, fun _ => by (clear hb hk hk1 h12 hfl hK hQ hT hVT hE h75 h104 h53 hER e3 h8 h16 h13 hga hpa ha0 hE1 hl9 hlg hp0 hnm hb71 hb72 ha12 hV hW hE2 hM1r hM1i h7b hF1 hF2 hF3 hTk hTT hT0 go1 hKk hl2 hc hq175 c10 hc10 hM1 i10 ei1 hl9' x70 x71 hE3 hT3 x1i x17 x62 x128 xr hXA3 hE4 y70 y71 hT4 h13' hE5 w6 wr w180 w187 w175 hE6 z1 zr hLG g0 g1 c; omega), fun i i0 i1 => ?_⟩
        rw [x62.2 _ (by (clear hb hk hk1 h12 hfl hK hQ hT hVT hE h75 h104 h53 hER e3 h8 h16 h13 hga hpa ha0 hE1 hl9 hlg hp0 hnm hb71 hb72 ha12 hV hW hE2 hM1r hM1i h7b hF1 hF2 hF3 hTk hT0 go1 hKk hl2 hq175 c10 hc10 hM1 hl9' x70 x71 hE3 hT3 x1i x17 x62 xr hXA3 hE4 y70 y71 hT4 h13' hE5 w6 wr w180 w187 hE6 z1 zr hLG g0 g1 i0; lia)), w180.2 _ (by (clear hb hk hk1 h12 hfl hK hQ hT hVT hE h75 h104 h53 hER e3 h8 h16 h13 hga hpa ha0 hE1 hl9 hlg hp0 hnm hb71 hb72 ha12 hV hW hE2 hM1r hM1i h7b hF1 hF2 hF3 hTk hT0 go1 hKk hl2 hq175 c10 hc10 hM1 hl9' x70 x71 hE3 hT3 x1i x17 x62 xr hXA3 hE4 y70 y71 hT4 h13' hE5 w6 wr w180 w187 hE6 z1 zr hLG g0 g1 i0; lia))]
        refine ⟨(hl2 i i0 (by omega)).2.1 hb, fun e => hF2 fun e2 => ?_⟩
        unfold lbl at e2
        rw [hTT, hq175] at e2
        exact fi_no _ _ _ _ e2 (by decide) i i0 (by (clear hb hk hk1 h12 hfl hK hQ hT hVT hE h75 h104 h53 hER e3 h8 h16 h13 hga hpa ha0 hE1 hl9 hlg hp0 hnm hb71 hb72 ha12 hV hW hE2 hM1r hM1i h7b hF1 hF2 hF3 hTk hT0 go1 hKk hl2 hq175 c10 hM1 hl9' x70 x71 hE3 hT3 x1i x17 x62 xr hXA3 hE4 y70 y71 hT4 h13' hE5 w6 wr w180 w187 hE6 z1 zr hLG g0 g1 e e2; lia)) e
      · rw [x62.2 _ (by (clear hb hk hk1 h12 hfl hK hQ hT hVT hE h75 h104 h53 hER e3 h8 h16 h13 hga hpa ha0 hE1 hl9 hlg hp0 hnm hb71 hb72 ha12 hV hW hE2 hM1r hM1i h7b hF1 hF2 hF3 hTk hT0 go1 hKk hl2 hq175 c10 hc10 hM1 hl9' x70 x71 hE3 hT3 x1i x17 x62 xr hXA3 hE4 y70 y71 hT4 h13' hE5 w6 wr w180 w187 hE6 z1 zr hLG g0 g1; lia)), w187.2 _ (by (clear hb hk hk1 h12 hfl hK hQ hT hVT hE h75 h104 h53 hER e3 h8 h16 h13 hga hpa ha0 hE1 hl9 hlg hp0 hnm hb71 hb72 ha12 hV hW hE2 hM1r hM1i h7b hF1 hF2 hF3 hTk hT0 go1 hKk hl2 hq175 c10 hc10 hM1 hl9' x70 x71 hE3 hT3 x1i x17 x62 xr hXA3 hE4 y70 y71 hT4 h13' hE5 w6 wr w180 w187 hE6 z1 zr hLG g0 g1; lia)), w180.2 _ (by (clear hb hk hk1 h12 hfl hK hQ hT hVT hE h75 h104 h53 hER e3 h8 h16 h13 hga hpa ha0 hE1 hl9 hlg hp0 hnm hb71 hb72 ha12 hV hW hE2 hM1r hM1i h7b hF1 hF2 hF3 hTk hT0 go1 hKk hl2 hq175 c10 hc10 hM1 hl9' x70 x71 hE3 hT3 x1i x17 x62 xr hXA3 hE4 y70 y71 hT4 h13' hE5 w6 wr w180 w187 hE6 z1 zr hLG g0 g1; lia))]
        obtain ⟨g2, g3, g4⟩ := hl2 k g0 (by (clear hb hk hk1 h12 hfl hK hQ hT hVT hE h75 h104 h53 hER e3 h8 h16 h13 hga hpa ha0 hE1 hl9 hlg hp0 hnm hb71 hb72 ha12 hV hW hE2 hM1r hM1i h7b hF1 hF2 hF3 hTk hT0 go1 hKk hl2 hq175 c10 hc10 hM1 hl9' x70 x71 hE3 hT3 x1i x17 x62 xr hXA3 hE4 y70 y71 hT4 h13' hE5 w6 wr w180 w187 hE6 z1 zr hLG g0; lia))
        refine ⟨g2, fun hb => by have := g3 hb; (clear hk hk1 h12 hfl hK hQ hT hVT hE h75 h104 h53 hER h8 h16 h13 hga hpa ha0 hE1 hl9 hlg hp0 hnm hb71 hb72 ha12 hV hW hE2 hM1r hM1i h7b hF1 hF2 hF3 hTk hTT hT0 go1 hKk hl2 hc hq175 c10 hc10 hM1 i10 ei1 hl9' x70 x71 hE3 hT3 x1i x17 x128 xr hXA3 hE4 y70 y71 hT4 h13' hE5 w6 wr w180 w187 w175 hE6 z1 zr hLG g0 g1 c g2 g3 g4 hb; omega), fun i i0 i1 => ?_⟩
        rw [x62.2 _ (by (clear hb hk hk1 h12 hfl hK hQ hT hVT hE h75 h104 h53 hER e3 h8 h16 h13 hga hpa ha0 hE1 hl9 hlg hp0 hnm hb71 hb72 ha12 hV hW hE2 hM1r hM1i h7b hF1 hF2 hF3 hTk hT0 go1 hKk hl2 hq175 c10 hc10 hM1 hl9' x70 x71 hE3 hT3 x1i x17 x62 xr hXA3 hE4 y70 y71 hT4 h13' hE5 w6 wr w180 w187 hE6 z1 zr hLG g0 c g2 g3 g4 i0; lia)), w180.2 _ (by (clear hb hk hk1 h12 hfl hK hQ hT hVT hE h75 h104 h53 hER e3 h8 h16 h13 hga hpa ha0 hE1 hl9 hlg hp0 hnm hb71 hb72 ha12 hV hW hE2 hM1r hM1i h7b hF1 hF2 hF3 hTk hT0 go1 hKk hl2 hq175 c10 hc10 hM1 hl9' x70 x71 hE3 hT3 x1i x17 x62 xr hXA3 hE4 y70 y71 hT4 h13' hE5 w6 wr w180 w187 hE6 z1 zr hLG g0 c g2 g3 g4 i0; lia))]
        obtain ⟨g5, g6⟩ := g4 i i0 i1
        exact ⟨g5, fun e => Int.le_trans hF1 (g6 e)⟩
  · rw [zr r (fun e => hr (by rw [e]; decide)), xr r (fun e => hr (by rw [e]; decide)) (fun e => hr (by rw [e]; decide)) (fun e => hr (by rw [e]; decide))]
  · rw [z1 i a3, x1i i a4 a5 a7]
  · rw [z1 7 (by decide), x17]; exact h7b
  · exact wr r (fun e => hr (by rw [e]; decide)) (fun e => hr (by rw [e]; decide)) (fun e => hr (by rw [e]; decide)) (fun e => hr (by rw [e]; decide))
  · rw [hTk, hKk, zr 128 (by decide), zr 62 (by decide), zr 64 (by decide), zr 129 (by decide), z1 19 (by decide), x1i 19 (by decide) (by decide) (by decide), xr 64 (by decide) (by decide) (by decide), xr 129 (by decide) (by decide) (by decide), wr 188 (by decide) (by decide) (by decide) (by decide), wr 189 (by decide) (by decide) (by decide) (by decide)]
    exact ⟨x128, x62, rfl, rfl, rfl, rfl, rfl, w175.2, fun i hi => ⟨w180.2 i hi, w187.2 i hi⟩⟩
end LB
end T125_lb
section T126_lb
/-! a label, the second time -/
section LX
variable {b F : Int} {Mx Mq Mx1 : mm_} {a o : Int}
theorem ER_X19 [Inhabited gh_] (h : ER b F Mx Mq a o) (h70 : Mx1 70 = Mx 70) (h1 : ∀ i : Int, 3 ≤ i → i ≤ 8 → Mx1 1 i = Mx 1 i) (h5 : Mx1 5 3 = Mx 5 3) (h19 : bb_ (Mx 1 19) ≤ bb_ (Mx1 1 19)) : ER b F Mx1 Mq a o := by
  unfold ER NR gd_ at *
  rw [h70, h1 3 (by decide) (by decide), h1 4 (by decide) (by decide), h1 5 (by decide) (by decide), h1 6 (by decide) (by decide), h1 7 (by decide) (by decide), h1 8 (by decide) (by decide), h5]
  obtain ⟨e1, e2, e3, e4, e5, e6, e7, e8, e9, e10, ⟨n1, n2, n3, n4, n5⟩, e11⟩ := h
  exact ⟨e1, e2, e3, e4, e5, e6, e7, e8, e9, e10, ⟨n1, n2, n3, n4, n5.imp id fun z => Int.le_trans z h19⟩, e11⟩
end LX
section LB
variable {d dq n : Nat} {b F F' : Int} {Mx Mq Mx1 Mq1 M : mm_} {a a1 o j p me T : Int} {K : Int → mm_ → Prop} {Kv G : mm_ → Prop} {Qt : qt_} {V : vv_}
theorem y_137q0 (ig : Inhabited gh_) (hbc : ∀ k, bb_ k = bb_ 0) (h : TA b F Mx Mq a o) (hb : b = 1) (hL : LBT b F Mx Mq a) (hk : Mx 70 a = 100) (hk1 : Mx 70 (a + 1) = 258) (h12 : a + 1 < 1200) (htr : 1 ≤ Mx 1 29 ∧ Mx 1 29 ≤ 600) (hj : 0 ≤ Mx 1 19 ∧ Mx 1 19 < Mx 128 (Mx 1 18)) (hja : Mx 62 (10 * Mx 1 18 + Mx 1 19) = a)
    (hK : ∀ Mx' Mq', LBR b F F Mx Mq Mx' Mq' a o me → (kk_ (Mq' 6 13) (Mq' 6 14) ≤ kk_ (Mq 6 13) (Mq 6 14) ∧ ((∃ i, (0 ≤ i ∧ i < Mx 1 19) ∧ Mq 180 (10 * Mx 1 18 + i) = Mq 180 (10 * Mx 1 18 + Mx 1 19)) → kk_ (Mq' 6 13) (Mq' 6 14) ≤ 8 * Mx 71 a + 3)) → (∀ (Kv : mm_ → Prop) (Qtq : qt_), Kv Mq' → Tr_ wd0 pg0 (dq + 4) 262 [.inr (.inr 6), .inl me] Mq (rv_ Kv) Qtq) → Kv Mx') :
    Tr_ wd0 pg0 (d + 3) 137 [.inr (.inr 1)] Mx (rv_ Kv) Qt := by
  obtain ⟨hT, hVT, hE, h75, h104, h53⟩ := h
  have e3 := hE.2.1
  have h8 : Mx 1 8 = 1 := by rw [hE.2.2.2.2.2.2.1]; exact hb
  have h16 : Mq 6 16 = 1 := by rw [hE.2.2.2.2.2.2.2.1]; exact hb
  have hga := hE.1
  have hpa := tk_p hT hga
  have ha0 := ER_a hE
  have hE1 := (ER_go hE (by (clear hbc hb hL hk hk1 htr hj hK hT hVT hE h75 h104 h53 h8 h16 hga hpa; omega)) (by omega)).1
  have hTT : Mq 6 61 = Mx 1 18 := hVT.2.1
  have hT0 : 0 ≤ Mx 1 18 ∧ Mx 1 18 < 6 := ⟨hVT.2.2.1, hVT.2.2.2.1⟩
  have hl9 := hL.1
  have hl2 := hL.2.1
  have hlg := hL.2.2
  have hc := hl9.1
  have hq175 : Mq 175 (Mx 1 18) = Mx 128 (Mx 1 18) := hc.2.2
  have hp0 : Mq 150 a = Mx 71 a := (hT a hga).2.1.symm
  have ha12 : 0 ≤ a ∧ a < 1202 := by (clear hbc hb hL hk hk1 htr hj hK hT hVT hE h75 h104 h53 h8 h16 hga hpa hE1 hTT hT0 hl9 hl2 hlg hc hq175 hp0; omega)
  have i10 : w32 (w32 (10 * Mx 1 18) + Mx 1 19) = 10 * Mx 1 18 + Mx 1 19 := by rw [w32_id (x := 10 * Mx 1 18) (by (clear hbc hb hL hk hk1 h12 htr hj hja hK hT hVT hE h75 h104 h53 e3 h8 h16 hga hpa ha0 hE1 hTT hl9 hl2 hlg hc hq175 hp0 ha12; lia)) (by (clear hbc hb hL hk hk1 h12 htr hj hja hK hT hVT hE h75 h104 h53 e3 h8 h16 hga hpa ha0 hE1 hTT hl9 hl2 hlg hc hq175 hp0 ha12; omega)), w32_id (by (clear hbc hb hL hk hk1 h12 htr hja hK hT hVT hE h75 h104 h53 e3 h8 h16 hga hpa ha0 hE1 hTT hl9 hl2 hlg hc hq175 hp0 ha12; lia)) (by (clear hbc hb hL hk hk1 h12 htr hja hK hT hVT hE h75 h104 h53 e3 h8 h16 hga hpa ha0 hE1 hTT hl9 hl2 hlg hq175 hp0 ha12; omega))]
  have ei1 : w32 (Mx 1 19 + 1) = Mx 1 19 + 1 := w32_id (by (clear hbc hb hL hk hk1 h12 htr hja hK hT hVT hE h75 h104 h53 e3 h8 h16 hga hpa ha0 hE1 hTT hT0 hl9 hl2 hlg hc hq175 hp0 ha12; lia)) (by (clear hbc hb hL hk hk1 h12 htr hja hK hT hVT hE h75 h104 h53 e3 h8 h16 hga hpa ha0 hE1 hTT hT0 hl9 hl2 hlg hq175 hp0 ha12; lia))
  have ei2 : w32 (Mx 1 29 - 1) = Mx 1 29 - 1 := w32_id (by (clear hbc hb hL hk hk1 h12 hj hja hK hT hVT hE h75 h104 h53 e3 h8 h16 hga hpa ha0 hE1 hTT hT0 hl9 hl2 hlg hc hq175 hp0 ha12 i10 ei1; omega)) (by (clear hbc hb hL hk hk1 h12 hj hja hK hT hVT hE h75 h104 h53 e3 h8 h16 hga hpa ha0 hE1 hTT hT0 hl9 hl2 hlg hc hq175 hp0 ha12 i10 ei1; omega))
  refine t_137 fun V hV hW => b_137_0 (Tr_mono _) hV hW Mx ?_
  intro _
  rw [if_neg (by (clear hbc hb hL hk hk1 h12 htr hj hja hK hT hVT hE h75 h104 h53 e3 h16 hga hpa ha0 hE1 hTT hT0 hl9 hl2 hlg hc hq175 hp0 ha12 i10 ei1 ei2 hV hW; lia)), i10, ei1, ei2]
  refine ⟨hVT.1, hVT.1, by (clear hbc hb hL hk hk1 h12 htr hja hK hT hVT hE h75 h104 h53 e3 h8 h16 hga hpa ha0 hE1 hTT hl9 hl2 hlg hq175 hp0 ha12 ei2 hV hW; lia), by (clear hbc hb hL hk hk1 h12 hj hja hK hT hVT hE h75 h104 h53 e3 h8 h16 hga hpa ha0 hE1 hTT hT0 hl9 hl2 hlg hc hq175 hp0 ha12 i10 ei1 hV hW; omega), by omega, ?_⟩
  have hl9' := hl9.2
  generalize hTk : Mx 1 18 = T at *
  generalize hjk : Mx 1 19 = j at *
  generalize htk : Mx 1 29 - 1 = tr at *
  have xr : ∀ r : Nat, r ≠ 1 → r ≠ 64 → r ≠ 129 → up_ (up_ (up_ Mx 129 (10 * T + j) (Mx 5 3)) 64 tr (or_ (Mx 64 tr) (sl_ 1 j))) 1 19 (j + 1) r = Mx r := fun r h1 h2 h3 => by rw [up_ne h1, up_ne h2, up_ne h3]
  have x1i : ∀ i : Int, i ≠ 19 → up_ (up_ (up_ Mx 129 (10 * T + j) (Mx 5 3)) 64 tr (or_ (Mx 64 tr) (sl_ 1 j))) 1 19 (j + 1) 1 i = Mx 1 i := fun i hi => by rw [up_off hi, up_ne (by decide), up_ne (by decide)]
  have x19 : up_ (up_ (up_ Mx 129 (10 * T + j) (Mx 5 3)) 64 tr (or_ (Mx 64 tr) (sl_ 1 j))) 1 19 (j + 1) 1 19 = j + 1 := by rw [up_at]
  have x129 : up_ (up_ (up_ Mx 129 (10 * T + j) (Mx 5 3)) 64 tr (or_ (Mx 64 tr) (sl_ 1 j))) 1 19 (j + 1) 129 (10 * T + j) = Mx 5 3 ∧ ∀ i, i ≠ 10 * T + j → up_ (up_ (up_ Mx 129 (10 * T + j) (Mx 5 3)) 64 tr (or_ (Mx 64 tr) (sl_ 1 j))) 1 19 (j + 1) 129 i = Mx 129 i := ⟨by rw [up_ne (by decide), up_ne (by decide), up_at], fun i hi => by rw [up_ne (by decide), up_ne (by decide), up_off hi]⟩
  have x64 : up_ (up_ (up_ Mx 129 (10 * T + j) (Mx 5 3)) 64 tr (or_ (Mx 64 tr) (sl_ 1 j))) 1 19 (j + 1) 64 tr = or_ (Mx 64 tr) (sl_ 1 j) ∧ ∀ i, i ≠ tr → up_ (up_ (up_ Mx 129 (10 * T + j) (Mx 5 3)) 64 tr (or_ (Mx 64 tr) (sl_ 1 j))) 1 19 (j + 1) 64 i = Mx 64 i := ⟨by rw [up_ne (by decide), up_at], fun i hi => by rw [up_ne (by decide), up_off hi, up_ne (by decide)]⟩
  have hE3 : ER b F (up_ (up_ (up_ Mx 129 (10 * T + j) (Mx 5 3)) 64 tr (or_ (Mx 64 tr) (sl_ 1 j))) 1 19 (j + 1)) Mq a o := ER_X19 hE (xr 70 (by decide) (by decide) (by decide)) (fun i h1 h2 => x1i i (by (clear hbc hb hL hk hk1 h12 htr hT hVT hE h75 h104 h53 e3 h8 h16 hga hpa ha0 hE1 hl9 hlg hp0 ha12 hV hW hTk hTT hT0 hl2 hc hq175 hl9' hjk ei1 hj hja hK i10 htk ei2 xr x1i x19 x129 x64; omega))) (by rw [xr 5 (by decide) (by decide) (by decide)]) (by rw [hbc]; exact Int.le_of_eq (hbc _).symm)
  have hT3 : Tks (up_ (up_ (up_ Mx 129 (10 * T + j) (Mx 5 3)) 64 tr (or_ (Mx 64 tr) (sl_ 1 j))) 1 19 (j + 1)) Mq := by
    have hT' := hT
    unfold Tks gd_ lk9_ at *
    rw [xr 69 (by decide) (by decide) (by decide), xr 70 (by decide) (by decide) (by decide), xr 71 (by decide) (by decide) (by decide), xr 72 (by decide) (by decide) (by decide), xr 73 (by decide) (by decide) (by decide)]
    exact hT'
  generalize up_ (up_ (up_ Mx 129 (10 * T + j) (Mx 5 3)) 64 tr (or_ (Mx 64 tr) (sl_ 1 j))) 1 19 (j + 1) = M3 at *
  refine y_105 hE3 (by rw [xr 70 (by decide) (by decide) (by decide)]; omega) (fun _ => by unfold gS; rw [if_pos (by (clear hbc hb hL hk hk1 htr hT hVT hE h75 h104 h53 h8 h16 hga hpa hE1 hl9 hlg hp0 ha12 hV hW hTk hTT hT0 hl2 hc hq175 hl9' hjk ei1 hj hK i10 htk ei2 xr x1i x19 x129 x64 hE3 hT3; omega))]; exact fun e => by cases e) (fun _ hE4 => ?_) (fun hb0 _ => by omega)
  have y70 : nX_ M3 70 = Mx 70 := by rw [nX_ne (by decide)]; exact xr 70 (by decide) (by decide) (by decide)
  have hT4 : Tks (nX_ M3) (nx_ Mq) := Tks_c nX_XF nx_QF hT3
  refine y_105 hE4 (by rw [y70, hk1]; decide) (fun _ => by unfold gS; rw [if_pos h12]; exact fun e => by cases e) (fun _ hE5 => ?_) (fun hb0 _ => by omega)
  rw [show a + 1 + 1 = a + 2 by omega] at hE5
  have z6 : ∀ i : Int, i ≠ 12 → nx_ (nx_ Mq) 6 i = Mq 6 i := fun i hi => by rw [nx_6 hi, nx_6 hi]
  have zr : ∀ r : Nat, r ≠ 6 → nx_ (nx_ Mq) r = Mq r := fun r hr => by rw [nx_ne hr, nx_ne hr]
  have zx1 : ∀ i : Int, i ≠ 3 → nX_ (nX_ M3) 1 i = M3 1 i := fun i hi => by rw [nX_1 hi, nX_1 hi]
  have zxr : ∀ r : Nat, r ≠ 1 → nX_ (nX_ M3) r = M3 r := fun r hr => by rw [nX_ne hr, nX_ne hr]
  have hmono : ∀ x y, gd_ Mx x → gd_ Mx y → x < y → Mx 71 x < Mx 71 y := fun x y gx gy hxy => (hT y gy).2.2.2.2.1 x gx hxy
  have hat : ∀ k, 0 ≤ k → k < Mx 128 T → (Mq 187 (10 * T + k) = Mq 150 a ↔ k = j) ∧ (k < j → Mq 187 (10 * T + k) < Mq 150 a) ∧ (j < k → Mq 150 a < Mq 187 (10 * T + k)) := by
    intro k k0 k1
    have g := hl2 k k0 k1
    have gk := (hl9' k k0 k1).1.1
    rw [g.1, hp0]
    by_cases c : k = j
    · rw [c, hja]; exact ⟨⟨fun _ => rfl, fun _ => rfl⟩, fun e => by omega, fun e => by omega⟩
    · by_cases c2 : k < j
      · have := ((hl2 j (by (clear hbc hb hL hk hk1 h12 htr hT hVT hE h75 h104 h53 e3 h8 h16 hga hpa ha0 hE1 hl9 hlg hp0 ha12 hV hW hTk hT0 hl2 hc hq175 hl9' hjk hja hK htk ei2 xr x1i x129 x64 hE3 hT3 hE4 y70 hT4 hE5 z6 zr zx1 zxr hmono k0 k1 g gk c c2; lia)) hj.2).2.2 k k0 c2).1
        rw [hja] at this
        have := hmono _ _ gk hga this
        exact ⟨⟨fun e => by (clear hbc hb hL hk hk1 h12 htr hT hVT hE h75 h104 h53 e3 h8 h16 hga hpa ha0 hE1 hl9 hlg ha12 hV hW hTk hTT hT0 hl2 hc hq175 hl9' hjk ei1 hj hja hK i10 htk ei2 xr x1i x19 x129 x64 hE3 hT3 hE4 y70 hT4 hE5 z6 zr zx1 zxr hmono k0 k1 g gk c c2; omega), fun e => by (clear hbc hb hL hk hk1 h12 htr hT hVT hE h75 h104 h53 e3 h8 h16 hga hpa ha0 hE1 hl9 hlg hp0 ha12 hV hW hTk hT0 hl2 hc hq175 hl9' hjk hj hja hK htk ei2 xr x1i x129 x64 hE3 hT3 hE4 y70 hT4 hE5 z6 zr zx1 zxr hmono k0 k1 g gk c this; omega)⟩, fun _ => this, fun e => by (clear hbc hb hL hk hk1 h12 htr hT hVT hE h75 h104 h53 e3 h8 h16 hga hpa ha0 hE1 hl9 hlg hp0 ha12 hV hW hTk hT0 hl2 hc hq175 hl9' hjk hj hja hK htk ei2 xr x1i x129 x64 hE3 hT3 hE4 y70 hT4 hE5 z6 zr zx1 zxr hmono k0 k1 g gk c this; omega)⟩
      · have := (g.2.2 j hj.1 (by (clear hbc hb hL hk hk1 h12 htr hT hVT hE h75 h104 h53 e3 h8 h16 hga hpa ha0 hE1 hl9 hlg hp0 ha12 hV hW hTk hT0 hl2 hc hq175 hl9' hjk hj hja hK htk ei2 xr x1i x129 x64 hE3 hT3 hE4 y70 hT4 hE5 z6 zr zx1 zxr hmono k0 k1 g gk; lia))).1
        rw [hja] at this
        have := hmono _ _ hga gk this
        exact ⟨⟨fun e => by (clear hbc hb hL hk hk1 h12 htr hT hVT hE h75 h104 h53 e3 h8 h16 hga hpa ha0 hE1 hl9 hlg ha12 hV hW hTk hTT hT0 hl2 hc hq175 hl9' hjk ei1 hj hja hK i10 htk ei2 xr x1i x19 x129 x64 hE3 hT3 hE4 y70 hT4 hE5 z6 zr zx1 zxr hmono k0 k1 g gk c c2; omega), fun e => by (clear hbc hb hL hk hk1 h12 htr hT hVT hE h75 h104 h53 e3 h8 h16 hga hpa ha0 hE1 hl9 hlg ha12 hV hW hTk hT0 hl2 hc hq175 hl9' hjk hj hja hK htk ei2 xr x1i x129 x64 hE3 hT3 hE4 y70 hT4 hE5 z6 zr zx1 zxr hmono k0 k1 g gk c2; lia)⟩, fun e => by (clear hbc hb hL hk hk1 h12 htr hT hVT hE h75 h104 h53 e3 h8 h16 hga hpa ha0 hE1 hl9 hlg hp0 ha12 hV hW hTk hT0 hl2 hc hq175 hl9' hjk hj hja hK htk ei2 xr x1i x129 x64 hE3 hT3 hE4 y70 hT4 hE5 z6 zr zx1 zxr hmono k0 k1 g gk c this; lia), fun _ => this⟩
  have run : ∀ kk : Int, (∀ kk' : Int, (kk' = 0 ∨ kk' = 3) → (kk' = 3 ↔ ∃ i, 0 ≤ i ∧ i < j ∧ Mq 180 (10 * T + i) = Mq 151 a) → kk' = kk) → (∀ (Kv : mm_ → Prop) (Qtq : qt_), Kv (up_ (up_ (Qn_ (nx_ (nx_ Mq)) 1 kk (Mx 71 a)) 188 (10 * T + j) (Mq 6 75)) 189 (10 * T + j) me) → Tr_ wd0 pg0 (dq + 4) 262 [.inr (.inr 6), .inl me] Mq (rv_ Kv) Qtq) := by
    intro kk hkk Kv Qtq hKv
    refine t_262 fun V hV hW => b_262_0 (Tr_mono _) hV hW _ _ (j_233t hT hE hk (by omega) (q_227g (ER_goq hE1) ?_))
    rw [if_pos rfl]
    intro _
    rw [if_neg (by rw [nx_6 (by decide)]; (clear hbc hb hL hk hk1 h12 htr hT hVT hE h75 h104 h53 e3 h8 hga hpa ha0 hE1 hl9 hlg hp0 ha12 hTk hTT hT0 hl2 hc hq175 hl9' hjk ei1 hj hja hK i10 htk ei2 xr x1i x19 x129 x64 hE3 hT3 hE4 y70 hT4 hE5 z6 zr zx1 zxr hmono hat hkk hKv hV hW; omega))]
    refine b_262_46 (Tr_mono _) hV hW _ _ _ (j_244t hT4 hE4 (by decide) (by rw [y70]; exact hk1) h12 ?_)
    intro _
    rw [if_neg (by rw [z6 16 (by decide)]; omega)]
    have := l_262 (d := dq + 2) (V := V) (Kv := Kv) (M := nx_ (nx_ Mq)) (j := j) (a := a) (T := T) hV hW (x1 := me) (m := Mx 128 T) (by rw [z6 16 (by decide)]; exact h16) (by rw [z6 61 (by decide)]; exact hTT) hT0 ⟨by rw [zr 175 (by decide)]; exact hq175, hc.1, hc.2.1⟩ hj ha12 (fun k k0 k1 => by rw [zr 187 (by decide), zr 150 (by decide)]; exact hat k k0 k1) (fun kk' h1 h2 => by
      rw [zr 180 (by decide), zr 151 (by decide)] at h2
      rw [hkk kk' h1 h2, zr 150 (by decide), hp0, z6 75 (by decide)]; exact hKv) (Mx 128 T).toNat 0 0 (by (clear hbc hb hL hk hk1 h12 htr hT hVT hE h75 h104 h53 e3 h8 h16 hga hpa ha0 hE1 hl9 hlg hp0 ha12 hTk hT0 hl2 hq175 hl9' hjk hja hK htk ei2 xr x1i x129 x64 hE3 hT3 hE4 y70 hT4 hE5 z6 zr zx1 zxr hmono hat hkk hKv hV hW; lia)) (by decide) (.inl rfl) ⟨fun e => absurd e (by decide), fun ⟨i, g1, g2, g3, _⟩ => by (clear hbc hb hL hk hk1 h12 htr hT hVT hE h75 h104 h53 e3 h8 h16 hga hpa ha0 hE1 hl9 hlg hp0 ha12 hTk hTT hT0 hl2 hc hq175 hl9' hjk ei1 hj hja hK i10 htk ei2 xr x1i x19 x129 x64 hE3 hT3 hE4 y70 hT4 hE5 z6 zr zx1 zxr hmono hat hkk hKv hV hW g1 g2 g3; omega)⟩
    rw [if_pos hj.1] at this
    have e : Qn_ (nx_ (nx_ Mq)) 1 0 (nx_ (nx_ Mq) 150 a) = nx_ (nx_ Mq) := by unfold Qn_; rw [if_pos (.inr rfl)]
    rw [e] at this
    exact this
  obtain ⟨kk, hkk, hdup, hdup2, hrun⟩ : ∃ kk : Int, (kk = 0 ∨ kk = 3) ∧ (kk = 3 → ∃ i, 0 ≤ i ∧ i < j ∧ Mq 180 (10 * T + i) = Mq 151 a) ∧ ((∃ i, 0 ≤ i ∧ i < j ∧ Mq 180 (10 * T + i) = Mq 151 a) → kk = 3) ∧ (∀ (Kv : mm_ → Prop) (Qtq : qt_), Kv (up_ (up_ (Qn_ (nx_ (nx_ Mq)) 1 kk (Mx 71 a)) 188 (10 * T + j) (Mq 6 75)) 189 (10 * T + j) me) → Tr_ wd0 pg0 (dq + 4) 262 [.inr (.inr 6), .inl me] Mq (rv_ Kv) Qtq) := by
    by_cases cd : ∃ i, 0 ≤ i ∧ i < j ∧ Mq 180 (10 * T + i) = Mq 151 a
    · exact ⟨3, .inr rfl, fun _ => cd, fun _ => rfl, run 3 fun kk' h1 h2 => h2.mpr cd⟩
    · exact ⟨0, .inl rfl, fun e => absurd e (by decide), fun e => absurd e cd, run 0 fun kk' h1 h2 => by
        rcases h1 with e | e
        · exact e
        · exact absurd (h2.mp e) cd⟩
  have hQn : ER b F (nX_ (nX_ M3)) (Qn_ (nx_ (nx_ Mq)) 1 kk (Mx 71 a)) (a + 2) o := by
    rcases hkk with e | e
    · unfold Qn_; rw [if_pos (.inr e)]; exact hE5
    · obtain ⟨i, i0, i1, i2⟩ := hdup e
      have e2 : Qn_ (nx_ (nx_ Mq)) 1 kk (Mx 71 a) = nt_ (nx_ (nx_ Mq)) 3 (Mx 71 a) := by unfold Qn_; rw [if_neg (by (clear hbc hb hL hk hk1 h12 htr hT hVT hE h75 h104 h53 e3 h8 h16 hga hpa ha0 hE1 hl9 hlg hp0 ha12 hV hW hTk hTT hT0 hl2 hc hq175 hl9' hjk ei1 hj hja hK i10 htk ei2 xr x1i x19 x129 x64 hE3 hT3 hE4 y70 hT4 hE5 z6 zr zx1 zxr hmono hat run hdup hdup2 hrun i0 i1 i2; lia)), e]
      rw [e2]
      refine ER_nq hE5 hb (by decide) hpa ?_
      have q1 := (hl9' j hj.1 hj.2).2
      rw [hja] at q1
      have := ((hl2 j hj.1 hj.2).2.2 i i0 i1).2 (by rw [i2, q1])
      rw [hja] at this; exact this
  have w6 : ∀ i : Int, i ≠ 12 → i ≠ 13 → i ≠ 14 → up_ (up_ (Qn_ (nx_ (nx_ Mq)) 1 kk (Mx 71 a)) 188 (10 * T + j) (Mq 6 75)) 189 (10 * T + j) me 6 i = Mq 6 i := fun i h1 h2 h3 => by rw [up_ne (by decide), up_ne (by decide), Qn_6 h2 h3, z6 i h1]
  have wr : ∀ r : Nat, r ≠ 6 → r ≠ 188 → r ≠ 189 → up_ (up_ (Qn_ (nx_ (nx_ Mq)) 1 kk (Mx 71 a)) 188 (10 * T + j) (Mq 6 75)) 189 (10 * T + j) me r = Mq r := fun r h1 h2 h3 => by rw [up_ne h3, up_ne h2, Qn_r h1, zr r h1]
  have w188 : up_ (up_ (Qn_ (nx_ (nx_ Mq)) 1 kk (Mx 71 a)) 188 (10 * T + j) (Mq 6 75)) 189 (10 * T + j) me 188 (10 * T + j) = Mq 6 75 ∧ up_ (up_ (Qn_ (nx_ (nx_ Mq)) 1 kk (Mx 71 a)) 188 (10 * T + j) (Mq 6 75)) 189 (10 * T + j) me 189 (10 * T + j) = me := ⟨by rw [up_ne (by decide), up_at], by rw [up_at]⟩
  have w189 : ∀ i, i ≠ 10 * T + j → up_ (up_ (Qn_ (nx_ (nx_ Mq)) 1 kk (Mx 71 a)) 188 (10 * T + j) (Mq 6 75)) 189 (10 * T + j) me 188 i = Mq 188 i ∧ up_ (up_ (Qn_ (nx_ (nx_ Mq)) 1 kk (Mx 71 a)) 188 (10 * T + j) (Mq 6 75)) 189 (10 * T + j) me 189 i = Mq 189 i := fun i hi => ⟨by rw [up_ne (by decide), up_off hi, Qn_r (by decide), zr 188 (by decide)], by rw [up_off hi, up_ne (by decide), Qn_r (by decide), zr 189 (by decide)]⟩
  have w13 : up_ (up_ (Qn_ (nx_ (nx_ Mq)) 1 kk (Mx 71 a)) 188 (10 * T + j) (Mq 6 75)) 189 (10 * T + j) me 6 13 = 0 → Mq 6 13 = 0 := fun e => by
    rw [up_ne (by decide), up_ne (by decide)] at e
    rcases hkk with ek | ek
    · unfold Qn_ at e; rw [if_pos (.inr ek), z6 13 (by decide)] at e; exact e
    · exfalso
      unfold Qn_ at e
      rw [if_neg (by (clear hbc hb hL hk hk1 h12 htr hT hVT hE h75 h104 h53 e3 h8 h16 hga hpa ha0 hE1 hl9 hlg hp0 ha12 hV hW hTk hTT hT0 hl2 hc hq175 hl9' hjk ei1 hj hja hK i10 htk ei2 xr x1i x19 x129 x64 hE3 hT3 hE4 y70 hT4 hE5 z6 zr zx1 zxr hmono hat run hdup hdup2 hrun hQn w6 wr w188 w189 e; lia)), ek] at e
      unfold nt_ at e
      rw [if_neg (by rw [z6 16 (by decide)]; (clear hbc hb hL hk hk1 h12 htr hT hVT hE h75 h104 h53 e3 h8 hga hpa ha0 hE1 hl9 hlg hp0 ha12 hV hW hTk hTT hT0 hl2 hc hq175 hl9' hjk ei1 hj hja hK i10 htk ei2 xr x1i x19 x129 x64 hE3 hT3 hE4 y70 hT4 hE5 z6 zr zx1 zxr hmono hat run hdup hdup2 hrun hQn w6 wr w188 w189 e ek; lia))] at e
      by_cases c : nx_ (nx_ Mq) 6 13 = 0 ∨ Mx 71 a < nx_ (nx_ Mq) 6 14 ∨ Mx 71 a = nx_ (nx_ Mq) 6 14 ∧ 3 < nx_ (nx_ Mq) 6 13
      · rw [if_pos c, bf_13] at e; (clear hbc hb hL hk hk1 h12 htr hT hVT hE h75 h104 h53 e3 h8 h16 hga hpa ha0 hE1 hl9 hlg hp0 ha12 hV hW hTk hTT hT0 hl2 hc hq175 hl9' hjk ei1 hj hja hK i10 htk ei2 xr x1i x19 x129 x64 hE3 hT3 hE4 y70 hT4 hE5 z6 zr zx1 zxr hmono hat run hdup hdup2 hrun hQn w6 wr w188 w189 ek c; omega)
      · rw [if_neg c] at e; exact c (.inl e)
  have hE6 : ER b F (nX_ (nX_ M3)) (up_ (up_ (Qn_ (nx_ (nx_ Mq)) 1 kk (Mx 71 a)) 188 (10 * T + j) (Mq 6 75)) 189 (10 * T + j) me) (a + 2) o := ER_Q hQn (by rw [up_ne (by decide), up_ne (by decide)]) (by rw [up_ne (by decide), up_ne (by decide)]) (by rw [up_ne (by decide), up_ne (by decide)]) (by rw [up_ne (by decide), up_ne (by decide)]) (by rw [up_ne (by decide), up_ne (by decide)])
  have hkey : kk_ (up_ (up_ (Qn_ (nx_ (nx_ Mq)) 1 kk (Mx 71 a)) 188 (10 * T + j) (Mq 6 75)) 189 (10 * T + j) me 6 13) (up_ (up_ (Qn_ (nx_ (nx_ Mq)) 1 kk (Mx 71 a)) 188 (10 * T + j) (Mq 6 75)) 189 (10 * T + j) me 6 14) ≤ kk_ (Mq 6 13) (Mq 6 14) ∧ ((∃ i, (0 ≤ i ∧ i < j) ∧ Mq 180 (10 * T + i) = Mq 180 (10 * T + j)) → kk_ (up_ (up_ (Qn_ (nx_ (nx_ Mq)) 1 kk (Mx 71 a)) 188 (10 * T + j) (Mq 6 75)) 189 (10 * T + j) me 6 13) (up_ (up_ (Qn_ (nx_ (nx_ Mq)) 1 kk (Mx 71 a)) 188 (10 * T + j) (Mq 6 75)) 189 (10 * T + j) me 6 14) ≤ 8 * Mx 71 a + 3) := by
    rw [up_ne (by decide), up_ne (by decide)]
    rcases hkk with e | e
    · refine ⟨by unfold Qn_; rw [if_pos (.inr e), z6 13 (by decide), z6 14 (by decide)]; exact Int.le_refl _, fun ⟨i, i0, i1⟩ => ?_⟩
      have q1 := (hl9' j hj.1 hj.2).2
      rw [hja] at q1
      have := hdup2 ⟨i, i0.1, i0.2, by rw [i1, q1]⟩
      (clear hbc hb hL hk hk1 h12 htr hT hVT hE h75 h104 h53 e3 h8 h16 hga hpa ha0 hE1 hl9 hlg hp0 ha12 hV hW hTk hTT hT0 hl2 hc hq175 hl9' hjk ei1 hj hja hK i10 htk ei2 xr x1i x19 x129 x64 hE3 hT3 hE4 y70 hT4 hE5 z6 zr zx1 zxr hmono hat run hdup hdup2 hrun hQn w6 wr w188 w189 w13 hE6 i0 i1 q1; omega)
    · have e2 : Qn_ (nx_ (nx_ Mq)) 1 kk (Mx 71 a) = nt_ (nx_ (nx_ Mq)) 3 (Mx 71 a) := by unfold Qn_; rw [if_neg (by omega), e]
      rw [e2]
      have n2 : vk_ (nx_ (nx_ Mq) 6 13) (nx_ (nx_ Mq) 6 14) := hE5.2.2.2.2.2.2.2.2.2.2.1.2.1
      have hfq : fqq_ (nt_ (nx_ (nx_ Mq)) 3 (Mx 71 a)) = np_ 1 (fqq_ (nx_ (nx_ Mq))) 3 (Mx 71 a) := by rw [nt_fq, z6 16 (by decide), h16]
      have k2 := kk_np (q := fqq_ (nx_ (nx_ Mq))) (k := 3) (p := Mx 71 a) n2 (by decide) (by decide) hpa.1 hpa.2
      have f13 : nt_ (nx_ (nx_ Mq)) 3 (Mx 71 a) 6 13 = (np_ 1 (fqq_ (nx_ (nx_ Mq))) 3 (Mx 71 a)).1 := congrArg Prod.fst hfq
      have f14 : nt_ (nx_ (nx_ Mq)) 3 (Mx 71 a) 6 14 = (np_ 1 (fqq_ (nx_ (nx_ Mq))) 3 (Mx 71 a)).2 := congrArg Prod.snd hfq
      have hkq : kk_ (fqq_ (nx_ (nx_ Mq))).1 (fqq_ (nx_ (nx_ Mq))).2 = kk_ (Mq 6 13) (Mq 6 14) := by
        show kk_ (nx_ (nx_ Mq) 6 13) (nx_ (nx_ Mq) 6 14) = _
        rw [z6 13 (by decide), z6 14 (by decide)]
      rw [f13, f14, k2.1, hkq]
      exact ⟨by (clear hbc hb hL hk hk1 h12 htr hT hVT hE h75 h104 h53 e3 h8 h16 hga hpa ha0 hE1 hl9 hlg ha12 hV hW hTk hTT hT0 hl2 hc hq175 hl9' hjk ei1 hj hja hK i10 htk ei2 xr x1i x19 x129 x64 hE3 hT3 hE4 y70 hT4 hE5 z6 zr zx1 zxr hmono hat run hdup hdup2 hrun hQn w6 wr w188 w189 w13 hE6 e e2 n2 hfq k2 f13 f14 hkq; omega), fun _ => by (clear hbc hb hL hk hk1 h12 htr hT hVT hE h75 h104 h53 e3 h8 h16 hga hpa ha0 hE1 hl9 hlg ha12 hV hW hTk hTT hT0 hl2 hc hq175 hl9' hjk ei1 hj hja hK i10 htk ei2 xr x1i x19 x129 x64 hE3 hT3 hE4 y70 hT4 hE5 z6 zr zx1 zxr hmono hat run hdup hdup2 hrun hQn w6 wr w188 w189 w13 hE6 e e2 n2 hfq k2 f13 f14 hkq; omega)⟩
  refine rv_i (hK _ (up_ (up_ (Qn_ (nx_ (nx_ Mq)) 1 kk (Mx 71 a)) 188 (10 * T + j) (Mq 6 75)) 189 (10 * T + j) me) ?_ hkey hrun)
  generalize up_ (up_ (Qn_ (nx_ (nx_ Mq)) 1 kk (Mx 71 a)) 188 (10 * T + j) (Mq 6 75)) 189 (10 * T + j) me = Mq6 at *
  refine ⟨⟨Int.le_refl _, fun _ => rfl⟩, hE6, ?_, ⟨fun r hr => ?_, fun i a3 a4 a5 a7 a19 => ?_⟩, ?_, ⟨fun r hr => ?_, w6⟩, fun hb0 => by omega, fun _ => ?_⟩
  · have hLG : LBG b F (nX_ (nX_ M3)) Mq6 := by
      unfold LBG at hlg ⊢
      rw [zx1 18 (by decide), x1i 18 (by decide), hTk, zxr 128 (by decide), zxr 62 (by decide), zxr 71 (by decide), xr 128 (by decide) (by decide) (by decide), xr 62 (by decide) (by decide) (by decide), xr 71 (by decide) (by decide) (by decide), wr 180 (by decide) (by decide) (by decide)]
      rw [hTk] at hlg
      exact hlg
    unfold LBT lbl9 nm9_ gd_ at hL ⊢
    rw [zx1 18 (by decide), x1i 18 (by decide), hTk, zxr 128 (by decide), zxr 62 (by decide), zxr 70 (by decide), zxr 71 (by decide), xr 128 (by decide) (by decide) (by decide), xr 62 (by decide) (by decide) (by decide), xr 70 (by decide) (by decide) (by decide), xr 71 (by decide) (by decide) (by decide), wr 151 (by decide) (by decide) (by decide), wr 175 (by decide) (by decide) (by decide), wr 180 (by decide) (by decide) (by decide), wr 187 (by decide) (by decide) (by decide)]
    rw [hTk] at hL
    refine ⟨hL.1, fun k k0 k1 => ?_, hLG⟩
    have := hL.2.1 k k0 k1
    exact ⟨this.1, fun hb0 => by (clear hbc hk hk1 h12 htr hT hVT hE h75 h104 h53 e3 h8 h16 hga hpa ha0 hE1 hl9 hlg hp0 ha12 hV hW hL hTk hTT hT0 hl2 hc hq175 hl9' hjk ei1 hj hja hK i10 htk ei2 xr x1i x19 x129 x64 hE3 hT3 hE4 y70 hT4 hE5 z6 zr zx1 zxr hmono hat run hkk hdup hdup2 hQn hrun w6 wr w188 w189 w13 hE6 hkey hLG k0 k1 this; lia), this.2.2⟩
  · rw [zxr r (fun e => hr (by rw [e]; decide)), xr r (fun e => hr (by rw [e]; decide)) (fun e => hr (by rw [e]; decide)) (fun e => hr (by rw [e]; decide))]
  · rw [zx1 i a3, x1i i a19]
  · rw [zx1 7 (by decide), x1i 7 (by decide)]; (clear hbc hb hL hk hk1 h12 htr hT hVT hE h75 h104 h53 e3 h8 h16 hga hpa ha0 hE1 hl9 hlg hp0 ha12 hV hW hTk hTT hT0 hl2 hc hq175 hl9' hjk ei1 hj hja hK i10 htk ei2 xr x1i x19 x129 x64 hE3 hT3 hE4 y70 hT4 hE5 z6 zr zx1 zxr hmono hat run hkk hdup hdup2 hQn hrun w6 wr w188 w189 w13 hE6 hkey; lia)
  · exact wr r (fun e => hr (by rw [e]; decide)) (fun e => hr (by rw [e]; decide)) (fun e => hr (by rw [e]; decide))
  · rw [hTk, hjk, htk, zxr 128 (by decide), zxr 62 (by decide), zxr 64 (by decide), zxr 129 (by decide), zx1 19 (by decide), xr 62 (by decide) (by decide) (by decide), xr 128 (by decide) (by decide) (by decide), wr 175 (by decide) (by decide) (by decide), wr 180 (by decide) (by decide) (by decide), wr 187 (by decide) (by decide) (by decide)]
    exact ⟨rfl, rfl, x19, x129, x64, rfl, rfl, rfl, w188, w189, w13⟩
end LB
section LC
variable {b F : Int} {Mx Mq : mm_} {a o : Int}
theorem kk_le {f p : Int} (h : vk_ f p) : kk_ f p ≤ 1000000 := by unfold kk_ vk_ at *; split <;> lia
/-- the numbers may be chosen anew -/
theorem ER_i (i1 i2 : Inhabited gh_) (h : @ER i1 b F Mx Mq a o) (hg : @gg_ i2 = @gg_ i1) (hb : b = 1 → kk_ (Mq 6 13) (Mq 6 14) ≤ @bb_ i2 (Mx 1 19)) : @ER i2 b F Mx Mq a o := by
  obtain ⟨e1, e2, e3, e4, e5, e6, e7, e8, e9, e10, ⟨n1, n2, n3, n4, n5⟩, e12, e13, e14⟩ := h
  refine ⟨e1, e2, e3, e4, e5, e6, e7, e8, e9, e10, ⟨n1, n2, n3, n4, ?_⟩, e12, by rw [hg]; exact e13, e14⟩
  rcases e9 with e | e
  · exact .inl (by rw [e8]; exact e)
  · exact .inr (hb e)
abbrev ih_ (g : Nat) (f : Int → Int) (x y : Int) : Inhabited gh_ := ⟨(g, f, x, y)⟩
theorem ER_i1 (i1 : Inhabited gh_) {x y : Int} (h : @ER i1 b F Mx Mq a o) : @ER (ih_ (@gg_ i1) (fun _ => 1000000) x y) b F Mx Mq a o := ER_i i1 _ h rfl fun _ => kk_le h.2.2.2.2.2.2.2.2.2.2.1.2.1
theorem ER_kk [Inhabited gh_] (h : ER b F Mx Mq a o) (hb : b = 1) : kk_ (Mq 6 13) (Mq 6 14) ≤ bb_ (Mx 1 19) := by
  rcases h.2.2.2.2.2.2.2.2.2.2.1.2.2.2.2 with z | z
  · have := h.2.2.2.2.2.2.2.1; (clear h; lia)
  · exact z
end LC
section LD
variable {d dq : Nat} {b F : Int} {Mx Mq : mm_} {a o me : Int} {Kv : mm_ → Prop} {Qt : qt_}
theorem y_137q [Inhabited gh_] (h : TA b F Mx Mq a o) (hb : b = 1) (hL : LBT b F Mx Mq a) (hk : Mx 70 a = 100) (hk1 : Mx 70 (a + 1) = 258) (h12 : a + 1 < 1200) (htr : 1 ≤ Mx 1 29 ∧ Mx 1 29 ≤ 600) (hj : 0 ≤ Mx 1 19 ∧ Mx 1 19 < Mx 128 (Mx 1 18)) (hja : Mx 62 (10 * Mx 1 18 + Mx 1 19) = a)
    (hK : ∀ Mx' Mq', LBR b F F Mx Mq Mx' Mq' a o me → (∀ (Kv : mm_ → Prop) (Qtq : qt_), Kv Mq' → Tr_ wd0 pg0 (dq + 4) 262 [.inr (.inr 6), .inl me] Mq (rv_ Kv) Qtq) → Kv Mx') :
    Tr_ wd0 pg0 (d + 3) 137 [.inr (.inr 1)] Mx (rv_ Kv) Qt := by
  obtain ⟨t1, t2, t3, t4⟩ := h
  obtain ⟨l1, l2, l3⟩ := id hL
  refine y_137q0 (dq := dq) (me := me) (ih_ gg_ (fun _ => 1000000) 0 0) (fun _ => rfl) ⟨t1, t2, ER_i1 _ t3, t4⟩ hb ⟨l1, l2, fun hb0 => by (clear hL hk hk1 h12 htr hj hja hK t1 t2 t3 t4 l1 l2 l3; lia), fun _ k _ _ => .inl (Int.le_refl _)⟩ hk hk1 h12 htr hj hja fun Mx' Mq' hR hkey hrun => hK Mx' Mq' ?_ hrun
  obtain ⟨r1, r2, r3, r4, r5, r6, r7, r8⟩ := hR
  have r8' := r8 hb
  have e18 : Mx' 1 18 = Mx 1 18 := r4.2 18 (by decide) (by decide) (by decide) (by decide) (by decide)
  refine ⟨r1, ER_i _ _ r2 rfl fun _ => ?_, ⟨r3.1, r3.2.1, ?_⟩, r4, r5, r6, r7, r8⟩
  · rw [r8'.2.2.1]
    have k1 := ER_kk t3 hb
    rcases l3.2 hb (Mx 1 19) hj.1 hj.2 with z | ⟨z1, z2⟩
    · (clear hb hL hk hk1 h12 htr hj hja hK t1 t2 t3 t4 l1 l2 l3 hrun r1 r2 r3 r4 r5 r6 r7 r8 r8' e18; omega)
    · have := hkey.2 z1
      rw [hja] at z2
      (clear hb hL hk hk1 h12 htr hj hja hK t1 t2 t3 t4 l1 l2 l3 hkey hrun r1 r2 r3 r4 r5 r6 r7 r8 r8' e18 k1; lia)
  · unfold LBG at l3 ⊢
    rw [e18, r8'.1, r8'.2.1, r4.1 71 (by decide), r8'.2.2.2.2.2.2.1]
    exact l3
end LD
end T126_lb
section T127_ac
/-! an act that is no decide -/
section AC
variable {d dq n : Nat} {b F F' : Int} {Mx Mq Mx1 Mq1 M : mm_} {a a1 o j p me T : Int} {K : Int → mm_ → Prop} {Kv G : mm_ → Prop} {Qt : qt_} {V : vv_} {dec : Int → Option Int}
theorem y_143a [Inhabited gh_] (hn : n ≤ 12) (ho : o = 12 - (n : Int)) (h : TA b F Mx Mq a o) (hG : GT b F Mx Mq (Mx 71 a)) (hk : Mx 70 a = 100 ∨ (14 ≤ Mx 70 a ∧ Mx 70 a ≤ 17)) (hS : b = 1 → acS (Mx 70) dec o a ≠ none)
    (hK : ∀ MX Mx' Mq' a' w v, SM Mx MX w v → (w = 1 ∨ w = 2 ∨ w = 3 ∨ w = 4 ∨ w = 5) → AR b F MX Mq Mx' Mq' a a' o w v → acS (Mx 70) dec o a = some a' → (∀ (Kv : mm_ → Prop) (Qtq : qt_), Kv Mq' → Tr_ wd0 pg0 (dq + 15) 296 [.inr (.inr 6)] Mq (rv_ Kv) Qtq) → K 0 Mx')
    (hQ : b = 0 → ∀ Mx', XA Mx Mx' → (∀ (Kv : mm_ → Prop) (Qtq : qt_), (∀ M', SQ Mx' Mq M' → Kv M') → Tr_ wd0 pg0 (dq + 15) 296 [.inr (.inr 6)] Mq (rv_ Kv) Qtq) → Qt 8 Mx') :
    Tr_ wd0 pg0 (9 * n + 17) 143 [.inr (.inr 1)] Mx (ri_ K) Qt := by
  have c : Mx 70 a = 100 ∨ Mx 70 a = 14 ∨ Mx 70 a = 15 ∨ Mx 70 a = 16 ∨ Mx 70 a = 17 := by (clear hn ho h hG hK; lia)
  rcases c with c | c | c | c | c
  · refine Tr_le (d := 9 * n + 16) (by omega) (y_143g (dq := dq) hn ho h c hS (fun Mx' Mq' a' hA hs hq => hK Mx Mx' Mq' a' 1 0 (.inl ⟨rfl, .inl (by decide)⟩) (.inl rfl) hA hs fun Kv Qtq hk => Tr_le (by omega) (hq Kv Qtq hk)) (fun hb Mx' hx hq => hQ hb Mx' hx fun Kv Qtq hk => Tr_le (by omega) (hq Kv Qtq hk)))
  · exact y_143o (dq := dq) hn ho h hG c hS (fun MX Mx' Mq' a' h1 h2 h3 h4 => hK MX Mx' Mq' a' 2 _ h1 (by decide) h2 h3 h4) hQ
  · refine Tr_le (d := 9 * n + 15) (by omega) (y_143s (dq := dq) hn ho h c hS (fun Mx' Mq' a' hA hs hq => hK Mx Mx' Mq' a' 3 0 (.inl ⟨rfl, .inl (by decide)⟩) (by decide) hA hs fun Kv Qtq hk => Tr_le (by omega) (hq Kv Qtq hk)) (fun hb Mx' hx hq => hQ hb Mx' hx fun Kv Qtq hk => Tr_le (by omega) (hq Kv Qtq hk)))
  · refine Tr_le (d := 9 * n + 15) (by omega) (y_143r (dq := dq) hn ho h c hS (fun Mx' Mq' a' hA hs hq => hK Mx Mx' Mq' a' 4 0 (.inl ⟨rfl, .inl (by decide)⟩) (by decide) hA hs fun Kv Qtq hk => Tr_le (by omega) (hq Kv Qtq hk)) (fun hb Mx' hx hq => hQ hb Mx' hx fun Kv Qtq hk => Tr_le (by omega) (hq Kv Qtq hk)))
  · exact y_143c (dq := dq) hn ho h hG c hS (fun MX Mx' Mq' a' h1 h2 h3 h4 => hK MX Mx' Mq' a' 5 _ h1 (by decide) h2 h3 h4) hQ
/-- a last -/
theorem y_140a [Inhabited gh_] (h : TA b F Mx Mq a o) (h9 : lbl9 Mx Mq) (hs9 : stt9 Mx Mq) (htr : 1 ≤ Mx 1 29 ∧ Mx 1 29 ≤ 600) (hm : 0 ≤ me ∧ me < 1300) (hst : b = 1 → (Mx 66 (Mx 1 29 - 1) = -1 ↔ Mq 215 me ≠ 0)) (hk : 11 ≤ Mx 70 a ∧ Mx 70 a ≤ 13) (hS : b = 1 → laS (Mx 70) a ≠ none)
    (hK : ∀ MX MQ Mx' Mq' a' w, LM b Mx Mq me MX MQ → (w = 8 ∨ w = 9 ∨ w = 10) → AR b F MX MQ Mx' Mq' a a' o w 0 → laS (Mx 70) a = some a' → (∀ (Kv : mm_ → Prop) (Qtq : qt_), Kv Mq' → Tr_ wd0 pg0 (dq + 6) 264 [.inr (.inr 6), .inl me] Mq (rv_ Kv) Qtq) → Kv Mx')
    (hQ : b = 0 → ∀ Mx', XA Mx Mx' → (∀ (Kv : mm_ → Prop) (Qtq : qt_), (∀ M', SQ Mx' Mq M' → Kv M') → Tr_ wd0 pg0 (dq + 6) 264 [.inr (.inr 6), .inl me] Mq (rv_ Kv) Qtq) → Qt 8 Mx') : Tr_ wd0 pg0 (d + 8) 140 [.inr (.inr 1)] Mx (rv_ Kv) Qt := by
  have c : Mx 70 a = 11 ∨ Mx 70 a = 12 ∨ Mx 70 a = 13 := by (clear h h9 hs9 htr hm hst hS hK hQ; lia)
  rcases c with c | c | c
  · exact y_140n (dq := dq) h hs9 htr hm hst c hS (fun MX MQ Mx' Mq' a' h1 h2 h3 h4 => hK MX MQ Mx' Mq' a' 8 h1 (by decide) h2 h3 h4) hQ
  · exact y_140s (dq := dq) (d := d + 1) h c hS (fun MX MQ Mx' Mq' a' h1 h2 h3 h4 => hK MX MQ Mx' Mq' a' 9 h1 (by decide) h2 h3 h4) hQ
  · exact y_140j (dq := dq) (d := d + 1) h h9 htr hm c hS (fun MX MQ Mx' Mq' a' h1 h2 h3 h4 => hK MX MQ Mx' Mq' a' 10 h1 (by decide) h2 h3 h4) hQ
/-- a label that has no room: X -/
theorem y_137z [Inhabited gh_] (h : TA b F Mx Mq a o) (hb : b = 0) (hL : LBT b F Mx Mq a) (hk : Mx 70 a = 100) (h12 : a = 1200) (hQ : ∀ Mx', XA Mx Mx' → Mx' 1 4 = 2 → (Mx' 1 5 = Mx 71 a ∧ 0 ≤ Mx' 1 7 ∧ Mx' 1 7 ≤ 1000001000 - (gg_ : Int)) → Qt 8 Mx') : Tr_ wd0 pg0 (d + 3) 137 [.inr (.inr 1)] Mx (rv_ Kv) Qt := by
  obtain ⟨hT, hVT, hE, h75, h104, h53⟩ := h
  have e3 := hE.2.1
  have h8 : Mx 1 8 = 0 := by rw [hE.2.2.2.2.2.2.1]; exact hb
  have hga := hE.1
  have hpa := tk_p hT hga
  have hl9 := hL.1
  have hT0 : 0 ≤ Mx 1 18 ∧ Mx 1 18 < 6 := ⟨hVT.2.2.1, hVT.2.2.2.1⟩
  have hc := hl9.1
  have ha12 : 0 ≤ a ∧ a < 1202 := by omega
  have i10 : w32 (w32 (10 * Mx 1 18) + Mx 128 (Mx 1 18)) = 10 * Mx 1 18 + Mx 128 (Mx 1 18) := by rw [w32_id (x := 10 * Mx 1 18) (by omega) (by omega), w32_id (by (clear hb hL hk h12 hQ hT hVT hE h75 h104 h53 e3 h8 hga hpa hl9 ha12; lia)) (by (clear hb hL hk h12 hQ hT hVT hE h75 h104 h53 e3 h8 hga hpa hl9 ha12; omega))]
  refine t_137 fun V hV hW => b_137_0 (Tr_mono _) hV hW Mx ?_
  intro _
  rw [if_pos h8, e3]
  refine ⟨hVT.1, hT0, ?_⟩
  by_cases c10 : Mx 128 (Mx 1 18) = 10
  · rw [if_pos c10]
    exact x_110 ha12.1 ha12.2 (fun e => absurd e (by decide)) (fun _ => hQ _ (XF_XA fl_XF) fl_4 ⟨fl_5, fl_b7 hE⟩)
  rw [if_neg c10]
  refine x_110 ha12.1 ha12.2 (fun _ => ?_) (fun e => absurd rfl e)
  refine b_137_41 (Tr_mono _) hV hW _ _ _ ?_
  refine x_113R hT hVT hl9 ⟨hga, hk⟩ ?_
  have fin : ∀ M1 : mm_, XF Mx M1 → (∀ i : Int, i ≠ 4 → i ≠ 5 → i ≠ 7 → M1 1 i = Mx 1 i) → (Mx 1 7 ≤ M1 1 7 ∧ M1 1 7 ≤ Mx 1 7 + 1) → V 68 [rr 1, ii a, ii (Mx 128 (Mx 1 18))] [] M1 := by
    intro M1 hx hi h7
    refine b_137_68 (Tr_mono _) hV hW _ _ _ ?_
    rw [hi 18 (by decide) (by decide) (by decide), hi 2 (by decide) (by decide) (by decide), i10]
    have r70 : ∀ r : Nat, r ≠ 1 → r ≠ 5 → r ≠ 142 → M1 r = Mx r := fun r a b c => XF_70 hx a b c
    refine ⟨by (clear hb hL hk h12 hQ hT hVT hE h75 h104 h53 e3 h8 hga hpa hl9 ha12 hV hW hx hi h7 r70; lia), hVT.1, hT0, hT0, ?_⟩
    refine x_105 ?_ (fun h => ?_) (fun _ => ?_)
    · unfold iX_; rw [up_ne (by decide), up_ne (by decide), hi 3 (by decide) (by decide) (by decide), e3]; omega
    · rw [up_ne (by decide), up_ne (by decide), hi 3 (by decide) (by decide) (by decide)] at h; omega
    · rw [up_ne (by decide), up_ne (by decide), hi 3 (by decide) (by decide) (by decide), e3]
      refine hQ _ (XA_tr (XF_XA hx) (XA_tr (XA_tr (XA_ur (by decide) (by decide) (by decide)) (XA_ur (by decide) (by decide) (by decide))) (XF_XA fl_XF))) fl_4 ⟨?_, ?_⟩
      · rw [fl_5, up_ne (by decide), up_ne (by decide), r70 71 (by decide) (by decide) (by decide)]
      · rw [fl_7, up_ne (by decide), up_ne (by decide)]
        have := hE.2.2.2.2.2.2.2.2.2.2.2.2.1
        have := hE.2.2.2.2.2.2.2.2.2.2.2.1
        (clear hb hL hk hQ hT hVT hE h75 h104 h53 e3 h8 hga hpa hl9 hT0 hc ha12 i10 hV hW c10 hx hi r70; omega)
  by_cases c : lbl Mq (Mq 151 a) = -1
  · rw [if_pos c]; exact fin _ XF_rf (fun _ _ _ _ => rfl) (by omega)
  · rw [if_neg c]; exact x_116 ha12.1 ha12.2 (ER_fl hE).1 (ER_fl hE).2 (fin _ nt1_XF (fun i a b c => nt1_1 a b c) (by rw [nt1_7]; omega))
/-- once Q has stopped within a trans -/
theorem q_260s77 [Inhabited gh_] {Mx' : mm_} {x1 x2 x3 x4 x5 : Int} (hV : Cl_ wd0 (Tr_ wd0 pg0 (d + 1)) V (rv_ Kv) Qt m_260) (hW : Wk_ V) (hs : SQ Mx' Mq M) (h : ∀ M', SQ Mx' Mq M' → Kv M') : V 77 [rr 6, ii x1, ii x2, ii x3, ii x4, ii x5, none] [] M := by
  have h16 : M 6 16 = 0 := hs.1.2
  have e : nt_ M 6 (M 150 (M 6 12)) = M := by unfold nt_; rw [if_pos h16]
  have fin : bl_ (M 6 103) → (if M 6 103 = 0 then (0 ≤ M 6 12 ∧ M 6 12 < 1202) ∧ Tr_ wd0 pg0 (d + 1) 236 [.inr (.inr 6), .inl 6, .inl (M 150 (M 6 12))] M (rv_ fun M1 => rv_ Kv [] M1) Qt else rv_ Kv [] M) := by
    intro _
    by_cases c : M 6 103 = 0
    · rw [if_pos c]; exact ⟨hs.2.1, q_236 (by rw [e]; exact rv_i (h _ hs))⟩
    · rw [if_neg c]; exact rv_i (h _ hs)
  refine b_260_77 (Tr_mono _) hV hW _ _ _ _ _ _ ?_
  by_cases c : x5 = 0
  · rw [if_pos c]; exact fin
  · rw [if_neg c]
    refine q_227s hs.1 ?_
    rw [if_neg (by decide)]; exact fin
theorem q_260s122 [Inhabited gh_] {Mx' : mm_} {x1 x2 x3 x4 x5 x6 : Int} (hV : Cl_ wd0 (Tr_ wd0 pg0 (d + 1)) V (rv_ Kv) Qt m_260) (hW : Wk_ V) (hs : SQ Mx' Mq M) (h : ∀ M', SQ Mx' Mq M' → Kv M') : V 122 [rr 6, ii x1, ii x2, ii x3, ii x4, ii x5, ii x6] [] M := by
  refine b_260_122 (Tr_mono _) hV hW _ _ _ _ _ _ _ (q_227s hs.1 ?_)
  rw [if_neg (by decide)]
  exact rv_i (h _ hs)
theorem q_260s92 [Inhabited gh_] {Mx' : mm_} {x1 x2 x3 x4 x5 x6 : Int} (hV : Cl_ wd0 (Tr_ wd0 pg0 (d + 1)) V (rv_ Kv) Qt m_260) (hW : Wk_ V) (hs : SQ Mx' Mq M) (h : ∀ M', SQ Mx' Mq M' → Kv M') : V 92 [rr 6, ii x1, ii x2, ii x3, ii x4, ii x5, ii x6] [] M := by
  refine b_260_92 (Tr_mono _) hV hW _ _ _ _ _ _ _ ?_
  by_cases c : x4 = 0
  · rw [if_pos c]
    refine q_227s hs.1 ?_
    rw [if_neg (by decide)]
    exact q_260s122 hV hW hs h
  · rw [if_neg c]
    exact q_260s122 hV hW hs h
end AC
end T127_ac

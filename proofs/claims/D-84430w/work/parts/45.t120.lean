section T120_ou
/-! output: its end -/
section OU
variable {d dq n : Nat} {b F : Int} {Mx Mq MX MQ Mx1 Mq1 Mx8 Mq8 M : mm_} {a a1 a8 o o1 s z p : Int} {K : Int → mm_ → Prop} {Kv G : mm_ → Prop} {Qt : qt_} {V : vv_} {dec : Int → Option Int}
/-- what an output has: s signal, nn values, mode m, route or none -/
def OUM (Mx Mq : mm_) (T k c c2 fe s nn m : Int) : Prop := (0 ≤ s ∧ s < Mq 6 17) ∧ nn = Mq 156 s ∧ ∃ c1, VAL Mx Mq T fe (fun i => Mq 157 (3 * s + i)) k nn.toNat c c1
    ∧ ((m = 0 ∧ c2 = c1 ∧ Mq 206 k = -1 ∧ Mq 207 k = -1) ∨ (m = 1 ∧ Mq 207 k = -1 ∧ EXP Mx Mq T c1 c2 (Mq 206 k) fe 3) ∨ (m = 2 ∧ c2 = c1 ∧ Mq 206 k = -1 ∧ 0 ≤ Mq 207 k ∧ Mq 207 k < Mq 6 18))
theorem l_157e [Inhabited gh_] {x1 sg x3 nn m r : Int} (A : AM b F MX Mq Mx8 Mq8 a a8 o s z) (hs : s ≤ 2) (hz : -5 ≤ z) (ha : a + 2 ≤ a8) (hnn : 0 ≤ nn ∧ nn ≤ 3)
    (h75 : Mq8 6 75 = Mq 6 75 + 1) (h3 : Mq8 203 (Mq 6 75) = 2) (h4 : Mq8 204 (Mq 6 75) = MX 71 a) (h5 : Mq8 205 (Mq 6 75) = sg) (h10 : Mq8 210 (Mq 6 75) = nn) (h7 : Mq8 207 (Mq 6 75) = r)
    (hop : b = 1 → Mq8 6 13 = 0 → OUM Mx8 Mq8 (Mq 6 61) (Mq 6 75) (MX 5 3) (Mx8 5 3) (Mq8 6 104) sg nn m)
    (hS : b = 1 → tS (MX 70) 259 a8 ≠ none)
    (pre : ∀ (Kv : mm_ → Prop) (Qtq : qt_), Tr_ wd0 pg0 (dq + 13) 244 [.inr (.inr 6), .inl 59] Mq8 (rv_ Kv) Qtq → Tr_ wd0 pg0 (dq + 15) 296 [.inr (.inr 6)] Mq (rv_ Kv) Qtq)
    (hK : ∀ Mx' Mq' a', Mq' 205 (Mq 6 75) = sg → AR b F MX Mq Mx' Mq' a a' o 2 sg → tS (MX 70) 259 a8 = some a' → (∀ (Kv : mm_ → Prop) (Qtq : qt_), Kv Mq' → Tr_ wd0 pg0 (dq + 15) 296 [.inr (.inr 6)] Mq (rv_ Kv) Qtq) → G Mx')
    (hQ : b = 0 → ∀ Mx', XA MX Mx' → (∀ (Kv : mm_ → Prop) (Qtq : qt_), (∀ M', SQ Mx' Mq M' → Kv M') → Tr_ wd0 pg0 (dq + 15) 296 [.inr (.inr 6)] Mq (rv_ Kv) Qtq) → Qt 8 Mx')
    (hV : Cl_ wd0 (Tr_ wd0 pg0 (d + 15)) V (rv_ fun M8 => Tr_ wd0 pg0 (d + 16) 121 [.inr (.inr 1), .inl 59] M8 (rv_ G) Qt) Qt m_157) (hW : Wk_ V) : V 266 [rr 1, ii x1, ii sg, ii x3, ii nn, ii m, ii r, none] [] Mx8 := by
  have hE := AM_E A
  have h01 := hE.2.2.2.2.2.2.2.2.1
  have h18 := hE.2.2.2.2.2.2.1
  have P1 := PXL_1 (v := 33) h18 h01 (PXL_0 (b := b) (M := Mx8))
  have P2 := PXL_1 (v := sg) h18 h01 P1
  have P3 := PXL_1 (v := nn) h18 h01 P2
  have P4 := PXL_1 (v := m) h18 h01 P3
  have P5 := PXL_1 (v := r) h18 h01 P4
  have B1 := AM_p A P1 (by simp only [List.length_cons, List.length_nil]; omega)
  have B2 := AM_p A P2 (by simp only [List.length_cons, List.length_nil]; omega)
  have B3 := AM_p A P3 (by simp only [List.length_cons, List.length_nil]; omega)
  have B4 := AM_p A P4 (by simp only [List.length_cons, List.length_nil]; omega)
  have B5 := AM_p A P5 (by simp only [List.length_cons, List.length_nil]; omega)
  refine b_157_266 (Tr_mono _) hV hW _ _ _ _ _ _ _ ?_
  refine x_138 (AM_V A).1 (ER_st hE).1 (ER_st hE).2 ?_
  refine x_138 (AM_V B1).1 (ER_st (AM_E B1)).1 (ER_st (AM_E B1)).2 ?_
  refine x_138 (AM_V B2).1 (ER_st (AM_E B2)).1 (ER_st (AM_E B2)).2 ?_
  refine x_138 (AM_V B3).1 (ER_st (AM_E B3)).1 (ER_st (AM_E B3)).2 ?_
  refine x_138 (AM_V B4).1 (ER_st (AM_E B4)).1 (ER_st (AM_E B4)).2 (rv_i ?_)
  refine y_end (Mx := MX) (Mq := Mq) (w := 2) (v := sg) B5 hS pre hz (by omega) h75 (by simp only [List.length_cons, List.length_nil]; omega) ⟨h4, h3, fun _ => h5⟩ (fun hb h0 => ?_) (fun Mx' Mq' a' hA hs hq => hK Mx' Mq' a' (hA.2.2.2.2.2.2.2.2.2.2.2.2.1.2.2 (.inl rfl)) hA hs hq) hQ
  obtain ⟨g1, g2, c1, g3, g4⟩ := hop hb h0
  have hp5 := P5.2.2.2.1 hb
  obtain ⟨s5, s4, s3, s2, s1, _⟩ := hp5.2
  have cd : ∀ i, i < Mx8 5 3 → pX_ (pX_ (pX_ (pX_ (pX_ Mx8 33) sg) nn) m) r 142 i = Mx8 142 i := P5.2.2.2.2.1
  have lc : c1 ≤ Mx8 5 3 := by
    rcases g4 with g | g | g
    · omega
    · exact (EXP_le g.2.2).1
    · omega
  refine .inr (.inl ⟨h3, by rw [h5]; exact g1, by rw [h10]; exact hnn.1, by rw [h10]; exact hnn.2, by rw [h10, h5]; exact g2, c1, Mx8 5 3, m, ?_, ?_, ?_, ?_, ?_, ?_, ?_, ?_⟩)
  · rw [h10, h5]
    exact VAL_c (fun i _ _ => ⟨rfl, rfl⟩) tb_rf (by omega) (fun _ => rfl) _ (by omega) (fun i _ _ => rfl) (fun i _ hi => cd i (by omega)) g3
  · rcases g4 with g | g | g
    · exact .inl g
    · exact .inr (.inl ⟨g.1, g.2.1, EXP_c g.2.2 (fun i _ hi => cd i hi) (fun i _ _ => ⟨rfl, rfl⟩) tb_rf (by omega)⟩)
    · exact .inr (.inr g)
  · simpa using s1
  · rw [h5]; exact s2
  · rw [h10]; exact s3
  · exact s4
  · rw [h7]; exact s5
  · rw [hp5.1]; rfl
end OU
end T120_ou
section T121_ou
/-! output: to, via, or neither -/
section OV
variable {d dq n : Nat} {b F : Int} {Mx Mq MX MQ Mx7 Mq7 Mx8 Mq8 M : mm_} {a a1 a7 o o1 s z p : Int} {K : Int → mm_ → Prop} {Kv G : mm_ → Prop} {Qt : qt_} {V : vv_} {dec : Int → Option Int}
/-- behind the values of an output -/
def OVM [Inhabited gh_] (b F : Int) (MX Mq Mx7 Mq7 : mm_) (a a7 o s z sg nn : Int) : Prop := AM b F MX Mq Mx7 Mq7 a a7 o s z ∧ (s ≤ 0 ∧ 7 ≤ z ∧ a + 2 ≤ a7 ∧ 0 ≤ nn ∧ nn ≤ 3) ∧ (Mq7 6 75 = Mq 6 75 + 1 ∧ Mq7 203 (Mq 6 75) = 2 ∧ Mq7 204 (Mq 6 75) = MX 71 a ∧ Mq7 205 (Mq 6 75) = sg ∧ Mq7 206 (Mq 6 75) = -1 ∧ Mq7 207 (Mq 6 75) = -1 ∧ Mq7 210 (Mq 6 75) = nn)
  ∧ (b = 1 → Mq7 6 13 = 0 → (0 ≤ sg ∧ sg < Mq7 6 17) ∧ nn = Mq7 156 sg ∧ VAL Mx7 Mq7 (Mq 6 61) (Mq7 6 104) (fun i => Mq7 157 (3 * sg + i)) (Mq 6 75) nn.toNat (MX 5 3) (Mx7 5 3))
def ovS (κ : Int → Int) (o a3 : Int) : Option Int := (if κ a3 = 21 then (gS a3).bind (ES κ 0 o) else if κ a3 = 22 then (gS a3).bind (tS κ 100) else some a3).bind (tS κ 259)
theorem l_157m0 [Inhabited gh_] {x1 sg x3 nn : Int} (O : OVM b F MX Mq Mx7 Mq7 a a7 o s z sg nn) (k1 : MX 70 a7 ≠ 21) (k2 : MX 70 a7 ≠ 22) (hS : b = 1 → ovS (MX 70) o a7 ≠ none)
    (pre : ∀ (Kv : mm_ → Prop) (Qtq : qt_), (∀ V : vv_, Cl_ wd0 (Tr_ wd0 pg0 (dq + 13)) V (rv_ Kv) Qtq m_297 → Wk_ V → V 115 [rr 6, ii (MX 71 a), ii x1, ii sg, ii (Mq 6 75), none, none] [] Mq7) → Tr_ wd0 pg0 (dq + 15) 296 [.inr (.inr 6)] Mq (rv_ Kv) Qtq)
    (hK : ∀ Mx' Mq' a', Mq' 205 (Mq 6 75) = sg → AR b F MX Mq Mx' Mq' a a' o 2 sg → ovS (MX 70) o a7 = some a' → (∀ (Kv : mm_ → Prop) (Qtq : qt_), Kv Mq' → Tr_ wd0 pg0 (dq + 15) 296 [.inr (.inr 6)] Mq (rv_ Kv) Qtq) → G Mx')
    (hQ : b = 0 → ∀ Mx', XA MX Mx' → (∀ (Kv : mm_ → Prop) (Qtq : qt_), (∀ M', SQ Mx' Mq M' → Kv M') → Tr_ wd0 pg0 (dq + 15) 296 [.inr (.inr 6)] Mq (rv_ Kv) Qtq) → Qt 8 Mx')
    (hV : Cl_ wd0 (Tr_ wd0 pg0 (d + 15)) V (rv_ fun M8 => Tr_ wd0 pg0 (d + 16) 121 [.inr (.inr 1), .inl 59] M8 (rv_ G) Qt) Qt m_157) (hW : Wk_ V) : V 143 [rr 1, ii x1, ii sg, ii x3, ii nn, ii 0, none, none] [] Mx7 := by
  obtain ⟨A, ⟨hs, hz, ha, hn0, hn3⟩, ⟨q75, q3, q4, q5, q6, q7, q10⟩, hv⟩ := O
  have hE := AM_E A
  have hT := AM_T A
  have e70 := AM_70 A
  have eS : ovS (MX 70) o a7 = tS (MX 70) 259 a7 := by unfold ovS; rw [if_neg k1, if_neg k2, Option.bind_some]
  rw [eS] at hS hK
  refine b_157_143 (Tr_mono _) hV hW _ _ _ _ _ _ ?_
  rw [if_neg (by decide), if_neg (by decide)]
  refine l_157e (MX := MX) (dq := dq) A (by omega) (by omega) ha ⟨hn0, hn3⟩ q75 q3 q4 q5 q10 q7 (fun hb h0 => ?_) hS (fun Kv Qtq hq => pre _ _ fun V hV hW => b_297_115 (Tr_mono _) hV hW _ _ _ _ _ (j_228f hT hE (by decide) (by rw [e70]; exact k1) ?_)) hK hQ hV hW
  · obtain ⟨g1, g2, g3⟩ := hv hb h0
    exact ⟨g1, g2, Mx7 5 3, g3, .inl ⟨rfl, rfl, q6, q7⟩⟩
  · rw [if_pos rfl]
    refine j_228f hT hE (by decide) (by rw [e70]; exact k2) ?_
    rw [if_pos rfl]
    exact Tr_rv hq
theorem l_157m1 [Inhabited gh_] {x1 sg x3 nn : Int} (hn : n ≤ 12) (ho : o = 12 - (n : Int)) (hk0 : 0 ≤ Mq 6 75 ∧ Mq 6 75 < 1300) (O : OVM b F MX Mq Mx7 Mq7 a a7 o s z sg nn) (k1 : MX 70 a7 = 21) (hS : b = 1 → ovS (MX 70) o a7 ≠ none)
    (pre : ∀ (Kv : mm_ → Prop) (Qtq : qt_), (∀ V : vv_, Cl_ wd0 (Tr_ wd0 pg0 (dq + 13)) V (rv_ Kv) Qtq m_297 → Wk_ V → V 115 [rr 6, ii (MX 71 a), ii x1, ii sg, ii (Mq 6 75), none, none] [] Mq7) → Tr_ wd0 pg0 (dq + 15) 296 [.inr (.inr 6)] Mq (rv_ Kv) Qtq)
    (hK : ∀ Mx' Mq' a', Mq' 205 (Mq 6 75) = sg → AR b F MX Mq Mx' Mq' a a' o 2 sg → ovS (MX 70) o a7 = some a' → (∀ (Kv : mm_ → Prop) (Qtq : qt_), Kv Mq' → Tr_ wd0 pg0 (dq + 15) 296 [.inr (.inr 6)] Mq (rv_ Kv) Qtq) → G Mx')
    (hQ : b = 0 → ∀ Mx', XA MX Mx' → (∀ (Kv : mm_ → Prop) (Qtq : qt_), (∀ M', SQ Mx' Mq M' → Kv M') → Tr_ wd0 pg0 (dq + 15) 296 [.inr (.inr 6)] Mq (rv_ Kv) Qtq) → Qt 8 Mx')
    (hV : Cl_ wd0 (Tr_ wd0 pg0 (9 * n + 15)) V (rv_ fun M8 => Tr_ wd0 pg0 (9 * n + 16) 121 [.inr (.inr 1), .inl 59] M8 (rv_ G) Qt) Qt m_157) (hW : Wk_ V) : V 143 [rr 1, ii x1, ii sg, ii x3, ii nn, ii 1, none, none] [] Mx7 := by
  obtain ⟨A, ⟨hs, hz, ha, hn0, hn3⟩, ⟨q75, q3, q4, q5, q6, q7, q10⟩, hv⟩ := O
  have hE := AM_E A
  have hT := AM_T A
  have e70 := AM_70 A
  have e71 := AM_71 A
  have k1' : Mx7 70 a7 = 21 := by rw [e70]; exact k1
  have eS : ovS (MX 70) o a7 = ((gS a7).bind (ES (MX 70) 0 o)).bind (tS (MX 70) 259) := by unfold ovS; rw [if_pos k1]
  rw [eS] at hS hK
  refine b_157_143 (Tr_mono _) hV hW _ _ _ _ _ _ ?_
  rw [if_pos rfl]
  refine y_105 hE (by omega) (fun hb => by intro e; rw [e] at hS; exact hS hb rfl) (fun h12 hE1 => ?_) (fun hb h12 => ?_)
  rotate_left
  · have hsp := SQ_bf hE hb (k := 2) (by decide) (QC_QA (AM_Q A))
    refine hQ hb _ (XA_tr (XC_XA (AM_X A)) (XF_XA fl_XF)) fun Kv Qtq hk9 => pre _ _ fun V hV hW => b_297_115 (Tr_mono _) hV hW _ _ _ _ _ (j_228r hT hE hb (by decide) k1' h12 ?_)
    rw [if_neg (by decide)]
    refine q_270s hsp.1 ⟨hk0, q_244s (SQ_ur hsp (by decide) (by decide)).1 (rv_i (hk9 _ (SQ_ur hsp (by decide) (by decide))))⟩
  have A1 := AM_go A hE1
  have pre1 : ∀ (Kv : mm_ → Prop) (Qtq : qt_), Tr_ wd0 pg0 (dq + 13) 270 [.inr (.inr 6), .inl (2 + 1)] (nx_ Mq7) (ri_ fun v6 M8 => Tr_ wd0 pg0 (dq + 13) 244 [.inr (.inr 6), .inl 59] (up_ M8 206 (Mq 6 75) v6) (rv_ Kv) Qtq) Qtq → Tr_ wd0 pg0 (dq + 15) 296 [.inr (.inr 6)] Mq (rv_ Kv) Qtq := by
    intro Kv Qtq hq
    refine pre _ _ fun V hV hW => b_297_115 (Tr_mono _) hV hW _ _ _ _ _ (j_228t hT hE (by decide) k1' h12 ?_)
    rw [if_neg (by decide)]
    exact Tr_m hq (fun vs M ⟨x, e, g⟩ => ⟨x, e, hk0, Tr_rv g⟩) (fun _ _ g => g)
  have x8 : nX_ Mx7 5 3 = Mx7 5 3 ∧ nX_ Mx7 142 = Mx7 142 := by rw [nX_ne (by decide), nX_ne (by decide)]; exact ⟨rfl, rfl⟩
  have q8r : ∀ r : Nat, r ≠ 6 → nx_ Mq7 r = Mq7 r := fun r hr => nx_ne hr
  have q86 : ∀ i : Int, i ≠ 12 → nx_ Mq7 6 i = Mq7 6 i := fun i hi => nx_6 hi
  rw [gS_e h12, Option.bind_some] at hS hK
  generalize nX_ Mx7 = Mx8 at *
  generalize nx_ Mq7 = Mq8 at *
  have m70 := AM_70 A1
  refine Tr_le (d := 9 * n + 14) (by omega) ?_
  refine x_w (dq := dq + 1) (n := n) (w := 2) (wq := 2) hn ho (by omega) (by omega) (fun _ => rfl) (AM_T A1) (AM_V A1) hE1 (AM_f A1) (fun hb => by rw [m70]; intro e; have := hS hb; rw [e] at this; exact this rfl) (fun Mx9 Mq9 a9 hW9 hS9 hq9 => ?_) (fun hb Mx' hx9 hq9 => ?_)
  rotate_left
  · refine hQ hb Mx' (XA_tr (XC_XA (AM_X A1)) (XF_XA hx9)) fun Kv Qtq hk9 => pre1 _ _ (hq9 _ _ fun M' g1 g2 g3 g4 g5 => ?_)
    have hsp : SQ Mx' Mq M' := ⟨g1, g2, g3, g4, QA_tr (QC_QA (AM_Q A1)) (QF_QA g5)⟩
    exact q_244s (SQ_ur hsp (by decide) (by decide)).1 (hk9 _ (SQ_ur hsp (by decide) (by decide)))
  have A2 := AM_w A1 hW9
  have A3 := AM_up (r := 206) (v := Mq8 6 104) A2 (by decide) (rfl : Mq 6 75 = Mq 6 75)
  rw [m70] at hS9
  rw [hS9, Option.bind_some] at hS hK
  have w9r : ∀ r : Nat, r ≠ 6 → r < 227 → Mq9 r = Mq7 r := fun r h6 h27 => by rw [hW9.2.2.1.1 r (by simp only [List.mem_cons, List.not_mem_nil, or_false, not_or]; omega), q8r r h6]
  have w96 : ∀ i : Int, i = 75 ∨ i = 17 ∨ i = 18 ∨ i = 61 → Mq9 6 i = Mq7 6 i := fun i hi => by rw [hW9.2.2.1.2 i (by omega) (by omega) (by omega) (by omega) (by omega) (by omega) (by omega) (by omega) (by omega) (by omega) (by omega), q86 i (by omega)]
  refine l_157e (MX := MX) (dq := dq) A3 (by omega) (by omega) (by have := hW9.1; omega) ⟨hn0, hn3⟩ ?_ ?_ ?_ ?_ ?_ ?_ (fun hb h0 => ?_) hS (fun Kv Qtq hq => pre1 _ _ (hq9 _ _ hq)) hK hQ hV hW
  · rw [up_ne (by decide), w96 75 (.inl rfl)]; exact q75
  · rw [up_ne (by decide), w9r 203 (by decide) (by decide)]; exact q3
  · rw [up_ne (by decide), w9r 204 (by decide) (by decide)]; exact q4
  · rw [up_ne (by decide), w9r 205 (by decide) (by decide)]; exact q5
  · rw [up_ne (by decide), w9r 210 (by decide) (by decide)]; exact q10
  · rw [up_ne (by decide), w9r 207 (by decide) (by decide)]; exact q7
  · rw [up_ne (by decide)] at h0
    obtain ⟨h8, t, ht, hx⟩ := hW9.2.2.2.2.2.2.2.2.2 hb h0
    have ht3 : t = 3 := by have := ht (by decide); omega
    rw [q86 13 (by decide)] at h8
    obtain ⟨g1, g2, g3⟩ := hv hb h8
    have h61 : Mq8 6 61 = Mq 6 61 := (AM_Q A1).2 61 (by decide)
    rw [ht3, h61] at hx
    have tbq : tb_ Mq9 (up_ Mq9 206 (Mq 6 75) (Mq8 6 104)) := QC_tb (QC_ur (by decide) (by decide))
    have tb7 : tb_ Mq7 (up_ Mq9 206 (Mq 6 75) (Mq8 6 104)) := ⟨by rw [tbq.1]; exact w9r _ (by decide) (by decide), by rw [tbq.2.1]; exact w9r _ (by decide) (by decide), by rw [tbq.2.2.1]; exact w9r _ (by decide) (by decide), by rw [tbq.2.2.2.1]; exact w9r _ (by decide) (by decide), by rw [tbq.2.2.2.2]; exact w9r _ (by decide) (by decide)⟩
    have f0 := (AM_f A)
    have q104 := q86 104 (by decide)
    have h104 := hW9.2.2.2.2.1
    refine ⟨?_, ?_, Mx8 5 3, ?_, .inr (.inl ⟨rfl, ?_, ?_⟩)⟩
    · rw [up_ne (by decide), w96 17 (by omega)]; exact g1
    · rw [up_ne (by decide), w9r 156 (by decide) (by decide)]; exact g2
    · rw [x8.1]
      refine VAL_c (fun i x y => ?_) tb7 (by rw [up_ne (by decide)]; omega) (fun i => by rw [up_ne (by decide), w9r 157 (by decide) (by decide)]) _ (by omega) (fun i _ _ => by rw [up_ne (by decide), w9r 209 (by decide) (by decide)]) (fun i x y => ?_) g3
      · have := hW9.2.2.2.2.2.1 i x (by omega)
        rw [up_ne (by decide), up_ne (by decide), this.1, this.2, q8r 227 (by decide), q8r 228 (by decide)]; exact ⟨rfl, rfl⟩
      · have c0 := (ER_st A.1.2.2.1).1
        rw [hW9.2.2.2.2.2.2.2.1 i (by omega) (by omega), x8.2]
    · rw [up_ne (by decide), w9r 207 (by decide) (by decide)]; exact q7
    · rw [up_at]
      exact EXP_c hx (fun i _ _ => rfl) (fun i _ _ => by rw [up_ne (by decide), up_ne (by decide)]; exact ⟨rfl, rfl⟩) tbq (by rw [up_ne (by decide)]; omega)
end OV
end T121_ou

section T102_am
/-! within an act: what X and Q have done so far -/
def opL : List Nat := [203, 204, 205, 206, 207, 208, 210]
/-- from a to a1: s steps of X outside of e's, room for z notes -/
def AM [Inhabited gh_] (b F : Int) (Mx Mq Mx1 Mq1 : mm_) (a a1 o1 s z : Int) : Prop :=
  TA b F Mx Mq a (Mx 1 6) ∧ a ≤ a1 ∧ XC Mx Mx1 ∧ QC Mq Mq1 ∧ ER b F Mx1 Mq1 a1 o1 ∧ (Mq 6 104 ≤ Mq1 6 104 ∧ Mq1 6 104 + 2 * a ≤ Mq 6 104 + 2 * a1) ∧ (∀ i, 0 ≤ i → i < Mq 6 104 → Mq1 227 i = Mq 227 i ∧ Mq1 228 i = Mq 228 i)
  ∧ (Mx 5 3 ≤ Mx1 5 3 ∧ Mx1 5 3 ≤ Mx 5 3 + 3 * (a1 - a) + s ∧ (b = 0 → Mx1 5 3 = Mx 5 3)) ∧ (∀ i, 0 ≤ i → i < Mx 5 3 → Mx1 142 i = Mx 142 i)
  ∧ (∀ r i, r ∈ opL → 0 ≤ i → i < Mq 6 75 → Mq1 r i = Mq r i) ∧ (∀ i, 0 ≤ i → i < 3 * Mq 6 75 → Mq1 209 i = Mq 209 i)
  ∧ (Mx1 1 7 + z ≤ Mx 1 7 + 8 * (a1 - a) ∧ Mx 1 7 ≤ Mx1 1 7) ∧ (b = 1 → Mq1 6 13 = 0 → Mq 6 13 = 0)
section AM
variable {dq n : Nat} {b F : Int} {Mx Mq Mx1 Mq1 Mx2 Mq2 : mm_} {a a1 o o1 s z : Int} {K : Int → mm_ → Prop} {Kv : mm_ → Prop} {Qt : qt_}
theorem AM_rf [Inhabited gh_] (h : TA b F Mx Mq a o) : AM b F Mx Mq Mx Mq a a o 0 0 := by
  have hE := h.2.2.1
  have e := hE.2.2.2.1
  subst e
  exact ⟨h, by omega, XC_rf, QC_rf, hE, ⟨by omega, by (clear h hE; lia)⟩, fun _ _ _ => ⟨rfl, rfl⟩, ⟨by omega, by (clear h hE; lia), fun _ => rfl⟩, fun _ _ _ => rfl, fun _ _ _ _ _ => rfl, fun _ _ _ => rfl, ⟨by omega, by omega⟩, fun _ h => h⟩
theorem AM_E [Inhabited gh_] (h : AM b F Mx Mq Mx1 Mq1 a a1 o1 s z) : ER b F Mx1 Mq1 a1 o1 := h.2.2.2.2.1
theorem AM_X [Inhabited gh_] (h : AM b F Mx Mq Mx1 Mq1 a a1 o1 s z) : XC Mx Mx1 := h.2.2.1
theorem AM_Q [Inhabited gh_] (h : AM b F Mx Mq Mx1 Mq1 a a1 o1 s z) : QC Mq Mq1 := h.2.2.2.1
theorem AM_T [Inhabited gh_] (h : AM b F Mx Mq Mx1 Mq1 a a1 o1 s z) : Tks Mx1 Mq1 := Tks_a (XC_XA h.2.2.1) (QC_QA h.2.2.2.1) h.1.1
theorem AM_V [Inhabited gh_] (h : AM b F Mx Mq Mx1 Mq1 a a1 o1 s z) : VT Mx1 Mq1 := VT_a (XC_XA h.2.2.1) (QC_QA h.2.2.2.1) h.1.2.1
theorem AM_70 [Inhabited gh_] (h : AM b F Mx Mq Mx1 Mq1 a a1 o1 s z) : Mx1 70 = Mx 70 := h.2.2.1.1 70 (by decide)
theorem AM_71 [Inhabited gh_] (h : AM b F Mx Mq Mx1 Mq1 a a1 o1 s z) : Mx1 71 = Mx 71 := h.2.2.1.1 71 (by decide)
theorem AM_go [Inhabited gh_] (h : AM b F Mx Mq Mx1 Mq1 a a1 o1 s z) (hE : ER b F (nX_ Mx1) (nx_ Mq1) (a1 + 1) o1) : AM b F Mx Mq (nX_ Mx1) (nx_ Mq1) a (a1 + 1) o1 (s - 3) (z + 8) := by
  obtain ⟨h1, h2, h3, h4, h5, h6, h7, h8, h9, h10, h11, h12, h13⟩ := h
  have e5 : nX_ Mx1 5 3 = Mx1 5 3 := by rw [nX_ne (by decide)]
  have e7 : nX_ Mx1 1 7 = Mx1 1 7 := nX_1 (by decide)
  have q104 : nx_ Mq1 6 104 = Mq1 6 104 := nx_6 (by decide)
  have q13 : nx_ Mq1 6 13 = Mq1 6 13 := nx_6 (by decide)
  refine ⟨h1, by (clear hE h1 h3 h4 h5 h6 h7 h8 h9 h10 h11 h12 h13 e5 e7 q104 q13; lia), XC_tr h3 (XF_XC nX_XF), QC_tr h4 (QF_QC nx_QF), hE, by rw [q104]; (clear hE h1 h2 h3 h4 h5 h7 h8 h9 h10 h11 h12 h13 e5 e7 q13; lia), fun i x y => by rw [nx_ne (by decide), nx_ne (by decide)]; exact h7 i x y, by rw [e5]; exact ⟨h8.1, by (clear hE h1 h2 h3 h4 h5 h6 h7 h9 h10 h11 h12 h13 e7 q104 q13; lia), h8.2.2⟩, fun i x y => by rw [nX_ne (by decide)]; exact h9 i x y, fun r i hr x y => ?_, fun i x y => by rw [nx_ne (by decide)]; exact h11 i x y, by rw [e7]; (clear hE h1 h2 h3 h4 h5 h6 h7 h8 h9 h10 h11 h13 e5 q104 q13; lia), by rw [q13]; exact h13⟩
  rw [nx_ne (fun e => absurd hr (by rw [e]; decide))]; exact h10 r i hr x y
/-- a note of both -/
theorem ER_m [Inhabited gh_] {k : Int} (h : ER b F Mx Mq a o) {tk : Int} (hk : k = 0 ∨ (3 ≤ k ∧ k ≤ 6)) (hp0 : 0 ≤ Mx 71 tk ∧ Mx 71 tk ≤ 5000) (hf : Mx 1 7 + 1 + 8 * (1201 - a) ≤ 1000001000 - (gg_ : Int)) : ER b F (Xn_ Mx b k tk) (Qn_ Mq b k (Mx 71 tk)) a o ∧ (Mx 1 7 ≤ Xn_ Mx b k tk 1 7 ∧ Xn_ Mx b k tk 1 7 ≤ Mx 1 7 + 1) ∧ (b = 1 → Qn_ Mq b k (Mx 71 tk) 6 13 = 0 → k = 0 ∧ Mq 6 13 = 0) := by
  unfold Xn_ Qn_
  by_cases c : b = 0 ∨ k = 0
  · rw [if_pos c, if_pos c]
    exact ⟨h, ⟨by (clear h hk hp0 hf c; omega), by omega⟩, fun h1 h2 => ⟨by (clear h hk hp0 hf h2; lia), h2⟩⟩
  · rw [if_neg c, if_neg c]
    have hb : b = 1 := by have := h.2.2.2.2.2.2.2.2.1; (clear h hk hp0 hf; lia)
    have := ER_nt (k := k) (t := tk) (p := Mx 71 tk) h hb (by (clear h hp0 hf; lia)) rfl hp0 hf
    refine ⟨this.1, by rw [nt1_7]; (clear h hk hp0 hf c hb this; lia), fun _ h2 => ?_⟩
    have h3 := this.2
    unfold kk_ at h3
    rw [if_pos h2] at h3
    (clear h hf this h2; lia)
theorem AM_m [Inhabited gh_] {k tk : Int} (h : AM b F Mx Mq Mx1 Mq1 a a1 o1 s z) (hk : k = 0 ∨ (3 ≤ k ∧ k ≤ 6)) (hg : gd_ Mx tk) (hz : 1 ≤ z) : AM b F Mx Mq (Xn_ Mx1 b k tk) (Qn_ Mq1 b k (Mx 71 tk)) a a1 o1 s (z - 1) ∧ (b = 1 → Qn_ Mq1 b k (Mx 71 tk) 6 13 = 0 → k = 0) := by
  have h71 := AM_71 h
  have hT := h.1.1
  obtain ⟨h1, h2, h3, h4, h5, h6, h7, h8, h9, h10, h11, h12, h13⟩ := h
  have hp := tk_p hT hg
  have b0 := h1.2.2.1.2.2.2.2.2.2.2.2.2.2.2.2.1
  have e := ER_m (k := k) (tk := tk) h5 hk (by rw [h71]; exact hp) (by (clear hk hg h71 hT h1 h2 h3 h4 h5 h6 h7 h8 h9 h10 h11 h13 hp; lia))
  rw [h71] at e
  obtain ⟨e1, e2, e3⟩ := e
  refine ⟨⟨h1, h2, XC_tr h3 (XF_XC Xn_XF), QC_tr h4 (QF_QC Qn_QF), e1, by rw [Qn_6 (by decide) (by decide)]; exact h6, fun i x y => by rw [Qn_r (by decide), Qn_r (by decide)]; exact h7 i x y, by rw [Xn_r (by decide)]; exact h8, fun i x y => by rw [Xn_r (by decide)]; exact h9 i x y, fun r i hr x y => ?_, fun i x y => by rw [Qn_r (by decide)]; exact h11 i x y, by (clear hk hg hz h71 hT h1 h2 h3 h4 h5 h6 h7 h8 h9 h10 h11 h13 hp b0 e1 e3; lia), fun hb hz => h13 hb (e3 hb hz).2⟩, fun hb hz => (e3 hb hz).1⟩
  rw [Qn_r (fun e => absurd hr (by rw [e]; decide))]; exact h10 r i hr x y
/-- an e -/
theorem AM_w [Inhabited gh_] {a2 w : Int} (h : AM b F Mx Mq Mx1 Mq1 a a1 o1 s z) (hw : WR b F Mx1 Mq1 Mx2 Mq2 a1 a2 o1 w) : AM b F Mx Mq Mx2 Mq2 a a2 o1 s (z + 3) := by
  obtain ⟨h1, h2, h3, h4, h5, h6, h7, h8, h9, h10, h11, h12, h13⟩ := h
  obtain ⟨w1, w2, w3, w4, w5, w6, w7, w8, w9, w10⟩ := hw
  refine ⟨h1, by omega, XC_tr h3 (XF_XC w2), QC_tr h4 (QG_QC w3), w4, by (clear h1 h2 h3 h4 h5 h7 h8 h9 h10 h11 h12 h13 w1 w2 w3 w4 w6 w7 w8 w10; lia), fun i x y => ?_, ⟨by (clear h1 h2 h3 h4 h5 h6 h7 h9 h10 h11 h12 h13 w1 w2 w3 w4 w5 w6 w8 w9 w10; omega), by (clear h1 h2 h3 h4 h5 h6 h7 h9 h10 h11 h12 h13 w1 w2 w3 w4 w5 w6 w8 w9 w10; lia), fun hb => (w7.2.2 hb).trans (h8.2.2 hb)⟩, fun i x y => (w8 i x (by (clear h1 h2 h3 h4 h5 h6 h7 h9 h10 h11 h12 h13 w1 w2 w3 w4 w5 w6 w7 w8 w9 w10 x; omega))).trans (h9 i x y), fun r i hr x y => ?_, fun i x y => by rw [w3.1 209 (by decide)]; exact h11 i x y, by (clear h1 h2 h3 h4 h5 h6 h7 h8 h9 h10 h11 h13 w1 w2 w3 w4 w5 w6 w7 w8 w10; lia), fun hb hz => h13 hb (w10 hb hz).1⟩
  · have e1 := w6 i x (by (clear h1 h2 h3 h4 h5 h7 h8 h9 h10 h11 h12 h13 w1 w2 w3 w4 w5 w6 w7 w8 w9 w10 x; omega))
    have e2 := h7 i x y
    exact ⟨e1.1.trans e2.1, e1.2.trans e2.2⟩
  · rw [w3.1 r (fun e => absurd hr (by revert e; unfold opL; simp only [List.mem_cons, List.not_mem_nil, or_false]; (clear h1 h2 h3 h4 h5 h6 h7 h8 h9 h10 h11 h12 h13 w1 w2 w3 w4 w5 w6 w7 w8 w9 w10 hr x y; omega)))]; exact h10 r i hr x y
/-- steps that X puts, the latest first -/
def PXL (b : Int) (M Mp : mm_) (y : List Int) : Prop := XF M Mp ∧ Mp 1 = M 1 ∧ (b = 0 → Mp = M) ∧ (b = 1 → Mp 5 3 = M 5 3 + y.length ∧ stX Mp (M 5 3) y) ∧ (∀ i, i < M 5 3 → Mp 142 i = M 142 i) ∧ M 5 3 ≤ Mp 5 3 ∧ Mp 5 3 ≤ M 5 3 + y.length
theorem PXL_0 [Inhabited gh_] {M : mm_} : PXL b M M [] := ⟨XF_rf, rfl, fun _ => rfl, fun _ => ⟨by simp only [List.length_nil]; lia, trivial⟩, fun _ _ => rfl, by omega, by simp only [List.length_nil]; omega⟩
theorem PXL_1 [Inhabited gh_] {M Mp : mm_} {y : List Int} {v : Int} (h8 : M 1 8 = b) (h01 : b = 0 ∨ b = 1) (h : PXL b M Mp y) : PXL b M (pX_ Mp v) (v :: y) := by
  obtain ⟨h1, h2, h3, h4, h5, h6, h7⟩ := h
  have e8 : Mp 1 8 = b := by rw [h2]; exact h8
  rcases h01 with hb | hb
  · rw [pX_0 (by rw [e8]; exact hb)]
    exact ⟨h1, h2, h3, fun h => by (clear h8 h1 h2 h3 h4 h5 h6 h7; lia), h5, h6, by simp only [List.length_cons]; (clear h8 h1 h2 h3 h4 h5 h6 e8 hb; omega)⟩
  · have e := h4 hb
    have p53 : pX_ Mp v 5 3 = Mp 5 3 + 1 := by unfold pX_; rw [if_neg (by (clear h8 h1 h2 h3 h4 h5 h6 h7 e; lia)), up_at]
    have p142 : pX_ Mp v 142 (Mp 5 3) = v := by unfold pX_; rw [if_neg (by (clear h8 h1 h2 h3 h4 h5 h6 h7 e p53; lia)), up_ne (by decide), up_at]
    have p142' : ∀ i, i < Mp 5 3 → pX_ Mp v 142 i = Mp 142 i := fun i hi => by unfold pX_; rw [if_neg (by (clear h8 h1 h2 h3 h4 h5 h6 h7 e p53 p142 hi; lia)), up_ne (by decide), up_off (by (clear h8 h1 h2 h3 h4 h5 h6 h7 e8 hb p142; lia))]
    refine ⟨XF_tr h1 pX_XF, by rw [pX_1]; exact h2, fun h => by (clear h8 h1 h2 h3 h4 h5 h6 h7 e p53 p142 p142'; lia), fun _ => ⟨by simp only [List.length_cons]; omega, ?_, ?_⟩, fun i hi => (p142' i (by (clear h8 h1 h2 h3 h4 h5 h6 h7 e8 hb p142 p142'; lia))).trans (h5 i hi), by (clear h8 h1 h2 h3 h4 h5 h6 h7 e8 hb p142 p142'; omega), by simp only [List.length_cons]; (clear h8 h1 h2 h3 h4 h5 h6 h7 e8 hb p142 p142'; omega)⟩
    · rw [← e.1]; exact p142
    · exact stX_c _ (fun i _ hi => p142' i (by omega)) e.2
theorem AM_p [Inhabited gh_] {y : List Int} (h : AM b F Mx Mq Mx1 Mq1 a a1 o1 s z) (hp : PXL b Mx1 Mx2 y) (hs : s + y.length ≤ 400) : AM b F Mx Mq Mx2 Mq1 a a1 o1 (s + y.length) z := by
  obtain ⟨h1, h2, h3, h4, h5, h6, h7, h8, h9, h10, h11, h12, h13⟩ := h
  obtain ⟨p1, p2, p3, p4, p5, p6, p7⟩ := hp
  have b53 := h1.2.2.2.2.2
  refine ⟨h1, h2, XC_tr h3 (XF_XC p1), h4, ?_, h6, h7, ⟨by (clear hs h1 h2 h3 h4 h5 h6 h7 h9 h10 h11 h12 h13 p1 p2 p3 p4 p5 p7 b53; omega), by (clear hs h1 h2 h3 h4 h5 h6 h7 h9 h10 h11 h12 h13 p1 p2 p3 p4 p5 p6 b53; omega), fun hb => by rw [p3 hb]; exact h8.2.2 hb⟩, fun i x y => (p5 i (by (clear hs h1 h2 h3 h4 h5 h6 h7 h9 h10 h11 h12 h13 p1 p2 p3 p4 p5 p6 p7 b53 x; omega))).trans (h9 i x y), h10, h11, by rw [p2]; exact h12, h13⟩
  obtain ⟨e1, e2, e3, e4, e5, e6, e7, e8, e9, e10, e11, e12, e13, e14, e15⟩ := h5
  refine ⟨gd_c (XF_70 p1 (by decide) (by decide) (by decide)) e1, by rw [p2]; exact e2, e3, by rw [p2]; exact e4, e5, e6, by rw [p2]; exact e7, e8, e9, e10, ?_, by rw [p2]; exact e12, by rw [p2]; exact e13, by (clear hs h1 h2 h3 h4 h6 h7 h8 h9 h10 h11 h12 h13 p1 p2 p3 p4 p5 p7 b53 e1 e2 e3 e4 e5 e6 e7 e8 e9 e10 e11 e12 e13 e15; lia), by omega⟩
  unfold NR; rw [p2]; exact e11
/-- Q alone: ops from the act's on -/
theorem AM_q [Inhabited gh_] (h : AM b F Mx Mq Mx1 Mq1 a a1 o1 s z) (hq : QC Mq1 Mq2) (h6 : ∀ i : Int, i ≠ 75 → Mq2 6 i = Mq1 6 i) (hF : Mq2 227 = Mq1 227 ∧ Mq2 228 = Mq1 228) (ho : ∀ r i, r ∈ opL → 0 ≤ i → i < Mq 6 75 → Mq2 r i = Mq1 r i) (h9 : ∀ i, 0 ≤ i → i < 3 * Mq 6 75 → Mq2 209 i = Mq1 209 i) : AM b F Mx Mq Mx1 Mq2 a a1 o1 s z := by
  obtain ⟨g1, g2, g3, g4, g5, g6, g7, g8, g9, g10, g11, g12, g13⟩ := h
  refine ⟨g1, g2, g3, QC_tr g4 hq, ER_Q g5 (h6 _ (by decide)) (h6 _ (by decide)) (h6 _ (by decide)) (h6 _ (by decide)) (h6 _ (by decide)), by rw [h6 104 (by decide)]; exact g6, fun i x y => by rw [hF.1, hF.2]; exact g7 i x y, g8, g9, fun r i hr x y => (ho r i hr x y).trans (g10 r i hr x y), fun i x y => (h9 i x y).trans (g11 i x y), g12, by rw [h6 13 (by decide)]; exact g13⟩
theorem AM_em [Inhabited gh_] {w p : Int} (h : AM b F Mx Mq Mx1 Mq1 a a1 o1 s z) (h75 : Mq1 6 75 = Mq 6 75) : AM b F Mx Mq Mx1 (em_ Mq1 w p) a a1 o1 s z := by
  have hc := h.1.2.2.2.1
  refine AM_q h em_QC (fun i hi => em_6 hi) ⟨em_r (.inr (by decide)) (by decide), em_r (.inr (by decide)) (by decide)⟩ (fun r i hr x y => em_o (fun e => absurd hr (by rw [e]; decide)) (by omega)) (fun i x y => by rw [em_209])
theorem AM_up [Inhabited gh_] {r : Nat} {v i : Int} (h : AM b F Mx Mq Mx1 Mq1 a a1 o1 s z) (hr : r ∈ opL) (hi : i = Mq 6 75) : AM b F Mx Mq Mx1 (up_ Mq1 r i v) a a1 o1 s z := by
  have h6 : (6 : Nat) ≠ r := fun e => absurd hr (by rw [← e]; decide)
  have hL : r ∈ qcL := by revert hr; unfold opL qcL; simp only [List.mem_cons, List.not_mem_nil, or_false]; (clear h hi h6; lia)
  have hn : ∀ x ∈ ([227, 228, 209] : List Nat), x ≠ r := by
    intro x hx e; rw [← e] at hr; revert hr hx; unfold opL; simp only [List.mem_cons, List.not_mem_nil, or_false]; omega
  refine AM_q h (QC_ur hL (fun e => h6 e.symm)) (fun j _ => by rw [up_ne h6]) ⟨up_ne (hn _ (by decide)), up_ne (hn _ (by decide))⟩ (fun r' j _ x y => up_of2 (by (clear h hr h6 hL hn x; omega))) (fun j _ _ => by rw [up_ne (hn _ (by decide))])
end AM
end T102_am
section T103_as
/-! set and reset -/
section AS
variable {d dq n : Nat} {b F : Int} {Mx Mq Mx1 Mq1 M : mm_} {a a1 o o1 s z : Int} {K : Int → mm_ → Prop} {Kv : mm_ → Prop} {Qt : qt_} {dec : Int → Option Int}
theorem q_270s [Inhabited gh_] {w : Int} (hs : sp_ M) (h : K (-1) M) : Tr_ wd0 pg0 (d + 2) 270 [.inr (.inr 6), .inl w] M (ri_ K) Qt := t_270 fun V hV hW => b_270_0 (Tr_mono _) hV hW w M (by
  refine q_227s hs ?_
  rw [if_neg (by decide)]
  exact ri_i h)
theorem y_n4 [Inhabited gh_] {t r kk : Int} {A : mm_ → Prop} (hE : ER b F Mx1 Mq1 a1 o1) (ht : 0 ≤ t ∧ t < 1202) (hr : kk = if r = -1 then 4 else 0) (h : A (Xn_ Mx1 b kk t)) : bl_ (Mx1 1 8) → (if Mx1 1 8 = 0 then A Mx1 else (if r = -1 then Tr_ wd0 pg0 (d + 1) 116 [.inr (.inr 1), .inl 4, .inl t] Mx1 (rv_ A) Qt else A Mx1)) := by
  intro _
  have h8 := hE.2.2.2.2.2.2.1
  have h01 := hE.2.2.2.2.2.2.2.2.1
  unfold Xn_ at h
  by_cases c : Mx1 1 8 = 0
  · rw [if_pos c]
    rw [if_pos (.inl (by (clear hE ht hr h h01; lia)))] at h; exact h
  · rw [if_neg c]
    by_cases c2 : r = -1
    · rw [if_pos c2]
      rw [if_pos c2] at hr
      rw [if_neg (by (clear hE ht h h01 c2; lia)), hr] at h
      exact x_116 ht.1 ht.2 (ER_fl hE).1 (ER_fl hE).2 h
    · rw [if_neg c2]
      rw [if_neg c2] at hr
      rw [if_pos (.inr hr)] at h; exact h
theorem q_n4 [Inhabited gh_] {r kk p k : Int} (h16 : M 6 16 = b) (h01 : b = 0 ∨ b = 1) (hr : r = -1 ∨ 0 ≤ r) (hk : kk = if r = -1 then k else 0) (hk0 : k ≠ 0) : (if r < 0 then nt_ M k p else M) = Qn_ M b kk p := by
  unfold Qn_
  rcases hr with h | h
  · rw [if_pos (by omega)]
    rw [if_pos h] at hk
    rcases h01 with hb | hb
    · rw [if_pos (.inl hb)]; unfold nt_; rw [if_pos (by omega)]
    · rw [if_neg (by (clear h16 h; lia)), hk]
  · rw [if_neg (by omega)]
    rw [if_neg (by omega)] at hk
    rw [if_pos (.inr hk)]
theorem AR_fin [Inhabited gh_] (h : AM b F Mx Mq Mx1 Mq1 a a1 o s z) (hz : 3 ≤ z) (ha : a + 2 ≤ a1) (h75 : Mq1 6 75 = Mq 6 75 + 1) (hs : s + 2 ≤ 6 * (a1 - a)) {w v : Int} (h204 : Mq1 204 (Mq 6 75) = Mx 71 a ∧ Mq1 203 (Mq 6 75) = w ∧ (w = 2 ∨ w = 5 → Mq1 205 (Mq 6 75) = v)) (hop : b = 1 → Mq1 6 13 = 0 → OPC Mx1 Mq1 (Mq 6 61) (Mq 6 75) (Mx 5 3) (Mx1 5 3) (Mq1 6 104)) : AR b F Mx Mq Mx1 Mq1 a a1 o w v := by
  obtain ⟨g1, g2, g3, g4, g5, g6, g7, g8, g9, g10, g11, g12, g13⟩ := h
  exact ⟨ha, g3, g4, g5, h75, g6, g7, ⟨g8.1, by (clear hz ha h75 h204 hop g1 g2 g3 g4 g5 g6 g7 g9 g10 g11 g12 g13; omega), g8.2.2⟩, g9, g10, g11, ⟨by (clear ha h75 hs h204 hop g1 g2 g3 g4 g5 g6 g7 g8 g9 g10 g11 g13; lia), g12.2⟩, h204, fun hb h0 => ⟨g13 hb h0, hop hb h0⟩⟩
theorem AM_f [Inhabited gh_] (h : AM b F Mx Mq Mx1 Mq1 a a1 o s z) : 0 ≤ Mq1 6 104 ∧ Mq1 6 104 ≤ 1500 + a1 := by
  have h1 := h.1.2.2.2.2.1
  have h2 := h.2.2.2.2.2.1
  have h3 := ER_a (AM_E h)
  (clear h; lia)
theorem AM_st [Inhabited gh_] (h : AM b F Mx Mq Mx1 Mq1 a a1 o s z) (hs : s ≤ 400) : 0 ≤ Mx1 5 3 ∧ Mx1 5 3 < 12000 := ER_st (AM_E h)
theorem bd_n [Inhabited gh_] {x : Option Int} {g : Int → Option Int} (h : x.bind g ≠ none) : ∃ r, x = some r ∧ g r ≠ none := by
  cases x with
  | none => exact absurd rfl h
  | some r => exact ⟨r, rfl, h⟩
theorem Tr_rv [Inhabited gh_] {m : Nat} {args : List pv_} (h : Tr_ wd0 pg0 d m args M (rv_ Kv) Qt) : Tr_ wd0 pg0 d m args M (rv_ fun M1 => rv_ Kv [] M1) Qt := Tr_m h (fun vs M h => ⟨h.1, rfl, h.2⟩) (fun _ _ h => h)
theorem EXP_le [Inhabited gh_] {T c c' f fe t : Int} (h : EXP Mx Mq T c c' f fe t) : c ≤ c' ∧ 0 ≤ f ∧ f < fe := by
  obtain ⟨l, h1, h2, h3, h4, h5, h6, h7, h8⟩ := h
  omega
theorem VAL_le [Inhabited gh_] {T fe k : Int} {σ : Int → Int} : ∀ (m : Nat) {c c' : Int}, VAL Mx Mq T fe σ k m c c' → c ≤ c'
  | 0, c, c', h => by have : c' = c := h; omega
  | m + 1, c, c', ⟨c1, h1, h2⟩ => by have := VAL_le m h1; have := EXP_le h2; omega
theorem VAL_c [Inhabited gh_] {Mx' Mq' : mm_} {T fe fe' k : Int} {σ σ' : Int → Int} (hq : ∀ i, 0 ≤ i → i < fe → Mq' 227 i = Mq 227 i ∧ Mq' 228 i = Mq 228 i) (ht : tb_ Mq Mq') (hfe : fe ≤ fe') (hσ : ∀ i, σ' i = σ i) : ∀ (m : Nat) {c c' : Int}, (m : Int) ≤ 3 → (∀ i, 3 * k ≤ i → i < 3 * k + m → Mq' 209 i = Mq 209 i) → (∀ i, c ≤ i → i < c' → Mx' 142 i = Mx 142 i) → VAL Mx Mq T fe σ k m c c' → VAL Mx' Mq' T fe' σ' k m c c'
  | 0, c, c', _, _, _, h => h
  | m + 1, c, c', hm, h9, hx, ⟨c1, h1, h2⟩ => by
    have e1 := VAL_le m h1
    have e2 := EXP_le h2
    refine ⟨c1, VAL_c hq ht hfe hσ m (by omega) (fun i x y => h9 i x (by omega)) (fun i x y => hx i x (by omega)) h1, ?_⟩
    rw [h9 (3 * k + m) (by (clear hq ht hfe hσ h9 hx h1 h2 e1 e2; lia)) (by omega), hσ]
    exact EXP_c h2 (fun i x y => hx i (by omega) y) (fun i x y => hq i (by omega) y) ht hfe
/-- the tables that ops look at -/
def tc_ (T : Int) (M M' : mm_) : Prop := tb_ M M' ∧ M' 156 = M 156 ∧ M' 157 = M 157 ∧ M' 170 = M 170 ∧ M' 174 = M 174 ∧ M' 175 T = M 175 T ∧ M' 6 17 = M 6 17 ∧ M' 6 18 = M 6 18 ∧ M' 6 19 = M 6 19
theorem OPC_c [Inhabited gh_] {Mx' Mq' : mm_} {T k c c' fe fe' : Int} (h : OPC Mx Mq T k c c' fe) (hx : ∀ i, c ≤ i → i < c' → Mx' 142 i = Mx 142 i) (ho : ∀ r, r ∈ opL → Mq' r k = Mq r k) (h9 : ∀ i, 3 * k ≤ i → i < 3 * k + 3 → Mq' 209 i = Mq 209 i) (hq : ∀ i, 0 ≤ i → i < fe → Mq' 227 i = Mq 227 i ∧ Mq' 228 i = Mq 228 i) (ht : tc_ T Mq Mq') (hfe : fe ≤ fe') : OPC Mx' Mq' T k c c' fe' := by
  obtain ⟨t1, t2, t3, t4, t5, t6, t7, t8, t9⟩ := ht
  have o3 := ho 203 (by decide)
  have o5 := ho 205 (by decide)
  have o6 := ho 206 (by decide)
  have o7 := ho 207 (by decide)
  have o10 := ho 210 (by decide)
  have EC : ∀ {c1 c2 f t : Int}, c ≤ c1 → c2 ≤ c' → EXP Mx Mq T c1 c2 f fe t → EXP Mx' Mq' T c1 c2 f fe' t := fun h1 h2 h3 => EXP_c h3 (fun i x y => hx i (by (clear h hx ho h9 hq hfe t1 t2 t3 t4 t5 t6 t7 t8 t9 o3 o5 o6 o7 o10 h2 h3 y; lia)) (by omega)) (fun i x y => hq i (by have := EXP_le h3; (clear h hx ho h9 hq hfe t1 t2 t3 t4 t5 t6 t7 t8 t9 o3 o5 o6 o7 o10 h1 h2 h3 y; omega)) y) t1 hfe
  have VC : ∀ {c1 : Int} {σ σ' : Int → Int} {m : Nat}, (m : Int) ≤ 3 → c1 ≤ c' → (∀ i, σ' i = σ i) → VAL Mx Mq T fe σ k m c c1 → VAL Mx' Mq' T fe' σ' k m c c1 := fun hm h2 hs h3 => VAL_c hq t1 hfe hs _ hm (fun i x y => h9 i x (by (clear h hx ho h9 hq hfe t1 t2 t3 t4 t5 t6 t7 t8 t9 o3 o5 o6 o7 o10 EC h2 hs h3 x; omega))) (fun i x y => hx i x (by (clear h hx ho h9 hq hfe t1 t2 t3 t4 t5 t6 t7 t8 t9 o3 o5 o6 o7 o10 EC hm hs h3 x; omega))) h3
  unfold OPC at *
  rw [o3, o5, o6, o7, o10, t1.1, t1.2.1, t1.2.2.1, t1.2.2.2.1, t1.2.2.2.2, t2, t3, t4, t5, t6, t7, t8, t9]
  rcases h with h | h | h | h | h | h | h | h
  · obtain ⟨g1, g2, c1, g3, g4, g5⟩ := h
    refine .inl ⟨g1, g2, c1, ?_, g4, ?_⟩
    · rcases g5 with g | ⟨c0, g⟩
      · have := EXP_le g.2.2.1; rw [hx _ (by (clear hx ho h9 hq hfe t1 t2 t3 t4 t5 t6 t7 t8 t9 o3 o5 o6 o7 o10 EC VC g1 g2 g3 g4 g; omega)) (by (clear hx ho h9 hq hfe t1 t2 t3 t4 t5 t6 t7 t8 t9 o3 o5 o6 o7 o10 EC VC g1 g2 g3 g this; omega))]; exact g3
      · have := EXP_le g.2.1; have := EXP_le g.2.2.2.2.1; rw [hx _ (by (clear hx ho h9 hq hfe t1 t2 t3 t4 t5 t6 t7 t8 t9 o3 o5 o6 o7 o10 EC VC g1 g2 g3 g4 g; omega)) (by (clear hx ho h9 hq hfe t1 t2 t3 t4 t5 t6 t7 t8 t9 o3 o5 o6 o7 o10 EC VC g1 g2 g3 g this; omega))]; exact g3
    · rcases g5 with g | ⟨c0, g⟩
      · have := EXP_le g.2.2.1
        exact .inl ⟨g.1, g.2.1, EC (by (clear hx ho h9 hq hfe t1 t2 t3 t4 t5 t6 t7 t8 t9 o3 o5 o6 o7 o10 EC VC g1 g2 g3 g4 g this; lia)) (by (clear hx ho h9 hq hfe t1 t2 t3 t4 t5 t6 t7 t8 t9 o3 o5 o6 o7 o10 EC VC g1 g2 g3 g this; omega)) g.2.2.1, by rw [hx _ (by (clear hx ho h9 hq hfe t1 t2 t3 t4 t5 t6 t7 t8 t9 o3 o5 o6 o7 o10 EC VC g1 g2 g3 g4 g; omega)) (by (clear hx ho h9 hq hfe t1 t2 t3 t4 t5 t6 t7 t8 t9 o3 o5 o6 o7 o10 EC VC g1 g2 g3 g this; omega))]; exact g.2.2.2⟩
      · have := EXP_le g.2.1
        have := EXP_le g.2.2.2.2.1
        exact .inr ⟨c0, g.1, EC (by (clear hx ho h9 hq hfe t1 t2 t3 t4 t5 t6 t7 t8 t9 o3 o5 o6 o7 o10 EC VC g1 g2 g3 g4 g this; omega)) (by (clear hx ho h9 hq hfe t1 t2 t3 t4 t5 t6 t7 t8 t9 o3 o5 o6 o7 o10 EC VC g1 g2 g3 g; omega)) g.2.1, by rw [hx _ (by (clear hx ho h9 hq hfe t1 t2 t3 t4 t5 t6 t7 t8 t9 o3 o5 o6 o7 o10 EC VC g1 g2 g3 g4 g this; omega)) (by (clear hx ho h9 hq hfe t1 t2 t3 t4 t5 t6 t7 t8 t9 o3 o5 o6 o7 o10 EC VC g1 g2 g3 g; omega))]; exact g.2.2.1, by rw [hx _ (by (clear hx ho h9 hq hfe t1 t2 t3 t4 t5 t6 t7 t8 t9 o3 o5 o6 o7 o10 EC VC g1 g2 g3 g4 g this; omega)) (by (clear hx ho h9 hq hfe t1 t2 t3 t4 t5 t6 t7 t8 t9 o3 o5 o6 o7 o10 EC VC g1 g2 g3 g; omega))]; exact g.2.2.2.1, EC (by (clear hx ho h9 hq hfe t1 t2 t3 t4 t5 t6 t7 t8 t9 o3 o5 o6 o7 o10 EC VC g1 g2 g3 g4 g this; omega)) (by (clear hx ho h9 hq hfe t1 t2 t3 t4 t5 t6 t7 t8 t9 o3 o5 o6 o7 o10 EC VC g1 g2 g3 g this; omega)) g.2.2.2.2.1, by rw [hx _ (by (clear hx ho h9 hq hfe t1 t2 t3 t4 t5 t6 t7 t8 t9 o3 o5 o6 o7 o10 EC VC g1 g2 g3 g4 g; omega)) (by (clear hx ho h9 hq hfe t1 t2 t3 t4 t5 t6 t7 t8 t9 o3 o5 o6 o7 o10 EC VC g1 g2 g3 g this; omega))]; exact g.2.2.2.2.2⟩
  · obtain ⟨g1, g2, g3, g4, g5, c1, c2, m, g6, g7, g8, g9, g10, g11, g12, g13⟩ := h
    have l1 := VAL_le _ g6
    have l2 : c1 ≤ c2 := by
      rcases g7 with g | g | g
      · (clear hx ho h9 hq hfe t1 t2 t3 t4 t5 t6 t7 t8 t9 o3 o5 o6 o7 o10 EC VC g1 g2 g3 g4 g5 g6 g8 g9 g10 g11 g12 g13 l1; lia)
      · exact (EXP_le g.2.2).1
      · (clear hx ho h9 hq hfe t1 t2 t3 t4 t5 t6 t7 t8 t9 o3 o5 o6 o7 o10 EC VC g1 g2 g3 g4 g5 g6 g8 g9 g10 g11 g12 g13 l1; omega)
    refine .inr (.inl ⟨g1, g2, g3, g4, g5, c1, c2, m, VC (by (clear hx ho h9 hq hfe t1 t2 t3 t4 t5 t6 t7 t8 t9 o3 o5 o6 o7 o10 EC VC g1 g2 g6 g7 g8 g9 g11 g12 g13 l1 l2; lia)) (by (clear hx ho h9 hq hfe t1 t2 t3 t4 t5 t6 t7 t8 t9 o3 o5 o6 o7 o10 EC VC g1 g2 g3 g4 g5 g6 g7 g8 g9 g10 g11 g12 l1; omega)) (fun _ => rfl) g6, ?_, by rw [hx _ (by (clear hx ho h9 hq hfe t1 t2 t3 t4 t5 t6 t7 t8 t9 o3 o5 o6 o7 o10 EC VC g1 g2 g3 g4 g5 g6 g7 g8 g9 g10 g11 g12 g13; omega)) (by (clear hx ho h9 hq hfe t1 t2 t3 t4 t5 t6 t7 t8 t9 o3 o5 o6 o7 o10 EC VC g1 g2 g3 g4 g5 g6 g7 g8 g9 g10 g11 g12 l1 l2; omega))]; exact g8, by rw [hx _ (by (clear hx ho h9 hq hfe t1 t2 t3 t4 t5 t6 t7 t8 t9 o3 o5 o6 o7 o10 EC VC g1 g2 g3 g4 g5 g6 g7 g8 g9 g10 g11 g12 g13; omega)) (by (clear hx ho h9 hq hfe t1 t2 t3 t4 t5 t6 t7 t8 t9 o3 o5 o6 o7 o10 EC VC g1 g2 g3 g4 g5 g6 g7 g8 g9 g10 g11 g12 l1 l2; omega))]; exact g9, by rw [hx _ (by (clear hx ho h9 hq hfe t1 t2 t3 t4 t5 t6 t7 t8 t9 o3 o5 o6 o7 o10 EC VC g1 g2 g3 g4 g5 g6 g7 g8 g9 g10 g11 g12 g13; lia)) (by (clear hx ho h9 hq hfe t1 t2 t3 t4 t5 t6 t7 t8 t9 o3 o5 o6 o7 o10 EC VC g1 g2 g3 g4 g5 g6 g7 g8 g9 g10 g11 g12 l1 l2; omega))]; exact g10, by rw [hx _ (by (clear hx ho h9 hq hfe t1 t2 t3 t4 t5 t6 t7 t8 t9 o3 o5 o6 o7 o10 EC VC g1 g2 g3 g4 g5 g6 g7 g8 g9 g10 g11 g12 g13; lia)) (by (clear hx ho h9 hq hfe t1 t2 t3 t4 t5 t6 t7 t8 t9 o3 o5 o6 o7 o10 EC VC g1 g2 g3 g4 g5 g6 g7 g8 g9 g10 g11 g12 l1 l2; omega))]; exact g11, by rw [hx _ (by (clear hx ho h9 hq hfe t1 t2 t3 t4 t5 t6 t7 t8 t9 o3 o5 o6 o7 o10 EC VC g1 g2 g3 g4 g5 g6 g7 g8 g9 g10 g11 g12 g13; lia)) (by (clear hx ho h9 hq hfe t1 t2 t3 t4 t5 t6 t7 t8 t9 o3 o5 o6 o7 o10 EC VC g1 g2 g3 g4 g5 g6 g7 g8 g9 g10 g11 g12 l1 l2; omega))]; exact g12, g13⟩)
    rcases g7 with g | g | g
    · exact .inl g
    · exact .inr (.inl ⟨g.1, g.2.1, EC (by omega) (by (clear hx ho h9 hq hfe t1 t2 t3 t4 t5 t6 t7 t8 t9 o3 o5 o6 o7 o10 EC VC g1 g2 g3 g4 g5 g6 g8 g9 g10 g11 g12 l1 l2 g; omega)) g.2.2⟩)
    · exact .inr (.inr g)
  · obtain ⟨g1, g2, c1, g3, g4, g5, g6⟩ := h
    have := EXP_le g3
    exact .inr (.inr (.inl ⟨g1, g2, c1, EC (by omega) (by omega) g3, by rw [hx _ (by (clear hx ho h9 hq hfe t1 t2 t3 t4 t5 t6 t7 t8 t9 o3 o5 o6 o7 o10 EC VC g1 g2 g3 g4 g5 g6; omega)) (by omega)]; exact g4, by rw [hx _ (by (clear hx ho h9 hq hfe t1 t2 t3 t4 t5 t6 t7 t8 t9 o3 o5 o6 o7 o10 EC VC g1 g2 g3 g4 g5 g6; omega)) (by omega)]; exact g5, g6⟩))
  · obtain ⟨g1, g2, g4, g5, g6⟩ := h
    exact .inr (.inr (.inr (.inl ⟨g1, g2, by rw [hx _ (by omega) (by (clear hx ho h9 hq hfe t1 t2 t3 t4 t5 t6 t7 t8 t9 o3 o5 o6 o7 o10 EC VC g1 g2 g4 g5; omega))]; exact g4, by rw [hx _ (by (clear hx ho h9 hq hfe t1 t2 t3 t4 t5 t6 t7 t8 t9 o3 o5 o6 o7 o10 EC VC g1 g2 g4 g5 g6; lia)) (by (clear hx ho h9 hq hfe t1 t2 t3 t4 t5 t6 t7 t8 t9 o3 o5 o6 o7 o10 EC VC g1 g2 g4 g5; omega))]; exact g5, g6⟩)))
  · obtain ⟨g1, g2, g3, g4, g5, c1, g6, g7, g8, g9, g10⟩ := h
    have l1 := VAL_le _ g6
    exact .inr (.inr (.inr (.inr (.inl ⟨g1, g2, g3, g4, g5, c1, VC (by (clear hx ho h9 hq hfe t1 t2 t3 t4 t5 t6 t7 t8 t9 o3 o5 o6 o7 o10 EC VC g1 g2 g6 g7 g8 g10 l1; lia)) (by (clear hx ho h9 hq hfe t1 t2 t3 t4 t5 t6 t7 t8 t9 o3 o5 o6 o7 o10 EC VC g1 g2 g3 g4 g5 g6 g7 g8 g9 l1; omega)) (fun _ => rfl) g6, by rw [hx _ (by omega) (by (clear hx ho h9 hq hfe t1 t2 t3 t4 t5 t6 t7 t8 t9 o3 o5 o6 o7 o10 EC VC g1 g2 g3 g4 g5 g6 g7 g8 g9 l1; omega))]; exact g7, by rw [hx _ (by (clear hx ho h9 hq hfe t1 t2 t3 t4 t5 t6 t7 t8 t9 o3 o5 o6 o7 o10 EC VC g1 g2 g3 g4 g5 g6 g7 g8 g9 g10; lia)) (by omega)]; exact g8, by rw [hx _ (by (clear hx ho h9 hq hfe t1 t2 t3 t4 t5 t6 t7 t8 t9 o3 o5 o6 o7 o10 EC VC g1 g2 g3 g4 g5 g6 g7 g8 g9 g10; lia)) (by (clear hx ho h9 hq hfe t1 t2 t3 t4 t5 t6 t7 t8 t9 o3 o5 o6 o7 o10 EC VC g1 g2 g3 g4 g5 g6 g7 g8 g9 l1; omega))]; exact g9, g10⟩))))
  · obtain ⟨g1, g2⟩ := h
    refine .inr (.inr (.inr (.inr (.inr (.inl ⟨g1, ?_⟩)))))
    rcases g2 with g | g
    · exact .inl ⟨g.1, by rw [hx _ (by omega) (by (clear hx ho h9 hq hfe t1 t2 t3 t4 t5 t6 t7 t8 t9 o3 o5 o6 o7 o10 EC VC g1; omega))]; exact g.2.1, g.2.2⟩
    · exact .inr ⟨g.1, g.2.1, by rw [hx _ (by omega) (by omega)]; exact g.2.2.1, by rw [hx _ (by omega) (by (clear hx ho h9 hq hfe t1 t2 t3 t4 t5 t6 t7 t8 t9 o3 o5 o6 o7 o10 EC VC g1; omega))]; exact g.2.2.2.1, g.2.2.2.2⟩
  · obtain ⟨g1, g2, g3⟩ := h
    exact .inr (.inr (.inr (.inr (.inr (.inr (.inl ⟨g1, by rw [hx _ (by omega) (by (clear hx ho h9 hq hfe t1 t2 t3 t4 t5 t6 t7 t8 t9 o3 o5 o6 o7 o10 EC VC g1 g2; omega))]; exact g2, g3⟩))))))
  · obtain ⟨g1, g2, g3, g4, g5⟩ := h
    exact .inr (.inr (.inr (.inr (.inr (.inr (.inr ⟨g1, g2, by rw [hx _ (by omega) (by omega)]; exact g3, by rw [hx _ (by omega) (by omega)]; exact g4, g5⟩))))))
theorem OPC_n [Inhabited gh_] {T k c c' fe : Int} (h : OPC Mx Mq T k c c' fe) : OPC (nX_ Mx) (nx_ Mq) T k c c' fe := by
  have e : ∀ r, r ≠ 6 → nx_ Mq r = Mq r := fun r hr => nx_ne hr
  refine OPC_c h (fun i _ _ => by rw [nX_ne (by decide)]) (fun r hr => by rw [e r (fun c => absurd hr (by rw [c]; decide))]) (fun i _ _ => by rw [e _ (by decide)]) (fun i _ _ => by rw [e _ (by decide), e _ (by decide)]; exact ⟨rfl, rfl⟩) ⟨⟨e _ (by decide), e _ (by decide), e _ (by decide), e _ (by decide), e _ (by decide)⟩, e _ (by decide), e _ (by decide), e _ (by decide), e _ (by decide), by rw [e _ (by decide)], nx_6 (by decide), nx_6 (by decide), nx_6 (by decide)⟩ (by omega)
/-- the sign at the end of an act -/
theorem y_end [Inhabited gh_] {d2 d3 : Nat} {G : mm_ → Prop} (A : AM b F Mx Mq Mx1 Mq1 a a1 o s z) (hS : b = 1 → tS (Mx 70) 259 a1 ≠ none) (pre : ∀ (Kv : mm_ → Prop) (Qtq : qt_), Tr_ wd0 pg0 (d2 + 3) 244 [.inr (.inr 6), .inl 59] Mq1 (rv_ Kv) Qtq → Tr_ wd0 pg0 d3 296 [.inr (.inr 6)] Mq (rv_ Kv) Qtq)
    (hz : -5 ≤ z) (ha : a + 1 ≤ a1) (h75 : Mq1 6 75 = Mq 6 75 + 1) (hs : s ≤ 6 * (a1 - a) + 7) {w v : Int} (h204 : Mq1 204 (Mq 6 75) = Mx 71 a ∧ Mq1 203 (Mq 6 75) = w ∧ (w = 2 ∨ w = 5 → Mq1 205 (Mq 6 75) = v)) (hop : b = 1 → Mq1 6 13 = 0 → OPC Mx1 Mq1 (Mq 6 61) (Mq 6 75) (Mx 5 3) (Mx1 5 3) (Mq1 6 104))
    (hK : ∀ Mx' Mq' a', AR b F Mx Mq Mx' Mq' a a' o w v → tS (Mx 70) 259 a1 = some a' → (∀ (Kv : mm_ → Prop) (Qtq : qt_), Kv Mq' → Tr_ wd0 pg0 d3 296 [.inr (.inr 6)] Mq (rv_ Kv) Qtq) → G Mx')
    (hQ : b = 0 → ∀ Mx', XA Mx Mx' → (∀ (Kv : mm_ → Prop) (Qtq : qt_), (∀ M', SQ Mx' Mq M' → Kv M') → Tr_ wd0 pg0 d3 296 [.inr (.inr 6)] Mq (rv_ Kv) Qtq) → Qt 8 Mx') :
    Tr_ wd0 pg0 (d + 3) 121 [.inr (.inr 1), .inl 59] Mx1 (rv_ G) Qt := by
  have hE := AM_E A
  have hT := AM_T A
  have e70 := AM_70 A
  have e71 := AM_71 A
  have hx := XC_XA (AM_X A)
  have hq := QC_QA (AM_Q A)
  refine y_121 hE (by decide) (fun hb => by rw [e70]; exact hS hb) (fun k1 h12 hE1 => ?_) (fun hb k1 h12 => ?_) (fun hb k1 => ?_)
  · have A1 := AM_go A hE1
    refine hK _ (nx_ Mq1) (a1 + 1) (AR_fin A1 (by omega) (by omega) (by rw [nx_6 (by decide)]; exact h75) (by omega) (by rw [nx_ne (by decide), nx_ne (by decide), nx_ne (by decide)]; exact h204) (fun hb h0 => ?_)) (tS_e (by rw [← e70]; exact k1) h12) (fun Kv Qtq hk => pre _ _ (j_244t hT hE (by decide) k1 h12 hk))
    have := OPC_n (hop hb (by rw [nx_6 (by decide)] at h0; exact h0))
    rw [nX_ne (by decide), nx_6 (by decide)]
    exact this
  · refine hQ hb _ (XA_tr hx (XF_XA fl_XF)) fun Kv Qtq hk9 => pre _ _ (j_244r hT hE hb (by decide) k1 h12 (hk9 _ (SQ_bf hE hb (by decide) hq)))
  · refine hQ hb _ (XA_tr hx (XF_XA fl_XF)) fun Kv Qtq hk9 => pre _ _ (j_244w hT hE hb (by decide) k1 (hk9 _ (SQ_bf hE hb (by decide) hq)))
theorem y_143r [Inhabited gh_] (hn : n ≤ 12) (ho : o = 12 - (n : Int)) (h : TA b F Mx Mq a o) (hk : Mx 70 a = 16) (hS : b = 1 → acS (Mx 70) dec o a ≠ none)
    (hK : ∀ Mx' Mq' a', AR b F Mx Mq Mx' Mq' a a' o 4 0 → acS (Mx 70) dec o a = some a' → (∀ (Kv : mm_ → Prop) (Qtq : qt_), Kv Mq' → Tr_ wd0 pg0 (dq + 13) 296 [.inr (.inr 6)] Mq (rv_ Kv) Qtq) → K 0 Mx')
    (hQ : b = 0 → ∀ Mx', XA Mx Mx' → (∀ (Kv : mm_ → Prop) (Qtq : qt_), (∀ M', SQ Mx' Mq M' → Kv M') → Tr_ wd0 pg0 (dq + 13) 296 [.inr (.inr 6)] Mq (rv_ Kv) Qtq) → Qt 8 Mx') :
    Tr_ wd0 pg0 (9 * n + 15) 143 [.inr (.inr 1)] Mx (ri_ K) Qt := by
  have hsyn : acS (Mx 70) dec o a = (gS a).bind fun a1 => (tS (Mx 70) 100 a1).bind (tS (Mx 70) 259) := by
    unfold acS seS
    rw [if_neg (by omega), if_neg (by omega), if_pos (.inr hk)]
    cases gS a with
    | none => rfl
    | some a1 =>
      simp only [Option.bind_some]
      cases tS (Mx 70) 100 a1 with
      | none => rfl
      | some a2 => simp only [Option.bind_some]; rw [if_neg (by (clear hn ho h hS hK hQ; lia))]; rfl
  rw [hsyn] at hS
  have A0 := AM_rf h
  have hE := AM_E A0
  have hT := AM_T A0
  have h61 : Mx 1 6 = o := hE.2.2.2.1
  have h01 := hE.2.2.2.2.2.2.2.2.1
  have hga := hE.1
  have hp0 : Mq 150 (Mq 6 12) = Mx 71 a := (ER_k hT hE).2.1
  have h75 := h.2.2.2.1
  have hae := ER_a hE
  refine t_143 fun V hV hW => b_143_0 (Tr_mono _) hV hW Mx ?_
  refine y_103 hE (fun e => by omega) (fun _ => ?_)
  rw [if_pos rfl]
  refine y_103 hE (fun e => by omega) (fun _ => ?_)
  rw [if_pos rfl]
  refine y_103 hE (fun e => by omega) (fun _ => ?_)
  rw [if_pos rfl]
  refine y_103 hE (fun _ => ?_) (fun e => absurd hk e)
  rw [if_neg (by decide)]
  refine b_143_52 (Tr_mono _) hV hW 0 Mx ?_
  refine y_103 hE (fun e => by omega) (fun _ => ?_)
  refine y_105 hE (by omega) (fun hb => by intro e; rw [e] at hS; exact hS hb rfl) (fun h12 hE1 => ?_) (fun hb h12 => ?_)
  rotate_left
  · -- no room behind reset
    refine hQ hb _ (XF_XA fl_XF) fun Kv Qtq hk9 => ?_
    have hsp := SQ_bf hE hb (k := 2) (by decide) QA_rf
    exact t_296 fun V hV hW => b_296_0 (Tr_mono _) hV hW Mq ⟨(ER_k hT hE).2.2.1, j_228f hT hE (by decide) (by omega) (by
      rw [if_pos rfl]
      refine j_228f hT hE (by decide) (by omega) ?_
      rw [if_pos rfl]
      refine j_228r hT hE hb (by decide) hk h12 ?_
      rw [if_neg (by decide)]
      refine q_282s hsp.1 ?_
      refine q_227s hsp.1 ?_
      rw [if_neg (by decide)]
      exact rv_i (hk9 _ hsp))⟩
  have A1 := AM_go A0 hE1
  have hT1 := AM_T A1
  have e70 := AM_70 A1
  have e71 := AM_71 A1
  rw [gS_e h12, Option.bind_some] at hS
  refine y_107 hE1 (fun hb => by rw [e70]; intro e; rw [e] at hS; exact hS hb rfl) (fun k1 h13 hE2 => ?_) (fun hb k1 h13 => ?_) (fun hb k1 => ?_)
  rotate_left
  · refine hQ hb _ (XA_tr (XC_XA (AM_X A1)) (XF_XA fl_XF)) fun Kv Qtq hk9 => ?_
    have hsp := SQ_bf hE1 hb (k := 2) (by decide) (QC_QA (AM_Q A1))
    obtain ⟨f1, f2, f3, f4, f5, f6⟩ := ER_k hT1 hE1
    exact t_296 fun V hV hW => b_296_0 (Tr_mono _) hV hW Mq ⟨(ER_k hT hE).2.2.1, j_228f hT hE (by decide) (by omega) (by
      rw [if_pos rfl]
      refine j_228f hT hE (by decide) (by omega) ?_
      rw [if_pos rfl]
      refine j_228t hT hE (by decide) hk h12 ?_
      rw [if_neg (by decide)]
      have g1 := (kq_n f1).mpr k1
      have g0 := f6 h13
      rw [g0] at g1 f2
      refine q_282r g0 (ER_ok hE1 hb) g1 ?_
      rw [f2]
      refine q_227s hsp.1 ?_
      rw [if_neg (by decide)]
      exact rv_i (hk9 _ hsp))⟩
  · refine hQ hb _ (XA_tr (XC_XA (AM_X A1)) (XF_XA fl_XF)) fun Kv Qtq hk9 => ?_
    have hsp := SQ_bf hE1 hb (k := 1) (by decide) (QC_QA (AM_Q A1))
    obtain ⟨f1, f2, f3, f4, f5, f6⟩ := ER_k hT1 hE1
    exact t_296 fun V hV hW => b_296_0 (Tr_mono _) hV hW Mq ⟨(ER_k hT hE).2.2.1, j_228f hT hE (by decide) (by omega) (by
      rw [if_pos rfl]
      refine j_228f hT hE (by decide) (by omega) ?_
      rw [if_pos rfl]
      refine j_228t hT hE (by decide) hk h12 ?_
      rw [if_neg (by decide)]
      refine q_282w rfl f3 (ER_ok hE1 hb) (fun c => k1 ((kq_n f1).mp c)) ?_
      rw [f2]
      refine q_227s hsp.1 ?_
      rw [if_neg (by decide)]
      exact rv_i (hk9 _ hsp))⟩
  have A2 := AM_go A1 hE2
  have hT2 := AM_T A2
  have hV2 := AM_V A2
  have k1' : Mx 70 (a + 1) = 100 := by rw [← e70]; exact k1
  have hg1 : gd_ Mx (a + 1) := gd_c e70.symm hE1.1
  have hnm : nm9_ (nX_ (nX_ Mx)) (a + 1) := ⟨gd_c (AM_70 A2) hg1, by rw [AM_70 A2]; exact k1'⟩
  rw [tS_e k1' h13, Option.bind_some] at hS
  refine x_129R hT2 hV2 hnm ?_
  -- which timer
  have q151 : nx_ (nx_ Mq) 151 = Mq 151 := by rw [nx_ne (by decide), nx_ne (by decide)]
  have tc2 : ∀ v, tmr (nx_ (nx_ Mq)) v = tmr Mq v := fun v => tmr_c (QF_tr nx_QF nx_QF)
  have tc1 : ∀ v, tmr (nx_ Mq) v = tmr Mq v := fun v => tmr_c nx_QF
  rw [tc2, q151]
  have hr := tmr_r (Mx := Mx) (Mq := Mq) h.2.1 (v := Mq 151 (a + 1))
  generalize hrr : tmr Mq (Mq 151 (a + 1)) = r at *
  obtain ⟨kk, hkk⟩ : ∃ kk, kk = if r = -1 then (4 : Int) else 0 := ⟨_, rfl⟩
  have hkc : kk = 0 ∨ (3 ≤ kk ∧ kk ≤ 6) := by rw [hkk]; split <;> omega
  obtain ⟨A3, hz3⟩ := AM_m (k := kk) (tk := a + 1) A2 hkc hg1 (by (clear hn ho h hk hS hK hQ hsyn A0 hE hT h61 h01 hga hp0 h75 hae hV hW h12 hE1 A1 hT1 e70 e71 k1 h13 hE2 A2 hT2 hV2 k1' hg1 hnm q151 tc2 tc1 hrr hr hkk hkc; omega))
  refine y_n4 (A := fun M => if (0 : Int) = 0 then V 103 [rr 1, ii 0, ii 0, ii (a + 1), ii r] [] M else Tr_ wd0 pg0 (9 * n + 14) 145 [.inr (.inr 1), .inl 0] M (rv_ fun M5 => V 103 [rr 1, ii 0, ii 0, ii (a + 1), ii r] [] M5) Qt) hE2 (by (clear hn ho h hk hS hK hQ hsyn A0 hE hT h61 h01 hga hp0 h75 hV hW hE1 A1 hT1 e70 e71 k1 hE2 A2 hT2 hV2 k1' hg1 hnm q151 tc2 tc1 hrr hr hkk hkc A3 hz3; omega)) hkk ?_
  rw [if_pos rfl]
  generalize hX3 : Xn_ (nX_ (nX_ Mx)) b kk (a + 1) = Mx3 at *
  generalize hQ3 : Qn_ (nx_ (nx_ Mq)) b kk (Mx 71 (a + 1)) = Mq3 at *
  have hE3 := AM_E A3
  have q75 : Mq3 6 75 = Mq 6 75 := by rw [← hQ3, Qn_6 (by decide) (by decide), nx_6 (by decide), nx_6 (by decide)]
  -- Q up to the op
  have pre : ∀ (Kv : mm_ → Prop) (Qtq : qt_), Tr_ wd0 pg0 (dq + 12) 244 [.inr (.inr 6), .inl 59] (up_ (em_ Mq3 4 (Mx 71 a)) 205 (Mq 6 75) r) (rv_ Kv) Qtq → Tr_ wd0 pg0 (dq + 13) 296 [.inr (.inr 6)] Mq (rv_ Kv) Qtq := by
    intro Kv Qtq hq
    obtain ⟨f1, f2, f3, f4, f5, f6⟩ := ER_k hT1 hE1
    refine t_296 fun V hV hW => b_296_0 (Tr_mono _) hV hW Mq ⟨(ER_k hT hE).2.2.1, j_228f hT hE (by decide) (by omega) ?_⟩
    rw [if_pos rfl]
    refine j_228f hT hE (by decide) (by omega) ?_
    rw [if_pos rfl]
    refine j_228t hT hE (by decide) hk h12 ?_
    rw [if_neg (by decide)]
    refine q_282g (AM_V A1) hE1.2.2.1 (by omega) h13 (ER_goq hE1) (by rw [← hE1.2.2.1]; exact (kq_n f1).mpr k1) ?_
    have e151 : nx_ Mq 151 = Mq 151 := nx_ne (by decide)
    have e150 : nx_ Mq 150 (a + 1) = Mx 71 (a + 1) := by rw [← e71, ← f2, hE1.2.2.1]
    rw [e151, tc1, hrr, e150, q_n4 (b := b) (kk := kk) (by rw [nx_6 (by decide), nx_6 (by decide)]; exact hE.2.2.2.2.2.2.2.1) h01 (by (clear hn ho h hk hS hK hQ hsyn A0 hE hT h61 h01 hga hp0 h75 hE1 A1 hT1 e70 e71 k1 hE2 A2 hT2 hV2 k1' hg1 hnm q151 tc2 tc1 hrr hX3 hQ3 A3 hE3 q75 hq f1 f2 f3 f4 hV hW e151 e150; lia)) hkk (by decide), hQ3]
    refine q_227g (ER_goq hE3) ?_
    rw [if_pos rfl, hp0]
    refine q_266 (by (clear hn ho h hk hS hK hQ hsyn A0 hE hT h61 h01 hga hp0 hae h12 hE1 A1 hT1 e70 e71 k1 h13 hE2 A2 hT2 hV2 k1' hg1 hnm q151 tc2 tc1 hrr hr hkk hkc hX3 hQ3 hz3 A3 hE3 hq f1 f2 f3 f4 f5 f6 hV hW e151 e150; omega)) (by (clear hn ho h hk hS hK hQ hsyn A0 hE hT h61 h01 hga hp0 hE1 A1 hT1 e70 e71 k1 hE2 A2 hT2 hV2 k1' hg1 hnm q151 tc2 tc1 hrr hr hkk hkc hX3 hQ3 hz3 A3 hE3 hq f1 f2 f3 f4 f5 f6 hV hW e151 e150; lia)) ?_
    rw [q75]
    refine ⟨by (clear hn ho h hk hS hK hQ hsyn A0 hE hT h61 h01 hga hp0 hE1 A1 hT1 e70 e71 k1 hE2 A2 hT2 hV2 k1' hg1 hnm q151 tc2 tc1 hrr hr hkk hkc hX3 hQ3 hz3 A3 hE3 hq f1 f2 f3 f4 f5 f6 hV hW e151 e150; omega), ?_⟩
    exact Tr_rv hq
  have hp := PXL_1 (v := r) hE3.2.2.2.2.2.2.1 h01 (PXL_1 (v := 35) hE3.2.2.2.2.2.2.1 h01 (PXL_0 (b := b) (M := Mx3)))
  refine b_143_103 (Tr_mono _) hV hW 0 0 (a + 1) r Mx3 ?_
  rw [if_pos rfl]
  have h2' : Mx3 1 2 = 5 := (AM_V A3).1
  have A4 := AM_p A3 hp (by simp only [List.length_cons, List.length_nil]; (clear hn ho h hk hS hK hQ hsyn A0 hE hT h61 h01 hga hp0 h75 hae hV hW h12 hE1 A1 hT1 e70 e71 k1 h13 hE2 A2 hT2 hV2 k1' hg1 hnm q151 tc2 tc1 hrr hr hkk hkc hX3 hQ3 hz3 A3 hE3 q75 pre hp h2'; omega))
  refine x_138 h2' (ER_st hE3).1 (ER_st hE3).2 ?_
  have A34 := AM_p A3 (PXL_1 (v := 35) hE3.2.2.2.2.2.2.1 h01 (PXL_0 (b := b) (M := Mx3))) (by simp only [List.length_cons, List.length_nil]; (clear hn ho h hk hS hK hQ hsyn A0 hE hT h61 h01 hga hp0 h75 hae hV hW h12 hE1 A1 hT1 e70 e71 k1 h13 hE2 A2 hT2 hV2 k1' hg1 hnm q151 tc2 tc1 hrr hr hkk hkc hX3 hQ3 hz3 A3 hE3 q75 pre hp h2' A4; omega))
  refine x_138 (AM_V A34).1 (ER_st (AM_E A34)).1 (ER_st (AM_E A34)).2 ?_
  have A5 := AM_up (r := 205) (v := r) (AM_em (w := 4) (p := Mx 71 a) A4 q75) (by decide) (rfl : Mq 6 75 = Mq 6 75)
  refine y_end A5 (fun hb => hS hb) pre (by decide) (by omega) ?_ ?_ ?_ (fun hb h0 => ?_) (fun Mx' Mq' a' hA hs hq => ⟨.inl rfl, ri_i (hK Mx' Mq' a' hA ?_ hq)⟩) hQ
  · rw [up_ne (by decide), em_75, q75]
  · simp only [List.length_cons, List.length_nil]; (clear hn ho h hk hS hK hQ hsyn A0 hE hT h61 h01 hga hp0 h75 hae hV hW h12 hE1 A1 hT1 e70 e71 k1 h13 hE2 A2 hT2 hV2 k1' hg1 hnm q151 tc2 tc1 hrr hr hkk hkc hX3 hQ3 hz3 A3 hE3 q75 pre hp h2' A4 A34 A5; lia)
  · exact ⟨by rw [up_ne (by decide), ← q75, em_204], by rw [up_ne (by decide), ← q75, em_203], fun h => absurd h (by decide)⟩
  · have h13 : Mq3 6 13 = 0 := by rw [up_ne (by decide), em_6 (by decide)] at h0; exact h0
    have hk0 := hz3 hb h13
    have hr0 : r ≠ -1 := fun e => by rw [if_pos e] at hkk; (clear hn ho h hk hS hK hQ hsyn A0 hE hT h61 h01 hga hp0 h75 hae hV hW h12 hE1 A1 hT1 e70 e71 k1 hE2 A2 hT2 hV2 k1' hg1 hnm q151 tc2 tc1 hrr hr hkc hX3 hQ3 hz3 A3 hE3 q75 pre hp h2' A4 A34 A5 hb h0 h13 e; lia)
    have hp4 := hp.2.2.2.1 hb
    obtain ⟨s1, s2, _⟩ := hp4.2
    have e53 : Mx3 5 3 = Mx 5 3 := by rw [← hX3, Xn_r (by decide), nX_ne (by decide), nX_ne (by decide)]
    rw [e53] at s1 s2 hp4
    have e173 : up_ (em_ Mq3 4 (Mx 71 a)) 205 (Mq 6 75) r 173 (Mq 6 61) = Mq 173 (Mq 6 61) := by rw [up_ne (by decide), em_r (.inl (by decide)) (by decide), ← hQ3, Qn_r (by decide), nx_ne (by decide), nx_ne (by decide)]
    refine .inr (.inr (.inr (.inl ⟨?_, ?_, ?_, ?_, ?_⟩)))
    · rw [up_ne (by decide), ← q75, em_203]
    · rw [up_at, e173]; (clear hn ho h hk hS hK hQ hsyn A0 hE hT h61 h01 hga hp0 h75 hae hV hW h12 hE1 A1 hT1 e70 e71 k1 hE2 A2 hT2 hV2 k1' hg1 hnm q151 tc2 tc1 hrr hX3 hQ3 A3 hE3 q75 pre hp h2' A4 A34 A5 h0 hp4 s2 e53 e173; lia)
    · simpa using s2
    · rw [up_at]; exact s1
    · rw [hp4.1]; rfl
  · rw [hsyn, gS_e h12, Option.bind_some, tS_e k1' h13, Option.bind_some]; exact hs
end AS
end T103_as
section T104_as
/-! set -/
section AS
variable {d dq n : Nat} {b F : Int} {Mx Mq Mx1 Mq1 M : mm_} {a a1 o o1 s z : Int} {K : Int → mm_ → Prop} {Kv : mm_ → Prop} {Qt : qt_} {dec : Int → Option Int}
theorem y_143s [Inhabited gh_] (hn : n ≤ 12) (ho : o = 12 - (n : Int)) (h : TA b F Mx Mq a o) (hk : Mx 70 a = 15) (hS : b = 1 → acS (Mx 70) dec o a ≠ none)
    (hK : ∀ Mx' Mq' a', AR b F Mx Mq Mx' Mq' a a' o 3 0 → acS (Mx 70) dec o a = some a' → (∀ (Kv : mm_ → Prop) (Qtq : qt_), Kv Mq' → Tr_ wd0 pg0 (dq + 13) 296 [.inr (.inr 6)] Mq (rv_ Kv) Qtq) → K 0 Mx')
    (hQ : b = 0 → ∀ Mx', XA Mx Mx' → (∀ (Kv : mm_ → Prop) (Qtq : qt_), (∀ M', SQ Mx' Mq M' → Kv M') → Tr_ wd0 pg0 (dq + 13) 296 [.inr (.inr 6)] Mq (rv_ Kv) Qtq) → Qt 8 Mx') :
    Tr_ wd0 pg0 (9 * n + 15) 143 [.inr (.inr 1)] Mx (ri_ K) Qt := by
  have hsyn : acS (Mx 70) dec o a = (gS a).bind fun a1 => (tS (Mx 70) 100 a1).bind fun a2 => (ES (Mx 70) 0 o a2).bind (tS (Mx 70) 259) := by
    unfold acS seS
    rw [if_neg (by omega), if_neg (by (clear hn ho h hS hK hQ; lia)), if_pos (.inl hk)]
    cases gS a with
    | none => rfl
    | some a1 =>
      simp only [Option.bind_some]
      cases tS (Mx 70) 100 a1 with
      | none => rfl
      | some a2 => simp only [Option.bind_some]; rw [if_pos hk]
  rw [hsyn] at hS
  have A0 := AM_rf h
  have hE := AM_E A0
  have hT := AM_T A0
  have h61 : Mx 1 6 = o := hE.2.2.2.1
  have h01 := hE.2.2.2.2.2.2.2.2.1
  have hga := hE.1
  have hp0 : Mq 150 (Mq 6 12) = Mx 71 a := (ER_k hT hE).2.1
  have h75 := h.2.2.2.1
  have hae := ER_a hE
  refine t_143 fun V hV hW => b_143_0 (Tr_mono _) hV hW Mx ?_
  refine y_103 hE (fun e => by omega) (fun _ => ?_)
  rw [if_pos rfl]
  refine y_103 hE (fun e => by omega) (fun _ => ?_)
  rw [if_pos rfl]
  refine y_103 hE (fun _ => ?_) (fun e => absurd hk e)
  rw [if_neg (by decide)]
  refine b_143_52 (Tr_mono _) hV hW 0 Mx ?_
  refine y_103 hE (fun _ => ?_) (fun e => absurd hk e)
  refine y_105 hE (by omega) (fun hb => by intro e; rw [e] at hS; exact hS hb rfl) (fun h12 hE1 => ?_) (fun hb h12 => ?_)
  rotate_left
  · -- no room behind reset
    refine hQ hb _ (XF_XA fl_XF) fun Kv Qtq hk9 => ?_
    have hsp := SQ_bf hE hb (k := 2) (by decide) QA_rf
    exact t_296 fun V hV hW => b_296_0 (Tr_mono _) hV hW Mq ⟨(ER_k hT hE).2.2.1, j_228f hT hE (by decide) (by omega) (by
      rw [if_pos rfl]
      refine j_228r hT hE hb (by decide) hk h12 ?_
      rw [if_neg (by decide)]
      refine q_282s hsp.1 ?_
      refine q_270s hsp.1 ?_
      refine q_227s hsp.1 ?_
      rw [if_neg (by decide)]
      exact rv_i (hk9 _ hsp))⟩
  have A1 := AM_go A0 hE1
  have hT1 := AM_T A1
  have e70 := AM_70 A1
  have e71 := AM_71 A1
  rw [gS_e h12, Option.bind_some] at hS
  refine y_107 hE1 (fun hb => by rw [e70]; intro e; rw [e] at hS; exact hS hb rfl) (fun k1 h13 hE2 => ?_) (fun hb k1 h13 => ?_) (fun hb k1 => ?_)
  rotate_left
  · refine hQ hb _ (XA_tr (XC_XA (AM_X A1)) (XF_XA fl_XF)) fun Kv Qtq hk9 => ?_
    have hsp := SQ_bf hE1 hb (k := 2) (by decide) (QC_QA (AM_Q A1))
    obtain ⟨f1, f2, f3, f4, f5, f6⟩ := ER_k hT1 hE1
    exact t_296 fun V hV hW => b_296_0 (Tr_mono _) hV hW Mq ⟨(ER_k hT hE).2.2.1, j_228f hT hE (by decide) (by omega) (by
      rw [if_pos rfl]
      refine j_228t hT hE (by decide) hk h12 ?_
      rw [if_neg (by decide)]
      have g1 := (kq_n f1).mpr k1
      have g0 := f6 h13
      rw [g0] at g1 f2
      refine q_282r g0 (ER_ok hE1 hb) g1 ?_
      rw [f2]
      refine q_270s hsp.1 ?_
      refine q_227s hsp.1 ?_
      rw [if_neg (by decide)]
      exact rv_i (hk9 _ hsp))⟩
  · refine hQ hb _ (XA_tr (XC_XA (AM_X A1)) (XF_XA fl_XF)) fun Kv Qtq hk9 => ?_
    have hsp := SQ_bf hE1 hb (k := 1) (by decide) (QC_QA (AM_Q A1))
    obtain ⟨f1, f2, f3, f4, f5, f6⟩ := ER_k hT1 hE1
    exact t_296 fun V hV hW => b_296_0 (Tr_mono _) hV hW Mq ⟨(ER_k hT hE).2.2.1, j_228f hT hE (by decide) (by omega) (by
      rw [if_pos rfl]
      refine j_228t hT hE (by decide) hk h12 ?_
      rw [if_neg (by decide)]
      refine q_282w rfl f3 (ER_ok hE1 hb) (fun c => k1 ((kq_n f1).mp c)) ?_
      rw [f2]
      refine q_270s hsp.1 ?_
      refine q_227s hsp.1 ?_
      rw [if_neg (by decide)]
      exact rv_i (hk9 _ hsp))⟩
  have A2 := AM_go A1 hE2
  have hT2 := AM_T A2
  have hV2 := AM_V A2
  have k1' : Mx 70 (a + 1) = 100 := by rw [← e70]; exact k1
  have hg1 : gd_ Mx (a + 1) := gd_c e70.symm hE1.1
  have hnm : nm9_ (nX_ (nX_ Mx)) (a + 1) := ⟨gd_c (AM_70 A2) hg1, by rw [AM_70 A2]; exact k1'⟩
  rw [tS_e k1' h13, Option.bind_some] at hS
  refine x_129R hT2 hV2 hnm ?_
  -- which timer
  have q151 : nx_ (nx_ Mq) 151 = Mq 151 := by rw [nx_ne (by decide), nx_ne (by decide)]
  have tc2 : ∀ v, tmr (nx_ (nx_ Mq)) v = tmr Mq v := fun v => tmr_c (QF_tr nx_QF nx_QF)
  have tc1 : ∀ v, tmr (nx_ Mq) v = tmr Mq v := fun v => tmr_c nx_QF
  rw [tc2, q151]
  have hr := tmr_r (Mx := Mx) (Mq := Mq) h.2.1 (v := Mq 151 (a + 1))
  generalize hrr : tmr Mq (Mq 151 (a + 1)) = r at *
  obtain ⟨kk, hkk⟩ : ∃ kk, kk = if r = -1 then (4 : Int) else 0 := ⟨_, rfl⟩
  have hkc : kk = 0 ∨ (3 ≤ kk ∧ kk ≤ 6) := by rw [hkk]; split <;> omega
  obtain ⟨A3, hz3⟩ := AM_m (k := kk) (tk := a + 1) A2 hkc hg1 (by omega)
  refine y_n4 (A := fun M => if (1 : Int) = 0 then V 103 [rr 1, ii 0, ii 1, ii (a + 1), ii r] [] M else Tr_ wd0 pg0 (9 * n + 14) 145 [.inr (.inr 1), .inl 0] M (rv_ fun M5 => V 103 [rr 1, ii 0, ii 1, ii (a + 1), ii r] [] M5) Qt) hE2 (by omega) hkk ?_
  rw [if_neg (by decide)]
  generalize hX3 : Xn_ (nX_ (nX_ Mx)) b kk (a + 1) = Mx3 at *
  generalize hQ3 : Qn_ (nx_ (nx_ Mq)) b kk (Mx 71 (a + 1)) = Mq3 at *
  have hE3 := AM_E A3
  have q75 : Mq3 6 75 = Mq 6 75 := by rw [← hQ3, Qn_6 (by decide) (by decide), nx_6 (by decide), nx_6 (by decide)]
  have m70 := AM_70 A3
  -- Q up to the e
  have pre0 : ∀ (Kv : mm_ → Prop) (Qtq : qt_), Tr_ wd0 pg0 (dq + 12) 270 [.inr (.inr 6), .inl (0 + 1)] Mq3 (ri_ fun v9 M12 => Tr_ wd0 pg0 (dq + 12) 227 [.inr (.inr 6)] M12 (ri_ fun v10 M13 => (if v10 = 0 then Tr_ wd0 pg0 (dq + 12) 266 [.inr (.inr 6), .inl 3, .inl (Mx 71 a)] M13 (ri_ fun v11 M14 => (0 ≤ v11 ∧ v11 < 1300) ∧ (0 ≤ v11 ∧ v11 < 1300) ∧ Tr_ wd0 pg0 (dq + 12) 244 [.inr (.inr 6), .inl 59] (up_ (up_ M14 205 v11 r) 206 v11 v9) (rv_ fun M15 => rv_ Kv [] M15) Qtq) Qtq else rv_ Kv [] M13)) Qtq) Qtq → Tr_ wd0 pg0 (dq + 13) 296 [.inr (.inr 6)] Mq (rv_ Kv) Qtq := by
    intro Kv Qtq hq
    obtain ⟨f1, f2, f3, f4, f5, f6⟩ := ER_k hT1 hE1
    refine t_296 fun V hV hW => b_296_0 (Tr_mono _) hV hW Mq ⟨(ER_k hT hE).2.2.1, j_228f hT hE (by decide) (by omega) ?_⟩
    rw [if_pos rfl]
    refine j_228t hT hE (by decide) hk h12 ?_
    rw [if_neg (by decide)]
    refine q_282g (AM_V A1) hE1.2.2.1 (by omega) h13 (ER_goq hE1) (by rw [← hE1.2.2.1]; exact (kq_n f1).mpr k1) ?_
    have e151 : nx_ Mq 151 = Mq 151 := nx_ne (by decide)
    have e150 : nx_ Mq 150 (a + 1) = Mx 71 (a + 1) := by rw [← e71, ← f2, hE1.2.2.1]
    rw [e151, tc1, hrr, e150, q_n4 (b := b) (kk := kk) (by rw [nx_6 (by decide), nx_6 (by decide)]; exact hE.2.2.2.2.2.2.2.1) h01 (by (clear hn ho h hk hS hK hQ hsyn A0 hE hT h61 h01 hga hp0 h75 hE1 A1 hT1 e70 e71 k1 hE2 A2 hT2 hV2 k1' hg1 hnm q151 tc2 tc1 hrr hX3 hQ3 A3 hE3 q75 m70 hq f1 f2 f3 f4 hV hW e151 e150; lia)) hkk (by decide), hQ3, hp0]
    exact hq
  refine x_w (dq := dq) (w := 0) (wq := 0) hn ho (by omega) (by omega) (fun _ => rfl) (AM_T A3) (AM_V A3) hE3 (AM_f A3) (fun hb => by rw [m70]; intro e; have := hS hb; have e2 : a + 1 + 1 = a + 1 + 1 := rfl; rw [e] at this; exact this rfl) (fun Mx4 Mq4 a4 hW4 hS4 hq4 => ?_) (fun hb Mx' hx9 hq9 => ?_)
  rotate_left
  · refine hQ hb Mx' (XA_tr (XC_XA (AM_X A3)) (XF_XA hx9)) fun Kv Qtq hk9 => pre0 _ _ (hq9 _ _ fun M' g1 g2 g3 g4 g5 => ?_)
    refine q_227s g1 ?_
    rw [if_neg (by decide)]
    exact rv_i (hk9 _ ⟨g1, g2, g3, g4, QA_tr (QC_QA (AM_Q A3)) (QF_QA g5)⟩)
  have A4 := AM_w A3 hW4
  have hE4 := AM_E A4
  rw [m70] at hS4
  have q4 : ∀ i : Int, i = 61 ∨ i = 75 → Mq4 6 i = Mq3 6 i := fun i hi => hW4.2.2.1.2 i (by (clear hn ho h hk hS hK hQ hsyn A0 hE hT h61 h01 hga hp0 h75 hae hV hW h12 hE1 A1 hT1 e70 e71 k1 h13 hE2 A2 hT2 hV2 k1' hg1 hnm q151 tc2 tc1 hrr hr hkk hkc hX3 hQ3 hz3 A3 hE3 q75 m70 pre0 hW4 hS4 hq4 A4 hE4; lia)) (by (clear hn ho h hk hS hK hQ hsyn A0 hE hT h61 h01 hga hp0 h75 hae hV hW h12 hE1 A1 hT1 e70 e71 k1 h13 hE2 A2 hT2 hV2 k1' hg1 hnm q151 tc2 tc1 hrr hr hkk hkc hX3 hQ3 hz3 A3 hE3 q75 m70 pre0 hW4 hS4 hq4 A4 hE4; lia)) (by (clear hn ho h hk hS hK hQ hsyn A0 hE hT h61 h01 hga hp0 h75 hae hV hW h12 hE1 A1 hT1 e70 e71 k1 h13 hE2 A2 hT2 hV2 k1' hg1 hnm q151 tc2 tc1 hrr hr hkk hkc hX3 hQ3 hz3 A3 hE3 q75 m70 pre0 hW4 hS4 hq4 A4 hE4; lia)) (by (clear hn ho h hk hS hK hQ hsyn A0 hE hT h61 h01 hga hp0 h75 hae hV hW h12 hE1 A1 hT1 e70 e71 k1 h13 hE2 A2 hT2 hV2 k1' hg1 hnm q151 tc2 tc1 hrr hr hkk hkc hX3 hQ3 hz3 A3 hE3 q75 m70 pre0 hW4 hS4 hq4 A4 hE4; omega)) (by (clear hn ho h hk hS hK hQ hsyn A0 hE hT h61 h01 hga hp0 h75 hae hV hW h12 hE1 A1 hT1 e70 e71 k1 h13 hE2 A2 hT2 hV2 k1' hg1 hnm q151 tc2 tc1 hrr hr hkk hkc hX3 hQ3 hz3 A3 hE3 q75 m70 pre0 hW4 hS4 hq4 A4 hE4; lia)) (by (clear hn ho h hk hS hK hQ hsyn A0 hE hT h61 h01 hga hp0 h75 hae hV hW h12 hE1 A1 hT1 e70 e71 k1 h13 hE2 A2 hT2 hV2 k1' hg1 hnm q151 tc2 tc1 hrr hr hkk hkc hX3 hQ3 hz3 A3 hE3 q75 m70 pre0 hW4 hS4 hq4 A4 hE4; lia)) (by (clear hn ho h hk hS hK hQ hsyn A0 hE hT h61 h01 hga hp0 h75 hae hV hW h12 hE1 A1 hT1 e70 e71 k1 h13 hE2 A2 hT2 hV2 k1' hg1 hnm q151 tc2 tc1 hrr hr hkk hkc hX3 hQ3 hz3 A3 hE3 q75 m70 pre0 hW4 hS4 hq4 A4 hE4; lia)) (by (clear hn ho h hk hS hK hQ hsyn A0 hE hT h61 h01 hga hp0 h75 hae hV hW h12 hE1 A1 hT1 e70 e71 k1 h13 hE2 A2 hT2 hV2 k1' hg1 hnm q151 tc2 tc1 hrr hr hkk hkc hX3 hQ3 hz3 A3 hE3 q75 m70 pre0 hW4 hS4 hq4 A4 hE4; lia)) (by (clear hn ho h hk hS hK hQ hsyn A0 hE hT h61 h01 hga hp0 h75 hae hV hW h12 hE1 A1 hT1 e70 e71 k1 h13 hE2 A2 hT2 hV2 k1' hg1 hnm q151 tc2 tc1 hrr hr hkk hkc hX3 hQ3 hz3 A3 hE3 q75 m70 pre0 hW4 hS4 hq4 A4 hE4; lia)) (by (clear hn ho h hk hS hK hQ hsyn A0 hE hT h61 h01 hga hp0 h75 hae hV hW h12 hE1 A1 hT1 e70 e71 k1 h13 hE2 A2 hT2 hV2 k1' hg1 hnm q151 tc2 tc1 hrr hr hkk hkc hX3 hQ3 hz3 A3 hE3 q75 m70 pre0 hW4 hS4 hq4 A4 hE4; lia)) (by (clear hn ho h hk hS hK hQ hsyn A0 hE hT h61 h01 hga hp0 h75 hae hV hW h12 hE1 A1 hT1 e70 e71 k1 h13 hE2 A2 hT2 hV2 k1' hg1 hnm q151 tc2 tc1 hrr hr hkk hkc hX3 hQ3 hz3 A3 hE3 q75 m70 pre0 hW4 hS4 hq4 A4 hE4; lia))
  have q475 : Mq4 6 75 = Mq 6 75 := by rw [q4 75 (.inr rfl)]; exact q75
  have a4g : a + 2 < a4 := by have := hW4.1; (clear hn ho h hk hS hK hQ hsyn A0 hE hT h61 h01 hga hp0 h75 hae hV hW h12 hE1 A1 hT1 e70 e71 k1 h13 hE2 A2 hT2 hV2 k1' hg1 hnm q151 tc2 tc1 hrr hr hkk hkc hX3 hQ3 hz3 A3 hE3 q75 m70 pre0 hW4 hS4 hq4 A4 hE4 q4 q475; omega)
  -- Q up to the op
  have pre : ∀ (Kv : mm_ → Prop) (Qtq : qt_), Tr_ wd0 pg0 (dq + 12) 244 [.inr (.inr 6), .inl 59] (up_ (up_ (em_ Mq4 3 (Mx 71 a)) 205 (Mq 6 75) r) 206 (Mq 6 75) (Mq3 6 104)) (rv_ Kv) Qtq → Tr_ wd0 pg0 (dq + 13) 296 [.inr (.inr 6)] Mq (rv_ Kv) Qtq := by
    intro Kv Qtq hq
    refine pre0 _ _ (hq4 _ _ ?_)
    refine q_227g (ER_goq hE4) ?_
    rw [if_pos rfl]
    refine q_266 (by (clear hn ho h hk hS hK hQ hsyn A0 hE hT h61 h01 hga hp0 hae hV hW h12 hE1 A1 hT1 e70 e71 k1 h13 hE2 A2 hT2 hV2 k1' hg1 hnm q151 tc2 tc1 hrr hr hkk hkc hX3 hQ3 hz3 A3 hE3 m70 pre0 hW4 hS4 hq4 A4 hE4 q4 a4g hq; lia)) (by (clear hn ho h hk hS hK hQ hsyn A0 hE hT h61 h01 hga hp0 hV hW hE1 A1 hT1 e70 e71 k1 hE2 A2 hT2 hV2 k1' hg1 hnm q151 tc2 tc1 hrr hr hkk hkc hX3 hQ3 hz3 A3 hE3 m70 pre0 hW4 hS4 hq4 A4 hE4 q4 a4g hq; omega)) ?_
    rw [q475]
    exact ⟨by (clear hn ho h hk hS hK hQ hsyn A0 hE hT h61 h01 hga hp0 hV hW hE1 A1 hT1 e70 e71 k1 hE2 A2 hT2 hV2 k1' hg1 hnm q151 tc2 tc1 hrr hr hkk hkc hX3 hQ3 hz3 A3 hE3 m70 pre0 hW4 hS4 hq4 A4 hE4 q4 a4g hq; lia), by omega, Tr_rv hq⟩
  have hp := PXL_1 (v := r) hE4.2.2.2.2.2.2.1 h01 (PXL_1 (v := 34) hE4.2.2.2.2.2.2.1 h01 (PXL_0 (b := b) (M := Mx4)))
  refine b_143_103 (Tr_mono _) hV hW 0 1 (a + 1) r Mx4 ?_
  rw [if_neg (by decide)]
  have A5 := AM_p A4 hp (by simp only [List.length_cons, List.length_nil]; omega)
  refine x_138 (AM_V A4).1 (ER_st hE4).1 (ER_st hE4).2 ?_
  have A45 := AM_p A4 (PXL_1 (v := 34) hE4.2.2.2.2.2.2.1 h01 (PXL_0 (b := b) (M := Mx4))) (by simp only [List.length_cons, List.length_nil]; omega)
  refine x_138 (AM_V A45).1 (ER_st (AM_E A45)).1 (ER_st (AM_E A45)).2 ?_
  have A6 := AM_up (r := 206) (v := Mq3 6 104) (AM_up (r := 205) (v := r) (AM_em (w := 3) (p := Mx 71 a) A5 q475) (by decide) (rfl : Mq 6 75 = Mq 6 75)) (by decide) (rfl : Mq 6 75 = Mq 6 75)
  have hSe : acS (Mx 70) dec o a = tS (Mx 70) 259 a4 := by rw [hsyn, gS_e h12, Option.bind_some, tS_e k1' h13, Option.bind_some, hS4, Option.bind_some]
  refine y_end A6 (fun hb => by have := hS hb; rw [hS4, Option.bind_some] at this; exact this) pre (by omega) (by (clear hn ho h hk hS hK hQ hsyn A0 hE hT h61 h01 hga hp0 h75 hae hV hW h12 hE1 A1 hT1 e70 e71 k1 h13 hE2 A2 hT2 hV2 k1' hg1 hnm q151 tc2 tc1 hrr hr hkk hkc hX3 hQ3 hz3 A3 hE3 q75 m70 pre0 hW4 hS4 hq4 A4 hE4 q4 q475 pre hp A5 A45 A6 hSe; omega)) ?_ ?_ ?_ (fun hb h0 => ?_) (fun Mx' Mq' a' hA hs hq => ⟨.inl rfl, ri_i (hK Mx' Mq' a' hA (by rw [hSe]; exact hs) hq)⟩) hQ
  · rw [up_ne (by decide), up_ne (by decide), em_75, q475]
  · simp only [List.length_cons, List.length_nil]; (clear hn ho h hk hS hK hQ hsyn A0 hE hT h61 h01 hga hp0 h75 hae hV hW h12 hE1 A1 hT1 e70 e71 k1 h13 hE2 A2 hT2 hV2 k1' hg1 hnm q151 tc2 tc1 hrr hr hkk hkc hX3 hQ3 hz3 A3 hE3 q75 m70 pre0 hW4 hS4 hq4 A4 hE4 q4 q475 pre hp A5 A45 A6 hSe; lia)
  · exact ⟨by rw [up_ne (by decide), up_ne (by decide), ← q475, em_204], by rw [up_ne (by decide), up_ne (by decide), ← q475, em_203], fun h => absurd h (by decide)⟩
  · have h13 : Mq4 6 13 = 0 := by rw [up_ne (by decide), up_ne (by decide), em_6 (by decide)] at h0; exact h0
    obtain ⟨h313, t, ht, hx4⟩ := hW4.2.2.2.2.2.2.2.2.2 hb h13
    have hk0 := hz3 hb h313
    have hr0 : r ≠ -1 := fun e => by rw [if_pos e] at hkk; (clear hn ho h hk hS hK hQ hsyn A0 hE hT h61 h01 hga hp0 h75 hae hV hW h12 hE1 A1 hT1 e70 e71 k1 hE2 A2 hT2 hV2 k1' hg1 hnm q151 tc2 tc1 hrr hr hkc hX3 hQ3 hz3 A3 hE3 q75 m70 pre0 hW4 hS4 hq4 A4 hE4 q4 q475 a4g pre hp A5 A45 A6 hSe hb h0 h13 h313 ht hx4 e; omega)
    have ht1 : t = 1 := by have := ht (by decide); (clear hn ho h hk hS hK hQ hsyn A0 hE hT h61 h01 hga hp0 h75 hae hV hW h12 hE1 A1 hT1 e70 e71 k1 hE2 A2 hT2 hV2 k1' hg1 hnm q151 tc2 tc1 hrr hr hkk hkc hX3 hQ3 hz3 A3 hE3 q75 m70 pre0 hW4 hS4 hq4 A4 hE4 q4 q475 a4g pre hp A5 A45 A6 hSe hb h0 h13 h313 ht hx4 hk0 hr0; lia)
    have hp4 := hp.2.2.2.1 hb
    obtain ⟨s1, s2, _⟩ := hp4.2
    have e53 : Mx3 5 3 = Mx 5 3 := by rw [← hX3, Xn_r (by decide), nX_ne (by decide), nX_ne (by decide)]
    have e61 : Mq3 6 61 = Mq 6 61 := by rw [← hQ3, Qn_6 (by decide) (by decide), nx_6 (by decide), nx_6 (by decide)]
    rw [e53, e61, ht1] at hx4
    have ee := EXP_le hx4
    have tbq : tb_ Mq4 (up_ (up_ (em_ Mq4 3 (Mx 71 a)) 205 (Mq 6 75) r) 206 (Mq 6 75) (Mq3 6 104)) := QC_tb (QC_tr (QC_tr em_QC (QC_ur (by decide) (by decide))) (QC_ur (by decide) (by decide)))
    have e173 : up_ (up_ (em_ Mq4 3 (Mx 71 a)) 205 (Mq 6 75) r) 206 (Mq 6 75) (Mq3 6 104) 173 (Mq 6 61) = Mq 173 (Mq 6 61) := by rw [tbq.2.1, (QC_tb (AM_Q A4)).2.1]
    refine .inr (.inr (.inl ⟨?_, ?_, Mx4 5 3, ?_, ?_, ?_, ?_⟩))
    · rw [up_ne (by decide), up_ne (by decide), ← q475, em_203]
    · rw [up_ne (by decide), up_at, e173]; (clear hn ho h hk hS hK hQ hsyn A0 hE hT h61 h01 hga hp0 h75 hae hV hW h12 hE1 A1 hT1 e70 e71 k1 hE2 A2 hT2 hV2 k1' hg1 hnm q151 tc2 tc1 hrr hX3 hQ3 A3 hE3 q75 m70 pre0 hW4 hS4 hq4 A4 hE4 q4 q475 a4g pre hp A5 A45 A6 hSe h0 h13 hx4 ht1 hp4 s2 e53 e61 ee tbq e173; lia)
    · rw [up_at]
      refine EXP_c hx4 (fun i x y => hp.2.2.2.2.1 i (by omega)) (fun i x y => by rw [up_ne (by decide), up_ne (by decide), up_ne (by decide), up_ne (by decide), em_r (.inr (by decide)) (by decide), em_r (.inr (by decide)) (by decide)]; exact ⟨rfl, rfl⟩) tbq (by rw [up_ne (by decide), up_ne (by decide), em_6 (by decide)]; (clear hn ho h hk hS hK hQ hsyn A0 hE hT h61 h01 hga hp0 h75 hae hV hW h12 hE1 A1 hT1 e70 e71 k1 hE2 A2 hT2 hV2 k1' hg1 hnm q151 tc2 tc1 hrr hr hkk hkc hX3 hQ3 hz3 A3 hE3 q75 m70 pre0 hW4 hS4 hq4 A4 hE4 q4 q475 a4g pre hp A5 A45 A6 hSe hb h0 h13 h313 ht hx4 hk0 hr0 ht1 hp4 s1 s2 e53 e61 ee tbq e173; omega))
    · simpa using s2
    · rw [up_ne (by decide), up_at]; exact s1
    · rw [hp4.1]; rfl
end AS
end T104_as
section T105_ag
/-! gets: the variable -/
section AG
variable {d dq n : Nat} {b F : Int} {Mx Mq Mx1 Mq1 M : mm_} {a a1 o o1 s z : Int} {K : Int → mm_ → Prop} {Kv : mm_ → Prop} {Qt : qt_} {Qr : qr_} {dec : Int → Option Int} {V : vv_}
/-- whether a variable is an array -/
def arr_ (Mq : mm_) (r : Int) : Int := if r = -1 then 0 else if Mq 183 (8 * Mq 6 61 + r) ≤ 0 then 0 else 1
def k4g_ (r : Int) : Int := if r = -1 then 4 else 0
def k5_g (Mq : mm_) (r idx : Int) : Int := if r = -1 then 0 else if arr_ Mq r = idx then 0 else 5
theorem y_n5 [Inhabited gh_] {t r ar idx kk : Int} {A : mm_ → Prop} (hE : ER b F Mx1 Mq1 a1 o1) (ht : 0 ≤ t ∧ t < 1202) (hr : kk = if r = -1 then 0 else if ar = idx then 0 else 5) (h : A (Xn_ Mx1 b kk t)) : bl_ (Mx1 1 8) → (if Mx1 1 8 = 0 then A Mx1 else (if r = -1 then A Mx1 else (if ar = idx then A Mx1 else Tr_ wd0 pg0 (d + 1) 116 [.inr (.inr 1), .inl 5, .inl t] Mx1 (rv_ A) Qt))) := by
  intro _
  have h8 := hE.2.2.2.2.2.2.1
  have h01 := hE.2.2.2.2.2.2.2.2.1
  unfold Xn_ at h
  by_cases c : Mx1 1 8 = 0
  · rw [if_pos c]
    rw [if_pos (.inl (by omega))] at h; exact h
  · rw [if_neg c]
    by_cases c2 : r = -1
    · rw [if_pos c2]
      rw [if_pos c2] at hr
      rw [if_pos (.inr hr)] at h; exact h
    · rw [if_neg c2]
      rw [if_neg c2] at hr
      by_cases c3 : ar = idx
      · rw [if_pos c3]
        rw [if_pos c3] at hr
        rw [if_pos (.inr hr)] at h; exact h
      · rw [if_neg c3]
        rw [if_neg c3] at hr
        rw [if_neg (by (clear hE ht h h01; lia)), hr] at h
        exact x_116 ht.1 ht.2 (ER_fl hE).1 (ER_fl hE).2 h
/-- X: gets up to the index -/
theorem l_144a [Inhabited gh_] {D : Nat} {idx r : Int} (h : TA b F Mx Mq a o) (hk : Mx 70 a = 100) (h12 : a < 1200) (hE1 : ER b F (nX_ Mx) (nx_ Mq) (a + 1) o) (hV : Cl_ wd0 (Tr_ wd0 pg0 (D + 4)) V Qr Qt m_144) (hW : Wk_ V) (hi : (idx = 1 ∧ Mx 70 (a + 1) = 291) ∨ (idx = 0 ∧ Mx 70 (a + 1) ≠ 291)) (hr : r = vrr Mq (Mq 151 a))
    (hg : V 96 [rr 1, ii a, ii r, ii (8 * Mq 6 61 + r), ii (arr_ Mq r), ii idx] [] (Xn_ (Xn_ (nX_ Mx) b (k4g_ r) a) b (k5_g Mq r idx) a)) :
    Tr_ wd0 pg0 (D + 4) 128 [.inr (.inr 1), .inl a] (nX_ Mx) (ri_ fun v2 M2 =>
   (if v2 = (-1) then
    (bl_ (M2 1 8) → (if M2 1 8 = 0 then
     V 63 [rr 1, ii a, ii v2, ii (w32 ((w32 (8 * (M2 1 18))) + v2)), ii 0, none] [] M2
    else
     (if v2 = (-1) then
      Tr_ wd0 pg0 (D + 4) 116 [.inr (.inr 1), .inl 4, .inl a] M2 (rv_ fun M3 =>
       V 63 [rr 1, ii a, ii v2, ii (w32 ((w32 (8 * (M2 1 18))) + v2)), ii 0, none] [] M3) Qt
     else
      V 63 [rr 1, ii a, ii v2, ii (w32 ((w32 (8 * (M2 1 18))) + v2)), ii 0, none] [] M2)))
   else
    M2 1 2 = 5 ∧
     (0 ≤ w32 ((w32 (8 * (M2 1 18))) + v2) ∧ w32 ((w32 (8 * (M2 1 18))) + v2) < 48) ∧
     (if M2 131 (w32 ((w32 (8 * (M2 1 18))) + v2)) ≤ 0 then
     (bl_ (M2 1 8) → (if M2 1 8 = 0 then
      V 63 [rr 1, ii a, ii v2, ii (w32 ((w32 (8 * (M2 1 18))) + v2)), ii 0, none] [] M2
     else
      (if v2 = (-1) then
       Tr_ wd0 pg0 (D + 4) 116 [.inr (.inr 1), .inl 4, .inl a] M2 (rv_ fun M4 =>
        V 63 [rr 1, ii a, ii v2, ii (w32 ((w32 (8 * (M2 1 18))) + v2)), ii 0, none] [] M4) Qt
      else
       V 63 [rr 1, ii a, ii v2, ii (w32 ((w32 (8 * (M2 1 18))) + v2)), ii 0, none] [] M2)))
    else
     (bl_ (M2 1 8) → (if M2 1 8 = 0 then
      V 63 [rr 1, ii a, ii v2, ii (w32 ((w32 (8 * (M2 1 18))) + v2)), ii 1, none] [] M2
     else
      (if v2 = (-1) then
       Tr_ wd0 pg0 (D + 4) 116 [.inr (.inr 1), .inl 4, .inl a] M2 (rv_ fun M5 =>
        V 63 [rr 1, ii a, ii v2, ii (w32 ((w32 (8 * (M2 1 18))) + v2)), ii 1, none] [] M5) Qt
      else
       V 63 [rr 1, ii a, ii v2, ii (w32 ((w32 (8 * (M2 1 18))) + v2)), ii 1, none] [] M2)))))) Qt := by
  have A0 := AM_rf h
  have A1 := AM_go A0 hE1
  have hga := (AM_E A0).1
  have hnm : nm9_ (nX_ Mx) a := ⟨gd_c (AM_70 A1) hga, by rw [AM_70 A1]; exact hk⟩
  refine x_128R (AM_T A1) (AM_V A1) hnm ?_
  rw [show nx_ Mq 151 = Mq 151 from nx_ne (by decide), vrr_c nx_QF, ← hr]
  have hV9 := h.2.1
  have hrr := vrr_r (Mx := Mx) (Mq := Mq) hV9 (v := Mq 151 a)
  rw [← hr] at hrr
  have h18 : nX_ Mx 1 18 = Mq 6 61 := by rw [nX_1 (by decide)]; exact hV9.2.1.symm
  have hT0 : 0 ≤ Mq 6 61 ∧ Mq 6 61 < 6 := by rw [hV9.2.1]; exact ⟨hV9.2.2.1, hV9.2.2.2.1⟩
  have hv8 : Mq 171 (Mq 6 61) ≤ 8 := by have := hV9.2.2.2.2.1; rw [hV9.2.1, this.2.2]; exact this.2.1
  have ew : w32 (w32 (8 * nX_ Mx 1 18) + r) = 8 * Mq 6 61 + r := by rw [h18, w32_id (x := 8 * Mq 6 61) (by (clear h hk h12 hE1 hV hW hi hr hg A0 A1 hga hnm hV9 hrr h18 hv8; lia)) (by (clear h hk h12 hE1 hV hW hi hr hg A0 A1 hga hnm hV9 hrr h18 hv8; lia)), w32_id (by (clear h hk h12 hE1 hV hW hi hg A0 A1 hga hnm hV9 h18 hv8; lia)) (by (clear h hk h12 hE1 hV hW hi hg A0 A1 hga hnm hV9 h18; omega))]
  rw [ew]
  have hae := ER_a (AM_E A0)
  have hk4 : k4g_ r = 0 ∨ (3 ≤ k4g_ r ∧ k4g_ r ≤ 6) := by unfold k4g_; split <;> omega
  have A2 := (AM_m (k := k4g_ r) (tk := a) A1 hk4 hga (by omega)).1
  -- from V 63 on
  have fin : V 63 [rr 1, ii a, ii r, ii (8 * Mq 6 61 + r), ii (arr_ Mq r), none] [] (Xn_ (nX_ Mx) b (k4g_ r) a) := by
    refine b_144_63 (Tr_mono _) hV hW a r (8 * Mq 6 61 + r) (arr_ Mq r) _ ?_
    have e70 := AM_70 A2
    have key : ∀ v1 : Int, v1 = idx → (bl_ (Xn_ (nX_ Mx) b (k4g_ r) a 1 8) → (if Xn_ (nX_ Mx) b (k4g_ r) a 1 8 = 0 then V 96 [rr 1, ii a, ii r, ii (8 * Mq 6 61 + r), ii (arr_ Mq r), ii v1] [] (Xn_ (nX_ Mx) b (k4g_ r) a) else (if r = (-1) then V 96 [rr 1, ii a, ii r, ii (8 * Mq 6 61 + r), ii (arr_ Mq r), ii v1] [] (Xn_ (nX_ Mx) b (k4g_ r) a) else (if arr_ Mq r = v1 then V 96 [rr 1, ii a, ii r, ii (8 * Mq 6 61 + r), ii (arr_ Mq r), ii v1] [] (Xn_ (nX_ Mx) b (k4g_ r) a) else Tr_ wd0 pg0 (D + 4) 116 [.inr (.inr 1), .inl 5, .inl a] (Xn_ (nX_ Mx) b (k4g_ r) a) (rv_ fun M2 => V 96 [rr 1, ii a, ii r, ii (8 * Mq 6 61 + r), ii (arr_ Mq r), ii v1] [] M2) Qt)))) := by
      intro v1 hv1
      subst hv1
      exact y_n5 (d := D + 3) (A := fun M => V 96 [rr 1, ii a, ii r, ii (8 * Mq 6 61 + r), ii (arr_ Mq r), ii v1] [] M) (AM_E A2) (by omega) rfl hg
    refine y_117 (d := D + 3) (AM_E A2) (by decide) (fun e => key 1 ?_) (fun e => key 0 ?_)
    · rw [e70, show skk_ 91 = 291 from rfl] at e; (clear h hk h12 hE1 hV hW hr hg A0 A1 hga hnm hV9 h18 hT0 hv8 ew hae A2 e70 key; lia)
    · rw [e70, show skk_ 91 = 291 from rfl] at e; (clear h hk h12 hE1 hV hW hr hg A0 A1 hga hnm hV9 h18 hT0 hv8 ew hae A2 e70 key; lia)
  have ar0 : ∀ x : Int, x = arr_ Mq r → (bl_ (nX_ Mx 1 8) → (if nX_ Mx 1 8 = 0 then V 63 [rr 1, ii a, ii r, ii (8 * Mq 6 61 + r), ii x, none] [] (nX_ Mx) else (if r = (-1) then Tr_ wd0 pg0 (D + 4) 116 [.inr (.inr 1), .inl 4, .inl a] (nX_ Mx) (rv_ fun M3 => V 63 [rr 1, ii a, ii r, ii (8 * Mq 6 61 + r), ii x, none] [] M3) Qt else V 63 [rr 1, ii a, ii r, ii (8 * Mq 6 61 + r), ii x, none] [] (nX_ Mx)))) := by
    intro x hx
    subst hx
    exact y_n4 (d := D + 3) (A := fun M => V 63 [rr 1, ii a, ii r, ii (8 * Mq 6 61 + r), ii (arr_ Mq r), none] [] M) hE1 (by omega) rfl fin
  by_cases c : r = -1
  · rw [if_pos c]
    exact ar0 0 (by unfold arr_; rw [if_pos c])
  · rw [if_neg c]
    have e131 : nX_ Mx 131 (8 * Mq 6 61 + r) = Mq 183 (8 * Mq 6 61 + r) := by
      rw [nX_ne (by decide), hV9.2.1]
      have := hV9.2.2.2.2.2.2.1 r (by (clear h hk h12 hE1 hV hW hi hg A0 A1 hga hnm hV9 h18 hT0 hv8 hae A2 fin ar0; lia)) (by have := hV9.2.2.2.2.1.2.2; rw [hV9.2.1] at hrr; (clear h hk h12 hE1 hV hW hi hg A0 A1 hga hnm hV9 h18 hT0 hv8 hae A2 fin ar0; lia))
      exact this.2.2.2.1
    rw [e131]
    refine ⟨(AM_V A1).1, by (clear h hk h12 hE1 hV hW hi hg A0 A1 hga hnm hV9 h18 hae A2 fin ar0 e131; lia), ?_⟩
    by_cases c2 : Mq 183 (8 * Mq 6 61 + r) ≤ 0
    · rw [if_pos c2]; exact ar0 0 (by unfold arr_; rw [if_neg c, if_pos c2])
    · rw [if_neg c2]; exact ar0 1 (by unfold arr_; rw [if_neg c, if_neg c2])
/-- Q: assign up to the index -/
theorem q_302a [Inhabited gh_] {idx r : Int} (h : TA b F Mx Mq a o) (hk : Mx 70 a = 100) (h12 : a < 1200) (hE1 : ER b F (nX_ Mx) (nx_ Mq) (a + 1) o) (hi : (idx = 1 ∧ Mx 70 (a + 1) = 291) ∨ (idx = 0 ∧ Mx 70 (a + 1) ≠ 291)) (hr : r = vrr Mq (Mq 151 a))
    (hg : ∀ V : vv_, Cl_ wd0 (Tr_ wd0 pg0 (d + 4)) V (rv_ fun M1 => rv_ Kv [] M1) Qt m_302 → Wk_ V → V 99 [rr 6, ii (Mx 71 a), ii a, ii (vq_ Mq r), ii idx, none, none, none, none] [] (Qn_ (Qn_ (nx_ Mq) b (k4g_ r) (Mx 71 a)) b (k5_g Mq r idx) (Mx 71 a))) :
    Tr_ wd0 pg0 (d + 6) 296 [.inr (.inr 6)] Mq (rv_ Kv) Qt := by
  have A0 := AM_rf h
  have A1 := AM_go A0 hE1
  have hE := AM_E A0
  have hT := AM_T A0
  have hga := hE.1
  have h01 := hE.2.2.2.2.2.2.2.2.1
  have hae := ER_a hE
  have hp0 : Mq 150 (Mq 6 12) = Mx 71 a := (ER_k hT hE).2.1
  have hpa : nx_ Mq 150 a = Mx 71 a := by rw [nx_ne (by decide), ← hp0, hE.2.2.1]
  have hV9 := h.2.1
  have hrr := vrr_r (Mx := Mx) (Mq := Mq) hV9 (v := Mq 151 a)
  rw [← hr] at hrr
  have hT0 : 0 ≤ Mq 6 61 ∧ Mq 6 61 < 6 := by rw [hV9.2.1]; exact ⟨hV9.2.2.1, hV9.2.2.2.1⟩
  have hv8 : Mq 171 (Mq 6 61) ≤ 8 := by have := hV9.2.2.2.2.1; rw [hV9.2.1, this.2.2]; exact this.2.1
  have hk4 : k4g_ r = 0 ∨ (3 ≤ k4g_ r ∧ k4g_ r ≤ 6) := by unfold k4g_; split <;> omega
  have A2 := (AM_m (k := k4g_ r) (tk := a) A1 hk4 hga (by omega)).1
  refine t_296 fun V hV hW => b_296_0 (Tr_mono _) hV hW Mq ⟨(ER_k hT hE).2.2.1, j_228f hT hE (by decide) (by omega) ?_⟩
  rw [if_pos rfl]
  refine j_228f hT hE (by decide) (by omega) ?_
  rw [if_pos rfl]
  refine j_228f hT hE (by decide) (by omega) ?_
  rw [if_pos rfl]
  refine j_228f hT hE (by decide) (by omega) ?_
  rw [if_pos rfl, hp0]
  refine t_302 fun V hV hW => b_302_0 (Tr_mono _) hV hW (Mx 71 a) Mq ?_
  have hg9 := hg V hV hW
  refine j_233t hT hE hk h12 ?_
  refine q_227g (ER_goq hE1) ?_
  rw [if_pos rfl]
  refine ⟨by omega, q_276R (AM_V A1) ?_⟩
  rw [show nx_ Mq 151 = Mq 151 from nx_ne (by decide), vrr_c nx_QF, ← hr, show nx_ Mq 6 61 = Mq 6 61 from nx_6 (by decide), show (if r = -1 then -1 else 8 * Mq 6 61 + r) = vq_ Mq r from rfl]
  have vq0 : vq_ Mq r < 0 ↔ r = -1 := by unfold vq_; split <;> omega
  -- from V 58 on
  have fin : V 58 [rr 6, ii (Mx 71 a), ii a, ii (vq_ Mq r), ii idx, none, none, none, none] [] (Qn_ (nx_ Mq) b (k4g_ r) (Mx 71 a)) := by
    refine b_302_58 (Tr_mono _) hV hW (Mx 71 a) a (vq_ Mq r) idx _ ?_
    intro _
    have e16 : Qn_ (nx_ Mq) b (k4g_ r) (Mx 71 a) 6 16 = b := (AM_E A2).2.2.2.2.2.2.2.1
    have e183 : Qn_ (nx_ Mq) b (k4g_ r) (Mx 71 a) 183 = Mq 183 := by rw [Qn_r (by decide), nx_ne (by decide)]
    have e150 : Qn_ (nx_ Mq) b (k4g_ r) (Mx 71 a) 150 a = Mx 71 a := by rw [Qn_r (by decide)]; exact hpa
    rw [e16, e183, e150]
    generalize hM : Qn_ (nx_ Mq) b (k4g_ r) (Mx 71 a) = M9 at *
    unfold Qn_ at hg9
    by_cases cb : b = 0
    · rw [if_pos cb]; rw [if_pos (.inl cb)] at hg9; exact hg9
    · rw [if_neg cb]
      by_cases c : r = -1
      · rw [if_pos (vq0.mpr c)]
        rw [if_pos (.inr (by unfold k5_g; rw [if_pos c]))] at hg9; exact hg9
      · have ev : vq_ Mq r = 8 * Mq 6 61 + r := by unfold vq_; rw [if_neg c]
        rw [if_neg (fun e => c (vq0.mp e))]
        refine ⟨by omega, ?_⟩
        have ea : arr_ Mq r = if Mq 183 (vq_ Mq r) ≤ 0 then 0 else 1 := by unfold arr_; rw [if_neg c, ev]
        have e5 : k5_g Mq r idx = if arr_ Mq r = idx then 0 else 5 := by unfold k5_g; rw [if_neg c]
        by_cases c2 : Mq 183 (vq_ Mq r) ≤ 0
        · rw [if_pos c2]
          rw [if_pos c2] at ea
          rw [ea] at e5
          by_cases c3 : idx = 0
          · rw [if_pos c3]
            rw [if_pos c3.symm] at e5
            rw [if_pos (.inr e5)] at hg9; exact hg9
          · rw [if_neg c3]
            rw [if_neg (fun e => c3 e.symm)] at e5
            rw [if_neg (by (clear h hk h12 hE1 hi hr A0 A1 hE hT hga h01 hae hp0 hpa hV9 hrr hT0 hv8 hk4 hV hW vq0 hM hg A2 hg9 e16 e183 e150 ev ea c2; lia)), e5] at hg9
            exact ⟨by omega, q_236 hg9⟩
        · rw [if_neg c2]
          rw [if_neg c2] at ea
          rw [ea] at e5
          by_cases c3 : idx = 1
          · rw [if_pos c3]
            rw [if_pos c3.symm] at e5
            rw [if_pos (.inr e5)] at hg9; exact hg9
          · rw [if_neg c3]
            rw [if_neg (fun e => c3 e.symm)] at e5
            rw [if_neg (by (clear h hk h12 hE1 hi hr A0 A1 hE hT hga h01 hae hp0 hpa hV9 hrr hT0 hv8 hk4 hV hW vq0 hM hg A2 hg9 e16 e183 e150 ev ea c2; lia)), e5] at hg9
            exact ⟨by omega, q_236 hg9⟩
  have e70 := AM_70 A1
  have key : ∀ v4 : Int, v4 = idx → (bl_ (nx_ Mq 6 16) → (if nx_ Mq 6 16 = 0 then V 58 [rr 6, ii (Mx 71 a), ii a, ii (vq_ Mq r), ii v4, none, none, none, none] [] (nx_ Mq) else (if vq_ Mq r < 0 then (0 ≤ a ∧ a < 1202) ∧ Tr_ wd0 pg0 (d + 4) 236 [.inr (.inr 6), .inl 4, .inl (nx_ Mq 150 a)] (nx_ Mq) (rv_ fun M5 => V 58 [rr 6, ii (Mx 71 a), ii a, ii (vq_ Mq r), ii v4, none, none, none, none] [] M5) Qt else V 58 [rr 6, ii (Mx 71 a), ii a, ii (vq_ Mq r), ii v4, none, none, none, none] [] (nx_ Mq)))) := by
    intro v4 hv4
    subst hv4
    intro _
    have e16 : nx_ Mq 6 16 = b := hE1.2.2.2.2.2.2.2.1
    rw [e16]
    unfold Qn_ at fin
    by_cases cb : b = 0
    · rw [if_pos cb]; rw [if_pos (.inl cb)] at fin; exact fin
    · rw [if_neg cb]
      by_cases c : r = -1
      · rw [if_pos (vq0.mpr c)]
        have e4 : k4g_ r = 4 := by unfold k4g_; rw [if_pos c]
        rw [if_neg (by (clear h hk h12 hE1 hr A0 A1 hE hT hga h01 hae hp0 hpa hV9 hrr hT0 hv8 hk4 A2 hV hW vq0 e70 hi hg hg9 fin e16 c; lia)), e4] at fin
        rw [hpa]
        exact ⟨by omega, q_236 fin⟩
      · have e4 : k4g_ r = 0 := by unfold k4g_; rw [if_neg c]
        rw [if_pos (.inr e4)] at fin
        rw [if_neg (fun e => c (vq0.mp e))]; exact fin
  rcases hi with ⟨i1, i2⟩ | ⟨i1, i2⟩
  · exact j_237t (AM_T A1) hE1 (by decide) (by rw [e70]; exact i2) (key 1 i1.symm)
  · exact j_237f (AM_T A1) hE1 (by decide) (by rw [e70]; exact i2) (key 0 i1.symm)
end AG
end T105_ag
section T106_ag
/-! gets: from the sign on -/
section AG
variable {d dq n : Nat} {b F : Int} {Mx Mq Mx5 Mq5 M : mm_} {a a5 o s5 z5 : Int} {K : Int → mm_ → Prop} {Kv G : mm_ → Prop} {Qt : qt_} {V : vv_} {r idx e : Int}
/-- what is known of the index when gets comes to its sign -/
def IDX (b : Int) (Mx Mq Mx5 Mq5 : mm_) (r idx e : Int) : Prop := b = 1 → Mq5 6 13 = 0 → r ≠ -1 ∧ ((idx = 0 ∧ e = -1 ∧ Mq 183 (8 * Mq 6 61 + r) = 0 ∧ Mx5 5 3 = Mx 5 3) ∨ (idx = 1 ∧ 0 < Mq 183 (8 * Mq 6 61 + r) ∧ ∃ c0, EXP Mx5 Mq5 (Mq 6 61) (Mx 5 3) c0 e (Mq5 6 104) 1 ∧ Mx5 142 c0 = 45 ∧ Mx5 142 (c0 + 1) = Mq 183 (8 * Mq 6 61 + r) ∧ Mx5 5 3 = c0 + 2))
theorem q_302st [Inhabited gh_] {p v : Int} (hV : Cl_ wd0 (Tr_ wd0 pg0 (d + 2)) V (rv_ fun M1 => rv_ Kv [] M1) Qt m_302) (hW : Wk_ V) {x2 x4 x5 x6 : Int} (hs : sp_ M) (h : Kv M) : V 149 [rr 6, ii p, ii x2, ii v, ii x4, ii x5, ii x6, none, none] [] M := by
  refine b_302_149 (Tr_mono _) hV hW p x2 v x4 x5 x6 M ?_
  refine q_270s hs ?_
  refine q_227s hs ?_
  rw [if_neg (by decide)]
  exact rv_i (rv_i h)
theorem l_144c [Inhabited gh_] (hn : n ≤ 12) (ho : o = 12 - (n : Int)) (A5 : AM b F Mx Mq Mx5 Mq5 a a5 o s5 z5) (haa : a + 1 ≤ a5) (hz : 0 ≤ z5) (hs5 : s5 ≤ 2) (h75 : Mq5 6 75 = Mq 6 75)
    (hr : r = -1 ∨ (0 ≤ r ∧ r < Mq 171 (Mq 6 61))) (hi : idx = 0 ∨ idx = 1)
    (hS : b = 1 → ((tS (Mx 70) 110 a5).bind fun a6 => (ES (Mx 70) 0 o a6).bind (tS (Mx 70) 259)) ≠ none)
    (hidx : IDX b Mx Mq Mx5 Mq5 r idx e)
    (pre : ∀ (Kv : mm_ → Prop) (Qtq : qt_), (∀ V : vv_, Cl_ wd0 (Tr_ wd0 pg0 (dq + 12)) V (rv_ fun M1 => rv_ Kv [] M1) Qtq m_302 → Wk_ V → Tr_ wd0 pg0 (dq + 12) 244 [.inr (.inr 6), .inl 256] Mq5 (rv_ fun M1 => (if vq_ Mq r < 0 then V 149 [rr 6, ii (Mx 71 a), ii a, ii (vq_ Mq r), ii idx, ii e, ii 0, none, none] [] M1 else (0 ≤ vq_ Mq r ∧ vq_ Mq r < 48) ∧ V 149 [rr 6, ii (Mx 71 a), ii a, ii (vq_ Mq r), ii idx, ii e, ii (M1 182 (vq_ Mq r)), none, none] [] M1)) Qtq) → Tr_ wd0 pg0 (dq + 14) 296 [.inr (.inr 6)] Mq (rv_ Kv) Qtq)
    (hV : Cl_ wd0 (Tr_ wd0 pg0 (9 * n + 14)) V (rv_ fun M12 => Tr_ wd0 pg0 (9 * n + 15) 121 [.inr (.inr 1), .inl 59] M12 (rv_ G) Qt) Qt m_144) (hW : Wk_ V)
    (hK : ∀ Mx' Mq' a', AR b F Mx Mq Mx' Mq' a a' o 1 0 → ((tS (Mx 70) 110 a5).bind fun a6 => (ES (Mx 70) 0 o a6).bind (tS (Mx 70) 259)) = some a' → (∀ (Kv : mm_ → Prop) (Qtq : qt_), Kv Mq' → Tr_ wd0 pg0 (dq + 14) 296 [.inr (.inr 6)] Mq (rv_ Kv) Qtq) → G Mx')
    (hQ : b = 0 → ∀ Mx', XA Mx Mx' → (∀ (Kv : mm_ → Prop) (Qtq : qt_), (∀ M', SQ Mx' Mq M' → Kv M') → Tr_ wd0 pg0 (dq + 14) 296 [.inr (.inr 6)] Mq (rv_ Kv) Qtq) → Qt 8 Mx') :
    V 158 [rr 1, ii a, ii r, ii (8 * Mq 6 61 + r), ii (arr_ Mq r), ii idx] [] Mx5 := by
  have hE := AM_E A5
  have hT := AM_T A5
  have e70 := AM_70 A5
  have e71 := AM_71 A5
  have h01 := hE.2.2.2.2.2.2.2.2.1
  have hV9 := A5.1.2.1
  have hT0 : 0 ≤ Mq 6 61 ∧ Mq 6 61 < 6 := by rw [hV9.2.1]; exact ⟨hV9.2.2.1, hV9.2.2.2.1⟩
  have hv8 : Mq 171 (Mq 6 61) ≤ 8 := by have := hV9.2.2.2.2.1; rw [hV9.2.1, this.2.2]; exact this.2.1
  have vq0 : vq_ Mq r < 0 ↔ r = -1 := by unfold vq_; split <;> (clear hn ho A5 haa hz hs5 h75 hidx pre hV hW hK hE hT e70 e71 hV9 hv8; lia)
  have hc := A5.1.2.2.2.1
  have hae := ER_a A5.1.2.2.1
  refine b_144_158 (Tr_mono _) hV hW a r (8 * Mq 6 61 + r) (arr_ Mq r) idx Mx5 ?_
  refine y_108 hE (by decide) (fun hb => by rw [e70]; intro c; have := hS hb; rw [c] at this; exact this rfl) (fun k1 h12 hE6 => ?_) (fun hb k1 h12 => ?_) (fun hb k1 => ?_)
  rotate_left
  · refine hQ hb _ (XA_tr (XC_XA (AM_X A5)) (XF_XA fl_XF)) fun Kv Qtq hk9 => pre _ _ fun V hV hW => j_244r hT hE hb (by decide) k1 h12 ?_
    have hsp := SQ_bf hE hb (k := 2) (by decide) (QC_QA (AM_Q A5))
    by_cases c : vq_ Mq r < 0
    · rw [if_pos c]; exact q_302st hV hW hsp.1 (hk9 _ hsp)
    · rw [if_neg c]; exact ⟨by unfold vq_ at *; split at c <;> (rename_i c2; first | rw [if_pos c2] | rw [if_neg c2]) <;> omega, q_302st hV hW hsp.1 (hk9 _ hsp)⟩
  · refine hQ hb _ (XA_tr (XC_XA (AM_X A5)) (XF_XA fl_XF)) fun Kv Qtq hk9 => pre _ _ fun V hV hW => j_244w hT hE hb (by decide) k1 ?_
    have hsp := SQ_bf hE hb (k := 1) (by decide) (QC_QA (AM_Q A5))
    by_cases c : vq_ Mq r < 0
    · rw [if_pos c]; exact q_302st hV hW hsp.1 (hk9 _ hsp)
    · rw [if_neg c]; exact ⟨by unfold vq_ at *; split at c <;> (rename_i c2; first | rw [if_pos c2] | rw [if_neg c2]) <;> omega, q_302st hV hW hsp.1 (hk9 _ hsp)⟩
  have A6 := AM_go A5 hE6
  have m70 := AM_70 A6
  have k1' : Mx 70 a5 = 110 := by rw [← e70]; exact k1
  have hSq : ((tS (Mx 70) 110 a5).bind fun a6 => (ES (Mx 70) 0 o a6).bind (tS (Mx 70) 259)) = (ES (Mx 70) 0 o (a5 + 1)).bind (tS (Mx 70) 259) := by rw [tS_e k1' h12, Option.bind_some]
  rw [hSq] at hS
  generalize hX6 : nX_ Mx5 = Mx6 at *
  generalize hQ6 : nx_ Mq5 = Mq6 at *
  have q182 : Mq6 182 = Mq 182 := (QC_tb (AM_Q A6)).2.2.1
  -- the sort that is wanted
  obtain ⟨w, hw⟩ : ∃ w, w = if r = -1 then (-1 : Int) else Mx6 130 (8 * Mq 6 61 + r) := ⟨_, rfl⟩
  have hvt : r ≠ -1 → Mx 130 (8 * Mq 6 61 + r) + 1 = Mq 182 (8 * Mq 6 61 + r) ∧ Mx 132 (8 * Mq 6 61 + r) = Mq 184 (8 * Mq 6 61 + r) ∧ 0 ≤ Mx 130 (8 * Mq 6 61 + r) ∧ Mx 130 (8 * Mq 6 61 + r) ≤ 2 := by
    intro c
    rw [hV9.2.1]
    have := hV9.2.2.2.2.2.2.1 r (by (clear hn ho A5 haa hz hs5 h75 hidx pre hV hW hK hE hT e70 e71 hV9 hT0 hv8 hc hae k1 h12 k1' hSq hX6 m70 hQ6 hE6 A6 q182 hw; lia)) (by have := hV9.2.2.2.2.1.2.2; rw [hV9.2.1] at hr; (clear hn ho A5 haa hz hs5 h75 hidx pre hV hW hK hE hT e70 e71 hV9 hT0 hv8 hc hae k1 h12 k1' hSq hX6 m70 hQ6 hE6 A6 q182 hw; lia))
    exact ⟨this.2.2.1, this.2.2.2.2.1, this.2.2.2.2.2.1, this.2.2.2.2.2.2.1⟩
  have x130 : Mx6 130 = Mx 130 := (AM_X A6).1 130 (by decide)
  have x132 : Mx6 132 = Mx 132 := (AM_X A6).1 132 (by decide)
  have hwr : -1 ≤ w ∧ w ≤ 2 := by
    rw [hw]; split
    · omega
    · rename_i c; have := hvt c; rw [x130]; omega
  have hwq : r ≠ -1 → w + 1 = Mq 182 (vq_ Mq r) := by
    intro c; have := hvt c; rw [hw, if_neg c, x130]; unfold vq_; rw [if_neg c]; omega
  -- Q up to the e
  have pre0 : ∀ (Kv : mm_ → Prop) (Qtq : qt_), (∀ V : vv_, Cl_ wd0 (Tr_ wd0 pg0 (dq + 12)) V (rv_ fun M1 => rv_ Kv [] M1) Qtq m_302 → Wk_ V → V 149 [rr 6, ii (Mx 71 a), ii a, ii (vq_ Mq r), ii idx, ii e, ii (w + 1), none, none] [] Mq6) → Tr_ wd0 pg0 (dq + 14) 296 [.inr (.inr 6)] Mq (rv_ Kv) Qtq := by
    intro Kv Qtq hq
    refine pre _ _ fun V hV hW => j_244t hT hE (by decide) k1 h12 ?_
    rw [hQ6]
    have := hq V hV hW
    by_cases c : r = -1
    · rw [if_pos (vq0.mpr c)]
      rw [hw, if_pos c] at this; exact this
    · rw [if_neg (fun h => c (vq0.mp h)), q182, ← hwq c]
      exact ⟨by unfold vq_; rw [if_neg c]; (clear hn ho A5 haa hz hs5 h75 hidx pre hK hE hT e70 e71 hV9 hc hae k1 h12 k1' hSq hX6 m70 hQ6 hE6 A6 q182 hw x130 x132 hwr hq hV hW this; lia), this⟩
  have wants : Tr_ wd0 pg0 (9 * n + 14) 145 [.inr (.inr 1), .inl w] Mx6 (rv_ fun M3 => V 186 [rr 1, ii a, ii r, ii (8 * Mq 6 61 + r), ii (arr_ Mq r), ii idx] [] M3) Qt := by
    refine x_w (dq := dq) (w := w) (wq := w) hn ho hwr hwr.1 (fun _ => rfl) (AM_T A6) (AM_V A6) hE6 (AM_f A6) (fun hb => by rw [m70]; intro c; have := hS hb; rw [c] at this; exact this rfl) (fun Mx7 Mq7 a7 hW7 hS7 hq7 => ?_) (fun hb Mx' hx9 hq9 => ?_)
    rotate_left
    · refine hQ hb Mx' (XA_tr (XC_XA (AM_X A6)) (XF_XA hx9)) fun Kv Qtq hk9 => pre0 _ _ fun V hV hW => b_302_149 (Tr_mono _) hV hW _ _ _ _ _ _ _ (hq9 _ _ fun M' g1 g2 g3 g4 g5 => ?_)
      refine q_227s g1 ?_
      rw [if_neg (by decide)]
      exact rv_i (rv_i (hk9 _ ⟨g1, g2, g3, g4, QA_tr (QC_QA (AM_Q A6)) (QF_QA g5)⟩))
    have A7 := AM_w A6 hW7
    have hE7 := AM_E A7
    rw [m70] at hS7
    have q7 : ∀ i : Int, i = 61 ∨ i = 75 → Mq7 6 i = Mq6 6 i := fun i hi => hW7.2.2.1.2 i (by (clear hn ho A5 haa hz hs5 h75 hr hS hidx pre hV hW hK hQ hE hT e70 e71 h01 hV9 hT0 hv8 vq0 hc hae k1 h12 k1' hSq hX6 m70 hQ6 hE6 A6 q182 hw hvt x130 x132 hwr hwq pre0 hW7 hS7 hq7 A7 hE7; lia)) (by (clear hn ho A5 haa hz hs5 h75 hr hS hidx pre hV hW hK hQ hE hT e70 e71 h01 hV9 hT0 hv8 vq0 hc hae k1 h12 k1' hSq hX6 m70 hQ6 hE6 A6 q182 hw hvt x130 x132 hwr hwq pre0 hW7 hS7 hq7 A7 hE7; lia)) (by (clear hn ho A5 haa hz hs5 h75 hr hS hidx pre hV hW hK hQ hE hT e70 e71 h01 hV9 hT0 hv8 vq0 hc hae k1 h12 k1' hSq hX6 m70 hQ6 hE6 A6 q182 hw hvt x130 x132 hwr hwq pre0 hW7 hS7 hq7 A7 hE7; lia)) (by (clear hn ho A5 haa hz hs5 h75 hr hS hidx pre hV hW hK hQ hE hT e70 e71 h01 hV9 hT0 hv8 vq0 hc hae k1 h12 k1' hSq hX6 m70 hQ6 hE6 A6 q182 hw hvt x130 x132 hwr hwq pre0 hW7 hS7 hq7 A7 hE7; lia)) (by (clear hn ho A5 haa hz hs5 h75 hr hS hidx pre hV hW hK hQ hE hT e70 e71 h01 hV9 hT0 hv8 vq0 hc hae k1 h12 k1' hSq hX6 m70 hQ6 hE6 A6 q182 hw hvt x130 x132 hwr hwq pre0 hW7 hS7 hq7 A7 hE7; omega)) (by (clear hn ho A5 haa hz hs5 h75 hr hS hidx pre hV hW hK hQ hE hT e70 e71 h01 hV9 hT0 hv8 vq0 hc hae k1 h12 k1' hSq hX6 m70 hQ6 hE6 A6 q182 hw hvt x130 x132 hwr hwq pre0 hW7 hS7 hq7 A7 hE7; lia)) (by (clear hn ho A5 haa hz hs5 h75 hr hS hidx pre hV hW hK hQ hE hT e70 e71 h01 hV9 hT0 hv8 vq0 hc hae k1 h12 k1' hSq hX6 m70 hQ6 hE6 A6 q182 hw hvt x130 x132 hwr hwq pre0 hW7 hS7 hq7 A7 hE7; lia)) (by (clear hn ho A5 haa hz hs5 h75 hr hS hidx pre hV hW hK hQ hE hT e70 e71 h01 hV9 hT0 hv8 vq0 hc hae k1 h12 k1' hSq hX6 m70 hQ6 hE6 A6 q182 hw hvt x130 x132 hwr hwq pre0 hW7 hS7 hq7 A7 hE7; lia)) (by (clear hn ho A5 haa hz hs5 h75 hr hS hidx pre hV hW hK hQ hE hT e70 e71 h01 hV9 hT0 hv8 vq0 hc hae k1 h12 k1' hSq hX6 m70 hQ6 hE6 A6 q182 hw hvt x130 x132 hwr hwq pre0 hW7 hS7 hq7 A7 hE7; lia)) (by (clear hn ho A5 haa hz hs5 h75 hr hS hidx pre hV hW hK hQ hE hT e70 e71 h01 hV9 hT0 hv8 vq0 hc hae k1 h12 k1' hSq hX6 m70 hQ6 hE6 A6 q182 hw hvt x130 x132 hwr hwq pre0 hW7 hS7 hq7 A7 hE7; lia)) (by (clear hn ho A5 haa hz hs5 h75 hr hS hidx pre hV hW hK hQ hE hT e70 e71 h01 hV9 hT0 hv8 vq0 hc hae k1 h12 k1' hSq hX6 m70 hQ6 hE6 A6 q182 hw hvt x130 x132 hwr hwq pre0 hW7 hS7 hq7 A7 hE7; lia))
    have q675 : Mq6 6 75 = Mq 6 75 := by rw [← hQ6, nx_6 (by decide)]; exact h75
    have q775 : Mq7 6 75 = Mq 6 75 := by rw [q7 75 (.inr rfl)]; exact q675
    have a7g : a5 + 1 < a7 := hW7.1
    have pre9 : ∀ (Kv : mm_ → Prop) (Qtq : qt_), Tr_ wd0 pg0 (dq + 12) 244 [.inr (.inr 6), .inl 59] (up_ (up_ (up_ (em_ Mq7 1 (Mx 71 a)) 205 (Mq 6 75) (vq_ Mq r)) 206 (Mq 6 75) e) 207 (Mq 6 75) (Mq6 6 104)) (rv_ Kv) Qtq → Tr_ wd0 pg0 (dq + 14) 296 [.inr (.inr 6)] Mq (rv_ Kv) Qtq := by
      intro Kv Qtq hq
      refine pre0 _ _ fun V hV hW => b_302_149 (Tr_mono _) hV hW _ _ _ _ _ _ _ (hq7 _ _ ?_)
      refine q_227g (ER_goq hE7) ?_
      rw [if_pos rfl]
      refine q_266 (by (clear hn ho A5 haa hz hs5 h75 hr hi hS hidx pre hK hQ hE hT e70 e71 h01 hV9 hT0 hv8 vq0 hae k1 h12 k1' hSq hX6 m70 hQ6 hE6 A6 q182 hw hvt x130 x132 hwr hwq pre0 hW7 hS7 hq7 A7 hE7 q7 a7g hq hV hW; lia)) (by (clear hn ho A5 hz hs5 h75 hr hi hS hidx pre hK hQ hE hT e70 e71 h01 hV9 hT0 hv8 vq0 k1 k1' hSq hX6 m70 hQ6 hE6 A6 q182 hw hvt x130 x132 hwr hwq pre0 hW7 hS7 hq7 A7 hE7 q7 a7g hq hV hW; omega)) ?_
      rw [q775]
      exact ⟨by (clear hn ho A5 hz hs5 h75 hr hi hS hidx pre hK hQ hE hT e70 e71 h01 hV9 hT0 hv8 vq0 k1 k1' hSq hX6 m70 hQ6 hE6 A6 q182 hw hvt x130 x132 hwr hwq pre0 hW7 hS7 hq7 A7 hE7 q7 a7g hq hV hW; lia), by omega, by omega, Tr_rv (Tr_rv hq)⟩
    obtain ⟨c8, hc8⟩ : ∃ c8, c8 = if r = -1 then (0 : Int) else Mx 132 (8 * Mq 6 61 + r) := ⟨_, rfl⟩
    obtain ⟨g8, hg8⟩ : ∃ g8, g8 = if idx = 0 then (31 : Int) else 32 := ⟨_, rfl⟩
    have hp1 := PXL_1 (v := g8) hE7.2.2.2.2.2.2.1 h01 (PXL_0 (b := b) (M := Mx7))
    have hp := PXL_1 (v := c8) hE7.2.2.2.2.2.2.1 h01 hp1
    have A78 := AM_p A7 hp1 (by simp only [List.length_cons, List.length_nil]; (clear hn ho A5 haa hz h75 hr hi hS hidx pre hV hW hK hQ hE hT e70 e71 h01 hV9 hT0 hv8 vq0 hc hae k1 h12 k1' hSq hX6 m70 hQ6 hE6 A6 q182 hw hvt x130 x132 hwr hwq pre0 hW7 hS7 hq7 A7 hE7 q7 q675 q775 a7g pre9 hc8 hg8 hp1 hp; omega))
    have A8 := AM_p A7 hp (by simp only [List.length_cons, List.length_nil]; omega)
    have A9 := AM_up (r := 207) (v := Mq6 6 104) (AM_up (r := 206) (v := e) (AM_up (r := 205) (v := vq_ Mq r) (AM_em (w := 1) (p := Mx 71 a) A8 q775) (by decide) (rfl : Mq 6 75 = Mq 6 75)) (by decide) (rfl : Mq 6 75 = Mq 6 75)) (by decide) (rfl : Mq 6 75 = Mq 6 75)
    have fin : Tr_ wd0 pg0 (9 * n + 15) 121 [.inr (.inr 1), .inl 59] (pX_ (pX_ Mx7 g8) c8) (rv_ G) Qt := by
      refine y_end A9 (fun hb => by have := hS hb; rw [hS7, Option.bind_some] at this; exact this) pre9 (by omega) (by (clear hn ho A5 hz hs5 h75 hr hi hS hidx pre hV hW hK hQ hE hT e70 e71 h01 hV9 hT0 hv8 vq0 hc hae k1 h12 k1' hSq hX6 m70 hQ6 hE6 A6 q182 hw hvt x130 x132 hwr hwq pre0 hW7 hS7 hq7 A7 hE7 q7 q675 q775 pre9 hc8 hg8 hp1 hp A78 A8 A9; lia)) ?_ ?_ ?_ (fun hb h0 => ?_) (fun Mx' Mq' a' hA hs hq => hK Mx' Mq' a' hA (by rw [hSq, hS7, Option.bind_some]; exact hs) hq) hQ
      · rw [up_ne (by decide), up_ne (by decide), up_ne (by decide), em_75, q775]
      · simp only [List.length_cons, List.length_nil]; (clear hn ho A5 hz h75 hr hi hS hidx pre hV hW hK hQ hE hT e70 e71 h01 hV9 hT0 hv8 vq0 hc hae k1 h12 k1' hSq hX6 m70 hQ6 hE6 A6 q182 hw hvt x130 x132 hwr hwq pre0 hW7 hS7 hq7 A7 hE7 q7 q675 q775 pre9 hc8 hg8 hp1 hp A78 A8 A9; lia)
      · exact ⟨by rw [up_ne (by decide), up_ne (by decide), up_ne (by decide), ← q775, em_204], by rw [up_ne (by decide), up_ne (by decide), up_ne (by decide), ← q775, em_203], fun h => absurd h (by decide)⟩
      · have h13 : Mq7 6 13 = 0 := by rw [up_ne (by decide), up_ne (by decide), up_ne (by decide), em_6 (by decide)] at h0; exact h0
        obtain ⟨h613, t, ht, hx7⟩ := hW7.2.2.2.2.2.2.2.2.2 hb h13
        have h513 : Mq5 6 13 = 0 := by rw [← hQ6, nx_6 (by decide)] at h613; exact h613
        obtain ⟨hr0, hid⟩ := hidx hb h513
        have ev : vq_ Mq r = 8 * Mq 6 61 + r := by unfold vq_; rw [if_neg hr0]
        have hv := hvt hr0
        have ew : w = Mx 130 (8 * Mq 6 61 + r) := by rw [hw, if_neg hr0, x130]
        have ht1 : t = Mq 182 (vq_ Mq r) := by have := ht (by (clear hn ho A5 haa hz hs5 h75 hr hi hS hidx pre hV hW hK hQ hE hT e70 e71 h01 hV9 hT0 hv8 vq0 hc hae k1 h12 k1' hSq hX6 m70 hQ6 hE6 A6 q182 hvt x130 x132 hwr hwq pre0 hW7 hS7 hq7 A7 hE7 q7 q675 q775 a7g pre9 hc8 hg8 hp1 hp A78 A8 A9 hb h0 h13 h613 ht hx7 h513 hr0 hid ev; omega)); rw [ev]; (clear hn ho A5 haa hz hs5 h75 hr hi hS hidx pre hV hW hK hQ hE hT e70 e71 h01 hV9 hT0 hv8 vq0 hc hae k1 h12 k1' hSq hX6 m70 hQ6 hE6 A6 q182 hvt x130 x132 hwr hwq pre0 hW7 hS7 hq7 A7 hE7 q7 q675 q775 a7g pre9 hc8 hg8 hp1 hp A78 A8 A9 hb h0 h13 h613 ht hx7 h513 hr0 hid ev; omega)
        have hp4 := hp.2.2.2.1 hb
        obtain ⟨s1, s2, _⟩ := hp4.2
        have e653 : Mx6 5 3 = Mx5 5 3 := by rw [← hX6, nX_ne (by decide)]
        have e661 : Mq6 6 61 = Mq 6 61 := (AM_Q A6).2 61 (by decide)
        rw [e661, ht1] at hx7
        have ee := EXP_le hx7
        have tbq : tb_ Mq7 (up_ (up_ (up_ (em_ Mq7 1 (Mx 71 a)) 205 (Mq 6 75) (vq_ Mq r)) 206 (Mq 6 75) e) 207 (Mq 6 75) (Mq6 6 104)) := QC_tb (QC_tr (QC_tr (QC_tr em_QC (QC_ur (by decide) (by decide))) (QC_ur (by decide) (by decide))) (QC_ur (by decide) (by decide)))
        have tbm := tb_tr (QC_tb (AM_Q A7)) tbq
        have r227 : ∀ x : Nat, x = 227 ∨ x = 228 → up_ (up_ (up_ (em_ Mq7 1 (Mx 71 a)) 205 (Mq 6 75) (vq_ Mq r)) 206 (Mq 6 75) e) 207 (Mq 6 75) (Mq6 6 104) x = Mq7 x := fun x hx => by rw [up_ne (by (clear hn ho A5 haa hz hs5 h75 hr hi hS hidx pre hV hW hK hQ hE hT e70 e71 h01 hV9 hT0 hv8 vq0 hc hae k1 h12 k1' hSq hX6 m70 hQ6 hE6 A6 q182 hw hvt x130 x132 hwr hwq pre0 hW7 hS7 hq7 A7 hE7 q7 q675 q775 a7g pre9 hc8 hg8 hp1 hp A78 A8 A9 hb h0 h13 h613 ht hx7 h513 hr0 hid ev hv ew ht1 hp4 s1 s2 e653 e661 ee tbq tbm; lia)), up_ne (by (clear hn ho A5 haa hz hs5 h75 hr hi hS hidx pre hV hW hK hQ hE hT e70 e71 h01 hV9 hT0 hv8 vq0 hc hae k1 h12 k1' hSq hX6 m70 hQ6 hE6 A6 q182 hw hvt x130 x132 hwr hwq pre0 hW7 hS7 hq7 A7 hE7 q7 q675 q775 a7g pre9 hc8 hg8 hp1 hp A78 A8 A9 hb h0 h13 h613 ht hx7 h513 hr0 hid ev hv ew ht1 hp4 s1 s2 e653 e661 ee tbq tbm; lia)), up_ne (by (clear hn ho A5 haa hz hs5 h75 hr hi hS hidx pre hV hW hK hQ hE hT e70 e71 h01 hV9 hT0 hv8 vq0 hc hae k1 h12 k1' hSq hX6 m70 hQ6 hE6 A6 q182 hw hvt x130 x132 hwr hwq pre0 hW7 hS7 hq7 A7 hE7 q7 q675 q775 a7g pre9 hc8 hg8 hp1 hp A78 A8 A9 hb h0 h13 h613 ht hx7 h513 hr0 hid ev hv ew ht1 hp4 s1 s2 e653 e661 ee tbq tbm; lia)), em_r (.inr (by (clear hn ho A5 haa hz hs5 h75 hr hi hS hidx pre hV hW hK hQ hE hT e70 e71 h01 hV9 hT0 hv8 vq0 hc hae k1 h12 k1' hSq hX6 m70 hQ6 hE6 A6 q182 hw hvt x130 x132 hwr hwq pre0 hW7 hS7 hq7 A7 hE7 q7 q675 q775 a7g pre9 hc8 hg8 hp1 hp A78 A8 A9 hb h0 h13 h613 ht hx7 h513 hr0 hid ev hv ew ht1 hp4 s1 s2 e653 e661 ee tbq tbm; omega))) (by (clear hn ho A5 haa hz hs5 h75 hr hi hS hidx pre hV hW hK hQ hE hT e70 e71 h01 hV9 hT0 hv8 vq0 hc hae k1 h12 k1' hSq hX6 m70 hQ6 hE6 A6 q182 hw hvt x130 x132 hwr hwq pre0 hW7 hS7 hq7 A7 hE7 q7 q675 q775 a7g pre9 hc8 hg8 hp1 hp A78 A8 A9 hb h0 h13 h613 ht hx7 h513 hr0 hid ev hv ew ht1 hp4 s1 s2 e653 e661 ee tbq tbm; lia))]
        have r104 : up_ (up_ (up_ (em_ Mq7 1 (Mx 71 a)) 205 (Mq 6 75) (vq_ Mq r)) 206 (Mq 6 75) e) 207 (Mq 6 75) (Mq6 6 104) 6 104 = Mq7 6 104 := by rw [up_ne (by decide), up_ne (by decide), up_ne (by decide), em_6 (by decide)]
        have v205 : up_ (up_ (up_ (em_ Mq7 1 (Mx 71 a)) 205 (Mq 6 75) (vq_ Mq r)) 206 (Mq 6 75) e) 207 (Mq 6 75) (Mq6 6 104) 205 (Mq 6 75) = vq_ Mq r := by rw [up_ne (by decide), up_ne (by decide), up_at]
        have v206 : up_ (up_ (up_ (em_ Mq7 1 (Mx 71 a)) 205 (Mq 6 75) (vq_ Mq r)) 206 (Mq 6 75) e) 207 (Mq 6 75) (Mq6 6 104) 206 (Mq 6 75) = e := by rw [up_ne (by decide), up_at]
        have v207 : up_ (up_ (up_ (em_ Mq7 1 (Mx 71 a)) 205 (Mq 6 75) (vq_ Mq r)) 206 (Mq 6 75) e) 207 (Mq 6 75) (Mq6 6 104) 207 (Mq 6 75) = Mq6 6 104 := by rw [up_at]
        have v203 : up_ (up_ (up_ (em_ Mq7 1 (Mx 71 a)) 205 (Mq 6 75) (vq_ Mq r)) 206 (Mq 6 75) e) 207 (Mq 6 75) (Mq6 6 104) 203 (Mq 6 75) = 1 := by rw [up_ne (by decide), up_ne (by decide), up_ne (by decide), ← q775, em_203]
        have ec8 : c8 = Mq 184 (vq_ Mq r) := by rw [hc8, if_neg hr0, ev]; exact hv.2.1
        have E7 : EXP (pX_ (pX_ Mx7 g8) c8) (up_ (up_ (up_ (em_ Mq7 1 (Mx 71 a)) 205 (Mq 6 75) (vq_ Mq r)) 206 (Mq 6 75) e) 207 (Mq 6 75) (Mq6 6 104)) (Mq 6 61) (Mx6 5 3) (Mx7 5 3) (Mq6 6 104) (Mq7 6 104) (Mq 182 (vq_ Mq r)) := EXP_c hx7 (fun i x y => hp.2.2.2.2.1 i (by omega)) (fun i x y => by rw [r227 227 (.inl rfl), r227 228 (.inr rfl)]; exact ⟨rfl, rfl⟩) tbq (by (clear hn ho A5 haa hz hs5 h75 hr hi hS hidx pre hV hW hK hQ hE hT e70 e71 h01 hV9 hT0 hv8 vq0 hc hae k1 h12 k1' hSq hX6 m70 hQ6 hE6 A6 q182 hw hvt x130 x132 hwr hwq pre0 hW7 hS7 hq7 A7 hE7 q7 q675 q775 a7g pre9 hc8 hg8 hp1 hp A78 A8 A9 hb h0 h13 h613 ht hx7 h513 hr0 hid ev hv ew ht1 hp4 s1 s2 e653 e661 ee tbq tbm r227 r104 v205 v206 v207 v203 ec8; lia))
        unfold OPC
        rw [v203, v205, v206, v207, r104, tbm.1, tbm.2.2.1, tbm.2.2.2.1, tbm.2.2.2.2]
        refine .inl ⟨rfl, ⟨by (clear hn ho A5 haa hz hs5 h75 hidx pre hV hW hK hE hT e70 e71 hV9 hT0 hv8 hc hae k1 h12 k1' hSq hX6 m70 hQ6 hE6 A6 q182 x130 x132 hwr pre0 hW7 hS7 hq7 A7 hE7 q7 q675 q775 a7g pre9 hc8 hg8 hp1 hp A78 A8 A9 h0 h13 h613 hx7 h513 ht1 hp4 s1 s2 e653 ee tbq tbm r227 r104 v206 v207 v203 ec8 E7; lia), by (clear hn ho A5 haa hz hs5 h75 hidx pre hV hW hK hE hT e70 e71 hV9 hT0 hv8 hc hae k1 h12 k1' hSq hX6 m70 hQ6 hE6 A6 q182 x130 x132 hwr pre0 hW7 hS7 hq7 A7 hE7 q7 q675 q775 a7g pre9 hc8 hg8 hp1 hp A78 A8 A9 h0 h13 h613 hx7 h513 ht1 hp4 s1 s2 e653 ee tbq tbm r227 r104 v206 v207 v203 ec8 E7; lia)⟩, Mx7 5 3, ?_, ?_, ?_⟩
        · rw [← ec8]; exact s1
        · rw [hp4.1]; rfl
        · rcases hid with ⟨i1, i2, i3, i4⟩ | ⟨i1, i2, c0, i3, i4, i5, i6⟩
          · left
            rw [ev]
            refine ⟨i2, i3, ?_, ?_⟩
            · rw [← i4, ← e653, ← ev]; exact E7
            · have e8 : g8 = 31 := by rw [hg8, if_pos i1]
              have s3 : pX_ (pX_ Mx7 g8) c8 142 (Mx7 5 3) = g8 := by simpa using s2
              rw [s3, e8]
          · right
            have i3e := EXP_le i3
            have keep : ∀ i, 0 ≤ i → i < Mx5 5 3 → pX_ (pX_ Mx7 g8) c8 142 i = Mx5 142 i := fun i x y => by
              rw [hp.2.2.2.2.1 i (by have := hW7.2.2.2.2.2.2.1.1; (clear hn ho A5 haa hz hs5 h75 hr hi hS hidx pre hV hW hK hQ hE hT e70 e71 h01 hV9 hT0 hv8 vq0 hc hae k1 h12 k1' hSq hX6 m70 hQ6 hE6 A6 q182 hw hvt x130 x132 hwr hwq pre0 hW7 hS7 hq7 A7 hE7 q7 q675 q775 a7g pre9 hc8 hg8 hp1 hp A78 A8 A9 hb h0 h13 h613 ht hx7 h513 hr0 ev hv ew ht1 hp4 s1 s2 e661 tbq tbm r227 r104 v205 v206 v207 v203 ec8 E7 i1 i2 i3 i4 i5 i3e x this; lia)), hW7.2.2.2.2.2.2.2.1 i x (by (clear hn ho A5 haa hz hs5 h75 hr hi hS hidx pre hV hW hK hQ hE hT e70 e71 h01 hV9 hT0 hv8 vq0 hc hae k1 h12 k1' hSq hX6 m70 hQ6 hE6 A6 q182 hw hvt x130 x132 hwr hwq pre0 hW7 hS7 hq7 A7 hE7 q7 q675 q775 a7g pre9 hc8 hg8 hp1 hp A78 A8 A9 hb h0 h13 h613 ht hx7 h513 hr0 ev hv ew ht1 hp4 s1 s2 e661 ee tbq tbm r227 r104 v205 v206 v207 v203 ec8 E7 i1 i2 i3 i4 i5 i3e x; lia)), ← hX6, nX_ne (by decide)]
            have h530 : 0 ≤ Mx 5 3 := (ER_st A5.1.2.2.1).1
            have q6t : ∀ x : Nat, x = 227 ∨ x = 228 → Mq6 x = Mq5 x := fun x hx => by rw [← hQ6, nx_ne (by (clear hn ho A5 haa hz hs5 h75 hr hi hS hidx pre hV hW hK hQ hE hT e70 e71 h01 hV9 hT0 hv8 vq0 hc hae k1 h12 k1' hSq hX6 m70 hQ6 hE6 A6 q182 hw hvt x130 x132 hwr hwq pre0 hW7 hS7 hq7 A7 hE7 q7 q675 q775 a7g pre9 hc8 hg8 hp1 hp A78 A8 A9 hb h0 h13 h613 ht hx7 h513 hr0 ev hv ew ht1 hp4 s1 s2 e653 e661 ee tbq tbm r227 r104 v205 v206 v207 v203 ec8 E7 i1 i2 i3 i4 i5 i6 i3e keep h530; lia))]
            have q6104 : Mq6 6 104 = Mq5 6 104 := by rw [← hQ6, nx_6 (by decide)]
            refine ⟨c0, by rw [ev]; exact i2, ?_, ?_, ?_, ?_, ?_⟩
            · refine EXP_c i3 (fun i x y => keep i (by (clear hn ho A5 haa hz hs5 h75 hr hi hS hidx pre hV hW hK hQ hE hT e70 e71 h01 hV9 hT0 hv8 vq0 hc hae k1 h12 k1' hSq hX6 m70 hQ6 hE6 A6 q182 hw hvt x130 x132 hwr hwq pre0 hW7 hS7 hq7 A7 hE7 q7 q675 q775 a7g pre9 hc8 hg8 hp1 hp A78 A8 A9 hb h0 h13 h613 ht hx7 h513 hr0 ev hv ew ht1 hp4 s1 s2 e653 e661 ee tbq tbm r227 r104 v205 v206 v207 v203 ec8 E7 i1 i2 i3 i4 i5 i6 i3e keep q6t q6104 y; lia)) (by (clear hn ho A5 haa hz hs5 h75 hr hi hS hidx pre hV hW hK hQ hE hT e70 e71 h01 hV9 hT0 hv8 vq0 hc hae k1 h12 k1' hSq hX6 m70 hQ6 hE6 A6 q182 hw hvt x130 x132 hwr hwq pre0 hW7 hS7 hq7 A7 hE7 q7 q675 q775 a7g pre9 hc8 hg8 hp1 hp A78 A8 A9 hb h0 h13 h613 ht hx7 h513 hr0 ev hv ew ht1 hp4 s1 s2 e653 e661 ee tbq tbm r227 r104 v205 v206 v207 v203 ec8 E7 i1 i2 i3 i4 i5 i3e keep h530 q6t q6104 x; omega))) (fun i x y => ?_) ?_ ?_
              · rw [r227 227 (.inl rfl), r227 228 (.inr rfl)]
                have := hW7.2.2.2.2.2.1 i (by (clear hn ho A5 haa hz hs5 h75 hr hi hS hidx pre hV hW hK hQ hE hT e70 e71 h01 hV9 hT0 hv8 vq0 hc hae k1 h12 k1' hSq hX6 m70 hQ6 hE6 A6 q182 hw hvt x130 x132 hwr hwq pre0 hW7 hS7 hq7 A7 hE7 q7 q675 q775 a7g pre9 hc8 hg8 hp1 hp A78 A8 A9 hb h0 h13 h613 ht hx7 h513 hr0 ev hv ew ht1 hp4 s1 s2 e653 e661 ee tbq tbm r227 r104 v205 v206 v207 v203 ec8 E7 i1 i2 i3 i4 i5 i6 keep h530 q6t q6104 y; lia)) (by (clear hn ho A5 haa hz hs5 h75 hr hi hS hidx pre hV hW hK hQ hE hT e70 e71 h01 hV9 hT0 hv8 vq0 hc hae k1 h12 k1' hSq hX6 m70 hQ6 hE6 A6 q182 hw hvt x130 x132 hwr hwq pre0 hW7 hS7 hq7 A7 hE7 q7 q675 q775 a7g pre9 hc8 hg8 hp1 hp A78 A8 A9 hb h0 h13 h613 ht hx7 h513 hr0 ev hv ew ht1 hp4 s1 s2 e653 e661 ee tbq tbm r227 r104 v205 v206 v203 ec8 E7 i1 i2 i3 i4 i5 i6 i3e keep h530 q6t x; omega))
                rw [this.1, this.2, q6t 227 (.inl rfl), q6t 228 (.inr rfl)]
                exact ⟨rfl, rfl⟩
              · have t5 : tb_ Mq5 Mq7 := by
                  have t1 := QC_tb (AM_Q A5)
                  have t2 := QC_tb (AM_Q A7)
                  exact ⟨t2.1.trans t1.1.symm, t2.2.1.trans t1.2.1.symm, t2.2.2.1.trans t1.2.2.1.symm, t2.2.2.2.1.trans t1.2.2.2.1.symm, t2.2.2.2.2.trans t1.2.2.2.2.symm⟩
                exact tb_tr t5 tbq
              · have := hW7.2.2.2.2.1.1; (clear hn ho A5 haa hz hs5 h75 hr hi hS hidx pre hV hW hK hQ hE hT e70 e71 h01 hV9 hT0 hv8 vq0 hc hae k1 h12 k1' hSq hX6 m70 hQ6 hE6 A6 q182 hw hvt x130 x132 hwr hwq pre0 hW7 hS7 hq7 A7 hE7 q7 q675 q775 a7g pre9 hc8 hg8 hp1 hp A78 A8 A9 hb h0 h13 h613 ht hx7 h513 hr0 ev hv ew ht1 hp4 s1 s2 e653 e661 tbq tbm r227 v205 v206 v203 ec8 E7 i1 i2 i3 i4 i5 i6 i3e keep h530 q6t this; lia)
            · rw [keep c0 (by (clear hn ho A5 haa hz hs5 h75 hr hi hS hidx pre hV hW hK hQ hE hT e70 e71 h01 hV9 hT0 hv8 vq0 hc hae k1 h12 k1' hSq hX6 m70 hQ6 hE6 A6 q182 hw hvt x130 x132 hwr hwq pre0 hW7 hS7 hq7 A7 hE7 q7 q675 q775 a7g pre9 hc8 hg8 hp1 hp A78 A8 A9 hb h0 h13 h613 ht hx7 h513 hr0 ev hv ew ht1 hp4 s1 s2 e653 e661 ee tbq tbm r227 r104 v205 v206 v207 v203 ec8 E7 i1 i2 i3 i4 i5 i6 keep q6t q6104; omega)) (by (clear hn ho A5 haa hz hs5 h75 hr hi hS hidx pre hV hW hK hQ hE hT e70 e71 h01 hV9 hT0 hv8 vq0 hc hae k1 h12 k1' hSq hX6 m70 hQ6 hE6 A6 q182 hw hvt x130 x132 hwr hwq pre0 hW7 hS7 hq7 A7 hE7 q7 q675 q775 a7g pre9 hc8 hg8 hp1 hp A78 A8 A9 hb h0 h13 h613 ht hx7 h513 hr0 ev hv ew ht1 hp4 s1 s2 e653 e661 ee tbq tbm r227 r104 v205 v206 v207 v203 ec8 E7 i1 i2 i3 i4 i5 i3e keep h530 q6t q6104; omega))]; exact i4
            · rw [keep (c0 + 1) (by (clear hn ho A5 haa hz hs5 h75 hr hi hS hidx pre hV hW hK hQ hE hT e70 e71 h01 hV9 hT0 hv8 vq0 hc hae k1 h12 k1' hSq hX6 m70 hQ6 hE6 A6 q182 hw hvt x130 x132 hwr hwq pre0 hW7 hS7 hq7 A7 hE7 q7 q675 q775 a7g pre9 hc8 hg8 hp1 hp A78 A8 A9 hb h0 h13 h613 ht hx7 h513 hr0 ev hv ew ht1 hp4 s1 s2 e653 e661 ee tbq tbm r227 r104 v205 v206 v207 v203 ec8 E7 i1 i2 i3 i4 i5 i6 keep q6t q6104; omega)) (by (clear hn ho A5 haa hz hs5 h75 hr hi hS hidx pre hV hW hK hQ hE hT e70 e71 h01 hV9 hT0 hv8 vq0 hc hae k1 h12 k1' hSq hX6 m70 hQ6 hE6 A6 q182 hw hvt x130 x132 hwr hwq pre0 hW7 hS7 hq7 A7 hE7 q7 q675 q775 a7g pre9 hc8 hg8 hp1 hp A78 A8 A9 hb h0 h13 h613 ht hx7 h513 hr0 ev hv ew ht1 hp4 s1 s2 e653 e661 ee tbq tbm r227 r104 v205 v206 v207 v203 ec8 E7 i1 i2 i3 i4 i5 i3e keep h530 q6t q6104; omega)), ev]; exact i5
            · rw [show c0 + 2 = Mx6 5 3 by (clear hn ho A5 haa hz hs5 h75 hr hi hS hidx pre hV hW hK hQ hE hT e70 e71 h01 hV9 hT0 hv8 vq0 hc hae k1 h12 k1' hSq hX6 m70 hQ6 hE6 A6 q182 hw hvt x130 x132 hwr hwq pre0 hW7 hS7 hq7 A7 hE7 q7 q675 q775 a7g pre9 hc8 hg8 hp1 hp A78 A8 A9 hb h0 h13 h613 ht hx7 h513 hr0 ev hv ew ht1 hp4 s1 s2 e661 ee tbq tbm r227 r104 v205 v206 v207 v203 ec8 E7 i1 i2 i3 i4 i5 i3e keep h530 q6t q6104; omega)]; exact E7
            · have e8 : g8 = 32 := by rw [hg8, if_neg (by (clear hn ho A5 haa hz hs5 h75 hr hi hS hidx pre hV hW hK hQ hE hT e70 e71 h01 hV9 hT0 hv8 vq0 hc hae k1 h12 k1' hSq hX6 m70 hQ6 hE6 A6 q182 hw hvt x130 x132 hwr hwq pre0 hW7 hS7 hq7 A7 hE7 q7 q675 q775 a7g pre9 hc8 hg8 hp1 hp A78 A8 A9 hb h0 h13 h613 ht hx7 h513 hr0 ev hv ew ht1 hp4 s1 s2 e653 e661 ee tbq tbm r227 r104 v205 v206 v207 v203 ec8 E7 i2 i3 i4 i5 i6 i3e keep h530 q6t q6104; lia))]
              have s3 : pX_ (pX_ Mx7 g8) c8 142 (Mx7 5 3) = g8 := by simpa using s2
              rw [s3, e8]
    refine b_144_186 (Tr_mono _) hV hW a r (8 * Mq 6 61 + r) (arr_ Mq r) idx Mx7 ?_
    have x132' : pX_ Mx7 g8 132 = Mx 132 := (AM_X A78).1 132 (by decide)
    have h12' : pX_ Mx7 g8 1 2 = 5 := (AM_V A78).1
    have last : (if r = (-1) then Tr_ wd0 pg0 (9 * n + 14) 138 [.inr (.inr 1), .inl 0] (pX_ Mx7 g8) (rv_ fun M3 => (rv_ fun M12 => Tr_ wd0 pg0 (9 * n + 15) 121 [.inr (.inr 1), .inl 59] M12 (rv_ G) Qt) [] M3) Qt else pX_ Mx7 g8 1 2 = 5 ∧ (0 ≤ 8 * Mq 6 61 + r ∧ 8 * Mq 6 61 + r < 48) ∧ Tr_ wd0 pg0 (9 * n + 14) 138 [.inr (.inr 1), .inl (pX_ Mx7 g8 132 (8 * Mq 6 61 + r))] (pX_ Mx7 g8) (rv_ fun M2 => (rv_ fun M12 => Tr_ wd0 pg0 (9 * n + 15) 121 [.inr (.inr 1), .inl 59] M12 (rv_ G) Qt) [] M2) Qt) := by
      by_cases c : r = -1
      · rw [if_pos c]
        rw [if_pos c] at hc8
        refine x_138 h12' (ER_st (AM_E A78)).1 (ER_st (AM_E A78)).2 ?_
        rw [← hc8]; exact rv_i fin
      · rw [if_neg c]
        rw [if_neg c] at hc8
        refine ⟨h12', by (clear hn ho A5 haa hz hs5 h75 hidx pre hV hW hK hE hT e70 e71 hV9 hc hae k1 h12 k1' hSq hX6 m70 hQ6 hE6 A6 q182 hw x130 x132 hwr pre0 hW7 hS7 hq7 A7 hE7 q7 q675 q775 a7g pre9 hc8 hg8 hp1 hp A78 A8 A9 fin x132' h12'; lia), x_138 h12' (ER_st (AM_E A78)).1 (ER_st (AM_E A78)).2 ?_⟩
        rw [x132', ← hc8]; exact rv_i fin
    rcases hi with hi | hi
    · rw [if_pos hi]
      rw [if_pos hi] at hg8
      refine x_138 (AM_V A7).1 (ER_st hE7).1 (ER_st hE7).2 ?_
      rw [← hg8]; exact last
    · rw [if_neg (by (clear hn ho A5 haa hz hs5 h75 hr hS hidx pre hV hW hK hQ hE hT e70 e71 h01 hV9 hT0 hv8 vq0 hc hae k1 h12 k1' hSq hX6 m70 hQ6 hE6 A6 q182 hw hvt x130 x132 hwr hwq pre0 hW7 hS7 hq7 A7 hE7 q7 q675 q775 a7g pre9 hc8 hg8 hp1 hp A78 A8 A9 fin x132' h12' last; lia))]
      rw [if_neg (by omega)] at hg8
      refine x_138 (AM_V A7).1 (ER_st hE7).1 (ER_st hE7).2 ?_
      rw [← hg8]; exact last
  by_cases c : r = -1
  · rw [if_pos c]
    rw [if_pos c] at hw
    rw [hw] at wants
    exact wants
  · rw [if_neg c]
    rw [if_neg c] at hw
    rw [hw] at wants
    exact ⟨(AM_V A6).1, by (clear hn ho A5 haa hz hs5 h75 hidx pre hV hW hK hE hT e70 e71 hV9 hc hae k1 h12 k1' hSq hX6 m70 hQ6 hE6 A6 q182 hw x130 x132 hwr pre0 wants; lia), wants⟩
end AG
end T106_ag
section T107_ag
/-! gets: whole -/
section AG
variable {d dq n : Nat} {b F : Int} {Mx Mq Mx1 Mq1 Mx2 Mq2 M : mm_} {a a1 o o1 s z : Int} {K : Int → mm_ → Prop} {Kv G : mm_ → Prop} {Qt : qt_} {V : vv_} {r idx e : Int} {dec : Int → Option Int}
theorem AM_o [Inhabited gh_] {o2 : Int} (h : AM b F Mx Mq Mx1 Mq1 a a1 o1 s z) (h0 : 0 ≤ o2 ∧ o2 ≤ 12) : AM b F Mx Mq (up_ Mx1 1 6 o2) (up_ Mq1 6 15 o2) a a1 o2 s z := by
  obtain ⟨h1, h2, h3, h4, h5, h6, h7, h8, h9, h10, h11, h12, h13⟩ := h
  refine ⟨h1, h2, XC_tr h3 (XC_u1 (by decide)), QC_tr h4 (QC_u6 (by decide)), ER_o h5 h0, by rw [up_off (by decide)]; exact h6, fun i x y => by rw [up_ne (by decide), up_ne (by decide)]; exact h7 i x y, by rw [up_ne (by decide)]; exact h8, fun i x y => by rw [up_ne (by decide)]; exact h9 i x y, fun r i hr x y => ?_, fun i x y => by rw [up_ne (by decide)]; exact h11 i x y, by rw [up_off (by decide)]; exact h12, by rw [up_off (by decide)]; exact h13⟩
  rw [up_ne (fun e => absurd hr (by rw [e]; decide))]; exact h10 r i hr x y
/-- a bracket: X's opens and goes, Q's openSign -/
theorem y_118 [Inhabited gh_] (hE : ER b F Mx Mq a o) (hS : b = 1 → o ≠ 12) (hg : o < 12 → ER b F (up_ Mx 1 6 (o + 1)) (up_ Mq 6 15 (o + 1)) a (o + 1) → Kv (up_ Mx 1 6 (o + 1))) (hr : b = 0 → o = 12 → Qt 8 (flX_ Mx 2 a)) : Tr_ wd0 pg0 (d + 2) 118 [.inr (.inr 1)] Mx (rv_ Kv) Qt := by
  have e6 := hE.2.2.2.1
  have ho := hE.2.2.2.2.2.1
  have hb := hE.2.2.2.2.2.2.2.2.1
  refine x_118 (ER_iX hE) (by omega) (by omega) (fun h => ?_) (fun h => ?_)
  · rw [e6]; exact hg (by omega) (ER_o hE (by omega))
  · rw [hE.2.1]
    rcases hb with hb | hb
    · exact hr hb (by (clear hE hS hg hr ho hb; lia))
    · exact absurd (by omega) (hS hb)
theorem j_239t [Inhabited gh_] {x : Int} (hT : Tks Mx Mq) (hE : ER b F Mx Mq a o) (hx : 37 ≤ x ∧ x ≤ 93 ∨ 256 ≤ x ∧ x ≤ 261) (hk : Mx 70 a = skk_ x) (h12 : a < 1200) (ho : o < 12) (h : Kv (nx_ (up_ Mq 6 15 (o + 1)))) : Tr_ wd0 pg0 (d + 3) 239 [.inr (.inr 6), .inl x] Mq (rv_ Kv) Qt := by
  obtain ⟨e1, e2, e3, e4, e5, e6⟩ := ER_k hT hE
  have := (kq_s e1 hx).mpr hk
  have e15 := hE.2.2.2.2.1
  exact q_239g (ER_goq hE) e4 (e5 h12) this.1 this.2 (by have := hE.2.2.2.2.2.1; (clear hT hE hx hk h12 h e1 e2 e3 e4 e5 e6; omega)) (by (clear hT hE hx hk h12 h e1 e2 e3 e4 e5 e6 this; omega)) (by rw [e15]; exact h)
theorem j_239o [Inhabited gh_] {x : Int} (hT : Tks Mx Mq) (hE : ER b F Mx Mq a o) (hb : b = 0) (hx : 37 ≤ x ∧ x ≤ 93 ∨ 256 ≤ x ∧ x ≤ 261) (hk : Mx 70 a = skk_ x) (ho : o = 12) (h : Kv (bf_ (up_ Mq 6 15 13) 2 (Mx 71 a))) : Tr_ wd0 pg0 (d + 3) 239 [.inr (.inr 6), .inl x] Mq (rv_ Kv) Qt := by
  obtain ⟨e1, e2, e3, e4, e5, e6⟩ := ER_k hT hE
  have := (kq_s e1 hx).mpr hk
  have e15 := hE.2.2.2.2.1
  exact q_239o (ER_ok hE hb) e3 this.1 this.2 (by (clear hT hE hb hx hk h e1 e2 e3 e4 e5 e6 this; lia)) (by rw [e2]; exact h)
theorem j_239r [Inhabited gh_] {x : Int} (hT : Tks Mx Mq) (hE : ER b F Mx Mq a o) (hb : b = 0) (hx : 37 ≤ x ∧ x ≤ 93 ∨ 256 ≤ x ∧ x ≤ 261) (hk : Mx 70 a = skk_ x) (h12 : a = 1200) (ho : o < 12) (h : Kv (bf_ (up_ Mq 6 15 (o + 1)) 2 (Mx 71 a))) : Tr_ wd0 pg0 (d + 3) 239 [.inr (.inr 6), .inl x] Mq (rv_ Kv) Qt := by
  obtain ⟨e1, e2, e3, e4, e5, e6⟩ := ER_k hT hE
  have := (kq_s e1 hx).mpr hk
  have e15 := hE.2.2.2.2.1
  exact q_239r (ER_ok hE hb) (e6 h12) this.1 this.2 (by have := hE.2.2.2.2.2.1; (clear hT hE hb hx hk h12 h e1 e2 e3 e4 e5 e6; lia)) (by (clear hT hE hb hx hk h12 h e1 e2 e3 e4 e5 e6 this; omega)) (by rw [e2, e15]; exact h)
theorem SQ_o [Inhabited gh_] (hE : ER b F Mx Mq a o) (hb : b = 0) (hq : QA M Mq) : SQ (flX_ Mx 2 a) M (bf_ (up_ Mq 6 15 13) 2 (Mx 71 a)) := by
  have h16 : Mq 6 16 = 0 := by rw [hE.2.2.2.2.2.2.2.1]; exact hb
  have := ER_a hE
  exact ⟨bf_sp (by rw [up_off (by decide)]; exact h16) (by decide), by unfold in9_; rw [bf_6 (by decide) (by decide), up_off (by decide), hE.2.2.1]; omega, by rw [bf_13, fl_4], ⟨by rw [bf_14, fl_5], fl_b7 hE⟩, QA_tr hq (QA_tr (QA_u6 (by decide)) (QF_QA bf_QF))⟩
theorem j_243t [Inhabited gh_] {x : Int} (hT : Tks Mx Mq) (hE : ER b F Mx Mq a o) (hx : 37 ≤ x ∧ x ≤ 93 ∨ 256 ≤ x ∧ x ≤ 261) (hk : Mx 70 a = skk_ x) (h12 : a < 1200) (ho : 0 < o) (h : Kv (up_ (nx_ Mq) 6 15 (o - 1))) : Tr_ wd0 pg0 (d + 4) 243 [.inr (.inr 6), .inl x] Mq (rv_ Kv) Qt := by
  obtain ⟨e1, e2, e3, e4, e5, e6⟩ := ER_k hT hE
  have := (kq_s e1 hx).mpr hk
  have e15 := hE.2.2.2.2.1
  exact q_243g (ER_goq hE) e4 (e5 h12) this.1 this.2 (by (clear hT hE hx hk h12 h e1 e2 e3 e4 e5 e6 this; omega)) (by have := hE.2.2.2.2.2.1; (clear hT hE hx hk h12 h e1 e2 e3 e4 e5 e6; omega)) (by rw [e15]; exact h)
theorem j_243r [Inhabited gh_] {x : Int} (hT : Tks Mx Mq) (hE : ER b F Mx Mq a o) (hb : b = 0) (hx : 37 ≤ x ∧ x ≤ 93 ∨ 256 ≤ x ∧ x ≤ 261) (hk : Mx 70 a = skk_ x) (h12 : a = 1200) (h : Kv (bf_ Mq 2 (Mx 71 a))) : Tr_ wd0 pg0 (d + 4) 243 [.inr (.inr 6), .inl x] Mq (rv_ Kv) Qt := by
  obtain ⟨e1, e2, e3, e4, e5, e6⟩ := ER_k hT hE
  have := (kq_s e1 hx).mpr hk
  exact q_243r (ER_ok hE hb) (e6 h12) this.1 this.2 (by rw [e2]; exact h)
theorem j_243w [Inhabited gh_] {x : Int} (hT : Tks Mx Mq) (hE : ER b F Mx Mq a o) (hb : b = 0) (hx : 37 ≤ x ∧ x ≤ 93 ∨ 256 ≤ x ∧ x ≤ 261) (hk : Mx 70 a ≠ skk_ x) (h : Kv (bf_ Mq 1 (Mx 71 a))) : Tr_ wd0 pg0 (d + 4) 243 [.inr (.inr 6), .inl x] Mq (rv_ Kv) Qt := by
  obtain ⟨e1, e2, e3, e4, e5, e6⟩ := ER_k hT hE
  exact q_243w (ER_ok hE hb) e3 (fun c => hk ((kq_s e1 hx).mp c)) (by rw [e2]; exact h)
/-- Q's assign, once stopped, from the index on -/
theorem q_302s1 [Inhabited gh_] {p v x2 : Int} (hV : Cl_ wd0 (Tr_ wd0 pg0 (d + 4)) V (rv_ fun M1 => rv_ Kv [] M1) Qt m_302) (hW : Wk_ V) {x4 x5 : Int} (hv : 0 ≤ v → v < 48) (hs : sp_ M) (h : Kv M) : Tr_ wd0 pg0 (d + 4) 244 [.inr (.inr 6), .inl 256] M (rv_ fun M5 => (if v < 0 then V 149 [rr 6, ii p, ii x2, ii v, ii x4, ii x5, ii 0, none, none] [] M5 else (0 ≤ v ∧ v < 48) ∧ V 149 [rr 6, ii p, ii x2, ii v, ii x4, ii x5, ii (M5 182 v), none, none] [] M5)) Qt := by
  refine q_244s hs ?_
  by_cases c : v < 0
  · rw [if_pos c]; exact q_302st hV hW hs h
  · rw [if_neg c]; exact ⟨⟨by omega, hv (by omega)⟩, q_302st hV hW hs h⟩
end AG
end T107_ag
section T108_ag
/-! gets: whole -/
section AG
variable {d dq n : Nat} {b F : Int} {Mx Mq Mx1 Mq1 Mx2 Mq2 M : mm_} {a a1 o o1 s z : Int} {K : Int → mm_ → Prop} {Kv G : mm_ → Prop} {Qt : qt_} {V : vv_} {r idx e : Int} {dec : Int → Option Int}
/-- the index -/
theorem l_144b [Inhabited gh_] (hn : n ≤ 12) (ho : o = 12 - (n : Int)) (A2 : AM b F Mx Mq Mx2 Mq2 a (a + 1) o s z) (hz : 0 ≤ z) (hs2 : s ≤ 0) (h75 : Mq2 6 75 = Mq 6 75) (h53 : Mx2 5 3 = Mx 5 3) (h104 : Mq2 6 104 = Mq 6 104)
    (hr : r = -1 ∨ (0 ≤ r ∧ r < Mq 171 (Mq 6 61))) (k0 : Mx 70 (a + 1) = 291)
    (hS : b = 1 → o ≠ 12 ∧ ((gS (a + 1)).bind fun a2 => (ES (Mx 70) 0 (o + 1) a2).bind fun a3 => (tS (Mx 70) 293 a3).bind fun a4 => (tS (Mx 70) 110 a4).bind fun a6 => (ES (Mx 70) 0 o a6).bind (tS (Mx 70) 259)) ≠ none)
    (hidx : b = 1 → Mq2 6 13 = 0 → r ≠ -1 ∧ arr_ Mq r = 1)
    (pre : ∀ (Kv : mm_ → Prop) (Qtq : qt_), (∀ V : vv_, Cl_ wd0 (Tr_ wd0 pg0 (dq + 12)) V (rv_ fun M1 => rv_ Kv [] M1) Qtq m_302 → Wk_ V → V 99 [rr 6, ii (Mx 71 a), ii a, ii (vq_ Mq r), ii 1, none, none, none, none] [] Mq2) → Tr_ wd0 pg0 (dq + 14) 296 [.inr (.inr 6)] Mq (rv_ Kv) Qtq)
    (hV : Cl_ wd0 (Tr_ wd0 pg0 (9 * n + 14)) V (rv_ fun M12 => Tr_ wd0 pg0 (9 * n + 15) 121 [.inr (.inr 1), .inl 59] M12 (rv_ G) Qt) Qt m_144) (hW : Wk_ V)
    (hK : ∀ Mx' Mq' a', AR b F Mx Mq Mx' Mq' a a' o 1 0 → o ≠ 12 → ((gS (a + 1)).bind fun a2 => (ES (Mx 70) 0 (o + 1) a2).bind fun a3 => (tS (Mx 70) 293 a3).bind fun a4 => (tS (Mx 70) 110 a4).bind fun a6 => (ES (Mx 70) 0 o a6).bind (tS (Mx 70) 259)) = some a' → (∀ (Kv : mm_ → Prop) (Qtq : qt_), Kv Mq' → Tr_ wd0 pg0 (dq + 14) 296 [.inr (.inr 6)] Mq (rv_ Kv) Qtq) → G Mx')
    (hQ : b = 0 → ∀ Mx', XA Mx Mx' → (∀ (Kv : mm_ → Prop) (Qtq : qt_), (∀ M', SQ Mx' Mq M' → Kv M') → Tr_ wd0 pg0 (dq + 14) 296 [.inr (.inr 6)] Mq (rv_ Kv) Qtq) → Qt 8 Mx') :
    V 96 [rr 1, ii a, ii r, ii (8 * Mq 6 61 + r), ii (arr_ Mq r), ii 1] [] Mx2 := by
  have hE := AM_E A2
  have hT := AM_T A2
  have e70 := AM_70 A2
  have e71 := AM_71 A2
  have h01 := hE.2.2.2.2.2.2.2.2.1
  have hV9 := A2.1.2.1
  have hT0 : 0 ≤ Mq 6 61 ∧ Mq 6 61 < 6 := by rw [hV9.2.1]; exact ⟨hV9.2.2.1, hV9.2.2.2.1⟩
  have hv8 : Mq 171 (Mq 6 61) ≤ 8 := by have := hV9.2.2.2.2.1; rw [hV9.2.1, this.2.2]; exact this.2.1
  have hvq : 0 ≤ vq_ Mq r → vq_ Mq r < 48 := by unfold vq_; split <;> omega
  have k0' : Mx2 70 (a + 1) = skk_ 91 := by rw [e70]; exact k0
  have hx2 := XC_XA (AM_X A2)
  have hq2 := QC_QA (AM_Q A2)
  refine b_144_96 (Tr_mono _) hV hW a r (8 * Mq 6 61 + r) (arr_ Mq r) 1 Mx2 ?_
  rw [if_neg (by decide)]
  -- Q at the bracket
  have preB : ∀ (Kv : mm_ → Prop) (Qtq : qt_), (∀ V : vv_, Cl_ wd0 (Tr_ wd0 pg0 (dq + 12)) V (rv_ fun M1 => rv_ Kv [] M1) Qtq m_302 → Wk_ V → Tr_ wd0 pg0 (dq + 12) 239 [.inr (.inr 6), .inl 91] Mq2 (rv_ fun M2 => Tr_ wd0 pg0 (dq + 12) 270 [.inr (.inr 6), .inl (0 + 1)] M2 (ri_ fun v1 M3 => Tr_ wd0 pg0 (dq + 12) 243 [.inr (.inr 6), .inl 93] M3 (rv_ fun M4 => Tr_ wd0 pg0 (dq + 12) 244 [.inr (.inr 6), .inl 256] M4 (rv_ fun M5 => (if vq_ Mq r < 0 then V 149 [rr 6, ii (Mx 71 a), ii a, ii (vq_ Mq r), ii 1, ii v1, ii 0, none, none] [] M5 else (0 ≤ vq_ Mq r ∧ vq_ Mq r < 48) ∧ V 149 [rr 6, ii (Mx 71 a), ii a, ii (vq_ Mq r), ii 1, ii v1, ii (M5 182 (vq_ Mq r)), none, none] [] M5)) Qtq) Qtq) Qtq) Qtq) → Tr_ wd0 pg0 (dq + 14) 296 [.inr (.inr 6)] Mq (rv_ Kv) Qtq := by
    intro Kv Qtq hq
    refine pre _ _ fun V hV hW => b_302_99 (Tr_mono _) hV hW _ _ _ _ _ ?_
    rw [if_neg (by decide)]
    exact hq V hV hW
  have stop : ∀ {Mx' Ms : mm_}, SQ Mx' Mq Ms → ∀ (Kv : mm_ → Prop) (Qtq : qt_), (∀ M', SQ Mx' Mq M' → Kv M') → ∀ V : vv_, Cl_ wd0 (Tr_ wd0 pg0 (dq + 12)) V (rv_ fun M1 => rv_ Kv [] M1) Qtq m_302 → Wk_ V → Tr_ wd0 pg0 (dq + 12) 270 [.inr (.inr 6), .inl (0 + 1)] Ms (ri_ fun v1 M3 => Tr_ wd0 pg0 (dq + 12) 243 [.inr (.inr 6), .inl 93] M3 (rv_ fun M4 => Tr_ wd0 pg0 (dq + 12) 244 [.inr (.inr 6), .inl 256] M4 (rv_ fun M5 => (if vq_ Mq r < 0 then V 149 [rr 6, ii (Mx 71 a), ii a, ii (vq_ Mq r), ii 1, ii v1, ii 0, none, none] [] M5 else (0 ≤ vq_ Mq r ∧ vq_ Mq r < 48) ∧ V 149 [rr 6, ii (Mx 71 a), ii a, ii (vq_ Mq r), ii 1, ii v1, ii (M5 182 (vq_ Mq r)), none, none] [] M5)) Qtq) Qtq) Qtq := by
    intro Mx' Ms hs Kv Qtq hk9 V hV hW
    refine q_270s hs.1 ?_
    refine q_243s hs.1 ?_
    exact q_302s1 hV hW hvq hs.1 (hk9 _ hs)
  refine y_118 hE (fun hb => (hS hb).1) (fun ho12 hE3 => ?_) (fun hb ho12 => ?_)
  rotate_left
  · refine hQ hb _ (XA_tr hx2 (XF_XA fl_XF)) fun Kv Qtq hk9 => preB _ _ fun V hV hW => j_239o hT hE hb (by decide) k0' ho12 (stop (SQ_o hE hb hq2) Kv Qtq hk9 V hV hW)
  have A3 := AM_o A2 (o2 := o + 1) (by omega)
  refine y_105 hE3 (by rw [up_ne (by decide), k0']; decide) (fun hb => by intro c; have := (hS hb).2; rw [c] at this; exact this rfl) (fun h12 hE4 => ?_) (fun hb h12 => ?_)
  rotate_left
  · refine hQ hb _ (XA_tr (XC_XA (AM_X A3)) (XF_XA fl_XF)) fun Kv Qtq hk9 => preB _ _ fun V hV hW => j_239r hT hE hb (by decide) k0' h12 ho12 ?_
    have := stop (SQ_bf hE3 hb (k := 2) (by decide) (QC_QA (AM_Q A3))) Kv Qtq hk9 V hV hW
    rw [up_ne (by decide)] at this
    exact this
  have A4 := AM_go A3 hE4
  generalize hX4 : nX_ (up_ Mx2 1 6 (o + 1)) = Mx4 at *
  generalize hQ4 : nx_ (up_ Mq2 6 15 (o + 1)) = Mq4 at *
  have m70 := AM_70 A4
  obtain ⟨n', hn'⟩ : ∃ n' : Nat, n = n' + 1 := ⟨n - 1, by (clear A2 hz hs2 h75 h53 h104 hr k0 hS hidx pre hV hW hK hQ hE hT e70 e71 h01 hV9 hT0 hv8 hvq k0' hx2 hq2 preB stop hE3 A3 h12 hX4 hQ4 hE4 A4 m70; omega)⟩
  have hSq : ((gS (a + 1)).bind fun a2 => (ES (Mx 70) 0 (o + 1) a2).bind fun a3 => (tS (Mx 70) 293 a3).bind fun a4 => (tS (Mx 70) 110 a4).bind fun a6 => (ES (Mx 70) 0 o a6).bind (tS (Mx 70) 259)) = (ES (Mx 70) 0 (o + 1) (a + 1 + 1)).bind fun a3 => (tS (Mx 70) 293 a3).bind fun a4 => (tS (Mx 70) 110 a4).bind fun a6 => (ES (Mx 70) 0 o a6).bind (tS (Mx 70) 259) := by rw [gS_e h12, Option.bind_some]
  rw [hSq] at hS
  refine Tr_le (d := 9 * n' + 14) (by (clear hn A2 hz hs2 h75 h53 h104 hr k0 hS hidx pre hV hW hK hQ hE hT e70 e71 h01 hV9 hT0 hv8 hvq k0' hx2 hq2 preB stop ho12 hE3 A3 h12 hX4 hQ4 hE4 A4 m70 hSq; lia)) (x_w (dq := dq) (n := n') (w := 0) (wq := 0) (by (clear A2 hz hs2 h75 h53 h104 hr k0 hS hidx pre hV hW hK hQ hE hT e70 e71 h01 hV9 hT0 hv8 hvq k0' hx2 hq2 preB stop hE3 A3 h12 hX4 hQ4 hE4 A4 m70 hSq; lia)) (by (clear hn A2 hz hs2 h75 h53 h104 hr k0 hS hidx pre hV hW hK hQ hE hT e70 e71 h01 hV9 hT0 hv8 hvq k0' hx2 hq2 preB stop ho12 hE3 A3 h12 hX4 hQ4 hE4 A4 m70 hSq; omega)) (by omega) (by omega) (fun _ => rfl) (AM_T A4) (AM_V A4) hE4 (AM_f A4) (fun hb => by rw [m70]; intro c; have := (hS hb).2; rw [c] at this; exact this rfl) (fun Mx5 Mq5 a5 hW5 hS5 hq5 => ?_) (fun hb Mx' hx9 hq9 => ?_))
  rotate_left
  · refine hQ hb Mx' (XA_tr (XC_XA (AM_X A4)) (XF_XA hx9)) fun Kv Qtq hk9 => preB _ _ fun V hV hW => j_239t hT hE (by decide) k0' h12 ho12 ?_
    rw [hQ4]
    refine hq9 _ _ fun M' g1 g2 g3 g4 g5 => ?_
    refine q_243s g1 ?_
    exact q_302s1 hV hW hvq g1 (hk9 _ ⟨g1, g2, g3, g4, QA_tr (QC_QA (AM_Q A4)) (QF_QA g5)⟩)
  have A5 := AM_w A4 hW5
  have hE5 := AM_E A5
  have hT5 := AM_T A5
  have p70 := AM_70 A5
  rw [m70] at hS5
  have hSq2 : ((ES (Mx 70) 0 (o + 1) (a + 1 + 1)).bind fun a3 => (tS (Mx 70) 293 a3).bind fun a4 => (tS (Mx 70) 110 a4).bind fun a6 => (ES (Mx 70) 0 o a6).bind (tS (Mx 70) 259)) = (tS (Mx 70) 293 a5).bind fun a4 => (tS (Mx 70) 110 a4).bind fun a6 => (ES (Mx 70) 0 o a6).bind (tS (Mx 70) 259) := by rw [hS5, Option.bind_some]
  rw [hSq2] at hS
  have q5 : ∀ i : Int, i = 61 ∨ i = 75 → Mq5 6 i = Mq4 6 i := fun i hi => hW5.2.2.1.2 i (by (clear hn ho A2 hz hs2 h75 h53 h104 hr k0 hidx pre hV hW hK hQ hE hT e70 e71 h01 hV9 hT0 hv8 hvq k0' hx2 hq2 preB stop ho12 hE3 A3 h12 hX4 hQ4 hE4 A4 m70 hn' hSq hS hW5 hS5 hq5 A5 hE5 hT5 p70 hSq2; lia)) (by (clear hn ho A2 hz hs2 h75 h53 h104 hr k0 hidx pre hV hW hK hQ hE hT e70 e71 h01 hV9 hT0 hv8 hvq k0' hx2 hq2 preB stop ho12 hE3 A3 h12 hX4 hQ4 hE4 A4 m70 hn' hSq hS hW5 hS5 hq5 A5 hE5 hT5 p70 hSq2; lia)) (by (clear hn ho A2 hz hs2 h75 h53 h104 hr k0 hidx pre hV hW hK hQ hE hT e70 e71 h01 hV9 hT0 hv8 hvq k0' hx2 hq2 preB stop ho12 hE3 A3 h12 hX4 hQ4 hE4 A4 m70 hn' hSq hS hW5 hS5 hq5 A5 hE5 hT5 p70 hSq2; lia)) (by (clear hn ho A2 hz hs2 h75 h53 h104 hr k0 hidx pre hV hW hK hQ hE hT e70 e71 h01 hV9 hT0 hv8 hvq k0' hx2 hq2 preB stop ho12 hE3 A3 h12 hX4 hQ4 hE4 A4 m70 hn' hSq hS hW5 hS5 hq5 A5 hE5 hT5 p70 hSq2; lia)) (by (clear hn ho A2 hz hs2 h75 h53 h104 hr k0 hidx pre hV hW hK hQ hE hT e70 e71 h01 hV9 hT0 hv8 hvq k0' hx2 hq2 preB stop ho12 hE3 A3 h12 hX4 hQ4 hE4 A4 m70 hn' hSq hS hW5 hS5 hq5 A5 hE5 hT5 p70 hSq2; lia)) (by (clear hn ho A2 hz hs2 h75 h53 h104 hr k0 hidx pre hV hW hK hQ hE hT e70 e71 h01 hV9 hT0 hv8 hvq k0' hx2 hq2 preB stop ho12 hE3 A3 h12 hX4 hQ4 hE4 A4 m70 hn' hSq hS hW5 hS5 hq5 A5 hE5 hT5 p70 hSq2; lia)) (by omega) (by (clear hn ho A2 hz hs2 h75 h53 h104 hr k0 hidx pre hV hW hK hQ hE hT e70 e71 h01 hV9 hT0 hv8 hvq k0' hx2 hq2 preB stop ho12 hE3 A3 h12 hX4 hQ4 hE4 A4 m70 hn' hSq hS hW5 hS5 hq5 A5 hE5 hT5 p70 hSq2; lia)) (by (clear hn ho A2 hz hs2 h75 h53 h104 hr k0 hidx pre hV hW hK hQ hE hT e70 e71 h01 hV9 hT0 hv8 hvq k0' hx2 hq2 preB stop ho12 hE3 A3 h12 hX4 hQ4 hE4 A4 m70 hn' hSq hS hW5 hS5 hq5 A5 hE5 hT5 p70 hSq2; lia)) (by (clear hn ho A2 hz hs2 h75 h53 h104 hr k0 hidx pre hV hW hK hQ hE hT e70 e71 h01 hV9 hT0 hv8 hvq k0' hx2 hq2 preB stop ho12 hE3 A3 h12 hX4 hQ4 hE4 A4 m70 hn' hSq hS hW5 hS5 hq5 A5 hE5 hT5 p70 hSq2; lia)) (by (clear hn ho A2 hz hs2 h75 h53 h104 hr k0 hidx pre hV hW hK hQ hE hT e70 e71 h01 hV9 hT0 hv8 hvq k0' hx2 hq2 preB stop ho12 hE3 A3 h12 hX4 hQ4 hE4 A4 m70 hn' hSq hS hW5 hS5 hq5 A5 hE5 hT5 p70 hSq2; lia))
  have q475 : Mq4 6 75 = Mq 6 75 := by rw [← hQ4, nx_6 (by decide), up_off (by decide)]; exact h75
  have q4104 : Mq4 6 104 = Mq 6 104 := by rw [← hQ4, nx_6 (by decide), up_off (by decide)]; exact h104
  have e453 : Mx4 5 3 = Mx 5 3 := by rw [← hX4, nX_ne (by decide), up_ne (by decide)]; exact h53
  have e461 : Mq4 6 61 = Mq 6 61 := (AM_Q A4).2 61 (by decide)
  -- Q behind the e
  have preE : ∀ (Kv : mm_ → Prop) (Qtq : qt_), (∀ V : vv_, Cl_ wd0 (Tr_ wd0 pg0 (dq + 12)) V (rv_ fun M1 => rv_ Kv [] M1) Qtq m_302 → Wk_ V → Tr_ wd0 pg0 (dq + 12) 243 [.inr (.inr 6), .inl 93] Mq5 (rv_ fun M4 => Tr_ wd0 pg0 (dq + 12) 244 [.inr (.inr 6), .inl 256] M4 (rv_ fun M5 => (if vq_ Mq r < 0 then V 149 [rr 6, ii (Mx 71 a), ii a, ii (vq_ Mq r), ii 1, ii (Mq4 6 104), ii 0, none, none] [] M5 else (0 ≤ vq_ Mq r ∧ vq_ Mq r < 48) ∧ V 149 [rr 6, ii (Mx 71 a), ii a, ii (vq_ Mq r), ii 1, ii (Mq4 6 104), ii (M5 182 (vq_ Mq r)), none, none] [] M5)) Qtq) Qtq) → Tr_ wd0 pg0 (dq + 14) 296 [.inr (.inr 6)] Mq (rv_ Kv) Qtq := by
    intro Kv Qtq hq
    refine preB _ _ fun V hV hW => j_239t hT hE (by decide) k0' h12 ho12 ?_
    rw [hQ4]
    exact hq5 _ _ (hq V hV hW)
  refine y_121 hE5 (by decide) (fun hb => by rw [p70]; intro c; have := (hS hb).2; rw [show skk_ 93 = 293 from rfl] at c; rw [c] at this; exact this rfl) (fun k5 h13 hE6 => ?_) (fun hb k5 h13 => ?_) (fun hb k5 => ?_)
  rotate_left
  · have hsp := SQ_bf hE5 hb (k := 2) (by decide) (QC_QA (AM_Q A5))
    exact hQ hb _ (XA_tr (XC_XA (AM_X A5)) (XF_XA fl_XF)) fun Kv Qtq hk9 => preE _ _ fun V hV hW => j_243r hT5 hE5 hb (by decide) k5 h13 (q_302s1 hV hW hvq hsp.1 (hk9 _ hsp))
  · have hsp := SQ_bf hE5 hb (k := 1) (by decide) (QC_QA (AM_Q A5))
    exact hQ hb _ (XA_tr (XC_XA (AM_X A5)) (XF_XA fl_XF)) fun Kv Qtq hk9 => preE _ _ fun V hV hW => j_243w hT5 hE5 hb (by decide) k5 (q_302s1 hV hW hvq hsp.1 (hk9 _ hsp))
  have k5' : Mx 70 a5 = 293 := by rw [← p70]; exact k5
  have A6 := AM_go A5 hE6
  have A7 := AM_o A6 (o2 := o) (by (clear A2 hz hs2 h75 h53 h104 hr k0 hidx pre hV hW hK hQ hE hT e70 e71 h01 hV9 hT0 hv8 hvq k0' hx2 hq2 preB stop hE3 A3 h12 hX4 hQ4 hE4 A4 m70 hSq hS hW5 hS5 hq5 A5 hE5 hT5 p70 hSq2 q5 q475 q4104 e453 e461 preE k5 h13 hE6 k5' A6; lia))
  have hSq3 : ((tS (Mx 70) 293 a5).bind fun a4 => (tS (Mx 70) 110 a4).bind fun a6 => (ES (Mx 70) 0 o a6).bind (tS (Mx 70) 259)) = (tS (Mx 70) 110 (a5 + 1)).bind fun a6 => (ES (Mx 70) 0 o a6).bind (tS (Mx 70) 259) := by rw [tS_e k5' h13, Option.bind_some]
  rw [hSq3] at hS
  have e6o : w32 (nX_ Mx5 1 6 - 1) = o := by
    rw [hE6.2.2.2.1, w32_id (by (clear A2 hz hs2 h75 h53 h104 hr k0 hidx pre hV hW hK hQ hE hT e70 e71 h01 hV9 hT0 hv8 hvq k0' hx2 hq2 preB stop hE3 A3 h12 hX4 hQ4 hE4 A4 m70 hSq hS hW5 hS5 hq5 A5 hE5 hT5 p70 hSq2 q5 q475 q4104 e453 e461 preE k5 h13 hE6 k5' A6 A7 hSq3; omega)) (by (clear A2 hz hs2 h75 h53 h104 hr k0 hidx pre hV hW hK hQ hE hT e70 e71 h01 hV9 hT0 hv8 hvq k0' hx2 hq2 preB stop hE3 A3 h12 hX4 hQ4 hE4 A4 m70 hSq hS hW5 hS5 hq5 A5 hE5 hT5 p70 hSq2 q5 q475 q4104 e453 e461 preE k5 h13 hE6 k5' A6 A7 hSq3; omega))]; (clear hn ho A2 hz hs2 h75 h53 h104 hr k0 hidx pre hV hW hK hQ hE hT e70 e71 h01 hV9 hT0 hv8 hvq k0' hx2 hq2 preB stop ho12 hE3 A3 h12 hX4 hQ4 hE4 A4 m70 hn' hSq hS hW5 hS5 hq5 A5 hE5 hT5 p70 hSq2 q5 q475 q4104 e453 e461 preE k5 h13 hE6 k5' A6 A7 hSq3; lia)
  rw [e6o]
  have preG : ∀ (Kv : mm_ → Prop) (Qtq : qt_), (∀ V : vv_, Cl_ wd0 (Tr_ wd0 pg0 (dq + 12)) V (rv_ fun M1 => rv_ Kv [] M1) Qtq m_302 → Wk_ V → Tr_ wd0 pg0 (dq + 12) 244 [.inr (.inr 6), .inl 256] (up_ (nx_ Mq5) 6 15 o) (rv_ fun M5 => (if vq_ Mq r < 0 then V 149 [rr 6, ii (Mx 71 a), ii a, ii (vq_ Mq r), ii 1, ii (Mq4 6 104), ii 0, none, none] [] M5 else (0 ≤ vq_ Mq r ∧ vq_ Mq r < 48) ∧ V 149 [rr 6, ii (Mx 71 a), ii a, ii (vq_ Mq r), ii 1, ii (Mq4 6 104), ii (M5 182 (vq_ Mq r)), none, none] [] M5)) Qtq) → Tr_ wd0 pg0 (dq + 14) 296 [.inr (.inr 6)] Mq (rv_ Kv) Qtq := by
    intro Kv Qtq hq
    refine preE _ _ fun V hV hW => j_243t hT5 hE5 (by decide) k5 h13 (by (clear A2 hz hs2 h75 h53 h104 hr k0 hidx pre hK hQ hE hT e70 e71 h01 hV9 hT0 hv8 hvq k0' hx2 hq2 preB stop hE3 A3 h12 hX4 hQ4 hE4 A4 m70 hSq hS hW5 hS5 hq5 A5 hE5 hT5 p70 hSq2 q5 q475 q4104 e453 e461 preE k5 h13 hE6 k5' A6 A7 hSq3 hq hV hW; omega)) ?_
    rw [show o + 1 - 1 = o by omega]
    exact hq V hV hW
  generalize hX7 : up_ (nX_ Mx5) 1 6 o = Mx7 at *
  generalize hQ7 : up_ (nx_ Mq5) 6 15 o = Mq7 at *
  have hE7 := AM_E A7
  obtain ⟨c8, hc8⟩ : ∃ c8, c8 = if arr_ Mq r = 0 then (1 : Int) else Mx 131 (8 * Mq 6 61 + r) := ⟨_, rfl⟩
  have hp1 := PXL_1 (v := 45) hE7.2.2.2.2.2.2.1 h01 (PXL_0 (b := b) (M := Mx7))
  have hp := PXL_1 (v := c8) hE7.2.2.2.2.2.2.1 h01 hp1
  have A78 := AM_p A7 hp1 (by simp only [List.length_cons, List.length_nil]; (clear hn ho A2 hz h75 h53 h104 hr k0 hidx pre hV hW hK hQ hE hT e70 e71 h01 hV9 hT0 hv8 hvq k0' hx2 hq2 preB stop ho12 hE3 A3 h12 hX4 hQ4 hE4 A4 m70 hn' hSq hS hW5 hS5 hq5 A5 hE5 hT5 p70 hSq2 q5 q475 q4104 e453 e461 preE k5 h13 hE6 k5' A6 hSq3 e6o hX7 hQ7 preG A7 hE7 hc8 hp1 hp; omega))
  have A8 := AM_p A7 hp (by simp only [List.length_cons, List.length_nil]; (clear hn ho A2 hz h75 h53 h104 hr k0 hidx pre hV hW hK hQ hE hT e70 e71 h01 hV9 hT0 hv8 hvq k0' hx2 hq2 preB stop ho12 hE3 A3 h12 hX4 hQ4 hE4 A4 m70 hn' hSq hS hW5 hS5 hq5 A5 hE5 hT5 p70 hSq2 q5 q475 q4104 e453 e461 preE k5 h13 hE6 k5' A6 hSq3 e6o hX7 hQ7 preG A7 hE7 hc8 hp1 hp A78; lia))
  have a5g : a + 1 + 1 < a5 := hW5.1
  have q775 : Mq7 6 75 = Mq 6 75 := by rw [← hQ7, up_off (by decide), nx_6 (by decide), q5 75 (.inr rfl)]; exact q475
  have fin : V 158 [rr 1, ii a, ii r, ii (8 * Mq 6 61 + r), ii (arr_ Mq r), ii 1] [] (pX_ (pX_ Mx7 45) c8) := by
    refine l_144c (e := Mq4 6 104) hn ho A8 (by (clear hn ho A2 hz hs2 h75 h53 h104 hr k0 hidx pre hV hW hK hQ hE hT e70 e71 h01 hV9 hT0 hv8 hvq k0' hx2 hq2 preB stop ho12 hE3 A3 h12 hX4 hQ4 hE4 A4 m70 hn' hSq hS hW5 hS5 hq5 A5 hE5 hT5 p70 hSq2 q5 q475 q4104 e453 e461 preE k5 h13 hE6 k5' A6 hSq3 e6o hX7 hQ7 preG A7 hE7 hc8 hp1 hp A78 A8 q775; omega)) (by (clear hn ho A2 hs2 h75 h53 h104 hr k0 hidx pre hV hW hK hQ hE hT e70 e71 h01 hV9 hT0 hv8 hvq k0' hx2 hq2 preB stop ho12 hE3 A3 h12 hX4 hQ4 hE4 A4 m70 hn' hSq hS hW5 hS5 hq5 A5 hE5 hT5 p70 hSq2 q5 q475 q4104 e453 e461 preE k5 h13 hE6 k5' A6 hSq3 e6o hX7 hQ7 preG A7 hE7 hc8 hp1 hp A78 A8 a5g q775; lia)) (by simp only [List.length_cons, List.length_nil]; (clear hn ho A2 hz h75 h53 h104 hr k0 hidx pre hV hW hK hQ hE hT e70 e71 h01 hV9 hT0 hv8 hvq k0' hx2 hq2 preB stop ho12 hE3 A3 h12 hX4 hQ4 hE4 A4 m70 hn' hSq hS hW5 hS5 hq5 A5 hE5 hT5 p70 hSq2 q5 q475 q4104 e453 e461 preE k5 h13 hE6 k5' A6 hSq3 e6o hX7 hQ7 preG A7 hE7 hc8 hp1 hp A78 A8 a5g q775; omega)) q775 hr (.inr rfl) (fun hb => (hS hb).2) ?_ preG hV hW (fun Mx' Mq' a' hA hs hq => hK Mx' Mq' a' hA (by (clear A2 hz hs2 h75 h53 h104 hr k0 hidx pre hV hW hK hQ hE hT e70 e71 h01 hV9 hT0 hv8 hvq k0' hx2 hq2 preB stop hE3 A3 h12 hX4 hQ4 hE4 A4 m70 hSq hS hW5 hS5 hq5 A5 hE5 hT5 p70 hSq2 q5 q475 q4104 e453 e461 preE k5 h13 hE6 k5' A6 hSq3 hX7 hQ7 preG A7 hE7 hc8 hp1 hp A78 A8 a5g q775 hA hs hq; lia)) (by rw [hSq, hSq2, hSq3]; exact hs) hq) hQ
    intro hb h713
    have h513 : Mq5 6 13 = 0 := by rw [← hQ7, up_off (by decide), nx_6 (by decide)] at h713; exact h713
    obtain ⟨h413, t, ht, hx5⟩ := hW5.2.2.2.2.2.2.2.2.2 hb h513
    have h213 : Mq2 6 13 = 0 := by rw [← hQ4, nx_6 (by decide), up_off (by decide)] at h413; exact h413
    obtain ⟨hr0, har⟩ := hidx hb h213
    have h183 : 0 < Mq 183 (8 * Mq 6 61 + r) := by
      unfold arr_ at har; rw [if_neg hr0] at har
      split at har
      · (clear hn ho A2 hz hs2 h75 h53 h104 hr k0 hidx pre hV hW hK hQ hE hT e70 e71 h01 hV9 hT0 hv8 hvq k0' hx2 hq2 preB stop ho12 hE3 A3 h12 hX4 hQ4 hE4 A4 m70 hn' hSq hS hW5 hS5 hq5 A5 hE5 hT5 p70 hSq2 q5 q475 q4104 e453 e461 preE k5 h13 hE6 k5' A6 hSq3 e6o hX7 hQ7 preG A7 hE7 hc8 hp1 hp A78 A8 a5g q775 hb h713 h513 h413 ht hx5 h213 hr0; lia)
      · (clear hn ho A2 hz hs2 h75 h53 h104 hr k0 hidx pre hV hW hK hQ hE hT e70 e71 h01 hV9 hT0 hv8 hvq k0' hx2 hq2 preB stop ho12 hE3 A3 h12 hX4 hQ4 hE4 A4 m70 hn' hSq hS hW5 hS5 hq5 A5 hE5 hT5 p70 hSq2 q5 q475 q4104 e453 e461 preE k5 h13 hE6 k5' A6 hSq3 e6o hX7 hQ7 preG A7 hE7 hc8 hp1 hp A78 A8 a5g q775 hb h713 h513 h413 ht hx5 h213 hr0 har; omega)
    have ht1 : t = 1 := by have := ht (by decide); (clear hn ho A2 hz hs2 h75 h53 h104 hr k0 hidx pre hV hW hK hQ hE hT e70 e71 h01 hV9 hT0 hv8 hvq k0' hx2 hq2 preB stop ho12 hE3 A3 h12 hX4 hQ4 hE4 A4 m70 hn' hSq hS hW5 hS5 hq5 A5 hE5 hT5 p70 hSq2 q5 q475 q4104 e453 e461 preE k5 h13 hE6 k5' A6 hSq3 e6o hX7 hQ7 preG A7 hE7 hc8 hp1 hp A78 A8 a5g q775 hb h713 h513 h413 ht hx5 h213 hr0 har h183; lia)
    rw [ht1, e453, e461] at hx5
    have hp4 := hp.2.2.2.1 hb
    obtain ⟨s1, s2, _⟩ := hp4.2
    have e753 : Mx7 5 3 = Mx5 5 3 := by rw [← hX7, up_ne (by decide), nX_ne (by decide)]
    have e7142 : Mx7 142 = Mx5 142 := by rw [← hX7, up_ne (by decide), nX_ne (by decide)]
    have ee := EXP_le hx5
    have e131 : Mx 131 (8 * Mq 6 61 + r) = Mq 183 (8 * Mq 6 61 + r) := by
      rw [hV9.2.1]
      have := hV9.2.2.2.2.2.2.1 r (by (clear A2 hz hs2 h75 h53 h104 k0 pre hV hW hK hE hT e70 e71 hV9 hT0 hv8 k0' hx2 hq2 preB stop hE3 A3 h12 hX4 hQ4 hE4 A4 m70 hSq hW5 hS5 hq5 A5 hE5 hT5 p70 hSq2 q5 q475 q4104 e453 e461 preE k5 h13 hE6 k5' A6 hSq3 hX7 hQ7 preG A7 hE7 hc8 hp1 hp A78 A8 a5g q775 h713 h513 h413 hx5 h183 ht1 hp4 s1 s2 e753 e7142 ee; lia)) (by have := hV9.2.2.2.2.1.2.2; rw [hV9.2.1] at hr; (clear A2 hz hs2 h75 h53 h104 k0 pre hV hW hK hE hT e70 e71 hV9 hT0 hv8 k0' hx2 hq2 preB stop hE3 A3 h12 hX4 hQ4 hE4 A4 m70 hSq hW5 hS5 hq5 A5 hE5 hT5 p70 hSq2 q5 q475 q4104 e453 e461 preE k5 h13 hE6 k5' A6 hSq3 hX7 hQ7 preG A7 hE7 hc8 hp1 hp A78 A8 a5g q775 h713 h513 h413 hx5 h183 ht1 hp4 s1 s2 e753 e7142 ee; lia))
      exact this.2.2.2.1
    refine ⟨hr0, .inr ⟨rfl, h183, Mx5 5 3, ?_, ?_, ?_, ?_⟩⟩
    · refine EXP_c hx5 (fun i x y => by rw [hp.2.2.2.2.1 i (by (clear hn ho A2 hz hs2 h75 h53 h104 hr k0 hidx pre hV hW hK hQ hE hT e70 e71 h01 hV9 hT0 hv8 hvq k0' hx2 hq2 preB stop ho12 hE3 A3 h12 hX4 hQ4 hE4 A4 m70 hn' hSq hS hW5 hS5 hq5 A5 hE5 hT5 p70 hSq2 q5 q475 q4104 e453 e461 preE k5 h13 hE6 k5' A6 hSq3 e6o hX7 hQ7 preG A7 hE7 hc8 hp1 hp A78 A8 a5g q775 hb h713 h513 h413 ht hx5 h213 hr0 har h183 ht1 hp4 s1 s2 e7142 ee e131 x; omega)), e7142]) (fun i x y => ?_) ?_ ?_
      · rw [← hQ7, up_ne (by decide), up_ne (by decide), nx_ne (by decide), nx_ne (by decide)]; exact ⟨rfl, rfl⟩
      · unfold tb_
        rw [← hQ7, up_ne (by decide), up_ne (by decide), up_ne (by decide), up_ne (by decide), up_ne (by decide), nx_ne (by decide), nx_ne (by decide), nx_ne (by decide), nx_ne (by decide), nx_ne (by decide)]
        exact ⟨rfl, rfl, rfl, rfl, rfl⟩
      · rw [← hQ7, up_off (by decide), nx_6 (by decide)]; (clear hn ho A2 hz hs2 h75 h53 h104 hr k0 hidx pre hV hW hK hQ hE hT e70 e71 h01 hV9 hT0 hv8 hvq k0' hx2 hq2 preB stop ho12 hE3 A3 h12 hX4 hQ4 hE4 A4 m70 hn' hSq hS hW5 hS5 hq5 A5 hE5 hT5 p70 hSq2 q5 q475 q4104 e453 e461 preE k5 h13 hE6 k5' A6 hSq3 e6o hX7 hQ7 preG A7 hE7 hc8 hp1 hp A78 A8 a5g q775 hb h713 h513 h413 ht hx5 h213 hr0 har h183 ht1 hp4 s1 s2 e753 e7142 ee e131; lia)
    · rw [← e753]; simpa using s2
    · rw [← e753, ← e131]
      have e8 : c8 = Mx 131 (8 * Mq 6 61 + r) := by rw [hc8, if_neg (by (clear hn ho A2 hz hs2 h75 h53 h104 hr k0 hidx pre hV hW hK hQ hE hT e70 e71 h01 hV9 hT0 hv8 hvq k0' hx2 hq2 preB stop ho12 hE3 A3 h12 hX4 hQ4 hE4 A4 m70 hn' hSq hS hW5 hS5 hq5 A5 hE5 hT5 p70 hSq2 q5 q475 q4104 e453 e461 preE k5 h13 hE6 k5' A6 hSq3 e6o hX7 hQ7 preG A7 hE7 hc8 hp1 hp A78 A8 a5g q775 hb h713 h513 h413 ht hx5 h213 hr0 h183 ht1 hp4 s1 s2 e753 e7142 ee e131; lia))]
      rw [← e8]; exact s1
    · rw [hp4.1, e753]; rfl
  refine x_138 (AM_V A7).1 (ER_st hE7).1 (ER_st hE7).2 ?_
  have x131 : pX_ Mx7 45 131 = Mx 131 := (AM_X A78).1 131 (by decide)
  by_cases c : arr_ Mq r = 0
  · rw [if_pos c]
    rw [if_pos c] at hc8
    refine x_138 (AM_V A78).1 (ER_st (AM_E A78)).1 (ER_st (AM_E A78)).2 ?_
    rw [hc8] at fin; exact fin
  · rw [if_neg c]
    rw [if_neg c] at hc8
    have hr0 : r ≠ -1 := fun h => c (by unfold arr_; rw [if_pos h])
    refine ⟨(AM_V A78).1, by (clear A2 hz hs2 h75 h53 h104 k0 pre hV hW hK hE hT e70 e71 hV9 k0' hx2 hq2 preB stop hE3 A3 h12 hX4 hQ4 hE4 A4 m70 hSq hW5 hS5 hq5 A5 hE5 hT5 p70 hSq2 q5 q475 q4104 e453 preE k5 h13 hE6 k5' A6 hSq3 hX7 hQ7 preG A7 hE7 hc8 hp1 hp A78 A8 a5g q775 fin x131; lia), x_138 (AM_V A78).1 (ER_st (AM_E A78)).1 (ER_st (AM_E A78)).2 ?_⟩
    rw [x131, ← hc8]; exact fin
/-- gets: X and Q in step -/
theorem y_143g [Inhabited gh_] (hn : n ≤ 12) (ho : o = 12 - (n : Int)) (h : TA b F Mx Mq a o) (hk : Mx 70 a = 100) (hS : b = 1 → acS (Mx 70) dec o a ≠ none)
    (hK : ∀ Mx' Mq' a', AR b F Mx Mq Mx' Mq' a a' o 1 0 → acS (Mx 70) dec o a = some a' → (∀ (Kv : mm_ → Prop) (Qtq : qt_), Kv Mq' → Tr_ wd0 pg0 (dq + 14) 296 [.inr (.inr 6)] Mq (rv_ Kv) Qtq) → K 0 Mx')
    (hQ : b = 0 → ∀ Mx', XA Mx Mx' → (∀ (Kv : mm_ → Prop) (Qtq : qt_), (∀ M', SQ Mx' Mq M' → Kv M') → Tr_ wd0 pg0 (dq + 14) 296 [.inr (.inr 6)] Mq (rv_ Kv) Qtq) → Qt 8 Mx') :
    Tr_ wd0 pg0 (9 * n + 16) 143 [.inr (.inr 1)] Mx (ri_ K) Qt := by
  have hsyn : acS (Mx 70) dec o a = (gtS (Mx 70) o a).bind (tS (Mx 70) 259) := by unfold acS; rw [if_pos hk]
  rw [hsyn] at hS
  have A0 := AM_rf h
  have hE := AM_E A0
  have hT := AM_T A0
  have h01 := hE.2.2.2.2.2.2.2.2.1
  have hga := hE.1
  have hae := ER_a hE
  have hp0 : Mq 150 (Mq 6 12) = Mx 71 a := (ER_k hT hE).2.1
  refine t_143 fun V hV hW => b_143_0 (Tr_mono _) hV hW Mx ?_
  refine y_103 hE (fun _ => ?_) (fun e => absurd hk e)
  rw [if_neg (by decide)]
  refine t_144 fun V hV hW => b_144_0 (Tr_mono _) hV hW Mx ?_
  refine y_107 hE (fun hb => by intro c; have := hS hb; unfold gtS at this; rw [c] at this; exact this rfl) (fun _ h12 hE1 => ?_) (fun hb _ h12 => ?_) (fun hb e => absurd hk e)
  rotate_left
  · refine hQ hb _ (XF_XA fl_XF) fun Kv Qtq hk9 => ?_
    have hsp := SQ_bf hE hb (k := 2) (by decide) QA_rf
    refine t_296 fun V hV hW => b_296_0 (Tr_mono _) hV hW Mq ⟨(ER_k hT hE).2.2.1, j_228f hT hE (by decide) (by omega) ?_⟩
    rw [if_pos rfl]
    refine j_228f hT hE (by decide) (by (clear hn ho h hS hK hQ hsyn A0 hE hT h01 hga hae hp0 hb h12 hk9 hsp hV hW; lia)) ?_
    rw [if_pos rfl]
    refine j_228f hT hE (by decide) (by omega) ?_
    rw [if_pos rfl]
    refine j_228f hT hE (by decide) (by omega) ?_
    rw [if_pos rfl, hp0]
    refine t_302 fun V hV hW => b_302_0 (Tr_mono _) hV hW (Mx 71 a) Mq ?_
    refine j_233r hT hE hb hk h12 ?_
    refine q_227s hsp.1 ?_
    rw [if_neg (by decide)]
    exact rv_i (rv_i (hk9 _ hsp))
  have A1 := AM_go A0 hE1
  have hk1 : tS (Mx 70) 100 a = some (a + 1) := tS_e hk h12
  obtain ⟨r, hr⟩ : ∃ r, r = vrr Mq (Mq 151 a) := ⟨_, rfl⟩
  obtain ⟨idx, hi⟩ : ∃ idx : Int, (idx = 1 ∧ Mx 70 (a + 1) = 291) ∨ (idx = 0 ∧ Mx 70 (a + 1) ≠ 291) := by
    by_cases c : Mx 70 (a + 1) = 291
    · exact ⟨1, .inl ⟨rfl, c⟩⟩
    · exact ⟨0, .inr ⟨rfl, c⟩⟩
  have hrr := vrr_r (Mx := Mx) (Mq := Mq) h.2.1 (v := Mq 151 a)
  rw [← hr] at hrr
  have hk4 : k4g_ r = 0 ∨ (3 ≤ k4g_ r ∧ k4g_ r ≤ 6) := by unfold k4g_; split <;> omega
  have hk5 : k5_g Mq r idx = 0 ∨ (3 ≤ k5_g Mq r idx ∧ k5_g Mq r idx ≤ 6) := by
    unfold k5_g; split
    · omega
    · split <;> omega
  obtain ⟨A2, hz2⟩ := AM_m (k := k4g_ r) (tk := a) A1 hk4 hga (by omega)
  obtain ⟨A3, hz3⟩ := AM_m (k := k5_g Mq r idx) (tk := a) A2 hk5 hga (by omega)
  have clean : b = 1 → Qn_ (Qn_ (nx_ Mq) b (k4g_ r) (Mx 71 a)) b (k5_g Mq r idx) (Mx 71 a) 6 13 = 0 → r ≠ -1 ∧ arr_ Mq r = idx := by
    intro hb h0
    have e5 := hz3 hb h0
    have h02 : Qn_ (nx_ Mq) b (k4g_ r) (Mx 71 a) 6 13 = 0 := by unfold Qn_ at h0 ⊢; rw [e5, if_pos (.inr rfl)] at h0; exact h0
    have e4 := hz2 hb h02
    have r0 : r ≠ -1 := by intro c; unfold k4g_ at e4; rw [if_pos c] at e4; omega
    refine ⟨r0, ?_⟩
    unfold k5_g at e5
    rw [if_neg r0] at e5
    by_cases c : arr_ Mq r = idx
    · exact c
    · rw [if_neg c] at e5; omega
  refine l_144a (D := 9 * n + 10) (idx := idx) (r := r) h hk h12 hE1 hV hW hi hr ?_
  have preA : ∀ (Kv : mm_ → Prop) (Qtq : qt_), (∀ V : vv_, Cl_ wd0 (Tr_ wd0 pg0 (dq + 12)) V (rv_ fun M1 => rv_ Kv [] M1) Qtq m_302 → Wk_ V → V 99 [rr 6, ii (Mx 71 a), ii a, ii (vq_ Mq r), ii idx, none, none, none, none] [] (Qn_ (Qn_ (nx_ Mq) b (k4g_ r) (Mx 71 a)) b (k5_g Mq r idx) (Mx 71 a))) → Tr_ wd0 pg0 (dq + 14) 296 [.inr (.inr 6)] Mq (rv_ Kv) Qtq := fun Kv Qtq hq => q_302a (d := dq + 8) h hk h12 hE1 hi hr hq
  have q75 : Qn_ (Qn_ (nx_ Mq) b (k4g_ r) (Mx 71 a)) b (k5_g Mq r idx) (Mx 71 a) 6 75 = Mq 6 75 := by rw [Qn_6 (by decide) (by decide), Qn_6 (by decide) (by decide), nx_6 (by decide)]
  have q104 : Qn_ (Qn_ (nx_ Mq) b (k4g_ r) (Mx 71 a)) b (k5_g Mq r idx) (Mx 71 a) 6 104 = Mq 6 104 := by rw [Qn_6 (by decide) (by decide), Qn_6 (by decide) (by decide), nx_6 (by decide)]
  have e53 : Xn_ (Xn_ (nX_ Mx) b (k4g_ r) a) b (k5_g Mq r idx) a 5 3 = Mx 5 3 := by rw [Xn_r (by decide), Xn_r (by decide), nX_ne (by decide)]
  generalize hX3 : Xn_ (Xn_ (nX_ Mx) b (k4g_ r) a) b (k5_g Mq r idx) a = Mx3 at *
  generalize hQ3 : Qn_ (Qn_ (nx_ Mq) b (k4g_ r) (Mx 71 a)) b (k5_g Mq r idx) (Mx 71 a) = Mq3 at *
  rcases hi with ⟨i1, i2⟩ | ⟨i1, i2⟩
  · subst i1
    have hsy : (gtS (Mx 70) o a).bind (tS (Mx 70) 259) = if o = 12 then none else ((gS (a + 1)).bind fun a2 => (ES (Mx 70) 0 (o + 1) a2).bind fun a3 => (tS (Mx 70) 293 a3).bind fun a4 => (tS (Mx 70) 110 a4).bind fun a6 => (ES (Mx 70) 0 o a6).bind (tS (Mx 70) 259)) := by
      unfold gtS
      rw [hk1, Option.bind_some, if_pos i2]
      by_cases c : o = 12
      · rw [if_pos c, if_pos c]; rfl
      · rw [if_neg c, if_neg c]
        simp only [Option.bind_assoc]
    rw [hsy] at hS
    refine l_144b hn ho A3 (by omega) (by omega) q75 e53 q104 hrr i2 (fun hb => ?_) (fun hb h0 => clean hb h0) preA hV hW (fun Mx' Mq' a' hA h12' hs hq => ⟨.inl rfl, ri_i (hK Mx' Mq' a' hA (by rw [hsyn, hsy, if_neg h12']; exact hs) hq)⟩) hQ
    have := hS hb
    by_cases c : o = 12
    · rw [if_pos c] at this; exact absurd rfl this
    · rw [if_neg c] at this; exact ⟨c, this⟩
  · subst i1
    have hsy : (gtS (Mx 70) o a).bind (tS (Mx 70) 259) = ((tS (Mx 70) 110 (a + 1)).bind fun a6 => (ES (Mx 70) 0 o a6).bind (tS (Mx 70) 259)) := by
      unfold gtS
      rw [hk1, Option.bind_some, if_neg i2, Option.bind_some]
      simp only [Option.bind_assoc]
    rw [hsy] at hS
    refine b_144_96 (Tr_mono _) hV hW a r (8 * Mq 6 61 + r) (arr_ Mq r) 0 Mx3 ?_
    rw [if_pos rfl]
    refine l_144c (e := -1) hn ho A3 (by (clear hn ho h hk hS hK hQ hsyn A0 hE hT h01 hga hae hp0 hV hW h12 hE1 A1 hk1 hr hrr hk4 A2 hz2 e53 q75 q104 A3 i2 hk5 hX3 hQ3 hz3 clean preA hsy; omega)) (by omega) (by omega) q75 hrr (.inl rfl) hS ?_ (fun Kv Qtq hq => preA _ _ fun V hV hW => b_302_99 (Tr_mono _) hV hW _ _ _ _ _ (by rw [if_pos rfl]; exact hq V hV hW)) hV hW (fun Mx' Mq' a' hA hs hq => ⟨.inl rfl, ri_i (hK Mx' Mq' a' hA (by rw [hsyn, hsy]; exact hs) hq)⟩) hQ
    intro hb h0
    obtain ⟨r0, har⟩ := clean hb h0
    have hV9 := h.2.1
    have e131 := hV9.2.2.2.2.2.2.1 r (by (clear hn ho h hk hS hK hQ hsyn A0 hE hT h01 hga hae hp0 hV hW h12 hE1 A1 hk1 A2 e53 q75 q104 A3 hX3 hQ3 preA hsy har hV9; lia)) (by have := hV9.2.2.2.2.1.2.2; rw [hV9.2.1] at hrr; (clear hn ho h hk hS hK hQ hsyn A0 hE hT h01 hga hae hp0 hV hW h12 hE1 A1 hk1 A2 e53 q75 q104 A3 hX3 hQ3 preA hsy har hV9; lia))
    rw [← hV9.2.1] at e131
    have e2 := e131.2.2.2.1
    have e3 := e131.2.2.2.2.2.2.2
    refine ⟨r0, .inl ⟨rfl, rfl, ?_, e53⟩⟩
    unfold arr_ at har
    rw [if_neg r0] at har
    split at har
    · (clear hn ho h hk hS hK hQ hsyn A0 hE hT h01 hga hae hp0 hV hW h12 hE1 A1 hk1 hr hrr hk4 A2 hz2 e53 q75 q104 A3 i2 hk5 hX3 hQ3 hz3 clean preA hsy hb h0 r0 hV9 e2 e3 har; omega)
    · omega
end AG
end T108_ag
section T109_tb
/-! tables of names: states and labels of the type, signals, routes, types -/
def stt (Mq : mm_) (v : Int) : Int := fi_ (fun i => Mq 179 (12 * Mq 6 61 + i)) v (Mq 174 (Mq 6 61)).toNat 0
def stt9 (Mx Mq : mm_) : Prop := (0 ≤ Mx 123 (Mx 1 18) ∧ Mx 123 (Mx 1 18) ≤ 12 ∧ Mq 174 (Mx 1 18) = Mx 123 (Mx 1 18)) ∧ ∀ k : Int, 0 ≤ k → k < Mx 123 (Mx 1 18) → nm9_ Mx (Mx 59 (12 * Mx 1 18 + k)) ∧ Mq 179 (12 * Mx 1 18 + k) = Mq 151 (Mx 59 (12 * Mx 1 18 + k))
def lbl (Mq : mm_) (v : Int) : Int := fi_ (fun i => Mq 180 (10 * Mq 6 61 + i)) v (Mq 175 (Mq 6 61)).toNat 0
def lbl9 (Mx Mq : mm_) : Prop := (0 ≤ Mx 128 (Mx 1 18) ∧ Mx 128 (Mx 1 18) ≤ 10 ∧ Mq 175 (Mx 1 18) = Mx 128 (Mx 1 18)) ∧ ∀ k : Int, 0 ≤ k → k < Mx 128 (Mx 1 18) → nm9_ Mx (Mx 62 (10 * Mx 1 18 + k)) ∧ Mq 180 (10 * Mx 1 18 + k) = Mq 151 (Mx 62 (10 * Mx 1 18 + k))
def sgl (Mq : mm_) (v : Int) : Int := fi_ (fun i => Mq 152 (i)) v (Mq 6 17).toNat 0
def sgl9 (Mx Mq : mm_) : Prop := (0 ≤ Mx 5 0 ∧ Mx 5 0 ≤ 20 ∧ Mq 6 17 = Mx 5 0) ∧ ∀ k : Int, 0 ≤ k → k < Mx 5 0 → nm9_ Mx (Mx 56 (k)) ∧ Mq 152 (k) = Mq 151 (Mx 56 (k))
def rtl (Mq : mm_) (v : Int) : Int := fi_ (fun i => Mq 153 (i)) v (Mq 6 18).toNat 0
def rtl9 (Mx Mq : mm_) : Prop := (0 ≤ Mx 5 1 ∧ Mx 5 1 ≤ 10 ∧ Mq 6 18 = Mx 5 1) ∧ ∀ k : Int, 0 ≤ k → k < Mx 5 1 → nm9_ Mx (Mx 57 (k)) ∧ Mq 153 (k) = Mq 151 (Mx 57 (k))
def tpl (Mq : mm_) (v : Int) : Int := fi_ (fun i => Mq 154 (i)) v (Mq 6 19).toNat 0
def tpl9 (Mx Mq : mm_) : Prop := (0 ≤ Mx 5 2 ∧ Mx 5 2 ≤ 6 ∧ Mq 6 19 = Mx 5 2) ∧ ∀ k : Int, 0 ≤ k → k < Mx 5 2 → nm9_ Mx (Mx 58 (k)) ∧ Mq 154 (k) = Mq 151 (Mx 58 (k))
section TN
variable {d : Nat} {Mx Mq M : mm_} {K : Int → mm_ → Prop} {Kv : mm_ → Prop} {Qt : qt_} {t : Int}
theorem stt_r [Inhabited gh_] (hV : VT Mx Mq) (h9 : stt9 Mx Mq) {v : Int} : stt Mq v = -1 ∨ (0 ≤ stt Mq v ∧ stt Mq v < Mq 174 (Mq 6 61)) := by
  have e : Mq 174 (Mq 6 61) = Mx 123 (Mx 1 18) := by rw [hV.2.1]; exact h9.1.2.2
  have h0 := h9.1.1
  rcases fi_r (fun i => Mq 179 (12 * Mq 6 61 + i)) v (Mq 174 (Mq 6 61)).toNat 0 with h | h
  · exact .inl h
  · exact .inr ⟨h.1, by have := h.2.1; unfold stt; omega⟩
theorem q_267R [Inhabited gh_] (hV : VT Mx Mq) (h9 : stt9 Mx Mq) {v : Int} (h : K (stt Mq v) Mq) : Tr_ wd0 pg0 (d + 1) 267 [.inr (.inr 6), .inl (Mq 6 61), .inr (.inl v)] Mq (ri_ K) Qt := by
  obtain ⟨v1, v2, v3, v4, v5, v6, v7, v8⟩ := hV
  obtain ⟨u1, u2⟩ := h9
  obtain ⟨m, hm⟩ := Int.eq_ofNat_of_zero_le u1.1
  have hm2 : (Mq 174 (Mq 6 61)).toNat = m := by rw [v2, u1.2.2, hm]; rfl
  refine q_267 (m := m) (by rw [v2]; exact v3) (by rw [v2]; exact v4) (by rw [v2, u1.2.2, hm]) (by have := u1.2.1; (clear h v1 v2 v3 v4 v5 v6 v7 v8 u2 this; omega)) ?_
  unfold stt at h; rw [hm2] at h; exact h
theorem x_142R [Inhabited gh_] (hT : Tks Mx Mq) (hV : VT Mx Mq) (h9 : stt9 Mx Mq) (ht : nm9_ Mx t) (h : K (stt Mq (Mq 151 t)) Mx) : Tr_ wd0 pg0 (d + 3) 142 [.inr (.inr 1), .inl t] Mx (ri_ K) Qt := by
  obtain ⟨v1, v2, v3, v4, v5, v6, v7, v8⟩ := hV
  obtain ⟨u1, u2⟩ := h9
  obtain ⟨m, hm⟩ := Int.eq_ofNat_of_zero_le u1.1
  have hm2 : (Mq 174 (Mq 6 61)).toNat = m := by rw [v2, u1.2.2, hm]; rfl
  refine x_142 (η := Mq 151) (m := m) v1 v3 v4 hm (by have := u1.2.1; omega) (tk9_of hT ht.1) (fun k h1 h2 => ?_) ?_
  · have := u2 k h1 (by rw [hm]; exact h2)
    exact ⟨tk9_of hT this.1.1, lk_of hT this.1 ht⟩
  · unfold stt at h
    rw [hm2, v2] at h
    rw [fi_cg (g' := fun i => Mq 179 (12 * Mx 1 18 + i)) (v' := Mq 151 t) m 0 (fun i h1 h2 => ?_)]
    · exact h
    · rw [(u2 i h1 (by rw [hm]; (clear hT ht v1 v2 v3 v4 v5 v6 v7 v8 u1 u2 h hm h1; omega))).2]
theorem lbl_r [Inhabited gh_] (hV : VT Mx Mq) (h9 : lbl9 Mx Mq) {v : Int} : lbl Mq v = -1 ∨ (0 ≤ lbl Mq v ∧ lbl Mq v < Mq 175 (Mq 6 61)) := by
  have e : Mq 175 (Mq 6 61) = Mx 128 (Mx 1 18) := by rw [hV.2.1]; exact h9.1.2.2
  have h0 := h9.1.1
  rcases fi_r (fun i => Mq 180 (10 * Mq 6 61 + i)) v (Mq 175 (Mq 6 61)).toNat 0 with h | h
  · exact .inl h
  · exact .inr ⟨h.1, by have := h.2.1; unfold lbl; omega⟩
theorem q_268R [Inhabited gh_] (hV : VT Mx Mq) (h9 : lbl9 Mx Mq) {v : Int} (h : K (lbl Mq v) Mq) : Tr_ wd0 pg0 (d + 1) 268 [.inr (.inr 6), .inl (Mq 6 61), .inr (.inl v)] Mq (ri_ K) Qt := by
  obtain ⟨v1, v2, v3, v4, v5, v6, v7, v8⟩ := hV
  obtain ⟨u1, u2⟩ := h9
  obtain ⟨m, hm⟩ := Int.eq_ofNat_of_zero_le u1.1
  have hm2 : (Mq 175 (Mq 6 61)).toNat = m := by rw [v2, u1.2.2, hm]; rfl
  refine q_268 (m := m) (by rw [v2]; exact v3) (by rw [v2]; exact v4) (by rw [v2, u1.2.2, hm]) (by have := u1.2.1; (clear h v1 v2 v3 v4 v5 v6 v7 v8 u2 this; omega)) ?_
  unfold lbl at h; rw [hm2] at h; exact h
theorem x_113R [Inhabited gh_] (hT : Tks Mx Mq) (hV : VT Mx Mq) (h9 : lbl9 Mx Mq) (ht : nm9_ Mx t) (h : K (lbl Mq (Mq 151 t)) Mx) : Tr_ wd0 pg0 (d + 2) 113 [.inr (.inr 1), .inr (.inr 62), .inl (w32 (10 * Mx 1 18)), .inl (Mx 128 (Mx 1 18)), .inl t] Mx (ri_ K) Qt := by
  obtain ⟨v1, v2, v3, v4, v5, v6, v7, v8⟩ := hV
  obtain ⟨u1, u2⟩ := h9
  obtain ⟨m, hm⟩ := Int.eq_ofNat_of_zero_le u1.1
  have hm2 : (Mq 175 (Mq 6 61)).toNat = m := by rw [v2, u1.2.2, hm]; rfl
  rw [hm, w32_id (by (clear hT ht h v1 v2 v5 v6 v7 v8 u1 u2 hm hm2; lia)) (by omega)]
  refine x_113g (η := Mq 151) (m := m) (by (clear hT ht h v1 v2 v5 v6 v7 v8 u1 u2 hm hm2; lia)) (by have := u1.2.1; (clear hT ht h v1 v2 v5 v6 v7 v8 u2 this; omega)) (tk9_of hT ht.1) (fun k h1 h2 => ?_) ?_
  · have := u2 (k - 10 * Mx 1 18) (by (clear hT ht h v1 v2 v3 v4 v5 v6 v7 v8 u1 u2 hm hm2 h2; lia)) (by rw [hm]; omega)
    rw [show 10 * Mx 1 18 + (k - 10 * Mx 1 18) = k by (clear hT ht h v1 v2 v3 v4 v5 v6 v7 v8 u1 u2 hm hm2 h1 h2 this; lia)] at this
    exact ⟨tk9_of hT this.1.1, lk_of hT this.1 ht⟩
  · unfold lbl at h
    rw [hm2, v2] at h
    rw [fi_cg (g' := fun i => Mq 180 (10 * Mx 1 18 + i)) (v' := Mq 151 t) m 0 (fun i h1 h2 => ?_)]
    · exact h
    · rw [(u2 i h1 (by rw [hm]; omega)).2]
theorem sgl_r [Inhabited gh_] (hV : VT Mx Mq) (h9 : sgl9 Mx Mq) {v : Int} : sgl Mq v = -1 ∨ (0 ≤ sgl Mq v ∧ sgl Mq v < Mq 6 17) := by
  have e : Mq 6 17 = Mx 5 0 := h9.1.2.2
  have h0 := h9.1.1
  rcases fi_r (fun i => Mq 152 (i)) v (Mq 6 17).toNat 0 with h | h
  · exact .inl h
  · exact .inr ⟨h.1, by have := h.2.1; unfold sgl; omega⟩
theorem q_251R [Inhabited gh_] (hV : VT Mx Mq) (h9 : sgl9 Mx Mq) {v : Int} (h : K (sgl Mq v) Mq) : Tr_ wd0 pg0 (d + 1) 251 [.inr (.inr 6), .inr (.inl v)] Mq (ri_ K) Qt := by
  obtain ⟨v1, v2, v3, v4, v5, v6, v7, v8⟩ := hV
  obtain ⟨u1, u2⟩ := h9
  obtain ⟨m, hm⟩ := Int.eq_ofNat_of_zero_le u1.1
  have hm2 : (Mq 6 17).toNat = m := by rw [u1.2.2, hm]; rfl
  refine q_251 (m := m) (by rw [u1.2.2, hm]) (by have := u1.2.1; omega) ?_
  unfold sgl at h; rw [hm2] at h; exact h
theorem x_112R [Inhabited gh_] (hT : Tks Mx Mq) (hV : VT Mx Mq) (h9 : sgl9 Mx Mq) (ht : nm9_ Mx t) (h : K (sgl Mq (Mq 151 t)) Mx) : Tr_ wd0 pg0 (d + 3) 112 [.inr (.inr 1), .inl t] Mx (ri_ K) Qt := by
  obtain ⟨v1, v2, v3, v4, v5, v6, v7, v8⟩ := hV
  obtain ⟨u1, u2⟩ := h9
  obtain ⟨m, hm⟩ := Int.eq_ofNat_of_zero_le u1.1
  have hm2 : (Mq 6 17).toNat = m := by rw [u1.2.2, hm]; rfl
  refine x_112 (η := Mq 151) (m := m) v1 hm (by have := u1.2.1; omega) (tk9_of hT ht.1) (fun k h1 h2 => ?_) ?_
  · have := u2 k h1 (by rw [hm]; exact h2)
    exact ⟨tk9_of hT this.1.1, lk_of hT this.1 ht⟩
  · unfold sgl at h
    rw [hm2] at h
    rw [fi_cg (g' := fun i => Mq 152 (i)) (v' := Mq 151 t) m 0 (fun i h1 h2 => ?_)]
    · exact h
    · rw [(u2 i h1 (by rw [hm]; (clear hT ht v1 v2 v3 v4 v5 v6 v7 v8 u1 u2 h hm h1; omega))).2]
theorem rtl_r [Inhabited gh_] (hV : VT Mx Mq) (h9 : rtl9 Mx Mq) {v : Int} : rtl Mq v = -1 ∨ (0 ≤ rtl Mq v ∧ rtl Mq v < Mq 6 18) := by
  have e : Mq 6 18 = Mx 5 1 := h9.1.2.2
  have h0 := h9.1.1
  rcases fi_r (fun i => Mq 153 (i)) v (Mq 6 18).toNat 0 with h | h
  · exact .inl h
  · exact .inr ⟨h.1, by have := h.2.1; unfold rtl; omega⟩
theorem q_300R [Inhabited gh_] (hV : VT Mx Mq) (h9 : rtl9 Mx Mq) {v : Int} (h : K (rtl Mq v) Mq) : Tr_ wd0 pg0 (d + 1) 300 [.inr (.inr 6), .inr (.inl v)] Mq (ri_ K) Qt := by
  obtain ⟨v1, v2, v3, v4, v5, v6, v7, v8⟩ := hV
  obtain ⟨u1, u2⟩ := h9
  obtain ⟨m, hm⟩ := Int.eq_ofNat_of_zero_le u1.1
  have hm2 : (Mq 6 18).toNat = m := by rw [u1.2.2, hm]; rfl
  refine q_300 (m := m) (by rw [u1.2.2, hm]) (by have := u1.2.1; (clear h v1 v2 v3 v4 v5 v6 v7 v8 u2 this; omega)) ?_
  unfold rtl at h; rw [hm2] at h; exact h
theorem x_114R [Inhabited gh_] (hT : Tks Mx Mq) (hV : VT Mx Mq) (h9 : rtl9 Mx Mq) (ht : nm9_ Mx t) (h : K (rtl Mq (Mq 151 t)) Mx) : Tr_ wd0 pg0 (d + 3) 114 [.inr (.inr 1), .inl t] Mx (ri_ K) Qt := by
  obtain ⟨v1, v2, v3, v4, v5, v6, v7, v8⟩ := hV
  obtain ⟨u1, u2⟩ := h9
  obtain ⟨m, hm⟩ := Int.eq_ofNat_of_zero_le u1.1
  have hm2 : (Mq 6 18).toNat = m := by rw [u1.2.2, hm]; rfl
  refine x_114 (η := Mq 151) (m := m) v1 hm (by have := u1.2.1; omega) (tk9_of hT ht.1) (fun k h1 h2 => ?_) ?_
  · have := u2 k h1 (by rw [hm]; exact h2)
    exact ⟨tk9_of hT this.1.1, lk_of hT this.1 ht⟩
  · unfold rtl at h
    rw [hm2] at h
    rw [fi_cg (g' := fun i => Mq 153 (i)) (v' := Mq 151 t) m 0 (fun i h1 h2 => ?_)]
    · exact h
    · rw [(u2 i h1 (by rw [hm]; (clear hT ht v1 v2 v3 v4 v5 v6 v7 v8 u1 u2 h hm h1; omega))).2]
theorem tpl_r [Inhabited gh_] (hV : VT Mx Mq) (h9 : tpl9 Mx Mq) {v : Int} : tpl Mq v = -1 ∨ (0 ≤ tpl Mq v ∧ tpl Mq v < Mq 6 19) := by
  have e : Mq 6 19 = Mx 5 2 := h9.1.2.2
  have h0 := h9.1.1
  rcases fi_r (fun i => Mq 154 (i)) v (Mq 6 19).toNat 0 with h | h
  · exact .inl h
  · exact .inr ⟨h.1, by have := h.2.1; unfold tpl; omega⟩
theorem q_247R [Inhabited gh_] (hV : VT Mx Mq) (h9 : tpl9 Mx Mq) {v : Int} (h : K (tpl Mq v) Mq) : Tr_ wd0 pg0 (d + 1) 247 [.inr (.inr 6), .inr (.inl v)] Mq (ri_ K) Qt := by
  obtain ⟨v1, v2, v3, v4, v5, v6, v7, v8⟩ := hV
  obtain ⟨u1, u2⟩ := h9
  obtain ⟨m, hm⟩ := Int.eq_ofNat_of_zero_le u1.1
  have hm2 : (Mq 6 19).toNat = m := by rw [u1.2.2, hm]; rfl
  refine q_247 (m := m) (by rw [u1.2.2, hm]) (by have := u1.2.1; omega) ?_
  unfold tpl at h; rw [hm2] at h; exact h
theorem x_115R [Inhabited gh_] (hT : Tks Mx Mq) (hV : VT Mx Mq) (h9 : tpl9 Mx Mq) (ht : nm9_ Mx t) (h : K (tpl Mq (Mq 151 t)) Mx) : Tr_ wd0 pg0 (d + 3) 115 [.inr (.inr 1), .inl t] Mx (ri_ K) Qt := by
  obtain ⟨v1, v2, v3, v4, v5, v6, v7, v8⟩ := hV
  obtain ⟨u1, u2⟩ := h9
  obtain ⟨m, hm⟩ := Int.eq_ofNat_of_zero_le u1.1
  have hm2 : (Mq 6 19).toNat = m := by rw [u1.2.2, hm]; rfl
  refine x_115 (η := Mq 151) (m := m) v1 hm (by have := u1.2.1; omega) (tk9_of hT ht.1) (fun k h1 h2 => ?_) ?_
  · have := u2 k h1 (by rw [hm]; exact h2)
    exact ⟨tk9_of hT this.1.1, lk_of hT this.1 ht⟩
  · unfold tpl at h
    rw [hm2] at h
    rw [fi_cg (g' := fun i => Mq 154 (i)) (v' := Mq 151 t) m 0 (fun i h1 h2 => ?_)]
    · exact h
    · rw [(u2 i h1 (by rw [hm]; omega)).2]
end TN
end T109_tb
section T110_la
/-! the last of a part: stop and join -/
section LA
variable {d dq n : Nat} {b F : Int} {Mx Mq MX MQ Mx1 Mq1 Mx2 Mq2 M : mm_} {a a1 o o1 s z me : Int} {K : Int → mm_ → Prop} {Kv G : mm_ → Prop} {Qt : qt_} {V : vv_}
theorem up_cg [Inhabited gh_] {M M1 : mm_} {r r' : Nat} {i v : Int} (h : M1 r = M r) : up_ M1 r' i v r = up_ M r' i v r := by
  by_cases c : r = r'
  · subst c
    funext j
    by_cases cj : j = i
    · rw [cj, up_at, up_at]
    · rw [up_off cj, up_off cj, h]
  · rw [up_ne c, up_ne c, h]
theorem ER_X [Inhabited gh_] (h : ER b F Mx Mq a o) (h70 : Mx1 70 = Mx 70) (h1 : Mx1 1 = Mx 1) (h5 : Mx1 5 = Mx 5) : ER b F Mx1 Mq a o := by
  unfold ER NR gd_ at *
  rw [h70, h1, h5]; exact h
/-- masks that change on both sides: the act is seen from there -/
theorem AM_base [Inhabited gh_] {rx rq : Nat} {i v j w : Int} (hx : rx = 63 ∨ rx = 65) (hq : rq = 213 ∨ rq = 214) (h : AM b F Mx Mq Mx1 Mq1 a a1 o1 s z) : AM b F (up_ Mx rx i v) (up_ Mq rq j w) (up_ Mx1 rx i v) (up_ Mq1 rq j w) a a1 o1 s z := by
  obtain ⟨h1, h2, h3, h4, h5, h6, h7, h8, h9, h10, h11, h12, h13⟩ := h
  have X : ∀ (M : mm_) (r : Nat), r ≠ 63 → r ≠ 65 → up_ M rx i v r = M r := fun M r a b => up_ne (by (clear h1 h2 h3 h4 h5 h6 h7 h9 h10 h11 h12; lia))
  have Q : ∀ (M : mm_) (r : Nat), r ≠ 213 → r ≠ 214 → up_ M rq j w r = M r := fun M r a b => up_ne (by (clear hx h1 h2 h3 h4 h5 h6 h7 h9 h10 h11 h12 X; lia))
  have xa : XA Mx (up_ Mx rx i v) := XA_ur (by rcases hx with e | e <;> rw [e] <;> decide) (by (clear h1 h2 h3 h4 h5 h6 h7 h9 h10 h11 h12 X Q; lia)) (by (clear h1 h2 h3 h4 h5 h6 h7 h9 h10 h11 h12 X Q; lia))
  have qa : QA Mq (up_ Mq rq j w) := QA_ur (by rcases hq with e | e <;> rw [e] <;> decide) (by (clear hx h1 h2 h3 h4 h5 h6 h7 h9 h10 h11 h12 X Q xa; lia))
  obtain ⟨t1, t2, t3, t4, t5, t6⟩ := h1
  refine ⟨⟨Tks_a xa qa t1, VT_a xa qa t2, ?_, by rw [Q _ 6 (by decide) (by decide)]; exact t4, by rw [Q _ 6 (by decide) (by decide)]; exact t5, by rw [X _ 5 (by decide) (by decide)]; exact t6⟩, h2, ⟨fun r hr => up_cg (h3.1 r hr), fun k hk => by rw [X _ 1 (by decide) (by decide), X _ 1 (by decide) (by decide)]; exact h3.2.1 k hk, fun k hk => by rw [X _ 5 (by decide) (by decide), X _ 5 (by decide) (by decide)]; exact h3.2.2 k hk⟩, ⟨fun r hr => up_cg (h4.1 r hr), fun k hk => by rw [Q _ 6 (by decide) (by decide), Q _ 6 (by decide) (by decide)]; exact h4.2 k hk⟩, ?_, by rw [Q _ 6 (by decide) (by decide), Q _ 6 (by decide) (by decide)]; exact h6, fun k x y => ?_, by rw [X _ 5 (by decide) (by decide), X _ 5 (by decide) (by decide)]; exact h8, fun k x y => ?_, fun r k hr x y => ?_, fun k x y => ?_, by rw [X _ 1 (by decide) (by decide), X _ 1 (by decide) (by decide)]; exact h12, by rw [Q _ 6 (by decide) (by decide), Q _ 6 (by decide) (by decide)]; exact h13⟩
  · have e1 : up_ Mx rx i v 1 6 = Mx 1 6 := by rw [X _ 1 (by decide) (by decide)]
    rw [e1]
    exact ER_Q (ER_X t3 (X _ _ (by decide) (by decide)) (X _ _ (by decide) (by decide)) (X _ _ (by decide) (by decide))) (by rw [Q _ 6 (by decide) (by decide)]) (by rw [Q _ 6 (by decide) (by decide)]) (by rw [Q _ 6 (by decide) (by decide)]) (by rw [Q _ 6 (by decide) (by decide)]) (by rw [Q _ 6 (by decide) (by decide)])
  · exact ER_Q (ER_X h5 (X _ _ (by decide) (by decide)) (X _ _ (by decide) (by decide)) (X _ _ (by decide) (by decide))) (by rw [Q _ 6 (by decide) (by decide)]) (by rw [Q _ 6 (by decide) (by decide)]) (by rw [Q _ 6 (by decide) (by decide)]) (by rw [Q _ 6 (by decide) (by decide)]) (by rw [Q _ 6 (by decide) (by decide)])
  · rw [Q _ 6 (by decide) (by decide)] at y
    rw [Q _ 227 (by decide) (by decide), Q _ 228 (by decide) (by decide), Q _ 227 (by decide) (by decide), Q _ 228 (by decide) (by decide)]; exact h7 k x y
  · rw [X _ 5 (by decide) (by decide)] at y
    rw [X _ 142 (by decide) (by decide), X _ 142 (by decide) (by decide)]; exact h9 k x y
  · rw [Q _ 6 (by decide) (by decide)] at y
    have n1 : r ≠ 213 := fun e => absurd hr (by rw [e]; decide)
    have n2 : r ≠ 214 := fun e => absurd hr (by rw [e]; decide)
    rw [Q _ r n1 n2, Q _ r n1 n2]; exact h10 r k hr x y
  · rw [Q _ 6 (by decide) (by decide)] at y
    rw [Q _ 209 (by decide) (by decide), Q _ 209 (by decide) (by decide)]; exact h11 k x y
/-- masks of the trans at hand -/
def LM (b : Int) (Mx Mq : mm_) (me : Int) (MX MQ : mm_) : Prop := (MX = Mx ∧ MQ = Mq) ∨ (b = 1 ∧ ∃ k : Int, (0 ≤ k ∧ k < 12) ∧ ((k < Mx 123 (Mx 1 18) ∧ MX = up_ Mx 63 (Mx 1 29 - 1) (or_ (Mx 63 (Mx 1 29 - 1)) (sl_ 1 k)) ∧ MQ = up_ Mq 213 me (or_ (Mq 213 me) (sl_ 1 k))) ∨ (k < 10 ∧ MX = up_ Mx 65 (Mx 1 29 - 1) (or_ (Mx 65 (Mx 1 29 - 1)) (sl_ 1 k)) ∧ MQ = up_ Mq 214 me (or_ (Mq 214 me) (sl_ 1 k)))))
theorem LM_A [Inhabited gh_] (h : LM b Mx Mq me MX MQ) : XA Mx MX ∧ QA Mq MQ := by
  rcases h with ⟨h1, h2⟩ | ⟨_, k, _, ⟨_, h1, h2⟩ | ⟨_, h1, h2⟩⟩
  · rw [h1, h2]; exact ⟨XA_rf, QA_rf⟩
  · rw [h1, h2]; exact ⟨XA_ur (by decide) (by decide) (by decide), QA_ur (by decide) (by decide)⟩
  · rw [h1, h2]; exact ⟨XA_ur (by decide) (by decide) (by decide), QA_ur (by decide) (by decide)⟩
theorem SQ_q [Inhabited gh_] (hq : QA Mq MQ) {Mx' M' : mm_} (h : SQ Mx' MQ M') : SQ Mx' Mq M' := ⟨h.1, h.2.1, h.2.2.1, h.2.2.2.1, QA_tr hq h.2.2.2.2⟩
theorem SQ_c [Inhabited gh_] {Mx' Ms Ms' : mm_} (h : SQ Mx' M Ms) (hq : QA Ms Ms') (e : ∀ i : Int, i = 12 ∨ i = 13 ∨ i = 14 ∨ i = 16 → Ms' 6 i = Ms 6 i) : SQ Mx' M Ms' := by
  obtain ⟨g1, g2, g3, g4, g5⟩ := h
  refine ⟨?_, ?_, ?_, ?_, QA_tr g5 hq⟩
  · unfold sp_ at *; rw [e 13 (by omega), e 16 (by omega)]; exact g1
  · unfold in9_ at *; rw [e 12 (by omega)]; exact g2
  · rw [e 13 (by omega)]; exact g3
  · exact ⟨by rw [e 14 (by omega)]; exact g4.1, g4.2⟩
theorem SQ_em [Inhabited gh_] {Mx' Ms : mm_} {w p : Int} (h : SQ Mx' M Ms) : SQ Mx' M (em_ Ms w p) := SQ_c h (QC_QA em_QC) (fun i hi => em_6 (by omega))
theorem SQ_ur [Inhabited gh_] {Mx' Ms : mm_} {r : Nat} {i v : Int} (h : SQ Mx' M Ms) (hr : r ∈ qaL) (h6 : r ≠ 6) : SQ Mx' M (up_ Ms r i v) := SQ_c h (QA_ur hr h6) (fun i hi => by rw [up_ne (fun e => h6 e.symm)])
/-- the sign at the end -/
theorem y_endl [Inhabited gh_] {d2 d3 m3 : Nat} {as3 : List pv_} (hL : LM b Mx Mq me MX MQ) (A : AM b F MX MQ Mx1 Mq1 a a1 o s z) (hS : b = 1 → tS (Mx 70) 259 a1 ≠ none) (pre : ∀ (Kv : mm_ → Prop) (Qtq : qt_), Tr_ wd0 pg0 (d2 + 3) 244 [.inr (.inr 6), .inl 59] Mq1 (rv_ Kv) Qtq → Tr_ wd0 pg0 d3 m3 as3 Mq (rv_ Kv) Qtq)
    (hz : -5 ≤ z) (ha : a + 1 ≤ a1) (h75 : Mq1 6 75 = Mq 6 75 + 1) (hs : s ≤ 6 * (a1 - a) + 7) {w v : Int} (h204 : Mq1 204 (Mq 6 75) = Mx 71 a ∧ Mq1 203 (Mq 6 75) = w ∧ (w = 2 ∨ w = 5 → Mq1 205 (Mq 6 75) = v)) (hop : b = 1 → Mq1 6 13 = 0 → OPC Mx1 Mq1 (Mq 6 61) (Mq 6 75) (Mx 5 3) (Mx1 5 3) (Mq1 6 104))
    (hK : ∀ MX MQ Mx' Mq' a', LM b Mx Mq me MX MQ → AR b F MX MQ Mx' Mq' a a' o w v → tS (Mx 70) 259 a1 = some a' → (∀ (Kv : mm_ → Prop) (Qtq : qt_), Kv Mq' → Tr_ wd0 pg0 d3 m3 as3 Mq (rv_ Kv) Qtq) → G Mx')
    (hQ : b = 0 → ∀ Mx', XA Mx Mx' → (∀ (Kv : mm_ → Prop) (Qtq : qt_), (∀ M', SQ Mx' Mq M' → Kv M') → Tr_ wd0 pg0 d3 m3 as3 Mq (rv_ Kv) Qtq) → Qt 8 Mx') :
    Tr_ wd0 pg0 (d + 3) 121 [.inr (.inr 1), .inl 59] Mx1 (rv_ G) Qt := by
  have hE := AM_E A
  have hT := AM_T A
  obtain ⟨lx, lq⟩ := LM_A hL
  have l70 : MX 70 = Mx 70 := XA_r lx (by decide)
  have l71 : MX 71 = Mx 71 := XA_r lx (by decide)
  have l6 : MQ 6 75 = Mq 6 75 ∧ MQ 6 61 = Mq 6 61 := by
    rcases hL with ⟨h1, h2⟩ | ⟨_, k, _, ⟨_, h1, h2⟩ | ⟨_, h1, h2⟩⟩
    · rw [h2]; exact ⟨rfl, rfl⟩
    · rw [h2, up_ne (by decide)]; exact ⟨rfl, rfl⟩
    · rw [h2, up_ne (by decide)]; exact ⟨rfl, rfl⟩
  have l5 : MX 5 3 = Mx 5 3 := by
    rcases hL with ⟨h1, h2⟩ | ⟨_, k, _, ⟨_, h1, h2⟩ | ⟨_, h1, h2⟩⟩
    · rw [h1]
    · rw [h1, up_ne (by decide)]
    · rw [h1, up_ne (by decide)]
  have e70 : Mx1 70 = Mx 70 := (AM_70 A).trans l70
  have e71 : Mx1 71 = Mx 71 := (AM_71 A).trans l71
  have hx := XA_tr lx (XC_XA (AM_X A))
  have hq := QA_tr lq (QC_QA (AM_Q A))
  refine y_121 hE (by decide) (fun hb => by rw [e70]; exact hS hb) (fun k1 h12 hE1 => ?_) (fun hb k1 h12 => ?_) (fun hb k1 => ?_)
  · have A1 := AM_go A hE1
    refine hK MX MQ _ (nx_ Mq1) (a1 + 1) hL (AR_fin A1 (by omega) (by omega) (by rw [nx_6 (by decide), l6.1]; exact h75) (by (clear hL A hS pre hz ha h75 h204 hop hK hQ hE hT lx lq l70 l71 l6 l5 e70 e71 hx hq k1 h12 hE1 A1; lia)) (by rw [nx_ne (by decide), nx_ne (by decide), nx_ne (by decide), l6.1, l71]; exact h204) (fun hb h0 => ?_)) (tS_e (by rw [← e70]; exact k1) h12) (fun Kv Qtq hk => pre _ _ (j_244t hT hE (by decide) k1 h12 hk))
    have := OPC_n (hop hb (by rw [nx_6 (by decide)] at h0; exact h0))
    rw [nX_ne (by decide), nx_6 (by decide), l6.1, l6.2, l5]
    exact this
  · refine hQ hb _ (XA_tr hx (XF_XA fl_XF)) fun Kv Qtq hk9 => pre _ _ (j_244r hT hE hb (by decide) k1 h12 (hk9 _ (SQ_bf hE hb (by decide) hq)))
  · refine hQ hb _ (XA_tr hx (XF_XA fl_XF)) fun Kv Qtq hk9 => pre _ _ (j_244w hT hE hb (by decide) k1 (hk9 _ (SQ_bf hE hb (by decide) hq)))
/-- stop -/
theorem y_140s [Inhabited gh_] (h : TA b F Mx Mq a o) (hk : Mx 70 a = 12) (hS : b = 1 → laS (Mx 70) a ≠ none)
    (hK : ∀ MX MQ Mx' Mq' a', LM b Mx Mq me MX MQ → AR b F MX MQ Mx' Mq' a a' o 9 0 → laS (Mx 70) a = some a' → (∀ (Kv : mm_ → Prop) (Qtq : qt_), Kv Mq' → Tr_ wd0 pg0 (dq + 6) 264 [.inr (.inr 6), .inl me] Mq (rv_ Kv) Qtq) → Kv Mx')
    (hQ : b = 0 → ∀ Mx', XA Mx Mx' → (∀ (Kv : mm_ → Prop) (Qtq : qt_), (∀ M', SQ Mx' Mq M' → Kv M') → Tr_ wd0 pg0 (dq + 6) 264 [.inr (.inr 6), .inl me] Mq (rv_ Kv) Qtq) → Qt 8 Mx') :
    Tr_ wd0 pg0 (d + 7) 140 [.inr (.inr 1)] Mx (rv_ Kv) Qt := by
  have hsyn : laS (Mx 70) a = (gS a).bind (tS (Mx 70) 259) := by unfold laS; rw [if_pos hk]
  rw [hsyn] at hS
  have A0 := AM_rf h
  have hE := AM_E A0
  have hT := AM_T A0
  have h01 := hE.2.2.2.2.2.2.2.2.1
  have hc := h.2.2.2.1
  have hae := ER_a hE
  have hp0 : Mq 150 (Mq 6 12) = Mx 71 a := (ER_k hT hE).2.1
  refine t_140 fun V hV hW => b_140_0 (Tr_mono _) hV hW Mx ?_
  refine y_103 hE (fun _ => ?_) (fun e => absurd hk e)
  rw [if_neg (by decide)]
  refine y_105 hE (by omega) (fun hb => by intro c; have := hS hb; rw [c] at this; exact this rfl) (fun h12 hE1 => ?_) (fun hb h12 => ?_)
  rotate_left
  · refine hQ hb _ (XF_XA fl_XF) fun Kv Qtq hk9 => ?_
    have hsp := SQ_bf hE hb (k := 2) (by decide) QA_rf
    refine t_264 fun V hV hW => b_264_0 (Tr_mono _) hV hW me Mq ⟨(ER_k hT hE).2.2.1, j_228f hT hE (by decide) (by omega) ?_⟩
    rw [if_pos rfl]
    refine j_228r hT hE hb (by decide) hk h12 ?_
    rw [if_neg (by decide), hp0]
    have q75 : bf_ Mq 2 (Mx 71 a) 6 75 = Mq 6 75 := bf_6 (by decide) (by decide)
    refine q_266 (by omega) (by (clear h hk hS hK hQ hsyn A0 hE hT h01 hae hp0 hb hk9 hsp hV hW; omega)) ?_
    have hsp2 := SQ_em (w := 9) (p := Mx 71 a) hsp
    exact q_244s hsp2.1 (rv_i (hk9 _ hsp2))
  have A1 := AM_go A0 hE1
  have hp := PXL_1 (v := 41) hE1.2.2.2.2.2.2.1 h01 (PXL_0 (b := b) (M := nX_ Mx))
  have A2 := AM_p A1 hp (by simp only [List.length_cons, List.length_nil]; omega)
  have q75 : nx_ Mq 6 75 = Mq 6 75 := nx_6 (by decide)
  have A3 := AM_em (w := 9) (p := Mx 71 a) A2 q75
  refine x_138 (AM_V A1).1 (ER_st hE1).1 (ER_st hE1).2 ?_
  rw [gS_e h12, Option.bind_some] at hS
  refine y_endl (d2 := dq + 2) (Mx := Mx) (Mq := Mq) (me := me) (.inl ⟨rfl, rfl⟩) A3 hS (fun Kv Qtq hq => ?_) (by omega) (by omega) (by rw [em_75, q75]) (by simp only [List.length_cons, List.length_nil]; (clear h hk hS hK hQ hsyn A0 hE hT h01 hc hae hp0 hV hW h12 hE1 A1 hp A2 q75 A3; lia)) ⟨by rw [← q75, em_204], by rw [← q75, em_203], fun h => absurd h (by decide)⟩ (fun hb h0 => ?_) (fun MX MQ Mx' Mq' a' hL hA hs hq => rv_i (hK MX MQ Mx' Mq' a' hL hA (by rw [hsyn, gS_e h12, Option.bind_some]; exact hs) hq)) hQ
  · refine t_264 fun V hV hW => b_264_0 (Tr_mono _) hV hW me Mq ⟨(ER_k hT hE).2.2.1, j_228f hT hE (by decide) (by omega) ?_⟩
    rw [if_pos rfl]
    refine j_228t hT hE (by decide) hk h12 ?_
    rw [if_neg (by decide), hp0]
    refine q_266 (by omega) (by omega) ?_
    exact Tr_rv hq
  · have hp4 := hp.2.2.2.1 hb
    obtain ⟨s2, _⟩ := hp4.2
    have e53 : nX_ Mx 5 3 = Mx 5 3 := by rw [nX_ne (by decide)]
    rw [e53] at hp4 s2
    refine .inr (.inr (.inr (.inr (.inr (.inr (.inl ⟨?_, ?_, ?_⟩))))))
    · rw [← q75, em_203]
    · simpa using s2
    · rw [hp4.1]; rfl
end LA
end T110_la
section T111_la
/-! the last of a part: join -/
section LJ
variable {d dq n : Nat} {b F : Int} {Mx Mq MX MQ Mx1 Mq1 Mx2 Mq2 M : mm_} {a a1 o o1 s z me : Int} {K : Int → mm_ → Prop} {Kv G : mm_ → Prop} {Qt : qt_} {V : vv_}
theorem lbl_c [Inhabited gh_] {Mq' : mm_} (h : QC Mq Mq') {v : Int} : lbl Mq' v = lbl Mq v := by unfold lbl; rw [h.1 180 (by decide), h.1 175 (by decide), h.2 61 (by decide)]
theorem lbl9_c [Inhabited gh_] {Mx' Mq' : mm_} (hx : XC Mx Mx') (hq : QC Mq Mq') (h : lbl9 Mx Mq) : lbl9 Mx' Mq' := by
  unfold lbl9 nm9_ gd_ at *
  rw [hx.1 70 (by decide), hx.1 62 (by decide), hx.1 128 (by decide), hx.2.1 18 (by decide), hq.1 180 (by decide), hq.1 175 (by decide), hq.1 151 (by decide)]
  exact h
/-- Q: a last with a name, up to its op -/
theorem q_264j [Inhabited gh_] {l : Int} (h : TA b F Mx Mq a o) (h9 : lbl9 Mx Mq) (hk : Mx 70 a = 13) (h12 : a < 1200) (hE1 : ER b F (nX_ Mx) (nx_ Mq) (a + 1) o) (k1 : Mx 70 (a + 1) = 100) (h13 : a + 1 < 1200) (hE2 : ER b F (nX_ (nX_ Mx)) (nx_ (nx_ Mq)) (a + 1 + 1) o) (hl : l = lbl Mq (Mq 151 (a + 1)))
    (hm : 0 ≤ me ∧ me < 1300) (hq : Tr_ wd0 pg0 (dq + 5) 244 [.inr (.inr 6), .inl 59] (up_ (em_ (if b = 0 ∨ l < 0 then Qn_ (nx_ (nx_ Mq)) b (k4g_ l) (Mx 71 (a + 1)) else up_ (nx_ (nx_ Mq)) 214 me (or_ (Mq 214 me) (sl_ 1 l))) 10 (Mx 71 a)) 205 (Mq 6 75) l) (rv_ Kv) Qt) :
    Tr_ wd0 pg0 (dq + 6) 264 [.inr (.inr 6), .inl me] Mq (rv_ Kv) Qt := by
  have A0 := AM_rf h
  have A1 := AM_go A0 hE1
  have A2 := AM_go A1 hE2
  have hE := AM_E A0
  have hT := AM_T A0
  have h01 := hE.2.2.2.2.2.2.2.2.1
  have hc := h.2.2.2.1
  have hae := ER_a hE
  have hp0 : Mq 150 (Mq 6 12) = Mx 71 a := (ER_k hT hE).2.1
  have hp1 : nx_ (nx_ Mq) 150 (a + 1) = Mx 71 (a + 1) := by
    have := (ER_k (AM_T A1) hE1).2.1
    rw [hE1.2.2.1, AM_71 A1] at this
    rw [nx_ne (by decide)]; exact this
  have l9 := lbl9_c (AM_X A2) (AM_Q A2) h9
  have hlr := lbl_r (AM_V A0) h9 (v := Mq 151 (a + 1))
  rw [← hl] at hlr
  refine t_264 fun V hV hW => b_264_0 (Tr_mono _) hV hW me Mq ⟨(ER_k hT hE).2.2.1, j_228f hT hE (by decide) (by omega) ?_⟩
  rw [if_pos rfl]
  refine j_228f hT hE (by decide) (by omega) ?_
  rw [if_pos rfl]
  refine j_228t hT hE (by decide) hk h12 ?_
  rw [if_neg (by decide)]
  refine j_233t (AM_T A1) hE1 (by rw [AM_70 A1]; exact k1) h13 ?_
  refine q_227g (ER_goq hE2) ?_
  rw [if_pos rfl]
  refine ⟨by omega, q_268R (AM_V A2) l9 ?_⟩
  rw [show nx_ (nx_ Mq) 151 = Mq 151 by rw [nx_ne (by decide), nx_ne (by decide)], lbl_c (AM_Q A2), ← hl, hp0]
  have e16 : nx_ (nx_ Mq) 6 16 = b := hE2.2.2.2.2.2.2.2.1
  have q75 : nx_ (nx_ Mq) 6 75 = Mq 6 75 := by rw [nx_6 (by decide), nx_6 (by decide)]
  intro _
  rw [e16]
  by_cases cb : b = 0
  · rw [if_pos cb]
    rw [if_pos (.inl cb)] at hq
    unfold Qn_ at hq
    rw [if_pos (.inl cb)] at hq
    refine b_264_109 (Tr_mono _) hV hW _ _ _ _ _ ?_
    intro _
    rw [e16, if_pos cb]
    refine q_266 (by (clear h h9 hk h12 hE1 k1 h13 hE2 hl hm hq A0 A1 A2 hE hT h01 hae hp0 hp1 l9 hlr hV hW e16 cb; omega)) (by (clear h h9 hk h12 hE1 k1 hE2 hl hm hq A0 A1 A2 hE hT h01 hp0 hp1 l9 hlr hV hW e16 cb; omega)) ?_
    rw [q75]
    exact ⟨by (clear h h9 hk h12 hE1 k1 hE2 hl hm hq A0 A1 A2 hE hT h01 hp0 hp1 l9 hlr hV hW e16 cb; omega), Tr_rv hq⟩
  · rw [if_neg cb]
    by_cases cl : l < 0
    · rw [if_pos cl]
      rw [if_pos (.inr cl)] at hq
      have e4 : k4g_ l = 4 := by unfold k4g_; rw [if_pos (by omega)]
      unfold Qn_ at hq
      rw [if_neg (by (clear h h9 hk h12 hE1 k1 h13 hE2 hl hm hq A0 A1 A2 hE hT h01 hc hae hp0 hp1 l9 hlr hV hW e16 q75 cl; lia)), e4] at hq
      refine ⟨by omega, q_236 ?_⟩
      rw [hp1]
      refine b_264_109 (Tr_mono _) hV hW _ _ _ _ _ ?_
      intro _
      have e162 : nt_ (nx_ (nx_ Mq)) 4 (Mx 71 (a + 1)) 6 16 = b := by rw [nt_6 (by decide) (by decide)]; exact e16
      have q752 : nt_ (nx_ (nx_ Mq)) 4 (Mx 71 (a + 1)) 6 75 = Mq 6 75 := by rw [nt_6 (by decide) (by decide)]; exact q75
      rw [e162, if_neg cb, if_pos cl]
      refine q_266 (by (clear h h9 hk h12 hE1 k1 h13 hE2 hl hm hq A0 A1 A2 hE hT h01 hae hp0 hp1 l9 hlr hV hW e16 cb cl e4 e162; lia)) (by (clear h h9 hk h12 hE1 k1 hE2 hl hm hq A0 A1 A2 hE hT h01 hp0 hp1 l9 hlr hV hW e16 cb cl e4 e162; omega)) ?_
      rw [q752]
      exact ⟨by (clear h h9 hk h12 hE1 k1 hE2 hl hm hq A0 A1 A2 hE hT h01 hp0 hp1 l9 hlr hV hW e16 cb cl e4 e162; omega), Tr_rv hq⟩
    · rw [if_neg cl]
      rw [if_neg (by (clear h h9 hk h12 hE1 k1 h13 hE2 hm hq A0 A1 A2 hE hT h01 hc hae hp0 hp1 l9 hlr hV hW e16 q75; lia))] at hq
      refine b_264_109 (Tr_mono _) hV hW _ _ _ _ _ ?_
      intro _
      have e214 : nx_ (nx_ Mq) 214 me = Mq 214 me := by rw [nx_ne (by decide), nx_ne (by decide)]
      rw [e16, if_neg cb, if_neg cl, e214]
      have q752 : up_ (nx_ (nx_ Mq)) 214 me (or_ (Mq 214 me) (sl_ 1 l)) 6 75 = Mq 6 75 := by rw [up_ne (by decide)]; exact q75
      refine ⟨hm, hm, q_266 (by (clear h h9 hk h12 hE1 k1 h13 hE2 hl hm hq A0 A1 A2 hE hT h01 hae hp0 hp1 l9 hlr hV hW e16 cb cl e214; lia)) (by (clear h h9 hk h12 hE1 k1 hE2 hl hm hq A0 A1 A2 hE hT h01 hp0 hp1 l9 hlr hV hW e16 cb cl e214; omega)) ?_⟩
      rw [q752]
      exact ⟨by (clear h h9 hk h12 hE1 k1 hE2 hl hm hq A0 A1 A2 hE hT h01 hp0 hp1 l9 hlr hV hW e16 cb cl e214; lia), Tr_rv hq⟩
end LJ
end T111_la

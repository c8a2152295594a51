section T186_hn
/-! states: a name heard -/
def HK (M : mm_) (s kk : Int) : Prop := (s = -1 ∧ kk = 4) ∨ (s ≠ -1 ∧ ((uo_ M s ∧ kk = 6) ∨ (¬ uo_ M s ∧ kk = 0)))
section HN
variable {d dq : Nat} {b F F' : Int} {Mx Mq M1 N1 : mm_} {a a' mask ee ee' w s who kk tk k x3 : Int} {A : Int → mm_ → Prop} {Kv : mm_ → Prop} {Qt : qt_}
theorem HK_k [Inhabited gh_] (h : HK M1 s kk) : kk = 0 ∨ (3 ≤ kk ∧ kk ≤ 6) := by
  rcases h with h | ⟨_, h | h⟩ <;> omega
theorem sot_r [Inhabited gh_] (hV : VT Mx Mq) (h9 : sgl9 Mx Mq) {v : Int} : sot Mq v = -1 ∨ (0 ≤ sot Mq v ∧ sot Mq v < 20 ∧ sot Mq v = sgl Mq v) ∨ (100 ≤ sot Mq v ∧ sot Mq v < 103) := by
  have t := tmr_r hV (v := v)
  have u := sgl_r hV h9 (v := v)
  have e := hV.2.2.2.2.2
  have e1 := hV.2.1
  have e9 := h9.1
  rw [e1] at t
  unfold sot
  split
  · rcases u with u | u
    · exact .inl u
    · exact .inr (.inl ⟨u.1, by (clear hV h9 t e e1; omega), rfl⟩)
  · exact .inr (.inr (by omega))
/-- a note more -/
theorem SL_n [Inhabited gh_] (h : SL b F Mx Mq a mask ee w) (hk : kk = 0 ∨ (3 ≤ kk ∧ kk ≤ 6)) (ht : gd_ Mx tk) (hf : Mx 1 7 + 1 + 8 * (1201 - a) ≤ 1000000000 - (gg_ : Int)) : SL b F (Xn_ Mx b kk tk) (Qn_ Mq b kk (Mx 71 tk)) a mask ee w ∧ (Mx 1 7 ≤ Xn_ Mx b kk tk 1 7 ∧ Xn_ Mx b kk tk 1 7 ≤ Mx 1 7 + 1) ∧ (b = 1 → Qn_ Mq b kk (Mx 71 tk) 6 13 = 0 → kk = 0 ∧ Mq 6 13 = 0) := by
  have hp := (h.1.1.1 tk ht).2.2.2.1
  have m := ER_m (TS_E h.1) hk (tk := tk) (by (clear h hk ht hf; omega)) (by (clear h hk ht hp; omega))
  have t5 := h.1.1.2.2.2.2.1
  have n2 := h.1.2.2.2.2.2.2.2.2.2
  have e104 : Qn_ Mq b kk (Mx 71 tk) 6 104 = Mq 6 104 := Qn_6 (by decide) (by decide)
  have e5 : Xn_ Mx b kk tk 5 = Mx 5 := Xn_r (by decide)
  refine ⟨SL_a h (TS_w h.1 Xn_XF (QG_QF (QN_QF QN_Qn)) m.1 (Int.le_refl _) (by rw [e104]; exact t5) (by rw [e5]; exact n2) (by omega)) (XF_XA Xn_XF) (QF_QA (QN_QF QN_Qn)) (Int.le_refl _), m.2⟩
/-- X, pass 2: the signal or timer that a name is, with its note -/
theorem x_hn [Inhabited gh_] (h : SL b F Mx Mq a mask ee w) (ht : nm9_ Mx tk) (h54 : Mx 5 4 ≤ 600) (hA : ∀ kk, HK Mx (sot Mq (Mq 151 tk)) kk → A (sot Mq (Mq 151 tk)) (Xn_ Mx 1 kk tk)) :
    Tr_ wd0 pg0 (d + 5) 172 [.inr (.inr 1), .inl tk] Mx (ri_ fun v M5 => if v = -1 then Tr_ wd0 pg0 (d + 5) 116 [.inr (.inr 1), .inl 4, .inl tk] M5 (rv_ (A v)) Qt else Tr_ wd0 pg0 (d + 5) 170 [.inr (.inr 1), .inl v, .inl tk] M5 (rv_ (A v)) Qt) Qt := by
  have hV := h.1.1.2.1
  have f := ER_fl (TS_E h.1)
  have t0 := ht.1.1
  have t1 := ht.1.2.1
  refine x_172 (d := d + 1) h.1.1.1 hV h.1.2.1.1.1 ht ?_
  by_cases c : sot Mq (Mq 151 tk) = -1
  · rw [if_pos c]
    have := hA 4 (.inl ⟨c, rfl⟩)
    unfold Xn_ at this
    rw [if_neg (by (clear h ht h54 hA hV f t0 t1 c this; lia))] at this
    exact x_116 t0 (by omega) f.1 f.2 this
  · rw [if_neg c]
    refine x_170 hV.1 ⟨h.2.1.1.1, h54⟩ ⟨t0, by (clear h ht h54 hA hV f c; omega)⟩ f (fun u => ?_) (fun u => ?_)
    · have := hA 6 (.inr ⟨c, .inl ⟨u, rfl⟩⟩)
      unfold Xn_ at this
      rw [if_neg (by (clear h ht h54 hA hV f t0 t1 c u this; lia))] at this
      exact this
    · have := hA 0 (.inr ⟨c, .inr ⟨u, rfl⟩⟩)
      unfold Xn_ at this
      rw [if_pos (.inr rfl)] at this
      exact this
theorem Qn_nt [Inhabited gh_] (h16 : Mq 6 16 = b) (h01 : b = 0 ∨ b = 1) (hk : kk ≠ 0) {p : Int} : Qn_ Mq b kk p = nt_ Mq kk p := by
  unfold Qn_
  rcases h01 with hb | hb
  · rw [if_pos (.inl hb)]; unfold nt_; rw [if_pos (by (clear hk; lia))]
  · rw [if_neg (by (clear h16; lia))]
/-- Q's again, both passes -/
theorem q_ag [Inhabited gh_] (h : SL b F Mx Mq a mask ee w) (hH : b = 1 → HK Mx s kk) (hs : s ≠ -1) {p : Int} (h62 : Mq 6 62 ≤ 1300) (h63 : Mq 6 63 ≤ 1300) (hK : Kv (Qn_ Mq b kk p)) : Tr_ wd0 pg0 (d + 2) 309 [.inr (.inr 6), .inl mask, .inl s, .inl p] Mq (rv_ Kv) Qt := by
  have hE := TS_E h.1
  have h01 := bl01 hE
  have h16 : Mq 6 16 = b := hE.2.2.2.2.2.2.2.1
  have hV := h.1.1.2.1
  rcases h01 with hb | hb
  · refine q_309z (by omega) ?_
    unfold Qn_ at hK
    rw [if_pos (.inl hb)] at hK
    exact hK
  · obtain ⟨⟨xs, hs'⟩, hmb, _⟩ := h.2.2.2 hb
    have st9 := h.1.2.2.2.1
    have ua := uo_ag (s := s) hs' hV.2.1 ⟨st9.1.1, st9.1.2.1⟩ st9.1.2.2 hmb
    rcases hH hb with c | ⟨_, ⟨u, e⟩ | ⟨u, e⟩⟩
    · exact absurd c.1 hs
    · refine q_309 (by (clear h hH hs h62 h63 hK hE hV hs' hmb st9 ua u e; lia)) h62 (by rw [hV.2.1]; exact ⟨hV.2.2.1, hV.2.2.2.1⟩) (fun j j0 j1 => ?_) (fun _ => ?_) (fun g => absurd (ua.1 u) g)
      · have := (hs'.2 j j0 j1).2.2.2.1; exact ⟨this.1, by (clear h hH hs h62 hK hE h16 hV hb hs' hmb st9 ua u e j0 j1; omega)⟩
      · rw [← e, ← Qn_nt h16 (.inr hb) (by (clear h hH hs h62 h63 hK hE h16 hV hb hs' hmb st9 ua u; lia))]; exact hK
    · refine q_309 (by omega) h62 (by rw [hV.2.1]; exact ⟨hV.2.2.1, hV.2.2.2.1⟩) (fun j j0 j1 => ?_) (fun g => absurd (ua.2 g) u) (fun _ => ?_)
      · have := (hs'.2 j j0 j1).2.2.2.1; exact ⟨this.1, by omega⟩
      · rw [e] at hK; unfold Qn_ at hK; rw [if_pos (.inr rfl)] at hK; exact hK
end HN
end T186_hn
section T187_hn
/-! states: a name heard, Q's side -/
section HM
variable {d dq : Nat} {b F F' : Int} {Mx Mq M1 N1 : mm_} {a a' mask ee ee' w s who kk tk k x3 : Int} {A : Int → mm_ → Prop} {Kv : mm_ → Prop} {Qt : qt_}
/-- Q stopped at a name heard -/
theorem q_308s [Inhabited gh_] (hE : ER b F Mx Mq a 0) (hT : Tks Mx Mq) (hb : b = 0) (hk : Mx 70 a ≠ 100 ∨ a = 1200) (hn : Mx 70 a ≠ 242)
    (h : Kv (bf_ Mq (if Mx 70 a = 100 then 2 else 1) (Mx 71 a))) : Tr_ wd0 pg0 (d + 4) 308 [.inr (.inr 6), .inl k, .inl mask, .inl x3] Mq (rv_ Kv) Qt := by
  have kq := ER_k hT hE
  have hi := kq.2.2.1
  refine t_308 fun V hV hW => b_308_0 (Tr_mono _) hV hW _ _ _ _ ⟨hi, ?_⟩
  refine j_242f hT hE (by decide) hn ?_
  rw [if_pos rfl]
  by_cases c : Mx 70 a = 100
  · rw [if_pos c] at h
    have h12 : a = 1200 := by rcases hk with h | h; exact absurd c h; exact h
    have hsp := SQ_bf hE hb (k := 2) (by decide) QA_rf
    exact j_233r hT hE hb c h12 (q_227s hsp.1 (by rw [if_neg (by decide)]; exact rv_i h))
  · rw [if_neg c] at h
    have hsp := SQ_bf hE hb (k := 1) (by decide) QA_rf
    exact j_233w hT hE hb c (q_227s hsp.1 (by rw [if_neg (by decide)]; exact rv_i h))
/-- Q stopped ahead of a name heard -/
theorem q_308z [Inhabited gh_] (hs : sp_ Mq) (hi : in9_ Mq) (h : Kv Mq) : Tr_ wd0 pg0 (d + 4) 308 [.inr (.inr 6), .inl k, .inl mask, .inl x3] Mq (rv_ Kv) Qt := by
  refine t_308 fun V hV hW => b_308_0 (Tr_mono _) hV hW _ _ _ _ ⟨hi, ?_⟩
  exact q_242s hs (by rw [if_pos rfl]; exact q_233s hs (q_227s hs (by rw [if_neg (by decide)]; exact rv_i h)))
/-- Q: a name heard up to its in -/
theorem q_308h [Inhabited gh_] (h : SL b F Mx Mq a mask ee w) (hk : Mx 70 a = 100) (h12 : a < 1200) (hE1 : ER b F (nX_ Mx) (nx_ Mq) (a + 1) 0) (hs : s = sot Mq (Mq 151 a)) (hH : b = 1 → HK (nX_ Mx) s kk) (hee : ee ≤ 1000)
    (hK : ∀ V : vv_, Cl_ wd0 (Tr_ wd0 pg0 (d + 3)) V (rv_ Kv) Qt m_308 → Wk_ V → V 132 [rr 6, ii k, ii mask, ii x3, ii (Mx 71 a), ii s, ii a, none, none] [] (Qn_ (nx_ Mq) b kk (Mx 71 a))) : Tr_ wd0 pg0 (d + 4) 308 [.inr (.inr 6), .inl k, .inl mask, .inl x3] Mq (rv_ Kv) Qt := by
  have hE := TS_E h.1
  have hT := h.1.1.1
  have kq := ER_k hT hE
  have hi := kq.2.2.1
  have e12 : Mq 6 12 = a := hE.2.2.1
  have ha := ER_a hE
  have S1 := SL_go h hE1
  have hT1 := S1.1.1.1
  have hV1 := S1.1.1.2.1
  have h91 := S1.1.2.1.1.1
  have h16 : nx_ Mq 6 16 = b := hE1.2.2.2.2.2.2.2.1
  have x151 : nx_ Mq 151 = Mq 151 := nx_ne (by decide)
  have esg : sgl (nx_ Mq) (nx_ Mq 151 a) = sgl Mq (Mq 151 a) := by rw [x151]; exact sgl_a (QF_QA nx_QF)
  have etm : tmr (nx_ Mq) (nx_ Mq 151 a) = tmr Mq (Mq 151 a) := by rw [x151]; exact tmr_c nx_QF
  have t := tmr_r hV1 (v := nx_ Mq 151 a)
  have sr := sot_r h.1.1.2.1 h.1.2.1.1.1 (v := Mq 151 a)
  rw [← hs] at sr
  have bq := h.2.1
  have g1 := ER_goq hE1
  refine t_308 fun V hV hW => b_308_0 (Tr_mono _) hV hW _ _ _ _ ⟨hi, ?_⟩
  have hK' := hK V hV hW
  refine j_242f hT hE (by decide) (by rw [hk]; decide) ?_
  rw [if_pos rfl]
  refine j_233t hT hE hk h12 (q_227g g1 ?_)
  rw [if_pos rfl]
  refine ⟨⟨ha.1, by omega⟩, q_251R hV1 h91 ⟨⟨ha.1, by omega⟩, q_283R hV1 ?_⟩⟩
  have p150 : Mq 150 (Mq 6 12) = Mx 71 a := kq.2.1
  have main : ∀ v4 v5 : Int, V 98 [rr 6, ii k, ii mask, ii x3, ii (Mx 71 a), ii s, ii a, ii v4, ii v5] [] (nx_ Mq) := fun v4 v5 => by
    refine b_308_98 (Tr_mono _) hV hW _ _ _ _ _ _ _ _ _ ?_
    by_cases c : s = -1
    · rw [if_pos (show s < 0 by omega)]
      refine q_236 ?_
      have e4 : b = 1 → kk = 4 := fun hb => by rcases hH hb with c' | c'; exact c'.2; exact absurd c c'.1
      have eq : nt_ (nx_ Mq) 4 (Mx 71 a) = Qn_ (nx_ Mq) b kk (Mx 71 a) := by
        rcases bl01 hE with hb | hb
        · unfold Qn_; rw [if_pos (.inl hb)]; unfold nt_; rw [if_pos (by omega)]
        · rw [e4 hb, Qn_nt h16 (.inr hb) (by decide)]
      rw [eq]
      have S2 := SL_n (kk := kk) S1 (tk := a)
      refine q_227g ?_ (by rw [if_pos rfl, if_pos (show s < 0 by omega)]; exact hK')
      rcases bl01 hE with hb | hb
      · unfold Qn_; rw [if_pos (.inl hb)]; exact g1
      · right; rw [Qn_6 (by decide) (by decide), h16]; omega
    · rw [if_neg (show ¬ s < 0 by omega)]
      refine q_227g g1 ?_
      rw [if_pos rfl, if_neg (show ¬ s < 0 by omega)]
      exact q_ag S1 hH c (by rw [nx_6 (by decide)]; omega) (by rw [nx_6 (by decide)]; omega) hK'
  have e61 : 0 ≤ nx_ Mq 173 (nx_ Mq 6 61) ∧ nx_ Mq 173 (nx_ Mq 6 61) ≤ 3 := by have := hV1.2.2.2.2.2; rw [hV1.2.1]; (clear h hk h12 hE1 hs hH hee hK hE hT kq hi e12 ha S1 hT1 hV1 h91 h16 x151 esg etm t sr bq g1 hV hW hK' p150 main; omega)
  rw [etm] at t
  unfold sot at hs
  rw [esg, etm, p150]
  by_cases c : tmr Mq (Mq 151 a) = -1
  · rw [if_pos c] at hs
    rw [if_pos (by omega), ← hs]
    exact main _ _
  · rw [if_neg c] at hs
    rw [if_neg (by (clear h hk h12 hE1 hH hee hK hE hT kq hi e12 ha S1 hT1 hV1 h91 h16 x151 esg bq g1 hV hW hK' p150 main e61; lia)), w32_id (by (clear h hk h12 hE1 hH hee hK hE hT kq hi e12 ha S1 hT1 hV1 h91 h16 x151 esg t bq g1 hV hW hK' p150 main e61; omega)) (by (clear h hk h12 hE1 hH hee hK hE hT kq hi e12 ha S1 hT1 hV1 h91 h16 x151 esg t bq g1 hV hW hK' p150 main e61; omega)), ← hs]
    exact main _ _
end HM
end T187_hn
section T188_sg
/-! states: what the ins of a line add -/
def xiL : List Nat := [1, 5, 133, 134, 135, 136, 137, 138, 139, 140]
def xiI : List Int := [3, 4, 5, 6, 7, 22]
def qiL : List Nat := [6, 200, 201, 202]
def qiI : List Int := [12, 13, 14, 15, 63]
def SXI (M M' : mm_) : Prop := Fr_ xiL M M' ∧ (∀ i : Int, i ∉ xiI → M' 1 i = M 1 i) ∧ (∀ i : Int, i ≠ 4 → M' 5 i = M 5 i) ∧ M 5 4 ≤ M' 5 4 ∧ (∀ r i, r ∈ stxL → i < M 5 4 → M' r i = M r i) ∧ (∀ i, i < 3 * M 5 4 → M' 137 i = M 137 i)
def SQI (N N' : mm_) : Prop := Fr_ qiL N N' ∧ (∀ i : Int, i ∉ qiI → N' 6 i = N 6 i) ∧ N 6 63 ≤ N' 6 63 ∧ (∀ i, i < N 6 63 → N' 200 i = N 200 i ∧ N' 201 i = N 201 i) ∧ (∀ i, i < 3 * N 6 63 → N' 202 i = N 202 i)
/-- no other stim ahead of c tells the same signal in a state of its own -/
def UQI (M : mm_) (c : Int) : Prop := ∀ y, 0 ≤ y → y < c → ¬ (M 134 y = M 134 c ∧ M 133 y < 2 ∧ M 136 y = M 136 c ∧ an_ (M 135 y) (M 135 c) ≠ 0)
/-- X's stim c and Q's in i: how many values, into which cells -/
def RWI (M N : mm_) (T c i : Int) : Prop := UQI M c ∧ (N 200 i = 200 ∨ (0 ≤ N 200 i ∧ N 200 i < 20) ∨ (100 ≤ N 200 i ∧ N 200 i < 103)) ∧ (0 ≤ N 201 i ∧ N 201 i ≤ 3) ∧ M 138 c = N 201 i ∧ ∀ v, 0 ≤ v → v < N 201 i → M 137 (3 * c + v) = N 202 (3 * i + v) ∧ ∃ u, (0 ≤ u ∧ u < N 171 T) ∧ N 202 (3 * i + v) = N 184 (8 * T + u) ∧ N 183 (8 * T + u) = 0 ∧ N 200 i < 20 ∧ v < N 156 (N 200 i) ∧ N 157 (3 * N 200 i + v) = N 182 (8 * T + u)
/-- the signals that are got -/
def SGB (M M' N N' : mm_) (w : Int) : Prop := (0 ≤ M 1 22 ∧ M 1 22 < 1048576) → (0 ≤ M' 1 22 ∧ M' 1 22 < 1048576) ∧ ∀ s, 0 ≤ s → s < 20 → (bt_ (M' 1 22) s ↔ bt_ (M 1 22) s ∨ (w = 0 ∧ ∃ i, (N 6 63 ≤ i ∧ i < N' 6 63) ∧ N' 200 i = s))
def SLG (b w : Int) (M N M' N' : mm_) : Prop := SXI M M' ∧ SQI N N' ∧ (b = 0 → M' 5 4 = M 5 4 ∧ M' 1 22 = M 1 22) ∧ (b = 1 → M' 5 4 - M 5 4 = N' 6 63 - N 6 63 ∧ SGB M M' N N' w ∧ (N' 6 13 = 0 → N 6 13 = 0 ∧ ∀ j, 0 ≤ j → j < N' 6 63 - N 6 63 → RWI M' N' (N 6 61) (M 5 4 + j) (N 6 63 + j)))
section SG
variable {b w : Int} {M M1 M2 N N1 N2 : mm_}
theorem SXI_rf [Inhabited gh_] : SXI M M := ⟨Fr_rf, fun _ _ => rfl, fun _ _ => rfl, Int.le_refl _, fun _ _ _ _ => rfl, fun _ _ => rfl⟩
theorem SQI_rf [Inhabited gh_] : SQI N N := ⟨Fr_rf, fun _ _ => rfl, Int.le_refl _, fun _ _ => ⟨rfl, rfl⟩, fun _ _ => rfl⟩
theorem SXI_tr [Inhabited gh_] (h1 : SXI M M1) (h2 : SXI M1 M2) : SXI M M2 := by
  obtain ⟨a1, a2, a3, a4, a5, a6⟩ := h1
  obtain ⟨b1, b2, b3, b4, b5, b6⟩ := h2
  exact ⟨Fr_tr a1 b1, fun i h => (b2 i h).trans (a2 i h), fun i h => (b3 i h).trans (a3 i h), by (clear a1 a2 a3 a5 a6 b1 b2 b3 b5 b6; omega), fun r i hr h => (b5 r i hr (by omega)).trans (a5 r i hr h), fun i h => (b6 i (by omega)).trans (a6 i h)⟩
theorem SQI_tr [Inhabited gh_] (h1 : SQI N N1) (h2 : SQI N1 N2) : SQI N N2 := by
  obtain ⟨a1, a2, a4, a5, a6⟩ := h1
  obtain ⟨b1, b2, b4, b5, b6⟩ := h2
  exact ⟨Fr_tr a1 b1, fun i h => (b2 i h).trans (a2 i h), by omega, fun i h => ⟨(b5 i (by omega)).1.trans (a5 i h).1, (b5 i (by omega)).2.trans (a5 i h).2⟩, fun i h => (b6 i (by (clear a1 a2 a5 a6 b1 b2 b4 b5 b6; lia))).trans (a6 i h)⟩
theorem SLG_rf [Inhabited gh_] : SLG b w M N M N := ⟨SXI_rf, SQI_rf, fun _ => ⟨rfl, rfl⟩, fun _ => ⟨by lia, fun h => ⟨h, fun s _ _ => ⟨fun h => .inl h, fun h => by
  rcases h with h | ⟨_, i, h, _⟩
  · exact h
  · omega⟩⟩, fun h => ⟨h, fun j a b => by omega⟩⟩⟩
theorem RWI_c [Inhabited gh_] {T c i : Int} (h : RWI M N T c i) (hx : SXI M M1) (hq : SQI N N1) (hc : c < M 5 4) (hi : i < N 6 63) : RWI M1 N1 T c i := by
  obtain ⟨a1, a2, a3, a4, a5, a6⟩ := hx
  obtain ⟨b1, b2, b4, b5, b6⟩ := hq
  obtain ⟨h0, h1, h2, h3, h4⟩ := h
  have u : UQI M1 c := fun y y0 y1 => by
    rw [a5 134 y (by decide) (by (clear hi a1 a2 a3 a4 a5 a6 b1 b2 b4 b5 b6 h0 h1 h2 h3 h4 y0; omega)), a5 133 y (by decide) (by omega), a5 136 y (by decide) (by omega), a5 135 y (by decide) (by omega), a5 134 c (by decide) hc, a5 136 c (by decide) hc, a5 135 c (by decide) hc]
    exact h0 y y0 y1
  unfold RWI
  rw [(b5 i hi).1, (b5 i hi).2, a5 138 c (by decide) hc, b1 171 (by decide), b1 184 (by decide), b1 183 (by decide), b1 156 (by decide), b1 157 (by decide), b1 182 (by decide)]
  exact ⟨u, h1, h2, h3, fun v x y => by rw [a6 _ (by (clear hi a1 a2 a3 a4 a5 a6 b1 b2 b4 b5 b6 h0 h1 h4 u x; lia)), b6 _ (by (clear hc a1 a2 a3 a4 a5 a6 b1 b2 b4 b5 b6 h0 h1 h4 u x; lia))]; exact h4 v x y⟩
theorem SLG_tr [Inhabited gh_] (h1 : SLG b w M N M1 N1) (h2 : SLG b w M1 N1 M2 N2) : SLG b w M N M2 N2 := by
  obtain ⟨a1, a2, a3, a4⟩ := h1
  obtain ⟨b1, b2, b3, b4⟩ := h2
  refine ⟨SXI_tr a1 b1, SQI_tr a2 b2, fun hb => ⟨(b3 hb).1.trans (a3 hb).1, (b3 hb).2.trans (a3 hb).2⟩, fun hb => ?_⟩
  obtain ⟨c1, c2, c3⟩ := a4 hb
  obtain ⟨d1, d2, d3⟩ := b4 hb
  have q1 := a2.2.2.1
  have q2 := b2.2.2.1
  refine ⟨by omega, fun h => ?_, fun h => ?_⟩
  · obtain ⟨e1, e2⟩ := c2 h
    obtain ⟨f1, f2⟩ := d2 e1
    refine ⟨f1, fun s s0 s1 => ?_⟩
    rw [f2 s s0 s1, e2 s s0 s1]
    constructor
    · rintro ((h | ⟨hw, i, hi, hs⟩) | ⟨hw, i, hi, hs⟩)
      · exact .inl h
      · exact .inr ⟨hw, i, ⟨by (clear a1 a2 a3 a4 b1 b2 b3 b4 hb c1 c2 c3 d1 d2 d3 q1 q2 h e1 e2 f1 f2 s0 s1 hw hs; omega), by (clear a1 a2 a3 a4 b1 b2 b3 b4 hb c1 c2 c3 d1 d2 d3 q1 h e1 e2 f1 f2 s0 s1 hw hs; omega)⟩, by rw [(b2.2.2.2.1 i (by (clear a1 a2 a3 a4 b1 b2 b3 b4 hb c1 c2 c3 d1 d2 d3 q1 q2 h e1 e2 f1 f2 s0 s1 hw hs; omega))).1]; exact hs⟩
      · exact .inr ⟨hw, i, ⟨by (clear a1 a2 a3 a4 b1 b2 b3 b4 hb c1 c2 c3 d1 d2 d3 q2 h e1 e2 f1 f2 s0 s1 hw hs; omega), by omega⟩, hs⟩
    · rintro (h | ⟨hw, i, hi, hs⟩)
      · exact .inl (.inl h)
      · by_cases c : i < N1 6 63
        · exact .inl (.inr ⟨hw, i, ⟨by (clear a1 a2 a3 a4 b1 b2 b3 b4 hb c1 c2 c3 d1 d2 d3 q1 q2 h e1 e2 f1 f2 s0 s1 hw hs c; omega), c⟩, by rw [← (b2.2.2.2.1 i c).1]; exact hs⟩)
        · exact .inr ⟨hw, i, ⟨by (clear a1 a2 a3 a4 b1 b2 b3 b4 hb c1 c2 c3 d1 d2 d3 q1 q2 h e1 e2 f1 f2 s0 s1 hw hi hs; omega), by (clear a1 a2 a3 a4 b1 b2 b3 b4 hb c1 c2 c3 d1 d2 d3 q1 q2 h e1 e2 f1 f2 s0 s1 hw hs c; omega)⟩, hs⟩
  · obtain ⟨e1, e2⟩ := d3 h
    obtain ⟨f1, f2⟩ := c3 e1
    refine ⟨f1, fun j j0 j1 => ?_⟩
    by_cases c : j < N1 6 63 - N 6 63
    · exact RWI_c (f2 j j0 c) b1 b2 (by (clear a1 a2 a3 a4 b1 b2 b3 b4 hb c2 c3 d1 d2 d3 q1 q2 h e1 e2 f1 f2 j0 j1; omega)) (by (clear a1 a2 a3 a4 b1 b2 b3 b4 hb c1 c2 c3 d1 d2 d3 q1 q2 h e1 e2 f1 f2 j0 j1; omega))
    · have := e2 (j - (N1 6 63 - N 6 63)) (by (clear a1 a2 a3 a4 b1 b2 b3 b4 hb c1 c2 c3 d1 d2 d3 q1 q2 h e1 e2 f1 f2 j0 j1; omega)) (by (clear a1 a2 a3 a4 b1 b2 b3 b4 hb c1 c2 c3 d1 d2 d3 q1 q2 h e1 e2 f1 f2 j0 c; lia))
      rw [a2.2.1 61 (by decide), show M1 5 4 + (j - (N1 6 63 - N 6 63)) = M 5 4 + j by (clear a1 a2 a3 a4 b1 b2 b3 b4 hb c2 c3 d1 d2 d3 q1 q2 h e1 e2 f1 f2 j0 j1 c this; lia), show N1 6 63 + (j - (N1 6 63 - N 6 63)) = N 6 63 + j by (clear a1 a2 a3 a4 b1 b2 b3 b4 hb c1 c2 c3 d1 d2 d3 q1 q2 h e1 e2 f1 f2 j0 j1 c this; lia)] at this
      exact this
/-- steps that touch no stim -/
theorem SLG_0 [Inhabited gh_] (hx : SXI M M1) (hq : SQI N N1) (h54 : M1 5 4 = M 5 4) (h22 : M1 1 22 = M 1 22) (h63 : N1 6 63 = N 6 63) (h13 : b = 1 → N1 6 13 = 0 → N 6 13 = 0) : SLG b w M N M1 N1 := by
  refine ⟨hx, hq, fun _ => ⟨h54, h22⟩, fun hb => ⟨by (clear hx hq h22 h13 hb; lia), fun h => ?_, fun h => ⟨h13 hb h, fun j a b => by (clear hx hq h54 h22 h13 hb h; omega)⟩⟩⟩
  rw [h22]
  refine ⟨h, fun s _ _ => ⟨fun h => .inl h, fun h => ?_⟩⟩
  rcases h with h | ⟨_, i, h, _⟩
  · exact h
  · (clear hx hq h54 h22 h13 hb; omega)
theorem XF_SXI [Inhabited gh_] (h : XF M M1) (h142 : M1 142 = M 142) (h53 : M1 5 3 = M 5 3) : SXI M M1 := by
  have e : ∀ r : Nat, r ≠ 1 → r ≠ 5 → M1 r = M r := fun r h1 h5 => by
    by_cases c : r = 142
    · rw [c]; exact h142
    · exact h.1 r (by simp only [List.mem_cons, List.not_mem_nil, or_false, not_or]; exact ⟨h1, h5, c⟩)
  have e5 : ∀ i : Int, M1 5 i = M 5 i := fun i => by
    by_cases c : i = 3
    · rw [c]; exact h53
    · exact h.2.2 i c
  refine ⟨fun r hr => e r (fun c => hr (by rw [c]; decide)) (fun c => hr (by rw [c]; decide)), fun i hi => h.2.1 i (nm_i hi (by decide)) (nm_i hi (by decide)) (nm_i hi (by decide)) (nm_i hi (by decide)) (nm_i hi (by decide)), fun i _ => e5 i, by rw [e5 4]; exact Int.le_refl _, fun r i hr _ => ?_, fun i _ => ?_⟩
  · have : M1 r = M r := e r (fun c => by rw [c] at hr; revert hr; decide) (fun c => by rw [c] at hr; revert hr; decide)
    rw [this]
  · rw [e 137 (by decide) (by decide)]
theorem SXI_nX [Inhabited gh_] : SXI M (nX_ M) := XF_SXI nX_XF (nX_ne (by decide)) (by rw [nX_ne (by decide)])
theorem SXI_Xn [Inhabited gh_] {k a : Int} : SXI M (Xn_ M b k a) := XF_SXI Xn_XF (Xn_r (by decide)) (by rw [Xn_r (by decide)])
theorem SQI_6 [Inhabited gh_] (h : ∀ r : Nat, r ≠ 6 → N1 r = N r) (hi : ∀ i : Int, i ≠ 12 → i ≠ 13 → i ≠ 14 → i ≠ 15 → N1 6 i = N 6 i) : SQI N N1 := ⟨fun r hr => h r (fun c => hr (by rw [c]; decide)), fun i hi' => hi i (nm_i hi' (by decide)) (nm_i hi' (by decide)) (nm_i hi' (by decide)) (nm_i hi' (by decide)), by rw [hi 63 (by decide) (by decide) (by decide) (by decide)]; exact Int.le_refl _, fun i _ => by rw [h 200 (by decide), h 201 (by decide)]; exact ⟨rfl, rfl⟩, fun i _ => by rw [h 202 (by decide)]⟩
theorem SQI_nx [Inhabited gh_] : SQI N (nx_ N) := SQI_6 (fun r h => nx_ne h) (fun i h _ _ _ => nx_6 h)
theorem SQI_Qn [Inhabited gh_] {k p : Int} : SQI N (Qn_ N b k p) := SQI_6 (fun r h => Qn_r h) (fun i _ h1 h2 _ => Qn_6 h1 h2)
theorem SLG_go [Inhabited gh_] : SLG b w M N (nX_ M) (nx_ N) := SLG_0 SXI_nX SQI_nx (by rw [nX_ne (by decide)]) (nX_1 (by decide)) (nx_6 (by decide)) (fun _ h => by rw [nx_6 (by decide)] at h; exact h)
theorem SLG_n [Inhabited gh_] {k a p : Int} (h13 : b = 1 → Qn_ N b k p 6 13 = 0 → k = 0 ∧ N 6 13 = 0) : SLG b w M N (Xn_ M b k a) (Qn_ N b k p) := SLG_0 SXI_Xn SQI_Qn (by rw [Xn_r (by decide)]) (Xn_1 (by decide) (by decide) (by decide)) (Qn_6 (by decide) (by decide)) (fun hb h => (h13 hb h).2)
end SG
end T188_sg
section T189_sg
/-! states: an in more -/
/-- X's mask of signals got -/
def Xg_ (b w s : Int) (M : mm_) : mm_ := if b = 1 ∧ w = 0 ∧ 0 ≤ s ∧ s < 100 then up_ M 1 22 (or_ (M 1 22) (sl_ 1 s)) else M
section SH
variable {b w s F a mask ee : Int} {M M1 M2 N N1 N2 Mx Mq : mm_}
theorem Xg_r [Inhabited gh_] {r : Nat} (h : r ≠ 1) : Xg_ b w s M r = M r := by
  unfold Xg_; split
  · exact up_ne h
  · rfl
theorem Xg_1 [Inhabited gh_] {i : Int} (h : i ≠ 22) : Xg_ b w s M 1 i = M 1 i := by
  unfold Xg_; split
  · exact up_off h
  · rfl
theorem SL_g [Inhabited gh_] (h : SL b F Mx Mq a mask ee w) {w' : Int} : SL b F (Xg_ b w' s Mx) Mq a mask ee w := by
  obtain ⟨h1, ⟨s1, s2, s3⟩, hm, h4⟩ := h
  have e : ∀ r : Nat, r ≠ 1 → Xg_ b w' s Mx r = Mx r := fun r h => Xg_r h
  have xb : XSb Mx (Xg_ b w' s Mx) := ⟨fun r hr => e r (fun h => hr (by rw [h]; decide)), fun i hi => Xg_1 (nm_i hi (by decide)), fun i _ _ => by rw [e 5 (by decide)]⟩
  refine ⟨TS_c h1 xb QSb_rf (fun i h _ => Xg_1 h) (by rw [e 5 (by decide)]) (e _ (by decide)) (e _ (by decide)) (e _ (by decide)) (e _ (by decide)) (fun _ _ _ => rfl) rfl rfl rfl rfl rfl, ⟨by rw [e 5 (by decide)]; exact s1, s2, s3⟩, hm, fun hb => ?_⟩
  obtain ⟨⟨xs, hs⟩, hmb, r⟩ := h4 hb
  refine ⟨⟨xs, SRW_c hs (by rw [e 5 (by decide)]) (e _ (by decide)) (e _ (by decide)) (e _ (by decide)) (e _ (by decide)) (e _ (by decide)) rfl rfl rfl rfl rfl rfl rfl rfl⟩, ?_, ?_⟩
  · rw [Xg_1 (by decide), Xg_1 (by decide), e 123 (by decide)]; exact hmb
  · rw [Xg_1 (by decide)]; exact r
theorem Xh_r [Inhabited gh_] {r : Nat} (h5 : r ≠ 5) (h : r ∉ stxL) : Xh_ b M w s r = M r := by
  unfold Xh_; split
  · rfl
  · exact stX_r h5 h
theorem Xh_5 [Inhabited gh_] {i : Int} (h : i ≠ 4) : Xh_ b M w s 5 i = M 5 i := by
  unfold Xh_; split
  · rfl
  · exact stX_5 h
theorem Xh_54 [Inhabited gh_] : Xh_ b M w s 5 4 = if b = 0 then M 5 4 else M 5 4 + 1 := by
  unfold Xh_; split
  · rfl
  · exact stX_54
theorem Xh_o [Inhabited gh_] {r : Nat} {i : Int} (hr : r ∈ stxL) (h : i ≠ M 5 4) : Xh_ b M w s r i = M r i := by
  unfold Xh_; split
  · rfl
  · exact stX_o hr h
theorem inM_201 [Inhabited gh_] {i : Int} : inM_ N s 201 i = if i = N 6 63 then 0 else N 201 i := by
  unfold inM_
  rw [up_ne (by decide)]
  by_cases c : i = N 6 63
  · rw [if_pos c, c, up_at]
  · rw [if_neg c, up_of2 c, up_ne (by decide)]
theorem SXI_in [Inhabited gh_] {w' : Int} (h01 : b = 0 ∨ b = 1) : SXI M (Xg_ b w' s (Xh_ b M w s)) := by
  refine ⟨fun r hr => ?_, fun i hi => ?_, fun i hi => ?_, ?_, fun r i hr h => ?_, fun i _ => ?_⟩
  · rw [Xg_r (fun c => hr (by rw [c]; decide)), Xh_r (fun c => hr (by rw [c]; decide)) (fun c => hr (by revert c; unfold stxL xiL; simp only [List.mem_cons, List.not_mem_nil, or_false]; (clear h01 hr; lia)))]
  · rw [Xg_1 (nm_i hi (by decide)), Xh_r (by decide) (by decide)]
  · rw [Xg_r (by decide), Xh_5 hi]
  · rw [Xg_r (by decide), Xh_54]; split <;> (clear h01; lia)
  · rw [Xg_r (fun c => by rw [c] at hr; revert hr; decide), Xh_o hr (by omega)]
  · rw [Xg_r (by decide), Xh_r (by decide) (by decide)]
theorem SQI_in [Inhabited gh_] : SQI N (inM_ N s) := by
  refine ⟨fun r hr => inM_r (fun c => hr (by rw [c]; decide)) (fun c => hr (by rw [c]; decide)) (fun c => hr (by rw [c]; decide)), fun i hi => inM_6 (nm_i hi (by decide)), by rw [inM_63]; omega, fun i h => ⟨by rw [inM_200, if_neg (by omega)], by rw [inM_201, if_neg (by omega)]⟩, fun i _ => by rw [inM_r (by decide) (by decide) (by decide)]⟩
/-- the growth of one in -/
theorem SLG_in [Inhabited gh_] (h01 : b = 0 ∨ b = 1) (hs : s = -1 ∨ (s = 200 ∨ (0 ≤ s ∧ s < 20) ∨ (100 ≤ s ∧ s < 103))) (hn : b = 1 → N 6 13 = 0 → s ≠ -1 ∧ ¬ uo_ M s) : SLG b w M N (Xg_ b w s (Xh_ b M w s)) (inM_ N s) := by
  refine ⟨SXI_in h01, SQI_in, fun hb => ⟨?_, ?_⟩, fun hb => ⟨?_, fun hg => ?_, fun h => ?_⟩⟩
  · rw [Xg_r (by decide), Xh_54, if_pos hb]
  · unfold Xg_; rw [if_neg (by omega), Xh_r (by decide) (by decide)]
  · rw [Xg_r (by decide), Xh_54, if_neg (by omega), inM_63]; omega
  · have e22 : Xh_ b M w s 1 22 = M 1 22 := by rw [Xh_r (by decide) (by decide)]
    have ex : ∀ t, (∃ i, (N 6 63 ≤ i ∧ i < inM_ N s 6 63) ∧ inM_ N s 200 i = t) ↔ s = t := fun t => by
      constructor
      · rintro ⟨i, hi, e⟩
        rw [inM_63] at hi
        rw [inM_200, if_pos (by (clear h01 hs hn hb hg e22 e; lia))] at e; exact e
      · intro e
        exact ⟨N 6 63, by rw [inM_63]; (clear h01 hs hn hb hg e22 e; lia), by rw [inM_200, if_pos rfl]; exact e⟩
    by_cases c : b = 1 ∧ w = 0 ∧ 0 ≤ s ∧ s < 100
    · have o := or_bt (x := M 1 22) (k := s) (m := 20) (by decide) hg.1 (by have := hg.2; omega) c.2.2.1 (by omega)
      have e : Xg_ b w s (Xh_ b M w s) 1 22 = or_ (M 1 22) (sl_ 1 s) := by unfold Xg_; rw [if_pos c, up_at, e22]
      rw [e]
      refine ⟨⟨o.1.1, by have := o.1.2; omega⟩, fun t t0 t1 => ?_⟩
      rw [o.2 t t0, ex t]
      constructor
      · rintro (h | h)
        · exact .inl h
        · exact .inr ⟨c.2.1, h.symm⟩
      · rintro (h | ⟨_, h⟩)
        · exact .inl h
        · exact .inr h.symm
    · have e : Xg_ b w s (Xh_ b M w s) 1 22 = M 1 22 := by unfold Xg_; rw [if_neg c, e22]
      rw [e]
      refine ⟨hg, fun t t0 t1 => ?_⟩
      rw [ex t]
      constructor
      · exact fun h => .inl h
      · rintro (h | ⟨hw, h⟩)
        · exact h
        · exact absurd ⟨hb, hw, by (clear h01 hs hn hb hg e22 ex c e hw; lia), by omega⟩ c
  · rw [inM_6 (by decide)] at h
    refine ⟨h, fun j j0 j1 => ?_⟩
    rw [inM_63] at j1
    rw [show j = 0 by (clear h01 hs hn hb h; lia), show M 5 4 + 0 = M 5 4 by omega, show N 6 63 + 0 = N 6 63 by omega]
    have k := stX_k (M := M) (w := w) (s := s)
    have e138 : Xg_ b w s (Xh_ b M w s) 138 (M 5 4) = 0 := by
      rw [Xg_r (by decide)]; unfold Xh_; rw [if_neg (by omega)]; exact k.2.2.2.2.1
    have u : UQI (Xg_ b w s (Xh_ b M w s)) (M 5 4) := fun y y0 y1 => by
      have eh : Xh_ b M w s = stX_ M w s := by unfold Xh_; rw [if_neg (by omega)]
      rw [Xg_r (r := 134) (by decide), Xg_r (r := 133) (by decide), Xg_r (r := 136) (by decide), Xg_r (r := 135) (by decide), eh, k.2.1, k.2.2.1, k.2.2.2.1, stX_o (by decide) (by omega), stX_o (by decide) (by omega), stX_o (by decide) (by omega), stX_o (by decide) (by omega)]
      exact fun e => (hn hb h).2 ⟨y, ⟨y0, y1⟩, e⟩
    unfold RWI
    rw [inM_200, if_pos rfl, inM_201, if_pos rfl, e138]
    exact ⟨u, by have := (hn hb h).1; (clear h01 j0 j1 k e138 u; lia), by omega, rfl, fun v a b => by omega⟩
end SH
end T189_sg
section T190_sv
/-! lists of names in the text; SAVE -/
def nlT (κ : Int → Int) (a : Int) : Option (Int ⊕ Int) := (tS κ 100 a).bind fun a1 => if κ a1 = 244 then (gS a1).bind fun a2 => some (.inl a2) else some (.inr a1)
def NL (κ : Int → Int) (a : Int) : Option Int := LPz (nlT κ) a
section NLs
variable {κ : Int → Int} {a : Int}
theorem nlT_y [Inhabited gh_] {L : Int → Option Int} {X : Option Int} (hX : tS κ 100 a = X) : (nlT κ a).bind (lk8_ L) = X.bind fun a1 => if κ a1 = 244 then (gS a1).bind L else some a1 := by
  unfold nlT
  rw [hX]
  cases X with
  | none => rfl
  | some a1 =>
    rw [Option.bind_some, Option.bind_some]
    by_cases c : κ a1 = 244
    · rw [if_pos c, if_pos c]
      cases gS a1 with
      | none => rfl
      | some a2 => rfl
    · rw [if_neg c, if_neg c]; rfl
theorem nlT_l [Inhabited gh_] (s s' : Int) (h0 : 0 ≤ s) (h1 : s ≤ 1200) (h : nlT κ s = some (.inl s')) : s + 1 ≤ s' ∧ s' ≤ 1200 := by
  unfold nlT at h
  cases e : tS κ 100 s with
  | none => rw [e] at h; exact absurd h (by simp only [Option.bind_none]; intro x; cases x)
  | some a1 =>
    rw [e, Option.bind_some] at h
    have t := tS_s e
    by_cases c : κ a1 = 244
    · rw [if_pos c] at h
      cases e2 : gS a1 with
      | none => rw [e2] at h; exact absurd h (by simp only [Option.bind_none]; intro x; cases x)
      | some a2 =>
        rw [e2, Option.bind_some] at h
        have g := gS_s e2
        injection h with h; injection h with h
        (clear e c e2; omega)
    · rw [if_neg c] at h
      injection h with h; cases h
theorem NL_e [Inhabited gh_] (h0 : 0 ≤ a) (h1 : a ≤ 1200) : NL κ a = (tS κ 100 a).bind fun a1 => if κ a1 = 244 then (gS a1).bind (NL κ) else some a1 := (LP_u (step := nlT κ) (fun s => s) (fun s s' => nlT_l s s') (s := a) h0 h1).trans (nlT_y rfl)
end NLs
/-- a save in the text -/
def svS (κ : Int → Int) (a : Int) : Option Int := (gS a).bind fun a1 => (if κ a1 = 242 then gS a1 else NL κ a1).bind (tS κ 259)
/-- Q within the names of a save -/
def q12 (dq : Nat) (mask k : Int) (N : mm_) (G : mm_ → Prop) (Qt : qt_) : Prop := ∀ V : vv_, Cl_ wd0 (Tr_ wd0 pg0 (dq + 16)) V (rv_ G) Qt m_312 → Wk_ V → V 17 [rr 6, ii mask, ii k, ii 1, ii 0] [] N
/-- Q's end of a line's ins -/
def nE_ (N : mm_) : mm_ := up_ N 199 (N 6 62 - 1) (N 6 63)
section SV
variable {d dq : Nat} {b F : Int} {Mx Mq M1 N1 : mm_} {a mask ee w s kk k : Int} {Kv G : mm_ → Prop} {Qt : qt_} {V : vv_}
theorem nE_r [Inhabited gh_] {N : mm_} {r : Nat} (h : r ≠ 199) : nE_ N r = N r := up_ne h
theorem nE_QSb [Inhabited gh_] {N : mm_} : QSb N (nE_ N) := ⟨fun r hr => nE_r (fun h => hr (by rw [h]; decide)), fun j _ => by rw [nE_r (by decide)]⟩
theorem q_237s [Inhabited gh_] {K : Int → mm_ → Prop} {x : Int} {M : mm_} (hs : sp_ M) (hi : in9_ M) (h : ∀ v, K v M) : Tr_ wd0 pg0 (d + 1) 237 [.inr (.inr 6), .inl x] M (ri_ K) Qt := by
  by_cases c : M 149 (M 6 12) = 3 ∧ M 151 (M 6 12) = x
  · exact q_237t hi c.1 c.2 (h 1)
  · exact q_237f hi c (h 0)
theorem q_234s [Inhabited gh_] {M : mm_} (hs : sp_ M) (hi : in9_ M) (h : Kv M) : Tr_ wd0 pg0 (d + 2) 234 [.inr (.inr 6)] M (rv_ Kv) Qt := q_234n hi (by have := hs.1; omega) h
theorem j_234 [Inhabited gh_] {a o : Int} (hT : Tks Mx Mq) (hE : ER b F Mx Mq a o) (hb : b = 0) (h : Kv (bf_ Mq 1 (Mx 71 a))) : Tr_ wd0 pg0 (d + 2) 234 [.inr (.inr 6)] Mq (rv_ Kv) Qt := by
  have kq := ER_k hT hE
  exact q_234o kq.2.2.1 (hE.2.2.2.2.2.2.2.2.2.1 hb) (by rw [kq.2.1]; exact h)
theorem Xg_w [Inhabited gh_] {M : mm_} : Xg_ b 1 s M = M := by unfold Xg_; rw [if_neg (by omega)]
/-- Q stopped behind a name of a save -/
theorem q12_s [Inhabited gh_] {V' : vv_} {Qtq : qt_} (hV : Cl_ wd0 (Tr_ wd0 pg0 (dq + 16)) V' (rv_ G) Qtq m_312) (hW : Wk_ V') {N : mm_} {x3 x4 : Int} (hs : sp_ N) (h : G N) : V' 17 [rr 6, ii mask, ii k, ii x3, ii x4] [] N := by
  refine b_312_17 (Tr_mono _) hV hW _ _ _ _ _ ?_
  by_cases c : x3 = 0
  · rw [if_pos c]
    exact q_227s hs (by rw [if_neg (by decide)]; exact q_244s hs (rv_i h))
  · rw [if_neg c]
    exact q_227s hs (by rw [if_neg (by decide)]; exact q_227s hs (by rw [if_neg (by decide)]; exact q_244s hs (rv_i h)))
theorem sot_q [Inhabited gh_] (hV : VT Mx Mq) (h9 : sgl9 Mx Mq) {v : Int} (hs : s = sot Mq v) : s = -1 ∨ (s = 200 ∨ (0 ≤ s ∧ s < 20) ∨ (100 ≤ s ∧ s < 103)) := by
  have := sot_r hV h9 (v := v); omega
/-- one name of a save: X up to what comes behind it, Q's 308 -/
theorem y_hn [Inhabited gh_] (h : SL b F Mx Mq a mask ee w) (hE1 : ER b F (nX_ Mx) (nx_ Mq) (a + 1) 0) (hw : w = 0 ∨ w = 1) (sr : s = -1 ∨ (s = 200 ∨ (0 ≤ s ∧ s < 20) ∨ (100 ≤ s ∧ s < 103))) (hH : b = 1 → HK (nX_ Mx) s kk) (h0 : b = 0 → kk = 0) :
    SL b F (Xg_ b w s (Xh_ b (Xn_ (nX_ Mx) b kk a) w s)) (inM_ (Qn_ (nx_ Mq) b kk (Mx 71 a)) s) (a + 1) mask (ee + 1) w ∧ SLG b w Mx Mq (Xg_ b w s (Xh_ b (Xn_ (nX_ Mx) b kk a) w s)) (inM_ (Qn_ (nx_ Mq) b kk (Mx 71 a)) s) ∧ (Mx 1 7 ≤ Xg_ b w s (Xh_ b (Xn_ (nX_ Mx) b kk a) w s) 1 7 ∧ Xg_ b w s (Xh_ b (Xn_ (nX_ Mx) b kk a) w s) 1 7 ≤ Mx 1 7 + 1) := by
  have S1 := SL_go h hE1
  have hE := TS_E h.1
  have h01 := bl01 hE
  have fl := h.1.2.2.2.2.2.1
  have x71 : nX_ Mx 71 = Mx 71 := nX_ne (by decide)
  have hkk : kk = 0 ∨ (3 ≤ kk ∧ kk ≤ 6) := by
    rcases h01 with hb | hb
    · exact .inl (h0 hb)
    · exact HK_k (hH hb)
  have x17 : nX_ Mx 1 7 = Mx 1 7 := nX_1 (by decide)
  have S2 := SL_n S1 hkk (tk := a) (gd_c (nX_ne (by decide)) hE.1) (by rw [x17]; (clear h hE1 hw sr hH h0 S1 hE h01 x71 hkk; lia))
  rw [x71] at S2
  obtain ⟨S2, f2, n2⟩ := S2
  have S3 := SL_in (who := s) (s := s) S2 hw (fun _ => rfl)
  rw [show ee - 1 + 2 = ee + 1 by (clear h hE1 hw sr hH h0 S1 hE h01 fl x71 hkk x17 S2 f2 n2 S3; lia)] at S3
  have S4 := SL_g (w' := w) (s := s) S3
  refine ⟨S4, SLG_tr SLG_go (SLG_tr (SLG_n n2) (SLG_in h01 sr (fun hb e => ?_))), ?_⟩
  · have := n2 hb e
    rcases hH hb with c | ⟨c, ⟨_, c2⟩ | ⟨c2, _⟩⟩
    · omega
    · omega
    · refine ⟨c, fun u => c2 ?_⟩
      unfold uo_ uoR at *
      rw [Xn_r (r := 5) (by decide), Xn_r (r := 134) (by decide), Xn_r (r := 133) (by decide), Xn_r (r := 136) (by decide), Xn_r (r := 135) (by decide), Xn_1 (i := 18) (by decide) (by decide) (by decide), Xn_1 (i := 34) (by decide) (by decide) (by decide)] at u
      exact u
  · rw [Xg_1 (by decide), Xh_r (by decide) (by decide)]; omega
end SV
end T190_sv
section T191_sv
/-! SAVE: its loop -/
/-- Q behind a name of a save -/
def c12 (dq : Nat) (mask k : Int) (V : vv_) (Qt : qt_) (M8 : mm_) : Prop := Tr_ wd0 pg0 (dq + 16) 242 [.inr (.inr 6), .inl 44] M8 (ri_ fun v5 M11 =>
       (if v5 = 0 then
        (if (0 : Int) = 0 then
         V 17 [rr 6, ii mask, ii k, ii 0, ii 0] [] M11
        else
         Tr_ wd0 pg0 (dq + 16) 237 [.inr (.inr 6), .inl 42] M11 (ri_ fun v6 M12 =>
          (if v6 = 0 then
           V 17 [rr 6, ii mask, ii k, ii 0, ii 0] [] M12
          else
           Tr_ wd0 pg0 (dq + 16) 234 [.inr (.inr 6)] M12 (rv_ fun M13 =>
            V 17 [rr 6, ii mask, ii k, ii 0, ii 0] [] M13) Qt)) Qt)
       else
        (if (1 : Int) = 0 then
         V 17 [rr 6, ii mask, ii k, ii 1, ii 0] [] M11
        else
         Tr_ wd0 pg0 (dq + 16) 237 [.inr (.inr 6), .inl 42] M11 (ri_ fun v7 M14 =>
          (if v7 = 0 then
           V 17 [rr 6, ii mask, ii k, ii 1, ii 0] [] M14
          else
           Tr_ wd0 pg0 (dq + 16) 234 [.inr (.inr 6)] M14 (rv_ fun M15 =>
            V 17 [rr 6, ii mask, ii k, ii 1, ii 0] [] M15) Qt)) Qt))) Qt
section SW
variable {d dq : Nat} {b F : Int} {M N M0 N0 : mm_} {a mask k ee s kk w : Int} {Kv G : mm_ → Prop} {Qt Qtq : qt_} {V : vv_}
theorem c12_q [Inhabited gh_] (hE : ER b F M N a 0) (hq : ∀ V' : vv_, Cl_ wd0 (Tr_ wd0 pg0 (dq + 16)) V' (rv_ G) Qtq m_312 → Wk_ V' → Tr_ wd0 pg0 (dq + 16) 308 [.inr (.inr 6), .inl k, .inl mask, .inl 0] N (rv_ (c12 dq mask k V' Qtq)) Qtq) : q12 dq mask k N G Qtq := fun V' hV' hW' => by
  refine b_312_17 (Tr_mono _) hV' hW' _ _ _ _ _ ?_
  rw [if_neg (by decide)]
  refine q_227g (ER_goq hE) ?_
  rw [if_pos rfl]
  exact hq V' hV' hW'
/-- Q: stopped behind a name -/
theorem c12_s [Inhabited gh_] (hV : Cl_ wd0 (Tr_ wd0 pg0 (dq + 16)) V (rv_ G) Qtq m_312) (hW : Wk_ V) (hs : sp_ N) (h : G N) : c12 dq mask k V Qtq N := q_242s hs (by
  rw [if_pos rfl, if_pos rfl]; exact q12_s hV hW hs h)
/-- Q: a name without values -/
theorem q_308n [Inhabited gh_] (h : SL b F M N a mask ee w) (hk : M 70 a = 100) (h12 : a < 1200) (hE1 : ER b F (nX_ M) (nx_ N) (a + 1) 0) (hs : s = sot N (N 151 a)) (hH : b = 1 → HK (nX_ M) s kk) (hee : ee ≤ 20)
    (hK : Kv (inM_ (Qn_ (nx_ N) b kk (M 71 a)) s)) : Tr_ wd0 pg0 (d + 4) 308 [.inr (.inr 6), .inl k, .inl mask, .inl 0] N (rv_ Kv) Qt := by
  have bnd := h.2.1
  have ha := ER_a (TS_E h.1)
  have e63 : Qn_ (nx_ N) b kk (M 71 a) 6 63 = N 6 63 := by rw [Qn_6 (by decide) (by decide), nx_6 (by decide)]
  refine q_308h h hk h12 hE1 hs hH (by omega) (fun V' hV' hW' => ?_)
  refine b_308_132 (Tr_mono _) hV' hW' _ _ _ _ _ _ _ ⟨by (clear h hk hE1 hs hH hK hV' hW'; lia), by omega, ?_⟩
  rw [if_pos rfl, w32_id (by omega) (by omega)]
  exact rv_i hK
theorem l_175 [Inhabited gh_] (hV : Cl_ wd0 (Tr_ wd0 pg0 (d + 6)) V (rv_ Kv) Qt m_175) (hW : Wk_ V) (he : ee ≤ 0) :
    ∀ (n : Nat) (a : Int) (M N : mm_), 1201 - a ≤ (n : Int) → SL b F M N a mask ee 1 → k = N 6 62 - 1 → 2 * N 6 62 ≤ a + 2 + ee → M 70 a ≠ 242 → (b = 1 → ((NL (M 70) a).bind (tS (M 70) 259)) ≠ none) →
    (∀ M' N' a', SS b F (nX_ M') (nx_ (nE_ N')) (a' + 1) mask ee → a + 1 ≤ a' → SLG b 1 M N M' N' → ((NL (M 70) a).bind (tS (M 70) 259) = some (a' + 1)) → (∀ (G : mm_ → Prop) (Qtq : qt_), G (nx_ (nE_ N')) → q12 dq mask k N G Qtq) → Kv (nX_ M')) →
    (b = 0 → ∀ Mx', XSb M Mx' → (∀ (G : mm_ → Prop) (Qtq : qt_), (∀ M', SQb Mx' N M' → G M') → q12 dq mask k N G Qtq) → Qt 8 Mx') →
    V 49 [rr 1, ii 1, none, none, none] [] M
  | 0, a, M, N, hn, h, _, _, _, _, _, _ => by have := ER_a (TS_E h.1); omega
  | n + 1, a, M, N, hn, h, hk, h62, h42, hS, hK, hQ => by
    have hE := TS_E h.1
    have hT := h.1.1.1
    have ha := ER_a hE
    have h01 := bl01 hE
    have bnd := h.2.1
    have fl := h.1.2.2.2.2.2.1
    have hV2 := h.1.1.2.1.1
    have stopped : ∀ {Mx' M2 : mm_}, SQ Mx' N M2 → SQb Mx' N M2 := fun hs => ⟨hs.1, hs.2.1, hs.2.2.1, hs.2.2.2.1, QA_QSb hs.2.2.2.2⟩
    have eNL : NL (M 70) a = (tS (M 70) 100 a).bind fun a1 => if M 70 a1 = 244 then (gS a1).bind (NL (M 70)) else some a1 := NL_e ha.1 ha.2
    rw [eNL] at hS hK
    refine b_175_49 (Tr_mono _) hV hW _ _ ?_
    rw [if_neg (by decide)]
    refine y_107 (d := d + 2) hE (fun hb => by have := hS hb; exact bind_n (bind_n this)) (fun hk1 h12 hE1 => ?_) (fun hb hk1 h12 => ?_) (fun hb hk1 => ?_)
    rotate_left
    · have hsp := SQ_bf hE hb (k := 2) (by decide) QA_rf
      refine hQ hb _ (XA_XSb (XF_XA fl_XF)) (fun G Qtq hg => c12_q hE fun V' hV' hW' => ?_)
      refine q_308s (d := dq + 12) hE hT hb (.inr h12) (by rw [hk1]; decide) ?_
      rw [if_pos hk1]
      exact c12_s hV' hW' hsp.1 (hg _ (stopped hsp))
    · have hsp := SQ_bf hE hb (k := 1) (by decide) QA_rf
      refine hQ hb _ (XA_XSb (XF_XA fl_XF)) (fun G Qtq hg => c12_q hE fun V' hV' hW' => ?_)
      refine q_308s (d := dq + 12) hE hT hb (.inl hk1) h42 ?_
      rw [if_neg hk1]
      exact c12_s hV' hW' hsp.1 (hg _ (stopped hsp))
    have eN2 : ((tS (M 70) 100 a).bind fun a1 => if M 70 a1 = 244 then (gS a1).bind (NL (M 70)) else some a1) = if M 70 (a + 1) = 244 then (gS (a + 1)).bind (NL (M 70)) else some (a + 1) := by rw [tS_e hk1 h12, Option.bind_some]
    rw [eN2] at hS hK
    have tail : ∀ s kk, s = sot N (N 151 a) → (b = 1 → HK (nX_ M) s kk) → (b = 0 → kk = 0) → Tr_ wd0 pg0 (d + 6) 117 [.inr (.inr 1), .inl 44] (Xh_ b (Xn_ (nX_ M) b kk a) 1 s) (ri_ fun v2 M3 => if v2 = 0 then V 49 [rr 1, ii v2, none, none, none] [] M3 else Tr_ wd0 pg0 (d + 6) 105 [.inr (.inr 1)] M3 (rv_ fun M4 => V 49 [rr 1, ii v2, none, none, none] [] M4) Qt) Qt := fun s kk hs hH h0 => by
      have P := y_hn h hE1 (.inr rfl) (sot_q h.1.1.2.1 h.1.2.1.1.1 hs) hH h0
      rw [Xg_w] at P
      have q308 : ∀ (G : mm_ → Prop) (Qtq : qt_), (∀ V' : vv_, Cl_ wd0 (Tr_ wd0 pg0 (dq + 16)) V' (rv_ G) Qtq m_312 → Wk_ V' → c12 dq mask k V' Qtq (inM_ (Qn_ (nx_ N) b kk (M 71 a)) s)) → q12 dq mask k N G Qtq := fun G Qtq hq => c12_q hE fun V' hV' hW' => q_308n (d := dq + 12) h hk1 h12 hE1 hs hH (by omega) (hq V' hV' hW')
      generalize eM1 : Xh_ b (Xn_ (nX_ M) b kk a) 1 s = M1 at P ⊢
      generalize eN1 : inM_ (Qn_ (nx_ N) b kk (M 71 a)) s = N1 at P q308
      clear eM1 eN1
      obtain ⟨S1, G1, f1⟩ := P
      have x70 : M1 70 = M 70 := G1.1.1 70 (by decide)
      have q62 : N1 6 62 = N 6 62 := G1.2.1.2.1 62 (by decide)
      have hE' := TS_E S1.1
      have hT' := S1.1.1.1
      have xs1 : XSb M M1 := ⟨Fr_sub G1.1.1 (by decide), fun i hi => G1.1.2.1 i (fun e => hi (by revert e; unfold xiI xbI; simp only [List.mem_cons, List.not_mem_nil, or_false]; (clear hV hW he hn h hk h62 h42 hS hK hQ hE hT ha h01 bnd fl hV2 stopped eNL hk1 h12 hE1 eN2 hs hH h0 q308 S1 G1 f1 x70 q62 hE' hT' hi; lia))), fun i _ h4 => G1.1.2.2.1 i h4⟩
      have qs1 : QSb N N1 := ⟨Fr_sub G1.2.1.1 (by decide), fun i hi => G1.2.1.2.1 i (fun e => hi (by revert e; unfold qiI qbI; simp only [List.mem_cons, List.not_mem_nil, or_false]; (clear hV hW he hn h hk h62 h42 hS hK hQ hE hT ha h01 bnd fl hV2 stopped eNL hk1 h12 hE1 eN2 hs hH h0 q308 S1 G1 f1 x70 q62 hE' hT' xs1 hi; lia)))⟩
      have stop1 : ∀ {Mx' M2 : mm_}, SQ Mx' N1 M2 → SQb Mx' N M2 := fun hs => ⟨hs.1, hs.2.1, hs.2.2.1, hs.2.2.2.1, QSb_tr qs1 (QA_QSb hs.2.2.2.2)⟩
      have b1 := S1.2.1
      refine y_117 hE' (by decide) (fun c => ?_) (fun c => ?_)
      · have c' : M 70 (a + 1) = 244 := by rw [← x70]; exact c
        rw [if_pos c'] at hS hK
        rw [if_neg (by decide)]
        refine y_105 hE' (by rw [c]; decide) (fun hb => bind_n (bind_n (hS hb))) (fun h13 hE2 => ?_) (fun hb h13 => ?_)
        · rw [gS_e h13, Option.bind_some] at hS hK
          have S2 := SL_go S1 hE2
          rw [show ee + 1 - 1 = ee by omega] at S2
          have y70 : nX_ M1 70 = M 70 := by rw [nX_ne (by decide)]; exact x70
          have G2 : SLG b 1 M N (nX_ M1) (nx_ N1) := SLG_tr G1 SLG_go
          have q2 : ∀ (G : mm_ → Prop) (Qtq : qt_), nX_ M1 70 (a + 1 + 1) ≠ 242 → q12 dq mask k (nx_ N1) G Qtq → q12 dq mask k N G Qtq := fun G Qtq c2 hq => q308 G Qtq fun V' hV' hW' => j_242t hT' hE' (by decide) c h13 (by
            rw [if_neg (by decide), if_neg (by decide)]
            exact j_237f S2.1.1.1 hE2 (by decide) c2 (by rw [if_pos rfl]; exact hq V' hV' hW'))
          have xs2 : XSb M (nX_ M1) := XSb_tr xs1 (XA_XSb (XF_XA nX_XF))
          have qs2 : QSb N (nx_ N1) := QSb_tr qs1 (QA_QSb (QF_QA nx_QF))
          have hE2' := TS_E S2.1
          by_cases c2 : nX_ M1 70 (a + 1 + 1) = 242
          · -- '*' behind a comma
            rcases h01 with hb | hb
            · refine b_175_49 (Tr_mono _) hV hW _ _ ?_
              rw [if_neg (by decide)]
              refine y_107 (d := d + 2) hE2' (fun hb1 => by (clear hV hW he hn h hk h62 h42 hS hK hQ hE hT ha bnd fl hV2 stopped eNL hk1 h12 hE1 eN2 hs hH h0 q308 S1 G1 f1 x70 q62 hE' hT' xs1 qs1 stop1 b1 c c' h13 hE2 S2 y70 G2 q2 xs2 qs2 hE2' c2; lia)) (fun k2 _ _ => by omega) (fun _ k2 _ => by omega) (fun hb k2 => ?_)
              have hsp := SQ_bf hE2' hb (k := 1) (by decide) QA_rf
              refine hQ hb _ (XSb_tr xs2 (XA_XSb (XF_XA fl_XF))) (fun G Qtq hg => q308 G Qtq fun V' hV' hW' => j_242t hT' hE' (by decide) c h13 ?_)
              rw [if_neg (by decide), if_neg (by decide)]
              refine j_237t S2.1.1.1 hE2 (by decide) c2 ?_
              rw [if_neg (by decide)]
              refine j_234 S2.1.1.1 hE2 hb ?_
              exact q12_s hV' hW' hsp.1 (hg _ ⟨hsp.1, hsp.2.1, hsp.2.2.1, hsp.2.2.2.1, QSb_tr qs2 (QA_QSb hsp.2.2.2.2)⟩)
            · exfalso
              have h9 := hS hb
              rw [NL_e (by omega) (by omega)] at h9
              have := (tS_n (bind_n (bind_n h9))).1
              rw [← y70, c2] at this
              exact absurd this (by decide)
          · refine l_175 hV hW he n (a + 1 + 1) (nX_ M1) (nx_ N1) (by omega) S2 (by rw [nx_6 (by decide), q62]; exact hk) (by rw [nx_6 (by decide), q62]; (clear hV hW he hn h hk h42 hS hK hQ hE hT ha h01 bnd fl hV2 stopped eNL hk1 h12 hE1 eN2 hs hH h0 q308 S1 G1 f1 x70 hE' hT' xs1 qs1 stop1 b1 c c' h13 hE2 S2 y70 G2 q2 xs2 qs2 hE2' c2; lia)) c2 (by rw [y70]; exact hS) (fun M' N' a' SS' ha' G' hsy hq => ?_) (fun hb Mx' hx hq => ?_)
            · rw [y70] at hsy
              exact hK M' N' a' SS' (by (clear hV hW he hn h hk h62 h42 hS hK hQ hE hT ha h01 bnd fl hV2 stopped eNL hk1 h12 hE1 eN2 hs hH h0 q308 S1 G1 f1 x70 q62 hE' hT' xs1 qs1 stop1 b1 c c' h13 hE2 S2 y70 G2 q2 xs2 qs2 hE2' c2 SS' G' hsy hq; lia)) (SLG_tr G2 G') hsy (fun G Qtq hg => q2 G Qtq c2 (hq G Qtq hg))
            · exact hQ hb Mx' (XSb_tr xs2 hx) (fun G Qtq hg => q2 G Qtq c2 (hq G Qtq fun M' p => hg _ ⟨p.1, p.2.1, p.2.2.1, p.2.2.2.1, QSb_tr qs2 p.2.2.2.2⟩))
        · have hsp := SQ_bf hE' hb (k := 2) (by decide) QA_rf
          refine hQ hb _ (XSb_tr xs1 (XA_XSb (XF_XA fl_XF))) (fun G Qtq hg => q308 G Qtq fun V' hV' hW' => j_242r hT' hE' hb (by decide) c h13 ?_)
          rw [if_neg (by decide), if_neg (by decide)]
          refine q_237s hsp.1 hsp.2.1 (fun v7 => ?_)
          by_cases c7 : v7 = 0
          · rw [if_pos c7]; exact q12_s hV' hW' hsp.1 (hg _ (stop1 hsp))
          · rw [if_neg c7]; exact q_234s hsp.1 hsp.2.1 (q12_s hV' hW' hsp.1 (hg _ (stop1 hsp)))
      · have c' : M 70 (a + 1) ≠ 244 := by rw [← x70]; exact c
        rw [if_neg c', Option.bind_some] at hS hK
        rw [if_pos rfl]
        refine b_175_49 (Tr_mono _) hV hW _ _ ?_
        rw [if_pos rfl]
        have S5 := SL_end S1 (by rw [q62]; (clear hV hW he hn h hk h42 hS hK hQ hE hT ha h01 bnd fl hV2 stopped eNL hk1 h12 hE1 eN2 hs hH h0 q308 S1 G1 f1 x70 hE' hT' xs1 qs1 stop1 b1 c c'; lia))
        have hE5 : ER b F M1 (nE_ N1) (a + 1) 0 := TS_E S5.1
        have hT5 : Tks M1 (nE_ N1) := S5.1.1.1
        have q5 : ∀ (G : mm_ → Prop) (Qtq : qt_), (∀ V' : vv_, Cl_ wd0 (Tr_ wd0 pg0 (dq + 16)) V' (rv_ G) Qtq m_312 → Wk_ V' → Tr_ wd0 pg0 (dq + 16) 244 [.inr (.inr 6), .inl 59] (nE_ N1) (rv_ fun M3 => rv_ G [] M3) Qtq) → q12 dq mask k N G Qtq := fun G Qtq hq => q308 G Qtq fun V' hV' hW' => j_242f hT' hE' (by decide) c (by
          rw [if_pos rfl, if_pos rfl]
          refine b_312_17 (Tr_mono _) hV' hW' _ _ _ _ _ ?_
          rw [if_pos rfl]
          refine q_227g (ER_goq hE') ?_
          rw [if_pos rfl]
          refine ⟨by (clear hV hW he hn h h62 h42 hS hK hQ hE hT ha h01 fl hV2 stopped eNL hk1 h12 hE1 eN2 hs hH h0 q308 S1 G1 f1 x70 hE' hT' xs1 qs1 stop1 b1 c c' S5 hE5 hT5 hq hV' hW'; omega), ?_⟩
          have := hq V' hV' hW'
          unfold nE_ at this
          rw [hk, ← q62]
          exact this)
        refine y_121 hE5 (by decide) (fun hb => by rw [x70]; exact hS hb) (fun k1 h13 hE2 => ?_) (fun hb k1 h13 => ?_) (fun hb k1 => ?_)
        · have S6 := SS_go S5 hE2
          rw [show ee + 1 - 1 = ee by (clear hV hW he hn h hk h62 h42 hS hK hQ hE hT ha h01 bnd fl hV2 stopped eNL hk1 h12 hE1 eN2 hs hH h0 q308 S1 G1 f1 x70 q62 hE' hT' xs1 qs1 stop1 b1 c c' S5 hE5 hT5 q5 k1 h13 hE2 S6; lia)] at S6
          exact rv_i (hK M1 N1 (a + 1) S6 (by (clear hV hW he hn h hk h62 h42 hS hK hQ hE hT ha h01 bnd fl hV2 stopped eNL hk1 h12 hE1 eN2 hs hH h0 q308 S1 G1 f1 x70 q62 hE' hT' xs1 qs1 stop1 b1 c c' S5 hE5 hT5 q5 k1 h13 hE2 S6; lia)) G1 (by rw [← x70]; exact tS_e k1 h13) (fun G Qtq hg => q5 G Qtq fun V' hV' hW' => j_244t hT5 hE5 (by decide) k1 h13 (rv_i hg)))
        · have hsp := SQ_bf hE5 hb (k := 2) (by decide) QA_rf
          refine hQ hb _ (XSb_tr xs1 (XA_XSb (XF_XA fl_XF))) (fun G Qtq hg => q5 G Qtq fun V' hV' hW' => j_244r hT5 hE5 hb (by decide) k1 h13 (rv_i (hg _ ?_)))
          exact ⟨hsp.1, hsp.2.1, hsp.2.2.1, hsp.2.2.2.1, QSb_tr qs1 (QSb_tr nE_QSb (QA_QSb hsp.2.2.2.2))⟩
        · have hsp := SQ_bf hE5 hb (k := 1) (by decide) QA_rf
          refine hQ hb _ (XSb_tr xs1 (XA_XSb (XF_XA fl_XF))) (fun G Qtq hg => q5 G Qtq fun V' hV' hW' => j_244w hT5 hE5 hb (by decide) k1 (rv_i (hg _ ?_)))
          exact ⟨hsp.1, hsp.2.1, hsp.2.2.1, hsp.2.2.2.1, QSb_tr qs1 (QSb_tr nE_QSb (QA_QSb hsp.2.2.2.2))⟩
    intro _
    have m8 : nX_ M 1 8 = b := by rw [nX_1 (by decide)]; exact hE.2.2.2.2.2.2.1
    rcases h01 with hb | hb
    · rw [if_pos (by (clear hV hW he hn h hk h62 h42 hS hK hQ hE hT ha bnd fl hV2 stopped eNL hk1 h12 hE1 eN2 tail; lia))]
      have := tail _ 0 rfl (fun hb1 => by (clear hV hW he hn h hk h62 h42 hS hK hQ hE hT ha bnd fl hV2 stopped eNL hk1 h12 hE1 eN2 tail m8; lia)) (fun _ => rfl)
      unfold Xh_ Xn_ at this
      rw [if_pos hb, if_pos (.inl hb)] at this
      exact this
    · rw [if_neg (by (clear hV hW he hn h hk h62 h42 hS hK hQ hE hT ha bnd fl hV2 stopped eNL hk1 h12 hE1 eN2 tail; lia))]
      have S1 := SL_go h hE1
      have x54 : nX_ M 5 4 = M 5 4 := by rw [nX_ne (by decide)]
      have es : sot (nx_ N) (nx_ N 151 a) = sot N (N 151 a) := by
        unfold sot
        rw [nx_ne (r := 151) (by decide), tmr_c nx_QF, sgl_a (QF_QA nx_QF)]
      refine x_hn (d := d + 1) (A := fun v M5 => Tr_ wd0 pg0 (d + 6) 171 [.inr (.inr 1), .inl 1, .inl v] M5 (ri_ fun v4 M7 => Tr_ wd0 pg0 (d + 6) 117 [.inr (.inr 1), .inl 44] M7 (ri_ fun v5 M8 => if v5 = 0 then V 49 [rr 1, ii v5, none, none, none] [] M8 else Tr_ wd0 pg0 (d + 6) 105 [.inr (.inr 1)] M8 (rv_ fun M9 => V 49 [rr 1, ii v5, none, none, none] [] M9) Qt) Qt) Qt) S1 ⟨gd_c (nX_ne (by decide)) hE.1, by rw [nX_ne (by decide)]; exact hk1⟩ (by rw [x54]; (clear hV hW hn h hk h62 h42 hS hK hQ hE hT fl hV2 stopped eNL hk1 hE1 eN2 tail m8 hb S1 es; lia)) (fun kk hH => ?_)
      rw [es] at hH ⊢
      have := tail _ kk rfl (fun _ => hH) (fun hb0 => by omega)
      unfold Xh_ at this
      rw [if_neg (by omega), hb] at this
      refine x_171 (by rw [Xn_1 (by decide) (by decide) (by decide), nX_1 (by decide)]; exact hV2) (by rw [Xn_r (by decide), x54]; (clear hV hW hn h hk h62 h42 hS hK hQ hE hT fl hV2 stopped eNL hk1 hE1 eN2 tail m8 hb S1 es hH this; omega)) this
end SW
end T191_sv
section T192_sv
/-! SAVE and '*' -/
section CM
variable {b F : Int} {M N Mx Mq : mm_} {a k w s kk mask ee : Int}
theorem up_cc [Inhabited gh_] {r r' : Nat} {i i' v v' : Int} (h : r ≠ r' ∨ i ≠ i') : up_ (up_ M r i v) r' i' v' = up_ (up_ M r' i' v') r i v := by
  by_cases c : r = r'
  · rw [← c]; exact up_cm (by rcases h with h | h; exact absurd c h; exact h)
  · funext x
    by_cases c1 : x = r
    · rw [up_ne (r := r') (by rw [c1]; exact c), c1]
      funext j
      by_cases c2 : j = i
      · rw [c2, up_at, up_at]
      · rw [up_of2 c2, up_of2 c2, up_ne c]
    · rw [up_ne (r := r) c1]
      by_cases c3 : x = r'
      · rw [c3]; funext j
        by_cases c2 : j = i'
        · rw [c2, up_at, up_at]
        · rw [up_of2 c2, up_of2 c2, up_ne (fun e => c e.symm)]
      · rw [up_ne c3, up_ne c3, up_ne c1]
theorem nX_Xn [Inhabited gh_] : nX_ (Xn_ M b k a) = Xn_ (nX_ M) b k a := by
  unfold Xn_
  split
  · rfl
  · unfold nt1_
    rw [nX_1 (i := 4) (by decide), nX_1 (i := 5) (by decide), nX_1 (i := 7) (by decide), nX_ne (r := 71) (by decide)]
    split
    · unfold nX_
      rw [up_off (by decide), up_off (by decide), up_off (by decide), up_cc (.inr (by decide)), up_cc (r := 1) (i := 4) (.inr (by decide)), up_cc (r := 1) (i := 7) (.inr (by decide))]
    · unfold nX_
      rw [up_off (by decide), up_cc (.inr (by decide))]
theorem nX_st [Inhabited gh_] : nX_ (stX_ M w s) = stX_ (nX_ M) w s := by
  have e3 : stX_ M w s 1 3 = M 1 3 := by rw [stX_r (by decide) (by decide)]
  have e : nX_ (stX_ M w s) = up_ (stX_ M w s) 1 3 (M 1 3 + 1) := by unfold nX_; rw [e3]
  rw [e]
  unfold stX_
  rw [nX_ne (r := 5) (by decide), nX_1 (i := 18) (by decide), nX_1 (i := 34) (by decide)]
  rw [up_cc (r := 140) (.inl (by decide)), up_cc (r := 139) (.inl (by decide)), up_cc (r := 138) (.inl (by decide)), up_cc (r := 136) (.inl (by decide)), up_cc (r := 135) (.inl (by decide)), up_cc (r := 134) (.inl (by decide)), up_cc (r := 133) (.inl (by decide)), up_cc (r := 5) (.inl (by decide))]
  rfl
theorem nX_Xh [Inhabited gh_] : nX_ (Xh_ b (Xn_ M b k a) w s) = Xh_ b (Xn_ (nX_ M) b k a) w s := by
  rw [← nX_Xn]
  unfold Xh_
  split
  · rfl
  · exact nX_st
theorem uo_nX [Inhabited gh_] : uo_ (nX_ M) s ↔ uo_ M s := by
  unfold uo_ uoR
  rw [nX_ne (r := 5) (by decide), nX_ne (r := 134) (by decide), nX_ne (r := 133) (by decide), nX_ne (r := 136) (by decide), nX_ne (r := 135) (by decide), nX_1 (i := 18) (by decide), nX_1 (i := 34) (by decide)]
theorem HK_nX [Inhabited gh_] (h : HK M s kk) : HK (nX_ M) s kk := by
  unfold HK at *
  rw [uo_nX]; exact h
end CM
section ST
variable {d dq : Nat} {b F : Int} {M N Mx Mq : mm_} {a mask k ee s kk w x3 : Int} {Kv G : mm_ → Prop} {Qt Qtq : qt_} {V : vv_}
/-- Q: '*' heard -/
theorem q_308a [Inhabited gh_] (h : SL b F M N a mask ee w) (hk : M 70 a = 242) (h12 : a < 1200) (hE1 : ER b F (nX_ M) (nx_ N) (a + 1) 0) (hH : b = 1 → HK (nX_ M) 200 kk) (hee : ee ≤ 20)
    (hK : Kv (inM_ (Qn_ (nx_ N) b kk (M 71 a)) 200)) : Tr_ wd0 pg0 (d + 4) 308 [.inr (.inr 6), .inl k, .inl mask, .inl x3] N (rv_ Kv) Qt := by
  have hE := TS_E h.1
  have hT := h.1.1.1
  have kq := ER_k hT hE
  have bnd := h.2.1
  have ha := ER_a hE
  have S1 := SL_go h hE1
  have e63 : Qn_ (nx_ N) b kk (M 71 a) 6 63 = N 6 63 := by rw [Qn_6 (by decide) (by decide), nx_6 (by decide)]
  refine t_308 fun V' hV' hW' => b_308_0 (Tr_mono _) hV' hW' _ _ _ _ ⟨kq.2.2.1, ?_⟩
  refine j_242t hT hE (by decide) hk h12 ?_
  rw [if_neg (by decide)]
  refine q_227g (ER_goq hE1) ?_
  rw [if_pos rfl, if_neg (by decide), kq.2.1]
  refine q_ag S1 hH (by decide) (by rw [nx_6 (by decide)]; (clear h hk h12 hE1 hH hee hK hE hT kq ha S1 e63 hV' hW'; omega)) (by rw [nx_6 (by decide)]; (clear h hk hE1 hH hK hE hT kq S1 hV' hW'; omega)) ?_
  refine b_308_132 (Tr_mono _) hV' hW' _ _ _ _ _ _ _ ⟨by (clear h hk hE1 hH hK hE hT kq S1 hV' hW'; omega), by omega, ?_⟩
  rw [w32_id (by (clear h hk h12 hE1 hH hee hK hE hT kq ha S1 hV' hW'; omega)) (by (clear h hk hE1 hH hK hE hT kq S1 hV' hW'; omega))]
  by_cases c : x3 = 0
  · rw [if_pos c]; exact rv_i hK
  · rw [if_neg c, if_pos rfl]; exact rv_i hK
theorem q_308b [Inhabited gh_] (hE : ER b F M N a 0) (hT : Tks M N) (hb : b = 0) (hk : M 70 a = 242) (h12 : a = 1200) (hK : Kv (bf_ N 2 (M 71 a))) : Tr_ wd0 pg0 (d + 4) 308 [.inr (.inr 6), .inl k, .inl mask, .inl x3] N (rv_ Kv) Qt := by
  have kq := ER_k hT hE
  have hsp := SQ_bf hE hb (k := 2) (by decide) QA_rf
  refine t_308 fun V' hV' hW' => b_308_0 (Tr_mono _) hV' hW' _ _ _ _ ⟨kq.2.2.1, ?_⟩
  refine j_242r hT hE hb (by decide) hk h12 ?_
  rw [if_neg (by decide)]
  exact q_227s hsp.1 (by rw [if_neg (by decide)]; exact rv_i hK)
/-- X: '*' heard: notes and a stim, then a token on -/
theorem x_st [Inhabited gh_] (h : SL b F M N a mask ee w) (hk : M 70 a = 242) (he : ee ≤ 0) (hS : b = 1 → gS a ≠ none)
    (hK : ∀ kk, (b = 1 → HK (nX_ M) 200 kk) → (b = 0 → kk = 0) → a < 1200 → ER b F (nX_ M) (nx_ N) (a + 1) 0 → Kv (Xh_ b (Xn_ (nX_ M) b kk a) w 200)) (hQ : b = 0 → a = 1200 → Qt 8 (flX_ M 2 a)) :
    bl_ (M 1 8) → (if M 1 8 = 0 then Tr_ wd0 pg0 (d + 6) 105 [.inr (.inr 1)] M (rv_ Kv) Qt else
      Tr_ wd0 pg0 (d + 6) 170 [.inr (.inr 1), .inl 200, .inl (M 1 3)] M (rv_ fun M9 => Tr_ wd0 pg0 (d + 6) 171 [.inr (.inr 1), .inl w, .inl 200] M9 (ri_ fun v5 M10 => Tr_ wd0 pg0 (d + 6) 105 [.inr (.inr 1)] M10 (rv_ Kv) Qt) Qt) Qt) := by
  intro _
  have hE := TS_E h.1
  have ha := ER_a hE
  have h01 := bl01 hE
  have fl := h.1.2.2.2.2.2.1
  have m8 : M 1 8 = b := hE.2.2.2.2.2.2.1
  have hV := h.1.1.2.1
  have bnd := h.2.1
  have e13 : M 1 3 = a := hE.2.1
  rcases h01 with hb | hb
  · rw [if_pos (by (clear h hk he hS hK hQ hE ha fl hV bnd e13; lia))]
    refine y_105 hE (by rw [hk]; decide) hS (fun h12 hE1 => ?_) hQ
    have := hK 0 (fun hb1 => by (clear h hk he hS hK hQ hE ha fl m8 hV bnd e13 h12 hE1; lia)) (fun _ => rfl) h12 hE1
    unfold Xh_ Xn_ at this
    rw [if_pos hb, if_pos (.inl hb)] at this
    exact this
  · rw [if_neg (by (clear h hk he hS hK hQ hE ha fl hV bnd e13; lia))]
    have h12 := gS_n (hS hb)
    have fin : ∀ kk, HK M 200 kk → Tr_ wd0 pg0 (d + 6) 171 [.inr (.inr 1), .inl w, .inl 200] (Xn_ M b kk a) (ri_ fun v5 M10 => Tr_ wd0 pg0 (d + 6) 105 [.inr (.inr 1)] M10 (rv_ Kv) Qt) Qt := fun kk hH => by
      have S2 := SL_n h (HK_k hH) (tk := a) hE.1
      refine x_171 (by rw [Xn_1 (by decide) (by decide) (by decide)]; exact hV.1) (by rw [Xn_r (by decide)]; (clear h hk hS hK hQ hE fl m8 hV hb hH S2; lia)) ?_
      have y : ∀ hE1 : ER b F (nX_ M) (nx_ N) (a + 1) 0, Kv (nX_ (stX_ (Xn_ M b kk a) w 200)) := fun hE1 => by
        have := hK kk (fun _ => HK_nX hH) (fun hb0 => by (clear h hk he hS hK hQ hE ha fl m8 hV bnd e13 h12 hH S2 hE1; lia)) h12 hE1
        rw [← nX_Xh] at this
        unfold Xh_ at this
        rw [if_neg (by omega)] at this
        exact this
      have i3 : stX_ (Xn_ M b kk a) w 200 1 3 = a := by rw [stX_r (by decide) (by decide), Xn_1 (by decide) (by decide) (by decide)]; exact e13
      refine x_105 (by unfold iX_; rw [i3]; omega) (fun hh => ?_) (fun hh => ?_)
      · exact y (ER_go hE h12 (by rw [hk]; decide)).1
      · rw [i3] at hh; (clear h hk he hS hK hQ hE fl m8 hV bnd hb hH S2 y; lia)
    rw [e13]
    refine x_170 hV.1 ⟨bnd.1.1, by omega⟩ ⟨ha.1, by omega⟩ (ER_fl hE) (fun u => ?_) (fun u => ?_)
    · have := fin 6 (.inr ⟨by decide, .inl ⟨u, rfl⟩⟩)
      unfold Xn_ at this
      rw [if_neg (by omega)] at this
      exact this
    · have := fin 0 (.inr ⟨by decide, .inr ⟨u, rfl⟩⟩)
      unfold Xn_ at this
      rw [if_pos (.inr rfl)] at this
      exact this
end ST
end T192_sv
section T193_sv
/-! SAVE whole -/
/-- Q: SAVE within a state's lines -/
def qSV (dq : Nat) (mask : Int) (N : mm_) (G : mm_ → Prop) (Qt : qt_) : Prop := Tr_ wd0 pg0 (dq + 17) 228 [.inr (.inr 6), .inl 8] N (ri_ fun v4 M4 => if v4 = 0 then False else Tr_ wd0 pg0 (dq + 17) 312 [.inr (.inr 6), .inl mask] M4 (rv_ G) Qt) Qt
section SY
variable {dq : Nat} {b F : Int} {Mx Mq M N : mm_} {a mask k : Int} {Kv G : mm_ → Prop} {Qt Qtq : qt_} {V : vv_}
theorem q_312z [Inhabited gh_] {d : Nat} (hs : sp_ N) (hi : in9_ N) (h : G N) : Tr_ wd0 pg0 (d + 17) 312 [.inr (.inr 6), .inl mask] N (rv_ G) Qt := t_312 fun V hV hW => b_312_0 (Tr_mono _) hV hW _ _ (q_307s hs (q_237s hs hi fun v => q12_s (dq := d) hV hW hs h))
theorem y_175 [Inhabited gh_] (h : SS b F Mx Mq a mask 0) (hk : Mx 70 a = 8) (hS : b = 1 → svS (Mx 70) a ≠ none)
    (hK : ∀ M' N' a', SS b F (nX_ M') (nx_ (nE_ N')) (a' + 1) mask 0 → a + 2 ≤ a' → SLG b 1 (nX_ Mx) (stQ_ (nx_ Mq) 1 mask) M' N' → svS (Mx 70) a = some (a' + 1) → (∀ (G : mm_ → Prop) (Qtq : qt_), G (nx_ (nE_ N')) → qSV dq mask Mq G Qtq) → Kv (nX_ M'))
    (hQ : b = 0 → ∀ Mx', XSb Mx Mx' → (∀ (G : mm_ → Prop) (Qtq : qt_), (∀ M', SQb Mx' Mq M' → G M') → qSV dq mask Mq G Qtq) → Qt 8 Mx') :
    Tr_ wd0 pg0 129 175 [.inr (.inr 1)] Mx (rv_ Kv) Qt := by
  have hE := TS_E h.1
  have hT := h.1.1.1
  have ha := ER_a hE
  have bnd := h.2.1
  have stopped : ∀ {Mx' M2 : mm_}, SQ Mx' Mq M2 → SQb Mx' Mq M2 := fun hs => ⟨hs.1, hs.2.1, hs.2.2.1, hs.2.2.2.1, QA_QSb hs.2.2.2.2⟩
  refine t_175 fun V hV hW => b_175_0 (Tr_mono _) hV hW _ ?_
  refine y_105 hE (by omega) (fun hb => by have := hS hb; unfold svS at this; exact bind_n this) (fun h12 hE1 => ?_) (fun hb h12 => ?_)
  rotate_left
  · have hsp := SQ_bf hE hb (k := 2) (by decide) QA_rf
    exact hQ hb _ (XA_XSb (XF_XA fl_XF)) (fun G Qtq hg => j_228r hT hE hb (by decide) hk h12 (by rw [if_neg (by decide)]; exact q_312z hsp.1 hsp.2.1 (hg _ (stopped hsp))))
  have eS : svS (Mx 70) a = (if Mx 70 (a + 1) = 242 then gS (a + 1) else NL (Mx 70) (a + 1)).bind (tS (Mx 70) 259) := by unfold svS; rw [gS_e h12, Option.bind_some]
  rw [eS] at hS hK
  have x70 : nX_ Mx 70 = Mx 70 := nX_ne (by decide)
  have S1 := SS_go h hE1
  rw [show (0 : Int) - 1 = -1 by decide] at S1
  have S2 := SL_st (w := 1) S1 (by decide) (.inr rfl)
  have hE2 := TS_E S2.1
  have hT2 := S2.1.1.1
  have q62 : stQ_ (nx_ Mq) 1 mask 6 62 = Mq 6 62 + 1 := by rw [stQ_62, nx_6 (by decide)]
  have toQ : ∀ (G : mm_ → Prop) (Qtq : qt_) (x4 : Int), (nX_ Mx 70 (a + 1) = 242 ∧ x4 = 1) ∨ (nX_ Mx 70 (a + 1) ≠ 242 ∧ x4 = 0) → (∀ V' : vv_, Cl_ wd0 (Tr_ wd0 pg0 (dq + 16)) V' (rv_ G) Qtq m_312 → Wk_ V' → V' 17 [rr 6, ii mask, ii (stQ_ (nx_ Mq) 1 mask 6 62 - 1), ii 1, ii x4] [] (stQ_ (nx_ Mq) 1 mask)) → qSV dq mask Mq G Qtq := fun G Qtq x4 hx hq => j_228t hT hE (by decide) hk h12 (by
    rw [if_neg (by decide)]
    refine t_312 fun V' hV' hW' => b_312_0 (Tr_mono _) hV' hW' _ _ (q_307g (ER_goq hE1) (by rw [nx_6 (by decide)]; omega) ?_)
    have e := hq V' hV' hW'
    rw [q62, show Mq 6 62 + 1 - 1 = Mq 6 62 by (clear h hk hS hK hQ hE hT ha bnd stopped hV hW h12 hE1 eS x70 S1 S2 hE2 hT2 q62 hx hq hV' hW' e; lia)] at e
    rw [nx_6 (i := 62) (by decide)]
    rcases hx with ⟨c, e4⟩ | ⟨c, e4⟩
    · rw [e4] at e; exact j_237t hT2 hE2 (by decide) c e
    · rw [e4] at e; exact j_237f hT2 hE2 (by decide) c e)
  have xs1 : XSb Mx (nX_ Mx) := XA_XSb (XF_XA nX_XF)
  have qs1 : QSb Mq (stQ_ (nx_ Mq) 1 mask) := QSb_tr (QA_QSb (QF_QA nx_QF)) stQ_QSb
  refine y_117 hE1 (by decide) (fun c => ?_) (fun c => ?_)
  · -- '*'
    have c' : Mx 70 (a + 1) = 242 := by rw [← x70]; exact c
    rw [if_pos c'] at hS hK
    rw [if_neg (by decide)]
    have main := x_st (d := 122) (Qt := Qt) (Kv := fun M3 => Tr_ wd0 pg0 128 121 [.inr (.inr 1), .inl 59] M3 (rv_ fun M4 => rv_ Kv [] M4) Qt) S2 c (by decide) (fun hb => bind_n (hS hb)) (fun kk hH h0 h13 hE3 => ?_) (fun hb h13 => ?_)
    · exact main
    · have P := y_hn (s := 200) (kk := kk) S2 hE3 (.inr rfl) (.inr (.inl rfl)) hH h0
      rw [Xg_w] at P
      have q308 : ∀ (G : mm_ → Prop) (Qtq : qt_), Tr_ wd0 pg0 (dq + 16) 244 [.inr (.inr 6), .inl 59] (nE_ (inM_ (Qn_ (nx_ (stQ_ (nx_ Mq) 1 mask)) b kk (nX_ Mx 71 (a + 1))) 200)) (rv_ fun M3 => rv_ G [] M3) Qtq → qSV dq mask Mq G Qtq := fun G Qtq hq => toQ G Qtq 1 (.inl ⟨c, rfl⟩) fun V' hV' hW' => by
        refine b_312_17 (Tr_mono _) hV' hW' _ _ _ _ _ ?_
        rw [if_neg (by decide)]
        refine q_227g (ER_goq hE2) ?_
        rw [if_pos rfl]
        refine q_308a (d := dq + 12) S2 c h13 hE3 hH (by decide) ?_
        rw [if_neg (by decide), if_pos rfl]
        refine b_312_17 (Tr_mono _) hV' hW' _ _ _ _ _ ?_
        rw [if_pos rfl]
        refine q_227g (ER_goq (TS_E P.1.1)) ?_
        rw [if_pos rfl]
        refine ⟨by omega, ?_⟩
        have e62 : inM_ (Qn_ (nx_ (stQ_ (nx_ Mq) 1 mask)) b kk (nX_ Mx 71 (a + 1))) 200 6 62 = stQ_ (nx_ Mq) 1 mask 6 62 := P.2.1.2.1.2.1 62 (by decide)
        rw [← e62]
        exact hq
      generalize eM1 : Xh_ b (Xn_ (nX_ (nX_ Mx)) b kk (a + 1)) 1 200 = M1 at P ⊢
      generalize eN1 : inM_ (Qn_ (nx_ (stQ_ (nx_ Mq) 1 mask)) b kk (nX_ Mx 71 (a + 1))) 200 = N1 at P q308
      clear eM1 eN1
      obtain ⟨S3, G1, f1⟩ := P
      have y70 : M1 70 = Mx 70 := (G1.1.1 70 (by decide)).trans x70
      have e62 : N1 6 62 = Mq 6 62 + 1 := (G1.2.1.2.1 62 (by decide)).trans q62
      have S5 := SL_end S3 (by rw [e62]; (clear h hk hS hK hQ hE hT ha stopped hV hW h12 hE1 eS x70 S1 S2 hE2 hT2 toQ xs1 qs1 c c' hH h0 h13 hE3 q308 S3 G1 f1 y70; lia))
      rw [show (-1 : Int) + 1 = 0 by decide] at S5
      have hE5 : ER b F M1 (nE_ N1) (a + 1 + 1) 0 := TS_E S5.1
      have hT5 : Tks M1 (nE_ N1) := S5.1.1.1
      have xs2 : XSb Mx M1 := XSb_tr xs1 ⟨Fr_sub G1.1.1 (by decide), fun i hi => G1.1.2.1 i (fun e => hi (by revert e; unfold xiI xbI; simp only [List.mem_cons, List.not_mem_nil, or_false]; (clear h hk hS hK hQ hE hT ha bnd stopped hV hW h12 hE1 eS x70 S1 S2 hE2 hT2 q62 toQ xs1 qs1 c c' hH h0 h13 hE3 q308 S3 G1 f1 y70 e62 S5 hE5 hT5 hi; lia))), fun i _ h4 => G1.1.2.2.1 i h4⟩
      have qs2 : QSb Mq (nE_ N1) := QSb_tr (QSb_tr qs1 ⟨Fr_sub G1.2.1.1 (by decide), fun i hi => G1.2.1.2.1 i (fun e => hi (by revert e; unfold qiI qbI; simp only [List.mem_cons, List.not_mem_nil, or_false]; (clear h hk hS hK hQ hE hT ha bnd stopped hV hW h12 hE1 eS x70 S1 S2 hE2 hT2 q62 toQ xs1 qs1 c c' hH h0 h13 hE3 q308 S3 G1 f1 y70 e62 S5 hE5 hT5 xs2 hi; lia)))⟩) nE_QSb
      rw [gS_e h13, Option.bind_some] at hS hK
      refine y_121 hE5 (by decide) (fun hb => by rw [y70]; exact hS hb) (fun k1 h14 hE6 => ?_) (fun hb k1 h14 => ?_) (fun hb k1 => ?_)
      · have S6 := SS_go S5 hE6
        exact rv_i (hK M1 N1 (a + 1 + 1) (SS_le S6 (by decide)) (by omega) G1 (by rw [← y70]; exact tS_e k1 h14) (fun G Qtq hg => q308 G Qtq (j_244t hT5 hE5 (by decide) k1 h14 (rv_i hg))))
      · have hsp := SQ_bf hE5 hb (k := 2) (by decide) QA_rf
        exact hQ hb _ (XSb_tr xs2 (XA_XSb (XF_XA fl_XF))) (fun G Qtq hg => q308 G Qtq (j_244r hT5 hE5 hb (by decide) k1 h14 (rv_i (hg _ ⟨hsp.1, hsp.2.1, hsp.2.2.1, hsp.2.2.2.1, QSb_tr qs2 (QA_QSb hsp.2.2.2.2)⟩))))
      · have hsp := SQ_bf hE5 hb (k := 1) (by decide) QA_rf
        exact hQ hb _ (XSb_tr xs2 (XA_XSb (XF_XA fl_XF))) (fun G Qtq hg => q308 G Qtq (j_244w hT5 hE5 hb (by decide) k1 (rv_i (hg _ ⟨hsp.1, hsp.2.1, hsp.2.2.1, hsp.2.2.2.1, QSb_tr qs2 (QA_QSb hsp.2.2.2.2)⟩))))
    · have hsp := SQ_bf hE2 hb (k := 2) (by decide) QA_rf
      refine hQ hb _ (XSb_tr xs1 (XA_XSb (XF_XA fl_XF))) (fun G Qtq hg => toQ G Qtq 1 (.inl ⟨c, rfl⟩) fun V' hV' hW' => ?_)
      refine b_312_17 (Tr_mono _) hV' hW' _ _ _ _ _ ?_
      rw [if_neg (by decide)]
      refine q_227g (ER_goq hE2) ?_
      rw [if_pos rfl]
      refine q_308b (d := dq + 12) hE2 hT2 hb c h13 ?_
      rw [if_neg (by decide), if_pos rfl]
      exact q12_s hV' hW' hsp.1 (hg _ ⟨hsp.1, hsp.2.1, hsp.2.2.1, hsp.2.2.2.1, QSb_tr qs1 (QA_QSb hsp.2.2.2.2)⟩)
  · have c' : Mx 70 (a + 1) ≠ 242 := by rw [← x70]; exact c
    rw [if_neg c'] at hS hK
    rw [if_pos rfl]
    refine l_175 (d := 122) (dq := dq) (k := stQ_ (nx_ Mq) 1 mask 6 62 - 1) hV hW (by decide) 1201 (a + 1) (nX_ Mx) (stQ_ (nx_ Mq) 1 mask) (by omega) S2 rfl (by rw [q62]; omega) c (by rw [x70]; exact hS) (fun M' N' a' SS' ha' G' hsy hq => ?_) (fun hb Mx' hx hq => ?_)
    · rw [x70] at hsy
      exact hK M' N' a' (SS_le SS' (by decide)) (by omega) G' hsy (fun G Qtq hg => toQ G Qtq 0 (.inr ⟨c, rfl⟩) (hq G Qtq hg))
    · exact hQ hb Mx' (XSb_tr xs1 hx) (fun G Qtq hg => toQ G Qtq 0 (.inr ⟨c, rfl⟩) (hq G Qtq fun M' p => hg _ ⟨p.1, p.2.1, p.2.2.1, p.2.2.2.1, QSb_tr qs1 p.2.2.2.2⟩))
end SY
end T193_sv
section T194_tk
/-! inputs: the variables that take values (X 173 | Q 311), pass 2 -/
/-- how many of n names from q on, two apart, are v -/
def dpc (f : Int → Int) (v : Int) : Nat → Int → Nat
  | 0, _ => 0
  | n + 1, q => (if f q = v then 1 else 0) + dpc f v n (q + 2)
def itx (t : Int) : Nat → mm_ → mm_
  | 0, M => M
  | n + 1, M => itx t n (nt1_ M 3 t)
def itq (p : Int) : Nat → mm_ → mm_
  | 0, N => N
  | n + 1, N => itq p n (nt_ N 3 p)
section TK
variable {d : Nat} {b F : Int} {M N Mx Mq : mm_} {t p k s j fr x6 : Int} {Kv : mm_ → Prop} {Qt : qt_} {V : vv_}
theorem dpc_le [Inhabited gh_] {f : Int → Int} {v : Int} : ∀ (n : Nat) (q : Int), dpc f v n q ≤ n
  | 0, _ => Nat.le_refl _
  | n + 1, q => by unfold dpc; have := dpc_le (f := f) (v := v) n (q + 2); split <;> omega
theorem itx_r [Inhabited gh_] {r : Nat} (h : r ≠ 1) : ∀ (n : Nat) (M : mm_), itx t n M r = M r
  | 0, _ => rfl
  | n + 1, M => (itx_r h n (nt1_ M 3 t)).trans (nt1_r h)
theorem itx_1 [Inhabited gh_] {i : Int} (h4 : i ≠ 4) (h5 : i ≠ 5) (h7 : i ≠ 7) : ∀ (n : Nat) (M : mm_), itx t n M 1 i = M 1 i
  | 0, _ => rfl
  | n + 1, M => (itx_1 h4 h5 h7 n (nt1_ M 3 t)).trans (nt1_1 h4 h5 h7)
theorem itx_7 [Inhabited gh_] : ∀ (n : Nat) (M : mm_), itx t n M 1 7 = M 1 7 + n
  | 0, M => by show M 1 7 = _; omega
  | n + 1, M => by have := itx_7 n (nt1_ M 3 t); rw [nt1_7] at this; show itx t n (nt1_ M 3 t) 1 7 = _; lia
theorem itq_r [Inhabited gh_] {r : Nat} (h : r ≠ 6) : ∀ (n : Nat) (N : mm_), itq p n N r = N r
  | 0, _ => rfl
  | n + 1, N => (itq_r h n (nt_ N 3 p)).trans (ntQ_r h)
theorem itq_6 [Inhabited gh_] {i : Int} (h1 : i ≠ 13) (h2 : i ≠ 14) : ∀ (n : Nat) (N : mm_), itq p n N 6 i = N 6 i
  | 0, _ => rfl
  | n + 1, N => (itq_6 h1 h2 n (nt_ N 3 p)).trans (ntQ_6 h1 h2)
/-- the notes TWICE of a name: X -/
theorem l_173 [Inhabited gh_] (hV : Cl_ wd0 (Tr_ wd0 pg0 (d + 3)) V (rv_ Kv) Qt m_173) (hW : Wk_ V) (hT : Tks Mx Mq) (ht : nm9_ Mx t) : ∀ (n : Nat) (q : Int) (M : mm_), (∀ r : Nat, r ≠ 1 → M r = Mx r) → q + 2 * n = t → 0 ≤ q → (∀ l, 0 ≤ l → l < (n : Int) → nm9_ Mx (q + 2 * l)) → (0 ≤ M 1 7 ∧ M 1 7 + n < 2147483647) →
    V 6 [rr 1, ii k, ii s, ii t, ii j, ii fr, ii t, none, none] [] (itx t (dpc (Mq 151) (Mq 151 t) n q) M) → V 6 [rr 1, ii k, ii s, ii t, ii j, ii fr, ii q, none, none] [] M
  | 0, q, M, hM, hq, h0, hn, hf, h => by rw [show q = t by (clear hV hW hT ht hM h0 hn hf h; omega)]; exact h
  | n + 1, q, M, hM, hq, h0, hn, hf, h => by
    have t1 := ht.1
    have tu : t ≤ 1200 := ht.1.2.1
    have g0 : nm9_ Mx q := by have := hn 0 (by omega) (by omega); rw [show q + 2 * 0 = q by (clear hV hW hT ht hM hq h0 hn hf h t1 tu this; lia)] at this; exact this
    have lk := (hT q g0.1).2.2.2.2.2.2 t ht.1 g0.2 ht.2
    have tq := (hT q g0.1).2.2.2.1
    have tt := (hT t ht.1).2.2.2.1
    have e71 := hM 71 (by decide)
    have e72 := hM 72 (by decide)
    have e69 := hM 69 (by decide)
    have w : w32 (q + 2) = q + 2 := w32_id (by (clear hV hW hT ht hM hn hf h t1 tu g0 lk tq tt e71 e72 e69; lia)) (by (clear hV hW hT ht hM h0 hn hf h t1 g0 lk tq tt e71 e72 e69; omega))
    have rc1 : ∀ M1 : mm_, (∀ r : Nat, r ≠ 1 → M1 r = Mx r) → (0 ≤ M1 1 7 ∧ M1 1 7 + n < 2147483647) → V 6 [rr 1, ii k, ii s, ii t, ii j, ii fr, ii t, none, none] [] (itx t (dpc (Mq 151) (Mq 151 t) n (q + 2)) M1) → V 6 [rr 1, ii k, ii s, ii t, ii j, ii fr, ii (q + 2), none, none] [] M1 := fun M1 h1 h2 h3 => l_173 hV hW hT ht n (q + 2) M1 h1 (by omega) (by (clear hV hW hT ht hM hn hf h t1 tu g0 lk tq tt e71 e72 e69 h1 h2 h3; lia)) (fun l a b => by have := hn (l + 1) (by omega) (by omega); rw [show q + 2 * (l + 1) = q + 2 + 2 * l by (clear hV hW hT ht hM hq h0 hn hf h t1 tu g0 lk tq tt e71 e72 e69 w h1 h2 h3 a b this; lia)] at this; exact this) h2 h3
    refine b_173_6 (Tr_mono _) hV hW _ _ _ _ _ _ _ ?_
    rw [if_pos (show q < t by omega)]
    unfold dpc at h
    refine x_199 ⟨h0, by omega, by rw [e71]; omega, by rw [e71, e72]; omega, by rw [e72]; omega⟩ ⟨t1.1, by omega, by rw [e71]; omega, by rw [e71, e72]; omega, by rw [e72]; omega⟩ (fun c => ?_) (fun c => ?_)
    · have c' : Mq 151 q = Mq 151 t := lk.1 (by unfold lk9_ at *; rw [e71, e72, e69] at c; exact c)
      rw [if_pos c', Nat.add_comm] at h
      rw [if_neg (by decide), w]
      refine x_116 t1.1 (by omega) hf.1 (by omega) ?_
      exact rc1 _ (fun r hr => (nt1_r hr).trans (hM r hr)) (by rw [nt1_7]; omega) h
    · have c' : ¬ Mq 151 q = Mq 151 t := fun e => c (by have := lk.2 e; unfold lk9_ at *; rw [e71, e72, e69]; exact this)
      rw [if_neg c', Nat.zero_add] at h
      rw [if_pos rfl, w]
      exact rc1 M hM (by omega) h
/-- the notes TWICE of a name: Q -/
theorem l_311 [Inhabited gh_] {x1 x2 x3 x5 x6 : Int} (hV : Cl_ wd0 (Tr_ wd0 pg0 (d + 1)) V (rv_ Kv) Qt m_311) (hW : Wk_ V) (ht : 0 ≤ t ∧ t ≤ 1200) (hp : Mq 150 t = p) : ∀ (n : Nat) (q : Int) (N : mm_), (∀ r : Nat, r ≠ 6 → N r = Mq r) → q + 2 * n = t → 0 ≤ q →
    V 21 [rr 6, ii x1, ii x2, ii x3, ii t, ii x5, ii x6, ii t] [] (itq p (dpc (Mq 151) (Mq 151 t) n q) N) → V 21 [rr 6, ii x1, ii x2, ii x3, ii t, ii x5, ii x6, ii q] [] N
  | 0, q, N, hN, hq, h0, h => by rw [show q = t by (clear hV hW ht hp hN h0 h; lia)]; exact h
  | n + 1, q, N, hN, hq, h0, h => by
    have w : w32 (q + 2) = q + 2 := w32_id (by omega) (by omega)
    have e1 := hN 151 (by decide)
    have e0 := hN 150 (by decide)
    refine b_311_21 (Tr_mono _) hV hW _ _ _ _ _ _ _ _ ?_
    rw [if_pos (show q < t by omega)]
    refine ⟨by omega, by (clear hV hW hp hN h0 h e1 e0; lia), ?_⟩
    rw [e1, e0]
    unfold dpc at h
    by_cases c : Mq 151 q = Mq 151 t
    · rw [if_pos c, Nat.add_comm] at h
      rw [if_pos (by rw [if_neg (by (clear hV hW ht hp hN hq h0 w e1 e0 h; lia)), if_pos c]), w]
      refine ⟨by omega, q_236 ?_⟩
      rw [hp]
      exact l_311 hV hW ht hp n (q + 2) _ (fun r hr => (ntQ_r hr).trans (hN r hr)) (by (clear hV hW ht hp hN h0 w e1 e0 h c; lia)) (by (clear hV hW ht hp hN hq e1 e0 h c; lia)) h
    · rw [if_neg c, Nat.zero_add] at h
      rw [if_neg (by by_cases c2 : Mq 151 q < Mq 151 t
                     · rw [if_pos c2]; decide
                     · rw [if_neg c2, if_neg c]; decide), w]
      exact l_311 hV hW ht hp n (q + 2) _ hN (by omega) (by omega) h
end TK
end T194_tk
section T195_tk
/-! inputs: a variable takes a value, whole -/
/-- the note for a variable that takes the j-th value of s: T its type, v the variable -/
def tkK (M : mm_) (T v s j : Int) : Int := if v = -1 then 4 else if M 131 (8 * T + v) ≤ 0 then (if s < 0 then 0 else if s < 100 then (if j < M 112 s then (if M 113 (3 * s + j) = M 130 (8 * T + v) then 0 else 5) else 0) else 0) else 5
def tkX (M : mm_) (T v s j t k : Int) : mm_ := if v = -1 then Xn_ M 1 4 t else up_ (Xn_ M 1 (tkK M T v s j) t) 137 (3 * k + j) (M 132 (8 * T + v))
def tkQ (Mx N : mm_) (T v s j p i : Int) : mm_ := if v = -1 then Qn_ N 1 4 p else up_ (Qn_ N 1 (tkK Mx T v s j) p) 202 (3 * i + j) (N 184 (8 * T + v))
section TL
variable {d : Nat} {b F : Int} {M N Mx Mq : mm_} {t p k s j fr i v T : Int} {Kv : mm_ → Prop} {Qt : qt_} {V : vv_}
theorem itx_XF [Inhabited gh_] (n : Nat) : XF M (itx t n M) := ⟨fun r hr => itx_r (fun c => hr (by rw [c]; decide)) n M, fun i _ h4 h5 _ h7 => itx_1 h4 h5 h7 n M, fun i _ => by rw [itx_r (by decide) n M]⟩
theorem itq_QF [Inhabited gh_] (n : Nat) : QF N (itq p n N) := ⟨fun r hr => itq_r (fun c => hr (by rw [c]; decide)) n N, fun i _ h1 h2 _ _ _ _ _ => itq_6 h1 h2 n N⟩
theorem tkK_c [Inhabited gh_] (h : ∀ r : Nat, r ≠ 1 → M r = Mx r) : tkK M T v s j = tkK Mx T v s j := by
  unfold tkK
  rw [h 131 (by decide), h 112 (by decide), h 113 (by decide), h 130 (by decide)]
theorem tkK_r [Inhabited gh_] : tkK M T v s j = 0 ∨ (3 ≤ tkK M T v s j ∧ tkK M T v s j ≤ 6) := by
  unfold tkK; repeat' split
  all_goals omega
theorem x_173 [Inhabited gh_] (hT : Tks Mx Mq) (hV : VT Mx Mq) (ht : nm9_ Mx t) (hs : s < 0 ∨ (0 ≤ s ∧ s < 20) ∨ 100 ≤ s) (hj : 0 ≤ j ∧ j < 3) (hk : 0 ≤ k ∧ k < 600) (hfr : 0 ≤ fr + 1 ∧ fr + 1 + 2 * j = t) (hn : ∀ l, 0 ≤ l → l < j → nm9_ Mx (fr + 1 + 2 * l)) (h7 : 0 ≤ Mx 1 7 ∧ Mx 1 7 + 8 < 2147483647) (hv : v = vrr Mq (Mq 151 t))
    (hK : Kv (tkX (itx t (dpc (Mq 151) (Mq 151 t) j.toNat (fr + 1)) Mx) (Mx 1 18) v s j t k)) : Tr_ wd0 pg0 (d + 4) 173 [.inr (.inr 1), .inl k, .inl s, .inl t, .inl j, .inl fr] Mx (rv_ Kv) Qt := by
  refine t_173 fun V hV' hW => b_173_0 (Tr_mono _) hV' hW _ _ _ _ _ _ ?_
  have tu : t ≤ 1200 := ht.1.2.1
  have dl := dpc_le (f := Mq 151) (v := Mq 151 t) j.toNat (fr + 1)
  rw [w32_id (by (clear hT hV ht hs hj hk hn h7 hv hK hV' hW tu dl; lia)) (by omega)]
  refine l_173 hV' hW hT ht j.toNat (fr + 1) Mx (fun _ _ => rfl) (by (clear hT hV ht hs hk hn h7 hv hK hV' hW tu dl; lia)) hfr.1 (fun l a b => hn l a (by (clear hT hV ht hs hk hfr hn h7 hv hK hV' hW tu dl a; omega))) ⟨h7.1, by omega⟩ ?_
  generalize eM : itx t (dpc (Mq 151) (Mq 151 t) j.toNat (fr + 1)) Mx = M at hK
  have xf : XF Mx M := by rw [← eM]; exact itx_XF _
  have hr : ∀ r : Nat, r ≠ 1 → M r = Mx r := fun r h => by rw [← eM]; exact itx_r h _ _
  have e18 : M 1 18 = Mx 1 18 := xf.2.1 18 (by decide) (by decide) (by decide) (by decide) (by decide)
  have e12 : M 1 2 = 5 := by rw [xf.2.1 2 (by decide) (by decide) (by decide) (by decide) (by decide)]; exact hV.1
  have e17 : 0 ≤ M 1 7 ∧ M 1 7 < 2147483647 := by rw [← eM, itx_7]; (clear hT hV ht hs hk hfr hn hv hV' hW tu eM hK xf hr e18 e12; omega)
  have hT1 := Tks_a (XF_XA xf) (QA_rf (M := Mq)) hT
  have hV1 := VT_a (XF_XA xf) (QA_rf (M := Mq)) hV
  have vr := vrr_r hV1 (v := Mq 151 t)
  rw [← hv] at vr
  have t18 := hV.2.2
  have e61 : Mq 6 61 = Mx 1 18 := hV.2.1
  rw [e61] at vr
  refine b_173_6 (Tr_mono _) hV' hW _ _ _ _ _ _ _ ?_
  rw [if_neg (by omega)]
  refine x_128R hT1 hV1 ⟨gd_c (hr 70 (by decide)) ht.1, by rw [hr 70 (by decide)]; exact ht.2⟩ ?_
  rw [← hv]
  unfold tkX at hK
  by_cases c : v = -1
  · rw [if_pos c] at hK ⊢
    unfold Xn_ at hK
    rw [if_neg (by omega)] at hK
    exact x_116 ht.1.1 (by omega) e17.1 e17.2 (rv_i hK)
  rw [if_neg c] at hK ⊢
  have hv8 : 0 ≤ v ∧ v < 8 := by have := t18.2.2; (clear hT hV ht hs hj hk hfr hn h7 hV' hW tu dl eM hK xf hr e18 e12 e17 hT1 hV1 e61 this; omega)
  rw [e18]
  have w : w32 (w32 (8 * Mx 1 18) + v) = 8 * Mx 1 18 + v := by rw [w32_id (x := 8 * Mx 1 18) (by (clear hT hV ht hs hj hk hfr hn h7 hv hV' hW tu dl eM hK xf hr e18 e12 e17 hT1 hV1 vr c hv8; omega)) (by (clear hT hV ht hs hj hk hfr hn h7 hv hV' hW tu dl eM hK xf hr e18 e12 e17 hT1 hV1 vr c hv8; omega)), w32_id (by (clear hT hV ht hs hj hk hfr hn h7 hV' hW tu dl eM hK xf hr e18 e12 e17 hT1 hV1 vr c; omega)) (by (clear hT hV ht hs hj hk hfr hn h7 hV' hW tu dl eM hK xf hr e18 e12 e17 hT1 hV1 vr c; omega))]
  rw [w]
  have fin : ∀ (x8 : Int) (M5 : mm_), M5 1 2 = 5 → M5 132 = M 132 → rv_ Kv [] (up_ M5 137 (3 * k + j) (M 132 (8 * Mx 1 18 + v))) → V 151 [rr 1, ii k, ii s, ii t, ii j, ii fr, ii v, ii (8 * Mx 1 18 + v), ii x8] [] M5 := fun x8 M5 h1 h2 h3 => by
    refine b_173_151 (Tr_mono _) hV' hW _ _ _ _ _ _ _ _ _ ⟨h1, h1, by (clear hT hV ht hs hj hk hfr hn h7 hV' hW tu dl eM hK xf hr e18 e12 e17 hT1 hV1 vr c h1 h2 h3; omega), ?_⟩
    rw [w32_id (x := 3 * k) (by (clear hT hV ht hs hj hfr hn h7 hv hV' hW tu dl eM hK xf hr e18 e12 e17 hT1 hV1 vr t18 e61 c hv8 w h1 h2 h3; lia)) (by omega), w32_id (by omega) (by omega), h2]
    exact ⟨by omega, h3⟩
  refine ⟨e12, by (clear hT hV ht hs hj hk hfr hn h7 hV' hW tu dl eM hK xf hr e18 e12 e17 hT1 hV1 vr c fin; omega), ?_⟩
  have ok0 : tkK M (Mx 1 18) v s j = 0 → ∀ x8, V 151 [rr 1, ii k, ii s, ii t, ii j, ii fr, ii v, ii (8 * Mx 1 18 + v), ii x8] [] M := fun e x8 => fin x8 M e12 rfl (by
    rw [e] at hK; unfold Xn_ at hK; rw [if_pos (.inr rfl)] at hK; exact rv_i hK)
  have ok5 : tkK M (Mx 1 18) v s j = 5 → ∀ x8, Tr_ wd0 pg0 (d + 3) 116 [.inr (.inr 1), .inl 5, .inl t] M (rv_ fun M3 => V 151 [rr 1, ii k, ii s, ii t, ii j, ii fr, ii v, ii (8 * Mx 1 18 + v), ii x8] [] M3) Qt := fun e x8 => x_116 ht.1.1 (by omega) e17.1 e17.2 (fin x8 _ (by rw [nt1_1 (by decide) (by decide) (by decide)]; exact e12) (nt1_r (by decide)) (by
    rw [e] at hK; unfold Xn_ at hK; rw [if_neg (by omega)] at hK; exact rv_i hK))
  unfold tkK at ok0 ok5
  rw [if_neg c] at ok0 ok5
  by_cases c1 : M 131 (8 * Mx 1 18 + v) ≤ 0
  · rw [if_pos c1] at ok0 ok5 ⊢
    by_cases c2 : s < 0
    · rw [if_pos c2] at ok0 ⊢
      rw [if_pos rfl]; exact ok0 rfl _
    rw [if_neg c2] at ok0 ok5 ⊢
    by_cases c3 : s < 100
    · rw [if_pos c3] at ok0 ok5 ⊢
      refine ⟨e12, by (clear hT hV ht hj hk hfr hn h7 hV' hW tu dl eM hK xf hr e18 e12 e17 hT1 hV1 t18 fin c1; lia), ?_⟩
      by_cases c4 : j < M 112 s
      · rw [if_pos c4] at ok0 ok5 ⊢
        rw [w32_id (x := 3 * s) (by (clear hT hV ht hs hj hk hfr hn h7 hv hV' hW tu dl eM hK xf hr e18 e12 e17 hT1 hV1 vr t18 e61 c hv8 w fin ok0 ok5 c1 c4; lia)) (by (clear hT hV ht hs hj hk hfr hn h7 hv hV' hW tu dl eM hK xf hr e18 e12 e17 hT1 hV1 vr t18 e61 c hv8 w fin ok0 ok5 c1 c4; omega)), w32_id (x := 3 * s + j) (by (clear hT hV ht hs hk hfr hn h7 hv hV' hW tu dl eM hK xf hr e18 e12 e17 hT1 hV1 vr t18 e61 c hv8 w fin ok0 ok5 c1 c4; lia)) (by (clear hT hV ht hs hk hfr hn h7 hv hV' hW tu dl eM hK xf hr e18 e12 e17 hT1 hV1 vr t18 e61 c hv8 w fin ok0 ok5 c1 c4; omega))]
        refine ⟨e12, by (clear hT hV ht hk hfr hn h7 hV' hW tu dl eM hK xf hr e18 e12 e17 hT1 hV1 t18 fin c1 c4; lia), e12, by (clear hT hV ht hs hj hk hfr hn h7 hV' hW tu dl eM hK xf hr e18 e12 e17 hT1 hV1 vr c fin ok0 ok5 c1 c2 c3 c4; omega), ?_⟩
        by_cases c5 : M 113 (3 * s + j) = M 130 (8 * Mx 1 18 + v)
        · rw [if_pos c5] at ok0 ⊢
          rw [if_pos rfl]; exact ok0 rfl _
        · rw [if_neg c5] at ok5 ⊢
          rw [if_neg (by decide)]; exact ok5 rfl _
      · rw [if_neg c4] at ok0 ⊢
        rw [if_pos rfl]; exact ok0 rfl _
    · rw [if_neg c3] at ok0 ⊢
      rw [if_pos rfl]; exact ok0 rfl _
  · rw [if_neg c1] at ok5 ⊢
    rw [if_neg (by decide)]; exact ok5 rfl _
theorem Qn_up [Inhabited gh_] {r : Nat} {kk i v : Int} (h : r ≠ 6) : Qn_ (up_ N r i v) b kk p = up_ (Qn_ N b kk p) r i v := by
  unfold Qn_
  split
  · rfl
  · unfold nt_ bf_
    rw [up_ne (r := r) (fun e => h e.symm)]
    split
    · rfl
    · split
      · rw [up_cc (.inl h), up_cc (r := r) (.inl h)]
      · rfl
theorem q_311 [Inhabited gh_] (hV : VT Mx Mq) (hG : SGT Mx Mq) (h16 : Mq 6 16 = 1) (ht : 0 ≤ t ∧ t ≤ 1200) (hs : s < 0 ∨ (0 ≤ s ∧ s < Mx 5 0) ∨ 100 ≤ s) (hj : 0 ≤ j ∧ j < 3) (hi : 0 ≤ i ∧ i < 1300) (hfr : 0 ≤ fr + 1 ∧ fr + 1 + 2 * j = t) (hp : Mq 150 t = p) (hv : v = vrr Mq (Mq 151 t))
    (hK : Kv (tkQ Mx (itq p (dpc (Mq 151) (Mq 151 t) j.toNat (fr + 1)) Mq) (Mx 1 18) v s j p i)) : Tr_ wd0 pg0 (d + 2) 311 [.inr (.inr 6), .inl i, .inl s, .inl j, .inl t, .inl (fr + 1)] Mq (rv_ Kv) Qt := by
  have e61 : Mq 6 61 = Mx 1 18 := hV.2.1
  have vr := vrr_r hV (v := Mq 151 t)
  rw [← hv, e61] at vr
  have t18 := hV.2.2
  have m5 := hG.1.1
  refine t_311 fun V hV' hW => b_311_0 (Tr_mono _) hV' hW _ _ _ _ _ _ ⟨by (clear hV hG h16 hs hj hi hp hv hK e61 vr t18 m5 hV' hW; lia), q_276R hV ?_⟩
  rw [← hv, e61]
  refine l_311 hV' hW ht hp j.toNat (fr + 1) Mq (fun _ _ => rfl) (by (clear hV hG h16 ht hs hi hp hv hK e61 vr t18 m5 hV' hW; lia)) hfr.1 ?_
  generalize eM : itq p (dpc (Mq 151) (Mq 151 t) j.toNat (fr + 1)) Mq = N at hK
  have hr : ∀ r : Nat, r ≠ 6 → N r = Mq r := fun r h => by rw [← eM]; exact itq_r h _ _
  have n16 : N 6 16 = 1 := by rw [← eM, itq_6 (by decide) (by decide)]; exact h16
  refine b_311_21 (Tr_mono _) hV' hW _ _ _ _ _ _ _ _ ?_
  rw [if_neg (by omega), hr 150 (by decide), hp]
  have nt5 : ∀ {kk : Int} {N' : mm_}, N' 6 16 = 1 → kk ≠ 0 → nt_ N' kk p = Qn_ N' 1 kk p := fun h h1 => (Qn_nt h (.inr rfl) h1).symm
  unfold tkQ at hK
  by_cases c : v = -1
  · rw [if_pos c] at hK ⊢
    rw [if_pos (by decide)]
    refine ⟨by (clear hV hG h16 hs hj hi hp hv e61 vr t18 m5 hV' hW eM hK hr n16 nt5 c; lia), q_236 (rv_i ?_)⟩
    rw [nt5 n16 (by decide)]; exact hK
  rw [if_neg c] at hK ⊢
  have hv8 : 0 ≤ v ∧ v < 8 := by have := t18.2.2; (clear hV hG h16 ht hs hj hi hfr hp e61 m5 hV' hW eM hK hr n16 nt5 this; omega)
  have rw8 := t18.2.2.2.2.1 v (by (clear hV hG h16 ht hs hj hi hfr hp e61 vr t18 m5 hV' hW eM hK hr n16 nt5 c; lia)) (by have := t18.2.2; (clear hV hG h16 ht hs hj hi hfr hp e61 m5 hV' hW eM hK hr n16 nt5 this; omega))
  rw [if_neg (by omega), w32_id (x := 3 * i) (by omega) (by omega), w32_id (x := 3 * i + j) (by (clear hV hG h16 ht hs hfr hp hv e61 vr t18 m5 hV' hW eM hK hr n16 nt5 c hv8 rw8; lia)) (by (clear hV hG h16 hs hj hp hv e61 vr t18 m5 hV' hW eM hK hr n16 nt5 c hv8 rw8; lia))]
  refine ⟨by (clear hV hG h16 ht hs hj hi hfr hp e61 vr m5 hV' hW eM hK hr n16 nt5 c rw8; omega), by (clear hV hG h16 ht hs hfr hp hv e61 vr t18 m5 hV' hW eM hK hr n16 nt5 c hv8 rw8; omega), by omega, ?_⟩
  have ok0 : tkK Mx (Mx 1 18) v s j = 0 → rv_ Kv [] (up_ N 202 (3 * i + j) (N 184 (8 * Mx 1 18 + v))) := fun e => by
    rw [e] at hK; unfold Qn_ at hK; rw [if_pos (.inr rfl)] at hK; exact rv_i hK
  have ok5 : tkK Mx (Mx 1 18) v s j = 5 → Tr_ wd0 pg0 (d + 1) 236 [.inr (.inr 6), .inl 5, .inl p] (up_ N 202 (3 * i + j) (N 184 (8 * Mx 1 18 + v))) (rv_ fun M2 => rv_ Kv [] M2) Qt := fun e => q_236 (rv_i (by
    rw [e, ← Qn_up (by decide)] at hK
    rw [nt5 (by rw [up_ne (by decide)]; exact n16) (by decide)]; exact hK))
  unfold tkK at ok0 ok5
  rw [if_neg c] at ok0 ok5
  rw [hr 183 (by decide), hr 156 (by decide), hr 182 (by decide), hr 157 (by decide)]
  by_cases c1 : Mx 131 (8 * Mx 1 18 + v) ≤ 0
  · rw [if_pos c1] at ok0 ok5
    rw [if_pos (by (clear hV hG h16 ht hs hj hi hfr hp hv e61 vr t18 m5 hV' hW eM hK hr n16 nt5 c hv8 ok0 ok5; omega))]
    by_cases c2 : s < 0
    · rw [if_pos c2] at ok0 ⊢
      rw [if_neg (by decide)]; exact ok0 rfl
    rw [if_neg c2] at ok0 ok5 ⊢
    by_cases c3 : s < 100
    · rw [if_pos c3] at ok0 ok5 ⊢
      have sg := hG.2 s (by (clear hV hG h16 ht hs hj hi hfr hp hv e61 vr t18 m5 hV' hW eM hK hr n16 nt5 c hv8 rw8 ok0 ok5 c1; omega)) (by (clear hV hG h16 ht hj hi hfr hp e61 t18 hV' hW eM hK hr n16 nt5 rw8 c1; lia))
      refine ⟨by (clear hV hG h16 ht hj hi hfr hp e61 t18 hV' hW eM hK hr n16 nt5 rw8 c1 sg; lia), ?_⟩
      rw [sg.1.2.2]
      by_cases c4 : j < Mx 112 s
      · rw [if_pos c4] at ok0 ok5 ⊢
        have sj := sg.2 j hj.1 c4
        rw [w32_id (x := 3 * s) (by (clear hV hG h16 ht hs hj hi hfr hp hv e61 vr t18 m5 hV' hW eM hK hr n16 nt5 c hv8 rw8 ok0 ok5 c1 sg c4 sj; lia)) (by (clear hV hG h16 ht hs hj hi hfr hp hv e61 vr t18 m5 hV' hW eM hK hr n16 nt5 c hv8 rw8 ok0 ok5 c1 sg c4 sj; omega)), w32_id (x := 3 * s + j) (by (clear hV hG h16 ht hs hi hfr hp hv e61 vr t18 m5 hV' hW eM hK hr n16 nt5 c hv8 rw8 ok0 ok5 c1 sg c4 sj; omega)) (by (clear hV hG h16 hs hj hi hp hv e61 vr t18 m5 hV' hW eM hK hr n16 nt5 c hv8 rw8 ok0 ok5 c1 sg c4 sj; lia)), sj.2.2]
        refine ⟨by omega, by (clear hV hG h16 ht hi hfr hp e61 t18 hV' hW eM hK hr n16 nt5 rw8 c1 sg c4 sj; lia), ?_⟩
        by_cases c5 : Mx 113 (3 * s + j) = Mx 130 (8 * Mx 1 18 + v)
        · rw [if_pos c5] at ok0
          rw [if_pos (by (clear hV hG h16 ht hs hj hi hfr hp hv e61 vr t18 m5 hV' hW eM hK hr n16 nt5 c hv8 ok0 ok5 c1 c2 c3 sg c4; omega)), if_neg (by decide)]; exact ok0 rfl
        · rw [if_neg c5] at ok5
          rw [if_neg (by (clear hV hG h16 ht hs hj hi hfr hp hv e61 vr t18 m5 hV' hW eM hK hr n16 nt5 c hv8 ok0 ok5 c1 c2 c3 sg c4; omega)), if_pos rfl]; exact ⟨by (clear hV hG h16 hs hj hi hp hv e61 vr t18 m5 hV' hW eM hK hr n16 nt5 c hv8 rw8 ok0 ok5 c1 c2 c3 sg c4 sj c5; omega), ok5 rfl⟩
      · rw [if_neg c4] at ok0 ⊢
        rw [if_neg (by decide)]; exact ok0 rfl
    · rw [if_neg c3] at ok0 ⊢
      rw [if_neg (by decide)]; exact ok0 rfl
  · rw [if_neg c1] at ok5
    rw [if_neg (by (clear hV hG h16 ht hs hj hi hfr hp hv e61 vr t18 m5 hV' hW eM hK hr n16 nt5 c hv8 ok0 ok5; omega)), if_pos rfl]; exact ⟨by omega, ok5 rfl⟩
end TL
end T195_tk
section T196_tv
/-! inputs: within the brackets -/
def o1_ (M : mm_) : mm_ := up_ M 1 6 1
def q1_ (N : mm_) : mm_ := up_ N 6 15 1
section OO
variable {b F : Int} {M N Mx Mq : mm_} {t p k s j fr i v T a mask ee w kk : Int}
theorem o1_r [Inhabited gh_] {r : Nat} (h : r ≠ 1) : o1_ M r = M r := up_ne h
theorem o1_1 [Inhabited gh_] {i : Int} (h : i ≠ 6) : o1_ M 1 i = M 1 i := up_off h
theorem q1_r [Inhabited gh_] {r : Nat} (h : r ≠ 6) : q1_ N r = N r := up_ne h
theorem q1_6 [Inhabited gh_] {i : Int} (h : i ≠ 15) : q1_ N 6 i = N 6 i := up_off h
theorem o1_XF [Inhabited gh_] : XF M (o1_ M) := ⟨fun r hr => o1_r (fun c => hr (by rw [c]; decide)), fun i _ _ _ h6 _ => o1_1 h6, fun i _ => by rw [o1_r (by decide)]⟩
theorem q1_QF [Inhabited gh_] : QF N (q1_ N) := ⟨fun r hr => q1_r (fun c => hr (by rw [c]; decide)), fun i _ _ _ h _ _ _ _ => q1_6 h⟩
theorem nX_o1 [Inhabited gh_] : nX_ (o1_ M) = o1_ (nX_ M) := by
  unfold nX_ o1_
  rw [up_off (by decide), up_cc (.inr (by decide))]
theorem nx_q1 [Inhabited gh_] : nx_ (q1_ N) = q1_ (nx_ N) := by
  unfold nx_ q1_
  rw [up_off (by decide), up_cc (.inr (by decide))]
theorem nt1_o1 [Inhabited gh_] : nt1_ (o1_ M) k t = o1_ (nt1_ M k t) := by
  unfold nt1_
  rw [o1_1 (by decide), o1_1 (by decide), o1_1 (by decide), o1_r (by decide)]
  unfold o1_
  split
  · rw [up_cc (r := 1) (i := 6) (i' := 7) (.inr (by decide)), up_cc (r := 1) (i := 6) (i' := 4) (.inr (by decide)), up_cc (r := 1) (i := 6) (i' := 5) (.inr (by decide))]
  · rw [up_cc (r := 1) (i := 6) (i' := 7) (.inr (by decide))]
theorem itx_o1 [Inhabited gh_] : ∀ (n : Nat) (M : mm_), itx t n (o1_ M) = o1_ (itx t n M)
  | 0, M => rfl
  | n + 1, M => by
    show itx t n (nt1_ (o1_ M) 3 t) = o1_ (itx t n (nt1_ M 3 t))
    rw [nt1_o1]; exact itx_o1 n _
theorem Xn_o1 [Inhabited gh_] : Xn_ (o1_ M) b k t = o1_ (Xn_ M b k t) := by
  unfold Xn_; split
  · rfl
  · exact nt1_o1
theorem tkK_o1 [Inhabited gh_] : tkK (o1_ M) T v s j = tkK M T v s j := tkK_c fun r h => o1_r h
theorem tkX_o1 [Inhabited gh_] : tkX (o1_ M) T v s j t k = o1_ (tkX M T v s j t k) := by
  unfold tkX
  rw [tkK_o1, Xn_o1, Xn_o1, o1_r (by decide)]
  split
  · rfl
  · unfold o1_; rw [up_cc (.inl (by decide))]
theorem nt_q1 [Inhabited gh_] : nt_ (q1_ N) k p = q1_ (nt_ N k p) := by
  unfold nt_ bf_
  rw [q1_6 (by decide), q1_6 (by decide), q1_6 (by decide)]
  split
  · rfl
  · split
    · unfold q1_
      rw [up_cc (r := 6) (i := 15) (i' := 13) (.inr (by decide)), up_cc (r := 6) (i := 15) (i' := 14) (.inr (by decide))]
    · rfl
theorem itq_q1 [Inhabited gh_] : ∀ (n : Nat) (N : mm_), itq p n (q1_ N) = q1_ (itq p n N)
  | 0, N => rfl
  | n + 1, N => by
    show itq p n (nt_ (q1_ N) 3 p) = q1_ (itq p n (nt_ N 3 p))
    rw [nt_q1]; exact itq_q1 n _
theorem Qn_q1 [Inhabited gh_] : Qn_ (q1_ N) b k p = q1_ (Qn_ N b k p) := by
  unfold Qn_; split
  · rfl
  · exact nt_q1
theorem tkQ_q1 [Inhabited gh_] : tkQ (o1_ M) (q1_ N) T v s j p i = q1_ (tkQ M N T v s j p i) := by
  unfold tkQ
  rw [tkK_o1, Qn_q1, Qn_q1, q1_r (by decide)]
  split
  · rfl
  · unfold q1_; rw [up_cc (.inl (by decide))]
/-- the state behind the j-th variable -/
def tX9_ (M N : mm_) (s j fr t k : Int) : mm_ := tkX (itx t (dpc (N 151) (N 151 t) j.toNat (fr + 1)) M) (M 1 18) (vrr N (N 151 t)) s j t k
def tQ9_ (M N : mm_) (s j fr t i : Int) : mm_ := tkQ M (itq (M 71 t) (dpc (N 151) (N 151 t) j.toNat (fr + 1)) N) (M 1 18) (vrr N (N 151 t)) s j (M 71 t) i
theorem tX9_o1 [Inhabited gh_] : tX9_ (o1_ M) (q1_ N) s j fr t k = o1_ (tX9_ M N s j fr t k) := by
  unfold tX9_
  rw [itx_o1, tkX_o1, q1_r (by decide), vrr_c q1_QF, o1_1 (by decide)]
theorem tQ9_q1 [Inhabited gh_] : tQ9_ (o1_ M) (q1_ N) s j fr t i = q1_ (tQ9_ M N s j fr t i) := by
  unfold tQ9_
  rw [o1_r (by decide), itq_q1, tkQ_q1, q1_r (by decide), vrr_c q1_QF, o1_1 (by decide)]
/-- SL does not see 137, 202 -/
theorem SL_37 [Inhabited gh_] (h : SL b F Mx Mq a mask ee w) {c v c' v' : Int} : SL b F (up_ Mx 137 c v) (up_ Mq 202 c' v') a mask ee w := by
  obtain ⟨h1, ⟨s1, s2, s3⟩, hm, h4⟩ := h
  have e : ∀ r : Nat, r ≠ 137 → up_ Mx 137 c v r = Mx r := fun r h => up_ne h
  have q : ∀ r : Nat, r ≠ 202 → up_ Mq 202 c' v' r = Mq r := fun r h => up_ne h
  have xb : XSb Mx (up_ Mx 137 c v) := ⟨fun r hr => e r (fun h => hr (by rw [h]; decide)), fun i hi => by rw [e 1 (by decide)], fun i _ _ => by rw [e 5 (by decide)]⟩
  have qb : QSb Mq (up_ Mq 202 c' v') := ⟨fun r hr => q r (fun h => hr (by rw [h]; decide)), fun i hi => by rw [q 6 (by decide)]⟩
  refine ⟨TS_c h1 xb qb (fun i h _ => by rw [e 1 (by decide)]) (by rw [e 5 (by decide)]) (e _ (by decide)) (e _ (by decide)) (e _ (by decide)) (e _ (by decide)) (fun _ _ _ => by rw [q 6 (by decide)]) (q _ (by decide)) (q _ (by decide)) (q _ (by decide)) (q _ (by decide)) (q _ (by decide)), ⟨by rw [e 5 (by decide)]; exact s1, by rw [q 6 (by decide)]; exact s2, by rw [q 6 (by decide)]; exact s3⟩, hm, fun hb => ?_⟩
  obtain ⟨⟨xs, hs⟩, hmb, r⟩ := h4 hb
  refine ⟨⟨xs, SRW_c hs (by rw [e 5 (by decide)]) (e _ (by decide)) (e _ (by decide)) (e _ (by decide)) (e _ (by decide)) (e _ (by decide)) (by rw [q 6 (by decide)]) (by rw [q 6 (by decide)]) (q _ (by decide)) (q _ (by decide)) (q _ (by decide)) (q _ (by decide)) (q _ (by decide)) (q _ (by decide))⟩, ?_, ?_⟩
  · rw [e 1 (by decide), e 123 (by decide)]; exact hmb
  · rw [e 1 (by decide), q 6 (by decide), q 193 (by decide), q 192 (by decide), q 194 (by decide)]; exact r
theorem SL_it [Inhabited gh_] : ∀ (n : Nat) (M N : mm_), gd_ M t → SL 1 F M N a mask ee w → M 1 7 + n + 8 * (1201 - a) ≤ 1000000000 - (gg_ : Int) → SL 1 F (itx t n M) (itq (M 71 t) n N) a mask ee w ∧ (itq (M 71 t) n N 6 13 = 0 → N 6 13 = 0)
  | 0, M, N, _, h, _ => ⟨h, fun e => e⟩
  | n + 1, M, N, ht, h, hf => by
    have s := SL_n (kk := 3) h (.inr (by decide)) ht (by (clear ht h; lia))
    have e1 : Xn_ M 1 3 t = nt1_ M 3 t := by unfold Xn_; rw [if_neg (by (clear ht h hf s; lia))]
    have e2 : Qn_ N 1 3 (M 71 t) = nt_ N 3 (M 71 t) := by unfold Qn_; rw [if_neg (by omega)]
    rw [e1, e2] at s
    have r := SL_it n (nt1_ M 3 t) (nt_ N 3 (M 71 t)) (gd_c (nt1_r (by decide)) ht) s.1 (by rw [nt1_7]; (clear ht h s e1 e2; omega))
    rw [nt1_r (r := 71) (by decide)] at r
    exact ⟨r.1, fun e => absurd (s.2.2 rfl (r.2 e)).1 (by decide)⟩
/-- a variable takes a value: SL stays -/
theorem SL_tk [Inhabited gh_] (h : SL 1 F M N a mask ee w) (ht : gd_ M t) (hj : 0 ≤ j ∧ j ≤ 3) (hf : M 1 7 + 4 + 8 * (1201 - a) ≤ 1000000000 - (gg_ : Int)) : SL 1 F (tX9_ M N s j fr t k) (tQ9_ M N s j fr t i) a mask ee w ∧ (tQ9_ M N s j fr t i 6 13 = 0 → N 6 13 = 0 ∧ vrr N (N 151 t) ≠ -1 ∧ tkK M (M 1 18) (vrr N (N 151 t)) s j = 0) := by
  have dl := dpc_le (f := N 151) (v := N 151 t) j.toNat (fr + 1)
  have r := SL_it (dpc (N 151) (N 151 t) j.toNat (fr + 1)) M N ht h (by omega)
  have e17 := itx_7 (t := t) (dpc (N 151) (N 151 t) j.toNat (fr + 1)) M
  unfold tX9_ tQ9_
  generalize eM : itx t (dpc (N 151) (N 151 t) j.toNat (fr + 1)) M = M1 at *
  generalize itq (M 71 t) (dpc (N 151) (N 151 t) j.toNat (fr + 1)) N = N1 at *
  have hr : ∀ r : Nat, r ≠ 1 → M1 r = M r := fun r h => by rw [← eM]; exact itx_r h _ _
  have ek : tkK M1 (M 1 18) (vrr N (N 151 t)) s j = tkK M (M 1 18) (vrr N (N 151 t)) s j := tkK_c hr
  have kr := tkK_r (M := M) (T := M 1 18) (v := vrr N (N 151 t)) (s := s) (j := j)
  have g1 : gd_ M1 t := gd_c (hr 70 (by decide)) ht
  unfold tkX tkQ
  rw [ek]
  by_cases c : vrr N (N 151 t) = -1
  · rw [if_pos c, if_pos c]
    have s4 := SL_n (kk := 4) r.1 (.inr (by decide)) g1 (by (clear h ht eM hr ek g1 c; lia))
    rw [hr 71 (by decide)] at s4
    exact ⟨s4.1, fun e => absurd (s4.2.2 rfl e).1 (by decide)⟩
  · rw [if_neg c, if_neg c]
    have s4 := SL_n (kk := tkK M (M 1 18) (vrr N (N 151 t)) s j) r.1 kr g1 (by (clear h ht eM hr ek g1; lia))
    rw [hr 71 (by decide)] at s4
    refine ⟨SL_37 s4.1, fun e => ?_⟩
    rw [up_ne (by decide)] at e
    have := s4.2.2 rfl e
    exact ⟨r.2 this.2, c, this.1⟩
end OO
end T196_tv
section T197_tv
/-! inputs: what the variables in brackets add -/
def GV (b T s : Int) (M N M' N' : mm_) (k i j j' : Int) : Prop := (Fr_ [1, 137] M M' ∧ (∀ x : Int, x ≠ 3 → x ≠ 4 → x ≠ 5 → x ≠ 7 → M' 1 x = M 1 x) ∧ (b = 0 → M' 137 = M 137) ∧ (∀ x, x < 3 * k + j → M' 137 x = M 137 x))
  ∧ (Fr_ [6, 202] N N' ∧ (∀ x : Int, x ≠ 12 → x ≠ 13 → x ≠ 14 → N' 6 x = N 6 x) ∧ (∀ x, x < 3 * i + j → N' 202 x = N 202 x))
  ∧ (b = 1 → N' 6 13 = 0 → N 6 13 = 0 ∧ ∀ v, j ≤ v → v < j' → M' 137 (3 * k + v) = N' 202 (3 * i + v) ∧ ∃ u, (0 ≤ u ∧ u < N 171 T) ∧ N' 202 (3 * i + v) = N 184 (8 * T + u) ∧ N 183 (8 * T + u) = 0 ∧ (0 ≤ s → s < 100 → v < M 112 s → M 113 (3 * s + v) = M 130 (8 * T + u)))
section GV
variable {b F T : Int} {M N M1 N1 M2 N2 : mm_} {t p k s j j1 j2 fr i v a mask ee w kk : Int}
theorem GV_tr [Inhabited gh_] (hj : j ≤ j1) (h1 : GV b T s M N M1 N1 k i j j1) (h2 : GV b T s M1 N1 M2 N2 k i j1 j2) : GV b T s M N M2 N2 k i j j2 := by
  obtain ⟨⟨a1, a2, a3, a4⟩, ⟨b1, b2, b3⟩, c1⟩ := h1
  obtain ⟨⟨d1, d2, d3, d4⟩, ⟨e1, e2, e3⟩, c2⟩ := h2
  refine ⟨⟨Fr_tr a1 d1, fun x p q r s => (d2 x p q r s).trans (a2 x p q r s), fun hb => (d3 hb).trans (a3 hb), fun x h => (d4 x (by omega)).trans (a4 x h)⟩, ⟨Fr_tr b1 e1, fun x p q r => (e2 x p q r).trans (b2 x p q r), fun x h => (e3 x (by omega)).trans (b3 x h)⟩, fun hb hz => ?_⟩
  obtain ⟨z1, z2⟩ := c2 hb hz
  obtain ⟨y1, y2⟩ := c1 hb z1
  refine ⟨y1, fun v v0 v1 => ?_⟩
  by_cases c : v < j1
  · rw [d4 _ (by (clear hj a1 a2 a3 a4 c1 b1 b2 b3 d1 d2 d3 d4 c2 e1 e2 e3 hb hz z1 z2 y1 y2 v0 v1; lia)), e3 _ (by omega)]; exact y2 v v0 c
  · have := z2 v (by omega) v1
    rw [b1 171 (by decide), b1 184 (by decide), b1 183 (by decide), a1 112 (by decide), a1 113 (by decide), a1 130 (by decide)] at this
    exact this
theorem GV_0 [Inhabited gh_] (hx : XF M M1) (h142 : M1 142 = M 142) (h5 : M1 5 = M 5) (h16 : M1 1 6 = M 1 6) (hq : ∀ r : Nat, r ≠ 6 → N1 r = N r) (hq6 : ∀ x : Int, x ≠ 12 → x ≠ 13 → x ≠ 14 → N1 6 x = N 6 x) (h13 : b = 1 → N1 6 13 = 0 → N 6 13 = 0) : GV b T s M N M1 N1 k i j j := by
  have e : ∀ r : Nat, r ≠ 1 → M1 r = M r := fun r h1 => by
    by_cases c : r = 142
    · rw [c]; exact h142
    · by_cases c5 : r = 5
      · rw [c5]; exact h5
      · exact hx.1 r (by simp only [List.mem_cons, List.not_mem_nil, or_false, not_or]; exact ⟨h1, c5, c⟩)
  refine ⟨⟨fun r hr => e r (fun c => hr (by rw [c]; decide)), fun x h3 h4 h5 h7 => ?_, fun _ => e 137 (by decide), fun x _ => by rw [e 137 (by decide)]⟩, ⟨fun r hr => hq r (fun c => hr (by rw [c]; decide)), hq6, fun x _ => by rw [hq 202 (by decide)]⟩, fun hb hz => ⟨h13 hb hz, fun v a b => by omega⟩⟩
  by_cases c : x = 6
  · rw [c]; exact h16
  · exact hx.2.1 x h3 h4 h5 c h7
theorem GV_go [Inhabited gh_] : GV b T s M N (nX_ M) (nx_ N) k i j j := GV_0 nX_XF (nX_ne (by decide)) (nX_ne (by decide)) (nX_1 (by decide)) (fun r h => nx_ne h) (fun x h _ _ => nx_6 h) (fun _ h => by rw [nx_6 (by decide)] at h; exact h)
theorem GV_tk [Inhabited gh_] (hV : VT M N) (hj : 0 ≤ j) (h13 : tQ9_ M N s j fr t i 6 13 = 0 → N 6 13 = 0 ∧ vrr N (N 151 t) ≠ -1 ∧ tkK M (M 1 18) (vrr N (N 151 t)) s j = 0) : GV 1 (M 1 18) s M N (tX9_ M N s j fr t k) (tQ9_ M N s j fr t i) k i j (j + 1) := by
  have xf := itx_XF (t := t) (M := M) (dpc (N 151) (N 151 t) j.toNat (fr + 1))
  have qf := itq_QF (p := M 71 t) (N := N) (dpc (N 151) (N 151 t) j.toNat (fr + 1))
  have hr : ∀ r : Nat, r ≠ 1 → itx t (dpc (N 151) (N 151 t) j.toNat (fr + 1)) M r = M r := fun r h => itx_r h _ _
  have hr1 : ∀ x : Int, x ≠ 4 → x ≠ 5 → x ≠ 7 → itx t (dpc (N 151) (N 151 t) j.toNat (fr + 1)) M 1 x = M 1 x := fun x h4 h5 h7 => itx_1 h4 h5 h7 _ _
  have qr : ∀ r : Nat, r ≠ 6 → itq (M 71 t) (dpc (N 151) (N 151 t) j.toNat (fr + 1)) N r = N r := fun r h => itq_r h _ _
  have qr6 : ∀ x : Int, x ≠ 13 → x ≠ 14 → itq (M 71 t) (dpc (N 151) (N 151 t) j.toNat (fr + 1)) N 6 x = N 6 x := fun x h4 h5 => itq_6 h4 h5 _ _
  have vr := vrr_r hV (v := N 151 t)
  unfold tX9_ tQ9_ at *
  generalize itx t (dpc (N 151) (N 151 t) j.toNat (fr + 1)) M = M1 at *
  generalize itq (M 71 t) (dpc (N 151) (N 151 t) j.toNat (fr + 1)) N = N1 at *
  have ek : tkK M1 (M 1 18) (vrr N (N 151 t)) s j = tkK M (M 1 18) (vrr N (N 151 t)) s j := tkK_c hr
  unfold tkX
  unfold tkQ at h13 ⊢
  rw [ek]
  by_cases c : vrr N (N 151 t) = -1
  · rw [if_pos c] at h13
    rw [if_pos c, if_pos c]
    refine ⟨⟨fun r h => (Xn_r (fun e => h (by rw [e]; decide))).trans (hr r (fun e => h (by rw [e]; decide))), fun x h3 h4 h5 h7 => (Xn_1 h4 h5 h7).trans (hr1 x h4 h5 h7), fun hb => by omega, fun x _ => by rw [Xn_r (by decide), hr 137 (by decide)]⟩, ⟨fun r h => (Qn_r (fun e => h (by rw [e]; decide))).trans (qr r (fun e => h (by rw [e]; decide))), fun x _ h1 h2 => (Qn_6 h1 h2).trans (qr6 x h1 h2), fun x _ => by rw [Qn_r (by decide), qr 202 (by decide)]⟩, fun _ hz => ⟨(h13 hz).1, ?_⟩⟩
    exact absurd c (h13 hz).2.1
  · rw [if_neg c] at h13
    rw [if_neg c, if_neg c]
    refine ⟨⟨fun r h => ?_, fun x h3 h4 h5 h7 => ?_, fun hb => by omega, fun x h => ?_⟩, ⟨fun r h => ?_, fun x _ h1 h2 => ?_, fun x h => ?_⟩, fun _ hz => ⟨(h13 hz).1, fun v v0 v1 => ?_⟩⟩
    · rw [up_ne (fun e => h (by rw [e]; decide)), Xn_r (fun e => h (by rw [e]; decide)), hr r (fun e => h (by rw [e]; decide))]
    · rw [up_ne (by decide), Xn_1 h4 h5 h7, hr1 x h4 h5 h7]
    · rw [up_of2 (by omega), Xn_r (by decide), hr 137 (by decide)]
    · rw [up_ne (fun e => h (by rw [e]; decide)), Qn_r (fun e => h (by rw [e]; decide)), qr r (fun e => h (by rw [e]; decide))]
    · rw [up_ne (by decide), Qn_6 h1 h2, qr6 x h1 h2]
    · rw [up_of2 (by omega), Qn_r (by decide), qr 202 (by decide)]
    · have k0 := (h13 hz).2.2
      have e61 := hV.2.1
      rw [e61] at vr
      have v8 : 0 ≤ vrr N (N 151 t) ∧ vrr N (N 151 t) < M 124 (M 1 18) := by have := hV.2.2.2.2.1.2.2; (clear hV hj xf hr hr1 qf qr qr6 ek v0 v1 k0 e61; lia)
      have rw8 := hV.2.2.2.2.2.2.1 _ v8.1 v8.2
      have b31 : M 131 (8 * M 1 18 + vrr N (N 151 t)) ≤ 0 := by
        unfold tkK at k0
        rw [if_neg c] at k0
        by_cases c1 : M 131 (8 * M 1 18 + vrr N (N 151 t)) ≤ 0
        · exact c1
        · rw [if_neg c1] at k0; omega
      rw [show v = j by omega, up_at, up_at, hr 132 (by decide), qr 184 (by decide)]
      refine ⟨rw8.2.2.2.2.1, vrr N (N 151 t), ⟨v8.1, by have := hV.2.2.2.2.1.2.2; (clear hV hj vr xf hr hr1 h13 qf qr qr6 ek c hz v0 v1 k0 e61 rw8 b31; omega)⟩, rfl, by (clear hV hj vr xf hr hr1 h13 qf qr qr6 ek c hz v0 v1 k0 e61 v8; omega), fun s0 s1 s2 => ?_⟩
      unfold tkK at k0
      rw [if_neg c, if_pos b31, if_neg (by omega), if_pos s1, if_pos s2] at k0
      by_cases c9 : M 113 (3 * s + j) = M 130 (8 * M 1 18 + vrr N (N 151 t))
      · exact c9
      · rw [if_neg c9] at k0; omega
end GV
end T197_tv
section T198_tv
/-! inputs: the loop within the brackets (X 169 V 135 | Q 310 V 18) -/
def ivT (κ : Int → Int) (s : Int × Int) : Option ((Int × Int) ⊕ Int) := (gS s.1).bind fun a1 => if s.2 = 3 then none else (tS κ 100 a1).bind fun a2 => if κ a2 = 244 then some (.inl (a2, s.2 + 1)) else (tS κ 241 a2).bind fun a3 => some (.inr a3)
def IV (κ : Int → Int) (s : Int × Int) : Option Int := LPz (ivT κ) s
section IVs
variable {κ : Int → Int} {a j : Int}
theorem ivT_y [Inhabited gh_] {L : Int × Int → Option Int} {X : Option Int} (h12 : a < 1200) (hj : j ≠ 3) (hX : tS κ 100 (a + 1) = X) : (ivT κ (a, j)).bind (lk8_ L) = X.bind fun a2 => if κ a2 = 244 then L (a2, j + 1) else tS κ 241 a2 := by
  unfold ivT
  simp only [gS_e h12, Option.bind_some, if_neg hj, hX]
  cases X with
  | none => rfl
  | some a1 =>
    rw [Option.bind_some, Option.bind_some]
    by_cases c : κ a1 = 244
    · rw [if_pos c, if_pos c]; rfl
    · rw [if_neg c, if_neg c]
      cases tS κ 241 a1 with
      | none => rfl
      | some a2 => rfl
theorem ivT_l [Inhabited gh_] (s s' : Int × Int) (h0 : 0 ≤ s.1) (h1 : s.1 ≤ 1200) (h : ivT κ s = some (.inl s')) : s.1 + 1 ≤ s'.1 ∧ s'.1 ≤ 1200 := by
  unfold ivT at h
  cases e : gS s.1 with
  | none => rw [e] at h; exact absurd h (by simp only [Option.bind_none]; intro x; cases x)
  | some a1 =>
    rw [e, Option.bind_some] at h
    have g := gS_s e
    by_cases c3 : s.2 = 3
    · rw [if_pos c3] at h; cases h
    · rw [if_neg c3] at h
      cases e2 : tS κ 100 a1 with
      | none => rw [e2] at h; exact absurd h (by simp only [Option.bind_none]; intro x; cases x)
      | some a2 =>
        rw [e2, Option.bind_some] at h
        have t := tS_s e2
        by_cases c : κ a2 = 244
        · rw [if_pos c] at h
          injection h with h; injection h with h
          rw [← h]; show s.1 + 1 ≤ a2 ∧ a2 ≤ 1200; omega
        · rw [if_neg c] at h
          cases e3 : tS κ 241 a2 with
          | none => rw [e3] at h; exact absurd h (by simp only [Option.bind_none]; intro x; cases x)
          | some a3 => rw [e3, Option.bind_some] at h; injection h with h; cases h
theorem IV_u [Inhabited gh_] (h0 : 0 ≤ a) (h1 : a ≤ 1200) : IV κ (a, j) = (ivT κ (a, j)).bind (lk8_ (IV κ)) := LP_u (step := ivT κ) (fun s => s.1) (fun s s' => ivT_l s s') (s := (a, j)) h0 h1
theorem IV_e [Inhabited gh_] (h0 : 0 ≤ a) (h12 : a < 1200) (hj : j ≠ 3) : IV κ (a, j) = (tS κ 100 (a + 1)).bind fun a2 => if κ a2 = 244 then IV κ (a2, j + 1) else tS κ 241 a2 := (IV_u h0 (Int.le_of_lt h12)).trans (ivT_y h12 hj rfl)
theorem IV_3 [Inhabited gh_] (h0 : 0 ≤ a) (h1 : a ≤ 1200) : IV κ (a, 3) = none := by
  have e := IV_u (κ := κ) (j := 3) h0 h1
  have e2 : ivT κ (a, 3) = none := by
    unfold ivT
    cases gS a with
    | none => simp only [Option.bind_none]
    | some a3 => simp only [Option.bind_some, if_true]
  rw [e2, Option.bind_none] at e
  exact e
theorem IV_g [Inhabited gh_] (h0 : 0 ≤ a) (h1 : a ≤ 1200) (h : IV κ (a, j) ≠ none) : a < 1200 := by
  have e := IV_u (κ := κ) (j := j) h0 h1
  rw [e] at h
  have h := bind_n h
  unfold ivT at h
  exact gS_n (bind_n h)
end IVs
/-- X's rest behind the brackets of an in -/
def R201 (d : Nat) (Qr : List pv_ → mm_ → Prop) (Qt : qt_) (x1 x2 x3 x4 : Int) (M2 : mm_) : Prop :=
    (bl_ (M2 1 8) → (if M2 1 8 = 0 then
     Qr [] (up_ M2 1 6 (w32 ((M2 1 6) - 1)))
    else
     (if x2 = (-1) then
      Qr [] (up_ M2 1 6 (w32 ((M2 1 6) - 1)))
     else
      M2 1 2 = 5 ∧
       (0 ≤ x3 ∧ x3 < 600) ∧
       (if x2 < 100 then
       M2 1 2 = 5 ∧
        (0 ≤ x2 ∧ x2 < 20) ∧
        (if w32 (x4 + 1) = M2 112 x2 then
        Qr [] (up_ (up_ M2 1 6 (w32 ((M2 1 6) - 1))) 138 x3 (w32 (x4 + 1)))
       else
        Tr_ wd0 pg0 d 116 [.inr (.inr 1), .inl 5, .inl x1] (up_ (up_ M2 1 6 (w32 ((M2 1 6) - 1))) 138 x3 (w32 (x4 + 1))) (rv_ fun M4 =>
         Qr [] M4) Qt)
      else
       (if w32 (x4 + 1) = 0 then
        Qr [] (up_ (up_ M2 1 6 (w32 ((M2 1 6) - 1))) 138 x3 (w32 (x4 + 1)))
       else
        Tr_ wd0 pg0 d 116 [.inr (.inr 1), .inl 5, .inl x1] (up_ (up_ M2 1 6 (w32 ((M2 1 6) - 1))) 138 x3 (w32 (x4 + 1))) (rv_ fun M3 =>
         Qr [] M3) Qt)))))
/-- Q within the brackets: at a name -/
def q10 (dq : Nat) (i who p fr j : Int) (N : mm_) (G : mm_ → Prop) (Qt : qt_) : Prop := ∀ V : vv_, Cl_ wd0 (Tr_ wd0 pg0 (dq + 14)) V (rv_ G) Qt m_310 → Wk_ V → V 18 [rr 6, ii i, ii who, ii p, ii j, ii (fr + 1), ii 1, none] [] (q1_ (nx_ N))
/-- Q within the brackets: at their end -/
def q10e (dq : Nat) (i who p fr j : Int) (N : mm_) (G : mm_ → Prop) (Qt : qt_) : Prop := ∀ V : vv_, Cl_ wd0 (Tr_ wd0 pg0 (dq + 14)) V (rv_ G) Qt m_310 → Wk_ V → V 102 [rr 6, ii i, ii who, ii p, ii j, ii (fr + 1), ii 0, none] [] (q1_ N)
section TM
variable {d dq : Nat} {b F : Int} {M N Mx Mq : mm_} {t p k s j fr i v T a mask ee w kk who x1 x2 x3 x4 x5 x6 x7 : Int} {Kv G : mm_ → Prop} {Qr : List pv_ → mm_ → Prop} {Qt Qtq : qt_} {V : vv_}
theorem ER_o1 [Inhabited gh_] (h : ER b F M N a 0) : ER b F (o1_ M) (q1_ N) a 1 := ER_o h (by decide)
/-- Q stopped behind a name in brackets -/
theorem q61_s [Inhabited gh_] (hV : Cl_ wd0 (Tr_ wd0 pg0 (dq + 14)) V (rv_ G) Qtq m_310) (hW : Wk_ V) (hs : sp_ N) (h : G N) : V 61 [rr 6, ii x1, ii x2, ii x3, ii x4, ii x5, ii x6, ii x7] [] N := b_310_61 (Tr_mono _) hV hW _ _ _ _ _ _ _ _ (q_227s hs (by rw [if_neg (by decide)]; exact rv_i h))
theorem q102_s [Inhabited gh_] (hV : Cl_ wd0 (Tr_ wd0 pg0 (dq + 14)) V (rv_ G) Qtq m_310) (hW : Wk_ V) (hs : sp_ N) (h : G N) : V 102 [rr 6, ii x1, ii x2, ii x3, ii x4, ii x5, ii x6, none] [] N := b_310_102 (Tr_mono _) hV hW _ _ _ _ _ _ _ (q_243s hs (q_227s hs (by rw [if_neg (by decide)]; exact rv_i h)))
theorem q18_s [Inhabited gh_] (hV : Cl_ wd0 (Tr_ wd0 pg0 (dq + 14)) V (rv_ G) Qtq m_310) (hW : Wk_ V) (hs : sp_ N) (h : G N) : V 18 [rr 6, ii x1, ii x2, ii x3, ii x4, ii x5, ii x6, none] [] N := by
  refine b_310_18 (Tr_mono _) hV hW _ _ _ _ _ _ _ ?_
  by_cases c : x6 = 0
  · rw [if_pos c]; exact q102_s hV hW hs h
  · rw [if_neg c]; exact q_227s hs (by rw [if_neg (by decide)]; exact q102_s hV hW hs h)
end TM
end T198_tv
section T199_tv
/-! inputs: the loop within the brackets, its steps -/
section TN
variable {d dq : Nat} {b F : Int} {t p k s fr i mask : Int} {Kv : mm_ → Prop} {Qr : List pv_ → mm_ → Prop} {Qt : qt_} {V : vv_}
theorem l_169 [Inhabited gh_] (hV : Cl_ wd0 (Tr_ wd0 pg0 (d + 5)) V Qr Qt m_169) (hW : Wk_ V) :
    ∀ (n : Nat) (a j ee : Int) (M N : mm_), 1201 - a ≤ (n : Int) → SL b F M N a mask ee 0 → a < 1200 → (M 70 a = 240 ∨ M 70 a = 244) → ee ≤ 1 → (0 ≤ j ∧ j ≤ 3) → 0 ≤ fr → a = fr + 2 * j → (∀ l, 0 ≤ l → l < j → nm9_ M (fr + 1 + 2 * l)) →
    (b = 1 → (k = M 5 4 - 1 ∧ 0 ≤ k) ∧ (s = -1 ∨ (0 ≤ s ∧ s < M 5 0) ∨ (100 ≤ s ∧ s < 103))) → (i = N 6 63 - 1 ∧ 0 ≤ i) → (b = 1 → IV (M 70) (a, j) ≠ none) →
    (∀ M' N' a' j', SL b F M' N' a' mask (ee + a - a') 0 → a + 2 ≤ a' → (j ≤ j' ∧ j' ≤ 2) → GV b (M 1 18) s M N M' N' k i j (j' + 1) → IV (M 70) (a, j) = tS (M 70) 241 a' → M' 70 a' ≠ 244 → (∀ (G : mm_ → Prop) (Qtq : qt_), q10e dq i s p fr (j' + 1) N' G Qtq → q10 dq i s p fr j N G Qtq) → Tr_ wd0 pg0 (d + 5) 121 [.inr (.inr 1), .inl 41] (o1_ M') (rv_ (R201 (d + 5) Qr Qt t (if b = 0 then -1 else s) (if b = 0 then -1 else k) j')) Qt) →
    (b = 0 → ∀ Mx', XSb M Mx' → (∀ (G : mm_ → Prop) (Qtq : qt_), (∀ M', SQb Mx' N M' → G M') → q10 dq i s p fr j N G Qtq) → Qt 8 Mx') →
    V 135 [rr 1, ii t, ii (if b = 0 then -1 else s), ii (if b = 0 then -1 else k), ii j, ii fr, none] [] (o1_ M)
  | 0, a, j, ee, M, N, hn, h, h12, _, _, _, _, _, _, _, _, _, _, _ => by omega
  | n + 1, a, j, ee, M, N, hn, h, h12, hc, he, hj, hfr, ha2, hnm, hks, hi, hS, hK, hQ => by
    have hE := TS_E h.1
    have ha := ER_a hE
    have h01 := bl01 hE
    have bnd := h.2.1
    have fl := h.1.2.2.2.2.2.1
    have hkd : M 70 a ≠ 102 ∧ M 70 a ≠ 103 := by (clear hV hW hn h h12 he hj hfr ha2 hnm hi hK hE ha bnd fl; lia)
    have hE1 := (ER_go hE h12 hkd).1
    have S1 := SL_go h hE1
    have x70 : nX_ M 70 = M 70 := nX_ne (by decide)
    have oE := ER_o1 hE
    have oE1 := ER_o1 hE1
    have oT1 : Tks (o1_ (nX_ M)) (q1_ (nx_ N)) := Tks_a (XF_XA o1_XF) (QF_QA q1_QF) S1.1.1.1
    have o70 : o1_ (nX_ M) 70 = M 70 := by rw [o1_r (by decide)]; exact x70
    have o71 : o1_ (nX_ M) 71 = nX_ M 71 := o1_r (by decide)
    have xs0 : XSb M (o1_ (nX_ M)) := XSb_tr (XA_XSb (XF_XA nX_XF)) (XA_XSb (XF_XA o1_XF))
    have qs0 : QSb N (q1_ (nx_ N)) := QSb_tr (QA_QSb (QF_QA nx_QF)) (QA_QSb (QF_QA q1_QF))
    have stop1 : ∀ {Mx' M2 : mm_}, SQ Mx' (q1_ (nx_ N)) M2 → SQb Mx' N M2 := fun hs => ⟨hs.1, hs.2.1, hs.2.2.1, hs.2.2.2.1, QSb_tr qs0 (QA_QSb hs.2.2.2.2)⟩
    refine b_169_135 (Tr_mono _) hV hW _ _ _ _ _ _ ?_
    refine y_105 oE (by rw [o1_r (by decide)]; exact hkd) (fun _ => by rw [gS_e h12]; exact fun e => by cases e) (fun _ _ => ?_) (fun _ e => by (clear hV hW hn h hc he hj hfr hnm hks hi hS hK hQ hE h01 bnd fl hkd hE1 S1 x70 oE oE1 oT1 o70 o71 xs0 qs0 stop1; omega))
    rw [nX_o1]
    -- Q at the name
    have toQ : ∀ (G : mm_ → Prop) (Qtq : qt_), (∀ V' : vv_, Cl_ wd0 (Tr_ wd0 pg0 (dq + 14)) V' (rv_ G) Qtq m_310 → Wk_ V' → Tr_ wd0 pg0 (dq + 14) 233 [.inr (.inr 6)] (q1_ (nx_ N)) (ri_ fun v2 M2 =>
     Tr_ wd0 pg0 (dq + 14) 227 [.inr (.inr 6)] M2 (ri_ fun v3 M3 =>
      (if v3 = 0 then
       (if j = 3 then
        (0 ≤ v2 ∧ v2 < 1202) ∧
         Tr_ wd0 pg0 (dq + 14) 231 [.inr (.inr 6), .inl 2, .inl (M3 150 v2)] M3 (rv_ fun M4 =>
         V' 61 [rr 6, ii i, ii s, ii p, ii j, ii (fr + 1), ii 1, ii v2] [] M4) Qtq
       else
        V' 61 [rr 6, ii i, ii s, ii p, ii j, ii (fr + 1), ii 1, ii v2] [] M3)
      else
       V' 61 [rr 6, ii i, ii s, ii p, ii j, ii (fr + 1), ii 1, ii v2] [] M3)) Qtq) Qtq) → q10 dq i s p fr j N G Qtq := fun G Qtq hq V' hV' hW' => by
      refine b_310_18 (Tr_mono _) hV' hW' _ _ _ _ _ _ _ ?_
      rw [if_neg (by decide)]
      refine q_227g (ER_goq oE1) ?_
      rw [if_pos rfl]
      exact hq V' hV' hW'
    have m3 : o1_ (nX_ M) 1 3 = a + 1 := oE1.2.1
    refine y_103 oE1 (fun hk1 => ?_) (fun hk1 => ?_)
    rotate_left
    · rw [if_pos rfl]
      refine x_109 (ER_iX oE1) ?_
      rw [if_neg (by decide), m3]
      rcases h01 with hb | hb
      · have hsp := SQ_bf oE1 hb (k := 1) (by decide) QA_rf
        refine hQ hb _ (XSb_tr xs0 (XA_XSb (XF_XA fl_XF))) (fun G Qtq hg => toQ G Qtq fun V' hV' hW' => ?_)
        exact j_233w oT1 oE1 hb hk1 (q_227s hsp.1 (by rw [if_neg (by decide)]; exact q61_s hV' hW' hsp.1 (hg _ (stop1 hsp))))
      · exfalso
        have h9 := hS hb
        by_cases c3 : j = 3
        · rw [c3, IV_3 ha.1 ha.2] at h9; exact h9 rfl
        · rw [IV_e ha.1 h12 c3] at h9
          have := (tS_n (bind_n h9)).1
          rw [← o70] at this
          exact hk1 this
    rw [if_neg (by decide)]
    have hk1' : M 70 (a + 1) = 100 := by rw [← o70]; exact hk1
    by_cases c3 : j = 3
    · rw [if_pos c3]
      rcases h01 with hb | hb
      · refine x_110 (by rw [m3]; (clear hV hW hn h hc he hj hnm hks hi hS hK hQ hE bnd fl hkd hE1 S1 x70 oE oE1 oT1 o70 o71 xs0 qs0 stop1 toQ hk1 hk1' hb; lia)) (by rw [m3]; (clear hV hW hn h hc he hj hnm hks hi hS hK hQ hE bnd fl hkd hE1 S1 x70 oE oE1 oT1 o70 o71 xs0 qs0 stop1 toQ hk1 hk1' hb; lia)) (fun e => absurd e (by decide)) (fun _ => ?_)
        rw [m3]
        have hsp := SQ_bf oE1 hb (k := 2) (by decide) QA_rf
        refine hQ hb _ (XSb_tr xs0 (XA_XSb (XF_XA fl_XF))) (fun G Qtq hg => toQ G Qtq fun V' hV' hW' => ?_)
        by_cases c12 : a + 1 = 1200
        · exact j_233r oT1 oE1 hb hk1 c12 (q_227s hsp.1 (by rw [if_neg (by decide)]; exact q61_s hV' hW' hsp.1 (hg _ (stop1 hsp))))
        · have a1 := ER_a oE1
          have oE2 := (ER_go oE1 (by (clear hV hW hn h hc he hj hnm hks hi hS hK hQ hE bnd fl hkd hE1 S1 x70 oE oE1 oT1 o70 o71 xs0 qs0 stop1 toQ hk1 hk1' hb hsp hg hV' hW' a1; lia)) (by rw [hk1]; decide)).1
          refine j_233t oT1 oE1 hk1 (by (clear hV hW hn h hc he hj hnm hks hi hS hK hQ hE bnd fl hkd hE1 S1 x70 oE oE1 oT1 o70 o71 xs0 qs0 stop1 toQ hk1 hk1' hb hsp hg hV' hW' a1 oE2; lia)) (q_227g (ER_goq oE2) ?_)
          rw [if_pos rfl, if_pos c3]
          refine ⟨by (clear hV hW hn h hc he hj hnm hks hi hS hK hQ hE bnd fl hkd hE1 S1 x70 oE oE1 oT1 o70 o71 xs0 qs0 stop1 toQ hk1 hk1' hb hsp hg hV' hW' c12 a1 oE2; lia), q_231o (oE2.2.2.2.2.2.2.2.2.2.1 hb) ?_⟩
          have e150 : nx_ (q1_ (nx_ N)) 150 (a + 1) = o1_ (nX_ M) 71 (a + 1) := by
            rw [nx_ne (by decide)]; exact ((oT1 (a + 1) oE1.1).2.1).symm
          rw [e150]
          have hsp2 := SQ_bf oE1 hb (k := 2) (by decide) QA_rf (M := q1_ (nx_ N))
          have sp2 : sp_ (bf_ (nx_ (q1_ (nx_ N))) 2 (o1_ (nX_ M) 71 (a + 1))) := bf_sp (by rw [nx_6 (by decide)]; exact oE1.2.2.2.2.2.2.2.1.trans hb) (by decide)
          refine q61_s hV' hW' sp2 (hg _ ⟨sp2, ?_, ?_, ?_, ?_⟩)
          · unfold in9_; rw [bf_6 (by decide) (by decide)]; rw [oE2.2.2.1]; (clear hV hW hn h hc he hj hnm hks hi hS hK hQ hE bnd fl hkd hE1 S1 x70 oE oE1 oT1 o70 o71 xs0 qs0 stop1 toQ hk1 hk1' hb hsp hg hV' hW' c12 a1 oE2 e150 hsp2 sp2; lia)
          · unfold bf_ flX_; rw [up_off (by decide), up_at, up_off (by decide), up_at]
          · refine ⟨?_, fl_b7 (by assumption)⟩; unfold bf_ flX_; rw [up_at, up_at]
          · exact QSb_tr qs0 (QSb_tr (QA_QSb (QF_QA nx_QF)) (QA_QSb (QF_QA bf_QF)))
      · exfalso
        have h9 := hS hb
        rw [c3, IV_3 ha.1 ha.2] at h9; exact h9 rfl
    rw [if_neg c3]
    rw [IV_e ha.1 h12 c3] at hS hK
    refine x_110 (by rw [m3]; (clear hV hW hn h hc he hj hfr hnm hks hi hS hK hQ hE h01 bnd fl hkd hE1 S1 x70 oE oE1 oT1 o70 o71 xs0 qs0 stop1 toQ hk1 hk1' c3; lia)) (by rw [m3]; (clear hV hW hn h hc he hj hfr hnm hks hi hS hK hQ hE h01 bnd fl hkd hE1 S1 x70 oE oE1 oT1 o70 o71 xs0 qs0 stop1 toQ hk1 hk1' c3; lia)) (fun _ => ?_) (fun e => absurd rfl e)
    refine y_105 oE1 (by rw [hk1]; decide) (fun hb => by have := tS_n (bind_n (hS hb)); rw [gS_e this.2]; exact fun e => by cases e) (fun h13 _ => ?_) (fun hb h13 => ?_)
    rotate_left
    · have hsp := SQ_bf oE1 hb (k := 2) (by decide) QA_rf
      refine hQ hb _ (XSb_tr xs0 (XA_XSb (XF_XA fl_XF))) (fun G Qtq hg => toQ G Qtq fun V' hV' hW' => ?_)
      exact j_233r oT1 oE1 hb hk1 h13 (q_227s hsp.1 (by rw [if_neg (by decide)]; exact q61_s hV' hW' hsp.1 (hg _ (stop1 hsp))))
    rw [tS_e hk1' h13, Option.bind_some] at hS hK
    rw [nX_o1, m3]
    have hE2 := (ER_go hE1 h13 (by rw [x70, hk1']; decide)).1
    have S2 := SL_go S1 hE2
    rw [show ee - 1 - 1 = ee - 2 by (clear hV hW hn h h12 hc he hj hfr ha2 hnm hks hi hS hK hQ hE ha h01 bnd fl hkd hE1 S1 x70 oE oE1 oT1 o70 o71 xs0 qs0 stop1 toQ m3 hk1 hk1' c3 h13 hE2 S2; lia)] at S2
    -- the state behind the name
    have main : ∀ M2 N2 : mm_, SL b F M2 N2 (a + 1 + 1) mask (ee - 2) 0 → GV b (M 1 18) s M N M2 N2 k i j (j + 1) → (∀ (G : mm_ → Prop) (Qtq : qt_), (∀ V' : vv_, Cl_ wd0 (Tr_ wd0 pg0 (dq + 14)) V' (rv_ G) Qtq m_310 → Wk_ V' → Tr_ wd0 pg0 (dq + 14) 242 [.inr (.inr 6), .inl 44] (q1_ N2) (ri_ fun v2 M4 => V' 18 [rr 6, ii i, ii s, ii p, ii (w32 (j + 1)), ii (fr + 1), ii v2, none] [] M4) Qtq) → q10 dq i s p fr j N G Qtq) →
        V 201 [rr 1, ii t, ii (if b = 0 then -1 else s), ii (if b = 0 then -1 else k), ii j, ii fr, ii (a + 1)] [] (o1_ M2) := fun M2 N2 S3 G3 q3 => by
      have hE3 := TS_E S3.1
      have oE3 := ER_o1 hE3
      have y70 : M2 70 = M 70 := G3.1.1 70 (by decide)
      have oT3 : Tks (o1_ M2) (q1_ N2) := Tks_a (XF_XA o1_XF) (QF_QA q1_QF) S3.1.1.1
      have xs3 : XSb M (o1_ M2) := XSb_tr ⟨Fr_sub G3.1.1 (by decide), fun x hx => G3.1.2.1 x (nm_i hx (by decide)) (nm_i hx (by decide)) (nm_i hx (by decide)) (nm_i hx (by decide)), fun x _ _ => by rw [G3.1.1 5 (by decide)]⟩ (XA_XSb (XF_XA o1_XF))
      have qs3 : QSb N (q1_ N2) := QSb_tr ⟨Fr_sub G3.2.1.1 (by decide), fun x hx => G3.2.1.2.1 x (nm_i hx (by decide)) (nm_i hx (by decide)) (nm_i hx (by decide))⟩ (QA_QSb (QF_QA q1_QF))
      have w1 : w32 (j + 1) = j + 1 := w32_id (by (clear hV hW hn h h12 hc he hfr ha2 hnm hks hi hS hK hQ hE ha h01 bnd fl hkd hE1 S1 x70 oE oE1 oT1 o70 o71 xs0 qs0 stop1 toQ m3 hk1 hk1' c3 h13 hE2 S2 S3 G3 q3 hE3 oE3 y70 oT3 xs3 qs3; omega)) (by omega)
      rw [w1] at q3
      refine b_169_201 (Tr_mono _) hV hW _ _ _ _ _ _ _ ?_
      refine y_117 oE3 (by decide) (fun c => ?_) (fun c => ?_)
      · rw [if_neg (by decide), w1]
        have c' : M2 70 (a + 1 + 1) = 244 := by have := c; rw [o1_r (by decide)] at this; exact this
        have c'' : M 70 (a + 1 + 1) = 244 := by rw [← y70]; exact c'
        rw [if_pos c''] at hS hK
        have a3 := ER_a hE3
        by_cases c12 : a + 1 + 1 < 1200
        · have q4 : ∀ (G : mm_ → Prop) (Qtq : qt_), q10 dq i s p fr (j + 1) N2 G Qtq → q10 dq i s p fr j N G Qtq := fun G Qtq hq => q3 G Qtq fun V' hV' hW' => j_242t oT3 oE3 (by decide) c c12 (by
            have := hq V' hV' hW'
            rw [← nx_q1] at this
            exact this)
          refine l_169 hV hW n (a + 1 + 1) (j + 1) (ee - 2) M2 N2 (by (clear hV hW h h12 hc he hj hfr hnm hks hi hS hK hQ hE ha h01 bnd fl hkd hE1 S1 x70 oE oE1 oT1 o70 o71 xs0 qs0 stop1 toQ hk1 hk1' c3 h13 hE2 S2 S3 G3 q3 hE3 oE3 y70 oT3 xs3 qs3 w1 c c' c'' a3 c12 q4; lia)) S3 c12 (.inr c') (by omega) (by (clear hV hW hn h h12 hc he hfr ha2 hnm hks hi hS hK hQ hE ha h01 bnd fl hkd hE1 S1 x70 oE oE1 oT1 o70 o71 xs0 qs0 stop1 toQ m3 hk1 hk1' h13 hE2 S2 S3 G3 q3 hE3 oE3 y70 oT3 xs3 qs3 c c' c'' a3 c12 q4; lia)) hfr (by (clear hV hW hn h h12 hc he hj hfr hnm hks hi hS hK hQ hE ha h01 bnd fl hkd hE1 S1 x70 oE oE1 oT1 o70 o71 xs0 qs0 stop1 toQ m3 hk1 hk1' c3 h13 hE2 S2 S3 G3 q3 hE3 oE3 y70 oT3 xs3 qs3 w1 c c' c'' a3 c12 q4; lia)) (fun l l0 l1 => ?_) (fun hb => ?_) ?_ (by rw [y70]; exact hS) (fun M' N' a' j' SS' ha' hj' G' hsy h44 hq => ?_) (fun hb Mx' hx hq => ?_)
          · by_cases cl : l < j
            · have := hnm l l0 cl
              exact ⟨gd_c y70 this.1, by rw [y70]; exact this.2⟩
            · rw [show fr + 1 + 2 * l = a + 1 by (clear hV hW hn h h12 hc he hj hfr hnm hks hi hS hK hQ hE ha h01 bnd fl hkd hE1 S1 x70 oE oE1 oT1 o70 o71 xs0 qs0 stop1 toQ m3 hk1 hk1' c3 h13 hE2 S2 S3 G3 q3 hE3 oE3 y70 oT3 xs3 qs3 c c' c'' a3 c12 q4 l0; lia)]
              have g := hE1.1
              exact ⟨gd_c (y70.trans x70.symm) g, by rw [y70]; exact hk1'⟩
          · have := hks hb
            rw [G3.1.1 5 (by decide)]; exact this
          · rw [G3.2.1.2.1 63 (by decide) (by decide) (by decide)]; exact hi
          · rw [y70] at hsy
            rw [show ee - 2 + (a + 1 + 1) - a' = ee + a - a' by (clear hV hW hn h h12 hc he hj hfr ha2 hnm hks hi hS hK hQ hE ha h01 bnd fl hkd hE1 S1 x70 oE oE1 oT1 o70 o71 xs0 qs0 stop1 toQ m3 hk1 hk1' c3 h13 hE2 S2 S3 G3 q3 hE3 oE3 y70 oT3 xs3 qs3 w1 c c' c'' a3 c12 q4 SS' ha' hj' G' hsy h44 hq; omega)] at SS'
            refine hK M' N' a' j' SS' (by (clear hV hW hn h h12 hc he hj hfr hnm hks hi hS hK hQ hE ha h01 bnd fl hkd hE1 S1 x70 oE oE1 oT1 o70 o71 xs0 qs0 stop1 toQ hk1 hk1' c3 h13 hE2 S2 S3 G3 q3 hE3 oE3 y70 oT3 xs3 qs3 w1 c c' c'' a3 c12 q4 SS' hj' G' hsy h44 hq; lia)) (by (clear hV hW hn h h12 hc he hj hfr ha2 hnm hks hi hS hK hQ hE ha h01 bnd fl hkd hE1 S1 x70 oE oE1 oT1 o70 o71 xs0 qs0 stop1 toQ m3 hk1 hk1' c3 h13 hE2 S2 S3 G3 q3 hE3 oE3 y70 oT3 xs3 qs3 c c' c'' a3 c12 q4 SS' ha' G' hsy h44 hq; omega)) (GV_tr (by omega) G3 (by rw [G3.1.2.1 18 (by decide) (by decide) (by decide) (by decide)] at G'; exact G')) hsy h44 (fun G Qtq hg => q4 G Qtq (hq G Qtq hg))
          · exact hQ hb Mx' (XSb_tr (XSb_tr ⟨Fr_sub G3.1.1 (by decide), fun x hx => G3.1.2.1 x (nm_i hx (by decide)) (nm_i hx (by decide)) (nm_i hx (by decide)) (nm_i hx (by decide)), fun x _ _ => by rw [G3.1.1 5 (by decide)]⟩ XSb_rf) hx) (fun G Qtq hg => q4 G Qtq (hq G Qtq fun M' p => hg _ ⟨p.1, p.2.1, p.2.2.1, p.2.2.2.1, QSb_tr ⟨Fr_sub G3.2.1.1 (by decide), fun x hx => G3.2.1.2.1 x (nm_i hx (by decide)) (nm_i hx (by decide)) (nm_i hx (by decide))⟩ p.2.2.2.2⟩))
        · rcases h01 with hb | hb
          · refine b_169_135 (Tr_mono _) hV hW _ _ _ _ _ _ ?_
            refine y_105 oE3 (by rw [c]; decide) (fun hb1 => by (clear hV hW hn h h12 hc he hj hfr ha2 hnm hks hi hS hK hQ hE ha bnd fl hkd hE1 S1 x70 oE oE1 oT1 o70 o71 xs0 qs0 stop1 toQ m3 hk1 hk1' c3 h13 hE2 S2 S3 G3 q3 hE3 oE3 y70 oT3 xs3 qs3 w1 c c' c'' a3 c12; lia)) (fun h14 _ => by (clear hV hW hn h hc he hj hfr hnm hks hi hS hK hQ hE bnd fl hkd hE1 S1 x70 oE oE1 oT1 o70 o71 xs0 qs0 stop1 toQ hk1 hk1' c3 hE2 S2 S3 G3 q3 hE3 oE3 y70 oT3 xs3 qs3 w1 c c' c'' a3 hb; lia)) (fun _ h14 => ?_)
            have hsp := SQ_bf oE3 hb (k := 2) (by decide) QA_rf
            refine hQ hb _ (XSb_tr xs3 (XA_XSb (XF_XA fl_XF))) (fun G Qtq hg => q3 G Qtq fun V' hV' hW' => j_242r oT3 oE3 hb (by decide) c h14 ?_)
            exact q18_s hV' hW' hsp.1 (hg _ ⟨hsp.1, hsp.2.1, hsp.2.2.1, hsp.2.2.2.1, QSb_tr qs3 (QA_QSb hsp.2.2.2.2)⟩)
          · exfalso
            have := IV_g (by (clear hV hW hn h hc he hj hfr hnm hks hi hS hK hQ hE bnd fl hkd hE1 S1 x70 oE oE1 oT1 o70 o71 xs0 qs0 stop1 toQ hk1 hk1' c3 hE2 S2 S3 G3 q3 hE3 oE3 y70 oT3 xs3 qs3 w1 c c' c'' a3 hb; lia)) (by (clear hV hW hn h hc he hj hfr hnm hks hi hS hK hQ hE bnd fl hkd hE1 S1 x70 oE oE1 oT1 o70 o71 xs0 qs0 stop1 toQ hk1 hk1' c3 hE2 S2 S3 G3 q3 hE3 oE3 y70 oT3 xs3 qs3 w1 c c' c'' a3 hb; lia)) (hS hb)
            (clear hV hW hn h hc he hj hfr hnm hks hi hS hK hQ hE bnd fl hkd hE1 S1 x70 oE oE1 oT1 o70 o71 xs0 qs0 stop1 toQ hk1 hk1' c3 hE2 S2 S3 G3 q3 hE3 oE3 y70 oT3 xs3 qs3 w1 c c' c'' a3 hb; lia)
      · have c' : M2 70 (a + 1 + 1) ≠ 244 := by have := c; rw [o1_r (by decide)] at this; exact this
        rw [y70] at c'
        rw [if_neg c'] at hK
        rw [if_pos rfl]
        rw [show ee - 2 = ee + a - (a + 1 + 1) by omega] at S3
        refine hK M2 N2 (a + 1 + 1) j S3 (by omega) (by (clear hV hW hn h h12 hc he hfr ha2 hnm hks hi hS hK hQ hE ha h01 bnd fl hkd hE1 S1 x70 oE oE1 oT1 o70 o71 xs0 qs0 stop1 toQ m3 hk1 hk1' h13 hE2 S2 S3 G3 q3 hE3 oE3 y70 oT3 xs3 qs3; lia)) G3 rfl (by rw [y70]; exact c') (fun G Qtq hg => q3 G Qtq fun V' hV' hW' => j_242f oT3 oE3 (by decide) c ?_)
        refine b_310_18 (Tr_mono _) hV' hW' _ _ _ _ _ _ _ ?_
        rw [if_pos rfl]
        exact hg V' hV' hW'
    intro _
    have m8 : o1_ (nX_ (nX_ M)) 1 8 = b := by rw [o1_1 (by decide)]; exact hE2.2.2.2.2.2.2.1
    have oE2 := ER_o1 hE2
    have q61 : ∀ (G : mm_ → Prop) (Qtq : qt_), (∀ V' : vv_, Cl_ wd0 (Tr_ wd0 pg0 (dq + 14)) V' (rv_ G) Qtq m_310 → Wk_ V' → V' 61 [rr 6, ii i, ii s, ii p, ii j, ii (fr + 1), ii 1, ii (a + 1)] [] (q1_ (nx_ (nx_ N)))) → q10 dq i s p fr j N G Qtq := fun G Qtq hq => toQ G Qtq fun V' hV' hW' => j_233t oT1 oE1 hk1 h13 (by
      rw [nx_q1]
      refine q_227g (ER_goq oE2) ?_
      rw [if_pos rfl, if_neg c3]
      exact hq V' hV' hW')
    have n16 : q1_ (nx_ (nx_ N)) 6 16 = b := oE2.2.2.2.2.2.2.2.1
    rcases h01 with hb | hb
    · rw [if_pos (by (clear hV hW hn h h12 hc he hj hfr ha2 hnm hks hi hS hK hQ hE ha bnd fl hkd hE1 S1 x70 oE oE1 oT1 o70 o71 xs0 qs0 stop1 toQ m3 hk1 hk1' c3 h13 hE2 S2 main oE2 q61; lia))]
      refine main (nX_ (nX_ M)) (nx_ (nx_ N)) S2 ?_ (fun G Qtq hq => q61 G Qtq fun V' hV' hW' => ?_)
      · have g0 : GV b (M 1 18) s M N (nX_ (nX_ M)) (nx_ (nx_ N)) k i j j := GV_tr (Int.le_refl _) GV_go GV_go
        exact ⟨g0.1, g0.2.1, fun hb1 => by (clear hV hW hn h h12 hc he hj hfr ha2 hnm hks hi hS hK hQ hE ha bnd fl hkd hE1 S1 x70 oE oE1 oT1 o70 o71 xs0 qs0 stop1 toQ m3 hk1 hk1' c3 h13 hE2 S2 main m8 oE2 q61 g0; lia)⟩
      · refine b_310_61 (Tr_mono _) hV' hW' _ _ _ _ _ _ _ _ (q_227g (ER_goq oE2) ?_)
        rw [if_pos rfl]
        intro _
        rw [if_pos (by (clear hV hW hn h h12 hc he hj hfr ha2 hnm hks hi hS hK hQ hE ha bnd fl hkd hE1 S1 x70 oE oE1 oT1 o70 o71 xs0 qs0 stop1 toQ m3 hk1 hk1' c3 h13 hE2 S2 main m8 oE2 q61 hq hV' hW'; omega))]
        exact hq V' hV' hW'
    · rw [if_neg (by (clear hV hW hn h h12 hc he hj hfr ha2 hnm hks hi hS hK hQ hE ha bnd fl hkd hE1 S1 x70 oE oE1 oT1 o70 o71 xs0 qs0 stop1 toQ m3 hk1 hk1' c3 h13 hE2 S2 main oE2 q61; lia))]
      obtain ⟨⟨k1, k2⟩, s1⟩ := hks hb
      have hg2 : nm9_ (nX_ (nX_ M)) (a + 1) := ⟨gd_c (nX_ne (by decide)) hE1.1, by rw [nX_ne (by decide), x70]; exact hk1'⟩
      have f2 : nX_ (nX_ M) 1 7 = M 1 7 := by rw [nX_1 (by decide), nX_1 (by decide)]
      have S2' := S2
      rw [hb] at S2'
      have tk := SL_tk (s := s) (j := j) (fr := fr) (t := a + 1) (k := k) (i := i) S2' hg2.1 (by omega) (by rw [f2]; (clear hV hW hn h h12 hc he hj hfr hnm hks hi hS hK hQ hE ha bnd hkd hE1 S1 x70 oE oE1 oT1 o70 o71 xs0 qs0 stop1 toQ hk1 hk1' c3 h13 hE2 S2 main m8 oE2 q61 n16 hb s1 k1 k2 hg2 S2'; lia))
      have hV2 := S2.1.1.2.1
      have oV2 : VT (o1_ (nX_ (nX_ M))) (q1_ (nx_ (nx_ N))) := VT_a (XF_XA o1_XF) (QF_QA q1_QF) hV2
      have oT2 : Tks (o1_ (nX_ (nX_ M))) (q1_ (nx_ (nx_ N))) := Tks_a (XF_XA o1_XF) (QF_QA q1_QF) S2.1.1.1
      have hG2 := S2.1.2.1.1
      have oG2 : SGT (o1_ (nX_ (nX_ M))) (q1_ (nx_ (nx_ N))) := (GT_a (XF_XA o1_XF) (QF_QA q1_QF) S2.1.2.1).1
      have e50 : nX_ (nX_ M) 5 = M 5 := by rw [nX_ne (by decide), nX_ne (by decide)]
      have m50 := hG2.1.1
      rw [e50] at m50
      have on9 : ∀ l, 0 ≤ l → l < j → nm9_ (o1_ (nX_ (nX_ M))) (fr + 1 + 2 * l) := fun l l0 l1 => by
        have := hnm l l0 l1
        have e7 : o1_ (nX_ (nX_ M)) 70 = M 70 := by rw [o1_r (by decide), nX_ne (by decide)]; exact x70
        exact ⟨gd_c e7 this.1, by rw [e7]; exact this.2⟩
      have o18 : nX_ (nX_ M) 1 18 = M 1 18 := by rw [nX_1 (by decide), nX_1 (by decide)]
      refine x_173 (d := d + 1) (v := vrr (q1_ (nx_ (nx_ N))) (q1_ (nx_ (nx_ N)) 151 (a + 1))) oT2 oV2 ⟨gd_c (o1_r (by decide)) hg2.1, by rw [o1_r (by decide)]; exact hg2.2⟩ (by rw [if_neg (by (clear hV hW hn h h12 hc he hj hfr ha2 hnm hks hi hS hK hQ hE ha bnd fl hkd hE1 S1 x70 oE oE1 oT1 o70 o71 xs0 qs0 stop1 toQ m3 hk1 hk1' c3 h13 hE2 S2 main m8 oE2 q61 s1 k1 k2 hg2 f2 S2' tk hV2 oV2 oT2 hG2 oG2 e50 m50 on9 o18; lia))]; (clear hV hW hn h h12 hc he hj hfr ha2 hnm hks hi hS hK hQ hE ha bnd fl hkd hE1 S1 x70 oE oE1 oT1 o70 o71 xs0 qs0 stop1 toQ m3 hk1 hk1' c3 h13 hE2 S2 main m8 oE2 q61 n16 hb k1 k2 hg2 f2 S2' hV2 oV2 oT2 hG2 oG2 e50 on9 o18; lia)) (by (clear hV hW hn h h12 hc he hfr ha2 hnm hks hi hS hK hQ hE ha bnd fl hkd hE1 S1 x70 oE oE1 oT1 o70 o71 xs0 qs0 stop1 toQ m3 hk1 hk1' h13 hE2 S2 main m8 oE2 q61 n16 hb k1 k2 hg2 f2 S2' hV2 oV2 oT2 hG2 oG2 e50 m50 on9 o18; lia)) (by rw [if_neg (by omega)]; (clear hV hW hn h hc hj hfr hnm hks hS hK hQ hE fl hkd hE1 S1 x70 oE oE1 oT1 o70 o71 xs0 qs0 stop1 toQ hk1 hk1' c3 hE2 S2 main m8 oE2 q61 n16 hb s1 hg2 f2 S2' tk hV2 oV2 oT2 hG2 oG2 e50 m50 on9 o18; lia)) (by (clear hV hW hn h h12 hc he hj hnm hks hi hS hK hQ hE ha bnd fl hkd hE1 S1 x70 oE oE1 oT1 o70 o71 xs0 qs0 stop1 toQ hk1 hk1' c3 h13 hE2 S2 main m8 oE2 q61 n16 hb s1 k1 k2 hg2 f2 S2' tk hV2 oV2 oT2 hG2 oG2 e50 m50 on9 o18; lia)) on9 (by rw [o1_1 (by decide), f2]; have := ER_fl hE; (clear hV hW hn h hc hj hfr hnm hks hS hK hQ hE hkd hE1 S1 x70 oE oE1 oT1 o70 o71 xs0 qs0 stop1 toQ hk1 hk1' c3 hE2 S2 main m8 oE2 q61 n16 hb s1 k1 k2 hg2 S2' tk hV2 oV2 oT2 hG2 oG2 e50 m50 on9 o18; lia)) rfl ?_
      have eX : tkX (itx (a + 1) (dpc (q1_ (nx_ (nx_ N)) 151) (q1_ (nx_ (nx_ N)) 151 (a + 1)) j.toNat (fr + 1)) (o1_ (nX_ (nX_ M)))) (o1_ (nX_ (nX_ M)) 1 18) (vrr (q1_ (nx_ (nx_ N))) (q1_ (nx_ (nx_ N)) 151 (a + 1))) (if b = 0 then -1 else s) j (a + 1) (if b = 0 then -1 else k) = o1_ (tX9_ (nX_ (nX_ M)) (nx_ (nx_ N)) s j fr (a + 1) k) := by
        rw [if_neg (by omega), if_neg (by omega), ← tX9_o1]; rfl
      rw [eX]
      have gtk := GV_tk (k := k) (i := i) hV2 hj.1 tk.2
      rw [o18] at gtk
      refine main _ _ (by rw [hb]; exact tk.1) ?_ (fun G Qtq hq => q61 G Qtq fun V' hV' hW' => ?_)
      · rw [hb]; exact GV_tr (Int.le_refl _) (GV_tr (Int.le_refl _) GV_go GV_go) gtk
      · refine b_310_61 (Tr_mono _) hV' hW' _ _ _ _ _ _ _ _ (q_227g (ER_goq oE2) ?_)
        rw [if_pos rfl]
        intro _
        rw [if_neg (by (clear hV hW hn h h12 hc he hj hfr ha2 hnm hks hi hS hK hQ hE ha bnd fl hkd hE1 S1 x70 oE oE1 oT1 o70 o71 xs0 qs0 stop1 toQ m3 hk1 hk1' c3 h13 hE2 S2 main m8 oE2 q61 s1 k1 k2 hg2 f2 S2' tk hV2 oV2 oT2 hG2 oG2 e50 m50 on9 o18 eX gtk hq hV' hW'; lia))]
        have e150 : q1_ (nx_ (nx_ N)) 150 (a + 1) = nX_ (nX_ M) 71 (a + 1) := by
          have := (oT2 (a + 1) (gd_c (o1_r (by decide)) hg2.1)).2.1
          rw [o1_r (by decide)] at this; exact this.symm
        refine q_311 (d := dq + 12) (p := nX_ (nX_ M) 71 (a + 1)) (v := vrr (q1_ (nx_ (nx_ N))) (q1_ (nx_ (nx_ N)) 151 (a + 1))) oV2 oG2 (by (clear hV hW hn h h12 hc he hj hfr ha2 hnm hks hi hS hK hQ hE ha bnd fl hkd hE1 S1 x70 oE oE1 oT1 o70 o71 xs0 qs0 stop1 toQ m3 hk1 hk1' c3 h13 hE2 S2 main m8 oE2 q61 s1 k1 k2 hg2 f2 S2' tk hV2 oV2 oT2 hG2 oG2 e50 m50 on9 o18 eX gtk hq hV' hW' e150; lia)) (by (clear hV hW hn h hc he hj hfr hnm hks hi hS hK hQ hE bnd fl hkd hE1 S1 x70 oE oE1 oT1 o70 o71 xs0 qs0 stop1 toQ hk1 hk1' c3 hE2 S2 main m8 oE2 q61 n16 hb s1 k1 k2 hg2 f2 S2' tk hV2 oV2 oT2 hG2 oG2 e50 m50 on9 o18 eX gtk hq hV' hW' e150; lia)) (by rw [o1_r (by decide), e50]; (clear hV hW hn h h12 hc he hj hfr ha2 hnm hks hi hS hK hQ hE ha bnd fl hkd hE1 S1 x70 oE oE1 oT1 o70 o71 xs0 qs0 stop1 toQ m3 hk1 hk1' c3 h13 hE2 S2 main m8 oE2 q61 n16 hb k1 k2 hg2 f2 S2' hV2 oV2 oT2 hG2 oG2 e50 on9 o18 eX gtk hq hV' hW' e150; omega)) (by (clear hV hW hn h h12 hc he hfr ha2 hnm hks hi hS hK hQ hE ha bnd fl hkd hE1 S1 x70 oE oE1 oT1 o70 o71 xs0 qs0 stop1 toQ m3 hk1 hk1' h13 hE2 S2 main m8 oE2 q61 n16 hb k1 k2 hg2 f2 S2' hV2 oV2 oT2 hG2 oG2 e50 m50 on9 o18 eX gtk hq hV' hW' e150; lia)) (by (clear hV hW hn h hc hj hfr hnm hks hS hK hQ hE fl hkd hE1 S1 x70 oE oE1 oT1 o70 o71 xs0 qs0 stop1 toQ hk1 hk1' c3 hE2 S2 main m8 oE2 q61 n16 hb s1 k1 k2 hg2 f2 S2' tk hV2 oV2 oT2 hG2 oG2 e50 m50 on9 o18 eX gtk hq hV' hW' e150; omega)) (by omega) e150 rfl ?_
        have eQ : tkQ (o1_ (nX_ (nX_ M))) (itq (nX_ (nX_ M) 71 (a + 1)) (dpc (q1_ (nx_ (nx_ N)) 151) (q1_ (nx_ (nx_ N)) 151 (a + 1)) j.toNat (fr + 1)) (q1_ (nx_ (nx_ N)))) (o1_ (nX_ (nX_ M)) 1 18) (vrr (q1_ (nx_ (nx_ N))) (q1_ (nx_ (nx_ N)) 151 (a + 1))) s j (nX_ (nX_ M) 71 (a + 1)) i = q1_ (tQ9_ (nX_ (nX_ M)) (nx_ (nx_ N)) s j fr (a + 1) i) := by
          rw [← tQ9_q1]; rfl
        rw [eQ]
        exact hq V' hV' hW'
end TN
end T199_tv
section T200_in
/-! inputs: an in whole, its end behind brackets -/
def inS (κ : Int → Int) (a : Int) : Option Int := if κ a = 242 then gS a else (tS κ 100 a).bind fun a1 => if κ a1 = 240 then IV κ (a1, 0) else some a1
def X38 (b s : Int) (M : mm_) (k n : Int) : mm_ := if b = 0 ∨ s = -1 then M else up_ M 138 k n
/-- the note for the number of values -/
def nvK (M : mm_) (b s n : Int) : Int := if b = 0 ∨ s = -1 then 0 else if s < 100 then (if n = M 112 s then 0 else 5) else (if n = 0 then 0 else 5)
section IN
variable {d dq : Nat} {b F : Int} {M N M0 N0 M1 N1 M2 N2 Mx Mq : mm_} {t p k s fr i n a mask ee w kk who x5 x6 : Int} {Kv G : mm_ → Prop} {Qr : List pv_ → mm_ → Prop} {Qt Qtq : qt_} {V : vv_}
theorem o1_c [Inhabited gh_] (h : M 1 6 = 0) : up_ (nX_ (o1_ M)) 1 6 (w32 (nX_ (o1_ M) 1 6 - 1)) = nX_ M := by
  have e : nX_ (o1_ M) 1 6 = 1 := by rw [nX_1 (by decide)]; unfold o1_; rw [up_at]
  rw [e, show w32 (1 - 1) = 0 by decide, nX_o1]
  unfold o1_
  rw [up_up]
  have e2 : nX_ M 1 6 = 0 := by rw [nX_1 (by decide)]; exact h
  rw [← e2]; exact up_id
theorem q1_c [Inhabited gh_] (h : N 6 15 = 0) : up_ (nx_ (q1_ N)) 6 15 (1 - 1) = nx_ N := by
  rw [show (1 : Int) - 1 = 0 by decide, nx_q1]
  unfold q1_
  rw [up_up]
  have e2 : nx_ N 6 15 = 0 := by rw [nx_6 (by decide)]; exact h
  rw [← e2]; exact up_id
theorem X38_r [Inhabited gh_] {r : Nat} (h : r ≠ 138) : X38 b s M k n r = M r := by
  unfold X38; split
  · rfl
  · exact up_ne h
theorem SL_38 [Inhabited gh_] (h : SL b F Mx Mq a mask ee w) {c v : Int} : SL b F (X38 b s Mx k n) (up_ Mq 201 c v) a mask ee w := by
  obtain ⟨h1, ⟨s1, s2, s3⟩, hm, h4⟩ := h
  have e : ∀ r : Nat, r ≠ 138 → X38 b s Mx k n r = Mx r := fun r h => X38_r h
  have q : ∀ r : Nat, r ≠ 201 → up_ Mq 201 c v r = Mq r := fun r h => up_ne h
  have xb : XSb Mx (X38 b s Mx k n) := ⟨fun r hr => e r (fun h => hr (by rw [h]; decide)), fun i hi => by rw [e 1 (by decide)], fun i _ _ => by rw [e 5 (by decide)]⟩
  have qb : QSb Mq (up_ Mq 201 c v) := ⟨fun r hr => q r (fun h => hr (by rw [h]; decide)), fun i hi => by rw [q 6 (by decide)]⟩
  refine ⟨TS_c h1 xb qb (fun i h _ => by rw [e 1 (by decide)]) (by rw [e 5 (by decide)]) (e _ (by decide)) (e _ (by decide)) (e _ (by decide)) (e _ (by decide)) (fun _ _ _ => by rw [q 6 (by decide)]) (q _ (by decide)) (q _ (by decide)) (q _ (by decide)) (q _ (by decide)) (q _ (by decide)), ⟨by rw [e 5 (by decide)]; exact s1, by rw [q 6 (by decide)]; exact s2, by rw [q 6 (by decide)]; exact s3⟩, hm, fun hb => ?_⟩
  obtain ⟨⟨xs, hs⟩, hmb, r⟩ := h4 hb
  refine ⟨⟨xs, SRW_c hs (by rw [e 5 (by decide)]) (e _ (by decide)) (e _ (by decide)) (e _ (by decide)) (e _ (by decide)) (e _ (by decide)) (by rw [q 6 (by decide)]) (by rw [q 6 (by decide)]) (q _ (by decide)) (q _ (by decide)) (q _ (by decide)) (q _ (by decide)) (q _ (by decide)) (q _ (by decide))⟩, ?_, ?_⟩
  · rw [e 1 (by decide), e 123 (by decide)]; exact hmb
  · rw [e 1 (by decide), q 6 (by decide), q 193 (by decide), q 192 (by decide), q 194 (by decide)]; exact r
theorem nvK_r [Inhabited gh_] : nvK M b s n = 0 ∨ (3 ≤ nvK M b s n ∧ nvK M b s n ≤ 6) := by
  unfold nvK; repeat' split
  all_goals omega
/-- the growth of an in with brackets -/
theorem SLG_v [Inhabited gh_] (h01 : b = 0 ∨ b = 1) (g1 : SLG b w M0 N0 M1 N1) (e54 : b = 1 → M1 5 4 = M0 5 4 + 1) (e63 : N1 6 63 = N0 6 63 + 1) (g2 : GV b (N0 6 61) s M1 N1 M2 N2 (M0 5 4) (N0 6 63) 0 n) (hn : 0 ≤ n ∧ n ≤ 3)
    (hs : b = 1 → N1 200 (N0 6 63) = s) (hT : b = 1 → kk = 0 → s ≠ -1 → (0 ≤ s ∧ s < 20 ∧ n ≤ M1 112 s ∧ N1 156 s = M1 112 s) ∧ (∀ v, 0 ≤ v → v < M1 112 s → N1 157 (3 * s + v) = M1 113 (3 * s + v) + 1) ∧ ∀ u, 0 ≤ u → u < N1 171 (N0 6 61) → M1 130 (8 * N0 6 61 + u) + 1 = N1 182 (8 * N0 6 61 + u)) (h13 : b = 1 → Qn_ (up_ (nx_ N2) 201 (N0 6 63) n) b kk p 6 13 = 0 → kk = 0 ∧ up_ (nx_ N2) 201 (N0 6 63) n 6 13 = 0) :
    SLG b w M0 N0 (Xn_ (X38 b s (nX_ M2) (M0 5 4) n) b kk t) (Qn_ (up_ (nx_ N2) 201 (N0 6 63) n) b kk p) := by
  obtain ⟨⟨a1, a2, a3, a4, a5, a6⟩, ⟨c1, c2, c3, c4, c5⟩, z0, z1⟩ := g1
  obtain ⟨⟨d1, d2, d3, d4⟩, ⟨f1, f2, f3⟩, y1⟩ := g2
  have xr : ∀ r : Nat, r ≠ 1 → r ≠ 137 → r ≠ 138 → Xn_ (X38 b s (nX_ M2) (M0 5 4) n) b kk t r = M1 r := fun r h1 h2 h3 => by
    rw [Xn_r h1, X38_r h3, nX_ne h1]; exact d1 r (by simp only [List.mem_cons, List.not_mem_nil, or_false, not_or]; exact ⟨h1, h2⟩)
  have x1 : ∀ x : Int, x ≠ 3 → x ≠ 4 → x ≠ 5 → x ≠ 7 → Xn_ (X38 b s (nX_ M2) (M0 5 4) n) b kk t 1 x = M1 1 x := fun x h3 h4 h5 h7 => by
    rw [Xn_1 h4 h5 h7, X38_r (by decide), nX_1 h3]; exact d2 x h3 h4 h5 h7
  have x137 : Xn_ (X38 b s (nX_ M2) (M0 5 4) n) b kk t 137 = M2 137 := by rw [Xn_r (by decide), X38_r (by decide), nX_ne (by decide)]
  have qr : ∀ r : Nat, r ≠ 6 → r ≠ 201 → r ≠ 202 → Qn_ (up_ (nx_ N2) 201 (N0 6 63) n) b kk p r = N1 r := fun r h1 h2 h3 => by
    rw [Qn_r h1, up_ne h2, nx_ne h1]; exact f1 r (by simp only [List.mem_cons, List.not_mem_nil, or_false, not_or]; exact ⟨h1, h3⟩)
  have q6 : ∀ x : Int, x ≠ 12 → x ≠ 13 → x ≠ 14 → Qn_ (up_ (nx_ N2) 201 (N0 6 63) n) b kk p 6 x = N1 6 x := fun x h1 h2 h3 => by
    rw [Qn_6 h2 h3, up_ne (by decide), nx_6 h1]; exact f2 x h1 h2 h3
  have q202 : Qn_ (up_ (nx_ N2) 201 (N0 6 63) n) b kk p 202 = N2 202 := by rw [Qn_r (by decide), up_ne (by decide), nx_ne (by decide)]
  have q201 : ∀ x : Int, x ≠ N0 6 63 → Qn_ (up_ (nx_ N2) 201 (N0 6 63) n) b kk p 201 x = N1 201 x := fun x h => by
    rw [Qn_r (by decide), up_of2 h, nx_ne (by decide), f1 201 (by decide)]
  have x138 : ∀ x : Int, x ≠ M0 5 4 → Xn_ (X38 b s (nX_ M2) (M0 5 4) n) b kk t 138 x = M1 138 x := fun x h => by
    rw [Xn_r (by decide)]
    unfold X38; split
    · rw [nX_ne (by decide), d1 138 (by decide)]
    · rw [up_of2 h, nX_ne (by decide), d1 138 (by decide)]
  refine ⟨⟨fun r hr => ?_, fun x hx => ?_, fun x hx => ?_, ?_, fun r x hr hx => ?_, fun x hx => ?_⟩, ⟨fun r hr => ?_, fun x hx => ?_, ?_, fun x hx => ?_, fun x hx => ?_⟩, fun hb => ?_, fun hb => ?_⟩
  · rw [xr r (fun e => hr (by rw [e]; decide)) (fun e => hr (by rw [e]; decide)) (fun e => hr (by rw [e]; decide))]; exact a1 r hr
  · rw [x1 x (nm_i hx (by decide)) (nm_i hx (by decide)) (nm_i hx (by decide)) (nm_i hx (by decide))]; exact a2 x hx
  · rw [xr 5 (by decide) (by decide) (by decide)]; exact a3 x hx
  · rw [xr 5 (by decide) (by decide) (by decide)]; exact a4
  · by_cases c : r = 138
    · rw [c, x138 x (by (clear h01 e54 e63 hn hs hT h13 a1 a2 a3 a4 a5 a6 c1 c2 c3 c4 c5 z0 z1 d1 d2 d3 d4 y1 f1 f2 f3 xr x1 x137 qr q6 q202 q201 x138 hr c; lia))]; rw [c] at hr; exact a5 138 x hr hx
    · rw [xr r (fun e => by rw [e] at hr; revert hr; decide) (fun e => by rw [e] at hr; revert hr; decide) c]; exact a5 r x hr hx
  · rw [x137, d4 x (by omega)]; exact a6 x hx
  · rw [qr r (fun e => hr (by rw [e]; decide)) (fun e => hr (by rw [e]; decide)) (fun e => hr (by rw [e]; decide))]; exact c1 r hr
  · rw [q6 x (nm_i hx (by decide)) (nm_i hx (by decide)) (nm_i hx (by decide))]; exact c2 x hx
  · rw [q6 63 (by decide) (by decide) (by decide)]; exact c3
  · rw [qr 200 (by decide) (by decide) (by decide), q201 x (by (clear h01 e54 e63 hn hs hT h13 a1 a2 a3 a4 a5 a6 c1 c2 c3 c4 c5 z0 z1 d1 d2 d3 d4 y1 f1 f2 f3 xr x1 x137 qr q6 q202 q201 x138; omega))]; exact c4 x hx
  · rw [q202, f3 x (by omega)]; exact c5 x hx
  · rw [xr 5 (by decide) (by decide) (by decide), x1 22 (by decide) (by decide) (by decide) (by decide)]; exact z0 hb
  · obtain ⟨v1, v2, v3⟩ := z1 hb
    rw [xr 5 (by decide) (by decide) (by decide), q6 63 (by decide) (by decide) (by decide)]
    refine ⟨v1, fun hg => ?_, fun hz => ?_⟩
    · have := v2 hg
      rw [x1 22 (by decide) (by decide) (by decide) (by decide), q6 63 (by decide) (by decide) (by decide), qr 200 (by decide) (by decide) (by decide)]
      exact this
    · have h9 := h13 hb hz
      have n213 : N2 6 13 = 0 := by have := h9.2; rw [up_ne (by decide), nx_6 (by decide)] at this; exact this
      obtain ⟨y2, y3⟩ := y1 hb n213
      obtain ⟨v4, v5⟩ := v3 y2
      refine ⟨v4, fun j j0 j1 => ?_⟩
      rw [e63] at j1
      have r0 := v5 j j0 (by (clear h01 e54 hn hs hT h13 a1 a2 a3 a4 a5 a6 c1 c2 c3 c4 c5 z0 z1 d1 d2 d3 d4 y1 f1 f2 f3 xr x1 x137 qr q6 q202 q201 x138 hb v1 v2 v3 hz h9 n213 y2 y3 v4 v5; omega))
      rw [show j = 0 by omega, show M0 5 4 + 0 = M0 5 4 by omega, show N0 6 63 + 0 = N0 6 63 by omega] at r0 ⊢
      have s0 := hs hb
      have sne : s ≠ -1 := by rw [← s0]; have := r0.2.1; (clear h01 e54 e63 hn hs hT h13 a1 a2 a3 a4 a5 a6 c1 c2 c3 c4 c5 z0 z1 d1 d2 d3 d4 y1 f1 f2 f3 xr x1 x137 qr q6 q202 q201 x138 hb v1 v2 v3 hz h9 n213 y2 y3 v4 v5 j0 j1 r0; omega)
      have u : UQI (Xn_ (X38 b s (nX_ M2) (M0 5 4) n) b kk t) (M0 5 4) := by
        unfold UQI; rw [xr 134 (by decide) (by decide) (by decide), xr 133 (by decide) (by decide) (by decide), xr 136 (by decide) (by decide) (by decide), xr 135 (by decide) (by decide) (by decide)]; exact r0.1
      unfold RWI
      rw [qr 200 (by decide) (by decide) (by decide), qr 171 (by decide) (by decide) (by decide), qr 184 (by decide) (by decide) (by decide), qr 183 (by decide) (by decide) (by decide), qr 156 (by decide) (by decide) (by decide), qr 157 (by decide) (by decide) (by decide), qr 182 (by decide) (by decide) (by decide), q202, x137]
      have e1 : Qn_ (up_ (nx_ N2) 201 (N0 6 63) n) b kk p 201 (N0 6 63) = n := by rw [Qn_r (by decide), up_at]
      have e2 : Xn_ (X38 b s (nX_ M2) (M0 5 4) n) b kk t 138 (M0 5 4) = n := by
        rw [Xn_r (by decide)]; unfold X38; rw [if_neg (by (clear h01 e54 e63 hn hs hT h13 a1 a2 a3 a4 a5 a6 c1 c2 c3 c4 c5 z0 z1 d1 d2 d3 d4 y1 f1 f2 f3 xr x1 x137 qr q6 q202 q201 x138 v1 v2 v3 hz h9 n213 y2 y3 v4 v5 j0 j1 r0 s0 u e1; lia)), up_at]
      rw [e1, e2]
      refine ⟨u, r0.2.1, hn, rfl, fun v v0 v1 => ?_⟩
      obtain ⟨w1, u, w2, w3, w4, w5⟩ := y3 v v0 v1
      obtain ⟨t1, t2, t3⟩ := hT hb h9.1 sne
      have e5 := w5 t1.1 (by omega) (by (clear h01 e54 e63 hn hs hT h13 a1 a2 a3 a4 a5 a6 c1 c2 c3 c4 c5 z0 z1 d1 d2 d3 d4 y1 f1 f2 f3 xr x1 x137 qr q6 q202 q201 x138 hb v2 v3 hz h9 n213 y2 y3 v4 v5 j0 j1 r0 s0 sne v0 w1 w2 w3 w4 w5 t2 t3; lia))
      refine ⟨w1, u, w2, w3, w4, ?_⟩
      rw [s0, t2 v v0 (by omega), e5]
      exact ⟨t1.2.1, by (clear h01 e54 e63 hn hs hT h13 a1 a2 a3 a4 a5 a6 c1 c2 c3 c4 c5 z0 z1 d1 d2 d3 d4 y1 f1 f2 f3 xr x1 x137 qr q6 q202 q201 x138 hb v2 v3 hz h9 n213 y2 y3 v4 v5 j0 j1 r0 s0 sne v0 w1 w2 w3 w4 w5 t2 t3 e5; omega), t3 u w2.1 w2.2⟩
/-- X's end of an in with brackets -/
theorem x_201 [Inhabited gh_] (hE : ER b F M N a 0) (hV : VT M N) (h138 : b = 1 → 0 ≤ k ∧ k < 600) (hs : b = 1 → s = -1 ∨ (0 ≤ s ∧ s < 20) ∨ (100 ≤ s ∧ s < 103)) (ht : 0 ≤ t ∧ t < 1202) (hn : 0 ≤ n ∧ n ≤ 2) (hf : 0 ≤ M 1 7 ∧ M 1 7 < 2147483647)
    (hK : Kv (Xn_ (X38 b s (nX_ M) k (n + 1)) b (nvK M b s (n + 1)) t)) : R201 (d + 1) (rv_ Kv) Qt t (if b = 0 then -1 else s) (if b = 0 then -1 else k) n (nX_ (o1_ M)) := by
  intro _
  have m8 : nX_ (o1_ M) 1 8 = b := by rw [nX_1 (by decide), o1_1 (by decide)]; exact hE.2.2.2.2.2.2.1
  have m2 : nX_ (o1_ M) 1 2 = 5 := by rw [nX_1 (by decide), o1_1 (by decide)]; exact hV.1
  have m112 : nX_ (o1_ M) 112 = M 112 := by rw [nX_ne (by decide), o1_r (by decide)]
  have e16 : M 1 6 = 0 := hE.2.2.2.1
  rw [o1_c e16, w32_id (x := n + 1) (by omega) (by omega), m112]
  have m17 : nX_ M 1 7 = M 1 7 := nX_1 (by decide)
  rcases bl01 hE with hb | hb
  · rw [if_pos (by omega)]
    unfold X38 nvK Xn_ at hK
    rw [if_pos (.inl hb), if_pos (.inl hb)] at hK
    exact rv_i hK
  · have s0 := hs hb
    have k0 := h138 hb
    rw [if_neg (by omega), if_neg (show ¬ b = 0 by omega), if_neg (show ¬ b = 0 by omega)]
    by_cases c : s = -1
    · rw [if_pos c]
      have e0 : nvK M b s (n + 1) = 0 := by unfold nvK; rw [if_pos (.inr c)]
      rw [e0] at hK
      unfold X38 Xn_ at hK
      rw [if_pos (.inr rfl), if_pos (.inr c)] at hK
      exact rv_i hK
    · rw [if_neg c]
      refine ⟨m2, k0, ?_⟩
      have nb : ¬ (b = 0 ∨ s = -1) := by (clear hE hV h138 hs ht hn hf hK m8 m2 m112 e16 m17 s0 k0; lia)
      unfold X38 nvK Xn_ at hK
      rw [if_neg nb, if_neg nb] at hK
      have u7 : up_ (nX_ M) 138 k (n + 1) 1 7 = M 1 7 := by rw [up_ne (by decide)]; exact m17
      by_cases c1 : s < 100
      · rw [if_pos c1] at hK ⊢
        refine ⟨m2, by (clear hE hV h138 hs ht hn hf hK m8 m2 m112 e16 m17 k0 u7; omega), ?_⟩
        by_cases c2 : n + 1 = M 112 s
        · rw [if_pos c2, if_pos (.inr rfl)] at hK
          rw [if_pos c2]; exact rv_i hK
        · rw [if_neg c2, if_neg (by omega)] at hK
          rw [if_neg c2]
          exact x_116 ht.1 ht.2 (by rw [u7]; exact hf.1) (by rw [u7]; exact hf.2) (rv_i hK)
      · rw [if_neg c1, if_neg (by omega), if_neg (by omega)] at hK
        rw [if_neg c1, if_neg (by omega)]
        exact x_116 ht.1 ht.2 (by rw [u7]; exact hf.1) (by rw [u7]; exact hf.2) (rv_i hK)
/-- Q's end of an in with brackets -/
theorem q_102e [Inhabited gh_] (hE : ER b F M N a 0) (hT : Tks M N) (hG : SGT M N) (hk : M 70 a = 241) (h12 : a < 1200) (hE2 : ER b F (nX_ M) (nx_ N) (a + 1) 0) (hi : 0 ≤ i ∧ i < 1300) (hs : s = -1 ∨ (0 ≤ s ∧ s < M 5 0) ∨ (100 ≤ s ∧ s < 103)) (hn : 1 ≤ n ∧ n ≤ 3)
    (hK : G (Qn_ (up_ (nx_ N) 201 i n) b (nvK M b s n) p)) : q10e dq i s p fr n N G Qtq := fun V' hV' hW' => by
  have oE := ER_o1 hE
  have oT : Tks (o1_ M) (q1_ N) := Tks_a (XF_XA o1_XF) (QF_QA q1_QF) hT
  have e15 : N 6 15 = 0 := hE.2.2.2.2.1
  have m5 := hG.1.1
  have n16 : nx_ N 6 16 = b := hE2.2.2.2.2.2.2.2.1
  refine b_310_102 (Tr_mono _) hV' hW' _ _ _ _ _ _ _ ?_
  refine j_243t oT oE (by decide) (by rw [o1_r (by decide)]; exact hk) h12 (by decide) ?_
  rw [q1_c e15]
  refine q_227g (ER_goq hE2) ?_
  rw [if_pos rfl]
  refine ⟨hi, ?_⟩
  have e156 : nx_ N 156 = N 156 := nx_ne (by decide)
  have u16 : up_ (nx_ N) 201 i n 6 16 = b := by rw [up_ne (by decide)]; exact n16
  have none : nvK M b s n = 0 → rv_ G [] (up_ (nx_ N) 201 i n) := fun e => by
    rw [e] at hK; unfold Qn_ at hK; rw [if_pos (.inr rfl)] at hK; exact rv_i hK
  have five : (b = 1 → nvK M b s n = 5) → Tr_ wd0 pg0 (dq + 14) 236 [.inr (.inr 6), .inl 5, .inl p] (up_ (nx_ N) 201 i n) (rv_ fun M4 => rv_ G [] M4) Qtq := fun e => q_236 (rv_i (by
    rcases bl01 hE with hb | hb
    · unfold Qn_ at hK; rw [if_pos (.inl hb)] at hK
      unfold nt_; rw [if_pos (by (clear hE hT hG hk h12 hE2 hi hs hn hK hV' hW' oE oT e15 m5 n16 e156 none e; lia))]; exact hK
    · rw [e hb, Qn_nt u16 (.inr hb) (by decide)] at hK; exact hK))
  have b0 : b = 0 → nvK M b s n = 0 := fun hb => by unfold nvK; rw [if_pos (.inl hb)]
  by_cases c1 : s < 100
  · rw [if_pos c1]
    by_cases c2 : s < 0
    · rw [if_pos c2, if_pos rfl]
      exact none (by unfold nvK; rw [if_pos (.inr (by (clear hE hT hG hk h12 hE2 hi hn hK hV' hW' oE oT e15 m5 n16 e156 c1; lia)))])
    · rw [if_neg c2, e156]
      have sg := (hG.2 s (by omega) (by (clear hE hT hG hk h12 hE2 hi hn hK hV' hW' oE oT e15 n16 e156; lia))).1
      refine ⟨by (clear hE hT hG hk h12 hE2 hi hn hK hV' hW' oE oT e15 n16 e156 sg; lia), ?_⟩
      rw [sg.2.2]
      by_cases c3 : n = M 112 s
      · rw [if_pos c3]
        exact none (by unfold nvK; rw [if_pos c1, if_pos c3]; split <;> rfl)
      · rw [if_neg c3]
        exact five (fun hb => by unfold nvK; rw [if_neg (by (clear hE hT hG hk h12 hE2 hi hs hn hK hV' hW' oE oT e15 m5 n16 e156 none five b0 sg c3; omega)), if_pos c1, if_neg c3])
  · rw [if_neg c1, if_neg (by (clear hE hT hG hk h12 hE2 hi hs hK hV' hW' oE oT e15 m5 n16 e156 u16 none five b0 c1; omega))]
    exact five (fun hb => by unfold nvK; rw [if_neg (by (clear hE hT hG hk h12 hE2 hi hs hn hK hV' hW' oE oT e15 m5 n16 e156 none five b0; omega)), if_neg c1, if_neg (by omega)])
end IN
end T200_in
section T201_in
/-! inputs: an in whole (X 169 | Q 308) -/
section IO
variable {dq : Nat} {b F : Int} {M N M1 N1 : mm_} {s k a mask ee ee' w : Int} {Kv : mm_ → Prop} {Qt : qt_} {V : vv_}
theorem SL_le [Inhabited gh_] (h : SL b F M N a mask ee w) (he : ee ≤ ee') : SL b F M N a mask ee' w := by
  obtain ⟨h1, ⟨s1, s2, s3⟩, hm, h4⟩ := h
  exact ⟨h1, ⟨by omega, by omega, by omega⟩, hm, h4⟩
theorem SLG_XSb [Inhabited gh_] (h : SLG b w M N M1 N1) : XSb M M1 := ⟨Fr_sub h.1.1 (by decide), fun i hi => h.1.2.1 i (fun e => hi (by revert e; unfold xiI xbI; simp only [List.mem_cons, List.not_mem_nil, or_false]; (clear h hi; lia))), fun i _ h4 => h.1.2.2.1 i h4⟩
theorem SLG_QSb [Inhabited gh_] (h : SLG b w M N M1 N1) : QSb N N1 := ⟨Fr_sub h.2.1.1 (by decide), fun i hi => h.2.1.2.1 i (fun e => hi (by revert e; unfold qiI qbI; simp only [List.mem_cons, List.not_mem_nil, or_false]; (clear h hi; lia)))⟩
theorem GV_XSb [Inhabited gh_] {T s i j j' k : Int} (h : GV b T s M N M1 N1 k i j j') : XSb M M1 := ⟨Fr_sub h.1.1 (by decide), fun x hx => h.1.2.1 x (nm_i hx (by decide)) (nm_i hx (by decide)) (nm_i hx (by decide)) (nm_i hx (by decide)), fun x _ _ => by rw [h.1.1 5 (by decide)]⟩
theorem GV_QSb [Inhabited gh_] {T s i j j' k : Int} (h : GV b T s M N M1 N1 k i j j') : QSb N N1 := ⟨Fr_sub h.2.1.1 (by decide), fun x hx => h.2.1.2.1 x (nm_i hx (by decide)) (nm_i hx (by decide)) (nm_i hx (by decide))⟩
theorem rv_e [Inhabited gh_] {G : mm_ → Prop} : (rv_ fun M2 => rv_ G [] M2) = rv_ G := by
  funext vs m
  exact propext ⟨fun h => ⟨h.1, h.2.2⟩, fun h => ⟨h.1, rfl, h.2⟩⟩
/-- behind the name of an in -/
theorem y_in2 [Inhabited gh_] (hV : Cl_ wd0 (Tr_ wd0 pg0 127) V (rv_ Kv) Qt m_169) (hW : Wk_ V) (h : SL b F M N a mask ee 0) (he : ee ≤ -1) (hk1 : M 70 a = 100) (S1 : SL b F M1 N1 (a + 1) mask (ee + 1) 0) (G1 : SLG b 0 M N M1 N1) (f1 : M1 1 7 ≤ M 1 7 + 1) (e54 : b = 1 → M1 5 4 = M 5 4 + 1) (e63 : N1 6 63 = N 6 63 + 1) (e200 : b = 1 → N1 200 (N 6 63) = s) (hs : s = -1 ∨ (0 ≤ s ∧ s < M 5 0) ∨ (100 ≤ s ∧ s < 103))
    (hS : b = 1 → (if M 70 (a + 1) = 240 then IV (M 70) (a + 1, 0) else some (a + 1)) ≠ none)
    (q8 : ∀ (G : mm_ → Prop) (Qtq : qt_), (∀ V' : vv_, Tr_ wd0 pg0 (dq + 15) 237 [.inr (.inr 6), .inl 40] N1 (ri_ fun v1 M1' => if v1 = 0 then rv_ G [] M1' else Tr_ wd0 pg0 (dq + 15) 310 [.inr (.inr 6), .inl (N 6 63), .inl s, .inl (M 71 a)] M1' (rv_ fun M2 => rv_ G [] M2) Qtq) Qtq) → Tr_ wd0 pg0 (dq + 16) 308 [.inr (.inr 6), .inl k, .inl mask, .inl 1] N (rv_ G) Qtq)
    (hK : ∀ M' N' a', SL b F M' N' a' mask (ee + 1) 0 → a + 1 ≤ a' → SLG b 0 M N M' N' → (if M 70 (a + 1) = 240 then IV (M 70) (a + 1, 0) else some (a + 1)) = some a' → (∀ (G : mm_ → Prop) (Qtq : qt_), G N' → Tr_ wd0 pg0 (dq + 16) 308 [.inr (.inr 6), .inl k, .inl mask, .inl 1] N (rv_ G) Qtq) → Kv M')
    (hQ : b = 0 → ∀ Mx', XSb M Mx' → (∀ (G : mm_ → Prop) (Qtq : qt_), (∀ M', SQb Mx' N M' → G M') → Tr_ wd0 pg0 (dq + 16) 308 [.inr (.inr 6), .inl k, .inl mask, .inl 1] N (rv_ G) Qtq) → Qt 8 Mx') :
    Tr_ wd0 pg0 127 117 [.inr (.inr 1), .inl 40] M1 (ri_ fun v2 M2 => if v2 = 0 then rv_ Kv [] M2 else Tr_ wd0 pg0 127 118 [.inr (.inr 1)] M2 (rv_ fun M3 => V 135 [rr 1, ii a, ii (if b = 0 then -1 else s), ii (if b = 0 then -1 else M 5 4), ii 0, ii (M3 1 3), none] [] M3) Qt) Qt := by
  have hE1 := TS_E S1.1
  have hT1 := S1.1.1.1
  have ha1 := ER_a hE1
  have hE := TS_E h.1
  have ha := ER_a hE
  have h01 := bl01 hE
  have x70 : M1 70 = M 70 := G1.1.1 70 (by decide)
  have x71 : M1 71 = M 71 := G1.1.1 71 (by decide)
  have xs1 := SLG_XSb G1
  have qs1 := SLG_QSb G1
  have b1 := h.2.1
  have fl := h.1.2.2.2.2.2.1
  have fe := ER_fl hE
  have fe1 := ER_fl hE1
  have b2 := S1.2.1
  refine y_117 hE1 (by decide) (fun c => ?_) (fun c => ?_)
  · rw [if_neg (by decide)]
    have c' : M 70 (a + 1) = 240 := by rw [← x70]; exact c
    rw [if_pos c'] at hS hK
    refine y_118 hE1 (fun _ => by decide) (fun _ oE => ?_) (fun _ e => absurd e (by decide))
    have e13 : up_ M1 1 6 (0 + 1) 1 3 = a + 1 := by rw [up_off (by decide)]; exact hE1.2.1
    rw [e13]
    have q9 : ∀ (G : mm_ → Prop) (Qtq : qt_), Tr_ wd0 pg0 (dq + 15) 310 [.inr (.inr 6), .inl (N 6 63), .inl s, .inl (M 71 a)] N1 (rv_ G) Qtq → Tr_ wd0 pg0 (dq + 16) 308 [.inr (.inr 6), .inl k, .inl mask, .inl 1] N (rv_ G) Qtq := fun G Qtq hq => q8 G Qtq fun V' => j_237t hT1 hE1 (by decide) c (by
      rw [if_neg (by decide)]
      rw [rv_e]; exact hq)
    by_cases c12 : a + 1 < 1200
    · have q10' : ∀ (G : mm_ → Prop) (Qtq : qt_), q10 dq (N 6 63) s (M 71 a) (a + 1) 0 N1 G Qtq → Tr_ wd0 pg0 (dq + 16) 308 [.inr (.inr 6), .inl k, .inl mask, .inl 1] N (rv_ G) Qtq := fun G Qtq hq => q9 G Qtq (by
        refine t_310 fun V' hV' hW' => b_310_0 (Tr_mono _) hV' hW' _ _ _ _ ?_
        refine j_239t hT1 hE1 (by decide) c c12 (by decide) ?_
        have e12 : nx_ (up_ N1 6 15 (0 + 1)) 6 12 = a + 1 + 1 := by unfold nx_; rw [up_at, up_off (by decide), hE1.2.2.1]
        rw [e12]
        have := hq V' hV' hW'
        rw [← nx_q1] at this
        exact this)
      refine l_169 (d := 122) (dq := dq) (k := M 5 4) (i := N 6 63) (p := M 71 a) (s := s) (t := a) hV hW 1201 (a + 1) 0 (ee + 1) M1 N1 (by (clear hV hW h he hk1 S1 G1 f1 e54 e63 e200 hs hS q8 hK hQ hE1 hT1 hE h01 x70 x71 xs1 qs1 b1 fl fe fe1 b2 c c' oE q9 q10'; omega)) S1 c12 (.inl c) (by (clear hV hW h hk1 S1 G1 f1 e54 e63 e200 hs hS q8 hK hQ hE1 hT1 ha1 hE ha h01 x70 x71 xs1 qs1 b1 fl fe fe1 b2 c c' oE e13 q9 c12 q10'; omega)) (by (clear hV hW h he hk1 S1 G1 f1 e54 e63 e200 hs hS q8 hK hQ hE1 hT1 ha1 hE ha h01 x70 x71 xs1 qs1 b1 fl fe fe1 b2 c c' oE e13 q9 c12 q10'; lia)) (by (clear hV hW h he hk1 S1 G1 f1 e54 e63 e200 hs hS q8 hK hQ hE1 hT1 hE h01 x70 x71 xs1 qs1 b1 fl fe fe1 b2 c c' oE q9 q10'; lia)) (by omega) (fun l l0 l1 => by omega) (fun hb => ?_) (by omega) (by rw [x70]; exact hS) (fun M2 N2 a2 j' S2 ha2 hj' G2 hsy h44 hq => ?_) (fun hb Mx' hx hq => ?_)
      · rw [G1.1.2.2.1 0 (by decide)]
        have := e54 hb
        exact ⟨by (clear hV hW h he hk1 S1 G1 f1 e54 e63 e200 hs hS q8 hK hQ hE1 hT1 ha1 hE ha h01 x70 x71 xs1 qs1 fl fe fe1 b2 c c' oE e13 q9 c12 q10' hb; omega), hs⟩
      · rw [x70] at hsy
        have hE2 := TS_E S2.1
        have oE2 := ER_o1 hE2
        have oT2 : Tks (o1_ M2) (q1_ N2) := Tks_a (XF_XA o1_XF) (QF_QA q1_QF) S2.1.1.1
        have y70 : M2 70 = M 70 := (G2.1.1 70 (by decide)).trans x70
        have o70 : o1_ M2 70 = M 70 := by rw [o1_r (by decide)]; exact y70
        have xs2 : XSb M (o1_ M2) := XSb_tr xs1 (XSb_tr (GV_XSb G2) (XA_XSb (XF_XA o1_XF)))
        have qs2 : QSb N (q1_ N2) := QSb_tr qs1 (QSb_tr (GV_QSb G2) (QA_QSb (QF_QA q1_QF)))
        have y63 : N2 6 63 = N 6 63 + 1 := by rw [G2.2.1.2.1 63 (by decide) (by decide) (by decide)]; exact e63
        have y54 : M2 5 = M1 5 := G2.1.1 5 (by decide)
        have m50 : M2 5 0 = M 5 0 := by rw [y54, G1.1.2.2.1 0 (by decide)]
        have sg2 := S2.1.2.1.1
        have m5 := sg2.1.1
        have a2' := ER_a hE2
        refine y_121 oE2 (by decide) (fun hb => by rw [o70]; show tS (M 70) 241 a2 ≠ none; rw [← hsy]; exact hS hb) (fun k2 h13 _ => ?_) (fun hb k2 h13 => ?_) (fun hb k2 => ?_)
        · have k2' : M2 70 a2 = 241 := by have := k2; rw [o1_r (by decide)] at this; exact this
          have hE3 := (ER_go hE2 h13 (by rw [k2']; decide)).1
          have S3 := SL_go S2 hE3
          have m71 : nX_ M2 71 = M 71 := by rw [nX_ne (by decide), G2.1.1 71 (by decide)]; exact x71
          have S4 := SL_38 (s := s) (k := M 5 4) (n := j' + 1) (c := N 6 63) (v := j' + 1) S3
          have x38 : X38 b s (nX_ M2) (M 5 4) (j' + 1) 1 7 = M2 1 7 := by rw [X38_r (by decide), nX_1 (by decide)]
          have fl2 := S2.1.2.2.2.2.2.1
          have g71 : X38 b s (nX_ M2) (M 5 4) (j' + 1) 71 = M 71 := by rw [X38_r (by decide)]; exact m71
          have ga : gd_ (X38 b s (nX_ M2) (M 5 4) (j' + 1)) a := gd_c (by rw [X38_r (by decide), nX_ne (by decide)]; exact y70) hE.1
          have S5 := SL_n (kk := nvK M2 b s (j' + 1)) (tk := a) S4 nvK_r ga (by rw [x38]; (clear hV hW h he hk1 S1 G1 f1 e54 e63 e200 hs hS q8 hK hQ hE1 hT1 ha1 hE ha h01 x70 x71 xs1 qs1 b1 fl fe fe1 b2 c c' oE e13 q9 c12 q10' S2 ha2 hj' G2 hsy h44 hq hE2 oE2 oT2 y70 o70 xs2 qs2 y63 y54 m50 sg2 m5 a2' k2 h13 k2' hE3 S3 m71 S4 x38 g71 ga; omega))
          rw [g71] at S5
          refine x_201 (d := 126) hE2 S2.1.1.2.1 (fun hb => ⟨by omega, by have := e54 hb; (clear hV hW h hk1 S1 G1 f1 e54 e63 e200 hs hS q8 hK hQ hE1 hT1 hE h01 x70 x71 xs1 qs1 fl fe fe1 b2 c c' oE q9 q10' S2 ha2 hj' G2 hsy h44 hq hE2 oE2 oT2 y70 o70 xs2 qs2 y63 y54 m50 sg2 m5 a2' k2 h13 k2' hE3 S3 m71 S4 x38 fl2 g71 ga S5 hb; lia)⟩) (fun hb => by (clear hV hW h he hk1 S1 G1 f1 e54 e63 e200 q8 hK hE1 hT1 ha1 hE ha x70 x71 xs1 qs1 b1 fl fe fe1 b2 c c' oE e13 q9 c12 q10' S2 ha2 hj' G2 hsy hq hE2 oE2 oT2 y70 o70 xs2 qs2 y63 y54 sg2 a2' k2 h13 hE3 S3 m71 S4 x38 fl2 g71 ga; lia)) (by (clear hV hW h he hk1 S1 G1 f1 e54 e63 e200 hs hS q8 hK hQ hE1 hT1 hE h01 x70 x71 xs1 qs1 b1 fl fe fe1 b2 c c' oE q9 q10' S2 ha2 hj' G2 hsy h44 hq hE2 oE2 oT2 y70 o70 xs2 qs2 y63 y54 m50 sg2 m5 a2' k2 h13 k2' hE3 S3 m71 S4 x38 fl2 g71 ga S5; omega)) (by omega) (ER_fl hE2) ?_
          refine hK _ _ (a2 + 1) (SL_le S5.1 (by (clear hV hW h he hk1 S1 G1 f1 e54 e63 e200 hs hS q8 hK hQ hE1 hT1 ha1 hE ha h01 x70 x71 xs1 qs1 b1 fl fe fe1 b2 c c' oE q9 c12 q10' S2 hj' G2 hsy h44 hq hE2 oE2 oT2 y70 o70 xs2 qs2 y63 y54 m50 sg2 m5 a2' k2 h13 k2' hE3 S3 m71 S4 x38 fl2 g71 ga S5; omega))) (by (clear hV hW h he hk1 S1 G1 f1 e54 e63 e200 hs hS q8 hK hQ hE1 hT1 ha1 hE ha h01 x70 x71 xs1 qs1 b1 fl fe fe1 b2 c c' oE q9 c12 q10' S2 hj' G2 hsy h44 hq hE2 oE2 oT2 y70 o70 xs2 qs2 y63 y54 m50 sg2 m5 a2' k2 h13 k2' hE3 S3 m71 S4 x38 fl2 g71 ga S5; omega)) (SLG_v h01 G1 e54 e63 (by rw [h.1.1.2.1.2.1, ← G1.1.2.1 18 (by decide)]; exact G2) (by (clear hV hW h he hk1 S1 G1 f1 e54 e63 e200 hs hS q8 hK hQ hE1 hT1 ha1 hE ha h01 x70 x71 xs1 qs1 b1 fl fe fe1 b2 c c' oE e13 q9 c12 q10' S2 ha2 G2 hsy h44 hq hE2 oE2 oT2 y70 o70 xs2 qs2 y63 y54 m50 sg2 m5 a2' k2 h13 k2' hE3 S3 m71 S4 x38 fl2 g71 ga S5; lia)) e200 (fun hb hk sne => ?_) S5.2.2) (by rw [hsy]; exact tS_e (by rw [← y70]; exact k2') h13) (fun G Qtq hg => q10' G Qtq (hq G Qtq ?_))
          · have g2 := S2.1.2.1.1
            have V2 := S2.1.1.2.1
            have nr := hk
            unfold nvK at nr
            rw [if_neg (by (clear hV hW h he hk1 S1 G1 f1 e54 e63 e200 hs hS q8 hK hQ hE1 hT1 ha1 hE ha h01 x70 x71 xs1 qs1 b1 fl fe fe1 b2 c c' oE e13 q9 c12 q10' S2 ha2 hj' G2 hsy h44 hq hE2 oE2 oT2 y70 o70 xs2 qs2 y63 y54 m50 sg2 m5 a2' k2 h13 k2' hE3 S3 m71 S4 x38 fl2 g71 ga S5 hk g2 V2; lia))] at nr
            have rg := hs
            have c2 : s < 100 := by
              by_cases c : s < 100
              · exact c
              · rw [if_neg c] at nr; split at nr <;> omega
            rw [if_pos c2] at nr
            have nn : j' + 1 = M2 112 s := by
              by_cases c : j' + 1 = M2 112 s
              · exact c
              · rw [if_neg c] at nr; omega
            have gs := g2.2 s (by (clear hV hW h he hk1 S1 G1 f1 e54 e63 e200 hs hS q8 hK hQ hE1 hT1 ha1 hE ha h01 x70 x71 xs1 qs1 b1 fl fe fe1 b2 c c' oE e13 q9 c12 q10' S2 ha2 hj' G2 hsy h44 hq hE2 oE2 oT2 y70 o70 xs2 qs2 y63 y54 m50 sg2 m5 a2' k2 h13 k2' hE3 S3 m71 S4 x38 fl2 g71 ga S5 hb hk g2 V2 c2 nn; omega)) (by rw [m50]; (clear hV hW h he hk1 S1 G1 f1 e54 e63 e200 hs hS q8 hK hQ hE1 hT1 ha1 hE ha h01 x70 x71 xs1 qs1 b1 fl fe fe1 b2 c c' oE e13 q9 c12 q10' S2 ha2 hj' G2 hsy h44 hq hE2 oE2 oT2 y70 o70 xs2 qs2 y63 y54 sg2 a2' k2 h13 k2' hE3 S3 m71 S4 x38 fl2 g71 ga S5 hb hk sne g2 V2 nr nn; omega))
            have m1 : ∀ r : Nat, r = 112 ∨ r = 113 ∨ r = 130 ∨ r = 124 → M1 r = M2 r := fun r hr => (G2.1.1 r (by rcases hr with e | e | e | e <;> (rw [e]; decide))).symm
            have n1 : ∀ r : Nat, r = 156 ∨ r = 157 ∨ r = 182 ∨ r = 171 → N1 r = N2 r := fun r hr => (G2.2.1.1 r (by rcases hr with e | e | e | e <;> (rw [e]; decide))).symm
            rw [m1 112 (by (clear hV hW h he hk1 S1 G1 f1 e54 e63 e200 hs hS q8 hK hQ hE1 hT1 ha1 hE ha h01 x70 x71 xs1 qs1 b1 fl fe fe1 b2 c c' oE e13 q9 c12 q10' S2 ha2 hj' G2 hsy h44 hq hE2 oE2 oT2 y70 o70 xs2 qs2 y63 y54 m50 sg2 m5 a2' k2 h13 k2' hE3 S3 m71 S4 x38 fl2 g71 ga S5 hb hk sne g2 V2 nr rg c2 nn gs m1 n1; lia)), m1 113 (by omega), m1 130 (by omega), n1 156 (by omega), n1 157 (by omega), n1 182 (by omega), n1 171 (by omega)]
            refine ⟨⟨by omega, by (clear hV hW h he hk1 S1 G1 f1 e54 e63 e200 hs hS q8 hK hQ hE1 hT1 ha1 hE ha h01 x70 x71 xs1 qs1 b1 fl fe fe1 b2 c c' oE e13 q9 c12 q10' S2 ha2 hj' G2 hsy h44 hq hE2 oE2 oT2 y70 o70 xs2 qs2 y63 y54 sg2 a2' k2 h13 k2' hE3 S3 m71 S4 x38 fl2 g71 ga S5 hb hk sne g2 V2 nr nn gs m1 n1; omega), by (clear hV hW h he hk1 S1 G1 f1 e54 e63 e200 hs hS q8 hK hQ hE1 hT1 ha1 hE ha h01 x70 x71 xs1 qs1 b1 fl fe fe1 b2 c c' oE e13 q9 c12 q10' S2 ha2 hj' G2 hsy h44 hq hE2 oE2 oT2 y70 o70 xs2 qs2 y63 y54 m50 sg2 m5 a2' k2 h13 k2' hE3 S3 m71 S4 x38 fl2 g71 ga S5 hb hk sne g2 V2 nr rg c2 gs m1 n1; omega), gs.1.2.2⟩, fun v v0 v1 => (gs.2 v v0 v1).2.2, fun u u0 u1 => ?_⟩
            have e61 : N 6 61 = M2 1 18 := by rw [G2.1.2.1 18 (by decide) (by decide) (by decide) (by decide), G1.1.2.1 18 (by decide)]; exact h.1.1.2.1.2.1
            rw [e61] at u1 ⊢
            exact (V2.2.2.2.2.2.2.1 u u0 (by rw [← V2.2.2.2.2.1.2.2]; exact u1)).2.2.1
          refine q_102e hE2 S2.1.1.1 sg2 k2' h13 hE3 (by omega) (by rw [m50]; exact hs) (by (clear hV hW h he hk1 S1 G1 f1 e54 e63 e200 hs hS q8 hK hQ hE1 hT1 ha1 hE ha h01 x70 x71 xs1 qs1 b1 fl fe fe1 b2 c c' oE e13 q9 c12 q10' S2 ha2 G2 hsy h44 hq hE2 oE2 oT2 y70 o70 xs2 qs2 y63 y54 m50 sg2 m5 a2' k2 h13 k2' hE3 S3 m71 S4 x38 fl2 g71 ga S5 hg; omega)) hg
        · have hsp := SQ_bf oE2 hb (k := 2) (by decide) QA_rf
          refine hQ hb _ (XSb_tr xs2 (XA_XSb (XF_XA fl_XF))) (fun G Qtq hg => q10' G Qtq (hq G Qtq fun V' hV' hW' => ?_))
          refine b_310_102 (Tr_mono _) hV' hW' _ _ _ _ _ _ _ (j_243r oT2 oE2 hb (by decide) k2 h13 (q_227s hsp.1 (by rw [if_neg (by decide)]; exact rv_i (hg _ ⟨hsp.1, hsp.2.1, hsp.2.2.1, hsp.2.2.2.1, QSb_tr qs2 (QA_QSb hsp.2.2.2.2)⟩))))
        · have hsp := SQ_bf oE2 hb (k := 1) (by decide) QA_rf
          refine hQ hb _ (XSb_tr xs2 (XA_XSb (XF_XA fl_XF))) (fun G Qtq hg => q10' G Qtq (hq G Qtq fun V' hV' hW' => ?_))
          refine b_310_102 (Tr_mono _) hV' hW' _ _ _ _ _ _ _ (j_243w oT2 oE2 hb (by decide) k2 (q_227s hsp.1 (by rw [if_neg (by decide)]; exact rv_i (hg _ ⟨hsp.1, hsp.2.1, hsp.2.2.1, hsp.2.2.2.1, QSb_tr qs2 (QA_QSb hsp.2.2.2.2)⟩))))
      · exact hQ hb Mx' (XSb_tr xs1 hx) (fun G Qtq hg => q10' G Qtq (hq G Qtq fun M' p => hg _ ⟨p.1, p.2.1, p.2.2.1, p.2.2.2.1, QSb_tr qs1 p.2.2.2.2⟩))
    · rcases h01 with hb | hb
      · refine b_169_135 (Tr_mono _) hV hW _ _ _ _ _ _ ?_
        have oE' : ER b F (o1_ M1) (q1_ N1) (a + 1) 1 := oE
        refine y_105 oE' (by rw [up_ne (by decide), c]; decide) (fun hb1 => by (clear hV hW h he hk1 S1 G1 f1 e54 e63 e200 hs hS q8 hK hQ hE1 hT1 ha1 hE ha x70 x71 xs1 qs1 b1 fl fe fe1 b2 c c' oE e13 q9 c12 oE'; lia)) (fun h14 _ => by (clear hV hW h he hk1 S1 G1 f1 e54 e63 e200 hs hS q8 hK hQ hE1 hT1 hE x70 x71 xs1 qs1 b1 fl fe fe1 b2 c c' oE q9 hb oE'; omega)) (fun _ h14 => ?_)
        have hsp := SQ_bf oE' hb (k := 2) (by decide) QA_rf
        refine hQ hb _ (XSb_tr xs1 (XSb_tr (XA_XSb (XF_XA o1_XF)) (XA_XSb (XF_XA fl_XF)))) (fun G Qtq hg => q9 G Qtq ?_)
        refine t_310 fun V' hV' hW' => b_310_0 (Tr_mono _) hV' hW' _ _ _ _ ?_
        refine j_239r hT1 hE1 hb (by decide) c h14 (by decide) ?_
        refine q18_s hV' hW' hsp.1 (hg _ ⟨hsp.1, hsp.2.1, hsp.2.2.1, hsp.2.2.2.1, QSb_tr qs1 (QSb_tr (QA_QSb (QF_QA q1_QF)) (QA_QSb hsp.2.2.2.2))⟩)
      · exfalso
        have := IV_g (by (clear hV hW h he hk1 S1 G1 f1 e54 e63 e200 hs hS q8 hK hQ hE1 hT1 hE x70 x71 xs1 qs1 b1 fl fe fe1 b2 c c' oE q9 hb; omega)) (by (clear hV hW h he hk1 S1 G1 f1 e54 e63 e200 hs hS q8 hK hQ hE1 hT1 hE x70 x71 xs1 qs1 b1 fl fe fe1 b2 c c' oE q9 hb; omega)) (hS hb)
        (clear hV hW h he hk1 S1 G1 f1 e54 e63 e200 hs hS q8 hK hQ hE1 hT1 hE x70 x71 xs1 qs1 b1 fl fe fe1 b2 c c' oE q9 hb; lia)
  · rw [if_pos rfl]
    have c' : M 70 (a + 1) ≠ 240 := by rw [← x70]; exact c
    rw [if_neg c'] at hK
    refine rv_i (hK M1 N1 (a + 1) S1 (by (clear hV hW h he hk1 S1 G1 f1 e54 e63 e200 hs hS q8 hK hQ hE1 hT1 ha1 hE ha h01 x70 x71 xs1 qs1 b1 fl fe fe1 b2 c c'; lia)) G1 rfl (fun G Qtq hg => q8 G Qtq fun V' => j_237f hT1 hE1 (by decide) c ?_))
    rw [if_pos rfl]
    exact rv_i hg
end IO
end T201_in
section T202_in
/-! inputs: an in whole (X 169 | Q 308), joined -/
section IP
variable {dq : Nat} {b F : Int} {M N M1 N1 : mm_} {s k kk a mask ee w : Int} {Kv G : mm_ → Prop} {Qt Qtq : qt_} {V : vv_}
theorem inS_n [Inhabited gh_] (hk : M 70 a = 100) (h12 : a < 1200) : inS (M 70) a = if M 70 (a + 1) = 240 then IV (M 70) (a + 1, 0) else some (a + 1) := by
  unfold inS
  rw [if_neg (by rw [hk]; decide), tS_e hk h12, Option.bind_some]
theorem y_169 [Inhabited gh_] (h : SL b F M N a mask ee 0) (he : ee ≤ -1) (hS : b = 1 → inS (M 70) a ≠ none)
    (hK : ∀ M' N' a', SL b F M' N' a' mask (ee + 1) 0 → a + 1 ≤ a' → SLG b 0 M N M' N' → inS (M 70) a = some a' → (∀ (G : mm_ → Prop) (Qtq : qt_), G N' → Tr_ wd0 pg0 (dq + 16) 308 [.inr (.inr 6), .inl k, .inl mask, .inl 1] N (rv_ G) Qtq) → Kv M')
    (hQ : b = 0 → ∀ Mx', XSb M Mx' → (∀ (G : mm_ → Prop) (Qtq : qt_), (∀ M', SQb Mx' N M' → G M') → Tr_ wd0 pg0 (dq + 16) 308 [.inr (.inr 6), .inl k, .inl mask, .inl 1] N (rv_ G) Qtq) → Qt 8 Mx') :
    Tr_ wd0 pg0 128 169 [.inr (.inr 1)] M (rv_ Kv) Qt := by
  have hE := TS_E h.1
  have hT := h.1.1.1
  have ha := ER_a hE
  have h01 := bl01 hE
  have b1 := h.2.1
  have hV2 := h.1.1.2.1.1
  have stopped : ∀ {Mx' M2 : mm_}, SQ Mx' N M2 → SQb Mx' N M2 := fun hs => ⟨hs.1, hs.2.1, hs.2.2.1, hs.2.2.2.1, QA_QSb hs.2.2.2.2⟩
  refine t_169 fun V hV hW => b_169_0 (Tr_mono _) hV hW _ ?_
  refine y_117 hE (by decide) (fun c => ?_) (fun c => ?_)
  · -- '*'
    rw [if_neg (by decide)]
    have eS : inS (M 70) a = gS a := by unfold inS; rw [if_pos (show M 70 a = 242 from c)]
    rw [eS] at hS hK
    have main := x_st (d := 121) (Qt := Qt) (Kv := fun M8 => rv_ Kv [] M8) h c (by omega) hS (fun kk hH h0 h12 hE1 => ?_) (fun hb h12 => ?_)
    · exact main
    · have P := y_hn (s := 200) (kk := kk) h hE1 (.inl rfl) (.inr (.inl rfl)) hH h0
      have eg : ∀ X : mm_, Xg_ b 0 200 X = X := fun X => by unfold Xg_; rw [if_neg (by omega)]
      rw [eg] at P
      exact rv_i (hK _ _ (a + 1) P.1 (by omega) P.2.1 (gS_e h12) (fun G Qtq hg => q_308a (d := dq + 12) h c h12 hE1 hH (by omega) hg))
    · have hsp := SQ_bf hE hb (k := 2) (by decide) QA_rf
      exact hQ hb _ (XA_XSb (XF_XA fl_XF)) (fun G Qtq hg => q_308b (d := dq + 12) hE hT hb c h12 (hg _ (stopped hsp)))
  · rw [if_pos rfl]
    have eS : inS (M 70) a = (tS (M 70) 100 a).bind fun a1 => if M 70 a1 = 240 then IV (M 70) (a1, 0) else some a1 := by unfold inS; rw [if_neg (show ¬ M 70 a = 242 from c)]
    refine y_107 (d := 123) hE (fun hb => by have := hS hb; rw [eS] at this; exact bind_n this) (fun hk1 h12 hE1 => ?_) (fun hb hk1 h12 => ?_) (fun hb hk1 => ?_)
    rotate_left
    · have hsp := SQ_bf hE hb (k := 2) (by decide) QA_rf
      refine hQ hb _ (XA_XSb (XF_XA fl_XF)) (fun G Qtq hg => q_308s (d := dq + 12) hE hT hb (.inr h12) c ?_)
      rw [if_pos hk1]; exact hg _ (stopped hsp)
    · have hsp := SQ_bf hE hb (k := 1) (by decide) QA_rf
      refine hQ hb _ (XA_XSb (XF_XA fl_XF)) (fun G Qtq hg => q_308s (d := dq + 12) hE hT hb (.inl hk1) c ?_)
      rw [if_neg hk1]; exact hg _ (stopped hsp)
    rw [inS_n hk1 h12] at hS hK
    have sr := sot_r h.1.1.2.1 h.1.2.1.1.1 (v := N 151 a)
    have m5 := h.1.2.1.1.1.1
    have sg := sgl_r h.1.1.2.1 h.1.2.1.1.1 (v := N 151 a)
    have tail : ∀ kk, (b = 1 → HK (nX_ M) (sot N (N 151 a)) kk) → (b = 0 → kk = 0) → Tr_ wd0 pg0 127 117 [.inr (.inr 1), .inl 40] (Xg_ b 0 (sot N (N 151 a)) (Xh_ b (Xn_ (nX_ M) b kk a) 0 (sot N (N 151 a)))) (ri_ fun v2 M2 => if v2 = 0 then rv_ Kv [] M2 else Tr_ wd0 pg0 127 118 [.inr (.inr 1)] M2 (rv_ fun M3 => V 135 [rr 1, ii a, ii (if b = 0 then -1 else sot N (N 151 a)), ii (if b = 0 then -1 else M 5 4), ii 0, ii (M3 1 3), none] [] M3) Qt) Qt := fun kk hH h0 => by
      have P := y_hn (s := sot N (N 151 a)) (kk := kk) h hE1 (.inl rfl) (by (clear h he hS hK hQ hE hT ha h01 b1 hV2 stopped hV hW c eS hk1 h12 hE1 m5; lia)) hH h0
      have e63 : inM_ (Qn_ (nx_ N) b kk (M 71 a)) (sot N (N 151 a)) 6 63 = N 6 63 + 1 := by rw [inM_63, Qn_6 (by decide) (by decide), nx_6 (by decide)]
      have e63' : Qn_ (nx_ N) b kk (M 71 a) 6 63 = N 6 63 := by rw [Qn_6 (by decide) (by decide), nx_6 (by decide)]
      refine y_in2 (dq := dq) (k := k) hV hW h he hk1 P.1 P.2.1 P.2.2.2 (fun hb => ?_) e63 (fun hb => ?_) (by (clear h he hS hK hQ hE hT ha h01 b1 hV2 stopped hV hW c eS hk1 h12 hE1 P e63 e63'; lia)) hS (fun G Qtq hq => ?_) hK hQ
      · rw [Xg_r (by decide), Xh_54, if_neg (by omega), Xn_r (by decide), nX_ne (by decide)]
      · rw [inM_200, if_pos e63'.symm]
      · refine q_308h (d := dq + 12) h hk1 h12 hE1 rfl hH (by omega) (fun V' hV' hW' => ?_)
        refine b_308_132 (Tr_mono _) hV' hW' _ _ _ _ _ _ _ ⟨by omega, by (clear h hS hK hQ hE hT h01 hV2 stopped hV hW c eS hk1 hE1 sr m5 sg hH h0 P hq hV' hW'; omega), ?_⟩
        rw [if_neg (by decide), if_neg (by (clear h he hS hK hQ hE hT ha h01 b1 hV2 stopped hV hW c eS hk1 h12 hE1 m5 P e63 e63' hq hV' hW'; lia)), w32_id (x := Qn_ (nx_ N) b kk (M 71 a) 6 63 + 1) (by (clear h he hS hK hQ hE hT ha h01 hV2 stopped hV hW c eS hk1 h12 hE1 sr m5 sg hH h0 P hq hV' hW'; omega)) (by (clear h hS hK hQ hE hT h01 hV2 stopped hV hW c eS hk1 hE1 sr m5 sg hH h0 P hq hV' hW'; omega))]
        have e := hq V'
        rw [e63']
        have ei : up_ (up_ (up_ (Qn_ (nx_ N) b kk (M 71 a)) 200 (N 6 63) (sot N (N 151 a))) 201 (N 6 63) 0) 6 63 (N 6 63 + 1) = inM_ (Qn_ (nx_ N) b kk (M 71 a)) (sot N (N 151 a)) := by unfold inM_; rw [e63']
        rw [ei]
        exact e
    intro _
    have m8 : nX_ M 1 8 = b := by rw [nX_1 (by decide)]; exact hE.2.2.2.2.2.2.1
    rcases h01 with hb | hb
    · rw [if_pos (by omega)]
      have := tail 0 (fun hb1 => by omega) (fun _ => rfl)
      have e1 : Xg_ b 0 (sot N (N 151 a)) (Xh_ b (Xn_ (nX_ M) b 0 a) 0 (sot N (N 151 a))) = nX_ M := by
        unfold Xg_ Xh_ Xn_; rw [if_neg (by omega), if_pos hb, if_pos (.inl hb)]
      rw [e1, if_pos hb, if_pos hb] at this
      exact this
    · rw [if_neg (by omega)]
      have S1 := SL_go h hE1
      have x54 : nX_ M 5 4 = M 5 4 := by rw [nX_ne (by decide)]
      have es : sot (nx_ N) (nx_ N 151 a) = sot N (N 151 a) := by
        unfold sot
        rw [nx_ne (r := 151) (by decide), tmr_c nx_QF, sgl_a (QF_QA nx_QF)]
      refine x_hn (d := 122) (A := fun v M5 => V 83 [rr 1, ii a, ii v, ii (-1), none, none, none] [] M5) S1 ⟨gd_c (nX_ne (by decide)) hE.1, by rw [nX_ne (by decide)]; exact hk1⟩ (by rw [x54]; omega) (fun kk hH => ?_)
      rw [es] at hH ⊢
      have T := tail kk (fun _ => hH) (fun hb0 => by omega)
      rw [if_neg (show ¬ b = 0 by omega), if_neg (show ¬ b = 0 by omega)] at T
      generalize sot N (N 151 a) = s at T hH sr sg ⊢
      have eXh : Xh_ b (Xn_ (nX_ M) b kk a) 0 s = stX_ (Xn_ (nX_ M) 1 kk a) 0 s := by unfold Xh_; rw [if_neg (by omega), hb]
      rw [eXh] at T
      have y54 : Xn_ (nX_ M) 1 kk a 5 4 = M 5 4 := by rw [Xn_r (by decide), x54]
      refine b_169_83 (Tr_mono _) hV hW _ _ _ _ (x_171 (by rw [Xn_1 (by decide) (by decide) (by decide), nX_1 (by decide)]; exact hV2) (by rw [y54]; omega) ?_)
      rw [y54]
      by_cases c1 : s < 0
      · rw [if_pos c1]
        unfold Xg_ at T; rw [if_neg (by (clear h he hS hK hQ hE hT ha b1 hV2 stopped hV hW c eS hk1 h12 hE1 m5 sg tail m8 hb S1 x54 es T hH sr eXh y54; omega))] at T
        exact T
      · rw [if_neg c1]
        by_cases c2 : s < 100
        · rw [if_pos c2]
          unfold Xg_ at T; rw [if_pos ⟨hb, rfl, by omega, c2⟩] at T
          exact T
        · rw [if_neg c2]
          unfold Xg_ at T; rw [if_neg (by omega)] at T
          exact T
end IP
end T202_in

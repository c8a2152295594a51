section T183_wn
/-! states: WHEN, joined -/
/-- PRIO in the text -/
def prS (κ ν : Int → Int) (a : Int) : Option Int := if κ a = 27 then (gS a).bind fun a1 => cnS κ ν 9 a1 else some a
/-- WHEN in the text -/
def whS (κ ν : Int → Int) (lm : Int → Int → Bool) (s : sj_) : Option sj_ := (gS s.1).bind fun a1 => (ES κ 0 0 a1).bind fun a2 => (prS κ ν a2).bind fun a3 => (tS κ 259 a3).bind fun a4 => PTj κ lm 12 (a4, s.2)
section WN
variable {d dq : Nat} {b F F' : Int} {Mx Mq M N M1 N1 : mm_} {a a' mask k c ee ee' i v : Int} {x1 x2 x3 e : Int} {Kv G : mm_ → Prop} {Qt : qt_} {V : vv_}
theorem SS_le [Inhabited gh_] (h : SS b F Mx Mq a mask ee) (he : ee ≤ ee') : SS b F Mx Mq a mask ee' := by
  obtain ⟨h1, ⟨s1, s2, s3⟩, hm, h4⟩ := h
  exact ⟨h1, ⟨by omega, by omega, by omega⟩, hm, h4⟩
/-- PRIO: X from V 22's word test on | Q from V 27 -/
theorem y_176p [Inhabited gh_] (h : SS b F Mx Mq a mask ee) (hk : 0 ≤ k ∧ k < 1300) (hS : b = 1 → prS (Mx 70) (Mx 73) a ≠ none)
    (hK : ∀ M1 N1 a1 pr, SS b F M1 N1 a1 mask (ee + a - a1) → a ≤ a1 → XF Mx M1 → M1 5 = Mx 5 → M1 142 = Mx 142 → M1 1 7 = Mx 1 7 → ((a1 = a ∧ pr = 0 ∧ N1 = Mq) ∨ (a1 = a + 2 ∧ N1 = up_ (nx_ (nx_ Mq)) 195 k pr)) → prS (Mx 70) (Mx 73) a = some a1 → (∀ (V' : vv_) (G : mm_ → Prop) (Qtq : qt_), Cl_ wd0 (Tr_ wd0 pg0 (dq + 16)) V' (rv_ G) Qtq m_313 → Wk_ V' → V' 59 [rr 6, ii mask, ii k, ii e, none] [] N1 → V' 27 [rr 6, ii mask, ii k, ii e, none] [] Mq) → V 56 [rr 1, ii x1, ii x2, ii pr, none] [] M1)
    (hQ : b = 0 → ∀ Mx', XSb Mx Mx' → (∀ (V' : vv_) (G : mm_ → Prop) (Qtq : qt_), Cl_ wd0 (Tr_ wd0 pg0 (dq + 16)) V' (rv_ G) Qtq m_313 → Wk_ V' → (∀ M', SQb Mx' Mq M' → G M') → V' 27 [rr 6, ii mask, ii k, ii e, none] [] Mq) → Qt 8 Mx') :
    Tr_ wd0 pg0 128 103 [.inr (.inr 1), .inl 27] Mx (ri_ fun v1 M2 => if v1 = 0 then V 56 [rr 1, ii x1, ii x2, ii 0, none] [] M2 else Tr_ wd0 pg0 128 105 [.inr (.inr 1)] M2 (rv_ fun M3 => Tr_ wd0 pg0 128 124 [.inr (.inr 1), .inl 9] M3 (ri_ fun v2 M4 => V 56 [rr 1, ii x1, ii x2, ii v2, none] [] M4) Qt) Qt) Qt := by
  have hE := TS_E h.1
  have hT := h.1.1.1
  have ha := ER_a hE
  refine y_103 hE (fun k1 => ?_) (fun k1 => ?_)
  · rw [if_neg (by decide)]
    have eP : prS (Mx 70) (Mx 73) a = (gS a).bind fun a1 => cnS (Mx 70) (Mx 73) 9 a1 := by unfold prS; rw [if_pos k1]
    rw [eP] at hS hK
    refine y_105 hE (by omega) (fun hb => bind_n (hS hb)) (fun h12 hE1 => ?_) (fun hb h12 => ?_)
    rotate_left
    · have hsp := SQ_bf hE hb (k := 2) (by decide) QA_rf
      refine hQ hb _ (XA_XSb (XF_XA fl_XF)) (fun V' G Qtq hV' hW' hk9 => b_313_27 (Tr_mono _) hV' hW' _ _ _ _ (j_228r hT hE hb (by decide) k1 h12 ?_))
      rw [if_neg (by decide)]
      refine t_248 fun V2 hV2 hW2 => b_248_0 (Tr_mono _) hV2 hW2 _ _ ⟨hsp.2.1, q_249s hsp.1 (q_227s hsp.1 ?_)⟩
      rw [if_neg (by decide)]
      refine ri_i (q_227s hsp.1 ?_)
      rw [if_neg (by decide)]
      exact q_313s59 (d := dq + 13) hV' hW' hsp.1 (hk9 _ ⟨hsp.1, hsp.2.1, hsp.2.2.1, hsp.2.2.2.1, QA_QSb hsp.2.2.2.2⟩)
    rw [gS_e h12, Option.bind_some] at hS hK
    have S1 := SS_go h hE1
    have hT1 := S1.1.1.1
    have x70 : nX_ Mx 70 = Mx 70 := nX_ne (by decide)
    have x73 : nX_ Mx 73 = Mx 73 := nX_ne (by decide)
    refine y_124 (d := 123) (dq := dq + 12) hT1 hE1 (fun hb => by rw [x70, x73]; exact hS hb) (fun n1 n2 n3 h13 hE2 hcn hq => ?_) (fun hb Mx' hx hq => ?_)
    · rw [x70, x73] at hcn
      rw [x73] at hq ⊢
      have S2 := SS_u (r := 195) (i := k) (v := Mx 73 (a + 1)) (.inl rfl) (SS_go S1 hE2)
      refine hK _ (up_ (nx_ (nx_ Mq)) 195 k (Mx 73 (a + 1))) (a + 1 + 1) _ (SS_le S2 (by omega)) (by omega) (XF_tr nX_XF nX_XF) (by rw [nX_ne (by decide), nX_ne (by decide)]) (by rw [nX_ne (by decide), nX_ne (by decide)]) (by rw [nX_1 (by decide), nX_1 (by decide)]) (.inr ⟨by omega, rfl⟩) hcn (fun V' G Qtq hV' hW' hg => b_313_27 (Tr_mono _) hV' hW' _ _ _ _ (j_228t hT hE (by decide) k1 h12 ?_))
      rw [if_neg (by decide)]
      refine hq _ _ (q_227g (ER_goq hE2) ?_)
      rw [if_pos rfl]
      exact ⟨hk, hg⟩
    · refine hQ hb Mx' (XA_XSb (XF_XA (XF_tr nX_XF hx))) (fun V' G Qtq hV' hW' hk9 => b_313_27 (Tr_mono _) hV' hW' _ _ _ _ (j_228t hT hE (by decide) k1 h12 ?_))
      rw [if_neg (by decide)]
      refine hq _ _ (fun v M' hsq => q_227s hsq.1 ?_)
      rw [if_neg (by decide)]
      exact q_313s59 (d := dq + 13) hV' hW' hsq.1 (hk9 _ ⟨hsq.1, hsq.2.1, hsq.2.2.1, hsq.2.2.2.1, QA_QSb (QA_tr (QF_QA nx_QF) hsq.2.2.2.2)⟩)
  · rw [if_pos rfl]
    have eP : prS (Mx 70) (Mx 73) a = some a := by unfold prS; rw [if_neg k1]
    refine hK Mx Mq a 0 (SS_le h (by omega)) (Int.le_refl _) XF_rf rfl rfl rfl (.inl ⟨rfl, rfl, rfl⟩) eP (fun V' G Qtq hV' hW' hg => b_313_27 (Tr_mono _) hV' hW' _ _ _ _ (j_228f hT hE (by decide) k1 ?_))
    rw [if_pos rfl]
    exact hg
end WN
end T183_wn
section T184_wn
/-! states: WHEN whole -/
/-- what a WHEN leaves: the e, the PRIO, the trans -/
def WHF [Inhabited gh_] (b F F' : Int) (Mx Mq : mm_) (a mask : Int) (M9 N9 : mm_) (a9 : Int) : Prop := ∃ (Ma Na Mb Nb : mm_) (aa ab pr : Int) (M' N' : mm_) (v kk : Int),
  WR b F (X2_ b (nX_ Mx) 2) (stQ_ (nx_ Mq) 2 mask) Ma Na (a + 1) aa 0 1 ∧ (aa ≤ ab ∧ XF (pX_ Ma 25) Mb ∧ Mb 5 = pX_ Ma 25 5 ∧ Mb 142 = pX_ Ma 25 142 ∧ ((ab = aa ∧ pr = 0 ∧ Nb = up_ Na 196 (Mq 6 62) (Mq 6 104)) ∨ (ab = aa + 2 ∧ Nb = up_ (nx_ (nx_ (up_ Na 196 (Mq 6 62) (Mq 6 104)))) 195 (Mq 6 62) pr)))
  ∧ PRC b F F' (sX_ (nX_ Mb) (Mb 1 34)) (tM_ (up_ (nx_ Nb) 197 (Mq 6 62) (Nb 6 75)) 0 mask) M' N' (ab + 1) a9 0 0 (Nb 6 76) ∧ SEM b (sX_ (nX_ Mb) (Mb 1 34)) (tM_ (up_ (nx_ Nb) 197 (Mq 6 62) (Nb 6 75)) 0 mask) M' N' v ∧ (v = 0 ∨ v = 1) ∧ kk = (if v = 0 then 6 else 0) ∧ (b = 1 → Qn_ N' b kk (M' 71 a9) 6 13 = 0 → kk = 0 ∧ N' 6 13 = 0)
  ∧ M9 = Xw_ b (Xn_ M' b kk a9) (if b = 0 then -1 else Mx 5 4) (Mx 5 3) pr (Mb 5 3) ∧ N9 = Qn_ N' b kk (M' 71 a9)
section WX
variable {d dq : Nat} {b F F' : Int} {Mx Mq : mm_} {a mask : Int} {Kv G : mm_ → Prop} {Qt : qt_}
theorem y_176 [Inhabited gh_] (h : SS b F Mx Mq a mask 0) (hk : Mx 70 a = 9) (hS : b = 1 → whS (Mx 70) (Mx 73) (LMT Mx) (a, lc_ b Mx) ≠ none)
    (hK : ∀ F' M9 N9 a9, SS b F' M9 N9 a9 mask 0 → a + 3 ≤ a9 → WHF b F F' Mx Mq a mask M9 N9 a9 → (∀ lm, LOK b lm Mx M9 → whS (Mx 70) (Mx 73) lm (a, lc_ b Mx) = some (a9, lc_ b M9)) → (∀ (G : mm_ → Prop) (Qtq : qt_), G N9 → qWH dq mask Mq G Qtq) → Kv M9)
    (hQ : b = 0 → ∀ Mx', XSb Mx Mx' → (∀ (G : mm_ → Prop) (Qtq : qt_), (∀ M', SQb Mx' Mq M' → G M') → qWH dq mask Mq G Qtq) → Qt 8 Mx') :
    Tr_ wd0 pg0 129 176 [.inr (.inr 1)] Mx (rv_ Kv) Qt := by
  have hE := TS_E h.1
  have hT := h.1.1.1
  have ha := ER_a hE
  have h01 := bl01 hE
  have u := h.1.2.2.2.2.1
  have bnd := h.2.1
  refine t_176 fun V hV hW => b_176_0 (Tr_mono _) hV hW _ ?_
  refine y_105 hE (by omega) (fun hb => bind_n (hS hb)) (fun h12 hE1 => ?_) (fun hb h12 => ?_)
  rotate_left
  · have hsp := SQ_bf hE hb (k := 2) (by decide) QA_rf
    refine hQ hb _ (XA_XSb (XF_XA fl_XF)) (fun G Qtq hk9 => j_228r hT hE hb (by decide) hk h12 ?_)
    rw [if_neg (by decide)]
    exact q_313s hsp.1 (hk9 _ ⟨hsp.1, hsp.2.1, hsp.2.2.1, hsp.2.2.2.1, QA_QSb hsp.2.2.2.2⟩)
  have S2 := SS_st1 (w := 2) (SS_go h hE1) (.inl rfl)
  have hE2 := TS_E S2.1
  have x1f : ∀ i : Int, i ≠ 3 → X2_ b (nX_ Mx) 2 1 i = Mx 1 i := fun i hi => by rw [X2_r (by decide) (by decide), nX_1 hi]
  have x70 : X2_ b (nX_ Mx) 2 70 = Mx 70 := by rw [X2_r (by decide) (by decide), nX_ne (by decide)]
  have x73 : X2_ b (nX_ Mx) 2 73 = Mx 73 := by rw [X2_r (by decide) (by decide), nX_ne (by decide)]
  have x53 : X2_ b (nX_ Mx) 2 5 3 = Mx 5 3 := by rw [X2_5 (by decide), nX_ne (by decide)]
  have q104 : stQ_ (nx_ Mq) 2 mask 6 104 = Mq 6 104 := by rw [stQ_6 (by decide), nx_6 (by decide)]
  have eW : ∀ lm j, whS (Mx 70) (Mx 73) lm (a, j) = (ES (Mx 70) 0 0 (a + 1)).bind fun a2 => (prS (Mx 70) (Mx 73) a2).bind fun a3 => (tS (Mx 70) 259 a3).bind fun a4 => PTj (Mx 70) lm 12 (a4, j) := fun lm j => by unfold whS; rw [gS_e h12, Option.bind_some]
  have xsb : XSb Mx (X2_ b (nX_ Mx) 2) := XSb_tr (XA_XSb (XF_XA nX_XF)) X2_XSb
  have qsb : QSb Mq (stQ_ (nx_ Mq) 2 mask) := QSb_tr (QA_QSb (QF_QA nx_QF)) stQ_QSb
  have bk : 0 ≤ Mq 6 62 ∧ Mq 6 62 < 1300 := by omega
  have toQ : ∀ (G : mm_ → Prop) (Qtq : qt_), (∀ V' : vv_, Cl_ wd0 (Tr_ wd0 pg0 (dq + 16)) V' (rv_ G) Qtq m_313 → Wk_ V' → Tr_ wd0 pg0 (dq + 16) 270 [.inr (.inr 6), .inl 2] (stQ_ (nx_ Mq) 2 mask) (ri_ fun v2 M2 => Tr_ wd0 pg0 (dq + 16) 227 [.inr (.inr 6)] M2 (ri_ fun v3 M3 => if v3 = 0 then (0 ≤ Mq 6 62 ∧ Mq 6 62 < 1300) ∧ V' 27 [rr 6, ii mask, ii (Mq 6 62), ii v2, none] [] (up_ M3 196 (Mq 6 62) v2) else V' 27 [rr 6, ii mask, ii (Mq 6 62), ii v2, none] [] M3) Qtq) Qtq) → qWH dq mask Mq G Qtq := fun G Qtq hq => j_228t hT hE (by decide) hk h12 (by
    rw [if_neg (by decide)]
    refine t_313 fun V' hV' hW' => b_313_0 (Tr_mono _) hV' hW' _ _ (q_307g (ER_goq hE1) (by rw [nx_6 (by decide)]; exact bk) ?_)
    rw [nx_6 (by decide)]
    exact hq V' hV' hW')
  have lk2 := LKP_X (b := b) (M1 := X2_ b (nX_ Mx) 2) (Mx := Mx) (by rw [X2_r (by decide) (by decide), nX_ne (by decide)]) (by rw [X2_r (by decide) (by decide), nX_ne (by decide)]) (x1f 18 (by decide)) (x1f 19 (by decide))
  have main : V 22 [rr 1, ii (if b = 0 then -1 else Mx 5 4), none, none, none] [] (X2_ b (nX_ Mx) 2) := by
    refine b_176_22 (Tr_mono _) hV hW _ _ ⟨by rw [x1f 2 (by decide)]; exact h.1.1.2.1.1, ?_⟩
    rw [x53]
    refine Tr_le (d := 123) (by omega) (y_174 (dq := dq + 4) S2 (fun hb => by rw [x70]; have := hS hb; rw [eW] at this; exact bind_n this) (fun Ma Na aa S3 hWR hes hq => ?_) (fun hb Mx' hx hq => ?_))
    · rw [x70] at hes
      rw [q104] at hq
      have wr := hWR
      obtain ⟨w1, w2, w3, w4, w5, w6, w7, w8, w9, w10⟩ := wr
      have S4 := SS_u (r := 196) (i := Mq 6 62) (v := Mq 6 104) (.inr (.inl rfl)) S3
      have p70 : pX_ Ma 25 70 = Mx 70 := by rw [pX_r (by decide) (by decide), XF_70 w2 (by decide) (by decide) (by decide), x70]
      have p73 : pX_ Ma 25 73 = Mx 73 := by rw [pX_r (by decide) (by decide), XF_70 w2 (by decide) (by decide) (by decide), x73]
      have xfa : XF (X2_ b (nX_ Mx) 2) (pX_ Ma 25) := XF_tr w2 pX_XF
      have eW2 : ∀ lm j, whS (Mx 70) (Mx 73) lm (a, j) = (prS (Mx 70) (Mx 73) aa).bind fun a3 => (tS (Mx 70) 259 a3).bind fun a4 => PTj (Mx 70) lm 12 (a4, j) := fun lm j => by rw [eW, hes, Option.bind_some]
      have toQ2 : ∀ (G : mm_ → Prop) (Qtq : qt_), (∀ V' : vv_, Cl_ wd0 (Tr_ wd0 pg0 (dq + 16)) V' (rv_ G) Qtq m_313 → Wk_ V' → V' 27 [rr 6, ii mask, ii (Mq 6 62), ii (Mq 6 104), none] [] (up_ Na 196 (Mq 6 62) (Mq 6 104))) → qWH dq mask Mq G Qtq := fun G Qtq hq9 => toQ G Qtq fun V' hV' hW' => hq _ _ (q_227g (ER_goq w4) (by
        rw [if_pos rfl]
        exact ⟨bk, hq9 V' hV' hW'⟩))
      have qsa : QSb Mq (up_ Na 196 (Mq 6 62) (Mq 6 104)) := QSb_tr qsb (QSb_tr (QA_QSb (QG_QA w3)) ⟨fun r hr => up_ne (fun h => hr (by rw [h]; decide)), fun j _ => by rw [up_ne (by decide)]⟩)
      have xsa : XSb Mx (pX_ Ma 25) := XSb_tr xsb (XA_XSb (XF_XA xfa))
      refine y_176p (dq := dq) (e := Mq 6 104) S4 bk (fun hb => by rw [p70, p73]; have := hS hb; rw [eW2] at this; exact bind_n this) (fun Mb Nb ab pr S5 hab xfb b5 b142 b7 hcase hpr hq5 => ?_) (fun hb Mx' hx hq5 => ?_)
      · rw [p70, p73] at hpr
        have b70 : Mb 70 = Mx 70 := by rw [XF_70 xfb (by decide) (by decide) (by decide), p70]
        have lk5 : LKP b Mx Mb ∧ lc_ b Mb = lc_ b Mx := by
          have q := LKP_F (b := b) (XF_tr xfa xfb)
          exact ⟨LKP_tr lk2.1 q.1, q.2.trans lk2.2⟩
        have b1 : ∀ i : Int, i = 29 ∨ i = 34 → Mb 1 i = Mx 1 i := fun i hi => by rw [(XF_tr xfa xfb).2.1 i (by omega) (by omega) (by omega) (by omega) (by omega), x1f i (by omega)]
        have n76 : Nb 6 76 = Mq 6 76 := by
          have z : Na 6 76 = Mq 6 76 := by rw [w3.2 76 (by decide) (by decide) (by decide) (by decide) (by decide) (by decide) (by decide) (by decide) (by decide) (by decide) (by decide), stQ_6 (by decide), nx_6 (by decide)]
          rcases hcase with ⟨_, _, q⟩ | ⟨_, q⟩
          · rw [q, up_ne (by decide)]; exact z
          · rw [q, up_ne (by decide), nx_6 (by decide), nx_6 (by decide), up_ne (by decide)]; exact z
        have qsB : QSb Mq Nb := by
          rcases hcase with ⟨_, _, q⟩ | ⟨_, q⟩
          · rw [q]; exact qsa
          · rw [q]; exact QSb_tr qsa (QSb_tr (QA_QSb (QA_tr (QF_QA nx_QF) (QF_QA nx_QF))) ⟨fun r hr => up_ne (fun h => hr (by rw [h]; decide)), fun j _ => by rw [up_ne (by decide)]⟩)
        have eW3 : ∀ lm j, whS (Mx 70) (Mx 73) lm (a, j) = (tS (Mx 70) 259 ab).bind fun a4 => PTj (Mx 70) lm 12 (a4, j) := fun lm j => by rw [eW2, hpr, Option.bind_some]
        refine y_176t (dq := dq) (e := Mq 6 104) S5 (by rw [b1 29 (.inl rfl)]; omega) (by rw [n76]; omega) (fun hb => by rw [if_neg (by omega)]; omega) bk (fun hb => by rw [b70, lk5.2, lk5.1.2.2.2 hb, ← eW3]; exact hS hb) hV hW (fun F' M' N' a' v kk S9 ha9 P Sm hv hkk E3 hsy hq9 => ?_) (fun hb Mx' hx hq9 => ?_)
        · refine hK F' _ _ a' (SS_le S9 (by omega)) (by omega) ⟨Ma, Na, Mb, Nb, aa, ab, pr, M', N', v, kk, hWR, ⟨hab, xfb, b5, b142, hcase⟩, ?_, Sm, hv, hkk, E3, rfl, rfl⟩ (fun lm hlm => ?_) (fun G Qtq hg => toQ2 G Qtq fun V' hV' hW' => hq5 V' G Qtq hV' hW' (hq9 V' G Qtq hV' hW' hg))
          · exact P
          · have lk9 := LKP_X (b := b) (M1 := Xw_ b (Xn_ M' b kk a') (if b = 0 then -1 else Mx 5 4) (Mx 5 3) pr (Mb 5 3)) (Mx := M') (by rw [Xw_r (by decide) (by decide) (by decide), Xn_r (by decide)]) (by rw [Xw_r (by decide) (by decide) (by decide), Xn_r (by decide)]) (by rw [Xw_r (by decide) (by decide) (by decide)]; exact (Xn_XF (M := M')).2.1 18 (by decide) (by decide) (by decide) (by decide) (by decide)) (by rw [Xw_r (by decide) (by decide) (by decide)]; exact (Xn_XF (M := M')).2.1 19 (by decide) (by decide) (by decide) (by decide) (by decide))
            have lkP : LKP b Mb M' := LKP_tr (LKP_F (nX_XF (M := Mb))).1 (LKP_tr (LKP_X (sX_r (by decide) (by decide) (by decide) (by decide) (by decide)) (sX_r (by decide) (by decide) (by decide) (by decide) (by decide)) (sX_1 (by decide)) (sX_1 (by decide))).1 (LKP_P P))
            have l1 := (LOK_s lk5.1 (LKP_tr lkP lk9.1) hlm).2
            have l2 := (LOK_s lkP lk9.1 l1).1
            have e := hsy lm l2
            rw [b70, lk5.2] at e
            rw [eW3, lk9.2]; exact e
        · exact hQ hb Mx' (XSb_tr xsa (XSb_tr (XA_XSb (XF_XA xfb)) hx)) (fun G Qtq hk9 => toQ2 G Qtq fun V' hV' hW' => hq5 V' G Qtq hV' hW' (hq9 V' G Qtq hV' hW' (fun M' hs => hk9 M' ⟨hs.1, hs.2.1, hs.2.2.1, hs.2.2.2.1, QSb_tr qsB hs.2.2.2.2⟩)))
      · exact hQ hb Mx' (XSb_tr xsa hx) (fun G Qtq hk9 => toQ2 G Qtq fun V' hV' hW' => hq5 V' G Qtq hV' hW' (fun M' hs => hk9 M' ⟨hs.1, hs.2.1, hs.2.2.1, hs.2.2.2.1, QSb_tr qsa hs.2.2.2.2⟩))
    · refine hQ hb Mx' (XSb_tr xsb (XA_XSb (XF_XA hx))) (fun G Qtq hk9 => toQ G Qtq fun V' hV' hW' => hq _ _ fun M' p1 p2 p3 p4 p5 => q_227s p1 ?_)
      rw [if_neg (by decide)]
      exact q_313s27 (d := dq + 13) hV' hW' p1 (hk9 _ ⟨p1, p2, p3, p4, QSb_tr qsb (QA_QSb (QF_QA p5))⟩)
  intro _
  have m8 : nX_ Mx 1 8 = b := by rw [nX_1 (by decide)]; exact hE.2.2.2.2.2.2.1
  unfold X2_ at main
  rcases h01 with hb | hb
  · rw [if_pos (by omega)]; rw [if_pos hb, if_pos hb] at main; exact main
  · rw [if_neg (by omega)]; rw [if_neg (by omega), if_neg (by omega)] at main
    refine x_171 (by rw [nX_1 (by decide)]; exact h.1.1.2.1.1) (by rw [nX_ne (by decide)]; omega) ?_
    rw [nX_ne (r := 5) (by decide)]; exact main
end WX
end T184_wn
section T185_hd
/-! states: within the line of an input or a save -/
def SL [Inhabited gh_] (b F : Int) (Mx Mq : mm_) (a mask ee w : Int) : Prop := TS b F Mx Mq a ∧ ((0 ≤ Mx 5 4 ∧ 2 * Mx 5 4 ≤ a + ee) ∧ (0 < Mq 6 62 ∧ Mq 6 62 ≤ 1000) ∧ (0 ≤ Mq 6 63 ∧ 2 * Mq 6 63 ≤ a + ee)) ∧ (0 ≤ mask ∧ mask < 4096)
  ∧ (b = 1 → (∃ xs, SRW Mx Mq xs) ∧ MB (Mx 123 (Mx 1 18)) (Mx 1 34) mask ∧ Mq 193 (Mq 6 62 - 1) = w ∧ Mq 192 (Mq 6 62 - 1) = Mx 1 18 ∧ Mq 194 (Mq 6 62 - 1) = mask)
section HD
variable {d dq : Nat} {b F F' : Int} {Mx Mq M1 N1 : mm_} {a a' mask ee ee' w s who : Int}
theorem SL_st [Inhabited gh_] (h : SS b F Mx Mq a mask ee) (he : ee ≤ 10) (hw : w = 0 ∨ w = 1) : SL b F Mx (stQ_ Mq w mask) a mask ee w := by
  have ha := ER_a (TS_E h.1)
  obtain ⟨h1, ⟨s1, s2, s3⟩, hm, h4⟩ := h
  have hV := h1.1.2.1
  have k := stQ_k (N := Mq) (w := w) (mk := mask)
  have e1 : Mq 6 62 + 1 - 1 = Mq 6 62 := by omega
  refine ⟨TS_sq h1, ⟨by omega, by rw [stQ_62]; omega, by rw [stQ_6 (by decide)]; omega⟩, hm, fun hb => ?_⟩
  obtain ⟨⟨xs, hs⟩, hl, hmb⟩ := h4 hb
  refine ⟨SRW_st0 hs hl s3.1 hw (by rw [hV.2.1]; exact ⟨hV.2.2.1, hV.2.2.2.1⟩), hmb, ?_, ?_, ?_⟩
  · rw [stQ_62, e1]; exact k.2.1
  · rw [stQ_62, e1, k.1]; exact hV.2.1
  · rw [stQ_62, e1]; exact k.2.2.1
/-- SL does not see what acts change -/
theorem SL_a [Inhabited gh_] (h : SL b F Mx Mq a mask ee w) (hT : TS b F' M1 N1 a') (hx : XA Mx M1) (hq : QA Mq N1) (he : a + ee ≤ a' + ee') : SL b F' M1 N1 a' mask ee' w := by
  obtain ⟨h1, ⟨s1, s2, s3⟩, hm, h4⟩ := h
  have f54 : M1 5 4 = Mx 5 4 := hx.2.2 4 (by decide)
  have f62 : N1 6 62 = Mq 6 62 := hq.2 62 (by decide)
  have f63 : N1 6 63 = Mq 6 63 := hq.2 63 (by decide)
  refine ⟨hT, ⟨by omega, by omega, by omega⟩, hm, fun hb => ?_⟩
  obtain ⟨⟨xs, hs⟩, hmb, r3, r2, r4⟩ := h4 hb
  refine ⟨⟨xs, SRW_a hs hx hq⟩, ?_, ?_, ?_, ?_⟩
  · rw [hx.2.1 34 (by decide), hx.2.1 18 (by decide), XA_r hx (r := 123) (by decide)]; exact hmb
  · rw [f62, QA_r hq (r := 193) (by decide)]; exact r3
  · rw [f62, QA_r hq (r := 192) (by decide), hx.2.1 18 (by decide)]; exact r2
  · rw [f62, QA_r hq (r := 194) (by decide)]; exact r4
theorem SL_go [Inhabited gh_] (h : SL b F Mx Mq a mask ee w) (hE : ER b F (nX_ Mx) (nx_ Mq) (a + 1) 0) : SL b F (nX_ Mx) (nx_ Mq) (a + 1) mask (ee - 1) w := SL_a h (TS_go h.1 hE) (XF_XA nX_XF) (QF_QA nx_QF) (by omega)
/-- X's stim for an in -/
def Xh_ (b : Int) (M : mm_) (w s : Int) : mm_ := if b = 0 then M else stX_ M w s
theorem SL_in [Inhabited gh_] (h : SL b F Mx Mq a mask ee w) (hw : w = 0 ∨ w = 1) (hs : b = 1 → who = s) : SL b F (Xh_ b Mx w s) (inM_ Mq who) a mask (ee + 2) w := by
  obtain ⟨h1, ⟨s1, s2, s3⟩, hm, h4⟩ := h
  have t1 : TS b F (Xh_ b Mx w s) (inM_ Mq who) a := by
    unfold Xh_; split
    · exact TS_in h1
    · exact TS_in (TS_st h1)
  have e62 : inM_ Mq who 6 62 = Mq 6 62 := inM_6 (by decide)
  refine ⟨t1, ⟨?_, by rw [e62]; omega, by rw [inM_63]; omega⟩, hm, fun hb => ?_⟩
  · unfold Xh_; split
    · omega
    · rw [stX_54]; omega
  · obtain ⟨⟨xs, hsr⟩, hmb, r3, r2, r4⟩ := h4 hb
    have e : Xh_ b Mx w s = stX_ Mx w s := by unfold Xh_; rw [if_neg (by omega)]
    rw [e, hs hb]
    have q := SRW_in (s := s) hsr s2.1 hw r3 r2 (by rw [r4]; exact hmb)
    rw [hs hb] at e62
    refine ⟨q, ?_, ?_, ?_, ?_⟩
    · rw [stX_r (r := 123) (by decide) (by decide), stX_r (r := 1) (by decide) (by decide)]; exact hmb
    · rw [e62, inM_r (r := 193) (by decide) (by decide) (by decide)]; exact r3
    · rw [e62, inM_r (r := 192) (by decide) (by decide) (by decide), stX_r (r := 1) (by decide) (by decide)]; exact r2
    · rw [e62, inM_r (r := 194) (by decide) (by decide) (by decide)]; exact r4
/-- the line's end: stTo is set -/
theorem SL_end [Inhabited gh_] (h : SL b F Mx Mq a mask ee w) (h62 : 2 * Mq 6 62 ≤ a + ee) : SS b F Mx (up_ Mq 199 (Mq 6 62 - 1) (Mq 6 63)) a mask ee := by
  obtain ⟨h1, ⟨s1, s2, s3⟩, hm, h4⟩ := h
  have e6 : up_ Mq 199 (Mq 6 62 - 1) (Mq 6 63) 6 = Mq 6 := up_ne (by decide)
  have e : ∀ r : Nat, r ≠ 199 → up_ Mq 199 (Mq 6 62 - 1) (Mq 6 63) r = Mq r := fun r h => up_ne h
  have qb : QSb Mq (up_ Mq 199 (Mq 6 62 - 1) (Mq 6 63)) := ⟨fun r hr => e r (fun h => hr (by rw [h]; decide)), fun j _ => by rw [e6]⟩
  refine ⟨TS_c h1 XSb_rf qb (fun _ _ _ => rfl) rfl rfl rfl rfl rfl (fun j _ _ => by rw [e6]) (e _ (by decide)) (e _ (by decide)) (e _ (by decide)) (e _ (by decide)) (e _ (by decide)), ⟨s1, by rw [e6]; omega, by rw [e6]; exact s3⟩, hm, fun hb => ?_⟩
  obtain ⟨⟨xs, hs⟩, hmb, r3, r2, r4⟩ := h4 hb
  have aT : agT (up_ Mq 199 (Mq 6 62 - 1) (Mq 6 63)) = agT Mq := funext fun k => by
    unfold agT
    rw [e6]
    by_cases c : k = Mq 6 62 - 1
    · rw [if_pos c, if_pos c]
    · rw [if_neg c, if_neg c, up_of2 c]
  refine ⟨⟨xs, ?_⟩, fun _ => by rw [e6, up_at], hmb⟩
  unfold SRW SRK nSt at *
  rw [e6, aT, e 192 (by decide), e 193 (by decide), e 194 (by decide), e 198 (by decide), e 200 (by decide)]
  exact hs
end HD
end T185_hd
section T186_hn
/-! states: a name heard -/
def HK (M : mm_) (s kk : Int) : Prop := (s = -1 ∧ kk = 4) ∨ (s ≠ -1 ∧ ((uo_ M s ∧ kk = 6) ∨ (¬ uo_ M s ∧ kk = 0)))
section HN
variable {d dq : Nat} {b F F' : Int} {Mx Mq M1 N1 : mm_} {a a' mask ee ee' w s who kk tk k x3 : Int} {A : Int → mm_ → Prop} {Kv : mm_ → Prop} {Qt : qt_}
theorem HK_k [Inhabited gh_] (h : HK M1 s kk) : kk = 0 ∨ (3 ≤ kk ∧ kk ≤ 6) := by
  rcases h with h | ⟨_, h | h⟩ <;> omega
theorem sot_r [Inhabited gh_] (hV : VT Mx Mq) (h9 : sgl9 Mx Mq) {v : Int} : sot Mq v = -1 ∨ (0 ≤ sot Mq v ∧ sot Mq v < 20 ∧ sot Mq v = sgl Mq v) ∨ (100 ≤ sot Mq v ∧ sot Mq v < 103) := by
  have t := tmr_r hV (v := v)
  have u := sgl_r hV h9 (v := v)
  have e := hV.2.2.2.2.2
  have e1 := hV.2.1
  have e9 := h9.1
  rw [e1] at t
  unfold sot
  split
  · rcases u with u | u
    · exact .inl u
    · exact .inr (.inl ⟨u.1, by omega, rfl⟩)
  · exact .inr (.inr (by omega))
/-- a note more -/
theorem SL_n [Inhabited gh_] (h : SL b F Mx Mq a mask ee w) (hk : kk = 0 ∨ (3 ≤ kk ∧ kk ≤ 6)) (ht : gd_ Mx tk) (hf : Mx 1 7 + 1 + 8 * (1201 - a) ≤ 1000000000 - (gg_ : Int)) : SL b F (Xn_ Mx b kk tk) (Qn_ Mq b kk (Mx 71 tk)) a mask ee w ∧ (Mx 1 7 ≤ Xn_ Mx b kk tk 1 7 ∧ Xn_ Mx b kk tk 1 7 ≤ Mx 1 7 + 1) ∧ (b = 1 → Qn_ Mq b kk (Mx 71 tk) 6 13 = 0 → kk = 0 ∧ Mq 6 13 = 0) := by
  have hp := (h.1.1.1 tk ht).2.2.2.1
  have m := ER_m (TS_E h.1) hk (tk := tk) (by omega) (by omega)
  have t5 := h.1.1.2.2.2.2.1
  have n2 := h.1.2.2.2.2.2.2.2.2.2
  have e104 : Qn_ Mq b kk (Mx 71 tk) 6 104 = Mq 6 104 := Qn_6 (by decide) (by decide)
  have e5 : Xn_ Mx b kk tk 5 = Mx 5 := Xn_r (by decide)
  refine ⟨SL_a h (TS_w h.1 Xn_XF (QG_QF (QN_QF QN_Qn)) m.1 (Int.le_refl _) (by rw [e104]; exact t5) (by rw [e5]; exact n2) (by omega)) (XF_XA Xn_XF) (QF_QA (QN_QF QN_Qn)) (Int.le_refl _), m.2⟩
/-- X, pass 2: the signal or timer that a name is, with its note -/
theorem x_hn [Inhabited gh_] (h : SL b F Mx Mq a mask ee w) (ht : nm9_ Mx tk) (h54 : Mx 5 4 ≤ 600) (hA : ∀ kk, HK Mx (sot Mq (Mq 151 tk)) kk → A (sot Mq (Mq 151 tk)) (Xn_ Mx 1 kk tk)) :
    Tr_ wd0 pg0 (d + 5) 172 [.inr (.inr 1), .inl tk] Mx (ri_ fun v M5 => if v = -1 then Tr_ wd0 pg0 (d + 5) 116 [.inr (.inr 1), .inl 4, .inl tk] M5 (rv_ (A v)) Qt else Tr_ wd0 pg0 (d + 5) 170 [.inr (.inr 1), .inl v, .inl tk] M5 (rv_ (A v)) Qt) Qt := by
  have hV := h.1.1.2.1
  have f := ER_fl (TS_E h.1)
  have t0 := ht.1.1
  have t1 := ht.1.2.1
  refine x_172 (d := d + 1) h.1.1.1 hV h.1.2.1.1.1 ht ?_
  by_cases c : sot Mq (Mq 151 tk) = -1
  · rw [if_pos c]
    have := hA 4 (.inl ⟨c, rfl⟩)
    unfold Xn_ at this
    rw [if_neg (by omega)] at this
    exact x_116 t0 (by omega) f.1 f.2 this
  · rw [if_neg c]
    refine x_170 hV.1 ⟨h.2.1.1.1, h54⟩ ⟨t0, by omega⟩ f (fun u => ?_) (fun u => ?_)
    · have := hA 6 (.inr ⟨c, .inl ⟨u, rfl⟩⟩)
      unfold Xn_ at this
      rw [if_neg (by omega)] at this
      exact this
    · have := hA 0 (.inr ⟨c, .inr ⟨u, rfl⟩⟩)
      unfold Xn_ at this
      rw [if_pos (.inr rfl)] at this
      exact this
theorem Qn_nt [Inhabited gh_] (h16 : Mq 6 16 = b) (h01 : b = 0 ∨ b = 1) (hk : kk ≠ 0) {p : Int} : Qn_ Mq b kk p = nt_ Mq kk p := by
  unfold Qn_
  rcases h01 with hb | hb
  · rw [if_pos (.inl hb)]; unfold nt_; rw [if_pos (by omega)]
  · rw [if_neg (by omega)]
/-- Q's again, both passes -/
theorem q_ag [Inhabited gh_] (h : SL b F Mx Mq a mask ee w) (hH : b = 1 → HK Mx s kk) (hs : s ≠ -1) {p : Int} (h62 : Mq 6 62 ≤ 1300) (h63 : Mq 6 63 ≤ 1300) (hK : Kv (Qn_ Mq b kk p)) : Tr_ wd0 pg0 (d + 2) 309 [.inr (.inr 6), .inl mask, .inl s, .inl p] Mq (rv_ Kv) Qt := by
  have hE := TS_E h.1
  have h01 := bl01 hE
  have h16 : Mq 6 16 = b := hE.2.2.2.2.2.2.2.1
  have hV := h.1.1.2.1
  rcases h01 with hb | hb
  · refine q_309z (by omega) ?_
    unfold Qn_ at hK
    rw [if_pos (.inl hb)] at hK
    exact hK
  · obtain ⟨⟨xs, hs'⟩, hmb, _⟩ := h.2.2.2 hb
    have st9 := h.1.2.2.2.1
    have ua := uo_ag (s := s) hs' hV.2.1 ⟨st9.1.1, st9.1.2.1⟩ st9.1.2.2 hmb
    rcases hH hb with c | ⟨_, ⟨u, e⟩ | ⟨u, e⟩⟩
    · exact absurd c.1 hs
    · refine q_309 (by omega) h62 (by rw [hV.2.1]; exact ⟨hV.2.2.1, hV.2.2.2.1⟩) (fun j j0 j1 => ?_) (fun _ => ?_) (fun g => absurd (ua.1 u) g)
      · have := (hs'.2 j j0 j1).2.2.2.1; exact ⟨this.1, by omega⟩
      · rw [← e, ← Qn_nt h16 (.inr hb) (by omega)]; exact hK
    · refine q_309 (by omega) h62 (by rw [hV.2.1]; exact ⟨hV.2.2.1, hV.2.2.2.1⟩) (fun j j0 j1 => ?_) (fun g => absurd (ua.2 g) u) (fun _ => ?_)
      · have := (hs'.2 j j0 j1).2.2.2.1; exact ⟨this.1, by omega⟩
      · rw [e] at hK; unfold Qn_ at hK; rw [if_pos (.inr rfl)] at hK; exact hK
end HN
end T186_hn
section T187_hn
/-! states: a name heard, Q's side -/
section HM
variable {d dq : Nat} {b F F' : Int} {Mx Mq M1 N1 : mm_} {a a' mask ee ee' w s who kk tk k x3 : Int} {A : Int → mm_ → Prop} {Kv : mm_ → Prop} {Qt : qt_}
/-- Q stopped at a name heard -/
theorem q_308s [Inhabited gh_] (hE : ER b F Mx Mq a 0) (hT : Tks Mx Mq) (hb : b = 0) (hk : Mx 70 a ≠ 100 ∨ a = 1200) (hn : Mx 70 a ≠ 242)
    (h : Kv (bf_ Mq (if Mx 70 a = 100 then 2 else 1) (Mx 71 a))) : Tr_ wd0 pg0 (d + 4) 308 [.inr (.inr 6), .inl k, .inl mask, .inl x3] Mq (rv_ Kv) Qt := by
  have kq := ER_k hT hE
  have hi := kq.2.2.1
  refine t_308 fun V hV hW => b_308_0 (Tr_mono _) hV hW _ _ _ _ ⟨hi, ?_⟩
  refine j_242f hT hE (by decide) hn ?_
  rw [if_pos rfl]
  by_cases c : Mx 70 a = 100
  · rw [if_pos c] at h
    have h12 : a = 1200 := by rcases hk with h | h; exact absurd c h; exact h
    have hsp := SQ_bf hE hb (k := 2) (by decide) QA_rf
    exact j_233r hT hE hb c h12 (q_227s hsp.1 (by rw [if_neg (by decide)]; exact rv_i h))
  · rw [if_neg c] at h
    have hsp := SQ_bf hE hb (k := 1) (by decide) QA_rf
    exact j_233w hT hE hb c (q_227s hsp.1 (by rw [if_neg (by decide)]; exact rv_i h))
/-- Q stopped ahead of a name heard -/
theorem q_308z [Inhabited gh_] (hs : sp_ Mq) (hi : in9_ Mq) (h : Kv Mq) : Tr_ wd0 pg0 (d + 4) 308 [.inr (.inr 6), .inl k, .inl mask, .inl x3] Mq (rv_ Kv) Qt := by
  refine t_308 fun V hV hW => b_308_0 (Tr_mono _) hV hW _ _ _ _ ⟨hi, ?_⟩
  exact q_242s hs (by rw [if_pos rfl]; exact q_233s hs (q_227s hs (by rw [if_neg (by decide)]; exact rv_i h)))
/-- Q: a name heard up to its in -/
theorem q_308h [Inhabited gh_] (h : SL b F Mx Mq a mask ee w) (hk : Mx 70 a = 100) (h12 : a < 1200) (hE1 : ER b F (nX_ Mx) (nx_ Mq) (a + 1) 0) (hs : s = sot Mq (Mq 151 a)) (hH : b = 1 → HK (nX_ Mx) s kk) (hee : ee ≤ 1000)
    (hK : ∀ V : vv_, Cl_ wd0 (Tr_ wd0 pg0 (d + 3)) V (rv_ Kv) Qt m_308 → Wk_ V → V 132 [rr 6, ii k, ii mask, ii x3, ii (Mx 71 a), ii s, ii a, none, none] [] (Qn_ (nx_ Mq) b kk (Mx 71 a))) : Tr_ wd0 pg0 (d + 4) 308 [.inr (.inr 6), .inl k, .inl mask, .inl x3] Mq (rv_ Kv) Qt := by
  have hE := TS_E h.1
  have hT := h.1.1.1
  have kq := ER_k hT hE
  have hi := kq.2.2.1
  have e12 : Mq 6 12 = a := hE.2.2.1
  have ha := ER_a hE
  have S1 := SL_go h hE1
  have hT1 := S1.1.1.1
  have hV1 := S1.1.1.2.1
  have h91 := S1.1.2.1.1.1
  have h16 : nx_ Mq 6 16 = b := hE1.2.2.2.2.2.2.2.1
  have x151 : nx_ Mq 151 = Mq 151 := nx_ne (by decide)
  have esg : sgl (nx_ Mq) (nx_ Mq 151 a) = sgl Mq (Mq 151 a) := by rw [x151]; exact sgl_a (QF_QA nx_QF)
  have etm : tmr (nx_ Mq) (nx_ Mq 151 a) = tmr Mq (Mq 151 a) := by rw [x151]; exact tmr_c nx_QF
  have t := tmr_r hV1 (v := nx_ Mq 151 a)
  have sr := sot_r h.1.1.2.1 h.1.2.1.1.1 (v := Mq 151 a)
  rw [← hs] at sr
  have bq := h.2.1
  have g1 := ER_goq hE1
  refine t_308 fun V hV hW => b_308_0 (Tr_mono _) hV hW _ _ _ _ ⟨hi, ?_⟩
  have hK' := hK V hV hW
  refine j_242f hT hE (by decide) (by rw [hk]; decide) ?_
  rw [if_pos rfl]
  refine j_233t hT hE hk h12 (q_227g g1 ?_)
  rw [if_pos rfl]
  refine ⟨⟨ha.1, by omega⟩, q_251R hV1 h91 ⟨⟨ha.1, by omega⟩, q_283R hV1 ?_⟩⟩
  have p150 : Mq 150 (Mq 6 12) = Mx 71 a := kq.2.1
  have main : ∀ v4 v5 : Int, V 98 [rr 6, ii k, ii mask, ii x3, ii (Mx 71 a), ii s, ii a, ii v4, ii v5] [] (nx_ Mq) := fun v4 v5 => by
    refine b_308_98 (Tr_mono _) hV hW _ _ _ _ _ _ _ _ _ ?_
    by_cases c : s = -1
    · rw [if_pos (show s < 0 by omega)]
      refine q_236 ?_
      have e4 : b = 1 → kk = 4 := fun hb => by rcases hH hb with c' | c'; exact c'.2; exact absurd c c'.1
      have eq : nt_ (nx_ Mq) 4 (Mx 71 a) = Qn_ (nx_ Mq) b kk (Mx 71 a) := by
        rcases bl01 hE with hb | hb
        · unfold Qn_; rw [if_pos (.inl hb)]; unfold nt_; rw [if_pos (by omega)]
        · rw [e4 hb, Qn_nt h16 (.inr hb) (by decide)]
      rw [eq]
      have S2 := SL_n (kk := kk) S1 (tk := a)
      refine q_227g ?_ (by rw [if_pos rfl, if_pos (show s < 0 by omega)]; exact hK')
      rcases bl01 hE with hb | hb
      · unfold Qn_; rw [if_pos (.inl hb)]; exact g1
      · right; rw [Qn_6 (by decide) (by decide), h16]; omega
    · rw [if_neg (show ¬ s < 0 by omega)]
      refine q_227g g1 ?_
      rw [if_pos rfl, if_neg (show ¬ s < 0 by omega)]
      exact q_ag S1 hH c (by rw [nx_6 (by decide)]; omega) (by rw [nx_6 (by decide)]; omega) hK'
  have e61 : 0 ≤ nx_ Mq 173 (nx_ Mq 6 61) ∧ nx_ Mq 173 (nx_ Mq 6 61) ≤ 3 := by have := hV1.2.2.2.2.2; rw [hV1.2.1]; omega
  rw [etm] at t
  unfold sot at hs
  rw [esg, etm, p150]
  by_cases c : tmr Mq (Mq 151 a) = -1
  · rw [if_pos c] at hs
    rw [if_pos (by omega), ← hs]
    exact main _ _
  · rw [if_neg c] at hs
    rw [if_neg (by omega), w32_id (by omega) (by omega), ← hs]
    exact main _ _
end HM
end T187_hn
section T188_sg
/-! states: what the ins of a line add -/
def xiL : List Nat := [1, 5, 133, 134, 135, 136, 137, 138, 139, 140]
def xiI : List Int := [3, 4, 5, 6, 7, 22]
def qiL : List Nat := [6, 200, 201, 202]
def qiI : List Int := [12, 13, 14, 15, 63]
def SXI (M M' : mm_) : Prop := Fr_ xiL M M' ∧ (∀ i : Int, i ∉ xiI → M' 1 i = M 1 i) ∧ (∀ i : Int, i ≠ 4 → M' 5 i = M 5 i) ∧ M 5 4 ≤ M' 5 4 ∧ (∀ r i, r ∈ stxL → i < M 5 4 → M' r i = M r i) ∧ (∀ i, i < 3 * M 5 4 → M' 137 i = M 137 i)
def SQI (N N' : mm_) : Prop := Fr_ qiL N N' ∧ (∀ i : Int, i ∉ qiI → N' 6 i = N 6 i) ∧ N 6 63 ≤ N' 6 63 ∧ (∀ i, i < N 6 63 → N' 200 i = N 200 i ∧ N' 201 i = N 201 i) ∧ (∀ i, i < 3 * N 6 63 → N' 202 i = N 202 i)
/-- no other stim ahead of c tells the same signal in a state of its own -/
def UQI (M : mm_) (c : Int) : Prop := ∀ y, 0 ≤ y → y < c → ¬ (M 134 y = M 134 c ∧ M 133 y < 2 ∧ M 136 y = M 136 c ∧ an_ (M 135 y) (M 135 c) ≠ 0)
/-- X's stim c and Q's in i: how many values, into which cells -/
def RWI (M N : mm_) (T c i : Int) : Prop := UQI M c ∧ (N 200 i = 200 ∨ (0 ≤ N 200 i ∧ N 200 i < 20) ∨ (100 ≤ N 200 i ∧ N 200 i < 103)) ∧ (0 ≤ N 201 i ∧ N 201 i ≤ 3) ∧ M 138 c = N 201 i ∧ ∀ v, 0 ≤ v → v < N 201 i → M 137 (3 * c + v) = N 202 (3 * i + v) ∧ ∃ u, (0 ≤ u ∧ u < N 171 T) ∧ N 202 (3 * i + v) = N 184 (8 * T + u) ∧ N 183 (8 * T + u) = 0 ∧ N 200 i < 20 ∧ v < N 156 (N 200 i) ∧ N 157 (3 * N 200 i + v) = N 182 (8 * T + u)
/-- the signals that are got -/
def SGB (M M' N N' : mm_) (w : Int) : Prop := (0 ≤ M 1 22 ∧ M 1 22 < 1048576) → (0 ≤ M' 1 22 ∧ M' 1 22 < 1048576) ∧ ∀ s, 0 ≤ s → s < 20 → (bt_ (M' 1 22) s ↔ bt_ (M 1 22) s ∨ (w = 0 ∧ ∃ i, (N 6 63 ≤ i ∧ i < N' 6 63) ∧ N' 200 i = s))
def SLG (b w : Int) (M N M' N' : mm_) : Prop := SXI M M' ∧ SQI N N' ∧ (b = 0 → M' 5 4 = M 5 4 ∧ M' 1 22 = M 1 22) ∧ (b = 1 → M' 5 4 - M 5 4 = N' 6 63 - N 6 63 ∧ SGB M M' N N' w ∧ (N' 6 13 = 0 → N 6 13 = 0 ∧ ∀ j, 0 ≤ j → j < N' 6 63 - N 6 63 → RWI M' N' (N 6 61) (M 5 4 + j) (N 6 63 + j)))
section SG
variable {b w : Int} {M M1 M2 N N1 N2 : mm_}
theorem SXI_rf [Inhabited gh_] : SXI M M := ⟨Fr_rf, fun _ _ => rfl, fun _ _ => rfl, Int.le_refl _, fun _ _ _ _ => rfl, fun _ _ => rfl⟩
theorem SQI_rf [Inhabited gh_] : SQI N N := ⟨Fr_rf, fun _ _ => rfl, Int.le_refl _, fun _ _ => ⟨rfl, rfl⟩, fun _ _ => rfl⟩
theorem SXI_tr [Inhabited gh_] (h1 : SXI M M1) (h2 : SXI M1 M2) : SXI M M2 := by
  obtain ⟨a1, a2, a3, a4, a5, a6⟩ := h1
  obtain ⟨b1, b2, b3, b4, b5, b6⟩ := h2
  exact ⟨Fr_tr a1 b1, fun i h => (b2 i h).trans (a2 i h), fun i h => (b3 i h).trans (a3 i h), by omega, fun r i hr h => (b5 r i hr (by omega)).trans (a5 r i hr h), fun i h => (b6 i (by omega)).trans (a6 i h)⟩
theorem SQI_tr [Inhabited gh_] (h1 : SQI N N1) (h2 : SQI N1 N2) : SQI N N2 := by
  obtain ⟨a1, a2, a4, a5, a6⟩ := h1
  obtain ⟨b1, b2, b4, b5, b6⟩ := h2
  exact ⟨Fr_tr a1 b1, fun i h => (b2 i h).trans (a2 i h), by omega, fun i h => ⟨(b5 i (by omega)).1.trans (a5 i h).1, (b5 i (by omega)).2.trans (a5 i h).2⟩, fun i h => (b6 i (by omega)).trans (a6 i h)⟩
theorem SLG_rf [Inhabited gh_] : SLG b w M N M N := ⟨SXI_rf, SQI_rf, fun _ => ⟨rfl, rfl⟩, fun _ => ⟨by omega, fun h => ⟨h, fun s _ _ => ⟨fun h => .inl h, fun h => by
  rcases h with h | ⟨_, i, h, _⟩
  · exact h
  · omega⟩⟩, fun h => ⟨h, fun j a b => by omega⟩⟩⟩
theorem RWI_c [Inhabited gh_] {T c i : Int} (h : RWI M N T c i) (hx : SXI M M1) (hq : SQI N N1) (hc : c < M 5 4) (hi : i < N 6 63) : RWI M1 N1 T c i := by
  obtain ⟨a1, a2, a3, a4, a5, a6⟩ := hx
  obtain ⟨b1, b2, b4, b5, b6⟩ := hq
  obtain ⟨h0, h1, h2, h3, h4⟩ := h
  have u : UQI M1 c := fun y y0 y1 => by
    rw [a5 134 y (by decide) (by omega), a5 133 y (by decide) (by omega), a5 136 y (by decide) (by omega), a5 135 y (by decide) (by omega), a5 134 c (by decide) hc, a5 136 c (by decide) hc, a5 135 c (by decide) hc]
    exact h0 y y0 y1
  unfold RWI
  rw [(b5 i hi).1, (b5 i hi).2, a5 138 c (by decide) hc, b1 171 (by decide), b1 184 (by decide), b1 183 (by decide), b1 156 (by decide), b1 157 (by decide), b1 182 (by decide)]
  exact ⟨u, h1, h2, h3, fun v x y => by rw [a6 _ (by omega), b6 _ (by omega)]; exact h4 v x y⟩
theorem SLG_tr [Inhabited gh_] (h1 : SLG b w M N M1 N1) (h2 : SLG b w M1 N1 M2 N2) : SLG b w M N M2 N2 := by
  obtain ⟨a1, a2, a3, a4⟩ := h1
  obtain ⟨b1, b2, b3, b4⟩ := h2
  refine ⟨SXI_tr a1 b1, SQI_tr a2 b2, fun hb => ⟨(b3 hb).1.trans (a3 hb).1, (b3 hb).2.trans (a3 hb).2⟩, fun hb => ?_⟩
  obtain ⟨c1, c2, c3⟩ := a4 hb
  obtain ⟨d1, d2, d3⟩ := b4 hb
  have q1 := a2.2.2.1
  have q2 := b2.2.2.1
  refine ⟨by omega, fun h => ?_, fun h => ?_⟩
  · obtain ⟨e1, e2⟩ := c2 h
    obtain ⟨f1, f2⟩ := d2 e1
    refine ⟨f1, fun s s0 s1 => ?_⟩
    rw [f2 s s0 s1, e2 s s0 s1]
    constructor
    · rintro ((h | ⟨hw, i, hi, hs⟩) | ⟨hw, i, hi, hs⟩)
      · exact .inl h
      · exact .inr ⟨hw, i, ⟨by omega, by omega⟩, by rw [(b2.2.2.2.1 i (by omega)).1]; exact hs⟩
      · exact .inr ⟨hw, i, ⟨by omega, by omega⟩, hs⟩
    · rintro (h | ⟨hw, i, hi, hs⟩)
      · exact .inl (.inl h)
      · by_cases c : i < N1 6 63
        · exact .inl (.inr ⟨hw, i, ⟨by omega, c⟩, by rw [← (b2.2.2.2.1 i c).1]; exact hs⟩)
        · exact .inr ⟨hw, i, ⟨by omega, by omega⟩, hs⟩
  · obtain ⟨e1, e2⟩ := d3 h
    obtain ⟨f1, f2⟩ := c3 e1
    refine ⟨f1, fun j j0 j1 => ?_⟩
    by_cases c : j < N1 6 63 - N 6 63
    · exact RWI_c (f2 j j0 c) b1 b2 (by omega) (by omega)
    · have := e2 (j - (N1 6 63 - N 6 63)) (by omega) (by omega)
      rw [a2.2.1 61 (by decide), show M1 5 4 + (j - (N1 6 63 - N 6 63)) = M 5 4 + j by omega, show N1 6 63 + (j - (N1 6 63 - N 6 63)) = N 6 63 + j by omega] at this
      exact this
/-- steps that touch no stim -/
theorem SLG_0 [Inhabited gh_] (hx : SXI M M1) (hq : SQI N N1) (h54 : M1 5 4 = M 5 4) (h22 : M1 1 22 = M 1 22) (h63 : N1 6 63 = N 6 63) (h13 : b = 1 → N1 6 13 = 0 → N 6 13 = 0) : SLG b w M N M1 N1 := by
  refine ⟨hx, hq, fun _ => ⟨h54, h22⟩, fun hb => ⟨by omega, fun h => ?_, fun h => ⟨h13 hb h, fun j a b => by omega⟩⟩⟩
  rw [h22]
  refine ⟨h, fun s _ _ => ⟨fun h => .inl h, fun h => ?_⟩⟩
  rcases h with h | ⟨_, i, h, _⟩
  · exact h
  · omega
theorem XF_SXI [Inhabited gh_] (h : XF M M1) (h142 : M1 142 = M 142) (h53 : M1 5 3 = M 5 3) : SXI M M1 := by
  have e : ∀ r : Nat, r ≠ 1 → r ≠ 5 → M1 r = M r := fun r h1 h5 => by
    by_cases c : r = 142
    · rw [c]; exact h142
    · exact h.1 r (by simp only [List.mem_cons, List.not_mem_nil, or_false, not_or]; exact ⟨h1, h5, c⟩)
  have e5 : ∀ i : Int, M1 5 i = M 5 i := fun i => by
    by_cases c : i = 3
    · rw [c]; exact h53
    · exact h.2.2 i c
  refine ⟨fun r hr => e r (fun c => hr (by rw [c]; decide)) (fun c => hr (by rw [c]; decide)), fun i hi => h.2.1 i (nm_i hi (by decide)) (nm_i hi (by decide)) (nm_i hi (by decide)) (nm_i hi (by decide)) (nm_i hi (by decide)), fun i _ => e5 i, by rw [e5 4]; exact Int.le_refl _, fun r i hr _ => ?_, fun i _ => ?_⟩
  · have : M1 r = M r := e r (fun c => by rw [c] at hr; revert hr; decide) (fun c => by rw [c] at hr; revert hr; decide)
    rw [this]
  · rw [e 137 (by decide) (by decide)]
theorem SXI_nX [Inhabited gh_] : SXI M (nX_ M) := XF_SXI nX_XF (nX_ne (by decide)) (by rw [nX_ne (by decide)])
theorem SXI_Xn [Inhabited gh_] {k a : Int} : SXI M (Xn_ M b k a) := XF_SXI Xn_XF (Xn_r (by decide)) (by rw [Xn_r (by decide)])
theorem SQI_6 [Inhabited gh_] (h : ∀ r : Nat, r ≠ 6 → N1 r = N r) (hi : ∀ i : Int, i ≠ 12 → i ≠ 13 → i ≠ 14 → i ≠ 15 → N1 6 i = N 6 i) : SQI N N1 := ⟨fun r hr => h r (fun c => hr (by rw [c]; decide)), fun i hi' => hi i (nm_i hi' (by decide)) (nm_i hi' (by decide)) (nm_i hi' (by decide)) (nm_i hi' (by decide)), by rw [hi 63 (by decide) (by decide) (by decide) (by decide)]; exact Int.le_refl _, fun i _ => by rw [h 200 (by decide), h 201 (by decide)]; exact ⟨rfl, rfl⟩, fun i _ => by rw [h 202 (by decide)]⟩
theorem SQI_nx [Inhabited gh_] : SQI N (nx_ N) := SQI_6 (fun r h => nx_ne h) (fun i h _ _ _ => nx_6 h)
theorem SQI_Qn [Inhabited gh_] {k p : Int} : SQI N (Qn_ N b k p) := SQI_6 (fun r h => Qn_r h) (fun i _ h1 h2 _ => Qn_6 h1 h2)
theorem SLG_go [Inhabited gh_] : SLG b w M N (nX_ M) (nx_ N) := SLG_0 SXI_nX SQI_nx (by rw [nX_ne (by decide)]) (nX_1 (by decide)) (nx_6 (by decide)) (fun _ h => by rw [nx_6 (by decide)] at h; exact h)
theorem SLG_n [Inhabited gh_] {k a p : Int} (h13 : b = 1 → Qn_ N b k p 6 13 = 0 → k = 0 ∧ N 6 13 = 0) : SLG b w M N (Xn_ M b k a) (Qn_ N b k p) := SLG_0 SXI_Xn SQI_Qn (by rw [Xn_r (by decide)]) (Xn_1 (by decide) (by decide) (by decide)) (Qn_6 (by decide) (by decide)) (fun hb h => (h13 hb h).2)
end SG
end T188_sg
section T189_sg
/-! states: an in more -/
/-- X's mask of signals got -/
def Xg_ (b w s : Int) (M : mm_) : mm_ := if b = 1 ∧ w = 0 ∧ 0 ≤ s ∧ s < 100 then up_ M 1 22 (or_ (M 1 22) (sl_ 1 s)) else M
section SH
variable {b w s F a mask ee : Int} {M M1 M2 N N1 N2 Mx Mq : mm_}
theorem Xg_r [Inhabited gh_] {r : Nat} (h : r ≠ 1) : Xg_ b w s M r = M r := by
  unfold Xg_; split
  · exact up_ne h
  · rfl
theorem Xg_1 [Inhabited gh_] {i : Int} (h : i ≠ 22) : Xg_ b w s M 1 i = M 1 i := by
  unfold Xg_; split
  · exact up_off h
  · rfl
theorem SL_g [Inhabited gh_] (h : SL b F Mx Mq a mask ee w) {w' : Int} : SL b F (Xg_ b w' s Mx) Mq a mask ee w := by
  obtain ⟨h1, ⟨s1, s2, s3⟩, hm, h4⟩ := h
  have e : ∀ r : Nat, r ≠ 1 → Xg_ b w' s Mx r = Mx r := fun r h => Xg_r h
  have xb : XSb Mx (Xg_ b w' s Mx) := ⟨fun r hr => e r (fun h => hr (by rw [h]; decide)), fun i hi => Xg_1 (nm_i hi (by decide)), fun i _ _ => by rw [e 5 (by decide)]⟩
  refine ⟨TS_c h1 xb QSb_rf (fun i h _ => Xg_1 h) (by rw [e 5 (by decide)]) (e _ (by decide)) (e _ (by decide)) (e _ (by decide)) (e _ (by decide)) (fun _ _ _ => rfl) rfl rfl rfl rfl rfl, ⟨by rw [e 5 (by decide)]; exact s1, s2, s3⟩, hm, fun hb => ?_⟩
  obtain ⟨⟨xs, hs⟩, hmb, r⟩ := h4 hb
  refine ⟨⟨xs, SRW_c hs (by rw [e 5 (by decide)]) (e _ (by decide)) (e _ (by decide)) (e _ (by decide)) (e _ (by decide)) (e _ (by decide)) rfl rfl rfl rfl rfl rfl rfl rfl⟩, ?_, ?_⟩
  · rw [Xg_1 (by decide), Xg_1 (by decide), e 123 (by decide)]; exact hmb
  · rw [Xg_1 (by decide)]; exact r
theorem Xh_r [Inhabited gh_] {r : Nat} (h5 : r ≠ 5) (h : r ∉ stxL) : Xh_ b M w s r = M r := by
  unfold Xh_; split
  · rfl
  · exact stX_r h5 h
theorem Xh_5 [Inhabited gh_] {i : Int} (h : i ≠ 4) : Xh_ b M w s 5 i = M 5 i := by
  unfold Xh_; split
  · rfl
  · exact stX_5 h
theorem Xh_54 [Inhabited gh_] : Xh_ b M w s 5 4 = if b = 0 then M 5 4 else M 5 4 + 1 := by
  unfold Xh_; split
  · rfl
  · exact stX_54
theorem Xh_o [Inhabited gh_] {r : Nat} {i : Int} (hr : r ∈ stxL) (h : i ≠ M 5 4) : Xh_ b M w s r i = M r i := by
  unfold Xh_; split
  · rfl
  · exact stX_o hr h
theorem inM_201 [Inhabited gh_] {i : Int} : inM_ N s 201 i = if i = N 6 63 then 0 else N 201 i := by
  unfold inM_
  rw [up_ne (by decide)]
  by_cases c : i = N 6 63
  · rw [if_pos c, c, up_at]
  · rw [if_neg c, up_of2 c, up_ne (by decide)]
theorem SXI_in [Inhabited gh_] {w' : Int} (h01 : b = 0 ∨ b = 1) : SXI M (Xg_ b w' s (Xh_ b M w s)) := by
  refine ⟨fun r hr => ?_, fun i hi => ?_, fun i hi => ?_, ?_, fun r i hr h => ?_, fun i _ => ?_⟩
  · rw [Xg_r (fun c => hr (by rw [c]; decide)), Xh_r (fun c => hr (by rw [c]; decide)) (fun c => hr (by revert c; unfold stxL xiL; simp only [List.mem_cons, List.not_mem_nil, or_false]; omega))]
  · rw [Xg_1 (nm_i hi (by decide)), Xh_r (by decide) (by decide)]
  · rw [Xg_r (by decide), Xh_5 hi]
  · rw [Xg_r (by decide), Xh_54]; split <;> omega
  · rw [Xg_r (fun c => by rw [c] at hr; revert hr; decide), Xh_o hr (by omega)]
  · rw [Xg_r (by decide), Xh_r (by decide) (by decide)]
theorem SQI_in [Inhabited gh_] : SQI N (inM_ N s) := by
  refine ⟨fun r hr => inM_r (fun c => hr (by rw [c]; decide)) (fun c => hr (by rw [c]; decide)) (fun c => hr (by rw [c]; decide)), fun i hi => inM_6 (nm_i hi (by decide)), by rw [inM_63]; omega, fun i h => ⟨by rw [inM_200, if_neg (by omega)], by rw [inM_201, if_neg (by omega)]⟩, fun i _ => by rw [inM_r (by decide) (by decide) (by decide)]⟩
/-- the growth of one in -/
theorem SLG_in [Inhabited gh_] (h01 : b = 0 ∨ b = 1) (hs : s = -1 ∨ (s = 200 ∨ (0 ≤ s ∧ s < 20) ∨ (100 ≤ s ∧ s < 103))) (hn : b = 1 → N 6 13 = 0 → s ≠ -1 ∧ ¬ uo_ M s) : SLG b w M N (Xg_ b w s (Xh_ b M w s)) (inM_ N s) := by
  refine ⟨SXI_in h01, SQI_in, fun hb => ⟨?_, ?_⟩, fun hb => ⟨?_, fun hg => ?_, fun h => ?_⟩⟩
  · rw [Xg_r (by decide), Xh_54, if_pos hb]
  · unfold Xg_; rw [if_neg (by omega), Xh_r (by decide) (by decide)]
  · rw [Xg_r (by decide), Xh_54, if_neg (by omega), inM_63]; omega
  · have e22 : Xh_ b M w s 1 22 = M 1 22 := by rw [Xh_r (by decide) (by decide)]
    have ex : ∀ t, (∃ i, (N 6 63 ≤ i ∧ i < inM_ N s 6 63) ∧ inM_ N s 200 i = t) ↔ s = t := fun t => by
      constructor
      · rintro ⟨i, hi, e⟩
        rw [inM_63] at hi
        rw [inM_200, if_pos (by omega)] at e; exact e
      · intro e
        exact ⟨N 6 63, by rw [inM_63]; omega, by rw [inM_200, if_pos rfl]; exact e⟩
    by_cases c : b = 1 ∧ w = 0 ∧ 0 ≤ s ∧ s < 100
    · have o := or_bt (x := M 1 22) (k := s) (m := 20) (by decide) hg.1 (by have := hg.2; omega) c.2.2.1 (by omega)
      have e : Xg_ b w s (Xh_ b M w s) 1 22 = or_ (M 1 22) (sl_ 1 s) := by unfold Xg_; rw [if_pos c, up_at, e22]
      rw [e]
      refine ⟨⟨o.1.1, by have := o.1.2; omega⟩, fun t t0 t1 => ?_⟩
      rw [o.2 t t0, ex t]
      constructor
      · rintro (h | h)
        · exact .inl h
        · exact .inr ⟨c.2.1, h.symm⟩
      · rintro (h | ⟨_, h⟩)
        · exact .inl h
        · exact .inr h.symm
    · have e : Xg_ b w s (Xh_ b M w s) 1 22 = M 1 22 := by unfold Xg_; rw [if_neg c, e22]
      rw [e]
      refine ⟨hg, fun t t0 t1 => ?_⟩
      rw [ex t]
      constructor
      · exact fun h => .inl h
      · rintro (h | ⟨hw, h⟩)
        · exact h
        · exact absurd ⟨hb, hw, by omega, by omega⟩ c
  · rw [inM_6 (by decide)] at h
    refine ⟨h, fun j j0 j1 => ?_⟩
    rw [inM_63] at j1
    rw [show j = 0 by omega, show M 5 4 + 0 = M 5 4 by omega, show N 6 63 + 0 = N 6 63 by omega]
    have k := stX_k (M := M) (w := w) (s := s)
    have e138 : Xg_ b w s (Xh_ b M w s) 138 (M 5 4) = 0 := by
      rw [Xg_r (by decide)]; unfold Xh_; rw [if_neg (by omega)]; exact k.2.2.2.2.1
    have u : UQI (Xg_ b w s (Xh_ b M w s)) (M 5 4) := fun y y0 y1 => by
      have eh : Xh_ b M w s = stX_ M w s := by unfold Xh_; rw [if_neg (by omega)]
      rw [Xg_r (r := 134) (by decide), Xg_r (r := 133) (by decide), Xg_r (r := 136) (by decide), Xg_r (r := 135) (by decide), eh, k.2.1, k.2.2.1, k.2.2.2.1, stX_o (by decide) (by omega), stX_o (by decide) (by omega), stX_o (by decide) (by omega), stX_o (by decide) (by omega)]
      exact fun e => (hn hb h).2 ⟨y, ⟨y0, y1⟩, e⟩
    unfold RWI
    rw [inM_200, if_pos rfl, inM_201, if_pos rfl, e138]
    exact ⟨u, by have := (hn hb h).1; omega, by omega, rfl, fun v a b => by omega⟩
end SH
end T189_sg
section T190_sv
/-! lists of names in the text; SAVE -/
def nlT (κ : Int → Int) (a : Int) : Option (Int ⊕ Int) := (tS κ 100 a).bind fun a1 => if κ a1 = 244 then (gS a1).bind fun a2 => some (.inl a2) else some (.inr a1)
def NL (κ : Int → Int) (a : Int) : Option Int := LPz (nlT κ) a
section NLs
variable {κ : Int → Int} {a : Int}
theorem nlT_y [Inhabited gh_] {L : Int → Option Int} {X : Option Int} (hX : tS κ 100 a = X) : (nlT κ a).bind (lk8_ L) = X.bind fun a1 => if κ a1 = 244 then (gS a1).bind L else some a1 := by
  unfold nlT
  rw [hX]
  cases X with
  | none => rfl
  | some a1 =>
    rw [Option.bind_some, Option.bind_some]
    by_cases c : κ a1 = 244
    · rw [if_pos c, if_pos c]
      cases gS a1 with
      | none => rfl
      | some a2 => rfl
    · rw [if_neg c, if_neg c]; rfl
theorem nlT_l [Inhabited gh_] (s s' : Int) (h0 : 0 ≤ s) (h1 : s ≤ 1200) (h : nlT κ s = some (.inl s')) : s + 1 ≤ s' ∧ s' ≤ 1200 := by
  unfold nlT at h
  cases e : tS κ 100 s with
  | none => rw [e] at h; exact absurd h (by simp only [Option.bind_none]; intro x; cases x)
  | some a1 =>
    rw [e, Option.bind_some] at h
    have t := tS_s e
    by_cases c : κ a1 = 244
    · rw [if_pos c] at h
      cases e2 : gS a1 with
      | none => rw [e2] at h; exact absurd h (by simp only [Option.bind_none]; intro x; cases x)
      | some a2 =>
        rw [e2, Option.bind_some] at h
        have g := gS_s e2
        injection h with h; injection h with h
        omega
    · rw [if_neg c] at h
      injection h with h; cases h
theorem NL_e [Inhabited gh_] (h0 : 0 ≤ a) (h1 : a ≤ 1200) : NL κ a = (tS κ 100 a).bind fun a1 => if κ a1 = 244 then (gS a1).bind (NL κ) else some a1 := (LP_u (step := nlT κ) (fun s => s) (fun s s' => nlT_l s s') (s := a) h0 h1).trans (nlT_y rfl)
end NLs
/-- a save in the text -/
def svS (κ : Int → Int) (a : Int) : Option Int := (gS a).bind fun a1 => (if κ a1 = 242 then gS a1 else NL κ a1).bind (tS κ 259)
/-- Q within the names of a save -/
def q12 (dq : Nat) (mask k : Int) (N : mm_) (G : mm_ → Prop) (Qt : qt_) : Prop := ∀ V : vv_, Cl_ wd0 (Tr_ wd0 pg0 (dq + 16)) V (rv_ G) Qt m_312 → Wk_ V → V 17 [rr 6, ii mask, ii k, ii 1, ii 0] [] N
/-- Q's end of a line's ins -/
def nE_ (N : mm_) : mm_ := up_ N 199 (N 6 62 - 1) (N 6 63)
section SV
variable {d dq : Nat} {b F : Int} {Mx Mq M1 N1 : mm_} {a mask ee w s kk k : Int} {Kv G : mm_ → Prop} {Qt : qt_} {V : vv_}
theorem nE_r [Inhabited gh_] {N : mm_} {r : Nat} (h : r ≠ 199) : nE_ N r = N r := up_ne h
theorem nE_QSb [Inhabited gh_] {N : mm_} : QSb N (nE_ N) := ⟨fun r hr => nE_r (fun h => hr (by rw [h]; decide)), fun j _ => by rw [nE_r (by decide)]⟩
theorem q_237s [Inhabited gh_] {K : Int → mm_ → Prop} {x : Int} {M : mm_} (hs : sp_ M) (hi : in9_ M) (h : ∀ v, K v M) : Tr_ wd0 pg0 (d + 1) 237 [.inr (.inr 6), .inl x] M (ri_ K) Qt := by
  by_cases c : M 149 (M 6 12) = 3 ∧ M 151 (M 6 12) = x
  · exact q_237t hi c.1 c.2 (h 1)
  · exact q_237f hi c (h 0)
theorem q_234s [Inhabited gh_] {M : mm_} (hs : sp_ M) (hi : in9_ M) (h : Kv M) : Tr_ wd0 pg0 (d + 2) 234 [.inr (.inr 6)] M (rv_ Kv) Qt := q_234n hi (by have := hs.1; omega) h
theorem j_234 [Inhabited gh_] {a o : Int} (hT : Tks Mx Mq) (hE : ER b F Mx Mq a o) (hb : b = 0) (h : Kv (bf_ Mq 1 (Mx 71 a))) : Tr_ wd0 pg0 (d + 2) 234 [.inr (.inr 6)] Mq (rv_ Kv) Qt := by
  have kq := ER_k hT hE
  exact q_234o kq.2.2.1 (hE.2.2.2.2.2.2.2.2.2.1 hb) (by rw [kq.2.1]; exact h)
theorem Xg_w [Inhabited gh_] {M : mm_} : Xg_ b 1 s M = M := by unfold Xg_; rw [if_neg (by omega)]
/-- Q stopped behind a name of a save -/
theorem q12_s [Inhabited gh_] {V' : vv_} {Qtq : qt_} (hV : Cl_ wd0 (Tr_ wd0 pg0 (dq + 16)) V' (rv_ G) Qtq m_312) (hW : Wk_ V') {N : mm_} {x3 x4 : Int} (hs : sp_ N) (h : G N) : V' 17 [rr 6, ii mask, ii k, ii x3, ii x4] [] N := by
  refine b_312_17 (Tr_mono _) hV hW _ _ _ _ _ ?_
  by_cases c : x3 = 0
  · rw [if_pos c]
    exact q_227s hs (by rw [if_neg (by decide)]; exact q_244s hs (rv_i h))
  · rw [if_neg c]
    exact q_227s hs (by rw [if_neg (by decide)]; exact q_227s hs (by rw [if_neg (by decide)]; exact q_244s hs (rv_i h)))
theorem sot_q [Inhabited gh_] (hV : VT Mx Mq) (h9 : sgl9 Mx Mq) {v : Int} (hs : s = sot Mq v) : s = -1 ∨ (s = 200 ∨ (0 ≤ s ∧ s < 20) ∨ (100 ≤ s ∧ s < 103)) := by
  have := sot_r hV h9 (v := v); omega
/-- one name of a save: X up to what comes behind it, Q's 308 -/
theorem y_hn [Inhabited gh_] (h : SL b F Mx Mq a mask ee w) (hE1 : ER b F (nX_ Mx) (nx_ Mq) (a + 1) 0) (hw : w = 0 ∨ w = 1) (sr : s = -1 ∨ (s = 200 ∨ (0 ≤ s ∧ s < 20) ∨ (100 ≤ s ∧ s < 103))) (hH : b = 1 → HK (nX_ Mx) s kk) (h0 : b = 0 → kk = 0) :
    SL b F (Xg_ b w s (Xh_ b (Xn_ (nX_ Mx) b kk a) w s)) (inM_ (Qn_ (nx_ Mq) b kk (Mx 71 a)) s) (a + 1) mask (ee + 1) w ∧ SLG b w Mx Mq (Xg_ b w s (Xh_ b (Xn_ (nX_ Mx) b kk a) w s)) (inM_ (Qn_ (nx_ Mq) b kk (Mx 71 a)) s) ∧ (Mx 1 7 ≤ Xg_ b w s (Xh_ b (Xn_ (nX_ Mx) b kk a) w s) 1 7 ∧ Xg_ b w s (Xh_ b (Xn_ (nX_ Mx) b kk a) w s) 1 7 ≤ Mx 1 7 + 1) := by
  have S1 := SL_go h hE1
  have hE := TS_E h.1
  have h01 := bl01 hE
  have fl := h.1.2.2.2.2.2.1
  have x71 : nX_ Mx 71 = Mx 71 := nX_ne (by decide)
  have hkk : kk = 0 ∨ (3 ≤ kk ∧ kk ≤ 6) := by
    rcases h01 with hb | hb
    · exact .inl (h0 hb)
    · exact HK_k (hH hb)
  have x17 : nX_ Mx 1 7 = Mx 1 7 := nX_1 (by decide)
  have S2 := SL_n S1 hkk (tk := a) (gd_c (nX_ne (by decide)) hE.1) (by rw [x17]; omega)
  rw [x71] at S2
  obtain ⟨S2, f2, n2⟩ := S2
  have S3 := SL_in (who := s) (s := s) S2 hw (fun _ => rfl)
  rw [show ee - 1 + 2 = ee + 1 by omega] at S3
  have S4 := SL_g (w' := w) (s := s) S3
  refine ⟨S4, SLG_tr SLG_go (SLG_tr (SLG_n n2) (SLG_in h01 sr (fun hb e => ?_))), ?_⟩
  · have := n2 hb e
    rcases hH hb with c | ⟨c, ⟨_, c2⟩ | ⟨c2, _⟩⟩
    · omega
    · omega
    · refine ⟨c, fun u => c2 ?_⟩
      unfold uo_ uoR at *
      rw [Xn_r (r := 5) (by decide), Xn_r (r := 134) (by decide), Xn_r (r := 133) (by decide), Xn_r (r := 136) (by decide), Xn_r (r := 135) (by decide), Xn_1 (i := 18) (by decide) (by decide) (by decide), Xn_1 (i := 34) (by decide) (by decide) (by decide)] at u
      exact u
  · rw [Xg_1 (by decide), Xh_r (by decide) (by decide)]; omega
end SV
end T190_sv
section T191_sv
/-! SAVE: its loop -/
/-- Q behind a name of a save -/
def c12 (dq : Nat) (mask k : Int) (V : vv_) (Qt : qt_) (M8 : mm_) : Prop := Tr_ wd0 pg0 (dq + 16) 242 [.inr (.inr 6), .inl 44] M8 (ri_ fun v5 M11 =>
       (if v5 = 0 then
        (if (0 : Int) = 0 then
         V 17 [rr 6, ii mask, ii k, ii 0, ii 0] [] M11
        else
         Tr_ wd0 pg0 (dq + 16) 237 [.inr (.inr 6), .inl 42] M11 (ri_ fun v6 M12 =>
          (if v6 = 0 then
           V 17 [rr 6, ii mask, ii k, ii 0, ii 0] [] M12
          else
           Tr_ wd0 pg0 (dq + 16) 234 [.inr (.inr 6)] M12 (rv_ fun M13 =>
            V 17 [rr 6, ii mask, ii k, ii 0, ii 0] [] M13) Qt)) Qt)
       else
        (if (1 : Int) = 0 then
         V 17 [rr 6, ii mask, ii k, ii 1, ii 0] [] M11
        else
         Tr_ wd0 pg0 (dq + 16) 237 [.inr (.inr 6), .inl 42] M11 (ri_ fun v7 M14 =>
          (if v7 = 0 then
           V 17 [rr 6, ii mask, ii k, ii 1, ii 0] [] M14
          else
           Tr_ wd0 pg0 (dq + 16) 234 [.inr (.inr 6)] M14 (rv_ fun M15 =>
            V 17 [rr 6, ii mask, ii k, ii 1, ii 0] [] M15) Qt)) Qt))) Qt
section SW
variable {d dq : Nat} {b F : Int} {M N M0 N0 : mm_} {a mask k ee s kk w : Int} {Kv G : mm_ → Prop} {Qt Qtq : qt_} {V : vv_}
theorem c12_q [Inhabited gh_] (hE : ER b F M N a 0) (hq : ∀ V' : vv_, Cl_ wd0 (Tr_ wd0 pg0 (dq + 16)) V' (rv_ G) Qtq m_312 → Wk_ V' → Tr_ wd0 pg0 (dq + 16) 308 [.inr (.inr 6), .inl k, .inl mask, .inl 0] N (rv_ (c12 dq mask k V' Qtq)) Qtq) : q12 dq mask k N G Qtq := fun V' hV' hW' => by
  refine b_312_17 (Tr_mono _) hV' hW' _ _ _ _ _ ?_
  rw [if_neg (by decide)]
  refine q_227g (ER_goq hE) ?_
  rw [if_pos rfl]
  exact hq V' hV' hW'
/-- Q: stopped behind a name -/
theorem c12_s [Inhabited gh_] (hV : Cl_ wd0 (Tr_ wd0 pg0 (dq + 16)) V (rv_ G) Qtq m_312) (hW : Wk_ V) (hs : sp_ N) (h : G N) : c12 dq mask k V Qtq N := q_242s hs (by
  rw [if_pos rfl, if_pos rfl]; exact q12_s hV hW hs h)
/-- Q: a name without values -/
theorem q_308n [Inhabited gh_] (h : SL b F M N a mask ee w) (hk : M 70 a = 100) (h12 : a < 1200) (hE1 : ER b F (nX_ M) (nx_ N) (a + 1) 0) (hs : s = sot N (N 151 a)) (hH : b = 1 → HK (nX_ M) s kk) (hee : ee ≤ 20)
    (hK : Kv (inM_ (Qn_ (nx_ N) b kk (M 71 a)) s)) : Tr_ wd0 pg0 (d + 4) 308 [.inr (.inr 6), .inl k, .inl mask, .inl 0] N (rv_ Kv) Qt := by
  have bnd := h.2.1
  have ha := ER_a (TS_E h.1)
  have e63 : Qn_ (nx_ N) b kk (M 71 a) 6 63 = N 6 63 := by rw [Qn_6 (by decide) (by decide), nx_6 (by decide)]
  refine q_308h h hk h12 hE1 hs hH (by omega) (fun V' hV' hW' => ?_)
  refine b_308_132 (Tr_mono _) hV' hW' _ _ _ _ _ _ _ ⟨by omega, by omega, ?_⟩
  rw [if_pos rfl, w32_id (by omega) (by omega)]
  exact rv_i hK
theorem l_175 [Inhabited gh_] (hV : Cl_ wd0 (Tr_ wd0 pg0 (d + 6)) V (rv_ Kv) Qt m_175) (hW : Wk_ V) (he : ee ≤ 0) :
    ∀ (n : Nat) (a : Int) (M N : mm_), 1201 - a ≤ (n : Int) → SL b F M N a mask ee 1 → k = N 6 62 - 1 → 2 * N 6 62 ≤ a + 2 + ee → M 70 a ≠ 242 → (b = 1 → ((NL (M 70) a).bind (tS (M 70) 259)) ≠ none) →
    (∀ M' N' a', SS b F (nX_ M') (nx_ (nE_ N')) (a' + 1) mask ee → a + 1 ≤ a' → SLG b 1 M N M' N' → ((NL (M 70) a).bind (tS (M 70) 259) = some (a' + 1)) → (∀ (G : mm_ → Prop) (Qtq : qt_), G (nx_ (nE_ N')) → q12 dq mask k N G Qtq) → Kv (nX_ M')) →
    (b = 0 → ∀ Mx', XSb M Mx' → (∀ (G : mm_ → Prop) (Qtq : qt_), (∀ M', SQb Mx' N M' → G M') → q12 dq mask k N G Qtq) → Qt 8 Mx') →
    V 49 [rr 1, ii 1, none, none, none] [] M
  | 0, a, M, N, hn, h, _, _, _, _, _, _ => by have := ER_a (TS_E h.1); omega
  | n + 1, a, M, N, hn, h, hk, h62, h42, hS, hK, hQ => by
    have hE := TS_E h.1
    have hT := h.1.1.1
    have ha := ER_a hE
    have h01 := bl01 hE
    have bnd := h.2.1
    have fl := h.1.2.2.2.2.2.1
    have hV2 := h.1.1.2.1.1
    have stopped : ∀ {Mx' M2 : mm_}, SQ Mx' N M2 → SQb Mx' N M2 := fun hs => ⟨hs.1, hs.2.1, hs.2.2.1, hs.2.2.2.1, QA_QSb hs.2.2.2.2⟩
    have eNL : NL (M 70) a = (tS (M 70) 100 a).bind fun a1 => if M 70 a1 = 244 then (gS a1).bind (NL (M 70)) else some a1 := NL_e ha.1 ha.2
    rw [eNL] at hS hK
    refine b_175_49 (Tr_mono _) hV hW _ _ ?_
    rw [if_neg (by decide)]
    refine y_107 (d := d + 2) hE (fun hb => by have := hS hb; exact bind_n (bind_n this)) (fun hk1 h12 hE1 => ?_) (fun hb hk1 h12 => ?_) (fun hb hk1 => ?_)
    rotate_left
    · have hsp := SQ_bf hE hb (k := 2) (by decide) QA_rf
      refine hQ hb _ (XA_XSb (XF_XA fl_XF)) (fun G Qtq hg => c12_q hE fun V' hV' hW' => ?_)
      refine q_308s (d := dq + 12) hE hT hb (.inr h12) (by rw [hk1]; decide) ?_
      rw [if_pos hk1]
      exact c12_s hV' hW' hsp.1 (hg _ (stopped hsp))
    · have hsp := SQ_bf hE hb (k := 1) (by decide) QA_rf
      refine hQ hb _ (XA_XSb (XF_XA fl_XF)) (fun G Qtq hg => c12_q hE fun V' hV' hW' => ?_)
      refine q_308s (d := dq + 12) hE hT hb (.inl hk1) h42 ?_
      rw [if_neg hk1]
      exact c12_s hV' hW' hsp.1 (hg _ (stopped hsp))
    have eN2 : ((tS (M 70) 100 a).bind fun a1 => if M 70 a1 = 244 then (gS a1).bind (NL (M 70)) else some a1) = if M 70 (a + 1) = 244 then (gS (a + 1)).bind (NL (M 70)) else some (a + 1) := by rw [tS_e hk1 h12, Option.bind_some]
    rw [eN2] at hS hK
    have tail : ∀ s kk, s = sot N (N 151 a) → (b = 1 → HK (nX_ M) s kk) → (b = 0 → kk = 0) → Tr_ wd0 pg0 (d + 6) 117 [.inr (.inr 1), .inl 44] (Xh_ b (Xn_ (nX_ M) b kk a) 1 s) (ri_ fun v2 M3 => if v2 = 0 then V 49 [rr 1, ii v2, none, none, none] [] M3 else Tr_ wd0 pg0 (d + 6) 105 [.inr (.inr 1)] M3 (rv_ fun M4 => V 49 [rr 1, ii v2, none, none, none] [] M4) Qt) Qt := fun s kk hs hH h0 => by
      have P := y_hn h hE1 (.inr rfl) (sot_q h.1.1.2.1 h.1.2.1.1.1 hs) hH h0
      rw [Xg_w] at P
      have q308 : ∀ (G : mm_ → Prop) (Qtq : qt_), (∀ V' : vv_, Cl_ wd0 (Tr_ wd0 pg0 (dq + 16)) V' (rv_ G) Qtq m_312 → Wk_ V' → c12 dq mask k V' Qtq (inM_ (Qn_ (nx_ N) b kk (M 71 a)) s)) → q12 dq mask k N G Qtq := fun G Qtq hq => c12_q hE fun V' hV' hW' => q_308n (d := dq + 12) h hk1 h12 hE1 hs hH (by omega) (hq V' hV' hW')
      generalize eM1 : Xh_ b (Xn_ (nX_ M) b kk a) 1 s = M1 at P ⊢
      generalize eN1 : inM_ (Qn_ (nx_ N) b kk (M 71 a)) s = N1 at P q308
      clear eM1 eN1
      obtain ⟨S1, G1, f1⟩ := P
      have x70 : M1 70 = M 70 := G1.1.1 70 (by decide)
      have q62 : N1 6 62 = N 6 62 := G1.2.1.2.1 62 (by decide)
      have hE' := TS_E S1.1
      have hT' := S1.1.1.1
      have xs1 : XSb M M1 := ⟨Fr_sub G1.1.1 (by decide), fun i hi => G1.1.2.1 i (fun e => hi (by revert e; unfold xiI xbI; simp only [List.mem_cons, List.not_mem_nil, or_false]; omega)), fun i _ h4 => G1.1.2.2.1 i h4⟩
      have qs1 : QSb N N1 := ⟨Fr_sub G1.2.1.1 (by decide), fun i hi => G1.2.1.2.1 i (fun e => hi (by revert e; unfold qiI qbI; simp only [List.mem_cons, List.not_mem_nil, or_false]; omega))⟩
      have stop1 : ∀ {Mx' M2 : mm_}, SQ Mx' N1 M2 → SQb Mx' N M2 := fun hs => ⟨hs.1, hs.2.1, hs.2.2.1, hs.2.2.2.1, QSb_tr qs1 (QA_QSb hs.2.2.2.2)⟩
      have b1 := S1.2.1
      refine y_117 hE' (by decide) (fun c => ?_) (fun c => ?_)
      · have c' : M 70 (a + 1) = 244 := by rw [← x70]; exact c
        rw [if_pos c'] at hS hK
        rw [if_neg (by decide)]
        refine y_105 hE' (by rw [c]; decide) (fun hb => bind_n (bind_n (hS hb))) (fun h13 hE2 => ?_) (fun hb h13 => ?_)
        · rw [gS_e h13, Option.bind_some] at hS hK
          have S2 := SL_go S1 hE2
          rw [show ee + 1 - 1 = ee by omega] at S2
          have y70 : nX_ M1 70 = M 70 := by rw [nX_ne (by decide)]; exact x70
          have G2 : SLG b 1 M N (nX_ M1) (nx_ N1) := SLG_tr G1 SLG_go
          have q2 : ∀ (G : mm_ → Prop) (Qtq : qt_), nX_ M1 70 (a + 1 + 1) ≠ 242 → q12 dq mask k (nx_ N1) G Qtq → q12 dq mask k N G Qtq := fun G Qtq c2 hq => q308 G Qtq fun V' hV' hW' => j_242t hT' hE' (by decide) c h13 (by
            rw [if_neg (by decide), if_neg (by decide)]
            exact j_237f S2.1.1.1 hE2 (by decide) c2 (by rw [if_pos rfl]; exact hq V' hV' hW'))
          have xs2 : XSb M (nX_ M1) := XSb_tr xs1 (XA_XSb (XF_XA nX_XF))
          have qs2 : QSb N (nx_ N1) := QSb_tr qs1 (QA_QSb (QF_QA nx_QF))
          have hE2' := TS_E S2.1
          by_cases c2 : nX_ M1 70 (a + 1 + 1) = 242
          · -- '*' behind a comma
            rcases h01 with hb | hb
            · refine b_175_49 (Tr_mono _) hV hW _ _ ?_
              rw [if_neg (by decide)]
              refine y_107 (d := d + 2) hE2' (fun hb1 => by omega) (fun k2 _ _ => by omega) (fun _ k2 _ => by omega) (fun hb k2 => ?_)
              have hsp := SQ_bf hE2' hb (k := 1) (by decide) QA_rf
              refine hQ hb _ (XSb_tr xs2 (XA_XSb (XF_XA fl_XF))) (fun G Qtq hg => q308 G Qtq fun V' hV' hW' => j_242t hT' hE' (by decide) c h13 ?_)
              rw [if_neg (by decide), if_neg (by decide)]
              refine j_237t S2.1.1.1 hE2 (by decide) c2 ?_
              rw [if_neg (by decide)]
              refine j_234 S2.1.1.1 hE2 hb ?_
              exact q12_s hV' hW' hsp.1 (hg _ ⟨hsp.1, hsp.2.1, hsp.2.2.1, hsp.2.2.2.1, QSb_tr qs2 (QA_QSb hsp.2.2.2.2)⟩)
            · exfalso
              have h9 := hS hb
              rw [NL_e (by omega) (by omega)] at h9
              have := (tS_n (bind_n (bind_n h9))).1
              rw [← y70, c2] at this
              exact absurd this (by decide)
          · refine l_175 hV hW he n (a + 1 + 1) (nX_ M1) (nx_ N1) (by omega) S2 (by rw [nx_6 (by decide), q62]; exact hk) (by rw [nx_6 (by decide), q62]; omega) c2 (by rw [y70]; exact hS) (fun M' N' a' SS' ha' G' hsy hq => ?_) (fun hb Mx' hx hq => ?_)
            · rw [y70] at hsy
              exact hK M' N' a' SS' (by omega) (SLG_tr G2 G') hsy (fun G Qtq hg => q2 G Qtq c2 (hq G Qtq hg))
            · exact hQ hb Mx' (XSb_tr xs2 hx) (fun G Qtq hg => q2 G Qtq c2 (hq G Qtq fun M' p => hg _ ⟨p.1, p.2.1, p.2.2.1, p.2.2.2.1, QSb_tr qs2 p.2.2.2.2⟩))
        · have hsp := SQ_bf hE' hb (k := 2) (by decide) QA_rf
          refine hQ hb _ (XSb_tr xs1 (XA_XSb (XF_XA fl_XF))) (fun G Qtq hg => q308 G Qtq fun V' hV' hW' => j_242r hT' hE' hb (by decide) c h13 ?_)
          rw [if_neg (by decide), if_neg (by decide)]
          refine q_237s hsp.1 hsp.2.1 (fun v7 => ?_)
          by_cases c7 : v7 = 0
          · rw [if_pos c7]; exact q12_s hV' hW' hsp.1 (hg _ (stop1 hsp))
          · rw [if_neg c7]; exact q_234s hsp.1 hsp.2.1 (q12_s hV' hW' hsp.1 (hg _ (stop1 hsp)))
      · have c' : M 70 (a + 1) ≠ 244 := by rw [← x70]; exact c
        rw [if_neg c', Option.bind_some] at hS hK
        rw [if_pos rfl]
        refine b_175_49 (Tr_mono _) hV hW _ _ ?_
        rw [if_pos rfl]
        have S5 := SL_end S1 (by rw [q62]; omega)
        have hE5 : ER b F M1 (nE_ N1) (a + 1) 0 := TS_E S5.1
        have hT5 : Tks M1 (nE_ N1) := S5.1.1.1
        have q5 : ∀ (G : mm_ → Prop) (Qtq : qt_), (∀ V' : vv_, Cl_ wd0 (Tr_ wd0 pg0 (dq + 16)) V' (rv_ G) Qtq m_312 → Wk_ V' → Tr_ wd0 pg0 (dq + 16) 244 [.inr (.inr 6), .inl 59] (nE_ N1) (rv_ fun M3 => rv_ G [] M3) Qtq) → q12 dq mask k N G Qtq := fun G Qtq hq => q308 G Qtq fun V' hV' hW' => j_242f hT' hE' (by decide) c (by
          rw [if_pos rfl, if_pos rfl]
          refine b_312_17 (Tr_mono _) hV' hW' _ _ _ _ _ ?_
          rw [if_pos rfl]
          refine q_227g (ER_goq hE') ?_
          rw [if_pos rfl]
          refine ⟨by omega, ?_⟩
          have := hq V' hV' hW'
          unfold nE_ at this
          rw [hk, ← q62]
          exact this)
        refine y_121 hE5 (by decide) (fun hb => by rw [x70]; exact hS hb) (fun k1 h13 hE2 => ?_) (fun hb k1 h13 => ?_) (fun hb k1 => ?_)
        · have S6 := SS_go S5 hE2
          rw [show ee + 1 - 1 = ee by omega] at S6
          exact rv_i (hK M1 N1 (a + 1) S6 (by omega) G1 (by rw [← x70]; exact tS_e k1 h13) (fun G Qtq hg => q5 G Qtq fun V' hV' hW' => j_244t hT5 hE5 (by decide) k1 h13 (rv_i hg)))
        · have hsp := SQ_bf hE5 hb (k := 2) (by decide) QA_rf
          refine hQ hb _ (XSb_tr xs1 (XA_XSb (XF_XA fl_XF))) (fun G Qtq hg => q5 G Qtq fun V' hV' hW' => j_244r hT5 hE5 hb (by decide) k1 h13 (rv_i (hg _ ?_)))
          exact ⟨hsp.1, hsp.2.1, hsp.2.2.1, hsp.2.2.2.1, QSb_tr qs1 (QSb_tr nE_QSb (QA_QSb hsp.2.2.2.2))⟩
        · have hsp := SQ_bf hE5 hb (k := 1) (by decide) QA_rf
          refine hQ hb _ (XSb_tr xs1 (XA_XSb (XF_XA fl_XF))) (fun G Qtq hg => q5 G Qtq fun V' hV' hW' => j_244w hT5 hE5 hb (by decide) k1 (rv_i (hg _ ?_)))
          exact ⟨hsp.1, hsp.2.1, hsp.2.2.1, hsp.2.2.2.1, QSb_tr qs1 (QSb_tr nE_QSb (QA_QSb hsp.2.2.2.2))⟩
    intro _
    have m8 : nX_ M 1 8 = b := by rw [nX_1 (by decide)]; exact hE.2.2.2.2.2.2.1
    rcases h01 with hb | hb
    · rw [if_pos (by omega)]
      have := tail _ 0 rfl (fun hb1 => by omega) (fun _ => rfl)
      unfold Xh_ Xn_ at this
      rw [if_pos hb, if_pos (.inl hb)] at this
      exact this
    · rw [if_neg (by omega)]
      have S1 := SL_go h hE1
      have x54 : nX_ M 5 4 = M 5 4 := by rw [nX_ne (by decide)]
      have es : sot (nx_ N) (nx_ N 151 a) = sot N (N 151 a) := by
        unfold sot
        rw [nx_ne (r := 151) (by decide), tmr_c nx_QF, sgl_a (QF_QA nx_QF)]
      refine x_hn (d := d + 1) (A := fun v M5 => Tr_ wd0 pg0 (d + 6) 171 [.inr (.inr 1), .inl 1, .inl v] M5 (ri_ fun v4 M7 => Tr_ wd0 pg0 (d + 6) 117 [.inr (.inr 1), .inl 44] M7 (ri_ fun v5 M8 => if v5 = 0 then V 49 [rr 1, ii v5, none, none, none] [] M8 else Tr_ wd0 pg0 (d + 6) 105 [.inr (.inr 1)] M8 (rv_ fun M9 => V 49 [rr 1, ii v5, none, none, none] [] M9) Qt) Qt) Qt) S1 ⟨gd_c (nX_ne (by decide)) hE.1, by rw [nX_ne (by decide)]; exact hk1⟩ (by rw [x54]; omega) (fun kk hH => ?_)
      rw [es] at hH ⊢
      have := tail _ kk rfl (fun _ => hH) (fun hb0 => by omega)
      unfold Xh_ at this
      rw [if_neg (by omega), hb] at this
      refine x_171 (by rw [Xn_1 (by decide) (by decide) (by decide), nX_1 (by decide)]; exact hV2) (by rw [Xn_r (by decide), x54]; omega) this
end SW
end T191_sv
section T192_sv
/-! SAVE and '*' -/
section CM
variable {b F : Int} {M N Mx Mq : mm_} {a k w s kk mask ee : Int}
theorem up_cc [Inhabited gh_] {r r' : Nat} {i i' v v' : Int} (h : r ≠ r' ∨ i ≠ i') : up_ (up_ M r i v) r' i' v' = up_ (up_ M r' i' v') r i v := by
  by_cases c : r = r'
  · rw [← c]; exact up_cm (by rcases h with h | h; exact absurd c h; exact h)
  · funext x
    by_cases c1 : x = r
    · rw [up_ne (r := r') (by rw [c1]; exact c), c1]
      funext j
      by_cases c2 : j = i
      · rw [c2, up_at, up_at]
      · rw [up_of2 c2, up_of2 c2, up_ne c]
    · rw [up_ne (r := r) c1]
      by_cases c3 : x = r'
      · rw [c3]; funext j
        by_cases c2 : j = i'
        · rw [c2, up_at, up_at]
        · rw [up_of2 c2, up_of2 c2, up_ne (fun e => c e.symm)]
      · rw [up_ne c3, up_ne c3, up_ne c1]
theorem nX_Xn [Inhabited gh_] : nX_ (Xn_ M b k a) = Xn_ (nX_ M) b k a := by
  unfold Xn_
  split
  · rfl
  · unfold nt1_
    rw [nX_1 (i := 4) (by decide), nX_1 (i := 5) (by decide), nX_1 (i := 7) (by decide), nX_ne (r := 71) (by decide)]
    split
    · unfold nX_
      rw [up_off (by decide), up_off (by decide), up_off (by decide), up_cc (.inr (by decide)), up_cc (r := 1) (i := 4) (.inr (by decide)), up_cc (r := 1) (i := 7) (.inr (by decide))]
    · unfold nX_
      rw [up_off (by decide), up_cc (.inr (by decide))]
theorem nX_st [Inhabited gh_] : nX_ (stX_ M w s) = stX_ (nX_ M) w s := by
  have e3 : stX_ M w s 1 3 = M 1 3 := by rw [stX_r (by decide) (by decide)]
  have e : nX_ (stX_ M w s) = up_ (stX_ M w s) 1 3 (M 1 3 + 1) := by unfold nX_; rw [e3]
  rw [e]
  unfold stX_
  rw [nX_ne (r := 5) (by decide), nX_1 (i := 18) (by decide), nX_1 (i := 34) (by decide)]
  rw [up_cc (r := 140) (.inl (by decide)), up_cc (r := 139) (.inl (by decide)), up_cc (r := 138) (.inl (by decide)), up_cc (r := 136) (.inl (by decide)), up_cc (r := 135) (.inl (by decide)), up_cc (r := 134) (.inl (by decide)), up_cc (r := 133) (.inl (by decide)), up_cc (r := 5) (.inl (by decide))]
  rfl
theorem nX_Xh [Inhabited gh_] : nX_ (Xh_ b (Xn_ M b k a) w s) = Xh_ b (Xn_ (nX_ M) b k a) w s := by
  rw [← nX_Xn]
  unfold Xh_
  split
  · rfl
  · exact nX_st
theorem uo_nX [Inhabited gh_] : uo_ (nX_ M) s ↔ uo_ M s := by
  unfold uo_ uoR
  rw [nX_ne (r := 5) (by decide), nX_ne (r := 134) (by decide), nX_ne (r := 133) (by decide), nX_ne (r := 136) (by decide), nX_ne (r := 135) (by decide), nX_1 (i := 18) (by decide), nX_1 (i := 34) (by decide)]
theorem HK_nX [Inhabited gh_] (h : HK M s kk) : HK (nX_ M) s kk := by
  unfold HK at *
  rw [uo_nX]; exact h
end CM
section ST
variable {d dq : Nat} {b F : Int} {M N Mx Mq : mm_} {a mask k ee s kk w x3 : Int} {Kv G : mm_ → Prop} {Qt Qtq : qt_} {V : vv_}
/-- Q: '*' heard -/
theorem q_308a [Inhabited gh_] (h : SL b F M N a mask ee w) (hk : M 70 a = 242) (h12 : a < 1200) (hE1 : ER b F (nX_ M) (nx_ N) (a + 1) 0) (hH : b = 1 → HK (nX_ M) 200 kk) (hee : ee ≤ 20)
    (hK : Kv (inM_ (Qn_ (nx_ N) b kk (M 71 a)) 200)) : Tr_ wd0 pg0 (d + 4) 308 [.inr (.inr 6), .inl k, .inl mask, .inl x3] N (rv_ Kv) Qt := by
  have hE := TS_E h.1
  have hT := h.1.1.1
  have kq := ER_k hT hE
  have bnd := h.2.1
  have ha := ER_a hE
  have S1 := SL_go h hE1
  have e63 : Qn_ (nx_ N) b kk (M 71 a) 6 63 = N 6 63 := by rw [Qn_6 (by decide) (by decide), nx_6 (by decide)]
  refine t_308 fun V' hV' hW' => b_308_0 (Tr_mono _) hV' hW' _ _ _ _ ⟨kq.2.2.1, ?_⟩
  refine j_242t hT hE (by decide) hk h12 ?_
  rw [if_neg (by decide)]
  refine q_227g (ER_goq hE1) ?_
  rw [if_pos rfl, if_neg (by decide), kq.2.1]
  refine q_ag S1 hH (by decide) (by rw [nx_6 (by decide)]; omega) (by rw [nx_6 (by decide)]; omega) ?_
  refine b_308_132 (Tr_mono _) hV' hW' _ _ _ _ _ _ _ ⟨by omega, by omega, ?_⟩
  rw [w32_id (by omega) (by omega)]
  by_cases c : x3 = 0
  · rw [if_pos c]; exact rv_i hK
  · rw [if_neg c, if_pos rfl]; exact rv_i hK
theorem q_308b [Inhabited gh_] (hE : ER b F M N a 0) (hT : Tks M N) (hb : b = 0) (hk : M 70 a = 242) (h12 : a = 1200) (hK : Kv (bf_ N 2 (M 71 a))) : Tr_ wd0 pg0 (d + 4) 308 [.inr (.inr 6), .inl k, .inl mask, .inl x3] N (rv_ Kv) Qt := by
  have kq := ER_k hT hE
  have hsp := SQ_bf hE hb (k := 2) (by decide) QA_rf
  refine t_308 fun V' hV' hW' => b_308_0 (Tr_mono _) hV' hW' _ _ _ _ ⟨kq.2.2.1, ?_⟩
  refine j_242r hT hE hb (by decide) hk h12 ?_
  rw [if_neg (by decide)]
  exact q_227s hsp.1 (by rw [if_neg (by decide)]; exact rv_i hK)
/-- X: '*' heard: notes and a stim, then a token on -/
theorem x_st [Inhabited gh_] (h : SL b F M N a mask ee w) (hk : M 70 a = 242) (he : ee ≤ 0) (hS : b = 1 → gS a ≠ none)
    (hK : ∀ kk, (b = 1 → HK (nX_ M) 200 kk) → (b = 0 → kk = 0) → a < 1200 → ER b F (nX_ M) (nx_ N) (a + 1) 0 → Kv (Xh_ b (Xn_ (nX_ M) b kk a) w 200)) (hQ : b = 0 → a = 1200 → Qt 8 (flX_ M 2 a)) :
    bl_ (M 1 8) → (if M 1 8 = 0 then Tr_ wd0 pg0 (d + 6) 105 [.inr (.inr 1)] M (rv_ Kv) Qt else
      Tr_ wd0 pg0 (d + 6) 170 [.inr (.inr 1), .inl 200, .inl (M 1 3)] M (rv_ fun M9 => Tr_ wd0 pg0 (d + 6) 171 [.inr (.inr 1), .inl w, .inl 200] M9 (ri_ fun v5 M10 => Tr_ wd0 pg0 (d + 6) 105 [.inr (.inr 1)] M10 (rv_ Kv) Qt) Qt) Qt) := by
  intro _
  have hE := TS_E h.1
  have ha := ER_a hE
  have h01 := bl01 hE
  have fl := h.1.2.2.2.2.2.1
  have m8 : M 1 8 = b := hE.2.2.2.2.2.2.1
  have hV := h.1.1.2.1
  have bnd := h.2.1
  have e13 : M 1 3 = a := hE.2.1
  rcases h01 with hb | hb
  · rw [if_pos (by omega)]
    refine y_105 hE (by rw [hk]; decide) hS (fun h12 hE1 => ?_) hQ
    have := hK 0 (fun hb1 => by omega) (fun _ => rfl) h12 hE1
    unfold Xh_ Xn_ at this
    rw [if_pos hb, if_pos (.inl hb)] at this
    exact this
  · rw [if_neg (by omega)]
    have h12 := gS_n (hS hb)
    have fin : ∀ kk, HK M 200 kk → Tr_ wd0 pg0 (d + 6) 171 [.inr (.inr 1), .inl w, .inl 200] (Xn_ M b kk a) (ri_ fun v5 M10 => Tr_ wd0 pg0 (d + 6) 105 [.inr (.inr 1)] M10 (rv_ Kv) Qt) Qt := fun kk hH => by
      have S2 := SL_n h (HK_k hH) (tk := a) hE.1
      refine x_171 (by rw [Xn_1 (by decide) (by decide) (by decide)]; exact hV.1) (by rw [Xn_r (by decide)]; omega) ?_
      have y : ∀ hE1 : ER b F (nX_ M) (nx_ N) (a + 1) 0, Kv (nX_ (stX_ (Xn_ M b kk a) w 200)) := fun hE1 => by
        have := hK kk (fun _ => HK_nX hH) (fun hb0 => by omega) h12 hE1
        rw [← nX_Xh] at this
        unfold Xh_ at this
        rw [if_neg (by omega)] at this
        exact this
      have i3 : stX_ (Xn_ M b kk a) w 200 1 3 = a := by rw [stX_r (by decide) (by decide), Xn_1 (by decide) (by decide) (by decide)]; exact e13
      refine x_105 (by unfold iX_; rw [i3]; omega) (fun hh => ?_) (fun hh => ?_)
      · exact y (ER_go hE h12 (by rw [hk]; decide)).1
      · rw [i3] at hh; omega
    rw [e13]
    refine x_170 hV.1 ⟨bnd.1.1, by omega⟩ ⟨ha.1, by omega⟩ (ER_fl hE) (fun u => ?_) (fun u => ?_)
    · have := fin 6 (.inr ⟨by decide, .inl ⟨u, rfl⟩⟩)
      unfold Xn_ at this
      rw [if_neg (by omega)] at this
      exact this
    · have := fin 0 (.inr ⟨by decide, .inr ⟨u, rfl⟩⟩)
      unfold Xn_ at this
      rw [if_pos (.inr rfl)] at this
      exact this
end ST
end T192_sv
section T193_sv
/-! SAVE whole -/
/-- Q: SAVE within a state's lines -/
def qSV (dq : Nat) (mask : Int) (N : mm_) (G : mm_ → Prop) (Qt : qt_) : Prop := Tr_ wd0 pg0 (dq + 17) 228 [.inr (.inr 6), .inl 8] N (ri_ fun v4 M4 => if v4 = 0 then False else Tr_ wd0 pg0 (dq + 17) 312 [.inr (.inr 6), .inl mask] M4 (rv_ G) Qt) Qt
section SY
variable {dq : Nat} {b F : Int} {Mx Mq M N : mm_} {a mask k : Int} {Kv G : mm_ → Prop} {Qt Qtq : qt_} {V : vv_}
theorem q_312z [Inhabited gh_] {d : Nat} (hs : sp_ N) (hi : in9_ N) (h : G N) : Tr_ wd0 pg0 (d + 17) 312 [.inr (.inr 6), .inl mask] N (rv_ G) Qt := t_312 fun V hV hW => b_312_0 (Tr_mono _) hV hW _ _ (q_307s hs (q_237s hs hi fun v => q12_s (dq := d) hV hW hs h))
theorem y_175 [Inhabited gh_] (h : SS b F Mx Mq a mask 0) (hk : Mx 70 a = 8) (hS : b = 1 → svS (Mx 70) a ≠ none)
    (hK : ∀ M' N' a', SS b F (nX_ M') (nx_ (nE_ N')) (a' + 1) mask 0 → a + 2 ≤ a' → SLG b 1 (nX_ Mx) (stQ_ (nx_ Mq) 1 mask) M' N' → svS (Mx 70) a = some (a' + 1) → (∀ (G : mm_ → Prop) (Qtq : qt_), G (nx_ (nE_ N')) → qSV dq mask Mq G Qtq) → Kv (nX_ M'))
    (hQ : b = 0 → ∀ Mx', XSb Mx Mx' → (∀ (G : mm_ → Prop) (Qtq : qt_), (∀ M', SQb Mx' Mq M' → G M') → qSV dq mask Mq G Qtq) → Qt 8 Mx') :
    Tr_ wd0 pg0 129 175 [.inr (.inr 1)] Mx (rv_ Kv) Qt := by
  have hE := TS_E h.1
  have hT := h.1.1.1
  have ha := ER_a hE
  have bnd := h.2.1
  have stopped : ∀ {Mx' M2 : mm_}, SQ Mx' Mq M2 → SQb Mx' Mq M2 := fun hs => ⟨hs.1, hs.2.1, hs.2.2.1, hs.2.2.2.1, QA_QSb hs.2.2.2.2⟩
  refine t_175 fun V hV hW => b_175_0 (Tr_mono _) hV hW _ ?_
  refine y_105 hE (by omega) (fun hb => by have := hS hb; unfold svS at this; exact bind_n this) (fun h12 hE1 => ?_) (fun hb h12 => ?_)
  rotate_left
  · have hsp := SQ_bf hE hb (k := 2) (by decide) QA_rf
    exact hQ hb _ (XA_XSb (XF_XA fl_XF)) (fun G Qtq hg => j_228r hT hE hb (by decide) hk h12 (by rw [if_neg (by decide)]; exact q_312z hsp.1 hsp.2.1 (hg _ (stopped hsp))))
  have eS : svS (Mx 70) a = (if Mx 70 (a + 1) = 242 then gS (a + 1) else NL (Mx 70) (a + 1)).bind (tS (Mx 70) 259) := by unfold svS; rw [gS_e h12, Option.bind_some]
  rw [eS] at hS hK
  have x70 : nX_ Mx 70 = Mx 70 := nX_ne (by decide)
  have S1 := SS_go h hE1
  rw [show (0 : Int) - 1 = -1 by decide] at S1
  have S2 := SL_st (w := 1) S1 (by decide) (.inr rfl)
  have hE2 := TS_E S2.1
  have hT2 := S2.1.1.1
  have q62 : stQ_ (nx_ Mq) 1 mask 6 62 = Mq 6 62 + 1 := by rw [stQ_62, nx_6 (by decide)]
  have toQ : ∀ (G : mm_ → Prop) (Qtq : qt_) (x4 : Int), (nX_ Mx 70 (a + 1) = 242 ∧ x4 = 1) ∨ (nX_ Mx 70 (a + 1) ≠ 242 ∧ x4 = 0) → (∀ V' : vv_, Cl_ wd0 (Tr_ wd0 pg0 (dq + 16)) V' (rv_ G) Qtq m_312 → Wk_ V' → V' 17 [rr 6, ii mask, ii (stQ_ (nx_ Mq) 1 mask 6 62 - 1), ii 1, ii x4] [] (stQ_ (nx_ Mq) 1 mask)) → qSV dq mask Mq G Qtq := fun G Qtq x4 hx hq => j_228t hT hE (by decide) hk h12 (by
    rw [if_neg (by decide)]
    refine t_312 fun V' hV' hW' => b_312_0 (Tr_mono _) hV' hW' _ _ (q_307g (ER_goq hE1) (by rw [nx_6 (by decide)]; omega) ?_)
    have e := hq V' hV' hW'
    rw [q62, show Mq 6 62 + 1 - 1 = Mq 6 62 by omega] at e
    rw [nx_6 (i := 62) (by decide)]
    rcases hx with ⟨c, e4⟩ | ⟨c, e4⟩
    · rw [e4] at e; exact j_237t hT2 hE2 (by decide) c e
    · rw [e4] at e; exact j_237f hT2 hE2 (by decide) c e)
  have xs1 : XSb Mx (nX_ Mx) := XA_XSb (XF_XA nX_XF)
  have qs1 : QSb Mq (stQ_ (nx_ Mq) 1 mask) := QSb_tr (QA_QSb (QF_QA nx_QF)) stQ_QSb
  refine y_117 hE1 (by decide) (fun c => ?_) (fun c => ?_)
  · -- '*'
    have c' : Mx 70 (a + 1) = 242 := by rw [← x70]; exact c
    rw [if_pos c'] at hS hK
    rw [if_neg (by decide)]
    have main := x_st (d := 122) (Qt := Qt) (Kv := fun M3 => Tr_ wd0 pg0 128 121 [.inr (.inr 1), .inl 59] M3 (rv_ fun M4 => rv_ Kv [] M4) Qt) S2 c (by decide) (fun hb => bind_n (hS hb)) (fun kk hH h0 h13 hE3 => ?_) (fun hb h13 => ?_)
    · exact main
    · have P := y_hn (s := 200) (kk := kk) S2 hE3 (.inr rfl) (.inr (.inl rfl)) hH h0
      rw [Xg_w] at P
      have q308 : ∀ (G : mm_ → Prop) (Qtq : qt_), Tr_ wd0 pg0 (dq + 16) 244 [.inr (.inr 6), .inl 59] (nE_ (inM_ (Qn_ (nx_ (stQ_ (nx_ Mq) 1 mask)) b kk (nX_ Mx 71 (a + 1))) 200)) (rv_ fun M3 => rv_ G [] M3) Qtq → qSV dq mask Mq G Qtq := fun G Qtq hq => toQ G Qtq 1 (.inl ⟨c, rfl⟩) fun V' hV' hW' => by
        refine b_312_17 (Tr_mono _) hV' hW' _ _ _ _ _ ?_
        rw [if_neg (by decide)]
        refine q_227g (ER_goq hE2) ?_
        rw [if_pos rfl]
        refine q_308a (d := dq + 12) S2 c h13 hE3 hH (by decide) ?_
        rw [if_neg (by decide), if_pos rfl]
        refine b_312_17 (Tr_mono _) hV' hW' _ _ _ _ _ ?_
        rw [if_pos rfl]
        refine q_227g (ER_goq (TS_E P.1.1)) ?_
        rw [if_pos rfl]
        refine ⟨by omega, ?_⟩
        have e62 : inM_ (Qn_ (nx_ (stQ_ (nx_ Mq) 1 mask)) b kk (nX_ Mx 71 (a + 1))) 200 6 62 = stQ_ (nx_ Mq) 1 mask 6 62 := P.2.1.2.1.2.1 62 (by decide)
        rw [← e62]
        exact hq
      generalize eM1 : Xh_ b (Xn_ (nX_ (nX_ Mx)) b kk (a + 1)) 1 200 = M1 at P ⊢
      generalize eN1 : inM_ (Qn_ (nx_ (stQ_ (nx_ Mq) 1 mask)) b kk (nX_ Mx 71 (a + 1))) 200 = N1 at P q308
      clear eM1 eN1
      obtain ⟨S3, G1, f1⟩ := P
      have y70 : M1 70 = Mx 70 := (G1.1.1 70 (by decide)).trans x70
      have e62 : N1 6 62 = Mq 6 62 + 1 := (G1.2.1.2.1 62 (by decide)).trans q62
      have S5 := SL_end S3 (by rw [e62]; omega)
      rw [show (-1 : Int) + 1 = 0 by decide] at S5
      have hE5 : ER b F M1 (nE_ N1) (a + 1 + 1) 0 := TS_E S5.1
      have hT5 : Tks M1 (nE_ N1) := S5.1.1.1
      have xs2 : XSb Mx M1 := XSb_tr xs1 ⟨Fr_sub G1.1.1 (by decide), fun i hi => G1.1.2.1 i (fun e => hi (by revert e; unfold xiI xbI; simp only [List.mem_cons, List.not_mem_nil, or_false]; omega)), fun i _ h4 => G1.1.2.2.1 i h4⟩
      have qs2 : QSb Mq (nE_ N1) := QSb_tr (QSb_tr qs1 ⟨Fr_sub G1.2.1.1 (by decide), fun i hi => G1.2.1.2.1 i (fun e => hi (by revert e; unfold qiI qbI; simp only [List.mem_cons, List.not_mem_nil, or_false]; omega))⟩) nE_QSb
      rw [gS_e h13, Option.bind_some] at hS hK
      refine y_121 hE5 (by decide) (fun hb => by rw [y70]; exact hS hb) (fun k1 h14 hE6 => ?_) (fun hb k1 h14 => ?_) (fun hb k1 => ?_)
      · have S6 := SS_go S5 hE6
        exact rv_i (hK M1 N1 (a + 1 + 1) (SS_le S6 (by decide)) (by omega) G1 (by rw [← y70]; exact tS_e k1 h14) (fun G Qtq hg => q308 G Qtq (j_244t hT5 hE5 (by decide) k1 h14 (rv_i hg))))
      · have hsp := SQ_bf hE5 hb (k := 2) (by decide) QA_rf
        exact hQ hb _ (XSb_tr xs2 (XA_XSb (XF_XA fl_XF))) (fun G Qtq hg => q308 G Qtq (j_244r hT5 hE5 hb (by decide) k1 h14 (rv_i (hg _ ⟨hsp.1, hsp.2.1, hsp.2.2.1, hsp.2.2.2.1, QSb_tr qs2 (QA_QSb hsp.2.2.2.2)⟩))))
      · have hsp := SQ_bf hE5 hb (k := 1) (by decide) QA_rf
        exact hQ hb _ (XSb_tr xs2 (XA_XSb (XF_XA fl_XF))) (fun G Qtq hg => q308 G Qtq (j_244w hT5 hE5 hb (by decide) k1 (rv_i (hg _ ⟨hsp.1, hsp.2.1, hsp.2.2.1, hsp.2.2.2.1, QSb_tr qs2 (QA_QSb hsp.2.2.2.2)⟩))))
    · have hsp := SQ_bf hE2 hb (k := 2) (by decide) QA_rf
      refine hQ hb _ (XSb_tr xs1 (XA_XSb (XF_XA fl_XF))) (fun G Qtq hg => toQ G Qtq 1 (.inl ⟨c, rfl⟩) fun V' hV' hW' => ?_)
      refine b_312_17 (Tr_mono _) hV' hW' _ _ _ _ _ ?_
      rw [if_neg (by decide)]
      refine q_227g (ER_goq hE2) ?_
      rw [if_pos rfl]
      refine q_308b (d := dq + 12) hE2 hT2 hb c h13 ?_
      rw [if_neg (by decide), if_pos rfl]
      exact q12_s hV' hW' hsp.1 (hg _ ⟨hsp.1, hsp.2.1, hsp.2.2.1, hsp.2.2.2.1, QSb_tr qs1 (QA_QSb hsp.2.2.2.2)⟩)
  · have c' : Mx 70 (a + 1) ≠ 242 := by rw [← x70]; exact c
    rw [if_neg c'] at hS hK
    rw [if_pos rfl]
    refine l_175 (d := 122) (dq := dq) (k := stQ_ (nx_ Mq) 1 mask 6 62 - 1) hV hW (by decide) 1201 (a + 1) (nX_ Mx) (stQ_ (nx_ Mq) 1 mask) (by omega) S2 rfl (by rw [q62]; omega) c (by rw [x70]; exact hS) (fun M' N' a' SS' ha' G' hsy hq => ?_) (fun hb Mx' hx hq => ?_)
    · rw [x70] at hsy
      exact hK M' N' a' (SS_le SS' (by decide)) (by omega) G' hsy (fun G Qtq hg => toQ G Qtq 0 (.inr ⟨c, rfl⟩) (hq G Qtq hg))
    · exact hQ hb Mx' (XSb_tr xs1 hx) (fun G Qtq hg => toQ G Qtq 0 (.inr ⟨c, rfl⟩) (hq G Qtq fun M' p => hg _ ⟨p.1, p.2.1, p.2.2.1, p.2.2.2.1, QSb_tr qs1 p.2.2.2.2⟩))
end SY
end T193_sv
section T194_tk
/-! inputs: the variables that take values (X 173 | Q 311), pass 2 -/
/-- how many of n names from q on, two apart, are v -/
def dpc (f : Int → Int) (v : Int) : Nat → Int → Nat
  | 0, _ => 0
  | n + 1, q => (if f q = v then 1 else 0) + dpc f v n (q + 2)
def itx (t : Int) : Nat → mm_ → mm_
  | 0, M => M
  | n + 1, M => itx t n (nt1_ M 3 t)
def itq (p : Int) : Nat → mm_ → mm_
  | 0, N => N
  | n + 1, N => itq p n (nt_ N 3 p)
section TK
variable {d : Nat} {b F : Int} {M N Mx Mq : mm_} {t p k s j fr x6 : Int} {Kv : mm_ → Prop} {Qt : qt_} {V : vv_}
theorem dpc_le [Inhabited gh_] {f : Int → Int} {v : Int} : ∀ (n : Nat) (q : Int), dpc f v n q ≤ n
  | 0, _ => Nat.le_refl _
  | n + 1, q => by unfold dpc; have := dpc_le (f := f) (v := v) n (q + 2); split <;> omega
theorem itx_r [Inhabited gh_] {r : Nat} (h : r ≠ 1) : ∀ (n : Nat) (M : mm_), itx t n M r = M r
  | 0, _ => rfl
  | n + 1, M => (itx_r h n (nt1_ M 3 t)).trans (nt1_r h)
theorem itx_1 [Inhabited gh_] {i : Int} (h4 : i ≠ 4) (h5 : i ≠ 5) (h7 : i ≠ 7) : ∀ (n : Nat) (M : mm_), itx t n M 1 i = M 1 i
  | 0, _ => rfl
  | n + 1, M => (itx_1 h4 h5 h7 n (nt1_ M 3 t)).trans (nt1_1 h4 h5 h7)
theorem itx_7 [Inhabited gh_] : ∀ (n : Nat) (M : mm_), itx t n M 1 7 = M 1 7 + n
  | 0, M => by show M 1 7 = _; omega
  | n + 1, M => by have := itx_7 n (nt1_ M 3 t); rw [nt1_7] at this; show itx t n (nt1_ M 3 t) 1 7 = _; omega
theorem itq_r [Inhabited gh_] {r : Nat} (h : r ≠ 6) : ∀ (n : Nat) (N : mm_), itq p n N r = N r
  | 0, _ => rfl
  | n + 1, N => (itq_r h n (nt_ N 3 p)).trans (ntQ_r h)
theorem itq_6 [Inhabited gh_] {i : Int} (h1 : i ≠ 13) (h2 : i ≠ 14) : ∀ (n : Nat) (N : mm_), itq p n N 6 i = N 6 i
  | 0, _ => rfl
  | n + 1, N => (itq_6 h1 h2 n (nt_ N 3 p)).trans (ntQ_6 h1 h2)
/-- the notes TWICE of a name: X -/
theorem l_173 [Inhabited gh_] (hV : Cl_ wd0 (Tr_ wd0 pg0 (d + 3)) V (rv_ Kv) Qt m_173) (hW : Wk_ V) (hT : Tks Mx Mq) (ht : nm9_ Mx t) : ∀ (n : Nat) (q : Int) (M : mm_), (∀ r : Nat, r ≠ 1 → M r = Mx r) → q + 2 * n = t → 0 ≤ q → (∀ l, 0 ≤ l → l < (n : Int) → nm9_ Mx (q + 2 * l)) → (0 ≤ M 1 7 ∧ M 1 7 + n < 2147483647) →
    V 6 [rr 1, ii k, ii s, ii t, ii j, ii fr, ii t, none, none] [] (itx t (dpc (Mq 151) (Mq 151 t) n q) M) → V 6 [rr 1, ii k, ii s, ii t, ii j, ii fr, ii q, none, none] [] M
  | 0, q, M, hM, hq, h0, hn, hf, h => by rw [show q = t by omega]; exact h
  | n + 1, q, M, hM, hq, h0, hn, hf, h => by
    have t1 := ht.1
    have tu : t ≤ 1200 := ht.1.2.1
    have g0 : nm9_ Mx q := by have := hn 0 (by omega) (by omega); rw [show q + 2 * 0 = q by omega] at this; exact this
    have lk := (hT q g0.1).2.2.2.2.2.2 t ht.1 g0.2 ht.2
    have tq := (hT q g0.1).2.2.2.1
    have tt := (hT t ht.1).2.2.2.1
    have e71 := hM 71 (by decide)
    have e72 := hM 72 (by decide)
    have e69 := hM 69 (by decide)
    have w : w32 (q + 2) = q + 2 := w32_id (by omega) (by omega)
    have rc1 : ∀ M1 : mm_, (∀ r : Nat, r ≠ 1 → M1 r = Mx r) → (0 ≤ M1 1 7 ∧ M1 1 7 + n < 2147483647) → V 6 [rr 1, ii k, ii s, ii t, ii j, ii fr, ii t, none, none] [] (itx t (dpc (Mq 151) (Mq 151 t) n (q + 2)) M1) → V 6 [rr 1, ii k, ii s, ii t, ii j, ii fr, ii (q + 2), none, none] [] M1 := fun M1 h1 h2 h3 => l_173 hV hW hT ht n (q + 2) M1 h1 (by omega) (by omega) (fun l a b => by have := hn (l + 1) (by omega) (by omega); rw [show q + 2 * (l + 1) = q + 2 + 2 * l by omega] at this; exact this) h2 h3
    refine b_173_6 (Tr_mono _) hV hW _ _ _ _ _ _ _ ?_
    rw [if_pos (show q < t by omega)]
    unfold dpc at h
    refine x_199 ⟨h0, by omega, by rw [e71]; omega, by rw [e71, e72]; omega, by rw [e72]; omega⟩ ⟨t1.1, by omega, by rw [e71]; omega, by rw [e71, e72]; omega, by rw [e72]; omega⟩ (fun c => ?_) (fun c => ?_)
    · have c' : Mq 151 q = Mq 151 t := lk.1 (by unfold lk9_ at *; rw [e71, e72, e69] at c; exact c)
      rw [if_pos c', Nat.add_comm] at h
      rw [if_neg (by decide), w]
      refine x_116 t1.1 (by omega) hf.1 (by omega) ?_
      exact rc1 _ (fun r hr => (nt1_r hr).trans (hM r hr)) (by rw [nt1_7]; omega) h
    · have c' : ¬ Mq 151 q = Mq 151 t := fun e => c (by have := lk.2 e; unfold lk9_ at *; rw [e71, e72, e69]; exact this)
      rw [if_neg c', Nat.zero_add] at h
      rw [if_pos rfl, w]
      exact rc1 M hM (by omega) h
/-- the notes TWICE of a name: Q -/
theorem l_311 [Inhabited gh_] {x1 x2 x3 x5 x6 : Int} (hV : Cl_ wd0 (Tr_ wd0 pg0 (d + 1)) V (rv_ Kv) Qt m_311) (hW : Wk_ V) (ht : 0 ≤ t ∧ t ≤ 1200) (hp : Mq 150 t = p) : ∀ (n : Nat) (q : Int) (N : mm_), (∀ r : Nat, r ≠ 6 → N r = Mq r) → q + 2 * n = t → 0 ≤ q →
    V 21 [rr 6, ii x1, ii x2, ii x3, ii t, ii x5, ii x6, ii t] [] (itq p (dpc (Mq 151) (Mq 151 t) n q) N) → V 21 [rr 6, ii x1, ii x2, ii x3, ii t, ii x5, ii x6, ii q] [] N
  | 0, q, N, hN, hq, h0, h => by rw [show q = t by omega]; exact h
  | n + 1, q, N, hN, hq, h0, h => by
    have w : w32 (q + 2) = q + 2 := w32_id (by omega) (by omega)
    have e1 := hN 151 (by decide)
    have e0 := hN 150 (by decide)
    refine b_311_21 (Tr_mono _) hV hW _ _ _ _ _ _ _ _ ?_
    rw [if_pos (show q < t by omega)]
    refine ⟨by omega, by omega, ?_⟩
    rw [e1, e0]
    unfold dpc at h
    by_cases c : Mq 151 q = Mq 151 t
    · rw [if_pos c, Nat.add_comm] at h
      rw [if_pos (by rw [if_neg (by omega), if_pos c]), w]
      refine ⟨by omega, q_236 ?_⟩
      rw [hp]
      exact l_311 hV hW ht hp n (q + 2) _ (fun r hr => (ntQ_r hr).trans (hN r hr)) (by omega) (by omega) h
    · rw [if_neg c, Nat.zero_add] at h
      rw [if_neg (by by_cases c2 : Mq 151 q < Mq 151 t
                     · rw [if_pos c2]; decide
                     · rw [if_neg c2, if_neg c]; decide), w]
      exact l_311 hV hW ht hp n (q + 2) _ hN (by omega) (by omega) h
end TK
end T194_tk
section T195_tk
/-! inputs: a variable takes a value, whole -/
/-- the note for a variable that takes the j-th value of s: T its type, v the variable -/
def tkK (M : mm_) (T v s j : Int) : Int := if v = -1 then 4 else if M 131 (8 * T + v) ≤ 0 then (if s < 0 then 0 else if s < 100 then (if j < M 112 s then (if M 113 (3 * s + j) = M 130 (8 * T + v) then 0 else 5) else 0) else 0) else 5
def tkX (M : mm_) (T v s j t k : Int) : mm_ := if v = -1 then Xn_ M 1 4 t else up_ (Xn_ M 1 (tkK M T v s j) t) 137 (3 * k + j) (M 132 (8 * T + v))
def tkQ (Mx N : mm_) (T v s j p i : Int) : mm_ := if v = -1 then Qn_ N 1 4 p else up_ (Qn_ N 1 (tkK Mx T v s j) p) 202 (3 * i + j) (N 184 (8 * T + v))
section TL
variable {d : Nat} {b F : Int} {M N Mx Mq : mm_} {t p k s j fr i v T : Int} {Kv : mm_ → Prop} {Qt : qt_} {V : vv_}
theorem itx_XF [Inhabited gh_] (n : Nat) : XF M (itx t n M) := ⟨fun r hr => itx_r (fun c => hr (by rw [c]; decide)) n M, fun i _ h4 h5 _ h7 => itx_1 h4 h5 h7 n M, fun i _ => by rw [itx_r (by decide) n M]⟩
theorem itq_QF [Inhabited gh_] (n : Nat) : QF N (itq p n N) := ⟨fun r hr => itq_r (fun c => hr (by rw [c]; decide)) n N, fun i _ h1 h2 _ _ _ _ _ => itq_6 h1 h2 n N⟩
theorem tkK_c [Inhabited gh_] (h : ∀ r : Nat, r ≠ 1 → M r = Mx r) : tkK M T v s j = tkK Mx T v s j := by
  unfold tkK
  rw [h 131 (by decide), h 112 (by decide), h 113 (by decide), h 130 (by decide)]
theorem tkK_r [Inhabited gh_] : tkK M T v s j = 0 ∨ (3 ≤ tkK M T v s j ∧ tkK M T v s j ≤ 6) := by
  unfold tkK; repeat' split
  all_goals omega
theorem x_173 [Inhabited gh_] (hT : Tks Mx Mq) (hV : VT Mx Mq) (ht : nm9_ Mx t) (hs : s < 0 ∨ (0 ≤ s ∧ s < 20) ∨ 100 ≤ s) (hj : 0 ≤ j ∧ j < 3) (hk : 0 ≤ k ∧ k < 600) (hfr : 0 ≤ fr + 1 ∧ fr + 1 + 2 * j = t) (hn : ∀ l, 0 ≤ l → l < j → nm9_ Mx (fr + 1 + 2 * l)) (h7 : 0 ≤ Mx 1 7 ∧ Mx 1 7 + 8 < 2147483647) (hv : v = vrr Mq (Mq 151 t))
    (hK : Kv (tkX (itx t (dpc (Mq 151) (Mq 151 t) j.toNat (fr + 1)) Mx) (Mx 1 18) v s j t k)) : Tr_ wd0 pg0 (d + 4) 173 [.inr (.inr 1), .inl k, .inl s, .inl t, .inl j, .inl fr] Mx (rv_ Kv) Qt := by
  refine t_173 fun V hV' hW => b_173_0 (Tr_mono _) hV' hW _ _ _ _ _ _ ?_
  have tu : t ≤ 1200 := ht.1.2.1
  have dl := dpc_le (f := Mq 151) (v := Mq 151 t) j.toNat (fr + 1)
  rw [w32_id (by omega) (by omega)]
  refine l_173 hV' hW hT ht j.toNat (fr + 1) Mx (fun _ _ => rfl) (by omega) hfr.1 (fun l a b => hn l a (by omega)) ⟨h7.1, by omega⟩ ?_
  generalize eM : itx t (dpc (Mq 151) (Mq 151 t) j.toNat (fr + 1)) Mx = M at hK
  have xf : XF Mx M := by rw [← eM]; exact itx_XF _
  have hr : ∀ r : Nat, r ≠ 1 → M r = Mx r := fun r h => by rw [← eM]; exact itx_r h _ _
  have e18 : M 1 18 = Mx 1 18 := xf.2.1 18 (by decide) (by decide) (by decide) (by decide) (by decide)
  have e12 : M 1 2 = 5 := by rw [xf.2.1 2 (by decide) (by decide) (by decide) (by decide) (by decide)]; exact hV.1
  have e17 : 0 ≤ M 1 7 ∧ M 1 7 < 2147483647 := by rw [← eM, itx_7]; omega
  have hT1 := Tks_a (XF_XA xf) (QA_rf (M := Mq)) hT
  have hV1 := VT_a (XF_XA xf) (QA_rf (M := Mq)) hV
  have vr := vrr_r hV1 (v := Mq 151 t)
  rw [← hv] at vr
  have t18 := hV.2.2
  have e61 : Mq 6 61 = Mx 1 18 := hV.2.1
  rw [e61] at vr
  refine b_173_6 (Tr_mono _) hV' hW _ _ _ _ _ _ _ ?_
  rw [if_neg (by omega)]
  refine x_128R hT1 hV1 ⟨gd_c (hr 70 (by decide)) ht.1, by rw [hr 70 (by decide)]; exact ht.2⟩ ?_
  rw [← hv]
  unfold tkX at hK
  by_cases c : v = -1
  · rw [if_pos c] at hK ⊢
    unfold Xn_ at hK
    rw [if_neg (by omega)] at hK
    exact x_116 ht.1.1 (by omega) e17.1 e17.2 (rv_i hK)
  rw [if_neg c] at hK ⊢
  have hv8 : 0 ≤ v ∧ v < 8 := by have := t18.2.2; omega
  rw [e18]
  have w : w32 (w32 (8 * Mx 1 18) + v) = 8 * Mx 1 18 + v := by rw [w32_id (x := 8 * Mx 1 18) (by omega) (by omega), w32_id (by omega) (by omega)]
  rw [w]
  have fin : ∀ (x8 : Int) (M5 : mm_), M5 1 2 = 5 → M5 132 = M 132 → rv_ Kv [] (up_ M5 137 (3 * k + j) (M 132 (8 * Mx 1 18 + v))) → V 151 [rr 1, ii k, ii s, ii t, ii j, ii fr, ii v, ii (8 * Mx 1 18 + v), ii x8] [] M5 := fun x8 M5 h1 h2 h3 => by
    refine b_173_151 (Tr_mono _) hV' hW _ _ _ _ _ _ _ _ _ ⟨h1, h1, by omega, ?_⟩
    rw [w32_id (x := 3 * k) (by omega) (by omega), w32_id (by omega) (by omega), h2]
    exact ⟨by omega, h3⟩
  refine ⟨e12, by omega, ?_⟩
  have ok0 : tkK M (Mx 1 18) v s j = 0 → ∀ x8, V 151 [rr 1, ii k, ii s, ii t, ii j, ii fr, ii v, ii (8 * Mx 1 18 + v), ii x8] [] M := fun e x8 => fin x8 M e12 rfl (by
    rw [e] at hK; unfold Xn_ at hK; rw [if_pos (.inr rfl)] at hK; exact rv_i hK)
  have ok5 : tkK M (Mx 1 18) v s j = 5 → ∀ x8, Tr_ wd0 pg0 (d + 3) 116 [.inr (.inr 1), .inl 5, .inl t] M (rv_ fun M3 => V 151 [rr 1, ii k, ii s, ii t, ii j, ii fr, ii v, ii (8 * Mx 1 18 + v), ii x8] [] M3) Qt := fun e x8 => x_116 ht.1.1 (by omega) e17.1 e17.2 (fin x8 _ (by rw [nt1_1 (by decide) (by decide) (by decide)]; exact e12) (nt1_r (by decide)) (by
    rw [e] at hK; unfold Xn_ at hK; rw [if_neg (by omega)] at hK; exact rv_i hK))
  unfold tkK at ok0 ok5
  rw [if_neg c] at ok0 ok5
  by_cases c1 : M 131 (8 * Mx 1 18 + v) ≤ 0
  · rw [if_pos c1] at ok0 ok5 ⊢
    by_cases c2 : s < 0
    · rw [if_pos c2] at ok0 ⊢
      rw [if_pos rfl]; exact ok0 rfl _
    rw [if_neg c2] at ok0 ok5 ⊢
    by_cases c3 : s < 100
    · rw [if_pos c3] at ok0 ok5 ⊢
      refine ⟨e12, by omega, ?_⟩
      by_cases c4 : j < M 112 s
      · rw [if_pos c4] at ok0 ok5 ⊢
        rw [w32_id (x := 3 * s) (by omega) (by omega), w32_id (x := 3 * s + j) (by omega) (by omega)]
        refine ⟨e12, by omega, e12, by omega, ?_⟩
        by_cases c5 : M 113 (3 * s + j) = M 130 (8 * Mx 1 18 + v)
        · rw [if_pos c5] at ok0 ⊢
          rw [if_pos rfl]; exact ok0 rfl _
        · rw [if_neg c5] at ok5 ⊢
          rw [if_neg (by decide)]; exact ok5 rfl _
      · rw [if_neg c4] at ok0 ⊢
        rw [if_pos rfl]; exact ok0 rfl _
    · rw [if_neg c3] at ok0 ⊢
      rw [if_pos rfl]; exact ok0 rfl _
  · rw [if_neg c1] at ok5 ⊢
    rw [if_neg (by decide)]; exact ok5 rfl _
theorem Qn_up [Inhabited gh_] {r : Nat} {kk i v : Int} (h : r ≠ 6) : Qn_ (up_ N r i v) b kk p = up_ (Qn_ N b kk p) r i v := by
  unfold Qn_
  split
  · rfl
  · unfold nt_ bf_
    rw [up_ne (r := r) (fun e => h e.symm)]
    split
    · rfl
    · split
      · rw [up_cc (.inl h), up_cc (r := r) (.inl h)]
      · rfl
theorem q_311 [Inhabited gh_] (hV : VT Mx Mq) (hG : SGT Mx Mq) (h16 : Mq 6 16 = 1) (ht : 0 ≤ t ∧ t ≤ 1200) (hs : s < 0 ∨ (0 ≤ s ∧ s < Mx 5 0) ∨ 100 ≤ s) (hj : 0 ≤ j ∧ j < 3) (hi : 0 ≤ i ∧ i < 1300) (hfr : 0 ≤ fr + 1 ∧ fr + 1 + 2 * j = t) (hp : Mq 150 t = p) (hv : v = vrr Mq (Mq 151 t))
    (hK : Kv (tkQ Mx (itq p (dpc (Mq 151) (Mq 151 t) j.toNat (fr + 1)) Mq) (Mx 1 18) v s j p i)) : Tr_ wd0 pg0 (d + 2) 311 [.inr (.inr 6), .inl i, .inl s, .inl j, .inl t, .inl (fr + 1)] Mq (rv_ Kv) Qt := by
  have e61 : Mq 6 61 = Mx 1 18 := hV.2.1
  have vr := vrr_r hV (v := Mq 151 t)
  rw [← hv, e61] at vr
  have t18 := hV.2.2
  have m5 := hG.1.1
  refine t_311 fun V hV' hW => b_311_0 (Tr_mono _) hV' hW _ _ _ _ _ _ ⟨by omega, q_276R hV ?_⟩
  rw [← hv, e61]
  refine l_311 hV' hW ht hp j.toNat (fr + 1) Mq (fun _ _ => rfl) (by omega) hfr.1 ?_
  generalize eM : itq p (dpc (Mq 151) (Mq 151 t) j.toNat (fr + 1)) Mq = N at hK
  have hr : ∀ r : Nat, r ≠ 6 → N r = Mq r := fun r h => by rw [← eM]; exact itq_r h _ _
  have n16 : N 6 16 = 1 := by rw [← eM, itq_6 (by decide) (by decide)]; exact h16
  refine b_311_21 (Tr_mono _) hV' hW _ _ _ _ _ _ _ _ ?_
  rw [if_neg (by omega), hr 150 (by decide), hp]
  have nt5 : ∀ {kk : Int} {N' : mm_}, N' 6 16 = 1 → kk ≠ 0 → nt_ N' kk p = Qn_ N' 1 kk p := fun h h1 => (Qn_nt h (.inr rfl) h1).symm
  unfold tkQ at hK
  by_cases c : v = -1
  · rw [if_pos c] at hK ⊢
    rw [if_pos (by decide)]
    refine ⟨by omega, q_236 (rv_i ?_)⟩
    rw [nt5 n16 (by decide)]; exact hK
  rw [if_neg c] at hK ⊢
  have hv8 : 0 ≤ v ∧ v < 8 := by have := t18.2.2; omega
  have rw8 := t18.2.2.2.2.1 v (by omega) (by have := t18.2.2; omega)
  rw [if_neg (by omega), w32_id (x := 3 * i) (by omega) (by omega), w32_id (x := 3 * i + j) (by omega) (by omega)]
  refine ⟨by omega, by omega, by omega, ?_⟩
  have ok0 : tkK Mx (Mx 1 18) v s j = 0 → rv_ Kv [] (up_ N 202 (3 * i + j) (N 184 (8 * Mx 1 18 + v))) := fun e => by
    rw [e] at hK; unfold Qn_ at hK; rw [if_pos (.inr rfl)] at hK; exact rv_i hK
  have ok5 : tkK Mx (Mx 1 18) v s j = 5 → Tr_ wd0 pg0 (d + 1) 236 [.inr (.inr 6), .inl 5, .inl p] (up_ N 202 (3 * i + j) (N 184 (8 * Mx 1 18 + v))) (rv_ fun M2 => rv_ Kv [] M2) Qt := fun e => q_236 (rv_i (by
    rw [e, ← Qn_up (by decide)] at hK
    rw [nt5 (by rw [up_ne (by decide)]; exact n16) (by decide)]; exact hK))
  unfold tkK at ok0 ok5
  rw [if_neg c] at ok0 ok5
  rw [hr 183 (by decide), hr 156 (by decide), hr 182 (by decide), hr 157 (by decide)]
  by_cases c1 : Mx 131 (8 * Mx 1 18 + v) ≤ 0
  · rw [if_pos c1] at ok0 ok5
    rw [if_pos (by omega)]
    by_cases c2 : s < 0
    · rw [if_pos c2] at ok0 ⊢
      rw [if_neg (by decide)]; exact ok0 rfl
    rw [if_neg c2] at ok0 ok5 ⊢
    by_cases c3 : s < 100
    · rw [if_pos c3] at ok0 ok5 ⊢
      have sg := hG.2 s (by omega) (by omega)
      refine ⟨by omega, ?_⟩
      rw [sg.1.2.2]
      by_cases c4 : j < Mx 112 s
      · rw [if_pos c4] at ok0 ok5 ⊢
        have sj := sg.2 j hj.1 c4
        rw [w32_id (x := 3 * s) (by omega) (by omega), w32_id (x := 3 * s + j) (by omega) (by omega), sj.2.2]
        refine ⟨by omega, by omega, ?_⟩
        by_cases c5 : Mx 113 (3 * s + j) = Mx 130 (8 * Mx 1 18 + v)
        · rw [if_pos c5] at ok0
          rw [if_pos (by omega), if_neg (by decide)]; exact ok0 rfl
        · rw [if_neg c5] at ok5
          rw [if_neg (by omega), if_pos rfl]; exact ⟨by omega, ok5 rfl⟩
      · rw [if_neg c4] at ok0 ⊢
        rw [if_neg (by decide)]; exact ok0 rfl
    · rw [if_neg c3] at ok0 ⊢
      rw [if_neg (by decide)]; exact ok0 rfl
  · rw [if_neg c1] at ok5
    rw [if_neg (by omega), if_pos rfl]; exact ⟨by omega, ok5 rfl⟩
end TL
end T195_tk

section T205_ip
/-! INPUT whole -/
def ifS (κ : Int → Int) (a : Int) : Option Int := if κ a = 26 then (gS a).bind fun a1 => ES κ 0 0 a1 else some a
def ipS (κ : Int → Int) (lm : Int → Int → Bool) (s : sj_) : Option sj_ := (gS s.1).bind fun a1 => (IL κ a1).bind fun a2 => (ifS κ a2).bind fun a3 => (tS κ 259 a3).bind fun a4 => PTj κ lm 12 (a4, s.2)
/-- Q: INPUT within a state's lines -/
def qIN (dq : Nat) (mask : Int) (N : mm_) (G : mm_ → Prop) (Qt : qt_) : Prop := Tr_ wd0 pg0 (dq + 17) 228 [.inr (.inr 6), .inl 7] N (ri_ fun v4 M4 => if v4 = 0 then False else Tr_ wd0 pg0 (dq + 17) 306 [.inr (.inr 6), .inl mask] M4 (rv_ G) Qt) Qt
/-- what an INPUT leaves: its ins, its e, its trans -/
def IPF [Inhabited gh_] (b F F' : Int) (Mx Mq : mm_) (a mask : Int) (M9 N9 : mm_) (a9 : Int) : Prop := ∃ (Ma Na Mb Nb M' N' : mm_) (aa ab x2 v kk : Int),
  SLG b 0 (nX_ Mx) (stQ_ (nx_ Mq) 0 mask) Ma Na ∧ a + 2 ≤ aa ∧
  ((ab = aa ∧ x2 = -1 ∧ Mb = Ma ∧ Nb = nE_ Na) ∨ (∃ Mc Nc, WR b F (nX_ Ma) (nx_ (nE_ Na)) Mc Nc (aa + 1) ab 0 1 ∧ x2 = Ma 5 3 ∧ Mb = pX_ Mc 25 ∧ Nb = up_ Nc 196 (Mq 6 62) (Na 6 104)))
  ∧ PRC b F F' (sX_ (nX_ Mb) (Mb 1 34)) (tM_ (up_ (nx_ Nb) 197 (Mq 6 62) (Nb 6 75)) 0 mask) M' N' (ab + 1) a9 0 0 (Nb 6 76) ∧ SEM b (sX_ (nX_ Mb) (Mb 1 34)) (tM_ (up_ (nx_ Nb) 197 (Mq 6 62) (Nb 6 75)) 0 mask) M' N' v ∧ (v = 0 ∨ v = 1) ∧ kk = (if v = 0 then 6 else 0) ∧ (b = 1 → Qn_ N' b kk (M' 71 a9) 6 13 = 0 → kk = 0 ∧ N' 6 13 = 0)
  ∧ M9 = xiF x2 (Mb 5 3) (Mb 5 4 - Mx 5 4).toNat (Mx 5 4) (Xn_ M' b kk a9) ∧ N9 = Qn_ N' b kk (M' 71 a9)
section IW
variable {dq : Nat} {b F F' : Int} {Mx Mq : mm_} {a mask : Int} {Kv G : mm_ → Prop} {Qt : qt_}
theorem sp_up [Inhabited gh_] {r : Nat} {N : mm_} {i v : Int} (hr : r ≠ 6) (h : sp_ N) : sp_ (up_ N r i v) := by unfold sp_; rw [up_ne (fun e => hr e.symm)]; exact h
theorem in9_up [Inhabited gh_] {r : Nat} {N : mm_} {i v : Int} (hr : r ≠ 6) (h : in9_ N) : in9_ (up_ N r i v) := by unfold in9_; rw [up_ne (fun e => hr e.symm)]; exact h
theorem q_306z [Inhabited gh_] {d : Nat} {N : mm_} (hs : sp_ N) (h : G N) : Tr_ wd0 pg0 (d + 17) 306 [.inr (.inr 6), .inl mask] N (rv_ G) Qt := t_306 fun V hV hW => b_306_0 (Tr_mono _) hV hW _ _ (q_307s hs (q9_s (dq := d) hV hW hs h))
theorem y_168 [Inhabited gh_] (h : SS b F Mx Mq a mask 0) (hk : Mx 70 a = 7) (hS : b = 1 → ipS (Mx 70) (LMT Mx) (a, lc_ b Mx) ≠ none)
    (hK : ∀ F' M9 N9 a9, SS b F' M9 N9 a9 mask 0 → a + 3 ≤ a9 → IPF b F F' Mx Mq a mask M9 N9 a9 → (∀ lm, LOK b lm Mx M9 → ipS (Mx 70) lm (a, lc_ b Mx) = some (a9, lc_ b M9)) → (∀ (G : mm_ → Prop) (Qtq : qt_), G N9 → qIN dq mask Mq G Qtq) → Kv M9)
    (hQ : b = 0 → ∀ Mx', XSb Mx Mx' → (∀ (G : mm_ → Prop) (Qtq : qt_), (∀ M', SQb Mx' Mq M' → G M') → qIN dq mask Mq G Qtq) → Qt 8 Mx') :
    Tr_ wd0 pg0 129 168 [.inr (.inr 1)] Mx (rv_ Kv) Qt := by
  have hE := TS_E h.1
  have hT := h.1.1.1
  have ha := ER_a hE
  have h01 := bl01 hE
  have u := h.1.2.2.2.2.1
  have bnd := h.2.1
  refine t_168 fun V hV hW => b_168_0 (Tr_mono _) hV hW _ ⟨h.1.1.2.1.1, ?_⟩
  refine b_168_8 (Tr_mono _) hV hW _ _ ?_
  refine y_105 hE (by omega) (fun hb => bind_n (hS hb)) (fun h12 hE1 => ?_) (fun hb h12 => ?_)
  rotate_left
  · have hsp := SQ_bf hE hb (k := 2) (by decide) QA_rf
    refine hQ hb _ (XA_XSb (XF_XA fl_XF)) (fun G Qtq hk9 => j_228r hT hE hb (by decide) hk h12 ?_)
    rw [if_neg (by decide)]
    exact q_306z hsp.1 (hk9 _ ⟨hsp.1, hsp.2.1, hsp.2.2.1, hsp.2.2.2.1, QA_QSb hsp.2.2.2.2⟩)
  have S1 := SS_go h hE1
  rw [show (0 : Int) - 1 = -1 by decide] at S1
  have S2 := SL_st (w := 0) S1 (by decide) (.inl rfl)
  have x70 : nX_ Mx 70 = Mx 70 := nX_ne (by decide)
  have q62 : stQ_ (nx_ Mq) 0 mask 6 62 = Mq 6 62 + 1 := by rw [stQ_62, nx_6 (by decide)]
  have bk : 0 ≤ Mq 6 62 ∧ Mq 6 62 < 1300 := by omega
  have eW : ∀ lm j, ipS (Mx 70) lm (a, j) = (IL (Mx 70) (a + 1)).bind fun a2 => (ifS (Mx 70) a2).bind fun a3 => (tS (Mx 70) 259 a3).bind fun a4 => PTj (Mx 70) lm 12 (a4, j) := fun lm j => by unfold ipS; rw [gS_e h12, Option.bind_some]
  have toQ : ∀ (G : mm_ → Prop) (Qtq : qt_), q06 dq mask (Mq 6 62) 1 (stQ_ (nx_ Mq) 0 mask) G Qtq → qIN dq mask Mq G Qtq := fun G Qtq hq => j_228t hT hE (by decide) hk h12 (by
    rw [if_neg (by decide)]
    refine t_306 fun V' hV' hW' => b_306_0 (Tr_mono _) hV' hW' _ _ (q_307g (ER_goq hE1) (by rw [nx_6 (by decide)]; exact bk) ?_)
    rw [nx_6 (by decide)]
    exact hq V' hV' hW')
  have xs1 : XSb Mx (nX_ Mx) := XA_XSb (XF_XA nX_XF)
  have qs1 : QSb Mq (stQ_ (nx_ Mq) 0 mask) := QSb_tr (QA_QSb (QF_QA nx_QF)) stQ_QSb
  refine l_168 (dq := dq) (k := Mq 6 62) (f := Mx 5 4) hV hW 1201 (a + 1) (nX_ Mx) (stQ_ (nx_ Mq) 0 mask) (by omega) S2 (fun hb => by rw [x70]; have := hS hb; rw [eW] at this; exact bind_n this) (fun Ma Na aa S3 haa G3 h44 hsy hq3 => ?_) (fun hb Mx' hx hq => ?_)
  rotate_left
  · exact hQ hb Mx' (XSb_tr xs1 hx) (fun G Qtq hg => toQ G Qtq (hq G Qtq fun M' p => hg _ ⟨p.1, p.2.1, p.2.2.1, p.2.2.2.1, QSb_tr qs1 p.2.2.2.2⟩))
  rw [x70] at hsy
  have eW2 : ∀ lm j, ipS (Mx 70) lm (a, j) = (ifS (Mx 70) aa).bind fun a3 => (tS (Mx 70) 259 a3).bind fun a4 => PTj (Mx 70) lm 12 (a4, j) := fun lm j => by rw [eW, hsy, Option.bind_some]
  have a70 : Ma 70 = Mx 70 := (G3.1.1 70 (by decide)).trans x70
  have a62 : Na 6 62 = Mq 6 62 + 1 := (G3.2.1.2.1 62 (by decide)).trans q62
  have S4 : SS b F Ma (nE_ Na) aa mask 0 := SL_end S3 (by rw [a62]; omega)
  have hE4 := TS_E S4.1
  have hT4 := S4.1.1.1
  have a1 : ∀ i : Int, i ∉ xiI → Ma 1 i = Mx 1 i := fun i hi => by rw [G3.1.2.1 i hi, nX_1 (nm_i hi (by decide))]
  have n6 : ∀ i : Int, i ∉ qiI → i ≠ 62 → Na 6 i = Mq 6 i := fun i hi h62 => by rw [G3.2.1.2.1 i hi, stQ_6 h62, nx_6 (nm_i hi (by decide))]
  have a5 : Ma 5 3 = Mx 5 3 := by rw [G3.1.2.2.1 3 (by decide), nX_ne (by decide)]
  have a54 : Mx 5 4 ≤ Ma 5 4 := by have := G3.1.2.2.2.1; rw [nX_ne (by decide)] at this; exact this
  have lkA := LKP_X (b := b) (M1 := Ma) (Mx := Mx) (by rw [G3.1.1 62 (by decide), nX_ne (by decide)]) (by rw [G3.1.1 128 (by decide), nX_ne (by decide)]) (a1 18 (by decide)) (a1 19 (by decide))
  have xsa : XSb Mx Ma := XSb_tr xs1 (SLG_XSb G3)
  have qsa : QSb Mq (nE_ Na) := QSb_tr qs1 (QSb_tr (SLG_QSb G3) nE_QSb)
  have e62 : Na 6 62 - 1 = Mq 6 62 := by omega
  have toQ3 : ∀ (G : mm_ → Prop) (Qtq : qt_), (∀ V' : vv_, Cl_ wd0 (Tr_ wd0 pg0 (dq + 16)) V' (rv_ G) Qtq m_306 → Wk_ V' → Tr_ wd0 pg0 (dq + 16) 228 [.inr (.inr 6), .inl 26] (nE_ Na) (ri_ fun v4 M4 =>
    (if v4 = 0 then
     V' 74 [rr 6, ii mask, ii (Mq 6 62), ii 0] [] M4
    else
     Tr_ wd0 pg0 (dq + 16) 270 [.inr (.inr 6), .inl 2] M4 (ri_ fun v5 M5 =>
      (0 ≤ Mq 6 62 ∧ Mq 6 62 < 1300) ∧
       V' 74 [rr 6, ii mask, ii (Mq 6 62), ii 0] [] (up_ M5 196 (Mq 6 62) v5)) Qtq)) Qtq) → qIN dq mask Mq G Qtq := fun G Qtq hq => toQ G Qtq (hq3 G Qtq fun V' hV' hW' => by
    refine b_306_9 (Tr_mono _) hV' hW' _ _ _ _ ?_
    rw [if_pos rfl]
    refine b_306_37 (Tr_mono _) hV' hW' _ _ _ _ (q_227g (ER_goq (TS_E S3.1)) ?_)
    rw [if_pos rfl]
    refine ⟨bk, ?_⟩
    have := hq V' hV' hW'
    unfold nE_ at this
    rw [e62] at this
    exact this)
  -- the rest, behind the e
  have rest : ∀ (Mb Nb : mm_) (ab x2 ee : Int), SS b F Mb Nb ab mask ee → ee ≤ 0 → aa ≤ ab → Mb 5 4 = Ma 5 4 → (∀ i : Int, i = 29 ∨ i = 34 → Mb 1 i = Mx 1 i) → Nb 6 76 = Mq 6 76 → Mb 70 = Mx 70 → LKP b Mx Mb → lc_ b Mb = lc_ b Mx → XSb Mx Mb → QSb Mq Nb →
      ((ab = aa ∧ x2 = -1 ∧ Mb = Ma ∧ Nb = nE_ Na) ∨ (∃ Mc Nc, WR b F (nX_ Ma) (nx_ (nE_ Na)) Mc Nc (aa + 1) ab 0 1 ∧ x2 = Ma 5 3 ∧ Mb = pX_ Mc 25 ∧ Nb = up_ Nc 196 (Mq 6 62) (Na 6 104))) →
      (∀ lm j, ipS (Mx 70) lm (a, j) = (tS (Mx 70) 259 ab).bind fun a4 => PTj (Mx 70) lm 12 (a4, j)) →
      (∀ (G : mm_ → Prop) (Qtq : qt_), (∀ V' : vv_, Cl_ wd0 (Tr_ wd0 pg0 (dq + 16)) V' (rv_ G) Qtq m_306 → Wk_ V' → V' 74 [rr 6, ii mask, ii (Mq 6 62), ii 0] [] Nb) → qIN dq mask Mq G Qtq) →
      V 52 [rr 1, ii (Mx 5 4), ii x2, none, none] [] Mb := fun Mb Nb ab x2 ee S5 hee hab m54 b1 n76 b70 lk5 lc5 xsb qsB hcase eW3 toQ4 => by
    refine y_168t (dq := dq) (x1 := Mx 5 4) (k := Mq 6 62) S5 hee (by rw [b1 29 (.inl rfl)]; omega) (by rw [n76]; omega) (by rw [m54]; omega) bk (fun hb => by rw [b70, lc5, lk5.2.2.2 hb, ← eW3]; exact hS hb) hV hW (fun F' M' N' a' v kk S9 ha9 P Sm hv hkk E3 hsy9 hq9 => ?_) (fun hb Mx' hx hq9 => ?_)
    · refine hK F' _ _ a' (SS_le S9 (by omega)) (by omega) ⟨Ma, Na, Mb, Nb, M', N', aa, ab, x2, v, kk, G3, by omega, hcase, P, Sm, hv, hkk, E3, rfl, rfl⟩ (fun lm hlm => ?_) (fun G Qtq hg => toQ4 G Qtq fun V' hV' hW' => hq9 V' G Qtq hV' hW' hg)
      have lk9 := LKP_X (b := b) (M1 := xiF x2 (Mb 5 3) (Mb 5 4 - Mx 5 4).toNat (Mx 5 4) (Xn_ M' b kk a')) (Mx := M') (by rw [xiF_r (by decide) (by decide), Xn_r (by decide)]) (by rw [xiF_r (by decide) (by decide), Xn_r (by decide)]) (by rw [xiF_r (by decide) (by decide)]; exact (Xn_XF (M := M')).2.1 18 (by decide) (by decide) (by decide) (by decide) (by decide)) (by rw [xiF_r (by decide) (by decide)]; exact (Xn_XF (M := M')).2.1 19 (by decide) (by decide) (by decide) (by decide) (by decide))
      have lkP : LKP b Mb M' := LKP_tr (LKP_F (nX_XF (M := Mb))).1 (LKP_tr (LKP_X (sX_r (by decide) (by decide) (by decide) (by decide) (by decide)) (sX_r (by decide) (by decide) (by decide) (by decide) (by decide)) (sX_1 (by decide)) (sX_1 (by decide))).1 (LKP_P P))
      have l1 := (LOK_s lk5 (LKP_tr lkP lk9.1) hlm).2
      have l2 := (LOK_s lkP lk9.1 l1).1
      have e := hsy9 lm l2
      rw [b70, lc5] at e
      rw [eW3, lk9.2]; exact e
    · exact hQ hb Mx' (XSb_tr xsb hx) (fun G Qtq hk9 => toQ4 G Qtq fun V' hV' hW' => hq9 V' G Qtq hV' hW' (fun M' hs => hk9 M' ⟨hs.1, hs.2.1, hs.2.2.1, hs.2.2.2.1, QSb_tr qsB hs.2.2.2.2⟩))
  unfold z168
  refine y_117 (TS_E S3.1) (by decide) (fun c => absurd c h44) (fun _ => ?_)
  rw [if_pos rfl]
  refine y_103 hE4 (fun c => ?_) (fun c => ?_)
  · rw [if_neg (by decide)]
    have c' : Mx 70 aa = 26 := by rw [← a70]; exact c
    have eIf : ifS (Mx 70) aa = (gS aa).bind fun a1 => ES (Mx 70) 0 0 a1 := by unfold ifS; rw [if_pos c']
    refine y_105 hE4 (by rw [c]; decide) (fun hb => by have := hS hb; rw [eW2, eIf] at this; exact bind_n (bind_n this)) (fun h13 hE5 => ?_) (fun hb h13 => ?_)
    rotate_left
    · have hsp := SQ_bf hE4 hb (k := 2) (by decide) QA_rf
      refine hQ hb _ (XSb_tr xsa (XA_XSb (XF_XA fl_XF))) (fun G Qtq hg => toQ3 G Qtq fun V' hV' hW' => j_228r hT4 hE4 hb (by decide) c h13 ?_)
      rw [if_neg (by decide)]
      exact q_270s hsp.1 ⟨bk, q74_s hV' hW' (by exact sp_up (by decide) hsp.1) (hg _ ⟨sp_up (by decide) hsp.1, in9_up (by decide) hsp.2.1, by rw [up_ne (by decide)]; exact hsp.2.2.1, ⟨by rw [up_ne (by decide)]; exact hsp.2.2.2.1.1, hsp.2.2.2.1.2⟩, QSb_tr qsa (QSb_tr (QA_QSb hsp.2.2.2.2) ⟨fun r hr => up_ne (fun h => hr (by rw [h]; decide)), fun j _ => by rw [up_ne (by decide)]⟩)⟩)⟩
    rw [gS_e h13, Option.bind_some] at eIf
    have S5 := SS_go S4 hE5
    have b12 : nX_ Ma 1 2 = 5 := by rw [nX_1 (by decide), a1 2 (by decide)]; exact h.1.1.2.1.1
    have e53 : nX_ Ma 5 3 = Ma 5 3 := by rw [nX_ne (by decide)]
    have y70 : nX_ Ma 70 = Mx 70 := by rw [nX_ne (by decide)]; exact a70
    have q104 : nx_ (nE_ Na) 6 104 = Na 6 104 := by rw [nx_6 (by decide), nE_r (by decide)]
    refine ⟨b12, ?_⟩
    rw [e53]
    refine Tr_le (d := 123) (by omega) (y_174 (dq := dq + 4) S5 (fun hb => by rw [y70]; have := hS hb; rw [eW2, eIf] at this; exact bind_n this) (fun Mc Nc ab S6 hWR hes hq => ?_) (fun hb Mx' hx hq => ?_))
    · rw [y70] at hes
      rw [q104] at hq
      have wr := hWR
      obtain ⟨w1, w2, w3, w4, w5, w6, w7, w8, w9, w10⟩ := wr
      have S7 := SS_u (r := 196) (i := Mq 6 62) (v := Na 6 104) (.inr (.inl rfl)) S6
      have xfc : XF (nX_ Ma) (pX_ Mc 25) := XF_tr w2 pX_XF
      have xfA : XF Ma (pX_ Mc 25) := XF_tr nX_XF xfc
      have lkF := LKP_F (b := b) xfA
      refine rest (pX_ Mc 25) (up_ Nc 196 (Mq 6 62) (Na 6 104)) ab (Ma 5 3) _ S7 (by omega) (by omega) (xfA.2.2 4 (by decide)) (fun i hi => ?_) ?_ ?_ (LKP_tr lkA.1 lkF.1) (lkF.2.trans lkA.2) (XSb_tr xsa (XA_XSb (XF_XA xfA))) ?_ (.inr ⟨Mc, Nc, hWR, rfl, rfl, rfl⟩) (fun lm j => by rw [eW2, eIf, hes, Option.bind_some]) (fun G Qtq hg => toQ3 G Qtq fun V' hV' hW' => j_228t hT4 hE4 (by decide) c h13 ?_)
      · rw [xfA.2.1 i (by omega) (by omega) (by omega) (by omega) (by omega), a1 i (by rcases hi with q | q <;> rw [q] <;> decide)]
      · rw [up_ne (by decide), w3.2 76 (by decide) (by decide) (by decide) (by decide) (by decide) (by decide) (by decide) (by decide) (by decide) (by decide) (by decide), nx_6 (by decide), nE_r (by decide)]; exact n6 76 (by decide) (by decide)
      · rw [pX_r (by decide) (by decide), XF_70 w2 (by decide) (by decide) (by decide), y70]
      · exact QSb_tr qsa (QSb_tr (QA_QSb (QF_QA nx_QF)) (QSb_tr (QA_QSb (QG_QA w3)) ⟨fun r hr => up_ne (fun h => hr (by rw [h]; decide)), fun j _ => by rw [up_ne (by decide)]⟩))
      · rw [if_neg (by decide)]
        exact hq _ _ ⟨bk, hg V' hV' hW'⟩
    · refine hQ hb Mx' (XSb_tr xsa (XSb_tr (XA_XSb (XF_XA nX_XF)) (XA_XSb (XF_XA hx)))) (fun G Qtq hg => toQ3 G Qtq fun V' hV' hW' => j_228t hT4 hE4 (by decide) c h13 ?_)
      rw [if_neg (by decide)]
      refine hq _ _ fun M' p1 p2 p3 p4 p5 => ⟨bk, q74_s hV' hW' (sp_up (by decide) p1) (hg _ ⟨sp_up (by decide) p1, in9_up (by decide) p2, by rw [up_ne (by decide)]; exact p3, ⟨by rw [up_ne (by decide)]; exact p4.1, p4.2⟩, QSb_tr qsa (QSb_tr (QA_QSb (QF_QA nx_QF)) (QSb_tr (QA_QSb (QF_QA p5)) ⟨fun r hr => up_ne (fun h => hr (by rw [h]; decide)), fun j _ => by rw [up_ne (by decide)]⟩))⟩)⟩
  · rw [if_pos rfl]
    have c' : ¬ Mx 70 aa = 26 := by rw [← a70]; exact c
    have eIf : ifS (Mx 70) aa = some aa := by unfold ifS; rw [if_neg c']
    exact rest Ma (nE_ Na) aa (-1) 0 S4 (Int.le_refl _) (Int.le_refl _) rfl (fun i hi => a1 i (by rcases hi with q | q <;> rw [q] <;> decide)) (by rw [nE_r (by decide)]; exact n6 76 (by decide) (by decide)) a70 lkA.1 lkA.2 xsa qsa (.inl ⟨rfl, rfl, rfl, rfl⟩) (fun lm j => by rw [eW2, eIf, Option.bind_some]) (fun G Qtq hg => toQ3 G Qtq fun V' hV' hW' => j_228f hT4 hE4 (by decide) c (by rw [if_pos rfl]; exact hg V' hV' hW'))
end IW
end T205_ip
section T206_gr
/-! growth over lines of states: what is kept (second pass) -/
def xeL : List Nat := [1, 5, 63, 64, 65, 66, 129, 133, 134, 135, 136, 137, 138, 139, 140, 141, 142]
def qeL : List Nat := [6, 188, 189, 192, 193, 194, 195, 196, 197, 198, 199, 200, 201, 202, 203, 204, 205, 206, 207, 208, 209, 210, 211, 212, 213, 214, 215, 216, 217, 218, 219, 220, 221, 222, 223, 224, 225, 226, 227, 228, 229, 230, 231, 232, 233, 234]
def st9L : List Nat := [133, 134, 135, 136, 138, 139, 140, 141]
def sq9L : List Nat := [192, 193, 194, 195, 196, 197, 198, 199]
def txL : List Nat := [63, 64, 65, 66]
def tqL : List Nat := [211, 212, 213, 214, 215]
def OLX (M M' : mm_) : Prop := (Fr_ xeL M M' ∧ (∀ i : Int, i ∉ xbI → M' 1 i = M 1 i) ∧ (∀ i : Int, i ≠ 3 → i ≠ 4 → M' 5 i = M 5 i)) ∧ (M 5 3 ≤ M' 5 3 ∧ M 5 4 ≤ M' 5 4 ∧ M 1 29 ≤ M' 1 29 ∧ M 1 19 ≤ M' 1 19)
  ∧ (∀ i, 0 ≤ i → i < M 5 3 → M' 142 i = M 142 i) ∧ (∀ r i, r ∈ st9L → 0 ≤ i → i < M 5 4 → M' r i = M r i) ∧ (∀ i, 0 ≤ i → i < 3 * M 5 4 → M' 137 i = M 137 i) ∧ (∀ r i, r ∈ txL → 0 ≤ i → i < M 1 29 → M' r i = M r i) ∧ (∀ i, i < 10 * M 1 18 + M 1 19 ∨ 10 * M 1 18 + 10 ≤ i → M' 129 i = M 129 i)
def OLQ (lb ub : Int) (N N' : mm_) : Prop := (Fr_ qeL N N' ∧ (∀ i : Int, i ∉ qbI → N' 6 i = N 6 i)) ∧ (N 6 62 ≤ N' 6 62 ∧ N 6 63 ≤ N' 6 63 ∧ N 6 75 ≤ N' 6 75 ∧ N 6 76 ≤ N' 6 76 ∧ N 6 90 ≤ N' 6 90 ∧ N 6 104 ≤ N' 6 104)
  ∧ (∀ r i, r ∈ sq9L → 0 ≤ i → i < N 6 62 → N' r i = N r i) ∧ (∀ i, 0 ≤ i → i < N 6 63 → N' 200 i = N 200 i ∧ N' 201 i = N 201 i) ∧ (∀ i, 0 ≤ i → i < 3 * N 6 63 → N' 202 i = N 202 i) ∧ (∀ r i, r ∈ opL → 0 ≤ i → i < N 6 75 → N' r i = N r i) ∧ (∀ i, 0 ≤ i → i < 3 * N 6 75 → N' 209 i = N 209 i)
  ∧ (∀ r i, r ∈ rgR → 0 ≤ i → i < N 6 90 → N' r i = N r i) ∧ (∀ i, 0 ≤ i → i < N 6 104 → N' 227 i = N 227 i ∧ N' 228 i = N 228 i) ∧ (∀ r i, r ∈ tqL → 0 ≤ i → i < N 6 76 → N' r i = N r i) ∧ (∀ i, i < lb ∨ ub ≤ i → N' 188 i = N 188 i ∧ N' 189 i = N 189 i)
def OLD (Mx Mq M N : mm_) : Prop := OLX Mx M ∧ OLQ (10 * Mx 1 18 + Mx 1 19) (10 * Mx 1 18 + 10) Mq N
section GR
variable {M N M1 N1 M2 N2 Mx Mq : mm_} {lb ub lb' : Int}
theorem OLX_rf [Inhabited gh_] : OLX M M := ⟨⟨Fr_rf, fun _ _ => rfl, fun _ _ _ => rfl⟩, ⟨Int.le_refl _, Int.le_refl _, Int.le_refl _, Int.le_refl _⟩, fun _ _ _ => rfl, fun _ _ _ _ _ => rfl, fun _ _ _ => rfl, fun _ _ _ _ _ => rfl, fun _ _ => rfl⟩
theorem OLQ_rf [Inhabited gh_] : OLQ lb ub N N := ⟨⟨Fr_rf, fun _ _ => rfl⟩, ⟨Int.le_refl _, Int.le_refl _, Int.le_refl _, Int.le_refl _, Int.le_refl _, Int.le_refl _⟩, fun _ _ _ _ _ => rfl, fun _ _ _ => ⟨rfl, rfl⟩, fun _ _ _ => rfl, fun _ _ _ _ _ => rfl, fun _ _ _ => rfl, fun _ _ _ _ _ => rfl, fun _ _ _ => ⟨rfl, rfl⟩, fun _ _ _ _ _ => rfl, fun _ _ => ⟨rfl, rfl⟩⟩
theorem OLX_tr [Inhabited gh_] (h1 : OLX M M1) (h2 : OLX M1 M2) : OLX M M2 := by
  obtain ⟨⟨a1, a2, a3⟩, ⟨m1, m2, m3, m4⟩, a4, a5, a6, a7, a8⟩ := h1
  obtain ⟨⟨b1, b2, b3⟩, ⟨n1, n2, n3, n4⟩, b4, b5, b6, b7, b8⟩ := h2
  have e18 : M1 1 18 = M 1 18 := a2 18 (by decide)
  refine ⟨⟨Fr_tr a1 b1, fun i h => (b2 i h).trans (a2 i h), fun i h h' => (b3 i h h').trans (a3 i h h')⟩, ⟨by omega, by omega, by omega, by omega⟩, fun i x y => (b4 i x (by omega)).trans (a4 i x y), fun r i hr x y => (b5 r i hr x (by omega)).trans (a5 r i hr x y), fun i x y => (b6 i x (by omega)).trans (a6 i x y), fun r i hr x y => (b7 r i hr x (by omega)).trans (a7 r i hr x y), fun i h => (b8 i (by rw [e18]; omega)).trans (a8 i h)⟩
theorem OLQ_tr [Inhabited gh_] (hl : lb ≤ lb') (h1 : OLQ lb ub N N1) (h2 : OLQ lb' ub N1 N2) : OLQ lb ub N N2 := by
  obtain ⟨⟨a1, a2⟩, ⟨m1, m2, m3, m4, m5, m6⟩, a3, a4, a5, a6, a7, a8, a9, a10, a11⟩ := h1
  obtain ⟨⟨b1, b2⟩, ⟨n1, n2, n3, n4, n5, n6⟩, b3, b4, b5, b6, b7, b8, b9, b10, b11⟩ := h2
  refine ⟨⟨Fr_tr a1 b1, fun i h => (b2 i h).trans (a2 i h)⟩, ⟨by omega, by omega, by omega, by omega, by omega, by omega⟩, fun r i hr x y => (b3 r i hr x (by omega)).trans (a3 r i hr x y), fun i x y => ⟨(b4 i x (by omega)).1.trans (a4 i x y).1, (b4 i x (by omega)).2.trans (a4 i x y).2⟩, fun i x y => (b5 i x (by omega)).trans (a5 i x y), fun r i hr x y => (b6 r i hr x (by omega)).trans (a6 r i hr x y), fun i x y => (b7 i x (by omega)).trans (a7 i x y), fun r i hr x y => (b8 r i hr x (by omega)).trans (a8 r i hr x y), fun i x y => ⟨(b9 i x (by omega)).1.trans (a9 i x y).1, (b9 i x (by omega)).2.trans (a9 i x y).2⟩, fun r i hr x y => (b10 r i hr x (by omega)).trans (a10 r i hr x y), fun i h => ⟨(b11 i (by omega)).1.trans (a11 i h).1, (b11 i (by omega)).2.trans (a11 i h).2⟩⟩
theorem OLD_rf [Inhabited gh_] : OLD M N M N := ⟨OLX_rf, OLQ_rf⟩
theorem OLD_tr [Inhabited gh_] (h1 : OLD M N M1 N1) (h2 : OLD M1 N1 M2 N2) : OLD M N M2 N2 := by
  have e18 : M1 1 18 = M 1 18 := h1.1.1.2.1 18 (by decide)
  have m4 := h1.1.2.1.2.2.2
  have q := h2.2
  rw [e18] at q
  exact ⟨OLX_tr h1.1 h2.1, OLQ_tr (by omega) h1.2 q⟩
/-- X changes a stim that is not old -/
theorem OLX_u [Inhabited gh_] {r : Nat} {i v : Int} (h : OLX M M1) (hr : r ∈ st9L) (hi : M 5 4 ≤ i) : OLX M (up_ M1 r i v) := by
  obtain ⟨⟨a1, a2, a3⟩, ⟨m1, m2, m3, m4⟩, a4, a5, a6, a7, a8⟩ := h
  have e : ∀ r' : Nat, r' ∉ st9L → up_ M1 r i v r' = M1 r' := fun r' h => up_ne (fun c => h (by rw [c]; exact hr))
  have rx : ∀ r' : Nat, r' ∉ xeL → r' ∉ st9L := fun r' h c => h (by revert c; unfold st9L xeL; simp only [List.mem_cons, List.not_mem_nil, or_false]; omega)
  refine ⟨⟨fun r' h => (e r' (rx r' h)).trans (a1 r' h), fun j h => by rw [e 1 (by decide)]; exact a2 j h, fun j h h' => by rw [e 5 (by decide)]; exact a3 j h h'⟩, ⟨by rw [e 5 (by decide)]; exact m1, by rw [e 5 (by decide)]; exact m2, by rw [e 1 (by decide)]; exact m3, by rw [e 1 (by decide)]; exact m4⟩, fun j x y => by rw [e 142 (by decide)]; exact a4 j x y, fun r' j hr' x y => ?_, fun j x y => by rw [e 137 (by decide)]; exact a6 j x y, fun r' j hr' x y => ?_, fun j h => by rw [e 129 (by decide)]; exact a8 j h⟩
  · rw [up_of2 (by omega)]; exact a5 r' j hr' x y
  · rw [e r' (fun c => by revert c hr'; unfold st9L txL; simp only [List.mem_cons, List.not_mem_nil, or_false]; omega)]; exact a7 r' j hr' x y
/-- Q changes a stim that is not old -/
theorem OLQ_u [Inhabited gh_] {r : Nat} {i v : Int} (h : OLQ lb ub N N1) (hr : r ∈ sq9L) (hi : N 6 62 ≤ i) : OLQ lb ub N (up_ N1 r i v) := by
  obtain ⟨⟨a1, a2⟩, m, a3, a4, a5, a6, a7, a8, a9, a10, a11⟩ := h
  have e : ∀ r' : Nat, r' ∉ sq9L → up_ N1 r i v r' = N1 r' := fun r' h => up_ne (fun c => h (by rw [c]; exact hr))
  have rx : ∀ r' : Nat, r' ∉ qeL → r' ∉ sq9L := fun r' h c => h (by revert c; unfold sq9L qeL; simp only [List.mem_cons, List.not_mem_nil, or_false]; omega)
  refine ⟨⟨fun r' h => (e r' (rx r' h)).trans (a1 r' h), fun j h => by rw [e 6 (by decide)]; exact a2 j h⟩, by rw [e 6 (by decide)]; exact m, fun r' j hr' x y => ?_, fun j x y => by rw [e 200 (by decide), e 201 (by decide)]; exact a4 j x y, fun j x y => by rw [e 202 (by decide)]; exact a5 j x y, fun r' j hr' x y => ?_, fun j x y => by rw [e 209 (by decide)]; exact a7 j x y, fun r' j hr' x y => ?_, fun j x y => by rw [e 227 (by decide), e 228 (by decide)]; exact a9 j x y, fun r' j hr' x y => ?_, fun j h => by rw [e 188 (by decide), e 189 (by decide)]; exact a11 j h⟩
  · rw [up_of2 (by omega)]; exact a3 r' j hr' x y
  · rw [e r' (fun c => by revert c hr'; unfold sq9L opL; simp only [List.mem_cons, List.not_mem_nil, or_false]; omega)]; exact a6 r' j hr' x y
  · rw [e r' (fun c => by revert c hr'; unfold sq9L rgR; simp only [List.mem_cons, List.not_mem_nil, or_false]; omega)]; exact a8 r' j hr' x y
  · rw [e r' (fun c => by revert c hr'; unfold sq9L tqL; simp only [List.mem_cons, List.not_mem_nil, or_false]; omega)]; exact a10 r' j hr' x y
/-- small steps of X: only role 1, some fields -/
theorem OLX_1 [Inhabited gh_] (h : ∀ r : Nat, r ≠ 1 → M1 r = M r) (h1 : ∀ i : Int, i ∉ [3, 4, 5, 6, 7, 21, 22, 23, 34] → M1 1 i = M 1 i) : OLX M M1 := by
  refine ⟨⟨fun r hr => h r (fun c => hr (by rw [c]; decide)), fun i hi => h1 i (fun c => hi (by revert c; unfold xbI; simp only [List.mem_cons, List.not_mem_nil, or_false]; omega)), fun i _ _ => by rw [h 5 (by decide)]⟩, ⟨by rw [h 5 (by decide)]; exact Int.le_refl _, by rw [h 5 (by decide)]; exact Int.le_refl _, by rw [h1 29 (by decide)]; exact Int.le_refl _, by rw [h1 19 (by decide)]; exact Int.le_refl _⟩, fun i _ _ => by rw [h 142 (by decide)], fun r i hr _ _ => ?_, fun i _ _ => by rw [h 137 (by decide)], fun r i hr _ _ => ?_, fun i _ => by rw [h 129 (by decide)]⟩
  · rw [h r (fun c => by rw [c] at hr; revert hr; decide)]
  · rw [h r (fun c => by rw [c] at hr; revert hr; decide)]
/-- small steps of Q: only role 6, some fields -/
theorem OLQ_6 [Inhabited gh_] (h : ∀ r : Nat, r ≠ 6 → N1 r = N r) (h1 : ∀ i : Int, i ∉ [12, 13, 14, 15, 102, 103] → N1 6 i = N 6 i) : OLQ lb ub N N1 := by
  refine ⟨⟨fun r hr => h r (fun c => hr (by rw [c]; decide)), fun i hi => h1 i (fun c => hi (by revert c; unfold qbI; simp only [List.mem_cons, List.not_mem_nil, or_false]; omega))⟩, ⟨by rw [h1 62 (by decide)]; exact Int.le_refl _, by rw [h1 63 (by decide)]; exact Int.le_refl _, by rw [h1 75 (by decide)]; exact Int.le_refl _, by rw [h1 76 (by decide)]; exact Int.le_refl _, by rw [h1 90 (by decide)]; exact Int.le_refl _, by rw [h1 104 (by decide)]; exact Int.le_refl _⟩, fun r i hr _ _ => ?_, fun i _ _ => by rw [h 200 (by decide), h 201 (by decide)]; exact ⟨rfl, rfl⟩, fun i _ _ => by rw [h 202 (by decide)], fun r i hr _ _ => ?_, fun i _ _ => by rw [h 209 (by decide)], fun r i hr _ _ => ?_, fun i _ _ => by rw [h 227 (by decide), h 228 (by decide)]; exact ⟨rfl, rfl⟩, fun r i hr _ _ => ?_, fun i _ => by rw [h 188 (by decide), h 189 (by decide)]; exact ⟨rfl, rfl⟩⟩
  · rw [h r (fun c => by rw [c] at hr; revert hr; decide)]
  · rw [h r (fun c => by rw [c] at hr; revert hr; decide)]
  · rw [h r (fun c => by rw [c] at hr; revert hr; decide)]
  · rw [h r (fun c => by rw [c] at hr; revert hr; decide)]
theorem OLX_nX [Inhabited gh_] : OLX M (nX_ M) := OLX_1 (fun r h => nX_ne h) (fun i h => nX_1 (nm_i h (by decide)))
theorem OLX_Xn [Inhabited gh_] {b k a : Int} : OLX M (Xn_ M b k a) := OLX_1 (fun r h => Xn_r h) (fun i h => Xn_1 (nm_i h (by decide)) (nm_i h (by decide)) (nm_i h (by decide)))
theorem OLQ_nx [Inhabited gh_] : OLQ lb ub N (nx_ N) := OLQ_6 (fun r h => nx_ne h) (fun i h => nx_6 (nm_i h (by decide)))
theorem OLQ_Qn [Inhabited gh_] {b k p : Int} : OLQ lb ub N (Qn_ N b k p) := OLQ_6 (fun r h => Qn_r h) (fun i h => Qn_6 (nm_i h (by decide)) (nm_i h (by decide)))
theorem OLX_SXI [Inhabited gh_] (h : SXI M M1) : OLX M M1 := by
  obtain ⟨a1, a2, a3, a4, a5, a6⟩ := h
  refine ⟨⟨Fr_sub a1 (by decide), fun i hi => a2 i (fun c => hi (by revert c; unfold xiI xbI; simp only [List.mem_cons, List.not_mem_nil, or_false]; omega)), fun i _ h4 => a3 i h4⟩, ⟨by rw [a3 3 (by decide)]; exact Int.le_refl _, a4, by rw [a2 29 (by decide)]; exact Int.le_refl _, by rw [a2 19 (by decide)]; exact Int.le_refl _⟩, fun i _ _ => by rw [a1 142 (by decide)], fun r i hr _ y => ?_, fun i _ y => a6 i y, fun r i hr _ _ => ?_, fun i _ => by rw [a1 129 (by decide)]⟩
  · by_cases c : r = 141
    · rw [c, a1 141 (by decide)]
    · exact a5 r i (by revert hr; unfold st9L stxL; simp only [List.mem_cons, List.not_mem_nil, or_false]; omega) y
  · rw [a1 r (by revert hr; unfold txL xiL; simp only [List.mem_cons, List.not_mem_nil, or_false]; omega)]
theorem OLQ_SQI [Inhabited gh_] (h : SQI N N1) : OLQ lb ub N N1 := by
  obtain ⟨a1, a2, a4, a5, a6⟩ := h
  have e : ∀ i : Int, i = 62 ∨ i = 75 ∨ i = 76 ∨ i = 90 ∨ i = 104 → N1 6 i = N 6 i := fun i hi => a2 i (by rcases hi with c | c | c | c | c <;> rw [c] <;> decide)
  have er : ∀ r : Nat, r ∉ qiL → N1 r = N r := a1
  refine ⟨⟨Fr_sub a1 (by decide), fun i hi => a2 i (fun c => hi (by revert c; unfold qiI qbI; simp only [List.mem_cons, List.not_mem_nil, or_false]; omega))⟩, ⟨by rw [e 62 (by omega)]; exact Int.le_refl _, a4, by rw [e 75 (by omega)]; exact Int.le_refl _, by rw [e 76 (by omega)]; exact Int.le_refl _, by rw [e 90 (by omega)]; exact Int.le_refl _, by rw [e 104 (by omega)]; exact Int.le_refl _⟩, fun r i hr _ _ => ?_, fun i _ y => a5 i y, fun i _ y => a6 i y, fun r i hr _ _ => ?_, fun i _ _ => by rw [er 209 (by decide)], fun r i hr _ _ => ?_, fun i _ _ => by rw [er 227 (by decide), er 228 (by decide)]; exact ⟨rfl, rfl⟩, fun r i hr _ _ => ?_, fun i _ => by rw [er 188 (by decide), er 189 (by decide)]; exact ⟨rfl, rfl⟩⟩
  · rw [er r (by revert hr; unfold sq9L qiL; simp only [List.mem_cons, List.not_mem_nil, or_false]; omega)]
  · rw [er r (by revert hr; unfold opL qiL; simp only [List.mem_cons, List.not_mem_nil, or_false]; omega)]
  · rw [er r (by revert hr; unfold rgR qiL; simp only [List.mem_cons, List.not_mem_nil, or_false]; omega)]
  · rw [er r (by revert hr; unfold tqL qiL; simp only [List.mem_cons, List.not_mem_nil, or_false]; omega)]
end GR
end T206_gr
section T207_gr
/-! growth over lines of states: what is new (second pass) -/
def nsK (N : mm_) (k : Int) : Int := if N 193 k < 2 then N 199 k - N 198 k else 1
/-- X's first stim for Q's stim n -/
def xsf (N : mm_) : Nat → Int
  | 0 => 0
  | n + 1 => xsf N n + nsK N n
/-- Q's op k and X's step c of a type T stand at the same act of a run of ops that ends -/
def ATP (M N : mm_) (T k c : Int) : Prop := ∃ (k0 k1 c0 c1 r0 r1 fe : Int) (px : Int → Int) (L : pl_), (0 ≤ k0 ∧ k1 ≤ N 6 75) ∧ (0 ≤ c0 ∧ c1 ≤ M 5 3) ∧ (0 ≤ r0 ∧ r1 ≤ N 6 90) ∧ fe ≤ N 6 104
  ∧ (∀ k, k0 ≤ k → k ≤ k1 → c0 ≤ px k ∧ px k ≤ c1) ∧ ((∀ k, L k → k0 ≤ k ∧ k ≤ k1) ∧ ¬ L k1) ∧ (∀ k, k0 ≤ k → k < k1 → OPX M N px L T c0 c1 r0 r1 k1 fe k) ∧ px k = c ∧ L k
/-- an e of IF or WHEN -/
def ASK (M N : mm_) (T c f : Int) : Prop := ∃ c1 fe, fe ≤ N 6 104 ∧ c1 + 1 ≤ M 5 3 ∧ EXP M N T c c1 f fe 2 ∧ M 142 c1 = 25
def SRO (M N : mm_) (k y i : Int) : Prop := (N 193 k ≠ 1 → ATP M N (N 192 k) (N 197 k) (M 141 y)) ∧ (N 193 k = 0 → (N 196 k = -1 ∧ M 139 y = -1) ∨ ASK M N (N 192 k) (M 139 y) (N 196 k)) ∧ (N 193 k = 2 → ASK M N (N 192 k) (M 139 y) (N 196 k) ∧ M 140 y = N 195 k) ∧ (N 193 k < 2 → RWI M N (N 192 k) y i)
/-- X's trans x and Q's trans me -/
def TRW (M N : mm_) (T l0 x me : Int) : Prop := N 211 me = T ∧ ((M 66 x = -1 ∧ N 215 me ≠ 0) ∨ (M 66 x ≠ -1 ∧ N 215 me = 0 ∧ MB (M 123 T) (M 66 x) (N 212 me))) ∧ (M 63 x = N 213 me ∧ 0 ≤ M 63 x ∧ M 63 x < wM (M 123 T)) ∧ (M 65 x = N 214 me ∧ 0 ≤ M 65 x ∧ M 65 x < 1024) ∧ (0 ≤ M 64 x ∧ M 64 x < 1024) ∧ ∀ l, 0 ≤ l → l < 10 → (bt_ (M 64 x) l ↔ l0 ≤ l ∧ l < M 1 19 ∧ N 189 (10 * T + l) = me)
def GTB (Mx Mq M N : mm_) : Prop := (0 ≤ Mx 1 22 ∧ Mx 1 22 < 1048576) → (0 ≤ M 1 22 ∧ M 1 22 < 1048576) ∧ ∀ s, 0 ≤ s → s < 20 → (bt_ (M 1 22) s ↔ bt_ (Mx 1 22) s ∨ ∃ k i, (Mq 6 62 ≤ k ∧ k < N 6 62) ∧ N 193 k = 0 ∧ (N 198 k ≤ i ∧ i < N 199 k) ∧ N 200 i = s)
def NWF (Mx Mq M N : mm_) : Prop := (∀ k, Mq 6 62 ≤ k → k < N 6 62 → ∀ j, 0 ≤ j → j < nsK N k → SRO M N k (xsf N k.toNat + j) (N 198 k + j))
  ∧ (∀ l, Mx 1 19 ≤ l → l < M 1 19 → ATP M N (Mx 1 18) (N 188 (10 * Mx 1 18 + l)) (M 129 (10 * Mx 1 18 + l)) ∧ Mq 6 76 ≤ N 189 (10 * Mx 1 18 + l) ∧ N 189 (10 * Mx 1 18 + l) < N 6 76)
  ∧ (∀ x, Mx 1 29 ≤ x → x < M 1 29 → TRW M N (Mx 1 18) (Mx 1 19) x (Mq 6 76 + (x - Mx 1 29))) ∧ SBS Mx M N (Mq 6 75) (N 6 75) ∧ GTB Mx Mq M N
/-- Q's stims are closed and in order -/
def SCL (M N : mm_) : Prop := (0 ≤ N 6 62 ∧ 0 ≤ N 6 63 ∧ 0 ≤ N 6 75 ∧ 0 ≤ N 6 76 ∧ 0 ≤ M 1 29 ∧ 0 ≤ M 1 19) ∧ (∀ k, 0 ≤ k → k < N 6 62 → 0 ≤ N 198 k ∧ N 198 k ≤ N 199 k ∧ N 199 k ≤ N 6 63) ∧ xsf N (N 6 62).toNat = M 5 4
def PRS (b : Int) (Mx Mq M N : mm_) : Prop := b = 1 → OLD Mx Mq M N ∧ M 1 29 - Mx 1 29 = N 6 76 - Mq 6 76 ∧ (N 6 13 = 0 → Mq 6 13 = 0 ∧ NWF Mx Mq M N)
section GS
variable {b : Int} {M N M1 N1 M2 N2 Mx Mq : mm_} {lb ub T k c y i x me f : Int}
theorem OLQ_tc [Inhabited gh_] (q : OLQ lb ub N N1) : tc_ T N N1 := by
  have f := q.1.1
  have g := q.1.2
  exact ⟨⟨f 171 (by decide), f 173 (by decide), f 182 (by decide), f 183 (by decide), f 184 (by decide)⟩, f 156 (by decide), f 157 (by decide), f 170 (by decide), f 174 (by decide), by rw [f 175 (by decide)], g 17 (by decide), g 18 (by decide), g 19 (by decide)⟩
theorem ATP_g [Inhabited gh_] (h : ATP M N T k c) (m : M 5 3 ≤ M1 5 3) (a4 : ∀ i, 0 ≤ i → i < M 5 3 → M1 142 i = M 142 i) (q : OLQ lb ub N N1) : ATP M1 N1 T k c := by
  obtain ⟨k0, k1, c0, c1, r0, r1, fe, px, L, h1, h2, h3, h4, h5, h6, h7, h8⟩ := h
  have tc := OLQ_tc (T := T) q
  obtain ⟨_, n, a3, _, _, a6, a7, a8, a9, _⟩ := q
  refine ⟨k0, k1, c0, c1, r0, r1, fe, px, L, by omega, by omega, by omega, by omega, h5, h6, fun k x y => ?_, h8⟩
  exact OPX_c (h7 k x y) (Int.le_refl _) (Int.le_refl _) (Int.le_refl _) (Int.le_refl _) (Int.le_refl _) y (fun i p q => h5 i (by omega) q) (fun _ _ _ => rfl) (fun _ h => h) (fun h => h) (fun i p q => a4 i (by omega) (by omega)) (fun i p q => ⟨a8 216 i (by decide) (by omega) (by omega), a8 217 i (by decide) (by omega) (by omega), a8 218 i (by decide) (by omega) (by omega), a8 219 i (by decide) (by omega) (by omega)⟩) (fun r hr => a6 r k hr (by omega) (by omega)) (fun i p q => a7 i (by omega) (by omega)) (fun i p q => a9 i p (by omega)) tc (Int.le_refl _)
theorem ATP_c [Inhabited gh_] (h : ATP M N T k c) (o : OLX M M1) (q : OLQ lb ub N N1) : ATP M1 N1 T k c := ATP_g h o.2.1.1 o.2.2.1 q
theorem ASK_g [Inhabited gh_] (h : ASK M N T c f) (m : M 5 3 ≤ M1 5 3) (a4 : ∀ i, 0 ≤ i → i < M 5 3 → M1 142 i = M 142 i) (q : OLQ lb ub N N1) : ASK M1 N1 T c f := by
  obtain ⟨c1, fe, h1, h2, h3, h4⟩ := h
  have tc := (OLQ_tc (T := T) q).1
  obtain ⟨_, n, a3, _, _, a6, a7, a8, a9, _⟩ := q
  obtain ⟨l, e1, e2, e3, e4, e5, e6, e7⟩ := id h3
  exact ⟨c1, fe, by omega, by omega, EXP_c h3 (fun i p q => a4 i (by omega) (by omega)) (fun i p q => a9 i (by omega) (by omega)) tc (Int.le_refl _), by rw [a4 c1 (by omega) (by omega)]; exact h4⟩
theorem ASK_c [Inhabited gh_] (h : ASK M N T c f) (o : OLX M M1) (q : OLQ lb ub N N1) : ASK M1 N1 T c f := ASK_g h o.2.1.1 o.2.2.1 q
theorem RWI_o [Inhabited gh_] (h : RWI M N T c i) (o : OLX M M1) (q : OLQ lb ub N N1) (hc : 0 ≤ c ∧ c < M 5 4) (hi : 0 ≤ i ∧ i < N 6 63) : RWI M1 N1 T c i := by
  obtain ⟨h0, h1, h2, h3, h4⟩ := h
  obtain ⟨_, m, a4, a5, a6, _⟩ := o
  obtain ⟨⟨f, _⟩, n, b3, b4, b5, _⟩ := q
  have u : UQI M1 c := fun y y0 y1 => by
    rw [a5 134 y (by decide) y0 (by omega), a5 133 y (by decide) y0 (by omega), a5 136 y (by decide) y0 (by omega), a5 135 y (by decide) y0 (by omega), a5 134 c (by decide) hc.1 hc.2, a5 136 c (by decide) hc.1 hc.2, a5 135 c (by decide) hc.1 hc.2]
    exact h0 y y0 y1
  unfold RWI
  rw [(b4 i hi.1 hi.2).1, (b4 i hi.1 hi.2).2, a5 138 c (by decide) hc.1 hc.2, f 171 (by decide), f 184 (by decide), f 183 (by decide), f 156 (by decide), f 157 (by decide), f 182 (by decide)]
  exact ⟨u, h1, h2, h3, fun v x y => by rw [a6 _ (by omega) (by omega), b5 _ (by omega) (by omega)]; exact h4 v x y⟩
theorem SRO_c [Inhabited gh_] (h : SRO M N k y i) (o : OLX M M1) (q : OLQ lb ub N N1) (hk : 0 ≤ k ∧ k < N 6 62) (hy : 0 ≤ y ∧ y < M 5 4) (hi : N 193 k < 2 → 0 ≤ i ∧ i < N 6 63) : SRO M1 N1 k y i := by
  have b3 := q.2.2.1
  have a5 := o.2.2.2.1
  obtain ⟨h1, h2, h3, h4⟩ := h
  unfold SRO
  rw [b3 193 k (by decide) hk.1 hk.2, b3 192 k (by decide) hk.1 hk.2, b3 197 k (by decide) hk.1 hk.2, b3 196 k (by decide) hk.1 hk.2, b3 195 k (by decide) hk.1 hk.2, a5 141 y (by decide) hy.1 hy.2, a5 139 y (by decide) hy.1 hy.2, a5 140 y (by decide) hy.1 hy.2]
  refine ⟨fun e => ATP_c (h1 e) o q, fun e => ?_, fun e => ⟨ASK_c (h3 e).1 o q, (h3 e).2⟩, fun e => RWI_o (h4 e) o q hy (hi e)⟩
  rcases h2 e with h | h
  · exact .inl h
  · exact .inr (ASK_c h o q)
theorem nsK_c [Inhabited gh_] (q : OLQ lb ub N N1) (hk : 0 ≤ k ∧ k < N 6 62) : nsK N1 k = nsK N k := by
  have b3 := q.2.2.1
  unfold nsK
  rw [b3 193 k (by decide) hk.1 hk.2, b3 198 k (by decide) hk.1 hk.2, b3 199 k (by decide) hk.1 hk.2]
theorem xsf_c [Inhabited gh_] (q : OLQ lb ub N N1) : ∀ n : Nat, (n : Int) ≤ N 6 62 → xsf N1 n = xsf N n
  | 0, _ => rfl
  | n + 1, h => by
    show xsf N1 n + nsK N1 n = xsf N n + nsK N n
    rw [xsf_c q n (by omega), nsK_c q ⟨by omega, by omega⟩]
theorem nsK_0 [Inhabited gh_] (h : SCL M N) (hk : 0 ≤ k ∧ k < N 6 62) : 0 ≤ nsK N k := by
  have := h.2.1 k hk.1 hk.2
  unfold nsK; split <;> omega
theorem xsf_m [Inhabited gh_] (h : SCL M N) : ∀ n : Nat, (n : Int) ≤ N 6 62 → 0 ≤ xsf N n ∧ ∀ m : Nat, m ≤ n → xsf N m ≤ xsf N n
  | 0, _ => ⟨Int.le_refl _, fun m hm => by rw [show m = 0 by omega]; exact Int.le_refl _⟩
  | n + 1, hn => by
    obtain ⟨r1, r2⟩ := xsf_m h n (by omega)
    have n0 := nsK_0 h (k := (n : Int)) ⟨by omega, by omega⟩
    have e : xsf N (n + 1) = xsf N n + nsK N n := rfl
    refine ⟨by omega, fun m hm => ?_⟩
    by_cases c : m = n + 1
    · rw [c]; exact Int.le_refl _
    · have := r2 m (by omega); omega
theorem xsf_lt [Inhabited gh_] (h : SCL M N) {j : Int} (hk : 0 ≤ k ∧ k < N 6 62) (hj : 0 ≤ j ∧ j < nsK N k) : 0 ≤ xsf N k.toNat + j ∧ xsf N k.toNat + j < M 5 4 := by
  have r1 := (xsf_m h k.toNat (by omega)).1
  have r2 := (xsf_m h (N 6 62).toNat (by omega)).2 (k.toNat + 1) (by omega)
  have e : xsf N (k.toNat + 1) = xsf N k.toNat + nsK N k := by
    show xsf N k.toNat + nsK N (k.toNat : Int) = _
    rw [show ((k.toNat : Nat) : Int) = k by omega]
  rw [h.2.2] at r2
  omega
theorem TRW_c [Inhabited gh_] {l0 : Int} (h : TRW M N T l0 x me) (o : OLX M M1) (q : OLQ (10 * M 1 18 + M 1 19) (10 * M 1 18 + 10) N N1) (hx : 0 ≤ x ∧ x < M 1 29) (hm : 0 ≤ me ∧ me < N 6 76) (hT : T = M 1 18) (hl : ∀ l, M 1 19 ≤ l → l < M1 1 19 → N 6 76 ≤ N1 189 (10 * M 1 18 + l)) (h19 : 0 ≤ M 1 19) : TRW M1 N1 T l0 x me := by
  obtain ⟨h1, h2, h3, h4, h5, h6⟩ := h
  have a7 := o.2.2.2.2.2.1
  have a1 := o.1.1
  have m4 := o.2.1.2.2.2
  have b10 := q.2.2.2.2.2.2.2.2.2.1
  have b11 := q.2.2.2.2.2.2.2.2.2.2
  unfold TRW
  rw [b10 211 me (by decide) hm.1 hm.2, b10 215 me (by decide) hm.1 hm.2, b10 212 me (by decide) hm.1 hm.2, b10 213 me (by decide) hm.1 hm.2, b10 214 me (by decide) hm.1 hm.2, a7 66 x (by decide) hx.1 hx.2, a7 63 x (by decide) hx.1 hx.2, a7 65 x (by decide) hx.1 hx.2, a7 64 x (by decide) hx.1 hx.2, a1 123 (by decide)]
  refine ⟨h1, h2, h3, h4, h5, fun l z0 z1 => ?_⟩
  rw [h6 l z0 z1]
  by_cases c : l < M 1 19
  · rw [(b11 (10 * T + l) (.inl (by omega))).2]
    exact ⟨fun e => ⟨e.1, by omega, e.2.2⟩, fun e => ⟨e.1, c, e.2.2⟩⟩
  · constructor
    · exact fun e => absurd e.2.1 c
    · intro e
      have := hl l (by omega) e.2.1
      rw [← hT, e.2.2] at this
      omega
end GS
end T207_gr
section T208_gr
/-! growth over lines of states: transitive -/
section GT2
variable {b F : Int} {M N M1 N1 M2 N2 Mx Mq : mm_} {lb ub T k c y i x me f a mask ee : Int}
theorem SRW_x [Inhabited gh_] {xs : Int → Int} (h : SRW M N xs) (hl : 0 < N 6 62 → N 199 (N 6 62 - 1) = N 6 63) : ∀ n : Nat, (n : Int) ≤ N 6 62 → xs n = xsf N n
  | 0, _ => h.1.2.1
  | n + 1, hn => by
    have r := SRW_x h hl n (by omega)
    have e := (h.2 (n : Int) (by omega) (by omega)).1
    rw [show ((n + 1 : Nat) : Int) = (n : Int) + 1 by omega, e, r]
    show xsf N n + nSt N n = xsf N n + nsK N n
    have : nSt N (n : Int) = nsK N (n : Int) := by
      unfold nSt nsK agT
      by_cases c : (n : Int) = N 6 62 - 1
      · rw [if_pos c, c, hl (by omega)]
      · rw [if_neg c]
    rw [this]
theorem SS_SCL [Inhabited gh_] (h : SS b F M N a mask ee) (hb : b = 1) : SCL M N := by
  obtain ⟨h1, ⟨s1, s2, s3⟩, hm, h4⟩ := h
  obtain ⟨⟨xs, hs⟩, hl, hmb⟩ := h4 hb
  refine ⟨⟨s2.1, s3.1, h1.1.2.2.2.1.1, h1.2.2.2.2.1.2.1, h1.2.2.2.2.1.1.1, h1.2.2.2.2.2.2.2.2.1⟩, fun k k0 k1 => ?_, ?_⟩
  · have r := (hs.2 k k0 k1).2.2.2.1
    have e : agT N k = N 199 k := by
      unfold agT
      by_cases c : k = N 6 62 - 1
      · rw [if_pos c, c, hl (by omega)]
      · rw [if_neg c]
    rw [e] at r
    exact r
  · rw [← SRW_x hs hl _ (by omega), show (((N 6 62).toNat : Nat) : Int) = N 6 62 by omega]; exact hs.1.2.2
theorem SBS_tr [Inhabited gh_] {k0 k1 k2 : Int} (h01 : k0 ≤ k1) (h12 : k1 ≤ k2) (hk : ∀ i, k0 ≤ i → i < k1 → N2 203 i = N1 203 i ∧ N2 205 i = N1 205 i) (h1 : SBS Mx M1 N1 k0 k1) (h2 : SBS M1 M2 N2 k1 k2) : SBS Mx M2 N2 k0 k2 := by
  have aux : ∀ w s : Int, (∃ k, (k0 ≤ k ∧ k < k2) ∧ N2 203 k = w ∧ N2 205 k = s) ↔ ((∃ k, (k0 ≤ k ∧ k < k1) ∧ N1 203 k = w ∧ N1 205 k = s) ∨ ∃ k, (k1 ≤ k ∧ k < k2) ∧ N2 203 k = w ∧ N2 205 k = s) := fun w s => by
    constructor
    · rintro ⟨k, hk', e1, e2⟩
      by_cases c : k < k1
      · exact .inl ⟨k, ⟨hk'.1, c⟩, by rw [← (hk k hk'.1 c).1]; exact e1, by rw [← (hk k hk'.1 c).2]; exact e2⟩
      · exact .inr ⟨k, ⟨by omega, hk'.2⟩, e1, e2⟩
    · rintro (⟨k, hk', e1, e2⟩ | ⟨k, hk', e1, e2⟩)
      · exact ⟨k, ⟨hk'.1, by omega⟩, by rw [(hk k hk'.1 hk'.2).1]; exact e1, by rw [(hk k hk'.1 hk'.2).2]; exact e2⟩
      · exact ⟨k, ⟨by omega, hk'.2⟩, e1, e2⟩
  refine ⟨fun s s0 s1 => ?_, fun s s0 s1 => ?_⟩
  · rw [h2.1 s s0 s1, h1.1 s s0 s1, aux 2 s, or_assoc]
  · rw [h2.2 s s0 s1, h1.2 s s0 s1, aux 5 s, or_assoc]
theorem GTB_tr [Inhabited gh_] (q : OLQ lb ub N1 N2) (h0 : 0 ≤ Mq 6 62) (hm : Mq 6 62 ≤ N1 6 62) (hc : ∀ k, 0 ≤ k → k < N1 6 62 → 0 ≤ N1 198 k ∧ N1 199 k ≤ N1 6 63) (h1 : GTB Mx Mq M1 N1) (h2 : GTB M1 N1 M2 N2) : GTB Mx Mq M2 N2 := fun hg => by
  obtain ⟨e1, e2⟩ := h1 hg
  obtain ⟨f1, f2⟩ := h2 e1
  have b3 := q.2.2.1
  have b4 := q.2.2.2.1
  have m := q.2.1.1
  refine ⟨f1, fun s s0 s1 => ?_⟩
  rw [f2 s s0 s1, e2 s s0 s1]
  constructor
  · rintro ((h | ⟨k, i, hk, h3, hi, hs⟩) | ⟨k, i, hk, h3, hi, hs⟩)
    · exact .inl h
    · have := hc k (by omega) hk.2
      exact .inr ⟨k, i, ⟨hk.1, by omega⟩, by rw [b3 193 k (by decide) (by omega) hk.2]; exact h3, by rw [b3 198 k (by decide) (by omega) hk.2, b3 199 k (by decide) (by omega) hk.2]; exact hi, by rw [(b4 i (by omega) (by omega)).1]; exact hs⟩
    · exact .inr ⟨k, i, ⟨by omega, hk.2⟩, h3, hi, hs⟩
  · rintro (h | ⟨k, i, hk, h3, hi, hs⟩)
    · exact .inl (.inl h)
    · by_cases c : k < N1 6 62
      · have := hc k (by omega) c
        rw [b3 193 k (by decide) (by omega) c] at h3
        rw [b3 198 k (by decide) (by omega) c, b3 199 k (by decide) (by omega) c] at hi
        rw [(b4 i (by omega) (by omega)).1] at hs
        exact .inl (.inr ⟨k, i, ⟨hk.1, c⟩, h3, hi, hs⟩)
      · exact .inr ⟨k, i, ⟨by omega, hk.2⟩, h3, hi, hs⟩
theorem NWF_tr [Inhabited gh_] (s0 : SCL Mx Mq) (s1 : SCL M1 N1) (o1 : OLD Mx Mq M1 N1) (e1 : M1 1 29 - Mx 1 29 = N1 6 76 - Mq 6 76) (o2 : OLD M1 N1 M2 N2) (h1 : NWF Mx Mq M1 N1) (h2 : NWF M1 N1 M2 N2) : NWF Mx Mq M2 N2 := by
  obtain ⟨a1, a2, a3, a4, a5⟩ := h1
  obtain ⟨b1, b2, b3, b4, b5⟩ := h2
  have q3 := o2.2.2.2.1
  have e18 : M1 1 18 = Mx 1 18 := o1.1.1.2.1 18 (by decide)
  have m1 := o1.2.2.1
  have mx := o1.1.2.1
  have m2 := o2.2.2.1
  have q11 := o2.2.2.2.2.2.2.2.2.2.2.2
  have x8 := o2.1.2.2.2.2.2.2
  have z0 := s0.1
  have z1 := s1.1
  rw [e18] at b2 b3 x8 q11
  refine ⟨fun k k0 k1 j j0 j1 => ?_, fun l l0 l1 => ?_, fun x x0 x1 => ?_, SBS_tr m1.2.2.1 m2.2.2.1 (fun i p q => ?_) a4 b4, GTB_tr o2.2 z0.1 m1.1 (fun k k0 k1 => ?_) a5 b5⟩
  · by_cases c : k < N1 6 62
    · have hk : 0 ≤ k ∧ k < N1 6 62 := ⟨by omega, c⟩
      rw [nsK_c o2.2 hk] at j1
      have y := xsf_lt s1 hk ⟨j0, j1⟩
      rw [xsf_c o2.2 _ (by omega), q3 198 k (by decide) hk.1 hk.2]
      refine SRO_c (a1 k k0 c j j0 j1) o2.1 o2.2 hk y (fun e => ?_)
      have r := s1.2.1 k hk.1 hk.2
      unfold nsK at j1; rw [if_pos e] at j1
      omega
    · exact b1 k (by omega) k1 j j0 j1
  · by_cases c : l < M1 1 19
    · have := a2 l l0 c
      rw [(q11 (10 * Mx 1 18 + l) (.inl (by omega))).1, (q11 (10 * Mx 1 18 + l) (.inl (by omega))).2, x8 (10 * Mx 1 18 + l) (.inl (by omega))]
      exact ⟨ATP_c this.1 o2.1 o2.2, this.2.1, by omega⟩
    · have := b2 l (by omega) l1
      exact ⟨this.1, by omega, this.2.2⟩
  · by_cases c : x < M1 1 29
    · refine TRW_c (a3 x x0 c) o2.1 o2.2 ⟨by omega, c⟩ ⟨by omega, by omega⟩ e18.symm (fun l l0 l1 => ?_) (by omega)
      rw [e18]
      exact (b2 l l0 l1).2.1
    · have := b3 x (by omega) x1
      rw [show N1 6 76 + (x - M1 1 29) = Mq 6 76 + (x - Mx 1 29) by omega] at this
      obtain ⟨t1, t2, t3, t4, t5, t6⟩ := this
      refine ⟨t1, t2, t3, t4, t5, fun l z0 z1 => ?_⟩
      rw [t6 l z0 z1]
      refine ⟨fun e => ⟨by omega, e.2⟩, fun e => ⟨?_, e.2⟩⟩
      by_cases cl : M1 1 19 ≤ l
      · exact cl
      · have r := (a2 l e.1 (by omega)).2.2
        have e9 := e.2.2
        rw [(q11 (10 * Mx 1 18 + l) (.inl (by omega))).2] at e9
        omega
  · have q6 := o2.2.2.2.2.2.2.1
    exact ⟨q6 203 i (by decide) (by omega) (by omega), q6 205 i (by decide) (by omega) (by omega)⟩
  · have := s1.2.1 k k0 k1; omega
theorem PRS_tr [Inhabited gh_] (s0 : b = 1 → SCL Mx Mq) (s1 : b = 1 → SCL M1 N1) (h1 : PRS b Mx Mq M1 N1) (h2 : PRS b M1 N1 M2 N2) : PRS b Mx Mq M2 N2 := fun hb => by
  obtain ⟨o1, e1, n1⟩ := h1 hb
  obtain ⟨o2, e2, n2⟩ := h2 hb
  refine ⟨OLD_tr o1 o2, by omega, fun hz => ?_⟩
  obtain ⟨z2, f2⟩ := n2 hz
  obtain ⟨z1, f1⟩ := n1 z2
  exact ⟨z1, NWF_tr (s0 hb) (s1 hb) o1 e1 o2 f1 f2⟩
theorem NWF_rf [Inhabited gh_] : NWF M N M N := ⟨fun k a b => by omega, fun l a b => by omega, fun x a b => by omega, ⟨fun s _ _ => ⟨fun h => .inl h, fun h => by
  rcases h with h | ⟨k, h, _⟩
  · exact h
  · omega⟩, fun s _ _ => ⟨fun h => .inl h, fun h => by
  rcases h with h | ⟨k, h, _⟩
  · exact h
  · omega⟩⟩, fun h => ⟨h, fun s _ _ => ⟨fun h => .inl h, fun h => by
  rcases h with h | ⟨k, i, h, _⟩
  · exact h
  · omega⟩⟩⟩
theorem PRS_rf [Inhabited gh_] : PRS b M N M N := fun _ => ⟨OLD_rf, by omega, fun h => ⟨h, NWF_rf⟩⟩
end GT2
end T208_gr

section T112_la
/-! the last of a part: join, X and Q in step -/
section LJ
variable {d dq n : Nat} {b F : Int} {Mx Mq MX MQ Mx1 Mq1 Mx2 Mq2 M : mm_} {a a1 o o1 s z me : Int} {K : Int → mm_ → Prop} {Kv G : mm_ → Prop} {Qt : qt_} {V : vv_}
theorem y_140j [Inhabited gh_] (h : TA b F Mx Mq a o) (h9 : lbl9 Mx Mq) (htr : 1 ≤ Mx 1 29 ∧ Mx 1 29 ≤ 600) (hm : 0 ≤ me ∧ me < 1300) (hk : Mx 70 a = 13) (hS : b = 1 → laS (Mx 70) a ≠ none)
    (hK : ∀ MX MQ Mx' Mq' a', LM b Mx Mq me MX MQ → AR b F MX MQ Mx' Mq' a a' o 10 0 → laS (Mx 70) a = some a' → (∀ (Kv : mm_ → Prop) (Qtq : qt_), Kv Mq' → Tr_ wd0 pg0 (dq + 6) 264 [.inr (.inr 6), .inl me] Mq (rv_ Kv) Qtq) → Kv Mx')
    (hQ : b = 0 → ∀ Mx', XA Mx Mx' → (∀ (Kv : mm_ → Prop) (Qtq : qt_), (∀ M', SQ Mx' Mq M' → Kv M') → Tr_ wd0 pg0 (dq + 6) 264 [.inr (.inr 6), .inl me] Mq (rv_ Kv) Qtq) → Qt 8 Mx') :
    Tr_ wd0 pg0 (d + 7) 140 [.inr (.inr 1)] Mx (rv_ Kv) Qt := by
  have hsyn : laS (Mx 70) a = (gS a).bind fun a1 => (tS (Mx 70) 100 a1).bind (tS (Mx 70) 259) := by
    unfold laS; rw [if_neg (by (clear h h9 htr hm hS hK hQ; lia)), if_pos hk]
    cases gS a with
    | none => rfl
    | some a1 => rfl
  rw [hsyn] at hS
  have A0 := AM_rf h
  have hE := AM_E A0
  have hT := AM_T A0
  have h01 := hE.2.2.2.2.2.2.2.2.1
  have hc := h.2.2.2.1
  have hae := ER_a hE
  have hp0 : Mq 150 (Mq 6 12) = Mx 71 a := (ER_k hT hE).2.1
  refine t_140 fun V hV hW => b_140_0 (Tr_mono _) hV hW Mx ?_
  refine y_103 hE (fun e => by (clear h h9 htr hm hS hK hQ hsyn A0 hE hT h01 hc hae hp0 hV hW; lia)) (fun _ => ?_)
  rw [if_pos rfl]
  refine y_103 hE (fun _ => ?_) (fun e => absurd hk e)
  rw [if_neg (by decide)]
  refine y_105 hE (by (clear h h9 htr hm hS hK hQ hsyn A0 hE hT h01 hc hae hp0 hV hW; omega)) (fun hb => by intro c; have := hS hb; rw [c] at this; exact this rfl) (fun h12 hE1 => ?_) (fun hb h12 => ?_)
  rotate_left
  · refine hQ hb _ (XF_XA fl_XF) fun Kv Qtq hk9 => ?_
    have hsp := SQ_bf hE hb (k := 2) (by decide) QA_rf
    refine t_264 fun V hV hW => b_264_0 (Tr_mono _) hV hW me Mq ⟨(ER_k hT hE).2.2.1, j_228f hT hE (by decide) (by (clear h h9 htr hm hS hK hQ hsyn A0 hE hT h01 hc hae hp0 hb h12 hk9 hsp hV hW; omega)) ?_⟩
    rw [if_pos rfl]
    refine j_228f hT hE (by decide) (by omega) ?_
    rw [if_pos rfl]
    refine j_228r hT hE hb (by decide) hk h12 ?_
    rw [if_neg (by decide)]
    refine q_233s hsp.1 ?_
    refine q_227s hsp.1 ?_
    rw [if_neg (by decide)]
    exact rv_i (hk9 _ hsp)
  have A1 := AM_go A0 hE1
  have e70 := AM_70 A1
  rw [gS_e h12, Option.bind_some] at hS
  refine y_107 hE1 (fun hb => by rw [e70]; intro e; rw [e] at hS; exact hS hb rfl) (fun k1 h13 hE2 => ?_) (fun hb k1 h13 => ?_) (fun hb k1 => ?_)
  rotate_left
  · refine hQ hb _ (XA_tr (XC_XA (AM_X A1)) (XF_XA fl_XF)) fun Kv Qtq hk9 => ?_
    have hsp := SQ_bf hE1 hb (k := 2) (by decide) (QC_QA (AM_Q A1))
    refine t_264 fun V hV hW => b_264_0 (Tr_mono _) hV hW me Mq ⟨(ER_k hT hE).2.2.1, j_228f hT hE (by decide) (by omega) ?_⟩
    rw [if_pos rfl]
    refine j_228f hT hE (by decide) (by omega) ?_
    rw [if_pos rfl]
    refine j_228t hT hE (by decide) hk h12 ?_
    rw [if_neg (by decide)]
    refine j_233r (AM_T A1) hE1 hb k1 h13 ?_
    refine q_227s hsp.1 ?_
    rw [if_neg (by decide)]
    exact rv_i (hk9 _ hsp)
  · refine hQ hb _ (XA_tr (XC_XA (AM_X A1)) (XF_XA fl_XF)) fun Kv Qtq hk9 => ?_
    have hsp := SQ_bf hE1 hb (k := 1) (by decide) (QC_QA (AM_Q A1))
    refine t_264 fun V hV hW => b_264_0 (Tr_mono _) hV hW me Mq ⟨(ER_k hT hE).2.2.1, j_228f hT hE (by decide) (by omega) ?_⟩
    rw [if_pos rfl]
    refine j_228f hT hE (by decide) (by omega) ?_
    rw [if_pos rfl]
    refine j_228t hT hE (by decide) hk h12 ?_
    rw [if_neg (by decide)]
    refine j_233w (AM_T A1) hE1 hb k1 ?_
    refine q_227s hsp.1 ?_
    rw [if_neg (by decide)]
    exact rv_i (hk9 _ hsp)
  have A2 := AM_go A1 hE2
  have hT2 := AM_T A2
  have hV2 := AM_V A2
  have k1' : Mx 70 (a + 1) = 100 := by rw [← e70]; exact k1
  have hg1 : gd_ Mx (a + 1) := gd_c e70.symm hE1.1
  have hnm : nm9_ (nX_ (nX_ Mx)) (a + 1) := ⟨gd_c (AM_70 A2) hg1, by rw [AM_70 A2]; exact k1'⟩
  rw [tS_e k1' h13, Option.bind_some] at hS
  have hend : laS (Mx 70) a = tS (Mx 70) 259 (a + 1 + 1) := by rw [hsyn, gS_e h12, Option.bind_some, tS_e k1' h13, Option.bind_some]
  obtain ⟨l, hl⟩ : ∃ l, l = lbl Mq (Mq 151 (a + 1)) := ⟨_, rfl⟩
  have hlr := lbl_r (AM_V A0) h9 (v := Mq 151 (a + 1))
  rw [← hl] at hlr
  have h8 : nX_ (nX_ Mx) 1 8 = b := hE2.2.2.2.2.2.2.1
  have pre := fun (Kv : mm_ → Prop) (Qtq : qt_) hq => q_264j (me := me) (dq := dq) (Kv := Kv) (Qt := Qtq) h h9 hk h12 hE1 k1' h13 hE2 hl hm hq
  have q75 : nx_ (nx_ Mq) 6 75 = Mq 6 75 := by rw [nx_6 (by decide), nx_6 (by decide)]
  have x53 : nX_ (nX_ Mx) 5 3 = Mx 5 3 := by rw [nX_ne (by decide), nX_ne (by decide)]
  intro _
  rw [h8]
  rcases h01 with hb | hb
  · -- the first pass
    rw [if_pos hb]
    rw [if_pos (.inl hb)] at pre
    unfold Qn_ at pre
    rw [if_pos (.inl hb)] at pre
    have A3 := AM_up (r := 205) (v := l) (AM_em (w := 10) (p := Mx 71 a) A2 q75) (by decide) (rfl : Mq 6 75 = Mq 6 75)
    refine y_endl (d2 := dq + 2) (Mx := Mx) (Mq := Mq) (me := me) (.inl ⟨rfl, rfl⟩) A3 hS pre (by omega) (by omega) (by rw [up_ne (by decide), em_75, q75]) (by (clear h h9 htr hm hk hS hK hQ hsyn A0 hE hT hc hae hp0 hV hW h12 hE1 A1 e70 k1 h13 hE2 A2 hT2 hV2 k1' hg1 hnm hend hl hlr h8 pre q75 x53 hb A3; lia)) ⟨by rw [up_ne (by decide), ← q75, em_204], by rw [up_ne (by decide), ← q75, em_203], fun h => absurd h (by decide)⟩ (fun hb1 => by (clear h h9 htr hm hk hS hK hQ hsyn A0 hE hT hc hae hp0 hV hW h12 hE1 A1 e70 k1 h13 hE2 A2 hT2 hV2 k1' hg1 hnm hend hl hlr h8 pre q75 x53 A3; lia)) (fun MX MQ Mx' Mq' a' hL hA hs hq => rv_i (hK MX MQ Mx' Mq' a' hL hA (by rw [hend]; exact hs) hq)) hQ
  · -- the second
    rw [if_neg (by (clear h h9 htr hm hk hS hK hQ hsyn A0 hE hT hc hae hp0 hV hW h12 hE1 A1 e70 k1 h13 hE2 A2 hT2 hV2 k1' hg1 hnm hend hl hlr h8 pre q75 x53; lia))]
    have h18 : nX_ (nX_ Mx) 1 18 = Mq 6 61 := by rw [nX_1 (by decide), nX_1 (by decide)]; exact h.2.1.2.1.symm
    have hT0 : 0 ≤ Mq 6 61 ∧ Mq 6 61 < 6 := by rw [h.2.1.2.1]; exact ⟨h.2.1.2.2.1, h.2.1.2.2.2.1⟩
    have hl10 : Mq 175 (Mq 6 61) ≤ 10 := by rw [h.2.1.2.1, h9.1.2.2]; exact h9.1.2.1
    refine ⟨hV2.1, by rw [h18]; exact hT0, x_113R hT2 hV2 (lbl9_c (AM_X A2) (AM_Q A2) h9) hnm ?_⟩
    rw [show nx_ (nx_ Mq) 151 = Mq 151 by rw [nx_ne (by decide), nx_ne (by decide)], lbl_c (AM_Q A2), ← hl]
    by_cases cl : l = -1
    · -- no such label
      rw [if_pos cl]
      rw [if_pos (.inr (by omega))] at pre
      have e4 : k4g_ l = 4 := by unfold k4g_; rw [if_pos cl]
      rw [e4] at pre
      obtain ⟨A3, hz3⟩ := AM_m (k := 4) (tk := a + 1) A2 (by (clear h h9 htr hm hk hS hK hQ hsyn A0 hE hT hc hae hp0 hV hW h12 hE1 A1 e70 k1 h13 hE2 A2 hT2 hV2 k1' hg1 hnm hend hl hlr h8 pre q75 x53 hb h18 hT0 hl10 cl e4; omega)) hg1 (by omega)
      have eX : Xn_ (nX_ (nX_ Mx)) b 4 (a + 1) = nt1_ (nX_ (nX_ Mx)) 4 (a + 1) := by unfold Xn_; rw [if_neg (by (clear h h9 htr hm hk hS hK hQ hsyn A0 hE hT hc hae hp0 hV hW h12 hE1 A1 e70 k1 h13 hE2 A2 hT2 hV2 k1' hg1 hnm hend hl hlr h8 pre q75 x53 h18 hT0 hl10 cl e4 A3 hz3; lia))]
      refine x_116 (by omega) (by (clear h h9 htr hm hk hS hK hQ hsyn A0 hE hT hc hp0 hV hW hE1 A1 e70 k1 hE2 A2 hT2 hV2 k1' hg1 hnm hend hl hlr h8 pre q75 x53 hb h18 hT0 hl10 cl e4 A3 hz3 eX; omega)) (ER_fl hE2).1 (ER_fl hE2).2 ?_
      rw [← eX]
      generalize hX3 : Xn_ (nX_ (nX_ Mx)) b 4 (a + 1) = Mx3 at *
      have hQ3 : Qn_ (nx_ (nx_ Mq)) b 4 (Mx 71 (a + 1)) 6 75 = Mq 6 75 := by rw [Qn_6 (by decide) (by decide)]; exact q75
      generalize Qn_ (nx_ (nx_ Mq)) b 4 (Mx 71 (a + 1)) = Mq3 at *
      have hE3 := AM_E A3
      have hp1 := PXL_1 (v := 42) hE3.2.2.2.2.2.2.1 (.inr hb) (PXL_0 (b := b) (M := Mx3))
      have A4 := AM_p A3 hp1 (by simp only [List.length_cons, List.length_nil]; omega)
      refine b_140_107 (Tr_mono _) hV hW _ _ _ ?_
      refine x_138 (AM_V A3).1 (ER_st hE3).1 (ER_st hE3).2 ?_
      refine x_138 (AM_V A4).1 (ER_st (AM_E A4)).1 (ER_st (AM_E A4)).2 ?_
      have hp := PXL_1 (v := w32 (w32 (10 * pX_ Mx3 42 1 18) + if 0 < l then l else 0)) hE3.2.2.2.2.2.2.1 (.inr hb) hp1
      have A5 := AM_p A3 hp (by simp only [List.length_cons, List.length_nil]; (clear h h9 htr hm hk hS hK hQ hsyn A0 hE hT hc hae hp0 hV hW h12 hE1 A1 e70 k1 h13 hE2 A2 hT2 hV2 k1' hg1 hnm hend hl hlr h8 q75 x53 hb h18 hT0 hl10 cl e4 hX3 eX pre hz3 A3 hQ3 hE3 hp1 A4 hp; omega))
      have A6 := AM_up (r := 205) (v := l) (AM_em (w := 10) (p := Mx 71 a) A5 hQ3) (by decide) (rfl : Mq 6 75 = Mq 6 75)
      refine y_endl (d2 := dq + 2) (Mx := Mx) (Mq := Mq) (me := me) (.inl ⟨rfl, rfl⟩) A6 hS pre (by omega) (by (clear h h9 htr hm hk hS hK hQ hsyn A0 hE hT hc hae hp0 hV hW h12 hE1 A1 e70 k1 h13 hE2 A2 hT2 hV2 k1' hg1 hnm hend hl hlr h8 q75 x53 hb h18 hT0 hl10 cl e4 hX3 eX pre hz3 A3 hQ3 hE3 hp1 A4 hp A5 A6; lia)) (by rw [up_ne (by decide), em_75, hQ3]) (by simp only [List.length_cons, List.length_nil]; (clear h h9 htr hm hk hS hK hQ hsyn A0 hE hT hc hae hp0 hV hW h12 hE1 A1 e70 k1 h13 hE2 A2 hT2 hV2 k1' hg1 hnm hend hl hlr h8 q75 x53 hb h18 hT0 hl10 cl e4 hX3 eX pre hz3 A3 hQ3 hE3 hp1 A4 hp A5 A6; lia)) ⟨by rw [up_ne (by decide), ← hQ3, em_204], by rw [up_ne (by decide), ← hQ3, em_203], fun h => absurd h (by decide)⟩ (fun hb1 h0 => ?_) (fun MX MQ Mx' Mq' a' hL hA hs hq => rv_i (hK MX MQ Mx' Mq' a' hL hA (by rw [hend]; exact hs) hq)) hQ
      exfalso
      have := hz3 hb (by rw [up_ne (by decide), em_6 (by decide)] at h0; exact h0)
      omega
    · -- a label
      rw [if_neg cl]
      rw [if_neg (by (clear h h9 htr hm hk hS hK hQ hsyn A0 hE hT hc hae hp0 hV hW h12 hE1 A1 e70 k1 h13 hE2 A2 hT2 hV2 k1' hg1 hnm hend h8 pre q75 x53 h18 hT0 hl10; lia))] at pre
      have e29 : w32 (nX_ (nX_ Mx) 1 29 - 1) = Mx 1 29 - 1 := by rw [nX_1 (by decide), nX_1 (by decide), w32_id (by (clear h h9 hm hk hS hK hQ hsyn A0 hE hT hc hae hp0 hV hW h12 hE1 A1 e70 k1 h13 hE2 A2 hT2 hV2 k1' hg1 hnm hend hl hlr h8 pre q75 x53 hb h18 hT0 hl10 cl; omega)) (by omega)]
      have e65 : nX_ (nX_ Mx) 65 = Mx 65 := by rw [nX_ne (by decide), nX_ne (by decide)]
      rw [e29, e65]
      refine ⟨by (clear h h9 hm hk hS hK hQ hsyn A0 hE hT hc hae hp0 hV hW h12 hE1 A1 e70 k1 h13 hE2 A2 hT2 hV2 k1' hg1 hnm hend hl hlr h8 pre q75 x53 hb h18 hT0 hl10 cl e65; lia), by omega, ?_⟩
      have A3 := AM_base (rx := 65) (rq := 214) (i := Mx 1 29 - 1) (v := or_ (Mx 65 (Mx 1 29 - 1)) (sl_ 1 l)) (j := me) (w := or_ (Mq 214 me) (sl_ 1 l)) (.inr rfl) (.inr rfl) A2
      have hL : LM b Mx Mq me (up_ Mx 65 (Mx 1 29 - 1) (or_ (Mx 65 (Mx 1 29 - 1)) (sl_ 1 l))) (up_ Mq 214 me (or_ (Mq 214 me) (sl_ 1 l))) := .inr ⟨hb, l, ⟨by (clear h h9 htr hm hk hS hK hQ hsyn A0 hE hT hc hae hp0 hV hW h12 hE1 A1 e70 k1 h13 hE2 A2 hT2 hV2 k1' hg1 hnm hend h8 pre q75 x53 hb h18 hT0 hl10 e29 e65 A3; omega), by (clear h h9 htr hm hk hS hK hQ hsyn A0 hE hT hc hae hp0 hV hW h12 hE1 A1 e70 k1 h13 hE2 A2 hT2 hV2 k1' hg1 hnm hend h8 pre q75 x53 hb h18 hT0 e29 e65 A3; lia)⟩, .inr ⟨by omega, rfl, rfl⟩⟩
      have y53 : up_ (nX_ (nX_ Mx)) 65 (Mx 1 29 - 1) (or_ (Mx 65 (Mx 1 29 - 1)) (sl_ 1 l)) 5 3 = Mx 5 3 := by rw [up_ne (by decide)]; exact x53
      have y18 : up_ (nX_ (nX_ Mx)) 65 (Mx 1 29 - 1) (or_ (Mx 65 (Mx 1 29 - 1)) (sl_ 1 l)) 1 18 = Mq 6 61 := by rw [up_ne (by decide)]; exact h18
      have hQ3 : up_ (nx_ (nx_ Mq)) 214 me (or_ (Mq 214 me) (sl_ 1 l)) 6 75 = Mq 6 75 := by rw [up_ne (by decide)]; exact q75
      have q175 : up_ (nx_ (nx_ Mq)) 214 me (or_ (Mq 214 me) (sl_ 1 l)) 175 = Mq 175 := by rw [up_ne (by decide), nx_ne (by decide), nx_ne (by decide)]
      have b75 : up_ Mq 214 me (or_ (Mq 214 me) (sl_ 1 l)) 6 75 = Mq 6 75 := by rw [up_ne (by decide)]
      generalize up_ (nX_ (nX_ Mx)) 65 (Mx 1 29 - 1) (or_ (Mx 65 (Mx 1 29 - 1)) (sl_ 1 l)) = Mx3 at *
      generalize up_ (nx_ (nx_ Mq)) 214 me (or_ (Mq 214 me) (sl_ 1 l)) = Mq3 at *
      have hE3 := AM_E A3
      have hp1 := PXL_1 (v := 42) hE3.2.2.2.2.2.2.1 (.inr hb) (PXL_0 (b := b) (M := Mx3))
      have A4 := AM_p A3 hp1 (by simp only [List.length_cons, List.length_nil]; (clear h h9 htr hm hk hS hK hQ hsyn A0 hE hT hc hae hp0 hV hW h12 hE1 A1 e70 k1 h13 hE2 A2 hT2 hV2 k1' hg1 hnm hend hl hlr h8 q75 x53 hb h18 hT0 hl10 cl e29 e65 hL b75 y53 y18 pre hQ3 q175 A3 hE3 hp1; omega))
      refine b_140_107 (Tr_mono _) hV hW _ _ _ ?_
      refine x_138 (AM_V A3).1 (ER_st hE3).1 (ER_st hE3).2 ?_
      refine x_138 (AM_V A4).1 (ER_st (AM_E A4)).1 (ER_st (AM_E A4)).2 ?_
      have ev : w32 (w32 (10 * pX_ Mx3 42 1 18) + if 0 < l then l else 0) = 10 * Mq 6 61 + l := by
        rw [pX_1, y18, w32_id (x := 10 * Mq 6 61) (by (clear h h9 htr hm hk hS hK hQ hsyn A0 hE hT hc hae hp0 hV hW h12 hE1 A1 e70 k1 h13 hE2 A2 hT2 hV2 k1' hg1 hnm hend hl hlr h8 q75 x53 hb h18 hl10 cl e29 e65 hL b75 y53 pre hQ3 q175 A3 hE3 hp1 A4; omega)) (by (clear h h9 htr hm hk hS hK hQ hsyn A0 hE hT hc hae hp0 hV hW h12 hE1 A1 e70 k1 h13 hE2 A2 hT2 hV2 k1' hg1 hnm hend hl hlr h8 q75 x53 hb h18 hl10 cl e29 e65 hL b75 y53 pre hQ3 q175 A3 hE3 hp1 A4; lia))]
        split
        · rw [w32_id (by (clear h h9 htr hm hk hS hK hQ hsyn A0 hE hT hc hae hp0 hV hW h12 hE1 A1 e70 k1 h13 hE2 A2 hT2 hV2 k1' hg1 hnm hend hlr h8 q75 x53 hb h18 hl10 cl e29 e65 hL b75 y53 pre hQ3 q175 A3 hE3 hp1 A4; lia)) (by (clear h h9 htr hm hk hS hK hQ hsyn A0 hE hT hc hae hp0 hV hW h12 hE1 A1 e70 k1 h13 hE2 A2 hT2 hV2 k1' hg1 hnm hend h8 q75 x53 hb h18 e29 e65 hL b75 y53 pre hQ3 q175 A3 hE3 hp1 A4; lia))]
        · rw [w32_id (by (clear h h9 htr hm hk hS hK hQ hsyn A0 hE hT hc hae hp0 hV hW h12 hE1 A1 e70 k1 h13 hE2 A2 hT2 hV2 k1' hg1 hnm hend hl hlr h8 q75 x53 hb h18 hl10 cl e29 e65 hL b75 y53 pre hQ3 q175 A3 hE3 hp1 A4; lia)) (by (clear h h9 htr hm hk hS hK hQ hsyn A0 hE hT hc hae hp0 hV hW h12 hE1 A1 e70 k1 h13 hE2 A2 hT2 hV2 k1' hg1 hnm hend hl hlr h8 q75 x53 hb h18 hl10 cl e29 e65 hL b75 y53 pre hQ3 q175 A3 hE3 hp1 A4; lia))]; (clear h h9 htr hm hk hS hK hQ hsyn A0 hE hT hc hae hp0 hV hW h12 hE1 A1 e70 k1 h13 hE2 A2 hT2 hV2 k1' hg1 hnm hend h8 q75 x53 hb h18 hT0 hl10 e29 e65 hL b75 y53 y18 pre hQ3 q175 A3 hE3 hp1 A4; lia)
      rw [ev]
      have hp := PXL_1 (v := 10 * Mq 6 61 + l) hE3.2.2.2.2.2.2.1 (.inr hb) hp1
      have A5 := AM_p A3 hp (by simp only [List.length_cons, List.length_nil]; omega)
      have A6 := AM_up (r := 205) (v := l) (AM_em (w := 10) (p := Mx 71 a) A5 (hQ3.trans b75.symm)) (by decide) (b75.symm : Mq 6 75 = _)
      refine y_endl (d2 := dq + 2) (Mx := Mx) (Mq := Mq) (me := me) hL A6 hS pre (by omega) (by omega) (by rw [up_ne (by decide), em_75, hQ3]) (by simp only [List.length_cons, List.length_nil]; (clear h h9 htr hm hk hS hK hQ hsyn A0 hE hT hc hae hp0 hV hW h12 hE1 A1 e70 k1 h13 hE2 A2 hT2 hV2 k1' hg1 hnm hend hl hlr h8 q75 x53 hb h18 hT0 hl10 cl e29 e65 hL b75 y53 y18 pre hQ3 q175 A3 hE3 hp1 A4 ev hp A5 A6; lia)) ⟨by rw [up_ne (by decide), ← hQ3, em_204], by rw [up_ne (by decide), ← hQ3, em_203], fun h => absurd h (by decide)⟩ (fun hb1 h0 => ?_) (fun MX MQ Mx' Mq' a' hL hA hs hq => rv_i (hK MX MQ Mx' Mq' a' hL hA (by rw [hend]; exact hs) hq)) hQ
      have hp4 := hp.2.2.2.1 hb
      obtain ⟨s1, s2, _⟩ := hp4.2
      rw [y53] at s1 s2 hp4
      refine .inr (.inr (.inr (.inr (.inr (.inr (.inr ⟨?_, ?_, ?_, ?_, ?_⟩))))))
      · rw [up_ne (by decide), ← hQ3, em_203]
      · rw [up_at, up_ne (by decide), em_r (.inl (by decide)) (by decide), q175]; (clear h h9 htr hm hk hS hK hQ hsyn A0 hE hT hc hae hp0 hV hW h12 hE1 A1 e70 k1 h13 hE2 A2 hT2 hV2 k1' hg1 hnm hend h8 q75 x53 hb h18 hT0 hl10 e29 e65 hL b75 y53 pre hQ3 q175 A3 hE3 hp1 A4 hp A5 A6 hb1 h0 hp4 s2; lia)
      · simpa using s2
      · rw [up_at]; exact s1
      · rw [hp4.1]; rfl
end LJ
end T112_la
section T113_ln
/-! the last of a part: next -/
section LN
variable {d dq n : Nat} {b F : Int} {Mx Mq MX MQ Mx1 Mq1 Mx2 Mq2 M : mm_} {a a1 o o1 s z me : Int} {K : Int → mm_ → Prop} {Kv G : mm_ → Prop} {Qt : qt_} {V : vv_}
theorem stt_c [Inhabited gh_] {Mq' : mm_} (h : QC Mq Mq') {v : Int} : stt Mq' v = stt Mq v := by unfold stt; rw [h.1 179 (by decide), h.1 174 (by decide), h.2 61 (by decide)]
theorem stt9_c [Inhabited gh_] {Mx' Mq' : mm_} (hx : XC Mx Mx') (hq : QC Mq Mq') (h : stt9 Mx Mq) : stt9 Mx' Mq' := by
  unfold stt9 nm9_ gd_ at *
  rw [hx.1 70 (by decide), hx.1 59 (by decide), hx.1 123 (by decide), hx.2.1 18 (by decide), hq.1 179 (by decide), hq.1 174 (by decide), hq.1 151 (by decide)]
  exact h
theorem up_cm [Inhabited gh_] {M : mm_} {r : Nat} {i j v w : Int} (h : i ≠ j) : up_ (up_ M r i v) r j w = up_ (up_ M r j w) r i v := by
  funext r' k
  by_cases c : r' = r
  · subst c
    by_cases ci : k = i
    · subst ci; rw [up_off h, up_at, up_at]
    · by_cases cj : k = j
      · subst cj; rw [up_at, up_off ci, up_at]
      · rw [up_off cj, up_off ci, up_off ci, up_off cj]
  · rw [up_ne c, up_ne c, up_ne c, up_ne c]
theorem nx_Qn [Inhabited gh_] {k p : Int} : nx_ (Qn_ M b k p) = Qn_ (nx_ M) b k p := by
  unfold Qn_
  by_cases c : b = 0 ∨ k = 0
  · rw [if_pos c, if_pos c]
  · rw [if_neg c, if_neg c]
    unfold nt_
    have e16 : nx_ M 6 16 = M 6 16 := nx_6 (by decide)
    have e13 : nx_ M 6 13 = M 6 13 := nx_6 (by decide)
    have e14 : nx_ M 6 14 = M 6 14 := nx_6 (by decide)
    rw [e16, e13, e14]
    by_cases c1 : M 6 16 = 0
    · rw [if_pos c1, if_pos c1]
    · rw [if_neg c1, if_neg c1]
      by_cases c2 : M 6 13 = 0 ∨ p < M 6 14 ∨ p = M 6 14 ∧ k < M 6 13
      · rw [if_pos c2, if_pos c2]
        have e12 : bf_ M k p 6 12 = M 6 12 := bf_6 (by decide) (by decide)
        unfold nx_
        rw [e12]
        unfold bf_
        rw [up_cm (i := 14) (j := 12) (by decide), up_cm (i := 13) (j := 12) (by decide)]
      · rw [if_neg c2, if_neg c2]
/-- Q: next - -/
theorem q_264d [Inhabited gh_] (h : TA b F Mx Mq a o) (hk : Mx 70 a = 11) (h12 : a < 1200) (hE1 : ER b F (nX_ Mx) (nx_ Mq) (a + 1) o) (k1 : Mx 70 (a + 1) = 245) (h13 : a + 1 < 1200)
    (hm : 0 ≤ me ∧ me < 1300) (hq : Tr_ wd0 pg0 (dq + 5) 244 [.inr (.inr 6), .inl 59] (em_ (nx_ (Qn_ (nx_ Mq) b (if Mq 215 me = 0 then 0 else 6) (Mx 71 (a + 1)))) 8 (Mx 71 a)) (rv_ Kv) Qt) :
    Tr_ wd0 pg0 (dq + 6) 264 [.inr (.inr 6), .inl me] Mq (rv_ Kv) Qt := by
  have A0 := AM_rf h
  have A1 := AM_go A0 hE1
  have hE := AM_E A0
  have hT := AM_T A0
  have h01 := hE.2.2.2.2.2.2.2.2.1
  have hc := h.2.2.2.1
  have hae := ER_a hE
  have hp0 : Mq 150 (Mq 6 12) = Mx 71 a := (ER_k hT hE).2.1
  obtain ⟨f1, f2, f3, f4, f5, f6⟩ := ER_k (AM_T A1) hE1
  rw [AM_71 A1] at f2
  refine t_264 fun V hV hW => b_264_0 (Tr_mono _) hV hW me Mq ⟨(ER_k hT hE).2.2.1, j_228t hT hE (by decide) hk h12 ?_⟩
  rw [if_neg (by decide), hp0]
  refine t_265 fun V hV hW => b_265_0 (Tr_mono _) hV hW me (Mx 71 a) (nx_ Mq) ⟨f3, j_242t (AM_T A1) hE1 (by decide) (by rw [AM_70 A1]; exact k1) h13 ?_⟩
  rw [if_neg (by decide), f2]
  refine ⟨hm, ?_⟩
  intro _
  have e215 : nx_ (nx_ Mq) 215 me = Mq 215 me := by rw [nx_ne (by decide), nx_ne (by decide)]
  have e16 : nx_ (nx_ Mq) 6 16 = b := by rw [nx_6 (by decide)]; exact hE1.2.2.2.2.2.2.2.1
  have q75 : nx_ (nx_ Mq) 6 75 = Mq 6 75 := by rw [nx_6 (by decide), nx_6 (by decide)]
  rw [e215]
  rw [nx_Qn] at hq
  by_cases c : Mq 215 me = 0
  · rw [if_pos c]
    rw [if_pos c] at hq
    unfold Qn_ at hq
    rw [if_pos (.inr rfl)] at hq
    exact q_266 (by (clear h hk h12 hE1 k1 h13 hm hq A0 A1 hE hT h01 hae hp0 f1 f2 f3 f4 f5 f6 hV hW e215 e16 c; omega)) (by (clear h hk h12 hE1 k1 hm hq A0 A1 hE hT h01 hp0 f1 f2 f3 f4 f5 f6 hV hW e215 e16 c; omega)) (rv_i (Tr_rv hq))
  · rw [if_neg c]
    rw [if_neg c] at hq
    refine q_236 ?_
    have e75 : nt_ (nx_ (nx_ Mq)) 6 (Mx 71 (a + 1)) 6 75 = Mq 6 75 := by rw [nt_6 (by decide) (by decide)]; exact q75
    refine q_266 (by (clear h hk h12 hE1 k1 h13 hm hq A0 A1 hE hT h01 hae hp0 f1 f2 f3 f4 f5 f6 hV hW e215 e16 c; lia)) (by (clear h hk h12 hE1 k1 hm hq A0 A1 hE hT h01 hp0 f1 f2 f3 f4 f5 f6 hV hW e215 e16 c; omega)) (rv_i (Tr_rv ?_))
    unfold Qn_ at hq
    rcases h01 with hb | hb
    · rw [if_pos (.inl hb)] at hq
      have : nt_ (nx_ (nx_ Mq)) 6 (Mx 71 (a + 1)) = nx_ (nx_ Mq) := by unfold nt_; rw [if_pos (by (clear h hk h12 hE1 k1 h13 hm hq A0 A1 hE hT hc hae hp0 f1 f2 f3 f4 f5 f6 hV hW e215 q75 c e75; lia))]
      rw [this]; exact hq
    · rw [if_neg (by omega)] at hq; exact hq
/-- Q: next and a name -/
theorem q_264n [Inhabited gh_] {l : Int} (h : TA b F Mx Mq a o) (h9 : stt9 Mx Mq) (hk : Mx 70 a = 11) (h12 : a < 1200) (hE1 : ER b F (nX_ Mx) (nx_ Mq) (a + 1) o) (k1 : Mx 70 (a + 1) = 100) (h13 : a + 1 < 1200) (hE2 : ER b F (nX_ (nX_ Mx)) (nx_ (nx_ Mq)) (a + 1 + 1) o) (hl : l = stt Mq (Mq 151 (a + 1)))
    (hm : 0 ≤ me ∧ me < 1300) (hq : Tr_ wd0 pg0 (dq + 5) 244 [.inr (.inr 6), .inl 59] (up_ (em_ (if b = 0 ∨ l < 0 then Qn_ (nx_ (nx_ Mq)) b (k4g_ l) (Mx 71 (a + 1)) else up_ (nx_ (nx_ Mq)) 213 me (or_ (Mq 213 me) (sl_ 1 l))) 8 (Mx 71 a)) 205 (Mq 6 75) l) (rv_ Kv) Qt) :
    Tr_ wd0 pg0 (dq + 6) 264 [.inr (.inr 6), .inl me] Mq (rv_ Kv) Qt := by
  have A0 := AM_rf h
  have A1 := AM_go A0 hE1
  have A2 := AM_go A1 hE2
  have hE := AM_E A0
  have hT := AM_T A0
  have h01 := hE.2.2.2.2.2.2.2.2.1
  have hc := h.2.2.2.1
  have hae := ER_a hE
  have hp0 : Mq 150 (Mq 6 12) = Mx 71 a := (ER_k hT hE).2.1
  obtain ⟨f1, f2, f3, f4, f5, f6⟩ := ER_k (AM_T A1) hE1
  have hp1 : nx_ (nx_ Mq) 150 (a + 1) = Mx 71 (a + 1) := by
    have := f2
    rw [hE1.2.2.1, AM_71 A1] at this
    rw [nx_ne (by decide)]; exact this
  have l9 := stt9_c (AM_X A2) (AM_Q A2) h9
  have hlr := stt_r (AM_V A0) h9 (v := Mq 151 (a + 1))
  rw [← hl] at hlr
  refine t_264 fun V hV hW => b_264_0 (Tr_mono _) hV hW me Mq ⟨(ER_k hT hE).2.2.1, j_228t hT hE (by decide) hk h12 ?_⟩
  rw [if_neg (by decide), hp0]
  refine t_265 fun V hV hW => b_265_0 (Tr_mono _) hV hW me (Mx 71 a) (nx_ Mq) ⟨f3, j_242f (AM_T A1) hE1 (by decide) (by rw [AM_70 A1, k1]; decide) ?_⟩
  rw [if_pos rfl]
  refine j_233t (AM_T A1) hE1 (by rw [AM_70 A1]; exact k1) h13 ?_
  refine q_227g (ER_goq hE2) ?_
  rw [if_pos rfl]
  refine ⟨by omega, q_267R (AM_V A2) l9 ?_⟩
  rw [show nx_ (nx_ Mq) 151 = Mq 151 by rw [nx_ne (by decide), nx_ne (by decide)], stt_c (AM_Q A2), ← hl]
  have e16 : nx_ (nx_ Mq) 6 16 = b := hE2.2.2.2.2.2.2.2.1
  have q75 : nx_ (nx_ Mq) 6 75 = Mq 6 75 := by rw [nx_6 (by decide), nx_6 (by decide)]
  intro _
  rw [e16]
  by_cases cb : b = 0
  · rw [if_pos cb]
    rw [if_pos (.inl cb)] at hq
    unfold Qn_ at hq
    rw [if_pos (.inl cb)] at hq
    refine b_265_99 (Tr_mono _) hV hW _ _ _ _ _ _ ?_
    intro _
    rw [e16, if_pos cb]
    refine q_266 (by (clear h h9 hk h12 hE1 k1 h13 hE2 hl hm hq A0 A1 A2 hE hT h01 hae hp0 f1 f2 f3 f4 f5 f6 hp1 l9 hlr hV hW e16 cb; lia)) (by (clear h h9 hk h12 hE1 k1 hE2 hl hm hq A0 A1 A2 hE hT h01 hp0 f1 f2 f3 f4 f5 f6 hp1 l9 hlr hV hW e16 cb; omega)) ?_
    rw [q75]
    exact ⟨by (clear h h9 hk h12 hE1 k1 hE2 hl hm hq A0 A1 A2 hE hT h01 hp0 f1 f2 f3 f4 f5 f6 hp1 l9 hlr hV hW e16 cb; omega), rv_i (Tr_rv hq)⟩
  · rw [if_neg cb]
    by_cases cl : l < 0
    · rw [if_pos cl]
      rw [if_pos (.inr cl)] at hq
      have e4 : k4g_ l = 4 := by unfold k4g_; rw [if_pos (by (clear h h9 hk h12 hE1 k1 h13 hE2 hm hq A0 A1 A2 hE hT h01 hc hae hp0 f1 f2 f3 f4 f5 f6 hp1 l9 hV hW e16 q75; lia))]
      unfold Qn_ at hq
      rw [if_neg (by (clear h h9 hk h12 hE1 k1 h13 hE2 hl hm hq A0 A1 A2 hE hT h01 hc hae hp0 f1 f2 f3 f4 f5 f6 hp1 l9 hlr hV hW e16 q75 cl; lia)), e4] at hq
      refine ⟨by omega, q_236 ?_⟩
      rw [hp1]
      refine b_265_99 (Tr_mono _) hV hW _ _ _ _ _ _ ?_
      intro _
      have e162 : nt_ (nx_ (nx_ Mq)) 4 (Mx 71 (a + 1)) 6 16 = b := by rw [nt_6 (by decide) (by decide)]; exact e16
      have q752 : nt_ (nx_ (nx_ Mq)) 4 (Mx 71 (a + 1)) 6 75 = Mq 6 75 := by rw [nt_6 (by decide) (by decide)]; exact q75
      rw [e162, if_neg cb, if_pos cl]
      refine q_266 (by (clear h h9 hk h12 hE1 k1 h13 hE2 hl hm hq A0 A1 A2 hE hT h01 hae hp0 f1 f2 f3 f4 f5 f6 hp1 l9 hlr hV hW e16 cb cl e4 e162; lia)) (by (clear h h9 hk h12 hE1 k1 hE2 hl hm hq A0 A1 A2 hE hT h01 hp0 f1 f2 f3 f4 f5 f6 hp1 l9 hlr hV hW e16 cb cl e4 e162; omega)) ?_
      rw [q752]
      exact ⟨by (clear h h9 hk h12 hE1 k1 hE2 hl hm hq A0 A1 A2 hE hT h01 hp0 f1 f2 f3 f4 f5 f6 hp1 l9 hlr hV hW e16 cb cl e4 e162; omega), rv_i (Tr_rv hq)⟩
    · rw [if_neg cl]
      rw [if_neg (by (clear h h9 hk h12 hE1 k1 h13 hE2 hm hq A0 A1 A2 hE hT h01 hc hae hp0 f1 f2 f3 f4 f5 f6 hp1 l9 hlr hV hW e16 q75; lia))] at hq
      refine b_265_99 (Tr_mono _) hV hW _ _ _ _ _ _ ?_
      intro _
      have e214 : nx_ (nx_ Mq) 213 me = Mq 213 me := by rw [nx_ne (by decide), nx_ne (by decide)]
      rw [e16, if_neg cb, if_neg cl, e214]
      have q752 : up_ (nx_ (nx_ Mq)) 213 me (or_ (Mq 213 me) (sl_ 1 l)) 6 75 = Mq 6 75 := by rw [up_ne (by decide)]; exact q75
      refine ⟨hm, hm, q_266 (by (clear h h9 hk h12 hE1 k1 h13 hE2 hl hm hq A0 A1 A2 hE hT h01 hae hp0 f1 f2 f3 f4 f5 f6 hp1 l9 hlr hV hW e16 cb cl e214; lia)) (by (clear h h9 hk h12 hE1 k1 hE2 hl hm hq A0 A1 A2 hE hT h01 hp0 f1 f2 f3 f4 f5 f6 hp1 l9 hlr hV hW e16 cb cl e214; omega)) ?_⟩
      rw [q752]
      exact ⟨by (clear h h9 hk h12 hE1 k1 hE2 hl hm hq A0 A1 A2 hE hT h01 hp0 f1 f2 f3 f4 f5 f6 hp1 l9 hlr hV hW e16 cb cl e214; lia), rv_i (Tr_rv hq)⟩
end LN
end T113_ln
section T114_ln
/-! the last of a part: next, X and Q in step -/
section LN
variable {d dq n : Nat} {b F : Int} {Mx Mq MX MQ Mx1 Mq1 Mx2 Mq2 M : mm_} {a a1 o o1 s z me : Int} {K : Int → mm_ → Prop} {Kv G : mm_ → Prop} {Qt : qt_} {V : vv_}
theorem y_140n [Inhabited gh_] (h : TA b F Mx Mq a o) (h9 : stt9 Mx Mq) (htr : 1 ≤ Mx 1 29 ∧ Mx 1 29 ≤ 600) (hm : 0 ≤ me ∧ me < 1300) (hst : b = 1 → (Mx 66 (Mx 1 29 - 1) = -1 ↔ Mq 215 me ≠ 0)) (hk : Mx 70 a = 11) (hS : b = 1 → laS (Mx 70) a ≠ none)
    (hK : ∀ MX MQ Mx' Mq' a', LM b Mx Mq me MX MQ → AR b F MX MQ Mx' Mq' a a' o 8 0 → laS (Mx 70) a = some a' → (∀ (Kv : mm_ → Prop) (Qtq : qt_), Kv Mq' → Tr_ wd0 pg0 (dq + 6) 264 [.inr (.inr 6), .inl me] Mq (rv_ Kv) Qtq) → Kv Mx')
    (hQ : b = 0 → ∀ Mx', XA Mx Mx' → (∀ (Kv : mm_ → Prop) (Qtq : qt_), (∀ M', SQ Mx' Mq M' → Kv M') → Tr_ wd0 pg0 (dq + 6) 264 [.inr (.inr 6), .inl me] Mq (rv_ Kv) Qtq) → Qt 8 Mx') :
    Tr_ wd0 pg0 (d + 8) 140 [.inr (.inr 1)] Mx (rv_ Kv) Qt := by
  have hsyn : laS (Mx 70) a = (gS a).bind fun a1 => (neS (Mx 70) a1).bind (tS (Mx 70) 259) := by
    unfold laS; rw [if_neg (by omega), if_neg (by (clear h h9 htr hm hst hS hK hQ; lia))]
    cases gS a with
    | none => rfl
    | some a1 => rfl
  rw [hsyn] at hS
  have A0 := AM_rf h
  have hE := AM_E A0
  have hT := AM_T A0
  have h01 := hE.2.2.2.2.2.2.2.2.1
  have hc := h.2.2.2.1
  have hae := ER_a hE
  have hp0 : Mq 150 (Mq 6 12) = Mx 71 a := (ER_k hT hE).2.1
  refine t_140 fun V hV hW => b_140_0 (Tr_mono _) hV hW Mx ?_
  refine y_103 hE (fun e => by omega) (fun _ => ?_)
  rw [if_pos rfl]
  refine y_103 hE (fun e => by (clear h h9 htr hm hst hS hK hQ hsyn A0 hE hT h01 hc hae hp0 hV hW; lia)) (fun _ => ?_)
  rw [if_pos rfl]
  -- Q within next
  have stop : ∀ {Mx' Ms : mm_}, SQ Mx' Mq Ms → ∀ (Kv : mm_ → Prop) (Qtq : qt_), (∀ M', SQ Mx' Mq M' → Kv M') → rv_ (fun M11 => Tr_ wd0 pg0 (dq + 5) 244 [.inr (.inr 6), .inl 59] M11 (rv_ fun M12 => rv_ Kv [] M12) Qtq) [] Ms := fun hs Kv Qtq hk9 => rv_i (q_244s hs.1 (rv_i (hk9 _ hs)))
  refine y_105 hE (by (clear h h9 htr hm hst hS hK hQ hsyn A0 hE hT h01 hc hae hp0 hV hW stop; omega)) (fun hb => by intro c; have := hS hb; rw [c] at this; exact this rfl) (fun h12 hE1 => ?_) (fun hb h12 => ?_)
  rotate_left
  · refine hQ hb _ (XF_XA fl_XF) fun Kv Qtq hk9 => ?_
    have hsp := SQ_bf hE hb (k := 2) (by decide) QA_rf
    refine t_264 fun V hV hW => b_264_0 (Tr_mono _) hV hW me Mq ⟨(ER_k hT hE).2.2.1, j_228r hT hE hb (by decide) hk h12 ?_⟩
    rw [if_neg (by decide)]
    refine t_265 fun V hV hW => b_265_0 (Tr_mono _) hV hW me _ _ ⟨hsp.2.1, q_242s hsp.1 ?_⟩
    rw [if_pos rfl]
    refine q_233s hsp.1 ?_
    refine q_227s hsp.1 ?_
    rw [if_neg (by decide)]
    exact stop hsp Kv Qtq hk9
  have A1 := AM_go A0 hE1
  have hT1 := AM_T A1
  have e70 := AM_70 A1
  have q1 := (ER_k hT1 hE1).2.2.1
  have hg1 : gd_ Mx (a + 1) := gd_c e70.symm hE1.1
  have h18 : nX_ Mx 1 8 = b := hE1.2.2.2.2.2.2.1
  have e29 : w32 (nX_ Mx 1 29 - 1) = Mx 1 29 - 1 := by rw [nX_1 (by decide), w32_id (by (clear h h9 hm hst hk hS hK hQ hsyn A0 hE hT h01 hc hae hp0 hV hW stop h12 hE1 A1 hT1 e70 q1 hg1 h18; omega)) (by omega)]
  rw [gS_e h12, Option.bind_some] at hS
  have pr1 : ∀ (Kv : mm_ → Prop) (Qtq : qt_), Tr_ wd0 pg0 (dq + 5) 265 [.inr (.inr 6), .inl me, .inl (Mx 71 a)] (nx_ Mq) (rv_ fun M11 => Tr_ wd0 pg0 (dq + 5) 244 [.inr (.inr 6), .inl 59] M11 (rv_ fun M12 => rv_ Kv [] M12) Qtq) Qtq → Tr_ wd0 pg0 (dq + 6) 264 [.inr (.inr 6), .inl me] Mq (rv_ Kv) Qtq := by
    intro Kv Qtq hq
    refine t_264 fun V hV hW => b_264_0 (Tr_mono _) hV hW me Mq ⟨(ER_k hT hE).2.2.1, j_228t hT hE (by decide) hk h12 ?_⟩
    rw [if_neg (by decide), hp0]
    exact hq
  refine t_141 fun V hV hW => b_141_0 (Tr_mono _) hV hW (nX_ Mx) ?_
  refine y_117 hE1 (by decide) (fun k1 => ?_) (fun k1 => ?_)
  · -- next -
    rw [if_neg (by decide)]
    have k1' : Mx 70 (a + 1) = 245 := by rw [← e70]; exact k1
    obtain ⟨kk, hkk⟩ : ∃ kk, kk = if Mq 215 me = 0 then (0 : Int) else 6 := ⟨_, rfl⟩
    obtain ⟨A2, hz2⟩ := AM_m (k := kk) (tk := a + 1) A1 (by rw [hkk]; split <;> omega) hg1 (by omega)
    have hne : neS (Mx 70) (a + 1) = gS (a + 1) := by unfold neS; rw [if_pos k1']
    rw [hne] at hS
    have x3 : nX_ Mx 1 3 = a + 1 := hE1.2.1
    have go : ∀ M2, M2 = Xn_ (nX_ Mx) b kk (a + 1) → Tr_ wd0 pg0 (d + 6) 105 [.inr (.inr 1)] M2 (rv_ fun M9 => Tr_ wd0 pg0 (d + 6) 138 [.inr (.inr 1), .inl 40] M9 (rv_ fun M10 => rv_ (fun M4 => Tr_ wd0 pg0 (d + 7) 121 [.inr (.inr 1), .inl 59] M4 (rv_ fun M5 => rv_ Kv [] M5) Qt) [] M10) Qt) Qt := by
      intro M2 hM2
      subst hM2
      have hE2 := AM_E A2
      have m70 := AM_70 A2
      refine y_105 hE2 (by rw [m70]; (clear h h9 htr hm hst hk hS hK hQ hsyn A0 hE hT h01 hc hae hp0 stop h12 hE1 A1 hT1 e70 q1 hg1 h18 e29 pr1 hV hW k1 hkk A2 hz2 hne x3 hE2 m70; lia)) (fun hb => by intro c; have := hS hb; rw [c] at this; exact this rfl) (fun h13 hE3 => ?_) (fun hb h13 => ?_)
      rotate_left
      · refine hQ hb _ (XA_tr (XC_XA (AM_X A2)) (XF_XA fl_XF)) fun Kv Qtq hk9 => pr1 _ _ ?_
        have hXn : Xn_ (nX_ Mx) b kk (a + 1) = nX_ Mx := by unfold Xn_; rw [if_pos (.inl hb)]
        rw [hXn] at hk9
        have hsp := SQ_bf hE1 hb (k := 2) (by decide) (QC_QA (AM_Q A1))
        refine t_265 fun V hV hW => b_265_0 (Tr_mono _) hV hW me _ _ ⟨q1, j_242r hT1 hE1 hb (by decide) k1 h13 ?_⟩
        rw [if_neg (by decide)]
        refine ⟨hm, ?_⟩
        intro _
        have q75 : bf_ (nx_ Mq) 2 (nX_ Mx 71 (a + 1)) 6 75 = Mq 6 75 := by rw [bf_6 (by decide) (by decide), nx_6 (by decide)]
        have fin := stop (SQ_em (w := 8) (p := Mx 71 a) hsp) Kv Qtq hk9
        by_cases c : bf_ (nx_ Mq) 2 (nX_ Mx 71 (a + 1)) 215 me = 0
        · rw [if_pos c]
          exact q_266 (by omega) (by (clear h h9 htr hm hst hk hS hK hQ hsyn A0 hE hT h01 hae hp0 stop h12 hE1 A1 hT1 e70 q1 hg1 h18 e29 pr1 k1 k1' hkk A2 hz2 hne hE2 m70 hb hk9 hXn hsp hV hW fin c; omega)) fin
        · rw [if_neg c]
          refine q_236 ?_
          have e : nt_ (bf_ (nx_ Mq) 2 (nX_ Mx 71 (a + 1))) 6 (nx_ Mq 150 (nx_ Mq 6 12)) = bf_ (nx_ Mq) 2 (nX_ Mx 71 (a + 1)) := by unfold nt_; rw [if_pos hsp.1.2]
          rw [e]
          exact q_266 (by omega) (by omega) fin
      have A3 := AM_go A2 hE3
      have hend : laS (Mx 70) a = tS (Mx 70) 259 (a + 1 + 1) := by rw [hsyn, gS_e h12, Option.bind_some, hne, gS_e h13, Option.bind_some]
      rw [gS_e h13, Option.bind_some] at hS
      have pre : ∀ (Kv : mm_ → Prop) (Qtq : qt_), Tr_ wd0 pg0 (dq + 2 + 3) 244 [.inr (.inr 6), .inl 59] (em_ (nx_ (Qn_ (nx_ Mq) b kk (Mx 71 (a + 1)))) 8 (Mx 71 a)) (rv_ Kv) Qtq → Tr_ wd0 pg0 (dq + 6) 264 [.inr (.inr 6), .inl me] Mq (rv_ Kv) Qtq := fun Kv Qtq hq => q_264d h hk h12 hE1 k1' h13 hm (by rw [← hkk]; exact hq)
      have x53 : nX_ (Xn_ (nX_ Mx) b kk (a + 1)) 5 3 = Mx 5 3 := by rw [nX_ne (by decide), Xn_r (by decide), nX_ne (by decide)]
      have q75 : nx_ (Qn_ (nx_ Mq) b kk (Mx 71 (a + 1))) 6 75 = Mq 6 75 := by rw [nx_6 (by decide), Qn_6 (by decide) (by decide), nx_6 (by decide)]
      generalize nX_ (Xn_ (nX_ Mx) b kk (a + 1)) = Mx3 at *
      generalize nx_ (Qn_ (nx_ Mq) b kk (Mx 71 (a + 1))) = Mq3 at *
      have hp := PXL_1 (v := 40) hE3.2.2.2.2.2.2.1 h01 (PXL_0 (b := b) (M := Mx3))
      have A4 := AM_em (w := 8) (p := Mx 71 a) (AM_p A3 hp (by simp only [List.length_cons, List.length_nil]; omega)) q75
      refine x_138 (AM_V A3).1 (ER_st hE3).1 (ER_st hE3).2 (rv_i ?_)
      refine y_endl (d2 := dq + 2) (Mx := Mx) (Mq := Mq) (me := me) (.inl ⟨rfl, rfl⟩) A4 hS pre (by omega) (by omega) (by rw [em_75, q75]) (by simp only [List.length_cons, List.length_nil]; (clear h h9 htr hm hst hk hS hK hQ hsyn A0 hE hT h01 hc hae hp0 stop h12 hE1 A1 hT1 e70 q1 hg1 h18 e29 pr1 hV hW k1 k1' hkk A2 hz2 hne x3 hE2 m70 h13 hend x53 pre q75 hE3 A3 hp A4; lia)) ⟨by rw [← q75, em_204], by rw [← q75, em_203], fun h => absurd h (by decide)⟩ (fun hb1 h0 => ?_) (fun MX MQ Mx' Mq' a' hL hA hs hq => rv_i (hK MX MQ Mx' Mq' a' hL hA (by rw [hend]; exact hs) hq)) hQ
      have hp4 := hp.2.2.2.1 hb1
      obtain ⟨s2, _⟩ := hp4.2
      rw [x53] at s2 hp4
      refine .inr (.inr (.inr (.inr (.inr (.inl ⟨?_, .inl ⟨?_, ?_, ?_⟩⟩)))))
      · rw [← q75, em_203]
      · rw [← q75, em_205]
      · simpa using s2
      · rw [hp4.1]; rfl
    intro _
    rw [h18]
    rcases h01 with hb | hb
    · rw [if_pos hb]
      exact go _ (by unfold Xn_; rw [if_pos (.inl hb)])
    · rw [if_neg (by omega), e29, x3]
      have e66 : nX_ Mx 66 = Mx 66 := nX_ne (by decide)
      rw [e66]
      refine ⟨by omega, ?_⟩
      by_cases c : Mx 66 (Mx 1 29 - 1) = -1
      · rw [if_pos c]
        have k6 : kk = 6 := by rw [hkk, if_neg ((hst hb).mp c)]
        refine x_116 (by (clear h h9 htr hm hst hk hS hK hQ hsyn A0 hE hT hc hp0 stop hE1 A1 hT1 e70 q1 hg1 h18 e29 pr1 hV hW k1 k1' hkk A2 hz2 hne go hb e66 c k6; omega)) (by have := hg1.2.1; (clear h h9 htr hm hst hk hS hK hQ hsyn A0 hE hT hc hp0 stop hE1 A1 hT1 e70 q1 hg1 h18 e29 pr1 hV hW k1 k1' hkk A2 hz2 hne go hb e66 c k6 this; omega)) (ER_fl hE1).1 (ER_fl hE1).2 ?_
        exact go _ (by unfold Xn_; rw [if_neg (by (clear h h9 htr hm hst hk hS hK hQ hsyn A0 hE hT hc hae hp0 stop h12 hE1 A1 hT1 e70 q1 hg1 h18 e29 pr1 hV hW k1 k1' A2 hz2 hne x3 go e66 c; lia)), k6])
      · rw [if_neg c]
        have k6 : kk = 0 := by
          rw [hkk]
          by_cases c2 : Mq 215 me = 0
          · rw [if_pos c2]
          · exact absurd ((hst hb).mpr c2) c
        exact go _ (by unfold Xn_; rw [if_pos (.inr k6)])
  · -- next and a name
    rw [if_pos rfl]
    have k0 : Mx 70 (a + 1) ≠ 245 := by rw [← e70]; exact k1
    have hne : neS (Mx 70) (a + 1) = tS (Mx 70) 100 (a + 1) := by unfold neS; rw [if_neg k0]
    rw [hne] at hS
    have pr2 : ∀ {Ms : mm_} {r : Int} (Kv : mm_ → Prop) (Qtq : qt_), Tr_ wd0 pg0 (dq + 4) 233 [.inr (.inr 6)] (nx_ Mq) (ri_ fun v2 M2 => v2 = r ∧ M2 = Ms) Qtq → sp_ Ms → rv_ (fun M11 => Tr_ wd0 pg0 (dq + 5) 244 [.inr (.inr 6), .inl 59] M11 (rv_ fun M12 => rv_ Kv [] M12) Qtq) [] Ms → Tr_ wd0 pg0 (dq + 6) 264 [.inr (.inr 6), .inl me] Mq (rv_ Kv) Qtq := by
      intro Ms r Kv Qtq h233 hsp hfin
      refine pr1 _ _ (t_265 fun V hV hW => b_265_0 (Tr_mono _) hV hW me _ _ ⟨q1, j_242f hT1 hE1 (by decide) k1 ?_⟩)
      rw [if_pos rfl]
      refine Tr_m h233 (fun vs M hh => ?_) (fun _ _ hh => hh)
      obtain ⟨x, hx, h1, h2⟩ := hh
      refine ⟨x, hx, ?_⟩
      rw [h2]
      refine q_227s hsp ?_
      rw [if_neg (by decide)]
      exact hfin
    refine y_107 hE1 (fun hb => by rw [e70]; intro e; rw [e] at hS; exact hS hb rfl) (fun k2 h13 hE2 => ?_) (fun hb k2 h13 => ?_) (fun hb k2 => ?_)
    rotate_left
    · refine hQ hb _ (XA_tr (XC_XA (AM_X A1)) (XF_XA fl_XF)) fun Kv Qtq hk9 => ?_
      have hsp := SQ_bf hE1 hb (k := 2) (by decide) (QC_QA (AM_Q A1))
      exact pr2 (r := a + 1) Kv Qtq (j_233r hT1 hE1 hb k2 h13 ⟨rfl, rfl⟩) hsp.1 (stop hsp Kv Qtq hk9)
    · refine hQ hb _ (XA_tr (XC_XA (AM_X A1)) (XF_XA fl_XF)) fun Kv Qtq hk9 => ?_
      have hsp := SQ_bf hE1 hb (k := 1) (by decide) (QC_QA (AM_Q A1))
      exact pr2 (r := a + 1) Kv Qtq (j_233w hT1 hE1 hb k2 ⟨rfl, rfl⟩) hsp.1 (stop hsp Kv Qtq hk9)
    have A2 := AM_go A1 hE2
    have hT2 := AM_T A2
    have hV2 := AM_V A2
    have k1' : Mx 70 (a + 1) = 100 := by rw [← e70]; exact k2
    have hnm : nm9_ (nX_ (nX_ Mx)) (a + 1) := ⟨gd_c (AM_70 A2) hg1, by rw [AM_70 A2]; exact k1'⟩
    rw [tS_e k1' h13, Option.bind_some] at hS
    have hend : laS (Mx 70) a = tS (Mx 70) 259 (a + 1 + 1) := by rw [hsyn, gS_e h12, Option.bind_some, hne, tS_e k1' h13, Option.bind_some]
    obtain ⟨l, hl⟩ : ∃ l, l = stt Mq (Mq 151 (a + 1)) := ⟨_, rfl⟩
    have hlr := stt_r (AM_V A0) h9 (v := Mq 151 (a + 1))
    rw [← hl] at hlr
    have h8 : nX_ (nX_ Mx) 1 8 = b := hE2.2.2.2.2.2.2.1
    have pre := fun (Kv : mm_ → Prop) (Qtq : qt_) hq => q_264n (me := me) (dq := dq) (Kv := Kv) (Qt := Qtq) h h9 hk h12 hE1 k1' h13 hE2 hl hm hq
    have q75 : nx_ (nx_ Mq) 6 75 = Mq 6 75 := by rw [nx_6 (by decide), nx_6 (by decide)]
    have x53 : nX_ (nX_ Mx) 5 3 = Mx 5 3 := by rw [nX_ne (by decide), nX_ne (by decide)]
    have h12q : Mq 174 (Mq 6 61) ≤ 12 := by rw [h.2.1.2.1, h9.1.2.2]; exact h9.1.2.1
    intro _
    rw [h8]
    rcases h01 with hb | hb
    · rw [if_pos hb]
      rw [if_pos (.inl hb)] at pre
      unfold Qn_ at pre
      rw [if_pos (.inl hb)] at pre
      have A3 := AM_up (r := 205) (v := l) (AM_em (w := 8) (p := Mx 71 a) A2 q75) (by decide) (rfl : Mq 6 75 = Mq 6 75)
      refine rv_i (y_endl (d2 := dq + 2) (Mx := Mx) (Mq := Mq) (me := me) (.inl ⟨rfl, rfl⟩) A3 hS pre (by omega) (by omega) (by rw [up_ne (by decide), em_75, q75]) (by (clear h h9 htr hm hst hk hS hK hQ hsyn A0 hE hT hc hae hp0 stop h12 hE1 A1 hT1 e70 q1 hg1 h18 e29 pr1 hV hW k1 k0 hne pr2 k2 h13 hE2 A2 hT2 hV2 k1' hnm hend hl hlr h8 pre q75 x53 h12q hb A3; lia)) ⟨by rw [up_ne (by decide), ← q75, em_204], by rw [up_ne (by decide), ← q75, em_203], fun h => absurd h (by decide)⟩ (fun hb1 => by (clear h h9 htr hm hst hk hS hK hQ hsyn A0 hE hT hc hae hp0 stop h12 hE1 A1 hT1 e70 q1 hg1 h18 e29 pr1 hV hW k1 k0 hne pr2 k2 h13 hE2 A2 hT2 hV2 k1' hnm hend hl hlr pre q75 x53 h12q A3; omega)) (fun MX MQ Mx' Mq' a' hL hA hs hq => rv_i (hK MX MQ Mx' Mq' a' hL hA (by rw [hend]; exact hs) hq)) hQ)
    · rw [if_neg (by (clear h h9 htr hm hst hk hS hK hQ hsyn A0 hE hT hc hae hp0 stop h12 hE1 A1 hT1 e70 q1 hg1 h18 e29 pr1 hV hW k1 k0 hne pr2 k2 h13 hE2 A2 hT2 hV2 k1' hnm hend hl hlr pre q75 x53 h12q; lia))]
      refine x_142R hT2 hV2 (stt9_c (AM_X A2) (AM_Q A2) h9) hnm ?_
      rw [show nx_ (nx_ Mq) 151 = Mq 151 by rw [nx_ne (by decide), nx_ne (by decide)], stt_c (AM_Q A2), ← hl]
      by_cases cl : l = -1
      · rw [if_pos cl]
        rw [if_pos (.inr (by (clear h h9 htr hm hst hk hS hK hQ hsyn A0 hE hT hc hae hp0 stop h12 hE1 A1 hT1 e70 q1 hg1 h18 e29 pr1 hV hW k1 k0 hne pr2 k2 h13 hE2 A2 hT2 hV2 k1' hnm hend hlr h8 pre q75 x53 h12q hb; omega)))] at pre
        have e4 : k4g_ l = 4 := by unfold k4g_; rw [if_pos cl]
        rw [e4] at pre
        obtain ⟨A3, hz3⟩ := AM_m (k := 4) (tk := a + 1) A2 (by (clear h h9 htr hm hst hk hS hK hQ hsyn A0 hE hT hc hae hp0 stop h12 hE1 A1 hT1 e70 q1 hg1 h18 e29 pr1 hV hW k1 k0 hne pr2 k2 h13 hE2 A2 hT2 hV2 k1' hnm hend hl hlr h8 pre q75 x53 h12q hb cl e4; lia)) hg1 (by omega)
        have eX : Xn_ (nX_ (nX_ Mx)) b 4 (a + 1) = nt1_ (nX_ (nX_ Mx)) 4 (a + 1) := by unfold Xn_; rw [if_neg (by (clear h h9 htr hm hst hk hS hK hQ hsyn A0 hE hT hc hae hp0 stop h12 hE1 A1 hT1 e70 q1 hg1 h18 e29 pr1 hV hW k1 k0 hne pr2 k2 h13 hE2 A2 hT2 hV2 k1' hnm hend hl hlr pre q75 x53 h12q cl e4 A3 hz3; omega))]
        refine x_116 (by omega) (by omega) (ER_fl hE2).1 (ER_fl hE2).2 ?_
        rw [← eX]
        generalize hX3 : Xn_ (nX_ (nX_ Mx)) b 4 (a + 1) = Mx3 at *
        have hQ3 : Qn_ (nx_ (nx_ Mq)) b 4 (Mx 71 (a + 1)) 6 75 = Mq 6 75 := by rw [Qn_6 (by decide) (by decide)]; exact q75
        generalize Qn_ (nx_ (nx_ Mq)) b 4 (Mx 71 (a + 1)) = Mq3 at *
        have hE3 := AM_E A3
        have hp1 := PXL_1 (v := 39) hE3.2.2.2.2.2.2.1 (.inr hb) (PXL_0 (b := b) (M := Mx3))
        have A4 := AM_p A3 hp1 (by simp only [List.length_cons, List.length_nil]; omega)
        refine x_138 (AM_V A3).1 (ER_st hE3).1 (ER_st hE3).2 ?_
        refine x_138 (AM_V A4).1 (ER_st (AM_E A4)).1 (ER_st (AM_E A4)).2 ?_
        have hp := PXL_1 (v := l) hE3.2.2.2.2.2.2.1 (.inr hb) hp1
        have A5 := AM_p A3 hp (by simp only [List.length_cons, List.length_nil]; omega)
        have A6 := AM_up (r := 205) (v := l) (AM_em (w := 8) (p := Mx 71 a) A5 hQ3) (by decide) (rfl : Mq 6 75 = Mq 6 75)
        refine rv_i (y_endl (d2 := dq + 2) (Mx := Mx) (Mq := Mq) (me := me) (.inl ⟨rfl, rfl⟩) A6 hS pre (by omega) (by omega) (by rw [up_ne (by decide), em_75, hQ3]) (by simp only [List.length_cons, List.length_nil]; omega) ⟨by rw [up_ne (by decide), ← hQ3, em_204], by rw [up_ne (by decide), ← hQ3, em_203], fun h => absurd h (by decide)⟩ (fun hb1 h0 => ?_) (fun MX MQ Mx' Mq' a' hL hA hs hq => rv_i (hK MX MQ Mx' Mq' a' hL hA (by rw [hend]; exact hs) hq)) hQ)
        exfalso
        have := hz3 hb (by rw [up_ne (by decide), em_6 (by decide)] at h0; exact h0)
        omega
      · rw [if_neg cl]
        rw [if_neg (by (clear h h9 htr hm hst hk hS hK hQ hsyn A0 hE hT hc hae hp0 stop h12 hE1 A1 hT1 e70 q1 hg1 h18 e29 pr1 hV hW k1 k0 hne pr2 k2 h13 hE2 A2 hT2 hV2 k1' hnm hend pre q75 x53 h12q; lia))] at pre
        have e29' : w32 (nX_ (nX_ Mx) 1 29 - 1) = Mx 1 29 - 1 := by rw [nX_1 (by decide), nX_1 (by decide), w32_id (by omega) (by omega)]
        have e63 : nX_ (nX_ Mx) 63 = Mx 63 := by rw [nX_ne (by decide), nX_ne (by decide)]
        rw [e29', e63]
        refine ⟨by (clear h h9 hm hst hk hS hK hQ hsyn A0 hE hT hc hae hp0 stop h12 hE1 A1 hT1 e70 q1 hg1 h18 pr1 hV hW k1 k0 hne pr2 k2 h13 hE2 A2 hT2 hV2 k1' hnm hend hl hlr h8 pre q75 x53 h12q hb cl e63; omega), by omega, ?_⟩
        have A3 := AM_base (rx := 63) (rq := 213) (i := Mx 1 29 - 1) (v := or_ (Mx 63 (Mx 1 29 - 1)) (sl_ 1 l)) (j := me) (w := or_ (Mq 213 me) (sl_ 1 l)) (.inl rfl) (.inl rfl) A2
        have hL : LM b Mx Mq me (up_ Mx 63 (Mx 1 29 - 1) (or_ (Mx 63 (Mx 1 29 - 1)) (sl_ 1 l))) (up_ Mq 213 me (or_ (Mq 213 me) (sl_ 1 l))) := .inr ⟨hb, l, ⟨by (clear h h9 htr hm hst hk hS hK hQ hsyn A0 hE hT hc hae hp0 stop h12 hE1 A1 hT1 e70 q1 hg1 h18 e29 pr1 hV hW k1 k0 hne pr2 k2 h13 hE2 A2 hT2 hV2 k1' hnm hend h8 pre q75 x53 h12q hb e29' e63 A3; lia), by (clear h h9 htr hm hst hk hS hK hQ hsyn A0 hE hT hc hae hp0 stop h12 hE1 A1 hT1 e70 q1 hg1 h18 e29 pr1 hV hW k1 k0 hne pr2 k2 h13 hE2 A2 hT2 hV2 k1' hnm hend h8 pre q75 x53 hb e29' e63 A3; omega)⟩, .inl ⟨by have e61 := h.2.1.2.1; have e174 := h9.1.2.2; rw [e61, e174] at hlr; (clear h h9 htr hm hst hk hS hK hQ hsyn A0 hE hT hc hae hp0 stop h12 hE1 A1 hT1 e70 q1 hg1 h18 e29 pr1 hV hW k1 k0 hne pr2 k2 h13 hE2 A2 hT2 hV2 k1' hnm hend h8 pre q75 x53 h12q hb e29' e63 A3 e61 e174; lia), rfl, rfl⟩⟩
        have y53 : up_ (nX_ (nX_ Mx)) 63 (Mx 1 29 - 1) (or_ (Mx 63 (Mx 1 29 - 1)) (sl_ 1 l)) 5 3 = Mx 5 3 := by rw [up_ne (by decide)]; exact x53
        have hQ3 : up_ (nx_ (nx_ Mq)) 213 me (or_ (Mq 213 me) (sl_ 1 l)) 6 75 = Mq 6 75 := by rw [up_ne (by decide)]; exact q75
        have q174 : up_ (nx_ (nx_ Mq)) 213 me (or_ (Mq 213 me) (sl_ 1 l)) 174 = Mq 174 := by rw [up_ne (by decide), nx_ne (by decide), nx_ne (by decide)]
        have b75 : up_ Mq 213 me (or_ (Mq 213 me) (sl_ 1 l)) 6 75 = Mq 6 75 := by rw [up_ne (by decide)]
        generalize up_ (nX_ (nX_ Mx)) 63 (Mx 1 29 - 1) (or_ (Mx 63 (Mx 1 29 - 1)) (sl_ 1 l)) = Mx3 at *
        generalize up_ (nx_ (nx_ Mq)) 213 me (or_ (Mq 213 me) (sl_ 1 l)) = Mq3 at *
        have hE3 := AM_E A3
        have hp1 := PXL_1 (v := 39) hE3.2.2.2.2.2.2.1 (.inr hb) (PXL_0 (b := b) (M := Mx3))
        have A4 := AM_p A3 hp1 (by simp only [List.length_cons, List.length_nil]; omega)
        refine x_138 (AM_V A3).1 (ER_st hE3).1 (ER_st hE3).2 ?_
        refine x_138 (AM_V A4).1 (ER_st (AM_E A4)).1 (ER_st (AM_E A4)).2 ?_
        have hp := PXL_1 (v := l) hE3.2.2.2.2.2.2.1 (.inr hb) hp1
        have A5 := AM_p A3 hp (by simp only [List.length_cons, List.length_nil]; omega)
        have A6 := AM_up (r := 205) (v := l) (AM_em (w := 8) (p := Mx 71 a) A5 (hQ3.trans b75.symm)) (by decide) (b75.symm : Mq 6 75 = _)
        refine rv_i (y_endl (d2 := dq + 2) (Mx := Mx) (Mq := Mq) (me := me) hL A6 hS pre (by omega) (by omega) (by rw [up_ne (by decide), em_75, hQ3]) (by simp only [List.length_cons, List.length_nil]; (clear h h9 htr hm hst hk hS hK hQ hsyn A0 hE hT hc hae hp0 stop h12 hE1 A1 hT1 e70 q1 hg1 h18 e29 pr1 hV hW k1 k0 hne pr2 k2 h13 hE2 A2 hT2 hV2 k1' hnm hend hl hlr h8 q75 x53 h12q hb cl e29' e63 hL b75 y53 pre hQ3 q174 A3 hE3 hp1 A4 hp A5 A6; lia)) ⟨by rw [up_ne (by decide), ← hQ3, em_204], by rw [up_ne (by decide), ← hQ3, em_203], fun h => absurd h (by decide)⟩ (fun hb1 h0 => ?_) (fun MX MQ Mx' Mq' a' hL hA hs hq => rv_i (hK MX MQ Mx' Mq' a' hL hA (by rw [hend]; exact hs) hq)) hQ)
        have hp4 := hp.2.2.2.1 hb
        obtain ⟨s1, s2, _⟩ := hp4.2
        rw [y53] at s1 s2 hp4
        refine .inr (.inr (.inr (.inr (.inr (.inl ⟨?_, .inr ⟨?_, ?_, ?_, ?_, ?_⟩⟩)))))
        · rw [up_ne (by decide), ← hQ3, em_203]
        · rw [up_at]; (clear h h9 htr hm hst hk hS hK hQ hsyn A0 hE hT hc hae hp0 stop h12 hE1 A1 hT1 e70 q1 hg1 h18 e29 pr1 hV hW k1 k0 hne pr2 k2 h13 hE2 A2 hT2 hV2 k1' hnm hend h8 q75 x53 h12q hb e29' e63 hL b75 y53 pre hQ3 q174 A3 hE3 hp1 A4 hp A5 A6 hb1 h0 hp4 s2; lia)
        · rw [up_at, up_ne (by decide), em_r (.inl (by decide)) (by decide), q174]; (clear h h9 htr hm hst hk hS hK hQ hsyn A0 hE hT hc hae hp0 stop h12 hE1 A1 hT1 e70 q1 hg1 h18 e29 pr1 hV hW k1 k0 hne pr2 k2 h13 hE2 A2 hT2 hV2 k1' hnm hend h8 q75 x53 h12q hb e29' e63 hL b75 y53 pre hQ3 q174 A3 hE3 hp1 A4 hp A5 A6 hb1 h0 hp4 s2; lia)
        · simpa using s2
        · rw [up_at]; exact s1
        · rw [hp4.1]; rfl
end LN
end T114_ln
section T115_va
/-! values: what may begin an e -/
section VB
variable {d dq n : Nat} {b F : Int} {Mx Mq M : mm_} {a o w : Int} {K : Int → mm_ → Prop} {Kv G : mm_ → Prop} {Qt : qt_} {V : vv_}
abbrev bE_ (k : Int) : Prop := k = 101 ∨ k = 100 ∨ (31 ≤ k ∧ k ≤ 41) ∨ k = 240 ∨ k = 245
theorem y_159 [Inhabited gh_] (hE : ER b F Mx Mq a o) (ht : bE_ (Mx 70 a) → K 1 Mx) (hf : ¬ bE_ (Mx 70 a) → K 0 Mx) : Tr_ wd0 pg0 (d + 2) 159 [.inr (.inr 1)] Mx (ri_ K) Qt := t_159 fun V hV hW => b_159_0 (Tr_mono _) hV hW Mx (by
  refine x_120 (ER_iX hE) ?_
  rw [hE.2.1]
  generalize Mx 70 a = k at *
  by_cases c : bE_ k
  · have h1 : bl_ 1 ∧ ri_ K [.inl 1] Mx := ⟨.inr rfl, ri_i (ht c)⟩
    by_cases c1 : k = 101
    · rw [if_pos c1]; exact h1
    · rw [if_neg c1]
      by_cases c2 : k = 100
      · rw [if_pos c2]; exact h1
      · rw [if_neg c2]
        by_cases c3 : k < 31
        · exfalso; unfold bE_ at c; omega
        · rw [if_neg c3]
          by_cases c4 : k ≤ 41
          · rw [if_pos c4]; exact h1
          · rw [if_neg c4]
            by_cases c5 : k = 240
            · rw [if_pos c5]; exact h1
            · rw [if_neg c5, if_pos (by unfold bE_ at c; (clear hE hV hW ht hf h1 c3; lia))]; exact h1
  · have h1 : bl_ 0 ∧ ri_ K [.inl 0] Mx := ⟨.inl rfl, ri_i (hf c)⟩
    unfold bE_ at c
    rw [if_neg (by (clear hE hV hW ht hf h1; lia)), if_neg (by omega)]
    by_cases c3 : k < 31
    · rw [if_pos c3, if_neg (by omega), if_neg (by omega)]; exact h1
    · rw [if_neg c3, if_neg (by omega), if_neg (by omega), if_neg (by omega)]; exact h1)
/-- X: an e that cannot begin -/
theorem x_145b [Inhabited gh_] (hE : ER b F Mx Mq a o) (hn : ¬ bE_ (Mx 70 a)) (h : Qt 8 (flX_ Mx 1 a)) : Tr_ wd0 pg0 (d + 10) 145 [.inr (.inr 1), .inl w] Mx (rv_ Kv) Qt := by
  have e3 := hE.2.1
  unfold bE_ at hn
  refine t_145 fun V hV hW => b_145_0 (Tr_mono _) hV hW w Mx ?_
  refine t_146 fun V hV hW => b_146_0 (Tr_mono _) hV hW Mx ?_
  refine t_147 fun V hV hW => b_147_0 (Tr_mono _) hV hW Mx ?_
  refine t_148 fun V hV hW => b_148_0 (Tr_mono _) hV hW Mx ?_
  refine t_149 fun V hV hW => b_149_0 (Tr_mono _) hV hW Mx ?_
  refine t_150 fun V hV hW => b_150_0 (Tr_mono _) hV hW Mx ?_
  refine t_151 fun V hV hW => b_151_0 (Tr_mono _) hV hW Mx ?_
  refine y_117 hE (by decide) (fun e => by rw [show skk_ 45 = 245 from rfl] at e; omega) (fun _ => ?_)
  rw [if_pos rfl]
  refine y_103 hE (fun e => by omega) (fun _ => ?_)
  rw [if_pos rfl]
  refine t_152 fun V hV hW => b_152_0 (Tr_mono _) hV hW Mx ?_
  refine x_120 (ER_iX hE) ?_
  rw [e3, if_neg (by omega), if_neg (by omega), if_neg (by (clear hE h e3 hV hW; omega)), if_neg (by omega), if_neg (by omega), if_neg (by omega), if_neg (by omega), if_neg (by omega), if_neg (by omega), if_neg (by omega), if_neg (by omega), if_neg (by omega), if_neg (by omega)]
  refine x_109 (ER_iX hE) ?_
  rw [if_neg (by decide), e3]
  exact h
/-- Q: a fourth value -/
theorem j_299 [Inhabited gh_] (hT : Tks Mx Mq) (hE : ER b F Mx Mq a o) (hb : b = 0) (h : Kv (bf_ Mq (if bE_ (Mx 70 a) then 2 else 1) (Mx 71 a))) : Tr_ wd0 pg0 (d + 3) 299 [.inr (.inr 6)] Mq (rv_ Kv) Qt := by
  obtain ⟨e1, e2, e3, e4, e5, e6⟩ := ER_k hT hE
  have hok := ER_ok hE hb
  refine t_299 fun V hV hW => b_299_0 (Tr_mono _) hV hW Mq ?_
  have r2 : bE_ (Mx 70 a) → V 89 [rr 6, none] [] Mq := fun c => b_299_89 (Tr_mono _) hV hW Mq (by
    rw [if_pos c] at h
    rw [if_neg (by decide)]
    exact ⟨e3, q_231o hok.1 (rv_i (by rw [e2]; exact h))⟩)
  have r1 : ¬ bE_ (Mx 70 a) → V 93 [rr 6, none] [] Mq := fun c => b_299_93 (Tr_mono _) hV hW Mq (by
    rw [if_neg c] at h
    rw [if_pos rfl]
    exact q_234o e3 hok.1 (rv_i (by rw [e2]; exact h)))
  have n1 := kq_n e1
  have n2 := kq_u e1
  refine ⟨e3, ?_⟩
  by_cases c1 : Mq 149 (Mq 6 12) = 1
  · rw [if_pos c1]; exact r2 (.inr (.inl (n1.mp c1)))
  · rw [if_neg c1]
    refine ⟨e3, ?_⟩
    by_cases c2 : Mq 149 (Mq 6 12) = 2
    · rw [if_pos c2]; exact r2 (.inl (n2.mp c2))
    · rw [if_neg c2]
      by_cases c3 : Mx 70 a = 240
      · refine j_237t hT hE (by decide) c3 ?_
        rw [if_neg (by decide)]; exact r2 (.inr (.inr (.inr (.inl c3))))
      · refine j_237f hT hE (by decide) c3 ?_
        rw [if_pos rfl]
        by_cases c4 : Mx 70 a = 245
        · refine j_237t hT hE (by decide) c4 ?_
          rw [if_neg (by decide)]; exact r2 (.inr (.inr (.inr (.inr c4))))
        · refine j_237f hT hE (by decide) c4 ?_
          rw [if_pos rfl]
          refine ⟨e3, ?_⟩
          by_cases c5 : Mq 149 (Mq 6 12) = 4
          · have ek : Mq 151 (Mq 6 12) = Mx 70 a := by unfold KQ at e1; (clear hT hE hb h e2 e3 e4 hok hV hW; lia)
            rw [if_pos c5, ek]
            refine ⟨e3, ?_⟩
            by_cases c6 : Mx 70 a < 31
            · rw [if_pos c6, if_pos (by decide)]; exact r1 (by unfold bE_; omega)
            · have c6' : ¬ (if Mx 70 a < 31 then (-1 : Int) else if Mx 70 a = 31 then 0 else 1) < 0 := by
                rw [if_neg c6]; split <;> omega
              rw [if_neg c6']
              refine ⟨e3, ?_⟩
              by_cases c7 : Mx 70 a ≤ 41
              · have c7' : (if Mx 70 a < 41 then (-1 : Int) else if Mx 70 a = 41 then 0 else 1) ≤ 0 := by
                  split
                  · omega
                  · split <;> omega
                rw [if_pos c7']; exact r2 (by unfold bE_; omega)
              · have c7' : ¬ (if Mx 70 a < 41 then (-1 : Int) else if Mx 70 a = 41 then 0 else 1) ≤ 0 := by
                  rw [if_neg (by omega), if_neg (by omega)]; omega
                rw [if_neg c7']; exact r1 (by unfold KQ at e1; unfold bE_; (clear hT hE hb h e1 e2 e3 e4 e5 e6 hok hV hW r2 r1 ek c6 c6' c7'; lia))
          · rw [if_neg c5]; exact r1 (by unfold KQ at e1; unfold bE_; (clear hT hE hb h e2 e3 e4 hok hV hW; lia))
end VB
end T115_va
section T116_va
/-! values: the loop -/
/-- Q's choice of a sort -/
def F21 (V : vv_) (x1 x2 x3 x4 x5 : Int) (M2 : mm_) : Prop :=
     (if x3 ≤ x5 then
      V 88 [rr 6, ii x1, ii x2, ii x3, ii x4, ii x5, ii 1, ii 0, none] [] M2
     else
      (if x2 < (-1) then
       (0 ≤ w32 ((w32 (8 * (w32 (((-2)) - x2)))) + x5) ∧ w32 ((w32 (8 * (w32 (((-2)) - x2)))) + x5) < 48) ∧
        V 88 [rr 6, ii x1, ii x2, ii x3, ii x4, ii x5, ii 1, ii (M2 182 (w32 ((w32 (8 * (w32 (((-2)) - x2)))) + x5))), none] [] M2
      else
       (0 ≤ w32 (x2 + x5) ∧ w32 (x2 + x5) < 60) ∧
        V 88 [rr 6, ii x1, ii x2, ii x3, ii x4, ii x5, ii 1, ii (M2 157 (w32 (x2 + x5))), none] [] M2))
/-- what values leave of Q -/
def qvL : List Nat := [6, 209, 210, 227, 228, 229, 230, 231, 232, 233, 234]
def qvI : List Int := [12, 13, 14, 15, 104, 107, 108, 109, 112, 116, 118]
def QV (b : Int) (M M' : mm_) : Prop := Fr_ qvL M M' ∧ (∀ i : Int, i ∉ qvI → M' 6 i = M 6 i) ∧ (b = 1 → M' 6 13 = 0 → M 6 13 = 0)
theorem QV_rf [Inhabited gh_] {b : Int} {M : mm_} : QV b M M := ⟨Fr_rf, fun _ _ => rfl, fun _ h => h⟩
theorem QV_tr [Inhabited gh_] {b : Int} {M M1 M2 : mm_} (h1 : QV b M M1) (h2 : QV b M1 M2) : QV b M M2 := ⟨Fr_tr h1.1 h2.1, fun i a => (h2.2.1 i a).trans (h1.2.1 i a), fun hb h => h1.2.2 hb (h2.2.2 hb h)⟩
theorem QG_QV [Inhabited gh_] {b : Int} {M M' : mm_} (h : QG M M') (h13 : b = 1 → M' 6 13 = 0 → M 6 13 = 0) : QV b M M' := ⟨Fr_sub h.1 (by decide), fun i hi => h.2 i (nm_i hi (by decide)) (nm_i hi (by decide)) (nm_i hi (by decide)) (nm_i hi (by decide)) (nm_i hi (by decide)) (nm_i hi (by decide)) (nm_i hi (by decide)) (nm_i hi (by decide)) (nm_i hi (by decide)) (nm_i hi (by decide)) (nm_i hi (by decide)), h13⟩
theorem QV_nx [Inhabited gh_] {b : Int} {M : mm_} : QV b M (nx_ M) := QG_QV (QG_QF nx_QF) (fun _ h => by rw [nx_6 (by decide)] at h; exact h)
theorem QV_9 [Inhabited gh_] {b : Int} {M : mm_} {i v : Int} : QV b M (up_ M 209 i v) := ⟨Fr_up Fr_rf (by decide), fun j _ => by rw [up_ne (by decide)], fun _ h => by rw [up_ne (by decide)] at h; exact h⟩
theorem QV_10 [Inhabited gh_] {b : Int} {M : mm_} {i v : Int} : QV b M (up_ M 210 i v) := ⟨Fr_up Fr_rf (by decide), fun j _ => by rw [up_ne (by decide)], fun _ h => by rw [up_ne (by decide)] at h; exact h⟩
theorem QV_15 [Inhabited gh_] {b : Int} {M : mm_} {v : Int} : QV b M (up_ M 6 15 v) := ⟨Fr_up Fr_rf (by decide), fun j hj => by rw [up_off (nm_i hj (by decide))], fun _ h => by rw [up_off (by decide)] at h; exact h⟩
theorem QV_QC [Inhabited gh_] {b : Int} {M M' : mm_} (h : QV b M M') : QC M M' := ⟨Fr_sub h.1 (by decide), fun i hi => h.2.1 i (fun e => hi (by revert e; unfold qvI qcI; simp only [List.mem_cons, List.not_mem_nil, or_false]; (clear h hi; lia)))⟩
section VL
variable {d dq n : Nat} {b F : Int} {Mx Mq Mx1 Mq1 Mx2 Mq2 M : mm_} {a a1 o o1 s z : Int} {K : Int → mm_ → Prop} {Kv G : mm_ → Prop} {Qt : qt_} {V : vv_}
theorem vS_n [Inhabited gh_] {κ : Int → Int} {o a2 j : Int} (h0 : 0 ≤ a2) (h1 : a2 ≤ 1200) (h : gS a2 = none) : LPz (vS1 κ o) (a2, j) = none := by
  have e := vS_u (κ := κ) (o := o) (s := (a2, j)) h0 h1
  have e2 : vS1 κ o (a2, j) = none := by
    unfold vS1
    simp only [h, Option.bind_none]
  rw [e2, Option.bind_none] at e
  exact e
theorem vS_3 [Inhabited gh_] {κ : Int → Int} {o a2 : Int} (h0 : 0 ≤ a2) (h1 : a2 ≤ 1200) : LPz (vS1 κ o) (a2, 3) = none := by
  have e := vS_u (κ := κ) (o := o) (s := (a2, 3)) h0 h1
  have e2 : vS1 κ o (a2, 3) = none := by
    unfold vS1
    cases gS a2 with
    | none => simp only [Option.bind_none]
    | some a3 => simp only [Option.bind_some, if_true]
  rw [e2, Option.bind_none] at e
  exact e
theorem vS_ey [Inhabited gh_] {κ : Int → Int} {o a2 j : Int} (h12 : a2 < 1200) (hj : j ≠ 3) {L : Int × Int → Option Int} {X : Option Int} (hX : ES κ 0 (o + 1) (a2 + 1) = X) : (vS1 κ o (a2, j)).bind (lk8_ L) = X.bind fun a3 => if κ a3 = 244 then L (a3, j + 1) else tS κ 241 a3 := by
  have e2 : vS1 κ o (a2, j) = X.bind fun a2 => if κ a2 = 244 then some (.inl (a2, j + 1)) else (tS κ 241 a2).bind fun a3 => some (.inr a3) := by
    unfold vS1
    rw [← hX]
    simp only [gS_e h12, Option.bind_some, if_neg hj]
  rw [e2]
  clear e2 hX
  cases X with
  | none => rfl
  | some a3 =>
    rw [Option.bind_some, Option.bind_some]
    by_cases c : κ a3 = 244
    · rw [if_pos c, if_pos c]; rfl
    · rw [if_neg c, if_neg c]
      cases tS κ 241 a3 with
      | none => rfl
      | some a4 => rfl
theorem vS_e [Inhabited gh_] {κ : Int → Int} {o a2 j : Int} (h0 : 0 ≤ a2) (hj : j ≠ 3) (h12 : a2 < 1200) : LPz (vS1 κ o) (a2, j) = (ES κ 0 (o + 1) (a2 + 1)).bind fun a3 => if κ a3 = 244 then LPz (vS1 κ o) (a3, j + 1) else tS κ 241 a3 := (vS_u (κ := κ) (o := o) (s := (a2, j)) h0 (Int.le_of_lt h12)).trans (vS_ey h12 hj rfl)
theorem AM_u9 [Inhabited gh_] {v i : Int} (h : AM b F Mx Mq Mx1 Mq1 a a1 o1 s z) (hi : 3 * Mq 6 75 ≤ i) : AM b F Mx Mq Mx1 (up_ Mq1 209 i v) a a1 o1 s z :=
  AM_q h (QC_ur (by decide) (by decide)) (fun j _ => by rw [up_ne (by decide)]) ⟨up_ne (by decide), up_ne (by decide)⟩ (fun r j hr _ _ => by rw [up_ne (fun e => absurd hr (by rw [e]; decide))]) (fun j _ y => up_off (by omega))
/-- Q's values, once stopped -/
theorem q_298s [Inhabited gh_] {x1 x2 x3 x4 x5 x6 : Int} (hV : Cl_ wd0 (Tr_ wd0 pg0 (d + 4)) V (rv_ Kv) Qt m_298) (hW : Wk_ V) (hs : sp_ M) (h : Kv M) : V 21 [rr 6, ii x1, ii x2, ii x3, ii x4, ii x5, ii x6, none, none] [] M := by
  have fin : V 137 [rr 6, ii x1, ii x2, ii x3, ii x4, ii x5, none, none, none] [] M := b_298_137 (Tr_mono _) hV hW _ _ _ _ _ M (by
    refine q_227s hs ?_
    rw [if_neg (by decide)]
    exact rv_i h)
  refine b_298_21 (Tr_mono _) hV hW _ _ _ _ _ _ M ?_
  by_cases c : x6 = 0
  · rw [if_pos c]; exact q_243s hs fin
  · rw [if_neg c]
    refine q_227s hs ?_
    rw [if_neg (by decide)]
    exact q_243s hs fin
theorem l_158a [Inhabited gh_] (hn : n + 1 ≤ 12) (ho : o = 11 - (n : Int)) {x2 x3 x4 X2 X3 : Int} {w wq : Int → Int} {T : Int}
    (hX3 : X3 ≤ 3) (hT61 : Mq 6 61 = T) (hk0 : 0 ≤ Mq 6 75 ∧ Mq 6 75 < 1300)
    (hw : ∀ j, 0 ≤ j → j < 3 → (-1 ≤ w j ∧ w j ≤ 2) ∧ -1 ≤ wq j ∧ (b = 1 → wq j = w j))
    (hX : ∀ j M, 0 ≤ j → j < 3 → XC Mx1 M → (j < X3 → (0 ≤ w32 (X2 + j) ∧ w32 (X2 + j) < 60) ∧ M 113 (w32 (X2 + j)) = w j ∧ 0 ≤ w j) ∧ (¬ j < X3 → w j = -1))
    (hF : ∀ (V : vv_) j M, 0 ≤ j → j < 3 → QV b Mq1 M → V 88 [rr 6, ii (Mq 6 75), ii x2, ii x3, ii x4, ii j, ii 1, ii (wq j + 1), none] [] M → F21 V (Mq 6 75) x2 x3 x4 j M)
    (hV : Cl_ wd0 (Tr_ wd0 pg0 (9 * n + 14)) V (ri_ K) Qt m_158) (hW : Wk_ V)
    (hQ : b = 0 → ∀ Mx', XA Mx Mx' → (∀ (R : mm_ → Prop) (Qtq : qt_), (∀ M', SQ Mx' Mq M' → R M') → Tr_ wd0 pg0 (dq + 13) 298 [.inr (.inr 6), .inl (Mq 6 75), .inl x2, .inl x3, .inl x4] Mq1 (rv_ R) Qtq) → Qt 8 Mx') :
    ∀ (m : Nat) (j : Int) (Mx2 Mq2 : mm_) (a2 s z : Int), (m : Int) + j = 3 → 0 ≤ j → AM b F Mx Mq Mx2 Mq2 a a2 (o + 1) s z → XC Mx1 Mx2 → QV b Mq1 Mq2 → (Mx 70 a2 ≠ 102 ∧ Mx 70 a2 ≠ 103) → 0 ≤ z → s ≤ 0
      → (∀ (R : mm_ → Prop) (Qtq : qt_), (∀ V : vv_, Cl_ wd0 (Tr_ wd0 pg0 (dq + 12)) V (rv_ R) Qtq m_298 → Wk_ V → V 21 [rr 6, ii (Mq 6 75), ii x2, ii x3, ii x4, ii j, ii 1, none, none] [] (if a2 < 1200 then nx_ Mq2 else bf_ Mq2 2 (Mx2 71 a2))) → Tr_ wd0 pg0 (dq + 13) 298 [.inr (.inr 6), .inl (Mq 6 75), .inl x2, .inl x3, .inl x4] Mq1 (rv_ R) Qtq)
      → (b = 1 → LPz (vS1 (Mx 70) o) (a2, j) ≠ none)
      → (b = 1 → Mq2 6 13 = 0 → j ≤ X3 → VAL Mx2 Mq2 T (Mq2 6 104) (fun i => w i + 1) (Mq 6 75) j.toNat (Mx 5 3) (Mx2 5 3))
      → (∀ Mx' Mq' a' nn s' z', AM b F Mx Mq Mx' Mq' a a' o s' z' → 8 ≤ z' → s' ≤ 0 → XC Mx1 Mx' → QV b Mq1 Mq' → (1 ≤ nn ∧ nn ≤ 3) → LPz (vS1 (Mx 70) o) (a2, j) = some a'
          → (b = 1 → Mq' 6 13 = 0 → nn ≤ X3 → VAL Mx' Mq' T (Mq' 6 104) (fun i => w i + 1) (Mq 6 75) nn.toNat (Mx 5 3) (Mx' 5 3))
          → (∀ (R : mm_ → Prop) (Qtq : qt_), (∀ V : vv_, Cl_ wd0 (Tr_ wd0 pg0 (dq + 12)) V (rv_ R) Qtq m_298 → Wk_ V → V 137 [rr 6, ii (Mq 6 75), ii x2, ii x3, ii x4, ii nn, none, none, none] [] Mq') → Tr_ wd0 pg0 (dq + 13) 298 [.inr (.inr 6), .inl (Mq 6 75), .inl x2, .inl x3, .inl x4] Mq1 (rv_ R) Qtq) → K nn Mx')
      → V 18 [rr 1, rr 113, ii X2, ii X3, ii j] [] Mx2 := by
  intro m
  induction m with
  | zero =>
    intro j Mx2 Mq2 a2 s z hm hj A hx2 hq2 hkk hz hs pre hS hVal hD
    have hE := AM_E A
    have e70 := AM_70 A
    have ha2 := ER_a hE
    have hb0 : b = 0 := by
      rcases hE.2.2.2.2.2.2.2.2.1 with hb | hb
      · exact hb
      · exfalso
        apply hS hb
        rw [show j = 3 by omega]; exact vS_3 ha2.1 ha2.2
    refine b_158a_18 (Tr_mono _) hV hW X2 X3 j Mx2 ?_
    refine y_105 hE (by rw [e70]; exact hkk) (fun hb => by omega) (fun h12 hE1 => ?_) (fun hb h12 => ?_)
    rotate_left
    · have hsp := SQ_bf hE hb (k := 2) (by decide) (QC_QA (AM_Q A))
      refine hQ hb _ (XA_tr (XC_XA (AM_X A)) (XF_XA fl_XF)) fun R Qtq hk9 => pre _ _ fun V hV hW => ?_
      rw [if_neg (by omega)]
      exact q_298s hV hW hsp.1 (hk9 _ hsp)
    have A1 := AM_go A hE1
    have hT1 := AM_T A1
    have m71 := AM_71 A1
    have qrun : ∀ (R : mm_ → Prop) (Qtq : qt_), R (bf_ (nx_ Mq2) (if bE_ (nX_ Mx2 70 (a2 + 1)) then 2 else 1) (nX_ Mx2 71 (a2 + 1))) → Tr_ wd0 pg0 (dq + 13) 298 [.inr (.inr 6), .inl (Mq 6 75), .inl x2, .inl x3, .inl x4] Mq1 (rv_ R) Qtq := by
      intro R Qtq hR
      refine pre _ _ fun V hV hW => ?_
      rw [if_pos h12]
      refine b_298_21 (Tr_mono _) hV hW _ _ _ _ _ _ _ ?_
      rw [if_neg (by decide)]
      refine q_227g (ER_goq hE1) ?_
      rw [if_pos rfl, if_pos (by omega)]
      exact j_299 hT1 hE1 hb0 (rv_i hR)
    rw [if_pos (by omega)]
    refine y_159 hE1 (fun c => ?_) (fun c => ?_)
    · rw [if_neg (by decide), hE1.2.1]
      rw [if_pos c] at qrun
      refine x_106 (by omega) (by omega) ?_
      rw [if_neg (by decide)]
      exact hQ hb0 _ (XA_tr (XC_XA (AM_X A1)) (XF_XA fl_XF)) fun R Qtq hk9 => qrun _ _ (hk9 _ (SQ_bf hE1 hb0 (by decide) (QC_QA (AM_Q A1))))
    · rw [if_pos rfl]
      rw [if_neg c] at qrun
      have fin : Qt 8 (flX_ (nX_ Mx2) 1 (a2 + 1)) := hQ hb0 _ (XA_tr (XC_XA (AM_X A1)) (XF_XA fl_XF)) fun R Qtq hk9 => qrun _ _ (hk9 _ (SQ_bf hE1 hb0 (by decide) (QC_QA (AM_Q A1))))
      by_cases c3 : j < X3
      · omega
      · rw [if_neg c3]
        exact x_145b (d := 9 * n + 4) hE1 c fin
  | succ m ih =>
    intro j Mx2 Mq2 a2 s z hm hj A hx2 hq2 hkk hz hs pre hS hVal hD
    have hE := AM_E A
    have e70 := AM_70 A
    have ha2 := ER_a hE
    have hj2 : j < 3 := by omega
    have h01 := hE.2.2.2.2.2.2.2.2.1
    have hu : a2 < 1200 → LPz (vS1 (Mx 70) o) (a2, j) = (ES (Mx 70) 0 (o + 1) (a2 + 1)).bind fun a3 => if Mx 70 a3 = 244 then LPz (vS1 (Mx 70) o) (a3, j + 1) else tS (Mx 70) 241 a3 := vS_e ha2.1 (by omega)
    refine b_158a_18 (Tr_mono _) hV hW X2 X3 j Mx2 ?_
    refine y_105 hE (by rw [e70]; exact hkk) (fun hb => by
      intro c
      apply hS hb
      exact vS_n ha2.1 ha2.2 c) (fun h12 hE1 => ?_) (fun hb h12 => ?_)
    rotate_left
    · have hsp := SQ_bf hE hb (k := 2) (by decide) (QC_QA (AM_Q A))
      refine hQ hb _ (XA_tr (XC_XA (AM_X A)) (XF_XA fl_XF)) fun R Qtq hk9 => pre _ _ fun V hV hW => ?_
      rw [if_neg (by omega)]
      exact q_298s hV hW hsp.1 (hk9 _ hsp)
    have A1 := AM_go A hE1
    have m70 := AM_70 A1
    have hx3 : XC Mx1 (nX_ Mx2) := XC_tr hx2 (XF_XC nX_XF)
    have hq3 : QV b Mq1 (nx_ Mq2) := QV_tr hq2 QV_nx
    have y53 : nX_ Mx2 5 3 = Mx2 5 3 := by rw [nX_ne (by decide)]
    have y104 : nx_ Mq2 6 104 = Mq2 6 104 := nx_6 (by decide)
    have y13 : nx_ Mq2 6 13 = Mq2 6 13 := nx_6 (by decide)
    have y61 : nx_ Mq2 6 61 = T := by rw [nx_6 (by decide), (AM_Q A).2 61 (by decide)]; exact hT61
    have y142 : nX_ Mx2 142 = Mx2 142 := nX_ne (by decide)
    have yr : ∀ r : Nat, r ≠ 6 → nx_ Mq2 r = Mq2 r := fun r hr => nx_ne hr
    rw [hu h12] at hS
    rw [hu h12] at hD
    have preE : ∀ (R : mm_ → Prop) (Qtq : qt_), (∀ V : vv_, Cl_ wd0 (Tr_ wd0 pg0 (dq + 12)) V (rv_ R) Qtq m_298 → Wk_ V → V 88 [rr 6, ii (Mq 6 75), ii x2, ii x3, ii x4, ii j, ii 1, ii (wq j + 1), none] [] (nx_ Mq2)) → Tr_ wd0 pg0 (dq + 13) 298 [.inr (.inr 6), .inl (Mq 6 75), .inl x2, .inl x3, .inl x4] Mq1 (rv_ R) Qtq := by
      intro R Qtq hR
      refine pre _ _ fun V hV hW => ?_
      rw [if_pos h12]
      refine b_298_21 (Tr_mono _) hV hW _ _ _ _ _ _ _ ?_
      rw [if_neg (by decide)]
      refine q_227g (ER_goq hE1) ?_
      rw [if_pos rfl, if_neg (by omega)]
      exact hF V j _ hj hj2 hq3 (hR V hV hW)
    rw [if_neg (by omega)]
    generalize nX_ Mx2 = Mx3 at *
    generalize nx_ Mq2 = Mq3 at *
    have wants : Tr_ wd0 pg0 (9 * n + 14) 145 [.inr (.inr 1), .inl (w j)] Mx3 (rv_ fun M3 => V 65 [rr 1, rr 113, ii X2, ii X3, ii j] [] M3) Qt := by
      have hwj := hw j hj hj2
      refine x_w (dq := dq) (n := n) (w := w j) (wq := wq j) (by omega) (by (clear hn hX3 hT61 hk0 hw hX hF hV hW hQ ih hm hj A hx2 hq2 hkk hz hs hS hVal hD hE e70 ha2 hj2 h01 hu h12 m70 hx3 y53 y142 pre hq3 y104 y13 y61 yr preE hE1 A1 hwj; lia)) hwj.1 hwj.2.1 hwj.2.2 (AM_T A1) (AM_V A1) hE1 (AM_f A1) (fun hb => by rw [m70]; intro c; have := hS hb; rw [c, Option.bind_none] at this; exact absurd rfl this) (fun Mx4 Mq4 a4 hW4 hS4 hq4 => ?_) (fun hb Mx' hx9 hq9 => ?_)
      rotate_left
      · refine hQ hb Mx' (XA_tr (XC_XA (AM_X A1)) (XF_XA hx9)) fun R Qtq hk9 => preE _ _ fun V hV hW => b_298_88 (Tr_mono _) hV hW _ _ _ _ _ _ _ _ (hq9 _ _ fun M' g1 g2 g3 g4 g5 => ?_)
        refine q_227s g1 ?_
        rw [if_neg (by decide)]
        exact rv_i (hk9 _ ⟨g1, g2, g3, g4, QA_tr (QC_QA (AM_Q A1)) (QF_QA g5)⟩)
      have A4 := AM_w A1 hW4
      have ew : w32 (w32 (3 * Mq 6 75) + j) = 3 * Mq 6 75 + j := by rw [w32_id (x := 3 * Mq 6 75) (by (clear hn ho hX3 hT61 hw hX hF hV hW hQ ih hm hj A hx2 hq2 hkk hz hs hS hVal hD hE e70 ha2 hj2 h01 hu h12 m70 hx3 y53 y142 pre hq3 y104 y13 y61 yr preE hE1 A1 hwj hW4 hS4 hq4 A4; lia)) (by omega), w32_id (by omega) (by (clear hn ho hX3 hT61 hw hX hF hV hW hQ ih A hx2 hq2 hkk hz hs hS hVal hD hE e70 ha2 hj2 h01 hu h12 m70 hx3 y53 y142 pre hq3 y104 y13 y61 yr preE hE1 A1 hwj hW4 hS4 hq4 A4; omega))]
      have ej : w32 (j + 1) = j + 1 := w32_id (by (clear hn ho hX3 hT61 hk0 hw hX hF hV hW hQ ih A hx2 hq2 hkk hz hs hS hVal hD hE e70 ha2 hj2 h01 hu h12 m70 hx3 y53 y142 pre hq3 y104 y13 y61 yr preE hE1 A1 hwj hW4 hS4 hq4 A4; lia)) (by (clear hn ho hX3 hT61 hk0 hw hX hF hV hW hQ ih A hx2 hq2 hkk hz hs hS hVal hD hE e70 ha2 hj2 h01 hu h12 m70 hx3 y53 y142 pre hq3 y104 y13 y61 yr preE hE1 A1 hwj hW4 hS4 hq4 A4; lia))
      have A5 := AM_u9 (v := Mq3 6 104) (i := 3 * Mq 6 75 + j) A4 (by (clear hn ho hX3 hT61 hk0 hw hX hF hV hW hQ ih A hx2 hq2 hkk hz hs hS hVal hD hE e70 ha2 hj2 h01 hu h12 m70 hx3 y53 y142 pre hq3 y104 y13 y61 yr preE hE1 A1 hwj hW4 hS4 hq4 A4; lia))
      have hE5 := AM_E A5
      have hT5 := AM_T A5
      have p70 := AM_70 A5
      rw [m70] at hS4
      rw [hS4, Option.bind_some] at hS
      rw [hS4, Option.bind_some] at hD
      have hx5 : XC Mx1 Mx4 := XC_tr hx3 (XF_XC hW4.2.1)
      have hq5 : QV b Mq1 (up_ Mq4 209 (3 * Mq 6 75 + j) (Mq3 6 104)) := QV_tr (QV_tr hq3 (QG_QV hW4.2.2.1 (fun hb h0 => (hW4.2.2.2.2.2.2.2.2.2 hb h0).1))) QV_9
      have hval : b = 1 → up_ Mq4 209 (3 * Mq 6 75 + j) (Mq3 6 104) 6 13 = 0 → j + 1 ≤ X3 → VAL Mx4 (up_ Mq4 209 (3 * Mq 6 75 + j) (Mq3 6 104)) T (up_ Mq4 209 (3 * Mq 6 75 + j) (Mq3 6 104) 6 104) (fun i => w i + 1) (Mq 6 75) (j + 1).toNat (Mx 5 3) (Mx4 5 3) := by
        intro hb h0 hle
        rw [up_ne (by decide)] at h0
        obtain ⟨h313, t, ht, hx4⟩ := hW4.2.2.2.2.2.2.2.2.2 hb h0
        have ht1 : t = w j + 1 := ht (by
          have := (hX j Mx3 hj hj2 hx3).1 (by (clear hn ho hX3 hT61 hk0 hw hX hF hV hW hQ ih hm hj A hx2 hq2 hkk hz hs hVal hE e70 ha2 hj2 h01 hu h12 m70 hx3 y53 y142 pre hq3 y104 y13 y61 yr preE hE1 A1 hwj hD hS hW4 hS4 hq4 A4 A5 hE5 hT5 p70 hx5 hq5 hb h0 h313 ht hx4; lia))
          (clear hn ho hX3 hT61 hk0 hw hX hF hV hW hQ ih hm hj A hx2 hq2 hkk hz hs hVal hE e70 ha2 hj2 h01 hu h12 m70 hx3 y53 y142 pre hq3 y104 y13 y61 yr preE hE1 A1 hD hS hW4 hS4 hq4 A4 ew ej A5 hE5 hT5 p70 hx5 hq5 hb h0 hle h313 ht hx4; omega))
        rw [y61, ht1] at hx4
        have h213 : Mq2 6 13 = 0 := by rw [← y13]; exact h313
        have v2 := hVal hb h213 (by (clear hn ho hX3 hT61 hk0 hw hX hF hV hW hQ ih hm hj A hx2 hq2 hkk hz hs hVal hE e70 ha2 hj2 h01 hu h12 m70 hx3 y53 y142 pre hq3 y104 y13 y61 yr preE hE1 A1 hwj hD hS hW4 hS4 hq4 A4 A5 hE5 hT5 p70 hx5 hq5 hb h0 h313 ht hx4 ht1 h213; lia))
        have ee := EXP_le hx4
        have e0 := (ER_st A.1.2.2.1).1
        have r209 : Mq4 209 = Mq2 209 := (hW4.2.2.1.1 209 (by decide)).trans (yr 209 (by decide))
        have t1 := QC_tb (QV_QC hq2)
        have t2 := QC_tb (QV_QC hq5)
        rw [show (j + 1).toNat = j.toNat + 1 by (clear hn ho hX3 hT61 hk0 hw hX hF hV hW hQ ih A hx2 hq2 hkk hz hs hVal hE e70 ha2 hj2 h01 hu h12 m70 hx3 y53 y142 pre hq3 y104 y13 y61 yr preE hE1 A1 hwj hD hS hW4 hS4 hq4 A4 A5 hE5 hT5 p70 hx5 hq5 hb h0 hle h313 ht hx4 ht1 h213 v2 ee e0 r209 t1 t2; lia)]
        refine ⟨Mx3 5 3, ?_, ?_⟩
        · rw [y53]
          refine VAL_c (fun i x y => ?_) ⟨t2.1.trans t1.1.symm, t2.2.1.trans t1.2.1.symm, t2.2.2.1.trans t1.2.2.1.symm, t2.2.2.2.1.trans t1.2.2.2.1.symm, t2.2.2.2.2.trans t1.2.2.2.2.symm⟩ (by rw [up_ne (by decide)]; (clear hn ho hX3 hT61 hk0 hw hX hF hV hW hQ ih hm hj A hx2 hq2 hkk hz hs hVal hE e70 ha2 hj2 h01 hu h12 m70 hx3 y53 y142 pre hq3 y13 y61 yr preE hE1 A1 hwj hD hS hW4 hS4 hq4 A4 ew ej A5 hE5 hT5 p70 hx5 hq5 hb h0 hle h313 ht hx4 ht1 h213 v2 e0 r209 t1 t2; lia)) (fun _ => rfl) _ (by (clear hn ho hX3 hT61 hk0 hw hX hF hV hW hQ ih A hx2 hq2 hkk hz hs hVal hE e70 ha2 hj2 h01 hu h12 m70 hx3 y53 y142 pre hq3 y104 y13 y61 yr preE hE1 A1 hwj hD hS hW4 hS4 hq4 A4 A5 hE5 hT5 p70 hx5 hq5 hb h0 hle h313 ht hx4 ht1 h213 v2 ee e0 r209 t1 t2; lia)) (fun i x y => ?_) (fun i x y => ?_) v2
          · have q := hW4.2.2.2.2.2.1 i x (by (clear hn ho hX3 hT61 hk0 hw hX hF hV hW hQ ih hm hj A hx2 hq2 hkk hz hs hVal hE e70 ha2 hj2 h01 hu h12 m70 hx3 y53 y142 pre hq3 y13 y61 yr preE hE1 A1 hwj hD hS hW4 hS4 hq4 A4 ew ej A5 hE5 hT5 p70 hx5 hq5 hb h0 hle h313 ht hx4 ht1 h213 v2 ee e0 r209 t1 t2 x; omega))
            rw [up_ne (by decide), up_ne (by decide), q.1, q.2, yr 227 (by decide), yr 228 (by decide)]; exact ⟨rfl, rfl⟩
          · rw [up_off (by (clear hn ho hX3 hT61 hk0 hw hX hF hV hW hQ ih A hx2 hq2 hkk hz hs hVal hE e70 ha2 hj2 h01 hu h12 m70 hx3 y53 y142 pre hq3 y104 y13 y61 yr preE hE1 A1 hwj hD hS hW4 hS4 hq4 A4 A5 hE5 hT5 p70 hx5 hq5 hb h0 hle h313 ht hx4 ht1 h213 v2 ee e0 r209 t1 t2 x; lia)), r209]
          · rw [hW4.2.2.2.2.2.2.2.1 i (by (clear hn ho hX3 hT61 hk0 hw hX hF hV hW hQ ih hm hj A hx2 hq2 hkk hz hs hVal hE e70 ha2 hj2 h01 hu h12 m70 hx3 y53 y142 pre hq3 y104 y13 y61 yr preE hE1 A1 hwj hD hS hW4 hS4 hq4 A4 ew ej A5 hE5 hT5 p70 hx5 hq5 hb h0 hle h313 ht hx4 ht1 h213 v2 ee r209 t1 t2 y; omega)) (by (clear hn ho hX3 hT61 hk0 hw hX hF hV hW hQ ih hm hj A hx2 hq2 hkk hz hs hVal hE e70 ha2 hj2 h01 hu h12 m70 hx3 y142 pre hq3 y104 y13 y61 yr preE hE1 A1 hwj hD hS hW4 hS4 hq4 A4 ew ej A5 hE5 hT5 p70 hx5 hq5 hb h0 hle h313 ht hx4 ht1 h213 v2 ee e0 r209 t1 t2 x; omega)), y142]
        · have e9 : up_ Mq4 209 (3 * Mq 6 75 + j) (Mq3 6 104) 209 (3 * Mq 6 75 + (j.toNat : Int)) = Mq3 6 104 := by rw [Int.toNat_of_nonneg hj, up_at]
          have es : (fun i => w i + 1) (j.toNat : Int) = w j + 1 := by simp only [Int.toNat_of_nonneg hj]
          rw [e9, es]
          refine EXP_c hx4 (fun _ _ _ => rfl) (fun i _ _ => by rw [up_ne (by decide), up_ne (by decide)]; exact ⟨rfl, rfl⟩) (by unfold tb_; rw [up_ne (by decide), up_ne (by decide), up_ne (by decide), up_ne (by decide), up_ne (by decide)]; exact ⟨rfl, rfl, rfl, rfl, rfl⟩) (by rw [up_ne (by decide)]; (clear hn ho hX3 hT61 hk0 hw hX hF hV hW hQ ih hm hj A hx2 hq2 hkk hz hs hVal hE e70 ha2 hj2 h01 hu h12 m70 hx3 y53 y142 pre hq3 y104 y13 y61 yr preE hE1 A1 hwj hD hS hW4 hS4 hq4 A4 ew ej A5 hE5 hT5 p70 hx5 hq5 hb h0 hle h313 ht hx4 ht1 h213 v2 ee e0 r209 t1 t2 e9 es; lia))
      have preF : ∀ (R : mm_ → Prop) (Qtq : qt_), (∀ V : vv_, Cl_ wd0 (Tr_ wd0 pg0 (dq + 12)) V (rv_ R) Qtq m_298 → Wk_ V → Tr_ wd0 pg0 (dq + 12) 242 [.inr (.inr 6), .inl 44] (up_ Mq4 209 (3 * Mq 6 75 + j) (Mq3 6 104)) (ri_ fun v3 M3 => V 21 [rr 6, ii (Mq 6 75), ii x2, ii x3, ii x4, ii (j + 1), ii v3, none, none] [] M3) Qtq) → Tr_ wd0 pg0 (dq + 13) 298 [.inr (.inr 6), .inl (Mq 6 75), .inl x2, .inl x3, .inl x4] Mq1 (rv_ R) Qtq := by
        intro R Qtq hR
        refine preE _ _ fun V hV hW => b_298_88 (Tr_mono _) hV hW _ _ _ _ _ _ _ _ (hq4 _ _ ?_)
        refine q_227g (ER_goq (AM_E A4)) ?_
        rw [if_pos rfl, ew, ej]
        exact ⟨by (clear hn ho hX3 hT61 hw hX hF hQ ih A hx2 hq2 hkk hz hs hVal hE e70 ha2 hj2 h01 hu h12 m70 hx3 y53 y142 pre hq3 y104 y13 y61 yr preE hE1 A1 hwj hD hS hW4 hS4 hq4 A4 A5 hE5 hT5 p70 hx5 hq5 hval hR hV hW; omega), hR V hV hW⟩
      refine b_158a_65 (Tr_mono _) hV hW X2 X3 j Mx4 ?_
      rw [ej]
      generalize up_ Mq4 209 (3 * Mq 6 75 + j) (Mq3 6 104) = Mq5 at *
      refine y_117 hE5 (by decide) (fun k1 => ?_) (fun k1 => ?_)
      · -- a comma
        rw [if_neg (by decide)]
        have k1' : Mx 70 a4 = 244 := by rw [← p70]; exact k1
        rw [if_pos k1'] at hS hD
        refine ih (j + 1) Mx4 Mq5 a4 (s - 3) (z + 8 + 3) (by (clear hn ho hX3 hT61 hk0 hw hX hF hV hW hQ ih hj A hx2 hq2 hkk hz hs hVal hE e70 ha2 hj2 h01 hu h12 m70 hx3 y53 y142 pre hq3 y104 y13 y61 yr preE hE1 A1 hwj hD hS hW4 hS4 hq4 A4 ew ej p70 hx5 A5 hE5 hT5 hq5 hval preF k1 k1'; lia)) (by (clear hn ho hX3 hT61 hk0 hw hX hF hV hW hQ ih A hx2 hq2 hkk hz hs hVal hE e70 ha2 hj2 h01 hu h12 m70 hx3 y53 y142 pre hq3 y104 y13 y61 yr preE hE1 A1 hwj hD hS hW4 hS4 hq4 A4 p70 hx5 A5 hE5 hT5 hq5 hval preF k1 k1'; lia)) A5 hx5 hq5 (by (clear hn ho hX3 hT61 hk0 hw hX hF hV hW hQ ih hm hj A hx2 hq2 hkk hz hs hVal hE e70 ha2 hj2 h01 hu h12 m70 hx3 y53 y142 pre hq3 y104 y13 y61 yr preE hE1 A1 hwj hD hS hW4 hS4 hq4 A4 ew ej p70 hx5 A5 hE5 hT5 hq5 hval preF k1; lia)) (by (clear hn ho hX3 hT61 hk0 hw hX hF hV hW hQ ih hm hj A hx2 hq2 hkk hs hVal hE e70 ha2 hj2 h01 hu h12 m70 hx3 y53 y142 pre hq3 y104 y13 y61 yr preE hE1 A1 hwj hD hS hW4 hS4 hq4 A4 ew ej p70 hx5 A5 hE5 hT5 hq5 hval preF k1 k1'; omega)) (by (clear hn ho hX3 hT61 hk0 hw hX hF hV hW hQ ih hm hj A hx2 hq2 hkk hz hVal hE e70 ha2 hj2 h01 hu h12 m70 hx3 y53 y142 pre hq3 y104 y13 y61 yr preE hE1 A1 hwj hD hS hW4 hS4 hq4 A4 ew ej p70 hx5 A5 hE5 hT5 hq5 hval preF k1 k1'; lia)) (fun R Qtq hR => preF _ _ fun V hV hW => ?_) hS hval hD
        have := hR V hV hW
        by_cases c : a4 < 1200
        · rw [if_pos c] at this
          exact j_242t hT5 hE5 (by decide) k1 c this
        · rw [if_neg c] at this
          have a41 : a4 = 1200 := by have := ER_a hE5; (clear hn ho hX3 hT61 hk0 hw hX hF hQ ih hm hj A hx2 hq2 hkk hz hs hVal hE e70 ha2 hj2 h01 hu h12 m70 hx3 y53 y142 pre hq3 y104 y13 y61 yr preE hE1 A1 hwj hD hS hW4 hS4 hq4 A4 ew ej p70 hx5 A5 hE5 hT5 hq5 hval preF k1 k1' hR hV hW; omega)
          rcases h01 with hb | hb
          · exact j_242r hT5 hE5 hb (by decide) k1 a41 this
          · exfalso
            apply hS hb
            exact vS_n (by (clear hn ho hX3 hT61 hk0 hw hX hF hQ ih hm hj A hx2 hq2 hkk hz hs hVal hE e70 ha2 hj2 hu h12 m70 hx3 y53 y142 pre hq3 y104 y13 y61 yr preE hE1 A1 hwj hD hS hW4 hS4 hq4 A4 ew ej p70 hx5 A5 hE5 hT5 hq5 hval preF k1 k1' hR hV hW this c hb; lia)) (by (clear hn ho hX3 hT61 hk0 hw hX hF hQ ih hm hj A hx2 hq2 hkk hz hs hVal hE e70 ha2 hj2 hu h12 m70 hx3 y53 y142 pre hq3 y104 y13 y61 yr preE hE1 A1 hwj hD hS hW4 hS4 hq4 A4 ew ej p70 hx5 A5 hE5 hT5 hq5 hval preF k1 k1' hR hV hW this c hb; lia)) (by unfold gS; rw [if_neg c])
      · -- the end
        rw [if_pos rfl]
        have k1' : Mx 70 a4 ≠ 244 := by rw [← p70]; exact k1
        rw [if_neg k1'] at hS hD
        have preH : ∀ (R : mm_ → Prop) (Qtq : qt_), (∀ V : vv_, Cl_ wd0 (Tr_ wd0 pg0 (dq + 12)) V (rv_ R) Qtq m_298 → Wk_ V → Tr_ wd0 pg0 (dq + 12) 243 [.inr (.inr 6), .inl 41] Mq5 (rv_ fun M1 => V 137 [rr 6, ii (Mq 6 75), ii x2, ii x3, ii x4, ii (j + 1), none, none, none] [] M1) Qtq) → Tr_ wd0 pg0 (dq + 13) 298 [.inr (.inr 6), .inl (Mq 6 75), .inl x2, .inl x3, .inl x4] Mq1 (rv_ R) Qtq := by
          intro R Qtq hR
          refine preF _ _ fun V hV hW => j_242f hT5 hE5 (by decide) k1 ?_
          refine b_298_21 (Tr_mono _) hV hW _ _ _ _ _ _ _ ?_
          rw [if_pos rfl]
          exact hR V hV hW
        refine y_121 hE5 (by decide) (fun hb => by rw [p70]; exact hS hb) (fun k2 h13 hE6 => ?_) (fun hb k2 h13 => ?_) (fun hb k2 => ?_)
        rotate_left
        · have hsp := SQ_bf hE5 hb (k := 2) (by decide) (QC_QA (AM_Q A5))
          refine hQ hb _ (XA_tr (XC_XA (AM_X A5)) (XF_XA fl_XF)) fun R Qtq hk9 => preH _ _ fun V hV hW => j_243r hT5 hE5 hb (by decide) k2 h13 ?_
          refine b_298_137 (Tr_mono _) hV hW _ _ _ _ _ _ ?_
          refine q_227s hsp.1 ?_
          rw [if_neg (by decide)]
          exact rv_i (hk9 _ hsp)
        · have hsp := SQ_bf hE5 hb (k := 1) (by decide) (QC_QA (AM_Q A5))
          refine hQ hb _ (XA_tr (XC_XA (AM_X A5)) (XF_XA fl_XF)) fun R Qtq hk9 => preH _ _ fun V hV hW => j_243w hT5 hE5 hb (by decide) k2 ?_
          refine b_298_137 (Tr_mono _) hV hW _ _ _ _ _ _ ?_
          refine q_227s hsp.1 ?_
          rw [if_neg (by decide)]
          exact rv_i (hk9 _ hsp)
        have A6 := AM_go A5 hE6
        have A7 := AM_o A6 (o2 := o) (by omega)
        have e6o : w32 (nX_ Mx4 1 6 - 1) = o := by rw [hE6.2.2.2.1, w32_id (by (clear hX3 hT61 hk0 hw hX hF hV hW hQ ih hm hj A hx2 hq2 hkk hz hs hVal hE e70 ha2 hj2 h01 hu h12 m70 hx3 y53 y142 pre hq3 y104 y13 y61 yr preE hE1 A1 hwj hD hS hW4 hS4 hq4 A4 ew ej p70 hx5 A5 hE5 hT5 hq5 hval preF k1 k1' preH k2 h13 hE6 A6 A7; omega)) (by (clear hX3 hT61 hk0 hw hX hF hV hW hQ ih hm hj A hx2 hq2 hkk hz hs hVal hE e70 ha2 hj2 h01 hu h12 m70 hx3 y53 y142 pre hq3 y104 y13 y61 yr preE hE1 A1 hwj hD hS hW4 hS4 hq4 A4 ew ej p70 hx5 A5 hE5 hT5 hq5 hval preF k1 k1' preH k2 h13 hE6 A6 A7; omega))]; (clear hn ho hX3 hT61 hk0 hw hX hF hV hW hQ ih hm hj A hx2 hq2 hkk hz hs hVal hE e70 ha2 hj2 h01 hu h12 m70 hx3 y53 y142 pre hq3 y104 y13 y61 yr preE hE1 A1 hwj hD hS hW4 hS4 hq4 A4 ew ej p70 hx5 A5 hE5 hT5 hq5 hval preF k1 k1' preH k2 h13 hE6 A6 A7; lia)
        rw [e6o]
        refine ri_i (hD _ (up_ (nx_ Mq5) 6 15 o) (a4 + 1) (j + 1) _ _ A7 (by (clear hn ho hX3 hT61 hk0 hw hX hF hV hW hQ ih hm hj A hx2 hq2 hkk hs hVal hE e70 ha2 hj2 h01 hu h12 m70 hx3 y53 y142 pre hq3 y104 y13 y61 yr preE hE1 A1 hwj hD hS hW4 hS4 hq4 A4 ew ej p70 hx5 A5 hE5 hT5 hq5 hval preF k1 k1' preH k2 h13 hE6 A6 A7 e6o; omega)) (by (clear hn ho hX3 hT61 hk0 hw hX hF hV hW hQ ih hm hj A hx2 hq2 hkk hz hVal hE e70 ha2 hj2 h01 hu h12 m70 hx3 y53 y142 pre hq3 y104 y13 y61 yr preE hE1 A1 hwj hD hS hW4 hS4 hq4 A4 ew ej p70 hx5 A5 hE5 hT5 hq5 hval preF k1 k1' preH k2 h13 hE6 A6 A7 e6o; lia)) (XC_tr hx5 (XC_tr (XF_XC nX_XF) (XC_u1 (by decide)))) (QV_tr hq5 (QV_tr QV_nx QV_15)) (by (clear hn ho hX3 hT61 hk0 hw hX hF hV hW hQ ih A hx2 hq2 hkk hz hs hVal hE e70 ha2 hj2 h01 hu h12 m70 hx3 y53 y142 pre hq3 y104 y13 y61 yr preE hE1 A1 hwj hD hS hW4 hS4 hq4 A4 p70 hx5 A5 hE5 hT5 hq5 hval preF k1 k1' preH k2 h13 hE6 A6 A7 e6o; lia)) (tS_e (by rw [← p70]; exact k2) h13) (fun hb h0 hle => ?_) (fun R Qtq hR => preH _ _ fun V hV hW => j_243t hT5 hE5 (by decide) k2 h13 (by (clear hX3 hT61 hk0 hw hX hF hQ ih hm hj A hx2 hq2 hkk hz hs hVal hE e70 ha2 hj2 h01 hu h12 m70 hx3 y53 y142 pre hq3 y104 y13 y61 yr preE hE1 A1 hwj hD hS hW4 hS4 hq4 A4 ew ej p70 hx5 A5 hE5 hT5 hq5 hval preF k1 k1' preH k2 h13 hE6 A6 A7 hR hV hW; omega)) (by rw [show o + 1 - 1 = o by omega]; exact hR V hV hW)))
        have hv := hval hb (by rw [up_off (by decide), nx_6 (by decide)] at h0; exact h0) hle
        have e104 : up_ (nx_ Mq5) 6 15 o 6 104 = Mq5 6 104 := by rw [up_off (by decide), nx_6 (by decide)]
        have e53 : up_ (nX_ Mx4) 1 6 o 5 3 = Mx4 5 3 := by rw [up_ne (by decide), nX_ne (by decide)]
        rw [e104, e53]
        have er : ∀ r : Nat, r ≠ 6 → up_ (nx_ Mq5) 6 15 o r = Mq5 r := fun r hr => by rw [up_ne hr, nx_ne hr]
        exact VAL_c (fun i _ _ => by rw [er 227 (by decide), er 228 (by decide)]; exact ⟨rfl, rfl⟩) ⟨er _ (by decide), er _ (by decide), er _ (by decide), er _ (by decide), er _ (by decide)⟩ (by (clear hn ho hX3 hT61 hk0 hw hX hF hV hW hQ ih hm hj A hx2 hq2 hkk hz hs hVal hE e70 ha2 hj2 h01 hu h12 m70 hx3 y53 y142 pre hq3 y104 y13 y61 yr preE hE1 A1 hwj hD hS hW4 hS4 hq4 A4 ew ej p70 hx5 A5 hE5 hT5 hq5 hval preF k1 k1' preH k2 h13 hE6 A6 A7 e6o hb h0 hle hv e104 e53 er; lia)) (fun _ => rfl) _ (by (clear hn ho hX3 hT61 hk0 hw hX hF hV hW hQ ih A hx2 hq2 hkk hz hs hVal hE e70 ha2 hj2 h01 hu h12 m70 hx3 y53 y142 pre hq3 y104 y13 y61 yr preE hE1 A1 hwj hD hS hW4 hS4 hq4 A4 p70 hx5 A5 hE5 hT5 hq5 hval preF k1 k1' preH k2 h13 hE6 A6 A7 e6o hb h0 hle hv e104 e53 er; lia)) (fun i _ _ => by rw [er 209 (by decide)]) (fun i _ _ => by rw [up_ne (by decide), nX_ne (by decide)]) hv
    have hXj := hX j Mx3 hj hj2 hx3
    by_cases c3 : j < X3
    · rw [if_pos c3]
      have := hXj.1 c3
      rw [this.2.1]
      exact ⟨this.1, wants⟩
    · rw [if_neg c3]
      rw [hXj.2 c3] at wants
      exact wants
theorem l_158b [Inhabited gh_] (hn : n + 1 ≤ 12) (ho : o = 11 - (n : Int)) {x2 x3 x4 X2 X3 : Int} {w wq : Int → Int} {T : Int}
    (hX3 : X3 ≤ 3) (hT61 : Mq 6 61 = T) (hk0 : 0 ≤ Mq 6 75 ∧ Mq 6 75 < 1300)
    (hw : ∀ j, 0 ≤ j → j < 3 → (-1 ≤ w j ∧ w j ≤ 2) ∧ -1 ≤ wq j ∧ (b = 1 → wq j = w j))
    (hX : ∀ j M, 0 ≤ j → j < 3 → XC Mx1 M → (j < X3 → (0 ≤ w32 (X2 + j) ∧ w32 (X2 + j) < 48) ∧ M 130 (w32 (X2 + j)) = w j ∧ 0 ≤ w j) ∧ (¬ j < X3 → w j = -1))
    (hF : ∀ (V : vv_) j M, 0 ≤ j → j < 3 → QV b Mq1 M → V 88 [rr 6, ii (Mq 6 75), ii x2, ii x3, ii x4, ii j, ii 1, ii (wq j + 1), none] [] M → F21 V (Mq 6 75) x2 x3 x4 j M)
    (hV : Cl_ wd0 (Tr_ wd0 pg0 (9 * n + 14)) V (ri_ K) Qt m_158) (hW : Wk_ V)
    (hQ : b = 0 → ∀ Mx', XA Mx Mx' → (∀ (R : mm_ → Prop) (Qtq : qt_), (∀ M', SQ Mx' Mq M' → R M') → Tr_ wd0 pg0 (dq + 13) 298 [.inr (.inr 6), .inl (Mq 6 75), .inl x2, .inl x3, .inl x4] Mq1 (rv_ R) Qtq) → Qt 8 Mx') :
    ∀ (m : Nat) (j : Int) (Mx2 Mq2 : mm_) (a2 s z : Int), (m : Int) + j = 3 → 0 ≤ j → AM b F Mx Mq Mx2 Mq2 a a2 (o + 1) s z → XC Mx1 Mx2 → QV b Mq1 Mq2 → (Mx 70 a2 ≠ 102 ∧ Mx 70 a2 ≠ 103) → 0 ≤ z → s ≤ 0
      → (∀ (R : mm_ → Prop) (Qtq : qt_), (∀ V : vv_, Cl_ wd0 (Tr_ wd0 pg0 (dq + 12)) V (rv_ R) Qtq m_298 → Wk_ V → V 21 [rr 6, ii (Mq 6 75), ii x2, ii x3, ii x4, ii j, ii 1, none, none] [] (if a2 < 1200 then nx_ Mq2 else bf_ Mq2 2 (Mx2 71 a2))) → Tr_ wd0 pg0 (dq + 13) 298 [.inr (.inr 6), .inl (Mq 6 75), .inl x2, .inl x3, .inl x4] Mq1 (rv_ R) Qtq)
      → (b = 1 → LPz (vS1 (Mx 70) o) (a2, j) ≠ none)
      → (b = 1 → Mq2 6 13 = 0 → j ≤ X3 → VAL Mx2 Mq2 T (Mq2 6 104) (fun i => w i + 1) (Mq 6 75) j.toNat (Mx 5 3) (Mx2 5 3))
      → (∀ Mx' Mq' a' nn s' z', AM b F Mx Mq Mx' Mq' a a' o s' z' → 8 ≤ z' → s' ≤ 0 → XC Mx1 Mx' → QV b Mq1 Mq' → (1 ≤ nn ∧ nn ≤ 3) → LPz (vS1 (Mx 70) o) (a2, j) = some a'
          → (b = 1 → Mq' 6 13 = 0 → nn ≤ X3 → VAL Mx' Mq' T (Mq' 6 104) (fun i => w i + 1) (Mq 6 75) nn.toNat (Mx 5 3) (Mx' 5 3))
          → (∀ (R : mm_ → Prop) (Qtq : qt_), (∀ V : vv_, Cl_ wd0 (Tr_ wd0 pg0 (dq + 12)) V (rv_ R) Qtq m_298 → Wk_ V → V 137 [rr 6, ii (Mq 6 75), ii x2, ii x3, ii x4, ii nn, none, none, none] [] Mq') → Tr_ wd0 pg0 (dq + 13) 298 [.inr (.inr 6), .inl (Mq 6 75), .inl x2, .inl x3, .inl x4] Mq1 (rv_ R) Qtq) → K nn Mx')
      → V 18 [rr 1, rr 130, ii X2, ii X3, ii j] [] Mx2 := by
  intro m
  induction m with
  | zero =>
    intro j Mx2 Mq2 a2 s z hm hj A hx2 hq2 hkk hz hs pre hS hVal hD
    have hE := AM_E A
    have e70 := AM_70 A
    have ha2 := ER_a hE
    have hb0 : b = 0 := by
      rcases hE.2.2.2.2.2.2.2.2.1 with hb | hb
      · exact hb
      · exfalso
        apply hS hb
        rw [show j = 3 by omega]; exact vS_3 ha2.1 ha2.2
    refine b_158b_18 (Tr_mono _) hV hW X2 X3 j Mx2 ?_
    refine y_105 hE (by rw [e70]; exact hkk) (fun hb => by omega) (fun h12 hE1 => ?_) (fun hb h12 => ?_)
    rotate_left
    · have hsp := SQ_bf hE hb (k := 2) (by decide) (QC_QA (AM_Q A))
      refine hQ hb _ (XA_tr (XC_XA (AM_X A)) (XF_XA fl_XF)) fun R Qtq hk9 => pre _ _ fun V hV hW => ?_
      rw [if_neg (by omega)]
      exact q_298s hV hW hsp.1 (hk9 _ hsp)
    have A1 := AM_go A hE1
    have hT1 := AM_T A1
    have m71 := AM_71 A1
    have qrun : ∀ (R : mm_ → Prop) (Qtq : qt_), R (bf_ (nx_ Mq2) (if bE_ (nX_ Mx2 70 (a2 + 1)) then 2 else 1) (nX_ Mx2 71 (a2 + 1))) → Tr_ wd0 pg0 (dq + 13) 298 [.inr (.inr 6), .inl (Mq 6 75), .inl x2, .inl x3, .inl x4] Mq1 (rv_ R) Qtq := by
      intro R Qtq hR
      refine pre _ _ fun V hV hW => ?_
      rw [if_pos h12]
      refine b_298_21 (Tr_mono _) hV hW _ _ _ _ _ _ _ ?_
      rw [if_neg (by decide)]
      refine q_227g (ER_goq hE1) ?_
      rw [if_pos rfl, if_pos (by omega)]
      exact j_299 hT1 hE1 hb0 (rv_i hR)
    rw [if_pos (by omega)]
    refine y_159 hE1 (fun c => ?_) (fun c => ?_)
    · rw [if_neg (by decide), hE1.2.1]
      rw [if_pos c] at qrun
      refine x_106 (by omega) (by omega) ?_
      rw [if_neg (by decide)]
      exact hQ hb0 _ (XA_tr (XC_XA (AM_X A1)) (XF_XA fl_XF)) fun R Qtq hk9 => qrun _ _ (hk9 _ (SQ_bf hE1 hb0 (by decide) (QC_QA (AM_Q A1))))
    · rw [if_pos rfl]
      rw [if_neg c] at qrun
      have fin : Qt 8 (flX_ (nX_ Mx2) 1 (a2 + 1)) := hQ hb0 _ (XA_tr (XC_XA (AM_X A1)) (XF_XA fl_XF)) fun R Qtq hk9 => qrun _ _ (hk9 _ (SQ_bf hE1 hb0 (by decide) (QC_QA (AM_Q A1))))
      by_cases c3 : j < X3
      · omega
      · rw [if_neg c3]
        exact x_145b (d := 9 * n + 4) hE1 c fin
  | succ m ih =>
    intro j Mx2 Mq2 a2 s z hm hj A hx2 hq2 hkk hz hs pre hS hVal hD
    have hE := AM_E A
    have e70 := AM_70 A
    have ha2 := ER_a hE
    have hj2 : j < 3 := by omega
    have h01 := hE.2.2.2.2.2.2.2.2.1
    have hu : a2 < 1200 → LPz (vS1 (Mx 70) o) (a2, j) = (ES (Mx 70) 0 (o + 1) (a2 + 1)).bind fun a3 => if Mx 70 a3 = 244 then LPz (vS1 (Mx 70) o) (a3, j + 1) else tS (Mx 70) 241 a3 := vS_e ha2.1 (by omega)
    refine b_158b_18 (Tr_mono _) hV hW X2 X3 j Mx2 ?_
    refine y_105 hE (by rw [e70]; exact hkk) (fun hb => by
      intro c
      apply hS hb
      exact vS_n ha2.1 ha2.2 c) (fun h12 hE1 => ?_) (fun hb h12 => ?_)
    rotate_left
    · have hsp := SQ_bf hE hb (k := 2) (by decide) (QC_QA (AM_Q A))
      refine hQ hb _ (XA_tr (XC_XA (AM_X A)) (XF_XA fl_XF)) fun R Qtq hk9 => pre _ _ fun V hV hW => ?_
      rw [if_neg (by omega)]
      exact q_298s hV hW hsp.1 (hk9 _ hsp)
    have A1 := AM_go A hE1
    have m70 := AM_70 A1
    have hx3 : XC Mx1 (nX_ Mx2) := XC_tr hx2 (XF_XC nX_XF)
    have hq3 : QV b Mq1 (nx_ Mq2) := QV_tr hq2 QV_nx
    have y53 : nX_ Mx2 5 3 = Mx2 5 3 := by rw [nX_ne (by decide)]
    have y104 : nx_ Mq2 6 104 = Mq2 6 104 := nx_6 (by decide)
    have y13 : nx_ Mq2 6 13 = Mq2 6 13 := nx_6 (by decide)
    have y61 : nx_ Mq2 6 61 = T := by rw [nx_6 (by decide), (AM_Q A).2 61 (by decide)]; exact hT61
    have y142 : nX_ Mx2 142 = Mx2 142 := nX_ne (by decide)
    have yr : ∀ r : Nat, r ≠ 6 → nx_ Mq2 r = Mq2 r := fun r hr => nx_ne hr
    rw [hu h12] at hS
    rw [hu h12] at hD
    have preE : ∀ (R : mm_ → Prop) (Qtq : qt_), (∀ V : vv_, Cl_ wd0 (Tr_ wd0 pg0 (dq + 12)) V (rv_ R) Qtq m_298 → Wk_ V → V 88 [rr 6, ii (Mq 6 75), ii x2, ii x3, ii x4, ii j, ii 1, ii (wq j + 1), none] [] (nx_ Mq2)) → Tr_ wd0 pg0 (dq + 13) 298 [.inr (.inr 6), .inl (Mq 6 75), .inl x2, .inl x3, .inl x4] Mq1 (rv_ R) Qtq := by
      intro R Qtq hR
      refine pre _ _ fun V hV hW => ?_
      rw [if_pos h12]
      refine b_298_21 (Tr_mono _) hV hW _ _ _ _ _ _ _ ?_
      rw [if_neg (by decide)]
      refine q_227g (ER_goq hE1) ?_
      rw [if_pos rfl, if_neg (by omega)]
      exact hF V j _ hj hj2 hq3 (hR V hV hW)
    rw [if_neg (by omega)]
    generalize nX_ Mx2 = Mx3 at *
    generalize nx_ Mq2 = Mq3 at *
    have wants : Tr_ wd0 pg0 (9 * n + 14) 145 [.inr (.inr 1), .inl (w j)] Mx3 (rv_ fun M3 => V 65 [rr 1, rr 130, ii X2, ii X3, ii j] [] M3) Qt := by
      have hwj := hw j hj hj2
      refine x_w (dq := dq) (n := n) (w := w j) (wq := wq j) (by omega) (by omega) hwj.1 hwj.2.1 hwj.2.2 (AM_T A1) (AM_V A1) hE1 (AM_f A1) (fun hb => by rw [m70]; intro c; have := hS hb; rw [c, Option.bind_none] at this; exact absurd rfl this) (fun Mx4 Mq4 a4 hW4 hS4 hq4 => ?_) (fun hb Mx' hx9 hq9 => ?_)
      rotate_left
      · refine hQ hb Mx' (XA_tr (XC_XA (AM_X A1)) (XF_XA hx9)) fun R Qtq hk9 => preE _ _ fun V hV hW => b_298_88 (Tr_mono _) hV hW _ _ _ _ _ _ _ _ (hq9 _ _ fun M' g1 g2 g3 g4 g5 => ?_)
        refine q_227s g1 ?_
        rw [if_neg (by decide)]
        exact rv_i (hk9 _ ⟨g1, g2, g3, g4, QA_tr (QC_QA (AM_Q A1)) (QF_QA g5)⟩)
      have A4 := AM_w A1 hW4
      have ew : w32 (w32 (3 * Mq 6 75) + j) = 3 * Mq 6 75 + j := by rw [w32_id (x := 3 * Mq 6 75) (by omega) (by omega), w32_id (by omega) (by omega)]
      have ej : w32 (j + 1) = j + 1 := w32_id (by omega) (by omega)
      have A5 := AM_u9 (v := Mq3 6 104) (i := 3 * Mq 6 75 + j) A4 (by omega)
      have hE5 := AM_E A5
      have hT5 := AM_T A5
      have p70 := AM_70 A5
      rw [m70] at hS4
      rw [hS4, Option.bind_some] at hS
      rw [hS4, Option.bind_some] at hD
      have hx5 : XC Mx1 Mx4 := XC_tr hx3 (XF_XC hW4.2.1)
      have hq5 : QV b Mq1 (up_ Mq4 209 (3 * Mq 6 75 + j) (Mq3 6 104)) := QV_tr (QV_tr hq3 (QG_QV hW4.2.2.1 (fun hb h0 => (hW4.2.2.2.2.2.2.2.2.2 hb h0).1))) QV_9
      have hval : b = 1 → up_ Mq4 209 (3 * Mq 6 75 + j) (Mq3 6 104) 6 13 = 0 → j + 1 ≤ X3 → VAL Mx4 (up_ Mq4 209 (3 * Mq 6 75 + j) (Mq3 6 104)) T (up_ Mq4 209 (3 * Mq 6 75 + j) (Mq3 6 104) 6 104) (fun i => w i + 1) (Mq 6 75) (j + 1).toNat (Mx 5 3) (Mx4 5 3) := by
        intro hb h0 hle
        rw [up_ne (by decide)] at h0
        obtain ⟨h313, t, ht, hx4⟩ := hW4.2.2.2.2.2.2.2.2.2 hb h0
        have ht1 : t = w j + 1 := ht (by
          have := (hX j Mx3 hj hj2 hx3).1 (by omega)
          (clear hn ho hX3 hT61 hk0 hw hX hF hV hW hQ ih hm hj A hx2 hq2 hkk hz hs hVal hE e70 ha2 hj2 h01 hu h12 m70 hx3 y53 y142 pre hq3 y104 y13 y61 yr preE hE1 A1 hD hS hW4 hS4 hq4 A4 ew ej A5 hE5 hT5 p70 hx5 hq5 hb h0 hle h313 ht hx4; lia))
        rw [y61, ht1] at hx4
        have h213 : Mq2 6 13 = 0 := by rw [← y13]; exact h313
        have v2 := hVal hb h213 (by omega)
        have ee := EXP_le hx4
        have e0 := (ER_st A.1.2.2.1).1
        have r209 : Mq4 209 = Mq2 209 := (hW4.2.2.1.1 209 (by decide)).trans (yr 209 (by decide))
        have t1 := QC_tb (QV_QC hq2)
        have t2 := QC_tb (QV_QC hq5)
        rw [show (j + 1).toNat = j.toNat + 1 by (clear hn ho hX3 hT61 hk0 hw hX hF hV hW hQ ih A hx2 hq2 hkk hz hs hVal hE e70 ha2 hj2 h01 hu h12 m70 hx3 y53 y142 pre hq3 y104 y13 y61 yr preE hE1 A1 hwj hD hS hW4 hS4 hq4 A4 A5 hE5 hT5 p70 hx5 hq5 hb h0 hle h313 ht hx4 ht1 h213 v2 ee e0 r209 t1 t2; lia)]
        refine ⟨Mx3 5 3, ?_, ?_⟩
        · rw [y53]
          refine VAL_c (fun i x y => ?_) ⟨t2.1.trans t1.1.symm, t2.2.1.trans t1.2.1.symm, t2.2.2.1.trans t1.2.2.1.symm, t2.2.2.2.1.trans t1.2.2.2.1.symm, t2.2.2.2.2.trans t1.2.2.2.2.symm⟩ (by rw [up_ne (by decide)]; omega) (fun _ => rfl) _ (by omega) (fun i x y => ?_) (fun i x y => ?_) v2
          · have q := hW4.2.2.2.2.2.1 i x (by omega)
            rw [up_ne (by decide), up_ne (by decide), q.1, q.2, yr 227 (by decide), yr 228 (by decide)]; exact ⟨rfl, rfl⟩
          · rw [up_off (by omega), r209]
          · rw [hW4.2.2.2.2.2.2.2.1 i (by omega) (by omega), y142]
        · have e9 : up_ Mq4 209 (3 * Mq 6 75 + j) (Mq3 6 104) 209 (3 * Mq 6 75 + (j.toNat : Int)) = Mq3 6 104 := by rw [Int.toNat_of_nonneg hj, up_at]
          have es : (fun i => w i + 1) (j.toNat : Int) = w j + 1 := by simp only [Int.toNat_of_nonneg hj]
          rw [e9, es]
          refine EXP_c hx4 (fun _ _ _ => rfl) (fun i _ _ => by rw [up_ne (by decide), up_ne (by decide)]; exact ⟨rfl, rfl⟩) (by unfold tb_; rw [up_ne (by decide), up_ne (by decide), up_ne (by decide), up_ne (by decide), up_ne (by decide)]; exact ⟨rfl, rfl, rfl, rfl, rfl⟩) (by rw [up_ne (by decide)]; omega)
      have preF : ∀ (R : mm_ → Prop) (Qtq : qt_), (∀ V : vv_, Cl_ wd0 (Tr_ wd0 pg0 (dq + 12)) V (rv_ R) Qtq m_298 → Wk_ V → Tr_ wd0 pg0 (dq + 12) 242 [.inr (.inr 6), .inl 44] (up_ Mq4 209 (3 * Mq 6 75 + j) (Mq3 6 104)) (ri_ fun v3 M3 => V 21 [rr 6, ii (Mq 6 75), ii x2, ii x3, ii x4, ii (j + 1), ii v3, none, none] [] M3) Qtq) → Tr_ wd0 pg0 (dq + 13) 298 [.inr (.inr 6), .inl (Mq 6 75), .inl x2, .inl x3, .inl x4] Mq1 (rv_ R) Qtq := by
        intro R Qtq hR
        refine preE _ _ fun V hV hW => b_298_88 (Tr_mono _) hV hW _ _ _ _ _ _ _ _ (hq4 _ _ ?_)
        refine q_227g (ER_goq (AM_E A4)) ?_
        rw [if_pos rfl, ew, ej]
        exact ⟨by omega, hR V hV hW⟩
      refine b_158b_65 (Tr_mono _) hV hW X2 X3 j Mx4 ?_
      rw [ej]
      generalize up_ Mq4 209 (3 * Mq 6 75 + j) (Mq3 6 104) = Mq5 at *
      refine y_117 hE5 (by decide) (fun k1 => ?_) (fun k1 => ?_)
      · -- a comma
        rw [if_neg (by decide)]
        have k1' : Mx 70 a4 = 244 := by rw [← p70]; exact k1
        rw [if_pos k1'] at hS hD
        refine ih (j + 1) Mx4 Mq5 a4 (s - 3) (z + 8 + 3) (by omega) (by omega) A5 hx5 hq5 (by omega) (by omega) (by omega) (fun R Qtq hR => preF _ _ fun V hV hW => ?_) hS hval hD
        have := hR V hV hW
        by_cases c : a4 < 1200
        · rw [if_pos c] at this
          exact j_242t hT5 hE5 (by decide) k1 c this
        · rw [if_neg c] at this
          have a41 : a4 = 1200 := by have := ER_a hE5; omega
          rcases h01 with hb | hb
          · exact j_242r hT5 hE5 hb (by decide) k1 a41 this
          · exfalso
            apply hS hb
            exact vS_n (by omega) (by omega) (by unfold gS; rw [if_neg c])
      · -- the end
        rw [if_pos rfl]
        have k1' : Mx 70 a4 ≠ 244 := by rw [← p70]; exact k1
        rw [if_neg k1'] at hS hD
        have preH : ∀ (R : mm_ → Prop) (Qtq : qt_), (∀ V : vv_, Cl_ wd0 (Tr_ wd0 pg0 (dq + 12)) V (rv_ R) Qtq m_298 → Wk_ V → Tr_ wd0 pg0 (dq + 12) 243 [.inr (.inr 6), .inl 41] Mq5 (rv_ fun M1 => V 137 [rr 6, ii (Mq 6 75), ii x2, ii x3, ii x4, ii (j + 1), none, none, none] [] M1) Qtq) → Tr_ wd0 pg0 (dq + 13) 298 [.inr (.inr 6), .inl (Mq 6 75), .inl x2, .inl x3, .inl x4] Mq1 (rv_ R) Qtq := by
          intro R Qtq hR
          refine preF _ _ fun V hV hW => j_242f hT5 hE5 (by decide) k1 ?_
          refine b_298_21 (Tr_mono _) hV hW _ _ _ _ _ _ _ ?_
          rw [if_pos rfl]
          exact hR V hV hW
        refine y_121 hE5 (by decide) (fun hb => by rw [p70]; exact hS hb) (fun k2 h13 hE6 => ?_) (fun hb k2 h13 => ?_) (fun hb k2 => ?_)
        rotate_left
        · have hsp := SQ_bf hE5 hb (k := 2) (by decide) (QC_QA (AM_Q A5))
          refine hQ hb _ (XA_tr (XC_XA (AM_X A5)) (XF_XA fl_XF)) fun R Qtq hk9 => preH _ _ fun V hV hW => j_243r hT5 hE5 hb (by decide) k2 h13 ?_
          refine b_298_137 (Tr_mono _) hV hW _ _ _ _ _ _ ?_
          refine q_227s hsp.1 ?_
          rw [if_neg (by decide)]
          exact rv_i (hk9 _ hsp)
        · have hsp := SQ_bf hE5 hb (k := 1) (by decide) (QC_QA (AM_Q A5))
          refine hQ hb _ (XA_tr (XC_XA (AM_X A5)) (XF_XA fl_XF)) fun R Qtq hk9 => preH _ _ fun V hV hW => j_243w hT5 hE5 hb (by decide) k2 ?_
          refine b_298_137 (Tr_mono _) hV hW _ _ _ _ _ _ ?_
          refine q_227s hsp.1 ?_
          rw [if_neg (by decide)]
          exact rv_i (hk9 _ hsp)
        have A6 := AM_go A5 hE6
        have A7 := AM_o A6 (o2 := o) (by omega)
        have e6o : w32 (nX_ Mx4 1 6 - 1) = o := by rw [hE6.2.2.2.1, w32_id (by omega) (by omega)]; omega
        rw [e6o]
        refine ri_i (hD _ (up_ (nx_ Mq5) 6 15 o) (a4 + 1) (j + 1) _ _ A7 (by omega) (by omega) (XC_tr hx5 (XC_tr (XF_XC nX_XF) (XC_u1 (by decide)))) (QV_tr hq5 (QV_tr QV_nx QV_15)) (by omega) (tS_e (by rw [← p70]; exact k2) h13) (fun hb h0 hle => ?_) (fun R Qtq hR => preH _ _ fun V hV hW => j_243t hT5 hE5 (by decide) k2 h13 (by omega) (by rw [show o + 1 - 1 = o by omega]; exact hR V hV hW)))
        have hv := hval hb (by rw [up_off (by decide), nx_6 (by decide)] at h0; exact h0) hle
        have e104 : up_ (nx_ Mq5) 6 15 o 6 104 = Mq5 6 104 := by rw [up_off (by decide), nx_6 (by decide)]
        have e53 : up_ (nX_ Mx4) 1 6 o 5 3 = Mx4 5 3 := by rw [up_ne (by decide), nX_ne (by decide)]
        rw [e104, e53]
        have er : ∀ r : Nat, r ≠ 6 → up_ (nx_ Mq5) 6 15 o r = Mq5 r := fun r hr => by rw [up_ne hr, nx_ne hr]
        exact VAL_c (fun i _ _ => by rw [er 227 (by decide), er 228 (by decide)]; exact ⟨rfl, rfl⟩) ⟨er _ (by decide), er _ (by decide), er _ (by decide), er _ (by decide), er _ (by decide)⟩ (by (clear hn ho hX3 hT61 hk0 hw hX hF hV hW hQ ih hm hj A hx2 hq2 hkk hz hs hVal hE e70 ha2 hj2 h01 hu h12 m70 hx3 y53 y142 pre hq3 y104 y13 y61 yr preE hE1 A1 hwj hD hS hW4 hS4 hq4 A4 ew ej p70 hx5 A5 hE5 hT5 hq5 hval preF k1 k1' preH k2 h13 hE6 A6 A7 e6o hb h0 hle hv e104 e53 er; lia)) (fun _ => rfl) _ (by (clear hn ho hX3 hT61 hk0 hw hX hF hV hW hQ ih A hx2 hq2 hkk hz hs hVal hE e70 ha2 hj2 h01 hu h12 m70 hx3 y53 y142 pre hq3 y104 y13 y61 yr preE hE1 A1 hwj hD hS hW4 hS4 hq4 A4 p70 hx5 A5 hE5 hT5 hq5 hval preF k1 k1' preH k2 h13 hE6 A6 A7 e6o hb h0 hle hv e104 e53 er; lia)) (fun i _ _ => by rw [er 209 (by decide)]) (fun i _ _ => by rw [up_ne (by decide), nX_ne (by decide)]) hv
    have hXj := hX j Mx3 hj hj2 hx3
    by_cases c3 : j < X3
    · rw [if_pos c3]
      have := hXj.1 c3
      rw [this.2.1]
      exact ⟨this.1, wants⟩
    · rw [if_neg c3]
      rw [hXj.2 c3] at wants
      exact wants
end VL
end T116_va
section T117_va
/-! values whole -/
section VW
variable {d dq n : Nat} {b F : Int} {Mx Mq Mx1 Mq1 Mx2 Mq2 M : mm_} {a a1 o o1 s z : Int} {K : Int → mm_ → Prop} {Kv G : mm_ → Prop} {Qt : qt_} {V : vv_}
def k5v_ (x3 nn : Int) : Int := if x3 < 0 ∨ nn = x3 then 0 else 5
theorem q_298e [Inhabited gh_] {x1 x2 x3 x4 nn : Int} (hV : Cl_ wd0 (Tr_ wd0 pg0 (d + 4)) V (rv_ Kv) Qt m_298) (hW : Wk_ V) (hg : go_ M) (h16 : M 6 16 = b) (h01 : b = 0 ∨ b = 1) (h1 : 0 ≤ x1 ∧ x1 < 1300) (h : Kv (Qn_ (up_ M 210 x1 nn) b (k5v_ x3 nn) x4)) : V 137 [rr 6, ii x1, ii x2, ii x3, ii x4, ii nn, none, none, none] [] M := by
  refine b_298_137 (Tr_mono _) hV hW _ _ _ _ _ M ?_
  refine q_227g hg ?_
  rw [if_pos rfl]
  refine ⟨h1, fun _ => ?_⟩
  unfold Qn_ k5v_ at h
  rw [h16]
  rcases h01 with hb | hb
  · rw [if_pos hb]
    rw [if_pos (.inl hb)] at h
    exact rv_i h
  · rw [if_neg (by (clear hV hW hg h16 h1 h; lia))]
    by_cases c : x3 < 0
    · rw [if_pos c]; rw [if_pos (.inr (by rw [if_pos (.inl c)]))] at h; exact rv_i h
    · rw [if_neg c]
      by_cases c2 : nn = x3
      · rw [if_pos c2]; rw [if_pos (.inr (by rw [if_pos (.inr c2)]))] at h; exact rv_i h
      · rw [if_neg c2]
        have e5 : (if x3 < 0 ∨ nn = x3 then (0 : Int) else 5) = 5 := if_neg (by (clear hV hW hg h16 h1 h hb; lia))
        rw [e5, if_neg (by (clear hV hW hg h16 h1 h c c2 e5; omega))] at h
        exact q_236 (rv_i h)
theorem v_158a [Inhabited gh_] (hn : n ≤ 12) (ho : o = 12 - (n : Int)) {x2 x3 x4 X2 X3 : Int} {w wq : Int → Int} (A : AM b F Mx Mq Mx1 Mq1 a a1 o s z) (hz : 8 ≤ z) (hs : s ≤ 0)
    (hX3 : X3 ≤ 3) (hk0 : 0 ≤ Mq 6 75 ∧ Mq 6 75 < 1300)
    (hw : ∀ j, 0 ≤ j → j < 3 → (-1 ≤ w j ∧ w j ≤ 2) ∧ -1 ≤ wq j ∧ (b = 1 → wq j = w j))
    (hX : ∀ j M, 0 ≤ j → j < 3 → XC Mx1 M → (j < X3 → (0 ≤ w32 (X2 + j) ∧ w32 (X2 + j) < 60) ∧ M 113 (w32 (X2 + j)) = w j ∧ 0 ≤ w j) ∧ (¬ j < X3 → w j = -1))
    (hF : ∀ (V : vv_) j M, 0 ≤ j → j < 3 → QV b Mq1 M → V 88 [rr 6, ii (Mq 6 75), ii x2, ii x3, ii x4, ii j, ii 1, ii (wq j + 1), none] [] M → F21 V (Mq 6 75) x2 x3 x4 j M)
    (h53 : Mx1 5 3 = Mx 5 3) (hS : b = 1 → vS (Mx 70) o a1 ≠ none)
    (hK : ∀ Mx' Mq' a' nn s' z', AM b F Mx Mq Mx' Mq' a a' o s' z' → 8 ≤ z' → s' ≤ 0 → XC Mx1 Mx' → QV b Mq1 Mq' → (0 ≤ nn ∧ nn ≤ 3) → Mq' 210 (Mq 6 75) = nn → vS (Mx 70) o a1 = some a'
          → (b = 1 → Mq' 6 13 = 0 → nn ≤ X3 → VAL Mx' Mq' (Mq 6 61) (Mq' 6 104) (fun i => w i + 1) (Mq 6 75) nn.toNat (Mx 5 3) (Mx' 5 3))
          → (∀ (R : mm_ → Prop) (Qtq : qt_), R (Qn_ Mq' b (k5v_ x3 nn) x4) → Tr_ wd0 pg0 (dq + 13) 298 [.inr (.inr 6), .inl (Mq 6 75), .inl x2, .inl x3, .inl x4] Mq1 (rv_ R) Qtq) → K nn Mx')
    (hQ : b = 0 → ∀ Mx', XA Mx Mx' → (∀ (R : mm_ → Prop) (Qtq : qt_), (∀ M', SQ Mx' Mq M' → R M') → Tr_ wd0 pg0 (dq + 13) 298 [.inr (.inr 6), .inl (Mq 6 75), .inl x2, .inl x3, .inl x4] Mq1 (rv_ R) Qtq) → Qt 8 Mx') :
    Tr_ wd0 pg0 (9 * n + 15) 158 [.inr (.inr 1), .inr (.inr 113), .inl X2, .inl X3] Mx1 (ri_ K) Qt := by
  have hE := AM_E A
  have hT := AM_T A
  have e70 := AM_70 A
  have e71 := AM_71 A
  have h01 := hE.2.2.2.2.2.2.2.2.1
  have h16 := hE.2.2.2.2.2.2.2.1
  have ha := ER_a hE
  by_cases c : Mx 70 a1 = 240
  rotate_left
  · -- no bracket
    refine t_158a fun V hV hW => b_158a_0 (Tr_mono _) hV hW X2 X3 Mx1 (y_117 hE (by decide) (fun e => absurd (by rw [← e70]; exact e) c) (fun k1 => ?_))
    rw [if_pos rfl]
    have A' := AM_up (r := 210) (v := 0) A (by decide) (rfl : Mq 6 75 = Mq 6 75)
    refine ri_i (hK _ (up_ Mq1 210 (Mq 6 75) 0) a1 0 s z A' hz hs XC_rf QV_10 (by decide) (by rw [up_at]) (by unfold vS; rw [if_neg c]) (fun _ _ _ => ?_) (fun R Qtq hR => ?_))
    · exact h53
    · refine t_298 fun V hV hW => b_298_0 (Tr_mono _) hV hW _ _ _ _ Mq1 (j_237f hT hE (by decide) k1 ?_)
      rw [if_pos rfl]
      exact q_298e hV hW (ER_goq hE) h16 h01 hk0 hR
  have c1 : Mx1 70 a1 = skk_ 40 := by rw [e70]; exact c
  have preB : ∀ (R : mm_ → Prop) (Qtq : qt_), (∀ V : vv_, Cl_ wd0 (Tr_ wd0 pg0 (dq + 12)) V (rv_ R) Qtq m_298 → Wk_ V → Tr_ wd0 pg0 (dq + 12) 239 [.inr (.inr 6), .inl 40] Mq1 (rv_ fun M2 => V 21 [rr 6, ii (Mq 6 75), ii x2, ii x3, ii x4, ii 0, ii 1, none, none] [] M2) Qtq) → Tr_ wd0 pg0 (dq + 13) 298 [.inr (.inr 6), .inl (Mq 6 75), .inl x2, .inl x3, .inl x4] Mq1 (rv_ R) Qtq := by
    intro R Qtq hR
    refine t_298 fun V hV hW => b_298_0 (Tr_mono _) hV hW _ _ _ _ Mq1 (j_237t hT hE (by decide) c1 ?_)
    rw [if_neg (by decide)]
    exact hR V hV hW
  have vse : o ≠ 12 → vS (Mx 70) o a1 = LPz (vS1 (Mx 70) o) (a1, 0) := fun h => by unfold vS; rw [if_pos c, if_neg h]
  by_cases ho12 : o = 12
  · refine Tr_le (d := 14) (by (clear hn A hz hs hX3 hk0 hw hX hF h53 hS hK hQ hE hT e70 e71 h01 h16 ha c c1 preB vse; lia)) ?_
    refine t_158a fun V hV hW => b_158a_0 (Tr_mono _) hV hW X2 X3 Mx1 (y_117 hE (by decide) (fun _ => ?_) (fun e => absurd c1 e))
    rw [if_neg (by decide)]
    refine y_118 hE (fun hb => by intro _; apply hS hb; unfold vS; rw [if_pos c, if_pos ho12]) (fun h _ => by (clear hn ho A hz hs hX3 hk0 hw hX hF h53 hS hK hQ hE hT e70 e71 h01 h16 ha c c1 preB vse hV hW; omega)) (fun hb _ => ?_)
    exact hQ hb _ (XA_tr (XC_XA (AM_X A)) (XF_XA fl_XF)) fun R Qtq hk9 => preB _ _ fun V hV hW => j_239o hT hE hb (by decide) c1 ho12 (q_298s hV hW (SQ_o hE hb (QC_QA (AM_Q A))).1 (hk9 _ (SQ_o hE hb (QC_QA (AM_Q A)))))
  obtain ⟨m, hm⟩ : ∃ m : Nat, n = m + 1 := ⟨n - 1, by (clear A hz hs hX3 hk0 hw hX hF h53 hS hK hQ hE hT e70 e71 h01 h16 ha c c1 preB vse; omega)⟩
  subst hm
  rw [vse ho12] at hS hK
  refine Tr_le (d := 9 * m + 15) (by (clear A hz hs hX3 hk0 hw hX hF h53 hS hK hQ hE hT e70 e71 h01 h16 ha c c1 preB vse ho12 hn ho; lia)) ?_
  refine t_158a fun V hV hW => b_158a_0 (Tr_mono _) hV hW X2 X3 Mx1 (y_117 hE (by decide) (fun _ => ?_) (fun e => absurd c1 e))
  rw [if_neg (by decide)]
  refine y_118 hE (fun hb => ho12) (fun h12 hE2 => ?_) (fun hb h => absurd h ho12)
  have A2 := AM_o A (o2 := o + 1) (by (clear A hz hs hX3 hk0 hw hX hF h53 hS hK hQ hE hT e70 e71 h01 h16 ha c c1 preB vse ho12 hV hW h12 hE2; omega))
  refine l_158a (Mx := Mx) (Mq := Mq) (Mx1 := Mx1) (Mq1 := Mq1) (o := o) hn (by (clear A hz hs hX3 hk0 hw hX hF h53 hS hK hQ hE hT e70 e71 h01 h16 ha c c1 preB vse ho12 hn hV hW h12 hE2 A2; omega)) (T := Mq 6 61) hX3 rfl hk0 hw hX hF hV hW hQ 3 0 (up_ Mx1 1 6 (o + 1)) (up_ Mq1 6 15 (o + 1)) a1 s z (by decide) (by decide) A2 (XC_u1 (by decide)) QV_15 (by (clear A hz hs hX3 hk0 hw hX hF h53 hS hK hQ hE hT e70 e71 h01 h16 ha c1 preB vse ho12 hn ho hV hW h12 hE2 A2; lia)) (by omega) hs (fun R Qtq hR => preB _ _ fun V hV hW => ?_) hS (fun _ _ _ => ?_) ?_
  · have := hR V hV hW
    by_cases c3 : a1 < 1200
    · rw [if_pos c3] at this
      exact j_239t hT hE (by decide) c1 c3 h12 this
    · rw [if_neg c3, up_ne (by decide)] at this
      have a41 : a1 = 1200 := by (clear A hz hs hX3 hk0 hw hX hF h53 hS hK hQ hE hT e70 e71 h01 h16 c c1 preB vse ho12 hn ho h12 hE2 A2 hR hV hW this; omega)
      rcases h01 with hb | hb
      · exact j_239r hT hE hb (by decide) c1 a41 h12 this
      · exfalso
        apply hS hb
        exact vS_n (by omega) (by omega) (by unfold gS; rw [if_neg c3])
  · show up_ Mx1 1 6 (o + 1) 5 3 = Mx 5 3
    rw [up_ne (by decide)]; exact h53
  · intro Mx' Mq' a' nn s' z' A' hz' hs' hx' hq' hnn hv hval hpre
    have A3 := AM_up (r := 210) (v := nn) A' (by decide) (rfl : Mq 6 75 = Mq 6 75)
    have hE' := AM_E A'
    refine hK _ (up_ Mq' 210 (Mq 6 75) nn) a' nn s' z' A3 hz' hs' hx' (QV_tr hq' QV_10) (by (clear A hz hs hX3 hk0 hw hX hF h53 hS hK hQ hE hT e70 e71 h01 h16 ha c c1 preB vse ho12 hn ho hV hW h12 hE2 A2 A' hz' hs' hx' hq' hv hval hpre A3 hE'; omega)) (by rw [up_at]) hv (fun hb h0 hle => ?_) (fun R Qtq hR => hpre _ _ fun V hV hW => q_298e hV hW (ER_goq hE') hE'.2.2.2.2.2.2.2.1 h01 hk0 hR)
    rw [up_ne (by decide)] at h0
    have := hval hb h0 hle
    rw [up_ne (by decide)]
    exact VAL_c (fun i _ _ => by rw [up_ne (by decide), up_ne (by decide)]; exact ⟨rfl, rfl⟩) (QC_tb (QC_ur (by decide) (by decide))) (by (clear A hz hs hX3 hk0 hw hX hF h53 hS hK hQ hE hT e70 e71 h01 h16 ha c c1 preB vse ho12 hn ho hV hW h12 hE2 A2 A' hz' hs' hx' hq' hnn hv hval hpre A3 hE' hb h0 hle this; lia)) (fun _ => rfl) _ (by (clear A hz hs hX3 hk0 hw hX hF h53 hS hK hQ hE hT e70 e71 h01 h16 ha c c1 preB vse ho12 hn ho hV hW h12 hE2 A2 A' hz' hs' hx' hq' hv hval hpre A3 hE' hb h0 hle this; omega)) (fun i _ _ => by rw [up_ne (by decide)]) (fun i _ _ => rfl) this
theorem v_158b [Inhabited gh_] (hn : n ≤ 12) (ho : o = 12 - (n : Int)) {x2 x3 x4 X2 X3 : Int} {w wq : Int → Int} (A : AM b F Mx Mq Mx1 Mq1 a a1 o s z) (hz : 8 ≤ z) (hs : s ≤ 0)
    (hX3 : X3 ≤ 3) (hk0 : 0 ≤ Mq 6 75 ∧ Mq 6 75 < 1300)
    (hw : ∀ j, 0 ≤ j → j < 3 → (-1 ≤ w j ∧ w j ≤ 2) ∧ -1 ≤ wq j ∧ (b = 1 → wq j = w j))
    (hX : ∀ j M, 0 ≤ j → j < 3 → XC Mx1 M → (j < X3 → (0 ≤ w32 (X2 + j) ∧ w32 (X2 + j) < 48) ∧ M 130 (w32 (X2 + j)) = w j ∧ 0 ≤ w j) ∧ (¬ j < X3 → w j = -1))
    (hF : ∀ (V : vv_) j M, 0 ≤ j → j < 3 → QV b Mq1 M → V 88 [rr 6, ii (Mq 6 75), ii x2, ii x3, ii x4, ii j, ii 1, ii (wq j + 1), none] [] M → F21 V (Mq 6 75) x2 x3 x4 j M)
    (h53 : Mx1 5 3 = Mx 5 3) (hS : b = 1 → vS (Mx 70) o a1 ≠ none)
    (hK : ∀ Mx' Mq' a' nn s' z', AM b F Mx Mq Mx' Mq' a a' o s' z' → 8 ≤ z' → s' ≤ 0 → XC Mx1 Mx' → QV b Mq1 Mq' → (0 ≤ nn ∧ nn ≤ 3) → Mq' 210 (Mq 6 75) = nn → vS (Mx 70) o a1 = some a'
          → (b = 1 → Mq' 6 13 = 0 → nn ≤ X3 → VAL Mx' Mq' (Mq 6 61) (Mq' 6 104) (fun i => w i + 1) (Mq 6 75) nn.toNat (Mx 5 3) (Mx' 5 3))
          → (∀ (R : mm_ → Prop) (Qtq : qt_), R (Qn_ Mq' b (k5v_ x3 nn) x4) → Tr_ wd0 pg0 (dq + 13) 298 [.inr (.inr 6), .inl (Mq 6 75), .inl x2, .inl x3, .inl x4] Mq1 (rv_ R) Qtq) → K nn Mx')
    (hQ : b = 0 → ∀ Mx', XA Mx Mx' → (∀ (R : mm_ → Prop) (Qtq : qt_), (∀ M', SQ Mx' Mq M' → R M') → Tr_ wd0 pg0 (dq + 13) 298 [.inr (.inr 6), .inl (Mq 6 75), .inl x2, .inl x3, .inl x4] Mq1 (rv_ R) Qtq) → Qt 8 Mx') :
    Tr_ wd0 pg0 (9 * n + 15) 158 [.inr (.inr 1), .inr (.inr 130), .inl X2, .inl X3] Mx1 (ri_ K) Qt := by
  have hE := AM_E A
  have hT := AM_T A
  have e70 := AM_70 A
  have e71 := AM_71 A
  have h01 := hE.2.2.2.2.2.2.2.2.1
  have h16 := hE.2.2.2.2.2.2.2.1
  have ha := ER_a hE
  by_cases c : Mx 70 a1 = 240
  rotate_left
  · -- no bracket
    refine t_158b fun V hV hW => b_158b_0 (Tr_mono _) hV hW X2 X3 Mx1 (y_117 hE (by decide) (fun e => absurd (by rw [← e70]; exact e) c) (fun k1 => ?_))
    rw [if_pos rfl]
    have A' := AM_up (r := 210) (v := 0) A (by decide) (rfl : Mq 6 75 = Mq 6 75)
    refine ri_i (hK _ (up_ Mq1 210 (Mq 6 75) 0) a1 0 s z A' hz hs XC_rf QV_10 (by decide) (by rw [up_at]) (by unfold vS; rw [if_neg c]) (fun _ _ _ => ?_) (fun R Qtq hR => ?_))
    · exact h53
    · refine t_298 fun V hV hW => b_298_0 (Tr_mono _) hV hW _ _ _ _ Mq1 (j_237f hT hE (by decide) k1 ?_)
      rw [if_pos rfl]
      exact q_298e hV hW (ER_goq hE) h16 h01 hk0 hR
  have c1 : Mx1 70 a1 = skk_ 40 := by rw [e70]; exact c
  have preB : ∀ (R : mm_ → Prop) (Qtq : qt_), (∀ V : vv_, Cl_ wd0 (Tr_ wd0 pg0 (dq + 12)) V (rv_ R) Qtq m_298 → Wk_ V → Tr_ wd0 pg0 (dq + 12) 239 [.inr (.inr 6), .inl 40] Mq1 (rv_ fun M2 => V 21 [rr 6, ii (Mq 6 75), ii x2, ii x3, ii x4, ii 0, ii 1, none, none] [] M2) Qtq) → Tr_ wd0 pg0 (dq + 13) 298 [.inr (.inr 6), .inl (Mq 6 75), .inl x2, .inl x3, .inl x4] Mq1 (rv_ R) Qtq := by
    intro R Qtq hR
    refine t_298 fun V hV hW => b_298_0 (Tr_mono _) hV hW _ _ _ _ Mq1 (j_237t hT hE (by decide) c1 ?_)
    rw [if_neg (by decide)]
    exact hR V hV hW
  have vse : o ≠ 12 → vS (Mx 70) o a1 = LPz (vS1 (Mx 70) o) (a1, 0) := fun h => by unfold vS; rw [if_pos c, if_neg h]
  by_cases ho12 : o = 12
  · refine Tr_le (d := 14) (by (clear hn A hz hs hX3 hk0 hw hX hF h53 hS hK hQ hE hT e70 e71 h01 h16 ha c c1 preB vse; lia)) ?_
    refine t_158b fun V hV hW => b_158b_0 (Tr_mono _) hV hW X2 X3 Mx1 (y_117 hE (by decide) (fun _ => ?_) (fun e => absurd c1 e))
    rw [if_neg (by decide)]
    refine y_118 hE (fun hb => by intro _; apply hS hb; unfold vS; rw [if_pos c, if_pos ho12]) (fun h _ => by omega) (fun hb _ => ?_)
    exact hQ hb _ (XA_tr (XC_XA (AM_X A)) (XF_XA fl_XF)) fun R Qtq hk9 => preB _ _ fun V hV hW => j_239o hT hE hb (by decide) c1 ho12 (q_298s hV hW (SQ_o hE hb (QC_QA (AM_Q A))).1 (hk9 _ (SQ_o hE hb (QC_QA (AM_Q A)))))
  obtain ⟨m, hm⟩ : ∃ m : Nat, n = m + 1 := ⟨n - 1, by omega⟩
  subst hm
  rw [vse ho12] at hS hK
  refine Tr_le (d := 9 * m + 15) (by omega) ?_
  refine t_158b fun V hV hW => b_158b_0 (Tr_mono _) hV hW X2 X3 Mx1 (y_117 hE (by decide) (fun _ => ?_) (fun e => absurd c1 e))
  rw [if_neg (by decide)]
  refine y_118 hE (fun hb => ho12) (fun h12 hE2 => ?_) (fun hb h => absurd h ho12)
  have A2 := AM_o A (o2 := o + 1) (by omega)
  refine l_158b (Mx := Mx) (Mq := Mq) (Mx1 := Mx1) (Mq1 := Mq1) (o := o) hn (by omega) (T := Mq 6 61) hX3 rfl hk0 hw hX hF hV hW hQ 3 0 (up_ Mx1 1 6 (o + 1)) (up_ Mq1 6 15 (o + 1)) a1 s z (by decide) (by decide) A2 (XC_u1 (by decide)) QV_15 (by omega) (by omega) hs (fun R Qtq hR => preB _ _ fun V hV hW => ?_) hS (fun _ _ _ => ?_) ?_
  · have := hR V hV hW
    by_cases c3 : a1 < 1200
    · rw [if_pos c3] at this
      exact j_239t hT hE (by decide) c1 c3 h12 this
    · rw [if_neg c3, up_ne (by decide)] at this
      have a41 : a1 = 1200 := by omega
      rcases h01 with hb | hb
      · exact j_239r hT hE hb (by decide) c1 a41 h12 this
      · exfalso
        apply hS hb
        exact vS_n (by omega) (by omega) (by unfold gS; rw [if_neg c3])
  · show up_ Mx1 1 6 (o + 1) 5 3 = Mx 5 3
    rw [up_ne (by decide)]; exact h53
  · intro Mx' Mq' a' nn s' z' A' hz' hs' hx' hq' hnn hv hval hpre
    have A3 := AM_up (r := 210) (v := nn) A' (by decide) (rfl : Mq 6 75 = Mq 6 75)
    have hE' := AM_E A'
    refine hK _ (up_ Mq' 210 (Mq 6 75) nn) a' nn s' z' A3 hz' hs' hx' (QV_tr hq' QV_10) (by omega) (by rw [up_at]) hv (fun hb h0 hle => ?_) (fun R Qtq hR => hpre _ _ fun V hV hW => q_298e hV hW (ER_goq hE') hE'.2.2.2.2.2.2.2.1 h01 hk0 hR)
    rw [up_ne (by decide)] at h0
    have := hval hb h0 hle
    rw [up_ne (by decide)]
    exact VAL_c (fun i _ _ => by rw [up_ne (by decide), up_ne (by decide)]; exact ⟨rfl, rfl⟩) (QC_tb (QC_ur (by decide) (by decide))) (by omega) (fun _ => rfl) _ (by omega) (fun i _ _ => by rw [up_ne (by decide)]) (fun i _ _ => rfl) this
end VW
end T117_va
section T118_gt
/-! tables of signals, routes and types that acts look at; what is sent and made -/
def SGT (Mx Mq : mm_) : Prop := sgl9 Mx Mq ∧ ∀ s : Int, 0 ≤ s → s < Mx 5 0 → (0 ≤ Mx 112 s ∧ Mx 112 s ≤ 3 ∧ Mq 156 s = Mx 112 s) ∧ ∀ i : Int, 0 ≤ i → i < Mx 112 s → 0 ≤ Mx 113 (3 * s + i) ∧ Mx 113 (3 * s + i) ≤ 2 ∧ Mq 157 (3 * s + i) = Mx 113 (3 * s + i) + 1
def PRT (b : Int) (Mx Mq : mm_) : Prop := tpl9 Mx Mq ∧ (∀ k : Int, 0 ≤ k → k < Mx 5 2 → 0 ≤ Mq 170 k ∧ Mq 170 k ≤ 3 ∧ ∀ i : Int, 0 ≤ i → i < Mq 170 k → 1 ≤ Mq 182 (8 * k + i) ∧ Mq 182 (8 * k + i) ≤ 3 ∧ Mq 183 (8 * k + i) = 0)
  ∧ (b = 1 → ∀ k : Int, 0 ≤ k → k < Mx 5 2 → Mx 122 k = Mq 170 k ∧ ∀ i : Int, 0 ≤ i → i < Mq 170 k → Mx 130 (8 * k + i) + 1 = Mq 182 (8 * k + i))
/-- p: the place of a token at or ahead of the one at hand -/
def RTT (b F : Int) (Mx Mq : mm_) (p : Int) : Prop := rtl9 Mx Mq ∧ (b = 1 → (∀ r : Int, 0 ≤ r → r < Mx 5 1 → Mx 114 (2 * r) = (if Mq 158 r = 0 then -2 else tpl Mq (Mq 158 r)) ∧ Mx 119 r = Mq 164 r ∧ 0 ≤ Mq 164 r ∧ Mq 164 r < 1048576)
  ∧ (0 ≤ Mq 6 61 ∧ Mq 6 61 < Mq 6 19 ∧ Mq 154 (Mq 6 61) ≠ 0) ∧ (tpl Mq (Mq 154 (Mq 6 61)) = Mq 6 61 ∨ F ≤ 8 * p))
def GT (b F : Int) (Mx Mq : mm_) (p : Int) : Prop := SGT Mx Mq ∧ PRT b Mx Mq ∧ RTT b F Mx Mq p
/-- where sent and made change -/
def SM (Mx MX : mm_) (w v : Int) : Prop := (MX = Mx ∧ (w ≠ 2 ∧ w ≠ 5 ∨ v = -1)) ∨ (w = 2 ∧ (0 ≤ v ∧ v < 20) ∧ MX = up_ Mx 1 21 (or_ (Mx 1 21) (sl_ 1 v))) ∨ (w = 5 ∧ (0 ≤ v ∧ v < 6) ∧ MX = up_ Mx 1 23 (or_ (Mx 1 23) (sl_ 1 v)))
section GT
variable {d dq n : Nat} {b F : Int} {Mx Mq MX MQ Mx1 Mq1 Mx2 Mq2 M : mm_} {a a1 o o1 s z p : Int} {K : Int → mm_ → Prop} {Kv G : mm_ → Prop} {Qt : qt_} {V : vv_}
theorem ER_X2 [Inhabited gh_] (h : ER b F Mx Mq a o) (h70 : Mx1 70 = Mx 70) (h1 : ∀ i : Int, 3 ≤ i → i ≤ 8 → Mx1 1 i = Mx 1 i) (h5 : Mx1 5 3 = Mx 5 3) (h19 : Mx1 1 19 = Mx 1 19) : ER b F Mx1 Mq a o := by
  unfold ER NR gd_ at *
  rw [h19, h70, h1 3 (by decide) (by decide), h1 4 (by decide) (by decide), h1 5 (by decide) (by decide), h1 6 (by decide) (by decide), h1 7 (by decide) (by decide), h1 8 (by decide) (by decide), h5]; exact h
theorem AM_bx [Inhabited gh_] {i v : Int} (hi : i = 21 ∨ i = 23) (h : AM b F Mx Mq Mx1 Mq1 a a1 o1 s z) : AM b F (up_ Mx 1 i v) Mq (up_ Mx1 1 i v) Mq1 a a1 o1 s z := by
  obtain ⟨h1, h2, h3, h4, h5, h6, h7, h8, h9, h10, h11, h12, h13⟩ := h
  have X : ∀ (M : mm_) (r : Nat), r ≠ 1 → up_ M 1 i v r = M r := fun M r a => up_ne a
  have I : ∀ (M : mm_) (j : Int), j ≠ 21 → j ≠ 23 → up_ M 1 i v 1 j = M 1 j := fun M j a b => up_off (by (clear h1 h2 h3 h4 h5 h6 h7 h9 h10 h11 h12 X; lia))
  have xa : XA Mx (up_ Mx 1 i v) := XA_u1 (by rcases hi with e | e <;> rw [e] <;> decide)
  obtain ⟨t1, t2, t3, t4, t5, t6⟩ := h1
  refine ⟨⟨Tks_a xa QA_rf t1, VT_a xa QA_rf t2, ?_, t4, t5, by rw [X _ 5 (by decide)]; exact t6⟩, h2, ⟨fun r hr => up_cg (h3.1 r hr), fun k hk => ?_, fun k hk => by rw [X _ 5 (by decide), X _ 5 (by decide)]; exact h3.2.2 k hk⟩, h4, ER_X2 h5 (X _ _ (by decide)) (fun j _ _ => I _ j (by omega) (by (clear hi h2 h3 h4 h5 h6 h7 h8 h9 h10 h11 h12 h13 X I xa t1 t2 t3 t4 t5 t6; omega))) (by rw [X _ _ (by decide)]) (I _ 19 (by omega) (by omega)), h6, h7, by rw [X _ 5 (by decide), X _ 5 (by decide)]; exact h8, fun k x y => ?_, h10, h11, by rw [I _ 7 (by decide) (by decide), I _ 7 (by decide) (by decide)]; exact h12, h13⟩
  · rw [I _ 6 (by decide) (by decide)]
    exact ER_X2 t3 (X _ _ (by decide)) (fun j _ _ => I _ j (by omega) (by omega)) (by rw [X _ _ (by decide)]) (I _ 19 (by omega) (by omega))
  · by_cases c : k = i
    · rw [c, up_at, up_at]
    · rw [up_off c, up_off c]; exact h3.2.1 k hk
  · rw [X _ 5 (by decide)] at y
    rw [X _ 142 (by decide), X _ 142 (by decide)]; exact h9 k x y
/-- X alone notes what comes behind a fault of the first pass -/
theorem AM_mx [Inhabited gh_] {k tk : Int} (h : AM b F Mx Mq Mx1 Mq1 a a1 o1 s z) (hb : b = 1) (hk : 3 ≤ k ∧ k ≤ 6) (hg : gd_ Mx tk) (hz : 1 ≤ z) (hF : F ≤ 8 * Mx 71 tk + k) : AM b F Mx Mq (nt1_ Mx1 k tk) Mq1 a a1 o1 s (z - 1) := by
  have h71 := AM_71 h
  have hT := h.1.1
  obtain ⟨h1, h2, h3, h4, h5, h6, h7, h8, h9, h10, h11, h12, h13⟩ := h
  have hp := tk_p hT hg
  have b0 := h1.2.2.1.2.2.2.2.2.2.2.2.2.2.2.2.1
  refine ⟨h1, h2, XC_tr h3 (XF_XC nt1_XF), h4, ?_, h6, h7, by rw [nt1_r (by decide)]; exact h8, fun i x y => by rw [nt1_r (by decide)]; exact h9 i x y, h10, h11, by rw [nt1_7]; (clear hb hk hg hz hF h71 hT h1 h2 h3 h4 h5 h6 h7 h8 h9 h10 h11 h13 hp b0; lia), h13⟩
  obtain ⟨e1, e2, e3, e4, e5, e6, e7, e8, e9, e10, e11, e12, e13, e14, e15⟩ := h5
  have n3 : ∀ i : Int, i ≠ 4 → i ≠ 5 → i ≠ 7 → nt1_ Mx1 k tk 1 i = Mx1 1 i := fun i a b c => nt1_1 a b c
  refine ⟨gd_c (nt1_r (by decide)) e1, by rw [n3 3 (by decide) (by decide) (by decide)]; exact e2, e3, by rw [n3 6 (by decide) (by decide) (by decide)]; exact e4, e5, e6, by rw [n3 8 (by decide) (by decide) (by decide)]; exact e7, e8, e9, e10, ?_, by rw [nt1_7]; omega, by rw [nt1_7]; (clear hb hk hg hF h71 hT h1 h2 h3 h4 h6 h7 h8 h9 h10 h11 h13 hp e1 e4 e5 e6 e7 e8 e9 e10 e11 e12 e14 e15 n3; lia), by rw [nt1_r (by decide)]; exact e14, by rw [nt1_r (by decide)]; exact e15⟩
  obtain ⟨n1, n2, n4, n5⟩ := e11
  have q := kk_nt1 (M := Mx1) (k := k) (t := tk) n1 (by omega) (by omega) (by rw [h71]; exact hp.1) (by rw [h71]; exact hp.2)
  refine ⟨q.2, n2, ?_, n5.1, by rw [n3 19 (by decide) (by decide) (by decide)]; exact n5.2⟩
  rw [q.1, n4, h71]
  (clear hk hg hz h71 hT h1 h2 h3 h4 h6 h7 h8 h9 h10 h11 h12 h13 hp b0 e1 e2 e3 e4 e5 e6 e7 e9 e10 e12 e13 e14 e15 n3 n1 n2 q; lia)
/-- the side of a route -/
theorem tpl_i [Inhabited gh_] (h9 : tpl9 Mx Mq) {v : Int} (h : tpl Mq v ≠ -1) : 0 ≤ tpl Mq v ∧ tpl Mq v < Mq 6 19 ∧ Mq 154 (tpl Mq v) = v := by
  have h0 := h9.1.1
  have e : Mq 6 19 = Mx 5 2 := h9.1.2.2
  rcases fi_r (fun i => Mq 154 (i)) v (Mq 6 19).toNat 0 with g | g
  · exact absurd g h
  · exact ⟨g.1, by have := g.2.1; unfold tpl; omega, g.2.2⟩
theorem side_e [Inhabited gh_] (h : GT b F Mx Mq p) (hb : b = 1) {r : Int} (hr : 0 ≤ r ∧ r < Mx 5 1) : (Mx 114 (2 * r) = Mq 6 61 ↔ Mq 158 r = Mq 154 (Mq 6 61)) ∨ (F ≤ 8 * p ∧ Mx 114 (2 * r) ≠ Mq 6 61) := by
  obtain ⟨g1, g2, g3⟩ := h
  obtain ⟨g4, g5, g6⟩ := g3.2 hb
  have e := (g4 r hr.1 hr.2).1
  have t9 := g2.1
  have fw : Mx 114 (2 * r) = Mq 6 61 → Mq 158 r = Mq 154 (Mq 6 61) ∧ tpl Mq (Mq 154 (Mq 6 61)) = Mq 6 61 := by
    intro h
    rw [e] at h
    by_cases c : Mq 158 r = 0
    · rw [if_pos c] at h; omega
    · rw [if_neg c] at h
      have q := (tpl_i t9 (v := Mq 158 r) (by omega)).2.2
      rw [h] at q
      exact ⟨q.symm, by rw [q]; exact h⟩
  by_cases c : tpl Mq (Mq 154 (Mq 6 61)) = Mq 6 61
  · refine .inl ⟨fun h => (fw h).1, fun h => ?_⟩
    rw [e, h, if_neg g5.2.2]; exact c
  · exact .inr ⟨g6.resolve_left c, fun h => c (fw h).2⟩
theorem Tr_297 [Inhabited gh_] {MQ : mm_} (hT : Tks Mx Mq) (hE : ER b F Mx Mq a o) (hk : Mx 70 a = 14) (hq : (a < 1200 ∧ MQ = nx_ Mq) ∨ (b = 0 ∧ a = 1200 ∧ MQ = bf_ Mq 2 (Mx 71 a))) (h : Tr_ wd0 pg0 (d + 3) 297 [.inr (.inr 6), .inl (Mx 71 a)] MQ (rv_ Kv) Qt) : Tr_ wd0 pg0 (d + 4) 296 [.inr (.inr 6)] Mq (rv_ Kv) Qt := by
  have hp0 : Mq 150 (Mq 6 12) = Mx 71 a := (ER_k hT hE).2.1
  refine t_296 fun V hV hW => b_296_0 (Tr_mono _) hV hW Mq ⟨(ER_k hT hE).2.2.1, ?_⟩
  rw [hp0]
  rcases hq with ⟨h12, e⟩ | ⟨hb, h12, e⟩
  · refine j_228t hT hE (by decide) hk h12 ?_
    rw [if_neg (by decide), ← e]; exact Tr_rv h
  · refine j_228r hT hE hb (by decide) hk h12 ?_
    rw [if_neg (by decide), ← e]; exact Tr_rv h
theorem Tr_301 [Inhabited gh_] {MQ : mm_} (hT : Tks Mx Mq) (hE : ER b F Mx Mq a o) (hk : Mx 70 a = 17) (hq : (a < 1200 ∧ MQ = nx_ Mq) ∨ (b = 0 ∧ a = 1200 ∧ MQ = bf_ Mq 2 (Mx 71 a))) (h : Tr_ wd0 pg0 (d + 3) 301 [.inr (.inr 6), .inl (Mx 71 a)] MQ (rv_ Kv) Qt) : Tr_ wd0 pg0 (d + 4) 296 [.inr (.inr 6)] Mq (rv_ Kv) Qt := by
  have hp0 : Mq 150 (Mq 6 12) = Mx 71 a := (ER_k hT hE).2.1
  refine t_296 fun V hV hW => b_296_0 (Tr_mono _) hV hW Mq ⟨(ER_k hT hE).2.2.1, ?_⟩
  rw [hp0]
  refine j_228f hT hE (by decide) (by (clear hT hE hq h hp0 hV hW; lia)) ?_
  rw [if_pos rfl]
  refine j_228f hT hE (by decide) (by omega) ?_
  rw [if_pos rfl]
  refine j_228f hT hE (by decide) (by omega) ?_
  rw [if_pos rfl]
  rcases hq with ⟨h12, e⟩ | ⟨hb, h12, e⟩
  · refine j_228t hT hE (by decide) hk h12 ?_
    rw [if_neg (by decide), ← e]; exact Tr_rv h
  · refine j_228r hT hE hb (by decide) hk h12 ?_
    rw [if_neg (by decide), ← e]; exact Tr_rv h
/-- X notes that a number of values is another one -/
theorem y_n5v [Inhabited gh_] {t r x3 q v kk : Int} {A : mm_ → Prop} (hE : ER b F Mx1 Mq1 a1 o1) (ht : 0 ≤ t ∧ t < 1202) (hq : (r = -1 ∧ q = -1) ∨ (r ≠ -1 ∧ (b = 1 → q = x3 ∧ 0 ≤ x3))) (hk : kk = k5v_ q v) (h : A (Xn_ Mx1 b kk t)) : bl_ (Mx1 1 8) → (if Mx1 1 8 = 0 then A Mx1 else (if r = -1 then A Mx1 else (if v = x3 then A Mx1 else Tr_ wd0 pg0 (d + 1) 116 [.inr (.inr 1), .inl 5, .inl t] Mx1 (rv_ A) Qt))) := by
  intro _
  have h8 := hE.2.2.2.2.2.2.1
  have h01 := hE.2.2.2.2.2.2.2.2.1
  unfold Xn_ at h
  unfold k5v_ at hk
  by_cases c : Mx1 1 8 = 0
  · rw [if_pos c]
    rw [if_pos (.inl (by omega))] at h; exact h
  · rw [if_neg c]
    by_cases c2 : r = -1
    · rw [if_pos c2]
      have : q < 0 ∨ v = q := by (clear hE ht hk h; lia)
      rw [if_pos this] at hk
      rw [if_pos (.inr hk)] at h; exact h
    · rw [if_neg c2]
      have hq2 : q = x3 ∧ 0 ≤ x3 := by
        rcases hq with e | e
        · exact absurd e.1 c2
        · exact e.2 (by (clear hE ht hk h; lia))
      by_cases c3 : v = x3
      · rw [if_pos c3]
        have : q < 0 ∨ v = q := by (clear hE ht hq hk h h8 h01 c c2; lia)
        rw [if_pos this] at hk
        rw [if_pos (.inr hk)] at h; exact h
      · rw [if_neg c3]
        have : ¬ (q < 0 ∨ v = q) := by (clear hE ht hq hk h h8 h01 c c2; lia)
        rw [if_neg this] at hk
        rw [if_neg (by (clear hE ht hq h h01; lia)), hk] at h
        exact x_116 ht.1 ht.2 (ER_fl hE).1 (ER_fl hE).2 h
end GT
end T118_gt
section T119_cr
/-! create -/
section CR
variable {d dq n : Nat} {b F : Int} {Mx Mq MX MQ Mx1 Mq1 Mx2 Mq2 M : mm_} {a a1 o o1 s z p : Int} {K : Int → mm_ → Prop} {Kv G : mm_ → Prop} {Qt : qt_} {V : vv_} {dec : Int → Option Int}
theorem tpl_a [Inhabited gh_] (hq : QA Mq Mq1) {v : Int} : tpl Mq1 v = tpl Mq v := by unfold tpl; rw [QA_r hq (r := 154) (by decide), hq.2 19 (by decide)]
theorem sgl_a [Inhabited gh_] (hq : QA Mq Mq1) {v : Int} : sgl Mq1 v = sgl Mq v := by unfold sgl; rw [QA_r hq (r := 152) (by decide), hq.2 17 (by decide)]
theorem rtl_a [Inhabited gh_] (hq : QA Mq Mq1) {v : Int} : rtl Mq1 v = rtl Mq v := by unfold rtl; rw [QA_r hq (r := 153) (by decide), hq.2 18 (by decide)]
theorem GT_a [Inhabited gh_] (hx : XA Mx Mx1) (hq : QA Mq Mq1) (h : GT b F Mx Mq p) : GT b F Mx1 Mq1 p := by
  have et : tpl Mq1 = tpl Mq := funext fun v => tpl_a hq
  unfold GT SGT PRT RTT sgl9 tpl9 rtl9 nm9_ gd_ at *
  rw [et, hx.2.2 0 (by decide), hx.2.2 1 (by decide), hx.2.2 2 (by decide), hq.2 17 (by decide), hq.2 18 (by decide), hq.2 19 (by decide), hq.2 61 (by decide), XA_r hx (r := 70) (by decide), XA_r hx (r := 56) (by decide), XA_r hx (r := 57) (by decide), XA_r hx (r := 58) (by decide), XA_r hx (r := 112) (by decide), XA_r hx (r := 113) (by decide), XA_r hx (r := 114) (by decide), XA_r hx (r := 119) (by decide), XA_r hx (r := 122) (by decide), XA_r hx (r := 130) (by decide),
    QA_r hq (r := 151) (by decide), QA_r hq (r := 152) (by decide), QA_r hq (r := 153) (by decide), QA_r hq (r := 154) (by decide), QA_r hq (r := 156) (by decide), QA_r hq (r := 157) (by decide), QA_r hq (r := 158) (by decide), QA_r hq (r := 164) (by decide), QA_r hq (r := 170) (by decide), QA_r hq (r := 182) (by decide), QA_r hq (r := 183) (by decide)]
  exact h
theorem VAL_s [Inhabited gh_] {T fe k : Int} {σ σ' : Int → Int} : ∀ (m : Nat) {c c' : Int}, (∀ i : Nat, i < m → σ' i = σ i) → VAL Mx Mq T fe σ k m c c' → VAL Mx Mq T fe σ' k m c c'
  | 0, c, c', _, h => h
  | m + 1, c, c', hs, ⟨c1, h1, h2⟩ => ⟨c1, VAL_s m (fun i hi => hs i (by omega)) h1, by rw [hs m (by omega)]; exact h2⟩
theorem cr_syn [Inhabited gh_] (hk : Mx 70 a = 17) : acS (Mx 70) dec o a = (gS a).bind fun a1 => (tS (Mx 70) 100 a1).bind fun a2 => (vS (Mx 70) o a2).bind (tS (Mx 70) 259) := by
  unfold acS crS
  rw [if_neg (by omega), if_neg (by omega), if_neg (by omega), if_pos hk]
  cases gS a with
  | none => rfl
  | some a1 =>
    simp only [Option.bind_some]
    cases tS (Mx 70) 100 a1 with
    | none => rfl
    | some a2 => simp only [Option.bind_some]
set_option maxHeartbeats 4000000 in
theorem y_143c [Inhabited gh_] (hn : n ≤ 12) (ho : o = 12 - (n : Int)) (h : TA b F Mx Mq a o) (hG : GT b F Mx Mq p) (hk : Mx 70 a = 17) (hS : b = 1 → acS (Mx 70) dec o a ≠ none)
    (hK : ∀ MX Mx' Mq' a', SM Mx MX 5 (Mq' 205 (Mq 6 75)) → AR b F MX Mq Mx' Mq' a a' o 5 (Mq' 205 (Mq 6 75)) → acS (Mx 70) dec o a = some a' → (∀ (Kv : mm_ → Prop) (Qtq : qt_), Kv Mq' → Tr_ wd0 pg0 (dq + 15) 296 [.inr (.inr 6)] Mq (rv_ Kv) Qtq) → K 0 Mx')
    (hQ : b = 0 → ∀ Mx', XA Mx Mx' → (∀ (Kv : mm_ → Prop) (Qtq : qt_), (∀ M', SQ Mx' Mq M' → Kv M') → Tr_ wd0 pg0 (dq + 15) 296 [.inr (.inr 6)] Mq (rv_ Kv) Qtq) → Qt 8 Mx') :
    Tr_ wd0 pg0 (9 * n + 17) 143 [.inr (.inr 1)] Mx (ri_ K) Qt := by
  rw [cr_syn hk] at hS hK
  have A0 := AM_rf h
  have hE := AM_E A0
  have hT := AM_T A0
  have h01 := hE.2.2.2.2.2.2.2.2.1
  have h75 := h.2.2.2.1
  have hae := ER_a hE
  refine t_143 fun V hV hW => b_143_0 (Tr_mono _) hV hW Mx ?_
  refine y_103 hE (fun e => by omega) (fun _ => ?_)
  rw [if_pos rfl]
  refine y_103 hE (fun e => by (clear hn ho h hG hS hK hQ A0 hE hT h01 h75 hae hV hW; omega)) (fun _ => ?_)
  rw [if_pos rfl]
  refine y_103 hE (fun e => by (clear hn ho h hG hS hK hQ A0 hE hT h01 h75 hae hV hW; lia)) (fun _ => ?_)
  rw [if_pos rfl]
  refine y_103 hE (fun e => by omega) (fun _ => ?_)
  rw [if_pos rfl]
  refine y_103 hE (fun _ => ?_) (fun e => absurd hk e)
  rw [if_neg (by decide)]
  refine t_160 fun V2 hV2 hW2 => b_160_0 (Tr_mono _) hV2 hW2 Mx ?_
  refine y_105 hE (by (clear hn ho h hG hS hK hQ A0 hE hT h01 h75 hae hV hW hV2 hW2; lia)) (fun hb => by intro e; rw [e] at hS; exact hS hb rfl) (fun h12 hE1 => ?_) (fun hb h12 => ?_)
  rotate_left
  · refine hQ hb _ (XF_XA fl_XF) fun Kv Qtq hk9 => Tr_301 hT hE hk (.inr ⟨hb, h12, rfl⟩) ?_
    have hsp := SQ_bf hE hb (k := 2) (by decide) QA_rf
    refine t_301 fun V hV hW => b_301_0 (Tr_mono _) hV hW _ _ ?_
    refine q_233s hsp.1 (q_227s hsp.1 ?_)
    rw [if_neg (by decide)]
    exact rv_i (hk9 _ hsp)
  have A1 := AM_go A0 hE1
  have hT1 := AM_T A1
  have e70 := AM_70 A1
  have e71 := AM_71 A1
  rw [gS_e h12, Option.bind_some] at hS
  have pre1 : ∀ (Kv : mm_ → Prop) (Qtq : qt_), Tr_ wd0 pg0 (dq + 14) 301 [.inr (.inr 6), .inl (Mx 71 a)] (nx_ Mq) (rv_ Kv) Qtq → Tr_ wd0 pg0 (dq + 15) 296 [.inr (.inr 6)] Mq (rv_ Kv) Qtq := fun Kv Qtq hq => Tr_301 (d := dq + 11) hT hE hk (.inl ⟨h12, rfl⟩) hq
  refine y_107 hE1 (fun hb => by rw [e70]; intro e; rw [e] at hS; exact hS hb rfl) (fun k1 h13 hE2 => ?_) (fun hb k1 h13 => ?_) (fun hb k1 => ?_)
  rotate_left
  · refine hQ hb _ (XA_tr (XC_XA (AM_X A1)) (XF_XA fl_XF)) fun Kv Qtq hk9 => pre1 _ _ ?_
    have hsp := SQ_bf hE1 hb (k := 2) (by decide) (QC_QA (AM_Q A1))
    refine t_301 fun V hV hW => b_301_0 (Tr_mono _) hV hW _ _ ?_
    refine j_233r hT1 hE1 hb k1 h13 (q_227s hsp.1 ?_)
    rw [if_neg (by decide)]
    exact rv_i (hk9 _ hsp)
  · refine hQ hb _ (XA_tr (XC_XA (AM_X A1)) (XF_XA fl_XF)) fun Kv Qtq hk9 => pre1 _ _ ?_
    have hsp := SQ_bf hE1 hb (k := 1) (by decide) (QC_QA (AM_Q A1))
    refine t_301 fun V hV hW => b_301_0 (Tr_mono _) hV hW _ _ ?_
    refine j_233w hT1 hE1 hb k1 (q_227s hsp.1 ?_)
    rw [if_neg (by decide)]
    exact rv_i (hk9 _ hsp)
  have A2 := AM_go A1 hE2
  have hT2 := AM_T A2
  have hV2' := AM_V A2
  have k1' : Mx 70 (a + 1) = 100 := by rw [← e70]; exact k1
  have hg1 : gd_ Mx (a + 1) := gd_c e70.symm hE1.1
  have hnm : nm9_ (nX_ (nX_ Mx)) (a + 1) := ⟨gd_c (AM_70 A2) hg1, by rw [AM_70 A2]; exact k1'⟩
  rw [tS_e k1' h13, Option.bind_some] at hS
  have hx2 := XC_XA (AM_X A2)
  have hq2 := QC_QA (AM_Q A2)
  have G2 := GT_a hx2 hq2 hG
  refine x_115R hT2 hV2' G2.2.1.1 hnm ?_
  have q151 : nx_ (nx_ Mq) 151 = Mq 151 := by rw [nx_ne (by decide), nx_ne (by decide)]
  have q150 : nx_ (nx_ Mq) 150 (a + 1) = Mx 71 (a + 1) := by rw [nx_ne (by decide), nx_ne (by decide), (hT (a + 1) hg1).2.1]
  rw [tpl_a hq2, q151]
  have hr := tpl_r (Mx := Mx) (Mq := Mq) h.2.1 hG.2.1.1 (v := Mq 151 (a + 1))
  have h619 : Mq 6 19 ≤ 6 ∧ Mq 6 19 = Mx 5 2 := ⟨by have := hG.2.1.1.1; omega, hG.2.1.1.1.2.2⟩
  generalize hrr : tpl Mq (Mq 151 (a + 1)) = r at *
  obtain ⟨kk, hkk⟩ : ∃ kk, kk = if r = -1 then (4 : Int) else 0 := ⟨_, rfl⟩
  have hkc : kk = 0 ∨ (3 ≤ kk ∧ kk ≤ 6) := by rw [hkk]; split <;> (clear hn ho h hG hk hS hK hQ A0 hE hT h01 h75 hae hV hW hV2 hW2 h12 hE1 A1 hT1 e70 e71 pre1 k1 h13 hE2 A2 hT2 hV2' k1' hg1 hnm hx2 hq2 G2 q151 q150 h619 hrr hr hkk; lia)
  obtain ⟨A3, hz3⟩ := AM_m (k := kk) (tk := a + 1) A2 hkc hg1 (by (clear hn ho h hG hk hS hK hQ A0 hE hT h01 h75 hae hV hW hV2 hW2 h12 hE1 A1 hT1 e70 e71 pre1 k1 h13 hE2 A2 hT2 hV2' k1' hg1 hnm hx2 hq2 G2 q151 q150 h619 hrr hr hkk hkc; lia))
  refine y_n4 (A := fun M => V2 33 [rr 1, ii (a + 1), ii r, none, none] [] M) hE2 (by (clear hn ho h hG hk hS hK hQ A0 hE hT h01 h75 hV hW hV2 hW2 hE1 A1 hT1 e70 e71 pre1 k1 hE2 A2 hT2 hV2' k1' hg1 hnm hx2 hq2 G2 q151 q150 h619 hrr hr hkk hkc A3 hz3; omega)) hkk ?_
  -- Q up to the op
  have pre2 : ∀ (Kv : mm_ → Prop) (Qtq : qt_), (∀ V : vv_, Cl_ wd0 (Tr_ wd0 pg0 (dq + 13)) V (rv_ Kv) Qtq m_301 → Wk_ V → V 46 [rr 6, ii (Mx 71 a), ii (a + 1), ii r, none] [] (Qn_ (nx_ (nx_ Mq)) b kk (Mx 71 (a + 1)))) → Tr_ wd0 pg0 (dq + 15) 296 [.inr (.inr 6)] Mq (rv_ Kv) Qtq := by
    intro Kv Qtq hq
    refine pre1 _ _ (t_301 fun V hV hW => b_301_0 (Tr_mono _) hV hW _ _ ?_)
    refine j_233t hT1 hE1 k1 h13 (q_227g (ER_goq hE2) ?_)
    rw [if_pos rfl]
    refine ⟨by omega, q_247R hV2' G2.2.1.1 ?_⟩
    rw [tpl_a hq2, q151, hrr]
    intro _
    have := hq V hV hW
    rw [← q_n4 (M := nx_ (nx_ Mq)) (r := r) (k := 4) hE2.2.2.2.2.2.2.2.1 h01 (by (clear hn ho h hG hk hS hK hQ A0 hE hT h01 h75 hae hV2 hW2 h12 hE1 A1 hT1 e70 e71 pre1 k1 h13 hE2 A2 hT2 hV2' k1' hg1 hnm hx2 hq2 G2 q151 q150 h619 hrr A3 hq hV hW this; lia)) hkk (by decide)] at this
    have h16 : nx_ (nx_ Mq) 6 16 = b := hE2.2.2.2.2.2.2.2.1
    by_cases c : r < 0
    · rw [if_pos c] at this
      rw [if_pos c]
      by_cases c0 : nx_ (nx_ Mq) 6 16 = 0
      · rw [if_pos c0]
        have e : nt_ (nx_ (nx_ Mq)) 4 (Mx 71 (a + 1)) = nx_ (nx_ Mq) := by unfold nt_; rw [if_pos (by omega)]
        rw [e] at this; exact this
      · rw [if_neg c0]
        refine ⟨by omega, q_236 ?_⟩
        rw [q150]; exact this
    · rw [if_neg c] at this
      rw [if_neg c]
      split <;> exact this
  generalize hX3 : Xn_ (nX_ (nX_ Mx)) b kk (a + 1) = Mx3 at *
  generalize hQ3 : Qn_ (nx_ (nx_ Mq)) b kk (Mx 71 (a + 1)) = Mq3 at *
  have hE3 := AM_E A3
  have hx3 := AM_X A3
  have hq3 := AM_Q A3
  have q75 : Mq3 6 75 = Mq 6 75 := by rw [← hQ3, Qn_6 (by decide) (by decide), nx_6 (by decide), nx_6 (by decide)]
  have e53 : Mx3 5 3 = Mx 5 3 := by rw [← hX3, Xn_r (by decide), nX_ne (by decide), nX_ne (by decide)]
  have q3r : ∀ r' : Nat, r' ∉ qaL → Mq3 r' = Mq r' := fun r' hr' => QA_r (QC_QA hq3) hr'
  have q36 : ∀ i : Int, i ∉ qaI → Mq3 6 i = Mq 6 i := fun i hi => (QC_QA hq3).2 i hi
  -- where made changes
  obtain ⟨MX, hMX⟩ : ∃ MX, MX = if r = -1 then Mx else up_ Mx 1 23 (or_ (Mx 1 23) (sl_ 1 r)) := ⟨_, rfl⟩
  obtain ⟨Mx4, hM4⟩ : ∃ Mx4, Mx4 = if r = -1 then Mx3 else up_ Mx3 1 23 (or_ (Mx3 1 23) (sl_ 1 r)) := ⟨_, rfl⟩
  have hSM : SM Mx MX 5 r := by
    rw [hMX]
    by_cases c : r = -1
    · rw [if_pos c]; exact .inl ⟨rfl, .inr c⟩
    · rw [if_neg c]; exact .inr (.inr ⟨rfl, by (clear hn ho h hG hk hS hK hQ A0 hE hT h01 h75 hae hV hW hV2 hW2 h12 hE1 A1 hT1 e70 e71 pre1 k1 h13 hE2 A2 hT2 hV2' k1' hg1 hnm hx2 hq2 G2 q151 q150 hrr hX3 hQ3 pre2 A3 hE3 hx3 hq3 q75 e53 q3r q36 hMX hM4; lia), rfl⟩)
  have e23 : Mx3 1 23 = Mx 1 23 := hx3.2.1 23 (by decide)
  have A4 : AM b F MX Mq Mx4 Mq3 a (a + 1 + 1) o (0 - 3 - 3) (0 + 8 + 8 - 1) := by
    rw [hMX, hM4]
    by_cases c : r = -1
    · rw [if_pos c, if_pos c]; exact A3
    · rw [if_neg c, if_neg c, e23]; exact AM_bx (.inr rfl) A3
  have xm : XA Mx MX := by
    rw [hMX]; by_cases c : r = -1
    · rw [if_pos c]; exact XA_rf
    · rw [if_neg c]; exact XA_u1 (by decide)
  have m5 : ∀ r' : Nat, r' ≠ 1 → MX r' = Mx r' := fun r' hr' => by
    rw [hMX]; by_cases c : r = -1
    · rw [if_pos c]
    · rw [if_neg c, up_ne hr']
  have m45 : ∀ r' : Nat, r' ≠ 1 → Mx4 r' = Mx3 r' := fun r' hr' => by
    rw [hM4]; by_cases c : r = -1
    · rw [if_pos c]
    · rw [if_neg c, up_ne hr']
  have A5 := AM_up (r := 205) (v := r) (AM_em (w := 5) (p := Mx 71 a) A4 q75) (by decide) (rfl : Mq 6 75 = Mq 6 75)
  obtain ⟨X3, hX3v⟩ : ∃ X3, X3 = if r = -1 ∨ b = 0 then 0 else Mq 170 r := ⟨_, rfl⟩
  obtain ⟨x2, hx2v⟩ : ∃ x2, x2 = if r = -1 then -1 else -2 - r := ⟨_, rfl⟩
  obtain ⟨x3, hx3v⟩ : ∃ x3, x3 = if r = -1 then -1 else Mq 170 r := ⟨_, rfl⟩
  have pr0 : r ≠ -1 → 0 ≤ Mq 170 r ∧ Mq 170 r ≤ 3 ∧ ∀ i : Int, 0 ≤ i → i < Mq 170 r → 1 ≤ Mq 182 (8 * r + i) ∧ Mq 182 (8 * r + i) ≤ 3 ∧ Mq 183 (8 * r + i) = 0 := fun c => hG.2.1.2.1 r (by (clear hn ho h hG hk hS hK hQ A0 hE hT h01 h75 hae hV hW hV2 hW2 h12 hE1 A1 hT1 e70 e71 pre1 k1 h13 hE2 A2 hT2 hV2' k1' hg1 hnm hx2 hq2 G2 q151 q150 h619 hrr hX3 hQ3 pre2 A3 hE3 hx3 hq3 q75 e53 q3r q36 hMX hM4 hSM e23 A4 xm m5 m45 A5 hX3v hx2v hx3v; lia)) (by (clear hn ho h hG hk hS hK hQ A0 hE hT h01 h75 hae hV hW hV2 hW2 h12 hE1 A1 hT1 e70 e71 pre1 k1 h13 hE2 A2 hT2 hV2' k1' hg1 hnm hx2 hq2 G2 q151 q150 hrr hX3 hQ3 pre2 A3 hE3 hx3 hq3 q75 e53 q3r q36 hMX hM4 hSM e23 A4 xm m5 m45 A5 hX3v hx2v hx3v; lia))
  have pr1 : r ≠ -1 → b = 1 → Mx 122 r = Mq 170 r ∧ ∀ i : Int, 0 ≤ i → i < Mq 170 r → Mx 130 (8 * r + i) + 1 = Mq 182 (8 * r + i) := fun c hb => hG.2.1.2.2 hb r (by (clear hn ho h hG hk hS hK hQ A0 hE hT h01 h75 hae hV hW hV2 hW2 h12 hE1 A1 hT1 e70 e71 pre1 k1 h13 hE2 A2 hT2 hV2' k1' hg1 hnm hx2 hq2 G2 q151 q150 h619 hrr hX3 hQ3 pre2 A3 hE3 hx3 hq3 q75 e53 q3r q36 hMX hM4 hSM e23 A4 xm m5 m45 A5 hX3v hx2v hx3v; omega)) (by (clear hn ho h hG hk hS hK hQ A0 hE hT h01 h75 hae hV hW hV2 hW2 h12 hE1 A1 hT1 e70 e71 pre1 k1 h13 hE2 A2 hT2 hV2' k1' hg1 hnm hx2 hq2 G2 q151 q150 hrr hX3 hQ3 pre2 A3 hE3 hx3 hq3 q75 e53 q3r q36 hMX hM4 hSM e23 A4 xm m5 m45 A5 hX3v hx2v hx3v; omega))
  have pre3 : ∀ (Kv : mm_ → Prop) (Qtq : qt_), Tr_ wd0 pg0 (dq + 13) 298 [.inr (.inr 6), .inl (Mq 6 75), .inl x2, .inl x3, .inl (Mx 71 (a + 1))] (up_ (em_ Mq3 5 (Mx 71 a)) 205 (Mq 6 75) r) (rv_ fun M8 => Tr_ wd0 pg0 (dq + 13) 244 [.inr (.inr 6), .inl 59] M8 (rv_ Kv) Qtq) Qtq → Tr_ wd0 pg0 (dq + 15) 296 [.inr (.inr 6)] Mq (rv_ Kv) Qtq := by
    intro Kv Qtq hq
    refine pre2 _ _ fun V hV hW => b_301_46 (Tr_mono _) hV hW _ _ _ _ (q_266 (by (clear hn ho h hG hk hS hK hQ A0 hE hT h01 hae hV2 hW2 h12 hE1 A1 hT1 e70 e71 pre1 k1 h13 hE2 A2 hT2 hV2' k1' hg1 hnm hx2 hq2 G2 q151 q150 h619 hrr hr hkk hkc hX3 hQ3 hz3 pre2 A3 hE3 hx3 hq3 e53 q3r q36 hMX hM4 hSM e23 A4 xm m5 m45 A5 hX3v hx2v hx3v pr0 pr1 hq hV hW; omega)) (by (clear hn ho h hG hk hS hK hQ A0 hE hT h01 hV2 hW2 hE1 A1 hT1 e70 e71 pre1 k1 hE2 A2 hT2 hV2' k1' hg1 hnm hx2 hq2 G2 q151 q150 h619 hrr hr hkk hkc hX3 hQ3 hz3 pre2 A3 hE3 hx3 hq3 e53 q3r q36 hMX hM4 hSM e23 A4 xm m5 m45 A5 hX3v hx2v hx3v pr0 pr1 hq hV hW; omega)) ?_)
    rw [q75]
    refine ⟨by (clear hn ho h hG hk hS hK hQ A0 hE hT h01 hV2 hW2 hE1 A1 hT1 e70 e71 pre1 k1 hE2 A2 hT2 hV2' k1' hg1 hnm hx2 hq2 G2 q151 q150 h619 hrr hr hkk hkc hX3 hQ3 hz3 pre2 A3 hE3 hx3 hq3 e53 q3r q36 hMX hM4 hSM e23 A4 xm m5 m45 A5 hX3v hx2v hx3v pr0 pr1 hq hV hW; lia), ?_⟩
    have e150 : em_ Mq3 5 (Mx 71 a) 150 (a + 1) = Mx 71 (a + 1) := by rw [em_r (.inl (by decide)) (by decide), q3r 150 (by decide), (hT (a + 1) hg1).2.1]
    have hq' := Tr_m hq (fun vs M g => (⟨g.1, Tr_rv g.2⟩ : rv_ (fun M8 => Tr_ wd0 pg0 (dq + 13) 244 [.inr (.inr 6), .inl 59] M8 (rv_ fun M9 => rv_ Kv [] M9) Qtq) vs M)) (fun _ _ g => g)
    by_cases c : r = -1
    · rw [if_pos (by (clear hn ho h hG hk hS hK hQ A0 hE hT h01 h75 hae hV2 hW2 h12 hE1 A1 hT1 e70 e71 pre1 k1 h13 hE2 A2 hT2 hV2' k1' hg1 hnm hx2 hq2 G2 q151 q150 h619 hrr hr hkk hkc hX3 hQ3 hz3 pre2 A3 hE3 hx3 hq3 q75 e53 q3r q36 hMX hM4 hSM e23 A4 xm m5 m45 A5 hX3v hx2v hx3v pr0 pr1 hq hV hW e150 hq'; omega)), if_pos (by omega), e150]
      rw [hx2v, hx3v, if_pos c, if_pos c] at hq'
      exact ⟨by omega, hq'⟩
    · rw [if_neg (by (clear hn ho h hG hk hS hK hQ A0 hE hT h01 h75 hae hV2 hW2 h12 hE1 A1 hT1 e70 e71 pre1 k1 h13 hE2 A2 hT2 hV2' k1' hg1 hnm hx2 hq2 G2 q151 q150 h619 hrr hX3 hQ3 pre2 A3 hE3 hx3 hq3 q75 e53 q3r q36 hMX hM4 hSM e23 A4 xm m5 m45 A5 hX3v hx2v hx3v hq hV hW e150 hq'; omega)), if_neg (by (clear hn ho h hG hk hS hK hQ A0 hE hT h01 h75 hae hV2 hW2 h12 hE1 A1 hT1 e70 e71 pre1 k1 h13 hE2 A2 hT2 hV2' k1' hg1 hnm hx2 hq2 G2 q151 q150 h619 hrr hX3 hQ3 pre2 A3 hE3 hx3 hq3 q75 e53 q3r q36 hMX hM4 hSM e23 A4 xm m5 m45 A5 hX3v hx2v hx3v hq hV hW e150 hq'; lia)), e150]
      rw [hx2v, hx3v, if_neg c, if_neg c] at hq'
      have e170 : em_ Mq3 5 (Mx 71 a) 170 r = Mq 170 r := by rw [em_r (.inl (by decide)) (by decide), q3r 170 (by decide)]
      rw [e170, w32_id (by (clear hn ho h hG hk hS hK hQ A0 hE hT h01 h75 hae hV2 hW2 h12 hE1 A1 hT1 e70 e71 pre1 k1 h13 hE2 A2 hT2 hV2' k1' hg1 hnm hx2 hq2 G2 q151 q150 hrr hX3 hQ3 pre2 A3 hE3 hx3 hq3 q75 e53 q3r q36 hMX hM4 hSM e23 A4 xm m5 m45 A5 hX3v hx2v hx3v hq hV hW e150 hq' e170; lia)) (by (clear hn ho h hG hk hS hK hQ A0 hE hT h01 h75 hae hV2 hW2 h12 hE1 A1 hT1 e70 e71 pre1 k1 h13 hE2 A2 hT2 hV2' k1' hg1 hnm hx2 hq2 G2 q151 q150 h619 hrr hX3 hQ3 pre2 A3 hE3 hx3 hq3 q75 e53 q3r q36 hMX hM4 hSM e23 A4 xm m5 m45 A5 hX3v hx2v hx3v hq hV hW e150 hq' e170; lia))]
      exact ⟨by (clear hn ho h hG hk hS hK hQ A0 hE hT h01 h75 hae hV2 hW2 h12 hE1 A1 hT1 e70 e71 pre1 k1 h13 hE2 A2 hT2 hV2' k1' hg1 hnm hx2 hq2 G2 q151 q150 hrr hX3 hQ3 pre2 A3 hE3 hx3 hq3 q75 e53 q3r q36 hMX hM4 hSM e23 A4 xm m5 m45 A5 hX3v hx2v hx3v hq hV hW e150 hq' e170; lia), by omega, hq'⟩
  have goal76 : V2 76 [rr 1, ii (a + 1), ii r, ii X3, none] [] Mx4 := by
    refine b_160_76 (Tr_mono _) hV2 hW2 _ _ _ _ ?_
    refine ⟨(AM_V A4).1, ?_⟩
    have eX2 : w32 (8 * (if 0 < r then r else 0)) = 8 * (if r = -1 then 0 else r) := by
      by_cases c : r = -1
      · rw [if_neg (by (clear hn ho h hG hk hS hK hQ A0 hE hT h01 h75 hae hV hW hV2 hW2 h12 hE1 A1 hT1 e70 e71 pre1 k1 h13 hE2 A2 hT2 hV2' k1' hg1 hnm hx2 hq2 G2 q151 q150 h619 hrr hr hkk hkc hX3 hQ3 hz3 pre2 A3 hE3 hx3 hq3 q75 e53 q3r q36 hMX hM4 hSM e23 A4 xm m5 m45 A5 hX3v hx2v hx3v pr0 pr1 pre3; lia)), if_pos c]; decide
      · rw [if_neg c]
        by_cases c2 : 0 < r
        · rw [if_pos c2, w32_id (by omega) (by (clear hn ho h hG hk hS hK hQ A0 hE hT h01 h75 hae hV hW hV2 hW2 h12 hE1 A1 hT1 e70 e71 pre1 k1 h13 hE2 A2 hT2 hV2' k1' hg1 hnm hx2 hq2 G2 q151 q150 hrr hX3 hQ3 pre2 A3 hE3 hx3 hq3 q75 e53 q3r q36 hMX hM4 hSM e23 A4 xm m5 m45 A5 hX3v hx2v hx3v pre3 c2; lia))]
        · rw [if_neg c2, show r = 0 by (clear hn ho h hG hk hS hK hQ A0 hE hT h01 h75 hae hV hW hV2 hW2 h12 hE1 A1 hT1 e70 e71 pre1 k1 h13 hE2 A2 hT2 hV2' k1' hg1 hnm hx2 hq2 G2 q151 q150 h619 hrr hX3 hQ3 pre2 A3 hE3 hx3 hq3 q75 e53 q3r q36 hMX hM4 hSM e23 A4 xm m5 m45 A5 hX3v hx2v hx3v pre3; lia)]; decide
    rw [eX2]
    refine v_158b (Mx := MX) (Mq := Mq) (Mx1 := Mx4) (x2 := x2) (x3 := x3) (x4 := Mx 71 (a + 1)) (w := fun j => if j < X3 then Mq 182 (8 * r + j) - 1 else -1) (wq := fun j => if j < x3 then Mq 182 (8 * r + j) - 1 else -1) (dq := dq) hn ho A5 (by (clear hn ho h hG hk hS hK hQ A0 hE hT h01 h75 hae hV hW hV2 hW2 h12 hE1 A1 hT1 e70 e71 pre1 k1 h13 hE2 A2 hT2 hV2' k1' hg1 hnm hx2 hq2 G2 q151 q150 h619 hrr hr hkk hkc hX3 hQ3 hz3 pre2 A3 hE3 hx3 hq3 q75 e53 q3r q36 hMX hM4 hSM e23 A4 xm m5 m45 A5 hX3v hx2v hx3v pr0 pr1 pre3 eX2; omega)) (by omega) ?_ (by omega) ?_ ?_ ?_ ?_ ?_ ?_ ?_
    · rw [hX3v]; split
      · omega
      · exact (pr0 (by (clear hn ho h hG hk hS hK hQ A0 hE hT h01 h75 hae hV hW hV2 hW2 h12 hE1 A1 hT1 e70 e71 pre1 k1 h13 hE2 A2 hT2 hV2' k1' hg1 hnm hx2 hq2 G2 q151 q150 h619 hrr hr hkk hkc hX3 hQ3 hz3 pre2 A3 hE3 hx3 hq3 q75 e53 q3r q36 hMX hM4 hSM e23 A4 xm m5 m45 A5 hX3v hx2v hx3v pr0 pr1 pre3 eX2; lia))).2.1
    · intro j j0 j3
      by_cases c : r = -1
      · rw [if_pos c] at hx3v; rw [if_pos (.inl c)] at hX3v
        rw [if_neg (by (clear hn ho h hG hk hS hK hQ A0 hE hT h01 h75 hae hV hW hV2 hW2 h12 hE1 A1 hT1 e70 e71 pre1 k1 h13 hE2 A2 hT2 hV2' k1' hg1 hnm hx2 hq2 G2 q151 q150 h619 hrr hr hkk hkc hX3 hQ3 hz3 pre2 A3 hE3 hx3 hq3 q75 e53 q3r q36 hMX hM4 hSM e23 A4 xm m5 m45 A5 hx2v hx3v pr0 pr1 pre3 eX2 c; omega)), if_neg (by (clear hn ho h hG hk hS hK hQ A0 hE hT h01 h75 hae hV hW hV2 hW2 h12 hE1 A1 hT1 e70 e71 pre1 k1 h13 hE2 A2 hT2 hV2' k1' hg1 hnm hx2 hq2 G2 q151 q150 h619 hrr hr hkk hkc hX3 hQ3 hz3 pre2 A3 hE3 hx3 hq3 q75 e53 q3r q36 hMX hM4 hSM e23 A4 xm m5 m45 A5 hX3v hx2v pr0 pr1 pre3 eX2 c; lia))]; (clear hn ho h hG hk hS hK hQ A0 hE hT h01 h75 hae hV hW hV2 hW2 h12 hE1 A1 hT1 e70 e71 pre1 k1 h13 hE2 A2 hT2 hV2' k1' hg1 hnm hx2 hq2 G2 q151 q150 h619 hrr hr hkk hkc hX3 hQ3 hz3 pre2 A3 hE3 hx3 hq3 q75 e53 q3r q36 hMX hM4 hSM e23 A4 xm m5 m45 A5 hX3v hx2v hx3v pr0 pr1 pre3 eX2 j0 j3 c; lia)
      · rw [if_neg c] at hx3v
        have q := pr0 c
        rcases h01 with hb | hb
        · rw [if_pos (.inr hb)] at hX3v
          rw [if_neg (by omega)]
          by_cases c3 : j < x3
          · rw [if_pos c3]; have := q.2.2 j j0 (by (clear hn ho h hG hk hS hK hQ A0 hE hT h75 hae hV hW hV2 hW2 h12 hE1 A1 hT1 e70 e71 pre1 k1 h13 hE2 A2 hT2 hV2' k1' hg1 hnm hx2 hq2 G2 q151 q150 h619 hrr hr hkk hkc hX3 hQ3 hz3 pre2 A3 hE3 hx3 hq3 q75 e53 q3r q36 hMX hM4 hSM e23 A4 xm m5 m45 A5 hX3v hx2v pr0 pr1 pre3 eX2 j0 j3 c q hb; omega)); (clear hn ho h hG hk hS hK hQ A0 hE hT h75 hae hV hW hV2 hW2 h12 hE1 A1 hT1 e70 e71 pre1 k1 h13 hE2 A2 hT2 hV2' k1' hg1 hnm hx2 hq2 G2 q151 q150 h619 hrr hr hkk hkc hX3 hQ3 hz3 pre2 A3 hE3 hx3 hq3 q75 e53 q3r q36 hMX hM4 hSM e23 A4 xm m5 m45 A5 hX3v hx2v hx3v pr0 pr1 pre3 eX2 j0 j3 c q c3; omega)
          · rw [if_neg c3]; (clear hn ho h hG hk hS hK hQ A0 hE hT h75 hae hV hW hV2 hW2 h12 hE1 A1 hT1 e70 e71 pre1 k1 h13 hE2 A2 hT2 hV2' k1' hg1 hnm hx2 hq2 G2 q151 q150 h619 hrr hr hkk hkc hX3 hQ3 hz3 pre2 A3 hE3 hx3 hq3 q75 e53 q3r q36 hMX hM4 hSM e23 A4 xm m5 m45 A5 hX3v hx2v hx3v pr0 pr1 pre3 eX2 j0 j3 c q c3; lia)
        · rw [if_neg (by (clear hn ho h hG hk hS hK hQ A0 hE hT h75 hae hV hW hV2 hW2 h12 hE1 A1 hT1 e70 e71 pre1 k1 h13 hE2 A2 hT2 hV2' k1' hg1 hnm hx2 hq2 G2 q151 q150 h619 hrr hr hkk hkc hX3 hQ3 hz3 pre2 A3 hE3 hx3 hq3 q75 e53 q3r q36 hMX hM4 hSM e23 A4 xm m5 m45 A5 hX3v hx2v hx3v pr0 pr1 pre3 eX2 j0 j3 q; lia))] at hX3v
          rw [hX3v, hx3v]
          by_cases c3 : j < Mq 170 r
          · rw [if_pos c3]; have := q.2.2 j j0 (by omega); (clear hn ho h hG hk hS hK hQ A0 hE hT h75 hae hV hW hV2 hW2 h12 hE1 A1 hT1 e70 e71 pre1 k1 h13 hE2 A2 hT2 hV2' k1' hg1 hnm hx2 hq2 G2 q151 q150 h619 hrr hr hkk hkc hX3 hQ3 hz3 pre2 A3 hE3 hx3 hq3 q75 e53 q3r q36 hMX hM4 hSM e23 A4 xm m5 m45 A5 hX3v hx2v hx3v pr0 pr1 pre3 eX2 j0 j3 c q hb c3; lia)
          · rw [if_neg c3]; omega
    · intro j M j0 j3 hxc
      refine ⟨fun c => ?_, fun c => if_neg c⟩
      have c1 : ¬ (r = -1 ∨ b = 0) := fun e => by rw [if_pos e] at hX3v; omega
      rw [if_neg c1] at hX3v
      have c2 : r ≠ -1 := fun e => c1 (.inl e)
      have hb : b = 1 := by (clear hn ho h hG hS hK hQ A0 hE hT h75 hae hV hW hV2 hW2 h12 hE1 A1 hT1 e70 e71 pre1 k1 h13 hE2 A2 hT2 hV2' k1' hg1 hnm hx2 hq2 G2 q151 q150 h619 hrr hX3 hQ3 pre2 A3 hE3 hx3 hq3 q75 e53 q3r q36 hMX hM4 hSM e23 A4 xm m5 m45 A5 hX3v hx2v hx3v pre3 eX2 j0 j3 hxc c; lia)
      have q := pr0 c2
      have q1 := (pr1 c2 hb).2 j j0 (by (clear hn ho h hG hk hS hK hQ A0 hE hT h01 h75 hae hV hW hV2 hW2 h12 hE1 A1 hT1 e70 e71 pre1 k1 h13 hE2 A2 hT2 hV2' k1' hg1 hnm hx2 hq2 G2 q151 q150 h619 hrr hr hkk hkc hX3 hQ3 hz3 pre2 A3 hE3 hx3 hq3 q75 e53 q3r q36 hMX hM4 hSM e23 A4 xm m5 m45 A5 hx2v hx3v pr0 pr1 pre3 eX2 j0 j3 hxc c1 c2 hb q; omega))
      have q2 := q.2.2 j j0 (by omega)
      rw [if_neg c2, if_pos c, w32_id (by (clear hn ho h hG hk hS hK hQ A0 hE hT h01 h75 hae hV hW hV2 hW2 h12 hE1 A1 hT1 e70 e71 pre1 k1 h13 hE2 A2 hT2 hV2' k1' hg1 hnm hx2 hq2 G2 q151 q150 h619 hrr hX3 hQ3 pre2 A3 hE3 hx3 hq3 q75 e53 q3r q36 hMX hM4 hSM e23 A4 xm m5 m45 A5 hX3v hx2v hx3v pre3 eX2 hxc c q q1 q2; omega)) (by (clear hn ho h hG hk hS hK hQ A0 hE hT h01 h75 hae hV hW hV2 hW2 h12 hE1 A1 hT1 e70 e71 pre1 k1 h13 hE2 A2 hT2 hV2' k1' hg1 hnm hx2 hq2 G2 q151 q150 hrr hX3 hQ3 pre2 A3 hE3 hx3 hq3 q75 e53 q3r q36 hMX hM4 hSM e23 A4 xm m5 m45 A5 hX3v hx2v hx3v pre3 eX2 hxc c q q1 q2; omega))]
      have e130 : M 130 = Mx 130 := by rw [hxc.1 130 (by decide), m45 130 (by decide), hx3.1 130 (by decide)]
      rw [e130]
      exact ⟨by (clear hn ho h hG hk hS hK hQ A0 hE hT h01 h75 hae hV hW hV2 hW2 h12 hE1 A1 hT1 e70 e71 pre1 k1 h13 hE2 A2 hT2 hV2' k1' hg1 hnm hx2 hq2 G2 q151 q150 hrr hX3 hQ3 pre2 A3 hE3 hx3 hq3 q75 e53 q3r q36 hMX hM4 hSM e23 A4 xm m5 m45 A5 hX3v hx2v hx3v pre3 eX2 hxc c q q1 q2 e130; omega), by (clear hn ho h hG hk hS hK hQ A0 hE hT h01 h75 hae hV hW hV2 hW2 h12 hE1 A1 hT1 e70 e71 pre1 k1 h13 hE2 A2 hT2 hV2' k1' hg1 hnm hx2 hq2 G2 q151 q150 h619 hrr hr hkk hkc hX3 hQ3 hz3 pre2 A3 hE3 hx3 hq3 q75 e53 q3r q36 hMX hM4 hSM e23 A4 xm m5 m45 A5 hX3v hx2v hx3v pr0 pr1 pre3 eX2 j0 j3 hxc c c1 c2 hb q q2 e130; lia), by (clear hn ho h hG hk hS hK hQ A0 hE hT h01 h75 hae hV hW hV2 hW2 h12 hE1 A1 hT1 e70 e71 pre1 k1 h13 hE2 A2 hT2 hV2' k1' hg1 hnm hx2 hq2 G2 q151 q150 h619 hrr hr hkk hkc hX3 hQ3 hz3 pre2 A3 hE3 hx3 hq3 q75 e53 q3r q36 hMX hM4 hSM e23 A4 xm m5 m45 A5 hX3v hx2v hx3v pr0 pr1 pre3 eX2 j0 j3 hxc c c1 c2 hb q q1 e130; omega)⟩
    · intro V j M j0 j3 hqc hv
      unfold F21
      by_cases c : x3 ≤ j
      · rw [if_pos c]; rw [if_neg (by (clear hn ho h hG hk hS hK hQ A0 hE hT h01 h75 hae hV hW hV2 hW2 h12 hE1 A1 hT1 e70 e71 pre1 k1 h13 hE2 A2 hT2 hV2' k1' hg1 hnm hx2 hq2 G2 q151 q150 h619 hrr hr hkk hkc hX3 hQ3 hz3 pre2 A3 hE3 hx3 hq3 q75 e53 q3r q36 hMX hM4 hSM e23 A4 xm m5 m45 A5 hX3v hx2v pr0 pr1 pre3 eX2 j0 j3 hqc hv; lia))] at hv; exact hv
      · rw [if_neg c]; rw [if_pos (by (clear hn ho h hG hk hS hK hQ A0 hE hT h01 h75 hae hV hW hV2 hW2 h12 hE1 A1 hT1 e70 e71 pre1 k1 h13 hE2 A2 hT2 hV2' k1' hg1 hnm hx2 hq2 G2 q151 q150 h619 hrr hr hkk hkc hX3 hQ3 hz3 pre2 A3 hE3 hx3 hq3 q75 e53 q3r q36 hMX hM4 hSM e23 A4 xm m5 m45 A5 hX3v hx2v pr0 pr1 pre3 eX2 j0 j3 hqc hv; lia))] at hv
        have c2 : r ≠ -1 := fun e => by rw [if_pos e] at hx3v; (clear hn ho h hG hk hS hK hQ A0 hE hT h01 h75 hae hV hW hV2 hW2 h12 hE1 A1 hT1 e70 e71 pre1 k1 h13 hE2 A2 hT2 hV2' k1' hg1 hnm hx2 hq2 G2 q151 q150 h619 hrr hr hkk hkc hX3 hQ3 hz3 pre2 A3 hE3 hx3 hq3 q75 e53 q3r q36 hMX hM4 hSM e23 A4 xm m5 m45 A5 hX3v hx2v pr0 pr1 pre3 eX2 hqc hv e; omega)
        rw [if_neg c2] at hx2v hx3v
        have q := pr0 c2
        rw [if_pos (by (clear hn ho h hG hk hS hK hQ A0 hE hT h01 h75 hae hV hW hV2 hW2 h12 hE1 A1 hT1 e70 e71 pre1 k1 h13 hE2 A2 hT2 hV2' k1' hg1 hnm hx2 hq2 G2 q151 q150 h619 hrr hX3 hQ3 pre2 A3 hE3 hx3 hq3 q75 e53 q3r q36 hMX hM4 hSM e23 A4 xm m5 m45 A5 hX3v hx3v pre3 eX2 j0 j3 hqc hv c q; lia))]
        have ei : w32 (w32 (8 * w32 (-2 - x2)) + j) = 8 * r + j := by rw [w32_id (x := -2 - x2) (by (clear hn ho h hG hk hS hK hQ A0 hE hT h01 h75 hae hV hW hV2 hW2 h12 hE1 A1 hT1 e70 e71 pre1 k1 h13 hE2 A2 hT2 hV2' k1' hg1 hnm hx2 hq2 G2 q151 q150 h619 hrr hX3 hQ3 pre2 A3 hE3 hx3 hq3 q75 e53 q3r q36 hMX hM4 hSM e23 A4 xm m5 m45 A5 hX3v hx3v pre3 eX2 j0 j3 hqc hv c q; lia)) (by (clear hn ho h hG hk hS hK hQ A0 hE hT h01 h75 hae hV hW hV2 hW2 h12 hE1 A1 hT1 e70 e71 pre1 k1 h13 hE2 A2 hT2 hV2' k1' hg1 hnm hx2 hq2 G2 q151 q150 hrr hX3 hQ3 pre2 A3 hE3 hx3 hq3 q75 e53 q3r q36 hMX hM4 hSM e23 A4 xm m5 m45 A5 hX3v hx3v pre3 eX2 j0 j3 hqc hv c q; lia)), w32_id (x := 8 * (-2 - x2)) (by (clear hn ho h hG hk hS hK hQ A0 hE hT h01 h75 hae hV hW hV2 hW2 h12 hE1 A1 hT1 e70 e71 pre1 k1 h13 hE2 A2 hT2 hV2' k1' hg1 hnm hx2 hq2 G2 q151 q150 h619 hrr hX3 hQ3 pre2 A3 hE3 hx3 hq3 q75 e53 q3r q36 hMX hM4 hSM e23 A4 xm m5 m45 A5 hX3v hx3v pre3 eX2 j0 j3 hqc hv c q; lia)) (by (clear hn ho h hG hk hS hK hQ A0 hE hT h01 h75 hae hV hW hV2 hW2 h12 hE1 A1 hT1 e70 e71 pre1 k1 h13 hE2 A2 hT2 hV2' k1' hg1 hnm hx2 hq2 G2 q151 q150 hrr hX3 hQ3 pre2 A3 hE3 hx3 hq3 q75 e53 q3r q36 hMX hM4 hSM e23 A4 xm m5 m45 A5 hX3v hx3v pre3 eX2 j0 j3 hqc hv c q; lia)), w32_id (by (clear hn ho h hG hk hS hK hQ A0 hE hT h01 h75 hae hV hW hV2 hW2 h12 hE1 A1 hT1 e70 e71 pre1 k1 h13 hE2 A2 hT2 hV2' k1' hg1 hnm hx2 hq2 G2 q151 q150 h619 hrr hX3 hQ3 pre2 A3 hE3 hx3 hq3 q75 e53 q3r q36 hMX hM4 hSM e23 A4 xm m5 m45 A5 hX3v hx3v pre3 eX2 hqc hv c q; lia)) (by (clear hn ho h hG hk hS hK hQ A0 hE hT h01 h75 hae hV hW hV2 hW2 h12 hE1 A1 hT1 e70 e71 pre1 k1 h13 hE2 A2 hT2 hV2' k1' hg1 hnm hx2 hq2 G2 q151 q150 hrr hX3 hQ3 pre2 A3 hE3 hx3 hq3 q75 e53 q3r q36 hMX hM4 hSM e23 A4 xm m5 m45 A5 hX3v hx3v pre3 eX2 hqc hv c q; lia))]; (clear hn ho h hG hk hS hK hQ A0 hE hT h01 h75 hae hV hW hV2 hW2 h12 hE1 A1 hT1 e70 e71 pre1 k1 h13 hE2 A2 hT2 hV2' k1' hg1 hnm hx2 hq2 G2 q151 q150 h619 hrr hr hkk hkc hX3 hQ3 hz3 pre2 A3 hE3 hx3 hq3 q75 e53 q3r q36 hMX hM4 hSM e23 A4 xm m5 m45 A5 hX3v hx3v pr0 pr1 pre3 eX2 j0 j3 hqc hv c c2 q; lia)
        rw [ei]
        have e182 : M 182 = Mq 182 := by rw [hqc.1 182 (by decide), up_ne (by decide), em_r (.inl (by decide)) (by decide), q3r 182 (by decide)]
        rw [e182]
        rw [show Mq 182 (8 * r + j) - 1 + 1 = Mq 182 (8 * r + j) by (clear hn ho h hG hk hS hK hQ A0 hE hT h01 h75 hae hV hW hV2 hW2 h12 hE1 A1 hT1 e70 e71 pre1 k1 h13 hE2 A2 hT2 hV2' k1' hg1 hnm hx2 hq2 G2 q151 q150 h619 hrr hr hkk hkc hX3 hQ3 hz3 pre2 A3 hE3 hx3 hq3 q75 e53 q3r q36 hMX hM4 hSM e23 A4 xm m5 m45 A5 hX3v hx2v hx3v pr0 pr1 pre3 eX2 j0 j3 hqc hv c c2 q ei e182; lia)] at hv
        exact ⟨by (clear hn ho h hG hk hS hK hQ A0 hE hT h01 h75 hae hV hW hV2 hW2 h12 hE1 A1 hT1 e70 e71 pre1 k1 h13 hE2 A2 hT2 hV2' k1' hg1 hnm hx2 hq2 G2 q151 q150 hrr hX3 hQ3 pre2 A3 hE3 hx3 hq3 q75 e53 q3r q36 hMX hM4 hSM e23 A4 xm m5 m45 A5 hX3v hx3v pre3 eX2 hqc hv c q e182; lia), hv⟩
    · rw [m45 5 (by decide), m5 5 (by decide)]; exact e53
    · intro hb e
      have := hS hb
      rw [m5 70 (by decide)] at e
      rw [e] at this; exact this rfl
    · -- behind the values
      intro Mx6 Mq6 a6 nn s6 z6 A6 hz6 hs6 hx6 hq6 hnn h210 hv6 hval6 hq6'
      rw [m5 70 (by decide)] at hv6
      rw [hv6, Option.bind_some] at hS
      have hE6 := AM_E A6
      obtain ⟨k5, hk5⟩ : ∃ k5, k5 = k5v_ x3 nn := ⟨_, rfl⟩
      have hkc5 : k5 = 0 ∨ (3 ≤ k5 ∧ k5 ≤ 6) := by rw [hk5]; unfold k5v_; split <;> (clear hn ho h hG hk hK hQ A0 hE hT h01 h75 hae hV hW hV2 hW2 h12 hE1 A1 hT1 e70 e71 pre1 k1 h13 hE2 A2 hT2 hV2' k1' hg1 hnm hx2 hq2 G2 q151 q150 h619 hrr hr hkk hkc hX3 hQ3 hz3 pre2 A3 hE3 hx3 hq3 q75 e53 q3r q36 hMX hM4 hSM e23 A4 xm m5 m45 A5 hX3v hx2v hx3v pr0 pr1 pre3 eX2 hS A6 hz6 hs6 hx6 hq6 hnn h210 hv6 hval6 hq6' hE6 hk5; omega)
      have hgX : gd_ MX (a + 1) := gd_c (m5 70 (by decide)) hg1
      obtain ⟨A7, hz7⟩ := AM_m (k := k5) (tk := a + 1) A6 hkc5 hgX (by (clear hn ho h hG hk hK hQ A0 hE hT h01 h75 hae hV hW hV2 hW2 h12 hE1 A1 hT1 e70 e71 pre1 k1 h13 hE2 A2 hT2 hV2' k1' hg1 hnm hx2 hq2 G2 q151 q150 h619 hrr hr hkk hkc hX3 hQ3 hz3 pre2 A3 hE3 hx3 hq3 q75 e53 q3r q36 hMX hM4 hSM e23 A4 xm m5 m45 A5 hX3v hx2v hx3v pr0 pr1 pre3 eX2 hS A6 hs6 hx6 hq6 hnn h210 hv6 hval6 hq6' hE6 hk5 hkc5 hgX; omega))
      rw [m5 71 (by decide)] at A7 hz7
      refine y_n5v (q := x3) (kk := k5) (A := fun M => Tr_ wd0 pg0 (9 * n + 15) 138 [.inr (.inr 1), .inl 36] M (rv_ fun M2 => Tr_ wd0 pg0 (9 * n + 15) 138 [.inr (.inr 1), .inl r] M2 (rv_ fun M3 => Tr_ wd0 pg0 (9 * n + 15) 138 [.inr (.inr 1), .inl nn] M3 (rv_ fun M4 => rv_ (fun M8 => Tr_ wd0 pg0 (9 * n + 16) 121 [.inr (.inr 1), .inl 59] M8 (rv_ fun M9 => bl_ 0 ∧ ri_ K [.inl 0] M9) Qt) [] M4) Qt) Qt) Qt) hE6 (by (clear hn ho h hG hk hK hQ A0 hE hT h01 h75 hV hW hV2 hW2 hE1 A1 hT1 e70 e71 pre1 k1 hE2 A2 hT2 hV2' k1' hg1 hnm hx2 hq2 G2 q151 q150 h619 hrr hr hkk hkc hX3 hQ3 hz3 pre2 A3 hE3 hx3 hq3 q75 e53 q3r q36 hMX hM4 hSM e23 A4 xm m5 m45 A5 hX3v hx2v hx3v pr0 pr1 pre3 eX2 hS A6 hz6 hs6 hx6 hq6 hnn h210 hv6 hval6 hq6' hE6 hk5 hkc5 hgX A7 hz7; omega)) ?_ hk5 ?_
      · by_cases c : r = -1
        · exact .inl ⟨c, by rw [hx3v, if_pos c]⟩
        · refine .inr ⟨c, fun hb => ?_⟩
          rw [hx3v, hX3v, if_neg c, if_neg (by (clear hn ho h hG hk hK hQ A0 hE hT h01 h75 hae hV hW hV2 hW2 h12 hE1 A1 hT1 e70 e71 pre1 k1 h13 hE2 A2 hT2 hV2' k1' hg1 hnm hx2 hq2 G2 q151 q150 h619 hrr hr hkk hkc hX3 hQ3 hz3 pre2 A3 hE3 hx3 hq3 q75 e53 q3r q36 hMX hM4 hSM e23 A4 xm m5 m45 A5 hX3v hx2v hx3v pr0 pr1 pre3 eX2 hS A6 hz6 hs6 hx6 hq6 hnn h210 hv6 hval6 hq6' hE6 hk5 hkc5 hgX A7 hz7; lia))]
          exact ⟨rfl, (pr0 c).1⟩
      generalize hX7 : Xn_ Mx6 b k5 (a + 1) = Mx7 at *
      rw [← hk5] at hq6'
      have pre7 : ∀ (Kv : mm_ → Prop) (Qtq : qt_), Tr_ wd0 pg0 (dq + 13) 244 [.inr (.inr 6), .inl 59] (Qn_ Mq6 b k5 (Mx 71 (a + 1))) (rv_ Kv) Qtq → Tr_ wd0 pg0 (dq + 15) 296 [.inr (.inr 6)] Mq (rv_ Kv) Qtq := fun Kv Qtq hq => pre3 _ _ (hq6' _ _ hq)
      have q7r : ∀ r' : Nat, r' ≠ 6 → Qn_ Mq6 b k5 (Mx 71 (a + 1)) r' = Mq6 r' := fun r' hr' => Qn_r hr'
      have q713 : b = 1 → Qn_ Mq6 b k5 (Mx 71 (a + 1)) 6 13 = 0 → Mq6 6 13 = 0 := fun hb h0 => by
        have := hz7 hb h0
        unfold Qn_ at h0; rw [if_pos (.inr this)] at h0; exact h0
      have q76 : ∀ i : Int, i ≠ 13 → i ≠ 14 → Qn_ Mq6 b k5 (Mx 71 (a + 1)) 6 i = Mq6 6 i := fun i h1 h2 => Qn_6 h1 h2
      generalize hQ7 : Qn_ Mq6 b k5 (Mx 71 (a + 1)) = Mq7 at *
      have hE7 := AM_E A7
      have x7e : Mx7 5 = Mx6 5 ∧ Mx7 142 = Mx6 142 := by rw [← hX7, Xn_r (by decide), Xn_r (by decide)]; exact ⟨rfl, rfl⟩
      have o6 : ∀ r' : Nat, r' = 203 ∨ r' = 204 ∨ r' = 205 → Mq7 r' = up_ (em_ Mq3 5 (Mx 71 a)) 205 (Mq 6 75) r r' := fun r' hr' => by rw [q7r r' (by (clear hn ho h hG hk hK hQ A0 hE hT h01 h75 hae hV hW hV2 hW2 h12 hE1 A1 hT1 e70 e71 pre1 k1 h13 hE2 A2 hT2 hV2' k1' hg1 hnm hx2 hq2 G2 q151 q150 h619 hrr hr hkk hkc hX3 hQ3 hz3 pre2 A3 hE3 hx3 hq3 q75 e53 q3r q36 hMX hM4 hSM e23 A4 xm m5 m45 A5 hX3v hx2v hx3v pr0 pr1 pre3 eX2 hS A6 hz6 hs6 hx6 hq6 hnn h210 hv6 hval6 hE6 hk5 hkc5 hgX hX7 hQ7 hq6' hz7 A7 pre7 q7r q713 q76 hE7 x7e; lia)), hq6.1 r' (by rcases hr' with e | e | e <;> rw [e] <;> decide)]
      have hp := PXL_1 (v := nn) hE7.2.2.2.2.2.2.1 h01 (PXL_1 (v := r) hE7.2.2.2.2.2.2.1 h01 (PXL_1 (v := 36) hE7.2.2.2.2.2.2.1 h01 (PXL_0 (b := b) (M := Mx7))))
      have l1 : (([36] : List Int).length : Int) = 1 := rfl
      have l2 : (([r, 36] : List Int).length : Int) = 2 := rfl
      have l3 : (([nn, r, 36] : List Int).length : Int) = 3 := rfl
      have B1 := AM_p A7 (PXL_1 (v := 36) hE7.2.2.2.2.2.2.1 h01 (PXL_0 (b := b) (M := Mx7))) (by (clear hn ho h hG hk hK hQ A0 hE hT h01 h75 hae hV hW hV2 hW2 h12 hE1 A1 hT1 e70 e71 pre1 k1 h13 hE2 A2 hT2 hV2' k1' hg1 hnm hx2 hq2 G2 q151 q150 h619 hrr hr hkk hkc hX3 hQ3 hz3 pre2 A3 hE3 hx3 hq3 q75 e53 q3r q36 hMX hM4 hSM e23 A4 xm m5 m45 A5 hX3v hx2v hx3v pr0 pr1 pre3 eX2 hS A6 hz6 hx6 hq6 hnn h210 hv6 hval6 hE6 hk5 hkc5 hgX hX7 hQ7 hq6' hz7 A7 pre7 q7r q713 q76 hE7 x7e o6 hp l2 l3; lia))
      have B2 := AM_p A7 (PXL_1 (v := r) hE7.2.2.2.2.2.2.1 h01 (PXL_1 (v := 36) hE7.2.2.2.2.2.2.1 h01 (PXL_0 (b := b) (M := Mx7)))) (by (clear hn ho h hG hk hK hQ A0 hE hT h01 h75 hae hV hW hV2 hW2 h12 hE1 A1 hT1 e70 e71 pre1 k1 h13 hE2 A2 hT2 hV2' k1' hg1 hnm hx2 hq2 G2 q151 q150 h619 hrr hr hkk hkc hX3 hQ3 hz3 pre2 A3 hE3 hx3 hq3 q75 e53 q3r q36 hMX hM4 hSM e23 A4 xm m5 m45 A5 hX3v hx2v hx3v pr0 pr1 pre3 eX2 hS A6 hz6 hx6 hq6 hnn h210 hv6 hval6 hE6 hk5 hkc5 hgX hX7 hQ7 hq6' hz7 A7 pre7 q7r q713 q76 hE7 x7e o6 hp l1 l3 B1; omega))
      have B3 := AM_p A7 hp (by (clear hn ho h hG hk hK hQ A0 hE hT h01 h75 hae hV hW hV2 hW2 h12 hE1 A1 hT1 e70 e71 pre1 k1 h13 hE2 A2 hT2 hV2' k1' hg1 hnm hx2 hq2 G2 q151 q150 h619 hrr hr hkk hkc hX3 hQ3 hz3 pre2 A3 hE3 hx3 hq3 q75 e53 q3r q36 hMX hM4 hSM e23 A4 xm m5 m45 A5 hX3v hx2v hx3v pr0 pr1 pre3 eX2 hS A6 hz6 hx6 hq6 hnn h210 hv6 hval6 hE6 hk5 hkc5 hgX hX7 hQ7 hq6' hz7 A7 pre7 q7r q713 q76 hE7 x7e o6 hp l1 l2 B1 B2; omega))
      refine x_138 (AM_V A7).1 (ER_st hE7).1 (ER_st hE7).2 ?_
      refine x_138 (AM_V B1).1 (ER_st (AM_E B1)).1 (ER_st (AM_E B1)).2 ?_
      refine x_138 (AM_V B2).1 (ER_st (AM_E B2)).1 (ER_st (AM_E B2)).2 (rv_i ?_)
      have a6g := A6.2.1
      have a26 : a + 1 + 1 ≤ a6 := inw_v (κ := Mx 70) (o := o) _ _ (by (clear hn ho h hG hk hK hQ A0 hE hT h01 h75 hV hW hV2 hW2 hE1 A1 hT1 e70 e71 pre1 k1 hE2 A2 hT2 hV2' k1' hg1 hnm hx2 hq2 G2 q151 q150 h619 hrr hr hkk hkc hX3 hQ3 hz3 pre2 A3 hE3 hx3 hq3 q75 e53 q3r q36 hMX hM4 hSM e23 A4 xm m5 m45 A5 hX3v hx2v hx3v pr0 pr1 pre3 eX2 hS A6 hz6 hs6 hx6 hq6 hnn h210 hv6 hval6 hE6 hk5 hkc5 hgX hX7 hQ7 hq6' hz7 A7 pre7 q7r q713 q76 hE7 x7e o6 hp l1 l2 l3 B1 B2 B3 a6g; omega)) (by have := ER_a hE2; (clear hn ho h hG hk hK hQ A0 hE hT h01 h75 hV hW hV2 hW2 hE1 A1 hT1 e70 e71 pre1 k1 hE2 A2 hT2 hV2' k1' hg1 hnm hx2 hq2 G2 q151 q150 h619 hrr hr hkk hkc hX3 hQ3 hz3 pre2 A3 hE3 hx3 hq3 q75 e53 q3r q36 hMX hM4 hSM e23 A4 xm m5 m45 A5 hX3v hx2v hx3v pr0 pr1 pre3 eX2 hS A6 hz6 hs6 hx6 hq6 hnn h210 hv6 hval6 hE6 hk5 hkc5 hgX hX7 hQ7 hq6' hz7 A7 pre7 q7r q713 q76 hE7 x7e o6 hp l1 l2 l3 B1 B2 B3 a6g this; lia)) hv6 |>.1
      have h53m : MX 5 3 = Mx 5 3 := by rw [m5 5 (by decide)]
      refine y_end (Mx := MX) (Mq := Mq) (w := 5) (v := r) B3 (fun hb => by rw [m5 70 (by decide)]; exact hS hb) pre7 (by (clear hn ho h hG hk hK hQ A0 hE hT h01 h75 hae hV hW hV2 hW2 h12 hE1 A1 hT1 e70 e71 pre1 k1 h13 hE2 A2 hT2 hV2' k1' hg1 hnm hx2 hq2 G2 q151 q150 h619 hrr hr hkk hkc hX3 hQ3 hz3 pre2 A3 hE3 hx3 hq3 q75 e53 q3r q36 hMX hM4 hSM e23 A4 xm m5 m45 A5 hX3v hx2v hx3v pr0 pr1 pre3 eX2 hS A6 hs6 hx6 hq6 hnn h210 hv6 hval6 hE6 hk5 hkc5 hgX hX7 hQ7 hq6' hz7 A7 pre7 q7r q713 q76 hE7 x7e o6 hp l1 l2 l3 B1 B2 B3 a6g a26 h53m; lia)) (by (clear hn ho h hG hk hK hQ A0 hE hT h01 h75 hae hV hW hV2 hW2 h12 hE1 A1 hT1 e70 e71 pre1 k1 h13 hE2 A2 hT2 hV2' k1' hg1 hnm hx2 hq2 G2 q151 q150 h619 hrr hr hkk hkc hX3 hQ3 hz3 pre2 A3 hE3 hx3 hq3 q75 e53 q3r q36 hMX hM4 hSM e23 A4 xm m5 m45 A5 hX3v hx2v hx3v pr0 pr1 pre3 eX2 hS A6 hz6 hs6 hx6 hq6 hnn h210 hv6 hval6 hE6 hk5 hkc5 hgX hX7 hQ7 hq6' hz7 A7 pre7 q7r q713 q76 hE7 x7e o6 hp l1 l2 l3 B1 B2 B3 a6g h53m; omega)) ?_ (by (clear hn ho h hG hk hK hQ A0 hE hT h01 h75 hae hV hW hV2 hW2 h12 hE1 A1 hT1 e70 e71 pre1 k1 h13 hE2 A2 hT2 hV2' k1' hg1 hnm hx2 hq2 G2 q151 q150 h619 hrr hr hkk hkc hX3 hQ3 hz3 pre2 A3 hE3 hx3 hq3 q75 e53 q3r q36 hMX hM4 hSM e23 A4 xm m5 m45 A5 hX3v hx2v hx3v pr0 pr1 pre3 eX2 hS A6 hz6 hx6 hq6 hnn h210 hv6 hval6 hE6 hk5 hkc5 hgX hX7 hQ7 hq6' hz7 A7 pre7 q7r q713 q76 hE7 x7e o6 hp l1 l2 B1 B2 B3 a6g h53m; lia)) ?_ (fun hb h0 => ?_) (fun Mx' Mq' a' hA hs hq => ⟨.inl rfl, ri_i (hK MX Mx' Mq' a' ?_ ?_ ?_ hq)⟩) (fun hb Mx' hx hq => hQ hb Mx' (XA_tr xm hx) hq)
      · rw [q76 75 (by decide) (by decide), hq6.2.1 75 (by decide), up_ne (by decide), em_75, q75]
      · rw [o6 204 (by decide), o6 203 (by decide), o6 205 (by decide), m5 71 (by decide)]
        exact ⟨by rw [up_ne (by decide), ← q75, em_204], by rw [up_ne (by decide), ← q75, em_203], fun _ => by rw [up_at]⟩
      · have h613 := q713 hb h0
        have hk50 := hz7 hb h0
        have h313 : Mq3 6 13 = 0 := by
          have := hq6.2.2 hb h613
          rw [up_ne (by decide), em_6 (by decide)] at this; exact this
        have hk0 := hz3 hb h313
        have hr0 : r ≠ -1 := fun e => by rw [if_pos e] at hkk; (clear hn ho h hG hk hK hQ A0 hE hT h01 h75 hae hV hW hV2 hW2 h12 hE1 A1 hT1 e70 e71 pre1 k1 h13 hE2 A2 hT2 hV2' k1' hg1 hnm hx2 hq2 G2 q151 q150 h619 hrr hr hkc hX3 hQ3 hz3 pre2 A3 hE3 hx3 hq3 q75 e53 q3r q36 hMX hM4 hSM e23 A4 xm m5 m45 A5 hX3v hx2v hx3v pr0 pr1 pre3 eX2 hS A6 hz6 hs6 hx6 hq6 hnn h210 hv6 hval6 hE6 hk5 hkc5 hgX hX7 hQ7 hq6' hz7 A7 pre7 q7r q713 q76 hE7 x7e o6 hp l1 l2 l3 B1 B2 B3 a6g a26 h53m hb h0 h613 hk50 h313 e; lia)
        have pq := pr0 hr0
        rw [if_neg hr0] at hx3v
        rw [if_neg (by (clear hn ho h hG hk hK hQ A0 hE hT h01 h75 hae hV hW hV2 hW2 h12 hE1 A1 hT1 e70 e71 pre1 k1 h13 hE2 A2 hT2 hV2' k1' hg1 hnm hx2 hq2 G2 q151 q150 h619 hrr hr hkk hkc hX3 hQ3 hz3 pre2 A3 hE3 hx3 hq3 q75 e53 q3r q36 hMX hM4 hSM e23 A4 xm m5 m45 A5 hX3v hx2v hx3v pr0 pr1 pre3 eX2 hS A6 hz6 hs6 hx6 hq6 hnn h210 hv6 hval6 hE6 hk5 hkc5 hgX hX7 hQ7 hq6' hz7 A7 pre7 q7r q713 q76 hE7 x7e o6 hp l1 l2 l3 B1 B2 B3 a6g a26 h53m h0 h613 hk50 h313 hk0 pq; lia))] at hX3v
        have hnq : nn = Mq 170 r := by
          have : k5v_ x3 nn = 0 := by (clear hn ho h hG hk hK hQ A0 hE hT h01 h75 hae hV hW hV2 hW2 h12 hE1 A1 hT1 e70 e71 pre1 k1 h13 hE2 A2 hT2 hV2' k1' hg1 hnm hx2 hq2 G2 q151 q150 h619 hrr hr hkk hkc hX3 hQ3 hz3 pre2 A3 hE3 hx3 hq3 q75 e53 q3r q36 hMX hM4 hSM e23 A4 xm m5 m45 A5 hX3v hx2v hx3v pr0 pr1 pre3 eX2 hS A6 hz6 hs6 hx6 hq6 hnn h210 hv6 hval6 hE6 hkc5 hgX hX7 hQ7 hq6' hz7 A7 pre7 q7r q713 q76 hE7 x7e o6 hp l1 l2 l3 B1 B2 B3 a6g a26 h53m hb h0 h613 h313 hk0 hr0 pq; lia)
          unfold k5v_ at this
          by_cases c : x3 < 0 ∨ nn = x3
          · (clear hn ho h hG hk hK hQ A0 hE hT h01 h75 hae hV hW hV2 hW2 h12 hE1 A1 hT1 e70 e71 pre1 k1 h13 hE2 A2 hT2 hV2' k1' hg1 hnm hx2 hq2 G2 q151 q150 h619 hrr hr hkk hkc hX3 hQ3 hz3 pre2 A3 hE3 hx3 hq3 q75 e53 q3r q36 hMX hM4 hSM e23 A4 xm m5 m45 A5 hX3v hx2v pr0 pr1 pre3 eX2 hS A6 hz6 hs6 hx6 hq6 hnn hv6 hval6 hE6 hk5 hkc5 hgX hX7 hQ7 hq6' hz7 A7 pre7 q7r q713 q76 hE7 x7e o6 hp l1 l2 l3 B1 B2 B3 a6g a26 h53m hb h0 h613 hk50 h313 hk0 hr0 this; omega)
          · rw [if_neg c] at this; (clear hn ho h hG hk hK hQ A0 hE hT h01 h75 hae hV hW hV2 hW2 h12 hE1 A1 hT1 e70 e71 pre1 k1 h13 hE2 A2 hT2 hV2' k1' hg1 hnm hx2 hq2 G2 q151 q150 h619 hrr hr hkk hkc hX3 hQ3 hz3 pre2 A3 hE3 hx3 hq3 q75 e53 q3r q36 hMX hM4 hSM e23 A4 xm m5 m45 A5 hX3v hx2v hx3v pr0 pr1 pre3 eX2 hS A6 hz6 hs6 hx6 hq6 hnn h210 hv6 hval6 hE6 hk5 hkc5 hgX hX7 hQ7 hq6' hz7 A7 pre7 q7r q713 q76 hE7 x7e o6 hp l1 l2 l3 B1 B2 B3 a6g a26 h53m hb h0 h613 hk50 h313 hk0 hr0 pq c; omega)
        have hv7 := hval6 hb h613 (by (clear hn ho h hG hk hK hQ A0 hE hT h01 h75 hae hV hW hV2 hW2 h12 hE1 A1 hT1 e70 e71 pre1 k1 h13 hE2 A2 hT2 hV2' k1' hg1 hnm hx2 hq2 G2 q151 q150 h619 hrr hr hkk hkc hX3 hQ3 hz3 pre2 A3 hE3 hx3 hq3 q75 e53 q3r q36 hMX hM4 hSM e23 A4 xm m5 m45 A5 hx2v pr0 pr1 pre3 eX2 hS A6 hz6 hs6 hx6 hq6 hnn hv6 hval6 hE6 hk5 hkc5 hgX hX7 hQ7 hq6' hz7 A7 pre7 q7r q713 q76 hE7 x7e o6 hp l1 l2 l3 B1 B2 B3 a6g a26 h53m hb h0 h613 hk50 h313 hk0 hr0 pq; lia))
        have hp4 := hp.2.2.2.1 hb
        obtain ⟨s1, s2, s3, _⟩ := hp4.2
        have v205 : Mq7 205 (Mq 6 75) = r := by rw [o6 205 (by decide), up_at]
        have v210 : Mq7 210 (Mq 6 75) = nn := by rw [q7r 210 (by decide)]; exact h210
        have v619 : Mq7 6 19 = Mq 6 19 := by rw [q76 19 (by decide) (by decide), hq6.2.1 19 (by decide), up_ne (by decide), em_6 (by decide), q36 19 (by decide)]
        have vr : ∀ r' : Nat, r' ∉ qaL → Mq7 r' = Mq r' := fun r' hr' => by
          have h6 : r' ≠ 6 := fun e => hr' (by rw [e]; decide)
          rw [q7r r' h6, QA_r (QC_QA (QV_QC hq6)) hr', QA_r (QC_QA (QC_tr em_QC (QC_ur (by decide) (by decide)))) hr', q3r r' hr']
        refine .inr (.inr (.inr (.inr (.inl ⟨?_, ?_, ?_, ?_, ?_, Mx7 5 3, ?_, ?_, ?_, ?_, ?_⟩))))
        · rw [o6 203 (by decide), up_ne (by decide), ← q75, em_203]
        · rw [v205, v619]; (clear hn ho h hG hk hK hQ A0 hE hT h01 h75 hae hV hW hV2 hW2 h12 hE1 A1 hT1 e70 e71 pre1 k1 h13 hE2 A2 hT2 hV2' k1' hg1 hnm hx2 hq2 G2 q151 q150 hrr hX3 hQ3 pre2 A3 hE3 hx3 hq3 q75 e53 q3r q36 hMX hM4 hSM e23 A4 xm m5 m45 A5 hx2v pre3 eX2 A6 hz6 hs6 hx6 hq6 hnn hv6 hE6 hgX hX7 hQ7 hq6' A7 pre7 q7r q76 hE7 x7e o6 hp l1 l2 l3 B1 B2 B3 a6g a26 h53m pq hv7 hp4 s1 s3 v210 vr; lia)
        · rw [v210]; (clear hn ho h hG hk hK hQ A0 hE hT h01 h75 hae hV hW hV2 hW2 h12 hE1 A1 hT1 e70 e71 pre1 k1 h13 hE2 A2 hT2 hV2' k1' hg1 hnm hx2 hq2 G2 q151 q150 h619 hrr hr hkk hkc hX3 hQ3 hz3 pre2 A3 hE3 hx3 hq3 q75 e53 q3r q36 hMX hM4 hSM e23 A4 xm m5 m45 A5 hX3v hx2v pr0 pr1 pre3 eX2 hS A6 hz6 hs6 hx6 hq6 hnn hv6 hval6 hE6 hk5 hkc5 hgX hX7 hQ7 hq6' hz7 A7 pre7 q7r q713 q76 hE7 x7e o6 hp l1 l2 l3 B1 B2 B3 a6g a26 h53m hb h0 h613 hk50 h313 hk0 hr0 hv7 hp4 s2 s3 v205 v619 vr; omega)
        · rw [v210]; (clear hn ho h hG hk hK hQ A0 hE hT h01 h75 hae hV hW hV2 hW2 h12 hE1 A1 hT1 e70 e71 pre1 k1 h13 hE2 A2 hT2 hV2' k1' hg1 hnm hx2 hq2 G2 q151 q150 h619 hrr hr hkk hkc hX3 hQ3 hz3 pre2 A3 hE3 hx3 hq3 q75 e53 q3r q36 hMX hM4 hSM e23 A4 xm m5 m45 A5 hX3v hx2v pr0 pr1 pre3 eX2 hS A6 hz6 hs6 hx6 hq6 hnn hv6 hval6 hE6 hk5 hkc5 hgX hX7 hQ7 hq6' hz7 A7 pre7 q7r q713 q76 hE7 x7e o6 hp l1 l2 l3 B1 B2 B3 a6g a26 h53m hb h0 h613 hk50 h313 hk0 hr0 hv7 hp4 s2 s3 v205 v619 vr; omega)
        · rw [v210, v205, vr 170 (by decide)]; exact hnq
        · rw [v210, v205, vr 182 (by decide), x7e.1]
          refine VAL_c (σ := fun i => Mq 182 (8 * r + i)) (Mx := Mx6) (Mq := Mq6) (fe := Mq6 6 104) (fun i _ _ => by rw [q7r 227 (by decide), q7r 228 (by decide)]; exact ⟨rfl, rfl⟩) ⟨q7r _ (by decide), q7r _ (by decide), q7r _ (by decide), q7r _ (by decide), q7r _ (by decide)⟩ (by rw [q76 104 (by decide) (by decide)]; (clear hn ho h hG hk hK hQ A0 hE hT h01 h75 hae hV hW hV2 hW2 h12 hE1 A1 hT1 e70 e71 pre1 k1 h13 hE2 A2 hT2 hV2' k1' hg1 hnm hx2 hq2 G2 q151 q150 h619 hrr hr hkk hkc hX3 hQ3 hz3 pre2 A3 hE3 hx3 hq3 q75 e53 q3r q36 hMX hM4 hSM e23 A4 xm m5 m45 A5 hX3v hx2v hx3v pr0 pr1 pre3 eX2 hS A6 hz6 hs6 hx6 hq6 hnn h210 hv6 hval6 hE6 hk5 hkc5 hgX hX7 hQ7 hq6' hz7 A7 pre7 q7r q713 q76 hE7 x7e o6 hp l1 l2 l3 B1 B2 B3 a6g a26 h53m hb h0 h613 hk50 h313 hk0 hr0 pq hnq hv7 hp4 s1 s2 s3 v205 v210 v619 vr; lia)) (fun _ => rfl) _ (by (clear hn ho h hG hk hK hQ A0 hE hT h01 h75 hae hV hW hV2 hW2 h12 hE1 A1 hT1 e70 e71 pre1 k1 h13 hE2 A2 hT2 hV2' k1' hg1 hnm hx2 hq2 G2 q151 q150 h619 hrr hr hkk hkc hX3 hQ3 hz3 pre2 A3 hE3 hx3 hq3 q75 e53 q3r q36 hMX hM4 hSM e23 A4 xm m5 m45 A5 hX3v hx2v pr0 pr1 pre3 eX2 hS A6 hz6 hs6 hx6 hq6 hnn hv6 hval6 hE6 hk5 hkc5 hgX hX7 hQ7 hq6' hz7 A7 pre7 q7r q713 q76 hE7 x7e o6 hp l1 l2 l3 B1 B2 B3 a6g a26 h53m hb h0 h613 hk50 h313 hk0 hr0 hv7 hp4 s2 s3 v205 v619 vr; omega)) (fun i _ _ => by rw [q7r 209 (by decide)]) (fun i _ hi => ?_) (VAL_s _ (fun i hi => ?_) hv7)
          · rw [hp.2.2.2.2.1 i (by rw [x7e.1]; exact hi), x7e.2]
          · show Mq 182 (8 * r + (i : Int)) = (if (i : Int) < X3 then Mq 182 (8 * r + i) - 1 else -1) + 1
            rw [if_pos (by (clear hn ho h hG hk hK hQ A0 hE hT h01 h75 hae hV hW hV2 hW2 h12 hE1 A1 hT1 e70 e71 pre1 k1 h13 hE2 A2 hT2 hV2' k1' hg1 hnm hx2 hq2 G2 q151 q150 h619 hrr hr hkk hkc hX3 hQ3 hz3 pre2 A3 hE3 hx3 hq3 q75 e53 q3r q36 hMX hM4 hSM e23 A4 xm m5 m45 A5 hx2v pr0 pr1 pre3 eX2 hS A6 hz6 hs6 hx6 hq6 hnn hv6 hval6 hE6 hk5 hkc5 hgX hX7 hQ7 hq6' hz7 A7 pre7 q7r q713 q76 hE7 x7e o6 hp l1 l2 l3 B1 B2 B3 a6g a26 h53m hb h0 h613 hk50 h313 hk0 hr0 hv7 hp4 s2 s3 v205 v619 vr; omega))]; (clear hn ho h hG hk hK hQ A0 hE hT h01 h75 hae hV hW hV2 hW2 h12 hE1 A1 hT1 e70 e71 pre1 k1 h13 hE2 A2 hT2 hV2' k1' hg1 hnm hx2 hq2 G2 q151 q150 h619 hrr hr hkk hkc hX3 hQ3 hz3 pre2 A3 hE3 hx3 hq3 q75 e53 q3r q36 hMX hM4 hSM e23 A4 xm m5 m45 A5 hX3v hx2v hx3v pr0 pr1 pre3 eX2 hS A6 hz6 hs6 hx6 hq6 hnn h210 hv6 hval6 hE6 hk5 hkc5 hgX hX7 hQ7 hq6' hz7 A7 pre7 q7r q713 q76 hE7 x7e o6 hp l1 l2 l3 B1 B2 B3 a6g a26 h53m hb h0 h613 hk50 h313 hk0 hr0 pq hnq hv7 hp4 s1 s2 s3 v205 v210 v619 vr hi; omega)
        · simpa using s3
        · rw [v205]; exact s2
        · rw [v210]; exact s1
        · rw [hp4.1]; rfl
      · rw [hA.2.2.2.2.2.2.2.2.2.2.2.2.1.2.2 (.inr rfl)]; exact hSM
      · have e := hA.2.2.2.2.2.2.2.2.2.2.2.2.1.2.2 (.inr rfl)
        rw [e]; exact hA
      · rw [gS_e h12, Option.bind_some, tS_e k1' h13, Option.bind_some, hv6, Option.bind_some, ← m5 70 (by decide)]; exact hs
    · intro hb Mx' hx hq
      exact hQ hb Mx' (XA_tr xm hx) fun Kv Qtq hk9 => pre3 _ _ (hq _ _ fun M' hM' => q_244s hM'.1 (hk9 _ hM'))
  -- made
  refine b_160_33 (Tr_mono _) hV2 hW2 _ _ _ ?_
  by_cases c : r = -1
  · rw [if_pos c, if_pos c]
    rw [hM4, if_pos c, hX3v, if_pos (.inl c)] at goal76
    exact goal76
  · rw [if_neg c, if_neg c]
    rw [hM4, if_neg c] at goal76
    intro _
    have h8 := hE3.2.2.2.2.2.2.1
    by_cases c0 : Mx3 1 8 = 0
    · rw [if_pos c0]
      rw [hX3v, if_pos (.inr (by (clear hn ho h hG hk hS hK hQ A0 hE hT h01 h75 hae hV hW hV2 hW2 h12 hE1 A1 hT1 e70 e71 pre1 k1 h13 hE2 A2 hT2 hV2' k1' hg1 hnm hx2 hq2 G2 q151 q150 h619 hrr hr hkk hkc hX3 hQ3 hz3 pre2 A3 hE3 hx3 hq3 q75 e53 q3r q36 hMX hM4 hSM e23 A4 xm m5 m45 A5 hX3v hx2v hx3v pr0 pr1 pre3 goal76 c; lia)))] at goal76
      exact goal76
    · rw [if_neg c0]
      rw [hX3v, if_neg (by (clear hn ho h hG hk hS hK hQ A0 hE hT h01 h75 hae hV hW hV2 hW2 h12 hE1 A1 hT1 e70 e71 pre1 k1 h13 hE2 A2 hT2 hV2' k1' hg1 hnm hx2 hq2 G2 q151 q150 h619 hrr hr hkk hkc hX3 hQ3 hz3 pre2 A3 hE3 hx3 hq3 q75 e53 q3r q36 hMX hM4 hSM e23 A4 xm m5 m45 A5 hX3v hx2v hx3v pr0 pr1 pre3 goal76; lia))] at goal76
      have e122 : Mx3 122 r = Mq 170 r := by rw [hx3.1 122 (by decide)]; exact (pr1 c (by (clear hn ho h hG hS hK hQ A0 hE hT h75 hae hV hW hV2 hW2 h12 hE1 A1 hT1 e70 e71 pre1 k1 h13 hE2 A2 hT2 hV2' k1' hg1 hnm hx2 hq2 G2 q151 q150 h619 hrr hX3 hQ3 pre2 A3 hE3 hx3 hq3 q75 e53 q3r q36 hMX hM4 hSM e23 A4 xm m5 m45 A5 hX3v hx2v hx3v pre3 goal76; lia))).1
      rw [e122]
      exact ⟨(AM_V A3).1, by lia, goal76⟩
end CR
end T119_cr

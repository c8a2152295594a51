section T236_pr
/-! parameters of a process: the loop -/
section PL2
variable {dq : Nat} {b : Int} {x1 x2 : Int} {Kv : mm_ → Prop} {Qt : qt_} {V : vv_}
theorem l_296 [Inhabited gh_] (hV : Cl_ wd0 (Tr_ wd0 pg0 130) V (rv_ Kv) Qt m_126) (hW : Wk_ V) : ∀ n : Nat, P296 dq b x1 x2 V Qt n
  | 0 => fun a j F M N hn h h12 _ _ _ _ _ _ => by omega
  | n + 1 => fun a j F M N hn h h12 hc hj hcnt hS hK hQ => by
    have hE := TS_E h.1.1
    have ha := ER_a hE
    have h01 := bl01 hE
    have fl := h.1.1.2.2.2.2.2.1
    have hkd : M 70 a ≠ 102 ∧ M 70 a ≠ 103 := by omega
    have hE1 := (ER_go hE h12 hkd).1
    have H1 := HDR_go h hE1
    have x70 : nX_ M 70 = M 70 := nX_ne (by decide)
    have oE := ER_o1 hE
    have oE1 := ER_o1 hE1
    have oT1 : Tks (o1_ (nX_ M)) (q1_ (nx_ N)) := Tks_a (XF_XA o1_XF) (QF_QA q1_QF) H1.1.1.1.1
    have o70 : o1_ (nX_ M) 70 = M 70 := by rw [o1_r (by decide)]; exact x70
    have xs0 : XPb M (o1_ (nX_ M)) := XPb_tr XPb_nX XPb_o1
    have qs0 : QPb N (q1_ (nx_ N)) := QPb_tr QPb_nx QPb_q1
    refine b_126_296 (Tr_mono _) hV hW _ _ _ _ ?_
    refine y_105 oE (by rw [o1_r (by decide)]; exact hkd) (fun _ => by rw [gS_e h12]; exact fun e => by cases e) (fun _ _ => ?_) (fun _ e => by omega)
    rw [nX_o1]
    have toQ : ∀ {G : Int → mm_ → Prop} {Qtq : qt_}, (∀ V' : vv_, Cl_ wd0 (Tr_ wd0 pg0 (dq + 17)) V' (ri_ G) Qtq m_253 → Wk_ V' → Tr_ wd0 pg0 (dq + 17) 233 [.inr (.inr 6)] (q1_ (nx_ N)) (ri_ fun v2 M4 =>
     Tr_ wd0 pg0 (dq + 17) 227 [.inr (.inr 6)] M4 (ri_ fun v3 M5 =>
      (if v3 = 0 then
       (if j = 3 then
        (0 ≤ v2 ∧ v2 < 1202) ∧
         Tr_ wd0 pg0 (dq + 17) 231 [.inr (.inr 6), .inl 2, .inl (M5 150 v2)] M5 (rv_ fun M6 =>
         V' 49 [rr 6, ii j, ii 1, ii v2, none, none] [] M6) Qtq
       else
        V' 49 [rr 6, ii j, ii 1, ii v2, none, none] [] M5)
      else
       V' 49 [rr 6, ii j, ii 1, ii v2, none, none] [] M5)) Qtq) Qtq) → q53 dq j N G Qtq := fun hq V' hV' hW' => by
      refine b_253_10 (Tr_mono _) hV' hW' _ _ _ ?_
      rw [if_neg (by decide)]
      refine q_227g (ER_goq oE1) ?_
      rw [if_pos rfl]
      exact hq V' hV' hW'
    have nS : b = 1 → j ≠ 3 ∧ (tS (M 70) 100 (a + 1)) ≠ none := fun hb => by
      have h9 := hS hb
      by_cases c3 : j = 3
      · rw [c3, PAS_3 ha.1 ha.2] at h9; exact absurd rfl h9
      · rw [PAS_e ha.1 h12 c3] at h9; exact ⟨c3, bind_n h9⟩
    refine y_107 (d := 126) oE1 (fun hb => by rw [o70]; exact (nS hb).2) (fun hk1 h13 _ => ?_) (fun hb hk1 h13 => ?_) (fun hb hk1 => ?_)
    rotate_left
    · have hsp := SQ_bf oE1 hb (k := 2) (by decide) QA_rf
      exact hQ hb _ (XPb_tr xs0 XPb_fl) (fun G Qtq hg => toQ fun V' hV' hW' => j_233r oT1 oE1 hb hk1 h13 (q_227s hsp.1 (by rw [if_neg (by decide)]; exact q49_s hV' hW' hsp.1 fun v => hg v _ (SQp_tr qs0 (SQ_P hsp)))))
    · have hsp := SQ_bf oE1 hb (k := 1) (by decide) QA_rf
      exact hQ hb _ (XPb_tr xs0 XPb_fl) (fun G Qtq hg => toQ fun V' hV' hW' => j_233w oT1 oE1 hb hk1 (q_227s hsp.1 (by rw [if_neg (by decide)]; exact q49_s hV' hW' hsp.1 fun v => hg v _ (SQp_tr qs0 (SQ_P hsp)))))
    have hk1' : M 70 (a + 1) = 100 := by rw [← o70]; exact hk1
    rw [nX_o1]
    have hE2 := (ER_go hE1 h13 (by rw [x70, hk1']; decide)).1
    have H2 := HDR_go H1 hE2
    have oE2 := ER_o1 hE2
    have y70 : nX_ (nX_ M) 70 = M 70 := by rw [nX_ne (by decide)]; exact x70
    have qs2 : QPb N (q1_ (nx_ (nx_ N))) := QPb_tr (QPb_tr QPb_nx QPb_nx) QPb_q1
    have xs2 : XPb M (o1_ (nX_ (nX_ M))) := XPb_tr (XPb_tr XPb_nX XPb_nX) XPb_o1
    by_cases c3 : j = 3
    · rw [if_pos c3]
      rcases h01 with hb | hb
      · refine x_110 (by omega) (by omega) (fun e => absurd e (by decide)) (fun _ => ?_)
        have e150 : q1_ (nx_ (nx_ N)) 150 (a + 1) = o1_ (nX_ (nX_ M)) 71 (a + 1) := by
          rw [q1_r (by decide), nx_ne (by decide), o1_r (by decide), nX_ne (by decide)]; exact ((H1.1.1.1.1 (a + 1) hE1.1).2.1).symm
        have sp2 : sp_ (bf_ (q1_ (nx_ (nx_ N))) 2 (o1_ (nX_ (nX_ M)) 71 (a + 1))) := bf_sp (oE2.2.2.2.2.2.2.2.1.trans hb) (by decide)
        refine hQ hb _ (XPb_tr xs2 XPb_fl) (fun G Qtq hg => toQ fun V' hV' hW' => j_233t oT1 oE1 hk1 h13 ?_)
        rw [nx_q1]
        refine q_227g (ER_goq oE2) ?_
        rw [if_pos rfl, if_pos c3]
        refine ⟨by omega, q_231o (oE2.2.2.2.2.2.2.2.2.2.1 hb) ?_⟩
        rw [e150]
        refine q49_s hV' hW' sp2 fun v => hg v _ ⟨sp2, ?_, ?_, ?_, QPb_tr qs2 (QF_P bf_QF)⟩
        · unfold in9_; rw [bf_6 (by decide) (by decide), oE2.2.2.1]; omega
        · unfold bf_ flX_; rw [up_off (by decide), up_at, up_off (by decide), up_at]
        · refine ⟨?_, fl_b7 (by assumption)⟩; unfold bf_ flX_; rw [up_at, up_at]
      · exact absurd c3 (nS hb).1
    rw [if_neg c3]
    refine x_110 (by omega) (by omega) (fun _ => ?_) (fun e => absurd rfl e)
    have eS : ∀ dm, dm (a + 1) = true → PAS (M 70) dm (a, j) = (tS (M 70) 258 (a + 1 + 1)).bind fun a3 => (srS (M 70) a3).bind fun a4 => if M 70 a4 = 244 then PAS (M 70) dm (a4, j + 1) else (tS (M 70) 241 a4).bind fun a5 => some (a5, j + 1) := fun dm hdm => by rw [PAS_e ha.1 h12 c3, tS_e hk1' h13, Option.bind_some, if_pos hdm]
    have dm1 : b = 1 → DMT M (a + 1) = true := fun hb => by
      have h9 := hS hb
      rw [PAS_e ha.1 h12 c3, tS_e hk1' h13, Option.bind_some] at h9
      by_cases c : DMT M (a + 1) = true
      · exact c
      · rw [if_neg c] at h9; exact absurd rfl h9
    have hS2 : b = 1 → ((tS (M 70) 258 (a + 1 + 1)).bind fun a3 => (srS (M 70) a3).bind fun a4 => if M 70 a4 = 244 then PAS (M 70) (DMT M) (a4, j + 1) else (tS (M 70) 241 a4).bind fun a5 => some (a5, j + 1)) ≠ none := fun hb => by rw [← eS _ (dm1 hb)]; exact hS hb
    have e18 : nX_ (nX_ M) 1 18 = M 1 18 := by rw [nX_1 (by decide), nX_1 (by decide)]
    have e124 : nX_ (nX_ M) 124 = M 124 := by rw [nX_ne (by decide), nX_ne (by decide)]
    have nm2 : nm9_ (nX_ (nX_ M)) (a + 1) := ⟨gd_c (nX_ne (by decide)) hE1.1, by rw [y70]; exact hk1'⟩
    have hdcl : ∀ u, DCL (nX_ (nX_ M)) (M 1 18) u ↔ DCL M (M 1 18) u := fun u => DCL_c (by rw [nX_ne (by decide), nX_ne (by decide)]) (by rw [nX_ne (by decide), nX_ne (by decide)]) (by rw [nX_ne (by decide), nX_ne (by decide)]) (by rw [nX_ne (by decide), nX_ne (by decide)])
    obtain ⟨N2, H2', f2, n2e, _, q254⟩ := y_254 (n := j) (t := a + 1) H2 nm2 (fun hb => by rw [e18, e124]; have := hcnt hb; omega) (fun hb => by rw [e18, hdcl]; exact DMT_D (dm1 hb))
    have toQ2 : ∀ {G : Int → mm_ → Prop} {Qtq : qt_}, (∀ V' : vv_, Cl_ wd0 (Tr_ wd0 pg0 (dq + 17)) V' (ri_ G) Qtq m_253 → Wk_ V' → Tr_ wd0 pg0 (dq + 17) 244 [.inr (.inr 6), .inl 58] (q1_ (vB_ b N2 j (a + 1))) (rv_ fun M3 =>
     (0 ≤ M3 6 12 ∧ M3 6 12 < 1202) ∧
      Tr_ wd0 pg0 (dq + 17) 241 [.inr (.inr 6)] M3 (ri_ fun v2 M4 =>
      Tr_ wd0 pg0 (dq + 17) 227 [.inr (.inr 6)] M4 (ri_ fun v3 M5 =>
       (if v3 = 0 then
        (bl_ (M5 6 16) → (if M5 6 16 = 0 then
         Tr_ wd0 pg0 (dq + 17) 256 [.inr (.inr 6), .inl j, .inl v2, .inl 0, .inl (M3 150 (M3 6 12))] M5 (rv_ fun M6 =>
          V' 113 [rr 6, ii j, ii 1, ii (a + 1), ii (M3 150 (M3 6 12)), ii v2] [] M6) Qtq
        else
         V' 113 [rr 6, ii j, ii 1, ii (a + 1), ii (M3 150 (M3 6 12)), ii v2] [] M5))
       else
        ri_ G [.inl j] M5)) Qtq) Qtq) Qtq) → q53 dq j N G Qtq := fun hq => toQ fun V' hV' hW' => j_233t oT1 oE1 hk1 h13 (by
      rw [nx_q1]
      refine q_227g (ER_goq oE2) ?_
      rw [if_pos rfl, if_neg c3]
      refine b_253_49 (Tr_mono _) hV' hW' _ _ _ _ (q_227g (ER_goq oE2) ?_)
      rw [if_pos rfl]
      exact q254 _ _ _ (hq V' hV' hW'))
    have hE2' := TS_E H2'.1.1
    have oE2v : ER b F (o1_ (nX_ (nX_ M))) (q1_ (vB_ b N2 j (a + 1))) (a + 1 + 1) 1 := ER_o1 (ER_vB hE2')
    have oT2v : Tks (o1_ (nX_ (nX_ M))) (q1_ (vB_ b N2 j (a + 1))) := Tks_a (XF_XA o1_XF) (QF_QA q1_QF) (Tks_vB H2'.1.1.1.1)
    have p2 : PHF b F F M N (nX_ (nX_ M)) N2 := PHFx_on (PHFx_tr (PHFx_w (PHF_go h (by omega))) (PHFx_tr (PHFx_go H1) (PHFx_w f2.1))) (fun _ v hv => by rw [hv, hE.2.1]; omega) (fun _ v hv => by rw [hv]; exact ONT_c f2.2 (fun r hr => by rw [nX_ne hr, nX_ne hr]) e18)
    have qs2v : QPb N (q1_ (vB_ b N2 j (a + 1))) := QPb_tr (PHF_Q p2) (QPb_tr QPb_vB QPb_q1)
    have u70 : o1_ (nX_ (nX_ M)) 70 = M 70 := by rw [o1_r (by decide)]; exact y70
    refine b_126_322 (Tr_mono _) hV hW _ _ _ _ _ ?_
    refine y_121 oE2v (by decide) (fun hb => by rw [u70]; exact bind_n (hS2 hb)) (fun k2 h14 _ => ?_) (fun hb k2 h14 => ?_) (fun hb k2 => ?_)
    rotate_left
    · have hsp := SQ_bf oE2v hb (k := 2) (by decide) QA_rf
      exact hQ hb _ (XPb_tr xs2 XPb_fl) (fun G Qtq hg => toQ2 fun V' hV' hW' => j_244r oT2v oE2v hb (by decide) k2 h14 ⟨hsp.2.1, q_241s hsp.1 hsp.2.1 (q_227s hsp.1 (by rw [if_neg (by decide)]; exact ri_i (hg _ _ (SQp_tr qs2v (SQ_P hsp)))))⟩)
    · have hsp := SQ_bf oE2v hb (k := 1) (by decide) QA_rf
      exact hQ hb _ (XPb_tr xs2 XPb_fl) (fun G Qtq hg => toQ2 fun V' hV' hW' => j_244w oT2v oE2v hb (by decide) k2 ⟨hsp.2.1, q_241s hsp.1 hsp.2.1 (q_227s hsp.1 (by rw [if_neg (by decide)]; exact ri_i (hg _ _ (SQp_tr qs2v (SQ_P hsp)))))⟩)
    have k2' : M 70 (a + 1 + 1) = 258 := by rw [← u70]; exact k2
    have k2'' : nX_ (nX_ M) 70 (a + 1 + 1) = 258 := by rw [y70]; exact k2'
    rw [nX_o1]
    have hE3 := (ER_go hE2' h14 (by rw [k2'']; decide)).1
    have H3 := HDR_go H2' hE3
    have oE3v : ER b F (o1_ (nX_ (nX_ (nX_ M)))) (q1_ (vB_ b (nx_ N2) j (a + 1))) (a + 1 + 1 + 1) 1 := ER_o1 (ER_vB hE3)
    have oT3v : Tks (o1_ (nX_ (nX_ (nX_ M)))) (q1_ (vB_ b (nx_ N2) j (a + 1))) := Tks_a (XF_XA o1_XF) (QF_QA q1_QF) (Tks_vB H3.1.1.1.1)
    have p3 : PHF b F F M N (nX_ (nX_ (nX_ M))) (nx_ N2) := PHF_tr p2 (PHF_go H2' (by rw [k2'']; decide))
    have qs3v : QPb N (q1_ (vB_ b (nx_ N2) j (a + 1))) := QPb_tr (PHF_Q p3) (QPb_tr QPb_vB QPb_q1)
    have xs3 : XPb M (o1_ (nX_ (nX_ (nX_ M)))) := XPb_tr (PHF_X p3) XPb_o1
    have z70 : nX_ (nX_ (nX_ M)) 70 = M 70 := by rw [nX_ne (by decide)]; exact y70
    have w70 : o1_ (nX_ (nX_ (nX_ M))) 70 = M 70 := by rw [o1_r (by decide)]; exact z70
    have m13 : o1_ (nX_ (nX_ (nX_ M))) 1 3 = a + 1 + 1 + 1 := oE3v.2.1
    have kq3 := ER_k oT3v oE3v
    have p150 : q1_ (vB_ b (nx_ N2) j (a + 1)) 150 (q1_ (vB_ b (nx_ N2) j (a + 1)) 6 12) = M 71 (a + 1 + 1 + 1) := by
      rw [kq3.2.1, o1_r (by decide), nX_ne (by decide), nX_ne (by decide), nX_ne (by decide)]
    have toQ3 : ∀ {G : Int → mm_ → Prop} {Qtq : qt_}, (∀ V' : vv_, Cl_ wd0 (Tr_ wd0 pg0 (dq + 17)) V' (ri_ G) Qtq m_253 → Wk_ V' → Tr_ wd0 pg0 (dq + 17) 241 [.inr (.inr 6)] (q1_ (vB_ b (nx_ N2) j (a + 1))) (ri_ fun v2 M4 =>
      Tr_ wd0 pg0 (dq + 17) 227 [.inr (.inr 6)] M4 (ri_ fun v3 M5 =>
       (if v3 = 0 then
        (bl_ (M5 6 16) → (if M5 6 16 = 0 then
         Tr_ wd0 pg0 (dq + 17) 256 [.inr (.inr 6), .inl j, .inl v2, .inl 0, .inl (M 71 (a + 1 + 1 + 1))] M5 (rv_ fun M6 =>
          V' 113 [rr 6, ii j, ii 1, ii (a + 1), ii (M 71 (a + 1 + 1 + 1)), ii v2] [] M6) Qtq
        else
         V' 113 [rr 6, ii j, ii 1, ii (a + 1), ii (M 71 (a + 1 + 1 + 1)), ii v2] [] M5))
       else
        ri_ G [.inl j] M5)) Qtq) Qtq) → q53 dq j N G Qtq := fun hq => toQ2 fun V' hV' hW' => j_244t oT2v oE2v (by decide) k2 h14 (by
      rw [nx_q1, vB_nx, p150]
      exact ⟨kq3.2.2.1, hq V' hV' hW'⟩)
    have hS3 : b = 1 → ((srS (M 70) (a + 1 + 1 + 1)).bind fun a4 => if M 70 a4 = 244 then PAS (M 70) (DMT M) (a4, j + 1) else (tS (M 70) 241 a4).bind fun a5 => some (a5, j + 1)) ≠ none := fun hb => by
      have := hS2 hb; rw [tS_e k2' h14, Option.bind_some] at this; exact this
    refine y_119 oE3v (fun hb => by rw [w70]; exact bind_n (hS3 hb)) (fun s1 s2 h15 _ => ?_) (fun hb s1 s2 h15 => ?_) (fun hb sk => ?_)
    rotate_left
    · have hsp := SQ_bf oE3v hb (k := 2) (by decide) QA_rf
      exact hQ hb _ (XPb_tr xs3 XPb_fl) (fun G Qtq hg => toQ3 fun V' hV' hW' => j_241r oT3v oE3v hb ⟨s1, s2⟩ h15 (fun v => q_227s hsp.1 (by rw [if_neg (by decide)]; exact ri_i (hg _ _ (SQp_tr qs3v (SQ_P hsp))))))
    · have hsp := SQ_bf oE3v hb (k := 1) (by decide) QA_rf
      exact hQ hb _ (XPb_tr xs3 XPb_fl) (fun G Qtq hg => toQ3 fun V' hV' hW' => j_241w oT3v oE3v hb sk (q_227s hsp.1 (by rw [if_neg (by decide)]; exact ri_i (hg _ _ (SQp_tr qs3v (SQ_P hsp))))))
    rw [w70] at s1 s2
    rw [nX_o1, m13, w70]
    have hE4 := (ER_go hE3 h15 (by rw [z70]; omega)).1
    have H4 := HDR_go H3 hE4
    have oE4v : ER b F (o1_ (nX_ (nX_ (nX_ (nX_ M))))) (q1_ (vB_ b (nx_ (nx_ N2)) j (a + 1))) (a + 1 + 1 + 1 + 1) 1 := ER_o1 (ER_vB hE4)
    have p4 : PHF b F F M N (nX_ (nX_ (nX_ (nX_ M)))) (nx_ (nx_ N2)) := PHF_tr p3 (PHF_go H3 (by rw [z70]; omega))
    have hk4 : srS (M 70) (a + 1 + 1 + 1) = some (a + 1 + 1 + 1 + 1) := by unfold srS; rw [if_pos ⟨s1, s2⟩, gS_e h15]
    generalize eM4 : nX_ (nX_ (nX_ (nX_ M))) = M4 at *
    generalize eN4 : nx_ (nx_ N2) = N4 at *
    have f18 : M4 1 18 = M 1 18 := p4.1.2.1 18 (by decide)
    have f4r : ∀ r : Nat, r ≠ 1 → M4 r = M r := fun r hr => by rw [← eM4, nX_ne hr, nX_ne hr, nX_ne hr, nX_ne hr]
    have f4q : b = 0 → ∀ r : Nat, r ≠ 6 → N4 r = N r := fun hb r hr => by
      rw [← eN4, nx_ne hr, nx_ne hr, n2e hb, nx_ne hr, nx_ne hr]
    have m17 : M4 1 7 = M 1 7 := by rw [← eM4, nX_1 (by decide), nX_1 (by decide), nX_1 (by decide), nX_1 (by decide)]
    have nm4 : nm9_ M4 (a + 1) := ⟨gd_c (by rw [f4r 70 (by decide), x70]) hE1.1, by rw [f4r 70 (by decide)]; exact hk1'⟩
    have d4 : ∀ u, DCL M4 (M 1 18) u ↔ DCL M (M 1 18) u := fun u => DCL_c (f4r _ (by decide)) (f4r _ (by decide)) (f4r _ (by decide)) (f4r _ (by decide))
    have c4 : b = 0 → j = M4 124 (M4 1 18) ∧ j < 8 := fun hb => by rw [f18, f4r 124 (by decide)]; have := hcnt hb; omega
    have qs4v : QPb N (q1_ (vB_ b N4 j (a + 1))) := QPb_tr (PHF_Q p4) (QPb_tr QPb_vB QPb_q1)
    have xs4 : XPb M (o1_ M4) := XPb_tr (PHF_X p4) XPb_o1
    have toQ4 : ∀ {G : Int → mm_ → Prop} {Qtq : qt_}, (∀ V' : vv_, Cl_ wd0 (Tr_ wd0 pg0 (dq + 17)) V' (ri_ G) Qtq m_253 → Wk_ V' → (b = 0 → Tr_ wd0 pg0 (dq + 17) 256 [.inr (.inr 6), .inl j, .inl (M 70 (a + 1 + 1 + 1) - 27), .inl 0, .inl (M 71 (a + 1 + 1 + 1))] (q1_ (vB_ b N4 j (a + 1))) (rv_ fun M6 => V' 113 [rr 6, ii j, ii 1, ii (a + 1), ii (M 71 (a + 1 + 1 + 1)), ii (M 70 (a + 1 + 1 + 1) - 27)] [] M6) Qtq) ∧ (b = 1 → V' 113 [rr 6, ii j, ii 1, ii (a + 1), ii (M 71 (a + 1 + 1 + 1)), ii (M 70 (a + 1 + 1 + 1) - 27)] [] (q1_ (vB_ b N4 j (a + 1))))) → q53 dq j N G Qtq := fun hq => toQ3 fun V' hV' hW' => j_241t oT3v oE3v (by rw [w70]; exact ⟨s1, s2⟩) h15 (by
      rw [nx_q1, vB_nx, eN4, w70]
      refine q_227g (ER_goq oE4v) ?_
      rw [if_pos rfl]
      intro _
      have q16 : q1_ (vB_ b N4 j (a + 1)) 6 16 = b := oE4v.2.2.2.2.2.2.2.1
      rcases h01 with hb | hb
      · rw [if_pos (by omega)]; exact (hq V' hV' hW').1 hb
      · rw [if_neg (by omega)]; exact (hq V' hV' hW').2 hb)
    have n16 : q1_ (vB_ b N4 j (a + 1)) 6 16 = b := oE4v.2.2.2.2.2.2.2.1
    refine y_127o (d := 126) (N := N4) H4 nm4 (fun hb => by have := c4 hb; omega) (by decide) (by omega) (fun hov => ?_) (fun hb ov => ?_)
    rotate_left
    · have sp2 : sp_ (bf_ (q1_ (vQ_ b N4 j (a + 1) (M 70 (a + 1 + 1 + 1) - 27) 0)) 2 (M 71 (a + 1 + 1 + 1))) := bf_sp (by rw [q1_6 (by decide), vQ_6]; exact hE4.2.2.2.2.2.2.2.1.trans hb) (by decide)
      have q12 : q1_ (vQ_ b N4 j (a + 1) (M 70 (a + 1 + 1 + 1) - 27) 0) 6 12 = a + 1 + 1 + 1 + 1 := by rw [q1_6 (by decide), vQ_6]; exact hE4.2.2.1
      refine hQ hb _ (XPb_tr xs4 XPb_fl) (fun G Qtq hg => toQ4 fun V' hV' hW' => ⟨fun _ => ?_, fun hb1 => by omega⟩)
      refine j_256o H4 hb (by omega) (by decide) (fun e => absurd ov e) (fun _ => ?_)
      have hq : QPb N (bf_ (q1_ (vQ_ b N4 j (a + 1) (M 70 (a + 1 + 1 + 1) - 27) 0)) 2 (M 71 (a + 1 + 1 + 1))) := by
        refine QPb_tr (PHF_Q p4) (QPb_tr ?_ (QPb_tr QPb_q1 (QF_P bf_QF)))
        exact ⟨fun r hr => vQ_r (fun e => hr (by unfold QPRr; omega)) (fun e => hr (by revert e; unfold vqL QPRr; simp only [List.mem_cons, List.not_mem_nil, or_false]; omega)), fun i _ => by rw [vQ_6]⟩
      refine b_253_113 (Tr_mono _) hV' hW' _ _ _ _ _ _ ?_
      intro _
      rw [if_pos (by have := sp2.2; exact this)]
      have e61 : bf_ (q1_ (vQ_ b N4 j (a + 1) (M 70 (a + 1 + 1 + 1) - 27) 0)) 2 (M 71 (a + 1 + 1 + 1)) 6 61 = M4 1 18 := by rw [bf_6 (by decide) (by decide), q1_6 (by decide), vQ_6]; exact H4.1.1.1.2.1.2.1
      have v18 := H4.1.1.1.2.1.2.2
      refine ⟨by rw [e61]; omega, ?_⟩
      have sp3 : ∀ i v, sp_ (up_ (bf_ (q1_ (vQ_ b N4 j (a + 1) (M 70 (a + 1 + 1 + 1) - 27) 0)) 2 (M 71 (a + 1 + 1 + 1))) 170 i v) := fun i v => sp_up (by decide) sp2
      refine q_242s (sp3 _ _) (q53_s hV' hW' (sp3 _ _) fun v => hg v _ ⟨sp3 _ _, ?_, ?_, ?_, QPb_tr hq ⟨fun r hr => up_ne (fun e => hr (by unfold QPRr; omega)), fun i _ => by rw [up_ne (by decide)]⟩⟩)
      · unfold in9_; rw [up_ne (by decide), bf_6 (by decide) (by decide), q12]; omega
      · rw [up_ne (by decide)]; unfold bf_ flX_; rw [up_off (by decide), up_at, up_off (by decide), up_at]
      · refine ⟨?_, fl_b7 (by assumption)⟩; rw [up_ne (by decide)]; unfold bf_ flX_; rw [up_at, up_at, o1_r (by decide), f4r 71 (by decide)]
    obtain ⟨F5, N5, H6, p6, cn6, r6, dc6, n50, n51⟩ := pa_end (s := M 70 (a + 1 + 1 + 1) - 28) (j := j) (t := a + 1) H4 nm4 (by omega) (fun hb u hu => by rw [f18, d4] at hu; have := h.2.2.1 hb u hu; omega) (by omega) (fun hb => by rw [f18, f4r 124 (by decide), f4q hb 170 (by decide)]; exact hcnt hb) hov (by omega) (by rw [m17]; omega)
    rw [show M 70 (a + 1 + 1 + 1) - 28 + 1 = M 70 (a + 1 + 1 + 1) - 27 by omega] at n50
    rw [f18, f4r 126 (by decide)] at cn6
    rw [f18] at dc6 n50
    refine pa_main hV hW (l_296 hV hW n) hn ha (by omega) h01 (fun dm hd => by rw [eS dm hd, tS_e k2' h14, Option.bind_some, hk4, Option.bind_some]) dm1 hS hK hQ H6 (PHFx_on (PHFx_tr (PHFx_w p4) p6) (fun _ v hv => by rw [hv.2, hE.2.1]; omega) (fun hb v hv => by omega)) cn6 (r6.trans (f4r 70 (by decide))) dc6 (fun G Qtq hq => toQ4 fun V' hV' hW' => ⟨fun hb => ?_, fun hb => ?_⟩)
    · refine j_256o H4 hb (by omega) (by decide) (fun _ => ?_) (fun e => absurd e (hov hb))
      have v61 : q1_ (vQ_ b N4 j (a + 1) (M 70 (a + 1 + 1 + 1) - 27) 0) 6 61 = M 1 18 := by rw [q1_6 (by decide), vQ_6, H4.1.1.1.2.1.2.1, f18]
      have v16 : q1_ (vQ_ b N4 j (a + 1) (M 70 (a + 1 + 1 + 1) - 27) 0) 6 16 = 0 := by rw [q1_6 (by decide), vQ_6]; exact hE4.2.2.2.2.2.2.2.1.trans hb
      have n50' := n50 hb
      generalize vQ_ b N4 j (a + 1) (M 70 (a + 1 + 1 + 1) - 27) 0 = N6 at *
      refine b_253_113 (Tr_mono _) hV' hW' _ _ _ _ _ _ ?_
      intro _
      rw [if_pos v16, v61, w32_id (x := j + 1) (by omega) (by omega), up_q1 (by decide)]
      have := hq V' hV' hW'
      rw [w32_id (x := j + 1) (by omega) (by omega), n50'] at this
      exact ⟨by have := h.1.1.1.2.1.2.2; omega, this⟩
    · have ev : vB_ b N4 j (a + 1) = N5 := by rw [n51 hb]; unfold vB_; rw [if_neg (by omega)]
      rw [ev] at n16 ⊢
      refine b_253_113 (Tr_mono _) hV' hW' _ _ _ _ _ _ ?_
      intro _
      rw [if_neg (by omega)]
      exact hq V' hV' hW'
end PL2
end T236_pr

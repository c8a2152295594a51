section T137_rg
/-! a range of numbers -/
section RG
variable {d dq n : Nat} {b F : Int} {Mx Mq Mx1 Mq1 M N : mm_} {a a1 o x dd lo hi : Int} {K : Int → mm_ → Prop} {Kv G : mm_ → Prop} {Qt : qt_} {V : vv_}
theorem GN_XF [Inhabited gh_] (h : GN Mx Mq Mx1 Mq1) : XF Mx Mx1 ∧ QN Mq Mq1 := ⟨⟨fun r hr => h.1.1 r (fun e => hr (by rw [e]; decide)), fun i h3 _ _ _ _ => h.1.2 i h3, fun i _ => by rw [h.1.1 5 (by decide)]⟩, ⟨h.2.1, fun i h1 _ _ => h.2.2 i h1⟩⟩
theorem nt_nn [Inhabited gh_] {x y k p : Int} (h16 : M 6 16 = b) (h01 : b = 0 ∨ b = 1) (hk : k = if x = y then 5 else 0) : (if x = y then nt_ M 5 p else M) = Qn_ M b k p := by
  unfold Qn_
  by_cases c : x = y
  · rw [if_pos c] at hk ⊢
    rcases h01 with hb | hb
    · rw [if_pos (.inl hb)]; unfold nt_; rw [if_pos (by omega)]
    · rw [if_neg (by omega), hk]
  · rw [if_neg c] at hk ⊢
    rw [if_pos (.inr hk)]
/-- the end: two words, a range kept -/
theorem l_164e [Inhabited gh_] {Nq Mx2 : mm_} {a2 lo hi : Int} (hE2 : ER b F Mx2 Nq a2 o) (h2 : Mx2 1 2 = 5) (hst : Mx2 5 3 + 2 ≤ 9 * a2 + 1000) (hx : XF Mx Mx2) (hN : QN Mq Nq) (h53 : Mx2 5 = Mx 5) (h142 : Mx2 142 = Mx 142) (ha : a < a2) (h7 : Mx 1 7 ≤ Mx2 1 7 ∧ Mx2 1 7 ≤ Mx 1 7 + 2) (h13 : b = 1 → Nq 6 13 = 0 → Mq 6 13 = 0)
    (hK : ∀ Mx' Mq', RR b F Mx Mq Mx' Mq' a a2 o dd lo hi → Mq' = rgM_ Nq dd lo hi → Kv Mx') : Tr_ wd0 pg0 (d + 2) 138 [.inr (.inr 1), .inl lo] Mx2 (rv_ fun M6 => Tr_ wd0 pg0 (d + 2) 138 [.inr (.inr 1), .inl hi] M6 (rv_ fun M7 => rv_ Kv [] M7) Qt) Qt := by
  have h01 := bl01 hE2
  obtain ⟨P1, P2, P3, P4, P5, P6⟩ := PX2 (M := Mx2) hE2.2.2.2.2.2.2.1 h01 lo hi
  have Ea := ER_pX (v := lo) hE2 (by omega)
  have pa53 : pX_ Mx2 lo 5 3 ≤ Mx2 5 3 + 1 := by
    unfold pX_; split
    · omega
    · rw [up_at]; omega
  have Eb := ER_pX (v := hi) Ea (by omega)
  refine x_138 h2 (ER_st hE2).1 (ER_st hE2).2 (x_138 (by rw [pX_1]; exact h2) (ER_st Ea).1 (ER_st Ea).2 (rv_i ?_))
  refine hK _ (rgM_ Nq dd lo hi) ⟨ha, ER_Q Eb (rgM_6 (by decide)) (rgM_6 (by decide)) (rgM_6 (by decide)) (rgM_6 (by decide)) (rgM_6 (by decide)), XF_tr hx P1, ⟨Nq, hN, rfl⟩, by rw [P3, h53], fun i hi => by rw [P4 i (by rw [h53]; exact hi), h142], fun hb => by have := P5 hb; rw [h53] at this; exact this, by rw [P2]; exact h7, fun hb h0 => h13 hb (by rw [rgM_6 (by decide)] at h0; exact h0)⟩ rfl
theorem y_164n [Inhabited gh_] {x1 : Int} (hT : Tks Mx Mq) (hVT : VT Mx Mq) (hE : ER b F Mx Mq a o) (hk : Mx 70 a ≠ 31 ∧ Mx 70 a ≠ 32) (hS : b = 1 → rgS (Mx 70) a ≠ none) (hd : 0 ≤ dd ∧ dd < 14) (h90 : 0 ≤ Mq 6 90 ∧ Mq 6 90 < 1300) (hl : Mq 222 dd < 1300) (hc : 0 ≤ Mq 220 dd ∧ Mq 220 dd < 1300) (hx1 : b = 1 → Mq 223 dd = x1 + 1) (hfl : Mx 1 7 + 2 + 8 * (1201 - a) ≤ 1000001000 - (gg_ : Int)) (hst : Mx 5 3 + 2 ≤ 9 * a + 1000)
    (hK : ∀ Mx' Mq' a' lo hi, RR b F Mx Mq Mx' Mq' a a' o dd lo hi → rgS (Mx 70) a = some a' → (∀ (Kv : mm_ → Prop) (Qtq : qt_), Kv Mq' → Tr_ wd0 pg0 (dq + 5) 293 [.inr (.inr 6), .inl dd, .inl (Mx 71 a)] Mq (rv_ Kv) Qtq) → Kv Mx')
    (hQ : b = 0 → ∀ Mx', XF Mx Mx' → (∀ (Kv : mm_ → Prop) (Qtq : qt_), (∀ M', SQ Mx' Mq M' → Kv M') → Tr_ wd0 pg0 (dq + 5) 293 [.inr (.inr 6), .inl dd, .inl (Mx 71 a)] Mq (rv_ Kv) Qtq) → Qt 8 Mx') :
    Tr_ wd0 pg0 (d + 6) 164 [.inr (.inr 1), .inl x1] Mx (rv_ Kv) Qt := by
  have h01 := bl01 hE
  have e3 := hE.2.1
  have ha := ER_a hE
  have hpa := tk_p hT hE.1
  have eS : rgS (Mx 70) a = (boS (Mx 70) a).bind fun a1 => if Mx 70 a1 = 115 then (gS a1).bind (boS (Mx 70)) else some a1 := by unfold rgS; rw [if_neg (by omega)]
  rw [eS] at hS hK
  refine t_164 fun V hV hW => b_164_0 (Tr_mono _) hV hW _ _ ?_
  refine y_103 hE (fun e => absurd e hk.1) (fun _ => ?_)
  rw [if_pos rfl]
  refine y_103 hE (fun e => absurd e hk.2) (fun _ => ?_)
  rw [if_pos rfl, e3]
  have pre0 : ∀ (Kv : mm_ → Prop) (Qtq : qt_), (∀ V : vv_, Cl_ wd0 (Tr_ wd0 pg0 (dq + 4)) V (rv_ Kv) Qtq m_293 → Wk_ V → Tr_ wd0 pg0 (dq + 4) 294 [.inr (.inr 6)] Mq (ri_ fun v4 M4 => (0 ≤ dd ∧ dd < 14) ∧ (if M4 223 dd = 2 then Tr_ wd0 pg0 (dq + 4) 236 [.inr (.inr 6), .inl 5, .inl (Mx 71 a)] M4 (rv_ fun M5 => V 83 [rr 6, ii dd, ii (Mx 71 a), ii v4, ii v4, none] [] M5) Qtq else V 83 [rr 6, ii dd, ii (Mx 71 a), ii v4, ii v4, none] [] M4)) Qtq) → Tr_ wd0 pg0 (dq + 5) 293 [.inr (.inr 6), .inl dd, .inl (Mx 71 a)] Mq (rv_ Kv) Qtq := by
    intro Kv Qtq hq
    refine t_293 fun V hV hW => b_293_0 (Tr_mono _) hV hW _ _ _ (j_229f hT hE (by decide) hk.1 ?_)
    rw [if_pos rfl]
    refine j_229f hT hE (by decide) hk.2 ?_
    rw [if_pos rfl]
    exact hq V hV hW
  have stop : ∀ {Mx' M' : mm_} (hsp : SQ Mx' Mq M') (Kv : mm_ → Prop) (Qtq : qt_) (V : vv_) (hV : Cl_ wd0 (Tr_ wd0 pg0 (dq + 4)) V (rv_ Kv) Qtq m_293) (hW : Wk_ V) (x y : Int) (hk9 : ∀ M', SQ Mx' Mq M' → Kv M'), V 83 [rr 6, ii dd, ii (Mx 71 a), ii x, ii y, none] [] M' := by
    intro Mx' M' hsp Kv Qtq V hV hW x y hk9
    refine b_293_83 (Tr_mono _) hV hW _ _ _ _ _ (q_242s hsp.1 ?_)
    rw [if_pos rfl]
    exact q_293s hV hW hsp.1 (hk9 _ hsp)
  refine y_165 (dq := dq) hT hE (fun hb => by intro e; have := hS hb; rw [e] at this; exact this rfl) (fun Mx1 Mq1 a1 lo hGN hT1 hE1 ha1 hbo hlo hq1 => ?_) (fun hb Mx' hx hq => ?_)
  rotate_left
  · refine hQ hb Mx' hx fun Kv Qtq hk9 => pre0 _ _ fun V hV hW => hq _ _ fun v M' hsp => ⟨hd, ?_⟩
    split
    · refine q_236 ?_
      rw [nt_s hsp.1]; exact stop hsp Kv Qtq V hV hW _ _ hk9
    · exact stop hsp Kv Qtq V hV hW _ _ hk9
  rw [hbo, Option.bind_some] at hS hK
  obtain ⟨gx, gq⟩ := GN_XF hGN
  have h71 : Mx1 71 = Mx 71 := hGN.1.1 71 (by decide)
  have h70 : Mx1 70 = Mx 70 := hGN.1.1 70 (by decide)
  have h17 : Mx1 1 7 = Mx 1 7 := hGN.1.2 7 (by decide)
  obtain ⟨kk, hkk⟩ : ∃ kk : Int, kk = if x1 = 1 then 5 else 0 := ⟨_, rfl⟩
  have hkc : kk = 0 ∨ (3 ≤ kk ∧ kk ≤ 6) := by rw [hkk]; split <;> omega
  obtain ⟨E1, E2, E3⟩ := ER_m (k := kk) (tk := a) hE1 hkc (by rw [h71]; exact hpa) (by omega)
  rw [h71] at E1 E3
  have pre1 : ∀ (Kv : mm_ → Prop) (Qtq : qt_), (∀ V : vv_, Cl_ wd0 (Tr_ wd0 pg0 (dq + 4)) V (rv_ Kv) Qtq m_293 → Wk_ V → V 83 [rr 6, ii dd, ii (Mx 71 a), ii lo, ii lo, none] [] (Qn_ Mq1 b kk (Mx 71 a))) → Tr_ wd0 pg0 (dq + 5) 293 [.inr (.inr 6), .inl dd, .inl (Mx 71 a)] Mq (rv_ Kv) Qtq := by
    intro Kv Qtq hq
    refine pre0 _ _ fun V hV hW => hq1 _ _ ⟨hd, ?_⟩
    have := hq V hV hW
    have e223 : Mq1 223 dd = Mq 223 dd := by rw [hGN.2.1 223 (by decide)]
    rw [e223]
    rcases h01 with hb | hb
    · have e0 : Qn_ Mq1 b kk (Mx 71 a) = Mq1 := by unfold Qn_; rw [if_pos (.inl hb)]
      rw [e0] at this
      split
      · refine q_236 ?_
        have e1 : nt_ Mq1 5 (Mx 71 a) = Mq1 := by unfold nt_; rw [if_pos (by rw [hE1.2.2.2.2.2.2.2.1]; exact hb)]
        rw [e1]; exact this
      · exact this
    · have hx := hx1 hb
      have hk2 : kk = if Mq 223 dd = 2 then (5 : Int) else 0 := by
        rw [hkk]
        by_cases c : x1 = 1
        · rw [if_pos c, if_pos (by omega)]
        · rw [if_neg c, if_neg (by omega)]
      rw [← nt_nn (M := Mq1) (p := Mx 71 a) hE1.2.2.2.2.2.2.2.1 (.inr hb) hk2] at this
      by_cases c : Mq 223 dd = 2
      · rw [if_pos c] at this ⊢; exact q_236 this
      · rw [if_neg c] at this ⊢; exact this
  -- X behind its note
  have X107 : V 107 [rr 1, ii x1, ii a, ii lo, ii lo, none] [] (Xn_ Mx1 b kk a) := by
    have x70 : Xn_ Mx1 b kk a 70 = Mx 70 := by rw [Xn_r (by decide)]; exact h70
    have x71 : Xn_ Mx1 b kk a 71 = Mx 71 := by rw [Xn_r (by decide)]; exact h71
    have x5 : Xn_ Mx1 b kk a 5 = Mx 5 := by rw [Xn_r (by decide)]; exact hGN.1.1 5 (by decide)
    have x142 : Xn_ Mx1 b kk a 142 = Mx 142 := by rw [Xn_r (by decide)]; exact hGN.1.1 142 (by decide)
    have x12 : Xn_ Mx1 b kk a 1 2 = 5 := by rw [Xn_1 (by decide) (by decide) (by decide), hGN.1.2 2 (by decide)]; exact hVT.1
    have hx2 : XF Mx (Xn_ Mx1 b kk a) := XF_tr gx Xn_XF
    have hq2 : QN Mq (Qn_ Mq1 b kk (Mx 71 a)) := QN_tr gq QN_Qn
    have q13 : b = 1 → Qn_ Mq1 b kk (Mx 71 a) 6 13 = 0 → Mq 6 13 = 0 := fun hb h0 => by
      have := (E3 hb h0).2
      rw [hGN.2.2 13 (by decide)] at this; exact this
    have hT2 : Tks (Xn_ Mx1 b kk a) (Qn_ Mq1 b kk (Mx 71 a)) := Tks_c Xn_XF Qn_QF hT1
    generalize hX2 : Xn_ Mx1 b kk a = Mx2 at *
    generalize hQ2 : Qn_ Mq1 b kk (Mx 71 a) = Mq2 at *
    have kept : ∀ {Nq : mm_} {lo hi : Int} (Kv : mm_ → Prop) (Qtq : qt_) (V : vv_) (hV : Cl_ wd0 (Tr_ wd0 pg0 (dq + 4)) V (rv_ Kv) Qtq m_293) (hW : Wk_ V), QN Mq Nq → go_ Nq → Kv (rgM_ Nq dd lo hi) → V 124 [rr 6, ii dd, ii (Mx 71 a), ii lo, ii hi, none] [] Nq := fun Kv Qtq V hV hW hN hg hk => q_293e hV hW hg hd (by rw [hN.2 90 (by decide) (by decide) (by decide)]; exact h90) (by rw [hN.1 222 (by decide)]; exact hl) (by rw [hN.1 220 (by decide)]; exact hc) hk
    refine b_164_107 (Tr_mono _) hV hW _ _ _ _ _ ?_
    refine y_103 E1 (fun k1 => ?_) (fun k1 => ?_)
    · -- dots
      rw [if_neg (by decide)]
      have k1' : Mx 70 a1 = 115 := by rw [← x70]; exact k1
      rw [if_pos k1'] at hS hK
      refine y_105 E1 (by rw [x70]; omega) (fun hb => by intro e; have := hS hb; rw [e] at this; exact this rfl) (fun h12 E4 => ?_) (fun hb h12 => ?_)
      rotate_left
      · have hsp := SQ_bf E1 hb (k := 2) (by decide) (QF_QA (QN_QF hq2))
        refine hQ hb _ (XF_tr hx2 fl_XF) fun Kv Qtq hk9 => pre1 _ _ fun V hV hW => b_293_83 (Tr_mono _) hV hW _ _ _ _ _ (j_242r hT2 E1 hb (by decide) k1 h12 ?_)
        rw [if_neg (by decide)]
        refine ⟨hsp.2.1, t_294 fun V2 hV2 hW2 => b_294_0 (Tr_mono _) hV2 hW2 _ (q_242s hsp.1 (q_249s hsp.1 ?_))⟩
        rw [if_pos rfl]
        refine ri_i ?_
        split
        · exact q_293s hV hW hsp.1 (hk9 _ hsp)
        · refine q_236 ?_
          rw [nt_s hsp.1]; exact q_293s hV hW hsp.1 (hk9 _ hsp)
      rw [gS_e h12, Option.bind_some] at hS hK
      have hT4 : Tks (nX_ Mx2) (nx_ Mq2) := Tks_c nX_XF nx_QF hT2
      have y70 : nX_ Mx2 70 = Mx 70 := by rw [nX_ne (by decide)]; exact x70
      have y71 : nX_ Mx2 71 = Mx 71 := by rw [nX_ne (by decide)]; exact x71
      have hga4 := E4.1
      have hp4 := tk_p hT4 hga4
      have p4 : nx_ Mq2 150 (nx_ Mq2 6 12) = nX_ Mx2 71 (a1 + 1) := (ER_k hT4 E4).2.1
      have pre2 : ∀ (Kv : mm_ → Prop) (Qtq : qt_), (∀ V : vv_, Cl_ wd0 (Tr_ wd0 pg0 (dq + 4)) V (rv_ Kv) Qtq m_293 → Wk_ V → Tr_ wd0 pg0 (dq + 4) 294 [.inr (.inr 6)] (nx_ Mq2) (ri_ fun v2 M2 => (if lo ≤ v2 then V 124 [rr 6, ii dd, ii (Mx 71 a), ii lo, ii v2, none] [] M2 else Tr_ wd0 pg0 (dq + 4) 236 [.inr (.inr 6), .inl 6, .inl (Mx 71 (a1 + 1))] M2 (rv_ fun M3 => V 124 [rr 6, ii dd, ii (Mx 71 a), ii lo, ii v2, none] [] M3) Qtq)) Qtq) → Tr_ wd0 pg0 (dq + 5) 293 [.inr (.inr 6), .inl dd, .inl (Mx 71 a)] Mq (rv_ Kv) Qtq := by
        intro Kv Qtq hq
        refine pre1 _ _ fun V hV hW => b_293_83 (Tr_mono _) hV hW _ _ _ _ _ (j_242t hT2 E1 (by decide) k1 h12 ?_)
        rw [if_neg (by decide), p4, y71]
        exact ⟨(ER_k hT4 E4).2.2.1, hq V hV hW⟩
      rw [E4.2.1]
      refine y_165 (dq := dq) hT4 E4 (fun hb => by rw [y70]; exact hS hb) (fun Mx5 Mq5 a5 hi hGN5 hT5 hE5 ha5 hbo5 hhi hq5 => ?_) (fun hb Mx' hx hq => ?_)
      rotate_left
      · refine hQ hb Mx' (XF_tr hx2 (XF_tr nX_XF hx)) fun Kv Qtq hk9 => pre2 _ _ fun V hV hW => hq _ _ fun v M' hsp => ?_
        have hsp' : SQ Mx' Mq M' := SQ_q (QF_QA (QN_QF (QN_tr hq2 QN_nx))) hsp
        split
        · exact q_293s hV hW hsp.1 (hk9 _ hsp')
        · refine q_236 ?_
          rw [nt_s hsp.1]; exact q_293s hV hW hsp.1 (hk9 _ hsp')
      rw [y70] at hbo5
      rw [hbo5] at hK
      obtain ⟨gx5, gq5⟩ := GN_XF hGN5
      have z71 : Mx5 71 = Mx 71 := by rw [hGN5.1.1 71 (by decide)]; exact y71
      obtain ⟨k6, hk6⟩ : ∃ k6 : Int, k6 = if hi < lo then 6 else 0 := ⟨_, rfl⟩
      have hkc6 : k6 = 0 ∨ (3 ≤ k6 ∧ k6 ≤ 6) := by rw [hk6]; split <;> omega
      have f5 : Mx5 1 7 = Mx2 1 7 := by rw [hGN5.1.2 7 (by decide), nX_1 (by decide)]
      obtain ⟨D1, D2, D3⟩ := ER_m (k := k6) (tk := a1 + 1) hE5 hkc6 (by rw [z71]; rw [y71] at hp4; exact hp4) (by omega)
      rw [z71] at D1 D3
      have fin : Tr_ wd0 pg0 (d + 5) 138 [.inr (.inr 1), .inl lo] (Xn_ Mx5 b k6 (a1 + 1)) (rv_ fun M6 => Tr_ wd0 pg0 (d + 5) 138 [.inr (.inr 1), .inl hi] M6 (rv_ fun M7 => rv_ Kv [] M7) Qt) Qt := by
        refine l_164e (d := d + 3) (Mx := Mx) (Mq := Mq) (a := a) (dd := dd) D1 ?_ ?_ (XF_tr hx2 (XF_tr nX_XF (XF_tr gx5 Xn_XF))) (QN_tr hq2 (QN_tr QN_nx (QN_tr gq5 QN_Qn))) ?_ ?_ (by omega) (by omega) (fun hb h0 => ?_) (fun Mx' Mq' hR eq => hK Mx' Mq' a5 lo hi hR rfl fun Kv Qtq hk9 => pre2 _ _ fun V hV hW => hq5 _ _ ?_)
        · rw [Xn_1 (by decide) (by decide) (by decide), hGN5.1.2 2 (by decide), nX_1 (by decide)]; exact x12
        · rw [Xn_r (by decide), hGN5.1.1 5 (by decide), nX_ne (by decide), x5]; omega
        · rw [Xn_r (by decide), hGN5.1.1 5 (by decide), nX_ne (by decide), x5]
        · rw [Xn_r (by decide), hGN5.1.1 142 (by decide), nX_ne (by decide), x142]
        · have := (D3 hb h0).2
          rw [hGN5.2.2 13 (by decide), nx_6 (by decide)] at this
          exact q13 hb this
        · rw [eq] at hk9
          have QNf : QN Mq (Qn_ Mq5 b k6 (Mx 71 (a1 + 1))) := QN_tr hq2 (QN_tr QN_nx (QN_tr gq5 QN_Qn))
          have kp := kept (lo := lo) (hi := hi) Kv Qtq V hV hW QNf (ER_goq D1) hk9
          by_cases c : lo ≤ hi
          · rw [if_pos c]
            have e0 : Qn_ Mq5 b k6 (Mx 71 (a1 + 1)) = Mq5 := by unfold Qn_; rw [if_pos (.inr (by rw [hk6, if_neg (by omega)]))]
            rw [e0] at kp; exact kp
          · rw [if_neg c]
            refine q_236 ?_
            have e0 : Qn_ Mq5 b k6 (Mx 71 (a1 + 1)) = nt_ Mq5 6 (Mx 71 (a1 + 1)) := by
              rw [if_pos (by omega)] at hk6
              unfold Qn_
              rcases h01 with hb | hb
              · rw [if_pos (.inl hb)]; unfold nt_; rw [if_pos (by rw [hE5.2.2.2.2.2.2.2.1]; exact hb)]
              · rw [if_neg (by omega), hk6]
            rw [e0] at kp; exact kp
      intro _
      unfold Xn_ at fin
      have z8 : Mx5 1 8 = b := hE5.2.2.2.2.2.2.1
      by_cases c : Mx5 1 8 = 0
      · rw [if_pos c]; rw [if_pos (.inl (by omega))] at fin; exact fin
      · rw [if_neg c]
        by_cases c2 : hi < lo
        · rw [if_pos c2]
          rw [if_pos c2] at hk6
          rw [if_neg (by omega), hk6] at fin
          exact x_116 hga4.1 (by have := hga4.2.1; omega) (ER_fl hE5).1 (ER_fl hE5).2 fin
        · rw [if_neg c2]
          rw [if_neg c2] at hk6
          rw [if_pos (.inr hk6)] at fin; exact fin
    · rw [if_pos rfl]
      have k1' : Mx 70 a1 ≠ 115 := by rw [← x70]; exact k1
      rw [if_neg k1'] at hS hK
      refine l_164e (d := d + 3) (Mx := Mx) (Mq := Mq) (a := a) (dd := dd) E1 x12 (by rw [x5]; omega) hx2 hq2 x5 x142 (by omega) (by omega) q13 (fun Mx' Mq' hR eq => hK Mx' Mq' a1 lo lo hR rfl fun Kv Qtq hk9 => pre1 _ _ fun V hV hW => b_293_83 (Tr_mono _) hV hW _ _ _ _ _ (j_242f hT2 E1 (by decide) k1 ?_))
      rw [if_pos rfl]
      rw [eq] at hk9
      exact kept Kv Qtq V hV hW hq2 (ER_goq E1) hk9
  intro _
  unfold Xn_ at X107
  have z8 : Mx1 1 8 = b := hE1.2.2.2.2.2.2.1
  by_cases c : Mx1 1 8 = 0
  · rw [if_pos c]; rw [if_pos (.inl (by omega))] at X107; exact X107
  · rw [if_neg c]
    by_cases c2 : x1 = 1
    · rw [if_pos c2]
      rw [if_pos c2] at hkk
      rw [if_neg (by omega), hkk] at X107
      exact x_116 ha.1 (by omega) (ER_fl hE1).1 (ER_fl hE1).2 X107
    · rw [if_neg c2]
      rw [if_neg c2] at hkk
      rw [if_pos (.inr hkk)] at X107; exact X107
end RG
end T137_rg
section T138_dc
/-! within a decide: small steps seen from its start -/
def qdL : List Nat := [6, 203, 204, 205, 206, 207, 208, 209, 210, 216, 217, 218, 219, 220, 221, 222, 223, 224, 225, 226, 227, 228, 229, 230, 231, 232, 233, 234]
def qdI : List Int := [12, 13, 14, 15, 75, 90, 102, 103, 104, 107, 108, 109, 112, 116, 118]
def QD (M M' : mm_) : Prop := Fr_ qdL M M' ∧ ∀ i : Int, i ∉ qdI → M' 6 i = M 6 i
theorem QD_rf [Inhabited gh_] {M : mm_} : QD M M := ⟨Fr_rf, fun _ _ => rfl⟩
theorem QD_tr [Inhabited gh_] {M M1 M2 : mm_} (h1 : QD M M1) (h2 : QD M1 M2) : QD M M2 := ⟨Fr_tr h1.1 h2.1, fun i a => (h2.2 i a).trans (h1.2 i a)⟩
theorem QD_u6 [Inhabited gh_] {M : mm_} {i v : Int} (h : i ∈ qdI) : QD M (up_ M 6 i v) := ⟨Fr_up Fr_rf (by decide), fun j hj => by rw [up_off (nm_i hj h)]⟩
theorem QD_ur [Inhabited gh_] {M : mm_} {r : Nat} {i v : Int} (h : r ∈ qdL) (h6 : r ≠ 6) : QD M (up_ M r i v) := ⟨Fr_up Fr_rf h, fun j hj => by rw [up_ne (fun e => h6 e.symm)]⟩
theorem QC_QD [Inhabited gh_] {M M' : mm_} (h : QC M M') : QD M M' := ⟨Fr_sub h.1 (by decide), fun i hi => h.2 i (fun e => hi (by revert e; unfold qcI qdI; simp only [List.mem_cons, List.not_mem_nil, or_false]; omega))⟩
theorem QD_QA [Inhabited gh_] {M M' : mm_} (h : QD M M') : QA M M' := ⟨Fr_sub h.1 (by decide), fun i hi => h.2 i (fun e => hi (by revert e; unfold qdI qaI; simp only [List.mem_cons, List.not_mem_nil, or_false]; omega))⟩
/-- cells of the base are kept -/
def KB (Mx Mq M N M' N' : mm_) : Prop := (∀ i, 0 ≤ i → i < Mx 5 3 → M' 142 i = M 142 i) ∧ (∀ r i, r ∈ opL → 0 ≤ i → i < Mq 6 75 → N' r i = N r i) ∧ (∀ i, 0 ≤ i → i < 3 * Mq 6 75 → N' 209 i = N 209 i) ∧ (∀ i, 0 ≤ i → i < Mq 6 104 → N' 227 i = N 227 i ∧ N' 228 i = N 228 i) ∧ (∀ r i, r ∈ rgR → 0 ≤ i → i < Mq 6 90 → N' r i = N r i) ∧ (∀ r i, r ∈ dsR → 0 ≤ i → i < Mq 6 102 → N' r i = N r i)
theorem KB_rf [Inhabited gh_] {Mx Mq M N : mm_} : KB Mx Mq M N M N := ⟨fun _ _ _ => rfl, fun _ _ _ _ _ => rfl, fun _ _ _ => rfl, fun _ _ _ => ⟨rfl, rfl⟩, fun _ _ _ _ _ => rfl, fun _ _ _ _ _ => rfl⟩
theorem KB_tr [Inhabited gh_] {Mx Mq M N M1 N1 M2 N2 : mm_} (h1 : KB Mx Mq M N M1 N1) (h2 : KB Mx Mq M1 N1 M2 N2) : KB Mx Mq M N M2 N2 := ⟨fun i a b => (h2.1 i a b).trans (h1.1 i a b), fun r i hr a b => (h2.2.1 r i hr a b).trans (h1.2.1 r i hr a b), fun i a b => (h2.2.2.1 i a b).trans (h1.2.2.1 i a b), fun i a b => ⟨(h2.2.2.2.1 i a b).1.trans (h1.2.2.2.1 i a b).1, (h2.2.2.2.1 i a b).2.trans (h1.2.2.2.1 i a b).2⟩, fun r i hr a b => (h2.2.2.2.2.1 r i hr a b).trans (h1.2.2.2.2.1 r i hr a b), fun r i hr a b => (h2.2.2.2.2.2 r i hr a b).trans (h1.2.2.2.2.2 r i hr a b)⟩
/-- from the start of a decide on: as PRC, its own row of the decides aside -/
def PRD [Inhabited gh_] (b F F' : Int) (Mx Mq M N : mm_) (a a' o o' me : Int) : Prop := PRC b F F' Mx Mq M (up_ N 6 102 (Mq 6 102)) a a' o o' me
section PD
variable {b F F' F2 : Int} {Mx Mq M N M' N' M1 N1 : mm_} {a a' a1 o o' o1 me e : Int}
theorem ER_102 [Inhabited gh_] {v : Int} (h : ER b F M N a o) : ER b F M (up_ N 6 102 v) a o := ER_Q h (up_off (by decide)) (up_off (by decide)) (up_off (by decide)) (up_off (by decide)) (up_off (by decide))
theorem ER_102' [Inhabited gh_] {v : Int} (h : ER b F M (up_ N 6 102 v) a o) : ER b F M N a o := ER_Q h (up_off (by decide)).symm (up_off (by decide)).symm (up_off (by decide)).symm (up_off (by decide)).symm (up_off (by decide)).symm
theorem PRD_E [Inhabited gh_] (h : PRD b F F' Mx Mq M N a a1 o o1 me) : ER b F' M N a1 o1 := ER_102' h.2.1
theorem PRD_X [Inhabited gh_] (h : PRD b F F' Mx Mq M N a a1 o o1 me) : XA Mx M := h.2.2.1.1
theorem PRD_Q [Inhabited gh_] (h : PRD b F F' Mx Mq M N a a1 o o1 me) : QA Mq N := by
  have := h.2.2.1.2
  exact ⟨fun r hr => by have q := this.1 r hr; rw [up_ne (fun e => hr (by rw [e]; decide))] at q; exact q, fun i hi => by have q := this.2 i hi; rw [up_off (nm_i hi (by decide))] at q; exact q⟩
theorem PRC_D [Inhabited gh_] (h : PRC b F F' Mx Mq M N a a1 o o1 me) : PRD b F F' Mx Mq M N a a1 o o1 me := by
  unfold PRD
  have e : up_ N 6 102 (Mq 6 102) = N := by
    funext r i
    by_cases c : r = 6
    · subst c
      by_cases ci : i = 102
      · rw [ci, up_at]; exact h.2.2.2.1.1.2.2.2.2.2.2.symm
      · rw [up_off ci]
    · rw [up_ne c]
  rw [e]; exact h
theorem PRD_C [Inhabited gh_] (h : PRD b F F' Mx Mq M N a a1 o o1 me) (h102 : N 6 102 = Mq 6 102) : PRC b F F' Mx Mq M N a a1 o o1 me := by
  unfold PRD at h
  have e : up_ N 6 102 (Mq 6 102) = N := by
    funext r i
    by_cases c : r = 6
    · subst c
      by_cases ci : i = 102
      · rw [ci, up_at]; exact h102.symm
      · rw [up_off ci]
    · rw [up_ne c]
  rw [e] at h; exact h
theorem PB_102 [Inhabited gh_] {u v : Int} (h : PB b M N M' N' a a') : PB b M (up_ N 6 102 u) M' (up_ N' 6 102 v) a a' := by
  unfold PB at *
  rw [up_off (by decide), up_off (by decide), up_off (by decide), up_off (by decide), up_off (by decide), up_off (by decide)]; exact h
/-- a part within -/
theorem PRC_dp [Inhabited gh_] (he : e ≤ N 6 102) (h : PRC b F F' M N M' N' a a1 o o1 me) : PRC b F F' M (up_ N 6 102 e) M' (up_ N' 6 102 e) a a1 o o1 me := by
  obtain ⟨f1, e1, ⟨x1, q1⟩, ⟨⟨c1, c2, c3, c4, c5, c6, c7⟩, d1, d2, d3, d4⟩, p, l1, m1, t1, t2, t3⟩ := h
  have r6 : ∀ (K : mm_) (r : Nat), r ≠ 6 → up_ K 6 102 e r = K r := fun K r h => up_ne h
  refine ⟨f1, ER_102 e1, ⟨x1, ⟨fun r hr => by rw [r6 _ r (fun e => hr (by rw [e]; decide)), r6 _ r (fun e => hr (by rw [e]; decide))]; exact q1.1 r hr, fun i hi => by rw [up_off (nm_i hi (by decide)), up_off (nm_i hi (by decide))]; exact q1.2 i hi⟩⟩, ⟨⟨c1, fun r i hr a b => ?_, fun i a b => ?_, fun i a b => ?_, fun r i hr a b => ?_, fun r i hr a b => ?_, by rw [up_at, up_at]⟩, d1, fun i hi => ?_, fun i hi => ?_, fun i hi => ?_⟩, PB_102 p, ?_, ?_, t1, t2, fun hb => ?_⟩
  · rw [up_off (by decide)] at b
    have h6 : r ≠ 6 := fun e => absurd hr (by rw [e]; decide)
    rw [r6 _ r h6, r6 _ r h6]; exact c2 r i hr a b
  · rw [up_off (by decide)] at b
    rw [r6 _ 209 (by decide), r6 _ 209 (by decide)]; exact c3 i a b
  · rw [up_off (by decide)] at b
    rw [r6 _ 227 (by decide), r6 _ 227 (by decide), r6 _ 228 (by decide), r6 _ 228 (by decide)]; exact c4 i a b
  · rw [up_off (by decide)] at b
    have h6 : r ≠ 6 := fun e => absurd hr (by rw [e]; decide)
    rw [r6 _ r h6, r6 _ r h6]; exact c5 r i hr a b
  · rw [up_at] at b
    have h6 : r ≠ 6 := fun e => absurd hr (by rw [e]; decide)
    rw [r6 _ r h6, r6 _ r h6]; exact c6 r i hr a (by omega)
  · rw [r6 _ 213 (by decide), r6 _ 213 (by decide), r6 _ 214 (by decide), r6 _ 214 (by decide)]; exact d2 i hi
  · rw [r6 _ 175 (by decide), r6 _ 175 (by decide)]; exact d3 i hi
  · rw [r6 _ 180 (by decide), r6 _ 180 (by decide), r6 _ 187 (by decide), r6 _ 187 (by decide), r6 _ 188 (by decide), r6 _ 188 (by decide), r6 _ 189 (by decide), r6 _ 189 (by decide)]; exact d4 i hi
  · unfold LBT LBG lbl9 nm9_ at l1 ⊢
    rw [r6 _ 175 (by decide), r6 _ 180 (by decide), r6 _ 187 (by decide), r6 _ 151 (by decide)]; exact l1
  · unfold MSK at m1 ⊢
    rw [r6 _ 213 (by decide), r6 _ 214 (by decide)]; exact m1
  · rw [r6 _ 175 (by decide), r6 _ 175 (by decide), r6 _ 180 (by decide), r6 _ 180 (by decide), r6 _ 187 (by decide), r6 _ 187 (by decide), r6 _ 189 (by decide)]; exact t3 hb
theorem PRD_tr [Inhabited gh_] (h53 : 0 ≤ Mq 6 75) (hd : Mq 6 102 ≤ N 6 102) (h1 : PRD b F F' Mx Mq M N a a1 o o1 me) (h2 : PRC b F' F2 M N M' N' a1 a' o1 o' me) : PRD b F F2 Mx Mq M' N' a a' o o' me := PRC_tr h53 h1 (PRC_dp hd h2)
/-- a small step -/
theorem PRD_s [Inhabited gh_] (h : PRD b F F' Mx Mq M N a a1 o o1 me) (hE : ER b F' M' N' a' o') (hx : XF M M') (hq : QD N N') (hk : KB Mx Mq M N M' N') (hb : PB b Mx Mq M' N' a a') (ha : a1 ≤ a') : PRD b F F' Mx Mq M' N' a a' o o' me := by
  have hX := PRD_X h
  have hQ := PRD_Q h
  unfold PRD at *
  obtain ⟨f1, e1, ⟨x1, q1⟩, ⟨⟨c1, c2, c3, c4, c5, c6, c7⟩, d1, d2, d3, d4⟩, p, l1, m1, t1, t2, t3⟩ := h
  obtain ⟨k1, k2, k3, k4, k5, k6⟩ := hk
  have r6 : ∀ (K : mm_) (r : Nat), r ≠ 6 → up_ K 6 102 (Mq 6 102) r = K r := fun K r h => up_ne h
  have xr : ∀ r : Nat, r ≠ 1 → r ≠ 5 → r ≠ 142 → M' r = M r := fun r a b c => XF_70 hx a b c
  have i1 : ∀ i : Int, i = 18 ∨ i = 19 ∨ i = 21 ∨ i = 23 ∨ i = 29 → M' 1 i = M 1 i := fun i hi => hx.2.1 i (by omega) (by omega) (by omega) (by omega) (by omega)
  have qr : ∀ r : Nat, r ∉ qdL → N' r = N r := fun r hr => hq.1 r hr
  have lc : lc_ b M' = lc_ b M := by unfold lc_; rw [xr 128 (by decide) (by decide) (by decide), i1 18 (by omega), i1 19 (by omega)]
  have e18 : M 1 18 = Mx 1 18 := hX.2.1 18 (by decide)
  have e29 : M 1 29 = Mx 1 29 := hX.2.1 29 (by decide)
  refine ⟨f1, ER_102 hE, ⟨XA_tr x1 (XF_XA hx), QA_tr hQ (QA_tr (QD_QA hq) (QA_u6 (by decide)))⟩, ⟨⟨fun i a b => (k1 i a b).trans (c1 i a b), fun r i hr a b => ?_, fun i a b => ?_, fun i a b => ?_, fun r i hr a b => ?_, fun r i hr a b => ?_, by rw [up_at]⟩, fun i hi => ?_, fun i hi => ?_, fun i hi => ?_, fun i hi => ?_⟩, by unfold PB at *; rw [up_off (by decide), up_off (by decide), up_off (by decide)]; exact hb, ?_, ?_, by omega, fun hb => by rw [i1 19 (by omega)]; exact t2 hb, fun hb => ?_⟩
  · have h6 : r ≠ 6 := fun e => absurd hr (by rw [e]; decide)
    have q := c2 r i hr a b
    rw [r6 _ r h6] at q ⊢; exact (k2 r i hr a b).trans q
  · have q := c3 i a b
    rw [r6 _ 209 (by decide)] at q ⊢; exact (k3 i a b).trans q
  · have q := c4 i a b
    rw [r6 _ 227 (by decide), r6 _ 228 (by decide)] at q ⊢; exact ⟨(k4 i a b).1.trans q.1, (k4 i a b).2.trans q.2⟩
  · have h6 : r ≠ 6 := fun e => absurd hr (by rw [e]; decide)
    have q := c5 r i hr a b
    rw [r6 _ r h6] at q ⊢; exact (k5 r i hr a b).trans q
  · have h6 : r ≠ 6 := fun e => absurd hr (by rw [e]; decide)
    have q := c6 r i hr a b
    rw [r6 _ r h6] at q ⊢; exact (k6 r i hr a b).trans q
  · rw [xr 63 (by decide) (by decide) (by decide), xr 64 (by decide) (by decide) (by decide), xr 65 (by decide) (by decide) (by decide)]; exact d1 i hi
  · have q := d2 i hi
    rw [r6 _ 213 (by decide), r6 _ 214 (by decide)] at q ⊢
    rw [qr 213 (by decide), qr 214 (by decide)]; exact q
  · have q := d3 i hi
    rw [r6 _ 175 (by decide)] at q ⊢
    rw [xr 128 (by decide) (by decide) (by decide), qr 175 (by decide)]; exact q
  · have q := d4 i hi
    rw [r6 _ 180 (by decide), r6 _ 187 (by decide), r6 _ 188 (by decide), r6 _ 189 (by decide)] at q ⊢
    rw [xr 62 (by decide) (by decide) (by decide), xr 129 (by decide) (by decide) (by decide), qr 180 (by decide), qr 187 (by decide), qr 188 (by decide), qr 189 (by decide)]; exact q
  · refine LBT_c l1 (XF_XA hx) ⟨fun r hr => ?_, fun i hi => ?_⟩ (xr 62 (by decide) (by decide) (by decide)) (xr 128 (by decide) (by decide) (by decide)) ?_ ?_ ?_ ha
    · rw [r6 _ r (fun e => hr (by rw [e]; decide)), r6 _ r (fun e => hr (by rw [e]; decide))]; exact (QD_QA hq).1 r hr
    · rw [up_off (nm_i hi (by decide)), up_off (nm_i hi (by decide))]; exact (QD_QA hq).2 i hi
    · rw [r6 _ 175 (by decide), r6 _ 175 (by decide)]; exact qr 175 (by decide)
    · rw [r6 _ 180 (by decide), r6 _ 180 (by decide)]; exact qr 180 (by decide)
    · rw [r6 _ 187 (by decide), r6 _ 187 (by decide)]; exact qr 187 (by decide)
  · unfold MSK at *
    rw [r6 _ 213 (by decide), r6 _ 214 (by decide)] at m1 ⊢
    rw [i1 29 (by omega), i1 21 (by omega), i1 23 (by omega), i1 18 (by omega), xr 123 (by decide) (by decide) (by decide), xr 63 (by decide) (by decide) (by decide), xr 64 (by decide) (by decide) (by decide), xr 65 (by decide) (by decide) (by decide), qr 213 (by decide), qr 214 (by decide)]; exact m1
  · have q := t3 hb
    rw [r6 _ 175 (by decide), r6 _ 180 (by decide), r6 _ 187 (by decide), r6 _ 189 (by decide)] at q ⊢
    rw [xr 62 (by decide) (by decide) (by decide), xr 128 (by decide) (by decide) (by decide), xr 64 (by decide) (by decide) (by decide), qr 175 (by decide), qr 180 (by decide), qr 187 (by decide), qr 189 (by decide), i1 19 (by omega)]; exact q
theorem PRD_PB [Inhabited gh_] (h : PRD b F F' Mx Mq M N a a1 o o1 me) : PB b Mx Mq M N a a1 := by
  have p := h.2.2.2.2.1
  unfold PB at *
  rw [up_off (by decide), up_off (by decide), up_off (by decide)] at p; exact p
/-- the state within, for parts -/
theorem PS_D [Inhabited gh_] (hp : PS b F Mx Mq a o me) (h : PRD b F F' Mx Mq M N a a1 o o1 me) (ho : o ≤ o1) (hd : 0 ≤ N 6 102 ∧ N 6 102 ≤ o1) : PS b F' M N a1 o1 me := by
  have q := PS_tr hp h ho
  obtain ⟨⟨t1, t2, t3, t4, t5, t6⟩, g, l, s, ⟨u1, u2, u3⟩, w, r, d, m, n⟩ := q
  have r6 : ∀ (r : Nat), r ≠ 6 → up_ N 6 102 (Mq 6 102) r = N r := fun r h => up_ne h
  have qa : QA (up_ N 6 102 (Mq 6 102)) N := ⟨fun r hr => (r6 r (fun e => hr (by rw [e]; decide))).symm, fun i hi => (up_off (nm_i hi (by decide))).symm⟩
  refine ⟨⟨Tks_a XA_rf qa t1, VT_a XA_rf qa t2, ER_102' t3, by rw [up_off (by decide)] at t4; exact t4, by rw [up_off (by decide)] at t5; exact t5, t6⟩, GT_a XA_rf qa g, LBT_c l XA_rf qa rfl rfl (r6 175 (by decide)).symm (r6 180 (by decide)).symm (r6 187 (by decide)).symm (Int.le_refl _), stt9_a XA_rf qa s, ⟨u1, u2, by rw [r6 215 (by decide)] at u3; exact u3⟩, w, by rw [up_off (by decide)] at r; exact r, hd, ?_, n⟩
  unfold MSK at *
  rw [r6 213 (by decide), r6 214 (by decide)] at m; exact m
end PD
end T138_dc
section T139_br
/-! a branch of a decide: its ranges -/
section BR
variable {d dq n : Nat} {b F : Int} {Mx Mq Mx1 Mq1 M N M0 N0 M' N' : mm_} {a a0 a' o x dd lo hi i : Int} {K : Int → mm_ → Prop} {Kv G : mm_ → Prop} {Qt : qt_} {V : vv_}
theorem y_163 [Inhabited gh_] (hE : ER b F Mx Mq a o) (ht : isR (Mx 70) a → K 1 Mx) (hf : ¬ isR (Mx 70) a → K 0 Mx) : Tr_ wd0 pg0 (d + 2) 163 [.inr (.inr 1)] Mx (ri_ K) Qt := by
  refine t_163 fun V hV hW => b_163_0 (Tr_mono _) hV hW Mx ?_
  have h1 : isR (Mx 70) a → bl_ 1 ∧ ri_ K [.inl 1] Mx := fun c => ⟨.inr rfl, ri_i (ht c)⟩
  refine y_103 hE (fun e => ?_) (fun e1 => ?_)
  · rw [if_neg (by decide)]; exact h1 (.inl e)
  rw [if_pos rfl]
  refine y_117 hE (by decide) (fun e => ?_) (fun e2 => ?_)
  · rw [if_neg (by decide)]; exact h1 (.inr (.inl e))
  rw [if_pos rfl]
  refine y_103 hE (fun e => ?_) (fun e3 => ?_)
  · rw [if_neg (by decide)]; exact h1 (.inr (.inr (.inl e)))
  rw [if_pos rfl]
  refine y_103 hE (fun e => ?_) (fun e4 => ?_)
  · rw [if_neg (by decide)]; exact h1 (.inr (.inr (.inr e)))
  rw [if_pos rfl]
  exact ⟨.inl rfl, ri_i (hf (by rintro (e | e | e | e); exact e1 e; exact e2 e; exact e3 e; exact e4 e))⟩
theorem j_292 [Inhabited gh_] (hT : Tks Mx Mq) (hE : ER b F Mx Mq a o) (ht : isR (Mx 70) a → K 1 Mq) (hf : ¬ isR (Mx 70) a → K 0 Mq) : Tr_ wd0 pg0 (d + 2) 292 [.inr (.inr 6)] Mq (ri_ K) Qt := by
  obtain ⟨e1, e2, e3, e4, e5, e6⟩ := ER_k hT hE
  refine t_292 fun V hV hW => b_292_0 (Tr_mono _) hV hW Mq ⟨e3, ?_⟩
  have h1 : isR (Mx 70) a → bl_ 1 ∧ ri_ K [.inl 1] Mq := fun c => ⟨.inr rfl, ri_i (ht c)⟩
  by_cases c1 : Mx 70 a = 101
  · rw [if_pos ((kq_u e1).mpr c1)]; exact h1 (.inl c1)
  rw [if_neg (fun c => c1 ((kq_u e1).mp c))]
  by_cases c2 : Mx 70 a = 245
  · refine j_237t hT hE (by decide) c2 ?_
    rw [if_neg (by decide)]; exact h1 (.inr (.inl c2))
  refine j_237f hT hE (by decide) c2 ?_
  rw [if_pos rfl]
  by_cases c3 : Mx 70 a = 31
  · refine j_229t hT hE (by decide) c3 ?_
    rw [if_neg (by decide)]; exact h1 (.inr (.inr (.inl c3)))
  refine j_229f hT hE (by decide) c3 ?_
  rw [if_pos rfl]
  by_cases c4 : Mx 70 a = 32
  · refine j_229t hT hE (by decide) c4 ?_
    rw [if_neg (by decide)]; exact h1 (.inr (.inr (.inr c4)))
  refine j_229f hT hE (by decide) c4 ?_
  rw [if_pos rfl]
  exact ⟨.inl rfl, ri_i (hf (by rintro (e | e | e | e); exact c1 e; exact c2 e; exact c3 e; exact c4 e))⟩
/-- X: what is no range -/
theorem x_164w [Inhabited gh_] {x1 : Int} (hE : ER b F Mx Mq a o) (hn : ¬ isR (Mx 70) a) (h : Qt 8 (flX_ Mx 1 a)) : Tr_ wd0 pg0 (d + 6) 164 [.inr (.inr 1), .inl x1] Mx (rv_ Kv) Qt := by
  refine t_164 fun V hV hW => b_164_0 (Tr_mono _) hV hW _ _ ?_
  refine y_103 hE (fun e => absurd (.inr (.inr (.inl e))) hn) (fun _ => ?_)
  rw [if_pos rfl]
  refine y_103 hE (fun e => absurd (.inr (.inr (.inr e))) hn) (fun _ => ?_)
  rw [if_pos rfl]
  refine t_165 fun V hV hW => b_165_0 (Tr_mono _) hV hW Mx ?_
  refine y_117 hE (by decide) (fun e => absurd (.inr (.inl e)) hn) (fun _ => ?_)
  rw [if_pos rfl]
  refine x_125 (ER_iX hE) (fun h1 _ => absurd (.inl (by rw [← hE.2.1]; exact h1)) hn) (fun _ => by rw [hE.2.1]; exact h) (fun h1 _ => absurd (.inl (by rw [← hE.2.1]; exact h1)) hn)
/-- a range, in one -/
theorem y_164 [Inhabited gh_] {x1 : Int} (hT : Tks Mx Mq) (hVT : VT Mx Mq) (hE : ER b F Mx Mq a o) (hS : b = 1 → rgS (Mx 70) a ≠ none) (hd : 0 ≤ dd ∧ dd < 14) (h90 : 0 ≤ Mq 6 90 ∧ Mq 6 90 < 1300) (hl : Mq 222 dd < 1300) (hc : 0 ≤ Mq 220 dd ∧ Mq 220 dd < 1300) (hx1 : b = 1 → Mq 223 dd = x1 + 1) (hfl : Mx 1 7 + 2 + 8 * (1201 - a) ≤ 1000001000 - (gg_ : Int)) (hst : Mx 5 3 + 2 ≤ 9 * a + 1000)
    (hK : ∀ Mx' Mq' a' lo hi, RR b F Mx Mq Mx' Mq' a a' o dd lo hi → rgS (Mx 70) a = some a' → (∀ (Kv : mm_ → Prop) (Qtq : qt_), Kv Mq' → Tr_ wd0 pg0 (dq + 5) 293 [.inr (.inr 6), .inl dd, .inl (Mx 71 a)] Mq (rv_ Kv) Qtq) → Kv Mx')
    (hQ : b = 0 → ∀ Mx', XF Mx Mx' → (∀ (Kv : mm_ → Prop) (Qtq : qt_), (∀ M', SQ Mx' Mq M' → Kv M') → Tr_ wd0 pg0 (dq + 5) 293 [.inr (.inr 6), .inl dd, .inl (Mx 71 a)] Mq (rv_ Kv) Qtq) → Qt 8 Mx') :
    Tr_ wd0 pg0 (d + 6) 164 [.inr (.inr 1), .inl x1] Mx (rv_ Kv) Qt := by
  by_cases c : Mx 70 a = 31 ∨ Mx 70 a = 32
  · have eS : rgS (Mx 70) a = gS a := by unfold rgS; rw [if_pos c]
    exact y_164t (d := d + 3) (dq := dq) hT hVT hE c (fun hb => gS_n (by rw [← eS]; exact hS hb)) hd h90 hl hc hx1 hfl hst (fun Mx' Mq' lo hi hR h12 hq => hK Mx' Mq' (a + 1) lo hi hR (by rw [eS, gS_e h12]) hq) hQ
  · exact y_164n (dq := dq) hT hVT hE (by omega) hS hd h90 hl hc hx1 hfl hst hK hQ
/-- i ranges of a branch are read; q: the op at which its part begins -/
def BLR [Inhabited gh_] (b F : Int) (M0 N0 M N : mm_) (a0 a o dd i : Int) : Prop :=
  ER b F M N a o ∧ XF M0 M ∧ (0 ≤ i ∧ i ≤ 8) ∧ ((∀ r : Nat, r ∉ [6, 206, 216, 217, 218, 219, 221, 222] → N r = N0 r) ∧ (∀ j : Int, j ≠ 12 → j ≠ 13 → j ≠ 14 → j ≠ 90 → N 6 j = N0 6 j) ∧ (∀ j, j ≠ N0 220 dd → N 206 j = N0 206 j) ∧ (∀ j, j ≠ dd → N 221 j = N0 221 j ∧ N 222 j = N0 222 j))
  ∧ (N 6 90 = N0 6 90 + i ∧ N 221 dd = N0 221 dd + i ∧ N 222 dd = (if i = 0 then N0 222 dd else N0 6 90 + i - 1) ∧ N 206 (N0 220 dd) = (if i = 0 ∨ 0 ≤ N0 222 dd then N0 206 (N0 220 dd) else N0 6 90))
  ∧ ((∀ j, j < N0 6 90 → N 216 j = N0 216 j ∧ N 217 j = N0 217 j ∧ N 218 j = N0 218 j ∧ (j ≠ N0 222 dd → N 219 j = N0 219 j)) ∧ (0 ≤ N0 222 dd → N 219 (N0 222 dd) = (if i = 0 then N0 219 (N0 222 dd) else N0 6 90)))
  ∧ (∀ j, 0 ≤ j → j < i → N 218 (N0 6 90 + j) = N0 6 75 ∧ N 219 (N0 6 90 + j) = (if j + 1 < i then N0 6 90 + j + 1 else -1) ∧ (b = 1 → M 142 (M0 5 3 + 2 * j) = N 216 (N0 6 90 + j) ∧ M 142 (M0 5 3 + 2 * j + 1) = N 217 (N0 6 90 + j)))
  ∧ (M 5 3 = M0 5 3 + (if b = 0 then 0 else 2 * i) ∧ ∀ j, j < M0 5 3 → M 142 j = M0 142 j) ∧ (M0 1 7 ≤ M 1 7 ∧ M 1 7 ≤ M0 1 7 + 2 * i) ∧ (b = 1 → N 6 13 = 0 → N0 6 13 = 0)
theorem BLR_0 [Inhabited gh_] (hE : ER b F M N a o) : BLR b F M N M N a a o dd 0 := ⟨hE, XF_rf, by decide, ⟨fun _ _ => rfl, fun _ _ _ _ _ => rfl, fun _ _ => rfl, fun _ _ => ⟨rfl, rfl⟩⟩, ⟨by omega, by omega, by rw [if_pos rfl], by rw [if_pos (.inl rfl)]⟩, ⟨fun _ _ => ⟨rfl, rfl, rfl, fun _ => rfl⟩, fun _ => by rw [if_pos rfl]⟩, fun j h1 h2 => by omega, ⟨by split <;> omega, fun _ _ => rfl⟩, by omega, fun _ h => h⟩
theorem rgM_r [Inhabited gh_] {r : Nat} (hr : r ∉ [6, 206, 216, 217, 218, 219, 222]) : rgM_ M dd lo hi r = M r := by
  simp only [List.mem_cons, List.not_mem_nil, or_false, not_or] at hr
  obtain ⟨y1, y2, y3, y4, y5, y6, y7⟩ := hr
  unfold rgM_
  split
  · rw [up_ne y1, up_ne y7, up_ne y2, up_ne y6, up_ne y5, up_ne y4, up_ne y3]
  · rw [up_ne y1, up_ne y7, up_ne y6, up_ne y6, up_ne y5, up_ne y4, up_ne y3]
theorem rgM_90 [Inhabited gh_] : rgM_ M dd lo hi 6 90 = M 6 90 + 1 := by unfold rgM_; split <;> rw [up_at]
theorem rgM_216 [Inhabited gh_] {j : Int} : rgM_ M dd lo hi 216 j = if j = M 6 90 then lo else M 216 j := by
  unfold rgM_; split
  · rw [up_ne (by decide), up_ne (by decide), up_ne (by decide), up_ne (by decide), up_ne (by decide), up_ne (by decide), ua_, if_pos rfl]
  · rw [up_ne (by decide), up_ne (by decide), up_ne (by decide), up_ne (by decide), up_ne (by decide), up_ne (by decide), ua_, if_pos rfl]
theorem rgM_217 [Inhabited gh_] {j : Int} : rgM_ M dd lo hi 217 j = if j = M 6 90 then hi else M 217 j := by
  unfold rgM_; split
  · rw [up_ne (by decide), up_ne (by decide), up_ne (by decide), up_ne (by decide), up_ne (by decide), ua_, if_pos rfl, up_ne (by decide)]
  · rw [up_ne (by decide), up_ne (by decide), up_ne (by decide), up_ne (by decide), up_ne (by decide), ua_, if_pos rfl, up_ne (by decide)]
theorem rgM_218 [Inhabited gh_] {j : Int} : rgM_ M dd lo hi 218 j = if j = M 6 90 then M 6 75 else M 218 j := by
  unfold rgM_; split
  · rw [up_ne (by decide), up_ne (by decide), up_ne (by decide), up_ne (by decide), ua_, if_pos rfl, up_ne (by decide), up_ne (by decide)]
  · rw [up_ne (by decide), up_ne (by decide), up_ne (by decide), up_ne (by decide), ua_, if_pos rfl, up_ne (by decide), up_ne (by decide)]
theorem rgM_219 [Inhabited gh_] {j : Int} : rgM_ M dd lo hi 219 j = if 0 ≤ M 222 dd ∧ j = M 222 dd then M 6 90 else if j = M 6 90 then -1 else M 219 j := by
  unfold rgM_
  by_cases c : M 222 dd < 0
  · rw [if_pos c, if_neg (by omega), up_ne (by decide), up_ne (by decide), up_ne (by decide), ua_, if_pos rfl, up_ne (by decide), up_ne (by decide), up_ne (by decide)]
  · rw [if_neg c, up_ne (by decide), up_ne (by decide), ua_, if_pos rfl]
    by_cases c2 : j = M 222 dd
    · rw [if_pos c2, if_pos ⟨by omega, c2⟩]
    · rw [if_neg c2, if_neg (fun e => c2 e.2), ua_, if_pos rfl, up_ne (by decide), up_ne (by decide), up_ne (by decide)]
theorem rgM_206 [Inhabited gh_] {j : Int} : rgM_ M dd lo hi 206 j = if M 222 dd < 0 ∧ j = M 220 dd then M 6 90 else M 206 j := by
  unfold rgM_
  by_cases c : M 222 dd < 0
  · rw [if_pos c, up_ne (by decide), up_ne (by decide), ua_, if_pos rfl]
    by_cases c2 : j = M 220 dd
    · rw [if_pos c2, if_pos ⟨c, c2⟩]
    · rw [if_neg c2, if_neg (fun e => c2 e.2), up_ne (by decide), up_ne (by decide), up_ne (by decide), up_ne (by decide)]
  · rw [if_neg c, if_neg (fun e => c e.1), up_ne (by decide), up_ne (by decide), up_ne (by decide), up_ne (by decide), up_ne (by decide), up_ne (by decide), up_ne (by decide)]
theorem rgM_222 [Inhabited gh_] {j : Int} : rgM_ M dd lo hi 222 j = if j = dd then M 6 90 else M 222 j := by
  unfold rgM_; split
  · rw [up_ne (by decide), ua_, if_pos rfl, up_ne (by decide), up_ne (by decide), up_ne (by decide), up_ne (by decide), up_ne (by decide)]
  · rw [up_ne (by decide), ua_, if_pos rfl, up_ne (by decide), up_ne (by decide), up_ne (by decide), up_ne (by decide), up_ne (by decide)]
theorem BLR_1 [Inhabited gh_] {a2 : Int} (h : BLR b F M0 N0 M N a0 a o dd i) (hi8 : i < 8) (hl0 : N0 222 dd < N0 6 90) (hn0 : 0 ≤ N0 6 90) (hR : RR b F M (up_ N 221 dd (N 221 dd + 1)) M' N' a a2 o dd lo hi) : BLR b F M0 N0 M' N' a0 a2 o dd (i + 1) := by
  obtain ⟨h1, h2, h3, ⟨h4, h5, h6, h7⟩, ⟨g1, g2, g3, g4⟩, ⟨k1, k2⟩, k3, ⟨k4, k5⟩, k6, k7⟩ := h
  obtain ⟨r1, r2, r3, ⟨Nq, rN, rM⟩, r5, r6, r7, r8, r9⟩ := hR
  have h01 := bl01 h1
  have n6 : ∀ j : Int, j ≠ 12 → j ≠ 13 → j ≠ 14 → Nq 6 j = N 6 j := fun j x y z => by rw [rN.2 j x y z, up_ne (by decide)]
  have nr : ∀ r : Nat, r ≠ 6 → r ≠ 221 → Nq r = N r := fun r x y => by rw [rN.1 r x, up_ne y]
  have q90 : Nq 6 90 = N0 6 90 + i := by rw [n6 90 (by decide) (by decide) (by decide)]; exact g1
  have q75 : Nq 6 75 = N0 6 75 := by rw [n6 75 (by decide) (by decide) (by decide), h5 75 (by decide) (by decide) (by decide) (by decide)]
  have q220 : Nq 220 dd = N0 220 dd := by rw [nr 220 (by decide) (by decide), h4 220 (by decide)]
  have q222 : Nq 222 dd = (if i = 0 then N0 222 dd else N0 6 90 + i - 1) := by rw [nr 222 (by decide) (by decide)]; exact g3
  have q221 : ∀ j, N' 221 j = if j = dd then N 221 dd + 1 else N 221 j := fun j => by rw [rM, rgM_r (by decide), rN.1 221 (by decide), ua_, if_pos rfl]
  have l2 : Nq 222 dd < N0 6 90 + i := by rw [q222]; split <;> omega
  refine ⟨r2, XF_tr h2 r3, by omega, ⟨fun r hr => ?_, fun j x y z u => ?_, fun j hj => ?_, fun j hj => ⟨?_, ?_⟩⟩, ⟨?_, ?_, ?_, ?_⟩, ⟨fun j hj => ⟨?_, ?_, ?_, fun hj2 => ?_⟩, fun h0 => ?_⟩, fun j j0 j1 => ⟨?_, ?_, fun hb => ?_⟩, ⟨?_, fun j hj => ?_⟩, by omega, fun hb h0 => ?_⟩
  · have hr2 : r ∉ [6, 206, 216, 217, 218, 219, 222] := fun e => hr (by revert e; simp only [List.mem_cons, List.not_mem_nil, or_false]; omega)
    have h6 : r ≠ 6 := fun e => hr (by rw [e]; decide)
    have h221 : r ≠ 221 := fun e => hr (by rw [e]; decide)
    rw [rM, rgM_r hr2, nr r h6 h221]; exact h4 r hr
  · rw [rM, rgM_6 u, n6 j x y z]; exact h5 j x y z u
  · rw [rM, rgM_206, if_neg (by rw [q220]; exact fun e => hj e.2), nr 206 (by decide) (by decide)]; exact h6 j hj
  · rw [q221, if_neg hj]; exact (h7 j hj).1
  · rw [rM, rgM_222, if_neg hj, nr 222 (by decide) (by decide)]; exact (h7 j hj).2
  · rw [rM, rgM_90, q90]; omega
  · rw [q221, if_pos rfl]; omega
  · rw [rM, rgM_222, if_pos rfl, q90, if_neg (by omega)]; omega
  · rw [rM, rgM_206, q220, q222, q90, nr 206 (by decide) (by decide)]
    by_cases c : i = 0
    · rw [if_pos c] at *
      rw [c]
      by_cases c2 : N0 222 dd < 0
      · rw [if_pos ⟨c2, rfl⟩, if_neg (by omega)]; omega
      · rw [if_neg (fun e => c2 e.1), if_pos (.inr (by omega)), g4, if_pos (.inl c)]
    · rw [if_neg c]
      by_cases c2 : N0 6 90 + i - 1 < 0
      · omega
      · rw [if_neg (fun e => c2 e.1), g4]
        by_cases c3 : 0 ≤ N0 222 dd
        · rw [if_pos (.inr c3), if_pos (.inr c3)]
        · rw [if_neg (by omega), if_neg (by omega)]
  · rw [rM, rgM_216, if_neg (by omega), nr 216 (by decide) (by decide)]; exact (k1 j hj).1
  · rw [rM, rgM_217, if_neg (by omega), nr 217 (by decide) (by decide)]; exact (k1 j hj).2.1
  · rw [rM, rgM_218, if_neg (by omega), nr 218 (by decide) (by decide)]; exact (k1 j hj).2.2.1
  · rw [rM, rgM_219, if_neg, if_neg (by omega), nr 219 (by decide) (by decide)]
    · exact (k1 j hj).2.2.2 hj2
    · rw [q222]
      by_cases c : i = 0
      · rw [if_pos c]; exact fun e => hj2 e.2
      · rw [if_neg c]; omega
  · rw [rM, rgM_219, q222, q90]
    by_cases c : i = 0
    · rw [if_pos c, if_pos ⟨h0, rfl⟩, if_neg (by omega)]; omega
    · rw [if_neg c, if_neg (by omega), if_neg (by omega), nr 219 (by decide) (by decide), k2 h0, if_neg c, if_neg (by omega)]
  · rw [rM, rgM_218, q90, q75]
    by_cases c : j = i
    · rw [if_pos (by omega)]
    · rw [if_neg (by omega), nr 218 (by decide) (by decide)]; exact (k3 j j0 (by omega)).1
  · rw [rM, rgM_219, q222, q90]
    by_cases c : j = i
    · rw [if_neg (by
        rintro ⟨e1, e2⟩
        by_cases c2 : i = 0
        · rw [if_pos c2] at e2; omega
        · rw [if_neg c2] at e2; omega), if_pos (by omega), if_neg (by omega)]
    · have ji : j < i := by omega
      have i0 : i ≠ 0 := by omega
      rw [if_neg i0]
      by_cases c3 : j + 1 = i
      · by_cases c4 : 0 ≤ N0 6 90 + i - 1
        · rw [if_pos ⟨c4, by omega⟩, if_pos (by omega)]; omega
        · omega
      · rw [if_neg (by omega), if_neg (by omega), nr 219 (by decide) (by decide), (k3 j j0 ji).2.1, if_pos (by omega), if_pos (by omega)]
  · have e53 : M 5 3 = M0 5 3 + 2 * i := by rw [k4, if_neg (by omega)]
    by_cases c : j = i
    · rw [c, ← e53, rM, rgM_216, rgM_217, q90, if_pos rfl, if_pos rfl]; exact r7 hb
    · have ji : j < i := by omega
      rw [r6 _ (by omega), r6 _ (by omega), rM, rgM_216, rgM_217, q90, if_neg (by omega), if_neg (by omega), nr 216 (by decide) (by decide), nr 217 (by decide) (by decide)]
      exact (k3 j j0 ji).2.2 hb
  · rw [r5, k4]; split <;> omega
  · have : M0 5 3 ≤ M 5 3 := by rw [k4]; split <;> omega
    rw [r6 j (by omega)]; exact k5 j hj
  · have := r9 hb h0
    rw [up_ne (by decide)] at this
    exact k7 hb this
end BR
end T139_br
section T140_br
/-! the loop over the ranges of a branch -/
section BR
variable {d dq n : Nat} {b F : Int} {Mx Mq Mx1 Mq1 M N M0 N0 M' N' : mm_} {a a0 a' o x dd lo hi i : Int} {K : Int → mm_ → Prop} {Kv G : mm_ → Prop} {Qt : qt_} {V : vv_}
/-- Q's branch, once stopped -/
theorem q_291s [Inhabited gh_] {x1 x2 : Int} (hV : Cl_ wd0 (Tr_ wd0 pg0 (d + 3)) V (rv_ Kv) Qt m_291) (hW : Wk_ V) (hs : sp_ M) (h : Kv M) : V 9 [rr 6, ii x1, ii x2, none] [] M := by
  refine b_291_9 (Tr_mono _) hV hW _ _ _ ?_
  by_cases c : x2 = 0
  · rw [if_pos c]; exact q_244s hs (rv_i h)
  · rw [if_neg c]
    refine q_227s hs ?_
    rw [if_neg (by decide)]
    exact q_244s hs (rv_i h)
theorem ER_go' [Inhabited gh_] (h : ER b F Mx Mq a o) (h12 : a < 1200) (hk : Mx 70 a ≠ 102 ∧ Mx 70 a ≠ 103) : ER b F (nX_ Mx) (nx_ Mq) (a + 1) o := (ER_go h h12 hk).1
theorem BLR_go [Inhabited gh_] (h : BLR b F M0 N0 M N a0 a o dd i) (hE : ER b F (nX_ M) (nx_ N) (a + 1) o) : BLR b F M0 N0 (nX_ M) (nx_ N) a0 (a + 1) o dd i := by
  obtain ⟨h1, h2, h3, ⟨h4, h5, h6, h7⟩, ⟨g1, g2, g3, g4⟩, ⟨k1, k2⟩, k3, ⟨k4, k5⟩, k6, k7⟩ := h
  have r : ∀ r : Nat, r ≠ 6 → nx_ N r = N r := fun r h => nx_ne h
  have s : ∀ j : Int, j ≠ 12 → nx_ N 6 j = N 6 j := fun j h => nx_6 h
  have x : ∀ r : Nat, r ≠ 1 → nX_ M r = M r := fun r h => nX_ne h
  refine ⟨hE, XF_tr h2 nX_XF, h3, ⟨fun q hq => ?_, fun j a b c e => ?_, ?_, ?_⟩, ?_, ?_, ?_, ?_, ?_, ?_⟩
  · rw [r q (fun e => hq (by rw [e]; decide))]; exact h4 q hq
  · rw [s j a]; exact h5 j a b c e
  · rw [r 206 (by decide)]; exact h6
  · rw [r 221 (by decide), r 222 (by decide)]; exact h7
  · rw [s 90 (by decide), r 221 (by decide), r 222 (by decide), r 206 (by decide)]; exact ⟨g1, g2, g3, g4⟩
  · rw [r 216 (by decide), r 217 (by decide), r 218 (by decide), r 219 (by decide)]; exact ⟨k1, k2⟩
  · rw [r 216 (by decide), r 217 (by decide), r 218 (by decide), r 219 (by decide), x 142 (by decide)]; exact k3
  · rw [x 5 (by decide), x 142 (by decide)]; exact ⟨k4, k5⟩
  · rw [nX_1 (by decide)]; exact k6
  · rw [s 13 (by decide)]; exact k7
theorem dcT1_y [Inhabited gh_] {κ : Int → Int} {pt : sj_ → Option sj_} {a j r : Int} {Lq : sj_ × Int → Option sj_} : (dcT1 κ pt ((a, j), r)).bind (lk9 Lq) = if r = 8 then none else (rgS κ a).bind fun a1 => if κ a1 = 244 then (gS a1).bind fun a2 => Lq ((a2, j), r + 1) else (tS κ 258 a1).bind fun a2 => (pt (a2, j)).bind fun s3 => if isR κ s3.1 then Lq (s3, r + 1) else some s3 := by
  unfold dcT1
  by_cases c : r = 8
  · rw [if_pos c, if_pos c]; rfl
  · rw [if_neg c, if_neg c]
    cases rgS κ a with
    | none => rfl
    | some a1 =>
      simp only [Option.bind_some]
      by_cases c1 : κ a1 = 244
      · rw [if_pos c1, if_pos c1]
        cases gS a1 with
        | none => rfl
        | some a2 => rfl
      · rw [if_neg c1, if_neg c1]
        cases tS κ 258 a1 with
        | none => rfl
        | some a2 =>
          simp only [Option.bind_some]
          cases pt (a2, j) with
          | none => rfl
          | some s3 =>
            simp only [Option.bind_some]
            by_cases c2 : isR κ s3.1
            · rw [if_pos c2, if_pos c2]; rfl
            · rw [if_neg c2, if_neg c2]; rfl
theorem dcT1_u [Inhabited gh_] {κ : Int → Int} {pt : sj_ → Option sj_} (hp : jw_ pt) {a j r : Int} (h0 : 0 ≤ a) (h1 : a ≤ 1200) : LQ (dcT1 κ pt) ((a, j), r) = if r = 8 then none else (rgS κ a).bind fun a1 => if κ a1 = 244 then (gS a1).bind fun a2 => LQ (dcT1 κ pt) ((a2, j), r + 1) else (tS κ 258 a1).bind fun a2 => (pt (a2, j)).bind fun s3 => if isR κ s3.1 then LQ (dcT1 κ pt) (s3, r + 1) else some s3 := (dcT_u hp (s := ((a, j), r)) h0 h1).trans dcT1_y
/-- what the rest of the text is behind a colon -/
def afS (κ : Int → Int) (pt : sj_ → Option sj_) (a j r : Int) : Option sj_ := (pt (a, j)).bind fun s3 => if isR κ s3.1 then LQ (dcT1 κ pt) (s3, r) else some s3
theorem l_161r [Inhabited gh_] {D : Nat} {pt : sj_ → Option sj_} (hpt : jw_ pt) {x1 x2 x3 x4 x5 c0 c1 jj : Int} (hT0 : Tks M0 N0) (hVT0 : VT M0 N0) (hdd : 0 ≤ dd ∧ dd < 14) (hdd2 : dd = N0 6 102 - 1) (h102 : 0 ≤ N0 6 102) (h90 : 0 ≤ N0 6 90 ∧ N0 6 90 ≤ a0) (hl0 : -1 ≤ N0 222 dd ∧ N0 222 dd < N0 6 90) (hc : 0 ≤ N0 220 dd ∧ N0 220 dd < 1300) (hx3 : N0 221 dd = x3 ∧ 0 ≤ x3) (hx1 : b = 1 → N0 223 dd = (if x2 = 2 then -1 else x2) + 1) (hfl : M0 1 7 + 8 * (1201 - a0) ≤ 1000000500 - (gg_ : Int)) (hst : M0 5 3 ≤ 9 * a0 + 900)
    (hV : Cl_ wd0 (Tr_ wd0 pg0 (D + 6)) V (ri_ K) Qt m_161) (hW : Wk_ V)
    (hQ : b = 0 → ∀ Mx', XF M0 Mx' → (∀ (Kv : mm_ → Prop) (Qtq : qt_), (∀ M', SQ Mx' N0 M' → Kv M') → Tr_ wd0 pg0 (dq + 7) 291 [.inr (.inr 6)] N0 (rv_ Kv) Qtq) → Qt 8 Mx') :
    ∀ (m : Nat) (i : Int) (M N : mm_) (a : Int), (m : Int) + (x3 + i) = 8 → BLR b F M0 N0 M N a0 a o dd i → a0 + 2 * i ≤ a
      → (∀ (Kv : mm_ → Prop) (Qtq : qt_), (∀ V : vv_, Cl_ wd0 (Tr_ wd0 pg0 (dq + 6)) V (rv_ Kv) Qtq m_291 → Wk_ V → V 9 [rr 6, ii dd, ii 1, none] [] N) → Tr_ wd0 pg0 (dq + 7) 291 [.inr (.inr 6)] N0 (rv_ Kv) Qtq)
      → (b = 1 → LQ (dcT1 (M0 70) pt) ((a, jj), x3 + i) ≠ none)
      → (∀ M' N' a' i', BLR b F M0 N0 M' N' a0 a' o dd i' → 1 ≤ i' → x3 + i' ≤ 8 → a0 + 2 * i' ≤ a' + 1 → M0 70 a' ≠ 244 → (∀ pt, jw_ pt → LQ (dcT1 (M0 70) pt) ((a, jj), x3 + i) = (tS (M0 70) 258 a').bind (fun a2 => afS (M0 70) pt a2 jj (x3 + i'))) → (b = 1 → (tS (M0 70) 258 a').bind (fun a2 => afS (M0 70) pt a2 jj (x3 + i')) ≠ none)
          → (∀ (Kv : mm_ → Prop) (Qtq : qt_), (∀ V : vv_, Cl_ wd0 (Tr_ wd0 pg0 (dq + 6)) V (rv_ Kv) Qtq m_291 → Wk_ V → Tr_ wd0 pg0 (dq + 6) 244 [.inr (.inr 6), .inl 58] N' (rv_ Kv) Qtq) → Tr_ wd0 pg0 (dq + 7) 291 [.inr (.inr 6)] N0 (rv_ Kv) Qtq)
          → V 87 [rr 1, ii x1, ii x2, ii (x3 + i'), ii x4, ii x5, ii i', ii c0, ii c1, ii 0, none, none, none] [] M')
      → V 87 [rr 1, ii x1, ii x2, ii (x3 + i), ii x4, ii x5, ii i, ii c0, ii c1, ii 1, none, none, none] [] M := by
  intro m
  induction m with
  | zero =>
    intro i M N a hm hB hai pre hS hD
    have hE := hB.1
    have hT : Tks M N := Tks_a (XF_XA hB.2.1) ⟨fun r hr => hB.2.2.2.1.1 r (fun e => hr (by revert e; unfold qaL; simp only [List.mem_cons, List.not_mem_nil, or_false]; omega)), fun j hj => hB.2.2.2.1.2.1 j (nm_i hj (by decide)) (nm_i hj (by decide)) (nm_i hj (by decide)) (nm_i hj (by decide))⟩ hT0
    have qa : QA N0 N := ⟨fun r hr => hB.2.2.2.1.1 r (fun e => hr (by revert e; unfold qaL; simp only [List.mem_cons, List.not_mem_nil, or_false]; omega)), fun j hj => hB.2.2.2.1.2.1 j (nm_i hj (by decide)) (nm_i hj (by decide)) (nm_i hj (by decide)) (nm_i hj (by decide))⟩
    have ha := ER_a hE
    have x8 : x3 + i = 8 := by omega
    have hb : b = 0 := by
      rcases bl01 hE with hb | hb
      · exact hb
      · exact absurd (by rw [dcT1_u hpt ha.1 ha.2, if_pos x8]) (hS hb)
    have h221 : N 221 dd = 8 := by rw [hB.2.2.2.2.1.2.1]; omega
    refine b_161_87 (Tr_mono _) hV hW _ _ _ _ _ _ _ _ _ _ ?_
    rw [if_neg (by decide), if_pos x8]
    have qrun : ∀ (Kv : mm_ → Prop) (Qtq : qt_), Kv (bf_ N (if isR (M 70) a then 2 else 1) (M 71 a)) → Tr_ wd0 pg0 (dq + 7) 291 [.inr (.inr 6)] N0 (rv_ Kv) Qtq := by
      intro Kv Qtq hk
      refine pre _ _ fun V hV hW => b_291_9 (Tr_mono _) hV hW _ _ _ ?_
      rw [if_neg (by decide)]
      refine q_227g (ER_goq hE) ?_
      rw [if_pos rfl]
      obtain ⟨e1, e2, e3, e4, e5, e6⟩ := ER_k hT hE
      refine ⟨e3, j_292 hT hE (fun c => ?_) (fun c => ?_)⟩
      · rw [if_neg (by decide), if_pos h221]
        rw [if_pos c] at hk
        exact ⟨hdd, q_231o (ER_ok hE hb).1 (by rw [e2]; exact rv_i hk)⟩
      · rw [if_pos rfl]
        rw [if_neg c] at hk
        exact q_234o e3 (ER_ok hE hb).1 (by rw [e2]; exact rv_i hk)
    refine y_163 hE (fun c => ?_) (fun c => ?_)
    · rw [if_neg (by decide), hE.2.1]
      refine x_106 (by omega) (by omega) ?_
      rw [if_neg (by decide)]
      rw [if_pos c] at qrun
      exact hQ hb _ (XF_tr hB.2.1 fl_XF) fun Kv Qtq hk9 => qrun _ _ (hk9 _ (SQ_bf hE hb (by decide) qa))
    · rw [if_pos rfl]
      rw [if_neg c] at qrun
      have fin : Qt 8 (flX_ M 1 a) := hQ hb _ (XF_tr hB.2.1 fl_XF) fun Kv Qtq hk9 => qrun _ _ (hk9 _ (SQ_bf hE hb (by decide) qa))
      refine b_161_115 (Tr_mono _) hV hW _ _ _ _ _ _ _ _ _ _ ?_
      split
      · exact x_164w hE c fin
      · exact x_164w hE c fin
  | succ m ih =>
    intro i M N a hm hB hai pre hS hD
    have hE := hB.1
    have qa : QA N0 N := ⟨fun r hr => hB.2.2.2.1.1 r (fun e => hr (by revert e; unfold qaL; simp only [List.mem_cons, List.not_mem_nil, or_false]; omega)), fun j hj => hB.2.2.2.1.2.1 j (nm_i hj (by decide)) (nm_i hj (by decide)) (nm_i hj (by decide)) (nm_i hj (by decide))⟩
    have xa := XF_XA hB.2.1
    have hT : Tks M N := Tks_a xa qa hT0
    have hVT : VT M N := VT_a xa qa hVT0
    have ha := ER_a hE
    have h01 := bl01 hE
    have x8 : x3 + i ≠ 8 := by omega
    have m70 : M 70 = M0 70 := XF_70 hB.2.1 (by decide) (by decide) (by decide)
    have m71 : M 71 = M0 71 := XF_70 hB.2.1 (by decide) (by decide) (by decide)
    have h221 : N 221 dd = x3 + i := by rw [hB.2.2.2.2.1.2.1, hx3.1]
    have eS := dcT1_u (κ := M0 70) hpt (j := jj) (r := x3 + i) ha.1 ha.2
    rw [if_neg x8] at eS
    rw [eS] at hS
    have hi0 := hB.2.2.1
    have hfl2 := hB.2.2.2.2.2.2.2.2.1
    refine b_161_87 (Tr_mono _) hV hW _ _ _ _ _ _ _ _ _ _ ?_
    rw [if_neg (by decide), if_neg x8]
    by_cases hR : isR (M 70) a
    rotate_left
    · -- no range
      have hb : b = 0 := by
        rcases h01 with hb | hb
        · exact hb
        · exfalso
          apply hS hb
          have : rgS (M0 70) a = none := by
            rw [m70] at hR
            unfold rgS boS
            unfold isR at hR
            rw [if_neg (by omega), if_neg (by omega)]
            unfold tS
            rw [if_neg (by omega)]; rfl
          rw [this]; rfl
      refine b_161_115 (Tr_mono _) hV hW _ _ _ _ _ _ _ _ _ _ ?_
      have fin : Qt 8 (flX_ M 1 a) := hQ hb _ (XF_tr hB.2.1 fl_XF) fun Kv Qtq hk9 => pre _ _ fun V hV hW => b_291_9 (Tr_mono _) hV hW _ _ _ (by
        rw [if_neg (by decide)]
        refine q_227g (ER_goq hE) ?_
        rw [if_pos rfl]
        obtain ⟨e1, e2, e3, e4, e5, e6⟩ := ER_k hT hE
        refine ⟨e3, j_292 hT hE (fun c => absurd c hR) (fun c => ?_)⟩
        rw [if_pos rfl]
        exact q_234o e3 (ER_ok hE hb).1 (by rw [e2]; exact rv_i (hk9 _ (SQ_bf hE hb (by decide) qa))))
      split
      · exact x_164w hE hR fin
      · exact x_164w hE hR fin
    -- a range
    have pre1 : ∀ (Kv : mm_ → Prop) (Qtq : qt_), (∀ V : vv_, Cl_ wd0 (Tr_ wd0 pg0 (dq + 6)) V (rv_ Kv) Qtq m_291 → Wk_ V → Tr_ wd0 pg0 (dq + 6) 293 [.inr (.inr 6), .inl dd, .inl (M 71 a)] (up_ N 221 dd (N 221 dd + 1)) (rv_ fun M5 => Tr_ wd0 pg0 (dq + 6) 242 [.inr (.inr 6), .inl 44] M5 (ri_ fun v3 M6 => V 9 [rr 6, ii dd, ii v3, none] [] M6) Qtq) Qtq) → Tr_ wd0 pg0 (dq + 7) 291 [.inr (.inr 6)] N0 (rv_ Kv) Qtq := by
      intro Kv Qtq hq
      refine pre _ _ fun V hV hW => b_291_9 (Tr_mono _) hV hW _ _ _ ?_
      rw [if_neg (by decide)]
      refine q_227g (ER_goq hE) ?_
      rw [if_pos rfl]
      obtain ⟨e1, e2, e3, e4, e5, e6⟩ := ER_k hT hE
      refine ⟨e3, j_292 hT hE (fun c => ?_) (fun c => absurd hR c)⟩
      rw [if_neg (by decide), if_neg (by omega), e2, w32_id (by omega) (by omega)]
      exact ⟨hdd, hdd, hdd, hq V hV hW⟩
    have hE1 : ER b F M (up_ N 221 dd (N 221 dd + 1)) a o := ER_Q hE (by rw [up_ne (by decide)]) (by rw [up_ne (by decide)]) (by rw [up_ne (by decide)]) (by rw [up_ne (by decide)]) (by rw [up_ne (by decide)])
    have qa1 : QA N0 (up_ N 221 dd (N 221 dd + 1)) := QA_tr qa (QA_ur (by decide) (by decide))
    have hT1 : Tks M (up_ N 221 dd (N 221 dd + 1)) := Tks_a xa qa1 hT0
    have hVT1 : VT M (up_ N 221 dd (N 221 dd + 1)) := VT_a xa qa1 hVT0
    have e90 : N 6 90 = N0 6 90 + i := hB.2.2.2.2.1.1
    have e222 : N 222 dd < N0 6 90 + i + 1 := by rw [hB.2.2.2.2.1.2.2.1]; split <;> omega
    have e53 : M 5 3 ≤ M0 5 3 + 2 * i := by rw [hB.2.2.2.2.2.2.2.1.1]; split <;> omega
    -- behind a range
    have cont : ∀ M2 N2 a2 lo hi, RR b F M (up_ N 221 dd (N 221 dd + 1)) M2 N2 a a2 o dd lo hi → rgS (M 70) a = some a2 → (∀ (Kv : mm_ → Prop) (Qtq : qt_), Kv N2 → Tr_ wd0 pg0 (dq + 5) 293 [.inr (.inr 6), .inl dd, .inl (M 71 a)] (up_ N 221 dd (N 221 dd + 1)) (rv_ Kv) Qtq) → Tr_ wd0 pg0 (D + 6) 117 [.inr (.inr 1), .inl 44] M2 (ri_ fun v1 M3 => (if v1 = 0 then V 87 [rr 1, ii x1, ii x2, ii (w32 (x3 + i + 1)), ii x4, ii x5, ii (w32 (i + 1)), ii c0, ii c1, ii v1, none, none, none] [] M3 else Tr_ wd0 pg0 (D + 6) 105 [.inr (.inr 1)] M3 (rv_ fun M4 => V 87 [rr 1, ii x1, ii x2, ii (w32 (x3 + i + 1)), ii x4, ii x5, ii (w32 (i + 1)), ii c0, ii c1, ii v1, none, none, none] [] M4) Qt)) Qt := by
      intro M2 N2 a2 lo hi hRR hrg hq2
      have hB2 := BLR_1 hB (by omega) (by omega) h90.1 hRR
      have hE2 := hB2.1
      have qa2 : QA N0 N2 := ⟨fun r hr => hB2.2.2.2.1.1 r (fun e => hr (by revert e; unfold qaL; simp only [List.mem_cons, List.not_mem_nil, or_false]; omega)), fun j hj => hB2.2.2.2.1.2.1 j (nm_i hj (by decide)) (nm_i hj (by decide)) (nm_i hj (by decide)) (nm_i hj (by decide))⟩
      have xa2 := XF_XA hB2.2.1
      have hT2 : Tks M2 N2 := Tks_a xa2 qa2 hT0
      have n70 : M2 70 = M0 70 := XF_70 hB2.2.1 (by decide) (by decide) (by decide)
      rw [m70] at hrg
      rw [hrg, Option.bind_some] at hS
      have haa := hRR.1
      rw [w32_id (by omega) (by omega), w32_id (by omega) (by omega), show x3 + i + 1 = x3 + (i + 1) by omega]
      rw [show x3 + i + 1 = x3 + (i + 1) by omega] at hS
      have pre2 : ∀ (Kv : mm_ → Prop) (Qtq : qt_), (∀ V : vv_, Cl_ wd0 (Tr_ wd0 pg0 (dq + 6)) V (rv_ Kv) Qtq m_291 → Wk_ V → Tr_ wd0 pg0 (dq + 6) 242 [.inr (.inr 6), .inl 44] N2 (ri_ fun v3 M6 => V 9 [rr 6, ii dd, ii v3, none] [] M6) Qtq) → Tr_ wd0 pg0 (dq + 7) 291 [.inr (.inr 6)] N0 (rv_ Kv) Qtq := fun Kv Qtq hq => pre1 _ _ fun V hV hW => Tr_le (by omega) (hq2 _ _ (hq V hV hW))
      refine y_117 hE2 (by decide) (fun k1 => ?_) (fun k1 => ?_)
      · rw [if_neg (by decide)]
        have k1' : M0 70 a2 = 244 := by rw [← n70]; exact k1
        rw [if_pos k1'] at hS
        refine y_105 hE2 (by rw [n70]; omega) (fun hb => by intro e; have := hS hb; rw [e] at this; exact this rfl) (fun h12 hE3 => ?_) (fun hb h12 => ?_)
        · rw [gS_e h12, Option.bind_some] at hS
          have eQ : ∀ pt, jw_ pt → LQ (dcT1 (M0 70) pt) ((a, jj), x3 + i) = LQ (dcT1 (M0 70) pt) ((a2 + 1, jj), x3 + (i + 1)) := fun pt' hpt' => by
            have eS' := dcT1_u (κ := M0 70) hpt' (j := jj) (r := x3 + i) ha.1 ha.2
            rw [if_neg x8, hrg, Option.bind_some, if_pos k1', gS_e h12, Option.bind_some, show x3 + i + 1 = x3 + (i + 1) by omega] at eS'
            exact eS'
          refine ih (i + 1) (nX_ M2) (nx_ N2) (a2 + 1) (by omega) (BLR_go hB2 hE3) (by omega) (fun Kv Qtq hq => pre2 _ _ fun V hV hW => j_242t hT2 hE2 (by decide) k1 h12 (hq V hV hW)) hS (fun M' N' a' i' z1 z2 z2' z3 z4 z5 => hD M' N' a' i' z1 z2 z2' z3 z4 (fun pt' hpt' => (eQ pt' hpt').trans (z5 pt' hpt')))
        · have hsp := SQ_bf hE2 hb (k := 2) (by decide) qa2
          exact hQ hb _ (XF_tr hB2.2.1 fl_XF) fun Kv Qtq hk9 => pre2 _ _ fun V hV hW => j_242r hT2 hE2 hb (by decide) k1 h12 (q_291s hV hW hsp.1 (hk9 _ hsp))
      · rw [if_pos rfl]
        have k1' : M0 70 a2 ≠ 244 := by rw [← n70]; exact k1
        rw [if_neg k1'] at hS
        have eQ : ∀ pt, jw_ pt → LQ (dcT1 (M0 70) pt) ((a, jj), x3 + i) = (tS (M0 70) 258 a2).bind (fun a2 => afS (M0 70) pt a2 jj (x3 + (i + 1))) := fun pt' hpt' => by
          have eS' := dcT1_u (κ := M0 70) hpt' (j := jj) (r := x3 + i) ha.1 ha.2
          rw [if_neg x8, hrg, Option.bind_some, if_neg k1', show x3 + i + 1 = x3 + (i + 1) by omega] at eS'
          exact eS'
        refine hD M2 N2 a2 (i + 1) hB2 (by omega) (by omega) (by omega) k1' eQ hS (fun Kv Qtq hq => pre2 _ _ fun V hV hW => j_242f hT2 hE2 (by decide) k1 (b_291_9 (Tr_mono _) hV hW _ _ _ ?_))
        rw [if_pos rfl]
        exact Tr_rv (hq V hV hW)
    have stop : b = 0 → ∀ Mx', XF M Mx' → (∀ (Kv : mm_ → Prop) (Qtq : qt_), (∀ M', SQ Mx' (up_ N 221 dd (N 221 dd + 1)) M' → Kv M') → Tr_ wd0 pg0 (dq + 5) 293 [.inr (.inr 6), .inl dd, .inl (M 71 a)] (up_ N 221 dd (N 221 dd + 1)) (rv_ Kv) Qtq) → Qt 8 Mx' := fun hb Mx' hx hq => hQ hb Mx' (XF_tr hB.2.1 hx) fun Kv Qtq hk9 => pre1 _ _ fun V hV hW => Tr_le (by omega) (hq _ _ fun M' hsp => q_242s hsp.1 (by
      have hsp' := SQ_q qa1 hsp
      refine b_291_9 (Tr_mono _) hV hW _ _ _ ?_
      rw [if_pos rfl]
      exact q_244s hsp.1 (rv_i (hk9 _ hsp'))))
    have hSr : b = 1 → rgS (M 70) a ≠ none := fun hb => by rw [m70]; intro e; have := hS hb; rw [e] at this; exact this rfl
    refine b_161_115 (Tr_mono _) hV hW _ _ _ _ _ _ _ _ _ _ ?_
    have q220 : up_ N 221 dd (N 221 dd + 1) 220 dd = N0 220 dd := by rw [up_ne (by decide), hB.2.2.2.1.1 220 (by decide)]
    have q223 : up_ N 221 dd (N 221 dd + 1) 223 dd = N0 223 dd := by rw [up_ne (by decide), hB.2.2.2.1.1 223 (by decide)]
    have q90 : up_ N 221 dd (N 221 dd + 1) 6 90 = N0 6 90 + i := by rw [up_ne (by decide)]; exact e90
    have q222 : up_ N 221 dd (N 221 dd + 1) 222 dd = N 222 dd := by rw [up_ne (by decide)]
    by_cases c2 : x2 = 2
    · rw [if_pos c2]
      rw [if_pos c2] at hx1
      exact y_164 (d := D) (dq := dq) hT1 hVT1 hE1 hSr hdd (by rw [q90]; omega) (by rw [q222]; omega) (by rw [q220]; exact hc) (fun hb => by rw [q223]; exact hx1 hb) (by omega) (by omega) cont stop
    · rw [if_neg c2]
      rw [if_neg c2] at hx1
      exact y_164 (d := D) (dq := dq) hT1 hVT1 hE1 hSr hdd (by rw [q90]; omega) (by rw [q222]; omega) (by rw [q220]; exact hc) (fun hb => by rw [q223]; exact hx1 hb) (by omega) (by omega) cont stop
end BR
end T140_br
section T141_ds
/-! what is known of a decide between its parts -/
def HOL (M N : mm_) (px : Int → Int) (k0 kc : Int) : Nat → Int → Int → Prop
  | 0, g, h => g = -1 ∧ h = -1
  | m + 1, g, h => (k0 < g ∧ g < kc) ∧ h = px g + 1 ∧ N 203 g = 7 ∧ M 142 (px g) = 38 ∧ (N 206 g < g ∧ M 142 h + 2 ≤ h) ∧ HOL M N px k0 kc m (N 206 g) (M 142 h)
def INH (N : mm_) : Nat → Int → Int → Prop
  | 0, _, _ => False
  | m + 1, g, k => k = g ∨ INH N m (N 206 g) k
/-- M1 is M but for what stands in the holes -/
def AGH (M N M1 : mm_) (px : Int → Int) (lo hi : Int) (mm : Nat) (g : Int) : Prop := ∀ i, lo ≤ i → i < hi → (∀ k, INH N mm g k → i ≠ px k + 1) → M1 142 i = M 142 i
def DSEM (Mx Mq M N : mm_) (T x4 x5 : Int) (mm : Nat) : Prop := ∃ (px : Int → Int) (L : pl_) (c1 t : Int),
  (∀ k, Mq 6 75 < k → k < N 6 75 → Mx 5 3 ≤ px k ∧ px k + 2 ≤ M 5 3) ∧ (∀ k, L k → Mq 6 75 < k ∧ k < N 6 75) ∧ ((t = 1 ∨ t = 2) ∧ Mx 5 3 ≤ c1 ∧ c1 ≤ M 5 3 ∧ N 203 (Mq 6 75) = 6)
  ∧ (∀ M1, AGH M N M1 px (Mx 5 3) (M 5 3) mm (N 224 (Mq 6 102)) →
      (M1 142 (Mx 5 3) = 30 ∧ M1 142 (Mx 5 3 + 1) = N 204 (Mq 6 75) ∧ EXP M1 N T (Mx 5 3 + 2) c1 (N 205 (Mq 6 75)) (N 6 104) t)
      ∧ ((c1 = M 5 3 ∧ N 222 (Mq 6 102) = -1) ∨ (∃ m, CHP M1 N px L (Mx 5 3) (M 5 3) (Mq 6 90) (N 6 90) (Mq 6 75) (N 6 75 - 1) m c1 (N 206 (Mq 6 75)) (M 5 3) (N 222 (Mq 6 102)) ∧ N 219 (N 222 (Mq 6 102)) = -1))
      ∧ (∀ k, Mq 6 75 < k → k < N 6 75 → INH N mm (N 224 (Mq 6 102)) k ∨ ∃ ra rb, (Mq 6 90 ≤ ra ∧ rb ≤ N 6 90) ∧ (rb ≤ N 222 (Mq 6 102) ∨ N 222 (Mq 6 102) < ra) ∧ OPX M1 N px L T (Mx 5 3) (M 5 3) ra rb (N 6 75 - 1) (N 6 104) k ∧ k < N 6 75 - 1))
  ∧ HOL M N px (Mq 6 75) (N 6 75) mm (N 224 (Mq 6 102)) x4 ∧ (x5 = 1 → ∀ k, INH N mm (N 224 (Mq 6 102)) k → ¬ L k)
  ∧ (∀ l, Mx 1 19 ≤ l → l < M 1 19 → M 129 (10 * T + l) = px (N 188 (10 * T + l)) ∧ L (N 188 (10 * T + l)))
  ∧ SBS Mx M N (Mq 6 75) (N 6 75)
section DS
variable {Mx Mq M N M4 N4 : mm_} {px px' : Int → Int} {k0 kc kc' x4 x5 T : Int}
theorem INH_c [Inhabited gh_] : ∀ (m : Nat) {g k : Int}, HOL M N px k0 kc m g x4 → (∀ i, k0 < i → i < kc → N4 206 i = N 206 i) → (INH N4 m g k ↔ INH N m g k) := by
  intro m
  induction m generalizing x4 with
  | zero => intro g k _ _; exact Iff.rfl
  | succ m ih =>
    intro g k h hn
    unfold INH
    rw [hn g h.1.1 h.1.2, ih h.2.2.2.2.2 hn]
theorem INH_b [Inhabited gh_] : ∀ (m : Nat) {g k x4 : Int}, HOL M N px k0 kc m g x4 → INH N m g k → k0 < k ∧ k < kc
  | 0, _, _, _, _, h => h.elim
  | m + 1, g, k, x4, h, hi => by
    rcases hi with e | e
    · rw [e]; exact h.1
    · exact INH_b m h.2.2.2.2.2 e
theorem HOL_c [Inhabited gh_] {cs : Int} : ∀ (m : Nat) {g h : Int}, HOL M N px k0 kc m g h → kc ≤ kc' → (∀ i, k0 < i → i < kc → N4 203 i = N 203 i ∧ N4 206 i = N 206 i ∧ px' i = px i ∧ (0 ≤ px i ∧ px i + 2 ≤ cs)) → (∀ i, 0 ≤ i → i < cs → M4 142 i = M 142 i) → HOL M4 N4 px' k0 kc' m g h
  | 0, _, _, h, _, _, _ => h
  | m + 1, g, h, ⟨h1, h2, h3, h4, h5, h6⟩, hk, hn, hx => by
    have q := hn g h1.1 h1.2
    refine ⟨by omega, by rw [q.2.2.1]; exact h2, by rw [q.1]; exact h3, by rw [q.2.2.1, hx _ (by omega) (by omega)]; exact h4, by rw [q.2.1, hx h (by omega) (by omega)]; exact h5, ?_⟩
    rw [q.2.1, hx h (by omega) (by omega)]
    exact HOL_c m h6 hk hn hx
/-- a part more -/
theorem DS_1 [Inhabited gh_] {i ke ce v : Int} {mm : Nat} (h : DSEM Mx Mq M N T x4 x5 mm) (hx5 : x5 = 0 ∨ x5 = 1) (h90 : 0 ≤ Mq 6 90 ∧ Mq 6 90 ≤ N 6 90) (h53 : 0 ≤ Mx 5 3) (h75 : 0 ≤ Mq 6 75 ∧ Mq 6 75 < N 6 75) (hl : N 222 (Mq 6 102) < N 6 90) (hl0 : -1 ≤ N 222 (Mq 6 102)) (hi : 1 ≤ i) (hv : v = 0 ∨ v = 1) (h104 : 0 ≤ N 6 104 ∧ N 6 104 ≤ N4 6 104) (h19 : Mx 1 19 ≤ M 1 19 ∧ M 1 19 ≤ M4 1 19) (hke : N 6 75 ≤ ke) (hr : N 6 90 + i ≤ N4 6 90)
    (ox : ∀ j, 0 ≤ j → j < M 5 3 → M4 142 j = M 142 j) (oo : ∀ r j, r ∈ opL → 0 ≤ j → j < N 6 75 → (j ≠ Mq 6 75 ∨ r ≠ 206) → N4 r j = N r j) (ok0 : N4 206 (Mq 6 75) = if N 222 (Mq 6 102) < 0 then N 6 90 else N 206 (Mq 6 75))
    (o9 : ∀ j, 0 ≤ j → j < 3 * N 6 75 → N4 209 j = N 209 j) (of : ∀ j, 0 ≤ j → j < N 6 104 → N4 227 j = N 227 j ∧ N4 228 j = N 228 j) (ot : tc_ T N N4)
    (org : ∀ j, 0 ≤ j → j < N 6 90 → N4 216 j = N 216 j ∧ N4 217 j = N 217 j ∧ N4 218 j = N 218 j ∧ (j ≠ N 222 (Mq 6 102) → N4 219 j = N 219 j)) (orl : 0 ≤ N 222 (Mq 6 102) → N4 219 (N 222 (Mq 6 102)) = N 6 90)
    (olb : ∀ l, Mx 1 19 ≤ l → l < M 1 19 → M4 129 (10 * T + l) = M 129 (10 * T + l) ∧ N4 188 (10 * T + l) = N 188 (10 * T + l))
    (sg : SEG M4 N4 T (N 6 75) ke (M 5 3 + 2 * i + 3) ce (N 6 90 + i) (N4 6 90) (N4 6 104) (M 1 19) (M4 1 19) v)
    (n43 : M4 142 (M 5 3) = 43) (nct : M4 142 (M 5 3 + 1) = i) (nrg : RGL M4 N4 (N 6 75) (Mq 6 90) (N4 6 90) (i - 1).toNat (M 5 3 + 2) (N 6 90) (N 6 90 + i - 1)) (nsk : M4 142 (M 5 3 + 2 * i + 2) = ce + 2) (nl : N4 222 (Mq 6 102) = N 6 90 + i - 1) (nl1 : N4 219 (N 6 90 + i - 1) = -1)
    (n7 : N4 203 ke = 7) (nB : N4 206 ke = N 224 (Mq 6 102)) (nJ : N4 224 (Mq 6 102) = ke) (n38 : M4 142 ce = 38) (nh : M4 142 (ce + 1) = x4) (nk : N4 6 75 = ke + 1) (nc : M4 5 3 = ce + 2)
    (hsb : SBS M M4 N4 (N 6 75) (ke + 1)) : DSEM Mx Mq M4 N4 T (ce + 1) (if x5 = 0 ∨ v = 0 then 0 else 1) (mm + 1) := by
  obtain ⟨px, L, c1, t, pb, lb, ⟨g3, g6, g5, g7⟩, hall, ho, he, lab, sb⟩ := h
  have sv := SEG_v sg hke
  obtain ⟨py, P, ⟨y0, y1, y2⟩, ⟨p0, p1, p2⟩, yo, yl⟩ := sg
  have cc : M 5 3 + 2 * i + 3 ≤ ce := sv.1
  have cs0 : 0 ≤ M 5 3 := by omega
  -- the new px
  have ex : ∀ k, k < N 6 75 → (fun k => if k < N 6 75 then px k else py k) k = px k := fun k hk => if_pos hk
  have ey : ∀ k, N 6 75 ≤ k → (fun k => if k < N 6 75 then px k else py k) k = py k := fun k hk => if_neg (by omega)
  have o3 : ∀ j, 0 ≤ j → j < N 6 75 → N4 203 j = N 203 j := fun j a b => oo 203 j (by decide) a b (.inr (by decide))
  have o6 : ∀ j, Mq 6 75 < j → j < N 6 75 → N4 206 j = N 206 j := fun j a b => oo 206 j (by decide) (by omega) b (.inl (by omega))
  have yke : (fun k => if k < N 6 75 then px k else py k) ke = ce := by rw [ey ke hke, y1]
  have inh4 : ∀ k, INH N4 (mm + 1) (N4 224 (Mq 6 102)) k ↔ k = ke ∨ INH N mm (N 224 (Mq 6 102)) k := fun k => by
    rw [nJ]
    show k = ke ∨ INH N4 mm (N4 206 ke) k ↔ _
    rw [nB, INH_c mm ho o6]
  refine ⟨fun k => if k < N 6 75 then px k else py k, fun k => L k ∨ P k, c1, t, fun k a b => ?_, fun k h => ?_, ⟨g3, g6, by omega, ?_⟩, fun M1 hA => ?_, ?_, fun e k hk hL => ?_, fun l a b => ?_, ?_⟩
  · by_cases c : k < N 6 75
    · have := pb k a c
      show Mx 5 3 ≤ (if k < N 6 75 then px k else py k) ∧ (if k < N 6 75 then px k else py k) + 2 ≤ M4 5 3
      rw [if_pos c]; omega
    · have := y2 k (by omega) (by omega)
      show Mx 5 3 ≤ (if k < N 6 75 then px k else py k) ∧ (if k < N 6 75 then px k else py k) + 2 ≤ M4 5 3
      rw [if_neg c]; omega
  · rcases h with h | h
    · have := lb k h; omega
    · have := p1 k h; omega
  · rw [o3 _ h75.1 h75.2]; exact g7
  · have hA1 : AGH M N M1 px (Mx 5 3) (M 5 3) mm (N 224 (Mq 6 102)) := fun j a b hn => by
      rw [hA j a (by omega) (fun k hk => ?_)]
      · exact ox j (by omega) b
      · rcases (inh4 k).mp hk with e | e
        · rw [e, yke]; omega
        · rw [ex k (INH_b mm ho e).2]; exact hn k e
    have hN : ∀ j, M 5 3 ≤ j → j < ce + 2 → j ≠ ce + 1 → M1 142 j = M4 142 j := fun j a b c => hA j (by omega) (by omega) (fun k hk => by
      rcases (inh4 k).mp hk with e | e
      · rw [e, yke]; exact c
      · have q := INH_b mm ho e
        have := pb k q.1 q.2
        rw [ex k q.2]; omega)
    obtain ⟨⟨g1, g2, g4⟩, ch, op⟩ := hall M1 hA1
    refine ⟨⟨g1, ?_, ?_⟩, .inr ?_, fun k a b => ?_⟩
    · rw [oo 204 _ (by decide) h75.1 h75.2 (.inr (by decide))]; exact g2
    · rw [oo 205 _ (by decide) h75.1 h75.2 (.inr (by decide))]
      exact EXP_c g4 (fun j a b => rfl) (fun j a b => of j (by have := EXP_le g4; omega) b) ot.1 h104.2
    · -- the chain
      have pt : PT1 M1 N4 (fun k => if k < N 6 75 then px k else py k) (fun k => L k ∨ P k) (Mx 5 3) (M4 5 3) (Mq 6 90) (N4 6 90) (Mq 6 75) (N4 6 75 - 1) (M 5 3) (N 6 90) (ce + 2) (N 6 90 + i - 1) := by
        refine ⟨(i - 1).toNat, N 6 75, ?_, ?_, ?_, ?_, ?_, ?_, .inr p0, ?_⟩
        · constructor <;> omega
        · rw [hN _ (by omega) (by omega) (by omega)]; exact n43
        · rw [hN _ (by omega) (by omega) (by omega), nct]; omega
        · exact RGL_c (Int.le_refl _) (Int.le_refl _) _ nrg (fun j a b => hN j (by omega) (by omega) (by omega)) (fun _ _ _ => ⟨rfl, rfl, rfl⟩) (fun _ _ _ => rfl)
        · rw [ey _ (by omega), y0]; omega
        · omega
        · rw [hN _ (by omega) (by omega) (by omega), show M 5 3 + 2 * (((i - 1).toNat : Nat) : Int) + 4 = M 5 3 + 2 * i + 2 by omega]; exact nsk
      rcases ch with ⟨e1, e2⟩ | ⟨m, e1, e2⟩
      · refine ⟨0, ?_, by rw [nl]; exact nl1⟩
        rw [nl, e1, ok0, if_pos (by omega), nc]; rw [nc] at pt; exact pt
      · have le := CHP_le m e1
        refine ⟨m + 1, ?_, by rw [nl]; exact nl1⟩
        have e0 : 0 ≤ N 222 (Mq 6 102) := by omega
        rw [nl, ok0, if_neg (by omega), nc]
        rw [nc] at pt
        have c1' := CHP_c (Mx' := M1) (Mq' := N4) (px' := fun k => if k < N 6 75 then px k else py k) (L' := fun k => L k ∨ P k) (lo' := Mx 5 3) (hi' := ce + 2) (r0' := Mq 6 90) (r1' := N4 6 90) (k1' := N4 6 75 - 1) (Int.le_refl _) (by omega) (Int.le_refl _) (by omega) (by omega) (fun k a b => ex k (by omega)) (fun k h => .inl h) (fun j a b => rfl) m e1 (fun j a b => by have := org j (by omega) (by omega); exact ⟨this.1, this.2.1, this.2.2.1⟩) (fun j a b => (org j (by omega) (by omega)).2.2.2 (by omega))
        have hl2 := orl e0
        exact CHP_a m c1' (by rw [hl2]; omega) (by rw [hl2]; exact pt)
    · -- the ops
      rw [inh4, nk, nl]
      by_cases c : k < N 6 75
      · rcases op k a c with h | ⟨ra, rb, q1, q2, q3, q4⟩
        · exact .inl (.inr h)
        · right
          refine ⟨ra, rb, by omega, by omega, ?_, by omega⟩
          refine OPX_c q3 (Int.le_refl _) (by omega) (Int.le_refl _) (Int.le_refl _) (by omega) q4 (fun j x y => by have := pb j (by omega) (by omega); omega) (fun j x y => ex j (by omega)) (fun j h => .inl h) (fun h => by
            rcases h with h | h
            · exact h
            · have := p1 k h; omega) (fun j x y => rfl) (fun j x y => ?_) (fun r hr => oo r k hr (by omega) c (.inl (by omega))) (fun j x y => o9 j (by omega) (by omega)) of ot h104.2
          have := org j (by omega) (by omega)
          exact ⟨this.1, this.2.1, this.2.2.1, this.2.2.2 (by omega)⟩
      · by_cases c2 : k = ke
        · exact .inl (.inl c2)
        · right
          refine ⟨N 6 90 + i, N4 6 90, by omega, .inr (by omega), ?_, by omega⟩
          exact OPX_c (yo k (by omega) (by omega)) (by omega) (by omega) (Int.le_refl _) (Int.le_refl _) (by omega) (by omega) (fun j x y => y2 j (by omega) y) (fun j x y => ey j (by omega)) (fun j h => .inr h) (fun h => by
            rcases h with h | h
            · have := lb k h; omega
            · exact h) (fun j x y => hN j (by omega) (by omega) (by omega)) (fun _ _ _ => ⟨rfl, rfl, rfl, rfl⟩) (fun _ _ => rfl) (fun _ _ _ => rfl) (fun _ _ _ => ⟨rfl, rfl⟩) ⟨tb_rf, rfl, rfl, rfl, rfl, rfl, rfl, rfl, rfl⟩ (Int.le_refl _)
  · -- the holes
    rw [nJ, nk]
    have gl : N 224 (Mq 6 102) < ke ∧ x4 + 2 ≤ ce + 1 := by
      cases mm with
      | zero =>
        have e1 : N 224 (Mq 6 102) = -1 := ho.1
        have e2 : x4 = -1 := ho.2
        omega
      | succ m =>
        have e1 := ho.1
        have e2 := ho.2.1
        have := pb _ e1.1 e1.2
        omega
    refine ⟨by omega, by rw [yke], n7, by rw [yke]; exact n38, by rw [nB, nh]; exact gl, ?_⟩
    rw [nB, nh]
    exact HOL_c (cs := M 5 3) mm ho (by omega) (fun j x y => ⟨o3 j (by omega) y, o6 j x y, ex j y, by have := pb j x y; omega⟩) ox
  · -- ends
    have h5 : x5 = 1 ∧ v = 1 ∨ (x5 ≠ 0 ∧ v = 1) := by
      by_cases c : x5 = 0 ∨ v = 0
      · rw [if_pos c] at e; omega
      · right; omega
    rcases (inh4 k).mp hk with e1 | e2
    · rw [e1] at hL
      rcases hL with h | h
      · have := lb ke h; omega
      · exact p2 (by omega) h
    · have b := INH_b mm ho e2
      rcases hL with h | h
      · exact he (by omega) k e2 h
      · have := p1 k h; omega
  · by_cases c : l < M 1 19
    · have q := lab l a c
      have r := olb l a c
      have b2 := lb _ q.2
      rw [r.1, r.2]
      refine ⟨?_, .inl q.2⟩
      rw [ex _ b2.2]; exact q.1
    · have q := yl l (by omega) b
      have b2 := p1 _ q.2.1
      refine ⟨?_, .inr q.2.1⟩
      rw [ey _ b2.1]; exact q.1
  · rw [nk]
    have key : ∀ (w s : Int), (∃ k, (Mq 6 75 ≤ k ∧ k < ke + 1) ∧ N4 203 k = w ∧ N4 205 k = s) ↔ (∃ k, (Mq 6 75 ≤ k ∧ k < N 6 75) ∧ N 203 k = w ∧ N 205 k = s) ∨ (∃ k, (N 6 75 ≤ k ∧ k < ke + 1) ∧ N4 203 k = w ∧ N4 205 k = s) := by
      intro w s
      have o5 : ∀ j, 0 ≤ j → j < N 6 75 → N4 205 j = N 205 j := fun j a b => oo 205 j (by decide) a b (.inr (by decide))
      constructor
      · rintro ⟨k, ⟨h1, h2⟩, h3, h4⟩
        by_cases c : k < N 6 75
        · exact .inl ⟨k, ⟨h1, c⟩, by rw [← o3 k (by omega) c]; exact h3, by rw [← o5 k (by omega) c]; exact h4⟩
        · exact .inr ⟨k, ⟨by omega, h2⟩, h3, h4⟩
      · rintro (⟨k, ⟨h1, h2⟩, h3, h4⟩ | ⟨k, ⟨h1, h2⟩, h3, h4⟩)
        · exact ⟨k, ⟨h1, by omega⟩, by rw [o3 k (by omega) h2]; exact h3, by rw [o5 k (by omega) h2]; exact h4⟩
        · exact ⟨k, ⟨by omega, h2⟩, h3, h4⟩
    refine ⟨fun s a b => ?_, fun s a b => ?_⟩
    · rw [hsb.1 s a b, sb.1 s a b, key, or_assoc]
    · rw [hsb.2 s a b, sb.2 s a b, key, or_assoc]
end DS
end T141_ds
section T142_de
/-! the end of a decide -/
def xpt (v : Int) : Nat → mm_ → Int → mm_
  | 0, M, _ => M
  | m + 1, M, h => xpt v m (up_ M 142 h v) (M 142 h)
def qpt (v : Int) : Nat → mm_ → Int → mm_
  | 0, N, _ => N
  | m + 1, N, g => qpt v m (up_ N 205 g v) (N 206 g)
def XHO (lo hi : Int) : Nat → mm_ → Int → Prop
  | 0, _, h => h = -1
  | m + 1, M, h => (lo ≤ h ∧ h < hi) ∧ M 142 h < h ∧ XHO lo hi m M (M 142 h)
def QHO (k0 kc : Int) : Nat → mm_ → Int → Prop
  | 0, _, g => g = -1
  | m + 1, N, g => (k0 < g ∧ g < kc) ∧ N 206 g < g ∧ QHO k0 kc m N (N 206 g)
section DE
variable {Mx Mq M N M5 N5 : mm_} {px : Int → Int} {k0 kc lo hi x4 x5 T v : Int}
theorem xpt_r [Inhabited gh_] {r : Nat} (hr : r ≠ 142) : ∀ (m : Nat) {M : mm_} {h : Int}, xpt v m M h r = M r
  | 0, M, h => rfl
  | m + 1, M, h => by show xpt v m (up_ M 142 h v) (M 142 h) r = M r; rw [xpt_r hr m, up_ne hr]
theorem xpt_hi [Inhabited gh_] : ∀ (m : Nat) {M : mm_} {h j : Int}, XHO lo hi m M h → h < j ∨ j < lo → xpt v m M h 142 j = M 142 j
  | 0, M, h, j, _, _ => rfl
  | m + 1, M, h, j, ⟨h1, h2, h3⟩, hj => by
    show xpt v m (up_ M 142 h v) (M 142 h) 142 j = M 142 j
    have : XHO lo hi m (up_ M 142 h v) (M 142 h) := by
      have aux : ∀ (m : Nat) {x : Int}, x < h → XHO lo hi m M x → XHO lo hi m (up_ M 142 h v) x := by
        intro m
        induction m with
        | zero => intro x _ h; exact h
        | succ m ih => intro x hx ⟨a, b, c⟩; exact ⟨a, by rw [up_off (by omega)]; exact b, by rw [up_off (by omega)]; exact ih (by omega) c⟩
      exact aux m h2 h3
    rw [xpt_hi m this (by omega), up_off (by omega)]
theorem XHO_u [Inhabited gh_] {h : Int} : ∀ (m : Nat) {x : Int}, x < h → XHO lo hi m M x → XHO lo hi m (up_ M 142 h v) x
  | 0, x, _, h => h
  | m + 1, x, hx, ⟨a, b, c⟩ => ⟨a, by rw [up_off (by omega)]; exact b, by rw [up_off (by omega)]; exact XHO_u m (by omega) c⟩
theorem XHO_c [Inhabited gh_] {lo' hi' : Int} (hlo : lo' ≤ lo) (hhi : hi ≤ hi') (hx : ∀ j, lo ≤ j → j < hi → M5 142 j = M 142 j) : ∀ (m : Nat) {x : Int}, XHO lo hi m M x → XHO lo' hi' m M5 x
  | 0, x, h => h
  | m + 1, x, ⟨a, b, c⟩ => ⟨by omega, by rw [hx x a.1 a.2]; exact b, by rw [hx x a.1 a.2]; exact XHO_c hlo hhi hx m c⟩
theorem QHO_c [Inhabited gh_] {k1 kc' : Int} (hk : kc ≤ kc') (hq : ∀ j, k0 < j → j < kc → N5 206 j = N 206 j) : ∀ (m : Nat) {g : Int}, QHO k0 kc m N g → QHO k0 kc' m N5 g
  | 0, g, h => h
  | m + 1, g, ⟨a, b, c⟩ => ⟨by omega, by rw [hq g a.1 a.2]; exact b, by rw [hq g a.1 a.2]; exact QHO_c (k1 := k1) hk hq m c⟩
theorem qpt_r [Inhabited gh_] {r : Nat} (hr : r ≠ 205) : ∀ (m : Nat) {N : mm_} {g : Int}, qpt v m N g r = N r
  | 0, N, g => rfl
  | m + 1, N, g => by show qpt v m (up_ N 205 g v) (N 206 g) r = N r; rw [qpt_r hr m, up_ne hr]
theorem INH_205 [Inhabited gh_] {g x : Int} : ∀ (m : Nat) {g' k : Int}, INH (up_ N 205 g x) m g' k ↔ INH N m g' k
  | 0, _, _ => Iff.rfl
  | m + 1, g', k => by unfold INH; rw [up_ne (by decide), INH_205 m]
theorem qpt_205 [Inhabited gh_] : ∀ (m : Nat) {N : mm_} {g : Int}, (∀ k, INH N m g k → qpt v m N g 205 k = v) ∧ (∀ j, ¬ INH N m g j → qpt v m N g 205 j = N 205 j)
  | 0, N, g => ⟨fun _ h => h.elim, fun _ _ => rfl⟩
  | m + 1, N, g => by
    have ih := qpt_205 m (N := up_ N 205 g v) (g := N 206 g)
    refine ⟨fun k hk => ?_, fun j hj => ?_⟩
    · show qpt v m (up_ N 205 g v) (N 206 g) 205 k = v
      by_cases c : INH (up_ N 205 g v) m (N 206 g) k
      · exact ih.1 k c
      · rw [ih.2 k c]
        rcases hk with e | e
        · rw [e, up_at]
        · exact absurd ((INH_205 m).mpr e) c
    · show qpt v m (up_ N 205 g v) (N 206 g) 205 j = N 205 j
      rw [ih.2 j (fun c => hj (.inr ((INH_205 m).mp c))), up_off (fun e => hj (.inl e))]
theorem HOL_i [Inhabited gh_] : ∀ (m : Nat) {g h : Int}, HOL M N px k0 kc m g h → ∀ k, INH N m g k → N 203 k = 7 ∧ M 142 (px k) = 38 ∧ px k + 1 ≤ h
  | 0, _, _, _, _, hi => hi.elim
  | m + 1, g, h, ⟨h1, h2, h3, h4, h5, h6⟩, k, hi => by
    rcases hi with e | e
    · rw [e]; exact ⟨h3, h4, by omega⟩
    · have := HOL_i m h6 k e
      exact ⟨this.1, this.2.1, by omega⟩
theorem HOL_s [Inhabited gh_] : ∀ (m : Nat) {g h : Int}, HOL M N px k0 kc m g h → ∀ k k', INH N m g k → INH N m g k' → px k ≠ px k' + 1
  | 0, _, _, _, _, _, hi, _ => hi.elim
  | m + 1, g, h, ⟨h1, h2, h3, h4, h5, h6⟩, k, k', hi, hi' => by
    rcases hi with e | e
    · rcases hi' with e' | e'
      · rw [e, e']; omega
      · have := (HOL_i m h6 k' e').2.2
        rw [e]; omega
    · rcases hi' with e' | e'
      · have := (HOL_i m h6 k e).2.2
        rw [e']; omega
      · exact HOL_s m h6 k k' e e'
theorem HOL_u [Inhabited gh_] {h x : Int} : ∀ (m : Nat) {g y : Int}, y < h → HOL M N px k0 kc m g y → HOL (up_ M 142 h x) N px k0 kc m g y
  | 0, _, _, _, hh => hh
  | m + 1, g, y, hy, ⟨h1, h2, h3, h4, h5, h6⟩ => ⟨h1, h2, h3, by rw [up_off (by omega)]; exact h4, by rw [up_off (by omega)]; exact h5, by rw [up_off (by omega)]; exact HOL_u m (by omega) h6⟩
theorem xpt_H [Inhabited gh_] : ∀ (m : Nat) {M : mm_} {g h : Int}, HOL M N px k0 kc m g h → (∀ k, INH N m g k → xpt v m M h 142 (px k + 1) = v) ∧ (∀ j, (∀ k, INH N m g k → j ≠ px k + 1) → xpt v m M h 142 j = M 142 j)
  | 0, M, g, h, _ => ⟨fun _ h => h.elim, fun _ _ => rfl⟩
  | m + 1, M, g, h, ⟨h1, h2, h3, h4, h5, h6⟩ => by
    have ih := xpt_H m (HOL_u (x := v) m (by omega : M 142 h < h) h6)
    refine ⟨fun k hk => ?_, fun j hj => ?_⟩
    · show xpt v m (up_ M 142 h v) (M 142 h) 142 (px k + 1) = v
      rcases hk with e | e
      · rw [e, ih.2 _ (fun k' hk' => ?_), ← h2, up_at]
        have := (HOL_i m h6 k' hk').2.2
        omega
      · exact ih.1 k e
    · show xpt v m (up_ M 142 h v) (M 142 h) 142 j = M 142 j
      rw [ih.2 j (fun k hk => hj k (.inr hk)), up_off (by have := hj g (.inl rfl); omega)]
/-- no else -/
theorem DS_e0 [Inhabited gh_] {mm : Nat} (h : DSEM Mx Mq M N T x4 x5 mm) (h53 : 0 ≤ Mx 5 3) (h75 : 0 ≤ Mq 6 75 ∧ Mq 6 75 < N 6 75) (hl : 0 ≤ N 222 (Mq 6 102)) (h104 : N5 6 104 = N 6 104) (h90 : 0 ≤ Mq 6 90 ∧ N5 6 90 = N 6 90)
    (hx : ∀ j, 0 ≤ j → j < M 5 3 → M5 142 j = xpt (M 5 3 + 1) mm M x4 142 j) (h44 : M5 142 (M 5 3) = 44) (ho : ∀ r j, r ∈ opL → 0 ≤ j → j < N 6 75 → r ≠ 205 → (r ≠ 208 ∨ j ≠ Mq 6 75) → N5 r j = N r j) (h205 : ∀ j, 0 ≤ j → j < N 6 75 → N5 205 j = qpt (N 6 75) mm N (N 224 (Mq 6 102)) 205 j) (h208 : N5 208 (Mq 6 75) = N 6 75) (h207 : N 207 (Mq 6 75) = -1)
    (o9 : ∀ j, 0 ≤ j → j < 3 * N 6 75 → N5 209 j = N 209 j) (of : ∀ j, 0 ≤ j → j < N 6 104 → N5 227 j = N 227 j ∧ N5 228 j = N 228 j) (ot : tc_ T N N5) (org : ∀ j, 0 ≤ j → j < N 6 90 → N5 216 j = N 216 j ∧ N5 217 j = N 217 j ∧ N5 218 j = N 218 j ∧ N5 219 j = N 219 j)
    (olb : ∀ l, Mx 1 19 ≤ l → l < M 1 19 → M5 129 (10 * T + l) = M 129 (10 * T + l) ∧ N5 188 (10 * T + l) = N 188 (10 * T + l)) : SEG M5 N5 T (Mq 6 75) (N 6 75) (Mx 5 3) (M 5 3 + 1) (Mq 6 90) (N5 6 90) (N5 6 104) (Mx 1 19) (M 1 19) 0 := by
  obtain ⟨px, L, c1, t, pb, lb, ⟨g3, g6, g5, g7⟩, hall, hh, he, lab, sb⟩ := h
  have xH := xpt_H (v := M 5 3 + 1) mm hh
  have q205 := qpt_205 (v := N 6 75) mm (N := N) (g := N 224 (Mq 6 102))
  have hA : AGH M N M5 px (Mx 5 3) (M 5 3) mm (N 224 (Mq 6 102)) := fun j a b hn => by rw [hx j (by omega) b]; exact xH.2 j hn
  obtain ⟨⟨g1, g2, g4⟩, ch, op⟩ := hall M5 hA
  have kN : ∀ k, INH N mm (N 224 (Mq 6 102)) k → Mq 6 75 < k ∧ k < N 6 75 := fun k hk => INH_b mm hh hk
  have e0 : (fun k => if k ≤ Mq 6 75 then Mx 5 3 else if k < N 6 75 then px k else M 5 3 + 1) (Mq 6 75) = Mx 5 3 := if_pos (Int.le_refl _)
  have e1 : (fun k => if k ≤ Mq 6 75 then Mx 5 3 else if k < N 6 75 then px k else M 5 3 + 1) (N 6 75) = M 5 3 + 1 := by
    show (if N 6 75 ≤ Mq 6 75 then Mx 5 3 else if N 6 75 < N 6 75 then px (N 6 75) else M 5 3 + 1) = M 5 3 + 1
    rw [if_neg (by omega), if_neg (by omega)]
  have ex : ∀ k, Mq 6 75 < k → k < N 6 75 → (fun k => if k ≤ Mq 6 75 then Mx 5 3 else if k < N 6 75 then px k else M 5 3 + 1) k = px k := fun k a b => by
    show (if k ≤ Mq 6 75 then Mx 5 3 else if k < N 6 75 then px k else M 5 3 + 1) = px k
    rw [if_neg (by omega), if_pos b]
  have o3 : ∀ j, 0 ≤ j → j < N 6 75 → N5 203 j = N 203 j := fun j a b => ho 203 j (by decide) a b (by decide) (.inl (by decide))
  have k205 : N5 205 (Mq 6 75) = N 205 (Mq 6 75) := by
    rw [h205 _ h75.1 h75.2, q205.2 _ (fun c => by have := kN _ c; omega)]
  refine ⟨fun k => if k ≤ Mq 6 75 then Mx 5 3 else if k < N 6 75 then px k else M 5 3 + 1, fun k => k = Mq 6 75 ∨ L k ∨ k = N 6 75, ⟨e0, e1, fun k a b => ?_⟩, ⟨.inl rfl, fun k hk => ?_, fun e => absurd e (by decide)⟩, fun k a b => ?_, fun l a b => ?_⟩
  · show Mx 5 3 ≤ (if k ≤ Mq 6 75 then Mx 5 3 else if k < N 6 75 then px k else M 5 3 + 1) ∧ (if k ≤ Mq 6 75 then Mx 5 3 else if k < N 6 75 then px k else M 5 3 + 1) ≤ M 5 3 + 1
    split
    · omega
    · split
      · have := pb k (by omega) (by omega); omega
      · omega
  · rcases hk with e | e | e
    · omega
    · have := lb k e; omega
    · omega
  · by_cases c : k = Mq 6 75
    · rw [c]
      refine .inr (.inr (.inl ⟨by rw [o3 _ h75.1 h75.2]; exact g7, by rw [e0]; exact g1, by rw [e0, ho 204 _ (by decide) h75.1 h75.2 (by decide) (.inl (by decide))]; exact g2, c1, t, ?_⟩))
      rcases ch with ⟨_, z⟩ | ⟨m, z1, z2⟩
      · omega
      · refine ⟨m, g3, ?_, by omega, ?_⟩
        · rw [e0, k205]
          exact EXP_c g4 (fun _ _ _ => rfl) (fun j x y => of j (by have := EXP_le g4; omega) y) ot.1 (by omega)
        · have le := CHP_le m z1
          rw [ho 206 _ (by decide) h75.1 h75.2 (by decide) (.inl (by decide))]
          have z3 := CHP_c (Mx' := M5) (Mq' := N5) (px' := fun k => if k ≤ Mq 6 75 then Mx 5 3 else if k < N 6 75 then px k else M 5 3 + 1) (L' := fun k => k = Mq 6 75 ∨ L k ∨ k = N 6 75) (lo' := Mx 5 3) (hi' := M 5 3 + 1) (r0' := Mq 6 90) (r1' := N5 6 90) (k1' := N 6 75) (Int.le_refl _) (by omega) (Int.le_refl _) (by omega) (by omega) (fun k a b => ex k (by omega) (by omega)) (fun k h => .inr (.inl h)) (fun j a b => rfl) m z1 (fun j a b => by have := org j (by omega) (by omega); exact ⟨this.1, this.2.1, this.2.2.1⟩) (fun j a b => (org j (by omega) (by omega)).2.2.2)
          refine CHP_n m z3 ⟨by omega, ?_, h44, N 6 75, ?_, ?_, by omega, .inr (.inr rfl)⟩
          · rw [(org _ (by omega) (by omega)).2.2.2]; exact z2
          · rw [ho 207 _ (by decide) h75.1 h75.2 (by decide) (.inl (by decide)), h207, if_neg (by decide)]; exact h208.symm
          · exact e1.symm
    · have hk1 : Mq 6 75 < k := by omega
      rcases op k hk1 b with hi | ⟨ra, rb, q1, q2, q3, q4⟩
      · have z := HOL_i mm hh k hi
        have hp := pb k hk1 b
        refine .inr (.inl ⟨by rw [o3 k (by omega) b]; exact z.1, ?_, ?_, ?_, ?_, ?_⟩)
        · rw [ex k hk1 b, hx _ (by omega) (by omega), xH.2 _ (fun k' hk' => HOL_s mm hh k k' hi hk')]; exact z.2.1
        · rw [ex k hk1 b, h205 k (by omega) b, q205.1 k hi, e1, hx _ (by omega) (by omega)]; exact xH.1 k hi
        · rw [h205 k (by omega) b, q205.1 k hi]; omega
        · rw [ex k hk1 b]; omega
        · rw [h205 k (by omega) b, q205.1 k hi]; exact fun _ => .inr (.inr rfl)
      · have nI : ¬ INH N mm (N 224 (Mq 6 102)) k ∨ INH N mm (N 224 (Mq 6 102)) k := (Classical.em _).symm
        rcases nI with nI | nI
        · refine OPX_c q3 (Int.le_refl _) (by omega) q1.1 (by omega) (by omega) q4 (fun j x y => by have := pb j (by omega) (by omega); omega) (fun j x y => ex j (by omega) (by omega)) (fun j h => .inr (.inl h)) (fun h => by
            rcases h with h | h | h
            · omega
            · exact h
            · omega) (fun j x y => rfl) (fun j x y => org j (by omega) (by omega)) (fun r hr => ?_) (fun j x y => o9 j (by omega) (by omega)) of ot (by omega)
          by_cases c5 : r = 205
          · rw [c5, h205 k (by omega) b, q205.2 k nI]
          · exact ho r k hr (by omega) b c5 (.inr (by omega))
        · have z := HOL_i mm hh k nI
          have hp := pb k hk1 b
          refine .inr (.inl ⟨by rw [o3 k (by omega) b]; exact z.1, ?_, ?_, ?_, ?_, ?_⟩)
          · rw [ex k hk1 b, hx _ (by omega) (by omega), xH.2 _ (fun k' hk' => HOL_s mm hh k k' nI hk')]; exact z.2.1
          · rw [ex k hk1 b, h205 k (by omega) b, q205.1 k nI, e1, hx _ (by omega) (by omega)]; exact xH.1 k nI
          · rw [h205 k (by omega) b, q205.1 k nI]; omega
          · rw [ex k hk1 b]; omega
          · rw [h205 k (by omega) b, q205.1 k nI]; exact fun _ => .inr (.inr rfl)
  · have q := lab l a b
    have r := olb l a b
    have b2 := lb _ q.2
    rw [r.1, r.2]
    refine ⟨?_, .inr (.inl q.2), by omega⟩
    rw [ex _ b2.1 b2.2]; exact q.1
end DE
end T142_de
